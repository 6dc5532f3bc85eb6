/-! THE COMPONENT's CALLS: what goes by a change (add, delete, shrink) -/
section LF
variable (h : jx_S) (b : Nat) (M : cM) (fo : Nat → Int64) (pr : Nat → Bool) (x : xA) (t : Nat) (mv : Value) (wd : Nat → Int32)
/-- what grew behind the standing cells grew in the base -/
theorem cH_lift {n m : Nat} {H' : jx_S} (hb : b + 26 ≤ h.1) (hG : Gw n m (cH h b M fo pr x t mv wd) H') : ∃ h1, H' = (cH (h1) b M fo pr x t mv wd) ∧ Gw n m h h1 := by
  obtain ⟨⟨a1, a2, a3, a4⟩, a5⟩ := hG
  rw [cH_1] at a1 a2 a5
  rw [cH_21] at a3 a4
  refine ⟨(H'.1, H'.2.1, fun q => if q < h.1 then h.2.2 q else H'.2.2 q), ?_, ⟨⟨a1, a2, a3, a4⟩, fun q hq => if_pos hq⟩⟩
  unfold cH ov
  refine Prod.ext rfl (Prod.ext rfl ?_)
  funext q
  show H'.2.2 q = if b ≤ q ∧ q < b + 26 ∧ ¬ (b + 15 ≤ q ∧ q < b + 18) then _ else (if q < h.1 then h.2.2 q else H'.2.2 q)
  by_cases e : q < h.1
  · rw [a5 q e, if_pos e]
    rfl
  · rw [if_neg (by omega), if_neg e]
theorem q_copy {lo hi : Nat} {T : Nat → Nat} (hb : b + 26 ≤ h.1) (hO : OUT b lo hi) (hp : TP h lo hi t T) (hi1 : hi ≤ h.1) (hW : WT T) : ∃ h1, f_Tb_copy [.ref t] (cH h b M fo pr x t mv wd) = some (.returned (some (.ref h.1)), (cH (h1) b M fo pr x t mv wd)) ∧ TP h1 h.1 h1.1 h.1 T ∧ Gw 11 63 h h1 := by
  obtain ⟨ea, va, qa, la, fe, fv, fl, hp⟩ := hp
  obtain ⟨H', g1, g2, g3⟩ := q_Tb_copy (cTPa h b M fo pr x t mv wd hO hp) (by rw [cH_1]; exact hi1) hW
  obtain ⟨h1, rfl, g4⟩ := cH_lift h b M fo pr x t mv wd hb g3
  rw [cH_1] at g1 g2
  refine ⟨h1, g1, ?_, g4⟩
  rw [cH_1] at g2
  exact g2.keep (fun q h1' h2' => (cH_out h1 b M fo pr x t mv wd (by omega)).symm)
end LF
section RZ
variable {h h1 h2 : jx_S} {b : Nat} {M : cM} {fo : Nat → Int64} {s' : xS} {t t2 : Nat} {mv : Value} {wd' : Nat → Int32} {cls : Nat → Nat} {rv : Int32 → Option Value} {o : Option (Outcome × jx_S)} {n m : Nat}
theorem MR.nb {s : xS} {lo hi : Nat} (hM : MR b h mv s lo hi) {q : Nat} (hq : q < b) : mv ≠ .ref q := by
  rcases hM with ⟨_, rfl⟩ | ⟨am, d, vo, le, fr, co, ⟨rfl, _⟩, ⟨e2, _⟩, _⟩
  · intro z; cases z
  · intro z
    injection z with z
    subst z
    omega
theorem RZ.on {a : Int32} (hb : b + 26 ≤ h.1) (hG : Gw n m h h1) (hn : n ≤ 80) (hm : m ≤ 600) (hon : s'.2.1.2.2.1 = true) (z1 : h2.1 = h1.1) (z2 : h2.2.1 = h1.2.1) (z3 : ∀ q, q < h.1 → mv ≠ .ref q → h2.2.2 q = h.2.2 q) (hmv : ∀ q, q < b → mv ≠ .ref q) {lo hi : Nat} {mv' : Value} (hCR : CR b h2 s' t2 mv' lo hi) {ov : Option Value} (hov : ov = rv a) (ho : o = some (.returned ov, cS h2 b M fo s' t2 mv' wd')) : RZ b M fo h cls rv (enS s' a) o := by
  subst hov
  have e : enS s' a = (0, a, s') := by unfold enS; rw [hon]; rfl
  rw [e]
  obtain ⟨⟨a1, a2, a3, a4⟩, a5⟩ := hG
  exact ⟨_, _, _, _, _, ho, Or.inl ⟨rfl, rfl⟩, ⟨by omega, by omega, by omega, by omega, fun q hq => z3 q (by omega) (hmv q hq)⟩, fun _ => ⟨lo, hi, hCR⟩⟩
theorem RZ.off {a : Int32} (hb : b + 26 ≤ h.1) (hG : Gw n m h h1) (hn : n ≤ 80) (hm : m ≤ 600) (hoff : s'.2.1.2.2.1 = false) (z1 : h2.1 = h1.1) (z2 : h2.2.1 = h1.2.1) (z3 : ∀ q, q < b → h2.2.2 q = h.2.2 q) (hcls : cls 1 = 9) (ho : o = some (.threw h1.1, cS (hnew h2 6 (.inr (9, []))) b M fo s' t mv wd')) : RZ b M fo h cls rv (enS s' a) o := by
  have e : enS s' a = (1, nI 0, s') := by unfold enS; rw [hoff]; rfl
  rw [e]
  obtain ⟨⟨a1, a2, a3, a4⟩, a5⟩ := hG
  refine ⟨_, _, _, _, _, ho, Or.inr ⟨Nat.one_ne_zero, h1.1, rfl, by omega, ?_⟩, ⟨by rw [hnew_1]; omega, by rw [hnew_1]; omega, by rw [hnew_21]; omega, by rw [hnew_21]; omega, fun q hq => (hnew_ne _ _ (by omega)).trans (z3 q hq)⟩, fun z => ?_⟩
  · rw [← z1, hcls]
    exact hnew_eq h2 6 _
  · rw [hoff] at z; cases z
end RZ
theorem upN_comm (T : Nat → Nat) {a c : Nat} (x y : Nat) (h : a ≠ c) : upN (upN T a x) c y = upN (upN T c y) a x := by
  funext k
  unfold upN
  by_cases h1 : k = c
  · rw [if_pos h1, if_neg (by omega), if_pos h1]
  · rw [if_neg h1, if_neg h1]
theorem WT.upE {T : Nat → Nat} (hW : WT T) {d e : Nat} (hd : d < 4) (he : e ≤ 8) : WT (upN T (1 + d) e) := by
  obtain ⟨w1, w2, w3, w4, w5⟩ := hW
  have e2 : ∀ k, 5 ≤ k → upN T (1 + d) e k = T k := fun k hk => upN_o _ _ (by omega)
  refine ⟨fun k => ?_, fun d' hd' => ?_, fun v hv => ?_, fun k hk => by rw [e2 _ (by omega)]; exact w4 k hk, fun i j hi hj => ?_⟩
  · unfold upN
    by_cases z : k = 1 + d
    · rw [if_pos z]; omega
    · rw [if_neg z]; exact w1 k
  · unfold upN
    by_cases z : 1 + d' = 1 + d
    · rw [if_pos z]; exact he
    · rw [if_neg z]; exact w2 d' hd'
  · have := w3 v hv
    unfold WV colsN elsN at this ⊢
    rw [e2 (5 + v) (by omega)]
    have e3 : ∀ k, upN T (1 + d) e (9 + 10 * v + k) = T (9 + 10 * v + k) := fun k => e2 _ (by omega)
    simp only [e3]
    exact this
  · rw [e2 _ (by omega), e2 _ (by omega)]
    exact w5 i j hi hj
/-- a table of which only volume v differs, with no new legs -/
theorem WT.vol' {T U : Nat → Nat} (hW : WT T) {v : Nat} (hv : v < 4) (hU : ∀ k, U k < 2 ^ 31) (h1 : ∀ k, k < 49 → k ≠ 5 + v → (k < 9 + 10 * v ∨ 19 + 10 * v ≤ k) → U k = T k) (h2 : WV U v) (h3 : ∀ k, k < 10 → U (9 + 10 * v + k) = T (9 + 10 * v + k) ∨ U (9 + 10 * v + k) = 0) : WT U := by
  obtain ⟨w1, w2, w3, w4, w5⟩ := hW
  have key : ∀ k, k < 40 → U (9 + k) = T (9 + k) ∨ U (9 + k) = 0 := fun k hk => by
    by_cases z : 10 * v ≤ k ∧ k < 10 * v + 10
    · have := h3 (k - 10 * v) (by omega)
      have e : 9 + 10 * v + (k - 10 * v) = 9 + k := by omega
      rw [e] at this
      exact this
    · exact Or.inl (h1 _ (by omega) (by omega) (by omega))
  refine ⟨hU, fun d hd => by rw [h1 _ (by omega) (by omega) (by omega)]; exact w2 d hd, fun u hu => ?_, fun k hk => ?_, fun i j hi hj e1 e2 => ?_⟩
  · by_cases z : u = v
    · subst z; exact h2
    · have := w3 u hu
      unfold WV colsN elsN at this ⊢
      have e3 : ∀ k, k < 10 → U (9 + 10 * u + k) = T (9 + 10 * u + k) := fun k hk => h1 _ (by omega) (by omega) (by omega)
      rw [h1 (5 + u) (by omega) (by omega) (by omega)]
      rcases this with ⟨a1, a2⟩ | ⟨a1, a2, a3, a4, a5, a6, a7, a8⟩
      · exact Or.inl ⟨a1, fun k hk => by rw [e3 k hk]; exact a2 k hk⟩
      · exact Or.inr ⟨a1, a2, a3, a4, a5, a6, fun k hk z => by rw [e3 k hk]; exact a7 k hk z, fun z k hk z2 => by rw [e3 k hk]; exact a8 z k hk z2⟩
  · rcases key k hk with e | e
    · rw [e]; exact w4 k hk
    · rw [e]; omega
  · rcases key i hi with e | e
    · rcases key j hj with f | f
      · exact w5 i j hi hj (by rw [← e, ← f]; exact e1) (by rw [← e]; exact e2)
      · rw [e1, f] at e2; exact absurd rfl e2
    · exact absurd e e2
theorem zrL_o (T : Nat → Nat) {v k0 k : Nat} (h : ¬ (9 + 10 * v + k0 ≤ k ∧ k < 9 + 10 * v + 10)) : zrL T v k0 k = T k := if_neg h
theorem zrL_z (T : Nat → Nat) {v k0 k : Nat} (h : 9 + 10 * v + k0 ≤ k ∧ k < 9 + 10 * v + 10) : zrL T v k0 k = 0 := if_pos h
theorem WT.del {T : Nat → Nat} (hW : WT T) {v : Nat} (hv : v < 4) : WT (zrL (upN T (5 + v) 0) v 0) := by
  refine hW.vol' hv (fun k => ?_) (fun k hk h1 h2 => ?_) (Or.inl ⟨?_, fun k hk => ?_⟩) (fun k hk => Or.inr ?_)
  · unfold zrL upN
    split
    · decide
    · split
      · decide
      · exact hW.1 k
  · rw [zrL_o _ (by omega), upN_o _ _ h1]
  · rw [zrL_o _ (by omega), upN_s]
  · rw [zrL_z _ (by omega)]
  · rw [zrL_z _ (by omega)]
theorem WT.shr {T : Nat → Nat} (hW : WT T) {v n : Nat} (hv : v < 4) (h0 : T (5 + v) ≠ 0) (hn : 1 ≤ n) (hne : n < elsN T v) (hc : n % colsN T v = 0) : WT (zrL (upN T (5 + v) (T (5 + v) - 32 * (elsN T v - n))) v (2 * n)) := by
  have b5 := hW.1 (5 + v)
  have hw : T (5 + v) - 32 * (elsN T v - n) = T (5 + v) % 32 + 32 * n := by
    unfold elsN at hne ⊢
    omega
  rw [hw]
  have e5 : zrL (upN T (5 + v) (T (5 + v) % 32 + 32 * n)) v (2 * n) (5 + v) = T (5 + v) % 32 + 32 * n := by rw [zrL_o _ (by omega), upN_s]
  have hel : elsN T v ≤ 5 := (hW.TB.2.2.1 v hv).2
  refine hW.vol' hv (fun k => ?_) (fun k hk h1 h2 => ?_) ?_ (fun k hk => ?_)
  · unfold zrL upN
    split
    · decide
    · split
      · omega
      · exact hW.1 k
  · rw [zrL_o _ (by omega), upN_o _ _ h1]
  · rcases hW.2.2.1 v hv with ⟨a1, _⟩ | ⟨a1, a2, a3, a4, a5, a6, a7, a8⟩
    · exact absurd a1 h0
    · right
      unfold colsN elsN at *
      rw [e5]
      have f1 : (T (5 + v) % 32 + 32 * n) % 4 = T (5 + v) % 4 := by omega
      have f2 : (T (5 + v) % 32 + 32 * n) / 4 % 8 = T (5 + v) / 4 % 8 := by omega
      have f3 : (T (5 + v) % 32 + 32 * n) / 32 = n := by omega
      rw [f1, f2, f3]
      refine ⟨a1, a2, a3, hn, by omega, hc, fun k hk z => zrL_z _ (by omega), fun z k hk z2 => ?_⟩
      by_cases y : 2 * n ≤ k
      · exact zrL_z _ (by omega)
      · rw [zrL_o _ (by omega), upN_o _ _ (by omega)]
        exact a8 z k hk z2
  · by_cases y : 2 * n ≤ k
    · exact Or.inr (zrL_z _ (by omega))
    · exact Or.inl (by rw [zrL_o _ (by omega), upN_o _ _ (by omega)])
section U4
set_option maxHeartbeats 16000000 in
theorem u_add (h : jx_S) (b : Nat) (M : cM) (fo : Nat → Int64) (s : xS) (t : Nat) (mv : Value) (wd : Nat → Int32) (hs : IM s) (hmv : MV s) (hb : b + 26 ≤ h.1) (hC : s.2.1.2.2.1 = true → ∃ lo hi, CR b h s t mv lo hi) (d e : Int32) : RZ b M fo h clA vV (sp_add d e s) (f_Sh_add [.ref b, .int d, .int e] (cS h b M fo s t mv wd)) := by
  obtain ⟨pr, ⟨sl, dt, on, lf, mo⟩, T, cv, cl, ct, cp⟩ := s
  obtain ⟨hW, hcv, hcl, hct, hcp, hmo, h30⟩ := hs
  dsimp only at hW hcv hcl hct hcp hmo h30 hC
  have hT := hW.1
  have hn := q_needOn h b M fo pr (sl, dt, on, lf, mo) t mv wd
  have e1 : rGe e (nI 2) = !rLt e (nI 2) := rGe_not _ _
  have e2 : rLe e (nI 8) = !rGt e (nI 8) := rLe_not _ _
  cases on
  · refine RZ.thr (wd := wd) hb hC (c := 1) (k := 9) (by decide) rfl ?_
    simp (disch := first | omega | assumption) only [jx_fn, jx_b_ok, jx_kb_ok, jx_b_inl, jx_kb_inl, jx_b_inr, jx_kb_inr, eInt, eNull, eI, eA, eBin, jx_op, oAdd_n, oMul_n, cCmp, cCmp0, jx_cp, cNull, jx_nl, cNot, cAnd_k, cOr_k, cIte_c, eIte_k, ck_ite, bf_and, bf_or, bf_not, ck_int, ck_10, ck_nI, cond_true, cond_false, oSub_g, nIs_le, oDiv_s, ck_n10, eGf, jx_gf, eLd, jx_ld, eLda, jx_lda, eLen, jx_len, eCl, jx_as, jx_ec, jx_ev, jx_es, tb1, tb3, tbk, tbn, tbl, sAsg_k, jx_set, jx_ft_int, jx_ft_ref, jx_ft_null, jx_ft_z0, jx_ft_z1, sSeq_k, sIf_k, sSkip, sInc, sPf_k, jx_pf_h, sUf_k, sSt_k, jx_st_h, sSta_k, jx_sta_h, jx_el, sUst_k, sRet, jx_rt, sRetV, sCl_k, sThrow_h, eNew, jx_nw_h, sObj, eNa, List.getElem?_cons_zero, List.getElem?_cons_succ, List.set_cons_zero, List.set_cons_succ, List.cons_append, List.nil_append, List.replicate_succ, List.replicate_zero, List.length_cons, List.length_nil, List.all_cons, List.all_nil, Value.category, Bool.and_true, Bool.true_and, Bool.and_self, beq_self_eq_true, and_self, and_true, true_and, if_true, if_false, ite_true, ite_false, eq_self, List.mem_cons, List.mem_singleton, List.not_mem_nil, or_false, true_or, or_true, false_or, Nat.reduceSub, Nat.reduceAdd, decide_true, decide_false, Bool.not_true, Bool.not_false, Nat.zero_add, Bool.false_eq_true, va_rf, reduceCtorEq, Nat.reduceEqDiff, Nat.reduceLT, Nat.reduceMul, Nat.lt_irrefl, rNe_b, rEq_b, jx_ft_b, jx_ix_nI, rLt_n, rGe_n, rGt_n, rLe_n, rEq_n, rNe_n, rGt_0, rEq_0, rNe_0, rLt_0, rGe_0, rLe_0, nI_1s, kU_ok, kU_r, kA_ok, kA_r, kC_t, kC_f, kC_r, kO_ok, kO_l, kO_r, kE_ok, kN_ok, kR_ok, kE_t, kE_f, kN_t, kN_f, kR_t, kR_f, cH_1, cH_21, cH_sh, cH_da, cH_dk, cH_sl, cH_dt, cH_pn, cH_wd, cH_md, cS_sh, cS_pn, cS_pn0, cS_pn1, cS_sl, cS_dt, cS_wd, cS_pr, pm_eta, va_rf, b2i_t, b2i_f, Bool.true_or, Bool.false_or, Bool.or_true, Bool.or_false, Bool.false_and, Bool.and_false, q_need1, q_need0, q_allow1, q_allow0, q_Sh_isDisk, f_Sh_add, bd_Sh_add, cS, hn]
  · cases h3 : (!isD d || rLt e (nI 2) || rGt e (nI 8))
    · simp only [Bool.or_eq_false_iff] at h3
      obtain ⟨⟨g1, g2⟩, g3⟩ := h3
      have h3 : (!isD d || rLt e (nI 2) || rGt e (nI 8)) = false := by rw [g1, g2, g3]; rfl
      have g1' : isD d = true := by
        cases hz : isD d
        · rw [hz] at g1; cases g1
        · rfl
      obtain ⟨n, h1, rfl⟩ := rng (L := 4) (by decide) g1'
      rw [g2] at e1; rw [g3] at e2
      have ge : ∃ e', e' ≤ 8 ∧ e = nI e' := by
        have z : rGe e 0 = true := by
          rw [rLt, decide_eq_false_iff_not, Int32.lt_iff_toInt_lt, nI_toInt (by decide)] at g2
          rw [rGe, decide_eq_true_iff, Int32.le_iff_toInt_le]
          show (0 : Int) ≤ _
          omega
        have z2 : rLt e (nI 9) = true := by
          rw [← rLe_s (by decide), rLe_not, g3]
          rfl
        obtain ⟨e', h5, h6⟩ := rng (L := 9) (by decide) (by rw [z, z2]; rfl)
        exact ⟨e', by omega, h6⟩
      obtain ⟨e', he8, rfl⟩ := ge
      have k1 : (nI n).toNatClampNeg = n := clampI _ (by omega)
      have k2 : (nI e').toNatClampNeg = e' := clampI _ (by omega)
      have hC' := hC
      obtain ⟨lo, hi, c1, c2, c3, c4⟩ := hC rfl
      have ql := q_Sh_isListed h b M fo pr (sl, dt, true, lf, mo) t mv wd c1 c3 hT n h1
      have qab := q_Sh_isOneAbsent h b M fo pr (sl, dt, true, lf, mo) t mv wd c1 c3 hT
      cases h4 : (decide (0 < T (1 + n)) || !pr n || absn T pr)
      · rw [show sp_add (nI n) (nI e') (pr, (sl, dt, true, lf, mo), T, cv, cl, ct, cp) = enS (chS (pr, (sl, up2 dt n (fun k => if k < 32 then nI 0 else dt n k), true, lf, mo), T, cv, cl, ct, cp) (nx1 (pr, (sl, up2 dt n (fun k => if k < 32 then nI 0 else dt n k), true, lf, mo), T, cv, cl, ct, cp) (upN T (1 + n) e'))) (nI 0) from by simp only [sp_add, h3, h4, k1, k2, Bool.not_true, cond_false, nx0, nx1, setX, upN_comm T (a := 1 + n) (c := 0) _ _ (by omega)]]
        simp only [Bool.or_eq_false_iff] at h4
        obtain ⟨⟨g4, g5⟩, g6⟩ := h4
        have g5' : pr n = true := by
          cases hz : pr n
          · rw [hz] at g5; cases g5
          · rfl
        rw [g4] at ql; rw [g6] at qab
        -- the words
        have key : ∀ K, sWh 64 lc_Sh_add_0 lb_Sh_add_0 K [.ref b, .int (nI n), .int (nI e'), .int (nI 0)] (cH h b M fo pr ((sl, dt, true, lf, mo)) t mv wd) = K [.ref b, .int (nI n), .int (nI e'), .int (nI 32)] (cH h b M fo pr ((sl, up2 dt n (fun k => if k < 32 then nI 0 else dt n k), true, lf, mo)) t mv wd) := by
          intro K
          have z := wh_go (c := lc_Sh_add_0) (A := lb_Sh_add_0) (K := K) (fun j => [.ref b, .int (nI n), .int (nI e'), .int (nI j)]) (fun j => (cH h b M fo pr ((sl, up2 dt n (fun k => if k < j then nI 0 else dt n k), true, lf, mo)) t mv wd)) 32 (fun k hk => by
              simp (disch := first | omega | assumption) only [jx_fn, jx_b_ok, jx_kb_ok, jx_b_inl, jx_kb_inl, jx_b_inr, jx_kb_inr, eInt, eNull, eI, eA, eBin, jx_op, oAdd_n, oMul_n, cCmp, cCmp0, jx_cp, cNull, jx_nl, cNot, cAnd_k, cOr_k, cIte_c, eIte_k, ck_ite, bf_and, bf_or, bf_not, ck_int, ck_10, ck_nI, cond_true, cond_false, oSub_g, nIs_le, oDiv_s, ck_n10, eGf, jx_gf, eLd, jx_ld, eLda, jx_lda, eLen, jx_len, eCl, jx_as, jx_ec, jx_ev, jx_es, tb1, tb3, tbk, tbn, tbl, sAsg_k, jx_set, jx_ft_int, jx_ft_ref, jx_ft_null, jx_ft_z0, jx_ft_z1, sSeq_k, sIf_k, sSkip, sInc, sPf_k, jx_pf_h, sUf_k, sSt_k, jx_st_h, sSta_k, jx_sta_h, jx_el, sUst_k, sRet, jx_rt, sRetV, sCl_k, sThrow_h, eNew, jx_nw_h, sObj, eNa, List.getElem?_cons_zero, List.getElem?_cons_succ, List.set_cons_zero, List.set_cons_succ, List.cons_append, List.nil_append, List.replicate_succ, List.replicate_zero, List.length_cons, List.length_nil, List.all_cons, List.all_nil, Value.category, Bool.and_true, Bool.true_and, Bool.and_self, beq_self_eq_true, and_self, and_true, true_and, if_true, if_false, ite_true, ite_false, eq_self, List.mem_cons, List.mem_singleton, List.not_mem_nil, or_false, true_or, or_true, false_or, Nat.reduceSub, Nat.reduceAdd, decide_true, decide_false, Bool.not_true, Bool.not_false, Nat.zero_add, Bool.false_eq_true, va_rf, reduceCtorEq, Nat.reduceEqDiff, Nat.reduceLT, Nat.reduceMul, Nat.lt_irrefl, rNe_b, rEq_b, jx_ft_b, jx_ix_nI, rLt_n, rGe_n, rGt_n, rLe_n, rEq_n, rNe_n, rGt_0, rEq_0, rNe_0, rLt_0, rGe_0, rLe_0, nI_1s, kU_ok, kU_r, kA_ok, kA_r, kC_t, kC_f, kC_r, kO_ok, kO_l, kO_r, kE_ok, kN_ok, kR_ok, kE_t, kE_f, kN_t, kN_f, kR_t, kR_f, cH_1, cH_21, cH_sh, cH_da, cH_dk, cH_sl, cH_dt, cH_pn, cH_wd, cH_md, cS_sh, cS_pn, cS_pn0, cS_pn1, cS_sl, cS_dt, cS_wd, cS_pr, pm_eta, va_rf, b2i_t, b2i_f, Bool.true_or, Bool.false_or, Bool.or_true, Bool.or_false, Bool.false_and, Bool.and_false, q_need1, q_need0, q_allow1, q_allow0, q_Sh_isDisk, lc_Sh_add_0, eq_true (show k < 32 by omega)]) (fun k hk K' => by
              have ef : up2 (up2 dt n fun i => if i < k then nI 0 else dt n i) n (upd (up2 dt n (fun i => if i < k then nI 0 else dt n i) n) k (nI 0)) = up2 dt n (fun i => if i < k + 1 then nI 0 else dt n i) := by
                funext a i
                unfold up2 upd
                by_cases z1 : a = n
                · rw [if_pos z1, if_pos z1, if_pos rfl]
                  by_cases z2 : i = k
                  · rw [if_pos z2, if_pos (by omega)]
                  · rw [if_neg z2]
                    by_cases z3 : i < k
                    · rw [if_pos z3, if_pos (by omega)]
                    · rw [if_neg z3, if_neg (by omega)]
                · rw [if_neg z1, if_neg z1, if_neg z1]
              simp (disch := first | omega | assumption) only [jx_fn, jx_b_ok, jx_kb_ok, jx_b_inl, jx_kb_inl, jx_b_inr, jx_kb_inr, eInt, eNull, eI, eA, eBin, jx_op, oAdd_n, oMul_n, cCmp, cCmp0, jx_cp, cNull, jx_nl, cNot, cAnd_k, cOr_k, cIte_c, eIte_k, ck_ite, bf_and, bf_or, bf_not, ck_int, ck_10, ck_nI, cond_true, cond_false, oSub_g, nIs_le, oDiv_s, ck_n10, eGf, jx_gf, eLd, jx_ld, eLda, jx_lda, eLen, jx_len, eCl, jx_as, jx_ec, jx_ev, jx_es, tb1, tb3, tbk, tbn, tbl, sAsg_k, jx_set, jx_ft_int, jx_ft_ref, jx_ft_null, jx_ft_z0, jx_ft_z1, sSeq_k, sIf_k, sSkip, sInc, sPf_k, jx_pf_h, sUf_k, sSt_k, jx_st_h, sSta_k, jx_sta_h, jx_el, sUst_k, sRet, jx_rt, sRetV, sCl_k, sThrow_h, eNew, jx_nw_h, sObj, eNa, List.getElem?_cons_zero, List.getElem?_cons_succ, List.set_cons_zero, List.set_cons_succ, List.cons_append, List.nil_append, List.replicate_succ, List.replicate_zero, List.length_cons, List.length_nil, List.all_cons, List.all_nil, Value.category, Bool.and_true, Bool.true_and, Bool.and_self, beq_self_eq_true, and_self, and_true, true_and, if_true, if_false, ite_true, ite_false, eq_self, List.mem_cons, List.mem_singleton, List.not_mem_nil, or_false, true_or, or_true, false_or, Nat.reduceSub, Nat.reduceAdd, decide_true, decide_false, Bool.not_true, Bool.not_false, Nat.zero_add, Bool.false_eq_true, va_rf, reduceCtorEq, Nat.reduceEqDiff, Nat.reduceLT, Nat.reduceMul, Nat.lt_irrefl, rNe_b, rEq_b, jx_ft_b, jx_ix_nI, rLt_n, rGe_n, rGt_n, rLe_n, rEq_n, rNe_n, rGt_0, rEq_0, rNe_0, rLt_0, rGe_0, rLe_0, nI_1s, kU_ok, kU_r, kA_ok, kA_r, kC_t, kC_f, kC_r, kO_ok, kO_l, kO_r, kE_ok, kN_ok, kR_ok, kE_t, kE_f, kN_t, kN_f, kR_t, kR_f, cH_1, cH_21, cH_sh, cH_da, cH_dk, cH_sl, cH_dt, cH_pn, cH_wd, cH_md, cS_sh, cS_pn, cS_pn0, cS_pn1, cS_sl, cS_dt, cS_wd, cS_pr, pm_eta, va_rf, b2i_t, b2i_f, Bool.true_or, Bool.false_or, Bool.or_true, Bool.or_false, Bool.false_and, Bool.and_false, q_need1, q_need0, q_allow1, q_allow0, q_Sh_isDisk, lb_Sh_add_0, ef]) (by simp (disch := first | omega | assumption) only [jx_fn, jx_b_ok, jx_kb_ok, jx_b_inl, jx_kb_inl, jx_b_inr, jx_kb_inr, eInt, eNull, eI, eA, eBin, jx_op, oAdd_n, oMul_n, cCmp, cCmp0, jx_cp, cNull, jx_nl, cNot, cAnd_k, cOr_k, cIte_c, eIte_k, ck_ite, bf_and, bf_or, bf_not, ck_int, ck_10, ck_nI, cond_true, cond_false, oSub_g, nIs_le, oDiv_s, ck_n10, eGf, jx_gf, eLd, jx_ld, eLda, jx_lda, eLen, jx_len, eCl, jx_as, jx_ec, jx_ev, jx_es, tb1, tb3, tbk, tbn, tbl, sAsg_k, jx_set, jx_ft_int, jx_ft_ref, jx_ft_null, jx_ft_z0, jx_ft_z1, sSeq_k, sIf_k, sSkip, sInc, sPf_k, jx_pf_h, sUf_k, sSt_k, jx_st_h, sSta_k, jx_sta_h, jx_el, sUst_k, sRet, jx_rt, sRetV, sCl_k, sThrow_h, eNew, jx_nw_h, sObj, eNa, List.getElem?_cons_zero, List.getElem?_cons_succ, List.set_cons_zero, List.set_cons_succ, List.cons_append, List.nil_append, List.replicate_succ, List.replicate_zero, List.length_cons, List.length_nil, List.all_cons, List.all_nil, Value.category, Bool.and_true, Bool.true_and, Bool.and_self, beq_self_eq_true, and_self, and_true, true_and, if_true, if_false, ite_true, ite_false, eq_self, List.mem_cons, List.mem_singleton, List.not_mem_nil, or_false, true_or, or_true, false_or, Nat.reduceSub, Nat.reduceAdd, decide_true, decide_false, Bool.not_true, Bool.not_false, Nat.zero_add, Bool.false_eq_true, va_rf, reduceCtorEq, Nat.reduceEqDiff, Nat.reduceLT, Nat.reduceMul, Nat.lt_irrefl, rNe_b, rEq_b, jx_ft_b, jx_ix_nI, rLt_n, rGe_n, rGt_n, rLe_n, rEq_n, rNe_n, rGt_0, rEq_0, rNe_0, rLt_0, rGe_0, rLe_0, nI_1s, kU_ok, kU_r, kA_ok, kA_r, kC_t, kC_f, kC_r, kO_ok, kO_l, kO_r, kE_ok, kN_ok, kR_ok, kE_t, kE_f, kN_t, kN_f, kR_t, kR_f, cH_1, cH_21, cH_sh, cH_da, cH_dk, cH_sl, cH_dt, cH_pn, cH_wd, cH_md, cS_sh, cS_pn, cS_pn0, cS_pn1, cS_sl, cS_dt, cS_wd, cS_pr, pm_eta, va_rf, b2i_t, b2i_f, Bool.true_or, Bool.false_or, Bool.or_true, Bool.or_false, Bool.false_and, Bool.and_false, q_need1, q_need0, q_allow1, q_allow0, q_Sh_isDisk, lc_Sh_add_0]) 64 0 (by omega) (by omega)
          have e0 : up2 dt n (fun k => if k < 0 then nI 0 else dt n k) = dt := by
            funext a i
            unfold up2
            by_cases z1 : a = n
            · rw [if_pos z1, if_neg (by omega), z1]
            · rw [if_neg z1]
          rw [e0] at z
          exact z
        generalize hdt : up2 dt n (fun k => if k < 32 then nI 0 else dt n k) = dt' at key ⊢
        have hs' : IM (pr, (sl, dt', true, lf, mo), T, cv, cl, ct, cp) := ⟨hW, hcv, hcl, hct, hcp, hmo, h30⟩
        have hmv' : MV (pr, (sl, dt', true, lf, mo), T, cv, cl, ct, cp) := hmv
        have hCR : CR b h (pr, (sl, dt', true, lf, mo), T, cv, cl, ct, cp) t mv lo hi := ⟨c1, c2, c3, c4⟩
        obtain ⟨h1', qc, hp2, hG⟩ := q_copy h b M fo pr (sl, dt', true, lf, mo) t mv wd hb c1 c3 c2 hW
        obtain ⟨ea, va, qa, la, fe, fv, fl, hp2⟩ := hp2
        have hp3 := hp2.sete h1 e'
        have bea := hp2.2.1
        have r1 := (cTPa h1' b M fo pr (sl, dt', true, lf, mo) t mv wd (Or.inl hb) hp2).2.2.2.2.1
        have r2 := (cTPa h1' b M fo pr (sl, dt', true, lf, mo) t mv wd (Or.inl hb) hp2).2.2.2.2.2.1
        have hst : ∀ o, hset (cH h1' b M fo pr (sl, dt', true, lf, mo) t mv wd) ea o = cH (hset h1' ea o) b M fo pr (sl, dt', true, lf, mo) t mv wd := fun o => cS_out h1' b M fo pr _ t mv wd o (Or.inl (by omega))
        have rt := (cTPa h b M fo pr (sl, dt', true, lf, mo) t mv wd c1 c3.choose_spec.choose_spec.choose_spec.choose_spec.choose_spec.choose_spec.choose_spec).2.2.2.2.1
        rcases q_change b M fo wd hs' hmv' rfl hb hCR (hG.st (.inl (0, 4, .inl (upd fe n (nI e')))) bea.1) ⟨_, _, _, _, _, _, _, hp3⟩ (Nat.le_refl _) (by rw [hset_1]; omega) (hW.upE h1 he8) with ⟨l1, h2, wd', l2, l3, l4, l5, l6⟩ | ⟨l1, h2, wd', l2, l4, l5, l6⟩
        · refine RZ.on hb (hG.st (.inl (0, 4, .inl (upd fe n (nI e')))) bea.1) (by omega) (by omega) l1 l4 l5 l6 (fun q hq => c4.nb hq) l3 (wd' := wd') (ov := none) rfl ?_
          unfold cS at l2 ⊢
          simp (disch := first | omega | assumption) only [jx_fn, jx_b_ok, jx_kb_ok, jx_b_inl, jx_kb_inl, jx_b_inr, jx_kb_inr, eInt, eNull, eI, eA, eBin, jx_op, oAdd_n, oMul_n, cCmp, cCmp0, jx_cp, cNull, jx_nl, cNot, cAnd_k, cOr_k, cIte_c, eIte_k, ck_ite, bf_and, bf_or, bf_not, ck_int, ck_10, ck_nI, cond_true, cond_false, oSub_g, nIs_le, oDiv_s, ck_n10, eGf, jx_gf, eLd, jx_ld, eLda, jx_lda, eLen, jx_len, eCl, jx_as, jx_ec, jx_ev, jx_es, tb1, tb3, tbk, tbn, tbl, sAsg_k, jx_set, jx_ft_int, jx_ft_ref, jx_ft_null, jx_ft_z0, jx_ft_z1, sSeq_k, sIf_k, sSkip, sInc, sPf_k, jx_pf_h, sUf_k, sSt_k, jx_st_h, sSta_k, jx_sta_h, jx_el, sUst_k, sRet, jx_rt, sRetV, sCl_k, sThrow_h, eNew, jx_nw_h, sObj, eNa, List.getElem?_cons_zero, List.getElem?_cons_succ, List.set_cons_zero, List.set_cons_succ, List.cons_append, List.nil_append, List.replicate_succ, List.replicate_zero, List.length_cons, List.length_nil, List.all_cons, List.all_nil, Value.category, Bool.and_true, Bool.true_and, Bool.and_self, beq_self_eq_true, and_self, and_true, true_and, if_true, if_false, ite_true, ite_false, eq_self, List.mem_cons, List.mem_singleton, List.not_mem_nil, or_false, true_or, or_true, false_or, Nat.reduceSub, Nat.reduceAdd, decide_true, decide_false, Bool.not_true, Bool.not_false, Nat.zero_add, Bool.false_eq_true, va_rf, reduceCtorEq, Nat.reduceEqDiff, Nat.reduceLT, Nat.reduceMul, Nat.lt_irrefl, rNe_b, rEq_b, jx_ft_b, jx_ix_nI, rLt_n, rGe_n, rGt_n, rLe_n, rEq_n, rNe_n, rGt_0, rEq_0, rNe_0, rLt_0, rGe_0, rLe_0, nI_1s, kU_ok, kU_r, kA_ok, kA_r, kC_t, kC_f, kC_r, kO_ok, kO_l, kO_r, kE_ok, kN_ok, kR_ok, kE_t, kE_f, kN_t, kN_f, kR_t, kR_f, cH_1, cH_21, cH_sh, cH_da, cH_dk, cH_sl, cH_dt, cH_pn, cH_wd, cH_md, cS_sh, cS_pn, cS_pn0, cS_pn1, cS_sl, cS_dt, cS_wd, cS_pr, pm_eta, va_rf, b2i_t, b2i_f, Bool.true_or, Bool.false_or, Bool.or_true, Bool.or_false, Bool.false_and, Bool.and_false, q_need1, q_need0, q_allow1, q_allow0, q_Sh_isDisk, f_Sh_add, bd_Sh_add, hn, g1', e1, e2, ql, g5', qab, key, rt, qc, r1, r2, hst, l2]
        · refine RZ.off hb (hG.st (.inl (0, 4, .inl (upd fe n (nI e')))) bea.1) (by omega) (by omega) l1 l4 l5 (fun q hq => l6 q (by omega)) rfl (t := t) (mv := mv) (wd' := wd') ?_
          unfold cS at l2 ⊢
          simp (disch := first | omega | assumption) only [jx_fn, jx_b_ok, jx_kb_ok, jx_b_inl, jx_kb_inl, jx_b_inr, jx_kb_inr, eInt, eNull, eI, eA, eBin, jx_op, oAdd_n, oMul_n, cCmp, cCmp0, jx_cp, cNull, jx_nl, cNot, cAnd_k, cOr_k, cIte_c, eIte_k, ck_ite, bf_and, bf_or, bf_not, ck_int, ck_10, ck_nI, cond_true, cond_false, oSub_g, nIs_le, oDiv_s, ck_n10, eGf, jx_gf, eLd, jx_ld, eLda, jx_lda, eLen, jx_len, eCl, jx_as, jx_ec, jx_ev, jx_es, tb1, tb3, tbk, tbn, tbl, sAsg_k, jx_set, jx_ft_int, jx_ft_ref, jx_ft_null, jx_ft_z0, jx_ft_z1, sSeq_k, sIf_k, sSkip, sInc, sPf_k, jx_pf_h, sUf_k, sSt_k, jx_st_h, sSta_k, jx_sta_h, jx_el, sUst_k, sRet, jx_rt, sRetV, sCl_k, sThrow_h, eNew, jx_nw_h, sObj, eNa, List.getElem?_cons_zero, List.getElem?_cons_succ, List.set_cons_zero, List.set_cons_succ, List.cons_append, List.nil_append, List.replicate_succ, List.replicate_zero, List.length_cons, List.length_nil, List.all_cons, List.all_nil, Value.category, Bool.and_true, Bool.true_and, Bool.and_self, beq_self_eq_true, and_self, and_true, true_and, if_true, if_false, ite_true, ite_false, eq_self, List.mem_cons, List.mem_singleton, List.not_mem_nil, or_false, true_or, or_true, false_or, Nat.reduceSub, Nat.reduceAdd, decide_true, decide_false, Bool.not_true, Bool.not_false, Nat.zero_add, Bool.false_eq_true, va_rf, reduceCtorEq, Nat.reduceEqDiff, Nat.reduceLT, Nat.reduceMul, Nat.lt_irrefl, rNe_b, rEq_b, jx_ft_b, jx_ix_nI, rLt_n, rGe_n, rGt_n, rLe_n, rEq_n, rNe_n, rGt_0, rEq_0, rNe_0, rLt_0, rGe_0, rLe_0, nI_1s, kU_ok, kU_r, kA_ok, kA_r, kC_t, kC_f, kC_r, kO_ok, kO_l, kO_r, kE_ok, kN_ok, kR_ok, kE_t, kE_f, kN_t, kN_f, kR_t, kR_f, cH_1, cH_21, cH_sh, cH_da, cH_dk, cH_sl, cH_dt, cH_pn, cH_wd, cH_md, cS_sh, cS_pn, cS_pn0, cS_pn1, cS_sl, cS_dt, cS_wd, cS_pr, pm_eta, va_rf, b2i_t, b2i_f, Bool.true_or, Bool.false_or, Bool.or_true, Bool.or_false, Bool.false_and, Bool.and_false, q_need1, q_need0, q_allow1, q_allow0, q_Sh_isDisk, f_Sh_add, bd_Sh_add, hn, g1', e1, e2, ql, g5', qab, key, rt, qc, r1, r2, hst, l2]
      · rw [show sp_add (nI n) (nI e') (pr, (sl, dt, true, lf, mo), T, cv, cl, ct, cp) = (3, nI 0, pr, (sl, dt, true, lf, mo), T, cv, cl, ct, cp) from by simp only [sp_add, h3, h4, k1, Bool.not_true, cond_false, cond_true]]
        refine RZ.thr (wd := wd) hb hC' (c := 3) (k := 11) (by decide) rfl ?_
        cases g4 : decide (0 < T (1 + n)) <;> rw [g4] at ql h4
        · cases g5 : pr n <;> rw [g5] at h4
          · simp (disch := first | omega | assumption) only [jx_fn, jx_b_ok, jx_kb_ok, jx_b_inl, jx_kb_inl, jx_b_inr, jx_kb_inr, eInt, eNull, eI, eA, eBin, jx_op, oAdd_n, oMul_n, cCmp, cCmp0, jx_cp, cNull, jx_nl, cNot, cAnd_k, cOr_k, cIte_c, eIte_k, ck_ite, bf_and, bf_or, bf_not, ck_int, ck_10, ck_nI, cond_true, cond_false, oSub_g, nIs_le, oDiv_s, ck_n10, eGf, jx_gf, eLd, jx_ld, eLda, jx_lda, eLen, jx_len, eCl, jx_as, jx_ec, jx_ev, jx_es, tb1, tb3, tbk, tbn, tbl, sAsg_k, jx_set, jx_ft_int, jx_ft_ref, jx_ft_null, jx_ft_z0, jx_ft_z1, sSeq_k, sIf_k, sSkip, sInc, sPf_k, jx_pf_h, sUf_k, sSt_k, jx_st_h, sSta_k, jx_sta_h, jx_el, sUst_k, sRet, jx_rt, sRetV, sCl_k, sThrow_h, eNew, jx_nw_h, sObj, eNa, List.getElem?_cons_zero, List.getElem?_cons_succ, List.set_cons_zero, List.set_cons_succ, List.cons_append, List.nil_append, List.replicate_succ, List.replicate_zero, List.length_cons, List.length_nil, List.all_cons, List.all_nil, Value.category, Bool.and_true, Bool.true_and, Bool.and_self, beq_self_eq_true, and_self, and_true, true_and, if_true, if_false, ite_true, ite_false, eq_self, List.mem_cons, List.mem_singleton, List.not_mem_nil, or_false, true_or, or_true, false_or, Nat.reduceSub, Nat.reduceAdd, decide_true, decide_false, Bool.not_true, Bool.not_false, Nat.zero_add, Bool.false_eq_true, va_rf, reduceCtorEq, Nat.reduceEqDiff, Nat.reduceLT, Nat.reduceMul, Nat.lt_irrefl, rNe_b, rEq_b, jx_ft_b, jx_ix_nI, rLt_n, rGe_n, rGt_n, rLe_n, rEq_n, rNe_n, rGt_0, rEq_0, rNe_0, rLt_0, rGe_0, rLe_0, nI_1s, kU_ok, kU_r, kA_ok, kA_r, kC_t, kC_f, kC_r, kO_ok, kO_l, kO_r, kE_ok, kN_ok, kR_ok, kE_t, kE_f, kN_t, kN_f, kR_t, kR_f, cH_1, cH_21, cH_sh, cH_da, cH_dk, cH_sl, cH_dt, cH_pn, cH_wd, cH_md, cS_sh, cS_pn, cS_pn0, cS_pn1, cS_sl, cS_dt, cS_wd, cS_pr, pm_eta, va_rf, b2i_t, b2i_f, Bool.true_or, Bool.false_or, Bool.or_true, Bool.or_false, Bool.false_and, Bool.and_false, q_need1, q_need0, q_allow1, q_allow0, q_Sh_isDisk, f_Sh_add, bd_Sh_add, cS, hn, g1', e1, e2, ql, g5]
          · have g6 : absn T pr = true := h4
            rw [g6] at qab
            simp (disch := first | omega | assumption) only [jx_fn, jx_b_ok, jx_kb_ok, jx_b_inl, jx_kb_inl, jx_b_inr, jx_kb_inr, eInt, eNull, eI, eA, eBin, jx_op, oAdd_n, oMul_n, cCmp, cCmp0, jx_cp, cNull, jx_nl, cNot, cAnd_k, cOr_k, cIte_c, eIte_k, ck_ite, bf_and, bf_or, bf_not, ck_int, ck_10, ck_nI, cond_true, cond_false, oSub_g, nIs_le, oDiv_s, ck_n10, eGf, jx_gf, eLd, jx_ld, eLda, jx_lda, eLen, jx_len, eCl, jx_as, jx_ec, jx_ev, jx_es, tb1, tb3, tbk, tbn, tbl, sAsg_k, jx_set, jx_ft_int, jx_ft_ref, jx_ft_null, jx_ft_z0, jx_ft_z1, sSeq_k, sIf_k, sSkip, sInc, sPf_k, jx_pf_h, sUf_k, sSt_k, jx_st_h, sSta_k, jx_sta_h, jx_el, sUst_k, sRet, jx_rt, sRetV, sCl_k, sThrow_h, eNew, jx_nw_h, sObj, eNa, List.getElem?_cons_zero, List.getElem?_cons_succ, List.set_cons_zero, List.set_cons_succ, List.cons_append, List.nil_append, List.replicate_succ, List.replicate_zero, List.length_cons, List.length_nil, List.all_cons, List.all_nil, Value.category, Bool.and_true, Bool.true_and, Bool.and_self, beq_self_eq_true, and_self, and_true, true_and, if_true, if_false, ite_true, ite_false, eq_self, List.mem_cons, List.mem_singleton, List.not_mem_nil, or_false, true_or, or_true, false_or, Nat.reduceSub, Nat.reduceAdd, decide_true, decide_false, Bool.not_true, Bool.not_false, Nat.zero_add, Bool.false_eq_true, va_rf, reduceCtorEq, Nat.reduceEqDiff, Nat.reduceLT, Nat.reduceMul, Nat.lt_irrefl, rNe_b, rEq_b, jx_ft_b, jx_ix_nI, rLt_n, rGe_n, rGt_n, rLe_n, rEq_n, rNe_n, rGt_0, rEq_0, rNe_0, rLt_0, rGe_0, rLe_0, nI_1s, kU_ok, kU_r, kA_ok, kA_r, kC_t, kC_f, kC_r, kO_ok, kO_l, kO_r, kE_ok, kN_ok, kR_ok, kE_t, kE_f, kN_t, kN_f, kR_t, kR_f, cH_1, cH_21, cH_sh, cH_da, cH_dk, cH_sl, cH_dt, cH_pn, cH_wd, cH_md, cS_sh, cS_pn, cS_pn0, cS_pn1, cS_sl, cS_dt, cS_wd, cS_pr, pm_eta, va_rf, b2i_t, b2i_f, Bool.true_or, Bool.false_or, Bool.or_true, Bool.or_false, Bool.false_and, Bool.and_false, q_need1, q_need0, q_allow1, q_allow0, q_Sh_isDisk, f_Sh_add, bd_Sh_add, cS, hn, g1', e1, e2, ql, g5, qab]
        · simp (disch := first | omega | assumption) only [jx_fn, jx_b_ok, jx_kb_ok, jx_b_inl, jx_kb_inl, jx_b_inr, jx_kb_inr, eInt, eNull, eI, eA, eBin, jx_op, oAdd_n, oMul_n, cCmp, cCmp0, jx_cp, cNull, jx_nl, cNot, cAnd_k, cOr_k, cIte_c, eIte_k, ck_ite, bf_and, bf_or, bf_not, ck_int, ck_10, ck_nI, cond_true, cond_false, oSub_g, nIs_le, oDiv_s, ck_n10, eGf, jx_gf, eLd, jx_ld, eLda, jx_lda, eLen, jx_len, eCl, jx_as, jx_ec, jx_ev, jx_es, tb1, tb3, tbk, tbn, tbl, sAsg_k, jx_set, jx_ft_int, jx_ft_ref, jx_ft_null, jx_ft_z0, jx_ft_z1, sSeq_k, sIf_k, sSkip, sInc, sPf_k, jx_pf_h, sUf_k, sSt_k, jx_st_h, sSta_k, jx_sta_h, jx_el, sUst_k, sRet, jx_rt, sRetV, sCl_k, sThrow_h, eNew, jx_nw_h, sObj, eNa, List.getElem?_cons_zero, List.getElem?_cons_succ, List.set_cons_zero, List.set_cons_succ, List.cons_append, List.nil_append, List.replicate_succ, List.replicate_zero, List.length_cons, List.length_nil, List.all_cons, List.all_nil, Value.category, Bool.and_true, Bool.true_and, Bool.and_self, beq_self_eq_true, and_self, and_true, true_and, if_true, if_false, ite_true, ite_false, eq_self, List.mem_cons, List.mem_singleton, List.not_mem_nil, or_false, true_or, or_true, false_or, Nat.reduceSub, Nat.reduceAdd, decide_true, decide_false, Bool.not_true, Bool.not_false, Nat.zero_add, Bool.false_eq_true, va_rf, reduceCtorEq, Nat.reduceEqDiff, Nat.reduceLT, Nat.reduceMul, Nat.lt_irrefl, rNe_b, rEq_b, jx_ft_b, jx_ix_nI, rLt_n, rGe_n, rGt_n, rLe_n, rEq_n, rNe_n, rGt_0, rEq_0, rNe_0, rLt_0, rGe_0, rLe_0, nI_1s, kU_ok, kU_r, kA_ok, kA_r, kC_t, kC_f, kC_r, kO_ok, kO_l, kO_r, kE_ok, kN_ok, kR_ok, kE_t, kE_f, kN_t, kN_f, kR_t, kR_f, cH_1, cH_21, cH_sh, cH_da, cH_dk, cH_sl, cH_dt, cH_pn, cH_wd, cH_md, cS_sh, cS_pn, cS_pn0, cS_pn1, cS_sl, cS_dt, cS_wd, cS_pr, pm_eta, va_rf, b2i_t, b2i_f, Bool.true_or, Bool.false_or, Bool.or_true, Bool.or_false, Bool.false_and, Bool.and_false, q_need1, q_need0, q_allow1, q_allow0, q_Sh_isDisk, f_Sh_add, bd_Sh_add, cS, hn, g1', e1, e2, ql]
    · rw [show sp_add d e (pr, (sl, dt, true, lf, mo), T, cv, cl, ct, cp) = (2, nI 0, pr, (sl, dt, true, lf, mo), T, cv, cl, ct, cp) from by simp only [sp_add, h3, Bool.not_true, cond_false, cond_true]]
      refine RZ.thr (wd := wd) hb hC (c := 2) (k := 10) (by decide) rfl ?_
      cases g1 : isD d <;> rw [g1] at h3
      · simp (disch := first | omega | assumption) only [jx_fn, jx_b_ok, jx_kb_ok, jx_b_inl, jx_kb_inl, jx_b_inr, jx_kb_inr, eInt, eNull, eI, eA, eBin, jx_op, oAdd_n, oMul_n, cCmp, cCmp0, jx_cp, cNull, jx_nl, cNot, cAnd_k, cOr_k, cIte_c, eIte_k, ck_ite, bf_and, bf_or, bf_not, ck_int, ck_10, ck_nI, cond_true, cond_false, oSub_g, nIs_le, oDiv_s, ck_n10, eGf, jx_gf, eLd, jx_ld, eLda, jx_lda, eLen, jx_len, eCl, jx_as, jx_ec, jx_ev, jx_es, tb1, tb3, tbk, tbn, tbl, sAsg_k, jx_set, jx_ft_int, jx_ft_ref, jx_ft_null, jx_ft_z0, jx_ft_z1, sSeq_k, sIf_k, sSkip, sInc, sPf_k, jx_pf_h, sUf_k, sSt_k, jx_st_h, sSta_k, jx_sta_h, jx_el, sUst_k, sRet, jx_rt, sRetV, sCl_k, sThrow_h, eNew, jx_nw_h, sObj, eNa, List.getElem?_cons_zero, List.getElem?_cons_succ, List.set_cons_zero, List.set_cons_succ, List.cons_append, List.nil_append, List.replicate_succ, List.replicate_zero, List.length_cons, List.length_nil, List.all_cons, List.all_nil, Value.category, Bool.and_true, Bool.true_and, Bool.and_self, beq_self_eq_true, and_self, and_true, true_and, if_true, if_false, ite_true, ite_false, eq_self, List.mem_cons, List.mem_singleton, List.not_mem_nil, or_false, true_or, or_true, false_or, Nat.reduceSub, Nat.reduceAdd, decide_true, decide_false, Bool.not_true, Bool.not_false, Nat.zero_add, Bool.false_eq_true, va_rf, reduceCtorEq, Nat.reduceEqDiff, Nat.reduceLT, Nat.reduceMul, Nat.lt_irrefl, rNe_b, rEq_b, jx_ft_b, jx_ix_nI, rLt_n, rGe_n, rGt_n, rLe_n, rEq_n, rNe_n, rGt_0, rEq_0, rNe_0, rLt_0, rGe_0, rLe_0, nI_1s, kU_ok, kU_r, kA_ok, kA_r, kC_t, kC_f, kC_r, kO_ok, kO_l, kO_r, kE_ok, kN_ok, kR_ok, kE_t, kE_f, kN_t, kN_f, kR_t, kR_f, cH_1, cH_21, cH_sh, cH_da, cH_dk, cH_sl, cH_dt, cH_pn, cH_wd, cH_md, cS_sh, cS_pn, cS_pn0, cS_pn1, cS_sl, cS_dt, cS_wd, cS_pr, pm_eta, va_rf, b2i_t, b2i_f, Bool.true_or, Bool.false_or, Bool.or_true, Bool.or_false, Bool.false_and, Bool.and_false, q_need1, q_need0, q_allow1, q_allow0, q_Sh_isDisk, f_Sh_add, bd_Sh_add, cS, hn, g1]
      · cases g2 : rLt e (nI 2) <;> rw [g2] at h3 e1
        · have g3 : rGt e (nI 8) = true := h3
          rw [g3] at e2
          simp (disch := first | omega | assumption) only [jx_fn, jx_b_ok, jx_kb_ok, jx_b_inl, jx_kb_inl, jx_b_inr, jx_kb_inr, eInt, eNull, eI, eA, eBin, jx_op, oAdd_n, oMul_n, cCmp, cCmp0, jx_cp, cNull, jx_nl, cNot, cAnd_k, cOr_k, cIte_c, eIte_k, ck_ite, bf_and, bf_or, bf_not, ck_int, ck_10, ck_nI, cond_true, cond_false, oSub_g, nIs_le, oDiv_s, ck_n10, eGf, jx_gf, eLd, jx_ld, eLda, jx_lda, eLen, jx_len, eCl, jx_as, jx_ec, jx_ev, jx_es, tb1, tb3, tbk, tbn, tbl, sAsg_k, jx_set, jx_ft_int, jx_ft_ref, jx_ft_null, jx_ft_z0, jx_ft_z1, sSeq_k, sIf_k, sSkip, sInc, sPf_k, jx_pf_h, sUf_k, sSt_k, jx_st_h, sSta_k, jx_sta_h, jx_el, sUst_k, sRet, jx_rt, sRetV, sCl_k, sThrow_h, eNew, jx_nw_h, sObj, eNa, List.getElem?_cons_zero, List.getElem?_cons_succ, List.set_cons_zero, List.set_cons_succ, List.cons_append, List.nil_append, List.replicate_succ, List.replicate_zero, List.length_cons, List.length_nil, List.all_cons, List.all_nil, Value.category, Bool.and_true, Bool.true_and, Bool.and_self, beq_self_eq_true, and_self, and_true, true_and, if_true, if_false, ite_true, ite_false, eq_self, List.mem_cons, List.mem_singleton, List.not_mem_nil, or_false, true_or, or_true, false_or, Nat.reduceSub, Nat.reduceAdd, decide_true, decide_false, Bool.not_true, Bool.not_false, Nat.zero_add, Bool.false_eq_true, va_rf, reduceCtorEq, Nat.reduceEqDiff, Nat.reduceLT, Nat.reduceMul, Nat.lt_irrefl, rNe_b, rEq_b, jx_ft_b, jx_ix_nI, rLt_n, rGe_n, rGt_n, rLe_n, rEq_n, rNe_n, rGt_0, rEq_0, rNe_0, rLt_0, rGe_0, rLe_0, nI_1s, kU_ok, kU_r, kA_ok, kA_r, kC_t, kC_f, kC_r, kO_ok, kO_l, kO_r, kE_ok, kN_ok, kR_ok, kE_t, kE_f, kN_t, kN_f, kR_t, kR_f, cH_1, cH_21, cH_sh, cH_da, cH_dk, cH_sl, cH_dt, cH_pn, cH_wd, cH_md, cS_sh, cS_pn, cS_pn0, cS_pn1, cS_sl, cS_dt, cS_wd, cS_pr, pm_eta, va_rf, b2i_t, b2i_f, Bool.true_or, Bool.false_or, Bool.or_true, Bool.or_false, Bool.false_and, Bool.and_false, q_need1, q_need0, q_allow1, q_allow0, q_Sh_isDisk, f_Sh_add, bd_Sh_add, cS, hn, g1, e1, e2]
        · simp (disch := first | omega | assumption) only [jx_fn, jx_b_ok, jx_kb_ok, jx_b_inl, jx_kb_inl, jx_b_inr, jx_kb_inr, eInt, eNull, eI, eA, eBin, jx_op, oAdd_n, oMul_n, cCmp, cCmp0, jx_cp, cNull, jx_nl, cNot, cAnd_k, cOr_k, cIte_c, eIte_k, ck_ite, bf_and, bf_or, bf_not, ck_int, ck_10, ck_nI, cond_true, cond_false, oSub_g, nIs_le, oDiv_s, ck_n10, eGf, jx_gf, eLd, jx_ld, eLda, jx_lda, eLen, jx_len, eCl, jx_as, jx_ec, jx_ev, jx_es, tb1, tb3, tbk, tbn, tbl, sAsg_k, jx_set, jx_ft_int, jx_ft_ref, jx_ft_null, jx_ft_z0, jx_ft_z1, sSeq_k, sIf_k, sSkip, sInc, sPf_k, jx_pf_h, sUf_k, sSt_k, jx_st_h, sSta_k, jx_sta_h, jx_el, sUst_k, sRet, jx_rt, sRetV, sCl_k, sThrow_h, eNew, jx_nw_h, sObj, eNa, List.getElem?_cons_zero, List.getElem?_cons_succ, List.set_cons_zero, List.set_cons_succ, List.cons_append, List.nil_append, List.replicate_succ, List.replicate_zero, List.length_cons, List.length_nil, List.all_cons, List.all_nil, Value.category, Bool.and_true, Bool.true_and, Bool.and_self, beq_self_eq_true, and_self, and_true, true_and, if_true, if_false, ite_true, ite_false, eq_self, List.mem_cons, List.mem_singleton, List.not_mem_nil, or_false, true_or, or_true, false_or, Nat.reduceSub, Nat.reduceAdd, decide_true, decide_false, Bool.not_true, Bool.not_false, Nat.zero_add, Bool.false_eq_true, va_rf, reduceCtorEq, Nat.reduceEqDiff, Nat.reduceLT, Nat.reduceMul, Nat.lt_irrefl, rNe_b, rEq_b, jx_ft_b, jx_ix_nI, rLt_n, rGe_n, rGt_n, rLe_n, rEq_n, rNe_n, rGt_0, rEq_0, rNe_0, rLt_0, rGe_0, rLe_0, nI_1s, kU_ok, kU_r, kA_ok, kA_r, kC_t, kC_f, kC_r, kO_ok, kO_l, kO_r, kE_ok, kN_ok, kR_ok, kE_t, kE_f, kN_t, kN_f, kR_t, kR_f, cH_1, cH_21, cH_sh, cH_da, cH_dk, cH_sl, cH_dt, cH_pn, cH_wd, cH_md, cS_sh, cS_pn, cS_pn0, cS_pn1, cS_sl, cS_dt, cS_wd, cS_pr, pm_eta, va_rf, b2i_t, b2i_f, Bool.true_or, Bool.false_or, Bool.or_true, Bool.or_false, Bool.false_and, Bool.and_false, q_need1, q_need0, q_allow1, q_allow0, q_Sh_isDisk, f_Sh_add, bd_Sh_add, cS, hn, g1, e1]
end U4
