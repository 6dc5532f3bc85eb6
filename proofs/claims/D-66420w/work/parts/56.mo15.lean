/-! THE MODEL's CALLS: start -/
theorem WV_congr {T U : Nat → Nat} (h : ∀ k, k < 49 → T k = U k) {v : Nat} (hv : v < 4) (hU : WV U v) : WV T v := by
  have e5 : T (5 + v) = U (5 + v) := h _ (by omega)
  have ec : colsN T v = colsN U v := by unfold colsN; rw [e5]
  have ee : elsN T v = elsN U v := by unfold elsN; rw [e5]
  have el : ∀ k, k < 10 → T (9 + 10 * v + k) = U (9 + 10 * v + k) := fun k hk => h _ (by omega)
  unfold WV
  rw [e5, ec, ee]
  rcases hU with ⟨g1, g2⟩ | ⟨g1, g2, g3, g4, g5, g6, g7, g8⟩
  · exact Or.inl ⟨g1, fun k hk => (el k hk).trans (g2 k hk)⟩
  · exact Or.inr ⟨g1, g2, g3, g4, g5, g6, fun k hk hk2 => (el k hk).trans (g7 k hk hk2), fun z k hk hk2 => (el k hk).trans (g8 z k hk hk2)⟩
theorem WT_congr {T U : Nat → Nat} (h : ∀ k, k < 49 → T k = U k) (hT : ∀ k, T k < 2 ^ 31) (hU : WT U) : WT T := by
  refine ⟨hT, fun d hd => ?_, fun v hv => WV_congr h hv (hU.2.2.1 v hv), fun k hk => ?_, fun i j hi hj => ?_⟩
  · rw [h _ (by omega)]; exact hU.2.1 d hd
  · rw [h _ (by omega)]; exact hU.2.2.2.1 k hk
  · rw [h _ (by omega), h _ (by omega)]; exact hU.2.2.2.2 i j hi hj
theorem WT_zero : WT (fun _ => 0) := by
  refine ⟨fun k => by show 0 < 2 ^ 31; decide, fun d hd => Nat.zero_le _, fun v hv => Or.inl ⟨rfl, fun _ _ => rfl⟩, fun k hk => Nat.zero_le _, fun i j hi hj _ h0 => absurd rfl h0⟩
theorem bst_inv (pr : Nat → Bool) (sl : Nat → Nat → Int32) : ∀ i, i ≤ 8 → ((bst pr sl i).1 = none ∧ (bst pr sl i).2 = 0) ∨ ∃ d t, d < 4 ∧ t < 2 ∧ pr d = true ∧ (bst pr sl i).1 = some (d, t) ∧ (bst pr sl i).2 = sltN sl d t ∧ 0 < sltN sl d t := by
  intro i
  induction i with
  | zero => intro _; exact Or.inl ⟨rfl, rfl⟩
  | succ i ih =>
    intro hi
    simp only [bst]
    cases h1 : (pr (i / 2) && decide ((bst pr sl i).2 < sltN sl (i / 2) (i % 2)))
    · exact ih (by omega)
    · rw [Bool.and_eq_true] at h1
      have h2 := of_decide_eq_true h1.2
      exact Or.inr ⟨i / 2, i % 2, by omega, by omega, h1.1, rfl, rfl, by omega⟩
theorem sl_wh {sl : Nat → Nat → Int32} {d t : Nat} (h : 0 < sltN sl d t) : whW (fun k => sl d (51 * t + k)) = true := by
  cases h3 : whW (fun k => sl d (51 * t + k))
  · have : sltN sl d t = 0 := by unfold sltN nmN; rw [h3]; rfl
    omega
  · rfl
theorem rdT_lt (sl : Nat → Nat → Int32) (o : Option (Nat × Nat)) (hS : ∀ d t, o = some (d, t) → ∃ T, WT T ∧ T 0 < 2 ^ 30 ∧ ∀ k, k < 51 → sl d (51 * t + k) = wds T k) : WT (rdT sl o) ∧ rdT sl o 0 < 2 ^ 30 := by
  cases o with
  | none => exact ⟨WT_zero, by show 0 < 2 ^ 30; decide⟩
  | some p =>
    obtain ⟨d, t⟩ := p
    obtain ⟨T, h1, h2, h3⟩ := hS d t rfl
    have e := rdT_some h1.1 h3
    refine ⟨WT_congr e (fun k => ?_) h1, by rw [e 0 (by omega)]; exact h2⟩
    by_cases hk : k < 49
    · rw [e k hk]; exact h1.1 k
    · show (if k < 49 then (sl d (51 * t + k)).toNatClampNeg else 0) < 2 ^ 31
      rw [if_neg hk]; decide
/-- the table that is chosen -/
theorem cho {pr : Nat → Bool} {sl : Nat → Nat → Int32} (hS : SI sl) : WT (rdT sl (bst pr sl 8).1) ∧ rdT sl (bst pr sl 8).1 0 < 2 ^ 30 ∧ rdT sl (bst pr sl 8).1 0 = (bst pr sl 8).2 := by
  rcases bst_inv pr sl 8 (by omega) with ⟨e1, e2⟩ | ⟨d, t, hd, ht, hp, e1, e2, e3⟩
  · rw [e1, e2]
    exact ⟨WT_zero, by show 0 < 2 ^ 30; decide, rfl⟩
  · have hw := sl_wh e3
    have := rdT_lt sl (some (d, t)) (fun d' t' e => by cases e; exact hS d t hd ht hw)
    rw [e1, e2]
    refine ⟨this.1, this.2, ?_⟩
    show (sl d (51 * t + 0)).toNatClampNeg = sltN sl d t
    unfold sltN nmN
    rw [hw]
    rfl
section MO
variable (h : jx_S) (b : Nat) (C : cC) (fo : Nat → Int64) (th : Int32) (s : xS) (fn : Nat → Int32)
set_option maxHeartbeats 8000000 in
theorem o_start (hS : SI s.2.1.1) : f_Md_start [.ref (b + 19)] (mX h b C fo th s fn) = some (.returned (some (.int (sp_start s).2.1)), mX h b C fo (nI (sp_start s).1) (sp_start s).2.2 fn) := by
  obtain ⟨pr, ⟨sl, dt, on, lf, mo⟩, T, cv, cl, ct, cp⟩ := s
  dsimp only at hS
  cases on
  · obtain ⟨hW, h30, h0⟩ := cho (pr := pr) hS
    rw [show sp_start (pr, (sl, dt, false, lf, mo), T, cv, cl, ct, cp) = (0, nI (bst pr sl 8).2, (pr, stA pr (rdT sl (bst pr sl 8).1) (stW pr (rdT sl (bst pr sl 8).1) (sl, dt, true, lf, -1)), rdT sl (bst pr sl 8).1, cv, cl, 0, cp)) from rfl]
    have q0 := fun q z3 z4 K => q_st0 h b C fo (nI 0) pr (sl, dt, true, lf, -1) T fn cv cl 0 cp q z3 z4 K
    obtain ⟨z3, z4, q1⟩ := q_stC h b C fo (nI 0) pr (sl, dt, true, lf, -1) fn cv cl 0 cp hS (.double 0) (.double 0)
    dsimp only at q1
    have q2 := fun z3 z4 K => q_stW h b C fo (nI 0) pr (sl, dt, true, lf, -1) fn cv cl 0 cp (rdT sl (bst pr sl 8).1) hW.1 z3 z4 K
    have q3 := fun q z3 z4 K => q_stA h b C fo (nI 0) pr (stW pr (rdT sl (bst pr sl 8).1) (sl, dt, true, lf, -1)) fn cv cl 0 cp (rdT sl (bst pr sl 8).1) hW.TB q z3 z4 K
    rw [h0] at q2
    simp (disch := first | omega | assumption) only [jx_fn, jx_b_ok, jx_kb_ok, jx_b_inl, jx_kb_inl, jx_b_inr, jx_kb_inr, eInt, eNull, eI, eA, eBin, jx_op, oAdd_n, oMul_n, cCmp, cCmp0, jx_cp, cNull, jx_nl, cNot, cAnd_k, cOr_k, cIte_c, eIte_k, ck_ite, bf_and, bf_or, bf_not, ck_int, ck_10, ck_nI, cond_true, cond_false, oSub_g, nIs_le, oDiv_s, ck_n10, eGf, jx_gf, eLd, jx_ld, eLda, jx_lda, eLen, jx_len, eCl, jx_as, jx_ec, jx_ev, jx_es, jx_tb, sAsg_k, jx_set, jx_ft_int, jx_ft_ref, jx_ft_null, jx_ft_z0, jx_ft_z1, sSeq_k, sIf_k, sSkip, sInc, sPf_k, jx_pf_h, sUf_k, sSt_k, jx_st_h, sSta_k, jx_sta_h, jx_el, sUst_k, sRet, jx_rt, sRetV, sCl_k, sThrow_h, eNew, jx_nw_h, sObj, eNa, List.getElem?_cons_zero, List.getElem?_cons_succ, List.set_cons_zero, List.set_cons_succ, List.cons_append, List.nil_append, List.replicate_succ, List.replicate_zero, List.length_cons, List.length_nil, List.all_cons, List.all_nil, Value.category, Bool.and_true, Bool.true_and, Bool.and_self, beq_self_eq_true, and_self, and_true, true_and, if_true, if_false, ite_true, ite_false, eq_self, List.mem_cons, List.mem_singleton, List.not_mem_nil, or_false, true_or, or_true, false_or, Nat.reduceSub, Nat.reduceAdd, decide_true, decide_false, Bool.not_true, Bool.not_false, Nat.zero_add, Bool.false_eq_true, va_rf, reduceCtorEq, Nat.reduceEqDiff, Nat.reduceLT, Nat.reduceMul, Nat.lt_irrefl, rNe_b, rEq_b, jx_ft_b, jx_ix_nI, rLt_n, rGe_n, rGt_n, rLe_n, rEq_n, rNe_n, rGt_0, rEq_0, rNe_0, rLt_0, rGe_0, rLe_0, nI_1s, kU_ok, kU_r, kA_ok, kA_r, kC_t, kC_f, kC_r, kO_ok, kO_l, kO_r, kE_ok, kN_ok, kR_ok, kE_t, kE_f, kN_t, kN_f, kR_t, kR_f, mH_1, mH_21, mH_md, mH_m1, mH_m2, mH_m3, mH_m4, mH_m5, mS, mS0, mS1, mS_fs, mS_fd, mS_fn, pm_eta, ov_1, ov_21, ov_sh, ov_da, ov_dk, ov_sl, ov_dt, ov_pn, ov_wd, ov_md, ov_m1, ov_m2, ov_m3, ov_m4, ov_m5, ov_fo, hs_m_th, hs_m_fp, hs_m_fs, hs_m_fd, hs_m_on, hs_m_on0, hs_m_on1, hs_m_lf, hs_m_ft, hs_m_fn, hs_m_mo, hs_m_cv, hs_m_cl, hs_m_ct, hs_m_cp, hs_c_t, hs_c_mv, hs_c_lf, hs_c_on, hs_c_on0, hs_c_on1, hs_c_wd, hs_c_pr, hs_c_sl, hs_c_dt, hs_fo, b2i_t, b2i_f, Bool.true_or, Bool.false_or, Bool.or_true, Bool.or_false, Bool.false_and, Bool.and_false, f_Md_start, bd_Md_start, mX, q0, q1, q2, q3]
  · rw [show sp_start (pr, (sl, dt, true, lf, mo), T, cv, cl, ct, cp) = (1, nI 0, (pr, (sl, dt, true, lf, mo), T, cv, cl, ct, cp)) from rfl]
    simp (disch := first | omega | assumption) only [jx_fn, jx_b_ok, jx_kb_ok, jx_b_inl, jx_kb_inl, jx_b_inr, jx_kb_inr, eInt, eNull, eI, eA, eBin, jx_op, oAdd_n, oMul_n, cCmp, cCmp0, jx_cp, cNull, jx_nl, cNot, cAnd_k, cOr_k, cIte_c, eIte_k, ck_ite, bf_and, bf_or, bf_not, ck_int, ck_10, ck_nI, cond_true, cond_false, oSub_g, nIs_le, oDiv_s, ck_n10, eGf, jx_gf, eLd, jx_ld, eLda, jx_lda, eLen, jx_len, eCl, jx_as, jx_ec, jx_ev, jx_es, jx_tb, sAsg_k, jx_set, jx_ft_int, jx_ft_ref, jx_ft_null, jx_ft_z0, jx_ft_z1, sSeq_k, sIf_k, sSkip, sInc, sPf_k, jx_pf_h, sUf_k, sSt_k, jx_st_h, sSta_k, jx_sta_h, jx_el, sUst_k, sRet, jx_rt, sRetV, sCl_k, sThrow_h, eNew, jx_nw_h, sObj, eNa, List.getElem?_cons_zero, List.getElem?_cons_succ, List.set_cons_zero, List.set_cons_succ, List.cons_append, List.nil_append, List.replicate_succ, List.replicate_zero, List.length_cons, List.length_nil, List.all_cons, List.all_nil, Value.category, Bool.and_true, Bool.true_and, Bool.and_self, beq_self_eq_true, and_self, and_true, true_and, if_true, if_false, ite_true, ite_false, eq_self, List.mem_cons, List.mem_singleton, List.not_mem_nil, or_false, true_or, or_true, false_or, Nat.reduceSub, Nat.reduceAdd, decide_true, decide_false, Bool.not_true, Bool.not_false, Nat.zero_add, Bool.false_eq_true, va_rf, reduceCtorEq, Nat.reduceEqDiff, Nat.reduceLT, Nat.reduceMul, Nat.lt_irrefl, rNe_b, rEq_b, jx_ft_b, jx_ix_nI, rLt_n, rGe_n, rGt_n, rLe_n, rEq_n, rNe_n, rGt_0, rEq_0, rNe_0, rLt_0, rGe_0, rLe_0, nI_1s, kU_ok, kU_r, kA_ok, kA_r, kC_t, kC_f, kC_r, kO_ok, kO_l, kO_r, kE_ok, kN_ok, kR_ok, kE_t, kE_f, kN_t, kN_f, kR_t, kR_f, mH_1, mH_21, mH_md, mH_m1, mH_m2, mH_m3, mH_m4, mH_m5, mS, mS0, mS1, mS_fs, mS_fd, mS_fn, pm_eta, ov_1, ov_21, ov_sh, ov_da, ov_dk, ov_sl, ov_dt, ov_pn, ov_wd, ov_md, ov_m1, ov_m2, ov_m3, ov_m4, ov_m5, ov_fo, hs_m_th, hs_m_fp, hs_m_fs, hs_m_fd, hs_m_on, hs_m_on0, hs_m_on1, hs_m_lf, hs_m_ft, hs_m_fn, hs_m_mo, hs_m_cv, hs_m_cl, hs_m_ct, hs_m_cp, hs_c_t, hs_c_mv, hs_c_lf, hs_c_on, hs_c_on0, hs_c_on1, hs_c_wd, hs_c_pr, hs_c_sl, hs_c_dt, hs_fo, b2i_t, b2i_f, Bool.true_or, Bool.false_or, Bool.or_true, Bool.or_false, Bool.false_and, Bool.and_false, f_Md_start, bd_Md_start, mX]
end MO
