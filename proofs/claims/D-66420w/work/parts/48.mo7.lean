/-! THE MODEL's CALLS: make, grow -/
theorem wh_scan {c : jx_Cx} {A : jx_St} {h : jx_S} (S : Nat → List Value) (N : Nat) (g : Nat → Bool) (hc : ∀ k, k < N → c (S k) h = jx_ok (!g k) h) (hA : ∀ k, k < N → ∀ K', A K' (S k) h = K' (S (k + 1)) h) (hN : c (S N) h = jx_ok false h) : ∀ (n i m : Nat), i + m = N → m < n → ∀ K, sWh n c A K (S i) h = K (S ((scn g i m).getD N)) h := by
  intro n
  induction n with
  | zero => intro i m _ h; omega
  | succ n ih =>
    intro i m hi hn K
    unfold sWh
    cases m with
    | zero =>
      have e : i = N := by omega
      subst e
      rw [hN]
      rfl
    | succ m =>
      rw [hc i (by omega)]
      simp only [scn]
      cases hg : g i
      · show A (sWh n c A K) (S i) h = _
        rw [hA i (by omega)]
        exact ih (i + 1) m (by omega) (by omega) K
      · rfl
theorem scn_some {g : Nat → Bool} : ∀ (m i p : Nat), scn g i m = some p → ∀ k, i ≤ k → k < p → g k = false
  | 0, i, p, h => by cases h
  | m + 1, i, p, h => by
    simp only [scn] at h
    intro k h1 h2
    cases hg : g i <;> rw [hg] at h
    · by_cases e : k = i
      · subst e; exact hg
      · exact scn_some m (i + 1) p h k (by omega) h2
    · have e : i = p := Option.some.inj h
      omega
theorem bg_base {T : Nat → Nat} (fn : Nat → Int32) : ∀ k, k < 49 → (fun k => if k < 51 then wds T k else fn k) k = nI (T k) := by
  intro k h2
  dsimp only
  rw [if_pos (by omega), wds_lo _ h2]
theorem nx1_f {s : xS} {U : Nat → Nat} {f : Nat → Int32} (h : ∀ k, k < 49 → f k = nI (U k)) : ∀ k, 1 ≤ k → k < 49 → f k = nI (nx1 s U k) := by
  intro k h1 h2
  unfold nx1
  rw [upN_ne _ (by omega), h k h2]
theorem nx1_lt {s : xS} {U : Nat → Nat} (h : ∀ k, U k < 2 ^ 31) (h0 : s.2.2.1 0 < 2 ^ 30) : ∀ k, nx1 s U k < 2 ^ 31 := upN_lt h (by cases absn s.2.2.1 s.1 <;> simp <;> omega)
theorem TB.said {N : Nat → Nat} (h : TB N) {v c e k : Nat} (hv : v < 4) (hk : k ≤ 2) (hc : 1 ≤ c) (hc3 : c ≤ 3) (he : e ≤ 5) : TB (upN N (5 + v) (1 + k + 4 * c + 32 * e)) ∧ elsN (upN N (5 + v) (1 + k + 4 * c + 32 * e)) v = e := by
  obtain ⟨h1, h2, h3, h4⟩ := h
  have ee : elsN (upN N (5 + v) (1 + k + 4 * c + 32 * e)) v = e := by
    unfold elsN; rw [upN_same]; omega
  refine ⟨⟨upN_lt h1 (by omega), fun d hd => ?_, fun u hu => ?_, fun q hq => ?_⟩, ee⟩
  · rw [upN_ne _ (by omega)]; exact h2 d hd
  · by_cases e1 : u = v
    · subst e1
      refine ⟨fun _ => ?_, by rw [ee]; exact he⟩
      unfold colsN
      rw [upN_same]
      omega
    · unfold colsN elsN
      rw [upN_ne _ (by omega)]
      exact h3 u hu
  · rw [upN_ne _ (by omega)]; exact h4 q hq
theorem fits_n {c : Nat} {n : Int32} (hc : 0 < c) (hc2 : c < 8) (h : fitsB (nI c) n = true) : ∃ m, 1 ≤ m ∧ m ≤ 5 ∧ n = nI m ∧ m % c = 0 := by
  unfold fitsB at h
  simp only [Bool.and_eq_true] at h
  obtain ⟨⟨h1, h2⟩, h3⟩ := h
  obtain ⟨m, e1, rfl⟩ := rng (v := n) (L := 6) (by decide) (by
    rw [Bool.and_eq_true]
    refine ⟨decide_eq_true (Int32.le_trans (by decide : (0 : Int32) ≤ nI 1) (of_decide_eq_true h1)), ?_⟩
    exact decide_eq_true (Int32.lt_of_le_of_lt (of_decide_eq_true h2) (by decide)))
  rw [rGe_n (by omega) (by decide)] at h1
  have e2 : oRem (nI m) (nI c) = some (nI (m % c)) := oRem_n (by omega) hc (by omega)
  have e3 : oRem (nI m) (nI c) = some (nI m - nI m / nI c * nI c) := by unfold oRem; rw [if_neg (nI_ne0 hc (by omega))]
  have e4 : nI m - nI m / nI c * nI c = nI (m % c) := Option.some.inj (e3.symm.trans e2)
  have hm : m % c < 8 := Nat.lt_of_le_of_lt (Nat.mod_le _ _) (by omega)
  rw [e4, rEq_0 (by omega)] at h3
  exact ⟨m, of_decide_eq_true h1, by omega, rfl, of_decide_eq_true h3⟩
section MO
variable (h : jx_S) (b : Nat) (C : cC) (fo : Nat → Int64) (th : Int32) (s : xS) (fn : Nat → Int32)
set_option maxHeartbeats 8000000 in
theorem q_makeV (pr : Nat → Bool) (x : xA) (T : Nat → Nat) (hT : ∀ k, T k < 2 ^ 31) (cv cl ct cp : Nat) (k c e r : Int32) (K : jx_Bk) : sWh 64 lc_Md_make_0 lb_Md_make_0 K [.ref (b + 19), .int k, .int c, .int e, .int r, .int (nI 0)] (mH h b C fo th pr x T fn cv cl ct cp) = K [.ref (b + 19), .int k, .int c, .int e, .int r, .int (nI ((scn (fun v => decide (T (5 + v) = 0)) 0 4).getD 4))] (mH h b C fo th pr x T fn cv cl ct cp) := by
  refine wh_scan (fun j => [.ref (b + 19), .int k, .int c, .int e, .int r, .int (nI j)]) 4 (fun v => decide (T (5 + v) = 0)) (fun j hj => ?_) (fun j hj K' => ?_) ?_ 64 0 4 (by omega) (by omega) K
  · simp (disch := first | omega | assumption | exact hT _) only [jx_fn, jx_b_ok, jx_kb_ok, jx_b_inl, jx_kb_inl, jx_b_inr, jx_kb_inr, eInt, eNull, eI, eA, eBin, jx_op, oAdd_n, oMul_n, cCmp, cCmp0, jx_cp, cNull, jx_nl, cNot, cAnd_k, cOr_k, cIte_c, eIte_k, ck_ite, bf_and, bf_or, bf_not, ck_int, ck_10, ck_nI, cond_true, cond_false, oSub_g, nIs_le, oDiv_s, ck_n10, eGf, jx_gf, eLd, jx_ld, eLda, jx_lda, eLen, jx_len, eCl, jx_as, jx_ec, jx_ev, jx_es, jx_tb, sAsg_k, jx_set, jx_ft_int, jx_ft_ref, jx_ft_null, jx_ft_z0, jx_ft_z1, sSeq_k, sIf_k, sSkip, sInc, sPf_k, jx_pf_h, sUf_k, sSt_k, jx_st_h, sSta_k, jx_sta_h, jx_el, sUst_k, sRet, jx_rt, sRetV, sCl_k, sThrow_h, eNew, jx_nw_h, sObj, eNa, List.getElem?_cons_zero, List.getElem?_cons_succ, List.set_cons_zero, List.set_cons_succ, List.cons_append, List.nil_append, List.replicate_succ, List.replicate_zero, List.length_cons, List.length_nil, List.all_cons, List.all_nil, Value.category, Bool.and_true, Bool.true_and, Bool.and_self, beq_self_eq_true, and_self, and_true, true_and, if_true, if_false, ite_true, ite_false, eq_self, List.mem_cons, List.mem_singleton, List.not_mem_nil, or_false, true_or, or_true, false_or, Nat.reduceSub, Nat.reduceAdd, decide_true, decide_false, Bool.not_true, Bool.not_false, Nat.zero_add, Bool.false_eq_true, va_rf, reduceCtorEq, Nat.reduceEqDiff, Nat.reduceLT, Nat.reduceMul, Nat.lt_irrefl, rNe_b, rEq_b, jx_ft_b, jx_ix_nI, rLt_n, rGe_n, rGt_n, rLe_n, rEq_n, rNe_n, rGt_0, rEq_0, rNe_0, rLt_0, rGe_0, rLe_0, nI_1s, kU_ok, kU_r, kA_ok, kA_r, kC_t, kC_f, kC_r, kO_ok, kO_l, kO_r, kE_ok, kN_ok, kR_ok, kE_t, kE_f, kN_t, kN_f, kR_t, kR_f, mH_1, mH_21, mH_md, mH_m1, mH_m2, mH_m3, mH_m4, mH_m5, mS, mS0, mS1, mS_fs, mS_fd, mS_fn, pm_eta, ov_1, ov_21, ov_sh, ov_da, ov_dk, ov_sl, ov_dt, ov_pn, ov_wd, ov_md, ov_m1, ov_m2, ov_m3, ov_m4, ov_m5, ov_fo, hs_m_th, hs_m_fp, hs_m_fs, hs_m_fd, hs_m_on, hs_m_on0, hs_m_on1, hs_m_lf, hs_m_ft, hs_m_fn, hs_m_mo, hs_m_cv, hs_m_cl, hs_m_ct, hs_m_cp, hs_c_t, hs_c_mv, hs_c_lf, hs_c_on, hs_c_on0, hs_c_on1, hs_c_wd, hs_c_pr, hs_c_sl, hs_c_dt, hs_fo, b2i_t, b2i_f, Bool.true_or, Bool.false_or, Bool.or_true, Bool.or_false, Bool.false_and, Bool.and_false, lc_Md_make_0, wds_lo, eq_true (show j < 4 by omega)]
  · simp (disch := first | omega | assumption | exact hT _) only [jx_fn, jx_b_ok, jx_kb_ok, jx_b_inl, jx_kb_inl, jx_b_inr, jx_kb_inr, eInt, eNull, eI, eA, eBin, jx_op, oAdd_n, oMul_n, cCmp, cCmp0, jx_cp, cNull, jx_nl, cNot, cAnd_k, cOr_k, cIte_c, eIte_k, ck_ite, bf_and, bf_or, bf_not, ck_int, ck_10, ck_nI, cond_true, cond_false, oSub_g, nIs_le, oDiv_s, ck_n10, eGf, jx_gf, eLd, jx_ld, eLda, jx_lda, eLen, jx_len, eCl, jx_as, jx_ec, jx_ev, jx_es, jx_tb, sAsg_k, jx_set, jx_ft_int, jx_ft_ref, jx_ft_null, jx_ft_z0, jx_ft_z1, sSeq_k, sIf_k, sSkip, sInc, sPf_k, jx_pf_h, sUf_k, sSt_k, jx_st_h, sSta_k, jx_sta_h, jx_el, sUst_k, sRet, jx_rt, sRetV, sCl_k, sThrow_h, eNew, jx_nw_h, sObj, eNa, List.getElem?_cons_zero, List.getElem?_cons_succ, List.set_cons_zero, List.set_cons_succ, List.cons_append, List.nil_append, List.replicate_succ, List.replicate_zero, List.length_cons, List.length_nil, List.all_cons, List.all_nil, Value.category, Bool.and_true, Bool.true_and, Bool.and_self, beq_self_eq_true, and_self, and_true, true_and, if_true, if_false, ite_true, ite_false, eq_self, List.mem_cons, List.mem_singleton, List.not_mem_nil, or_false, true_or, or_true, false_or, Nat.reduceSub, Nat.reduceAdd, decide_true, decide_false, Bool.not_true, Bool.not_false, Nat.zero_add, Bool.false_eq_true, va_rf, reduceCtorEq, Nat.reduceEqDiff, Nat.reduceLT, Nat.reduceMul, Nat.lt_irrefl, rNe_b, rEq_b, jx_ft_b, jx_ix_nI, rLt_n, rGe_n, rGt_n, rLe_n, rEq_n, rNe_n, rGt_0, rEq_0, rNe_0, rLt_0, rGe_0, rLe_0, nI_1s, kU_ok, kU_r, kA_ok, kA_r, kC_t, kC_f, kC_r, kO_ok, kO_l, kO_r, kE_ok, kN_ok, kR_ok, kE_t, kE_f, kN_t, kN_f, kR_t, kR_f, mH_1, mH_21, mH_md, mH_m1, mH_m2, mH_m3, mH_m4, mH_m5, mS, mS0, mS1, mS_fs, mS_fd, mS_fn, pm_eta, ov_1, ov_21, ov_sh, ov_da, ov_dk, ov_sl, ov_dt, ov_pn, ov_wd, ov_md, ov_m1, ov_m2, ov_m3, ov_m4, ov_m5, ov_fo, hs_m_th, hs_m_fp, hs_m_fs, hs_m_fd, hs_m_on, hs_m_on0, hs_m_on1, hs_m_lf, hs_m_ft, hs_m_fn, hs_m_mo, hs_m_cv, hs_m_cl, hs_m_ct, hs_m_cp, hs_c_t, hs_c_mv, hs_c_lf, hs_c_on, hs_c_on0, hs_c_on1, hs_c_wd, hs_c_pr, hs_c_sl, hs_c_dt, hs_fo, b2i_t, b2i_f, Bool.true_or, Bool.false_or, Bool.or_true, Bool.or_false, Bool.false_and, Bool.and_false, lb_Md_make_0]
  · simp (disch := first | omega | assumption | exact hT _) only [jx_fn, jx_b_ok, jx_kb_ok, jx_b_inl, jx_kb_inl, jx_b_inr, jx_kb_inr, eInt, eNull, eI, eA, eBin, jx_op, oAdd_n, oMul_n, cCmp, cCmp0, jx_cp, cNull, jx_nl, cNot, cAnd_k, cOr_k, cIte_c, eIte_k, ck_ite, bf_and, bf_or, bf_not, ck_int, ck_10, ck_nI, cond_true, cond_false, oSub_g, nIs_le, oDiv_s, ck_n10, eGf, jx_gf, eLd, jx_ld, eLda, jx_lda, eLen, jx_len, eCl, jx_as, jx_ec, jx_ev, jx_es, jx_tb, sAsg_k, jx_set, jx_ft_int, jx_ft_ref, jx_ft_null, jx_ft_z0, jx_ft_z1, sSeq_k, sIf_k, sSkip, sInc, sPf_k, jx_pf_h, sUf_k, sSt_k, jx_st_h, sSta_k, jx_sta_h, jx_el, sUst_k, sRet, jx_rt, sRetV, sCl_k, sThrow_h, eNew, jx_nw_h, sObj, eNa, List.getElem?_cons_zero, List.getElem?_cons_succ, List.set_cons_zero, List.set_cons_succ, List.cons_append, List.nil_append, List.replicate_succ, List.replicate_zero, List.length_cons, List.length_nil, List.all_cons, List.all_nil, Value.category, Bool.and_true, Bool.true_and, Bool.and_self, beq_self_eq_true, and_self, and_true, true_and, if_true, if_false, ite_true, ite_false, eq_self, List.mem_cons, List.mem_singleton, List.not_mem_nil, or_false, true_or, or_true, false_or, Nat.reduceSub, Nat.reduceAdd, decide_true, decide_false, Bool.not_true, Bool.not_false, Nat.zero_add, Bool.false_eq_true, va_rf, reduceCtorEq, Nat.reduceEqDiff, Nat.reduceLT, Nat.reduceMul, Nat.lt_irrefl, rNe_b, rEq_b, jx_ft_b, jx_ix_nI, rLt_n, rGe_n, rGt_n, rLe_n, rEq_n, rNe_n, rGt_0, rEq_0, rNe_0, rLt_0, rGe_0, rLe_0, nI_1s, kU_ok, kU_r, kA_ok, kA_r, kC_t, kC_f, kC_r, kO_ok, kO_l, kO_r, kE_ok, kN_ok, kR_ok, kE_t, kE_f, kN_t, kN_f, kR_t, kR_f, mH_1, mH_21, mH_md, mH_m1, mH_m2, mH_m3, mH_m4, mH_m5, mS, mS0, mS1, mS_fs, mS_fd, mS_fn, pm_eta, ov_1, ov_21, ov_sh, ov_da, ov_dk, ov_sl, ov_dt, ov_pn, ov_wd, ov_md, ov_m1, ov_m2, ov_m3, ov_m4, ov_m5, ov_fo, hs_m_th, hs_m_fp, hs_m_fs, hs_m_fd, hs_m_on, hs_m_on0, hs_m_on1, hs_m_lf, hs_m_ft, hs_m_fn, hs_m_mo, hs_m_cv, hs_m_cl, hs_m_ct, hs_m_cp, hs_c_t, hs_c_mv, hs_c_lf, hs_c_on, hs_c_on0, hs_c_on1, hs_c_wd, hs_c_pr, hs_c_sl, hs_c_dt, hs_fo, b2i_t, b2i_f, Bool.true_or, Bool.false_or, Bool.or_true, Bool.or_false, Bool.false_and, Bool.and_false, lc_Md_make_0]
set_option maxHeartbeats 8000000 in
theorem o_make (hs : IM s) (k c e : Int32) : ∃ fn', f_Md_make [.ref (b + 19), .int k, .int c, .int e] (mX h b C fo th s fn) = some (.returned (some (.int (sp_make k c e s).2.1)), mX h b C fo (nI (sp_make k c e s).1) (sp_make k c e s).2.2 fn') := by
  obtain ⟨pr, ⟨sl, dt, on, lf, mo⟩, T, cv, cl, ct, cp⟩ := s
  obtain ⟨hW, hcv, hcl, hct, hcp, hmo, h30⟩ := hs
  dsimp only at hW hcv hcl hct hcp hmo h30
  have hT := hW.1
  cases on
  · refine ⟨fn, ?_⟩
    rw [show sp_make k c e (pr, (sl, dt, false, lf, mo), T, cv, cl, ct, cp) = (1, nI 0, (pr, (sl, dt, false, lf, mo), T, cv, cl, ct, cp)) from rfl]
    simp (disch := first | omega | assumption | exact hT _) only [jx_fn, jx_b_ok, jx_kb_ok, jx_b_inl, jx_kb_inl, jx_b_inr, jx_kb_inr, eInt, eNull, eI, eA, eBin, jx_op, oAdd_n, oMul_n, cCmp, cCmp0, jx_cp, cNull, jx_nl, cNot, cAnd_k, cOr_k, cIte_c, eIte_k, ck_ite, bf_and, bf_or, bf_not, ck_int, ck_10, ck_nI, cond_true, cond_false, oSub_g, nIs_le, oDiv_s, ck_n10, eGf, jx_gf, eLd, jx_ld, eLda, jx_lda, eLen, jx_len, eCl, jx_as, jx_ec, jx_ev, jx_es, jx_tb, sAsg_k, jx_set, jx_ft_int, jx_ft_ref, jx_ft_null, jx_ft_z0, jx_ft_z1, sSeq_k, sIf_k, sSkip, sInc, sPf_k, jx_pf_h, sUf_k, sSt_k, jx_st_h, sSta_k, jx_sta_h, jx_el, sUst_k, sRet, jx_rt, sRetV, sCl_k, sThrow_h, eNew, jx_nw_h, sObj, eNa, List.getElem?_cons_zero, List.getElem?_cons_succ, List.set_cons_zero, List.set_cons_succ, List.cons_append, List.nil_append, List.replicate_succ, List.replicate_zero, List.length_cons, List.length_nil, List.all_cons, List.all_nil, Value.category, Bool.and_true, Bool.true_and, Bool.and_self, beq_self_eq_true, and_self, and_true, true_and, if_true, if_false, ite_true, ite_false, eq_self, List.mem_cons, List.mem_singleton, List.not_mem_nil, or_false, true_or, or_true, false_or, Nat.reduceSub, Nat.reduceAdd, decide_true, decide_false, Bool.not_true, Bool.not_false, Nat.zero_add, Bool.false_eq_true, va_rf, reduceCtorEq, Nat.reduceEqDiff, Nat.reduceLT, Nat.reduceMul, Nat.lt_irrefl, rNe_b, rEq_b, jx_ft_b, jx_ix_nI, rLt_n, rGe_n, rGt_n, rLe_n, rEq_n, rNe_n, rGt_0, rEq_0, rNe_0, rLt_0, rGe_0, rLe_0, nI_1s, kU_ok, kU_r, kA_ok, kA_r, kC_t, kC_f, kC_r, kO_ok, kO_l, kO_r, kE_ok, kN_ok, kR_ok, kE_t, kE_f, kN_t, kN_f, kR_t, kR_f, mH_1, mH_21, mH_md, mH_m1, mH_m2, mH_m3, mH_m4, mH_m5, mS, mS0, mS1, mS_fs, mS_fd, mS_fn, pm_eta, ov_1, ov_21, ov_sh, ov_da, ov_dk, ov_sl, ov_dt, ov_pn, ov_wd, ov_md, ov_m1, ov_m2, ov_m3, ov_m4, ov_m5, ov_fo, hs_m_th, hs_m_fp, hs_m_fs, hs_m_fd, hs_m_on, hs_m_on0, hs_m_on1, hs_m_lf, hs_m_ft, hs_m_fn, hs_m_mo, hs_m_cv, hs_m_cl, hs_m_ct, hs_m_cp, hs_c_t, hs_c_mv, hs_c_lf, hs_c_on, hs_c_on0, hs_c_on1, hs_c_wd, hs_c_pr, hs_c_sl, hs_c_dt, hs_fo, b2i_t, b2i_f, Bool.true_or, Bool.false_or, Bool.or_true, Bool.or_false, Bool.false_and, Bool.and_false, f_Md_make, bd_Md_make, mX]
  · cases h1 : (rGe k 0 && rLt k (nI 3) && (bif rEq k (nI 1) then rEq c (nI 2) || rEq c (nI 3) else rEq c (nI 1)))
    · refine ⟨fn, ?_⟩
      rw [show sp_make k c e (pr, (sl, dt, true, lf, mo), T, cv, cl, ct, cp) = (2, nI 0, (pr, (sl, dt, true, lf, mo), T, cv, cl, ct, cp)) from by
        simp only [sp_make, h1, Bool.not_true, Bool.not_false, cond_true, cond_false, Bool.true_or]]
      simp (disch := first | omega | assumption | exact hT _) only [jx_fn, jx_b_ok, jx_kb_ok, jx_b_inl, jx_kb_inl, jx_b_inr, jx_kb_inr, eInt, eNull, eI, eA, eBin, jx_op, oAdd_n, oMul_n, cCmp, cCmp0, jx_cp, cNull, jx_nl, cNot, cAnd_k, cOr_k, cIte_c, eIte_k, ck_ite, bf_and, bf_or, bf_not, ck_int, ck_10, ck_nI, cond_true, cond_false, oSub_g, nIs_le, oDiv_s, ck_n10, eGf, jx_gf, eLd, jx_ld, eLda, jx_lda, eLen, jx_len, eCl, jx_as, jx_ec, jx_ev, jx_es, jx_tb, sAsg_k, jx_set, jx_ft_int, jx_ft_ref, jx_ft_null, jx_ft_z0, jx_ft_z1, sSeq_k, sIf_k, sSkip, sInc, sPf_k, jx_pf_h, sUf_k, sSt_k, jx_st_h, sSta_k, jx_sta_h, jx_el, sUst_k, sRet, jx_rt, sRetV, sCl_k, sThrow_h, eNew, jx_nw_h, sObj, eNa, List.getElem?_cons_zero, List.getElem?_cons_succ, List.set_cons_zero, List.set_cons_succ, List.cons_append, List.nil_append, List.replicate_succ, List.replicate_zero, List.length_cons, List.length_nil, List.all_cons, List.all_nil, Value.category, Bool.and_true, Bool.true_and, Bool.and_self, beq_self_eq_true, and_self, and_true, true_and, if_true, if_false, ite_true, ite_false, eq_self, List.mem_cons, List.mem_singleton, List.not_mem_nil, or_false, true_or, or_true, false_or, Nat.reduceSub, Nat.reduceAdd, decide_true, decide_false, Bool.not_true, Bool.not_false, Nat.zero_add, Bool.false_eq_true, va_rf, reduceCtorEq, Nat.reduceEqDiff, Nat.reduceLT, Nat.reduceMul, Nat.lt_irrefl, rNe_b, rEq_b, jx_ft_b, jx_ix_nI, rLt_n, rGe_n, rGt_n, rLe_n, rEq_n, rNe_n, rGt_0, rEq_0, rNe_0, rLt_0, rGe_0, rLe_0, nI_1s, kU_ok, kU_r, kA_ok, kA_r, kC_t, kC_f, kC_r, kO_ok, kO_l, kO_r, kE_ok, kN_ok, kR_ok, kE_t, kE_f, kN_t, kN_f, kR_t, kR_f, mH_1, mH_21, mH_md, mH_m1, mH_m2, mH_m3, mH_m4, mH_m5, mS, mS0, mS1, mS_fs, mS_fd, mS_fn, pm_eta, ov_1, ov_21, ov_sh, ov_da, ov_dk, ov_sl, ov_dt, ov_pn, ov_wd, ov_md, ov_m1, ov_m2, ov_m3, ov_m4, ov_m5, ov_fo, hs_m_th, hs_m_fp, hs_m_fs, hs_m_fd, hs_m_on, hs_m_on0, hs_m_on1, hs_m_lf, hs_m_ft, hs_m_fn, hs_m_mo, hs_m_cv, hs_m_cl, hs_m_ct, hs_m_cp, hs_c_t, hs_c_mv, hs_c_lf, hs_c_on, hs_c_on0, hs_c_on1, hs_c_wd, hs_c_pr, hs_c_sl, hs_c_dt, hs_fo, b2i_t, b2i_f, Bool.true_or, Bool.false_or, Bool.or_true, Bool.or_false, Bool.false_and, Bool.and_false, f_Md_make, bd_Md_make, mX, h1]
    · have h1' := h1
      simp only [Bool.and_eq_true] at h1'
      obtain ⟨⟨g1, g2⟩, g3⟩ := h1'
      obtain ⟨k', e1, rfl⟩ := rng (v := k) (L := 3) (by decide) (by rw [g1, g2]; rfl)
      have hc : ∃ c', 1 ≤ c' ∧ c' ≤ 3 ∧ c = nI c' := by
        cases h2 : rEq (nI k') (nI 1) <;> rw [h2] at g3
        · exact ⟨1, by omega, by omega, of_decide_eq_true g3⟩
        · rcases Bool.or_eq_true _ _ ▸ g3 with g | g
          · exact ⟨2, by omega, by omega, of_decide_eq_true g⟩
          · exact ⟨3, by omega, by omega, of_decide_eq_true g⟩
      obtain ⟨c', hc1, hc3, rfl⟩ := hc
      have q3 := fun th' => q_Md_fits (mH h b C fo th' pr (sl, dt, true, lf, mo) T fn cv cl ct cp) c' e (by omega) (by omega)
      have qa := fun th' => q_Md_isOneAbsentT h b C fo th' pr (sl, dt, true, lf, mo) T fn cv cl ct cp hT
      have asg : (decide (k' < 3) && bif decide (k' = 1) then decide (c' = 2) || decide (c' = 3) else decide (c' = 1)) = true := by
        have hk : k' = 0 ∨ k' = 1 ∨ k' = 2 := by omega
        have hcc : c' = 1 ∨ c' = 2 ∨ c' = 3 := by omega
        rcases hk with rfl | rfl | rfl <;> rcases hcc with rfl | rfl | rfl <;> first | rfl | (exact absurd h1 (by decide))
      cases h4 : fitsB (nI c') e
      · refine ⟨fn, ?_⟩
        rw [show sp_make (nI k') (nI c') e (pr, (sl, dt, true, lf, mo), T, cv, cl, ct, cp) = (2, nI 0, (pr, (sl, dt, true, lf, mo), T, cv, cl, ct, cp)) from by
          simp only [sp_make, h1, h4, Bool.not_true, Bool.not_false, cond_true, cond_false, Bool.or_true]]
        simp (disch := first | omega | assumption | exact hT _) only [jx_fn, jx_b_ok, jx_kb_ok, jx_b_inl, jx_kb_inl, jx_b_inr, jx_kb_inr, eInt, eNull, eI, eA, eBin, jx_op, oAdd_n, oMul_n, cCmp, cCmp0, jx_cp, cNull, jx_nl, cNot, cAnd_k, cOr_k, cIte_c, eIte_k, ck_ite, bf_and, bf_or, bf_not, ck_int, ck_10, ck_nI, cond_true, cond_false, oSub_g, nIs_le, oDiv_s, ck_n10, eGf, jx_gf, eLd, jx_ld, eLda, jx_lda, eLen, jx_len, eCl, jx_as, jx_ec, jx_ev, jx_es, jx_tb, sAsg_k, jx_set, jx_ft_int, jx_ft_ref, jx_ft_null, jx_ft_z0, jx_ft_z1, sSeq_k, sIf_k, sSkip, sInc, sPf_k, jx_pf_h, sUf_k, sSt_k, jx_st_h, sSta_k, jx_sta_h, jx_el, sUst_k, sRet, jx_rt, sRetV, sCl_k, sThrow_h, eNew, jx_nw_h, sObj, eNa, List.getElem?_cons_zero, List.getElem?_cons_succ, List.set_cons_zero, List.set_cons_succ, List.cons_append, List.nil_append, List.replicate_succ, List.replicate_zero, List.length_cons, List.length_nil, List.all_cons, List.all_nil, Value.category, Bool.and_true, Bool.true_and, Bool.and_self, beq_self_eq_true, and_self, and_true, true_and, if_true, if_false, ite_true, ite_false, eq_self, List.mem_cons, List.mem_singleton, List.not_mem_nil, or_false, true_or, or_true, false_or, Nat.reduceSub, Nat.reduceAdd, decide_true, decide_false, Bool.not_true, Bool.not_false, Nat.zero_add, Bool.false_eq_true, va_rf, reduceCtorEq, Nat.reduceEqDiff, Nat.reduceLT, Nat.reduceMul, Nat.lt_irrefl, rNe_b, rEq_b, jx_ft_b, jx_ix_nI, rLt_n, rGe_n, rGt_n, rLe_n, rEq_n, rNe_n, rGt_0, rEq_0, rNe_0, rLt_0, rGe_0, rLe_0, nI_1s, kU_ok, kU_r, kA_ok, kA_r, kC_t, kC_f, kC_r, kO_ok, kO_l, kO_r, kE_ok, kN_ok, kR_ok, kE_t, kE_f, kN_t, kN_f, kR_t, kR_f, mH_1, mH_21, mH_md, mH_m1, mH_m2, mH_m3, mH_m4, mH_m5, mS, mS0, mS1, mS_fs, mS_fd, mS_fn, pm_eta, ov_1, ov_21, ov_sh, ov_da, ov_dk, ov_sl, ov_dt, ov_pn, ov_wd, ov_md, ov_m1, ov_m2, ov_m3, ov_m4, ov_m5, ov_fo, hs_m_th, hs_m_fp, hs_m_fs, hs_m_fd, hs_m_on, hs_m_on0, hs_m_on1, hs_m_lf, hs_m_ft, hs_m_fn, hs_m_mo, hs_m_cv, hs_m_cl, hs_m_ct, hs_m_cp, hs_c_t, hs_c_mv, hs_c_lf, hs_c_on, hs_c_on0, hs_c_on1, hs_c_wd, hs_c_pr, hs_c_sl, hs_c_dt, hs_fo, b2i_t, b2i_f, Bool.true_or, Bool.false_or, Bool.or_true, Bool.or_false, Bool.false_and, Bool.and_false, f_Md_make, bd_Md_make, mX, asg, q3, h4]
      · obtain ⟨e', he1, he5, rfl, hem⟩ := fits_n (by omega) (by omega) h4
        have ce : (nI e').toNatClampNeg = e' := clampI _ (by omega)
        have ck : (nI k').toNatClampNeg = k' := clampI _ (by omega)
        have cc : (nI c').toNatClampNeg = c' := clampI _ (by omega)
        cases h5 : absn T pr
        · have qv := fun th' r K => q_makeV h b C fo th' fn pr (sl, dt, true, lf, mo) T hT cv cl ct cp (nI k') (nI c') (nI e') r K
          have qb := q_Md_begin h b C fo (nI 0) pr (sl, dt, true, lf, mo) T fn cv cl ct cp
          cases h6 : scn (fun v => decide (T (5 + v) = 0)) 0 4 with
          | none =>
            refine ⟨fun k => if k < 51 then wds T k else fn k, ?_⟩
            rw [show sp_make (nI k') (nI c') (nI e') (pr, (sl, dt, true, lf, mo), T, cv, cl, ct, cp) = (3, nI 0, (pr, (sl, dt, true, lf, mo), T, cv, cl, ct, cp)) from by
              simp only [sp_make, h1, h4, h5, h6, Bool.not_true, Bool.not_false, cond_true, cond_false, Bool.or_self]]
            have qv' : ∀ th' r K, _ := qv
            simp only [h6, Option.getD_none] at qv'
            simp (disch := first | omega | assumption | exact hT _) only [jx_fn, jx_b_ok, jx_kb_ok, jx_b_inl, jx_kb_inl, jx_b_inr, jx_kb_inr, eInt, eNull, eI, eA, eBin, jx_op, oAdd_n, oMul_n, cCmp, cCmp0, jx_cp, cNull, jx_nl, cNot, cAnd_k, cOr_k, cIte_c, eIte_k, ck_ite, bf_and, bf_or, bf_not, ck_int, ck_10, ck_nI, cond_true, cond_false, oSub_g, nIs_le, oDiv_s, ck_n10, eGf, jx_gf, eLd, jx_ld, eLda, jx_lda, eLen, jx_len, eCl, jx_as, jx_ec, jx_ev, jx_es, jx_tb, sAsg_k, jx_set, jx_ft_int, jx_ft_ref, jx_ft_null, jx_ft_z0, jx_ft_z1, sSeq_k, sIf_k, sSkip, sInc, sPf_k, jx_pf_h, sUf_k, sSt_k, jx_st_h, sSta_k, jx_sta_h, jx_el, sUst_k, sRet, jx_rt, sRetV, sCl_k, sThrow_h, eNew, jx_nw_h, sObj, eNa, List.getElem?_cons_zero, List.getElem?_cons_succ, List.set_cons_zero, List.set_cons_succ, List.cons_append, List.nil_append, List.replicate_succ, List.replicate_zero, List.length_cons, List.length_nil, List.all_cons, List.all_nil, Value.category, Bool.and_true, Bool.true_and, Bool.and_self, beq_self_eq_true, and_self, and_true, true_and, if_true, if_false, ite_true, ite_false, eq_self, List.mem_cons, List.mem_singleton, List.not_mem_nil, or_false, true_or, or_true, false_or, Nat.reduceSub, Nat.reduceAdd, decide_true, decide_false, Bool.not_true, Bool.not_false, Nat.zero_add, Bool.false_eq_true, va_rf, reduceCtorEq, Nat.reduceEqDiff, Nat.reduceLT, Nat.reduceMul, Nat.lt_irrefl, rNe_b, rEq_b, jx_ft_b, jx_ix_nI, rLt_n, rGe_n, rGt_n, rLe_n, rEq_n, rNe_n, rGt_0, rEq_0, rNe_0, rLt_0, rGe_0, rLe_0, nI_1s, kU_ok, kU_r, kA_ok, kA_r, kC_t, kC_f, kC_r, kO_ok, kO_l, kO_r, kE_ok, kN_ok, kR_ok, kE_t, kE_f, kN_t, kN_f, kR_t, kR_f, mH_1, mH_21, mH_md, mH_m1, mH_m2, mH_m3, mH_m4, mH_m5, mS, mS0, mS1, mS_fs, mS_fd, mS_fn, pm_eta, ov_1, ov_21, ov_sh, ov_da, ov_dk, ov_sl, ov_dt, ov_pn, ov_wd, ov_md, ov_m1, ov_m2, ov_m3, ov_m4, ov_m5, ov_fo, hs_m_th, hs_m_fp, hs_m_fs, hs_m_fd, hs_m_on, hs_m_on0, hs_m_on1, hs_m_lf, hs_m_ft, hs_m_fn, hs_m_mo, hs_m_cv, hs_m_cl, hs_m_ct, hs_m_cp, hs_c_t, hs_c_mv, hs_c_lf, hs_c_on, hs_c_on0, hs_c_on1, hs_c_wd, hs_c_pr, hs_c_sl, hs_c_dt, hs_fo, b2i_t, b2i_f, Bool.true_or, Bool.false_or, Bool.or_true, Bool.or_false, Bool.false_and, Bool.and_false, f_Md_make, bd_Md_make, mX, asg, q3, h4, qa, h5, qv', qb]
          | some v =>
            have hv := (scn_lt 4 0 v h6).2.1
            have qv' : ∀ th' r K, _ := qv
            simp only [h6, Option.getD_some] at qv'
            obtain ⟨tb1, el1⟩ := hW.TB.said (v := v) (c := c') (e := e') (k := k') (by omega) (by omega) hc1 hc3 he5
            have qf := q_Md_find h b C fo (nI 0) pr (sl, dt, true, lf, mo) T (upd (fun k => if k < 51 then wds T k else fn k) (5 + v) (nI (1 + k' + 4 * c' + 32 * e'))) cv cl ct cp (upN T (5 + v) (1 + k' + 4 * c' + 32 * e')) (upd_nI (bg_base fn)) tb1 v 0 (by omega) hcv hcl (by omega) (by omega)
            rw [el1] at qf
            simp only [Nat.mul_zero, Nat.sub_zero] at qf
            cases h7 : fnds (ec mo ct) cv cl pr v 0 (2 * e') (upN T (5 + v) (1 + k' + 4 * c' + 32 * e')) with
            | none =>
              rw [h7] at qf
              obtain ⟨f2, qf⟩ := qf
              refine ⟨f2, ?_⟩
              rw [show sp_make (nI k') (nI c') (nI e') (pr, (sl, dt, true, lf, mo), T, cv, cl, ct, cp) = (3, nI 0, (pr, (sl, dt, true, lf, mo), T, cv, cl, ct, cp)) from by
                simp only [sp_make, h1, h4, h5, h6, ce, ck, cc, h7, Bool.not_true, Bool.not_false, cond_true, cond_false, Bool.or_self]]
              simp (disch := first | omega | assumption | exact hT _) only [jx_fn, jx_b_ok, jx_kb_ok, jx_b_inl, jx_kb_inl, jx_b_inr, jx_kb_inr, eInt, eNull, eI, eA, eBin, jx_op, oAdd_n, oMul_n, cCmp, cCmp0, jx_cp, cNull, jx_nl, cNot, cAnd_k, cOr_k, cIte_c, eIte_k, ck_ite, bf_and, bf_or, bf_not, ck_int, ck_10, ck_nI, cond_true, cond_false, oSub_g, nIs_le, oDiv_s, ck_n10, eGf, jx_gf, eLd, jx_ld, eLda, jx_lda, eLen, jx_len, eCl, jx_as, jx_ec, jx_ev, jx_es, jx_tb, sAsg_k, jx_set, jx_ft_int, jx_ft_ref, jx_ft_null, jx_ft_z0, jx_ft_z1, sSeq_k, sIf_k, sSkip, sInc, sPf_k, jx_pf_h, sUf_k, sSt_k, jx_st_h, sSta_k, jx_sta_h, jx_el, sUst_k, sRet, jx_rt, sRetV, sCl_k, sThrow_h, eNew, jx_nw_h, sObj, eNa, List.getElem?_cons_zero, List.getElem?_cons_succ, List.set_cons_zero, List.set_cons_succ, List.cons_append, List.nil_append, List.replicate_succ, List.replicate_zero, List.length_cons, List.length_nil, List.all_cons, List.all_nil, Value.category, Bool.and_true, Bool.true_and, Bool.and_self, beq_self_eq_true, and_self, and_true, true_and, if_true, if_false, ite_true, ite_false, eq_self, List.mem_cons, List.mem_singleton, List.not_mem_nil, or_false, true_or, or_true, false_or, Nat.reduceSub, Nat.reduceAdd, decide_true, decide_false, Bool.not_true, Bool.not_false, Nat.zero_add, Bool.false_eq_true, va_rf, reduceCtorEq, Nat.reduceEqDiff, Nat.reduceLT, Nat.reduceMul, Nat.lt_irrefl, rNe_b, rEq_b, jx_ft_b, jx_ix_nI, rLt_n, rGe_n, rGt_n, rLe_n, rEq_n, rNe_n, rGt_0, rEq_0, rNe_0, rLt_0, rGe_0, rLe_0, nI_1s, kU_ok, kU_r, kA_ok, kA_r, kC_t, kC_f, kC_r, kO_ok, kO_l, kO_r, kE_ok, kN_ok, kR_ok, kE_t, kE_f, kN_t, kN_f, kR_t, kR_f, mH_1, mH_21, mH_md, mH_m1, mH_m2, mH_m3, mH_m4, mH_m5, mS, mS0, mS1, mS_fs, mS_fd, mS_fn, pm_eta, ov_1, ov_21, ov_sh, ov_da, ov_dk, ov_sl, ov_dt, ov_pn, ov_wd, ov_md, ov_m1, ov_m2, ov_m3, ov_m4, ov_m5, ov_fo, hs_m_th, hs_m_fp, hs_m_fs, hs_m_fd, hs_m_on, hs_m_on0, hs_m_on1, hs_m_lf, hs_m_ft, hs_m_fn, hs_m_mo, hs_m_cv, hs_m_cl, hs_m_ct, hs_m_cp, hs_c_t, hs_c_mv, hs_c_lf, hs_c_on, hs_c_on0, hs_c_on1, hs_c_wd, hs_c_pr, hs_c_sl, hs_c_dt, hs_fo, b2i_t, b2i_f, Bool.true_or, Bool.false_or, Bool.or_true, Bool.or_false, Bool.false_and, Bool.and_false, f_Md_make, bd_Md_make, mX, asg, q3, h4, qa, h5, qv', qb, eq_true (show v < 4 by omega), eq_false (show ¬ (v = 4) by omega), qf]
            | some N =>
              rw [h7] at qf
              obtain ⟨f2, hf2, qf⟩ := qf
              obtain ⟨tb2, lo2⟩ := fnds_TB _ _ tb1 h7
              have elN : elsN N v = e' := by
                have := lo2 (5 + v) (by omega)
                unfold elsN at el1 ⊢
                rw [this]; exact el1
              have qc1 := q_Md_clear h b C fo (nI 0) pr (sl, dt, true, lf, mo) T f2 cv cl ct cp N hf2 tb2 v 0 (by omega) (by omega)
              rw [elN] at qc1
              simp only [Nat.mul_zero, Nat.sub_zero] at qc1
              obtain ⟨F, qc⟩ := o_change h b C fo (nI 0) (setX (pr, (sl, dt, true, lf, mo), T, cv, cl, ct, cp) (clrs N v 0 (2 * e') (sl, dt, true, lf, mo))) f2 (nx1 (pr, (sl, dt, true, lf, mo), T, cv, cl, ct, cp) N) hT (nx1_lt tb2.1 h30) (upN_same _ _ _) (nx1_f hf2) hcv hcl hct
              refine ⟨F, ?_⟩
              rw [show sp_make (nI k') (nI c') (nI e') (pr, (sl, dt, true, lf, mo), T, cv, cl, ct, cp) = enS (chS (setX (pr, (sl, dt, true, lf, mo), T, cv, cl, ct, cp) (clrs N v 0 (2 * e') (sl, dt, true, lf, mo))) (nx1 (pr, (sl, dt, true, lf, mo), T, cv, cl, ct, cp) N)) (nI v) from by
                simp only [sp_make, h1, h4, h5, h6, ce, ck, cc, h7, Bool.not_true, Bool.not_false, cond_true, cond_false, Bool.or_self]]
              generalize chS (setX (pr, (sl, dt, true, lf, mo), T, cv, cl, ct, cp) (clrs N v 0 (2 * e') (sl, dt, true, lf, mo))) (nx1 (pr, (sl, dt, true, lf, mo), T, cv, cl, ct, cp) N) = S at qc ⊢
              obtain ⟨pr2, ⟨sl2, dt2, on2, lf2, mo2⟩, T2, cv2, cl2, ct2, cp2⟩ := S
              simp only [mX, setX] at qc
              cases on2 <;> simp (disch := first | omega | assumption | exact hT _) only [jx_fn, jx_b_ok, jx_kb_ok, jx_b_inl, jx_kb_inl, jx_b_inr, jx_kb_inr, eInt, eNull, eI, eA, eBin, jx_op, oAdd_n, oMul_n, cCmp, cCmp0, jx_cp, cNull, jx_nl, cNot, cAnd_k, cOr_k, cIte_c, eIte_k, ck_ite, bf_and, bf_or, bf_not, ck_int, ck_10, ck_nI, cond_true, cond_false, oSub_g, nIs_le, oDiv_s, ck_n10, eGf, jx_gf, eLd, jx_ld, eLda, jx_lda, eLen, jx_len, eCl, jx_as, jx_ec, jx_ev, jx_es, jx_tb, sAsg_k, jx_set, jx_ft_int, jx_ft_ref, jx_ft_null, jx_ft_z0, jx_ft_z1, sSeq_k, sIf_k, sSkip, sInc, sPf_k, jx_pf_h, sUf_k, sSt_k, jx_st_h, sSta_k, jx_sta_h, jx_el, sUst_k, sRet, jx_rt, sRetV, sCl_k, sThrow_h, eNew, jx_nw_h, sObj, eNa, List.getElem?_cons_zero, List.getElem?_cons_succ, List.set_cons_zero, List.set_cons_succ, List.cons_append, List.nil_append, List.replicate_succ, List.replicate_zero, List.length_cons, List.length_nil, List.all_cons, List.all_nil, Value.category, Bool.and_true, Bool.true_and, Bool.and_self, beq_self_eq_true, and_self, and_true, true_and, if_true, if_false, ite_true, ite_false, eq_self, List.mem_cons, List.mem_singleton, List.not_mem_nil, or_false, true_or, or_true, false_or, Nat.reduceSub, Nat.reduceAdd, decide_true, decide_false, Bool.not_true, Bool.not_false, Nat.zero_add, Bool.false_eq_true, va_rf, reduceCtorEq, Nat.reduceEqDiff, Nat.reduceLT, Nat.reduceMul, Nat.lt_irrefl, rNe_b, rEq_b, jx_ft_b, jx_ix_nI, rLt_n, rGe_n, rGt_n, rLe_n, rEq_n, rNe_n, rGt_0, rEq_0, rNe_0, rLt_0, rGe_0, rLe_0, nI_1s, kU_ok, kU_r, kA_ok, kA_r, kC_t, kC_f, kC_r, kO_ok, kO_l, kO_r, kE_ok, kN_ok, kR_ok, kE_t, kE_f, kN_t, kN_f, kR_t, kR_f, mH_1, mH_21, mH_md, mH_m1, mH_m2, mH_m3, mH_m4, mH_m5, mS, mS0, mS1, mS_fs, mS_fd, mS_fn, pm_eta, ov_1, ov_21, ov_sh, ov_da, ov_dk, ov_sl, ov_dt, ov_pn, ov_wd, ov_md, ov_m1, ov_m2, ov_m3, ov_m4, ov_m5, ov_fo, hs_m_th, hs_m_fp, hs_m_fs, hs_m_fd, hs_m_on, hs_m_on0, hs_m_on1, hs_m_lf, hs_m_ft, hs_m_fn, hs_m_mo, hs_m_cv, hs_m_cl, hs_m_ct, hs_m_cp, hs_c_t, hs_c_mv, hs_c_lf, hs_c_on, hs_c_on0, hs_c_on1, hs_c_wd, hs_c_pr, hs_c_sl, hs_c_dt, hs_fo, b2i_t, b2i_f, Bool.true_or, Bool.false_or, Bool.or_true, Bool.or_false, Bool.false_and, Bool.and_false, f_Md_make, bd_Md_make, mX, asg, q3, h4, qa, h5, qv', qb, eq_true (show v < 4 by omega), eq_false (show ¬ (v = 4) by omega), qf, qc1, qc, q_Md_ended, enS]
        · refine ⟨fn, ?_⟩
          rw [show sp_make (nI k') (nI c') (nI e') (pr, (sl, dt, true, lf, mo), T, cv, cl, ct, cp) = (3, nI 0, (pr, (sl, dt, true, lf, mo), T, cv, cl, ct, cp)) from by
            simp only [sp_make, h1, h4, h5, Bool.not_true, Bool.not_false, cond_true, cond_false, Bool.or_self]]
          simp (disch := first | omega | assumption | exact hT _) only [jx_fn, jx_b_ok, jx_kb_ok, jx_b_inl, jx_kb_inl, jx_b_inr, jx_kb_inr, eInt, eNull, eI, eA, eBin, jx_op, oAdd_n, oMul_n, cCmp, cCmp0, jx_cp, cNull, jx_nl, cNot, cAnd_k, cOr_k, cIte_c, eIte_k, ck_ite, bf_and, bf_or, bf_not, ck_int, ck_10, ck_nI, cond_true, cond_false, oSub_g, nIs_le, oDiv_s, ck_n10, eGf, jx_gf, eLd, jx_ld, eLda, jx_lda, eLen, jx_len, eCl, jx_as, jx_ec, jx_ev, jx_es, jx_tb, sAsg_k, jx_set, jx_ft_int, jx_ft_ref, jx_ft_null, jx_ft_z0, jx_ft_z1, sSeq_k, sIf_k, sSkip, sInc, sPf_k, jx_pf_h, sUf_k, sSt_k, jx_st_h, sSta_k, jx_sta_h, jx_el, sUst_k, sRet, jx_rt, sRetV, sCl_k, sThrow_h, eNew, jx_nw_h, sObj, eNa, List.getElem?_cons_zero, List.getElem?_cons_succ, List.set_cons_zero, List.set_cons_succ, List.cons_append, List.nil_append, List.replicate_succ, List.replicate_zero, List.length_cons, List.length_nil, List.all_cons, List.all_nil, Value.category, Bool.and_true, Bool.true_and, Bool.and_self, beq_self_eq_true, and_self, and_true, true_and, if_true, if_false, ite_true, ite_false, eq_self, List.mem_cons, List.mem_singleton, List.not_mem_nil, or_false, true_or, or_true, false_or, Nat.reduceSub, Nat.reduceAdd, decide_true, decide_false, Bool.not_true, Bool.not_false, Nat.zero_add, Bool.false_eq_true, va_rf, reduceCtorEq, Nat.reduceEqDiff, Nat.reduceLT, Nat.reduceMul, Nat.lt_irrefl, rNe_b, rEq_b, jx_ft_b, jx_ix_nI, rLt_n, rGe_n, rGt_n, rLe_n, rEq_n, rNe_n, rGt_0, rEq_0, rNe_0, rLt_0, rGe_0, rLe_0, nI_1s, kU_ok, kU_r, kA_ok, kA_r, kC_t, kC_f, kC_r, kO_ok, kO_l, kO_r, kE_ok, kN_ok, kR_ok, kE_t, kE_f, kN_t, kN_f, kR_t, kR_f, mH_1, mH_21, mH_md, mH_m1, mH_m2, mH_m3, mH_m4, mH_m5, mS, mS0, mS1, mS_fs, mS_fd, mS_fn, pm_eta, ov_1, ov_21, ov_sh, ov_da, ov_dk, ov_sl, ov_dt, ov_pn, ov_wd, ov_md, ov_m1, ov_m2, ov_m3, ov_m4, ov_m5, ov_fo, hs_m_th, hs_m_fp, hs_m_fs, hs_m_fd, hs_m_on, hs_m_on0, hs_m_on1, hs_m_lf, hs_m_ft, hs_m_fn, hs_m_mo, hs_m_cv, hs_m_cl, hs_m_ct, hs_m_cp, hs_c_t, hs_c_mv, hs_c_lf, hs_c_on, hs_c_on0, hs_c_on1, hs_c_wd, hs_c_pr, hs_c_sl, hs_c_dt, hs_fo, b2i_t, b2i_f, Bool.true_or, Bool.false_or, Bool.or_true, Bool.or_false, Bool.false_and, Bool.and_false, f_Md_make, bd_Md_make, mX, asg, q3, h4, qa, h5]
end MO
