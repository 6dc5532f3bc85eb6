/-! THE MODEL's CALLS: grow -/
theorem TB.grow {N : Nat → Nat} (h : TB N) {v n : Nat} (hv : v < 4) (hn : elsN N v + n ≤ 5) : TB (upN N (5 + v) (N (5 + v) + 32 * n)) ∧ elsN (upN N (5 + v) (N (5 + v) + 32 * n)) v = elsN N v + n := by
  obtain ⟨h1, h2, h3, h4⟩ := h
  have ee : elsN (upN N (5 + v) (N (5 + v) + 32 * n)) v = elsN N v + n := by
    unfold elsN; rw [upN_same]; omega
  have hl : N (5 + v) < 192 := by
    have : elsN N v ≤ 5 := by omega
    unfold elsN at this
    omega
  refine ⟨⟨upN_lt h1 (by omega), fun d hd => ?_, fun u hu => ?_, fun q hq => ?_⟩, ee⟩
  · rw [upN_ne _ (by omega)]; exact h2 d hd
  · by_cases e1 : u = v
    · subst e1
      refine ⟨fun hq => ?_, by rw [ee]; exact hn⟩
      have := (h3 u hu).1
      unfold colsN at this ⊢
      rw [upN_same] at hq ⊢
      have := this (by omega)
      omega
    · unfold colsN elsN
      rw [upN_ne _ (by omega)]
      exact h3 u hu
  · rw [upN_ne _ (by omega)]; exact h4 q hq
section MO
variable (h : jx_S) (b : Nat) (C : cC) (fo : Nat → Int64) (th : Int32) (s : xS) (fn : Nat → Int32)
set_option maxHeartbeats 8000000 in
theorem o_grow (hs : IM s) (v n : Int32) : ∃ fn', f_Md_grow [.ref (b + 19), .int v, .int n] (mX h b C fo th s fn) = some (.returned (some (.int (sp_grow v n s).2.1)), mX h b C fo (nI (sp_grow v n s).1) (sp_grow v n s).2.2 fn') := by
  obtain ⟨pr, ⟨sl, dt, on, lf, mo⟩, T, cv, cl, ct, cp⟩ := s
  obtain ⟨hW, hcv, hcl, hct, hcp, hmo, h30⟩ := hs
  dsimp only at hW hcv hcl hct hcp hmo h30
  have hT := hW.1
  cases on
  · refine ⟨fn, ?_⟩
    rw [show sp_grow v n (pr, (sl, dt, false, lf, mo), T, cv, cl, ct, cp) = (1, nI 0, (pr, (sl, dt, false, lf, mo), T, cv, cl, ct, cp)) from rfl]
    simp (disch := first | omega | assumption | exact hT _) only [jx_fn, jx_b_ok, jx_kb_ok, jx_b_inl, jx_kb_inl, jx_b_inr, jx_kb_inr, eInt, eNull, eI, eA, eBin, jx_op, oAdd_n, oMul_n, cCmp, cCmp0, jx_cp, cNull, jx_nl, cNot, cAnd_k, cOr_k, cIte_c, eIte_k, ck_ite, bf_and, bf_or, bf_not, ck_int, ck_10, ck_nI, cond_true, cond_false, oSub_g, nIs_le, oDiv_s, ck_n10, eGf, jx_gf, eLd, jx_ld, eLda, jx_lda, eLen, jx_len, eCl, jx_as, jx_ec, jx_ev, jx_es, jx_tb, sAsg_k, jx_set, jx_ft_int, jx_ft_ref, jx_ft_null, jx_ft_z0, jx_ft_z1, sSeq_k, sIf_k, sSkip, sInc, sPf_k, jx_pf_h, sUf_k, sSt_k, jx_st_h, sSta_k, jx_sta_h, jx_el, sUst_k, sRet, jx_rt, sRetV, sCl_k, sThrow_h, eNew, jx_nw_h, sObj, eNa, List.getElem?_cons_zero, List.getElem?_cons_succ, List.set_cons_zero, List.set_cons_succ, List.cons_append, List.nil_append, List.replicate_succ, List.replicate_zero, List.length_cons, List.length_nil, List.all_cons, List.all_nil, Value.category, Bool.and_true, Bool.true_and, Bool.and_self, beq_self_eq_true, and_self, and_true, true_and, if_true, if_false, ite_true, ite_false, eq_self, List.mem_cons, List.mem_singleton, List.not_mem_nil, or_false, true_or, or_true, false_or, Nat.reduceSub, Nat.reduceAdd, decide_true, decide_false, Bool.not_true, Bool.not_false, Nat.zero_add, Bool.false_eq_true, va_rf, reduceCtorEq, Nat.reduceEqDiff, Nat.reduceLT, Nat.reduceMul, Nat.lt_irrefl, rNe_b, rEq_b, jx_ft_b, jx_ix_nI, rLt_n, rGe_n, rGt_n, rLe_n, rEq_n, rNe_n, rGt_0, rEq_0, rNe_0, rLt_0, rGe_0, rLe_0, nI_1s, kU_ok, kU_r, kA_ok, kA_r, kC_t, kC_f, kC_r, kO_ok, kO_l, kO_r, kE_ok, kN_ok, kR_ok, kE_t, kE_f, kN_t, kN_f, kR_t, kR_f, mH_1, mH_21, mH_md, mH_m1, mH_m2, mH_m3, mH_m4, mH_m5, mS, mS0, mS1, mS_fs, mS_fd, mS_fn, pm_eta, ov_1, ov_21, ov_sh, ov_da, ov_dk, ov_sl, ov_dt, ov_pn, ov_wd, ov_md, ov_m1, ov_m2, ov_m3, ov_m4, ov_m5, ov_fo, hs_m_th, hs_m_fp, hs_m_fs, hs_m_fd, hs_m_on, hs_m_on0, hs_m_on1, hs_m_lf, hs_m_ft, hs_m_fn, hs_m_mo, hs_m_cv, hs_m_cl, hs_m_ct, hs_m_cp, hs_c_t, hs_c_mv, hs_c_lf, hs_c_on, hs_c_on0, hs_c_on1, hs_c_wd, hs_c_pr, hs_c_sl, hs_c_dt, hs_fo, b2i_t, b2i_f, Bool.true_or, Bool.false_or, Bool.or_true, Bool.or_false, Bool.false_and, Bool.and_false, f_Md_grow, bd_Md_grow, mX]
  · rcases isV_cases T v with ⟨h1, h2⟩ | ⟨u, h1, rfl, h2⟩
    · refine ⟨fn, ?_⟩
      have q := q_Md_isVolume_x h b C fo th pr (sl, dt, true, lf, mo) T fn cv cl ct cp v h1
      rw [show sp_grow v n (pr, (sl, dt, true, lf, mo), T, cv, cl, ct, cp) = (2, nI 0, (pr, (sl, dt, true, lf, mo), T, cv, cl, ct, cp)) from by
        simp only [sp_grow, h2, Bool.not_true, Bool.not_false, cond_true, cond_false]]
      simp (disch := first | omega | assumption | exact hT _) only [jx_fn, jx_b_ok, jx_kb_ok, jx_b_inl, jx_kb_inl, jx_b_inr, jx_kb_inr, eInt, eNull, eI, eA, eBin, jx_op, oAdd_n, oMul_n, cCmp, cCmp0, jx_cp, cNull, jx_nl, cNot, cAnd_k, cOr_k, cIte_c, eIte_k, ck_ite, bf_and, bf_or, bf_not, ck_int, ck_10, ck_nI, cond_true, cond_false, oSub_g, nIs_le, oDiv_s, ck_n10, eGf, jx_gf, eLd, jx_ld, eLda, jx_lda, eLen, jx_len, eCl, jx_as, jx_ec, jx_ev, jx_es, jx_tb, sAsg_k, jx_set, jx_ft_int, jx_ft_ref, jx_ft_null, jx_ft_z0, jx_ft_z1, sSeq_k, sIf_k, sSkip, sInc, sPf_k, jx_pf_h, sUf_k, sSt_k, jx_st_h, sSta_k, jx_sta_h, jx_el, sUst_k, sRet, jx_rt, sRetV, sCl_k, sThrow_h, eNew, jx_nw_h, sObj, eNa, List.getElem?_cons_zero, List.getElem?_cons_succ, List.set_cons_zero, List.set_cons_succ, List.cons_append, List.nil_append, List.replicate_succ, List.replicate_zero, List.length_cons, List.length_nil, List.all_cons, List.all_nil, Value.category, Bool.and_true, Bool.true_and, Bool.and_self, beq_self_eq_true, and_self, and_true, true_and, if_true, if_false, ite_true, ite_false, eq_self, List.mem_cons, List.mem_singleton, List.not_mem_nil, or_false, true_or, or_true, false_or, Nat.reduceSub, Nat.reduceAdd, decide_true, decide_false, Bool.not_true, Bool.not_false, Nat.zero_add, Bool.false_eq_true, va_rf, reduceCtorEq, Nat.reduceEqDiff, Nat.reduceLT, Nat.reduceMul, Nat.lt_irrefl, rNe_b, rEq_b, jx_ft_b, jx_ix_nI, rLt_n, rGe_n, rGt_n, rLe_n, rEq_n, rNe_n, rGt_0, rEq_0, rNe_0, rLt_0, rGe_0, rLe_0, nI_1s, kU_ok, kU_r, kA_ok, kA_r, kC_t, kC_f, kC_r, kO_ok, kO_l, kO_r, kE_ok, kN_ok, kR_ok, kE_t, kE_f, kN_t, kN_f, kR_t, kR_f, mH_1, mH_21, mH_md, mH_m1, mH_m2, mH_m3, mH_m4, mH_m5, mS, mS0, mS1, mS_fs, mS_fd, mS_fn, pm_eta, ov_1, ov_21, ov_sh, ov_da, ov_dk, ov_sl, ov_dt, ov_pn, ov_wd, ov_md, ov_m1, ov_m2, ov_m3, ov_m4, ov_m5, ov_fo, hs_m_th, hs_m_fp, hs_m_fs, hs_m_fd, hs_m_on, hs_m_on0, hs_m_on1, hs_m_lf, hs_m_ft, hs_m_fn, hs_m_mo, hs_m_cv, hs_m_cl, hs_m_ct, hs_m_cp, hs_c_t, hs_c_mv, hs_c_lf, hs_c_on, hs_c_on0, hs_c_on1, hs_c_wd, hs_c_pr, hs_c_sl, hs_c_dt, hs_fo, b2i_t, b2i_f, Bool.true_or, Bool.false_or, Bool.or_true, Bool.or_false, Bool.false_and, Bool.and_false, f_Md_grow, bd_Md_grow, mX, q]
    · have q := q_Md_isVolume h b C fo th pr (sl, dt, true, lf, mo) T fn cv cl ct cp hT u h1
      have c1 : (nI u).toNatClampNeg = u := clampI _ (by omega)
      by_cases h3 : T (5 + u) = 0
      · refine ⟨fn, ?_⟩
        rw [show sp_grow (nI u) n (pr, (sl, dt, true, lf, mo), T, cv, cl, ct, cp) = (2, nI 0, (pr, (sl, dt, true, lf, mo), T, cv, cl, ct, cp)) from by
          simp only [sp_grow, h2, h3, decide_true, Bool.not_true, Bool.not_false, cond_true, cond_false]]
        simp (disch := first | omega | assumption | exact hT _) only [jx_fn, jx_b_ok, jx_kb_ok, jx_b_inl, jx_kb_inl, jx_b_inr, jx_kb_inr, eInt, eNull, eI, eA, eBin, jx_op, oAdd_n, oMul_n, cCmp, cCmp0, jx_cp, cNull, jx_nl, cNot, cAnd_k, cOr_k, cIte_c, eIte_k, ck_ite, bf_and, bf_or, bf_not, ck_int, ck_10, ck_nI, cond_true, cond_false, oSub_g, nIs_le, oDiv_s, ck_n10, eGf, jx_gf, eLd, jx_ld, eLda, jx_lda, eLen, jx_len, eCl, jx_as, jx_ec, jx_ev, jx_es, jx_tb, sAsg_k, jx_set, jx_ft_int, jx_ft_ref, jx_ft_null, jx_ft_z0, jx_ft_z1, sSeq_k, sIf_k, sSkip, sInc, sPf_k, jx_pf_h, sUf_k, sSt_k, jx_st_h, sSta_k, jx_sta_h, jx_el, sUst_k, sRet, jx_rt, sRetV, sCl_k, sThrow_h, eNew, jx_nw_h, sObj, eNa, List.getElem?_cons_zero, List.getElem?_cons_succ, List.set_cons_zero, List.set_cons_succ, List.cons_append, List.nil_append, List.replicate_succ, List.replicate_zero, List.length_cons, List.length_nil, List.all_cons, List.all_nil, Value.category, Bool.and_true, Bool.true_and, Bool.and_self, beq_self_eq_true, and_self, and_true, true_and, if_true, if_false, ite_true, ite_false, eq_self, List.mem_cons, List.mem_singleton, List.not_mem_nil, or_false, true_or, or_true, false_or, Nat.reduceSub, Nat.reduceAdd, decide_true, decide_false, Bool.not_true, Bool.not_false, Nat.zero_add, Bool.false_eq_true, va_rf, reduceCtorEq, Nat.reduceEqDiff, Nat.reduceLT, Nat.reduceMul, Nat.lt_irrefl, rNe_b, rEq_b, jx_ft_b, jx_ix_nI, rLt_n, rGe_n, rGt_n, rLe_n, rEq_n, rNe_n, rGt_0, rEq_0, rNe_0, rLt_0, rGe_0, rLe_0, nI_1s, kU_ok, kU_r, kA_ok, kA_r, kC_t, kC_f, kC_r, kO_ok, kO_l, kO_r, kE_ok, kN_ok, kR_ok, kE_t, kE_f, kN_t, kN_f, kR_t, kR_f, mH_1, mH_21, mH_md, mH_m1, mH_m2, mH_m3, mH_m4, mH_m5, mS, mS0, mS1, mS_fs, mS_fd, mS_fn, pm_eta, ov_1, ov_21, ov_sh, ov_da, ov_dk, ov_sl, ov_dt, ov_pn, ov_wd, ov_md, ov_m1, ov_m2, ov_m3, ov_m4, ov_m5, ov_fo, hs_m_th, hs_m_fp, hs_m_fs, hs_m_fd, hs_m_on, hs_m_on0, hs_m_on1, hs_m_lf, hs_m_ft, hs_m_fn, hs_m_mo, hs_m_cv, hs_m_cl, hs_m_ct, hs_m_cp, hs_c_t, hs_c_mv, hs_c_lf, hs_c_on, hs_c_on0, hs_c_on1, hs_c_wd, hs_c_pr, hs_c_sl, hs_c_dt, hs_fo, b2i_t, b2i_f, Bool.true_or, Bool.false_or, Bool.or_true, Bool.or_false, Bool.false_and, Bool.and_false, f_Md_grow, bd_Md_grow, mX, q, h3]
      · have qa := q_Md_isOneAbsentT h b C fo (nI 0) pr (sl, dt, true, lf, mo) T fn cv cl ct cp hT
        have q1 := q_Md_elementsOf (mH h b C fo (nI 0) pr (sl, dt, true, lf, mo) T fn cv cl ct cp) (b + 23) (wds T) (mH_m4 ..) T (fun k hk => wds_lo T hk) hT u h1
        have q2 := q_Md_columnsOf (mH h b C fo (nI 0) pr (sl, dt, true, lf, mo) T fn cv cl ct cp) (b + 23) (wds T) (mH_m4 ..) T (fun k hk => wds_lo T hk) hT u h1
        have hc := hW.cols h1 h3
        have hc8 : colsN T u < 8 := by unfold colsN; omega
        have hel := (hW.TB.2.2.1 u h1).2
        have q3 := fun n => q_Md_fits (mH h b C fo (nI 0) pr (sl, dt, true, lf, mo) T fn cv cl ct cp) (colsN T u) n hc hc8
        cases h5 : (rLt n (nI 1) || rGt n (nI 5) || !fitsB (nI (colsN T u)) (nI (elsN T u) + n))
        · have h5' := h5
          rw [Bool.or_eq_false_iff, Bool.or_eq_false_iff] at h5'
          obtain ⟨⟨g1, g2⟩, g3⟩ := h5'
          have h6 : fitsB (nI (colsN T u)) (nI (elsN T u) + n) = true := by simpa using g3
          obtain ⟨m, e1, rfl⟩ := rng (v := n) (L := 6) (by decide) (by
            rw [Bool.and_eq_true]
            refine ⟨?_, ?_⟩
            · have : rGe n (nI 1) = true := by rw [rGe_not, g1]; rfl
              exact decide_eq_true (Int32.le_trans (by decide : (0 : Int32) ≤ nI 1) (of_decide_eq_true this))
            · rw [rGt_lt _ (by decide)] at g2
              simpa using g2)
          rw [nI_add] at h6
          have e0 : 1 ≤ m := by
            rw [rLt_n (by omega) (by decide)] at g1
            have := of_decide_eq_false g1
            omega
          obtain ⟨m2, _, e2, e3, _⟩ := fits_n hc hc8 h6
          have e4 : elsN T u + m ≤ 5 := by
            have := nI_inj (by omega) (by omega) e3
            omega
          have c2 : (nI m).toNatClampNeg = m := clampI _ (by omega)
          cases h4 : absn T pr
          · have qb := q_Md_begin h b C fo (nI 0) pr (sl, dt, true, lf, mo) T fn cv cl ct cp
            obtain ⟨tb1, el1⟩ := hW.TB.grow (v := u) (n := m) h1 e4
            have ev : (if 5 + u < 51 then wds T (5 + u) else fn (5 + u)) = nI (T (5 + u)) := by rw [if_pos (by omega), wds_lo _ (by omega)]
            have qf := q_Md_find h b C fo (nI 0) pr (sl, dt, true, lf, mo) T (upd (fun k => if k < 51 then wds T k else fn k) (5 + u) (nI (T (5 + u) + 32 * m))) cv cl ct cp (upN T (5 + u) (T (5 + u) + 32 * m)) (upd_nI (bg_base fn)) tb1 u (elsN T u) h1 hcv hcl (by omega) (by omega)
            rw [el1] at qf
            rw [show 2 * (elsN T u + m) - 2 * elsN T u = 2 * m from by omega] at qf
            cases h7 : fnds (ec mo ct) cv cl pr u (2 * elsN T u) (2 * m) (upN T (5 + u) (T (5 + u) + 32 * m)) with
            | none =>
              rw [h7] at qf
              obtain ⟨f2, qf⟩ := qf
              refine ⟨f2, ?_⟩
              rw [show sp_grow (nI u) (nI m) (pr, (sl, dt, true, lf, mo), T, cv, cl, ct, cp) = (4, nI 0, (pr, (sl, dt, true, lf, mo), T, cv, cl, ct, cp)) from by
                simp only [sp_grow, c1, c2, h2, h3, h4, h5, h7, decide_false, Bool.not_true, Bool.not_false, cond_true, cond_false]]
              simp (disch := first | omega | assumption | exact hT _) only [jx_fn, jx_b_ok, jx_kb_ok, jx_b_inl, jx_kb_inl, jx_b_inr, jx_kb_inr, eInt, eNull, eI, eA, eBin, jx_op, oAdd_n, oMul_n, cCmp, cCmp0, jx_cp, cNull, jx_nl, cNot, cAnd_k, cOr_k, cIte_c, eIte_k, ck_ite, bf_and, bf_or, bf_not, ck_int, ck_10, ck_nI, cond_true, cond_false, oSub_g, nIs_le, oDiv_s, ck_n10, eGf, jx_gf, eLd, jx_ld, eLda, jx_lda, eLen, jx_len, eCl, jx_as, jx_ec, jx_ev, jx_es, jx_tb, sAsg_k, jx_set, jx_ft_int, jx_ft_ref, jx_ft_null, jx_ft_z0, jx_ft_z1, sSeq_k, sIf_k, sSkip, sInc, sPf_k, jx_pf_h, sUf_k, sSt_k, jx_st_h, sSta_k, jx_sta_h, jx_el, sUst_k, sRet, jx_rt, sRetV, sCl_k, sThrow_h, eNew, jx_nw_h, sObj, eNa, List.getElem?_cons_zero, List.getElem?_cons_succ, List.set_cons_zero, List.set_cons_succ, List.cons_append, List.nil_append, List.replicate_succ, List.replicate_zero, List.length_cons, List.length_nil, List.all_cons, List.all_nil, Value.category, Bool.and_true, Bool.true_and, Bool.and_self, beq_self_eq_true, and_self, and_true, true_and, if_true, if_false, ite_true, ite_false, eq_self, List.mem_cons, List.mem_singleton, List.not_mem_nil, or_false, true_or, or_true, false_or, Nat.reduceSub, Nat.reduceAdd, decide_true, decide_false, Bool.not_true, Bool.not_false, Nat.zero_add, Bool.false_eq_true, va_rf, reduceCtorEq, Nat.reduceEqDiff, Nat.reduceLT, Nat.reduceMul, Nat.lt_irrefl, rNe_b, rEq_b, jx_ft_b, jx_ix_nI, rLt_n, rGe_n, rGt_n, rLe_n, rEq_n, rNe_n, rGt_0, rEq_0, rNe_0, rLt_0, rGe_0, rLe_0, nI_1s, kU_ok, kU_r, kA_ok, kA_r, kC_t, kC_f, kC_r, kO_ok, kO_l, kO_r, kE_ok, kN_ok, kR_ok, kE_t, kE_f, kN_t, kN_f, kR_t, kR_f, mH_1, mH_21, mH_md, mH_m1, mH_m2, mH_m3, mH_m4, mH_m5, mS, mS0, mS1, mS_fs, mS_fd, mS_fn, pm_eta, ov_1, ov_21, ov_sh, ov_da, ov_dk, ov_sl, ov_dt, ov_pn, ov_wd, ov_md, ov_m1, ov_m2, ov_m3, ov_m4, ov_m5, ov_fo, hs_m_th, hs_m_fp, hs_m_fs, hs_m_fd, hs_m_on, hs_m_on0, hs_m_on1, hs_m_lf, hs_m_ft, hs_m_fn, hs_m_mo, hs_m_cv, hs_m_cl, hs_m_ct, hs_m_cp, hs_c_t, hs_c_mv, hs_c_lf, hs_c_on, hs_c_on0, hs_c_on1, hs_c_wd, hs_c_pr, hs_c_sl, hs_c_dt, hs_fo, b2i_t, b2i_f, Bool.true_or, Bool.false_or, Bool.or_true, Bool.or_false, Bool.false_and, Bool.and_false, f_Md_grow, bd_Md_grow, mX, q, h3, q1, q2, q3, h6, qa, h4, eq_false (show ¬ (m < 1) by omega), eq_false (show ¬ (5 < m) by omega), qb, ev, qf]
            | some N =>
              rw [h7] at qf
              obtain ⟨f2, hf2, qf⟩ := qf
              obtain ⟨tb2, lo2⟩ := fnds_TB _ _ tb1 h7
              have elN : elsN N u = elsN T u + m := by
                have := lo2 (5 + u) (by omega)
                rw [← el1]
                unfold elsN
                rw [this]
              have qc1 := q_Md_clear h b C fo (nI 0) pr (sl, dt, true, lf, mo) T f2 cv cl ct cp N hf2 tb2 u (elsN T u) h1 (by omega)
              rw [elN, show 2 * (elsN T u + m) - 2 * elsN T u = 2 * m from by omega] at qc1
              obtain ⟨F, qc⟩ := o_change h b C fo (nI 0) (setX (pr, (sl, dt, true, lf, mo), T, cv, cl, ct, cp) (clrs N u (2 * elsN T u) (2 * m) (sl, dt, true, lf, mo))) f2 (nx1 (pr, (sl, dt, true, lf, mo), T, cv, cl, ct, cp) N) hT (nx1_lt tb2.1 h30) (upN_same _ _ _) (nx1_f hf2) hcv hcl hct
              refine ⟨F, ?_⟩
              rw [show sp_grow (nI u) (nI m) (pr, (sl, dt, true, lf, mo), T, cv, cl, ct, cp) = enS (chS (setX (pr, (sl, dt, true, lf, mo), T, cv, cl, ct, cp) (clrs N u (2 * elsN T u) (2 * m) (sl, dt, true, lf, mo))) (nx1 (pr, (sl, dt, true, lf, mo), T, cv, cl, ct, cp) N)) (nI (elsN T u + m)) from by
                simp only [sp_grow, c1, c2, h2, h3, h4, h5, h7, decide_false, Bool.not_true, Bool.not_false, cond_true, cond_false]]
              generalize chS (setX (pr, (sl, dt, true, lf, mo), T, cv, cl, ct, cp) (clrs N u (2 * elsN T u) (2 * m) (sl, dt, true, lf, mo))) (nx1 (pr, (sl, dt, true, lf, mo), T, cv, cl, ct, cp) N) = S at qc ⊢
              obtain ⟨pr2, ⟨sl2, dt2, on2, lf2, mo2⟩, T2, cv2, cl2, ct2, cp2⟩ := S
              simp only [mX, setX] at qc
              cases on2 <;> simp (disch := first | omega | assumption | exact hT _) only [jx_fn, jx_b_ok, jx_kb_ok, jx_b_inl, jx_kb_inl, jx_b_inr, jx_kb_inr, eInt, eNull, eI, eA, eBin, jx_op, oAdd_n, oMul_n, cCmp, cCmp0, jx_cp, cNull, jx_nl, cNot, cAnd_k, cOr_k, cIte_c, eIte_k, ck_ite, bf_and, bf_or, bf_not, ck_int, ck_10, ck_nI, cond_true, cond_false, oSub_g, nIs_le, oDiv_s, ck_n10, eGf, jx_gf, eLd, jx_ld, eLda, jx_lda, eLen, jx_len, eCl, jx_as, jx_ec, jx_ev, jx_es, jx_tb, sAsg_k, jx_set, jx_ft_int, jx_ft_ref, jx_ft_null, jx_ft_z0, jx_ft_z1, sSeq_k, sIf_k, sSkip, sInc, sPf_k, jx_pf_h, sUf_k, sSt_k, jx_st_h, sSta_k, jx_sta_h, jx_el, sUst_k, sRet, jx_rt, sRetV, sCl_k, sThrow_h, eNew, jx_nw_h, sObj, eNa, List.getElem?_cons_zero, List.getElem?_cons_succ, List.set_cons_zero, List.set_cons_succ, List.cons_append, List.nil_append, List.replicate_succ, List.replicate_zero, List.length_cons, List.length_nil, List.all_cons, List.all_nil, Value.category, Bool.and_true, Bool.true_and, Bool.and_self, beq_self_eq_true, and_self, and_true, true_and, if_true, if_false, ite_true, ite_false, eq_self, List.mem_cons, List.mem_singleton, List.not_mem_nil, or_false, true_or, or_true, false_or, Nat.reduceSub, Nat.reduceAdd, decide_true, decide_false, Bool.not_true, Bool.not_false, Nat.zero_add, Bool.false_eq_true, va_rf, reduceCtorEq, Nat.reduceEqDiff, Nat.reduceLT, Nat.reduceMul, Nat.lt_irrefl, rNe_b, rEq_b, jx_ft_b, jx_ix_nI, rLt_n, rGe_n, rGt_n, rLe_n, rEq_n, rNe_n, rGt_0, rEq_0, rNe_0, rLt_0, rGe_0, rLe_0, nI_1s, kU_ok, kU_r, kA_ok, kA_r, kC_t, kC_f, kC_r, kO_ok, kO_l, kO_r, kE_ok, kN_ok, kR_ok, kE_t, kE_f, kN_t, kN_f, kR_t, kR_f, mH_1, mH_21, mH_md, mH_m1, mH_m2, mH_m3, mH_m4, mH_m5, mS, mS0, mS1, mS_fs, mS_fd, mS_fn, pm_eta, ov_1, ov_21, ov_sh, ov_da, ov_dk, ov_sl, ov_dt, ov_pn, ov_wd, ov_md, ov_m1, ov_m2, ov_m3, ov_m4, ov_m5, ov_fo, hs_m_th, hs_m_fp, hs_m_fs, hs_m_fd, hs_m_on, hs_m_on0, hs_m_on1, hs_m_lf, hs_m_ft, hs_m_fn, hs_m_mo, hs_m_cv, hs_m_cl, hs_m_ct, hs_m_cp, hs_c_t, hs_c_mv, hs_c_lf, hs_c_on, hs_c_on0, hs_c_on1, hs_c_wd, hs_c_pr, hs_c_sl, hs_c_dt, hs_fo, b2i_t, b2i_f, Bool.true_or, Bool.false_or, Bool.or_true, Bool.or_false, Bool.false_and, Bool.and_false, f_Md_grow, bd_Md_grow, mX, q, h3, q1, q2, q3, h6, qa, h4, eq_false (show ¬ (m < 1) by omega), eq_false (show ¬ (5 < m) by omega), qb, ev, qf, qc1, qc, q_Md_ended, enS]
          · refine ⟨fn, ?_⟩
            rw [show sp_grow (nI u) (nI m) (pr, (sl, dt, true, lf, mo), T, cv, cl, ct, cp) = (4, nI 0, (pr, (sl, dt, true, lf, mo), T, cv, cl, ct, cp)) from by
              simp only [sp_grow, c1, c2, h2, h3, h4, h5, decide_false, Bool.not_true, Bool.not_false, cond_true, cond_false]]
            simp (disch := first | omega | assumption | exact hT _) only [jx_fn, jx_b_ok, jx_kb_ok, jx_b_inl, jx_kb_inl, jx_b_inr, jx_kb_inr, eInt, eNull, eI, eA, eBin, jx_op, oAdd_n, oMul_n, cCmp, cCmp0, jx_cp, cNull, jx_nl, cNot, cAnd_k, cOr_k, cIte_c, eIte_k, ck_ite, bf_and, bf_or, bf_not, ck_int, ck_10, ck_nI, cond_true, cond_false, oSub_g, nIs_le, oDiv_s, ck_n10, eGf, jx_gf, eLd, jx_ld, eLda, jx_lda, eLen, jx_len, eCl, jx_as, jx_ec, jx_ev, jx_es, jx_tb, sAsg_k, jx_set, jx_ft_int, jx_ft_ref, jx_ft_null, jx_ft_z0, jx_ft_z1, sSeq_k, sIf_k, sSkip, sInc, sPf_k, jx_pf_h, sUf_k, sSt_k, jx_st_h, sSta_k, jx_sta_h, jx_el, sUst_k, sRet, jx_rt, sRetV, sCl_k, sThrow_h, eNew, jx_nw_h, sObj, eNa, List.getElem?_cons_zero, List.getElem?_cons_succ, List.set_cons_zero, List.set_cons_succ, List.cons_append, List.nil_append, List.replicate_succ, List.replicate_zero, List.length_cons, List.length_nil, List.all_cons, List.all_nil, Value.category, Bool.and_true, Bool.true_and, Bool.and_self, beq_self_eq_true, and_self, and_true, true_and, if_true, if_false, ite_true, ite_false, eq_self, List.mem_cons, List.mem_singleton, List.not_mem_nil, or_false, true_or, or_true, false_or, Nat.reduceSub, Nat.reduceAdd, decide_true, decide_false, Bool.not_true, Bool.not_false, Nat.zero_add, Bool.false_eq_true, va_rf, reduceCtorEq, Nat.reduceEqDiff, Nat.reduceLT, Nat.reduceMul, Nat.lt_irrefl, rNe_b, rEq_b, jx_ft_b, jx_ix_nI, rLt_n, rGe_n, rGt_n, rLe_n, rEq_n, rNe_n, rGt_0, rEq_0, rNe_0, rLt_0, rGe_0, rLe_0, nI_1s, kU_ok, kU_r, kA_ok, kA_r, kC_t, kC_f, kC_r, kO_ok, kO_l, kO_r, kE_ok, kN_ok, kR_ok, kE_t, kE_f, kN_t, kN_f, kR_t, kR_f, mH_1, mH_21, mH_md, mH_m1, mH_m2, mH_m3, mH_m4, mH_m5, mS, mS0, mS1, mS_fs, mS_fd, mS_fn, pm_eta, ov_1, ov_21, ov_sh, ov_da, ov_dk, ov_sl, ov_dt, ov_pn, ov_wd, ov_md, ov_m1, ov_m2, ov_m3, ov_m4, ov_m5, ov_fo, hs_m_th, hs_m_fp, hs_m_fs, hs_m_fd, hs_m_on, hs_m_on0, hs_m_on1, hs_m_lf, hs_m_ft, hs_m_fn, hs_m_mo, hs_m_cv, hs_m_cl, hs_m_ct, hs_m_cp, hs_c_t, hs_c_mv, hs_c_lf, hs_c_on, hs_c_on0, hs_c_on1, hs_c_wd, hs_c_pr, hs_c_sl, hs_c_dt, hs_fo, b2i_t, b2i_f, Bool.true_or, Bool.false_or, Bool.or_true, Bool.or_false, Bool.false_and, Bool.and_false, f_Md_grow, bd_Md_grow, mX, q, h3, q1, q2, q3, h6, qa, h4, eq_false (show ¬ (m < 1) by omega), eq_false (show ¬ (5 < m) by omega)]
        · refine ⟨fn, ?_⟩
          rw [show sp_grow (nI u) n (pr, (sl, dt, true, lf, mo), T, cv, cl, ct, cp) = (3, nI 0, (pr, (sl, dt, true, lf, mo), T, cv, cl, ct, cp)) from by
            simp only [sp_grow, c1, h2, h3, h5, decide_false, Bool.not_true, Bool.not_false, cond_true, cond_false]]
          have oa : oAdd (nI (elsN T u)) n = some (nI (elsN T u) + n) := rfl
          simp (disch := first | omega | assumption | exact hT _) only [jx_fn, jx_b_ok, jx_kb_ok, jx_b_inl, jx_kb_inl, jx_b_inr, jx_kb_inr, eInt, eNull, eI, eA, eBin, jx_op, oAdd_n, oMul_n, cCmp, cCmp0, jx_cp, cNull, jx_nl, cNot, cAnd_k, cOr_k, cIte_c, eIte_k, ck_ite, bf_and, bf_or, bf_not, ck_int, ck_10, ck_nI, cond_true, cond_false, oSub_g, nIs_le, oDiv_s, ck_n10, eGf, jx_gf, eLd, jx_ld, eLda, jx_lda, eLen, jx_len, eCl, jx_as, jx_ec, jx_ev, jx_es, jx_tb, sAsg_k, jx_set, jx_ft_int, jx_ft_ref, jx_ft_null, jx_ft_z0, jx_ft_z1, sSeq_k, sIf_k, sSkip, sInc, sPf_k, jx_pf_h, sUf_k, sSt_k, jx_st_h, sSta_k, jx_sta_h, jx_el, sUst_k, sRet, jx_rt, sRetV, sCl_k, sThrow_h, eNew, jx_nw_h, sObj, eNa, List.getElem?_cons_zero, List.getElem?_cons_succ, List.set_cons_zero, List.set_cons_succ, List.cons_append, List.nil_append, List.replicate_succ, List.replicate_zero, List.length_cons, List.length_nil, List.all_cons, List.all_nil, Value.category, Bool.and_true, Bool.true_and, Bool.and_self, beq_self_eq_true, and_self, and_true, true_and, if_true, if_false, ite_true, ite_false, eq_self, List.mem_cons, List.mem_singleton, List.not_mem_nil, or_false, true_or, or_true, false_or, Nat.reduceSub, Nat.reduceAdd, decide_true, decide_false, Bool.not_true, Bool.not_false, Nat.zero_add, Bool.false_eq_true, va_rf, reduceCtorEq, Nat.reduceEqDiff, Nat.reduceLT, Nat.reduceMul, Nat.lt_irrefl, rNe_b, rEq_b, jx_ft_b, jx_ix_nI, rLt_n, rGe_n, rGt_n, rLe_n, rEq_n, rNe_n, rGt_0, rEq_0, rNe_0, rLt_0, rGe_0, rLe_0, nI_1s, kU_ok, kU_r, kA_ok, kA_r, kC_t, kC_f, kC_r, kO_ok, kO_l, kO_r, kE_ok, kN_ok, kR_ok, kE_t, kE_f, kN_t, kN_f, kR_t, kR_f, mH_1, mH_21, mH_md, mH_m1, mH_m2, mH_m3, mH_m4, mH_m5, mS, mS0, mS1, mS_fs, mS_fd, mS_fn, pm_eta, ov_1, ov_21, ov_sh, ov_da, ov_dk, ov_sl, ov_dt, ov_pn, ov_wd, ov_md, ov_m1, ov_m2, ov_m3, ov_m4, ov_m5, ov_fo, hs_m_th, hs_m_fp, hs_m_fs, hs_m_fd, hs_m_on, hs_m_on0, hs_m_on1, hs_m_lf, hs_m_ft, hs_m_fn, hs_m_mo, hs_m_cv, hs_m_cl, hs_m_ct, hs_m_cp, hs_c_t, hs_c_mv, hs_c_lf, hs_c_on, hs_c_on0, hs_c_on1, hs_c_wd, hs_c_pr, hs_c_sl, hs_c_dt, hs_fo, b2i_t, b2i_f, Bool.true_or, Bool.false_or, Bool.or_true, Bool.or_false, Bool.false_and, Bool.and_false, f_Md_grow, bd_Md_grow, mX, q, h3, q1, q2, q3, oa, h5]
end MO
