/-! THE MODEL's CALLS: start -/
theorem wds_congr {T U : Nat → Nat} (h : ∀ k, k < 49 → T k = U k) : wds T = wds U := by
  funext k
  unfold wds
  by_cases h1 : k < 49
  · rw [if_pos h1, if_pos h1, h k h1]
  · rw [if_neg h1, if_neg h1, h 0 (by omega), sumW_congr (fun j hj => by rw [h j hj] : ∀ j, j < 49 → nI (T j) = nI (U j))]
theorem wds_hi (T : Nat → Nat) {k : Nat} (h : 51 ≤ k) : wds T k = nI 0 := by
  unfold wds
  rw [if_neg (by omega), if_neg (by omega), if_neg (by omega)]
theorem wds_zero : wds (fun _ => 0) = fun _ => nI 0 := by
  funext k
  unfold wds
  by_cases h1 : k < 49
  · rw [if_pos h1]
  · rw [if_neg h1]
    by_cases h2 : k = 49
    · rw [if_pos h2]
      decide +kernel
    · rw [if_neg h2]
      by_cases h3 : k = 50
      · rw [if_pos h3]
      · rw [if_neg h3]
/-- whole slots hold tables -/
def SI (sl : Nat → Nat → Int32) : Prop := ∀ d t, d < 4 → t < 2 → whW (fun k => sl d (51 * t + k)) = true → ∃ T, WT T ∧ T 0 < 2 ^ 30 ∧ ∀ k, k < 51 → sl d (51 * t + k) = wds T k
theorem rdT_some {sl : Nat → Nat → Int32} {d t : Nat} {T : Nat → Nat} (hT : ∀ k, T k < 2 ^ 31) (h : ∀ k, k < 51 → sl d (51 * t + k) = wds T k) : ∀ k, k < 49 → rdT sl (some (d, t)) k = T k := by
  intro k hk
  show (if k < 49 then (sl d (51 * t + k)).toNatClampNeg else 0) = T k
  rw [if_pos hk, h k (by omega), wds_lo _ hk, nI_clamp (hT k)]
section MO
variable (h : jx_S) (b : Nat) (C : cC) (fo : Nat → Int64) (th : Int32) (pr : Nat → Bool) (x : xA) (T : Nat → Nat) (fn : Nat → Int32) (cv cl ct cp : Nat)
set_option maxHeartbeats 8000000 in
theorem q_st0 (q z3 z4 : Value) (K : jx_Bk) : sWh 64 lc_Md_start_0 lb_Md_start_0 K [.ref (b + 19), q, .int (nI 0), z3, z4] (mH h b C fo th pr x T fn cv cl ct cp) = K [.ref (b + 19), q, .int (nI 51), z3, z4] (mH h b C fo th pr x (fun _ => 0) fn cv cl ct cp) := by
  have e0 : (fun k => if k < 0 then nI 0 else wds T k) = wds T := funext fun k => if_neg (by omega)
  have e1 : (fun k => if k < 51 then nI 0 else wds T k) = wds (fun _ => 0) := by
    rw [wds_zero]
    funext k
    by_cases e : k < 51
    · rw [if_pos e]
    · rw [if_neg e, wds_hi _ (by omega)]
  have z := wh_go (c := lc_Md_start_0) (A := lb_Md_start_0) (K := K) (fun j => [.ref (b + 19), q, .int (nI j), z3, z4]) (fun j => ov h b C (th, xfp pr, xfs x.1, xfd x.2.1, x.2.2.1, x.2.2.2.1, (fun k => if k < j then nI 0 else wds T k), fn, x.2.2.2.2, nI cv, nI cl, nI ct, nI cp) fo) 51 (fun k hk => by simp (disch := first | omega | assumption) only [jx_fn, jx_b_ok, jx_kb_ok, jx_b_inl, jx_kb_inl, jx_b_inr, jx_kb_inr, eInt, eNull, eI, eA, eBin, jx_op, oAdd_n, oMul_n, cCmp, cCmp0, jx_cp, cNull, jx_nl, cNot, cAnd_c, cOr_c, cIte_c, eIte_c, ck_ite, bf_and, bf_or, bf_not, ck_int, ck_10, ck_nI, cond_true, cond_false, oSub_g, nIs_le, oDiv_s, ck_n10, eGf, jx_gf, eLd, jx_ld, eLda, jx_lda, eLen, jx_len, eCl, jx_as, jx_ec, jx_ev, jx_es, jx_tb, sAsg, jx_set, jx_ft_int, jx_ft_ref, jx_ft_null, jx_ft_z0, jx_ft_z1, sSeq, sIf_c, sSkip, sInc, sPf, jx_pf_h, sUf, sSt, jx_st_h, sSta, jx_sta_h, jx_el, sUst, sRet, jx_rt, sRetV, sCl, sThrow_h, eNew, jx_nw_h, sObj, eNa, List.getElem?_cons_zero, List.getElem?_cons_succ, List.set_cons_zero, List.set_cons_succ, List.cons_append, List.nil_append, List.replicate_succ, List.replicate_zero, List.length_cons, List.length_nil, List.all_cons, List.all_nil, Value.category, Bool.and_true, Bool.true_and, Bool.and_self, beq_self_eq_true, and_self, and_true, true_and, if_true, if_false, ite_true, ite_false, eq_self, List.mem_cons, List.mem_singleton, List.not_mem_nil, or_false, true_or, or_true, false_or, Nat.reduceSub, Nat.reduceAdd, decide_true, decide_false, Bool.not_true, Bool.not_false, Nat.zero_add, Bool.false_eq_true, va_rf, reduceCtorEq, Nat.reduceEqDiff, Nat.reduceLT, Nat.reduceMul, Nat.lt_irrefl, rNe_b, rEq_b, jx_ft_b, jx_ix_nI, rLt_n, rGe_n, rGt_n, rLe_n, rEq_n, rNe_n, rGt_0, rEq_0, rNe_0, rLt_0, rGe_0, rLe_0, nI_1s, ov_1, ov_21, ov_sh, ov_da, ov_dk, ov_sl, ov_dt, ov_pn, ov_wd, ov_md, ov_m1, ov_m2, ov_m3, ov_m4, ov_m5, ov_fo, hs_m_th, hs_m_fp, hs_m_fs, hs_m_fd, hs_m_on, hs_m_on0, hs_m_on1, hs_m_lf, hs_m_ft, hs_m_fn, hs_m_mo, hs_m_cv, hs_m_cl, hs_m_ct, hs_m_cp, hs_c_t, hs_c_mv, hs_c_lf, hs_c_on, hs_c_on0, hs_c_on1, hs_c_wd, hs_c_pr, hs_c_sl, hs_c_dt, hs_fo, lc_Md_start_0, eq_true (show k < 51 by omega)]) (fun k hk K' => by
      simp (disch := first | omega | assumption) only [jx_fn, jx_b_ok, jx_kb_ok, jx_b_inl, jx_kb_inl, jx_b_inr, jx_kb_inr, eInt, eNull, eI, eA, eBin, jx_op, oAdd_n, oMul_n, cCmp, cCmp0, jx_cp, cNull, jx_nl, cNot, cAnd_c, cOr_c, cIte_c, eIte_c, ck_ite, bf_and, bf_or, bf_not, ck_int, ck_10, ck_nI, cond_true, cond_false, oSub_g, nIs_le, oDiv_s, ck_n10, eGf, jx_gf, eLd, jx_ld, eLda, jx_lda, eLen, jx_len, eCl, jx_as, jx_ec, jx_ev, jx_es, jx_tb, sAsg, jx_set, jx_ft_int, jx_ft_ref, jx_ft_null, jx_ft_z0, jx_ft_z1, sSeq, sIf_c, sSkip, sInc, sPf, jx_pf_h, sUf, sSt, jx_st_h, sSta, jx_sta_h, jx_el, sUst, sRet, jx_rt, sRetV, sCl, sThrow_h, eNew, jx_nw_h, sObj, eNa, List.getElem?_cons_zero, List.getElem?_cons_succ, List.set_cons_zero, List.set_cons_succ, List.cons_append, List.nil_append, List.replicate_succ, List.replicate_zero, List.length_cons, List.length_nil, List.all_cons, List.all_nil, Value.category, Bool.and_true, Bool.true_and, Bool.and_self, beq_self_eq_true, and_self, and_true, true_and, if_true, if_false, ite_true, ite_false, eq_self, List.mem_cons, List.mem_singleton, List.not_mem_nil, or_false, true_or, or_true, false_or, Nat.reduceSub, Nat.reduceAdd, decide_true, decide_false, Bool.not_true, Bool.not_false, Nat.zero_add, Bool.false_eq_true, va_rf, reduceCtorEq, Nat.reduceEqDiff, Nat.reduceLT, Nat.reduceMul, Nat.lt_irrefl, rNe_b, rEq_b, jx_ft_b, jx_ix_nI, rLt_n, rGe_n, rGt_n, rLe_n, rEq_n, rNe_n, rGt_0, rEq_0, rNe_0, rLt_0, rGe_0, rLe_0, nI_1s, ov_1, ov_21, ov_sh, ov_da, ov_dk, ov_sl, ov_dt, ov_pn, ov_wd, ov_md, ov_m1, ov_m2, ov_m3, ov_m4, ov_m5, ov_fo, hs_m_th, hs_m_fp, hs_m_fs, hs_m_fd, hs_m_on, hs_m_on0, hs_m_on1, hs_m_lf, hs_m_ft, hs_m_fn, hs_m_mo, hs_m_cv, hs_m_cl, hs_m_ct, hs_m_cp, hs_c_t, hs_c_mv, hs_c_lf, hs_c_on, hs_c_on0, hs_c_on1, hs_c_wd, hs_c_pr, hs_c_sl, hs_c_dt, hs_fo, lb_Md_start_0]
      congr 3
      refine Prod.ext rfl (Prod.ext rfl (Prod.ext rfl (Prod.ext rfl (Prod.ext rfl (Prod.ext ?_ rfl)))))
      funext i
      dsimp only
      unfold upd
      by_cases e1 : i = k
      · subst e1
        rw [if_pos rfl, if_pos (by omega)]
      · rw [if_neg e1]
        dsimp only
        by_cases e2 : i < k
        · rw [if_pos e2, if_pos (by omega)]
        · rw [if_neg e2, if_neg (by omega)]) (by simp (disch := first | omega | assumption) only [jx_fn, jx_b_ok, jx_kb_ok, jx_b_inl, jx_kb_inl, jx_b_inr, jx_kb_inr, eInt, eNull, eI, eA, eBin, jx_op, oAdd_n, oMul_n, cCmp, cCmp0, jx_cp, cNull, jx_nl, cNot, cAnd_c, cOr_c, cIte_c, eIte_c, ck_ite, bf_and, bf_or, bf_not, ck_int, ck_10, ck_nI, cond_true, cond_false, oSub_g, nIs_le, oDiv_s, ck_n10, eGf, jx_gf, eLd, jx_ld, eLda, jx_lda, eLen, jx_len, eCl, jx_as, jx_ec, jx_ev, jx_es, jx_tb, sAsg, jx_set, jx_ft_int, jx_ft_ref, jx_ft_null, jx_ft_z0, jx_ft_z1, sSeq, sIf_c, sSkip, sInc, sPf, jx_pf_h, sUf, sSt, jx_st_h, sSta, jx_sta_h, jx_el, sUst, sRet, jx_rt, sRetV, sCl, sThrow_h, eNew, jx_nw_h, sObj, eNa, List.getElem?_cons_zero, List.getElem?_cons_succ, List.set_cons_zero, List.set_cons_succ, List.cons_append, List.nil_append, List.replicate_succ, List.replicate_zero, List.length_cons, List.length_nil, List.all_cons, List.all_nil, Value.category, Bool.and_true, Bool.true_and, Bool.and_self, beq_self_eq_true, and_self, and_true, true_and, if_true, if_false, ite_true, ite_false, eq_self, List.mem_cons, List.mem_singleton, List.not_mem_nil, or_false, true_or, or_true, false_or, Nat.reduceSub, Nat.reduceAdd, decide_true, decide_false, Bool.not_true, Bool.not_false, Nat.zero_add, Bool.false_eq_true, va_rf, reduceCtorEq, Nat.reduceEqDiff, Nat.reduceLT, Nat.reduceMul, Nat.lt_irrefl, rNe_b, rEq_b, jx_ft_b, jx_ix_nI, rLt_n, rGe_n, rGt_n, rLe_n, rEq_n, rNe_n, rGt_0, rEq_0, rNe_0, rLt_0, rGe_0, rLe_0, nI_1s, ov_1, ov_21, ov_sh, ov_da, ov_dk, ov_sl, ov_dt, ov_pn, ov_wd, ov_md, ov_m1, ov_m2, ov_m3, ov_m4, ov_m5, ov_fo, hs_m_th, hs_m_fp, hs_m_fs, hs_m_fd, hs_m_on, hs_m_on0, hs_m_on1, hs_m_lf, hs_m_ft, hs_m_fn, hs_m_mo, hs_m_cv, hs_m_cl, hs_m_ct, hs_m_cp, hs_c_t, hs_c_mv, hs_c_lf, hs_c_on, hs_c_on0, hs_c_on1, hs_c_wd, hs_c_pr, hs_c_sl, hs_c_dt, hs_fo, lc_Md_start_0]) 64 0 (by omega) (by omega)
  rw [e0, e1] at z
  exact z
set_option maxHeartbeats 8000000 in
theorem q_st3 (q : Value) (d t : Nat) (hd : d < 4) (ht : t < 2) (N : Nat → Nat) (hN : ∀ k, k < 51 → x.1 d (51 * t + k) = wds N k) (K : jx_Bk) : sWh 64 lc_Md_start_3 lb_Md_start_3 K [.ref (b + 19), q, .int (nI d), .int (nI t), .int (nI 0)] (mH h b C fo th pr x T fn cv cl ct cp) = K [.ref (b + 19), q, .int (nI d), .int (nI t), .int (nI 51)] (mH h b C fo th pr x (N) fn cv cl ct cp) := by
  have e0 : (fun k => if k < 0 then wds N k else wds T k) = wds T := funext fun k => if_neg (by omega)
  have e1 : (fun k => if k < 51 then wds N k else wds T k) = wds N := by
    funext k
    by_cases e : k < 51
    · rw [if_pos e]
    · rw [if_neg e, wds_hi _ (by omega), wds_hi _ (by omega)]
  have z := wh_go (c := lc_Md_start_3) (A := lb_Md_start_3) (K := K) (fun j => [.ref (b + 19), q, .int (nI d), .int (nI t), .int (nI j)]) (fun j => ov h b C (th, xfp pr, xfs x.1, xfd x.2.1, x.2.2.1, x.2.2.2.1, (fun k => if k < j then wds N k else wds T k), fn, x.2.2.2.2, nI cv, nI cl, nI ct, nI cp) fo) 51 (fun k hk => by simp (disch := first | omega | assumption) only [jx_fn, jx_b_ok, jx_kb_ok, jx_b_inl, jx_kb_inl, jx_b_inr, jx_kb_inr, eInt, eNull, eI, eA, eBin, jx_op, oAdd_n, oMul_n, cCmp, cCmp0, jx_cp, cNull, jx_nl, cNot, cAnd_c, cOr_c, cIte_c, eIte_c, ck_ite, bf_and, bf_or, bf_not, ck_int, ck_10, ck_nI, cond_true, cond_false, oSub_g, nIs_le, oDiv_s, ck_n10, eGf, jx_gf, eLd, jx_ld, eLda, jx_lda, eLen, jx_len, eCl, jx_as, jx_ec, jx_ev, jx_es, jx_tb, sAsg, jx_set, jx_ft_int, jx_ft_ref, jx_ft_null, jx_ft_z0, jx_ft_z1, sSeq, sIf_c, sSkip, sInc, sPf, jx_pf_h, sUf, sSt, jx_st_h, sSta, jx_sta_h, jx_el, sUst, sRet, jx_rt, sRetV, sCl, sThrow_h, eNew, jx_nw_h, sObj, eNa, List.getElem?_cons_zero, List.getElem?_cons_succ, List.set_cons_zero, List.set_cons_succ, List.cons_append, List.nil_append, List.replicate_succ, List.replicate_zero, List.length_cons, List.length_nil, List.all_cons, List.all_nil, Value.category, Bool.and_true, Bool.true_and, Bool.and_self, beq_self_eq_true, and_self, and_true, true_and, if_true, if_false, ite_true, ite_false, eq_self, List.mem_cons, List.mem_singleton, List.not_mem_nil, or_false, true_or, or_true, false_or, Nat.reduceSub, Nat.reduceAdd, decide_true, decide_false, Bool.not_true, Bool.not_false, Nat.zero_add, Bool.false_eq_true, va_rf, reduceCtorEq, Nat.reduceEqDiff, Nat.reduceLT, Nat.reduceMul, Nat.lt_irrefl, rNe_b, rEq_b, jx_ft_b, jx_ix_nI, rLt_n, rGe_n, rGt_n, rLe_n, rEq_n, rNe_n, rGt_0, rEq_0, rNe_0, rLt_0, rGe_0, rLe_0, nI_1s, ov_1, ov_21, ov_sh, ov_da, ov_dk, ov_sl, ov_dt, ov_pn, ov_wd, ov_md, ov_m1, ov_m2, ov_m3, ov_m4, ov_m5, ov_fo, hs_m_th, hs_m_fp, hs_m_fs, hs_m_fd, hs_m_on, hs_m_on0, hs_m_on1, hs_m_lf, hs_m_ft, hs_m_fn, hs_m_mo, hs_m_cv, hs_m_cl, hs_m_ct, hs_m_cp, hs_c_t, hs_c_mv, hs_c_lf, hs_c_on, hs_c_on0, hs_c_on1, hs_c_wd, hs_c_pr, hs_c_sl, hs_c_dt, hs_fo, lc_Md_start_3, eq_true (show k < 51 by omega)]) (fun k hk K' => by
      have hx : xfs x.1 (102 * d + 51 * t + k) = wds N k := by
        rw [Nat.add_assoc, xfs_at _ (by omega), hN k hk]
      simp (disch := first | omega | assumption) only [jx_fn, jx_b_ok, jx_kb_ok, jx_b_inl, jx_kb_inl, jx_b_inr, jx_kb_inr, eInt, eNull, eI, eA, eBin, jx_op, oAdd_n, oMul_n, cCmp, cCmp0, jx_cp, cNull, jx_nl, cNot, cAnd_c, cOr_c, cIte_c, eIte_c, ck_ite, bf_and, bf_or, bf_not, ck_int, ck_10, ck_nI, cond_true, cond_false, oSub_g, nIs_le, oDiv_s, ck_n10, eGf, jx_gf, eLd, jx_ld, eLda, jx_lda, eLen, jx_len, eCl, jx_as, jx_ec, jx_ev, jx_es, jx_tb, sAsg, jx_set, jx_ft_int, jx_ft_ref, jx_ft_null, jx_ft_z0, jx_ft_z1, sSeq, sIf_c, sSkip, sInc, sPf, jx_pf_h, sUf, sSt, jx_st_h, sSta, jx_sta_h, jx_el, sUst, sRet, jx_rt, sRetV, sCl, sThrow_h, eNew, jx_nw_h, sObj, eNa, List.getElem?_cons_zero, List.getElem?_cons_succ, List.set_cons_zero, List.set_cons_succ, List.cons_append, List.nil_append, List.replicate_succ, List.replicate_zero, List.length_cons, List.length_nil, List.all_cons, List.all_nil, Value.category, Bool.and_true, Bool.true_and, Bool.and_self, beq_self_eq_true, and_self, and_true, true_and, if_true, if_false, ite_true, ite_false, eq_self, List.mem_cons, List.mem_singleton, List.not_mem_nil, or_false, true_or, or_true, false_or, Nat.reduceSub, Nat.reduceAdd, decide_true, decide_false, Bool.not_true, Bool.not_false, Nat.zero_add, Bool.false_eq_true, va_rf, reduceCtorEq, Nat.reduceEqDiff, Nat.reduceLT, Nat.reduceMul, Nat.lt_irrefl, rNe_b, rEq_b, jx_ft_b, jx_ix_nI, rLt_n, rGe_n, rGt_n, rLe_n, rEq_n, rNe_n, rGt_0, rEq_0, rNe_0, rLt_0, rGe_0, rLe_0, nI_1s, ov_1, ov_21, ov_sh, ov_da, ov_dk, ov_sl, ov_dt, ov_pn, ov_wd, ov_md, ov_m1, ov_m2, ov_m3, ov_m4, ov_m5, ov_fo, hs_m_th, hs_m_fp, hs_m_fs, hs_m_fd, hs_m_on, hs_m_on0, hs_m_on1, hs_m_lf, hs_m_ft, hs_m_fn, hs_m_mo, hs_m_cv, hs_m_cl, hs_m_ct, hs_m_cp, hs_c_t, hs_c_mv, hs_c_lf, hs_c_on, hs_c_on0, hs_c_on1, hs_c_wd, hs_c_pr, hs_c_sl, hs_c_dt, hs_fo, lb_Md_start_3, hx]
      congr 3
      refine Prod.ext rfl (Prod.ext rfl (Prod.ext rfl (Prod.ext rfl (Prod.ext rfl (Prod.ext ?_ rfl)))))
      funext i
      dsimp only
      unfold upd
      by_cases e1 : i = k
      · subst e1
        rw [if_pos rfl, if_pos (by omega)]
      · rw [if_neg e1]
        dsimp only
        by_cases e2 : i < k
        · rw [if_pos e2, if_pos (by omega)]
        · rw [if_neg e2, if_neg (by omega)]) (by simp (disch := first | omega | assumption) only [jx_fn, jx_b_ok, jx_kb_ok, jx_b_inl, jx_kb_inl, jx_b_inr, jx_kb_inr, eInt, eNull, eI, eA, eBin, jx_op, oAdd_n, oMul_n, cCmp, cCmp0, jx_cp, cNull, jx_nl, cNot, cAnd_c, cOr_c, cIte_c, eIte_c, ck_ite, bf_and, bf_or, bf_not, ck_int, ck_10, ck_nI, cond_true, cond_false, oSub_g, nIs_le, oDiv_s, ck_n10, eGf, jx_gf, eLd, jx_ld, eLda, jx_lda, eLen, jx_len, eCl, jx_as, jx_ec, jx_ev, jx_es, jx_tb, sAsg, jx_set, jx_ft_int, jx_ft_ref, jx_ft_null, jx_ft_z0, jx_ft_z1, sSeq, sIf_c, sSkip, sInc, sPf, jx_pf_h, sUf, sSt, jx_st_h, sSta, jx_sta_h, jx_el, sUst, sRet, jx_rt, sRetV, sCl, sThrow_h, eNew, jx_nw_h, sObj, eNa, List.getElem?_cons_zero, List.getElem?_cons_succ, List.set_cons_zero, List.set_cons_succ, List.cons_append, List.nil_append, List.replicate_succ, List.replicate_zero, List.length_cons, List.length_nil, List.all_cons, List.all_nil, Value.category, Bool.and_true, Bool.true_and, Bool.and_self, beq_self_eq_true, and_self, and_true, true_and, if_true, if_false, ite_true, ite_false, eq_self, List.mem_cons, List.mem_singleton, List.not_mem_nil, or_false, true_or, or_true, false_or, Nat.reduceSub, Nat.reduceAdd, decide_true, decide_false, Bool.not_true, Bool.not_false, Nat.zero_add, Bool.false_eq_true, va_rf, reduceCtorEq, Nat.reduceEqDiff, Nat.reduceLT, Nat.reduceMul, Nat.lt_irrefl, rNe_b, rEq_b, jx_ft_b, jx_ix_nI, rLt_n, rGe_n, rGt_n, rLe_n, rEq_n, rNe_n, rGt_0, rEq_0, rNe_0, rLt_0, rGe_0, rLe_0, nI_1s, ov_1, ov_21, ov_sh, ov_da, ov_dk, ov_sl, ov_dt, ov_pn, ov_wd, ov_md, ov_m1, ov_m2, ov_m3, ov_m4, ov_m5, ov_fo, hs_m_th, hs_m_fp, hs_m_fs, hs_m_fd, hs_m_on, hs_m_on0, hs_m_on1, hs_m_lf, hs_m_ft, hs_m_fn, hs_m_mo, hs_m_cv, hs_m_cl, hs_m_ct, hs_m_cp, hs_c_t, hs_c_mv, hs_c_lf, hs_c_on, hs_c_on0, hs_c_on1, hs_c_wd, hs_c_pr, hs_c_sl, hs_c_dt, hs_fo, lc_Md_start_3]) 64 0 (by omega) (by omega)
  rw [e0, e1] at z
  exact z
end MO
