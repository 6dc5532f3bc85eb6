/-! THE LAW's CALLS, joined: the shelf by its wrapper, then the model (printed by tools/lw.py behind its head) -/
def mM (th : Int32) (s : xS) (fn : Nat → Int32) : cM := (th, xfp s.1, xfs s.2.1.1, xfd s.2.1.2.1, s.2.1.2.2.1, s.2.1.2.2.2.1, wds s.2.2.1, fn, s.2.1.2.2.2.2, nI s.2.2.2.1, nI s.2.2.2.2.1, nI s.2.2.2.2.2.1, nI s.2.2.2.2.2.2)
def cT (s : xS) (t : Nat) (mv : Value) (wd : Nat → Int32) : cC := (s.1, s.2.1.1, s.2.1.2.1, s.2.1.2.2.2.1, s.2.1.2.2.1, t, mv, wd)
def HH (h : jx_S) (b : Nat) (fo : Nat → Int64) (th : Int32) (s : xS) (t : Nat) (mv : Value) (wd fn : Nat → Int32) : jx_S := cS h b (mM th s fn) fo s t mv wd
/-- behind n calls: both in one state, the invariant, the heap's growth -/
def LI (b u0 n : Nat) (H : jx_S) : Prop := ∃ h fo th s t mv wd fn, H = HH h b fo th s t mv wd fn ∧ GI s (2 * n) ∧ (s.2.1.2.2.1 = true → ∃ lo hi, CR b h s t mv lo hi) ∧ b + 26 ≤ h.1 ∧ h.1 ≤ b + 26 + 100 * n ∧ h.2.1 ≤ u0 + 700 * n
theorem CDc {c : Bool} {x y : Nat × Int32 × xS} {k : Nat} (h1 : x.1 ≤ k) (h2 : y.1 ≤ k) : (bif c then x else y).1 ≤ k := by
  cases c
  · exact h2
  · exact h1
theorem cdl {c k : Nat} {a : Int32} {s : xS} (h : c ≤ k) : ((c, a, s) : Nat × Int32 × xS).1 ≤ k := h
theorem enS_cd {s : xS} {a : Int32} {k : Nat} (h : 1 ≤ k) : (enS s a).1 ≤ k := by
  unfold enS
  cases s.2.1.2.2.1
  · exact h
  · exact Nat.zero_le _
theorem stp2_cd (s : xS) : (stp2 s).1 ≤ 2 := by
  unfold stp2
  exact enS_cd (by decide)
set_option maxHeartbeats 8000000 in
theorem q_moving (h : jx_S) (b : Nat) (M : cM) (fo : Nat → Int64) (s : xS) (t : Nat) (mv : Value) (wd : Nat → Int32) (hs : IM s) (hC : s.2.1.2.2.1 = true → ∃ lo hi, CR b h s t mv lo hi) : f_Sh_moving [.ref b] (cS h b M fo s t mv wd) = some (.returned (some (.int (sp_moving s).2.1)), cS h b M fo s t mv wd) := by
  obtain ⟨pr, ⟨sl, dt, on, lf, mo⟩, T, cv, cl, ct, cp⟩ := s
  obtain ⟨hW, hcv, hcl, hct, hcp, hmo, h30⟩ := hs
  dsimp only at hW hcv hcl hct hcp hmo h30 hC
  have hT := hW.1
  cases on
  · rw [show sp_moving (pr, (sl, dt, false, lf, mo), T, cv, cl, ct, cp) = (0, -1, pr, (sl, dt, false, lf, mo), T, cv, cl, ct, cp) from rfl]
    simp (disch := first | omega | assumption) only [jx_fn, jx_b_ok, jx_kb_ok, jx_b_inl, jx_kb_inl, jx_b_inr, jx_kb_inr, eInt, eNull, eI, eA, eBin, jx_op, oAdd_n, oMul_n, cCmp, cCmp0, jx_cp, cNull, jx_nl, cNot, cAnd_k, cOr_k, cIte_c, eIte_k, ck_ite, bf_and, bf_or, bf_not, ck_int, ck_10, ck_nI, cond_true, cond_false, oSub_g, nIs_le, oDiv_s, ck_n10, eGf, jx_gf, eLd, jx_ld, eLda, jx_lda, eLen, jx_len, eCl, jx_as, jx_ec, jx_ev, jx_es, tb1, tb3, tbk, tbn, tbl, sAsg_k, jx_set, jx_ft_int, jx_ft_ref, jx_ft_null, jx_ft_z0, jx_ft_z1, sSeq_k, sIf_k, sSkip, sInc, sPf_k, jx_pf_h, sUf_k, sSt_k, jx_st_h, sSta_k, jx_sta_h, jx_el, sUst_k, sRet, jx_rt, sRetV, sCl_k, sThrow_h, eNew, jx_nw_h, sObj, eNa, List.getElem?_cons_zero, List.getElem?_cons_succ, List.set_cons_zero, List.set_cons_succ, List.cons_append, List.nil_append, List.replicate_succ, List.replicate_zero, List.length_cons, List.length_nil, List.all_cons, List.all_nil, Value.category, Bool.and_true, Bool.true_and, Bool.and_self, beq_self_eq_true, and_self, and_true, true_and, if_true, if_false, ite_true, ite_false, eq_self, List.mem_cons, List.mem_singleton, List.not_mem_nil, or_false, true_or, or_true, false_or, Nat.reduceSub, Nat.reduceAdd, decide_true, decide_false, Bool.not_true, Bool.not_false, Nat.zero_add, Bool.false_eq_true, va_rf, reduceCtorEq, Nat.reduceEqDiff, Nat.reduceLT, Nat.reduceMul, Nat.lt_irrefl, rNe_b, rEq_b, jx_ft_b, jx_ix_nI, rLt_n, rGe_n, rGt_n, rLe_n, rEq_n, rNe_n, rGt_0, rEq_0, rNe_0, rLt_0, rGe_0, rLe_0, nI_1s, kU_ok, kU_r, kA_ok, kA_r, kC_t, kC_f, kC_r, kO_ok, kO_l, kO_r, kE_ok, kN_ok, kR_ok, kE_t, kE_f, kN_t, kN_f, kR_t, kR_f, cH_1, cH_21, cH_sh, cH_da, cH_dk, cH_sl, cH_dt, cH_pn, cH_wd, cH_md, cS_sh, cS_pn, cS_pn0, cS_pn1, cS_sl, cS_dt, cS_wd, cS_pr, pm_eta, va_rf, b2i_t, b2i_f, Bool.true_or, Bool.false_or, Bool.or_true, Bool.or_false, Bool.false_and, Bool.and_false, q_need1, q_need0, q_allow1, q_allow0, q_Sh_isDisk, f_Sh_moving, bd_Sh_moving, cS]
  · rw [show sp_moving (pr, (sl, dt, true, lf, mo), T, cv, cl, ct, cp) = (0, mo, pr, (sl, dt, true, lf, mo), T, cv, cl, ct, cp) from rfl]
    obtain ⟨lo, hi, c1, c2, c3, c4⟩ := hC rfl
    rcases c4 with ⟨e1, rfl⟩ | ⟨am, d, vo, le, fr, co, ⟨rfl, e0, ed⟩, ⟨e2, e3, e4⟩, e5, e6⟩
    · dsimp only at e1
      subst e1
      simp (disch := first | omega | assumption) only [jx_fn, jx_b_ok, jx_kb_ok, jx_b_inl, jx_kb_inl, jx_b_inr, jx_kb_inr, eInt, eNull, eI, eA, eBin, jx_op, oAdd_n, oMul_n, cCmp, cCmp0, jx_cp, cNull, jx_nl, cNot, cAnd_k, cOr_k, cIte_c, eIte_k, ck_ite, bf_and, bf_or, bf_not, ck_int, ck_10, ck_nI, cond_true, cond_false, oSub_g, nIs_le, oDiv_s, ck_n10, eGf, jx_gf, eLd, jx_ld, eLda, jx_lda, eLen, jx_len, eCl, jx_as, jx_ec, jx_ev, jx_es, tb1, tb3, tbk, tbn, tbl, sAsg_k, jx_set, jx_ft_int, jx_ft_ref, jx_ft_null, jx_ft_z0, jx_ft_z1, sSeq_k, sIf_k, sSkip, sInc, sPf_k, jx_pf_h, sUf_k, sSt_k, jx_st_h, sSta_k, jx_sta_h, jx_el, sUst_k, sRet, jx_rt, sRetV, sCl_k, sThrow_h, eNew, jx_nw_h, sObj, eNa, List.getElem?_cons_zero, List.getElem?_cons_succ, List.set_cons_zero, List.set_cons_succ, List.cons_append, List.nil_append, List.replicate_succ, List.replicate_zero, List.length_cons, List.length_nil, List.all_cons, List.all_nil, Value.category, Bool.and_true, Bool.true_and, Bool.and_self, beq_self_eq_true, and_self, and_true, true_and, if_true, if_false, ite_true, ite_false, eq_self, List.mem_cons, List.mem_singleton, List.not_mem_nil, or_false, true_or, or_true, false_or, Nat.reduceSub, Nat.reduceAdd, decide_true, decide_false, Bool.not_true, Bool.not_false, Nat.zero_add, Bool.false_eq_true, va_rf, reduceCtorEq, Nat.reduceEqDiff, Nat.reduceLT, Nat.reduceMul, Nat.lt_irrefl, rNe_b, rEq_b, jx_ft_b, jx_ix_nI, rLt_n, rGe_n, rGt_n, rLe_n, rEq_n, rNe_n, rGt_0, rEq_0, rNe_0, rLt_0, rGe_0, rLe_0, nI_1s, kU_ok, kU_r, kA_ok, kA_r, kC_t, kC_f, kC_r, kO_ok, kO_l, kO_r, kE_ok, kN_ok, kR_ok, kE_t, kE_f, kN_t, kN_f, kR_t, kR_f, cH_1, cH_21, cH_sh, cH_da, cH_dk, cH_sl, cH_dt, cH_pn, cH_wd, cH_md, cS_sh, cS_pn, cS_pn0, cS_pn1, cS_sl, cS_dt, cS_wd, cS_pr, pm_eta, va_rf, b2i_t, b2i_f, Bool.true_or, Bool.false_or, Bool.or_true, Bool.or_false, Bool.false_and, Bool.and_false, q_need1, q_need0, q_allow1, q_allow0, q_Sh_isDisk, f_Sh_moving, bd_Sh_moving, cS]
    · dsimp only at e0 e5
      subst e0
      have r2 := (cH_out h b M fo pr (sl, dt, true, lf, nI d) t (.ref am) wd (q := am) (Or.inl e2)).trans e5
      simp (disch := first | omega | assumption) only [jx_fn, jx_b_ok, jx_kb_ok, jx_b_inl, jx_kb_inl, jx_b_inr, jx_kb_inr, eInt, eNull, eI, eA, eBin, jx_op, oAdd_n, oMul_n, cCmp, cCmp0, jx_cp, cNull, jx_nl, cNot, cAnd_k, cOr_k, cIte_c, eIte_k, ck_ite, bf_and, bf_or, bf_not, ck_int, ck_10, ck_nI, cond_true, cond_false, oSub_g, nIs_le, oDiv_s, ck_n10, eGf, jx_gf, eLd, jx_ld, eLda, jx_lda, eLen, jx_len, eCl, jx_as, jx_ec, jx_ev, jx_es, tb1, tb3, tbk, tbn, tbl, sAsg_k, jx_set, jx_ft_int, jx_ft_ref, jx_ft_null, jx_ft_z0, jx_ft_z1, sSeq_k, sIf_k, sSkip, sInc, sPf_k, jx_pf_h, sUf_k, sSt_k, jx_st_h, sSta_k, jx_sta_h, jx_el, sUst_k, sRet, jx_rt, sRetV, sCl_k, sThrow_h, eNew, jx_nw_h, sObj, eNa, List.getElem?_cons_zero, List.getElem?_cons_succ, List.set_cons_zero, List.set_cons_succ, List.cons_append, List.nil_append, List.replicate_succ, List.replicate_zero, List.length_cons, List.length_nil, List.all_cons, List.all_nil, Value.category, Bool.and_true, Bool.true_and, Bool.and_self, beq_self_eq_true, and_self, and_true, true_and, if_true, if_false, ite_true, ite_false, eq_self, List.mem_cons, List.mem_singleton, List.not_mem_nil, or_false, true_or, or_true, false_or, Nat.reduceSub, Nat.reduceAdd, decide_true, decide_false, Bool.not_true, Bool.not_false, Nat.zero_add, Bool.false_eq_true, va_rf, reduceCtorEq, Nat.reduceEqDiff, Nat.reduceLT, Nat.reduceMul, Nat.lt_irrefl, rNe_b, rEq_b, jx_ft_b, jx_ix_nI, rLt_n, rGe_n, rGt_n, rLe_n, rEq_n, rNe_n, rGt_0, rEq_0, rNe_0, rLt_0, rGe_0, rLe_0, nI_1s, kU_ok, kU_r, kA_ok, kA_r, kC_t, kC_f, kC_r, kO_ok, kO_l, kO_r, kE_ok, kN_ok, kR_ok, kE_t, kE_f, kN_t, kN_f, kR_t, kR_f, cH_1, cH_21, cH_sh, cH_da, cH_dk, cH_sl, cH_dt, cH_pn, cH_wd, cH_md, cS_sh, cS_pn, cS_pn0, cS_pn1, cS_sl, cS_dt, cS_wd, cS_pr, pm_eta, va_rf, b2i_t, b2i_f, Bool.true_or, Bool.false_or, Bool.or_true, Bool.or_false, Bool.false_and, Bool.and_false, q_need1, q_need0, q_allow1, q_allow0, q_Sh_isDisk, f_Sh_moving, bd_Sh_moving, cS, r2]
set_option maxHeartbeats 8000000 in
theorem q_number (h : jx_S) (b : Nat) (M : cM) (fo : Nat → Int64) (s : xS) (t : Nat) (mv : Value) (wd : Nat → Int32) (hs : IM s) (hC : s.2.1.2.2.1 = true → ∃ lo hi, CR b h s t mv lo hi) : f_Sh_number [.ref b] (cS h b M fo s t mv wd) = some (.returned (some (.int (sp_number s).2.1)), cS h b M fo s t mv wd) := by
  obtain ⟨pr, ⟨sl, dt, on, lf, mo⟩, T, cv, cl, ct, cp⟩ := s
  obtain ⟨hW, hcv, hcl, hct, hcp, hmo, h30⟩ := hs
  dsimp only at hW hcv hcl hct hcp hmo h30 hC
  have hT := hW.1
  cases on
  · rw [show sp_number (pr, (sl, dt, false, lf, mo), T, cv, cl, ct, cp) = (0, -1, pr, (sl, dt, false, lf, mo), T, cv, cl, ct, cp) from rfl]
    simp (disch := first | omega | assumption) only [jx_fn, jx_b_ok, jx_kb_ok, jx_b_inl, jx_kb_inl, jx_b_inr, jx_kb_inr, eInt, eNull, eI, eA, eBin, jx_op, oAdd_n, oMul_n, cCmp, cCmp0, jx_cp, cNull, jx_nl, cNot, cAnd_k, cOr_k, cIte_c, eIte_k, ck_ite, bf_and, bf_or, bf_not, ck_int, ck_10, ck_nI, cond_true, cond_false, oSub_g, nIs_le, oDiv_s, ck_n10, eGf, jx_gf, eLd, jx_ld, eLda, jx_lda, eLen, jx_len, eCl, jx_as, jx_ec, jx_ev, jx_es, tb1, tb3, tbk, tbn, tbl, sAsg_k, jx_set, jx_ft_int, jx_ft_ref, jx_ft_null, jx_ft_z0, jx_ft_z1, sSeq_k, sIf_k, sSkip, sInc, sPf_k, jx_pf_h, sUf_k, sSt_k, jx_st_h, sSta_k, jx_sta_h, jx_el, sUst_k, sRet, jx_rt, sRetV, sCl_k, sThrow_h, eNew, jx_nw_h, sObj, eNa, List.getElem?_cons_zero, List.getElem?_cons_succ, List.set_cons_zero, List.set_cons_succ, List.cons_append, List.nil_append, List.replicate_succ, List.replicate_zero, List.length_cons, List.length_nil, List.all_cons, List.all_nil, Value.category, Bool.and_true, Bool.true_and, Bool.and_self, beq_self_eq_true, and_self, and_true, true_and, if_true, if_false, ite_true, ite_false, eq_self, List.mem_cons, List.mem_singleton, List.not_mem_nil, or_false, true_or, or_true, false_or, Nat.reduceSub, Nat.reduceAdd, decide_true, decide_false, Bool.not_true, Bool.not_false, Nat.zero_add, Bool.false_eq_true, va_rf, reduceCtorEq, Nat.reduceEqDiff, Nat.reduceLT, Nat.reduceMul, Nat.lt_irrefl, rNe_b, rEq_b, jx_ft_b, jx_ix_nI, rLt_n, rGe_n, rGt_n, rLe_n, rEq_n, rNe_n, rGt_0, rEq_0, rNe_0, rLt_0, rGe_0, rLe_0, nI_1s, kU_ok, kU_r, kA_ok, kA_r, kC_t, kC_f, kC_r, kO_ok, kO_l, kO_r, kE_ok, kN_ok, kR_ok, kE_t, kE_f, kN_t, kN_f, kR_t, kR_f, cH_1, cH_21, cH_sh, cH_da, cH_dk, cH_sl, cH_dt, cH_pn, cH_wd, cH_md, cS_sh, cS_pn, cS_pn0, cS_pn1, cS_sl, cS_dt, cS_wd, cS_pr, pm_eta, va_rf, b2i_t, b2i_f, Bool.true_or, Bool.false_or, Bool.or_true, Bool.or_false, Bool.false_and, Bool.and_false, q_need1, q_need0, q_allow1, q_allow0, q_Sh_isDisk, f_Sh_number, bd_Sh_number, cS]
  · rw [show sp_number (pr, (sl, dt, true, lf, mo), T, cv, cl, ct, cp) = (0, nI (T 0), pr, (sl, dt, true, lf, mo), T, cv, cl, ct, cp) from rfl]
    obtain ⟨lo, hi, c1, c2, c3, c4⟩ := hC rfl
    obtain ⟨ea, va, qa, la, fe, fv, fl, hp⟩ := c3
    have r1 := (cTPa h b M fo pr (sl, dt, true, lf, mo) t mv wd c1 hp).2.2.2.2.1
    simp (disch := first | omega | assumption) only [jx_fn, jx_b_ok, jx_kb_ok, jx_b_inl, jx_kb_inl, jx_b_inr, jx_kb_inr, eInt, eNull, eI, eA, eBin, jx_op, oAdd_n, oMul_n, cCmp, cCmp0, jx_cp, cNull, jx_nl, cNot, cAnd_k, cOr_k, cIte_c, eIte_k, ck_ite, bf_and, bf_or, bf_not, ck_int, ck_10, ck_nI, cond_true, cond_false, oSub_g, nIs_le, oDiv_s, ck_n10, eGf, jx_gf, eLd, jx_ld, eLda, jx_lda, eLen, jx_len, eCl, jx_as, jx_ec, jx_ev, jx_es, tb1, tb3, tbk, tbn, tbl, sAsg_k, jx_set, jx_ft_int, jx_ft_ref, jx_ft_null, jx_ft_z0, jx_ft_z1, sSeq_k, sIf_k, sSkip, sInc, sPf_k, jx_pf_h, sUf_k, sSt_k, jx_st_h, sSta_k, jx_sta_h, jx_el, sUst_k, sRet, jx_rt, sRetV, sCl_k, sThrow_h, eNew, jx_nw_h, sObj, eNa, List.getElem?_cons_zero, List.getElem?_cons_succ, List.set_cons_zero, List.set_cons_succ, List.cons_append, List.nil_append, List.replicate_succ, List.replicate_zero, List.length_cons, List.length_nil, List.all_cons, List.all_nil, Value.category, Bool.and_true, Bool.true_and, Bool.and_self, beq_self_eq_true, and_self, and_true, true_and, if_true, if_false, ite_true, ite_false, eq_self, List.mem_cons, List.mem_singleton, List.not_mem_nil, or_false, true_or, or_true, false_or, Nat.reduceSub, Nat.reduceAdd, decide_true, decide_false, Bool.not_true, Bool.not_false, Nat.zero_add, Bool.false_eq_true, va_rf, reduceCtorEq, Nat.reduceEqDiff, Nat.reduceLT, Nat.reduceMul, Nat.lt_irrefl, rNe_b, rEq_b, jx_ft_b, jx_ix_nI, rLt_n, rGe_n, rGt_n, rLe_n, rEq_n, rNe_n, rGt_0, rEq_0, rNe_0, rLt_0, rGe_0, rLe_0, nI_1s, kU_ok, kU_r, kA_ok, kA_r, kC_t, kC_f, kC_r, kO_ok, kO_l, kO_r, kE_ok, kN_ok, kR_ok, kE_t, kE_f, kN_t, kN_f, kR_t, kR_f, cH_1, cH_21, cH_sh, cH_da, cH_dk, cH_sl, cH_dt, cH_pn, cH_wd, cH_md, cS_sh, cS_pn, cS_pn0, cS_pn1, cS_sl, cS_dt, cS_wd, cS_pr, pm_eta, va_rf, b2i_t, b2i_f, Bool.true_or, Bool.false_or, Bool.or_true, Bool.or_false, Bool.false_and, Bool.and_false, q_need1, q_need0, q_allow1, q_allow0, q_Sh_isDisk, f_Sh_number, bd_Sh_number, cS, r1]
section LW
variable {h : jx_S} {b : Nat} {M : cM} {fo : Nat → Int64} {s : xS} {t : Nat} {mv : Value} {wd : Nat → Int32}
theorem ev_sh {F : jx_Mt} {as L : List Value} : jx_ev [(0, F)] (.ref b :: as) L (cS h b M fo s t mv wd) = jx_ec F (.ref b :: as) L (cS h b M fo s t mv wd) := by
  unfold jx_ev cS
  dsimp only
  rw [cH_sh]
  rfl
theorem ev_md {F : jx_Mt} {as L : List Value} {th : Int32} {fn : Nat → Int32} {s' : xS} {v : Option Value} {H2 : jx_S} (hF : F (.ref (b + 19) :: as) (mX h b (cT s' t mv wd) fo th s fn) = some (.returned v, H2)) : jx_ev [(8, F)] (.ref (b + 19) :: as) L (cS h b (mM th s fn) fo s' t mv wd) = some (.inl (v, H2)) := by
  have e : cS h b (mM th s fn) fo s' t mv wd = mX h b (cT s' t mv wd) fo th s fn := rfl
  rw [e]
  unfold jx_ev
  dsimp only
  unfold mX
  rw [mH_md]
  show jx_ec F _ _ _ = _
  unfold jx_ec
  have hF' : F (.ref (b + 19) :: as) (mH h b (cT s' t mv wd) fo th s.1 s.2.1 s.2.2.1 fn s.2.2.2.1 s.2.2.2.2.1 s.2.2.2.2.2.1 s.2.2.2.2.2.2) = some (.returned v, H2) := hF
  rw [hF']
theorem HH_out {th : Int32} {fn : Nat → Int32} : (HH h b fo th s t mv wd fn).2.2 (b + 25) = some (.inl (1, 1, .inr (.inl fo))) := cH_md ..
theorem k0 {c K : Nat} (h1 : c ≤ K) (hK : K < 16) (hz : nI c = 0) : c = 0 := by
  rw [← nI_lit0] at hz
  exact nI_inj (by omega) (by decide) hz
theorem hs_fo' (g : Nat → Int64) : hset (cS h b M fo s t mv wd) (b + 25) (.inl (1, 1, .inr (.inl g))) = cS h b M g s t mv wd := hs_fo ..
theorem ev_th {th : Int32} {fn : Nat → Int32} {L : List Value} : jx_ev tb_Md_thrown [.ref (b + 19)] L (HH h b fo th s t mv wd fn) = some (.inl (some (.int th), HH h b fo th s t mv wd fn)) := ev_md (s' := s) (q_Md_thrown ..)
theorem off_u {n : Nat} (hG : GI s n) (hu : RZ b M fo h clA vV (sp_off s) (f_Sh_off [.ref b] (cS h b M fo s t mv wd)) ∨ s.2.1.2.2.1 = false ∧ RZ b M fo h clA vV (1, nI 0, s) (f_Sh_off [.ref b] (cS h b M fo s t mv wd))) : RZ b M fo h clA vV (sp_off s) (f_Sh_off [.ref b] (cS h b M fo s t mv wd)) := by
  rcases hu with hu | ⟨hoff, hu⟩
  · exact hu
  · have e : sp_off s = (1, nI 0, s) := by
      obtain ⟨pr, ⟨sl, dt, on, lf, mo⟩, T, cv, cl, ct, cp⟩ := s
      obtain ⟨_, _, _, _, _, a6, _⟩ := hG
      have hoff' : on = false := hoff
      subst hoff'
      obtain ⟨l1, l2⟩ := a6 rfl
      dsimp only at l1 l2
      subst l1
      subst l2
      rfl
    rw [e]
    exact hu
variable {cls : Nat → Nat} {cs : List Nat} {K : Nat} {r : Nat × Int32 × xS} {F : jx_Mt} {as : List Value}
theorem RZ.wv (hR : RZ b M fo h cls vV r (F (.ref b :: as) (cS h b M fo s t mv wd))) (hb : b + 26 ≤ h.1) (hcs : (List.range (K + 1)).all (fun c => c == 0 || decide (cs.findIdx? (fun q => q == cls c) = some (c - 1))) = true) (hK : r.1 ≤ K) : ∃ h1 t1 mv1 wd1, wV (jx_ev [(0, F)] (.ref b :: as) [] (cS h b M fo s t mv wd)) cs = some (.returned (some (.int (nI r.1))), cS h1 b M fo r.2.2 t1 mv1 wd1) ∧ (b + 26 ≤ h1.1 ∧ h1.1 ≤ h.1 + 100 ∧ h1.2.1 ≤ h.2.1 + 700) ∧ (r.2.2.2.1.2.2.1 = true → ∃ lo hi, CR b h1 r.2.2 t1 mv1 lo hi) := by
  obtain ⟨oc, h1, t1, mv1, wd1, g1, g2, ⟨g3, g4, g5, g6, g7⟩, g8⟩ := hR
  refine ⟨h1, t1, mv1, wd1, ?_, ⟨by omega, g4, g6⟩, g8⟩
  rw [ev_sh]
  rcases g2 with ⟨e1, rfl⟩ | ⟨e1, a, rfl, e2, e3⟩
  · rw [jx_ec_eq g1, e1]
    rfl
  · rw [jx_ec_thr g1]
    have hq := List.all_eq_true.mp hcs r.1 (List.mem_range.mpr (by omega))
    have hq2 : cs.findIdx? (fun q => q == cls r.1) = some (r.1 - 1) := by
      rw [Bool.or_eq_true] at hq
      rcases hq with z | z
      · exact absurd (by simpa using z) e1
      · exact of_decide_eq_true z
    show wX cs a _ = _
    unfold wX
    have e4 : (cS h1 b M fo r.2.2 t1 mv1 wd1).2.2 a = some (.inr (cls r.1, [])) := (cH_out h1 b M fo _ _ t1 mv1 wd1 (Or.inl e2)).trans e3
    rw [e4]
    dsimp only
    rw [hq2]
    have : r.1 - 1 + 1 = r.1 := by omega
    dsimp only
    rw [this]
theorem RZ.wi (hR : RZ b M fo h cls vI r (F (.ref b :: as) (cS h b M fo s t mv wd))) (hb : b + 26 ≤ h.1) (hcs : (List.range (K + 1)).all (fun c => c == 0 || decide (cs.findIdx? (fun q => q == cls c) = some (c - 1))) = true) (hK : r.1 ≤ K) : ∃ h1 fo1 t1 mv1 wd1, wI (jx_ev [(0, F)] (.ref b :: as) [] (cS h b M fo s t mv wd)) cs (b + 25) = some (.returned (some (.int (nI r.1))), cS h1 b M fo1 r.2.2 t1 mv1 wd1) ∧ (r.1 = 0 → fo1 0 = r.2.1.toInt64) ∧ (b + 26 ≤ h1.1 ∧ h1.1 ≤ h.1 + 100 ∧ h1.2.1 ≤ h.2.1 + 700) ∧ (r.2.2.2.1.2.2.1 = true → ∃ lo hi, CR b h1 r.2.2 t1 mv1 lo hi) := by
  obtain ⟨oc, h1, t1, mv1, wd1, g1, g2, ⟨g3, g4, g5, g6, g7⟩, g8⟩ := hR
  rcases g2 with ⟨e1, rfl⟩ | ⟨e1, a, rfl, e2, e3⟩
  · refine ⟨h1, vp_updL fo 0 r.2.1.toInt64, t1, mv1, wd1, ?_, fun _ => if_pos rfl, ⟨by omega, g4, g6⟩, g8⟩
    rw [ev_sh, jx_ec_eq g1, e1]
    show wI (some (.inl (some (.int r.2.1), _))) cs (b + 25) = _
    unfold wI
    dsimp only
    have e4 : (cS h1 b M fo r.2.2 t1 mv1 wd1).2.2 (b + 25) = some (.inl (1, 1, .inr (.inl fo))) := cH_md ..
    rw [e4]
    exact congrArg (fun q => some (Outcome.returned (some (Value.int (nI 0))), q)) (hs_fo' (vp_updL fo 0 r.2.1.toInt64))
  · refine ⟨h1, fo, t1, mv1, wd1, ?_, fun z => absurd z e1, ⟨by omega, g4, g6⟩, g8⟩
    rw [ev_sh, jx_ec_thr g1]
    have hq := List.all_eq_true.mp hcs r.1 (List.mem_range.mpr (by omega))
    have hq2 : cs.findIdx? (fun q => q == cls r.1) = some (r.1 - 1) := by
      rw [Bool.or_eq_true] at hq
      rcases hq with z | z
      · exact absurd (by simpa using z) e1
      · exact of_decide_eq_true z
    show wX cs a _ = _
    unfold wX
    have e4 : (cS h1 b M fo r.2.2 t1 mv1 wd1).2.2 a = some (.inr (cls r.1, [])) := (cH_out h1 b M fo _ _ t1 mv1 wd1 (Or.inl e2)).trans e3
    rw [e4]
    dsimp only
    rw [hq2]
    have : r.1 - 1 + 1 = r.1 := by omega
    dsimp only
    rw [this]
theorem RZ.wp (hR : RZ b M fo h cls vI r (F (.ref b :: as) (cS h b M fo s t mv wd))) (hb : b + 26 ≤ h.1) (hcs : (List.range (K + 1)).all (fun c => c == 0 || decide (cs.findIdx? (fun q => q == cls c) = some (c - 1))) = true) (hK : r.1 ≤ K) : ∃ h1 fo1 t1 mv1 wd1, wP (jx_ev [(0, F)] (.ref b :: as) [] (cS h b M fo s t mv wd)) cs (b + 25) = some (.returned (some (.int (nI r.1))), cS h1 b M fo1 r.2.2 t1 mv1 wd1) ∧ (r.1 = 0 → fo1 0 = if r.2.1 = 0 then 0 else 1) ∧ (b + 26 ≤ h1.1 ∧ h1.1 ≤ h.1 + 100 ∧ h1.2.1 ≤ h.2.1 + 700) ∧ (r.2.2.2.1.2.2.1 = true → ∃ lo hi, CR b h1 r.2.2 t1 mv1 lo hi) := by
  obtain ⟨oc, h1, t1, mv1, wd1, g1, g2, ⟨g3, g4, g5, g6, g7⟩, g8⟩ := hR
  rcases g2 with ⟨e1, rfl⟩ | ⟨e1, a, rfl, e2, e3⟩
  · refine ⟨h1, vp_updL fo 0 (if r.2.1 = 0 then 0 else 1), t1, mv1, wd1, ?_, fun _ => if_pos rfl, ⟨by omega, g4, g6⟩, g8⟩
    rw [ev_sh, jx_ec_eq g1, e1]
    show wP (some (.inl (some (.int r.2.1), _))) cs (b + 25) = _
    unfold wP
    dsimp only
    have e4 : (cS h1 b M fo r.2.2 t1 mv1 wd1).2.2 (b + 25) = some (.inl (1, 1, .inr (.inl fo))) := cH_md ..
    rw [e4]
    exact congrArg (fun q => some (Outcome.returned (some (Value.int (nI 0))), q)) (hs_fo' (vp_updL fo 0 (if r.2.1 = 0 then 0 else 1)))
  · refine ⟨h1, fo, t1, mv1, wd1, ?_, fun z => absurd z e1, ⟨by omega, g4, g6⟩, g8⟩
    rw [ev_sh, jx_ec_thr g1]
    have hq := List.all_eq_true.mp hcs r.1 (List.mem_range.mpr (by omega))
    have hq2 : cs.findIdx? (fun q => q == cls r.1) = some (r.1 - 1) := by
      rw [Bool.or_eq_true] at hq
      rcases hq with z | z
      · exact absurd (by simpa using z) e1
      · exact of_decide_eq_true z
    show wX cs a _ = _
    unfold wX
    have e4 : (cS h1 b M fo r.2.2 t1 mv1 wd1).2.2 a = some (.inr (cls r.1, [])) := (cH_out h1 b M fo _ _ t1 mv1 wd1 (Or.inl e2)).trans e3
    rw [e4]
    dsimp only
    rw [hq2]
    have : r.1 - 1 + 1 = r.1 := by omega
    dsimp only
    rw [this]
end LW
set_option maxHeartbeats 4000000 in
theorem lw_moving {b u0 n : Nat} {H : jx_S} (hL : LI b u0 n H) : ∃ v H2, (∀ L, jx_ev tb_Sh_moving [.ref b] L H = some (.inl (some (.int v), H))) ∧ (∀ L, jx_ev tb_Md_moving [.ref (b + 19)] L H = some (.inl (some (.int v), H2))) ∧ LI b u0 (n + 1) H2 := by
  obtain ⟨h, fo, th, s, t, mv, wd, fn, rfl, hG, hC, hb, hg1, hg2⟩ := hL
  have hu := q_moving h b (mM th s fn) fo s t mv wd hG.1 hC
  refine ⟨(sp_moving s).2.1, HH h b fo (nI 0) s t mv wd fn, fun L => ?_, fun L => ev_md (s' := s) (o_moving h b (cT s t mv wd) fo th s fn), ⟨h, fo, _, s, t, mv, wd, fn, rfl, hG.mo (by omega), hC, hb, by omega, by omega⟩⟩
  unfold HH
  rw [ev_sh, jx_ec_eq hu]
  rfl
set_option maxHeartbeats 4000000 in
theorem lw_number {b u0 n : Nat} {H : jx_S} (hL : LI b u0 n H) : ∃ v H2, (∀ L, jx_ev tb_Sh_number [.ref b] L H = some (.inl (some (.int v), H))) ∧ (∀ L, jx_ev tb_Md_number [.ref (b + 19)] L H = some (.inl (some (.int v), H2))) ∧ LI b u0 (n + 1) H2 := by
  obtain ⟨h, fo, th, s, t, mv, wd, fn, rfl, hG, hC, hb, hg1, hg2⟩ := hL
  have hu := q_number h b (mM th s fn) fo s t mv wd hG.1 hC
  refine ⟨(sp_number s).2.1, HH h b fo (nI 0) s t mv wd fn, fun L => ?_, fun L => ev_md (s' := s) (o_number h b (cT s t mv wd) fo th s fn), ⟨h, fo, _, s, t, mv, wd, fn, rfl, hG.mo (by omega), hC, hb, by omega, by omega⟩⟩
  unfold HH
  rw [ev_sh, jx_ec_eq hu]
  rfl
theorem cd_add (d : Int32) (e : Int32) (s : xS) : (sp_add d e s).1 ≤ 3 := by
  unfold sp_add
  exact CDc (cdl (by decide)) (CDc (cdl (by decide)) (CDc (cdl (by decide)) (enS_cd (by decide))))
set_option maxHeartbeats 4000000 in
theorem lw_add {b u0 n : Nat} {H : jx_S} (hL : LI b u0 n H) (hn : n ≤ 512) (q0 : Int32) (q1 : Int32) : ∃ k H1 H2, w_add [.ref b, .int q0, .int q1] H = some (.returned (some (.int k)), H1) ∧ (∀ L, jx_ev tb_Md_add [.ref (b + 19), .int q0, .int q1] L H1 = some (.inl (none, H2))) ∧ (∀ L, jx_ev tb_Md_thrown [.ref (b + 19)] L H2 = some (.inl (some (.int k), H2))) ∧ LI b u0 (n + 1) H2 := by
  obtain ⟨h, fo, th, s, t, mv, wd, fn, rfl, hG, hC, hb, hg1, hg2⟩ := hL
  have hu := u_add h b (mM th s fn) fo s t mv wd hG.1 hG.2.1 hb hC q0 q1
  obtain ⟨h1, t1, mv1, wd1, e1, e3, e4⟩ := hu.wv (cs := [9, 10, 11]) hb (by decide) (cd_add q0 q1 s)
  obtain ⟨fn1, e5⟩ := o_add h1 b (cT (sp_add q0 q1 s).2.2 t1 mv1 wd1) fo th s fn hG.1 q0 q1
  refine ⟨nI (sp_add q0 q1 s).1, _, HH h1 b fo (nI (sp_add q0 q1 s).1) (sp_add q0 q1 s).2.2 t1 mv1 wd1 fn1, e1, fun L => ?_, fun L => ev_th, ⟨h1, fo, _, _, t1, mv1, wd1, fn1, rfl, g_add hG (show 2 * n + 2 < 2 ^ 30 by omega) q0 q1, e4, by omega, by omega, by omega⟩⟩
  exact ev_md (e5)
theorem cd_remove (d : Int32) (s : xS) : (sp_remove d s).1 ≤ 3 := by
  unfold sp_remove
  exact CDc (cdl (by decide)) (CDc (cdl (by decide)) (CDc (cdl (by decide)) (enS_cd (by decide))))
set_option maxHeartbeats 4000000 in
theorem lw_remove {b u0 n : Nat} {H : jx_S} (hL : LI b u0 n H) (hn : n ≤ 512) (q0 : Int32) : ∃ k H1 H2, w_remove [.ref b, .int q0] H = some (.returned (some (.int k)), H1) ∧ (∀ L, jx_ev tb_Md_remove [.ref (b + 19), .int q0] L H1 = some (.inl (none, H2))) ∧ (∀ L, jx_ev tb_Md_thrown [.ref (b + 19)] L H2 = some (.inl (some (.int k), H2))) ∧ LI b u0 (n + 1) H2 := by
  obtain ⟨h, fo, th, s, t, mv, wd, fn, rfl, hG, hC, hb, hg1, hg2⟩ := hL
  have hu := u_remove h b (mM th s fn) fo s t mv wd hG.1 hG.2.1 hb hC q0
  obtain ⟨h1, t1, mv1, wd1, e1, e3, e4⟩ := hu.wv (cs := [9, 10, 11]) hb (by decide) (cd_remove q0 s)
  obtain ⟨fn1, e5⟩ := o_remove h1 b (cT (sp_remove q0 s).2.2 t1 mv1 wd1) fo th s fn hG.1 q0
  refine ⟨nI (sp_remove q0 s).1, _, HH h1 b fo (nI (sp_remove q0 s).1) (sp_remove q0 s).2.2 t1 mv1 wd1 fn1, e1, fun L => ?_, fun L => ev_th, ⟨h1, fo, _, _, t1, mv1, wd1, fn1, rfl, g_remove hG (show 2 * n + 2 < 2 ^ 30 by omega) q0, e4, by omega, by omega, by omega⟩⟩
  exact ev_md (e5)
theorem cd_drop (d : Int32) (s : xS) : (sp_drop d s).1 ≤ 3 := by
  unfold sp_drop
  exact CDc (cdl (by decide)) (CDc (cdl (by decide)) (CDc (cdl (by decide)) (enS_cd (by decide))))
set_option maxHeartbeats 4000000 in
theorem lw_drop {b u0 n : Nat} {H : jx_S} (hL : LI b u0 n H) (hn : n ≤ 512) (q0 : Int32) : ∃ k v f H1 H2, w_drop [.ref b, .int q0, .ref (b + 25)] H = some (.returned (some (.int k)), H1) ∧ (∀ L, jx_ev tb_Md_drop [.ref (b + 19), .int q0] L H1 = some (.inl (some (.int v), H2))) ∧ (∀ L, jx_ev tb_Md_thrown [.ref (b + 19)] L H2 = some (.inl (some (.int k), H2))) ∧ H2.2.2 (b + 25) = some (.inl (1, 1, .inr (.inl f))) ∧ (k = 0 → f 0 = v.toInt64) ∧ LI b u0 (n + 1) H2 := by
  obtain ⟨h, fo, th, s, t, mv, wd, fn, rfl, hG, hC, hb, hg1, hg2⟩ := hL
  have hu := u_drop h b (mM th s fn) fo s t mv wd hG.1 hG.2.1 hb hC q0
  obtain ⟨h1, fo1, t1, mv1, wd1, e1, e2, e3, e4⟩ := hu.wi (cs := [9, 10, 11]) hb (by decide) (cd_drop q0 s)
  obtain ⟨fn1, e5⟩ := o_drop h1 b (cT (sp_drop q0 s).2.2 t1 mv1 wd1) fo1 th s fn hG.1 q0
  refine ⟨nI (sp_drop q0 s).1, (sp_drop q0 s).2.1, fo1, _, HH h1 b fo1 (nI (sp_drop q0 s).1) (sp_drop q0 s).2.2 t1 mv1 wd1 fn1, e1, fun L => ?_, fun L => ev_th, HH_out, fun z => e2 (k0 (cd_drop q0 s) (by decide) z), ⟨h1, fo1, _, _, t1, mv1, wd1, fn1, rfl, g_drop hG (show 2 * n + 2 < 2 ^ 30 by omega) q0, e4, by omega, by omega, by omega⟩⟩
  exact ev_md (e5)
theorem cd_make (k : Int32) (c : Int32) (e : Int32) (s : xS) : (sp_make k c e s).1 ≤ 3 := by
  unfold sp_make
  refine CDc (cdl (by decide)) (CDc (cdl (by decide)) (CDc (cdl (by decide)) ?_))
  split
  · exact cdl (by decide)
  · split
    · exact cdl (by decide)
    · exact enS_cd (by decide)
set_option maxHeartbeats 4000000 in
theorem lw_make {b u0 n : Nat} {H : jx_S} (hL : LI b u0 n H) (hn : n ≤ 512) (q0 : Int32) (q1 : Int32) (q2 : Int32) : ∃ k v f H1 H2, w_make [.ref b, .int q0, .int q1, .int q2, .ref (b + 25)] H = some (.returned (some (.int k)), H1) ∧ (∀ L, jx_ev tb_Md_make [.ref (b + 19), .int q0, .int q1, .int q2] L H1 = some (.inl (some (.int v), H2))) ∧ (∀ L, jx_ev tb_Md_thrown [.ref (b + 19)] L H2 = some (.inl (some (.int k), H2))) ∧ H2.2.2 (b + 25) = some (.inl (1, 1, .inr (.inl f))) ∧ (k = 0 → f 0 = v.toInt64) ∧ LI b u0 (n + 1) H2 := by
  obtain ⟨h, fo, th, s, t, mv, wd, fn, rfl, hG, hC, hb, hg1, hg2⟩ := hL
  have hu := u_make h b (mM th s fn) fo s t mv wd hG.1 hG.2.1 hb hC q0 q1 q2
  obtain ⟨h1, fo1, t1, mv1, wd1, e1, e2, e3, e4⟩ := hu.wi (cs := [9, 10, 11]) hb (by decide) (cd_make q0 q1 q2 s)
  obtain ⟨fn1, e5⟩ := o_make h1 b (cT (sp_make q0 q1 q2 s).2.2 t1 mv1 wd1) fo1 th s fn hG.1 q0 q1 q2
  refine ⟨nI (sp_make q0 q1 q2 s).1, (sp_make q0 q1 q2 s).2.1, fo1, _, HH h1 b fo1 (nI (sp_make q0 q1 q2 s).1) (sp_make q0 q1 q2 s).2.2 t1 mv1 wd1 fn1, e1, fun L => ?_, fun L => ev_th, HH_out, fun z => e2 (k0 (cd_make q0 q1 q2 s) (by decide) z), ⟨h1, fo1, _, _, t1, mv1, wd1, fn1, rfl, g_make hG (show 2 * n + 2 < 2 ^ 30 by omega) q0 q1 q2, e4, by omega, by omega, by omega⟩⟩
  exact ev_md (e5)
theorem cd_grow (v : Int32) (k : Int32) (s : xS) : (sp_grow v k s).1 ≤ 4 := by
  unfold sp_grow
  refine CDc (cdl (by decide)) (CDc (cdl (by decide)) (CDc (cdl (by decide)) (CDc (cdl (by decide)) ?_)))
  split
  · exact cdl (by decide)
  · exact enS_cd (by decide)
set_option maxHeartbeats 4000000 in
theorem lw_grow {b u0 n : Nat} {H : jx_S} (hL : LI b u0 n H) (hn : n ≤ 512) (q0 : Int32) (q1 : Int32) : ∃ k v f H1 H2, w_grow [.ref b, .int q0, .int q1, .ref (b + 25)] H = some (.returned (some (.int k)), H1) ∧ (∀ L, jx_ev tb_Md_grow [.ref (b + 19), .int q0, .int q1] L H1 = some (.inl (some (.int v), H2))) ∧ (∀ L, jx_ev tb_Md_thrown [.ref (b + 19)] L H2 = some (.inl (some (.int k), H2))) ∧ H2.2.2 (b + 25) = some (.inl (1, 1, .inr (.inl f))) ∧ (k = 0 → f 0 = v.toInt64) ∧ LI b u0 (n + 1) H2 := by
  obtain ⟨h, fo, th, s, t, mv, wd, fn, rfl, hG, hC, hb, hg1, hg2⟩ := hL
  have hu := u_grow h b (mM th s fn) fo s t mv wd hG.1 hG.2.1 hb hC q0 q1
  obtain ⟨h1, fo1, t1, mv1, wd1, e1, e2, e3, e4⟩ := hu.wi (cs := [9, 12, 10, 11]) hb (by decide) (cd_grow q0 q1 s)
  obtain ⟨fn1, e5⟩ := o_grow h1 b (cT (sp_grow q0 q1 s).2.2 t1 mv1 wd1) fo1 th s fn hG.1 q0 q1
  refine ⟨nI (sp_grow q0 q1 s).1, (sp_grow q0 q1 s).2.1, fo1, _, HH h1 b fo1 (nI (sp_grow q0 q1 s).1) (sp_grow q0 q1 s).2.2 t1 mv1 wd1 fn1, e1, fun L => ?_, fun L => ev_th, HH_out, fun z => e2 (k0 (cd_grow q0 q1 s) (by decide) z), ⟨h1, fo1, _, _, t1, mv1, wd1, fn1, rfl, g_grow hG (show 2 * n + 2 < 2 ^ 30 by omega) q0 q1, e4, by omega, by omega, by omega⟩⟩
  exact ev_md (e5)
theorem cd_shrink (v : Int32) (k : Int32) (s : xS) : (sp_shrink v k s).1 ≤ 4 := by
  unfold sp_shrink
  exact CDc (cdl (by decide)) (CDc (cdl (by decide)) (CDc (cdl (by decide)) (CDc (cdl (by decide)) (enS_cd (by decide)))))
set_option maxHeartbeats 4000000 in
theorem lw_shrink {b u0 n : Nat} {H : jx_S} (hL : LI b u0 n H) (hn : n ≤ 512) (q0 : Int32) (q1 : Int32) : ∃ k v f H1 H2, w_shrink [.ref b, .int q0, .int q1, .ref (b + 25)] H = some (.returned (some (.int k)), H1) ∧ (∀ L, jx_ev tb_Md_shrink [.ref (b + 19), .int q0, .int q1] L H1 = some (.inl (some (.int v), H2))) ∧ (∀ L, jx_ev tb_Md_thrown [.ref (b + 19)] L H2 = some (.inl (some (.int k), H2))) ∧ H2.2.2 (b + 25) = some (.inl (1, 1, .inr (.inl f))) ∧ (k = 0 → f 0 = v.toInt64) ∧ LI b u0 (n + 1) H2 := by
  obtain ⟨h, fo, th, s, t, mv, wd, fn, rfl, hG, hC, hb, hg1, hg2⟩ := hL
  have hu := u_shrink h b (mM th s fn) fo s t mv wd hG.1 hG.2.1 hb hC q0 q1
  obtain ⟨h1, fo1, t1, mv1, wd1, e1, e2, e3, e4⟩ := hu.wi (cs := [9, 12, 10, 11]) hb (by decide) (cd_shrink q0 q1 s)
  obtain ⟨fn1, e5⟩ := o_shrink h1 b (cT (sp_shrink q0 q1 s).2.2 t1 mv1 wd1) fo1 th s fn hG.1 q0 q1
  refine ⟨nI (sp_shrink q0 q1 s).1, (sp_shrink q0 q1 s).2.1, fo1, _, HH h1 b fo1 (nI (sp_shrink q0 q1 s).1) (sp_shrink q0 q1 s).2.2 t1 mv1 wd1 fn1, e1, fun L => ?_, fun L => ev_th, HH_out, fun z => e2 (k0 (cd_shrink q0 q1 s) (by decide) z), ⟨h1, fo1, _, _, t1, mv1, wd1, fn1, rfl, g_shrink hG (show 2 * n + 2 < 2 ^ 30 by omega) q0 q1, e4, by omega, by omega, by omega⟩⟩
  exact ev_md (e5)
theorem cd_delete (v : Int32) (s : xS) : (sp_delete v s).1 ≤ 3 := by
  unfold sp_delete
  exact CDc (cdl (by decide)) (CDc (cdl (by decide)) (CDc (cdl (by decide)) (enS_cd (by decide))))
set_option maxHeartbeats 4000000 in
theorem lw_delete {b u0 n : Nat} {H : jx_S} (hL : LI b u0 n H) (hn : n ≤ 512) (q0 : Int32) : ∃ k H1 H2, w_delete [.ref b, .int q0] H = some (.returned (some (.int k)), H1) ∧ (∀ L, jx_ev tb_Md_delete [.ref (b + 19), .int q0] L H1 = some (.inl (none, H2))) ∧ (∀ L, jx_ev tb_Md_thrown [.ref (b + 19)] L H2 = some (.inl (some (.int k), H2))) ∧ LI b u0 (n + 1) H2 := by
  obtain ⟨h, fo, th, s, t, mv, wd, fn, rfl, hG, hC, hb, hg1, hg2⟩ := hL
  have hu := u_delete h b (mM th s fn) fo s t mv wd hG.1 hG.2.1 hb hC q0
  obtain ⟨h1, t1, mv1, wd1, e1, e3, e4⟩ := hu.wv (cs := [9, 12, 11]) hb (by decide) (cd_delete q0 s)
  obtain ⟨fn1, e5⟩ := o_delete h1 b (cT (sp_delete q0 s).2.2 t1 mv1 wd1) fo th s fn hG.1 q0
  refine ⟨nI (sp_delete q0 s).1, _, HH h1 b fo (nI (sp_delete q0 s).1) (sp_delete q0 s).2.2 t1 mv1 wd1 fn1, e1, fun L => ?_, fun L => ev_th, ⟨h1, fo, _, _, t1, mv1, wd1, fn1, rfl, g_delete hG (show 2 * n + 2 < 2 ^ 30 by omega) q0, e4, by omega, by omega, by omega⟩⟩
  exact ev_md (e5)
theorem cd_mend (v : Int32) (s : xS) : (sp_mend v s).1 ≤ 4 := by
  unfold sp_mend
  refine CDc (cdl (by decide)) (CDc (cdl (by decide)) (CDc (cdl (by decide)) (CDc (cdl (by decide)) ?_)))
  split
  · exact cdl (by decide)
  · exact CDc (cdl (by decide)) (enS_cd (by decide))
set_option maxHeartbeats 4000000 in
theorem lw_mend {b u0 n : Nat} {H : jx_S} (hL : LI b u0 n H) (hn : n ≤ 512) (q0 : Int32) : ∃ k v f H1 H2, w_mend [.ref b, .int q0, .ref (b + 25)] H = some (.returned (some (.int k)), H1) ∧ (∀ L, jx_ev tb_Md_mend [.ref (b + 19), .int q0] L H1 = some (.inl (some (.int v), H2))) ∧ (∀ L, jx_ev tb_Md_thrown [.ref (b + 19)] L H2 = some (.inl (some (.int k), H2))) ∧ H2.2.2 (b + 25) = some (.inl (1, 1, .inr (.inl f))) ∧ (k = 0 → f 0 = v.toInt64) ∧ LI b u0 (n + 1) H2 := by
  obtain ⟨h, fo, th, s, t, mv, wd, fn, rfl, hG, hC, hb, hg1, hg2⟩ := hL
  have hu := u_mend h b (mM th s fn) fo s t mv wd hG.1 hG.2.1 hb hC q0
  obtain ⟨h1, fo1, t1, mv1, wd1, e1, e2, e3, e4⟩ := hu.wi (cs := [9, 12, 10, 11]) hb (by decide) (cd_mend q0 s)
  obtain ⟨fn1, e5⟩ := o_mend h1 b (cT (sp_mend q0 s).2.2 t1 mv1 wd1) fo1 th s fn hG.1 q0
  refine ⟨nI (sp_mend q0 s).1, (sp_mend q0 s).2.1, fo1, _, HH h1 b fo1 (nI (sp_mend q0 s).1) (sp_mend q0 s).2.2 t1 mv1 wd1 fn1, e1, fun L => ?_, fun L => ev_th, HH_out, fun z => e2 (k0 (cd_mend q0 s) (by decide) z), ⟨h1, fo1, _, _, t1, mv1, wd1, fn1, rfl, g_mend hG (show 2 * n + 2 < 2 ^ 30 by omega) q0, e4, by omega, by omega, by omega⟩⟩
  exact ev_md (e5)
theorem cd_write (v : Int32) (w : Int32) (z : Int32) (s : xS) : (sp_write v w z s).1 ≤ 4 := by
  unfold sp_write
  refine CDc (cdl (by decide)) (CDc (cdl (by decide)) (CDc (cdl (by decide)) ?_))
  exact CDc (cdl (by decide)) (enS_cd (by decide))
set_option maxHeartbeats 4000000 in
theorem lw_write {b u0 n : Nat} {H : jx_S} (hL : LI b u0 n H) (hn : n ≤ 512) (q0 : Int32) (q1 : Int32) (q2 : Int32) : ∃ k v f H1 H2, w_write [.ref b, .int q0, .int q1, .int q2, .ref (b + 25)] H = some (.returned (some (.int k)), H1) ∧ (∀ L, jx_ev tb_Md_write [.ref (b + 19), .int q0, .int q1, .int q2] L H1 = some (.inl (some (.int v), H2))) ∧ (∀ L, jx_ev tb_Md_thrown [.ref (b + 19)] L H2 = some (.inl (some (.int k), H2))) ∧ H2.2.2 (b + 25) = some (.inl (1, 1, .inr (.inl f))) ∧ (k = 0 → f 0 = v.toInt64) ∧ LI b u0 (n + 1) H2 := by
  obtain ⟨h, fo, th, s, t, mv, wd, fn, rfl, hG, hC, hb, hg1, hg2⟩ := hL
  have hu := u_write h b (mM th s fn) fo s t mv wd hG.1 hG.2.1 hb hC q0 q1 q2
  obtain ⟨h1, fo1, t1, mv1, wd1, e1, e2, e3, e4⟩ := hu.wi (cs := [9, 12, 13, 11]) hb (by decide) (cd_write q0 q1 q2 s)
  obtain ⟨fn1, e5⟩ := o_write h1 b (cT (sp_write q0 q1 q2 s).2.2 t1 mv1 wd1) fo1 th s fn hG.1 q0 q1 q2
  refine ⟨nI (sp_write q0 q1 q2 s).1, (sp_write q0 q1 q2 s).2.1, fo1, _, HH h1 b fo1 (nI (sp_write q0 q1 q2 s).1) (sp_write q0 q1 q2 s).2.2 t1 mv1 wd1 fn1, e1, fun L => ?_, fun L => ev_th, HH_out, fun z => e2 (k0 (cd_write q0 q1 q2 s) (by decide) z), ⟨h1, fo1, _, _, t1, mv1, wd1, fn1, rfl, g_write hG (show 2 * n + 2 < 2 ^ 30 by omega) q0 q1 q2, e4, by omega, by omega, by omega⟩⟩
  exact ev_md (e5)
theorem cd_read (v : Int32) (w : Int32) (s : xS) : (sp_read v w s).1 ≤ 4 := by
  unfold sp_read
  exact (CDc (cdl (by decide)) (CDc (cdl (by decide)) (CDc (cdl (by decide)) (CDc (cdl (by decide)) (cdl (by decide))))))
set_option maxHeartbeats 4000000 in
theorem lw_read {b u0 n : Nat} {H : jx_S} (hL : LI b u0 n H) (hn : n ≤ 512) (q0 : Int32) (q1 : Int32) : ∃ k v f H1 H2, w_read [.ref b, .int q0, .int q1, .ref (b + 25)] H = some (.returned (some (.int k)), H1) ∧ (∀ L, jx_ev tb_Md_read [.ref (b + 19), .int q0, .int q1] L H1 = some (.inl (some (.int v), H2))) ∧ (∀ L, jx_ev tb_Md_thrown [.ref (b + 19)] L H2 = some (.inl (some (.int k), H2))) ∧ H2.2.2 (b + 25) = some (.inl (1, 1, .inr (.inl f))) ∧ (k = 0 → f 0 = v.toInt64) ∧ LI b u0 (n + 1) H2 := by
  obtain ⟨h, fo, th, s, t, mv, wd, fn, rfl, hG, hC, hb, hg1, hg2⟩ := hL
  have hu := u_read h b (mM th s fn) fo s t mv wd hG.1 hG.2.1 hb hC q0 q1
  obtain ⟨h1, fo1, t1, mv1, wd1, e1, e2, e3, e4⟩ := hu.wi (cs := [9, 12, 13, 11]) hb (by decide) (cd_read q0 q1 s)
  have e5 := o_read h1 b (cT (sp_read q0 q1 s).2.2 t1 mv1 wd1) fo1 th s fn hG.1 q0 q1
  refine ⟨nI (sp_read q0 q1 s).1, (sp_read q0 q1 s).2.1, fo1, _, HH h1 b fo1 (nI (sp_read q0 q1 s).1) (sp_read q0 q1 s).2.2 t1 mv1 wd1 fn, e1, fun L => ?_, fun L => ev_th, HH_out, fun z => e2 (k0 (cd_read q0 q1 s) (by decide) z), ⟨h1, fo1, _, _, t1, mv1, wd1, fn, rfl, g_read hG q0 q1, e4, by omega, by omega, by omega⟩⟩
  exact ev_md (e5)
theorem cd_empty (d : Int32) (s : xS) : (sp_empty d s).1 ≤ 3 := by
  unfold sp_empty
  exact (CDc (cdl (by decide)) (CDc (cdl (by decide)) (CDc (cdl (by decide)) (cdl (by decide)))))
set_option maxHeartbeats 4000000 in
theorem lw_empty {b u0 n : Nat} {H : jx_S} (hL : LI b u0 n H) (hn : n ≤ 512) (q0 : Int32) : ∃ k v f H1 H2, w_empty [.ref b, .int q0, .ref (b + 25)] H = some (.returned (some (.int k)), H1) ∧ (∀ L, jx_ev tb_Md_empty [.ref (b + 19), .int q0] L H1 = some (.inl (some (.int v), H2))) ∧ (∀ L, jx_ev tb_Md_thrown [.ref (b + 19)] L H2 = some (.inl (some (.int k), H2))) ∧ H2.2.2 (b + 25) = some (.inl (1, 1, .inr (.inl f))) ∧ (k = 0 → f 0 = v.toInt64) ∧ LI b u0 (n + 1) H2 := by
  obtain ⟨h, fo, th, s, t, mv, wd, fn, rfl, hG, hC, hb, hg1, hg2⟩ := hL
  have hu := u_empty h b (mM th s fn) fo s t mv wd hG.1 hG.2.1 hb hC q0
  obtain ⟨h1, fo1, t1, mv1, wd1, e1, e2, e3, e4⟩ := hu.wi (cs := [9, 10, 11]) hb (by decide) (cd_empty q0 s)
  have e5 := o_empty h1 b (cT (sp_empty q0 s).2.2 t1 mv1 wd1) fo1 th s fn hG.1 q0
  refine ⟨nI (sp_empty q0 s).1, (sp_empty q0 s).2.1, fo1, _, HH h1 b fo1 (nI (sp_empty q0 s).1) (sp_empty q0 s).2.2 t1 mv1 wd1 fn, e1, fun L => ?_, fun L => ev_th, HH_out, fun z => e2 (k0 (cd_empty q0 s) (by decide) z), ⟨h1, fo1, _, _, t1, mv1, wd1, fn, rfl, g_empty hG q0, e4, by omega, by omega, by omega⟩⟩
  exact ev_md (e5)
theorem cd_step  (s : xS) : (sp_step s).1 ≤ 2 := by
  unfold sp_step
  refine CDc (cdl (by decide)) (CDc (cdl (by decide)) (CDc ?_ (stp2_cd s)))
  split
  · exact cdl (by decide)
  · exact CDc (cdl (by decide)) (stp2_cd _)
set_option maxHeartbeats 4000000 in
theorem lw_step {b u0 n : Nat} {H : jx_S} (hL : LI b u0 n H) (hn : n ≤ 512)  : ∃ k v f H1 H2, w_step [.ref b, .ref (b + 25)] H = some (.returned (some (.int k)), H1) ∧ (∀ L, jx_ev tb_Md_step [.ref (b + 19)] L H1 = some (.inl (some (.int v), H2))) ∧ (∀ L, jx_ev tb_Md_thrown [.ref (b + 19)] L H2 = some (.inl (some (.int k), H2))) ∧ H2.2.2 (b + 25) = some (.inl (1, 1, .inr (.inl f))) ∧ (k = 0 → f 0 = v.toInt64) ∧ LI b u0 (n + 1) H2 := by
  obtain ⟨h, fo, th, s, t, mv, wd, fn, rfl, hG, hC, hb, hg1, hg2⟩ := hL
  have hu := u_step h b (mM th s fn) fo s t mv wd hG.1 hG.2.1 hb hC hG.2.2.1
  obtain ⟨h1, fo1, t1, mv1, wd1, e1, e2, e3, e4⟩ := hu.wi (cs := [9, 11]) hb (by decide) (cd_step s)
  obtain ⟨fn1, e5⟩ := o_step h1 b (cT (sp_step s).2.2 t1 mv1 wd1) fo1 th s fn hG.1 hG.2.1
  refine ⟨nI (sp_step s).1, (sp_step s).2.1, fo1, _, HH h1 b fo1 (nI (sp_step s).1) (sp_step s).2.2 t1 mv1 wd1 fn1, e1, fun L => ?_, fun L => ev_th, HH_out, fun z => e2 (k0 (cd_step s) (by decide) z), ⟨h1, fo1, _, _, t1, mv1, wd1, fn1, rfl, g_step hG (show 2 * n + 2 < 2 ^ 30 by omega), e4, by omega, by omega, by omega⟩⟩
  exact ev_md (e5)
theorem cd_volume (v : Int32) (w : Int32) (s : xS) : (sp_volume v w s).1 ≤ 3 := by
  unfold sp_volume
  exact (CDc (cdl (by decide)) (CDc (cdl (by decide)) (CDc (cdl (by decide)) (cdl (by decide)))))
set_option maxHeartbeats 4000000 in
theorem lw_volume {b u0 n : Nat} {H : jx_S} (hL : LI b u0 n H) (hn : n ≤ 512) (q0 : Int32) (q1 : Int32) : ∃ k v f H1 H2, w_volume [.ref b, .int q0, .int q1, .ref (b + 25)] H = some (.returned (some (.int k)), H1) ∧ (∀ L, jx_ev tb_Md_volume [.ref (b + 19), .int q0, .int q1] L H1 = some (.inl (some (.int v), H2))) ∧ (∀ L, jx_ev tb_Md_thrown [.ref (b + 19)] L H2 = some (.inl (some (.int k), H2))) ∧ H2.2.2 (b + 25) = some (.inl (1, 1, .inr (.inl f))) ∧ (k = 0 → f 0 = v.toInt64) ∧ LI b u0 (n + 1) H2 := by
  obtain ⟨h, fo, th, s, t, mv, wd, fn, rfl, hG, hC, hb, hg1, hg2⟩ := hL
  have hu := u_volume h b (mM th s fn) fo s t mv wd hG.1 hG.2.1 hb hC q0 q1
  obtain ⟨h1, fo1, t1, mv1, wd1, e1, e2, e3, e4⟩ := hu.wi (cs := [9, 12, 10]) hb (by decide) (cd_volume q0 q1 s)
  have e5 := o_volume h1 b (cT (sp_volume q0 q1 s).2.2 t1 mv1 wd1) fo1 th s fn hG.1 q0 q1
  refine ⟨nI (sp_volume q0 q1 s).1, (sp_volume q0 q1 s).2.1, fo1, _, HH h1 b fo1 (nI (sp_volume q0 q1 s).1) (sp_volume q0 q1 s).2.2 t1 mv1 wd1 fn, e1, fun L => ?_, fun L => ev_th, HH_out, fun z => e2 (k0 (cd_volume q0 q1 s) (by decide) z), ⟨h1, fo1, _, _, t1, mv1, wd1, fn, rfl, g_volume hG q0 q1, e4, by omega, by omega, by omega⟩⟩
  exact ev_md (e5)
theorem cd_where (v : Int32) (e : Int32) (k : Int32) (s : xS) : (sp_where v e k s).1 ≤ 2 := by
  unfold sp_where
  exact (CDc (cdl (by decide)) (CDc (cdl (by decide)) (cdl (by decide))))
set_option maxHeartbeats 4000000 in
theorem lw_where {b u0 n : Nat} {H : jx_S} (hL : LI b u0 n H) (hn : n ≤ 512) (q0 : Int32) (q1 : Int32) (q2 : Int32) : ∃ k v f H1 H2, w_where [.ref b, .int q0, .int q1, .int q2, .ref (b + 25)] H = some (.returned (some (.int k)), H1) ∧ (∀ L, jx_ev tb_Md_where [.ref (b + 19), .int q0, .int q1, .int q2] L H1 = some (.inl (some (.int v), H2))) ∧ (∀ L, jx_ev tb_Md_thrown [.ref (b + 19)] L H2 = some (.inl (some (.int k), H2))) ∧ H2.2.2 (b + 25) = some (.inl (1, 1, .inr (.inl f))) ∧ (k = 0 → f 0 = v.toInt64) ∧ LI b u0 (n + 1) H2 := by
  obtain ⟨h, fo, th, s, t, mv, wd, fn, rfl, hG, hC, hb, hg1, hg2⟩ := hL
  have hu := u_where h b (mM th s fn) fo s t mv wd hG.1 hG.2.1 hb hC q0 q1 q2
  obtain ⟨h1, fo1, t1, mv1, wd1, e1, e2, e3, e4⟩ := hu.wi (cs := [9, 12]) hb (by decide) (cd_where q0 q1 q2 s)
  have e5 := o_where h1 b (cT (sp_where q0 q1 q2 s).2.2 t1 mv1 wd1) fo1 th s fn hG.1 q0 q1 q2
  refine ⟨nI (sp_where q0 q1 q2 s).1, (sp_where q0 q1 q2 s).2.1, fo1, _, HH h1 b fo1 (nI (sp_where q0 q1 q2 s).1) (sp_where q0 q1 q2 s).2.2 t1 mv1 wd1 fn, e1, fun L => ?_, fun L => ev_th, HH_out, fun z => e2 (k0 (cd_where q0 q1 q2 s) (by decide) z), ⟨h1, fo1, _, _, t1, mv1, wd1, fn, rfl, g_where hG q0 q1 q2, e4, by omega, by omega, by omega⟩⟩
  exact ev_md (e5)
theorem cd_free (d : Int32) (s : xS) : (sp_free d s).1 ≤ 2 := by
  unfold sp_free
  exact (CDc (cdl (by decide)) (CDc (cdl (by decide)) (cdl (by decide))))
set_option maxHeartbeats 4000000 in
theorem lw_free {b u0 n : Nat} {H : jx_S} (hL : LI b u0 n H) (hn : n ≤ 512) (q0 : Int32) : ∃ k v f H1 H2, w_free [.ref b, .int q0, .ref (b + 25)] H = some (.returned (some (.int k)), H1) ∧ (∀ L, jx_ev tb_Md_free [.ref (b + 19), .int q0] L H1 = some (.inl (some (.int v), H2))) ∧ (∀ L, jx_ev tb_Md_thrown [.ref (b + 19)] L H2 = some (.inl (some (.int k), H2))) ∧ H2.2.2 (b + 25) = some (.inl (1, 1, .inr (.inl f))) ∧ (k = 0 → f 0 = v.toInt64) ∧ LI b u0 (n + 1) H2 := by
  obtain ⟨h, fo, th, s, t, mv, wd, fn, rfl, hG, hC, hb, hg1, hg2⟩ := hL
  have hu := u_free h b (mM th s fn) fo s t mv wd hG.1 hG.2.1 hb hC q0
  obtain ⟨h1, fo1, t1, mv1, wd1, e1, e2, e3, e4⟩ := hu.wi (cs := [9, 10]) hb (by decide) (cd_free q0 s)
  have e5 := o_free h1 b (cT (sp_free q0 s).2.2 t1 mv1 wd1) fo1 th s fn hG.1 q0
  refine ⟨nI (sp_free q0 s).1, (sp_free q0 s).2.1, fo1, _, HH h1 b fo1 (nI (sp_free q0 s).1) (sp_free q0 s).2.2 t1 mv1 wd1 fn, e1, fun L => ?_, fun L => ev_th, HH_out, fun z => e2 (k0 (cd_free q0 s) (by decide) z), ⟨h1, fo1, _, _, t1, mv1, wd1, fn, rfl, g_free hG q0, e4, by omega, by omega, by omega⟩⟩
  exact ev_md (e5)
theorem cd_cut (k : Int32) (s : xS) : (sp_cut k s).1 ≤ 2 := by
  unfold sp_cut
  exact (CDc (cdl (by decide)) (CDc (cdl (by decide)) (cdl (by decide))))
set_option maxHeartbeats 4000000 in
theorem lw_cut {b u0 n : Nat} {H : jx_S} (hL : LI b u0 n H) (hn : n ≤ 512) (q0 : Int32) : ∃ k H1 H2, w_cut [.ref b, .int q0] H = some (.returned (some (.int k)), H1) ∧ (∀ L, jx_ev tb_Md_cut [.ref (b + 19), .int q0] L H1 = some (.inl (none, H2))) ∧ (∀ L, jx_ev tb_Md_thrown [.ref (b + 19)] L H2 = some (.inl (some (.int k), H2))) ∧ LI b u0 (n + 1) H2 := by
  obtain ⟨h, fo, th, s, t, mv, wd, fn, rfl, hG, hC, hb, hg1, hg2⟩ := hL
  have hu := u_cut h b (mM th s fn) fo s t mv wd hG.1 hG.2.1 hb hC q0
  obtain ⟨h1, t1, mv1, wd1, e1, e3, e4⟩ := hu.wv (cs := [9, 10]) hb (by decide) (cd_cut q0 s)
  have e5 := o_cut h1 b (cT (sp_cut q0 s).2.2 t1 mv1 wd1) fo th s fn q0
  refine ⟨nI (sp_cut q0 s).1, _, HH h1 b fo (nI (sp_cut q0 s).1) (sp_cut q0 s).2.2 t1 mv1 wd1 fn, e1, fun L => ?_, fun L => ev_th, ⟨h1, fo, _, _, t1, mv1, wd1, fn, rfl, g_cut hG q0, e4, by omega, by omega, by omega⟩⟩
  exact ev_md (e5)
theorem cd_off  (s : xS) : (sp_off s).1 ≤ 1 := by
  unfold sp_off
  cases s.2.1.2.2.1
  · exact cdl (by decide)
  · exact cdl (by decide)
set_option maxHeartbeats 4000000 in
theorem lw_off {b u0 n : Nat} {H : jx_S} (hL : LI b u0 n H) (hn : n ≤ 512)  : ∃ k H1 H2, w_off [.ref b] H = some (.returned (some (.int k)), H1) ∧ (∀ L, jx_ev tb_Md_off [.ref (b + 19)] L H1 = some (.inl (none, H2))) ∧ (∀ L, jx_ev tb_Md_thrown [.ref (b + 19)] L H2 = some (.inl (some (.int k), H2))) ∧ LI b u0 (n + 1) H2 := by
  obtain ⟨h, fo, th, s, t, mv, wd, fn, rfl, hG, hC, hb, hg1, hg2⟩ := hL
  have hu := off_u hG (u_off h b (mM th s fn) fo s t mv wd hG.1 hG.2.1 hb hC)
  obtain ⟨h1, t1, mv1, wd1, e1, e3, e4⟩ := hu.wv (cs := [9]) hb (by decide) (cd_off s)
  have e5 := o_off h1 b (cT (sp_off s).2.2 t1 mv1 wd1) fo th s fn
  refine ⟨nI (sp_off s).1, _, HH h1 b fo (nI (sp_off s).1) (sp_off s).2.2 t1 mv1 wd1 fn, e1, fun L => ?_, fun L => ev_th, ⟨h1, fo, _, _, t1, mv1, wd1, fn, rfl, g_off hG, e4, by omega, by omega, by omega⟩⟩
  exact ev_md (e5)
theorem cd_plug (d : Int32) (p : Bool) (s : xS) : (sp_plug d p s).1 ≤ 2 := by
  unfold sp_plug
  exact (CDc (cdl (by decide)) (CDc (cdl (by decide)) (cdl (by decide))))
set_option maxHeartbeats 4000000 in
theorem lw_plug {b u0 n : Nat} {H : jx_S} (hL : LI b u0 n H) (hn : n ≤ 512) (q0 : Int32) (q1 : Bool) : ∃ k v f H1 H2, w_plug [.ref b, .int q0, .int (b2i q1), .ref (b + 25)] H = some (.returned (some (.int k)), H1) ∧ (∀ L, jx_ev tb_Md_plug [.ref (b + 19), .int q0, .int (b2i q1)] L H1 = some (.inl (some (.int v), H2))) ∧ (∀ L, jx_ev tb_Md_thrown [.ref (b + 19)] L H2 = some (.inl (some (.int k), H2))) ∧ H2.2.2 (b + 25) = some (.inl (1, 1, .inr (.inl f))) ∧ (k = 0 → f 0 = if v = 0 then 0 else 1) ∧ LI b u0 (n + 1) H2 := by
  obtain ⟨h, fo, th, s, t, mv, wd, fn, rfl, hG, hC, hb, hg1, hg2⟩ := hL
  have hu := u_plug h b (mM th s fn) fo s t mv wd hG.1 hG.2.1 hb hC q0 q1
  obtain ⟨h1, fo1, t1, mv1, wd1, e1, e2, e3, e4⟩ := hu.wp (cs := [9, 10]) hb (by decide) (cd_plug q0 q1 s)
  have e5 := o_plug h1 b (cT (sp_plug q0 q1 s).2.2 t1 mv1 wd1) fo1 th s fn q0 q1
  refine ⟨nI (sp_plug q0 q1 s).1, (sp_plug q0 q1 s).2.1, fo1, _, HH h1 b fo1 (nI (sp_plug q0 q1 s).1) (sp_plug q0 q1 s).2.2 t1 mv1 wd1 fn, e1, fun L => ?_, fun L => ev_th, HH_out, fun z => e2 (k0 (cd_plug q0 q1 s) (by decide) z), ⟨h1, fo1, _, _, t1, mv1, wd1, fn, rfl, g_plug hG q0 q1, e4, by omega, by omega, by omega⟩⟩
  exact ev_md (e5)
theorem cd_start  (s : xS) : (sp_start s).1 ≤ 1 := by
  unfold sp_start
  exact (CDc (cdl (by decide)) (cdl (by decide)))
set_option maxHeartbeats 4000000 in
theorem lw_start {b u0 n : Nat} {H : jx_S} (hL : LI b u0 n H) (hn : n ≤ 512)  : ∃ k v f H1 H2, w_start [.ref b, .ref (b + 25)] H = some (.returned (some (.int k)), H1) ∧ (∀ L, jx_ev tb_Md_start [.ref (b + 19)] L H1 = some (.inl (some (.int v), H2))) ∧ (∀ L, jx_ev tb_Md_thrown [.ref (b + 19)] L H2 = some (.inl (some (.int k), H2))) ∧ H2.2.2 (b + 25) = some (.inl (1, 1, .inr (.inl f))) ∧ (k = 0 → f 0 = v.toInt64) ∧ LI b u0 (n + 1) H2 := by
  obtain ⟨h, fo, th, s, t, mv, wd, fn, rfl, hG, hC, hb, hg1, hg2⟩ := hL
  have hu := u_start h b (mM th s fn) fo s t mv wd hG.1 hG.2.1 hb hC hG.2.2.2.1.si (fun z => (hG.2.2.2.2.2.1 z).1)
  obtain ⟨h1, fo1, t1, mv1, wd1, e1, e2, e3, e4⟩ := hu.wi (cs := [9]) hb (by decide) (cd_start s)
  have e5 := o_start h1 b (cT (sp_start s).2.2 t1 mv1 wd1) fo1 th s fn hG.2.2.2.1.si
  refine ⟨nI (sp_start s).1, (sp_start s).2.1, fo1, _, HH h1 b fo1 (nI (sp_start s).1) (sp_start s).2.2 t1 mv1 wd1 fn, e1, fun L => ?_, fun L => ev_th, HH_out, fun z => e2 (k0 (cd_start s) (by decide) z), ⟨h1, fo1, _, _, t1, mv1, wd1, fn, rfl, g_start hG, e4, by omega, by omega, by omega⟩⟩
  exact ev_md (e5)
theorem cd_look (d : Int32) (k : Int32) (i : Int32) (s : xS) : (sp_look d k i s).1 ≤ 1 := by
  unfold sp_look
  exact (CDc (cdl (by decide)) (cdl (by decide)))
set_option maxHeartbeats 4000000 in
theorem lw_look {b u0 n : Nat} {H : jx_S} (hL : LI b u0 n H) (hn : n ≤ 512) (q0 : Int32) (q1 : Int32) (q2 : Int32) : ∃ k v f H1 H2, w_look [.ref b, .int q0, .int q1, .int q2, .ref (b + 25)] H = some (.returned (some (.int k)), H1) ∧ (∀ L, jx_ev tb_Md_look [.ref (b + 19), .int q0, .int q1, .int q2] L H1 = some (.inl (some (.int v), H2))) ∧ (∀ L, jx_ev tb_Md_thrown [.ref (b + 19)] L H2 = some (.inl (some (.int k), H2))) ∧ H2.2.2 (b + 25) = some (.inl (1, 1, .inr (.inl f))) ∧ (k = 0 → f 0 = v.toInt64) ∧ LI b u0 (n + 1) H2 := by
  obtain ⟨h, fo, th, s, t, mv, wd, fn, rfl, hG, hC, hb, hg1, hg2⟩ := hL
  have hu := u_look h b (mM th s fn) fo s t mv wd hG.1 hG.2.1 hb hC q0 q1 q2
  obtain ⟨h1, fo1, t1, mv1, wd1, e1, e2, e3, e4⟩ := hu.wi (cs := [13]) hb (by decide) (cd_look q0 q1 q2 s)
  have e5 := o_look h1 b (cT (sp_look q0 q1 q2 s).2.2 t1 mv1 wd1) fo1 th s fn q0 q1 q2
  refine ⟨nI (sp_look q0 q1 q2 s).1, (sp_look q0 q1 q2 s).2.1, fo1, _, HH h1 b fo1 (nI (sp_look q0 q1 q2 s).1) (sp_look q0 q1 q2 s).2.2 t1 mv1 wd1 fn, e1, fun L => ?_, fun L => ev_th, HH_out, fun z => e2 (k0 (cd_look q0 q1 q2 s) (by decide) z), ⟨h1, fo1, _, _, t1, mv1, wd1, fn, rfl, g_look hG q0 q1 q2, e4, by omega, by omega, by omega⟩⟩
  exact ev_md (e5)
