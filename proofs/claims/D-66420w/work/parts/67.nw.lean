/-! THE COMPONENT's METHODS: new volumes, new tables, copies -/
theorem jx_na_n (t n : Nat) (hn : n ≤ 4096) (L : List Value) (h : jx_S) : jx_na t (.int (nI n)) L h = jx_ok (.ref h.1) (hnew h n (.inl (t, n, jx_z0 t))) := by
  unfold jx_na
  dsimp only
  rw [nI_clamp (by omega), if_pos ⟨nI_pos' (by omega), hn⟩]
  rfl
theorem hnew_1 (h : jx_S) (n : Nat) (o : va_E) : (hnew h n o).1 = h.1 + 1 := rfl
theorem hnew_21 (h : jx_S) (n : Nat) (o : va_E) : (hnew h n o).2.1 = h.2.1 + n := rfl
theorem hset_1 (h : jx_S) (a : Nat) (o : va_E) : (hset h a o).1 = h.1 := rfl
theorem hset_21 (h : jx_S) (a : Nat) (o : va_E) : (hset h a o).2.1 = h.2.1 := rfl
theorem hnew_ne (H : jx_S) {n q : Nat} (o : va_E) (h : q ≠ H.1) : (hnew H n o).2.2 q = H.2.2 q := by
  rw [hnew_at, if_neg h]
theorem hnew_eq (H : jx_S) (n : Nat) (o : va_E) : (hnew H n o).2.2 H.1 = some o := by
  rw [hnew_at, if_pos rfl]
theorem z0_0 : jx_z0 0 = .inl fun _ => 0 := rfl
theorem z0_4 : jx_z0 4 = .inr (.inr (.inr (.inr fun _ => none))) := rfl
/-- a new volume -/
def nVo (H : jx_S) (kd : Nat) (c e : Int32) : jx_S := hset (hnew (hnew H 3 (.inr (4 + kd, [.int 0, .int 0, .null]))) 10 (.inl (0, 10, .inl fun _ => 0))) H.1 (.inr (4 + kd, [.int c, .int e, .ref (H.1 + 1)]))
theorem nVo_1 (H : jx_S) (kd : Nat) (c e : Int32) : (nVo H kd c e).1 = H.1 + 2 := rfl
theorem nVo_21 (H : jx_S) (kd : Nat) (c e : Int32) : (nVo H kd c e).2.1 = H.2.1 + 13 := rfl
theorem nVo_q (H : jx_S) (kd : Nat) (c e : Int32) : (nVo H kd c e).2.2 H.1 = some (.inr (4 + kd, [.int c, .int e, .ref (H.1 + 1)])) := hset_eq _ _ _
theorem nVo_l (H : jx_S) (kd : Nat) (c e : Int32) : (nVo H kd c e).2.2 (H.1 + 1) = some (.inl (0, 10, .inl fun _ => 0)) := by
  unfold nVo
  rw [hset_ne _ _ (by omega)]
  exact hnew_eq (hnew H 3 _) _ _
theorem nVo_n (H : jx_S) (kd : Nat) (c e : Int32) {q : Nat} (h1 : q ≠ H.1) (h2 : q ≠ H.1 + 1) : (nVo H kd c e).2.2 q = H.2.2 q := by
  unfold nVo
  rw [hset_ne _ _ h1, hnew_ne _ _ (by rw [hnew_1]; exact h2), hnew_ne _ _ h1]
section NW
variable (H : jx_S)
set_option maxHeartbeats 4000000 in
theorem q_Vo_init (q ci : Nat) (hci : ci = 5 ∨ ci = 6 ∨ ci = 7) (hq : q ≠ H.1) (a0 a1 a2 : Value) (hc : H.2.2 q = some (.inr (ci, [a0, a1, a2]))) (c e : Int32) : f_Vo_init [.ref q, .int c, .int e] H = some (.returned none, hset (hnew H 10 (.inl (0, 10, .inl fun _ => 0))) q (.inr (ci, [.int c, .int e, .ref H.1]))) := by
  have hm : (ci = 5 ∨ ci = 6 ∨ ci = 7) = True := eq_true hci
  have h1 : ∀ o n, (hnew H n o).2.2 q = some (.inr (ci, [a0, a1, a2])) := fun o n => (hnew_ne H o hq).trans hc
  simp (disch := first | omega | assumption) only [jx_fn, jx_b_ok, jx_kb_ok, jx_b_inl, jx_kb_inl, jx_b_inr, jx_kb_inr, eInt, eNull, eI, eA, eBin, jx_op, oAdd_n, oMul_n, cCmp, cCmp0, jx_cp, cNull, jx_nl, cNot, cAnd_k, cOr_k, cIte_c, eIte_k, ck_ite, bf_and, bf_or, bf_not, ck_int, ck_10, ck_nI, cond_true, cond_false, oSub_g, nIs_le, oDiv_s, ck_n10, eGf, jx_gf, eLd, jx_ld, eLda, jx_lda, eLen, jx_len, eCl, jx_as, jx_ec, jx_ev, jx_es, tb1, tb3, tbk, tbn, tbl, sAsg_k, jx_set, jx_ft_int, jx_ft_ref, jx_ft_null, jx_ft_z0, jx_ft_z1, sSeq_k, sIf_k, sSkip, sInc, sPf_k, jx_pf_h, sUf_k, sSt_k, jx_st_h, sSta_k, jx_sta_h, jx_el, sUst_k, sRet, jx_rt, sRetV, sCl_k, sThrow_h, eNew, jx_nw_h, sObj, eNa, List.getElem?_cons_zero, List.getElem?_cons_succ, List.set_cons_zero, List.set_cons_succ, List.cons_append, List.nil_append, List.replicate_succ, List.replicate_zero, List.length_cons, List.length_nil, List.all_cons, List.all_nil, Value.category, Bool.and_true, Bool.true_and, Bool.and_self, beq_self_eq_true, and_self, and_true, true_and, if_true, if_false, ite_true, ite_false, eq_self, List.mem_cons, List.mem_singleton, List.not_mem_nil, or_false, true_or, or_true, false_or, Nat.reduceSub, Nat.reduceAdd, decide_true, decide_false, Bool.not_true, Bool.not_false, Nat.zero_add, Bool.false_eq_true, va_rf, reduceCtorEq, Nat.reduceEqDiff, Nat.reduceLT, Nat.reduceMul, Nat.lt_irrefl, rNe_b, rEq_b, jx_ft_b, jx_ix_nI, rLt_n, rGe_n, rGt_n, rLe_n, rEq_n, rNe_n, rGt_0, rEq_0, rNe_0, rLt_0, rGe_0, rLe_0, nI_1s, kU_ok, kU_r, kA_ok, kA_r, kC_t, kC_f, kC_r, kO_ok, kO_l, kO_r, kE_ok, kN_ok, kR_ok, kE_t, kE_f, kN_t, kN_f, kR_t, kR_f, cH_1, cH_21, cH_sh, cH_da, cH_dk, cH_sl, cH_dt, cH_pn, cH_wd, cH_md, cS_sh, cS_pn, cS_pn0, cS_pn1, cS_sl, cS_dt, cS_wd, cS_pr, pm_eta, va_rf, b2i_t, b2i_f, Bool.true_or, Bool.false_or, Bool.or_true, Bool.or_false, Bool.false_and, Bool.and_false, f_Vo_init, bd_Vo_init, jx_na_n, z0_0, h1, hm, hset_eq, hset_2, Nat.reduceLeDiff]
set_option maxHeartbeats 4000000 in
theorem q_Vo_of (kd : Nat) (h1 : 1 ≤ kd) (h2 : kd ≤ 3) (c e : Int32) (hc : kd ≠ 2 → c = nI 1) : f_Vo_of [.int (nI (kd - 1)), .int c, .int e] H = some (.returned (some (.ref H.1)), nVo H kd c e) := by
  have hi := fun ci (hci : ci = 5 ∨ ci = 6 ∨ ci = 7) => q_Vo_init (hnew H 3 (.inr (ci, [.int 0, .int 0, .null]))) H.1 ci hci (by rw [hnew_1]; omega) _ _ _ (hnew_eq H 3 _)
  simp only [hnew_1] at hi
  have h5 := hi 5 (by omega)
  have h6 := hi 6 (by omega)
  have h7 := hi 7 (by omega)
  have : kd = 1 ∨ kd = 2 ∨ kd = 3 := by omega
  rcases this with rfl | rfl | rfl
  · rw [hc (by omega)]
    simp (disch := first | omega | assumption) only [jx_fn, jx_b_ok, jx_kb_ok, jx_b_inl, jx_kb_inl, jx_b_inr, jx_kb_inr, eInt, eNull, eI, eA, eBin, jx_op, oAdd_n, oMul_n, cCmp, cCmp0, jx_cp, cNull, jx_nl, cNot, cAnd_k, cOr_k, cIte_c, eIte_k, ck_ite, bf_and, bf_or, bf_not, ck_int, ck_10, ck_nI, cond_true, cond_false, oSub_g, nIs_le, oDiv_s, ck_n10, eGf, jx_gf, eLd, jx_ld, eLda, jx_lda, eLen, jx_len, eCl, jx_as, jx_ec, jx_ev, jx_es, tb1, tb3, tbk, tbn, tbl, sAsg_k, jx_set, jx_ft_int, jx_ft_ref, jx_ft_null, jx_ft_z0, jx_ft_z1, sSeq_k, sIf_k, sSkip, sInc, sPf_k, jx_pf_h, sUf_k, sSt_k, jx_st_h, sSta_k, jx_sta_h, jx_el, sUst_k, sRet, jx_rt, sRetV, sCl_k, sThrow_h, eNew, jx_nw_h, sObj, eNa, List.getElem?_cons_zero, List.getElem?_cons_succ, List.set_cons_zero, List.set_cons_succ, List.cons_append, List.nil_append, List.replicate_succ, List.replicate_zero, List.length_cons, List.length_nil, List.all_cons, List.all_nil, Value.category, Bool.and_true, Bool.true_and, Bool.and_self, beq_self_eq_true, and_self, and_true, true_and, if_true, if_false, ite_true, ite_false, eq_self, List.mem_cons, List.mem_singleton, List.not_mem_nil, or_false, true_or, or_true, false_or, Nat.reduceSub, Nat.reduceAdd, decide_true, decide_false, Bool.not_true, Bool.not_false, Nat.zero_add, Bool.false_eq_true, va_rf, reduceCtorEq, Nat.reduceEqDiff, Nat.reduceLT, Nat.reduceMul, Nat.lt_irrefl, rNe_b, rEq_b, jx_ft_b, jx_ix_nI, rLt_n, rGe_n, rGt_n, rLe_n, rEq_n, rNe_n, rGt_0, rEq_0, rNe_0, rLt_0, rGe_0, rLe_0, nI_1s, kU_ok, kU_r, kA_ok, kA_r, kC_t, kC_f, kC_r, kO_ok, kO_l, kO_r, kE_ok, kN_ok, kR_ok, kE_t, kE_f, kN_t, kN_f, kR_t, kR_f, cH_1, cH_21, cH_sh, cH_da, cH_dk, cH_sl, cH_dt, cH_pn, cH_wd, cH_md, cS_sh, cS_pn, cS_pn0, cS_pn1, cS_sl, cS_dt, cS_wd, cS_pr, pm_eta, va_rf, b2i_t, b2i_f, Bool.true_or, Bool.false_or, Bool.or_true, Bool.or_false, Bool.false_and, Bool.and_false, f_Vo_of, bd_Vo_of, f_Li_init, bd_Li_init, h5, nVo]
  · simp (disch := first | omega | assumption) only [jx_fn, jx_b_ok, jx_kb_ok, jx_b_inl, jx_kb_inl, jx_b_inr, jx_kb_inr, eInt, eNull, eI, eA, eBin, jx_op, oAdd_n, oMul_n, cCmp, cCmp0, jx_cp, cNull, jx_nl, cNot, cAnd_k, cOr_k, cIte_c, eIte_k, ck_ite, bf_and, bf_or, bf_not, ck_int, ck_10, ck_nI, cond_true, cond_false, oSub_g, nIs_le, oDiv_s, ck_n10, eGf, jx_gf, eLd, jx_ld, eLda, jx_lda, eLen, jx_len, eCl, jx_as, jx_ec, jx_ev, jx_es, tb1, tb3, tbk, tbn, tbl, sAsg_k, jx_set, jx_ft_int, jx_ft_ref, jx_ft_null, jx_ft_z0, jx_ft_z1, sSeq_k, sIf_k, sSkip, sInc, sPf_k, jx_pf_h, sUf_k, sSt_k, jx_st_h, sSta_k, jx_sta_h, jx_el, sUst_k, sRet, jx_rt, sRetV, sCl_k, sThrow_h, eNew, jx_nw_h, sObj, eNa, List.getElem?_cons_zero, List.getElem?_cons_succ, List.set_cons_zero, List.set_cons_succ, List.cons_append, List.nil_append, List.replicate_succ, List.replicate_zero, List.length_cons, List.length_nil, List.all_cons, List.all_nil, Value.category, Bool.and_true, Bool.true_and, Bool.and_self, beq_self_eq_true, and_self, and_true, true_and, if_true, if_false, ite_true, ite_false, eq_self, List.mem_cons, List.mem_singleton, List.not_mem_nil, or_false, true_or, or_true, false_or, Nat.reduceSub, Nat.reduceAdd, decide_true, decide_false, Bool.not_true, Bool.not_false, Nat.zero_add, Bool.false_eq_true, va_rf, reduceCtorEq, Nat.reduceEqDiff, Nat.reduceLT, Nat.reduceMul, Nat.lt_irrefl, rNe_b, rEq_b, jx_ft_b, jx_ix_nI, rLt_n, rGe_n, rGt_n, rLe_n, rEq_n, rNe_n, rGt_0, rEq_0, rNe_0, rLt_0, rGe_0, rLe_0, nI_1s, kU_ok, kU_r, kA_ok, kA_r, kC_t, kC_f, kC_r, kO_ok, kO_l, kO_r, kE_ok, kN_ok, kR_ok, kE_t, kE_f, kN_t, kN_f, kR_t, kR_f, cH_1, cH_21, cH_sh, cH_da, cH_dk, cH_sl, cH_dt, cH_pn, cH_wd, cH_md, cS_sh, cS_pn, cS_pn0, cS_pn1, cS_sl, cS_dt, cS_wd, cS_pr, pm_eta, va_rf, b2i_t, b2i_f, Bool.true_or, Bool.false_or, Bool.or_true, Bool.or_false, Bool.false_and, Bool.and_false, f_Vo_of, bd_Vo_of, f_Sr_init, bd_Sr_init, h6, nVo]
  · rw [hc (by omega)]
    simp (disch := first | omega | assumption) only [jx_fn, jx_b_ok, jx_kb_ok, jx_b_inl, jx_kb_inl, jx_b_inr, jx_kb_inr, eInt, eNull, eI, eA, eBin, jx_op, oAdd_n, oMul_n, cCmp, cCmp0, jx_cp, cNull, jx_nl, cNot, cAnd_k, cOr_k, cIte_c, eIte_k, ck_ite, bf_and, bf_or, bf_not, ck_int, ck_10, ck_nI, cond_true, cond_false, oSub_g, nIs_le, oDiv_s, ck_n10, eGf, jx_gf, eLd, jx_ld, eLda, jx_lda, eLen, jx_len, eCl, jx_as, jx_ec, jx_ev, jx_es, tb1, tb3, tbk, tbn, tbl, sAsg_k, jx_set, jx_ft_int, jx_ft_ref, jx_ft_null, jx_ft_z0, jx_ft_z1, sSeq_k, sIf_k, sSkip, sInc, sPf_k, jx_pf_h, sUf_k, sSt_k, jx_st_h, sSta_k, jx_sta_h, jx_el, sUst_k, sRet, jx_rt, sRetV, sCl_k, sThrow_h, eNew, jx_nw_h, sObj, eNa, List.getElem?_cons_zero, List.getElem?_cons_succ, List.set_cons_zero, List.set_cons_succ, List.cons_append, List.nil_append, List.replicate_succ, List.replicate_zero, List.length_cons, List.length_nil, List.all_cons, List.all_nil, Value.category, Bool.and_true, Bool.true_and, Bool.and_self, beq_self_eq_true, and_self, and_true, true_and, if_true, if_false, ite_true, ite_false, eq_self, List.mem_cons, List.mem_singleton, List.not_mem_nil, or_false, true_or, or_true, false_or, Nat.reduceSub, Nat.reduceAdd, decide_true, decide_false, Bool.not_true, Bool.not_false, Nat.zero_add, Bool.false_eq_true, va_rf, reduceCtorEq, Nat.reduceEqDiff, Nat.reduceLT, Nat.reduceMul, Nat.lt_irrefl, rNe_b, rEq_b, jx_ft_b, jx_ix_nI, rLt_n, rGe_n, rGt_n, rLe_n, rEq_n, rNe_n, rGt_0, rEq_0, rNe_0, rLt_0, rGe_0, rLe_0, nI_1s, kU_ok, kU_r, kA_ok, kA_r, kC_t, kC_f, kC_r, kO_ok, kO_l, kO_r, kE_ok, kN_ok, kR_ok, kE_t, kE_f, kN_t, kN_f, kR_t, kR_f, cH_1, cH_21, cH_sh, cH_da, cH_dk, cH_sl, cH_dt, cH_pn, cH_wd, cH_md, cS_sh, cS_pn, cS_pn0, cS_pn1, cS_sl, cS_dt, cS_wd, cS_pr, pm_eta, va_rf, b2i_t, b2i_f, Bool.true_or, Bool.false_or, Bool.or_true, Bool.or_false, Bool.false_and, Bool.and_false, f_Vo_of, bd_Vo_of, f_Tw_init, bd_Tw_init, h7, nVo]
end NW
/-- a new table -/
def nTb (H : jx_S) : jx_S := hset (hnew (hnew (hnew H 3 (.inr (3, [.int 0, .null, .null]))) 4 (.inl (0, 4, .inl fun _ => 0))) 4 (.inl (4, 4, .inr (.inr (.inr (.inr fun _ => none)))))) H.1 (.inr (3, [.int 0, .ref (H.1 + 1), .ref (H.1 + 2)]))
theorem nTb_1 (H : jx_S) : (nTb H).1 = H.1 + 3 := rfl
theorem nTb_21 (H : jx_S) : (nTb H).2.1 = H.2.1 + 11 := rfl
theorem nTb_t (H : jx_S) : (nTb H).2.2 H.1 = some (.inr (3, [.int 0, .ref (H.1 + 1), .ref (H.1 + 2)])) := hset_eq _ _ _
theorem nTb_e (H : jx_S) : (nTb H).2.2 (H.1 + 1) = some (.inl (0, 4, .inl fun _ => 0)) := by
  unfold nTb
  rw [hset_ne _ _ (by omega), hnew_ne _ _ (by rw [hnew_1, hnew_1]; omega)]
  exact hnew_eq (hnew H 3 _) _ _
theorem nTb_v (H : jx_S) : (nTb H).2.2 (H.1 + 2) = some (.inl (4, 4, .inr (.inr (.inr (.inr fun _ => none))))) := by
  unfold nTb
  rw [hset_ne _ _ (by omega)]
  exact hnew_eq (hnew (hnew H 3 _) 4 _) _ _
theorem nTb_n (H : jx_S) {q : Nat} (h1 : q ≠ H.1) (h2 : q ≠ H.1 + 1) (h3 : q ≠ H.1 + 2) : (nTb H).2.2 q = H.2.2 q := by
  unfold nTb
  rw [hset_ne _ _ h1, hnew_ne _ _ (by rw [hnew_1, hnew_1]; exact h3), hnew_ne _ _ (by rw [hnew_1]; exact h2), hnew_ne _ _ h1]
theorem nTb_TP (H : jx_S) : TPa (nTb H) H.1 (H.1 + 3) H.1 (fun _ => 0) (H.1 + 1) (H.1 + 2) (fun _ => 0) (fun _ => 0) (fun _ => 0) (fun _ => none) (fun _ _ => 0) := by
  refine ⟨⟨by omega, by omega⟩, ⟨by omega, by omega⟩, ⟨by omega, by omega⟩, fun v _ h => absurd rfl h, nTb_t H, nTb_e H, fun d _ => rfl, nTb_v H, fun v _ => rfl, fun v _ h => absurd rfl h, fun u v _ _ h => absurd rfl h⟩
section NT
variable (H : jx_S)
set_option maxHeartbeats 4000000 in
theorem q_Tb_init : f_Tb_init [.ref H.1] (hnew H 3 (.inr (3, [.int 0, .null, .null]))) = some (.returned none, nTb H) := by
  have h1 : ∀ o n, (hnew (hnew H 3 (.inr (3, [.int 0, .null, .null]))) n o).2.2 H.1 = some (.inr (3, [.int 0, .null, .null])) := fun o n => (hnew_ne _ o (by rw [hnew_1]; omega)).trans (hnew_eq H 3 _)
  have e : ∀ (X : jx_S) (o o' : va_E) (n : Nat), H.1 ≠ X.1 → hnew (hset X H.1 o) n o' = hset (hnew X n o') H.1 o := by
    intro X o o' n hx
    unfold hnew hset
    refine Prod.ext rfl (Prod.ext rfl ?_)
    funext q
    show jx_up (jx_up X.2.2 H.1 o) X.1 o' q = jx_up (jx_up X.2.2 X.1 o') H.1 o q
    unfold jx_up
    by_cases e1 : q = X.1
    · rw [if_pos e1, if_neg (by omega), if_pos e1]
    · rw [if_neg e1, if_neg e1]
  have e1 := e (hnew (hnew H 3 (.inr (3, [.int 0, .null, .null]))) 4 (.inl (0, 4, .inl fun _ => 0))) (.inr (3, [.int 0, .ref (H.1 + 1), .null])) (.inl (4, 4, .inr (.inr (.inr (.inr fun _ => none))))) 4 (by rw [hnew_1, hnew_1]; omega)
  simp (disch := first | omega | assumption) only [jx_fn, jx_b_ok, jx_kb_ok, jx_b_inl, jx_kb_inl, jx_b_inr, jx_kb_inr, eInt, eNull, eI, eA, eBin, jx_op, oAdd_n, oMul_n, cCmp, cCmp0, jx_cp, cNull, jx_nl, cNot, cAnd_k, cOr_k, cIte_c, eIte_k, ck_ite, bf_and, bf_or, bf_not, ck_int, ck_10, ck_nI, cond_true, cond_false, oSub_g, nIs_le, oDiv_s, ck_n10, eGf, jx_gf, eLd, jx_ld, eLda, jx_lda, eLen, jx_len, eCl, jx_as, jx_ec, jx_ev, jx_es, tb1, tb3, tbk, tbn, tbl, sAsg_k, jx_set, jx_ft_int, jx_ft_ref, jx_ft_null, jx_ft_z0, jx_ft_z1, sSeq_k, sIf_k, sSkip, sInc, sPf_k, jx_pf_h, sUf_k, sSt_k, jx_st_h, sSta_k, jx_sta_h, jx_el, sUst_k, sRet, jx_rt, sRetV, sCl_k, sThrow_h, eNew, jx_nw_h, sObj, eNa, List.getElem?_cons_zero, List.getElem?_cons_succ, List.set_cons_zero, List.set_cons_succ, List.cons_append, List.nil_append, List.replicate_succ, List.replicate_zero, List.length_cons, List.length_nil, List.all_cons, List.all_nil, Value.category, Bool.and_true, Bool.true_and, Bool.and_self, beq_self_eq_true, and_self, and_true, true_and, if_true, if_false, ite_true, ite_false, eq_self, List.mem_cons, List.mem_singleton, List.not_mem_nil, or_false, true_or, or_true, false_or, Nat.reduceSub, Nat.reduceAdd, decide_true, decide_false, Bool.not_true, Bool.not_false, Nat.zero_add, Bool.false_eq_true, va_rf, reduceCtorEq, Nat.reduceEqDiff, Nat.reduceLT, Nat.reduceMul, Nat.lt_irrefl, rNe_b, rEq_b, jx_ft_b, jx_ix_nI, rLt_n, rGe_n, rGt_n, rLe_n, rEq_n, rNe_n, rGt_0, rEq_0, rNe_0, rLt_0, rGe_0, rLe_0, nI_1s, kU_ok, kU_r, kA_ok, kA_r, kC_t, kC_f, kC_r, kO_ok, kO_l, kO_r, kE_ok, kN_ok, kR_ok, kE_t, kE_f, kN_t, kN_f, kR_t, kR_f, cH_1, cH_21, cH_sh, cH_da, cH_dk, cH_sl, cH_dt, cH_pn, cH_wd, cH_md, cS_sh, cS_pn, cS_pn0, cS_pn1, cS_sl, cS_dt, cS_wd, cS_pr, pm_eta, va_rf, b2i_t, b2i_f, Bool.true_or, Bool.false_or, Bool.or_true, Bool.or_false, Bool.false_and, Bool.and_false, f_Tb_init, bd_Tb_init, jx_na_n, z0_0, z0_4, h1, hnew_1, hset_1, hset_eq, hset_2, e1, Nat.reduceLeDiff, nTb, Nat.add_assoc]
end NT
