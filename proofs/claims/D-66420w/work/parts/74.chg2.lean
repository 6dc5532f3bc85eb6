/-! THE COMPONENT's STATE, and what a call of it does -/
def cS (h : jx_S) (b : Nat) (M : cM) (fo : Nat → Int64) (s : xS) (t : Nat) (mv : Value) (wd : Nat → Int32) : jx_S := cH h b M fo s.1 s.2.1 t mv wd
/-- the move object tells what the state says -/
def MR (b : Nat) (h : jx_S) (mv : Value) (s : xS) (lo hi : Nat) : Prop := (s.2.1.2.2.2.2 = -1 ∧ mv = .null) ∨ ∃ am : Nat, ∃ d vo le fr co, (mv = .ref am ∧ s.2.1.2.2.2.2 = nI d ∧ d < 4) ∧ (b + 26 ≤ am ∧ am < h.1 ∧ (am < lo ∨ hi ≤ am)) ∧ h.2.2 am = some (.inr (4, [.int (nI d), .int vo, .int le, .int fr, .int (nI s.2.2.2.2.2.1), .int co])) ∧ (s.2.2.2.2.2.1 ≠ 0 → vo = nI s.2.2.2.1 ∧ le = nI s.2.2.2.2.1 ∧ fr = nI (s.2.2.1 (9 + 10 * s.2.2.2.1 + s.2.2.2.2.1)) ∧ co = nI s.2.2.2.2.2.2)
def CR (b : Nat) (h : jx_S) (s : xS) (t : Nat) (mv : Value) (lo hi : Nat) : Prop := OUT b lo hi ∧ hi ≤ h.1 ∧ TP h lo hi t s.2.2.1 ∧ MR b h mv s lo hi
theorem TP.keep {h h' : jx_S} {lo hi t : Nat} {T : Nat → Nat} (hp : TP h lo hi t T) (hh : ∀ q, lo ≤ q → q < hi → h'.2.2 q = h.2.2 q) : TP h' lo hi t T := by
  obtain ⟨ea, va, qa, la, fe, fv, fl, hp⟩ := hp
  exact ⟨ea, va, qa, la, fe, fv, fl, hp.keep hh⟩
theorem MR.gw {b : Nat} {h h1 : jx_S} {mv : Value} {s : xS} {lo hi n m : Nat} (hM : MR b h mv s lo hi) (hG : Gw n m h h1) : MR b h1 mv s lo hi := by
  rcases hM with q | ⟨am, d, vo, le, fr, co, e1, ⟨e2, e3, e4⟩, e5, e6⟩
  · exact Or.inl q
  · exact Or.inr ⟨am, d, vo, le, fr, co, e1, ⟨e2, by have := hG.1.1; omega, e4⟩, (hG.2 am e3).trans e5, e6⟩
theorem CR.gw {b : Nat} {h h1 : jx_S} {s : xS} {t : Nat} {mv : Value} {lo hi n m : Nat} (hC : CR b h s t mv lo hi) (hG : Gw n m h h1) : CR b h1 s t mv lo hi := by
  obtain ⟨c1, c2, c3, c4⟩ := hC
  exact ⟨c1, by have := hG.1.1; omega, c3.keep (fun q _ h => hG.2 q (by omega)), c4.gw hG⟩
theorem rLt_n1 : rLt (-1) 0 = true := by decide
theorem MR.mq {b : Nat} {h : jx_S} {mv : Value} {s : xS} {lo hi : Nat} (hM : MR b h mv s lo hi) : MQc b h mv (ec s.2.1.2.2.2.2 s.2.2.2.2.2.1) s.2.2.2.1 s.2.2.2.2.1 := by
  rcases hM with ⟨q, e⟩ | ⟨am, d, vo, le, fr, co, ⟨e1, e0, ed⟩, ⟨e2, e3, e4⟩, e5, e6⟩
  · refine Or.inl ⟨e, ?_⟩
    unfold ec
    rw [q, rLt_n1]
    rfl
  · have : ec s.2.1.2.2.2.2 s.2.2.2.2.2.1 = s.2.2.2.2.2.1 := by
      unfold ec
      rw [e0, rLt_0 (by omega)]
      rfl
    rw [this]
    exact Or.inr ⟨am, nI d, vo, le, fr, co, e1, e2, e5, fun z => ⟨(e6 z).1, (e6 z).2.1⟩⟩
theorem WT.up0 {U : Nat → Nat} (hW : WT U) {n : Nat} (hn : n < 2 ^ 31) : WT (upN U 0 n) := by
  have e : ∀ k, 0 < k → upN U 0 n k = U k := fun k hk => upN_o _ _ (by omega)
  obtain ⟨w1, w2, w3, w4, w5⟩ := hW
  refine ⟨fun k => ?_, fun d hd => by rw [e _ (by omega)]; exact w2 d hd, fun v hv => ?_, fun k hk => by rw [e _ (by omega)]; exact w4 k hk, fun i j hi hj => ?_⟩
  · unfold upN
    by_cases z : k = 0
    · rw [if_pos z]; exact hn
    · rw [if_neg z]; exact w1 k
  · have := w3 v hv
    unfold WV colsN elsN at this ⊢
    rw [e (5 + v) (by omega)]
    have e2 : ∀ k, upN U 0 n (9 + 10 * v + k) = U (9 + 10 * v + k) := fun k => e _ (by omega)
    simp only [e2]
    exact this
  · rw [e _ (by omega), e _ (by omega)]
    exact w5 i j hi hj
theorem gch_off (N : Nat → Nat) (pr : Nat → Bool) (d : Nat) (y : xA) (hy : y.2.2.1 = false) : (bif decide (0 < N (1 + d)) && pr d then wTo y d (wds N) else y) = y := by
  generalize (decide (0 < N (1 + d)) && pr d) = p
  cases p
  · rw [cond_false]
  · rw [cond_true, wTo_off hy]
section CG
variable (b : Nat) (M : cM) (fo : Nat → Int64)
set_option maxHeartbeats 16000000 in
theorem q_change0 {h h1 : jx_S} {n m : Nat} {s : xS} {t t2 lo hi lo2 hi2 : Nat} {mv : Value} {U : Nat → Nat} (wd : Nat → Int32) (hs : IM s) (hmv : rLt s.2.1.2.2.2.2 0 = false → 0 < s.2.2.2.2.2.1 → 0 < s.2.2.1 (9 + 10 * s.2.2.2.1 + s.2.2.2.2.1)) (hon : s.2.1.2.2.1 = true) (hb : b + 26 ≤ h.1) (hC : CR b h s t mv lo hi) (hG : Gw n m h h1) (hp2 : TP h1 lo2 hi2 t2 U) (hlo : h.1 ≤ lo2) (hhi : hi2 ≤ h1.1) (hW : WT U) :
    ((chS s (nx1 s U)).2.1.2.2.1 = true ∧ ∃ h2 wd', f_Sh_change [.ref b, .ref t2] (cS h1 b M fo s t mv wd) = some (.returned none, cS h2 b M fo (chS s (nx1 s U)) t2 mv wd') ∧ CR b h2 (chS s (nx1 s U)) t2 mv lo2 hi2 ∧ h2.1 = h1.1 ∧ h2.2.1 = h1.2.1 ∧ ∀ q, q < h.1 → mv ≠ .ref q → h2.2.2 q = h.2.2 q) ∨
    ((chS s (nx1 s U)).2.1.2.2.1 = false ∧ ∃ h2 wd', f_Sh_change [.ref b, .ref t2] (cS h1 b M fo s t mv wd) = some (.threw h1.1, cS (hnew h2 6 (.inr (9, []))) b M fo (chS s (nx1 s U)) t mv wd') ∧ h2.1 = h1.1 ∧ h2.2.1 = h1.2.1 ∧ ∀ q, q < h.1 → h2.2.2 q = h.2.2 q) := by
  have hC1 := hC.gw hG
  obtain ⟨pr, x, T, cv, cl, ct, cp⟩ := s
  obtain ⟨hWT, hcv, hcl, hct, hcp, hmo, h30⟩ := hs
  dsimp only at hWT hcv hcl hct hcp hmo h30 hon
  obtain ⟨o1, o2, o3, o4⟩ := hC1
  dsimp only at o3
  have hT := hWT.1
  have hn1 := hG.1.1
  have hN : WT (nx1 (pr, x, T, cv, cl, ct, cp) U) := hW.up0 (by
    show T 0 + _ < _
    cases absn T pr <;> simp only [cond_true, cond_false] <;> omega)
  have hN0 : nx1 (pr, x, T, cv, cl, ct, cp) U = upN U 0 (T 0 + (bif absn T pr then 2 else 1)) := rfl
  obtain ⟨ea, va, qa, la, fe, fv, fl, hp2⟩ := hp2
  have hO2 : OUT b lo2 hi2 := Or.inl (by omega)
  have pN := hp2.setn (T 0 + (bif absn T pr then 2 else 1))
  rw [← hN0] at pN
  have ht2 : lo2 ≤ t2 := hp2.1.1
  have hU1 : h1.2.2 t2 = some (.inr (3, [.int (nI (U 0)), .ref ea, .ref va])) := hp2.2.2.2.2.1
  generalize nx1 (pr, x, T, cv, cl, ct, cp) U = N at hN hN0 pN ⊢
  generalize hX : hset h1 t2 (.inr (3, [.int (nI (T 0 + (bif absn T pr then 2 else 1))), .ref ea, .ref va])) = h1' at pN
  have xs : h1'.1 = h1.1 := by rw [← hX]; rfl
  have xs2 : h1'.2.1 = h1.2.1 := by rw [← hX]; rfl
  have xk : ∀ q, q < h.1 → h1'.2.2 q = h.2.2 q := fun q hq => by
    rw [← hX, hset_ne _ _ (by omega)]
    exact hG.2 q hq
  obtain ⟨wd', qfill, hwd⟩ := q_Tb_fill h1' b M fo pr x t mv wd hO2 ⟨_, _, _, _, _, _, _, pN⟩ hN
  -- the disks
  have cpN := fun (y : xA) t => cTPa h1' b M fo pr y t mv wd' hO2 pN
  have lp := chO h1' b M fo pr x t mv wd' (c := lc_Sh_change_0) (A := lb_Sh_change_0) (fun k w1 w2 w3 => [.ref b, .ref t2, .ref (b + 1), .int (nI 4), .int (nI k), w1, w2, w3]) (.double 0) (.double 0) (.double 0) (fun d y => bif decide (0 < N (1 + d)) && pr d then wTo y d (wds N) else y) (fun d y hy => gch_off N pr d y hy) hon (fun y k w1 w2 w3 hk => by
      simp (disch := first | omega | assumption) only [jx_fn, jx_b_ok, jx_kb_ok, jx_b_inl, jx_kb_inl, jx_b_inr, jx_kb_inr, eInt, eNull, eI, eA, eBin, jx_op, oAdd_n, oMul_n, cCmp, cCmp0, jx_cp, cNull, jx_nl, cNot, cAnd_k, cOr_k, cIte_c, eIte_k, ck_ite, bf_and, bf_or, bf_not, ck_int, ck_10, ck_nI, cond_true, cond_false, oSub_g, nIs_le, oDiv_s, ck_n10, eGf, jx_gf, eLd, jx_ld, eLda, jx_lda, eLen, jx_len, eCl, jx_as, jx_ec, jx_ev, jx_es, tb1, tb3, tbk, tbn, tbl, sAsg_k, jx_set, jx_ft_int, jx_ft_ref, jx_ft_null, jx_ft_z0, jx_ft_z1, sSeq_k, sIf_k, sSkip, sInc, sPf_k, jx_pf_h, sUf_k, sSt_k, jx_st_h, sSta_k, jx_sta_h, jx_el, sUst_k, sRet, jx_rt, sRetV, sCl_k, sThrow_h, eNew, jx_nw_h, sObj, eNa, List.getElem?_cons_zero, List.getElem?_cons_succ, List.set_cons_zero, List.set_cons_succ, List.cons_append, List.nil_append, List.replicate_succ, List.replicate_zero, List.length_cons, List.length_nil, List.all_cons, List.all_nil, Value.category, Bool.and_true, Bool.true_and, Bool.and_self, beq_self_eq_true, and_self, and_true, true_and, if_true, if_false, ite_true, ite_false, eq_self, List.mem_cons, List.mem_singleton, List.not_mem_nil, or_false, true_or, or_true, false_or, Nat.reduceSub, Nat.reduceAdd, decide_true, decide_false, Bool.not_true, Bool.not_false, Nat.zero_add, Bool.false_eq_true, va_rf, reduceCtorEq, Nat.reduceEqDiff, Nat.reduceLT, Nat.reduceMul, Nat.lt_irrefl, rNe_b, rEq_b, jx_ft_b, jx_ix_nI, rLt_n, rGe_n, rGt_n, rLe_n, rEq_n, rNe_n, rGt_0, rEq_0, rNe_0, rLt_0, rGe_0, rLe_0, nI_1s, kU_ok, kU_r, kA_ok, kA_r, kC_t, kC_f, kC_r, kO_ok, kO_l, kO_r, kE_ok, kN_ok, kR_ok, kE_t, kE_f, kN_t, kN_f, kR_t, kR_f, cH_1, cH_21, cH_sh, cH_da, cH_dk, cH_sl, cH_dt, cH_pn, cH_wd, cH_md, cS_sh, cS_pn, cS_pn0, cS_pn1, cS_sl, cS_dt, cS_wd, cS_pr, pm_eta, va_rf, b2i_t, b2i_f, Bool.true_or, Bool.false_or, Bool.or_true, Bool.or_false, Bool.false_and, Bool.and_false, lc_Sh_change_0, eq_true (show k < 4 by omega)]) (fun y w1 w2 w3 => by
      simp (disch := first | omega | assumption) only [jx_fn, jx_b_ok, jx_kb_ok, jx_b_inl, jx_kb_inl, jx_b_inr, jx_kb_inr, eInt, eNull, eI, eA, eBin, jx_op, oAdd_n, oMul_n, cCmp, cCmp0, jx_cp, cNull, jx_nl, cNot, cAnd_k, cOr_k, cIte_c, eIte_k, ck_ite, bf_and, bf_or, bf_not, ck_int, ck_10, ck_nI, cond_true, cond_false, oSub_g, nIs_le, oDiv_s, ck_n10, eGf, jx_gf, eLd, jx_ld, eLda, jx_lda, eLen, jx_len, eCl, jx_as, jx_ec, jx_ev, jx_es, tb1, tb3, tbk, tbn, tbl, sAsg_k, jx_set, jx_ft_int, jx_ft_ref, jx_ft_null, jx_ft_z0, jx_ft_z1, sSeq_k, sIf_k, sSkip, sInc, sPf_k, jx_pf_h, sUf_k, sSt_k, jx_st_h, sSta_k, jx_sta_h, jx_el, sUst_k, sRet, jx_rt, sRetV, sCl_k, sThrow_h, eNew, jx_nw_h, sObj, eNa, List.getElem?_cons_zero, List.getElem?_cons_succ, List.set_cons_zero, List.set_cons_succ, List.cons_append, List.nil_append, List.replicate_succ, List.replicate_zero, List.length_cons, List.length_nil, List.all_cons, List.all_nil, Value.category, Bool.and_true, Bool.true_and, Bool.and_self, beq_self_eq_true, and_self, and_true, true_and, if_true, if_false, ite_true, ite_false, eq_self, List.mem_cons, List.mem_singleton, List.not_mem_nil, or_false, true_or, or_true, false_or, Nat.reduceSub, Nat.reduceAdd, decide_true, decide_false, Bool.not_true, Bool.not_false, Nat.zero_add, Bool.false_eq_true, va_rf, reduceCtorEq, Nat.reduceEqDiff, Nat.reduceLT, Nat.reduceMul, Nat.lt_irrefl, rNe_b, rEq_b, jx_ft_b, jx_ix_nI, rLt_n, rGe_n, rGt_n, rLe_n, rEq_n, rNe_n, rGt_0, rEq_0, rNe_0, rLt_0, rGe_0, rLe_0, nI_1s, kU_ok, kU_r, kA_ok, kA_r, kC_t, kC_f, kC_r, kO_ok, kO_l, kO_r, kE_ok, kN_ok, kR_ok, kE_t, kE_f, kN_t, kN_f, kR_t, kR_f, cH_1, cH_21, cH_sh, cH_da, cH_dk, cH_sl, cH_dt, cH_pn, cH_wd, cH_md, cS_sh, cS_pn, cS_pn0, cS_pn1, cS_sl, cS_dt, cS_wd, cS_pr, pm_eta, va_rf, b2i_t, b2i_f, Bool.true_or, Bool.false_or, Bool.or_true, Bool.or_false, Bool.false_and, Bool.and_false, lc_Sh_change_0]) (fun y k w1 w2 w3 hk hy => by
      have r1 := (cpN y t).2.2.2.2.1
      have r2 := (cpN y t).2.2.2.2.2.1
      have r3 := (cpN y t).2.2.2.2.2.2.1 k hk
      have bN := hN.1 (1 + k)
      by_cases h0 : N (1 + k) = 0
      · have e : (decide (0 < N (1 + k)) && pr k) = false := by rw [decide_eq_false (by omega)]; rfl
        left
        rw [e]
        refine ⟨hy, .ref (b + 2 + 3 * k), w2, w3, fun K => ?_⟩
        rw [h0] at r3
        simp (disch := first | omega | assumption) only [jx_fn, jx_b_ok, jx_kb_ok, jx_b_inl, jx_kb_inl, jx_b_inr, jx_kb_inr, eInt, eNull, eI, eA, eBin, jx_op, oAdd_n, oMul_n, cCmp, cCmp0, jx_cp, cNull, jx_nl, cNot, cAnd_k, cOr_k, cIte_c, eIte_k, ck_ite, bf_and, bf_or, bf_not, ck_int, ck_10, ck_nI, cond_true, cond_false, oSub_g, nIs_le, oDiv_s, ck_n10, eGf, jx_gf, eLd, jx_ld, eLda, jx_lda, eLen, jx_len, eCl, jx_as, jx_ec, jx_ev, jx_es, tb1, tb3, tbk, tbn, tbl, sAsg_k, jx_set, jx_ft_int, jx_ft_ref, jx_ft_null, jx_ft_z0, jx_ft_z1, sSeq_k, sIf_k, sSkip, sInc, sPf_k, jx_pf_h, sUf_k, sSt_k, jx_st_h, sSta_k, jx_sta_h, jx_el, sUst_k, sRet, jx_rt, sRetV, sCl_k, sThrow_h, eNew, jx_nw_h, sObj, eNa, List.getElem?_cons_zero, List.getElem?_cons_succ, List.set_cons_zero, List.set_cons_succ, List.cons_append, List.nil_append, List.replicate_succ, List.replicate_zero, List.length_cons, List.length_nil, List.all_cons, List.all_nil, Value.category, Bool.and_true, Bool.true_and, Bool.and_self, beq_self_eq_true, and_self, and_true, true_and, if_true, if_false, ite_true, ite_false, eq_self, List.mem_cons, List.mem_singleton, List.not_mem_nil, or_false, true_or, or_true, false_or, Nat.reduceSub, Nat.reduceAdd, decide_true, decide_false, Bool.not_true, Bool.not_false, Nat.zero_add, Bool.false_eq_true, va_rf, reduceCtorEq, Nat.reduceEqDiff, Nat.reduceLT, Nat.reduceMul, Nat.lt_irrefl, rNe_b, rEq_b, jx_ft_b, jx_ix_nI, rLt_n, rGe_n, rGt_n, rLe_n, rEq_n, rNe_n, rGt_0, rEq_0, rNe_0, rLt_0, rGe_0, rLe_0, nI_1s, kU_ok, kU_r, kA_ok, kA_r, kC_t, kC_f, kC_r, kO_ok, kO_l, kO_r, kE_ok, kN_ok, kR_ok, kE_t, kE_f, kN_t, kN_f, kR_t, kR_f, cH_1, cH_21, cH_sh, cH_da, cH_dk, cH_sl, cH_dt, cH_pn, cH_wd, cH_md, cS_sh, cS_pn, cS_pn0, cS_pn1, cS_sl, cS_dt, cS_wd, cS_pr, pm_eta, va_rf, b2i_t, b2i_f, Bool.true_or, Bool.false_or, Bool.or_true, Bool.or_false, Bool.false_and, Bool.and_false, lb_Sh_change_0, r1, r2, r3]
      · cases hpk : pr k
        · left
          rw [Bool.and_false]
          refine ⟨hy, .ref (b + 2 + 3 * k), w2, w3, fun K => ?_⟩
          simp (disch := first | omega | assumption) only [jx_fn, jx_b_ok, jx_kb_ok, jx_b_inl, jx_kb_inl, jx_b_inr, jx_kb_inr, eInt, eNull, eI, eA, eBin, jx_op, oAdd_n, oMul_n, cCmp, cCmp0, jx_cp, cNull, jx_nl, cNot, cAnd_k, cOr_k, cIte_c, eIte_k, ck_ite, bf_and, bf_or, bf_not, ck_int, ck_10, ck_nI, cond_true, cond_false, oSub_g, nIs_le, oDiv_s, ck_n10, eGf, jx_gf, eLd, jx_ld, eLda, jx_lda, eLen, jx_len, eCl, jx_as, jx_ec, jx_ev, jx_es, tb1, tb3, tbk, tbn, tbl, sAsg_k, jx_set, jx_ft_int, jx_ft_ref, jx_ft_null, jx_ft_z0, jx_ft_z1, sSeq_k, sIf_k, sSkip, sInc, sPf_k, jx_pf_h, sUf_k, sSt_k, jx_st_h, sSta_k, jx_sta_h, jx_el, sUst_k, sRet, jx_rt, sRetV, sCl_k, sThrow_h, eNew, jx_nw_h, sObj, eNa, List.getElem?_cons_zero, List.getElem?_cons_succ, List.set_cons_zero, List.set_cons_succ, List.cons_append, List.nil_append, List.replicate_succ, List.replicate_zero, List.length_cons, List.length_nil, List.all_cons, List.all_nil, Value.category, Bool.and_true, Bool.true_and, Bool.and_self, beq_self_eq_true, and_self, and_true, true_and, if_true, if_false, ite_true, ite_false, eq_self, List.mem_cons, List.mem_singleton, List.not_mem_nil, or_false, true_or, or_true, false_or, Nat.reduceSub, Nat.reduceAdd, decide_true, decide_false, Bool.not_true, Bool.not_false, Nat.zero_add, Bool.false_eq_true, va_rf, reduceCtorEq, Nat.reduceEqDiff, Nat.reduceLT, Nat.reduceMul, Nat.lt_irrefl, rNe_b, rEq_b, jx_ft_b, jx_ix_nI, rLt_n, rGe_n, rGt_n, rLe_n, rEq_n, rNe_n, rGt_0, rEq_0, rNe_0, rLt_0, rGe_0, rLe_0, nI_1s, kU_ok, kU_r, kA_ok, kA_r, kC_t, kC_f, kC_r, kO_ok, kO_l, kO_r, kE_ok, kN_ok, kR_ok, kE_t, kE_f, kN_t, kN_f, kR_t, kR_f, cH_1, cH_21, cH_sh, cH_da, cH_dk, cH_sl, cH_dt, cH_pn, cH_wd, cH_md, cS_sh, cS_pn, cS_pn0, cS_pn1, cS_sl, cS_dt, cS_wd, cS_pr, pm_eta, va_rf, b2i_t, b2i_f, Bool.true_or, Bool.false_or, Bool.or_true, Bool.or_false, Bool.false_and, Bool.and_false, lb_Sh_change_0, r1, r2, r3, h0, hpk]
        · have e : (decide (0 < N (1 + k)) && true) = true := by rw [decide_eq_true (by omega)]; rfl
          rw [e, cond_true]
          have ho : oldr y.1 k ≤ 1 := by
            unfold oldr
            cases decide (sltN y.1 k 0 = 0) || (decide (0 < sltN y.1 k 1) && decide (sltN y.1 k 0 < sltN y.1 k 1))
            · exact Nat.le_refl 1
            · exact Nat.zero_le 1
          have hold := q_Dk_older h1' b M fo pr y t mv wd' k hk
          have lq := chL h1' b M fo pr y t mv wd' (c := lc_Sh_change_1) (A := lb_Sh_change_1) (fun j => [.ref b, .ref t2, .ref (b + 1), .int (nI 4), .int (nI k), .ref (b + 2 + 3 * k), .int (nI (51 * oldr y.1 k)), .int (nI j)]) k (oldr y.1 k) hk (by omega) hy (fun z j hj => by
              simp (disch := first | omega | assumption) only [jx_fn, jx_b_ok, jx_kb_ok, jx_b_inl, jx_kb_inl, jx_b_inr, jx_kb_inr, eInt, eNull, eI, eA, eBin, jx_op, oAdd_n, oMul_n, cCmp, cCmp0, jx_cp, cNull, jx_nl, cNot, cAnd_k, cOr_k, cIte_c, eIte_k, ck_ite, bf_and, bf_or, bf_not, ck_int, ck_10, ck_nI, cond_true, cond_false, oSub_g, nIs_le, oDiv_s, ck_n10, eGf, jx_gf, eLd, jx_ld, eLda, jx_lda, eLen, jx_len, eCl, jx_as, jx_ec, jx_ev, jx_es, tb1, tb3, tbk, tbn, tbl, sAsg_k, jx_set, jx_ft_int, jx_ft_ref, jx_ft_null, jx_ft_z0, jx_ft_z1, sSeq_k, sIf_k, sSkip, sInc, sPf_k, jx_pf_h, sUf_k, sSt_k, jx_st_h, sSta_k, jx_sta_h, jx_el, sUst_k, sRet, jx_rt, sRetV, sCl_k, sThrow_h, eNew, jx_nw_h, sObj, eNa, List.getElem?_cons_zero, List.getElem?_cons_succ, List.set_cons_zero, List.set_cons_succ, List.cons_append, List.nil_append, List.replicate_succ, List.replicate_zero, List.length_cons, List.length_nil, List.all_cons, List.all_nil, Value.category, Bool.and_true, Bool.true_and, Bool.and_self, beq_self_eq_true, and_self, and_true, true_and, if_true, if_false, ite_true, ite_false, eq_self, List.mem_cons, List.mem_singleton, List.not_mem_nil, or_false, true_or, or_true, false_or, Nat.reduceSub, Nat.reduceAdd, decide_true, decide_false, Bool.not_true, Bool.not_false, Nat.zero_add, Bool.false_eq_true, va_rf, reduceCtorEq, Nat.reduceEqDiff, Nat.reduceLT, Nat.reduceMul, Nat.lt_irrefl, rNe_b, rEq_b, jx_ft_b, jx_ix_nI, rLt_n, rGe_n, rGt_n, rLe_n, rEq_n, rNe_n, rGt_0, rEq_0, rNe_0, rLt_0, rGe_0, rLe_0, nI_1s, kU_ok, kU_r, kA_ok, kA_r, kC_t, kC_f, kC_r, kO_ok, kO_l, kO_r, kE_ok, kN_ok, kR_ok, kE_t, kE_f, kN_t, kN_f, kR_t, kR_f, cH_1, cH_21, cH_sh, cH_da, cH_dk, cH_sl, cH_dt, cH_pn, cH_wd, cH_md, cS_sh, cS_pn, cS_pn0, cS_pn1, cS_sl, cS_dt, cS_wd, cS_pr, pm_eta, va_rf, b2i_t, b2i_f, Bool.true_or, Bool.false_or, Bool.or_true, Bool.or_false, Bool.false_and, Bool.and_false, lc_Sh_change_1, eq_true (show j < 51 by omega)]) (fun z => by
              simp (disch := first | omega | assumption) only [jx_fn, jx_b_ok, jx_kb_ok, jx_b_inl, jx_kb_inl, jx_b_inr, jx_kb_inr, eInt, eNull, eI, eA, eBin, jx_op, oAdd_n, oMul_n, cCmp, cCmp0, jx_cp, cNull, jx_nl, cNot, cAnd_k, cOr_k, cIte_c, eIte_k, ck_ite, bf_and, bf_or, bf_not, ck_int, ck_10, ck_nI, cond_true, cond_false, oSub_g, nIs_le, oDiv_s, ck_n10, eGf, jx_gf, eLd, jx_ld, eLda, jx_lda, eLen, jx_len, eCl, jx_as, jx_ec, jx_ev, jx_es, tb1, tb3, tbk, tbn, tbl, sAsg_k, jx_set, jx_ft_int, jx_ft_ref, jx_ft_null, jx_ft_z0, jx_ft_z1, sSeq_k, sIf_k, sSkip, sInc, sPf_k, jx_pf_h, sUf_k, sSt_k, jx_st_h, sSta_k, jx_sta_h, jx_el, sUst_k, sRet, jx_rt, sRetV, sCl_k, sThrow_h, eNew, jx_nw_h, sObj, eNa, List.getElem?_cons_zero, List.getElem?_cons_succ, List.set_cons_zero, List.set_cons_succ, List.cons_append, List.nil_append, List.replicate_succ, List.replicate_zero, List.length_cons, List.length_nil, List.all_cons, List.all_nil, Value.category, Bool.and_true, Bool.true_and, Bool.and_self, beq_self_eq_true, and_self, and_true, true_and, if_true, if_false, ite_true, ite_false, eq_self, List.mem_cons, List.mem_singleton, List.not_mem_nil, or_false, true_or, or_true, false_or, Nat.reduceSub, Nat.reduceAdd, decide_true, decide_false, Bool.not_true, Bool.not_false, Nat.zero_add, Bool.false_eq_true, va_rf, reduceCtorEq, Nat.reduceEqDiff, Nat.reduceLT, Nat.reduceMul, Nat.lt_irrefl, rNe_b, rEq_b, jx_ft_b, jx_ix_nI, rLt_n, rGe_n, rGt_n, rLe_n, rEq_n, rNe_n, rGt_0, rEq_0, rNe_0, rLt_0, rGe_0, rLe_0, nI_1s, kU_ok, kU_r, kA_ok, kA_r, kC_t, kC_f, kC_r, kO_ok, kO_l, kO_r, kE_ok, kN_ok, kR_ok, kE_t, kE_f, kN_t, kN_f, kR_t, kR_f, cH_1, cH_21, cH_sh, cH_da, cH_dk, cH_sl, cH_dt, cH_pn, cH_wd, cH_md, cS_sh, cS_pn, cS_pn0, cS_pn1, cS_sl, cS_dt, cS_wd, cS_pr, pm_eta, va_rf, b2i_t, b2i_f, Bool.true_or, Bool.false_or, Bool.or_true, Bool.or_false, Bool.false_and, Bool.and_false, lc_Sh_change_1]) (fun z j hj hz K => by
              have q := q_Pn_sl h1' b M fo pr z t mv wd' hz k (51 * oldr y.1 k + j) hk (by omega) (wd' j)
              rw [← Nat.add_assoc] at q
              cases hb : (wS z (102 * k + 51 * oldr y.1 k + j) (wd' j)).2.2.1 <;> rw [hb] at q <;> simp (disch := first | omega | assumption) only [jx_fn, jx_b_ok, jx_kb_ok, jx_b_inl, jx_kb_inl, jx_b_inr, jx_kb_inr, eInt, eNull, eI, eA, eBin, jx_op, oAdd_n, oMul_n, cCmp, cCmp0, jx_cp, cNull, jx_nl, cNot, cAnd_k, cOr_k, cIte_c, eIte_k, ck_ite, bf_and, bf_or, bf_not, ck_int, ck_10, ck_nI, cond_true, cond_false, oSub_g, nIs_le, oDiv_s, ck_n10, eGf, jx_gf, eLd, jx_ld, eLda, jx_lda, eLen, jx_len, eCl, jx_as, jx_ec, jx_ev, jx_es, tb1, tb3, tbk, tbn, tbl, sAsg_k, jx_set, jx_ft_int, jx_ft_ref, jx_ft_null, jx_ft_z0, jx_ft_z1, sSeq_k, sIf_k, sSkip, sInc, sPf_k, jx_pf_h, sUf_k, sSt_k, jx_st_h, sSta_k, jx_sta_h, jx_el, sUst_k, sRet, jx_rt, sRetV, sCl_k, sThrow_h, eNew, jx_nw_h, sObj, eNa, List.getElem?_cons_zero, List.getElem?_cons_succ, List.set_cons_zero, List.set_cons_succ, List.cons_append, List.nil_append, List.replicate_succ, List.replicate_zero, List.length_cons, List.length_nil, List.all_cons, List.all_nil, Value.category, Bool.and_true, Bool.true_and, Bool.and_self, beq_self_eq_true, and_self, and_true, true_and, if_true, if_false, ite_true, ite_false, eq_self, List.mem_cons, List.mem_singleton, List.not_mem_nil, or_false, true_or, or_true, false_or, Nat.reduceSub, Nat.reduceAdd, decide_true, decide_false, Bool.not_true, Bool.not_false, Nat.zero_add, Bool.false_eq_true, va_rf, reduceCtorEq, Nat.reduceEqDiff, Nat.reduceLT, Nat.reduceMul, Nat.lt_irrefl, rNe_b, rEq_b, jx_ft_b, jx_ix_nI, rLt_n, rGe_n, rGt_n, rLe_n, rEq_n, rNe_n, rGt_0, rEq_0, rNe_0, rLt_0, rGe_0, rLe_0, nI_1s, kU_ok, kU_r, kA_ok, kA_r, kC_t, kC_f, kC_r, kO_ok, kO_l, kO_r, kE_ok, kN_ok, kR_ok, kE_t, kE_f, kN_t, kN_f, kR_t, kR_f, cH_1, cH_21, cH_sh, cH_da, cH_dk, cH_sl, cH_dt, cH_pn, cH_wd, cH_md, cS_sh, cS_pn, cS_pn0, cS_pn1, cS_sl, cS_dt, cS_wd, cS_pr, pm_eta, va_rf, b2i_t, b2i_f, Bool.true_or, Bool.false_or, Bool.or_true, Bool.or_false, Bool.false_and, Bool.and_false, lb_Sh_change_1, q])
          have ew : itr (fun j z => wS z (102 * k + 51 * oldr y.1 k + j) (wd' j)) 51 y = wTo y k (wds N) := itr_congr (fun j z hj => by rw [hwd j hj]) y
          rw [ew] at lq
          rcases lq with ⟨l1, l2⟩ | ⟨l1, l2⟩
          · refine Or.inl ⟨l1, .ref (b + 2 + 3 * k), .int (nI (51 * oldr y.1 k)), .int (nI 51), fun K => ?_⟩
            simp (disch := first | omega | assumption) only [jx_fn, jx_b_ok, jx_kb_ok, jx_b_inl, jx_kb_inl, jx_b_inr, jx_kb_inr, eInt, eNull, eI, eA, eBin, jx_op, oAdd_n, oMul_n, cCmp, cCmp0, jx_cp, cNull, jx_nl, cNot, cAnd_k, cOr_k, cIte_c, eIte_k, ck_ite, bf_and, bf_or, bf_not, ck_int, ck_10, ck_nI, cond_true, cond_false, oSub_g, nIs_le, oDiv_s, ck_n10, eGf, jx_gf, eLd, jx_ld, eLda, jx_lda, eLen, jx_len, eCl, jx_as, jx_ec, jx_ev, jx_es, tb1, tb3, tbk, tbn, tbl, sAsg_k, jx_set, jx_ft_int, jx_ft_ref, jx_ft_null, jx_ft_z0, jx_ft_z1, sSeq_k, sIf_k, sSkip, sInc, sPf_k, jx_pf_h, sUf_k, sSt_k, jx_st_h, sSta_k, jx_sta_h, jx_el, sUst_k, sRet, jx_rt, sRetV, sCl_k, sThrow_h, eNew, jx_nw_h, sObj, eNa, List.getElem?_cons_zero, List.getElem?_cons_succ, List.set_cons_zero, List.set_cons_succ, List.cons_append, List.nil_append, List.replicate_succ, List.replicate_zero, List.length_cons, List.length_nil, List.all_cons, List.all_nil, Value.category, Bool.and_true, Bool.true_and, Bool.and_self, beq_self_eq_true, and_self, and_true, true_and, if_true, if_false, ite_true, ite_false, eq_self, List.mem_cons, List.mem_singleton, List.not_mem_nil, or_false, true_or, or_true, false_or, Nat.reduceSub, Nat.reduceAdd, decide_true, decide_false, Bool.not_true, Bool.not_false, Nat.zero_add, Bool.false_eq_true, va_rf, reduceCtorEq, Nat.reduceEqDiff, Nat.reduceLT, Nat.reduceMul, Nat.lt_irrefl, rNe_b, rEq_b, jx_ft_b, jx_ix_nI, rLt_n, rGe_n, rGt_n, rLe_n, rEq_n, rNe_n, rGt_0, rEq_0, rNe_0, rLt_0, rGe_0, rLe_0, nI_1s, kU_ok, kU_r, kA_ok, kA_r, kC_t, kC_f, kC_r, kO_ok, kO_l, kO_r, kE_ok, kN_ok, kR_ok, kE_t, kE_f, kN_t, kN_f, kR_t, kR_f, cH_1, cH_21, cH_sh, cH_da, cH_dk, cH_sl, cH_dt, cH_pn, cH_wd, cH_md, cS_sh, cS_pn, cS_pn0, cS_pn1, cS_sl, cS_dt, cS_wd, cS_pr, pm_eta, va_rf, b2i_t, b2i_f, Bool.true_or, Bool.false_or, Bool.or_true, Bool.or_false, Bool.false_and, Bool.and_false, lb_Sh_change_0, r1, r2, r3, h0, hpk, hold, l2]
          · refine Or.inr ⟨l1, fun K => ?_⟩
            simp (disch := first | omega | assumption) only [jx_fn, jx_b_ok, jx_kb_ok, jx_b_inl, jx_kb_inl, jx_b_inr, jx_kb_inr, eInt, eNull, eI, eA, eBin, jx_op, oAdd_n, oMul_n, cCmp, cCmp0, jx_cp, cNull, jx_nl, cNot, cAnd_k, cOr_k, cIte_c, eIte_k, ck_ite, bf_and, bf_or, bf_not, ck_int, ck_10, ck_nI, cond_true, cond_false, oSub_g, nIs_le, oDiv_s, ck_n10, eGf, jx_gf, eLd, jx_ld, eLda, jx_lda, eLen, jx_len, eCl, jx_as, jx_ec, jx_ev, jx_es, tb1, tb3, tbk, tbn, tbl, sAsg_k, jx_set, jx_ft_int, jx_ft_ref, jx_ft_null, jx_ft_z0, jx_ft_z1, sSeq_k, sIf_k, sSkip, sInc, sPf_k, jx_pf_h, sUf_k, sSt_k, jx_st_h, sSta_k, jx_sta_h, jx_el, sUst_k, sRet, jx_rt, sRetV, sCl_k, sThrow_h, eNew, jx_nw_h, sObj, eNa, List.getElem?_cons_zero, List.getElem?_cons_succ, List.set_cons_zero, List.set_cons_succ, List.cons_append, List.nil_append, List.replicate_succ, List.replicate_zero, List.length_cons, List.length_nil, List.all_cons, List.all_nil, Value.category, Bool.and_true, Bool.true_and, Bool.and_self, beq_self_eq_true, and_self, and_true, true_and, if_true, if_false, ite_true, ite_false, eq_self, List.mem_cons, List.mem_singleton, List.not_mem_nil, or_false, true_or, or_true, false_or, Nat.reduceSub, Nat.reduceAdd, decide_true, decide_false, Bool.not_true, Bool.not_false, Nat.zero_add, Bool.false_eq_true, va_rf, reduceCtorEq, Nat.reduceEqDiff, Nat.reduceLT, Nat.reduceMul, Nat.lt_irrefl, rNe_b, rEq_b, jx_ft_b, jx_ix_nI, rLt_n, rGe_n, rGt_n, rLe_n, rEq_n, rNe_n, rGt_0, rEq_0, rNe_0, rLt_0, rGe_0, rLe_0, nI_1s, kU_ok, kU_r, kA_ok, kA_r, kC_t, kC_f, kC_r, kO_ok, kO_l, kO_r, kE_ok, kN_ok, kR_ok, kE_t, kE_f, kN_t, kN_f, kR_t, kR_f, cH_1, cH_21, cH_sh, cH_da, cH_dk, cH_sl, cH_dt, cH_pn, cH_wd, cH_md, cS_sh, cS_pn, cS_pn0, cS_pn1, cS_sl, cS_dt, cS_wd, cS_pr, pm_eta, va_rf, b2i_t, b2i_f, Bool.true_or, Bool.false_or, Bool.or_true, Bool.or_false, Bool.false_and, Bool.and_false, lb_Sh_change_0, r1, r2, r3, h0, hpk, hold, l2])
  have ec' : itr (fun d y => bif decide (0 < N (1 + d)) && pr d then wTo y d (wds N) else y) 4 x = chg x pr N := rfl
  rw [ec'] at lp
  have hPM := chg_PM (m := x.2.2.2.2) (y := x) (Or.inl ⟨hon, rfl⟩) pr N
  -- the start of the body
  have qab := q_Sh_isOneAbsent h1 b M fo pr x t mv wd o1 o3 hT
  obtain ⟨ea0, va0, qa0, la0, fe0, fv0, fl0, o3'⟩ := o3
  have s1 := (cTPa h1 b M fo pr x t mv wd o1 o3').2.2.2.2.1
  have s2 := (cTPa h1 b M fo pr x t mv wd hO2 hp2).2.2.2.2.1
  have s3 : ∀ o, hset (cH h1 b M fo pr x t mv wd) t2 o = cH (hset h1 t2 o) b M fo pr x t mv wd := fun o => cS_out h1 b M fo pr x t mv wd o (Or.inl (by omega))
  have s4 := (cTPa h1' b M fo pr x t mv wd hO2 pN).2.2.2.2.1
  have s5 := cH_sh h1' b M fo pr x t mv wd'
  rcases lp with ⟨l1, w1, w2, w3, l2⟩ | ⟨l1, l2⟩
  · left
    have hon' : (chS (pr, x, T, cv, cl, ct, cp) N) = (pr, chg x pr N, N, cv, cl, (bif decide (0 < ct) && !decide (N (9 + 10 * cv + cl) = T (9 + 10 * cv + cl)) then 0 else ct), cp) := by
      unfold chS
      dsimp only
      rw [l1, cond_true]
    have hmo' : (chg x pr N).2.2.2.2 = x.2.2.2.2 := by
      rcases hPM with ⟨_, e⟩ | ⟨e, _⟩
      · exact e
      · rw [l1] at e; cases e
    rw [hon']
    refine ⟨l1, ?_⟩
    have hBase : ∀ (K : jx_Bk), True := fun _ => trivial
    rcases o4 with ⟨e1, rfl⟩ | ⟨am, d, vo, le, fr, co, ⟨rfl, e0, ed⟩, ⟨e2, e3, e4⟩, e5, e6⟩
    · refine ⟨h1', wd', ?_, ⟨hO2, by omega, ⟨_, _, _, _, _, _, _, pN⟩, Or.inl ⟨by dsimp only at e1 ⊢; rw [hmo']; exact e1, rfl⟩⟩, xs, xs2, fun q hq _ => xk q hq⟩
      unfold cS
      generalize absn T pr = an at *
      cases an <;> simp only [cond_true, cond_false] at hX <;> simp (disch := first | omega | assumption) only [jx_fn, jx_b_ok, jx_kb_ok, jx_b_inl, jx_kb_inl, jx_b_inr, jx_kb_inr, eInt, eNull, eI, eA, eBin, jx_op, oAdd_n, oMul_n, cCmp, cCmp0, jx_cp, cNull, jx_nl, cNot, cAnd_k, cOr_k, cIte_c, eIte_k, ck_ite, bf_and, bf_or, bf_not, ck_int, ck_10, ck_nI, cond_true, cond_false, oSub_g, nIs_le, oDiv_s, ck_n10, eGf, jx_gf, eLd, jx_ld, eLda, jx_lda, eLen, jx_len, eCl, jx_as, jx_ec, jx_ev, jx_es, tb1, tb3, tbk, tbn, tbl, sAsg_k, jx_set, jx_ft_int, jx_ft_ref, jx_ft_null, jx_ft_z0, jx_ft_z1, sSeq_k, sIf_k, sSkip, sInc, sPf_k, jx_pf_h, sUf_k, sSt_k, jx_st_h, sSta_k, jx_sta_h, jx_el, sUst_k, sRet, jx_rt, sRetV, sCl_k, sThrow_h, eNew, jx_nw_h, sObj, eNa, List.getElem?_cons_zero, List.getElem?_cons_succ, List.set_cons_zero, List.set_cons_succ, List.cons_append, List.nil_append, List.replicate_succ, List.replicate_zero, List.length_cons, List.length_nil, List.all_cons, List.all_nil, Value.category, Bool.and_true, Bool.true_and, Bool.and_self, beq_self_eq_true, and_self, and_true, true_and, if_true, if_false, ite_true, ite_false, eq_self, List.mem_cons, List.mem_singleton, List.not_mem_nil, or_false, true_or, or_true, false_or, Nat.reduceSub, Nat.reduceAdd, decide_true, decide_false, Bool.not_true, Bool.not_false, Nat.zero_add, Bool.false_eq_true, va_rf, reduceCtorEq, Nat.reduceEqDiff, Nat.reduceLT, Nat.reduceMul, Nat.lt_irrefl, rNe_b, rEq_b, jx_ft_b, jx_ix_nI, rLt_n, rGe_n, rGt_n, rLe_n, rEq_n, rNe_n, rGt_0, rEq_0, rNe_0, rLt_0, rGe_0, rLe_0, nI_1s, kU_ok, kU_r, kA_ok, kA_r, kC_t, kC_f, kC_r, kO_ok, kO_l, kO_r, kE_ok, kN_ok, kR_ok, kE_t, kE_f, kN_t, kN_f, kR_t, kR_f, cH_1, cH_21, cH_sh, cH_da, cH_dk, cH_sl, cH_dt, cH_pn, cH_wd, cH_md, cS_sh, cS_pn, cS_pn0, cS_pn1, cS_sl, cS_dt, cS_wd, cS_pr, pm_eta, va_rf, b2i_t, b2i_f, Bool.true_or, Bool.false_or, Bool.or_true, Bool.or_false, Bool.false_and, Bool.and_false, f_Sh_change, bd_Sh_change, qab, s1, s2, s3, hX, s4, qfill, l2]
    · dsimp only at e0 e5 e6
      have hamh : am < h.1 := by
        rcases hC.2.2.2 with ⟨_, z⟩ | ⟨am', _, _, _, _, _, ⟨z, _, _⟩, ⟨_, z3, _⟩, _⟩
        · cases z
        · cases z; exact z3
      have xam : h1'.2.2 am = some (.inr (4, [.int (nI d), .int vo, .int le, .int fr, .int (nI ct), .int co])) := by
        rw [← hX, hset_ne _ _ (by omega)]
        exact e5
      have cam := fun (y : xA) t wd'' => (cH_out h1' b M fo pr y t (.ref am) wd'' (q := am) (Or.inl e2)).trans xam
      by_cases h0 : ct = 0
      · subst h0
        refine ⟨h1', wd', ?_, ⟨hO2, by omega, ⟨_, _, _, _, _, _, _, pN⟩, Or.inr ⟨am, d, vo, le, fr, co, ⟨rfl, by dsimp only; rw [hmo']; exact e0, ed⟩, ⟨e2, by omega, by omega⟩, xam, fun z => absurd rfl z⟩⟩, xs, xs2, fun q hq _ => xk q hq⟩
        have c1 := cam (chg x pr N) t2 wd'
        unfold cS
        generalize absn T pr = an at *
        cases an <;> simp only [cond_true, cond_false] at hX <;> simp (disch := first | omega | assumption) only [jx_fn, jx_b_ok, jx_kb_ok, jx_b_inl, jx_kb_inl, jx_b_inr, jx_kb_inr, eInt, eNull, eI, eA, eBin, jx_op, oAdd_n, oMul_n, cCmp, cCmp0, jx_cp, cNull, jx_nl, cNot, cAnd_k, cOr_k, cIte_c, eIte_k, ck_ite, bf_and, bf_or, bf_not, ck_int, ck_10, ck_nI, cond_true, cond_false, oSub_g, nIs_le, oDiv_s, ck_n10, eGf, jx_gf, eLd, jx_ld, eLda, jx_lda, eLen, jx_len, eCl, jx_as, jx_ec, jx_ev, jx_es, tb1, tb3, tbk, tbn, tbl, sAsg_k, jx_set, jx_ft_int, jx_ft_ref, jx_ft_null, jx_ft_z0, jx_ft_z1, sSeq_k, sIf_k, sSkip, sInc, sPf_k, jx_pf_h, sUf_k, sSt_k, jx_st_h, sSta_k, jx_sta_h, jx_el, sUst_k, sRet, jx_rt, sRetV, sCl_k, sThrow_h, eNew, jx_nw_h, sObj, eNa, List.getElem?_cons_zero, List.getElem?_cons_succ, List.set_cons_zero, List.set_cons_succ, List.cons_append, List.nil_append, List.replicate_succ, List.replicate_zero, List.length_cons, List.length_nil, List.all_cons, List.all_nil, Value.category, Bool.and_true, Bool.true_and, Bool.and_self, beq_self_eq_true, and_self, and_true, true_and, if_true, if_false, ite_true, ite_false, eq_self, List.mem_cons, List.mem_singleton, List.not_mem_nil, or_false, true_or, or_true, false_or, Nat.reduceSub, Nat.reduceAdd, decide_true, decide_false, Bool.not_true, Bool.not_false, Nat.zero_add, Bool.false_eq_true, va_rf, reduceCtorEq, Nat.reduceEqDiff, Nat.reduceLT, Nat.reduceMul, Nat.lt_irrefl, rNe_b, rEq_b, jx_ft_b, jx_ix_nI, rLt_n, rGe_n, rGt_n, rLe_n, rEq_n, rNe_n, rGt_0, rEq_0, rNe_0, rLt_0, rGe_0, rLe_0, nI_1s, kU_ok, kU_r, kA_ok, kA_r, kC_t, kC_f, kC_r, kO_ok, kO_l, kO_r, kE_ok, kN_ok, kR_ok, kE_t, kE_f, kN_t, kN_f, kR_t, kR_f, cH_1, cH_21, cH_sh, cH_da, cH_dk, cH_sl, cH_dt, cH_pn, cH_wd, cH_md, cS_sh, cS_pn, cS_pn0, cS_pn1, cS_sl, cS_dt, cS_wd, cS_pr, pm_eta, va_rf, b2i_t, b2i_f, Bool.true_or, Bool.false_or, Bool.or_true, Bool.or_false, Bool.false_and, Bool.and_false, f_Sh_change, bd_Sh_change, qab, s1, s2, s3, hX, s4, qfill, l2, c1]
      · obtain ⟨rfl, rfl, rfl, rfl⟩ := e6 h0
        have hpos : 0 < T (9 + 10 * cv + cl) := by
          have z := hmv (by dsimp only; rw [e0]; exact rLt_0 (by omega)) (by dsimp only; omega)
          exact z
        have c1 := cam (chg x pr N) t2 wd'
        have p1 := (cTPa h1' b M fo pr (chg x pr N) t2 (.ref am) wd' hO2 pN)
        have u1 := p1.2.2.2.2.1
        have u2 := p1.2.2.2.2.2.2.2.1
        have bT := hT (9 + 10 * cv + cl)
        have bN := hN.1 (9 + 10 * cv + cl)
        have s6 : ∀ o, hset (cH h1' b M fo pr (chg x pr N) t2 (.ref am) wd') am o = cH (hset h1' am o) b M fo pr (chg x pr N) t2 (.ref am) wd' := fun o => cS_out h1' b M fo pr _ t2 _ wd' o (Or.inl e2)
        by_cases hNT : N (9 + 10 * cv + cl) = T (9 + 10 * cv + cl)
        · have hN5 : N (5 + cv) ≠ 0 := fun z => by
            rcases hN.2.2.1 cv hcv with ⟨_, y⟩ | ⟨y, _⟩
            · have := y cl hcl; omega
            · rw [z] at y; omega
          have ect : (bif decide (0 < ct) && !decide (N (9 + 10 * cv + cl) = T (9 + 10 * cv + cl)) then 0 else ct) = ct := by
            rw [decide_eq_true hNT]
            simp
          rw [ect]
          refine ⟨h1', wd', ?_, ⟨hO2, by omega, ⟨_, _, _, _, _, _, _, pN⟩, Or.inr ⟨am, d, nI cv, nI cl, nI (T (9 + 10 * cv + cl)), nI cp, ⟨rfl, by dsimp only; rw [hmo']; exact e0, ed⟩, ⟨e2, by omega, by omega⟩, xam, fun z => ⟨rfl, rfl, by dsimp only; rw [hNT], rfl⟩⟩⟩, xs, xs2, fun q hq _ => xk q hq⟩
          obtain ⟨hn, ⟨v1, v2, hq⟩, hla, hfl⟩ := p1.vol hN hcv hN5
          have fk := hfl cl hcl
          have hm5 := mem567 v1 v2
          unfold cS
          generalize absn T pr = an at *
          cases an <;> simp only [cond_true, cond_false] at hX <;> simp (disch := first | omega | assumption) only [jx_fn, jx_b_ok, jx_kb_ok, jx_b_inl, jx_kb_inl, jx_b_inr, jx_kb_inr, eInt, eNull, eI, eA, eBin, jx_op, oAdd_n, oMul_n, cCmp, cCmp0, jx_cp, cNull, jx_nl, cNot, cAnd_k, cOr_k, cIte_c, eIte_k, ck_ite, bf_and, bf_or, bf_not, ck_int, ck_10, ck_nI, cond_true, cond_false, oSub_g, nIs_le, oDiv_s, ck_n10, eGf, jx_gf, eLd, jx_ld, eLda, jx_lda, eLen, jx_len, eCl, jx_as, jx_ec, jx_ev, jx_es, tb1, tb3, tbk, tbn, tbl, sAsg_k, jx_set, jx_ft_int, jx_ft_ref, jx_ft_null, jx_ft_z0, jx_ft_z1, sSeq_k, sIf_k, sSkip, sInc, sPf_k, jx_pf_h, sUf_k, sSt_k, jx_st_h, sSta_k, jx_sta_h, jx_el, sUst_k, sRet, jx_rt, sRetV, sCl_k, sThrow_h, eNew, jx_nw_h, sObj, eNa, List.getElem?_cons_zero, List.getElem?_cons_succ, List.set_cons_zero, List.set_cons_succ, List.cons_append, List.nil_append, List.replicate_succ, List.replicate_zero, List.length_cons, List.length_nil, List.all_cons, List.all_nil, Value.category, Bool.and_true, Bool.true_and, Bool.and_self, beq_self_eq_true, and_self, and_true, true_and, if_true, if_false, ite_true, ite_false, eq_self, List.mem_cons, List.mem_singleton, List.not_mem_nil, or_false, true_or, or_true, false_or, Nat.reduceSub, Nat.reduceAdd, decide_true, decide_false, Bool.not_true, Bool.not_false, Nat.zero_add, Bool.false_eq_true, va_rf, reduceCtorEq, Nat.reduceEqDiff, Nat.reduceLT, Nat.reduceMul, Nat.lt_irrefl, rNe_b, rEq_b, jx_ft_b, jx_ix_nI, rLt_n, rGe_n, rGt_n, rLe_n, rEq_n, rNe_n, rGt_0, rEq_0, rNe_0, rLt_0, rGe_0, rLe_0, nI_1s, kU_ok, kU_r, kA_ok, kA_r, kC_t, kC_f, kC_r, kO_ok, kO_l, kO_r, kE_ok, kN_ok, kR_ok, kE_t, kE_f, kN_t, kN_f, kR_t, kR_f, cH_1, cH_21, cH_sh, cH_da, cH_dk, cH_sl, cH_dt, cH_pn, cH_wd, cH_md, cS_sh, cS_pn, cS_pn0, cS_pn1, cS_sl, cS_dt, cS_wd, cS_pr, pm_eta, va_rf, b2i_t, b2i_f, Bool.true_or, Bool.false_or, Bool.or_true, Bool.or_false, Bool.false_and, Bool.and_false, f_Sh_change, bd_Sh_change, qab, s1, s2, s3, hX, s4, qfill, l2, c1, h0, u1, u2, hn, hq, hm5, hla, fk, hNT]
        · have ect : (bif decide (0 < ct) && !decide (N (9 + 10 * cv + cl) = T (9 + 10 * cv + cl)) then 0 else ct) = 0 := by
            rw [decide_eq_false hNT, decide_eq_true (show 0 < ct by omega)]
            rfl
          rw [ect]
          refine ⟨hset h1' am (.inr (4, [.int (nI d), .int (nI cv), .int (nI cl), .int (nI (T (9 + 10 * cv + cl))), .int (nI 0), .int (nI cp)])), wd', ?_, ⟨hO2, by rw [hset_1]; omega, ⟨_, _, _, _, _, _, _, pN.keep (fun q h1 h2 => hset_ne _ _ (by omega))⟩, Or.inr ⟨am, d, nI cv, nI cl, nI (T (9 + 10 * cv + cl)), nI cp, ⟨rfl, by dsimp only; rw [hmo']; exact e0, ed⟩, ⟨e2, by rw [hset_1]; omega, by omega⟩, hset_eq _ _ _, fun z => absurd rfl z⟩⟩, xs, xs2, fun q hq hz => (hset_ne _ _ (fun z => hz (by rw [z]))).trans (xk q hq)⟩
          unfold cS
          by_cases hN5 : N (5 + cv) = 0
          · have hn := pN.nov hcv hN5
            generalize absn T pr = an at *
            cases an <;> simp only [cond_true, cond_false] at hX <;> simp (disch := first | omega | assumption) only [jx_fn, jx_b_ok, jx_kb_ok, jx_b_inl, jx_kb_inl, jx_b_inr, jx_kb_inr, eInt, eNull, eI, eA, eBin, jx_op, oAdd_n, oMul_n, cCmp, cCmp0, jx_cp, cNull, jx_nl, cNot, cAnd_k, cOr_k, cIte_c, eIte_k, ck_ite, bf_and, bf_or, bf_not, ck_int, ck_10, ck_nI, cond_true, cond_false, oSub_g, nIs_le, oDiv_s, ck_n10, eGf, jx_gf, eLd, jx_ld, eLda, jx_lda, eLen, jx_len, eCl, jx_as, jx_ec, jx_ev, jx_es, tb1, tb3, tbk, tbn, tbl, sAsg_k, jx_set, jx_ft_int, jx_ft_ref, jx_ft_null, jx_ft_z0, jx_ft_z1, sSeq_k, sIf_k, sSkip, sInc, sPf_k, jx_pf_h, sUf_k, sSt_k, jx_st_h, sSta_k, jx_sta_h, jx_el, sUst_k, sRet, jx_rt, sRetV, sCl_k, sThrow_h, eNew, jx_nw_h, sObj, eNa, List.getElem?_cons_zero, List.getElem?_cons_succ, List.set_cons_zero, List.set_cons_succ, List.cons_append, List.nil_append, List.replicate_succ, List.replicate_zero, List.length_cons, List.length_nil, List.all_cons, List.all_nil, Value.category, Bool.and_true, Bool.true_and, Bool.and_self, beq_self_eq_true, and_self, and_true, true_and, if_true, if_false, ite_true, ite_false, eq_self, List.mem_cons, List.mem_singleton, List.not_mem_nil, or_false, true_or, or_true, false_or, Nat.reduceSub, Nat.reduceAdd, decide_true, decide_false, Bool.not_true, Bool.not_false, Nat.zero_add, Bool.false_eq_true, va_rf, reduceCtorEq, Nat.reduceEqDiff, Nat.reduceLT, Nat.reduceMul, Nat.lt_irrefl, rNe_b, rEq_b, jx_ft_b, jx_ix_nI, rLt_n, rGe_n, rGt_n, rLe_n, rEq_n, rNe_n, rGt_0, rEq_0, rNe_0, rLt_0, rGe_0, rLe_0, nI_1s, kU_ok, kU_r, kA_ok, kA_r, kC_t, kC_f, kC_r, kO_ok, kO_l, kO_r, kE_ok, kN_ok, kR_ok, kE_t, kE_f, kN_t, kN_f, kR_t, kR_f, cH_1, cH_21, cH_sh, cH_da, cH_dk, cH_sl, cH_dt, cH_pn, cH_wd, cH_md, cS_sh, cS_pn, cS_pn0, cS_pn1, cS_sl, cS_dt, cS_wd, cS_pr, pm_eta, va_rf, b2i_t, b2i_f, Bool.true_or, Bool.false_or, Bool.or_true, Bool.or_false, Bool.false_and, Bool.and_false, f_Sh_change, bd_Sh_change, qab, s1, s2, s3, hX, s4, qfill, l2, c1, h0, u1, u2, hn, s6]
          · obtain ⟨hn, ⟨v1, v2, hq⟩, hla, hfl⟩ := p1.vol hN hcv hN5
            have fk := hfl cl hcl
            have hm5 := mem567 v1 v2
            generalize absn T pr = an at *
            cases an <;> simp only [cond_true, cond_false] at hX <;> simp (disch := first | omega | assumption) only [jx_fn, jx_b_ok, jx_kb_ok, jx_b_inl, jx_kb_inl, jx_b_inr, jx_kb_inr, eInt, eNull, eI, eA, eBin, jx_op, oAdd_n, oMul_n, cCmp, cCmp0, jx_cp, cNull, jx_nl, cNot, cAnd_k, cOr_k, cIte_c, eIte_k, ck_ite, bf_and, bf_or, bf_not, ck_int, ck_10, ck_nI, cond_true, cond_false, oSub_g, nIs_le, oDiv_s, ck_n10, eGf, jx_gf, eLd, jx_ld, eLda, jx_lda, eLen, jx_len, eCl, jx_as, jx_ec, jx_ev, jx_es, tb1, tb3, tbk, tbn, tbl, sAsg_k, jx_set, jx_ft_int, jx_ft_ref, jx_ft_null, jx_ft_z0, jx_ft_z1, sSeq_k, sIf_k, sSkip, sInc, sPf_k, jx_pf_h, sUf_k, sSt_k, jx_st_h, sSta_k, jx_sta_h, jx_el, sUst_k, sRet, jx_rt, sRetV, sCl_k, sThrow_h, eNew, jx_nw_h, sObj, eNa, List.getElem?_cons_zero, List.getElem?_cons_succ, List.set_cons_zero, List.set_cons_succ, List.cons_append, List.nil_append, List.replicate_succ, List.replicate_zero, List.length_cons, List.length_nil, List.all_cons, List.all_nil, Value.category, Bool.and_true, Bool.true_and, Bool.and_self, beq_self_eq_true, and_self, and_true, true_and, if_true, if_false, ite_true, ite_false, eq_self, List.mem_cons, List.mem_singleton, List.not_mem_nil, or_false, true_or, or_true, false_or, Nat.reduceSub, Nat.reduceAdd, decide_true, decide_false, Bool.not_true, Bool.not_false, Nat.zero_add, Bool.false_eq_true, va_rf, reduceCtorEq, Nat.reduceEqDiff, Nat.reduceLT, Nat.reduceMul, Nat.lt_irrefl, rNe_b, rEq_b, jx_ft_b, jx_ix_nI, rLt_n, rGe_n, rGt_n, rLe_n, rEq_n, rNe_n, rGt_0, rEq_0, rNe_0, rLt_0, rGe_0, rLe_0, nI_1s, kU_ok, kU_r, kA_ok, kA_r, kC_t, kC_f, kC_r, kO_ok, kO_l, kO_r, kE_ok, kN_ok, kR_ok, kE_t, kE_f, kN_t, kN_f, kR_t, kR_f, cH_1, cH_21, cH_sh, cH_da, cH_dk, cH_sl, cH_dt, cH_pn, cH_wd, cH_md, cS_sh, cS_pn, cS_pn0, cS_pn1, cS_sl, cS_dt, cS_wd, cS_pr, pm_eta, va_rf, b2i_t, b2i_f, Bool.true_or, Bool.false_or, Bool.or_true, Bool.or_false, Bool.false_and, Bool.and_false, f_Sh_change, bd_Sh_change, qab, s1, s2, s3, hX, s4, qfill, l2, c1, h0, u1, u2, hn, hq, hm5, hla, fk, hNT, s6]
  · right
    have hoff' : (chS (pr, x, T, cv, cl, ct, cp) N) = (pr, chg x pr N, T, cv, cl, ct, cp) := by
      unfold chS
      dsimp only
      rw [l1, cond_false]
    rw [hoff']
    refine ⟨l1, h1', wd', ?_, xs, xs2, xk⟩
    have s7 := cN_out h1' b M fo pr (chg x pr N) t mv wd' 6 (.inr (9, [])) (by omega)
    rw [s7, xs] at l2
    unfold cS
    generalize absn T pr = an at *
    cases an <;> simp only [cond_true, cond_false] at hX <;> simp (disch := first | omega | assumption) only [jx_fn, jx_b_ok, jx_kb_ok, jx_b_inl, jx_kb_inl, jx_b_inr, jx_kb_inr, eInt, eNull, eI, eA, eBin, jx_op, oAdd_n, oMul_n, cCmp, cCmp0, jx_cp, cNull, jx_nl, cNot, cAnd_k, cOr_k, cIte_c, eIte_k, ck_ite, bf_and, bf_or, bf_not, ck_int, ck_10, ck_nI, cond_true, cond_false, oSub_g, nIs_le, oDiv_s, ck_n10, eGf, jx_gf, eLd, jx_ld, eLda, jx_lda, eLen, jx_len, eCl, jx_as, jx_ec, jx_ev, jx_es, tb1, tb3, tbk, tbn, tbl, sAsg_k, jx_set, jx_ft_int, jx_ft_ref, jx_ft_null, jx_ft_z0, jx_ft_z1, sSeq_k, sIf_k, sSkip, sInc, sPf_k, jx_pf_h, sUf_k, sSt_k, jx_st_h, sSta_k, jx_sta_h, jx_el, sUst_k, sRet, jx_rt, sRetV, sCl_k, sThrow_h, eNew, jx_nw_h, sObj, eNa, List.getElem?_cons_zero, List.getElem?_cons_succ, List.set_cons_zero, List.set_cons_succ, List.cons_append, List.nil_append, List.replicate_succ, List.replicate_zero, List.length_cons, List.length_nil, List.all_cons, List.all_nil, Value.category, Bool.and_true, Bool.true_and, Bool.and_self, beq_self_eq_true, and_self, and_true, true_and, if_true, if_false, ite_true, ite_false, eq_self, List.mem_cons, List.mem_singleton, List.not_mem_nil, or_false, true_or, or_true, false_or, Nat.reduceSub, Nat.reduceAdd, decide_true, decide_false, Bool.not_true, Bool.not_false, Nat.zero_add, Bool.false_eq_true, va_rf, reduceCtorEq, Nat.reduceEqDiff, Nat.reduceLT, Nat.reduceMul, Nat.lt_irrefl, rNe_b, rEq_b, jx_ft_b, jx_ix_nI, rLt_n, rGe_n, rGt_n, rLe_n, rEq_n, rNe_n, rGt_0, rEq_0, rNe_0, rLt_0, rGe_0, rLe_0, nI_1s, kU_ok, kU_r, kA_ok, kA_r, kC_t, kC_f, kC_r, kO_ok, kO_l, kO_r, kE_ok, kN_ok, kR_ok, kE_t, kE_f, kN_t, kN_f, kR_t, kR_f, cH_1, cH_21, cH_sh, cH_da, cH_dk, cH_sl, cH_dt, cH_pn, cH_wd, cH_md, cS_sh, cS_pn, cS_pn0, cS_pn1, cS_sl, cS_dt, cS_wd, cS_pr, pm_eta, va_rf, b2i_t, b2i_f, Bool.true_or, Bool.false_or, Bool.or_true, Bool.or_false, Bool.false_and, Bool.and_false, f_Sh_change, bd_Sh_change, qab, s1, s2, s3, hX, s4, qfill, l2]
theorem q_change {h h1 : jx_S} {n m : Nat} {s : xS} {t t2 lo hi lo2 hi2 : Nat} {mv : Value} {U : Nat → Nat} (wd : Nat → Int32) (hs : IM s) (hmv : MV s) (hon : s.2.1.2.2.1 = true) (hb : b + 26 ≤ h.1) (hC : CR b h s t mv lo hi) (hG : Gw n m h h1) (hp2 : TP h1 lo2 hi2 t2 U) (hlo : h.1 ≤ lo2) (hhi : hi2 ≤ h1.1) (hW : WT U) :
    ((chS s (nx1 s U)).2.1.2.2.1 = true ∧ ∃ h2 wd', f_Sh_change [.ref b, .ref t2] (cS h1 b M fo s t mv wd) = some (.returned none, cS h2 b M fo (chS s (nx1 s U)) t2 mv wd') ∧ CR b h2 (chS s (nx1 s U)) t2 mv lo2 hi2 ∧ h2.1 = h1.1 ∧ h2.2.1 = h1.2.1 ∧ ∀ q, q < h.1 → mv ≠ .ref q → h2.2.2 q = h.2.2 q) ∨
    ((chS s (nx1 s U)).2.1.2.2.1 = false ∧ ∃ h2 wd', f_Sh_change [.ref b, .ref t2] (cS h1 b M fo s t mv wd) = some (.threw h1.1, cS (hnew h2 6 (.inr (9, []))) b M fo (chS s (nx1 s U)) t mv wd') ∧ h2.1 = h1.1 ∧ h2.2.1 = h1.2.1 ∧ ∀ q, q < h.1 → h2.2.2 q = h.2.2 q) := q_change0 b M fo wd hs (fun x y => (hmv x y).1) hon hb hC hG hp2 hlo hhi hW
end CG
