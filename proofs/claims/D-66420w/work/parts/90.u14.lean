/-! THE COMPONENT's CALLS: step -/
def MH (s : xS) : Prop := rLt s.2.1.2.2.2.2 0 = false → 0 < s.2.2.2.2.2.1 → hold s.2.2.1 s.2.2.2.2.2.1 = false
def stpC : jx_St := (sSeq (sCl (jx_ev tb_Sh_put) [(eA 0), (eGf [4] 4 (eGf [0] 3 (eA 0))), (eGf [4] 5 (eGf [0] 3 (eA 0))), (eCl (jx_ev tb_Sh_get) [(eA 0), (eGf [4] 3 (eGf [0] 3 (eA 0))), (eGf [4] 5 (eGf [0] 3 (eA 0)))])]) (sSeq (sUf [4] 5 0 oAdd (eGf [0] 3 (eA 0)) (eInt (nI 1))) (sSeq (sIf (cCmp rEq (eGf [4] 5 (eGf [0] 3 (eA 0))) (eInt (nI 4))) (sSeq (sAsg 2 2 (eCl (jx_ev tb_Tb_copy) [(eGf [0] 2 (eA 0))])) (sSeq (sSt 0 0 (eGf [5, 6, 7] 2 (eLda 4 (eGf [3] 2 (eA 2)) (eGf [4] 1 (eGf [0] 3 (eA 0))))) (eGf [4] 2 (eGf [0] 3 (eA 0))) (eGf [4] 4 (eGf [0] 3 (eA 0)))) (sCl (jx_ev tb_Sh_change) [(eA 0), (eA 2)]))) sSkip) (sSeq (sAsg 0 2 (eCl (jx_ev tb_Tb_legsOn) [(eGf [0] 2 (eA 0)), (eGf [4] 0 (eGf [0] 3 (eA 0)))])) (sSeq (sIf (cCmp0 rEq (eI 2)) (sPf [0] 3 2 (eA 0) eNull) sSkip) (sRet 0 (eI 2)))))))
def stpL : jx_St := (sSeq (sAsg 0 2 (eCl (jx_ev tb_Tb_legsOn) [(eGf [0] 2 (eA 0)), (eGf [4] 0 (eGf [0] 3 (eA 0)))])) (sSeq (sIf (cCmp0 rEq (eI 2)) (sPf [0] 3 2 (eA 0) eNull) sSkip) (sRet 0 (eI 2))))
theorem stpC_eq : stpC = (sSeq (sCl (jx_ev tb_Sh_put) [(eA 0), (eGf [4] 4 (eGf [0] 3 (eA 0))), (eGf [4] 5 (eGf [0] 3 (eA 0))), (eCl (jx_ev tb_Sh_get) [(eA 0), (eGf [4] 3 (eGf [0] 3 (eA 0))), (eGf [4] 5 (eGf [0] 3 (eA 0)))])]) (sSeq (sUf [4] 5 0 oAdd (eGf [0] 3 (eA 0)) (eInt (nI 1))) (sSeq (sIf (cCmp rEq (eGf [4] 5 (eGf [0] 3 (eA 0))) (eInt (nI 4))) (sSeq (sAsg 2 2 (eCl (jx_ev tb_Tb_copy) [(eGf [0] 2 (eA 0))])) (sSeq (sSt 0 0 (eGf [5, 6, 7] 2 (eLda 4 (eGf [3] 2 (eA 2)) (eGf [4] 1 (eGf [0] 3 (eA 0))))) (eGf [4] 2 (eGf [0] 3 (eA 0))) (eGf [4] 4 (eGf [0] 3 (eA 0)))) (sCl (jx_ev tb_Sh_change) [(eA 0), (eA 2)]))) sSkip) stpL))) := rfl
theorem RZ.base {b : Nat} {M : cM} {fo : Nat → Int64} {h h1 : jx_S} {cls : Nat → Nat} {rv : Int32 → Option Value} {r : Nat × Int32 × xS} {o : Option (Outcome × jx_S)} (e1 : h1.1 = h.1) (e2 : h1.2.1 = h.2.1) (e3 : ∀ q, q < b → h1.2.2 q = h.2.2 q) (hr : RZ b M fo h1 cls rv r o) : RZ b M fo h cls rv r o := by
  obtain ⟨oc, h', t', mv', wd', g1, g2, ⟨g3, g4, g5, g6, g7⟩, g8⟩ := hr
  exact ⟨oc, h', t', mv', wd', g1, g2, ⟨by omega, by omega, by omega, by omega, fun q hq => (g7 q hq).trans (e3 q hq)⟩, g8⟩
section ST
/-- what is left of the disk -/
theorem q_stpL {h h0 : jx_S} {b : Nat} {M : cM} {fo : Nat → Int64} {s : xS} {t lo hi n m : Nat} {mv : Value} (wd : Nat → Int32) (hb : b + 26 ≤ h0.1) (hG : h0.1 ≤ h.1 ∧ h.1 ≤ h0.1 + n ∧ h0.2.1 ≤ h.2.1 ∧ h.2.1 ≤ h0.2.1 + m) (hn : n ≤ 80) (hm : m ≤ 600) (hq : ∀ q, q < b → h.2.2 q = h0.2.2 q) (hW : WT s.2.2.1) (hon : s.2.1.2.2.1 = true) (hC : CR b h s t mv lo hi) (hmo : rLt s.2.1.2.2.2.2 0 = false) (z1 z2 : Value) : RZ b M fo h0 clF vI (enS (setMo s (bif decide ((bif rLt s.2.1.2.2.2.2 0 then 0 else legsN s.2.2.1 s.2.1.2.2.2.2.toNatClampNeg) = 0) then -1 else s.2.1.2.2.2.2)) (nI (bif rLt s.2.1.2.2.2.2 0 then 0 else legsN s.2.2.1 s.2.1.2.2.2.2.toNatClampNeg))) (stpL (fun _ _ => none) [.ref b, z1, z2] (cS h b M fo s t mv wd)) := by
  obtain ⟨pr, ⟨sl, dt, on, lf, mo⟩, T, cv, cl, ct, cp⟩ := s
  dsimp only at hW hon hmo ⊢
  subst hon
  obtain ⟨c1, c2, c3, c4⟩ := hC
  dsimp only at c3
  rcases c4 with ⟨e1, rfl⟩ | ⟨am, d, vo, le, fr, co, ⟨rfl, e0, ed⟩, ⟨e2, e3, e4⟩, e5, e6⟩
  · dsimp only at e1
    rw [e1, rLt_n1] at hmo
    cases hmo
  · dsimp only at e0 e5 e6
    subst e0
    rw [hmo, cond_false, clampI _ (by omega)]
    have r5 := (cH_out h b M fo pr (sl, dt, true, lf, nI d) t (.ref am) wd (q := am) (Or.inl e2)).trans e5
    have ql := q_Tb_legsOn (cH h b M fo pr (sl, dt, true, lf, nI d) t (.ref am) wd) lo hi t T (cTP h b M fo pr _ t _ wd c1 c3) hW d ed
    have bl : legsN T d < 2 ^ 31 := by
      have := cntB_bd (fun k => decide (0 < T (9 + k)) && decide ((T (9 + k) - 1) / 8 = d)) 40
      unfold legsN
      omega
    have c3' := c3
    obtain ⟨ea0, va0, qa0, la0, fe0, fv0, fl0, c3'⟩ := c3'
    have rt := (cTPa h b M fo pr (sl, dt, true, lf, nI d) t (.ref am) wd c1 c3').2.2.2.2.1
    by_cases hz : legsN T d = 0
    · rw [decide_eq_true hz, cond_true, hz]
      have e : enS (setMo (pr, (sl, dt, true, lf, nI d), T, cv, cl, ct, cp) (-1)) (nI 0) = (0, nI 0, pr, (sl, dt, true, lf, -1), T, cv, cl, ct, cp) := rfl
      rw [e]
      refine ⟨.returned (vI (nI 0)), h, t, .null, wd, ?_, Or.inl ⟨rfl, rfl⟩, ⟨by omega, by omega, by omega, by omega, hq⟩, fun _ => ⟨lo, hi, c1, c2, c3, Or.inl ⟨rfl, rfl⟩⟩⟩
      rw [hz] at ql
      have ef : cH h b M fo pr (sl, dt, true, lf, nI d) t .null wd = cH h b M fo pr (sl, dt, true, lf, -1) t .null wd := rfl
      unfold cS
      simp (disch := first | omega | assumption) only [jx_fn, jx_b_ok, jx_kb_ok, jx_b_inl, jx_kb_inl, jx_b_inr, jx_kb_inr, eInt, eNull, eI, eA, eBin, jx_op, oAdd_n, oMul_n, cCmp, cCmp0, jx_cp, cNull, jx_nl, cNot, cAnd_k, cOr_k, cIte_c, eIte_k, ck_ite, bf_and, bf_or, bf_not, ck_int, ck_10, ck_nI, cond_true, cond_false, oSub_g, nIs_le, oDiv_s, ck_n10, eGf, jx_gf, eLd, jx_ld, eLda, jx_lda, eLen, jx_len, eCl, jx_as, jx_ec, jx_ev, jx_es, tb1, tb3, tbk, tbn, tbl, sAsg_k, jx_set, jx_ft_int, jx_ft_ref, jx_ft_null, jx_ft_z0, jx_ft_z1, sSeq_k, sIf_k, sSkip, sInc, sPf_k, jx_pf_h, sUf_k, sSt_k, jx_st_h, sSta_k, jx_sta_h, jx_el, sUst_k, sRet, jx_rt, sRetV, sCl_k, sThrow_h, eNew, jx_nw_h, sObj, eNa, List.getElem?_cons_zero, List.getElem?_cons_succ, List.set_cons_zero, List.set_cons_succ, List.cons_append, List.nil_append, List.replicate_succ, List.replicate_zero, List.length_cons, List.length_nil, List.all_cons, List.all_nil, Value.category, Bool.and_true, Bool.true_and, Bool.and_self, beq_self_eq_true, and_self, and_true, true_and, if_true, if_false, ite_true, ite_false, eq_self, List.mem_cons, List.mem_singleton, List.not_mem_nil, or_false, true_or, or_true, false_or, Nat.reduceSub, Nat.reduceAdd, decide_true, decide_false, Bool.not_true, Bool.not_false, Nat.zero_add, Bool.false_eq_true, va_rf, reduceCtorEq, Nat.reduceEqDiff, Nat.reduceLT, Nat.reduceMul, Nat.lt_irrefl, rNe_b, rEq_b, jx_ft_b, jx_ix_nI, rLt_n, rGe_n, rGt_n, rLe_n, rEq_n, rNe_n, rGt_0, rEq_0, rNe_0, rLt_0, rGe_0, rLe_0, nI_1s, kU_ok, kU_r, kA_ok, kA_r, kC_t, kC_f, kC_r, kO_ok, kO_l, kO_r, kE_ok, kN_ok, kR_ok, kE_t, kE_f, kN_t, kN_f, kR_t, kR_f, cH_1, cH_21, cH_sh, cH_da, cH_dk, cH_sl, cH_dt, cH_pn, cH_wd, cH_md, cS_sh, cS_pn, cS_pn0, cS_pn1, cS_sl, cS_dt, cS_wd, cS_pr, pm_eta, va_rf, b2i_t, b2i_f, Bool.true_or, Bool.false_or, Bool.or_true, Bool.or_false, Bool.false_and, Bool.and_false, q_need1, q_need0, q_allow1, q_allow0, q_Sh_isDisk, stpL, r5, rt, ql, vI, ef]
    · rw [decide_eq_false hz, cond_false]
      have e : enS (setMo (pr, (sl, dt, true, lf, nI d), T, cv, cl, ct, cp) (nI d)) (nI (legsN T d)) = (0, nI (legsN T d), pr, (sl, dt, true, lf, nI d), T, cv, cl, ct, cp) := rfl
      rw [e]
      refine ⟨.returned (vI (nI (legsN T d))), h, t, .ref am, wd, ?_, Or.inl ⟨rfl, rfl⟩, ⟨by omega, by omega, by omega, by omega, hq⟩, fun _ => ⟨lo, hi, c1, c2, c3, Or.inr ⟨am, d, vo, le, fr, co, ⟨rfl, rfl, ed⟩, ⟨e2, e3, e4⟩, e5, e6⟩⟩⟩
      unfold cS
      simp (disch := first | omega | assumption) only [jx_fn, jx_b_ok, jx_kb_ok, jx_b_inl, jx_kb_inl, jx_b_inr, jx_kb_inr, eInt, eNull, eI, eA, eBin, jx_op, oAdd_n, oMul_n, cCmp, cCmp0, jx_cp, cNull, jx_nl, cNot, cAnd_k, cOr_k, cIte_c, eIte_k, ck_ite, bf_and, bf_or, bf_not, ck_int, ck_10, ck_nI, cond_true, cond_false, oSub_g, nIs_le, oDiv_s, ck_n10, eGf, jx_gf, eLd, jx_ld, eLda, jx_lda, eLen, jx_len, eCl, jx_as, jx_ec, jx_ev, jx_es, tb1, tb3, tbk, tbn, tbl, sAsg_k, jx_set, jx_ft_int, jx_ft_ref, jx_ft_null, jx_ft_z0, jx_ft_z1, sSeq_k, sIf_k, sSkip, sInc, sPf_k, jx_pf_h, sUf_k, sSt_k, jx_st_h, sSta_k, jx_sta_h, jx_el, sUst_k, sRet, jx_rt, sRetV, sCl_k, sThrow_h, eNew, jx_nw_h, sObj, eNa, List.getElem?_cons_zero, List.getElem?_cons_succ, List.set_cons_zero, List.set_cons_succ, List.cons_append, List.nil_append, List.replicate_succ, List.replicate_zero, List.length_cons, List.length_nil, List.all_cons, List.all_nil, Value.category, Bool.and_true, Bool.true_and, Bool.and_self, beq_self_eq_true, and_self, and_true, true_and, if_true, if_false, ite_true, ite_false, eq_self, List.mem_cons, List.mem_singleton, List.not_mem_nil, or_false, true_or, or_true, false_or, Nat.reduceSub, Nat.reduceAdd, decide_true, decide_false, Bool.not_true, Bool.not_false, Nat.zero_add, Bool.false_eq_true, va_rf, reduceCtorEq, Nat.reduceEqDiff, Nat.reduceLT, Nat.reduceMul, Nat.lt_irrefl, rNe_b, rEq_b, jx_ft_b, jx_ix_nI, rLt_n, rGe_n, rGt_n, rLe_n, rEq_n, rNe_n, rGt_0, rEq_0, rNe_0, rLt_0, rGe_0, rLe_0, nI_1s, kU_ok, kU_r, kA_ok, kA_r, kC_t, kC_f, kC_r, kO_ok, kO_l, kO_r, kE_ok, kN_ok, kR_ok, kE_t, kE_f, kN_t, kN_f, kR_t, kR_f, cH_1, cH_21, cH_sh, cH_da, cH_dk, cH_sl, cH_dt, cH_pn, cH_wd, cH_md, cS_sh, cS_pn, cS_pn0, cS_pn1, cS_sl, cS_dt, cS_wd, cS_pr, pm_eta, va_rf, b2i_t, b2i_f, Bool.true_or, Bool.false_or, Bool.or_true, Bool.or_false, Bool.false_and, Bool.and_false, q_need1, q_need0, q_allow1, q_allow0, q_Sh_isDisk, stpL, r5, rt, ql, vI, hz]
set_option maxHeartbeats 16000000 in
theorem q_stp2 (h : jx_S) (b : Nat) (M : cM) (fo : Nat → Int64) (s : xS) (t : Nat) (mv : Value) (wd : Nat → Int32) (hs : IM s) (hmv : MV s) (hmh : MH s) (hb : b + 26 ≤ h.1) (hon : s.2.1.2.2.1 = true) {lo hi : Nat} (hC : CR b h s t mv lo hi) (hmo0 : rLt s.2.1.2.2.2.2 0 = false) (hct0 : 0 < s.2.2.2.2.2.1) (z1 : Value) : RZ b M fo h clF vI (stp2 s) (stpC (fun _ _ => none) [.ref b, z1, .double 0] (cS h b M fo s t mv wd)) := by
  have hC0 := hC
  obtain ⟨pr, ⟨sl, dt, on, lf, mo⟩, T, cv, cl, ct, cp⟩ := s
  obtain ⟨hW, hcv, hcl, hct, hcp, hmo, h30⟩ := hs
  dsimp only at hW hcv hcl hct hcp hmo h30 hon hmo0 hct0
  subst hon
  have hT := hW.1
  obtain ⟨hat, hcp4⟩ := hmv hmo0 hct0
  have hhd := hmh hmo0 hct0
  dsimp only at hat hcp4 hhd
  obtain ⟨c1, c2, c3, c4⟩ := hC
  dsimp only at c3
  have hnb : ∀ q, q < b → mv ≠ .ref q := fun q hq => c4.nb hq
  rcases c4 with ⟨e1, rfl⟩ | ⟨am, d, vo, le, fr, co, ⟨rfl, e0, ed⟩, ⟨e2, e3, e4⟩, e5, e6⟩
  · dsimp only at e1
    rw [e1, rLt_n1] at hmo0
    cases hmo0
  · dsimp only at e0 e5 e6
    obtain ⟨rfl, rfl, rfl, rfl⟩ := e6 (by omega)
    subst e0
    have bat : T (9 + 10 * cv + cl) ≤ 32 := by
      have := hW.2.2.2.1 (10 * cv + cl) (by omega)
      rw [← Nat.add_assoc] at this
      exact this
    have r5 := (cH_out h b M fo pr (sl, dt, true, lf, nI d) t (.ref am) wd (q := am) (Or.inl e2)).trans e5
    have qg := q_Sh_get h b M fo pr (sl, dt, true, lf, nI d) t (.ref am) wd (T (9 + 10 * cv + cl)) cp (by omega) bat hcp4
    dsimp only at qg
    have exf : dt ((T (9 + 10 * cv + cl) - 1) / 8) (4 * ((T (9 + 10 * cv + cl) - 1) % 8) + cp) = xfd dt (4 * (T (9 + 10 * cv + cl) - 1) + cp) := by
      unfold xfd
      have e1 : (4 * (T (9 + 10 * cv + cl) - 1) + cp) / 32 = (T (9 + 10 * cv + cl) - 1) / 8 := by omega
      have e2 : (4 * (T (9 + 10 * cv + cl) - 1) + cp) % 32 = 4 * ((T (9 + 10 * cv + cl) - 1) % 8) + cp := by omega
      rw [e1, e2]
    rw [exf] at qg
    have qp := q_put2 h b M fo pr (sl, dt, true, lf, nI d) t (.ref am) wd rfl ct cp (by omega) hct hcp4 (xfd dt (4 * (T (9 + 10 * cv + cl) - 1) + cp))
    have hPM := wD_PM (m := nI d) (y := (sl, dt, true, lf, nI d)) (Or.inl ⟨rfl, rfl⟩) (4 * (ct - 1) + cp) (xfd dt (4 * (T (9 + 10 * cv + cl) - 1) + cp))
    have hst2 : stp2 (pr, (sl, dt, true, lf, nI d), T, cv, cl, ct, cp) = (let x1 := wD (sl, dt, true, lf, nI d) (4 * (ct - 1) + cp) (xfd dt (4 * (T (9 + 10 * cv + cl) - 1) + cp))
      let s2 := bif x1.2.2.1 && decide (cp + 1 = 4) then chS (pr, x1, T, cv, cl, ct, cp + 1) (upN (nx0 pr T) (9 + 10 * cv + cl) ct) else (pr, x1, T, cv, cl, ct, cp + 1)
      enS (setMo s2 (bif decide ((bif rLt s2.2.1.2.2.2.2 0 then 0 else legsN s2.2.2.1 s2.2.1.2.2.2.2.toNatClampNeg) = 0) then -1 else s2.2.1.2.2.2.2)) (nI (bif rLt s2.2.1.2.2.2.2 0 then 0 else legsN s2.2.2.1 s2.2.1.2.2.2.2.toNatClampNeg))) := rfl
    rw [hst2]
    generalize wD (sl, dt, true, lf, nI d) (4 * (ct - 1) + cp) (xfd dt (4 * (T (9 + 10 * cv + cl) - 1) + cp)) = X at qp hPM ⊢
    dsimp only
    rcases hPM with ⟨xon, xmo⟩ | ⟨xoff, xmo⟩
    · rw [xon, cond_true] at qp
      rw [xon, Bool.true_and]
      -- copied counts on
      have r6 := (cH_out h b M fo pr X t (.ref am) wd (q := am) (Or.inl e2)).trans e5
      have hst : ∀ o, hset (cH h b M fo pr X t (.ref am) wd) am o = cH (hset h am o) b M fo pr X t (.ref am) wd := fun o => cS_out h b M fo pr X t _ wd o (Or.inl e2)
      have hcA := hset_eq h am (.inr (4, [.int (nI d), .int (nI cv), .int (nI cl), .int (nI (T (9 + 10 * cv + cl))), .int (nI ct), .int (nI (cp + 1))]))
      have hkA : ∀ q, q ≠ am → (hset h am (.inr (4, [.int (nI d), .int (nI cv), .int (nI cl), .int (nI (T (9 + 10 * cv + cl))), .int (nI ct), .int (nI (cp + 1))]))).2.2 q = h.2.2 q := fun q hq => hset_ne _ _ hq
      have hst1 := hst (.inr (4, [.int (nI d), .int (nI cv), .int (nI cl), .int (nI (T (9 + 10 * cv + cl))), .int (nI ct), .int (nI (cp + 1))]))
      generalize hHA : hset h am (.inr (4, [.int (nI d), .int (nI cv), .int (nI cl), .int (nI (T (9 + 10 * cv + cl))), .int (nI ct), .int (nI (cp + 1))])) = hA at hst1 hcA hkA
      have sA : hA.1 = h.1 := by rw [← hHA]; rfl
      have sA2 : hA.2.1 = h.2.1 := by rw [← hHA]; rfl
      have r7 := (cH_out hA b M fo pr X t (.ref am) wd (q := am) (Or.inl e2)).trans hcA
      have c3A : TP hA lo hi t T := c3.keep (fun q h1 h2 => hkA q (by omega))
      have hCA : CR b hA (pr, X, T, cv, cl, ct, cp + 1) t (.ref am) lo hi := ⟨c1, by omega, c3A, Or.inr ⟨am, d, nI cv, nI cl, nI (T (9 + 10 * cv + cl)), nI (cp + 1), ⟨rfl, xmo, ed⟩, ⟨e2, by omega, e4⟩, hcA, fun _ => ⟨rfl, rfl, rfl, rfl⟩⟩⟩
      by_cases h4 : cp + 1 = 4
      · have dh4 : decide (cp = 3) = true := decide_eq_true (by omega)
        rw [decide_eq_true h4, cond_true]
        have enx : upN (nx0 pr T) (9 + 10 * cv + cl) ct = nx1 (pr, X, T, cv, cl, ct, cp + 1) (upN T (9 + 10 * cv + cl) ct) := by
          unfold nx0 nx1
          dsimp only
          rw [upN_comm T (a := 9 + 10 * cv + cl) (c := 0) _ _ (by omega)]
        rw [enx]
        have h05 : T (5 + cv) ≠ 0 := fun z => by
          rcases hW.2.2.1 cv hcv with ⟨_, y⟩ | ⟨y, _⟩
          · have := y cl hcl; omega
          · rw [z] at y; omega
        have hkl : cl < 2 * elsN T cv ∧ (T (5 + cv) % 4 ≠ 3 → cl % 2 = 0) := by
          rcases hW.2.2.1 cv hcv with ⟨y, _⟩ | ⟨_, _, _, _, _, _, y1, y2⟩
          · exact absurd y h05
          · refine ⟨Nat.lt_of_not_le fun z => ?_, fun z => ?_⟩
            · have := y1 cl hcl z; omega
            · by_cases z2 : cl % 2 = 1
              · have := y2 z cl hcl z2; omega
              · omega
        have hWU : WT (upN T (9 + 10 * cv + cl) ct) := hW.leg hcv h05 hkl.1 hkl.2 hct hhd
        obtain ⟨h1', qc, hp2, hG⟩ := q_copy hA b M fo pr X t (.ref am) wd (by omega) c1 c3A (by omega) hW
        obtain ⟨ea, va, qa, la, fe, fv, fl, hp2⟩ := hp2
        have cpx := cTPa h1' b M fo pr X t (.ref am) wd (Or.inl (by omega)) hp2
        have s1 := cpx.2.2.2.2.1
        have s2 := cpx.2.2.2.2.2.2.2.1
        have s3 := cpx.2.2.2.2.2.2.2.2.1 cv hcv
        rw [if_neg h05] at s3
        obtain ⟨y1, y2, y3⟩ := cpx.2.2.2.2.2.2.2.2.2.1 cv hcv h05
        have kd1 : 1 ≤ T (5 + cv) % 4 := by
          rcases hW.2.2.1 cv hcv with ⟨z, _⟩ | ⟨z, _⟩
          · exact absurd z h05
          · exact z
        have hm5 := mem567 kd1 (show T (5 + cv) % 4 ≤ 3 by omega)
        have bla := (hp2.2.2.2.1 cv hcv h05).2
        have hstl : ∀ o, hset (cH h1' b M fo pr X t (.ref am) wd) (la cv) o = cH (hset h1' (la cv) o) b M fo pr X t (.ref am) wd := fun o => cS_out h1' b M fo pr _ t _ wd o (Or.inl (by omega))
        have hp3 := hp2.setl (T' := upN T (9 + 10 * cv + cl) ct) hcv h05 (upd (fl cv) cl (nI ct)) (fun i hi' => by
          unfold upd
          by_cases z1 : i = cl
          · rw [if_pos z1, z1, upN_s]
          · rw [if_neg z1, upN_o _ _ (by omega)]; exact y3 i hi') (fun j hj z => upN_o _ _ (by omega))
        have hG2 := hG.st (.inl (0, 10, .inl (upd (fl cv) cl (nI ct)))) bla.1
        have r8 := (cH_out h1' b M fo pr X t (.ref am) wd (q := am) (Or.inl e2)).trans ((hG.2 am (by omega)).trans hcA)
        have c3' := c3A
        obtain ⟨ea0, va0, qa0, la0, fe0, fv0, fl0, c3'⟩ := c3'
        have rt := (cTPa hA b M fo pr X t (.ref am) wd c1 c3').2.2.2.2.1
        have hch := q_change0 b M fo wd (s := (pr, X, T, cv, cl, ct, cp + 1)) ⟨hW, hcv, hcl, hct, by dsimp only; omega, Or.inr ⟨d, ed, xmo⟩, h30⟩ (fun _ _ => hat) xon (by omega) hCA hG2 ⟨_, _, _, _, _, _, _, hp3⟩ (Nat.le_refl _) (by rw [hset_1]; omega) hWU
        have hmo2 := chS_mo (s := (pr, X, T, cv, cl, ct, cp + 1)) xon (nx1 (pr, X, T, cv, cl, ct, cp + 1) (upN T (9 + 10 * cv + cl) ct))
        have hkeep := chS_on (s := (pr, X, T, cv, cl, ct, cp + 1)) (N := nx1 (pr, X, T, cv, cl, ct, cp + 1) (upN T (9 + 10 * cv + cl) ct))
        have hWN : WT (nx1 (pr, X, T, cv, cl, ct, cp + 1) (upN T (9 + 10 * cv + cl) ct)) := hWU.up0 (by
          show T 0 + _ < _
          cases absn T pr <;> simp only [cond_true, cond_false] <;> omega)
        generalize chS (pr, X, T, cv, cl, ct, cp + 1) (nx1 (pr, X, T, cv, cl, ct, cp + 1) (upN T (9 + 10 * cv + cl) ct)) = S at hch hmo2 hkeep ⊢
        generalize nx1 (pr, X, T, cv, cl, ct, cp + 1) (upN T (9 + 10 * cv + cl) ct) = N at hkeep hWN
        rcases hch with ⟨l1, h2', wd', l2, l3, l4, l5, l6⟩ | ⟨l1, h2', wd', l2, l4, l5, l6⟩
        · have smo : S.2.1.2.2.2.2 = nI d := by
            rcases hmo2 with ⟨_, z⟩ | ⟨z, _⟩
            · exact z.trans xmo
            · rw [l1] at z; cases z
          have hfin := q_stpL (M := M) (fo := fo) (h0 := h) (n := 11) (m := 63) wd' hb (by
              obtain ⟨⟨a1, a2, a3, a4⟩, a5⟩ := hG2
              exact ⟨by omega, by omega, by omega, by omega⟩) (by omega) (by omega) (fun q hq => (l6 q (by omega) (hnb q hq)).trans (hkA q (by omega))) (by rw [(hkeep l1).2.1]; exact hWN) l1 l3 (by rw [smo]; exact rLt_0 (by omega)) z1 (.ref hA.1)
          have hgo : stpC (fun _ _ => none) [.ref b, z1, .double 0] (cS h b M fo (pr, (sl, dt, true, lf, nI d), T, cv, cl, ct, cp) t (.ref am) wd) = stpL (fun _ _ => none) [.ref b, z1, .ref hA.1] (cS h2' b M fo S hA.1 (.ref am) wd') := by
            rw [stpC_eq]
            generalize stpL = LL
            unfold cS at l2 ⊢
            simp (disch := first | omega | assumption) only [jx_fn, jx_b_ok, jx_kb_ok, jx_b_inl, jx_kb_inl, jx_b_inr, jx_kb_inr, eInt, eNull, eI, eA, eBin, jx_op, oAdd_n, oMul_n, cCmp, cCmp0, jx_cp, cNull, jx_nl, cNot, cAnd_k, cOr_k, cIte_c, eIte_k, ck_ite, bf_and, bf_or, bf_not, ck_int, ck_10, ck_nI, cond_true, cond_false, oSub_g, nIs_le, oDiv_s, ck_n10, eGf, jx_gf, eLd, jx_ld, eLda, jx_lda, eLen, jx_len, eCl, jx_as, jx_ec, jx_ev, jx_es, tb1, tb3, tbk, tbn, tbl, sAsg_k, jx_set, jx_ft_int, jx_ft_ref, jx_ft_null, jx_ft_z0, jx_ft_z1, sSeq_k, sIf_k, sSkip, sInc, sPf_k, jx_pf_h, sUf_k, sSt_k, jx_st_h, sSta_k, jx_sta_h, jx_el, sUst_k, sRet, jx_rt, sRetV, sCl_k, sThrow_h, eNew, jx_nw_h, sObj, eNa, List.getElem?_cons_zero, List.getElem?_cons_succ, List.set_cons_zero, List.set_cons_succ, List.cons_append, List.nil_append, List.replicate_succ, List.replicate_zero, List.length_cons, List.length_nil, List.all_cons, List.all_nil, Value.category, Bool.and_true, Bool.true_and, Bool.and_self, beq_self_eq_true, and_self, and_true, true_and, if_true, if_false, ite_true, ite_false, eq_self, List.mem_cons, List.mem_singleton, List.not_mem_nil, or_false, true_or, or_true, false_or, Nat.reduceSub, Nat.reduceAdd, decide_true, decide_false, Bool.not_true, Bool.not_false, Nat.zero_add, Bool.false_eq_true, va_rf, reduceCtorEq, Nat.reduceEqDiff, Nat.reduceLT, Nat.reduceMul, Nat.lt_irrefl, rNe_b, rEq_b, jx_ft_b, jx_ix_nI, rLt_n, rGe_n, rGt_n, rLe_n, rEq_n, rNe_n, rGt_0, rEq_0, rNe_0, rLt_0, rGe_0, rLe_0, nI_1s, kU_ok, kU_r, kA_ok, kA_r, kC_t, kC_f, kC_r, kO_ok, kO_l, kO_r, kE_ok, kN_ok, kR_ok, kE_t, kE_f, kN_t, kN_f, kR_t, kR_f, cH_1, cH_21, cH_sh, cH_da, cH_dk, cH_sl, cH_dt, cH_pn, cH_wd, cH_md, cS_sh, cS_pn, cS_pn0, cS_pn1, cS_sl, cS_dt, cS_wd, cS_pr, pm_eta, va_rf, b2i_t, b2i_f, Bool.true_or, Bool.false_or, Bool.or_true, Bool.or_false, Bool.false_and, Bool.and_false, q_need1, q_need0, q_allow1, q_allow0, q_Sh_isDisk, r5, qg, qp, r6, hst1, r7, dh4, rt, qc, r8, s1, s2, s3, y1, y2, hm5, hstl, l2]
          rw [hgo]
          exact hfin
        · have smo : S.2.1.2.2.2.2 = -1 := by
            rcases hmo2 with ⟨z, _⟩ | ⟨_, z⟩
            · rw [l1] at z; cases z
            · exact z
          rw [smo, rLt_n1, cond_true, decide_eq_true rfl, cond_true, setMo_x smo]
          refine RZ.base sA sA2 (fun q hq => hkA q (by omega)) (RZ.off (by omega) hG2 (by omega) (by omega) l1 l4 l5 (fun q hq => l6 q (by omega)) rfl (t := t) (mv := .ref am) (wd' := wd') ?_)
          rw [stpC_eq]
          generalize stpL = LL
          unfold cS at l2 ⊢
          simp (disch := first | omega | assumption) only [jx_fn, jx_b_ok, jx_kb_ok, jx_b_inl, jx_kb_inl, jx_b_inr, jx_kb_inr, eInt, eNull, eI, eA, eBin, jx_op, oAdd_n, oMul_n, cCmp, cCmp0, jx_cp, cNull, jx_nl, cNot, cAnd_k, cOr_k, cIte_c, eIte_k, ck_ite, bf_and, bf_or, bf_not, ck_int, ck_10, ck_nI, cond_true, cond_false, oSub_g, nIs_le, oDiv_s, ck_n10, eGf, jx_gf, eLd, jx_ld, eLda, jx_lda, eLen, jx_len, eCl, jx_as, jx_ec, jx_ev, jx_es, tb1, tb3, tbk, tbn, tbl, sAsg_k, jx_set, jx_ft_int, jx_ft_ref, jx_ft_null, jx_ft_z0, jx_ft_z1, sSeq_k, sIf_k, sSkip, sInc, sPf_k, jx_pf_h, sUf_k, sSt_k, jx_st_h, sSta_k, jx_sta_h, jx_el, sUst_k, sRet, jx_rt, sRetV, sCl_k, sThrow_h, eNew, jx_nw_h, sObj, eNa, List.getElem?_cons_zero, List.getElem?_cons_succ, List.set_cons_zero, List.set_cons_succ, List.cons_append, List.nil_append, List.replicate_succ, List.replicate_zero, List.length_cons, List.length_nil, List.all_cons, List.all_nil, Value.category, Bool.and_true, Bool.true_and, Bool.and_self, beq_self_eq_true, and_self, and_true, true_and, if_true, if_false, ite_true, ite_false, eq_self, List.mem_cons, List.mem_singleton, List.not_mem_nil, or_false, true_or, or_true, false_or, Nat.reduceSub, Nat.reduceAdd, decide_true, decide_false, Bool.not_true, Bool.not_false, Nat.zero_add, Bool.false_eq_true, va_rf, reduceCtorEq, Nat.reduceEqDiff, Nat.reduceLT, Nat.reduceMul, Nat.lt_irrefl, rNe_b, rEq_b, jx_ft_b, jx_ix_nI, rLt_n, rGe_n, rGt_n, rLe_n, rEq_n, rNe_n, rGt_0, rEq_0, rNe_0, rLt_0, rGe_0, rLe_0, nI_1s, kU_ok, kU_r, kA_ok, kA_r, kC_t, kC_f, kC_r, kO_ok, kO_l, kO_r, kE_ok, kN_ok, kR_ok, kE_t, kE_f, kN_t, kN_f, kR_t, kR_f, cH_1, cH_21, cH_sh, cH_da, cH_dk, cH_sl, cH_dt, cH_pn, cH_wd, cH_md, cS_sh, cS_pn, cS_pn0, cS_pn1, cS_sl, cS_dt, cS_wd, cS_pr, pm_eta, va_rf, b2i_t, b2i_f, Bool.true_or, Bool.false_or, Bool.or_true, Bool.or_false, Bool.false_and, Bool.and_false, q_need1, q_need0, q_allow1, q_allow0, q_Sh_isDisk, r5, qg, qp, r6, hst1, r7, dh4, rt, qc, r8, s1, s2, s3, y1, y2, hm5, hstl, l2]
      · rw [decide_eq_false h4, cond_false]
        have hfin := q_stpL (M := M) (fo := fo) (h0 := h) (n := 0) (m := 0) wd hb ⟨by omega, by omega, by omega, by omega⟩ (by omega) (by omega) (fun q hq => hkA q (by omega)) hW xon hCA (by dsimp only; rw [xmo]; exact rLt_0 (by omega)) z1 (.double 0)
        have hgo : stpC (fun _ _ => none) [.ref b, z1, .double 0] (cS h b M fo (pr, (sl, dt, true, lf, nI d), T, cv, cl, ct, cp) t (.ref am) wd) = stpL (fun _ _ => none) [.ref b, z1, .double 0] (cS hA b M fo (pr, X, T, cv, cl, ct, cp + 1) t (.ref am) wd) := by
          rw [stpC_eq]
          generalize stpL = LL
          unfold cS
          simp (disch := first | omega | assumption) only [jx_fn, jx_b_ok, jx_kb_ok, jx_b_inl, jx_kb_inl, jx_b_inr, jx_kb_inr, eInt, eNull, eI, eA, eBin, jx_op, oAdd_n, oMul_n, cCmp, cCmp0, jx_cp, cNull, jx_nl, cNot, cAnd_k, cOr_k, cIte_c, eIte_k, ck_ite, bf_and, bf_or, bf_not, ck_int, ck_10, ck_nI, cond_true, cond_false, oSub_g, nIs_le, oDiv_s, ck_n10, eGf, jx_gf, eLd, jx_ld, eLda, jx_lda, eLen, jx_len, eCl, jx_as, jx_ec, jx_ev, jx_es, tb1, tb3, tbk, tbn, tbl, sAsg_k, jx_set, jx_ft_int, jx_ft_ref, jx_ft_null, jx_ft_z0, jx_ft_z1, sSeq_k, sIf_k, sSkip, sInc, sPf_k, jx_pf_h, sUf_k, sSt_k, jx_st_h, sSta_k, jx_sta_h, jx_el, sUst_k, sRet, jx_rt, sRetV, sCl_k, sThrow_h, eNew, jx_nw_h, sObj, eNa, List.getElem?_cons_zero, List.getElem?_cons_succ, List.set_cons_zero, List.set_cons_succ, List.cons_append, List.nil_append, List.replicate_succ, List.replicate_zero, List.length_cons, List.length_nil, List.all_cons, List.all_nil, Value.category, Bool.and_true, Bool.true_and, Bool.and_self, beq_self_eq_true, and_self, and_true, true_and, if_true, if_false, ite_true, ite_false, eq_self, List.mem_cons, List.mem_singleton, List.not_mem_nil, or_false, true_or, or_true, false_or, Nat.reduceSub, Nat.reduceAdd, decide_true, decide_false, Bool.not_true, Bool.not_false, Nat.zero_add, Bool.false_eq_true, va_rf, reduceCtorEq, Nat.reduceEqDiff, Nat.reduceLT, Nat.reduceMul, Nat.lt_irrefl, rNe_b, rEq_b, jx_ft_b, jx_ix_nI, rLt_n, rGe_n, rGt_n, rLe_n, rEq_n, rNe_n, rGt_0, rEq_0, rNe_0, rLt_0, rGe_0, rLe_0, nI_1s, kU_ok, kU_r, kA_ok, kA_r, kC_t, kC_f, kC_r, kO_ok, kO_l, kO_r, kE_ok, kN_ok, kR_ok, kE_t, kE_f, kN_t, kN_f, kR_t, kR_f, cH_1, cH_21, cH_sh, cH_da, cH_dk, cH_sl, cH_dt, cH_pn, cH_wd, cH_md, cS_sh, cS_pn, cS_pn0, cS_pn1, cS_sl, cS_dt, cS_wd, cS_pr, pm_eta, va_rf, b2i_t, b2i_f, Bool.true_or, Bool.false_or, Bool.or_true, Bool.or_false, Bool.false_and, Bool.and_false, q_need1, q_need0, q_allow1, q_allow0, q_Sh_isDisk, r5, qg, qp, r6, hst1, r7, h4]
        rw [hgo]
        exact hfin
    · rw [xoff, cond_false] at qp
      rw [xoff, Bool.false_and, cond_false]
      dsimp only
      rw [xmo, rLt_n1, cond_true, decide_eq_true rfl, cond_true, setMo_x (s := (pr, X, T, cv, cl, ct, cp + 1)) xmo]
      refine RZ.off hb (Gw.rf h) (by omega) (by omega) (s' := (pr, X, T, cv, cl, ct, cp + 1)) xoff rfl rfl (fun q hq => rfl) rfl (t := t) (mv := .ref am) (wd' := wd) ?_
      have qx := cN_out h b M fo pr X t (.ref am) wd 6 (.inr (9, [])) hb
      rw [qx] at qp
      rw [stpC_eq]
      generalize stpL = LL
      unfold cS
      simp (disch := first | omega | assumption) only [jx_fn, jx_b_ok, jx_kb_ok, jx_b_inl, jx_kb_inl, jx_b_inr, jx_kb_inr, eInt, eNull, eI, eA, eBin, jx_op, oAdd_n, oMul_n, cCmp, cCmp0, jx_cp, cNull, jx_nl, cNot, cAnd_k, cOr_k, cIte_c, eIte_k, ck_ite, bf_and, bf_or, bf_not, ck_int, ck_10, ck_nI, cond_true, cond_false, oSub_g, nIs_le, oDiv_s, ck_n10, eGf, jx_gf, eLd, jx_ld, eLda, jx_lda, eLen, jx_len, eCl, jx_as, jx_ec, jx_ev, jx_es, tb1, tb3, tbk, tbn, tbl, sAsg_k, jx_set, jx_ft_int, jx_ft_ref, jx_ft_null, jx_ft_z0, jx_ft_z1, sSeq_k, sIf_k, sSkip, sInc, sPf_k, jx_pf_h, sUf_k, sSt_k, jx_st_h, sSta_k, jx_sta_h, jx_el, sUst_k, sRet, jx_rt, sRetV, sCl_k, sThrow_h, eNew, jx_nw_h, sObj, eNa, List.getElem?_cons_zero, List.getElem?_cons_succ, List.set_cons_zero, List.set_cons_succ, List.cons_append, List.nil_append, List.replicate_succ, List.replicate_zero, List.length_cons, List.length_nil, List.all_cons, List.all_nil, Value.category, Bool.and_true, Bool.true_and, Bool.and_self, beq_self_eq_true, and_self, and_true, true_and, if_true, if_false, ite_true, ite_false, eq_self, List.mem_cons, List.mem_singleton, List.not_mem_nil, or_false, true_or, or_true, false_or, Nat.reduceSub, Nat.reduceAdd, decide_true, decide_false, Bool.not_true, Bool.not_false, Nat.zero_add, Bool.false_eq_true, va_rf, reduceCtorEq, Nat.reduceEqDiff, Nat.reduceLT, Nat.reduceMul, Nat.lt_irrefl, rNe_b, rEq_b, jx_ft_b, jx_ix_nI, rLt_n, rGe_n, rGt_n, rLe_n, rEq_n, rNe_n, rGt_0, rEq_0, rNe_0, rLt_0, rGe_0, rLe_0, nI_1s, kU_ok, kU_r, kA_ok, kA_r, kC_t, kC_f, kC_r, kO_ok, kO_l, kO_r, kE_ok, kN_ok, kR_ok, kE_t, kE_f, kN_t, kN_f, kR_t, kR_f, cH_1, cH_21, cH_sh, cH_da, cH_dk, cH_sl, cH_dt, cH_pn, cH_wd, cH_md, cS_sh, cS_pn, cS_pn0, cS_pn1, cS_sl, cS_dt, cS_wd, cS_pr, pm_eta, va_rf, b2i_t, b2i_f, Bool.true_or, Bool.false_or, Bool.or_true, Bool.or_false, Bool.false_and, Bool.and_false, q_need1, q_need0, q_allow1, q_allow0, q_Sh_isDisk, r5, qg, qp]
set_option maxHeartbeats 16000000 in
theorem u_step (h : jx_S) (b : Nat) (M : cM) (fo : Nat → Int64) (s : xS) (t : Nat) (mv : Value) (wd : Nat → Int32) (hs : IM s) (hmv : MV s) (hb : b + 26 ≤ h.1) (hC : s.2.1.2.2.1 = true → ∃ lo hi, CR b h s t mv lo hi) (hmh : MH s) : RZ b M fo h clF vI (sp_step s) (f_Sh_step [.ref b] (cS h b M fo s t mv wd)) := by
  have hs0 := hs
  obtain ⟨pr, ⟨sl, dt, on, lf, mo⟩, T, cv, cl, ct, cp⟩ := s
  obtain ⟨hW, hcv, hcl, hct, hcp, hmo, h30⟩ := hs
  dsimp only at hW hcv hcl hct hcp hmo h30 hC
  have hT := hW.1
  have hbd : bd_Sh_step = (sSeq (sCl (jx_ev tb_Sh_needOn) [(eA 0)]) (sSeq (sCl (jx_ec f_Sh_allow) [(eIte (cNot (cNull (eGf [0] 3 (eA 0)))) (eInt (nI 1)) (eInt (nI 0)))]) (sSeq (sAsg 0 1 (eIte (cCmp0 rEq (eGf [4] 4 (eGf [0] 3 (eA 0)))) (eCl (jx_ev tb_Sh_firstLeg) [(eA 0)]) (eInt (nI 0)))) (sSeq (sIf (cOr (cCmp rEq (eI 1) (eInt (-1))) (cAnd (cCmp0 rEq (eGf [4] 4 (eGf [0] 3 (eA 0)))) (cNot (cCmp0 rNe (eCl (jx_ev tb_Sh_isBegun) [(eA 0), (eI 1)]))))) (sSeq (sPf [0] 3 2 (eA 0) eNull) (sRet 0 (eIte (cCmp rEq (eI 1) (eInt (-1))) (eInt (nI 0)) (eInt (-1))))) sSkip) stpC)))) := rfl
  have hn := q_needOn h b M fo pr (sl, dt, on, lf, mo) t mv wd
  cases on
  · refine RZ.thr (wd := wd) hb hC (c := 1) (k := 9) (by decide) rfl ?_
    simp (disch := first | omega | assumption) only [jx_fn, jx_b_ok, jx_kb_ok, jx_b_inl, jx_kb_inl, jx_b_inr, jx_kb_inr, eInt, eNull, eI, eA, eBin, jx_op, oAdd_n, oMul_n, cCmp, cCmp0, jx_cp, cNull, jx_nl, cNot, cAnd_k, cOr_k, cIte_c, eIte_k, ck_ite, bf_and, bf_or, bf_not, ck_int, ck_10, ck_nI, cond_true, cond_false, oSub_g, nIs_le, oDiv_s, ck_n10, eGf, jx_gf, eLd, jx_ld, eLda, jx_lda, eLen, jx_len, eCl, jx_as, jx_ec, jx_ev, jx_es, tb1, tb3, tbk, tbn, tbl, sAsg_k, jx_set, jx_ft_int, jx_ft_ref, jx_ft_null, jx_ft_z0, jx_ft_z1, sSeq_k, sIf_k, sSkip, sInc, sPf_k, jx_pf_h, sUf_k, sSt_k, jx_st_h, sSta_k, jx_sta_h, jx_el, sUst_k, sRet, jx_rt, sRetV, sCl_k, sThrow_h, eNew, jx_nw_h, sObj, eNa, List.getElem?_cons_zero, List.getElem?_cons_succ, List.set_cons_zero, List.set_cons_succ, List.cons_append, List.nil_append, List.replicate_succ, List.replicate_zero, List.length_cons, List.length_nil, List.all_cons, List.all_nil, Value.category, Bool.and_true, Bool.true_and, Bool.and_self, beq_self_eq_true, and_self, and_true, true_and, if_true, if_false, ite_true, ite_false, eq_self, List.mem_cons, List.mem_singleton, List.not_mem_nil, or_false, true_or, or_true, false_or, Nat.reduceSub, Nat.reduceAdd, decide_true, decide_false, Bool.not_true, Bool.not_false, Nat.zero_add, Bool.false_eq_true, va_rf, reduceCtorEq, Nat.reduceEqDiff, Nat.reduceLT, Nat.reduceMul, Nat.lt_irrefl, rNe_b, rEq_b, jx_ft_b, jx_ix_nI, rLt_n, rGe_n, rGt_n, rLe_n, rEq_n, rNe_n, rGt_0, rEq_0, rNe_0, rLt_0, rGe_0, rLe_0, nI_1s, kU_ok, kU_r, kA_ok, kA_r, kC_t, kC_f, kC_r, kO_ok, kO_l, kO_r, kE_ok, kN_ok, kR_ok, kE_t, kE_f, kN_t, kN_f, kR_t, kR_f, cH_1, cH_21, cH_sh, cH_da, cH_dk, cH_sl, cH_dt, cH_pn, cH_wd, cH_md, cS_sh, cS_pn, cS_pn0, cS_pn1, cS_sl, cS_dt, cS_wd, cS_pr, pm_eta, va_rf, b2i_t, b2i_f, Bool.true_or, Bool.false_or, Bool.or_true, Bool.or_false, Bool.false_and, Bool.and_false, q_need1, q_need0, q_allow1, q_allow0, q_Sh_isDisk, f_Sh_step, bd_Sh_step, cS, hn]
  · have hC' := hC
    obtain ⟨lo, hi, c1, c2, c3, c4⟩ := hC rfl
    dsimp only at c3
    have hCR : CR b h (pr, (sl, dt, true, lf, mo), T, cv, cl, ct, cp) t mv lo hi := ⟨c1, c2, c3, c4⟩
    rcases c4 with ⟨e1, rfl⟩ | ⟨am, d, vo, le, fr, co, ⟨rfl, e0, ed⟩, ⟨e2, e3, e4⟩, e5, e6⟩
    · dsimp only at e1
      rw [show sp_step (pr, (sl, dt, true, lf, mo), T, cv, cl, ct, cp) = (2, nI 0, pr, (sl, dt, true, lf, mo), T, cv, cl, ct, cp) from by simp only [sp_step, e1, rLt_n1, Bool.not_true, cond_false, cond_true]]
      refine RZ.thr (wd := wd) hb hC' (c := 2) (k := 11) (by decide) rfl ?_
      simp (disch := first | omega | assumption) only [jx_fn, jx_b_ok, jx_kb_ok, jx_b_inl, jx_kb_inl, jx_b_inr, jx_kb_inr, eInt, eNull, eI, eA, eBin, jx_op, oAdd_n, oMul_n, cCmp, cCmp0, jx_cp, cNull, jx_nl, cNot, cAnd_k, cOr_k, cIte_c, eIte_k, ck_ite, bf_and, bf_or, bf_not, ck_int, ck_10, ck_nI, cond_true, cond_false, oSub_g, nIs_le, oDiv_s, ck_n10, eGf, jx_gf, eLd, jx_ld, eLda, jx_lda, eLen, jx_len, eCl, jx_as, jx_ec, jx_ev, jx_es, tb1, tb3, tbk, tbn, tbl, sAsg_k, jx_set, jx_ft_int, jx_ft_ref, jx_ft_null, jx_ft_z0, jx_ft_z1, sSeq_k, sIf_k, sSkip, sInc, sPf_k, jx_pf_h, sUf_k, sSt_k, jx_st_h, sSta_k, jx_sta_h, jx_el, sUst_k, sRet, jx_rt, sRetV, sCl_k, sThrow_h, eNew, jx_nw_h, sObj, eNa, List.getElem?_cons_zero, List.getElem?_cons_succ, List.set_cons_zero, List.set_cons_succ, List.cons_append, List.nil_append, List.replicate_succ, List.replicate_zero, List.length_cons, List.length_nil, List.all_cons, List.all_nil, Value.category, Bool.and_true, Bool.true_and, Bool.and_self, beq_self_eq_true, and_self, and_true, true_and, if_true, if_false, ite_true, ite_false, eq_self, List.mem_cons, List.mem_singleton, List.not_mem_nil, or_false, true_or, or_true, false_or, Nat.reduceSub, Nat.reduceAdd, decide_true, decide_false, Bool.not_true, Bool.not_false, Nat.zero_add, Bool.false_eq_true, va_rf, reduceCtorEq, Nat.reduceEqDiff, Nat.reduceLT, Nat.reduceMul, Nat.lt_irrefl, rNe_b, rEq_b, jx_ft_b, jx_ix_nI, rLt_n, rGe_n, rGt_n, rLe_n, rEq_n, rNe_n, rGt_0, rEq_0, rNe_0, rLt_0, rGe_0, rLe_0, nI_1s, kU_ok, kU_r, kA_ok, kA_r, kC_t, kC_f, kC_r, kO_ok, kO_l, kO_r, kE_ok, kN_ok, kR_ok, kE_t, kE_f, kN_t, kN_f, kR_t, kR_f, cH_1, cH_21, cH_sh, cH_da, cH_dk, cH_sl, cH_dt, cH_pn, cH_wd, cH_md, cS_sh, cS_pn, cS_pn0, cS_pn1, cS_sl, cS_dt, cS_wd, cS_pr, pm_eta, va_rf, b2i_t, b2i_f, Bool.true_or, Bool.false_or, Bool.or_true, Bool.or_false, Bool.false_and, Bool.and_false, q_need1, q_need0, q_allow1, q_allow0, q_Sh_isDisk, f_Sh_step, bd_Sh_step, cS, hn]
    · dsimp only at e0 e5 e6
      subst e0
      have hmo0 : rLt (nI d) 0 = false := rLt_0 (by omega)
      have r5 := (cH_out h b M fo pr (sl, dt, true, lf, nI d) t (.ref am) wd (q := am) (Or.inl e2)).trans e5
      have m10 : rEq (nI 0) (-1) = false := rEq_nm (by decide)
      by_cases hc0 : ct = 0
      · subst hc0
        obtain ⟨ea, va, qa, la, fe, fv, fl, hp⟩ := c3
        have qf := q_firstLeg h b M fo pr (sl, dt, true, lf, nI d) t (.ref am) wd c1 hp hW ed rfl e2 e5
        have hspS : sp_step (pr, (sl, dt, true, lf, nI d), T, cv, cl, 0, cp) = (match scn (lgM T (nI d)) 0 40 with
          | none => (0, nI 0, setMo (pr, (sl, dt, true, lf, nI d), T, cv, cl, 0, cp) (-1))
          | some k => bif decide (rom T 0 (k / 10) (k % 10) pr (k / 10) (k % 10) (nI d) = 0) then (0, -1, setMo (pr, (sl, dt, true, lf, nI d), T, k / 10, k % 10, rom T 0 (k / 10) (k % 10) pr (k / 10) (k % 10) (nI d), 0) (-1)) else stp2 (pr, (sl, dt, true, lf, nI d), T, k / 10, k % 10, rom T 0 (k / 10) (k % 10) pr (k / 10) (k % 10) (nI d), 0)) := by
          simp only [sp_step, hmo0, Bool.not_true, cond_false, decide_true, cond_true]
          rfl
        rw [hspS]
        have sc := scn_spec (lgM T (nI d)) 40 0
        cases hsc : scn (lgM T (nI d)) 0 40 with
        | none =>
          rw [hsc] at qf
          dsimp only at qf ⊢
          rw [show setMo (pr, (sl, dt, true, lf, nI d), T, cv, cl, 0, cp) (-1) = (pr, (sl, dt, true, lf, -1), T, cv, cl, 0, cp) from rfl]
          refine RZ.ret (t := t) (mv := .null) (wd := wd) (fun _ => ⟨lo, hi, c1, c2, ⟨_, _, _, _, _, _, _, hp⟩, Or.inl ⟨rfl, rfl⟩⟩) (ov := vI (nI 0)) rfl ?_
          have ef : cH h b M fo pr (sl, dt, true, lf, nI d) t .null wd = cH h b M fo pr (sl, dt, true, lf, -1) t .null wd := rfl
          unfold cS
          simp (disch := first | omega | assumption) only [jx_fn, jx_b_ok, jx_kb_ok, jx_b_inl, jx_kb_inl, jx_b_inr, jx_kb_inr, eInt, eNull, eI, eA, eBin, jx_op, oAdd_n, oMul_n, cCmp, cCmp0, jx_cp, cNull, jx_nl, cNot, cAnd_k, cOr_k, cIte_c, eIte_k, ck_ite, bf_and, bf_or, bf_not, ck_int, ck_10, ck_nI, cond_true, cond_false, oSub_g, nIs_le, oDiv_s, ck_n10, eGf, jx_gf, eLd, jx_ld, eLda, jx_lda, eLen, jx_len, eCl, jx_as, jx_ec, jx_ev, jx_es, tb1, tb3, tbk, tbn, tbl, sAsg_k, jx_set, jx_ft_int, jx_ft_ref, jx_ft_null, jx_ft_z0, jx_ft_z1, sSeq_k, sIf_k, sSkip, sInc, sPf_k, jx_pf_h, sUf_k, sSt_k, jx_st_h, sSta_k, jx_sta_h, jx_el, sUst_k, sRet, jx_rt, sRetV, sCl_k, sThrow_h, eNew, jx_nw_h, sObj, eNa, List.getElem?_cons_zero, List.getElem?_cons_succ, List.set_cons_zero, List.set_cons_succ, List.cons_append, List.nil_append, List.replicate_succ, List.replicate_zero, List.length_cons, List.length_nil, List.all_cons, List.all_nil, Value.category, Bool.and_true, Bool.true_and, Bool.and_self, beq_self_eq_true, and_self, and_true, true_and, if_true, if_false, ite_true, ite_false, eq_self, List.mem_cons, List.mem_singleton, List.not_mem_nil, or_false, true_or, or_true, false_or, Nat.reduceSub, Nat.reduceAdd, decide_true, decide_false, Bool.not_true, Bool.not_false, Nat.zero_add, Bool.false_eq_true, va_rf, reduceCtorEq, Nat.reduceEqDiff, Nat.reduceLT, Nat.reduceMul, Nat.lt_irrefl, rNe_b, rEq_b, jx_ft_b, jx_ix_nI, rLt_n, rGe_n, rGt_n, rLe_n, rEq_n, rNe_n, rGt_0, rEq_0, rNe_0, rLt_0, rGe_0, rLe_0, nI_1s, kU_ok, kU_r, kA_ok, kA_r, kC_t, kC_f, kC_r, kO_ok, kO_l, kO_r, kE_ok, kN_ok, kR_ok, kE_t, kE_f, kN_t, kN_f, kR_t, kR_f, cH_1, cH_21, cH_sh, cH_da, cH_dk, cH_sl, cH_dt, cH_pn, cH_wd, cH_md, cS_sh, cS_pn, cS_pn0, cS_pn1, cS_sl, cS_dt, cS_wd, cS_pr, pm_eta, va_rf, b2i_t, b2i_f, Bool.true_or, Bool.false_or, Bool.or_true, Bool.or_false, Bool.false_and, Bool.and_false, q_need1, q_need0, q_allow1, q_allow0, q_Sh_isDisk, f_Sh_step, bd_Sh_step, hn, r5, qf, rEq_m1, vI, ef]
        | some k =>
          rw [hsc] at qf sc
          dsimp only at qf ⊢
          obtain ⟨a1, a2, a3, a4⟩ := sc
          have hpos : 0 < T (9 + k) := by
            unfold lgM at a3
            rw [Bool.and_eq_true] at a3
            exact of_decide_eq_true a3.1
          have qb := q_isBegun h b M fo pr (sl, dt, true, lf, nI d) t (.ref am) wd c1 hp hW ed rfl e2 e4 e5 k (by omega) hpos
          have hro := rom_ok (U := T) (c := 0) (cv := k / 10) (cl := k % 10) (pr := pr) (v := k / 10) (k := k % 10) (nt := nI d)
          have bR : rom T 0 (k / 10) (k % 10) pr (k / 10) (k % 10) (nI d) ≤ 32 := rmo_le _ _
          generalize rom T 0 (k / 10) (k % 10) pr (k / 10) (k % 10) (nI d) = r at qb hro bR ⊢
          have m1k : rEq (nI (16 * (k / 10) + k % 10)) (-1) = false := rEq_nm (by omega)
          have hcA := hset_eq h am (.inr (4, [.int (nI d), .int (nI (k / 10)), .int (nI (k % 10)), .int (nI (T (9 + k))), .int (nI r), .int (nI 0)]))
          have hkA : ∀ q, q ≠ am → (hset h am (.inr (4, [.int (nI d), .int (nI (k / 10)), .int (nI (k % 10)), .int (nI (T (9 + k))), .int (nI r), .int (nI 0)]))).2.2 q = h.2.2 q := fun q hq => hset_ne _ _ hq
          generalize hHA : hset h am (.inr (4, [.int (nI d), .int (nI (k / 10)), .int (nI (k % 10)), .int (nI (T (9 + k))), .int (nI r), .int (nI 0)])) = hA at qb hcA hkA
          have sA : hA.1 = h.1 := by rw [← hHA]; rfl
          have sA2 : hA.2.1 = h.2.1 := by rw [← hHA]; rfl
          have hpA : TP hA lo hi t T := ⟨_, _, _, _, _, _, _, hp.keep (fun q h1 h2 => hkA q (by omega))⟩
          by_cases hr : r = 0
          · rw [decide_eq_true hr, cond_true]
            rw [decide_eq_true hr] at qb
            rw [show setMo (pr, (sl, dt, true, lf, nI d), T, k / 10, k % 10, r, 0) (-1) = (pr, (sl, dt, true, lf, -1), T, k / 10, k % 10, r, 0) from rfl]
            refine RZ.base sA sA2 (fun q hq => hkA q (by omega)) (RZ.ret (t := t) (mv := .null) (wd := wd) (fun _ => ⟨lo, hi, c1, by omega, hpA, Or.inl ⟨rfl, rfl⟩⟩) (ov := vI (-1)) rfl ?_)
            have ef : cH hA b M fo pr (sl, dt, true, lf, nI d) t .null wd = cH hA b M fo pr (sl, dt, true, lf, -1) t .null wd := rfl
            unfold cS
            simp (disch := first | omega | assumption) only [jx_fn, jx_b_ok, jx_kb_ok, jx_b_inl, jx_kb_inl, jx_b_inr, jx_kb_inr, eInt, eNull, eI, eA, eBin, jx_op, oAdd_n, oMul_n, cCmp, cCmp0, jx_cp, cNull, jx_nl, cNot, cAnd_k, cOr_k, cIte_c, eIte_k, ck_ite, bf_and, bf_or, bf_not, ck_int, ck_10, ck_nI, cond_true, cond_false, oSub_g, nIs_le, oDiv_s, ck_n10, eGf, jx_gf, eLd, jx_ld, eLda, jx_lda, eLen, jx_len, eCl, jx_as, jx_ec, jx_ev, jx_es, tb1, tb3, tbk, tbn, tbl, sAsg_k, jx_set, jx_ft_int, jx_ft_ref, jx_ft_null, jx_ft_z0, jx_ft_z1, sSeq_k, sIf_k, sSkip, sInc, sPf_k, jx_pf_h, sUf_k, sSt_k, jx_st_h, sSta_k, jx_sta_h, jx_el, sUst_k, sRet, jx_rt, sRetV, sCl_k, sThrow_h, eNew, jx_nw_h, sObj, eNa, List.getElem?_cons_zero, List.getElem?_cons_succ, List.set_cons_zero, List.set_cons_succ, List.cons_append, List.nil_append, List.replicate_succ, List.replicate_zero, List.length_cons, List.length_nil, List.all_cons, List.all_nil, Value.category, Bool.and_true, Bool.true_and, Bool.and_self, beq_self_eq_true, and_self, and_true, true_and, if_true, if_false, ite_true, ite_false, eq_self, List.mem_cons, List.mem_singleton, List.not_mem_nil, or_false, true_or, or_true, false_or, Nat.reduceSub, Nat.reduceAdd, decide_true, decide_false, Bool.not_true, Bool.not_false, Nat.zero_add, Bool.false_eq_true, va_rf, reduceCtorEq, Nat.reduceEqDiff, Nat.reduceLT, Nat.reduceMul, Nat.lt_irrefl, rNe_b, rEq_b, jx_ft_b, jx_ix_nI, rLt_n, rGe_n, rGt_n, rLe_n, rEq_n, rNe_n, rGt_0, rEq_0, rNe_0, rLt_0, rGe_0, rLe_0, nI_1s, kU_ok, kU_r, kA_ok, kA_r, kC_t, kC_f, kC_r, kO_ok, kO_l, kO_r, kE_ok, kN_ok, kR_ok, kE_t, kE_f, kN_t, kN_f, kR_t, kR_f, cH_1, cH_21, cH_sh, cH_da, cH_dk, cH_sl, cH_dt, cH_pn, cH_wd, cH_md, cS_sh, cS_pn, cS_pn0, cS_pn1, cS_sl, cS_dt, cS_wd, cS_pr, pm_eta, va_rf, b2i_t, b2i_f, Bool.true_or, Bool.false_or, Bool.or_true, Bool.or_false, Bool.false_and, Bool.and_false, q_need1, q_need0, q_allow1, q_allow0, q_Sh_isDisk, f_Sh_step, bd_Sh_step, hn, r5, qf, m1k, qb, vI, ef]
          · rw [decide_eq_false hr, cond_false]
            rw [decide_eq_false hr] at qb
            obtain ⟨p1, p2, p3, _⟩ := hro hr
            have e9 : 9 + 10 * (k / 10) + k % 10 = 9 + k := by omega
            have hC2 : CR b hA (pr, (sl, dt, true, lf, nI d), T, k / 10, k % 10, r, 0) t (.ref am) lo hi := ⟨c1, by omega, hpA, Or.inr ⟨am, d, nI (k / 10), nI (k % 10), nI (T (9 + k)), nI 0, ⟨rfl, rfl, ed⟩, ⟨e2, by omega, e4⟩, hcA, fun _ => ⟨rfl, rfl, by dsimp only; rw [e9], rfl⟩⟩⟩
            have hfin := q_stp2 hA b M fo (pr, (sl, dt, true, lf, nI d), T, k / 10, k % 10, r, 0) t (.ref am) wd ⟨hW, by dsimp only; omega, by dsimp only; omega, bR, by dsimp only; omega, Or.inr ⟨d, ed, rfl⟩, h30⟩ (fun _ _ => ⟨by dsimp only; rw [e9]; exact hpos, by dsimp only; omega⟩) (fun _ _ => p3) (by omega) rfl hC2 hmo0 (by dsimp only; omega) (.int (nI (16 * (k / 10) + k % 10)))
            have hgo : f_Sh_step [.ref b] (cS h b M fo (pr, (sl, dt, true, lf, nI d), T, cv, cl, 0, cp) t (.ref am) wd) = stpC (fun _ _ => none) [.ref b, .int (nI (16 * (k / 10) + k % 10)), .double 0] (cS hA b M fo (pr, (sl, dt, true, lf, nI d), T, k / 10, k % 10, r, 0) t (.ref am) wd) := by
              unfold f_Sh_step
              rw [hbd]
              generalize stpC = LL
              unfold cS
              simp (disch := first | omega | assumption) only [jx_fn, jx_b_ok, jx_kb_ok, jx_b_inl, jx_kb_inl, jx_b_inr, jx_kb_inr, eInt, eNull, eI, eA, eBin, jx_op, oAdd_n, oMul_n, cCmp, cCmp0, jx_cp, cNull, jx_nl, cNot, cAnd_k, cOr_k, cIte_c, eIte_k, ck_ite, bf_and, bf_or, bf_not, ck_int, ck_10, ck_nI, cond_true, cond_false, oSub_g, nIs_le, oDiv_s, ck_n10, eGf, jx_gf, eLd, jx_ld, eLda, jx_lda, eLen, jx_len, eCl, jx_as, jx_ec, jx_ev, jx_es, tb1, tb3, tbk, tbn, tbl, sAsg_k, jx_set, jx_ft_int, jx_ft_ref, jx_ft_null, jx_ft_z0, jx_ft_z1, sSeq_k, sIf_k, sSkip, sInc, sPf_k, jx_pf_h, sUf_k, sSt_k, jx_st_h, sSta_k, jx_sta_h, jx_el, sUst_k, sRet, jx_rt, sRetV, sCl_k, sThrow_h, eNew, jx_nw_h, sObj, eNa, List.getElem?_cons_zero, List.getElem?_cons_succ, List.set_cons_zero, List.set_cons_succ, List.cons_append, List.nil_append, List.replicate_succ, List.replicate_zero, List.length_cons, List.length_nil, List.all_cons, List.all_nil, Value.category, Bool.and_true, Bool.true_and, Bool.and_self, beq_self_eq_true, and_self, and_true, true_and, if_true, if_false, ite_true, ite_false, eq_self, List.mem_cons, List.mem_singleton, List.not_mem_nil, or_false, true_or, or_true, false_or, Nat.reduceSub, Nat.reduceAdd, decide_true, decide_false, Bool.not_true, Bool.not_false, Nat.zero_add, Bool.false_eq_true, va_rf, reduceCtorEq, Nat.reduceEqDiff, Nat.reduceLT, Nat.reduceMul, Nat.lt_irrefl, rNe_b, rEq_b, jx_ft_b, jx_ix_nI, rLt_n, rGe_n, rGt_n, rLe_n, rEq_n, rNe_n, rGt_0, rEq_0, rNe_0, rLt_0, rGe_0, rLe_0, nI_1s, kU_ok, kU_r, kA_ok, kA_r, kC_t, kC_f, kC_r, kO_ok, kO_l, kO_r, kE_ok, kN_ok, kR_ok, kE_t, kE_f, kN_t, kN_f, kR_t, kR_f, cH_1, cH_21, cH_sh, cH_da, cH_dk, cH_sl, cH_dt, cH_pn, cH_wd, cH_md, cS_sh, cS_pn, cS_pn0, cS_pn1, cS_sl, cS_dt, cS_wd, cS_pr, pm_eta, va_rf, b2i_t, b2i_f, Bool.true_or, Bool.false_or, Bool.or_true, Bool.or_false, Bool.false_and, Bool.and_false, q_need1, q_need0, q_allow1, q_allow0, q_Sh_isDisk, hn, r5, qf, m1k, qb]
            rw [hgo]
            exact RZ.base sA sA2 (fun q hq => hkA q (by omega)) hfin
      · have hsp : sp_step (pr, (sl, dt, true, lf, nI d), T, cv, cl, ct, cp) = stp2 (pr, (sl, dt, true, lf, nI d), T, cv, cl, ct, cp) := by
          simp only [sp_step, hmo0, decide_eq_false hc0, Bool.not_true, cond_false]
        rw [hsp]
        have hfin := q_stp2 h b M fo (pr, (sl, dt, true, lf, nI d), T, cv, cl, ct, cp) t (.ref am) wd hs0 hmv hmh hb rfl hCR hmo0 (by dsimp only; omega) (.int (nI 0))
        have hgo : f_Sh_step [.ref b] (cS h b M fo (pr, (sl, dt, true, lf, nI d), T, cv, cl, ct, cp) t (.ref am) wd) = stpC (fun _ _ => none) [.ref b, .int (nI 0), .double 0] (cS h b M fo (pr, (sl, dt, true, lf, nI d), T, cv, cl, ct, cp) t (.ref am) wd) := by
          unfold f_Sh_step
          rw [hbd]
          generalize stpC = LL
          unfold cS
          simp (disch := first | omega | assumption) only [jx_fn, jx_b_ok, jx_kb_ok, jx_b_inl, jx_kb_inl, jx_b_inr, jx_kb_inr, eInt, eNull, eI, eA, eBin, jx_op, oAdd_n, oMul_n, cCmp, cCmp0, jx_cp, cNull, jx_nl, cNot, cAnd_k, cOr_k, cIte_c, eIte_k, ck_ite, bf_and, bf_or, bf_not, ck_int, ck_10, ck_nI, cond_true, cond_false, oSub_g, nIs_le, oDiv_s, ck_n10, eGf, jx_gf, eLd, jx_ld, eLda, jx_lda, eLen, jx_len, eCl, jx_as, jx_ec, jx_ev, jx_es, tb1, tb3, tbk, tbn, tbl, sAsg_k, jx_set, jx_ft_int, jx_ft_ref, jx_ft_null, jx_ft_z0, jx_ft_z1, sSeq_k, sIf_k, sSkip, sInc, sPf_k, jx_pf_h, sUf_k, sSt_k, jx_st_h, sSta_k, jx_sta_h, jx_el, sUst_k, sRet, jx_rt, sRetV, sCl_k, sThrow_h, eNew, jx_nw_h, sObj, eNa, List.getElem?_cons_zero, List.getElem?_cons_succ, List.set_cons_zero, List.set_cons_succ, List.cons_append, List.nil_append, List.replicate_succ, List.replicate_zero, List.length_cons, List.length_nil, List.all_cons, List.all_nil, Value.category, Bool.and_true, Bool.true_and, Bool.and_self, beq_self_eq_true, and_self, and_true, true_and, if_true, if_false, ite_true, ite_false, eq_self, List.mem_cons, List.mem_singleton, List.not_mem_nil, or_false, true_or, or_true, false_or, Nat.reduceSub, Nat.reduceAdd, decide_true, decide_false, Bool.not_true, Bool.not_false, Nat.zero_add, Bool.false_eq_true, va_rf, reduceCtorEq, Nat.reduceEqDiff, Nat.reduceLT, Nat.reduceMul, Nat.lt_irrefl, rNe_b, rEq_b, jx_ft_b, jx_ix_nI, rLt_n, rGe_n, rGt_n, rLe_n, rEq_n, rNe_n, rGt_0, rEq_0, rNe_0, rLt_0, rGe_0, rLe_0, nI_1s, kU_ok, kU_r, kA_ok, kA_r, kC_t, kC_f, kC_r, kO_ok, kO_l, kO_r, kE_ok, kN_ok, kR_ok, kE_t, kE_f, kN_t, kN_f, kR_t, kR_f, cH_1, cH_21, cH_sh, cH_da, cH_dk, cH_sl, cH_dt, cH_pn, cH_wd, cH_md, cS_sh, cS_pn, cS_pn0, cS_pn1, cS_sl, cS_dt, cS_wd, cS_pr, pm_eta, va_rf, b2i_t, b2i_f, Bool.true_or, Bool.false_or, Bool.or_true, Bool.or_false, Bool.false_and, Bool.and_false, q_need1, q_need0, q_allow1, q_allow0, q_Sh_isDisk, hn, r5, hc0, m10]
        rw [hgo]
        exact hfin
end ST
