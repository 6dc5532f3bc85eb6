/-! THE COMPONENT's CALLS: make, grow -/
theorem nI_all (x : Int32) : ∃ n, x = nI n := by
  refine ⟨x.toBitVec.toNat, ?_⟩
  unfold nI
  apply Int32.toBitVec_inj.mp
  simp
theorem Gw.fr {n m lo hi : Nat} {h h1 h2 : jx_S} (hG : Gw n m h h1) (hF : FR lo hi h1 h2) (hlo : h.1 ≤ lo) : Gw n m h h2 := by
  obtain ⟨⟨a1, a2, a3, a4⟩, a5⟩ := hG
  obtain ⟨f1, f2, f3⟩ := hF
  exact ⟨⟨by omega, by omega, by omega, by omega⟩, fun q hq => (f3 q (by omega)).trans (a5 q hq)⟩
theorem clrs_PM {m : Int32} {y : xA} (h : PM m y) (N : Nat → Nat) (v k0 n : Nat) : PM m (clrs N v k0 n y) := by
  unfold clrs
  refine itr_keep (P := PM m) (fun k z hz => ?_) h n
  unfold clr1
  cases decide (0 < N (9 + 10 * v + (k0 + k)))
  · exact hz
  · rw [cond_true]
    exact itr_keep (P := PM m) (fun k z hz => wD_PM hz _ _) hz 4
theorem chS_off {s : xS} (h : s.2.1.2.2.1 = false) (N : Nat → Nat) : chS s N = s := by
  have e : chg s.2.1 s.1 N = s.2.1 := by
    unfold chg
    exact itr_stop (P := fun y => y.2.2.1 = false) (fun k y hy => gch_off N s.1 k y hy) (m := 0) h 4 (by omega)
  unfold chS
  rw [e, h, cond_false]
section RZ
variable {h h1 : jx_S} {b : Nat} {M : cM} {fo : Nat → Int64} {s : xS} {t : Nat} {mv : Value} {wd : Nat → Int32} {cls : Nat → Nat} {rv : Int32 → Option Value} {o : Option (Outcome × jx_S)} {n m : Nat}
theorem RZ.thr2 (hb : b + 26 ≤ h.1) (hG : Gw n m h h1) (hn : n ≤ 80) (hm : m ≤ 600) (hC : s.2.1.2.2.1 = true → ∃ lo hi, CR b h1 s t mv lo hi) {c k : Nat} {a : Int32} (hc : c ≠ 0) (hk : cls c = k) (ho : o = some (.threw h1.1, hnew (cS h1 b M fo s t mv wd) 6 (.inr (k, [])))) : RZ b M fo h cls rv (c, a, s) o := by
  have hb1 : b + 26 ≤ h1.1 := by have := hG.1.1; omega
  obtain ⟨oc, h', t', mv', wd', g1, g2, ⟨g3, g4, g5, g6, g7⟩, g8⟩ := RZ.thr (rv := rv) (a := a) hb1 hC hc hk ho
  obtain ⟨⟨a1, a2, a3, a4⟩, a5⟩ := hG
  subst hk
  rw [cSn _ _ hb1] at ho
  refine ⟨_, _, _, _, _, ho, Or.inr ⟨hc, _, rfl, hb1, hnew_eq h1 6 _⟩, ⟨by rw [hnew_1]; omega, by rw [hnew_1]; omega, by rw [hnew_21]; omega, by rw [hnew_21]; omega, fun q hq => (hnew_ne _ _ (by omega)).trans (a5 q (by omega))⟩, fun z => ?_⟩
  obtain ⟨lo, hi, hC⟩ := hC z
  exact ⟨lo, hi, hC.gw ((Gw.rf h1).nw (k := 6) _)⟩
end RZ
section CV
variable (h : jx_S) (b : Nat) (M : cM) (fo : Nat → Int64) (pr : Nat → Bool) (x : xA) (t : Nat) (mv : Value) (wd : Nat → Int32)
theorem cVo_out (kd : Nat) (c e : Int32) (hb : b + 26 ≤ h.1) : nVo (cH h b M fo pr x t mv wd) kd c e = (cH (nVo h kd c e) b M fo pr x t mv wd) := by
  unfold nVo
  rw [cN_out h b M fo pr x t mv wd _ _ hb, cN_out _ b M fo pr x t mv wd _ _ (by rw [hnew_1]; omega), cS_out _ b M fo pr x t mv wd _ (Or.inl (by rw [cH_1]; exact hb))]
  rfl
end CV
theorem WT.new {T : Nat → Nat} (hW : WT T) {v k c e : Nat} (hv : v < 4) (h0 : T (5 + v) = 0) (hk : k < 3) (hc : (k = 1 → c = 2 ∨ c = 3) ∧ (k ≠ 1 → c = 1)) (he : 1 ≤ e) (he5 : e ≤ 5) (hm : e % c = 0) : WT (upN T (5 + v) (1 + k + 4 * c + 32 * e)) := by
  have c3 : c = 1 ∨ c = 2 ∨ c = 3 := by
    by_cases z : k = 1
    · rcases hc.1 z with e | e <;> omega
    · have := hc.2 z; omega
  have hl : ∀ i, i < 10 → T (9 + 10 * v + i) = 0 := fun i hi => by
    rcases hW.2.2.1 v hv with ⟨_, z⟩ | ⟨z, _⟩
    · exact z i hi
    · rw [h0] at z; omega
  refine hW.vol' hv (fun j => ?_) (fun j hj h1 h2 => upN_o _ _ h1) (Or.inr ?_) (fun i hi => Or.inl (upN_o _ _ (by omega)))
  · unfold upN
    split
    · rcases c3 with e | e | e <;> omega
    · exact hW.1 j
  · unfold colsN elsN
    rw [upN_s]
    have f1 : (1 + k + 4 * c + 32 * e) % 4 = 1 + k := by omega
    have f2 : (1 + k + 4 * c + 32 * e) / 4 % 8 = c := by omega
    have f3 : (1 + k + 4 * c + 32 * e) / 32 = e := by omega
    rw [f1, f2, f3]
    refine ⟨by omega, fun z => hc.1 (by omega), fun z => hc.2 (by omega), he, he5, hm, fun i hi _ => ?_, fun _ i hi _ => ?_⟩
    · rw [upN_o _ _ (by omega)]; exact hl i hi
    · rw [upN_o _ _ (by omega)]; exact hl i hi
theorem WT.gro {T : Nat → Nat} (hW : WT T) {v n : Nat} (hv : v < 4) (h0 : T (5 + v) ≠ 0) (hn : elsN T v + n ≤ 5) (hm : (elsN T v + n) % colsN T v = 0) : WT (upN T (5 + v) (T (5 + v) + 32 * n)) := by
  rcases hW.2.2.1 v hv with ⟨z, _⟩ | ⟨a1, a2, a3, a4, a5, a6, a7, a8⟩
  · exact absurd z h0
  · refine hW.vol' hv (fun j => ?_) (fun j hj h1 h2 => upN_o _ _ h1) (Or.inr ?_) (fun i hi => Or.inl (upN_o _ _ (by omega)))
    · unfold upN
      split
      · unfold elsN at hn; omega
      · exact hW.1 j
    · unfold colsN elsN at *
      rw [upN_s]
      have f1 : (T (5 + v) + 32 * n) % 4 = T (5 + v) % 4 := by omega
      have f2 : (T (5 + v) + 32 * n) / 4 % 8 = T (5 + v) / 4 % 8 := by omega
      have f3 : (T (5 + v) + 32 * n) / 32 = T (5 + v) / 32 + n := by omega
      rw [f1, f2, f3]
      refine ⟨a1, a2, a3, by omega, hn, hm, fun i hi z => ?_, fun z i hi z2 => ?_⟩
      · rw [upN_o _ _ (by omega)]; exact a7 i hi (by omega)
      · rw [upN_o _ _ (by omega)]; exact a8 z i hi z2
theorem ec_le {mo : Int32} {ct : Nat} (h : ct ≤ 32) : ec mo ct ≤ 32 := by
  unfold ec
  cases rLt mo 0
  · exact h
  · exact Nat.zero_le _
/-- the move's places, whatever is laid into a region it lies outside of -/
theorem MR.mqf {b : Nat} {h h1 : jx_S} {mv : Value} {s : xS} {lo hi lo2 hi2 : Nat} (hM : MR b h mv s lo hi) (hk : ∀ q, q < h.1 → h1.2.2 q = h.2.2 q) (hlo : h.1 ≤ lo2) : ∀ h', (∀ q, ¬ (lo2 ≤ q ∧ q < hi2) → h'.2.2 q = h1.2.2 q) → MQc b h' mv (ec s.2.1.2.2.2.2 s.2.2.2.2.2.1) s.2.2.2.1 s.2.2.2.2.1 := by
  intro h' hh
  rcases hM with ⟨q, e⟩ | ⟨am, d, vo, le, fr, co, ⟨e1, e0, ed⟩, ⟨e2, e3, e4⟩, e5, e6⟩
  · refine Or.inl ⟨e, ?_⟩
    unfold ec
    rw [q, rLt_n1]
    rfl
  · have : ec s.2.1.2.2.2.2 s.2.2.2.2.2.1 = s.2.2.2.2.2.1 := by
      unfold ec
      rw [e0, rLt_0 (by omega)]
      rfl
    rw [this]
    exact Or.inr ⟨am, nI d, vo, le, fr, co, e1, e2, ((hh am (by omega)).trans (hk am e3)).trans e5, fun z => ⟨(e6 z).1, (e6 z).2.1⟩⟩
section U8
set_option maxHeartbeats 16000000 in
theorem u_grow (h : jx_S) (b : Nat) (M : cM) (fo : Nat → Int64) (s : xS) (t : Nat) (mv : Value) (wd : Nat → Int32) (hs : IM s) (hmv : MV s) (hb : b + 26 ≤ h.1) (hC : s.2.1.2.2.1 = true → ∃ lo hi, CR b h s t mv lo hi) (v n : Int32) : RZ b M fo h clB vI (sp_grow v n s) (f_Sh_grow [.ref b, .int v, .int n] (cS h b M fo s t mv wd)) := by
  obtain ⟨pr, ⟨sl, dt, on, lf, mo⟩, T, cv, cl, ct, cp⟩ := s
  obtain ⟨hW, hcv, hcl, hct, hcp, hmo, h30⟩ := hs
  dsimp only at hW hcv hcl hct hcp hmo h30 hC
  have hT := hW.1
  have hn := q_needOn h b M fo pr (sl, dt, on, lf, mo) t mv wd
  cases on
  · refine RZ.thr (wd := wd) hb hC (c := 1) (k := 9) (by decide) rfl ?_
    simp (disch := first | omega | assumption) only [jx_fn, jx_b_ok, jx_kb_ok, jx_b_inl, jx_kb_inl, jx_b_inr, jx_kb_inr, eInt, eNull, eI, eA, eBin, jx_op, oAdd_n, oMul_n, cCmp, cCmp0, jx_cp, cNull, jx_nl, cNot, cAnd_k, cOr_k, cIte_c, eIte_k, ck_ite, bf_and, bf_or, bf_not, ck_int, ck_10, ck_nI, cond_true, cond_false, oSub_g, nIs_le, oDiv_s, ck_n10, eGf, jx_gf, eLd, jx_ld, eLda, jx_lda, eLen, jx_len, eCl, jx_as, jx_ec, jx_ev, jx_es, tb1, tb3, tbk, tbn, tbl, sAsg_k, jx_set, jx_ft_int, jx_ft_ref, jx_ft_null, jx_ft_z0, jx_ft_z1, sSeq_k, sIf_k, sSkip, sInc, sPf_k, jx_pf_h, sUf_k, sSt_k, jx_st_h, sSta_k, jx_sta_h, jx_el, sUst_k, sRet, jx_rt, sRetV, sCl_k, sThrow_h, eNew, jx_nw_h, sObj, eNa, List.getElem?_cons_zero, List.getElem?_cons_succ, List.set_cons_zero, List.set_cons_succ, List.cons_append, List.nil_append, List.replicate_succ, List.replicate_zero, List.length_cons, List.length_nil, List.all_cons, List.all_nil, Value.category, Bool.and_true, Bool.true_and, Bool.and_self, beq_self_eq_true, and_self, and_true, true_and, if_true, if_false, ite_true, ite_false, eq_self, List.mem_cons, List.mem_singleton, List.not_mem_nil, or_false, true_or, or_true, false_or, Nat.reduceSub, Nat.reduceAdd, decide_true, decide_false, Bool.not_true, Bool.not_false, Nat.zero_add, Bool.false_eq_true, va_rf, reduceCtorEq, Nat.reduceEqDiff, Nat.reduceLT, Nat.reduceMul, Nat.lt_irrefl, rNe_b, rEq_b, jx_ft_b, jx_ix_nI, rLt_n, rGe_n, rGt_n, rLe_n, rEq_n, rNe_n, rGt_0, rEq_0, rNe_0, rLt_0, rGe_0, rLe_0, nI_1s, kU_ok, kU_r, kA_ok, kA_r, kC_t, kC_f, kC_r, kO_ok, kO_l, kO_r, kE_ok, kN_ok, kR_ok, kE_t, kE_f, kN_t, kN_f, kR_t, kR_f, cH_1, cH_21, cH_sh, cH_da, cH_dk, cH_sl, cH_dt, cH_pn, cH_wd, cH_md, cS_sh, cS_pn, cS_pn0, cS_pn1, cS_sl, cS_dt, cS_wd, cS_pr, pm_eta, va_rf, b2i_t, b2i_f, Bool.true_or, Bool.false_or, Bool.or_true, Bool.or_false, Bool.false_and, Bool.and_false, q_need1, q_need0, q_allow1, q_allow0, q_Sh_isDisk, f_Sh_grow, bd_Sh_grow, cS, hn]
  · have hC' := hC
    obtain ⟨lo, hi, c1, c2, c3, c4⟩ := hC rfl
    dsimp only at c3
    have hCR : CR b h (pr, (sl, dt, true, lf, mo), T, cv, cl, ct, cp) t mv lo hi := ⟨c1, c2, c3, c4⟩
    cases hV : isV T v
    · rw [show sp_grow v n (pr, (sl, dt, true, lf, mo), T, cv, cl, ct, cp) = (2, nI 0, pr, (sl, dt, true, lf, mo), T, cv, cl, ct, cp) from by simp only [sp_grow, hV, Bool.not_true, Bool.not_false, cond_false, cond_true]]
      refine RZ.thr (wd := wd) hb hC' (c := 2) (k := 12) (by decide) rfl ?_
      have q := q_Sh_volumeAt_x h b M fo pr (sl, dt, true, lf, mo) t mv wd c1 c3 v hV
      simp (disch := first | omega | assumption) only [jx_fn, jx_b_ok, jx_kb_ok, jx_b_inl, jx_kb_inl, jx_b_inr, jx_kb_inr, eInt, eNull, eI, eA, eBin, jx_op, oAdd_n, oMul_n, cCmp, cCmp0, jx_cp, cNull, jx_nl, cNot, cAnd_k, cOr_k, cIte_c, eIte_k, ck_ite, bf_and, bf_or, bf_not, ck_int, ck_10, ck_nI, cond_true, cond_false, oSub_g, nIs_le, oDiv_s, ck_n10, eGf, jx_gf, eLd, jx_ld, eLda, jx_lda, eLen, jx_len, eCl, jx_as, jx_ec, jx_ev, jx_es, tb1, tb3, tbk, tbn, tbl, sAsg_k, jx_set, jx_ft_int, jx_ft_ref, jx_ft_null, jx_ft_z0, jx_ft_z1, sSeq_k, sIf_k, sSkip, sInc, sPf_k, jx_pf_h, sUf_k, sSt_k, jx_st_h, sSta_k, jx_sta_h, jx_el, sUst_k, sRet, jx_rt, sRetV, sCl_k, sThrow_h, eNew, jx_nw_h, sObj, eNa, List.getElem?_cons_zero, List.getElem?_cons_succ, List.set_cons_zero, List.set_cons_succ, List.cons_append, List.nil_append, List.replicate_succ, List.replicate_zero, List.length_cons, List.length_nil, List.all_cons, List.all_nil, Value.category, Bool.and_true, Bool.true_and, Bool.and_self, beq_self_eq_true, and_self, and_true, true_and, if_true, if_false, ite_true, ite_false, eq_self, List.mem_cons, List.mem_singleton, List.not_mem_nil, or_false, true_or, or_true, false_or, Nat.reduceSub, Nat.reduceAdd, decide_true, decide_false, Bool.not_true, Bool.not_false, Nat.zero_add, Bool.false_eq_true, va_rf, reduceCtorEq, Nat.reduceEqDiff, Nat.reduceLT, Nat.reduceMul, Nat.lt_irrefl, rNe_b, rEq_b, jx_ft_b, jx_ix_nI, rLt_n, rGe_n, rGt_n, rLe_n, rEq_n, rNe_n, rGt_0, rEq_0, rNe_0, rLt_0, rGe_0, rLe_0, nI_1s, kU_ok, kU_r, kA_ok, kA_r, kC_t, kC_f, kC_r, kO_ok, kO_l, kO_r, kE_ok, kN_ok, kR_ok, kE_t, kE_f, kN_t, kN_f, kR_t, kR_f, cH_1, cH_21, cH_sh, cH_da, cH_dk, cH_sl, cH_dt, cH_pn, cH_wd, cH_md, cS_sh, cS_pn, cS_pn0, cS_pn1, cS_sl, cS_dt, cS_wd, cS_pr, pm_eta, va_rf, b2i_t, b2i_f, Bool.true_or, Bool.false_or, Bool.or_true, Bool.or_false, Bool.false_and, Bool.and_false, q_need1, q_need0, q_allow1, q_allow0, q_Sh_isDisk, f_Sh_grow, bd_Sh_grow, cS, hn, q]
    · rcases isV_cases T v with ⟨z1, z2⟩ | ⟨m, h1, rfl, h2⟩
      · rw [z2] at hV; cases hV
      · have h0 : T (5 + m) ≠ 0 := fun z => by rw [hV, decide_eq_true z] at h2; cases h2
        have k1 : (nI m).toNatClampNeg = m := clampI _ (by omega)
        have qab := q_Sh_isOneAbsent h b M fo pr (sl, dt, true, lf, mo) t mv wd c1 c3 hT
        have c3' := c3
        obtain ⟨ea0, va0, qa0, la0, fe0, fv0, fl0, c3'⟩ := c3'
        have q := q_Sh_volumeAt h b M fo pr (sl, dt, true, lf, mo) t mv wd c1 c3' m h1 h0
        have rt := (cTPa h b M fo pr (sl, dt, true, lf, mo) t mv wd c1 c3').2.2.2.2.1
        have hcols := hW.cols h1 h0
        have hcols2 : colsN T m < 8 := by unfold colsN; omega
        have he5 := (hW.TB.2.2.1 m h1).2
        have hvo := ((cTPa h b M fo pr (sl, dt, true, lf, mo) t mv wd c1 c3').vol hW h1 h0).2.1
        have qfit := q_Vo_fits _ _ _ _ _ _ hvo (nI (elsN T m) + n) hcols hcols2
        obtain ⟨v1, v2, hq⟩ := hvo
        have hm5 := mem567 v1 v2
        have e1 : rGe n (nI 1) = !rLt n (nI 1) := rGe_not _ _
        have e2 : rLe n (nI 5) = !rGt n (nI 5) := rLe_not _ _
        have oa : oAdd (nI (elsN T m)) n = some (nI (elsN T m) + n) := rfl
        cases h3 : (rLt n (nI 1) || rGt n (nI 5) || !fitsB (nI (colsN T m)) (nI (elsN T m) + n))
        · have h3' := h3
          simp only [Bool.or_eq_false_iff] at h3
          obtain ⟨⟨g1, g2⟩, g3⟩ := h3
          have g3' : fitsB (nI (colsN T m)) (nI (elsN T m) + n) = true := by
            cases hz : fitsB (nI (colsN T m)) (nI (elsN T m) + n)
            · rw [hz] at g3; cases g3
            · rfl
          have hnn : ∃ n', 1 ≤ n' ∧ n' ≤ 5 ∧ n = nI n' := by
            have z : rGe n 0 = true := by
              rw [rLt, decide_eq_false_iff_not, Int32.lt_iff_toInt_lt, nI_toInt (by decide)] at g1
              rw [rGe, decide_eq_true_iff, Int32.le_iff_toInt_le]
              show (0 : Int) ≤ _
              omega
            have z2 : rLt n (nI 6) = true := by
              rw [← rLe_s (by decide), rLe_not, g2]
              rfl
            obtain ⟨n', h5, rfl⟩ := rng (L := 6) (by decide) (by rw [z, z2]; rfl)
            rw [rLt_n (by omega) (by decide), decide_eq_false_iff_not] at g1
            exact ⟨n', by omega, by omega, rfl⟩
          obtain ⟨n', hn1, hn5, rfl⟩ := hnn
          have k2 : (nI n').toNatClampNeg = n' := clampI _ (by omega)
          rw [nI_add] at g3' qfit oa
          obtain ⟨f1, f2, f3⟩ := fitsB_n hcols hcols2 (by omega) g3'
          rw [g1] at e1; rw [g2] at e2
          rw [g3'] at qfit
          cases h4 : absn T pr <;> rw [h4] at qab
          · obtain ⟨h1', qc, hp2, hG⟩ := q_copy h b M fo pr (sl, dt, true, lf, mo) t mv wd hb c1 c3 c2 hW
            obtain ⟨ea, va, qa, la, fe, fv, fl, hp2⟩ := hp2
            have cpx := cTPa h1' b M fo pr (sl, dt, true, lf, mo) t mv wd (Or.inl hb) hp2
            have r1 := cpx.2.2.2.2.1
            have r2 := cpx.2.2.2.2.2.2.2.1
            have r3 := cpx.2.2.2.2.2.2.2.2.1 m h1
            rw [if_neg h0] at r3
            obtain ⟨y1, y2, y3⟩ := cpx.2.2.2.2.2.2.2.2.2.1 m h1 h0
            have hp3 := hp2.setm (w := T (5 + m) + 32 * n') (e := elsN T m + n') h1 h0 (by omega) (by omega) (by unfold colsN; omega) (by unfold elsN; omega)
            have bqa := (hp2.2.2.2.1 m h1 h0).1
            have hst : ∀ o, hset (cH h1' b M fo pr (sl, dt, true, lf, mo) t mv wd) (qa m) o = cH (hset h1' (qa m) o) b M fo pr (sl, dt, true, lf, mo) t mv wd := fun o => cS_out h1' b M fo pr _ t mv wd o (Or.inl (by omega))
            have hG2 := hG.st (.inr (4 + T (5 + m) % 4, [.int (nI (colsN T m)), .int (nI (elsN T m + n')), .ref (la m)])) bqa.1
            generalize hY : hset h1' (qa m) (.inr (4 + T (5 + m) % 4, [.int (nI (colsN T m)), .int (nI (elsN T m + n')), .ref (la m)])) = Y at hp3 hG2
            have ys : Y.1 = h1'.1 := by rw [← hY]; rfl
            have hst2 := hst (.inr (4 + T (5 + m) % 4, [.int (nI (colsN T m)), .int (nI (elsN T m + n')), .ref (la m)]))
            rw [hY] at hst2
            rw [← ys] at hp3
            have hqY := (cH_out Y b M fo pr (sl, dt, true, lf, mo) t mv wd (q := qa0 m) (by unfold OUT at c1; have := (c3'.2.2.2.1 m h1 h0).1; omega)).trans ((hG2.2 (qa0 m) (by have := (c3'.2.2.2.1 m h1 h0).1; omega)).trans (c3'.2.2.2.2.2.2.2.2.2.1 m h1 h0).1)
            have hWU := hW.gro h1 h0 (n := n') (by omega) f3
            have eU : elsN (upN T (5 + m) (T (5 + m) + 32 * n')) m = elsN T m + n' := by
              unfold elsN
              rw [upN_s]
              omega
            have qf := q_fill Y b M fo pr (sl, dt, true, lf, mo) t mv wd hb (Nat.le_refl _) hp3 hWU (c4.mqf (fun q hq => hG2.2 q hq) (Nat.le_refl _)) (ec_le hct) hcv hcl rfl m (elsN T m) h1 (by rw [upN_s]; omega) (by rw [eU]; omega)
            rw [eU] at qf
            have ed : elsN T m + n' - elsN T m = n' := by omega
            rw [ed] at qf
            dsimp only at qf
            have hspG : sp_grow (nI m) (nI n') (pr, (sl, dt, true, lf, mo), T, cv, cl, ct, cp) = (match fnds (ec mo ct) cv cl pr m (2 * elsN T m) (2 * n') (upN T (5 + m) (T (5 + m) + 32 * n')) with
              | none => (4, nI 0, pr, (sl, dt, true, lf, mo), T, cv, cl, ct, cp)
              | some N => enS (chS (setX (pr, (sl, dt, true, lf, mo), T, cv, cl, ct, cp) (clrs N m (2 * elsN T m) (2 * n') (sl, dt, true, lf, mo))) (nx1 (pr, (sl, dt, true, lf, mo), T, cv, cl, ct, cp) N)) (nI (elsN T m + n'))) := by
              simp only [sp_grow, hV, h3', h4, k1, k2, Bool.not_true, cond_false]
              rfl
            rw [hspG]
            cases hf : fnds (ec mo ct) cv cl pr m (2 * elsN T m) (2 * n') (upN T (5 + m) (T (5 + m) + 32 * n')) with
            | none =>
              rw [hf] at qf
              obtain ⟨h3, qf, hF⟩ := qf
              have hG3 := hG2.fr hF (Nat.le_refl _)
              refine RZ.thr2 (wd := wd) (t := t) (mv := mv) hb hG3 (by omega) (by omega) (fun _ => ⟨lo, hi, hCR.gw hG3⟩) (c := 4) (k := 11) (by decide) rfl ?_
              rw [← hF.1] at qf
              unfold cS
              simp (disch := first | omega | assumption) only [jx_fn, jx_b_ok, jx_kb_ok, jx_b_inl, jx_kb_inl, jx_b_inr, jx_kb_inr, eInt, eNull, eI, eA, eBin, jx_op, oAdd_n, oMul_n, cCmp, cCmp0, jx_cp, cNull, jx_nl, cNot, cAnd_k, cOr_k, cIte_c, eIte_k, ck_ite, bf_and, bf_or, bf_not, ck_int, ck_10, ck_nI, cond_true, cond_false, oSub_g, nIs_le, oDiv_s, ck_n10, eGf, jx_gf, eLd, jx_ld, eLda, jx_lda, eLen, jx_len, eCl, jx_as, jx_ec, jx_ev, jx_es, tb1, tb3, tbk, tbn, tbl, sAsg_k, jx_set, jx_ft_int, jx_ft_ref, jx_ft_null, jx_ft_z0, jx_ft_z1, sSeq_k, sIf_k, sSkip, sInc, sPf_k, jx_pf_h, sUf_k, sSt_k, jx_st_h, sSta_k, jx_sta_h, jx_el, sUst_k, sRet, jx_rt, sRetV, sCl_k, sThrow_h, eNew, jx_nw_h, sObj, eNa, List.getElem?_cons_zero, List.getElem?_cons_succ, List.set_cons_zero, List.set_cons_succ, List.cons_append, List.nil_append, List.replicate_succ, List.replicate_zero, List.length_cons, List.length_nil, List.all_cons, List.all_nil, Value.category, Bool.and_true, Bool.true_and, Bool.and_self, beq_self_eq_true, and_self, and_true, true_and, if_true, if_false, ite_true, ite_false, eq_self, List.mem_cons, List.mem_singleton, List.not_mem_nil, or_false, true_or, or_true, false_or, Nat.reduceSub, Nat.reduceAdd, decide_true, decide_false, Bool.not_true, Bool.not_false, Nat.zero_add, Bool.false_eq_true, va_rf, reduceCtorEq, Nat.reduceEqDiff, Nat.reduceLT, Nat.reduceMul, Nat.lt_irrefl, rNe_b, rEq_b, jx_ft_b, jx_ix_nI, rLt_n, rGe_n, rGt_n, rLe_n, rEq_n, rNe_n, rGt_0, rEq_0, rNe_0, rLt_0, rGe_0, rLe_0, nI_1s, kU_ok, kU_r, kA_ok, kA_r, kC_t, kC_f, kC_r, kO_ok, kO_l, kO_r, kE_ok, kN_ok, kR_ok, kE_t, kE_f, kN_t, kN_f, kR_t, kR_f, cH_1, cH_21, cH_sh, cH_da, cH_dk, cH_sl, cH_dt, cH_pn, cH_wd, cH_md, cS_sh, cS_pn, cS_pn0, cS_pn1, cS_sl, cS_dt, cS_wd, cS_pr, pm_eta, va_rf, b2i_t, b2i_f, Bool.true_or, Bool.false_or, Bool.or_true, Bool.or_false, Bool.false_and, Bool.and_false, q_need1, q_need0, q_allow1, q_allow0, q_Sh_isDisk, f_Sh_grow, bd_Sh_grow, hn, q, hq, hm5, e1, e2, oa, qfit, qab, rt, qc, r1, r2, r3, y1, hst2, hqY, qf]
            | some N =>
              rw [hf] at qf
              dsimp only at qf ⊢
              obtain ⟨h3, hF, hp4, qf⟩ := qf
              have hG3 := hG2.fr hF (Nat.le_refl _)
              have hNW := (fnds_WT h1 hWU (by rw [upN_s]; omega) (2 * n') (by rw [eU]; omega) hf).1
              have hPM := clrs_PM (m := mo) (y := (sl, dt, true, lf, mo)) (Or.inl ⟨rfl, rfl⟩) N m (2 * elsN T m) (2 * n')
              generalize hX : clrs N m (2 * elsN T m) (2 * n') (sl, dt, true, lf, mo) = X at qf hPM ⊢
              rw [show nx1 (pr, (sl, dt, true, lf, mo), T, cv, cl, ct, cp) N = nx1 (pr, X, T, cv, cl, ct, cp) N from rfl, show setX (pr, (sl, dt, true, lf, mo), T, cv, cl, ct, cp) X = (pr, X, T, cv, cl, ct, cp) from rfl]
              rcases qf with ⟨l1, qf⟩ | ⟨l1, qf⟩
              · have hmoX : X.2.2.2.2 = mo := by
                  rcases hPM with ⟨_, z⟩ | ⟨z, _⟩
                  · exact z
                  · rw [l1] at z; cases z
                have hIM : IM (pr, X, T, cv, cl, ct, cp) := ⟨hW, hcv, hcl, hct, hcp, by dsimp only; rw [hmoX]; exact hmo, h30⟩
                have hMV : MV (pr, X, T, cv, cl, ct, cp) := by
                  unfold MV
                  dsimp only
                  rw [hmoX]
                  exact hmv
                have hCX : CR b h (pr, X, T, cv, cl, ct, cp) t mv lo hi := by
                  refine ⟨c1, c2, c3, ?_⟩
                  unfold MR at c4 ⊢
                  dsimp only at c4 ⊢
                  rw [hmoX]
                  exact c4
                have hch := q_change b M fo wd hIM hMV l1 hb hCX hG3 hp4 (Nat.le_refl _) (by rw [hF.1]; omega) hNW
                rcases hch with ⟨l1', h2', wd', l2, l3, l4, l5, l6⟩ | ⟨l1', h2', wd', l2, l4, l5, l6⟩
                · refine RZ.on hb hG3 (by omega) (by omega) l1' l4 l5 l6 (fun q hq => c4.nb hq) l3 (wd' := wd') (ov := vI (nI (elsN T m + n'))) rfl ?_
                  have bq0 := (c3'.2.2.2.1 m h1 h0).1
                  have hne0 : mv ≠ .ref (qa0 m) := by
                    rcases c4 with ⟨_, rfl⟩ | ⟨am, dd, vo, le, fr, co, ⟨rfl, e0, ed⟩, ⟨e8, e9, e10⟩, _⟩
                    · intro z; cases z
                    · intro z; injection z with z; subst z; omega
                  generalize chS (pr, X, T, cv, cl, ct, cp) (nx1 (pr, X, T, cv, cl, ct, cp) N) = S at l2 ⊢
                  unfold cS at l2 ⊢
                  have hq2 := (cH_out h2' b M fo S.1 S.2.1 h.1 mv wd' (q := qa0 m) (by unfold OUT at c1; omega)).trans ((l6 (qa0 m) (by omega) hne0).trans (c3'.2.2.2.2.2.2.2.2.2.1 m h1 h0).1)
                  simp (disch := first | omega | assumption) only [jx_fn, jx_b_ok, jx_kb_ok, jx_b_inl, jx_kb_inl, jx_b_inr, jx_kb_inr, eInt, eNull, eI, eA, eBin, jx_op, oAdd_n, oMul_n, cCmp, cCmp0, jx_cp, cNull, jx_nl, cNot, cAnd_k, cOr_k, cIte_c, eIte_k, ck_ite, bf_and, bf_or, bf_not, ck_int, ck_10, ck_nI, cond_true, cond_false, oSub_g, nIs_le, oDiv_s, ck_n10, eGf, jx_gf, eLd, jx_ld, eLda, jx_lda, eLen, jx_len, eCl, jx_as, jx_ec, jx_ev, jx_es, tb1, tb3, tbk, tbn, tbl, sAsg_k, jx_set, jx_ft_int, jx_ft_ref, jx_ft_null, jx_ft_z0, jx_ft_z1, sSeq_k, sIf_k, sSkip, sInc, sPf_k, jx_pf_h, sUf_k, sSt_k, jx_st_h, sSta_k, jx_sta_h, jx_el, sUst_k, sRet, jx_rt, sRetV, sCl_k, sThrow_h, eNew, jx_nw_h, sObj, eNa, List.getElem?_cons_zero, List.getElem?_cons_succ, List.set_cons_zero, List.set_cons_succ, List.cons_append, List.nil_append, List.replicate_succ, List.replicate_zero, List.length_cons, List.length_nil, List.all_cons, List.all_nil, Value.category, Bool.and_true, Bool.true_and, Bool.and_self, beq_self_eq_true, and_self, and_true, true_and, if_true, if_false, ite_true, ite_false, eq_self, List.mem_cons, List.mem_singleton, List.not_mem_nil, or_false, true_or, or_true, false_or, Nat.reduceSub, Nat.reduceAdd, decide_true, decide_false, Bool.not_true, Bool.not_false, Nat.zero_add, Bool.false_eq_true, va_rf, reduceCtorEq, Nat.reduceEqDiff, Nat.reduceLT, Nat.reduceMul, Nat.lt_irrefl, rNe_b, rEq_b, jx_ft_b, jx_ix_nI, rLt_n, rGe_n, rGt_n, rLe_n, rEq_n, rNe_n, rGt_0, rEq_0, rNe_0, rLt_0, rGe_0, rLe_0, nI_1s, kU_ok, kU_r, kA_ok, kA_r, kC_t, kC_f, kC_r, kO_ok, kO_l, kO_r, kE_ok, kN_ok, kR_ok, kE_t, kE_f, kN_t, kN_f, kR_t, kR_f, cH_1, cH_21, cH_sh, cH_da, cH_dk, cH_sl, cH_dt, cH_pn, cH_wd, cH_md, cS_sh, cS_pn, cS_pn0, cS_pn1, cS_sl, cS_dt, cS_wd, cS_pr, pm_eta, va_rf, b2i_t, b2i_f, Bool.true_or, Bool.false_or, Bool.or_true, Bool.or_false, Bool.false_and, Bool.and_false, q_need1, q_need0, q_allow1, q_allow0, q_Sh_isDisk, f_Sh_grow, bd_Sh_grow, hn, q, hq, hm5, e1, e2, oa, qfit, qab, rt, qc, r1, r2, r3, y1, hst2, hqY, qf, l2, hq2, vI]
                · refine RZ.off hb hG3 (by omega) (by omega) l1' l4 l5 (fun q hq => l6 q (by omega)) rfl (t := t) (mv := mv) (wd' := wd') ?_
                  generalize chS (pr, X, T, cv, cl, ct, cp) (nx1 (pr, X, T, cv, cl, ct, cp) N) = S at l2 ⊢
                  unfold cS at l2 ⊢
                  simp (disch := first | omega | assumption) only [jx_fn, jx_b_ok, jx_kb_ok, jx_b_inl, jx_kb_inl, jx_b_inr, jx_kb_inr, eInt, eNull, eI, eA, eBin, jx_op, oAdd_n, oMul_n, cCmp, cCmp0, jx_cp, cNull, jx_nl, cNot, cAnd_k, cOr_k, cIte_c, eIte_k, ck_ite, bf_and, bf_or, bf_not, ck_int, ck_10, ck_nI, cond_true, cond_false, oSub_g, nIs_le, oDiv_s, ck_n10, eGf, jx_gf, eLd, jx_ld, eLda, jx_lda, eLen, jx_len, eCl, jx_as, jx_ec, jx_ev, jx_es, tb1, tb3, tbk, tbn, tbl, sAsg_k, jx_set, jx_ft_int, jx_ft_ref, jx_ft_null, jx_ft_z0, jx_ft_z1, sSeq_k, sIf_k, sSkip, sInc, sPf_k, jx_pf_h, sUf_k, sSt_k, jx_st_h, sSta_k, jx_sta_h, jx_el, sUst_k, sRet, jx_rt, sRetV, sCl_k, sThrow_h, eNew, jx_nw_h, sObj, eNa, List.getElem?_cons_zero, List.getElem?_cons_succ, List.set_cons_zero, List.set_cons_succ, List.cons_append, List.nil_append, List.replicate_succ, List.replicate_zero, List.length_cons, List.length_nil, List.all_cons, List.all_nil, Value.category, Bool.and_true, Bool.true_and, Bool.and_self, beq_self_eq_true, and_self, and_true, true_and, if_true, if_false, ite_true, ite_false, eq_self, List.mem_cons, List.mem_singleton, List.not_mem_nil, or_false, true_or, or_true, false_or, Nat.reduceSub, Nat.reduceAdd, decide_true, decide_false, Bool.not_true, Bool.not_false, Nat.zero_add, Bool.false_eq_true, va_rf, reduceCtorEq, Nat.reduceEqDiff, Nat.reduceLT, Nat.reduceMul, Nat.lt_irrefl, rNe_b, rEq_b, jx_ft_b, jx_ix_nI, rLt_n, rGe_n, rGt_n, rLe_n, rEq_n, rNe_n, rGt_0, rEq_0, rNe_0, rLt_0, rGe_0, rLe_0, nI_1s, kU_ok, kU_r, kA_ok, kA_r, kC_t, kC_f, kC_r, kO_ok, kO_l, kO_r, kE_ok, kN_ok, kR_ok, kE_t, kE_f, kN_t, kN_f, kR_t, kR_f, cH_1, cH_21, cH_sh, cH_da, cH_dk, cH_sl, cH_dt, cH_pn, cH_wd, cH_md, cS_sh, cS_pn, cS_pn0, cS_pn1, cS_sl, cS_dt, cS_wd, cS_pr, pm_eta, va_rf, b2i_t, b2i_f, Bool.true_or, Bool.false_or, Bool.or_true, Bool.or_false, Bool.false_and, Bool.and_false, q_need1, q_need0, q_allow1, q_allow0, q_Sh_isDisk, f_Sh_grow, bd_Sh_grow, hn, q, hq, hm5, e1, e2, oa, qfit, qab, rt, qc, r1, r2, r3, y1, hst2, hqY, qf, l2]
              · rw [chS_off (s := (pr, X, T, cv, cl, ct, cp)) l1]
                refine RZ.off hb hG3 (by omega) (by omega) (h2 := h3) l1 rfl rfl (fun q hq => hG3.2 q (by omega)) rfl (t := t) (mv := mv) (wd' := wd) ?_
                have qx := cN_out h3 b M fo pr X t mv wd 6 (.inr (9, [])) (by have := hG3.1.1; omega)
                rw [qx, ← hF.1] at qf
                unfold cS
                simp (disch := first | omega | assumption) only [jx_fn, jx_b_ok, jx_kb_ok, jx_b_inl, jx_kb_inl, jx_b_inr, jx_kb_inr, eInt, eNull, eI, eA, eBin, jx_op, oAdd_n, oMul_n, cCmp, cCmp0, jx_cp, cNull, jx_nl, cNot, cAnd_k, cOr_k, cIte_c, eIte_k, ck_ite, bf_and, bf_or, bf_not, ck_int, ck_10, ck_nI, cond_true, cond_false, oSub_g, nIs_le, oDiv_s, ck_n10, eGf, jx_gf, eLd, jx_ld, eLda, jx_lda, eLen, jx_len, eCl, jx_as, jx_ec, jx_ev, jx_es, tb1, tb3, tbk, tbn, tbl, sAsg_k, jx_set, jx_ft_int, jx_ft_ref, jx_ft_null, jx_ft_z0, jx_ft_z1, sSeq_k, sIf_k, sSkip, sInc, sPf_k, jx_pf_h, sUf_k, sSt_k, jx_st_h, sSta_k, jx_sta_h, jx_el, sUst_k, sRet, jx_rt, sRetV, sCl_k, sThrow_h, eNew, jx_nw_h, sObj, eNa, List.getElem?_cons_zero, List.getElem?_cons_succ, List.set_cons_zero, List.set_cons_succ, List.cons_append, List.nil_append, List.replicate_succ, List.replicate_zero, List.length_cons, List.length_nil, List.all_cons, List.all_nil, Value.category, Bool.and_true, Bool.true_and, Bool.and_self, beq_self_eq_true, and_self, and_true, true_and, if_true, if_false, ite_true, ite_false, eq_self, List.mem_cons, List.mem_singleton, List.not_mem_nil, or_false, true_or, or_true, false_or, Nat.reduceSub, Nat.reduceAdd, decide_true, decide_false, Bool.not_true, Bool.not_false, Nat.zero_add, Bool.false_eq_true, va_rf, reduceCtorEq, Nat.reduceEqDiff, Nat.reduceLT, Nat.reduceMul, Nat.lt_irrefl, rNe_b, rEq_b, jx_ft_b, jx_ix_nI, rLt_n, rGe_n, rGt_n, rLe_n, rEq_n, rNe_n, rGt_0, rEq_0, rNe_0, rLt_0, rGe_0, rLe_0, nI_1s, kU_ok, kU_r, kA_ok, kA_r, kC_t, kC_f, kC_r, kO_ok, kO_l, kO_r, kE_ok, kN_ok, kR_ok, kE_t, kE_f, kN_t, kN_f, kR_t, kR_f, cH_1, cH_21, cH_sh, cH_da, cH_dk, cH_sl, cH_dt, cH_pn, cH_wd, cH_md, cS_sh, cS_pn, cS_pn0, cS_pn1, cS_sl, cS_dt, cS_wd, cS_pr, pm_eta, va_rf, b2i_t, b2i_f, Bool.true_or, Bool.false_or, Bool.or_true, Bool.or_false, Bool.false_and, Bool.and_false, q_need1, q_need0, q_allow1, q_allow0, q_Sh_isDisk, f_Sh_grow, bd_Sh_grow, hn, q, hq, hm5, e1, e2, oa, qfit, qab, rt, qc, r1, r2, r3, y1, hst2, hqY, qf]
          · rw [show sp_grow (nI m) (nI n') (pr, (sl, dt, true, lf, mo), T, cv, cl, ct, cp) = (4, nI 0, pr, (sl, dt, true, lf, mo), T, cv, cl, ct, cp) from by simp only [sp_grow, hV, k1, h3', h4, Bool.not_true, cond_false, cond_true]]
            refine RZ.thr (wd := wd) hb hC' (c := 4) (k := 11) (by decide) rfl ?_
            simp (disch := first | omega | assumption) only [jx_fn, jx_b_ok, jx_kb_ok, jx_b_inl, jx_kb_inl, jx_b_inr, jx_kb_inr, eInt, eNull, eI, eA, eBin, jx_op, oAdd_n, oMul_n, cCmp, cCmp0, jx_cp, cNull, jx_nl, cNot, cAnd_k, cOr_k, cIte_c, eIte_k, ck_ite, bf_and, bf_or, bf_not, ck_int, ck_10, ck_nI, cond_true, cond_false, oSub_g, nIs_le, oDiv_s, ck_n10, eGf, jx_gf, eLd, jx_ld, eLda, jx_lda, eLen, jx_len, eCl, jx_as, jx_ec, jx_ev, jx_es, tb1, tb3, tbk, tbn, tbl, sAsg_k, jx_set, jx_ft_int, jx_ft_ref, jx_ft_null, jx_ft_z0, jx_ft_z1, sSeq_k, sIf_k, sSkip, sInc, sPf_k, jx_pf_h, sUf_k, sSt_k, jx_st_h, sSta_k, jx_sta_h, jx_el, sUst_k, sRet, jx_rt, sRetV, sCl_k, sThrow_h, eNew, jx_nw_h, sObj, eNa, List.getElem?_cons_zero, List.getElem?_cons_succ, List.set_cons_zero, List.set_cons_succ, List.cons_append, List.nil_append, List.replicate_succ, List.replicate_zero, List.length_cons, List.length_nil, List.all_cons, List.all_nil, Value.category, Bool.and_true, Bool.true_and, Bool.and_self, beq_self_eq_true, and_self, and_true, true_and, if_true, if_false, ite_true, ite_false, eq_self, List.mem_cons, List.mem_singleton, List.not_mem_nil, or_false, true_or, or_true, false_or, Nat.reduceSub, Nat.reduceAdd, decide_true, decide_false, Bool.not_true, Bool.not_false, Nat.zero_add, Bool.false_eq_true, va_rf, reduceCtorEq, Nat.reduceEqDiff, Nat.reduceLT, Nat.reduceMul, Nat.lt_irrefl, rNe_b, rEq_b, jx_ft_b, jx_ix_nI, rLt_n, rGe_n, rGt_n, rLe_n, rEq_n, rNe_n, rGt_0, rEq_0, rNe_0, rLt_0, rGe_0, rLe_0, nI_1s, kU_ok, kU_r, kA_ok, kA_r, kC_t, kC_f, kC_r, kO_ok, kO_l, kO_r, kE_ok, kN_ok, kR_ok, kE_t, kE_f, kN_t, kN_f, kR_t, kR_f, cH_1, cH_21, cH_sh, cH_da, cH_dk, cH_sl, cH_dt, cH_pn, cH_wd, cH_md, cS_sh, cS_pn, cS_pn0, cS_pn1, cS_sl, cS_dt, cS_wd, cS_pr, pm_eta, va_rf, b2i_t, b2i_f, Bool.true_or, Bool.false_or, Bool.or_true, Bool.or_false, Bool.false_and, Bool.and_false, q_need1, q_need0, q_allow1, q_allow0, q_Sh_isDisk, f_Sh_grow, bd_Sh_grow, cS, hn, q, hq, hm5, e1, e2, oa, qfit, qab]
        · rw [show sp_grow (nI m) n (pr, (sl, dt, true, lf, mo), T, cv, cl, ct, cp) = (3, nI 0, pr, (sl, dt, true, lf, mo), T, cv, cl, ct, cp) from by simp only [sp_grow, hV, k1, h3, Bool.not_true, cond_false, cond_true]]
          refine RZ.thr (wd := wd) hb hC' (c := 3) (k := 10) (by decide) rfl ?_
          cases g1 : rLt n (nI 1) <;> rw [g1] at h3 e1
          · cases g2 : rGt n (nI 5) <;> rw [g2] at h3 e2
            · have g3 : fitsB (nI (colsN T m)) (nI (elsN T m) + n) = false := by
                cases hz : fitsB (nI (colsN T m)) (nI (elsN T m) + n)
                · rfl
                · rw [hz] at h3; cases h3
              rw [g3] at qfit
              simp (disch := first | omega | assumption) only [jx_fn, jx_b_ok, jx_kb_ok, jx_b_inl, jx_kb_inl, jx_b_inr, jx_kb_inr, eInt, eNull, eI, eA, eBin, jx_op, oAdd_n, oMul_n, cCmp, cCmp0, jx_cp, cNull, jx_nl, cNot, cAnd_k, cOr_k, cIte_c, eIte_k, ck_ite, bf_and, bf_or, bf_not, ck_int, ck_10, ck_nI, cond_true, cond_false, oSub_g, nIs_le, oDiv_s, ck_n10, eGf, jx_gf, eLd, jx_ld, eLda, jx_lda, eLen, jx_len, eCl, jx_as, jx_ec, jx_ev, jx_es, tb1, tb3, tbk, tbn, tbl, sAsg_k, jx_set, jx_ft_int, jx_ft_ref, jx_ft_null, jx_ft_z0, jx_ft_z1, sSeq_k, sIf_k, sSkip, sInc, sPf_k, jx_pf_h, sUf_k, sSt_k, jx_st_h, sSta_k, jx_sta_h, jx_el, sUst_k, sRet, jx_rt, sRetV, sCl_k, sThrow_h, eNew, jx_nw_h, sObj, eNa, List.getElem?_cons_zero, List.getElem?_cons_succ, List.set_cons_zero, List.set_cons_succ, List.cons_append, List.nil_append, List.replicate_succ, List.replicate_zero, List.length_cons, List.length_nil, List.all_cons, List.all_nil, Value.category, Bool.and_true, Bool.true_and, Bool.and_self, beq_self_eq_true, and_self, and_true, true_and, if_true, if_false, ite_true, ite_false, eq_self, List.mem_cons, List.mem_singleton, List.not_mem_nil, or_false, true_or, or_true, false_or, Nat.reduceSub, Nat.reduceAdd, decide_true, decide_false, Bool.not_true, Bool.not_false, Nat.zero_add, Bool.false_eq_true, va_rf, reduceCtorEq, Nat.reduceEqDiff, Nat.reduceLT, Nat.reduceMul, Nat.lt_irrefl, rNe_b, rEq_b, jx_ft_b, jx_ix_nI, rLt_n, rGe_n, rGt_n, rLe_n, rEq_n, rNe_n, rGt_0, rEq_0, rNe_0, rLt_0, rGe_0, rLe_0, nI_1s, kU_ok, kU_r, kA_ok, kA_r, kC_t, kC_f, kC_r, kO_ok, kO_l, kO_r, kE_ok, kN_ok, kR_ok, kE_t, kE_f, kN_t, kN_f, kR_t, kR_f, cH_1, cH_21, cH_sh, cH_da, cH_dk, cH_sl, cH_dt, cH_pn, cH_wd, cH_md, cS_sh, cS_pn, cS_pn0, cS_pn1, cS_sl, cS_dt, cS_wd, cS_pr, pm_eta, va_rf, b2i_t, b2i_f, Bool.true_or, Bool.false_or, Bool.or_true, Bool.or_false, Bool.false_and, Bool.and_false, q_need1, q_need0, q_allow1, q_allow0, q_Sh_isDisk, f_Sh_grow, bd_Sh_grow, cS, hn, q, hq, hm5, e1, e2, oa, qfit]
            · simp (disch := first | omega | assumption) only [jx_fn, jx_b_ok, jx_kb_ok, jx_b_inl, jx_kb_inl, jx_b_inr, jx_kb_inr, eInt, eNull, eI, eA, eBin, jx_op, oAdd_n, oMul_n, cCmp, cCmp0, jx_cp, cNull, jx_nl, cNot, cAnd_k, cOr_k, cIte_c, eIte_k, ck_ite, bf_and, bf_or, bf_not, ck_int, ck_10, ck_nI, cond_true, cond_false, oSub_g, nIs_le, oDiv_s, ck_n10, eGf, jx_gf, eLd, jx_ld, eLda, jx_lda, eLen, jx_len, eCl, jx_as, jx_ec, jx_ev, jx_es, tb1, tb3, tbk, tbn, tbl, sAsg_k, jx_set, jx_ft_int, jx_ft_ref, jx_ft_null, jx_ft_z0, jx_ft_z1, sSeq_k, sIf_k, sSkip, sInc, sPf_k, jx_pf_h, sUf_k, sSt_k, jx_st_h, sSta_k, jx_sta_h, jx_el, sUst_k, sRet, jx_rt, sRetV, sCl_k, sThrow_h, eNew, jx_nw_h, sObj, eNa, List.getElem?_cons_zero, List.getElem?_cons_succ, List.set_cons_zero, List.set_cons_succ, List.cons_append, List.nil_append, List.replicate_succ, List.replicate_zero, List.length_cons, List.length_nil, List.all_cons, List.all_nil, Value.category, Bool.and_true, Bool.true_and, Bool.and_self, beq_self_eq_true, and_self, and_true, true_and, if_true, if_false, ite_true, ite_false, eq_self, List.mem_cons, List.mem_singleton, List.not_mem_nil, or_false, true_or, or_true, false_or, Nat.reduceSub, Nat.reduceAdd, decide_true, decide_false, Bool.not_true, Bool.not_false, Nat.zero_add, Bool.false_eq_true, va_rf, reduceCtorEq, Nat.reduceEqDiff, Nat.reduceLT, Nat.reduceMul, Nat.lt_irrefl, rNe_b, rEq_b, jx_ft_b, jx_ix_nI, rLt_n, rGe_n, rGt_n, rLe_n, rEq_n, rNe_n, rGt_0, rEq_0, rNe_0, rLt_0, rGe_0, rLe_0, nI_1s, kU_ok, kU_r, kA_ok, kA_r, kC_t, kC_f, kC_r, kO_ok, kO_l, kO_r, kE_ok, kN_ok, kR_ok, kE_t, kE_f, kN_t, kN_f, kR_t, kR_f, cH_1, cH_21, cH_sh, cH_da, cH_dk, cH_sl, cH_dt, cH_pn, cH_wd, cH_md, cS_sh, cS_pn, cS_pn0, cS_pn1, cS_sl, cS_dt, cS_wd, cS_pr, pm_eta, va_rf, b2i_t, b2i_f, Bool.true_or, Bool.false_or, Bool.or_true, Bool.or_false, Bool.false_and, Bool.and_false, q_need1, q_need0, q_allow1, q_allow0, q_Sh_isDisk, f_Sh_grow, bd_Sh_grow, cS, hn, q, hq, hm5, e1, e2]
          · simp (disch := first | omega | assumption) only [jx_fn, jx_b_ok, jx_kb_ok, jx_b_inl, jx_kb_inl, jx_b_inr, jx_kb_inr, eInt, eNull, eI, eA, eBin, jx_op, oAdd_n, oMul_n, cCmp, cCmp0, jx_cp, cNull, jx_nl, cNot, cAnd_k, cOr_k, cIte_c, eIte_k, ck_ite, bf_and, bf_or, bf_not, ck_int, ck_10, ck_nI, cond_true, cond_false, oSub_g, nIs_le, oDiv_s, ck_n10, eGf, jx_gf, eLd, jx_ld, eLda, jx_lda, eLen, jx_len, eCl, jx_as, jx_ec, jx_ev, jx_es, tb1, tb3, tbk, tbn, tbl, sAsg_k, jx_set, jx_ft_int, jx_ft_ref, jx_ft_null, jx_ft_z0, jx_ft_z1, sSeq_k, sIf_k, sSkip, sInc, sPf_k, jx_pf_h, sUf_k, sSt_k, jx_st_h, sSta_k, jx_sta_h, jx_el, sUst_k, sRet, jx_rt, sRetV, sCl_k, sThrow_h, eNew, jx_nw_h, sObj, eNa, List.getElem?_cons_zero, List.getElem?_cons_succ, List.set_cons_zero, List.set_cons_succ, List.cons_append, List.nil_append, List.replicate_succ, List.replicate_zero, List.length_cons, List.length_nil, List.all_cons, List.all_nil, Value.category, Bool.and_true, Bool.true_and, Bool.and_self, beq_self_eq_true, and_self, and_true, true_and, if_true, if_false, ite_true, ite_false, eq_self, List.mem_cons, List.mem_singleton, List.not_mem_nil, or_false, true_or, or_true, false_or, Nat.reduceSub, Nat.reduceAdd, decide_true, decide_false, Bool.not_true, Bool.not_false, Nat.zero_add, Bool.false_eq_true, va_rf, reduceCtorEq, Nat.reduceEqDiff, Nat.reduceLT, Nat.reduceMul, Nat.lt_irrefl, rNe_b, rEq_b, jx_ft_b, jx_ix_nI, rLt_n, rGe_n, rGt_n, rLe_n, rEq_n, rNe_n, rGt_0, rEq_0, rNe_0, rLt_0, rGe_0, rLe_0, nI_1s, kU_ok, kU_r, kA_ok, kA_r, kC_t, kC_f, kC_r, kO_ok, kO_l, kO_r, kE_ok, kN_ok, kR_ok, kE_t, kE_f, kN_t, kN_f, kR_t, kR_f, cH_1, cH_21, cH_sh, cH_da, cH_dk, cH_sl, cH_dt, cH_pn, cH_wd, cH_md, cS_sh, cS_pn, cS_pn0, cS_pn1, cS_sl, cS_dt, cS_wd, cS_pr, pm_eta, va_rf, b2i_t, b2i_f, Bool.true_or, Bool.false_or, Bool.or_true, Bool.or_false, Bool.false_and, Bool.and_false, q_need1, q_need0, q_allow1, q_allow0, q_Sh_isDisk, f_Sh_grow, bd_Sh_grow, cS, hn, q, hq, hm5, e1]
end U8
