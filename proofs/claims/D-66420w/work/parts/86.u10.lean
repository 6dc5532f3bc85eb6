/-! THE COMPONENT's CALLS: mend -/
theorem mds_s {c cv cl : Nat} {pr : Nat → Bool} {T : Nat → Nat} {v : Nat} : ∀ (m k : Nat) (U : Nat → Nat), mds c cv cl pr T v k (m + 1) U = match mds c cv cl pr T v k m U with
    | none => none
    | some W => md1 c cv cl pr T v (k + m) W := by
  intro m
  induction m with
  | zero =>
    intro k U
    show (match md1 c cv cl pr T v k U with
      | none => none
      | some U' => some U') = md1 c cv cl pr T v k U
    cases md1 c cv cl pr T v k U <;> rfl
  | succ m ih =>
    intro k U
    show (match md1 c cv cl pr T v k U with
      | none => none
      | some U' => mds c cv cl pr T v (k + 1) (m + 1) U') = match (match md1 c cv cl pr T v k U with
      | none => none
      | some U' => mds c cv cl pr T v (k + 1) m U') with
      | none => none
      | some W => md1 c cv cl pr T v (k + (m + 1)) W
    cases md1 c cv cl pr T v k U with
    | none => rfl
    | some U' =>
      have e : k + (m + 1) = k + 1 + m := by omega
      rw [e]
      exact ih (k + 1) U'
theorem mds_n {c cv cl : Nat} {pr : Nat → Bool} {T : Nat → Nat} {v k m : Nat} {U : Nat → Nat} (h : mds c cv cl pr T v k m U = none) : ∀ n, m ≤ n → mds c cv cl pr T v k n U = none := by
  intro n
  induction n with
  | zero => intro hn; have : m = 0 := by omega
            rw [← this]; exact h
  | succ n ih =>
    intro hn
    by_cases e : m = n + 1
    · rw [← e]; exact h
    · rw [mds_s, ih (by omega)]
/-- what mds has laid so far -/
theorem mds_WT {c cv cl : Nat} {pr : Nat → Bool} {T : Nat → Nat} {v : Nat} (hv : v < 4) (hW : WT T) (h0 : T (5 + v) ≠ 0) (hk : T (5 + v) % 4 = 3) : ∀ (m : Nat) {N : Nat → Nat}, m ≤ 2 * elsN T v → mds c cv cl pr T v 0 m T = some N → WT N ∧ (∀ j, j < 9 → N j = T j) ∧ (∀ j, ¬ (9 + 10 * v ≤ j ∧ j < 9 + 10 * v + m) → N j = T j) ∧ ∀ k, k < 10 → N (9 + 10 * v + k) = T (9 + 10 * v + k) ∨ (T (9 + 10 * v + k) = 0 ∧ 0 < T (9 + 10 * v + twN k) ∧ 0 < N (9 + 10 * v + k)) := by
  intro m
  induction m with
  | zero =>
    intro N _ h
    have e : T = N := Option.some.inj h
    subst e
    exact ⟨hW, fun _ _ => rfl, fun _ _ => rfl, fun k _ => Or.inl rfl⟩
  | succ m ih =>
    intro N hm h
    rw [mds_s] at h
    cases hW2 : mds c cv cl pr T v 0 m T with
    | none => rw [hW2] at h; cases h
    | some W =>
      rw [hW2] at h
      dsimp only at h
      obtain ⟨i1, i2, i3, i4⟩ := ih (by omega) hW2
      have e5 : W (5 + v) = T (5 + v) := i2 _ (by omega)
      rw [Nat.zero_add] at h
      unfold md1 at h
      cases hz : (decide (T (9 + 10 * v + m) = 0) && decide (0 < T (9 + 10 * v + twN m))) <;> rw [hz] at h
      · have e : W = N := Option.some.inj h
        subst e
        exact ⟨i1, i2, fun j hj => i3 j (by omega), i4⟩
      · rw [cond_true] at h
        rw [Bool.and_eq_true, decide_eq_true_iff, decide_eq_true_iff] at hz
        by_cases hr : rom W c cv cl pr v m (-1) = 0
        · rw [decide_eq_true hr] at h; cases h
        · rw [decide_eq_false hr] at h
          have e : upN W (9 + 10 * v + m) (rom W c cv cl pr v m (-1)) = N := Option.some.inj h
          obtain ⟨r1, r2, r3, _⟩ := rom_ok hr
          subst e
          refine ⟨i1.leg hv (by rw [e5]; exact h0) (by unfold elsN at hm ⊢; rw [e5]; omega) (fun z => absurd (by rw [e5]; exact hk) z) r2 r3, fun j hj => by rw [upN_o _ _ (by omega)]; exact i2 j hj, fun j hj => by rw [upN_o _ _ (by omega)]; exact i3 j (by omega), fun k hk' => ?_⟩
          by_cases z : k = m
          · subst z
            rw [upN_s]
            exact Or.inr ⟨hz.1, hz.2, by omega⟩
          · rw [upN_o _ _ (by omega)]
            exact i4 k hk'
theorem oXor_1 {k : Nat} (hk : k < 10) : oXor (nI k) (nI 1) = some (nI (twN k)) := by
  have : ∀ n, n < 10 → oXor (nI n) (nI 1) = some (nI (twN n)) := by decide +kernel
  exact this k hk
theorem twN_h {k : Nat} : twN k / 2 = k / 2 := by
  unfold twN
  by_cases h : k % 2 = 0
  · rw [decide_eq_true h, cond_true]; omega
  · rw [decide_eq_false h, cond_false]; omega
theorem cpys_PM {m : Int32} {y : xA} (h : PM m y) (T N : Nat → Nat) (v n : Nat) : PM m (cpys T N v n y) := by
  unfold cpys
  refine itr_keep (P := PM m) (fun k z hz => ?_) h n
  cases decide (N (9 + 10 * v + k) = T (9 + 10 * v + k))
  · rw [cond_false]
    unfold cpy1
    exact itr_keep (P := PM m) (fun k z hz => wD_PM hz _ _) hz 4
  · exact hz
theorem itr_end {α : Type} {f : Nat → α → α} {a : Nat} : ∀ {c : Nat}, a ≤ c → (∀ i x, a ≤ i → i < c → f i x = x) → ∀ x, itr f c x = itr f a x := by
  intro c
  induction c with
  | zero => intro h _ x; have : a = 0 := by omega
            rw [this]
  | succ c ih =>
    intro h hz x
    by_cases e : a = c + 1
    · rw [e]
    · show f c (itr f c x) = _
      rw [hz c _ (by omega) (by omega)]
      exact ih (by omega) (fun i x h1 h2 => hz i x h1 (by omega)) x
section RZ
variable {h h1 : jx_S} {b : Nat} {M : cM} {fo : Nat → Int64} {s' : xS} {t : Nat} {mv : Value} {wd : Nat → Int32} {cls : Nat → Nat} {rv : Int32 → Option Value} {o : Option (Outcome × jx_S)} {n m : Nat}
theorem RZ.ret2 (hb : b ≤ h.1) (hG : Gw n m h h1) (hn : n ≤ 80) (hm : m ≤ 600) (hC : s'.2.1.2.2.1 = true → ∃ lo hi, CR b h1 s' t mv lo hi) {a : Int32} {ov : Option Value} (hov : ov = rv a) (ho : o = some (.returned ov, cS h1 b M fo s' t mv wd)) : RZ b M fo h cls rv (0, a, s') o := by
  subst hov
  obtain ⟨⟨a1, a2, a3, a4⟩, a5⟩ := hG
  exact ⟨_, _, _, _, _, ho, Or.inl ⟨rfl, rfl⟩, ⟨by omega, by omega, by omega, by omega, fun q hq => a5 q (by omega)⟩, hC⟩
end RZ
section U10
set_option maxHeartbeats 16000000 in
theorem u_mend (h : jx_S) (b : Nat) (M : cM) (fo : Nat → Int64) (s : xS) (t : Nat) (mv : Value) (wd : Nat → Int32) (hs : IM s) (hmv : MV s) (hb : b + 26 ≤ h.1) (hC : s.2.1.2.2.1 = true → ∃ lo hi, CR b h s t mv lo hi) (v : Int32) : RZ b M fo h clB vI (sp_mend v s) (f_Sh_mend [.ref b, .int v] (cS h b M fo s t mv wd)) := by
  obtain ⟨pr, ⟨sl, dt, on, lf, mo⟩, T, cv, cl, ct, cp⟩ := s
  obtain ⟨hW, hcv, hcl, hct, hcp, hmo, h30⟩ := hs
  dsimp only at hW hcv hcl hct hcp hmo h30 hC
  have hT := hW.1
  have hn := q_needOn h b M fo pr (sl, dt, on, lf, mo) t mv wd
  cases on
  · refine RZ.thr (wd := wd) hb hC (c := 1) (k := 9) (by decide) rfl ?_
    simp (disch := first | omega | assumption) only [jx_fn, jx_b_ok, jx_kb_ok, jx_b_inl, jx_kb_inl, jx_b_inr, jx_kb_inr, eInt, eNull, eI, eA, eBin, jx_op, oAdd_n, oMul_n, cCmp, cCmp0, jx_cp, cNull, jx_nl, cNot, cAnd_k, cOr_k, cIte_c, eIte_k, ck_ite, bf_and, bf_or, bf_not, ck_int, ck_10, ck_nI, cond_true, cond_false, oSub_g, nIs_le, oDiv_s, ck_n10, eGf, jx_gf, eLd, jx_ld, eLda, jx_lda, eLen, jx_len, eCl, jx_as, jx_ec, jx_ev, jx_es, tb1, tb3, tbk, tbn, tbl, sAsg_k, jx_set, jx_ft_int, jx_ft_ref, jx_ft_null, jx_ft_z0, jx_ft_z1, sSeq_k, sIf_k, sSkip, sInc, sPf_k, jx_pf_h, sUf_k, sSt_k, jx_st_h, sSta_k, jx_sta_h, jx_el, sUst_k, sRet, jx_rt, sRetV, sCl_k, sThrow_h, eNew, jx_nw_h, sObj, eNa, List.getElem?_cons_zero, List.getElem?_cons_succ, List.set_cons_zero, List.set_cons_succ, List.cons_append, List.nil_append, List.replicate_succ, List.replicate_zero, List.length_cons, List.length_nil, List.all_cons, List.all_nil, Value.category, Bool.and_true, Bool.true_and, Bool.and_self, beq_self_eq_true, and_self, and_true, true_and, if_true, if_false, ite_true, ite_false, eq_self, List.mem_cons, List.mem_singleton, List.not_mem_nil, or_false, true_or, or_true, false_or, Nat.reduceSub, Nat.reduceAdd, decide_true, decide_false, Bool.not_true, Bool.not_false, Nat.zero_add, Bool.false_eq_true, va_rf, reduceCtorEq, Nat.reduceEqDiff, Nat.reduceLT, Nat.reduceMul, Nat.lt_irrefl, rNe_b, rEq_b, jx_ft_b, jx_ix_nI, rLt_n, rGe_n, rGt_n, rLe_n, rEq_n, rNe_n, rGt_0, rEq_0, rNe_0, rLt_0, rGe_0, rLe_0, nI_1s, kU_ok, kU_r, kA_ok, kA_r, kC_t, kC_f, kC_r, kO_ok, kO_l, kO_r, kE_ok, kN_ok, kR_ok, kE_t, kE_f, kN_t, kN_f, kR_t, kR_f, cH_1, cH_21, cH_sh, cH_da, cH_dk, cH_sl, cH_dt, cH_pn, cH_wd, cH_md, cS_sh, cS_pn, cS_pn0, cS_pn1, cS_sl, cS_dt, cS_wd, cS_pr, pm_eta, va_rf, b2i_t, b2i_f, Bool.true_or, Bool.false_or, Bool.or_true, Bool.or_false, Bool.false_and, Bool.and_false, q_need1, q_need0, q_allow1, q_allow0, q_Sh_isDisk, f_Sh_mend, bd_Sh_mend, cS, hn]
  · have hC' := hC
    obtain ⟨lo, hi, c1, c2, c3, c4⟩ := hC rfl
    dsimp only at c3
    have hCR : CR b h (pr, (sl, dt, true, lf, mo), T, cv, cl, ct, cp) t mv lo hi := ⟨c1, c2, c3, c4⟩
    cases hV : isV T v
    · rw [show sp_mend v (pr, (sl, dt, true, lf, mo), T, cv, cl, ct, cp) = (2, nI 0, pr, (sl, dt, true, lf, mo), T, cv, cl, ct, cp) from by simp only [sp_mend, hV, Bool.not_true, Bool.not_false, cond_false, cond_true]]
      refine RZ.thr (wd := wd) hb hC' (c := 2) (k := 12) (by decide) rfl ?_
      have q := q_Sh_volumeAt_x h b M fo pr (sl, dt, true, lf, mo) t mv wd c1 c3 v hV
      simp (disch := first | omega | assumption) only [jx_fn, jx_b_ok, jx_kb_ok, jx_b_inl, jx_kb_inl, jx_b_inr, jx_kb_inr, eInt, eNull, eI, eA, eBin, jx_op, oAdd_n, oMul_n, cCmp, cCmp0, jx_cp, cNull, jx_nl, cNot, cAnd_k, cOr_k, cIte_c, eIte_k, ck_ite, bf_and, bf_or, bf_not, ck_int, ck_10, ck_nI, cond_true, cond_false, oSub_g, nIs_le, oDiv_s, ck_n10, eGf, jx_gf, eLd, jx_ld, eLda, jx_lda, eLen, jx_len, eCl, jx_as, jx_ec, jx_ev, jx_es, tb1, tb3, tbk, tbn, tbl, sAsg_k, jx_set, jx_ft_int, jx_ft_ref, jx_ft_null, jx_ft_z0, jx_ft_z1, sSeq_k, sIf_k, sSkip, sInc, sPf_k, jx_pf_h, sUf_k, sSt_k, jx_st_h, sSta_k, jx_sta_h, jx_el, sUst_k, sRet, jx_rt, sRetV, sCl_k, sThrow_h, eNew, jx_nw_h, sObj, eNa, List.getElem?_cons_zero, List.getElem?_cons_succ, List.set_cons_zero, List.set_cons_succ, List.cons_append, List.nil_append, List.replicate_succ, List.replicate_zero, List.length_cons, List.length_nil, List.all_cons, List.all_nil, Value.category, Bool.and_true, Bool.true_and, Bool.and_self, beq_self_eq_true, and_self, and_true, true_and, if_true, if_false, ite_true, ite_false, eq_self, List.mem_cons, List.mem_singleton, List.not_mem_nil, or_false, true_or, or_true, false_or, Nat.reduceSub, Nat.reduceAdd, decide_true, decide_false, Bool.not_true, Bool.not_false, Nat.zero_add, Bool.false_eq_true, va_rf, reduceCtorEq, Nat.reduceEqDiff, Nat.reduceLT, Nat.reduceMul, Nat.lt_irrefl, rNe_b, rEq_b, jx_ft_b, jx_ix_nI, rLt_n, rGe_n, rGt_n, rLe_n, rEq_n, rNe_n, rGt_0, rEq_0, rNe_0, rLt_0, rGe_0, rLe_0, nI_1s, kU_ok, kU_r, kA_ok, kA_r, kC_t, kC_f, kC_r, kO_ok, kO_l, kO_r, kE_ok, kN_ok, kR_ok, kE_t, kE_f, kN_t, kN_f, kR_t, kR_f, cH_1, cH_21, cH_sh, cH_da, cH_dk, cH_sl, cH_dt, cH_pn, cH_wd, cH_md, cS_sh, cS_pn, cS_pn0, cS_pn1, cS_sl, cS_dt, cS_wd, cS_pr, pm_eta, va_rf, b2i_t, b2i_f, Bool.true_or, Bool.false_or, Bool.or_true, Bool.or_false, Bool.false_and, Bool.and_false, q_need1, q_need0, q_allow1, q_allow0, q_Sh_isDisk, f_Sh_mend, bd_Sh_mend, cS, hn, q]
    · rcases isV_cases T v with ⟨z1, z2⟩ | ⟨m, h1, rfl, h2⟩
      · rw [z2] at hV; cases hV
      · have h0 : T (5 + m) ≠ 0 := fun z => by rw [hV, decide_eq_true z] at h2; cases h2
        have k1 : (nI m).toNatClampNeg = m := clampI _ (by omega)
        have qab := q_Sh_isOneAbsent h b M fo pr (sl, dt, true, lf, mo) t mv wd c1 c3 hT
        have c3' := c3
        obtain ⟨ea0, va0, qa0, la0, fe0, fv0, fl0, c3'⟩ := c3'
        have q := q_Sh_volumeAt h b M fo pr (sl, dt, true, lf, mo) t mv wd c1 c3' m h1 h0
        have rt := (cTPa h b M fo pr (sl, dt, true, lf, mo) t mv wd c1 c3').2.2.2.2.1
        have he5 := (hW.TB.2.2.1 m h1).2
        have hvo := ((cTPa h b M fo pr (sl, dt, true, lf, mo) t mv wd c1 c3').vol hW h1 h0).2.1
        obtain ⟨v1, v2, hq⟩ := hvo
        have ql := q_lF (cH h b M fo pr ((sl, dt, true, lf, mo)) t mv wd) (qa0 m) (T (5 + m) % 4) v1 v2
        by_cases hk3 : T (5 + m) % 4 = 3
        · rw [decide_eq_true hk3, cond_true] at ql
          have hm5 := mem567 v1 v2
          cases h4 : absn T pr <;> rw [h4] at qab
          · obtain ⟨h1', qc, hp2, hG⟩ := q_copy h b M fo pr (sl, dt, true, lf, mo) t mv wd hb c1 c3 c2 hW
            obtain ⟨ea, va, qa, la, fe, fv, fl, hp2⟩ := hp2
            have cpx := cTPa h1' b M fo pr (sl, dt, true, lf, mo) t mv wd (Or.inl hb) hp2
            have r1 := cpx.2.2.2.2.1
            have r2 := cpx.2.2.2.2.2.2.2.1
            have r3 := cpx.2.2.2.2.2.2.2.2.1 m h1
            rw [if_neg h0] at r3
            have bo := c3'.2.2.2.1 m h1 h0
            have hn1 := hG.1.1
            -- the old volume, wherever the copy is written
            have hold : ∀ (h4 : jx_S) (y : xA), FR h.1 h1'.1 h1' h4 → (cH h4 b M fo pr y t mv wd).2.2 (qa0 m) = some (.inr (4 + T (5 + m) % 4, [.int (nI (colsN T m)), .int (nI (elsN T m)), .ref (la0 m)])) ∧ (cH h4 b M fo pr y t mv wd).2.2 (la0 m) = some (.inl (0, 10, .inl (fl0 m))) ∧ ∀ k, k < 10 → fl0 m k = nI (T (9 + 10 * m + k)) := fun h4 y hF => by
              obtain ⟨x1, x2, x3⟩ := c3'.2.2.2.2.2.2.2.2.2.1 m h1 h0
              refine ⟨?_, ?_, x3⟩
              · rw [cH_out h4 b M fo pr y t mv wd (by unfold OUT at c1; omega), hF.2.2 _ (by omega), hG.2 _ (by omega)]
                exact x1
              · rw [cH_out h4 b M fo pr y t mv wd (by unfold OUT at c1; omega), hF.2.2 _ (by omega), hG.2 _ (by omega)]
                exact x2
            -- the copy's volume
            have hnew2 : ∀ (h4 : jx_S) (y : xA) (W4 : Nat → Nat) (fl4 : Nat → Nat → Int32), W4 (5 + m) = T (5 + m) → TPa h4 h.1 h1'.1 h.1 W4 ea va qa la fe fv fl4 → (cH h4 b M fo pr y t mv wd).2.2 (qa m) = some (.inr (4 + T (5 + m) % 4, [.int (nI (colsN T m)), .int (nI (elsN T m)), .ref (la m)])) ∧ (cH h4 b M fo pr y t mv wd).2.2 (la m) = some (.inl (0, 10, .inl (fl4 m))) ∧ ∀ k, k < 10 → fl4 m k = nI (W4 (9 + 10 * m + k)) := fun h4 y W4 fl4 z1 z2 => by
              have := (cTPa h4 b M fo pr y t mv wd (Or.inl hb) z2).2.2.2.2.2.2.2.2.2.1 m h1 (by rw [z1]; exact h0)
              have e1 : colsN W4 m = colsN T m := by unfold colsN; rw [z1]
              have e2 : elsN W4 m = elsN T m := by unfold elsN; rw [z1]
              rw [z1, e1, e2] at this
              exact this
            -- room for the lost legs
            have za := wh_inv (c := lc_Sh_mend_0) (A := lb_Sh_mend_0) (fun k L H' => ∃ h4 W4 fl4, L = [.ref b, .int (nI m), .ref (qa0 m), .ref h.1, .ref (qa m), .int (nI (cntB (fun k => decide (T (9 + 10 * m + k) = 0) && decide (0 < T (9 + 10 * m + twN k))) k)), .int (nI k), .double 0] ∧ H' = (cH (h4) b M fo pr ((sl, dt, true, lf, mo)) t mv wd) ∧ FR h.1 h1'.1 h1' h4 ∧ mds (ec mo ct) cv cl pr T m 0 k T = some W4 ∧ TPa h4 h.1 h1'.1 h.1 W4 ea va qa la fe fv fl4) (fun r => mds (ec mo ct) cv cl pr T m 0 (2 * elsN T m) T = none ∧ ∃ h4, FR h.1 h1'.1 h1' h4 ∧ r = (.threw h1'.1, hnew (cH (h4) b M fo pr ((sl, dt, true, lf, mo)) t mv wd) 6 (.inr (11, [])))) (2 * elsN T m) (fun k L H' hk hI => by
                obtain ⟨h4, W4, fl4, rfl, rfl, hF4, hW4, hp4⟩ := hI
                have y1 := (hold h4 (sl, dt, true, lf, mo) hF4).1
                simp (disch := first | omega | assumption) only [jx_fn, jx_b_ok, jx_kb_ok, jx_b_inl, jx_kb_inl, jx_b_inr, jx_kb_inr, eInt, eNull, eI, eA, eBin, jx_op, oAdd_n, oMul_n, cCmp, cCmp0, jx_cp, cNull, jx_nl, cNot, cAnd_k, cOr_k, cIte_c, eIte_k, ck_ite, bf_and, bf_or, bf_not, ck_int, ck_10, ck_nI, cond_true, cond_false, oSub_g, nIs_le, oDiv_s, ck_n10, eGf, jx_gf, eLd, jx_ld, eLda, jx_lda, eLen, jx_len, eCl, jx_as, jx_ec, jx_ev, jx_es, tb1, tb3, tbk, tbn, tbl, sAsg_k, jx_set, jx_ft_int, jx_ft_ref, jx_ft_null, jx_ft_z0, jx_ft_z1, sSeq_k, sIf_k, sSkip, sInc, sPf_k, jx_pf_h, sUf_k, sSt_k, jx_st_h, sSta_k, jx_sta_h, jx_el, sUst_k, sRet, jx_rt, sRetV, sCl_k, sThrow_h, eNew, jx_nw_h, sObj, eNa, List.getElem?_cons_zero, List.getElem?_cons_succ, List.set_cons_zero, List.set_cons_succ, List.cons_append, List.nil_append, List.replicate_succ, List.replicate_zero, List.length_cons, List.length_nil, List.all_cons, List.all_nil, Value.category, Bool.and_true, Bool.true_and, Bool.and_self, beq_self_eq_true, and_self, and_true, true_and, if_true, if_false, ite_true, ite_false, eq_self, List.mem_cons, List.mem_singleton, List.not_mem_nil, or_false, true_or, or_true, false_or, Nat.reduceSub, Nat.reduceAdd, decide_true, decide_false, Bool.not_true, Bool.not_false, Nat.zero_add, Bool.false_eq_true, va_rf, reduceCtorEq, Nat.reduceEqDiff, Nat.reduceLT, Nat.reduceMul, Nat.lt_irrefl, rNe_b, rEq_b, jx_ft_b, jx_ix_nI, rLt_n, rGe_n, rGt_n, rLe_n, rEq_n, rNe_n, rGt_0, rEq_0, rNe_0, rLt_0, rGe_0, rLe_0, nI_1s, kU_ok, kU_r, kA_ok, kA_r, kC_t, kC_f, kC_r, kO_ok, kO_l, kO_r, kE_ok, kN_ok, kR_ok, kE_t, kE_f, kN_t, kN_f, kR_t, kR_f, cH_1, cH_21, cH_sh, cH_da, cH_dk, cH_sl, cH_dt, cH_pn, cH_wd, cH_md, cS_sh, cS_pn, cS_pn0, cS_pn1, cS_sl, cS_dt, cS_wd, cS_pr, pm_eta, va_rf, b2i_t, b2i_f, Bool.true_or, Bool.false_or, Bool.or_true, Bool.or_false, Bool.false_and, Bool.and_false, q_need1, q_need0, q_allow1, q_allow0, q_Sh_isDisk, lc_Sh_mend_0, y1, hm5, eq_true (show k < 2 * elsN T m by omega)]) (fun k L H' hk hI => by
                obtain ⟨h4, W4, fl4, rfl, rfl, hF4, hW4, hp4⟩ := hI
                have hk10 : k < 10 := by omega
                obtain ⟨a1, a2, a3, a4⟩ := mds_WT h1 hW h0 hk3 k (by omega) hW4
                have a5 : W4 (5 + m) = T (5 + m) := a2 _ (by omega)
                obtain ⟨x1, x2, x3⟩ := hold h4 (sl, dt, true, lf, mo) hF4
                obtain ⟨y1, y2, y3⟩ := hnew2 h4 (sl, dt, true, lf, mo) W4 fl4 a5 hp4
                have ox := oXor_1 hk10
                have tw10 : twN k < 10 := by have := twN_h (k := k); omega
                have x4 := x3 k hk10
                have x5 := x3 (twN k) tw10
                have bT1 := hT (9 + 10 * m + k)
                have bT2 := hT (9 + 10 * m + twN k)
                have hmd : mds (ec mo ct) cv cl pr T m 0 (k + 1) T = md1 (ec mo ct) cv cl pr T m k W4 := by rw [mds_s, hW4, Nat.zero_add]
                have o1 : oDiv (nI k) (nI 2) = some (nI (k / 2)) := oDiv_n (by omega) (by decide) (by decide)
                have o2 : oRem (nI k) (nI 2) = some (nI (k % 2)) := oRem_n (by omega) (by decide) (by decide)
                by_cases hz : T (9 + 10 * m + k) = 0 ∧ 0 < T (9 + 10 * m + twN k)
                · have hb1 : (decide (T (9 + 10 * m + k) = 0) && decide (0 < T (9 + 10 * m + twN k))) = true := by rw [decide_eq_true hz.1, decide_eq_true hz.2]; rfl
                  have hcn : cntB (fun k => decide (T (9 + 10 * m + k) = 0) && decide (0 < T (9 + 10 * m + twN k))) (k + 1) = cntB (fun k => decide (T (9 + 10 * m + k) = 0) && decide (0 < T (9 + 10 * m + twN k))) k + 1 := by rw [cntB_1, hb1, cond_true]
                  unfold md1 at hmd
                  rw [hb1, cond_true] at hmd
                  have qr := q_Sh_room h4 b M fo pr (sl, dt, true, lf, mo) t mv wd (Or.inl hb) hp4 a1 (c4.mqf (fun q hq => hG.2 q hq) (Nat.le_refl _) h4 hF4.2.2) (ec_le hct) hcv hcl m (k / 2) (k % 2) h1 (by rw [a5]; exact h0) (by omega) (by omega) (-1)
                  have e2 : 2 * (k / 2) + k % 2 = k := by omega
                  rw [e2] at qr
                  dsimp only at qr
                  have bla := (hp4.2.2.2.1 m h1 (by rw [a5]; exact h0)).2
                  have hst : ∀ o, hset (cH h4 b M fo pr (sl, dt, true, lf, mo) t mv wd) (la m) o = cH (hset h4 (la m) o) b M fo pr (sl, dt, true, lf, mo) t mv wd := fun o => cS_out h4 b M fo pr _ t mv wd o (Or.inl (by omega))
                  have hF5 := hF4.st (.inl (0, 10, .inl (upd (fl4 m) k (nI (rom W4 (ec mo ct) cv cl pr m k (-1)))))) bla
                  have hp5 := hp4.setl (T' := upN W4 (9 + 10 * m + k) (rom W4 (ec mo ct) cv cl pr m k (-1))) h1 (by rw [a5]; exact h0) (upd (fl4 m) k (nI (rom W4 (ec mo ct) cv cl pr m k (-1)))) (fun i hi' => by
                    unfold upd
                    by_cases z1 : i = k
                    · rw [if_pos z1, z1, upN_s]
                    · rw [if_neg z1, upN_o _ _ (by omega)]; exact y3 i hi') (fun j hj z => upN_o _ _ (by omega))
                  obtain ⟨w1, w2, w3⟩ := hnew2 _ (sl, dt, true, lf, mo) (upN W4 (9 + 10 * m + k) (rom W4 (ec mo ct) cv cl pr m k (-1))) _ ((upN_o _ _ (by omega)).trans a5) hp5
                  have w4 := w3 k hk10
                  have e5 : up2 fl4 m (upd (fl4 m) k (nI (rom W4 (ec mo ct) cv cl pr m k (-1)))) m = upd (fl4 m) k (nI (rom W4 (ec mo ct) cv cl pr m k (-1))) := if_pos rfl
                  rw [upN_s] at w4
                  have bR : rom W4 (ec mo ct) cv cl pr m k (-1) ≤ 32 := rmo_le _ _
                  rw [hz.1] at x4
                  have nz2 : T (9 + 10 * m + twN k) ≠ 0 := by omega
                  by_cases hr : rom W4 (ec mo ct) cv cl pr m k (-1) = 0
                  · right
                    rw [decide_eq_true hr, cond_true] at hmd
                    refine ⟨_, ⟨mds_n hmd _ (by omega), _, hF5, rfl⟩, fun K => ?_⟩
                    have e1 : (hset h4 (la m) (.inl (0, 10, .inl (upd (fl4 m) k (nI (rom W4 (ec mo ct) cv cl pr m k (-1))))))).1 = h1'.1 := hF5.1
                    generalize rom W4 (ec mo ct) cv cl pr m k (-1) = r at *
                    subst hr
                    simp (disch := first | omega | assumption) only [jx_fn, jx_b_ok, jx_kb_ok, jx_b_inl, jx_kb_inl, jx_b_inr, jx_kb_inr, eInt, eNull, eI, eA, eBin, jx_op, oAdd_n, oMul_n, cCmp, cCmp0, jx_cp, cNull, jx_nl, cNot, cAnd_k, cOr_k, cIte_c, eIte_k, ck_ite, bf_and, bf_or, bf_not, ck_int, ck_10, ck_nI, cond_true, cond_false, oSub_g, nIs_le, oDiv_s, ck_n10, eGf, jx_gf, eLd, jx_ld, eLda, jx_lda, eLen, jx_len, eCl, jx_as, jx_ec, jx_ev, jx_es, tb1, tb3, tbk, tbn, tbl, sAsg_k, jx_set, jx_ft_int, jx_ft_ref, jx_ft_null, jx_ft_z0, jx_ft_z1, sSeq_k, sIf_k, sSkip, sInc, sPf_k, jx_pf_h, sUf_k, sSt_k, jx_st_h, sSta_k, jx_sta_h, jx_el, sUst_k, sRet, jx_rt, sRetV, sCl_k, sThrow_h, eNew, jx_nw_h, sObj, eNa, List.getElem?_cons_zero, List.getElem?_cons_succ, List.set_cons_zero, List.set_cons_succ, List.cons_append, List.nil_append, List.replicate_succ, List.replicate_zero, List.length_cons, List.length_nil, List.all_cons, List.all_nil, Value.category, Bool.and_true, Bool.true_and, Bool.and_self, beq_self_eq_true, and_self, and_true, true_and, if_true, if_false, ite_true, ite_false, eq_self, List.mem_cons, List.mem_singleton, List.not_mem_nil, or_false, true_or, or_true, false_or, Nat.reduceSub, Nat.reduceAdd, decide_true, decide_false, Bool.not_true, Bool.not_false, Nat.zero_add, Bool.false_eq_true, va_rf, reduceCtorEq, Nat.reduceEqDiff, Nat.reduceLT, Nat.reduceMul, Nat.lt_irrefl, rNe_b, rEq_b, jx_ft_b, jx_ix_nI, rLt_n, rGe_n, rGt_n, rLe_n, rEq_n, rNe_n, rGt_0, rEq_0, rNe_0, rLt_0, rGe_0, rLe_0, nI_1s, kU_ok, kU_r, kA_ok, kA_r, kC_t, kC_f, kC_r, kO_ok, kO_l, kO_r, kE_ok, kN_ok, kR_ok, kE_t, kE_f, kN_t, kN_f, kR_t, kR_f, cH_1, cH_21, cH_sh, cH_da, cH_dk, cH_sl, cH_dt, cH_pn, cH_wd, cH_md, cS_sh, cS_pn, cS_pn0, cS_pn1, cS_sl, cS_dt, cS_wd, cS_pr, pm_eta, va_rf, b2i_t, b2i_f, Bool.true_or, Bool.false_or, Bool.or_true, Bool.or_false, Bool.false_and, Bool.and_false, q_need1, q_need0, q_allow1, q_allow0, q_Sh_isDisk, lb_Sh_mend_0, x1, x2, x4, x5, ox, hm5, nz2, o1, o2, qr, y1, y2, hst, w1, w2, w4, e1]
                  · left
                    rw [decide_eq_false hr, cond_false] at hmd
                    refine ⟨_, _, ⟨_, _, _, rfl, rfl, hF5, hmd, hp5⟩, fun K => ?_⟩
                    rw [hcn]
                    generalize rom W4 (ec mo ct) cv cl pr m k (-1) = r at *
                    simp (disch := first | omega | assumption) only [jx_fn, jx_b_ok, jx_kb_ok, jx_b_inl, jx_kb_inl, jx_b_inr, jx_kb_inr, eInt, eNull, eI, eA, eBin, jx_op, oAdd_n, oMul_n, cCmp, cCmp0, jx_cp, cNull, jx_nl, cNot, cAnd_k, cOr_k, cIte_c, eIte_k, ck_ite, bf_and, bf_or, bf_not, ck_int, ck_10, ck_nI, cond_true, cond_false, oSub_g, nIs_le, oDiv_s, ck_n10, eGf, jx_gf, eLd, jx_ld, eLda, jx_lda, eLen, jx_len, eCl, jx_as, jx_ec, jx_ev, jx_es, tb1, tb3, tbk, tbn, tbl, sAsg_k, jx_set, jx_ft_int, jx_ft_ref, jx_ft_null, jx_ft_z0, jx_ft_z1, sSeq_k, sIf_k, sSkip, sInc, sPf_k, jx_pf_h, sUf_k, sSt_k, jx_st_h, sSta_k, jx_sta_h, jx_el, sUst_k, sRet, jx_rt, sRetV, sCl_k, sThrow_h, eNew, jx_nw_h, sObj, eNa, List.getElem?_cons_zero, List.getElem?_cons_succ, List.set_cons_zero, List.set_cons_succ, List.cons_append, List.nil_append, List.replicate_succ, List.replicate_zero, List.length_cons, List.length_nil, List.all_cons, List.all_nil, Value.category, Bool.and_true, Bool.true_and, Bool.and_self, beq_self_eq_true, and_self, and_true, true_and, if_true, if_false, ite_true, ite_false, eq_self, List.mem_cons, List.mem_singleton, List.not_mem_nil, or_false, true_or, or_true, false_or, Nat.reduceSub, Nat.reduceAdd, decide_true, decide_false, Bool.not_true, Bool.not_false, Nat.zero_add, Bool.false_eq_true, va_rf, reduceCtorEq, Nat.reduceEqDiff, Nat.reduceLT, Nat.reduceMul, Nat.lt_irrefl, rNe_b, rEq_b, jx_ft_b, jx_ix_nI, rLt_n, rGe_n, rGt_n, rLe_n, rEq_n, rNe_n, rGt_0, rEq_0, rNe_0, rLt_0, rGe_0, rLe_0, nI_1s, kU_ok, kU_r, kA_ok, kA_r, kC_t, kC_f, kC_r, kO_ok, kO_l, kO_r, kE_ok, kN_ok, kR_ok, kE_t, kE_f, kN_t, kN_f, kR_t, kR_f, cH_1, cH_21, cH_sh, cH_da, cH_dk, cH_sl, cH_dt, cH_pn, cH_wd, cH_md, cS_sh, cS_pn, cS_pn0, cS_pn1, cS_sl, cS_dt, cS_wd, cS_pr, pm_eta, va_rf, b2i_t, b2i_f, Bool.true_or, Bool.false_or, Bool.or_true, Bool.or_false, Bool.false_and, Bool.and_false, q_need1, q_need0, q_allow1, q_allow0, q_Sh_isDisk, lb_Sh_mend_0, x1, x2, x4, x5, ox, hm5, nz2, o1, o2, qr, y1, y2, hst, w1, w2, w4, hr]
                · have hb1 : (decide (T (9 + 10 * m + k) = 0) && decide (0 < T (9 + 10 * m + twN k))) = false := by
                    rw [← Bool.not_eq_true, Bool.and_eq_true, decide_eq_true_iff, decide_eq_true_iff]
                    exact hz
                  have hcn : cntB (fun k => decide (T (9 + 10 * m + k) = 0) && decide (0 < T (9 + 10 * m + twN k))) (k + 1) = cntB (fun k => decide (T (9 + 10 * m + k) = 0) && decide (0 < T (9 + 10 * m + twN k))) k := by rw [cntB_1, hb1, cond_false]
                  unfold md1 at hmd
                  rw [hb1, cond_false] at hmd
                  left
                  refine ⟨_, _, ⟨h4, W4, fl4, rfl, rfl, hF4, hmd, hp4⟩, fun K => ?_⟩
                  rw [hcn]
                  by_cases nz1 : T (9 + 10 * m + k) = 0
                  · have nz2 : T (9 + 10 * m + twN k) = 0 := by omega
                    rw [nz1] at x4
                    rw [nz2] at x5
                    simp (disch := first | omega | assumption) only [jx_fn, jx_b_ok, jx_kb_ok, jx_b_inl, jx_kb_inl, jx_b_inr, jx_kb_inr, eInt, eNull, eI, eA, eBin, jx_op, oAdd_n, oMul_n, cCmp, cCmp0, jx_cp, cNull, jx_nl, cNot, cAnd_k, cOr_k, cIte_c, eIte_k, ck_ite, bf_and, bf_or, bf_not, ck_int, ck_10, ck_nI, cond_true, cond_false, oSub_g, nIs_le, oDiv_s, ck_n10, eGf, jx_gf, eLd, jx_ld, eLda, jx_lda, eLen, jx_len, eCl, jx_as, jx_ec, jx_ev, jx_es, tb1, tb3, tbk, tbn, tbl, sAsg_k, jx_set, jx_ft_int, jx_ft_ref, jx_ft_null, jx_ft_z0, jx_ft_z1, sSeq_k, sIf_k, sSkip, sInc, sPf_k, jx_pf_h, sUf_k, sSt_k, jx_st_h, sSta_k, jx_sta_h, jx_el, sUst_k, sRet, jx_rt, sRetV, sCl_k, sThrow_h, eNew, jx_nw_h, sObj, eNa, List.getElem?_cons_zero, List.getElem?_cons_succ, List.set_cons_zero, List.set_cons_succ, List.cons_append, List.nil_append, List.replicate_succ, List.replicate_zero, List.length_cons, List.length_nil, List.all_cons, List.all_nil, Value.category, Bool.and_true, Bool.true_and, Bool.and_self, beq_self_eq_true, and_self, and_true, true_and, if_true, if_false, ite_true, ite_false, eq_self, List.mem_cons, List.mem_singleton, List.not_mem_nil, or_false, true_or, or_true, false_or, Nat.reduceSub, Nat.reduceAdd, decide_true, decide_false, Bool.not_true, Bool.not_false, Nat.zero_add, Bool.false_eq_true, va_rf, reduceCtorEq, Nat.reduceEqDiff, Nat.reduceLT, Nat.reduceMul, Nat.lt_irrefl, rNe_b, rEq_b, jx_ft_b, jx_ix_nI, rLt_n, rGe_n, rGt_n, rLe_n, rEq_n, rNe_n, rGt_0, rEq_0, rNe_0, rLt_0, rGe_0, rLe_0, nI_1s, kU_ok, kU_r, kA_ok, kA_r, kC_t, kC_f, kC_r, kO_ok, kO_l, kO_r, kE_ok, kN_ok, kR_ok, kE_t, kE_f, kN_t, kN_f, kR_t, kR_f, cH_1, cH_21, cH_sh, cH_da, cH_dk, cH_sl, cH_dt, cH_pn, cH_wd, cH_md, cS_sh, cS_pn, cS_pn0, cS_pn1, cS_sl, cS_dt, cS_wd, cS_pr, pm_eta, va_rf, b2i_t, b2i_f, Bool.true_or, Bool.false_or, Bool.or_true, Bool.or_false, Bool.false_and, Bool.and_false, q_need1, q_need0, q_allow1, q_allow0, q_Sh_isDisk, lb_Sh_mend_0, x1, x2, x4, x5, ox, hm5]
                  · simp (disch := first | omega | assumption) only [jx_fn, jx_b_ok, jx_kb_ok, jx_b_inl, jx_kb_inl, jx_b_inr, jx_kb_inr, eInt, eNull, eI, eA, eBin, jx_op, oAdd_n, oMul_n, cCmp, cCmp0, jx_cp, cNull, jx_nl, cNot, cAnd_k, cOr_k, cIte_c, eIte_k, ck_ite, bf_and, bf_or, bf_not, ck_int, ck_10, ck_nI, cond_true, cond_false, oSub_g, nIs_le, oDiv_s, ck_n10, eGf, jx_gf, eLd, jx_ld, eLda, jx_lda, eLen, jx_len, eCl, jx_as, jx_ec, jx_ev, jx_es, tb1, tb3, tbk, tbn, tbl, sAsg_k, jx_set, jx_ft_int, jx_ft_ref, jx_ft_null, jx_ft_z0, jx_ft_z1, sSeq_k, sIf_k, sSkip, sInc, sPf_k, jx_pf_h, sUf_k, sSt_k, jx_st_h, sSta_k, jx_sta_h, jx_el, sUst_k, sRet, jx_rt, sRetV, sCl_k, sThrow_h, eNew, jx_nw_h, sObj, eNa, List.getElem?_cons_zero, List.getElem?_cons_succ, List.set_cons_zero, List.set_cons_succ, List.cons_append, List.nil_append, List.replicate_succ, List.replicate_zero, List.length_cons, List.length_nil, List.all_cons, List.all_nil, Value.category, Bool.and_true, Bool.true_and, Bool.and_self, beq_self_eq_true, and_self, and_true, true_and, if_true, if_false, ite_true, ite_false, eq_self, List.mem_cons, List.mem_singleton, List.not_mem_nil, or_false, true_or, or_true, false_or, Nat.reduceSub, Nat.reduceAdd, decide_true, decide_false, Bool.not_true, Bool.not_false, Nat.zero_add, Bool.false_eq_true, va_rf, reduceCtorEq, Nat.reduceEqDiff, Nat.reduceLT, Nat.reduceMul, Nat.lt_irrefl, rNe_b, rEq_b, jx_ft_b, jx_ix_nI, rLt_n, rGe_n, rGt_n, rLe_n, rEq_n, rNe_n, rGt_0, rEq_0, rNe_0, rLt_0, rGe_0, rLe_0, nI_1s, kU_ok, kU_r, kA_ok, kA_r, kC_t, kC_f, kC_r, kO_ok, kO_l, kO_r, kE_ok, kN_ok, kR_ok, kE_t, kE_f, kN_t, kN_f, kR_t, kR_f, cH_1, cH_21, cH_sh, cH_da, cH_dk, cH_sl, cH_dt, cH_pn, cH_wd, cH_md, cS_sh, cS_pn, cS_pn0, cS_pn1, cS_sl, cS_dt, cS_wd, cS_pr, pm_eta, va_rf, b2i_t, b2i_f, Bool.true_or, Bool.false_or, Bool.or_true, Bool.or_false, Bool.false_and, Bool.and_false, q_need1, q_need0, q_allow1, q_allow0, q_Sh_isDisk, lb_Sh_mend_0, x1, x2, x4, hm5, nz1]) (fun L H' hI => by
                obtain ⟨h4, W4, fl4, rfl, rfl, hF4, hW4, hp4⟩ := hI
                have y1 := (hold h4 (sl, dt, true, lf, mo) hF4).1
                simp (disch := first | omega | assumption) only [jx_fn, jx_b_ok, jx_kb_ok, jx_b_inl, jx_kb_inl, jx_b_inr, jx_kb_inr, eInt, eNull, eI, eA, eBin, jx_op, oAdd_n, oMul_n, cCmp, cCmp0, jx_cp, cNull, jx_nl, cNot, cAnd_k, cOr_k, cIte_c, eIte_k, ck_ite, bf_and, bf_or, bf_not, ck_int, ck_10, ck_nI, cond_true, cond_false, oSub_g, nIs_le, oDiv_s, ck_n10, eGf, jx_gf, eLd, jx_ld, eLda, jx_lda, eLen, jx_len, eCl, jx_as, jx_ec, jx_ev, jx_es, tb1, tb3, tbk, tbn, tbl, sAsg_k, jx_set, jx_ft_int, jx_ft_ref, jx_ft_null, jx_ft_z0, jx_ft_z1, sSeq_k, sIf_k, sSkip, sInc, sPf_k, jx_pf_h, sUf_k, sSt_k, jx_st_h, sSta_k, jx_sta_h, jx_el, sUst_k, sRet, jx_rt, sRetV, sCl_k, sThrow_h, eNew, jx_nw_h, sObj, eNa, List.getElem?_cons_zero, List.getElem?_cons_succ, List.set_cons_zero, List.set_cons_succ, List.cons_append, List.nil_append, List.replicate_succ, List.replicate_zero, List.length_cons, List.length_nil, List.all_cons, List.all_nil, Value.category, Bool.and_true, Bool.true_and, Bool.and_self, beq_self_eq_true, and_self, and_true, true_and, if_true, if_false, ite_true, ite_false, eq_self, List.mem_cons, List.mem_singleton, List.not_mem_nil, or_false, true_or, or_true, false_or, Nat.reduceSub, Nat.reduceAdd, decide_true, decide_false, Bool.not_true, Bool.not_false, Nat.zero_add, Bool.false_eq_true, va_rf, reduceCtorEq, Nat.reduceEqDiff, Nat.reduceLT, Nat.reduceMul, Nat.lt_irrefl, rNe_b, rEq_b, jx_ft_b, jx_ix_nI, rLt_n, rGe_n, rGt_n, rLe_n, rEq_n, rNe_n, rGt_0, rEq_0, rNe_0, rLt_0, rGe_0, rLe_0, nI_1s, kU_ok, kU_r, kA_ok, kA_r, kC_t, kC_f, kC_r, kO_ok, kO_l, kO_r, kE_ok, kN_ok, kR_ok, kE_t, kE_f, kN_t, kN_f, kR_t, kR_f, cH_1, cH_21, cH_sh, cH_da, cH_dk, cH_sl, cH_dt, cH_pn, cH_wd, cH_md, cS_sh, cS_pn, cS_pn0, cS_pn1, cS_sl, cS_dt, cS_wd, cS_pr, pm_eta, va_rf, b2i_t, b2i_f, Bool.true_or, Bool.false_or, Bool.or_true, Bool.or_false, Bool.false_and, Bool.and_false, q_need1, q_need0, q_allow1, q_allow0, q_Sh_isDisk, lc_Sh_mend_0, y1, hm5]) 64 0 [.ref b, .int (nI m), .ref (qa0 m), .ref h.1, .ref (qa m), .int (nI 0), .int (nI 0), .double 0] (cH (h1') b M fo pr ((sl, dt, true, lf, mo)) t mv wd) (by omega) (by omega) ⟨h1', T, fl, rfl, rfl, FR.rf _ _ _, rfl, hp2⟩
            have hspM : sp_mend (nI m) (pr, (sl, dt, true, lf, mo), T, cv, cl, ct, cp) = (match mds (ec mo ct) cv cl pr T m 0 (2 * elsN T m) T with
              | none => (4, nI 0, pr, (sl, dt, true, lf, mo), T, cv, cl, ct, cp)
              | some N => bif decide (mdc T m = 0) then (0, nI 0, pr, (sl, dt, true, lf, mo), T, cv, cl, ct, cp) else enS (chS (setX (pr, (sl, dt, true, lf, mo), T, cv, cl, ct, cp) (cpys T N m 10 (sl, dt, true, lf, mo))) (nx1 (pr, (sl, dt, true, lf, mo), T, cv, cl, ct, cp) N)) (nI (mdc T m))) := by
              simp only [sp_mend, hV, h4, k1, decide_eq_true hk3, Bool.not_true, cond_false]
              rfl
            rw [hspM]
            rcases za with ⟨L', H', ⟨h4', N, fl4, rfl, rfl, hF4, hN4, hp4⟩, hK⟩ | ⟨r, ⟨hno, h4', hF4, rfl⟩, hK⟩
            · rw [hN4]
              dsimp only
              have hG4 := hG.fr hF4 (Nat.le_refl _)
              have emd : cntB (fun k => decide (T (9 + 10 * m + k) = 0) && decide (0 < T (9 + 10 * m + twN k))) (2 * elsN T m) = mdc T m := rfl
              rw [emd] at hK
              have bmd : mdc T m < 2 ^ 31 := by
                have := cntB_bd (fun k => decide (T (9 + 10 * m + k) = 0) && decide (0 < T (9 + 10 * m + twN k))) (2 * elsN T m)
                rw [emd] at this
                omega
              by_cases hz : mdc T m = 0
              · rw [decide_eq_true hz, cond_true]
                refine RZ.ret2 (wd := wd) (t := t) (mv := mv) (by omega) hG4 (by omega) (by omega) (fun _ => ⟨lo, hi, hCR.gw hG4⟩) (ov := vI (nI 0)) rfl ?_
                unfold cS
                rw [hz] at hK
                simp (disch := first | omega | assumption) only [jx_fn, jx_b_ok, jx_kb_ok, jx_b_inl, jx_kb_inl, jx_b_inr, jx_kb_inr, eInt, eNull, eI, eA, eBin, jx_op, oAdd_n, oMul_n, cCmp, cCmp0, jx_cp, cNull, jx_nl, cNot, cAnd_k, cOr_k, cIte_c, eIte_k, ck_ite, bf_and, bf_or, bf_not, ck_int, ck_10, ck_nI, cond_true, cond_false, oSub_g, nIs_le, oDiv_s, ck_n10, eGf, jx_gf, eLd, jx_ld, eLda, jx_lda, eLen, jx_len, eCl, jx_as, jx_ec, jx_ev, jx_es, tb1, tb3, tbk, tbn, tbl, sAsg_k, jx_set, jx_ft_int, jx_ft_ref, jx_ft_null, jx_ft_z0, jx_ft_z1, sSeq_k, sIf_k, sSkip, sInc, sPf_k, jx_pf_h, sUf_k, sSt_k, jx_st_h, sSta_k, jx_sta_h, jx_el, sUst_k, sRet, jx_rt, sRetV, sCl_k, sThrow_h, eNew, jx_nw_h, sObj, eNa, List.getElem?_cons_zero, List.getElem?_cons_succ, List.set_cons_zero, List.set_cons_succ, List.cons_append, List.nil_append, List.replicate_succ, List.replicate_zero, List.length_cons, List.length_nil, List.all_cons, List.all_nil, Value.category, Bool.and_true, Bool.true_and, Bool.and_self, beq_self_eq_true, and_self, and_true, true_and, if_true, if_false, ite_true, ite_false, eq_self, List.mem_cons, List.mem_singleton, List.not_mem_nil, or_false, true_or, or_true, false_or, Nat.reduceSub, Nat.reduceAdd, decide_true, decide_false, Bool.not_true, Bool.not_false, Nat.zero_add, Bool.false_eq_true, va_rf, reduceCtorEq, Nat.reduceEqDiff, Nat.reduceLT, Nat.reduceMul, Nat.lt_irrefl, rNe_b, rEq_b, jx_ft_b, jx_ix_nI, rLt_n, rGe_n, rGt_n, rLe_n, rEq_n, rNe_n, rGt_0, rEq_0, rNe_0, rLt_0, rGe_0, rLe_0, nI_1s, kU_ok, kU_r, kA_ok, kA_r, kC_t, kC_f, kC_r, kO_ok, kO_l, kO_r, kE_ok, kN_ok, kR_ok, kE_t, kE_f, kN_t, kN_f, kR_t, kR_f, cH_1, cH_21, cH_sh, cH_da, cH_dk, cH_sl, cH_dt, cH_pn, cH_wd, cH_md, cS_sh, cS_pn, cS_pn0, cS_pn1, cS_sl, cS_dt, cS_wd, cS_pr, pm_eta, va_rf, b2i_t, b2i_f, Bool.true_or, Bool.false_or, Bool.or_true, Bool.or_false, Bool.false_and, Bool.and_false, q_need1, q_need0, q_allow1, q_allow0, q_Sh_isDisk, f_Sh_mend, bd_Sh_mend, hn, q, hq, ql, qab, rt, qc, r1, r2, r3, hK, vI]
              · rw [decide_eq_false hz, cond_false]
                obtain ⟨n1, n2, n3, n4⟩ := mds_WT h1 hW h0 hk3 (2 * elsN T m) (Nat.le_refl _) hN4
                have n5 : N (5 + m) = T (5 + m) := n2 _ (by omega)
                have ecp : cpys T N m 10 (sl, dt, true, lf, mo) = itr (fun k y => bif decide (N (9 + 10 * m + k) = T (9 + 10 * m + k)) then y else cpy1 y (N (9 + 10 * m + k)) (T (9 + 10 * m + twN k))) (2 * elsN T m) (sl, dt, true, lf, mo) := by
                  unfold cpys
                  exact itr_end (by omega) (fun i x h5 h6 => by rw [n3 _ (by omega), decide_eq_true rfl, cond_true]) _
                -- the words
                have lp := lpO h4' b M fo pr (sl, dt, true, lf, mo) t mv wd (c := lc_Sh_mend_1) (A := lb_Sh_mend_1) (2 * elsN T m) (by omega) (fun k w => [.ref b, .int (nI m), .ref (qa0 m), .ref h.1, .ref (qa m), .int (nI (mdc T m)), .int (nI k), w]) (.double 0) (fun k y => bif decide (N (9 + 10 * m + k) = T (9 + 10 * m + k)) then y else cpy1 y (N (9 + 10 * m + k)) (T (9 + 10 * m + twN k))) (fun d y hy => by
                    cases decide (N (9 + 10 * m + d) = T (9 + 10 * m + d))
                    · rw [cond_false]
                      unfold cpy1
                      exact itr_stop (P := fun y => y.2.2.1 = false) (fun k y hy => wD_off hy _ _) (m := 0) hy 4 (by omega)
                    · rfl) rfl (fun y k w hk => by
                    have x1 := (hold h4' y hF4).1
                    simp (disch := first | omega | assumption) only [jx_fn, jx_b_ok, jx_kb_ok, jx_b_inl, jx_kb_inl, jx_b_inr, jx_kb_inr, eInt, eNull, eI, eA, eBin, jx_op, oAdd_n, oMul_n, cCmp, cCmp0, jx_cp, cNull, jx_nl, cNot, cAnd_k, cOr_k, cIte_c, eIte_k, ck_ite, bf_and, bf_or, bf_not, ck_int, ck_10, ck_nI, cond_true, cond_false, oSub_g, nIs_le, oDiv_s, ck_n10, eGf, jx_gf, eLd, jx_ld, eLda, jx_lda, eLen, jx_len, eCl, jx_as, jx_ec, jx_ev, jx_es, tb1, tb3, tbk, tbn, tbl, sAsg_k, jx_set, jx_ft_int, jx_ft_ref, jx_ft_null, jx_ft_z0, jx_ft_z1, sSeq_k, sIf_k, sSkip, sInc, sPf_k, jx_pf_h, sUf_k, sSt_k, jx_st_h, sSta_k, jx_sta_h, jx_el, sUst_k, sRet, jx_rt, sRetV, sCl_k, sThrow_h, eNew, jx_nw_h, sObj, eNa, List.getElem?_cons_zero, List.getElem?_cons_succ, List.set_cons_zero, List.set_cons_succ, List.cons_append, List.nil_append, List.replicate_succ, List.replicate_zero, List.length_cons, List.length_nil, List.all_cons, List.all_nil, Value.category, Bool.and_true, Bool.true_and, Bool.and_self, beq_self_eq_true, and_self, and_true, true_and, if_true, if_false, ite_true, ite_false, eq_self, List.mem_cons, List.mem_singleton, List.not_mem_nil, or_false, true_or, or_true, false_or, Nat.reduceSub, Nat.reduceAdd, decide_true, decide_false, Bool.not_true, Bool.not_false, Nat.zero_add, Bool.false_eq_true, va_rf, reduceCtorEq, Nat.reduceEqDiff, Nat.reduceLT, Nat.reduceMul, Nat.lt_irrefl, rNe_b, rEq_b, jx_ft_b, jx_ix_nI, rLt_n, rGe_n, rGt_n, rLe_n, rEq_n, rNe_n, rGt_0, rEq_0, rNe_0, rLt_0, rGe_0, rLe_0, nI_1s, kU_ok, kU_r, kA_ok, kA_r, kC_t, kC_f, kC_r, kO_ok, kO_l, kO_r, kE_ok, kN_ok, kR_ok, kE_t, kE_f, kN_t, kN_f, kR_t, kR_f, cH_1, cH_21, cH_sh, cH_da, cH_dk, cH_sl, cH_dt, cH_pn, cH_wd, cH_md, cS_sh, cS_pn, cS_pn0, cS_pn1, cS_sl, cS_dt, cS_wd, cS_pr, pm_eta, va_rf, b2i_t, b2i_f, Bool.true_or, Bool.false_or, Bool.or_true, Bool.or_false, Bool.false_and, Bool.and_false, q_need1, q_need0, q_allow1, q_allow0, q_Sh_isDisk, lc_Sh_mend_1, x1, hm5, eq_true (show k < 2 * elsN T m by omega)]) (fun y w => by
                    have x1 := (hold h4' y hF4).1
                    simp (disch := first | omega | assumption) only [jx_fn, jx_b_ok, jx_kb_ok, jx_b_inl, jx_kb_inl, jx_b_inr, jx_kb_inr, eInt, eNull, eI, eA, eBin, jx_op, oAdd_n, oMul_n, cCmp, cCmp0, jx_cp, cNull, jx_nl, cNot, cAnd_k, cOr_k, cIte_c, eIte_k, ck_ite, bf_and, bf_or, bf_not, ck_int, ck_10, ck_nI, cond_true, cond_false, oSub_g, nIs_le, oDiv_s, ck_n10, eGf, jx_gf, eLd, jx_ld, eLda, jx_lda, eLen, jx_len, eCl, jx_as, jx_ec, jx_ev, jx_es, tb1, tb3, tbk, tbn, tbl, sAsg_k, jx_set, jx_ft_int, jx_ft_ref, jx_ft_null, jx_ft_z0, jx_ft_z1, sSeq_k, sIf_k, sSkip, sInc, sPf_k, jx_pf_h, sUf_k, sSt_k, jx_st_h, sSta_k, jx_sta_h, jx_el, sUst_k, sRet, jx_rt, sRetV, sCl_k, sThrow_h, eNew, jx_nw_h, sObj, eNa, List.getElem?_cons_zero, List.getElem?_cons_succ, List.set_cons_zero, List.set_cons_succ, List.cons_append, List.nil_append, List.replicate_succ, List.replicate_zero, List.length_cons, List.length_nil, List.all_cons, List.all_nil, Value.category, Bool.and_true, Bool.true_and, Bool.and_self, beq_self_eq_true, and_self, and_true, true_and, if_true, if_false, ite_true, ite_false, eq_self, List.mem_cons, List.mem_singleton, List.not_mem_nil, or_false, true_or, or_true, false_or, Nat.reduceSub, Nat.reduceAdd, decide_true, decide_false, Bool.not_true, Bool.not_false, Nat.zero_add, Bool.false_eq_true, va_rf, reduceCtorEq, Nat.reduceEqDiff, Nat.reduceLT, Nat.reduceMul, Nat.lt_irrefl, rNe_b, rEq_b, jx_ft_b, jx_ix_nI, rLt_n, rGe_n, rGt_n, rLe_n, rEq_n, rNe_n, rGt_0, rEq_0, rNe_0, rLt_0, rGe_0, rLe_0, nI_1s, kU_ok, kU_r, kA_ok, kA_r, kC_t, kC_f, kC_r, kO_ok, kO_l, kO_r, kE_ok, kN_ok, kR_ok, kE_t, kE_f, kN_t, kN_f, kR_t, kR_f, cH_1, cH_21, cH_sh, cH_da, cH_dk, cH_sl, cH_dt, cH_pn, cH_wd, cH_md, cS_sh, cS_pn, cS_pn0, cS_pn1, cS_sl, cS_dt, cS_wd, cS_pr, pm_eta, va_rf, b2i_t, b2i_f, Bool.true_or, Bool.false_or, Bool.or_true, Bool.or_false, Bool.false_and, Bool.and_false, q_need1, q_need0, q_allow1, q_allow0, q_Sh_isDisk, lc_Sh_mend_1, x1, hm5]) (fun y k w hk hy => by
                    have hk10 : k < 10 := by omega
                    have tw10 : twN k < 10 := by have := twN_h (k := k); omega
                    have bT1 := hT (9 + 10 * m + k)
                    have bN1 := n1.1 (9 + 10 * m + k)
                    by_cases hNT : N (9 + 10 * m + k) = T (9 + 10 * m + k)
                    · left
                      rw [decide_eq_true hNT, cond_true]
                      refine ⟨hy, .int (nI 0), fun K => ?_⟩
                      obtain ⟨x1, x2, x3⟩ := hold h4' y hF4
                      obtain ⟨y1, y2, y3⟩ := hnew2 h4' y N fl4 n5 hp4
                      have x4 := x3 k hk10
                      have y4 := y3 k hk10
                      rw [hNT] at y4
                      have hcd : lc_Sh_mend_2 [.ref b, .int (nI m), .ref (qa0 m), .ref h.1, .ref (qa m), .int (nI (mdc T m)), .int (nI k), .int (nI 0)] (cH (h4') b M fo pr (y) t mv wd) = jx_ok false (cH (h4') b M fo pr (y) t mv wd) := by
                        simp (disch := first | omega | assumption) only [jx_fn, jx_b_ok, jx_kb_ok, jx_b_inl, jx_kb_inl, jx_b_inr, jx_kb_inr, eInt, eNull, eI, eA, eBin, jx_op, oAdd_n, oMul_n, cCmp, cCmp0, jx_cp, cNull, jx_nl, cNot, cAnd_k, cOr_k, cIte_c, eIte_k, ck_ite, bf_and, bf_or, bf_not, ck_int, ck_10, ck_nI, cond_true, cond_false, oSub_g, nIs_le, oDiv_s, ck_n10, eGf, jx_gf, eLd, jx_ld, eLda, jx_lda, eLen, jx_len, eCl, jx_as, jx_ec, jx_ev, jx_es, tb1, tb3, tbk, tbn, tbl, sAsg_k, jx_set, jx_ft_int, jx_ft_ref, jx_ft_null, jx_ft_z0, jx_ft_z1, sSeq_k, sIf_k, sSkip, sInc, sPf_k, jx_pf_h, sUf_k, sSt_k, jx_st_h, sSta_k, jx_sta_h, jx_el, sUst_k, sRet, jx_rt, sRetV, sCl_k, sThrow_h, eNew, jx_nw_h, sObj, eNa, List.getElem?_cons_zero, List.getElem?_cons_succ, List.set_cons_zero, List.set_cons_succ, List.cons_append, List.nil_append, List.replicate_succ, List.replicate_zero, List.length_cons, List.length_nil, List.all_cons, List.all_nil, Value.category, Bool.and_true, Bool.true_and, Bool.and_self, beq_self_eq_true, and_self, and_true, true_and, if_true, if_false, ite_true, ite_false, eq_self, List.mem_cons, List.mem_singleton, List.not_mem_nil, or_false, true_or, or_true, false_or, Nat.reduceSub, Nat.reduceAdd, decide_true, decide_false, Bool.not_true, Bool.not_false, Nat.zero_add, Bool.false_eq_true, va_rf, reduceCtorEq, Nat.reduceEqDiff, Nat.reduceLT, Nat.reduceMul, Nat.lt_irrefl, rNe_b, rEq_b, jx_ft_b, jx_ix_nI, rLt_n, rGe_n, rGt_n, rLe_n, rEq_n, rNe_n, rGt_0, rEq_0, rNe_0, rLt_0, rGe_0, rLe_0, nI_1s, kU_ok, kU_r, kA_ok, kA_r, kC_t, kC_f, kC_r, kO_ok, kO_l, kO_r, kE_ok, kN_ok, kR_ok, kE_t, kE_f, kN_t, kN_f, kR_t, kR_f, cH_1, cH_21, cH_sh, cH_da, cH_dk, cH_sl, cH_dt, cH_pn, cH_wd, cH_md, cS_sh, cS_pn, cS_pn0, cS_pn1, cS_sl, cS_dt, cS_wd, cS_pr, pm_eta, va_rf, b2i_t, b2i_f, Bool.true_or, Bool.false_or, Bool.or_true, Bool.or_false, Bool.false_and, Bool.and_false, q_need1, q_need0, q_allow1, q_allow0, q_Sh_isDisk, lc_Sh_mend_2, x1, x2, x4, y1, y2, y4, hm5]
                      have kk : ∀ K, sWh 64 lc_Sh_mend_2 lb_Sh_mend_2 K [.ref b, .int (nI m), .ref (qa0 m), .ref h.1, .ref (qa m), .int (nI (mdc T m)), .int (nI k), .int (nI 0)] (cH (h4') b M fo pr (y) t mv wd) = K [.ref b, .int (nI m), .ref (qa0 m), .ref h.1, .ref (qa m), .int (nI (mdc T m)), .int (nI k), .int (nI 0)] (cH (h4') b M fo pr (y) t mv wd) := fun K => by
                        unfold sWh
                        rw [hcd]
                        rfl
                      simp (disch := first | omega | assumption) only [jx_fn, jx_b_ok, jx_kb_ok, jx_b_inl, jx_kb_inl, jx_b_inr, jx_kb_inr, eInt, eNull, eI, eA, eBin, jx_op, oAdd_n, oMul_n, cCmp, cCmp0, jx_cp, cNull, jx_nl, cNot, cAnd_k, cOr_k, cIte_c, eIte_k, ck_ite, bf_and, bf_or, bf_not, ck_int, ck_10, ck_nI, cond_true, cond_false, oSub_g, nIs_le, oDiv_s, ck_n10, eGf, jx_gf, eLd, jx_ld, eLda, jx_lda, eLen, jx_len, eCl, jx_as, jx_ec, jx_ev, jx_es, tb1, tb3, tbk, tbn, tbl, sAsg_k, jx_set, jx_ft_int, jx_ft_ref, jx_ft_null, jx_ft_z0, jx_ft_z1, sSeq_k, sIf_k, sSkip, sInc, sPf_k, jx_pf_h, sUf_k, sSt_k, jx_st_h, sSta_k, jx_sta_h, jx_el, sUst_k, sRet, jx_rt, sRetV, sCl_k, sThrow_h, eNew, jx_nw_h, sObj, eNa, List.getElem?_cons_zero, List.getElem?_cons_succ, List.set_cons_zero, List.set_cons_succ, List.cons_append, List.nil_append, List.replicate_succ, List.replicate_zero, List.length_cons, List.length_nil, List.all_cons, List.all_nil, Value.category, Bool.and_true, Bool.true_and, Bool.and_self, beq_self_eq_true, and_self, and_true, true_and, if_true, if_false, ite_true, ite_false, eq_self, List.mem_cons, List.mem_singleton, List.not_mem_nil, or_false, true_or, or_true, false_or, Nat.reduceSub, Nat.reduceAdd, decide_true, decide_false, Bool.not_true, Bool.not_false, Nat.zero_add, Bool.false_eq_true, va_rf, reduceCtorEq, Nat.reduceEqDiff, Nat.reduceLT, Nat.reduceMul, Nat.lt_irrefl, rNe_b, rEq_b, jx_ft_b, jx_ix_nI, rLt_n, rGe_n, rGt_n, rLe_n, rEq_n, rNe_n, rGt_0, rEq_0, rNe_0, rLt_0, rGe_0, rLe_0, nI_1s, kU_ok, kU_r, kA_ok, kA_r, kC_t, kC_f, kC_r, kO_ok, kO_l, kO_r, kE_ok, kN_ok, kR_ok, kE_t, kE_f, kN_t, kN_f, kR_t, kR_f, cH_1, cH_21, cH_sh, cH_da, cH_dk, cH_sl, cH_dt, cH_pn, cH_wd, cH_md, cS_sh, cS_pn, cS_pn0, cS_pn1, cS_sl, cS_dt, cS_wd, cS_pr, pm_eta, va_rf, b2i_t, b2i_f, Bool.true_or, Bool.false_or, Bool.or_true, Bool.or_false, Bool.false_and, Bool.and_false, q_need1, q_need0, q_allow1, q_allow0, q_Sh_isDisk, lb_Sh_mend_1, kk]
                    · rw [decide_eq_false hNT, cond_false]
                      rcases n4 k hk10 with z | ⟨z1, z2, z3⟩
                      · exact absurd z hNT
                      · have bL : N (9 + 10 * m + k) ≤ 32 := by
                          have := n1.2.2.2.1 (10 * m + k) (by omega)
                          rw [← Nat.add_assoc] at this
                          exact this
                        have bF : T (9 + 10 * m + twN k) ≤ 32 := by
                          have := hW.2.2.2.1 (10 * m + twN k) (by omega)
                          rw [← Nat.add_assoc] at this
                          exact this
                        have ox := oXor_1 hk10
                        have li := lpO h4' b M fo pr y t mv wd (c := lc_Sh_mend_2) (A := lb_Sh_mend_2) 4 (by omega) (fun j w => [.ref b, .int (nI m), .ref (qa0 m), .ref h.1, .ref (qa m), .int (nI (mdc T m)), .int (nI k), .int (nI j)]) .null (fun w y => wD y (4 * (N (9 + 10 * m + k) - 1) + w) (xfd y.2.1 (4 * (T (9 + 10 * m + twN k) - 1) + w))) (fun d y hy => wD_off hy _ _) hy (fun u j w hj => by
                            obtain ⟨x1, x2, x3⟩ := hold h4' u hF4
                            obtain ⟨y1, y2, y3⟩ := hnew2 h4' u N fl4 n5 hp4
                            have x4 := x3 k hk10
                            have y4 := y3 k hk10
                            have hTN : ¬ T (9 + 10 * m + k) = N (9 + 10 * m + k) := fun z => hNT z.symm
                            simp (disch := first | omega | assumption) only [jx_fn, jx_b_ok, jx_kb_ok, jx_b_inl, jx_kb_inl, jx_b_inr, jx_kb_inr, eInt, eNull, eI, eA, eBin, jx_op, oAdd_n, oMul_n, cCmp, cCmp0, jx_cp, cNull, jx_nl, cNot, cAnd_k, cOr_k, cIte_c, eIte_k, ck_ite, bf_and, bf_or, bf_not, ck_int, ck_10, ck_nI, cond_true, cond_false, oSub_g, nIs_le, oDiv_s, ck_n10, eGf, jx_gf, eLd, jx_ld, eLda, jx_lda, eLen, jx_len, eCl, jx_as, jx_ec, jx_ev, jx_es, tb1, tb3, tbk, tbn, tbl, sAsg_k, jx_set, jx_ft_int, jx_ft_ref, jx_ft_null, jx_ft_z0, jx_ft_z1, sSeq_k, sIf_k, sSkip, sInc, sPf_k, jx_pf_h, sUf_k, sSt_k, jx_st_h, sSta_k, jx_sta_h, jx_el, sUst_k, sRet, jx_rt, sRetV, sCl_k, sThrow_h, eNew, jx_nw_h, sObj, eNa, List.getElem?_cons_zero, List.getElem?_cons_succ, List.set_cons_zero, List.set_cons_succ, List.cons_append, List.nil_append, List.replicate_succ, List.replicate_zero, List.length_cons, List.length_nil, List.all_cons, List.all_nil, Value.category, Bool.and_true, Bool.true_and, Bool.and_self, beq_self_eq_true, and_self, and_true, true_and, if_true, if_false, ite_true, ite_false, eq_self, List.mem_cons, List.mem_singleton, List.not_mem_nil, or_false, true_or, or_true, false_or, Nat.reduceSub, Nat.reduceAdd, decide_true, decide_false, Bool.not_true, Bool.not_false, Nat.zero_add, Bool.false_eq_true, va_rf, reduceCtorEq, Nat.reduceEqDiff, Nat.reduceLT, Nat.reduceMul, Nat.lt_irrefl, rNe_b, rEq_b, jx_ft_b, jx_ix_nI, rLt_n, rGe_n, rGt_n, rLe_n, rEq_n, rNe_n, rGt_0, rEq_0, rNe_0, rLt_0, rGe_0, rLe_0, nI_1s, kU_ok, kU_r, kA_ok, kA_r, kC_t, kC_f, kC_r, kO_ok, kO_l, kO_r, kE_ok, kN_ok, kR_ok, kE_t, kE_f, kN_t, kN_f, kR_t, kR_f, cH_1, cH_21, cH_sh, cH_da, cH_dk, cH_sl, cH_dt, cH_pn, cH_wd, cH_md, cS_sh, cS_pn, cS_pn0, cS_pn1, cS_sl, cS_dt, cS_wd, cS_pr, pm_eta, va_rf, b2i_t, b2i_f, Bool.true_or, Bool.false_or, Bool.or_true, Bool.or_false, Bool.false_and, Bool.and_false, q_need1, q_need0, q_allow1, q_allow0, q_Sh_isDisk, lc_Sh_mend_2, x1, x2, x4, y1, y2, y4, hm5, hTN, eq_true (show j < 4 by omega)]) (fun u w => by
                            simp (disch := first | omega | assumption) only [jx_fn, jx_b_ok, jx_kb_ok, jx_b_inl, jx_kb_inl, jx_b_inr, jx_kb_inr, eInt, eNull, eI, eA, eBin, jx_op, oAdd_n, oMul_n, cCmp, cCmp0, jx_cp, cNull, jx_nl, cNot, cAnd_k, cOr_k, cIte_c, eIte_k, ck_ite, bf_and, bf_or, bf_not, ck_int, ck_10, ck_nI, cond_true, cond_false, oSub_g, nIs_le, oDiv_s, ck_n10, eGf, jx_gf, eLd, jx_ld, eLda, jx_lda, eLen, jx_len, eCl, jx_as, jx_ec, jx_ev, jx_es, tb1, tb3, tbk, tbn, tbl, sAsg_k, jx_set, jx_ft_int, jx_ft_ref, jx_ft_null, jx_ft_z0, jx_ft_z1, sSeq_k, sIf_k, sSkip, sInc, sPf_k, jx_pf_h, sUf_k, sSt_k, jx_st_h, sSta_k, jx_sta_h, jx_el, sUst_k, sRet, jx_rt, sRetV, sCl_k, sThrow_h, eNew, jx_nw_h, sObj, eNa, List.getElem?_cons_zero, List.getElem?_cons_succ, List.set_cons_zero, List.set_cons_succ, List.cons_append, List.nil_append, List.replicate_succ, List.replicate_zero, List.length_cons, List.length_nil, List.all_cons, List.all_nil, Value.category, Bool.and_true, Bool.true_and, Bool.and_self, beq_self_eq_true, and_self, and_true, true_and, if_true, if_false, ite_true, ite_false, eq_self, List.mem_cons, List.mem_singleton, List.not_mem_nil, or_false, true_or, or_true, false_or, Nat.reduceSub, Nat.reduceAdd, decide_true, decide_false, Bool.not_true, Bool.not_false, Nat.zero_add, Bool.false_eq_true, va_rf, reduceCtorEq, Nat.reduceEqDiff, Nat.reduceLT, Nat.reduceMul, Nat.lt_irrefl, rNe_b, rEq_b, jx_ft_b, jx_ix_nI, rLt_n, rGe_n, rGt_n, rLe_n, rEq_n, rNe_n, rGt_0, rEq_0, rNe_0, rLt_0, rGe_0, rLe_0, nI_1s, kU_ok, kU_r, kA_ok, kA_r, kC_t, kC_f, kC_r, kO_ok, kO_l, kO_r, kE_ok, kN_ok, kR_ok, kE_t, kE_f, kN_t, kN_f, kR_t, kR_f, cH_1, cH_21, cH_sh, cH_da, cH_dk, cH_sl, cH_dt, cH_pn, cH_wd, cH_md, cS_sh, cS_pn, cS_pn0, cS_pn1, cS_sl, cS_dt, cS_wd, cS_pr, pm_eta, va_rf, b2i_t, b2i_f, Bool.true_or, Bool.false_or, Bool.or_true, Bool.or_false, Bool.false_and, Bool.and_false, q_need1, q_need0, q_allow1, q_allow0, q_Sh_isDisk, lc_Sh_mend_2]) (fun u j w hj hu => by
                            obtain ⟨x1, x2, x3⟩ := hold h4' u hF4
                            obtain ⟨y1, y2, y3⟩ := hnew2 h4' u N fl4 n5 hp4
                            have x5 := x3 (twN k) tw10
                            have y4 := y3 k hk10
                            have qg := q_Sh_get h4' b M fo pr u t mv wd (T (9 + 10 * m + twN k)) j (by omega) bF hj
                            have exf : u.2.1 ((T (9 + 10 * m + twN k) - 1) / 8) (4 * ((T (9 + 10 * m + twN k) - 1) % 8) + j) = xfd u.2.1 (4 * (T (9 + 10 * m + twN k) - 1) + j) := by
                              unfold xfd
                              have e1 : (4 * (T (9 + 10 * m + twN k) - 1) + j) / 32 = (T (9 + 10 * m + twN k) - 1) / 8 := by omega
                              have e2 : (4 * (T (9 + 10 * m + twN k) - 1) + j) % 32 = 4 * ((T (9 + 10 * m + twN k) - 1) % 8) + j := by omega
                              rw [e1, e2]
                            rw [exf] at qg
                            have qp := q_put2 h4' b M fo pr u t mv wd hu (N (9 + 10 * m + k)) j (by omega) bL hj (xfd u.2.1 (4 * (T (9 + 10 * m + twN k) - 1) + j))
                            cases hz2 : (wD u (4 * (N (9 + 10 * m + k) - 1) + j) (xfd u.2.1 (4 * (T (9 + 10 * m + twN k) - 1) + j))).2.2.1 <;> rw [hz2] at qp
                            · right
                              refine ⟨rfl, fun K => ?_⟩
                              simp (disch := first | omega | assumption) only [jx_fn, jx_b_ok, jx_kb_ok, jx_b_inl, jx_kb_inl, jx_b_inr, jx_kb_inr, eInt, eNull, eI, eA, eBin, jx_op, oAdd_n, oMul_n, cCmp, cCmp0, jx_cp, cNull, jx_nl, cNot, cAnd_k, cOr_k, cIte_c, eIte_k, ck_ite, bf_and, bf_or, bf_not, ck_int, ck_10, ck_nI, cond_true, cond_false, oSub_g, nIs_le, oDiv_s, ck_n10, eGf, jx_gf, eLd, jx_ld, eLda, jx_lda, eLen, jx_len, eCl, jx_as, jx_ec, jx_ev, jx_es, tb1, tb3, tbk, tbn, tbl, sAsg_k, jx_set, jx_ft_int, jx_ft_ref, jx_ft_null, jx_ft_z0, jx_ft_z1, sSeq_k, sIf_k, sSkip, sInc, sPf_k, jx_pf_h, sUf_k, sSt_k, jx_st_h, sSta_k, jx_sta_h, jx_el, sUst_k, sRet, jx_rt, sRetV, sCl_k, sThrow_h, eNew, jx_nw_h, sObj, eNa, List.getElem?_cons_zero, List.getElem?_cons_succ, List.set_cons_zero, List.set_cons_succ, List.cons_append, List.nil_append, List.replicate_succ, List.replicate_zero, List.length_cons, List.length_nil, List.all_cons, List.all_nil, Value.category, Bool.and_true, Bool.true_and, Bool.and_self, beq_self_eq_true, and_self, and_true, true_and, if_true, if_false, ite_true, ite_false, eq_self, List.mem_cons, List.mem_singleton, List.not_mem_nil, or_false, true_or, or_true, false_or, Nat.reduceSub, Nat.reduceAdd, decide_true, decide_false, Bool.not_true, Bool.not_false, Nat.zero_add, Bool.false_eq_true, va_rf, reduceCtorEq, Nat.reduceEqDiff, Nat.reduceLT, Nat.reduceMul, Nat.lt_irrefl, rNe_b, rEq_b, jx_ft_b, jx_ix_nI, rLt_n, rGe_n, rGt_n, rLe_n, rEq_n, rNe_n, rGt_0, rEq_0, rNe_0, rLt_0, rGe_0, rLe_0, nI_1s, kU_ok, kU_r, kA_ok, kA_r, kC_t, kC_f, kC_r, kO_ok, kO_l, kO_r, kE_ok, kN_ok, kR_ok, kE_t, kE_f, kN_t, kN_f, kR_t, kR_f, cH_1, cH_21, cH_sh, cH_da, cH_dk, cH_sl, cH_dt, cH_pn, cH_wd, cH_md, cS_sh, cS_pn, cS_pn0, cS_pn1, cS_sl, cS_dt, cS_wd, cS_pr, pm_eta, va_rf, b2i_t, b2i_f, Bool.true_or, Bool.false_or, Bool.or_true, Bool.or_false, Bool.false_and, Bool.and_false, q_need1, q_need0, q_allow1, q_allow0, q_Sh_isDisk, lb_Sh_mend_2, x1, x2, x5, y1, y2, y4, hm5, ox, qg, qp]
                            · left
                              refine ⟨rfl, .null, fun K => ?_⟩
                              simp (disch := first | omega | assumption) only [jx_fn, jx_b_ok, jx_kb_ok, jx_b_inl, jx_kb_inl, jx_b_inr, jx_kb_inr, eInt, eNull, eI, eA, eBin, jx_op, oAdd_n, oMul_n, cCmp, cCmp0, jx_cp, cNull, jx_nl, cNot, cAnd_k, cOr_k, cIte_c, eIte_k, ck_ite, bf_and, bf_or, bf_not, ck_int, ck_10, ck_nI, cond_true, cond_false, oSub_g, nIs_le, oDiv_s, ck_n10, eGf, jx_gf, eLd, jx_ld, eLda, jx_lda, eLen, jx_len, eCl, jx_as, jx_ec, jx_ev, jx_es, tb1, tb3, tbk, tbn, tbl, sAsg_k, jx_set, jx_ft_int, jx_ft_ref, jx_ft_null, jx_ft_z0, jx_ft_z1, sSeq_k, sIf_k, sSkip, sInc, sPf_k, jx_pf_h, sUf_k, sSt_k, jx_st_h, sSta_k, jx_sta_h, jx_el, sUst_k, sRet, jx_rt, sRetV, sCl_k, sThrow_h, eNew, jx_nw_h, sObj, eNa, List.getElem?_cons_zero, List.getElem?_cons_succ, List.set_cons_zero, List.set_cons_succ, List.cons_append, List.nil_append, List.replicate_succ, List.replicate_zero, List.length_cons, List.length_nil, List.all_cons, List.all_nil, Value.category, Bool.and_true, Bool.true_and, Bool.and_self, beq_self_eq_true, and_self, and_true, true_and, if_true, if_false, ite_true, ite_false, eq_self, List.mem_cons, List.mem_singleton, List.not_mem_nil, or_false, true_or, or_true, false_or, Nat.reduceSub, Nat.reduceAdd, decide_true, decide_false, Bool.not_true, Bool.not_false, Nat.zero_add, Bool.false_eq_true, va_rf, reduceCtorEq, Nat.reduceEqDiff, Nat.reduceLT, Nat.reduceMul, Nat.lt_irrefl, rNe_b, rEq_b, jx_ft_b, jx_ix_nI, rLt_n, rGe_n, rGt_n, rLe_n, rEq_n, rNe_n, rGt_0, rEq_0, rNe_0, rLt_0, rGe_0, rLe_0, nI_1s, kU_ok, kU_r, kA_ok, kA_r, kC_t, kC_f, kC_r, kO_ok, kO_l, kO_r, kE_ok, kN_ok, kR_ok, kE_t, kE_f, kN_t, kN_f, kR_t, kR_f, cH_1, cH_21, cH_sh, cH_da, cH_dk, cH_sl, cH_dt, cH_pn, cH_wd, cH_md, cS_sh, cS_pn, cS_pn0, cS_pn1, cS_sl, cS_dt, cS_wd, cS_pr, pm_eta, va_rf, b2i_t, b2i_f, Bool.true_or, Bool.false_or, Bool.or_true, Bool.or_false, Bool.false_and, Bool.and_false, q_need1, q_need0, q_allow1, q_allow0, q_Sh_isDisk, lb_Sh_mend_2, x1, x2, x5, y1, y2, y4, hm5, ox, qg, qp])
                        have e3 : itr (fun w y => wD y (4 * (N (9 + 10 * m + k) - 1) + w) (xfd y.2.1 (4 * (T (9 + 10 * m + twN k) - 1) + w))) 4 y = cpy1 y (N (9 + 10 * m + k)) (T (9 + 10 * m + twN k)) := rfl
                        rw [e3] at li
                        rcases li with ⟨l1, w', l2⟩ | ⟨l1, l2⟩
                        · refine Or.inl ⟨l1, .int (nI 4), fun K => ?_⟩
                          simp (disch := first | omega | assumption) only [jx_fn, jx_b_ok, jx_kb_ok, jx_b_inl, jx_kb_inl, jx_b_inr, jx_kb_inr, eInt, eNull, eI, eA, eBin, jx_op, oAdd_n, oMul_n, cCmp, cCmp0, jx_cp, cNull, jx_nl, cNot, cAnd_k, cOr_k, cIte_c, eIte_k, ck_ite, bf_and, bf_or, bf_not, ck_int, ck_10, ck_nI, cond_true, cond_false, oSub_g, nIs_le, oDiv_s, ck_n10, eGf, jx_gf, eLd, jx_ld, eLda, jx_lda, eLen, jx_len, eCl, jx_as, jx_ec, jx_ev, jx_es, tb1, tb3, tbk, tbn, tbl, sAsg_k, jx_set, jx_ft_int, jx_ft_ref, jx_ft_null, jx_ft_z0, jx_ft_z1, sSeq_k, sIf_k, sSkip, sInc, sPf_k, jx_pf_h, sUf_k, sSt_k, jx_st_h, sSta_k, jx_sta_h, jx_el, sUst_k, sRet, jx_rt, sRetV, sCl_k, sThrow_h, eNew, jx_nw_h, sObj, eNa, List.getElem?_cons_zero, List.getElem?_cons_succ, List.set_cons_zero, List.set_cons_succ, List.cons_append, List.nil_append, List.replicate_succ, List.replicate_zero, List.length_cons, List.length_nil, List.all_cons, List.all_nil, Value.category, Bool.and_true, Bool.true_and, Bool.and_self, beq_self_eq_true, and_self, and_true, true_and, if_true, if_false, ite_true, ite_false, eq_self, List.mem_cons, List.mem_singleton, List.not_mem_nil, or_false, true_or, or_true, false_or, Nat.reduceSub, Nat.reduceAdd, decide_true, decide_false, Bool.not_true, Bool.not_false, Nat.zero_add, Bool.false_eq_true, va_rf, reduceCtorEq, Nat.reduceEqDiff, Nat.reduceLT, Nat.reduceMul, Nat.lt_irrefl, rNe_b, rEq_b, jx_ft_b, jx_ix_nI, rLt_n, rGe_n, rGt_n, rLe_n, rEq_n, rNe_n, rGt_0, rEq_0, rNe_0, rLt_0, rGe_0, rLe_0, nI_1s, kU_ok, kU_r, kA_ok, kA_r, kC_t, kC_f, kC_r, kO_ok, kO_l, kO_r, kE_ok, kN_ok, kR_ok, kE_t, kE_f, kN_t, kN_f, kR_t, kR_f, cH_1, cH_21, cH_sh, cH_da, cH_dk, cH_sl, cH_dt, cH_pn, cH_wd, cH_md, cS_sh, cS_pn, cS_pn0, cS_pn1, cS_sl, cS_dt, cS_wd, cS_pr, pm_eta, va_rf, b2i_t, b2i_f, Bool.true_or, Bool.false_or, Bool.or_true, Bool.or_false, Bool.false_and, Bool.and_false, q_need1, q_need0, q_allow1, q_allow0, q_Sh_isDisk, lb_Sh_mend_1, l2]
                        · refine Or.inr ⟨l1, fun K => ?_⟩
                          simp (disch := first | omega | assumption) only [jx_fn, jx_b_ok, jx_kb_ok, jx_b_inl, jx_kb_inl, jx_b_inr, jx_kb_inr, eInt, eNull, eI, eA, eBin, jx_op, oAdd_n, oMul_n, cCmp, cCmp0, jx_cp, cNull, jx_nl, cNot, cAnd_k, cOr_k, cIte_c, eIte_k, ck_ite, bf_and, bf_or, bf_not, ck_int, ck_10, ck_nI, cond_true, cond_false, oSub_g, nIs_le, oDiv_s, ck_n10, eGf, jx_gf, eLd, jx_ld, eLda, jx_lda, eLen, jx_len, eCl, jx_as, jx_ec, jx_ev, jx_es, tb1, tb3, tbk, tbn, tbl, sAsg_k, jx_set, jx_ft_int, jx_ft_ref, jx_ft_null, jx_ft_z0, jx_ft_z1, sSeq_k, sIf_k, sSkip, sInc, sPf_k, jx_pf_h, sUf_k, sSt_k, jx_st_h, sSta_k, jx_sta_h, jx_el, sUst_k, sRet, jx_rt, sRetV, sCl_k, sThrow_h, eNew, jx_nw_h, sObj, eNa, List.getElem?_cons_zero, List.getElem?_cons_succ, List.set_cons_zero, List.set_cons_succ, List.cons_append, List.nil_append, List.replicate_succ, List.replicate_zero, List.length_cons, List.length_nil, List.all_cons, List.all_nil, Value.category, Bool.and_true, Bool.true_and, Bool.and_self, beq_self_eq_true, and_self, and_true, true_and, if_true, if_false, ite_true, ite_false, eq_self, List.mem_cons, List.mem_singleton, List.not_mem_nil, or_false, true_or, or_true, false_or, Nat.reduceSub, Nat.reduceAdd, decide_true, decide_false, Bool.not_true, Bool.not_false, Nat.zero_add, Bool.false_eq_true, va_rf, reduceCtorEq, Nat.reduceEqDiff, Nat.reduceLT, Nat.reduceMul, Nat.lt_irrefl, rNe_b, rEq_b, jx_ft_b, jx_ix_nI, rLt_n, rGe_n, rGt_n, rLe_n, rEq_n, rNe_n, rGt_0, rEq_0, rNe_0, rLt_0, rGe_0, rLe_0, nI_1s, kU_ok, kU_r, kA_ok, kA_r, kC_t, kC_f, kC_r, kO_ok, kO_l, kO_r, kE_ok, kN_ok, kR_ok, kE_t, kE_f, kN_t, kN_f, kR_t, kR_f, cH_1, cH_21, cH_sh, cH_da, cH_dk, cH_sl, cH_dt, cH_pn, cH_wd, cH_md, cS_sh, cS_pn, cS_pn0, cS_pn1, cS_sl, cS_dt, cS_wd, cS_pr, pm_eta, va_rf, b2i_t, b2i_f, Bool.true_or, Bool.false_or, Bool.or_true, Bool.or_false, Bool.false_and, Bool.and_false, q_need1, q_need0, q_allow1, q_allow0, q_Sh_isDisk, lb_Sh_mend_1, l2])
                rw [← ecp] at lp
                have hPM := cpys_PM (m := mo) (y := (sl, dt, true, lf, mo)) (Or.inl ⟨rfl, rfl⟩) T N m 10
                generalize hX : cpys T N m 10 (sl, dt, true, lf, mo) = X at lp hPM ⊢
                rw [show nx1 (pr, (sl, dt, true, lf, mo), T, cv, cl, ct, cp) N = nx1 (pr, X, T, cv, cl, ct, cp) N from rfl, show setX (pr, (sl, dt, true, lf, mo), T, cv, cl, ct, cp) X = (pr, X, T, cv, cl, ct, cp) from rfl]
                rcases lp with ⟨l1, w', lp⟩ | ⟨l1, lp⟩
                · have hmoX : X.2.2.2.2 = mo := by
                    rcases hPM with ⟨_, z⟩ | ⟨z, _⟩
                    · exact z
                    · rw [l1] at z; cases z
                  have hIM : IM (pr, X, T, cv, cl, ct, cp) := ⟨hW, hcv, hcl, hct, hcp, by dsimp only; rw [hmoX]; exact hmo, h30⟩
                  have hMV : MV (pr, X, T, cv, cl, ct, cp) := by
                    unfold MV
                    dsimp only
                    rw [hmoX]
                    exact hmv
                  have hCX : CR b h (pr, X, T, cv, cl, ct, cp) t mv lo hi := by
                    refine ⟨c1, c2, c3, ?_⟩
                    unfold MR at c4 ⊢
                    dsimp only at c4 ⊢
                    rw [hmoX]
                    exact c4
                  have hch := q_change b M fo wd hIM hMV l1 hb hCX hG4 ⟨_, _, _, _, _, _, _, hp4⟩ (Nat.le_refl _) (by rw [hF4.1]; omega) n1
                  rcases hch with ⟨l1', h2', wd', l2, l3, l4, l5, l6⟩ | ⟨l1', h2', wd', l2, l4, l5, l6⟩
                  · refine RZ.on hb hG4 (by omega) (by omega) l1' l4 l5 l6 (fun q hq => c4.nb hq) l3 (wd' := wd') (ov := vI (nI (mdc T m))) rfl ?_
                    generalize chS (pr, X, T, cv, cl, ct, cp) (nx1 (pr, X, T, cv, cl, ct, cp) N) = S at l2 ⊢
                    unfold cS at l2 ⊢
                    simp (disch := first | omega | assumption) only [jx_fn, jx_b_ok, jx_kb_ok, jx_b_inl, jx_kb_inl, jx_b_inr, jx_kb_inr, eInt, eNull, eI, eA, eBin, jx_op, oAdd_n, oMul_n, cCmp, cCmp0, jx_cp, cNull, jx_nl, cNot, cAnd_k, cOr_k, cIte_c, eIte_k, ck_ite, bf_and, bf_or, bf_not, ck_int, ck_10, ck_nI, cond_true, cond_false, oSub_g, nIs_le, oDiv_s, ck_n10, eGf, jx_gf, eLd, jx_ld, eLda, jx_lda, eLen, jx_len, eCl, jx_as, jx_ec, jx_ev, jx_es, tb1, tb3, tbk, tbn, tbl, sAsg_k, jx_set, jx_ft_int, jx_ft_ref, jx_ft_null, jx_ft_z0, jx_ft_z1, sSeq_k, sIf_k, sSkip, sInc, sPf_k, jx_pf_h, sUf_k, sSt_k, jx_st_h, sSta_k, jx_sta_h, jx_el, sUst_k, sRet, jx_rt, sRetV, sCl_k, sThrow_h, eNew, jx_nw_h, sObj, eNa, List.getElem?_cons_zero, List.getElem?_cons_succ, List.set_cons_zero, List.set_cons_succ, List.cons_append, List.nil_append, List.replicate_succ, List.replicate_zero, List.length_cons, List.length_nil, List.all_cons, List.all_nil, Value.category, Bool.and_true, Bool.true_and, Bool.and_self, beq_self_eq_true, and_self, and_true, true_and, if_true, if_false, ite_true, ite_false, eq_self, List.mem_cons, List.mem_singleton, List.not_mem_nil, or_false, true_or, or_true, false_or, Nat.reduceSub, Nat.reduceAdd, decide_true, decide_false, Bool.not_true, Bool.not_false, Nat.zero_add, Bool.false_eq_true, va_rf, reduceCtorEq, Nat.reduceEqDiff, Nat.reduceLT, Nat.reduceMul, Nat.lt_irrefl, rNe_b, rEq_b, jx_ft_b, jx_ix_nI, rLt_n, rGe_n, rGt_n, rLe_n, rEq_n, rNe_n, rGt_0, rEq_0, rNe_0, rLt_0, rGe_0, rLe_0, nI_1s, kU_ok, kU_r, kA_ok, kA_r, kC_t, kC_f, kC_r, kO_ok, kO_l, kO_r, kE_ok, kN_ok, kR_ok, kE_t, kE_f, kN_t, kN_f, kR_t, kR_f, cH_1, cH_21, cH_sh, cH_da, cH_dk, cH_sl, cH_dt, cH_pn, cH_wd, cH_md, cS_sh, cS_pn, cS_pn0, cS_pn1, cS_sl, cS_dt, cS_wd, cS_pr, pm_eta, va_rf, b2i_t, b2i_f, Bool.true_or, Bool.false_or, Bool.or_true, Bool.or_false, Bool.false_and, Bool.and_false, q_need1, q_need0, q_allow1, q_allow0, q_Sh_isDisk, f_Sh_mend, bd_Sh_mend, hn, q, hq, ql, qab, rt, qc, r1, r2, r3, hK, hz, lp, l2, vI]
                  · refine RZ.off hb hG4 (by omega) (by omega) l1' l4 l5 (fun q hq => l6 q (by omega)) rfl (t := t) (mv := mv) (wd' := wd') ?_
                    generalize chS (pr, X, T, cv, cl, ct, cp) (nx1 (pr, X, T, cv, cl, ct, cp) N) = S at l2 ⊢
                    unfold cS at l2 ⊢
                    simp (disch := first | omega | assumption) only [jx_fn, jx_b_ok, jx_kb_ok, jx_b_inl, jx_kb_inl, jx_b_inr, jx_kb_inr, eInt, eNull, eI, eA, eBin, jx_op, oAdd_n, oMul_n, cCmp, cCmp0, jx_cp, cNull, jx_nl, cNot, cAnd_k, cOr_k, cIte_c, eIte_k, ck_ite, bf_and, bf_or, bf_not, ck_int, ck_10, ck_nI, cond_true, cond_false, oSub_g, nIs_le, oDiv_s, ck_n10, eGf, jx_gf, eLd, jx_ld, eLda, jx_lda, eLen, jx_len, eCl, jx_as, jx_ec, jx_ev, jx_es, tb1, tb3, tbk, tbn, tbl, sAsg_k, jx_set, jx_ft_int, jx_ft_ref, jx_ft_null, jx_ft_z0, jx_ft_z1, sSeq_k, sIf_k, sSkip, sInc, sPf_k, jx_pf_h, sUf_k, sSt_k, jx_st_h, sSta_k, jx_sta_h, jx_el, sUst_k, sRet, jx_rt, sRetV, sCl_k, sThrow_h, eNew, jx_nw_h, sObj, eNa, List.getElem?_cons_zero, List.getElem?_cons_succ, List.set_cons_zero, List.set_cons_succ, List.cons_append, List.nil_append, List.replicate_succ, List.replicate_zero, List.length_cons, List.length_nil, List.all_cons, List.all_nil, Value.category, Bool.and_true, Bool.true_and, Bool.and_self, beq_self_eq_true, and_self, and_true, true_and, if_true, if_false, ite_true, ite_false, eq_self, List.mem_cons, List.mem_singleton, List.not_mem_nil, or_false, true_or, or_true, false_or, Nat.reduceSub, Nat.reduceAdd, decide_true, decide_false, Bool.not_true, Bool.not_false, Nat.zero_add, Bool.false_eq_true, va_rf, reduceCtorEq, Nat.reduceEqDiff, Nat.reduceLT, Nat.reduceMul, Nat.lt_irrefl, rNe_b, rEq_b, jx_ft_b, jx_ix_nI, rLt_n, rGe_n, rGt_n, rLe_n, rEq_n, rNe_n, rGt_0, rEq_0, rNe_0, rLt_0, rGe_0, rLe_0, nI_1s, kU_ok, kU_r, kA_ok, kA_r, kC_t, kC_f, kC_r, kO_ok, kO_l, kO_r, kE_ok, kN_ok, kR_ok, kE_t, kE_f, kN_t, kN_f, kR_t, kR_f, cH_1, cH_21, cH_sh, cH_da, cH_dk, cH_sl, cH_dt, cH_pn, cH_wd, cH_md, cS_sh, cS_pn, cS_pn0, cS_pn1, cS_sl, cS_dt, cS_wd, cS_pr, pm_eta, va_rf, b2i_t, b2i_f, Bool.true_or, Bool.false_or, Bool.or_true, Bool.or_false, Bool.false_and, Bool.and_false, q_need1, q_need0, q_allow1, q_allow0, q_Sh_isDisk, f_Sh_mend, bd_Sh_mend, hn, q, hq, ql, qab, rt, qc, r1, r2, r3, hK, hz, lp, l2]
                · rw [chS_off (s := (pr, X, T, cv, cl, ct, cp)) l1]
                  refine RZ.off hb hG4 (by omega) (by omega) (h2 := h4') l1 rfl rfl (fun q hq => hG4.2 q (by omega)) rfl (t := t) (mv := mv) (wd' := wd) ?_
                  have qx := cN_out h4' b M fo pr X t mv wd 6 (.inr (9, [])) (by have := hG4.1.1; omega)
                  rw [qx] at lp
                  unfold cS
                  simp (disch := first | omega | assumption) only [jx_fn, jx_b_ok, jx_kb_ok, jx_b_inl, jx_kb_inl, jx_b_inr, jx_kb_inr, eInt, eNull, eI, eA, eBin, jx_op, oAdd_n, oMul_n, cCmp, cCmp0, jx_cp, cNull, jx_nl, cNot, cAnd_k, cOr_k, cIte_c, eIte_k, ck_ite, bf_and, bf_or, bf_not, ck_int, ck_10, ck_nI, cond_true, cond_false, oSub_g, nIs_le, oDiv_s, ck_n10, eGf, jx_gf, eLd, jx_ld, eLda, jx_lda, eLen, jx_len, eCl, jx_as, jx_ec, jx_ev, jx_es, tb1, tb3, tbk, tbn, tbl, sAsg_k, jx_set, jx_ft_int, jx_ft_ref, jx_ft_null, jx_ft_z0, jx_ft_z1, sSeq_k, sIf_k, sSkip, sInc, sPf_k, jx_pf_h, sUf_k, sSt_k, jx_st_h, sSta_k, jx_sta_h, jx_el, sUst_k, sRet, jx_rt, sRetV, sCl_k, sThrow_h, eNew, jx_nw_h, sObj, eNa, List.getElem?_cons_zero, List.getElem?_cons_succ, List.set_cons_zero, List.set_cons_succ, List.cons_append, List.nil_append, List.replicate_succ, List.replicate_zero, List.length_cons, List.length_nil, List.all_cons, List.all_nil, Value.category, Bool.and_true, Bool.true_and, Bool.and_self, beq_self_eq_true, and_self, and_true, true_and, if_true, if_false, ite_true, ite_false, eq_self, List.mem_cons, List.mem_singleton, List.not_mem_nil, or_false, true_or, or_true, false_or, Nat.reduceSub, Nat.reduceAdd, decide_true, decide_false, Bool.not_true, Bool.not_false, Nat.zero_add, Bool.false_eq_true, va_rf, reduceCtorEq, Nat.reduceEqDiff, Nat.reduceLT, Nat.reduceMul, Nat.lt_irrefl, rNe_b, rEq_b, jx_ft_b, jx_ix_nI, rLt_n, rGe_n, rGt_n, rLe_n, rEq_n, rNe_n, rGt_0, rEq_0, rNe_0, rLt_0, rGe_0, rLe_0, nI_1s, kU_ok, kU_r, kA_ok, kA_r, kC_t, kC_f, kC_r, kO_ok, kO_l, kO_r, kE_ok, kN_ok, kR_ok, kE_t, kE_f, kN_t, kN_f, kR_t, kR_f, cH_1, cH_21, cH_sh, cH_da, cH_dk, cH_sl, cH_dt, cH_pn, cH_wd, cH_md, cS_sh, cS_pn, cS_pn0, cS_pn1, cS_sl, cS_dt, cS_wd, cS_pr, pm_eta, va_rf, b2i_t, b2i_f, Bool.true_or, Bool.false_or, Bool.or_true, Bool.or_false, Bool.false_and, Bool.and_false, q_need1, q_need0, q_allow1, q_allow0, q_Sh_isDisk, f_Sh_mend, bd_Sh_mend, hn, q, hq, ql, qab, rt, qc, r1, r2, r3, hK, hz, lp]
            · rw [hno]
              have hG4 := hG.fr hF4 (Nat.le_refl _)
              refine RZ.thr2 (wd := wd) (t := t) (mv := mv) hb hG4 (by omega) (by omega) (fun _ => ⟨lo, hi, hCR.gw hG4⟩) (c := 4) (k := 11) (by decide) rfl ?_
              rw [← hF4.1] at hK
              unfold cS
              simp (disch := first | omega | assumption) only [jx_fn, jx_b_ok, jx_kb_ok, jx_b_inl, jx_kb_inl, jx_b_inr, jx_kb_inr, eInt, eNull, eI, eA, eBin, jx_op, oAdd_n, oMul_n, cCmp, cCmp0, jx_cp, cNull, jx_nl, cNot, cAnd_k, cOr_k, cIte_c, eIte_k, ck_ite, bf_and, bf_or, bf_not, ck_int, ck_10, ck_nI, cond_true, cond_false, oSub_g, nIs_le, oDiv_s, ck_n10, eGf, jx_gf, eLd, jx_ld, eLda, jx_lda, eLen, jx_len, eCl, jx_as, jx_ec, jx_ev, jx_es, tb1, tb3, tbk, tbn, tbl, sAsg_k, jx_set, jx_ft_int, jx_ft_ref, jx_ft_null, jx_ft_z0, jx_ft_z1, sSeq_k, sIf_k, sSkip, sInc, sPf_k, jx_pf_h, sUf_k, sSt_k, jx_st_h, sSta_k, jx_sta_h, jx_el, sUst_k, sRet, jx_rt, sRetV, sCl_k, sThrow_h, eNew, jx_nw_h, sObj, eNa, List.getElem?_cons_zero, List.getElem?_cons_succ, List.set_cons_zero, List.set_cons_succ, List.cons_append, List.nil_append, List.replicate_succ, List.replicate_zero, List.length_cons, List.length_nil, List.all_cons, List.all_nil, Value.category, Bool.and_true, Bool.true_and, Bool.and_self, beq_self_eq_true, and_self, and_true, true_and, if_true, if_false, ite_true, ite_false, eq_self, List.mem_cons, List.mem_singleton, List.not_mem_nil, or_false, true_or, or_true, false_or, Nat.reduceSub, Nat.reduceAdd, decide_true, decide_false, Bool.not_true, Bool.not_false, Nat.zero_add, Bool.false_eq_true, va_rf, reduceCtorEq, Nat.reduceEqDiff, Nat.reduceLT, Nat.reduceMul, Nat.lt_irrefl, rNe_b, rEq_b, jx_ft_b, jx_ix_nI, rLt_n, rGe_n, rGt_n, rLe_n, rEq_n, rNe_n, rGt_0, rEq_0, rNe_0, rLt_0, rGe_0, rLe_0, nI_1s, kU_ok, kU_r, kA_ok, kA_r, kC_t, kC_f, kC_r, kO_ok, kO_l, kO_r, kE_ok, kN_ok, kR_ok, kE_t, kE_f, kN_t, kN_f, kR_t, kR_f, cH_1, cH_21, cH_sh, cH_da, cH_dk, cH_sl, cH_dt, cH_pn, cH_wd, cH_md, cS_sh, cS_pn, cS_pn0, cS_pn1, cS_sl, cS_dt, cS_wd, cS_pr, pm_eta, va_rf, b2i_t, b2i_f, Bool.true_or, Bool.false_or, Bool.or_true, Bool.or_false, Bool.false_and, Bool.and_false, q_need1, q_need0, q_allow1, q_allow0, q_Sh_isDisk, f_Sh_mend, bd_Sh_mend, hn, q, hq, ql, qab, rt, qc, r1, r2, r3, hK]
          · rw [show sp_mend (nI m) (pr, (sl, dt, true, lf, mo), T, cv, cl, ct, cp) = (4, nI 0, pr, (sl, dt, true, lf, mo), T, cv, cl, ct, cp) from by simp only [sp_mend, hV, k1, decide_eq_true hk3, h4, Bool.not_true, cond_false, cond_true]]
            refine RZ.thr (wd := wd) hb hC' (c := 4) (k := 11) (by decide) rfl ?_
            simp (disch := first | omega | assumption) only [jx_fn, jx_b_ok, jx_kb_ok, jx_b_inl, jx_kb_inl, jx_b_inr, jx_kb_inr, eInt, eNull, eI, eA, eBin, jx_op, oAdd_n, oMul_n, cCmp, cCmp0, jx_cp, cNull, jx_nl, cNot, cAnd_k, cOr_k, cIte_c, eIte_k, ck_ite, bf_and, bf_or, bf_not, ck_int, ck_10, ck_nI, cond_true, cond_false, oSub_g, nIs_le, oDiv_s, ck_n10, eGf, jx_gf, eLd, jx_ld, eLda, jx_lda, eLen, jx_len, eCl, jx_as, jx_ec, jx_ev, jx_es, tb1, tb3, tbk, tbn, tbl, sAsg_k, jx_set, jx_ft_int, jx_ft_ref, jx_ft_null, jx_ft_z0, jx_ft_z1, sSeq_k, sIf_k, sSkip, sInc, sPf_k, jx_pf_h, sUf_k, sSt_k, jx_st_h, sSta_k, jx_sta_h, jx_el, sUst_k, sRet, jx_rt, sRetV, sCl_k, sThrow_h, eNew, jx_nw_h, sObj, eNa, List.getElem?_cons_zero, List.getElem?_cons_succ, List.set_cons_zero, List.set_cons_succ, List.cons_append, List.nil_append, List.replicate_succ, List.replicate_zero, List.length_cons, List.length_nil, List.all_cons, List.all_nil, Value.category, Bool.and_true, Bool.true_and, Bool.and_self, beq_self_eq_true, and_self, and_true, true_and, if_true, if_false, ite_true, ite_false, eq_self, List.mem_cons, List.mem_singleton, List.not_mem_nil, or_false, true_or, or_true, false_or, Nat.reduceSub, Nat.reduceAdd, decide_true, decide_false, Bool.not_true, Bool.not_false, Nat.zero_add, Bool.false_eq_true, va_rf, reduceCtorEq, Nat.reduceEqDiff, Nat.reduceLT, Nat.reduceMul, Nat.lt_irrefl, rNe_b, rEq_b, jx_ft_b, jx_ix_nI, rLt_n, rGe_n, rGt_n, rLe_n, rEq_n, rNe_n, rGt_0, rEq_0, rNe_0, rLt_0, rGe_0, rLe_0, nI_1s, kU_ok, kU_r, kA_ok, kA_r, kC_t, kC_f, kC_r, kO_ok, kO_l, kO_r, kE_ok, kN_ok, kR_ok, kE_t, kE_f, kN_t, kN_f, kR_t, kR_f, cH_1, cH_21, cH_sh, cH_da, cH_dk, cH_sl, cH_dt, cH_pn, cH_wd, cH_md, cS_sh, cS_pn, cS_pn0, cS_pn1, cS_sl, cS_dt, cS_wd, cS_pr, pm_eta, va_rf, b2i_t, b2i_f, Bool.true_or, Bool.false_or, Bool.or_true, Bool.or_false, Bool.false_and, Bool.and_false, q_need1, q_need0, q_allow1, q_allow0, q_Sh_isDisk, f_Sh_mend, bd_Sh_mend, cS, hn, q, hq, ql, qab]
        · rw [decide_eq_false hk3, cond_false] at ql
          rw [show sp_mend (nI m) (pr, (sl, dt, true, lf, mo), T, cv, cl, ct, cp) = (3, nI 0, pr, (sl, dt, true, lf, mo), T, cv, cl, ct, cp) from by simp only [sp_mend, hV, k1, decide_eq_false hk3, Bool.not_true, Bool.not_false, cond_false, cond_true]]
          refine RZ.thr (wd := wd) hb hC' (c := 3) (k := 10) (by decide) rfl ?_
          simp (disch := first | omega | assumption) only [jx_fn, jx_b_ok, jx_kb_ok, jx_b_inl, jx_kb_inl, jx_b_inr, jx_kb_inr, eInt, eNull, eI, eA, eBin, jx_op, oAdd_n, oMul_n, cCmp, cCmp0, jx_cp, cNull, jx_nl, cNot, cAnd_k, cOr_k, cIte_c, eIte_k, ck_ite, bf_and, bf_or, bf_not, ck_int, ck_10, ck_nI, cond_true, cond_false, oSub_g, nIs_le, oDiv_s, ck_n10, eGf, jx_gf, eLd, jx_ld, eLda, jx_lda, eLen, jx_len, eCl, jx_as, jx_ec, jx_ev, jx_es, tb1, tb3, tbk, tbn, tbl, sAsg_k, jx_set, jx_ft_int, jx_ft_ref, jx_ft_null, jx_ft_z0, jx_ft_z1, sSeq_k, sIf_k, sSkip, sInc, sPf_k, jx_pf_h, sUf_k, sSt_k, jx_st_h, sSta_k, jx_sta_h, jx_el, sUst_k, sRet, jx_rt, sRetV, sCl_k, sThrow_h, eNew, jx_nw_h, sObj, eNa, List.getElem?_cons_zero, List.getElem?_cons_succ, List.set_cons_zero, List.set_cons_succ, List.cons_append, List.nil_append, List.replicate_succ, List.replicate_zero, List.length_cons, List.length_nil, List.all_cons, List.all_nil, Value.category, Bool.and_true, Bool.true_and, Bool.and_self, beq_self_eq_true, and_self, and_true, true_and, if_true, if_false, ite_true, ite_false, eq_self, List.mem_cons, List.mem_singleton, List.not_mem_nil, or_false, true_or, or_true, false_or, Nat.reduceSub, Nat.reduceAdd, decide_true, decide_false, Bool.not_true, Bool.not_false, Nat.zero_add, Bool.false_eq_true, va_rf, reduceCtorEq, Nat.reduceEqDiff, Nat.reduceLT, Nat.reduceMul, Nat.lt_irrefl, rNe_b, rEq_b, jx_ft_b, jx_ix_nI, rLt_n, rGe_n, rGt_n, rLe_n, rEq_n, rNe_n, rGt_0, rEq_0, rNe_0, rLt_0, rGe_0, rLe_0, nI_1s, kU_ok, kU_r, kA_ok, kA_r, kC_t, kC_f, kC_r, kO_ok, kO_l, kO_r, kE_ok, kN_ok, kR_ok, kE_t, kE_f, kN_t, kN_f, kR_t, kR_f, cH_1, cH_21, cH_sh, cH_da, cH_dk, cH_sl, cH_dt, cH_pn, cH_wd, cH_md, cS_sh, cS_pn, cS_pn0, cS_pn1, cS_sl, cS_dt, cS_wd, cS_pr, pm_eta, va_rf, b2i_t, b2i_f, Bool.true_or, Bool.false_or, Bool.or_true, Bool.or_false, Bool.false_and, Bool.and_false, q_need1, q_need0, q_allow1, q_allow0, q_Sh_isDisk, f_Sh_mend, bd_Sh_mend, cS, hn, q, hq, ql]
end U10
