/-! THE COMPONENT's METHODS: what is listed, free places, room -/
/-- what the move says of places: nothing is copied, or a leg to c -/
def MQc (b : Nat) (h : jx_S) (mv : Value) (c cv cl : Nat) : Prop := (mv = .null ∧ c = 0) ∨ ∃ am d vo le fr co, mv = .ref am ∧ (b + 26 ≤ am) ∧ h.2.2 am = some (.inr (4, [.int d, .int vo, .int le, .int fr, .int (nI c), .int co])) ∧ (c ≠ 0 → vo = nI cv ∧ le = nI cl)
theorem besd_nbr (T : Nat → Nat) (v e l j : Nat) (hl : l < 2) : nbr (T (5 + v) % 4) (colsN T v) e l (j / 2) (j % 2) = besd T v j (2 * e + l) := by
  unfold nbr besd
  have e1 : (2 * e + l) / 2 = e := by omega
  rw [e1]
  by_cases h2 : T (5 + v) % 4 = 2
  · rw [decide_eq_true h2]
    show (!decide (e = j / 2) && decide (e / colsN T v = j / 2 / colsN T v)) = (decide (j / 2 / colsN T v = e / colsN T v) && !decide (j / 2 = e))
    rw [Bool.and_comm]
    congr 1
    · rw [decide_eq_decide]; exact eq_comm
    · congr 1
      rw [decide_eq_decide]; exact eq_comm
  · rw [decide_eq_false h2]
    show (decide (T (5 + v) % 4 = 3) && decide (e = j / 2) && !decide (l = j % 2)) = (decide (T (5 + v) % 4 = 3) && decide (j / 2 = e) && !decide (j = 2 * e + l))
    by_cases h3 : j / 2 = e
    · have : decide (l = j % 2) = decide (j = 2 * e + l) := by
        rw [decide_eq_decide]
        omega
      rw [this, decide_eq_true h3, decide_eq_true h3.symm]
    · rw [decide_eq_false h3, decide_eq_false (fun z : e = j / 2 => h3 z.symm)]
      simp
theorem mts_eq (T : Nat → Nat) (c cv cl v e l d : Nat) (hl : l < 2) : (hasNb (T (5 + v) % 4) (colsN T v) (fun k => T (9 + 10 * v + k)) e l d (2 * elsN T v) || (decide (0 < c) && decide (cv = v) && decide ((c - 1) / 8 = d) && nbr (T (5 + v) % 4) (colsN T v) e l (cl / 2) (cl % 2))) = mts T c cv cl v (2 * e + l) d := by
  unfold mts hasNb
  rw [Bool.or_comm, besd_nbr _ _ _ _ _ hl]
  congr 1
  refine anyB_congr fun k hk => ?_
  rw [besd_nbr _ _ _ _ _ hl, Bool.and_comm, Bool.and_assoc]
/-- the component's choice of a disk -/
def cb (fr : Nat → Nat) : Nat → Option Nat
  | 0 => none
  | n + 1 => if fr n = 0 then cb fr n else (match cb fr n with
    | none => some n
    | some m => if fr m < fr n then some n else some m)
def cbP (fr : Nat → Nat) (lo n : Nat) : Option Nat → Prop
  | none => ∀ j, lo ≤ j → j < n → fr j = 0
  | some m => lo ≤ m ∧ m < n ∧ 0 < fr m ∧ ∀ j, lo ≤ j → j < n → fr j ≤ fr m ∧ (j < m → fr j < fr m)
theorem cb_P (fr : Nat → Nat) : ∀ n, cbP fr 0 n (cb fr n) := by
  intro n
  induction n with
  | zero => intro j _ h; omega
  | succ n ih =>
    unfold cb
    by_cases h0 : fr n = 0
    · rw [if_pos h0]
      cases hc : cb fr n with
      | none =>
        rw [hc] at ih
        intro j h1 h2
        by_cases e : j = n
        · subst e; exact h0
        · exact ih j h1 (by omega)
      | some m =>
        rw [hc] at ih
        obtain ⟨i1, i2, i3, i4⟩ := ih
        refine ⟨i1, by omega, i3, fun j h1 h2 => ?_⟩
        by_cases e : j = n
        · subst e; exact ⟨by omega, by omega⟩
        · exact i4 j h1 (by omega)
    · rw [if_neg h0]
      cases hc : cb fr n with
      | none =>
        rw [hc] at ih
        refine ⟨by omega, by omega, by omega, fun j h1 h2 => ?_⟩
        by_cases e : j = n
        · subst e; exact ⟨by omega, by omega⟩
        · have := ih j h1 (by omega)
          exact ⟨by omega, by omega⟩
      | some m =>
        rw [hc] at ih
        obtain ⟨i1, i2, i3, i4⟩ := ih
        show cbP fr 0 (n + 1) (if fr m < fr n then some n else some m)
        by_cases h3 : fr m < fr n
        · rw [if_pos h3]
          refine ⟨by omega, by omega, by omega, fun j h1 h2 => ?_⟩
          by_cases e : j = n
          · subst e; exact ⟨by omega, by omega⟩
          · have := i4 j h1 (by omega)
            exact ⟨by omega, by omega⟩
        · rw [if_neg h3]
          refine ⟨by omega, by omega, by omega, fun j h1 h2 => ?_⟩
          by_cases e : j = n
          · subst e; exact ⟨by omega, by omega⟩
          · exact i4 j h1 (by omega)
theorem rmb_P (fr : Nat → Nat) : ∀ j, j ≤ 4 → cbP fr (4 - j) 4 (rmb fr j).1 ∧ (∀ i, 4 - j ≤ i → i < 4 → fr i ≤ (rmb fr j).2) ∧ ((rmb fr j).1 = none → (rmb fr j).2 = 0) ∧ ∀ m, (rmb fr j).1 = some m → fr m = (rmb fr j).2 := by
  intro j
  induction j with
  | zero => intro _; exact ⟨fun i _ _ => by omega, fun i _ _ => by omega, fun _ => rfl, fun m h => by cases h⟩
  | succ j ih =>
    intro hj
    obtain ⟨p1, p2, p3, p4⟩ := ih (by omega)
    have e3 : 4 - (j + 1) = 3 - j := by omega
    have e4 : 4 - j = 3 - j + 1 := by omega
    rw [e3]
    rw [e4] at p1 p2
    simp only [rmb]
    generalize rmb fr j = X at p1 p2 p3 p4 ⊢
    generalize hqq : 3 - j = q at p1 p2 ⊢
    obtain ⟨X1, X2⟩ := X
    dsimp only at p1 p2 p3 p4 ⊢
    by_cases h1 : 0 < fr q ∧ X2 ≤ fr q
    · rw [decide_eq_true h1.1, decide_eq_true h1.2]
      simp only [Bool.and_self, cond_true]
      have hq4 : q < 4 := by omega
      have hm : (bif decide (X2 < fr q) then fr q else X2) = fr q := by
        by_cases h2 : X2 < fr q
        · rw [decide_eq_true h2]; rfl
        · rw [decide_eq_false h2]; show X2 = fr q; omega
      rw [hm]
      refine ⟨⟨by omega, hq4, h1.1, fun i h2 h3 => ?_⟩, fun i h2 h3 => ?_, fun h => (by cases h), fun m h => (by cases h; rfl)⟩
      · by_cases e : i = q
        · subst e; exact ⟨by omega, by omega⟩
        · have := p2 i (by omega) h3
          exact ⟨by omega, by omega⟩
      · by_cases e : i = q
        · subst e; omega
        · have := p2 i (by omega) h3
          omega
    · have hb : (decide (0 < fr q) && decide (X2 ≤ fr q)) = false := by
        rw [← Bool.not_eq_true, Bool.and_eq_true, decide_eq_true_iff, decide_eq_true_iff]
        exact h1
      rw [hb]
      simp only [cond_false]
      have hm : (bif decide (X2 < fr q) then fr q else X2) = X2 := by
        by_cases h2 : X2 < fr q
        · exact absurd ⟨by omega, by omega⟩ h1
        · rw [decide_eq_false h2]; rfl
      rw [hm]
      refine ⟨?_, fun i h2 h3 => ?_, p3, p4⟩
      · cases X1 with
        | none =>
          have := p3 rfl
          subst this
          intro i h2 h3
          by_cases e : i = q
          · subst e; omega
          · exact p1 i (by omega) h3
        | some m =>
          obtain ⟨i1, i2, i3, i4⟩ := p1
          have hm2 := p4 m rfl
          refine ⟨by omega, i2, i3, fun i h2 h3 => ?_⟩
          by_cases e : i = q
          · subst e; exact ⟨by omega, by omega⟩
          · exact i4 i (by omega) h3
      · by_cases e : i = q
        · subst e; omega
        · exact p2 i (by omega) h3
theorem cb_rmb (fr : Nat → Nat) : cb fr 4 = (rmb fr 4).1 := by
  have h1 := cb_P fr 4
  have h2 := (rmb_P fr 4 (by omega)).1
  rw [Nat.sub_self] at h2
  cases e1 : cb fr 4 with
  | none =>
    cases e2 : (rmb fr 4).1 with
    | none => rfl
    | some m =>
      rw [e1] at h1; rw [e2] at h2
      have := h1 m (by omega) h2.2.1
      have := h2.2.2.1
      omega
  | some n =>
    cases e2 : (rmb fr 4).1 with
    | none =>
      rw [e1] at h1; rw [e2] at h2
      have := h2 n (by omega) h1.2.1
      have := h1.2.2.1
      omega
    | some m =>
      rw [e1] at h1; rw [e2] at h2
      have a1 := h1.2.2.2 m (by omega) h2.2.1
      have a2 := h2.2.2.2 n (by omega) h1.2.1
      have : n = m := by
        rcases Nat.lt_trichotomy n m with z | z | z
        · have := a2.2 z; omega
        · exact z
        · have := a1.2 z; omega
      rw [this]
theorem scn_spec (g : Nat → Bool) : ∀ m i, match scn g i m with
    | none => ∀ k, i ≤ k → k < i + m → g k = false
    | some k => i ≤ k ∧ k < i + m ∧ g k = true ∧ ∀ j, i ≤ j → j < k → g j = false := by
  intro m
  induction m with
  | zero => intro i; intro k h1 h2; omega
  | succ m ih =>
    intro i
    unfold scn
    cases hg : g i
    · simp only [cond_false]
      have := ih (i + 1)
      cases hs : scn g (i + 1) m with
      | none =>
        rw [hs] at this
        intro k h1 h2
        by_cases e : k = i
        · subst e; exact hg
        · exact this k (by omega) (by omega)
      | some k =>
        rw [hs] at this
        obtain ⟨a1, a2, a3, a4⟩ := this
        refine ⟨by omega, by omega, a3, fun j h1 h2 => ?_⟩
        by_cases e : j = i
        · subst e; exact hg
        · exact a4 j (by omega) h2
    · simp only [cond_true]
      exact ⟨by omega, by omega, hg, fun j h1 h2 => by omega⟩
section RM
variable (h : jx_S) (b : Nat) (M : cM) (fo : Nat → Int64) (pr : Nat → Bool) (x : xA) (t : Nat) (mv : Value) (wd : Nat → Int32)
variable {lo hi t' : Nat} {T : Nat → Nat}
set_option maxHeartbeats 8000000 in
theorem q_Sh_isListed (hO : OUT b lo hi) (hp : TP h lo hi t T) (hT : ∀ k, T k < 2 ^ 31) (d : Nat) (hd : d < 4) : f_Sh_isListed [.ref b, .int (nI d)] (cH h b M fo pr x t mv wd) = some (.returned (some (.int (b2i (decide (0 < T (1 + d)))))), (cH h b M fo pr x t mv wd)) := by
  obtain ⟨ea, va, qa, la, fe, fv, fl, hp⟩ := hp
  have cp := cTPa h b M fo pr x t mv wd hO hp
  have r1 := cp.2.2.2.2.1
  have r2 := cp.2.2.2.2.2.1
  have r3 := cp.2.2.2.2.2.2.1 d hd
  have b1 := hT (1 + d)
  simp (disch := first | omega | assumption) only [jx_fn, jx_b_ok, jx_kb_ok, jx_b_inl, jx_kb_inl, jx_b_inr, jx_kb_inr, eInt, eNull, eI, eA, eBin, jx_op, oAdd_n, oMul_n, cCmp, cCmp0, jx_cp, cNull, jx_nl, cNot, cAnd_k, cOr_k, cIte_c, eIte_k, ck_ite, bf_and, bf_or, bf_not, ck_int, ck_10, ck_nI, cond_true, cond_false, oSub_g, nIs_le, oDiv_s, ck_n10, eGf, jx_gf, eLd, jx_ld, eLda, jx_lda, eLen, jx_len, eCl, jx_as, jx_ec, jx_ev, jx_es, tb1, tb3, tbk, tbn, tbl, sAsg_k, jx_set, jx_ft_int, jx_ft_ref, jx_ft_null, jx_ft_z0, jx_ft_z1, sSeq_k, sIf_k, sSkip, sInc, sPf_k, jx_pf_h, sUf_k, sSt_k, jx_st_h, sSta_k, jx_sta_h, jx_el, sUst_k, sRet, jx_rt, sRetV, sCl_k, sThrow_h, eNew, jx_nw_h, sObj, eNa, List.getElem?_cons_zero, List.getElem?_cons_succ, List.set_cons_zero, List.set_cons_succ, List.cons_append, List.nil_append, List.replicate_succ, List.replicate_zero, List.length_cons, List.length_nil, List.all_cons, List.all_nil, Value.category, Bool.and_true, Bool.true_and, Bool.and_self, beq_self_eq_true, and_self, and_true, true_and, if_true, if_false, ite_true, ite_false, eq_self, List.mem_cons, List.mem_singleton, List.not_mem_nil, or_false, true_or, or_true, false_or, Nat.reduceSub, Nat.reduceAdd, decide_true, decide_false, Bool.not_true, Bool.not_false, Nat.zero_add, Bool.false_eq_true, va_rf, reduceCtorEq, Nat.reduceEqDiff, Nat.reduceLT, Nat.reduceMul, Nat.lt_irrefl, rNe_b, rEq_b, jx_ft_b, jx_ix_nI, rLt_n, rGe_n, rGt_n, rLe_n, rEq_n, rNe_n, rGt_0, rEq_0, rNe_0, rLt_0, rGe_0, rLe_0, nI_1s, kU_ok, kU_r, kA_ok, kA_r, kC_t, kC_f, kC_r, kO_ok, kO_l, kO_r, kE_ok, kN_ok, kR_ok, kE_t, kE_f, kN_t, kN_f, kR_t, kR_f, cH_1, cH_21, cH_sh, cH_da, cH_dk, cH_sl, cH_dt, cH_pn, cH_wd, cH_md, cS_sh, cS_pn, cS_pn0, cS_pn1, cS_sl, cS_dt, cS_wd, cS_pr, pm_eta, va_rf, b2i_t, b2i_f, Bool.true_or, Bool.false_or, Bool.or_true, Bool.or_false, Bool.false_and, Bool.and_false, f_Sh_isListed, bd_Sh_isListed, r1, r2, r3]
set_option maxHeartbeats 8000000 in
theorem q_Sh_isOneAbsent (hO : OUT b lo hi) (hp : TP h lo hi t T) (hT : ∀ k, T k < 2 ^ 31) : f_Sh_isOneAbsent [.ref b] (cH h b M fo pr x t mv wd) = some (.returned (some (.int (b2i (absn T pr)))), (cH h b M fo pr x t mv wd)) := by
  have ql := q_Sh_isListed h b M fo pr x t mv wd hO hp hT
  have z := wh_inv0 (c := lc_Sh_isOneAbsent_0) (A := lb_Sh_isOneAbsent_0) (fun k L H' => ∃ z5, L = [.ref b, .int (b2i (anyB (fun d => decide (0 < T (1 + d)) && !pr d) k)), .ref (b + 1), .int (nI 4), .int (nI k), z5] ∧ H' = (cH h b M fo pr x t mv wd)) 4 (fun k L H' hk hI => by
      obtain ⟨z5, rfl, rfl⟩ := hI
      simp (disch := first | omega | assumption) only [jx_fn, jx_b_ok, jx_kb_ok, jx_b_inl, jx_kb_inl, jx_b_inr, jx_kb_inr, eInt, eNull, eI, eA, eBin, jx_op, oAdd_n, oMul_n, cCmp, cCmp0, jx_cp, cNull, jx_nl, cNot, cAnd_k, cOr_k, cIte_c, eIte_k, ck_ite, bf_and, bf_or, bf_not, ck_int, ck_10, ck_nI, cond_true, cond_false, oSub_g, nIs_le, oDiv_s, ck_n10, eGf, jx_gf, eLd, jx_ld, eLda, jx_lda, eLen, jx_len, eCl, jx_as, jx_ec, jx_ev, jx_es, tb1, tb3, tbk, tbn, tbl, sAsg_k, jx_set, jx_ft_int, jx_ft_ref, jx_ft_null, jx_ft_z0, jx_ft_z1, sSeq_k, sIf_k, sSkip, sInc, sPf_k, jx_pf_h, sUf_k, sSt_k, jx_st_h, sSta_k, jx_sta_h, jx_el, sUst_k, sRet, jx_rt, sRetV, sCl_k, sThrow_h, eNew, jx_nw_h, sObj, eNa, List.getElem?_cons_zero, List.getElem?_cons_succ, List.set_cons_zero, List.set_cons_succ, List.cons_append, List.nil_append, List.replicate_succ, List.replicate_zero, List.length_cons, List.length_nil, List.all_cons, List.all_nil, Value.category, Bool.and_true, Bool.true_and, Bool.and_self, beq_self_eq_true, and_self, and_true, true_and, if_true, if_false, ite_true, ite_false, eq_self, List.mem_cons, List.mem_singleton, List.not_mem_nil, or_false, true_or, or_true, false_or, Nat.reduceSub, Nat.reduceAdd, decide_true, decide_false, Bool.not_true, Bool.not_false, Nat.zero_add, Bool.false_eq_true, va_rf, reduceCtorEq, Nat.reduceEqDiff, Nat.reduceLT, Nat.reduceMul, Nat.lt_irrefl, rNe_b, rEq_b, jx_ft_b, jx_ix_nI, rLt_n, rGe_n, rGt_n, rLe_n, rEq_n, rNe_n, rGt_0, rEq_0, rNe_0, rLt_0, rGe_0, rLe_0, nI_1s, kU_ok, kU_r, kA_ok, kA_r, kC_t, kC_f, kC_r, kO_ok, kO_l, kO_r, kE_ok, kN_ok, kR_ok, kE_t, kE_f, kN_t, kN_f, kR_t, kR_f, cH_1, cH_21, cH_sh, cH_da, cH_dk, cH_sl, cH_dt, cH_pn, cH_wd, cH_md, cS_sh, cS_pn, cS_pn0, cS_pn1, cS_sl, cS_dt, cS_wd, cS_pr, pm_eta, va_rf, b2i_t, b2i_f, Bool.true_or, Bool.false_or, Bool.or_true, Bool.or_false, Bool.false_and, Bool.and_false, lc_Sh_isOneAbsent_0, eq_true (show k < 4 by omega)]) (fun k L H' hk hI => by
      obtain ⟨z5, rfl, rfl⟩ := hI
      refine ⟨_, _, ⟨.ref (b + 2 + 3 * k), rfl, rfl⟩, fun K => ?_⟩
      have q := ql k hk
      cases h1 : decide (0 < T (1 + k)) <;> cases h2 : pr k <;> cases h3 : anyB (fun d => decide (0 < T (1 + d)) && !pr d) k <;> rw [h1] at q <;> simp (disch := first | omega | assumption) only [jx_fn, jx_b_ok, jx_kb_ok, jx_b_inl, jx_kb_inl, jx_b_inr, jx_kb_inr, eInt, eNull, eI, eA, eBin, jx_op, oAdd_n, oMul_n, cCmp, cCmp0, jx_cp, cNull, jx_nl, cNot, cAnd_k, cOr_k, cIte_c, eIte_k, ck_ite, bf_and, bf_or, bf_not, ck_int, ck_10, ck_nI, cond_true, cond_false, oSub_g, nIs_le, oDiv_s, ck_n10, eGf, jx_gf, eLd, jx_ld, eLda, jx_lda, eLen, jx_len, eCl, jx_as, jx_ec, jx_ev, jx_es, tb1, tb3, tbk, tbn, tbl, sAsg_k, jx_set, jx_ft_int, jx_ft_ref, jx_ft_null, jx_ft_z0, jx_ft_z1, sSeq_k, sIf_k, sSkip, sInc, sPf_k, jx_pf_h, sUf_k, sSt_k, jx_st_h, sSta_k, jx_sta_h, jx_el, sUst_k, sRet, jx_rt, sRetV, sCl_k, sThrow_h, eNew, jx_nw_h, sObj, eNa, List.getElem?_cons_zero, List.getElem?_cons_succ, List.set_cons_zero, List.set_cons_succ, List.cons_append, List.nil_append, List.replicate_succ, List.replicate_zero, List.length_cons, List.length_nil, List.all_cons, List.all_nil, Value.category, Bool.and_true, Bool.true_and, Bool.and_self, beq_self_eq_true, and_self, and_true, true_and, if_true, if_false, ite_true, ite_false, eq_self, List.mem_cons, List.mem_singleton, List.not_mem_nil, or_false, true_or, or_true, false_or, Nat.reduceSub, Nat.reduceAdd, decide_true, decide_false, Bool.not_true, Bool.not_false, Nat.zero_add, Bool.false_eq_true, va_rf, reduceCtorEq, Nat.reduceEqDiff, Nat.reduceLT, Nat.reduceMul, Nat.lt_irrefl, rNe_b, rEq_b, jx_ft_b, jx_ix_nI, rLt_n, rGe_n, rGt_n, rLe_n, rEq_n, rNe_n, rGt_0, rEq_0, rNe_0, rLt_0, rGe_0, rLe_0, nI_1s, kU_ok, kU_r, kA_ok, kA_r, kC_t, kC_f, kC_r, kO_ok, kO_l, kO_r, kE_ok, kN_ok, kR_ok, kE_t, kE_f, kN_t, kN_f, kR_t, kR_f, cH_1, cH_21, cH_sh, cH_da, cH_dk, cH_sl, cH_dt, cH_pn, cH_wd, cH_md, cS_sh, cS_pn, cS_pn0, cS_pn1, cS_sl, cS_dt, cS_wd, cS_pr, pm_eta, va_rf, b2i_t, b2i_f, Bool.true_or, Bool.false_or, Bool.or_true, Bool.or_false, Bool.false_and, Bool.and_false, lb_Sh_isOneAbsent_0, q, h2, anyB, h1, h3]) (fun L H' hI => by
      obtain ⟨z5, rfl, rfl⟩ := hI
      simp (disch := first | omega | assumption) only [jx_fn, jx_b_ok, jx_kb_ok, jx_b_inl, jx_kb_inl, jx_b_inr, jx_kb_inr, eInt, eNull, eI, eA, eBin, jx_op, oAdd_n, oMul_n, cCmp, cCmp0, jx_cp, cNull, jx_nl, cNot, cAnd_k, cOr_k, cIte_c, eIte_k, ck_ite, bf_and, bf_or, bf_not, ck_int, ck_10, ck_nI, cond_true, cond_false, oSub_g, nIs_le, oDiv_s, ck_n10, eGf, jx_gf, eLd, jx_ld, eLda, jx_lda, eLen, jx_len, eCl, jx_as, jx_ec, jx_ev, jx_es, tb1, tb3, tbk, tbn, tbl, sAsg_k, jx_set, jx_ft_int, jx_ft_ref, jx_ft_null, jx_ft_z0, jx_ft_z1, sSeq_k, sIf_k, sSkip, sInc, sPf_k, jx_pf_h, sUf_k, sSt_k, jx_st_h, sSta_k, jx_sta_h, jx_el, sUst_k, sRet, jx_rt, sRetV, sCl_k, sThrow_h, eNew, jx_nw_h, sObj, eNa, List.getElem?_cons_zero, List.getElem?_cons_succ, List.set_cons_zero, List.set_cons_succ, List.cons_append, List.nil_append, List.replicate_succ, List.replicate_zero, List.length_cons, List.length_nil, List.all_cons, List.all_nil, Value.category, Bool.and_true, Bool.true_and, Bool.and_self, beq_self_eq_true, and_self, and_true, true_and, if_true, if_false, ite_true, ite_false, eq_self, List.mem_cons, List.mem_singleton, List.not_mem_nil, or_false, true_or, or_true, false_or, Nat.reduceSub, Nat.reduceAdd, decide_true, decide_false, Bool.not_true, Bool.not_false, Nat.zero_add, Bool.false_eq_true, va_rf, reduceCtorEq, Nat.reduceEqDiff, Nat.reduceLT, Nat.reduceMul, Nat.lt_irrefl, rNe_b, rEq_b, jx_ft_b, jx_ix_nI, rLt_n, rGe_n, rGt_n, rLe_n, rEq_n, rNe_n, rGt_0, rEq_0, rNe_0, rLt_0, rGe_0, rLe_0, nI_1s, kU_ok, kU_r, kA_ok, kA_r, kC_t, kC_f, kC_r, kO_ok, kO_l, kO_r, kE_ok, kN_ok, kR_ok, kE_t, kE_f, kN_t, kN_f, kR_t, kR_f, cH_1, cH_21, cH_sh, cH_da, cH_dk, cH_sl, cH_dt, cH_pn, cH_wd, cH_md, cS_sh, cS_pn, cS_pn0, cS_pn1, cS_sl, cS_dt, cS_wd, cS_pr, pm_eta, va_rf, b2i_t, b2i_f, Bool.true_or, Bool.false_or, Bool.or_true, Bool.or_false, Bool.false_and, Bool.and_false, lc_Sh_isOneAbsent_0]) 64 0 [.ref b, .int (nI 0), .ref (b + 1), .int (nI 4), .int (nI 0), .double 0] (cH h b M fo pr x t mv wd) (by omega) (by omega) ⟨.double 0, rfl, rfl⟩
  obtain ⟨L', H', ⟨z5, rfl, rfl⟩, hK⟩ := z
  simp (disch := first | omega | assumption) only [jx_fn, jx_b_ok, jx_kb_ok, jx_b_inl, jx_kb_inl, jx_b_inr, jx_kb_inr, eInt, eNull, eI, eA, eBin, jx_op, oAdd_n, oMul_n, cCmp, cCmp0, jx_cp, cNull, jx_nl, cNot, cAnd_k, cOr_k, cIte_c, eIte_k, ck_ite, bf_and, bf_or, bf_not, ck_int, ck_10, ck_nI, cond_true, cond_false, oSub_g, nIs_le, oDiv_s, ck_n10, eGf, jx_gf, eLd, jx_ld, eLda, jx_lda, eLen, jx_len, eCl, jx_as, jx_ec, jx_ev, jx_es, tb1, tb3, tbk, tbn, tbl, sAsg_k, jx_set, jx_ft_int, jx_ft_ref, jx_ft_null, jx_ft_z0, jx_ft_z1, sSeq_k, sIf_k, sSkip, sInc, sPf_k, jx_pf_h, sUf_k, sSt_k, jx_st_h, sSta_k, jx_sta_h, jx_el, sUst_k, sRet, jx_rt, sRetV, sCl_k, sThrow_h, eNew, jx_nw_h, sObj, eNa, List.getElem?_cons_zero, List.getElem?_cons_succ, List.set_cons_zero, List.set_cons_succ, List.cons_append, List.nil_append, List.replicate_succ, List.replicate_zero, List.length_cons, List.length_nil, List.all_cons, List.all_nil, Value.category, Bool.and_true, Bool.true_and, Bool.and_self, beq_self_eq_true, and_self, and_true, true_and, if_true, if_false, ite_true, ite_false, eq_self, List.mem_cons, List.mem_singleton, List.not_mem_nil, or_false, true_or, or_true, false_or, Nat.reduceSub, Nat.reduceAdd, decide_true, decide_false, Bool.not_true, Bool.not_false, Nat.zero_add, Bool.false_eq_true, va_rf, reduceCtorEq, Nat.reduceEqDiff, Nat.reduceLT, Nat.reduceMul, Nat.lt_irrefl, rNe_b, rEq_b, jx_ft_b, jx_ix_nI, rLt_n, rGe_n, rGt_n, rLe_n, rEq_n, rNe_n, rGt_0, rEq_0, rNe_0, rLt_0, rGe_0, rLe_0, nI_1s, kU_ok, kU_r, kA_ok, kA_r, kC_t, kC_f, kC_r, kO_ok, kO_l, kO_r, kE_ok, kN_ok, kR_ok, kE_t, kE_f, kN_t, kN_f, kR_t, kR_f, cH_1, cH_21, cH_sh, cH_da, cH_dk, cH_sl, cH_dt, cH_pn, cH_wd, cH_md, cS_sh, cS_pn, cS_pn0, cS_pn1, cS_sl, cS_dt, cS_wd, cS_pr, pm_eta, va_rf, b2i_t, b2i_f, Bool.true_or, Bool.false_or, Bool.or_true, Bool.or_false, Bool.false_and, Bool.and_false, f_Sh_isOneAbsent, bd_Sh_isOneAbsent, hK, absn]
set_option maxHeartbeats 8000000 in
theorem q_Sh_volumeAt_x (hO : OUT b lo hi) (hp : TP h lo hi t T) (v : Int32) (hv : isV T v = false) : f_Sh_volumeAt [.ref b, .int v] (cH h b M fo pr x t mv wd) = some (.threw h.1, hnew (cH h b M fo pr x t mv wd) 6 (.inr (12, []))) := by
  obtain ⟨ea, va, qa, la, fe, fv, fl, hp⟩ := hp
  have cp := cTPa h b M fo pr x t mv wd hO hp
  have r1 := cp.2.2.2.2.1
  have r2 := cp.2.2.2.2.2.2.2.1
  rcases isV_cases T v with ⟨h1, h2⟩ | ⟨n, h1, rfl, h2⟩
  · unfold isD at h1
    have e : rGe v (nI 4) = !rLt v (nI 4) := rGe_not _ _
    have e2 : rLt v 0 = !rGe v 0 := by rw [rGe_not, Bool.not_not]
    cases h3 : rGe v 0
    · rw [h3] at e2
      simp (disch := first | omega | assumption) only [jx_fn, jx_b_ok, jx_kb_ok, jx_b_inl, jx_kb_inl, jx_b_inr, jx_kb_inr, eInt, eNull, eI, eA, eBin, jx_op, oAdd_n, oMul_n, cCmp, cCmp0, jx_cp, cNull, jx_nl, cNot, cAnd_k, cOr_k, cIte_c, eIte_k, ck_ite, bf_and, bf_or, bf_not, ck_int, ck_10, ck_nI, cond_true, cond_false, oSub_g, nIs_le, oDiv_s, ck_n10, eGf, jx_gf, eLd, jx_ld, eLda, jx_lda, eLen, jx_len, eCl, jx_as, jx_ec, jx_ev, jx_es, tb1, tb3, tbk, tbn, tbl, sAsg_k, jx_set, jx_ft_int, jx_ft_ref, jx_ft_null, jx_ft_z0, jx_ft_z1, sSeq_k, sIf_k, sSkip, sInc, sPf_k, jx_pf_h, sUf_k, sSt_k, jx_st_h, sSta_k, jx_sta_h, jx_el, sUst_k, sRet, jx_rt, sRetV, sCl_k, sThrow_h, eNew, jx_nw_h, sObj, eNa, List.getElem?_cons_zero, List.getElem?_cons_succ, List.set_cons_zero, List.set_cons_succ, List.cons_append, List.nil_append, List.replicate_succ, List.replicate_zero, List.length_cons, List.length_nil, List.all_cons, List.all_nil, Value.category, Bool.and_true, Bool.true_and, Bool.and_self, beq_self_eq_true, and_self, and_true, true_and, if_true, if_false, ite_true, ite_false, eq_self, List.mem_cons, List.mem_singleton, List.not_mem_nil, or_false, true_or, or_true, false_or, Nat.reduceSub, Nat.reduceAdd, decide_true, decide_false, Bool.not_true, Bool.not_false, Nat.zero_add, Bool.false_eq_true, va_rf, reduceCtorEq, Nat.reduceEqDiff, Nat.reduceLT, Nat.reduceMul, Nat.lt_irrefl, rNe_b, rEq_b, jx_ft_b, jx_ix_nI, rLt_n, rGe_n, rGt_n, rLe_n, rEq_n, rNe_n, rGt_0, rEq_0, rNe_0, rLt_0, rGe_0, rLe_0, nI_1s, kU_ok, kU_r, kA_ok, kA_r, kC_t, kC_f, kC_r, kO_ok, kO_l, kO_r, kE_ok, kN_ok, kR_ok, kE_t, kE_f, kN_t, kN_f, kR_t, kR_f, cH_1, cH_21, cH_sh, cH_da, cH_dk, cH_sl, cH_dt, cH_pn, cH_wd, cH_md, cS_sh, cS_pn, cS_pn0, cS_pn1, cS_sl, cS_dt, cS_wd, cS_pr, pm_eta, va_rf, b2i_t, b2i_f, Bool.true_or, Bool.false_or, Bool.or_true, Bool.or_false, Bool.false_and, Bool.and_false, f_Sh_volumeAt, bd_Sh_volumeAt, e2]
    · rw [h3] at e2 h1
      have h4 : rLt v (nI 4) = false := by simpa using h1
      rw [h4] at e
      simp (disch := first | omega | assumption) only [jx_fn, jx_b_ok, jx_kb_ok, jx_b_inl, jx_kb_inl, jx_b_inr, jx_kb_inr, eInt, eNull, eI, eA, eBin, jx_op, oAdd_n, oMul_n, cCmp, cCmp0, jx_cp, cNull, jx_nl, cNot, cAnd_k, cOr_k, cIte_c, eIte_k, ck_ite, bf_and, bf_or, bf_not, ck_int, ck_10, ck_nI, cond_true, cond_false, oSub_g, nIs_le, oDiv_s, ck_n10, eGf, jx_gf, eLd, jx_ld, eLda, jx_lda, eLen, jx_len, eCl, jx_as, jx_ec, jx_ev, jx_es, tb1, tb3, tbk, tbn, tbl, sAsg_k, jx_set, jx_ft_int, jx_ft_ref, jx_ft_null, jx_ft_z0, jx_ft_z1, sSeq_k, sIf_k, sSkip, sInc, sPf_k, jx_pf_h, sUf_k, sSt_k, jx_st_h, sSta_k, jx_sta_h, jx_el, sUst_k, sRet, jx_rt, sRetV, sCl_k, sThrow_h, eNew, jx_nw_h, sObj, eNa, List.getElem?_cons_zero, List.getElem?_cons_succ, List.set_cons_zero, List.set_cons_succ, List.cons_append, List.nil_append, List.replicate_succ, List.replicate_zero, List.length_cons, List.length_nil, List.all_cons, List.all_nil, Value.category, Bool.and_true, Bool.true_and, Bool.and_self, beq_self_eq_true, and_self, and_true, true_and, if_true, if_false, ite_true, ite_false, eq_self, List.mem_cons, List.mem_singleton, List.not_mem_nil, or_false, true_or, or_true, false_or, Nat.reduceSub, Nat.reduceAdd, decide_true, decide_false, Bool.not_true, Bool.not_false, Nat.zero_add, Bool.false_eq_true, va_rf, reduceCtorEq, Nat.reduceEqDiff, Nat.reduceLT, Nat.reduceMul, Nat.lt_irrefl, rNe_b, rEq_b, jx_ft_b, jx_ix_nI, rLt_n, rGe_n, rGt_n, rLe_n, rEq_n, rNe_n, rGt_0, rEq_0, rNe_0, rLt_0, rGe_0, rLe_0, nI_1s, kU_ok, kU_r, kA_ok, kA_r, kC_t, kC_f, kC_r, kO_ok, kO_l, kO_r, kE_ok, kN_ok, kR_ok, kE_t, kE_f, kN_t, kN_f, kR_t, kR_f, cH_1, cH_21, cH_sh, cH_da, cH_dk, cH_sl, cH_dt, cH_pn, cH_wd, cH_md, cS_sh, cS_pn, cS_pn0, cS_pn1, cS_sl, cS_dt, cS_wd, cS_pr, pm_eta, va_rf, b2i_t, b2i_f, Bool.true_or, Bool.false_or, Bool.or_true, Bool.or_false, Bool.false_and, Bool.and_false, f_Sh_volumeAt, bd_Sh_volumeAt, e2, e]
  · rw [hv] at h2
    have h0 : T (5 + n) = 0 := by
      refine Decidable.byContradiction fun z => ?_
      rw [decide_eq_false z] at h2
      cases h2
    have hn := hp.nov h1 h0
    simp (disch := first | omega | assumption) only [jx_fn, jx_b_ok, jx_kb_ok, jx_b_inl, jx_kb_inl, jx_b_inr, jx_kb_inr, eInt, eNull, eI, eA, eBin, jx_op, oAdd_n, oMul_n, cCmp, cCmp0, jx_cp, cNull, jx_nl, cNot, cAnd_k, cOr_k, cIte_c, eIte_k, ck_ite, bf_and, bf_or, bf_not, ck_int, ck_10, ck_nI, cond_true, cond_false, oSub_g, nIs_le, oDiv_s, ck_n10, eGf, jx_gf, eLd, jx_ld, eLda, jx_lda, eLen, jx_len, eCl, jx_as, jx_ec, jx_ev, jx_es, tb1, tb3, tbk, tbn, tbl, sAsg_k, jx_set, jx_ft_int, jx_ft_ref, jx_ft_null, jx_ft_z0, jx_ft_z1, sSeq_k, sIf_k, sSkip, sInc, sPf_k, jx_pf_h, sUf_k, sSt_k, jx_st_h, sSta_k, jx_sta_h, jx_el, sUst_k, sRet, jx_rt, sRetV, sCl_k, sThrow_h, eNew, jx_nw_h, sObj, eNa, List.getElem?_cons_zero, List.getElem?_cons_succ, List.set_cons_zero, List.set_cons_succ, List.cons_append, List.nil_append, List.replicate_succ, List.replicate_zero, List.length_cons, List.length_nil, List.all_cons, List.all_nil, Value.category, Bool.and_true, Bool.true_and, Bool.and_self, beq_self_eq_true, and_self, and_true, true_and, if_true, if_false, ite_true, ite_false, eq_self, List.mem_cons, List.mem_singleton, List.not_mem_nil, or_false, true_or, or_true, false_or, Nat.reduceSub, Nat.reduceAdd, decide_true, decide_false, Bool.not_true, Bool.not_false, Nat.zero_add, Bool.false_eq_true, va_rf, reduceCtorEq, Nat.reduceEqDiff, Nat.reduceLT, Nat.reduceMul, Nat.lt_irrefl, rNe_b, rEq_b, jx_ft_b, jx_ix_nI, rLt_n, rGe_n, rGt_n, rLe_n, rEq_n, rNe_n, rGt_0, rEq_0, rNe_0, rLt_0, rGe_0, rLe_0, nI_1s, kU_ok, kU_r, kA_ok, kA_r, kC_t, kC_f, kC_r, kO_ok, kO_l, kO_r, kE_ok, kN_ok, kR_ok, kE_t, kE_f, kN_t, kN_f, kR_t, kR_f, cH_1, cH_21, cH_sh, cH_da, cH_dk, cH_sl, cH_dt, cH_pn, cH_wd, cH_md, cS_sh, cS_pn, cS_pn0, cS_pn1, cS_sl, cS_dt, cS_wd, cS_pr, pm_eta, va_rf, b2i_t, b2i_f, Bool.true_or, Bool.false_or, Bool.or_true, Bool.or_false, Bool.false_and, Bool.and_false, f_Sh_volumeAt, bd_Sh_volumeAt, r1, r2, hn, eq_false (show ¬ (4 ≤ n) by omega)]
set_option maxHeartbeats 8000000 in
theorem q_Sh_volumeAt (hO : OUT b lo hi) {ea va : Nat} {qa la : Nat → Nat} {fe : Nat → Int32} {fv : Nat → Option Nat} {fl : Nat → Nat → Int32} (hp : TPa h lo hi t T ea va qa la fe fv fl) (v : Nat) (hv : v < 4) (h0 : T (5 + v) ≠ 0) : f_Sh_volumeAt [.ref b, .int (nI v)] (cH h b M fo pr x t mv wd) = some (.returned (some (.ref (qa v))), (cH h b M fo pr x t mv wd)) := by
  have cp := cTPa h b M fo pr x t mv wd hO hp
  have r1 := cp.2.2.2.2.1
  have r2 := cp.2.2.2.2.2.2.2.1
  have r3 := cp.2.2.2.2.2.2.2.2.1 v hv
  rw [if_neg h0] at r3
  simp (disch := first | omega | assumption) only [jx_fn, jx_b_ok, jx_kb_ok, jx_b_inl, jx_kb_inl, jx_b_inr, jx_kb_inr, eInt, eNull, eI, eA, eBin, jx_op, oAdd_n, oMul_n, cCmp, cCmp0, jx_cp, cNull, jx_nl, cNot, cAnd_k, cOr_k, cIte_c, eIte_k, ck_ite, bf_and, bf_or, bf_not, ck_int, ck_10, ck_nI, cond_true, cond_false, oSub_g, nIs_le, oDiv_s, ck_n10, eGf, jx_gf, eLd, jx_ld, eLda, jx_lda, eLen, jx_len, eCl, jx_as, jx_ec, jx_ev, jx_es, tb1, tb3, tbk, tbn, tbl, sAsg_k, jx_set, jx_ft_int, jx_ft_ref, jx_ft_null, jx_ft_z0, jx_ft_z1, sSeq_k, sIf_k, sSkip, sInc, sPf_k, jx_pf_h, sUf_k, sSt_k, jx_st_h, sSta_k, jx_sta_h, jx_el, sUst_k, sRet, jx_rt, sRetV, sCl_k, sThrow_h, eNew, jx_nw_h, sObj, eNa, List.getElem?_cons_zero, List.getElem?_cons_succ, List.set_cons_zero, List.set_cons_succ, List.cons_append, List.nil_append, List.replicate_succ, List.replicate_zero, List.length_cons, List.length_nil, List.all_cons, List.all_nil, Value.category, Bool.and_true, Bool.true_and, Bool.and_self, beq_self_eq_true, and_self, and_true, true_and, if_true, if_false, ite_true, ite_false, eq_self, List.mem_cons, List.mem_singleton, List.not_mem_nil, or_false, true_or, or_true, false_or, Nat.reduceSub, Nat.reduceAdd, decide_true, decide_false, Bool.not_true, Bool.not_false, Nat.zero_add, Bool.false_eq_true, va_rf, reduceCtorEq, Nat.reduceEqDiff, Nat.reduceLT, Nat.reduceMul, Nat.lt_irrefl, rNe_b, rEq_b, jx_ft_b, jx_ix_nI, rLt_n, rGe_n, rGt_n, rLe_n, rEq_n, rNe_n, rGt_0, rEq_0, rNe_0, rLt_0, rGe_0, rLe_0, nI_1s, kU_ok, kU_r, kA_ok, kA_r, kC_t, kC_f, kC_r, kO_ok, kO_l, kO_r, kE_ok, kN_ok, kR_ok, kE_t, kE_f, kN_t, kN_f, kR_t, kR_f, cH_1, cH_21, cH_sh, cH_da, cH_dk, cH_sl, cH_dt, cH_pn, cH_wd, cH_md, cS_sh, cS_pn, cS_pn0, cS_pn1, cS_sl, cS_dt, cS_wd, cS_pr, pm_eta, va_rf, b2i_t, b2i_f, Bool.true_or, Bool.false_or, Bool.or_true, Bool.or_false, Bool.false_and, Bool.and_false, f_Sh_volumeAt, bd_Sh_volumeAt, r1, r2, r3, eq_false (show ¬ (4 ≤ v) by omega)]
variable {c cv cl : Nat}
set_option maxHeartbeats 8000000 in
theorem q_Sh_isFree (hO : OUT b lo hi) (hp : TP h lo hi t' T) (hW : WT T) (hm : MQc b h mv c cv cl) (hc : c ≤ 32) (leg : Nat) (hl : 1 ≤ leg) (hl2 : leg < 2 ^ 31) : f_Sh_isFree [.ref b, .ref t', .int (nI leg)] (cH h b M fo pr x t mv wd) = some (.returned (some (.int (b2i (fre T c leg)))), (cH h b M fo pr x t mv wd)) := by
  have hh := q_Tb_holds (cH h b M fo pr x t mv wd) lo hi t' T (cTP h b M fo pr x t mv wd hO hp) hW leg hl hl2
  have hp2 := cTP h b M fo pr x t mv wd hO hp
  obtain ⟨ea, va, qa, la, fe, fv, fl, hp2⟩ := hp2
  have r1 := hp2.2.2.2.2.1
  rcases hm with ⟨rfl, rfl⟩ | ⟨am, d, vo, le, fr, co, rfl, ham, hcell, _⟩
  · have e0 : decide (0 = leg) = false := decide_eq_false (by omega)
    cases h1 : hold T leg <;> rw [h1] at hh <;> simp (disch := first | omega | assumption) only [jx_fn, jx_b_ok, jx_kb_ok, jx_b_inl, jx_kb_inl, jx_b_inr, jx_kb_inr, eInt, eNull, eI, eA, eBin, jx_op, oAdd_n, oMul_n, cCmp, cCmp0, jx_cp, cNull, jx_nl, cNot, cAnd_k, cOr_k, cIte_c, eIte_k, ck_ite, bf_and, bf_or, bf_not, ck_int, ck_10, ck_nI, cond_true, cond_false, oSub_g, nIs_le, oDiv_s, ck_n10, eGf, jx_gf, eLd, jx_ld, eLda, jx_lda, eLen, jx_len, eCl, jx_as, jx_ec, jx_ev, jx_es, tb1, tb3, tbk, tbn, tbl, sAsg_k, jx_set, jx_ft_int, jx_ft_ref, jx_ft_null, jx_ft_z0, jx_ft_z1, sSeq_k, sIf_k, sSkip, sInc, sPf_k, jx_pf_h, sUf_k, sSt_k, jx_st_h, sSta_k, jx_sta_h, jx_el, sUst_k, sRet, jx_rt, sRetV, sCl_k, sThrow_h, eNew, jx_nw_h, sObj, eNa, List.getElem?_cons_zero, List.getElem?_cons_succ, List.set_cons_zero, List.set_cons_succ, List.cons_append, List.nil_append, List.replicate_succ, List.replicate_zero, List.length_cons, List.length_nil, List.all_cons, List.all_nil, Value.category, Bool.and_true, Bool.true_and, Bool.and_self, beq_self_eq_true, and_self, and_true, true_and, if_true, if_false, ite_true, ite_false, eq_self, List.mem_cons, List.mem_singleton, List.not_mem_nil, or_false, true_or, or_true, false_or, Nat.reduceSub, Nat.reduceAdd, decide_true, decide_false, Bool.not_true, Bool.not_false, Nat.zero_add, Bool.false_eq_true, va_rf, reduceCtorEq, Nat.reduceEqDiff, Nat.reduceLT, Nat.reduceMul, Nat.lt_irrefl, rNe_b, rEq_b, jx_ft_b, jx_ix_nI, rLt_n, rGe_n, rGt_n, rLe_n, rEq_n, rNe_n, rGt_0, rEq_0, rNe_0, rLt_0, rGe_0, rLe_0, nI_1s, kU_ok, kU_r, kA_ok, kA_r, kC_t, kC_f, kC_r, kO_ok, kO_l, kO_r, kE_ok, kN_ok, kR_ok, kE_t, kE_f, kN_t, kN_f, kR_t, kR_f, cH_1, cH_21, cH_sh, cH_da, cH_dk, cH_sl, cH_dt, cH_pn, cH_wd, cH_md, cS_sh, cS_pn, cS_pn0, cS_pn1, cS_sl, cS_dt, cS_wd, cS_pr, pm_eta, va_rf, b2i_t, b2i_f, Bool.true_or, Bool.false_or, Bool.or_true, Bool.or_false, Bool.false_and, Bool.and_false, f_Sh_isFree, bd_Sh_isFree, hh, r1, fre, h1, e0]
  · have r2 := (cH_out h b M fo pr x t (.ref am) wd (q := am) (Or.inl ham)).trans hcell
    cases h1 : hold T leg <;> rw [h1] at hh <;> simp (disch := first | omega | assumption) only [jx_fn, jx_b_ok, jx_kb_ok, jx_b_inl, jx_kb_inl, jx_b_inr, jx_kb_inr, eInt, eNull, eI, eA, eBin, jx_op, oAdd_n, oMul_n, cCmp, cCmp0, jx_cp, cNull, jx_nl, cNot, cAnd_k, cOr_k, cIte_c, eIte_k, ck_ite, bf_and, bf_or, bf_not, ck_int, ck_10, ck_nI, cond_true, cond_false, oSub_g, nIs_le, oDiv_s, ck_n10, eGf, jx_gf, eLd, jx_ld, eLda, jx_lda, eLen, jx_len, eCl, jx_as, jx_ec, jx_ev, jx_es, tb1, tb3, tbk, tbn, tbl, sAsg_k, jx_set, jx_ft_int, jx_ft_ref, jx_ft_null, jx_ft_z0, jx_ft_z1, sSeq_k, sIf_k, sSkip, sInc, sPf_k, jx_pf_h, sUf_k, sSt_k, jx_st_h, sSta_k, jx_sta_h, jx_el, sUst_k, sRet, jx_rt, sRetV, sCl_k, sThrow_h, eNew, jx_nw_h, sObj, eNa, List.getElem?_cons_zero, List.getElem?_cons_succ, List.set_cons_zero, List.set_cons_succ, List.cons_append, List.nil_append, List.replicate_succ, List.replicate_zero, List.length_cons, List.length_nil, List.all_cons, List.all_nil, Value.category, Bool.and_true, Bool.true_and, Bool.and_self, beq_self_eq_true, and_self, and_true, true_and, if_true, if_false, ite_true, ite_false, eq_self, List.mem_cons, List.mem_singleton, List.not_mem_nil, or_false, true_or, or_true, false_or, Nat.reduceSub, Nat.reduceAdd, decide_true, decide_false, Bool.not_true, Bool.not_false, Nat.zero_add, Bool.false_eq_true, va_rf, reduceCtorEq, Nat.reduceEqDiff, Nat.reduceLT, Nat.reduceMul, Nat.lt_irrefl, rNe_b, rEq_b, jx_ft_b, jx_ix_nI, rLt_n, rGe_n, rGt_n, rLe_n, rEq_n, rNe_n, rGt_0, rEq_0, rNe_0, rLt_0, rGe_0, rLe_0, nI_1s, kU_ok, kU_r, kA_ok, kA_r, kC_t, kC_f, kC_r, kO_ok, kO_l, kO_r, kE_ok, kN_ok, kR_ok, kE_t, kE_f, kN_t, kN_f, kR_t, kR_f, cH_1, cH_21, cH_sh, cH_da, cH_dk, cH_sl, cH_dt, cH_pn, cH_wd, cH_md, cS_sh, cS_pn, cS_pn0, cS_pn1, cS_sl, cS_dt, cS_wd, cS_pr, pm_eta, va_rf, b2i_t, b2i_f, Bool.true_or, Bool.false_or, Bool.or_true, Bool.or_false, Bool.false_and, Bool.and_false, f_Sh_isFree, bd_Sh_isFree, hh, r1, r2, fre, h1]
set_option maxHeartbeats 8000000 in
theorem q_Sh_freeOn (hO : OUT b lo hi) (hp : TP h lo hi t' T) (hW : WT T) (hm : MQc b h mv c cv cl) (hc : c ≤ 32) (d : Nat) (hd : d < 4) : f_Sh_freeOn [.ref b, .ref t', .int (nI d)] (cH h b M fo pr x t mv wd) = some (.returned (some (.int (nI (fon T c d)))), (cH h b M fo pr x t mv wd)) := by
  have qf := fun p (hp8 : p < 8) => q_Sh_isFree h b M fo pr x t mv wd hO hp hW hm hc (1 + 8 * d + p) (by omega) (by omega)
  have hp2 := cTP h b M fo pr x t mv wd hO hp
  obtain ⟨ea, va, qa, la, fe, fv, fl, hp2⟩ := hp2
  have r1 := hp2.2.2.2.2.1
  have r2 := hp2.2.2.2.2.2.1
  have r3 := hp2.2.2.2.2.2.2.1 d hd
  have b8 := hW.2.1 d hd
  have key : ∀ K, sWh 64 lc_Sh_freeOn_0 lb_Sh_freeOn_0 K [.ref b, .ref t', .int (nI d), .int (nI 0), .int (nI 0)] (cH h b M fo pr x t mv wd) = K [.ref b, .ref t', .int (nI d), .int (nI (cntB (fun p => fre T c (1 + 8 * d + p)) (T (1 + d)))), .int (nI (T (1 + d)))] (cH h b M fo pr x t mv wd) := by
    intro K
    refine wh_run (fun j => [.ref b, .ref t', .int (nI d), .int (nI (cntB (fun p => fre T c (1 + 8 * d + p)) j)), .int (nI j)]) (T (1 + d)) (fun k hk => ?_) (fun k hk K' => ?_) ?_ 64 0 (by omega) (by omega)
    · simp (disch := first | omega | assumption) only [jx_fn, jx_b_ok, jx_kb_ok, jx_b_inl, jx_kb_inl, jx_b_inr, jx_kb_inr, eInt, eNull, eI, eA, eBin, jx_op, oAdd_n, oMul_n, cCmp, cCmp0, jx_cp, cNull, jx_nl, cNot, cAnd_k, cOr_k, cIte_c, eIte_k, ck_ite, bf_and, bf_or, bf_not, ck_int, ck_10, ck_nI, cond_true, cond_false, oSub_g, nIs_le, oDiv_s, ck_n10, eGf, jx_gf, eLd, jx_ld, eLda, jx_lda, eLen, jx_len, eCl, jx_as, jx_ec, jx_ev, jx_es, tb1, tb3, tbk, tbn, tbl, sAsg_k, jx_set, jx_ft_int, jx_ft_ref, jx_ft_null, jx_ft_z0, jx_ft_z1, sSeq_k, sIf_k, sSkip, sInc, sPf_k, jx_pf_h, sUf_k, sSt_k, jx_st_h, sSta_k, jx_sta_h, jx_el, sUst_k, sRet, jx_rt, sRetV, sCl_k, sThrow_h, eNew, jx_nw_h, sObj, eNa, List.getElem?_cons_zero, List.getElem?_cons_succ, List.set_cons_zero, List.set_cons_succ, List.cons_append, List.nil_append, List.replicate_succ, List.replicate_zero, List.length_cons, List.length_nil, List.all_cons, List.all_nil, Value.category, Bool.and_true, Bool.true_and, Bool.and_self, beq_self_eq_true, and_self, and_true, true_and, if_true, if_false, ite_true, ite_false, eq_self, List.mem_cons, List.mem_singleton, List.not_mem_nil, or_false, true_or, or_true, false_or, Nat.reduceSub, Nat.reduceAdd, decide_true, decide_false, Bool.not_true, Bool.not_false, Nat.zero_add, Bool.false_eq_true, va_rf, reduceCtorEq, Nat.reduceEqDiff, Nat.reduceLT, Nat.reduceMul, Nat.lt_irrefl, rNe_b, rEq_b, jx_ft_b, jx_ix_nI, rLt_n, rGe_n, rGt_n, rLe_n, rEq_n, rNe_n, rGt_0, rEq_0, rNe_0, rLt_0, rGe_0, rLe_0, nI_1s, kU_ok, kU_r, kA_ok, kA_r, kC_t, kC_f, kC_r, kO_ok, kO_l, kO_r, kE_ok, kN_ok, kR_ok, kE_t, kE_f, kN_t, kN_f, kR_t, kR_f, cH_1, cH_21, cH_sh, cH_da, cH_dk, cH_sl, cH_dt, cH_pn, cH_wd, cH_md, cS_sh, cS_pn, cS_pn0, cS_pn1, cS_sl, cS_dt, cS_wd, cS_pr, pm_eta, va_rf, b2i_t, b2i_f, Bool.true_or, Bool.false_or, Bool.or_true, Bool.or_false, Bool.false_and, Bool.and_false, lc_Sh_freeOn_0, r1, r2, r3, eq_true (show k < T (1 + d) by omega)]
    · have q := qf k (by omega)
      cases hb : fre T c (1 + 8 * d + k) <;> rw [hb] at q <;> simp (disch := first | omega | assumption) only [jx_fn, jx_b_ok, jx_kb_ok, jx_b_inl, jx_kb_inl, jx_b_inr, jx_kb_inr, eInt, eNull, eI, eA, eBin, jx_op, oAdd_n, oMul_n, cCmp, cCmp0, jx_cp, cNull, jx_nl, cNot, cAnd_k, cOr_k, cIte_c, eIte_k, ck_ite, bf_and, bf_or, bf_not, ck_int, ck_10, ck_nI, cond_true, cond_false, oSub_g, nIs_le, oDiv_s, ck_n10, eGf, jx_gf, eLd, jx_ld, eLda, jx_lda, eLen, jx_len, eCl, jx_as, jx_ec, jx_ev, jx_es, tb1, tb3, tbk, tbn, tbl, sAsg_k, jx_set, jx_ft_int, jx_ft_ref, jx_ft_null, jx_ft_z0, jx_ft_z1, sSeq_k, sIf_k, sSkip, sInc, sPf_k, jx_pf_h, sUf_k, sSt_k, jx_st_h, sSta_k, jx_sta_h, jx_el, sUst_k, sRet, jx_rt, sRetV, sCl_k, sThrow_h, eNew, jx_nw_h, sObj, eNa, List.getElem?_cons_zero, List.getElem?_cons_succ, List.set_cons_zero, List.set_cons_succ, List.cons_append, List.nil_append, List.replicate_succ, List.replicate_zero, List.length_cons, List.length_nil, List.all_cons, List.all_nil, Value.category, Bool.and_true, Bool.true_and, Bool.and_self, beq_self_eq_true, and_self, and_true, true_and, if_true, if_false, ite_true, ite_false, eq_self, List.mem_cons, List.mem_singleton, List.not_mem_nil, or_false, true_or, or_true, false_or, Nat.reduceSub, Nat.reduceAdd, decide_true, decide_false, Bool.not_true, Bool.not_false, Nat.zero_add, Bool.false_eq_true, va_rf, reduceCtorEq, Nat.reduceEqDiff, Nat.reduceLT, Nat.reduceMul, Nat.lt_irrefl, rNe_b, rEq_b, jx_ft_b, jx_ix_nI, rLt_n, rGe_n, rGt_n, rLe_n, rEq_n, rNe_n, rGt_0, rEq_0, rNe_0, rLt_0, rGe_0, rLe_0, nI_1s, kU_ok, kU_r, kA_ok, kA_r, kC_t, kC_f, kC_r, kO_ok, kO_l, kO_r, kE_ok, kN_ok, kR_ok, kE_t, kE_f, kN_t, kN_f, kR_t, kR_f, cH_1, cH_21, cH_sh, cH_da, cH_dk, cH_sl, cH_dt, cH_pn, cH_wd, cH_md, cS_sh, cS_pn, cS_pn0, cS_pn1, cS_sl, cS_dt, cS_wd, cS_pr, pm_eta, va_rf, b2i_t, b2i_f, Bool.true_or, Bool.false_or, Bool.or_true, Bool.or_false, Bool.false_and, Bool.and_false, lb_Sh_freeOn_0, q, cntB_1, hb, Nat.add_zero]
    · simp (disch := first | omega | assumption) only [jx_fn, jx_b_ok, jx_kb_ok, jx_b_inl, jx_kb_inl, jx_b_inr, jx_kb_inr, eInt, eNull, eI, eA, eBin, jx_op, oAdd_n, oMul_n, cCmp, cCmp0, jx_cp, cNull, jx_nl, cNot, cAnd_k, cOr_k, cIte_c, eIte_k, ck_ite, bf_and, bf_or, bf_not, ck_int, ck_10, ck_nI, cond_true, cond_false, oSub_g, nIs_le, oDiv_s, ck_n10, eGf, jx_gf, eLd, jx_ld, eLda, jx_lda, eLen, jx_len, eCl, jx_as, jx_ec, jx_ev, jx_es, tb1, tb3, tbk, tbn, tbl, sAsg_k, jx_set, jx_ft_int, jx_ft_ref, jx_ft_null, jx_ft_z0, jx_ft_z1, sSeq_k, sIf_k, sSkip, sInc, sPf_k, jx_pf_h, sUf_k, sSt_k, jx_st_h, sSta_k, jx_sta_h, jx_el, sUst_k, sRet, jx_rt, sRetV, sCl_k, sThrow_h, eNew, jx_nw_h, sObj, eNa, List.getElem?_cons_zero, List.getElem?_cons_succ, List.set_cons_zero, List.set_cons_succ, List.cons_append, List.nil_append, List.replicate_succ, List.replicate_zero, List.length_cons, List.length_nil, List.all_cons, List.all_nil, Value.category, Bool.and_true, Bool.true_and, Bool.and_self, beq_self_eq_true, and_self, and_true, true_and, if_true, if_false, ite_true, ite_false, eq_self, List.mem_cons, List.mem_singleton, List.not_mem_nil, or_false, true_or, or_true, false_or, Nat.reduceSub, Nat.reduceAdd, decide_true, decide_false, Bool.not_true, Bool.not_false, Nat.zero_add, Bool.false_eq_true, va_rf, reduceCtorEq, Nat.reduceEqDiff, Nat.reduceLT, Nat.reduceMul, Nat.lt_irrefl, rNe_b, rEq_b, jx_ft_b, jx_ix_nI, rLt_n, rGe_n, rGt_n, rLe_n, rEq_n, rNe_n, rGt_0, rEq_0, rNe_0, rLt_0, rGe_0, rLe_0, nI_1s, kU_ok, kU_r, kA_ok, kA_r, kC_t, kC_f, kC_r, kO_ok, kO_l, kO_r, kE_ok, kN_ok, kR_ok, kE_t, kE_f, kN_t, kN_f, kR_t, kR_f, cH_1, cH_21, cH_sh, cH_da, cH_dk, cH_sl, cH_dt, cH_pn, cH_wd, cH_md, cS_sh, cS_pn, cS_pn0, cS_pn1, cS_sl, cS_dt, cS_wd, cS_pr, pm_eta, va_rf, b2i_t, b2i_f, Bool.true_or, Bool.false_or, Bool.or_true, Bool.or_false, Bool.false_and, Bool.and_false, lc_Sh_freeOn_0, r1, r2, r3]
  simp (disch := first | omega | assumption) only [jx_fn, jx_b_ok, jx_kb_ok, jx_b_inl, jx_kb_inl, jx_b_inr, jx_kb_inr, eInt, eNull, eI, eA, eBin, jx_op, oAdd_n, oMul_n, cCmp, cCmp0, jx_cp, cNull, jx_nl, cNot, cAnd_k, cOr_k, cIte_c, eIte_k, ck_ite, bf_and, bf_or, bf_not, ck_int, ck_10, ck_nI, cond_true, cond_false, oSub_g, nIs_le, oDiv_s, ck_n10, eGf, jx_gf, eLd, jx_ld, eLda, jx_lda, eLen, jx_len, eCl, jx_as, jx_ec, jx_ev, jx_es, tb1, tb3, tbk, tbn, tbl, sAsg_k, jx_set, jx_ft_int, jx_ft_ref, jx_ft_null, jx_ft_z0, jx_ft_z1, sSeq_k, sIf_k, sSkip, sInc, sPf_k, jx_pf_h, sUf_k, sSt_k, jx_st_h, sSta_k, jx_sta_h, jx_el, sUst_k, sRet, jx_rt, sRetV, sCl_k, sThrow_h, eNew, jx_nw_h, sObj, eNa, List.getElem?_cons_zero, List.getElem?_cons_succ, List.set_cons_zero, List.set_cons_succ, List.cons_append, List.nil_append, List.replicate_succ, List.replicate_zero, List.length_cons, List.length_nil, List.all_cons, List.all_nil, Value.category, Bool.and_true, Bool.true_and, Bool.and_self, beq_self_eq_true, and_self, and_true, true_and, if_true, if_false, ite_true, ite_false, eq_self, List.mem_cons, List.mem_singleton, List.not_mem_nil, or_false, true_or, or_true, false_or, Nat.reduceSub, Nat.reduceAdd, decide_true, decide_false, Bool.not_true, Bool.not_false, Nat.zero_add, Bool.false_eq_true, va_rf, reduceCtorEq, Nat.reduceEqDiff, Nat.reduceLT, Nat.reduceMul, Nat.lt_irrefl, rNe_b, rEq_b, jx_ft_b, jx_ix_nI, rLt_n, rGe_n, rGt_n, rLe_n, rEq_n, rNe_n, rGt_0, rEq_0, rNe_0, rLt_0, rGe_0, rLe_0, nI_1s, kU_ok, kU_r, kA_ok, kA_r, kC_t, kC_f, kC_r, kO_ok, kO_l, kO_r, kE_ok, kN_ok, kR_ok, kE_t, kE_f, kN_t, kN_f, kR_t, kR_f, cH_1, cH_21, cH_sh, cH_da, cH_dk, cH_sl, cH_dt, cH_pn, cH_wd, cH_md, cS_sh, cS_pn, cS_pn0, cS_pn1, cS_sl, cS_dt, cS_wd, cS_pr, pm_eta, va_rf, b2i_t, b2i_f, Bool.true_or, Bool.false_or, Bool.or_true, Bool.or_false, Bool.false_and, Bool.and_false, f_Sh_freeOn, bd_Sh_freeOn, key, fon]
set_option maxHeartbeats 8000000 in
theorem q_Sh_isAimed (hm : MQc b h mv c cv cl) (hc : c ≤ 32) (hcv : cv < 4) (hcl : cl < 10) (q l' kd cc ee : Nat) (hv : VOb (cH h b M fo pr x t mv wd) q l' kd cc ee) (hcc : 0 < cc) (hcc2 : cc < 8) (v e l d : Nat) (hvv : v < 4) (he : e < 16) (hl : l < 16) (hd : d < 4) : f_Sh_isAimed [.ref b, .ref q, .int (nI v), .int (nI e), .int (nI l), .int (nI d)] (cH h b M fo pr x t mv wd) = some (.returned (some (.int (b2i (decide (0 < c) && decide (cv = v) && decide ((c - 1) / 8 = d) && nbr kd cc e l (cl / 2) (cl % 2))))), (cH h b M fo pr x t mv wd)) := by
  rcases hm with ⟨rfl, rfl⟩ | ⟨am, dd, vo, le, fr, co, rfl, ham, hcell, hc0⟩
  · simp (disch := first | omega | assumption) only [jx_fn, jx_b_ok, jx_kb_ok, jx_b_inl, jx_kb_inl, jx_b_inr, jx_kb_inr, eInt, eNull, eI, eA, eBin, jx_op, oAdd_n, oMul_n, cCmp, cCmp0, jx_cp, cNull, jx_nl, cNot, cAnd_k, cOr_k, cIte_c, eIte_k, ck_ite, bf_and, bf_or, bf_not, ck_int, ck_10, ck_nI, cond_true, cond_false, oSub_g, nIs_le, oDiv_s, ck_n10, eGf, jx_gf, eLd, jx_ld, eLda, jx_lda, eLen, jx_len, eCl, jx_as, jx_ec, jx_ev, jx_es, tb1, tb3, tbk, tbn, tbl, sAsg_k, jx_set, jx_ft_int, jx_ft_ref, jx_ft_null, jx_ft_z0, jx_ft_z1, sSeq_k, sIf_k, sSkip, sInc, sPf_k, jx_pf_h, sUf_k, sSt_k, jx_st_h, sSta_k, jx_sta_h, jx_el, sUst_k, sRet, jx_rt, sRetV, sCl_k, sThrow_h, eNew, jx_nw_h, sObj, eNa, List.getElem?_cons_zero, List.getElem?_cons_succ, List.set_cons_zero, List.set_cons_succ, List.cons_append, List.nil_append, List.replicate_succ, List.replicate_zero, List.length_cons, List.length_nil, List.all_cons, List.all_nil, Value.category, Bool.and_true, Bool.true_and, Bool.and_self, beq_self_eq_true, and_self, and_true, true_and, if_true, if_false, ite_true, ite_false, eq_self, List.mem_cons, List.mem_singleton, List.not_mem_nil, or_false, true_or, or_true, false_or, Nat.reduceSub, Nat.reduceAdd, decide_true, decide_false, Bool.not_true, Bool.not_false, Nat.zero_add, Bool.false_eq_true, va_rf, reduceCtorEq, Nat.reduceEqDiff, Nat.reduceLT, Nat.reduceMul, Nat.lt_irrefl, rNe_b, rEq_b, jx_ft_b, jx_ix_nI, rLt_n, rGe_n, rGt_n, rLe_n, rEq_n, rNe_n, rGt_0, rEq_0, rNe_0, rLt_0, rGe_0, rLe_0, nI_1s, kU_ok, kU_r, kA_ok, kA_r, kC_t, kC_f, kC_r, kO_ok, kO_l, kO_r, kE_ok, kN_ok, kR_ok, kE_t, kE_f, kN_t, kN_f, kR_t, kR_f, cH_1, cH_21, cH_sh, cH_da, cH_dk, cH_sl, cH_dt, cH_pn, cH_wd, cH_md, cS_sh, cS_pn, cS_pn0, cS_pn1, cS_sl, cS_dt, cS_wd, cS_pr, pm_eta, va_rf, b2i_t, b2i_f, Bool.true_or, Bool.false_or, Bool.or_true, Bool.or_false, Bool.false_and, Bool.and_false, f_Sh_isAimed, bd_Sh_isAimed]
  · have r2 := (cH_out h b M fo pr x t (.ref am) wd (q := am) (Or.inl ham)).trans hcell
    by_cases h0 : c = 0
    · subst h0
      simp (disch := first | omega | assumption) only [jx_fn, jx_b_ok, jx_kb_ok, jx_b_inl, jx_kb_inl, jx_b_inr, jx_kb_inr, eInt, eNull, eI, eA, eBin, jx_op, oAdd_n, oMul_n, cCmp, cCmp0, jx_cp, cNull, jx_nl, cNot, cAnd_k, cOr_k, cIte_c, eIte_k, ck_ite, bf_and, bf_or, bf_not, ck_int, ck_10, ck_nI, cond_true, cond_false, oSub_g, nIs_le, oDiv_s, ck_n10, eGf, jx_gf, eLd, jx_ld, eLda, jx_lda, eLen, jx_len, eCl, jx_as, jx_ec, jx_ev, jx_es, tb1, tb3, tbk, tbn, tbl, sAsg_k, jx_set, jx_ft_int, jx_ft_ref, jx_ft_null, jx_ft_z0, jx_ft_z1, sSeq_k, sIf_k, sSkip, sInc, sPf_k, jx_pf_h, sUf_k, sSt_k, jx_st_h, sSta_k, jx_sta_h, jx_el, sUst_k, sRet, jx_rt, sRetV, sCl_k, sThrow_h, eNew, jx_nw_h, sObj, eNa, List.getElem?_cons_zero, List.getElem?_cons_succ, List.set_cons_zero, List.set_cons_succ, List.cons_append, List.nil_append, List.replicate_succ, List.replicate_zero, List.length_cons, List.length_nil, List.all_cons, List.all_nil, Value.category, Bool.and_true, Bool.true_and, Bool.and_self, beq_self_eq_true, and_self, and_true, true_and, if_true, if_false, ite_true, ite_false, eq_self, List.mem_cons, List.mem_singleton, List.not_mem_nil, or_false, true_or, or_true, false_or, Nat.reduceSub, Nat.reduceAdd, decide_true, decide_false, Bool.not_true, Bool.not_false, Nat.zero_add, Bool.false_eq_true, va_rf, reduceCtorEq, Nat.reduceEqDiff, Nat.reduceLT, Nat.reduceMul, Nat.lt_irrefl, rNe_b, rEq_b, jx_ft_b, jx_ix_nI, rLt_n, rGe_n, rGt_n, rLe_n, rEq_n, rNe_n, rGt_0, rEq_0, rNe_0, rLt_0, rGe_0, rLe_0, nI_1s, kU_ok, kU_r, kA_ok, kA_r, kC_t, kC_f, kC_r, kO_ok, kO_l, kO_r, kE_ok, kN_ok, kR_ok, kE_t, kE_f, kN_t, kN_f, kR_t, kR_f, cH_1, cH_21, cH_sh, cH_da, cH_dk, cH_sl, cH_dt, cH_pn, cH_wd, cH_md, cS_sh, cS_pn, cS_pn0, cS_pn1, cS_sl, cS_dt, cS_wd, cS_pr, pm_eta, va_rf, b2i_t, b2i_f, Bool.true_or, Bool.false_or, Bool.or_true, Bool.or_false, Bool.false_and, Bool.and_false, f_Sh_isAimed, bd_Sh_isAimed, r2]
    · obtain ⟨rfl, rfl⟩ := hc0 h0
      have e1 : oDiv (nI cl) (nI 2) = some (nI (cl / 2)) := oDiv_n (by omega) (by decide) (by decide)
      have e2 : oRem (nI cl) (nI 2) = some (nI (cl % 2)) := oRem_n (by omega) (by decide) (by decide)
      have qn := q_nF _ q l' kd cc ee hv hcc hcc2 e l (cl / 2) (cl % 2) he hl (by omega) (by omega)
      obtain ⟨v1, v2, hq⟩ := hv
      have qd := q_Sh_diskOf (cH h b M fo pr x t (.ref am) wd) c (by omega) (by omega)
      cases h1 : decide (cv = v) <;> cases h2 : decide ((c - 1) / 8 = d) <;> simp (disch := first | omega | assumption) only [jx_fn, jx_b_ok, jx_kb_ok, jx_b_inl, jx_kb_inl, jx_b_inr, jx_kb_inr, eInt, eNull, eI, eA, eBin, jx_op, oAdd_n, oMul_n, cCmp, cCmp0, jx_cp, cNull, jx_nl, cNot, cAnd_k, cOr_k, cIte_c, eIte_k, ck_ite, bf_and, bf_or, bf_not, ck_int, ck_10, ck_nI, cond_true, cond_false, oSub_g, nIs_le, oDiv_s, ck_n10, eGf, jx_gf, eLd, jx_ld, eLda, jx_lda, eLen, jx_len, eCl, jx_as, jx_ec, jx_ev, jx_es, tb1, tb3, tbk, tbn, tbl, sAsg_k, jx_set, jx_ft_int, jx_ft_ref, jx_ft_null, jx_ft_z0, jx_ft_z1, sSeq_k, sIf_k, sSkip, sInc, sPf_k, jx_pf_h, sUf_k, sSt_k, jx_st_h, sSta_k, jx_sta_h, jx_el, sUst_k, sRet, jx_rt, sRetV, sCl_k, sThrow_h, eNew, jx_nw_h, sObj, eNa, List.getElem?_cons_zero, List.getElem?_cons_succ, List.set_cons_zero, List.set_cons_succ, List.cons_append, List.nil_append, List.replicate_succ, List.replicate_zero, List.length_cons, List.length_nil, List.all_cons, List.all_nil, Value.category, Bool.and_true, Bool.true_and, Bool.and_self, beq_self_eq_true, and_self, and_true, true_and, if_true, if_false, ite_true, ite_false, eq_self, List.mem_cons, List.mem_singleton, List.not_mem_nil, or_false, true_or, or_true, false_or, Nat.reduceSub, Nat.reduceAdd, decide_true, decide_false, Bool.not_true, Bool.not_false, Nat.zero_add, Bool.false_eq_true, va_rf, reduceCtorEq, Nat.reduceEqDiff, Nat.reduceLT, Nat.reduceMul, Nat.lt_irrefl, rNe_b, rEq_b, jx_ft_b, jx_ix_nI, rLt_n, rGe_n, rGt_n, rLe_n, rEq_n, rNe_n, rGt_0, rEq_0, rNe_0, rLt_0, rGe_0, rLe_0, nI_1s, kU_ok, kU_r, kA_ok, kA_r, kC_t, kC_f, kC_r, kO_ok, kO_l, kO_r, kE_ok, kN_ok, kR_ok, kE_t, kE_f, kN_t, kN_f, kR_t, kR_f, cH_1, cH_21, cH_sh, cH_da, cH_dk, cH_sl, cH_dt, cH_pn, cH_wd, cH_md, cS_sh, cS_pn, cS_pn0, cS_pn1, cS_sl, cS_dt, cS_wd, cS_pr, pm_eta, va_rf, b2i_t, b2i_f, Bool.true_or, Bool.false_or, Bool.or_true, Bool.or_false, Bool.false_and, Bool.and_false, f_Sh_isAimed, bd_Sh_isAimed, r2, h0, qd, hq, e1, e2, qn, h1, h2, eq_true (show 0 < c by omega)]
end RM
