/-! THE COMPONENT's METHODS: the copy of a table -/
/-- the heap grew by at most n cells and m slots; what lay there lies there still -/
def Gw (n m : Nat) (h h' : jx_S) : Prop := (h.1 ≤ h'.1 ∧ h'.1 ≤ h.1 + n ∧ h.2.1 ≤ h'.2.1 ∧ h'.2.1 ≤ h.2.1 + m) ∧ ∀ q, q < h.1 → h'.2.2 q = h.2.2 q
theorem Gw.rf (h : jx_S) : Gw 0 0 h h := ⟨⟨by omega, by omega, by omega, by omega⟩, fun _ _ => rfl⟩
theorem Gw.tr {n m n' m' : Nat} {h h1 h2 : jx_S} (a : Gw n m h h1) (c : Gw n' m' h1 h2) : Gw (n + n') (m + m') h h2 := by
  obtain ⟨a1, a2⟩ := a
  obtain ⟨c1, c2⟩ := c
  refine ⟨⟨by omega, by omega, by omega, by omega⟩, fun q hq => ?_⟩
  rw [c2 q (by omega), a2 q hq]
theorem Gw.mo {n m n' m' : Nat} {h h1 : jx_S} (a : Gw n m h h1) (hn : n ≤ n') (hm : m ≤ m') : Gw n' m' h h1 := by
  obtain ⟨a1, a2⟩ := a
  exact ⟨⟨by omega, by omega, by omega, by omega⟩, a2⟩
theorem Gw.st {n m : Nat} {h h1 : jx_S} (a : Gw n m h h1) {c : Nat} (o : va_E) (hc : h.1 ≤ c) : Gw n m h (hset h1 c o) := by
  obtain ⟨a1, a2⟩ := a
  refine ⟨a1, fun q hq => ?_⟩
  rw [hset_ne _ _ (by omega)]
  exact a2 q hq
theorem Gw.nw {n m k : Nat} {h h1 : jx_S} (a : Gw n m h h1) (o : va_E) : Gw (n + 1) (m + k) h (hnew h1 k o) := by
  obtain ⟨a1, a2⟩ := a
  refine ⟨⟨?_, ?_, ?_, ?_⟩, fun q hq => ?_⟩
  · rw [hnew_1]; omega
  · rw [hnew_1]; omega
  · rw [hnew_21]; omega
  · rw [hnew_21]; omega
  · rw [hnew_ne _ _ (by omega)]; exact a2 q hq
theorem Gw.vo {n m : Nat} {h h1 : jx_S} (a : Gw n m h h1) (kd : Nat) (c e : Int32) : Gw (n + 2) (m + 13) h (nVo h1 kd c e) := by
  obtain ⟨a1, a2⟩ := a
  refine ⟨⟨?_, ?_, ?_, ?_⟩, fun q hq => ?_⟩
  · rw [nVo_1]; omega
  · rw [nVo_1]; omega
  · rw [nVo_21]; omega
  · rw [nVo_21]; omega
  · rw [nVo_n _ _ _ _ (by omega) (by omega)]; exact a2 q hq
theorem Gw.tb {n m : Nat} {h h1 : jx_S} (a : Gw n m h h1) : Gw (n + 3) (m + 11) h (nTb h1) := by
  obtain ⟨a1, a2⟩ := a
  refine ⟨⟨?_, ?_, ?_, ?_⟩, fun q hq => ?_⟩
  · rw [nTb_1]; omega
  · rw [nTb_1]; omega
  · rw [nTb_21]; omega
  · rw [nTb_21]; omega
  · rw [nTb_n _ (by omega) (by omega) (by omega)]; exact a2 q hq
theorem jx_cpy_n {a0 a n n1 : Nat} {L : List Value} {h : jx_S} {f g : Nat → Int32} (h0 : h.2.2 a0 = some (.inl (0, n, .inl f))) (h1 : h.2.2 a = some (.inl (0, n1, .inl g))) (hn : n ≤ n1) (hn2 : n < 4096) : jx_cpy [.ref a0, .int (nI 0), .ref a, .int (nI 0), .int (nI n)] L h = jx_ok none (hset h a (.inl (0, n1, .inl (va_cpy f g 0 0 n)))) := by
  unfold jx_cpy
  dsimp only
  rw [h0, h1]
  show (if 0 ≤ nI 0 ∧ 0 ≤ nI 0 ∧ 0 ≤ nI n ∧ (nI 0).toNatClampNeg + (nI n).toNatClampNeg ≤ n ∧ (nI 0).toNatClampNeg + (nI n).toNatClampNeg ≤ n1 then jx_ok none (h.1, h.2.1, jx_up h.2.2 a (.inl (0, n1, .inl (va_cpy f g (nI 0).toNatClampNeg (nI 0).toNatClampNeg (nI n).toNatClampNeg)))) else none) = _
  have e0 : (nI 0).toNatClampNeg = 0 := by decide
  rw [e0, nI_clamp (n := n) (by omega), if_pos ⟨by decide, by decide, nI_pos' (by omega), by omega, by omega⟩]
  rfl
section CP
variable {H : jx_S} {lo hi t : Nat} {T : Nat → Nat} {ea va : Nat} {qa la : Nat → Nat} {fe : Nat → Int32} {fv : Nat → Option Nat} {fl : Nat → Nat → Int32}
/-- the extents -/
theorem TPa.setE {T' : Nat → Nat} (hp : TPa H lo hi t T ea va qa la fe fv fl) (f : Nat → Int32) (hf : ∀ d, d < 4 → f d = nI (T' (1 + d))) (hT : ∀ j, j < 49 → (j < 1 ∨ 5 ≤ j) → T' j = T j) : TPa (hset H ea (.inl (0, 4, .inl f))) lo hi t T' ea va qa la f fv fl := by
  have hd := hp.ds
  obtain ⟨b1, b2, b3, b4, g1, g2, g3, g4, g5, g6, g7⟩ := hp
  have e5 : ∀ v, v < 4 → T' (5 + v) = T (5 + v) := fun v hv => hT _ (by omega) (by omega)
  refine ⟨b1, b2, b3, fun v hv h0 => b4 v hv (by rw [← e5 v hv]; exact h0), ?_, ?_, fun d' hd' => hf d' hd', ?_, fun v hv => ?_, fun v hv h0 => ?_, fun u v hu hv h0 h1 => g7 u v hu hv (by rw [← e5 u hu]; exact h0) (by rw [← e5 v hv]; exact h1)⟩
  · rw [hset_ne _ _ (Ne.symm hd.1.1), hT 0 (by omega) (by omega)]; exact g1
  · rw [hset_eq]
  · rw [hset_ne _ _ (Ne.symm hd.1.2.2)]; exact g4
  · rw [e5 v hv]; exact g5 v hv
  · rw [e5 v hv] at h0 ⊢
    obtain ⟨k1, k2, k3⟩ := g6 v hv h0
    obtain ⟨d1, d2, d3⟩ := hd.2 v hv h0
    rw [hset_ne _ _ d1.2.1, hset_ne _ _ d2.2.1]
    refine ⟨?_, k2, fun k hk => ?_⟩
    · unfold colsN elsN; rw [e5 v hv]; exact k1
    · rw [hT _ (by omega) (by omega)]; exact k3 k hk
/-- the region may grow -/
theorem TPa.wid {lo' hi' : Nat} (hp : TPa H lo hi t T ea va qa la fe fv fl) (h1 : lo' ≤ lo) (h2 : hi ≤ hi') : TPa H lo' hi' t T ea va qa la fe fv fl := by
  obtain ⟨b1, b2, b3, b4, g⟩ := hp
  exact ⟨⟨by omega, by omega⟩, ⟨by omega, by omega⟩, ⟨by omega, by omega⟩, fun v hv h0 => ⟨⟨by have := b4 v hv h0; omega, by have := b4 v hv h0; omega⟩, by have := b4 v hv h0; omega, by have := b4 v hv h0; omega⟩, g⟩
/-- a table's first volumes -/
def cutT (T : Nat → Nat) (k : Nat) : Nat → Nat := fun j => if j < 5 + k ∧ j < 9 ∨ (9 ≤ j ∧ j < 9 + 10 * k) then T j else 0
theorem cutT_y (T : Nat → Nat) {k j : Nat} (h : j < 5 + k ∧ j < 9 ∨ (9 ≤ j ∧ j < 9 + 10 * k)) : cutT T k j = T j := if_pos h
theorem cutT_z (T : Nat → Nat) {k j : Nat} (h : ¬ (j < 5 + k ∧ j < 9 ∨ (9 ≤ j ∧ j < 9 + 10 * k))) : cutT T k j = 0 := if_neg h
set_option maxHeartbeats 8000000 in
theorem q_Tb_copy (hp : TPa H lo hi t T ea va qa la fe fv fl) (hi1 : hi ≤ H.1) (hW : WT T) : ∃ H', f_Tb_copy [.ref t] H = some (.returned (some (.ref H.1)), H') ∧ TP H' H.1 H'.1 H.1 T ∧ Gw 11 63 H H' := by
  have hp' := hp
  obtain ⟨b1, b2, b3, b4, g1, g2, g3, g4, g5, g6, g7⟩ := hp
  -- the start
  have a1 : TPa (hset (nTb H) H.1 (.inr (3, [.int (nI (T 0)), .ref (H.1 + 1), .ref (H.1 + 2)]))) H.1 (H.1 + 3) H.1 (upN (fun _ => 0) 0 (T 0)) (H.1 + 1) (H.1 + 2) (fun _ => 0) (fun _ => 0) (fun _ => 0) (fun _ => none) (fun _ _ => 0) := (nTb_TP H).setn (T 0)
  have a2 := a1.setE (T' := cutT T 0) (va_cpy fe (fun _ => 0) 0 0 4) (fun d hd => by
      unfold va_cpy
      rw [if_pos ⟨by omega, by omega⟩, cutT_y _ (by omega), Nat.zero_add, Nat.sub_zero]
      exact g3 d hd) (fun j hj h => by
      by_cases e : j = 0
      · subst e; rw [cutT_y _ (by omega), upN_s]
      · rw [cutT_z _ (by omega), upN_o _ _ e])
  have w2 : Gw 3 11 H (hset (hset (nTb H) H.1 (.inr (3, [.int (nI (T 0)), .ref (H.1 + 1), .ref (H.1 + 2)]))) (H.1 + 1) (.inl (0, 4, .inl (va_cpy fe (fun _ => 0) 0 0 4)))) := ((((Gw.rf H).tb.mo (by omega) (by omega)).st _ (by omega)).st _ (by omega))
  generalize hH2 : (hset (hset (nTb H) H.1 (.inr (3, [.int (nI (T 0)), .ref (H.1 + 1), .ref (H.1 + 2)]))) (H.1 + 1) (.inl (0, 4, .inl (va_cpy fe (fun _ => 0) 0 0 4)))) = H2 at a2 w2
  have hs2 : H2.1 = H.1 + 3 := by rw [← hH2]; rfl
  rw [← hs2] at a2
  -- the loop
  have step : ∀ k L H', k < 4 → (∃ z, L = [.ref t, .ref H.1, .int (nI k), z] ∧ Gw (3 + 2 * k) (11 + 13 * k) H H' ∧ ∃ qa' la' fe' fv' fl', TPa H' H.1 H'.1 H.1 (cutT T k) (H.1 + 1) (H.1 + 2) qa' la' fe' fv' fl') → ∃ L' H'', (∃ z, L' = [.ref t, .ref H.1, .int (nI (k + 1)), z] ∧ Gw (3 + 2 * (k + 1)) (11 + 13 * (k + 1)) H H'' ∧ ∃ qa' la' fe' fv' fl', TPa H'' H.1 H''.1 H.1 (cutT T (k + 1)) (H.1 + 1) (H.1 + 2) qa' la' fe' fv' fl') ∧ ∀ K, lb_Tb_copy_0 K L H' = K L' H'' := by
    rintro k L H' hk ⟨z, rfl, hG, qa', la', fe', fv', fl', hP⟩
    have keep := hp'.keep (h' := H') (fun q h1 h2 => hG.2 q (by omega))
    have r1 := (hG.2 t (by omega)).trans g1
    have r2 := (hG.2 va (by omega)).trans g4
    have r3 := hP.2.2.2.2.1
    have r4 := hP.2.2.2.2.2.2.2.1
    by_cases h0 : T (5 + k) = 0
    · have hn := hp'.nov hk h0
      refine ⟨_, H', ⟨.null, rfl, hG.mo (by omega) (by omega), qa', la', fe', fv', fl', hP.cong (fun j hj => ?_) (fun v hv hz i hi' => ?_)⟩, fun K => ?_⟩
      · by_cases e : j = 5 + k
        · subst e; rw [cutT_y _ (by omega), cutT_z _ (by omega), h0]
        · by_cases e2 : j < 5 + k
          · rw [cutT_y _ (by omega), cutT_y _ (by omega)]
          · rw [cutT_z _ (by omega), cutT_z _ (by omega)]
      · have hvk : v < k := by
          refine Nat.lt_of_not_le fun h => hz (cutT_z _ (by omega))
        rw [cutT_y _ (by omega), cutT_y _ (by omega)]
      · simp (disch := first | omega | assumption) only [jx_fn, jx_b_ok, jx_kb_ok, jx_b_inl, jx_kb_inl, jx_b_inr, jx_kb_inr, eInt, eNull, eI, eA, eBin, jx_op, oAdd_n, oMul_n, cCmp, cCmp0, jx_cp, cNull, jx_nl, cNot, cAnd_k, cOr_k, cIte_c, eIte_k, ck_ite, bf_and, bf_or, bf_not, ck_int, ck_10, ck_nI, cond_true, cond_false, oSub_g, nIs_le, oDiv_s, ck_n10, eGf, jx_gf, eLd, jx_ld, eLda, jx_lda, eLen, jx_len, eCl, jx_as, jx_ec, jx_ev, jx_es, tb1, tb3, tbk, tbn, tbl, sAsg_k, jx_set, jx_ft_int, jx_ft_ref, jx_ft_null, jx_ft_z0, jx_ft_z1, sSeq_k, sIf_k, sSkip, sInc, sPf_k, jx_pf_h, sUf_k, sSt_k, jx_st_h, sSta_k, jx_sta_h, jx_el, sUst_k, sRet, jx_rt, sRetV, sCl_k, sThrow_h, eNew, jx_nw_h, sObj, eNa, List.getElem?_cons_zero, List.getElem?_cons_succ, List.set_cons_zero, List.set_cons_succ, List.cons_append, List.nil_append, List.replicate_succ, List.replicate_zero, List.length_cons, List.length_nil, List.all_cons, List.all_nil, Value.category, Bool.and_true, Bool.true_and, Bool.and_self, beq_self_eq_true, and_self, and_true, true_and, if_true, if_false, ite_true, ite_false, eq_self, List.mem_cons, List.mem_singleton, List.not_mem_nil, or_false, true_or, or_true, false_or, Nat.reduceSub, Nat.reduceAdd, decide_true, decide_false, Bool.not_true, Bool.not_false, Nat.zero_add, Bool.false_eq_true, va_rf, reduceCtorEq, Nat.reduceEqDiff, Nat.reduceLT, Nat.reduceMul, Nat.lt_irrefl, rNe_b, rEq_b, jx_ft_b, jx_ix_nI, rLt_n, rGe_n, rGt_n, rLe_n, rEq_n, rNe_n, rGt_0, rEq_0, rNe_0, rLt_0, rGe_0, rLe_0, nI_1s, kU_ok, kU_r, kA_ok, kA_r, kC_t, kC_f, kC_r, kO_ok, kO_l, kO_r, kE_ok, kN_ok, kR_ok, kE_t, kE_f, kN_t, kN_f, kR_t, kR_f, cH_1, cH_21, cH_sh, cH_da, cH_dk, cH_sl, cH_dt, cH_pn, cH_wd, cH_md, cS_sh, cS_pn, cS_pn0, cS_pn1, cS_sl, cS_dt, cS_wd, cS_pr, pm_eta, va_rf, b2i_t, b2i_f, Bool.true_or, Bool.false_or, Bool.or_true, Bool.or_false, Bool.false_and, Bool.and_false, lb_Tb_copy_0, r1, r2, hn]
    · obtain ⟨hn, ⟨v1, v2, hq⟩, hla, hfl⟩ := keep.vol hW hk h0
      have hb4 := b4 k hk h0
      have nq : H.1 ≤ H'.1 := hG.1.1
      have hb : H.1 + 3 ≤ H'.1 := by
        have := hP.2.2.1.2
        omega
      -- the volume
      have e1 : ∀ q, q < H'.1 → (nVo H' (T (5 + k) % 4) (nI (colsN T k)) (nI (elsN T k))).2.2 q = H'.2.2 q := fun q h => nVo_n _ _ _ _ (by omega) (by omega)
      have p1 := hP.keep (h' := nVo H' (T (5 + k) % 4) (nI (colsN T k)) (nI (elsN T k))) (fun q _ h => e1 q h)
      have p2 := p1.addv (lo' := H.1) (hi' := H'.1 + 2) (q := H'.1) (l := H'.1 + 1) (w := T (5 + k)) (v := k) (f := fun _ => 0) (lg := fun _ => 0) hk (cutT_z _ (by omega)) h0 (by omega) (by omega) (nVo_q ..) (nVo_l ..) (fun _ _ => rfl) ⟨by omega, by omega⟩ (by omega) ⟨by omega, by omega⟩ (by omega)
      have p3 := p2.setl (T' := cutT T (k + 1)) hk (by rw [vset_w]; exact h0) (va_cpy (fl k) (fun _ => 0) 0 0 10) (fun i hi' => by
          unfold va_cpy
          rw [if_pos ⟨by omega, by omega⟩, Nat.zero_add, Nat.sub_zero, hfl i hi', cutT_y _ (by omega)]) (fun j hj hjk => by
          by_cases e : j = 5 + k
          · subst e; rw [vset_w, cutT_y _ (by omega)]
          · rw [vset_n _ _ _ e hjk]
            by_cases e2 : j < 5 + k ∧ j < 9 ∨ (9 ≤ j ∧ j < 9 + 10 * k)
            · rw [cutT_y _ (by omega), cutT_y _ e2]
            · rw [cutT_z _ (by omega), cutT_z _ e2])
      have w3 : Gw (3 + 2 * (k + 1)) (11 + 13 * (k + 1)) H (nVo H' (T (5 + k) % 4) (nI (colsN T k)) (nI (elsN T k))) := (hG.vo _ _ _).mo (by omega) (by omega)
      have hup : up2 la' k (H'.1 + 1) k = H'.1 + 1 := if_pos rfl
      rw [hup] at p3
      have hkind : f_Vo_of [.int (nI (T (5 + k) % 4 - 1)), .int (nI (colsN T k)), .int (nI (elsN T k))] H' = some (.returned (some (.ref H'.1)), nVo H' (T (5 + k) % 4) (nI (colsN T k)) (nI (elsN T k))) := q_Vo_of H' _ v1 v2 _ _ (fun z => by
          rcases hW.2.2.1 k hk with ⟨c1, _⟩ | ⟨_, _, c3, _⟩
          · exact absurd c1 h0
          · rw [c3 z])
      have hk2 := q_kF H' (qa k) (T (5 + k) % 4) v1 v2
      generalize hX : nVo H' (T (5 + k) % 4) (nI (colsN T k)) (nI (elsN T k)) = X at e1 p1 p2 p3 w3 hkind
      have x1 := (e1 (H.1 + 2) (by omega)).trans r4
      have x2 : X.2.2 H'.1 = some (.inr (4 + T (5 + k) % 4, [.int (nI (colsN T k)), .int (nI (elsN T k)), .ref (H'.1 + 1)])) := by rw [← hX]; exact nVo_q ..
      have x3 : X.2.2 (H'.1 + 1) = some (.inl (0, 10, .inl fun _ => 0)) := by rw [← hX]; exact nVo_l ..
      have xs : X.1 = H'.1 + 2 := by rw [← hX]; rfl
      have x4 := (e1 (qa k) (by omega)).trans hq
      have x5 := (e1 (la k) (by omega)).trans hla
      have x6 := (e1 H.1 (by omega)).trans r3
      have ne : ∀ q, q ≠ H.1 + 2 → (hset X (H.1 + 2) (.inl (4, 4, .inr (.inr (.inr (.inr (va_up fv' k (some H'.1)))))))).2.2 q = X.2.2 q := fun q h => hset_ne _ _ h
      have y4 := (ne (qa k) (by omega)).trans x4
      have y5 := (ne (la k) (by omega)).trans x5
      have y6 := (ne H.1 (by omega)).trans x6
      have y2 := (ne H'.1 (by omega)).trans x2
      have y3 := (ne (H'.1 + 1) (by omega)).trans x3
      have y1 := hset_eq X (H.1 + 2) (.inl (4, 4, .inr (.inr (.inr (.inr (va_up fv' k (some H'.1)))))))
      have w4 := w3.st (c := H.1 + 2) (.inl (4, 4, .inr (.inr (.inr (.inr (va_up fv' k (some H'.1))))))) (by omega)
      have yc := fun L => jx_cpy_n (L := L) y5 y3 (by omega) (by omega)
      have ys : (hset X (H.1 + 2) (.inl (4, 4, .inr (.inr (.inr (.inr (va_up fv' k (some H'.1)))))))).1 = H'.1 + 2 := xs
      have yu : va_up fv' k (some H'.1) k = some H'.1 := if_pos rfl
      refine ⟨_, hset (hset X (H.1 + 2) (.inl (4, 4, .inr (.inr (.inr (.inr (va_up fv' k (some H'.1)))))))) (H'.1 + 1) (.inl (0, 10, .inl (va_cpy (fl k) (fun _ => 0) 0 0 10))), ⟨.ref (qa k), rfl, w4.st _ (by omega), up2 qa' k H'.1, up2 la' k (H'.1 + 1), fe', va_up fv' k (some H'.1), up2 (up2 fl' k fun _ => 0) k (va_cpy (fl k) (fun _ => 0) 0 0 10), ?_⟩, fun K => ?_⟩
      · rw [hset_1, ys]
        exact p3
      · have hm5 := mem567 v1 v2
        simp (disch := first | omega | assumption) only [jx_fn, jx_b_ok, jx_kb_ok, jx_b_inl, jx_kb_inl, jx_b_inr, jx_kb_inr, eInt, eNull, eI, eA, eBin, jx_op, oAdd_n, oMul_n, cCmp, cCmp0, jx_cp, cNull, jx_nl, cNot, cAnd_k, cOr_k, cIte_c, eIte_k, ck_ite, bf_and, bf_or, bf_not, ck_int, ck_10, ck_nI, cond_true, cond_false, oSub_g, nIs_le, oDiv_s, ck_n10, eGf, jx_gf, eLd, jx_ld, eLda, jx_lda, eLen, jx_len, eCl, jx_as, jx_ec, jx_ev, jx_es, tb1, tb3, tbk, tbn, tbl, sAsg_k, jx_set, jx_ft_int, jx_ft_ref, jx_ft_null, jx_ft_z0, jx_ft_z1, sSeq_k, sIf_k, sSkip, sInc, sPf_k, jx_pf_h, sUf_k, sSt_k, jx_st_h, sSta_k, jx_sta_h, jx_el, sUst_k, sRet, jx_rt, sRetV, sCl_k, sThrow_h, eNew, jx_nw_h, sObj, eNa, List.getElem?_cons_zero, List.getElem?_cons_succ, List.set_cons_zero, List.set_cons_succ, List.cons_append, List.nil_append, List.replicate_succ, List.replicate_zero, List.length_cons, List.length_nil, List.all_cons, List.all_nil, Value.category, Bool.and_true, Bool.true_and, Bool.and_self, beq_self_eq_true, and_self, and_true, true_and, if_true, if_false, ite_true, ite_false, eq_self, List.mem_cons, List.mem_singleton, List.not_mem_nil, or_false, true_or, or_true, false_or, Nat.reduceSub, Nat.reduceAdd, decide_true, decide_false, Bool.not_true, Bool.not_false, Nat.zero_add, Bool.false_eq_true, va_rf, reduceCtorEq, Nat.reduceEqDiff, Nat.reduceLT, Nat.reduceMul, Nat.lt_irrefl, rNe_b, rEq_b, jx_ft_b, jx_ix_nI, rLt_n, rGe_n, rGt_n, rLe_n, rEq_n, rNe_n, rGt_0, rEq_0, rNe_0, rLt_0, rGe_0, rLe_0, nI_1s, kU_ok, kU_r, kA_ok, kA_r, kC_t, kC_f, kC_r, kO_ok, kO_l, kO_r, kE_ok, kN_ok, kR_ok, kE_t, kE_f, kN_t, kN_f, kR_t, kR_f, cH_1, cH_21, cH_sh, cH_da, cH_dk, cH_sl, cH_dt, cH_pn, cH_wd, cH_md, cS_sh, cS_pn, cS_pn0, cS_pn1, cS_sl, cS_dt, cS_wd, cS_pr, pm_eta, va_rf, b2i_t, b2i_f, Bool.true_or, Bool.false_or, Bool.or_true, Bool.or_false, Bool.false_and, Bool.and_false, lb_Tb_copy_0, r1, r2, hn, hq, hk2, hm5, hkind, r3, x1, x2, y4, y6, y1, yu, y2, yc]
  have z := wh_inv0 (c := lc_Tb_copy_0) (A := lb_Tb_copy_0) (fun k L H' => ∃ z, L = [.ref t, .ref H.1, .int (nI k), z] ∧ Gw (3 + 2 * k) (11 + 13 * k) H H' ∧ ∃ qa' la' fe' fv' fl', TPa H' H.1 H'.1 H.1 (cutT T k) (H.1 + 1) (H.1 + 2) qa' la' fe' fv' fl') 4 (fun k L H' hk hI => by
      obtain ⟨z, rfl, _⟩ := hI
      simp (disch := first | omega | assumption) only [jx_fn, jx_b_ok, jx_kb_ok, jx_b_inl, jx_kb_inl, jx_b_inr, jx_kb_inr, eInt, eNull, eI, eA, eBin, jx_op, oAdd_n, oMul_n, cCmp, cCmp0, jx_cp, cNull, jx_nl, cNot, cAnd_k, cOr_k, cIte_c, eIte_k, ck_ite, bf_and, bf_or, bf_not, ck_int, ck_10, ck_nI, cond_true, cond_false, oSub_g, nIs_le, oDiv_s, ck_n10, eGf, jx_gf, eLd, jx_ld, eLda, jx_lda, eLen, jx_len, eCl, jx_as, jx_ec, jx_ev, jx_es, tb1, tb3, tbk, tbn, tbl, sAsg_k, jx_set, jx_ft_int, jx_ft_ref, jx_ft_null, jx_ft_z0, jx_ft_z1, sSeq_k, sIf_k, sSkip, sInc, sPf_k, jx_pf_h, sUf_k, sSt_k, jx_st_h, sSta_k, jx_sta_h, jx_el, sUst_k, sRet, jx_rt, sRetV, sCl_k, sThrow_h, eNew, jx_nw_h, sObj, eNa, List.getElem?_cons_zero, List.getElem?_cons_succ, List.set_cons_zero, List.set_cons_succ, List.cons_append, List.nil_append, List.replicate_succ, List.replicate_zero, List.length_cons, List.length_nil, List.all_cons, List.all_nil, Value.category, Bool.and_true, Bool.true_and, Bool.and_self, beq_self_eq_true, and_self, and_true, true_and, if_true, if_false, ite_true, ite_false, eq_self, List.mem_cons, List.mem_singleton, List.not_mem_nil, or_false, true_or, or_true, false_or, Nat.reduceSub, Nat.reduceAdd, decide_true, decide_false, Bool.not_true, Bool.not_false, Nat.zero_add, Bool.false_eq_true, va_rf, reduceCtorEq, Nat.reduceEqDiff, Nat.reduceLT, Nat.reduceMul, Nat.lt_irrefl, rNe_b, rEq_b, jx_ft_b, jx_ix_nI, rLt_n, rGe_n, rGt_n, rLe_n, rEq_n, rNe_n, rGt_0, rEq_0, rNe_0, rLt_0, rGe_0, rLe_0, nI_1s, kU_ok, kU_r, kA_ok, kA_r, kC_t, kC_f, kC_r, kO_ok, kO_l, kO_r, kE_ok, kN_ok, kR_ok, kE_t, kE_f, kN_t, kN_f, kR_t, kR_f, cH_1, cH_21, cH_sh, cH_da, cH_dk, cH_sl, cH_dt, cH_pn, cH_wd, cH_md, cS_sh, cS_pn, cS_pn0, cS_pn1, cS_sl, cS_dt, cS_wd, cS_pr, pm_eta, va_rf, b2i_t, b2i_f, Bool.true_or, Bool.false_or, Bool.or_true, Bool.or_false, Bool.false_and, Bool.and_false, lc_Tb_copy_0, eq_true (show k < 4 by omega)]) step (fun L H' hI => by
      obtain ⟨z, rfl, _⟩ := hI
      simp (disch := first | omega | assumption) only [jx_fn, jx_b_ok, jx_kb_ok, jx_b_inl, jx_kb_inl, jx_b_inr, jx_kb_inr, eInt, eNull, eI, eA, eBin, jx_op, oAdd_n, oMul_n, cCmp, cCmp0, jx_cp, cNull, jx_nl, cNot, cAnd_k, cOr_k, cIte_c, eIte_k, ck_ite, bf_and, bf_or, bf_not, ck_int, ck_10, ck_nI, cond_true, cond_false, oSub_g, nIs_le, oDiv_s, ck_n10, eGf, jx_gf, eLd, jx_ld, eLda, jx_lda, eLen, jx_len, eCl, jx_as, jx_ec, jx_ev, jx_es, tb1, tb3, tbk, tbn, tbl, sAsg_k, jx_set, jx_ft_int, jx_ft_ref, jx_ft_null, jx_ft_z0, jx_ft_z1, sSeq_k, sIf_k, sSkip, sInc, sPf_k, jx_pf_h, sUf_k, sSt_k, jx_st_h, sSta_k, jx_sta_h, jx_el, sUst_k, sRet, jx_rt, sRetV, sCl_k, sThrow_h, eNew, jx_nw_h, sObj, eNa, List.getElem?_cons_zero, List.getElem?_cons_succ, List.set_cons_zero, List.set_cons_succ, List.cons_append, List.nil_append, List.replicate_succ, List.replicate_zero, List.length_cons, List.length_nil, List.all_cons, List.all_nil, Value.category, Bool.and_true, Bool.true_and, Bool.and_self, beq_self_eq_true, and_self, and_true, true_and, if_true, if_false, ite_true, ite_false, eq_self, List.mem_cons, List.mem_singleton, List.not_mem_nil, or_false, true_or, or_true, false_or, Nat.reduceSub, Nat.reduceAdd, decide_true, decide_false, Bool.not_true, Bool.not_false, Nat.zero_add, Bool.false_eq_true, va_rf, reduceCtorEq, Nat.reduceEqDiff, Nat.reduceLT, Nat.reduceMul, Nat.lt_irrefl, rNe_b, rEq_b, jx_ft_b, jx_ix_nI, rLt_n, rGe_n, rGt_n, rLe_n, rEq_n, rNe_n, rGt_0, rEq_0, rNe_0, rLt_0, rGe_0, rLe_0, nI_1s, kU_ok, kU_r, kA_ok, kA_r, kC_t, kC_f, kC_r, kO_ok, kO_l, kO_r, kE_ok, kN_ok, kR_ok, kE_t, kE_f, kN_t, kN_f, kR_t, kR_f, cH_1, cH_21, cH_sh, cH_da, cH_dk, cH_sl, cH_dt, cH_pn, cH_wd, cH_md, cS_sh, cS_pn, cS_pn0, cS_pn1, cS_sl, cS_dt, cS_wd, cS_pr, pm_eta, va_rf, b2i_t, b2i_f, Bool.true_or, Bool.false_or, Bool.or_true, Bool.or_false, Bool.false_and, Bool.and_false, lc_Tb_copy_0]) 64 0 [.ref t, .ref H.1, .int (nI 0), .double 0] H2 (by omega) (by omega) ⟨.double 0, rfl, w2, _, _, _, _, _, a2⟩
  obtain ⟨L', H', ⟨zz, rfl, hG, qa', la', fe', fv', fl', hP⟩, hK⟩ := z
  refine ⟨H', ?_, ⟨_, _, qa', la', fe', fv', fl', hP.cong (fun j hj => ?_) (fun v hv h0 k hk => ?_)⟩, hG⟩
  · have t1 := (nTb_n H (q := t) (by omega) (by omega) (by omega)).trans g1
    have t2 := (nTb_n H (q := ea) (by omega) (by omega) (by omega)).trans g2
    have n1 := nTb_t H
    have n2 := nTb_e H
    have i1 := q_Tb_init H
    generalize nTb H = N at t1 t2 n1 n2 i1 hH2
    have s1 := (hset_ne N (a := H.1) (q := t) (.inr (3, [.int (nI (T 0)), .ref (H.1 + 1), .ref (H.1 + 2)])) (by omega)).trans t1
    have s2 := (hset_ne N (a := H.1) (q := ea) (.inr (3, [.int (nI (T 0)), .ref (H.1 + 1), .ref (H.1 + 2)])) (by omega)).trans t2
    have s3 := (hset_ne N (a := H.1) (q := H.1 + 1) (.inr (3, [.int (nI (T 0)), .ref (H.1 + 1), .ref (H.1 + 2)])) (by omega)).trans n2
    have s4 := hset_eq N H.1 (.inr (3, [.int (nI (T 0)), .ref (H.1 + 1), .ref (H.1 + 2)]))
    have sc := fun L => jx_cpy_n (L := L) s2 s3 (by omega) (by omega)
    rw [hH2] at sc
    simp (disch := first | omega | assumption) only [jx_fn, jx_b_ok, jx_kb_ok, jx_b_inl, jx_kb_inl, jx_b_inr, jx_kb_inr, eInt, eNull, eI, eA, eBin, jx_op, oAdd_n, oMul_n, cCmp, cCmp0, jx_cp, cNull, jx_nl, cNot, cAnd_k, cOr_k, cIte_c, eIte_k, ck_ite, bf_and, bf_or, bf_not, ck_int, ck_10, ck_nI, cond_true, cond_false, oSub_g, nIs_le, oDiv_s, ck_n10, eGf, jx_gf, eLd, jx_ld, eLda, jx_lda, eLen, jx_len, eCl, jx_as, jx_ec, jx_ev, jx_es, tb1, tb3, tbk, tbn, tbl, sAsg_k, jx_set, jx_ft_int, jx_ft_ref, jx_ft_null, jx_ft_z0, jx_ft_z1, sSeq_k, sIf_k, sSkip, sInc, sPf_k, jx_pf_h, sUf_k, sSt_k, jx_st_h, sSta_k, jx_sta_h, jx_el, sUst_k, sRet, jx_rt, sRetV, sCl_k, sThrow_h, eNew, jx_nw_h, sObj, eNa, List.getElem?_cons_zero, List.getElem?_cons_succ, List.set_cons_zero, List.set_cons_succ, List.cons_append, List.nil_append, List.replicate_succ, List.replicate_zero, List.length_cons, List.length_nil, List.all_cons, List.all_nil, Value.category, Bool.and_true, Bool.true_and, Bool.and_self, beq_self_eq_true, and_self, and_true, true_and, if_true, if_false, ite_true, ite_false, eq_self, List.mem_cons, List.mem_singleton, List.not_mem_nil, or_false, true_or, or_true, false_or, Nat.reduceSub, Nat.reduceAdd, decide_true, decide_false, Bool.not_true, Bool.not_false, Nat.zero_add, Bool.false_eq_true, va_rf, reduceCtorEq, Nat.reduceEqDiff, Nat.reduceLT, Nat.reduceMul, Nat.lt_irrefl, rNe_b, rEq_b, jx_ft_b, jx_ix_nI, rLt_n, rGe_n, rGt_n, rLe_n, rEq_n, rNe_n, rGt_0, rEq_0, rNe_0, rLt_0, rGe_0, rLe_0, nI_1s, kU_ok, kU_r, kA_ok, kA_r, kC_t, kC_f, kC_r, kO_ok, kO_l, kO_r, kE_ok, kN_ok, kR_ok, kE_t, kE_f, kN_t, kN_f, kR_t, kR_f, cH_1, cH_21, cH_sh, cH_da, cH_dk, cH_sl, cH_dt, cH_pn, cH_wd, cH_md, cS_sh, cS_pn, cS_pn0, cS_pn1, cS_sl, cS_dt, cS_wd, cS_pr, pm_eta, va_rf, b2i_t, b2i_f, Bool.true_or, Bool.false_or, Bool.or_true, Bool.or_false, Bool.false_and, Bool.and_false, f_Tb_copy, bd_Tb_copy, i1, t1, n1, s1, s4, sc, hK]
  · rw [cutT_y _ (by omega)]
  · rw [cutT_y _ (by omega)]
end CP
