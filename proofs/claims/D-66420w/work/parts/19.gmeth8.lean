/-! METHODS, printed by jgen.py -/
/-! ExtentShelfModel.isFree([II)Z -/
abbrev z_Md_isFree : jx_Z := ("ExtentShelfModel", "isFree", prog_11_method_20_code, 3, some .boolean, 1, 31)
theorem d_Md_isFree_0 : decode z_Md_isFree.2.2.1 0 = .ok (.aload_n 1, 1) := by decide +kernel
theorem d_Md_isFree_1 : decode z_Md_isFree.2.2.1 1 = .ok (.iload_n 2, 1) := by decide +kernel
theorem d_Md_isFree_2 : decode z_Md_isFree.2.2.1 2 = .ok (.invokestatic 68, 3) := by decide +kernel
theorem d_Md_isFree_5 : decode z_Md_isFree.2.2.1 5 = .ok (.ifCond .ne 22, 3) := by decide +kernel
theorem d_Md_isFree_8 : decode z_Md_isFree.2.2.1 8 = .ok (.aload_n 0, 1) := by decide +kernel
theorem d_Md_isFree_9 : decode z_Md_isFree.2.2.1 9 = .ok (.getfield 34, 3) := by decide +kernel
theorem d_Md_isFree_12 : decode z_Md_isFree.2.2.1 12 = .ok (.ifCond .lt 11, 3) := by decide +kernel
theorem d_Md_isFree_15 : decode z_Md_isFree.2.2.1 15 = .ok (.aload_n 0, 1) := by decide +kernel
theorem d_Md_isFree_16 : decode z_Md_isFree.2.2.1 16 = .ok (.getfield 65, 3) := by decide +kernel
theorem d_Md_isFree_19 : decode z_Md_isFree.2.2.1 19 = .ok (.iload_n 2, 1) := by decide +kernel
theorem d_Md_isFree_20 : decode z_Md_isFree.2.2.1 20 = .ok (.if_icmp .eq 7, 3) := by decide +kernel
theorem d_Md_isFree_23 : decode z_Md_isFree.2.2.1 23 = .ok (.iconst 1, 1) := by decide +kernel
theorem d_Md_isFree_24 : decode z_Md_isFree.2.2.1 24 = .ok (.goto 4, 3) := by decide +kernel
theorem d_Md_isFree_27 : decode z_Md_isFree.2.2.1 27 = .ok (.iconst 0, 1) := by decide +kernel
theorem d_Md_isFree_28 : decode z_Md_isFree.2.2.1 28 = .ok (.ireturn, 1) := by decide +kernel
def bd_Md_isFree : jx_St := (sRet 1 (eIte (cAnd (cNot (cCmp0 rNe (eCl (jx_ec f_Md_holds) [(eA 1), (eI 2)]))) (cOr (cCmp0 rLt (eGf [8] 8 (eA 0))) (cCmp rNe (eGf [8] 11 (eA 0)) (eI 2)))) (eInt (nI 1)) (eInt (nI 0))))
theorem m_Md_isFree : jx_Ts z_Md_isFree 0 bd_Md_isFree [] := by
  unfold bd_Md_isFree
  exact (t_ret .boolean (s_ite (q4 := 28) (s_andg (s_not (s_cmp0 (s_cl (s_a1 (s_aload_n d_Md_isFree_0 rfl) (s_a1 (s_iload_n d_Md_isFree_1 rfl) s_a0)) (s_ecs me_Md_holds mw_Md_holds (by decide) (by decide) (by decide) lm_Md_68 w_st_Md_holds w_in_Md pd_Md_holds d_Md_isFree_2)) (s_if_neT (tgt := 27) d_Md_isFree_5 (by decide))) (by decide)) (by decide) (al_1 (s_org (s_cmp0 (s_getf (s_aload_n d_Md_isFree_8 rfl) fi_Md_34 d_Md_isFree_9) (s_if_ltT (tgt := 23) d_Md_isFree_12 (by decide))) (by decide) (al_1 (s_cmp (s_getf (s_aload_n d_Md_isFree_15 rfl) fi_Md_65 d_Md_isFree_16) (s_iload_n d_Md_isFree_19 rfl) (s_icmp_eqF (tgt := 27) d_Md_isFree_20 (by decide))))))) (s_iconst d_Md_isFree_23 (by decide)) d_Md_isFree_24 (by decide) (s_iconst d_Md_isFree_27 (by decide))) rfl (by decide) d_Md_isFree_28)
def f_Md_isFree : jx_Mt := jx_fn 3 3 (bd_Md_isFree fun _ _ => none)
theorem me_Md_isFree : jx_Me 3 z_Md_isFree f_Md_isFree := jx_Me.ofT (by decide) m_Md_isFree
theorem mw_Md_isFree : jx_mw ⟨"ExtentShelfModel", "isFree", "([II)Z"⟩ z_Md_isFree := ⟨rfl, rfl, by decide +kernel, ⟨by decide, by decide⟩, by decide +kernel⟩
theorem pd_Md_isFree : (parseMethodDescriptor (⟨"ExtentShelfModel", "isFree", "([II)Z"⟩ : MethodName).desc).map (fun d => d.parameters.length) = some 2 := by decide +kernel
abbrev tb_Md_isFree : List (Nat × jx_Mt) := [(8, f_Md_isFree)]
theorem ve_Md_isFree {fr lo : Nat} (h1 : 2 ≤ fr) (h2 : 61 ≤ lo) : ∀ q ∈ tb_Md_isFree, jx_ve ⟨"ExtentShelfModel", "isFree", "([II)Z"⟩ 2 fr lo q.1 q.2 := tv_1 ⟨R_Model, F_Model, 13, ⟨"ExtentShelfModel", "isFree", "([II)Z"⟩, z_Md_isFree, rfl, by decide +kernel, mw_Md_isFree, by decide +kernel, me_Md_isFree, Nat.le_trans (by decide) h1, Nat.le_trans (by decide) h2⟩
theorem dc_Md_isFree : jx_dc ⟨"ExtentShelfModel", "isFree", "([II)Z"⟩ := ⟨⟨by decide, by decide⟩, Or.inr ⟨by decide +kernel, prog_11_method_20_code, 3, _, (by decide +kernel : Cond.code ⟨"ExtentShelfModel", "isFree", "([II)Z"⟩ prog_11_method_20_code 3 (some .boolean) ∈ jx_tbl)⟩, "ExtentShelfModel", ⟨"ExtentShelfModel", "isFree", "([II)Z"⟩, ⟨"ExtentShelfModel", "isFree", "([II)Z"⟩, by decide +kernel, rfl⟩
/-! ExtentShelfModel.freeOn([II)I -/
abbrev z_Md_freeOn : jx_Z := ("ExtentShelfModel", "freeOn", prog_11_method_21_code, 5, some .int, 2, 61)
theorem d_Md_freeOn_0 : decode z_Md_freeOn.2.2.1 0 = .ok (.iconst 0, 1) := by decide +kernel
theorem d_Md_freeOn_1 : decode z_Md_freeOn.2.2.1 1 = .ok (.istore_n 3, 1) := by decide +kernel
theorem d_Md_freeOn_2 : decode z_Md_freeOn.2.2.1 2 = .ok (.iconst 0, 1) := by decide +kernel
theorem d_Md_freeOn_3 : decode z_Md_freeOn.2.2.1 3 = .ok (.istore 4, 2) := by decide +kernel
theorem d_Md_freeOn_5 : decode z_Md_freeOn.2.2.1 5 = .ok (.iload 4, 2) := by decide +kernel
theorem d_Md_freeOn_7 : decode z_Md_freeOn.2.2.1 7 = .ok (.aload_n 1, 1) := by decide +kernel
theorem d_Md_freeOn_8 : decode z_Md_freeOn.2.2.1 8 = .ok (.iconst 1, 1) := by decide +kernel
theorem d_Md_freeOn_9 : decode z_Md_freeOn.2.2.1 9 = .ok (.iload_n 2, 1) := by decide +kernel
theorem d_Md_freeOn_10 : decode z_Md_freeOn.2.2.1 10 = .ok (.iadd, 1) := by decide +kernel
theorem d_Md_freeOn_11 : decode z_Md_freeOn.2.2.1 11 = .ok (.iaload, 1) := by decide +kernel
theorem d_Md_freeOn_12 : decode z_Md_freeOn.2.2.1 12 = .ok (.if_icmp .ge 34, 3) := by decide +kernel
theorem d_Md_freeOn_15 : decode z_Md_freeOn.2.2.1 15 = .ok (.aload_n 0, 1) := by decide +kernel
theorem d_Md_freeOn_16 : decode z_Md_freeOn.2.2.1 16 = .ok (.aload_n 1, 1) := by decide +kernel
theorem d_Md_freeOn_17 : decode z_Md_freeOn.2.2.1 17 = .ok (.iconst 1, 1) := by decide +kernel
theorem d_Md_freeOn_18 : decode z_Md_freeOn.2.2.1 18 = .ok (.bipush 8, 2) := by decide +kernel
theorem d_Md_freeOn_20 : decode z_Md_freeOn.2.2.1 20 = .ok (.iload_n 2, 1) := by decide +kernel
theorem d_Md_freeOn_21 : decode z_Md_freeOn.2.2.1 21 = .ok (.imul, 1) := by decide +kernel
theorem d_Md_freeOn_22 : decode z_Md_freeOn.2.2.1 22 = .ok (.iadd, 1) := by decide +kernel
theorem d_Md_freeOn_23 : decode z_Md_freeOn.2.2.1 23 = .ok (.iload 4, 2) := by decide +kernel
theorem d_Md_freeOn_25 : decode z_Md_freeOn.2.2.1 25 = .ok (.iadd, 1) := by decide +kernel
theorem d_Md_freeOn_26 : decode z_Md_freeOn.2.2.1 26 = .ok (.invokevirtual 72, 3) := by decide +kernel
theorem d_Md_freeOn_29 : decode z_Md_freeOn.2.2.1 29 = .ok (.ifCond .eq 9, 3) := by decide +kernel
theorem d_Md_freeOn_32 : decode z_Md_freeOn.2.2.1 32 = .ok (.iload_n 3, 1) := by decide +kernel
theorem d_Md_freeOn_33 : decode z_Md_freeOn.2.2.1 33 = .ok (.iconst 1, 1) := by decide +kernel
theorem d_Md_freeOn_34 : decode z_Md_freeOn.2.2.1 34 = .ok (.iadd, 1) := by decide +kernel
theorem d_Md_freeOn_35 : decode z_Md_freeOn.2.2.1 35 = .ok (.goto 4, 3) := by decide +kernel
theorem d_Md_freeOn_38 : decode z_Md_freeOn.2.2.1 38 = .ok (.iload_n 3, 1) := by decide +kernel
theorem d_Md_freeOn_39 : decode z_Md_freeOn.2.2.1 39 = .ok (.istore_n 3, 1) := by decide +kernel
theorem d_Md_freeOn_40 : decode z_Md_freeOn.2.2.1 40 = .ok (.iinc 4 1, 3) := by decide +kernel
theorem d_Md_freeOn_43 : decode z_Md_freeOn.2.2.1 43 = .ok (.goto (-38), 3) := by decide +kernel
theorem d_Md_freeOn_46 : decode z_Md_freeOn.2.2.1 46 = .ok (.iload_n 3, 1) := by decide +kernel
theorem d_Md_freeOn_47 : decode z_Md_freeOn.2.2.1 47 = .ok (.ireturn, 1) := by decide +kernel
def lc_Md_freeOn_0 : jx_Cx := (cCmp rLt (eI 4) (eLd 0 (eA 1) (eBin oAdd (eInt (nI 1)) (eI 2))))
def lb_Md_freeOn_0 : jx_St := (sSeq (sAsg 0 3 (eIte (cCmp0 rNe (eCl (jx_ev tb_Md_isFree) [(eA 0), (eA 1), (eBin oAdd (eBin oAdd (eInt (nI 1)) (eBin oMul (eInt (nI 8)) (eI 2))) (eI 4))])) (eBin oAdd (eI 3) (eInt (nI 1))) (eI 3))) (sInc 4 (nI 1)))
theorem ml_Md_freeOn_0 : jx_Ts z_Md_freeOn 5 (sWh 64 lc_Md_freeOn_0 lb_Md_freeOn_0) [46] := by
  unfold lc_Md_freeOn_0 lb_Md_freeOn_0
  exact t_wh (EA := [43]) (Fs := [46]) (E := [46]) 64 (s_cmp (s_iload d_Md_freeOn_5) (s_load (s_aload_n d_Md_freeOn_7 rfl) (s_bin (s_iconst d_Md_freeOn_8 (by decide)) (s_iload_n d_Md_freeOn_9 rfl) (s_iadd d_Md_freeOn_10)) (s_iald d_Md_freeOn_11)) (s_icmp_geF (tgt := 46) d_Md_freeOn_12 (by decide))) (by decide) (t_seq (t_asg (s_ite (q4 := 39) (s_cmp0 (s_cl (s_a1 (s_aload_n d_Md_freeOn_15 rfl) (s_a1 (s_aload_n d_Md_freeOn_16 rfl) (s_a1 (s_bin (s_bin (s_iconst d_Md_freeOn_17 (by decide)) (s_bin (s_bipush d_Md_freeOn_18 (by decide)) (s_iload_n d_Md_freeOn_20 rfl) (s_imul d_Md_freeOn_21)) (s_iadd d_Md_freeOn_22)) (s_iload d_Md_freeOn_23) (s_iadd d_Md_freeOn_25)) s_a0))) (s_ecv (ve_Md_isFree (by decide) (by decide)) dc_Md_isFree (by decide) lm_Md_72 pd_Md_isFree d_Md_freeOn_26)) (s_if_eqF (tgt := 38) d_Md_freeOn_29 (by decide))) (s_bin (s_iload_n d_Md_freeOn_32 rfl) (s_iconst d_Md_freeOn_33 (by decide)) (s_iadd d_Md_freeOn_34)) d_Md_freeOn_35 (by decide) (s_iload_n d_Md_freeOn_38 rfl)) (fun v k h => b_istore_n d_Md_freeOn_39 rfl (by decide) h)) (t_iinc d_Md_freeOn_40 (by decide) (by decide))) (al_1 (Or.inr ⟨-38, d_Md_freeOn_43, by decide⟩)) (by decide)
def bd_Md_freeOn : jx_St := (sSeq (sAsg 0 3 (eInt (nI 0))) (sSeq (sSeq (sAsg 0 4 (eInt (nI 0))) (sWh 64 lc_Md_freeOn_0 lb_Md_freeOn_0)) (sRet 0 (eI 3))))
theorem m_Md_freeOn : jx_Ts z_Md_freeOn 0 bd_Md_freeOn [] := by
  unfold bd_Md_freeOn
  exact (t_seq (t_asg (s_iconst d_Md_freeOn_0 (by decide)) (fun v k h => b_istore_n d_Md_freeOn_1 rfl (by decide) h)) (t_seq (t_seq (t_asg (s_iconst d_Md_freeOn_2 (by decide)) (fun v k h => b_istore d_Md_freeOn_3 (by decide) h)) ml_Md_freeOn_0) (t_ret .int (s_iload_n d_Md_freeOn_46 rfl) rfl (by decide) d_Md_freeOn_47)))
def f_Md_freeOn : jx_Mt := jx_fn 3 5 (bd_Md_freeOn fun _ _ => none)
theorem me_Md_freeOn : jx_Me 3 z_Md_freeOn f_Md_freeOn := jx_Me.ofT (by decide) m_Md_freeOn
theorem mw_Md_freeOn : jx_mw ⟨"ExtentShelfModel", "freeOn", "([II)I"⟩ z_Md_freeOn := ⟨rfl, rfl, by decide +kernel, ⟨by decide, by decide⟩, by decide +kernel⟩
theorem pd_Md_freeOn : (parseMethodDescriptor (⟨"ExtentShelfModel", "freeOn", "([II)I"⟩ : MethodName).desc).map (fun d => d.parameters.length) = some 2 := by decide +kernel
/-! ExtentShelfModel.isBeside([IIII)Z -/
abbrev z_Md_isBeside : jx_Z := ("ExtentShelfModel", "isBeside", prog_11_method_22_code, 5, some .boolean, 1, 29)
theorem d_Md_isBeside_0 : decode z_Md_isBeside.2.2.1 0 = .ok (.aload_n 0, 1) := by decide +kernel
theorem d_Md_isBeside_1 : decode z_Md_isBeside.2.2.1 1 = .ok (.iload_n 1, 1) := by decide +kernel
theorem d_Md_isBeside_2 : decode z_Md_isBeside.2.2.1 2 = .ok (.invokestatic 75, 3) := by decide +kernel
theorem d_Md_isBeside_5 : decode z_Md_isBeside.2.2.1 5 = .ok (.istore 4, 2) := by decide +kernel
theorem d_Md_isBeside_7 : decode z_Md_isBeside.2.2.1 7 = .ok (.iload 4, 2) := by decide +kernel
theorem d_Md_isBeside_9 : decode z_Md_isBeside.2.2.1 9 = .ok (.iconst 1, 1) := by decide +kernel
theorem d_Md_isBeside_10 : decode z_Md_isBeside.2.2.1 10 = .ok (.if_icmp .ne 41, 3) := by decide +kernel
theorem d_Md_isBeside_13 : decode z_Md_isBeside.2.2.1 13 = .ok (.iload_n 2, 1) := by decide +kernel
theorem d_Md_isBeside_14 : decode z_Md_isBeside.2.2.1 14 = .ok (.iconst 2, 1) := by decide +kernel
theorem d_Md_isBeside_15 : decode z_Md_isBeside.2.2.1 15 = .ok (.idiv, 1) := by decide +kernel
theorem d_Md_isBeside_16 : decode z_Md_isBeside.2.2.1 16 = .ok (.aload_n 0, 1) := by decide +kernel
theorem d_Md_isBeside_17 : decode z_Md_isBeside.2.2.1 17 = .ok (.iload_n 1, 1) := by decide +kernel
theorem d_Md_isBeside_18 : decode z_Md_isBeside.2.2.1 18 = .ok (.invokestatic 79, 3) := by decide +kernel
theorem d_Md_isBeside_21 : decode z_Md_isBeside.2.2.1 21 = .ok (.idiv, 1) := by decide +kernel
theorem d_Md_isBeside_22 : decode z_Md_isBeside.2.2.1 22 = .ok (.iload_n 3, 1) := by decide +kernel
theorem d_Md_isBeside_23 : decode z_Md_isBeside.2.2.1 23 = .ok (.iconst 2, 1) := by decide +kernel
theorem d_Md_isBeside_24 : decode z_Md_isBeside.2.2.1 24 = .ok (.idiv, 1) := by decide +kernel
theorem d_Md_isBeside_25 : decode z_Md_isBeside.2.2.1 25 = .ok (.aload_n 0, 1) := by decide +kernel
theorem d_Md_isBeside_26 : decode z_Md_isBeside.2.2.1 26 = .ok (.iload_n 1, 1) := by decide +kernel
theorem d_Md_isBeside_27 : decode z_Md_isBeside.2.2.1 27 = .ok (.invokestatic 79, 3) := by decide +kernel
theorem d_Md_isBeside_30 : decode z_Md_isBeside.2.2.1 30 = .ok (.idiv, 1) := by decide +kernel
theorem d_Md_isBeside_31 : decode z_Md_isBeside.2.2.1 31 = .ok (.if_icmp .ne 16, 3) := by decide +kernel
theorem d_Md_isBeside_34 : decode z_Md_isBeside.2.2.1 34 = .ok (.iload_n 2, 1) := by decide +kernel
theorem d_Md_isBeside_35 : decode z_Md_isBeside.2.2.1 35 = .ok (.iconst 2, 1) := by decide +kernel
theorem d_Md_isBeside_36 : decode z_Md_isBeside.2.2.1 36 = .ok (.idiv, 1) := by decide +kernel
theorem d_Md_isBeside_37 : decode z_Md_isBeside.2.2.1 37 = .ok (.iload_n 3, 1) := by decide +kernel
theorem d_Md_isBeside_38 : decode z_Md_isBeside.2.2.1 38 = .ok (.iconst 2, 1) := by decide +kernel
theorem d_Md_isBeside_39 : decode z_Md_isBeside.2.2.1 39 = .ok (.idiv, 1) := by decide +kernel
theorem d_Md_isBeside_40 : decode z_Md_isBeside.2.2.1 40 = .ok (.if_icmp .eq 7, 3) := by decide +kernel
theorem d_Md_isBeside_43 : decode z_Md_isBeside.2.2.1 43 = .ok (.iconst 1, 1) := by decide +kernel
theorem d_Md_isBeside_44 : decode z_Md_isBeside.2.2.1 44 = .ok (.goto 32, 3) := by decide +kernel
theorem d_Md_isBeside_47 : decode z_Md_isBeside.2.2.1 47 = .ok (.iconst 0, 1) := by decide +kernel
theorem d_Md_isBeside_48 : decode z_Md_isBeside.2.2.1 48 = .ok (.goto 28, 3) := by decide +kernel
theorem d_Md_isBeside_51 : decode z_Md_isBeside.2.2.1 51 = .ok (.iload 4, 2) := by decide +kernel
theorem d_Md_isBeside_53 : decode z_Md_isBeside.2.2.1 53 = .ok (.iconst 2, 1) := by decide +kernel
theorem d_Md_isBeside_54 : decode z_Md_isBeside.2.2.1 54 = .ok (.if_icmp .ne 21, 3) := by decide +kernel
theorem d_Md_isBeside_57 : decode z_Md_isBeside.2.2.1 57 = .ok (.iload_n 2, 1) := by decide +kernel
theorem d_Md_isBeside_58 : decode z_Md_isBeside.2.2.1 58 = .ok (.iconst 2, 1) := by decide +kernel
theorem d_Md_isBeside_59 : decode z_Md_isBeside.2.2.1 59 = .ok (.idiv, 1) := by decide +kernel
theorem d_Md_isBeside_60 : decode z_Md_isBeside.2.2.1 60 = .ok (.iload_n 3, 1) := by decide +kernel
theorem d_Md_isBeside_61 : decode z_Md_isBeside.2.2.1 61 = .ok (.iconst 2, 1) := by decide +kernel
theorem d_Md_isBeside_62 : decode z_Md_isBeside.2.2.1 62 = .ok (.idiv, 1) := by decide +kernel
theorem d_Md_isBeside_63 : decode z_Md_isBeside.2.2.1 63 = .ok (.if_icmp .ne 12, 3) := by decide +kernel
theorem d_Md_isBeside_66 : decode z_Md_isBeside.2.2.1 66 = .ok (.iload_n 2, 1) := by decide +kernel
theorem d_Md_isBeside_67 : decode z_Md_isBeside.2.2.1 67 = .ok (.iload_n 3, 1) := by decide +kernel
theorem d_Md_isBeside_68 : decode z_Md_isBeside.2.2.1 68 = .ok (.if_icmp .eq 7, 3) := by decide +kernel
theorem d_Md_isBeside_71 : decode z_Md_isBeside.2.2.1 71 = .ok (.iconst 1, 1) := by decide +kernel
theorem d_Md_isBeside_72 : decode z_Md_isBeside.2.2.1 72 = .ok (.goto 4, 3) := by decide +kernel
theorem d_Md_isBeside_75 : decode z_Md_isBeside.2.2.1 75 = .ok (.iconst 0, 1) := by decide +kernel
theorem d_Md_isBeside_76 : decode z_Md_isBeside.2.2.1 76 = .ok (.ireturn, 1) := by decide +kernel
def bd_Md_isBeside : jx_St := (sSeq (sAsg 0 4 (eCl (jx_ec f_Md_kindOf) [(eA 0), (eI 1)])) (sRet 1 (eIte (cCmp rEq (eI 4) (eInt (nI 1))) (eIte (cAnd (cCmp rEq (eBin oDiv (eBin oDiv (eI 2) (eInt (nI 2))) (eCl (jx_ec f_Md_columnsOf) [(eA 0), (eI 1)])) (eBin oDiv (eBin oDiv (eI 3) (eInt (nI 2))) (eCl (jx_ec f_Md_columnsOf) [(eA 0), (eI 1)]))) (cCmp rNe (eBin oDiv (eI 2) (eInt (nI 2))) (eBin oDiv (eI 3) (eInt (nI 2))))) (eInt (nI 1)) (eInt (nI 0))) (eIte (cAnd (cAnd (cCmp rEq (eI 4) (eInt (nI 2))) (cCmp rEq (eBin oDiv (eI 2) (eInt (nI 2))) (eBin oDiv (eI 3) (eInt (nI 2))))) (cCmp rNe (eI 2) (eI 3))) (eInt (nI 1)) (eInt (nI 0))))))
theorem m_Md_isBeside : jx_Ts z_Md_isBeside 0 bd_Md_isBeside [] := by
  unfold bd_Md_isBeside
  exact (t_seq (t_asg (s_cl (s_a1 (s_aload_n d_Md_isBeside_0 rfl) (s_a1 (s_iload_n d_Md_isBeside_1 rfl) s_a0)) (s_ecs me_Md_kindOf mw_Md_kindOf (by decide) (by decide) (by decide) lm_Md_75 w_st_Md_kindOf w_in_Md pd_Md_kindOf d_Md_isBeside_2)) (fun v k h => b_istore d_Md_isBeside_5 (by decide) h)) (t_ret .boolean (s_iteg (Q := [76]) (s_cmp (s_iload d_Md_isBeside_7) (s_iconst d_Md_isBeside_9 (by decide)) (s_icmp_neF (tgt := 51) d_Md_isBeside_10 (by decide))) (by decide) (al_1 (en_goto (q := 48) (tgt := 76) (en_sub (Q := [48, 76]) (Q' := [48, 76]) (s_iteg (Q := [48, 76]) (s_andg (s_cmp (s_bin (s_bin (s_iload_n d_Md_isBeside_13 rfl) (s_iconst d_Md_isBeside_14 (by decide)) (s_idiv d_Md_isBeside_15)) (s_cl (s_a1 (s_aload_n d_Md_isBeside_16 rfl) (s_a1 (s_iload_n d_Md_isBeside_17 rfl) s_a0)) (s_ecs me_Md_columnsOf mw_Md_columnsOf (by decide) (by decide) (by decide) lm_Md_79 w_st_Md_columnsOf w_in_Md pd_Md_columnsOf d_Md_isBeside_18)) (s_idiv d_Md_isBeside_21)) (s_bin (s_bin (s_iload_n d_Md_isBeside_22 rfl) (s_iconst d_Md_isBeside_23 (by decide)) (s_idiv d_Md_isBeside_24)) (s_cl (s_a1 (s_aload_n d_Md_isBeside_25 rfl) (s_a1 (s_iload_n d_Md_isBeside_26 rfl) s_a0)) (s_ecs me_Md_columnsOf mw_Md_columnsOf (by decide) (by decide) (by decide) lm_Md_79 w_st_Md_columnsOf w_in_Md pd_Md_columnsOf d_Md_isBeside_27)) (s_idiv d_Md_isBeside_30)) (s_icmp_neF (tgt := 47) d_Md_isBeside_31 (by decide))) (by decide) (al_1 (s_cmp (s_bin (s_iload_n d_Md_isBeside_34 rfl) (s_iconst d_Md_isBeside_35 (by decide)) (s_idiv d_Md_isBeside_36)) (s_bin (s_iload_n d_Md_isBeside_37 rfl) (s_iconst d_Md_isBeside_38 (by decide)) (s_idiv d_Md_isBeside_39)) (s_icmp_eqF (tgt := 47) d_Md_isBeside_40 (by decide))))) (by decide) (al_1 (en_goto (q := 44) (tgt := 76) (en_sub (Q := [44]) (Q' := [44, 48, 76]) (s_iconst d_Md_isBeside_43 (by decide)) (by decide)) d_Md_isBeside_44 (by decide) (by decide))) (al_1 (en_sub (Q := [48]) (Q' := [48, 76]) (s_iconst d_Md_isBeside_47 (by decide)) (by decide)))) (by decide)) d_Md_isBeside_48 (by decide) (by decide))) (al_1 (en_sub (Q := [76]) (Q' := [76]) (s_ite (q4 := 76) (s_andg (s_andg (s_cmp (s_iload d_Md_isBeside_51) (s_iconst d_Md_isBeside_53 (by decide)) (s_icmp_neF (tgt := 75) d_Md_isBeside_54 (by decide))) (by decide) (al_1 (s_cmp (s_bin (s_iload_n d_Md_isBeside_57 rfl) (s_iconst d_Md_isBeside_58 (by decide)) (s_idiv d_Md_isBeside_59)) (s_bin (s_iload_n d_Md_isBeside_60 rfl) (s_iconst d_Md_isBeside_61 (by decide)) (s_idiv d_Md_isBeside_62)) (s_icmp_neF (tgt := 75) d_Md_isBeside_63 (by decide))))) (by decide) (al_1 (s_cmp (s_iload_n d_Md_isBeside_66 rfl) (s_iload_n d_Md_isBeside_67 rfl) (s_icmp_eqF (tgt := 75) d_Md_isBeside_68 (by decide))))) (s_iconst d_Md_isBeside_71 (by decide)) d_Md_isBeside_72 (by decide) (s_iconst d_Md_isBeside_75 (by decide))) (by decide)))) rfl (by decide) d_Md_isBeside_76))
def f_Md_isBeside : jx_Mt := jx_fn 4 5 (bd_Md_isBeside fun _ _ => none)
theorem me_Md_isBeside : jx_Me 4 z_Md_isBeside f_Md_isBeside := jx_Me.ofT (by decide) m_Md_isBeside
theorem mw_Md_isBeside : jx_mw ⟨"ExtentShelfModel", "isBeside", "([IIII)Z"⟩ z_Md_isBeside := ⟨rfl, rfl, by decide +kernel, ⟨by decide, by decide⟩, by decide +kernel⟩
theorem pd_Md_isBeside : (parseMethodDescriptor (⟨"ExtentShelfModel", "isBeside", "([IIII)Z"⟩ : MethodName).desc).map (fun d => d.parameters.length) = some 4 := by decide +kernel
/-! ExtentShelfModel.meets([IIII)Z -/
abbrev z_Md_meets : jx_Z := ("ExtentShelfModel", "meets", prog_11_method_23_code, 8, some .boolean, 2, 61)
theorem d_Md_meets_0 : decode z_Md_meets.2.2.1 0 = .ok (.aload_n 0, 1) := by decide +kernel
theorem d_Md_meets_1 : decode z_Md_meets.2.2.1 1 = .ok (.getfield 34, 3) := by decide +kernel
theorem d_Md_meets_4 : decode z_Md_meets.2.2.1 4 = .ok (.ifCond .lt 49, 3) := by decide +kernel
theorem d_Md_meets_7 : decode z_Md_meets.2.2.1 7 = .ok (.aload_n 0, 1) := by decide +kernel
theorem d_Md_meets_8 : decode z_Md_meets.2.2.1 8 = .ok (.getfield 65, 3) := by decide +kernel
theorem d_Md_meets_11 : decode z_Md_meets.2.2.1 11 = .ok (.ifCond .le 42, 3) := by decide +kernel
theorem d_Md_meets_14 : decode z_Md_meets.2.2.1 14 = .ok (.aload_n 0, 1) := by decide +kernel
theorem d_Md_meets_15 : decode z_Md_meets.2.2.1 15 = .ok (.getfield 59, 3) := by decide +kernel
theorem d_Md_meets_18 : decode z_Md_meets.2.2.1 18 = .ok (.iload_n 2, 1) := by decide +kernel
theorem d_Md_meets_19 : decode z_Md_meets.2.2.1 19 = .ok (.if_icmp .ne 34, 3) := by decide +kernel
theorem d_Md_meets_22 : decode z_Md_meets.2.2.1 22 = .ok (.aload_n 0, 1) := by decide +kernel
theorem d_Md_meets_23 : decode z_Md_meets.2.2.1 23 = .ok (.getfield 65, 3) := by decide +kernel
theorem d_Md_meets_26 : decode z_Md_meets.2.2.1 26 = .ok (.iconst 1, 1) := by decide +kernel
theorem d_Md_meets_27 : decode z_Md_meets.2.2.1 27 = .ok (.isub, 1) := by decide +kernel
theorem d_Md_meets_28 : decode z_Md_meets.2.2.1 28 = .ok (.bipush 8, 2) := by decide +kernel
theorem d_Md_meets_30 : decode z_Md_meets.2.2.1 30 = .ok (.idiv, 1) := by decide +kernel
theorem d_Md_meets_31 : decode z_Md_meets.2.2.1 31 = .ok (.iload 4, 2) := by decide +kernel
theorem d_Md_meets_33 : decode z_Md_meets.2.2.1 33 = .ok (.if_icmp .ne 20, 3) := by decide +kernel
theorem d_Md_meets_36 : decode z_Md_meets.2.2.1 36 = .ok (.aload_n 1, 1) := by decide +kernel
theorem d_Md_meets_37 : decode z_Md_meets.2.2.1 37 = .ok (.iload_n 2, 1) := by decide +kernel
theorem d_Md_meets_38 : decode z_Md_meets.2.2.1 38 = .ok (.aload_n 0, 1) := by decide +kernel
theorem d_Md_meets_39 : decode z_Md_meets.2.2.1 39 = .ok (.getfield 62, 3) := by decide +kernel
theorem d_Md_meets_42 : decode z_Md_meets.2.2.1 42 = .ok (.iload_n 3, 1) := by decide +kernel
theorem d_Md_meets_43 : decode z_Md_meets.2.2.1 43 = .ok (.invokestatic 82, 3) := by decide +kernel
theorem d_Md_meets_46 : decode z_Md_meets.2.2.1 46 = .ok (.ifCond .eq 7, 3) := by decide +kernel
theorem d_Md_meets_49 : decode z_Md_meets.2.2.1 49 = .ok (.iconst 1, 1) := by decide +kernel
theorem d_Md_meets_50 : decode z_Md_meets.2.2.1 50 = .ok (.goto 4, 3) := by decide +kernel
theorem d_Md_meets_53 : decode z_Md_meets.2.2.1 53 = .ok (.iconst 0, 1) := by decide +kernel
theorem d_Md_meets_54 : decode z_Md_meets.2.2.1 54 = .ok (.istore 5, 2) := by decide +kernel
theorem d_Md_meets_56 : decode z_Md_meets.2.2.1 56 = .ok (.iconst 0, 1) := by decide +kernel
theorem d_Md_meets_57 : decode z_Md_meets.2.2.1 57 = .ok (.istore 6, 2) := by decide +kernel
theorem d_Md_meets_59 : decode z_Md_meets.2.2.1 59 = .ok (.iload 6, 2) := by decide +kernel
theorem d_Md_meets_61 : decode z_Md_meets.2.2.1 61 = .ok (.iconst 2, 1) := by decide +kernel
theorem d_Md_meets_62 : decode z_Md_meets.2.2.1 62 = .ok (.aload_n 1, 1) := by decide +kernel
theorem d_Md_meets_63 : decode z_Md_meets.2.2.1 63 = .ok (.iload_n 2, 1) := by decide +kernel
theorem d_Md_meets_64 : decode z_Md_meets.2.2.1 64 = .ok (.invokestatic 86, 3) := by decide +kernel
theorem d_Md_meets_67 : decode z_Md_meets.2.2.1 67 = .ok (.imul, 1) := by decide +kernel
theorem d_Md_meets_68 : decode z_Md_meets.2.2.1 68 = .ok (.if_icmp .ge 63, 3) := by decide +kernel
theorem d_Md_meets_71 : decode z_Md_meets.2.2.1 71 = .ok (.aload_n 1, 1) := by decide +kernel
theorem d_Md_meets_72 : decode z_Md_meets.2.2.1 72 = .ok (.bipush 9, 2) := by decide +kernel
theorem d_Md_meets_74 : decode z_Md_meets.2.2.1 74 = .ok (.bipush 10, 2) := by decide +kernel
theorem d_Md_meets_76 : decode z_Md_meets.2.2.1 76 = .ok (.iload_n 2, 1) := by decide +kernel
theorem d_Md_meets_77 : decode z_Md_meets.2.2.1 77 = .ok (.imul, 1) := by decide +kernel
theorem d_Md_meets_78 : decode z_Md_meets.2.2.1 78 = .ok (.iadd, 1) := by decide +kernel
theorem d_Md_meets_79 : decode z_Md_meets.2.2.1 79 = .ok (.iload 6, 2) := by decide +kernel
theorem d_Md_meets_81 : decode z_Md_meets.2.2.1 81 = .ok (.iadd, 1) := by decide +kernel
theorem d_Md_meets_82 : decode z_Md_meets.2.2.1 82 = .ok (.iaload, 1) := by decide +kernel
theorem d_Md_meets_83 : decode z_Md_meets.2.2.1 83 = .ok (.istore 7, 2) := by decide +kernel
theorem d_Md_meets_85 : decode z_Md_meets.2.2.1 85 = .ok (.iload 5, 2) := by decide +kernel
theorem d_Md_meets_87 : decode z_Md_meets.2.2.1 87 = .ok (.ifCond .ne 31, 3) := by decide +kernel
theorem d_Md_meets_90 : decode z_Md_meets.2.2.1 90 = .ok (.aload_n 1, 1) := by decide +kernel
theorem d_Md_meets_91 : decode z_Md_meets.2.2.1 91 = .ok (.iload_n 2, 1) := by decide +kernel
theorem d_Md_meets_92 : decode z_Md_meets.2.2.1 92 = .ok (.iload 6, 2) := by decide +kernel
theorem d_Md_meets_94 : decode z_Md_meets.2.2.1 94 = .ok (.iload_n 3, 1) := by decide +kernel
theorem d_Md_meets_95 : decode z_Md_meets.2.2.1 95 = .ok (.invokestatic 82, 3) := by decide +kernel
theorem d_Md_meets_98 : decode z_Md_meets.2.2.1 98 = .ok (.ifCond .eq 24, 3) := by decide +kernel
theorem d_Md_meets_101 : decode z_Md_meets.2.2.1 101 = .ok (.iload 7, 2) := by decide +kernel
theorem d_Md_meets_103 : decode z_Md_meets.2.2.1 103 = .ok (.ifCond .le 19, 3) := by decide +kernel
theorem d_Md_meets_106 : decode z_Md_meets.2.2.1 106 = .ok (.iload 7, 2) := by decide +kernel
theorem d_Md_meets_108 : decode z_Md_meets.2.2.1 108 = .ok (.iconst 1, 1) := by decide +kernel
theorem d_Md_meets_109 : decode z_Md_meets.2.2.1 109 = .ok (.isub, 1) := by decide +kernel
theorem d_Md_meets_110 : decode z_Md_meets.2.2.1 110 = .ok (.bipush 8, 2) := by decide +kernel
theorem d_Md_meets_112 : decode z_Md_meets.2.2.1 112 = .ok (.idiv, 1) := by decide +kernel
theorem d_Md_meets_113 : decode z_Md_meets.2.2.1 113 = .ok (.iload 4, 2) := by decide +kernel
theorem d_Md_meets_115 : decode z_Md_meets.2.2.1 115 = .ok (.if_icmp .ne 7, 3) := by decide +kernel
theorem d_Md_meets_118 : decode z_Md_meets.2.2.1 118 = .ok (.iconst 1, 1) := by decide +kernel
theorem d_Md_meets_119 : decode z_Md_meets.2.2.1 119 = .ok (.goto 4, 3) := by decide +kernel
theorem d_Md_meets_122 : decode z_Md_meets.2.2.1 122 = .ok (.iconst 0, 1) := by decide +kernel
theorem d_Md_meets_123 : decode z_Md_meets.2.2.1 123 = .ok (.istore 5, 2) := by decide +kernel
theorem d_Md_meets_125 : decode z_Md_meets.2.2.1 125 = .ok (.iinc 6 1, 3) := by decide +kernel
theorem d_Md_meets_128 : decode z_Md_meets.2.2.1 128 = .ok (.goto (-69), 3) := by decide +kernel
theorem d_Md_meets_131 : decode z_Md_meets.2.2.1 131 = .ok (.iload 5, 2) := by decide +kernel
theorem d_Md_meets_133 : decode z_Md_meets.2.2.1 133 = .ok (.ireturn, 1) := by decide +kernel
def lc_Md_meets_0 : jx_Cx := (cCmp rLt (eI 6) (eBin oMul (eInt (nI 2)) (eCl (jx_ec f_Md_elementsOf) [(eA 1), (eI 2)])))
def lb_Md_meets_0 : jx_St := (sSeq (sAsg 0 7 (eLd 0 (eA 1) (eBin oAdd (eBin oAdd (eInt (nI 9)) (eBin oMul (eInt (nI 10)) (eI 2))) (eI 6)))) (sSeq (sAsg 0 5 (eIte (cOr (cCmp0 rNe (eI 5)) (cAnd (cAnd (cCmp0 rNe (eCl (jx_ec f_Md_isBeside) [(eA 1), (eI 2), (eI 6), (eI 3)])) (cCmp0 rGt (eI 7))) (cCmp rEq (eBin oDiv (eBin oSub (eI 7) (eInt (nI 1))) (eInt (nI 8))) (eI 4)))) (eInt (nI 1)) (eInt (nI 0)))) (sInc 6 (nI 1))))
theorem ml_Md_meets_0 : jx_Ts z_Md_meets 59 (sWh 64 lc_Md_meets_0 lb_Md_meets_0) [131] := by
  unfold lc_Md_meets_0 lb_Md_meets_0
  exact t_wh (EA := [128]) (Fs := [131]) (E := [131]) 64 (s_cmp (s_iload d_Md_meets_59) (s_bin (s_iconst d_Md_meets_61 (by decide)) (s_cl (s_a1 (s_aload_n d_Md_meets_62 rfl) (s_a1 (s_iload_n d_Md_meets_63 rfl) s_a0)) (s_ecs me_Md_elementsOf mw_Md_elementsOf (by decide) (by decide) (by decide) lm_Md_86 w_st_Md_elementsOf w_in_Md pd_Md_elementsOf d_Md_meets_64)) (s_imul d_Md_meets_67)) (s_icmp_geF (tgt := 131) d_Md_meets_68 (by decide))) (by decide) (t_seq (t_asg (s_load (s_aload_n d_Md_meets_71 rfl) (s_bin (s_bin (s_bipush d_Md_meets_72 (by decide)) (s_bin (s_bipush d_Md_meets_74 (by decide)) (s_iload_n d_Md_meets_76 rfl) (s_imul d_Md_meets_77)) (s_iadd d_Md_meets_78)) (s_iload d_Md_meets_79) (s_iadd d_Md_meets_81)) (s_iald d_Md_meets_82)) (fun v k h => b_istore d_Md_meets_83 (by decide) h)) (t_seq (t_asg (s_ite (q4 := 123) (s_org (s_cmp0 (s_iload d_Md_meets_85) (s_if_neT (tgt := 118) d_Md_meets_87 (by decide))) (by decide) (al_1 (s_andg (s_andg (s_cmp0 (s_cl (s_a1 (s_aload_n d_Md_meets_90 rfl) (s_a1 (s_iload_n d_Md_meets_91 rfl) (s_a1 (s_iload d_Md_meets_92) (s_a1 (s_iload_n d_Md_meets_94 rfl) s_a0)))) (s_ecs me_Md_isBeside mw_Md_isBeside (by decide) (by decide) (by decide) lm_Md_82 w_st_Md_isBeside w_in_Md pd_Md_isBeside d_Md_meets_95)) (s_if_eqF (tgt := 122) d_Md_meets_98 (by decide))) (by decide) (al_1 (s_cmp0 (s_iload d_Md_meets_101) (s_if_leF (tgt := 122) d_Md_meets_103 (by decide))))) (by decide) (al_1 (s_cmp (s_bin (s_bin (s_iload d_Md_meets_106) (s_iconst d_Md_meets_108 (by decide)) (s_isub d_Md_meets_109)) (s_bipush d_Md_meets_110 (by decide)) (s_idiv d_Md_meets_112)) (s_iload d_Md_meets_113) (s_icmp_neF (tgt := 122) d_Md_meets_115 (by decide))))))) (s_iconst d_Md_meets_118 (by decide)) d_Md_meets_119 (by decide) (s_iconst d_Md_meets_122 (by decide))) (fun v k h => b_istore d_Md_meets_123 (by decide) h)) (t_iinc d_Md_meets_125 (by decide) (by decide)))) (al_1 (Or.inr ⟨-69, d_Md_meets_128, by decide⟩)) (by decide)
def bd_Md_meets : jx_St := (sSeq (sAsg 0 5 (eIte (cAnd (cAnd (cAnd (cAnd (cCmp0 rGe (eGf [8] 8 (eA 0))) (cCmp0 rGt (eGf [8] 11 (eA 0)))) (cCmp rEq (eGf [8] 9 (eA 0)) (eI 2))) (cCmp rEq (eBin oDiv (eBin oSub (eGf [8] 11 (eA 0)) (eInt (nI 1))) (eInt (nI 8))) (eI 4))) (cCmp0 rNe (eCl (jx_ec f_Md_isBeside) [(eA 1), (eI 2), (eGf [8] 10 (eA 0)), (eI 3)]))) (eInt (nI 1)) (eInt (nI 0)))) (sSeq (sSeq (sAsg 0 6 (eInt (nI 0))) (sWh 64 lc_Md_meets_0 lb_Md_meets_0)) (sRet 1 (eI 5))))
theorem m_Md_meets : jx_Ts z_Md_meets 0 bd_Md_meets [] := by
  unfold bd_Md_meets
  exact (t_seq (t_asg (s_ite (q4 := 54) (s_andg (s_andg (s_andg (s_andg (s_cmp0 (s_getf (s_aload_n d_Md_meets_0 rfl) fi_Md_34 d_Md_meets_1) (s_if_ltF (tgt := 53) d_Md_meets_4 (by decide))) (by decide) (al_1 (s_cmp0 (s_getf (s_aload_n d_Md_meets_7 rfl) fi_Md_65 d_Md_meets_8) (s_if_leF (tgt := 53) d_Md_meets_11 (by decide))))) (by decide) (al_1 (s_cmp (s_getf (s_aload_n d_Md_meets_14 rfl) fi_Md_59 d_Md_meets_15) (s_iload_n d_Md_meets_18 rfl) (s_icmp_neF (tgt := 53) d_Md_meets_19 (by decide))))) (by decide) (al_1 (s_cmp (s_bin (s_bin (s_getf (s_aload_n d_Md_meets_22 rfl) fi_Md_65 d_Md_meets_23) (s_iconst d_Md_meets_26 (by decide)) (s_isub d_Md_meets_27)) (s_bipush d_Md_meets_28 (by decide)) (s_idiv d_Md_meets_30)) (s_iload d_Md_meets_31) (s_icmp_neF (tgt := 53) d_Md_meets_33 (by decide))))) (by decide) (al_1 (s_cmp0 (s_cl (s_a1 (s_aload_n d_Md_meets_36 rfl) (s_a1 (s_iload_n d_Md_meets_37 rfl) (s_a1 (s_getf (s_aload_n d_Md_meets_38 rfl) fi_Md_62 d_Md_meets_39) (s_a1 (s_iload_n d_Md_meets_42 rfl) s_a0)))) (s_ecs me_Md_isBeside mw_Md_isBeside (by decide) (by decide) (by decide) lm_Md_82 w_st_Md_isBeside w_in_Md pd_Md_isBeside d_Md_meets_43)) (s_if_eqF (tgt := 53) d_Md_meets_46 (by decide))))) (s_iconst d_Md_meets_49 (by decide)) d_Md_meets_50 (by decide) (s_iconst d_Md_meets_53 (by decide))) (fun v k h => b_istore d_Md_meets_54 (by decide) h)) (t_seq (t_seq (t_asg (s_iconst d_Md_meets_56 (by decide)) (fun v k h => b_istore d_Md_meets_57 (by decide) h)) ml_Md_meets_0) (t_ret .boolean (s_iload d_Md_meets_131) rfl (by decide) d_Md_meets_133)))
def f_Md_meets : jx_Mt := jx_fn 5 8 (bd_Md_meets fun _ _ => none)
theorem me_Md_meets : jx_Me 5 z_Md_meets f_Md_meets := jx_Me.ofT (by decide) m_Md_meets
theorem mw_Md_meets : jx_mw ⟨"ExtentShelfModel", "meets", "([IIII)Z"⟩ z_Md_meets := ⟨rfl, rfl, by decide +kernel, ⟨by decide, by decide⟩, by decide +kernel⟩
theorem pd_Md_meets : (parseMethodDescriptor (⟨"ExtentShelfModel", "meets", "([IIII)Z"⟩ : MethodName).desc).map (fun d => d.parameters.length) = some 4 := by decide +kernel
abbrev tb_Md_meets : List (Nat × jx_Mt) := [(8, f_Md_meets)]
theorem ve_Md_meets {fr lo : Nat} (h1 : 3 ≤ fr) (h2 : 96 ≤ lo) : ∀ q ∈ tb_Md_meets, jx_ve ⟨"ExtentShelfModel", "meets", "([IIII)Z"⟩ 4 fr lo q.1 q.2 := tv_1 ⟨R_Model, F_Model, 13, ⟨"ExtentShelfModel", "meets", "([IIII)Z"⟩, z_Md_meets, rfl, by decide +kernel, mw_Md_meets, by decide +kernel, me_Md_meets, Nat.le_trans (by decide) h1, Nat.le_trans (by decide) h2⟩
theorem dc_Md_meets : jx_dc ⟨"ExtentShelfModel", "meets", "([IIII)Z"⟩ := ⟨⟨by decide, by decide⟩, Or.inr ⟨by decide +kernel, prog_11_method_23_code, 8, _, (by decide +kernel : Cond.code ⟨"ExtentShelfModel", "meets", "([IIII)Z"⟩ prog_11_method_23_code 8 (some .boolean) ∈ jx_tbl)⟩, "ExtentShelfModel", ⟨"ExtentShelfModel", "meets", "([IIII)Z"⟩, ⟨"ExtentShelfModel", "meets", "([IIII)Z"⟩, by decide +kernel, rfl⟩
abbrev tb_Md_freeOn : List (Nat × jx_Mt) := [(8, f_Md_freeOn)]
theorem ve_Md_freeOn {fr lo : Nat} (h1 : 3 ≤ fr) (h2 : 93 ≤ lo) : ∀ q ∈ tb_Md_freeOn, jx_ve ⟨"ExtentShelfModel", "freeOn", "([II)I"⟩ 2 fr lo q.1 q.2 := tv_1 ⟨R_Model, F_Model, 13, ⟨"ExtentShelfModel", "freeOn", "([II)I"⟩, z_Md_freeOn, rfl, by decide +kernel, mw_Md_freeOn, by decide +kernel, me_Md_freeOn, Nat.le_trans (by decide) h1, Nat.le_trans (by decide) h2⟩
theorem dc_Md_freeOn : jx_dc ⟨"ExtentShelfModel", "freeOn", "([II)I"⟩ := ⟨⟨by decide, by decide⟩, Or.inr ⟨by decide +kernel, prog_11_method_21_code, 5, _, (by decide +kernel : Cond.code ⟨"ExtentShelfModel", "freeOn", "([II)I"⟩ prog_11_method_21_code 5 (some .int) ∈ jx_tbl)⟩, "ExtentShelfModel", ⟨"ExtentShelfModel", "freeOn", "([II)I"⟩, ⟨"ExtentShelfModel", "freeOn", "([II)I"⟩, by decide +kernel, rfl⟩
/-! ExtentShelfModel.room([IIII)I -/
abbrev z_Md_room : jx_Z := ("ExtentShelfModel", "room", prog_11_method_24_code, 9, some .int, 3, 96)
theorem d_Md_room_0 : decode z_Md_room.2.2.1 0 = .ok (.iconst (-1), 1) := by decide +kernel
theorem d_Md_room_1 : decode z_Md_room.2.2.1 1 = .ok (.istore 5, 2) := by decide +kernel
theorem d_Md_room_3 : decode z_Md_room.2.2.1 3 = .ok (.iconst 0, 1) := by decide +kernel
theorem d_Md_room_4 : decode z_Md_room.2.2.1 4 = .ok (.istore 6, 2) := by decide +kernel
theorem d_Md_room_6 : decode z_Md_room.2.2.1 6 = .ok (.iconst 3, 1) := by decide +kernel
theorem d_Md_room_7 : decode z_Md_room.2.2.1 7 = .ok (.istore 7, 2) := by decide +kernel
theorem d_Md_room_9 : decode z_Md_room.2.2.1 9 = .ok (.iload 7, 2) := by decide +kernel
theorem d_Md_room_11 : decode z_Md_room.2.2.1 11 = .ok (.ifCond .lt 88, 3) := by decide +kernel
theorem d_Md_room_14 : decode z_Md_room.2.2.1 14 = .ok (.iload 7, 2) := by decide +kernel
theorem d_Md_room_16 : decode z_Md_room.2.2.1 16 = .ok (.iload 4, 2) := by decide +kernel
theorem d_Md_room_18 : decode z_Md_room.2.2.1 18 = .ok (.if_icmp .eq 25, 3) := by decide +kernel
theorem d_Md_room_21 : decode z_Md_room.2.2.1 21 = .ok (.aload_n 0, 1) := by decide +kernel
theorem d_Md_room_22 : decode z_Md_room.2.2.1 22 = .ok (.getfield 7, 3) := by decide +kernel
theorem d_Md_room_25 : decode z_Md_room.2.2.1 25 = .ok (.iload 7, 2) := by decide +kernel
theorem d_Md_room_27 : decode z_Md_room.2.2.1 27 = .ok (.baload, 1) := by decide +kernel
theorem d_Md_room_28 : decode z_Md_room.2.2.1 28 = .ok (.ifCond .eq 15, 3) := by decide +kernel
theorem d_Md_room_31 : decode z_Md_room.2.2.1 31 = .ok (.aload_n 0, 1) := by decide +kernel
theorem d_Md_room_32 : decode z_Md_room.2.2.1 32 = .ok (.aload_n 1, 1) := by decide +kernel
theorem d_Md_room_33 : decode z_Md_room.2.2.1 33 = .ok (.iload_n 2, 1) := by decide +kernel
theorem d_Md_room_34 : decode z_Md_room.2.2.1 34 = .ok (.iload_n 3, 1) := by decide +kernel
theorem d_Md_room_35 : decode z_Md_room.2.2.1 35 = .ok (.iload 7, 2) := by decide +kernel
theorem d_Md_room_37 : decode z_Md_room.2.2.1 37 = .ok (.invokevirtual 89, 3) := by decide +kernel
theorem d_Md_room_40 : decode z_Md_room.2.2.1 40 = .ok (.ifCond .eq 7, 3) := by decide +kernel
theorem d_Md_room_43 : decode z_Md_room.2.2.1 43 = .ok (.iconst 0, 1) := by decide +kernel
theorem d_Md_room_44 : decode z_Md_room.2.2.1 44 = .ok (.goto 10, 3) := by decide +kernel
theorem d_Md_room_47 : decode z_Md_room.2.2.1 47 = .ok (.aload_n 0, 1) := by decide +kernel
theorem d_Md_room_48 : decode z_Md_room.2.2.1 48 = .ok (.aload_n 1, 1) := by decide +kernel
theorem d_Md_room_49 : decode z_Md_room.2.2.1 49 = .ok (.iload 7, 2) := by decide +kernel
theorem d_Md_room_51 : decode z_Md_room.2.2.1 51 = .ok (.invokevirtual 92, 3) := by decide +kernel
theorem d_Md_room_54 : decode z_Md_room.2.2.1 54 = .ok (.istore 8, 2) := by decide +kernel
theorem d_Md_room_56 : decode z_Md_room.2.2.1 56 = .ok (.iload 8, 2) := by decide +kernel
theorem d_Md_room_58 : decode z_Md_room.2.2.1 58 = .ok (.ifCond .le 15, 3) := by decide +kernel
theorem d_Md_room_61 : decode z_Md_room.2.2.1 61 = .ok (.iload 8, 2) := by decide +kernel
theorem d_Md_room_63 : decode z_Md_room.2.2.1 63 = .ok (.iload 6, 2) := by decide +kernel
theorem d_Md_room_65 : decode z_Md_room.2.2.1 65 = .ok (.if_icmp .lt 8, 3) := by decide +kernel
theorem d_Md_room_68 : decode z_Md_room.2.2.1 68 = .ok (.iload 7, 2) := by decide +kernel
theorem d_Md_room_70 : decode z_Md_room.2.2.1 70 = .ok (.goto 5, 3) := by decide +kernel
theorem d_Md_room_73 : decode z_Md_room.2.2.1 73 = .ok (.iload 5, 2) := by decide +kernel
theorem d_Md_room_75 : decode z_Md_room.2.2.1 75 = .ok (.istore 5, 2) := by decide +kernel
theorem d_Md_room_77 : decode z_Md_room.2.2.1 77 = .ok (.iload 8, 2) := by decide +kernel
theorem d_Md_room_79 : decode z_Md_room.2.2.1 79 = .ok (.iload 6, 2) := by decide +kernel
theorem d_Md_room_81 : decode z_Md_room.2.2.1 81 = .ok (.if_icmp .le 8, 3) := by decide +kernel
theorem d_Md_room_84 : decode z_Md_room.2.2.1 84 = .ok (.iload 8, 2) := by decide +kernel
theorem d_Md_room_86 : decode z_Md_room.2.2.1 86 = .ok (.goto 5, 3) := by decide +kernel
theorem d_Md_room_89 : decode z_Md_room.2.2.1 89 = .ok (.iload 6, 2) := by decide +kernel
theorem d_Md_room_91 : decode z_Md_room.2.2.1 91 = .ok (.istore 6, 2) := by decide +kernel
theorem d_Md_room_93 : decode z_Md_room.2.2.1 93 = .ok (.iinc 7 (-1), 3) := by decide +kernel
theorem d_Md_room_96 : decode z_Md_room.2.2.1 96 = .ok (.goto (-87), 3) := by decide +kernel
theorem d_Md_room_99 : decode z_Md_room.2.2.1 99 = .ok (.iload 5, 2) := by decide +kernel
theorem d_Md_room_101 : decode z_Md_room.2.2.1 101 = .ok (.ifCond .ge 5, 3) := by decide +kernel
theorem d_Md_room_104 : decode z_Md_room.2.2.1 104 = .ok (.iconst 0, 1) := by decide +kernel
theorem d_Md_room_105 : decode z_Md_room.2.2.1 105 = .ok (.ireturn, 1) := by decide +kernel
theorem d_Md_room_106 : decode z_Md_room.2.2.1 106 = .ok (.iconst 0, 1) := by decide +kernel
theorem d_Md_room_107 : decode z_Md_room.2.2.1 107 = .ok (.istore 7, 2) := by decide +kernel
theorem d_Md_room_109 : decode z_Md_room.2.2.1 109 = .ok (.iload 7, 2) := by decide +kernel
theorem d_Md_room_111 : decode z_Md_room.2.2.1 111 = .ok (.bipush 8, 2) := by decide +kernel
theorem d_Md_room_113 : decode z_Md_room.2.2.1 113 = .ok (.if_icmp .ge 38, 3) := by decide +kernel
theorem d_Md_room_116 : decode z_Md_room.2.2.1 116 = .ok (.aload_n 0, 1) := by decide +kernel
theorem d_Md_room_117 : decode z_Md_room.2.2.1 117 = .ok (.aload_n 1, 1) := by decide +kernel
theorem d_Md_room_118 : decode z_Md_room.2.2.1 118 = .ok (.iconst 1, 1) := by decide +kernel
theorem d_Md_room_119 : decode z_Md_room.2.2.1 119 = .ok (.bipush 8, 2) := by decide +kernel
theorem d_Md_room_121 : decode z_Md_room.2.2.1 121 = .ok (.iload 5, 2) := by decide +kernel
theorem d_Md_room_123 : decode z_Md_room.2.2.1 123 = .ok (.imul, 1) := by decide +kernel
theorem d_Md_room_124 : decode z_Md_room.2.2.1 124 = .ok (.iadd, 1) := by decide +kernel
theorem d_Md_room_125 : decode z_Md_room.2.2.1 125 = .ok (.iload 7, 2) := by decide +kernel
theorem d_Md_room_127 : decode z_Md_room.2.2.1 127 = .ok (.iadd, 1) := by decide +kernel
theorem d_Md_room_128 : decode z_Md_room.2.2.1 128 = .ok (.invokevirtual 72, 3) := by decide +kernel
theorem d_Md_room_131 : decode z_Md_room.2.2.1 131 = .ok (.ifCond .eq 14, 3) := by decide +kernel
theorem d_Md_room_134 : decode z_Md_room.2.2.1 134 = .ok (.iconst 1, 1) := by decide +kernel
theorem d_Md_room_135 : decode z_Md_room.2.2.1 135 = .ok (.bipush 8, 2) := by decide +kernel
theorem d_Md_room_137 : decode z_Md_room.2.2.1 137 = .ok (.iload 5, 2) := by decide +kernel
theorem d_Md_room_139 : decode z_Md_room.2.2.1 139 = .ok (.imul, 1) := by decide +kernel
theorem d_Md_room_140 : decode z_Md_room.2.2.1 140 = .ok (.iadd, 1) := by decide +kernel
theorem d_Md_room_141 : decode z_Md_room.2.2.1 141 = .ok (.iload 7, 2) := by decide +kernel
theorem d_Md_room_143 : decode z_Md_room.2.2.1 143 = .ok (.iadd, 1) := by decide +kernel
theorem d_Md_room_144 : decode z_Md_room.2.2.1 144 = .ok (.ireturn, 1) := by decide +kernel
theorem d_Md_room_145 : decode z_Md_room.2.2.1 145 = .ok (.iinc 7 1, 3) := by decide +kernel
theorem d_Md_room_148 : decode z_Md_room.2.2.1 148 = .ok (.goto (-39), 3) := by decide +kernel
theorem d_Md_room_151 : decode z_Md_room.2.2.1 151 = .ok (.iconst 0, 1) := by decide +kernel
theorem d_Md_room_152 : decode z_Md_room.2.2.1 152 = .ok (.ireturn, 1) := by decide +kernel
def lc_Md_room_0 : jx_Cx := (cCmp0 rGe (eI 7))
def lb_Md_room_0 : jx_St := (sSeq (sAsg 0 8 (eIte (cOr (cOr (cCmp rEq (eI 7) (eI 4)) (cNot (cCmp0 rNe (eLd 2 (eGf [8] 1 (eA 0)) (eI 7))))) (cCmp0 rNe (eCl (jx_ev tb_Md_meets) [(eA 0), (eA 1), (eI 2), (eI 3), (eI 7)]))) (eInt (nI 0)) (eCl (jx_ev tb_Md_freeOn) [(eA 0), (eA 1), (eI 7)]))) (sSeq (sAsg 0 5 (eIte (cAnd (cCmp0 rGt (eI 8)) (cCmp rGe (eI 8) (eI 6))) (eI 7) (eI 5))) (sSeq (sAsg 0 6 (eIte (cCmp rGt (eI 8) (eI 6)) (eI 8) (eI 6))) (sInc 7 (-1)))))
theorem ml_Md_room_0 : jx_Ts z_Md_room 9 (sWh 64 lc_Md_room_0 lb_Md_room_0) [99] := by
  unfold lc_Md_room_0 lb_Md_room_0
  exact t_wh (EA := [96]) (Fs := [99]) (E := [99]) 64 (s_cmp0 (s_iload d_Md_room_9) (s_if_ltF (tgt := 99) d_Md_room_11 (by decide))) (by decide) (t_seq (t_asg (s_ite (q4 := 54) (s_org (s_org (s_cmp (s_iload d_Md_room_14) (s_iload d_Md_room_16) (s_icmp_eqT (tgt := 43) d_Md_room_18 (by decide))) (by decide) (al_1 (s_not (s_cmp0 (s_load (s_getf (s_aload_n d_Md_room_21 rfl) fi_Md_7 d_Md_room_22) (s_iload d_Md_room_25) (s_zald d_Md_room_27)) (s_if_eqF (tgt := 43) d_Md_room_28 (by decide))) (by decide)))) (by decide) (al_1 (s_cmp0 (s_cl (s_a1 (s_aload_n d_Md_room_31 rfl) (s_a1 (s_aload_n d_Md_room_32 rfl) (s_a1 (s_iload_n d_Md_room_33 rfl) (s_a1 (s_iload_n d_Md_room_34 rfl) (s_a1 (s_iload d_Md_room_35) s_a0))))) (s_ecv (ve_Md_meets (by decide) (by decide)) dc_Md_meets (by decide) lm_Md_89 pd_Md_meets d_Md_room_37)) (s_if_eqF (tgt := 47) d_Md_room_40 (by decide))))) (s_iconst d_Md_room_43 (by decide)) d_Md_room_44 (by decide) (s_cl (s_a1 (s_aload_n d_Md_room_47 rfl) (s_a1 (s_aload_n d_Md_room_48 rfl) (s_a1 (s_iload d_Md_room_49) s_a0))) (s_ecv (ve_Md_freeOn (by decide) (by decide)) dc_Md_freeOn (by decide) lm_Md_92 pd_Md_freeOn d_Md_room_51))) (fun v k h => b_istore d_Md_room_54 (by decide) h)) (t_seq (t_asg (s_ite (q4 := 75) (s_andg (s_cmp0 (s_iload d_Md_room_56) (s_if_leF (tgt := 73) d_Md_room_58 (by decide))) (by decide) (al_1 (s_cmp (s_iload d_Md_room_61) (s_iload d_Md_room_63) (s_icmp_ltF (tgt := 73) d_Md_room_65 (by decide))))) (s_iload d_Md_room_68) d_Md_room_70 (by decide) (s_iload d_Md_room_73)) (fun v k h => b_istore d_Md_room_75 (by decide) h)) (t_seq (t_asg (s_ite (q4 := 91) (s_cmp (s_iload d_Md_room_77) (s_iload d_Md_room_79) (s_icmp_leF (tgt := 89) d_Md_room_81 (by decide))) (s_iload d_Md_room_84) d_Md_room_86 (by decide) (s_iload d_Md_room_89)) (fun v k h => b_istore d_Md_room_91 (by decide) h)) (t_iinc d_Md_room_93 (by decide) (by decide))))) (al_1 (Or.inr ⟨-87, d_Md_room_96, by decide⟩)) (by decide)
def lc_Md_room_1 : jx_Cx := (cCmp rLt (eI 7) (eInt (nI 8)))
def lb_Md_room_1 : jx_St := (sSeq (sIf (cCmp0 rNe (eCl (jx_ev tb_Md_isFree) [(eA 0), (eA 1), (eBin oAdd (eBin oAdd (eInt (nI 1)) (eBin oMul (eInt (nI 8)) (eI 5))) (eI 7))])) (sRet 0 (eBin oAdd (eBin oAdd (eInt (nI 1)) (eBin oMul (eInt (nI 8)) (eI 5))) (eI 7))) sSkip) (sInc 7 (nI 1)))
theorem ml_Md_room_1 : jx_Ts z_Md_room 109 (sWh 64 lc_Md_room_1 lb_Md_room_1) [151] := by
  unfold lc_Md_room_1 lb_Md_room_1
  exact t_wh (EA := [148]) (Fs := [151]) (E := [151]) 64 (s_cmp (s_iload d_Md_room_109) (s_bipush d_Md_room_111 (by decide)) (s_icmp_geF (tgt := 151) d_Md_room_113 (by decide))) (by decide) (t_seq (t_if1 (Fs := [145]) (E := [145]) (s_cmp0 (s_cl (s_a1 (s_aload_n d_Md_room_116 rfl) (s_a1 (s_aload_n d_Md_room_117 rfl) (s_a1 (s_bin (s_bin (s_iconst d_Md_room_118 (by decide)) (s_bin (s_bipush d_Md_room_119 (by decide)) (s_iload d_Md_room_121) (s_imul d_Md_room_123)) (s_iadd d_Md_room_124)) (s_iload d_Md_room_125) (s_iadd d_Md_room_127)) s_a0))) (s_ecv (ve_Md_isFree (by decide) (by decide)) dc_Md_isFree (by decide) lm_Md_72 pd_Md_isFree d_Md_room_128)) (s_if_eqF (tgt := 145) d_Md_room_131 (by decide))) (by decide) (t_sub (E := []) (E' := [145]) (t_ret .int (s_bin (s_bin (s_iconst d_Md_room_134 (by decide)) (s_bin (s_bipush d_Md_room_135 (by decide)) (s_iload d_Md_room_137) (s_imul d_Md_room_139)) (s_iadd d_Md_room_140)) (s_iload d_Md_room_141) (s_iadd d_Md_room_143)) rfl (by decide) d_Md_room_144) (by decide)) (by decide)) (t_iinc d_Md_room_145 (by decide) (by decide))) (al_1 (Or.inr ⟨-39, d_Md_room_148, by decide⟩)) (by decide)
def bd_Md_room : jx_St := (sSeq (sAsg 0 5 (eInt (-1))) (sSeq (sAsg 0 6 (eInt (nI 0))) (sSeq (sSeq (sAsg 0 7 (eInt (nI 3))) (sWh 64 lc_Md_room_0 lb_Md_room_0)) (sSeq (sIf (cCmp0 rLt (eI 5)) (sRet 0 (eInt (nI 0))) sSkip) (sSeq (sSeq (sAsg 0 7 (eInt (nI 0))) (sWh 64 lc_Md_room_1 lb_Md_room_1)) (sRet 0 (eInt (nI 0))))))))
theorem m_Md_room : jx_Ts z_Md_room 0 bd_Md_room [] := by
  unfold bd_Md_room
  exact (t_seq (t_asg (s_iconst d_Md_room_0 (by decide)) (fun v k h => b_istore d_Md_room_1 (by decide) h)) (t_seq (t_asg (s_iconst d_Md_room_3 (by decide)) (fun v k h => b_istore d_Md_room_4 (by decide) h)) (t_seq (t_seq (t_asg (s_iconst d_Md_room_6 (by decide)) (fun v k h => b_istore d_Md_room_7 (by decide) h)) ml_Md_room_0) (t_seq (t_if1 (Fs := [106]) (E := [106]) (s_cmp0 (s_iload d_Md_room_99) (s_if_geF (tgt := 106) d_Md_room_101 (by decide))) (by decide) (t_sub (E := []) (E' := [106]) (t_ret .int (s_iconst d_Md_room_104 (by decide)) rfl (by decide) d_Md_room_105) (by decide)) (by decide)) (t_seq (t_seq (t_asg (s_iconst d_Md_room_106 (by decide)) (fun v k h => b_istore d_Md_room_107 (by decide) h)) ml_Md_room_1) (t_ret .int (s_iconst d_Md_room_151 (by decide)) rfl (by decide) d_Md_room_152))))))
def f_Md_room : jx_Mt := jx_fn 5 9 (bd_Md_room fun _ _ => none)
theorem me_Md_room : jx_Me 5 z_Md_room f_Md_room := jx_Me.ofT (by decide) m_Md_room
theorem mw_Md_room : jx_mw ⟨"ExtentShelfModel", "room", "([IIII)I"⟩ z_Md_room := ⟨rfl, rfl, by decide +kernel, ⟨by decide, by decide⟩, by decide +kernel⟩
theorem pd_Md_room : (parseMethodDescriptor (⟨"ExtentShelfModel", "room", "([IIII)I"⟩ : MethodName).desc).map (fun d => d.parameters.length) = some 4 := by decide +kernel
abbrev tb_Md_room : List (Nat × jx_Mt) := [(8, f_Md_room)]
theorem ve_Md_room {fr lo : Nat} (h1 : 4 ≤ fr) (h2 : 132 ≤ lo) : ∀ q ∈ tb_Md_room, jx_ve ⟨"ExtentShelfModel", "room", "([IIII)I"⟩ 4 fr lo q.1 q.2 := tv_1 ⟨R_Model, F_Model, 13, ⟨"ExtentShelfModel", "room", "([IIII)I"⟩, z_Md_room, rfl, by decide +kernel, mw_Md_room, by decide +kernel, me_Md_room, Nat.le_trans (by decide) h1, Nat.le_trans (by decide) h2⟩
theorem dc_Md_room : jx_dc ⟨"ExtentShelfModel", "room", "([IIII)I"⟩ := ⟨⟨by decide, by decide⟩, Or.inr ⟨by decide +kernel, prog_11_method_24_code, 9, _, (by decide +kernel : Cond.code ⟨"ExtentShelfModel", "room", "([IIII)I"⟩ prog_11_method_24_code 9 (some .int) ∈ jx_tbl)⟩, "ExtentShelfModel", ⟨"ExtentShelfModel", "room", "([IIII)I"⟩, ⟨"ExtentShelfModel", "room", "([IIII)I"⟩, by decide +kernel, rfl⟩
/-! ExtentShelfModel.find(II)Z -/
abbrev z_Md_find : jx_Z := ("ExtentShelfModel", "find", prog_11_method_25_code, 5, some .boolean, 4, 132)
theorem d_Md_find_0 : decode z_Md_find.2.2.1 0 = .ok (.aload_n 0, 1) := by decide +kernel
theorem d_Md_find_1 : decode z_Md_find.2.2.1 1 = .ok (.getfield 31, 3) := by decide +kernel
theorem d_Md_find_4 : decode z_Md_find.2.2.1 4 = .ok (.iload_n 1, 1) := by decide +kernel
theorem d_Md_find_5 : decode z_Md_find.2.2.1 5 = .ok (.invokestatic 86, 3) := by decide +kernel
theorem d_Md_find_8 : decode z_Md_find.2.2.1 8 = .ok (.istore_n 3, 1) := by decide +kernel
theorem d_Md_find_9 : decode z_Md_find.2.2.1 9 = .ok (.iconst 2, 1) := by decide +kernel
theorem d_Md_find_10 : decode z_Md_find.2.2.1 10 = .ok (.iload_n 2, 1) := by decide +kernel
theorem d_Md_find_11 : decode z_Md_find.2.2.1 11 = .ok (.imul, 1) := by decide +kernel
theorem d_Md_find_12 : decode z_Md_find.2.2.1 12 = .ok (.istore 4, 2) := by decide +kernel
theorem d_Md_find_14 : decode z_Md_find.2.2.1 14 = .ok (.iload 4, 2) := by decide +kernel
theorem d_Md_find_16 : decode z_Md_find.2.2.1 16 = .ok (.iconst 2, 1) := by decide +kernel
theorem d_Md_find_17 : decode z_Md_find.2.2.1 17 = .ok (.iload_n 3, 1) := by decide +kernel
theorem d_Md_find_18 : decode z_Md_find.2.2.1 18 = .ok (.imul, 1) := by decide +kernel
theorem d_Md_find_19 : decode z_Md_find.2.2.1 19 = .ok (.if_icmp .ge 75, 3) := by decide +kernel
theorem d_Md_find_22 : decode z_Md_find.2.2.1 22 = .ok (.iload 4, 2) := by decide +kernel
theorem d_Md_find_24 : decode z_Md_find.2.2.1 24 = .ok (.iconst 2, 1) := by decide +kernel
theorem d_Md_find_25 : decode z_Md_find.2.2.1 25 = .ok (.irem, 1) := by decide +kernel
theorem d_Md_find_26 : decode z_Md_find.2.2.1 26 = .ok (.ifCond .eq 15, 3) := by decide +kernel
theorem d_Md_find_29 : decode z_Md_find.2.2.1 29 = .ok (.aload_n 0, 1) := by decide +kernel
theorem d_Md_find_30 : decode z_Md_find.2.2.1 30 = .ok (.getfield 31, 3) := by decide +kernel
theorem d_Md_find_33 : decode z_Md_find.2.2.1 33 = .ok (.iload_n 1, 1) := by decide +kernel
theorem d_Md_find_34 : decode z_Md_find.2.2.1 34 = .ok (.invokestatic 75, 3) := by decide +kernel
theorem d_Md_find_37 : decode z_Md_find.2.2.1 37 = .ok (.iconst 2, 1) := by decide +kernel
theorem d_Md_find_38 : decode z_Md_find.2.2.1 38 = .ok (.if_icmp .ne 50, 3) := by decide +kernel
theorem d_Md_find_41 : decode z_Md_find.2.2.1 41 = .ok (.aload_n 0, 1) := by decide +kernel
theorem d_Md_find_42 : decode z_Md_find.2.2.1 42 = .ok (.getfield 31, 3) := by decide +kernel
theorem d_Md_find_45 : decode z_Md_find.2.2.1 45 = .ok (.bipush 9, 2) := by decide +kernel
theorem d_Md_find_47 : decode z_Md_find.2.2.1 47 = .ok (.bipush 10, 2) := by decide +kernel
theorem d_Md_find_49 : decode z_Md_find.2.2.1 49 = .ok (.iload_n 1, 1) := by decide +kernel
theorem d_Md_find_50 : decode z_Md_find.2.2.1 50 = .ok (.imul, 1) := by decide +kernel
theorem d_Md_find_51 : decode z_Md_find.2.2.1 51 = .ok (.iadd, 1) := by decide +kernel
theorem d_Md_find_52 : decode z_Md_find.2.2.1 52 = .ok (.iload 4, 2) := by decide +kernel
theorem d_Md_find_54 : decode z_Md_find.2.2.1 54 = .ok (.iadd, 1) := by decide +kernel
theorem d_Md_find_55 : decode z_Md_find.2.2.1 55 = .ok (.aload_n 0, 1) := by decide +kernel
theorem d_Md_find_56 : decode z_Md_find.2.2.1 56 = .ok (.aload_n 0, 1) := by decide +kernel
theorem d_Md_find_57 : decode z_Md_find.2.2.1 57 = .ok (.getfield 31, 3) := by decide +kernel
theorem d_Md_find_60 : decode z_Md_find.2.2.1 60 = .ok (.iload_n 1, 1) := by decide +kernel
theorem d_Md_find_61 : decode z_Md_find.2.2.1 61 = .ok (.iload 4, 2) := by decide +kernel
theorem d_Md_find_63 : decode z_Md_find.2.2.1 63 = .ok (.iconst (-1), 1) := by decide +kernel
theorem d_Md_find_64 : decode z_Md_find.2.2.1 64 = .ok (.invokevirtual 95, 3) := by decide +kernel
theorem d_Md_find_67 : decode z_Md_find.2.2.1 67 = .ok (.iastore, 1) := by decide +kernel
theorem d_Md_find_68 : decode z_Md_find.2.2.1 68 = .ok (.aload_n 0, 1) := by decide +kernel
theorem d_Md_find_69 : decode z_Md_find.2.2.1 69 = .ok (.getfield 31, 3) := by decide +kernel
theorem d_Md_find_72 : decode z_Md_find.2.2.1 72 = .ok (.bipush 9, 2) := by decide +kernel
theorem d_Md_find_74 : decode z_Md_find.2.2.1 74 = .ok (.bipush 10, 2) := by decide +kernel
theorem d_Md_find_76 : decode z_Md_find.2.2.1 76 = .ok (.iload_n 1, 1) := by decide +kernel
theorem d_Md_find_77 : decode z_Md_find.2.2.1 77 = .ok (.imul, 1) := by decide +kernel
theorem d_Md_find_78 : decode z_Md_find.2.2.1 78 = .ok (.iadd, 1) := by decide +kernel
theorem d_Md_find_79 : decode z_Md_find.2.2.1 79 = .ok (.iload 4, 2) := by decide +kernel
theorem d_Md_find_81 : decode z_Md_find.2.2.1 81 = .ok (.iadd, 1) := by decide +kernel
theorem d_Md_find_82 : decode z_Md_find.2.2.1 82 = .ok (.iaload, 1) := by decide +kernel
theorem d_Md_find_83 : decode z_Md_find.2.2.1 83 = .ok (.ifCond .ne 5, 3) := by decide +kernel
theorem d_Md_find_86 : decode z_Md_find.2.2.1 86 = .ok (.iconst 0, 1) := by decide +kernel
theorem d_Md_find_87 : decode z_Md_find.2.2.1 87 = .ok (.ireturn, 1) := by decide +kernel
theorem d_Md_find_88 : decode z_Md_find.2.2.1 88 = .ok (.iinc 4 1, 3) := by decide +kernel
theorem d_Md_find_91 : decode z_Md_find.2.2.1 91 = .ok (.goto (-77), 3) := by decide +kernel
theorem d_Md_find_94 : decode z_Md_find.2.2.1 94 = .ok (.iconst 1, 1) := by decide +kernel
theorem d_Md_find_95 : decode z_Md_find.2.2.1 95 = .ok (.ireturn, 1) := by decide +kernel
def lc_Md_find_0 : jx_Cx := (cCmp rLt (eI 4) (eBin oMul (eInt (nI 2)) (eI 3)))
def lb_Md_find_0 : jx_St := (sSeq (sIf (cOr (cCmp0 rEq (eBin oRem (eI 4) (eInt (nI 2)))) (cCmp rEq (eCl (jx_ec f_Md_kindOf) [(eGf [8] 7 (eA 0)), (eI 1)]) (eInt (nI 2)))) (sSeq (sSt 0 0 (eGf [8] 7 (eA 0)) (eBin oAdd (eBin oAdd (eInt (nI 9)) (eBin oMul (eInt (nI 10)) (eI 1))) (eI 4)) (eCl (jx_ev tb_Md_room) [(eA 0), (eGf [8] 7 (eA 0)), (eI 1), (eI 4), (eInt (-1))])) (sIf (cCmp0 rEq (eLd 0 (eGf [8] 7 (eA 0)) (eBin oAdd (eBin oAdd (eInt (nI 9)) (eBin oMul (eInt (nI 10)) (eI 1))) (eI 4)))) (sRet 1 (eInt (nI 0))) sSkip)) sSkip) (sInc 4 (nI 1)))
theorem ml_Md_find_0 : jx_Ts z_Md_find 14 (sWh 64 lc_Md_find_0 lb_Md_find_0) [94] := by
  unfold lc_Md_find_0 lb_Md_find_0
  exact t_wh (EA := [91]) (Fs := [94]) (E := [94]) 64 (s_cmp (s_iload d_Md_find_14) (s_bin (s_iconst d_Md_find_16 (by decide)) (s_iload_n d_Md_find_17 rfl) (s_imul d_Md_find_18)) (s_icmp_geF (tgt := 94) d_Md_find_19 (by decide))) (by decide) (t_seq (t_if1 (Fs := [88]) (E := [88]) (s_org (s_cmp0 (s_bin (s_iload d_Md_find_22) (s_iconst d_Md_find_24 (by decide)) (s_irem d_Md_find_25)) (s_if_eqT (tgt := 41) d_Md_find_26 (by decide))) (by decide) (al_1 (s_cmp (s_cl (s_a1 (s_getf (s_aload_n d_Md_find_29 rfl) fi_Md_31 d_Md_find_30) (s_a1 (s_iload_n d_Md_find_33 rfl) s_a0)) (s_ecs me_Md_kindOf mw_Md_kindOf (by decide) (by decide) (by decide) lm_Md_75 w_st_Md_kindOf w_in_Md pd_Md_kindOf d_Md_find_34)) (s_iconst d_Md_find_37 (by decide)) (s_icmp_neF (tgt := 88) d_Md_find_38 (by decide))))) (by decide) (t_sub (E := [88]) (E' := [88]) (t_seq (t_st (s_getf (s_aload_n d_Md_find_41 rfl) fi_Md_31 d_Md_find_42) (s_bin (s_bin (s_bipush d_Md_find_45 (by decide)) (s_bin (s_bipush d_Md_find_47 (by decide)) (s_iload_n d_Md_find_49 rfl) (s_imul d_Md_find_50)) (s_iadd d_Md_find_51)) (s_iload d_Md_find_52) (s_iadd d_Md_find_54)) (s_cl (s_a1 (s_aload_n d_Md_find_55 rfl) (s_a1 (s_getf (s_aload_n d_Md_find_56 rfl) fi_Md_31 d_Md_find_57) (s_a1 (s_iload_n d_Md_find_60 rfl) (s_a1 (s_iload d_Md_find_61) (s_a1 (s_iconst d_Md_find_63 (by decide)) s_a0))))) (s_ecv (ve_Md_room (by decide) (by decide)) dc_Md_room (by decide) lm_Md_95 pd_Md_room d_Md_find_64)) (s_iast d_Md_find_67)) (t_if1 (Fs := [88]) (E := [88]) (s_cmp0 (s_load (s_getf (s_aload_n d_Md_find_68 rfl) fi_Md_31 d_Md_find_69) (s_bin (s_bin (s_bipush d_Md_find_72 (by decide)) (s_bin (s_bipush d_Md_find_74 (by decide)) (s_iload_n d_Md_find_76 rfl) (s_imul d_Md_find_77)) (s_iadd d_Md_find_78)) (s_iload d_Md_find_79) (s_iadd d_Md_find_81)) (s_iald d_Md_find_82)) (s_if_neF (tgt := 88) d_Md_find_83 (by decide))) (by decide) (t_sub (E := []) (E' := [88]) (t_ret .boolean (s_iconst d_Md_find_86 (by decide)) rfl (by decide) d_Md_find_87) (by decide)) (by decide))) (by decide)) (by decide)) (t_iinc d_Md_find_88 (by decide) (by decide))) (al_1 (Or.inr ⟨-77, d_Md_find_91, by decide⟩)) (by decide)
def bd_Md_find : jx_St := (sSeq (sAsg 0 3 (eCl (jx_ec f_Md_elementsOf) [(eGf [8] 7 (eA 0)), (eI 1)])) (sSeq (sSeq (sAsg 0 4 (eBin oMul (eInt (nI 2)) (eI 2))) (sWh 64 lc_Md_find_0 lb_Md_find_0)) (sRet 1 (eInt (nI 1)))))
theorem m_Md_find : jx_Ts z_Md_find 0 bd_Md_find [] := by
  unfold bd_Md_find
  exact (t_seq (t_asg (s_cl (s_a1 (s_getf (s_aload_n d_Md_find_0 rfl) fi_Md_31 d_Md_find_1) (s_a1 (s_iload_n d_Md_find_4 rfl) s_a0)) (s_ecs me_Md_elementsOf mw_Md_elementsOf (by decide) (by decide) (by decide) lm_Md_86 w_st_Md_elementsOf w_in_Md pd_Md_elementsOf d_Md_find_5)) (fun v k h => b_istore_n d_Md_find_8 rfl (by decide) h)) (t_seq (t_seq (t_asg (s_bin (s_iconst d_Md_find_9 (by decide)) (s_iload_n d_Md_find_10 rfl) (s_imul d_Md_find_11)) (fun v k h => b_istore d_Md_find_12 (by decide) h)) ml_Md_find_0) (t_ret .boolean (s_iconst d_Md_find_94 (by decide)) rfl (by decide) d_Md_find_95)))
def f_Md_find : jx_Mt := jx_fn 3 5 (bd_Md_find fun _ _ => none)
theorem me_Md_find : jx_Me 3 z_Md_find f_Md_find := jx_Me.ofT (by decide) m_Md_find
theorem mw_Md_find : jx_mw ⟨"ExtentShelfModel", "find", "(II)Z"⟩ z_Md_find := ⟨rfl, rfl, by decide +kernel, ⟨by decide, by decide⟩, by decide +kernel⟩
theorem pd_Md_find : (parseMethodDescriptor (⟨"ExtentShelfModel", "find", "(II)Z"⟩ : MethodName).desc).map (fun d => d.parameters.length) = some 2 := by decide +kernel
abbrev tb_Md_put : List (Nat × jx_Mt) := [(8, f_Md_put)]
theorem ve_Md_put {fr lo : Nat} (h1 : 2 ≤ fr) (h2 : 59 ≤ lo) : ∀ q ∈ tb_Md_put, jx_ve ⟨"ExtentShelfModel", "put", "(III)V"⟩ 3 fr lo q.1 q.2 := tv_1 ⟨R_Model, F_Model, 13, ⟨"ExtentShelfModel", "put", "(III)V"⟩, z_Md_put, rfl, by decide +kernel, mw_Md_put, by decide +kernel, me_Md_put, Nat.le_trans (by decide) h1, Nat.le_trans (by decide) h2⟩
theorem dc_Md_put : jx_dc ⟨"ExtentShelfModel", "put", "(III)V"⟩ := ⟨⟨by decide, by decide⟩, Or.inr ⟨by decide +kernel, prog_11_method_5_code, 4, _, (by decide +kernel : Cond.code ⟨"ExtentShelfModel", "put", "(III)V"⟩ prog_11_method_5_code 4 none ∈ jx_tbl)⟩, "ExtentShelfModel", ⟨"ExtentShelfModel", "put", "(III)V"⟩, ⟨"ExtentShelfModel", "put", "(III)V"⟩, by decide +kernel, rfl⟩
/-! ExtentShelfModel.clear(II)V -/
abbrev z_Md_clear : jx_Z := ("ExtentShelfModel", "clear", prog_11_method_26_code, 5, none, 2, 59)
theorem d_Md_clear_0 : decode z_Md_clear.2.2.1 0 = .ok (.iconst 2, 1) := by decide +kernel
theorem d_Md_clear_1 : decode z_Md_clear.2.2.1 1 = .ok (.iload_n 2, 1) := by decide +kernel
theorem d_Md_clear_2 : decode z_Md_clear.2.2.1 2 = .ok (.imul, 1) := by decide +kernel
theorem d_Md_clear_3 : decode z_Md_clear.2.2.1 3 = .ok (.istore_n 3, 1) := by decide +kernel
theorem d_Md_clear_4 : decode z_Md_clear.2.2.1 4 = .ok (.iload_n 3, 1) := by decide +kernel
theorem d_Md_clear_5 : decode z_Md_clear.2.2.1 5 = .ok (.iconst 2, 1) := by decide +kernel
theorem d_Md_clear_6 : decode z_Md_clear.2.2.1 6 = .ok (.aload_n 0, 1) := by decide +kernel
theorem d_Md_clear_7 : decode z_Md_clear.2.2.1 7 = .ok (.getfield 31, 3) := by decide +kernel
theorem d_Md_clear_10 : decode z_Md_clear.2.2.1 10 = .ok (.iload_n 1, 1) := by decide +kernel
theorem d_Md_clear_11 : decode z_Md_clear.2.2.1 11 = .ok (.invokestatic 86, 3) := by decide +kernel
theorem d_Md_clear_14 : decode z_Md_clear.2.2.1 14 = .ok (.imul, 1) := by decide +kernel
theorem d_Md_clear_15 : decode z_Md_clear.2.2.1 15 = .ok (.if_icmp .ge 62, 3) := by decide +kernel
theorem d_Md_clear_18 : decode z_Md_clear.2.2.1 18 = .ok (.iconst 0, 1) := by decide +kernel
theorem d_Md_clear_19 : decode z_Md_clear.2.2.1 19 = .ok (.istore 4, 2) := by decide +kernel
theorem d_Md_clear_21 : decode z_Md_clear.2.2.1 21 = .ok (.iload 4, 2) := by decide +kernel
theorem d_Md_clear_23 : decode z_Md_clear.2.2.1 23 = .ok (.iconst 4, 1) := by decide +kernel
theorem d_Md_clear_24 : decode z_Md_clear.2.2.1 24 = .ok (.if_icmp .ge 47, 3) := by decide +kernel
theorem d_Md_clear_27 : decode z_Md_clear.2.2.1 27 = .ok (.aload_n 0, 1) := by decide +kernel
theorem d_Md_clear_28 : decode z_Md_clear.2.2.1 28 = .ok (.getfield 31, 3) := by decide +kernel
theorem d_Md_clear_31 : decode z_Md_clear.2.2.1 31 = .ok (.bipush 9, 2) := by decide +kernel
theorem d_Md_clear_33 : decode z_Md_clear.2.2.1 33 = .ok (.bipush 10, 2) := by decide +kernel
theorem d_Md_clear_35 : decode z_Md_clear.2.2.1 35 = .ok (.iload_n 1, 1) := by decide +kernel
theorem d_Md_clear_36 : decode z_Md_clear.2.2.1 36 = .ok (.imul, 1) := by decide +kernel
theorem d_Md_clear_37 : decode z_Md_clear.2.2.1 37 = .ok (.iadd, 1) := by decide +kernel
theorem d_Md_clear_38 : decode z_Md_clear.2.2.1 38 = .ok (.iload_n 3, 1) := by decide +kernel
theorem d_Md_clear_39 : decode z_Md_clear.2.2.1 39 = .ok (.iadd, 1) := by decide +kernel
theorem d_Md_clear_40 : decode z_Md_clear.2.2.1 40 = .ok (.iaload, 1) := by decide +kernel
theorem d_Md_clear_41 : decode z_Md_clear.2.2.1 41 = .ok (.ifCond .le 30, 3) := by decide +kernel
theorem d_Md_clear_44 : decode z_Md_clear.2.2.1 44 = .ok (.aload_n 0, 1) := by decide +kernel
theorem d_Md_clear_45 : decode z_Md_clear.2.2.1 45 = .ok (.aload_n 0, 1) := by decide +kernel
theorem d_Md_clear_46 : decode z_Md_clear.2.2.1 46 = .ok (.getfield 31, 3) := by decide +kernel
theorem d_Md_clear_49 : decode z_Md_clear.2.2.1 49 = .ok (.bipush 9, 2) := by decide +kernel
theorem d_Md_clear_51 : decode z_Md_clear.2.2.1 51 = .ok (.bipush 10, 2) := by decide +kernel
theorem d_Md_clear_53 : decode z_Md_clear.2.2.1 53 = .ok (.iload_n 1, 1) := by decide +kernel
theorem d_Md_clear_54 : decode z_Md_clear.2.2.1 54 = .ok (.imul, 1) := by decide +kernel
theorem d_Md_clear_55 : decode z_Md_clear.2.2.1 55 = .ok (.iadd, 1) := by decide +kernel
theorem d_Md_clear_56 : decode z_Md_clear.2.2.1 56 = .ok (.iload_n 3, 1) := by decide +kernel
theorem d_Md_clear_57 : decode z_Md_clear.2.2.1 57 = .ok (.iadd, 1) := by decide +kernel
theorem d_Md_clear_58 : decode z_Md_clear.2.2.1 58 = .ok (.iaload, 1) := by decide +kernel
theorem d_Md_clear_59 : decode z_Md_clear.2.2.1 59 = .ok (.iload 4, 2) := by decide +kernel
theorem d_Md_clear_61 : decode z_Md_clear.2.2.1 61 = .ok (.iconst 0, 1) := by decide +kernel
theorem d_Md_clear_62 : decode z_Md_clear.2.2.1 62 = .ok (.invokevirtual 99, 3) := by decide +kernel
theorem d_Md_clear_65 : decode z_Md_clear.2.2.1 65 = .ok (.iinc 4 1, 3) := by decide +kernel
theorem d_Md_clear_68 : decode z_Md_clear.2.2.1 68 = .ok (.goto (-47), 3) := by decide +kernel
theorem d_Md_clear_71 : decode z_Md_clear.2.2.1 71 = .ok (.iinc 3 1, 3) := by decide +kernel
theorem d_Md_clear_74 : decode z_Md_clear.2.2.1 74 = .ok (.goto (-70), 3) := by decide +kernel
theorem d_Md_clear_77 : decode z_Md_clear.2.2.1 77 = .ok (.return_, 1) := by decide +kernel
def lc_Md_clear_1 : jx_Cx := (cAnd (cCmp rLt (eI 4) (eInt (nI 4))) (cCmp0 rGt (eLd 0 (eGf [8] 7 (eA 0)) (eBin oAdd (eBin oAdd (eInt (nI 9)) (eBin oMul (eInt (nI 10)) (eI 1))) (eI 3)))))
def lb_Md_clear_1 : jx_St := (sSeq (sCl (jx_ev tb_Md_put) [(eA 0), (eLd 0 (eGf [8] 7 (eA 0)) (eBin oAdd (eBin oAdd (eInt (nI 9)) (eBin oMul (eInt (nI 10)) (eI 1))) (eI 3))), (eI 4), (eInt (nI 0))]) (sInc 4 (nI 1)))
theorem ml_Md_clear_1 : jx_Ts z_Md_clear 21 (sWh 64 lc_Md_clear_1 lb_Md_clear_1) [71] := by
  unfold lc_Md_clear_1 lb_Md_clear_1
  exact t_wh (EA := [68]) (Fs := [71]) (E := [71]) 64 (s_andg (s_cmp (s_iload d_Md_clear_21) (s_iconst d_Md_clear_23 (by decide)) (s_icmp_geF (tgt := 71) d_Md_clear_24 (by decide))) (by decide) (al_1 (s_cmp0 (s_load (s_getf (s_aload_n d_Md_clear_27 rfl) fi_Md_31 d_Md_clear_28) (s_bin (s_bin (s_bipush d_Md_clear_31 (by decide)) (s_bin (s_bipush d_Md_clear_33 (by decide)) (s_iload_n d_Md_clear_35 rfl) (s_imul d_Md_clear_36)) (s_iadd d_Md_clear_37)) (s_iload_n d_Md_clear_38 rfl) (s_iadd d_Md_clear_39)) (s_iald d_Md_clear_40)) (s_if_leF (tgt := 71) d_Md_clear_41 (by decide))))) (by decide) (t_seq (t_cl (s_a1 (s_aload_n d_Md_clear_44 rfl) (s_a1 (s_load (s_getf (s_aload_n d_Md_clear_45 rfl) fi_Md_31 d_Md_clear_46) (s_bin (s_bin (s_bipush d_Md_clear_49 (by decide)) (s_bin (s_bipush d_Md_clear_51 (by decide)) (s_iload_n d_Md_clear_53 rfl) (s_imul d_Md_clear_54)) (s_iadd d_Md_clear_55)) (s_iload_n d_Md_clear_56 rfl) (s_iadd d_Md_clear_57)) (s_iald d_Md_clear_58)) (s_a1 (s_iload d_Md_clear_59) (s_a1 (s_iconst d_Md_clear_61 (by decide)) s_a0)))) (s_ecv (ve_Md_put (by decide) (by decide)) dc_Md_put (by decide) lm_Md_99 pd_Md_put d_Md_clear_62)) (t_iinc d_Md_clear_65 (by decide) (by decide))) (al_1 (Or.inr ⟨-47, d_Md_clear_68, by decide⟩)) (by decide)
def lc_Md_clear_0 : jx_Cx := (cCmp rLt (eI 3) (eBin oMul (eInt (nI 2)) (eCl (jx_ec f_Md_elementsOf) [(eGf [8] 7 (eA 0)), (eI 1)])))
def lb_Md_clear_0 : jx_St := (sSeq (sSeq (sAsg 0 4 (eInt (nI 0))) (sWh 64 lc_Md_clear_1 lb_Md_clear_1)) (sInc 3 (nI 1)))
theorem ml_Md_clear_0 : jx_Ts z_Md_clear 4 (sWh 64 lc_Md_clear_0 lb_Md_clear_0) [77] := by
  unfold lc_Md_clear_0 lb_Md_clear_0
  exact t_wh (EA := [74]) (Fs := [77]) (E := [77]) 64 (s_cmp (s_iload_n d_Md_clear_4 rfl) (s_bin (s_iconst d_Md_clear_5 (by decide)) (s_cl (s_a1 (s_getf (s_aload_n d_Md_clear_6 rfl) fi_Md_31 d_Md_clear_7) (s_a1 (s_iload_n d_Md_clear_10 rfl) s_a0)) (s_ecs me_Md_elementsOf mw_Md_elementsOf (by decide) (by decide) (by decide) lm_Md_86 w_st_Md_elementsOf w_in_Md pd_Md_elementsOf d_Md_clear_11)) (s_imul d_Md_clear_14)) (s_icmp_geF (tgt := 77) d_Md_clear_15 (by decide))) (by decide) (t_seq (t_seq (t_asg (s_iconst d_Md_clear_18 (by decide)) (fun v k h => b_istore d_Md_clear_19 (by decide) h)) ml_Md_clear_1) (t_iinc d_Md_clear_71 (by decide) (by decide))) (al_1 (Or.inr ⟨-70, d_Md_clear_74, by decide⟩)) (by decide)
def bd_Md_clear : jx_St := (sSeq (sSeq (sAsg 0 3 (eBin oMul (eInt (nI 2)) (eI 2))) (sWh 64 lc_Md_clear_0 lb_Md_clear_0)) sRetV)
theorem m_Md_clear : jx_Ts z_Md_clear 0 bd_Md_clear [] := by
  unfold bd_Md_clear
  exact (t_seq (t_seq (t_asg (s_bin (s_iconst d_Md_clear_0 (by decide)) (s_iload_n d_Md_clear_1 rfl) (s_imul d_Md_clear_2)) (fun v k h => b_istore_n d_Md_clear_3 rfl (by decide) h)) ml_Md_clear_0) (t_retv rfl d_Md_clear_77))
def f_Md_clear : jx_Mt := jx_fn 3 5 (bd_Md_clear fun _ _ => none)
theorem me_Md_clear : jx_Me 3 z_Md_clear f_Md_clear := jx_Me.ofT (by decide) m_Md_clear
theorem mw_Md_clear : jx_mw ⟨"ExtentShelfModel", "clear", "(II)V"⟩ z_Md_clear := ⟨rfl, rfl, by decide +kernel, ⟨by decide, by decide⟩, by decide +kernel⟩
theorem pd_Md_clear : (parseMethodDescriptor (⟨"ExtentShelfModel", "clear", "(II)V"⟩ : MethodName).desc).map (fun d => d.parameters.length) = some 2 := by decide +kernel
/-! ExtentShelfModel.listed()I -/
abbrev z_Md_listed : jx_Z := ("ExtentShelfModel", "listed", prog_11_method_27_code, 3, some .int, 0, 0)
theorem d_Md_listed_0 : decode z_Md_listed.2.2.1 0 = .ok (.iconst 0, 1) := by decide +kernel
theorem d_Md_listed_1 : decode z_Md_listed.2.2.1 1 = .ok (.istore_n 1, 1) := by decide +kernel
theorem d_Md_listed_2 : decode z_Md_listed.2.2.1 2 = .ok (.iconst 0, 1) := by decide +kernel
theorem d_Md_listed_3 : decode z_Md_listed.2.2.1 3 = .ok (.istore_n 2, 1) := by decide +kernel
theorem d_Md_listed_4 : decode z_Md_listed.2.2.1 4 = .ok (.iload_n 2, 1) := by decide +kernel
theorem d_Md_listed_5 : decode z_Md_listed.2.2.1 5 = .ok (.iconst 4, 1) := by decide +kernel
theorem d_Md_listed_6 : decode z_Md_listed.2.2.1 6 = .ok (.if_icmp .ge 28, 3) := by decide +kernel
theorem d_Md_listed_9 : decode z_Md_listed.2.2.1 9 = .ok (.aload_n 0, 1) := by decide +kernel
theorem d_Md_listed_10 : decode z_Md_listed.2.2.1 10 = .ok (.getfield 28, 3) := by decide +kernel
theorem d_Md_listed_13 : decode z_Md_listed.2.2.1 13 = .ok (.iconst 1, 1) := by decide +kernel
theorem d_Md_listed_14 : decode z_Md_listed.2.2.1 14 = .ok (.iload_n 2, 1) := by decide +kernel
theorem d_Md_listed_15 : decode z_Md_listed.2.2.1 15 = .ok (.iadd, 1) := by decide +kernel
theorem d_Md_listed_16 : decode z_Md_listed.2.2.1 16 = .ok (.iaload, 1) := by decide +kernel
theorem d_Md_listed_17 : decode z_Md_listed.2.2.1 17 = .ok (.ifCond .le 9, 3) := by decide +kernel
theorem d_Md_listed_20 : decode z_Md_listed.2.2.1 20 = .ok (.iload_n 1, 1) := by decide +kernel
theorem d_Md_listed_21 : decode z_Md_listed.2.2.1 21 = .ok (.iconst 1, 1) := by decide +kernel
theorem d_Md_listed_22 : decode z_Md_listed.2.2.1 22 = .ok (.iadd, 1) := by decide +kernel
theorem d_Md_listed_23 : decode z_Md_listed.2.2.1 23 = .ok (.goto 4, 3) := by decide +kernel
theorem d_Md_listed_26 : decode z_Md_listed.2.2.1 26 = .ok (.iload_n 1, 1) := by decide +kernel
theorem d_Md_listed_27 : decode z_Md_listed.2.2.1 27 = .ok (.istore_n 1, 1) := by decide +kernel
theorem d_Md_listed_28 : decode z_Md_listed.2.2.1 28 = .ok (.iinc 2 1, 3) := by decide +kernel
theorem d_Md_listed_31 : decode z_Md_listed.2.2.1 31 = .ok (.goto (-27), 3) := by decide +kernel
theorem d_Md_listed_34 : decode z_Md_listed.2.2.1 34 = .ok (.iload_n 1, 1) := by decide +kernel
theorem d_Md_listed_35 : decode z_Md_listed.2.2.1 35 = .ok (.ireturn, 1) := by decide +kernel
def lc_Md_listed_0 : jx_Cx := (cCmp rLt (eI 2) (eInt (nI 4)))
def lb_Md_listed_0 : jx_St := (sSeq (sAsg 0 1 (eIte (cCmp0 rGt (eLd 0 (eGf [8] 6 (eA 0)) (eBin oAdd (eInt (nI 1)) (eI 2)))) (eBin oAdd (eI 1) (eInt (nI 1))) (eI 1))) (sInc 2 (nI 1)))
theorem ml_Md_listed_0 : jx_Ts z_Md_listed 4 (sWh 64 lc_Md_listed_0 lb_Md_listed_0) [34] := by
  unfold lc_Md_listed_0 lb_Md_listed_0
  exact t_wh (EA := [31]) (Fs := [34]) (E := [34]) 64 (s_cmp (s_iload_n d_Md_listed_4 rfl) (s_iconst d_Md_listed_5 (by decide)) (s_icmp_geF (tgt := 34) d_Md_listed_6 (by decide))) (by decide) (t_seq (t_asg (s_ite (q4 := 27) (s_cmp0 (s_load (s_getf (s_aload_n d_Md_listed_9 rfl) fi_Md_28 d_Md_listed_10) (s_bin (s_iconst d_Md_listed_13 (by decide)) (s_iload_n d_Md_listed_14 rfl) (s_iadd d_Md_listed_15)) (s_iald d_Md_listed_16)) (s_if_leF (tgt := 26) d_Md_listed_17 (by decide))) (s_bin (s_iload_n d_Md_listed_20 rfl) (s_iconst d_Md_listed_21 (by decide)) (s_iadd d_Md_listed_22)) d_Md_listed_23 (by decide) (s_iload_n d_Md_listed_26 rfl)) (fun v k h => b_istore_n d_Md_listed_27 rfl (by decide) h)) (t_iinc d_Md_listed_28 (by decide) (by decide))) (al_1 (Or.inr ⟨-27, d_Md_listed_31, by decide⟩)) (by decide)
def bd_Md_listed : jx_St := (sSeq (sAsg 0 1 (eInt (nI 0))) (sSeq (sSeq (sAsg 0 2 (eInt (nI 0))) (sWh 64 lc_Md_listed_0 lb_Md_listed_0)) (sRet 0 (eI 1))))
theorem m_Md_listed : jx_Ts z_Md_listed 0 bd_Md_listed [] := by
  unfold bd_Md_listed
  exact (t_seq (t_asg (s_iconst d_Md_listed_0 (by decide)) (fun v k h => b_istore_n d_Md_listed_1 rfl (by decide) h)) (t_seq (t_seq (t_asg (s_iconst d_Md_listed_2 (by decide)) (fun v k h => b_istore_n d_Md_listed_3 rfl (by decide) h)) ml_Md_listed_0) (t_ret .int (s_iload_n d_Md_listed_34 rfl) rfl (by decide) d_Md_listed_35)))
def f_Md_listed : jx_Mt := jx_fn 1 3 (bd_Md_listed fun _ _ => none)
theorem me_Md_listed : jx_Me 1 z_Md_listed f_Md_listed := jx_Me.ofT (by decide) m_Md_listed
theorem mw_Md_listed : jx_mw ⟨"ExtentShelfModel", "listed", "()I"⟩ z_Md_listed := ⟨rfl, rfl, by decide +kernel, ⟨by decide, by decide⟩, by decide +kernel⟩
theorem pd_Md_listed : (parseMethodDescriptor (⟨"ExtentShelfModel", "listed", "()I"⟩ : MethodName).desc).map (fun d => d.parameters.length) = some 0 := by decide +kernel
abbrev tb_Md_begin : List (Nat × jx_Mt) := [(8, f_Md_begin)]
theorem ve_Md_begin {fr lo : Nat} (h1 : 1 ≤ fr) (h2 : 29 ≤ lo) : ∀ q ∈ tb_Md_begin, jx_ve ⟨"ExtentShelfModel", "begin", "()V"⟩ 0 fr lo q.1 q.2 := tv_1 ⟨R_Model, F_Model, 13, ⟨"ExtentShelfModel", "begin", "()V"⟩, z_Md_begin, rfl, by decide +kernel, mw_Md_begin, by decide +kernel, me_Md_begin, Nat.le_trans (by decide) h1, Nat.le_trans (by decide) h2⟩
theorem dc_Md_begin : jx_dc ⟨"ExtentShelfModel", "begin", "()V"⟩ := ⟨⟨by decide, by decide⟩, Or.inr ⟨by decide +kernel, prog_11_method_14_code, 2, _, (by decide +kernel : Cond.code ⟨"ExtentShelfModel", "begin", "()V"⟩ prog_11_method_14_code 2 none ∈ jx_tbl)⟩, "ExtentShelfModel", ⟨"ExtentShelfModel", "begin", "()V"⟩, ⟨"ExtentShelfModel", "begin", "()V"⟩, by decide +kernel, rfl⟩
abbrev tb_Md_change : List (Nat × jx_Mt) := [(8, f_Md_change)]
theorem ve_Md_change {fr lo : Nat} (h1 : 4 ≤ fr) (h2 : 126 ≤ lo) : ∀ q ∈ tb_Md_change, jx_ve ⟨"ExtentShelfModel", "change", "()V"⟩ 0 fr lo q.1 q.2 := tv_1 ⟨R_Model, F_Model, 13, ⟨"ExtentShelfModel", "change", "()V"⟩, z_Md_change, rfl, by decide +kernel, mw_Md_change, by decide +kernel, me_Md_change, Nat.le_trans (by decide) h1, Nat.le_trans (by decide) h2⟩
theorem dc_Md_change : jx_dc ⟨"ExtentShelfModel", "change", "()V"⟩ := ⟨⟨by decide, by decide⟩, Or.inr ⟨by decide +kernel, prog_11_method_18_code, 3, _, (by decide +kernel : Cond.code ⟨"ExtentShelfModel", "change", "()V"⟩ prog_11_method_18_code 3 none ∈ jx_tbl)⟩, "ExtentShelfModel", ⟨"ExtentShelfModel", "change", "()V"⟩, ⟨"ExtentShelfModel", "change", "()V"⟩, by decide +kernel, rfl⟩
abbrev tb_Md_ended : List (Nat × jx_Mt) := [(8, f_Md_ended)]
theorem ve_Md_ended {fr lo : Nat} (h1 : 1 ≤ fr) (h2 : 29 ≤ lo) : ∀ q ∈ tb_Md_ended, jx_ve ⟨"ExtentShelfModel", "ended", "(I)I"⟩ 1 fr lo q.1 q.2 := tv_1 ⟨R_Model, F_Model, 13, ⟨"ExtentShelfModel", "ended", "(I)I"⟩, z_Md_ended, rfl, by decide +kernel, mw_Md_ended, by decide +kernel, me_Md_ended, Nat.le_trans (by decide) h1, Nat.le_trans (by decide) h2⟩
theorem dc_Md_ended : jx_dc ⟨"ExtentShelfModel", "ended", "(I)I"⟩ := ⟨⟨by decide, by decide⟩, Or.inr ⟨by decide +kernel, prog_11_method_19_code, 2, _, (by decide +kernel : Cond.code ⟨"ExtentShelfModel", "ended", "(I)I"⟩ prog_11_method_19_code 2 (some .int) ∈ jx_tbl)⟩, "ExtentShelfModel", ⟨"ExtentShelfModel", "ended", "(I)I"⟩, ⟨"ExtentShelfModel", "ended", "(I)I"⟩, by decide +kernel, rfl⟩
/-! ExtentShelfModel.add(II)V -/
abbrev z_Md_add : jx_Z := ("ExtentShelfModel", "add", prog_11_method_28_code, 4, none, 4, 126)
theorem d_Md_add_0 : decode z_Md_add.2.2.1 0 = .ok (.aload_n 0, 1) := by decide +kernel
theorem d_Md_add_1 : decode z_Md_add.2.2.1 1 = .ok (.aload_n 0, 1) := by decide +kernel
theorem d_Md_add_2 : decode z_Md_add.2.2.1 2 = .ok (.getfield 20, 3) := by decide +kernel
theorem d_Md_add_5 : decode z_Md_add.2.2.1 5 = .ok (.ifCond .ne 7, 3) := by decide +kernel
theorem d_Md_add_8 : decode z_Md_add.2.2.1 8 = .ok (.iconst 1, 1) := by decide +kernel
theorem d_Md_add_9 : decode z_Md_add.2.2.1 9 = .ok (.goto 57, 3) := by decide +kernel
theorem d_Md_add_12 : decode z_Md_add.2.2.1 12 = .ok (.iload_n 1, 1) := by decide +kernel
theorem d_Md_add_13 : decode z_Md_add.2.2.1 13 = .ok (.invokestatic 103, 3) := by decide +kernel
theorem d_Md_add_16 : decode z_Md_add.2.2.1 16 = .ok (.ifCond .eq 14, 3) := by decide +kernel
theorem d_Md_add_19 : decode z_Md_add.2.2.1 19 = .ok (.iload_n 2, 1) := by decide +kernel
theorem d_Md_add_20 : decode z_Md_add.2.2.1 20 = .ok (.iconst 2, 1) := by decide +kernel
theorem d_Md_add_21 : decode z_Md_add.2.2.1 21 = .ok (.if_icmp .lt 9, 3) := by decide +kernel
theorem d_Md_add_24 : decode z_Md_add.2.2.1 24 = .ok (.iload_n 2, 1) := by decide +kernel
theorem d_Md_add_25 : decode z_Md_add.2.2.1 25 = .ok (.bipush 8, 2) := by decide +kernel
theorem d_Md_add_27 : decode z_Md_add.2.2.1 27 = .ok (.if_icmp .le 7, 3) := by decide +kernel
theorem d_Md_add_30 : decode z_Md_add.2.2.1 30 = .ok (.iconst 2, 1) := by decide +kernel
theorem d_Md_add_31 : decode z_Md_add.2.2.1 31 = .ok (.goto 35, 3) := by decide +kernel
theorem d_Md_add_34 : decode z_Md_add.2.2.1 34 = .ok (.aload_n 0, 1) := by decide +kernel
theorem d_Md_add_35 : decode z_Md_add.2.2.1 35 = .ok (.getfield 28, 3) := by decide +kernel
theorem d_Md_add_38 : decode z_Md_add.2.2.1 38 = .ok (.iconst 1, 1) := by decide +kernel
theorem d_Md_add_39 : decode z_Md_add.2.2.1 39 = .ok (.iload_n 1, 1) := by decide +kernel
theorem d_Md_add_40 : decode z_Md_add.2.2.1 40 = .ok (.iadd, 1) := by decide +kernel
theorem d_Md_add_41 : decode z_Md_add.2.2.1 41 = .ok (.iaload, 1) := by decide +kernel
theorem d_Md_add_42 : decode z_Md_add.2.2.1 42 = .ok (.ifCond .gt 19, 3) := by decide +kernel
theorem d_Md_add_45 : decode z_Md_add.2.2.1 45 = .ok (.aload_n 0, 1) := by decide +kernel
theorem d_Md_add_46 : decode z_Md_add.2.2.1 46 = .ok (.getfield 7, 3) := by decide +kernel
theorem d_Md_add_49 : decode z_Md_add.2.2.1 49 = .ok (.iload_n 1, 1) := by decide +kernel
theorem d_Md_add_50 : decode z_Md_add.2.2.1 50 = .ok (.baload, 1) := by decide +kernel
theorem d_Md_add_51 : decode z_Md_add.2.2.1 51 = .ok (.ifCond .eq 10, 3) := by decide +kernel
theorem d_Md_add_54 : decode z_Md_add.2.2.1 54 = .ok (.aload_n 0, 1) := by decide +kernel
theorem d_Md_add_55 : decode z_Md_add.2.2.1 55 = .ok (.invokevirtual 52, 3) := by decide +kernel
theorem d_Md_add_58 : decode z_Md_add.2.2.1 58 = .ok (.ifCond .eq 7, 3) := by decide +kernel
theorem d_Md_add_61 : decode z_Md_add.2.2.1 61 = .ok (.iconst 3, 1) := by decide +kernel
theorem d_Md_add_62 : decode z_Md_add.2.2.1 62 = .ok (.goto 4, 3) := by decide +kernel
theorem d_Md_add_65 : decode z_Md_add.2.2.1 65 = .ok (.iconst 0, 1) := by decide +kernel
theorem d_Md_add_66 : decode z_Md_add.2.2.1 66 = .ok (.putfield 37, 3) := by decide +kernel
theorem d_Md_add_69 : decode z_Md_add.2.2.1 69 = .ok (.aload_n 0, 1) := by decide +kernel
theorem d_Md_add_70 : decode z_Md_add.2.2.1 70 = .ok (.getfield 37, 3) := by decide +kernel
theorem d_Md_add_73 : decode z_Md_add.2.2.1 73 = .ok (.ifCond .le 4, 3) := by decide +kernel
theorem d_Md_add_76 : decode z_Md_add.2.2.1 76 = .ok (.return_, 1) := by decide +kernel
theorem d_Md_add_77 : decode z_Md_add.2.2.1 77 = .ok (.iconst 0, 1) := by decide +kernel
theorem d_Md_add_78 : decode z_Md_add.2.2.1 78 = .ok (.istore_n 3, 1) := by decide +kernel
theorem d_Md_add_79 : decode z_Md_add.2.2.1 79 = .ok (.iload_n 3, 1) := by decide +kernel
theorem d_Md_add_80 : decode z_Md_add.2.2.1 80 = .ok (.bipush 32, 2) := by decide +kernel
theorem d_Md_add_82 : decode z_Md_add.2.2.1 82 = .ok (.if_icmp .ge 21, 3) := by decide +kernel
theorem d_Md_add_85 : decode z_Md_add.2.2.1 85 = .ok (.aload_n 0, 1) := by decide +kernel
theorem d_Md_add_86 : decode z_Md_add.2.2.1 86 = .ok (.getfield 17, 3) := by decide +kernel
theorem d_Md_add_89 : decode z_Md_add.2.2.1 89 = .ok (.bipush 32, 2) := by decide +kernel
theorem d_Md_add_91 : decode z_Md_add.2.2.1 91 = .ok (.iload_n 1, 1) := by decide +kernel
theorem d_Md_add_92 : decode z_Md_add.2.2.1 92 = .ok (.imul, 1) := by decide +kernel
theorem d_Md_add_93 : decode z_Md_add.2.2.1 93 = .ok (.iload_n 3, 1) := by decide +kernel
theorem d_Md_add_94 : decode z_Md_add.2.2.1 94 = .ok (.iadd, 1) := by decide +kernel
theorem d_Md_add_95 : decode z_Md_add.2.2.1 95 = .ok (.iconst 0, 1) := by decide +kernel
theorem d_Md_add_96 : decode z_Md_add.2.2.1 96 = .ok (.iastore, 1) := by decide +kernel
theorem d_Md_add_97 : decode z_Md_add.2.2.1 97 = .ok (.iinc 3 1, 3) := by decide +kernel
theorem d_Md_add_100 : decode z_Md_add.2.2.1 100 = .ok (.goto (-21), 3) := by decide +kernel
theorem d_Md_add_103 : decode z_Md_add.2.2.1 103 = .ok (.aload_n 0, 1) := by decide +kernel
theorem d_Md_add_104 : decode z_Md_add.2.2.1 104 = .ok (.invokevirtual 107, 3) := by decide +kernel
theorem d_Md_add_107 : decode z_Md_add.2.2.1 107 = .ok (.aload_n 0, 1) := by decide +kernel
theorem d_Md_add_108 : decode z_Md_add.2.2.1 108 = .ok (.getfield 31, 3) := by decide +kernel
theorem d_Md_add_111 : decode z_Md_add.2.2.1 111 = .ok (.iconst 1, 1) := by decide +kernel
theorem d_Md_add_112 : decode z_Md_add.2.2.1 112 = .ok (.iload_n 1, 1) := by decide +kernel
theorem d_Md_add_113 : decode z_Md_add.2.2.1 113 = .ok (.iadd, 1) := by decide +kernel
theorem d_Md_add_114 : decode z_Md_add.2.2.1 114 = .ok (.iload_n 2, 1) := by decide +kernel
theorem d_Md_add_115 : decode z_Md_add.2.2.1 115 = .ok (.iastore, 1) := by decide +kernel
theorem d_Md_add_116 : decode z_Md_add.2.2.1 116 = .ok (.aload_n 0, 1) := by decide +kernel
theorem d_Md_add_117 : decode z_Md_add.2.2.1 117 = .ok (.invokevirtual 110, 3) := by decide +kernel
theorem d_Md_add_120 : decode z_Md_add.2.2.1 120 = .ok (.aload_n 0, 1) := by decide +kernel
theorem d_Md_add_121 : decode z_Md_add.2.2.1 121 = .ok (.aload_n 0, 1) := by decide +kernel
theorem d_Md_add_122 : decode z_Md_add.2.2.1 122 = .ok (.iconst 0, 1) := by decide +kernel
theorem d_Md_add_123 : decode z_Md_add.2.2.1 123 = .ok (.invokevirtual 113, 3) := by decide +kernel
theorem d_Md_add_126 : decode z_Md_add.2.2.1 126 = .ok (.ifCond .ne 14, 3) := by decide +kernel
theorem d_Md_add_129 : decode z_Md_add.2.2.1 129 = .ok (.aload_n 0, 1) := by decide +kernel
theorem d_Md_add_130 : decode z_Md_add.2.2.1 130 = .ok (.getfield 20, 3) := by decide +kernel
theorem d_Md_add_133 : decode z_Md_add.2.2.1 133 = .ok (.ifCond .eq 7, 3) := by decide +kernel
theorem d_Md_add_136 : decode z_Md_add.2.2.1 136 = .ok (.iconst 0, 1) := by decide +kernel
theorem d_Md_add_137 : decode z_Md_add.2.2.1 137 = .ok (.goto 4, 3) := by decide +kernel
theorem d_Md_add_140 : decode z_Md_add.2.2.1 140 = .ok (.iconst 1, 1) := by decide +kernel
theorem d_Md_add_141 : decode z_Md_add.2.2.1 141 = .ok (.putfield 37, 3) := by decide +kernel
theorem d_Md_add_144 : decode z_Md_add.2.2.1 144 = .ok (.return_, 1) := by decide +kernel
def lc_Md_add_0 : jx_Cx := (cCmp rLt (eI 3) (eInt (nI 32)))
def lb_Md_add_0 : jx_St := (sSeq (sSt 0 0 (eGf [8] 3 (eA 0)) (eBin oAdd (eBin oMul (eInt (nI 32)) (eI 1)) (eI 3)) (eInt (nI 0))) (sInc 3 (nI 1)))
theorem ml_Md_add_0 : jx_Ts z_Md_add 79 (sWh 64 lc_Md_add_0 lb_Md_add_0) [103] := by
  unfold lc_Md_add_0 lb_Md_add_0
  exact t_wh (EA := [100]) (Fs := [103]) (E := [103]) 64 (s_cmp (s_iload_n d_Md_add_79 rfl) (s_bipush d_Md_add_80 (by decide)) (s_icmp_geF (tgt := 103) d_Md_add_82 (by decide))) (by decide) (t_seq (t_st (s_getf (s_aload_n d_Md_add_85 rfl) fi_Md_17 d_Md_add_86) (s_bin (s_bin (s_bipush d_Md_add_89 (by decide)) (s_iload_n d_Md_add_91 rfl) (s_imul d_Md_add_92)) (s_iload_n d_Md_add_93 rfl) (s_iadd d_Md_add_94)) (s_iconst d_Md_add_95 (by decide)) (s_iast d_Md_add_96)) (t_iinc d_Md_add_97 (by decide) (by decide))) (al_1 (Or.inr ⟨-21, d_Md_add_100, by decide⟩)) (by decide)
def bd_Md_add : jx_St := (sSeq (sSeq (sPf [8] 0 0 (eA 0) (eIte (cNot (cCmp0 rNe (eGf [8] 4 (eA 0)))) (eInt (nI 1)) (eIte (cOr (cOr (cNot (cCmp0 rNe (eCl (jx_ec f_Md_isDisk) [(eI 1)]))) (cCmp rLt (eI 2) (eInt (nI 2)))) (cCmp rGt (eI 2) (eInt (nI 8)))) (eInt (nI 2)) (eIte (cOr (cOr (cCmp0 rGt (eLd 0 (eGf [8] 6 (eA 0)) (eBin oAdd (eInt (nI 1)) (eI 1)))) (cNot (cCmp0 rNe (eLd 2 (eGf [8] 1 (eA 0)) (eI 1))))) (cCmp0 rNe (eCl (jx_ev tb_Md_isOneAbsent) [(eA 0)]))) (eInt (nI 3)) (eInt (nI 0)))))) (sSeq (sIf (cCmp0 rGt (eGf [8] 0 (eA 0))) sRetV sSkip) (sSeq (sSeq (sAsg 0 3 (eInt (nI 0))) (sWh 64 lc_Md_add_0 lb_Md_add_0)) (sSeq (sCl (jx_ev tb_Md_begin) [(eA 0)]) (sSeq (sSt 0 0 (eGf [8] 7 (eA 0)) (eBin oAdd (eInt (nI 1)) (eI 1)) (eI 2)) (sSeq (sCl (jx_ev tb_Md_change) [(eA 0)]) (sPf [8] 0 0 (eA 0) (eIte (cAnd (cCmp0 rEq (eCl (jx_ev tb_Md_ended) [(eA 0), (eInt (nI 0))])) (cCmp0 rNe (eGf [8] 4 (eA 0)))) (eInt (nI 0)) (eInt (nI 1)))))))))) sRetV)
theorem m_Md_add : jx_Ts z_Md_add 0 bd_Md_add [] := by
  unfold bd_Md_add
  exact (t_seq (t_seq (t_pf (s_aload_n d_Md_add_0 rfl) (s_ite (q4 := 66) (s_not (s_cmp0 (s_getf (s_aload_n d_Md_add_1 rfl) fi_Md_20 d_Md_add_2) (s_if_neT (tgt := 12) d_Md_add_5 (by decide))) (by decide)) (s_iconst d_Md_add_8 (by decide)) d_Md_add_9 (by decide) (s_ite (q4 := 66) (s_org (s_org (s_not (s_cmp0 (s_cl (s_a1 (s_iload_n d_Md_add_12 rfl) s_a0) (s_ecs me_Md_isDisk mw_Md_isDisk (by decide) (by decide) (by decide) lm_Md_103 w_st_Md_isDisk w_in_Md pd_Md_isDisk d_Md_add_13)) (s_if_eqF (tgt := 30) d_Md_add_16 (by decide))) (by decide)) (by decide) (al_1 (s_cmp (s_iload_n d_Md_add_19 rfl) (s_iconst d_Md_add_20 (by decide)) (s_icmp_ltT (tgt := 30) d_Md_add_21 (by decide))))) (by decide) (al_1 (s_cmp (s_iload_n d_Md_add_24 rfl) (s_bipush d_Md_add_25 (by decide)) (s_icmp_leF (tgt := 34) d_Md_add_27 (by decide))))) (s_iconst d_Md_add_30 (by decide)) d_Md_add_31 (by decide) (s_ite (q4 := 66) (s_org (s_org (s_cmp0 (s_load (s_getf (s_aload_n d_Md_add_34 rfl) fi_Md_28 d_Md_add_35) (s_bin (s_iconst d_Md_add_38 (by decide)) (s_iload_n d_Md_add_39 rfl) (s_iadd d_Md_add_40)) (s_iald d_Md_add_41)) (s_if_gtT (tgt := 61) d_Md_add_42 (by decide))) (by decide) (al_1 (s_not (s_cmp0 (s_load (s_getf (s_aload_n d_Md_add_45 rfl) fi_Md_7 d_Md_add_46) (s_iload_n d_Md_add_49 rfl) (s_zald d_Md_add_50)) (s_if_eqF (tgt := 61) d_Md_add_51 (by decide))) (by decide)))) (by decide) (al_1 (s_cmp0 (s_cl (s_a1 (s_aload_n d_Md_add_54 rfl) s_a0) (s_ecv (ve_Md_isOneAbsent (by decide) (by decide)) dc_Md_isOneAbsent (by decide) lm_Md_52 pd_Md_isOneAbsent d_Md_add_55)) (s_if_eqF (tgt := 65) d_Md_add_58 (by decide))))) (s_iconst d_Md_add_61 (by decide)) d_Md_add_62 (by decide) (s_iconst d_Md_add_65 (by decide))))) fi_Md_37 rfl (Or.inl rfl) d_Md_add_66) (t_seq (t_if1 (Fs := [77]) (E := [77]) (s_cmp0 (s_getf (s_aload_n d_Md_add_69 rfl) fi_Md_37 d_Md_add_70) (s_if_leF (tgt := 77) d_Md_add_73 (by decide))) (by decide) (t_sub (E := []) (E' := [77]) (t_retv rfl d_Md_add_76) (by decide)) (by decide)) (t_seq (t_seq (t_asg (s_iconst d_Md_add_77 (by decide)) (fun v k h => b_istore_n d_Md_add_78 rfl (by decide) h)) ml_Md_add_0) (t_seq (t_cl (s_a1 (s_aload_n d_Md_add_103 rfl) s_a0) (s_ecv (ve_Md_begin (by decide) (by decide)) dc_Md_begin (by decide) lm_Md_107 pd_Md_begin d_Md_add_104)) (t_seq (t_st (s_getf (s_aload_n d_Md_add_107 rfl) fi_Md_31 d_Md_add_108) (s_bin (s_iconst d_Md_add_111 (by decide)) (s_iload_n d_Md_add_112 rfl) (s_iadd d_Md_add_113)) (s_iload_n d_Md_add_114 rfl) (s_iast d_Md_add_115)) (t_seq (t_cl (s_a1 (s_aload_n d_Md_add_116 rfl) s_a0) (s_ecv (ve_Md_change (by decide) (by decide)) dc_Md_change (by decide) lm_Md_110 pd_Md_change d_Md_add_117)) (t_pf (s_aload_n d_Md_add_120 rfl) (s_ite (q4 := 141) (s_andg (s_cmp0 (s_cl (s_a1 (s_aload_n d_Md_add_121 rfl) (s_a1 (s_iconst d_Md_add_122 (by decide)) s_a0)) (s_ecv (ve_Md_ended (by decide) (by decide)) dc_Md_ended (by decide) lm_Md_113 pd_Md_ended d_Md_add_123)) (s_if_neF (tgt := 140) d_Md_add_126 (by decide))) (by decide) (al_1 (s_cmp0 (s_getf (s_aload_n d_Md_add_129 rfl) fi_Md_20 d_Md_add_130) (s_if_eqF (tgt := 140) d_Md_add_133 (by decide))))) (s_iconst d_Md_add_136 (by decide)) d_Md_add_137 (by decide) (s_iconst d_Md_add_140 (by decide))) fi_Md_37 rfl (Or.inl rfl) d_Md_add_141))))))) (t_retv rfl d_Md_add_144))
def f_Md_add : jx_Mt := jx_fn 3 4 (bd_Md_add fun _ _ => none)
theorem me_Md_add : jx_Me 3 z_Md_add f_Md_add := jx_Me.ofT (by decide) m_Md_add
theorem mw_Md_add : jx_mw ⟨"ExtentShelfModel", "add", "(II)V"⟩ z_Md_add := ⟨rfl, rfl, by decide +kernel, ⟨by decide, by decide⟩, by decide +kernel⟩
theorem pd_Md_add : (parseMethodDescriptor (⟨"ExtentShelfModel", "add", "(II)V"⟩ : MethodName).desc).map (fun d => d.parameters.length) = some 2 := by decide +kernel
abbrev tb_Md_legsOn : List (Nat × jx_Mt) := [(8, f_Md_legsOn)]
theorem ve_Md_legsOn {fr lo : Nat} (h1 : 1 ≤ fr) (h2 : 31 ≤ lo) : ∀ q ∈ tb_Md_legsOn, jx_ve ⟨"ExtentShelfModel", "legsOn", "(I)I"⟩ 1 fr lo q.1 q.2 := tv_1 ⟨R_Model, F_Model, 13, ⟨"ExtentShelfModel", "legsOn", "(I)I"⟩, z_Md_legsOn, rfl, by decide +kernel, mw_Md_legsOn, by decide +kernel, me_Md_legsOn, Nat.le_trans (by decide) h1, Nat.le_trans (by decide) h2⟩
theorem dc_Md_legsOn : jx_dc ⟨"ExtentShelfModel", "legsOn", "(I)I"⟩ := ⟨⟨by decide, by decide⟩, Or.inr ⟨by decide +kernel, prog_11_method_12_code, 4, _, (by decide +kernel : Cond.code ⟨"ExtentShelfModel", "legsOn", "(I)I"⟩ prog_11_method_12_code 4 (some .int) ∈ jx_tbl)⟩, "ExtentShelfModel", ⟨"ExtentShelfModel", "legsOn", "(I)I"⟩, ⟨"ExtentShelfModel", "legsOn", "(I)I"⟩, by decide +kernel, rfl⟩
abbrev tb_Md_listed : List (Nat × jx_Mt) := [(8, f_Md_listed)]
theorem ve_Md_listed {fr lo : Nat} (h1 : 1 ≤ fr) (h2 : 30 ≤ lo) : ∀ q ∈ tb_Md_listed, jx_ve ⟨"ExtentShelfModel", "listed", "()I"⟩ 0 fr lo q.1 q.2 := tv_1 ⟨R_Model, F_Model, 13, ⟨"ExtentShelfModel", "listed", "()I"⟩, z_Md_listed, rfl, by decide +kernel, mw_Md_listed, by decide +kernel, me_Md_listed, Nat.le_trans (by decide) h1, Nat.le_trans (by decide) h2⟩
theorem dc_Md_listed : jx_dc ⟨"ExtentShelfModel", "listed", "()I"⟩ := ⟨⟨by decide, by decide⟩, Or.inr ⟨by decide +kernel, prog_11_method_27_code, 3, _, (by decide +kernel : Cond.code ⟨"ExtentShelfModel", "listed", "()I"⟩ prog_11_method_27_code 3 (some .int) ∈ jx_tbl)⟩, "ExtentShelfModel", ⟨"ExtentShelfModel", "listed", "()I"⟩, ⟨"ExtentShelfModel", "listed", "()I"⟩, by decide +kernel, rfl⟩
