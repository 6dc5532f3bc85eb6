/-! METHODS, printed by jgen.py -/
/-! ExtentShelf.where(III)I -/
abbrev z_Sh_where : jx_Z := ("ExtentShelf", "where", prog_1_method_37_code, 6, some .int, 7, 129)
theorem d_Sh_where_0 : decode z_Sh_where.2.2.1 0 = .ok (.aload_n 0, 1) := by decide +kernel
theorem d_Sh_where_1 : decode z_Sh_where.2.2.1 1 = .ok (.invokevirtual 172, 3) := by decide +kernel
theorem d_Sh_where_4 : decode z_Sh_where.2.2.1 4 = .ok (.aload_n 0, 1) := by decide +kernel
theorem d_Sh_where_5 : decode z_Sh_where.2.2.1 5 = .ok (.iload_n 1, 1) := by decide +kernel
theorem d_Sh_where_6 : decode z_Sh_where.2.2.1 6 = .ok (.invokevirtual 205, 3) := by decide +kernel
theorem d_Sh_where_9 : decode z_Sh_where.2.2.1 9 = .ok (.astore 4, 2) := by decide +kernel
theorem d_Sh_where_11 : decode z_Sh_where.2.2.1 11 = .ok (.iload_n 2, 1) := by decide +kernel
theorem d_Sh_where_12 : decode z_Sh_where.2.2.1 12 = .ok (.ifCond .lt 29, 3) := by decide +kernel
theorem d_Sh_where_15 : decode z_Sh_where.2.2.1 15 = .ok (.iload_n 2, 1) := by decide +kernel
theorem d_Sh_where_16 : decode z_Sh_where.2.2.1 16 = .ok (.aload 4, 2) := by decide +kernel
theorem d_Sh_where_18 : decode z_Sh_where.2.2.1 18 = .ok (.getfield 154, 3) := by decide +kernel
theorem d_Sh_where_21 : decode z_Sh_where.2.2.1 21 = .ok (.if_icmp .ge 20, 3) := by decide +kernel
theorem d_Sh_where_24 : decode z_Sh_where.2.2.1 24 = .ok (.iload_n 3, 1) := by decide +kernel
theorem d_Sh_where_25 : decode z_Sh_where.2.2.1 25 = .ok (.ifCond .lt 16, 3) := by decide +kernel
theorem d_Sh_where_28 : decode z_Sh_where.2.2.1 28 = .ok (.iload_n 3, 1) := by decide +kernel
theorem d_Sh_where_29 : decode z_Sh_where.2.2.1 29 = .ok (.aload 4, 2) := by decide +kernel
theorem d_Sh_where_31 : decode z_Sh_where.2.2.1 31 = .ok (.invokevirtual 157, 3) := by decide +kernel
theorem d_Sh_where_34 : decode z_Sh_where.2.2.1 34 = .ok (.if_icmp .ge 7, 3) := by decide +kernel
theorem d_Sh_where_37 : decode z_Sh_where.2.2.1 37 = .ok (.iconst 1, 1) := by decide +kernel
theorem d_Sh_where_38 : decode z_Sh_where.2.2.1 38 = .ok (.goto 4, 3) := by decide +kernel
theorem d_Sh_where_41 : decode z_Sh_where.2.2.1 41 = .ok (.iconst 0, 1) := by decide +kernel
theorem d_Sh_where_42 : decode z_Sh_where.2.2.1 42 = .ok (.istore 5, 2) := by decide +kernel
theorem d_Sh_where_44 : decode z_Sh_where.2.2.1 44 = .ok (.iload 5, 2) := by decide +kernel
theorem d_Sh_where_46 : decode z_Sh_where.2.2.1 46 = .ok (.ifCond .eq 19, 3) := by decide +kernel
theorem d_Sh_where_49 : decode z_Sh_where.2.2.1 49 = .ok (.aload 4, 2) := by decide +kernel
theorem d_Sh_where_51 : decode z_Sh_where.2.2.1 51 = .ok (.getfield 120, 3) := by decide +kernel
theorem d_Sh_where_54 : decode z_Sh_where.2.2.1 54 = .ok (.iconst 2, 1) := by decide +kernel
theorem d_Sh_where_55 : decode z_Sh_where.2.2.1 55 = .ok (.iload_n 2, 1) := by decide +kernel
theorem d_Sh_where_56 : decode z_Sh_where.2.2.1 56 = .ok (.imul, 1) := by decide +kernel
theorem d_Sh_where_57 : decode z_Sh_where.2.2.1 57 = .ok (.iload_n 3, 1) := by decide +kernel
theorem d_Sh_where_58 : decode z_Sh_where.2.2.1 58 = .ok (.iadd, 1) := by decide +kernel
theorem d_Sh_where_59 : decode z_Sh_where.2.2.1 59 = .ok (.iaload, 1) := by decide +kernel
theorem d_Sh_where_60 : decode z_Sh_where.2.2.1 60 = .ok (.iconst 1, 1) := by decide +kernel
theorem d_Sh_where_61 : decode z_Sh_where.2.2.1 61 = .ok (.isub, 1) := by decide +kernel
theorem d_Sh_where_62 : decode z_Sh_where.2.2.1 62 = .ok (.goto 4, 3) := by decide +kernel
theorem d_Sh_where_65 : decode z_Sh_where.2.2.1 65 = .ok (.iconst (-1), 1) := by decide +kernel
theorem d_Sh_where_66 : decode z_Sh_where.2.2.1 66 = .ok (.ireturn, 1) := by decide +kernel
def bd_Sh_where : jx_St := (sSeq (sCl (jx_ev tb_Sh_needOn) [(eA 0)]) (sSeq (sAsg 2 4 (eCl (jx_ev tb_Sh_volumeAt) [(eA 0), (eI 1)])) (sSeq (sAsg 0 5 (eIte (cAnd (cAnd (cAnd (cCmp0 rGe (eI 2)) (cCmp rLt (eI 2) (eGf [5, 6, 7] 1 (eA 4)))) (cCmp0 rGe (eI 3))) (cCmp rLt (eI 3) (eCl (jx_ev tb_Vo_legCount) [(eA 4)]))) (eInt (nI 1)) (eInt (nI 0)))) (sRet 0 (eIte (cCmp0 rNe (eI 5)) (eBin oSub (eLd 0 (eGf [5, 6, 7] 2 (eA 4)) (eBin oAdd (eBin oMul (eInt (nI 2)) (eI 2)) (eI 3))) (eInt (nI 1))) (eInt (-1)))))))
theorem m_Sh_where : jx_Ts z_Sh_where 0 bd_Sh_where [] := by
  unfold bd_Sh_where
  exact (t_seq (t_cl (s_a1 (s_aload_n d_Sh_where_0 rfl) s_a0) (s_ecv (ve_Sh_needOn (by decide) (by decide)) dc_Sh_needOn (by decide) lm_Sh_172 pd_Sh_needOn d_Sh_where_1)) (t_seq (t_asg (s_cl (s_a1 (s_aload_n d_Sh_where_4 rfl) (s_a1 (s_iload_n d_Sh_where_5 rfl) s_a0)) (s_ecv (ve_Sh_volumeAt (by decide) (by decide)) dc_Sh_volumeAt (by decide) lm_Sh_205 pd_Sh_volumeAt d_Sh_where_6)) (fun v k h => b_astore d_Sh_where_9 (by decide) h)) (t_seq (t_asg (s_ite (q4 := 42) (s_andg (s_andg (s_andg (s_cmp0 (s_iload_n d_Sh_where_11 rfl) (s_if_ltF (tgt := 41) d_Sh_where_12 (by decide))) (by decide) (al_1 (s_cmp (s_iload_n d_Sh_where_15 rfl) (s_getf (s_aload d_Sh_where_16) fi_Sh_154 d_Sh_where_18) (s_icmp_geF (tgt := 41) d_Sh_where_21 (by decide))))) (by decide) (al_1 (s_cmp0 (s_iload_n d_Sh_where_24 rfl) (s_if_ltF (tgt := 41) d_Sh_where_25 (by decide))))) (by decide) (al_1 (s_cmp (s_iload_n d_Sh_where_28 rfl) (s_cl (s_a1 (s_aload d_Sh_where_29) s_a0) (s_ecv (ve_Vo_legCount (by decide) (by decide)) dc_Vo_legCount (by decide) lm_Sh_157 pd_Vo_legCount d_Sh_where_31)) (s_icmp_geF (tgt := 41) d_Sh_where_34 (by decide))))) (s_iconst d_Sh_where_37 (by decide)) d_Sh_where_38 (by decide) (s_iconst d_Sh_where_41 (by decide))) (fun v k h => b_istore d_Sh_where_42 (by decide) h)) (t_ret .int (s_ite (q4 := 66) (s_cmp0 (s_iload d_Sh_where_44) (s_if_eqF (tgt := 65) d_Sh_where_46 (by decide))) (s_bin (s_load (s_getf (s_aload d_Sh_where_49) fi_Sh_120 d_Sh_where_51) (s_bin (s_bin (s_iconst d_Sh_where_54 (by decide)) (s_iload_n d_Sh_where_55 rfl) (s_imul d_Sh_where_56)) (s_iload_n d_Sh_where_57 rfl) (s_iadd d_Sh_where_58)) (s_iald d_Sh_where_59)) (s_iconst d_Sh_where_60 (by decide)) (s_isub d_Sh_where_61)) d_Sh_where_62 (by decide) (s_iconst d_Sh_where_65 (by decide))) rfl (by decide) d_Sh_where_66))))
def f_Sh_where : jx_Mt := jx_fn 4 6 (bd_Sh_where fun _ _ => none)
theorem me_Sh_where : jx_Me 4 z_Sh_where f_Sh_where := jx_Me.ofT (by decide) m_Sh_where
theorem mw_Sh_where : jx_mw ⟨"ExtentShelf", "where", "(III)I"⟩ z_Sh_where := ⟨rfl, rfl, by decide +kernel, ⟨by decide, by decide⟩, by decide +kernel⟩
theorem pd_Sh_where : (parseMethodDescriptor (⟨"ExtentShelf", "where", "(III)I"⟩ : MethodName).desc).map (fun d => d.parameters.length) = some 3 := by decide +kernel
/-! ExtentShelf.free(I)I -/
abbrev z_Sh_free : jx_Z := ("ExtentShelf", "free", prog_1_method_38_code, 2, some .int, 7, 128)
theorem d_Sh_free_0 : decode z_Sh_free.2.2.1 0 = .ok (.aload_n 0, 1) := by decide +kernel
theorem d_Sh_free_1 : decode z_Sh_free.2.2.1 1 = .ok (.invokevirtual 172, 3) := by decide +kernel
theorem d_Sh_free_4 : decode z_Sh_free.2.2.1 4 = .ok (.iload_n 1, 1) := by decide +kernel
theorem d_Sh_free_5 : decode z_Sh_free.2.2.1 5 = .ok (.invokestatic 175, 3) := by decide +kernel
theorem d_Sh_free_8 : decode z_Sh_free.2.2.1 8 = .ok (.invokestatic 178, 3) := by decide +kernel
theorem d_Sh_free_11 : decode z_Sh_free.2.2.1 11 = .ok (.aload_n 0, 1) := by decide +kernel
theorem d_Sh_free_12 : decode z_Sh_free.2.2.1 12 = .ok (.iload_n 1, 1) := by decide +kernel
theorem d_Sh_free_13 : decode z_Sh_free.2.2.1 13 = .ok (.invokevirtual 64, 3) := by decide +kernel
theorem d_Sh_free_16 : decode z_Sh_free.2.2.1 16 = .ok (.ifCond .eq 15, 3) := by decide +kernel
theorem d_Sh_free_19 : decode z_Sh_free.2.2.1 19 = .ok (.aload_n 0, 1) := by decide +kernel
theorem d_Sh_free_20 : decode z_Sh_free.2.2.1 20 = .ok (.aload_n 0, 1) := by decide +kernel
theorem d_Sh_free_21 : decode z_Sh_free.2.2.1 21 = .ok (.getfield 28, 3) := by decide +kernel
theorem d_Sh_free_24 : decode z_Sh_free.2.2.1 24 = .ok (.iload_n 1, 1) := by decide +kernel
theorem d_Sh_free_25 : decode z_Sh_free.2.2.1 25 = .ok (.invokevirtual 142, 3) := by decide +kernel
theorem d_Sh_free_28 : decode z_Sh_free.2.2.1 28 = .ok (.goto 4, 3) := by decide +kernel
theorem d_Sh_free_31 : decode z_Sh_free.2.2.1 31 = .ok (.iconst (-1), 1) := by decide +kernel
theorem d_Sh_free_32 : decode z_Sh_free.2.2.1 32 = .ok (.ireturn, 1) := by decide +kernel
def bd_Sh_free : jx_St := (sSeq (sCl (jx_ev tb_Sh_needOn) [(eA 0)]) (sSeq (sCl (jx_ec f_Sh_need) [(eCl (jx_ec f_Sh_isDisk) [(eI 1)])]) (sRet 0 (eIte (cCmp0 rNe (eCl (jx_ev tb_Sh_isListed) [(eA 0), (eI 1)])) (eCl (jx_ev tb_Sh_freeOn) [(eA 0), (eGf [0] 2 (eA 0)), (eI 1)]) (eInt (-1))))))
theorem m_Sh_free : jx_Ts z_Sh_free 0 bd_Sh_free [] := by
  unfold bd_Sh_free
  exact (t_seq (t_cl (s_a1 (s_aload_n d_Sh_free_0 rfl) s_a0) (s_ecv (ve_Sh_needOn (by decide) (by decide)) dc_Sh_needOn (by decide) lm_Sh_172 pd_Sh_needOn d_Sh_free_1)) (t_seq (t_cl (s_a1 (s_cl (s_a1 (s_iload_n d_Sh_free_4 rfl) s_a0) (s_ecs me_Sh_isDisk mw_Sh_isDisk (by decide) (by decide) (by decide) lm_Sh_175 w_st_Sh_isDisk w_in_Sh pd_Sh_isDisk d_Sh_free_5)) s_a0) (s_ecs me_Sh_need mw_Sh_need (by decide) (by decide) (by decide) lm_Sh_178 w_st_Sh_need w_in_Sh pd_Sh_need d_Sh_free_8)) (t_ret .int (s_ite (q4 := 32) (s_cmp0 (s_cl (s_a1 (s_aload_n d_Sh_free_11 rfl) (s_a1 (s_iload_n d_Sh_free_12 rfl) s_a0)) (s_ecv (ve_Sh_isListed (by decide) (by decide)) dc_Sh_isListed (by decide) lm_Sh_64 pd_Sh_isListed d_Sh_free_13)) (s_if_eqF (tgt := 31) d_Sh_free_16 (by decide))) (s_cl (s_a1 (s_aload_n d_Sh_free_19 rfl) (s_a1 (s_getf (s_aload_n d_Sh_free_20 rfl) fi_Sh_28 d_Sh_free_21) (s_a1 (s_iload_n d_Sh_free_24 rfl) s_a0))) (s_ecv (ve_Sh_freeOn (by decide) (by decide)) dc_Sh_freeOn (by decide) lm_Sh_142 pd_Sh_freeOn d_Sh_free_25)) d_Sh_free_28 (by decide) (s_iconst d_Sh_free_31 (by decide))) rfl (by decide) d_Sh_free_32)))
def f_Sh_free : jx_Mt := jx_fn 2 2 (bd_Sh_free fun _ _ => none)
theorem me_Sh_free : jx_Me 2 z_Sh_free f_Sh_free := jx_Me.ofT (by decide) m_Sh_free
theorem mw_Sh_free : jx_mw ⟨"ExtentShelf", "free", "(I)I"⟩ z_Sh_free := ⟨rfl, rfl, by decide +kernel, ⟨by decide, by decide⟩, by decide +kernel⟩
theorem pd_Sh_free : (parseMethodDescriptor (⟨"ExtentShelf", "free", "(I)I"⟩ : MethodName).desc).map (fun d => d.parameters.length) = some 1 := by decide +kernel
/-! ExtentShelf.number()I -/
abbrev z_Sh_number : jx_Z := ("ExtentShelf", "number", prog_1_method_39_code, 1, some .int, 0, 0)
theorem d_Sh_number_0 : decode z_Sh_number.2.2.1 0 = .ok (.aload_n 0, 1) := by decide +kernel
theorem d_Sh_number_1 : decode z_Sh_number.2.2.1 1 = .ok (.getfield 21, 3) := by decide +kernel
theorem d_Sh_number_4 : decode z_Sh_number.2.2.1 4 = .ok (.getfield 36, 3) := by decide +kernel
theorem d_Sh_number_7 : decode z_Sh_number.2.2.1 7 = .ok (.ifCond .eq 13, 3) := by decide +kernel
theorem d_Sh_number_10 : decode z_Sh_number.2.2.1 10 = .ok (.aload_n 0, 1) := by decide +kernel
theorem d_Sh_number_11 : decode z_Sh_number.2.2.1 11 = .ok (.getfield 28, 3) := by decide +kernel
theorem d_Sh_number_14 : decode z_Sh_number.2.2.1 14 = .ok (.getfield 92, 3) := by decide +kernel
theorem d_Sh_number_17 : decode z_Sh_number.2.2.1 17 = .ok (.goto 4, 3) := by decide +kernel
theorem d_Sh_number_20 : decode z_Sh_number.2.2.1 20 = .ok (.iconst (-1), 1) := by decide +kernel
theorem d_Sh_number_21 : decode z_Sh_number.2.2.1 21 = .ok (.ireturn, 1) := by decide +kernel
def bd_Sh_number : jx_St := (sRet 0 (eIte (cCmp0 rNe (eGf [2] 1 (eGf [0] 1 (eA 0)))) (eGf [3] 0 (eGf [0] 2 (eA 0))) (eInt (-1))))
theorem m_Sh_number : jx_Ts z_Sh_number 0 bd_Sh_number [] := by
  unfold bd_Sh_number
  exact (t_ret .int (s_ite (q4 := 21) (s_cmp0 (s_getf (s_getf (s_aload_n d_Sh_number_0 rfl) fi_Sh_21 d_Sh_number_1) fi_Sh_36 d_Sh_number_4) (s_if_eqF (tgt := 20) d_Sh_number_7 (by decide))) (s_getf (s_getf (s_aload_n d_Sh_number_10 rfl) fi_Sh_28 d_Sh_number_11) fi_Sh_92 d_Sh_number_14) d_Sh_number_17 (by decide) (s_iconst d_Sh_number_20 (by decide))) rfl (by decide) d_Sh_number_21)
def f_Sh_number : jx_Mt := jx_fn 1 1 (bd_Sh_number fun _ _ => none)
theorem me_Sh_number : jx_Me 1 z_Sh_number f_Sh_number := jx_Me.ofT (by decide) m_Sh_number
theorem mw_Sh_number : jx_mw ⟨"ExtentShelf", "number", "()I"⟩ z_Sh_number := ⟨rfl, rfl, by decide +kernel, ⟨by decide, by decide⟩, by decide +kernel⟩
theorem pd_Sh_number : (parseMethodDescriptor (⟨"ExtentShelf", "number", "()I"⟩ : MethodName).desc).map (fun d => d.parameters.length) = some 0 := by decide +kernel
/-! ExtentShelf.look(III)I -/
abbrev z_Sh_look : jx_Z := ("ExtentShelf", "look", prog_1_method_40_code, 4, some .int, 6, 100)
theorem d_Sh_look_0 : decode z_Sh_look.2.2.1 0 = .ok (.iload_n 1, 1) := by decide +kernel
theorem d_Sh_look_1 : decode z_Sh_look.2.2.1 1 = .ok (.invokestatic 175, 3) := by decide +kernel
theorem d_Sh_look_4 : decode z_Sh_look.2.2.1 4 = .ok (.ifCond .eq 32, 3) := by decide +kernel
theorem d_Sh_look_7 : decode z_Sh_look.2.2.1 7 = .ok (.iload_n 2, 1) := by decide +kernel
theorem d_Sh_look_8 : decode z_Sh_look.2.2.1 8 = .ok (.ifCond .lt 28, 3) := by decide +kernel
theorem d_Sh_look_11 : decode z_Sh_look.2.2.1 11 = .ok (.iload_n 2, 1) := by decide +kernel
theorem d_Sh_look_12 : decode z_Sh_look.2.2.1 12 = .ok (.iconst 2, 1) := by decide +kernel
theorem d_Sh_look_13 : decode z_Sh_look.2.2.1 13 = .ok (.if_icmp .gt 23, 3) := by decide +kernel
theorem d_Sh_look_16 : decode z_Sh_look.2.2.1 16 = .ok (.iload_n 3, 1) := by decide +kernel
theorem d_Sh_look_17 : decode z_Sh_look.2.2.1 17 = .ok (.ifCond .lt 19, 3) := by decide +kernel
theorem d_Sh_look_20 : decode z_Sh_look.2.2.1 20 = .ok (.iload_n 3, 1) := by decide +kernel
theorem d_Sh_look_21 : decode z_Sh_look.2.2.1 21 = .ok (.iload_n 2, 1) := by decide +kernel
theorem d_Sh_look_22 : decode z_Sh_look.2.2.1 22 = .ok (.iconst 2, 1) := by decide +kernel
theorem d_Sh_look_23 : decode z_Sh_look.2.2.1 23 = .ok (.if_icmp .ne 8, 3) := by decide +kernel
theorem d_Sh_look_26 : decode z_Sh_look.2.2.1 26 = .ok (.bipush 32, 2) := by decide +kernel
theorem d_Sh_look_28 : decode z_Sh_look.2.2.1 28 = .ok (.goto 5, 3) := by decide +kernel
theorem d_Sh_look_31 : decode z_Sh_look.2.2.1 31 = .ok (.bipush 51, 2) := by decide +kernel
theorem d_Sh_look_33 : decode z_Sh_look.2.2.1 33 = .ok (.if_icmp .lt 11, 3) := by decide +kernel
theorem d_Sh_look_36 : decode z_Sh_look.2.2.1 36 = .ok (.new 213, 3) := by decide +kernel
theorem d_Sh_look_39 : decode z_Sh_look.2.2.1 39 = .ok (.dup, 1) := by decide +kernel
theorem d_Sh_look_40 : decode z_Sh_look.2.2.1 40 = .ok (.invokespecial 215, 3) := by decide +kernel
theorem d_Sh_look_43 : decode z_Sh_look.2.2.1 43 = .ok (.athrow, 1) := by decide +kernel
theorem d_Sh_look_44 : decode z_Sh_look.2.2.1 44 = .ok (.iload_n 2, 1) := by decide +kernel
theorem d_Sh_look_45 : decode z_Sh_look.2.2.1 45 = .ok (.iconst 2, 1) := by decide +kernel
theorem d_Sh_look_46 : decode z_Sh_look.2.2.1 46 = .ok (.if_icmp .ne 17, 3) := by decide +kernel
theorem d_Sh_look_49 : decode z_Sh_look.2.2.1 49 = .ok (.aload_n 0, 1) := by decide +kernel
theorem d_Sh_look_50 : decode z_Sh_look.2.2.1 50 = .ok (.getfield 12, 3) := by decide +kernel
theorem d_Sh_look_53 : decode z_Sh_look.2.2.1 53 = .ok (.iload_n 1, 1) := by decide +kernel
theorem d_Sh_look_54 : decode z_Sh_look.2.2.1 54 = .ok (.aaload, 1) := by decide +kernel
theorem d_Sh_look_55 : decode z_Sh_look.2.2.1 55 = .ok (.getfield 82, 3) := by decide +kernel
theorem d_Sh_look_58 : decode z_Sh_look.2.2.1 58 = .ok (.iload_n 3, 1) := by decide +kernel
theorem d_Sh_look_59 : decode z_Sh_look.2.2.1 59 = .ok (.iaload, 1) := by decide +kernel
theorem d_Sh_look_60 : decode z_Sh_look.2.2.1 60 = .ok (.goto 14, 3) := by decide +kernel
theorem d_Sh_look_63 : decode z_Sh_look.2.2.1 63 = .ok (.aload_n 0, 1) := by decide +kernel
theorem d_Sh_look_64 : decode z_Sh_look.2.2.1 64 = .ok (.getfield 12, 3) := by decide +kernel
theorem d_Sh_look_67 : decode z_Sh_look.2.2.1 67 = .ok (.iload_n 1, 1) := by decide +kernel
theorem d_Sh_look_68 : decode z_Sh_look.2.2.1 68 = .ok (.aaload, 1) := by decide +kernel
theorem d_Sh_look_69 : decode z_Sh_look.2.2.1 69 = .ok (.iload_n 2, 1) := by decide +kernel
theorem d_Sh_look_70 : decode z_Sh_look.2.2.1 70 = .ok (.iload_n 3, 1) := by decide +kernel
theorem d_Sh_look_71 : decode z_Sh_look.2.2.1 71 = .ok (.invokevirtual 248, 3) := by decide +kernel
theorem d_Sh_look_74 : decode z_Sh_look.2.2.1 74 = .ok (.ireturn, 1) := by decide +kernel
def bd_Sh_look : jx_St := (sSeq (sIf (cOr (cOr (cOr (cOr (cNot (cCmp0 rNe (eCl (jx_ec f_Sh_isDisk) [(eI 1)]))) (cCmp0 rLt (eI 2))) (cCmp rGt (eI 2) (eInt (nI 2)))) (cCmp0 rLt (eI 3))) (cCmp rGe (eI 3) (eIte (cCmp rEq (eI 2) (eInt (nI 2))) (eInt (nI 32)) (eInt (nI 51))))) (sThrow 13) sSkip) (sRet 0 (eIte (cCmp rEq (eI 2) (eInt (nI 2))) (eLd 0 (eGf [1] 2 (eLda 3 (eGf [0] 0 (eA 0)) (eI 1))) (eI 3)) (eCl (jx_ev tb_Dk_word) [(eLda 3 (eGf [0] 0 (eA 0)) (eI 1)), (eI 2), (eI 3)]))))
theorem m_Sh_look : jx_Ts z_Sh_look 0 bd_Sh_look [] := by
  unfold bd_Sh_look
  exact (t_seq (t_if1 (Fs := [44]) (E := [44]) (s_org (s_org (s_org (s_org (s_not (s_cmp0 (s_cl (s_a1 (s_iload_n d_Sh_look_0 rfl) s_a0) (s_ecs me_Sh_isDisk mw_Sh_isDisk (by decide) (by decide) (by decide) lm_Sh_175 w_st_Sh_isDisk w_in_Sh pd_Sh_isDisk d_Sh_look_1)) (s_if_eqF (tgt := 36) d_Sh_look_4 (by decide))) (by decide)) (by decide) (al_1 (s_cmp0 (s_iload_n d_Sh_look_7 rfl) (s_if_ltT (tgt := 36) d_Sh_look_8 (by decide))))) (by decide) (al_1 (s_cmp (s_iload_n d_Sh_look_11 rfl) (s_iconst d_Sh_look_12 (by decide)) (s_icmp_gtT (tgt := 36) d_Sh_look_13 (by decide))))) (by decide) (al_1 (s_cmp0 (s_iload_n d_Sh_look_16 rfl) (s_if_ltT (tgt := 36) d_Sh_look_17 (by decide))))) (by decide) (al_1 (s_cmp (s_iload_n d_Sh_look_20 rfl) (s_ite (q4 := 33) (s_cmp (s_iload_n d_Sh_look_21 rfl) (s_iconst d_Sh_look_22 (by decide)) (s_icmp_neF (tgt := 31) d_Sh_look_23 (by decide))) (s_bipush d_Sh_look_26 (by decide)) d_Sh_look_28 (by decide) (s_bipush d_Sh_look_31 (by decide))) (s_icmp_ltF (tgt := 44) d_Sh_look_33 (by decide))))) (by decide) (t_sub (E := []) (E' := [44]) (t_throw0 (C := R_Ioe) (F := F_Ioe) (names := ["java/lang/RuntimeException", "java/lang/Exception"]) rfl (by decide +kernel) (by decide +kernel) (by decide +kernel) at_Sh_13_215 (by decide +kernel) (by decide +kernel) d_Sh_look_36 d_Sh_look_39 d_Sh_look_40 d_Sh_look_43 (by decide) (by decide)) (by decide)) (by decide)) (t_ret .int (s_ite (q4 := 74) (s_cmp (s_iload_n d_Sh_look_44 rfl) (s_iconst d_Sh_look_45 (by decide)) (s_icmp_neF (tgt := 63) d_Sh_look_46 (by decide))) (s_load (s_getf (s_loada (s_getf (s_aload_n d_Sh_look_49 rfl) fi_Sh_12 d_Sh_look_50) (s_iload_n d_Sh_look_53 rfl) (s_aald (Or.inl rfl) d_Sh_look_54)) fi_Sh_82 d_Sh_look_55) (s_iload_n d_Sh_look_58 rfl) (s_iald d_Sh_look_59)) d_Sh_look_60 (by decide) (s_cl (s_a1 (s_loada (s_getf (s_aload_n d_Sh_look_63 rfl) fi_Sh_12 d_Sh_look_64) (s_iload_n d_Sh_look_67 rfl) (s_aald (Or.inl rfl) d_Sh_look_68)) (s_a1 (s_iload_n d_Sh_look_69 rfl) (s_a1 (s_iload_n d_Sh_look_70 rfl) s_a0))) (s_ecv (ve_Dk_word (by decide) (by decide)) dc_Dk_word (by decide) lm_Sh_248 pd_Dk_word d_Sh_look_71))) rfl (by decide) d_Sh_look_74))
def f_Sh_look : jx_Mt := jx_fn 4 4 (bd_Sh_look fun _ _ => none)
theorem me_Sh_look : jx_Me 4 z_Sh_look f_Sh_look := jx_Me.ofT (by decide) m_Sh_look
theorem mw_Sh_look : jx_mw ⟨"ExtentShelf", "look", "(III)I"⟩ z_Sh_look := ⟨rfl, rfl, by decide +kernel, ⟨by decide, by decide⟩, by decide +kernel⟩
theorem pd_Sh_look : (parseMethodDescriptor (⟨"ExtentShelf", "look", "(III)I"⟩ : MethodName).desc).map (fun d => d.parameters.length) = some 3 := by decide +kernel
/-! ExtentShelf.cut(I)V -/
abbrev z_Sh_cut : jx_Z := ("ExtentShelf", "cut", prog_1_method_41_code, 2, none, 7, 128)
theorem d_Sh_cut_0 : decode z_Sh_cut.2.2.1 0 = .ok (.aload_n 0, 1) := by decide +kernel
theorem d_Sh_cut_1 : decode z_Sh_cut.2.2.1 1 = .ok (.invokevirtual 172, 3) := by decide +kernel
theorem d_Sh_cut_4 : decode z_Sh_cut.2.2.1 4 = .ok (.iload_n 1, 1) := by decide +kernel
theorem d_Sh_cut_5 : decode z_Sh_cut.2.2.1 5 = .ok (.iconst (-1), 1) := by decide +kernel
theorem d_Sh_cut_6 : decode z_Sh_cut.2.2.1 6 = .ok (.if_icmp .lt 7, 3) := by decide +kernel
theorem d_Sh_cut_9 : decode z_Sh_cut.2.2.1 9 = .ok (.iconst 1, 1) := by decide +kernel
theorem d_Sh_cut_10 : decode z_Sh_cut.2.2.1 10 = .ok (.goto 4, 3) := by decide +kernel
theorem d_Sh_cut_13 : decode z_Sh_cut.2.2.1 13 = .ok (.iconst 0, 1) := by decide +kernel
theorem d_Sh_cut_14 : decode z_Sh_cut.2.2.1 14 = .ok (.invokestatic 178, 3) := by decide +kernel
theorem d_Sh_cut_17 : decode z_Sh_cut.2.2.1 17 = .ok (.aload_n 0, 1) := by decide +kernel
theorem d_Sh_cut_18 : decode z_Sh_cut.2.2.1 18 = .ok (.getfield 21, 3) := by decide +kernel
theorem d_Sh_cut_21 : decode z_Sh_cut.2.2.1 21 = .ok (.iload_n 1, 1) := by decide +kernel
theorem d_Sh_cut_22 : decode z_Sh_cut.2.2.1 22 = .ok (.putfield 251, 3) := by decide +kernel
theorem d_Sh_cut_25 : decode z_Sh_cut.2.2.1 25 = .ok (.return_, 1) := by decide +kernel
def bd_Sh_cut : jx_St := (sSeq (sSeq (sCl (jx_ev tb_Sh_needOn) [(eA 0)]) (sSeq (sCl (jx_ec f_Sh_need) [(eIte (cCmp rGe (eI 1) (eInt (-1))) (eInt (nI 1)) (eInt (nI 0)))]) (sPf [2] 0 0 (eGf [0] 1 (eA 0)) (eI 1)))) sRetV)
theorem m_Sh_cut : jx_Ts z_Sh_cut 0 bd_Sh_cut [] := by
  unfold bd_Sh_cut
  exact (t_seq (t_seq (t_cl (s_a1 (s_aload_n d_Sh_cut_0 rfl) s_a0) (s_ecv (ve_Sh_needOn (by decide) (by decide)) dc_Sh_needOn (by decide) lm_Sh_172 pd_Sh_needOn d_Sh_cut_1)) (t_seq (t_cl (s_a1 (s_ite (q4 := 14) (s_cmp (s_iload_n d_Sh_cut_4 rfl) (s_iconst d_Sh_cut_5 (by decide)) (s_icmp_ltF (tgt := 13) d_Sh_cut_6 (by decide))) (s_iconst d_Sh_cut_9 (by decide)) d_Sh_cut_10 (by decide) (s_iconst d_Sh_cut_13 (by decide))) s_a0) (s_ecs me_Sh_need mw_Sh_need (by decide) (by decide) (by decide) lm_Sh_178 w_st_Sh_need w_in_Sh pd_Sh_need d_Sh_cut_14)) (t_pf (s_getf (s_aload_n d_Sh_cut_17 rfl) fi_Sh_21 d_Sh_cut_18) (s_iload_n d_Sh_cut_21 rfl) fi_Sh_251 rfl (Or.inl rfl) d_Sh_cut_22))) (t_retv rfl d_Sh_cut_25))
def f_Sh_cut : jx_Mt := jx_fn 2 2 (bd_Sh_cut fun _ _ => none)
theorem me_Sh_cut : jx_Me 2 z_Sh_cut f_Sh_cut := jx_Me.ofT (by decide) m_Sh_cut
theorem mw_Sh_cut : jx_mw ⟨"ExtentShelf", "cut", "(I)V"⟩ z_Sh_cut := ⟨rfl, rfl, by decide +kernel, ⟨by decide, by decide⟩, by decide +kernel⟩
theorem pd_Sh_cut : (parseMethodDescriptor (⟨"ExtentShelf", "cut", "(I)V"⟩ : MethodName).desc).map (fun d => d.parameters.length) = some 1 := by decide +kernel
/-! ExtentShelf.off()V -/
abbrev z_Sh_off : jx_Z := ("ExtentShelf", "off", prog_1_method_42_code, 1, none, 7, 128)
theorem d_Sh_off_0 : decode z_Sh_off.2.2.1 0 = .ok (.aload_n 0, 1) := by decide +kernel
theorem d_Sh_off_1 : decode z_Sh_off.2.2.1 1 = .ok (.invokevirtual 172, 3) := by decide +kernel
theorem d_Sh_off_4 : decode z_Sh_off.2.2.1 4 = .ok (.aload_n 0, 1) := by decide +kernel
theorem d_Sh_off_5 : decode z_Sh_off.2.2.1 5 = .ok (.getfield 21, 3) := by decide +kernel
theorem d_Sh_off_8 : decode z_Sh_off.2.2.1 8 = .ok (.iconst 0, 1) := by decide +kernel
theorem d_Sh_off_9 : decode z_Sh_off.2.2.1 9 = .ok (.putfield 36, 3) := by decide +kernel
theorem d_Sh_off_12 : decode z_Sh_off.2.2.1 12 = .ok (.aload_n 0, 1) := by decide +kernel
theorem d_Sh_off_13 : decode z_Sh_off.2.2.1 13 = .ok (.getfield 21, 3) := by decide +kernel
theorem d_Sh_off_16 : decode z_Sh_off.2.2.1 16 = .ok (.iconst (-1), 1) := by decide +kernel
theorem d_Sh_off_17 : decode z_Sh_off.2.2.1 17 = .ok (.putfield 251, 3) := by decide +kernel
theorem d_Sh_off_20 : decode z_Sh_off.2.2.1 20 = .ok (.return_, 1) := by decide +kernel
def bd_Sh_off : jx_St := (sSeq (sSeq (sCl (jx_ev tb_Sh_needOn) [(eA 0)]) (sSeq (sPf [2] 1 1 (eGf [0] 1 (eA 0)) (eInt (nI 0))) (sPf [2] 0 0 (eGf [0] 1 (eA 0)) (eInt (-1))))) sRetV)
theorem m_Sh_off : jx_Ts z_Sh_off 0 bd_Sh_off [] := by
  unfold bd_Sh_off
  exact (t_seq (t_seq (t_cl (s_a1 (s_aload_n d_Sh_off_0 rfl) s_a0) (s_ecv (ve_Sh_needOn (by decide) (by decide)) dc_Sh_needOn (by decide) lm_Sh_172 pd_Sh_needOn d_Sh_off_1)) (t_seq (t_pf (s_getf (s_aload_n d_Sh_off_4 rfl) fi_Sh_21 d_Sh_off_5) (s_iconst d_Sh_off_8 (by decide)) fi_Sh_36 rfl (Or.inl rfl) d_Sh_off_9) (t_pf (s_getf (s_aload_n d_Sh_off_12 rfl) fi_Sh_21 d_Sh_off_13) (s_iconst d_Sh_off_16 (by decide)) fi_Sh_251 rfl (Or.inl rfl) d_Sh_off_17))) (t_retv rfl d_Sh_off_20))
def f_Sh_off : jx_Mt := jx_fn 1 1 (bd_Sh_off fun _ _ => none)
theorem me_Sh_off : jx_Me 1 z_Sh_off f_Sh_off := jx_Me.ofT (by decide) m_Sh_off
theorem mw_Sh_off : jx_mw ⟨"ExtentShelf", "off", "()V"⟩ z_Sh_off := ⟨rfl, rfl, by decide +kernel, ⟨by decide, by decide⟩, by decide +kernel⟩
theorem pd_Sh_off : (parseMethodDescriptor (⟨"ExtentShelf", "off", "()V"⟩ : MethodName).desc).map (fun d => d.parameters.length) = some 0 := by decide +kernel
/-! ExtentShelf.plug(IZ)Z -/
abbrev z_Sh_plug : jx_Z := ("ExtentShelf", "plug", prog_1_method_43_code, 4, some .boolean, 7, 128)
theorem d_Sh_plug_0 : decode z_Sh_plug.2.2.1 0 = .ok (.aload_n 0, 1) := by decide +kernel
theorem d_Sh_plug_1 : decode z_Sh_plug.2.2.1 1 = .ok (.getfield 21, 3) := by decide +kernel
theorem d_Sh_plug_4 : decode z_Sh_plug.2.2.1 4 = .ok (.getfield 36, 3) := by decide +kernel
theorem d_Sh_plug_7 : decode z_Sh_plug.2.2.1 7 = .ok (.ifCond .eq 13, 3) := by decide +kernel
theorem d_Sh_plug_10 : decode z_Sh_plug.2.2.1 10 = .ok (.new 40, 3) := by decide +kernel
theorem d_Sh_plug_13 : decode z_Sh_plug.2.2.1 13 = .ok (.dup, 1) := by decide +kernel
theorem d_Sh_plug_14 : decode z_Sh_plug.2.2.1 14 = .ok (.ldc 254, 2) := by decide +kernel
theorem d_Sh_plug_16 : decode z_Sh_plug.2.2.1 16 = .ok (.invokespecial 44, 3) := by decide +kernel
theorem d_Sh_plug_19 : decode z_Sh_plug.2.2.1 19 = .ok (.athrow, 1) := by decide +kernel
theorem d_Sh_plug_20 : decode z_Sh_plug.2.2.1 20 = .ok (.iload_n 1, 1) := by decide +kernel
theorem d_Sh_plug_21 : decode z_Sh_plug.2.2.1 21 = .ok (.invokestatic 175, 3) := by decide +kernel
theorem d_Sh_plug_24 : decode z_Sh_plug.2.2.1 24 = .ok (.invokestatic 178, 3) := by decide +kernel
theorem d_Sh_plug_27 : decode z_Sh_plug.2.2.1 27 = .ok (.aload_n 0, 1) := by decide +kernel
theorem d_Sh_plug_28 : decode z_Sh_plug.2.2.1 28 = .ok (.getfield 12, 3) := by decide +kernel
theorem d_Sh_plug_31 : decode z_Sh_plug.2.2.1 31 = .ok (.iload_n 1, 1) := by decide +kernel
theorem d_Sh_plug_32 : decode z_Sh_plug.2.2.1 32 = .ok (.aaload, 1) := by decide +kernel
theorem d_Sh_plug_33 : decode z_Sh_plug.2.2.1 33 = .ok (.getfield 68, 3) := by decide +kernel
theorem d_Sh_plug_36 : decode z_Sh_plug.2.2.1 36 = .ok (.iload_n 2, 1) := by decide +kernel
theorem d_Sh_plug_37 : decode z_Sh_plug.2.2.1 37 = .ok (.if_icmp .eq 7, 3) := by decide +kernel
theorem d_Sh_plug_40 : decode z_Sh_plug.2.2.1 40 = .ok (.iconst 1, 1) := by decide +kernel
theorem d_Sh_plug_41 : decode z_Sh_plug.2.2.1 41 = .ok (.goto 4, 3) := by decide +kernel
theorem d_Sh_plug_44 : decode z_Sh_plug.2.2.1 44 = .ok (.iconst 0, 1) := by decide +kernel
theorem d_Sh_plug_45 : decode z_Sh_plug.2.2.1 45 = .ok (.istore_n 3, 1) := by decide +kernel
theorem d_Sh_plug_46 : decode z_Sh_plug.2.2.1 46 = .ok (.aload_n 0, 1) := by decide +kernel
theorem d_Sh_plug_47 : decode z_Sh_plug.2.2.1 47 = .ok (.getfield 12, 3) := by decide +kernel
theorem d_Sh_plug_50 : decode z_Sh_plug.2.2.1 50 = .ok (.iload_n 1, 1) := by decide +kernel
theorem d_Sh_plug_51 : decode z_Sh_plug.2.2.1 51 = .ok (.aaload, 1) := by decide +kernel
theorem d_Sh_plug_52 : decode z_Sh_plug.2.2.1 52 = .ok (.iload_n 2, 1) := by decide +kernel
theorem d_Sh_plug_53 : decode z_Sh_plug.2.2.1 53 = .ok (.putfield 68, 3) := by decide +kernel
theorem d_Sh_plug_56 : decode z_Sh_plug.2.2.1 56 = .ok (.iload_n 3, 1) := by decide +kernel
theorem d_Sh_plug_57 : decode z_Sh_plug.2.2.1 57 = .ok (.ireturn, 1) := by decide +kernel
def bd_Sh_plug : jx_St := (sSeq (sIf (cCmp0 rNe (eGf [2] 1 (eGf [0] 1 (eA 0)))) (sThrow 9) sSkip) (sSeq (sCl (jx_ec f_Sh_need) [(eCl (jx_ec f_Sh_isDisk) [(eI 1)])]) (sSeq (sAsg 0 3 (eIte (cCmp rNe (eGf [1] 3 (eLda 3 (eGf [0] 0 (eA 0)) (eI 1))) (eI 2)) (eInt (nI 1)) (eInt (nI 0)))) (sSeq (sPf [1] 3 1 (eLda 3 (eGf [0] 0 (eA 0)) (eI 1)) (eI 2)) (sRet 1 (eI 3))))))
theorem m_Sh_plug : jx_Ts z_Sh_plug 0 bd_Sh_plug [] := by
  unfold bd_Sh_plug
  exact (t_seq (t_if1 (Fs := [20]) (E := [20]) (s_cmp0 (s_getf (s_getf (s_aload_n d_Sh_plug_0 rfl) fi_Sh_21 d_Sh_plug_1) fi_Sh_36 d_Sh_plug_4) (s_if_eqF (tgt := 20) d_Sh_plug_7 (by decide))) (by decide) (t_sub (E := []) (E' := [20]) (t_throwS (C := R_Ise) (F := F_Ise) (tx := "the power is on") (names := ["java/lang/RuntimeException", "java/lang/Exception"]) rfl (by decide +kernel) (by decide +kernel) (by decide +kernel) (by decide +kernel) at_Sh_9_44 (by decide +kernel) (by decide +kernel) d_Sh_plug_10 d_Sh_plug_13 d_Sh_plug_14 d_Sh_plug_16 d_Sh_plug_19 (by decide) (by decide)) (by decide)) (by decide)) (t_seq (t_cl (s_a1 (s_cl (s_a1 (s_iload_n d_Sh_plug_20 rfl) s_a0) (s_ecs me_Sh_isDisk mw_Sh_isDisk (by decide) (by decide) (by decide) lm_Sh_175 w_st_Sh_isDisk w_in_Sh pd_Sh_isDisk d_Sh_plug_21)) s_a0) (s_ecs me_Sh_need mw_Sh_need (by decide) (by decide) (by decide) lm_Sh_178 w_st_Sh_need w_in_Sh pd_Sh_need d_Sh_plug_24)) (t_seq (t_asg (s_ite (q4 := 45) (s_cmp (s_getf (s_loada (s_getf (s_aload_n d_Sh_plug_27 rfl) fi_Sh_12 d_Sh_plug_28) (s_iload_n d_Sh_plug_31 rfl) (s_aald (Or.inl rfl) d_Sh_plug_32)) fi_Sh_68 d_Sh_plug_33) (s_iload_n d_Sh_plug_36 rfl) (s_icmp_eqF (tgt := 44) d_Sh_plug_37 (by decide))) (s_iconst d_Sh_plug_40 (by decide)) d_Sh_plug_41 (by decide) (s_iconst d_Sh_plug_44 (by decide))) (fun v k h => b_istore_n d_Sh_plug_45 rfl (by decide) h)) (t_seq (t_pf (s_loada (s_getf (s_aload_n d_Sh_plug_46 rfl) fi_Sh_12 d_Sh_plug_47) (s_iload_n d_Sh_plug_50 rfl) (s_aald (Or.inl rfl) d_Sh_plug_51)) (s_iload_n d_Sh_plug_52 rfl) fi_Sh_68 rfl (Or.inl rfl) d_Sh_plug_53) (t_ret .boolean (s_iload_n d_Sh_plug_56 rfl) rfl (by decide) d_Sh_plug_57)))))
def f_Sh_plug : jx_Mt := jx_fn 3 4 (bd_Sh_plug fun _ _ => none)
theorem me_Sh_plug : jx_Me 3 z_Sh_plug f_Sh_plug := jx_Me.ofT (by decide) m_Sh_plug
theorem mw_Sh_plug : jx_mw ⟨"ExtentShelf", "plug", "(IZ)Z"⟩ z_Sh_plug := ⟨rfl, rfl, by decide +kernel, ⟨by decide, by decide⟩, by decide +kernel⟩
theorem pd_Sh_plug : (parseMethodDescriptor (⟨"ExtentShelf", "plug", "(IZ)Z"⟩ : MethodName).desc).map (fun d => d.parameters.length) = some 2 := by decide +kernel
/-! ExtentShelf$Table.read(LExtentShelf$Disk;I)LExtentShelf$Table; -/
abbrev z_Tb_read : jx_Z := ("ExtentShelf$Table", "read", prog_7_method_4_code, 6, some (.object "ExtentShelf$Table"), 4, 118)
theorem d_Tb_read_0 : decode z_Tb_read.2.2.1 0 = .ok (.new 10, 3) := by decide +kernel
theorem d_Tb_read_3 : decode z_Tb_read.2.2.1 3 = .ok (.dup, 1) := by decide +kernel
theorem d_Tb_read_4 : decode z_Tb_read.2.2.1 4 = .ok (.invokespecial 21, 3) := by decide +kernel
theorem d_Tb_read_7 : decode z_Tb_read.2.2.1 7 = .ok (.astore_n 2, 1) := by decide +kernel
theorem d_Tb_read_8 : decode z_Tb_read.2.2.1 8 = .ok (.aload_n 2, 1) := by decide +kernel
theorem d_Tb_read_9 : decode z_Tb_read.2.2.1 9 = .ok (.aload_n 0, 1) := by decide +kernel
theorem d_Tb_read_10 : decode z_Tb_read.2.2.1 10 = .ok (.iload_n 1, 1) := by decide +kernel
theorem d_Tb_read_11 : decode z_Tb_read.2.2.1 11 = .ok (.iconst 0, 1) := by decide +kernel
theorem d_Tb_read_12 : decode z_Tb_read.2.2.1 12 = .ok (.invokevirtual 52, 3) := by decide +kernel
theorem d_Tb_read_15 : decode z_Tb_read.2.2.1 15 = .ok (.putfield 22, 3) := by decide +kernel
theorem d_Tb_read_18 : decode z_Tb_read.2.2.1 18 = .ok (.iconst 0, 1) := by decide +kernel
theorem d_Tb_read_19 : decode z_Tb_read.2.2.1 19 = .ok (.istore_n 3, 1) := by decide +kernel
theorem d_Tb_read_20 : decode z_Tb_read.2.2.1 20 = .ok (.iload_n 3, 1) := by decide +kernel
theorem d_Tb_read_21 : decode z_Tb_read.2.2.1 21 = .ok (.iconst 4, 1) := by decide +kernel
theorem d_Tb_read_22 : decode z_Tb_read.2.2.1 22 = .ok (.if_icmp .ge 23, 3) := by decide +kernel
theorem d_Tb_read_25 : decode z_Tb_read.2.2.1 25 = .ok (.aload_n 2, 1) := by decide +kernel
theorem d_Tb_read_26 : decode z_Tb_read.2.2.1 26 = .ok (.getfield 9, 3) := by decide +kernel
theorem d_Tb_read_29 : decode z_Tb_read.2.2.1 29 = .ok (.iload_n 3, 1) := by decide +kernel
theorem d_Tb_read_30 : decode z_Tb_read.2.2.1 30 = .ok (.aload_n 0, 1) := by decide +kernel
theorem d_Tb_read_31 : decode z_Tb_read.2.2.1 31 = .ok (.iload_n 1, 1) := by decide +kernel
theorem d_Tb_read_32 : decode z_Tb_read.2.2.1 32 = .ok (.iconst 1, 1) := by decide +kernel
theorem d_Tb_read_33 : decode z_Tb_read.2.2.1 33 = .ok (.iload_n 3, 1) := by decide +kernel
theorem d_Tb_read_34 : decode z_Tb_read.2.2.1 34 = .ok (.iadd, 1) := by decide +kernel
theorem d_Tb_read_35 : decode z_Tb_read.2.2.1 35 = .ok (.invokevirtual 52, 3) := by decide +kernel
theorem d_Tb_read_38 : decode z_Tb_read.2.2.1 38 = .ok (.iastore, 1) := by decide +kernel
theorem d_Tb_read_39 : decode z_Tb_read.2.2.1 39 = .ok (.iinc 3 1, 3) := by decide +kernel
theorem d_Tb_read_42 : decode z_Tb_read.2.2.1 42 = .ok (.goto (-22), 3) := by decide +kernel
theorem d_Tb_read_45 : decode z_Tb_read.2.2.1 45 = .ok (.iconst 0, 1) := by decide +kernel
theorem d_Tb_read_46 : decode z_Tb_read.2.2.1 46 = .ok (.istore_n 3, 1) := by decide +kernel
theorem d_Tb_read_47 : decode z_Tb_read.2.2.1 47 = .ok (.iload_n 3, 1) := by decide +kernel
theorem d_Tb_read_48 : decode z_Tb_read.2.2.1 48 = .ok (.iconst 4, 1) := by decide +kernel
theorem d_Tb_read_49 : decode z_Tb_read.2.2.1 49 = .ok (.if_icmp .ge 96, 3) := by decide +kernel
theorem d_Tb_read_52 : decode z_Tb_read.2.2.1 52 = .ok (.aload_n 0, 1) := by decide +kernel
theorem d_Tb_read_53 : decode z_Tb_read.2.2.1 53 = .ok (.iload_n 1, 1) := by decide +kernel
theorem d_Tb_read_54 : decode z_Tb_read.2.2.1 54 = .ok (.iconst 5, 1) := by decide +kernel
theorem d_Tb_read_55 : decode z_Tb_read.2.2.1 55 = .ok (.iload_n 3, 1) := by decide +kernel
theorem d_Tb_read_56 : decode z_Tb_read.2.2.1 56 = .ok (.iadd, 1) := by decide +kernel
theorem d_Tb_read_57 : decode z_Tb_read.2.2.1 57 = .ok (.invokevirtual 52, 3) := by decide +kernel
theorem d_Tb_read_60 : decode z_Tb_read.2.2.1 60 = .ok (.istore 4, 2) := by decide +kernel
theorem d_Tb_read_62 : decode z_Tb_read.2.2.1 62 = .ok (.iload 4, 2) := by decide +kernel
theorem d_Tb_read_64 : decode z_Tb_read.2.2.1 64 = .ok (.ifCond .ne 6, 3) := by decide +kernel
theorem d_Tb_read_67 : decode z_Tb_read.2.2.1 67 = .ok (.goto 72, 3) := by decide +kernel
theorem d_Tb_read_70 : decode z_Tb_read.2.2.1 70 = .ok (.aload_n 2, 1) := by decide +kernel
theorem d_Tb_read_71 : decode z_Tb_read.2.2.1 71 = .ok (.getfield 17, 3) := by decide +kernel
theorem d_Tb_read_74 : decode z_Tb_read.2.2.1 74 = .ok (.iload_n 3, 1) := by decide +kernel
theorem d_Tb_read_75 : decode z_Tb_read.2.2.1 75 = .ok (.iload 4, 2) := by decide +kernel
theorem d_Tb_read_77 : decode z_Tb_read.2.2.1 77 = .ok (.iconst 3, 1) := by decide +kernel
theorem d_Tb_read_78 : decode z_Tb_read.2.2.1 78 = .ok (.iand, 1) := by decide +kernel
theorem d_Tb_read_79 : decode z_Tb_read.2.2.1 79 = .ok (.iconst 1, 1) := by decide +kernel
theorem d_Tb_read_80 : decode z_Tb_read.2.2.1 80 = .ok (.isub, 1) := by decide +kernel
theorem d_Tb_read_81 : decode z_Tb_read.2.2.1 81 = .ok (.iload 4, 2) := by decide +kernel
theorem d_Tb_read_83 : decode z_Tb_read.2.2.1 83 = .ok (.iconst 2, 1) := by decide +kernel
theorem d_Tb_read_84 : decode z_Tb_read.2.2.1 84 = .ok (.ishr, 1) := by decide +kernel
theorem d_Tb_read_85 : decode z_Tb_read.2.2.1 85 = .ok (.bipush 7, 2) := by decide +kernel
theorem d_Tb_read_87 : decode z_Tb_read.2.2.1 87 = .ok (.iand, 1) := by decide +kernel
theorem d_Tb_read_88 : decode z_Tb_read.2.2.1 88 = .ok (.iload 4, 2) := by decide +kernel
theorem d_Tb_read_90 : decode z_Tb_read.2.2.1 90 = .ok (.iconst 5, 1) := by decide +kernel
theorem d_Tb_read_91 : decode z_Tb_read.2.2.1 91 = .ok (.ishr, 1) := by decide +kernel
theorem d_Tb_read_92 : decode z_Tb_read.2.2.1 92 = .ok (.invokestatic 42, 3) := by decide +kernel
theorem d_Tb_read_95 : decode z_Tb_read.2.2.1 95 = .ok (.aastore, 1) := by decide +kernel
theorem d_Tb_read_96 : decode z_Tb_read.2.2.1 96 = .ok (.iconst 0, 1) := by decide +kernel
theorem d_Tb_read_97 : decode z_Tb_read.2.2.1 97 = .ok (.istore 5, 2) := by decide +kernel
theorem d_Tb_read_99 : decode z_Tb_read.2.2.1 99 = .ok (.iload 5, 2) := by decide +kernel
theorem d_Tb_read_101 : decode z_Tb_read.2.2.1 101 = .ok (.bipush 10, 2) := by decide +kernel
theorem d_Tb_read_103 : decode z_Tb_read.2.2.1 103 = .ok (.if_icmp .ge 36, 3) := by decide +kernel
theorem d_Tb_read_106 : decode z_Tb_read.2.2.1 106 = .ok (.aload_n 2, 1) := by decide +kernel
theorem d_Tb_read_107 : decode z_Tb_read.2.2.1 107 = .ok (.getfield 17, 3) := by decide +kernel
theorem d_Tb_read_110 : decode z_Tb_read.2.2.1 110 = .ok (.iload_n 3, 1) := by decide +kernel
theorem d_Tb_read_111 : decode z_Tb_read.2.2.1 111 = .ok (.aaload, 1) := by decide +kernel
theorem d_Tb_read_112 : decode z_Tb_read.2.2.1 112 = .ok (.getfield 46, 3) := by decide +kernel
theorem d_Tb_read_115 : decode z_Tb_read.2.2.1 115 = .ok (.iload 5, 2) := by decide +kernel
theorem d_Tb_read_117 : decode z_Tb_read.2.2.1 117 = .ok (.aload_n 0, 1) := by decide +kernel
theorem d_Tb_read_118 : decode z_Tb_read.2.2.1 118 = .ok (.iload_n 1, 1) := by decide +kernel
theorem d_Tb_read_119 : decode z_Tb_read.2.2.1 119 = .ok (.bipush 9, 2) := by decide +kernel
theorem d_Tb_read_121 : decode z_Tb_read.2.2.1 121 = .ok (.bipush 10, 2) := by decide +kernel
theorem d_Tb_read_123 : decode z_Tb_read.2.2.1 123 = .ok (.iload_n 3, 1) := by decide +kernel
theorem d_Tb_read_124 : decode z_Tb_read.2.2.1 124 = .ok (.imul, 1) := by decide +kernel
theorem d_Tb_read_125 : decode z_Tb_read.2.2.1 125 = .ok (.iadd, 1) := by decide +kernel
theorem d_Tb_read_126 : decode z_Tb_read.2.2.1 126 = .ok (.iload 5, 2) := by decide +kernel
theorem d_Tb_read_128 : decode z_Tb_read.2.2.1 128 = .ok (.iadd, 1) := by decide +kernel
theorem d_Tb_read_129 : decode z_Tb_read.2.2.1 129 = .ok (.invokevirtual 52, 3) := by decide +kernel
theorem d_Tb_read_132 : decode z_Tb_read.2.2.1 132 = .ok (.iastore, 1) := by decide +kernel
theorem d_Tb_read_133 : decode z_Tb_read.2.2.1 133 = .ok (.iinc 5 1, 3) := by decide +kernel
theorem d_Tb_read_136 : decode z_Tb_read.2.2.1 136 = .ok (.goto (-37), 3) := by decide +kernel
theorem d_Tb_read_139 : decode z_Tb_read.2.2.1 139 = .ok (.iinc 3 1, 3) := by decide +kernel
theorem d_Tb_read_142 : decode z_Tb_read.2.2.1 142 = .ok (.goto (-95), 3) := by decide +kernel
theorem d_Tb_read_145 : decode z_Tb_read.2.2.1 145 = .ok (.aload_n 2, 1) := by decide +kernel
theorem d_Tb_read_146 : decode z_Tb_read.2.2.1 146 = .ok (.areturn, 1) := by decide +kernel
def lc_Tb_read_0 : jx_Cx := (cCmp rLt (eI 3) (eInt (nI 4)))
def lb_Tb_read_0 : jx_St := (sSeq (sSt 0 0 (eGf [3] 1 (eA 2)) (eI 3) (eCl (jx_ev tb_Dk_word) [(eA 0), (eI 1), (eBin oAdd (eInt (nI 1)) (eI 3))])) (sInc 3 (nI 1)))
theorem ml_Tb_read_0 : jx_Ts z_Tb_read 20 (sWh 64 lc_Tb_read_0 lb_Tb_read_0) [45] := by
  unfold lc_Tb_read_0 lb_Tb_read_0
  exact t_wh (EA := [42]) (Fs := [45]) (E := [45]) 64 (s_cmp (s_iload_n d_Tb_read_20 rfl) (s_iconst d_Tb_read_21 (by decide)) (s_icmp_geF (tgt := 45) d_Tb_read_22 (by decide))) (by decide) (t_seq (t_st (s_getf (s_aload_n d_Tb_read_25 rfl) fi_Tb_9 d_Tb_read_26) (s_iload_n d_Tb_read_29 rfl) (s_cl (s_a1 (s_aload_n d_Tb_read_30 rfl) (s_a1 (s_iload_n d_Tb_read_31 rfl) (s_a1 (s_bin (s_iconst d_Tb_read_32 (by decide)) (s_iload_n d_Tb_read_33 rfl) (s_iadd d_Tb_read_34)) s_a0))) (s_ecv (ve_Dk_word (by decide) (by decide)) dc_Dk_word (by decide) lm_Tb_52 pd_Dk_word d_Tb_read_35)) (s_iast d_Tb_read_38)) (t_iinc d_Tb_read_39 (by decide) (by decide))) (al_1 (Or.inr ⟨-22, d_Tb_read_42, by decide⟩)) (by decide)
def lc_Tb_read_2 : jx_Cx := (cCmp rLt (eI 5) (eInt (nI 10)))
def lb_Tb_read_2 : jx_St := (sSeq (sSt 0 0 (eGf [5, 6, 7] 2 (eLda 4 (eGf [3] 2 (eA 2)) (eI 3))) (eI 5) (eCl (jx_ev tb_Dk_word) [(eA 0), (eI 1), (eBin oAdd (eBin oAdd (eInt (nI 9)) (eBin oMul (eInt (nI 10)) (eI 3))) (eI 5))])) (sInc 5 (nI 1)))
theorem ml_Tb_read_2 : jx_Ts z_Tb_read 99 (sWh 64 lc_Tb_read_2 lb_Tb_read_2) [139] := by
  unfold lc_Tb_read_2 lb_Tb_read_2
  exact t_wh (EA := [136]) (Fs := [139]) (E := [139]) 64 (s_cmp (s_iload d_Tb_read_99) (s_bipush d_Tb_read_101 (by decide)) (s_icmp_geF (tgt := 139) d_Tb_read_103 (by decide))) (by decide) (t_seq (t_st (s_getf (s_loada (s_getf (s_aload_n d_Tb_read_106 rfl) fi_Tb_17 d_Tb_read_107) (s_iload_n d_Tb_read_110 rfl) (s_aald (Or.inr rfl) d_Tb_read_111)) fi_Tb_46 d_Tb_read_112) (s_iload d_Tb_read_115) (s_cl (s_a1 (s_aload_n d_Tb_read_117 rfl) (s_a1 (s_iload_n d_Tb_read_118 rfl) (s_a1 (s_bin (s_bin (s_bipush d_Tb_read_119 (by decide)) (s_bin (s_bipush d_Tb_read_121 (by decide)) (s_iload_n d_Tb_read_123 rfl) (s_imul d_Tb_read_124)) (s_iadd d_Tb_read_125)) (s_iload d_Tb_read_126) (s_iadd d_Tb_read_128)) s_a0))) (s_ecv (ve_Dk_word (by decide) (by decide)) dc_Dk_word (by decide) lm_Tb_52 pd_Dk_word d_Tb_read_129)) (s_iast d_Tb_read_132)) (t_iinc d_Tb_read_133 (by decide) (by decide))) (al_1 (Or.inr ⟨-37, d_Tb_read_136, by decide⟩)) (by decide)
def lc_Tb_read_1 : jx_Cx := (cCmp rLt (eI 3) (eInt (nI 4)))
def lb_Tb_read_1 : jx_St := (sSeq (sAsg 0 4 (eCl (jx_ev tb_Dk_word) [(eA 0), (eI 1), (eBin oAdd (eInt (nI 5)) (eI 3))])) (sSeq (sIf (cCmp0 rEq (eI 4)) sSkip (sSeq (sSta 4 [5, 6, 7] (eGf [3] 2 (eA 2)) (eI 3) (eCl (jx_ec f_Vo_of) [(eBin oSub (eBin oAnd (eI 4) (eInt (nI 3))) (eInt (nI 1))), (eBin oAnd (eBin oShr (eI 4) (eInt (nI 2))) (eInt (nI 7))), (eBin oShr (eI 4) (eInt (nI 5)))])) (sSeq (sAsg 0 5 (eInt (nI 0))) (sWh 64 lc_Tb_read_2 lb_Tb_read_2)))) (sInc 3 (nI 1))))
theorem ml_Tb_read_1 : jx_Ts z_Tb_read 47 (sWh 64 lc_Tb_read_1 lb_Tb_read_1) [145] := by
  unfold lc_Tb_read_1 lb_Tb_read_1
  exact t_wh (EA := [142]) (Fs := [145]) (E := [145]) 64 (s_cmp (s_iload_n d_Tb_read_47 rfl) (s_iconst d_Tb_read_48 (by decide)) (s_icmp_geF (tgt := 145) d_Tb_read_49 (by decide))) (by decide) (t_seq (t_asg (s_cl (s_a1 (s_aload_n d_Tb_read_52 rfl) (s_a1 (s_iload_n d_Tb_read_53 rfl) (s_a1 (s_bin (s_iconst d_Tb_read_54 (by decide)) (s_iload_n d_Tb_read_55 rfl) (s_iadd d_Tb_read_56)) s_a0))) (s_ecv (ve_Dk_word (by decide) (by decide)) dc_Dk_word (by decide) lm_Tb_52 pd_Dk_word d_Tb_read_57)) (fun v k h => b_istore d_Tb_read_60 (by decide) h)) (t_seq (t_ifg (E := [139]) (s_cmp0 (s_iload d_Tb_read_62) (s_if_neF (tgt := 70) d_Tb_read_64 (by decide))) (by decide) (al_1 (t_goto (q := 67) (tgt := 139) (E := [139]) (t_skip (by decide)) d_Tb_read_67 (by decide) (by decide))) (al_1 (t_seq (t_sta (s_getf (s_aload_n d_Tb_read_70 rfl) fi_Tb_17 d_Tb_read_71) (s_iload_n d_Tb_read_74 rfl) (s_cl (s_a1 (s_bin (s_bin (s_iload d_Tb_read_75) (s_iconst d_Tb_read_77 (by decide)) (s_iand d_Tb_read_78)) (s_iconst d_Tb_read_79 (by decide)) (s_isub d_Tb_read_80)) (s_a1 (s_bin (s_bin (s_iload d_Tb_read_81) (s_iconst d_Tb_read_83 (by decide)) (s_ishr d_Tb_read_84)) (s_bipush d_Tb_read_85 (by decide)) (s_iand d_Tb_read_87)) (s_a1 (s_bin (s_iload d_Tb_read_88) (s_iconst d_Tb_read_90 (by decide)) (s_ishr d_Tb_read_91)) s_a0))) (s_ecs me_Vo_of mw_Vo_of (by decide) (by decide) (by decide) lm_Tb_42 w_st_Vo_of w_in_Vo pd_Vo_of d_Tb_read_92)) (s_aast (E := "ExtentShelf$Volume") ⟨Or.inr rfl, rfl⟩ (al_3 ⟨R_Linear, F_Linear, 3, rfl, Or.inr (by decide +kernel)⟩ ⟨R_Striped, F_Striped, 3, rfl, Or.inr (by decide +kernel)⟩ ⟨R_Twinned, F_Twinned, 3, rfl, Or.inr (by decide +kernel)⟩) d_Tb_read_95)) (t_seq (t_asg (s_iconst d_Tb_read_96 (by decide)) (fun v k h => b_istore d_Tb_read_97 (by decide) h)) ml_Tb_read_2)))) (t_iinc d_Tb_read_139 (by decide) (by decide)))) (al_1 (Or.inr ⟨-95, d_Tb_read_142, by decide⟩)) (by decide)
def bd_Tb_read : jx_St := (sSeq (sAsg 2 2 (eNew 3 3 [.int 0, .null, .null] f_Tb_init [])) (sSeq (sPf [3] 0 0 (eA 2) (eCl (jx_ev tb_Dk_word) [(eA 0), (eI 1), (eInt (nI 0))])) (sSeq (sSeq (sAsg 0 3 (eInt (nI 0))) (sWh 64 lc_Tb_read_0 lb_Tb_read_0)) (sSeq (sSeq (sAsg 0 3 (eInt (nI 0))) (sWh 64 lc_Tb_read_1 lb_Tb_read_1)) (sRet 2 (eA 2))))))
theorem m_Tb_read : jx_Ts z_Tb_read 0 bd_Tb_read [] := by
  unfold bd_Tb_read
  exact (t_seq (t_asg (s_newi (s_new (C := R_Table) (T := F_Table) rfl t_Table_ok (by decide +kernel) (by decide +kernel) (by decide +kernel) (by decide +kernel) d_Tb_read_0) d_Tb_read_3 s_a0 (s_eci me_Tb_init mw_Tb_init rfl rfl (by decide) (by decide) (by decide) lm_Tb_21 (by decide +kernel) pd_Tb_init d_Tb_read_4)) (fun v k h => b_astore_n d_Tb_read_7 rfl (by decide) h)) (t_seq (t_pf (s_aload_n d_Tb_read_8 rfl) (s_cl (s_a1 (s_aload_n d_Tb_read_9 rfl) (s_a1 (s_iload_n d_Tb_read_10 rfl) (s_a1 (s_iconst d_Tb_read_11 (by decide)) s_a0))) (s_ecv (ve_Dk_word (by decide) (by decide)) dc_Dk_word (by decide) lm_Tb_52 pd_Dk_word d_Tb_read_12)) fi_Tb_22 rfl (Or.inl rfl) d_Tb_read_15) (t_seq (t_seq (t_asg (s_iconst d_Tb_read_18 (by decide)) (fun v k h => b_istore_n d_Tb_read_19 rfl (by decide) h)) ml_Tb_read_0) (t_seq (t_seq (t_asg (s_iconst d_Tb_read_45 (by decide)) (fun v k h => b_istore_n d_Tb_read_46 rfl (by decide) h)) ml_Tb_read_1) (t_reta (.object "ExtentShelf$Table") (s_aload_n d_Tb_read_145 rfl) rfl (Or.inl ⟨_, rfl⟩) d_Tb_read_146)))))
def f_Tb_read : jx_Mt := jx_fn 2 6 (bd_Tb_read fun _ _ => none)
theorem me_Tb_read : jx_Me 2 z_Tb_read f_Tb_read := jx_Me.ofT (by decide) m_Tb_read
theorem mw_Tb_read : jx_mw ⟨"ExtentShelf$Table", "read", "(LExtentShelf$Disk;I)LExtentShelf$Table;"⟩ z_Tb_read := ⟨rfl, rfl, by decide +kernel, ⟨by decide, by decide⟩, by decide +kernel⟩
theorem pd_Tb_read : (parseMethodDescriptor (⟨"ExtentShelf$Table", "read", "(LExtentShelf$Disk;I)LExtentShelf$Table;"⟩ : MethodName).desc).map (fun d => d.parameters.length) = some 2 := by decide +kernel
/-! ExtentShelf.choose()V -/
abbrev z_Sh_choose : jx_Z := ("ExtentShelf", "choose", prog_1_method_44_code, 6, none, 5, 151)
theorem d_Sh_choose_0 : decode z_Sh_choose.2.2.1 0 = .ok (.aload_n 0, 1) := by decide +kernel
theorem d_Sh_choose_1 : decode z_Sh_choose.2.2.1 1 = .ok (.new 25, 3) := by decide +kernel
theorem d_Sh_choose_4 : decode z_Sh_choose.2.2.1 4 = .ok (.dup, 1) := by decide +kernel
theorem d_Sh_choose_5 : decode z_Sh_choose.2.2.1 5 = .ok (.invokespecial 27, 3) := by decide +kernel
theorem d_Sh_choose_8 : decode z_Sh_choose.2.2.1 8 = .ok (.putfield 28, 3) := by decide +kernel
theorem d_Sh_choose_11 : decode z_Sh_choose.2.2.1 11 = .ok (.aload_n 0, 1) := by decide +kernel
theorem d_Sh_choose_12 : decode z_Sh_choose.2.2.1 12 = .ok (.getfield 12, 3) := by decide +kernel
theorem d_Sh_choose_15 : decode z_Sh_choose.2.2.1 15 = .ok (.astore_n 1, 1) := by decide +kernel
theorem d_Sh_choose_16 : decode z_Sh_choose.2.2.1 16 = .ok (.aload_n 1, 1) := by decide +kernel
theorem d_Sh_choose_17 : decode z_Sh_choose.2.2.1 17 = .ok (.arraylength, 1) := by decide +kernel
theorem d_Sh_choose_18 : decode z_Sh_choose.2.2.1 18 = .ok (.istore_n 2, 1) := by decide +kernel
theorem d_Sh_choose_19 : decode z_Sh_choose.2.2.1 19 = .ok (.iconst 0, 1) := by decide +kernel
theorem d_Sh_choose_20 : decode z_Sh_choose.2.2.1 20 = .ok (.istore_n 3, 1) := by decide +kernel
theorem d_Sh_choose_21 : decode z_Sh_choose.2.2.1 21 = .ok (.iload_n 3, 1) := by decide +kernel
theorem d_Sh_choose_22 : decode z_Sh_choose.2.2.1 22 = .ok (.iload_n 2, 1) := by decide +kernel
theorem d_Sh_choose_23 : decode z_Sh_choose.2.2.1 23 = .ok (.if_icmp .ge 65, 3) := by decide +kernel
theorem d_Sh_choose_26 : decode z_Sh_choose.2.2.1 26 = .ok (.aload_n 1, 1) := by decide +kernel
theorem d_Sh_choose_27 : decode z_Sh_choose.2.2.1 27 = .ok (.iload_n 3, 1) := by decide +kernel
theorem d_Sh_choose_28 : decode z_Sh_choose.2.2.1 28 = .ok (.aaload, 1) := by decide +kernel
theorem d_Sh_choose_29 : decode z_Sh_choose.2.2.1 29 = .ok (.astore 4, 2) := by decide +kernel
theorem d_Sh_choose_31 : decode z_Sh_choose.2.2.1 31 = .ok (.iconst 0, 1) := by decide +kernel
theorem d_Sh_choose_32 : decode z_Sh_choose.2.2.1 32 = .ok (.istore 5, 2) := by decide +kernel
theorem d_Sh_choose_34 : decode z_Sh_choose.2.2.1 34 = .ok (.iload 5, 2) := by decide +kernel
theorem d_Sh_choose_36 : decode z_Sh_choose.2.2.1 36 = .ok (.iconst 2, 1) := by decide +kernel
theorem d_Sh_choose_37 : decode z_Sh_choose.2.2.1 37 = .ok (.if_icmp .ge 45, 3) := by decide +kernel
theorem d_Sh_choose_40 : decode z_Sh_choose.2.2.1 40 = .ok (.aload 4, 2) := by decide +kernel
theorem d_Sh_choose_42 : decode z_Sh_choose.2.2.1 42 = .ok (.getfield 68, 3) := by decide +kernel
theorem d_Sh_choose_45 : decode z_Sh_choose.2.2.1 45 = .ok (.ifCond .eq 31, 3) := by decide +kernel
theorem d_Sh_choose_48 : decode z_Sh_choose.2.2.1 48 = .ok (.aload 4, 2) := by decide +kernel
theorem d_Sh_choose_50 : decode z_Sh_choose.2.2.1 50 = .ok (.iload 5, 2) := by decide +kernel
theorem d_Sh_choose_52 : decode z_Sh_choose.2.2.1 52 = .ok (.invokevirtual 256, 3) := by decide +kernel
theorem d_Sh_choose_55 : decode z_Sh_choose.2.2.1 55 = .ok (.aload_n 0, 1) := by decide +kernel
theorem d_Sh_choose_56 : decode z_Sh_choose.2.2.1 56 = .ok (.getfield 28, 3) := by decide +kernel
theorem d_Sh_choose_59 : decode z_Sh_choose.2.2.1 59 = .ok (.getfield 92, 3) := by decide +kernel
theorem d_Sh_choose_62 : decode z_Sh_choose.2.2.1 62 = .ok (.if_icmp .le 14, 3) := by decide +kernel
theorem d_Sh_choose_65 : decode z_Sh_choose.2.2.1 65 = .ok (.aload_n 0, 1) := by decide +kernel
theorem d_Sh_choose_66 : decode z_Sh_choose.2.2.1 66 = .ok (.aload 4, 2) := by decide +kernel
theorem d_Sh_choose_68 : decode z_Sh_choose.2.2.1 68 = .ok (.iload 5, 2) := by decide +kernel
theorem d_Sh_choose_70 : decode z_Sh_choose.2.2.1 70 = .ok (.invokestatic 259, 3) := by decide +kernel
theorem d_Sh_choose_73 : decode z_Sh_choose.2.2.1 73 = .ok (.putfield 28, 3) := by decide +kernel
theorem d_Sh_choose_76 : decode z_Sh_choose.2.2.1 76 = .ok (.iinc 5 1, 3) := by decide +kernel
theorem d_Sh_choose_79 : decode z_Sh_choose.2.2.1 79 = .ok (.goto (-45), 3) := by decide +kernel
theorem d_Sh_choose_82 : decode z_Sh_choose.2.2.1 82 = .ok (.iinc 3 1, 3) := by decide +kernel
theorem d_Sh_choose_85 : decode z_Sh_choose.2.2.1 85 = .ok (.goto (-64), 3) := by decide +kernel
theorem d_Sh_choose_88 : decode z_Sh_choose.2.2.1 88 = .ok (.return_, 1) := by decide +kernel
def lc_Sh_choose_1 : jx_Cx := (cCmp rLt (eI 5) (eInt (nI 2)))
def lb_Sh_choose_1 : jx_St := (sSeq (sIf (cAnd (cCmp0 rNe (eGf [1] 3 (eA 4))) (cCmp rGt (eCl (jx_ev tb_Dk_numberOf) [(eA 4), (eI 5)]) (eGf [3] 0 (eGf [0] 2 (eA 0))))) (sPf [0] 2 2 (eA 0) (eCl (jx_ec f_Tb_read) [(eA 4), (eI 5)])) sSkip) (sInc 5 (nI 1)))
theorem ml_Sh_choose_1 : jx_Ts z_Sh_choose 34 (sWh 64 lc_Sh_choose_1 lb_Sh_choose_1) [82] := by
  unfold lc_Sh_choose_1 lb_Sh_choose_1
  exact t_wh (EA := [79]) (Fs := [82]) (E := [82]) 64 (s_cmp (s_iload d_Sh_choose_34) (s_iconst d_Sh_choose_36 (by decide)) (s_icmp_geF (tgt := 82) d_Sh_choose_37 (by decide))) (by decide) (t_seq (t_if1 (Fs := [76]) (E := [76]) (s_andg (s_cmp0 (s_getf (s_aload d_Sh_choose_40) fi_Sh_68 d_Sh_choose_42) (s_if_eqF (tgt := 76) d_Sh_choose_45 (by decide))) (by decide) (al_1 (s_cmp (s_cl (s_a1 (s_aload d_Sh_choose_48) (s_a1 (s_iload d_Sh_choose_50) s_a0)) (s_ecv (ve_Dk_numberOf (by decide) (by decide)) dc_Dk_numberOf (by decide) lm_Sh_256 pd_Dk_numberOf d_Sh_choose_52)) (s_getf (s_getf (s_aload_n d_Sh_choose_55 rfl) fi_Sh_28 d_Sh_choose_56) fi_Sh_92 d_Sh_choose_59) (s_icmp_leF (tgt := 76) d_Sh_choose_62 (by decide))))) (by decide) (t_sub (E := [76]) (E' := [76]) (t_pf (s_aload_n d_Sh_choose_65 rfl) (s_cl (s_a1 (s_aload d_Sh_choose_66) (s_a1 (s_iload d_Sh_choose_68) s_a0)) (s_ecs me_Tb_read mw_Tb_read (by decide) (by decide) (by decide) lm_Sh_259 w_st_Tb_read w_in_Tb pd_Tb_read d_Sh_choose_70)) fi_Sh_28 rfl (Or.inl rfl) d_Sh_choose_73) (by decide)) (by decide)) (t_iinc d_Sh_choose_76 (by decide) (by decide))) (al_1 (Or.inr ⟨-45, d_Sh_choose_79, by decide⟩)) (by decide)
def lc_Sh_choose_0 : jx_Cx := (cCmp rLt (eI 3) (eI 2))
def lb_Sh_choose_0 : jx_St := (sSeq (sAsg 2 4 (eLda 3 (eA 1) (eI 3))) (sSeq (sSeq (sAsg 0 5 (eInt (nI 0))) (sWh 64 lc_Sh_choose_1 lb_Sh_choose_1)) (sInc 3 (nI 1))))
theorem ml_Sh_choose_0 : jx_Ts z_Sh_choose 21 (sWh 64 lc_Sh_choose_0 lb_Sh_choose_0) [88] := by
  unfold lc_Sh_choose_0 lb_Sh_choose_0
  exact t_wh (EA := [85]) (Fs := [88]) (E := [88]) 64 (s_cmp (s_iload_n d_Sh_choose_21 rfl) (s_iload_n d_Sh_choose_22 rfl) (s_icmp_geF (tgt := 88) d_Sh_choose_23 (by decide))) (by decide) (t_seq (t_asg (s_loada (s_aload_n d_Sh_choose_26 rfl) (s_iload_n d_Sh_choose_27 rfl) (s_aald (Or.inl rfl) d_Sh_choose_28)) (fun v k h => b_astore d_Sh_choose_29 (by decide) h)) (t_seq (t_seq (t_asg (s_iconst d_Sh_choose_31 (by decide)) (fun v k h => b_istore d_Sh_choose_32 (by decide) h)) ml_Sh_choose_1) (t_iinc d_Sh_choose_82 (by decide) (by decide)))) (al_1 (Or.inr ⟨-64, d_Sh_choose_85, by decide⟩)) (by decide)
def bd_Sh_choose : jx_St := (sSeq (sSeq (sPf [0] 2 2 (eA 0) (eNew 3 3 [.int 0, .null, .null] f_Tb_init [])) (sSeq (sAsg 2 1 (eGf [0] 0 (eA 0))) (sSeq (sAsg 0 2 (eLen (eA 1))) (sSeq (sAsg 0 3 (eInt (nI 0))) (sWh 64 lc_Sh_choose_0 lb_Sh_choose_0))))) sRetV)
theorem m_Sh_choose : jx_Ts z_Sh_choose 0 bd_Sh_choose [] := by
  unfold bd_Sh_choose
  exact (t_seq (t_seq (t_pf (s_aload_n d_Sh_choose_0 rfl) (s_newi (s_new (C := R_Table) (T := F_Table) rfl t_Table_ok (by decide +kernel) (by decide +kernel) (by decide +kernel) (by decide +kernel) d_Sh_choose_1) d_Sh_choose_4 s_a0 (s_eci me_Tb_init mw_Tb_init rfl rfl (by decide) (by decide) (by decide) lm_Sh_27 (by decide +kernel) pd_Tb_init d_Sh_choose_5)) fi_Sh_28 rfl (Or.inl rfl) d_Sh_choose_8) (t_seq (t_asg (s_getf (s_aload_n d_Sh_choose_11 rfl) fi_Sh_12 d_Sh_choose_12) (fun v k h => b_astore_n d_Sh_choose_15 rfl (by decide) h)) (t_seq (t_asg (s_len (s_aload_n d_Sh_choose_16 rfl) d_Sh_choose_17) (fun v k h => b_istore_n d_Sh_choose_18 rfl (by decide) h)) (t_seq (t_asg (s_iconst d_Sh_choose_19 (by decide)) (fun v k h => b_istore_n d_Sh_choose_20 rfl (by decide) h)) ml_Sh_choose_0)))) (t_retv rfl d_Sh_choose_88))
def f_Sh_choose : jx_Mt := jx_fn 1 6 (bd_Sh_choose fun _ _ => none)
theorem me_Sh_choose : jx_Me 1 z_Sh_choose f_Sh_choose := jx_Me.ofT (by decide) m_Sh_choose
theorem mw_Sh_choose : jx_mw ⟨"ExtentShelf", "choose", "()V"⟩ z_Sh_choose := ⟨rfl, rfl, by decide +kernel, ⟨by decide, by decide⟩, by decide +kernel⟩
theorem pd_Sh_choose : (parseMethodDescriptor (⟨"ExtentShelf", "choose", "()V"⟩ : MethodName).desc).map (fun d => d.parameters.length) = some 0 := by decide +kernel
abbrev tb_Sh_choose : List (Nat × jx_Mt) := [(0, f_Sh_choose)]
theorem ve_Sh_choose {fr lo : Nat} (h1 : 6 ≤ fr) (h2 : 184 ≤ lo) : ∀ q ∈ tb_Sh_choose, jx_ve ⟨"ExtentShelf", "choose", "()V"⟩ 0 fr lo q.1 q.2 := tv_1 ⟨R_Shelf, F_Shelf, 5, ⟨"ExtentShelf", "choose", "()V"⟩, z_Sh_choose, rfl, by decide +kernel, mw_Sh_choose, by decide +kernel, me_Sh_choose, Nat.le_trans (by decide) h1, Nat.le_trans (by decide) h2⟩
theorem dc_Sh_choose : jx_dc ⟨"ExtentShelf", "choose", "()V"⟩ := ⟨⟨by decide, by decide⟩, Or.inr ⟨by decide +kernel, prog_1_method_44_code, 6, _, (by decide +kernel : Cond.code ⟨"ExtentShelf", "choose", "()V"⟩ prog_1_method_44_code 6 none ∈ jx_tbl)⟩, "ExtentShelf", ⟨"ExtentShelf", "choose", "()V"⟩, ⟨"ExtentShelf", "choose", "()V"⟩, by decide +kernel, rfl⟩
/-! ExtentShelf.alike(II)V -/
abbrev z_Sh_alike : jx_Z := ("ExtentShelf", "alike", prog_1_method_46_code, 4, none, 8, 162)
theorem d_Sh_alike_0 : decode z_Sh_alike.2.2.1 0 = .ok (.iconst 0, 1) := by decide +kernel
theorem d_Sh_alike_1 : decode z_Sh_alike.2.2.1 1 = .ok (.istore_n 3, 1) := by decide +kernel
theorem d_Sh_alike_2 : decode z_Sh_alike.2.2.1 2 = .ok (.iload_n 3, 1) := by decide +kernel
theorem d_Sh_alike_3 : decode z_Sh_alike.2.2.1 3 = .ok (.iconst 4, 1) := by decide +kernel
theorem d_Sh_alike_4 : decode z_Sh_alike.2.2.1 4 = .ok (.if_icmp .ge 52, 3) := by decide +kernel
theorem d_Sh_alike_7 : decode z_Sh_alike.2.2.1 7 = .ok (.aload_n 0, 1) := by decide +kernel
theorem d_Sh_alike_8 : decode z_Sh_alike.2.2.1 8 = .ok (.iload_n 1, 1) := by decide +kernel
theorem d_Sh_alike_9 : decode z_Sh_alike.2.2.1 9 = .ok (.invokevirtual 222, 3) := by decide +kernel
theorem d_Sh_alike_12 : decode z_Sh_alike.2.2.1 12 = .ok (.ifCond .eq 44, 3) := by decide +kernel
theorem d_Sh_alike_15 : decode z_Sh_alike.2.2.1 15 = .ok (.aload_n 0, 1) := by decide +kernel
theorem d_Sh_alike_16 : decode z_Sh_alike.2.2.1 16 = .ok (.iload_n 2, 1) := by decide +kernel
theorem d_Sh_alike_17 : decode z_Sh_alike.2.2.1 17 = .ok (.invokevirtual 222, 3) := by decide +kernel
theorem d_Sh_alike_20 : decode z_Sh_alike.2.2.1 20 = .ok (.ifCond .eq 36, 3) := by decide +kernel
theorem d_Sh_alike_23 : decode z_Sh_alike.2.2.1 23 = .ok (.aload_n 0, 1) := by decide +kernel
theorem d_Sh_alike_24 : decode z_Sh_alike.2.2.1 24 = .ok (.iload_n 1, 1) := by decide +kernel
theorem d_Sh_alike_25 : decode z_Sh_alike.2.2.1 25 = .ok (.iload_n 3, 1) := by decide +kernel
theorem d_Sh_alike_26 : decode z_Sh_alike.2.2.1 26 = .ok (.invokevirtual 209, 3) := by decide +kernel
theorem d_Sh_alike_29 : decode z_Sh_alike.2.2.1 29 = .ok (.aload_n 0, 1) := by decide +kernel
theorem d_Sh_alike_30 : decode z_Sh_alike.2.2.1 30 = .ok (.iload_n 2, 1) := by decide +kernel
theorem d_Sh_alike_31 : decode z_Sh_alike.2.2.1 31 = .ok (.iload_n 3, 1) := by decide +kernel
theorem d_Sh_alike_32 : decode z_Sh_alike.2.2.1 32 = .ok (.invokevirtual 209, 3) := by decide +kernel
theorem d_Sh_alike_35 : decode z_Sh_alike.2.2.1 35 = .ok (.if_icmp .eq 15, 3) := by decide +kernel
theorem d_Sh_alike_38 : decode z_Sh_alike.2.2.1 38 = .ok (.aload_n 0, 1) := by decide +kernel
theorem d_Sh_alike_39 : decode z_Sh_alike.2.2.1 39 = .ok (.iload_n 2, 1) := by decide +kernel
theorem d_Sh_alike_40 : decode z_Sh_alike.2.2.1 40 = .ok (.iload_n 3, 1) := by decide +kernel
theorem d_Sh_alike_41 : decode z_Sh_alike.2.2.1 41 = .ok (.aload_n 0, 1) := by decide +kernel
theorem d_Sh_alike_42 : decode z_Sh_alike.2.2.1 42 = .ok (.iload_n 1, 1) := by decide +kernel
theorem d_Sh_alike_43 : decode z_Sh_alike.2.2.1 43 = .ok (.iload_n 3, 1) := by decide +kernel
theorem d_Sh_alike_44 : decode z_Sh_alike.2.2.1 44 = .ok (.invokevirtual 209, 3) := by decide +kernel
theorem d_Sh_alike_47 : decode z_Sh_alike.2.2.1 47 = .ok (.invokevirtual 168, 3) := by decide +kernel
theorem d_Sh_alike_50 : decode z_Sh_alike.2.2.1 50 = .ok (.iinc 3 1, 3) := by decide +kernel
theorem d_Sh_alike_53 : decode z_Sh_alike.2.2.1 53 = .ok (.goto (-51), 3) := by decide +kernel
theorem d_Sh_alike_56 : decode z_Sh_alike.2.2.1 56 = .ok (.return_, 1) := by decide +kernel
def lc_Sh_alike_0 : jx_Cx := (cAnd (cAnd (cCmp rLt (eI 3) (eInt (nI 4))) (cCmp0 rNe (eCl (jx_ev tb_Sh_isReadable) [(eA 0), (eI 1)]))) (cCmp0 rNe (eCl (jx_ev tb_Sh_isReadable) [(eA 0), (eI 2)])))
def lb_Sh_alike_0 : jx_St := (sSeq (sIf (cCmp rNe (eCl (jx_ev tb_Sh_get) [(eA 0), (eI 1), (eI 3)]) (eCl (jx_ev tb_Sh_get) [(eA 0), (eI 2), (eI 3)])) (sCl (jx_ev tb_Sh_put) [(eA 0), (eI 2), (eI 3), (eCl (jx_ev tb_Sh_get) [(eA 0), (eI 1), (eI 3)])]) sSkip) (sInc 3 (nI 1)))
theorem ml_Sh_alike_0 : jx_Ts z_Sh_alike 2 (sWh 64 lc_Sh_alike_0 lb_Sh_alike_0) [56] := by
  unfold lc_Sh_alike_0 lb_Sh_alike_0
  exact t_wh (EA := [53]) (Fs := [56]) (E := [56]) 64 (s_andg (s_andg (s_cmp (s_iload_n d_Sh_alike_2 rfl) (s_iconst d_Sh_alike_3 (by decide)) (s_icmp_geF (tgt := 56) d_Sh_alike_4 (by decide))) (by decide) (al_1 (s_cmp0 (s_cl (s_a1 (s_aload_n d_Sh_alike_7 rfl) (s_a1 (s_iload_n d_Sh_alike_8 rfl) s_a0)) (s_ecv (ve_Sh_isReadable (by decide) (by decide)) dc_Sh_isReadable (by decide) lm_Sh_222 pd_Sh_isReadable d_Sh_alike_9)) (s_if_eqF (tgt := 56) d_Sh_alike_12 (by decide))))) (by decide) (al_1 (s_cmp0 (s_cl (s_a1 (s_aload_n d_Sh_alike_15 rfl) (s_a1 (s_iload_n d_Sh_alike_16 rfl) s_a0)) (s_ecv (ve_Sh_isReadable (by decide) (by decide)) dc_Sh_isReadable (by decide) lm_Sh_222 pd_Sh_isReadable d_Sh_alike_17)) (s_if_eqF (tgt := 56) d_Sh_alike_20 (by decide))))) (by decide) (t_seq (t_if1 (Fs := [50]) (E := [50]) (s_cmp (s_cl (s_a1 (s_aload_n d_Sh_alike_23 rfl) (s_a1 (s_iload_n d_Sh_alike_24 rfl) (s_a1 (s_iload_n d_Sh_alike_25 rfl) s_a0))) (s_ecv (ve_Sh_get (by decide) (by decide)) dc_Sh_get (by decide) lm_Sh_209 pd_Sh_get d_Sh_alike_26)) (s_cl (s_a1 (s_aload_n d_Sh_alike_29 rfl) (s_a1 (s_iload_n d_Sh_alike_30 rfl) (s_a1 (s_iload_n d_Sh_alike_31 rfl) s_a0))) (s_ecv (ve_Sh_get (by decide) (by decide)) dc_Sh_get (by decide) lm_Sh_209 pd_Sh_get d_Sh_alike_32)) (s_icmp_eqF (tgt := 50) d_Sh_alike_35 (by decide))) (by decide) (t_sub (E := [50]) (E' := [50]) (t_cl (s_a1 (s_aload_n d_Sh_alike_38 rfl) (s_a1 (s_iload_n d_Sh_alike_39 rfl) (s_a1 (s_iload_n d_Sh_alike_40 rfl) (s_a1 (s_cl (s_a1 (s_aload_n d_Sh_alike_41 rfl) (s_a1 (s_iload_n d_Sh_alike_42 rfl) (s_a1 (s_iload_n d_Sh_alike_43 rfl) s_a0))) (s_ecv (ve_Sh_get (by decide) (by decide)) dc_Sh_get (by decide) lm_Sh_209 pd_Sh_get d_Sh_alike_44)) s_a0)))) (s_ecv (ve_Sh_put (by decide) (by decide)) dc_Sh_put (by decide) lm_Sh_168 pd_Sh_put d_Sh_alike_47)) (by decide)) (by decide)) (t_iinc d_Sh_alike_50 (by decide) (by decide))) (al_1 (Or.inr ⟨-51, d_Sh_alike_53, by decide⟩)) (by decide)
def bd_Sh_alike : jx_St := (sSeq (sSeq (sAsg 0 3 (eInt (nI 0))) (sWh 64 lc_Sh_alike_0 lb_Sh_alike_0)) sRetV)
theorem m_Sh_alike : jx_Ts z_Sh_alike 0 bd_Sh_alike [] := by
  unfold bd_Sh_alike
  exact (t_seq (t_seq (t_asg (s_iconst d_Sh_alike_0 (by decide)) (fun v k h => b_istore_n d_Sh_alike_1 rfl (by decide) h)) ml_Sh_alike_0) (t_retv rfl d_Sh_alike_56))
def f_Sh_alike : jx_Mt := jx_fn 3 4 (bd_Sh_alike fun _ _ => none)
theorem me_Sh_alike : jx_Me 3 z_Sh_alike f_Sh_alike := jx_Me.ofT (by decide) m_Sh_alike
theorem mw_Sh_alike : jx_mw ⟨"ExtentShelf", "alike", "(II)V"⟩ z_Sh_alike := ⟨rfl, rfl, by decide +kernel, ⟨by decide, by decide⟩, by decide +kernel⟩
theorem pd_Sh_alike : (parseMethodDescriptor (⟨"ExtentShelf", "alike", "(II)V"⟩ : MethodName).desc).map (fun d => d.parameters.length) = some 2 := by decide +kernel
abbrev tb_Sh_alike : List (Nat × jx_Mt) := [(0, f_Sh_alike)]
theorem ve_Sh_alike {fr lo : Nat} (h1 : 9 ≤ fr) (h2 : 193 ≤ lo) : ∀ q ∈ tb_Sh_alike, jx_ve ⟨"ExtentShelf", "alike", "(II)V"⟩ 2 fr lo q.1 q.2 := tv_1 ⟨R_Shelf, F_Shelf, 5, ⟨"ExtentShelf", "alike", "(II)V"⟩, z_Sh_alike, rfl, by decide +kernel, mw_Sh_alike, by decide +kernel, me_Sh_alike, Nat.le_trans (by decide) h1, Nat.le_trans (by decide) h2⟩
theorem dc_Sh_alike : jx_dc ⟨"ExtentShelf", "alike", "(II)V"⟩ := ⟨⟨by decide, by decide⟩, Or.inr ⟨by decide +kernel, prog_1_method_46_code, 4, _, (by decide +kernel : Cond.code ⟨"ExtentShelf", "alike", "(II)V"⟩ prog_1_method_46_code 4 none ∈ jx_tbl)⟩, "ExtentShelf", ⟨"ExtentShelf", "alike", "(II)V"⟩, ⟨"ExtentShelf", "alike", "(II)V"⟩, by decide +kernel, rfl⟩
/-! ExtentShelf.start()I -/
abbrev z_Sh_start : jx_Z := ("ExtentShelf", "start", prog_1_method_45_code, 7, some .int, 9, 193)
theorem d_Sh_start_0 : decode z_Sh_start.2.2.1 0 = .ok (.aload_n 0, 1) := by decide +kernel
theorem d_Sh_start_1 : decode z_Sh_start.2.2.1 1 = .ok (.getfield 21, 3) := by decide +kernel
theorem d_Sh_start_4 : decode z_Sh_start.2.2.1 4 = .ok (.getfield 36, 3) := by decide +kernel
theorem d_Sh_start_7 : decode z_Sh_start.2.2.1 7 = .ok (.ifCond .eq 13, 3) := by decide +kernel
theorem d_Sh_start_10 : decode z_Sh_start.2.2.1 10 = .ok (.new 40, 3) := by decide +kernel
theorem d_Sh_start_13 : decode z_Sh_start.2.2.1 13 = .ok (.dup, 1) := by decide +kernel
theorem d_Sh_start_14 : decode z_Sh_start.2.2.1 14 = .ok (.ldc 254, 2) := by decide +kernel
theorem d_Sh_start_16 : decode z_Sh_start.2.2.1 16 = .ok (.invokespecial 44, 3) := by decide +kernel
theorem d_Sh_start_19 : decode z_Sh_start.2.2.1 19 = .ok (.athrow, 1) := by decide +kernel
theorem d_Sh_start_20 : decode z_Sh_start.2.2.1 20 = .ok (.aload_n 0, 1) := by decide +kernel
theorem d_Sh_start_21 : decode z_Sh_start.2.2.1 21 = .ok (.getfield 21, 3) := by decide +kernel
theorem d_Sh_start_24 : decode z_Sh_start.2.2.1 24 = .ok (.iconst 1, 1) := by decide +kernel
theorem d_Sh_start_25 : decode z_Sh_start.2.2.1 25 = .ok (.putfield 36, 3) := by decide +kernel
theorem d_Sh_start_28 : decode z_Sh_start.2.2.1 28 = .ok (.aload_n 0, 1) := by decide +kernel
theorem d_Sh_start_29 : decode z_Sh_start.2.2.1 29 = .ok (.aconst_null, 1) := by decide +kernel
theorem d_Sh_start_30 : decode z_Sh_start.2.2.1 30 = .ok (.putfield 108, 3) := by decide +kernel
theorem d_Sh_start_33 : decode z_Sh_start.2.2.1 33 = .ok (.aload_n 0, 1) := by decide +kernel
theorem d_Sh_start_34 : decode z_Sh_start.2.2.1 34 = .ok (.invokevirtual 263, 3) := by decide +kernel
theorem d_Sh_start_37 : decode z_Sh_start.2.2.1 37 = .ok (.aload_n 0, 1) := by decide +kernel
theorem d_Sh_start_38 : decode z_Sh_start.2.2.1 38 = .ok (.getfield 28, 3) := by decide +kernel
theorem d_Sh_start_41 : decode z_Sh_start.2.2.1 41 = .ok (.aload_n 0, 1) := by decide +kernel
theorem d_Sh_start_42 : decode z_Sh_start.2.2.1 42 = .ok (.getfield 32, 3) := by decide +kernel
theorem d_Sh_start_45 : decode z_Sh_start.2.2.1 45 = .ok (.invokevirtual 97, 3) := by decide +kernel
theorem d_Sh_start_48 : decode z_Sh_start.2.2.1 48 = .ok (.aload_n 0, 1) := by decide +kernel
theorem d_Sh_start_49 : decode z_Sh_start.2.2.1 49 = .ok (.getfield 12, 3) := by decide +kernel
theorem d_Sh_start_52 : decode z_Sh_start.2.2.1 52 = .ok (.astore_n 1, 1) := by decide +kernel
theorem d_Sh_start_53 : decode z_Sh_start.2.2.1 53 = .ok (.aload_n 1, 1) := by decide +kernel
theorem d_Sh_start_54 : decode z_Sh_start.2.2.1 54 = .ok (.arraylength, 1) := by decide +kernel
theorem d_Sh_start_55 : decode z_Sh_start.2.2.1 55 = .ok (.istore_n 2, 1) := by decide +kernel
theorem d_Sh_start_56 : decode z_Sh_start.2.2.1 56 = .ok (.iconst 0, 1) := by decide +kernel
theorem d_Sh_start_57 : decode z_Sh_start.2.2.1 57 = .ok (.istore_n 3, 1) := by decide +kernel
theorem d_Sh_start_58 : decode z_Sh_start.2.2.1 58 = .ok (.iload_n 3, 1) := by decide +kernel
theorem d_Sh_start_59 : decode z_Sh_start.2.2.1 59 = .ok (.iload_n 2, 1) := by decide +kernel
theorem d_Sh_start_60 : decode z_Sh_start.2.2.1 60 = .ok (.if_icmp .ge 119, 3) := by decide +kernel
theorem d_Sh_start_63 : decode z_Sh_start.2.2.1 63 = .ok (.aload_n 1, 1) := by decide +kernel
theorem d_Sh_start_64 : decode z_Sh_start.2.2.1 64 = .ok (.iload_n 3, 1) := by decide +kernel
theorem d_Sh_start_65 : decode z_Sh_start.2.2.1 65 = .ok (.aaload, 1) := by decide +kernel
theorem d_Sh_start_66 : decode z_Sh_start.2.2.1 66 = .ok (.astore 4, 2) := by decide +kernel
theorem d_Sh_start_68 : decode z_Sh_start.2.2.1 68 = .ok (.aload_n 0, 1) := by decide +kernel
theorem d_Sh_start_69 : decode z_Sh_start.2.2.1 69 = .ok (.aload 4, 2) := by decide +kernel
theorem d_Sh_start_71 : decode z_Sh_start.2.2.1 71 = .ok (.getfield 60, 3) := by decide +kernel
theorem d_Sh_start_74 : decode z_Sh_start.2.2.1 74 = .ok (.invokevirtual 64, 3) := by decide +kernel
theorem d_Sh_start_77 : decode z_Sh_start.2.2.1 77 = .ok (.ifCond .eq 96, 3) := by decide +kernel
theorem d_Sh_start_80 : decode z_Sh_start.2.2.1 80 = .ok (.aload 4, 2) := by decide +kernel
theorem d_Sh_start_82 : decode z_Sh_start.2.2.1 82 = .ok (.getfield 68, 3) := by decide +kernel
theorem d_Sh_start_85 : decode z_Sh_start.2.2.1 85 = .ok (.ifCond .eq 88, 3) := by decide +kernel
theorem d_Sh_start_88 : decode z_Sh_start.2.2.1 88 = .ok (.aload 4, 2) := by decide +kernel
theorem d_Sh_start_90 : decode z_Sh_start.2.2.1 90 = .ok (.iconst 0, 1) := by decide +kernel
theorem d_Sh_start_91 : decode z_Sh_start.2.2.1 91 = .ok (.invokevirtual 256, 3) := by decide +kernel
theorem d_Sh_start_94 : decode z_Sh_start.2.2.1 94 = .ok (.aload_n 0, 1) := by decide +kernel
theorem d_Sh_start_95 : decode z_Sh_start.2.2.1 95 = .ok (.getfield 28, 3) := by decide +kernel
theorem d_Sh_start_98 : decode z_Sh_start.2.2.1 98 = .ok (.getfield 92, 3) := by decide +kernel
theorem d_Sh_start_101 : decode z_Sh_start.2.2.1 101 = .ok (.if_icmp .eq 72, 3) := by decide +kernel
theorem d_Sh_start_104 : decode z_Sh_start.2.2.1 104 = .ok (.aload 4, 2) := by decide +kernel
theorem d_Sh_start_106 : decode z_Sh_start.2.2.1 106 = .ok (.iconst 1, 1) := by decide +kernel
theorem d_Sh_start_107 : decode z_Sh_start.2.2.1 107 = .ok (.invokevirtual 256, 3) := by decide +kernel
theorem d_Sh_start_110 : decode z_Sh_start.2.2.1 110 = .ok (.aload_n 0, 1) := by decide +kernel
theorem d_Sh_start_111 : decode z_Sh_start.2.2.1 111 = .ok (.getfield 28, 3) := by decide +kernel
theorem d_Sh_start_114 : decode z_Sh_start.2.2.1 114 = .ok (.getfield 92, 3) := by decide +kernel
theorem d_Sh_start_117 : decode z_Sh_start.2.2.1 117 = .ok (.if_icmp .ne 6, 3) := by decide +kernel
theorem d_Sh_start_120 : decode z_Sh_start.2.2.1 120 = .ok (.goto 53, 3) := by decide +kernel
theorem d_Sh_start_123 : decode z_Sh_start.2.2.1 123 = .ok (.bipush 51, 2) := by decide +kernel
theorem d_Sh_start_125 : decode z_Sh_start.2.2.1 125 = .ok (.aload 4, 2) := by decide +kernel
theorem d_Sh_start_127 : decode z_Sh_start.2.2.1 127 = .ok (.invokevirtual 101, 3) := by decide +kernel
theorem d_Sh_start_130 : decode z_Sh_start.2.2.1 130 = .ok (.imul, 1) := by decide +kernel
theorem d_Sh_start_131 : decode z_Sh_start.2.2.1 131 = .ok (.istore 5, 2) := by decide +kernel
theorem d_Sh_start_133 : decode z_Sh_start.2.2.1 133 = .ok (.iconst 0, 1) := by decide +kernel
theorem d_Sh_start_134 : decode z_Sh_start.2.2.1 134 = .ok (.istore 6, 2) := by decide +kernel
theorem d_Sh_start_136 : decode z_Sh_start.2.2.1 136 = .ok (.iload 6, 2) := by decide +kernel
theorem d_Sh_start_138 : decode z_Sh_start.2.2.1 138 = .ok (.bipush 51, 2) := by decide +kernel
theorem d_Sh_start_140 : decode z_Sh_start.2.2.1 140 = .ok (.if_icmp .ge 33, 3) := by decide +kernel
theorem d_Sh_start_143 : decode z_Sh_start.2.2.1 143 = .ok (.aload_n 0, 1) := by decide +kernel
theorem d_Sh_start_144 : decode z_Sh_start.2.2.1 144 = .ok (.getfield 21, 3) := by decide +kernel
theorem d_Sh_start_147 : decode z_Sh_start.2.2.1 147 = .ok (.aload 4, 2) := by decide +kernel
theorem d_Sh_start_149 : decode z_Sh_start.2.2.1 149 = .ok (.getfield 105, 3) := by decide +kernel
theorem d_Sh_start_152 : decode z_Sh_start.2.2.1 152 = .ok (.iload 5, 2) := by decide +kernel
theorem d_Sh_start_154 : decode z_Sh_start.2.2.1 154 = .ok (.iload 6, 2) := by decide +kernel
theorem d_Sh_start_156 : decode z_Sh_start.2.2.1 156 = .ok (.iadd, 1) := by decide +kernel
theorem d_Sh_start_157 : decode z_Sh_start.2.2.1 157 = .ok (.aload_n 0, 1) := by decide +kernel
theorem d_Sh_start_158 : decode z_Sh_start.2.2.1 158 = .ok (.getfield 32, 3) := by decide +kernel
theorem d_Sh_start_161 : decode z_Sh_start.2.2.1 161 = .ok (.iload 6, 2) := by decide +kernel
theorem d_Sh_start_163 : decode z_Sh_start.2.2.1 163 = .ok (.iaload, 1) := by decide +kernel
theorem d_Sh_start_164 : decode z_Sh_start.2.2.1 164 = .ok (.invokevirtual 88, 3) := by decide +kernel
theorem d_Sh_start_167 : decode z_Sh_start.2.2.1 167 = .ok (.iinc 6 1, 3) := by decide +kernel
theorem d_Sh_start_170 : decode z_Sh_start.2.2.1 170 = .ok (.goto (-34), 3) := by decide +kernel
theorem d_Sh_start_173 : decode z_Sh_start.2.2.1 173 = .ok (.iinc 3 1, 3) := by decide +kernel
theorem d_Sh_start_176 : decode z_Sh_start.2.2.1 176 = .ok (.goto (-118), 3) := by decide +kernel
theorem d_Sh_start_179 : decode z_Sh_start.2.2.1 179 = .ok (.aload_n 0, 1) := by decide +kernel
theorem d_Sh_start_180 : decode z_Sh_start.2.2.1 180 = .ok (.getfield 28, 3) := by decide +kernel
theorem d_Sh_start_183 : decode z_Sh_start.2.2.1 183 = .ok (.getfield 71, 3) := by decide +kernel
theorem d_Sh_start_186 : decode z_Sh_start.2.2.1 186 = .ok (.astore_n 1, 1) := by decide +kernel
theorem d_Sh_start_187 : decode z_Sh_start.2.2.1 187 = .ok (.aload_n 1, 1) := by decide +kernel
theorem d_Sh_start_188 : decode z_Sh_start.2.2.1 188 = .ok (.arraylength, 1) := by decide +kernel
theorem d_Sh_start_189 : decode z_Sh_start.2.2.1 189 = .ok (.istore_n 2, 1) := by decide +kernel
theorem d_Sh_start_190 : decode z_Sh_start.2.2.1 190 = .ok (.iconst 0, 1) := by decide +kernel
theorem d_Sh_start_191 : decode z_Sh_start.2.2.1 191 = .ok (.istore_n 3, 1) := by decide +kernel
theorem d_Sh_start_192 : decode z_Sh_start.2.2.1 192 = .ok (.iload_n 3, 1) := by decide +kernel
theorem d_Sh_start_193 : decode z_Sh_start.2.2.1 193 = .ok (.iload_n 2, 1) := by decide +kernel
theorem d_Sh_start_194 : decode z_Sh_start.2.2.1 194 = .ok (.if_icmp .ge 64, 3) := by decide +kernel
theorem d_Sh_start_197 : decode z_Sh_start.2.2.1 197 = .ok (.aload_n 1, 1) := by decide +kernel
theorem d_Sh_start_198 : decode z_Sh_start.2.2.1 198 = .ok (.iload_n 3, 1) := by decide +kernel
theorem d_Sh_start_199 : decode z_Sh_start.2.2.1 199 = .ok (.aaload, 1) := by decide +kernel
theorem d_Sh_start_200 : decode z_Sh_start.2.2.1 200 = .ok (.astore 4, 2) := by decide +kernel
theorem d_Sh_start_202 : decode z_Sh_start.2.2.1 202 = .ok (.iconst 0, 1) := by decide +kernel
theorem d_Sh_start_203 : decode z_Sh_start.2.2.1 203 = .ok (.istore 5, 2) := by decide +kernel
theorem d_Sh_start_205 : decode z_Sh_start.2.2.1 205 = .ok (.aload 4, 2) := by decide +kernel
theorem d_Sh_start_207 : decode z_Sh_start.2.2.1 207 = .ok (.ifnull 45, 3) := by decide +kernel
theorem d_Sh_start_210 : decode z_Sh_start.2.2.1 210 = .ok (.iload 5, 2) := by decide +kernel
theorem d_Sh_start_212 : decode z_Sh_start.2.2.1 212 = .ok (.aload 4, 2) := by decide +kernel
theorem d_Sh_start_214 : decode z_Sh_start.2.2.1 214 = .ok (.getfield 154, 3) := by decide +kernel
theorem d_Sh_start_217 : decode z_Sh_start.2.2.1 217 = .ok (.if_icmp .ge 35, 3) := by decide +kernel
theorem d_Sh_start_220 : decode z_Sh_start.2.2.1 220 = .ok (.aload_n 0, 1) := by decide +kernel
theorem d_Sh_start_221 : decode z_Sh_start.2.2.1 221 = .ok (.aload 4, 2) := by decide +kernel
theorem d_Sh_start_223 : decode z_Sh_start.2.2.1 223 = .ok (.getfield 120, 3) := by decide +kernel
theorem d_Sh_start_226 : decode z_Sh_start.2.2.1 226 = .ok (.iconst 2, 1) := by decide +kernel
theorem d_Sh_start_227 : decode z_Sh_start.2.2.1 227 = .ok (.iload 5, 2) := by decide +kernel
theorem d_Sh_start_229 : decode z_Sh_start.2.2.1 229 = .ok (.imul, 1) := by decide +kernel
theorem d_Sh_start_230 : decode z_Sh_start.2.2.1 230 = .ok (.iaload, 1) := by decide +kernel
theorem d_Sh_start_231 : decode z_Sh_start.2.2.1 231 = .ok (.aload 4, 2) := by decide +kernel
theorem d_Sh_start_233 : decode z_Sh_start.2.2.1 233 = .ok (.getfield 120, 3) := by decide +kernel
theorem d_Sh_start_236 : decode z_Sh_start.2.2.1 236 = .ok (.iconst 2, 1) := by decide +kernel
theorem d_Sh_start_237 : decode z_Sh_start.2.2.1 237 = .ok (.iload 5, 2) := by decide +kernel
theorem d_Sh_start_239 : decode z_Sh_start.2.2.1 239 = .ok (.imul, 1) := by decide +kernel
theorem d_Sh_start_240 : decode z_Sh_start.2.2.1 240 = .ok (.iconst 1, 1) := by decide +kernel
theorem d_Sh_start_241 : decode z_Sh_start.2.2.1 241 = .ok (.iadd, 1) := by decide +kernel
theorem d_Sh_start_242 : decode z_Sh_start.2.2.1 242 = .ok (.iaload, 1) := by decide +kernel
theorem d_Sh_start_243 : decode z_Sh_start.2.2.1 243 = .ok (.invokevirtual 266, 3) := by decide +kernel
theorem d_Sh_start_246 : decode z_Sh_start.2.2.1 246 = .ok (.iinc 5 1, 3) := by decide +kernel
theorem d_Sh_start_249 : decode z_Sh_start.2.2.1 249 = .ok (.goto (-44), 3) := by decide +kernel
theorem d_Sh_start_252 : decode z_Sh_start.2.2.1 252 = .ok (.iinc 3 1, 3) := by decide +kernel
theorem d_Sh_start_255 : decode z_Sh_start.2.2.1 255 = .ok (.goto (-63), 3) := by decide +kernel
theorem d_Sh_start_258 : decode z_Sh_start.2.2.1 258 = .ok (.aload_n 0, 1) := by decide +kernel
theorem d_Sh_start_259 : decode z_Sh_start.2.2.1 259 = .ok (.getfield 28, 3) := by decide +kernel
theorem d_Sh_start_262 : decode z_Sh_start.2.2.1 262 = .ok (.getfield 92, 3) := by decide +kernel
theorem d_Sh_start_265 : decode z_Sh_start.2.2.1 265 = .ok (.ireturn, 1) := by decide +kernel
def lc_Sh_start_1 : jx_Cx := (cCmp rLt (eI 6) (eInt (nI 51)))
def lb_Sh_start_1 : jx_St := (sSeq (sCl (jx_ev tb_Pn_write) [(eGf [0] 1 (eA 0)), (eGf [1] 1 (eA 4)), (eBin oAdd (eI 5) (eI 6)), (eLd 0 (eGf [0] 4 (eA 0)) (eI 6))]) (sInc 6 (nI 1)))
theorem ml_Sh_start_1 : jx_Ts z_Sh_start 136 (sWh 64 lc_Sh_start_1 lb_Sh_start_1) [173] := by
  unfold lc_Sh_start_1 lb_Sh_start_1
  exact t_wh (EA := [170]) (Fs := [173]) (E := [173]) 64 (s_cmp (s_iload d_Sh_start_136) (s_bipush d_Sh_start_138 (by decide)) (s_icmp_geF (tgt := 173) d_Sh_start_140 (by decide))) (by decide) (t_seq (t_cl (s_a1 (s_getf (s_aload_n d_Sh_start_143 rfl) fi_Sh_21 d_Sh_start_144) (s_a1 (s_getf (s_aload d_Sh_start_147) fi_Sh_105 d_Sh_start_149) (s_a1 (s_bin (s_iload d_Sh_start_152) (s_iload d_Sh_start_154) (s_iadd d_Sh_start_156)) (s_a1 (s_load (s_getf (s_aload_n d_Sh_start_157 rfl) fi_Sh_32 d_Sh_start_158) (s_iload d_Sh_start_161) (s_iald d_Sh_start_163)) s_a0)))) (s_ecv (ve_Pn_write (by decide) (by decide)) dc_Pn_write (by decide) lm_Sh_88 pd_Pn_write d_Sh_start_164)) (t_iinc d_Sh_start_167 (by decide) (by decide))) (al_1 (Or.inr ⟨-34, d_Sh_start_170, by decide⟩)) (by decide)
def lc_Sh_start_0 : jx_Cx := (cCmp rLt (eI 3) (eI 2))
def lb_Sh_start_0 : jx_St := (sSeq (sAsg 2 4 (eLda 3 (eA 1) (eI 3))) (sSeq (sIf (cOr (cOr (cOr (cNot (cCmp0 rNe (eCl (jx_ev tb_Sh_isListed) [(eA 0), (eGf [1] 0 (eA 4))]))) (cNot (cCmp0 rNe (eGf [1] 3 (eA 4))))) (cCmp rEq (eCl (jx_ev tb_Dk_numberOf) [(eA 4), (eInt (nI 0))]) (eGf [3] 0 (eGf [0] 2 (eA 0))))) (cCmp rEq (eCl (jx_ev tb_Dk_numberOf) [(eA 4), (eInt (nI 1))]) (eGf [3] 0 (eGf [0] 2 (eA 0))))) sSkip (sSeq (sAsg 0 5 (eBin oMul (eInt (nI 51)) (eCl (jx_ev tb_Dk_older) [(eA 4)]))) (sSeq (sAsg 0 6 (eInt (nI 0))) (sWh 64 lc_Sh_start_1 lb_Sh_start_1)))) (sInc 3 (nI 1))))
theorem ml_Sh_start_0 : jx_Ts z_Sh_start 58 (sWh 64 lc_Sh_start_0 lb_Sh_start_0) [179] := by
  unfold lc_Sh_start_0 lb_Sh_start_0
  exact t_wh (EA := [176]) (Fs := [179]) (E := [179]) 64 (s_cmp (s_iload_n d_Sh_start_58 rfl) (s_iload_n d_Sh_start_59 rfl) (s_icmp_geF (tgt := 179) d_Sh_start_60 (by decide))) (by decide) (t_seq (t_asg (s_loada (s_aload_n d_Sh_start_63 rfl) (s_iload_n d_Sh_start_64 rfl) (s_aald (Or.inl rfl) d_Sh_start_65)) (fun v k h => b_astore d_Sh_start_66 (by decide) h)) (t_seq (t_ifg (E := [173]) (s_org (s_csub (T1 := [173]) (F1 := [104]) (Ts := [120, 173]) (Fs := [104]) (s_org (s_org (s_not (s_cmp0 (s_cl (s_a1 (s_aload_n d_Sh_start_68 rfl) (s_a1 (s_getf (s_aload d_Sh_start_69) fi_Sh_60 d_Sh_start_71) s_a0)) (s_ecv (ve_Sh_isListed (by decide) (by decide)) dc_Sh_isListed (by decide) lm_Sh_64 pd_Sh_isListed d_Sh_start_74)) (s_if_eqF (tgt := 173) d_Sh_start_77 (by decide))) (by decide)) (by decide) (al_1 (s_not (s_cmp0 (s_getf (s_aload d_Sh_start_80) fi_Sh_68 d_Sh_start_82) (s_if_eqF (tgt := 173) d_Sh_start_85 (by decide))) (by decide)))) (by decide) (al_1 (s_cmp (s_cl (s_a1 (s_aload d_Sh_start_88) (s_a1 (s_iconst d_Sh_start_90 (by decide)) s_a0)) (s_ecv (ve_Dk_numberOf (by decide) (by decide)) dc_Dk_numberOf (by decide) lm_Sh_256 pd_Dk_numberOf d_Sh_start_91)) (s_getf (s_getf (s_aload_n d_Sh_start_94 rfl) fi_Sh_28 d_Sh_start_95) fi_Sh_92 d_Sh_start_98) (s_icmp_eqT (tgt := 173) d_Sh_start_101 (by decide))))) (by decide) (by decide)) (by decide) (al_1 (s_csub (T1 := [120]) (F1 := [123]) (Ts := [120, 173]) (Fs := [123]) (s_cmp (s_cl (s_a1 (s_aload d_Sh_start_104) (s_a1 (s_iconst d_Sh_start_106 (by decide)) s_a0)) (s_ecv (ve_Dk_numberOf (by decide) (by decide)) dc_Dk_numberOf (by decide) lm_Sh_256 pd_Dk_numberOf d_Sh_start_107)) (s_getf (s_getf (s_aload_n d_Sh_start_110 rfl) fi_Sh_28 d_Sh_start_111) fi_Sh_92 d_Sh_start_114) (s_icmp_neF (tgt := 123) d_Sh_start_117 (by decide))) (by decide) (by decide)))) (by decide) (al_2 (t_goto (q := 120) (tgt := 173) (E := [173]) (t_skip (by decide)) d_Sh_start_120 (by decide) (by decide)) (t_skip (by decide))) (al_1 (t_seq (t_asg (s_bin (s_bipush d_Sh_start_123 (by decide)) (s_cl (s_a1 (s_aload d_Sh_start_125) s_a0) (s_ecv (ve_Dk_older (by decide) (by decide)) dc_Dk_older (by decide) lm_Sh_101 pd_Dk_older d_Sh_start_127)) (s_imul d_Sh_start_130)) (fun v k h => b_istore d_Sh_start_131 (by decide) h)) (t_seq (t_asg (s_iconst d_Sh_start_133 (by decide)) (fun v k h => b_istore d_Sh_start_134 (by decide) h)) ml_Sh_start_1)))) (t_iinc d_Sh_start_173 (by decide) (by decide)))) (al_1 (Or.inr ⟨-118, d_Sh_start_176, by decide⟩)) (by decide)
def lc_Sh_start_3 : jx_Cx := (cAnd (cNot (cNull (eA 4))) (cCmp rLt (eI 5) (eGf [5, 6, 7] 1 (eA 4))))
def lb_Sh_start_3 : jx_St := (sSeq (sCl (jx_ev tb_Sh_alike) [(eA 0), (eLd 0 (eGf [5, 6, 7] 2 (eA 4)) (eBin oMul (eInt (nI 2)) (eI 5))), (eLd 0 (eGf [5, 6, 7] 2 (eA 4)) (eBin oAdd (eBin oMul (eInt (nI 2)) (eI 5)) (eInt (nI 1))))]) (sInc 5 (nI 1)))
theorem ml_Sh_start_3 : jx_Ts z_Sh_start 205 (sWh 64 lc_Sh_start_3 lb_Sh_start_3) [252] := by
  unfold lc_Sh_start_3 lb_Sh_start_3
  exact t_wh (EA := [249]) (Fs := [252]) (E := [252]) 64 (s_andg (s_not (s_nul (s_aload d_Sh_start_205) (s_ifnull (tgt := 252) d_Sh_start_207 (by decide))) (by decide)) (by decide) (al_1 (s_cmp (s_iload d_Sh_start_210) (s_getf (s_aload d_Sh_start_212) fi_Sh_154 d_Sh_start_214) (s_icmp_geF (tgt := 252) d_Sh_start_217 (by decide))))) (by decide) (t_seq (t_cl (s_a1 (s_aload_n d_Sh_start_220 rfl) (s_a1 (s_load (s_getf (s_aload d_Sh_start_221) fi_Sh_120 d_Sh_start_223) (s_bin (s_iconst d_Sh_start_226 (by decide)) (s_iload d_Sh_start_227) (s_imul d_Sh_start_229)) (s_iald d_Sh_start_230)) (s_a1 (s_load (s_getf (s_aload d_Sh_start_231) fi_Sh_120 d_Sh_start_233) (s_bin (s_bin (s_iconst d_Sh_start_236 (by decide)) (s_iload d_Sh_start_237) (s_imul d_Sh_start_239)) (s_iconst d_Sh_start_240 (by decide)) (s_iadd d_Sh_start_241)) (s_iald d_Sh_start_242)) s_a0))) (s_ecv (ve_Sh_alike (by decide) (by decide)) dc_Sh_alike (by decide) lm_Sh_266 pd_Sh_alike d_Sh_start_243)) (t_iinc d_Sh_start_246 (by decide) (by decide))) (al_1 (Or.inr ⟨-44, d_Sh_start_249, by decide⟩)) (by decide)
def lc_Sh_start_2 : jx_Cx := (cCmp rLt (eI 3) (eI 2))
def lb_Sh_start_2 : jx_St := (sSeq (sAsg 2 4 (eLda 4 (eA 1) (eI 3))) (sSeq (sSeq (sAsg 0 5 (eInt (nI 0))) (sWh 64 lc_Sh_start_3 lb_Sh_start_3)) (sInc 3 (nI 1))))
theorem ml_Sh_start_2 : jx_Ts z_Sh_start 192 (sWh 64 lc_Sh_start_2 lb_Sh_start_2) [258] := by
  unfold lc_Sh_start_2 lb_Sh_start_2
  exact t_wh (EA := [255]) (Fs := [258]) (E := [258]) 64 (s_cmp (s_iload_n d_Sh_start_192 rfl) (s_iload_n d_Sh_start_193 rfl) (s_icmp_geF (tgt := 258) d_Sh_start_194 (by decide))) (by decide) (t_seq (t_asg (s_loada (s_aload_n d_Sh_start_197 rfl) (s_iload_n d_Sh_start_198 rfl) (s_aald (Or.inr rfl) d_Sh_start_199)) (fun v k h => b_astore d_Sh_start_200 (by decide) h)) (t_seq (t_seq (t_asg (s_iconst d_Sh_start_202 (by decide)) (fun v k h => b_istore d_Sh_start_203 (by decide) h)) ml_Sh_start_3) (t_iinc d_Sh_start_252 (by decide) (by decide)))) (al_1 (Or.inr ⟨-63, d_Sh_start_255, by decide⟩)) (by decide)
def bd_Sh_start : jx_St := (sSeq (sIf (cCmp0 rNe (eGf [2] 1 (eGf [0] 1 (eA 0)))) (sThrow 9) sSkip) (sSeq (sPf [2] 1 1 (eGf [0] 1 (eA 0)) (eInt (nI 1))) (sSeq (sPf [0] 3 2 (eA 0) eNull) (sSeq (sCl (jx_ev tb_Sh_choose) [(eA 0)]) (sSeq (sCl (jx_ev tb_Tb_fill) [(eGf [0] 2 (eA 0)), (eGf [0] 4 (eA 0))]) (sSeq (sSeq (sAsg 2 1 (eGf [0] 0 (eA 0))) (sSeq (sAsg 0 2 (eLen (eA 1))) (sSeq (sAsg 0 3 (eInt (nI 0))) (sWh 64 lc_Sh_start_0 lb_Sh_start_0)))) (sSeq (sSeq (sAsg 2 1 (eGf [3] 2 (eGf [0] 2 (eA 0)))) (sSeq (sAsg 0 2 (eLen (eA 1))) (sSeq (sAsg 0 3 (eInt (nI 0))) (sWh 64 lc_Sh_start_2 lb_Sh_start_2)))) (sRet 0 (eGf [3] 0 (eGf [0] 2 (eA 0)))))))))))
theorem m_Sh_start : jx_Ts z_Sh_start 0 bd_Sh_start [] := by
  unfold bd_Sh_start
  exact (t_seq (t_if1 (Fs := [20]) (E := [20]) (s_cmp0 (s_getf (s_getf (s_aload_n d_Sh_start_0 rfl) fi_Sh_21 d_Sh_start_1) fi_Sh_36 d_Sh_start_4) (s_if_eqF (tgt := 20) d_Sh_start_7 (by decide))) (by decide) (t_sub (E := []) (E' := [20]) (t_throwS (C := R_Ise) (F := F_Ise) (tx := "the power is on") (names := ["java/lang/RuntimeException", "java/lang/Exception"]) rfl (by decide +kernel) (by decide +kernel) (by decide +kernel) (by decide +kernel) at_Sh_9_44 (by decide +kernel) (by decide +kernel) d_Sh_start_10 d_Sh_start_13 d_Sh_start_14 d_Sh_start_16 d_Sh_start_19 (by decide) (by decide)) (by decide)) (by decide)) (t_seq (t_pf (s_getf (s_aload_n d_Sh_start_20 rfl) fi_Sh_21 d_Sh_start_21) (s_iconst d_Sh_start_24 (by decide)) fi_Sh_36 rfl (Or.inl rfl) d_Sh_start_25) (t_seq (t_pf (s_aload_n d_Sh_start_28 rfl) (s_null d_Sh_start_29) fi_Sh_108 rfl (Or.inl rfl) d_Sh_start_30) (t_seq (t_cl (s_a1 (s_aload_n d_Sh_start_33 rfl) s_a0) (s_ecv (ve_Sh_choose (by decide) (by decide)) dc_Sh_choose (by decide) lm_Sh_263 pd_Sh_choose d_Sh_start_34)) (t_seq (t_cl (s_a1 (s_getf (s_aload_n d_Sh_start_37 rfl) fi_Sh_28 d_Sh_start_38) (s_a1 (s_getf (s_aload_n d_Sh_start_41 rfl) fi_Sh_32 d_Sh_start_42) s_a0)) (s_ecv (ve_Tb_fill (by decide) (by decide)) dc_Tb_fill (by decide) lm_Sh_97 pd_Tb_fill d_Sh_start_45)) (t_seq (t_seq (t_asg (s_getf (s_aload_n d_Sh_start_48 rfl) fi_Sh_12 d_Sh_start_49) (fun v k h => b_astore_n d_Sh_start_52 rfl (by decide) h)) (t_seq (t_asg (s_len (s_aload_n d_Sh_start_53 rfl) d_Sh_start_54) (fun v k h => b_istore_n d_Sh_start_55 rfl (by decide) h)) (t_seq (t_asg (s_iconst d_Sh_start_56 (by decide)) (fun v k h => b_istore_n d_Sh_start_57 rfl (by decide) h)) ml_Sh_start_0))) (t_seq (t_seq (t_asg (s_getf (s_getf (s_aload_n d_Sh_start_179 rfl) fi_Sh_28 d_Sh_start_180) fi_Sh_71 d_Sh_start_183) (fun v k h => b_astore_n d_Sh_start_186 rfl (by decide) h)) (t_seq (t_asg (s_len (s_aload_n d_Sh_start_187 rfl) d_Sh_start_188) (fun v k h => b_istore_n d_Sh_start_189 rfl (by decide) h)) (t_seq (t_asg (s_iconst d_Sh_start_190 (by decide)) (fun v k h => b_istore_n d_Sh_start_191 rfl (by decide) h)) ml_Sh_start_2))) (t_ret .int (s_getf (s_getf (s_aload_n d_Sh_start_258 rfl) fi_Sh_28 d_Sh_start_259) fi_Sh_92 d_Sh_start_262) rfl (by decide) d_Sh_start_265))))))))
def f_Sh_start : jx_Mt := jx_fn 1 7 (bd_Sh_start fun _ _ => none)
theorem me_Sh_start : jx_Me 1 z_Sh_start f_Sh_start := jx_Me.ofT (by decide) m_Sh_start
theorem mw_Sh_start : jx_mw ⟨"ExtentShelf", "start", "()I"⟩ z_Sh_start := ⟨rfl, rfl, by decide +kernel, ⟨by decide, by decide⟩, by decide +kernel⟩
theorem pd_Sh_start : (parseMethodDescriptor (⟨"ExtentShelf", "start", "()I"⟩ : MethodName).desc).map (fun d => d.parameters.length) = some 0 := by decide +kernel
/-! ExtentShelfModel.<init>()V -/
abbrev z_Md_init : jx_Z := ("ExtentShelfModel", "<init>", prog_11_method_1_code, 1, none, 1, 28)
theorem d_Md_init_0 : decode z_Md_init.2.2.1 0 = .ok (.aload_n 0, 1) := by decide +kernel
theorem d_Md_init_1 : decode z_Md_init.2.2.1 1 = .ok (.invokespecial 1, 3) := by decide +kernel
theorem d_Md_init_4 : decode z_Md_init.2.2.1 4 = .ok (.aload_n 0, 1) := by decide +kernel
theorem d_Md_init_5 : decode z_Md_init.2.2.1 5 = .ok (.iconst 4, 1) := by decide +kernel
theorem d_Md_init_6 : decode z_Md_init.2.2.1 6 = .ok (.newarray .boolean, 2) := by decide +kernel
theorem d_Md_init_8 : decode z_Md_init.2.2.1 8 = .ok (.dup, 1) := by decide +kernel
theorem d_Md_init_9 : decode z_Md_init.2.2.1 9 = .ok (.iconst 0, 1) := by decide +kernel
theorem d_Md_init_10 : decode z_Md_init.2.2.1 10 = .ok (.iconst 1, 1) := by decide +kernel
theorem d_Md_init_11 : decode z_Md_init.2.2.1 11 = .ok (.bastore, 1) := by decide +kernel
theorem d_Md_init_12 : decode z_Md_init.2.2.1 12 = .ok (.dup, 1) := by decide +kernel
theorem d_Md_init_13 : decode z_Md_init.2.2.1 13 = .ok (.iconst 1, 1) := by decide +kernel
theorem d_Md_init_14 : decode z_Md_init.2.2.1 14 = .ok (.iconst 1, 1) := by decide +kernel
theorem d_Md_init_15 : decode z_Md_init.2.2.1 15 = .ok (.bastore, 1) := by decide +kernel
theorem d_Md_init_16 : decode z_Md_init.2.2.1 16 = .ok (.dup, 1) := by decide +kernel
theorem d_Md_init_17 : decode z_Md_init.2.2.1 17 = .ok (.iconst 2, 1) := by decide +kernel
theorem d_Md_init_18 : decode z_Md_init.2.2.1 18 = .ok (.iconst 1, 1) := by decide +kernel
theorem d_Md_init_19 : decode z_Md_init.2.2.1 19 = .ok (.bastore, 1) := by decide +kernel
theorem d_Md_init_20 : decode z_Md_init.2.2.1 20 = .ok (.dup, 1) := by decide +kernel
theorem d_Md_init_21 : decode z_Md_init.2.2.1 21 = .ok (.iconst 3, 1) := by decide +kernel
theorem d_Md_init_22 : decode z_Md_init.2.2.1 22 = .ok (.iconst 1, 1) := by decide +kernel
theorem d_Md_init_23 : decode z_Md_init.2.2.1 23 = .ok (.bastore, 1) := by decide +kernel
theorem d_Md_init_24 : decode z_Md_init.2.2.1 24 = .ok (.putfield 7, 3) := by decide +kernel
theorem d_Md_init_27 : decode z_Md_init.2.2.1 27 = .ok (.aload_n 0, 1) := by decide +kernel
theorem d_Md_init_28 : decode z_Md_init.2.2.1 28 = .ok (.sipush 408, 3) := by decide +kernel
theorem d_Md_init_31 : decode z_Md_init.2.2.1 31 = .ok (.newarray .int, 2) := by decide +kernel
theorem d_Md_init_33 : decode z_Md_init.2.2.1 33 = .ok (.putfield 13, 3) := by decide +kernel
theorem d_Md_init_36 : decode z_Md_init.2.2.1 36 = .ok (.aload_n 0, 1) := by decide +kernel
theorem d_Md_init_37 : decode z_Md_init.2.2.1 37 = .ok (.sipush 128, 3) := by decide +kernel
theorem d_Md_init_40 : decode z_Md_init.2.2.1 40 = .ok (.newarray .int, 2) := by decide +kernel
theorem d_Md_init_42 : decode z_Md_init.2.2.1 42 = .ok (.putfield 17, 3) := by decide +kernel
theorem d_Md_init_45 : decode z_Md_init.2.2.1 45 = .ok (.aload_n 0, 1) := by decide +kernel
theorem d_Md_init_46 : decode z_Md_init.2.2.1 46 = .ok (.iconst 1, 1) := by decide +kernel
theorem d_Md_init_47 : decode z_Md_init.2.2.1 47 = .ok (.putfield 20, 3) := by decide +kernel
theorem d_Md_init_50 : decode z_Md_init.2.2.1 50 = .ok (.aload_n 0, 1) := by decide +kernel
theorem d_Md_init_51 : decode z_Md_init.2.2.1 51 = .ok (.iconst (-1), 1) := by decide +kernel
theorem d_Md_init_52 : decode z_Md_init.2.2.1 52 = .ok (.putfield 24, 3) := by decide +kernel
theorem d_Md_init_55 : decode z_Md_init.2.2.1 55 = .ok (.aload_n 0, 1) := by decide +kernel
theorem d_Md_init_56 : decode z_Md_init.2.2.1 56 = .ok (.bipush 51, 2) := by decide +kernel
theorem d_Md_init_58 : decode z_Md_init.2.2.1 58 = .ok (.newarray .int, 2) := by decide +kernel
theorem d_Md_init_60 : decode z_Md_init.2.2.1 60 = .ok (.putfield 28, 3) := by decide +kernel
theorem d_Md_init_63 : decode z_Md_init.2.2.1 63 = .ok (.aload_n 0, 1) := by decide +kernel
theorem d_Md_init_64 : decode z_Md_init.2.2.1 64 = .ok (.bipush 51, 2) := by decide +kernel
theorem d_Md_init_66 : decode z_Md_init.2.2.1 66 = .ok (.newarray .int, 2) := by decide +kernel
theorem d_Md_init_68 : decode z_Md_init.2.2.1 68 = .ok (.putfield 31, 3) := by decide +kernel
theorem d_Md_init_71 : decode z_Md_init.2.2.1 71 = .ok (.aload_n 0, 1) := by decide +kernel
theorem d_Md_init_72 : decode z_Md_init.2.2.1 72 = .ok (.iconst (-1), 1) := by decide +kernel
theorem d_Md_init_73 : decode z_Md_init.2.2.1 73 = .ok (.putfield 34, 3) := by decide +kernel
theorem d_Md_init_76 : decode z_Md_init.2.2.1 76 = .ok (.return_, 1) := by decide +kernel
def bd_Md_init : jx_St := (sSeq (sObj (eA 0)) (sSeq (sPf [8] 1 2 (eA 0) (eIst 2 1 (eIst 2 1 (eIst 2 1 (eIst 2 1 (eNa 2 (eInt (nI 4))) (eInt (nI 0)) (eInt (nI 1))) (eInt (nI 1)) (eInt (nI 1))) (eInt (nI 2)) (eInt (nI 1))) (eInt (nI 3)) (eInt (nI 1)))) (sSeq (sPf [8] 2 2 (eA 0) (eNa 0 (eInt (nI 408)))) (sSeq (sPf [8] 3 2 (eA 0) (eNa 0 (eInt (nI 128)))) (sSeq (sPf [8] 4 1 (eA 0) (eInt (nI 1))) (sSeq (sPf [8] 5 0 (eA 0) (eInt (-1))) (sSeq (sPf [8] 6 2 (eA 0) (eNa 0 (eInt (nI 51)))) (sSeq (sPf [8] 7 2 (eA 0) (eNa 0 (eInt (nI 51)))) (sSeq (sPf [8] 8 0 (eA 0) (eInt (-1))) sRetV)))))))))
theorem m_Md_init : jx_Ts z_Md_init 0 bd_Md_init [] := by
  unfold bd_Md_init
  exact (t_seq (t_obj (s_aload_n d_Md_init_0 rfl) (by decide +kernel) (by decide +kernel) (by decide +kernel) (by decide) (by decide) d_Md_init_1) (t_seq (t_pf (s_aload_n d_Md_init_4 rfl) (s_ist0 (s_ist0 (s_ist0 (s_ist0 (s_na (s_iconst d_Md_init_5 (by decide)) (s_newa (by decide) rfl (by decide +kernel) d_Md_init_6)) d_Md_init_8 (s_iconst d_Md_init_9 (by decide)) (s_iconst d_Md_init_10 (by decide)) (s_zast d_Md_init_11)) d_Md_init_12 (s_iconst d_Md_init_13 (by decide)) (s_iconst d_Md_init_14 (by decide)) (s_zast d_Md_init_15)) d_Md_init_16 (s_iconst d_Md_init_17 (by decide)) (s_iconst d_Md_init_18 (by decide)) (s_zast d_Md_init_19)) d_Md_init_20 (s_iconst d_Md_init_21 (by decide)) (s_iconst d_Md_init_22 (by decide)) (s_zast d_Md_init_23)) fi_Md_7 rfl (Or.inr ⟨rfl, jx_fin (by decide +kernel)⟩) d_Md_init_24) (t_seq (t_pf (s_aload_n d_Md_init_27 rfl) (s_na (s_sipush d_Md_init_28 (by decide)) (s_newa (by decide) rfl (by decide +kernel) d_Md_init_31)) fi_Md_13 rfl (Or.inr ⟨rfl, jx_fin (by decide +kernel)⟩) d_Md_init_33) (t_seq (t_pf (s_aload_n d_Md_init_36 rfl) (s_na (s_sipush d_Md_init_37 (by decide)) (s_newa (by decide) rfl (by decide +kernel) d_Md_init_40)) fi_Md_17 rfl (Or.inr ⟨rfl, jx_fin (by decide +kernel)⟩) d_Md_init_42) (t_seq (t_pf (s_aload_n d_Md_init_45 rfl) (s_iconst d_Md_init_46 (by decide)) fi_Md_20 rfl (Or.inl rfl) d_Md_init_47) (t_seq (t_pf (s_aload_n d_Md_init_50 rfl) (s_iconst d_Md_init_51 (by decide)) fi_Md_24 rfl (Or.inl rfl) d_Md_init_52) (t_seq (t_pf (s_aload_n d_Md_init_55 rfl) (s_na (s_bipush d_Md_init_56 (by decide)) (s_newa (by decide) rfl (by decide +kernel) d_Md_init_58)) fi_Md_28 rfl (Or.inr ⟨rfl, jx_fin (by decide +kernel)⟩) d_Md_init_60) (t_seq (t_pf (s_aload_n d_Md_init_63 rfl) (s_na (s_bipush d_Md_init_64 (by decide)) (s_newa (by decide) rfl (by decide +kernel) d_Md_init_66)) fi_Md_31 rfl (Or.inr ⟨rfl, jx_fin (by decide +kernel)⟩) d_Md_init_68) (t_seq (t_pf (s_aload_n d_Md_init_71 rfl) (s_iconst d_Md_init_72 (by decide)) fi_Md_34 rfl (Or.inl rfl) d_Md_init_73) (t_retv rfl d_Md_init_76))))))))))
def f_Md_init : jx_Mt := jx_fn 1 1 (bd_Md_init fun _ _ => none)
theorem me_Md_init : jx_Me 1 z_Md_init f_Md_init := jx_Me.ofT (by decide) m_Md_init
theorem mw_Md_init : jx_mw ⟨"ExtentShelfModel", "<init>", "()V"⟩ z_Md_init := ⟨rfl, rfl, by decide +kernel, ⟨by decide, by decide⟩, by decide +kernel⟩
theorem pd_Md_init : (parseMethodDescriptor (⟨"ExtentShelfModel", "<init>", "()V"⟩ : MethodName).desc).map (fun d => d.parameters.length) = some 0 := by decide +kernel
