/-! METHODS, printed by jgen.py -/
/-! ExtentShelfModel.volume(II)I -/
abbrev z_Md_volume : jx_Z := ("ExtentShelfModel", "volume", prog_11_method_46_code, 4, some .int, 1, 29)
theorem d_Md_volume_0 : decode z_Md_volume.2.2.1 0 = .ok (.aload_n 0, 1) := by decide +kernel
theorem d_Md_volume_1 : decode z_Md_volume.2.2.1 1 = .ok (.aload_n 0, 1) := by decide +kernel
theorem d_Md_volume_2 : decode z_Md_volume.2.2.1 2 = .ok (.getfield 20, 3) := by decide +kernel
theorem d_Md_volume_5 : decode z_Md_volume.2.2.1 5 = .ok (.ifCond .ne 7, 3) := by decide +kernel
theorem d_Md_volume_8 : decode z_Md_volume.2.2.1 8 = .ok (.iconst 1, 1) := by decide +kernel
theorem d_Md_volume_9 : decode z_Md_volume.2.2.1 9 = .ok (.goto 29, 3) := by decide +kernel
theorem d_Md_volume_12 : decode z_Md_volume.2.2.1 12 = .ok (.aload_n 0, 1) := by decide +kernel
theorem d_Md_volume_13 : decode z_Md_volume.2.2.1 13 = .ok (.iload_n 1, 1) := by decide +kernel
theorem d_Md_volume_14 : decode z_Md_volume.2.2.1 14 = .ok (.invokevirtual 134, 3) := by decide +kernel
theorem d_Md_volume_17 : decode z_Md_volume.2.2.1 17 = .ok (.ifCond .ne 7, 3) := by decide +kernel
theorem d_Md_volume_20 : decode z_Md_volume.2.2.1 20 = .ok (.iconst 2, 1) := by decide +kernel
theorem d_Md_volume_21 : decode z_Md_volume.2.2.1 21 = .ok (.goto 17, 3) := by decide +kernel
theorem d_Md_volume_24 : decode z_Md_volume.2.2.1 24 = .ok (.iload_n 2, 1) := by decide +kernel
theorem d_Md_volume_25 : decode z_Md_volume.2.2.1 25 = .ok (.ifCond .lt 8, 3) := by decide +kernel
theorem d_Md_volume_28 : decode z_Md_volume.2.2.1 28 = .ok (.iload_n 2, 1) := by decide +kernel
theorem d_Md_volume_29 : decode z_Md_volume.2.2.1 29 = .ok (.iconst 3, 1) := by decide +kernel
theorem d_Md_volume_30 : decode z_Md_volume.2.2.1 30 = .ok (.if_icmp .le 7, 3) := by decide +kernel
theorem d_Md_volume_33 : decode z_Md_volume.2.2.1 33 = .ok (.iconst 3, 1) := by decide +kernel
theorem d_Md_volume_34 : decode z_Md_volume.2.2.1 34 = .ok (.goto 4, 3) := by decide +kernel
theorem d_Md_volume_37 : decode z_Md_volume.2.2.1 37 = .ok (.iconst 0, 1) := by decide +kernel
theorem d_Md_volume_38 : decode z_Md_volume.2.2.1 38 = .ok (.putfield 37, 3) := by decide +kernel
theorem d_Md_volume_41 : decode z_Md_volume.2.2.1 41 = .ok (.aload_n 0, 1) := by decide +kernel
theorem d_Md_volume_42 : decode z_Md_volume.2.2.1 42 = .ok (.getfield 37, 3) := by decide +kernel
theorem d_Md_volume_45 : decode z_Md_volume.2.2.1 45 = .ok (.ifCond .le 5, 3) := by decide +kernel
theorem d_Md_volume_48 : decode z_Md_volume.2.2.1 48 = .ok (.iconst 0, 1) := by decide +kernel
theorem d_Md_volume_49 : decode z_Md_volume.2.2.1 49 = .ok (.ireturn, 1) := by decide +kernel
theorem d_Md_volume_50 : decode z_Md_volume.2.2.1 50 = .ok (.aload_n 0, 1) := by decide +kernel
theorem d_Md_volume_51 : decode z_Md_volume.2.2.1 51 = .ok (.getfield 28, 3) := by decide +kernel
theorem d_Md_volume_54 : decode z_Md_volume.2.2.1 54 = .ok (.iload_n 1, 1) := by decide +kernel
theorem d_Md_volume_55 : decode z_Md_volume.2.2.1 55 = .ok (.invokestatic 86, 3) := by decide +kernel
theorem d_Md_volume_58 : decode z_Md_volume.2.2.1 58 = .ok (.istore_n 3, 1) := by decide +kernel
theorem d_Md_volume_59 : decode z_Md_volume.2.2.1 59 = .ok (.iload_n 2, 1) := by decide +kernel
theorem d_Md_volume_60 : decode z_Md_volume.2.2.1 60 = .ok (.ifCond .ne 14, 3) := by decide +kernel
theorem d_Md_volume_63 : decode z_Md_volume.2.2.1 63 = .ok (.aload_n 0, 1) := by decide +kernel
theorem d_Md_volume_64 : decode z_Md_volume.2.2.1 64 = .ok (.getfield 28, 3) := by decide +kernel
theorem d_Md_volume_67 : decode z_Md_volume.2.2.1 67 = .ok (.iload_n 1, 1) := by decide +kernel
theorem d_Md_volume_68 : decode z_Md_volume.2.2.1 68 = .ok (.invokestatic 75, 3) := by decide +kernel
theorem d_Md_volume_71 : decode z_Md_volume.2.2.1 71 = .ok (.goto 31, 3) := by decide +kernel
theorem d_Md_volume_74 : decode z_Md_volume.2.2.1 74 = .ok (.iload_n 2, 1) := by decide +kernel
theorem d_Md_volume_75 : decode z_Md_volume.2.2.1 75 = .ok (.iconst 1, 1) := by decide +kernel
theorem d_Md_volume_76 : decode z_Md_volume.2.2.1 76 = .ok (.if_icmp .ne 14, 3) := by decide +kernel
theorem d_Md_volume_79 : decode z_Md_volume.2.2.1 79 = .ok (.aload_n 0, 1) := by decide +kernel
theorem d_Md_volume_80 : decode z_Md_volume.2.2.1 80 = .ok (.getfield 28, 3) := by decide +kernel
theorem d_Md_volume_83 : decode z_Md_volume.2.2.1 83 = .ok (.iload_n 1, 1) := by decide +kernel
theorem d_Md_volume_84 : decode z_Md_volume.2.2.1 84 = .ok (.invokestatic 79, 3) := by decide +kernel
theorem d_Md_volume_87 : decode z_Md_volume.2.2.1 87 = .ok (.goto 15, 3) := by decide +kernel
theorem d_Md_volume_90 : decode z_Md_volume.2.2.1 90 = .ok (.iload_n 2, 1) := by decide +kernel
theorem d_Md_volume_91 : decode z_Md_volume.2.2.1 91 = .ok (.iconst 2, 1) := by decide +kernel
theorem d_Md_volume_92 : decode z_Md_volume.2.2.1 92 = .ok (.if_icmp .ne 7, 3) := by decide +kernel
theorem d_Md_volume_95 : decode z_Md_volume.2.2.1 95 = .ok (.iload_n 3, 1) := by decide +kernel
theorem d_Md_volume_96 : decode z_Md_volume.2.2.1 96 = .ok (.goto 6, 3) := by decide +kernel
theorem d_Md_volume_99 : decode z_Md_volume.2.2.1 99 = .ok (.iconst 4, 1) := by decide +kernel
theorem d_Md_volume_100 : decode z_Md_volume.2.2.1 100 = .ok (.iload_n 3, 1) := by decide +kernel
theorem d_Md_volume_101 : decode z_Md_volume.2.2.1 101 = .ok (.imul, 1) := by decide +kernel
theorem d_Md_volume_102 : decode z_Md_volume.2.2.1 102 = .ok (.ireturn, 1) := by decide +kernel
def bd_Md_volume : jx_St := (sSeq (sPf [8] 0 0 (eA 0) (eIte (cNot (cCmp0 rNe (eGf [8] 4 (eA 0)))) (eInt (nI 1)) (eIte (cNot (cCmp0 rNe (eCl (jx_ev tb_Md_isVolume) [(eA 0), (eI 1)]))) (eInt (nI 2)) (eIte (cOr (cCmp0 rLt (eI 2)) (cCmp rGt (eI 2) (eInt (nI 3)))) (eInt (nI 3)) (eInt (nI 0)))))) (sSeq (sIf (cCmp0 rGt (eGf [8] 0 (eA 0))) (sRet 0 (eInt (nI 0))) sSkip) (sSeq (sAsg 0 3 (eCl (jx_ec f_Md_elementsOf) [(eGf [8] 6 (eA 0)), (eI 1)])) (sRet 0 (eIte (cCmp0 rEq (eI 2)) (eCl (jx_ec f_Md_kindOf) [(eGf [8] 6 (eA 0)), (eI 1)]) (eIte (cCmp rEq (eI 2) (eInt (nI 1))) (eCl (jx_ec f_Md_columnsOf) [(eGf [8] 6 (eA 0)), (eI 1)]) (eIte (cCmp rEq (eI 2) (eInt (nI 2))) (eI 3) (eBin oMul (eInt (nI 4)) (eI 3)))))))))
theorem m_Md_volume : jx_Ts z_Md_volume 0 bd_Md_volume [] := by
  unfold bd_Md_volume
  exact (t_seq (t_pf (s_aload_n d_Md_volume_0 rfl) (s_ite (q4 := 38) (s_not (s_cmp0 (s_getf (s_aload_n d_Md_volume_1 rfl) fi_Md_20 d_Md_volume_2) (s_if_neT (tgt := 12) d_Md_volume_5 (by decide))) (by decide)) (s_iconst d_Md_volume_8 (by decide)) d_Md_volume_9 (by decide) (s_ite (q4 := 38) (s_not (s_cmp0 (s_cl (s_a1 (s_aload_n d_Md_volume_12 rfl) (s_a1 (s_iload_n d_Md_volume_13 rfl) s_a0)) (s_ecv (ve_Md_isVolume (by decide) (by decide)) dc_Md_isVolume (by decide) lm_Md_134 pd_Md_isVolume d_Md_volume_14)) (s_if_neT (tgt := 24) d_Md_volume_17 (by decide))) (by decide)) (s_iconst d_Md_volume_20 (by decide)) d_Md_volume_21 (by decide) (s_ite (q4 := 38) (s_org (s_cmp0 (s_iload_n d_Md_volume_24 rfl) (s_if_ltT (tgt := 33) d_Md_volume_25 (by decide))) (by decide) (al_1 (s_cmp (s_iload_n d_Md_volume_28 rfl) (s_iconst d_Md_volume_29 (by decide)) (s_icmp_leF (tgt := 37) d_Md_volume_30 (by decide))))) (s_iconst d_Md_volume_33 (by decide)) d_Md_volume_34 (by decide) (s_iconst d_Md_volume_37 (by decide))))) fi_Md_37 rfl (Or.inl rfl) d_Md_volume_38) (t_seq (t_if1 (Fs := [50]) (E := [50]) (s_cmp0 (s_getf (s_aload_n d_Md_volume_41 rfl) fi_Md_37 d_Md_volume_42) (s_if_leF (tgt := 50) d_Md_volume_45 (by decide))) (by decide) (t_sub (E := []) (E' := [50]) (t_ret .int (s_iconst d_Md_volume_48 (by decide)) rfl (by decide) d_Md_volume_49) (by decide)) (by decide)) (t_seq (t_asg (s_cl (s_a1 (s_getf (s_aload_n d_Md_volume_50 rfl) fi_Md_28 d_Md_volume_51) (s_a1 (s_iload_n d_Md_volume_54 rfl) s_a0)) (s_ecs me_Md_elementsOf mw_Md_elementsOf (by decide) (by decide) (by decide) lm_Md_86 w_st_Md_elementsOf w_in_Md pd_Md_elementsOf d_Md_volume_55)) (fun v k h => b_istore_n d_Md_volume_58 rfl (by decide) h)) (t_ret .int (s_ite (q4 := 102) (s_cmp0 (s_iload_n d_Md_volume_59 rfl) (s_if_neF (tgt := 74) d_Md_volume_60 (by decide))) (s_cl (s_a1 (s_getf (s_aload_n d_Md_volume_63 rfl) fi_Md_28 d_Md_volume_64) (s_a1 (s_iload_n d_Md_volume_67 rfl) s_a0)) (s_ecs me_Md_kindOf mw_Md_kindOf (by decide) (by decide) (by decide) lm_Md_75 w_st_Md_kindOf w_in_Md pd_Md_kindOf d_Md_volume_68)) d_Md_volume_71 (by decide) (s_ite (q4 := 102) (s_cmp (s_iload_n d_Md_volume_74 rfl) (s_iconst d_Md_volume_75 (by decide)) (s_icmp_neF (tgt := 90) d_Md_volume_76 (by decide))) (s_cl (s_a1 (s_getf (s_aload_n d_Md_volume_79 rfl) fi_Md_28 d_Md_volume_80) (s_a1 (s_iload_n d_Md_volume_83 rfl) s_a0)) (s_ecs me_Md_columnsOf mw_Md_columnsOf (by decide) (by decide) (by decide) lm_Md_79 w_st_Md_columnsOf w_in_Md pd_Md_columnsOf d_Md_volume_84)) d_Md_volume_87 (by decide) (s_ite (q4 := 102) (s_cmp (s_iload_n d_Md_volume_90 rfl) (s_iconst d_Md_volume_91 (by decide)) (s_icmp_neF (tgt := 99) d_Md_volume_92 (by decide))) (s_iload_n d_Md_volume_95 rfl) d_Md_volume_96 (by decide) (s_bin (s_iconst d_Md_volume_99 (by decide)) (s_iload_n d_Md_volume_100 rfl) (s_imul d_Md_volume_101))))) rfl (by decide) d_Md_volume_102))))
def f_Md_volume : jx_Mt := jx_fn 3 4 (bd_Md_volume fun _ _ => none)
theorem me_Md_volume : jx_Me 3 z_Md_volume f_Md_volume := jx_Me.ofT (by decide) m_Md_volume
theorem mw_Md_volume : jx_mw ⟨"ExtentShelfModel", "volume", "(II)I"⟩ z_Md_volume := ⟨rfl, rfl, by decide +kernel, ⟨by decide, by decide⟩, by decide +kernel⟩
theorem pd_Md_volume : (parseMethodDescriptor (⟨"ExtentShelfModel", "volume", "(II)I"⟩ : MethodName).desc).map (fun d => d.parameters.length) = some 2 := by decide +kernel
/-! ExtentShelfModel.where(III)I -/
abbrev z_Md_where : jx_Z := ("ExtentShelfModel", "where", prog_11_method_47_code, 4, some .int, 1, 29)
theorem d_Md_where_0 : decode z_Md_where.2.2.1 0 = .ok (.aload_n 0, 1) := by decide +kernel
theorem d_Md_where_1 : decode z_Md_where.2.2.1 1 = .ok (.aload_n 0, 1) := by decide +kernel
theorem d_Md_where_2 : decode z_Md_where.2.2.1 2 = .ok (.getfield 20, 3) := by decide +kernel
theorem d_Md_where_5 : decode z_Md_where.2.2.1 5 = .ok (.ifCond .ne 7, 3) := by decide +kernel
theorem d_Md_where_8 : decode z_Md_where.2.2.1 8 = .ok (.iconst 1, 1) := by decide +kernel
theorem d_Md_where_9 : decode z_Md_where.2.2.1 9 = .ok (.goto 16, 3) := by decide +kernel
theorem d_Md_where_12 : decode z_Md_where.2.2.1 12 = .ok (.aload_n 0, 1) := by decide +kernel
theorem d_Md_where_13 : decode z_Md_where.2.2.1 13 = .ok (.iload_n 1, 1) := by decide +kernel
theorem d_Md_where_14 : decode z_Md_where.2.2.1 14 = .ok (.invokevirtual 134, 3) := by decide +kernel
theorem d_Md_where_17 : decode z_Md_where.2.2.1 17 = .ok (.ifCond .ne 7, 3) := by decide +kernel
theorem d_Md_where_20 : decode z_Md_where.2.2.1 20 = .ok (.iconst 2, 1) := by decide +kernel
theorem d_Md_where_21 : decode z_Md_where.2.2.1 21 = .ok (.goto 4, 3) := by decide +kernel
theorem d_Md_where_24 : decode z_Md_where.2.2.1 24 = .ok (.iconst 0, 1) := by decide +kernel
theorem d_Md_where_25 : decode z_Md_where.2.2.1 25 = .ok (.putfield 37, 3) := by decide +kernel
theorem d_Md_where_28 : decode z_Md_where.2.2.1 28 = .ok (.aload_n 0, 1) := by decide +kernel
theorem d_Md_where_29 : decode z_Md_where.2.2.1 29 = .ok (.getfield 37, 3) := by decide +kernel
theorem d_Md_where_32 : decode z_Md_where.2.2.1 32 = .ok (.ifCond .gt 28, 3) := by decide +kernel
theorem d_Md_where_35 : decode z_Md_where.2.2.1 35 = .ok (.iload_n 2, 1) := by decide +kernel
theorem d_Md_where_36 : decode z_Md_where.2.2.1 36 = .ok (.ifCond .lt 24, 3) := by decide +kernel
theorem d_Md_where_39 : decode z_Md_where.2.2.1 39 = .ok (.iload_n 2, 1) := by decide +kernel
theorem d_Md_where_40 : decode z_Md_where.2.2.1 40 = .ok (.aload_n 0, 1) := by decide +kernel
theorem d_Md_where_41 : decode z_Md_where.2.2.1 41 = .ok (.getfield 28, 3) := by decide +kernel
theorem d_Md_where_44 : decode z_Md_where.2.2.1 44 = .ok (.iload_n 1, 1) := by decide +kernel
theorem d_Md_where_45 : decode z_Md_where.2.2.1 45 = .ok (.invokestatic 86, 3) := by decide +kernel
theorem d_Md_where_48 : decode z_Md_where.2.2.1 48 = .ok (.if_icmp .ge 12, 3) := by decide +kernel
theorem d_Md_where_51 : decode z_Md_where.2.2.1 51 = .ok (.iload_n 3, 1) := by decide +kernel
theorem d_Md_where_52 : decode z_Md_where.2.2.1 52 = .ok (.ifCond .lt 8, 3) := by decide +kernel
theorem d_Md_where_55 : decode z_Md_where.2.2.1 55 = .ok (.iload_n 3, 1) := by decide +kernel
theorem d_Md_where_56 : decode z_Md_where.2.2.1 56 = .ok (.iconst 1, 1) := by decide +kernel
theorem d_Md_where_57 : decode z_Md_where.2.2.1 57 = .ok (.if_icmp .le 16, 3) := by decide +kernel
theorem d_Md_where_60 : decode z_Md_where.2.2.1 60 = .ok (.aload_n 0, 1) := by decide +kernel
theorem d_Md_where_61 : decode z_Md_where.2.2.1 61 = .ok (.getfield 37, 3) := by decide +kernel
theorem d_Md_where_64 : decode z_Md_where.2.2.1 64 = .ok (.ifCond .le 7, 3) := by decide +kernel
theorem d_Md_where_67 : decode z_Md_where.2.2.1 67 = .ok (.iconst 0, 1) := by decide +kernel
theorem d_Md_where_68 : decode z_Md_where.2.2.1 68 = .ok (.goto 4, 3) := by decide +kernel
theorem d_Md_where_71 : decode z_Md_where.2.2.1 71 = .ok (.iconst (-1), 1) := by decide +kernel
theorem d_Md_where_72 : decode z_Md_where.2.2.1 72 = .ok (.ireturn, 1) := by decide +kernel
theorem d_Md_where_73 : decode z_Md_where.2.2.1 73 = .ok (.aload_n 0, 1) := by decide +kernel
theorem d_Md_where_74 : decode z_Md_where.2.2.1 74 = .ok (.getfield 28, 3) := by decide +kernel
theorem d_Md_where_77 : decode z_Md_where.2.2.1 77 = .ok (.bipush 9, 2) := by decide +kernel
theorem d_Md_where_79 : decode z_Md_where.2.2.1 79 = .ok (.bipush 10, 2) := by decide +kernel
theorem d_Md_where_81 : decode z_Md_where.2.2.1 81 = .ok (.iload_n 1, 1) := by decide +kernel
theorem d_Md_where_82 : decode z_Md_where.2.2.1 82 = .ok (.imul, 1) := by decide +kernel
theorem d_Md_where_83 : decode z_Md_where.2.2.1 83 = .ok (.iadd, 1) := by decide +kernel
theorem d_Md_where_84 : decode z_Md_where.2.2.1 84 = .ok (.iconst 2, 1) := by decide +kernel
theorem d_Md_where_85 : decode z_Md_where.2.2.1 85 = .ok (.iload_n 2, 1) := by decide +kernel
theorem d_Md_where_86 : decode z_Md_where.2.2.1 86 = .ok (.imul, 1) := by decide +kernel
theorem d_Md_where_87 : decode z_Md_where.2.2.1 87 = .ok (.iadd, 1) := by decide +kernel
theorem d_Md_where_88 : decode z_Md_where.2.2.1 88 = .ok (.iload_n 3, 1) := by decide +kernel
theorem d_Md_where_89 : decode z_Md_where.2.2.1 89 = .ok (.iadd, 1) := by decide +kernel
theorem d_Md_where_90 : decode z_Md_where.2.2.1 90 = .ok (.iaload, 1) := by decide +kernel
theorem d_Md_where_91 : decode z_Md_where.2.2.1 91 = .ok (.iconst 1, 1) := by decide +kernel
theorem d_Md_where_92 : decode z_Md_where.2.2.1 92 = .ok (.isub, 1) := by decide +kernel
theorem d_Md_where_93 : decode z_Md_where.2.2.1 93 = .ok (.ireturn, 1) := by decide +kernel
def bd_Md_where : jx_St := (sSeq (sPf [8] 0 0 (eA 0) (eIte (cNot (cCmp0 rNe (eGf [8] 4 (eA 0)))) (eInt (nI 1)) (eIte (cNot (cCmp0 rNe (eCl (jx_ev tb_Md_isVolume) [(eA 0), (eI 1)]))) (eInt (nI 2)) (eInt (nI 0))))) (sSeq (sIf (cOr (cOr (cOr (cOr (cCmp0 rGt (eGf [8] 0 (eA 0))) (cCmp0 rLt (eI 2))) (cCmp rGe (eI 2) (eCl (jx_ec f_Md_elementsOf) [(eGf [8] 6 (eA 0)), (eI 1)]))) (cCmp0 rLt (eI 3))) (cCmp rGt (eI 3) (eInt (nI 1)))) (sRet 0 (eIte (cCmp0 rGt (eGf [8] 0 (eA 0))) (eInt (nI 0)) (eInt (-1)))) sSkip) (sRet 0 (eBin oSub (eLd 0 (eGf [8] 6 (eA 0)) (eBin oAdd (eBin oAdd (eBin oAdd (eInt (nI 9)) (eBin oMul (eInt (nI 10)) (eI 1))) (eBin oMul (eInt (nI 2)) (eI 2))) (eI 3))) (eInt (nI 1))))))
theorem m_Md_where : jx_Ts z_Md_where 0 bd_Md_where [] := by
  unfold bd_Md_where
  exact (t_seq (t_pf (s_aload_n d_Md_where_0 rfl) (s_ite (q4 := 25) (s_not (s_cmp0 (s_getf (s_aload_n d_Md_where_1 rfl) fi_Md_20 d_Md_where_2) (s_if_neT (tgt := 12) d_Md_where_5 (by decide))) (by decide)) (s_iconst d_Md_where_8 (by decide)) d_Md_where_9 (by decide) (s_ite (q4 := 25) (s_not (s_cmp0 (s_cl (s_a1 (s_aload_n d_Md_where_12 rfl) (s_a1 (s_iload_n d_Md_where_13 rfl) s_a0)) (s_ecv (ve_Md_isVolume (by decide) (by decide)) dc_Md_isVolume (by decide) lm_Md_134 pd_Md_isVolume d_Md_where_14)) (s_if_neT (tgt := 24) d_Md_where_17 (by decide))) (by decide)) (s_iconst d_Md_where_20 (by decide)) d_Md_where_21 (by decide) (s_iconst d_Md_where_24 (by decide)))) fi_Md_37 rfl (Or.inl rfl) d_Md_where_25) (t_seq (t_if1 (Fs := [73]) (E := [73]) (s_org (s_org (s_org (s_org (s_cmp0 (s_getf (s_aload_n d_Md_where_28 rfl) fi_Md_37 d_Md_where_29) (s_if_gtT (tgt := 60) d_Md_where_32 (by decide))) (by decide) (al_1 (s_cmp0 (s_iload_n d_Md_where_35 rfl) (s_if_ltT (tgt := 60) d_Md_where_36 (by decide))))) (by decide) (al_1 (s_cmp (s_iload_n d_Md_where_39 rfl) (s_cl (s_a1 (s_getf (s_aload_n d_Md_where_40 rfl) fi_Md_28 d_Md_where_41) (s_a1 (s_iload_n d_Md_where_44 rfl) s_a0)) (s_ecs me_Md_elementsOf mw_Md_elementsOf (by decide) (by decide) (by decide) lm_Md_86 w_st_Md_elementsOf w_in_Md pd_Md_elementsOf d_Md_where_45)) (s_icmp_geT (tgt := 60) d_Md_where_48 (by decide))))) (by decide) (al_1 (s_cmp0 (s_iload_n d_Md_where_51 rfl) (s_if_ltT (tgt := 60) d_Md_where_52 (by decide))))) (by decide) (al_1 (s_cmp (s_iload_n d_Md_where_55 rfl) (s_iconst d_Md_where_56 (by decide)) (s_icmp_leF (tgt := 73) d_Md_where_57 (by decide))))) (by decide) (t_sub (E := []) (E' := [73]) (t_ret .int (s_ite (q4 := 72) (s_cmp0 (s_getf (s_aload_n d_Md_where_60 rfl) fi_Md_37 d_Md_where_61) (s_if_leF (tgt := 71) d_Md_where_64 (by decide))) (s_iconst d_Md_where_67 (by decide)) d_Md_where_68 (by decide) (s_iconst d_Md_where_71 (by decide))) rfl (by decide) d_Md_where_72) (by decide)) (by decide)) (t_ret .int (s_bin (s_load (s_getf (s_aload_n d_Md_where_73 rfl) fi_Md_28 d_Md_where_74) (s_bin (s_bin (s_bin (s_bipush d_Md_where_77 (by decide)) (s_bin (s_bipush d_Md_where_79 (by decide)) (s_iload_n d_Md_where_81 rfl) (s_imul d_Md_where_82)) (s_iadd d_Md_where_83)) (s_bin (s_iconst d_Md_where_84 (by decide)) (s_iload_n d_Md_where_85 rfl) (s_imul d_Md_where_86)) (s_iadd d_Md_where_87)) (s_iload_n d_Md_where_88 rfl) (s_iadd d_Md_where_89)) (s_iald d_Md_where_90)) (s_iconst d_Md_where_91 (by decide)) (s_isub d_Md_where_92)) rfl (by decide) d_Md_where_93)))
def f_Md_where : jx_Mt := jx_fn 4 4 (bd_Md_where fun _ _ => none)
theorem me_Md_where : jx_Me 4 z_Md_where f_Md_where := jx_Me.ofT (by decide) m_Md_where
theorem mw_Md_where : jx_mw ⟨"ExtentShelfModel", "where", "(III)I"⟩ z_Md_where := ⟨rfl, rfl, by decide +kernel, ⟨by decide, by decide⟩, by decide +kernel⟩
theorem pd_Md_where : (parseMethodDescriptor (⟨"ExtentShelfModel", "where", "(III)I"⟩ : MethodName).desc).map (fun d => d.parameters.length) = some 3 := by decide +kernel
/-! ExtentShelfModel.free(I)I -/
abbrev z_Md_free : jx_Z := ("ExtentShelfModel", "free", prog_11_method_48_code, 2, some .int, 3, 93)
theorem d_Md_free_0 : decode z_Md_free.2.2.1 0 = .ok (.aload_n 0, 1) := by decide +kernel
theorem d_Md_free_1 : decode z_Md_free.2.2.1 1 = .ok (.aload_n 0, 1) := by decide +kernel
theorem d_Md_free_2 : decode z_Md_free.2.2.1 2 = .ok (.getfield 20, 3) := by decide +kernel
theorem d_Md_free_5 : decode z_Md_free.2.2.1 5 = .ok (.ifCond .ne 7, 3) := by decide +kernel
theorem d_Md_free_8 : decode z_Md_free.2.2.1 8 = .ok (.iconst 1, 1) := by decide +kernel
theorem d_Md_free_9 : decode z_Md_free.2.2.1 9 = .ok (.goto 15, 3) := by decide +kernel
theorem d_Md_free_12 : decode z_Md_free.2.2.1 12 = .ok (.iload_n 1, 1) := by decide +kernel
theorem d_Md_free_13 : decode z_Md_free.2.2.1 13 = .ok (.invokestatic 103, 3) := by decide +kernel
theorem d_Md_free_16 : decode z_Md_free.2.2.1 16 = .ok (.ifCond .ne 7, 3) := by decide +kernel
theorem d_Md_free_19 : decode z_Md_free.2.2.1 19 = .ok (.iconst 2, 1) := by decide +kernel
theorem d_Md_free_20 : decode z_Md_free.2.2.1 20 = .ok (.goto 4, 3) := by decide +kernel
theorem d_Md_free_23 : decode z_Md_free.2.2.1 23 = .ok (.iconst 0, 1) := by decide +kernel
theorem d_Md_free_24 : decode z_Md_free.2.2.1 24 = .ok (.putfield 37, 3) := by decide +kernel
theorem d_Md_free_27 : decode z_Md_free.2.2.1 27 = .ok (.aload_n 0, 1) := by decide +kernel
theorem d_Md_free_28 : decode z_Md_free.2.2.1 28 = .ok (.getfield 37, 3) := by decide +kernel
theorem d_Md_free_31 : decode z_Md_free.2.2.1 31 = .ok (.ifCond .le 7, 3) := by decide +kernel
theorem d_Md_free_34 : decode z_Md_free.2.2.1 34 = .ok (.iconst 0, 1) := by decide +kernel
theorem d_Md_free_35 : decode z_Md_free.2.2.1 35 = .ok (.goto 27, 3) := by decide +kernel
theorem d_Md_free_38 : decode z_Md_free.2.2.1 38 = .ok (.aload_n 0, 1) := by decide +kernel
theorem d_Md_free_39 : decode z_Md_free.2.2.1 39 = .ok (.getfield 28, 3) := by decide +kernel
theorem d_Md_free_42 : decode z_Md_free.2.2.1 42 = .ok (.iconst 1, 1) := by decide +kernel
theorem d_Md_free_43 : decode z_Md_free.2.2.1 43 = .ok (.iload_n 1, 1) := by decide +kernel
theorem d_Md_free_44 : decode z_Md_free.2.2.1 44 = .ok (.iadd, 1) := by decide +kernel
theorem d_Md_free_45 : decode z_Md_free.2.2.1 45 = .ok (.iaload, 1) := by decide +kernel
theorem d_Md_free_46 : decode z_Md_free.2.2.1 46 = .ok (.ifCond .ne 7, 3) := by decide +kernel
theorem d_Md_free_49 : decode z_Md_free.2.2.1 49 = .ok (.iconst (-1), 1) := by decide +kernel
theorem d_Md_free_50 : decode z_Md_free.2.2.1 50 = .ok (.goto 12, 3) := by decide +kernel
theorem d_Md_free_53 : decode z_Md_free.2.2.1 53 = .ok (.aload_n 0, 1) := by decide +kernel
theorem d_Md_free_54 : decode z_Md_free.2.2.1 54 = .ok (.aload_n 0, 1) := by decide +kernel
theorem d_Md_free_55 : decode z_Md_free.2.2.1 55 = .ok (.getfield 28, 3) := by decide +kernel
theorem d_Md_free_58 : decode z_Md_free.2.2.1 58 = .ok (.iload_n 1, 1) := by decide +kernel
theorem d_Md_free_59 : decode z_Md_free.2.2.1 59 = .ok (.invokevirtual 92, 3) := by decide +kernel
theorem d_Md_free_62 : decode z_Md_free.2.2.1 62 = .ok (.ireturn, 1) := by decide +kernel
def bd_Md_free : jx_St := (sSeq (sPf [8] 0 0 (eA 0) (eIte (cNot (cCmp0 rNe (eGf [8] 4 (eA 0)))) (eInt (nI 1)) (eIte (cNot (cCmp0 rNe (eCl (jx_ec f_Md_isDisk) [(eI 1)]))) (eInt (nI 2)) (eInt (nI 0))))) (sRet 0 (eIte (cCmp0 rGt (eGf [8] 0 (eA 0))) (eInt (nI 0)) (eIte (cCmp0 rEq (eLd 0 (eGf [8] 6 (eA 0)) (eBin oAdd (eInt (nI 1)) (eI 1)))) (eInt (-1)) (eCl (jx_ev tb_Md_freeOn) [(eA 0), (eGf [8] 6 (eA 0)), (eI 1)])))))
theorem m_Md_free : jx_Ts z_Md_free 0 bd_Md_free [] := by
  unfold bd_Md_free
  exact (t_seq (t_pf (s_aload_n d_Md_free_0 rfl) (s_ite (q4 := 24) (s_not (s_cmp0 (s_getf (s_aload_n d_Md_free_1 rfl) fi_Md_20 d_Md_free_2) (s_if_neT (tgt := 12) d_Md_free_5 (by decide))) (by decide)) (s_iconst d_Md_free_8 (by decide)) d_Md_free_9 (by decide) (s_ite (q4 := 24) (s_not (s_cmp0 (s_cl (s_a1 (s_iload_n d_Md_free_12 rfl) s_a0) (s_ecs me_Md_isDisk mw_Md_isDisk (by decide) (by decide) (by decide) lm_Md_103 w_st_Md_isDisk w_in_Md pd_Md_isDisk d_Md_free_13)) (s_if_neT (tgt := 23) d_Md_free_16 (by decide))) (by decide)) (s_iconst d_Md_free_19 (by decide)) d_Md_free_20 (by decide) (s_iconst d_Md_free_23 (by decide)))) fi_Md_37 rfl (Or.inl rfl) d_Md_free_24) (t_ret .int (s_ite (q4 := 62) (s_cmp0 (s_getf (s_aload_n d_Md_free_27 rfl) fi_Md_37 d_Md_free_28) (s_if_leF (tgt := 38) d_Md_free_31 (by decide))) (s_iconst d_Md_free_34 (by decide)) d_Md_free_35 (by decide) (s_ite (q4 := 62) (s_cmp0 (s_load (s_getf (s_aload_n d_Md_free_38 rfl) fi_Md_28 d_Md_free_39) (s_bin (s_iconst d_Md_free_42 (by decide)) (s_iload_n d_Md_free_43 rfl) (s_iadd d_Md_free_44)) (s_iald d_Md_free_45)) (s_if_neF (tgt := 53) d_Md_free_46 (by decide))) (s_iconst d_Md_free_49 (by decide)) d_Md_free_50 (by decide) (s_cl (s_a1 (s_aload_n d_Md_free_53 rfl) (s_a1 (s_getf (s_aload_n d_Md_free_54 rfl) fi_Md_28 d_Md_free_55) (s_a1 (s_iload_n d_Md_free_58 rfl) s_a0))) (s_ecv (ve_Md_freeOn (by decide) (by decide)) dc_Md_freeOn (by decide) lm_Md_92 pd_Md_freeOn d_Md_free_59)))) rfl (by decide) d_Md_free_62))
def f_Md_free : jx_Mt := jx_fn 2 2 (bd_Md_free fun _ _ => none)
theorem me_Md_free : jx_Me 2 z_Md_free f_Md_free := jx_Me.ofT (by decide) m_Md_free
theorem mw_Md_free : jx_mw ⟨"ExtentShelfModel", "free", "(I)I"⟩ z_Md_free := ⟨rfl, rfl, by decide +kernel, ⟨by decide, by decide⟩, by decide +kernel⟩
theorem pd_Md_free : (parseMethodDescriptor (⟨"ExtentShelfModel", "free", "(I)I"⟩ : MethodName).desc).map (fun d => d.parameters.length) = some 1 := by decide +kernel
/-! ExtentShelfModel.number()I -/
abbrev z_Md_number : jx_Z := ("ExtentShelfModel", "number", prog_11_method_49_code, 1, some .int, 0, 0)
theorem d_Md_number_0 : decode z_Md_number.2.2.1 0 = .ok (.aload_n 0, 1) := by decide +kernel
theorem d_Md_number_1 : decode z_Md_number.2.2.1 1 = .ok (.iconst 0, 1) := by decide +kernel
theorem d_Md_number_2 : decode z_Md_number.2.2.1 2 = .ok (.putfield 37, 3) := by decide +kernel
theorem d_Md_number_5 : decode z_Md_number.2.2.1 5 = .ok (.aload_n 0, 1) := by decide +kernel
theorem d_Md_number_6 : decode z_Md_number.2.2.1 6 = .ok (.getfield 20, 3) := by decide +kernel
theorem d_Md_number_9 : decode z_Md_number.2.2.1 9 = .ok (.ifCond .eq 12, 3) := by decide +kernel
theorem d_Md_number_12 : decode z_Md_number.2.2.1 12 = .ok (.aload_n 0, 1) := by decide +kernel
theorem d_Md_number_13 : decode z_Md_number.2.2.1 13 = .ok (.getfield 28, 3) := by decide +kernel
theorem d_Md_number_16 : decode z_Md_number.2.2.1 16 = .ok (.iconst 0, 1) := by decide +kernel
theorem d_Md_number_17 : decode z_Md_number.2.2.1 17 = .ok (.iaload, 1) := by decide +kernel
theorem d_Md_number_18 : decode z_Md_number.2.2.1 18 = .ok (.goto 4, 3) := by decide +kernel
theorem d_Md_number_21 : decode z_Md_number.2.2.1 21 = .ok (.iconst (-1), 1) := by decide +kernel
theorem d_Md_number_22 : decode z_Md_number.2.2.1 22 = .ok (.ireturn, 1) := by decide +kernel
def bd_Md_number : jx_St := (sSeq (sPf [8] 0 0 (eA 0) (eInt (nI 0))) (sRet 0 (eIte (cCmp0 rNe (eGf [8] 4 (eA 0))) (eLd 0 (eGf [8] 6 (eA 0)) (eInt (nI 0))) (eInt (-1)))))
theorem m_Md_number : jx_Ts z_Md_number 0 bd_Md_number [] := by
  unfold bd_Md_number
  exact (t_seq (t_pf (s_aload_n d_Md_number_0 rfl) (s_iconst d_Md_number_1 (by decide)) fi_Md_37 rfl (Or.inl rfl) d_Md_number_2) (t_ret .int (s_ite (q4 := 22) (s_cmp0 (s_getf (s_aload_n d_Md_number_5 rfl) fi_Md_20 d_Md_number_6) (s_if_eqF (tgt := 21) d_Md_number_9 (by decide))) (s_load (s_getf (s_aload_n d_Md_number_12 rfl) fi_Md_28 d_Md_number_13) (s_iconst d_Md_number_16 (by decide)) (s_iald d_Md_number_17)) d_Md_number_18 (by decide) (s_iconst d_Md_number_21 (by decide))) rfl (by decide) d_Md_number_22))
def f_Md_number : jx_Mt := jx_fn 1 1 (bd_Md_number fun _ _ => none)
theorem me_Md_number : jx_Me 1 z_Md_number f_Md_number := jx_Me.ofT (by decide) m_Md_number
theorem mw_Md_number : jx_mw ⟨"ExtentShelfModel", "number", "()I"⟩ z_Md_number := ⟨rfl, rfl, by decide +kernel, ⟨by decide, by decide⟩, by decide +kernel⟩
theorem pd_Md_number : (parseMethodDescriptor (⟨"ExtentShelfModel", "number", "()I"⟩ : MethodName).desc).map (fun d => d.parameters.length) = some 0 := by decide +kernel
/-! ExtentShelfModel.look(III)I -/
abbrev z_Md_look : jx_Z := ("ExtentShelfModel", "look", prog_11_method_50_code, 5, some .int, 1, 28)
theorem d_Md_look_0 : decode z_Md_look.2.2.1 0 = .ok (.iload_n 1, 1) := by decide +kernel
theorem d_Md_look_1 : decode z_Md_look.2.2.1 1 = .ok (.invokestatic 103, 3) := by decide +kernel
theorem d_Md_look_4 : decode z_Md_look.2.2.1 4 = .ok (.ifCond .eq 36, 3) := by decide +kernel
theorem d_Md_look_7 : decode z_Md_look.2.2.1 7 = .ok (.iload_n 2, 1) := by decide +kernel
theorem d_Md_look_8 : decode z_Md_look.2.2.1 8 = .ok (.ifCond .lt 32, 3) := by decide +kernel
theorem d_Md_look_11 : decode z_Md_look.2.2.1 11 = .ok (.iload_n 2, 1) := by decide +kernel
theorem d_Md_look_12 : decode z_Md_look.2.2.1 12 = .ok (.iconst 3, 1) := by decide +kernel
theorem d_Md_look_13 : decode z_Md_look.2.2.1 13 = .ok (.if_icmp .ge 27, 3) := by decide +kernel
theorem d_Md_look_16 : decode z_Md_look.2.2.1 16 = .ok (.iload_n 3, 1) := by decide +kernel
theorem d_Md_look_17 : decode z_Md_look.2.2.1 17 = .ok (.ifCond .lt 23, 3) := by decide +kernel
theorem d_Md_look_20 : decode z_Md_look.2.2.1 20 = .ok (.iload_n 3, 1) := by decide +kernel
theorem d_Md_look_21 : decode z_Md_look.2.2.1 21 = .ok (.iload_n 2, 1) := by decide +kernel
theorem d_Md_look_22 : decode z_Md_look.2.2.1 22 = .ok (.iconst 2, 1) := by decide +kernel
theorem d_Md_look_23 : decode z_Md_look.2.2.1 23 = .ok (.if_icmp .ne 8, 3) := by decide +kernel
theorem d_Md_look_26 : decode z_Md_look.2.2.1 26 = .ok (.bipush 32, 2) := by decide +kernel
theorem d_Md_look_28 : decode z_Md_look.2.2.1 28 = .ok (.goto 5, 3) := by decide +kernel
theorem d_Md_look_31 : decode z_Md_look.2.2.1 31 = .ok (.bipush 51, 2) := by decide +kernel
theorem d_Md_look_33 : decode z_Md_look.2.2.1 33 = .ok (.if_icmp .ge 7, 3) := by decide +kernel
theorem d_Md_look_36 : decode z_Md_look.2.2.1 36 = .ok (.iconst 1, 1) := by decide +kernel
theorem d_Md_look_37 : decode z_Md_look.2.2.1 37 = .ok (.goto 4, 3) := by decide +kernel
theorem d_Md_look_40 : decode z_Md_look.2.2.1 40 = .ok (.iconst 0, 1) := by decide +kernel
theorem d_Md_look_41 : decode z_Md_look.2.2.1 41 = .ok (.istore 4, 2) := by decide +kernel
theorem d_Md_look_43 : decode z_Md_look.2.2.1 43 = .ok (.aload_n 0, 1) := by decide +kernel
theorem d_Md_look_44 : decode z_Md_look.2.2.1 44 = .ok (.iload 4, 2) := by decide +kernel
theorem d_Md_look_46 : decode z_Md_look.2.2.1 46 = .ok (.ifCond .eq 7, 3) := by decide +kernel
theorem d_Md_look_49 : decode z_Md_look.2.2.1 49 = .ok (.iconst 0, 1) := by decide +kernel
theorem d_Md_look_50 : decode z_Md_look.2.2.1 50 = .ok (.goto 4, 3) := by decide +kernel
theorem d_Md_look_53 : decode z_Md_look.2.2.1 53 = .ok (.iconst 1, 1) := by decide +kernel
theorem d_Md_look_54 : decode z_Md_look.2.2.1 54 = .ok (.putfield 37, 3) := by decide +kernel
theorem d_Md_look_57 : decode z_Md_look.2.2.1 57 = .ok (.iload 4, 2) := by decide +kernel
theorem d_Md_look_59 : decode z_Md_look.2.2.1 59 = .ok (.ifCond .ne 7, 3) := by decide +kernel
theorem d_Md_look_62 : decode z_Md_look.2.2.1 62 = .ok (.iconst 0, 1) := by decide +kernel
theorem d_Md_look_63 : decode z_Md_look.2.2.1 63 = .ok (.goto 38, 3) := by decide +kernel
theorem d_Md_look_66 : decode z_Md_look.2.2.1 66 = .ok (.iload_n 2, 1) := by decide +kernel
theorem d_Md_look_67 : decode z_Md_look.2.2.1 67 = .ok (.iconst 2, 1) := by decide +kernel
theorem d_Md_look_68 : decode z_Md_look.2.2.1 68 = .ok (.if_icmp .ne 17, 3) := by decide +kernel
theorem d_Md_look_71 : decode z_Md_look.2.2.1 71 = .ok (.aload_n 0, 1) := by decide +kernel
theorem d_Md_look_72 : decode z_Md_look.2.2.1 72 = .ok (.getfield 17, 3) := by decide +kernel
theorem d_Md_look_75 : decode z_Md_look.2.2.1 75 = .ok (.bipush 32, 2) := by decide +kernel
theorem d_Md_look_77 : decode z_Md_look.2.2.1 77 = .ok (.iload_n 1, 1) := by decide +kernel
theorem d_Md_look_78 : decode z_Md_look.2.2.1 78 = .ok (.imul, 1) := by decide +kernel
theorem d_Md_look_79 : decode z_Md_look.2.2.1 79 = .ok (.iload_n 3, 1) := by decide +kernel
theorem d_Md_look_80 : decode z_Md_look.2.2.1 80 = .ok (.iadd, 1) := by decide +kernel
theorem d_Md_look_81 : decode z_Md_look.2.2.1 81 = .ok (.iaload, 1) := by decide +kernel
theorem d_Md_look_82 : decode z_Md_look.2.2.1 82 = .ok (.goto 19, 3) := by decide +kernel
theorem d_Md_look_85 : decode z_Md_look.2.2.1 85 = .ok (.aload_n 0, 1) := by decide +kernel
theorem d_Md_look_86 : decode z_Md_look.2.2.1 86 = .ok (.getfield 13, 3) := by decide +kernel
theorem d_Md_look_89 : decode z_Md_look.2.2.1 89 = .ok (.bipush 102, 2) := by decide +kernel
theorem d_Md_look_91 : decode z_Md_look.2.2.1 91 = .ok (.iload_n 1, 1) := by decide +kernel
theorem d_Md_look_92 : decode z_Md_look.2.2.1 92 = .ok (.imul, 1) := by decide +kernel
theorem d_Md_look_93 : decode z_Md_look.2.2.1 93 = .ok (.bipush 51, 2) := by decide +kernel
theorem d_Md_look_95 : decode z_Md_look.2.2.1 95 = .ok (.iload_n 2, 1) := by decide +kernel
theorem d_Md_look_96 : decode z_Md_look.2.2.1 96 = .ok (.imul, 1) := by decide +kernel
theorem d_Md_look_97 : decode z_Md_look.2.2.1 97 = .ok (.iadd, 1) := by decide +kernel
theorem d_Md_look_98 : decode z_Md_look.2.2.1 98 = .ok (.iload_n 3, 1) := by decide +kernel
theorem d_Md_look_99 : decode z_Md_look.2.2.1 99 = .ok (.iadd, 1) := by decide +kernel
theorem d_Md_look_100 : decode z_Md_look.2.2.1 100 = .ok (.iaload, 1) := by decide +kernel
theorem d_Md_look_101 : decode z_Md_look.2.2.1 101 = .ok (.ireturn, 1) := by decide +kernel
def bd_Md_look : jx_St := (sSeq (sAsg 0 4 (eIte (cAnd (cAnd (cAnd (cAnd (cCmp0 rNe (eCl (jx_ec f_Md_isDisk) [(eI 1)])) (cCmp0 rGe (eI 2))) (cCmp rLt (eI 2) (eInt (nI 3)))) (cCmp0 rGe (eI 3))) (cCmp rLt (eI 3) (eIte (cCmp rEq (eI 2) (eInt (nI 2))) (eInt (nI 32)) (eInt (nI 51))))) (eInt (nI 1)) (eInt (nI 0)))) (sSeq (sPf [8] 0 0 (eA 0) (eIte (cCmp0 rNe (eI 4)) (eInt (nI 0)) (eInt (nI 1)))) (sRet 0 (eIte (cNot (cCmp0 rNe (eI 4))) (eInt (nI 0)) (eIte (cCmp rEq (eI 2) (eInt (nI 2))) (eLd 0 (eGf [8] 3 (eA 0)) (eBin oAdd (eBin oMul (eInt (nI 32)) (eI 1)) (eI 3))) (eLd 0 (eGf [8] 2 (eA 0)) (eBin oAdd (eBin oAdd (eBin oMul (eInt (nI 102)) (eI 1)) (eBin oMul (eInt (nI 51)) (eI 2))) (eI 3))))))))
theorem m_Md_look : jx_Ts z_Md_look 0 bd_Md_look [] := by
  unfold bd_Md_look
  exact (t_seq (t_asg (s_ite (q4 := 41) (s_andg (s_andg (s_andg (s_andg (s_cmp0 (s_cl (s_a1 (s_iload_n d_Md_look_0 rfl) s_a0) (s_ecs me_Md_isDisk mw_Md_isDisk (by decide) (by decide) (by decide) lm_Md_103 w_st_Md_isDisk w_in_Md pd_Md_isDisk d_Md_look_1)) (s_if_eqF (tgt := 40) d_Md_look_4 (by decide))) (by decide) (al_1 (s_cmp0 (s_iload_n d_Md_look_7 rfl) (s_if_ltF (tgt := 40) d_Md_look_8 (by decide))))) (by decide) (al_1 (s_cmp (s_iload_n d_Md_look_11 rfl) (s_iconst d_Md_look_12 (by decide)) (s_icmp_geF (tgt := 40) d_Md_look_13 (by decide))))) (by decide) (al_1 (s_cmp0 (s_iload_n d_Md_look_16 rfl) (s_if_ltF (tgt := 40) d_Md_look_17 (by decide))))) (by decide) (al_1 (s_cmp (s_iload_n d_Md_look_20 rfl) (s_ite (q4 := 33) (s_cmp (s_iload_n d_Md_look_21 rfl) (s_iconst d_Md_look_22 (by decide)) (s_icmp_neF (tgt := 31) d_Md_look_23 (by decide))) (s_bipush d_Md_look_26 (by decide)) d_Md_look_28 (by decide) (s_bipush d_Md_look_31 (by decide))) (s_icmp_geF (tgt := 40) d_Md_look_33 (by decide))))) (s_iconst d_Md_look_36 (by decide)) d_Md_look_37 (by decide) (s_iconst d_Md_look_40 (by decide))) (fun v k h => b_istore d_Md_look_41 (by decide) h)) (t_seq (t_pf (s_aload_n d_Md_look_43 rfl) (s_ite (q4 := 54) (s_cmp0 (s_iload d_Md_look_44) (s_if_eqF (tgt := 53) d_Md_look_46 (by decide))) (s_iconst d_Md_look_49 (by decide)) d_Md_look_50 (by decide) (s_iconst d_Md_look_53 (by decide))) fi_Md_37 rfl (Or.inl rfl) d_Md_look_54) (t_ret .int (s_ite (q4 := 101) (s_not (s_cmp0 (s_iload d_Md_look_57) (s_if_neT (tgt := 66) d_Md_look_59 (by decide))) (by decide)) (s_iconst d_Md_look_62 (by decide)) d_Md_look_63 (by decide) (s_ite (q4 := 101) (s_cmp (s_iload_n d_Md_look_66 rfl) (s_iconst d_Md_look_67 (by decide)) (s_icmp_neF (tgt := 85) d_Md_look_68 (by decide))) (s_load (s_getf (s_aload_n d_Md_look_71 rfl) fi_Md_17 d_Md_look_72) (s_bin (s_bin (s_bipush d_Md_look_75 (by decide)) (s_iload_n d_Md_look_77 rfl) (s_imul d_Md_look_78)) (s_iload_n d_Md_look_79 rfl) (s_iadd d_Md_look_80)) (s_iald d_Md_look_81)) d_Md_look_82 (by decide) (s_load (s_getf (s_aload_n d_Md_look_85 rfl) fi_Md_13 d_Md_look_86) (s_bin (s_bin (s_bin (s_bipush d_Md_look_89 (by decide)) (s_iload_n d_Md_look_91 rfl) (s_imul d_Md_look_92)) (s_bin (s_bipush d_Md_look_93 (by decide)) (s_iload_n d_Md_look_95 rfl) (s_imul d_Md_look_96)) (s_iadd d_Md_look_97)) (s_iload_n d_Md_look_98 rfl) (s_iadd d_Md_look_99)) (s_iald d_Md_look_100)))) rfl (by decide) d_Md_look_101)))
def f_Md_look : jx_Mt := jx_fn 4 5 (bd_Md_look fun _ _ => none)
theorem me_Md_look : jx_Me 4 z_Md_look f_Md_look := jx_Me.ofT (by decide) m_Md_look
theorem mw_Md_look : jx_mw ⟨"ExtentShelfModel", "look", "(III)I"⟩ z_Md_look := ⟨rfl, rfl, by decide +kernel, ⟨by decide, by decide⟩, by decide +kernel⟩
theorem pd_Md_look : (parseMethodDescriptor (⟨"ExtentShelfModel", "look", "(III)I"⟩ : MethodName).desc).map (fun d => d.parameters.length) = some 3 := by decide +kernel
/-! ExtentShelfModel.cut(I)V -/
abbrev z_Md_cut : jx_Z := ("ExtentShelfModel", "cut", prog_11_method_51_code, 2, none, 0, 0)
theorem d_Md_cut_0 : decode z_Md_cut.2.2.1 0 = .ok (.aload_n 0, 1) := by decide +kernel
theorem d_Md_cut_1 : decode z_Md_cut.2.2.1 1 = .ok (.aload_n 0, 1) := by decide +kernel
theorem d_Md_cut_2 : decode z_Md_cut.2.2.1 2 = .ok (.getfield 20, 3) := by decide +kernel
theorem d_Md_cut_5 : decode z_Md_cut.2.2.1 5 = .ok (.ifCond .ne 7, 3) := by decide +kernel
theorem d_Md_cut_8 : decode z_Md_cut.2.2.1 8 = .ok (.iconst 1, 1) := by decide +kernel
theorem d_Md_cut_9 : decode z_Md_cut.2.2.1 9 = .ok (.goto 13, 3) := by decide +kernel
theorem d_Md_cut_12 : decode z_Md_cut.2.2.1 12 = .ok (.iload_n 1, 1) := by decide +kernel
theorem d_Md_cut_13 : decode z_Md_cut.2.2.1 13 = .ok (.iconst (-1), 1) := by decide +kernel
theorem d_Md_cut_14 : decode z_Md_cut.2.2.1 14 = .ok (.if_icmp .ge 7, 3) := by decide +kernel
theorem d_Md_cut_17 : decode z_Md_cut.2.2.1 17 = .ok (.iconst 2, 1) := by decide +kernel
theorem d_Md_cut_18 : decode z_Md_cut.2.2.1 18 = .ok (.goto 4, 3) := by decide +kernel
theorem d_Md_cut_21 : decode z_Md_cut.2.2.1 21 = .ok (.iconst 0, 1) := by decide +kernel
theorem d_Md_cut_22 : decode z_Md_cut.2.2.1 22 = .ok (.putfield 37, 3) := by decide +kernel
theorem d_Md_cut_25 : decode z_Md_cut.2.2.1 25 = .ok (.aload_n 0, 1) := by decide +kernel
theorem d_Md_cut_26 : decode z_Md_cut.2.2.1 26 = .ok (.aload_n 0, 1) := by decide +kernel
theorem d_Md_cut_27 : decode z_Md_cut.2.2.1 27 = .ok (.getfield 37, 3) := by decide +kernel
theorem d_Md_cut_30 : decode z_Md_cut.2.2.1 30 = .ok (.ifCond .le 10, 3) := by decide +kernel
theorem d_Md_cut_33 : decode z_Md_cut.2.2.1 33 = .ok (.aload_n 0, 1) := by decide +kernel
theorem d_Md_cut_34 : decode z_Md_cut.2.2.1 34 = .ok (.getfield 24, 3) := by decide +kernel
theorem d_Md_cut_37 : decode z_Md_cut.2.2.1 37 = .ok (.goto 4, 3) := by decide +kernel
theorem d_Md_cut_40 : decode z_Md_cut.2.2.1 40 = .ok (.iload_n 1, 1) := by decide +kernel
theorem d_Md_cut_41 : decode z_Md_cut.2.2.1 41 = .ok (.putfield 24, 3) := by decide +kernel
theorem d_Md_cut_44 : decode z_Md_cut.2.2.1 44 = .ok (.return_, 1) := by decide +kernel
def bd_Md_cut : jx_St := (sSeq (sSeq (sPf [8] 0 0 (eA 0) (eIte (cNot (cCmp0 rNe (eGf [8] 4 (eA 0)))) (eInt (nI 1)) (eIte (cCmp rLt (eI 1) (eInt (-1))) (eInt (nI 2)) (eInt (nI 0))))) (sPf [8] 5 0 (eA 0) (eIte (cCmp0 rGt (eGf [8] 0 (eA 0))) (eGf [8] 5 (eA 0)) (eI 1)))) sRetV)
theorem m_Md_cut : jx_Ts z_Md_cut 0 bd_Md_cut [] := by
  unfold bd_Md_cut
  exact (t_seq (t_seq (t_pf (s_aload_n d_Md_cut_0 rfl) (s_ite (q4 := 22) (s_not (s_cmp0 (s_getf (s_aload_n d_Md_cut_1 rfl) fi_Md_20 d_Md_cut_2) (s_if_neT (tgt := 12) d_Md_cut_5 (by decide))) (by decide)) (s_iconst d_Md_cut_8 (by decide)) d_Md_cut_9 (by decide) (s_ite (q4 := 22) (s_cmp (s_iload_n d_Md_cut_12 rfl) (s_iconst d_Md_cut_13 (by decide)) (s_icmp_geF (tgt := 21) d_Md_cut_14 (by decide))) (s_iconst d_Md_cut_17 (by decide)) d_Md_cut_18 (by decide) (s_iconst d_Md_cut_21 (by decide)))) fi_Md_37 rfl (Or.inl rfl) d_Md_cut_22) (t_pf (s_aload_n d_Md_cut_25 rfl) (s_ite (q4 := 41) (s_cmp0 (s_getf (s_aload_n d_Md_cut_26 rfl) fi_Md_37 d_Md_cut_27) (s_if_leF (tgt := 40) d_Md_cut_30 (by decide))) (s_getf (s_aload_n d_Md_cut_33 rfl) fi_Md_24 d_Md_cut_34) d_Md_cut_37 (by decide) (s_iload_n d_Md_cut_40 rfl)) fi_Md_24 rfl (Or.inl rfl) d_Md_cut_41)) (t_retv rfl d_Md_cut_44))
def f_Md_cut : jx_Mt := jx_fn 2 2 (bd_Md_cut fun _ _ => none)
theorem me_Md_cut : jx_Me 2 z_Md_cut f_Md_cut := jx_Me.ofT (by decide) m_Md_cut
theorem mw_Md_cut : jx_mw ⟨"ExtentShelfModel", "cut", "(I)V"⟩ z_Md_cut := ⟨rfl, rfl, by decide +kernel, ⟨by decide, by decide⟩, by decide +kernel⟩
theorem pd_Md_cut : (parseMethodDescriptor (⟨"ExtentShelfModel", "cut", "(I)V"⟩ : MethodName).desc).map (fun d => d.parameters.length) = some 1 := by decide +kernel
/-! ExtentShelfModel.off()V -/
abbrev z_Md_off : jx_Z := ("ExtentShelfModel", "off", prog_11_method_52_code, 1, none, 0, 0)
theorem d_Md_off_0 : decode z_Md_off.2.2.1 0 = .ok (.aload_n 0, 1) := by decide +kernel
theorem d_Md_off_1 : decode z_Md_off.2.2.1 1 = .ok (.aload_n 0, 1) := by decide +kernel
theorem d_Md_off_2 : decode z_Md_off.2.2.1 2 = .ok (.getfield 20, 3) := by decide +kernel
theorem d_Md_off_5 : decode z_Md_off.2.2.1 5 = .ok (.ifCond .eq 7, 3) := by decide +kernel
theorem d_Md_off_8 : decode z_Md_off.2.2.1 8 = .ok (.iconst 0, 1) := by decide +kernel
theorem d_Md_off_9 : decode z_Md_off.2.2.1 9 = .ok (.goto 4, 3) := by decide +kernel
theorem d_Md_off_12 : decode z_Md_off.2.2.1 12 = .ok (.iconst 1, 1) := by decide +kernel
theorem d_Md_off_13 : decode z_Md_off.2.2.1 13 = .ok (.putfield 37, 3) := by decide +kernel
theorem d_Md_off_16 : decode z_Md_off.2.2.1 16 = .ok (.aload_n 0, 1) := by decide +kernel
theorem d_Md_off_17 : decode z_Md_off.2.2.1 17 = .ok (.iconst 0, 1) := by decide +kernel
theorem d_Md_off_18 : decode z_Md_off.2.2.1 18 = .ok (.putfield 20, 3) := by decide +kernel
theorem d_Md_off_21 : decode z_Md_off.2.2.1 21 = .ok (.aload_n 0, 1) := by decide +kernel
theorem d_Md_off_22 : decode z_Md_off.2.2.1 22 = .ok (.iconst (-1), 1) := by decide +kernel
theorem d_Md_off_23 : decode z_Md_off.2.2.1 23 = .ok (.putfield 24, 3) := by decide +kernel
theorem d_Md_off_26 : decode z_Md_off.2.2.1 26 = .ok (.aload_n 0, 1) := by decide +kernel
theorem d_Md_off_27 : decode z_Md_off.2.2.1 27 = .ok (.iconst (-1), 1) := by decide +kernel
theorem d_Md_off_28 : decode z_Md_off.2.2.1 28 = .ok (.putfield 34, 3) := by decide +kernel
theorem d_Md_off_31 : decode z_Md_off.2.2.1 31 = .ok (.return_, 1) := by decide +kernel
def bd_Md_off : jx_St := (sSeq (sSeq (sPf [8] 0 0 (eA 0) (eIte (cCmp0 rNe (eGf [8] 4 (eA 0))) (eInt (nI 0)) (eInt (nI 1)))) (sSeq (sPf [8] 4 1 (eA 0) (eInt (nI 0))) (sSeq (sPf [8] 5 0 (eA 0) (eInt (-1))) (sPf [8] 8 0 (eA 0) (eInt (-1)))))) sRetV)
theorem m_Md_off : jx_Ts z_Md_off 0 bd_Md_off [] := by
  unfold bd_Md_off
  exact (t_seq (t_seq (t_pf (s_aload_n d_Md_off_0 rfl) (s_ite (q4 := 13) (s_cmp0 (s_getf (s_aload_n d_Md_off_1 rfl) fi_Md_20 d_Md_off_2) (s_if_eqF (tgt := 12) d_Md_off_5 (by decide))) (s_iconst d_Md_off_8 (by decide)) d_Md_off_9 (by decide) (s_iconst d_Md_off_12 (by decide))) fi_Md_37 rfl (Or.inl rfl) d_Md_off_13) (t_seq (t_pf (s_aload_n d_Md_off_16 rfl) (s_iconst d_Md_off_17 (by decide)) fi_Md_20 rfl (Or.inl rfl) d_Md_off_18) (t_seq (t_pf (s_aload_n d_Md_off_21 rfl) (s_iconst d_Md_off_22 (by decide)) fi_Md_24 rfl (Or.inl rfl) d_Md_off_23) (t_pf (s_aload_n d_Md_off_26 rfl) (s_iconst d_Md_off_27 (by decide)) fi_Md_34 rfl (Or.inl rfl) d_Md_off_28)))) (t_retv rfl d_Md_off_31))
def f_Md_off : jx_Mt := jx_fn 1 1 (bd_Md_off fun _ _ => none)
theorem me_Md_off : jx_Me 1 z_Md_off f_Md_off := jx_Me.ofT (by decide) m_Md_off
theorem mw_Md_off : jx_mw ⟨"ExtentShelfModel", "off", "()V"⟩ z_Md_off := ⟨rfl, rfl, by decide +kernel, ⟨by decide, by decide⟩, by decide +kernel⟩
theorem pd_Md_off : (parseMethodDescriptor (⟨"ExtentShelfModel", "off", "()V"⟩ : MethodName).desc).map (fun d => d.parameters.length) = some 0 := by decide +kernel
/-! ExtentShelfModel.plug(IZ)Z -/
abbrev z_Md_plug : jx_Z := ("ExtentShelfModel", "plug", prog_11_method_53_code, 4, some .boolean, 1, 28)
theorem d_Md_plug_0 : decode z_Md_plug.2.2.1 0 = .ok (.aload_n 0, 1) := by decide +kernel
theorem d_Md_plug_1 : decode z_Md_plug.2.2.1 1 = .ok (.aload_n 0, 1) := by decide +kernel
theorem d_Md_plug_2 : decode z_Md_plug.2.2.1 2 = .ok (.getfield 20, 3) := by decide +kernel
theorem d_Md_plug_5 : decode z_Md_plug.2.2.1 5 = .ok (.ifCond .eq 7, 3) := by decide +kernel
theorem d_Md_plug_8 : decode z_Md_plug.2.2.1 8 = .ok (.iconst 1, 1) := by decide +kernel
theorem d_Md_plug_9 : decode z_Md_plug.2.2.1 9 = .ok (.goto 15, 3) := by decide +kernel
theorem d_Md_plug_12 : decode z_Md_plug.2.2.1 12 = .ok (.iload_n 1, 1) := by decide +kernel
theorem d_Md_plug_13 : decode z_Md_plug.2.2.1 13 = .ok (.invokestatic 103, 3) := by decide +kernel
theorem d_Md_plug_16 : decode z_Md_plug.2.2.1 16 = .ok (.ifCond .ne 7, 3) := by decide +kernel
theorem d_Md_plug_19 : decode z_Md_plug.2.2.1 19 = .ok (.iconst 2, 1) := by decide +kernel
theorem d_Md_plug_20 : decode z_Md_plug.2.2.1 20 = .ok (.goto 4, 3) := by decide +kernel
theorem d_Md_plug_23 : decode z_Md_plug.2.2.1 23 = .ok (.iconst 0, 1) := by decide +kernel
theorem d_Md_plug_24 : decode z_Md_plug.2.2.1 24 = .ok (.putfield 37, 3) := by decide +kernel
theorem d_Md_plug_27 : decode z_Md_plug.2.2.1 27 = .ok (.aload_n 0, 1) := by decide +kernel
theorem d_Md_plug_28 : decode z_Md_plug.2.2.1 28 = .ok (.getfield 37, 3) := by decide +kernel
theorem d_Md_plug_31 : decode z_Md_plug.2.2.1 31 = .ok (.ifCond .le 5, 3) := by decide +kernel
theorem d_Md_plug_34 : decode z_Md_plug.2.2.1 34 = .ok (.iconst 0, 1) := by decide +kernel
theorem d_Md_plug_35 : decode z_Md_plug.2.2.1 35 = .ok (.ireturn, 1) := by decide +kernel
theorem d_Md_plug_36 : decode z_Md_plug.2.2.1 36 = .ok (.aload_n 0, 1) := by decide +kernel
theorem d_Md_plug_37 : decode z_Md_plug.2.2.1 37 = .ok (.getfield 7, 3) := by decide +kernel
theorem d_Md_plug_40 : decode z_Md_plug.2.2.1 40 = .ok (.iload_n 1, 1) := by decide +kernel
theorem d_Md_plug_41 : decode z_Md_plug.2.2.1 41 = .ok (.baload, 1) := by decide +kernel
theorem d_Md_plug_42 : decode z_Md_plug.2.2.1 42 = .ok (.iload_n 2, 1) := by decide +kernel
theorem d_Md_plug_43 : decode z_Md_plug.2.2.1 43 = .ok (.if_icmp .eq 7, 3) := by decide +kernel
theorem d_Md_plug_46 : decode z_Md_plug.2.2.1 46 = .ok (.iconst 1, 1) := by decide +kernel
theorem d_Md_plug_47 : decode z_Md_plug.2.2.1 47 = .ok (.goto 4, 3) := by decide +kernel
theorem d_Md_plug_50 : decode z_Md_plug.2.2.1 50 = .ok (.iconst 0, 1) := by decide +kernel
theorem d_Md_plug_51 : decode z_Md_plug.2.2.1 51 = .ok (.istore_n 3, 1) := by decide +kernel
theorem d_Md_plug_52 : decode z_Md_plug.2.2.1 52 = .ok (.aload_n 0, 1) := by decide +kernel
theorem d_Md_plug_53 : decode z_Md_plug.2.2.1 53 = .ok (.getfield 7, 3) := by decide +kernel
theorem d_Md_plug_56 : decode z_Md_plug.2.2.1 56 = .ok (.iload_n 1, 1) := by decide +kernel
theorem d_Md_plug_57 : decode z_Md_plug.2.2.1 57 = .ok (.iload_n 2, 1) := by decide +kernel
theorem d_Md_plug_58 : decode z_Md_plug.2.2.1 58 = .ok (.bastore, 1) := by decide +kernel
theorem d_Md_plug_59 : decode z_Md_plug.2.2.1 59 = .ok (.iload_n 3, 1) := by decide +kernel
theorem d_Md_plug_60 : decode z_Md_plug.2.2.1 60 = .ok (.ireturn, 1) := by decide +kernel
def bd_Md_plug : jx_St := (sSeq (sPf [8] 0 0 (eA 0) (eIte (cCmp0 rNe (eGf [8] 4 (eA 0))) (eInt (nI 1)) (eIte (cNot (cCmp0 rNe (eCl (jx_ec f_Md_isDisk) [(eI 1)]))) (eInt (nI 2)) (eInt (nI 0))))) (sSeq (sIf (cCmp0 rGt (eGf [8] 0 (eA 0))) (sRet 1 (eInt (nI 0))) sSkip) (sSeq (sAsg 0 3 (eIte (cCmp rNe (eLd 2 (eGf [8] 1 (eA 0)) (eI 1)) (eI 2)) (eInt (nI 1)) (eInt (nI 0)))) (sSeq (sSt 2 1 (eGf [8] 1 (eA 0)) (eI 1) (eI 2)) (sRet 1 (eI 3))))))
theorem m_Md_plug : jx_Ts z_Md_plug 0 bd_Md_plug [] := by
  unfold bd_Md_plug
  exact (t_seq (t_pf (s_aload_n d_Md_plug_0 rfl) (s_ite (q4 := 24) (s_cmp0 (s_getf (s_aload_n d_Md_plug_1 rfl) fi_Md_20 d_Md_plug_2) (s_if_eqF (tgt := 12) d_Md_plug_5 (by decide))) (s_iconst d_Md_plug_8 (by decide)) d_Md_plug_9 (by decide) (s_ite (q4 := 24) (s_not (s_cmp0 (s_cl (s_a1 (s_iload_n d_Md_plug_12 rfl) s_a0) (s_ecs me_Md_isDisk mw_Md_isDisk (by decide) (by decide) (by decide) lm_Md_103 w_st_Md_isDisk w_in_Md pd_Md_isDisk d_Md_plug_13)) (s_if_neT (tgt := 23) d_Md_plug_16 (by decide))) (by decide)) (s_iconst d_Md_plug_19 (by decide)) d_Md_plug_20 (by decide) (s_iconst d_Md_plug_23 (by decide)))) fi_Md_37 rfl (Or.inl rfl) d_Md_plug_24) (t_seq (t_if1 (Fs := [36]) (E := [36]) (s_cmp0 (s_getf (s_aload_n d_Md_plug_27 rfl) fi_Md_37 d_Md_plug_28) (s_if_leF (tgt := 36) d_Md_plug_31 (by decide))) (by decide) (t_sub (E := []) (E' := [36]) (t_ret .boolean (s_iconst d_Md_plug_34 (by decide)) rfl (by decide) d_Md_plug_35) (by decide)) (by decide)) (t_seq (t_asg (s_ite (q4 := 51) (s_cmp (s_load (s_getf (s_aload_n d_Md_plug_36 rfl) fi_Md_7 d_Md_plug_37) (s_iload_n d_Md_plug_40 rfl) (s_zald d_Md_plug_41)) (s_iload_n d_Md_plug_42 rfl) (s_icmp_eqF (tgt := 50) d_Md_plug_43 (by decide))) (s_iconst d_Md_plug_46 (by decide)) d_Md_plug_47 (by decide) (s_iconst d_Md_plug_50 (by decide))) (fun v k h => b_istore_n d_Md_plug_51 rfl (by decide) h)) (t_seq (t_st (s_getf (s_aload_n d_Md_plug_52 rfl) fi_Md_7 d_Md_plug_53) (s_iload_n d_Md_plug_56 rfl) (s_iload_n d_Md_plug_57 rfl) (s_zast d_Md_plug_58)) (t_ret .boolean (s_iload_n d_Md_plug_59 rfl) rfl (by decide) d_Md_plug_60)))))
def f_Md_plug : jx_Mt := jx_fn 3 4 (bd_Md_plug fun _ _ => none)
theorem me_Md_plug : jx_Me 3 z_Md_plug f_Md_plug := jx_Me.ofT (by decide) m_Md_plug
theorem mw_Md_plug : jx_mw ⟨"ExtentShelfModel", "plug", "(IZ)Z"⟩ z_Md_plug := ⟨rfl, rfl, by decide +kernel, ⟨by decide, by decide⟩, by decide +kernel⟩
theorem pd_Md_plug : (parseMethodDescriptor (⟨"ExtentShelfModel", "plug", "(IZ)Z"⟩ : MethodName).desc).map (fun d => d.parameters.length) = some 2 := by decide +kernel
/-! ExtentShelfModel.start()I -/
abbrev z_Md_start : jx_Z := ("ExtentShelfModel", "start", prog_11_method_54_code, 5, some .int, 3, 96)
theorem d_Md_start_0 : decode z_Md_start.2.2.1 0 = .ok (.aload_n 0, 1) := by decide +kernel
theorem d_Md_start_1 : decode z_Md_start.2.2.1 1 = .ok (.aload_n 0, 1) := by decide +kernel
theorem d_Md_start_2 : decode z_Md_start.2.2.1 2 = .ok (.getfield 20, 3) := by decide +kernel
theorem d_Md_start_5 : decode z_Md_start.2.2.1 5 = .ok (.ifCond .eq 7, 3) := by decide +kernel
theorem d_Md_start_8 : decode z_Md_start.2.2.1 8 = .ok (.iconst 1, 1) := by decide +kernel
theorem d_Md_start_9 : decode z_Md_start.2.2.1 9 = .ok (.goto 4, 3) := by decide +kernel
theorem d_Md_start_12 : decode z_Md_start.2.2.1 12 = .ok (.iconst 0, 1) := by decide +kernel
theorem d_Md_start_13 : decode z_Md_start.2.2.1 13 = .ok (.putfield 37, 3) := by decide +kernel
theorem d_Md_start_16 : decode z_Md_start.2.2.1 16 = .ok (.aload_n 0, 1) := by decide +kernel
theorem d_Md_start_17 : decode z_Md_start.2.2.1 17 = .ok (.getfield 20, 3) := by decide +kernel
theorem d_Md_start_20 : decode z_Md_start.2.2.1 20 = .ok (.ifCond .eq 5, 3) := by decide +kernel
theorem d_Md_start_23 : decode z_Md_start.2.2.1 23 = .ok (.iconst 0, 1) := by decide +kernel
theorem d_Md_start_24 : decode z_Md_start.2.2.1 24 = .ok (.ireturn, 1) := by decide +kernel
theorem d_Md_start_25 : decode z_Md_start.2.2.1 25 = .ok (.aload_n 0, 1) := by decide +kernel
theorem d_Md_start_26 : decode z_Md_start.2.2.1 26 = .ok (.iconst 1, 1) := by decide +kernel
theorem d_Md_start_27 : decode z_Md_start.2.2.1 27 = .ok (.putfield 20, 3) := by decide +kernel
theorem d_Md_start_30 : decode z_Md_start.2.2.1 30 = .ok (.aload_n 0, 1) := by decide +kernel
theorem d_Md_start_31 : decode z_Md_start.2.2.1 31 = .ok (.iconst (-1), 1) := by decide +kernel
theorem d_Md_start_32 : decode z_Md_start.2.2.1 32 = .ok (.putfield 34, 3) := by decide +kernel
theorem d_Md_start_35 : decode z_Md_start.2.2.1 35 = .ok (.aload_n 0, 1) := by decide +kernel
theorem d_Md_start_36 : decode z_Md_start.2.2.1 36 = .ok (.iconst 0, 1) := by decide +kernel
theorem d_Md_start_37 : decode z_Md_start.2.2.1 37 = .ok (.putfield 65, 3) := by decide +kernel
theorem d_Md_start_40 : decode z_Md_start.2.2.1 40 = .ok (.iconst 0, 1) := by decide +kernel
theorem d_Md_start_41 : decode z_Md_start.2.2.1 41 = .ok (.istore_n 1, 1) := by decide +kernel
theorem d_Md_start_42 : decode z_Md_start.2.2.1 42 = .ok (.iconst 0, 1) := by decide +kernel
theorem d_Md_start_43 : decode z_Md_start.2.2.1 43 = .ok (.istore_n 2, 1) := by decide +kernel
theorem d_Md_start_44 : decode z_Md_start.2.2.1 44 = .ok (.iload_n 2, 1) := by decide +kernel
theorem d_Md_start_45 : decode z_Md_start.2.2.1 45 = .ok (.bipush 51, 2) := by decide +kernel
theorem d_Md_start_47 : decode z_Md_start.2.2.1 47 = .ok (.if_icmp .ge 16, 3) := by decide +kernel
theorem d_Md_start_50 : decode z_Md_start.2.2.1 50 = .ok (.aload_n 0, 1) := by decide +kernel
theorem d_Md_start_51 : decode z_Md_start.2.2.1 51 = .ok (.getfield 28, 3) := by decide +kernel
theorem d_Md_start_54 : decode z_Md_start.2.2.1 54 = .ok (.iload_n 2, 1) := by decide +kernel
theorem d_Md_start_55 : decode z_Md_start.2.2.1 55 = .ok (.iconst 0, 1) := by decide +kernel
theorem d_Md_start_56 : decode z_Md_start.2.2.1 56 = .ok (.iastore, 1) := by decide +kernel
theorem d_Md_start_57 : decode z_Md_start.2.2.1 57 = .ok (.iinc 2 1, 3) := by decide +kernel
theorem d_Md_start_60 : decode z_Md_start.2.2.1 60 = .ok (.goto (-16), 3) := by decide +kernel
theorem d_Md_start_63 : decode z_Md_start.2.2.1 63 = .ok (.iconst 0, 1) := by decide +kernel
theorem d_Md_start_64 : decode z_Md_start.2.2.1 64 = .ok (.istore_n 2, 1) := by decide +kernel
theorem d_Md_start_65 : decode z_Md_start.2.2.1 65 = .ok (.iload_n 2, 1) := by decide +kernel
theorem d_Md_start_66 : decode z_Md_start.2.2.1 66 = .ok (.iconst 4, 1) := by decide +kernel
theorem d_Md_start_67 : decode z_Md_start.2.2.1 67 = .ok (.if_icmp .ge 88, 3) := by decide +kernel
theorem d_Md_start_70 : decode z_Md_start.2.2.1 70 = .ok (.iconst 0, 1) := by decide +kernel
theorem d_Md_start_71 : decode z_Md_start.2.2.1 71 = .ok (.istore_n 3, 1) := by decide +kernel
theorem d_Md_start_72 : decode z_Md_start.2.2.1 72 = .ok (.iload_n 3, 1) := by decide +kernel
theorem d_Md_start_73 : decode z_Md_start.2.2.1 73 = .ok (.iconst 2, 1) := by decide +kernel
theorem d_Md_start_74 : decode z_Md_start.2.2.1 74 = .ok (.if_icmp .ge 75, 3) := by decide +kernel
theorem d_Md_start_77 : decode z_Md_start.2.2.1 77 = .ok (.aload_n 0, 1) := by decide +kernel
theorem d_Md_start_78 : decode z_Md_start.2.2.1 78 = .ok (.getfield 7, 3) := by decide +kernel
theorem d_Md_start_81 : decode z_Md_start.2.2.1 81 = .ok (.iload_n 2, 1) := by decide +kernel
theorem d_Md_start_82 : decode z_Md_start.2.2.1 82 = .ok (.baload, 1) := by decide +kernel
theorem d_Md_start_83 : decode z_Md_start.2.2.1 83 = .ok (.ifCond .eq 66, 3) := by decide +kernel
theorem d_Md_start_86 : decode z_Md_start.2.2.1 86 = .ok (.aload_n 0, 1) := by decide +kernel
theorem d_Md_start_87 : decode z_Md_start.2.2.1 87 = .ok (.iload_n 2, 1) := by decide +kernel
theorem d_Md_start_88 : decode z_Md_start.2.2.1 88 = .ok (.iload_n 3, 1) := by decide +kernel
theorem d_Md_start_89 : decode z_Md_start.2.2.1 89 = .ok (.invokevirtual 44, 3) := by decide +kernel
theorem d_Md_start_92 : decode z_Md_start.2.2.1 92 = .ok (.iload_n 1, 1) := by decide +kernel
theorem d_Md_start_93 : decode z_Md_start.2.2.1 93 = .ok (.if_icmp .le 50, 3) := by decide +kernel
theorem d_Md_start_96 : decode z_Md_start.2.2.1 96 = .ok (.aload_n 0, 1) := by decide +kernel
theorem d_Md_start_97 : decode z_Md_start.2.2.1 97 = .ok (.iload_n 2, 1) := by decide +kernel
theorem d_Md_start_98 : decode z_Md_start.2.2.1 98 = .ok (.iload_n 3, 1) := by decide +kernel
theorem d_Md_start_99 : decode z_Md_start.2.2.1 99 = .ok (.invokevirtual 44, 3) := by decide +kernel
theorem d_Md_start_102 : decode z_Md_start.2.2.1 102 = .ok (.istore_n 1, 1) := by decide +kernel
theorem d_Md_start_103 : decode z_Md_start.2.2.1 103 = .ok (.iconst 0, 1) := by decide +kernel
theorem d_Md_start_104 : decode z_Md_start.2.2.1 104 = .ok (.istore 4, 2) := by decide +kernel
theorem d_Md_start_106 : decode z_Md_start.2.2.1 106 = .ok (.iload 4, 2) := by decide +kernel
theorem d_Md_start_108 : decode z_Md_start.2.2.1 108 = .ok (.bipush 51, 2) := by decide +kernel
theorem d_Md_start_110 : decode z_Md_start.2.2.1 110 = .ok (.if_icmp .ge 33, 3) := by decide +kernel
theorem d_Md_start_113 : decode z_Md_start.2.2.1 113 = .ok (.aload_n 0, 1) := by decide +kernel
theorem d_Md_start_114 : decode z_Md_start.2.2.1 114 = .ok (.getfield 28, 3) := by decide +kernel
theorem d_Md_start_117 : decode z_Md_start.2.2.1 117 = .ok (.iload 4, 2) := by decide +kernel
theorem d_Md_start_119 : decode z_Md_start.2.2.1 119 = .ok (.aload_n 0, 1) := by decide +kernel
theorem d_Md_start_120 : decode z_Md_start.2.2.1 120 = .ok (.getfield 13, 3) := by decide +kernel
theorem d_Md_start_123 : decode z_Md_start.2.2.1 123 = .ok (.bipush 102, 2) := by decide +kernel
theorem d_Md_start_125 : decode z_Md_start.2.2.1 125 = .ok (.iload_n 2, 1) := by decide +kernel
theorem d_Md_start_126 : decode z_Md_start.2.2.1 126 = .ok (.imul, 1) := by decide +kernel
theorem d_Md_start_127 : decode z_Md_start.2.2.1 127 = .ok (.bipush 51, 2) := by decide +kernel
theorem d_Md_start_129 : decode z_Md_start.2.2.1 129 = .ok (.iload_n 3, 1) := by decide +kernel
theorem d_Md_start_130 : decode z_Md_start.2.2.1 130 = .ok (.imul, 1) := by decide +kernel
theorem d_Md_start_131 : decode z_Md_start.2.2.1 131 = .ok (.iadd, 1) := by decide +kernel
theorem d_Md_start_132 : decode z_Md_start.2.2.1 132 = .ok (.iload 4, 2) := by decide +kernel
theorem d_Md_start_134 : decode z_Md_start.2.2.1 134 = .ok (.iadd, 1) := by decide +kernel
theorem d_Md_start_135 : decode z_Md_start.2.2.1 135 = .ok (.iaload, 1) := by decide +kernel
theorem d_Md_start_136 : decode z_Md_start.2.2.1 136 = .ok (.iastore, 1) := by decide +kernel
theorem d_Md_start_137 : decode z_Md_start.2.2.1 137 = .ok (.iinc 4 1, 3) := by decide +kernel
theorem d_Md_start_140 : decode z_Md_start.2.2.1 140 = .ok (.goto (-34), 3) := by decide +kernel
theorem d_Md_start_143 : decode z_Md_start.2.2.1 143 = .ok (.iinc 3 1, 3) := by decide +kernel
theorem d_Md_start_146 : decode z_Md_start.2.2.1 146 = .ok (.goto (-74), 3) := by decide +kernel
theorem d_Md_start_149 : decode z_Md_start.2.2.1 149 = .ok (.iinc 2 1, 3) := by decide +kernel
theorem d_Md_start_152 : decode z_Md_start.2.2.1 152 = .ok (.goto (-87), 3) := by decide +kernel
theorem d_Md_start_155 : decode z_Md_start.2.2.1 155 = .ok (.iconst 0, 1) := by decide +kernel
theorem d_Md_start_156 : decode z_Md_start.2.2.1 156 = .ok (.istore_n 2, 1) := by decide +kernel
theorem d_Md_start_157 : decode z_Md_start.2.2.1 157 = .ok (.iload_n 2, 1) := by decide +kernel
theorem d_Md_start_158 : decode z_Md_start.2.2.1 158 = .ok (.iconst 4, 1) := by decide +kernel
theorem d_Md_start_159 : decode z_Md_start.2.2.1 159 = .ok (.if_icmp .ge 58, 3) := by decide +kernel
theorem d_Md_start_162 : decode z_Md_start.2.2.1 162 = .ok (.aload_n 0, 1) := by decide +kernel
theorem d_Md_start_163 : decode z_Md_start.2.2.1 163 = .ok (.getfield 28, 3) := by decide +kernel
theorem d_Md_start_166 : decode z_Md_start.2.2.1 166 = .ok (.iconst 1, 1) := by decide +kernel
theorem d_Md_start_167 : decode z_Md_start.2.2.1 167 = .ok (.iload_n 2, 1) := by decide +kernel
theorem d_Md_start_168 : decode z_Md_start.2.2.1 168 = .ok (.iadd, 1) := by decide +kernel
theorem d_Md_start_169 : decode z_Md_start.2.2.1 169 = .ok (.iaload, 1) := by decide +kernel
theorem d_Md_start_170 : decode z_Md_start.2.2.1 170 = .ok (.ifCond .le 41, 3) := by decide +kernel
theorem d_Md_start_173 : decode z_Md_start.2.2.1 173 = .ok (.aload_n 0, 1) := by decide +kernel
theorem d_Md_start_174 : decode z_Md_start.2.2.1 174 = .ok (.getfield 7, 3) := by decide +kernel
theorem d_Md_start_177 : decode z_Md_start.2.2.1 177 = .ok (.iload_n 2, 1) := by decide +kernel
theorem d_Md_start_178 : decode z_Md_start.2.2.1 178 = .ok (.baload, 1) := by decide +kernel
theorem d_Md_start_179 : decode z_Md_start.2.2.1 179 = .ok (.ifCond .eq 32, 3) := by decide +kernel
theorem d_Md_start_182 : decode z_Md_start.2.2.1 182 = .ok (.aload_n 0, 1) := by decide +kernel
theorem d_Md_start_183 : decode z_Md_start.2.2.1 183 = .ok (.iload_n 2, 1) := by decide +kernel
theorem d_Md_start_184 : decode z_Md_start.2.2.1 184 = .ok (.iconst 0, 1) := by decide +kernel
theorem d_Md_start_185 : decode z_Md_start.2.2.1 185 = .ok (.invokevirtual 44, 3) := by decide +kernel
theorem d_Md_start_188 : decode z_Md_start.2.2.1 188 = .ok (.iload_n 1, 1) := by decide +kernel
theorem d_Md_start_189 : decode z_Md_start.2.2.1 189 = .ok (.if_icmp .eq 22, 3) := by decide +kernel
theorem d_Md_start_192 : decode z_Md_start.2.2.1 192 = .ok (.aload_n 0, 1) := by decide +kernel
theorem d_Md_start_193 : decode z_Md_start.2.2.1 193 = .ok (.iload_n 2, 1) := by decide +kernel
theorem d_Md_start_194 : decode z_Md_start.2.2.1 194 = .ok (.iconst 1, 1) := by decide +kernel
theorem d_Md_start_195 : decode z_Md_start.2.2.1 195 = .ok (.invokevirtual 44, 3) := by decide +kernel
theorem d_Md_start_198 : decode z_Md_start.2.2.1 198 = .ok (.iload_n 1, 1) := by decide +kernel
theorem d_Md_start_199 : decode z_Md_start.2.2.1 199 = .ok (.if_icmp .eq 12, 3) := by decide +kernel
theorem d_Md_start_202 : decode z_Md_start.2.2.1 202 = .ok (.aload_n 0, 1) := by decide +kernel
theorem d_Md_start_203 : decode z_Md_start.2.2.1 203 = .ok (.iload_n 2, 1) := by decide +kernel
theorem d_Md_start_204 : decode z_Md_start.2.2.1 204 = .ok (.aload_n 0, 1) := by decide +kernel
theorem d_Md_start_205 : decode z_Md_start.2.2.1 205 = .ok (.getfield 28, 3) := by decide +kernel
theorem d_Md_start_208 : decode z_Md_start.2.2.1 208 = .ok (.invokevirtual 55, 3) := by decide +kernel
theorem d_Md_start_211 : decode z_Md_start.2.2.1 211 = .ok (.iinc 2 1, 3) := by decide +kernel
theorem d_Md_start_214 : decode z_Md_start.2.2.1 214 = .ok (.goto (-57), 3) := by decide +kernel
theorem d_Md_start_217 : decode z_Md_start.2.2.1 217 = .ok (.bipush 9, 2) := by decide +kernel
theorem d_Md_start_219 : decode z_Md_start.2.2.1 219 = .ok (.istore_n 2, 1) := by decide +kernel
theorem d_Md_start_220 : decode z_Md_start.2.2.1 220 = .ok (.iload_n 2, 1) := by decide +kernel
theorem d_Md_start_221 : decode z_Md_start.2.2.1 221 = .ok (.bipush 49, 2) := by decide +kernel
theorem d_Md_start_223 : decode z_Md_start.2.2.1 223 = .ok (.if_icmp .ge 80, 3) := by decide +kernel
theorem d_Md_start_226 : decode z_Md_start.2.2.1 226 = .ok (.iconst 0, 1) := by decide +kernel
theorem d_Md_start_227 : decode z_Md_start.2.2.1 227 = .ok (.istore_n 3, 1) := by decide +kernel
theorem d_Md_start_228 : decode z_Md_start.2.2.1 228 = .ok (.iload_n 3, 1) := by decide +kernel
theorem d_Md_start_229 : decode z_Md_start.2.2.1 229 = .ok (.iconst 4, 1) := by decide +kernel
theorem d_Md_start_230 : decode z_Md_start.2.2.1 230 = .ok (.if_icmp .ge 67, 3) := by decide +kernel
theorem d_Md_start_233 : decode z_Md_start.2.2.1 233 = .ok (.aload_n 0, 1) := by decide +kernel
theorem d_Md_start_234 : decode z_Md_start.2.2.1 234 = .ok (.aload_n 0, 1) := by decide +kernel
theorem d_Md_start_235 : decode z_Md_start.2.2.1 235 = .ok (.getfield 28, 3) := by decide +kernel
theorem d_Md_start_238 : decode z_Md_start.2.2.1 238 = .ok (.iload_n 2, 1) := by decide +kernel
theorem d_Md_start_239 : decode z_Md_start.2.2.1 239 = .ok (.iaload, 1) := by decide +kernel
theorem d_Md_start_240 : decode z_Md_start.2.2.1 240 = .ok (.invokevirtual 146, 3) := by decide +kernel
theorem d_Md_start_243 : decode z_Md_start.2.2.1 243 = .ok (.ifCond .eq 54, 3) := by decide +kernel
theorem d_Md_start_246 : decode z_Md_start.2.2.1 246 = .ok (.aload_n 0, 1) := by decide +kernel
theorem d_Md_start_247 : decode z_Md_start.2.2.1 247 = .ok (.aload_n 0, 1) := by decide +kernel
theorem d_Md_start_248 : decode z_Md_start.2.2.1 248 = .ok (.getfield 28, 3) := by decide +kernel
theorem d_Md_start_251 : decode z_Md_start.2.2.1 251 = .ok (.iload_n 2, 1) := by decide +kernel
theorem d_Md_start_252 : decode z_Md_start.2.2.1 252 = .ok (.iconst 1, 1) := by decide +kernel
theorem d_Md_start_253 : decode z_Md_start.2.2.1 253 = .ok (.iadd, 1) := by decide +kernel
theorem d_Md_start_254 : decode z_Md_start.2.2.1 254 = .ok (.iaload, 1) := by decide +kernel
theorem d_Md_start_255 : decode z_Md_start.2.2.1 255 = .ok (.invokevirtual 146, 3) := by decide +kernel
theorem d_Md_start_258 : decode z_Md_start.2.2.1 258 = .ok (.ifCond .eq 39, 3) := by decide +kernel
theorem d_Md_start_261 : decode z_Md_start.2.2.1 261 = .ok (.aload_n 0, 1) := by decide +kernel
theorem d_Md_start_262 : decode z_Md_start.2.2.1 262 = .ok (.getfield 17, 3) := by decide +kernel
theorem d_Md_start_265 : decode z_Md_start.2.2.1 265 = .ok (.iconst 4, 1) := by decide +kernel
theorem d_Md_start_266 : decode z_Md_start.2.2.1 266 = .ok (.aload_n 0, 1) := by decide +kernel
theorem d_Md_start_267 : decode z_Md_start.2.2.1 267 = .ok (.getfield 28, 3) := by decide +kernel
theorem d_Md_start_270 : decode z_Md_start.2.2.1 270 = .ok (.iload_n 2, 1) := by decide +kernel
theorem d_Md_start_271 : decode z_Md_start.2.2.1 271 = .ok (.iconst 1, 1) := by decide +kernel
theorem d_Md_start_272 : decode z_Md_start.2.2.1 272 = .ok (.iadd, 1) := by decide +kernel
theorem d_Md_start_273 : decode z_Md_start.2.2.1 273 = .ok (.iaload, 1) := by decide +kernel
theorem d_Md_start_274 : decode z_Md_start.2.2.1 274 = .ok (.iconst 1, 1) := by decide +kernel
theorem d_Md_start_275 : decode z_Md_start.2.2.1 275 = .ok (.isub, 1) := by decide +kernel
theorem d_Md_start_276 : decode z_Md_start.2.2.1 276 = .ok (.imul, 1) := by decide +kernel
theorem d_Md_start_277 : decode z_Md_start.2.2.1 277 = .ok (.iload_n 3, 1) := by decide +kernel
theorem d_Md_start_278 : decode z_Md_start.2.2.1 278 = .ok (.iadd, 1) := by decide +kernel
theorem d_Md_start_279 : decode z_Md_start.2.2.1 279 = .ok (.aload_n 0, 1) := by decide +kernel
theorem d_Md_start_280 : decode z_Md_start.2.2.1 280 = .ok (.aload_n 0, 1) := by decide +kernel
theorem d_Md_start_281 : decode z_Md_start.2.2.1 281 = .ok (.getfield 28, 3) := by decide +kernel
theorem d_Md_start_284 : decode z_Md_start.2.2.1 284 = .ok (.iload_n 2, 1) := by decide +kernel
theorem d_Md_start_285 : decode z_Md_start.2.2.1 285 = .ok (.iaload, 1) := by decide +kernel
theorem d_Md_start_286 : decode z_Md_start.2.2.1 286 = .ok (.iload_n 3, 1) := by decide +kernel
theorem d_Md_start_287 : decode z_Md_start.2.2.1 287 = .ok (.invokevirtual 140, 3) := by decide +kernel
theorem d_Md_start_290 : decode z_Md_start.2.2.1 290 = .ok (.iastore, 1) := by decide +kernel
theorem d_Md_start_291 : decode z_Md_start.2.2.1 291 = .ok (.iinc 3 1, 3) := by decide +kernel
theorem d_Md_start_294 : decode z_Md_start.2.2.1 294 = .ok (.goto (-66), 3) := by decide +kernel
theorem d_Md_start_297 : decode z_Md_start.2.2.1 297 = .ok (.iinc 2 2, 3) := by decide +kernel
theorem d_Md_start_300 : decode z_Md_start.2.2.1 300 = .ok (.goto (-80), 3) := by decide +kernel
theorem d_Md_start_303 : decode z_Md_start.2.2.1 303 = .ok (.iload_n 1, 1) := by decide +kernel
theorem d_Md_start_304 : decode z_Md_start.2.2.1 304 = .ok (.ireturn, 1) := by decide +kernel
def lc_Md_start_0 : jx_Cx := (cCmp rLt (eI 2) (eInt (nI 51)))
def lb_Md_start_0 : jx_St := (sSeq (sSt 0 0 (eGf [8] 6 (eA 0)) (eI 2) (eInt (nI 0))) (sInc 2 (nI 1)))
theorem ml_Md_start_0 : jx_Ts z_Md_start 44 (sWh 64 lc_Md_start_0 lb_Md_start_0) [63] := by
  unfold lc_Md_start_0 lb_Md_start_0
  exact t_wh (EA := [60]) (Fs := [63]) (E := [63]) 64 (s_cmp (s_iload_n d_Md_start_44 rfl) (s_bipush d_Md_start_45 (by decide)) (s_icmp_geF (tgt := 63) d_Md_start_47 (by decide))) (by decide) (t_seq (t_st (s_getf (s_aload_n d_Md_start_50 rfl) fi_Md_28 d_Md_start_51) (s_iload_n d_Md_start_54 rfl) (s_iconst d_Md_start_55 (by decide)) (s_iast d_Md_start_56)) (t_iinc d_Md_start_57 (by decide) (by decide))) (al_1 (Or.inr ⟨-16, d_Md_start_60, by decide⟩)) (by decide)
def lc_Md_start_3 : jx_Cx := (cCmp rLt (eI 4) (eInt (nI 51)))
def lb_Md_start_3 : jx_St := (sSeq (sSt 0 0 (eGf [8] 6 (eA 0)) (eI 4) (eLd 0 (eGf [8] 2 (eA 0)) (eBin oAdd (eBin oAdd (eBin oMul (eInt (nI 102)) (eI 2)) (eBin oMul (eInt (nI 51)) (eI 3))) (eI 4)))) (sInc 4 (nI 1)))
theorem ml_Md_start_3 : jx_Ts z_Md_start 106 (sWh 64 lc_Md_start_3 lb_Md_start_3) [143] := by
  unfold lc_Md_start_3 lb_Md_start_3
  exact t_wh (EA := [140]) (Fs := [143]) (E := [143]) 64 (s_cmp (s_iload d_Md_start_106) (s_bipush d_Md_start_108 (by decide)) (s_icmp_geF (tgt := 143) d_Md_start_110 (by decide))) (by decide) (t_seq (t_st (s_getf (s_aload_n d_Md_start_113 rfl) fi_Md_28 d_Md_start_114) (s_iload d_Md_start_117) (s_load (s_getf (s_aload_n d_Md_start_119 rfl) fi_Md_13 d_Md_start_120) (s_bin (s_bin (s_bin (s_bipush d_Md_start_123 (by decide)) (s_iload_n d_Md_start_125 rfl) (s_imul d_Md_start_126)) (s_bin (s_bipush d_Md_start_127 (by decide)) (s_iload_n d_Md_start_129 rfl) (s_imul d_Md_start_130)) (s_iadd d_Md_start_131)) (s_iload d_Md_start_132) (s_iadd d_Md_start_134)) (s_iald d_Md_start_135)) (s_iast d_Md_start_136)) (t_iinc d_Md_start_137 (by decide) (by decide))) (al_1 (Or.inr ⟨-34, d_Md_start_140, by decide⟩)) (by decide)
def lc_Md_start_2 : jx_Cx := (cAnd (cCmp rLt (eI 3) (eInt (nI 2))) (cCmp0 rNe (eLd 2 (eGf [8] 1 (eA 0)) (eI 2))))
def lb_Md_start_2 : jx_St := (sSeq (sIf (cCmp rGt (eCl (jx_ev tb_Md_numberOf) [(eA 0), (eI 2), (eI 3)]) (eI 1)) (sSeq (sAsg 0 1 (eCl (jx_ev tb_Md_numberOf) [(eA 0), (eI 2), (eI 3)])) (sSeq (sAsg 0 4 (eInt (nI 0))) (sWh 64 lc_Md_start_3 lb_Md_start_3))) sSkip) (sInc 3 (nI 1)))
theorem ml_Md_start_2 : jx_Ts z_Md_start 72 (sWh 64 lc_Md_start_2 lb_Md_start_2) [149] := by
  unfold lc_Md_start_2 lb_Md_start_2
  exact t_wh (EA := [146]) (Fs := [149]) (E := [149]) 64 (s_andg (s_cmp (s_iload_n d_Md_start_72 rfl) (s_iconst d_Md_start_73 (by decide)) (s_icmp_geF (tgt := 149) d_Md_start_74 (by decide))) (by decide) (al_1 (s_cmp0 (s_load (s_getf (s_aload_n d_Md_start_77 rfl) fi_Md_7 d_Md_start_78) (s_iload_n d_Md_start_81 rfl) (s_zald d_Md_start_82)) (s_if_eqF (tgt := 149) d_Md_start_83 (by decide))))) (by decide) (t_seq (t_if1 (Fs := [143]) (E := [143]) (s_cmp (s_cl (s_a1 (s_aload_n d_Md_start_86 rfl) (s_a1 (s_iload_n d_Md_start_87 rfl) (s_a1 (s_iload_n d_Md_start_88 rfl) s_a0))) (s_ecv (ve_Md_numberOf (by decide) (by decide)) dc_Md_numberOf (by decide) lm_Md_44 pd_Md_numberOf d_Md_start_89)) (s_iload_n d_Md_start_92 rfl) (s_icmp_leF (tgt := 143) d_Md_start_93 (by decide))) (by decide) (t_sub (E := [143]) (E' := [143]) (t_seq (t_asg (s_cl (s_a1 (s_aload_n d_Md_start_96 rfl) (s_a1 (s_iload_n d_Md_start_97 rfl) (s_a1 (s_iload_n d_Md_start_98 rfl) s_a0))) (s_ecv (ve_Md_numberOf (by decide) (by decide)) dc_Md_numberOf (by decide) lm_Md_44 pd_Md_numberOf d_Md_start_99)) (fun v k h => b_istore_n d_Md_start_102 rfl (by decide) h)) (t_seq (t_asg (s_iconst d_Md_start_103 (by decide)) (fun v k h => b_istore d_Md_start_104 (by decide) h)) ml_Md_start_3)) (by decide)) (by decide)) (t_iinc d_Md_start_143 (by decide) (by decide))) (al_1 (Or.inr ⟨-74, d_Md_start_146, by decide⟩)) (by decide)
def lc_Md_start_1 : jx_Cx := (cCmp rLt (eI 2) (eInt (nI 4)))
def lb_Md_start_1 : jx_St := (sSeq (sSeq (sAsg 0 3 (eInt (nI 0))) (sWh 64 lc_Md_start_2 lb_Md_start_2)) (sInc 2 (nI 1)))
theorem ml_Md_start_1 : jx_Ts z_Md_start 65 (sWh 64 lc_Md_start_1 lb_Md_start_1) [155] := by
  unfold lc_Md_start_1 lb_Md_start_1
  exact t_wh (EA := [152]) (Fs := [155]) (E := [155]) 64 (s_cmp (s_iload_n d_Md_start_65 rfl) (s_iconst d_Md_start_66 (by decide)) (s_icmp_geF (tgt := 155) d_Md_start_67 (by decide))) (by decide) (t_seq (t_seq (t_asg (s_iconst d_Md_start_70 (by decide)) (fun v k h => b_istore_n d_Md_start_71 rfl (by decide) h)) ml_Md_start_2) (t_iinc d_Md_start_149 (by decide) (by decide))) (al_1 (Or.inr ⟨-87, d_Md_start_152, by decide⟩)) (by decide)
def lc_Md_start_4 : jx_Cx := (cCmp rLt (eI 2) (eInt (nI 4)))
def lb_Md_start_4 : jx_St := (sSeq (sIf (cAnd (cAnd (cAnd (cCmp0 rGt (eLd 0 (eGf [8] 6 (eA 0)) (eBin oAdd (eInt (nI 1)) (eI 2)))) (cCmp0 rNe (eLd 2 (eGf [8] 1 (eA 0)) (eI 2)))) (cCmp rNe (eCl (jx_ev tb_Md_numberOf) [(eA 0), (eI 2), (eInt (nI 0))]) (eI 1))) (cCmp rNe (eCl (jx_ev tb_Md_numberOf) [(eA 0), (eI 2), (eInt (nI 1))]) (eI 1))) (sCl (jx_ev tb_Md_writeTo) [(eA 0), (eI 2), (eGf [8] 6 (eA 0))]) sSkip) (sInc 2 (nI 1)))
theorem ml_Md_start_4 : jx_Ts z_Md_start 157 (sWh 64 lc_Md_start_4 lb_Md_start_4) [217] := by
  unfold lc_Md_start_4 lb_Md_start_4
  exact t_wh (EA := [214]) (Fs := [217]) (E := [217]) 64 (s_cmp (s_iload_n d_Md_start_157 rfl) (s_iconst d_Md_start_158 (by decide)) (s_icmp_geF (tgt := 217) d_Md_start_159 (by decide))) (by decide) (t_seq (t_if1 (Fs := [211]) (E := [211]) (s_andg (s_andg (s_andg (s_cmp0 (s_load (s_getf (s_aload_n d_Md_start_162 rfl) fi_Md_28 d_Md_start_163) (s_bin (s_iconst d_Md_start_166 (by decide)) (s_iload_n d_Md_start_167 rfl) (s_iadd d_Md_start_168)) (s_iald d_Md_start_169)) (s_if_leF (tgt := 211) d_Md_start_170 (by decide))) (by decide) (al_1 (s_cmp0 (s_load (s_getf (s_aload_n d_Md_start_173 rfl) fi_Md_7 d_Md_start_174) (s_iload_n d_Md_start_177 rfl) (s_zald d_Md_start_178)) (s_if_eqF (tgt := 211) d_Md_start_179 (by decide))))) (by decide) (al_1 (s_cmp (s_cl (s_a1 (s_aload_n d_Md_start_182 rfl) (s_a1 (s_iload_n d_Md_start_183 rfl) (s_a1 (s_iconst d_Md_start_184 (by decide)) s_a0))) (s_ecv (ve_Md_numberOf (by decide) (by decide)) dc_Md_numberOf (by decide) lm_Md_44 pd_Md_numberOf d_Md_start_185)) (s_iload_n d_Md_start_188 rfl) (s_icmp_eqF (tgt := 211) d_Md_start_189 (by decide))))) (by decide) (al_1 (s_cmp (s_cl (s_a1 (s_aload_n d_Md_start_192 rfl) (s_a1 (s_iload_n d_Md_start_193 rfl) (s_a1 (s_iconst d_Md_start_194 (by decide)) s_a0))) (s_ecv (ve_Md_numberOf (by decide) (by decide)) dc_Md_numberOf (by decide) lm_Md_44 pd_Md_numberOf d_Md_start_195)) (s_iload_n d_Md_start_198 rfl) (s_icmp_eqF (tgt := 211) d_Md_start_199 (by decide))))) (by decide) (t_sub (E := [211]) (E' := [211]) (t_cl (s_a1 (s_aload_n d_Md_start_202 rfl) (s_a1 (s_iload_n d_Md_start_203 rfl) (s_a1 (s_getf (s_aload_n d_Md_start_204 rfl) fi_Md_28 d_Md_start_205) s_a0))) (s_ecv (ve_Md_writeTo (by decide) (by decide)) dc_Md_writeTo (by decide) lm_Md_55 pd_Md_writeTo d_Md_start_208)) (by decide)) (by decide)) (t_iinc d_Md_start_211 (by decide) (by decide))) (al_1 (Or.inr ⟨-57, d_Md_start_214, by decide⟩)) (by decide)
def lc_Md_start_6 : jx_Cx := (cAnd (cAnd (cCmp rLt (eI 3) (eInt (nI 4))) (cCmp0 rNe (eCl (jx_ev tb_Md_isReadable) [(eA 0), (eLd 0 (eGf [8] 6 (eA 0)) (eI 2))]))) (cCmp0 rNe (eCl (jx_ev tb_Md_isReadable) [(eA 0), (eLd 0 (eGf [8] 6 (eA 0)) (eBin oAdd (eI 2) (eInt (nI 1))))])))
def lb_Md_start_6 : jx_St := (sSeq (sSt 0 0 (eGf [8] 3 (eA 0)) (eBin oAdd (eBin oMul (eInt (nI 4)) (eBin oSub (eLd 0 (eGf [8] 6 (eA 0)) (eBin oAdd (eI 2) (eInt (nI 1)))) (eInt (nI 1)))) (eI 3)) (eCl (jx_ev tb_Md_get) [(eA 0), (eLd 0 (eGf [8] 6 (eA 0)) (eI 2)), (eI 3)])) (sInc 3 (nI 1)))
theorem ml_Md_start_6 : jx_Ts z_Md_start 228 (sWh 64 lc_Md_start_6 lb_Md_start_6) [297] := by
  unfold lc_Md_start_6 lb_Md_start_6
  exact t_wh (EA := [294]) (Fs := [297]) (E := [297]) 64 (s_andg (s_andg (s_cmp (s_iload_n d_Md_start_228 rfl) (s_iconst d_Md_start_229 (by decide)) (s_icmp_geF (tgt := 297) d_Md_start_230 (by decide))) (by decide) (al_1 (s_cmp0 (s_cl (s_a1 (s_aload_n d_Md_start_233 rfl) (s_a1 (s_load (s_getf (s_aload_n d_Md_start_234 rfl) fi_Md_28 d_Md_start_235) (s_iload_n d_Md_start_238 rfl) (s_iald d_Md_start_239)) s_a0)) (s_ecv (ve_Md_isReadable (by decide) (by decide)) dc_Md_isReadable (by decide) lm_Md_146 pd_Md_isReadable d_Md_start_240)) (s_if_eqF (tgt := 297) d_Md_start_243 (by decide))))) (by decide) (al_1 (s_cmp0 (s_cl (s_a1 (s_aload_n d_Md_start_246 rfl) (s_a1 (s_load (s_getf (s_aload_n d_Md_start_247 rfl) fi_Md_28 d_Md_start_248) (s_bin (s_iload_n d_Md_start_251 rfl) (s_iconst d_Md_start_252 (by decide)) (s_iadd d_Md_start_253)) (s_iald d_Md_start_254)) s_a0)) (s_ecv (ve_Md_isReadable (by decide) (by decide)) dc_Md_isReadable (by decide) lm_Md_146 pd_Md_isReadable d_Md_start_255)) (s_if_eqF (tgt := 297) d_Md_start_258 (by decide))))) (by decide) (t_seq (t_st (s_getf (s_aload_n d_Md_start_261 rfl) fi_Md_17 d_Md_start_262) (s_bin (s_bin (s_iconst d_Md_start_265 (by decide)) (s_bin (s_load (s_getf (s_aload_n d_Md_start_266 rfl) fi_Md_28 d_Md_start_267) (s_bin (s_iload_n d_Md_start_270 rfl) (s_iconst d_Md_start_271 (by decide)) (s_iadd d_Md_start_272)) (s_iald d_Md_start_273)) (s_iconst d_Md_start_274 (by decide)) (s_isub d_Md_start_275)) (s_imul d_Md_start_276)) (s_iload_n d_Md_start_277 rfl) (s_iadd d_Md_start_278)) (s_cl (s_a1 (s_aload_n d_Md_start_279 rfl) (s_a1 (s_load (s_getf (s_aload_n d_Md_start_280 rfl) fi_Md_28 d_Md_start_281) (s_iload_n d_Md_start_284 rfl) (s_iald d_Md_start_285)) (s_a1 (s_iload_n d_Md_start_286 rfl) s_a0))) (s_ecv (ve_Md_get (by decide) (by decide)) dc_Md_get (by decide) lm_Md_140 pd_Md_get d_Md_start_287)) (s_iast d_Md_start_290)) (t_iinc d_Md_start_291 (by decide) (by decide))) (al_1 (Or.inr ⟨-66, d_Md_start_294, by decide⟩)) (by decide)
def lc_Md_start_5 : jx_Cx := (cCmp rLt (eI 2) (eInt (nI 49)))
def lb_Md_start_5 : jx_St := (sSeq (sSeq (sAsg 0 3 (eInt (nI 0))) (sWh 64 lc_Md_start_6 lb_Md_start_6)) (sInc 2 (nI 2)))
theorem ml_Md_start_5 : jx_Ts z_Md_start 220 (sWh 64 lc_Md_start_5 lb_Md_start_5) [303] := by
  unfold lc_Md_start_5 lb_Md_start_5
  exact t_wh (EA := [300]) (Fs := [303]) (E := [303]) 64 (s_cmp (s_iload_n d_Md_start_220 rfl) (s_bipush d_Md_start_221 (by decide)) (s_icmp_geF (tgt := 303) d_Md_start_223 (by decide))) (by decide) (t_seq (t_seq (t_asg (s_iconst d_Md_start_226 (by decide)) (fun v k h => b_istore_n d_Md_start_227 rfl (by decide) h)) ml_Md_start_6) (t_iinc d_Md_start_297 (by decide) (by decide))) (al_1 (Or.inr ⟨-80, d_Md_start_300, by decide⟩)) (by decide)
def bd_Md_start : jx_St := (sSeq (sPf [8] 0 0 (eA 0) (eIte (cCmp0 rNe (eGf [8] 4 (eA 0))) (eInt (nI 1)) (eInt (nI 0)))) (sSeq (sIf (cCmp0 rNe (eGf [8] 4 (eA 0))) (sRet 0 (eInt (nI 0))) sSkip) (sSeq (sPf [8] 4 1 (eA 0) (eInt (nI 1))) (sSeq (sPf [8] 8 0 (eA 0) (eInt (-1))) (sSeq (sPf [8] 11 0 (eA 0) (eInt (nI 0))) (sSeq (sAsg 0 1 (eInt (nI 0))) (sSeq (sSeq (sAsg 0 2 (eInt (nI 0))) (sWh 64 lc_Md_start_0 lb_Md_start_0)) (sSeq (sSeq (sAsg 0 2 (eInt (nI 0))) (sWh 64 lc_Md_start_1 lb_Md_start_1)) (sSeq (sSeq (sAsg 0 2 (eInt (nI 0))) (sWh 64 lc_Md_start_4 lb_Md_start_4)) (sSeq (sSeq (sAsg 0 2 (eInt (nI 9))) (sWh 64 lc_Md_start_5 lb_Md_start_5)) (sRet 0 (eI 1))))))))))))
theorem m_Md_start : jx_Ts z_Md_start 0 bd_Md_start [] := by
  unfold bd_Md_start
  exact (t_seq (t_pf (s_aload_n d_Md_start_0 rfl) (s_ite (q4 := 13) (s_cmp0 (s_getf (s_aload_n d_Md_start_1 rfl) fi_Md_20 d_Md_start_2) (s_if_eqF (tgt := 12) d_Md_start_5 (by decide))) (s_iconst d_Md_start_8 (by decide)) d_Md_start_9 (by decide) (s_iconst d_Md_start_12 (by decide))) fi_Md_37 rfl (Or.inl rfl) d_Md_start_13) (t_seq (t_if1 (Fs := [25]) (E := [25]) (s_cmp0 (s_getf (s_aload_n d_Md_start_16 rfl) fi_Md_20 d_Md_start_17) (s_if_eqF (tgt := 25) d_Md_start_20 (by decide))) (by decide) (t_sub (E := []) (E' := [25]) (t_ret .int (s_iconst d_Md_start_23 (by decide)) rfl (by decide) d_Md_start_24) (by decide)) (by decide)) (t_seq (t_pf (s_aload_n d_Md_start_25 rfl) (s_iconst d_Md_start_26 (by decide)) fi_Md_20 rfl (Or.inl rfl) d_Md_start_27) (t_seq (t_pf (s_aload_n d_Md_start_30 rfl) (s_iconst d_Md_start_31 (by decide)) fi_Md_34 rfl (Or.inl rfl) d_Md_start_32) (t_seq (t_pf (s_aload_n d_Md_start_35 rfl) (s_iconst d_Md_start_36 (by decide)) fi_Md_65 rfl (Or.inl rfl) d_Md_start_37) (t_seq (t_asg (s_iconst d_Md_start_40 (by decide)) (fun v k h => b_istore_n d_Md_start_41 rfl (by decide) h)) (t_seq (t_seq (t_asg (s_iconst d_Md_start_42 (by decide)) (fun v k h => b_istore_n d_Md_start_43 rfl (by decide) h)) ml_Md_start_0) (t_seq (t_seq (t_asg (s_iconst d_Md_start_63 (by decide)) (fun v k h => b_istore_n d_Md_start_64 rfl (by decide) h)) ml_Md_start_1) (t_seq (t_seq (t_asg (s_iconst d_Md_start_155 (by decide)) (fun v k h => b_istore_n d_Md_start_156 rfl (by decide) h)) ml_Md_start_4) (t_seq (t_seq (t_asg (s_bipush d_Md_start_217 (by decide)) (fun v k h => b_istore_n d_Md_start_219 rfl (by decide) h)) ml_Md_start_5) (t_ret .int (s_iload_n d_Md_start_303 rfl) rfl (by decide) d_Md_start_304)))))))))))
def f_Md_start : jx_Mt := jx_fn 1 5 (bd_Md_start fun _ _ => none)
theorem me_Md_start : jx_Me 1 z_Md_start f_Md_start := jx_Me.ofT (by decide) m_Md_start
theorem mw_Md_start : jx_mw ⟨"ExtentShelfModel", "start", "()I"⟩ z_Md_start := ⟨rfl, rfl, by decide +kernel, ⟨by decide, by decide⟩, by decide +kernel⟩
theorem pd_Md_start : (parseMethodDescriptor (⟨"ExtentShelfModel", "start", "()I"⟩ : MethodName).desc).map (fun d => d.parameters.length) = some 0 := by decide +kernel
