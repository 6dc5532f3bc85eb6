/-! METHODS, printed by jgen.py -/
/-! ExtentShelfModel.shrink(II)I -/
abbrev z_Md_shrink : jx_Z := ("ExtentShelfModel", "shrink", prog_11_method_34_code, 5, some .int, 4, 126)
theorem d_Md_shrink_0 : decode z_Md_shrink.2.2.1 0 = .ok (.aload_n 0, 1) := by decide +kernel
theorem d_Md_shrink_1 : decode z_Md_shrink.2.2.1 1 = .ok (.aload_n 0, 1) := by decide +kernel
theorem d_Md_shrink_2 : decode z_Md_shrink.2.2.1 2 = .ok (.getfield 20, 3) := by decide +kernel
theorem d_Md_shrink_5 : decode z_Md_shrink.2.2.1 5 = .ok (.ifCond .ne 7, 3) := by decide +kernel
theorem d_Md_shrink_8 : decode z_Md_shrink.2.2.1 8 = .ok (.iconst 1, 1) := by decide +kernel
theorem d_Md_shrink_9 : decode z_Md_shrink.2.2.1 9 = .ok (.goto 16, 3) := by decide +kernel
theorem d_Md_shrink_12 : decode z_Md_shrink.2.2.1 12 = .ok (.aload_n 0, 1) := by decide +kernel
theorem d_Md_shrink_13 : decode z_Md_shrink.2.2.1 13 = .ok (.iload_n 1, 1) := by decide +kernel
theorem d_Md_shrink_14 : decode z_Md_shrink.2.2.1 14 = .ok (.invokevirtual 134, 3) := by decide +kernel
theorem d_Md_shrink_17 : decode z_Md_shrink.2.2.1 17 = .ok (.ifCond .ne 7, 3) := by decide +kernel
theorem d_Md_shrink_20 : decode z_Md_shrink.2.2.1 20 = .ok (.iconst 2, 1) := by decide +kernel
theorem d_Md_shrink_21 : decode z_Md_shrink.2.2.1 21 = .ok (.goto 4, 3) := by decide +kernel
theorem d_Md_shrink_24 : decode z_Md_shrink.2.2.1 24 = .ok (.iconst 0, 1) := by decide +kernel
theorem d_Md_shrink_25 : decode z_Md_shrink.2.2.1 25 = .ok (.putfield 37, 3) := by decide +kernel
theorem d_Md_shrink_28 : decode z_Md_shrink.2.2.1 28 = .ok (.aload_n 0, 1) := by decide +kernel
theorem d_Md_shrink_29 : decode z_Md_shrink.2.2.1 29 = .ok (.getfield 37, 3) := by decide +kernel
theorem d_Md_shrink_32 : decode z_Md_shrink.2.2.1 32 = .ok (.ifCond .le 5, 3) := by decide +kernel
theorem d_Md_shrink_35 : decode z_Md_shrink.2.2.1 35 = .ok (.iconst 0, 1) := by decide +kernel
theorem d_Md_shrink_36 : decode z_Md_shrink.2.2.1 36 = .ok (.ireturn, 1) := by decide +kernel
theorem d_Md_shrink_37 : decode z_Md_shrink.2.2.1 37 = .ok (.aload_n 0, 1) := by decide +kernel
theorem d_Md_shrink_38 : decode z_Md_shrink.2.2.1 38 = .ok (.getfield 28, 3) := by decide +kernel
theorem d_Md_shrink_41 : decode z_Md_shrink.2.2.1 41 = .ok (.iload_n 1, 1) := by decide +kernel
theorem d_Md_shrink_42 : decode z_Md_shrink.2.2.1 42 = .ok (.invokestatic 86, 3) := by decide +kernel
theorem d_Md_shrink_45 : decode z_Md_shrink.2.2.1 45 = .ok (.istore_n 3, 1) := by decide +kernel
theorem d_Md_shrink_46 : decode z_Md_shrink.2.2.1 46 = .ok (.aload_n 0, 1) := by decide +kernel
theorem d_Md_shrink_47 : decode z_Md_shrink.2.2.1 47 = .ok (.iload_n 2, 1) := by decide +kernel
theorem d_Md_shrink_48 : decode z_Md_shrink.2.2.1 48 = .ok (.iload_n 3, 1) := by decide +kernel
theorem d_Md_shrink_49 : decode z_Md_shrink.2.2.1 49 = .ok (.if_icmp .ge 18, 3) := by decide +kernel
theorem d_Md_shrink_52 : decode z_Md_shrink.2.2.1 52 = .ok (.aload_n 0, 1) := by decide +kernel
theorem d_Md_shrink_53 : decode z_Md_shrink.2.2.1 53 = .ok (.getfield 28, 3) := by decide +kernel
theorem d_Md_shrink_56 : decode z_Md_shrink.2.2.1 56 = .ok (.iload_n 1, 1) := by decide +kernel
theorem d_Md_shrink_57 : decode z_Md_shrink.2.2.1 57 = .ok (.invokestatic 79, 3) := by decide +kernel
theorem d_Md_shrink_60 : decode z_Md_shrink.2.2.1 60 = .ok (.iload_n 2, 1) := by decide +kernel
theorem d_Md_shrink_61 : decode z_Md_shrink.2.2.1 61 = .ok (.invokestatic 123, 3) := by decide +kernel
theorem d_Md_shrink_64 : decode z_Md_shrink.2.2.1 64 = .ok (.ifCond .ne 7, 3) := by decide +kernel
theorem d_Md_shrink_67 : decode z_Md_shrink.2.2.1 67 = .ok (.iconst 3, 1) := by decide +kernel
theorem d_Md_shrink_68 : decode z_Md_shrink.2.2.1 68 = .ok (.goto 15, 3) := by decide +kernel
theorem d_Md_shrink_71 : decode z_Md_shrink.2.2.1 71 = .ok (.aload_n 0, 1) := by decide +kernel
theorem d_Md_shrink_72 : decode z_Md_shrink.2.2.1 72 = .ok (.invokevirtual 52, 3) := by decide +kernel
theorem d_Md_shrink_75 : decode z_Md_shrink.2.2.1 75 = .ok (.ifCond .eq 7, 3) := by decide +kernel
theorem d_Md_shrink_78 : decode z_Md_shrink.2.2.1 78 = .ok (.iconst 4, 1) := by decide +kernel
theorem d_Md_shrink_79 : decode z_Md_shrink.2.2.1 79 = .ok (.goto 4, 3) := by decide +kernel
theorem d_Md_shrink_82 : decode z_Md_shrink.2.2.1 82 = .ok (.iconst 0, 1) := by decide +kernel
theorem d_Md_shrink_83 : decode z_Md_shrink.2.2.1 83 = .ok (.putfield 37, 3) := by decide +kernel
theorem d_Md_shrink_86 : decode z_Md_shrink.2.2.1 86 = .ok (.aload_n 0, 1) := by decide +kernel
theorem d_Md_shrink_87 : decode z_Md_shrink.2.2.1 87 = .ok (.getfield 37, 3) := by decide +kernel
theorem d_Md_shrink_90 : decode z_Md_shrink.2.2.1 90 = .ok (.ifCond .le 5, 3) := by decide +kernel
theorem d_Md_shrink_93 : decode z_Md_shrink.2.2.1 93 = .ok (.iconst 0, 1) := by decide +kernel
theorem d_Md_shrink_94 : decode z_Md_shrink.2.2.1 94 = .ok (.ireturn, 1) := by decide +kernel
theorem d_Md_shrink_95 : decode z_Md_shrink.2.2.1 95 = .ok (.aload_n 0, 1) := by decide +kernel
theorem d_Md_shrink_96 : decode z_Md_shrink.2.2.1 96 = .ok (.invokevirtual 107, 3) := by decide +kernel
theorem d_Md_shrink_99 : decode z_Md_shrink.2.2.1 99 = .ok (.aload_n 0, 1) := by decide +kernel
theorem d_Md_shrink_100 : decode z_Md_shrink.2.2.1 100 = .ok (.getfield 31, 3) := by decide +kernel
theorem d_Md_shrink_103 : decode z_Md_shrink.2.2.1 103 = .ok (.iconst 5, 1) := by decide +kernel
theorem d_Md_shrink_104 : decode z_Md_shrink.2.2.1 104 = .ok (.iload_n 1, 1) := by decide +kernel
theorem d_Md_shrink_105 : decode z_Md_shrink.2.2.1 105 = .ok (.iadd, 1) := by decide +kernel
theorem d_Md_shrink_106 : decode z_Md_shrink.2.2.1 106 = .ok (.aload_n 0, 1) := by decide +kernel
theorem d_Md_shrink_107 : decode z_Md_shrink.2.2.1 107 = .ok (.getfield 31, 3) := by decide +kernel
theorem d_Md_shrink_110 : decode z_Md_shrink.2.2.1 110 = .ok (.iconst 5, 1) := by decide +kernel
theorem d_Md_shrink_111 : decode z_Md_shrink.2.2.1 111 = .ok (.iload_n 1, 1) := by decide +kernel
theorem d_Md_shrink_112 : decode z_Md_shrink.2.2.1 112 = .ok (.iadd, 1) := by decide +kernel
theorem d_Md_shrink_113 : decode z_Md_shrink.2.2.1 113 = .ok (.iaload, 1) := by decide +kernel
theorem d_Md_shrink_114 : decode z_Md_shrink.2.2.1 114 = .ok (.bipush 32, 2) := by decide +kernel
theorem d_Md_shrink_116 : decode z_Md_shrink.2.2.1 116 = .ok (.iload_n 3, 1) := by decide +kernel
theorem d_Md_shrink_117 : decode z_Md_shrink.2.2.1 117 = .ok (.iload_n 2, 1) := by decide +kernel
theorem d_Md_shrink_118 : decode z_Md_shrink.2.2.1 118 = .ok (.isub, 1) := by decide +kernel
theorem d_Md_shrink_119 : decode z_Md_shrink.2.2.1 119 = .ok (.imul, 1) := by decide +kernel
theorem d_Md_shrink_120 : decode z_Md_shrink.2.2.1 120 = .ok (.isub, 1) := by decide +kernel
theorem d_Md_shrink_121 : decode z_Md_shrink.2.2.1 121 = .ok (.iastore, 1) := by decide +kernel
theorem d_Md_shrink_122 : decode z_Md_shrink.2.2.1 122 = .ok (.iconst 2, 1) := by decide +kernel
theorem d_Md_shrink_123 : decode z_Md_shrink.2.2.1 123 = .ok (.iload_n 2, 1) := by decide +kernel
theorem d_Md_shrink_124 : decode z_Md_shrink.2.2.1 124 = .ok (.imul, 1) := by decide +kernel
theorem d_Md_shrink_125 : decode z_Md_shrink.2.2.1 125 = .ok (.istore 4, 2) := by decide +kernel
theorem d_Md_shrink_127 : decode z_Md_shrink.2.2.1 127 = .ok (.iload 4, 2) := by decide +kernel
theorem d_Md_shrink_129 : decode z_Md_shrink.2.2.1 129 = .ok (.bipush 10, 2) := by decide +kernel
theorem d_Md_shrink_131 : decode z_Md_shrink.2.2.1 131 = .ok (.if_icmp .ge 25, 3) := by decide +kernel
theorem d_Md_shrink_134 : decode z_Md_shrink.2.2.1 134 = .ok (.aload_n 0, 1) := by decide +kernel
theorem d_Md_shrink_135 : decode z_Md_shrink.2.2.1 135 = .ok (.getfield 31, 3) := by decide +kernel
theorem d_Md_shrink_138 : decode z_Md_shrink.2.2.1 138 = .ok (.bipush 9, 2) := by decide +kernel
theorem d_Md_shrink_140 : decode z_Md_shrink.2.2.1 140 = .ok (.bipush 10, 2) := by decide +kernel
theorem d_Md_shrink_142 : decode z_Md_shrink.2.2.1 142 = .ok (.iload_n 1, 1) := by decide +kernel
theorem d_Md_shrink_143 : decode z_Md_shrink.2.2.1 143 = .ok (.imul, 1) := by decide +kernel
theorem d_Md_shrink_144 : decode z_Md_shrink.2.2.1 144 = .ok (.iadd, 1) := by decide +kernel
theorem d_Md_shrink_145 : decode z_Md_shrink.2.2.1 145 = .ok (.iload 4, 2) := by decide +kernel
theorem d_Md_shrink_147 : decode z_Md_shrink.2.2.1 147 = .ok (.iadd, 1) := by decide +kernel
theorem d_Md_shrink_148 : decode z_Md_shrink.2.2.1 148 = .ok (.iconst 0, 1) := by decide +kernel
theorem d_Md_shrink_149 : decode z_Md_shrink.2.2.1 149 = .ok (.iastore, 1) := by decide +kernel
theorem d_Md_shrink_150 : decode z_Md_shrink.2.2.1 150 = .ok (.iinc 4 1, 3) := by decide +kernel
theorem d_Md_shrink_153 : decode z_Md_shrink.2.2.1 153 = .ok (.goto (-26), 3) := by decide +kernel
theorem d_Md_shrink_156 : decode z_Md_shrink.2.2.1 156 = .ok (.aload_n 0, 1) := by decide +kernel
theorem d_Md_shrink_157 : decode z_Md_shrink.2.2.1 157 = .ok (.invokevirtual 110, 3) := by decide +kernel
theorem d_Md_shrink_160 : decode z_Md_shrink.2.2.1 160 = .ok (.aload_n 0, 1) := by decide +kernel
theorem d_Md_shrink_161 : decode z_Md_shrink.2.2.1 161 = .ok (.iload_n 3, 1) := by decide +kernel
theorem d_Md_shrink_162 : decode z_Md_shrink.2.2.1 162 = .ok (.iload_n 2, 1) := by decide +kernel
theorem d_Md_shrink_163 : decode z_Md_shrink.2.2.1 163 = .ok (.isub, 1) := by decide +kernel
theorem d_Md_shrink_164 : decode z_Md_shrink.2.2.1 164 = .ok (.invokevirtual 113, 3) := by decide +kernel
theorem d_Md_shrink_167 : decode z_Md_shrink.2.2.1 167 = .ok (.ireturn, 1) := by decide +kernel
def lc_Md_shrink_0 : jx_Cx := (cCmp rLt (eI 4) (eInt (nI 10)))
def lb_Md_shrink_0 : jx_St := (sSeq (sSt 0 0 (eGf [8] 7 (eA 0)) (eBin oAdd (eBin oAdd (eInt (nI 9)) (eBin oMul (eInt (nI 10)) (eI 1))) (eI 4)) (eInt (nI 0))) (sInc 4 (nI 1)))
theorem ml_Md_shrink_0 : jx_Ts z_Md_shrink 127 (sWh 64 lc_Md_shrink_0 lb_Md_shrink_0) [156] := by
  unfold lc_Md_shrink_0 lb_Md_shrink_0
  exact t_wh (EA := [153]) (Fs := [156]) (E := [156]) 64 (s_cmp (s_iload d_Md_shrink_127) (s_bipush d_Md_shrink_129 (by decide)) (s_icmp_geF (tgt := 156) d_Md_shrink_131 (by decide))) (by decide) (t_seq (t_st (s_getf (s_aload_n d_Md_shrink_134 rfl) fi_Md_31 d_Md_shrink_135) (s_bin (s_bin (s_bipush d_Md_shrink_138 (by decide)) (s_bin (s_bipush d_Md_shrink_140 (by decide)) (s_iload_n d_Md_shrink_142 rfl) (s_imul d_Md_shrink_143)) (s_iadd d_Md_shrink_144)) (s_iload d_Md_shrink_145) (s_iadd d_Md_shrink_147)) (s_iconst d_Md_shrink_148 (by decide)) (s_iast d_Md_shrink_149)) (t_iinc d_Md_shrink_150 (by decide) (by decide))) (al_1 (Or.inr ⟨-26, d_Md_shrink_153, by decide⟩)) (by decide)
def bd_Md_shrink : jx_St := (sSeq (sPf [8] 0 0 (eA 0) (eIte (cNot (cCmp0 rNe (eGf [8] 4 (eA 0)))) (eInt (nI 1)) (eIte (cNot (cCmp0 rNe (eCl (jx_ev tb_Md_isVolume) [(eA 0), (eI 1)]))) (eInt (nI 2)) (eInt (nI 0))))) (sSeq (sIf (cCmp0 rGt (eGf [8] 0 (eA 0))) (sRet 0 (eInt (nI 0))) sSkip) (sSeq (sAsg 0 3 (eCl (jx_ec f_Md_elementsOf) [(eGf [8] 6 (eA 0)), (eI 1)])) (sSeq (sPf [8] 0 0 (eA 0) (eIte (cOr (cCmp rGe (eI 2) (eI 3)) (cNot (cCmp0 rNe (eCl (jx_ec f_Md_fits) [(eCl (jx_ec f_Md_columnsOf) [(eGf [8] 6 (eA 0)), (eI 1)]), (eI 2)])))) (eInt (nI 3)) (eIte (cCmp0 rNe (eCl (jx_ev tb_Md_isOneAbsent) [(eA 0)])) (eInt (nI 4)) (eInt (nI 0))))) (sSeq (sIf (cCmp0 rGt (eGf [8] 0 (eA 0))) (sRet 0 (eInt (nI 0))) sSkip) (sSeq (sCl (jx_ev tb_Md_begin) [(eA 0)]) (sSeq (sSt 0 0 (eGf [8] 7 (eA 0)) (eBin oAdd (eInt (nI 5)) (eI 1)) (eBin oSub (eLd 0 (eGf [8] 7 (eA 0)) (eBin oAdd (eInt (nI 5)) (eI 1))) (eBin oMul (eInt (nI 32)) (eBin oSub (eI 3) (eI 2))))) (sSeq (sSeq (sAsg 0 4 (eBin oMul (eInt (nI 2)) (eI 2))) (sWh 64 lc_Md_shrink_0 lb_Md_shrink_0)) (sSeq (sCl (jx_ev tb_Md_change) [(eA 0)]) (sRet 0 (eCl (jx_ev tb_Md_ended) [(eA 0), (eBin oSub (eI 3) (eI 2))])))))))))))
theorem m_Md_shrink : jx_Ts z_Md_shrink 0 bd_Md_shrink [] := by
  unfold bd_Md_shrink
  exact (t_seq (t_pf (s_aload_n d_Md_shrink_0 rfl) (s_ite (q4 := 25) (s_not (s_cmp0 (s_getf (s_aload_n d_Md_shrink_1 rfl) fi_Md_20 d_Md_shrink_2) (s_if_neT (tgt := 12) d_Md_shrink_5 (by decide))) (by decide)) (s_iconst d_Md_shrink_8 (by decide)) d_Md_shrink_9 (by decide) (s_ite (q4 := 25) (s_not (s_cmp0 (s_cl (s_a1 (s_aload_n d_Md_shrink_12 rfl) (s_a1 (s_iload_n d_Md_shrink_13 rfl) s_a0)) (s_ecv (ve_Md_isVolume (by decide) (by decide)) dc_Md_isVolume (by decide) lm_Md_134 pd_Md_isVolume d_Md_shrink_14)) (s_if_neT (tgt := 24) d_Md_shrink_17 (by decide))) (by decide)) (s_iconst d_Md_shrink_20 (by decide)) d_Md_shrink_21 (by decide) (s_iconst d_Md_shrink_24 (by decide)))) fi_Md_37 rfl (Or.inl rfl) d_Md_shrink_25) (t_seq (t_if1 (Fs := [37]) (E := [37]) (s_cmp0 (s_getf (s_aload_n d_Md_shrink_28 rfl) fi_Md_37 d_Md_shrink_29) (s_if_leF (tgt := 37) d_Md_shrink_32 (by decide))) (by decide) (t_sub (E := []) (E' := [37]) (t_ret .int (s_iconst d_Md_shrink_35 (by decide)) rfl (by decide) d_Md_shrink_36) (by decide)) (by decide)) (t_seq (t_asg (s_cl (s_a1 (s_getf (s_aload_n d_Md_shrink_37 rfl) fi_Md_28 d_Md_shrink_38) (s_a1 (s_iload_n d_Md_shrink_41 rfl) s_a0)) (s_ecs me_Md_elementsOf mw_Md_elementsOf (by decide) (by decide) (by decide) lm_Md_86 w_st_Md_elementsOf w_in_Md pd_Md_elementsOf d_Md_shrink_42)) (fun v k h => b_istore_n d_Md_shrink_45 rfl (by decide) h)) (t_seq (t_pf (s_aload_n d_Md_shrink_46 rfl) (s_ite (q4 := 83) (s_org (s_cmp (s_iload_n d_Md_shrink_47 rfl) (s_iload_n d_Md_shrink_48 rfl) (s_icmp_geT (tgt := 67) d_Md_shrink_49 (by decide))) (by decide) (al_1 (s_not (s_cmp0 (s_cl (s_a1 (s_cl (s_a1 (s_getf (s_aload_n d_Md_shrink_52 rfl) fi_Md_28 d_Md_shrink_53) (s_a1 (s_iload_n d_Md_shrink_56 rfl) s_a0)) (s_ecs me_Md_columnsOf mw_Md_columnsOf (by decide) (by decide) (by decide) lm_Md_79 w_st_Md_columnsOf w_in_Md pd_Md_columnsOf d_Md_shrink_57)) (s_a1 (s_iload_n d_Md_shrink_60 rfl) s_a0)) (s_ecs me_Md_fits mw_Md_fits (by decide) (by decide) (by decide) lm_Md_123 w_st_Md_fits w_in_Md pd_Md_fits d_Md_shrink_61)) (s_if_neT (tgt := 71) d_Md_shrink_64 (by decide))) (by decide)))) (s_iconst d_Md_shrink_67 (by decide)) d_Md_shrink_68 (by decide) (s_ite (q4 := 83) (s_cmp0 (s_cl (s_a1 (s_aload_n d_Md_shrink_71 rfl) s_a0) (s_ecv (ve_Md_isOneAbsent (by decide) (by decide)) dc_Md_isOneAbsent (by decide) lm_Md_52 pd_Md_isOneAbsent d_Md_shrink_72)) (s_if_eqF (tgt := 82) d_Md_shrink_75 (by decide))) (s_iconst d_Md_shrink_78 (by decide)) d_Md_shrink_79 (by decide) (s_iconst d_Md_shrink_82 (by decide)))) fi_Md_37 rfl (Or.inl rfl) d_Md_shrink_83) (t_seq (t_if1 (Fs := [95]) (E := [95]) (s_cmp0 (s_getf (s_aload_n d_Md_shrink_86 rfl) fi_Md_37 d_Md_shrink_87) (s_if_leF (tgt := 95) d_Md_shrink_90 (by decide))) (by decide) (t_sub (E := []) (E' := [95]) (t_ret .int (s_iconst d_Md_shrink_93 (by decide)) rfl (by decide) d_Md_shrink_94) (by decide)) (by decide)) (t_seq (t_cl (s_a1 (s_aload_n d_Md_shrink_95 rfl) s_a0) (s_ecv (ve_Md_begin (by decide) (by decide)) dc_Md_begin (by decide) lm_Md_107 pd_Md_begin d_Md_shrink_96)) (t_seq (t_st (s_getf (s_aload_n d_Md_shrink_99 rfl) fi_Md_31 d_Md_shrink_100) (s_bin (s_iconst d_Md_shrink_103 (by decide)) (s_iload_n d_Md_shrink_104 rfl) (s_iadd d_Md_shrink_105)) (s_bin (s_load (s_getf (s_aload_n d_Md_shrink_106 rfl) fi_Md_31 d_Md_shrink_107) (s_bin (s_iconst d_Md_shrink_110 (by decide)) (s_iload_n d_Md_shrink_111 rfl) (s_iadd d_Md_shrink_112)) (s_iald d_Md_shrink_113)) (s_bin (s_bipush d_Md_shrink_114 (by decide)) (s_bin (s_iload_n d_Md_shrink_116 rfl) (s_iload_n d_Md_shrink_117 rfl) (s_isub d_Md_shrink_118)) (s_imul d_Md_shrink_119)) (s_isub d_Md_shrink_120)) (s_iast d_Md_shrink_121)) (t_seq (t_seq (t_asg (s_bin (s_iconst d_Md_shrink_122 (by decide)) (s_iload_n d_Md_shrink_123 rfl) (s_imul d_Md_shrink_124)) (fun v k h => b_istore d_Md_shrink_125 (by decide) h)) ml_Md_shrink_0) (t_seq (t_cl (s_a1 (s_aload_n d_Md_shrink_156 rfl) s_a0) (s_ecv (ve_Md_change (by decide) (by decide)) dc_Md_change (by decide) lm_Md_110 pd_Md_change d_Md_shrink_157)) (t_ret .int (s_cl (s_a1 (s_aload_n d_Md_shrink_160 rfl) (s_a1 (s_bin (s_iload_n d_Md_shrink_161 rfl) (s_iload_n d_Md_shrink_162 rfl) (s_isub d_Md_shrink_163)) s_a0)) (s_ecv (ve_Md_ended (by decide) (by decide)) dc_Md_ended (by decide) lm_Md_113 pd_Md_ended d_Md_shrink_164)) rfl (by decide) d_Md_shrink_167))))))))))
def f_Md_shrink : jx_Mt := jx_fn 3 5 (bd_Md_shrink fun _ _ => none)
theorem me_Md_shrink : jx_Me 3 z_Md_shrink f_Md_shrink := jx_Me.ofT (by decide) m_Md_shrink
theorem mw_Md_shrink : jx_mw ⟨"ExtentShelfModel", "shrink", "(II)I"⟩ z_Md_shrink := ⟨rfl, rfl, by decide +kernel, ⟨by decide, by decide⟩, by decide +kernel⟩
theorem pd_Md_shrink : (parseMethodDescriptor (⟨"ExtentShelfModel", "shrink", "(II)I"⟩ : MethodName).desc).map (fun d => d.parameters.length) = some 2 := by decide +kernel
/-! ExtentShelfModel.delete(I)V -/
abbrev z_Md_delete : jx_Z := ("ExtentShelfModel", "delete", prog_11_method_35_code, 3, none, 4, 126)
theorem d_Md_delete_0 : decode z_Md_delete.2.2.1 0 = .ok (.aload_n 0, 1) := by decide +kernel
theorem d_Md_delete_1 : decode z_Md_delete.2.2.1 1 = .ok (.aload_n 0, 1) := by decide +kernel
theorem d_Md_delete_2 : decode z_Md_delete.2.2.1 2 = .ok (.getfield 20, 3) := by decide +kernel
theorem d_Md_delete_5 : decode z_Md_delete.2.2.1 5 = .ok (.ifCond .ne 7, 3) := by decide +kernel
theorem d_Md_delete_8 : decode z_Md_delete.2.2.1 8 = .ok (.iconst 1, 1) := by decide +kernel
theorem d_Md_delete_9 : decode z_Md_delete.2.2.1 9 = .ok (.goto 27, 3) := by decide +kernel
theorem d_Md_delete_12 : decode z_Md_delete.2.2.1 12 = .ok (.aload_n 0, 1) := by decide +kernel
theorem d_Md_delete_13 : decode z_Md_delete.2.2.1 13 = .ok (.iload_n 1, 1) := by decide +kernel
theorem d_Md_delete_14 : decode z_Md_delete.2.2.1 14 = .ok (.invokevirtual 134, 3) := by decide +kernel
theorem d_Md_delete_17 : decode z_Md_delete.2.2.1 17 = .ok (.ifCond .ne 7, 3) := by decide +kernel
theorem d_Md_delete_20 : decode z_Md_delete.2.2.1 20 = .ok (.iconst 2, 1) := by decide +kernel
theorem d_Md_delete_21 : decode z_Md_delete.2.2.1 21 = .ok (.goto 15, 3) := by decide +kernel
theorem d_Md_delete_24 : decode z_Md_delete.2.2.1 24 = .ok (.aload_n 0, 1) := by decide +kernel
theorem d_Md_delete_25 : decode z_Md_delete.2.2.1 25 = .ok (.invokevirtual 52, 3) := by decide +kernel
theorem d_Md_delete_28 : decode z_Md_delete.2.2.1 28 = .ok (.ifCond .eq 7, 3) := by decide +kernel
theorem d_Md_delete_31 : decode z_Md_delete.2.2.1 31 = .ok (.iconst 3, 1) := by decide +kernel
theorem d_Md_delete_32 : decode z_Md_delete.2.2.1 32 = .ok (.goto 4, 3) := by decide +kernel
theorem d_Md_delete_35 : decode z_Md_delete.2.2.1 35 = .ok (.iconst 0, 1) := by decide +kernel
theorem d_Md_delete_36 : decode z_Md_delete.2.2.1 36 = .ok (.putfield 37, 3) := by decide +kernel
theorem d_Md_delete_39 : decode z_Md_delete.2.2.1 39 = .ok (.aload_n 0, 1) := by decide +kernel
theorem d_Md_delete_40 : decode z_Md_delete.2.2.1 40 = .ok (.getfield 37, 3) := by decide +kernel
theorem d_Md_delete_43 : decode z_Md_delete.2.2.1 43 = .ok (.ifCond .le 4, 3) := by decide +kernel
theorem d_Md_delete_46 : decode z_Md_delete.2.2.1 46 = .ok (.return_, 1) := by decide +kernel
theorem d_Md_delete_47 : decode z_Md_delete.2.2.1 47 = .ok (.aload_n 0, 1) := by decide +kernel
theorem d_Md_delete_48 : decode z_Md_delete.2.2.1 48 = .ok (.invokevirtual 107, 3) := by decide +kernel
theorem d_Md_delete_51 : decode z_Md_delete.2.2.1 51 = .ok (.aload_n 0, 1) := by decide +kernel
theorem d_Md_delete_52 : decode z_Md_delete.2.2.1 52 = .ok (.getfield 31, 3) := by decide +kernel
theorem d_Md_delete_55 : decode z_Md_delete.2.2.1 55 = .ok (.iconst 5, 1) := by decide +kernel
theorem d_Md_delete_56 : decode z_Md_delete.2.2.1 56 = .ok (.iload_n 1, 1) := by decide +kernel
theorem d_Md_delete_57 : decode z_Md_delete.2.2.1 57 = .ok (.iadd, 1) := by decide +kernel
theorem d_Md_delete_58 : decode z_Md_delete.2.2.1 58 = .ok (.iconst 0, 1) := by decide +kernel
theorem d_Md_delete_59 : decode z_Md_delete.2.2.1 59 = .ok (.iastore, 1) := by decide +kernel
theorem d_Md_delete_60 : decode z_Md_delete.2.2.1 60 = .ok (.iconst 0, 1) := by decide +kernel
theorem d_Md_delete_61 : decode z_Md_delete.2.2.1 61 = .ok (.istore_n 2, 1) := by decide +kernel
theorem d_Md_delete_62 : decode z_Md_delete.2.2.1 62 = .ok (.iload_n 2, 1) := by decide +kernel
theorem d_Md_delete_63 : decode z_Md_delete.2.2.1 63 = .ok (.bipush 10, 2) := by decide +kernel
theorem d_Md_delete_65 : decode z_Md_delete.2.2.1 65 = .ok (.if_icmp .ge 24, 3) := by decide +kernel
theorem d_Md_delete_68 : decode z_Md_delete.2.2.1 68 = .ok (.aload_n 0, 1) := by decide +kernel
theorem d_Md_delete_69 : decode z_Md_delete.2.2.1 69 = .ok (.getfield 31, 3) := by decide +kernel
theorem d_Md_delete_72 : decode z_Md_delete.2.2.1 72 = .ok (.bipush 9, 2) := by decide +kernel
theorem d_Md_delete_74 : decode z_Md_delete.2.2.1 74 = .ok (.bipush 10, 2) := by decide +kernel
theorem d_Md_delete_76 : decode z_Md_delete.2.2.1 76 = .ok (.iload_n 1, 1) := by decide +kernel
theorem d_Md_delete_77 : decode z_Md_delete.2.2.1 77 = .ok (.imul, 1) := by decide +kernel
theorem d_Md_delete_78 : decode z_Md_delete.2.2.1 78 = .ok (.iadd, 1) := by decide +kernel
theorem d_Md_delete_79 : decode z_Md_delete.2.2.1 79 = .ok (.iload_n 2, 1) := by decide +kernel
theorem d_Md_delete_80 : decode z_Md_delete.2.2.1 80 = .ok (.iadd, 1) := by decide +kernel
theorem d_Md_delete_81 : decode z_Md_delete.2.2.1 81 = .ok (.iconst 0, 1) := by decide +kernel
theorem d_Md_delete_82 : decode z_Md_delete.2.2.1 82 = .ok (.iastore, 1) := by decide +kernel
theorem d_Md_delete_83 : decode z_Md_delete.2.2.1 83 = .ok (.iinc 2 1, 3) := by decide +kernel
theorem d_Md_delete_86 : decode z_Md_delete.2.2.1 86 = .ok (.goto (-24), 3) := by decide +kernel
theorem d_Md_delete_89 : decode z_Md_delete.2.2.1 89 = .ok (.aload_n 0, 1) := by decide +kernel
theorem d_Md_delete_90 : decode z_Md_delete.2.2.1 90 = .ok (.invokevirtual 110, 3) := by decide +kernel
theorem d_Md_delete_93 : decode z_Md_delete.2.2.1 93 = .ok (.aload_n 0, 1) := by decide +kernel
theorem d_Md_delete_94 : decode z_Md_delete.2.2.1 94 = .ok (.aload_n 0, 1) := by decide +kernel
theorem d_Md_delete_95 : decode z_Md_delete.2.2.1 95 = .ok (.getfield 20, 3) := by decide +kernel
theorem d_Md_delete_98 : decode z_Md_delete.2.2.1 98 = .ok (.ifCond .eq 7, 3) := by decide +kernel
theorem d_Md_delete_101 : decode z_Md_delete.2.2.1 101 = .ok (.iconst 0, 1) := by decide +kernel
theorem d_Md_delete_102 : decode z_Md_delete.2.2.1 102 = .ok (.goto 4, 3) := by decide +kernel
theorem d_Md_delete_105 : decode z_Md_delete.2.2.1 105 = .ok (.iconst 1, 1) := by decide +kernel
theorem d_Md_delete_106 : decode z_Md_delete.2.2.1 106 = .ok (.putfield 37, 3) := by decide +kernel
theorem d_Md_delete_109 : decode z_Md_delete.2.2.1 109 = .ok (.return_, 1) := by decide +kernel
def lc_Md_delete_0 : jx_Cx := (cCmp rLt (eI 2) (eInt (nI 10)))
def lb_Md_delete_0 : jx_St := (sSeq (sSt 0 0 (eGf [8] 7 (eA 0)) (eBin oAdd (eBin oAdd (eInt (nI 9)) (eBin oMul (eInt (nI 10)) (eI 1))) (eI 2)) (eInt (nI 0))) (sInc 2 (nI 1)))
theorem ml_Md_delete_0 : jx_Ts z_Md_delete 62 (sWh 64 lc_Md_delete_0 lb_Md_delete_0) [89] := by
  unfold lc_Md_delete_0 lb_Md_delete_0
  exact t_wh (EA := [86]) (Fs := [89]) (E := [89]) 64 (s_cmp (s_iload_n d_Md_delete_62 rfl) (s_bipush d_Md_delete_63 (by decide)) (s_icmp_geF (tgt := 89) d_Md_delete_65 (by decide))) (by decide) (t_seq (t_st (s_getf (s_aload_n d_Md_delete_68 rfl) fi_Md_31 d_Md_delete_69) (s_bin (s_bin (s_bipush d_Md_delete_72 (by decide)) (s_bin (s_bipush d_Md_delete_74 (by decide)) (s_iload_n d_Md_delete_76 rfl) (s_imul d_Md_delete_77)) (s_iadd d_Md_delete_78)) (s_iload_n d_Md_delete_79 rfl) (s_iadd d_Md_delete_80)) (s_iconst d_Md_delete_81 (by decide)) (s_iast d_Md_delete_82)) (t_iinc d_Md_delete_83 (by decide) (by decide))) (al_1 (Or.inr ⟨-24, d_Md_delete_86, by decide⟩)) (by decide)
def bd_Md_delete : jx_St := (sSeq (sSeq (sPf [8] 0 0 (eA 0) (eIte (cNot (cCmp0 rNe (eGf [8] 4 (eA 0)))) (eInt (nI 1)) (eIte (cNot (cCmp0 rNe (eCl (jx_ev tb_Md_isVolume) [(eA 0), (eI 1)]))) (eInt (nI 2)) (eIte (cCmp0 rNe (eCl (jx_ev tb_Md_isOneAbsent) [(eA 0)])) (eInt (nI 3)) (eInt (nI 0)))))) (sSeq (sIf (cCmp0 rGt (eGf [8] 0 (eA 0))) sRetV sSkip) (sSeq (sCl (jx_ev tb_Md_begin) [(eA 0)]) (sSeq (sSt 0 0 (eGf [8] 7 (eA 0)) (eBin oAdd (eInt (nI 5)) (eI 1)) (eInt (nI 0))) (sSeq (sSeq (sAsg 0 2 (eInt (nI 0))) (sWh 64 lc_Md_delete_0 lb_Md_delete_0)) (sSeq (sCl (jx_ev tb_Md_change) [(eA 0)]) (sPf [8] 0 0 (eA 0) (eIte (cCmp0 rNe (eGf [8] 4 (eA 0))) (eInt (nI 0)) (eInt (nI 1)))))))))) sRetV)
theorem m_Md_delete : jx_Ts z_Md_delete 0 bd_Md_delete [] := by
  unfold bd_Md_delete
  exact (t_seq (t_seq (t_pf (s_aload_n d_Md_delete_0 rfl) (s_ite (q4 := 36) (s_not (s_cmp0 (s_getf (s_aload_n d_Md_delete_1 rfl) fi_Md_20 d_Md_delete_2) (s_if_neT (tgt := 12) d_Md_delete_5 (by decide))) (by decide)) (s_iconst d_Md_delete_8 (by decide)) d_Md_delete_9 (by decide) (s_ite (q4 := 36) (s_not (s_cmp0 (s_cl (s_a1 (s_aload_n d_Md_delete_12 rfl) (s_a1 (s_iload_n d_Md_delete_13 rfl) s_a0)) (s_ecv (ve_Md_isVolume (by decide) (by decide)) dc_Md_isVolume (by decide) lm_Md_134 pd_Md_isVolume d_Md_delete_14)) (s_if_neT (tgt := 24) d_Md_delete_17 (by decide))) (by decide)) (s_iconst d_Md_delete_20 (by decide)) d_Md_delete_21 (by decide) (s_ite (q4 := 36) (s_cmp0 (s_cl (s_a1 (s_aload_n d_Md_delete_24 rfl) s_a0) (s_ecv (ve_Md_isOneAbsent (by decide) (by decide)) dc_Md_isOneAbsent (by decide) lm_Md_52 pd_Md_isOneAbsent d_Md_delete_25)) (s_if_eqF (tgt := 35) d_Md_delete_28 (by decide))) (s_iconst d_Md_delete_31 (by decide)) d_Md_delete_32 (by decide) (s_iconst d_Md_delete_35 (by decide))))) fi_Md_37 rfl (Or.inl rfl) d_Md_delete_36) (t_seq (t_if1 (Fs := [47]) (E := [47]) (s_cmp0 (s_getf (s_aload_n d_Md_delete_39 rfl) fi_Md_37 d_Md_delete_40) (s_if_leF (tgt := 47) d_Md_delete_43 (by decide))) (by decide) (t_sub (E := []) (E' := [47]) (t_retv rfl d_Md_delete_46) (by decide)) (by decide)) (t_seq (t_cl (s_a1 (s_aload_n d_Md_delete_47 rfl) s_a0) (s_ecv (ve_Md_begin (by decide) (by decide)) dc_Md_begin (by decide) lm_Md_107 pd_Md_begin d_Md_delete_48)) (t_seq (t_st (s_getf (s_aload_n d_Md_delete_51 rfl) fi_Md_31 d_Md_delete_52) (s_bin (s_iconst d_Md_delete_55 (by decide)) (s_iload_n d_Md_delete_56 rfl) (s_iadd d_Md_delete_57)) (s_iconst d_Md_delete_58 (by decide)) (s_iast d_Md_delete_59)) (t_seq (t_seq (t_asg (s_iconst d_Md_delete_60 (by decide)) (fun v k h => b_istore_n d_Md_delete_61 rfl (by decide) h)) ml_Md_delete_0) (t_seq (t_cl (s_a1 (s_aload_n d_Md_delete_89 rfl) s_a0) (s_ecv (ve_Md_change (by decide) (by decide)) dc_Md_change (by decide) lm_Md_110 pd_Md_change d_Md_delete_90)) (t_pf (s_aload_n d_Md_delete_93 rfl) (s_ite (q4 := 106) (s_cmp0 (s_getf (s_aload_n d_Md_delete_94 rfl) fi_Md_20 d_Md_delete_95) (s_if_eqF (tgt := 105) d_Md_delete_98 (by decide))) (s_iconst d_Md_delete_101 (by decide)) d_Md_delete_102 (by decide) (s_iconst d_Md_delete_105 (by decide))) fi_Md_37 rfl (Or.inl rfl) d_Md_delete_106))))))) (t_retv rfl d_Md_delete_109))
def f_Md_delete : jx_Mt := jx_fn 2 3 (bd_Md_delete fun _ _ => none)
theorem me_Md_delete : jx_Me 2 z_Md_delete f_Md_delete := jx_Me.ofT (by decide) m_Md_delete
theorem mw_Md_delete : jx_mw ⟨"ExtentShelfModel", "delete", "(I)V"⟩ z_Md_delete := ⟨rfl, rfl, by decide +kernel, ⟨by decide, by decide⟩, by decide +kernel⟩
theorem pd_Md_delete : (parseMethodDescriptor (⟨"ExtentShelfModel", "delete", "(I)V"⟩ : MethodName).desc).map (fun d => d.parameters.length) = some 1 := by decide +kernel
/-! ExtentShelfModel.twin(I)I -/
abbrev z_Md_twin : jx_Z := ("ExtentShelfModel", "twin", prog_11_method_36_code, 1, some .int, 0, 0)
theorem d_Md_twin_0 : decode z_Md_twin.2.2.1 0 = .ok (.iload_n 0, 1) := by decide +kernel
theorem d_Md_twin_1 : decode z_Md_twin.2.2.1 1 = .ok (.iconst 2, 1) := by decide +kernel
theorem d_Md_twin_2 : decode z_Md_twin.2.2.1 2 = .ok (.irem, 1) := by decide +kernel
theorem d_Md_twin_3 : decode z_Md_twin.2.2.1 3 = .ok (.ifCond .ne 9, 3) := by decide +kernel
theorem d_Md_twin_6 : decode z_Md_twin.2.2.1 6 = .ok (.iload_n 0, 1) := by decide +kernel
theorem d_Md_twin_7 : decode z_Md_twin.2.2.1 7 = .ok (.iconst 1, 1) := by decide +kernel
theorem d_Md_twin_8 : decode z_Md_twin.2.2.1 8 = .ok (.iadd, 1) := by decide +kernel
theorem d_Md_twin_9 : decode z_Md_twin.2.2.1 9 = .ok (.goto 6, 3) := by decide +kernel
theorem d_Md_twin_12 : decode z_Md_twin.2.2.1 12 = .ok (.iload_n 0, 1) := by decide +kernel
theorem d_Md_twin_13 : decode z_Md_twin.2.2.1 13 = .ok (.iconst 1, 1) := by decide +kernel
theorem d_Md_twin_14 : decode z_Md_twin.2.2.1 14 = .ok (.isub, 1) := by decide +kernel
theorem d_Md_twin_15 : decode z_Md_twin.2.2.1 15 = .ok (.ireturn, 1) := by decide +kernel
def bd_Md_twin : jx_St := (sRet 0 (eIte (cCmp0 rEq (eBin oRem (eI 0) (eInt (nI 2)))) (eBin oAdd (eI 0) (eInt (nI 1))) (eBin oSub (eI 0) (eInt (nI 1)))))
theorem m_Md_twin : jx_Ts z_Md_twin 0 bd_Md_twin [] := by
  unfold bd_Md_twin
  exact (t_ret .int (s_ite (q4 := 15) (s_cmp0 (s_bin (s_iload_n d_Md_twin_0 rfl) (s_iconst d_Md_twin_1 (by decide)) (s_irem d_Md_twin_2)) (s_if_neF (tgt := 12) d_Md_twin_3 (by decide))) (s_bin (s_iload_n d_Md_twin_6 rfl) (s_iconst d_Md_twin_7 (by decide)) (s_iadd d_Md_twin_8)) d_Md_twin_9 (by decide) (s_bin (s_iload_n d_Md_twin_12 rfl) (s_iconst d_Md_twin_13 (by decide)) (s_isub d_Md_twin_14))) rfl (by decide) d_Md_twin_15)
def f_Md_twin : jx_Mt := jx_fn 1 1 (bd_Md_twin fun _ _ => none)
theorem me_Md_twin : jx_Me 1 z_Md_twin f_Md_twin := jx_Me.ofT (by decide) m_Md_twin
theorem mw_Md_twin : jx_mw ⟨"ExtentShelfModel", "twin", "(I)I"⟩ z_Md_twin := ⟨rfl, rfl, by decide +kernel, ⟨by decide, by decide⟩, by decide +kernel⟩
theorem pd_Md_twin : (parseMethodDescriptor (⟨"ExtentShelfModel", "twin", "(I)I"⟩ : MethodName).desc).map (fun d => d.parameters.length) = some 1 := by decide +kernel
abbrev tb_Md_get : List (Nat × jx_Mt) := [(8, f_Md_get)]
theorem ve_Md_get {fr lo : Nat} (h1 : 1 ≤ fr) (h2 : 30 ≤ lo) : ∀ q ∈ tb_Md_get, jx_ve ⟨"ExtentShelfModel", "get", "(II)I"⟩ 2 fr lo q.1 q.2 := tv_1 ⟨R_Model, F_Model, 13, ⟨"ExtentShelfModel", "get", "(II)I"⟩, z_Md_get, rfl, by decide +kernel, mw_Md_get, by decide +kernel, me_Md_get, Nat.le_trans (by decide) h1, Nat.le_trans (by decide) h2⟩
theorem dc_Md_get : jx_dc ⟨"ExtentShelfModel", "get", "(II)I"⟩ := ⟨⟨by decide, by decide⟩, Or.inr ⟨by decide +kernel, prog_11_method_6_code, 3, _, (by decide +kernel : Cond.code ⟨"ExtentShelfModel", "get", "(II)I"⟩ prog_11_method_6_code 3 (some .int) ∈ jx_tbl)⟩, "ExtentShelfModel", ⟨"ExtentShelfModel", "get", "(II)I"⟩, ⟨"ExtentShelfModel", "get", "(II)I"⟩, by decide +kernel, rfl⟩
/-! ExtentShelfModel.mend(I)I -/
abbrev z_Md_mend : jx_Z := ("ExtentShelfModel", "mend", prog_11_method_37_code, 6, some .int, 4, 132)
theorem d_Md_mend_0 : decode z_Md_mend.2.2.1 0 = .ok (.aload_n 0, 1) := by decide +kernel
theorem d_Md_mend_1 : decode z_Md_mend.2.2.1 1 = .ok (.aload_n 0, 1) := by decide +kernel
theorem d_Md_mend_2 : decode z_Md_mend.2.2.1 2 = .ok (.getfield 20, 3) := by decide +kernel
theorem d_Md_mend_5 : decode z_Md_mend.2.2.1 5 = .ok (.ifCond .ne 7, 3) := by decide +kernel
theorem d_Md_mend_8 : decode z_Md_mend.2.2.1 8 = .ok (.iconst 1, 1) := by decide +kernel
theorem d_Md_mend_9 : decode z_Md_mend.2.2.1 9 = .ok (.goto 43, 3) := by decide +kernel
theorem d_Md_mend_12 : decode z_Md_mend.2.2.1 12 = .ok (.aload_n 0, 1) := by decide +kernel
theorem d_Md_mend_13 : decode z_Md_mend.2.2.1 13 = .ok (.iload_n 1, 1) := by decide +kernel
theorem d_Md_mend_14 : decode z_Md_mend.2.2.1 14 = .ok (.invokevirtual 134, 3) := by decide +kernel
theorem d_Md_mend_17 : decode z_Md_mend.2.2.1 17 = .ok (.ifCond .ne 7, 3) := by decide +kernel
theorem d_Md_mend_20 : decode z_Md_mend.2.2.1 20 = .ok (.iconst 2, 1) := by decide +kernel
theorem d_Md_mend_21 : decode z_Md_mend.2.2.1 21 = .ok (.goto 31, 3) := by decide +kernel
theorem d_Md_mend_24 : decode z_Md_mend.2.2.1 24 = .ok (.aload_n 0, 1) := by decide +kernel
theorem d_Md_mend_25 : decode z_Md_mend.2.2.1 25 = .ok (.getfield 28, 3) := by decide +kernel
theorem d_Md_mend_28 : decode z_Md_mend.2.2.1 28 = .ok (.iload_n 1, 1) := by decide +kernel
theorem d_Md_mend_29 : decode z_Md_mend.2.2.1 29 = .ok (.invokestatic 75, 3) := by decide +kernel
theorem d_Md_mend_32 : decode z_Md_mend.2.2.1 32 = .ok (.iconst 2, 1) := by decide +kernel
theorem d_Md_mend_33 : decode z_Md_mend.2.2.1 33 = .ok (.if_icmp .eq 7, 3) := by decide +kernel
theorem d_Md_mend_36 : decode z_Md_mend.2.2.1 36 = .ok (.iconst 3, 1) := by decide +kernel
theorem d_Md_mend_37 : decode z_Md_mend.2.2.1 37 = .ok (.goto 15, 3) := by decide +kernel
theorem d_Md_mend_40 : decode z_Md_mend.2.2.1 40 = .ok (.aload_n 0, 1) := by decide +kernel
theorem d_Md_mend_41 : decode z_Md_mend.2.2.1 41 = .ok (.invokevirtual 52, 3) := by decide +kernel
theorem d_Md_mend_44 : decode z_Md_mend.2.2.1 44 = .ok (.ifCond .eq 7, 3) := by decide +kernel
theorem d_Md_mend_47 : decode z_Md_mend.2.2.1 47 = .ok (.iconst 4, 1) := by decide +kernel
theorem d_Md_mend_48 : decode z_Md_mend.2.2.1 48 = .ok (.goto 4, 3) := by decide +kernel
theorem d_Md_mend_51 : decode z_Md_mend.2.2.1 51 = .ok (.iconst 0, 1) := by decide +kernel
theorem d_Md_mend_52 : decode z_Md_mend.2.2.1 52 = .ok (.putfield 37, 3) := by decide +kernel
theorem d_Md_mend_55 : decode z_Md_mend.2.2.1 55 = .ok (.aload_n 0, 1) := by decide +kernel
theorem d_Md_mend_56 : decode z_Md_mend.2.2.1 56 = .ok (.getfield 37, 3) := by decide +kernel
theorem d_Md_mend_59 : decode z_Md_mend.2.2.1 59 = .ok (.ifCond .le 5, 3) := by decide +kernel
theorem d_Md_mend_62 : decode z_Md_mend.2.2.1 62 = .ok (.iconst 0, 1) := by decide +kernel
theorem d_Md_mend_63 : decode z_Md_mend.2.2.1 63 = .ok (.ireturn, 1) := by decide +kernel
theorem d_Md_mend_64 : decode z_Md_mend.2.2.1 64 = .ok (.aload_n 0, 1) := by decide +kernel
theorem d_Md_mend_65 : decode z_Md_mend.2.2.1 65 = .ok (.invokevirtual 107, 3) := by decide +kernel
theorem d_Md_mend_68 : decode z_Md_mend.2.2.1 68 = .ok (.bipush 9, 2) := by decide +kernel
theorem d_Md_mend_70 : decode z_Md_mend.2.2.1 70 = .ok (.bipush 10, 2) := by decide +kernel
theorem d_Md_mend_72 : decode z_Md_mend.2.2.1 72 = .ok (.iload_n 1, 1) := by decide +kernel
theorem d_Md_mend_73 : decode z_Md_mend.2.2.1 73 = .ok (.imul, 1) := by decide +kernel
theorem d_Md_mend_74 : decode z_Md_mend.2.2.1 74 = .ok (.iadd, 1) := by decide +kernel
theorem d_Md_mend_75 : decode z_Md_mend.2.2.1 75 = .ok (.istore_n 2, 1) := by decide +kernel
theorem d_Md_mend_76 : decode z_Md_mend.2.2.1 76 = .ok (.iconst 0, 1) := by decide +kernel
theorem d_Md_mend_77 : decode z_Md_mend.2.2.1 77 = .ok (.istore_n 3, 1) := by decide +kernel
theorem d_Md_mend_78 : decode z_Md_mend.2.2.1 78 = .ok (.iconst 0, 1) := by decide +kernel
theorem d_Md_mend_79 : decode z_Md_mend.2.2.1 79 = .ok (.istore 4, 2) := by decide +kernel
theorem d_Md_mend_81 : decode z_Md_mend.2.2.1 81 = .ok (.iload 4, 2) := by decide +kernel
theorem d_Md_mend_83 : decode z_Md_mend.2.2.1 83 = .ok (.iconst 2, 1) := by decide +kernel
theorem d_Md_mend_84 : decode z_Md_mend.2.2.1 84 = .ok (.aload_n 0, 1) := by decide +kernel
theorem d_Md_mend_85 : decode z_Md_mend.2.2.1 85 = .ok (.getfield 28, 3) := by decide +kernel
theorem d_Md_mend_88 : decode z_Md_mend.2.2.1 88 = .ok (.iload_n 1, 1) := by decide +kernel
theorem d_Md_mend_89 : decode z_Md_mend.2.2.1 89 = .ok (.invokestatic 86, 3) := by decide +kernel
theorem d_Md_mend_92 : decode z_Md_mend.2.2.1 92 = .ok (.imul, 1) := by decide +kernel
theorem d_Md_mend_93 : decode z_Md_mend.2.2.1 93 = .ok (.if_icmp .ge 79, 3) := by decide +kernel
theorem d_Md_mend_96 : decode z_Md_mend.2.2.1 96 = .ok (.aload_n 0, 1) := by decide +kernel
theorem d_Md_mend_97 : decode z_Md_mend.2.2.1 97 = .ok (.getfield 28, 3) := by decide +kernel
theorem d_Md_mend_100 : decode z_Md_mend.2.2.1 100 = .ok (.iload_n 2, 1) := by decide +kernel
theorem d_Md_mend_101 : decode z_Md_mend.2.2.1 101 = .ok (.iload 4, 2) := by decide +kernel
theorem d_Md_mend_103 : decode z_Md_mend.2.2.1 103 = .ok (.iadd, 1) := by decide +kernel
theorem d_Md_mend_104 : decode z_Md_mend.2.2.1 104 = .ok (.iaload, 1) := by decide +kernel
theorem d_Md_mend_105 : decode z_Md_mend.2.2.1 105 = .ok (.ifCond .ne 61, 3) := by decide +kernel
theorem d_Md_mend_108 : decode z_Md_mend.2.2.1 108 = .ok (.aload_n 0, 1) := by decide +kernel
theorem d_Md_mend_109 : decode z_Md_mend.2.2.1 109 = .ok (.getfield 28, 3) := by decide +kernel
theorem d_Md_mend_112 : decode z_Md_mend.2.2.1 112 = .ok (.iload_n 2, 1) := by decide +kernel
theorem d_Md_mend_113 : decode z_Md_mend.2.2.1 113 = .ok (.iload 4, 2) := by decide +kernel
theorem d_Md_mend_115 : decode z_Md_mend.2.2.1 115 = .ok (.invokestatic 137, 3) := by decide +kernel
theorem d_Md_mend_118 : decode z_Md_mend.2.2.1 118 = .ok (.iadd, 1) := by decide +kernel
theorem d_Md_mend_119 : decode z_Md_mend.2.2.1 119 = .ok (.iaload, 1) := by decide +kernel
theorem d_Md_mend_120 : decode z_Md_mend.2.2.1 120 = .ok (.ifCond .le 46, 3) := by decide +kernel
theorem d_Md_mend_123 : decode z_Md_mend.2.2.1 123 = .ok (.aload_n 0, 1) := by decide +kernel
theorem d_Md_mend_124 : decode z_Md_mend.2.2.1 124 = .ok (.getfield 31, 3) := by decide +kernel
theorem d_Md_mend_127 : decode z_Md_mend.2.2.1 127 = .ok (.iload_n 2, 1) := by decide +kernel
theorem d_Md_mend_128 : decode z_Md_mend.2.2.1 128 = .ok (.iload 4, 2) := by decide +kernel
theorem d_Md_mend_130 : decode z_Md_mend.2.2.1 130 = .ok (.iadd, 1) := by decide +kernel
theorem d_Md_mend_131 : decode z_Md_mend.2.2.1 131 = .ok (.aload_n 0, 1) := by decide +kernel
theorem d_Md_mend_132 : decode z_Md_mend.2.2.1 132 = .ok (.aload_n 0, 1) := by decide +kernel
theorem d_Md_mend_133 : decode z_Md_mend.2.2.1 133 = .ok (.getfield 31, 3) := by decide +kernel
theorem d_Md_mend_136 : decode z_Md_mend.2.2.1 136 = .ok (.iload_n 1, 1) := by decide +kernel
theorem d_Md_mend_137 : decode z_Md_mend.2.2.1 137 = .ok (.iload 4, 2) := by decide +kernel
theorem d_Md_mend_139 : decode z_Md_mend.2.2.1 139 = .ok (.iconst (-1), 1) := by decide +kernel
theorem d_Md_mend_140 : decode z_Md_mend.2.2.1 140 = .ok (.invokevirtual 95, 3) := by decide +kernel
theorem d_Md_mend_143 : decode z_Md_mend.2.2.1 143 = .ok (.iastore, 1) := by decide +kernel
theorem d_Md_mend_144 : decode z_Md_mend.2.2.1 144 = .ok (.iinc 3 1, 3) := by decide +kernel
theorem d_Md_mend_147 : decode z_Md_mend.2.2.1 147 = .ok (.aload_n 0, 1) := by decide +kernel
theorem d_Md_mend_148 : decode z_Md_mend.2.2.1 148 = .ok (.getfield 31, 3) := by decide +kernel
theorem d_Md_mend_151 : decode z_Md_mend.2.2.1 151 = .ok (.iload_n 2, 1) := by decide +kernel
theorem d_Md_mend_152 : decode z_Md_mend.2.2.1 152 = .ok (.iload 4, 2) := by decide +kernel
theorem d_Md_mend_154 : decode z_Md_mend.2.2.1 154 = .ok (.iadd, 1) := by decide +kernel
theorem d_Md_mend_155 : decode z_Md_mend.2.2.1 155 = .ok (.iaload, 1) := by decide +kernel
theorem d_Md_mend_156 : decode z_Md_mend.2.2.1 156 = .ok (.ifCond .ne 10, 3) := by decide +kernel
theorem d_Md_mend_159 : decode z_Md_mend.2.2.1 159 = .ok (.aload_n 0, 1) := by decide +kernel
theorem d_Md_mend_160 : decode z_Md_mend.2.2.1 160 = .ok (.iconst 4, 1) := by decide +kernel
theorem d_Md_mend_161 : decode z_Md_mend.2.2.1 161 = .ok (.putfield 37, 3) := by decide +kernel
theorem d_Md_mend_164 : decode z_Md_mend.2.2.1 164 = .ok (.iconst 0, 1) := by decide +kernel
theorem d_Md_mend_165 : decode z_Md_mend.2.2.1 165 = .ok (.ireturn, 1) := by decide +kernel
theorem d_Md_mend_166 : decode z_Md_mend.2.2.1 166 = .ok (.iinc 4 1, 3) := by decide +kernel
theorem d_Md_mend_169 : decode z_Md_mend.2.2.1 169 = .ok (.goto (-88), 3) := by decide +kernel
theorem d_Md_mend_172 : decode z_Md_mend.2.2.1 172 = .ok (.iload_n 3, 1) := by decide +kernel
theorem d_Md_mend_173 : decode z_Md_mend.2.2.1 173 = .ok (.ifCond .ne 5, 3) := by decide +kernel
theorem d_Md_mend_176 : decode z_Md_mend.2.2.1 176 = .ok (.iconst 0, 1) := by decide +kernel
theorem d_Md_mend_177 : decode z_Md_mend.2.2.1 177 = .ok (.ireturn, 1) := by decide +kernel
theorem d_Md_mend_178 : decode z_Md_mend.2.2.1 178 = .ok (.iconst 0, 1) := by decide +kernel
theorem d_Md_mend_179 : decode z_Md_mend.2.2.1 179 = .ok (.istore 4, 2) := by decide +kernel
theorem d_Md_mend_181 : decode z_Md_mend.2.2.1 181 = .ok (.iload 4, 2) := by decide +kernel
theorem d_Md_mend_183 : decode z_Md_mend.2.2.1 183 = .ok (.bipush 10, 2) := by decide +kernel
theorem d_Md_mend_185 : decode z_Md_mend.2.2.1 185 = .ok (.if_icmp .ge 78, 3) := by decide +kernel
theorem d_Md_mend_188 : decode z_Md_mend.2.2.1 188 = .ok (.iconst 0, 1) := by decide +kernel
theorem d_Md_mend_189 : decode z_Md_mend.2.2.1 189 = .ok (.istore 5, 2) := by decide +kernel
theorem d_Md_mend_191 : decode z_Md_mend.2.2.1 191 = .ok (.iload 5, 2) := by decide +kernel
theorem d_Md_mend_193 : decode z_Md_mend.2.2.1 193 = .ok (.iconst 4, 1) := by decide +kernel
theorem d_Md_mend_194 : decode z_Md_mend.2.2.1 194 = .ok (.if_icmp .ge 63, 3) := by decide +kernel
theorem d_Md_mend_197 : decode z_Md_mend.2.2.1 197 = .ok (.aload_n 0, 1) := by decide +kernel
theorem d_Md_mend_198 : decode z_Md_mend.2.2.1 198 = .ok (.getfield 31, 3) := by decide +kernel
theorem d_Md_mend_201 : decode z_Md_mend.2.2.1 201 = .ok (.iload_n 2, 1) := by decide +kernel
theorem d_Md_mend_202 : decode z_Md_mend.2.2.1 202 = .ok (.iload 4, 2) := by decide +kernel
theorem d_Md_mend_204 : decode z_Md_mend.2.2.1 204 = .ok (.iadd, 1) := by decide +kernel
theorem d_Md_mend_205 : decode z_Md_mend.2.2.1 205 = .ok (.iaload, 1) := by decide +kernel
theorem d_Md_mend_206 : decode z_Md_mend.2.2.1 206 = .ok (.aload_n 0, 1) := by decide +kernel
theorem d_Md_mend_207 : decode z_Md_mend.2.2.1 207 = .ok (.getfield 28, 3) := by decide +kernel
theorem d_Md_mend_210 : decode z_Md_mend.2.2.1 210 = .ok (.iload_n 2, 1) := by decide +kernel
theorem d_Md_mend_211 : decode z_Md_mend.2.2.1 211 = .ok (.iload 4, 2) := by decide +kernel
theorem d_Md_mend_213 : decode z_Md_mend.2.2.1 213 = .ok (.iadd, 1) := by decide +kernel
theorem d_Md_mend_214 : decode z_Md_mend.2.2.1 214 = .ok (.iaload, 1) := by decide +kernel
theorem d_Md_mend_215 : decode z_Md_mend.2.2.1 215 = .ok (.if_icmp .eq 42, 3) := by decide +kernel
theorem d_Md_mend_218 : decode z_Md_mend.2.2.1 218 = .ok (.aload_n 0, 1) := by decide +kernel
theorem d_Md_mend_219 : decode z_Md_mend.2.2.1 219 = .ok (.aload_n 0, 1) := by decide +kernel
theorem d_Md_mend_220 : decode z_Md_mend.2.2.1 220 = .ok (.getfield 31, 3) := by decide +kernel
theorem d_Md_mend_223 : decode z_Md_mend.2.2.1 223 = .ok (.iload_n 2, 1) := by decide +kernel
theorem d_Md_mend_224 : decode z_Md_mend.2.2.1 224 = .ok (.iload 4, 2) := by decide +kernel
theorem d_Md_mend_226 : decode z_Md_mend.2.2.1 226 = .ok (.iadd, 1) := by decide +kernel
theorem d_Md_mend_227 : decode z_Md_mend.2.2.1 227 = .ok (.iaload, 1) := by decide +kernel
theorem d_Md_mend_228 : decode z_Md_mend.2.2.1 228 = .ok (.iload 5, 2) := by decide +kernel
theorem d_Md_mend_230 : decode z_Md_mend.2.2.1 230 = .ok (.aload_n 0, 1) := by decide +kernel
theorem d_Md_mend_231 : decode z_Md_mend.2.2.1 231 = .ok (.aload_n 0, 1) := by decide +kernel
theorem d_Md_mend_232 : decode z_Md_mend.2.2.1 232 = .ok (.getfield 28, 3) := by decide +kernel
theorem d_Md_mend_235 : decode z_Md_mend.2.2.1 235 = .ok (.iload_n 2, 1) := by decide +kernel
theorem d_Md_mend_236 : decode z_Md_mend.2.2.1 236 = .ok (.iload 4, 2) := by decide +kernel
theorem d_Md_mend_238 : decode z_Md_mend.2.2.1 238 = .ok (.invokestatic 137, 3) := by decide +kernel
theorem d_Md_mend_241 : decode z_Md_mend.2.2.1 241 = .ok (.iadd, 1) := by decide +kernel
theorem d_Md_mend_242 : decode z_Md_mend.2.2.1 242 = .ok (.iaload, 1) := by decide +kernel
theorem d_Md_mend_243 : decode z_Md_mend.2.2.1 243 = .ok (.iload 5, 2) := by decide +kernel
theorem d_Md_mend_245 : decode z_Md_mend.2.2.1 245 = .ok (.invokevirtual 140, 3) := by decide +kernel
theorem d_Md_mend_248 : decode z_Md_mend.2.2.1 248 = .ok (.invokevirtual 99, 3) := by decide +kernel
theorem d_Md_mend_251 : decode z_Md_mend.2.2.1 251 = .ok (.iinc 5 1, 3) := by decide +kernel
theorem d_Md_mend_254 : decode z_Md_mend.2.2.1 254 = .ok (.goto (-63), 3) := by decide +kernel
theorem d_Md_mend_257 : decode z_Md_mend.2.2.1 257 = .ok (.iinc 4 1, 3) := by decide +kernel
theorem d_Md_mend_260 : decode z_Md_mend.2.2.1 260 = .ok (.goto (-79), 3) := by decide +kernel
theorem d_Md_mend_263 : decode z_Md_mend.2.2.1 263 = .ok (.aload_n 0, 1) := by decide +kernel
theorem d_Md_mend_264 : decode z_Md_mend.2.2.1 264 = .ok (.invokevirtual 110, 3) := by decide +kernel
theorem d_Md_mend_267 : decode z_Md_mend.2.2.1 267 = .ok (.aload_n 0, 1) := by decide +kernel
theorem d_Md_mend_268 : decode z_Md_mend.2.2.1 268 = .ok (.iload_n 3, 1) := by decide +kernel
theorem d_Md_mend_269 : decode z_Md_mend.2.2.1 269 = .ok (.invokevirtual 113, 3) := by decide +kernel
theorem d_Md_mend_272 : decode z_Md_mend.2.2.1 272 = .ok (.ireturn, 1) := by decide +kernel
def lc_Md_mend_0 : jx_Cx := (cCmp rLt (eI 4) (eBin oMul (eInt (nI 2)) (eCl (jx_ec f_Md_elementsOf) [(eGf [8] 6 (eA 0)), (eI 1)])))
def lb_Md_mend_0 : jx_St := (sSeq (sIf (cAnd (cCmp0 rEq (eLd 0 (eGf [8] 6 (eA 0)) (eBin oAdd (eI 2) (eI 4)))) (cCmp0 rGt (eLd 0 (eGf [8] 6 (eA 0)) (eBin oAdd (eI 2) (eCl (jx_ec f_Md_twin) [(eI 4)]))))) (sSeq (sSt 0 0 (eGf [8] 7 (eA 0)) (eBin oAdd (eI 2) (eI 4)) (eCl (jx_ev tb_Md_room) [(eA 0), (eGf [8] 7 (eA 0)), (eI 1), (eI 4), (eInt (-1))])) (sSeq (sInc 3 (nI 1)) (sIf (cCmp0 rEq (eLd 0 (eGf [8] 7 (eA 0)) (eBin oAdd (eI 2) (eI 4)))) (sSeq (sPf [8] 0 0 (eA 0) (eInt (nI 4))) (sRet 0 (eInt (nI 0)))) sSkip))) sSkip) (sInc 4 (nI 1)))
theorem ml_Md_mend_0 : jx_Ts z_Md_mend 81 (sWh 64 lc_Md_mend_0 lb_Md_mend_0) [172] := by
  unfold lc_Md_mend_0 lb_Md_mend_0
  exact t_wh (EA := [169]) (Fs := [172]) (E := [172]) 64 (s_cmp (s_iload d_Md_mend_81) (s_bin (s_iconst d_Md_mend_83 (by decide)) (s_cl (s_a1 (s_getf (s_aload_n d_Md_mend_84 rfl) fi_Md_28 d_Md_mend_85) (s_a1 (s_iload_n d_Md_mend_88 rfl) s_a0)) (s_ecs me_Md_elementsOf mw_Md_elementsOf (by decide) (by decide) (by decide) lm_Md_86 w_st_Md_elementsOf w_in_Md pd_Md_elementsOf d_Md_mend_89)) (s_imul d_Md_mend_92)) (s_icmp_geF (tgt := 172) d_Md_mend_93 (by decide))) (by decide) (t_seq (t_if1 (Fs := [166]) (E := [166]) (s_andg (s_cmp0 (s_load (s_getf (s_aload_n d_Md_mend_96 rfl) fi_Md_28 d_Md_mend_97) (s_bin (s_iload_n d_Md_mend_100 rfl) (s_iload d_Md_mend_101) (s_iadd d_Md_mend_103)) (s_iald d_Md_mend_104)) (s_if_neF (tgt := 166) d_Md_mend_105 (by decide))) (by decide) (al_1 (s_cmp0 (s_load (s_getf (s_aload_n d_Md_mend_108 rfl) fi_Md_28 d_Md_mend_109) (s_bin (s_iload_n d_Md_mend_112 rfl) (s_cl (s_a1 (s_iload d_Md_mend_113) s_a0) (s_ecs me_Md_twin mw_Md_twin (by decide) (by decide) (by decide) lm_Md_137 w_st_Md_twin w_in_Md pd_Md_twin d_Md_mend_115)) (s_iadd d_Md_mend_118)) (s_iald d_Md_mend_119)) (s_if_leF (tgt := 166) d_Md_mend_120 (by decide))))) (by decide) (t_sub (E := [166]) (E' := [166]) (t_seq (t_st (s_getf (s_aload_n d_Md_mend_123 rfl) fi_Md_31 d_Md_mend_124) (s_bin (s_iload_n d_Md_mend_127 rfl) (s_iload d_Md_mend_128) (s_iadd d_Md_mend_130)) (s_cl (s_a1 (s_aload_n d_Md_mend_131 rfl) (s_a1 (s_getf (s_aload_n d_Md_mend_132 rfl) fi_Md_31 d_Md_mend_133) (s_a1 (s_iload_n d_Md_mend_136 rfl) (s_a1 (s_iload d_Md_mend_137) (s_a1 (s_iconst d_Md_mend_139 (by decide)) s_a0))))) (s_ecv (ve_Md_room (by decide) (by decide)) dc_Md_room (by decide) lm_Md_95 pd_Md_room d_Md_mend_140)) (s_iast d_Md_mend_143)) (t_seq (t_iinc d_Md_mend_144 (by decide) (by decide)) (t_if1 (Fs := [166]) (E := [166]) (s_cmp0 (s_load (s_getf (s_aload_n d_Md_mend_147 rfl) fi_Md_31 d_Md_mend_148) (s_bin (s_iload_n d_Md_mend_151 rfl) (s_iload d_Md_mend_152) (s_iadd d_Md_mend_154)) (s_iald d_Md_mend_155)) (s_if_neF (tgt := 166) d_Md_mend_156 (by decide))) (by decide) (t_sub (E := []) (E' := [166]) (t_seq (t_pf (s_aload_n d_Md_mend_159 rfl) (s_iconst d_Md_mend_160 (by decide)) fi_Md_37 rfl (Or.inl rfl) d_Md_mend_161) (t_ret .int (s_iconst d_Md_mend_164 (by decide)) rfl (by decide) d_Md_mend_165)) (by decide)) (by decide)))) (by decide)) (by decide)) (t_iinc d_Md_mend_166 (by decide) (by decide))) (al_1 (Or.inr ⟨-88, d_Md_mend_169, by decide⟩)) (by decide)
def lc_Md_mend_2 : jx_Cx := (cAnd (cCmp rLt (eI 5) (eInt (nI 4))) (cCmp rNe (eLd 0 (eGf [8] 7 (eA 0)) (eBin oAdd (eI 2) (eI 4))) (eLd 0 (eGf [8] 6 (eA 0)) (eBin oAdd (eI 2) (eI 4)))))
def lb_Md_mend_2 : jx_St := (sSeq (sCl (jx_ev tb_Md_put) [(eA 0), (eLd 0 (eGf [8] 7 (eA 0)) (eBin oAdd (eI 2) (eI 4))), (eI 5), (eCl (jx_ev tb_Md_get) [(eA 0), (eLd 0 (eGf [8] 6 (eA 0)) (eBin oAdd (eI 2) (eCl (jx_ec f_Md_twin) [(eI 4)]))), (eI 5)])]) (sInc 5 (nI 1)))
theorem ml_Md_mend_2 : jx_Ts z_Md_mend 191 (sWh 64 lc_Md_mend_2 lb_Md_mend_2) [257] := by
  unfold lc_Md_mend_2 lb_Md_mend_2
  exact t_wh (EA := [254]) (Fs := [257]) (E := [257]) 64 (s_andg (s_cmp (s_iload d_Md_mend_191) (s_iconst d_Md_mend_193 (by decide)) (s_icmp_geF (tgt := 257) d_Md_mend_194 (by decide))) (by decide) (al_1 (s_cmp (s_load (s_getf (s_aload_n d_Md_mend_197 rfl) fi_Md_31 d_Md_mend_198) (s_bin (s_iload_n d_Md_mend_201 rfl) (s_iload d_Md_mend_202) (s_iadd d_Md_mend_204)) (s_iald d_Md_mend_205)) (s_load (s_getf (s_aload_n d_Md_mend_206 rfl) fi_Md_28 d_Md_mend_207) (s_bin (s_iload_n d_Md_mend_210 rfl) (s_iload d_Md_mend_211) (s_iadd d_Md_mend_213)) (s_iald d_Md_mend_214)) (s_icmp_eqF (tgt := 257) d_Md_mend_215 (by decide))))) (by decide) (t_seq (t_cl (s_a1 (s_aload_n d_Md_mend_218 rfl) (s_a1 (s_load (s_getf (s_aload_n d_Md_mend_219 rfl) fi_Md_31 d_Md_mend_220) (s_bin (s_iload_n d_Md_mend_223 rfl) (s_iload d_Md_mend_224) (s_iadd d_Md_mend_226)) (s_iald d_Md_mend_227)) (s_a1 (s_iload d_Md_mend_228) (s_a1 (s_cl (s_a1 (s_aload_n d_Md_mend_230 rfl) (s_a1 (s_load (s_getf (s_aload_n d_Md_mend_231 rfl) fi_Md_28 d_Md_mend_232) (s_bin (s_iload_n d_Md_mend_235 rfl) (s_cl (s_a1 (s_iload d_Md_mend_236) s_a0) (s_ecs me_Md_twin mw_Md_twin (by decide) (by decide) (by decide) lm_Md_137 w_st_Md_twin w_in_Md pd_Md_twin d_Md_mend_238)) (s_iadd d_Md_mend_241)) (s_iald d_Md_mend_242)) (s_a1 (s_iload d_Md_mend_243) s_a0))) (s_ecv (ve_Md_get (by decide) (by decide)) dc_Md_get (by decide) lm_Md_140 pd_Md_get d_Md_mend_245)) s_a0)))) (s_ecv (ve_Md_put (by decide) (by decide)) dc_Md_put (by decide) lm_Md_99 pd_Md_put d_Md_mend_248)) (t_iinc d_Md_mend_251 (by decide) (by decide))) (al_1 (Or.inr ⟨-63, d_Md_mend_254, by decide⟩)) (by decide)
def lc_Md_mend_1 : jx_Cx := (cCmp rLt (eI 4) (eInt (nI 10)))
def lb_Md_mend_1 : jx_St := (sSeq (sSeq (sAsg 0 5 (eInt (nI 0))) (sWh 64 lc_Md_mend_2 lb_Md_mend_2)) (sInc 4 (nI 1)))
theorem ml_Md_mend_1 : jx_Ts z_Md_mend 181 (sWh 64 lc_Md_mend_1 lb_Md_mend_1) [263] := by
  unfold lc_Md_mend_1 lb_Md_mend_1
  exact t_wh (EA := [260]) (Fs := [263]) (E := [263]) 64 (s_cmp (s_iload d_Md_mend_181) (s_bipush d_Md_mend_183 (by decide)) (s_icmp_geF (tgt := 263) d_Md_mend_185 (by decide))) (by decide) (t_seq (t_seq (t_asg (s_iconst d_Md_mend_188 (by decide)) (fun v k h => b_istore d_Md_mend_189 (by decide) h)) ml_Md_mend_2) (t_iinc d_Md_mend_257 (by decide) (by decide))) (al_1 (Or.inr ⟨-79, d_Md_mend_260, by decide⟩)) (by decide)
def bd_Md_mend : jx_St := (sSeq (sPf [8] 0 0 (eA 0) (eIte (cNot (cCmp0 rNe (eGf [8] 4 (eA 0)))) (eInt (nI 1)) (eIte (cNot (cCmp0 rNe (eCl (jx_ev tb_Md_isVolume) [(eA 0), (eI 1)]))) (eInt (nI 2)) (eIte (cCmp rNe (eCl (jx_ec f_Md_kindOf) [(eGf [8] 6 (eA 0)), (eI 1)]) (eInt (nI 2))) (eInt (nI 3)) (eIte (cCmp0 rNe (eCl (jx_ev tb_Md_isOneAbsent) [(eA 0)])) (eInt (nI 4)) (eInt (nI 0))))))) (sSeq (sIf (cCmp0 rGt (eGf [8] 0 (eA 0))) (sRet 0 (eInt (nI 0))) sSkip) (sSeq (sCl (jx_ev tb_Md_begin) [(eA 0)]) (sSeq (sAsg 0 2 (eBin oAdd (eInt (nI 9)) (eBin oMul (eInt (nI 10)) (eI 1)))) (sSeq (sAsg 0 3 (eInt (nI 0))) (sSeq (sSeq (sAsg 0 4 (eInt (nI 0))) (sWh 64 lc_Md_mend_0 lb_Md_mend_0)) (sSeq (sIf (cCmp0 rEq (eI 3)) (sRet 0 (eInt (nI 0))) sSkip) (sSeq (sSeq (sAsg 0 4 (eInt (nI 0))) (sWh 64 lc_Md_mend_1 lb_Md_mend_1)) (sSeq (sCl (jx_ev tb_Md_change) [(eA 0)]) (sRet 0 (eCl (jx_ev tb_Md_ended) [(eA 0), (eI 3)])))))))))))
theorem m_Md_mend : jx_Ts z_Md_mend 0 bd_Md_mend [] := by
  unfold bd_Md_mend
  exact (t_seq (t_pf (s_aload_n d_Md_mend_0 rfl) (s_ite (q4 := 52) (s_not (s_cmp0 (s_getf (s_aload_n d_Md_mend_1 rfl) fi_Md_20 d_Md_mend_2) (s_if_neT (tgt := 12) d_Md_mend_5 (by decide))) (by decide)) (s_iconst d_Md_mend_8 (by decide)) d_Md_mend_9 (by decide) (s_ite (q4 := 52) (s_not (s_cmp0 (s_cl (s_a1 (s_aload_n d_Md_mend_12 rfl) (s_a1 (s_iload_n d_Md_mend_13 rfl) s_a0)) (s_ecv (ve_Md_isVolume (by decide) (by decide)) dc_Md_isVolume (by decide) lm_Md_134 pd_Md_isVolume d_Md_mend_14)) (s_if_neT (tgt := 24) d_Md_mend_17 (by decide))) (by decide)) (s_iconst d_Md_mend_20 (by decide)) d_Md_mend_21 (by decide) (s_ite (q4 := 52) (s_cmp (s_cl (s_a1 (s_getf (s_aload_n d_Md_mend_24 rfl) fi_Md_28 d_Md_mend_25) (s_a1 (s_iload_n d_Md_mend_28 rfl) s_a0)) (s_ecs me_Md_kindOf mw_Md_kindOf (by decide) (by decide) (by decide) lm_Md_75 w_st_Md_kindOf w_in_Md pd_Md_kindOf d_Md_mend_29)) (s_iconst d_Md_mend_32 (by decide)) (s_icmp_eqF (tgt := 40) d_Md_mend_33 (by decide))) (s_iconst d_Md_mend_36 (by decide)) d_Md_mend_37 (by decide) (s_ite (q4 := 52) (s_cmp0 (s_cl (s_a1 (s_aload_n d_Md_mend_40 rfl) s_a0) (s_ecv (ve_Md_isOneAbsent (by decide) (by decide)) dc_Md_isOneAbsent (by decide) lm_Md_52 pd_Md_isOneAbsent d_Md_mend_41)) (s_if_eqF (tgt := 51) d_Md_mend_44 (by decide))) (s_iconst d_Md_mend_47 (by decide)) d_Md_mend_48 (by decide) (s_iconst d_Md_mend_51 (by decide)))))) fi_Md_37 rfl (Or.inl rfl) d_Md_mend_52) (t_seq (t_if1 (Fs := [64]) (E := [64]) (s_cmp0 (s_getf (s_aload_n d_Md_mend_55 rfl) fi_Md_37 d_Md_mend_56) (s_if_leF (tgt := 64) d_Md_mend_59 (by decide))) (by decide) (t_sub (E := []) (E' := [64]) (t_ret .int (s_iconst d_Md_mend_62 (by decide)) rfl (by decide) d_Md_mend_63) (by decide)) (by decide)) (t_seq (t_cl (s_a1 (s_aload_n d_Md_mend_64 rfl) s_a0) (s_ecv (ve_Md_begin (by decide) (by decide)) dc_Md_begin (by decide) lm_Md_107 pd_Md_begin d_Md_mend_65)) (t_seq (t_asg (s_bin (s_bipush d_Md_mend_68 (by decide)) (s_bin (s_bipush d_Md_mend_70 (by decide)) (s_iload_n d_Md_mend_72 rfl) (s_imul d_Md_mend_73)) (s_iadd d_Md_mend_74)) (fun v k h => b_istore_n d_Md_mend_75 rfl (by decide) h)) (t_seq (t_asg (s_iconst d_Md_mend_76 (by decide)) (fun v k h => b_istore_n d_Md_mend_77 rfl (by decide) h)) (t_seq (t_seq (t_asg (s_iconst d_Md_mend_78 (by decide)) (fun v k h => b_istore d_Md_mend_79 (by decide) h)) ml_Md_mend_0) (t_seq (t_if1 (Fs := [178]) (E := [178]) (s_cmp0 (s_iload_n d_Md_mend_172 rfl) (s_if_neF (tgt := 178) d_Md_mend_173 (by decide))) (by decide) (t_sub (E := []) (E' := [178]) (t_ret .int (s_iconst d_Md_mend_176 (by decide)) rfl (by decide) d_Md_mend_177) (by decide)) (by decide)) (t_seq (t_seq (t_asg (s_iconst d_Md_mend_178 (by decide)) (fun v k h => b_istore d_Md_mend_179 (by decide) h)) ml_Md_mend_1) (t_seq (t_cl (s_a1 (s_aload_n d_Md_mend_263 rfl) s_a0) (s_ecv (ve_Md_change (by decide) (by decide)) dc_Md_change (by decide) lm_Md_110 pd_Md_change d_Md_mend_264)) (t_ret .int (s_cl (s_a1 (s_aload_n d_Md_mend_267 rfl) (s_a1 (s_iload_n d_Md_mend_268 rfl) s_a0)) (s_ecv (ve_Md_ended (by decide) (by decide)) dc_Md_ended (by decide) lm_Md_113 pd_Md_ended d_Md_mend_269)) rfl (by decide) d_Md_mend_272))))))))))
def f_Md_mend : jx_Mt := jx_fn 2 6 (bd_Md_mend fun _ _ => none)
theorem me_Md_mend : jx_Me 2 z_Md_mend f_Md_mend := jx_Me.ofT (by decide) m_Md_mend
theorem mw_Md_mend : jx_mw ⟨"ExtentShelfModel", "mend", "(I)I"⟩ z_Md_mend := ⟨rfl, rfl, by decide +kernel, ⟨by decide, by decide⟩, by decide +kernel⟩
theorem pd_Md_mend : (parseMethodDescriptor (⟨"ExtentShelfModel", "mend", "(I)I"⟩ : MethodName).desc).map (fun d => d.parameters.length) = some 1 := by decide +kernel
/-! ExtentShelfModel.isReadable(I)Z -/
abbrev z_Md_isReadable : jx_Z := ("ExtentShelfModel", "isReadable", prog_11_method_38_code, 2, some .boolean, 0, 0)
theorem d_Md_isReadable_0 : decode z_Md_isReadable.2.2.1 0 = .ok (.iload_n 1, 1) := by decide +kernel
theorem d_Md_isReadable_1 : decode z_Md_isReadable.2.2.1 1 = .ok (.ifCond .le 21, 3) := by decide +kernel
theorem d_Md_isReadable_4 : decode z_Md_isReadable.2.2.1 4 = .ok (.aload_n 0, 1) := by decide +kernel
theorem d_Md_isReadable_5 : decode z_Md_isReadable.2.2.1 5 = .ok (.getfield 7, 3) := by decide +kernel
theorem d_Md_isReadable_8 : decode z_Md_isReadable.2.2.1 8 = .ok (.iload_n 1, 1) := by decide +kernel
theorem d_Md_isReadable_9 : decode z_Md_isReadable.2.2.1 9 = .ok (.iconst 1, 1) := by decide +kernel
theorem d_Md_isReadable_10 : decode z_Md_isReadable.2.2.1 10 = .ok (.isub, 1) := by decide +kernel
theorem d_Md_isReadable_11 : decode z_Md_isReadable.2.2.1 11 = .ok (.bipush 8, 2) := by decide +kernel
theorem d_Md_isReadable_13 : decode z_Md_isReadable.2.2.1 13 = .ok (.idiv, 1) := by decide +kernel
theorem d_Md_isReadable_14 : decode z_Md_isReadable.2.2.1 14 = .ok (.baload, 1) := by decide +kernel
theorem d_Md_isReadable_15 : decode z_Md_isReadable.2.2.1 15 = .ok (.ifCond .eq 7, 3) := by decide +kernel
theorem d_Md_isReadable_18 : decode z_Md_isReadable.2.2.1 18 = .ok (.iconst 1, 1) := by decide +kernel
theorem d_Md_isReadable_19 : decode z_Md_isReadable.2.2.1 19 = .ok (.goto 4, 3) := by decide +kernel
theorem d_Md_isReadable_22 : decode z_Md_isReadable.2.2.1 22 = .ok (.iconst 0, 1) := by decide +kernel
theorem d_Md_isReadable_23 : decode z_Md_isReadable.2.2.1 23 = .ok (.ireturn, 1) := by decide +kernel
def bd_Md_isReadable : jx_St := (sRet 1 (eIte (cAnd (cCmp0 rGt (eI 1)) (cCmp0 rNe (eLd 2 (eGf [8] 1 (eA 0)) (eBin oDiv (eBin oSub (eI 1) (eInt (nI 1))) (eInt (nI 8)))))) (eInt (nI 1)) (eInt (nI 0))))
theorem m_Md_isReadable : jx_Ts z_Md_isReadable 0 bd_Md_isReadable [] := by
  unfold bd_Md_isReadable
  exact (t_ret .boolean (s_ite (q4 := 23) (s_andg (s_cmp0 (s_iload_n d_Md_isReadable_0 rfl) (s_if_leF (tgt := 22) d_Md_isReadable_1 (by decide))) (by decide) (al_1 (s_cmp0 (s_load (s_getf (s_aload_n d_Md_isReadable_4 rfl) fi_Md_7 d_Md_isReadable_5) (s_bin (s_bin (s_iload_n d_Md_isReadable_8 rfl) (s_iconst d_Md_isReadable_9 (by decide)) (s_isub d_Md_isReadable_10)) (s_bipush d_Md_isReadable_11 (by decide)) (s_idiv d_Md_isReadable_13)) (s_zald d_Md_isReadable_14)) (s_if_eqF (tgt := 22) d_Md_isReadable_15 (by decide))))) (s_iconst d_Md_isReadable_18 (by decide)) d_Md_isReadable_19 (by decide) (s_iconst d_Md_isReadable_22 (by decide))) rfl (by decide) d_Md_isReadable_23)
def f_Md_isReadable : jx_Mt := jx_fn 2 2 (bd_Md_isReadable fun _ _ => none)
theorem me_Md_isReadable : jx_Me 2 z_Md_isReadable f_Md_isReadable := jx_Me.ofT (by decide) m_Md_isReadable
theorem mw_Md_isReadable : jx_mw ⟨"ExtentShelfModel", "isReadable", "(I)Z"⟩ z_Md_isReadable := ⟨rfl, rfl, by decide +kernel, ⟨by decide, by decide⟩, by decide +kernel⟩
theorem pd_Md_isReadable : (parseMethodDescriptor (⟨"ExtentShelfModel", "isReadable", "(I)Z"⟩ : MethodName).desc).map (fun d => d.parameters.length) = some 1 := by decide +kernel
/-! ExtentShelfModel.elementOf(II)I -/
abbrev z_Md_elementOf : jx_Z := ("ExtentShelfModel", "elementOf", prog_11_method_39_code, 4, some .int, 1, 29)
theorem d_Md_elementOf_0 : decode z_Md_elementOf.2.2.1 0 = .ok (.aload_n 0, 1) := by decide +kernel
theorem d_Md_elementOf_1 : decode z_Md_elementOf.2.2.1 1 = .ok (.getfield 28, 3) := by decide +kernel
theorem d_Md_elementOf_4 : decode z_Md_elementOf.2.2.1 4 = .ok (.iload_n 1, 1) := by decide +kernel
theorem d_Md_elementOf_5 : decode z_Md_elementOf.2.2.1 5 = .ok (.invokestatic 79, 3) := by decide +kernel
theorem d_Md_elementOf_8 : decode z_Md_elementOf.2.2.1 8 = .ok (.istore_n 3, 1) := by decide +kernel
theorem d_Md_elementOf_9 : decode z_Md_elementOf.2.2.1 9 = .ok (.iload_n 3, 1) := by decide +kernel
theorem d_Md_elementOf_10 : decode z_Md_elementOf.2.2.1 10 = .ok (.iload_n 2, 1) := by decide +kernel
theorem d_Md_elementOf_11 : decode z_Md_elementOf.2.2.1 11 = .ok (.iconst 4, 1) := by decide +kernel
theorem d_Md_elementOf_12 : decode z_Md_elementOf.2.2.1 12 = .ok (.iload_n 3, 1) := by decide +kernel
theorem d_Md_elementOf_13 : decode z_Md_elementOf.2.2.1 13 = .ok (.imul, 1) := by decide +kernel
theorem d_Md_elementOf_14 : decode z_Md_elementOf.2.2.1 14 = .ok (.idiv, 1) := by decide +kernel
theorem d_Md_elementOf_15 : decode z_Md_elementOf.2.2.1 15 = .ok (.imul, 1) := by decide +kernel
theorem d_Md_elementOf_16 : decode z_Md_elementOf.2.2.1 16 = .ok (.iload_n 2, 1) := by decide +kernel
theorem d_Md_elementOf_17 : decode z_Md_elementOf.2.2.1 17 = .ok (.iload_n 3, 1) := by decide +kernel
theorem d_Md_elementOf_18 : decode z_Md_elementOf.2.2.1 18 = .ok (.irem, 1) := by decide +kernel
theorem d_Md_elementOf_19 : decode z_Md_elementOf.2.2.1 19 = .ok (.iadd, 1) := by decide +kernel
theorem d_Md_elementOf_20 : decode z_Md_elementOf.2.2.1 20 = .ok (.ireturn, 1) := by decide +kernel
def bd_Md_elementOf : jx_St := (sSeq (sAsg 0 3 (eCl (jx_ec f_Md_columnsOf) [(eGf [8] 6 (eA 0)), (eI 1)])) (sRet 0 (eBin oAdd (eBin oMul (eI 3) (eBin oDiv (eI 2) (eBin oMul (eInt (nI 4)) (eI 3)))) (eBin oRem (eI 2) (eI 3)))))
theorem m_Md_elementOf : jx_Ts z_Md_elementOf 0 bd_Md_elementOf [] := by
  unfold bd_Md_elementOf
  exact (t_seq (t_asg (s_cl (s_a1 (s_getf (s_aload_n d_Md_elementOf_0 rfl) fi_Md_28 d_Md_elementOf_1) (s_a1 (s_iload_n d_Md_elementOf_4 rfl) s_a0)) (s_ecs me_Md_columnsOf mw_Md_columnsOf (by decide) (by decide) (by decide) lm_Md_79 w_st_Md_columnsOf w_in_Md pd_Md_columnsOf d_Md_elementOf_5)) (fun v k h => b_istore_n d_Md_elementOf_8 rfl (by decide) h)) (t_ret .int (s_bin (s_bin (s_iload_n d_Md_elementOf_9 rfl) (s_bin (s_iload_n d_Md_elementOf_10 rfl) (s_bin (s_iconst d_Md_elementOf_11 (by decide)) (s_iload_n d_Md_elementOf_12 rfl) (s_imul d_Md_elementOf_13)) (s_idiv d_Md_elementOf_14)) (s_imul d_Md_elementOf_15)) (s_bin (s_iload_n d_Md_elementOf_16 rfl) (s_iload_n d_Md_elementOf_17 rfl) (s_irem d_Md_elementOf_18)) (s_iadd d_Md_elementOf_19)) rfl (by decide) d_Md_elementOf_20))
def f_Md_elementOf : jx_Mt := jx_fn 3 4 (bd_Md_elementOf fun _ _ => none)
theorem me_Md_elementOf : jx_Me 3 z_Md_elementOf f_Md_elementOf := jx_Me.ofT (by decide) m_Md_elementOf
theorem mw_Md_elementOf : jx_mw ⟨"ExtentShelfModel", "elementOf", "(II)I"⟩ z_Md_elementOf := ⟨rfl, rfl, by decide +kernel, ⟨by decide, by decide⟩, by decide +kernel⟩
theorem pd_Md_elementOf : (parseMethodDescriptor (⟨"ExtentShelfModel", "elementOf", "(II)I"⟩ : MethodName).desc).map (fun d => d.parameters.length) = some 2 := by decide +kernel
/-! ExtentShelfModel.wordOf(II)I -/
abbrev z_Md_wordOf : jx_Z := ("ExtentShelfModel", "wordOf", prog_11_method_40_code, 4, some .int, 1, 29)
theorem d_Md_wordOf_0 : decode z_Md_wordOf.2.2.1 0 = .ok (.aload_n 0, 1) := by decide +kernel
theorem d_Md_wordOf_1 : decode z_Md_wordOf.2.2.1 1 = .ok (.getfield 28, 3) := by decide +kernel
theorem d_Md_wordOf_4 : decode z_Md_wordOf.2.2.1 4 = .ok (.iload_n 1, 1) := by decide +kernel
theorem d_Md_wordOf_5 : decode z_Md_wordOf.2.2.1 5 = .ok (.invokestatic 79, 3) := by decide +kernel
theorem d_Md_wordOf_8 : decode z_Md_wordOf.2.2.1 8 = .ok (.istore_n 3, 1) := by decide +kernel
theorem d_Md_wordOf_9 : decode z_Md_wordOf.2.2.1 9 = .ok (.iload_n 2, 1) := by decide +kernel
theorem d_Md_wordOf_10 : decode z_Md_wordOf.2.2.1 10 = .ok (.iconst 4, 1) := by decide +kernel
theorem d_Md_wordOf_11 : decode z_Md_wordOf.2.2.1 11 = .ok (.iload_n 3, 1) := by decide +kernel
theorem d_Md_wordOf_12 : decode z_Md_wordOf.2.2.1 12 = .ok (.imul, 1) := by decide +kernel
theorem d_Md_wordOf_13 : decode z_Md_wordOf.2.2.1 13 = .ok (.irem, 1) := by decide +kernel
theorem d_Md_wordOf_14 : decode z_Md_wordOf.2.2.1 14 = .ok (.iload_n 3, 1) := by decide +kernel
theorem d_Md_wordOf_15 : decode z_Md_wordOf.2.2.1 15 = .ok (.idiv, 1) := by decide +kernel
theorem d_Md_wordOf_16 : decode z_Md_wordOf.2.2.1 16 = .ok (.ireturn, 1) := by decide +kernel
def bd_Md_wordOf : jx_St := (sSeq (sAsg 0 3 (eCl (jx_ec f_Md_columnsOf) [(eGf [8] 6 (eA 0)), (eI 1)])) (sRet 0 (eBin oDiv (eBin oRem (eI 2) (eBin oMul (eInt (nI 4)) (eI 3))) (eI 3))))
theorem m_Md_wordOf : jx_Ts z_Md_wordOf 0 bd_Md_wordOf [] := by
  unfold bd_Md_wordOf
  exact (t_seq (t_asg (s_cl (s_a1 (s_getf (s_aload_n d_Md_wordOf_0 rfl) fi_Md_28 d_Md_wordOf_1) (s_a1 (s_iload_n d_Md_wordOf_4 rfl) s_a0)) (s_ecs me_Md_columnsOf mw_Md_columnsOf (by decide) (by decide) (by decide) lm_Md_79 w_st_Md_columnsOf w_in_Md pd_Md_columnsOf d_Md_wordOf_5)) (fun v k h => b_istore_n d_Md_wordOf_8 rfl (by decide) h)) (t_ret .int (s_bin (s_bin (s_iload_n d_Md_wordOf_9 rfl) (s_bin (s_iconst d_Md_wordOf_10 (by decide)) (s_iload_n d_Md_wordOf_11 rfl) (s_imul d_Md_wordOf_12)) (s_irem d_Md_wordOf_13)) (s_iload_n d_Md_wordOf_14 rfl) (s_idiv d_Md_wordOf_15)) rfl (by decide) d_Md_wordOf_16))
def f_Md_wordOf : jx_Mt := jx_fn 3 4 (bd_Md_wordOf fun _ _ => none)
theorem me_Md_wordOf : jx_Me 3 z_Md_wordOf f_Md_wordOf := jx_Me.ofT (by decide) m_Md_wordOf
theorem mw_Md_wordOf : jx_mw ⟨"ExtentShelfModel", "wordOf", "(II)I"⟩ z_Md_wordOf := ⟨rfl, rfl, by decide +kernel, ⟨by decide, by decide⟩, by decide +kernel⟩
theorem pd_Md_wordOf : (parseMethodDescriptor (⟨"ExtentShelfModel", "wordOf", "(II)I"⟩ : MethodName).desc).map (fun d => d.parameters.length) = some 2 := by decide +kernel
abbrev tb_Md_elementOf : List (Nat × jx_Mt) := [(8, f_Md_elementOf)]
theorem ve_Md_elementOf {fr lo : Nat} (h1 : 2 ≤ fr) (h2 : 60 ≤ lo) : ∀ q ∈ tb_Md_elementOf, jx_ve ⟨"ExtentShelfModel", "elementOf", "(II)I"⟩ 2 fr lo q.1 q.2 := tv_1 ⟨R_Model, F_Model, 13, ⟨"ExtentShelfModel", "elementOf", "(II)I"⟩, z_Md_elementOf, rfl, by decide +kernel, mw_Md_elementOf, by decide +kernel, me_Md_elementOf, Nat.le_trans (by decide) h1, Nat.le_trans (by decide) h2⟩
theorem dc_Md_elementOf : jx_dc ⟨"ExtentShelfModel", "elementOf", "(II)I"⟩ := ⟨⟨by decide, by decide⟩, Or.inr ⟨by decide +kernel, prog_11_method_39_code, 4, _, (by decide +kernel : Cond.code ⟨"ExtentShelfModel", "elementOf", "(II)I"⟩ prog_11_method_39_code 4 (some .int) ∈ jx_tbl)⟩, "ExtentShelfModel", ⟨"ExtentShelfModel", "elementOf", "(II)I"⟩, ⟨"ExtentShelfModel", "elementOf", "(II)I"⟩, by decide +kernel, rfl⟩
abbrev tb_Md_isReadable : List (Nat × jx_Mt) := [(8, f_Md_isReadable)]
theorem ve_Md_isReadable {fr lo : Nat} (h1 : 1 ≤ fr) (h2 : 29 ≤ lo) : ∀ q ∈ tb_Md_isReadable, jx_ve ⟨"ExtentShelfModel", "isReadable", "(I)Z"⟩ 1 fr lo q.1 q.2 := tv_1 ⟨R_Model, F_Model, 13, ⟨"ExtentShelfModel", "isReadable", "(I)Z"⟩, z_Md_isReadable, rfl, by decide +kernel, mw_Md_isReadable, by decide +kernel, me_Md_isReadable, Nat.le_trans (by decide) h1, Nat.le_trans (by decide) h2⟩
theorem dc_Md_isReadable : jx_dc ⟨"ExtentShelfModel", "isReadable", "(I)Z"⟩ := ⟨⟨by decide, by decide⟩, Or.inr ⟨by decide +kernel, prog_11_method_38_code, 2, _, (by decide +kernel : Cond.code ⟨"ExtentShelfModel", "isReadable", "(I)Z"⟩ prog_11_method_38_code 2 (some .boolean) ∈ jx_tbl)⟩, "ExtentShelfModel", ⟨"ExtentShelfModel", "isReadable", "(I)Z"⟩, ⟨"ExtentShelfModel", "isReadable", "(I)Z"⟩, by decide +kernel, rfl⟩
abbrev tb_Md_wordOf : List (Nat × jx_Mt) := [(8, f_Md_wordOf)]
theorem ve_Md_wordOf {fr lo : Nat} (h1 : 2 ≤ fr) (h2 : 60 ≤ lo) : ∀ q ∈ tb_Md_wordOf, jx_ve ⟨"ExtentShelfModel", "wordOf", "(II)I"⟩ 2 fr lo q.1 q.2 := tv_1 ⟨R_Model, F_Model, 13, ⟨"ExtentShelfModel", "wordOf", "(II)I"⟩, z_Md_wordOf, rfl, by decide +kernel, mw_Md_wordOf, by decide +kernel, me_Md_wordOf, Nat.le_trans (by decide) h1, Nat.le_trans (by decide) h2⟩
theorem dc_Md_wordOf : jx_dc ⟨"ExtentShelfModel", "wordOf", "(II)I"⟩ := ⟨⟨by decide, by decide⟩, Or.inr ⟨by decide +kernel, prog_11_method_40_code, 4, _, (by decide +kernel : Cond.code ⟨"ExtentShelfModel", "wordOf", "(II)I"⟩ prog_11_method_40_code 4 (some .int) ∈ jx_tbl)⟩, "ExtentShelfModel", ⟨"ExtentShelfModel", "wordOf", "(II)I"⟩, ⟨"ExtentShelfModel", "wordOf", "(II)I"⟩, by decide +kernel, rfl⟩
