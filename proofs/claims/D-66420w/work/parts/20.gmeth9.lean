/-! METHODS, printed by jgen.py -/
/-! ExtentShelfModel.remove(I)V -/
abbrev z_Md_remove : jx_Z := ("ExtentShelfModel", "remove", prog_11_method_29_code, 3, none, 4, 126)
theorem d_Md_remove_0 : decode z_Md_remove.2.2.1 0 = .ok (.aload_n 0, 1) := by decide +kernel
theorem d_Md_remove_1 : decode z_Md_remove.2.2.1 1 = .ok (.aload_n 0, 1) := by decide +kernel
theorem d_Md_remove_2 : decode z_Md_remove.2.2.1 2 = .ok (.getfield 20, 3) := by decide +kernel
theorem d_Md_remove_5 : decode z_Md_remove.2.2.1 5 = .ok (.ifCond .ne 7, 3) := by decide +kernel
theorem d_Md_remove_8 : decode z_Md_remove.2.2.1 8 = .ok (.iconst 1, 1) := by decide +kernel
theorem d_Md_remove_9 : decode z_Md_remove.2.2.1 9 = .ok (.goto 15, 3) := by decide +kernel
theorem d_Md_remove_12 : decode z_Md_remove.2.2.1 12 = .ok (.iload_n 1, 1) := by decide +kernel
theorem d_Md_remove_13 : decode z_Md_remove.2.2.1 13 = .ok (.invokestatic 103, 3) := by decide +kernel
theorem d_Md_remove_16 : decode z_Md_remove.2.2.1 16 = .ok (.ifCond .ne 7, 3) := by decide +kernel
theorem d_Md_remove_19 : decode z_Md_remove.2.2.1 19 = .ok (.iconst 2, 1) := by decide +kernel
theorem d_Md_remove_20 : decode z_Md_remove.2.2.1 20 = .ok (.goto 4, 3) := by decide +kernel
theorem d_Md_remove_23 : decode z_Md_remove.2.2.1 23 = .ok (.iconst 0, 1) := by decide +kernel
theorem d_Md_remove_24 : decode z_Md_remove.2.2.1 24 = .ok (.putfield 37, 3) := by decide +kernel
theorem d_Md_remove_27 : decode z_Md_remove.2.2.1 27 = .ok (.aload_n 0, 1) := by decide +kernel
theorem d_Md_remove_28 : decode z_Md_remove.2.2.1 28 = .ok (.getfield 37, 3) := by decide +kernel
theorem d_Md_remove_31 : decode z_Md_remove.2.2.1 31 = .ok (.ifCond .le 4, 3) := by decide +kernel
theorem d_Md_remove_34 : decode z_Md_remove.2.2.1 34 = .ok (.return_, 1) := by decide +kernel
theorem d_Md_remove_35 : decode z_Md_remove.2.2.1 35 = .ok (.aload_n 0, 1) := by decide +kernel
theorem d_Md_remove_36 : decode z_Md_remove.2.2.1 36 = .ok (.getfield 34, 3) := by decide +kernel
theorem d_Md_remove_39 : decode z_Md_remove.2.2.1 39 = .ok (.ifCond .lt 27, 3) := by decide +kernel
theorem d_Md_remove_42 : decode z_Md_remove.2.2.1 42 = .ok (.aload_n 0, 1) := by decide +kernel
theorem d_Md_remove_43 : decode z_Md_remove.2.2.1 43 = .ok (.getfield 65, 3) := by decide +kernel
theorem d_Md_remove_46 : decode z_Md_remove.2.2.1 46 = .ok (.ifCond .le 20, 3) := by decide +kernel
theorem d_Md_remove_49 : decode z_Md_remove.2.2.1 49 = .ok (.aload_n 0, 1) := by decide +kernel
theorem d_Md_remove_50 : decode z_Md_remove.2.2.1 50 = .ok (.getfield 65, 3) := by decide +kernel
theorem d_Md_remove_53 : decode z_Md_remove.2.2.1 53 = .ok (.iconst 1, 1) := by decide +kernel
theorem d_Md_remove_54 : decode z_Md_remove.2.2.1 54 = .ok (.isub, 1) := by decide +kernel
theorem d_Md_remove_55 : decode z_Md_remove.2.2.1 55 = .ok (.bipush 8, 2) := by decide +kernel
theorem d_Md_remove_57 : decode z_Md_remove.2.2.1 57 = .ok (.idiv, 1) := by decide +kernel
theorem d_Md_remove_58 : decode z_Md_remove.2.2.1 58 = .ok (.iload_n 1, 1) := by decide +kernel
theorem d_Md_remove_59 : decode z_Md_remove.2.2.1 59 = .ok (.if_icmp .ne 7, 3) := by decide +kernel
theorem d_Md_remove_62 : decode z_Md_remove.2.2.1 62 = .ok (.iconst 1, 1) := by decide +kernel
theorem d_Md_remove_63 : decode z_Md_remove.2.2.1 63 = .ok (.goto 4, 3) := by decide +kernel
theorem d_Md_remove_66 : decode z_Md_remove.2.2.1 66 = .ok (.iconst 0, 1) := by decide +kernel
theorem d_Md_remove_67 : decode z_Md_remove.2.2.1 67 = .ok (.istore_n 2, 1) := by decide +kernel
theorem d_Md_remove_68 : decode z_Md_remove.2.2.1 68 = .ok (.aload_n 0, 1) := by decide +kernel
theorem d_Md_remove_69 : decode z_Md_remove.2.2.1 69 = .ok (.aload_n 0, 1) := by decide +kernel
theorem d_Md_remove_70 : decode z_Md_remove.2.2.1 70 = .ok (.getfield 28, 3) := by decide +kernel
theorem d_Md_remove_73 : decode z_Md_remove.2.2.1 73 = .ok (.iconst 1, 1) := by decide +kernel
theorem d_Md_remove_74 : decode z_Md_remove.2.2.1 74 = .ok (.iload_n 1, 1) := by decide +kernel
theorem d_Md_remove_75 : decode z_Md_remove.2.2.1 75 = .ok (.iadd, 1) := by decide +kernel
theorem d_Md_remove_76 : decode z_Md_remove.2.2.1 76 = .ok (.iaload, 1) := by decide +kernel
theorem d_Md_remove_77 : decode z_Md_remove.2.2.1 77 = .ok (.ifCond .eq 30, 3) := by decide +kernel
theorem d_Md_remove_80 : decode z_Md_remove.2.2.1 80 = .ok (.aload_n 0, 1) := by decide +kernel
theorem d_Md_remove_81 : decode z_Md_remove.2.2.1 81 = .ok (.iload_n 1, 1) := by decide +kernel
theorem d_Md_remove_82 : decode z_Md_remove.2.2.1 82 = .ok (.invokevirtual 116, 3) := by decide +kernel
theorem d_Md_remove_85 : decode z_Md_remove.2.2.1 85 = .ok (.ifCond .gt 22, 3) := by decide +kernel
theorem d_Md_remove_88 : decode z_Md_remove.2.2.1 88 = .ok (.iload_n 2, 1) := by decide +kernel
theorem d_Md_remove_89 : decode z_Md_remove.2.2.1 89 = .ok (.ifCond .ne 18, 3) := by decide +kernel
theorem d_Md_remove_92 : decode z_Md_remove.2.2.1 92 = .ok (.aload_n 0, 1) := by decide +kernel
theorem d_Md_remove_93 : decode z_Md_remove.2.2.1 93 = .ok (.invokevirtual 119, 3) := by decide +kernel
theorem d_Md_remove_96 : decode z_Md_remove.2.2.1 96 = .ok (.iconst 2, 1) := by decide +kernel
theorem d_Md_remove_97 : decode z_Md_remove.2.2.1 97 = .ok (.if_icmp .lt 10, 3) := by decide +kernel
theorem d_Md_remove_100 : decode z_Md_remove.2.2.1 100 = .ok (.aload_n 0, 1) := by decide +kernel
theorem d_Md_remove_101 : decode z_Md_remove.2.2.1 101 = .ok (.invokevirtual 52, 3) := by decide +kernel
theorem d_Md_remove_104 : decode z_Md_remove.2.2.1 104 = .ok (.ifCond .eq 7, 3) := by decide +kernel
theorem d_Md_remove_107 : decode z_Md_remove.2.2.1 107 = .ok (.iconst 3, 1) := by decide +kernel
theorem d_Md_remove_108 : decode z_Md_remove.2.2.1 108 = .ok (.goto 4, 3) := by decide +kernel
theorem d_Md_remove_111 : decode z_Md_remove.2.2.1 111 = .ok (.iconst 0, 1) := by decide +kernel
theorem d_Md_remove_112 : decode z_Md_remove.2.2.1 112 = .ok (.putfield 37, 3) := by decide +kernel
theorem d_Md_remove_115 : decode z_Md_remove.2.2.1 115 = .ok (.aload_n 0, 1) := by decide +kernel
theorem d_Md_remove_116 : decode z_Md_remove.2.2.1 116 = .ok (.getfield 37, 3) := by decide +kernel
theorem d_Md_remove_119 : decode z_Md_remove.2.2.1 119 = .ok (.ifCond .le 4, 3) := by decide +kernel
theorem d_Md_remove_122 : decode z_Md_remove.2.2.1 122 = .ok (.return_, 1) := by decide +kernel
theorem d_Md_remove_123 : decode z_Md_remove.2.2.1 123 = .ok (.aload_n 0, 1) := by decide +kernel
theorem d_Md_remove_124 : decode z_Md_remove.2.2.1 124 = .ok (.invokevirtual 107, 3) := by decide +kernel
theorem d_Md_remove_127 : decode z_Md_remove.2.2.1 127 = .ok (.aload_n 0, 1) := by decide +kernel
theorem d_Md_remove_128 : decode z_Md_remove.2.2.1 128 = .ok (.getfield 31, 3) := by decide +kernel
theorem d_Md_remove_131 : decode z_Md_remove.2.2.1 131 = .ok (.iconst 1, 1) := by decide +kernel
theorem d_Md_remove_132 : decode z_Md_remove.2.2.1 132 = .ok (.iload_n 1, 1) := by decide +kernel
theorem d_Md_remove_133 : decode z_Md_remove.2.2.1 133 = .ok (.iadd, 1) := by decide +kernel
theorem d_Md_remove_134 : decode z_Md_remove.2.2.1 134 = .ok (.iconst 0, 1) := by decide +kernel
theorem d_Md_remove_135 : decode z_Md_remove.2.2.1 135 = .ok (.iastore, 1) := by decide +kernel
theorem d_Md_remove_136 : decode z_Md_remove.2.2.1 136 = .ok (.aload_n 0, 1) := by decide +kernel
theorem d_Md_remove_137 : decode z_Md_remove.2.2.1 137 = .ok (.invokevirtual 110, 3) := by decide +kernel
theorem d_Md_remove_140 : decode z_Md_remove.2.2.1 140 = .ok (.aload_n 0, 1) := by decide +kernel
theorem d_Md_remove_141 : decode z_Md_remove.2.2.1 141 = .ok (.aload_n 0, 1) := by decide +kernel
theorem d_Md_remove_142 : decode z_Md_remove.2.2.1 142 = .ok (.getfield 34, 3) := by decide +kernel
theorem d_Md_remove_145 : decode z_Md_remove.2.2.1 145 = .ok (.iload_n 1, 1) := by decide +kernel
theorem d_Md_remove_146 : decode z_Md_remove.2.2.1 146 = .ok (.if_icmp .ne 7, 3) := by decide +kernel
theorem d_Md_remove_149 : decode z_Md_remove.2.2.1 149 = .ok (.iconst (-1), 1) := by decide +kernel
theorem d_Md_remove_150 : decode z_Md_remove.2.2.1 150 = .ok (.goto 7, 3) := by decide +kernel
theorem d_Md_remove_153 : decode z_Md_remove.2.2.1 153 = .ok (.aload_n 0, 1) := by decide +kernel
theorem d_Md_remove_154 : decode z_Md_remove.2.2.1 154 = .ok (.getfield 34, 3) := by decide +kernel
theorem d_Md_remove_157 : decode z_Md_remove.2.2.1 157 = .ok (.putfield 34, 3) := by decide +kernel
theorem d_Md_remove_160 : decode z_Md_remove.2.2.1 160 = .ok (.aload_n 0, 1) := by decide +kernel
theorem d_Md_remove_161 : decode z_Md_remove.2.2.1 161 = .ok (.aload_n 0, 1) := by decide +kernel
theorem d_Md_remove_162 : decode z_Md_remove.2.2.1 162 = .ok (.getfield 20, 3) := by decide +kernel
theorem d_Md_remove_165 : decode z_Md_remove.2.2.1 165 = .ok (.ifCond .eq 7, 3) := by decide +kernel
theorem d_Md_remove_168 : decode z_Md_remove.2.2.1 168 = .ok (.iconst 0, 1) := by decide +kernel
theorem d_Md_remove_169 : decode z_Md_remove.2.2.1 169 = .ok (.goto 4, 3) := by decide +kernel
theorem d_Md_remove_172 : decode z_Md_remove.2.2.1 172 = .ok (.iconst 1, 1) := by decide +kernel
theorem d_Md_remove_173 : decode z_Md_remove.2.2.1 173 = .ok (.putfield 37, 3) := by decide +kernel
theorem d_Md_remove_176 : decode z_Md_remove.2.2.1 176 = .ok (.return_, 1) := by decide +kernel
def bd_Md_remove : jx_St := (sSeq (sSeq (sPf [8] 0 0 (eA 0) (eIte (cNot (cCmp0 rNe (eGf [8] 4 (eA 0)))) (eInt (nI 1)) (eIte (cNot (cCmp0 rNe (eCl (jx_ec f_Md_isDisk) [(eI 1)]))) (eInt (nI 2)) (eInt (nI 0))))) (sSeq (sIf (cCmp0 rGt (eGf [8] 0 (eA 0))) sRetV sSkip) (sSeq (sAsg 0 2 (eIte (cAnd (cAnd (cCmp0 rGe (eGf [8] 8 (eA 0))) (cCmp0 rGt (eGf [8] 11 (eA 0)))) (cCmp rEq (eBin oDiv (eBin oSub (eGf [8] 11 (eA 0)) (eInt (nI 1))) (eInt (nI 8))) (eI 1))) (eInt (nI 1)) (eInt (nI 0)))) (sSeq (sPf [8] 0 0 (eA 0) (eIte (cOr (cOr (cOr (cOr (cCmp0 rEq (eLd 0 (eGf [8] 6 (eA 0)) (eBin oAdd (eInt (nI 1)) (eI 1)))) (cCmp0 rGt (eCl (jx_ev tb_Md_legsOn) [(eA 0), (eI 1)]))) (cCmp0 rNe (eI 2))) (cCmp rLt (eCl (jx_ev tb_Md_listed) [(eA 0)]) (eInt (nI 2)))) (cCmp0 rNe (eCl (jx_ev tb_Md_isOneAbsent) [(eA 0)]))) (eInt (nI 3)) (eInt (nI 0)))) (sSeq (sIf (cCmp0 rGt (eGf [8] 0 (eA 0))) sRetV sSkip) (sSeq (sCl (jx_ev tb_Md_begin) [(eA 0)]) (sSeq (sSt 0 0 (eGf [8] 7 (eA 0)) (eBin oAdd (eInt (nI 1)) (eI 1)) (eInt (nI 0))) (sSeq (sCl (jx_ev tb_Md_change) [(eA 0)]) (sSeq (sPf [8] 8 0 (eA 0) (eIte (cCmp rEq (eGf [8] 8 (eA 0)) (eI 1)) (eInt (-1)) (eGf [8] 8 (eA 0)))) (sPf [8] 0 0 (eA 0) (eIte (cCmp0 rNe (eGf [8] 4 (eA 0))) (eInt (nI 0)) (eInt (nI 1))))))))))))) sRetV)
theorem m_Md_remove : jx_Ts z_Md_remove 0 bd_Md_remove [] := by
  unfold bd_Md_remove
  exact (t_seq (t_seq (t_pf (s_aload_n d_Md_remove_0 rfl) (s_ite (q4 := 24) (s_not (s_cmp0 (s_getf (s_aload_n d_Md_remove_1 rfl) fi_Md_20 d_Md_remove_2) (s_if_neT (tgt := 12) d_Md_remove_5 (by decide))) (by decide)) (s_iconst d_Md_remove_8 (by decide)) d_Md_remove_9 (by decide) (s_ite (q4 := 24) (s_not (s_cmp0 (s_cl (s_a1 (s_iload_n d_Md_remove_12 rfl) s_a0) (s_ecs me_Md_isDisk mw_Md_isDisk (by decide) (by decide) (by decide) lm_Md_103 w_st_Md_isDisk w_in_Md pd_Md_isDisk d_Md_remove_13)) (s_if_neT (tgt := 23) d_Md_remove_16 (by decide))) (by decide)) (s_iconst d_Md_remove_19 (by decide)) d_Md_remove_20 (by decide) (s_iconst d_Md_remove_23 (by decide)))) fi_Md_37 rfl (Or.inl rfl) d_Md_remove_24) (t_seq (t_if1 (Fs := [35]) (E := [35]) (s_cmp0 (s_getf (s_aload_n d_Md_remove_27 rfl) fi_Md_37 d_Md_remove_28) (s_if_leF (tgt := 35) d_Md_remove_31 (by decide))) (by decide) (t_sub (E := []) (E' := [35]) (t_retv rfl d_Md_remove_34) (by decide)) (by decide)) (t_seq (t_asg (s_ite (q4 := 67) (s_andg (s_andg (s_cmp0 (s_getf (s_aload_n d_Md_remove_35 rfl) fi_Md_34 d_Md_remove_36) (s_if_ltF (tgt := 66) d_Md_remove_39 (by decide))) (by decide) (al_1 (s_cmp0 (s_getf (s_aload_n d_Md_remove_42 rfl) fi_Md_65 d_Md_remove_43) (s_if_leF (tgt := 66) d_Md_remove_46 (by decide))))) (by decide) (al_1 (s_cmp (s_bin (s_bin (s_getf (s_aload_n d_Md_remove_49 rfl) fi_Md_65 d_Md_remove_50) (s_iconst d_Md_remove_53 (by decide)) (s_isub d_Md_remove_54)) (s_bipush d_Md_remove_55 (by decide)) (s_idiv d_Md_remove_57)) (s_iload_n d_Md_remove_58 rfl) (s_icmp_neF (tgt := 66) d_Md_remove_59 (by decide))))) (s_iconst d_Md_remove_62 (by decide)) d_Md_remove_63 (by decide) (s_iconst d_Md_remove_66 (by decide))) (fun v k h => b_istore_n d_Md_remove_67 rfl (by decide) h)) (t_seq (t_pf (s_aload_n d_Md_remove_68 rfl) (s_ite (q4 := 112) (s_org (s_org (s_org (s_org (s_cmp0 (s_load (s_getf (s_aload_n d_Md_remove_69 rfl) fi_Md_28 d_Md_remove_70) (s_bin (s_iconst d_Md_remove_73 (by decide)) (s_iload_n d_Md_remove_74 rfl) (s_iadd d_Md_remove_75)) (s_iald d_Md_remove_76)) (s_if_eqT (tgt := 107) d_Md_remove_77 (by decide))) (by decide) (al_1 (s_cmp0 (s_cl (s_a1 (s_aload_n d_Md_remove_80 rfl) (s_a1 (s_iload_n d_Md_remove_81 rfl) s_a0)) (s_ecv (ve_Md_legsOn (by decide) (by decide)) dc_Md_legsOn (by decide) lm_Md_116 pd_Md_legsOn d_Md_remove_82)) (s_if_gtT (tgt := 107) d_Md_remove_85 (by decide))))) (by decide) (al_1 (s_cmp0 (s_iload_n d_Md_remove_88 rfl) (s_if_neT (tgt := 107) d_Md_remove_89 (by decide))))) (by decide) (al_1 (s_cmp (s_cl (s_a1 (s_aload_n d_Md_remove_92 rfl) s_a0) (s_ecv (ve_Md_listed (by decide) (by decide)) dc_Md_listed (by decide) lm_Md_119 pd_Md_listed d_Md_remove_93)) (s_iconst d_Md_remove_96 (by decide)) (s_icmp_ltT (tgt := 107) d_Md_remove_97 (by decide))))) (by decide) (al_1 (s_cmp0 (s_cl (s_a1 (s_aload_n d_Md_remove_100 rfl) s_a0) (s_ecv (ve_Md_isOneAbsent (by decide) (by decide)) dc_Md_isOneAbsent (by decide) lm_Md_52 pd_Md_isOneAbsent d_Md_remove_101)) (s_if_eqF (tgt := 111) d_Md_remove_104 (by decide))))) (s_iconst d_Md_remove_107 (by decide)) d_Md_remove_108 (by decide) (s_iconst d_Md_remove_111 (by decide))) fi_Md_37 rfl (Or.inl rfl) d_Md_remove_112) (t_seq (t_if1 (Fs := [123]) (E := [123]) (s_cmp0 (s_getf (s_aload_n d_Md_remove_115 rfl) fi_Md_37 d_Md_remove_116) (s_if_leF (tgt := 123) d_Md_remove_119 (by decide))) (by decide) (t_sub (E := []) (E' := [123]) (t_retv rfl d_Md_remove_122) (by decide)) (by decide)) (t_seq (t_cl (s_a1 (s_aload_n d_Md_remove_123 rfl) s_a0) (s_ecv (ve_Md_begin (by decide) (by decide)) dc_Md_begin (by decide) lm_Md_107 pd_Md_begin d_Md_remove_124)) (t_seq (t_st (s_getf (s_aload_n d_Md_remove_127 rfl) fi_Md_31 d_Md_remove_128) (s_bin (s_iconst d_Md_remove_131 (by decide)) (s_iload_n d_Md_remove_132 rfl) (s_iadd d_Md_remove_133)) (s_iconst d_Md_remove_134 (by decide)) (s_iast d_Md_remove_135)) (t_seq (t_cl (s_a1 (s_aload_n d_Md_remove_136 rfl) s_a0) (s_ecv (ve_Md_change (by decide) (by decide)) dc_Md_change (by decide) lm_Md_110 pd_Md_change d_Md_remove_137)) (t_seq (t_pf (s_aload_n d_Md_remove_140 rfl) (s_ite (q4 := 157) (s_cmp (s_getf (s_aload_n d_Md_remove_141 rfl) fi_Md_34 d_Md_remove_142) (s_iload_n d_Md_remove_145 rfl) (s_icmp_neF (tgt := 153) d_Md_remove_146 (by decide))) (s_iconst d_Md_remove_149 (by decide)) d_Md_remove_150 (by decide) (s_getf (s_aload_n d_Md_remove_153 rfl) fi_Md_34 d_Md_remove_154)) fi_Md_34 rfl (Or.inl rfl) d_Md_remove_157) (t_pf (s_aload_n d_Md_remove_160 rfl) (s_ite (q4 := 173) (s_cmp0 (s_getf (s_aload_n d_Md_remove_161 rfl) fi_Md_20 d_Md_remove_162) (s_if_eqF (tgt := 172) d_Md_remove_165 (by decide))) (s_iconst d_Md_remove_168 (by decide)) d_Md_remove_169 (by decide) (s_iconst d_Md_remove_172 (by decide))) fi_Md_37 rfl (Or.inl rfl) d_Md_remove_173)))))))))) (t_retv rfl d_Md_remove_176))
def f_Md_remove : jx_Mt := jx_fn 2 3 (bd_Md_remove fun _ _ => none)
theorem me_Md_remove : jx_Me 2 z_Md_remove f_Md_remove := jx_Me.ofT (by decide) m_Md_remove
theorem mw_Md_remove : jx_mw ⟨"ExtentShelfModel", "remove", "(I)V"⟩ z_Md_remove := ⟨rfl, rfl, by decide +kernel, ⟨by decide, by decide⟩, by decide +kernel⟩
theorem pd_Md_remove : (parseMethodDescriptor (⟨"ExtentShelfModel", "remove", "(I)V"⟩ : MethodName).desc).map (fun d => d.parameters.length) = some 1 := by decide +kernel
/-! ExtentShelfModel.drop(I)I -/
abbrev z_Md_drop : jx_Z := ("ExtentShelfModel", "drop", prog_11_method_30_code, 5, some .int, 4, 126)
theorem d_Md_drop_0 : decode z_Md_drop.2.2.1 0 = .ok (.aload_n 0, 1) := by decide +kernel
theorem d_Md_drop_1 : decode z_Md_drop.2.2.1 1 = .ok (.aload_n 0, 1) := by decide +kernel
theorem d_Md_drop_2 : decode z_Md_drop.2.2.1 2 = .ok (.getfield 20, 3) := by decide +kernel
theorem d_Md_drop_5 : decode z_Md_drop.2.2.1 5 = .ok (.ifCond .ne 7, 3) := by decide +kernel
theorem d_Md_drop_8 : decode z_Md_drop.2.2.1 8 = .ok (.iconst 1, 1) := by decide +kernel
theorem d_Md_drop_9 : decode z_Md_drop.2.2.1 9 = .ok (.goto 15, 3) := by decide +kernel
theorem d_Md_drop_12 : decode z_Md_drop.2.2.1 12 = .ok (.iload_n 1, 1) := by decide +kernel
theorem d_Md_drop_13 : decode z_Md_drop.2.2.1 13 = .ok (.invokestatic 103, 3) := by decide +kernel
theorem d_Md_drop_16 : decode z_Md_drop.2.2.1 16 = .ok (.ifCond .ne 7, 3) := by decide +kernel
theorem d_Md_drop_19 : decode z_Md_drop.2.2.1 19 = .ok (.iconst 2, 1) := by decide +kernel
theorem d_Md_drop_20 : decode z_Md_drop.2.2.1 20 = .ok (.goto 4, 3) := by decide +kernel
theorem d_Md_drop_23 : decode z_Md_drop.2.2.1 23 = .ok (.iconst 0, 1) := by decide +kernel
theorem d_Md_drop_24 : decode z_Md_drop.2.2.1 24 = .ok (.putfield 37, 3) := by decide +kernel
theorem d_Md_drop_27 : decode z_Md_drop.2.2.1 27 = .ok (.aload_n 0, 1) := by decide +kernel
theorem d_Md_drop_28 : decode z_Md_drop.2.2.1 28 = .ok (.getfield 37, 3) := by decide +kernel
theorem d_Md_drop_31 : decode z_Md_drop.2.2.1 31 = .ok (.ifCond .le 5, 3) := by decide +kernel
theorem d_Md_drop_34 : decode z_Md_drop.2.2.1 34 = .ok (.iconst 0, 1) := by decide +kernel
theorem d_Md_drop_35 : decode z_Md_drop.2.2.1 35 = .ok (.ireturn, 1) := by decide +kernel
theorem d_Md_drop_36 : decode z_Md_drop.2.2.1 36 = .ok (.iconst 0, 1) := by decide +kernel
theorem d_Md_drop_37 : decode z_Md_drop.2.2.1 37 = .ok (.istore_n 2, 1) := by decide +kernel
theorem d_Md_drop_38 : decode z_Md_drop.2.2.1 38 = .ok (.iconst 0, 1) := by decide +kernel
theorem d_Md_drop_39 : decode z_Md_drop.2.2.1 39 = .ok (.istore_n 3, 1) := by decide +kernel
theorem d_Md_drop_40 : decode z_Md_drop.2.2.1 40 = .ok (.iload_n 3, 1) := by decide +kernel
theorem d_Md_drop_41 : decode z_Md_drop.2.2.1 41 = .ok (.iconst 4, 1) := by decide +kernel
theorem d_Md_drop_42 : decode z_Md_drop.2.2.1 42 = .ok (.if_icmp .ge 39, 3) := by decide +kernel
theorem d_Md_drop_45 : decode z_Md_drop.2.2.1 45 = .ok (.iload_n 2, 1) := by decide +kernel
theorem d_Md_drop_46 : decode z_Md_drop.2.2.1 46 = .ok (.ifCond .ne 23, 3) := by decide +kernel
theorem d_Md_drop_49 : decode z_Md_drop.2.2.1 49 = .ok (.aload_n 0, 1) := by decide +kernel
theorem d_Md_drop_50 : decode z_Md_drop.2.2.1 50 = .ok (.getfield 28, 3) := by decide +kernel
theorem d_Md_drop_53 : decode z_Md_drop.2.2.1 53 = .ok (.iconst 1, 1) := by decide +kernel
theorem d_Md_drop_54 : decode z_Md_drop.2.2.1 54 = .ok (.iload_n 3, 1) := by decide +kernel
theorem d_Md_drop_55 : decode z_Md_drop.2.2.1 55 = .ok (.iadd, 1) := by decide +kernel
theorem d_Md_drop_56 : decode z_Md_drop.2.2.1 56 = .ok (.iaload, 1) := by decide +kernel
theorem d_Md_drop_57 : decode z_Md_drop.2.2.1 57 = .ok (.ifCond .le 16, 3) := by decide +kernel
theorem d_Md_drop_60 : decode z_Md_drop.2.2.1 60 = .ok (.aload_n 0, 1) := by decide +kernel
theorem d_Md_drop_61 : decode z_Md_drop.2.2.1 61 = .ok (.getfield 7, 3) := by decide +kernel
theorem d_Md_drop_64 : decode z_Md_drop.2.2.1 64 = .ok (.iload_n 3, 1) := by decide +kernel
theorem d_Md_drop_65 : decode z_Md_drop.2.2.1 65 = .ok (.baload, 1) := by decide +kernel
theorem d_Md_drop_66 : decode z_Md_drop.2.2.1 66 = .ok (.ifCond .eq 7, 3) := by decide +kernel
theorem d_Md_drop_69 : decode z_Md_drop.2.2.1 69 = .ok (.iconst 1, 1) := by decide +kernel
theorem d_Md_drop_70 : decode z_Md_drop.2.2.1 70 = .ok (.goto 4, 3) := by decide +kernel
theorem d_Md_drop_73 : decode z_Md_drop.2.2.1 73 = .ok (.iconst 0, 1) := by decide +kernel
theorem d_Md_drop_74 : decode z_Md_drop.2.2.1 74 = .ok (.istore_n 2, 1) := by decide +kernel
theorem d_Md_drop_75 : decode z_Md_drop.2.2.1 75 = .ok (.iinc 3 1, 3) := by decide +kernel
theorem d_Md_drop_78 : decode z_Md_drop.2.2.1 78 = .ok (.goto (-38), 3) := by decide +kernel
theorem d_Md_drop_81 : decode z_Md_drop.2.2.1 81 = .ok (.aload_n 0, 1) := by decide +kernel
theorem d_Md_drop_82 : decode z_Md_drop.2.2.1 82 = .ok (.aload_n 0, 1) := by decide +kernel
theorem d_Md_drop_83 : decode z_Md_drop.2.2.1 83 = .ok (.getfield 28, 3) := by decide +kernel
theorem d_Md_drop_86 : decode z_Md_drop.2.2.1 86 = .ok (.iconst 1, 1) := by decide +kernel
theorem d_Md_drop_87 : decode z_Md_drop.2.2.1 87 = .ok (.iload_n 1, 1) := by decide +kernel
theorem d_Md_drop_88 : decode z_Md_drop.2.2.1 88 = .ok (.iadd, 1) := by decide +kernel
theorem d_Md_drop_89 : decode z_Md_drop.2.2.1 89 = .ok (.iaload, 1) := by decide +kernel
theorem d_Md_drop_90 : decode z_Md_drop.2.2.1 90 = .ok (.ifCond .eq 16, 3) := by decide +kernel
theorem d_Md_drop_93 : decode z_Md_drop.2.2.1 93 = .ok (.aload_n 0, 1) := by decide +kernel
theorem d_Md_drop_94 : decode z_Md_drop.2.2.1 94 = .ok (.getfield 7, 3) := by decide +kernel
theorem d_Md_drop_97 : decode z_Md_drop.2.2.1 97 = .ok (.iload_n 1, 1) := by decide +kernel
theorem d_Md_drop_98 : decode z_Md_drop.2.2.1 98 = .ok (.baload, 1) := by decide +kernel
theorem d_Md_drop_99 : decode z_Md_drop.2.2.1 99 = .ok (.ifCond .ne 7, 3) := by decide +kernel
theorem d_Md_drop_102 : decode z_Md_drop.2.2.1 102 = .ok (.iload_n 2, 1) := by decide +kernel
theorem d_Md_drop_103 : decode z_Md_drop.2.2.1 103 = .ok (.ifCond .ne 7, 3) := by decide +kernel
theorem d_Md_drop_106 : decode z_Md_drop.2.2.1 106 = .ok (.iconst 3, 1) := by decide +kernel
theorem d_Md_drop_107 : decode z_Md_drop.2.2.1 107 = .ok (.goto 4, 3) := by decide +kernel
theorem d_Md_drop_110 : decode z_Md_drop.2.2.1 110 = .ok (.iconst 0, 1) := by decide +kernel
theorem d_Md_drop_111 : decode z_Md_drop.2.2.1 111 = .ok (.putfield 37, 3) := by decide +kernel
theorem d_Md_drop_114 : decode z_Md_drop.2.2.1 114 = .ok (.aload_n 0, 1) := by decide +kernel
theorem d_Md_drop_115 : decode z_Md_drop.2.2.1 115 = .ok (.getfield 37, 3) := by decide +kernel
theorem d_Md_drop_118 : decode z_Md_drop.2.2.1 118 = .ok (.ifCond .le 5, 3) := by decide +kernel
theorem d_Md_drop_121 : decode z_Md_drop.2.2.1 121 = .ok (.iconst 0, 1) := by decide +kernel
theorem d_Md_drop_122 : decode z_Md_drop.2.2.1 122 = .ok (.ireturn, 1) := by decide +kernel
theorem d_Md_drop_123 : decode z_Md_drop.2.2.1 123 = .ok (.aload_n 0, 1) := by decide +kernel
theorem d_Md_drop_124 : decode z_Md_drop.2.2.1 124 = .ok (.invokevirtual 107, 3) := by decide +kernel
theorem d_Md_drop_127 : decode z_Md_drop.2.2.1 127 = .ok (.aload_n 0, 1) := by decide +kernel
theorem d_Md_drop_128 : decode z_Md_drop.2.2.1 128 = .ok (.getfield 31, 3) := by decide +kernel
theorem d_Md_drop_131 : decode z_Md_drop.2.2.1 131 = .ok (.iconst 1, 1) := by decide +kernel
theorem d_Md_drop_132 : decode z_Md_drop.2.2.1 132 = .ok (.iload_n 1, 1) := by decide +kernel
theorem d_Md_drop_133 : decode z_Md_drop.2.2.1 133 = .ok (.iadd, 1) := by decide +kernel
theorem d_Md_drop_134 : decode z_Md_drop.2.2.1 134 = .ok (.iconst 0, 1) := by decide +kernel
theorem d_Md_drop_135 : decode z_Md_drop.2.2.1 135 = .ok (.iastore, 1) := by decide +kernel
theorem d_Md_drop_136 : decode z_Md_drop.2.2.1 136 = .ok (.iconst 0, 1) := by decide +kernel
theorem d_Md_drop_137 : decode z_Md_drop.2.2.1 137 = .ok (.istore_n 3, 1) := by decide +kernel
theorem d_Md_drop_138 : decode z_Md_drop.2.2.1 138 = .ok (.bipush 9, 2) := by decide +kernel
theorem d_Md_drop_140 : decode z_Md_drop.2.2.1 140 = .ok (.istore 4, 2) := by decide +kernel
theorem d_Md_drop_142 : decode z_Md_drop.2.2.1 142 = .ok (.iload 4, 2) := by decide +kernel
theorem d_Md_drop_144 : decode z_Md_drop.2.2.1 144 = .ok (.bipush 49, 2) := by decide +kernel
theorem d_Md_drop_146 : decode z_Md_drop.2.2.1 146 = .ok (.if_icmp .ge 46, 3) := by decide +kernel
theorem d_Md_drop_149 : decode z_Md_drop.2.2.1 149 = .ok (.aload_n 0, 1) := by decide +kernel
theorem d_Md_drop_150 : decode z_Md_drop.2.2.1 150 = .ok (.getfield 31, 3) := by decide +kernel
theorem d_Md_drop_153 : decode z_Md_drop.2.2.1 153 = .ok (.iload 4, 2) := by decide +kernel
theorem d_Md_drop_155 : decode z_Md_drop.2.2.1 155 = .ok (.iaload, 1) := by decide +kernel
theorem d_Md_drop_156 : decode z_Md_drop.2.2.1 156 = .ok (.ifCond .le 30, 3) := by decide +kernel
theorem d_Md_drop_159 : decode z_Md_drop.2.2.1 159 = .ok (.aload_n 0, 1) := by decide +kernel
theorem d_Md_drop_160 : decode z_Md_drop.2.2.1 160 = .ok (.getfield 31, 3) := by decide +kernel
theorem d_Md_drop_163 : decode z_Md_drop.2.2.1 163 = .ok (.iload 4, 2) := by decide +kernel
theorem d_Md_drop_165 : decode z_Md_drop.2.2.1 165 = .ok (.iaload, 1) := by decide +kernel
theorem d_Md_drop_166 : decode z_Md_drop.2.2.1 166 = .ok (.iconst 1, 1) := by decide +kernel
theorem d_Md_drop_167 : decode z_Md_drop.2.2.1 167 = .ok (.isub, 1) := by decide +kernel
theorem d_Md_drop_168 : decode z_Md_drop.2.2.1 168 = .ok (.bipush 8, 2) := by decide +kernel
theorem d_Md_drop_170 : decode z_Md_drop.2.2.1 170 = .ok (.idiv, 1) := by decide +kernel
theorem d_Md_drop_171 : decode z_Md_drop.2.2.1 171 = .ok (.iload_n 1, 1) := by decide +kernel
theorem d_Md_drop_172 : decode z_Md_drop.2.2.1 172 = .ok (.if_icmp .ne 14, 3) := by decide +kernel
theorem d_Md_drop_175 : decode z_Md_drop.2.2.1 175 = .ok (.aload_n 0, 1) := by decide +kernel
theorem d_Md_drop_176 : decode z_Md_drop.2.2.1 176 = .ok (.getfield 31, 3) := by decide +kernel
theorem d_Md_drop_179 : decode z_Md_drop.2.2.1 179 = .ok (.iload 4, 2) := by decide +kernel
theorem d_Md_drop_181 : decode z_Md_drop.2.2.1 181 = .ok (.iconst 0, 1) := by decide +kernel
theorem d_Md_drop_182 : decode z_Md_drop.2.2.1 182 = .ok (.iastore, 1) := by decide +kernel
theorem d_Md_drop_183 : decode z_Md_drop.2.2.1 183 = .ok (.iinc 3 1, 3) := by decide +kernel
theorem d_Md_drop_186 : decode z_Md_drop.2.2.1 186 = .ok (.iinc 4 1, 3) := by decide +kernel
theorem d_Md_drop_189 : decode z_Md_drop.2.2.1 189 = .ok (.goto (-47), 3) := by decide +kernel
theorem d_Md_drop_192 : decode z_Md_drop.2.2.1 192 = .ok (.aload_n 0, 1) := by decide +kernel
theorem d_Md_drop_193 : decode z_Md_drop.2.2.1 193 = .ok (.invokevirtual 110, 3) := by decide +kernel
theorem d_Md_drop_196 : decode z_Md_drop.2.2.1 196 = .ok (.aload_n 0, 1) := by decide +kernel
theorem d_Md_drop_197 : decode z_Md_drop.2.2.1 197 = .ok (.iload_n 3, 1) := by decide +kernel
theorem d_Md_drop_198 : decode z_Md_drop.2.2.1 198 = .ok (.invokevirtual 113, 3) := by decide +kernel
theorem d_Md_drop_201 : decode z_Md_drop.2.2.1 201 = .ok (.ireturn, 1) := by decide +kernel
def lc_Md_drop_0 : jx_Cx := (cCmp rLt (eI 3) (eInt (nI 4)))
def lb_Md_drop_0 : jx_St := (sSeq (sAsg 0 2 (eIte (cOr (cCmp0 rNe (eI 2)) (cAnd (cCmp0 rGt (eLd 0 (eGf [8] 6 (eA 0)) (eBin oAdd (eInt (nI 1)) (eI 3)))) (cCmp0 rNe (eLd 2 (eGf [8] 1 (eA 0)) (eI 3))))) (eInt (nI 1)) (eInt (nI 0)))) (sInc 3 (nI 1)))
theorem ml_Md_drop_0 : jx_Ts z_Md_drop 40 (sWh 64 lc_Md_drop_0 lb_Md_drop_0) [81] := by
  unfold lc_Md_drop_0 lb_Md_drop_0
  exact t_wh (EA := [78]) (Fs := [81]) (E := [81]) 64 (s_cmp (s_iload_n d_Md_drop_40 rfl) (s_iconst d_Md_drop_41 (by decide)) (s_icmp_geF (tgt := 81) d_Md_drop_42 (by decide))) (by decide) (t_seq (t_asg (s_ite (q4 := 74) (s_org (s_cmp0 (s_iload_n d_Md_drop_45 rfl) (s_if_neT (tgt := 69) d_Md_drop_46 (by decide))) (by decide) (al_1 (s_andg (s_cmp0 (s_load (s_getf (s_aload_n d_Md_drop_49 rfl) fi_Md_28 d_Md_drop_50) (s_bin (s_iconst d_Md_drop_53 (by decide)) (s_iload_n d_Md_drop_54 rfl) (s_iadd d_Md_drop_55)) (s_iald d_Md_drop_56)) (s_if_leF (tgt := 73) d_Md_drop_57 (by decide))) (by decide) (al_1 (s_cmp0 (s_load (s_getf (s_aload_n d_Md_drop_60 rfl) fi_Md_7 d_Md_drop_61) (s_iload_n d_Md_drop_64 rfl) (s_zald d_Md_drop_65)) (s_if_eqF (tgt := 73) d_Md_drop_66 (by decide))))))) (s_iconst d_Md_drop_69 (by decide)) d_Md_drop_70 (by decide) (s_iconst d_Md_drop_73 (by decide))) (fun v k h => b_istore_n d_Md_drop_74 rfl (by decide) h)) (t_iinc d_Md_drop_75 (by decide) (by decide))) (al_1 (Or.inr ⟨-38, d_Md_drop_78, by decide⟩)) (by decide)
def lc_Md_drop_1 : jx_Cx := (cCmp rLt (eI 4) (eInt (nI 49)))
def lb_Md_drop_1 : jx_St := (sSeq (sIf (cAnd (cCmp0 rGt (eLd 0 (eGf [8] 7 (eA 0)) (eI 4))) (cCmp rEq (eBin oDiv (eBin oSub (eLd 0 (eGf [8] 7 (eA 0)) (eI 4)) (eInt (nI 1))) (eInt (nI 8))) (eI 1))) (sSeq (sSt 0 0 (eGf [8] 7 (eA 0)) (eI 4) (eInt (nI 0))) (sInc 3 (nI 1))) sSkip) (sInc 4 (nI 1)))
theorem ml_Md_drop_1 : jx_Ts z_Md_drop 142 (sWh 64 lc_Md_drop_1 lb_Md_drop_1) [192] := by
  unfold lc_Md_drop_1 lb_Md_drop_1
  exact t_wh (EA := [189]) (Fs := [192]) (E := [192]) 64 (s_cmp (s_iload d_Md_drop_142) (s_bipush d_Md_drop_144 (by decide)) (s_icmp_geF (tgt := 192) d_Md_drop_146 (by decide))) (by decide) (t_seq (t_if1 (Fs := [186]) (E := [186]) (s_andg (s_cmp0 (s_load (s_getf (s_aload_n d_Md_drop_149 rfl) fi_Md_31 d_Md_drop_150) (s_iload d_Md_drop_153) (s_iald d_Md_drop_155)) (s_if_leF (tgt := 186) d_Md_drop_156 (by decide))) (by decide) (al_1 (s_cmp (s_bin (s_bin (s_load (s_getf (s_aload_n d_Md_drop_159 rfl) fi_Md_31 d_Md_drop_160) (s_iload d_Md_drop_163) (s_iald d_Md_drop_165)) (s_iconst d_Md_drop_166 (by decide)) (s_isub d_Md_drop_167)) (s_bipush d_Md_drop_168 (by decide)) (s_idiv d_Md_drop_170)) (s_iload_n d_Md_drop_171 rfl) (s_icmp_neF (tgt := 186) d_Md_drop_172 (by decide))))) (by decide) (t_sub (E := [186]) (E' := [186]) (t_seq (t_st (s_getf (s_aload_n d_Md_drop_175 rfl) fi_Md_31 d_Md_drop_176) (s_iload d_Md_drop_179) (s_iconst d_Md_drop_181 (by decide)) (s_iast d_Md_drop_182)) (t_iinc d_Md_drop_183 (by decide) (by decide))) (by decide)) (by decide)) (t_iinc d_Md_drop_186 (by decide) (by decide))) (al_1 (Or.inr ⟨-47, d_Md_drop_189, by decide⟩)) (by decide)
def bd_Md_drop : jx_St := (sSeq (sPf [8] 0 0 (eA 0) (eIte (cNot (cCmp0 rNe (eGf [8] 4 (eA 0)))) (eInt (nI 1)) (eIte (cNot (cCmp0 rNe (eCl (jx_ec f_Md_isDisk) [(eI 1)]))) (eInt (nI 2)) (eInt (nI 0))))) (sSeq (sIf (cCmp0 rGt (eGf [8] 0 (eA 0))) (sRet 0 (eInt (nI 0))) sSkip) (sSeq (sAsg 0 2 (eInt (nI 0))) (sSeq (sSeq (sAsg 0 3 (eInt (nI 0))) (sWh 64 lc_Md_drop_0 lb_Md_drop_0)) (sSeq (sPf [8] 0 0 (eA 0) (eIte (cOr (cOr (cCmp0 rEq (eLd 0 (eGf [8] 6 (eA 0)) (eBin oAdd (eInt (nI 1)) (eI 1)))) (cCmp0 rNe (eLd 2 (eGf [8] 1 (eA 0)) (eI 1)))) (cNot (cCmp0 rNe (eI 2)))) (eInt (nI 3)) (eInt (nI 0)))) (sSeq (sIf (cCmp0 rGt (eGf [8] 0 (eA 0))) (sRet 0 (eInt (nI 0))) sSkip) (sSeq (sCl (jx_ev tb_Md_begin) [(eA 0)]) (sSeq (sSt 0 0 (eGf [8] 7 (eA 0)) (eBin oAdd (eInt (nI 1)) (eI 1)) (eInt (nI 0))) (sSeq (sAsg 0 3 (eInt (nI 0))) (sSeq (sSeq (sAsg 0 4 (eInt (nI 9))) (sWh 64 lc_Md_drop_1 lb_Md_drop_1)) (sSeq (sCl (jx_ev tb_Md_change) [(eA 0)]) (sRet 0 (eCl (jx_ev tb_Md_ended) [(eA 0), (eI 3)])))))))))))))
theorem m_Md_drop : jx_Ts z_Md_drop 0 bd_Md_drop [] := by
  unfold bd_Md_drop
  exact (t_seq (t_pf (s_aload_n d_Md_drop_0 rfl) (s_ite (q4 := 24) (s_not (s_cmp0 (s_getf (s_aload_n d_Md_drop_1 rfl) fi_Md_20 d_Md_drop_2) (s_if_neT (tgt := 12) d_Md_drop_5 (by decide))) (by decide)) (s_iconst d_Md_drop_8 (by decide)) d_Md_drop_9 (by decide) (s_ite (q4 := 24) (s_not (s_cmp0 (s_cl (s_a1 (s_iload_n d_Md_drop_12 rfl) s_a0) (s_ecs me_Md_isDisk mw_Md_isDisk (by decide) (by decide) (by decide) lm_Md_103 w_st_Md_isDisk w_in_Md pd_Md_isDisk d_Md_drop_13)) (s_if_neT (tgt := 23) d_Md_drop_16 (by decide))) (by decide)) (s_iconst d_Md_drop_19 (by decide)) d_Md_drop_20 (by decide) (s_iconst d_Md_drop_23 (by decide)))) fi_Md_37 rfl (Or.inl rfl) d_Md_drop_24) (t_seq (t_if1 (Fs := [36]) (E := [36]) (s_cmp0 (s_getf (s_aload_n d_Md_drop_27 rfl) fi_Md_37 d_Md_drop_28) (s_if_leF (tgt := 36) d_Md_drop_31 (by decide))) (by decide) (t_sub (E := []) (E' := [36]) (t_ret .int (s_iconst d_Md_drop_34 (by decide)) rfl (by decide) d_Md_drop_35) (by decide)) (by decide)) (t_seq (t_asg (s_iconst d_Md_drop_36 (by decide)) (fun v k h => b_istore_n d_Md_drop_37 rfl (by decide) h)) (t_seq (t_seq (t_asg (s_iconst d_Md_drop_38 (by decide)) (fun v k h => b_istore_n d_Md_drop_39 rfl (by decide) h)) ml_Md_drop_0) (t_seq (t_pf (s_aload_n d_Md_drop_81 rfl) (s_ite (q4 := 111) (s_org (s_org (s_cmp0 (s_load (s_getf (s_aload_n d_Md_drop_82 rfl) fi_Md_28 d_Md_drop_83) (s_bin (s_iconst d_Md_drop_86 (by decide)) (s_iload_n d_Md_drop_87 rfl) (s_iadd d_Md_drop_88)) (s_iald d_Md_drop_89)) (s_if_eqT (tgt := 106) d_Md_drop_90 (by decide))) (by decide) (al_1 (s_cmp0 (s_load (s_getf (s_aload_n d_Md_drop_93 rfl) fi_Md_7 d_Md_drop_94) (s_iload_n d_Md_drop_97 rfl) (s_zald d_Md_drop_98)) (s_if_neT (tgt := 106) d_Md_drop_99 (by decide))))) (by decide) (al_1 (s_not (s_cmp0 (s_iload_n d_Md_drop_102 rfl) (s_if_neT (tgt := 110) d_Md_drop_103 (by decide))) (by decide)))) (s_iconst d_Md_drop_106 (by decide)) d_Md_drop_107 (by decide) (s_iconst d_Md_drop_110 (by decide))) fi_Md_37 rfl (Or.inl rfl) d_Md_drop_111) (t_seq (t_if1 (Fs := [123]) (E := [123]) (s_cmp0 (s_getf (s_aload_n d_Md_drop_114 rfl) fi_Md_37 d_Md_drop_115) (s_if_leF (tgt := 123) d_Md_drop_118 (by decide))) (by decide) (t_sub (E := []) (E' := [123]) (t_ret .int (s_iconst d_Md_drop_121 (by decide)) rfl (by decide) d_Md_drop_122) (by decide)) (by decide)) (t_seq (t_cl (s_a1 (s_aload_n d_Md_drop_123 rfl) s_a0) (s_ecv (ve_Md_begin (by decide) (by decide)) dc_Md_begin (by decide) lm_Md_107 pd_Md_begin d_Md_drop_124)) (t_seq (t_st (s_getf (s_aload_n d_Md_drop_127 rfl) fi_Md_31 d_Md_drop_128) (s_bin (s_iconst d_Md_drop_131 (by decide)) (s_iload_n d_Md_drop_132 rfl) (s_iadd d_Md_drop_133)) (s_iconst d_Md_drop_134 (by decide)) (s_iast d_Md_drop_135)) (t_seq (t_asg (s_iconst d_Md_drop_136 (by decide)) (fun v k h => b_istore_n d_Md_drop_137 rfl (by decide) h)) (t_seq (t_seq (t_asg (s_bipush d_Md_drop_138 (by decide)) (fun v k h => b_istore d_Md_drop_140 (by decide) h)) ml_Md_drop_1) (t_seq (t_cl (s_a1 (s_aload_n d_Md_drop_192 rfl) s_a0) (s_ecv (ve_Md_change (by decide) (by decide)) dc_Md_change (by decide) lm_Md_110 pd_Md_change d_Md_drop_193)) (t_ret .int (s_cl (s_a1 (s_aload_n d_Md_drop_196 rfl) (s_a1 (s_iload_n d_Md_drop_197 rfl) s_a0)) (s_ecv (ve_Md_ended (by decide) (by decide)) dc_Md_ended (by decide) lm_Md_113 pd_Md_ended d_Md_drop_198)) rfl (by decide) d_Md_drop_201))))))))))))
def f_Md_drop : jx_Mt := jx_fn 2 5 (bd_Md_drop fun _ _ => none)
theorem me_Md_drop : jx_Me 2 z_Md_drop f_Md_drop := jx_Me.ofT (by decide) m_Md_drop
theorem mw_Md_drop : jx_mw ⟨"ExtentShelfModel", "drop", "(I)I"⟩ z_Md_drop := ⟨rfl, rfl, by decide +kernel, ⟨by decide, by decide⟩, by decide +kernel⟩
theorem pd_Md_drop : (parseMethodDescriptor (⟨"ExtentShelfModel", "drop", "(I)I"⟩ : MethodName).desc).map (fun d => d.parameters.length) = some 1 := by decide +kernel
/-! ExtentShelfModel.fits(II)Z -/
abbrev z_Md_fits : jx_Z := ("ExtentShelfModel", "fits", prog_11_method_31_code, 2, some .boolean, 0, 0)
theorem d_Md_fits_0 : decode z_Md_fits.2.2.1 0 = .ok (.iload_n 1, 1) := by decide +kernel
theorem d_Md_fits_1 : decode z_Md_fits.2.2.1 1 = .ok (.iconst 1, 1) := by decide +kernel
theorem d_Md_fits_2 : decode z_Md_fits.2.2.1 2 = .ok (.if_icmp .lt 18, 3) := by decide +kernel
theorem d_Md_fits_5 : decode z_Md_fits.2.2.1 5 = .ok (.iload_n 1, 1) := by decide +kernel
theorem d_Md_fits_6 : decode z_Md_fits.2.2.1 6 = .ok (.iconst 5, 1) := by decide +kernel
theorem d_Md_fits_7 : decode z_Md_fits.2.2.1 7 = .ok (.if_icmp .gt 13, 3) := by decide +kernel
theorem d_Md_fits_10 : decode z_Md_fits.2.2.1 10 = .ok (.iload_n 1, 1) := by decide +kernel
theorem d_Md_fits_11 : decode z_Md_fits.2.2.1 11 = .ok (.iload_n 0, 1) := by decide +kernel
theorem d_Md_fits_12 : decode z_Md_fits.2.2.1 12 = .ok (.irem, 1) := by decide +kernel
theorem d_Md_fits_13 : decode z_Md_fits.2.2.1 13 = .ok (.ifCond .ne 7, 3) := by decide +kernel
theorem d_Md_fits_16 : decode z_Md_fits.2.2.1 16 = .ok (.iconst 1, 1) := by decide +kernel
theorem d_Md_fits_17 : decode z_Md_fits.2.2.1 17 = .ok (.goto 4, 3) := by decide +kernel
theorem d_Md_fits_20 : decode z_Md_fits.2.2.1 20 = .ok (.iconst 0, 1) := by decide +kernel
theorem d_Md_fits_21 : decode z_Md_fits.2.2.1 21 = .ok (.ireturn, 1) := by decide +kernel
def bd_Md_fits : jx_St := (sRet 1 (eIte (cAnd (cAnd (cCmp rGe (eI 1) (eInt (nI 1))) (cCmp rLe (eI 1) (eInt (nI 5)))) (cCmp0 rEq (eBin oRem (eI 1) (eI 0)))) (eInt (nI 1)) (eInt (nI 0))))
theorem m_Md_fits : jx_Ts z_Md_fits 0 bd_Md_fits [] := by
  unfold bd_Md_fits
  exact (t_ret .boolean (s_ite (q4 := 21) (s_andg (s_andg (s_cmp (s_iload_n d_Md_fits_0 rfl) (s_iconst d_Md_fits_1 (by decide)) (s_icmp_ltF (tgt := 20) d_Md_fits_2 (by decide))) (by decide) (al_1 (s_cmp (s_iload_n d_Md_fits_5 rfl) (s_iconst d_Md_fits_6 (by decide)) (s_icmp_gtF (tgt := 20) d_Md_fits_7 (by decide))))) (by decide) (al_1 (s_cmp0 (s_bin (s_iload_n d_Md_fits_10 rfl) (s_iload_n d_Md_fits_11 rfl) (s_irem d_Md_fits_12)) (s_if_neF (tgt := 20) d_Md_fits_13 (by decide))))) (s_iconst d_Md_fits_16 (by decide)) d_Md_fits_17 (by decide) (s_iconst d_Md_fits_20 (by decide))) rfl (by decide) d_Md_fits_21)
def f_Md_fits : jx_Mt := jx_fn 2 2 (bd_Md_fits fun _ _ => none)
theorem me_Md_fits : jx_Me 2 z_Md_fits f_Md_fits := jx_Me.ofT (by decide) m_Md_fits
theorem mw_Md_fits : jx_mw ⟨"ExtentShelfModel", "fits", "(II)Z"⟩ z_Md_fits := ⟨rfl, rfl, by decide +kernel, ⟨by decide, by decide⟩, by decide +kernel⟩
theorem pd_Md_fits : (parseMethodDescriptor (⟨"ExtentShelfModel", "fits", "(II)Z"⟩ : MethodName).desc).map (fun d => d.parameters.length) = some 2 := by decide +kernel
abbrev tb_Md_find : List (Nat × jx_Mt) := [(8, f_Md_find)]
theorem ve_Md_find {fr lo : Nat} (h1 : 5 ≤ fr) (h2 : 164 ≤ lo) : ∀ q ∈ tb_Md_find, jx_ve ⟨"ExtentShelfModel", "find", "(II)Z"⟩ 2 fr lo q.1 q.2 := tv_1 ⟨R_Model, F_Model, 13, ⟨"ExtentShelfModel", "find", "(II)Z"⟩, z_Md_find, rfl, by decide +kernel, mw_Md_find, by decide +kernel, me_Md_find, Nat.le_trans (by decide) h1, Nat.le_trans (by decide) h2⟩
theorem dc_Md_find : jx_dc ⟨"ExtentShelfModel", "find", "(II)Z"⟩ := ⟨⟨by decide, by decide⟩, Or.inr ⟨by decide +kernel, prog_11_method_25_code, 5, _, (by decide +kernel : Cond.code ⟨"ExtentShelfModel", "find", "(II)Z"⟩ prog_11_method_25_code 5 (some .boolean) ∈ jx_tbl)⟩, "ExtentShelfModel", ⟨"ExtentShelfModel", "find", "(II)Z"⟩, ⟨"ExtentShelfModel", "find", "(II)Z"⟩, by decide +kernel, rfl⟩
abbrev tb_Md_clear : List (Nat × jx_Mt) := [(8, f_Md_clear)]
theorem ve_Md_clear {fr lo : Nat} (h1 : 3 ≤ fr) (h2 : 91 ≤ lo) : ∀ q ∈ tb_Md_clear, jx_ve ⟨"ExtentShelfModel", "clear", "(II)V"⟩ 2 fr lo q.1 q.2 := tv_1 ⟨R_Model, F_Model, 13, ⟨"ExtentShelfModel", "clear", "(II)V"⟩, z_Md_clear, rfl, by decide +kernel, mw_Md_clear, by decide +kernel, me_Md_clear, Nat.le_trans (by decide) h1, Nat.le_trans (by decide) h2⟩
theorem dc_Md_clear : jx_dc ⟨"ExtentShelfModel", "clear", "(II)V"⟩ := ⟨⟨by decide, by decide⟩, Or.inr ⟨by decide +kernel, prog_11_method_26_code, 5, _, (by decide +kernel : Cond.code ⟨"ExtentShelfModel", "clear", "(II)V"⟩ prog_11_method_26_code 5 none ∈ jx_tbl)⟩, "ExtentShelfModel", ⟨"ExtentShelfModel", "clear", "(II)V"⟩, ⟨"ExtentShelfModel", "clear", "(II)V"⟩, by decide +kernel, rfl⟩
/-! ExtentShelfModel.make(III)I -/
abbrev z_Md_make : jx_Z := ("ExtentShelfModel", "make", prog_11_method_32_code, 6, some .int, 5, 164)
theorem d_Md_make_0 : decode z_Md_make.2.2.1 0 = .ok (.iload_n 1, 1) := by decide +kernel
theorem d_Md_make_1 : decode z_Md_make.2.2.1 1 = .ok (.ifCond .lt 35, 3) := by decide +kernel
theorem d_Md_make_4 : decode z_Md_make.2.2.1 4 = .ok (.iload_n 1, 1) := by decide +kernel
theorem d_Md_make_5 : decode z_Md_make.2.2.1 5 = .ok (.iconst 3, 1) := by decide +kernel
theorem d_Md_make_6 : decode z_Md_make.2.2.1 6 = .ok (.if_icmp .ge 30, 3) := by decide +kernel
theorem d_Md_make_9 : decode z_Md_make.2.2.1 9 = .ok (.iload_n 1, 1) := by decide +kernel
theorem d_Md_make_10 : decode z_Md_make.2.2.1 10 = .ok (.iconst 1, 1) := by decide +kernel
theorem d_Md_make_11 : decode z_Md_make.2.2.1 11 = .ok (.if_icmp .ne 16, 3) := by decide +kernel
theorem d_Md_make_14 : decode z_Md_make.2.2.1 14 = .ok (.iload_n 2, 1) := by decide +kernel
theorem d_Md_make_15 : decode z_Md_make.2.2.1 15 = .ok (.iconst 2, 1) := by decide +kernel
theorem d_Md_make_16 : decode z_Md_make.2.2.1 16 = .ok (.if_icmp .eq 16, 3) := by decide +kernel
theorem d_Md_make_19 : decode z_Md_make.2.2.1 19 = .ok (.iload_n 2, 1) := by decide +kernel
theorem d_Md_make_20 : decode z_Md_make.2.2.1 20 = .ok (.iconst 3, 1) := by decide +kernel
theorem d_Md_make_21 : decode z_Md_make.2.2.1 21 = .ok (.if_icmp .ne 15, 3) := by decide +kernel
theorem d_Md_make_24 : decode z_Md_make.2.2.1 24 = .ok (.goto 8, 3) := by decide +kernel
theorem d_Md_make_27 : decode z_Md_make.2.2.1 27 = .ok (.iload_n 2, 1) := by decide +kernel
theorem d_Md_make_28 : decode z_Md_make.2.2.1 28 = .ok (.iconst 1, 1) := by decide +kernel
theorem d_Md_make_29 : decode z_Md_make.2.2.1 29 = .ok (.if_icmp .ne 7, 3) := by decide +kernel
theorem d_Md_make_32 : decode z_Md_make.2.2.1 32 = .ok (.iconst 1, 1) := by decide +kernel
theorem d_Md_make_33 : decode z_Md_make.2.2.1 33 = .ok (.goto 4, 3) := by decide +kernel
theorem d_Md_make_36 : decode z_Md_make.2.2.1 36 = .ok (.iconst 0, 1) := by decide +kernel
theorem d_Md_make_37 : decode z_Md_make.2.2.1 37 = .ok (.istore 4, 2) := by decide +kernel
theorem d_Md_make_39 : decode z_Md_make.2.2.1 39 = .ok (.aload_n 0, 1) := by decide +kernel
theorem d_Md_make_40 : decode z_Md_make.2.2.1 40 = .ok (.aload_n 0, 1) := by decide +kernel
theorem d_Md_make_41 : decode z_Md_make.2.2.1 41 = .ok (.getfield 20, 3) := by decide +kernel
theorem d_Md_make_44 : decode z_Md_make.2.2.1 44 = .ok (.ifCond .ne 7, 3) := by decide +kernel
theorem d_Md_make_47 : decode z_Md_make.2.2.1 47 = .ok (.iconst 1, 1) := by decide +kernel
theorem d_Md_make_48 : decode z_Md_make.2.2.1 48 = .ok (.goto 32, 3) := by decide +kernel
theorem d_Md_make_51 : decode z_Md_make.2.2.1 51 = .ok (.iload 4, 2) := by decide +kernel
theorem d_Md_make_53 : decode z_Md_make.2.2.1 53 = .ok (.ifCond .eq 11, 3) := by decide +kernel
theorem d_Md_make_56 : decode z_Md_make.2.2.1 56 = .ok (.iload_n 2, 1) := by decide +kernel
theorem d_Md_make_57 : decode z_Md_make.2.2.1 57 = .ok (.iload_n 3, 1) := by decide +kernel
theorem d_Md_make_58 : decode z_Md_make.2.2.1 58 = .ok (.invokestatic 123, 3) := by decide +kernel
theorem d_Md_make_61 : decode z_Md_make.2.2.1 61 = .ok (.ifCond .ne 7, 3) := by decide +kernel
theorem d_Md_make_64 : decode z_Md_make.2.2.1 64 = .ok (.iconst 2, 1) := by decide +kernel
theorem d_Md_make_65 : decode z_Md_make.2.2.1 65 = .ok (.goto 15, 3) := by decide +kernel
theorem d_Md_make_68 : decode z_Md_make.2.2.1 68 = .ok (.aload_n 0, 1) := by decide +kernel
theorem d_Md_make_69 : decode z_Md_make.2.2.1 69 = .ok (.invokevirtual 52, 3) := by decide +kernel
theorem d_Md_make_72 : decode z_Md_make.2.2.1 72 = .ok (.ifCond .eq 7, 3) := by decide +kernel
theorem d_Md_make_75 : decode z_Md_make.2.2.1 75 = .ok (.iconst 3, 1) := by decide +kernel
theorem d_Md_make_76 : decode z_Md_make.2.2.1 76 = .ok (.goto 4, 3) := by decide +kernel
theorem d_Md_make_79 : decode z_Md_make.2.2.1 79 = .ok (.iconst 0, 1) := by decide +kernel
theorem d_Md_make_80 : decode z_Md_make.2.2.1 80 = .ok (.putfield 37, 3) := by decide +kernel
theorem d_Md_make_83 : decode z_Md_make.2.2.1 83 = .ok (.aload_n 0, 1) := by decide +kernel
theorem d_Md_make_84 : decode z_Md_make.2.2.1 84 = .ok (.getfield 37, 3) := by decide +kernel
theorem d_Md_make_87 : decode z_Md_make.2.2.1 87 = .ok (.ifCond .le 5, 3) := by decide +kernel
theorem d_Md_make_90 : decode z_Md_make.2.2.1 90 = .ok (.iconst 0, 1) := by decide +kernel
theorem d_Md_make_91 : decode z_Md_make.2.2.1 91 = .ok (.ireturn, 1) := by decide +kernel
theorem d_Md_make_92 : decode z_Md_make.2.2.1 92 = .ok (.iconst 0, 1) := by decide +kernel
theorem d_Md_make_93 : decode z_Md_make.2.2.1 93 = .ok (.istore 5, 2) := by decide +kernel
theorem d_Md_make_95 : decode z_Md_make.2.2.1 95 = .ok (.iload 5, 2) := by decide +kernel
theorem d_Md_make_97 : decode z_Md_make.2.2.1 97 = .ok (.iconst 4, 1) := by decide +kernel
theorem d_Md_make_98 : decode z_Md_make.2.2.1 98 = .ok (.if_icmp .ge 21, 3) := by decide +kernel
theorem d_Md_make_101 : decode z_Md_make.2.2.1 101 = .ok (.aload_n 0, 1) := by decide +kernel
theorem d_Md_make_102 : decode z_Md_make.2.2.1 102 = .ok (.getfield 28, 3) := by decide +kernel
theorem d_Md_make_105 : decode z_Md_make.2.2.1 105 = .ok (.iconst 5, 1) := by decide +kernel
theorem d_Md_make_106 : decode z_Md_make.2.2.1 106 = .ok (.iload 5, 2) := by decide +kernel
theorem d_Md_make_108 : decode z_Md_make.2.2.1 108 = .ok (.iadd, 1) := by decide +kernel
theorem d_Md_make_109 : decode z_Md_make.2.2.1 109 = .ok (.iaload, 1) := by decide +kernel
theorem d_Md_make_110 : decode z_Md_make.2.2.1 110 = .ok (.ifCond .eq 9, 3) := by decide +kernel
theorem d_Md_make_113 : decode z_Md_make.2.2.1 113 = .ok (.iinc 5 1, 3) := by decide +kernel
theorem d_Md_make_116 : decode z_Md_make.2.2.1 116 = .ok (.goto (-21), 3) := by decide +kernel
theorem d_Md_make_119 : decode z_Md_make.2.2.1 119 = .ok (.aload_n 0, 1) := by decide +kernel
theorem d_Md_make_120 : decode z_Md_make.2.2.1 120 = .ok (.invokevirtual 107, 3) := by decide +kernel
theorem d_Md_make_123 : decode z_Md_make.2.2.1 123 = .ok (.iload 5, 2) := by decide +kernel
theorem d_Md_make_125 : decode z_Md_make.2.2.1 125 = .ok (.iconst 4, 1) := by decide +kernel
theorem d_Md_make_126 : decode z_Md_make.2.2.1 126 = .ok (.if_icmp .ge 24, 3) := by decide +kernel
theorem d_Md_make_129 : decode z_Md_make.2.2.1 129 = .ok (.aload_n 0, 1) := by decide +kernel
theorem d_Md_make_130 : decode z_Md_make.2.2.1 130 = .ok (.getfield 31, 3) := by decide +kernel
theorem d_Md_make_133 : decode z_Md_make.2.2.1 133 = .ok (.iconst 5, 1) := by decide +kernel
theorem d_Md_make_134 : decode z_Md_make.2.2.1 134 = .ok (.iload 5, 2) := by decide +kernel
theorem d_Md_make_136 : decode z_Md_make.2.2.1 136 = .ok (.iadd, 1) := by decide +kernel
theorem d_Md_make_137 : decode z_Md_make.2.2.1 137 = .ok (.iconst 1, 1) := by decide +kernel
theorem d_Md_make_138 : decode z_Md_make.2.2.1 138 = .ok (.iload_n 1, 1) := by decide +kernel
theorem d_Md_make_139 : decode z_Md_make.2.2.1 139 = .ok (.iadd, 1) := by decide +kernel
theorem d_Md_make_140 : decode z_Md_make.2.2.1 140 = .ok (.iconst 4, 1) := by decide +kernel
theorem d_Md_make_141 : decode z_Md_make.2.2.1 141 = .ok (.iload_n 2, 1) := by decide +kernel
theorem d_Md_make_142 : decode z_Md_make.2.2.1 142 = .ok (.imul, 1) := by decide +kernel
theorem d_Md_make_143 : decode z_Md_make.2.2.1 143 = .ok (.iadd, 1) := by decide +kernel
theorem d_Md_make_144 : decode z_Md_make.2.2.1 144 = .ok (.bipush 32, 2) := by decide +kernel
theorem d_Md_make_146 : decode z_Md_make.2.2.1 146 = .ok (.iload_n 3, 1) := by decide +kernel
theorem d_Md_make_147 : decode z_Md_make.2.2.1 147 = .ok (.imul, 1) := by decide +kernel
theorem d_Md_make_148 : decode z_Md_make.2.2.1 148 = .ok (.iadd, 1) := by decide +kernel
theorem d_Md_make_149 : decode z_Md_make.2.2.1 149 = .ok (.iastore, 1) := by decide +kernel
theorem d_Md_make_150 : decode z_Md_make.2.2.1 150 = .ok (.iload 5, 2) := by decide +kernel
theorem d_Md_make_152 : decode z_Md_make.2.2.1 152 = .ok (.iconst 4, 1) := by decide +kernel
theorem d_Md_make_153 : decode z_Md_make.2.2.1 153 = .ok (.if_icmp .eq 13, 3) := by decide +kernel
theorem d_Md_make_156 : decode z_Md_make.2.2.1 156 = .ok (.aload_n 0, 1) := by decide +kernel
theorem d_Md_make_157 : decode z_Md_make.2.2.1 157 = .ok (.iload 5, 2) := by decide +kernel
theorem d_Md_make_159 : decode z_Md_make.2.2.1 159 = .ok (.iconst 0, 1) := by decide +kernel
theorem d_Md_make_160 : decode z_Md_make.2.2.1 160 = .ok (.invokevirtual 127, 3) := by decide +kernel
theorem d_Md_make_163 : decode z_Md_make.2.2.1 163 = .ok (.ifCond .ne 10, 3) := by decide +kernel
theorem d_Md_make_166 : decode z_Md_make.2.2.1 166 = .ok (.aload_n 0, 1) := by decide +kernel
theorem d_Md_make_167 : decode z_Md_make.2.2.1 167 = .ok (.iconst 3, 1) := by decide +kernel
theorem d_Md_make_168 : decode z_Md_make.2.2.1 168 = .ok (.putfield 37, 3) := by decide +kernel
theorem d_Md_make_171 : decode z_Md_make.2.2.1 171 = .ok (.iconst 0, 1) := by decide +kernel
theorem d_Md_make_172 : decode z_Md_make.2.2.1 172 = .ok (.ireturn, 1) := by decide +kernel
theorem d_Md_make_173 : decode z_Md_make.2.2.1 173 = .ok (.aload_n 0, 1) := by decide +kernel
theorem d_Md_make_174 : decode z_Md_make.2.2.1 174 = .ok (.iload 5, 2) := by decide +kernel
theorem d_Md_make_176 : decode z_Md_make.2.2.1 176 = .ok (.iconst 0, 1) := by decide +kernel
theorem d_Md_make_177 : decode z_Md_make.2.2.1 177 = .ok (.invokevirtual 130, 3) := by decide +kernel
theorem d_Md_make_180 : decode z_Md_make.2.2.1 180 = .ok (.aload_n 0, 1) := by decide +kernel
theorem d_Md_make_181 : decode z_Md_make.2.2.1 181 = .ok (.invokevirtual 110, 3) := by decide +kernel
theorem d_Md_make_184 : decode z_Md_make.2.2.1 184 = .ok (.aload_n 0, 1) := by decide +kernel
theorem d_Md_make_185 : decode z_Md_make.2.2.1 185 = .ok (.iload 5, 2) := by decide +kernel
theorem d_Md_make_187 : decode z_Md_make.2.2.1 187 = .ok (.invokevirtual 113, 3) := by decide +kernel
theorem d_Md_make_190 : decode z_Md_make.2.2.1 190 = .ok (.ireturn, 1) := by decide +kernel
def lc_Md_make_0 : jx_Cx := (cAnd (cCmp rLt (eI 5) (eInt (nI 4))) (cCmp0 rNe (eLd 0 (eGf [8] 6 (eA 0)) (eBin oAdd (eInt (nI 5)) (eI 5)))))
def lb_Md_make_0 : jx_St := (sInc 5 (nI 1))
theorem ml_Md_make_0 : jx_Ts z_Md_make 95 (sWh 64 lc_Md_make_0 lb_Md_make_0) [119] := by
  unfold lc_Md_make_0 lb_Md_make_0
  exact t_wh (EA := [116]) (Fs := [119]) (E := [119]) 64 (s_andg (s_cmp (s_iload d_Md_make_95) (s_iconst d_Md_make_97 (by decide)) (s_icmp_geF (tgt := 119) d_Md_make_98 (by decide))) (by decide) (al_1 (s_cmp0 (s_load (s_getf (s_aload_n d_Md_make_101 rfl) fi_Md_28 d_Md_make_102) (s_bin (s_iconst d_Md_make_105 (by decide)) (s_iload d_Md_make_106) (s_iadd d_Md_make_108)) (s_iald d_Md_make_109)) (s_if_eqF (tgt := 119) d_Md_make_110 (by decide))))) (by decide) (t_iinc d_Md_make_113 (by decide) (by decide)) (al_1 (Or.inr ⟨-21, d_Md_make_116, by decide⟩)) (by decide)
def bd_Md_make : jx_St := (sSeq (sAsg 0 4 (eIte (cAnd (cAnd (cCmp0 rGe (eI 1)) (cCmp rLt (eI 1) (eInt (nI 3)))) (cIte (cCmp rEq (eI 1) (eInt (nI 1))) (cOr (cCmp rEq (eI 2) (eInt (nI 2))) (cCmp rEq (eI 2) (eInt (nI 3)))) (cCmp rEq (eI 2) (eInt (nI 1))))) (eInt (nI 1)) (eInt (nI 0)))) (sSeq (sPf [8] 0 0 (eA 0) (eIte (cNot (cCmp0 rNe (eGf [8] 4 (eA 0)))) (eInt (nI 1)) (eIte (cOr (cNot (cCmp0 rNe (eI 4))) (cNot (cCmp0 rNe (eCl (jx_ec f_Md_fits) [(eI 2), (eI 3)])))) (eInt (nI 2)) (eIte (cCmp0 rNe (eCl (jx_ev tb_Md_isOneAbsent) [(eA 0)])) (eInt (nI 3)) (eInt (nI 0)))))) (sSeq (sIf (cCmp0 rGt (eGf [8] 0 (eA 0))) (sRet 0 (eInt (nI 0))) sSkip) (sSeq (sAsg 0 5 (eInt (nI 0))) (sSeq (sWh 64 lc_Md_make_0 lb_Md_make_0) (sSeq (sCl (jx_ev tb_Md_begin) [(eA 0)]) (sSeq (sIf (cCmp rLt (eI 5) (eInt (nI 4))) (sSt 0 0 (eGf [8] 7 (eA 0)) (eBin oAdd (eInt (nI 5)) (eI 5)) (eBin oAdd (eBin oAdd (eBin oAdd (eInt (nI 1)) (eI 1)) (eBin oMul (eInt (nI 4)) (eI 2))) (eBin oMul (eInt (nI 32)) (eI 3)))) sSkip) (sSeq (sIf (cOr (cCmp rEq (eI 5) (eInt (nI 4))) (cNot (cCmp0 rNe (eCl (jx_ev tb_Md_find) [(eA 0), (eI 5), (eInt (nI 0))])))) (sSeq (sPf [8] 0 0 (eA 0) (eInt (nI 3))) (sRet 0 (eInt (nI 0)))) sSkip) (sSeq (sCl (jx_ev tb_Md_clear) [(eA 0), (eI 5), (eInt (nI 0))]) (sSeq (sCl (jx_ev tb_Md_change) [(eA 0)]) (sRet 0 (eCl (jx_ev tb_Md_ended) [(eA 0), (eI 5)]))))))))))))
theorem m_Md_make : jx_Ts z_Md_make 0 bd_Md_make [] := by
  unfold bd_Md_make
  exact (t_seq (t_asg (s_ite (q4 := 37) (s_andg (s_andg (s_cmp0 (s_iload_n d_Md_make_0 rfl) (s_if_ltF (tgt := 36) d_Md_make_1 (by decide))) (by decide) (al_1 (s_cmp (s_iload_n d_Md_make_4 rfl) (s_iconst d_Md_make_5 (by decide)) (s_icmp_geF (tgt := 36) d_Md_make_6 (by decide))))) (by decide) (al_1 (s_citeg (s_cmp (s_iload_n d_Md_make_9 rfl) (s_iconst d_Md_make_10 (by decide)) (s_icmp_neF (tgt := 27) d_Md_make_11 (by decide))) (by decide) (al_1 (cd_goto (q := 24) (tgt := 32) (s_org (s_csub (T1 := [32]) (F1 := [19]) (Ts := [24, 32]) (Fs := [19]) (s_cmp (s_iload_n d_Md_make_14 rfl) (s_iconst d_Md_make_15 (by decide)) (s_icmp_eqT (tgt := 32) d_Md_make_16 (by decide))) (by decide) (by decide)) (by decide) (al_1 (s_csub (T1 := [24]) (F1 := [36]) (Ts := [24, 32]) (Fs := [36]) (s_cmp (s_iload_n d_Md_make_19 rfl) (s_iconst d_Md_make_20 (by decide)) (s_icmp_neF (tgt := 36) d_Md_make_21 (by decide))) (by decide) (by decide)))) d_Md_make_24 (by decide) (by decide))) (al_1 (s_cmp (s_iload_n d_Md_make_27 rfl) (s_iconst d_Md_make_28 (by decide)) (s_icmp_neF (tgt := 36) d_Md_make_29 (by decide))))))) (s_iconst d_Md_make_32 (by decide)) d_Md_make_33 (by decide) (s_iconst d_Md_make_36 (by decide))) (fun v k h => b_istore d_Md_make_37 (by decide) h)) (t_seq (t_pf (s_aload_n d_Md_make_39 rfl) (s_ite (q4 := 80) (s_not (s_cmp0 (s_getf (s_aload_n d_Md_make_40 rfl) fi_Md_20 d_Md_make_41) (s_if_neT (tgt := 51) d_Md_make_44 (by decide))) (by decide)) (s_iconst d_Md_make_47 (by decide)) d_Md_make_48 (by decide) (s_ite (q4 := 80) (s_org (s_not (s_cmp0 (s_iload d_Md_make_51) (s_if_eqF (tgt := 64) d_Md_make_53 (by decide))) (by decide)) (by decide) (al_1 (s_not (s_cmp0 (s_cl (s_a1 (s_iload_n d_Md_make_56 rfl) (s_a1 (s_iload_n d_Md_make_57 rfl) s_a0)) (s_ecs me_Md_fits mw_Md_fits (by decide) (by decide) (by decide) lm_Md_123 w_st_Md_fits w_in_Md pd_Md_fits d_Md_make_58)) (s_if_neT (tgt := 68) d_Md_make_61 (by decide))) (by decide)))) (s_iconst d_Md_make_64 (by decide)) d_Md_make_65 (by decide) (s_ite (q4 := 80) (s_cmp0 (s_cl (s_a1 (s_aload_n d_Md_make_68 rfl) s_a0) (s_ecv (ve_Md_isOneAbsent (by decide) (by decide)) dc_Md_isOneAbsent (by decide) lm_Md_52 pd_Md_isOneAbsent d_Md_make_69)) (s_if_eqF (tgt := 79) d_Md_make_72 (by decide))) (s_iconst d_Md_make_75 (by decide)) d_Md_make_76 (by decide) (s_iconst d_Md_make_79 (by decide))))) fi_Md_37 rfl (Or.inl rfl) d_Md_make_80) (t_seq (t_if1 (Fs := [92]) (E := [92]) (s_cmp0 (s_getf (s_aload_n d_Md_make_83 rfl) fi_Md_37 d_Md_make_84) (s_if_leF (tgt := 92) d_Md_make_87 (by decide))) (by decide) (t_sub (E := []) (E' := [92]) (t_ret .int (s_iconst d_Md_make_90 (by decide)) rfl (by decide) d_Md_make_91) (by decide)) (by decide)) (t_seq (t_asg (s_iconst d_Md_make_92 (by decide)) (fun v k h => b_istore d_Md_make_93 (by decide) h)) (t_seq ml_Md_make_0 (t_seq (t_cl (s_a1 (s_aload_n d_Md_make_119 rfl) s_a0) (s_ecv (ve_Md_begin (by decide) (by decide)) dc_Md_begin (by decide) lm_Md_107 pd_Md_begin d_Md_make_120)) (t_seq (t_if1 (Fs := [150]) (E := [150]) (s_cmp (s_iload d_Md_make_123) (s_iconst d_Md_make_125 (by decide)) (s_icmp_geF (tgt := 150) d_Md_make_126 (by decide))) (by decide) (t_sub (E := [150]) (E' := [150]) (t_st (s_getf (s_aload_n d_Md_make_129 rfl) fi_Md_31 d_Md_make_130) (s_bin (s_iconst d_Md_make_133 (by decide)) (s_iload d_Md_make_134) (s_iadd d_Md_make_136)) (s_bin (s_bin (s_bin (s_iconst d_Md_make_137 (by decide)) (s_iload_n d_Md_make_138 rfl) (s_iadd d_Md_make_139)) (s_bin (s_iconst d_Md_make_140 (by decide)) (s_iload_n d_Md_make_141 rfl) (s_imul d_Md_make_142)) (s_iadd d_Md_make_143)) (s_bin (s_bipush d_Md_make_144 (by decide)) (s_iload_n d_Md_make_146 rfl) (s_imul d_Md_make_147)) (s_iadd d_Md_make_148)) (s_iast d_Md_make_149)) (by decide)) (by decide)) (t_seq (t_if1 (Fs := [173]) (E := [173]) (s_org (s_cmp (s_iload d_Md_make_150) (s_iconst d_Md_make_152 (by decide)) (s_icmp_eqT (tgt := 166) d_Md_make_153 (by decide))) (by decide) (al_1 (s_not (s_cmp0 (s_cl (s_a1 (s_aload_n d_Md_make_156 rfl) (s_a1 (s_iload d_Md_make_157) (s_a1 (s_iconst d_Md_make_159 (by decide)) s_a0))) (s_ecv (ve_Md_find (by decide) (by decide)) dc_Md_find (by decide) lm_Md_127 pd_Md_find d_Md_make_160)) (s_if_neT (tgt := 173) d_Md_make_163 (by decide))) (by decide)))) (by decide) (t_sub (E := []) (E' := [173]) (t_seq (t_pf (s_aload_n d_Md_make_166 rfl) (s_iconst d_Md_make_167 (by decide)) fi_Md_37 rfl (Or.inl rfl) d_Md_make_168) (t_ret .int (s_iconst d_Md_make_171 (by decide)) rfl (by decide) d_Md_make_172)) (by decide)) (by decide)) (t_seq (t_cl (s_a1 (s_aload_n d_Md_make_173 rfl) (s_a1 (s_iload d_Md_make_174) (s_a1 (s_iconst d_Md_make_176 (by decide)) s_a0))) (s_ecv (ve_Md_clear (by decide) (by decide)) dc_Md_clear (by decide) lm_Md_130 pd_Md_clear d_Md_make_177)) (t_seq (t_cl (s_a1 (s_aload_n d_Md_make_180 rfl) s_a0) (s_ecv (ve_Md_change (by decide) (by decide)) dc_Md_change (by decide) lm_Md_110 pd_Md_change d_Md_make_181)) (t_ret .int (s_cl (s_a1 (s_aload_n d_Md_make_184 rfl) (s_a1 (s_iload d_Md_make_185) s_a0)) (s_ecv (ve_Md_ended (by decide) (by decide)) dc_Md_ended (by decide) lm_Md_113 pd_Md_ended d_Md_make_187)) rfl (by decide) d_Md_make_190)))))))))))
def f_Md_make : jx_Mt := jx_fn 4 6 (bd_Md_make fun _ _ => none)
theorem me_Md_make : jx_Me 4 z_Md_make f_Md_make := jx_Me.ofT (by decide) m_Md_make
theorem mw_Md_make : jx_mw ⟨"ExtentShelfModel", "make", "(III)I"⟩ z_Md_make := ⟨rfl, rfl, by decide +kernel, ⟨by decide, by decide⟩, by decide +kernel⟩
theorem pd_Md_make : (parseMethodDescriptor (⟨"ExtentShelfModel", "make", "(III)I"⟩ : MethodName).desc).map (fun d => d.parameters.length) = some 3 := by decide +kernel
abbrev tb_Md_isVolume : List (Nat × jx_Mt) := [(8, f_Md_isVolume)]
theorem ve_Md_isVolume {fr lo : Nat} (h1 : 1 ≤ fr) (h2 : 29 ≤ lo) : ∀ q ∈ tb_Md_isVolume, jx_ve ⟨"ExtentShelfModel", "isVolume", "(I)Z"⟩ 1 fr lo q.1 q.2 := tv_1 ⟨R_Model, F_Model, 13, ⟨"ExtentShelfModel", "isVolume", "(I)Z"⟩, z_Md_isVolume, rfl, by decide +kernel, mw_Md_isVolume, by decide +kernel, me_Md_isVolume, Nat.le_trans (by decide) h1, Nat.le_trans (by decide) h2⟩
theorem dc_Md_isVolume : jx_dc ⟨"ExtentShelfModel", "isVolume", "(I)Z"⟩ := ⟨⟨by decide, by decide⟩, Or.inr ⟨by decide +kernel, prog_11_method_10_code, 2, _, (by decide +kernel : Cond.code ⟨"ExtentShelfModel", "isVolume", "(I)Z"⟩ prog_11_method_10_code 2 (some .boolean) ∈ jx_tbl)⟩, "ExtentShelfModel", ⟨"ExtentShelfModel", "isVolume", "(I)Z"⟩, ⟨"ExtentShelfModel", "isVolume", "(I)Z"⟩, by decide +kernel, rfl⟩
/-! ExtentShelfModel.grow(II)I -/
abbrev z_Md_grow : jx_Z := ("ExtentShelfModel", "grow", prog_11_method_33_code, 4, some .int, 5, 164)
theorem d_Md_grow_0 : decode z_Md_grow.2.2.1 0 = .ok (.aload_n 0, 1) := by decide +kernel
theorem d_Md_grow_1 : decode z_Md_grow.2.2.1 1 = .ok (.aload_n 0, 1) := by decide +kernel
theorem d_Md_grow_2 : decode z_Md_grow.2.2.1 2 = .ok (.getfield 20, 3) := by decide +kernel
theorem d_Md_grow_5 : decode z_Md_grow.2.2.1 5 = .ok (.ifCond .ne 7, 3) := by decide +kernel
theorem d_Md_grow_8 : decode z_Md_grow.2.2.1 8 = .ok (.iconst 1, 1) := by decide +kernel
theorem d_Md_grow_9 : decode z_Md_grow.2.2.1 9 = .ok (.goto 16, 3) := by decide +kernel
theorem d_Md_grow_12 : decode z_Md_grow.2.2.1 12 = .ok (.aload_n 0, 1) := by decide +kernel
theorem d_Md_grow_13 : decode z_Md_grow.2.2.1 13 = .ok (.iload_n 1, 1) := by decide +kernel
theorem d_Md_grow_14 : decode z_Md_grow.2.2.1 14 = .ok (.invokevirtual 134, 3) := by decide +kernel
theorem d_Md_grow_17 : decode z_Md_grow.2.2.1 17 = .ok (.ifCond .ne 7, 3) := by decide +kernel
theorem d_Md_grow_20 : decode z_Md_grow.2.2.1 20 = .ok (.iconst 2, 1) := by decide +kernel
theorem d_Md_grow_21 : decode z_Md_grow.2.2.1 21 = .ok (.goto 4, 3) := by decide +kernel
theorem d_Md_grow_24 : decode z_Md_grow.2.2.1 24 = .ok (.iconst 0, 1) := by decide +kernel
theorem d_Md_grow_25 : decode z_Md_grow.2.2.1 25 = .ok (.putfield 37, 3) := by decide +kernel
theorem d_Md_grow_28 : decode z_Md_grow.2.2.1 28 = .ok (.aload_n 0, 1) := by decide +kernel
theorem d_Md_grow_29 : decode z_Md_grow.2.2.1 29 = .ok (.getfield 37, 3) := by decide +kernel
theorem d_Md_grow_32 : decode z_Md_grow.2.2.1 32 = .ok (.ifCond .le 5, 3) := by decide +kernel
theorem d_Md_grow_35 : decode z_Md_grow.2.2.1 35 = .ok (.iconst 0, 1) := by decide +kernel
theorem d_Md_grow_36 : decode z_Md_grow.2.2.1 36 = .ok (.ireturn, 1) := by decide +kernel
theorem d_Md_grow_37 : decode z_Md_grow.2.2.1 37 = .ok (.aload_n 0, 1) := by decide +kernel
theorem d_Md_grow_38 : decode z_Md_grow.2.2.1 38 = .ok (.getfield 28, 3) := by decide +kernel
theorem d_Md_grow_41 : decode z_Md_grow.2.2.1 41 = .ok (.iload_n 1, 1) := by decide +kernel
theorem d_Md_grow_42 : decode z_Md_grow.2.2.1 42 = .ok (.invokestatic 86, 3) := by decide +kernel
theorem d_Md_grow_45 : decode z_Md_grow.2.2.1 45 = .ok (.istore_n 3, 1) := by decide +kernel
theorem d_Md_grow_46 : decode z_Md_grow.2.2.1 46 = .ok (.aload_n 0, 1) := by decide +kernel
theorem d_Md_grow_47 : decode z_Md_grow.2.2.1 47 = .ok (.iload_n 2, 1) := by decide +kernel
theorem d_Md_grow_48 : decode z_Md_grow.2.2.1 48 = .ok (.iconst 1, 1) := by decide +kernel
theorem d_Md_grow_49 : decode z_Md_grow.2.2.1 49 = .ok (.if_icmp .lt 25, 3) := by decide +kernel
theorem d_Md_grow_52 : decode z_Md_grow.2.2.1 52 = .ok (.iload_n 2, 1) := by decide +kernel
theorem d_Md_grow_53 : decode z_Md_grow.2.2.1 53 = .ok (.iconst 5, 1) := by decide +kernel
theorem d_Md_grow_54 : decode z_Md_grow.2.2.1 54 = .ok (.if_icmp .gt 20, 3) := by decide +kernel
theorem d_Md_grow_57 : decode z_Md_grow.2.2.1 57 = .ok (.aload_n 0, 1) := by decide +kernel
theorem d_Md_grow_58 : decode z_Md_grow.2.2.1 58 = .ok (.getfield 28, 3) := by decide +kernel
theorem d_Md_grow_61 : decode z_Md_grow.2.2.1 61 = .ok (.iload_n 1, 1) := by decide +kernel
theorem d_Md_grow_62 : decode z_Md_grow.2.2.1 62 = .ok (.invokestatic 79, 3) := by decide +kernel
theorem d_Md_grow_65 : decode z_Md_grow.2.2.1 65 = .ok (.iload_n 3, 1) := by decide +kernel
theorem d_Md_grow_66 : decode z_Md_grow.2.2.1 66 = .ok (.iload_n 2, 1) := by decide +kernel
theorem d_Md_grow_67 : decode z_Md_grow.2.2.1 67 = .ok (.iadd, 1) := by decide +kernel
theorem d_Md_grow_68 : decode z_Md_grow.2.2.1 68 = .ok (.invokestatic 123, 3) := by decide +kernel
theorem d_Md_grow_71 : decode z_Md_grow.2.2.1 71 = .ok (.ifCond .ne 7, 3) := by decide +kernel
theorem d_Md_grow_74 : decode z_Md_grow.2.2.1 74 = .ok (.iconst 3, 1) := by decide +kernel
theorem d_Md_grow_75 : decode z_Md_grow.2.2.1 75 = .ok (.goto 15, 3) := by decide +kernel
theorem d_Md_grow_78 : decode z_Md_grow.2.2.1 78 = .ok (.aload_n 0, 1) := by decide +kernel
theorem d_Md_grow_79 : decode z_Md_grow.2.2.1 79 = .ok (.invokevirtual 52, 3) := by decide +kernel
theorem d_Md_grow_82 : decode z_Md_grow.2.2.1 82 = .ok (.ifCond .eq 7, 3) := by decide +kernel
theorem d_Md_grow_85 : decode z_Md_grow.2.2.1 85 = .ok (.iconst 4, 1) := by decide +kernel
theorem d_Md_grow_86 : decode z_Md_grow.2.2.1 86 = .ok (.goto 4, 3) := by decide +kernel
theorem d_Md_grow_89 : decode z_Md_grow.2.2.1 89 = .ok (.iconst 0, 1) := by decide +kernel
theorem d_Md_grow_90 : decode z_Md_grow.2.2.1 90 = .ok (.putfield 37, 3) := by decide +kernel
theorem d_Md_grow_93 : decode z_Md_grow.2.2.1 93 = .ok (.aload_n 0, 1) := by decide +kernel
theorem d_Md_grow_94 : decode z_Md_grow.2.2.1 94 = .ok (.getfield 37, 3) := by decide +kernel
theorem d_Md_grow_97 : decode z_Md_grow.2.2.1 97 = .ok (.ifCond .le 5, 3) := by decide +kernel
theorem d_Md_grow_100 : decode z_Md_grow.2.2.1 100 = .ok (.iconst 0, 1) := by decide +kernel
theorem d_Md_grow_101 : decode z_Md_grow.2.2.1 101 = .ok (.ireturn, 1) := by decide +kernel
theorem d_Md_grow_102 : decode z_Md_grow.2.2.1 102 = .ok (.aload_n 0, 1) := by decide +kernel
theorem d_Md_grow_103 : decode z_Md_grow.2.2.1 103 = .ok (.invokevirtual 107, 3) := by decide +kernel
theorem d_Md_grow_106 : decode z_Md_grow.2.2.1 106 = .ok (.aload_n 0, 1) := by decide +kernel
theorem d_Md_grow_107 : decode z_Md_grow.2.2.1 107 = .ok (.getfield 31, 3) := by decide +kernel
theorem d_Md_grow_110 : decode z_Md_grow.2.2.1 110 = .ok (.iconst 5, 1) := by decide +kernel
theorem d_Md_grow_111 : decode z_Md_grow.2.2.1 111 = .ok (.iload_n 1, 1) := by decide +kernel
theorem d_Md_grow_112 : decode z_Md_grow.2.2.1 112 = .ok (.iadd, 1) := by decide +kernel
theorem d_Md_grow_113 : decode z_Md_grow.2.2.1 113 = .ok (.aload_n 0, 1) := by decide +kernel
theorem d_Md_grow_114 : decode z_Md_grow.2.2.1 114 = .ok (.getfield 31, 3) := by decide +kernel
theorem d_Md_grow_117 : decode z_Md_grow.2.2.1 117 = .ok (.iconst 5, 1) := by decide +kernel
theorem d_Md_grow_118 : decode z_Md_grow.2.2.1 118 = .ok (.iload_n 1, 1) := by decide +kernel
theorem d_Md_grow_119 : decode z_Md_grow.2.2.1 119 = .ok (.iadd, 1) := by decide +kernel
theorem d_Md_grow_120 : decode z_Md_grow.2.2.1 120 = .ok (.iaload, 1) := by decide +kernel
theorem d_Md_grow_121 : decode z_Md_grow.2.2.1 121 = .ok (.bipush 32, 2) := by decide +kernel
theorem d_Md_grow_123 : decode z_Md_grow.2.2.1 123 = .ok (.iload_n 2, 1) := by decide +kernel
theorem d_Md_grow_124 : decode z_Md_grow.2.2.1 124 = .ok (.imul, 1) := by decide +kernel
theorem d_Md_grow_125 : decode z_Md_grow.2.2.1 125 = .ok (.iadd, 1) := by decide +kernel
theorem d_Md_grow_126 : decode z_Md_grow.2.2.1 126 = .ok (.iastore, 1) := by decide +kernel
theorem d_Md_grow_127 : decode z_Md_grow.2.2.1 127 = .ok (.aload_n 0, 1) := by decide +kernel
theorem d_Md_grow_128 : decode z_Md_grow.2.2.1 128 = .ok (.iload_n 1, 1) := by decide +kernel
theorem d_Md_grow_129 : decode z_Md_grow.2.2.1 129 = .ok (.iload_n 3, 1) := by decide +kernel
theorem d_Md_grow_130 : decode z_Md_grow.2.2.1 130 = .ok (.invokevirtual 127, 3) := by decide +kernel
theorem d_Md_grow_133 : decode z_Md_grow.2.2.1 133 = .ok (.ifCond .ne 10, 3) := by decide +kernel
theorem d_Md_grow_136 : decode z_Md_grow.2.2.1 136 = .ok (.aload_n 0, 1) := by decide +kernel
theorem d_Md_grow_137 : decode z_Md_grow.2.2.1 137 = .ok (.iconst 4, 1) := by decide +kernel
theorem d_Md_grow_138 : decode z_Md_grow.2.2.1 138 = .ok (.putfield 37, 3) := by decide +kernel
theorem d_Md_grow_141 : decode z_Md_grow.2.2.1 141 = .ok (.iconst 0, 1) := by decide +kernel
theorem d_Md_grow_142 : decode z_Md_grow.2.2.1 142 = .ok (.ireturn, 1) := by decide +kernel
theorem d_Md_grow_143 : decode z_Md_grow.2.2.1 143 = .ok (.aload_n 0, 1) := by decide +kernel
theorem d_Md_grow_144 : decode z_Md_grow.2.2.1 144 = .ok (.iload_n 1, 1) := by decide +kernel
theorem d_Md_grow_145 : decode z_Md_grow.2.2.1 145 = .ok (.iload_n 3, 1) := by decide +kernel
theorem d_Md_grow_146 : decode z_Md_grow.2.2.1 146 = .ok (.invokevirtual 130, 3) := by decide +kernel
theorem d_Md_grow_149 : decode z_Md_grow.2.2.1 149 = .ok (.aload_n 0, 1) := by decide +kernel
theorem d_Md_grow_150 : decode z_Md_grow.2.2.1 150 = .ok (.invokevirtual 110, 3) := by decide +kernel
theorem d_Md_grow_153 : decode z_Md_grow.2.2.1 153 = .ok (.aload_n 0, 1) := by decide +kernel
theorem d_Md_grow_154 : decode z_Md_grow.2.2.1 154 = .ok (.iload_n 3, 1) := by decide +kernel
theorem d_Md_grow_155 : decode z_Md_grow.2.2.1 155 = .ok (.iload_n 2, 1) := by decide +kernel
theorem d_Md_grow_156 : decode z_Md_grow.2.2.1 156 = .ok (.iadd, 1) := by decide +kernel
theorem d_Md_grow_157 : decode z_Md_grow.2.2.1 157 = .ok (.invokevirtual 113, 3) := by decide +kernel
theorem d_Md_grow_160 : decode z_Md_grow.2.2.1 160 = .ok (.ireturn, 1) := by decide +kernel
def bd_Md_grow : jx_St := (sSeq (sPf [8] 0 0 (eA 0) (eIte (cNot (cCmp0 rNe (eGf [8] 4 (eA 0)))) (eInt (nI 1)) (eIte (cNot (cCmp0 rNe (eCl (jx_ev tb_Md_isVolume) [(eA 0), (eI 1)]))) (eInt (nI 2)) (eInt (nI 0))))) (sSeq (sIf (cCmp0 rGt (eGf [8] 0 (eA 0))) (sRet 0 (eInt (nI 0))) sSkip) (sSeq (sAsg 0 3 (eCl (jx_ec f_Md_elementsOf) [(eGf [8] 6 (eA 0)), (eI 1)])) (sSeq (sPf [8] 0 0 (eA 0) (eIte (cOr (cOr (cCmp rLt (eI 2) (eInt (nI 1))) (cCmp rGt (eI 2) (eInt (nI 5)))) (cNot (cCmp0 rNe (eCl (jx_ec f_Md_fits) [(eCl (jx_ec f_Md_columnsOf) [(eGf [8] 6 (eA 0)), (eI 1)]), (eBin oAdd (eI 3) (eI 2))])))) (eInt (nI 3)) (eIte (cCmp0 rNe (eCl (jx_ev tb_Md_isOneAbsent) [(eA 0)])) (eInt (nI 4)) (eInt (nI 0))))) (sSeq (sIf (cCmp0 rGt (eGf [8] 0 (eA 0))) (sRet 0 (eInt (nI 0))) sSkip) (sSeq (sCl (jx_ev tb_Md_begin) [(eA 0)]) (sSeq (sSt 0 0 (eGf [8] 7 (eA 0)) (eBin oAdd (eInt (nI 5)) (eI 1)) (eBin oAdd (eLd 0 (eGf [8] 7 (eA 0)) (eBin oAdd (eInt (nI 5)) (eI 1))) (eBin oMul (eInt (nI 32)) (eI 2)))) (sSeq (sIf (cNot (cCmp0 rNe (eCl (jx_ev tb_Md_find) [(eA 0), (eI 1), (eI 3)]))) (sSeq (sPf [8] 0 0 (eA 0) (eInt (nI 4))) (sRet 0 (eInt (nI 0)))) sSkip) (sSeq (sCl (jx_ev tb_Md_clear) [(eA 0), (eI 1), (eI 3)]) (sSeq (sCl (jx_ev tb_Md_change) [(eA 0)]) (sRet 0 (eCl (jx_ev tb_Md_ended) [(eA 0), (eBin oAdd (eI 3) (eI 2))]))))))))))))
theorem m_Md_grow : jx_Ts z_Md_grow 0 bd_Md_grow [] := by
  unfold bd_Md_grow
  exact (t_seq (t_pf (s_aload_n d_Md_grow_0 rfl) (s_ite (q4 := 25) (s_not (s_cmp0 (s_getf (s_aload_n d_Md_grow_1 rfl) fi_Md_20 d_Md_grow_2) (s_if_neT (tgt := 12) d_Md_grow_5 (by decide))) (by decide)) (s_iconst d_Md_grow_8 (by decide)) d_Md_grow_9 (by decide) (s_ite (q4 := 25) (s_not (s_cmp0 (s_cl (s_a1 (s_aload_n d_Md_grow_12 rfl) (s_a1 (s_iload_n d_Md_grow_13 rfl) s_a0)) (s_ecv (ve_Md_isVolume (by decide) (by decide)) dc_Md_isVolume (by decide) lm_Md_134 pd_Md_isVolume d_Md_grow_14)) (s_if_neT (tgt := 24) d_Md_grow_17 (by decide))) (by decide)) (s_iconst d_Md_grow_20 (by decide)) d_Md_grow_21 (by decide) (s_iconst d_Md_grow_24 (by decide)))) fi_Md_37 rfl (Or.inl rfl) d_Md_grow_25) (t_seq (t_if1 (Fs := [37]) (E := [37]) (s_cmp0 (s_getf (s_aload_n d_Md_grow_28 rfl) fi_Md_37 d_Md_grow_29) (s_if_leF (tgt := 37) d_Md_grow_32 (by decide))) (by decide) (t_sub (E := []) (E' := [37]) (t_ret .int (s_iconst d_Md_grow_35 (by decide)) rfl (by decide) d_Md_grow_36) (by decide)) (by decide)) (t_seq (t_asg (s_cl (s_a1 (s_getf (s_aload_n d_Md_grow_37 rfl) fi_Md_28 d_Md_grow_38) (s_a1 (s_iload_n d_Md_grow_41 rfl) s_a0)) (s_ecs me_Md_elementsOf mw_Md_elementsOf (by decide) (by decide) (by decide) lm_Md_86 w_st_Md_elementsOf w_in_Md pd_Md_elementsOf d_Md_grow_42)) (fun v k h => b_istore_n d_Md_grow_45 rfl (by decide) h)) (t_seq (t_pf (s_aload_n d_Md_grow_46 rfl) (s_ite (q4 := 90) (s_org (s_org (s_cmp (s_iload_n d_Md_grow_47 rfl) (s_iconst d_Md_grow_48 (by decide)) (s_icmp_ltT (tgt := 74) d_Md_grow_49 (by decide))) (by decide) (al_1 (s_cmp (s_iload_n d_Md_grow_52 rfl) (s_iconst d_Md_grow_53 (by decide)) (s_icmp_gtT (tgt := 74) d_Md_grow_54 (by decide))))) (by decide) (al_1 (s_not (s_cmp0 (s_cl (s_a1 (s_cl (s_a1 (s_getf (s_aload_n d_Md_grow_57 rfl) fi_Md_28 d_Md_grow_58) (s_a1 (s_iload_n d_Md_grow_61 rfl) s_a0)) (s_ecs me_Md_columnsOf mw_Md_columnsOf (by decide) (by decide) (by decide) lm_Md_79 w_st_Md_columnsOf w_in_Md pd_Md_columnsOf d_Md_grow_62)) (s_a1 (s_bin (s_iload_n d_Md_grow_65 rfl) (s_iload_n d_Md_grow_66 rfl) (s_iadd d_Md_grow_67)) s_a0)) (s_ecs me_Md_fits mw_Md_fits (by decide) (by decide) (by decide) lm_Md_123 w_st_Md_fits w_in_Md pd_Md_fits d_Md_grow_68)) (s_if_neT (tgt := 78) d_Md_grow_71 (by decide))) (by decide)))) (s_iconst d_Md_grow_74 (by decide)) d_Md_grow_75 (by decide) (s_ite (q4 := 90) (s_cmp0 (s_cl (s_a1 (s_aload_n d_Md_grow_78 rfl) s_a0) (s_ecv (ve_Md_isOneAbsent (by decide) (by decide)) dc_Md_isOneAbsent (by decide) lm_Md_52 pd_Md_isOneAbsent d_Md_grow_79)) (s_if_eqF (tgt := 89) d_Md_grow_82 (by decide))) (s_iconst d_Md_grow_85 (by decide)) d_Md_grow_86 (by decide) (s_iconst d_Md_grow_89 (by decide)))) fi_Md_37 rfl (Or.inl rfl) d_Md_grow_90) (t_seq (t_if1 (Fs := [102]) (E := [102]) (s_cmp0 (s_getf (s_aload_n d_Md_grow_93 rfl) fi_Md_37 d_Md_grow_94) (s_if_leF (tgt := 102) d_Md_grow_97 (by decide))) (by decide) (t_sub (E := []) (E' := [102]) (t_ret .int (s_iconst d_Md_grow_100 (by decide)) rfl (by decide) d_Md_grow_101) (by decide)) (by decide)) (t_seq (t_cl (s_a1 (s_aload_n d_Md_grow_102 rfl) s_a0) (s_ecv (ve_Md_begin (by decide) (by decide)) dc_Md_begin (by decide) lm_Md_107 pd_Md_begin d_Md_grow_103)) (t_seq (t_st (s_getf (s_aload_n d_Md_grow_106 rfl) fi_Md_31 d_Md_grow_107) (s_bin (s_iconst d_Md_grow_110 (by decide)) (s_iload_n d_Md_grow_111 rfl) (s_iadd d_Md_grow_112)) (s_bin (s_load (s_getf (s_aload_n d_Md_grow_113 rfl) fi_Md_31 d_Md_grow_114) (s_bin (s_iconst d_Md_grow_117 (by decide)) (s_iload_n d_Md_grow_118 rfl) (s_iadd d_Md_grow_119)) (s_iald d_Md_grow_120)) (s_bin (s_bipush d_Md_grow_121 (by decide)) (s_iload_n d_Md_grow_123 rfl) (s_imul d_Md_grow_124)) (s_iadd d_Md_grow_125)) (s_iast d_Md_grow_126)) (t_seq (t_if1 (Fs := [143]) (E := [143]) (s_not (s_cmp0 (s_cl (s_a1 (s_aload_n d_Md_grow_127 rfl) (s_a1 (s_iload_n d_Md_grow_128 rfl) (s_a1 (s_iload_n d_Md_grow_129 rfl) s_a0))) (s_ecv (ve_Md_find (by decide) (by decide)) dc_Md_find (by decide) lm_Md_127 pd_Md_find d_Md_grow_130)) (s_if_neT (tgt := 143) d_Md_grow_133 (by decide))) (by decide)) (by decide) (t_sub (E := []) (E' := [143]) (t_seq (t_pf (s_aload_n d_Md_grow_136 rfl) (s_iconst d_Md_grow_137 (by decide)) fi_Md_37 rfl (Or.inl rfl) d_Md_grow_138) (t_ret .int (s_iconst d_Md_grow_141 (by decide)) rfl (by decide) d_Md_grow_142)) (by decide)) (by decide)) (t_seq (t_cl (s_a1 (s_aload_n d_Md_grow_143 rfl) (s_a1 (s_iload_n d_Md_grow_144 rfl) (s_a1 (s_iload_n d_Md_grow_145 rfl) s_a0))) (s_ecv (ve_Md_clear (by decide) (by decide)) dc_Md_clear (by decide) lm_Md_130 pd_Md_clear d_Md_grow_146)) (t_seq (t_cl (s_a1 (s_aload_n d_Md_grow_149 rfl) s_a0) (s_ecv (ve_Md_change (by decide) (by decide)) dc_Md_change (by decide) lm_Md_110 pd_Md_change d_Md_grow_150)) (t_ret .int (s_cl (s_a1 (s_aload_n d_Md_grow_153 rfl) (s_a1 (s_bin (s_iload_n d_Md_grow_154 rfl) (s_iload_n d_Md_grow_155 rfl) (s_iadd d_Md_grow_156)) s_a0)) (s_ecv (ve_Md_ended (by decide) (by decide)) dc_Md_ended (by decide) lm_Md_113 pd_Md_ended d_Md_grow_157)) rfl (by decide) d_Md_grow_160)))))))))))
def f_Md_grow : jx_Mt := jx_fn 3 4 (bd_Md_grow fun _ _ => none)
theorem me_Md_grow : jx_Me 3 z_Md_grow f_Md_grow := jx_Me.ofT (by decide) m_Md_grow
theorem mw_Md_grow : jx_mw ⟨"ExtentShelfModel", "grow", "(II)I"⟩ z_Md_grow := ⟨rfl, rfl, by decide +kernel, ⟨by decide, by decide⟩, by decide +kernel⟩
theorem pd_Md_grow : (parseMethodDescriptor (⟨"ExtentShelfModel", "grow", "(II)I"⟩ : MethodName).desc).map (fun d => d.parameters.length) = some 2 := by decide +kernel
