/-! METHODS, printed by jgen.py -/
abbrev tb_Sh_fill : List (Nat × jx_Mt) := [(0, f_Sh_fill)]
theorem ve_Sh_fill {fr lo : Nat} (h1 : 9 ≤ fr) (h2 : 197 ≤ lo) : ∀ q ∈ tb_Sh_fill, jx_ve ⟨"ExtentShelf", "fill", "(LExtentShelf$Table;II)V"⟩ 3 fr lo q.1 q.2 := tv_1 ⟨R_Shelf, F_Shelf, 5, ⟨"ExtentShelf", "fill", "(LExtentShelf$Table;II)V"⟩, z_Sh_fill, rfl, by decide +kernel, mw_Sh_fill, by decide +kernel, me_Sh_fill, Nat.le_trans (by decide) h1, Nat.le_trans (by decide) h2⟩
theorem dc_Sh_fill : jx_dc ⟨"ExtentShelf", "fill", "(LExtentShelf$Table;II)V"⟩ := ⟨⟨by decide, by decide⟩, Or.inr ⟨by decide +kernel, prog_1_method_19_code, 8, _, (by decide +kernel : Cond.code ⟨"ExtentShelf", "fill", "(LExtentShelf$Table;II)V"⟩ prog_1_method_19_code 8 none ∈ jx_tbl)⟩, "ExtentShelf", ⟨"ExtentShelf", "fill", "(LExtentShelf$Table;II)V"⟩, ⟨"ExtentShelf", "fill", "(LExtentShelf$Table;II)V"⟩, by decide +kernel, rfl⟩
/-! ExtentShelf.make(III)I -/
abbrev z_Sh_make : jx_Z := ("ExtentShelf", "make", prog_1_method_23_code, 7, some .int, 9, 197)
theorem d_Sh_make_0 : decode z_Sh_make.2.2.1 0 = .ok (.aload_n 0, 1) := by decide +kernel
theorem d_Sh_make_1 : decode z_Sh_make.2.2.1 1 = .ok (.invokevirtual 172, 3) := by decide +kernel
theorem d_Sh_make_4 : decode z_Sh_make.2.2.1 4 = .ok (.iload_n 1, 1) := by decide +kernel
theorem d_Sh_make_5 : decode z_Sh_make.2.2.1 5 = .ok (.ifCond .lt 35, 3) := by decide +kernel
theorem d_Sh_make_8 : decode z_Sh_make.2.2.1 8 = .ok (.iload_n 1, 1) := by decide +kernel
theorem d_Sh_make_9 : decode z_Sh_make.2.2.1 9 = .ok (.iconst 2, 1) := by decide +kernel
theorem d_Sh_make_10 : decode z_Sh_make.2.2.1 10 = .ok (.if_icmp .gt 30, 3) := by decide +kernel
theorem d_Sh_make_13 : decode z_Sh_make.2.2.1 13 = .ok (.iload_n 1, 1) := by decide +kernel
theorem d_Sh_make_14 : decode z_Sh_make.2.2.1 14 = .ok (.iconst 1, 1) := by decide +kernel
theorem d_Sh_make_15 : decode z_Sh_make.2.2.1 15 = .ok (.if_icmp .ne 16, 3) := by decide +kernel
theorem d_Sh_make_18 : decode z_Sh_make.2.2.1 18 = .ok (.iload_n 2, 1) := by decide +kernel
theorem d_Sh_make_19 : decode z_Sh_make.2.2.1 19 = .ok (.iconst 2, 1) := by decide +kernel
theorem d_Sh_make_20 : decode z_Sh_make.2.2.1 20 = .ok (.if_icmp .eq 16, 3) := by decide +kernel
theorem d_Sh_make_23 : decode z_Sh_make.2.2.1 23 = .ok (.iload_n 2, 1) := by decide +kernel
theorem d_Sh_make_24 : decode z_Sh_make.2.2.1 24 = .ok (.iconst 3, 1) := by decide +kernel
theorem d_Sh_make_25 : decode z_Sh_make.2.2.1 25 = .ok (.if_icmp .ne 15, 3) := by decide +kernel
theorem d_Sh_make_28 : decode z_Sh_make.2.2.1 28 = .ok (.goto 8, 3) := by decide +kernel
theorem d_Sh_make_31 : decode z_Sh_make.2.2.1 31 = .ok (.iload_n 2, 1) := by decide +kernel
theorem d_Sh_make_32 : decode z_Sh_make.2.2.1 32 = .ok (.iconst 1, 1) := by decide +kernel
theorem d_Sh_make_33 : decode z_Sh_make.2.2.1 33 = .ok (.if_icmp .ne 7, 3) := by decide +kernel
theorem d_Sh_make_36 : decode z_Sh_make.2.2.1 36 = .ok (.iconst 1, 1) := by decide +kernel
theorem d_Sh_make_37 : decode z_Sh_make.2.2.1 37 = .ok (.goto 4, 3) := by decide +kernel
theorem d_Sh_make_40 : decode z_Sh_make.2.2.1 40 = .ok (.iconst 0, 1) := by decide +kernel
theorem d_Sh_make_41 : decode z_Sh_make.2.2.1 41 = .ok (.invokestatic 178, 3) := by decide +kernel
theorem d_Sh_make_44 : decode z_Sh_make.2.2.1 44 = .ok (.iload_n 1, 1) := by decide +kernel
theorem d_Sh_make_45 : decode z_Sh_make.2.2.1 45 = .ok (.iload_n 2, 1) := by decide +kernel
theorem d_Sh_make_46 : decode z_Sh_make.2.2.1 46 = .ok (.iload_n 3, 1) := by decide +kernel
theorem d_Sh_make_47 : decode z_Sh_make.2.2.1 47 = .ok (.invokestatic 195, 3) := by decide +kernel
theorem d_Sh_make_50 : decode z_Sh_make.2.2.1 50 = .ok (.astore 4, 2) := by decide +kernel
theorem d_Sh_make_52 : decode z_Sh_make.2.2.1 52 = .ok (.aload 4, 2) := by decide +kernel
theorem d_Sh_make_54 : decode z_Sh_make.2.2.1 54 = .ok (.iload_n 3, 1) := by decide +kernel
theorem d_Sh_make_55 : decode z_Sh_make.2.2.1 55 = .ok (.invokevirtual 199, 3) := by decide +kernel
theorem d_Sh_make_58 : decode z_Sh_make.2.2.1 58 = .ok (.invokestatic 178, 3) := by decide +kernel
theorem d_Sh_make_61 : decode z_Sh_make.2.2.1 61 = .ok (.iconst 0, 1) := by decide +kernel
theorem d_Sh_make_62 : decode z_Sh_make.2.2.1 62 = .ok (.istore 5, 2) := by decide +kernel
theorem d_Sh_make_64 : decode z_Sh_make.2.2.1 64 = .ok (.iload 5, 2) := by decide +kernel
theorem d_Sh_make_66 : decode z_Sh_make.2.2.1 66 = .ok (.iconst 4, 1) := by decide +kernel
theorem d_Sh_make_67 : decode z_Sh_make.2.2.1 67 = .ok (.if_icmp .ge 22, 3) := by decide +kernel
theorem d_Sh_make_70 : decode z_Sh_make.2.2.1 70 = .ok (.aload_n 0, 1) := by decide +kernel
theorem d_Sh_make_71 : decode z_Sh_make.2.2.1 71 = .ok (.getfield 28, 3) := by decide +kernel
theorem d_Sh_make_74 : decode z_Sh_make.2.2.1 74 = .ok (.getfield 71, 3) := by decide +kernel
theorem d_Sh_make_77 : decode z_Sh_make.2.2.1 77 = .ok (.iload 5, 2) := by decide +kernel
theorem d_Sh_make_79 : decode z_Sh_make.2.2.1 79 = .ok (.aaload, 1) := by decide +kernel
theorem d_Sh_make_80 : decode z_Sh_make.2.2.1 80 = .ok (.ifnull 9, 3) := by decide +kernel
theorem d_Sh_make_83 : decode z_Sh_make.2.2.1 83 = .ok (.iinc 5 1, 3) := by decide +kernel
theorem d_Sh_make_86 : decode z_Sh_make.2.2.1 86 = .ok (.goto (-22), 3) := by decide +kernel
theorem d_Sh_make_89 : decode z_Sh_make.2.2.1 89 = .ok (.iload 5, 2) := by decide +kernel
theorem d_Sh_make_91 : decode z_Sh_make.2.2.1 91 = .ok (.iconst 4, 1) := by decide +kernel
theorem d_Sh_make_92 : decode z_Sh_make.2.2.1 92 = .ok (.if_icmp .ge 14, 3) := by decide +kernel
theorem d_Sh_make_95 : decode z_Sh_make.2.2.1 95 = .ok (.aload_n 0, 1) := by decide +kernel
theorem d_Sh_make_96 : decode z_Sh_make.2.2.1 96 = .ok (.invokevirtual 93, 3) := by decide +kernel
theorem d_Sh_make_99 : decode z_Sh_make.2.2.1 99 = .ok (.ifCond .ne 7, 3) := by decide +kernel
theorem d_Sh_make_102 : decode z_Sh_make.2.2.1 102 = .ok (.iconst 1, 1) := by decide +kernel
theorem d_Sh_make_103 : decode z_Sh_make.2.2.1 103 = .ok (.goto 4, 3) := by decide +kernel
theorem d_Sh_make_106 : decode z_Sh_make.2.2.1 106 = .ok (.iconst 0, 1) := by decide +kernel
theorem d_Sh_make_107 : decode z_Sh_make.2.2.1 107 = .ok (.invokestatic 164, 3) := by decide +kernel
theorem d_Sh_make_110 : decode z_Sh_make.2.2.1 110 = .ok (.aload_n 0, 1) := by decide +kernel
theorem d_Sh_make_111 : decode z_Sh_make.2.2.1 111 = .ok (.getfield 28, 3) := by decide +kernel
theorem d_Sh_make_114 : decode z_Sh_make.2.2.1 114 = .ok (.invokevirtual 181, 3) := by decide +kernel
theorem d_Sh_make_117 : decode z_Sh_make.2.2.1 117 = .ok (.astore 6, 2) := by decide +kernel
theorem d_Sh_make_119 : decode z_Sh_make.2.2.1 119 = .ok (.aload 6, 2) := by decide +kernel
theorem d_Sh_make_121 : decode z_Sh_make.2.2.1 121 = .ok (.getfield 71, 3) := by decide +kernel
theorem d_Sh_make_124 : decode z_Sh_make.2.2.1 124 = .ok (.iload 5, 2) := by decide +kernel
theorem d_Sh_make_126 : decode z_Sh_make.2.2.1 126 = .ok (.aload 4, 2) := by decide +kernel
theorem d_Sh_make_128 : decode z_Sh_make.2.2.1 128 = .ok (.aastore, 1) := by decide +kernel
theorem d_Sh_make_129 : decode z_Sh_make.2.2.1 129 = .ok (.aload_n 0, 1) := by decide +kernel
theorem d_Sh_make_130 : decode z_Sh_make.2.2.1 130 = .ok (.aload 6, 2) := by decide +kernel
theorem d_Sh_make_132 : decode z_Sh_make.2.2.1 132 = .ok (.iload 5, 2) := by decide +kernel
theorem d_Sh_make_134 : decode z_Sh_make.2.2.1 134 = .ok (.iconst 0, 1) := by decide +kernel
theorem d_Sh_make_135 : decode z_Sh_make.2.2.1 135 = .ok (.invokevirtual 202, 3) := by decide +kernel
theorem d_Sh_make_138 : decode z_Sh_make.2.2.1 138 = .ok (.aload_n 0, 1) := by decide +kernel
theorem d_Sh_make_139 : decode z_Sh_make.2.2.1 139 = .ok (.aload 6, 2) := by decide +kernel
theorem d_Sh_make_141 : decode z_Sh_make.2.2.1 141 = .ok (.invokevirtual 185, 3) := by decide +kernel
theorem d_Sh_make_144 : decode z_Sh_make.2.2.1 144 = .ok (.iload 5, 2) := by decide +kernel
theorem d_Sh_make_146 : decode z_Sh_make.2.2.1 146 = .ok (.ireturn, 1) := by decide +kernel
def lc_Sh_make_0 : jx_Cx := (cAnd (cCmp rLt (eI 5) (eInt (nI 4))) (cNot (cNull (eLda 4 (eGf [3] 2 (eGf [0] 2 (eA 0))) (eI 5)))))
def lb_Sh_make_0 : jx_St := (sInc 5 (nI 1))
theorem ml_Sh_make_0 : jx_Ts z_Sh_make 64 (sWh 64 lc_Sh_make_0 lb_Sh_make_0) [89] := by
  unfold lc_Sh_make_0 lb_Sh_make_0
  exact t_wh (EA := [86]) (Fs := [89]) (E := [89]) 64 (s_andg (s_cmp (s_iload d_Sh_make_64) (s_iconst d_Sh_make_66 (by decide)) (s_icmp_geF (tgt := 89) d_Sh_make_67 (by decide))) (by decide) (al_1 (s_not (s_nul (s_loada (s_getf (s_getf (s_aload_n d_Sh_make_70 rfl) fi_Sh_28 d_Sh_make_71) fi_Sh_71 d_Sh_make_74) (s_iload d_Sh_make_77) (s_aald (Or.inr rfl) d_Sh_make_79)) (s_ifnull (tgt := 89) d_Sh_make_80 (by decide))) (by decide)))) (by decide) (t_iinc d_Sh_make_83 (by decide) (by decide)) (al_1 (Or.inr ⟨-22, d_Sh_make_86, by decide⟩)) (by decide)
def bd_Sh_make : jx_St := (sSeq (sCl (jx_ev tb_Sh_needOn) [(eA 0)]) (sSeq (sCl (jx_ec f_Sh_need) [(eIte (cAnd (cAnd (cCmp0 rGe (eI 1)) (cCmp rLe (eI 1) (eInt (nI 2)))) (cIte (cCmp rEq (eI 1) (eInt (nI 1))) (cOr (cCmp rEq (eI 2) (eInt (nI 2))) (cCmp rEq (eI 2) (eInt (nI 3)))) (cCmp rEq (eI 2) (eInt (nI 1))))) (eInt (nI 1)) (eInt (nI 0)))]) (sSeq (sAsg 2 4 (eCl (jx_ec f_Vo_of) [(eI 1), (eI 2), (eI 3)])) (sSeq (sCl (jx_ec f_Sh_need) [(eCl (jx_ev tb_Vo_fits) [(eA 4), (eI 3)])]) (sSeq (sAsg 0 5 (eInt (nI 0))) (sSeq (sWh 64 lc_Sh_make_0 lb_Sh_make_0) (sSeq (sCl (jx_ec f_Sh_allow) [(eIte (cAnd (cCmp rLt (eI 5) (eInt (nI 4))) (cNot (cCmp0 rNe (eCl (jx_ev tb_Sh_isOneAbsent) [(eA 0)])))) (eInt (nI 1)) (eInt (nI 0)))]) (sSeq (sAsg 2 6 (eCl (jx_ev tb_Tb_copy) [(eGf [0] 2 (eA 0))])) (sSeq (sSta 4 [5, 6, 7] (eGf [3] 2 (eA 6)) (eI 5) (eA 4)) (sSeq (sCl (jx_ev tb_Sh_fill) [(eA 0), (eA 6), (eI 5), (eInt (nI 0))]) (sSeq (sCl (jx_ev tb_Sh_change) [(eA 0), (eA 6)]) (sRet 0 (eI 5)))))))))))))
theorem m_Sh_make : jx_Ts z_Sh_make 0 bd_Sh_make [] := by
  unfold bd_Sh_make
  exact (t_seq (t_cl (s_a1 (s_aload_n d_Sh_make_0 rfl) s_a0) (s_ecv (ve_Sh_needOn (by decide) (by decide)) dc_Sh_needOn (by decide) lm_Sh_172 pd_Sh_needOn d_Sh_make_1)) (t_seq (t_cl (s_a1 (s_ite (q4 := 41) (s_andg (s_andg (s_cmp0 (s_iload_n d_Sh_make_4 rfl) (s_if_ltF (tgt := 40) d_Sh_make_5 (by decide))) (by decide) (al_1 (s_cmp (s_iload_n d_Sh_make_8 rfl) (s_iconst d_Sh_make_9 (by decide)) (s_icmp_gtF (tgt := 40) d_Sh_make_10 (by decide))))) (by decide) (al_1 (s_citeg (s_cmp (s_iload_n d_Sh_make_13 rfl) (s_iconst d_Sh_make_14 (by decide)) (s_icmp_neF (tgt := 31) d_Sh_make_15 (by decide))) (by decide) (al_1 (cd_goto (q := 28) (tgt := 36) (s_org (s_csub (T1 := [36]) (F1 := [23]) (Ts := [28, 36]) (Fs := [23]) (s_cmp (s_iload_n d_Sh_make_18 rfl) (s_iconst d_Sh_make_19 (by decide)) (s_icmp_eqT (tgt := 36) d_Sh_make_20 (by decide))) (by decide) (by decide)) (by decide) (al_1 (s_csub (T1 := [28]) (F1 := [40]) (Ts := [28, 36]) (Fs := [40]) (s_cmp (s_iload_n d_Sh_make_23 rfl) (s_iconst d_Sh_make_24 (by decide)) (s_icmp_neF (tgt := 40) d_Sh_make_25 (by decide))) (by decide) (by decide)))) d_Sh_make_28 (by decide) (by decide))) (al_1 (s_cmp (s_iload_n d_Sh_make_31 rfl) (s_iconst d_Sh_make_32 (by decide)) (s_icmp_neF (tgt := 40) d_Sh_make_33 (by decide))))))) (s_iconst d_Sh_make_36 (by decide)) d_Sh_make_37 (by decide) (s_iconst d_Sh_make_40 (by decide))) s_a0) (s_ecs me_Sh_need mw_Sh_need (by decide) (by decide) (by decide) lm_Sh_178 w_st_Sh_need w_in_Sh pd_Sh_need d_Sh_make_41)) (t_seq (t_asg (s_cl (s_a1 (s_iload_n d_Sh_make_44 rfl) (s_a1 (s_iload_n d_Sh_make_45 rfl) (s_a1 (s_iload_n d_Sh_make_46 rfl) s_a0))) (s_ecs me_Vo_of mw_Vo_of (by decide) (by decide) (by decide) lm_Sh_195 w_st_Vo_of w_in_Vo pd_Vo_of d_Sh_make_47)) (fun v k h => b_astore d_Sh_make_50 (by decide) h)) (t_seq (t_cl (s_a1 (s_cl (s_a1 (s_aload d_Sh_make_52) (s_a1 (s_iload_n d_Sh_make_54 rfl) s_a0)) (s_ecv (ve_Vo_fits (by decide) (by decide)) dc_Vo_fits (by decide) lm_Sh_199 pd_Vo_fits d_Sh_make_55)) s_a0) (s_ecs me_Sh_need mw_Sh_need (by decide) (by decide) (by decide) lm_Sh_178 w_st_Sh_need w_in_Sh pd_Sh_need d_Sh_make_58)) (t_seq (t_asg (s_iconst d_Sh_make_61 (by decide)) (fun v k h => b_istore d_Sh_make_62 (by decide) h)) (t_seq ml_Sh_make_0 (t_seq (t_cl (s_a1 (s_ite (q4 := 107) (s_andg (s_cmp (s_iload d_Sh_make_89) (s_iconst d_Sh_make_91 (by decide)) (s_icmp_geF (tgt := 106) d_Sh_make_92 (by decide))) (by decide) (al_1 (s_not (s_cmp0 (s_cl (s_a1 (s_aload_n d_Sh_make_95 rfl) s_a0) (s_ecv (ve_Sh_isOneAbsent (by decide) (by decide)) dc_Sh_isOneAbsent (by decide) lm_Sh_93 pd_Sh_isOneAbsent d_Sh_make_96)) (s_if_neT (tgt := 106) d_Sh_make_99 (by decide))) (by decide)))) (s_iconst d_Sh_make_102 (by decide)) d_Sh_make_103 (by decide) (s_iconst d_Sh_make_106 (by decide))) s_a0) (s_ecs me_Sh_allow mw_Sh_allow (by decide) (by decide) (by decide) lm_Sh_164 w_st_Sh_allow w_in_Sh pd_Sh_allow d_Sh_make_107)) (t_seq (t_asg (s_cl (s_a1 (s_getf (s_aload_n d_Sh_make_110 rfl) fi_Sh_28 d_Sh_make_111) s_a0) (s_ecv (ve_Tb_copy (by decide) (by decide)) dc_Tb_copy (by decide) lm_Sh_181 pd_Tb_copy d_Sh_make_114)) (fun v k h => b_astore d_Sh_make_117 (by decide) h)) (t_seq (t_sta (s_getf (s_aload d_Sh_make_119) fi_Sh_71 d_Sh_make_121) (s_iload d_Sh_make_124) (s_aload d_Sh_make_126) (s_aast (E := "ExtentShelf$Volume") ⟨Or.inr rfl, rfl⟩ (al_3 ⟨R_Linear, F_Linear, 3, rfl, Or.inr (by decide +kernel)⟩ ⟨R_Striped, F_Striped, 3, rfl, Or.inr (by decide +kernel)⟩ ⟨R_Twinned, F_Twinned, 3, rfl, Or.inr (by decide +kernel)⟩) d_Sh_make_128)) (t_seq (t_cl (s_a1 (s_aload_n d_Sh_make_129 rfl) (s_a1 (s_aload d_Sh_make_130) (s_a1 (s_iload d_Sh_make_132) (s_a1 (s_iconst d_Sh_make_134 (by decide)) s_a0)))) (s_ecv (ve_Sh_fill (by decide) (by decide)) dc_Sh_fill (by decide) lm_Sh_202 pd_Sh_fill d_Sh_make_135)) (t_seq (t_cl (s_a1 (s_aload_n d_Sh_make_138 rfl) (s_a1 (s_aload d_Sh_make_139) s_a0)) (s_ecv (ve_Sh_change (by decide) (by decide)) dc_Sh_change (by decide) lm_Sh_185 pd_Sh_change d_Sh_make_141)) (t_ret .int (s_iload d_Sh_make_144) rfl (by decide) d_Sh_make_146))))))))))))
def f_Sh_make : jx_Mt := jx_fn 4 7 (bd_Sh_make fun _ _ => none)
theorem me_Sh_make : jx_Me 4 z_Sh_make f_Sh_make := jx_Me.ofT (by decide) m_Sh_make
theorem mw_Sh_make : jx_mw ⟨"ExtentShelf", "make", "(III)I"⟩ z_Sh_make := ⟨rfl, rfl, by decide +kernel, ⟨by decide, by decide⟩, by decide +kernel⟩
theorem pd_Sh_make : (parseMethodDescriptor (⟨"ExtentShelf", "make", "(III)I"⟩ : MethodName).desc).map (fun d => d.parameters.length) = some 3 := by decide +kernel
abbrev tb_Sh_volumeAt : List (Nat × jx_Mt) := [(0, f_Sh_volumeAt)]
theorem ve_Sh_volumeAt {fr lo : Nat} (h1 : 7 ≤ fr) (h2 : 129 ≤ lo) : ∀ q ∈ tb_Sh_volumeAt, jx_ve ⟨"ExtentShelf", "volumeAt", "(I)LExtentShelf$Volume;"⟩ 1 fr lo q.1 q.2 := tv_1 ⟨R_Shelf, F_Shelf, 5, ⟨"ExtentShelf", "volumeAt", "(I)LExtentShelf$Volume;"⟩, z_Sh_volumeAt, rfl, by decide +kernel, mw_Sh_volumeAt, by decide +kernel, me_Sh_volumeAt, Nat.le_trans (by decide) h1, Nat.le_trans (by decide) h2⟩
theorem dc_Sh_volumeAt : jx_dc ⟨"ExtentShelf", "volumeAt", "(I)LExtentShelf$Volume;"⟩ := ⟨⟨by decide, by decide⟩, Or.inr ⟨by decide +kernel, prog_1_method_10_code, 2, _, (by decide +kernel : Cond.code ⟨"ExtentShelf", "volumeAt", "(I)LExtentShelf$Volume;"⟩ prog_1_method_10_code 2 (some (.object "ExtentShelf$Volume")) ∈ jx_tbl)⟩, "ExtentShelf", ⟨"ExtentShelf", "volumeAt", "(I)LExtentShelf$Volume;"⟩, ⟨"ExtentShelf", "volumeAt", "(I)LExtentShelf$Volume;"⟩, by decide +kernel, rfl⟩
/-! ExtentShelf.grow(II)I -/
abbrev z_Sh_grow : jx_Z := ("ExtentShelf", "grow", prog_1_method_24_code, 5, some .int, 9, 197)
theorem d_Sh_grow_0 : decode z_Sh_grow.2.2.1 0 = .ok (.aload_n 0, 1) := by decide +kernel
theorem d_Sh_grow_1 : decode z_Sh_grow.2.2.1 1 = .ok (.invokevirtual 172, 3) := by decide +kernel
theorem d_Sh_grow_4 : decode z_Sh_grow.2.2.1 4 = .ok (.aload_n 0, 1) := by decide +kernel
theorem d_Sh_grow_5 : decode z_Sh_grow.2.2.1 5 = .ok (.iload_n 1, 1) := by decide +kernel
theorem d_Sh_grow_6 : decode z_Sh_grow.2.2.1 6 = .ok (.invokevirtual 205, 3) := by decide +kernel
theorem d_Sh_grow_9 : decode z_Sh_grow.2.2.1 9 = .ok (.astore_n 3, 1) := by decide +kernel
theorem d_Sh_grow_10 : decode z_Sh_grow.2.2.1 10 = .ok (.iload_n 2, 1) := by decide +kernel
theorem d_Sh_grow_11 : decode z_Sh_grow.2.2.1 11 = .ok (.iconst 1, 1) := by decide +kernel
theorem d_Sh_grow_12 : decode z_Sh_grow.2.2.1 12 = .ok (.if_icmp .lt 25, 3) := by decide +kernel
theorem d_Sh_grow_15 : decode z_Sh_grow.2.2.1 15 = .ok (.iload_n 2, 1) := by decide +kernel
theorem d_Sh_grow_16 : decode z_Sh_grow.2.2.1 16 = .ok (.iconst 5, 1) := by decide +kernel
theorem d_Sh_grow_17 : decode z_Sh_grow.2.2.1 17 = .ok (.if_icmp .gt 20, 3) := by decide +kernel
theorem d_Sh_grow_20 : decode z_Sh_grow.2.2.1 20 = .ok (.aload_n 3, 1) := by decide +kernel
theorem d_Sh_grow_21 : decode z_Sh_grow.2.2.1 21 = .ok (.aload_n 3, 1) := by decide +kernel
theorem d_Sh_grow_22 : decode z_Sh_grow.2.2.1 22 = .ok (.getfield 154, 3) := by decide +kernel
theorem d_Sh_grow_25 : decode z_Sh_grow.2.2.1 25 = .ok (.iload_n 2, 1) := by decide +kernel
theorem d_Sh_grow_26 : decode z_Sh_grow.2.2.1 26 = .ok (.iadd, 1) := by decide +kernel
theorem d_Sh_grow_27 : decode z_Sh_grow.2.2.1 27 = .ok (.invokevirtual 199, 3) := by decide +kernel
theorem d_Sh_grow_30 : decode z_Sh_grow.2.2.1 30 = .ok (.ifCond .eq 7, 3) := by decide +kernel
theorem d_Sh_grow_33 : decode z_Sh_grow.2.2.1 33 = .ok (.iconst 1, 1) := by decide +kernel
theorem d_Sh_grow_34 : decode z_Sh_grow.2.2.1 34 = .ok (.goto 4, 3) := by decide +kernel
theorem d_Sh_grow_37 : decode z_Sh_grow.2.2.1 37 = .ok (.iconst 0, 1) := by decide +kernel
theorem d_Sh_grow_38 : decode z_Sh_grow.2.2.1 38 = .ok (.invokestatic 178, 3) := by decide +kernel
theorem d_Sh_grow_41 : decode z_Sh_grow.2.2.1 41 = .ok (.aload_n 0, 1) := by decide +kernel
theorem d_Sh_grow_42 : decode z_Sh_grow.2.2.1 42 = .ok (.invokevirtual 93, 3) := by decide +kernel
theorem d_Sh_grow_45 : decode z_Sh_grow.2.2.1 45 = .ok (.ifCond .ne 7, 3) := by decide +kernel
theorem d_Sh_grow_48 : decode z_Sh_grow.2.2.1 48 = .ok (.iconst 1, 1) := by decide +kernel
theorem d_Sh_grow_49 : decode z_Sh_grow.2.2.1 49 = .ok (.goto 4, 3) := by decide +kernel
theorem d_Sh_grow_52 : decode z_Sh_grow.2.2.1 52 = .ok (.iconst 0, 1) := by decide +kernel
theorem d_Sh_grow_53 : decode z_Sh_grow.2.2.1 53 = .ok (.invokestatic 164, 3) := by decide +kernel
theorem d_Sh_grow_56 : decode z_Sh_grow.2.2.1 56 = .ok (.aload_n 0, 1) := by decide +kernel
theorem d_Sh_grow_57 : decode z_Sh_grow.2.2.1 57 = .ok (.getfield 28, 3) := by decide +kernel
theorem d_Sh_grow_60 : decode z_Sh_grow.2.2.1 60 = .ok (.invokevirtual 181, 3) := by decide +kernel
theorem d_Sh_grow_63 : decode z_Sh_grow.2.2.1 63 = .ok (.astore 4, 2) := by decide +kernel
theorem d_Sh_grow_65 : decode z_Sh_grow.2.2.1 65 = .ok (.aload 4, 2) := by decide +kernel
theorem d_Sh_grow_67 : decode z_Sh_grow.2.2.1 67 = .ok (.getfield 71, 3) := by decide +kernel
theorem d_Sh_grow_70 : decode z_Sh_grow.2.2.1 70 = .ok (.iload_n 1, 1) := by decide +kernel
theorem d_Sh_grow_71 : decode z_Sh_grow.2.2.1 71 = .ok (.aaload, 1) := by decide +kernel
theorem d_Sh_grow_72 : decode z_Sh_grow.2.2.1 72 = .ok (.dup, 1) := by decide +kernel
theorem d_Sh_grow_73 : decode z_Sh_grow.2.2.1 73 = .ok (.getfield 154, 3) := by decide +kernel
theorem d_Sh_grow_76 : decode z_Sh_grow.2.2.1 76 = .ok (.iload_n 2, 1) := by decide +kernel
theorem d_Sh_grow_77 : decode z_Sh_grow.2.2.1 77 = .ok (.iadd, 1) := by decide +kernel
theorem d_Sh_grow_78 : decode z_Sh_grow.2.2.1 78 = .ok (.putfield 154, 3) := by decide +kernel
theorem d_Sh_grow_81 : decode z_Sh_grow.2.2.1 81 = .ok (.aload_n 0, 1) := by decide +kernel
theorem d_Sh_grow_82 : decode z_Sh_grow.2.2.1 82 = .ok (.aload 4, 2) := by decide +kernel
theorem d_Sh_grow_84 : decode z_Sh_grow.2.2.1 84 = .ok (.iload_n 1, 1) := by decide +kernel
theorem d_Sh_grow_85 : decode z_Sh_grow.2.2.1 85 = .ok (.aload_n 3, 1) := by decide +kernel
theorem d_Sh_grow_86 : decode z_Sh_grow.2.2.1 86 = .ok (.getfield 154, 3) := by decide +kernel
theorem d_Sh_grow_89 : decode z_Sh_grow.2.2.1 89 = .ok (.invokevirtual 202, 3) := by decide +kernel
theorem d_Sh_grow_92 : decode z_Sh_grow.2.2.1 92 = .ok (.aload_n 0, 1) := by decide +kernel
theorem d_Sh_grow_93 : decode z_Sh_grow.2.2.1 93 = .ok (.aload 4, 2) := by decide +kernel
theorem d_Sh_grow_95 : decode z_Sh_grow.2.2.1 95 = .ok (.invokevirtual 185, 3) := by decide +kernel
theorem d_Sh_grow_98 : decode z_Sh_grow.2.2.1 98 = .ok (.aload_n 3, 1) := by decide +kernel
theorem d_Sh_grow_99 : decode z_Sh_grow.2.2.1 99 = .ok (.getfield 154, 3) := by decide +kernel
theorem d_Sh_grow_102 : decode z_Sh_grow.2.2.1 102 = .ok (.iload_n 2, 1) := by decide +kernel
theorem d_Sh_grow_103 : decode z_Sh_grow.2.2.1 103 = .ok (.iadd, 1) := by decide +kernel
theorem d_Sh_grow_104 : decode z_Sh_grow.2.2.1 104 = .ok (.ireturn, 1) := by decide +kernel
def bd_Sh_grow : jx_St := (sSeq (sCl (jx_ev tb_Sh_needOn) [(eA 0)]) (sSeq (sAsg 2 3 (eCl (jx_ev tb_Sh_volumeAt) [(eA 0), (eI 1)])) (sSeq (sCl (jx_ec f_Sh_need) [(eIte (cAnd (cAnd (cCmp rGe (eI 2) (eInt (nI 1))) (cCmp rLe (eI 2) (eInt (nI 5)))) (cCmp0 rNe (eCl (jx_ev tb_Vo_fits) [(eA 3), (eBin oAdd (eGf [5, 6, 7] 1 (eA 3)) (eI 2))]))) (eInt (nI 1)) (eInt (nI 0)))]) (sSeq (sCl (jx_ec f_Sh_allow) [(eIte (cNot (cCmp0 rNe (eCl (jx_ev tb_Sh_isOneAbsent) [(eA 0)]))) (eInt (nI 1)) (eInt (nI 0)))]) (sSeq (sAsg 2 4 (eCl (jx_ev tb_Tb_copy) [(eGf [0] 2 (eA 0))])) (sSeq (sUf [5, 6, 7] 1 0 oAdd (eLda 4 (eGf [3] 2 (eA 4)) (eI 1)) (eI 2)) (sSeq (sCl (jx_ev tb_Sh_fill) [(eA 0), (eA 4), (eI 1), (eGf [5, 6, 7] 1 (eA 3))]) (sSeq (sCl (jx_ev tb_Sh_change) [(eA 0), (eA 4)]) (sRet 0 (eBin oAdd (eGf [5, 6, 7] 1 (eA 3)) (eI 2)))))))))))
theorem m_Sh_grow : jx_Ts z_Sh_grow 0 bd_Sh_grow [] := by
  unfold bd_Sh_grow
  exact (t_seq (t_cl (s_a1 (s_aload_n d_Sh_grow_0 rfl) s_a0) (s_ecv (ve_Sh_needOn (by decide) (by decide)) dc_Sh_needOn (by decide) lm_Sh_172 pd_Sh_needOn d_Sh_grow_1)) (t_seq (t_asg (s_cl (s_a1 (s_aload_n d_Sh_grow_4 rfl) (s_a1 (s_iload_n d_Sh_grow_5 rfl) s_a0)) (s_ecv (ve_Sh_volumeAt (by decide) (by decide)) dc_Sh_volumeAt (by decide) lm_Sh_205 pd_Sh_volumeAt d_Sh_grow_6)) (fun v k h => b_astore_n d_Sh_grow_9 rfl (by decide) h)) (t_seq (t_cl (s_a1 (s_ite (q4 := 38) (s_andg (s_andg (s_cmp (s_iload_n d_Sh_grow_10 rfl) (s_iconst d_Sh_grow_11 (by decide)) (s_icmp_ltF (tgt := 37) d_Sh_grow_12 (by decide))) (by decide) (al_1 (s_cmp (s_iload_n d_Sh_grow_15 rfl) (s_iconst d_Sh_grow_16 (by decide)) (s_icmp_gtF (tgt := 37) d_Sh_grow_17 (by decide))))) (by decide) (al_1 (s_cmp0 (s_cl (s_a1 (s_aload_n d_Sh_grow_20 rfl) (s_a1 (s_bin (s_getf (s_aload_n d_Sh_grow_21 rfl) fi_Sh_154 d_Sh_grow_22) (s_iload_n d_Sh_grow_25 rfl) (s_iadd d_Sh_grow_26)) s_a0)) (s_ecv (ve_Vo_fits (by decide) (by decide)) dc_Vo_fits (by decide) lm_Sh_199 pd_Vo_fits d_Sh_grow_27)) (s_if_eqF (tgt := 37) d_Sh_grow_30 (by decide))))) (s_iconst d_Sh_grow_33 (by decide)) d_Sh_grow_34 (by decide) (s_iconst d_Sh_grow_37 (by decide))) s_a0) (s_ecs me_Sh_need mw_Sh_need (by decide) (by decide) (by decide) lm_Sh_178 w_st_Sh_need w_in_Sh pd_Sh_need d_Sh_grow_38)) (t_seq (t_cl (s_a1 (s_ite (q4 := 53) (s_not (s_cmp0 (s_cl (s_a1 (s_aload_n d_Sh_grow_41 rfl) s_a0) (s_ecv (ve_Sh_isOneAbsent (by decide) (by decide)) dc_Sh_isOneAbsent (by decide) lm_Sh_93 pd_Sh_isOneAbsent d_Sh_grow_42)) (s_if_neT (tgt := 52) d_Sh_grow_45 (by decide))) (by decide)) (s_iconst d_Sh_grow_48 (by decide)) d_Sh_grow_49 (by decide) (s_iconst d_Sh_grow_52 (by decide))) s_a0) (s_ecs me_Sh_allow mw_Sh_allow (by decide) (by decide) (by decide) lm_Sh_164 w_st_Sh_allow w_in_Sh pd_Sh_allow d_Sh_grow_53)) (t_seq (t_asg (s_cl (s_a1 (s_getf (s_aload_n d_Sh_grow_56 rfl) fi_Sh_28 d_Sh_grow_57) s_a0) (s_ecv (ve_Tb_copy (by decide) (by decide)) dc_Tb_copy (by decide) lm_Sh_181 pd_Tb_copy d_Sh_grow_60)) (fun v k h => b_astore d_Sh_grow_63 (by decide) h)) (t_seq (t_uf (s_loada (s_getf (s_aload d_Sh_grow_65) fi_Sh_71 d_Sh_grow_67) (s_iload_n d_Sh_grow_70 rfl) (s_aald (Or.inr rfl) d_Sh_grow_71)) d_Sh_grow_72 d_Sh_grow_73 (s_iload_n d_Sh_grow_76 rfl) (s_iadd d_Sh_grow_77) fi_Sh_154 rfl rfl d_Sh_grow_78) (t_seq (t_cl (s_a1 (s_aload_n d_Sh_grow_81 rfl) (s_a1 (s_aload d_Sh_grow_82) (s_a1 (s_iload_n d_Sh_grow_84 rfl) (s_a1 (s_getf (s_aload_n d_Sh_grow_85 rfl) fi_Sh_154 d_Sh_grow_86) s_a0)))) (s_ecv (ve_Sh_fill (by decide) (by decide)) dc_Sh_fill (by decide) lm_Sh_202 pd_Sh_fill d_Sh_grow_89)) (t_seq (t_cl (s_a1 (s_aload_n d_Sh_grow_92 rfl) (s_a1 (s_aload d_Sh_grow_93) s_a0)) (s_ecv (ve_Sh_change (by decide) (by decide)) dc_Sh_change (by decide) lm_Sh_185 pd_Sh_change d_Sh_grow_95)) (t_ret .int (s_bin (s_getf (s_aload_n d_Sh_grow_98 rfl) fi_Sh_154 d_Sh_grow_99) (s_iload_n d_Sh_grow_102 rfl) (s_iadd d_Sh_grow_103)) rfl (by decide) d_Sh_grow_104)))))))))
def f_Sh_grow : jx_Mt := jx_fn 3 5 (bd_Sh_grow fun _ _ => none)
theorem me_Sh_grow : jx_Me 3 z_Sh_grow f_Sh_grow := jx_Me.ofT (by decide) m_Sh_grow
theorem mw_Sh_grow : jx_mw ⟨"ExtentShelf", "grow", "(II)I"⟩ z_Sh_grow := ⟨rfl, rfl, by decide +kernel, ⟨by decide, by decide⟩, by decide +kernel⟩
theorem pd_Sh_grow : (parseMethodDescriptor (⟨"ExtentShelf", "grow", "(II)I"⟩ : MethodName).desc).map (fun d => d.parameters.length) = some 2 := by decide +kernel
/-! ExtentShelf.shrink(II)I -/
abbrev z_Sh_shrink : jx_Z := ("ExtentShelf", "shrink", prog_1_method_25_code, 6, some .int, 8, 166)
theorem d_Sh_shrink_0 : decode z_Sh_shrink.2.2.1 0 = .ok (.aload_n 0, 1) := by decide +kernel
theorem d_Sh_shrink_1 : decode z_Sh_shrink.2.2.1 1 = .ok (.invokevirtual 172, 3) := by decide +kernel
theorem d_Sh_shrink_4 : decode z_Sh_shrink.2.2.1 4 = .ok (.aload_n 0, 1) := by decide +kernel
theorem d_Sh_shrink_5 : decode z_Sh_shrink.2.2.1 5 = .ok (.iload_n 1, 1) := by decide +kernel
theorem d_Sh_shrink_6 : decode z_Sh_shrink.2.2.1 6 = .ok (.invokevirtual 205, 3) := by decide +kernel
theorem d_Sh_shrink_9 : decode z_Sh_shrink.2.2.1 9 = .ok (.astore_n 3, 1) := by decide +kernel
theorem d_Sh_shrink_10 : decode z_Sh_shrink.2.2.1 10 = .ok (.iload_n 2, 1) := by decide +kernel
theorem d_Sh_shrink_11 : decode z_Sh_shrink.2.2.1 11 = .ok (.aload_n 3, 1) := by decide +kernel
theorem d_Sh_shrink_12 : decode z_Sh_shrink.2.2.1 12 = .ok (.getfield 154, 3) := by decide +kernel
theorem d_Sh_shrink_15 : decode z_Sh_shrink.2.2.1 15 = .ok (.if_icmp .ge 15, 3) := by decide +kernel
theorem d_Sh_shrink_18 : decode z_Sh_shrink.2.2.1 18 = .ok (.aload_n 3, 1) := by decide +kernel
theorem d_Sh_shrink_19 : decode z_Sh_shrink.2.2.1 19 = .ok (.iload_n 2, 1) := by decide +kernel
theorem d_Sh_shrink_20 : decode z_Sh_shrink.2.2.1 20 = .ok (.invokevirtual 199, 3) := by decide +kernel
theorem d_Sh_shrink_23 : decode z_Sh_shrink.2.2.1 23 = .ok (.ifCond .eq 7, 3) := by decide +kernel
theorem d_Sh_shrink_26 : decode z_Sh_shrink.2.2.1 26 = .ok (.iconst 1, 1) := by decide +kernel
theorem d_Sh_shrink_27 : decode z_Sh_shrink.2.2.1 27 = .ok (.goto 4, 3) := by decide +kernel
theorem d_Sh_shrink_30 : decode z_Sh_shrink.2.2.1 30 = .ok (.iconst 0, 1) := by decide +kernel
theorem d_Sh_shrink_31 : decode z_Sh_shrink.2.2.1 31 = .ok (.invokestatic 178, 3) := by decide +kernel
theorem d_Sh_shrink_34 : decode z_Sh_shrink.2.2.1 34 = .ok (.aload_n 0, 1) := by decide +kernel
theorem d_Sh_shrink_35 : decode z_Sh_shrink.2.2.1 35 = .ok (.invokevirtual 93, 3) := by decide +kernel
theorem d_Sh_shrink_38 : decode z_Sh_shrink.2.2.1 38 = .ok (.ifCond .ne 7, 3) := by decide +kernel
theorem d_Sh_shrink_41 : decode z_Sh_shrink.2.2.1 41 = .ok (.iconst 1, 1) := by decide +kernel
theorem d_Sh_shrink_42 : decode z_Sh_shrink.2.2.1 42 = .ok (.goto 4, 3) := by decide +kernel
theorem d_Sh_shrink_45 : decode z_Sh_shrink.2.2.1 45 = .ok (.iconst 0, 1) := by decide +kernel
theorem d_Sh_shrink_46 : decode z_Sh_shrink.2.2.1 46 = .ok (.invokestatic 164, 3) := by decide +kernel
theorem d_Sh_shrink_49 : decode z_Sh_shrink.2.2.1 49 = .ok (.aload_n 0, 1) := by decide +kernel
theorem d_Sh_shrink_50 : decode z_Sh_shrink.2.2.1 50 = .ok (.getfield 28, 3) := by decide +kernel
theorem d_Sh_shrink_53 : decode z_Sh_shrink.2.2.1 53 = .ok (.invokevirtual 181, 3) := by decide +kernel
theorem d_Sh_shrink_56 : decode z_Sh_shrink.2.2.1 56 = .ok (.astore 4, 2) := by decide +kernel
theorem d_Sh_shrink_58 : decode z_Sh_shrink.2.2.1 58 = .ok (.iconst 2, 1) := by decide +kernel
theorem d_Sh_shrink_59 : decode z_Sh_shrink.2.2.1 59 = .ok (.iload_n 2, 1) := by decide +kernel
theorem d_Sh_shrink_60 : decode z_Sh_shrink.2.2.1 60 = .ok (.imul, 1) := by decide +kernel
theorem d_Sh_shrink_61 : decode z_Sh_shrink.2.2.1 61 = .ok (.istore 5, 2) := by decide +kernel
theorem d_Sh_shrink_63 : decode z_Sh_shrink.2.2.1 63 = .ok (.iload 5, 2) := by decide +kernel
theorem d_Sh_shrink_65 : decode z_Sh_shrink.2.2.1 65 = .ok (.iconst 2, 1) := by decide +kernel
theorem d_Sh_shrink_66 : decode z_Sh_shrink.2.2.1 66 = .ok (.aload_n 3, 1) := by decide +kernel
theorem d_Sh_shrink_67 : decode z_Sh_shrink.2.2.1 67 = .ok (.getfield 154, 3) := by decide +kernel
theorem d_Sh_shrink_70 : decode z_Sh_shrink.2.2.1 70 = .ok (.imul, 1) := by decide +kernel
theorem d_Sh_shrink_71 : decode z_Sh_shrink.2.2.1 71 = .ok (.if_icmp .ge 23, 3) := by decide +kernel
theorem d_Sh_shrink_74 : decode z_Sh_shrink.2.2.1 74 = .ok (.aload 4, 2) := by decide +kernel
theorem d_Sh_shrink_76 : decode z_Sh_shrink.2.2.1 76 = .ok (.getfield 71, 3) := by decide +kernel
theorem d_Sh_shrink_79 : decode z_Sh_shrink.2.2.1 79 = .ok (.iload_n 1, 1) := by decide +kernel
theorem d_Sh_shrink_80 : decode z_Sh_shrink.2.2.1 80 = .ok (.aaload, 1) := by decide +kernel
theorem d_Sh_shrink_81 : decode z_Sh_shrink.2.2.1 81 = .ok (.getfield 120, 3) := by decide +kernel
theorem d_Sh_shrink_84 : decode z_Sh_shrink.2.2.1 84 = .ok (.iload 5, 2) := by decide +kernel
theorem d_Sh_shrink_86 : decode z_Sh_shrink.2.2.1 86 = .ok (.iconst 0, 1) := by decide +kernel
theorem d_Sh_shrink_87 : decode z_Sh_shrink.2.2.1 87 = .ok (.iastore, 1) := by decide +kernel
theorem d_Sh_shrink_88 : decode z_Sh_shrink.2.2.1 88 = .ok (.iinc 5 1, 3) := by decide +kernel
theorem d_Sh_shrink_91 : decode z_Sh_shrink.2.2.1 91 = .ok (.goto (-28), 3) := by decide +kernel
theorem d_Sh_shrink_94 : decode z_Sh_shrink.2.2.1 94 = .ok (.aload 4, 2) := by decide +kernel
theorem d_Sh_shrink_96 : decode z_Sh_shrink.2.2.1 96 = .ok (.getfield 71, 3) := by decide +kernel
theorem d_Sh_shrink_99 : decode z_Sh_shrink.2.2.1 99 = .ok (.iload_n 1, 1) := by decide +kernel
theorem d_Sh_shrink_100 : decode z_Sh_shrink.2.2.1 100 = .ok (.aaload, 1) := by decide +kernel
theorem d_Sh_shrink_101 : decode z_Sh_shrink.2.2.1 101 = .ok (.iload_n 2, 1) := by decide +kernel
theorem d_Sh_shrink_102 : decode z_Sh_shrink.2.2.1 102 = .ok (.putfield 154, 3) := by decide +kernel
theorem d_Sh_shrink_105 : decode z_Sh_shrink.2.2.1 105 = .ok (.aload_n 0, 1) := by decide +kernel
theorem d_Sh_shrink_106 : decode z_Sh_shrink.2.2.1 106 = .ok (.aload 4, 2) := by decide +kernel
theorem d_Sh_shrink_108 : decode z_Sh_shrink.2.2.1 108 = .ok (.invokevirtual 185, 3) := by decide +kernel
theorem d_Sh_shrink_111 : decode z_Sh_shrink.2.2.1 111 = .ok (.aload_n 3, 1) := by decide +kernel
theorem d_Sh_shrink_112 : decode z_Sh_shrink.2.2.1 112 = .ok (.getfield 154, 3) := by decide +kernel
theorem d_Sh_shrink_115 : decode z_Sh_shrink.2.2.1 115 = .ok (.iload_n 2, 1) := by decide +kernel
theorem d_Sh_shrink_116 : decode z_Sh_shrink.2.2.1 116 = .ok (.isub, 1) := by decide +kernel
theorem d_Sh_shrink_117 : decode z_Sh_shrink.2.2.1 117 = .ok (.ireturn, 1) := by decide +kernel
def lc_Sh_shrink_0 : jx_Cx := (cCmp rLt (eI 5) (eBin oMul (eInt (nI 2)) (eGf [5, 6, 7] 1 (eA 3))))
def lb_Sh_shrink_0 : jx_St := (sSeq (sSt 0 0 (eGf [5, 6, 7] 2 (eLda 4 (eGf [3] 2 (eA 4)) (eI 1))) (eI 5) (eInt (nI 0))) (sInc 5 (nI 1)))
theorem ml_Sh_shrink_0 : jx_Ts z_Sh_shrink 63 (sWh 64 lc_Sh_shrink_0 lb_Sh_shrink_0) [94] := by
  unfold lc_Sh_shrink_0 lb_Sh_shrink_0
  exact t_wh (EA := [91]) (Fs := [94]) (E := [94]) 64 (s_cmp (s_iload d_Sh_shrink_63) (s_bin (s_iconst d_Sh_shrink_65 (by decide)) (s_getf (s_aload_n d_Sh_shrink_66 rfl) fi_Sh_154 d_Sh_shrink_67) (s_imul d_Sh_shrink_70)) (s_icmp_geF (tgt := 94) d_Sh_shrink_71 (by decide))) (by decide) (t_seq (t_st (s_getf (s_loada (s_getf (s_aload d_Sh_shrink_74) fi_Sh_71 d_Sh_shrink_76) (s_iload_n d_Sh_shrink_79 rfl) (s_aald (Or.inr rfl) d_Sh_shrink_80)) fi_Sh_120 d_Sh_shrink_81) (s_iload d_Sh_shrink_84) (s_iconst d_Sh_shrink_86 (by decide)) (s_iast d_Sh_shrink_87)) (t_iinc d_Sh_shrink_88 (by decide) (by decide))) (al_1 (Or.inr ⟨-28, d_Sh_shrink_91, by decide⟩)) (by decide)
def bd_Sh_shrink : jx_St := (sSeq (sCl (jx_ev tb_Sh_needOn) [(eA 0)]) (sSeq (sAsg 2 3 (eCl (jx_ev tb_Sh_volumeAt) [(eA 0), (eI 1)])) (sSeq (sCl (jx_ec f_Sh_need) [(eIte (cAnd (cCmp rLt (eI 2) (eGf [5, 6, 7] 1 (eA 3))) (cCmp0 rNe (eCl (jx_ev tb_Vo_fits) [(eA 3), (eI 2)]))) (eInt (nI 1)) (eInt (nI 0)))]) (sSeq (sCl (jx_ec f_Sh_allow) [(eIte (cNot (cCmp0 rNe (eCl (jx_ev tb_Sh_isOneAbsent) [(eA 0)]))) (eInt (nI 1)) (eInt (nI 0)))]) (sSeq (sAsg 2 4 (eCl (jx_ev tb_Tb_copy) [(eGf [0] 2 (eA 0))])) (sSeq (sSeq (sAsg 0 5 (eBin oMul (eInt (nI 2)) (eI 2))) (sWh 64 lc_Sh_shrink_0 lb_Sh_shrink_0)) (sSeq (sPf [5, 6, 7] 1 0 (eLda 4 (eGf [3] 2 (eA 4)) (eI 1)) (eI 2)) (sSeq (sCl (jx_ev tb_Sh_change) [(eA 0), (eA 4)]) (sRet 0 (eBin oSub (eGf [5, 6, 7] 1 (eA 3)) (eI 2)))))))))))
theorem m_Sh_shrink : jx_Ts z_Sh_shrink 0 bd_Sh_shrink [] := by
  unfold bd_Sh_shrink
  exact (t_seq (t_cl (s_a1 (s_aload_n d_Sh_shrink_0 rfl) s_a0) (s_ecv (ve_Sh_needOn (by decide) (by decide)) dc_Sh_needOn (by decide) lm_Sh_172 pd_Sh_needOn d_Sh_shrink_1)) (t_seq (t_asg (s_cl (s_a1 (s_aload_n d_Sh_shrink_4 rfl) (s_a1 (s_iload_n d_Sh_shrink_5 rfl) s_a0)) (s_ecv (ve_Sh_volumeAt (by decide) (by decide)) dc_Sh_volumeAt (by decide) lm_Sh_205 pd_Sh_volumeAt d_Sh_shrink_6)) (fun v k h => b_astore_n d_Sh_shrink_9 rfl (by decide) h)) (t_seq (t_cl (s_a1 (s_ite (q4 := 31) (s_andg (s_cmp (s_iload_n d_Sh_shrink_10 rfl) (s_getf (s_aload_n d_Sh_shrink_11 rfl) fi_Sh_154 d_Sh_shrink_12) (s_icmp_geF (tgt := 30) d_Sh_shrink_15 (by decide))) (by decide) (al_1 (s_cmp0 (s_cl (s_a1 (s_aload_n d_Sh_shrink_18 rfl) (s_a1 (s_iload_n d_Sh_shrink_19 rfl) s_a0)) (s_ecv (ve_Vo_fits (by decide) (by decide)) dc_Vo_fits (by decide) lm_Sh_199 pd_Vo_fits d_Sh_shrink_20)) (s_if_eqF (tgt := 30) d_Sh_shrink_23 (by decide))))) (s_iconst d_Sh_shrink_26 (by decide)) d_Sh_shrink_27 (by decide) (s_iconst d_Sh_shrink_30 (by decide))) s_a0) (s_ecs me_Sh_need mw_Sh_need (by decide) (by decide) (by decide) lm_Sh_178 w_st_Sh_need w_in_Sh pd_Sh_need d_Sh_shrink_31)) (t_seq (t_cl (s_a1 (s_ite (q4 := 46) (s_not (s_cmp0 (s_cl (s_a1 (s_aload_n d_Sh_shrink_34 rfl) s_a0) (s_ecv (ve_Sh_isOneAbsent (by decide) (by decide)) dc_Sh_isOneAbsent (by decide) lm_Sh_93 pd_Sh_isOneAbsent d_Sh_shrink_35)) (s_if_neT (tgt := 45) d_Sh_shrink_38 (by decide))) (by decide)) (s_iconst d_Sh_shrink_41 (by decide)) d_Sh_shrink_42 (by decide) (s_iconst d_Sh_shrink_45 (by decide))) s_a0) (s_ecs me_Sh_allow mw_Sh_allow (by decide) (by decide) (by decide) lm_Sh_164 w_st_Sh_allow w_in_Sh pd_Sh_allow d_Sh_shrink_46)) (t_seq (t_asg (s_cl (s_a1 (s_getf (s_aload_n d_Sh_shrink_49 rfl) fi_Sh_28 d_Sh_shrink_50) s_a0) (s_ecv (ve_Tb_copy (by decide) (by decide)) dc_Tb_copy (by decide) lm_Sh_181 pd_Tb_copy d_Sh_shrink_53)) (fun v k h => b_astore d_Sh_shrink_56 (by decide) h)) (t_seq (t_seq (t_asg (s_bin (s_iconst d_Sh_shrink_58 (by decide)) (s_iload_n d_Sh_shrink_59 rfl) (s_imul d_Sh_shrink_60)) (fun v k h => b_istore d_Sh_shrink_61 (by decide) h)) ml_Sh_shrink_0) (t_seq (t_pf (s_loada (s_getf (s_aload d_Sh_shrink_94) fi_Sh_71 d_Sh_shrink_96) (s_iload_n d_Sh_shrink_99 rfl) (s_aald (Or.inr rfl) d_Sh_shrink_100)) (s_iload_n d_Sh_shrink_101 rfl) fi_Sh_154 rfl (Or.inl rfl) d_Sh_shrink_102) (t_seq (t_cl (s_a1 (s_aload_n d_Sh_shrink_105 rfl) (s_a1 (s_aload d_Sh_shrink_106) s_a0)) (s_ecv (ve_Sh_change (by decide) (by decide)) dc_Sh_change (by decide) lm_Sh_185 pd_Sh_change d_Sh_shrink_108)) (t_ret .int (s_bin (s_getf (s_aload_n d_Sh_shrink_111 rfl) fi_Sh_154 d_Sh_shrink_112) (s_iload_n d_Sh_shrink_115 rfl) (s_isub d_Sh_shrink_116)) rfl (by decide) d_Sh_shrink_117)))))))))
def f_Sh_shrink : jx_Mt := jx_fn 3 6 (bd_Sh_shrink fun _ _ => none)
theorem me_Sh_shrink : jx_Me 3 z_Sh_shrink f_Sh_shrink := jx_Me.ofT (by decide) m_Sh_shrink
theorem mw_Sh_shrink : jx_mw ⟨"ExtentShelf", "shrink", "(II)I"⟩ z_Sh_shrink := ⟨rfl, rfl, by decide +kernel, ⟨by decide, by decide⟩, by decide +kernel⟩
theorem pd_Sh_shrink : (parseMethodDescriptor (⟨"ExtentShelf", "shrink", "(II)I"⟩ : MethodName).desc).map (fun d => d.parameters.length) = some 2 := by decide +kernel
/-! ExtentShelf.delete(I)V -/
abbrev z_Sh_delete : jx_Z := ("ExtentShelf", "delete", prog_1_method_26_code, 4, none, 8, 166)
theorem d_Sh_delete_0 : decode z_Sh_delete.2.2.1 0 = .ok (.aload_n 0, 1) := by decide +kernel
theorem d_Sh_delete_1 : decode z_Sh_delete.2.2.1 1 = .ok (.invokevirtual 172, 3) := by decide +kernel
theorem d_Sh_delete_4 : decode z_Sh_delete.2.2.1 4 = .ok (.aload_n 0, 1) := by decide +kernel
theorem d_Sh_delete_5 : decode z_Sh_delete.2.2.1 5 = .ok (.iload_n 1, 1) := by decide +kernel
theorem d_Sh_delete_6 : decode z_Sh_delete.2.2.1 6 = .ok (.invokevirtual 205, 3) := by decide +kernel
theorem d_Sh_delete_9 : decode z_Sh_delete.2.2.1 9 = .ok (.astore_n 2, 1) := by decide +kernel
theorem d_Sh_delete_10 : decode z_Sh_delete.2.2.1 10 = .ok (.aload_n 0, 1) := by decide +kernel
theorem d_Sh_delete_11 : decode z_Sh_delete.2.2.1 11 = .ok (.invokevirtual 93, 3) := by decide +kernel
theorem d_Sh_delete_14 : decode z_Sh_delete.2.2.1 14 = .ok (.ifCond .ne 7, 3) := by decide +kernel
theorem d_Sh_delete_17 : decode z_Sh_delete.2.2.1 17 = .ok (.iconst 1, 1) := by decide +kernel
theorem d_Sh_delete_18 : decode z_Sh_delete.2.2.1 18 = .ok (.goto 4, 3) := by decide +kernel
theorem d_Sh_delete_21 : decode z_Sh_delete.2.2.1 21 = .ok (.iconst 0, 1) := by decide +kernel
theorem d_Sh_delete_22 : decode z_Sh_delete.2.2.1 22 = .ok (.invokestatic 164, 3) := by decide +kernel
theorem d_Sh_delete_25 : decode z_Sh_delete.2.2.1 25 = .ok (.aload_n 0, 1) := by decide +kernel
theorem d_Sh_delete_26 : decode z_Sh_delete.2.2.1 26 = .ok (.getfield 28, 3) := by decide +kernel
theorem d_Sh_delete_29 : decode z_Sh_delete.2.2.1 29 = .ok (.invokevirtual 181, 3) := by decide +kernel
theorem d_Sh_delete_32 : decode z_Sh_delete.2.2.1 32 = .ok (.astore_n 3, 1) := by decide +kernel
theorem d_Sh_delete_33 : decode z_Sh_delete.2.2.1 33 = .ok (.aload_n 3, 1) := by decide +kernel
theorem d_Sh_delete_34 : decode z_Sh_delete.2.2.1 34 = .ok (.getfield 71, 3) := by decide +kernel
theorem d_Sh_delete_37 : decode z_Sh_delete.2.2.1 37 = .ok (.iload_n 1, 1) := by decide +kernel
theorem d_Sh_delete_38 : decode z_Sh_delete.2.2.1 38 = .ok (.aconst_null, 1) := by decide +kernel
theorem d_Sh_delete_39 : decode z_Sh_delete.2.2.1 39 = .ok (.aastore, 1) := by decide +kernel
theorem d_Sh_delete_40 : decode z_Sh_delete.2.2.1 40 = .ok (.aload_n 0, 1) := by decide +kernel
theorem d_Sh_delete_41 : decode z_Sh_delete.2.2.1 41 = .ok (.aload_n 3, 1) := by decide +kernel
theorem d_Sh_delete_42 : decode z_Sh_delete.2.2.1 42 = .ok (.invokevirtual 185, 3) := by decide +kernel
theorem d_Sh_delete_45 : decode z_Sh_delete.2.2.1 45 = .ok (.return_, 1) := by decide +kernel
def bd_Sh_delete : jx_St := (sSeq (sSeq (sCl (jx_ev tb_Sh_needOn) [(eA 0)]) (sSeq (sAsg 2 2 (eCl (jx_ev tb_Sh_volumeAt) [(eA 0), (eI 1)])) (sSeq (sCl (jx_ec f_Sh_allow) [(eIte (cNot (cCmp0 rNe (eCl (jx_ev tb_Sh_isOneAbsent) [(eA 0)]))) (eInt (nI 1)) (eInt (nI 0)))]) (sSeq (sAsg 2 3 (eCl (jx_ev tb_Tb_copy) [(eGf [0] 2 (eA 0))])) (sSeq (sSta 4 [5, 6, 7] (eGf [3] 2 (eA 3)) (eI 1) eNull) (sCl (jx_ev tb_Sh_change) [(eA 0), (eA 3)])))))) sRetV)
theorem m_Sh_delete : jx_Ts z_Sh_delete 0 bd_Sh_delete [] := by
  unfold bd_Sh_delete
  exact (t_seq (t_seq (t_cl (s_a1 (s_aload_n d_Sh_delete_0 rfl) s_a0) (s_ecv (ve_Sh_needOn (by decide) (by decide)) dc_Sh_needOn (by decide) lm_Sh_172 pd_Sh_needOn d_Sh_delete_1)) (t_seq (t_asg (s_cl (s_a1 (s_aload_n d_Sh_delete_4 rfl) (s_a1 (s_iload_n d_Sh_delete_5 rfl) s_a0)) (s_ecv (ve_Sh_volumeAt (by decide) (by decide)) dc_Sh_volumeAt (by decide) lm_Sh_205 pd_Sh_volumeAt d_Sh_delete_6)) (fun v k h => b_astore_n d_Sh_delete_9 rfl (by decide) h)) (t_seq (t_cl (s_a1 (s_ite (q4 := 22) (s_not (s_cmp0 (s_cl (s_a1 (s_aload_n d_Sh_delete_10 rfl) s_a0) (s_ecv (ve_Sh_isOneAbsent (by decide) (by decide)) dc_Sh_isOneAbsent (by decide) lm_Sh_93 pd_Sh_isOneAbsent d_Sh_delete_11)) (s_if_neT (tgt := 21) d_Sh_delete_14 (by decide))) (by decide)) (s_iconst d_Sh_delete_17 (by decide)) d_Sh_delete_18 (by decide) (s_iconst d_Sh_delete_21 (by decide))) s_a0) (s_ecs me_Sh_allow mw_Sh_allow (by decide) (by decide) (by decide) lm_Sh_164 w_st_Sh_allow w_in_Sh pd_Sh_allow d_Sh_delete_22)) (t_seq (t_asg (s_cl (s_a1 (s_getf (s_aload_n d_Sh_delete_25 rfl) fi_Sh_28 d_Sh_delete_26) s_a0) (s_ecv (ve_Tb_copy (by decide) (by decide)) dc_Tb_copy (by decide) lm_Sh_181 pd_Tb_copy d_Sh_delete_29)) (fun v k h => b_astore_n d_Sh_delete_32 rfl (by decide) h)) (t_seq (t_sta (s_getf (s_aload_n d_Sh_delete_33 rfl) fi_Sh_71 d_Sh_delete_34) (s_iload_n d_Sh_delete_37 rfl) (s_null d_Sh_delete_38) (s_aast (E := "ExtentShelf$Volume") ⟨Or.inr rfl, rfl⟩ (al_3 ⟨R_Linear, F_Linear, 3, rfl, Or.inr (by decide +kernel)⟩ ⟨R_Striped, F_Striped, 3, rfl, Or.inr (by decide +kernel)⟩ ⟨R_Twinned, F_Twinned, 3, rfl, Or.inr (by decide +kernel)⟩) d_Sh_delete_39)) (t_cl (s_a1 (s_aload_n d_Sh_delete_40 rfl) (s_a1 (s_aload_n d_Sh_delete_41 rfl) s_a0)) (s_ecv (ve_Sh_change (by decide) (by decide)) dc_Sh_change (by decide) lm_Sh_185 pd_Sh_change d_Sh_delete_42))))))) (t_retv rfl d_Sh_delete_45))
def f_Sh_delete : jx_Mt := jx_fn 2 4 (bd_Sh_delete fun _ _ => none)
theorem me_Sh_delete : jx_Me 2 z_Sh_delete f_Sh_delete := jx_Me.ofT (by decide) m_Sh_delete
theorem mw_Sh_delete : jx_mw ⟨"ExtentShelf", "delete", "(I)V"⟩ z_Sh_delete := ⟨rfl, rfl, by decide +kernel, ⟨by decide, by decide⟩, by decide +kernel⟩
theorem pd_Sh_delete : (parseMethodDescriptor (⟨"ExtentShelf", "delete", "(I)V"⟩ : MethodName).desc).map (fun d => d.parameters.length) = some 1 := by decide +kernel
abbrev tb_Sh_get : List (Nat × jx_Mt) := [(0, f_Sh_get)]
theorem ve_Sh_get {fr lo : Nat} (h1 : 2 ≤ fr) (h2 : 58 ≤ lo) : ∀ q ∈ tb_Sh_get, jx_ve ⟨"ExtentShelf", "get", "(II)I"⟩ 2 fr lo q.1 q.2 := tv_1 ⟨R_Shelf, F_Shelf, 5, ⟨"ExtentShelf", "get", "(II)I"⟩, z_Sh_get, rfl, by decide +kernel, mw_Sh_get, by decide +kernel, me_Sh_get, Nat.le_trans (by decide) h1, Nat.le_trans (by decide) h2⟩
theorem dc_Sh_get : jx_dc ⟨"ExtentShelf", "get", "(II)I"⟩ := ⟨⟨by decide, by decide⟩, Or.inr ⟨by decide +kernel, prog_1_method_12_code, 3, _, (by decide +kernel : Cond.code ⟨"ExtentShelf", "get", "(II)I"⟩ prog_1_method_12_code 3 (some .int) ∈ jx_tbl)⟩, "ExtentShelf", ⟨"ExtentShelf", "get", "(II)I"⟩, ⟨"ExtentShelf", "get", "(II)I"⟩, by decide +kernel, rfl⟩
/-! ExtentShelf.mend(I)I -/
abbrev z_Sh_mend : jx_Z := ("ExtentShelf", "mend", prog_1_method_27_code, 8, some .int, 8, 166)
theorem d_Sh_mend_0 : decode z_Sh_mend.2.2.1 0 = .ok (.aload_n 0, 1) := by decide +kernel
theorem d_Sh_mend_1 : decode z_Sh_mend.2.2.1 1 = .ok (.invokevirtual 172, 3) := by decide +kernel
theorem d_Sh_mend_4 : decode z_Sh_mend.2.2.1 4 = .ok (.aload_n 0, 1) := by decide +kernel
theorem d_Sh_mend_5 : decode z_Sh_mend.2.2.1 5 = .ok (.iload_n 1, 1) := by decide +kernel
theorem d_Sh_mend_6 : decode z_Sh_mend.2.2.1 6 = .ok (.invokevirtual 205, 3) := by decide +kernel
theorem d_Sh_mend_9 : decode z_Sh_mend.2.2.1 9 = .ok (.astore_n 2, 1) := by decide +kernel
theorem d_Sh_mend_10 : decode z_Sh_mend.2.2.1 10 = .ok (.aload_n 2, 1) := by decide +kernel
theorem d_Sh_mend_11 : decode z_Sh_mend.2.2.1 11 = .ok (.invokevirtual 157, 3) := by decide +kernel
theorem d_Sh_mend_14 : decode z_Sh_mend.2.2.1 14 = .ok (.iconst 2, 1) := by decide +kernel
theorem d_Sh_mend_15 : decode z_Sh_mend.2.2.1 15 = .ok (.if_icmp .ne 7, 3) := by decide +kernel
theorem d_Sh_mend_18 : decode z_Sh_mend.2.2.1 18 = .ok (.iconst 1, 1) := by decide +kernel
theorem d_Sh_mend_19 : decode z_Sh_mend.2.2.1 19 = .ok (.goto 4, 3) := by decide +kernel
theorem d_Sh_mend_22 : decode z_Sh_mend.2.2.1 22 = .ok (.iconst 0, 1) := by decide +kernel
theorem d_Sh_mend_23 : decode z_Sh_mend.2.2.1 23 = .ok (.invokestatic 178, 3) := by decide +kernel
theorem d_Sh_mend_26 : decode z_Sh_mend.2.2.1 26 = .ok (.aload_n 0, 1) := by decide +kernel
theorem d_Sh_mend_27 : decode z_Sh_mend.2.2.1 27 = .ok (.invokevirtual 93, 3) := by decide +kernel
theorem d_Sh_mend_30 : decode z_Sh_mend.2.2.1 30 = .ok (.ifCond .ne 7, 3) := by decide +kernel
theorem d_Sh_mend_33 : decode z_Sh_mend.2.2.1 33 = .ok (.iconst 1, 1) := by decide +kernel
theorem d_Sh_mend_34 : decode z_Sh_mend.2.2.1 34 = .ok (.goto 4, 3) := by decide +kernel
theorem d_Sh_mend_37 : decode z_Sh_mend.2.2.1 37 = .ok (.iconst 0, 1) := by decide +kernel
theorem d_Sh_mend_38 : decode z_Sh_mend.2.2.1 38 = .ok (.invokestatic 164, 3) := by decide +kernel
theorem d_Sh_mend_41 : decode z_Sh_mend.2.2.1 41 = .ok (.aload_n 0, 1) := by decide +kernel
theorem d_Sh_mend_42 : decode z_Sh_mend.2.2.1 42 = .ok (.getfield 28, 3) := by decide +kernel
theorem d_Sh_mend_45 : decode z_Sh_mend.2.2.1 45 = .ok (.invokevirtual 181, 3) := by decide +kernel
theorem d_Sh_mend_48 : decode z_Sh_mend.2.2.1 48 = .ok (.astore_n 3, 1) := by decide +kernel
theorem d_Sh_mend_49 : decode z_Sh_mend.2.2.1 49 = .ok (.aload_n 3, 1) := by decide +kernel
theorem d_Sh_mend_50 : decode z_Sh_mend.2.2.1 50 = .ok (.getfield 71, 3) := by decide +kernel
theorem d_Sh_mend_53 : decode z_Sh_mend.2.2.1 53 = .ok (.iload_n 1, 1) := by decide +kernel
theorem d_Sh_mend_54 : decode z_Sh_mend.2.2.1 54 = .ok (.aaload, 1) := by decide +kernel
theorem d_Sh_mend_55 : decode z_Sh_mend.2.2.1 55 = .ok (.astore 4, 2) := by decide +kernel
theorem d_Sh_mend_57 : decode z_Sh_mend.2.2.1 57 = .ok (.iconst 0, 1) := by decide +kernel
theorem d_Sh_mend_58 : decode z_Sh_mend.2.2.1 58 = .ok (.istore 5, 2) := by decide +kernel
theorem d_Sh_mend_60 : decode z_Sh_mend.2.2.1 60 = .ok (.iconst 0, 1) := by decide +kernel
theorem d_Sh_mend_61 : decode z_Sh_mend.2.2.1 61 = .ok (.istore 6, 2) := by decide +kernel
theorem d_Sh_mend_63 : decode z_Sh_mend.2.2.1 63 = .ok (.iload 6, 2) := by decide +kernel
theorem d_Sh_mend_65 : decode z_Sh_mend.2.2.1 65 = .ok (.iconst 2, 1) := by decide +kernel
theorem d_Sh_mend_66 : decode z_Sh_mend.2.2.1 66 = .ok (.aload_n 2, 1) := by decide +kernel
theorem d_Sh_mend_67 : decode z_Sh_mend.2.2.1 67 = .ok (.getfield 154, 3) := by decide +kernel
theorem d_Sh_mend_70 : decode z_Sh_mend.2.2.1 70 = .ok (.imul, 1) := by decide +kernel
theorem d_Sh_mend_71 : decode z_Sh_mend.2.2.1 71 = .ok (.if_icmp .ge 79, 3) := by decide +kernel
theorem d_Sh_mend_74 : decode z_Sh_mend.2.2.1 74 = .ok (.aload_n 2, 1) := by decide +kernel
theorem d_Sh_mend_75 : decode z_Sh_mend.2.2.1 75 = .ok (.getfield 120, 3) := by decide +kernel
theorem d_Sh_mend_78 : decode z_Sh_mend.2.2.1 78 = .ok (.iload 6, 2) := by decide +kernel
theorem d_Sh_mend_80 : decode z_Sh_mend.2.2.1 80 = .ok (.iaload, 1) := by decide +kernel
theorem d_Sh_mend_81 : decode z_Sh_mend.2.2.1 81 = .ok (.ifCond .ne 63, 3) := by decide +kernel
theorem d_Sh_mend_84 : decode z_Sh_mend.2.2.1 84 = .ok (.aload_n 2, 1) := by decide +kernel
theorem d_Sh_mend_85 : decode z_Sh_mend.2.2.1 85 = .ok (.getfield 120, 3) := by decide +kernel
theorem d_Sh_mend_88 : decode z_Sh_mend.2.2.1 88 = .ok (.iload 6, 2) := by decide +kernel
theorem d_Sh_mend_90 : decode z_Sh_mend.2.2.1 90 = .ok (.iconst 1, 1) := by decide +kernel
theorem d_Sh_mend_91 : decode z_Sh_mend.2.2.1 91 = .ok (.ixor, 1) := by decide +kernel
theorem d_Sh_mend_92 : decode z_Sh_mend.2.2.1 92 = .ok (.iaload, 1) := by decide +kernel
theorem d_Sh_mend_93 : decode z_Sh_mend.2.2.1 93 = .ok (.ifCond .ne 6, 3) := by decide +kernel
theorem d_Sh_mend_96 : decode z_Sh_mend.2.2.1 96 = .ok (.goto 48, 3) := by decide +kernel
theorem d_Sh_mend_99 : decode z_Sh_mend.2.2.1 99 = .ok (.aload 4, 2) := by decide +kernel
theorem d_Sh_mend_101 : decode z_Sh_mend.2.2.1 101 = .ok (.getfield 120, 3) := by decide +kernel
theorem d_Sh_mend_104 : decode z_Sh_mend.2.2.1 104 = .ok (.iload 6, 2) := by decide +kernel
theorem d_Sh_mend_106 : decode z_Sh_mend.2.2.1 106 = .ok (.aload_n 0, 1) := by decide +kernel
theorem d_Sh_mend_107 : decode z_Sh_mend.2.2.1 107 = .ok (.aload_n 3, 1) := by decide +kernel
theorem d_Sh_mend_108 : decode z_Sh_mend.2.2.1 108 = .ok (.iload_n 1, 1) := by decide +kernel
theorem d_Sh_mend_109 : decode z_Sh_mend.2.2.1 109 = .ok (.iload 6, 2) := by decide +kernel
theorem d_Sh_mend_111 : decode z_Sh_mend.2.2.1 111 = .ok (.iconst 2, 1) := by decide +kernel
theorem d_Sh_mend_112 : decode z_Sh_mend.2.2.1 112 = .ok (.idiv, 1) := by decide +kernel
theorem d_Sh_mend_113 : decode z_Sh_mend.2.2.1 113 = .ok (.iload 6, 2) := by decide +kernel
theorem d_Sh_mend_115 : decode z_Sh_mend.2.2.1 115 = .ok (.iconst 2, 1) := by decide +kernel
theorem d_Sh_mend_116 : decode z_Sh_mend.2.2.1 116 = .ok (.irem, 1) := by decide +kernel
theorem d_Sh_mend_117 : decode z_Sh_mend.2.2.1 117 = .ok (.iconst (-1), 1) := by decide +kernel
theorem d_Sh_mend_118 : decode z_Sh_mend.2.2.1 118 = .ok (.invokevirtual 160, 3) := by decide +kernel
theorem d_Sh_mend_121 : decode z_Sh_mend.2.2.1 121 = .ok (.iastore, 1) := by decide +kernel
theorem d_Sh_mend_122 : decode z_Sh_mend.2.2.1 122 = .ok (.aload 4, 2) := by decide +kernel
theorem d_Sh_mend_124 : decode z_Sh_mend.2.2.1 124 = .ok (.getfield 120, 3) := by decide +kernel
theorem d_Sh_mend_127 : decode z_Sh_mend.2.2.1 127 = .ok (.iload 6, 2) := by decide +kernel
theorem d_Sh_mend_129 : decode z_Sh_mend.2.2.1 129 = .ok (.iaload, 1) := by decide +kernel
theorem d_Sh_mend_130 : decode z_Sh_mend.2.2.1 130 = .ok (.ifCond .eq 7, 3) := by decide +kernel
theorem d_Sh_mend_133 : decode z_Sh_mend.2.2.1 133 = .ok (.iconst 1, 1) := by decide +kernel
theorem d_Sh_mend_134 : decode z_Sh_mend.2.2.1 134 = .ok (.goto 4, 3) := by decide +kernel
theorem d_Sh_mend_137 : decode z_Sh_mend.2.2.1 137 = .ok (.iconst 0, 1) := by decide +kernel
theorem d_Sh_mend_138 : decode z_Sh_mend.2.2.1 138 = .ok (.invokestatic 164, 3) := by decide +kernel
theorem d_Sh_mend_141 : decode z_Sh_mend.2.2.1 141 = .ok (.iinc 5 1, 3) := by decide +kernel
theorem d_Sh_mend_144 : decode z_Sh_mend.2.2.1 144 = .ok (.iinc 6 1, 3) := by decide +kernel
theorem d_Sh_mend_147 : decode z_Sh_mend.2.2.1 147 = .ok (.goto (-84), 3) := by decide +kernel
theorem d_Sh_mend_150 : decode z_Sh_mend.2.2.1 150 = .ok (.iload 5, 2) := by decide +kernel
theorem d_Sh_mend_152 : decode z_Sh_mend.2.2.1 152 = .ok (.ifCond .ne 5, 3) := by decide +kernel
theorem d_Sh_mend_155 : decode z_Sh_mend.2.2.1 155 = .ok (.iconst 0, 1) := by decide +kernel
theorem d_Sh_mend_156 : decode z_Sh_mend.2.2.1 156 = .ok (.ireturn, 1) := by decide +kernel
theorem d_Sh_mend_157 : decode z_Sh_mend.2.2.1 157 = .ok (.iconst 0, 1) := by decide +kernel
theorem d_Sh_mend_158 : decode z_Sh_mend.2.2.1 158 = .ok (.istore 6, 2) := by decide +kernel
theorem d_Sh_mend_160 : decode z_Sh_mend.2.2.1 160 = .ok (.iload 6, 2) := by decide +kernel
theorem d_Sh_mend_162 : decode z_Sh_mend.2.2.1 162 = .ok (.iconst 2, 1) := by decide +kernel
theorem d_Sh_mend_163 : decode z_Sh_mend.2.2.1 163 = .ok (.aload_n 2, 1) := by decide +kernel
theorem d_Sh_mend_164 : decode z_Sh_mend.2.2.1 164 = .ok (.getfield 154, 3) := by decide +kernel
theorem d_Sh_mend_167 : decode z_Sh_mend.2.2.1 167 = .ok (.imul, 1) := by decide +kernel
theorem d_Sh_mend_168 : decode z_Sh_mend.2.2.1 168 = .ok (.if_icmp .ge 71, 3) := by decide +kernel
theorem d_Sh_mend_171 : decode z_Sh_mend.2.2.1 171 = .ok (.iconst 0, 1) := by decide +kernel
theorem d_Sh_mend_172 : decode z_Sh_mend.2.2.1 172 = .ok (.istore 7, 2) := by decide +kernel
theorem d_Sh_mend_174 : decode z_Sh_mend.2.2.1 174 = .ok (.iload 7, 2) := by decide +kernel
theorem d_Sh_mend_176 : decode z_Sh_mend.2.2.1 176 = .ok (.iconst 4, 1) := by decide +kernel
theorem d_Sh_mend_177 : decode z_Sh_mend.2.2.1 177 = .ok (.if_icmp .ge 56, 3) := by decide +kernel
theorem d_Sh_mend_180 : decode z_Sh_mend.2.2.1 180 = .ok (.aload_n 2, 1) := by decide +kernel
theorem d_Sh_mend_181 : decode z_Sh_mend.2.2.1 181 = .ok (.getfield 120, 3) := by decide +kernel
theorem d_Sh_mend_184 : decode z_Sh_mend.2.2.1 184 = .ok (.iload 6, 2) := by decide +kernel
theorem d_Sh_mend_186 : decode z_Sh_mend.2.2.1 186 = .ok (.iaload, 1) := by decide +kernel
theorem d_Sh_mend_187 : decode z_Sh_mend.2.2.1 187 = .ok (.aload 4, 2) := by decide +kernel
theorem d_Sh_mend_189 : decode z_Sh_mend.2.2.1 189 = .ok (.getfield 120, 3) := by decide +kernel
theorem d_Sh_mend_192 : decode z_Sh_mend.2.2.1 192 = .ok (.iload 6, 2) := by decide +kernel
theorem d_Sh_mend_194 : decode z_Sh_mend.2.2.1 194 = .ok (.iaload, 1) := by decide +kernel
theorem d_Sh_mend_195 : decode z_Sh_mend.2.2.1 195 = .ok (.if_icmp .eq 38, 3) := by decide +kernel
theorem d_Sh_mend_198 : decode z_Sh_mend.2.2.1 198 = .ok (.aload_n 0, 1) := by decide +kernel
theorem d_Sh_mend_199 : decode z_Sh_mend.2.2.1 199 = .ok (.aload 4, 2) := by decide +kernel
theorem d_Sh_mend_201 : decode z_Sh_mend.2.2.1 201 = .ok (.getfield 120, 3) := by decide +kernel
theorem d_Sh_mend_204 : decode z_Sh_mend.2.2.1 204 = .ok (.iload 6, 2) := by decide +kernel
theorem d_Sh_mend_206 : decode z_Sh_mend.2.2.1 206 = .ok (.iaload, 1) := by decide +kernel
theorem d_Sh_mend_207 : decode z_Sh_mend.2.2.1 207 = .ok (.iload 7, 2) := by decide +kernel
theorem d_Sh_mend_209 : decode z_Sh_mend.2.2.1 209 = .ok (.aload_n 0, 1) := by decide +kernel
theorem d_Sh_mend_210 : decode z_Sh_mend.2.2.1 210 = .ok (.aload_n 2, 1) := by decide +kernel
theorem d_Sh_mend_211 : decode z_Sh_mend.2.2.1 211 = .ok (.getfield 120, 3) := by decide +kernel
theorem d_Sh_mend_214 : decode z_Sh_mend.2.2.1 214 = .ok (.iload 6, 2) := by decide +kernel
theorem d_Sh_mend_216 : decode z_Sh_mend.2.2.1 216 = .ok (.iconst 1, 1) := by decide +kernel
theorem d_Sh_mend_217 : decode z_Sh_mend.2.2.1 217 = .ok (.ixor, 1) := by decide +kernel
theorem d_Sh_mend_218 : decode z_Sh_mend.2.2.1 218 = .ok (.iaload, 1) := by decide +kernel
theorem d_Sh_mend_219 : decode z_Sh_mend.2.2.1 219 = .ok (.iload 7, 2) := by decide +kernel
theorem d_Sh_mend_221 : decode z_Sh_mend.2.2.1 221 = .ok (.invokevirtual 209, 3) := by decide +kernel
theorem d_Sh_mend_224 : decode z_Sh_mend.2.2.1 224 = .ok (.invokevirtual 168, 3) := by decide +kernel
theorem d_Sh_mend_227 : decode z_Sh_mend.2.2.1 227 = .ok (.iinc 7 1, 3) := by decide +kernel
theorem d_Sh_mend_230 : decode z_Sh_mend.2.2.1 230 = .ok (.goto (-56), 3) := by decide +kernel
theorem d_Sh_mend_233 : decode z_Sh_mend.2.2.1 233 = .ok (.iinc 6 1, 3) := by decide +kernel
theorem d_Sh_mend_236 : decode z_Sh_mend.2.2.1 236 = .ok (.goto (-76), 3) := by decide +kernel
theorem d_Sh_mend_239 : decode z_Sh_mend.2.2.1 239 = .ok (.aload_n 0, 1) := by decide +kernel
theorem d_Sh_mend_240 : decode z_Sh_mend.2.2.1 240 = .ok (.aload_n 3, 1) := by decide +kernel
theorem d_Sh_mend_241 : decode z_Sh_mend.2.2.1 241 = .ok (.invokevirtual 185, 3) := by decide +kernel
theorem d_Sh_mend_244 : decode z_Sh_mend.2.2.1 244 = .ok (.iload 5, 2) := by decide +kernel
theorem d_Sh_mend_246 : decode z_Sh_mend.2.2.1 246 = .ok (.ireturn, 1) := by decide +kernel
def lc_Sh_mend_0 : jx_Cx := (cCmp rLt (eI 6) (eBin oMul (eInt (nI 2)) (eGf [5, 6, 7] 1 (eA 2))))
def lb_Sh_mend_0 : jx_St := (sSeq (sIf (cOr (cCmp0 rNe (eLd 0 (eGf [5, 6, 7] 2 (eA 2)) (eI 6))) (cCmp0 rEq (eLd 0 (eGf [5, 6, 7] 2 (eA 2)) (eBin oXor (eI 6) (eInt (nI 1)))))) sSkip (sSeq (sSt 0 0 (eGf [5, 6, 7] 2 (eA 4)) (eI 6) (eCl (jx_ev tb_Sh_room) [(eA 0), (eA 3), (eI 1), (eBin oDiv (eI 6) (eInt (nI 2))), (eBin oRem (eI 6) (eInt (nI 2))), (eInt (-1))])) (sSeq (sCl (jx_ec f_Sh_allow) [(eIte (cCmp0 rNe (eLd 0 (eGf [5, 6, 7] 2 (eA 4)) (eI 6))) (eInt (nI 1)) (eInt (nI 0)))]) (sInc 5 (nI 1))))) (sInc 6 (nI 1)))
theorem ml_Sh_mend_0 : jx_Ts z_Sh_mend 63 (sWh 64 lc_Sh_mend_0 lb_Sh_mend_0) [150] := by
  unfold lc_Sh_mend_0 lb_Sh_mend_0
  exact t_wh (EA := [147]) (Fs := [150]) (E := [150]) 64 (s_cmp (s_iload d_Sh_mend_63) (s_bin (s_iconst d_Sh_mend_65 (by decide)) (s_getf (s_aload_n d_Sh_mend_66 rfl) fi_Sh_154 d_Sh_mend_67) (s_imul d_Sh_mend_70)) (s_icmp_geF (tgt := 150) d_Sh_mend_71 (by decide))) (by decide) (t_seq (t_ifg (E := [144]) (s_org (s_csub (T1 := [144]) (F1 := [84]) (Ts := [96, 144]) (Fs := [84]) (s_cmp0 (s_load (s_getf (s_aload_n d_Sh_mend_74 rfl) fi_Sh_120 d_Sh_mend_75) (s_iload d_Sh_mend_78) (s_iald d_Sh_mend_80)) (s_if_neT (tgt := 144) d_Sh_mend_81 (by decide))) (by decide) (by decide)) (by decide) (al_1 (s_csub (T1 := [96]) (F1 := [99]) (Ts := [96, 144]) (Fs := [99]) (s_cmp0 (s_load (s_getf (s_aload_n d_Sh_mend_84 rfl) fi_Sh_120 d_Sh_mend_85) (s_bin (s_iload d_Sh_mend_88) (s_iconst d_Sh_mend_90 (by decide)) (s_ixor d_Sh_mend_91)) (s_iald d_Sh_mend_92)) (s_if_neF (tgt := 99) d_Sh_mend_93 (by decide))) (by decide) (by decide)))) (by decide) (al_2 (t_goto (q := 96) (tgt := 144) (E := [144]) (t_skip (by decide)) d_Sh_mend_96 (by decide) (by decide)) (t_skip (by decide))) (al_1 (t_seq (t_st (s_getf (s_aload d_Sh_mend_99) fi_Sh_120 d_Sh_mend_101) (s_iload d_Sh_mend_104) (s_cl (s_a1 (s_aload_n d_Sh_mend_106 rfl) (s_a1 (s_aload_n d_Sh_mend_107 rfl) (s_a1 (s_iload_n d_Sh_mend_108 rfl) (s_a1 (s_bin (s_iload d_Sh_mend_109) (s_iconst d_Sh_mend_111 (by decide)) (s_idiv d_Sh_mend_112)) (s_a1 (s_bin (s_iload d_Sh_mend_113) (s_iconst d_Sh_mend_115 (by decide)) (s_irem d_Sh_mend_116)) (s_a1 (s_iconst d_Sh_mend_117 (by decide)) s_a0)))))) (s_ecv (ve_Sh_room (by decide) (by decide)) dc_Sh_room (by decide) lm_Sh_160 pd_Sh_room d_Sh_mend_118)) (s_iast d_Sh_mend_121)) (t_seq (t_cl (s_a1 (s_ite (q4 := 138) (s_cmp0 (s_load (s_getf (s_aload d_Sh_mend_122) fi_Sh_120 d_Sh_mend_124) (s_iload d_Sh_mend_127) (s_iald d_Sh_mend_129)) (s_if_eqF (tgt := 137) d_Sh_mend_130 (by decide))) (s_iconst d_Sh_mend_133 (by decide)) d_Sh_mend_134 (by decide) (s_iconst d_Sh_mend_137 (by decide))) s_a0) (s_ecs me_Sh_allow mw_Sh_allow (by decide) (by decide) (by decide) lm_Sh_164 w_st_Sh_allow w_in_Sh pd_Sh_allow d_Sh_mend_138)) (t_iinc d_Sh_mend_141 (by decide) (by decide)))))) (t_iinc d_Sh_mend_144 (by decide) (by decide))) (al_1 (Or.inr ⟨-84, d_Sh_mend_147, by decide⟩)) (by decide)
def lc_Sh_mend_2 : jx_Cx := (cAnd (cCmp rLt (eI 7) (eInt (nI 4))) (cCmp rNe (eLd 0 (eGf [5, 6, 7] 2 (eA 2)) (eI 6)) (eLd 0 (eGf [5, 6, 7] 2 (eA 4)) (eI 6))))
def lb_Sh_mend_2 : jx_St := (sSeq (sCl (jx_ev tb_Sh_put) [(eA 0), (eLd 0 (eGf [5, 6, 7] 2 (eA 4)) (eI 6)), (eI 7), (eCl (jx_ev tb_Sh_get) [(eA 0), (eLd 0 (eGf [5, 6, 7] 2 (eA 2)) (eBin oXor (eI 6) (eInt (nI 1)))), (eI 7)])]) (sInc 7 (nI 1)))
theorem ml_Sh_mend_2 : jx_Ts z_Sh_mend 174 (sWh 64 lc_Sh_mend_2 lb_Sh_mend_2) [233] := by
  unfold lc_Sh_mend_2 lb_Sh_mend_2
  exact t_wh (EA := [230]) (Fs := [233]) (E := [233]) 64 (s_andg (s_cmp (s_iload d_Sh_mend_174) (s_iconst d_Sh_mend_176 (by decide)) (s_icmp_geF (tgt := 233) d_Sh_mend_177 (by decide))) (by decide) (al_1 (s_cmp (s_load (s_getf (s_aload_n d_Sh_mend_180 rfl) fi_Sh_120 d_Sh_mend_181) (s_iload d_Sh_mend_184) (s_iald d_Sh_mend_186)) (s_load (s_getf (s_aload d_Sh_mend_187) fi_Sh_120 d_Sh_mend_189) (s_iload d_Sh_mend_192) (s_iald d_Sh_mend_194)) (s_icmp_eqF (tgt := 233) d_Sh_mend_195 (by decide))))) (by decide) (t_seq (t_cl (s_a1 (s_aload_n d_Sh_mend_198 rfl) (s_a1 (s_load (s_getf (s_aload d_Sh_mend_199) fi_Sh_120 d_Sh_mend_201) (s_iload d_Sh_mend_204) (s_iald d_Sh_mend_206)) (s_a1 (s_iload d_Sh_mend_207) (s_a1 (s_cl (s_a1 (s_aload_n d_Sh_mend_209 rfl) (s_a1 (s_load (s_getf (s_aload_n d_Sh_mend_210 rfl) fi_Sh_120 d_Sh_mend_211) (s_bin (s_iload d_Sh_mend_214) (s_iconst d_Sh_mend_216 (by decide)) (s_ixor d_Sh_mend_217)) (s_iald d_Sh_mend_218)) (s_a1 (s_iload d_Sh_mend_219) s_a0))) (s_ecv (ve_Sh_get (by decide) (by decide)) dc_Sh_get (by decide) lm_Sh_209 pd_Sh_get d_Sh_mend_221)) s_a0)))) (s_ecv (ve_Sh_put (by decide) (by decide)) dc_Sh_put (by decide) lm_Sh_168 pd_Sh_put d_Sh_mend_224)) (t_iinc d_Sh_mend_227 (by decide) (by decide))) (al_1 (Or.inr ⟨-56, d_Sh_mend_230, by decide⟩)) (by decide)
def lc_Sh_mend_1 : jx_Cx := (cCmp rLt (eI 6) (eBin oMul (eInt (nI 2)) (eGf [5, 6, 7] 1 (eA 2))))
def lb_Sh_mend_1 : jx_St := (sSeq (sSeq (sAsg 0 7 (eInt (nI 0))) (sWh 64 lc_Sh_mend_2 lb_Sh_mend_2)) (sInc 6 (nI 1)))
theorem ml_Sh_mend_1 : jx_Ts z_Sh_mend 160 (sWh 64 lc_Sh_mend_1 lb_Sh_mend_1) [239] := by
  unfold lc_Sh_mend_1 lb_Sh_mend_1
  exact t_wh (EA := [236]) (Fs := [239]) (E := [239]) 64 (s_cmp (s_iload d_Sh_mend_160) (s_bin (s_iconst d_Sh_mend_162 (by decide)) (s_getf (s_aload_n d_Sh_mend_163 rfl) fi_Sh_154 d_Sh_mend_164) (s_imul d_Sh_mend_167)) (s_icmp_geF (tgt := 239) d_Sh_mend_168 (by decide))) (by decide) (t_seq (t_seq (t_asg (s_iconst d_Sh_mend_171 (by decide)) (fun v k h => b_istore d_Sh_mend_172 (by decide) h)) ml_Sh_mend_2) (t_iinc d_Sh_mend_233 (by decide) (by decide))) (al_1 (Or.inr ⟨-76, d_Sh_mend_236, by decide⟩)) (by decide)
def bd_Sh_mend : jx_St := (sSeq (sCl (jx_ev tb_Sh_needOn) [(eA 0)]) (sSeq (sAsg 2 2 (eCl (jx_ev tb_Sh_volumeAt) [(eA 0), (eI 1)])) (sSeq (sCl (jx_ec f_Sh_need) [(eIte (cCmp rEq (eCl (jx_ev tb_Vo_legCount) [(eA 2)]) (eInt (nI 2))) (eInt (nI 1)) (eInt (nI 0)))]) (sSeq (sCl (jx_ec f_Sh_allow) [(eIte (cNot (cCmp0 rNe (eCl (jx_ev tb_Sh_isOneAbsent) [(eA 0)]))) (eInt (nI 1)) (eInt (nI 0)))]) (sSeq (sAsg 2 3 (eCl (jx_ev tb_Tb_copy) [(eGf [0] 2 (eA 0))])) (sSeq (sAsg 2 4 (eLda 4 (eGf [3] 2 (eA 3)) (eI 1))) (sSeq (sAsg 0 5 (eInt (nI 0))) (sSeq (sSeq (sAsg 0 6 (eInt (nI 0))) (sWh 64 lc_Sh_mend_0 lb_Sh_mend_0)) (sSeq (sIf (cCmp0 rEq (eI 5)) (sRet 0 (eInt (nI 0))) sSkip) (sSeq (sSeq (sAsg 0 6 (eInt (nI 0))) (sWh 64 lc_Sh_mend_1 lb_Sh_mend_1)) (sSeq (sCl (jx_ev tb_Sh_change) [(eA 0), (eA 3)]) (sRet 0 (eI 5)))))))))))))
theorem m_Sh_mend : jx_Ts z_Sh_mend 0 bd_Sh_mend [] := by
  unfold bd_Sh_mend
  exact (t_seq (t_cl (s_a1 (s_aload_n d_Sh_mend_0 rfl) s_a0) (s_ecv (ve_Sh_needOn (by decide) (by decide)) dc_Sh_needOn (by decide) lm_Sh_172 pd_Sh_needOn d_Sh_mend_1)) (t_seq (t_asg (s_cl (s_a1 (s_aload_n d_Sh_mend_4 rfl) (s_a1 (s_iload_n d_Sh_mend_5 rfl) s_a0)) (s_ecv (ve_Sh_volumeAt (by decide) (by decide)) dc_Sh_volumeAt (by decide) lm_Sh_205 pd_Sh_volumeAt d_Sh_mend_6)) (fun v k h => b_astore_n d_Sh_mend_9 rfl (by decide) h)) (t_seq (t_cl (s_a1 (s_ite (q4 := 23) (s_cmp (s_cl (s_a1 (s_aload_n d_Sh_mend_10 rfl) s_a0) (s_ecv (ve_Vo_legCount (by decide) (by decide)) dc_Vo_legCount (by decide) lm_Sh_157 pd_Vo_legCount d_Sh_mend_11)) (s_iconst d_Sh_mend_14 (by decide)) (s_icmp_neF (tgt := 22) d_Sh_mend_15 (by decide))) (s_iconst d_Sh_mend_18 (by decide)) d_Sh_mend_19 (by decide) (s_iconst d_Sh_mend_22 (by decide))) s_a0) (s_ecs me_Sh_need mw_Sh_need (by decide) (by decide) (by decide) lm_Sh_178 w_st_Sh_need w_in_Sh pd_Sh_need d_Sh_mend_23)) (t_seq (t_cl (s_a1 (s_ite (q4 := 38) (s_not (s_cmp0 (s_cl (s_a1 (s_aload_n d_Sh_mend_26 rfl) s_a0) (s_ecv (ve_Sh_isOneAbsent (by decide) (by decide)) dc_Sh_isOneAbsent (by decide) lm_Sh_93 pd_Sh_isOneAbsent d_Sh_mend_27)) (s_if_neT (tgt := 37) d_Sh_mend_30 (by decide))) (by decide)) (s_iconst d_Sh_mend_33 (by decide)) d_Sh_mend_34 (by decide) (s_iconst d_Sh_mend_37 (by decide))) s_a0) (s_ecs me_Sh_allow mw_Sh_allow (by decide) (by decide) (by decide) lm_Sh_164 w_st_Sh_allow w_in_Sh pd_Sh_allow d_Sh_mend_38)) (t_seq (t_asg (s_cl (s_a1 (s_getf (s_aload_n d_Sh_mend_41 rfl) fi_Sh_28 d_Sh_mend_42) s_a0) (s_ecv (ve_Tb_copy (by decide) (by decide)) dc_Tb_copy (by decide) lm_Sh_181 pd_Tb_copy d_Sh_mend_45)) (fun v k h => b_astore_n d_Sh_mend_48 rfl (by decide) h)) (t_seq (t_asg (s_loada (s_getf (s_aload_n d_Sh_mend_49 rfl) fi_Sh_71 d_Sh_mend_50) (s_iload_n d_Sh_mend_53 rfl) (s_aald (Or.inr rfl) d_Sh_mend_54)) (fun v k h => b_astore d_Sh_mend_55 (by decide) h)) (t_seq (t_asg (s_iconst d_Sh_mend_57 (by decide)) (fun v k h => b_istore d_Sh_mend_58 (by decide) h)) (t_seq (t_seq (t_asg (s_iconst d_Sh_mend_60 (by decide)) (fun v k h => b_istore d_Sh_mend_61 (by decide) h)) ml_Sh_mend_0) (t_seq (t_if1 (Fs := [157]) (E := [157]) (s_cmp0 (s_iload d_Sh_mend_150) (s_if_neF (tgt := 157) d_Sh_mend_152 (by decide))) (by decide) (t_sub (E := []) (E' := [157]) (t_ret .int (s_iconst d_Sh_mend_155 (by decide)) rfl (by decide) d_Sh_mend_156) (by decide)) (by decide)) (t_seq (t_seq (t_asg (s_iconst d_Sh_mend_157 (by decide)) (fun v k h => b_istore d_Sh_mend_158 (by decide) h)) ml_Sh_mend_1) (t_seq (t_cl (s_a1 (s_aload_n d_Sh_mend_239 rfl) (s_a1 (s_aload_n d_Sh_mend_240 rfl) s_a0)) (s_ecv (ve_Sh_change (by decide) (by decide)) dc_Sh_change (by decide) lm_Sh_185 pd_Sh_change d_Sh_mend_241)) (t_ret .int (s_iload d_Sh_mend_244) rfl (by decide) d_Sh_mend_246))))))))))))
def f_Sh_mend : jx_Mt := jx_fn 2 8 (bd_Sh_mend fun _ _ => none)
theorem me_Sh_mend : jx_Me 2 z_Sh_mend f_Sh_mend := jx_Me.ofT (by decide) m_Sh_mend
theorem mw_Sh_mend : jx_mw ⟨"ExtentShelf", "mend", "(I)I"⟩ z_Sh_mend := ⟨rfl, rfl, by decide +kernel, ⟨by decide, by decide⟩, by decide +kernel⟩
theorem pd_Sh_mend : (parseMethodDescriptor (⟨"ExtentShelf", "mend", "(I)I"⟩ : MethodName).desc).map (fun d => d.parameters.length) = some 1 := by decide +kernel
/-! ExtentShelf$Volume.elementOf(I)I -/
abbrev z_Vo_elementOf : jx_Z := ("ExtentShelf$Volume", "elementOf", prog_9_method_6_code, 2, some .int, 0, 0)
theorem d_Vo_elementOf_0 : decode z_Vo_elementOf.2.2.1 0 = .ok (.aload_n 0, 1) := by decide +kernel
theorem d_Vo_elementOf_1 : decode z_Vo_elementOf.2.2.1 1 = .ok (.getfield 15, 3) := by decide +kernel
theorem d_Vo_elementOf_4 : decode z_Vo_elementOf.2.2.1 4 = .ok (.iload_n 1, 1) := by decide +kernel
theorem d_Vo_elementOf_5 : decode z_Vo_elementOf.2.2.1 5 = .ok (.iconst 4, 1) := by decide +kernel
theorem d_Vo_elementOf_6 : decode z_Vo_elementOf.2.2.1 6 = .ok (.aload_n 0, 1) := by decide +kernel
theorem d_Vo_elementOf_7 : decode z_Vo_elementOf.2.2.1 7 = .ok (.getfield 15, 3) := by decide +kernel
theorem d_Vo_elementOf_10 : decode z_Vo_elementOf.2.2.1 10 = .ok (.imul, 1) := by decide +kernel
theorem d_Vo_elementOf_11 : decode z_Vo_elementOf.2.2.1 11 = .ok (.idiv, 1) := by decide +kernel
theorem d_Vo_elementOf_12 : decode z_Vo_elementOf.2.2.1 12 = .ok (.imul, 1) := by decide +kernel
theorem d_Vo_elementOf_13 : decode z_Vo_elementOf.2.2.1 13 = .ok (.iload_n 1, 1) := by decide +kernel
theorem d_Vo_elementOf_14 : decode z_Vo_elementOf.2.2.1 14 = .ok (.aload_n 0, 1) := by decide +kernel
theorem d_Vo_elementOf_15 : decode z_Vo_elementOf.2.2.1 15 = .ok (.getfield 15, 3) := by decide +kernel
theorem d_Vo_elementOf_18 : decode z_Vo_elementOf.2.2.1 18 = .ok (.irem, 1) := by decide +kernel
theorem d_Vo_elementOf_19 : decode z_Vo_elementOf.2.2.1 19 = .ok (.iadd, 1) := by decide +kernel
theorem d_Vo_elementOf_20 : decode z_Vo_elementOf.2.2.1 20 = .ok (.ireturn, 1) := by decide +kernel
def bd_Vo_elementOf : jx_St := (sRet 0 (eBin oAdd (eBin oMul (eGf [5, 6, 7] 0 (eA 0)) (eBin oDiv (eI 1) (eBin oMul (eInt (nI 4)) (eGf [5, 6, 7] 0 (eA 0))))) (eBin oRem (eI 1) (eGf [5, 6, 7] 0 (eA 0)))))
theorem m_Vo_elementOf : jx_Ts z_Vo_elementOf 0 bd_Vo_elementOf [] := by
  unfold bd_Vo_elementOf
  exact (t_ret .int (s_bin (s_bin (s_getf (s_aload_n d_Vo_elementOf_0 rfl) fi_Vo_15 d_Vo_elementOf_1) (s_bin (s_iload_n d_Vo_elementOf_4 rfl) (s_bin (s_iconst d_Vo_elementOf_5 (by decide)) (s_getf (s_aload_n d_Vo_elementOf_6 rfl) fi_Vo_15 d_Vo_elementOf_7) (s_imul d_Vo_elementOf_10)) (s_idiv d_Vo_elementOf_11)) (s_imul d_Vo_elementOf_12)) (s_bin (s_iload_n d_Vo_elementOf_13 rfl) (s_getf (s_aload_n d_Vo_elementOf_14 rfl) fi_Vo_15 d_Vo_elementOf_15) (s_irem d_Vo_elementOf_18)) (s_iadd d_Vo_elementOf_19)) rfl (by decide) d_Vo_elementOf_20)
def f_Vo_elementOf : jx_Mt := jx_fn 2 2 (bd_Vo_elementOf fun _ _ => none)
theorem me_Vo_elementOf : jx_Me 2 z_Vo_elementOf f_Vo_elementOf := jx_Me.ofT (by decide) m_Vo_elementOf
theorem mw_Vo_elementOf : jx_mw ⟨"ExtentShelf$Volume", "elementOf", "(I)I"⟩ z_Vo_elementOf := ⟨rfl, rfl, by decide +kernel, ⟨by decide, by decide⟩, by decide +kernel⟩
theorem pd_Vo_elementOf : (parseMethodDescriptor (⟨"ExtentShelf$Volume", "elementOf", "(I)I"⟩ : MethodName).desc).map (fun d => d.parameters.length) = some 1 := by decide +kernel
abbrev tb_Vo_elementOf : List (Nat × jx_Mt) := [(5, f_Vo_elementOf), (6, f_Vo_elementOf), (7, f_Vo_elementOf)]
theorem ve_Vo_elementOf {fr lo : Nat} (h1 : 1 ≤ fr) (h2 : 29 ≤ lo) : ∀ q ∈ tb_Vo_elementOf, jx_ve ⟨"ExtentShelf$Volume", "elementOf", "(I)I"⟩ 1 fr lo q.1 q.2 := tv_3 ⟨R_Linear, F_Linear, 3, ⟨"ExtentShelf$Volume", "elementOf", "(I)I"⟩, z_Vo_elementOf, rfl, by decide +kernel, mw_Vo_elementOf, by decide +kernel, me_Vo_elementOf, Nat.le_trans (by decide) h1, Nat.le_trans (by decide) h2⟩ ⟨R_Striped, F_Striped, 3, ⟨"ExtentShelf$Volume", "elementOf", "(I)I"⟩, z_Vo_elementOf, rfl, by decide +kernel, mw_Vo_elementOf, by decide +kernel, me_Vo_elementOf, Nat.le_trans (by decide) h1, Nat.le_trans (by decide) h2⟩ ⟨R_Twinned, F_Twinned, 3, ⟨"ExtentShelf$Volume", "elementOf", "(I)I"⟩, z_Vo_elementOf, rfl, by decide +kernel, mw_Vo_elementOf, by decide +kernel, me_Vo_elementOf, Nat.le_trans (by decide) h1, Nat.le_trans (by decide) h2⟩
theorem dc_Vo_elementOf : jx_dc ⟨"ExtentShelf$Volume", "elementOf", "(I)I"⟩ := ⟨⟨by decide, by decide⟩, Or.inr ⟨by decide +kernel, prog_9_method_6_code, 2, _, (by decide +kernel : Cond.code ⟨"ExtentShelf$Volume", "elementOf", "(I)I"⟩ prog_9_method_6_code 2 (some .int) ∈ jx_tbl)⟩, "ExtentShelf$Linear", ⟨"ExtentShelf$Volume", "said", "()I"⟩, ⟨"ExtentShelf$Volume", "said", "()I"⟩, by decide +kernel, rfl⟩
/-! ExtentShelf.elementOf(LExtentShelf$Volume;I)I -/
abbrev z_Sh_elementOf : jx_Z := ("ExtentShelf", "elementOf", prog_1_method_28_code, 2, some .int, 6, 100)
theorem d_Sh_elementOf_0 : decode z_Sh_elementOf.2.2.1 0 = .ok (.iload_n 1, 1) := by decide +kernel
theorem d_Sh_elementOf_1 : decode z_Sh_elementOf.2.2.1 1 = .ok (.ifCond .lt 13, 3) := by decide +kernel
theorem d_Sh_elementOf_4 : decode z_Sh_elementOf.2.2.1 4 = .ok (.iload_n 1, 1) := by decide +kernel
theorem d_Sh_elementOf_5 : decode z_Sh_elementOf.2.2.1 5 = .ok (.iconst 4, 1) := by decide +kernel
theorem d_Sh_elementOf_6 : decode z_Sh_elementOf.2.2.1 6 = .ok (.aload_n 0, 1) := by decide +kernel
theorem d_Sh_elementOf_7 : decode z_Sh_elementOf.2.2.1 7 = .ok (.getfield 154, 3) := by decide +kernel
theorem d_Sh_elementOf_10 : decode z_Sh_elementOf.2.2.1 10 = .ok (.imul, 1) := by decide +kernel
theorem d_Sh_elementOf_11 : decode z_Sh_elementOf.2.2.1 11 = .ok (.if_icmp .lt 11, 3) := by decide +kernel
theorem d_Sh_elementOf_14 : decode z_Sh_elementOf.2.2.1 14 = .ok (.new 213, 3) := by decide +kernel
theorem d_Sh_elementOf_17 : decode z_Sh_elementOf.2.2.1 17 = .ok (.dup, 1) := by decide +kernel
theorem d_Sh_elementOf_18 : decode z_Sh_elementOf.2.2.1 18 = .ok (.invokespecial 215, 3) := by decide +kernel
theorem d_Sh_elementOf_21 : decode z_Sh_elementOf.2.2.1 21 = .ok (.athrow, 1) := by decide +kernel
theorem d_Sh_elementOf_22 : decode z_Sh_elementOf.2.2.1 22 = .ok (.aload_n 0, 1) := by decide +kernel
theorem d_Sh_elementOf_23 : decode z_Sh_elementOf.2.2.1 23 = .ok (.iload_n 1, 1) := by decide +kernel
theorem d_Sh_elementOf_24 : decode z_Sh_elementOf.2.2.1 24 = .ok (.invokevirtual 216, 3) := by decide +kernel
theorem d_Sh_elementOf_27 : decode z_Sh_elementOf.2.2.1 27 = .ok (.ireturn, 1) := by decide +kernel
def bd_Sh_elementOf : jx_St := (sSeq (sIf (cOr (cCmp0 rLt (eI 1)) (cCmp rGe (eI 1) (eBin oMul (eInt (nI 4)) (eGf [5, 6, 7] 1 (eA 0))))) (sThrow 13) sSkip) (sRet 0 (eCl (jx_ev tb_Vo_elementOf) [(eA 0), (eI 1)])))
theorem m_Sh_elementOf : jx_Ts z_Sh_elementOf 0 bd_Sh_elementOf [] := by
  unfold bd_Sh_elementOf
  exact (t_seq (t_if1 (Fs := [22]) (E := [22]) (s_org (s_cmp0 (s_iload_n d_Sh_elementOf_0 rfl) (s_if_ltT (tgt := 14) d_Sh_elementOf_1 (by decide))) (by decide) (al_1 (s_cmp (s_iload_n d_Sh_elementOf_4 rfl) (s_bin (s_iconst d_Sh_elementOf_5 (by decide)) (s_getf (s_aload_n d_Sh_elementOf_6 rfl) fi_Sh_154 d_Sh_elementOf_7) (s_imul d_Sh_elementOf_10)) (s_icmp_ltF (tgt := 22) d_Sh_elementOf_11 (by decide))))) (by decide) (t_sub (E := []) (E' := [22]) (t_throw0 (C := R_Ioe) (F := F_Ioe) (names := ["java/lang/RuntimeException", "java/lang/Exception"]) rfl (by decide +kernel) (by decide +kernel) (by decide +kernel) at_Sh_13_215 (by decide +kernel) (by decide +kernel) d_Sh_elementOf_14 d_Sh_elementOf_17 d_Sh_elementOf_18 d_Sh_elementOf_21 (by decide) (by decide)) (by decide)) (by decide)) (t_ret .int (s_cl (s_a1 (s_aload_n d_Sh_elementOf_22 rfl) (s_a1 (s_iload_n d_Sh_elementOf_23 rfl) s_a0)) (s_ecv (ve_Vo_elementOf (by decide) (by decide)) dc_Vo_elementOf (by decide) lm_Sh_216 pd_Vo_elementOf d_Sh_elementOf_24)) rfl (by decide) d_Sh_elementOf_27))
def f_Sh_elementOf : jx_Mt := jx_fn 2 2 (bd_Sh_elementOf fun _ _ => none)
theorem me_Sh_elementOf : jx_Me 2 z_Sh_elementOf f_Sh_elementOf := jx_Me.ofT (by decide) m_Sh_elementOf
theorem mw_Sh_elementOf : jx_mw ⟨"ExtentShelf", "elementOf", "(LExtentShelf$Volume;I)I"⟩ z_Sh_elementOf := ⟨rfl, rfl, by decide +kernel, ⟨by decide, by decide⟩, by decide +kernel⟩
theorem pd_Sh_elementOf : (parseMethodDescriptor (⟨"ExtentShelf", "elementOf", "(LExtentShelf$Volume;I)I"⟩ : MethodName).desc).map (fun d => d.parameters.length) = some 2 := by decide +kernel
abbrev tb_Sh_isReadable : List (Nat × jx_Mt) := [(0, f_Sh_isReadable)]
theorem ve_Sh_isReadable {fr lo : Nat} (h1 : 2 ≤ fr) (h2 : 57 ≤ lo) : ∀ q ∈ tb_Sh_isReadable, jx_ve ⟨"ExtentShelf", "isReadable", "(I)Z"⟩ 1 fr lo q.1 q.2 := tv_1 ⟨R_Shelf, F_Shelf, 5, ⟨"ExtentShelf", "isReadable", "(I)Z"⟩, z_Sh_isReadable, rfl, by decide +kernel, mw_Sh_isReadable, by decide +kernel, me_Sh_isReadable, Nat.le_trans (by decide) h1, Nat.le_trans (by decide) h2⟩
theorem dc_Sh_isReadable : jx_dc ⟨"ExtentShelf", "isReadable", "(I)Z"⟩ := ⟨⟨by decide, by decide⟩, Or.inr ⟨by decide +kernel, prog_1_method_13_code, 2, _, (by decide +kernel : Cond.code ⟨"ExtentShelf", "isReadable", "(I)Z"⟩ prog_1_method_13_code 2 (some .boolean) ∈ jx_tbl)⟩, "ExtentShelf", ⟨"ExtentShelf", "isReadable", "(I)Z"⟩, ⟨"ExtentShelf", "isReadable", "(I)Z"⟩, by decide +kernel, rfl⟩
/-! ExtentShelf$Volume.wordOf(I)I -/
abbrev z_Vo_wordOf : jx_Z := ("ExtentShelf$Volume", "wordOf", prog_9_method_7_code, 2, some .int, 0, 0)
theorem d_Vo_wordOf_0 : decode z_Vo_wordOf.2.2.1 0 = .ok (.iload_n 1, 1) := by decide +kernel
theorem d_Vo_wordOf_1 : decode z_Vo_wordOf.2.2.1 1 = .ok (.iconst 4, 1) := by decide +kernel
theorem d_Vo_wordOf_2 : decode z_Vo_wordOf.2.2.1 2 = .ok (.aload_n 0, 1) := by decide +kernel
theorem d_Vo_wordOf_3 : decode z_Vo_wordOf.2.2.1 3 = .ok (.getfield 15, 3) := by decide +kernel
theorem d_Vo_wordOf_6 : decode z_Vo_wordOf.2.2.1 6 = .ok (.imul, 1) := by decide +kernel
theorem d_Vo_wordOf_7 : decode z_Vo_wordOf.2.2.1 7 = .ok (.irem, 1) := by decide +kernel
theorem d_Vo_wordOf_8 : decode z_Vo_wordOf.2.2.1 8 = .ok (.aload_n 0, 1) := by decide +kernel
theorem d_Vo_wordOf_9 : decode z_Vo_wordOf.2.2.1 9 = .ok (.getfield 15, 3) := by decide +kernel
theorem d_Vo_wordOf_12 : decode z_Vo_wordOf.2.2.1 12 = .ok (.idiv, 1) := by decide +kernel
theorem d_Vo_wordOf_13 : decode z_Vo_wordOf.2.2.1 13 = .ok (.ireturn, 1) := by decide +kernel
def bd_Vo_wordOf : jx_St := (sRet 0 (eBin oDiv (eBin oRem (eI 1) (eBin oMul (eInt (nI 4)) (eGf [5, 6, 7] 0 (eA 0)))) (eGf [5, 6, 7] 0 (eA 0))))
theorem m_Vo_wordOf : jx_Ts z_Vo_wordOf 0 bd_Vo_wordOf [] := by
  unfold bd_Vo_wordOf
  exact (t_ret .int (s_bin (s_bin (s_iload_n d_Vo_wordOf_0 rfl) (s_bin (s_iconst d_Vo_wordOf_1 (by decide)) (s_getf (s_aload_n d_Vo_wordOf_2 rfl) fi_Vo_15 d_Vo_wordOf_3) (s_imul d_Vo_wordOf_6)) (s_irem d_Vo_wordOf_7)) (s_getf (s_aload_n d_Vo_wordOf_8 rfl) fi_Vo_15 d_Vo_wordOf_9) (s_idiv d_Vo_wordOf_12)) rfl (by decide) d_Vo_wordOf_13)
def f_Vo_wordOf : jx_Mt := jx_fn 2 2 (bd_Vo_wordOf fun _ _ => none)
theorem me_Vo_wordOf : jx_Me 2 z_Vo_wordOf f_Vo_wordOf := jx_Me.ofT (by decide) m_Vo_wordOf
theorem mw_Vo_wordOf : jx_mw ⟨"ExtentShelf$Volume", "wordOf", "(I)I"⟩ z_Vo_wordOf := ⟨rfl, rfl, by decide +kernel, ⟨by decide, by decide⟩, by decide +kernel⟩
theorem pd_Vo_wordOf : (parseMethodDescriptor (⟨"ExtentShelf$Volume", "wordOf", "(I)I"⟩ : MethodName).desc).map (fun d => d.parameters.length) = some 1 := by decide +kernel
abbrev tb_Vo_wordOf : List (Nat × jx_Mt) := [(5, f_Vo_wordOf), (6, f_Vo_wordOf), (7, f_Vo_wordOf)]
theorem ve_Vo_wordOf {fr lo : Nat} (h1 : 1 ≤ fr) (h2 : 29 ≤ lo) : ∀ q ∈ tb_Vo_wordOf, jx_ve ⟨"ExtentShelf$Volume", "wordOf", "(I)I"⟩ 1 fr lo q.1 q.2 := tv_3 ⟨R_Linear, F_Linear, 3, ⟨"ExtentShelf$Volume", "wordOf", "(I)I"⟩, z_Vo_wordOf, rfl, by decide +kernel, mw_Vo_wordOf, by decide +kernel, me_Vo_wordOf, Nat.le_trans (by decide) h1, Nat.le_trans (by decide) h2⟩ ⟨R_Striped, F_Striped, 3, ⟨"ExtentShelf$Volume", "wordOf", "(I)I"⟩, z_Vo_wordOf, rfl, by decide +kernel, mw_Vo_wordOf, by decide +kernel, me_Vo_wordOf, Nat.le_trans (by decide) h1, Nat.le_trans (by decide) h2⟩ ⟨R_Twinned, F_Twinned, 3, ⟨"ExtentShelf$Volume", "wordOf", "(I)I"⟩, z_Vo_wordOf, rfl, by decide +kernel, mw_Vo_wordOf, by decide +kernel, me_Vo_wordOf, Nat.le_trans (by decide) h1, Nat.le_trans (by decide) h2⟩
theorem dc_Vo_wordOf : jx_dc ⟨"ExtentShelf$Volume", "wordOf", "(I)I"⟩ := ⟨⟨by decide, by decide⟩, Or.inr ⟨by decide +kernel, prog_9_method_7_code, 2, _, (by decide +kernel : Cond.code ⟨"ExtentShelf$Volume", "wordOf", "(I)I"⟩ prog_9_method_7_code 2 (some .int) ∈ jx_tbl)⟩, "ExtentShelf$Linear", ⟨"ExtentShelf$Volume", "said", "()I"⟩, ⟨"ExtentShelf$Volume", "said", "()I"⟩, by decide +kernel, rfl⟩
/-! ExtentShelf$Move.isCopying(II)Z -/
abbrev z_Mv_isCopying : jx_Z := ("ExtentShelf$Move", "isCopying", prog_4_method_2_code, 3, some .boolean, 0, 0)
theorem d_Mv_isCopying_0 : decode z_Mv_isCopying.2.2.1 0 = .ok (.aload_n 0, 1) := by decide +kernel
theorem d_Mv_isCopying_1 : decode z_Mv_isCopying.2.2.1 1 = .ok (.getfield 9, 3) := by decide +kernel
theorem d_Mv_isCopying_4 : decode z_Mv_isCopying.2.2.1 4 = .ok (.ifCond .eq 23, 3) := by decide +kernel
theorem d_Mv_isCopying_7 : decode z_Mv_isCopying.2.2.1 7 = .ok (.aload_n 0, 1) := by decide +kernel
theorem d_Mv_isCopying_8 : decode z_Mv_isCopying.2.2.1 8 = .ok (.getfield 18, 3) := by decide +kernel
theorem d_Mv_isCopying_11 : decode z_Mv_isCopying.2.2.1 11 = .ok (.iload_n 1, 1) := by decide +kernel
theorem d_Mv_isCopying_12 : decode z_Mv_isCopying.2.2.1 12 = .ok (.if_icmp .ne 15, 3) := by decide +kernel
theorem d_Mv_isCopying_15 : decode z_Mv_isCopying.2.2.1 15 = .ok (.aload_n 0, 1) := by decide +kernel
theorem d_Mv_isCopying_16 : decode z_Mv_isCopying.2.2.1 16 = .ok (.getfield 21, 3) := by decide +kernel
theorem d_Mv_isCopying_19 : decode z_Mv_isCopying.2.2.1 19 = .ok (.iload_n 2, 1) := by decide +kernel
theorem d_Mv_isCopying_20 : decode z_Mv_isCopying.2.2.1 20 = .ok (.if_icmp .ne 7, 3) := by decide +kernel
theorem d_Mv_isCopying_23 : decode z_Mv_isCopying.2.2.1 23 = .ok (.iconst 1, 1) := by decide +kernel
theorem d_Mv_isCopying_24 : decode z_Mv_isCopying.2.2.1 24 = .ok (.goto 4, 3) := by decide +kernel
theorem d_Mv_isCopying_27 : decode z_Mv_isCopying.2.2.1 27 = .ok (.iconst 0, 1) := by decide +kernel
theorem d_Mv_isCopying_28 : decode z_Mv_isCopying.2.2.1 28 = .ok (.ireturn, 1) := by decide +kernel
def bd_Mv_isCopying : jx_St := (sRet 1 (eIte (cAnd (cAnd (cCmp0 rNe (eGf [4] 4 (eA 0))) (cCmp rEq (eGf [4] 1 (eA 0)) (eI 1))) (cCmp rEq (eGf [4] 2 (eA 0)) (eI 2))) (eInt (nI 1)) (eInt (nI 0))))
theorem m_Mv_isCopying : jx_Ts z_Mv_isCopying 0 bd_Mv_isCopying [] := by
  unfold bd_Mv_isCopying
  exact (t_ret .boolean (s_ite (q4 := 28) (s_andg (s_andg (s_cmp0 (s_getf (s_aload_n d_Mv_isCopying_0 rfl) fi_Mv_9 d_Mv_isCopying_1) (s_if_eqF (tgt := 27) d_Mv_isCopying_4 (by decide))) (by decide) (al_1 (s_cmp (s_getf (s_aload_n d_Mv_isCopying_7 rfl) fi_Mv_18 d_Mv_isCopying_8) (s_iload_n d_Mv_isCopying_11 rfl) (s_icmp_neF (tgt := 27) d_Mv_isCopying_12 (by decide))))) (by decide) (al_1 (s_cmp (s_getf (s_aload_n d_Mv_isCopying_15 rfl) fi_Mv_21 d_Mv_isCopying_16) (s_iload_n d_Mv_isCopying_19 rfl) (s_icmp_neF (tgt := 27) d_Mv_isCopying_20 (by decide))))) (s_iconst d_Mv_isCopying_23 (by decide)) d_Mv_isCopying_24 (by decide) (s_iconst d_Mv_isCopying_27 (by decide))) rfl (by decide) d_Mv_isCopying_28)
def f_Mv_isCopying : jx_Mt := jx_fn 3 3 (bd_Mv_isCopying fun _ _ => none)
theorem me_Mv_isCopying : jx_Me 3 z_Mv_isCopying f_Mv_isCopying := jx_Me.ofT (by decide) m_Mv_isCopying
theorem mw_Mv_isCopying : jx_mw ⟨"ExtentShelf$Move", "isCopying", "(II)Z"⟩ z_Mv_isCopying := ⟨rfl, rfl, by decide +kernel, ⟨by decide, by decide⟩, by decide +kernel⟩
theorem pd_Mv_isCopying : (parseMethodDescriptor (⟨"ExtentShelf$Move", "isCopying", "(II)Z"⟩ : MethodName).desc).map (fun d => d.parameters.length) = some 2 := by decide +kernel
abbrev tb_Mv_isCopying : List (Nat × jx_Mt) := [(4, f_Mv_isCopying)]
theorem ve_Mv_isCopying {fr lo : Nat} (h1 : 1 ≤ fr) (h2 : 30 ≤ lo) : ∀ q ∈ tb_Mv_isCopying, jx_ve ⟨"ExtentShelf$Move", "isCopying", "(II)Z"⟩ 2 fr lo q.1 q.2 := tv_1 ⟨R_Move, F_Move, 6, ⟨"ExtentShelf$Move", "isCopying", "(II)Z"⟩, z_Mv_isCopying, rfl, by decide +kernel, mw_Mv_isCopying, by decide +kernel, me_Mv_isCopying, Nat.le_trans (by decide) h1, Nat.le_trans (by decide) h2⟩
theorem dc_Mv_isCopying : jx_dc ⟨"ExtentShelf$Move", "isCopying", "(II)Z"⟩ := ⟨⟨by decide, by decide⟩, Or.inr ⟨by decide +kernel, prog_4_method_2_code, 3, _, (by decide +kernel : Cond.code ⟨"ExtentShelf$Move", "isCopying", "(II)Z"⟩ prog_4_method_2_code 3 (some .boolean) ∈ jx_tbl)⟩, "ExtentShelf$Move", ⟨"ExtentShelf$Move", "isCopying", "(II)Z"⟩, ⟨"ExtentShelf$Move", "isCopying", "(II)Z"⟩, by decide +kernel, rfl⟩
