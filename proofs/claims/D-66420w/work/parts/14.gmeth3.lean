/-! METHODS, printed by jgen.py -/
/-! ExtentShelf.fill(LExtentShelf$Table;II)V -/
abbrev z_Sh_fill : jx_Z := ("ExtentShelf", "fill", prog_1_method_19_code, 8, none, 8, 162)
theorem d_Sh_fill_0 : decode z_Sh_fill.2.2.1 0 = .ok (.aload_n 1, 1) := by decide +kernel
theorem d_Sh_fill_1 : decode z_Sh_fill.2.2.1 1 = .ok (.getfield 71, 3) := by decide +kernel
theorem d_Sh_fill_4 : decode z_Sh_fill.2.2.1 4 = .ok (.iload_n 2, 1) := by decide +kernel
theorem d_Sh_fill_5 : decode z_Sh_fill.2.2.1 5 = .ok (.aaload, 1) := by decide +kernel
theorem d_Sh_fill_6 : decode z_Sh_fill.2.2.1 6 = .ok (.astore 4, 2) := by decide +kernel
theorem d_Sh_fill_8 : decode z_Sh_fill.2.2.1 8 = .ok (.iload_n 3, 1) := by decide +kernel
theorem d_Sh_fill_9 : decode z_Sh_fill.2.2.1 9 = .ok (.istore 5, 2) := by decide +kernel
theorem d_Sh_fill_11 : decode z_Sh_fill.2.2.1 11 = .ok (.iload 5, 2) := by decide +kernel
theorem d_Sh_fill_13 : decode z_Sh_fill.2.2.1 13 = .ok (.aload 4, 2) := by decide +kernel
theorem d_Sh_fill_15 : decode z_Sh_fill.2.2.1 15 = .ok (.getfield 154, 3) := by decide +kernel
theorem d_Sh_fill_18 : decode z_Sh_fill.2.2.1 18 = .ok (.if_icmp .ge 69, 3) := by decide +kernel
theorem d_Sh_fill_21 : decode z_Sh_fill.2.2.1 21 = .ok (.iconst 0, 1) := by decide +kernel
theorem d_Sh_fill_22 : decode z_Sh_fill.2.2.1 22 = .ok (.istore 6, 2) := by decide +kernel
theorem d_Sh_fill_24 : decode z_Sh_fill.2.2.1 24 = .ok (.iload 6, 2) := by decide +kernel
theorem d_Sh_fill_26 : decode z_Sh_fill.2.2.1 26 = .ok (.aload 4, 2) := by decide +kernel
theorem d_Sh_fill_28 : decode z_Sh_fill.2.2.1 28 = .ok (.invokevirtual 157, 3) := by decide +kernel
theorem d_Sh_fill_31 : decode z_Sh_fill.2.2.1 31 = .ok (.if_icmp .ge 50, 3) := by decide +kernel
theorem d_Sh_fill_34 : decode z_Sh_fill.2.2.1 34 = .ok (.aload_n 0, 1) := by decide +kernel
theorem d_Sh_fill_35 : decode z_Sh_fill.2.2.1 35 = .ok (.aload_n 1, 1) := by decide +kernel
theorem d_Sh_fill_36 : decode z_Sh_fill.2.2.1 36 = .ok (.iload_n 2, 1) := by decide +kernel
theorem d_Sh_fill_37 : decode z_Sh_fill.2.2.1 37 = .ok (.iload 5, 2) := by decide +kernel
theorem d_Sh_fill_39 : decode z_Sh_fill.2.2.1 39 = .ok (.iload 6, 2) := by decide +kernel
theorem d_Sh_fill_41 : decode z_Sh_fill.2.2.1 41 = .ok (.iconst (-1), 1) := by decide +kernel
theorem d_Sh_fill_42 : decode z_Sh_fill.2.2.1 42 = .ok (.invokevirtual 160, 3) := by decide +kernel
theorem d_Sh_fill_45 : decode z_Sh_fill.2.2.1 45 = .ok (.istore 7, 2) := by decide +kernel
theorem d_Sh_fill_47 : decode z_Sh_fill.2.2.1 47 = .ok (.iload 7, 2) := by decide +kernel
theorem d_Sh_fill_49 : decode z_Sh_fill.2.2.1 49 = .ok (.ifCond .eq 7, 3) := by decide +kernel
theorem d_Sh_fill_52 : decode z_Sh_fill.2.2.1 52 = .ok (.iconst 1, 1) := by decide +kernel
theorem d_Sh_fill_53 : decode z_Sh_fill.2.2.1 53 = .ok (.goto 4, 3) := by decide +kernel
theorem d_Sh_fill_56 : decode z_Sh_fill.2.2.1 56 = .ok (.iconst 0, 1) := by decide +kernel
theorem d_Sh_fill_57 : decode z_Sh_fill.2.2.1 57 = .ok (.invokestatic 164, 3) := by decide +kernel
theorem d_Sh_fill_60 : decode z_Sh_fill.2.2.1 60 = .ok (.aload 4, 2) := by decide +kernel
theorem d_Sh_fill_62 : decode z_Sh_fill.2.2.1 62 = .ok (.getfield 120, 3) := by decide +kernel
theorem d_Sh_fill_65 : decode z_Sh_fill.2.2.1 65 = .ok (.iconst 2, 1) := by decide +kernel
theorem d_Sh_fill_66 : decode z_Sh_fill.2.2.1 66 = .ok (.iload 5, 2) := by decide +kernel
theorem d_Sh_fill_68 : decode z_Sh_fill.2.2.1 68 = .ok (.imul, 1) := by decide +kernel
theorem d_Sh_fill_69 : decode z_Sh_fill.2.2.1 69 = .ok (.iload 6, 2) := by decide +kernel
theorem d_Sh_fill_71 : decode z_Sh_fill.2.2.1 71 = .ok (.iadd, 1) := by decide +kernel
theorem d_Sh_fill_72 : decode z_Sh_fill.2.2.1 72 = .ok (.iload 7, 2) := by decide +kernel
theorem d_Sh_fill_74 : decode z_Sh_fill.2.2.1 74 = .ok (.iastore, 1) := by decide +kernel
theorem d_Sh_fill_75 : decode z_Sh_fill.2.2.1 75 = .ok (.iinc 6 1, 3) := by decide +kernel
theorem d_Sh_fill_78 : decode z_Sh_fill.2.2.1 78 = .ok (.goto (-54), 3) := by decide +kernel
theorem d_Sh_fill_81 : decode z_Sh_fill.2.2.1 81 = .ok (.iinc 5 1, 3) := by decide +kernel
theorem d_Sh_fill_84 : decode z_Sh_fill.2.2.1 84 = .ok (.goto (-73), 3) := by decide +kernel
theorem d_Sh_fill_87 : decode z_Sh_fill.2.2.1 87 = .ok (.iconst 2, 1) := by decide +kernel
theorem d_Sh_fill_88 : decode z_Sh_fill.2.2.1 88 = .ok (.iload_n 3, 1) := by decide +kernel
theorem d_Sh_fill_89 : decode z_Sh_fill.2.2.1 89 = .ok (.imul, 1) := by decide +kernel
theorem d_Sh_fill_90 : decode z_Sh_fill.2.2.1 90 = .ok (.istore 5, 2) := by decide +kernel
theorem d_Sh_fill_92 : decode z_Sh_fill.2.2.1 92 = .ok (.iload 5, 2) := by decide +kernel
theorem d_Sh_fill_94 : decode z_Sh_fill.2.2.1 94 = .ok (.iconst 2, 1) := by decide +kernel
theorem d_Sh_fill_95 : decode z_Sh_fill.2.2.1 95 = .ok (.aload 4, 2) := by decide +kernel
theorem d_Sh_fill_97 : decode z_Sh_fill.2.2.1 97 = .ok (.getfield 154, 3) := by decide +kernel
theorem d_Sh_fill_100 : decode z_Sh_fill.2.2.1 100 = .ok (.imul, 1) := by decide +kernel
theorem d_Sh_fill_101 : decode z_Sh_fill.2.2.1 101 = .ok (.if_icmp .ge 50, 3) := by decide +kernel
theorem d_Sh_fill_104 : decode z_Sh_fill.2.2.1 104 = .ok (.iconst 0, 1) := by decide +kernel
theorem d_Sh_fill_105 : decode z_Sh_fill.2.2.1 105 = .ok (.istore 6, 2) := by decide +kernel
theorem d_Sh_fill_107 : decode z_Sh_fill.2.2.1 107 = .ok (.iload 6, 2) := by decide +kernel
theorem d_Sh_fill_109 : decode z_Sh_fill.2.2.1 109 = .ok (.iconst 4, 1) := by decide +kernel
theorem d_Sh_fill_110 : decode z_Sh_fill.2.2.1 110 = .ok (.if_icmp .ge 35, 3) := by decide +kernel
theorem d_Sh_fill_113 : decode z_Sh_fill.2.2.1 113 = .ok (.aload 4, 2) := by decide +kernel
theorem d_Sh_fill_115 : decode z_Sh_fill.2.2.1 115 = .ok (.getfield 120, 3) := by decide +kernel
theorem d_Sh_fill_118 : decode z_Sh_fill.2.2.1 118 = .ok (.iload 5, 2) := by decide +kernel
theorem d_Sh_fill_120 : decode z_Sh_fill.2.2.1 120 = .ok (.iaload, 1) := by decide +kernel
theorem d_Sh_fill_121 : decode z_Sh_fill.2.2.1 121 = .ok (.ifCond .eq 24, 3) := by decide +kernel
theorem d_Sh_fill_124 : decode z_Sh_fill.2.2.1 124 = .ok (.aload_n 0, 1) := by decide +kernel
theorem d_Sh_fill_125 : decode z_Sh_fill.2.2.1 125 = .ok (.aload 4, 2) := by decide +kernel
theorem d_Sh_fill_127 : decode z_Sh_fill.2.2.1 127 = .ok (.getfield 120, 3) := by decide +kernel
theorem d_Sh_fill_130 : decode z_Sh_fill.2.2.1 130 = .ok (.iload 5, 2) := by decide +kernel
theorem d_Sh_fill_132 : decode z_Sh_fill.2.2.1 132 = .ok (.iaload, 1) := by decide +kernel
theorem d_Sh_fill_133 : decode z_Sh_fill.2.2.1 133 = .ok (.iload 6, 2) := by decide +kernel
theorem d_Sh_fill_135 : decode z_Sh_fill.2.2.1 135 = .ok (.iconst 0, 1) := by decide +kernel
theorem d_Sh_fill_136 : decode z_Sh_fill.2.2.1 136 = .ok (.invokevirtual 168, 3) := by decide +kernel
theorem d_Sh_fill_139 : decode z_Sh_fill.2.2.1 139 = .ok (.iinc 6 1, 3) := by decide +kernel
theorem d_Sh_fill_142 : decode z_Sh_fill.2.2.1 142 = .ok (.goto (-35), 3) := by decide +kernel
theorem d_Sh_fill_145 : decode z_Sh_fill.2.2.1 145 = .ok (.iinc 5 1, 3) := by decide +kernel
theorem d_Sh_fill_148 : decode z_Sh_fill.2.2.1 148 = .ok (.goto (-56), 3) := by decide +kernel
theorem d_Sh_fill_151 : decode z_Sh_fill.2.2.1 151 = .ok (.return_, 1) := by decide +kernel
def lc_Sh_fill_1 : jx_Cx := (cCmp rLt (eI 6) (eCl (jx_ev tb_Vo_legCount) [(eA 4)]))
def lb_Sh_fill_1 : jx_St := (sSeq (sAsg 0 7 (eCl (jx_ev tb_Sh_room) [(eA 0), (eA 1), (eI 2), (eI 5), (eI 6), (eInt (-1))])) (sSeq (sCl (jx_ec f_Sh_allow) [(eIte (cCmp0 rNe (eI 7)) (eInt (nI 1)) (eInt (nI 0)))]) (sSeq (sSt 0 0 (eGf [5, 6, 7] 2 (eA 4)) (eBin oAdd (eBin oMul (eInt (nI 2)) (eI 5)) (eI 6)) (eI 7)) (sInc 6 (nI 1)))))
theorem ml_Sh_fill_1 : jx_Ts z_Sh_fill 24 (sWh 64 lc_Sh_fill_1 lb_Sh_fill_1) [81] := by
  unfold lc_Sh_fill_1 lb_Sh_fill_1
  exact t_wh (EA := [78]) (Fs := [81]) (E := [81]) 64 (s_cmp (s_iload d_Sh_fill_24) (s_cl (s_a1 (s_aload d_Sh_fill_26) s_a0) (s_ecv (ve_Vo_legCount (by decide) (by decide)) dc_Vo_legCount (by decide) lm_Sh_157 pd_Vo_legCount d_Sh_fill_28)) (s_icmp_geF (tgt := 81) d_Sh_fill_31 (by decide))) (by decide) (t_seq (t_asg (s_cl (s_a1 (s_aload_n d_Sh_fill_34 rfl) (s_a1 (s_aload_n d_Sh_fill_35 rfl) (s_a1 (s_iload_n d_Sh_fill_36 rfl) (s_a1 (s_iload d_Sh_fill_37) (s_a1 (s_iload d_Sh_fill_39) (s_a1 (s_iconst d_Sh_fill_41 (by decide)) s_a0)))))) (s_ecv (ve_Sh_room (by decide) (by decide)) dc_Sh_room (by decide) lm_Sh_160 pd_Sh_room d_Sh_fill_42)) (fun v k h => b_istore d_Sh_fill_45 (by decide) h)) (t_seq (t_cl (s_a1 (s_ite (q4 := 57) (s_cmp0 (s_iload d_Sh_fill_47) (s_if_eqF (tgt := 56) d_Sh_fill_49 (by decide))) (s_iconst d_Sh_fill_52 (by decide)) d_Sh_fill_53 (by decide) (s_iconst d_Sh_fill_56 (by decide))) s_a0) (s_ecs me_Sh_allow mw_Sh_allow (by decide) (by decide) (by decide) lm_Sh_164 w_st_Sh_allow w_in_Sh pd_Sh_allow d_Sh_fill_57)) (t_seq (t_st (s_getf (s_aload d_Sh_fill_60) fi_Sh_120 d_Sh_fill_62) (s_bin (s_bin (s_iconst d_Sh_fill_65 (by decide)) (s_iload d_Sh_fill_66) (s_imul d_Sh_fill_68)) (s_iload d_Sh_fill_69) (s_iadd d_Sh_fill_71)) (s_iload d_Sh_fill_72) (s_iast d_Sh_fill_74)) (t_iinc d_Sh_fill_75 (by decide) (by decide))))) (al_1 (Or.inr ⟨-54, d_Sh_fill_78, by decide⟩)) (by decide)
def lc_Sh_fill_0 : jx_Cx := (cCmp rLt (eI 5) (eGf [5, 6, 7] 1 (eA 4)))
def lb_Sh_fill_0 : jx_St := (sSeq (sSeq (sAsg 0 6 (eInt (nI 0))) (sWh 64 lc_Sh_fill_1 lb_Sh_fill_1)) (sInc 5 (nI 1)))
theorem ml_Sh_fill_0 : jx_Ts z_Sh_fill 11 (sWh 64 lc_Sh_fill_0 lb_Sh_fill_0) [87] := by
  unfold lc_Sh_fill_0 lb_Sh_fill_0
  exact t_wh (EA := [84]) (Fs := [87]) (E := [87]) 64 (s_cmp (s_iload d_Sh_fill_11) (s_getf (s_aload d_Sh_fill_13) fi_Sh_154 d_Sh_fill_15) (s_icmp_geF (tgt := 87) d_Sh_fill_18 (by decide))) (by decide) (t_seq (t_seq (t_asg (s_iconst d_Sh_fill_21 (by decide)) (fun v k h => b_istore d_Sh_fill_22 (by decide) h)) ml_Sh_fill_1) (t_iinc d_Sh_fill_81 (by decide) (by decide))) (al_1 (Or.inr ⟨-73, d_Sh_fill_84, by decide⟩)) (by decide)
def lc_Sh_fill_3 : jx_Cx := (cAnd (cCmp rLt (eI 6) (eInt (nI 4))) (cCmp0 rNe (eLd 0 (eGf [5, 6, 7] 2 (eA 4)) (eI 5))))
def lb_Sh_fill_3 : jx_St := (sSeq (sCl (jx_ev tb_Sh_put) [(eA 0), (eLd 0 (eGf [5, 6, 7] 2 (eA 4)) (eI 5)), (eI 6), (eInt (nI 0))]) (sInc 6 (nI 1)))
theorem ml_Sh_fill_3 : jx_Ts z_Sh_fill 107 (sWh 64 lc_Sh_fill_3 lb_Sh_fill_3) [145] := by
  unfold lc_Sh_fill_3 lb_Sh_fill_3
  exact t_wh (EA := [142]) (Fs := [145]) (E := [145]) 64 (s_andg (s_cmp (s_iload d_Sh_fill_107) (s_iconst d_Sh_fill_109 (by decide)) (s_icmp_geF (tgt := 145) d_Sh_fill_110 (by decide))) (by decide) (al_1 (s_cmp0 (s_load (s_getf (s_aload d_Sh_fill_113) fi_Sh_120 d_Sh_fill_115) (s_iload d_Sh_fill_118) (s_iald d_Sh_fill_120)) (s_if_eqF (tgt := 145) d_Sh_fill_121 (by decide))))) (by decide) (t_seq (t_cl (s_a1 (s_aload_n d_Sh_fill_124 rfl) (s_a1 (s_load (s_getf (s_aload d_Sh_fill_125) fi_Sh_120 d_Sh_fill_127) (s_iload d_Sh_fill_130) (s_iald d_Sh_fill_132)) (s_a1 (s_iload d_Sh_fill_133) (s_a1 (s_iconst d_Sh_fill_135 (by decide)) s_a0)))) (s_ecv (ve_Sh_put (by decide) (by decide)) dc_Sh_put (by decide) lm_Sh_168 pd_Sh_put d_Sh_fill_136)) (t_iinc d_Sh_fill_139 (by decide) (by decide))) (al_1 (Or.inr ⟨-35, d_Sh_fill_142, by decide⟩)) (by decide)
def lc_Sh_fill_2 : jx_Cx := (cCmp rLt (eI 5) (eBin oMul (eInt (nI 2)) (eGf [5, 6, 7] 1 (eA 4))))
def lb_Sh_fill_2 : jx_St := (sSeq (sSeq (sAsg 0 6 (eInt (nI 0))) (sWh 64 lc_Sh_fill_3 lb_Sh_fill_3)) (sInc 5 (nI 1)))
theorem ml_Sh_fill_2 : jx_Ts z_Sh_fill 92 (sWh 64 lc_Sh_fill_2 lb_Sh_fill_2) [151] := by
  unfold lc_Sh_fill_2 lb_Sh_fill_2
  exact t_wh (EA := [148]) (Fs := [151]) (E := [151]) 64 (s_cmp (s_iload d_Sh_fill_92) (s_bin (s_iconst d_Sh_fill_94 (by decide)) (s_getf (s_aload d_Sh_fill_95) fi_Sh_154 d_Sh_fill_97) (s_imul d_Sh_fill_100)) (s_icmp_geF (tgt := 151) d_Sh_fill_101 (by decide))) (by decide) (t_seq (t_seq (t_asg (s_iconst d_Sh_fill_104 (by decide)) (fun v k h => b_istore d_Sh_fill_105 (by decide) h)) ml_Sh_fill_3) (t_iinc d_Sh_fill_145 (by decide) (by decide))) (al_1 (Or.inr ⟨-56, d_Sh_fill_148, by decide⟩)) (by decide)
def bd_Sh_fill : jx_St := (sSeq (sSeq (sAsg 2 4 (eLda 4 (eGf [3] 2 (eA 1)) (eI 2))) (sSeq (sSeq (sAsg 0 5 (eI 3)) (sWh 64 lc_Sh_fill_0 lb_Sh_fill_0)) (sSeq (sAsg 0 5 (eBin oMul (eInt (nI 2)) (eI 3))) (sWh 64 lc_Sh_fill_2 lb_Sh_fill_2)))) sRetV)
theorem m_Sh_fill : jx_Ts z_Sh_fill 0 bd_Sh_fill [] := by
  unfold bd_Sh_fill
  exact (t_seq (t_seq (t_asg (s_loada (s_getf (s_aload_n d_Sh_fill_0 rfl) fi_Sh_71 d_Sh_fill_1) (s_iload_n d_Sh_fill_4 rfl) (s_aald (Or.inr rfl) d_Sh_fill_5)) (fun v k h => b_astore d_Sh_fill_6 (by decide) h)) (t_seq (t_seq (t_asg (s_iload_n d_Sh_fill_8 rfl) (fun v k h => b_istore d_Sh_fill_9 (by decide) h)) ml_Sh_fill_0) (t_seq (t_asg (s_bin (s_iconst d_Sh_fill_87 (by decide)) (s_iload_n d_Sh_fill_88 rfl) (s_imul d_Sh_fill_89)) (fun v k h => b_istore d_Sh_fill_90 (by decide) h)) ml_Sh_fill_2))) (t_retv rfl d_Sh_fill_151))
def f_Sh_fill : jx_Mt := jx_fn 4 8 (bd_Sh_fill fun _ _ => none)
theorem me_Sh_fill : jx_Me 4 z_Sh_fill f_Sh_fill := jx_Me.ofT (by decide) m_Sh_fill
theorem mw_Sh_fill : jx_mw ⟨"ExtentShelf", "fill", "(LExtentShelf$Table;II)V"⟩ z_Sh_fill := ⟨rfl, rfl, by decide +kernel, ⟨by decide, by decide⟩, by decide +kernel⟩
theorem pd_Sh_fill : (parseMethodDescriptor (⟨"ExtentShelf", "fill", "(LExtentShelf$Table;II)V"⟩ : MethodName).desc).map (fun d => d.parameters.length) = some 3 := by decide +kernel
abbrev tb_Sh_needOn : List (Nat × jx_Mt) := [(0, f_Sh_needOn)]
theorem ve_Sh_needOn {fr lo : Nat} (h1 : 7 ≤ fr) (h2 : 128 ≤ lo) : ∀ q ∈ tb_Sh_needOn, jx_ve ⟨"ExtentShelf", "needOn", "()V"⟩ 0 fr lo q.1 q.2 := tv_1 ⟨R_Shelf, F_Shelf, 5, ⟨"ExtentShelf", "needOn", "()V"⟩, z_Sh_needOn, rfl, by decide +kernel, mw_Sh_needOn, by decide +kernel, me_Sh_needOn, Nat.le_trans (by decide) h1, Nat.le_trans (by decide) h2⟩
theorem dc_Sh_needOn : jx_dc ⟨"ExtentShelf", "needOn", "()V"⟩ := ⟨⟨by decide, by decide⟩, Or.inr ⟨by decide +kernel, prog_1_method_4_code, 1, _, (by decide +kernel : Cond.code ⟨"ExtentShelf", "needOn", "()V"⟩ prog_1_method_4_code 1 none ∈ jx_tbl)⟩, "ExtentShelf", ⟨"ExtentShelf", "needOn", "()V"⟩, ⟨"ExtentShelf", "needOn", "()V"⟩, by decide +kernel, rfl⟩
/-! ExtentShelf$Volume.<init>(II)V -/
abbrev z_Vo_init : jx_Z := ("ExtentShelf$Volume", "<init>", prog_9_method_1_code, 3, none, 1, 28)
theorem d_Vo_init_0 : decode z_Vo_init.2.2.1 0 = .ok (.aload_n 0, 1) := by decide +kernel
theorem d_Vo_init_1 : decode z_Vo_init.2.2.1 1 = .ok (.invokespecial 3, 3) := by decide +kernel
theorem d_Vo_init_4 : decode z_Vo_init.2.2.1 4 = .ok (.aload_n 0, 1) := by decide +kernel
theorem d_Vo_init_5 : decode z_Vo_init.2.2.1 5 = .ok (.bipush 10, 2) := by decide +kernel
theorem d_Vo_init_7 : decode z_Vo_init.2.2.1 7 = .ok (.newarray .int, 2) := by decide +kernel
theorem d_Vo_init_9 : decode z_Vo_init.2.2.1 9 = .ok (.putfield 9, 3) := by decide +kernel
theorem d_Vo_init_12 : decode z_Vo_init.2.2.1 12 = .ok (.aload_n 0, 1) := by decide +kernel
theorem d_Vo_init_13 : decode z_Vo_init.2.2.1 13 = .ok (.iload_n 1, 1) := by decide +kernel
theorem d_Vo_init_14 : decode z_Vo_init.2.2.1 14 = .ok (.putfield 15, 3) := by decide +kernel
theorem d_Vo_init_17 : decode z_Vo_init.2.2.1 17 = .ok (.aload_n 0, 1) := by decide +kernel
theorem d_Vo_init_18 : decode z_Vo_init.2.2.1 18 = .ok (.iload_n 2, 1) := by decide +kernel
theorem d_Vo_init_19 : decode z_Vo_init.2.2.1 19 = .ok (.putfield 19, 3) := by decide +kernel
theorem d_Vo_init_22 : decode z_Vo_init.2.2.1 22 = .ok (.return_, 1) := by decide +kernel
def bd_Vo_init : jx_St := (sSeq (sObj (eA 0)) (sSeq (sPf [5, 6, 7] 2 2 (eA 0) (eNa 0 (eInt (nI 10)))) (sSeq (sPf [5, 6, 7] 0 0 (eA 0) (eI 1)) (sSeq (sPf [5, 6, 7] 1 0 (eA 0) (eI 2)) sRetV))))
theorem m_Vo_init : jx_Ts z_Vo_init 0 bd_Vo_init [] := by
  unfold bd_Vo_init
  exact (t_seq (t_obj (s_aload_n d_Vo_init_0 rfl) (by decide +kernel) (by decide +kernel) (by decide +kernel) (by decide) (by decide) d_Vo_init_1) (t_seq (t_pf (s_aload_n d_Vo_init_4 rfl) (s_na (s_bipush d_Vo_init_5 (by decide)) (s_newa (by decide) rfl (by decide +kernel) d_Vo_init_7)) fi_Vo_9 rfl (Or.inr ⟨rfl, jx_fin (by decide +kernel)⟩) d_Vo_init_9) (t_seq (t_pf (s_aload_n d_Vo_init_12 rfl) (s_iload_n d_Vo_init_13 rfl) fi_Vo_15 rfl (Or.inr ⟨rfl, jx_fin (by decide +kernel)⟩) d_Vo_init_14) (t_seq (t_pf (s_aload_n d_Vo_init_17 rfl) (s_iload_n d_Vo_init_18 rfl) fi_Vo_19 rfl (Or.inl rfl) d_Vo_init_19) (t_retv rfl d_Vo_init_22)))))
def f_Vo_init : jx_Mt := jx_fn 3 3 (bd_Vo_init fun _ _ => none)
theorem me_Vo_init : jx_Me 3 z_Vo_init f_Vo_init := jx_Me.ofT (by decide) m_Vo_init
theorem mw_Vo_init : jx_mw ⟨"ExtentShelf$Volume", "<init>", "(II)V"⟩ z_Vo_init := ⟨rfl, rfl, by decide +kernel, ⟨by decide, by decide⟩, by decide +kernel⟩
theorem pd_Vo_init : (parseMethodDescriptor (⟨"ExtentShelf$Volume", "<init>", "(II)V"⟩ : MethodName).desc).map (fun d => d.parameters.length) = some 2 := by decide +kernel
/-! ExtentShelf$Linear.<init>(I)V -/
abbrev z_Li_init : jx_Z := ("ExtentShelf$Linear", "<init>", prog_3_method_1_code, 2, none, 2, 58)
theorem d_Li_init_0 : decode z_Li_init.2.2.1 0 = .ok (.aload_n 0, 1) := by decide +kernel
theorem d_Li_init_1 : decode z_Li_init.2.2.1 1 = .ok (.iconst 1, 1) := by decide +kernel
theorem d_Li_init_2 : decode z_Li_init.2.2.1 2 = .ok (.iload_n 1, 1) := by decide +kernel
theorem d_Li_init_3 : decode z_Li_init.2.2.1 3 = .ok (.invokespecial 1, 3) := by decide +kernel
theorem d_Li_init_6 : decode z_Li_init.2.2.1 6 = .ok (.return_, 1) := by decide +kernel
def bd_Li_init : jx_St := (sSeq (sCl (jx_es f_Vo_init) [(eA 0), (eInt (nI 1)), (eI 1)]) sRetV)
theorem m_Li_init : jx_Ts z_Li_init 0 bd_Li_init [] := by
  unfold bd_Li_init
  exact (t_seq (t_cl (s_a1 (s_aload_n d_Li_init_0 rfl) (s_a1 (s_iconst d_Li_init_1 (by decide)) (s_a1 (s_iload_n d_Li_init_2 rfl) s_a0))) (s_eci me_Vo_init mw_Vo_init rfl rfl (by decide) (by decide) (by decide) lm_Li_1 (by decide +kernel) pd_Vo_init d_Li_init_3)) (t_retv rfl d_Li_init_6))
def f_Li_init : jx_Mt := jx_fn 2 2 (bd_Li_init fun _ _ => none)
theorem me_Li_init : jx_Me 2 z_Li_init f_Li_init := jx_Me.ofT (by decide) m_Li_init
theorem mw_Li_init : jx_mw ⟨"ExtentShelf$Linear", "<init>", "(I)V"⟩ z_Li_init := ⟨rfl, rfl, by decide +kernel, ⟨by decide, by decide⟩, by decide +kernel⟩
theorem pd_Li_init : (parseMethodDescriptor (⟨"ExtentShelf$Linear", "<init>", "(I)V"⟩ : MethodName).desc).map (fun d => d.parameters.length) = some 1 := by decide +kernel
/-! ExtentShelf$Striped.<init>(II)V -/
abbrev z_Sr_init : jx_Z := ("ExtentShelf$Striped", "<init>", prog_6_method_1_code, 3, none, 2, 58)
theorem d_Sr_init_0 : decode z_Sr_init.2.2.1 0 = .ok (.aload_n 0, 1) := by decide +kernel
theorem d_Sr_init_1 : decode z_Sr_init.2.2.1 1 = .ok (.iload_n 1, 1) := by decide +kernel
theorem d_Sr_init_2 : decode z_Sr_init.2.2.1 2 = .ok (.iload_n 2, 1) := by decide +kernel
theorem d_Sr_init_3 : decode z_Sr_init.2.2.1 3 = .ok (.invokespecial 1, 3) := by decide +kernel
theorem d_Sr_init_6 : decode z_Sr_init.2.2.1 6 = .ok (.return_, 1) := by decide +kernel
def bd_Sr_init : jx_St := (sSeq (sCl (jx_es f_Vo_init) [(eA 0), (eI 1), (eI 2)]) sRetV)
theorem m_Sr_init : jx_Ts z_Sr_init 0 bd_Sr_init [] := by
  unfold bd_Sr_init
  exact (t_seq (t_cl (s_a1 (s_aload_n d_Sr_init_0 rfl) (s_a1 (s_iload_n d_Sr_init_1 rfl) (s_a1 (s_iload_n d_Sr_init_2 rfl) s_a0))) (s_eci me_Vo_init mw_Vo_init rfl rfl (by decide) (by decide) (by decide) lm_Sr_1 (by decide +kernel) pd_Vo_init d_Sr_init_3)) (t_retv rfl d_Sr_init_6))
def f_Sr_init : jx_Mt := jx_fn 3 3 (bd_Sr_init fun _ _ => none)
theorem me_Sr_init : jx_Me 3 z_Sr_init f_Sr_init := jx_Me.ofT (by decide) m_Sr_init
theorem mw_Sr_init : jx_mw ⟨"ExtentShelf$Striped", "<init>", "(II)V"⟩ z_Sr_init := ⟨rfl, rfl, by decide +kernel, ⟨by decide, by decide⟩, by decide +kernel⟩
theorem pd_Sr_init : (parseMethodDescriptor (⟨"ExtentShelf$Striped", "<init>", "(II)V"⟩ : MethodName).desc).map (fun d => d.parameters.length) = some 2 := by decide +kernel
/-! ExtentShelf$Twinned.<init>(I)V -/
abbrev z_Tw_init : jx_Z := ("ExtentShelf$Twinned", "<init>", prog_8_method_1_code, 2, none, 2, 58)
theorem d_Tw_init_0 : decode z_Tw_init.2.2.1 0 = .ok (.aload_n 0, 1) := by decide +kernel
theorem d_Tw_init_1 : decode z_Tw_init.2.2.1 1 = .ok (.iconst 1, 1) := by decide +kernel
theorem d_Tw_init_2 : decode z_Tw_init.2.2.1 2 = .ok (.iload_n 1, 1) := by decide +kernel
theorem d_Tw_init_3 : decode z_Tw_init.2.2.1 3 = .ok (.invokespecial 1, 3) := by decide +kernel
theorem d_Tw_init_6 : decode z_Tw_init.2.2.1 6 = .ok (.return_, 1) := by decide +kernel
def bd_Tw_init : jx_St := (sSeq (sCl (jx_es f_Vo_init) [(eA 0), (eInt (nI 1)), (eI 1)]) sRetV)
theorem m_Tw_init : jx_Ts z_Tw_init 0 bd_Tw_init [] := by
  unfold bd_Tw_init
  exact (t_seq (t_cl (s_a1 (s_aload_n d_Tw_init_0 rfl) (s_a1 (s_iconst d_Tw_init_1 (by decide)) (s_a1 (s_iload_n d_Tw_init_2 rfl) s_a0))) (s_eci me_Vo_init mw_Vo_init rfl rfl (by decide) (by decide) (by decide) lm_Tw_1 (by decide +kernel) pd_Vo_init d_Tw_init_3)) (t_retv rfl d_Tw_init_6))
def f_Tw_init : jx_Mt := jx_fn 2 2 (bd_Tw_init fun _ _ => none)
theorem me_Tw_init : jx_Me 2 z_Tw_init f_Tw_init := jx_Me.ofT (by decide) m_Tw_init
theorem mw_Tw_init : jx_mw ⟨"ExtentShelf$Twinned", "<init>", "(I)V"⟩ z_Tw_init := ⟨rfl, rfl, by decide +kernel, ⟨by decide, by decide⟩, by decide +kernel⟩
theorem pd_Tw_init : (parseMethodDescriptor (⟨"ExtentShelf$Twinned", "<init>", "(I)V"⟩ : MethodName).desc).map (fun d => d.parameters.length) = some 1 := by decide +kernel
/-! ExtentShelf$Volume.of(III)LExtentShelf$Volume; -/
abbrev z_Vo_of : jx_Z := ("ExtentShelf$Volume", "of", prog_9_method_10_code, 3, some (.object "ExtentShelf$Volume"), 3, 88)
theorem d_Vo_of_0 : decode z_Vo_of.2.2.1 0 = .ok (.iload_n 0, 1) := by decide +kernel
theorem d_Vo_of_1 : decode z_Vo_of.2.2.1 1 = .ok (.ifCond .ne 14, 3) := by decide +kernel
theorem d_Vo_of_4 : decode z_Vo_of.2.2.1 4 = .ok (.new 34, 3) := by decide +kernel
theorem d_Vo_of_7 : decode z_Vo_of.2.2.1 7 = .ok (.dup, 1) := by decide +kernel
theorem d_Vo_of_8 : decode z_Vo_of.2.2.1 8 = .ok (.iload_n 2, 1) := by decide +kernel
theorem d_Vo_of_9 : decode z_Vo_of.2.2.1 9 = .ok (.invokespecial 36, 3) := by decide +kernel
theorem d_Vo_of_12 : decode z_Vo_of.2.2.1 12 = .ok (.goto 28, 3) := by decide +kernel
theorem d_Vo_of_15 : decode z_Vo_of.2.2.1 15 = .ok (.iload_n 0, 1) := by decide +kernel
theorem d_Vo_of_16 : decode z_Vo_of.2.2.1 16 = .ok (.iconst 1, 1) := by decide +kernel
theorem d_Vo_of_17 : decode z_Vo_of.2.2.1 17 = .ok (.if_icmp .ne 15, 3) := by decide +kernel
theorem d_Vo_of_20 : decode z_Vo_of.2.2.1 20 = .ok (.new 39, 3) := by decide +kernel
theorem d_Vo_of_23 : decode z_Vo_of.2.2.1 23 = .ok (.dup, 1) := by decide +kernel
theorem d_Vo_of_24 : decode z_Vo_of.2.2.1 24 = .ok (.iload_n 1, 1) := by decide +kernel
theorem d_Vo_of_25 : decode z_Vo_of.2.2.1 25 = .ok (.iload_n 2, 1) := by decide +kernel
theorem d_Vo_of_26 : decode z_Vo_of.2.2.1 26 = .ok (.invokespecial 41, 3) := by decide +kernel
theorem d_Vo_of_29 : decode z_Vo_of.2.2.1 29 = .ok (.goto 11, 3) := by decide +kernel
theorem d_Vo_of_32 : decode z_Vo_of.2.2.1 32 = .ok (.new 44, 3) := by decide +kernel
theorem d_Vo_of_35 : decode z_Vo_of.2.2.1 35 = .ok (.dup, 1) := by decide +kernel
theorem d_Vo_of_36 : decode z_Vo_of.2.2.1 36 = .ok (.iload_n 2, 1) := by decide +kernel
theorem d_Vo_of_37 : decode z_Vo_of.2.2.1 37 = .ok (.invokespecial 46, 3) := by decide +kernel
theorem d_Vo_of_40 : decode z_Vo_of.2.2.1 40 = .ok (.areturn, 1) := by decide +kernel
def bd_Vo_of : jx_St := (sRet 2 (eIte (cCmp0 rEq (eI 0)) (eNew 5 3 [.int 0, .int 0, .null] f_Li_init [(eI 2)]) (eIte (cCmp rEq (eI 0) (eInt (nI 1))) (eNew 6 3 [.int 0, .int 0, .null] f_Sr_init [(eI 1), (eI 2)]) (eNew 7 3 [.int 0, .int 0, .null] f_Tw_init [(eI 2)]))))
theorem m_Vo_of : jx_Ts z_Vo_of 0 bd_Vo_of [] := by
  unfold bd_Vo_of
  exact (t_reta (.object "ExtentShelf$Volume") (s_ite (q4 := 40) (s_cmp0 (s_iload_n d_Vo_of_0 rfl) (s_if_neF (tgt := 15) d_Vo_of_1 (by decide))) (s_newi (s_new (C := R_Linear) (T := F_Linear) rfl t_Linear_ok (by decide +kernel) (by decide +kernel) (by decide +kernel) (by decide +kernel) d_Vo_of_4) d_Vo_of_7 (s_a1 (s_iload_n d_Vo_of_8 rfl) s_a0) (s_eci me_Li_init mw_Li_init rfl rfl (by decide) (by decide) (by decide) lm_Vo_36 (by decide +kernel) pd_Li_init d_Vo_of_9)) d_Vo_of_12 (by decide) (s_ite (q4 := 40) (s_cmp (s_iload_n d_Vo_of_15 rfl) (s_iconst d_Vo_of_16 (by decide)) (s_icmp_neF (tgt := 32) d_Vo_of_17 (by decide))) (s_newi (s_new (C := R_Striped) (T := F_Striped) rfl t_Striped_ok (by decide +kernel) (by decide +kernel) (by decide +kernel) (by decide +kernel) d_Vo_of_20) d_Vo_of_23 (s_a1 (s_iload_n d_Vo_of_24 rfl) (s_a1 (s_iload_n d_Vo_of_25 rfl) s_a0)) (s_eci me_Sr_init mw_Sr_init rfl rfl (by decide) (by decide) (by decide) lm_Vo_41 (by decide +kernel) pd_Sr_init d_Vo_of_26)) d_Vo_of_29 (by decide) (s_newi (s_new (C := R_Twinned) (T := F_Twinned) rfl t_Twinned_ok (by decide +kernel) (by decide +kernel) (by decide +kernel) (by decide +kernel) d_Vo_of_32) d_Vo_of_35 (s_a1 (s_iload_n d_Vo_of_36 rfl) s_a0) (s_eci me_Tw_init mw_Tw_init rfl rfl (by decide) (by decide) (by decide) lm_Vo_46 (by decide +kernel) pd_Tw_init d_Vo_of_37)))) rfl (Or.inl ⟨_, rfl⟩) d_Vo_of_40)
def f_Vo_of : jx_Mt := jx_fn 3 3 (bd_Vo_of fun _ _ => none)
theorem me_Vo_of : jx_Me 3 z_Vo_of f_Vo_of := jx_Me.ofT (by decide) m_Vo_of
theorem mw_Vo_of : jx_mw ⟨"ExtentShelf$Volume", "of", "(III)LExtentShelf$Volume;"⟩ z_Vo_of := ⟨rfl, rfl, by decide +kernel, ⟨by decide, by decide⟩, by decide +kernel⟩
theorem pd_Vo_of : (parseMethodDescriptor (⟨"ExtentShelf$Volume", "of", "(III)LExtentShelf$Volume;"⟩ : MethodName).desc).map (fun d => d.parameters.length) = some 3 := by decide +kernel
/-! ExtentShelf$Table.copy()LExtentShelf$Table; -/
abbrev z_Tb_copy : jx_Z := ("ExtentShelf$Table", "copy", prog_7_method_2_code, 4, some (.object "ExtentShelf$Table"), 4, 118)
theorem d_Tb_copy_0 : decode z_Tb_copy.2.2.1 0 = .ok (.new 10, 3) := by decide +kernel
theorem d_Tb_copy_3 : decode z_Tb_copy.2.2.1 3 = .ok (.dup, 1) := by decide +kernel
theorem d_Tb_copy_4 : decode z_Tb_copy.2.2.1 4 = .ok (.invokespecial 21, 3) := by decide +kernel
theorem d_Tb_copy_7 : decode z_Tb_copy.2.2.1 7 = .ok (.astore_n 1, 1) := by decide +kernel
theorem d_Tb_copy_8 : decode z_Tb_copy.2.2.1 8 = .ok (.aload_n 1, 1) := by decide +kernel
theorem d_Tb_copy_9 : decode z_Tb_copy.2.2.1 9 = .ok (.aload_n 0, 1) := by decide +kernel
theorem d_Tb_copy_10 : decode z_Tb_copy.2.2.1 10 = .ok (.getfield 22, 3) := by decide +kernel
theorem d_Tb_copy_13 : decode z_Tb_copy.2.2.1 13 = .ok (.putfield 22, 3) := by decide +kernel
theorem d_Tb_copy_16 : decode z_Tb_copy.2.2.1 16 = .ok (.aload_n 0, 1) := by decide +kernel
theorem d_Tb_copy_17 : decode z_Tb_copy.2.2.1 17 = .ok (.getfield 9, 3) := by decide +kernel
theorem d_Tb_copy_20 : decode z_Tb_copy.2.2.1 20 = .ok (.iconst 0, 1) := by decide +kernel
theorem d_Tb_copy_21 : decode z_Tb_copy.2.2.1 21 = .ok (.aload_n 1, 1) := by decide +kernel
theorem d_Tb_copy_22 : decode z_Tb_copy.2.2.1 22 = .ok (.getfield 9, 3) := by decide +kernel
theorem d_Tb_copy_25 : decode z_Tb_copy.2.2.1 25 = .ok (.iconst 0, 1) := by decide +kernel
theorem d_Tb_copy_26 : decode z_Tb_copy.2.2.1 26 = .ok (.iconst 4, 1) := by decide +kernel
theorem d_Tb_copy_27 : decode z_Tb_copy.2.2.1 27 = .ok (.invokestatic 26, 3) := by decide +kernel
theorem d_Tb_copy_30 : decode z_Tb_copy.2.2.1 30 = .ok (.iconst 0, 1) := by decide +kernel
theorem d_Tb_copy_31 : decode z_Tb_copy.2.2.1 31 = .ok (.istore_n 2, 1) := by decide +kernel
theorem d_Tb_copy_32 : decode z_Tb_copy.2.2.1 32 = .ok (.iload_n 2, 1) := by decide +kernel
theorem d_Tb_copy_33 : decode z_Tb_copy.2.2.1 33 = .ok (.iconst 4, 1) := by decide +kernel
theorem d_Tb_copy_34 : decode z_Tb_copy.2.2.1 34 = .ok (.if_icmp .ge 64, 3) := by decide +kernel
theorem d_Tb_copy_37 : decode z_Tb_copy.2.2.1 37 = .ok (.aload_n 0, 1) := by decide +kernel
theorem d_Tb_copy_38 : decode z_Tb_copy.2.2.1 38 = .ok (.getfield 17, 3) := by decide +kernel
theorem d_Tb_copy_41 : decode z_Tb_copy.2.2.1 41 = .ok (.iload_n 2, 1) := by decide +kernel
theorem d_Tb_copy_42 : decode z_Tb_copy.2.2.1 42 = .ok (.aaload, 1) := by decide +kernel
theorem d_Tb_copy_43 : decode z_Tb_copy.2.2.1 43 = .ok (.astore_n 3, 1) := by decide +kernel
theorem d_Tb_copy_44 : decode z_Tb_copy.2.2.1 44 = .ok (.aload_n 3, 1) := by decide +kernel
theorem d_Tb_copy_45 : decode z_Tb_copy.2.2.1 45 = .ok (.ifnonnull 6, 3) := by decide +kernel
theorem d_Tb_copy_48 : decode z_Tb_copy.2.2.1 48 = .ok (.goto 44, 3) := by decide +kernel
theorem d_Tb_copy_51 : decode z_Tb_copy.2.2.1 51 = .ok (.aload_n 1, 1) := by decide +kernel
theorem d_Tb_copy_52 : decode z_Tb_copy.2.2.1 52 = .ok (.getfield 17, 3) := by decide +kernel
theorem d_Tb_copy_55 : decode z_Tb_copy.2.2.1 55 = .ok (.iload_n 2, 1) := by decide +kernel
theorem d_Tb_copy_56 : decode z_Tb_copy.2.2.1 56 = .ok (.aload_n 3, 1) := by decide +kernel
theorem d_Tb_copy_57 : decode z_Tb_copy.2.2.1 57 = .ok (.invokevirtual 32, 3) := by decide +kernel
theorem d_Tb_copy_60 : decode z_Tb_copy.2.2.1 60 = .ok (.aload_n 3, 1) := by decide +kernel
theorem d_Tb_copy_61 : decode z_Tb_copy.2.2.1 61 = .ok (.getfield 36, 3) := by decide +kernel
theorem d_Tb_copy_64 : decode z_Tb_copy.2.2.1 64 = .ok (.aload_n 3, 1) := by decide +kernel
theorem d_Tb_copy_65 : decode z_Tb_copy.2.2.1 65 = .ok (.getfield 39, 3) := by decide +kernel
theorem d_Tb_copy_68 : decode z_Tb_copy.2.2.1 68 = .ok (.invokestatic 42, 3) := by decide +kernel
theorem d_Tb_copy_71 : decode z_Tb_copy.2.2.1 71 = .ok (.aastore, 1) := by decide +kernel
theorem d_Tb_copy_72 : decode z_Tb_copy.2.2.1 72 = .ok (.aload_n 3, 1) := by decide +kernel
theorem d_Tb_copy_73 : decode z_Tb_copy.2.2.1 73 = .ok (.getfield 46, 3) := by decide +kernel
theorem d_Tb_copy_76 : decode z_Tb_copy.2.2.1 76 = .ok (.iconst 0, 1) := by decide +kernel
theorem d_Tb_copy_77 : decode z_Tb_copy.2.2.1 77 = .ok (.aload_n 1, 1) := by decide +kernel
theorem d_Tb_copy_78 : decode z_Tb_copy.2.2.1 78 = .ok (.getfield 17, 3) := by decide +kernel
theorem d_Tb_copy_81 : decode z_Tb_copy.2.2.1 81 = .ok (.iload_n 2, 1) := by decide +kernel
theorem d_Tb_copy_82 : decode z_Tb_copy.2.2.1 82 = .ok (.aaload, 1) := by decide +kernel
theorem d_Tb_copy_83 : decode z_Tb_copy.2.2.1 83 = .ok (.getfield 46, 3) := by decide +kernel
theorem d_Tb_copy_86 : decode z_Tb_copy.2.2.1 86 = .ok (.iconst 0, 1) := by decide +kernel
theorem d_Tb_copy_87 : decode z_Tb_copy.2.2.1 87 = .ok (.bipush 10, 2) := by decide +kernel
theorem d_Tb_copy_89 : decode z_Tb_copy.2.2.1 89 = .ok (.invokestatic 26, 3) := by decide +kernel
theorem d_Tb_copy_92 : decode z_Tb_copy.2.2.1 92 = .ok (.iinc 2 1, 3) := by decide +kernel
theorem d_Tb_copy_95 : decode z_Tb_copy.2.2.1 95 = .ok (.goto (-63), 3) := by decide +kernel
theorem d_Tb_copy_98 : decode z_Tb_copy.2.2.1 98 = .ok (.aload_n 1, 1) := by decide +kernel
theorem d_Tb_copy_99 : decode z_Tb_copy.2.2.1 99 = .ok (.areturn, 1) := by decide +kernel
def lc_Tb_copy_0 : jx_Cx := (cCmp rLt (eI 2) (eInt (nI 4)))
def lb_Tb_copy_0 : jx_St := (sSeq (sAsg 2 3 (eLda 4 (eGf [3] 2 (eA 0)) (eI 2))) (sSeq (sIf (cNull (eA 3)) sSkip (sSeq (sSta 4 [5, 6, 7] (eGf [3] 2 (eA 1)) (eI 2) (eCl (jx_ec f_Vo_of) [(eCl (jx_ev tb_Vo_kind) [(eA 3)]), (eGf [5, 6, 7] 0 (eA 3)), (eGf [5, 6, 7] 1 (eA 3))])) (sCl jx_cpy [(eGf [5, 6, 7] 2 (eA 3)), (eInt (nI 0)), (eGf [5, 6, 7] 2 (eLda 4 (eGf [3] 2 (eA 1)) (eI 2))), (eInt (nI 0)), (eInt (nI 10))]))) (sInc 2 (nI 1))))
theorem ml_Tb_copy_0 : jx_Ts z_Tb_copy 32 (sWh 64 lc_Tb_copy_0 lb_Tb_copy_0) [98] := by
  unfold lc_Tb_copy_0 lb_Tb_copy_0
  exact t_wh (EA := [95]) (Fs := [98]) (E := [98]) 64 (s_cmp (s_iload_n d_Tb_copy_32 rfl) (s_iconst d_Tb_copy_33 (by decide)) (s_icmp_geF (tgt := 98) d_Tb_copy_34 (by decide))) (by decide) (t_seq (t_asg (s_loada (s_getf (s_aload_n d_Tb_copy_37 rfl) fi_Tb_17 d_Tb_copy_38) (s_iload_n d_Tb_copy_41 rfl) (s_aald (Or.inr rfl) d_Tb_copy_42)) (fun v k h => b_astore_n d_Tb_copy_43 rfl (by decide) h)) (t_seq (t_ifg (E := [92]) (s_nul (s_aload_n d_Tb_copy_44 rfl) (s_ifnonnull (tgt := 51) d_Tb_copy_45 (by decide))) (by decide) (al_1 (t_goto (q := 48) (tgt := 92) (E := [92]) (t_skip (by decide)) d_Tb_copy_48 (by decide) (by decide))) (al_1 (t_seq (t_sta (s_getf (s_aload_n d_Tb_copy_51 rfl) fi_Tb_17 d_Tb_copy_52) (s_iload_n d_Tb_copy_55 rfl) (s_cl (s_a1 (s_cl (s_a1 (s_aload_n d_Tb_copy_56 rfl) s_a0) (s_ecv (ve_Vo_kind (by decide) (by decide)) dc_Vo_kind (by decide) lm_Tb_32 pd_Vo_kind d_Tb_copy_57)) (s_a1 (s_getf (s_aload_n d_Tb_copy_60 rfl) fi_Tb_36 d_Tb_copy_61) (s_a1 (s_getf (s_aload_n d_Tb_copy_64 rfl) fi_Tb_39 d_Tb_copy_65) s_a0))) (s_ecs me_Vo_of mw_Vo_of (by decide) (by decide) (by decide) lm_Tb_42 w_st_Vo_of w_in_Vo pd_Vo_of d_Tb_copy_68)) (s_aast (E := "ExtentShelf$Volume") ⟨Or.inr rfl, rfl⟩ (al_3 ⟨R_Linear, F_Linear, 3, rfl, Or.inr (by decide +kernel)⟩ ⟨R_Striped, F_Striped, 3, rfl, Or.inr (by decide +kernel)⟩ ⟨R_Twinned, F_Twinned, 3, rfl, Or.inr (by decide +kernel)⟩) d_Tb_copy_71)) (t_cl (s_a1 (s_getf (s_aload_n d_Tb_copy_72 rfl) fi_Tb_46 d_Tb_copy_73) (s_a1 (s_iconst d_Tb_copy_76 (by decide)) (s_a1 (s_getf (s_loada (s_getf (s_aload_n d_Tb_copy_77 rfl) fi_Tb_17 d_Tb_copy_78) (s_iload_n d_Tb_copy_81 rfl) (s_aald (Or.inr rfl) d_Tb_copy_82)) fi_Tb_46 d_Tb_copy_83) (s_a1 (s_iconst d_Tb_copy_86 (by decide)) (s_a1 (s_bipush d_Tb_copy_87 (by decide)) s_a0))))) (s_cpy (by decide) (by decide +kernel) (by decide +kernel) (by decide +kernel) (by decide +kernel) (by decide) (by decide) d_Tb_copy_89))))) (t_iinc d_Tb_copy_92 (by decide) (by decide)))) (al_1 (Or.inr ⟨-63, d_Tb_copy_95, by decide⟩)) (by decide)
def bd_Tb_copy : jx_St := (sSeq (sAsg 2 1 (eNew 3 3 [.int 0, .null, .null] f_Tb_init [])) (sSeq (sPf [3] 0 0 (eA 1) (eGf [3] 0 (eA 0))) (sSeq (sCl jx_cpy [(eGf [3] 1 (eA 0)), (eInt (nI 0)), (eGf [3] 1 (eA 1)), (eInt (nI 0)), (eInt (nI 4))]) (sSeq (sSeq (sAsg 0 2 (eInt (nI 0))) (sWh 64 lc_Tb_copy_0 lb_Tb_copy_0)) (sRet 2 (eA 1))))))
theorem m_Tb_copy : jx_Ts z_Tb_copy 0 bd_Tb_copy [] := by
  unfold bd_Tb_copy
  exact (t_seq (t_asg (s_newi (s_new (C := R_Table) (T := F_Table) rfl t_Table_ok (by decide +kernel) (by decide +kernel) (by decide +kernel) (by decide +kernel) d_Tb_copy_0) d_Tb_copy_3 s_a0 (s_eci me_Tb_init mw_Tb_init rfl rfl (by decide) (by decide) (by decide) lm_Tb_21 (by decide +kernel) pd_Tb_init d_Tb_copy_4)) (fun v k h => b_astore_n d_Tb_copy_7 rfl (by decide) h)) (t_seq (t_pf (s_aload_n d_Tb_copy_8 rfl) (s_getf (s_aload_n d_Tb_copy_9 rfl) fi_Tb_22 d_Tb_copy_10) fi_Tb_22 rfl (Or.inl rfl) d_Tb_copy_13) (t_seq (t_cl (s_a1 (s_getf (s_aload_n d_Tb_copy_16 rfl) fi_Tb_9 d_Tb_copy_17) (s_a1 (s_iconst d_Tb_copy_20 (by decide)) (s_a1 (s_getf (s_aload_n d_Tb_copy_21 rfl) fi_Tb_9 d_Tb_copy_22) (s_a1 (s_iconst d_Tb_copy_25 (by decide)) (s_a1 (s_iconst d_Tb_copy_26 (by decide)) s_a0))))) (s_cpy (by decide) (by decide +kernel) (by decide +kernel) (by decide +kernel) (by decide +kernel) (by decide) (by decide) d_Tb_copy_27)) (t_seq (t_seq (t_asg (s_iconst d_Tb_copy_30 (by decide)) (fun v k h => b_istore_n d_Tb_copy_31 rfl (by decide) h)) ml_Tb_copy_0) (t_reta (.object "ExtentShelf$Table") (s_aload_n d_Tb_copy_98 rfl) rfl (Or.inl ⟨_, rfl⟩) d_Tb_copy_99)))))
def f_Tb_copy : jx_Mt := jx_fn 1 4 (bd_Tb_copy fun _ _ => none)
theorem me_Tb_copy : jx_Me 1 z_Tb_copy f_Tb_copy := jx_Me.ofT (by decide) m_Tb_copy
theorem mw_Tb_copy : jx_mw ⟨"ExtentShelf$Table", "copy", "()LExtentShelf$Table;"⟩ z_Tb_copy := ⟨rfl, rfl, by decide +kernel, ⟨by decide, by decide⟩, by decide +kernel⟩
theorem pd_Tb_copy : (parseMethodDescriptor (⟨"ExtentShelf$Table", "copy", "()LExtentShelf$Table;"⟩ : MethodName).desc).map (fun d => d.parameters.length) = some 0 := by decide +kernel
abbrev tb_Tb_copy : List (Nat × jx_Mt) := [(3, f_Tb_copy)]
theorem ve_Tb_copy {fr lo : Nat} (h1 : 5 ≤ fr) (h2 : 149 ≤ lo) : ∀ q ∈ tb_Tb_copy, jx_ve ⟨"ExtentShelf$Table", "copy", "()LExtentShelf$Table;"⟩ 0 fr lo q.1 q.2 := tv_1 ⟨R_Table, F_Table, 3, ⟨"ExtentShelf$Table", "copy", "()LExtentShelf$Table;"⟩, z_Tb_copy, rfl, by decide +kernel, mw_Tb_copy, by decide +kernel, me_Tb_copy, Nat.le_trans (by decide) h1, Nat.le_trans (by decide) h2⟩
theorem dc_Tb_copy : jx_dc ⟨"ExtentShelf$Table", "copy", "()LExtentShelf$Table;"⟩ := ⟨⟨by decide, by decide⟩, Or.inr ⟨by decide +kernel, prog_7_method_2_code, 4, _, (by decide +kernel : Cond.code ⟨"ExtentShelf$Table", "copy", "()LExtentShelf$Table;"⟩ prog_7_method_2_code 4 (some (.object "ExtentShelf$Table")) ∈ jx_tbl)⟩, "ExtentShelf$Table", ⟨"ExtentShelf$Table", "copy", "()LExtentShelf$Table;"⟩, ⟨"ExtentShelf$Table", "copy", "()LExtentShelf$Table;"⟩, by decide +kernel, rfl⟩
abbrev tb_Sh_change : List (Nat × jx_Mt) := [(0, f_Sh_change)]
theorem ve_Sh_change {fr lo : Nat} (h1 : 8 ≤ fr) (h2 : 166 ≤ lo) : ∀ q ∈ tb_Sh_change, jx_ve ⟨"ExtentShelf", "change", "(LExtentShelf$Table;)V"⟩ 1 fr lo q.1 q.2 := tv_1 ⟨R_Shelf, F_Shelf, 5, ⟨"ExtentShelf", "change", "(LExtentShelf$Table;)V"⟩, z_Sh_change, rfl, by decide +kernel, mw_Sh_change, by decide +kernel, me_Sh_change, Nat.le_trans (by decide) h1, Nat.le_trans (by decide) h2⟩
theorem dc_Sh_change : jx_dc ⟨"ExtentShelf", "change", "(LExtentShelf$Table;)V"⟩ := ⟨⟨by decide, by decide⟩, Or.inr ⟨by decide +kernel, prog_1_method_14_code, 8, _, (by decide +kernel : Cond.code ⟨"ExtentShelf", "change", "(LExtentShelf$Table;)V"⟩ prog_1_method_14_code 8 none ∈ jx_tbl)⟩, "ExtentShelf", ⟨"ExtentShelf", "change", "(LExtentShelf$Table;)V"⟩, ⟨"ExtentShelf", "change", "(LExtentShelf$Table;)V"⟩, by decide +kernel, rfl⟩
/-! ExtentShelf.add(II)V -/
abbrev z_Sh_add : jx_Z := ("ExtentShelf", "add", prog_1_method_20_code, 4, none, 8, 166)
theorem d_Sh_add_0 : decode z_Sh_add.2.2.1 0 = .ok (.aload_n 0, 1) := by decide +kernel
theorem d_Sh_add_1 : decode z_Sh_add.2.2.1 1 = .ok (.invokevirtual 172, 3) := by decide +kernel
theorem d_Sh_add_4 : decode z_Sh_add.2.2.1 4 = .ok (.iload_n 1, 1) := by decide +kernel
theorem d_Sh_add_5 : decode z_Sh_add.2.2.1 5 = .ok (.invokestatic 175, 3) := by decide +kernel
theorem d_Sh_add_8 : decode z_Sh_add.2.2.1 8 = .ok (.ifCond .eq 18, 3) := by decide +kernel
theorem d_Sh_add_11 : decode z_Sh_add.2.2.1 11 = .ok (.iload_n 2, 1) := by decide +kernel
theorem d_Sh_add_12 : decode z_Sh_add.2.2.1 12 = .ok (.iconst 2, 1) := by decide +kernel
theorem d_Sh_add_13 : decode z_Sh_add.2.2.1 13 = .ok (.if_icmp .lt 13, 3) := by decide +kernel
theorem d_Sh_add_16 : decode z_Sh_add.2.2.1 16 = .ok (.iload_n 2, 1) := by decide +kernel
theorem d_Sh_add_17 : decode z_Sh_add.2.2.1 17 = .ok (.bipush 8, 2) := by decide +kernel
theorem d_Sh_add_19 : decode z_Sh_add.2.2.1 19 = .ok (.if_icmp .gt 7, 3) := by decide +kernel
theorem d_Sh_add_22 : decode z_Sh_add.2.2.1 22 = .ok (.iconst 1, 1) := by decide +kernel
theorem d_Sh_add_23 : decode z_Sh_add.2.2.1 23 = .ok (.goto 4, 3) := by decide +kernel
theorem d_Sh_add_26 : decode z_Sh_add.2.2.1 26 = .ok (.iconst 0, 1) := by decide +kernel
theorem d_Sh_add_27 : decode z_Sh_add.2.2.1 27 = .ok (.invokestatic 178, 3) := by decide +kernel
theorem d_Sh_add_30 : decode z_Sh_add.2.2.1 30 = .ok (.aload_n 0, 1) := by decide +kernel
theorem d_Sh_add_31 : decode z_Sh_add.2.2.1 31 = .ok (.iload_n 1, 1) := by decide +kernel
theorem d_Sh_add_32 : decode z_Sh_add.2.2.1 32 = .ok (.invokevirtual 64, 3) := by decide +kernel
theorem d_Sh_add_35 : decode z_Sh_add.2.2.1 35 = .ok (.ifCond .ne 26, 3) := by decide +kernel
theorem d_Sh_add_38 : decode z_Sh_add.2.2.1 38 = .ok (.aload_n 0, 1) := by decide +kernel
theorem d_Sh_add_39 : decode z_Sh_add.2.2.1 39 = .ok (.getfield 12, 3) := by decide +kernel
theorem d_Sh_add_42 : decode z_Sh_add.2.2.1 42 = .ok (.iload_n 1, 1) := by decide +kernel
theorem d_Sh_add_43 : decode z_Sh_add.2.2.1 43 = .ok (.aaload, 1) := by decide +kernel
theorem d_Sh_add_44 : decode z_Sh_add.2.2.1 44 = .ok (.getfield 68, 3) := by decide +kernel
theorem d_Sh_add_47 : decode z_Sh_add.2.2.1 47 = .ok (.ifCond .eq 14, 3) := by decide +kernel
theorem d_Sh_add_50 : decode z_Sh_add.2.2.1 50 = .ok (.aload_n 0, 1) := by decide +kernel
theorem d_Sh_add_51 : decode z_Sh_add.2.2.1 51 = .ok (.invokevirtual 93, 3) := by decide +kernel
theorem d_Sh_add_54 : decode z_Sh_add.2.2.1 54 = .ok (.ifCond .ne 7, 3) := by decide +kernel
theorem d_Sh_add_57 : decode z_Sh_add.2.2.1 57 = .ok (.iconst 1, 1) := by decide +kernel
theorem d_Sh_add_58 : decode z_Sh_add.2.2.1 58 = .ok (.goto 4, 3) := by decide +kernel
theorem d_Sh_add_61 : decode z_Sh_add.2.2.1 61 = .ok (.iconst 0, 1) := by decide +kernel
theorem d_Sh_add_62 : decode z_Sh_add.2.2.1 62 = .ok (.invokestatic 164, 3) := by decide +kernel
theorem d_Sh_add_65 : decode z_Sh_add.2.2.1 65 = .ok (.iconst 0, 1) := by decide +kernel
theorem d_Sh_add_66 : decode z_Sh_add.2.2.1 66 = .ok (.istore_n 3, 1) := by decide +kernel
theorem d_Sh_add_67 : decode z_Sh_add.2.2.1 67 = .ok (.iload_n 3, 1) := by decide +kernel
theorem d_Sh_add_68 : decode z_Sh_add.2.2.1 68 = .ok (.aload_n 0, 1) := by decide +kernel
theorem d_Sh_add_69 : decode z_Sh_add.2.2.1 69 = .ok (.getfield 12, 3) := by decide +kernel
theorem d_Sh_add_72 : decode z_Sh_add.2.2.1 72 = .ok (.iload_n 1, 1) := by decide +kernel
theorem d_Sh_add_73 : decode z_Sh_add.2.2.1 73 = .ok (.aaload, 1) := by decide +kernel
theorem d_Sh_add_74 : decode z_Sh_add.2.2.1 74 = .ok (.getfield 82, 3) := by decide +kernel
theorem d_Sh_add_77 : decode z_Sh_add.2.2.1 77 = .ok (.arraylength, 1) := by decide +kernel
theorem d_Sh_add_78 : decode z_Sh_add.2.2.1 78 = .ok (.if_icmp .ge 21, 3) := by decide +kernel
theorem d_Sh_add_81 : decode z_Sh_add.2.2.1 81 = .ok (.aload_n 0, 1) := by decide +kernel
theorem d_Sh_add_82 : decode z_Sh_add.2.2.1 82 = .ok (.getfield 12, 3) := by decide +kernel
theorem d_Sh_add_85 : decode z_Sh_add.2.2.1 85 = .ok (.iload_n 1, 1) := by decide +kernel
theorem d_Sh_add_86 : decode z_Sh_add.2.2.1 86 = .ok (.aaload, 1) := by decide +kernel
theorem d_Sh_add_87 : decode z_Sh_add.2.2.1 87 = .ok (.getfield 82, 3) := by decide +kernel
theorem d_Sh_add_90 : decode z_Sh_add.2.2.1 90 = .ok (.iload_n 3, 1) := by decide +kernel
theorem d_Sh_add_91 : decode z_Sh_add.2.2.1 91 = .ok (.iconst 0, 1) := by decide +kernel
theorem d_Sh_add_92 : decode z_Sh_add.2.2.1 92 = .ok (.iastore, 1) := by decide +kernel
theorem d_Sh_add_93 : decode z_Sh_add.2.2.1 93 = .ok (.iinc 3 1, 3) := by decide +kernel
theorem d_Sh_add_96 : decode z_Sh_add.2.2.1 96 = .ok (.goto (-29), 3) := by decide +kernel
theorem d_Sh_add_99 : decode z_Sh_add.2.2.1 99 = .ok (.aload_n 0, 1) := by decide +kernel
theorem d_Sh_add_100 : decode z_Sh_add.2.2.1 100 = .ok (.getfield 28, 3) := by decide +kernel
theorem d_Sh_add_103 : decode z_Sh_add.2.2.1 103 = .ok (.invokevirtual 181, 3) := by decide +kernel
theorem d_Sh_add_106 : decode z_Sh_add.2.2.1 106 = .ok (.astore_n 3, 1) := by decide +kernel
theorem d_Sh_add_107 : decode z_Sh_add.2.2.1 107 = .ok (.aload_n 3, 1) := by decide +kernel
theorem d_Sh_add_108 : decode z_Sh_add.2.2.1 108 = .ok (.getfield 57, 3) := by decide +kernel
theorem d_Sh_add_111 : decode z_Sh_add.2.2.1 111 = .ok (.iload_n 1, 1) := by decide +kernel
theorem d_Sh_add_112 : decode z_Sh_add.2.2.1 112 = .ok (.iload_n 2, 1) := by decide +kernel
theorem d_Sh_add_113 : decode z_Sh_add.2.2.1 113 = .ok (.iastore, 1) := by decide +kernel
theorem d_Sh_add_114 : decode z_Sh_add.2.2.1 114 = .ok (.aload_n 0, 1) := by decide +kernel
theorem d_Sh_add_115 : decode z_Sh_add.2.2.1 115 = .ok (.aload_n 3, 1) := by decide +kernel
theorem d_Sh_add_116 : decode z_Sh_add.2.2.1 116 = .ok (.invokevirtual 185, 3) := by decide +kernel
theorem d_Sh_add_119 : decode z_Sh_add.2.2.1 119 = .ok (.return_, 1) := by decide +kernel
def lc_Sh_add_0 : jx_Cx := (cCmp rLt (eI 3) (eLen (eGf [1] 2 (eLda 3 (eGf [0] 0 (eA 0)) (eI 1)))))
def lb_Sh_add_0 : jx_St := (sSeq (sSt 0 0 (eGf [1] 2 (eLda 3 (eGf [0] 0 (eA 0)) (eI 1))) (eI 3) (eInt (nI 0))) (sInc 3 (nI 1)))
theorem ml_Sh_add_0 : jx_Ts z_Sh_add 67 (sWh 64 lc_Sh_add_0 lb_Sh_add_0) [99] := by
  unfold lc_Sh_add_0 lb_Sh_add_0
  exact t_wh (EA := [96]) (Fs := [99]) (E := [99]) 64 (s_cmp (s_iload_n d_Sh_add_67 rfl) (s_len (s_getf (s_loada (s_getf (s_aload_n d_Sh_add_68 rfl) fi_Sh_12 d_Sh_add_69) (s_iload_n d_Sh_add_72 rfl) (s_aald (Or.inl rfl) d_Sh_add_73)) fi_Sh_82 d_Sh_add_74) d_Sh_add_77) (s_icmp_geF (tgt := 99) d_Sh_add_78 (by decide))) (by decide) (t_seq (t_st (s_getf (s_loada (s_getf (s_aload_n d_Sh_add_81 rfl) fi_Sh_12 d_Sh_add_82) (s_iload_n d_Sh_add_85 rfl) (s_aald (Or.inl rfl) d_Sh_add_86)) fi_Sh_82 d_Sh_add_87) (s_iload_n d_Sh_add_90 rfl) (s_iconst d_Sh_add_91 (by decide)) (s_iast d_Sh_add_92)) (t_iinc d_Sh_add_93 (by decide) (by decide))) (al_1 (Or.inr ⟨-29, d_Sh_add_96, by decide⟩)) (by decide)
def bd_Sh_add : jx_St := (sSeq (sSeq (sCl (jx_ev tb_Sh_needOn) [(eA 0)]) (sSeq (sCl (jx_ec f_Sh_need) [(eIte (cAnd (cAnd (cCmp0 rNe (eCl (jx_ec f_Sh_isDisk) [(eI 1)])) (cCmp rGe (eI 2) (eInt (nI 2)))) (cCmp rLe (eI 2) (eInt (nI 8)))) (eInt (nI 1)) (eInt (nI 0)))]) (sSeq (sCl (jx_ec f_Sh_allow) [(eIte (cAnd (cAnd (cNot (cCmp0 rNe (eCl (jx_ev tb_Sh_isListed) [(eA 0), (eI 1)]))) (cCmp0 rNe (eGf [1] 3 (eLda 3 (eGf [0] 0 (eA 0)) (eI 1))))) (cNot (cCmp0 rNe (eCl (jx_ev tb_Sh_isOneAbsent) [(eA 0)])))) (eInt (nI 1)) (eInt (nI 0)))]) (sSeq (sSeq (sAsg 0 3 (eInt (nI 0))) (sWh 64 lc_Sh_add_0 lb_Sh_add_0)) (sSeq (sAsg 2 3 (eCl (jx_ev tb_Tb_copy) [(eGf [0] 2 (eA 0))])) (sSeq (sSt 0 0 (eGf [3] 1 (eA 3)) (eI 1) (eI 2)) (sCl (jx_ev tb_Sh_change) [(eA 0), (eA 3)]))))))) sRetV)
theorem m_Sh_add : jx_Ts z_Sh_add 0 bd_Sh_add [] := by
  unfold bd_Sh_add
  exact (t_seq (t_seq (t_cl (s_a1 (s_aload_n d_Sh_add_0 rfl) s_a0) (s_ecv (ve_Sh_needOn (by decide) (by decide)) dc_Sh_needOn (by decide) lm_Sh_172 pd_Sh_needOn d_Sh_add_1)) (t_seq (t_cl (s_a1 (s_ite (q4 := 27) (s_andg (s_andg (s_cmp0 (s_cl (s_a1 (s_iload_n d_Sh_add_4 rfl) s_a0) (s_ecs me_Sh_isDisk mw_Sh_isDisk (by decide) (by decide) (by decide) lm_Sh_175 w_st_Sh_isDisk w_in_Sh pd_Sh_isDisk d_Sh_add_5)) (s_if_eqF (tgt := 26) d_Sh_add_8 (by decide))) (by decide) (al_1 (s_cmp (s_iload_n d_Sh_add_11 rfl) (s_iconst d_Sh_add_12 (by decide)) (s_icmp_ltF (tgt := 26) d_Sh_add_13 (by decide))))) (by decide) (al_1 (s_cmp (s_iload_n d_Sh_add_16 rfl) (s_bipush d_Sh_add_17 (by decide)) (s_icmp_gtF (tgt := 26) d_Sh_add_19 (by decide))))) (s_iconst d_Sh_add_22 (by decide)) d_Sh_add_23 (by decide) (s_iconst d_Sh_add_26 (by decide))) s_a0) (s_ecs me_Sh_need mw_Sh_need (by decide) (by decide) (by decide) lm_Sh_178 w_st_Sh_need w_in_Sh pd_Sh_need d_Sh_add_27)) (t_seq (t_cl (s_a1 (s_ite (q4 := 62) (s_andg (s_andg (s_not (s_cmp0 (s_cl (s_a1 (s_aload_n d_Sh_add_30 rfl) (s_a1 (s_iload_n d_Sh_add_31 rfl) s_a0)) (s_ecv (ve_Sh_isListed (by decide) (by decide)) dc_Sh_isListed (by decide) lm_Sh_64 pd_Sh_isListed d_Sh_add_32)) (s_if_neT (tgt := 61) d_Sh_add_35 (by decide))) (by decide)) (by decide) (al_1 (s_cmp0 (s_getf (s_loada (s_getf (s_aload_n d_Sh_add_38 rfl) fi_Sh_12 d_Sh_add_39) (s_iload_n d_Sh_add_42 rfl) (s_aald (Or.inl rfl) d_Sh_add_43)) fi_Sh_68 d_Sh_add_44) (s_if_eqF (tgt := 61) d_Sh_add_47 (by decide))))) (by decide) (al_1 (s_not (s_cmp0 (s_cl (s_a1 (s_aload_n d_Sh_add_50 rfl) s_a0) (s_ecv (ve_Sh_isOneAbsent (by decide) (by decide)) dc_Sh_isOneAbsent (by decide) lm_Sh_93 pd_Sh_isOneAbsent d_Sh_add_51)) (s_if_neT (tgt := 61) d_Sh_add_54 (by decide))) (by decide)))) (s_iconst d_Sh_add_57 (by decide)) d_Sh_add_58 (by decide) (s_iconst d_Sh_add_61 (by decide))) s_a0) (s_ecs me_Sh_allow mw_Sh_allow (by decide) (by decide) (by decide) lm_Sh_164 w_st_Sh_allow w_in_Sh pd_Sh_allow d_Sh_add_62)) (t_seq (t_seq (t_asg (s_iconst d_Sh_add_65 (by decide)) (fun v k h => b_istore_n d_Sh_add_66 rfl (by decide) h)) ml_Sh_add_0) (t_seq (t_asg (s_cl (s_a1 (s_getf (s_aload_n d_Sh_add_99 rfl) fi_Sh_28 d_Sh_add_100) s_a0) (s_ecv (ve_Tb_copy (by decide) (by decide)) dc_Tb_copy (by decide) lm_Sh_181 pd_Tb_copy d_Sh_add_103)) (fun v k h => b_astore_n d_Sh_add_106 rfl (by decide) h)) (t_seq (t_st (s_getf (s_aload_n d_Sh_add_107 rfl) fi_Sh_57 d_Sh_add_108) (s_iload_n d_Sh_add_111 rfl) (s_iload_n d_Sh_add_112 rfl) (s_iast d_Sh_add_113)) (t_cl (s_a1 (s_aload_n d_Sh_add_114 rfl) (s_a1 (s_aload_n d_Sh_add_115 rfl) s_a0)) (s_ecv (ve_Sh_change (by decide) (by decide)) dc_Sh_change (by decide) lm_Sh_185 pd_Sh_change d_Sh_add_116)))))))) (t_retv rfl d_Sh_add_119))
def f_Sh_add : jx_Mt := jx_fn 3 4 (bd_Sh_add fun _ _ => none)
theorem me_Sh_add : jx_Me 3 z_Sh_add f_Sh_add := jx_Me.ofT (by decide) m_Sh_add
theorem mw_Sh_add : jx_mw ⟨"ExtentShelf", "add", "(II)V"⟩ z_Sh_add := ⟨rfl, rfl, by decide +kernel, ⟨by decide, by decide⟩, by decide +kernel⟩
theorem pd_Sh_add : (parseMethodDescriptor (⟨"ExtentShelf", "add", "(II)V"⟩ : MethodName).desc).map (fun d => d.parameters.length) = some 2 := by decide +kernel
/-! ExtentShelf$Table.legsOn(I)I -/
abbrev z_Tb_legsOn : jx_Z := ("ExtentShelf$Table", "legsOn", prog_7_method_6_code, 4, some .int, 1, 35)
theorem d_Tb_legsOn_0 : decode z_Tb_legsOn.2.2.1 0 = .ok (.iconst 0, 1) := by decide +kernel
theorem d_Tb_legsOn_1 : decode z_Tb_legsOn.2.2.1 1 = .ok (.istore_n 2, 1) := by decide +kernel
theorem d_Tb_legsOn_2 : decode z_Tb_legsOn.2.2.1 2 = .ok (.iconst 0, 1) := by decide +kernel
theorem d_Tb_legsOn_3 : decode z_Tb_legsOn.2.2.1 3 = .ok (.istore_n 3, 1) := by decide +kernel
theorem d_Tb_legsOn_4 : decode z_Tb_legsOn.2.2.1 4 = .ok (.iload_n 3, 1) := by decide +kernel
theorem d_Tb_legsOn_5 : decode z_Tb_legsOn.2.2.1 5 = .ok (.bipush 8, 2) := by decide +kernel
theorem d_Tb_legsOn_7 : decode z_Tb_legsOn.2.2.1 7 = .ok (.if_icmp .ge 32, 3) := by decide +kernel
theorem d_Tb_legsOn_10 : decode z_Tb_legsOn.2.2.1 10 = .ok (.iload_n 2, 1) := by decide +kernel
theorem d_Tb_legsOn_11 : decode z_Tb_legsOn.2.2.1 11 = .ok (.aload_n 0, 1) := by decide +kernel
theorem d_Tb_legsOn_12 : decode z_Tb_legsOn.2.2.1 12 = .ok (.iconst 1, 1) := by decide +kernel
theorem d_Tb_legsOn_13 : decode z_Tb_legsOn.2.2.1 13 = .ok (.bipush 8, 2) := by decide +kernel
theorem d_Tb_legsOn_15 : decode z_Tb_legsOn.2.2.1 15 = .ok (.iload_n 1, 1) := by decide +kernel
theorem d_Tb_legsOn_16 : decode z_Tb_legsOn.2.2.1 16 = .ok (.imul, 1) := by decide +kernel
theorem d_Tb_legsOn_17 : decode z_Tb_legsOn.2.2.1 17 = .ok (.iadd, 1) := by decide +kernel
theorem d_Tb_legsOn_18 : decode z_Tb_legsOn.2.2.1 18 = .ok (.iload_n 3, 1) := by decide +kernel
theorem d_Tb_legsOn_19 : decode z_Tb_legsOn.2.2.1 19 = .ok (.iadd, 1) := by decide +kernel
theorem d_Tb_legsOn_20 : decode z_Tb_legsOn.2.2.1 20 = .ok (.invokevirtual 58, 3) := by decide +kernel
theorem d_Tb_legsOn_23 : decode z_Tb_legsOn.2.2.1 23 = .ok (.ifCond .eq 7, 3) := by decide +kernel
theorem d_Tb_legsOn_26 : decode z_Tb_legsOn.2.2.1 26 = .ok (.iconst 1, 1) := by decide +kernel
theorem d_Tb_legsOn_27 : decode z_Tb_legsOn.2.2.1 27 = .ok (.goto 4, 3) := by decide +kernel
theorem d_Tb_legsOn_30 : decode z_Tb_legsOn.2.2.1 30 = .ok (.iconst 0, 1) := by decide +kernel
theorem d_Tb_legsOn_31 : decode z_Tb_legsOn.2.2.1 31 = .ok (.iadd, 1) := by decide +kernel
theorem d_Tb_legsOn_32 : decode z_Tb_legsOn.2.2.1 32 = .ok (.istore_n 2, 1) := by decide +kernel
theorem d_Tb_legsOn_33 : decode z_Tb_legsOn.2.2.1 33 = .ok (.iinc 3 1, 3) := by decide +kernel
theorem d_Tb_legsOn_36 : decode z_Tb_legsOn.2.2.1 36 = .ok (.goto (-32), 3) := by decide +kernel
theorem d_Tb_legsOn_39 : decode z_Tb_legsOn.2.2.1 39 = .ok (.iload_n 2, 1) := by decide +kernel
theorem d_Tb_legsOn_40 : decode z_Tb_legsOn.2.2.1 40 = .ok (.ireturn, 1) := by decide +kernel
def lc_Tb_legsOn_0 : jx_Cx := (cCmp rLt (eI 3) (eInt (nI 8)))
def lb_Tb_legsOn_0 : jx_St := (sSeq (sAsg 0 2 (eBin oAdd (eI 2) (eIte (cCmp0 rNe (eCl (jx_ev tb_Tb_holds) [(eA 0), (eBin oAdd (eBin oAdd (eInt (nI 1)) (eBin oMul (eInt (nI 8)) (eI 1))) (eI 3))])) (eInt (nI 1)) (eInt (nI 0))))) (sInc 3 (nI 1)))
theorem ml_Tb_legsOn_0 : jx_Ts z_Tb_legsOn 4 (sWh 64 lc_Tb_legsOn_0 lb_Tb_legsOn_0) [39] := by
  unfold lc_Tb_legsOn_0 lb_Tb_legsOn_0
  exact t_wh (EA := [36]) (Fs := [39]) (E := [39]) 64 (s_cmp (s_iload_n d_Tb_legsOn_4 rfl) (s_bipush d_Tb_legsOn_5 (by decide)) (s_icmp_geF (tgt := 39) d_Tb_legsOn_7 (by decide))) (by decide) (t_seq (t_asg (s_bin (s_iload_n d_Tb_legsOn_10 rfl) (s_ite (q4 := 31) (s_cmp0 (s_cl (s_a1 (s_aload_n d_Tb_legsOn_11 rfl) (s_a1 (s_bin (s_bin (s_iconst d_Tb_legsOn_12 (by decide)) (s_bin (s_bipush d_Tb_legsOn_13 (by decide)) (s_iload_n d_Tb_legsOn_15 rfl) (s_imul d_Tb_legsOn_16)) (s_iadd d_Tb_legsOn_17)) (s_iload_n d_Tb_legsOn_18 rfl) (s_iadd d_Tb_legsOn_19)) s_a0)) (s_ecv (ve_Tb_holds (by decide) (by decide)) dc_Tb_holds (by decide) lm_Tb_58 pd_Tb_holds d_Tb_legsOn_20)) (s_if_eqF (tgt := 30) d_Tb_legsOn_23 (by decide))) (s_iconst d_Tb_legsOn_26 (by decide)) d_Tb_legsOn_27 (by decide) (s_iconst d_Tb_legsOn_30 (by decide))) (s_iadd d_Tb_legsOn_31)) (fun v k h => b_istore_n d_Tb_legsOn_32 rfl (by decide) h)) (t_iinc d_Tb_legsOn_33 (by decide) (by decide))) (al_1 (Or.inr ⟨-32, d_Tb_legsOn_36, by decide⟩)) (by decide)
def bd_Tb_legsOn : jx_St := (sSeq (sAsg 0 2 (eInt (nI 0))) (sSeq (sSeq (sAsg 0 3 (eInt (nI 0))) (sWh 64 lc_Tb_legsOn_0 lb_Tb_legsOn_0)) (sRet 0 (eI 2))))
theorem m_Tb_legsOn : jx_Ts z_Tb_legsOn 0 bd_Tb_legsOn [] := by
  unfold bd_Tb_legsOn
  exact (t_seq (t_asg (s_iconst d_Tb_legsOn_0 (by decide)) (fun v k h => b_istore_n d_Tb_legsOn_1 rfl (by decide) h)) (t_seq (t_seq (t_asg (s_iconst d_Tb_legsOn_2 (by decide)) (fun v k h => b_istore_n d_Tb_legsOn_3 rfl (by decide) h)) ml_Tb_legsOn_0) (t_ret .int (s_iload_n d_Tb_legsOn_39 rfl) rfl (by decide) d_Tb_legsOn_40)))
def f_Tb_legsOn : jx_Mt := jx_fn 2 4 (bd_Tb_legsOn fun _ _ => none)
theorem me_Tb_legsOn : jx_Me 2 z_Tb_legsOn f_Tb_legsOn := jx_Me.ofT (by decide) m_Tb_legsOn
theorem mw_Tb_legsOn : jx_mw ⟨"ExtentShelf$Table", "legsOn", "(I)I"⟩ z_Tb_legsOn := ⟨rfl, rfl, by decide +kernel, ⟨by decide, by decide⟩, by decide +kernel⟩
theorem pd_Tb_legsOn : (parseMethodDescriptor (⟨"ExtentShelf$Table", "legsOn", "(I)I"⟩ : MethodName).desc).map (fun d => d.parameters.length) = some 1 := by decide +kernel
abbrev tb_Tb_legsOn : List (Nat × jx_Mt) := [(3, f_Tb_legsOn)]
theorem ve_Tb_legsOn {fr lo : Nat} (h1 : 2 ≤ fr) (h2 : 66 ≤ lo) : ∀ q ∈ tb_Tb_legsOn, jx_ve ⟨"ExtentShelf$Table", "legsOn", "(I)I"⟩ 1 fr lo q.1 q.2 := tv_1 ⟨R_Table, F_Table, 3, ⟨"ExtentShelf$Table", "legsOn", "(I)I"⟩, z_Tb_legsOn, rfl, by decide +kernel, mw_Tb_legsOn, by decide +kernel, me_Tb_legsOn, Nat.le_trans (by decide) h1, Nat.le_trans (by decide) h2⟩
theorem dc_Tb_legsOn : jx_dc ⟨"ExtentShelf$Table", "legsOn", "(I)I"⟩ := ⟨⟨by decide, by decide⟩, Or.inr ⟨by decide +kernel, prog_7_method_6_code, 4, _, (by decide +kernel : Cond.code ⟨"ExtentShelf$Table", "legsOn", "(I)I"⟩ prog_7_method_6_code 4 (some .int) ∈ jx_tbl)⟩, "ExtentShelf$Table", ⟨"ExtentShelf$Table", "copy", "()LExtentShelf$Table;"⟩, ⟨"ExtentShelf$Table", "copy", "()LExtentShelf$Table;"⟩, by decide +kernel, rfl⟩
/-! ExtentShelf.remove(I)V -/
abbrev z_Sh_remove : jx_Z := ("ExtentShelf", "remove", prog_1_method_21_code, 5, none, 8, 166)
theorem d_Sh_remove_0 : decode z_Sh_remove.2.2.1 0 = .ok (.aload_n 0, 1) := by decide +kernel
theorem d_Sh_remove_1 : decode z_Sh_remove.2.2.1 1 = .ok (.invokevirtual 172, 3) := by decide +kernel
theorem d_Sh_remove_4 : decode z_Sh_remove.2.2.1 4 = .ok (.iload_n 1, 1) := by decide +kernel
theorem d_Sh_remove_5 : decode z_Sh_remove.2.2.1 5 = .ok (.invokestatic 175, 3) := by decide +kernel
theorem d_Sh_remove_8 : decode z_Sh_remove.2.2.1 8 = .ok (.invokestatic 178, 3) := by decide +kernel
theorem d_Sh_remove_11 : decode z_Sh_remove.2.2.1 11 = .ok (.iconst 0, 1) := by decide +kernel
theorem d_Sh_remove_12 : decode z_Sh_remove.2.2.1 12 = .ok (.istore_n 2, 1) := by decide +kernel
theorem d_Sh_remove_13 : decode z_Sh_remove.2.2.1 13 = .ok (.iconst 0, 1) := by decide +kernel
theorem d_Sh_remove_14 : decode z_Sh_remove.2.2.1 14 = .ok (.istore_n 3, 1) := by decide +kernel
theorem d_Sh_remove_15 : decode z_Sh_remove.2.2.1 15 = .ok (.iload_n 3, 1) := by decide +kernel
theorem d_Sh_remove_16 : decode z_Sh_remove.2.2.1 16 = .ok (.iconst 4, 1) := by decide +kernel
theorem d_Sh_remove_17 : decode z_Sh_remove.2.2.1 17 = .ok (.if_icmp .ge 30, 3) := by decide +kernel
theorem d_Sh_remove_20 : decode z_Sh_remove.2.2.1 20 = .ok (.iload_n 2, 1) := by decide +kernel
theorem d_Sh_remove_21 : decode z_Sh_remove.2.2.1 21 = .ok (.iload_n 3, 1) := by decide +kernel
theorem d_Sh_remove_22 : decode z_Sh_remove.2.2.1 22 = .ok (.iload_n 1, 1) := by decide +kernel
theorem d_Sh_remove_23 : decode z_Sh_remove.2.2.1 23 = .ok (.if_icmp .eq 15, 3) := by decide +kernel
theorem d_Sh_remove_26 : decode z_Sh_remove.2.2.1 26 = .ok (.aload_n 0, 1) := by decide +kernel
theorem d_Sh_remove_27 : decode z_Sh_remove.2.2.1 27 = .ok (.iload_n 3, 1) := by decide +kernel
theorem d_Sh_remove_28 : decode z_Sh_remove.2.2.1 28 = .ok (.invokevirtual 64, 3) := by decide +kernel
theorem d_Sh_remove_31 : decode z_Sh_remove.2.2.1 31 = .ok (.ifCond .eq 7, 3) := by decide +kernel
theorem d_Sh_remove_34 : decode z_Sh_remove.2.2.1 34 = .ok (.iconst 1, 1) := by decide +kernel
theorem d_Sh_remove_35 : decode z_Sh_remove.2.2.1 35 = .ok (.goto 4, 3) := by decide +kernel
theorem d_Sh_remove_38 : decode z_Sh_remove.2.2.1 38 = .ok (.iconst 0, 1) := by decide +kernel
theorem d_Sh_remove_39 : decode z_Sh_remove.2.2.1 39 = .ok (.iadd, 1) := by decide +kernel
theorem d_Sh_remove_40 : decode z_Sh_remove.2.2.1 40 = .ok (.istore_n 2, 1) := by decide +kernel
theorem d_Sh_remove_41 : decode z_Sh_remove.2.2.1 41 = .ok (.iinc 3 1, 3) := by decide +kernel
theorem d_Sh_remove_44 : decode z_Sh_remove.2.2.1 44 = .ok (.goto (-29), 3) := by decide +kernel
theorem d_Sh_remove_47 : decode z_Sh_remove.2.2.1 47 = .ok (.aload_n 0, 1) := by decide +kernel
theorem d_Sh_remove_48 : decode z_Sh_remove.2.2.1 48 = .ok (.getfield 108, 3) := by decide +kernel
theorem d_Sh_remove_51 : decode z_Sh_remove.2.2.1 51 = .ok (.ifnull 31, 3) := by decide +kernel
theorem d_Sh_remove_54 : decode z_Sh_remove.2.2.1 54 = .ok (.aload_n 0, 1) := by decide +kernel
theorem d_Sh_remove_55 : decode z_Sh_remove.2.2.1 55 = .ok (.getfield 108, 3) := by decide +kernel
theorem d_Sh_remove_58 : decode z_Sh_remove.2.2.1 58 = .ok (.getfield 112, 3) := by decide +kernel
theorem d_Sh_remove_61 : decode z_Sh_remove.2.2.1 61 = .ok (.ifCond .eq 21, 3) := by decide +kernel
theorem d_Sh_remove_64 : decode z_Sh_remove.2.2.1 64 = .ok (.aload_n 0, 1) := by decide +kernel
theorem d_Sh_remove_65 : decode z_Sh_remove.2.2.1 65 = .ok (.getfield 108, 3) := by decide +kernel
theorem d_Sh_remove_68 : decode z_Sh_remove.2.2.1 68 = .ok (.getfield 112, 3) := by decide +kernel
theorem d_Sh_remove_71 : decode z_Sh_remove.2.2.1 71 = .ok (.invokestatic 78, 3) := by decide +kernel
theorem d_Sh_remove_74 : decode z_Sh_remove.2.2.1 74 = .ok (.iload_n 1, 1) := by decide +kernel
theorem d_Sh_remove_75 : decode z_Sh_remove.2.2.1 75 = .ok (.if_icmp .ne 7, 3) := by decide +kernel
theorem d_Sh_remove_78 : decode z_Sh_remove.2.2.1 78 = .ok (.iconst 1, 1) := by decide +kernel
theorem d_Sh_remove_79 : decode z_Sh_remove.2.2.1 79 = .ok (.goto 4, 3) := by decide +kernel
theorem d_Sh_remove_82 : decode z_Sh_remove.2.2.1 82 = .ok (.iconst 0, 1) := by decide +kernel
theorem d_Sh_remove_83 : decode z_Sh_remove.2.2.1 83 = .ok (.istore_n 3, 1) := by decide +kernel
theorem d_Sh_remove_84 : decode z_Sh_remove.2.2.1 84 = .ok (.aload_n 0, 1) := by decide +kernel
theorem d_Sh_remove_85 : decode z_Sh_remove.2.2.1 85 = .ok (.iload_n 1, 1) := by decide +kernel
theorem d_Sh_remove_86 : decode z_Sh_remove.2.2.1 86 = .ok (.invokevirtual 64, 3) := by decide +kernel
theorem d_Sh_remove_89 : decode z_Sh_remove.2.2.1 89 = .ok (.ifCond .eq 33, 3) := by decide +kernel
theorem d_Sh_remove_92 : decode z_Sh_remove.2.2.1 92 = .ok (.aload_n 0, 1) := by decide +kernel
theorem d_Sh_remove_93 : decode z_Sh_remove.2.2.1 93 = .ok (.getfield 28, 3) := by decide +kernel
theorem d_Sh_remove_96 : decode z_Sh_remove.2.2.1 96 = .ok (.iload_n 1, 1) := by decide +kernel
theorem d_Sh_remove_97 : decode z_Sh_remove.2.2.1 97 = .ok (.invokevirtual 189, 3) := by decide +kernel
theorem d_Sh_remove_100 : decode z_Sh_remove.2.2.1 100 = .ok (.ifCond .ne 22, 3) := by decide +kernel
theorem d_Sh_remove_103 : decode z_Sh_remove.2.2.1 103 = .ok (.iload_n 3, 1) := by decide +kernel
theorem d_Sh_remove_104 : decode z_Sh_remove.2.2.1 104 = .ok (.ifCond .ne 18, 3) := by decide +kernel
theorem d_Sh_remove_107 : decode z_Sh_remove.2.2.1 107 = .ok (.iload_n 2, 1) := by decide +kernel
theorem d_Sh_remove_108 : decode z_Sh_remove.2.2.1 108 = .ok (.ifCond .le 14, 3) := by decide +kernel
theorem d_Sh_remove_111 : decode z_Sh_remove.2.2.1 111 = .ok (.aload_n 0, 1) := by decide +kernel
theorem d_Sh_remove_112 : decode z_Sh_remove.2.2.1 112 = .ok (.invokevirtual 93, 3) := by decide +kernel
theorem d_Sh_remove_115 : decode z_Sh_remove.2.2.1 115 = .ok (.ifCond .ne 7, 3) := by decide +kernel
theorem d_Sh_remove_118 : decode z_Sh_remove.2.2.1 118 = .ok (.iconst 1, 1) := by decide +kernel
theorem d_Sh_remove_119 : decode z_Sh_remove.2.2.1 119 = .ok (.goto 4, 3) := by decide +kernel
theorem d_Sh_remove_122 : decode z_Sh_remove.2.2.1 122 = .ok (.iconst 0, 1) := by decide +kernel
theorem d_Sh_remove_123 : decode z_Sh_remove.2.2.1 123 = .ok (.invokestatic 164, 3) := by decide +kernel
theorem d_Sh_remove_126 : decode z_Sh_remove.2.2.1 126 = .ok (.aload_n 0, 1) := by decide +kernel
theorem d_Sh_remove_127 : decode z_Sh_remove.2.2.1 127 = .ok (.getfield 28, 3) := by decide +kernel
theorem d_Sh_remove_130 : decode z_Sh_remove.2.2.1 130 = .ok (.invokevirtual 181, 3) := by decide +kernel
theorem d_Sh_remove_133 : decode z_Sh_remove.2.2.1 133 = .ok (.astore 4, 2) := by decide +kernel
theorem d_Sh_remove_135 : decode z_Sh_remove.2.2.1 135 = .ok (.aload 4, 2) := by decide +kernel
theorem d_Sh_remove_137 : decode z_Sh_remove.2.2.1 137 = .ok (.getfield 57, 3) := by decide +kernel
theorem d_Sh_remove_140 : decode z_Sh_remove.2.2.1 140 = .ok (.iload_n 1, 1) := by decide +kernel
theorem d_Sh_remove_141 : decode z_Sh_remove.2.2.1 141 = .ok (.iconst 0, 1) := by decide +kernel
theorem d_Sh_remove_142 : decode z_Sh_remove.2.2.1 142 = .ok (.iastore, 1) := by decide +kernel
theorem d_Sh_remove_143 : decode z_Sh_remove.2.2.1 143 = .ok (.aload_n 0, 1) := by decide +kernel
theorem d_Sh_remove_144 : decode z_Sh_remove.2.2.1 144 = .ok (.aload 4, 2) := by decide +kernel
theorem d_Sh_remove_146 : decode z_Sh_remove.2.2.1 146 = .ok (.invokevirtual 185, 3) := by decide +kernel
theorem d_Sh_remove_149 : decode z_Sh_remove.2.2.1 149 = .ok (.aload_n 0, 1) := by decide +kernel
theorem d_Sh_remove_150 : decode z_Sh_remove.2.2.1 150 = .ok (.getfield 108, 3) := by decide +kernel
theorem d_Sh_remove_153 : decode z_Sh_remove.2.2.1 153 = .ok (.ifnull 19, 3) := by decide +kernel
theorem d_Sh_remove_156 : decode z_Sh_remove.2.2.1 156 = .ok (.aload_n 0, 1) := by decide +kernel
theorem d_Sh_remove_157 : decode z_Sh_remove.2.2.1 157 = .ok (.getfield 108, 3) := by decide +kernel
theorem d_Sh_remove_160 : decode z_Sh_remove.2.2.1 160 = .ok (.getfield 192, 3) := by decide +kernel
theorem d_Sh_remove_163 : decode z_Sh_remove.2.2.1 163 = .ok (.iload_n 1, 1) := by decide +kernel
theorem d_Sh_remove_164 : decode z_Sh_remove.2.2.1 164 = .ok (.if_icmp .ne 8, 3) := by decide +kernel
theorem d_Sh_remove_167 : decode z_Sh_remove.2.2.1 167 = .ok (.aload_n 0, 1) := by decide +kernel
theorem d_Sh_remove_168 : decode z_Sh_remove.2.2.1 168 = .ok (.aconst_null, 1) := by decide +kernel
theorem d_Sh_remove_169 : decode z_Sh_remove.2.2.1 169 = .ok (.putfield 108, 3) := by decide +kernel
theorem d_Sh_remove_172 : decode z_Sh_remove.2.2.1 172 = .ok (.return_, 1) := by decide +kernel
def lc_Sh_remove_0 : jx_Cx := (cCmp rLt (eI 3) (eInt (nI 4)))
def lb_Sh_remove_0 : jx_St := (sSeq (sAsg 0 2 (eBin oAdd (eI 2) (eIte (cAnd (cCmp rNe (eI 3) (eI 1)) (cCmp0 rNe (eCl (jx_ev tb_Sh_isListed) [(eA 0), (eI 3)]))) (eInt (nI 1)) (eInt (nI 0))))) (sInc 3 (nI 1)))
theorem ml_Sh_remove_0 : jx_Ts z_Sh_remove 15 (sWh 64 lc_Sh_remove_0 lb_Sh_remove_0) [47] := by
  unfold lc_Sh_remove_0 lb_Sh_remove_0
  exact t_wh (EA := [44]) (Fs := [47]) (E := [47]) 64 (s_cmp (s_iload_n d_Sh_remove_15 rfl) (s_iconst d_Sh_remove_16 (by decide)) (s_icmp_geF (tgt := 47) d_Sh_remove_17 (by decide))) (by decide) (t_seq (t_asg (s_bin (s_iload_n d_Sh_remove_20 rfl) (s_ite (q4 := 39) (s_andg (s_cmp (s_iload_n d_Sh_remove_21 rfl) (s_iload_n d_Sh_remove_22 rfl) (s_icmp_eqF (tgt := 38) d_Sh_remove_23 (by decide))) (by decide) (al_1 (s_cmp0 (s_cl (s_a1 (s_aload_n d_Sh_remove_26 rfl) (s_a1 (s_iload_n d_Sh_remove_27 rfl) s_a0)) (s_ecv (ve_Sh_isListed (by decide) (by decide)) dc_Sh_isListed (by decide) lm_Sh_64 pd_Sh_isListed d_Sh_remove_28)) (s_if_eqF (tgt := 38) d_Sh_remove_31 (by decide))))) (s_iconst d_Sh_remove_34 (by decide)) d_Sh_remove_35 (by decide) (s_iconst d_Sh_remove_38 (by decide))) (s_iadd d_Sh_remove_39)) (fun v k h => b_istore_n d_Sh_remove_40 rfl (by decide) h)) (t_iinc d_Sh_remove_41 (by decide) (by decide))) (al_1 (Or.inr ⟨-29, d_Sh_remove_44, by decide⟩)) (by decide)
def bd_Sh_remove : jx_St := (sSeq (sSeq (sCl (jx_ev tb_Sh_needOn) [(eA 0)]) (sSeq (sCl (jx_ec f_Sh_need) [(eCl (jx_ec f_Sh_isDisk) [(eI 1)])]) (sSeq (sAsg 0 2 (eInt (nI 0))) (sSeq (sSeq (sAsg 0 3 (eInt (nI 0))) (sWh 64 lc_Sh_remove_0 lb_Sh_remove_0)) (sSeq (sAsg 0 3 (eIte (cAnd (cAnd (cNot (cNull (eGf [0] 3 (eA 0)))) (cCmp0 rNe (eGf [4] 4 (eGf [0] 3 (eA 0))))) (cCmp rEq (eCl (jx_ec f_Sh_diskOf) [(eGf [4] 4 (eGf [0] 3 (eA 0)))]) (eI 1))) (eInt (nI 1)) (eInt (nI 0)))) (sSeq (sCl (jx_ec f_Sh_allow) [(eIte (cAnd (cAnd (cAnd (cAnd (cCmp0 rNe (eCl (jx_ev tb_Sh_isListed) [(eA 0), (eI 1)])) (cCmp0 rEq (eCl (jx_ev tb_Tb_legsOn) [(eGf [0] 2 (eA 0)), (eI 1)]))) (cNot (cCmp0 rNe (eI 3)))) (cCmp0 rGt (eI 2))) (cNot (cCmp0 rNe (eCl (jx_ev tb_Sh_isOneAbsent) [(eA 0)])))) (eInt (nI 1)) (eInt (nI 0)))]) (sSeq (sAsg 2 4 (eCl (jx_ev tb_Tb_copy) [(eGf [0] 2 (eA 0))])) (sSeq (sSt 0 0 (eGf [3] 1 (eA 4)) (eI 1) (eInt (nI 0))) (sSeq (sCl (jx_ev tb_Sh_change) [(eA 0), (eA 4)]) (sIf (cAnd (cNot (cNull (eGf [0] 3 (eA 0)))) (cCmp rEq (eGf [4] 0 (eGf [0] 3 (eA 0))) (eI 1))) (sPf [0] 3 2 (eA 0) eNull) sSkip)))))))))) sRetV)
theorem m_Sh_remove : jx_Ts z_Sh_remove 0 bd_Sh_remove [] := by
  unfold bd_Sh_remove
  exact (t_seq (t_seq (t_cl (s_a1 (s_aload_n d_Sh_remove_0 rfl) s_a0) (s_ecv (ve_Sh_needOn (by decide) (by decide)) dc_Sh_needOn (by decide) lm_Sh_172 pd_Sh_needOn d_Sh_remove_1)) (t_seq (t_cl (s_a1 (s_cl (s_a1 (s_iload_n d_Sh_remove_4 rfl) s_a0) (s_ecs me_Sh_isDisk mw_Sh_isDisk (by decide) (by decide) (by decide) lm_Sh_175 w_st_Sh_isDisk w_in_Sh pd_Sh_isDisk d_Sh_remove_5)) s_a0) (s_ecs me_Sh_need mw_Sh_need (by decide) (by decide) (by decide) lm_Sh_178 w_st_Sh_need w_in_Sh pd_Sh_need d_Sh_remove_8)) (t_seq (t_asg (s_iconst d_Sh_remove_11 (by decide)) (fun v k h => b_istore_n d_Sh_remove_12 rfl (by decide) h)) (t_seq (t_seq (t_asg (s_iconst d_Sh_remove_13 (by decide)) (fun v k h => b_istore_n d_Sh_remove_14 rfl (by decide) h)) ml_Sh_remove_0) (t_seq (t_asg (s_ite (q4 := 83) (s_andg (s_andg (s_not (s_nul (s_getf (s_aload_n d_Sh_remove_47 rfl) fi_Sh_108 d_Sh_remove_48) (s_ifnull (tgt := 82) d_Sh_remove_51 (by decide))) (by decide)) (by decide) (al_1 (s_cmp0 (s_getf (s_getf (s_aload_n d_Sh_remove_54 rfl) fi_Sh_108 d_Sh_remove_55) fi_Sh_112 d_Sh_remove_58) (s_if_eqF (tgt := 82) d_Sh_remove_61 (by decide))))) (by decide) (al_1 (s_cmp (s_cl (s_a1 (s_getf (s_getf (s_aload_n d_Sh_remove_64 rfl) fi_Sh_108 d_Sh_remove_65) fi_Sh_112 d_Sh_remove_68) s_a0) (s_ecs me_Sh_diskOf mw_Sh_diskOf (by decide) (by decide) (by decide) lm_Sh_78 w_st_Sh_diskOf w_in_Sh pd_Sh_diskOf d_Sh_remove_71)) (s_iload_n d_Sh_remove_74 rfl) (s_icmp_neF (tgt := 82) d_Sh_remove_75 (by decide))))) (s_iconst d_Sh_remove_78 (by decide)) d_Sh_remove_79 (by decide) (s_iconst d_Sh_remove_82 (by decide))) (fun v k h => b_istore_n d_Sh_remove_83 rfl (by decide) h)) (t_seq (t_cl (s_a1 (s_ite (q4 := 123) (s_andg (s_andg (s_andg (s_andg (s_cmp0 (s_cl (s_a1 (s_aload_n d_Sh_remove_84 rfl) (s_a1 (s_iload_n d_Sh_remove_85 rfl) s_a0)) (s_ecv (ve_Sh_isListed (by decide) (by decide)) dc_Sh_isListed (by decide) lm_Sh_64 pd_Sh_isListed d_Sh_remove_86)) (s_if_eqF (tgt := 122) d_Sh_remove_89 (by decide))) (by decide) (al_1 (s_cmp0 (s_cl (s_a1 (s_getf (s_aload_n d_Sh_remove_92 rfl) fi_Sh_28 d_Sh_remove_93) (s_a1 (s_iload_n d_Sh_remove_96 rfl) s_a0)) (s_ecv (ve_Tb_legsOn (by decide) (by decide)) dc_Tb_legsOn (by decide) lm_Sh_189 pd_Tb_legsOn d_Sh_remove_97)) (s_if_neF (tgt := 122) d_Sh_remove_100 (by decide))))) (by decide) (al_1 (s_not (s_cmp0 (s_iload_n d_Sh_remove_103 rfl) (s_if_neT (tgt := 122) d_Sh_remove_104 (by decide))) (by decide)))) (by decide) (al_1 (s_cmp0 (s_iload_n d_Sh_remove_107 rfl) (s_if_leF (tgt := 122) d_Sh_remove_108 (by decide))))) (by decide) (al_1 (s_not (s_cmp0 (s_cl (s_a1 (s_aload_n d_Sh_remove_111 rfl) s_a0) (s_ecv (ve_Sh_isOneAbsent (by decide) (by decide)) dc_Sh_isOneAbsent (by decide) lm_Sh_93 pd_Sh_isOneAbsent d_Sh_remove_112)) (s_if_neT (tgt := 122) d_Sh_remove_115 (by decide))) (by decide)))) (s_iconst d_Sh_remove_118 (by decide)) d_Sh_remove_119 (by decide) (s_iconst d_Sh_remove_122 (by decide))) s_a0) (s_ecs me_Sh_allow mw_Sh_allow (by decide) (by decide) (by decide) lm_Sh_164 w_st_Sh_allow w_in_Sh pd_Sh_allow d_Sh_remove_123)) (t_seq (t_asg (s_cl (s_a1 (s_getf (s_aload_n d_Sh_remove_126 rfl) fi_Sh_28 d_Sh_remove_127) s_a0) (s_ecv (ve_Tb_copy (by decide) (by decide)) dc_Tb_copy (by decide) lm_Sh_181 pd_Tb_copy d_Sh_remove_130)) (fun v k h => b_astore d_Sh_remove_133 (by decide) h)) (t_seq (t_st (s_getf (s_aload d_Sh_remove_135) fi_Sh_57 d_Sh_remove_137) (s_iload_n d_Sh_remove_140 rfl) (s_iconst d_Sh_remove_141 (by decide)) (s_iast d_Sh_remove_142)) (t_seq (t_cl (s_a1 (s_aload_n d_Sh_remove_143 rfl) (s_a1 (s_aload d_Sh_remove_144) s_a0)) (s_ecv (ve_Sh_change (by decide) (by decide)) dc_Sh_change (by decide) lm_Sh_185 pd_Sh_change d_Sh_remove_146)) (t_if1 (Fs := [172]) (E := [172]) (s_andg (s_not (s_nul (s_getf (s_aload_n d_Sh_remove_149 rfl) fi_Sh_108 d_Sh_remove_150) (s_ifnull (tgt := 172) d_Sh_remove_153 (by decide))) (by decide)) (by decide) (al_1 (s_cmp (s_getf (s_getf (s_aload_n d_Sh_remove_156 rfl) fi_Sh_108 d_Sh_remove_157) fi_Sh_192 d_Sh_remove_160) (s_iload_n d_Sh_remove_163 rfl) (s_icmp_neF (tgt := 172) d_Sh_remove_164 (by decide))))) (by decide) (t_sub (E := [172]) (E' := [172]) (t_pf (s_aload_n d_Sh_remove_167 rfl) (s_null d_Sh_remove_168) fi_Sh_108 rfl (Or.inl rfl) d_Sh_remove_169) (by decide)) (by decide))))))))))) (t_retv rfl d_Sh_remove_172))
def f_Sh_remove : jx_Mt := jx_fn 2 5 (bd_Sh_remove fun _ _ => none)
theorem me_Sh_remove : jx_Me 2 z_Sh_remove f_Sh_remove := jx_Me.ofT (by decide) m_Sh_remove
theorem mw_Sh_remove : jx_mw ⟨"ExtentShelf", "remove", "(I)V"⟩ z_Sh_remove := ⟨rfl, rfl, by decide +kernel, ⟨by decide, by decide⟩, by decide +kernel⟩
theorem pd_Sh_remove : (parseMethodDescriptor (⟨"ExtentShelf", "remove", "(I)V"⟩ : MethodName).desc).map (fun d => d.parameters.length) = some 1 := by decide +kernel
/-! ExtentShelf.drop(I)I -/
abbrev z_Sh_drop : jx_Z := ("ExtentShelf", "drop", prog_1_method_22_code, 10, some .int, 8, 166)
theorem d_Sh_drop_0 : decode z_Sh_drop.2.2.1 0 = .ok (.aload_n 0, 1) := by decide +kernel
theorem d_Sh_drop_1 : decode z_Sh_drop.2.2.1 1 = .ok (.invokevirtual 172, 3) := by decide +kernel
theorem d_Sh_drop_4 : decode z_Sh_drop.2.2.1 4 = .ok (.iload_n 1, 1) := by decide +kernel
theorem d_Sh_drop_5 : decode z_Sh_drop.2.2.1 5 = .ok (.invokestatic 175, 3) := by decide +kernel
theorem d_Sh_drop_8 : decode z_Sh_drop.2.2.1 8 = .ok (.invokestatic 178, 3) := by decide +kernel
theorem d_Sh_drop_11 : decode z_Sh_drop.2.2.1 11 = .ok (.iconst 0, 1) := by decide +kernel
theorem d_Sh_drop_12 : decode z_Sh_drop.2.2.1 12 = .ok (.istore_n 2, 1) := by decide +kernel
theorem d_Sh_drop_13 : decode z_Sh_drop.2.2.1 13 = .ok (.aload_n 0, 1) := by decide +kernel
theorem d_Sh_drop_14 : decode z_Sh_drop.2.2.1 14 = .ok (.getfield 12, 3) := by decide +kernel
theorem d_Sh_drop_17 : decode z_Sh_drop.2.2.1 17 = .ok (.astore_n 3, 1) := by decide +kernel
theorem d_Sh_drop_18 : decode z_Sh_drop.2.2.1 18 = .ok (.aload_n 3, 1) := by decide +kernel
theorem d_Sh_drop_19 : decode z_Sh_drop.2.2.1 19 = .ok (.arraylength, 1) := by decide +kernel
theorem d_Sh_drop_20 : decode z_Sh_drop.2.2.1 20 = .ok (.istore 4, 2) := by decide +kernel
theorem d_Sh_drop_22 : decode z_Sh_drop.2.2.1 22 = .ok (.iconst 0, 1) := by decide +kernel
theorem d_Sh_drop_23 : decode z_Sh_drop.2.2.1 23 = .ok (.istore 5, 2) := by decide +kernel
theorem d_Sh_drop_25 : decode z_Sh_drop.2.2.1 25 = .ok (.iload 5, 2) := by decide +kernel
theorem d_Sh_drop_27 : decode z_Sh_drop.2.2.1 27 = .ok (.iload 4, 2) := by decide +kernel
theorem d_Sh_drop_29 : decode z_Sh_drop.2.2.1 29 = .ok (.if_icmp .ge 45, 3) := by decide +kernel
theorem d_Sh_drop_32 : decode z_Sh_drop.2.2.1 32 = .ok (.aload_n 3, 1) := by decide +kernel
theorem d_Sh_drop_33 : decode z_Sh_drop.2.2.1 33 = .ok (.iload 5, 2) := by decide +kernel
theorem d_Sh_drop_35 : decode z_Sh_drop.2.2.1 35 = .ok (.aaload, 1) := by decide +kernel
theorem d_Sh_drop_36 : decode z_Sh_drop.2.2.1 36 = .ok (.astore 6, 2) := by decide +kernel
theorem d_Sh_drop_38 : decode z_Sh_drop.2.2.1 38 = .ok (.iload_n 2, 1) := by decide +kernel
theorem d_Sh_drop_39 : decode z_Sh_drop.2.2.1 39 = .ok (.ifCond .ne 23, 3) := by decide +kernel
theorem d_Sh_drop_42 : decode z_Sh_drop.2.2.1 42 = .ok (.aload_n 0, 1) := by decide +kernel
theorem d_Sh_drop_43 : decode z_Sh_drop.2.2.1 43 = .ok (.aload 6, 2) := by decide +kernel
theorem d_Sh_drop_45 : decode z_Sh_drop.2.2.1 45 = .ok (.getfield 60, 3) := by decide +kernel
theorem d_Sh_drop_48 : decode z_Sh_drop.2.2.1 48 = .ok (.invokevirtual 64, 3) := by decide +kernel
theorem d_Sh_drop_51 : decode z_Sh_drop.2.2.1 51 = .ok (.ifCond .eq 15, 3) := by decide +kernel
theorem d_Sh_drop_54 : decode z_Sh_drop.2.2.1 54 = .ok (.aload 6, 2) := by decide +kernel
theorem d_Sh_drop_56 : decode z_Sh_drop.2.2.1 56 = .ok (.getfield 68, 3) := by decide +kernel
theorem d_Sh_drop_59 : decode z_Sh_drop.2.2.1 59 = .ok (.ifCond .eq 7, 3) := by decide +kernel
theorem d_Sh_drop_62 : decode z_Sh_drop.2.2.1 62 = .ok (.iconst 1, 1) := by decide +kernel
theorem d_Sh_drop_63 : decode z_Sh_drop.2.2.1 63 = .ok (.goto 4, 3) := by decide +kernel
theorem d_Sh_drop_66 : decode z_Sh_drop.2.2.1 66 = .ok (.iconst 0, 1) := by decide +kernel
theorem d_Sh_drop_67 : decode z_Sh_drop.2.2.1 67 = .ok (.istore_n 2, 1) := by decide +kernel
theorem d_Sh_drop_68 : decode z_Sh_drop.2.2.1 68 = .ok (.iinc 5 1, 3) := by decide +kernel
theorem d_Sh_drop_71 : decode z_Sh_drop.2.2.1 71 = .ok (.goto (-46), 3) := by decide +kernel
theorem d_Sh_drop_74 : decode z_Sh_drop.2.2.1 74 = .ok (.aload_n 0, 1) := by decide +kernel
theorem d_Sh_drop_75 : decode z_Sh_drop.2.2.1 75 = .ok (.iload_n 1, 1) := by decide +kernel
theorem d_Sh_drop_76 : decode z_Sh_drop.2.2.1 76 = .ok (.invokevirtual 64, 3) := by decide +kernel
theorem d_Sh_drop_79 : decode z_Sh_drop.2.2.1 79 = .ok (.ifCond .eq 23, 3) := by decide +kernel
theorem d_Sh_drop_82 : decode z_Sh_drop.2.2.1 82 = .ok (.aload_n 0, 1) := by decide +kernel
theorem d_Sh_drop_83 : decode z_Sh_drop.2.2.1 83 = .ok (.getfield 12, 3) := by decide +kernel
theorem d_Sh_drop_86 : decode z_Sh_drop.2.2.1 86 = .ok (.iload_n 1, 1) := by decide +kernel
theorem d_Sh_drop_87 : decode z_Sh_drop.2.2.1 87 = .ok (.aaload, 1) := by decide +kernel
theorem d_Sh_drop_88 : decode z_Sh_drop.2.2.1 88 = .ok (.getfield 68, 3) := by decide +kernel
theorem d_Sh_drop_91 : decode z_Sh_drop.2.2.1 91 = .ok (.ifCond .ne 11, 3) := by decide +kernel
theorem d_Sh_drop_94 : decode z_Sh_drop.2.2.1 94 = .ok (.iload_n 2, 1) := by decide +kernel
theorem d_Sh_drop_95 : decode z_Sh_drop.2.2.1 95 = .ok (.ifCond .eq 7, 3) := by decide +kernel
theorem d_Sh_drop_98 : decode z_Sh_drop.2.2.1 98 = .ok (.iconst 1, 1) := by decide +kernel
theorem d_Sh_drop_99 : decode z_Sh_drop.2.2.1 99 = .ok (.goto 4, 3) := by decide +kernel
theorem d_Sh_drop_102 : decode z_Sh_drop.2.2.1 102 = .ok (.iconst 0, 1) := by decide +kernel
theorem d_Sh_drop_103 : decode z_Sh_drop.2.2.1 103 = .ok (.invokestatic 164, 3) := by decide +kernel
theorem d_Sh_drop_106 : decode z_Sh_drop.2.2.1 106 = .ok (.aload_n 0, 1) := by decide +kernel
theorem d_Sh_drop_107 : decode z_Sh_drop.2.2.1 107 = .ok (.getfield 28, 3) := by decide +kernel
theorem d_Sh_drop_110 : decode z_Sh_drop.2.2.1 110 = .ok (.invokevirtual 181, 3) := by decide +kernel
theorem d_Sh_drop_113 : decode z_Sh_drop.2.2.1 113 = .ok (.astore_n 3, 1) := by decide +kernel
theorem d_Sh_drop_114 : decode z_Sh_drop.2.2.1 114 = .ok (.aload_n 3, 1) := by decide +kernel
theorem d_Sh_drop_115 : decode z_Sh_drop.2.2.1 115 = .ok (.getfield 57, 3) := by decide +kernel
theorem d_Sh_drop_118 : decode z_Sh_drop.2.2.1 118 = .ok (.iload_n 1, 1) := by decide +kernel
theorem d_Sh_drop_119 : decode z_Sh_drop.2.2.1 119 = .ok (.iconst 0, 1) := by decide +kernel
theorem d_Sh_drop_120 : decode z_Sh_drop.2.2.1 120 = .ok (.iastore, 1) := by decide +kernel
theorem d_Sh_drop_121 : decode z_Sh_drop.2.2.1 121 = .ok (.iconst 0, 1) := by decide +kernel
theorem d_Sh_drop_122 : decode z_Sh_drop.2.2.1 122 = .ok (.istore 4, 2) := by decide +kernel
theorem d_Sh_drop_124 : decode z_Sh_drop.2.2.1 124 = .ok (.aload_n 3, 1) := by decide +kernel
theorem d_Sh_drop_125 : decode z_Sh_drop.2.2.1 125 = .ok (.getfield 71, 3) := by decide +kernel
theorem d_Sh_drop_128 : decode z_Sh_drop.2.2.1 128 = .ok (.astore 5, 2) := by decide +kernel
theorem d_Sh_drop_130 : decode z_Sh_drop.2.2.1 130 = .ok (.aload 5, 2) := by decide +kernel
theorem d_Sh_drop_132 : decode z_Sh_drop.2.2.1 132 = .ok (.arraylength, 1) := by decide +kernel
theorem d_Sh_drop_133 : decode z_Sh_drop.2.2.1 133 = .ok (.istore 6, 2) := by decide +kernel
theorem d_Sh_drop_135 : decode z_Sh_drop.2.2.1 135 = .ok (.iconst 0, 1) := by decide +kernel
theorem d_Sh_drop_136 : decode z_Sh_drop.2.2.1 136 = .ok (.istore 7, 2) := by decide +kernel
theorem d_Sh_drop_138 : decode z_Sh_drop.2.2.1 138 = .ok (.iload 7, 2) := by decide +kernel
theorem d_Sh_drop_140 : decode z_Sh_drop.2.2.1 140 = .ok (.iload 6, 2) := by decide +kernel
theorem d_Sh_drop_142 : decode z_Sh_drop.2.2.1 142 = .ok (.if_icmp .ge 83, 3) := by decide +kernel
theorem d_Sh_drop_145 : decode z_Sh_drop.2.2.1 145 = .ok (.aload 5, 2) := by decide +kernel
theorem d_Sh_drop_147 : decode z_Sh_drop.2.2.1 147 = .ok (.iload 7, 2) := by decide +kernel
theorem d_Sh_drop_149 : decode z_Sh_drop.2.2.1 149 = .ok (.aaload, 1) := by decide +kernel
theorem d_Sh_drop_150 : decode z_Sh_drop.2.2.1 150 = .ok (.astore 8, 2) := by decide +kernel
theorem d_Sh_drop_152 : decode z_Sh_drop.2.2.1 152 = .ok (.iconst 0, 1) := by decide +kernel
theorem d_Sh_drop_153 : decode z_Sh_drop.2.2.1 153 = .ok (.istore 9, 2) := by decide +kernel
theorem d_Sh_drop_155 : decode z_Sh_drop.2.2.1 155 = .ok (.aload 8, 2) := by decide +kernel
theorem d_Sh_drop_157 : decode z_Sh_drop.2.2.1 157 = .ok (.ifnull 62, 3) := by decide +kernel
theorem d_Sh_drop_160 : decode z_Sh_drop.2.2.1 160 = .ok (.iload 9, 2) := by decide +kernel
theorem d_Sh_drop_162 : decode z_Sh_drop.2.2.1 162 = .ok (.iconst 2, 1) := by decide +kernel
theorem d_Sh_drop_163 : decode z_Sh_drop.2.2.1 163 = .ok (.aload 8, 2) := by decide +kernel
theorem d_Sh_drop_165 : decode z_Sh_drop.2.2.1 165 = .ok (.getfield 154, 3) := by decide +kernel
theorem d_Sh_drop_168 : decode z_Sh_drop.2.2.1 168 = .ok (.imul, 1) := by decide +kernel
theorem d_Sh_drop_169 : decode z_Sh_drop.2.2.1 169 = .ok (.if_icmp .ge 50, 3) := by decide +kernel
theorem d_Sh_drop_172 : decode z_Sh_drop.2.2.1 172 = .ok (.aload 8, 2) := by decide +kernel
theorem d_Sh_drop_174 : decode z_Sh_drop.2.2.1 174 = .ok (.getfield 120, 3) := by decide +kernel
theorem d_Sh_drop_177 : decode z_Sh_drop.2.2.1 177 = .ok (.iload 9, 2) := by decide +kernel
theorem d_Sh_drop_179 : decode z_Sh_drop.2.2.1 179 = .ok (.iaload, 1) := by decide +kernel
theorem d_Sh_drop_180 : decode z_Sh_drop.2.2.1 180 = .ok (.ifCond .eq 33, 3) := by decide +kernel
theorem d_Sh_drop_183 : decode z_Sh_drop.2.2.1 183 = .ok (.aload 8, 2) := by decide +kernel
theorem d_Sh_drop_185 : decode z_Sh_drop.2.2.1 185 = .ok (.getfield 120, 3) := by decide +kernel
theorem d_Sh_drop_188 : decode z_Sh_drop.2.2.1 188 = .ok (.iload 9, 2) := by decide +kernel
theorem d_Sh_drop_190 : decode z_Sh_drop.2.2.1 190 = .ok (.iaload, 1) := by decide +kernel
theorem d_Sh_drop_191 : decode z_Sh_drop.2.2.1 191 = .ok (.invokestatic 78, 3) := by decide +kernel
theorem d_Sh_drop_194 : decode z_Sh_drop.2.2.1 194 = .ok (.iload_n 1, 1) := by decide +kernel
theorem d_Sh_drop_195 : decode z_Sh_drop.2.2.1 195 = .ok (.if_icmp .eq 6, 3) := by decide +kernel
theorem d_Sh_drop_198 : decode z_Sh_drop.2.2.1 198 = .ok (.goto 15, 3) := by decide +kernel
theorem d_Sh_drop_201 : decode z_Sh_drop.2.2.1 201 = .ok (.aload 8, 2) := by decide +kernel
theorem d_Sh_drop_203 : decode z_Sh_drop.2.2.1 203 = .ok (.getfield 120, 3) := by decide +kernel
theorem d_Sh_drop_206 : decode z_Sh_drop.2.2.1 206 = .ok (.iload 9, 2) := by decide +kernel
theorem d_Sh_drop_208 : decode z_Sh_drop.2.2.1 208 = .ok (.iconst 0, 1) := by decide +kernel
theorem d_Sh_drop_209 : decode z_Sh_drop.2.2.1 209 = .ok (.iastore, 1) := by decide +kernel
theorem d_Sh_drop_210 : decode z_Sh_drop.2.2.1 210 = .ok (.iinc 4 1, 3) := by decide +kernel
theorem d_Sh_drop_213 : decode z_Sh_drop.2.2.1 213 = .ok (.iinc 9 1, 3) := by decide +kernel
theorem d_Sh_drop_216 : decode z_Sh_drop.2.2.1 216 = .ok (.goto (-61), 3) := by decide +kernel
theorem d_Sh_drop_219 : decode z_Sh_drop.2.2.1 219 = .ok (.iinc 7 1, 3) := by decide +kernel
theorem d_Sh_drop_222 : decode z_Sh_drop.2.2.1 222 = .ok (.goto (-84), 3) := by decide +kernel
theorem d_Sh_drop_225 : decode z_Sh_drop.2.2.1 225 = .ok (.aload_n 0, 1) := by decide +kernel
theorem d_Sh_drop_226 : decode z_Sh_drop.2.2.1 226 = .ok (.aload_n 3, 1) := by decide +kernel
theorem d_Sh_drop_227 : decode z_Sh_drop.2.2.1 227 = .ok (.invokevirtual 185, 3) := by decide +kernel
theorem d_Sh_drop_230 : decode z_Sh_drop.2.2.1 230 = .ok (.iload 4, 2) := by decide +kernel
theorem d_Sh_drop_232 : decode z_Sh_drop.2.2.1 232 = .ok (.ireturn, 1) := by decide +kernel
def lc_Sh_drop_0 : jx_Cx := (cCmp rLt (eI 5) (eI 4))
def lb_Sh_drop_0 : jx_St := (sSeq (sAsg 2 6 (eLda 3 (eA 3) (eI 5))) (sSeq (sAsg 0 2 (eIte (cOr (cCmp0 rNe (eI 2)) (cAnd (cCmp0 rNe (eCl (jx_ev tb_Sh_isListed) [(eA 0), (eGf [1] 0 (eA 6))])) (cCmp0 rNe (eGf [1] 3 (eA 6))))) (eInt (nI 1)) (eInt (nI 0)))) (sInc 5 (nI 1))))
theorem ml_Sh_drop_0 : jx_Ts z_Sh_drop 25 (sWh 64 lc_Sh_drop_0 lb_Sh_drop_0) [74] := by
  unfold lc_Sh_drop_0 lb_Sh_drop_0
  exact t_wh (EA := [71]) (Fs := [74]) (E := [74]) 64 (s_cmp (s_iload d_Sh_drop_25) (s_iload d_Sh_drop_27) (s_icmp_geF (tgt := 74) d_Sh_drop_29 (by decide))) (by decide) (t_seq (t_asg (s_loada (s_aload_n d_Sh_drop_32 rfl) (s_iload d_Sh_drop_33) (s_aald (Or.inl rfl) d_Sh_drop_35)) (fun v k h => b_astore d_Sh_drop_36 (by decide) h)) (t_seq (t_asg (s_ite (q4 := 67) (s_org (s_cmp0 (s_iload_n d_Sh_drop_38 rfl) (s_if_neT (tgt := 62) d_Sh_drop_39 (by decide))) (by decide) (al_1 (s_andg (s_cmp0 (s_cl (s_a1 (s_aload_n d_Sh_drop_42 rfl) (s_a1 (s_getf (s_aload d_Sh_drop_43) fi_Sh_60 d_Sh_drop_45) s_a0)) (s_ecv (ve_Sh_isListed (by decide) (by decide)) dc_Sh_isListed (by decide) lm_Sh_64 pd_Sh_isListed d_Sh_drop_48)) (s_if_eqF (tgt := 66) d_Sh_drop_51 (by decide))) (by decide) (al_1 (s_cmp0 (s_getf (s_aload d_Sh_drop_54) fi_Sh_68 d_Sh_drop_56) (s_if_eqF (tgt := 66) d_Sh_drop_59 (by decide))))))) (s_iconst d_Sh_drop_62 (by decide)) d_Sh_drop_63 (by decide) (s_iconst d_Sh_drop_66 (by decide))) (fun v k h => b_istore_n d_Sh_drop_67 rfl (by decide) h)) (t_iinc d_Sh_drop_68 (by decide) (by decide)))) (al_1 (Or.inr ⟨-46, d_Sh_drop_71, by decide⟩)) (by decide)
def lc_Sh_drop_2 : jx_Cx := (cAnd (cNot (cNull (eA 8))) (cCmp rLt (eI 9) (eBin oMul (eInt (nI 2)) (eGf [5, 6, 7] 1 (eA 8)))))
def lb_Sh_drop_2 : jx_St := (sSeq (sIf (cOr (cCmp0 rEq (eLd 0 (eGf [5, 6, 7] 2 (eA 8)) (eI 9))) (cCmp rNe (eCl (jx_ec f_Sh_diskOf) [(eLd 0 (eGf [5, 6, 7] 2 (eA 8)) (eI 9))]) (eI 1))) sSkip (sSeq (sSt 0 0 (eGf [5, 6, 7] 2 (eA 8)) (eI 9) (eInt (nI 0))) (sInc 4 (nI 1)))) (sInc 9 (nI 1)))
theorem ml_Sh_drop_2 : jx_Ts z_Sh_drop 155 (sWh 64 lc_Sh_drop_2 lb_Sh_drop_2) [219] := by
  unfold lc_Sh_drop_2 lb_Sh_drop_2
  exact t_wh (EA := [216]) (Fs := [219]) (E := [219]) 64 (s_andg (s_not (s_nul (s_aload d_Sh_drop_155) (s_ifnull (tgt := 219) d_Sh_drop_157 (by decide))) (by decide)) (by decide) (al_1 (s_cmp (s_iload d_Sh_drop_160) (s_bin (s_iconst d_Sh_drop_162 (by decide)) (s_getf (s_aload d_Sh_drop_163) fi_Sh_154 d_Sh_drop_165) (s_imul d_Sh_drop_168)) (s_icmp_geF (tgt := 219) d_Sh_drop_169 (by decide))))) (by decide) (t_seq (t_ifg (E := [213]) (s_org (s_csub (T1 := [213]) (F1 := [183]) (Ts := [198, 213]) (Fs := [183]) (s_cmp0 (s_load (s_getf (s_aload d_Sh_drop_172) fi_Sh_120 d_Sh_drop_174) (s_iload d_Sh_drop_177) (s_iald d_Sh_drop_179)) (s_if_eqT (tgt := 213) d_Sh_drop_180 (by decide))) (by decide) (by decide)) (by decide) (al_1 (s_csub (T1 := [198]) (F1 := [201]) (Ts := [198, 213]) (Fs := [201]) (s_cmp (s_cl (s_a1 (s_load (s_getf (s_aload d_Sh_drop_183) fi_Sh_120 d_Sh_drop_185) (s_iload d_Sh_drop_188) (s_iald d_Sh_drop_190)) s_a0) (s_ecs me_Sh_diskOf mw_Sh_diskOf (by decide) (by decide) (by decide) lm_Sh_78 w_st_Sh_diskOf w_in_Sh pd_Sh_diskOf d_Sh_drop_191)) (s_iload_n d_Sh_drop_194 rfl) (s_icmp_eqF (tgt := 201) d_Sh_drop_195 (by decide))) (by decide) (by decide)))) (by decide) (al_2 (t_goto (q := 198) (tgt := 213) (E := [213]) (t_skip (by decide)) d_Sh_drop_198 (by decide) (by decide)) (t_skip (by decide))) (al_1 (t_seq (t_st (s_getf (s_aload d_Sh_drop_201) fi_Sh_120 d_Sh_drop_203) (s_iload d_Sh_drop_206) (s_iconst d_Sh_drop_208 (by decide)) (s_iast d_Sh_drop_209)) (t_iinc d_Sh_drop_210 (by decide) (by decide))))) (t_iinc d_Sh_drop_213 (by decide) (by decide))) (al_1 (Or.inr ⟨-61, d_Sh_drop_216, by decide⟩)) (by decide)
def lc_Sh_drop_1 : jx_Cx := (cCmp rLt (eI 7) (eI 6))
def lb_Sh_drop_1 : jx_St := (sSeq (sAsg 2 8 (eLda 4 (eA 5) (eI 7))) (sSeq (sSeq (sAsg 0 9 (eInt (nI 0))) (sWh 64 lc_Sh_drop_2 lb_Sh_drop_2)) (sInc 7 (nI 1))))
theorem ml_Sh_drop_1 : jx_Ts z_Sh_drop 138 (sWh 64 lc_Sh_drop_1 lb_Sh_drop_1) [225] := by
  unfold lc_Sh_drop_1 lb_Sh_drop_1
  exact t_wh (EA := [222]) (Fs := [225]) (E := [225]) 64 (s_cmp (s_iload d_Sh_drop_138) (s_iload d_Sh_drop_140) (s_icmp_geF (tgt := 225) d_Sh_drop_142 (by decide))) (by decide) (t_seq (t_asg (s_loada (s_aload d_Sh_drop_145) (s_iload d_Sh_drop_147) (s_aald (Or.inr rfl) d_Sh_drop_149)) (fun v k h => b_astore d_Sh_drop_150 (by decide) h)) (t_seq (t_seq (t_asg (s_iconst d_Sh_drop_152 (by decide)) (fun v k h => b_istore d_Sh_drop_153 (by decide) h)) ml_Sh_drop_2) (t_iinc d_Sh_drop_219 (by decide) (by decide)))) (al_1 (Or.inr ⟨-84, d_Sh_drop_222, by decide⟩)) (by decide)
def bd_Sh_drop : jx_St := (sSeq (sCl (jx_ev tb_Sh_needOn) [(eA 0)]) (sSeq (sCl (jx_ec f_Sh_need) [(eCl (jx_ec f_Sh_isDisk) [(eI 1)])]) (sSeq (sAsg 0 2 (eInt (nI 0))) (sSeq (sSeq (sAsg 2 3 (eGf [0] 0 (eA 0))) (sSeq (sAsg 0 4 (eLen (eA 3))) (sSeq (sAsg 0 5 (eInt (nI 0))) (sWh 64 lc_Sh_drop_0 lb_Sh_drop_0)))) (sSeq (sCl (jx_ec f_Sh_allow) [(eIte (cAnd (cAnd (cCmp0 rNe (eCl (jx_ev tb_Sh_isListed) [(eA 0), (eI 1)])) (cNot (cCmp0 rNe (eGf [1] 3 (eLda 3 (eGf [0] 0 (eA 0)) (eI 1)))))) (cCmp0 rNe (eI 2))) (eInt (nI 1)) (eInt (nI 0)))]) (sSeq (sAsg 2 3 (eCl (jx_ev tb_Tb_copy) [(eGf [0] 2 (eA 0))])) (sSeq (sSt 0 0 (eGf [3] 1 (eA 3)) (eI 1) (eInt (nI 0))) (sSeq (sAsg 0 4 (eInt (nI 0))) (sSeq (sSeq (sAsg 2 5 (eGf [3] 2 (eA 3))) (sSeq (sAsg 0 6 (eLen (eA 5))) (sSeq (sAsg 0 7 (eInt (nI 0))) (sWh 64 lc_Sh_drop_1 lb_Sh_drop_1)))) (sSeq (sCl (jx_ev tb_Sh_change) [(eA 0), (eA 3)]) (sRet 0 (eI 4))))))))))))
theorem m_Sh_drop : jx_Ts z_Sh_drop 0 bd_Sh_drop [] := by
  unfold bd_Sh_drop
  exact (t_seq (t_cl (s_a1 (s_aload_n d_Sh_drop_0 rfl) s_a0) (s_ecv (ve_Sh_needOn (by decide) (by decide)) dc_Sh_needOn (by decide) lm_Sh_172 pd_Sh_needOn d_Sh_drop_1)) (t_seq (t_cl (s_a1 (s_cl (s_a1 (s_iload_n d_Sh_drop_4 rfl) s_a0) (s_ecs me_Sh_isDisk mw_Sh_isDisk (by decide) (by decide) (by decide) lm_Sh_175 w_st_Sh_isDisk w_in_Sh pd_Sh_isDisk d_Sh_drop_5)) s_a0) (s_ecs me_Sh_need mw_Sh_need (by decide) (by decide) (by decide) lm_Sh_178 w_st_Sh_need w_in_Sh pd_Sh_need d_Sh_drop_8)) (t_seq (t_asg (s_iconst d_Sh_drop_11 (by decide)) (fun v k h => b_istore_n d_Sh_drop_12 rfl (by decide) h)) (t_seq (t_seq (t_asg (s_getf (s_aload_n d_Sh_drop_13 rfl) fi_Sh_12 d_Sh_drop_14) (fun v k h => b_astore_n d_Sh_drop_17 rfl (by decide) h)) (t_seq (t_asg (s_len (s_aload_n d_Sh_drop_18 rfl) d_Sh_drop_19) (fun v k h => b_istore d_Sh_drop_20 (by decide) h)) (t_seq (t_asg (s_iconst d_Sh_drop_22 (by decide)) (fun v k h => b_istore d_Sh_drop_23 (by decide) h)) ml_Sh_drop_0))) (t_seq (t_cl (s_a1 (s_ite (q4 := 103) (s_andg (s_andg (s_cmp0 (s_cl (s_a1 (s_aload_n d_Sh_drop_74 rfl) (s_a1 (s_iload_n d_Sh_drop_75 rfl) s_a0)) (s_ecv (ve_Sh_isListed (by decide) (by decide)) dc_Sh_isListed (by decide) lm_Sh_64 pd_Sh_isListed d_Sh_drop_76)) (s_if_eqF (tgt := 102) d_Sh_drop_79 (by decide))) (by decide) (al_1 (s_not (s_cmp0 (s_getf (s_loada (s_getf (s_aload_n d_Sh_drop_82 rfl) fi_Sh_12 d_Sh_drop_83) (s_iload_n d_Sh_drop_86 rfl) (s_aald (Or.inl rfl) d_Sh_drop_87)) fi_Sh_68 d_Sh_drop_88) (s_if_neT (tgt := 102) d_Sh_drop_91 (by decide))) (by decide)))) (by decide) (al_1 (s_cmp0 (s_iload_n d_Sh_drop_94 rfl) (s_if_eqF (tgt := 102) d_Sh_drop_95 (by decide))))) (s_iconst d_Sh_drop_98 (by decide)) d_Sh_drop_99 (by decide) (s_iconst d_Sh_drop_102 (by decide))) s_a0) (s_ecs me_Sh_allow mw_Sh_allow (by decide) (by decide) (by decide) lm_Sh_164 w_st_Sh_allow w_in_Sh pd_Sh_allow d_Sh_drop_103)) (t_seq (t_asg (s_cl (s_a1 (s_getf (s_aload_n d_Sh_drop_106 rfl) fi_Sh_28 d_Sh_drop_107) s_a0) (s_ecv (ve_Tb_copy (by decide) (by decide)) dc_Tb_copy (by decide) lm_Sh_181 pd_Tb_copy d_Sh_drop_110)) (fun v k h => b_astore_n d_Sh_drop_113 rfl (by decide) h)) (t_seq (t_st (s_getf (s_aload_n d_Sh_drop_114 rfl) fi_Sh_57 d_Sh_drop_115) (s_iload_n d_Sh_drop_118 rfl) (s_iconst d_Sh_drop_119 (by decide)) (s_iast d_Sh_drop_120)) (t_seq (t_asg (s_iconst d_Sh_drop_121 (by decide)) (fun v k h => b_istore d_Sh_drop_122 (by decide) h)) (t_seq (t_seq (t_asg (s_getf (s_aload_n d_Sh_drop_124 rfl) fi_Sh_71 d_Sh_drop_125) (fun v k h => b_astore d_Sh_drop_128 (by decide) h)) (t_seq (t_asg (s_len (s_aload d_Sh_drop_130) d_Sh_drop_132) (fun v k h => b_istore d_Sh_drop_133 (by decide) h)) (t_seq (t_asg (s_iconst d_Sh_drop_135 (by decide)) (fun v k h => b_istore d_Sh_drop_136 (by decide) h)) ml_Sh_drop_1))) (t_seq (t_cl (s_a1 (s_aload_n d_Sh_drop_225 rfl) (s_a1 (s_aload_n d_Sh_drop_226 rfl) s_a0)) (s_ecv (ve_Sh_change (by decide) (by decide)) dc_Sh_change (by decide) lm_Sh_185 pd_Sh_change d_Sh_drop_227)) (t_ret .int (s_iload d_Sh_drop_230) rfl (by decide) d_Sh_drop_232)))))))))))
def f_Sh_drop : jx_Mt := jx_fn 2 10 (bd_Sh_drop fun _ _ => none)
theorem me_Sh_drop : jx_Me 2 z_Sh_drop f_Sh_drop := jx_Me.ofT (by decide) m_Sh_drop
theorem mw_Sh_drop : jx_mw ⟨"ExtentShelf", "drop", "(I)I"⟩ z_Sh_drop := ⟨rfl, rfl, by decide +kernel, ⟨by decide, by decide⟩, by decide +kernel⟩
theorem pd_Sh_drop : (parseMethodDescriptor (⟨"ExtentShelf", "drop", "(I)I"⟩ : MethodName).desc).map (fun d => d.parameters.length) = some 1 := by decide +kernel
/-! ExtentShelf$Volume.fits(I)Z -/
abbrev z_Vo_fits : jx_Z := ("ExtentShelf$Volume", "fits", prog_9_method_5_code, 2, some .boolean, 0, 0)
theorem d_Vo_fits_0 : decode z_Vo_fits.2.2.1 0 = .ok (.iload_n 1, 1) := by decide +kernel
theorem d_Vo_fits_1 : decode z_Vo_fits.2.2.1 1 = .ok (.iconst 1, 1) := by decide +kernel
theorem d_Vo_fits_2 : decode z_Vo_fits.2.2.1 2 = .ok (.if_icmp .lt 21, 3) := by decide +kernel
theorem d_Vo_fits_5 : decode z_Vo_fits.2.2.1 5 = .ok (.iload_n 1, 1) := by decide +kernel
theorem d_Vo_fits_6 : decode z_Vo_fits.2.2.1 6 = .ok (.iconst 5, 1) := by decide +kernel
theorem d_Vo_fits_7 : decode z_Vo_fits.2.2.1 7 = .ok (.if_icmp .gt 16, 3) := by decide +kernel
theorem d_Vo_fits_10 : decode z_Vo_fits.2.2.1 10 = .ok (.iload_n 1, 1) := by decide +kernel
theorem d_Vo_fits_11 : decode z_Vo_fits.2.2.1 11 = .ok (.aload_n 0, 1) := by decide +kernel
theorem d_Vo_fits_12 : decode z_Vo_fits.2.2.1 12 = .ok (.getfield 15, 3) := by decide +kernel
theorem d_Vo_fits_15 : decode z_Vo_fits.2.2.1 15 = .ok (.irem, 1) := by decide +kernel
theorem d_Vo_fits_16 : decode z_Vo_fits.2.2.1 16 = .ok (.ifCond .ne 7, 3) := by decide +kernel
theorem d_Vo_fits_19 : decode z_Vo_fits.2.2.1 19 = .ok (.iconst 1, 1) := by decide +kernel
theorem d_Vo_fits_20 : decode z_Vo_fits.2.2.1 20 = .ok (.goto 4, 3) := by decide +kernel
theorem d_Vo_fits_23 : decode z_Vo_fits.2.2.1 23 = .ok (.iconst 0, 1) := by decide +kernel
theorem d_Vo_fits_24 : decode z_Vo_fits.2.2.1 24 = .ok (.ireturn, 1) := by decide +kernel
def bd_Vo_fits : jx_St := (sRet 1 (eIte (cAnd (cAnd (cCmp rGe (eI 1) (eInt (nI 1))) (cCmp rLe (eI 1) (eInt (nI 5)))) (cCmp0 rEq (eBin oRem (eI 1) (eGf [5, 6, 7] 0 (eA 0))))) (eInt (nI 1)) (eInt (nI 0))))
theorem m_Vo_fits : jx_Ts z_Vo_fits 0 bd_Vo_fits [] := by
  unfold bd_Vo_fits
  exact (t_ret .boolean (s_ite (q4 := 24) (s_andg (s_andg (s_cmp (s_iload_n d_Vo_fits_0 rfl) (s_iconst d_Vo_fits_1 (by decide)) (s_icmp_ltF (tgt := 23) d_Vo_fits_2 (by decide))) (by decide) (al_1 (s_cmp (s_iload_n d_Vo_fits_5 rfl) (s_iconst d_Vo_fits_6 (by decide)) (s_icmp_gtF (tgt := 23) d_Vo_fits_7 (by decide))))) (by decide) (al_1 (s_cmp0 (s_bin (s_iload_n d_Vo_fits_10 rfl) (s_getf (s_aload_n d_Vo_fits_11 rfl) fi_Vo_15 d_Vo_fits_12) (s_irem d_Vo_fits_15)) (s_if_neF (tgt := 23) d_Vo_fits_16 (by decide))))) (s_iconst d_Vo_fits_19 (by decide)) d_Vo_fits_20 (by decide) (s_iconst d_Vo_fits_23 (by decide))) rfl (by decide) d_Vo_fits_24)
def f_Vo_fits : jx_Mt := jx_fn 2 2 (bd_Vo_fits fun _ _ => none)
theorem me_Vo_fits : jx_Me 2 z_Vo_fits f_Vo_fits := jx_Me.ofT (by decide) m_Vo_fits
theorem mw_Vo_fits : jx_mw ⟨"ExtentShelf$Volume", "fits", "(I)Z"⟩ z_Vo_fits := ⟨rfl, rfl, by decide +kernel, ⟨by decide, by decide⟩, by decide +kernel⟩
theorem pd_Vo_fits : (parseMethodDescriptor (⟨"ExtentShelf$Volume", "fits", "(I)Z"⟩ : MethodName).desc).map (fun d => d.parameters.length) = some 1 := by decide +kernel
abbrev tb_Vo_fits : List (Nat × jx_Mt) := [(5, f_Vo_fits), (6, f_Vo_fits), (7, f_Vo_fits)]
theorem ve_Vo_fits {fr lo : Nat} (h1 : 1 ≤ fr) (h2 : 29 ≤ lo) : ∀ q ∈ tb_Vo_fits, jx_ve ⟨"ExtentShelf$Volume", "fits", "(I)Z"⟩ 1 fr lo q.1 q.2 := tv_3 ⟨R_Linear, F_Linear, 3, ⟨"ExtentShelf$Volume", "fits", "(I)Z"⟩, z_Vo_fits, rfl, by decide +kernel, mw_Vo_fits, by decide +kernel, me_Vo_fits, Nat.le_trans (by decide) h1, Nat.le_trans (by decide) h2⟩ ⟨R_Striped, F_Striped, 3, ⟨"ExtentShelf$Volume", "fits", "(I)Z"⟩, z_Vo_fits, rfl, by decide +kernel, mw_Vo_fits, by decide +kernel, me_Vo_fits, Nat.le_trans (by decide) h1, Nat.le_trans (by decide) h2⟩ ⟨R_Twinned, F_Twinned, 3, ⟨"ExtentShelf$Volume", "fits", "(I)Z"⟩, z_Vo_fits, rfl, by decide +kernel, mw_Vo_fits, by decide +kernel, me_Vo_fits, Nat.le_trans (by decide) h1, Nat.le_trans (by decide) h2⟩
theorem dc_Vo_fits : jx_dc ⟨"ExtentShelf$Volume", "fits", "(I)Z"⟩ := ⟨⟨by decide, by decide⟩, Or.inr ⟨by decide +kernel, prog_9_method_5_code, 2, _, (by decide +kernel : Cond.code ⟨"ExtentShelf$Volume", "fits", "(I)Z"⟩ prog_9_method_5_code 2 (some .boolean) ∈ jx_tbl)⟩, "ExtentShelf$Linear", ⟨"ExtentShelf$Volume", "said", "()I"⟩, ⟨"ExtentShelf$Volume", "said", "()I"⟩, by decide +kernel, rfl⟩
