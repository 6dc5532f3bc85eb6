/-! METHODS, printed by jgen.py -/
abbrev tb_Dk_older : List (Nat × jx_Mt) := [(1, f_Dk_older)]
theorem ve_Dk_older {fr lo : Nat} (h1 : 3 ≤ fr) (h2 : 91 ≤ lo) : ∀ q ∈ tb_Dk_older, jx_ve ⟨"ExtentShelf$Disk", "older", "()I"⟩ 0 fr lo q.1 q.2 := tv_1 ⟨R_Disk, F_Disk, 4, ⟨"ExtentShelf$Disk", "older", "()I"⟩, z_Dk_older, rfl, by decide +kernel, mw_Dk_older, by decide +kernel, me_Dk_older, Nat.le_trans (by decide) h1, Nat.le_trans (by decide) h2⟩
theorem dc_Dk_older : jx_dc ⟨"ExtentShelf$Disk", "older", "()I"⟩ := ⟨⟨by decide, by decide⟩, Or.inr ⟨by decide +kernel, prog_2_method_4_code, 3, _, (by decide +kernel : Cond.code ⟨"ExtentShelf$Disk", "older", "()I"⟩ prog_2_method_4_code 3 (some .int) ∈ jx_tbl)⟩, "ExtentShelf$Disk", ⟨"ExtentShelf$Disk", "older", "()I"⟩, ⟨"ExtentShelf$Disk", "older", "()I"⟩, by decide +kernel, rfl⟩
/-! ExtentShelf.change(LExtentShelf$Table;)V -/
abbrev z_Sh_change : jx_Z := ("ExtentShelf", "change", prog_1_method_14_code, 8, none, 7, 131)
theorem d_Sh_change_0 : decode z_Sh_change.2.2.1 0 = .ok (.aload_n 1, 1) := by decide +kernel
theorem d_Sh_change_1 : decode z_Sh_change.2.2.1 1 = .ok (.aload_n 0, 1) := by decide +kernel
theorem d_Sh_change_2 : decode z_Sh_change.2.2.1 2 = .ok (.getfield 28, 3) := by decide +kernel
theorem d_Sh_change_5 : decode z_Sh_change.2.2.1 5 = .ok (.getfield 92, 3) := by decide +kernel
theorem d_Sh_change_8 : decode z_Sh_change.2.2.1 8 = .ok (.aload_n 0, 1) := by decide +kernel
theorem d_Sh_change_9 : decode z_Sh_change.2.2.1 9 = .ok (.invokevirtual 93, 3) := by decide +kernel
theorem d_Sh_change_12 : decode z_Sh_change.2.2.1 12 = .ok (.ifCond .eq 7, 3) := by decide +kernel
theorem d_Sh_change_15 : decode z_Sh_change.2.2.1 15 = .ok (.iconst 2, 1) := by decide +kernel
theorem d_Sh_change_16 : decode z_Sh_change.2.2.1 16 = .ok (.goto 4, 3) := by decide +kernel
theorem d_Sh_change_19 : decode z_Sh_change.2.2.1 19 = .ok (.iconst 1, 1) := by decide +kernel
theorem d_Sh_change_20 : decode z_Sh_change.2.2.1 20 = .ok (.iadd, 1) := by decide +kernel
theorem d_Sh_change_21 : decode z_Sh_change.2.2.1 21 = .ok (.putfield 92, 3) := by decide +kernel
theorem d_Sh_change_24 : decode z_Sh_change.2.2.1 24 = .ok (.aload_n 1, 1) := by decide +kernel
theorem d_Sh_change_25 : decode z_Sh_change.2.2.1 25 = .ok (.aload_n 0, 1) := by decide +kernel
theorem d_Sh_change_26 : decode z_Sh_change.2.2.1 26 = .ok (.getfield 32, 3) := by decide +kernel
theorem d_Sh_change_29 : decode z_Sh_change.2.2.1 29 = .ok (.invokevirtual 97, 3) := by decide +kernel
theorem d_Sh_change_32 : decode z_Sh_change.2.2.1 32 = .ok (.aload_n 0, 1) := by decide +kernel
theorem d_Sh_change_33 : decode z_Sh_change.2.2.1 33 = .ok (.getfield 12, 3) := by decide +kernel
theorem d_Sh_change_36 : decode z_Sh_change.2.2.1 36 = .ok (.astore_n 2, 1) := by decide +kernel
theorem d_Sh_change_37 : decode z_Sh_change.2.2.1 37 = .ok (.aload_n 2, 1) := by decide +kernel
theorem d_Sh_change_38 : decode z_Sh_change.2.2.1 38 = .ok (.arraylength, 1) := by decide +kernel
theorem d_Sh_change_39 : decode z_Sh_change.2.2.1 39 = .ok (.istore_n 3, 1) := by decide +kernel
theorem d_Sh_change_40 : decode z_Sh_change.2.2.1 40 = .ok (.iconst 0, 1) := by decide +kernel
theorem d_Sh_change_41 : decode z_Sh_change.2.2.1 41 = .ok (.istore 4, 2) := by decide +kernel
theorem d_Sh_change_43 : decode z_Sh_change.2.2.1 43 = .ok (.iload 4, 2) := by decide +kernel
theorem d_Sh_change_45 : decode z_Sh_change.2.2.1 45 = .ok (.iload_n 3, 1) := by decide +kernel
theorem d_Sh_change_46 : decode z_Sh_change.2.2.1 46 = .ok (.if_icmp .ge 89, 3) := by decide +kernel
theorem d_Sh_change_49 : decode z_Sh_change.2.2.1 49 = .ok (.aload_n 2, 1) := by decide +kernel
theorem d_Sh_change_50 : decode z_Sh_change.2.2.1 50 = .ok (.iload 4, 2) := by decide +kernel
theorem d_Sh_change_52 : decode z_Sh_change.2.2.1 52 = .ok (.aaload, 1) := by decide +kernel
theorem d_Sh_change_53 : decode z_Sh_change.2.2.1 53 = .ok (.astore 5, 2) := by decide +kernel
theorem d_Sh_change_55 : decode z_Sh_change.2.2.1 55 = .ok (.aload_n 1, 1) := by decide +kernel
theorem d_Sh_change_56 : decode z_Sh_change.2.2.1 56 = .ok (.getfield 57, 3) := by decide +kernel
theorem d_Sh_change_59 : decode z_Sh_change.2.2.1 59 = .ok (.aload 5, 2) := by decide +kernel
theorem d_Sh_change_61 : decode z_Sh_change.2.2.1 61 = .ok (.getfield 60, 3) := by decide +kernel
theorem d_Sh_change_64 : decode z_Sh_change.2.2.1 64 = .ok (.iaload, 1) := by decide +kernel
theorem d_Sh_change_65 : decode z_Sh_change.2.2.1 65 = .ok (.ifCond .eq 64, 3) := by decide +kernel
theorem d_Sh_change_68 : decode z_Sh_change.2.2.1 68 = .ok (.aload 5, 2) := by decide +kernel
theorem d_Sh_change_70 : decode z_Sh_change.2.2.1 70 = .ok (.getfield 68, 3) := by decide +kernel
theorem d_Sh_change_73 : decode z_Sh_change.2.2.1 73 = .ok (.ifCond .ne 6, 3) := by decide +kernel
theorem d_Sh_change_76 : decode z_Sh_change.2.2.1 76 = .ok (.goto 53, 3) := by decide +kernel
theorem d_Sh_change_79 : decode z_Sh_change.2.2.1 79 = .ok (.bipush 51, 2) := by decide +kernel
theorem d_Sh_change_81 : decode z_Sh_change.2.2.1 81 = .ok (.aload 5, 2) := by decide +kernel
theorem d_Sh_change_83 : decode z_Sh_change.2.2.1 83 = .ok (.invokevirtual 101, 3) := by decide +kernel
theorem d_Sh_change_86 : decode z_Sh_change.2.2.1 86 = .ok (.imul, 1) := by decide +kernel
theorem d_Sh_change_87 : decode z_Sh_change.2.2.1 87 = .ok (.istore 6, 2) := by decide +kernel
theorem d_Sh_change_89 : decode z_Sh_change.2.2.1 89 = .ok (.iconst 0, 1) := by decide +kernel
theorem d_Sh_change_90 : decode z_Sh_change.2.2.1 90 = .ok (.istore 7, 2) := by decide +kernel
theorem d_Sh_change_92 : decode z_Sh_change.2.2.1 92 = .ok (.iload 7, 2) := by decide +kernel
theorem d_Sh_change_94 : decode z_Sh_change.2.2.1 94 = .ok (.bipush 51, 2) := by decide +kernel
theorem d_Sh_change_96 : decode z_Sh_change.2.2.1 96 = .ok (.if_icmp .ge 33, 3) := by decide +kernel
theorem d_Sh_change_99 : decode z_Sh_change.2.2.1 99 = .ok (.aload_n 0, 1) := by decide +kernel
theorem d_Sh_change_100 : decode z_Sh_change.2.2.1 100 = .ok (.getfield 21, 3) := by decide +kernel
theorem d_Sh_change_103 : decode z_Sh_change.2.2.1 103 = .ok (.aload 5, 2) := by decide +kernel
theorem d_Sh_change_105 : decode z_Sh_change.2.2.1 105 = .ok (.getfield 105, 3) := by decide +kernel
theorem d_Sh_change_108 : decode z_Sh_change.2.2.1 108 = .ok (.iload 6, 2) := by decide +kernel
theorem d_Sh_change_110 : decode z_Sh_change.2.2.1 110 = .ok (.iload 7, 2) := by decide +kernel
theorem d_Sh_change_112 : decode z_Sh_change.2.2.1 112 = .ok (.iadd, 1) := by decide +kernel
theorem d_Sh_change_113 : decode z_Sh_change.2.2.1 113 = .ok (.aload_n 0, 1) := by decide +kernel
theorem d_Sh_change_114 : decode z_Sh_change.2.2.1 114 = .ok (.getfield 32, 3) := by decide +kernel
theorem d_Sh_change_117 : decode z_Sh_change.2.2.1 117 = .ok (.iload 7, 2) := by decide +kernel
theorem d_Sh_change_119 : decode z_Sh_change.2.2.1 119 = .ok (.iaload, 1) := by decide +kernel
theorem d_Sh_change_120 : decode z_Sh_change.2.2.1 120 = .ok (.invokevirtual 88, 3) := by decide +kernel
theorem d_Sh_change_123 : decode z_Sh_change.2.2.1 123 = .ok (.iinc 7 1, 3) := by decide +kernel
theorem d_Sh_change_126 : decode z_Sh_change.2.2.1 126 = .ok (.goto (-34), 3) := by decide +kernel
theorem d_Sh_change_129 : decode z_Sh_change.2.2.1 129 = .ok (.iinc 4 1, 3) := by decide +kernel
theorem d_Sh_change_132 : decode z_Sh_change.2.2.1 132 = .ok (.goto (-89), 3) := by decide +kernel
theorem d_Sh_change_135 : decode z_Sh_change.2.2.1 135 = .ok (.aload_n 0, 1) := by decide +kernel
theorem d_Sh_change_136 : decode z_Sh_change.2.2.1 136 = .ok (.aload_n 1, 1) := by decide +kernel
theorem d_Sh_change_137 : decode z_Sh_change.2.2.1 137 = .ok (.putfield 28, 3) := by decide +kernel
theorem d_Sh_change_140 : decode z_Sh_change.2.2.1 140 = .ok (.aload_n 0, 1) := by decide +kernel
theorem d_Sh_change_141 : decode z_Sh_change.2.2.1 141 = .ok (.getfield 108, 3) := by decide +kernel
theorem d_Sh_change_144 : decode z_Sh_change.2.2.1 144 = .ok (.ifnull 13, 3) := by decide +kernel
theorem d_Sh_change_147 : decode z_Sh_change.2.2.1 147 = .ok (.aload_n 0, 1) := by decide +kernel
theorem d_Sh_change_148 : decode z_Sh_change.2.2.1 148 = .ok (.getfield 108, 3) := by decide +kernel
theorem d_Sh_change_151 : decode z_Sh_change.2.2.1 151 = .ok (.getfield 112, 3) := by decide +kernel
theorem d_Sh_change_154 : decode z_Sh_change.2.2.1 154 = .ok (.ifCond .ne 4, 3) := by decide +kernel
theorem d_Sh_change_157 : decode z_Sh_change.2.2.1 157 = .ok (.return_, 1) := by decide +kernel
theorem d_Sh_change_158 : decode z_Sh_change.2.2.1 158 = .ok (.aload_n 0, 1) := by decide +kernel
theorem d_Sh_change_159 : decode z_Sh_change.2.2.1 159 = .ok (.getfield 28, 3) := by decide +kernel
theorem d_Sh_change_162 : decode z_Sh_change.2.2.1 162 = .ok (.getfield 71, 3) := by decide +kernel
theorem d_Sh_change_165 : decode z_Sh_change.2.2.1 165 = .ok (.aload_n 0, 1) := by decide +kernel
theorem d_Sh_change_166 : decode z_Sh_change.2.2.1 166 = .ok (.getfield 108, 3) := by decide +kernel
theorem d_Sh_change_169 : decode z_Sh_change.2.2.1 169 = .ok (.getfield 117, 3) := by decide +kernel
theorem d_Sh_change_172 : decode z_Sh_change.2.2.1 172 = .ok (.aaload, 1) := by decide +kernel
theorem d_Sh_change_173 : decode z_Sh_change.2.2.1 173 = .ok (.astore_n 2, 1) := by decide +kernel
theorem d_Sh_change_174 : decode z_Sh_change.2.2.1 174 = .ok (.aload_n 2, 1) := by decide +kernel
theorem d_Sh_change_175 : decode z_Sh_change.2.2.1 175 = .ok (.ifnull 25, 3) := by decide +kernel
theorem d_Sh_change_178 : decode z_Sh_change.2.2.1 178 = .ok (.aload_n 2, 1) := by decide +kernel
theorem d_Sh_change_179 : decode z_Sh_change.2.2.1 179 = .ok (.getfield 120, 3) := by decide +kernel
theorem d_Sh_change_182 : decode z_Sh_change.2.2.1 182 = .ok (.aload_n 0, 1) := by decide +kernel
theorem d_Sh_change_183 : decode z_Sh_change.2.2.1 183 = .ok (.getfield 108, 3) := by decide +kernel
theorem d_Sh_change_186 : decode z_Sh_change.2.2.1 186 = .ok (.getfield 125, 3) := by decide +kernel
theorem d_Sh_change_189 : decode z_Sh_change.2.2.1 189 = .ok (.iaload, 1) := by decide +kernel
theorem d_Sh_change_190 : decode z_Sh_change.2.2.1 190 = .ok (.aload_n 0, 1) := by decide +kernel
theorem d_Sh_change_191 : decode z_Sh_change.2.2.1 191 = .ok (.getfield 108, 3) := by decide +kernel
theorem d_Sh_change_194 : decode z_Sh_change.2.2.1 194 = .ok (.getfield 128, 3) := by decide +kernel
theorem d_Sh_change_197 : decode z_Sh_change.2.2.1 197 = .ok (.if_icmp .eq 11, 3) := by decide +kernel
theorem d_Sh_change_200 : decode z_Sh_change.2.2.1 200 = .ok (.aload_n 0, 1) := by decide +kernel
theorem d_Sh_change_201 : decode z_Sh_change.2.2.1 201 = .ok (.getfield 108, 3) := by decide +kernel
theorem d_Sh_change_204 : decode z_Sh_change.2.2.1 204 = .ok (.iconst 0, 1) := by decide +kernel
theorem d_Sh_change_205 : decode z_Sh_change.2.2.1 205 = .ok (.putfield 112, 3) := by decide +kernel
theorem d_Sh_change_208 : decode z_Sh_change.2.2.1 208 = .ok (.return_, 1) := by decide +kernel
def lc_Sh_change_1 : jx_Cx := (cCmp rLt (eI 7) (eInt (nI 51)))
def lb_Sh_change_1 : jx_St := (sSeq (sCl (jx_ev tb_Pn_write) [(eGf [0] 1 (eA 0)), (eGf [1] 1 (eA 5)), (eBin oAdd (eI 6) (eI 7)), (eLd 0 (eGf [0] 4 (eA 0)) (eI 7))]) (sInc 7 (nI 1)))
theorem ml_Sh_change_1 : jx_Ts z_Sh_change 92 (sWh 64 lc_Sh_change_1 lb_Sh_change_1) [129] := by
  unfold lc_Sh_change_1 lb_Sh_change_1
  exact t_wh (EA := [126]) (Fs := [129]) (E := [129]) 64 (s_cmp (s_iload d_Sh_change_92) (s_bipush d_Sh_change_94 (by decide)) (s_icmp_geF (tgt := 129) d_Sh_change_96 (by decide))) (by decide) (t_seq (t_cl (s_a1 (s_getf (s_aload_n d_Sh_change_99 rfl) fi_Sh_21 d_Sh_change_100) (s_a1 (s_getf (s_aload d_Sh_change_103) fi_Sh_105 d_Sh_change_105) (s_a1 (s_bin (s_iload d_Sh_change_108) (s_iload d_Sh_change_110) (s_iadd d_Sh_change_112)) (s_a1 (s_load (s_getf (s_aload_n d_Sh_change_113 rfl) fi_Sh_32 d_Sh_change_114) (s_iload d_Sh_change_117) (s_iald d_Sh_change_119)) s_a0)))) (s_ecv (ve_Pn_write (by decide) (by decide)) dc_Pn_write (by decide) lm_Sh_88 pd_Pn_write d_Sh_change_120)) (t_iinc d_Sh_change_123 (by decide) (by decide))) (al_1 (Or.inr ⟨-34, d_Sh_change_126, by decide⟩)) (by decide)
def lc_Sh_change_0 : jx_Cx := (cCmp rLt (eI 4) (eI 3))
def lb_Sh_change_0 : jx_St := (sSeq (sAsg 2 5 (eLda 3 (eA 2) (eI 4))) (sSeq (sIf (cOr (cCmp0 rEq (eLd 0 (eGf [3] 1 (eA 1)) (eGf [1] 0 (eA 5)))) (cNot (cCmp0 rNe (eGf [1] 3 (eA 5))))) sSkip (sSeq (sAsg 0 6 (eBin oMul (eInt (nI 51)) (eCl (jx_ev tb_Dk_older) [(eA 5)]))) (sSeq (sAsg 0 7 (eInt (nI 0))) (sWh 64 lc_Sh_change_1 lb_Sh_change_1)))) (sInc 4 (nI 1))))
theorem ml_Sh_change_0 : jx_Ts z_Sh_change 43 (sWh 64 lc_Sh_change_0 lb_Sh_change_0) [135] := by
  unfold lc_Sh_change_0 lb_Sh_change_0
  exact t_wh (EA := [132]) (Fs := [135]) (E := [135]) 64 (s_cmp (s_iload d_Sh_change_43) (s_iload_n d_Sh_change_45 rfl) (s_icmp_geF (tgt := 135) d_Sh_change_46 (by decide))) (by decide) (t_seq (t_asg (s_loada (s_aload_n d_Sh_change_49 rfl) (s_iload d_Sh_change_50) (s_aald (Or.inl rfl) d_Sh_change_52)) (fun v k h => b_astore d_Sh_change_53 (by decide) h)) (t_seq (t_ifg (E := [129]) (s_org (s_csub (T1 := [129]) (F1 := [68]) (Ts := [76, 129]) (Fs := [68]) (s_cmp0 (s_load (s_getf (s_aload_n d_Sh_change_55 rfl) fi_Sh_57 d_Sh_change_56) (s_getf (s_aload d_Sh_change_59) fi_Sh_60 d_Sh_change_61) (s_iald d_Sh_change_64)) (s_if_eqT (tgt := 129) d_Sh_change_65 (by decide))) (by decide) (by decide)) (by decide) (al_1 (s_csub (T1 := [76]) (F1 := [79]) (Ts := [76, 129]) (Fs := [79]) (s_not (s_cmp0 (s_getf (s_aload d_Sh_change_68) fi_Sh_68 d_Sh_change_70) (s_if_neT (tgt := 79) d_Sh_change_73 (by decide))) (by decide)) (by decide) (by decide)))) (by decide) (al_2 (t_goto (q := 76) (tgt := 129) (E := [129]) (t_skip (by decide)) d_Sh_change_76 (by decide) (by decide)) (t_skip (by decide))) (al_1 (t_seq (t_asg (s_bin (s_bipush d_Sh_change_79 (by decide)) (s_cl (s_a1 (s_aload d_Sh_change_81) s_a0) (s_ecv (ve_Dk_older (by decide) (by decide)) dc_Dk_older (by decide) lm_Sh_101 pd_Dk_older d_Sh_change_83)) (s_imul d_Sh_change_86)) (fun v k h => b_istore d_Sh_change_87 (by decide) h)) (t_seq (t_asg (s_iconst d_Sh_change_89 (by decide)) (fun v k h => b_istore d_Sh_change_90 (by decide) h)) ml_Sh_change_1)))) (t_iinc d_Sh_change_129 (by decide) (by decide)))) (al_1 (Or.inr ⟨-89, d_Sh_change_132, by decide⟩)) (by decide)
def bd_Sh_change : jx_St := (sSeq (sSeq (sPf [3] 0 0 (eA 1) (eBin oAdd (eGf [3] 0 (eGf [0] 2 (eA 0))) (eIte (cCmp0 rNe (eCl (jx_ev tb_Sh_isOneAbsent) [(eA 0)])) (eInt (nI 2)) (eInt (nI 1))))) (sSeq (sCl (jx_ev tb_Tb_fill) [(eA 1), (eGf [0] 4 (eA 0))]) (sSeq (sSeq (sAsg 2 2 (eGf [0] 0 (eA 0))) (sSeq (sAsg 0 3 (eLen (eA 2))) (sSeq (sAsg 0 4 (eInt (nI 0))) (sWh 64 lc_Sh_change_0 lb_Sh_change_0)))) (sSeq (sPf [0] 2 2 (eA 0) (eA 1)) (sSeq (sIf (cOr (cNull (eGf [0] 3 (eA 0))) (cCmp0 rEq (eGf [4] 4 (eGf [0] 3 (eA 0))))) sRetV sSkip) (sSeq (sAsg 2 2 (eLda 4 (eGf [3] 2 (eGf [0] 2 (eA 0))) (eGf [4] 1 (eGf [0] 3 (eA 0))))) (sIf (cOr (cNull (eA 2)) (cCmp rNe (eLd 0 (eGf [5, 6, 7] 2 (eA 2)) (eGf [4] 2 (eGf [0] 3 (eA 0)))) (eGf [4] 3 (eGf [0] 3 (eA 0))))) (sPf [4] 4 0 (eGf [0] 3 (eA 0)) (eInt (nI 0))) sSkip))))))) sRetV)
theorem m_Sh_change : jx_Ts z_Sh_change 0 bd_Sh_change [] := by
  unfold bd_Sh_change
  exact (t_seq (t_seq (t_pf (s_aload_n d_Sh_change_0 rfl) (s_bin (s_getf (s_getf (s_aload_n d_Sh_change_1 rfl) fi_Sh_28 d_Sh_change_2) fi_Sh_92 d_Sh_change_5) (s_ite (q4 := 20) (s_cmp0 (s_cl (s_a1 (s_aload_n d_Sh_change_8 rfl) s_a0) (s_ecv (ve_Sh_isOneAbsent (by decide) (by decide)) dc_Sh_isOneAbsent (by decide) lm_Sh_93 pd_Sh_isOneAbsent d_Sh_change_9)) (s_if_eqF (tgt := 19) d_Sh_change_12 (by decide))) (s_iconst d_Sh_change_15 (by decide)) d_Sh_change_16 (by decide) (s_iconst d_Sh_change_19 (by decide))) (s_iadd d_Sh_change_20)) fi_Sh_92 rfl (Or.inl rfl) d_Sh_change_21) (t_seq (t_cl (s_a1 (s_aload_n d_Sh_change_24 rfl) (s_a1 (s_getf (s_aload_n d_Sh_change_25 rfl) fi_Sh_32 d_Sh_change_26) s_a0)) (s_ecv (ve_Tb_fill (by decide) (by decide)) dc_Tb_fill (by decide) lm_Sh_97 pd_Tb_fill d_Sh_change_29)) (t_seq (t_seq (t_asg (s_getf (s_aload_n d_Sh_change_32 rfl) fi_Sh_12 d_Sh_change_33) (fun v k h => b_astore_n d_Sh_change_36 rfl (by decide) h)) (t_seq (t_asg (s_len (s_aload_n d_Sh_change_37 rfl) d_Sh_change_38) (fun v k h => b_istore_n d_Sh_change_39 rfl (by decide) h)) (t_seq (t_asg (s_iconst d_Sh_change_40 (by decide)) (fun v k h => b_istore d_Sh_change_41 (by decide) h)) ml_Sh_change_0))) (t_seq (t_pf (s_aload_n d_Sh_change_135 rfl) (s_aload_n d_Sh_change_136 rfl) fi_Sh_28 rfl (Or.inl rfl) d_Sh_change_137) (t_seq (t_if1 (Fs := [158]) (E := [158]) (s_org (s_nul (s_getf (s_aload_n d_Sh_change_140 rfl) fi_Sh_108 d_Sh_change_141) (s_ifnull (tgt := 157) d_Sh_change_144 (by decide))) (by decide) (al_1 (s_cmp0 (s_getf (s_getf (s_aload_n d_Sh_change_147 rfl) fi_Sh_108 d_Sh_change_148) fi_Sh_112 d_Sh_change_151) (s_if_neF (tgt := 158) d_Sh_change_154 (by decide))))) (by decide) (t_sub (E := []) (E' := [158]) (t_retv rfl d_Sh_change_157) (by decide)) (by decide)) (t_seq (t_asg (s_loada (s_getf (s_getf (s_aload_n d_Sh_change_158 rfl) fi_Sh_28 d_Sh_change_159) fi_Sh_71 d_Sh_change_162) (s_getf (s_getf (s_aload_n d_Sh_change_165 rfl) fi_Sh_108 d_Sh_change_166) fi_Sh_117 d_Sh_change_169) (s_aald (Or.inr rfl) d_Sh_change_172)) (fun v k h => b_astore_n d_Sh_change_173 rfl (by decide) h)) (t_if1 (Fs := [208]) (E := [208]) (s_org (s_nul (s_aload_n d_Sh_change_174 rfl) (s_ifnull (tgt := 200) d_Sh_change_175 (by decide))) (by decide) (al_1 (s_cmp (s_load (s_getf (s_aload_n d_Sh_change_178 rfl) fi_Sh_120 d_Sh_change_179) (s_getf (s_getf (s_aload_n d_Sh_change_182 rfl) fi_Sh_108 d_Sh_change_183) fi_Sh_125 d_Sh_change_186) (s_iald d_Sh_change_189)) (s_getf (s_getf (s_aload_n d_Sh_change_190 rfl) fi_Sh_108 d_Sh_change_191) fi_Sh_128 d_Sh_change_194) (s_icmp_eqF (tgt := 208) d_Sh_change_197 (by decide))))) (by decide) (t_sub (E := [208]) (E' := [208]) (t_pf (s_getf (s_aload_n d_Sh_change_200 rfl) fi_Sh_108 d_Sh_change_201) (s_iconst d_Sh_change_204 (by decide)) fi_Sh_112 rfl (Or.inl rfl) d_Sh_change_205) (by decide)) (by decide)))))))) (t_retv rfl d_Sh_change_208))
def f_Sh_change : jx_Mt := jx_fn 2 8 (bd_Sh_change fun _ _ => none)
theorem me_Sh_change : jx_Me 2 z_Sh_change f_Sh_change := jx_Me.ofT (by decide) m_Sh_change
theorem mw_Sh_change : jx_mw ⟨"ExtentShelf", "change", "(LExtentShelf$Table;)V"⟩ z_Sh_change := ⟨rfl, rfl, by decide +kernel, ⟨by decide, by decide⟩, by decide +kernel⟩
theorem pd_Sh_change : (parseMethodDescriptor (⟨"ExtentShelf", "change", "(LExtentShelf$Table;)V"⟩ : MethodName).desc).map (fun d => d.parameters.length) = some 1 := by decide +kernel
/-! ExtentShelf$Table.holds(I)Z -/
abbrev z_Tb_holds : jx_Z := ("ExtentShelf$Table", "holds", prog_7_method_5_code, 8, some .boolean, 0, 0)
theorem d_Tb_holds_0 : decode z_Tb_holds.2.2.1 0 = .ok (.iconst 0, 1) := by decide +kernel
theorem d_Tb_holds_1 : decode z_Tb_holds.2.2.1 1 = .ok (.istore_n 2, 1) := by decide +kernel
theorem d_Tb_holds_2 : decode z_Tb_holds.2.2.1 2 = .ok (.aload_n 0, 1) := by decide +kernel
theorem d_Tb_holds_3 : decode z_Tb_holds.2.2.1 3 = .ok (.getfield 17, 3) := by decide +kernel
theorem d_Tb_holds_6 : decode z_Tb_holds.2.2.1 6 = .ok (.astore_n 3, 1) := by decide +kernel
theorem d_Tb_holds_7 : decode z_Tb_holds.2.2.1 7 = .ok (.aload_n 3, 1) := by decide +kernel
theorem d_Tb_holds_8 : decode z_Tb_holds.2.2.1 8 = .ok (.arraylength, 1) := by decide +kernel
theorem d_Tb_holds_9 : decode z_Tb_holds.2.2.1 9 = .ok (.istore 4, 2) := by decide +kernel
theorem d_Tb_holds_11 : decode z_Tb_holds.2.2.1 11 = .ok (.iconst 0, 1) := by decide +kernel
theorem d_Tb_holds_12 : decode z_Tb_holds.2.2.1 12 = .ok (.istore 5, 2) := by decide +kernel
theorem d_Tb_holds_14 : decode z_Tb_holds.2.2.1 14 = .ok (.iload 5, 2) := by decide +kernel
theorem d_Tb_holds_16 : decode z_Tb_holds.2.2.1 16 = .ok (.iload 4, 2) := by decide +kernel
theorem d_Tb_holds_18 : decode z_Tb_holds.2.2.1 18 = .ok (.if_icmp .ge 63, 3) := by decide +kernel
theorem d_Tb_holds_21 : decode z_Tb_holds.2.2.1 21 = .ok (.aload_n 3, 1) := by decide +kernel
theorem d_Tb_holds_22 : decode z_Tb_holds.2.2.1 22 = .ok (.iload 5, 2) := by decide +kernel
theorem d_Tb_holds_24 : decode z_Tb_holds.2.2.1 24 = .ok (.aaload, 1) := by decide +kernel
theorem d_Tb_holds_25 : decode z_Tb_holds.2.2.1 25 = .ok (.astore 6, 2) := by decide +kernel
theorem d_Tb_holds_27 : decode z_Tb_holds.2.2.1 27 = .ok (.iconst 0, 1) := by decide +kernel
theorem d_Tb_holds_28 : decode z_Tb_holds.2.2.1 28 = .ok (.istore 7, 2) := by decide +kernel
theorem d_Tb_holds_30 : decode z_Tb_holds.2.2.1 30 = .ok (.aload 6, 2) := by decide +kernel
theorem d_Tb_holds_32 : decode z_Tb_holds.2.2.1 32 = .ok (.ifnull 43, 3) := by decide +kernel
theorem d_Tb_holds_35 : decode z_Tb_holds.2.2.1 35 = .ok (.iload 7, 2) := by decide +kernel
theorem d_Tb_holds_37 : decode z_Tb_holds.2.2.1 37 = .ok (.iconst 2, 1) := by decide +kernel
theorem d_Tb_holds_38 : decode z_Tb_holds.2.2.1 38 = .ok (.aload 6, 2) := by decide +kernel
theorem d_Tb_holds_40 : decode z_Tb_holds.2.2.1 40 = .ok (.getfield 39, 3) := by decide +kernel
theorem d_Tb_holds_43 : decode z_Tb_holds.2.2.1 43 = .ok (.imul, 1) := by decide +kernel
theorem d_Tb_holds_44 : decode z_Tb_holds.2.2.1 44 = .ok (.if_icmp .ge 31, 3) := by decide +kernel
theorem d_Tb_holds_47 : decode z_Tb_holds.2.2.1 47 = .ok (.iload_n 2, 1) := by decide +kernel
theorem d_Tb_holds_48 : decode z_Tb_holds.2.2.1 48 = .ok (.ifCond .ne 15, 3) := by decide +kernel
theorem d_Tb_holds_51 : decode z_Tb_holds.2.2.1 51 = .ok (.aload 6, 2) := by decide +kernel
theorem d_Tb_holds_53 : decode z_Tb_holds.2.2.1 53 = .ok (.getfield 46, 3) := by decide +kernel
theorem d_Tb_holds_56 : decode z_Tb_holds.2.2.1 56 = .ok (.iload 7, 2) := by decide +kernel
theorem d_Tb_holds_58 : decode z_Tb_holds.2.2.1 58 = .ok (.iaload, 1) := by decide +kernel
theorem d_Tb_holds_59 : decode z_Tb_holds.2.2.1 59 = .ok (.iload_n 1, 1) := by decide +kernel
theorem d_Tb_holds_60 : decode z_Tb_holds.2.2.1 60 = .ok (.if_icmp .ne 7, 3) := by decide +kernel
theorem d_Tb_holds_63 : decode z_Tb_holds.2.2.1 63 = .ok (.iconst 1, 1) := by decide +kernel
theorem d_Tb_holds_64 : decode z_Tb_holds.2.2.1 64 = .ok (.goto 4, 3) := by decide +kernel
theorem d_Tb_holds_67 : decode z_Tb_holds.2.2.1 67 = .ok (.iconst 0, 1) := by decide +kernel
theorem d_Tb_holds_68 : decode z_Tb_holds.2.2.1 68 = .ok (.istore_n 2, 1) := by decide +kernel
theorem d_Tb_holds_69 : decode z_Tb_holds.2.2.1 69 = .ok (.iinc 7 1, 3) := by decide +kernel
theorem d_Tb_holds_72 : decode z_Tb_holds.2.2.1 72 = .ok (.goto (-42), 3) := by decide +kernel
theorem d_Tb_holds_75 : decode z_Tb_holds.2.2.1 75 = .ok (.iinc 5 1, 3) := by decide +kernel
theorem d_Tb_holds_78 : decode z_Tb_holds.2.2.1 78 = .ok (.goto (-64), 3) := by decide +kernel
theorem d_Tb_holds_81 : decode z_Tb_holds.2.2.1 81 = .ok (.iload_n 2, 1) := by decide +kernel
theorem d_Tb_holds_82 : decode z_Tb_holds.2.2.1 82 = .ok (.ireturn, 1) := by decide +kernel
def lc_Tb_holds_1 : jx_Cx := (cAnd (cNot (cNull (eA 6))) (cCmp rLt (eI 7) (eBin oMul (eInt (nI 2)) (eGf [5, 6, 7] 1 (eA 6)))))
def lb_Tb_holds_1 : jx_St := (sSeq (sAsg 0 2 (eIte (cOr (cCmp0 rNe (eI 2)) (cCmp rEq (eLd 0 (eGf [5, 6, 7] 2 (eA 6)) (eI 7)) (eI 1))) (eInt (nI 1)) (eInt (nI 0)))) (sInc 7 (nI 1)))
theorem ml_Tb_holds_1 : jx_Ts z_Tb_holds 30 (sWh 64 lc_Tb_holds_1 lb_Tb_holds_1) [75] := by
  unfold lc_Tb_holds_1 lb_Tb_holds_1
  exact t_wh (EA := [72]) (Fs := [75]) (E := [75]) 64 (s_andg (s_not (s_nul (s_aload d_Tb_holds_30) (s_ifnull (tgt := 75) d_Tb_holds_32 (by decide))) (by decide)) (by decide) (al_1 (s_cmp (s_iload d_Tb_holds_35) (s_bin (s_iconst d_Tb_holds_37 (by decide)) (s_getf (s_aload d_Tb_holds_38) fi_Tb_39 d_Tb_holds_40) (s_imul d_Tb_holds_43)) (s_icmp_geF (tgt := 75) d_Tb_holds_44 (by decide))))) (by decide) (t_seq (t_asg (s_ite (q4 := 68) (s_org (s_cmp0 (s_iload_n d_Tb_holds_47 rfl) (s_if_neT (tgt := 63) d_Tb_holds_48 (by decide))) (by decide) (al_1 (s_cmp (s_load (s_getf (s_aload d_Tb_holds_51) fi_Tb_46 d_Tb_holds_53) (s_iload d_Tb_holds_56) (s_iald d_Tb_holds_58)) (s_iload_n d_Tb_holds_59 rfl) (s_icmp_neF (tgt := 67) d_Tb_holds_60 (by decide))))) (s_iconst d_Tb_holds_63 (by decide)) d_Tb_holds_64 (by decide) (s_iconst d_Tb_holds_67 (by decide))) (fun v k h => b_istore_n d_Tb_holds_68 rfl (by decide) h)) (t_iinc d_Tb_holds_69 (by decide) (by decide))) (al_1 (Or.inr ⟨-42, d_Tb_holds_72, by decide⟩)) (by decide)
def lc_Tb_holds_0 : jx_Cx := (cCmp rLt (eI 5) (eI 4))
def lb_Tb_holds_0 : jx_St := (sSeq (sAsg 2 6 (eLda 4 (eA 3) (eI 5))) (sSeq (sSeq (sAsg 0 7 (eInt (nI 0))) (sWh 64 lc_Tb_holds_1 lb_Tb_holds_1)) (sInc 5 (nI 1))))
theorem ml_Tb_holds_0 : jx_Ts z_Tb_holds 14 (sWh 64 lc_Tb_holds_0 lb_Tb_holds_0) [81] := by
  unfold lc_Tb_holds_0 lb_Tb_holds_0
  exact t_wh (EA := [78]) (Fs := [81]) (E := [81]) 64 (s_cmp (s_iload d_Tb_holds_14) (s_iload d_Tb_holds_16) (s_icmp_geF (tgt := 81) d_Tb_holds_18 (by decide))) (by decide) (t_seq (t_asg (s_loada (s_aload_n d_Tb_holds_21 rfl) (s_iload d_Tb_holds_22) (s_aald (Or.inr rfl) d_Tb_holds_24)) (fun v k h => b_astore d_Tb_holds_25 (by decide) h)) (t_seq (t_seq (t_asg (s_iconst d_Tb_holds_27 (by decide)) (fun v k h => b_istore d_Tb_holds_28 (by decide) h)) ml_Tb_holds_1) (t_iinc d_Tb_holds_75 (by decide) (by decide)))) (al_1 (Or.inr ⟨-64, d_Tb_holds_78, by decide⟩)) (by decide)
def bd_Tb_holds : jx_St := (sSeq (sAsg 0 2 (eInt (nI 0))) (sSeq (sSeq (sAsg 2 3 (eGf [3] 2 (eA 0))) (sSeq (sAsg 0 4 (eLen (eA 3))) (sSeq (sAsg 0 5 (eInt (nI 0))) (sWh 64 lc_Tb_holds_0 lb_Tb_holds_0)))) (sRet 1 (eI 2))))
theorem m_Tb_holds : jx_Ts z_Tb_holds 0 bd_Tb_holds [] := by
  unfold bd_Tb_holds
  exact (t_seq (t_asg (s_iconst d_Tb_holds_0 (by decide)) (fun v k h => b_istore_n d_Tb_holds_1 rfl (by decide) h)) (t_seq (t_seq (t_asg (s_getf (s_aload_n d_Tb_holds_2 rfl) fi_Tb_17 d_Tb_holds_3) (fun v k h => b_astore_n d_Tb_holds_6 rfl (by decide) h)) (t_seq (t_asg (s_len (s_aload_n d_Tb_holds_7 rfl) d_Tb_holds_8) (fun v k h => b_istore d_Tb_holds_9 (by decide) h)) (t_seq (t_asg (s_iconst d_Tb_holds_11 (by decide)) (fun v k h => b_istore d_Tb_holds_12 (by decide) h)) ml_Tb_holds_0))) (t_ret .boolean (s_iload_n d_Tb_holds_81 rfl) rfl (by decide) d_Tb_holds_82)))
def f_Tb_holds : jx_Mt := jx_fn 2 8 (bd_Tb_holds fun _ _ => none)
theorem me_Tb_holds : jx_Me 2 z_Tb_holds f_Tb_holds := jx_Me.ofT (by decide) m_Tb_holds
theorem mw_Tb_holds : jx_mw ⟨"ExtentShelf$Table", "holds", "(I)Z"⟩ z_Tb_holds := ⟨rfl, rfl, by decide +kernel, ⟨by decide, by decide⟩, by decide +kernel⟩
theorem pd_Tb_holds : (parseMethodDescriptor (⟨"ExtentShelf$Table", "holds", "(I)Z"⟩ : MethodName).desc).map (fun d => d.parameters.length) = some 1 := by decide +kernel
abbrev tb_Tb_holds : List (Nat × jx_Mt) := [(3, f_Tb_holds)]
theorem ve_Tb_holds {fr lo : Nat} (h1 : 1 ≤ fr) (h2 : 35 ≤ lo) : ∀ q ∈ tb_Tb_holds, jx_ve ⟨"ExtentShelf$Table", "holds", "(I)Z"⟩ 1 fr lo q.1 q.2 := tv_1 ⟨R_Table, F_Table, 3, ⟨"ExtentShelf$Table", "holds", "(I)Z"⟩, z_Tb_holds, rfl, by decide +kernel, mw_Tb_holds, by decide +kernel, me_Tb_holds, Nat.le_trans (by decide) h1, Nat.le_trans (by decide) h2⟩
theorem dc_Tb_holds : jx_dc ⟨"ExtentShelf$Table", "holds", "(I)Z"⟩ := ⟨⟨by decide, by decide⟩, Or.inr ⟨by decide +kernel, prog_7_method_5_code, 8, _, (by decide +kernel : Cond.code ⟨"ExtentShelf$Table", "holds", "(I)Z"⟩ prog_7_method_5_code 8 (some .boolean) ∈ jx_tbl)⟩, "ExtentShelf$Table", ⟨"ExtentShelf$Table", "copy", "()LExtentShelf$Table;"⟩, ⟨"ExtentShelf$Table", "copy", "()LExtentShelf$Table;"⟩, by decide +kernel, rfl⟩
/-! ExtentShelf.isFree(LExtentShelf$Table;I)Z -/
abbrev z_Sh_isFree : jx_Z := ("ExtentShelf", "isFree", prog_1_method_15_code, 3, some .boolean, 1, 35)
theorem d_Sh_isFree_0 : decode z_Sh_isFree.2.2.1 0 = .ok (.aload_n 1, 1) := by decide +kernel
theorem d_Sh_isFree_1 : decode z_Sh_isFree.2.2.1 1 = .ok (.iload_n 2, 1) := by decide +kernel
theorem d_Sh_isFree_2 : decode z_Sh_isFree.2.2.1 2 = .ok (.invokevirtual 131, 3) := by decide +kernel
theorem d_Sh_isFree_5 : decode z_Sh_isFree.2.2.1 5 = .ok (.ifCond .ne 25, 3) := by decide +kernel
theorem d_Sh_isFree_8 : decode z_Sh_isFree.2.2.1 8 = .ok (.aload_n 0, 1) := by decide +kernel
theorem d_Sh_isFree_9 : decode z_Sh_isFree.2.2.1 9 = .ok (.getfield 108, 3) := by decide +kernel
theorem d_Sh_isFree_12 : decode z_Sh_isFree.2.2.1 12 = .ok (.ifnull 14, 3) := by decide +kernel
theorem d_Sh_isFree_15 : decode z_Sh_isFree.2.2.1 15 = .ok (.aload_n 0, 1) := by decide +kernel
theorem d_Sh_isFree_16 : decode z_Sh_isFree.2.2.1 16 = .ok (.getfield 108, 3) := by decide +kernel
theorem d_Sh_isFree_19 : decode z_Sh_isFree.2.2.1 19 = .ok (.getfield 112, 3) := by decide +kernel
theorem d_Sh_isFree_22 : decode z_Sh_isFree.2.2.1 22 = .ok (.iload_n 2, 1) := by decide +kernel
theorem d_Sh_isFree_23 : decode z_Sh_isFree.2.2.1 23 = .ok (.if_icmp .eq 7, 3) := by decide +kernel
theorem d_Sh_isFree_26 : decode z_Sh_isFree.2.2.1 26 = .ok (.iconst 1, 1) := by decide +kernel
theorem d_Sh_isFree_27 : decode z_Sh_isFree.2.2.1 27 = .ok (.goto 4, 3) := by decide +kernel
theorem d_Sh_isFree_30 : decode z_Sh_isFree.2.2.1 30 = .ok (.iconst 0, 1) := by decide +kernel
theorem d_Sh_isFree_31 : decode z_Sh_isFree.2.2.1 31 = .ok (.ireturn, 1) := by decide +kernel
def bd_Sh_isFree : jx_St := (sRet 1 (eIte (cAnd (cNot (cCmp0 rNe (eCl (jx_ev tb_Tb_holds) [(eA 1), (eI 2)]))) (cOr (cNull (eGf [0] 3 (eA 0))) (cCmp rNe (eGf [4] 4 (eGf [0] 3 (eA 0))) (eI 2)))) (eInt (nI 1)) (eInt (nI 0))))
theorem m_Sh_isFree : jx_Ts z_Sh_isFree 0 bd_Sh_isFree [] := by
  unfold bd_Sh_isFree
  exact (t_ret .boolean (s_ite (q4 := 31) (s_andg (s_not (s_cmp0 (s_cl (s_a1 (s_aload_n d_Sh_isFree_0 rfl) (s_a1 (s_iload_n d_Sh_isFree_1 rfl) s_a0)) (s_ecv (ve_Tb_holds (by decide) (by decide)) dc_Tb_holds (by decide) lm_Sh_131 pd_Tb_holds d_Sh_isFree_2)) (s_if_neT (tgt := 30) d_Sh_isFree_5 (by decide))) (by decide)) (by decide) (al_1 (s_org (s_nul (s_getf (s_aload_n d_Sh_isFree_8 rfl) fi_Sh_108 d_Sh_isFree_9) (s_ifnull (tgt := 26) d_Sh_isFree_12 (by decide))) (by decide) (al_1 (s_cmp (s_getf (s_getf (s_aload_n d_Sh_isFree_15 rfl) fi_Sh_108 d_Sh_isFree_16) fi_Sh_112 d_Sh_isFree_19) (s_iload_n d_Sh_isFree_22 rfl) (s_icmp_eqF (tgt := 30) d_Sh_isFree_23 (by decide))))))) (s_iconst d_Sh_isFree_26 (by decide)) d_Sh_isFree_27 (by decide) (s_iconst d_Sh_isFree_30 (by decide))) rfl (by decide) d_Sh_isFree_31)
def f_Sh_isFree : jx_Mt := jx_fn 3 3 (bd_Sh_isFree fun _ _ => none)
theorem me_Sh_isFree : jx_Me 3 z_Sh_isFree f_Sh_isFree := jx_Me.ofT (by decide) m_Sh_isFree
theorem mw_Sh_isFree : jx_mw ⟨"ExtentShelf", "isFree", "(LExtentShelf$Table;I)Z"⟩ z_Sh_isFree := ⟨rfl, rfl, by decide +kernel, ⟨by decide, by decide⟩, by decide +kernel⟩
theorem pd_Sh_isFree : (parseMethodDescriptor (⟨"ExtentShelf", "isFree", "(LExtentShelf$Table;I)Z"⟩ : MethodName).desc).map (fun d => d.parameters.length) = some 2 := by decide +kernel
abbrev tb_Sh_isFree : List (Nat × jx_Mt) := [(0, f_Sh_isFree)]
theorem ve_Sh_isFree {fr lo : Nat} (h1 : 2 ≤ fr) (h2 : 65 ≤ lo) : ∀ q ∈ tb_Sh_isFree, jx_ve ⟨"ExtentShelf", "isFree", "(LExtentShelf$Table;I)Z"⟩ 2 fr lo q.1 q.2 := tv_1 ⟨R_Shelf, F_Shelf, 5, ⟨"ExtentShelf", "isFree", "(LExtentShelf$Table;I)Z"⟩, z_Sh_isFree, rfl, by decide +kernel, mw_Sh_isFree, by decide +kernel, me_Sh_isFree, Nat.le_trans (by decide) h1, Nat.le_trans (by decide) h2⟩
theorem dc_Sh_isFree : jx_dc ⟨"ExtentShelf", "isFree", "(LExtentShelf$Table;I)Z"⟩ := ⟨⟨by decide, by decide⟩, Or.inr ⟨by decide +kernel, prog_1_method_15_code, 3, _, (by decide +kernel : Cond.code ⟨"ExtentShelf", "isFree", "(LExtentShelf$Table;I)Z"⟩ prog_1_method_15_code 3 (some .boolean) ∈ jx_tbl)⟩, "ExtentShelf", ⟨"ExtentShelf", "isFree", "(LExtentShelf$Table;I)Z"⟩, ⟨"ExtentShelf", "isFree", "(LExtentShelf$Table;I)Z"⟩, by decide +kernel, rfl⟩
/-! ExtentShelf.freeOn(LExtentShelf$Table;I)I -/
abbrev z_Sh_freeOn : jx_Z := ("ExtentShelf", "freeOn", prog_1_method_16_code, 5, some .int, 2, 65)
theorem d_Sh_freeOn_0 : decode z_Sh_freeOn.2.2.1 0 = .ok (.iconst 0, 1) := by decide +kernel
theorem d_Sh_freeOn_1 : decode z_Sh_freeOn.2.2.1 1 = .ok (.istore_n 3, 1) := by decide +kernel
theorem d_Sh_freeOn_2 : decode z_Sh_freeOn.2.2.1 2 = .ok (.iconst 0, 1) := by decide +kernel
theorem d_Sh_freeOn_3 : decode z_Sh_freeOn.2.2.1 3 = .ok (.istore 4, 2) := by decide +kernel
theorem d_Sh_freeOn_5 : decode z_Sh_freeOn.2.2.1 5 = .ok (.iload 4, 2) := by decide +kernel
theorem d_Sh_freeOn_7 : decode z_Sh_freeOn.2.2.1 7 = .ok (.aload_n 1, 1) := by decide +kernel
theorem d_Sh_freeOn_8 : decode z_Sh_freeOn.2.2.1 8 = .ok (.getfield 57, 3) := by decide +kernel
theorem d_Sh_freeOn_11 : decode z_Sh_freeOn.2.2.1 11 = .ok (.iload_n 2, 1) := by decide +kernel
theorem d_Sh_freeOn_12 : decode z_Sh_freeOn.2.2.1 12 = .ok (.iaload, 1) := by decide +kernel
theorem d_Sh_freeOn_13 : decode z_Sh_freeOn.2.2.1 13 = .ok (.if_icmp .ge 34, 3) := by decide +kernel
theorem d_Sh_freeOn_16 : decode z_Sh_freeOn.2.2.1 16 = .ok (.iload_n 3, 1) := by decide +kernel
theorem d_Sh_freeOn_17 : decode z_Sh_freeOn.2.2.1 17 = .ok (.aload_n 0, 1) := by decide +kernel
theorem d_Sh_freeOn_18 : decode z_Sh_freeOn.2.2.1 18 = .ok (.aload_n 1, 1) := by decide +kernel
theorem d_Sh_freeOn_19 : decode z_Sh_freeOn.2.2.1 19 = .ok (.iconst 1, 1) := by decide +kernel
theorem d_Sh_freeOn_20 : decode z_Sh_freeOn.2.2.1 20 = .ok (.bipush 8, 2) := by decide +kernel
theorem d_Sh_freeOn_22 : decode z_Sh_freeOn.2.2.1 22 = .ok (.iload_n 2, 1) := by decide +kernel
theorem d_Sh_freeOn_23 : decode z_Sh_freeOn.2.2.1 23 = .ok (.imul, 1) := by decide +kernel
theorem d_Sh_freeOn_24 : decode z_Sh_freeOn.2.2.1 24 = .ok (.iadd, 1) := by decide +kernel
theorem d_Sh_freeOn_25 : decode z_Sh_freeOn.2.2.1 25 = .ok (.iload 4, 2) := by decide +kernel
theorem d_Sh_freeOn_27 : decode z_Sh_freeOn.2.2.1 27 = .ok (.iadd, 1) := by decide +kernel
theorem d_Sh_freeOn_28 : decode z_Sh_freeOn.2.2.1 28 = .ok (.invokevirtual 134, 3) := by decide +kernel
theorem d_Sh_freeOn_31 : decode z_Sh_freeOn.2.2.1 31 = .ok (.ifCond .eq 7, 3) := by decide +kernel
theorem d_Sh_freeOn_34 : decode z_Sh_freeOn.2.2.1 34 = .ok (.iconst 1, 1) := by decide +kernel
theorem d_Sh_freeOn_35 : decode z_Sh_freeOn.2.2.1 35 = .ok (.goto 4, 3) := by decide +kernel
theorem d_Sh_freeOn_38 : decode z_Sh_freeOn.2.2.1 38 = .ok (.iconst 0, 1) := by decide +kernel
theorem d_Sh_freeOn_39 : decode z_Sh_freeOn.2.2.1 39 = .ok (.iadd, 1) := by decide +kernel
theorem d_Sh_freeOn_40 : decode z_Sh_freeOn.2.2.1 40 = .ok (.istore_n 3, 1) := by decide +kernel
theorem d_Sh_freeOn_41 : decode z_Sh_freeOn.2.2.1 41 = .ok (.iinc 4 1, 3) := by decide +kernel
theorem d_Sh_freeOn_44 : decode z_Sh_freeOn.2.2.1 44 = .ok (.goto (-39), 3) := by decide +kernel
theorem d_Sh_freeOn_47 : decode z_Sh_freeOn.2.2.1 47 = .ok (.iload_n 3, 1) := by decide +kernel
theorem d_Sh_freeOn_48 : decode z_Sh_freeOn.2.2.1 48 = .ok (.ireturn, 1) := by decide +kernel
def lc_Sh_freeOn_0 : jx_Cx := (cCmp rLt (eI 4) (eLd 0 (eGf [3] 1 (eA 1)) (eI 2)))
def lb_Sh_freeOn_0 : jx_St := (sSeq (sAsg 0 3 (eBin oAdd (eI 3) (eIte (cCmp0 rNe (eCl (jx_ev tb_Sh_isFree) [(eA 0), (eA 1), (eBin oAdd (eBin oAdd (eInt (nI 1)) (eBin oMul (eInt (nI 8)) (eI 2))) (eI 4))])) (eInt (nI 1)) (eInt (nI 0))))) (sInc 4 (nI 1)))
theorem ml_Sh_freeOn_0 : jx_Ts z_Sh_freeOn 5 (sWh 64 lc_Sh_freeOn_0 lb_Sh_freeOn_0) [47] := by
  unfold lc_Sh_freeOn_0 lb_Sh_freeOn_0
  exact t_wh (EA := [44]) (Fs := [47]) (E := [47]) 64 (s_cmp (s_iload d_Sh_freeOn_5) (s_load (s_getf (s_aload_n d_Sh_freeOn_7 rfl) fi_Sh_57 d_Sh_freeOn_8) (s_iload_n d_Sh_freeOn_11 rfl) (s_iald d_Sh_freeOn_12)) (s_icmp_geF (tgt := 47) d_Sh_freeOn_13 (by decide))) (by decide) (t_seq (t_asg (s_bin (s_iload_n d_Sh_freeOn_16 rfl) (s_ite (q4 := 39) (s_cmp0 (s_cl (s_a1 (s_aload_n d_Sh_freeOn_17 rfl) (s_a1 (s_aload_n d_Sh_freeOn_18 rfl) (s_a1 (s_bin (s_bin (s_iconst d_Sh_freeOn_19 (by decide)) (s_bin (s_bipush d_Sh_freeOn_20 (by decide)) (s_iload_n d_Sh_freeOn_22 rfl) (s_imul d_Sh_freeOn_23)) (s_iadd d_Sh_freeOn_24)) (s_iload d_Sh_freeOn_25) (s_iadd d_Sh_freeOn_27)) s_a0))) (s_ecv (ve_Sh_isFree (by decide) (by decide)) dc_Sh_isFree (by decide) lm_Sh_134 pd_Sh_isFree d_Sh_freeOn_28)) (s_if_eqF (tgt := 38) d_Sh_freeOn_31 (by decide))) (s_iconst d_Sh_freeOn_34 (by decide)) d_Sh_freeOn_35 (by decide) (s_iconst d_Sh_freeOn_38 (by decide))) (s_iadd d_Sh_freeOn_39)) (fun v k h => b_istore_n d_Sh_freeOn_40 rfl (by decide) h)) (t_iinc d_Sh_freeOn_41 (by decide) (by decide))) (al_1 (Or.inr ⟨-39, d_Sh_freeOn_44, by decide⟩)) (by decide)
def bd_Sh_freeOn : jx_St := (sSeq (sAsg 0 3 (eInt (nI 0))) (sSeq (sSeq (sAsg 0 4 (eInt (nI 0))) (sWh 64 lc_Sh_freeOn_0 lb_Sh_freeOn_0)) (sRet 0 (eI 3))))
theorem m_Sh_freeOn : jx_Ts z_Sh_freeOn 0 bd_Sh_freeOn [] := by
  unfold bd_Sh_freeOn
  exact (t_seq (t_asg (s_iconst d_Sh_freeOn_0 (by decide)) (fun v k h => b_istore_n d_Sh_freeOn_1 rfl (by decide) h)) (t_seq (t_seq (t_asg (s_iconst d_Sh_freeOn_2 (by decide)) (fun v k h => b_istore d_Sh_freeOn_3 (by decide) h)) ml_Sh_freeOn_0) (t_ret .int (s_iload_n d_Sh_freeOn_47 rfl) rfl (by decide) d_Sh_freeOn_48)))
def f_Sh_freeOn : jx_Mt := jx_fn 3 5 (bd_Sh_freeOn fun _ _ => none)
theorem me_Sh_freeOn : jx_Me 3 z_Sh_freeOn f_Sh_freeOn := jx_Me.ofT (by decide) m_Sh_freeOn
theorem mw_Sh_freeOn : jx_mw ⟨"ExtentShelf", "freeOn", "(LExtentShelf$Table;I)I"⟩ z_Sh_freeOn := ⟨rfl, rfl, by decide +kernel, ⟨by decide, by decide⟩, by decide +kernel⟩
theorem pd_Sh_freeOn : (parseMethodDescriptor (⟨"ExtentShelf", "freeOn", "(LExtentShelf$Table;I)I"⟩ : MethodName).desc).map (fun d => d.parameters.length) = some 2 := by decide +kernel
/-! ExtentShelf$Volume.isNeighbour(IIII)Z -/
abbrev z_Vo_isNeighbour : jx_Z := ("ExtentShelf$Volume", "isNeighbour", prog_9_method_4_code, 5, some .boolean, 0, 0)
theorem d_Vo_isNeighbour_0 : decode z_Vo_isNeighbour.2.2.1 0 = .ok (.iconst 0, 1) := by decide +kernel
theorem d_Vo_isNeighbour_1 : decode z_Vo_isNeighbour.2.2.1 1 = .ok (.ireturn, 1) := by decide +kernel
def bd_Vo_isNeighbour : jx_St := (sRet 1 (eInt (nI 0)))
theorem m_Vo_isNeighbour : jx_Ts z_Vo_isNeighbour 0 bd_Vo_isNeighbour [] := by
  unfold bd_Vo_isNeighbour
  exact (t_ret .boolean (s_iconst d_Vo_isNeighbour_0 (by decide)) rfl (by decide) d_Vo_isNeighbour_1)
def f_Vo_isNeighbour : jx_Mt := jx_fn 5 5 (bd_Vo_isNeighbour fun _ _ => none)
theorem me_Vo_isNeighbour : jx_Me 5 z_Vo_isNeighbour f_Vo_isNeighbour := jx_Me.ofT (by decide) m_Vo_isNeighbour
theorem mw_Vo_isNeighbour : jx_mw ⟨"ExtentShelf$Volume", "isNeighbour", "(IIII)Z"⟩ z_Vo_isNeighbour := ⟨rfl, rfl, by decide +kernel, ⟨by decide, by decide⟩, by decide +kernel⟩
theorem pd_Vo_isNeighbour : (parseMethodDescriptor (⟨"ExtentShelf$Volume", "isNeighbour", "(IIII)Z"⟩ : MethodName).desc).map (fun d => d.parameters.length) = some 4 := by decide +kernel
/-! ExtentShelf$Striped.isNeighbour(IIII)Z -/
abbrev z_Sr_isNeighbour : jx_Z := ("ExtentShelf$Striped", "isNeighbour", prog_6_method_3_code, 5, some .boolean, 0, 0)
theorem d_Sr_isNeighbour_0 : decode z_Sr_isNeighbour.2.2.1 0 = .ok (.iload_n 1, 1) := by decide +kernel
theorem d_Sr_isNeighbour_1 : decode z_Sr_isNeighbour.2.2.1 1 = .ok (.iload_n 3, 1) := by decide +kernel
theorem d_Sr_isNeighbour_2 : decode z_Sr_isNeighbour.2.2.1 2 = .ok (.if_icmp .eq 22, 3) := by decide +kernel
theorem d_Sr_isNeighbour_5 : decode z_Sr_isNeighbour.2.2.1 5 = .ok (.iload_n 1, 1) := by decide +kernel
theorem d_Sr_isNeighbour_6 : decode z_Sr_isNeighbour.2.2.1 6 = .ok (.aload_n 0, 1) := by decide +kernel
theorem d_Sr_isNeighbour_7 : decode z_Sr_isNeighbour.2.2.1 7 = .ok (.getfield 7, 3) := by decide +kernel
theorem d_Sr_isNeighbour_10 : decode z_Sr_isNeighbour.2.2.1 10 = .ok (.idiv, 1) := by decide +kernel
theorem d_Sr_isNeighbour_11 : decode z_Sr_isNeighbour.2.2.1 11 = .ok (.iload_n 3, 1) := by decide +kernel
theorem d_Sr_isNeighbour_12 : decode z_Sr_isNeighbour.2.2.1 12 = .ok (.aload_n 0, 1) := by decide +kernel
theorem d_Sr_isNeighbour_13 : decode z_Sr_isNeighbour.2.2.1 13 = .ok (.getfield 7, 3) := by decide +kernel
theorem d_Sr_isNeighbour_16 : decode z_Sr_isNeighbour.2.2.1 16 = .ok (.idiv, 1) := by decide +kernel
theorem d_Sr_isNeighbour_17 : decode z_Sr_isNeighbour.2.2.1 17 = .ok (.if_icmp .ne 7, 3) := by decide +kernel
theorem d_Sr_isNeighbour_20 : decode z_Sr_isNeighbour.2.2.1 20 = .ok (.iconst 1, 1) := by decide +kernel
theorem d_Sr_isNeighbour_21 : decode z_Sr_isNeighbour.2.2.1 21 = .ok (.goto 4, 3) := by decide +kernel
theorem d_Sr_isNeighbour_24 : decode z_Sr_isNeighbour.2.2.1 24 = .ok (.iconst 0, 1) := by decide +kernel
theorem d_Sr_isNeighbour_25 : decode z_Sr_isNeighbour.2.2.1 25 = .ok (.ireturn, 1) := by decide +kernel
def bd_Sr_isNeighbour : jx_St := (sRet 1 (eIte (cAnd (cCmp rNe (eI 1) (eI 3)) (cCmp rEq (eBin oDiv (eI 1) (eGf [6] 0 (eA 0))) (eBin oDiv (eI 3) (eGf [6] 0 (eA 0))))) (eInt (nI 1)) (eInt (nI 0))))
theorem m_Sr_isNeighbour : jx_Ts z_Sr_isNeighbour 0 bd_Sr_isNeighbour [] := by
  unfold bd_Sr_isNeighbour
  exact (t_ret .boolean (s_ite (q4 := 25) (s_andg (s_cmp (s_iload_n d_Sr_isNeighbour_0 rfl) (s_iload_n d_Sr_isNeighbour_1 rfl) (s_icmp_eqF (tgt := 24) d_Sr_isNeighbour_2 (by decide))) (by decide) (al_1 (s_cmp (s_bin (s_iload_n d_Sr_isNeighbour_5 rfl) (s_getf (s_aload_n d_Sr_isNeighbour_6 rfl) fi_Sr_7 d_Sr_isNeighbour_7) (s_idiv d_Sr_isNeighbour_10)) (s_bin (s_iload_n d_Sr_isNeighbour_11 rfl) (s_getf (s_aload_n d_Sr_isNeighbour_12 rfl) fi_Sr_7 d_Sr_isNeighbour_13) (s_idiv d_Sr_isNeighbour_16)) (s_icmp_neF (tgt := 24) d_Sr_isNeighbour_17 (by decide))))) (s_iconst d_Sr_isNeighbour_20 (by decide)) d_Sr_isNeighbour_21 (by decide) (s_iconst d_Sr_isNeighbour_24 (by decide))) rfl (by decide) d_Sr_isNeighbour_25)
def f_Sr_isNeighbour : jx_Mt := jx_fn 5 5 (bd_Sr_isNeighbour fun _ _ => none)
theorem me_Sr_isNeighbour : jx_Me 5 z_Sr_isNeighbour f_Sr_isNeighbour := jx_Me.ofT (by decide) m_Sr_isNeighbour
theorem mw_Sr_isNeighbour : jx_mw ⟨"ExtentShelf$Striped", "isNeighbour", "(IIII)Z"⟩ z_Sr_isNeighbour := ⟨rfl, rfl, by decide +kernel, ⟨by decide, by decide⟩, by decide +kernel⟩
theorem pd_Sr_isNeighbour : (parseMethodDescriptor (⟨"ExtentShelf$Striped", "isNeighbour", "(IIII)Z"⟩ : MethodName).desc).map (fun d => d.parameters.length) = some 4 := by decide +kernel
/-! ExtentShelf$Twinned.isNeighbour(IIII)Z -/
abbrev z_Tw_isNeighbour : jx_Z := ("ExtentShelf$Twinned", "isNeighbour", prog_8_method_4_code, 5, some .boolean, 0, 0)
theorem d_Tw_isNeighbour_0 : decode z_Tw_isNeighbour.2.2.1 0 = .ok (.iload_n 1, 1) := by decide +kernel
theorem d_Tw_isNeighbour_1 : decode z_Tw_isNeighbour.2.2.1 1 = .ok (.iload_n 3, 1) := by decide +kernel
theorem d_Tw_isNeighbour_2 : decode z_Tw_isNeighbour.2.2.1 2 = .ok (.if_icmp .ne 13, 3) := by decide +kernel
theorem d_Tw_isNeighbour_5 : decode z_Tw_isNeighbour.2.2.1 5 = .ok (.iload_n 2, 1) := by decide +kernel
theorem d_Tw_isNeighbour_6 : decode z_Tw_isNeighbour.2.2.1 6 = .ok (.iload 4, 2) := by decide +kernel
theorem d_Tw_isNeighbour_8 : decode z_Tw_isNeighbour.2.2.1 8 = .ok (.if_icmp .eq 7, 3) := by decide +kernel
theorem d_Tw_isNeighbour_11 : decode z_Tw_isNeighbour.2.2.1 11 = .ok (.iconst 1, 1) := by decide +kernel
theorem d_Tw_isNeighbour_12 : decode z_Tw_isNeighbour.2.2.1 12 = .ok (.goto 4, 3) := by decide +kernel
theorem d_Tw_isNeighbour_15 : decode z_Tw_isNeighbour.2.2.1 15 = .ok (.iconst 0, 1) := by decide +kernel
theorem d_Tw_isNeighbour_16 : decode z_Tw_isNeighbour.2.2.1 16 = .ok (.ireturn, 1) := by decide +kernel
def bd_Tw_isNeighbour : jx_St := (sRet 1 (eIte (cAnd (cCmp rEq (eI 1) (eI 3)) (cCmp rNe (eI 2) (eI 4))) (eInt (nI 1)) (eInt (nI 0))))
theorem m_Tw_isNeighbour : jx_Ts z_Tw_isNeighbour 0 bd_Tw_isNeighbour [] := by
  unfold bd_Tw_isNeighbour
  exact (t_ret .boolean (s_ite (q4 := 16) (s_andg (s_cmp (s_iload_n d_Tw_isNeighbour_0 rfl) (s_iload_n d_Tw_isNeighbour_1 rfl) (s_icmp_neF (tgt := 15) d_Tw_isNeighbour_2 (by decide))) (by decide) (al_1 (s_cmp (s_iload_n d_Tw_isNeighbour_5 rfl) (s_iload d_Tw_isNeighbour_6) (s_icmp_eqF (tgt := 15) d_Tw_isNeighbour_8 (by decide))))) (s_iconst d_Tw_isNeighbour_11 (by decide)) d_Tw_isNeighbour_12 (by decide) (s_iconst d_Tw_isNeighbour_15 (by decide))) rfl (by decide) d_Tw_isNeighbour_16)
def f_Tw_isNeighbour : jx_Mt := jx_fn 5 5 (bd_Tw_isNeighbour fun _ _ => none)
theorem me_Tw_isNeighbour : jx_Me 5 z_Tw_isNeighbour f_Tw_isNeighbour := jx_Me.ofT (by decide) m_Tw_isNeighbour
theorem mw_Tw_isNeighbour : jx_mw ⟨"ExtentShelf$Twinned", "isNeighbour", "(IIII)Z"⟩ z_Tw_isNeighbour := ⟨rfl, rfl, by decide +kernel, ⟨by decide, by decide⟩, by decide +kernel⟩
theorem pd_Tw_isNeighbour : (parseMethodDescriptor (⟨"ExtentShelf$Twinned", "isNeighbour", "(IIII)Z"⟩ : MethodName).desc).map (fun d => d.parameters.length) = some 4 := by decide +kernel
abbrev tb_Vo_isNeighbour : List (Nat × jx_Mt) := [(5, f_Vo_isNeighbour), (6, f_Sr_isNeighbour), (7, f_Tw_isNeighbour)]
theorem ve_Vo_isNeighbour {fr lo : Nat} (h1 : 1 ≤ fr) (h2 : 32 ≤ lo) : ∀ q ∈ tb_Vo_isNeighbour, jx_ve ⟨"ExtentShelf$Volume", "isNeighbour", "(IIII)Z"⟩ 4 fr lo q.1 q.2 := tv_3 ⟨R_Linear, F_Linear, 3, ⟨"ExtentShelf$Volume", "isNeighbour", "(IIII)Z"⟩, z_Vo_isNeighbour, rfl, by decide +kernel, mw_Vo_isNeighbour, by decide +kernel, me_Vo_isNeighbour, Nat.le_trans (by decide) h1, Nat.le_trans (by decide) h2⟩ ⟨R_Striped, F_Striped, 3, ⟨"ExtentShelf$Striped", "isNeighbour", "(IIII)Z"⟩, z_Sr_isNeighbour, rfl, by decide +kernel, mw_Sr_isNeighbour, by decide +kernel, me_Sr_isNeighbour, Nat.le_trans (by decide) h1, Nat.le_trans (by decide) h2⟩ ⟨R_Twinned, F_Twinned, 3, ⟨"ExtentShelf$Twinned", "isNeighbour", "(IIII)Z"⟩, z_Tw_isNeighbour, rfl, by decide +kernel, mw_Tw_isNeighbour, by decide +kernel, me_Tw_isNeighbour, Nat.le_trans (by decide) h1, Nat.le_trans (by decide) h2⟩
theorem dc_Vo_isNeighbour : jx_dc ⟨"ExtentShelf$Volume", "isNeighbour", "(IIII)Z"⟩ := ⟨⟨by decide, by decide⟩, Or.inr ⟨by decide +kernel, prog_9_method_4_code, 5, _, (by decide +kernel : Cond.code ⟨"ExtentShelf$Volume", "isNeighbour", "(IIII)Z"⟩ prog_9_method_4_code 5 (some .boolean) ∈ jx_tbl)⟩, "ExtentShelf$Linear", ⟨"ExtentShelf$Volume", "said", "()I"⟩, ⟨"ExtentShelf$Volume", "said", "()I"⟩, by decide +kernel, rfl⟩
/-! ExtentShelf.isAimed(LExtentShelf$Volume;IIII)Z -/
abbrev z_Sh_isAimed : jx_Z := ("ExtentShelf", "isAimed", prog_1_method_17_code, 6, some .boolean, 1, 32)
theorem d_Sh_isAimed_0 : decode z_Sh_isAimed.2.2.1 0 = .ok (.aload_n 0, 1) := by decide +kernel
theorem d_Sh_isAimed_1 : decode z_Sh_isAimed.2.2.1 1 = .ok (.getfield 108, 3) := by decide +kernel
theorem d_Sh_isAimed_4 : decode z_Sh_isAimed.2.2.1 4 = .ok (.ifnull 71, 3) := by decide +kernel
theorem d_Sh_isAimed_7 : decode z_Sh_isAimed.2.2.1 7 = .ok (.aload_n 0, 1) := by decide +kernel
theorem d_Sh_isAimed_8 : decode z_Sh_isAimed.2.2.1 8 = .ok (.getfield 108, 3) := by decide +kernel
theorem d_Sh_isAimed_11 : decode z_Sh_isAimed.2.2.1 11 = .ok (.getfield 112, 3) := by decide +kernel
theorem d_Sh_isAimed_14 : decode z_Sh_isAimed.2.2.1 14 = .ok (.ifCond .eq 61, 3) := by decide +kernel
theorem d_Sh_isAimed_17 : decode z_Sh_isAimed.2.2.1 17 = .ok (.aload_n 0, 1) := by decide +kernel
theorem d_Sh_isAimed_18 : decode z_Sh_isAimed.2.2.1 18 = .ok (.getfield 108, 3) := by decide +kernel
theorem d_Sh_isAimed_21 : decode z_Sh_isAimed.2.2.1 21 = .ok (.getfield 117, 3) := by decide +kernel
theorem d_Sh_isAimed_24 : decode z_Sh_isAimed.2.2.1 24 = .ok (.iload_n 2, 1) := by decide +kernel
theorem d_Sh_isAimed_25 : decode z_Sh_isAimed.2.2.1 25 = .ok (.if_icmp .ne 50, 3) := by decide +kernel
theorem d_Sh_isAimed_28 : decode z_Sh_isAimed.2.2.1 28 = .ok (.aload_n 0, 1) := by decide +kernel
theorem d_Sh_isAimed_29 : decode z_Sh_isAimed.2.2.1 29 = .ok (.getfield 108, 3) := by decide +kernel
theorem d_Sh_isAimed_32 : decode z_Sh_isAimed.2.2.1 32 = .ok (.getfield 112, 3) := by decide +kernel
theorem d_Sh_isAimed_35 : decode z_Sh_isAimed.2.2.1 35 = .ok (.invokestatic 78, 3) := by decide +kernel
theorem d_Sh_isAimed_38 : decode z_Sh_isAimed.2.2.1 38 = .ok (.iload 5, 2) := by decide +kernel
theorem d_Sh_isAimed_40 : decode z_Sh_isAimed.2.2.1 40 = .ok (.if_icmp .ne 35, 3) := by decide +kernel
theorem d_Sh_isAimed_43 : decode z_Sh_isAimed.2.2.1 43 = .ok (.aload_n 1, 1) := by decide +kernel
theorem d_Sh_isAimed_44 : decode z_Sh_isAimed.2.2.1 44 = .ok (.iload_n 3, 1) := by decide +kernel
theorem d_Sh_isAimed_45 : decode z_Sh_isAimed.2.2.1 45 = .ok (.iload 4, 2) := by decide +kernel
theorem d_Sh_isAimed_47 : decode z_Sh_isAimed.2.2.1 47 = .ok (.aload_n 0, 1) := by decide +kernel
theorem d_Sh_isAimed_48 : decode z_Sh_isAimed.2.2.1 48 = .ok (.getfield 108, 3) := by decide +kernel
theorem d_Sh_isAimed_51 : decode z_Sh_isAimed.2.2.1 51 = .ok (.getfield 125, 3) := by decide +kernel
theorem d_Sh_isAimed_54 : decode z_Sh_isAimed.2.2.1 54 = .ok (.iconst 2, 1) := by decide +kernel
theorem d_Sh_isAimed_55 : decode z_Sh_isAimed.2.2.1 55 = .ok (.idiv, 1) := by decide +kernel
theorem d_Sh_isAimed_56 : decode z_Sh_isAimed.2.2.1 56 = .ok (.aload_n 0, 1) := by decide +kernel
theorem d_Sh_isAimed_57 : decode z_Sh_isAimed.2.2.1 57 = .ok (.getfield 108, 3) := by decide +kernel
theorem d_Sh_isAimed_60 : decode z_Sh_isAimed.2.2.1 60 = .ok (.getfield 125, 3) := by decide +kernel
theorem d_Sh_isAimed_63 : decode z_Sh_isAimed.2.2.1 63 = .ok (.iconst 2, 1) := by decide +kernel
theorem d_Sh_isAimed_64 : decode z_Sh_isAimed.2.2.1 64 = .ok (.irem, 1) := by decide +kernel
theorem d_Sh_isAimed_65 : decode z_Sh_isAimed.2.2.1 65 = .ok (.invokevirtual 138, 3) := by decide +kernel
theorem d_Sh_isAimed_68 : decode z_Sh_isAimed.2.2.1 68 = .ok (.ifCond .eq 7, 3) := by decide +kernel
theorem d_Sh_isAimed_71 : decode z_Sh_isAimed.2.2.1 71 = .ok (.iconst 1, 1) := by decide +kernel
theorem d_Sh_isAimed_72 : decode z_Sh_isAimed.2.2.1 72 = .ok (.goto 4, 3) := by decide +kernel
theorem d_Sh_isAimed_75 : decode z_Sh_isAimed.2.2.1 75 = .ok (.iconst 0, 1) := by decide +kernel
theorem d_Sh_isAimed_76 : decode z_Sh_isAimed.2.2.1 76 = .ok (.ireturn, 1) := by decide +kernel
def bd_Sh_isAimed : jx_St := (sRet 1 (eIte (cAnd (cAnd (cAnd (cAnd (cNot (cNull (eGf [0] 3 (eA 0)))) (cCmp0 rNe (eGf [4] 4 (eGf [0] 3 (eA 0))))) (cCmp rEq (eGf [4] 1 (eGf [0] 3 (eA 0))) (eI 2))) (cCmp rEq (eCl (jx_ec f_Sh_diskOf) [(eGf [4] 4 (eGf [0] 3 (eA 0)))]) (eI 5))) (cCmp0 rNe (eCl (jx_ev tb_Vo_isNeighbour) [(eA 1), (eI 3), (eI 4), (eBin oDiv (eGf [4] 2 (eGf [0] 3 (eA 0))) (eInt (nI 2))), (eBin oRem (eGf [4] 2 (eGf [0] 3 (eA 0))) (eInt (nI 2)))]))) (eInt (nI 1)) (eInt (nI 0))))
theorem m_Sh_isAimed : jx_Ts z_Sh_isAimed 0 bd_Sh_isAimed [] := by
  unfold bd_Sh_isAimed
  exact (t_ret .boolean (s_ite (q4 := 76) (s_andg (s_andg (s_andg (s_andg (s_not (s_nul (s_getf (s_aload_n d_Sh_isAimed_0 rfl) fi_Sh_108 d_Sh_isAimed_1) (s_ifnull (tgt := 75) d_Sh_isAimed_4 (by decide))) (by decide)) (by decide) (al_1 (s_cmp0 (s_getf (s_getf (s_aload_n d_Sh_isAimed_7 rfl) fi_Sh_108 d_Sh_isAimed_8) fi_Sh_112 d_Sh_isAimed_11) (s_if_eqF (tgt := 75) d_Sh_isAimed_14 (by decide))))) (by decide) (al_1 (s_cmp (s_getf (s_getf (s_aload_n d_Sh_isAimed_17 rfl) fi_Sh_108 d_Sh_isAimed_18) fi_Sh_117 d_Sh_isAimed_21) (s_iload_n d_Sh_isAimed_24 rfl) (s_icmp_neF (tgt := 75) d_Sh_isAimed_25 (by decide))))) (by decide) (al_1 (s_cmp (s_cl (s_a1 (s_getf (s_getf (s_aload_n d_Sh_isAimed_28 rfl) fi_Sh_108 d_Sh_isAimed_29) fi_Sh_112 d_Sh_isAimed_32) s_a0) (s_ecs me_Sh_diskOf mw_Sh_diskOf (by decide) (by decide) (by decide) lm_Sh_78 w_st_Sh_diskOf w_in_Sh pd_Sh_diskOf d_Sh_isAimed_35)) (s_iload d_Sh_isAimed_38) (s_icmp_neF (tgt := 75) d_Sh_isAimed_40 (by decide))))) (by decide) (al_1 (s_cmp0 (s_cl (s_a1 (s_aload_n d_Sh_isAimed_43 rfl) (s_a1 (s_iload_n d_Sh_isAimed_44 rfl) (s_a1 (s_iload d_Sh_isAimed_45) (s_a1 (s_bin (s_getf (s_getf (s_aload_n d_Sh_isAimed_47 rfl) fi_Sh_108 d_Sh_isAimed_48) fi_Sh_125 d_Sh_isAimed_51) (s_iconst d_Sh_isAimed_54 (by decide)) (s_idiv d_Sh_isAimed_55)) (s_a1 (s_bin (s_getf (s_getf (s_aload_n d_Sh_isAimed_56 rfl) fi_Sh_108 d_Sh_isAimed_57) fi_Sh_125 d_Sh_isAimed_60) (s_iconst d_Sh_isAimed_63 (by decide)) (s_irem d_Sh_isAimed_64)) s_a0))))) (s_ecv (ve_Vo_isNeighbour (by decide) (by decide)) dc_Vo_isNeighbour (by decide) lm_Sh_138 pd_Vo_isNeighbour d_Sh_isAimed_65)) (s_if_eqF (tgt := 75) d_Sh_isAimed_68 (by decide))))) (s_iconst d_Sh_isAimed_71 (by decide)) d_Sh_isAimed_72 (by decide) (s_iconst d_Sh_isAimed_75 (by decide))) rfl (by decide) d_Sh_isAimed_76)
def f_Sh_isAimed : jx_Mt := jx_fn 6 6 (bd_Sh_isAimed fun _ _ => none)
theorem me_Sh_isAimed : jx_Me 6 z_Sh_isAimed f_Sh_isAimed := jx_Me.ofT (by decide) m_Sh_isAimed
theorem mw_Sh_isAimed : jx_mw ⟨"ExtentShelf", "isAimed", "(LExtentShelf$Volume;IIII)Z"⟩ z_Sh_isAimed := ⟨rfl, rfl, by decide +kernel, ⟨by decide, by decide⟩, by decide +kernel⟩
theorem pd_Sh_isAimed : (parseMethodDescriptor (⟨"ExtentShelf", "isAimed", "(LExtentShelf$Volume;IIII)Z"⟩ : MethodName).desc).map (fun d => d.parameters.length) = some 5 := by decide +kernel
abbrev tb_Sh_freeOn : List (Nat × jx_Mt) := [(0, f_Sh_freeOn)]
theorem ve_Sh_freeOn {fr lo : Nat} (h1 : 3 ≤ fr) (h2 : 97 ≤ lo) : ∀ q ∈ tb_Sh_freeOn, jx_ve ⟨"ExtentShelf", "freeOn", "(LExtentShelf$Table;I)I"⟩ 2 fr lo q.1 q.2 := tv_1 ⟨R_Shelf, F_Shelf, 5, ⟨"ExtentShelf", "freeOn", "(LExtentShelf$Table;I)I"⟩, z_Sh_freeOn, rfl, by decide +kernel, mw_Sh_freeOn, by decide +kernel, me_Sh_freeOn, Nat.le_trans (by decide) h1, Nat.le_trans (by decide) h2⟩
theorem dc_Sh_freeOn : jx_dc ⟨"ExtentShelf", "freeOn", "(LExtentShelf$Table;I)I"⟩ := ⟨⟨by decide, by decide⟩, Or.inr ⟨by decide +kernel, prog_1_method_16_code, 5, _, (by decide +kernel : Cond.code ⟨"ExtentShelf", "freeOn", "(LExtentShelf$Table;I)I"⟩ prog_1_method_16_code 5 (some .int) ∈ jx_tbl)⟩, "ExtentShelf", ⟨"ExtentShelf", "freeOn", "(LExtentShelf$Table;I)I"⟩, ⟨"ExtentShelf", "freeOn", "(LExtentShelf$Table;I)I"⟩, by decide +kernel, rfl⟩
/-! ExtentShelf$Volume.hasNeighbourOn(III)Z -/
abbrev z_Vo_hasNeighbourOn : jx_Z := ("ExtentShelf$Volume", "hasNeighbourOn", prog_9_method_9_code, 6, some .boolean, 1, 32)
theorem d_Vo_hasNeighbourOn_0 : decode z_Vo_hasNeighbourOn.2.2.1 0 = .ok (.iconst 0, 1) := by decide +kernel
theorem d_Vo_hasNeighbourOn_1 : decode z_Vo_hasNeighbourOn.2.2.1 1 = .ok (.istore 4, 2) := by decide +kernel
theorem d_Vo_hasNeighbourOn_3 : decode z_Vo_hasNeighbourOn.2.2.1 3 = .ok (.iconst 0, 1) := by decide +kernel
theorem d_Vo_hasNeighbourOn_4 : decode z_Vo_hasNeighbourOn.2.2.1 4 = .ok (.istore 5, 2) := by decide +kernel
theorem d_Vo_hasNeighbourOn_6 : decode z_Vo_hasNeighbourOn.2.2.1 6 = .ok (.iload 5, 2) := by decide +kernel
theorem d_Vo_hasNeighbourOn_8 : decode z_Vo_hasNeighbourOn.2.2.1 8 = .ok (.iconst 2, 1) := by decide +kernel
theorem d_Vo_hasNeighbourOn_9 : decode z_Vo_hasNeighbourOn.2.2.1 9 = .ok (.aload_n 0, 1) := by decide +kernel
theorem d_Vo_hasNeighbourOn_10 : decode z_Vo_hasNeighbourOn.2.2.1 10 = .ok (.getfield 19, 3) := by decide +kernel
theorem d_Vo_hasNeighbourOn_13 : decode z_Vo_hasNeighbourOn.2.2.1 13 = .ok (.imul, 1) := by decide +kernel
theorem d_Vo_hasNeighbourOn_14 : decode z_Vo_hasNeighbourOn.2.2.1 14 = .ok (.if_icmp .ge 62, 3) := by decide +kernel
theorem d_Vo_hasNeighbourOn_17 : decode z_Vo_hasNeighbourOn.2.2.1 17 = .ok (.iload 4, 2) := by decide +kernel
theorem d_Vo_hasNeighbourOn_19 : decode z_Vo_hasNeighbourOn.2.2.1 19 = .ok (.ifCond .ne 44, 3) := by decide +kernel
theorem d_Vo_hasNeighbourOn_22 : decode z_Vo_hasNeighbourOn.2.2.1 22 = .ok (.aload_n 0, 1) := by decide +kernel
theorem d_Vo_hasNeighbourOn_23 : decode z_Vo_hasNeighbourOn.2.2.1 23 = .ok (.getfield 9, 3) := by decide +kernel
theorem d_Vo_hasNeighbourOn_26 : decode z_Vo_hasNeighbourOn.2.2.1 26 = .ok (.iload 5, 2) := by decide +kernel
theorem d_Vo_hasNeighbourOn_28 : decode z_Vo_hasNeighbourOn.2.2.1 28 = .ok (.iaload, 1) := by decide +kernel
theorem d_Vo_hasNeighbourOn_29 : decode z_Vo_hasNeighbourOn.2.2.1 29 = .ok (.ifCond .eq 38, 3) := by decide +kernel
theorem d_Vo_hasNeighbourOn_32 : decode z_Vo_hasNeighbourOn.2.2.1 32 = .ok (.aload_n 0, 1) := by decide +kernel
theorem d_Vo_hasNeighbourOn_33 : decode z_Vo_hasNeighbourOn.2.2.1 33 = .ok (.getfield 9, 3) := by decide +kernel
theorem d_Vo_hasNeighbourOn_36 : decode z_Vo_hasNeighbourOn.2.2.1 36 = .ok (.iload 5, 2) := by decide +kernel
theorem d_Vo_hasNeighbourOn_38 : decode z_Vo_hasNeighbourOn.2.2.1 38 = .ok (.iaload, 1) := by decide +kernel
theorem d_Vo_hasNeighbourOn_39 : decode z_Vo_hasNeighbourOn.2.2.1 39 = .ok (.invokestatic 26, 3) := by decide +kernel
theorem d_Vo_hasNeighbourOn_42 : decode z_Vo_hasNeighbourOn.2.2.1 42 = .ok (.iload_n 3, 1) := by decide +kernel
theorem d_Vo_hasNeighbourOn_43 : decode z_Vo_hasNeighbourOn.2.2.1 43 = .ok (.if_icmp .ne 24, 3) := by decide +kernel
theorem d_Vo_hasNeighbourOn_46 : decode z_Vo_hasNeighbourOn.2.2.1 46 = .ok (.aload_n 0, 1) := by decide +kernel
theorem d_Vo_hasNeighbourOn_47 : decode z_Vo_hasNeighbourOn.2.2.1 47 = .ok (.iload_n 1, 1) := by decide +kernel
theorem d_Vo_hasNeighbourOn_48 : decode z_Vo_hasNeighbourOn.2.2.1 48 = .ok (.iload_n 2, 1) := by decide +kernel
theorem d_Vo_hasNeighbourOn_49 : decode z_Vo_hasNeighbourOn.2.2.1 49 = .ok (.iload 5, 2) := by decide +kernel
theorem d_Vo_hasNeighbourOn_51 : decode z_Vo_hasNeighbourOn.2.2.1 51 = .ok (.iconst 2, 1) := by decide +kernel
theorem d_Vo_hasNeighbourOn_52 : decode z_Vo_hasNeighbourOn.2.2.1 52 = .ok (.idiv, 1) := by decide +kernel
theorem d_Vo_hasNeighbourOn_53 : decode z_Vo_hasNeighbourOn.2.2.1 53 = .ok (.iload 5, 2) := by decide +kernel
theorem d_Vo_hasNeighbourOn_55 : decode z_Vo_hasNeighbourOn.2.2.1 55 = .ok (.iconst 2, 1) := by decide +kernel
theorem d_Vo_hasNeighbourOn_56 : decode z_Vo_hasNeighbourOn.2.2.1 56 = .ok (.irem, 1) := by decide +kernel
theorem d_Vo_hasNeighbourOn_57 : decode z_Vo_hasNeighbourOn.2.2.1 57 = .ok (.invokevirtual 30, 3) := by decide +kernel
theorem d_Vo_hasNeighbourOn_60 : decode z_Vo_hasNeighbourOn.2.2.1 60 = .ok (.ifCond .eq 7, 3) := by decide +kernel
theorem d_Vo_hasNeighbourOn_63 : decode z_Vo_hasNeighbourOn.2.2.1 63 = .ok (.iconst 1, 1) := by decide +kernel
theorem d_Vo_hasNeighbourOn_64 : decode z_Vo_hasNeighbourOn.2.2.1 64 = .ok (.goto 4, 3) := by decide +kernel
theorem d_Vo_hasNeighbourOn_67 : decode z_Vo_hasNeighbourOn.2.2.1 67 = .ok (.iconst 0, 1) := by decide +kernel
theorem d_Vo_hasNeighbourOn_68 : decode z_Vo_hasNeighbourOn.2.2.1 68 = .ok (.istore 4, 2) := by decide +kernel
theorem d_Vo_hasNeighbourOn_70 : decode z_Vo_hasNeighbourOn.2.2.1 70 = .ok (.iinc 5 1, 3) := by decide +kernel
theorem d_Vo_hasNeighbourOn_73 : decode z_Vo_hasNeighbourOn.2.2.1 73 = .ok (.goto (-67), 3) := by decide +kernel
theorem d_Vo_hasNeighbourOn_76 : decode z_Vo_hasNeighbourOn.2.2.1 76 = .ok (.iload 4, 2) := by decide +kernel
theorem d_Vo_hasNeighbourOn_78 : decode z_Vo_hasNeighbourOn.2.2.1 78 = .ok (.ireturn, 1) := by decide +kernel
def lc_Vo_hasNeighbourOn_0 : jx_Cx := (cCmp rLt (eI 5) (eBin oMul (eInt (nI 2)) (eGf [5, 6, 7] 1 (eA 0))))
def lb_Vo_hasNeighbourOn_0 : jx_St := (sSeq (sAsg 0 4 (eIte (cOr (cCmp0 rNe (eI 4)) (cAnd (cAnd (cCmp0 rNe (eLd 0 (eGf [5, 6, 7] 2 (eA 0)) (eI 5))) (cCmp rEq (eCl (jx_ec f_Sh_diskOf) [(eLd 0 (eGf [5, 6, 7] 2 (eA 0)) (eI 5))]) (eI 3))) (cCmp0 rNe (eCl (jx_ev tb_Vo_isNeighbour) [(eA 0), (eI 1), (eI 2), (eBin oDiv (eI 5) (eInt (nI 2))), (eBin oRem (eI 5) (eInt (nI 2)))])))) (eInt (nI 1)) (eInt (nI 0)))) (sInc 5 (nI 1)))
theorem ml_Vo_hasNeighbourOn_0 : jx_Ts z_Vo_hasNeighbourOn 6 (sWh 64 lc_Vo_hasNeighbourOn_0 lb_Vo_hasNeighbourOn_0) [76] := by
  unfold lc_Vo_hasNeighbourOn_0 lb_Vo_hasNeighbourOn_0
  exact t_wh (EA := [73]) (Fs := [76]) (E := [76]) 64 (s_cmp (s_iload d_Vo_hasNeighbourOn_6) (s_bin (s_iconst d_Vo_hasNeighbourOn_8 (by decide)) (s_getf (s_aload_n d_Vo_hasNeighbourOn_9 rfl) fi_Vo_19 d_Vo_hasNeighbourOn_10) (s_imul d_Vo_hasNeighbourOn_13)) (s_icmp_geF (tgt := 76) d_Vo_hasNeighbourOn_14 (by decide))) (by decide) (t_seq (t_asg (s_ite (q4 := 68) (s_org (s_cmp0 (s_iload d_Vo_hasNeighbourOn_17) (s_if_neT (tgt := 63) d_Vo_hasNeighbourOn_19 (by decide))) (by decide) (al_1 (s_andg (s_andg (s_cmp0 (s_load (s_getf (s_aload_n d_Vo_hasNeighbourOn_22 rfl) fi_Vo_9 d_Vo_hasNeighbourOn_23) (s_iload d_Vo_hasNeighbourOn_26) (s_iald d_Vo_hasNeighbourOn_28)) (s_if_eqF (tgt := 67) d_Vo_hasNeighbourOn_29 (by decide))) (by decide) (al_1 (s_cmp (s_cl (s_a1 (s_load (s_getf (s_aload_n d_Vo_hasNeighbourOn_32 rfl) fi_Vo_9 d_Vo_hasNeighbourOn_33) (s_iload d_Vo_hasNeighbourOn_36) (s_iald d_Vo_hasNeighbourOn_38)) s_a0) (s_ecs me_Sh_diskOf mw_Sh_diskOf (by decide) (by decide) (by decide) lm_Vo_26 w_st_Sh_diskOf w_in_Sh pd_Sh_diskOf d_Vo_hasNeighbourOn_39)) (s_iload_n d_Vo_hasNeighbourOn_42 rfl) (s_icmp_neF (tgt := 67) d_Vo_hasNeighbourOn_43 (by decide))))) (by decide) (al_1 (s_cmp0 (s_cl (s_a1 (s_aload_n d_Vo_hasNeighbourOn_46 rfl) (s_a1 (s_iload_n d_Vo_hasNeighbourOn_47 rfl) (s_a1 (s_iload_n d_Vo_hasNeighbourOn_48 rfl) (s_a1 (s_bin (s_iload d_Vo_hasNeighbourOn_49) (s_iconst d_Vo_hasNeighbourOn_51 (by decide)) (s_idiv d_Vo_hasNeighbourOn_52)) (s_a1 (s_bin (s_iload d_Vo_hasNeighbourOn_53) (s_iconst d_Vo_hasNeighbourOn_55 (by decide)) (s_irem d_Vo_hasNeighbourOn_56)) s_a0))))) (s_ecv (ve_Vo_isNeighbour (by decide) (by decide)) dc_Vo_isNeighbour (by decide) lm_Vo_30 pd_Vo_isNeighbour d_Vo_hasNeighbourOn_57)) (s_if_eqF (tgt := 67) d_Vo_hasNeighbourOn_60 (by decide))))))) (s_iconst d_Vo_hasNeighbourOn_63 (by decide)) d_Vo_hasNeighbourOn_64 (by decide) (s_iconst d_Vo_hasNeighbourOn_67 (by decide))) (fun v k h => b_istore d_Vo_hasNeighbourOn_68 (by decide) h)) (t_iinc d_Vo_hasNeighbourOn_70 (by decide) (by decide))) (al_1 (Or.inr ⟨-67, d_Vo_hasNeighbourOn_73, by decide⟩)) (by decide)
def bd_Vo_hasNeighbourOn : jx_St := (sSeq (sAsg 0 4 (eInt (nI 0))) (sSeq (sSeq (sAsg 0 5 (eInt (nI 0))) (sWh 64 lc_Vo_hasNeighbourOn_0 lb_Vo_hasNeighbourOn_0)) (sRet 1 (eI 4))))
theorem m_Vo_hasNeighbourOn : jx_Ts z_Vo_hasNeighbourOn 0 bd_Vo_hasNeighbourOn [] := by
  unfold bd_Vo_hasNeighbourOn
  exact (t_seq (t_asg (s_iconst d_Vo_hasNeighbourOn_0 (by decide)) (fun v k h => b_istore d_Vo_hasNeighbourOn_1 (by decide) h)) (t_seq (t_seq (t_asg (s_iconst d_Vo_hasNeighbourOn_3 (by decide)) (fun v k h => b_istore d_Vo_hasNeighbourOn_4 (by decide) h)) ml_Vo_hasNeighbourOn_0) (t_ret .boolean (s_iload d_Vo_hasNeighbourOn_76) rfl (by decide) d_Vo_hasNeighbourOn_78)))
def f_Vo_hasNeighbourOn : jx_Mt := jx_fn 4 6 (bd_Vo_hasNeighbourOn fun _ _ => none)
theorem me_Vo_hasNeighbourOn : jx_Me 4 z_Vo_hasNeighbourOn f_Vo_hasNeighbourOn := jx_Me.ofT (by decide) m_Vo_hasNeighbourOn
theorem mw_Vo_hasNeighbourOn : jx_mw ⟨"ExtentShelf$Volume", "hasNeighbourOn", "(III)Z"⟩ z_Vo_hasNeighbourOn := ⟨rfl, rfl, by decide +kernel, ⟨by decide, by decide⟩, by decide +kernel⟩
theorem pd_Vo_hasNeighbourOn : (parseMethodDescriptor (⟨"ExtentShelf$Volume", "hasNeighbourOn", "(III)Z"⟩ : MethodName).desc).map (fun d => d.parameters.length) = some 3 := by decide +kernel
abbrev tb_Vo_hasNeighbourOn : List (Nat × jx_Mt) := [(5, f_Vo_hasNeighbourOn), (6, f_Vo_hasNeighbourOn), (7, f_Vo_hasNeighbourOn)]
theorem ve_Vo_hasNeighbourOn {fr lo : Nat} (h1 : 2 ≤ fr) (h2 : 65 ≤ lo) : ∀ q ∈ tb_Vo_hasNeighbourOn, jx_ve ⟨"ExtentShelf$Volume", "hasNeighbourOn", "(III)Z"⟩ 3 fr lo q.1 q.2 := tv_3 ⟨R_Linear, F_Linear, 3, ⟨"ExtentShelf$Volume", "hasNeighbourOn", "(III)Z"⟩, z_Vo_hasNeighbourOn, rfl, by decide +kernel, mw_Vo_hasNeighbourOn, by decide +kernel, me_Vo_hasNeighbourOn, Nat.le_trans (by decide) h1, Nat.le_trans (by decide) h2⟩ ⟨R_Striped, F_Striped, 3, ⟨"ExtentShelf$Volume", "hasNeighbourOn", "(III)Z"⟩, z_Vo_hasNeighbourOn, rfl, by decide +kernel, mw_Vo_hasNeighbourOn, by decide +kernel, me_Vo_hasNeighbourOn, Nat.le_trans (by decide) h1, Nat.le_trans (by decide) h2⟩ ⟨R_Twinned, F_Twinned, 3, ⟨"ExtentShelf$Volume", "hasNeighbourOn", "(III)Z"⟩, z_Vo_hasNeighbourOn, rfl, by decide +kernel, mw_Vo_hasNeighbourOn, by decide +kernel, me_Vo_hasNeighbourOn, Nat.le_trans (by decide) h1, Nat.le_trans (by decide) h2⟩
theorem dc_Vo_hasNeighbourOn : jx_dc ⟨"ExtentShelf$Volume", "hasNeighbourOn", "(III)Z"⟩ := ⟨⟨by decide, by decide⟩, Or.inr ⟨by decide +kernel, prog_9_method_9_code, 6, _, (by decide +kernel : Cond.code ⟨"ExtentShelf$Volume", "hasNeighbourOn", "(III)Z"⟩ prog_9_method_9_code 6 (some .boolean) ∈ jx_tbl)⟩, "ExtentShelf$Linear", ⟨"ExtentShelf$Volume", "said", "()I"⟩, ⟨"ExtentShelf$Volume", "said", "()I"⟩, by decide +kernel, rfl⟩
abbrev tb_Sh_isAimed : List (Nat × jx_Mt) := [(0, f_Sh_isAimed)]
theorem ve_Sh_isAimed {fr lo : Nat} (h1 : 2 ≤ fr) (h2 : 65 ≤ lo) : ∀ q ∈ tb_Sh_isAimed, jx_ve ⟨"ExtentShelf", "isAimed", "(LExtentShelf$Volume;IIII)Z"⟩ 5 fr lo q.1 q.2 := tv_1 ⟨R_Shelf, F_Shelf, 5, ⟨"ExtentShelf", "isAimed", "(LExtentShelf$Volume;IIII)Z"⟩, z_Sh_isAimed, rfl, by decide +kernel, mw_Sh_isAimed, by decide +kernel, me_Sh_isAimed, Nat.le_trans (by decide) h1, Nat.le_trans (by decide) h2⟩
theorem dc_Sh_isAimed : jx_dc ⟨"ExtentShelf", "isAimed", "(LExtentShelf$Volume;IIII)Z"⟩ := ⟨⟨by decide, by decide⟩, Or.inr ⟨by decide +kernel, prog_1_method_17_code, 6, _, (by decide +kernel : Cond.code ⟨"ExtentShelf", "isAimed", "(LExtentShelf$Volume;IIII)Z"⟩ prog_1_method_17_code 6 (some .boolean) ∈ jx_tbl)⟩, "ExtentShelf", ⟨"ExtentShelf", "isAimed", "(LExtentShelf$Volume;IIII)Z"⟩, ⟨"ExtentShelf", "isAimed", "(LExtentShelf$Volume;IIII)Z"⟩, by decide +kernel, rfl⟩
/-! ExtentShelf.room(LExtentShelf$Table;IIII)I -/
abbrev z_Sh_room : jx_Z := ("ExtentShelf", "room", prog_1_method_18_code, 13, some .int, 3, 97)
theorem d_Sh_room_0 : decode z_Sh_room.2.2.1 0 = .ok (.aload_n 1, 1) := by decide +kernel
theorem d_Sh_room_1 : decode z_Sh_room.2.2.1 1 = .ok (.getfield 71, 3) := by decide +kernel
theorem d_Sh_room_4 : decode z_Sh_room.2.2.1 4 = .ok (.iload_n 2, 1) := by decide +kernel
theorem d_Sh_room_5 : decode z_Sh_room.2.2.1 5 = .ok (.aaload, 1) := by decide +kernel
theorem d_Sh_room_6 : decode z_Sh_room.2.2.1 6 = .ok (.astore 6, 2) := by decide +kernel
theorem d_Sh_room_8 : decode z_Sh_room.2.2.1 8 = .ok (.iconst (-1), 1) := by decide +kernel
theorem d_Sh_room_9 : decode z_Sh_room.2.2.1 9 = .ok (.istore 7, 2) := by decide +kernel
theorem d_Sh_room_11 : decode z_Sh_room.2.2.1 11 = .ok (.aload_n 0, 1) := by decide +kernel
theorem d_Sh_room_12 : decode z_Sh_room.2.2.1 12 = .ok (.getfield 12, 3) := by decide +kernel
theorem d_Sh_room_15 : decode z_Sh_room.2.2.1 15 = .ok (.astore 8, 2) := by decide +kernel
theorem d_Sh_room_17 : decode z_Sh_room.2.2.1 17 = .ok (.aload 8, 2) := by decide +kernel
theorem d_Sh_room_19 : decode z_Sh_room.2.2.1 19 = .ok (.arraylength, 1) := by decide +kernel
theorem d_Sh_room_20 : decode z_Sh_room.2.2.1 20 = .ok (.istore 9, 2) := by decide +kernel
theorem d_Sh_room_22 : decode z_Sh_room.2.2.1 22 = .ok (.iconst 0, 1) := by decide +kernel
theorem d_Sh_room_23 : decode z_Sh_room.2.2.1 23 = .ok (.istore 10, 2) := by decide +kernel
theorem d_Sh_room_25 : decode z_Sh_room.2.2.1 25 = .ok (.iload 10, 2) := by decide +kernel
theorem d_Sh_room_27 : decode z_Sh_room.2.2.1 27 = .ok (.iload 9, 2) := by decide +kernel
theorem d_Sh_room_29 : decode z_Sh_room.2.2.1 29 = .ok (.if_icmp .ge 111, 3) := by decide +kernel
theorem d_Sh_room_32 : decode z_Sh_room.2.2.1 32 = .ok (.aload 8, 2) := by decide +kernel
theorem d_Sh_room_34 : decode z_Sh_room.2.2.1 34 = .ok (.iload 10, 2) := by decide +kernel
theorem d_Sh_room_36 : decode z_Sh_room.2.2.1 36 = .ok (.aaload, 1) := by decide +kernel
theorem d_Sh_room_37 : decode z_Sh_room.2.2.1 37 = .ok (.astore 11, 2) := by decide +kernel
theorem d_Sh_room_39 : decode z_Sh_room.2.2.1 39 = .ok (.aload 11, 2) := by decide +kernel
theorem d_Sh_room_41 : decode z_Sh_room.2.2.1 41 = .ok (.getfield 60, 3) := by decide +kernel
theorem d_Sh_room_44 : decode z_Sh_room.2.2.1 44 = .ok (.istore 12, 2) := by decide +kernel
theorem d_Sh_room_46 : decode z_Sh_room.2.2.1 46 = .ok (.iload 12, 2) := by decide +kernel
theorem d_Sh_room_48 : decode z_Sh_room.2.2.1 48 = .ok (.iload 5, 2) := by decide +kernel
theorem d_Sh_room_50 : decode z_Sh_room.2.2.1 50 = .ok (.if_icmp .eq 84, 3) := by decide +kernel
theorem d_Sh_room_53 : decode z_Sh_room.2.2.1 53 = .ok (.aload 11, 2) := by decide +kernel
theorem d_Sh_room_55 : decode z_Sh_room.2.2.1 55 = .ok (.getfield 68, 3) := by decide +kernel
theorem d_Sh_room_58 : decode z_Sh_room.2.2.1 58 = .ok (.ifCond .eq 76, 3) := by decide +kernel
theorem d_Sh_room_61 : decode z_Sh_room.2.2.1 61 = .ok (.aload_n 0, 1) := by decide +kernel
theorem d_Sh_room_62 : decode z_Sh_room.2.2.1 62 = .ok (.aload_n 1, 1) := by decide +kernel
theorem d_Sh_room_63 : decode z_Sh_room.2.2.1 63 = .ok (.iload 12, 2) := by decide +kernel
theorem d_Sh_room_65 : decode z_Sh_room.2.2.1 65 = .ok (.invokevirtual 142, 3) := by decide +kernel
theorem d_Sh_room_68 : decode z_Sh_room.2.2.1 68 = .ok (.ifCond .eq 66, 3) := by decide +kernel
theorem d_Sh_room_71 : decode z_Sh_room.2.2.1 71 = .ok (.aload 6, 2) := by decide +kernel
theorem d_Sh_room_73 : decode z_Sh_room.2.2.1 73 = .ok (.iload_n 3, 1) := by decide +kernel
theorem d_Sh_room_74 : decode z_Sh_room.2.2.1 74 = .ok (.iload 4, 2) := by decide +kernel
theorem d_Sh_room_76 : decode z_Sh_room.2.2.1 76 = .ok (.iload 12, 2) := by decide +kernel
theorem d_Sh_room_78 : decode z_Sh_room.2.2.1 78 = .ok (.invokevirtual 146, 3) := by decide +kernel
theorem d_Sh_room_81 : decode z_Sh_room.2.2.1 81 = .ok (.ifCond .ne 53, 3) := by decide +kernel
theorem d_Sh_room_84 : decode z_Sh_room.2.2.1 84 = .ok (.aload_n 0, 1) := by decide +kernel
theorem d_Sh_room_85 : decode z_Sh_room.2.2.1 85 = .ok (.aload 6, 2) := by decide +kernel
theorem d_Sh_room_87 : decode z_Sh_room.2.2.1 87 = .ok (.iload_n 2, 1) := by decide +kernel
theorem d_Sh_room_88 : decode z_Sh_room.2.2.1 88 = .ok (.iload_n 3, 1) := by decide +kernel
theorem d_Sh_room_89 : decode z_Sh_room.2.2.1 89 = .ok (.iload 4, 2) := by decide +kernel
theorem d_Sh_room_91 : decode z_Sh_room.2.2.1 91 = .ok (.iload 12, 2) := by decide +kernel
theorem d_Sh_room_93 : decode z_Sh_room.2.2.1 93 = .ok (.invokevirtual 150, 3) := by decide +kernel
theorem d_Sh_room_96 : decode z_Sh_room.2.2.1 96 = .ok (.ifCond .eq 6, 3) := by decide +kernel
theorem d_Sh_room_99 : decode z_Sh_room.2.2.1 99 = .ok (.goto 35, 3) := by decide +kernel
theorem d_Sh_room_102 : decode z_Sh_room.2.2.1 102 = .ok (.iload 7, 2) := by decide +kernel
theorem d_Sh_room_104 : decode z_Sh_room.2.2.1 104 = .ok (.iconst (-1), 1) := by decide +kernel
theorem d_Sh_room_105 : decode z_Sh_room.2.2.1 105 = .ok (.if_icmp .eq 20, 3) := by decide +kernel
theorem d_Sh_room_108 : decode z_Sh_room.2.2.1 108 = .ok (.aload_n 0, 1) := by decide +kernel
theorem d_Sh_room_109 : decode z_Sh_room.2.2.1 109 = .ok (.aload_n 1, 1) := by decide +kernel
theorem d_Sh_room_110 : decode z_Sh_room.2.2.1 110 = .ok (.iload 12, 2) := by decide +kernel
theorem d_Sh_room_112 : decode z_Sh_room.2.2.1 112 = .ok (.invokevirtual 142, 3) := by decide +kernel
theorem d_Sh_room_115 : decode z_Sh_room.2.2.1 115 = .ok (.aload_n 0, 1) := by decide +kernel
theorem d_Sh_room_116 : decode z_Sh_room.2.2.1 116 = .ok (.aload_n 1, 1) := by decide +kernel
theorem d_Sh_room_117 : decode z_Sh_room.2.2.1 117 = .ok (.iload 7, 2) := by decide +kernel
theorem d_Sh_room_119 : decode z_Sh_room.2.2.1 119 = .ok (.invokevirtual 142, 3) := by decide +kernel
theorem d_Sh_room_122 : decode z_Sh_room.2.2.1 122 = .ok (.if_icmp .le 8, 3) := by decide +kernel
theorem d_Sh_room_125 : decode z_Sh_room.2.2.1 125 = .ok (.iload 12, 2) := by decide +kernel
theorem d_Sh_room_127 : decode z_Sh_room.2.2.1 127 = .ok (.goto 5, 3) := by decide +kernel
theorem d_Sh_room_130 : decode z_Sh_room.2.2.1 130 = .ok (.iload 7, 2) := by decide +kernel
theorem d_Sh_room_132 : decode z_Sh_room.2.2.1 132 = .ok (.istore 7, 2) := by decide +kernel
theorem d_Sh_room_134 : decode z_Sh_room.2.2.1 134 = .ok (.iinc 10 1, 3) := by decide +kernel
theorem d_Sh_room_137 : decode z_Sh_room.2.2.1 137 = .ok (.goto (-112), 3) := by decide +kernel
theorem d_Sh_room_140 : decode z_Sh_room.2.2.1 140 = .ok (.iload 7, 2) := by decide +kernel
theorem d_Sh_room_142 : decode z_Sh_room.2.2.1 142 = .ok (.iconst (-1), 1) := by decide +kernel
theorem d_Sh_room_143 : decode z_Sh_room.2.2.1 143 = .ok (.if_icmp .ne 5, 3) := by decide +kernel
theorem d_Sh_room_146 : decode z_Sh_room.2.2.1 146 = .ok (.iconst 0, 1) := by decide +kernel
theorem d_Sh_room_147 : decode z_Sh_room.2.2.1 147 = .ok (.ireturn, 1) := by decide +kernel
theorem d_Sh_room_148 : decode z_Sh_room.2.2.1 148 = .ok (.iconst 1, 1) := by decide +kernel
theorem d_Sh_room_149 : decode z_Sh_room.2.2.1 149 = .ok (.bipush 8, 2) := by decide +kernel
theorem d_Sh_room_151 : decode z_Sh_room.2.2.1 151 = .ok (.iload 7, 2) := by decide +kernel
theorem d_Sh_room_153 : decode z_Sh_room.2.2.1 153 = .ok (.imul, 1) := by decide +kernel
theorem d_Sh_room_154 : decode z_Sh_room.2.2.1 154 = .ok (.iadd, 1) := by decide +kernel
theorem d_Sh_room_155 : decode z_Sh_room.2.2.1 155 = .ok (.istore 8, 2) := by decide +kernel
theorem d_Sh_room_157 : decode z_Sh_room.2.2.1 157 = .ok (.aload_n 0, 1) := by decide +kernel
theorem d_Sh_room_158 : decode z_Sh_room.2.2.1 158 = .ok (.aload_n 1, 1) := by decide +kernel
theorem d_Sh_room_159 : decode z_Sh_room.2.2.1 159 = .ok (.iload 8, 2) := by decide +kernel
theorem d_Sh_room_161 : decode z_Sh_room.2.2.1 161 = .ok (.invokevirtual 134, 3) := by decide +kernel
theorem d_Sh_room_164 : decode z_Sh_room.2.2.1 164 = .ok (.ifCond .ne 9, 3) := by decide +kernel
theorem d_Sh_room_167 : decode z_Sh_room.2.2.1 167 = .ok (.iinc 8 1, 3) := by decide +kernel
theorem d_Sh_room_170 : decode z_Sh_room.2.2.1 170 = .ok (.goto (-13), 3) := by decide +kernel
theorem d_Sh_room_173 : decode z_Sh_room.2.2.1 173 = .ok (.iload 8, 2) := by decide +kernel
theorem d_Sh_room_175 : decode z_Sh_room.2.2.1 175 = .ok (.ireturn, 1) := by decide +kernel
def lc_Sh_room_0 : jx_Cx := (cCmp rLt (eI 10) (eI 9))
def lb_Sh_room_0 : jx_St := (sSeq (sAsg 2 11 (eLda 3 (eA 8) (eI 10))) (sSeq (sAsg 0 12 (eGf [1] 0 (eA 11))) (sSeq (sIf (cOr (cOr (cOr (cOr (cCmp rEq (eI 12) (eI 5)) (cNot (cCmp0 rNe (eGf [1] 3 (eA 11))))) (cCmp0 rEq (eCl (jx_ev tb_Sh_freeOn) [(eA 0), (eA 1), (eI 12)]))) (cCmp0 rNe (eCl (jx_ev tb_Vo_hasNeighbourOn) [(eA 6), (eI 3), (eI 4), (eI 12)]))) (cCmp0 rNe (eCl (jx_ev tb_Sh_isAimed) [(eA 0), (eA 6), (eI 2), (eI 3), (eI 4), (eI 12)]))) sSkip (sAsg 0 7 (eIte (cOr (cCmp rEq (eI 7) (eInt (-1))) (cCmp rGt (eCl (jx_ev tb_Sh_freeOn) [(eA 0), (eA 1), (eI 12)]) (eCl (jx_ev tb_Sh_freeOn) [(eA 0), (eA 1), (eI 7)]))) (eI 12) (eI 7)))) (sInc 10 (nI 1)))))
theorem ml_Sh_room_0 : jx_Ts z_Sh_room 25 (sWh 64 lc_Sh_room_0 lb_Sh_room_0) [140] := by
  unfold lc_Sh_room_0 lb_Sh_room_0
  exact t_wh (EA := [137]) (Fs := [140]) (E := [140]) 64 (s_cmp (s_iload d_Sh_room_25) (s_iload d_Sh_room_27) (s_icmp_geF (tgt := 140) d_Sh_room_29 (by decide))) (by decide) (t_seq (t_asg (s_loada (s_aload d_Sh_room_32) (s_iload d_Sh_room_34) (s_aald (Or.inl rfl) d_Sh_room_36)) (fun v k h => b_astore d_Sh_room_37 (by decide) h)) (t_seq (t_asg (s_getf (s_aload d_Sh_room_39) fi_Sh_60 d_Sh_room_41) (fun v k h => b_istore d_Sh_room_44 (by decide) h)) (t_seq (t_ifg (E := [134]) (s_org (s_csub (T1 := [134]) (F1 := [84]) (Ts := [99, 134]) (Fs := [84]) (s_org (s_org (s_org (s_cmp (s_iload d_Sh_room_46) (s_iload d_Sh_room_48) (s_icmp_eqT (tgt := 134) d_Sh_room_50 (by decide))) (by decide) (al_1 (s_not (s_cmp0 (s_getf (s_aload d_Sh_room_53) fi_Sh_68 d_Sh_room_55) (s_if_eqF (tgt := 134) d_Sh_room_58 (by decide))) (by decide)))) (by decide) (al_1 (s_cmp0 (s_cl (s_a1 (s_aload_n d_Sh_room_61 rfl) (s_a1 (s_aload_n d_Sh_room_62 rfl) (s_a1 (s_iload d_Sh_room_63) s_a0))) (s_ecv (ve_Sh_freeOn (by decide) (by decide)) dc_Sh_freeOn (by decide) lm_Sh_142 pd_Sh_freeOn d_Sh_room_65)) (s_if_eqT (tgt := 134) d_Sh_room_68 (by decide))))) (by decide) (al_1 (s_cmp0 (s_cl (s_a1 (s_aload d_Sh_room_71) (s_a1 (s_iload_n d_Sh_room_73 rfl) (s_a1 (s_iload d_Sh_room_74) (s_a1 (s_iload d_Sh_room_76) s_a0)))) (s_ecv (ve_Vo_hasNeighbourOn (by decide) (by decide)) dc_Vo_hasNeighbourOn (by decide) lm_Sh_146 pd_Vo_hasNeighbourOn d_Sh_room_78)) (s_if_neT (tgt := 134) d_Sh_room_81 (by decide))))) (by decide) (by decide)) (by decide) (al_1 (s_csub (T1 := [99]) (F1 := [102]) (Ts := [99, 134]) (Fs := [102]) (s_cmp0 (s_cl (s_a1 (s_aload_n d_Sh_room_84 rfl) (s_a1 (s_aload d_Sh_room_85) (s_a1 (s_iload_n d_Sh_room_87 rfl) (s_a1 (s_iload_n d_Sh_room_88 rfl) (s_a1 (s_iload d_Sh_room_89) (s_a1 (s_iload d_Sh_room_91) s_a0)))))) (s_ecv (ve_Sh_isAimed (by decide) (by decide)) dc_Sh_isAimed (by decide) lm_Sh_150 pd_Sh_isAimed d_Sh_room_93)) (s_if_eqF (tgt := 102) d_Sh_room_96 (by decide))) (by decide) (by decide)))) (by decide) (al_2 (t_goto (q := 99) (tgt := 134) (E := [134]) (t_skip (by decide)) d_Sh_room_99 (by decide) (by decide)) (t_skip (by decide))) (al_1 (t_asg (s_ite (q4 := 132) (s_org (s_cmp (s_iload d_Sh_room_102) (s_iconst d_Sh_room_104 (by decide)) (s_icmp_eqT (tgt := 125) d_Sh_room_105 (by decide))) (by decide) (al_1 (s_cmp (s_cl (s_a1 (s_aload_n d_Sh_room_108 rfl) (s_a1 (s_aload_n d_Sh_room_109 rfl) (s_a1 (s_iload d_Sh_room_110) s_a0))) (s_ecv (ve_Sh_freeOn (by decide) (by decide)) dc_Sh_freeOn (by decide) lm_Sh_142 pd_Sh_freeOn d_Sh_room_112)) (s_cl (s_a1 (s_aload_n d_Sh_room_115 rfl) (s_a1 (s_aload_n d_Sh_room_116 rfl) (s_a1 (s_iload d_Sh_room_117) s_a0))) (s_ecv (ve_Sh_freeOn (by decide) (by decide)) dc_Sh_freeOn (by decide) lm_Sh_142 pd_Sh_freeOn d_Sh_room_119)) (s_icmp_leF (tgt := 130) d_Sh_room_122 (by decide))))) (s_iload d_Sh_room_125) d_Sh_room_127 (by decide) (s_iload d_Sh_room_130)) (fun v k h => b_istore d_Sh_room_132 (by decide) h)))) (t_iinc d_Sh_room_134 (by decide) (by decide))))) (al_1 (Or.inr ⟨-112, d_Sh_room_137, by decide⟩)) (by decide)
def lc_Sh_room_1 : jx_Cx := (cNot (cCmp0 rNe (eCl (jx_ev tb_Sh_isFree) [(eA 0), (eA 1), (eI 8)])))
def lb_Sh_room_1 : jx_St := (sInc 8 (nI 1))
theorem ml_Sh_room_1 : jx_Ts z_Sh_room 157 (sWh 64 lc_Sh_room_1 lb_Sh_room_1) [173] := by
  unfold lc_Sh_room_1 lb_Sh_room_1
  exact t_wh (EA := [170]) (Fs := [173]) (E := [173]) 64 (s_not (s_cmp0 (s_cl (s_a1 (s_aload_n d_Sh_room_157 rfl) (s_a1 (s_aload_n d_Sh_room_158 rfl) (s_a1 (s_iload d_Sh_room_159) s_a0))) (s_ecv (ve_Sh_isFree (by decide) (by decide)) dc_Sh_isFree (by decide) lm_Sh_134 pd_Sh_isFree d_Sh_room_161)) (s_if_neT (tgt := 173) d_Sh_room_164 (by decide))) (by decide)) (by decide) (t_iinc d_Sh_room_167 (by decide) (by decide)) (al_1 (Or.inr ⟨-13, d_Sh_room_170, by decide⟩)) (by decide)
def bd_Sh_room : jx_St := (sSeq (sAsg 2 6 (eLda 4 (eGf [3] 2 (eA 1)) (eI 2))) (sSeq (sAsg 0 7 (eInt (-1))) (sSeq (sSeq (sAsg 2 8 (eGf [0] 0 (eA 0))) (sSeq (sAsg 0 9 (eLen (eA 8))) (sSeq (sAsg 0 10 (eInt (nI 0))) (sWh 64 lc_Sh_room_0 lb_Sh_room_0)))) (sSeq (sIf (cCmp rEq (eI 7) (eInt (-1))) (sRet 0 (eInt (nI 0))) sSkip) (sSeq (sAsg 0 8 (eBin oAdd (eInt (nI 1)) (eBin oMul (eInt (nI 8)) (eI 7)))) (sSeq (sWh 64 lc_Sh_room_1 lb_Sh_room_1) (sRet 0 (eI 8))))))))
theorem m_Sh_room : jx_Ts z_Sh_room 0 bd_Sh_room [] := by
  unfold bd_Sh_room
  exact (t_seq (t_asg (s_loada (s_getf (s_aload_n d_Sh_room_0 rfl) fi_Sh_71 d_Sh_room_1) (s_iload_n d_Sh_room_4 rfl) (s_aald (Or.inr rfl) d_Sh_room_5)) (fun v k h => b_astore d_Sh_room_6 (by decide) h)) (t_seq (t_asg (s_iconst d_Sh_room_8 (by decide)) (fun v k h => b_istore d_Sh_room_9 (by decide) h)) (t_seq (t_seq (t_asg (s_getf (s_aload_n d_Sh_room_11 rfl) fi_Sh_12 d_Sh_room_12) (fun v k h => b_astore d_Sh_room_15 (by decide) h)) (t_seq (t_asg (s_len (s_aload d_Sh_room_17) d_Sh_room_19) (fun v k h => b_istore d_Sh_room_20 (by decide) h)) (t_seq (t_asg (s_iconst d_Sh_room_22 (by decide)) (fun v k h => b_istore d_Sh_room_23 (by decide) h)) ml_Sh_room_0))) (t_seq (t_if1 (Fs := [148]) (E := [148]) (s_cmp (s_iload d_Sh_room_140) (s_iconst d_Sh_room_142 (by decide)) (s_icmp_neF (tgt := 148) d_Sh_room_143 (by decide))) (by decide) (t_sub (E := []) (E' := [148]) (t_ret .int (s_iconst d_Sh_room_146 (by decide)) rfl (by decide) d_Sh_room_147) (by decide)) (by decide)) (t_seq (t_asg (s_bin (s_iconst d_Sh_room_148 (by decide)) (s_bin (s_bipush d_Sh_room_149 (by decide)) (s_iload d_Sh_room_151) (s_imul d_Sh_room_153)) (s_iadd d_Sh_room_154)) (fun v k h => b_istore d_Sh_room_155 (by decide) h)) (t_seq ml_Sh_room_1 (t_ret .int (s_iload d_Sh_room_173) rfl (by decide) d_Sh_room_175)))))))
def f_Sh_room : jx_Mt := jx_fn 6 13 (bd_Sh_room fun _ _ => none)
theorem me_Sh_room : jx_Me 6 z_Sh_room f_Sh_room := jx_Me.ofT (by decide) m_Sh_room
theorem mw_Sh_room : jx_mw ⟨"ExtentShelf", "room", "(LExtentShelf$Table;IIII)I"⟩ z_Sh_room := ⟨rfl, rfl, by decide +kernel, ⟨by decide, by decide⟩, by decide +kernel⟩
theorem pd_Sh_room : (parseMethodDescriptor (⟨"ExtentShelf", "room", "(LExtentShelf$Table;IIII)I"⟩ : MethodName).desc).map (fun d => d.parameters.length) = some 5 := by decide +kernel
/-! ExtentShelf$Volume.legCount()I -/
abbrev z_Vo_legCount : jx_Z := ("ExtentShelf$Volume", "legCount", prog_9_method_3_code, 1, some .int, 0, 0)
theorem d_Vo_legCount_0 : decode z_Vo_legCount.2.2.1 0 = .ok (.iconst 1, 1) := by decide +kernel
theorem d_Vo_legCount_1 : decode z_Vo_legCount.2.2.1 1 = .ok (.ireturn, 1) := by decide +kernel
def bd_Vo_legCount : jx_St := (sRet 0 (eInt (nI 1)))
theorem m_Vo_legCount : jx_Ts z_Vo_legCount 0 bd_Vo_legCount [] := by
  unfold bd_Vo_legCount
  exact (t_ret .int (s_iconst d_Vo_legCount_0 (by decide)) rfl (by decide) d_Vo_legCount_1)
def f_Vo_legCount : jx_Mt := jx_fn 1 1 (bd_Vo_legCount fun _ _ => none)
theorem me_Vo_legCount : jx_Me 1 z_Vo_legCount f_Vo_legCount := jx_Me.ofT (by decide) m_Vo_legCount
theorem mw_Vo_legCount : jx_mw ⟨"ExtentShelf$Volume", "legCount", "()I"⟩ z_Vo_legCount := ⟨rfl, rfl, by decide +kernel, ⟨by decide, by decide⟩, by decide +kernel⟩
theorem pd_Vo_legCount : (parseMethodDescriptor (⟨"ExtentShelf$Volume", "legCount", "()I"⟩ : MethodName).desc).map (fun d => d.parameters.length) = some 0 := by decide +kernel
/-! ExtentShelf$Twinned.legCount()I -/
abbrev z_Tw_legCount : jx_Z := ("ExtentShelf$Twinned", "legCount", prog_8_method_3_code, 1, some .int, 0, 0)
theorem d_Tw_legCount_0 : decode z_Tw_legCount.2.2.1 0 = .ok (.iconst 2, 1) := by decide +kernel
theorem d_Tw_legCount_1 : decode z_Tw_legCount.2.2.1 1 = .ok (.ireturn, 1) := by decide +kernel
def bd_Tw_legCount : jx_St := (sRet 0 (eInt (nI 2)))
theorem m_Tw_legCount : jx_Ts z_Tw_legCount 0 bd_Tw_legCount [] := by
  unfold bd_Tw_legCount
  exact (t_ret .int (s_iconst d_Tw_legCount_0 (by decide)) rfl (by decide) d_Tw_legCount_1)
def f_Tw_legCount : jx_Mt := jx_fn 1 1 (bd_Tw_legCount fun _ _ => none)
theorem me_Tw_legCount : jx_Me 1 z_Tw_legCount f_Tw_legCount := jx_Me.ofT (by decide) m_Tw_legCount
theorem mw_Tw_legCount : jx_mw ⟨"ExtentShelf$Twinned", "legCount", "()I"⟩ z_Tw_legCount := ⟨rfl, rfl, by decide +kernel, ⟨by decide, by decide⟩, by decide +kernel⟩
theorem pd_Tw_legCount : (parseMethodDescriptor (⟨"ExtentShelf$Twinned", "legCount", "()I"⟩ : MethodName).desc).map (fun d => d.parameters.length) = some 0 := by decide +kernel
abbrev tb_Vo_legCount : List (Nat × jx_Mt) := [(5, f_Vo_legCount), (6, f_Vo_legCount), (7, f_Tw_legCount)]
theorem ve_Vo_legCount {fr lo : Nat} (h1 : 1 ≤ fr) (h2 : 28 ≤ lo) : ∀ q ∈ tb_Vo_legCount, jx_ve ⟨"ExtentShelf$Volume", "legCount", "()I"⟩ 0 fr lo q.1 q.2 := tv_3 ⟨R_Linear, F_Linear, 3, ⟨"ExtentShelf$Volume", "legCount", "()I"⟩, z_Vo_legCount, rfl, by decide +kernel, mw_Vo_legCount, by decide +kernel, me_Vo_legCount, Nat.le_trans (by decide) h1, Nat.le_trans (by decide) h2⟩ ⟨R_Striped, F_Striped, 3, ⟨"ExtentShelf$Volume", "legCount", "()I"⟩, z_Vo_legCount, rfl, by decide +kernel, mw_Vo_legCount, by decide +kernel, me_Vo_legCount, Nat.le_trans (by decide) h1, Nat.le_trans (by decide) h2⟩ ⟨R_Twinned, F_Twinned, 3, ⟨"ExtentShelf$Twinned", "legCount", "()I"⟩, z_Tw_legCount, rfl, by decide +kernel, mw_Tw_legCount, by decide +kernel, me_Tw_legCount, Nat.le_trans (by decide) h1, Nat.le_trans (by decide) h2⟩
theorem dc_Vo_legCount : jx_dc ⟨"ExtentShelf$Volume", "legCount", "()I"⟩ := ⟨⟨by decide, by decide⟩, Or.inr ⟨by decide +kernel, prog_9_method_3_code, 1, _, (by decide +kernel : Cond.code ⟨"ExtentShelf$Volume", "legCount", "()I"⟩ prog_9_method_3_code 1 (some .int) ∈ jx_tbl)⟩, "ExtentShelf$Linear", ⟨"ExtentShelf$Volume", "said", "()I"⟩, ⟨"ExtentShelf$Volume", "said", "()I"⟩, by decide +kernel, rfl⟩
abbrev tb_Sh_room : List (Nat × jx_Mt) := [(0, f_Sh_room)]
theorem ve_Sh_room {fr lo : Nat} (h1 : 4 ≤ fr) (h2 : 137 ≤ lo) : ∀ q ∈ tb_Sh_room, jx_ve ⟨"ExtentShelf", "room", "(LExtentShelf$Table;IIII)I"⟩ 5 fr lo q.1 q.2 := tv_1 ⟨R_Shelf, F_Shelf, 5, ⟨"ExtentShelf", "room", "(LExtentShelf$Table;IIII)I"⟩, z_Sh_room, rfl, by decide +kernel, mw_Sh_room, by decide +kernel, me_Sh_room, Nat.le_trans (by decide) h1, Nat.le_trans (by decide) h2⟩
theorem dc_Sh_room : jx_dc ⟨"ExtentShelf", "room", "(LExtentShelf$Table;IIII)I"⟩ := ⟨⟨by decide, by decide⟩, Or.inr ⟨by decide +kernel, prog_1_method_18_code, 13, _, (by decide +kernel : Cond.code ⟨"ExtentShelf", "room", "(LExtentShelf$Table;IIII)I"⟩ prog_1_method_18_code 13 (some .int) ∈ jx_tbl)⟩, "ExtentShelf", ⟨"ExtentShelf", "room", "(LExtentShelf$Table;IIII)I"⟩, ⟨"ExtentShelf", "room", "(LExtentShelf$Table;IIII)I"⟩, by decide +kernel, rfl⟩
abbrev tb_Sh_put : List (Nat × jx_Mt) := [(0, f_Sh_put)]
theorem ve_Sh_put {fr lo : Nat} (h1 : 8 ≤ fr) (h2 : 162 ≤ lo) : ∀ q ∈ tb_Sh_put, jx_ve ⟨"ExtentShelf", "put", "(III)V"⟩ 3 fr lo q.1 q.2 := tv_1 ⟨R_Shelf, F_Shelf, 5, ⟨"ExtentShelf", "put", "(III)V"⟩, z_Sh_put, rfl, by decide +kernel, mw_Sh_put, by decide +kernel, me_Sh_put, Nat.le_trans (by decide) h1, Nat.le_trans (by decide) h2⟩
theorem dc_Sh_put : jx_dc ⟨"ExtentShelf", "put", "(III)V"⟩ := ⟨⟨by decide, by decide⟩, Or.inr ⟨by decide +kernel, prog_1_method_11_code, 4, _, (by decide +kernel : Cond.code ⟨"ExtentShelf", "put", "(III)V"⟩ prog_1_method_11_code 4 none ∈ jx_tbl)⟩, "ExtentShelf", ⟨"ExtentShelf", "put", "(III)V"⟩, ⟨"ExtentShelf", "put", "(III)V"⟩, by decide +kernel, rfl⟩
