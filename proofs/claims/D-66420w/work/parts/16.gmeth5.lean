/-! METHODS, printed by jgen.py -/
/-! ExtentShelf.write(III)I -/
abbrev z_Sh_write : jx_Z := ("ExtentShelf", "write", prog_1_method_29_code, 11, some .int, 8, 166)
theorem d_Sh_write_0 : decode z_Sh_write.2.2.1 0 = .ok (.aload_n 0, 1) := by decide +kernel
theorem d_Sh_write_1 : decode z_Sh_write.2.2.1 1 = .ok (.invokevirtual 172, 3) := by decide +kernel
theorem d_Sh_write_4 : decode z_Sh_write.2.2.1 4 = .ok (.aload_n 0, 1) := by decide +kernel
theorem d_Sh_write_5 : decode z_Sh_write.2.2.1 5 = .ok (.iload_n 1, 1) := by decide +kernel
theorem d_Sh_write_6 : decode z_Sh_write.2.2.1 6 = .ok (.invokevirtual 205, 3) := by decide +kernel
theorem d_Sh_write_9 : decode z_Sh_write.2.2.1 9 = .ok (.astore 4, 2) := by decide +kernel
theorem d_Sh_write_11 : decode z_Sh_write.2.2.1 11 = .ok (.aload 4, 2) := by decide +kernel
theorem d_Sh_write_13 : decode z_Sh_write.2.2.1 13 = .ok (.iload_n 2, 1) := by decide +kernel
theorem d_Sh_write_14 : decode z_Sh_write.2.2.1 14 = .ok (.invokestatic 219, 3) := by decide +kernel
theorem d_Sh_write_17 : decode z_Sh_write.2.2.1 17 = .ok (.istore 5, 2) := by decide +kernel
theorem d_Sh_write_19 : decode z_Sh_write.2.2.1 19 = .ok (.aload_n 0, 1) := by decide +kernel
theorem d_Sh_write_20 : decode z_Sh_write.2.2.1 20 = .ok (.aload 4, 2) := by decide +kernel
theorem d_Sh_write_22 : decode z_Sh_write.2.2.1 22 = .ok (.getfield 120, 3) := by decide +kernel
theorem d_Sh_write_25 : decode z_Sh_write.2.2.1 25 = .ok (.iconst 2, 1) := by decide +kernel
theorem d_Sh_write_26 : decode z_Sh_write.2.2.1 26 = .ok (.iload 5, 2) := by decide +kernel
theorem d_Sh_write_28 : decode z_Sh_write.2.2.1 28 = .ok (.imul, 1) := by decide +kernel
theorem d_Sh_write_29 : decode z_Sh_write.2.2.1 29 = .ok (.iaload, 1) := by decide +kernel
theorem d_Sh_write_30 : decode z_Sh_write.2.2.1 30 = .ok (.invokevirtual 222, 3) := by decide +kernel
theorem d_Sh_write_33 : decode z_Sh_write.2.2.1 33 = .ok (.istore 6, 2) := by decide +kernel
theorem d_Sh_write_35 : decode z_Sh_write.2.2.1 35 = .ok (.aload_n 0, 1) := by decide +kernel
theorem d_Sh_write_36 : decode z_Sh_write.2.2.1 36 = .ok (.aload 4, 2) := by decide +kernel
theorem d_Sh_write_38 : decode z_Sh_write.2.2.1 38 = .ok (.getfield 120, 3) := by decide +kernel
theorem d_Sh_write_41 : decode z_Sh_write.2.2.1 41 = .ok (.iconst 2, 1) := by decide +kernel
theorem d_Sh_write_42 : decode z_Sh_write.2.2.1 42 = .ok (.iload 5, 2) := by decide +kernel
theorem d_Sh_write_44 : decode z_Sh_write.2.2.1 44 = .ok (.imul, 1) := by decide +kernel
theorem d_Sh_write_45 : decode z_Sh_write.2.2.1 45 = .ok (.iconst 1, 1) := by decide +kernel
theorem d_Sh_write_46 : decode z_Sh_write.2.2.1 46 = .ok (.iadd, 1) := by decide +kernel
theorem d_Sh_write_47 : decode z_Sh_write.2.2.1 47 = .ok (.iaload, 1) := by decide +kernel
theorem d_Sh_write_48 : decode z_Sh_write.2.2.1 48 = .ok (.invokevirtual 222, 3) := by decide +kernel
theorem d_Sh_write_51 : decode z_Sh_write.2.2.1 51 = .ok (.istore 7, 2) := by decide +kernel
theorem d_Sh_write_53 : decode z_Sh_write.2.2.1 53 = .ok (.iload 6, 2) := by decide +kernel
theorem d_Sh_write_55 : decode z_Sh_write.2.2.1 55 = .ok (.ifCond .ne 8, 3) := by decide +kernel
theorem d_Sh_write_58 : decode z_Sh_write.2.2.1 58 = .ok (.iload 7, 2) := by decide +kernel
theorem d_Sh_write_60 : decode z_Sh_write.2.2.1 60 = .ok (.ifCond .eq 7, 3) := by decide +kernel
theorem d_Sh_write_63 : decode z_Sh_write.2.2.1 63 = .ok (.iconst 1, 1) := by decide +kernel
theorem d_Sh_write_64 : decode z_Sh_write.2.2.1 64 = .ok (.goto 4, 3) := by decide +kernel
theorem d_Sh_write_67 : decode z_Sh_write.2.2.1 67 = .ok (.iconst 0, 1) := by decide +kernel
theorem d_Sh_write_68 : decode z_Sh_write.2.2.1 68 = .ok (.invokestatic 164, 3) := by decide +kernel
theorem d_Sh_write_71 : decode z_Sh_write.2.2.1 71 = .ok (.iconst 2, 1) := by decide +kernel
theorem d_Sh_write_72 : decode z_Sh_write.2.2.1 72 = .ok (.iload 5, 2) := by decide +kernel
theorem d_Sh_write_74 : decode z_Sh_write.2.2.1 74 = .ok (.imul, 1) := by decide +kernel
theorem d_Sh_write_75 : decode z_Sh_write.2.2.1 75 = .ok (.iload 6, 2) := by decide +kernel
theorem d_Sh_write_77 : decode z_Sh_write.2.2.1 77 = .ok (.ifCond .eq 7, 3) := by decide +kernel
theorem d_Sh_write_80 : decode z_Sh_write.2.2.1 80 = .ok (.iconst 1, 1) := by decide +kernel
theorem d_Sh_write_81 : decode z_Sh_write.2.2.1 81 = .ok (.goto 4, 3) := by decide +kernel
theorem d_Sh_write_84 : decode z_Sh_write.2.2.1 84 = .ok (.iconst 0, 1) := by decide +kernel
theorem d_Sh_write_85 : decode z_Sh_write.2.2.1 85 = .ok (.iadd, 1) := by decide +kernel
theorem d_Sh_write_86 : decode z_Sh_write.2.2.1 86 = .ok (.istore 8, 2) := by decide +kernel
theorem d_Sh_write_88 : decode z_Sh_write.2.2.1 88 = .ok (.iload 6, 2) := by decide +kernel
theorem d_Sh_write_90 : decode z_Sh_write.2.2.1 90 = .ok (.ifCond .eq 8, 3) := by decide +kernel
theorem d_Sh_write_93 : decode z_Sh_write.2.2.1 93 = .ok (.iload 7, 2) := by decide +kernel
theorem d_Sh_write_95 : decode z_Sh_write.2.2.1 95 = .ok (.ifCond .ne 52, 3) := by decide +kernel
theorem d_Sh_write_98 : decode z_Sh_write.2.2.1 98 = .ok (.aload 4, 2) := by decide +kernel
theorem d_Sh_write_100 : decode z_Sh_write.2.2.1 100 = .ok (.getfield 120, 3) := by decide +kernel
theorem d_Sh_write_103 : decode z_Sh_write.2.2.1 103 = .ok (.iload 8, 2) := by decide +kernel
theorem d_Sh_write_105 : decode z_Sh_write.2.2.1 105 = .ok (.iaload, 1) := by decide +kernel
theorem d_Sh_write_106 : decode z_Sh_write.2.2.1 106 = .ok (.ifCond .eq 41, 3) := by decide +kernel
theorem d_Sh_write_109 : decode z_Sh_write.2.2.1 109 = .ok (.aload_n 0, 1) := by decide +kernel
theorem d_Sh_write_110 : decode z_Sh_write.2.2.1 110 = .ok (.getfield 28, 3) := by decide +kernel
theorem d_Sh_write_113 : decode z_Sh_write.2.2.1 113 = .ok (.invokevirtual 181, 3) := by decide +kernel
theorem d_Sh_write_116 : decode z_Sh_write.2.2.1 116 = .ok (.astore 9, 2) := by decide +kernel
theorem d_Sh_write_118 : decode z_Sh_write.2.2.1 118 = .ok (.aload 9, 2) := by decide +kernel
theorem d_Sh_write_120 : decode z_Sh_write.2.2.1 120 = .ok (.getfield 71, 3) := by decide +kernel
theorem d_Sh_write_123 : decode z_Sh_write.2.2.1 123 = .ok (.iload_n 1, 1) := by decide +kernel
theorem d_Sh_write_124 : decode z_Sh_write.2.2.1 124 = .ok (.aaload, 1) := by decide +kernel
theorem d_Sh_write_125 : decode z_Sh_write.2.2.1 125 = .ok (.getfield 120, 3) := by decide +kernel
theorem d_Sh_write_128 : decode z_Sh_write.2.2.1 128 = .ok (.iload 8, 2) := by decide +kernel
theorem d_Sh_write_130 : decode z_Sh_write.2.2.1 130 = .ok (.iconst 0, 1) := by decide +kernel
theorem d_Sh_write_131 : decode z_Sh_write.2.2.1 131 = .ok (.iastore, 1) := by decide +kernel
theorem d_Sh_write_132 : decode z_Sh_write.2.2.1 132 = .ok (.aload_n 0, 1) := by decide +kernel
theorem d_Sh_write_133 : decode z_Sh_write.2.2.1 133 = .ok (.aload 9, 2) := by decide +kernel
theorem d_Sh_write_135 : decode z_Sh_write.2.2.1 135 = .ok (.invokevirtual 185, 3) := by decide +kernel
theorem d_Sh_write_138 : decode z_Sh_write.2.2.1 138 = .ok (.aload 9, 2) := by decide +kernel
theorem d_Sh_write_140 : decode z_Sh_write.2.2.1 140 = .ok (.getfield 71, 3) := by decide +kernel
theorem d_Sh_write_143 : decode z_Sh_write.2.2.1 143 = .ok (.iload_n 1, 1) := by decide +kernel
theorem d_Sh_write_144 : decode z_Sh_write.2.2.1 144 = .ok (.aaload, 1) := by decide +kernel
theorem d_Sh_write_145 : decode z_Sh_write.2.2.1 145 = .ok (.astore 4, 2) := by decide +kernel
theorem d_Sh_write_147 : decode z_Sh_write.2.2.1 147 = .ok (.aload 4, 2) := by decide +kernel
theorem d_Sh_write_149 : decode z_Sh_write.2.2.1 149 = .ok (.iload_n 2, 1) := by decide +kernel
theorem d_Sh_write_150 : decode z_Sh_write.2.2.1 150 = .ok (.invokevirtual 225, 3) := by decide +kernel
theorem d_Sh_write_153 : decode z_Sh_write.2.2.1 153 = .ok (.istore 9, 2) := by decide +kernel
theorem d_Sh_write_155 : decode z_Sh_write.2.2.1 155 = .ok (.iconst 2, 1) := by decide +kernel
theorem d_Sh_write_156 : decode z_Sh_write.2.2.1 156 = .ok (.iload 5, 2) := by decide +kernel
theorem d_Sh_write_158 : decode z_Sh_write.2.2.1 158 = .ok (.imul, 1) := by decide +kernel
theorem d_Sh_write_159 : decode z_Sh_write.2.2.1 159 = .ok (.istore 10, 2) := by decide +kernel
theorem d_Sh_write_161 : decode z_Sh_write.2.2.1 161 = .ok (.iload 10, 2) := by decide +kernel
theorem d_Sh_write_163 : decode z_Sh_write.2.2.1 163 = .ok (.iconst 2, 1) := by decide +kernel
theorem d_Sh_write_164 : decode z_Sh_write.2.2.1 164 = .ok (.iload 5, 2) := by decide +kernel
theorem d_Sh_write_166 : decode z_Sh_write.2.2.1 166 = .ok (.imul, 1) := by decide +kernel
theorem d_Sh_write_167 : decode z_Sh_write.2.2.1 167 = .ok (.iconst 2, 1) := by decide +kernel
theorem d_Sh_write_168 : decode z_Sh_write.2.2.1 168 = .ok (.iadd, 1) := by decide +kernel
theorem d_Sh_write_169 : decode z_Sh_write.2.2.1 169 = .ok (.if_icmp .ge 84, 3) := by decide +kernel
theorem d_Sh_write_172 : decode z_Sh_write.2.2.1 172 = .ok (.aload 4, 2) := by decide +kernel
theorem d_Sh_write_174 : decode z_Sh_write.2.2.1 174 = .ok (.getfield 120, 3) := by decide +kernel
theorem d_Sh_write_177 : decode z_Sh_write.2.2.1 177 = .ok (.iload 10, 2) := by decide +kernel
theorem d_Sh_write_179 : decode z_Sh_write.2.2.1 179 = .ok (.iaload, 1) := by decide +kernel
theorem d_Sh_write_180 : decode z_Sh_write.2.2.1 180 = .ok (.ifCond .ne 6, 3) := by decide +kernel
theorem d_Sh_write_183 : decode z_Sh_write.2.2.1 183 = .ok (.goto 64, 3) := by decide +kernel
theorem d_Sh_write_186 : decode z_Sh_write.2.2.1 186 = .ok (.aload_n 0, 1) := by decide +kernel
theorem d_Sh_write_187 : decode z_Sh_write.2.2.1 187 = .ok (.aload 4, 2) := by decide +kernel
theorem d_Sh_write_189 : decode z_Sh_write.2.2.1 189 = .ok (.getfield 120, 3) := by decide +kernel
theorem d_Sh_write_192 : decode z_Sh_write.2.2.1 192 = .ok (.iload 10, 2) := by decide +kernel
theorem d_Sh_write_194 : decode z_Sh_write.2.2.1 194 = .ok (.iaload, 1) := by decide +kernel
theorem d_Sh_write_195 : decode z_Sh_write.2.2.1 195 = .ok (.iload 9, 2) := by decide +kernel
theorem d_Sh_write_197 : decode z_Sh_write.2.2.1 197 = .ok (.iload_n 3, 1) := by decide +kernel
theorem d_Sh_write_198 : decode z_Sh_write.2.2.1 198 = .ok (.invokevirtual 168, 3) := by decide +kernel
theorem d_Sh_write_201 : decode z_Sh_write.2.2.1 201 = .ok (.aload_n 0, 1) := by decide +kernel
theorem d_Sh_write_202 : decode z_Sh_write.2.2.1 202 = .ok (.getfield 108, 3) := by decide +kernel
theorem d_Sh_write_205 : decode z_Sh_write.2.2.1 205 = .ok (.ifnull 42, 3) := by decide +kernel
theorem d_Sh_write_208 : decode z_Sh_write.2.2.1 208 = .ok (.aload_n 0, 1) := by decide +kernel
theorem d_Sh_write_209 : decode z_Sh_write.2.2.1 209 = .ok (.getfield 108, 3) := by decide +kernel
theorem d_Sh_write_212 : decode z_Sh_write.2.2.1 212 = .ok (.iload_n 1, 1) := by decide +kernel
theorem d_Sh_write_213 : decode z_Sh_write.2.2.1 213 = .ok (.iload 10, 2) := by decide +kernel
theorem d_Sh_write_215 : decode z_Sh_write.2.2.1 215 = .ok (.invokevirtual 228, 3) := by decide +kernel
theorem d_Sh_write_218 : decode z_Sh_write.2.2.1 218 = .ok (.ifCond .eq 29, 3) := by decide +kernel
theorem d_Sh_write_221 : decode z_Sh_write.2.2.1 221 = .ok (.iload 9, 2) := by decide +kernel
theorem d_Sh_write_223 : decode z_Sh_write.2.2.1 223 = .ok (.aload_n 0, 1) := by decide +kernel
theorem d_Sh_write_224 : decode z_Sh_write.2.2.1 224 = .ok (.getfield 108, 3) := by decide +kernel
theorem d_Sh_write_227 : decode z_Sh_write.2.2.1 227 = .ok (.getfield 232, 3) := by decide +kernel
theorem d_Sh_write_230 : decode z_Sh_write.2.2.1 230 = .ok (.if_icmp .ge 17, 3) := by decide +kernel
theorem d_Sh_write_233 : decode z_Sh_write.2.2.1 233 = .ok (.aload_n 0, 1) := by decide +kernel
theorem d_Sh_write_234 : decode z_Sh_write.2.2.1 234 = .ok (.aload_n 0, 1) := by decide +kernel
theorem d_Sh_write_235 : decode z_Sh_write.2.2.1 235 = .ok (.getfield 108, 3) := by decide +kernel
theorem d_Sh_write_238 : decode z_Sh_write.2.2.1 238 = .ok (.getfield 112, 3) := by decide +kernel
theorem d_Sh_write_241 : decode z_Sh_write.2.2.1 241 = .ok (.iload 9, 2) := by decide +kernel
theorem d_Sh_write_243 : decode z_Sh_write.2.2.1 243 = .ok (.iload_n 3, 1) := by decide +kernel
theorem d_Sh_write_244 : decode z_Sh_write.2.2.1 244 = .ok (.invokevirtual 168, 3) := by decide +kernel
theorem d_Sh_write_247 : decode z_Sh_write.2.2.1 247 = .ok (.iinc 10 1, 3) := by decide +kernel
theorem d_Sh_write_250 : decode z_Sh_write.2.2.1 250 = .ok (.goto (-89), 3) := by decide +kernel
theorem d_Sh_write_253 : decode z_Sh_write.2.2.1 253 = .ok (.iload 6, 2) := by decide +kernel
theorem d_Sh_write_255 : decode z_Sh_write.2.2.1 255 = .ok (.ifCond .eq 12, 3) := by decide +kernel
theorem d_Sh_write_258 : decode z_Sh_write.2.2.1 258 = .ok (.iload 7, 2) := by decide +kernel
theorem d_Sh_write_260 : decode z_Sh_write.2.2.1 260 = .ok (.ifCond .eq 7, 3) := by decide +kernel
theorem d_Sh_write_263 : decode z_Sh_write.2.2.1 263 = .ok (.iconst 2, 1) := by decide +kernel
theorem d_Sh_write_264 : decode z_Sh_write.2.2.1 264 = .ok (.goto 4, 3) := by decide +kernel
theorem d_Sh_write_267 : decode z_Sh_write.2.2.1 267 = .ok (.iconst 1, 1) := by decide +kernel
theorem d_Sh_write_268 : decode z_Sh_write.2.2.1 268 = .ok (.ireturn, 1) := by decide +kernel
def lc_Sh_write_0 : jx_Cx := (cCmp rLt (eI 10) (eBin oAdd (eBin oMul (eInt (nI 2)) (eI 5)) (eInt (nI 2))))
def lb_Sh_write_0 : jx_St := (sSeq (sIf (cCmp0 rEq (eLd 0 (eGf [5, 6, 7] 2 (eA 4)) (eI 10))) sSkip (sSeq (sCl (jx_ev tb_Sh_put) [(eA 0), (eLd 0 (eGf [5, 6, 7] 2 (eA 4)) (eI 10)), (eI 9), (eI 3)]) (sIf (cAnd (cAnd (cNot (cNull (eGf [0] 3 (eA 0)))) (cCmp0 rNe (eCl (jx_ev tb_Mv_isCopying) [(eGf [0] 3 (eA 0)), (eI 1), (eI 10)]))) (cCmp rLt (eI 9) (eGf [4] 5 (eGf [0] 3 (eA 0))))) (sCl (jx_ev tb_Sh_put) [(eA 0), (eGf [4] 4 (eGf [0] 3 (eA 0))), (eI 9), (eI 3)]) sSkip))) (sInc 10 (nI 1)))
theorem ml_Sh_write_0 : jx_Ts z_Sh_write 161 (sWh 64 lc_Sh_write_0 lb_Sh_write_0) [253] := by
  unfold lc_Sh_write_0 lb_Sh_write_0
  exact t_wh (EA := [250]) (Fs := [253]) (E := [253]) 64 (s_cmp (s_iload d_Sh_write_161) (s_bin (s_bin (s_iconst d_Sh_write_163 (by decide)) (s_iload d_Sh_write_164) (s_imul d_Sh_write_166)) (s_iconst d_Sh_write_167 (by decide)) (s_iadd d_Sh_write_168)) (s_icmp_geF (tgt := 253) d_Sh_write_169 (by decide))) (by decide) (t_seq (t_ifg (E := [247]) (s_cmp0 (s_load (s_getf (s_aload d_Sh_write_172) fi_Sh_120 d_Sh_write_174) (s_iload d_Sh_write_177) (s_iald d_Sh_write_179)) (s_if_neF (tgt := 186) d_Sh_write_180 (by decide))) (by decide) (al_1 (t_goto (q := 183) (tgt := 247) (E := [247]) (t_skip (by decide)) d_Sh_write_183 (by decide) (by decide))) (al_1 (t_seq (t_cl (s_a1 (s_aload_n d_Sh_write_186 rfl) (s_a1 (s_load (s_getf (s_aload d_Sh_write_187) fi_Sh_120 d_Sh_write_189) (s_iload d_Sh_write_192) (s_iald d_Sh_write_194)) (s_a1 (s_iload d_Sh_write_195) (s_a1 (s_iload_n d_Sh_write_197 rfl) s_a0)))) (s_ecv (ve_Sh_put (by decide) (by decide)) dc_Sh_put (by decide) lm_Sh_168 pd_Sh_put d_Sh_write_198)) (t_if1 (Fs := [247]) (E := [247]) (s_andg (s_andg (s_not (s_nul (s_getf (s_aload_n d_Sh_write_201 rfl) fi_Sh_108 d_Sh_write_202) (s_ifnull (tgt := 247) d_Sh_write_205 (by decide))) (by decide)) (by decide) (al_1 (s_cmp0 (s_cl (s_a1 (s_getf (s_aload_n d_Sh_write_208 rfl) fi_Sh_108 d_Sh_write_209) (s_a1 (s_iload_n d_Sh_write_212 rfl) (s_a1 (s_iload d_Sh_write_213) s_a0))) (s_ecv (ve_Mv_isCopying (by decide) (by decide)) dc_Mv_isCopying (by decide) lm_Sh_228 pd_Mv_isCopying d_Sh_write_215)) (s_if_eqF (tgt := 247) d_Sh_write_218 (by decide))))) (by decide) (al_1 (s_cmp (s_iload d_Sh_write_221) (s_getf (s_getf (s_aload_n d_Sh_write_223 rfl) fi_Sh_108 d_Sh_write_224) fi_Sh_232 d_Sh_write_227) (s_icmp_geF (tgt := 247) d_Sh_write_230 (by decide))))) (by decide) (t_sub (E := [247]) (E' := [247]) (t_cl (s_a1 (s_aload_n d_Sh_write_233 rfl) (s_a1 (s_getf (s_getf (s_aload_n d_Sh_write_234 rfl) fi_Sh_108 d_Sh_write_235) fi_Sh_112 d_Sh_write_238) (s_a1 (s_iload d_Sh_write_241) (s_a1 (s_iload_n d_Sh_write_243 rfl) s_a0)))) (s_ecv (ve_Sh_put (by decide) (by decide)) dc_Sh_put (by decide) lm_Sh_168 pd_Sh_put d_Sh_write_244)) (by decide)) (by decide))))) (t_iinc d_Sh_write_247 (by decide) (by decide))) (al_1 (Or.inr ⟨-89, d_Sh_write_250, by decide⟩)) (by decide)
def bd_Sh_write : jx_St := (sSeq (sCl (jx_ev tb_Sh_needOn) [(eA 0)]) (sSeq (sAsg 2 4 (eCl (jx_ev tb_Sh_volumeAt) [(eA 0), (eI 1)])) (sSeq (sAsg 0 5 (eCl (jx_ec f_Sh_elementOf) [(eA 4), (eI 2)])) (sSeq (sAsg 0 6 (eCl (jx_ev tb_Sh_isReadable) [(eA 0), (eLd 0 (eGf [5, 6, 7] 2 (eA 4)) (eBin oMul (eInt (nI 2)) (eI 5)))])) (sSeq (sAsg 0 7 (eCl (jx_ev tb_Sh_isReadable) [(eA 0), (eLd 0 (eGf [5, 6, 7] 2 (eA 4)) (eBin oAdd (eBin oMul (eInt (nI 2)) (eI 5)) (eInt (nI 1))))])) (sSeq (sCl (jx_ec f_Sh_allow) [(eIte (cOr (cCmp0 rNe (eI 6)) (cCmp0 rNe (eI 7))) (eInt (nI 1)) (eInt (nI 0)))]) (sSeq (sAsg 0 8 (eBin oAdd (eBin oMul (eInt (nI 2)) (eI 5)) (eIte (cCmp0 rNe (eI 6)) (eInt (nI 1)) (eInt (nI 0))))) (sSeq (sIf (cAnd (cNot (cAnd (cCmp0 rNe (eI 6)) (cCmp0 rNe (eI 7)))) (cCmp0 rNe (eLd 0 (eGf [5, 6, 7] 2 (eA 4)) (eI 8)))) (sSeq (sAsg 2 9 (eCl (jx_ev tb_Tb_copy) [(eGf [0] 2 (eA 0))])) (sSeq (sSt 0 0 (eGf [5, 6, 7] 2 (eLda 4 (eGf [3] 2 (eA 9)) (eI 1))) (eI 8) (eInt (nI 0))) (sSeq (sCl (jx_ev tb_Sh_change) [(eA 0), (eA 9)]) (sAsg 2 4 (eLda 4 (eGf [3] 2 (eA 9)) (eI 1)))))) sSkip) (sSeq (sAsg 0 9 (eCl (jx_ev tb_Vo_wordOf) [(eA 4), (eI 2)])) (sSeq (sSeq (sAsg 0 10 (eBin oMul (eInt (nI 2)) (eI 5))) (sWh 64 lc_Sh_write_0 lb_Sh_write_0)) (sRet 0 (eIte (cAnd (cCmp0 rNe (eI 6)) (cCmp0 rNe (eI 7))) (eInt (nI 2)) (eInt (nI 1))))))))))))))
theorem m_Sh_write : jx_Ts z_Sh_write 0 bd_Sh_write [] := by
  unfold bd_Sh_write
  exact (t_seq (t_cl (s_a1 (s_aload_n d_Sh_write_0 rfl) s_a0) (s_ecv (ve_Sh_needOn (by decide) (by decide)) dc_Sh_needOn (by decide) lm_Sh_172 pd_Sh_needOn d_Sh_write_1)) (t_seq (t_asg (s_cl (s_a1 (s_aload_n d_Sh_write_4 rfl) (s_a1 (s_iload_n d_Sh_write_5 rfl) s_a0)) (s_ecv (ve_Sh_volumeAt (by decide) (by decide)) dc_Sh_volumeAt (by decide) lm_Sh_205 pd_Sh_volumeAt d_Sh_write_6)) (fun v k h => b_astore d_Sh_write_9 (by decide) h)) (t_seq (t_asg (s_cl (s_a1 (s_aload d_Sh_write_11) (s_a1 (s_iload_n d_Sh_write_13 rfl) s_a0)) (s_ecs me_Sh_elementOf mw_Sh_elementOf (by decide) (by decide) (by decide) lm_Sh_219 w_st_Sh_elementOf w_in_Sh pd_Sh_elementOf d_Sh_write_14)) (fun v k h => b_istore d_Sh_write_17 (by decide) h)) (t_seq (t_asg (s_cl (s_a1 (s_aload_n d_Sh_write_19 rfl) (s_a1 (s_load (s_getf (s_aload d_Sh_write_20) fi_Sh_120 d_Sh_write_22) (s_bin (s_iconst d_Sh_write_25 (by decide)) (s_iload d_Sh_write_26) (s_imul d_Sh_write_28)) (s_iald d_Sh_write_29)) s_a0)) (s_ecv (ve_Sh_isReadable (by decide) (by decide)) dc_Sh_isReadable (by decide) lm_Sh_222 pd_Sh_isReadable d_Sh_write_30)) (fun v k h => b_istore d_Sh_write_33 (by decide) h)) (t_seq (t_asg (s_cl (s_a1 (s_aload_n d_Sh_write_35 rfl) (s_a1 (s_load (s_getf (s_aload d_Sh_write_36) fi_Sh_120 d_Sh_write_38) (s_bin (s_bin (s_iconst d_Sh_write_41 (by decide)) (s_iload d_Sh_write_42) (s_imul d_Sh_write_44)) (s_iconst d_Sh_write_45 (by decide)) (s_iadd d_Sh_write_46)) (s_iald d_Sh_write_47)) s_a0)) (s_ecv (ve_Sh_isReadable (by decide) (by decide)) dc_Sh_isReadable (by decide) lm_Sh_222 pd_Sh_isReadable d_Sh_write_48)) (fun v k h => b_istore d_Sh_write_51 (by decide) h)) (t_seq (t_cl (s_a1 (s_ite (q4 := 68) (s_org (s_cmp0 (s_iload d_Sh_write_53) (s_if_neT (tgt := 63) d_Sh_write_55 (by decide))) (by decide) (al_1 (s_cmp0 (s_iload d_Sh_write_58) (s_if_eqF (tgt := 67) d_Sh_write_60 (by decide))))) (s_iconst d_Sh_write_63 (by decide)) d_Sh_write_64 (by decide) (s_iconst d_Sh_write_67 (by decide))) s_a0) (s_ecs me_Sh_allow mw_Sh_allow (by decide) (by decide) (by decide) lm_Sh_164 w_st_Sh_allow w_in_Sh pd_Sh_allow d_Sh_write_68)) (t_seq (t_asg (s_bin (s_bin (s_iconst d_Sh_write_71 (by decide)) (s_iload d_Sh_write_72) (s_imul d_Sh_write_74)) (s_ite (q4 := 85) (s_cmp0 (s_iload d_Sh_write_75) (s_if_eqF (tgt := 84) d_Sh_write_77 (by decide))) (s_iconst d_Sh_write_80 (by decide)) d_Sh_write_81 (by decide) (s_iconst d_Sh_write_84 (by decide))) (s_iadd d_Sh_write_85)) (fun v k h => b_istore d_Sh_write_86 (by decide) h)) (t_seq (t_if1 (Fs := [147]) (E := [147]) (s_andg (s_not (s_andg (s_cmp0 (s_iload d_Sh_write_88) (s_if_eqF (tgt := 98) d_Sh_write_90 (by decide))) (by decide) (al_1 (s_cmp0 (s_iload d_Sh_write_93) (s_if_neT (tgt := 147) d_Sh_write_95 (by decide))))) (by decide)) (by decide) (al_1 (s_cmp0 (s_load (s_getf (s_aload d_Sh_write_98) fi_Sh_120 d_Sh_write_100) (s_iload d_Sh_write_103) (s_iald d_Sh_write_105)) (s_if_eqF (tgt := 147) d_Sh_write_106 (by decide))))) (by decide) (t_sub (E := [147]) (E' := [147]) (t_seq (t_asg (s_cl (s_a1 (s_getf (s_aload_n d_Sh_write_109 rfl) fi_Sh_28 d_Sh_write_110) s_a0) (s_ecv (ve_Tb_copy (by decide) (by decide)) dc_Tb_copy (by decide) lm_Sh_181 pd_Tb_copy d_Sh_write_113)) (fun v k h => b_astore d_Sh_write_116 (by decide) h)) (t_seq (t_st (s_getf (s_loada (s_getf (s_aload d_Sh_write_118) fi_Sh_71 d_Sh_write_120) (s_iload_n d_Sh_write_123 rfl) (s_aald (Or.inr rfl) d_Sh_write_124)) fi_Sh_120 d_Sh_write_125) (s_iload d_Sh_write_128) (s_iconst d_Sh_write_130 (by decide)) (s_iast d_Sh_write_131)) (t_seq (t_cl (s_a1 (s_aload_n d_Sh_write_132 rfl) (s_a1 (s_aload d_Sh_write_133) s_a0)) (s_ecv (ve_Sh_change (by decide) (by decide)) dc_Sh_change (by decide) lm_Sh_185 pd_Sh_change d_Sh_write_135)) (t_asg (s_loada (s_getf (s_aload d_Sh_write_138) fi_Sh_71 d_Sh_write_140) (s_iload_n d_Sh_write_143 rfl) (s_aald (Or.inr rfl) d_Sh_write_144)) (fun v k h => b_astore d_Sh_write_145 (by decide) h))))) (by decide)) (by decide)) (t_seq (t_asg (s_cl (s_a1 (s_aload d_Sh_write_147) (s_a1 (s_iload_n d_Sh_write_149 rfl) s_a0)) (s_ecv (ve_Vo_wordOf (by decide) (by decide)) dc_Vo_wordOf (by decide) lm_Sh_225 pd_Vo_wordOf d_Sh_write_150)) (fun v k h => b_istore d_Sh_write_153 (by decide) h)) (t_seq (t_seq (t_asg (s_bin (s_iconst d_Sh_write_155 (by decide)) (s_iload d_Sh_write_156) (s_imul d_Sh_write_158)) (fun v k h => b_istore d_Sh_write_159 (by decide) h)) ml_Sh_write_0) (t_ret .int (s_ite (q4 := 268) (s_andg (s_cmp0 (s_iload d_Sh_write_253) (s_if_eqF (tgt := 267) d_Sh_write_255 (by decide))) (by decide) (al_1 (s_cmp0 (s_iload d_Sh_write_258) (s_if_eqF (tgt := 267) d_Sh_write_260 (by decide))))) (s_iconst d_Sh_write_263 (by decide)) d_Sh_write_264 (by decide) (s_iconst d_Sh_write_267 (by decide))) rfl (by decide) d_Sh_write_268)))))))))))
def f_Sh_write : jx_Mt := jx_fn 4 11 (bd_Sh_write fun _ _ => none)
theorem me_Sh_write : jx_Me 4 z_Sh_write f_Sh_write := jx_Me.ofT (by decide) m_Sh_write
theorem mw_Sh_write : jx_mw ⟨"ExtentShelf", "write", "(III)I"⟩ z_Sh_write := ⟨rfl, rfl, by decide +kernel, ⟨by decide, by decide⟩, by decide +kernel⟩
theorem pd_Sh_write : (parseMethodDescriptor (⟨"ExtentShelf", "write", "(III)I"⟩ : MethodName).desc).map (fun d => d.parameters.length) = some 3 := by decide +kernel
/-! ExtentShelf.read(II)I -/
abbrev z_Sh_read : jx_Z := ("ExtentShelf", "read", prog_1_method_30_code, 6, some .int, 7, 129)
theorem d_Sh_read_0 : decode z_Sh_read.2.2.1 0 = .ok (.aload_n 0, 1) := by decide +kernel
theorem d_Sh_read_1 : decode z_Sh_read.2.2.1 1 = .ok (.invokevirtual 172, 3) := by decide +kernel
theorem d_Sh_read_4 : decode z_Sh_read.2.2.1 4 = .ok (.aload_n 0, 1) := by decide +kernel
theorem d_Sh_read_5 : decode z_Sh_read.2.2.1 5 = .ok (.iload_n 1, 1) := by decide +kernel
theorem d_Sh_read_6 : decode z_Sh_read.2.2.1 6 = .ok (.invokevirtual 205, 3) := by decide +kernel
theorem d_Sh_read_9 : decode z_Sh_read.2.2.1 9 = .ok (.astore_n 3, 1) := by decide +kernel
theorem d_Sh_read_10 : decode z_Sh_read.2.2.1 10 = .ok (.aload_n 3, 1) := by decide +kernel
theorem d_Sh_read_11 : decode z_Sh_read.2.2.1 11 = .ok (.iload_n 2, 1) := by decide +kernel
theorem d_Sh_read_12 : decode z_Sh_read.2.2.1 12 = .ok (.invokestatic 219, 3) := by decide +kernel
theorem d_Sh_read_15 : decode z_Sh_read.2.2.1 15 = .ok (.istore 4, 2) := by decide +kernel
theorem d_Sh_read_17 : decode z_Sh_read.2.2.1 17 = .ok (.aload_n 0, 1) := by decide +kernel
theorem d_Sh_read_18 : decode z_Sh_read.2.2.1 18 = .ok (.aload_n 3, 1) := by decide +kernel
theorem d_Sh_read_19 : decode z_Sh_read.2.2.1 19 = .ok (.getfield 120, 3) := by decide +kernel
theorem d_Sh_read_22 : decode z_Sh_read.2.2.1 22 = .ok (.iconst 2, 1) := by decide +kernel
theorem d_Sh_read_23 : decode z_Sh_read.2.2.1 23 = .ok (.iload 4, 2) := by decide +kernel
theorem d_Sh_read_25 : decode z_Sh_read.2.2.1 25 = .ok (.imul, 1) := by decide +kernel
theorem d_Sh_read_26 : decode z_Sh_read.2.2.1 26 = .ok (.iaload, 1) := by decide +kernel
theorem d_Sh_read_27 : decode z_Sh_read.2.2.1 27 = .ok (.invokevirtual 222, 3) := by decide +kernel
theorem d_Sh_read_30 : decode z_Sh_read.2.2.1 30 = .ok (.ifCond .eq 10, 3) := by decide +kernel
theorem d_Sh_read_33 : decode z_Sh_read.2.2.1 33 = .ok (.iconst 2, 1) := by decide +kernel
theorem d_Sh_read_34 : decode z_Sh_read.2.2.1 34 = .ok (.iload 4, 2) := by decide +kernel
theorem d_Sh_read_36 : decode z_Sh_read.2.2.1 36 = .ok (.imul, 1) := by decide +kernel
theorem d_Sh_read_37 : decode z_Sh_read.2.2.1 37 = .ok (.goto 9, 3) := by decide +kernel
theorem d_Sh_read_40 : decode z_Sh_read.2.2.1 40 = .ok (.iconst 2, 1) := by decide +kernel
theorem d_Sh_read_41 : decode z_Sh_read.2.2.1 41 = .ok (.iload 4, 2) := by decide +kernel
theorem d_Sh_read_43 : decode z_Sh_read.2.2.1 43 = .ok (.imul, 1) := by decide +kernel
theorem d_Sh_read_44 : decode z_Sh_read.2.2.1 44 = .ok (.iconst 1, 1) := by decide +kernel
theorem d_Sh_read_45 : decode z_Sh_read.2.2.1 45 = .ok (.iadd, 1) := by decide +kernel
theorem d_Sh_read_46 : decode z_Sh_read.2.2.1 46 = .ok (.istore 5, 2) := by decide +kernel
theorem d_Sh_read_48 : decode z_Sh_read.2.2.1 48 = .ok (.aload_n 0, 1) := by decide +kernel
theorem d_Sh_read_49 : decode z_Sh_read.2.2.1 49 = .ok (.aload_n 3, 1) := by decide +kernel
theorem d_Sh_read_50 : decode z_Sh_read.2.2.1 50 = .ok (.getfield 120, 3) := by decide +kernel
theorem d_Sh_read_53 : decode z_Sh_read.2.2.1 53 = .ok (.iload 5, 2) := by decide +kernel
theorem d_Sh_read_55 : decode z_Sh_read.2.2.1 55 = .ok (.iaload, 1) := by decide +kernel
theorem d_Sh_read_56 : decode z_Sh_read.2.2.1 56 = .ok (.invokevirtual 222, 3) := by decide +kernel
theorem d_Sh_read_59 : decode z_Sh_read.2.2.1 59 = .ok (.invokestatic 164, 3) := by decide +kernel
theorem d_Sh_read_62 : decode z_Sh_read.2.2.1 62 = .ok (.aload_n 0, 1) := by decide +kernel
theorem d_Sh_read_63 : decode z_Sh_read.2.2.1 63 = .ok (.aload_n 3, 1) := by decide +kernel
theorem d_Sh_read_64 : decode z_Sh_read.2.2.1 64 = .ok (.getfield 120, 3) := by decide +kernel
theorem d_Sh_read_67 : decode z_Sh_read.2.2.1 67 = .ok (.iload 5, 2) := by decide +kernel
theorem d_Sh_read_69 : decode z_Sh_read.2.2.1 69 = .ok (.iaload, 1) := by decide +kernel
theorem d_Sh_read_70 : decode z_Sh_read.2.2.1 70 = .ok (.aload_n 3, 1) := by decide +kernel
theorem d_Sh_read_71 : decode z_Sh_read.2.2.1 71 = .ok (.iload_n 2, 1) := by decide +kernel
theorem d_Sh_read_72 : decode z_Sh_read.2.2.1 72 = .ok (.invokevirtual 225, 3) := by decide +kernel
theorem d_Sh_read_75 : decode z_Sh_read.2.2.1 75 = .ok (.invokevirtual 209, 3) := by decide +kernel
theorem d_Sh_read_78 : decode z_Sh_read.2.2.1 78 = .ok (.ireturn, 1) := by decide +kernel
def bd_Sh_read : jx_St := (sSeq (sCl (jx_ev tb_Sh_needOn) [(eA 0)]) (sSeq (sAsg 2 3 (eCl (jx_ev tb_Sh_volumeAt) [(eA 0), (eI 1)])) (sSeq (sAsg 0 4 (eCl (jx_ec f_Sh_elementOf) [(eA 3), (eI 2)])) (sSeq (sAsg 0 5 (eIte (cCmp0 rNe (eCl (jx_ev tb_Sh_isReadable) [(eA 0), (eLd 0 (eGf [5, 6, 7] 2 (eA 3)) (eBin oMul (eInt (nI 2)) (eI 4)))])) (eBin oMul (eInt (nI 2)) (eI 4)) (eBin oAdd (eBin oMul (eInt (nI 2)) (eI 4)) (eInt (nI 1))))) (sSeq (sCl (jx_ec f_Sh_allow) [(eCl (jx_ev tb_Sh_isReadable) [(eA 0), (eLd 0 (eGf [5, 6, 7] 2 (eA 3)) (eI 5))])]) (sRet 0 (eCl (jx_ev tb_Sh_get) [(eA 0), (eLd 0 (eGf [5, 6, 7] 2 (eA 3)) (eI 5)), (eCl (jx_ev tb_Vo_wordOf) [(eA 3), (eI 2)])])))))))
theorem m_Sh_read : jx_Ts z_Sh_read 0 bd_Sh_read [] := by
  unfold bd_Sh_read
  exact (t_seq (t_cl (s_a1 (s_aload_n d_Sh_read_0 rfl) s_a0) (s_ecv (ve_Sh_needOn (by decide) (by decide)) dc_Sh_needOn (by decide) lm_Sh_172 pd_Sh_needOn d_Sh_read_1)) (t_seq (t_asg (s_cl (s_a1 (s_aload_n d_Sh_read_4 rfl) (s_a1 (s_iload_n d_Sh_read_5 rfl) s_a0)) (s_ecv (ve_Sh_volumeAt (by decide) (by decide)) dc_Sh_volumeAt (by decide) lm_Sh_205 pd_Sh_volumeAt d_Sh_read_6)) (fun v k h => b_astore_n d_Sh_read_9 rfl (by decide) h)) (t_seq (t_asg (s_cl (s_a1 (s_aload_n d_Sh_read_10 rfl) (s_a1 (s_iload_n d_Sh_read_11 rfl) s_a0)) (s_ecs me_Sh_elementOf mw_Sh_elementOf (by decide) (by decide) (by decide) lm_Sh_219 w_st_Sh_elementOf w_in_Sh pd_Sh_elementOf d_Sh_read_12)) (fun v k h => b_istore d_Sh_read_15 (by decide) h)) (t_seq (t_asg (s_ite (q4 := 46) (s_cmp0 (s_cl (s_a1 (s_aload_n d_Sh_read_17 rfl) (s_a1 (s_load (s_getf (s_aload_n d_Sh_read_18 rfl) fi_Sh_120 d_Sh_read_19) (s_bin (s_iconst d_Sh_read_22 (by decide)) (s_iload d_Sh_read_23) (s_imul d_Sh_read_25)) (s_iald d_Sh_read_26)) s_a0)) (s_ecv (ve_Sh_isReadable (by decide) (by decide)) dc_Sh_isReadable (by decide) lm_Sh_222 pd_Sh_isReadable d_Sh_read_27)) (s_if_eqF (tgt := 40) d_Sh_read_30 (by decide))) (s_bin (s_iconst d_Sh_read_33 (by decide)) (s_iload d_Sh_read_34) (s_imul d_Sh_read_36)) d_Sh_read_37 (by decide) (s_bin (s_bin (s_iconst d_Sh_read_40 (by decide)) (s_iload d_Sh_read_41) (s_imul d_Sh_read_43)) (s_iconst d_Sh_read_44 (by decide)) (s_iadd d_Sh_read_45))) (fun v k h => b_istore d_Sh_read_46 (by decide) h)) (t_seq (t_cl (s_a1 (s_cl (s_a1 (s_aload_n d_Sh_read_48 rfl) (s_a1 (s_load (s_getf (s_aload_n d_Sh_read_49 rfl) fi_Sh_120 d_Sh_read_50) (s_iload d_Sh_read_53) (s_iald d_Sh_read_55)) s_a0)) (s_ecv (ve_Sh_isReadable (by decide) (by decide)) dc_Sh_isReadable (by decide) lm_Sh_222 pd_Sh_isReadable d_Sh_read_56)) s_a0) (s_ecs me_Sh_allow mw_Sh_allow (by decide) (by decide) (by decide) lm_Sh_164 w_st_Sh_allow w_in_Sh pd_Sh_allow d_Sh_read_59)) (t_ret .int (s_cl (s_a1 (s_aload_n d_Sh_read_62 rfl) (s_a1 (s_load (s_getf (s_aload_n d_Sh_read_63 rfl) fi_Sh_120 d_Sh_read_64) (s_iload d_Sh_read_67) (s_iald d_Sh_read_69)) (s_a1 (s_cl (s_a1 (s_aload_n d_Sh_read_70 rfl) (s_a1 (s_iload_n d_Sh_read_71 rfl) s_a0)) (s_ecv (ve_Vo_wordOf (by decide) (by decide)) dc_Vo_wordOf (by decide) lm_Sh_225 pd_Vo_wordOf d_Sh_read_72)) s_a0))) (s_ecv (ve_Sh_get (by decide) (by decide)) dc_Sh_get (by decide) lm_Sh_209 pd_Sh_get d_Sh_read_75)) rfl (by decide) d_Sh_read_78))))))
def f_Sh_read : jx_Mt := jx_fn 3 6 (bd_Sh_read fun _ _ => none)
theorem me_Sh_read : jx_Me 3 z_Sh_read f_Sh_read := jx_Me.ofT (by decide) m_Sh_read
theorem mw_Sh_read : jx_mw ⟨"ExtentShelf", "read", "(II)I"⟩ z_Sh_read := ⟨rfl, rfl, by decide +kernel, ⟨by decide, by decide⟩, by decide +kernel⟩
theorem pd_Sh_read : (parseMethodDescriptor (⟨"ExtentShelf", "read", "(II)I"⟩ : MethodName).desc).map (fun d => d.parameters.length) = some 2 := by decide +kernel
/-! ExtentShelf$Move.<init>(I)V -/
abbrev z_Mv_init : jx_Z := ("ExtentShelf$Move", "<init>", prog_4_method_1_code, 2, none, 1, 28)
theorem d_Mv_init_0 : decode z_Mv_init.2.2.1 0 = .ok (.aload_n 0, 1) := by decide +kernel
theorem d_Mv_init_1 : decode z_Mv_init.2.2.1 1 = .ok (.invokespecial 3, 3) := by decide +kernel
theorem d_Mv_init_4 : decode z_Mv_init.2.2.1 4 = .ok (.aload_n 0, 1) := by decide +kernel
theorem d_Mv_init_5 : decode z_Mv_init.2.2.1 5 = .ok (.iconst 0, 1) := by decide +kernel
theorem d_Mv_init_6 : decode z_Mv_init.2.2.1 6 = .ok (.putfield 9, 3) := by decide +kernel
theorem d_Mv_init_9 : decode z_Mv_init.2.2.1 9 = .ok (.aload_n 0, 1) := by decide +kernel
theorem d_Mv_init_10 : decode z_Mv_init.2.2.1 10 = .ok (.iload_n 1, 1) := by decide +kernel
theorem d_Mv_init_11 : decode z_Mv_init.2.2.1 11 = .ok (.putfield 15, 3) := by decide +kernel
theorem d_Mv_init_14 : decode z_Mv_init.2.2.1 14 = .ok (.return_, 1) := by decide +kernel
def bd_Mv_init : jx_St := (sSeq (sObj (eA 0)) (sSeq (sPf [4] 4 0 (eA 0) (eInt (nI 0))) (sSeq (sPf [4] 0 0 (eA 0) (eI 1)) sRetV)))
theorem m_Mv_init : jx_Ts z_Mv_init 0 bd_Mv_init [] := by
  unfold bd_Mv_init
  exact (t_seq (t_obj (s_aload_n d_Mv_init_0 rfl) (by decide +kernel) (by decide +kernel) (by decide +kernel) (by decide) (by decide) d_Mv_init_1) (t_seq (t_pf (s_aload_n d_Mv_init_4 rfl) (s_iconst d_Mv_init_5 (by decide)) fi_Mv_9 rfl (Or.inl rfl) d_Mv_init_6) (t_seq (t_pf (s_aload_n d_Mv_init_9 rfl) (s_iload_n d_Mv_init_10 rfl) fi_Mv_15 rfl (Or.inr ⟨rfl, jx_fin (by decide +kernel)⟩) d_Mv_init_11) (t_retv rfl d_Mv_init_14))))
def f_Mv_init : jx_Mt := jx_fn 2 2 (bd_Mv_init fun _ _ => none)
theorem me_Mv_init : jx_Me 2 z_Mv_init f_Mv_init := jx_Me.ofT (by decide) m_Mv_init
theorem mw_Mv_init : jx_mw ⟨"ExtentShelf$Move", "<init>", "(I)V"⟩ z_Mv_init := ⟨rfl, rfl, by decide +kernel, ⟨by decide, by decide⟩, by decide +kernel⟩
theorem pd_Mv_init : (parseMethodDescriptor (⟨"ExtentShelf$Move", "<init>", "(I)V"⟩ : MethodName).desc).map (fun d => d.parameters.length) = some 1 := by decide +kernel
/-! ExtentShelf.empty(I)I -/
abbrev z_Sh_empty : jx_Z := ("ExtentShelf", "empty", prog_1_method_31_code, 2, some .int, 7, 128)
theorem d_Sh_empty_0 : decode z_Sh_empty.2.2.1 0 = .ok (.aload_n 0, 1) := by decide +kernel
theorem d_Sh_empty_1 : decode z_Sh_empty.2.2.1 1 = .ok (.invokevirtual 172, 3) := by decide +kernel
theorem d_Sh_empty_4 : decode z_Sh_empty.2.2.1 4 = .ok (.iload_n 1, 1) := by decide +kernel
theorem d_Sh_empty_5 : decode z_Sh_empty.2.2.1 5 = .ok (.invokestatic 175, 3) := by decide +kernel
theorem d_Sh_empty_8 : decode z_Sh_empty.2.2.1 8 = .ok (.invokestatic 178, 3) := by decide +kernel
theorem d_Sh_empty_11 : decode z_Sh_empty.2.2.1 11 = .ok (.aload_n 0, 1) := by decide +kernel
theorem d_Sh_empty_12 : decode z_Sh_empty.2.2.1 12 = .ok (.iload_n 1, 1) := by decide +kernel
theorem d_Sh_empty_13 : decode z_Sh_empty.2.2.1 13 = .ok (.invokevirtual 64, 3) := by decide +kernel
theorem d_Sh_empty_16 : decode z_Sh_empty.2.2.1 16 = .ok (.ifCond .eq 21, 3) := by decide +kernel
theorem d_Sh_empty_19 : decode z_Sh_empty.2.2.1 19 = .ok (.aload_n 0, 1) := by decide +kernel
theorem d_Sh_empty_20 : decode z_Sh_empty.2.2.1 20 = .ok (.getfield 108, 3) := by decide +kernel
theorem d_Sh_empty_23 : decode z_Sh_empty.2.2.1 23 = .ok (.ifnonnull 14, 3) := by decide +kernel
theorem d_Sh_empty_26 : decode z_Sh_empty.2.2.1 26 = .ok (.aload_n 0, 1) := by decide +kernel
theorem d_Sh_empty_27 : decode z_Sh_empty.2.2.1 27 = .ok (.invokevirtual 93, 3) := by decide +kernel
theorem d_Sh_empty_30 : decode z_Sh_empty.2.2.1 30 = .ok (.ifCond .ne 7, 3) := by decide +kernel
theorem d_Sh_empty_33 : decode z_Sh_empty.2.2.1 33 = .ok (.iconst 1, 1) := by decide +kernel
theorem d_Sh_empty_34 : decode z_Sh_empty.2.2.1 34 = .ok (.goto 4, 3) := by decide +kernel
theorem d_Sh_empty_37 : decode z_Sh_empty.2.2.1 37 = .ok (.iconst 0, 1) := by decide +kernel
theorem d_Sh_empty_38 : decode z_Sh_empty.2.2.1 38 = .ok (.invokestatic 164, 3) := by decide +kernel
theorem d_Sh_empty_41 : decode z_Sh_empty.2.2.1 41 = .ok (.aload_n 0, 1) := by decide +kernel
theorem d_Sh_empty_42 : decode z_Sh_empty.2.2.1 42 = .ok (.new 113, 3) := by decide +kernel
theorem d_Sh_empty_45 : decode z_Sh_empty.2.2.1 45 = .ok (.dup, 1) := by decide +kernel
theorem d_Sh_empty_46 : decode z_Sh_empty.2.2.1 46 = .ok (.iload_n 1, 1) := by decide +kernel
theorem d_Sh_empty_47 : decode z_Sh_empty.2.2.1 47 = .ok (.invokespecial 235, 3) := by decide +kernel
theorem d_Sh_empty_50 : decode z_Sh_empty.2.2.1 50 = .ok (.putfield 108, 3) := by decide +kernel
theorem d_Sh_empty_53 : decode z_Sh_empty.2.2.1 53 = .ok (.aload_n 0, 1) := by decide +kernel
theorem d_Sh_empty_54 : decode z_Sh_empty.2.2.1 54 = .ok (.getfield 28, 3) := by decide +kernel
theorem d_Sh_empty_57 : decode z_Sh_empty.2.2.1 57 = .ok (.iload_n 1, 1) := by decide +kernel
theorem d_Sh_empty_58 : decode z_Sh_empty.2.2.1 58 = .ok (.invokevirtual 189, 3) := by decide +kernel
theorem d_Sh_empty_61 : decode z_Sh_empty.2.2.1 61 = .ok (.ireturn, 1) := by decide +kernel
def bd_Sh_empty : jx_St := (sSeq (sCl (jx_ev tb_Sh_needOn) [(eA 0)]) (sSeq (sCl (jx_ec f_Sh_need) [(eCl (jx_ec f_Sh_isDisk) [(eI 1)])]) (sSeq (sCl (jx_ec f_Sh_allow) [(eIte (cAnd (cAnd (cCmp0 rNe (eCl (jx_ev tb_Sh_isListed) [(eA 0), (eI 1)])) (cNull (eGf [0] 3 (eA 0)))) (cNot (cCmp0 rNe (eCl (jx_ev tb_Sh_isOneAbsent) [(eA 0)])))) (eInt (nI 1)) (eInt (nI 0)))]) (sSeq (sPf [0] 3 2 (eA 0) (eNew 4 6 [.int 0, .int 0, .int 0, .int 0, .int 0, .int 0] f_Mv_init [(eI 1)])) (sRet 0 (eCl (jx_ev tb_Tb_legsOn) [(eGf [0] 2 (eA 0)), (eI 1)]))))))
theorem m_Sh_empty : jx_Ts z_Sh_empty 0 bd_Sh_empty [] := by
  unfold bd_Sh_empty
  exact (t_seq (t_cl (s_a1 (s_aload_n d_Sh_empty_0 rfl) s_a0) (s_ecv (ve_Sh_needOn (by decide) (by decide)) dc_Sh_needOn (by decide) lm_Sh_172 pd_Sh_needOn d_Sh_empty_1)) (t_seq (t_cl (s_a1 (s_cl (s_a1 (s_iload_n d_Sh_empty_4 rfl) s_a0) (s_ecs me_Sh_isDisk mw_Sh_isDisk (by decide) (by decide) (by decide) lm_Sh_175 w_st_Sh_isDisk w_in_Sh pd_Sh_isDisk d_Sh_empty_5)) s_a0) (s_ecs me_Sh_need mw_Sh_need (by decide) (by decide) (by decide) lm_Sh_178 w_st_Sh_need w_in_Sh pd_Sh_need d_Sh_empty_8)) (t_seq (t_cl (s_a1 (s_ite (q4 := 38) (s_andg (s_andg (s_cmp0 (s_cl (s_a1 (s_aload_n d_Sh_empty_11 rfl) (s_a1 (s_iload_n d_Sh_empty_12 rfl) s_a0)) (s_ecv (ve_Sh_isListed (by decide) (by decide)) dc_Sh_isListed (by decide) lm_Sh_64 pd_Sh_isListed d_Sh_empty_13)) (s_if_eqF (tgt := 37) d_Sh_empty_16 (by decide))) (by decide) (al_1 (s_nul (s_getf (s_aload_n d_Sh_empty_19 rfl) fi_Sh_108 d_Sh_empty_20) (s_ifnonnull (tgt := 37) d_Sh_empty_23 (by decide))))) (by decide) (al_1 (s_not (s_cmp0 (s_cl (s_a1 (s_aload_n d_Sh_empty_26 rfl) s_a0) (s_ecv (ve_Sh_isOneAbsent (by decide) (by decide)) dc_Sh_isOneAbsent (by decide) lm_Sh_93 pd_Sh_isOneAbsent d_Sh_empty_27)) (s_if_neT (tgt := 37) d_Sh_empty_30 (by decide))) (by decide)))) (s_iconst d_Sh_empty_33 (by decide)) d_Sh_empty_34 (by decide) (s_iconst d_Sh_empty_37 (by decide))) s_a0) (s_ecs me_Sh_allow mw_Sh_allow (by decide) (by decide) (by decide) lm_Sh_164 w_st_Sh_allow w_in_Sh pd_Sh_allow d_Sh_empty_38)) (t_seq (t_pf (s_aload_n d_Sh_empty_41 rfl) (s_newi (s_new (C := R_Move) (T := F_Move) rfl t_Move_ok (by decide +kernel) (by decide +kernel) (by decide +kernel) (by decide +kernel) d_Sh_empty_42) d_Sh_empty_45 (s_a1 (s_iload_n d_Sh_empty_46 rfl) s_a0) (s_eci me_Mv_init mw_Mv_init rfl rfl (by decide) (by decide) (by decide) lm_Sh_235 (by decide +kernel) pd_Mv_init d_Sh_empty_47)) fi_Sh_108 rfl (Or.inl rfl) d_Sh_empty_50) (t_ret .int (s_cl (s_a1 (s_getf (s_aload_n d_Sh_empty_53 rfl) fi_Sh_28 d_Sh_empty_54) (s_a1 (s_iload_n d_Sh_empty_57 rfl) s_a0)) (s_ecv (ve_Tb_legsOn (by decide) (by decide)) dc_Tb_legsOn (by decide) lm_Sh_189 pd_Tb_legsOn d_Sh_empty_58)) rfl (by decide) d_Sh_empty_61)))))
def f_Sh_empty : jx_Mt := jx_fn 2 2 (bd_Sh_empty fun _ _ => none)
theorem me_Sh_empty : jx_Me 2 z_Sh_empty f_Sh_empty := jx_Me.ofT (by decide) m_Sh_empty
theorem mw_Sh_empty : jx_mw ⟨"ExtentShelf", "empty", "(I)I"⟩ z_Sh_empty := ⟨rfl, rfl, by decide +kernel, ⟨by decide, by decide⟩, by decide +kernel⟩
theorem pd_Sh_empty : (parseMethodDescriptor (⟨"ExtentShelf", "empty", "(I)I"⟩ : MethodName).desc).map (fun d => d.parameters.length) = some 1 := by decide +kernel
/-! ExtentShelf.firstLeg()I -/
abbrev z_Sh_firstLeg : jx_Z := ("ExtentShelf", "firstLeg", prog_1_method_32_code, 4, some .int, 1, 28)
theorem d_Sh_firstLeg_0 : decode z_Sh_firstLeg.2.2.1 0 = .ok (.iconst 0, 1) := by decide +kernel
theorem d_Sh_firstLeg_1 : decode z_Sh_firstLeg.2.2.1 1 = .ok (.istore_n 1, 1) := by decide +kernel
theorem d_Sh_firstLeg_2 : decode z_Sh_firstLeg.2.2.1 2 = .ok (.iload_n 1, 1) := by decide +kernel
theorem d_Sh_firstLeg_3 : decode z_Sh_firstLeg.2.2.1 3 = .ok (.iconst 4, 1) := by decide +kernel
theorem d_Sh_firstLeg_4 : decode z_Sh_firstLeg.2.2.1 4 = .ok (.if_icmp .ge 76, 3) := by decide +kernel
theorem d_Sh_firstLeg_7 : decode z_Sh_firstLeg.2.2.1 7 = .ok (.aload_n 0, 1) := by decide +kernel
theorem d_Sh_firstLeg_8 : decode z_Sh_firstLeg.2.2.1 8 = .ok (.getfield 28, 3) := by decide +kernel
theorem d_Sh_firstLeg_11 : decode z_Sh_firstLeg.2.2.1 11 = .ok (.getfield 71, 3) := by decide +kernel
theorem d_Sh_firstLeg_14 : decode z_Sh_firstLeg.2.2.1 14 = .ok (.iload_n 1, 1) := by decide +kernel
theorem d_Sh_firstLeg_15 : decode z_Sh_firstLeg.2.2.1 15 = .ok (.aaload, 1) := by decide +kernel
theorem d_Sh_firstLeg_16 : decode z_Sh_firstLeg.2.2.1 16 = .ok (.astore_n 2, 1) := by decide +kernel
theorem d_Sh_firstLeg_17 : decode z_Sh_firstLeg.2.2.1 17 = .ok (.iconst 0, 1) := by decide +kernel
theorem d_Sh_firstLeg_18 : decode z_Sh_firstLeg.2.2.1 18 = .ok (.istore_n 3, 1) := by decide +kernel
theorem d_Sh_firstLeg_19 : decode z_Sh_firstLeg.2.2.1 19 = .ok (.aload_n 2, 1) := by decide +kernel
theorem d_Sh_firstLeg_20 : decode z_Sh_firstLeg.2.2.1 20 = .ok (.ifnull 54, 3) := by decide +kernel
theorem d_Sh_firstLeg_23 : decode z_Sh_firstLeg.2.2.1 23 = .ok (.iload_n 3, 1) := by decide +kernel
theorem d_Sh_firstLeg_24 : decode z_Sh_firstLeg.2.2.1 24 = .ok (.iconst 2, 1) := by decide +kernel
theorem d_Sh_firstLeg_25 : decode z_Sh_firstLeg.2.2.1 25 = .ok (.aload_n 2, 1) := by decide +kernel
theorem d_Sh_firstLeg_26 : decode z_Sh_firstLeg.2.2.1 26 = .ok (.getfield 154, 3) := by decide +kernel
theorem d_Sh_firstLeg_29 : decode z_Sh_firstLeg.2.2.1 29 = .ok (.imul, 1) := by decide +kernel
theorem d_Sh_firstLeg_30 : decode z_Sh_firstLeg.2.2.1 30 = .ok (.if_icmp .ge 44, 3) := by decide +kernel
theorem d_Sh_firstLeg_33 : decode z_Sh_firstLeg.2.2.1 33 = .ok (.aload_n 2, 1) := by decide +kernel
theorem d_Sh_firstLeg_34 : decode z_Sh_firstLeg.2.2.1 34 = .ok (.getfield 120, 3) := by decide +kernel
theorem d_Sh_firstLeg_37 : decode z_Sh_firstLeg.2.2.1 37 = .ok (.iload_n 3, 1) := by decide +kernel
theorem d_Sh_firstLeg_38 : decode z_Sh_firstLeg.2.2.1 38 = .ok (.iaload, 1) := by decide +kernel
theorem d_Sh_firstLeg_39 : decode z_Sh_firstLeg.2.2.1 39 = .ok (.ifCond .eq 29, 3) := by decide +kernel
theorem d_Sh_firstLeg_42 : decode z_Sh_firstLeg.2.2.1 42 = .ok (.aload_n 2, 1) := by decide +kernel
theorem d_Sh_firstLeg_43 : decode z_Sh_firstLeg.2.2.1 43 = .ok (.getfield 120, 3) := by decide +kernel
theorem d_Sh_firstLeg_46 : decode z_Sh_firstLeg.2.2.1 46 = .ok (.iload_n 3, 1) := by decide +kernel
theorem d_Sh_firstLeg_47 : decode z_Sh_firstLeg.2.2.1 47 = .ok (.iaload, 1) := by decide +kernel
theorem d_Sh_firstLeg_48 : decode z_Sh_firstLeg.2.2.1 48 = .ok (.invokestatic 78, 3) := by decide +kernel
theorem d_Sh_firstLeg_51 : decode z_Sh_firstLeg.2.2.1 51 = .ok (.aload_n 0, 1) := by decide +kernel
theorem d_Sh_firstLeg_52 : decode z_Sh_firstLeg.2.2.1 52 = .ok (.getfield 108, 3) := by decide +kernel
theorem d_Sh_firstLeg_55 : decode z_Sh_firstLeg.2.2.1 55 = .ok (.getfield 192, 3) := by decide +kernel
theorem d_Sh_firstLeg_58 : decode z_Sh_firstLeg.2.2.1 58 = .ok (.if_icmp .ne 10, 3) := by decide +kernel
theorem d_Sh_firstLeg_61 : decode z_Sh_firstLeg.2.2.1 61 = .ok (.bipush 16, 2) := by decide +kernel
theorem d_Sh_firstLeg_63 : decode z_Sh_firstLeg.2.2.1 63 = .ok (.iload_n 1, 1) := by decide +kernel
theorem d_Sh_firstLeg_64 : decode z_Sh_firstLeg.2.2.1 64 = .ok (.imul, 1) := by decide +kernel
theorem d_Sh_firstLeg_65 : decode z_Sh_firstLeg.2.2.1 65 = .ok (.iload_n 3, 1) := by decide +kernel
theorem d_Sh_firstLeg_66 : decode z_Sh_firstLeg.2.2.1 66 = .ok (.iadd, 1) := by decide +kernel
theorem d_Sh_firstLeg_67 : decode z_Sh_firstLeg.2.2.1 67 = .ok (.ireturn, 1) := by decide +kernel
theorem d_Sh_firstLeg_68 : decode z_Sh_firstLeg.2.2.1 68 = .ok (.iinc 3 1, 3) := by decide +kernel
theorem d_Sh_firstLeg_71 : decode z_Sh_firstLeg.2.2.1 71 = .ok (.goto (-52), 3) := by decide +kernel
theorem d_Sh_firstLeg_74 : decode z_Sh_firstLeg.2.2.1 74 = .ok (.iinc 1 1, 3) := by decide +kernel
theorem d_Sh_firstLeg_77 : decode z_Sh_firstLeg.2.2.1 77 = .ok (.goto (-75), 3) := by decide +kernel
theorem d_Sh_firstLeg_80 : decode z_Sh_firstLeg.2.2.1 80 = .ok (.iconst (-1), 1) := by decide +kernel
theorem d_Sh_firstLeg_81 : decode z_Sh_firstLeg.2.2.1 81 = .ok (.ireturn, 1) := by decide +kernel
def lc_Sh_firstLeg_1 : jx_Cx := (cAnd (cNot (cNull (eA 2))) (cCmp rLt (eI 3) (eBin oMul (eInt (nI 2)) (eGf [5, 6, 7] 1 (eA 2)))))
def lb_Sh_firstLeg_1 : jx_St := (sSeq (sIf (cAnd (cCmp0 rNe (eLd 0 (eGf [5, 6, 7] 2 (eA 2)) (eI 3))) (cCmp rEq (eCl (jx_ec f_Sh_diskOf) [(eLd 0 (eGf [5, 6, 7] 2 (eA 2)) (eI 3))]) (eGf [4] 0 (eGf [0] 3 (eA 0))))) (sRet 0 (eBin oAdd (eBin oMul (eInt (nI 16)) (eI 1)) (eI 3))) sSkip) (sInc 3 (nI 1)))
theorem ml_Sh_firstLeg_1 : jx_Ts z_Sh_firstLeg 19 (sWh 64 lc_Sh_firstLeg_1 lb_Sh_firstLeg_1) [74] := by
  unfold lc_Sh_firstLeg_1 lb_Sh_firstLeg_1
  exact t_wh (EA := [71]) (Fs := [74]) (E := [74]) 64 (s_andg (s_not (s_nul (s_aload_n d_Sh_firstLeg_19 rfl) (s_ifnull (tgt := 74) d_Sh_firstLeg_20 (by decide))) (by decide)) (by decide) (al_1 (s_cmp (s_iload_n d_Sh_firstLeg_23 rfl) (s_bin (s_iconst d_Sh_firstLeg_24 (by decide)) (s_getf (s_aload_n d_Sh_firstLeg_25 rfl) fi_Sh_154 d_Sh_firstLeg_26) (s_imul d_Sh_firstLeg_29)) (s_icmp_geF (tgt := 74) d_Sh_firstLeg_30 (by decide))))) (by decide) (t_seq (t_if1 (Fs := [68]) (E := [68]) (s_andg (s_cmp0 (s_load (s_getf (s_aload_n d_Sh_firstLeg_33 rfl) fi_Sh_120 d_Sh_firstLeg_34) (s_iload_n d_Sh_firstLeg_37 rfl) (s_iald d_Sh_firstLeg_38)) (s_if_eqF (tgt := 68) d_Sh_firstLeg_39 (by decide))) (by decide) (al_1 (s_cmp (s_cl (s_a1 (s_load (s_getf (s_aload_n d_Sh_firstLeg_42 rfl) fi_Sh_120 d_Sh_firstLeg_43) (s_iload_n d_Sh_firstLeg_46 rfl) (s_iald d_Sh_firstLeg_47)) s_a0) (s_ecs me_Sh_diskOf mw_Sh_diskOf (by decide) (by decide) (by decide) lm_Sh_78 w_st_Sh_diskOf w_in_Sh pd_Sh_diskOf d_Sh_firstLeg_48)) (s_getf (s_getf (s_aload_n d_Sh_firstLeg_51 rfl) fi_Sh_108 d_Sh_firstLeg_52) fi_Sh_192 d_Sh_firstLeg_55) (s_icmp_neF (tgt := 68) d_Sh_firstLeg_58 (by decide))))) (by decide) (t_sub (E := []) (E' := [68]) (t_ret .int (s_bin (s_bin (s_bipush d_Sh_firstLeg_61 (by decide)) (s_iload_n d_Sh_firstLeg_63 rfl) (s_imul d_Sh_firstLeg_64)) (s_iload_n d_Sh_firstLeg_65 rfl) (s_iadd d_Sh_firstLeg_66)) rfl (by decide) d_Sh_firstLeg_67) (by decide)) (by decide)) (t_iinc d_Sh_firstLeg_68 (by decide) (by decide))) (al_1 (Or.inr ⟨-52, d_Sh_firstLeg_71, by decide⟩)) (by decide)
def lc_Sh_firstLeg_0 : jx_Cx := (cCmp rLt (eI 1) (eInt (nI 4)))
def lb_Sh_firstLeg_0 : jx_St := (sSeq (sAsg 2 2 (eLda 4 (eGf [3] 2 (eGf [0] 2 (eA 0))) (eI 1))) (sSeq (sSeq (sAsg 0 3 (eInt (nI 0))) (sWh 64 lc_Sh_firstLeg_1 lb_Sh_firstLeg_1)) (sInc 1 (nI 1))))
theorem ml_Sh_firstLeg_0 : jx_Ts z_Sh_firstLeg 2 (sWh 64 lc_Sh_firstLeg_0 lb_Sh_firstLeg_0) [80] := by
  unfold lc_Sh_firstLeg_0 lb_Sh_firstLeg_0
  exact t_wh (EA := [77]) (Fs := [80]) (E := [80]) 64 (s_cmp (s_iload_n d_Sh_firstLeg_2 rfl) (s_iconst d_Sh_firstLeg_3 (by decide)) (s_icmp_geF (tgt := 80) d_Sh_firstLeg_4 (by decide))) (by decide) (t_seq (t_asg (s_loada (s_getf (s_getf (s_aload_n d_Sh_firstLeg_7 rfl) fi_Sh_28 d_Sh_firstLeg_8) fi_Sh_71 d_Sh_firstLeg_11) (s_iload_n d_Sh_firstLeg_14 rfl) (s_aald (Or.inr rfl) d_Sh_firstLeg_15)) (fun v k h => b_astore_n d_Sh_firstLeg_16 rfl (by decide) h)) (t_seq (t_seq (t_asg (s_iconst d_Sh_firstLeg_17 (by decide)) (fun v k h => b_istore_n d_Sh_firstLeg_18 rfl (by decide) h)) ml_Sh_firstLeg_1) (t_iinc d_Sh_firstLeg_74 (by decide) (by decide)))) (al_1 (Or.inr ⟨-75, d_Sh_firstLeg_77, by decide⟩)) (by decide)
def bd_Sh_firstLeg : jx_St := (sSeq (sSeq (sAsg 0 1 (eInt (nI 0))) (sWh 64 lc_Sh_firstLeg_0 lb_Sh_firstLeg_0)) (sRet 0 (eInt (-1))))
theorem m_Sh_firstLeg : jx_Ts z_Sh_firstLeg 0 bd_Sh_firstLeg [] := by
  unfold bd_Sh_firstLeg
  exact (t_seq (t_seq (t_asg (s_iconst d_Sh_firstLeg_0 (by decide)) (fun v k h => b_istore_n d_Sh_firstLeg_1 rfl (by decide) h)) ml_Sh_firstLeg_0) (t_ret .int (s_iconst d_Sh_firstLeg_80 (by decide)) rfl (by decide) d_Sh_firstLeg_81))
def f_Sh_firstLeg : jx_Mt := jx_fn 1 4 (bd_Sh_firstLeg fun _ _ => none)
theorem me_Sh_firstLeg : jx_Me 1 z_Sh_firstLeg f_Sh_firstLeg := jx_Me.ofT (by decide) m_Sh_firstLeg
theorem mw_Sh_firstLeg : jx_mw ⟨"ExtentShelf", "firstLeg", "()I"⟩ z_Sh_firstLeg := ⟨rfl, rfl, by decide +kernel, ⟨by decide, by decide⟩, by decide +kernel⟩
theorem pd_Sh_firstLeg : (parseMethodDescriptor (⟨"ExtentShelf", "firstLeg", "()I"⟩ : MethodName).desc).map (fun d => d.parameters.length) = some 0 := by decide +kernel
/-! ExtentShelf.isBegun(I)Z -/
abbrev z_Sh_isBegun : jx_Z := ("ExtentShelf", "isBegun", prog_1_method_33_code, 3, some .boolean, 4, 137)
theorem d_Sh_isBegun_0 : decode z_Sh_isBegun.2.2.1 0 = .ok (.aload_n 0, 1) := by decide +kernel
theorem d_Sh_isBegun_1 : decode z_Sh_isBegun.2.2.1 1 = .ok (.getfield 108, 3) := by decide +kernel
theorem d_Sh_isBegun_4 : decode z_Sh_isBegun.2.2.1 4 = .ok (.iload_n 1, 1) := by decide +kernel
theorem d_Sh_isBegun_5 : decode z_Sh_isBegun.2.2.1 5 = .ok (.iconst 4, 1) := by decide +kernel
theorem d_Sh_isBegun_6 : decode z_Sh_isBegun.2.2.1 6 = .ok (.ishr, 1) := by decide +kernel
theorem d_Sh_isBegun_7 : decode z_Sh_isBegun.2.2.1 7 = .ok (.putfield 117, 3) := by decide +kernel
theorem d_Sh_isBegun_10 : decode z_Sh_isBegun.2.2.1 10 = .ok (.aload_n 0, 1) := by decide +kernel
theorem d_Sh_isBegun_11 : decode z_Sh_isBegun.2.2.1 11 = .ok (.getfield 108, 3) := by decide +kernel
theorem d_Sh_isBegun_14 : decode z_Sh_isBegun.2.2.1 14 = .ok (.iload_n 1, 1) := by decide +kernel
theorem d_Sh_isBegun_15 : decode z_Sh_isBegun.2.2.1 15 = .ok (.bipush 15, 2) := by decide +kernel
theorem d_Sh_isBegun_17 : decode z_Sh_isBegun.2.2.1 17 = .ok (.iand, 1) := by decide +kernel
theorem d_Sh_isBegun_18 : decode z_Sh_isBegun.2.2.1 18 = .ok (.putfield 125, 3) := by decide +kernel
theorem d_Sh_isBegun_21 : decode z_Sh_isBegun.2.2.1 21 = .ok (.aload_n 0, 1) := by decide +kernel
theorem d_Sh_isBegun_22 : decode z_Sh_isBegun.2.2.1 22 = .ok (.getfield 28, 3) := by decide +kernel
theorem d_Sh_isBegun_25 : decode z_Sh_isBegun.2.2.1 25 = .ok (.getfield 71, 3) := by decide +kernel
theorem d_Sh_isBegun_28 : decode z_Sh_isBegun.2.2.1 28 = .ok (.aload_n 0, 1) := by decide +kernel
theorem d_Sh_isBegun_29 : decode z_Sh_isBegun.2.2.1 29 = .ok (.getfield 108, 3) := by decide +kernel
theorem d_Sh_isBegun_32 : decode z_Sh_isBegun.2.2.1 32 = .ok (.getfield 117, 3) := by decide +kernel
theorem d_Sh_isBegun_35 : decode z_Sh_isBegun.2.2.1 35 = .ok (.aaload, 1) := by decide +kernel
theorem d_Sh_isBegun_36 : decode z_Sh_isBegun.2.2.1 36 = .ok (.astore_n 2, 1) := by decide +kernel
theorem d_Sh_isBegun_37 : decode z_Sh_isBegun.2.2.1 37 = .ok (.aload_n 0, 1) := by decide +kernel
theorem d_Sh_isBegun_38 : decode z_Sh_isBegun.2.2.1 38 = .ok (.getfield 108, 3) := by decide +kernel
theorem d_Sh_isBegun_41 : decode z_Sh_isBegun.2.2.1 41 = .ok (.aload_n 2, 1) := by decide +kernel
theorem d_Sh_isBegun_42 : decode z_Sh_isBegun.2.2.1 42 = .ok (.getfield 120, 3) := by decide +kernel
theorem d_Sh_isBegun_45 : decode z_Sh_isBegun.2.2.1 45 = .ok (.aload_n 0, 1) := by decide +kernel
theorem d_Sh_isBegun_46 : decode z_Sh_isBegun.2.2.1 46 = .ok (.getfield 108, 3) := by decide +kernel
theorem d_Sh_isBegun_49 : decode z_Sh_isBegun.2.2.1 49 = .ok (.getfield 125, 3) := by decide +kernel
theorem d_Sh_isBegun_52 : decode z_Sh_isBegun.2.2.1 52 = .ok (.iaload, 1) := by decide +kernel
theorem d_Sh_isBegun_53 : decode z_Sh_isBegun.2.2.1 53 = .ok (.putfield 128, 3) := by decide +kernel
theorem d_Sh_isBegun_56 : decode z_Sh_isBegun.2.2.1 56 = .ok (.aload_n 0, 1) := by decide +kernel
theorem d_Sh_isBegun_57 : decode z_Sh_isBegun.2.2.1 57 = .ok (.getfield 108, 3) := by decide +kernel
theorem d_Sh_isBegun_60 : decode z_Sh_isBegun.2.2.1 60 = .ok (.iconst 0, 1) := by decide +kernel
theorem d_Sh_isBegun_61 : decode z_Sh_isBegun.2.2.1 61 = .ok (.putfield 232, 3) := by decide +kernel
theorem d_Sh_isBegun_64 : decode z_Sh_isBegun.2.2.1 64 = .ok (.aload_n 0, 1) := by decide +kernel
theorem d_Sh_isBegun_65 : decode z_Sh_isBegun.2.2.1 65 = .ok (.getfield 108, 3) := by decide +kernel
theorem d_Sh_isBegun_68 : decode z_Sh_isBegun.2.2.1 68 = .ok (.aload_n 0, 1) := by decide +kernel
theorem d_Sh_isBegun_69 : decode z_Sh_isBegun.2.2.1 69 = .ok (.aload_n 0, 1) := by decide +kernel
theorem d_Sh_isBegun_70 : decode z_Sh_isBegun.2.2.1 70 = .ok (.getfield 28, 3) := by decide +kernel
theorem d_Sh_isBegun_73 : decode z_Sh_isBegun.2.2.1 73 = .ok (.aload_n 0, 1) := by decide +kernel
theorem d_Sh_isBegun_74 : decode z_Sh_isBegun.2.2.1 74 = .ok (.getfield 108, 3) := by decide +kernel
theorem d_Sh_isBegun_77 : decode z_Sh_isBegun.2.2.1 77 = .ok (.getfield 117, 3) := by decide +kernel
theorem d_Sh_isBegun_80 : decode z_Sh_isBegun.2.2.1 80 = .ok (.aload_n 0, 1) := by decide +kernel
theorem d_Sh_isBegun_81 : decode z_Sh_isBegun.2.2.1 81 = .ok (.getfield 108, 3) := by decide +kernel
theorem d_Sh_isBegun_84 : decode z_Sh_isBegun.2.2.1 84 = .ok (.getfield 125, 3) := by decide +kernel
theorem d_Sh_isBegun_87 : decode z_Sh_isBegun.2.2.1 87 = .ok (.iconst 2, 1) := by decide +kernel
theorem d_Sh_isBegun_88 : decode z_Sh_isBegun.2.2.1 88 = .ok (.idiv, 1) := by decide +kernel
theorem d_Sh_isBegun_89 : decode z_Sh_isBegun.2.2.1 89 = .ok (.aload_n 0, 1) := by decide +kernel
theorem d_Sh_isBegun_90 : decode z_Sh_isBegun.2.2.1 90 = .ok (.getfield 108, 3) := by decide +kernel
theorem d_Sh_isBegun_93 : decode z_Sh_isBegun.2.2.1 93 = .ok (.getfield 125, 3) := by decide +kernel
theorem d_Sh_isBegun_96 : decode z_Sh_isBegun.2.2.1 96 = .ok (.iconst 2, 1) := by decide +kernel
theorem d_Sh_isBegun_97 : decode z_Sh_isBegun.2.2.1 97 = .ok (.irem, 1) := by decide +kernel
theorem d_Sh_isBegun_98 : decode z_Sh_isBegun.2.2.1 98 = .ok (.aload_n 0, 1) := by decide +kernel
theorem d_Sh_isBegun_99 : decode z_Sh_isBegun.2.2.1 99 = .ok (.getfield 108, 3) := by decide +kernel
theorem d_Sh_isBegun_102 : decode z_Sh_isBegun.2.2.1 102 = .ok (.getfield 192, 3) := by decide +kernel
theorem d_Sh_isBegun_105 : decode z_Sh_isBegun.2.2.1 105 = .ok (.invokevirtual 160, 3) := by decide +kernel
theorem d_Sh_isBegun_108 : decode z_Sh_isBegun.2.2.1 108 = .ok (.putfield 112, 3) := by decide +kernel
theorem d_Sh_isBegun_111 : decode z_Sh_isBegun.2.2.1 111 = .ok (.aload_n 0, 1) := by decide +kernel
theorem d_Sh_isBegun_112 : decode z_Sh_isBegun.2.2.1 112 = .ok (.getfield 108, 3) := by decide +kernel
theorem d_Sh_isBegun_115 : decode z_Sh_isBegun.2.2.1 115 = .ok (.getfield 112, 3) := by decide +kernel
theorem d_Sh_isBegun_118 : decode z_Sh_isBegun.2.2.1 118 = .ok (.ifCond .eq 7, 3) := by decide +kernel
theorem d_Sh_isBegun_121 : decode z_Sh_isBegun.2.2.1 121 = .ok (.iconst 1, 1) := by decide +kernel
theorem d_Sh_isBegun_122 : decode z_Sh_isBegun.2.2.1 122 = .ok (.goto 4, 3) := by decide +kernel
theorem d_Sh_isBegun_125 : decode z_Sh_isBegun.2.2.1 125 = .ok (.iconst 0, 1) := by decide +kernel
theorem d_Sh_isBegun_126 : decode z_Sh_isBegun.2.2.1 126 = .ok (.ireturn, 1) := by decide +kernel
def bd_Sh_isBegun : jx_St := (sSeq (sPf [4] 1 0 (eGf [0] 3 (eA 0)) (eBin oShr (eI 1) (eInt (nI 4)))) (sSeq (sPf [4] 2 0 (eGf [0] 3 (eA 0)) (eBin oAnd (eI 1) (eInt (nI 15)))) (sSeq (sAsg 2 2 (eLda 4 (eGf [3] 2 (eGf [0] 2 (eA 0))) (eGf [4] 1 (eGf [0] 3 (eA 0))))) (sSeq (sPf [4] 3 0 (eGf [0] 3 (eA 0)) (eLd 0 (eGf [5, 6, 7] 2 (eA 2)) (eGf [4] 2 (eGf [0] 3 (eA 0))))) (sSeq (sPf [4] 5 0 (eGf [0] 3 (eA 0)) (eInt (nI 0))) (sSeq (sPf [4] 4 0 (eGf [0] 3 (eA 0)) (eCl (jx_ev tb_Sh_room) [(eA 0), (eGf [0] 2 (eA 0)), (eGf [4] 1 (eGf [0] 3 (eA 0))), (eBin oDiv (eGf [4] 2 (eGf [0] 3 (eA 0))) (eInt (nI 2))), (eBin oRem (eGf [4] 2 (eGf [0] 3 (eA 0))) (eInt (nI 2))), (eGf [4] 0 (eGf [0] 3 (eA 0)))])) (sRet 1 (eIte (cCmp0 rNe (eGf [4] 4 (eGf [0] 3 (eA 0)))) (eInt (nI 1)) (eInt (nI 0))))))))))
theorem m_Sh_isBegun : jx_Ts z_Sh_isBegun 0 bd_Sh_isBegun [] := by
  unfold bd_Sh_isBegun
  exact (t_seq (t_pf (s_getf (s_aload_n d_Sh_isBegun_0 rfl) fi_Sh_108 d_Sh_isBegun_1) (s_bin (s_iload_n d_Sh_isBegun_4 rfl) (s_iconst d_Sh_isBegun_5 (by decide)) (s_ishr d_Sh_isBegun_6)) fi_Sh_117 rfl (Or.inl rfl) d_Sh_isBegun_7) (t_seq (t_pf (s_getf (s_aload_n d_Sh_isBegun_10 rfl) fi_Sh_108 d_Sh_isBegun_11) (s_bin (s_iload_n d_Sh_isBegun_14 rfl) (s_bipush d_Sh_isBegun_15 (by decide)) (s_iand d_Sh_isBegun_17)) fi_Sh_125 rfl (Or.inl rfl) d_Sh_isBegun_18) (t_seq (t_asg (s_loada (s_getf (s_getf (s_aload_n d_Sh_isBegun_21 rfl) fi_Sh_28 d_Sh_isBegun_22) fi_Sh_71 d_Sh_isBegun_25) (s_getf (s_getf (s_aload_n d_Sh_isBegun_28 rfl) fi_Sh_108 d_Sh_isBegun_29) fi_Sh_117 d_Sh_isBegun_32) (s_aald (Or.inr rfl) d_Sh_isBegun_35)) (fun v k h => b_astore_n d_Sh_isBegun_36 rfl (by decide) h)) (t_seq (t_pf (s_getf (s_aload_n d_Sh_isBegun_37 rfl) fi_Sh_108 d_Sh_isBegun_38) (s_load (s_getf (s_aload_n d_Sh_isBegun_41 rfl) fi_Sh_120 d_Sh_isBegun_42) (s_getf (s_getf (s_aload_n d_Sh_isBegun_45 rfl) fi_Sh_108 d_Sh_isBegun_46) fi_Sh_125 d_Sh_isBegun_49) (s_iald d_Sh_isBegun_52)) fi_Sh_128 rfl (Or.inl rfl) d_Sh_isBegun_53) (t_seq (t_pf (s_getf (s_aload_n d_Sh_isBegun_56 rfl) fi_Sh_108 d_Sh_isBegun_57) (s_iconst d_Sh_isBegun_60 (by decide)) fi_Sh_232 rfl (Or.inl rfl) d_Sh_isBegun_61) (t_seq (t_pf (s_getf (s_aload_n d_Sh_isBegun_64 rfl) fi_Sh_108 d_Sh_isBegun_65) (s_cl (s_a1 (s_aload_n d_Sh_isBegun_68 rfl) (s_a1 (s_getf (s_aload_n d_Sh_isBegun_69 rfl) fi_Sh_28 d_Sh_isBegun_70) (s_a1 (s_getf (s_getf (s_aload_n d_Sh_isBegun_73 rfl) fi_Sh_108 d_Sh_isBegun_74) fi_Sh_117 d_Sh_isBegun_77) (s_a1 (s_bin (s_getf (s_getf (s_aload_n d_Sh_isBegun_80 rfl) fi_Sh_108 d_Sh_isBegun_81) fi_Sh_125 d_Sh_isBegun_84) (s_iconst d_Sh_isBegun_87 (by decide)) (s_idiv d_Sh_isBegun_88)) (s_a1 (s_bin (s_getf (s_getf (s_aload_n d_Sh_isBegun_89 rfl) fi_Sh_108 d_Sh_isBegun_90) fi_Sh_125 d_Sh_isBegun_93) (s_iconst d_Sh_isBegun_96 (by decide)) (s_irem d_Sh_isBegun_97)) (s_a1 (s_getf (s_getf (s_aload_n d_Sh_isBegun_98 rfl) fi_Sh_108 d_Sh_isBegun_99) fi_Sh_192 d_Sh_isBegun_102) s_a0)))))) (s_ecv (ve_Sh_room (by decide) (by decide)) dc_Sh_room (by decide) lm_Sh_160 pd_Sh_room d_Sh_isBegun_105)) fi_Sh_112 rfl (Or.inl rfl) d_Sh_isBegun_108) (t_ret .boolean (s_ite (q4 := 126) (s_cmp0 (s_getf (s_getf (s_aload_n d_Sh_isBegun_111 rfl) fi_Sh_108 d_Sh_isBegun_112) fi_Sh_112 d_Sh_isBegun_115) (s_if_eqF (tgt := 125) d_Sh_isBegun_118 (by decide))) (s_iconst d_Sh_isBegun_121 (by decide)) d_Sh_isBegun_122 (by decide) (s_iconst d_Sh_isBegun_125 (by decide))) rfl (by decide) d_Sh_isBegun_126)))))))
def f_Sh_isBegun : jx_Mt := jx_fn 2 3 (bd_Sh_isBegun fun _ _ => none)
theorem me_Sh_isBegun : jx_Me 2 z_Sh_isBegun f_Sh_isBegun := jx_Me.ofT (by decide) m_Sh_isBegun
theorem mw_Sh_isBegun : jx_mw ⟨"ExtentShelf", "isBegun", "(I)Z"⟩ z_Sh_isBegun := ⟨rfl, rfl, by decide +kernel, ⟨by decide, by decide⟩, by decide +kernel⟩
theorem pd_Sh_isBegun : (parseMethodDescriptor (⟨"ExtentShelf", "isBegun", "(I)Z"⟩ : MethodName).desc).map (fun d => d.parameters.length) = some 1 := by decide +kernel
abbrev tb_Sh_firstLeg : List (Nat × jx_Mt) := [(0, f_Sh_firstLeg)]
theorem ve_Sh_firstLeg {fr lo : Nat} (h1 : 2 ≤ fr) (h2 : 59 ≤ lo) : ∀ q ∈ tb_Sh_firstLeg, jx_ve ⟨"ExtentShelf", "firstLeg", "()I"⟩ 0 fr lo q.1 q.2 := tv_1 ⟨R_Shelf, F_Shelf, 5, ⟨"ExtentShelf", "firstLeg", "()I"⟩, z_Sh_firstLeg, rfl, by decide +kernel, mw_Sh_firstLeg, by decide +kernel, me_Sh_firstLeg, Nat.le_trans (by decide) h1, Nat.le_trans (by decide) h2⟩
theorem dc_Sh_firstLeg : jx_dc ⟨"ExtentShelf", "firstLeg", "()I"⟩ := ⟨⟨by decide, by decide⟩, Or.inr ⟨by decide +kernel, prog_1_method_32_code, 4, _, (by decide +kernel : Cond.code ⟨"ExtentShelf", "firstLeg", "()I"⟩ prog_1_method_32_code 4 (some .int) ∈ jx_tbl)⟩, "ExtentShelf", ⟨"ExtentShelf", "firstLeg", "()I"⟩, ⟨"ExtentShelf", "firstLeg", "()I"⟩, by decide +kernel, rfl⟩
abbrev tb_Sh_isBegun : List (Nat × jx_Mt) := [(0, f_Sh_isBegun)]
theorem ve_Sh_isBegun {fr lo : Nat} (h1 : 5 ≤ fr) (h2 : 167 ≤ lo) : ∀ q ∈ tb_Sh_isBegun, jx_ve ⟨"ExtentShelf", "isBegun", "(I)Z"⟩ 1 fr lo q.1 q.2 := tv_1 ⟨R_Shelf, F_Shelf, 5, ⟨"ExtentShelf", "isBegun", "(I)Z"⟩, z_Sh_isBegun, rfl, by decide +kernel, mw_Sh_isBegun, by decide +kernel, me_Sh_isBegun, Nat.le_trans (by decide) h1, Nat.le_trans (by decide) h2⟩
theorem dc_Sh_isBegun : jx_dc ⟨"ExtentShelf", "isBegun", "(I)Z"⟩ := ⟨⟨by decide, by decide⟩, Or.inr ⟨by decide +kernel, prog_1_method_33_code, 3, _, (by decide +kernel : Cond.code ⟨"ExtentShelf", "isBegun", "(I)Z"⟩ prog_1_method_33_code 3 (some .boolean) ∈ jx_tbl)⟩, "ExtentShelf", ⟨"ExtentShelf", "isBegun", "(I)Z"⟩, ⟨"ExtentShelf", "isBegun", "(I)Z"⟩, by decide +kernel, rfl⟩
/-! ExtentShelf.step()I -/
abbrev z_Sh_step : jx_Z := ("ExtentShelf", "step", prog_1_method_34_code, 3, some .int, 8, 167)
theorem d_Sh_step_0 : decode z_Sh_step.2.2.1 0 = .ok (.aload_n 0, 1) := by decide +kernel
theorem d_Sh_step_1 : decode z_Sh_step.2.2.1 1 = .ok (.invokevirtual 172, 3) := by decide +kernel
theorem d_Sh_step_4 : decode z_Sh_step.2.2.1 4 = .ok (.aload_n 0, 1) := by decide +kernel
theorem d_Sh_step_5 : decode z_Sh_step.2.2.1 5 = .ok (.getfield 108, 3) := by decide +kernel
theorem d_Sh_step_8 : decode z_Sh_step.2.2.1 8 = .ok (.ifnull 7, 3) := by decide +kernel
theorem d_Sh_step_11 : decode z_Sh_step.2.2.1 11 = .ok (.iconst 1, 1) := by decide +kernel
theorem d_Sh_step_12 : decode z_Sh_step.2.2.1 12 = .ok (.goto 4, 3) := by decide +kernel
theorem d_Sh_step_15 : decode z_Sh_step.2.2.1 15 = .ok (.iconst 0, 1) := by decide +kernel
theorem d_Sh_step_16 : decode z_Sh_step.2.2.1 16 = .ok (.invokestatic 164, 3) := by decide +kernel
theorem d_Sh_step_19 : decode z_Sh_step.2.2.1 19 = .ok (.aload_n 0, 1) := by decide +kernel
theorem d_Sh_step_20 : decode z_Sh_step.2.2.1 20 = .ok (.getfield 108, 3) := by decide +kernel
theorem d_Sh_step_23 : decode z_Sh_step.2.2.1 23 = .ok (.getfield 112, 3) := by decide +kernel
theorem d_Sh_step_26 : decode z_Sh_step.2.2.1 26 = .ok (.ifCond .ne 10, 3) := by decide +kernel
theorem d_Sh_step_29 : decode z_Sh_step.2.2.1 29 = .ok (.aload_n 0, 1) := by decide +kernel
theorem d_Sh_step_30 : decode z_Sh_step.2.2.1 30 = .ok (.invokevirtual 236, 3) := by decide +kernel
theorem d_Sh_step_33 : decode z_Sh_step.2.2.1 33 = .ok (.goto 4, 3) := by decide +kernel
theorem d_Sh_step_36 : decode z_Sh_step.2.2.1 36 = .ok (.iconst 0, 1) := by decide +kernel
theorem d_Sh_step_37 : decode z_Sh_step.2.2.1 37 = .ok (.istore_n 1, 1) := by decide +kernel
theorem d_Sh_step_38 : decode z_Sh_step.2.2.1 38 = .ok (.iload_n 1, 1) := by decide +kernel
theorem d_Sh_step_39 : decode z_Sh_step.2.2.1 39 = .ok (.iconst (-1), 1) := by decide +kernel
theorem d_Sh_step_40 : decode z_Sh_step.2.2.1 40 = .ok (.if_icmp .eq 21, 3) := by decide +kernel
theorem d_Sh_step_43 : decode z_Sh_step.2.2.1 43 = .ok (.aload_n 0, 1) := by decide +kernel
theorem d_Sh_step_44 : decode z_Sh_step.2.2.1 44 = .ok (.getfield 108, 3) := by decide +kernel
theorem d_Sh_step_47 : decode z_Sh_step.2.2.1 47 = .ok (.getfield 112, 3) := by decide +kernel
theorem d_Sh_step_50 : decode z_Sh_step.2.2.1 50 = .ok (.ifCond .ne 27, 3) := by decide +kernel
theorem d_Sh_step_53 : decode z_Sh_step.2.2.1 53 = .ok (.aload_n 0, 1) := by decide +kernel
theorem d_Sh_step_54 : decode z_Sh_step.2.2.1 54 = .ok (.iload_n 1, 1) := by decide +kernel
theorem d_Sh_step_55 : decode z_Sh_step.2.2.1 55 = .ok (.invokevirtual 239, 3) := by decide +kernel
theorem d_Sh_step_58 : decode z_Sh_step.2.2.1 58 = .ok (.ifCond .ne 19, 3) := by decide +kernel
theorem d_Sh_step_61 : decode z_Sh_step.2.2.1 61 = .ok (.aload_n 0, 1) := by decide +kernel
theorem d_Sh_step_62 : decode z_Sh_step.2.2.1 62 = .ok (.aconst_null, 1) := by decide +kernel
theorem d_Sh_step_63 : decode z_Sh_step.2.2.1 63 = .ok (.putfield 108, 3) := by decide +kernel
theorem d_Sh_step_66 : decode z_Sh_step.2.2.1 66 = .ok (.iload_n 1, 1) := by decide +kernel
theorem d_Sh_step_67 : decode z_Sh_step.2.2.1 67 = .ok (.iconst (-1), 1) := by decide +kernel
theorem d_Sh_step_68 : decode z_Sh_step.2.2.1 68 = .ok (.if_icmp .ne 7, 3) := by decide +kernel
theorem d_Sh_step_71 : decode z_Sh_step.2.2.1 71 = .ok (.iconst 0, 1) := by decide +kernel
theorem d_Sh_step_72 : decode z_Sh_step.2.2.1 72 = .ok (.goto 4, 3) := by decide +kernel
theorem d_Sh_step_75 : decode z_Sh_step.2.2.1 75 = .ok (.iconst (-1), 1) := by decide +kernel
theorem d_Sh_step_76 : decode z_Sh_step.2.2.1 76 = .ok (.ireturn, 1) := by decide +kernel
theorem d_Sh_step_77 : decode z_Sh_step.2.2.1 77 = .ok (.aload_n 0, 1) := by decide +kernel
theorem d_Sh_step_78 : decode z_Sh_step.2.2.1 78 = .ok (.aload_n 0, 1) := by decide +kernel
theorem d_Sh_step_79 : decode z_Sh_step.2.2.1 79 = .ok (.getfield 108, 3) := by decide +kernel
theorem d_Sh_step_82 : decode z_Sh_step.2.2.1 82 = .ok (.getfield 112, 3) := by decide +kernel
theorem d_Sh_step_85 : decode z_Sh_step.2.2.1 85 = .ok (.aload_n 0, 1) := by decide +kernel
theorem d_Sh_step_86 : decode z_Sh_step.2.2.1 86 = .ok (.getfield 108, 3) := by decide +kernel
theorem d_Sh_step_89 : decode z_Sh_step.2.2.1 89 = .ok (.getfield 232, 3) := by decide +kernel
theorem d_Sh_step_92 : decode z_Sh_step.2.2.1 92 = .ok (.aload_n 0, 1) := by decide +kernel
theorem d_Sh_step_93 : decode z_Sh_step.2.2.1 93 = .ok (.aload_n 0, 1) := by decide +kernel
theorem d_Sh_step_94 : decode z_Sh_step.2.2.1 94 = .ok (.getfield 108, 3) := by decide +kernel
theorem d_Sh_step_97 : decode z_Sh_step.2.2.1 97 = .ok (.getfield 128, 3) := by decide +kernel
theorem d_Sh_step_100 : decode z_Sh_step.2.2.1 100 = .ok (.aload_n 0, 1) := by decide +kernel
theorem d_Sh_step_101 : decode z_Sh_step.2.2.1 101 = .ok (.getfield 108, 3) := by decide +kernel
theorem d_Sh_step_104 : decode z_Sh_step.2.2.1 104 = .ok (.getfield 232, 3) := by decide +kernel
theorem d_Sh_step_107 : decode z_Sh_step.2.2.1 107 = .ok (.invokevirtual 209, 3) := by decide +kernel
theorem d_Sh_step_110 : decode z_Sh_step.2.2.1 110 = .ok (.invokevirtual 168, 3) := by decide +kernel
theorem d_Sh_step_113 : decode z_Sh_step.2.2.1 113 = .ok (.aload_n 0, 1) := by decide +kernel
theorem d_Sh_step_114 : decode z_Sh_step.2.2.1 114 = .ok (.getfield 108, 3) := by decide +kernel
theorem d_Sh_step_117 : decode z_Sh_step.2.2.1 117 = .ok (.dup, 1) := by decide +kernel
theorem d_Sh_step_118 : decode z_Sh_step.2.2.1 118 = .ok (.getfield 232, 3) := by decide +kernel
theorem d_Sh_step_121 : decode z_Sh_step.2.2.1 121 = .ok (.iconst 1, 1) := by decide +kernel
theorem d_Sh_step_122 : decode z_Sh_step.2.2.1 122 = .ok (.iadd, 1) := by decide +kernel
theorem d_Sh_step_123 : decode z_Sh_step.2.2.1 123 = .ok (.putfield 232, 3) := by decide +kernel
theorem d_Sh_step_126 : decode z_Sh_step.2.2.1 126 = .ok (.aload_n 0, 1) := by decide +kernel
theorem d_Sh_step_127 : decode z_Sh_step.2.2.1 127 = .ok (.getfield 108, 3) := by decide +kernel
theorem d_Sh_step_130 : decode z_Sh_step.2.2.1 130 = .ok (.getfield 232, 3) := by decide +kernel
theorem d_Sh_step_133 : decode z_Sh_step.2.2.1 133 = .ok (.iconst 4, 1) := by decide +kernel
theorem d_Sh_step_134 : decode z_Sh_step.2.2.1 134 = .ok (.if_icmp .ne 46, 3) := by decide +kernel
theorem d_Sh_step_137 : decode z_Sh_step.2.2.1 137 = .ok (.aload_n 0, 1) := by decide +kernel
theorem d_Sh_step_138 : decode z_Sh_step.2.2.1 138 = .ok (.getfield 28, 3) := by decide +kernel
theorem d_Sh_step_141 : decode z_Sh_step.2.2.1 141 = .ok (.invokevirtual 181, 3) := by decide +kernel
theorem d_Sh_step_144 : decode z_Sh_step.2.2.1 144 = .ok (.astore_n 2, 1) := by decide +kernel
theorem d_Sh_step_145 : decode z_Sh_step.2.2.1 145 = .ok (.aload_n 2, 1) := by decide +kernel
theorem d_Sh_step_146 : decode z_Sh_step.2.2.1 146 = .ok (.getfield 71, 3) := by decide +kernel
theorem d_Sh_step_149 : decode z_Sh_step.2.2.1 149 = .ok (.aload_n 0, 1) := by decide +kernel
theorem d_Sh_step_150 : decode z_Sh_step.2.2.1 150 = .ok (.getfield 108, 3) := by decide +kernel
theorem d_Sh_step_153 : decode z_Sh_step.2.2.1 153 = .ok (.getfield 117, 3) := by decide +kernel
theorem d_Sh_step_156 : decode z_Sh_step.2.2.1 156 = .ok (.aaload, 1) := by decide +kernel
theorem d_Sh_step_157 : decode z_Sh_step.2.2.1 157 = .ok (.getfield 120, 3) := by decide +kernel
theorem d_Sh_step_160 : decode z_Sh_step.2.2.1 160 = .ok (.aload_n 0, 1) := by decide +kernel
theorem d_Sh_step_161 : decode z_Sh_step.2.2.1 161 = .ok (.getfield 108, 3) := by decide +kernel
theorem d_Sh_step_164 : decode z_Sh_step.2.2.1 164 = .ok (.getfield 125, 3) := by decide +kernel
theorem d_Sh_step_167 : decode z_Sh_step.2.2.1 167 = .ok (.aload_n 0, 1) := by decide +kernel
theorem d_Sh_step_168 : decode z_Sh_step.2.2.1 168 = .ok (.getfield 108, 3) := by decide +kernel
theorem d_Sh_step_171 : decode z_Sh_step.2.2.1 171 = .ok (.getfield 112, 3) := by decide +kernel
theorem d_Sh_step_174 : decode z_Sh_step.2.2.1 174 = .ok (.iastore, 1) := by decide +kernel
theorem d_Sh_step_175 : decode z_Sh_step.2.2.1 175 = .ok (.aload_n 0, 1) := by decide +kernel
theorem d_Sh_step_176 : decode z_Sh_step.2.2.1 176 = .ok (.aload_n 2, 1) := by decide +kernel
theorem d_Sh_step_177 : decode z_Sh_step.2.2.1 177 = .ok (.invokevirtual 185, 3) := by decide +kernel
theorem d_Sh_step_180 : decode z_Sh_step.2.2.1 180 = .ok (.aload_n 0, 1) := by decide +kernel
theorem d_Sh_step_181 : decode z_Sh_step.2.2.1 181 = .ok (.getfield 28, 3) := by decide +kernel
theorem d_Sh_step_184 : decode z_Sh_step.2.2.1 184 = .ok (.aload_n 0, 1) := by decide +kernel
theorem d_Sh_step_185 : decode z_Sh_step.2.2.1 185 = .ok (.getfield 108, 3) := by decide +kernel
theorem d_Sh_step_188 : decode z_Sh_step.2.2.1 188 = .ok (.getfield 192, 3) := by decide +kernel
theorem d_Sh_step_191 : decode z_Sh_step.2.2.1 191 = .ok (.invokevirtual 189, 3) := by decide +kernel
theorem d_Sh_step_194 : decode z_Sh_step.2.2.1 194 = .ok (.istore_n 2, 1) := by decide +kernel
theorem d_Sh_step_195 : decode z_Sh_step.2.2.1 195 = .ok (.iload_n 2, 1) := by decide +kernel
theorem d_Sh_step_196 : decode z_Sh_step.2.2.1 196 = .ok (.ifCond .ne 8, 3) := by decide +kernel
theorem d_Sh_step_199 : decode z_Sh_step.2.2.1 199 = .ok (.aload_n 0, 1) := by decide +kernel
theorem d_Sh_step_200 : decode z_Sh_step.2.2.1 200 = .ok (.aconst_null, 1) := by decide +kernel
theorem d_Sh_step_201 : decode z_Sh_step.2.2.1 201 = .ok (.putfield 108, 3) := by decide +kernel
theorem d_Sh_step_204 : decode z_Sh_step.2.2.1 204 = .ok (.iload_n 2, 1) := by decide +kernel
theorem d_Sh_step_205 : decode z_Sh_step.2.2.1 205 = .ok (.ireturn, 1) := by decide +kernel
def bd_Sh_step : jx_St := (sSeq (sCl (jx_ev tb_Sh_needOn) [(eA 0)]) (sSeq (sCl (jx_ec f_Sh_allow) [(eIte (cNot (cNull (eGf [0] 3 (eA 0)))) (eInt (nI 1)) (eInt (nI 0)))]) (sSeq (sAsg 0 1 (eIte (cCmp0 rEq (eGf [4] 4 (eGf [0] 3 (eA 0)))) (eCl (jx_ev tb_Sh_firstLeg) [(eA 0)]) (eInt (nI 0)))) (sSeq (sIf (cOr (cCmp rEq (eI 1) (eInt (-1))) (cAnd (cCmp0 rEq (eGf [4] 4 (eGf [0] 3 (eA 0)))) (cNot (cCmp0 rNe (eCl (jx_ev tb_Sh_isBegun) [(eA 0), (eI 1)]))))) (sSeq (sPf [0] 3 2 (eA 0) eNull) (sRet 0 (eIte (cCmp rEq (eI 1) (eInt (-1))) (eInt (nI 0)) (eInt (-1))))) sSkip) (sSeq (sCl (jx_ev tb_Sh_put) [(eA 0), (eGf [4] 4 (eGf [0] 3 (eA 0))), (eGf [4] 5 (eGf [0] 3 (eA 0))), (eCl (jx_ev tb_Sh_get) [(eA 0), (eGf [4] 3 (eGf [0] 3 (eA 0))), (eGf [4] 5 (eGf [0] 3 (eA 0)))])]) (sSeq (sUf [4] 5 0 oAdd (eGf [0] 3 (eA 0)) (eInt (nI 1))) (sSeq (sIf (cCmp rEq (eGf [4] 5 (eGf [0] 3 (eA 0))) (eInt (nI 4))) (sSeq (sAsg 2 2 (eCl (jx_ev tb_Tb_copy) [(eGf [0] 2 (eA 0))])) (sSeq (sSt 0 0 (eGf [5, 6, 7] 2 (eLda 4 (eGf [3] 2 (eA 2)) (eGf [4] 1 (eGf [0] 3 (eA 0))))) (eGf [4] 2 (eGf [0] 3 (eA 0))) (eGf [4] 4 (eGf [0] 3 (eA 0)))) (sCl (jx_ev tb_Sh_change) [(eA 0), (eA 2)]))) sSkip) (sSeq (sAsg 0 2 (eCl (jx_ev tb_Tb_legsOn) [(eGf [0] 2 (eA 0)), (eGf [4] 0 (eGf [0] 3 (eA 0)))])) (sSeq (sIf (cCmp0 rEq (eI 2)) (sPf [0] 3 2 (eA 0) eNull) sSkip) (sRet 0 (eI 2)))))))))))
theorem m_Sh_step : jx_Ts z_Sh_step 0 bd_Sh_step [] := by
  unfold bd_Sh_step
  exact (t_seq (t_cl (s_a1 (s_aload_n d_Sh_step_0 rfl) s_a0) (s_ecv (ve_Sh_needOn (by decide) (by decide)) dc_Sh_needOn (by decide) lm_Sh_172 pd_Sh_needOn d_Sh_step_1)) (t_seq (t_cl (s_a1 (s_ite (q4 := 16) (s_not (s_nul (s_getf (s_aload_n d_Sh_step_4 rfl) fi_Sh_108 d_Sh_step_5) (s_ifnull (tgt := 15) d_Sh_step_8 (by decide))) (by decide)) (s_iconst d_Sh_step_11 (by decide)) d_Sh_step_12 (by decide) (s_iconst d_Sh_step_15 (by decide))) s_a0) (s_ecs me_Sh_allow mw_Sh_allow (by decide) (by decide) (by decide) lm_Sh_164 w_st_Sh_allow w_in_Sh pd_Sh_allow d_Sh_step_16)) (t_seq (t_asg (s_ite (q4 := 37) (s_cmp0 (s_getf (s_getf (s_aload_n d_Sh_step_19 rfl) fi_Sh_108 d_Sh_step_20) fi_Sh_112 d_Sh_step_23) (s_if_neF (tgt := 36) d_Sh_step_26 (by decide))) (s_cl (s_a1 (s_aload_n d_Sh_step_29 rfl) s_a0) (s_ecv (ve_Sh_firstLeg (by decide) (by decide)) dc_Sh_firstLeg (by decide) lm_Sh_236 pd_Sh_firstLeg d_Sh_step_30)) d_Sh_step_33 (by decide) (s_iconst d_Sh_step_36 (by decide))) (fun v k h => b_istore_n d_Sh_step_37 rfl (by decide) h)) (t_seq (t_if1 (Fs := [77]) (E := [77]) (s_org (s_cmp (s_iload_n d_Sh_step_38 rfl) (s_iconst d_Sh_step_39 (by decide)) (s_icmp_eqT (tgt := 61) d_Sh_step_40 (by decide))) (by decide) (al_1 (s_andg (s_cmp0 (s_getf (s_getf (s_aload_n d_Sh_step_43 rfl) fi_Sh_108 d_Sh_step_44) fi_Sh_112 d_Sh_step_47) (s_if_neF (tgt := 77) d_Sh_step_50 (by decide))) (by decide) (al_1 (s_not (s_cmp0 (s_cl (s_a1 (s_aload_n d_Sh_step_53 rfl) (s_a1 (s_iload_n d_Sh_step_54 rfl) s_a0)) (s_ecv (ve_Sh_isBegun (by decide) (by decide)) dc_Sh_isBegun (by decide) lm_Sh_239 pd_Sh_isBegun d_Sh_step_55)) (s_if_neT (tgt := 77) d_Sh_step_58 (by decide))) (by decide)))))) (by decide) (t_sub (E := []) (E' := [77]) (t_seq (t_pf (s_aload_n d_Sh_step_61 rfl) (s_null d_Sh_step_62) fi_Sh_108 rfl (Or.inl rfl) d_Sh_step_63) (t_ret .int (s_ite (q4 := 76) (s_cmp (s_iload_n d_Sh_step_66 rfl) (s_iconst d_Sh_step_67 (by decide)) (s_icmp_neF (tgt := 75) d_Sh_step_68 (by decide))) (s_iconst d_Sh_step_71 (by decide)) d_Sh_step_72 (by decide) (s_iconst d_Sh_step_75 (by decide))) rfl (by decide) d_Sh_step_76)) (by decide)) (by decide)) (t_seq (t_cl (s_a1 (s_aload_n d_Sh_step_77 rfl) (s_a1 (s_getf (s_getf (s_aload_n d_Sh_step_78 rfl) fi_Sh_108 d_Sh_step_79) fi_Sh_112 d_Sh_step_82) (s_a1 (s_getf (s_getf (s_aload_n d_Sh_step_85 rfl) fi_Sh_108 d_Sh_step_86) fi_Sh_232 d_Sh_step_89) (s_a1 (s_cl (s_a1 (s_aload_n d_Sh_step_92 rfl) (s_a1 (s_getf (s_getf (s_aload_n d_Sh_step_93 rfl) fi_Sh_108 d_Sh_step_94) fi_Sh_128 d_Sh_step_97) (s_a1 (s_getf (s_getf (s_aload_n d_Sh_step_100 rfl) fi_Sh_108 d_Sh_step_101) fi_Sh_232 d_Sh_step_104) s_a0))) (s_ecv (ve_Sh_get (by decide) (by decide)) dc_Sh_get (by decide) lm_Sh_209 pd_Sh_get d_Sh_step_107)) s_a0)))) (s_ecv (ve_Sh_put (by decide) (by decide)) dc_Sh_put (by decide) lm_Sh_168 pd_Sh_put d_Sh_step_110)) (t_seq (t_uf (s_getf (s_aload_n d_Sh_step_113 rfl) fi_Sh_108 d_Sh_step_114) d_Sh_step_117 d_Sh_step_118 (s_iconst d_Sh_step_121 (by decide)) (s_iadd d_Sh_step_122) fi_Sh_232 rfl rfl d_Sh_step_123) (t_seq (t_if1 (Fs := [180]) (E := [180]) (s_cmp (s_getf (s_getf (s_aload_n d_Sh_step_126 rfl) fi_Sh_108 d_Sh_step_127) fi_Sh_232 d_Sh_step_130) (s_iconst d_Sh_step_133 (by decide)) (s_icmp_neF (tgt := 180) d_Sh_step_134 (by decide))) (by decide) (t_sub (E := [180]) (E' := [180]) (t_seq (t_asg (s_cl (s_a1 (s_getf (s_aload_n d_Sh_step_137 rfl) fi_Sh_28 d_Sh_step_138) s_a0) (s_ecv (ve_Tb_copy (by decide) (by decide)) dc_Tb_copy (by decide) lm_Sh_181 pd_Tb_copy d_Sh_step_141)) (fun v k h => b_astore_n d_Sh_step_144 rfl (by decide) h)) (t_seq (t_st (s_getf (s_loada (s_getf (s_aload_n d_Sh_step_145 rfl) fi_Sh_71 d_Sh_step_146) (s_getf (s_getf (s_aload_n d_Sh_step_149 rfl) fi_Sh_108 d_Sh_step_150) fi_Sh_117 d_Sh_step_153) (s_aald (Or.inr rfl) d_Sh_step_156)) fi_Sh_120 d_Sh_step_157) (s_getf (s_getf (s_aload_n d_Sh_step_160 rfl) fi_Sh_108 d_Sh_step_161) fi_Sh_125 d_Sh_step_164) (s_getf (s_getf (s_aload_n d_Sh_step_167 rfl) fi_Sh_108 d_Sh_step_168) fi_Sh_112 d_Sh_step_171) (s_iast d_Sh_step_174)) (t_cl (s_a1 (s_aload_n d_Sh_step_175 rfl) (s_a1 (s_aload_n d_Sh_step_176 rfl) s_a0)) (s_ecv (ve_Sh_change (by decide) (by decide)) dc_Sh_change (by decide) lm_Sh_185 pd_Sh_change d_Sh_step_177)))) (by decide)) (by decide)) (t_seq (t_asg (s_cl (s_a1 (s_getf (s_aload_n d_Sh_step_180 rfl) fi_Sh_28 d_Sh_step_181) (s_a1 (s_getf (s_getf (s_aload_n d_Sh_step_184 rfl) fi_Sh_108 d_Sh_step_185) fi_Sh_192 d_Sh_step_188) s_a0)) (s_ecv (ve_Tb_legsOn (by decide) (by decide)) dc_Tb_legsOn (by decide) lm_Sh_189 pd_Tb_legsOn d_Sh_step_191)) (fun v k h => b_istore_n d_Sh_step_194 rfl (by decide) h)) (t_seq (t_if1 (Fs := [204]) (E := [204]) (s_cmp0 (s_iload_n d_Sh_step_195 rfl) (s_if_neF (tgt := 204) d_Sh_step_196 (by decide))) (by decide) (t_sub (E := [204]) (E' := [204]) (t_pf (s_aload_n d_Sh_step_199 rfl) (s_null d_Sh_step_200) fi_Sh_108 rfl (Or.inl rfl) d_Sh_step_201) (by decide)) (by decide)) (t_ret .int (s_iload_n d_Sh_step_204 rfl) rfl (by decide) d_Sh_step_205))))))))))
def f_Sh_step : jx_Mt := jx_fn 1 3 (bd_Sh_step fun _ _ => none)
theorem me_Sh_step : jx_Me 1 z_Sh_step f_Sh_step := jx_Me.ofT (by decide) m_Sh_step
theorem mw_Sh_step : jx_mw ⟨"ExtentShelf", "step", "()I"⟩ z_Sh_step := ⟨rfl, rfl, by decide +kernel, ⟨by decide, by decide⟩, by decide +kernel⟩
theorem pd_Sh_step : (parseMethodDescriptor (⟨"ExtentShelf", "step", "()I"⟩ : MethodName).desc).map (fun d => d.parameters.length) = some 0 := by decide +kernel
/-! ExtentShelf.moving()I -/
abbrev z_Sh_moving : jx_Z := ("ExtentShelf", "moving", prog_1_method_35_code, 1, some .int, 0, 0)
theorem d_Sh_moving_0 : decode z_Sh_moving.2.2.1 0 = .ok (.aload_n 0, 1) := by decide +kernel
theorem d_Sh_moving_1 : decode z_Sh_moving.2.2.1 1 = .ok (.getfield 21, 3) := by decide +kernel
theorem d_Sh_moving_4 : decode z_Sh_moving.2.2.1 4 = .ok (.getfield 36, 3) := by decide +kernel
theorem d_Sh_moving_7 : decode z_Sh_moving.2.2.1 7 = .ok (.ifCond .eq 20, 3) := by decide +kernel
theorem d_Sh_moving_10 : decode z_Sh_moving.2.2.1 10 = .ok (.aload_n 0, 1) := by decide +kernel
theorem d_Sh_moving_11 : decode z_Sh_moving.2.2.1 11 = .ok (.getfield 108, 3) := by decide +kernel
theorem d_Sh_moving_14 : decode z_Sh_moving.2.2.1 14 = .ok (.ifnull 13, 3) := by decide +kernel
theorem d_Sh_moving_17 : decode z_Sh_moving.2.2.1 17 = .ok (.aload_n 0, 1) := by decide +kernel
theorem d_Sh_moving_18 : decode z_Sh_moving.2.2.1 18 = .ok (.getfield 108, 3) := by decide +kernel
theorem d_Sh_moving_21 : decode z_Sh_moving.2.2.1 21 = .ok (.getfield 192, 3) := by decide +kernel
theorem d_Sh_moving_24 : decode z_Sh_moving.2.2.1 24 = .ok (.goto 4, 3) := by decide +kernel
theorem d_Sh_moving_27 : decode z_Sh_moving.2.2.1 27 = .ok (.iconst (-1), 1) := by decide +kernel
theorem d_Sh_moving_28 : decode z_Sh_moving.2.2.1 28 = .ok (.ireturn, 1) := by decide +kernel
def bd_Sh_moving : jx_St := (sRet 0 (eIte (cAnd (cCmp0 rNe (eGf [2] 1 (eGf [0] 1 (eA 0)))) (cNot (cNull (eGf [0] 3 (eA 0))))) (eGf [4] 0 (eGf [0] 3 (eA 0))) (eInt (-1))))
theorem m_Sh_moving : jx_Ts z_Sh_moving 0 bd_Sh_moving [] := by
  unfold bd_Sh_moving
  exact (t_ret .int (s_ite (q4 := 28) (s_andg (s_cmp0 (s_getf (s_getf (s_aload_n d_Sh_moving_0 rfl) fi_Sh_21 d_Sh_moving_1) fi_Sh_36 d_Sh_moving_4) (s_if_eqF (tgt := 27) d_Sh_moving_7 (by decide))) (by decide) (al_1 (s_not (s_nul (s_getf (s_aload_n d_Sh_moving_10 rfl) fi_Sh_108 d_Sh_moving_11) (s_ifnull (tgt := 27) d_Sh_moving_14 (by decide))) (by decide)))) (s_getf (s_getf (s_aload_n d_Sh_moving_17 rfl) fi_Sh_108 d_Sh_moving_18) fi_Sh_192 d_Sh_moving_21) d_Sh_moving_24 (by decide) (s_iconst d_Sh_moving_27 (by decide))) rfl (by decide) d_Sh_moving_28)
def f_Sh_moving : jx_Mt := jx_fn 1 1 (bd_Sh_moving fun _ _ => none)
theorem me_Sh_moving : jx_Me 1 z_Sh_moving f_Sh_moving := jx_Me.ofT (by decide) m_Sh_moving
theorem mw_Sh_moving : jx_mw ⟨"ExtentShelf", "moving", "()I"⟩ z_Sh_moving := ⟨rfl, rfl, by decide +kernel, ⟨by decide, by decide⟩, by decide +kernel⟩
theorem pd_Sh_moving : (parseMethodDescriptor (⟨"ExtentShelf", "moving", "()I"⟩ : MethodName).desc).map (fun d => d.parameters.length) = some 0 := by decide +kernel
/-! ExtentShelf.volume(II)I -/
abbrev z_Sh_volume : jx_Z := ("ExtentShelf", "volume", prog_1_method_36_code, 4, some .int, 7, 129)
theorem d_Sh_volume_0 : decode z_Sh_volume.2.2.1 0 = .ok (.aload_n 0, 1) := by decide +kernel
theorem d_Sh_volume_1 : decode z_Sh_volume.2.2.1 1 = .ok (.invokevirtual 172, 3) := by decide +kernel
theorem d_Sh_volume_4 : decode z_Sh_volume.2.2.1 4 = .ok (.aload_n 0, 1) := by decide +kernel
theorem d_Sh_volume_5 : decode z_Sh_volume.2.2.1 5 = .ok (.iload_n 1, 1) := by decide +kernel
theorem d_Sh_volume_6 : decode z_Sh_volume.2.2.1 6 = .ok (.invokevirtual 205, 3) := by decide +kernel
theorem d_Sh_volume_9 : decode z_Sh_volume.2.2.1 9 = .ok (.astore_n 3, 1) := by decide +kernel
theorem d_Sh_volume_10 : decode z_Sh_volume.2.2.1 10 = .ok (.iload_n 2, 1) := by decide +kernel
theorem d_Sh_volume_11 : decode z_Sh_volume.2.2.1 11 = .ok (.ifCond .lt 12, 3) := by decide +kernel
theorem d_Sh_volume_14 : decode z_Sh_volume.2.2.1 14 = .ok (.iload_n 2, 1) := by decide +kernel
theorem d_Sh_volume_15 : decode z_Sh_volume.2.2.1 15 = .ok (.iconst 3, 1) := by decide +kernel
theorem d_Sh_volume_16 : decode z_Sh_volume.2.2.1 16 = .ok (.if_icmp .gt 7, 3) := by decide +kernel
theorem d_Sh_volume_19 : decode z_Sh_volume.2.2.1 19 = .ok (.iconst 1, 1) := by decide +kernel
theorem d_Sh_volume_20 : decode z_Sh_volume.2.2.1 20 = .ok (.goto 4, 3) := by decide +kernel
theorem d_Sh_volume_23 : decode z_Sh_volume.2.2.1 23 = .ok (.iconst 0, 1) := by decide +kernel
theorem d_Sh_volume_24 : decode z_Sh_volume.2.2.1 24 = .ok (.invokestatic 178, 3) := by decide +kernel
theorem d_Sh_volume_27 : decode z_Sh_volume.2.2.1 27 = .ok (.iload_n 2, 1) := by decide +kernel
theorem d_Sh_volume_28 : decode z_Sh_volume.2.2.1 28 = .ok (.ifCond .ne 10, 3) := by decide +kernel
theorem d_Sh_volume_31 : decode z_Sh_volume.2.2.1 31 = .ok (.aload_n 3, 1) := by decide +kernel
theorem d_Sh_volume_32 : decode z_Sh_volume.2.2.1 32 = .ok (.invokevirtual 242, 3) := by decide +kernel
theorem d_Sh_volume_35 : decode z_Sh_volume.2.2.1 35 = .ok (.goto 33, 3) := by decide +kernel
theorem d_Sh_volume_38 : decode z_Sh_volume.2.2.1 38 = .ok (.iload_n 2, 1) := by decide +kernel
theorem d_Sh_volume_39 : decode z_Sh_volume.2.2.1 39 = .ok (.iconst 1, 1) := by decide +kernel
theorem d_Sh_volume_40 : decode z_Sh_volume.2.2.1 40 = .ok (.if_icmp .ne 10, 3) := by decide +kernel
theorem d_Sh_volume_43 : decode z_Sh_volume.2.2.1 43 = .ok (.aload_n 3, 1) := by decide +kernel
theorem d_Sh_volume_44 : decode z_Sh_volume.2.2.1 44 = .ok (.getfield 245, 3) := by decide +kernel
theorem d_Sh_volume_47 : decode z_Sh_volume.2.2.1 47 = .ok (.goto 21, 3) := by decide +kernel
theorem d_Sh_volume_50 : decode z_Sh_volume.2.2.1 50 = .ok (.iload_n 2, 1) := by decide +kernel
theorem d_Sh_volume_51 : decode z_Sh_volume.2.2.1 51 = .ok (.iconst 2, 1) := by decide +kernel
theorem d_Sh_volume_52 : decode z_Sh_volume.2.2.1 52 = .ok (.if_icmp .ne 10, 3) := by decide +kernel
theorem d_Sh_volume_55 : decode z_Sh_volume.2.2.1 55 = .ok (.aload_n 3, 1) := by decide +kernel
theorem d_Sh_volume_56 : decode z_Sh_volume.2.2.1 56 = .ok (.getfield 154, 3) := by decide +kernel
theorem d_Sh_volume_59 : decode z_Sh_volume.2.2.1 59 = .ok (.goto 9, 3) := by decide +kernel
theorem d_Sh_volume_62 : decode z_Sh_volume.2.2.1 62 = .ok (.iconst 4, 1) := by decide +kernel
theorem d_Sh_volume_63 : decode z_Sh_volume.2.2.1 63 = .ok (.aload_n 3, 1) := by decide +kernel
theorem d_Sh_volume_64 : decode z_Sh_volume.2.2.1 64 = .ok (.getfield 154, 3) := by decide +kernel
theorem d_Sh_volume_67 : decode z_Sh_volume.2.2.1 67 = .ok (.imul, 1) := by decide +kernel
theorem d_Sh_volume_68 : decode z_Sh_volume.2.2.1 68 = .ok (.ireturn, 1) := by decide +kernel
def bd_Sh_volume : jx_St := (sSeq (sCl (jx_ev tb_Sh_needOn) [(eA 0)]) (sSeq (sAsg 2 3 (eCl (jx_ev tb_Sh_volumeAt) [(eA 0), (eI 1)])) (sSeq (sCl (jx_ec f_Sh_need) [(eIte (cAnd (cCmp0 rGe (eI 2)) (cCmp rLe (eI 2) (eInt (nI 3)))) (eInt (nI 1)) (eInt (nI 0)))]) (sRet 0 (eIte (cCmp0 rEq (eI 2)) (eCl (jx_ev tb_Vo_kind) [(eA 3)]) (eIte (cCmp rEq (eI 2) (eInt (nI 1))) (eGf [5, 6, 7] 0 (eA 3)) (eIte (cCmp rEq (eI 2) (eInt (nI 2))) (eGf [5, 6, 7] 1 (eA 3)) (eBin oMul (eInt (nI 4)) (eGf [5, 6, 7] 1 (eA 3))))))))))
theorem m_Sh_volume : jx_Ts z_Sh_volume 0 bd_Sh_volume [] := by
  unfold bd_Sh_volume
  exact (t_seq (t_cl (s_a1 (s_aload_n d_Sh_volume_0 rfl) s_a0) (s_ecv (ve_Sh_needOn (by decide) (by decide)) dc_Sh_needOn (by decide) lm_Sh_172 pd_Sh_needOn d_Sh_volume_1)) (t_seq (t_asg (s_cl (s_a1 (s_aload_n d_Sh_volume_4 rfl) (s_a1 (s_iload_n d_Sh_volume_5 rfl) s_a0)) (s_ecv (ve_Sh_volumeAt (by decide) (by decide)) dc_Sh_volumeAt (by decide) lm_Sh_205 pd_Sh_volumeAt d_Sh_volume_6)) (fun v k h => b_astore_n d_Sh_volume_9 rfl (by decide) h)) (t_seq (t_cl (s_a1 (s_ite (q4 := 24) (s_andg (s_cmp0 (s_iload_n d_Sh_volume_10 rfl) (s_if_ltF (tgt := 23) d_Sh_volume_11 (by decide))) (by decide) (al_1 (s_cmp (s_iload_n d_Sh_volume_14 rfl) (s_iconst d_Sh_volume_15 (by decide)) (s_icmp_gtF (tgt := 23) d_Sh_volume_16 (by decide))))) (s_iconst d_Sh_volume_19 (by decide)) d_Sh_volume_20 (by decide) (s_iconst d_Sh_volume_23 (by decide))) s_a0) (s_ecs me_Sh_need mw_Sh_need (by decide) (by decide) (by decide) lm_Sh_178 w_st_Sh_need w_in_Sh pd_Sh_need d_Sh_volume_24)) (t_ret .int (s_ite (q4 := 68) (s_cmp0 (s_iload_n d_Sh_volume_27 rfl) (s_if_neF (tgt := 38) d_Sh_volume_28 (by decide))) (s_cl (s_a1 (s_aload_n d_Sh_volume_31 rfl) s_a0) (s_ecv (ve_Vo_kind (by decide) (by decide)) dc_Vo_kind (by decide) lm_Sh_242 pd_Vo_kind d_Sh_volume_32)) d_Sh_volume_35 (by decide) (s_ite (q4 := 68) (s_cmp (s_iload_n d_Sh_volume_38 rfl) (s_iconst d_Sh_volume_39 (by decide)) (s_icmp_neF (tgt := 50) d_Sh_volume_40 (by decide))) (s_getf (s_aload_n d_Sh_volume_43 rfl) fi_Sh_245 d_Sh_volume_44) d_Sh_volume_47 (by decide) (s_ite (q4 := 68) (s_cmp (s_iload_n d_Sh_volume_50 rfl) (s_iconst d_Sh_volume_51 (by decide)) (s_icmp_neF (tgt := 62) d_Sh_volume_52 (by decide))) (s_getf (s_aload_n d_Sh_volume_55 rfl) fi_Sh_154 d_Sh_volume_56) d_Sh_volume_59 (by decide) (s_bin (s_iconst d_Sh_volume_62 (by decide)) (s_getf (s_aload_n d_Sh_volume_63 rfl) fi_Sh_154 d_Sh_volume_64) (s_imul d_Sh_volume_67))))) rfl (by decide) d_Sh_volume_68))))
def f_Sh_volume : jx_Mt := jx_fn 3 4 (bd_Sh_volume fun _ _ => none)
theorem me_Sh_volume : jx_Me 3 z_Sh_volume f_Sh_volume := jx_Me.ofT (by decide) m_Sh_volume
theorem mw_Sh_volume : jx_mw ⟨"ExtentShelf", "volume", "(II)I"⟩ z_Sh_volume := ⟨rfl, rfl, by decide +kernel, ⟨by decide, by decide⟩, by decide +kernel⟩
theorem pd_Sh_volume : (parseMethodDescriptor (⟨"ExtentShelf", "volume", "(II)I"⟩ : MethodName).desc).map (fun d => d.parameters.length) = some 2 := by decide +kernel
