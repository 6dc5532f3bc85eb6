/-! METHODS, printed by jgen.py -/
/-! ExtentShelfModel.write(III)I -/
abbrev z_Md_write : jx_Z := ("ExtentShelfModel", "write", prog_11_method_41_code, 10, some .int, 4, 126)
theorem d_Md_write_0 : decode z_Md_write.2.2.1 0 = .ok (.aload_n 0, 1) := by decide +kernel
theorem d_Md_write_1 : decode z_Md_write.2.2.1 1 = .ok (.aload_n 0, 1) := by decide +kernel
theorem d_Md_write_2 : decode z_Md_write.2.2.1 2 = .ok (.getfield 20, 3) := by decide +kernel
theorem d_Md_write_5 : decode z_Md_write.2.2.1 5 = .ok (.ifCond .ne 7, 3) := by decide +kernel
theorem d_Md_write_8 : decode z_Md_write.2.2.1 8 = .ok (.iconst 1, 1) := by decide +kernel
theorem d_Md_write_9 : decode z_Md_write.2.2.1 9 = .ok (.goto 38, 3) := by decide +kernel
theorem d_Md_write_12 : decode z_Md_write.2.2.1 12 = .ok (.aload_n 0, 1) := by decide +kernel
theorem d_Md_write_13 : decode z_Md_write.2.2.1 13 = .ok (.iload_n 1, 1) := by decide +kernel
theorem d_Md_write_14 : decode z_Md_write.2.2.1 14 = .ok (.invokevirtual 134, 3) := by decide +kernel
theorem d_Md_write_17 : decode z_Md_write.2.2.1 17 = .ok (.ifCond .ne 7, 3) := by decide +kernel
theorem d_Md_write_20 : decode z_Md_write.2.2.1 20 = .ok (.iconst 2, 1) := by decide +kernel
theorem d_Md_write_21 : decode z_Md_write.2.2.1 21 = .ok (.goto 26, 3) := by decide +kernel
theorem d_Md_write_24 : decode z_Md_write.2.2.1 24 = .ok (.iload_n 2, 1) := by decide +kernel
theorem d_Md_write_25 : decode z_Md_write.2.2.1 25 = .ok (.ifCond .lt 17, 3) := by decide +kernel
theorem d_Md_write_28 : decode z_Md_write.2.2.1 28 = .ok (.iload_n 2, 1) := by decide +kernel
theorem d_Md_write_29 : decode z_Md_write.2.2.1 29 = .ok (.iconst 4, 1) := by decide +kernel
theorem d_Md_write_30 : decode z_Md_write.2.2.1 30 = .ok (.aload_n 0, 1) := by decide +kernel
theorem d_Md_write_31 : decode z_Md_write.2.2.1 31 = .ok (.getfield 28, 3) := by decide +kernel
theorem d_Md_write_34 : decode z_Md_write.2.2.1 34 = .ok (.iload_n 1, 1) := by decide +kernel
theorem d_Md_write_35 : decode z_Md_write.2.2.1 35 = .ok (.invokestatic 86, 3) := by decide +kernel
theorem d_Md_write_38 : decode z_Md_write.2.2.1 38 = .ok (.imul, 1) := by decide +kernel
theorem d_Md_write_39 : decode z_Md_write.2.2.1 39 = .ok (.if_icmp .lt 7, 3) := by decide +kernel
theorem d_Md_write_42 : decode z_Md_write.2.2.1 42 = .ok (.iconst 3, 1) := by decide +kernel
theorem d_Md_write_43 : decode z_Md_write.2.2.1 43 = .ok (.goto 4, 3) := by decide +kernel
theorem d_Md_write_46 : decode z_Md_write.2.2.1 46 = .ok (.iconst 0, 1) := by decide +kernel
theorem d_Md_write_47 : decode z_Md_write.2.2.1 47 = .ok (.putfield 37, 3) := by decide +kernel
theorem d_Md_write_50 : decode z_Md_write.2.2.1 50 = .ok (.aload_n 0, 1) := by decide +kernel
theorem d_Md_write_51 : decode z_Md_write.2.2.1 51 = .ok (.getfield 37, 3) := by decide +kernel
theorem d_Md_write_54 : decode z_Md_write.2.2.1 54 = .ok (.ifCond .le 5, 3) := by decide +kernel
theorem d_Md_write_57 : decode z_Md_write.2.2.1 57 = .ok (.iconst 0, 1) := by decide +kernel
theorem d_Md_write_58 : decode z_Md_write.2.2.1 58 = .ok (.ireturn, 1) := by decide +kernel
theorem d_Md_write_59 : decode z_Md_write.2.2.1 59 = .ok (.bipush 9, 2) := by decide +kernel
theorem d_Md_write_61 : decode z_Md_write.2.2.1 61 = .ok (.bipush 10, 2) := by decide +kernel
theorem d_Md_write_63 : decode z_Md_write.2.2.1 63 = .ok (.iload_n 1, 1) := by decide +kernel
theorem d_Md_write_64 : decode z_Md_write.2.2.1 64 = .ok (.imul, 1) := by decide +kernel
theorem d_Md_write_65 : decode z_Md_write.2.2.1 65 = .ok (.iadd, 1) := by decide +kernel
theorem d_Md_write_66 : decode z_Md_write.2.2.1 66 = .ok (.iconst 2, 1) := by decide +kernel
theorem d_Md_write_67 : decode z_Md_write.2.2.1 67 = .ok (.aload_n 0, 1) := by decide +kernel
theorem d_Md_write_68 : decode z_Md_write.2.2.1 68 = .ok (.iload_n 1, 1) := by decide +kernel
theorem d_Md_write_69 : decode z_Md_write.2.2.1 69 = .ok (.iload_n 2, 1) := by decide +kernel
theorem d_Md_write_70 : decode z_Md_write.2.2.1 70 = .ok (.invokevirtual 143, 3) := by decide +kernel
theorem d_Md_write_73 : decode z_Md_write.2.2.1 73 = .ok (.imul, 1) := by decide +kernel
theorem d_Md_write_74 : decode z_Md_write.2.2.1 74 = .ok (.iadd, 1) := by decide +kernel
theorem d_Md_write_75 : decode z_Md_write.2.2.1 75 = .ok (.istore 4, 2) := by decide +kernel
theorem d_Md_write_77 : decode z_Md_write.2.2.1 77 = .ok (.aload_n 0, 1) := by decide +kernel
theorem d_Md_write_78 : decode z_Md_write.2.2.1 78 = .ok (.aload_n 0, 1) := by decide +kernel
theorem d_Md_write_79 : decode z_Md_write.2.2.1 79 = .ok (.getfield 28, 3) := by decide +kernel
theorem d_Md_write_82 : decode z_Md_write.2.2.1 82 = .ok (.iload 4, 2) := by decide +kernel
theorem d_Md_write_84 : decode z_Md_write.2.2.1 84 = .ok (.iaload, 1) := by decide +kernel
theorem d_Md_write_85 : decode z_Md_write.2.2.1 85 = .ok (.invokevirtual 146, 3) := by decide +kernel
theorem d_Md_write_88 : decode z_Md_write.2.2.1 88 = .ok (.ifCond .eq 7, 3) := by decide +kernel
theorem d_Md_write_91 : decode z_Md_write.2.2.1 91 = .ok (.iconst 1, 1) := by decide +kernel
theorem d_Md_write_92 : decode z_Md_write.2.2.1 92 = .ok (.goto 4, 3) := by decide +kernel
theorem d_Md_write_95 : decode z_Md_write.2.2.1 95 = .ok (.iconst 0, 1) := by decide +kernel
theorem d_Md_write_96 : decode z_Md_write.2.2.1 96 = .ok (.aload_n 0, 1) := by decide +kernel
theorem d_Md_write_97 : decode z_Md_write.2.2.1 97 = .ok (.aload_n 0, 1) := by decide +kernel
theorem d_Md_write_98 : decode z_Md_write.2.2.1 98 = .ok (.getfield 28, 3) := by decide +kernel
theorem d_Md_write_101 : decode z_Md_write.2.2.1 101 = .ok (.iload 4, 2) := by decide +kernel
theorem d_Md_write_103 : decode z_Md_write.2.2.1 103 = .ok (.iconst 1, 1) := by decide +kernel
theorem d_Md_write_104 : decode z_Md_write.2.2.1 104 = .ok (.iadd, 1) := by decide +kernel
theorem d_Md_write_105 : decode z_Md_write.2.2.1 105 = .ok (.iaload, 1) := by decide +kernel
theorem d_Md_write_106 : decode z_Md_write.2.2.1 106 = .ok (.invokevirtual 146, 3) := by decide +kernel
theorem d_Md_write_109 : decode z_Md_write.2.2.1 109 = .ok (.ifCond .eq 7, 3) := by decide +kernel
theorem d_Md_write_112 : decode z_Md_write.2.2.1 112 = .ok (.iconst 1, 1) := by decide +kernel
theorem d_Md_write_113 : decode z_Md_write.2.2.1 113 = .ok (.goto 4, 3) := by decide +kernel
theorem d_Md_write_116 : decode z_Md_write.2.2.1 116 = .ok (.iconst 0, 1) := by decide +kernel
theorem d_Md_write_117 : decode z_Md_write.2.2.1 117 = .ok (.iadd, 1) := by decide +kernel
theorem d_Md_write_118 : decode z_Md_write.2.2.1 118 = .ok (.istore 5, 2) := by decide +kernel
theorem d_Md_write_120 : decode z_Md_write.2.2.1 120 = .ok (.iload 5, 2) := by decide +kernel
theorem d_Md_write_122 : decode z_Md_write.2.2.1 122 = .ok (.ifCond .ne 10, 3) := by decide +kernel
theorem d_Md_write_125 : decode z_Md_write.2.2.1 125 = .ok (.aload_n 0, 1) := by decide +kernel
theorem d_Md_write_126 : decode z_Md_write.2.2.1 126 = .ok (.iconst 4, 1) := by decide +kernel
theorem d_Md_write_127 : decode z_Md_write.2.2.1 127 = .ok (.putfield 37, 3) := by decide +kernel
theorem d_Md_write_130 : decode z_Md_write.2.2.1 130 = .ok (.iconst 0, 1) := by decide +kernel
theorem d_Md_write_131 : decode z_Md_write.2.2.1 131 = .ok (.ireturn, 1) := by decide +kernel
theorem d_Md_write_132 : decode z_Md_write.2.2.1 132 = .ok (.aload_n 0, 1) := by decide +kernel
theorem d_Md_write_133 : decode z_Md_write.2.2.1 133 = .ok (.aload_n 0, 1) := by decide +kernel
theorem d_Md_write_134 : decode z_Md_write.2.2.1 134 = .ok (.getfield 28, 3) := by decide +kernel
theorem d_Md_write_137 : decode z_Md_write.2.2.1 137 = .ok (.iload 4, 2) := by decide +kernel
theorem d_Md_write_139 : decode z_Md_write.2.2.1 139 = .ok (.iaload, 1) := by decide +kernel
theorem d_Md_write_140 : decode z_Md_write.2.2.1 140 = .ok (.invokevirtual 146, 3) := by decide +kernel
theorem d_Md_write_143 : decode z_Md_write.2.2.1 143 = .ok (.ifCond .eq 10, 3) := by decide +kernel
theorem d_Md_write_146 : decode z_Md_write.2.2.1 146 = .ok (.iload 4, 2) := by decide +kernel
theorem d_Md_write_148 : decode z_Md_write.2.2.1 148 = .ok (.iconst 1, 1) := by decide +kernel
theorem d_Md_write_149 : decode z_Md_write.2.2.1 149 = .ok (.iadd, 1) := by decide +kernel
theorem d_Md_write_150 : decode z_Md_write.2.2.1 150 = .ok (.goto 5, 3) := by decide +kernel
theorem d_Md_write_153 : decode z_Md_write.2.2.1 153 = .ok (.iload 4, 2) := by decide +kernel
theorem d_Md_write_155 : decode z_Md_write.2.2.1 155 = .ok (.istore 6, 2) := by decide +kernel
theorem d_Md_write_157 : decode z_Md_write.2.2.1 157 = .ok (.iload 5, 2) := by decide +kernel
theorem d_Md_write_159 : decode z_Md_write.2.2.1 159 = .ok (.iconst 1, 1) := by decide +kernel
theorem d_Md_write_160 : decode z_Md_write.2.2.1 160 = .ok (.if_icmp .ne 29, 3) := by decide +kernel
theorem d_Md_write_163 : decode z_Md_write.2.2.1 163 = .ok (.aload_n 0, 1) := by decide +kernel
theorem d_Md_write_164 : decode z_Md_write.2.2.1 164 = .ok (.getfield 28, 3) := by decide +kernel
theorem d_Md_write_167 : decode z_Md_write.2.2.1 167 = .ok (.iload 6, 2) := by decide +kernel
theorem d_Md_write_169 : decode z_Md_write.2.2.1 169 = .ok (.iaload, 1) := by decide +kernel
theorem d_Md_write_170 : decode z_Md_write.2.2.1 170 = .ok (.ifCond .le 19, 3) := by decide +kernel
theorem d_Md_write_173 : decode z_Md_write.2.2.1 173 = .ok (.aload_n 0, 1) := by decide +kernel
theorem d_Md_write_174 : decode z_Md_write.2.2.1 174 = .ok (.invokevirtual 107, 3) := by decide +kernel
theorem d_Md_write_177 : decode z_Md_write.2.2.1 177 = .ok (.aload_n 0, 1) := by decide +kernel
theorem d_Md_write_178 : decode z_Md_write.2.2.1 178 = .ok (.getfield 31, 3) := by decide +kernel
theorem d_Md_write_181 : decode z_Md_write.2.2.1 181 = .ok (.iload 6, 2) := by decide +kernel
theorem d_Md_write_183 : decode z_Md_write.2.2.1 183 = .ok (.iconst 0, 1) := by decide +kernel
theorem d_Md_write_184 : decode z_Md_write.2.2.1 184 = .ok (.iastore, 1) := by decide +kernel
theorem d_Md_write_185 : decode z_Md_write.2.2.1 185 = .ok (.aload_n 0, 1) := by decide +kernel
theorem d_Md_write_186 : decode z_Md_write.2.2.1 186 = .ok (.invokevirtual 110, 3) := by decide +kernel
theorem d_Md_write_189 : decode z_Md_write.2.2.1 189 = .ok (.aload_n 0, 1) := by decide +kernel
theorem d_Md_write_190 : decode z_Md_write.2.2.1 190 = .ok (.iload_n 1, 1) := by decide +kernel
theorem d_Md_write_191 : decode z_Md_write.2.2.1 191 = .ok (.iload_n 2, 1) := by decide +kernel
theorem d_Md_write_192 : decode z_Md_write.2.2.1 192 = .ok (.invokevirtual 149, 3) := by decide +kernel
theorem d_Md_write_195 : decode z_Md_write.2.2.1 195 = .ok (.istore 7, 2) := by decide +kernel
theorem d_Md_write_197 : decode z_Md_write.2.2.1 197 = .ok (.iload 4, 2) := by decide +kernel
theorem d_Md_write_199 : decode z_Md_write.2.2.1 199 = .ok (.istore 8, 2) := by decide +kernel
theorem d_Md_write_201 : decode z_Md_write.2.2.1 201 = .ok (.iload 8, 2) := by decide +kernel
theorem d_Md_write_203 : decode z_Md_write.2.2.1 203 = .ok (.iload 4, 2) := by decide +kernel
theorem d_Md_write_205 : decode z_Md_write.2.2.1 205 = .ok (.iconst 2, 1) := by decide +kernel
theorem d_Md_write_206 : decode z_Md_write.2.2.1 206 = .ok (.iadd, 1) := by decide +kernel
theorem d_Md_write_207 : decode z_Md_write.2.2.1 207 = .ok (.if_icmp .ge 118, 3) := by decide +kernel
theorem d_Md_write_210 : decode z_Md_write.2.2.1 210 = .ok (.aload_n 0, 1) := by decide +kernel
theorem d_Md_write_211 : decode z_Md_write.2.2.1 211 = .ok (.getfield 20, 3) := by decide +kernel
theorem d_Md_write_214 : decode z_Md_write.2.2.1 214 = .ok (.ifCond .eq 111, 3) := by decide +kernel
theorem d_Md_write_217 : decode z_Md_write.2.2.1 217 = .ok (.aload_n 0, 1) := by decide +kernel
theorem d_Md_write_218 : decode z_Md_write.2.2.1 218 = .ok (.getfield 28, 3) := by decide +kernel
theorem d_Md_write_221 : decode z_Md_write.2.2.1 221 = .ok (.iload 8, 2) := by decide +kernel
theorem d_Md_write_223 : decode z_Md_write.2.2.1 223 = .ok (.iaload, 1) := by decide +kernel
theorem d_Md_write_224 : decode z_Md_write.2.2.1 224 = .ok (.ifCond .le 7, 3) := by decide +kernel
theorem d_Md_write_227 : decode z_Md_write.2.2.1 227 = .ok (.iconst 1, 1) := by decide +kernel
theorem d_Md_write_228 : decode z_Md_write.2.2.1 228 = .ok (.goto 4, 3) := by decide +kernel
theorem d_Md_write_231 : decode z_Md_write.2.2.1 231 = .ok (.iconst 0, 1) := by decide +kernel
theorem d_Md_write_232 : decode z_Md_write.2.2.1 232 = .ok (.istore 9, 2) := by decide +kernel
theorem d_Md_write_234 : decode z_Md_write.2.2.1 234 = .ok (.iload 9, 2) := by decide +kernel
theorem d_Md_write_236 : decode z_Md_write.2.2.1 236 = .ok (.ifCond .eq 17, 3) := by decide +kernel
theorem d_Md_write_239 : decode z_Md_write.2.2.1 239 = .ok (.aload_n 0, 1) := by decide +kernel
theorem d_Md_write_240 : decode z_Md_write.2.2.1 240 = .ok (.aload_n 0, 1) := by decide +kernel
theorem d_Md_write_241 : decode z_Md_write.2.2.1 241 = .ok (.getfield 28, 3) := by decide +kernel
theorem d_Md_write_244 : decode z_Md_write.2.2.1 244 = .ok (.iload 8, 2) := by decide +kernel
theorem d_Md_write_246 : decode z_Md_write.2.2.1 246 = .ok (.iaload, 1) := by decide +kernel
theorem d_Md_write_247 : decode z_Md_write.2.2.1 247 = .ok (.iload 7, 2) := by decide +kernel
theorem d_Md_write_249 : decode z_Md_write.2.2.1 249 = .ok (.iload_n 3, 1) := by decide +kernel
theorem d_Md_write_250 : decode z_Md_write.2.2.1 250 = .ok (.invokevirtual 99, 3) := by decide +kernel
theorem d_Md_write_253 : decode z_Md_write.2.2.1 253 = .ok (.iload 9, 2) := by decide +kernel
theorem d_Md_write_255 : decode z_Md_write.2.2.1 255 = .ok (.ifCond .eq 64, 3) := by decide +kernel
theorem d_Md_write_258 : decode z_Md_write.2.2.1 258 = .ok (.aload_n 0, 1) := by decide +kernel
theorem d_Md_write_259 : decode z_Md_write.2.2.1 259 = .ok (.getfield 20, 3) := by decide +kernel
theorem d_Md_write_262 : decode z_Md_write.2.2.1 262 = .ok (.ifCond .eq 57, 3) := by decide +kernel
theorem d_Md_write_265 : decode z_Md_write.2.2.1 265 = .ok (.aload_n 0, 1) := by decide +kernel
theorem d_Md_write_266 : decode z_Md_write.2.2.1 266 = .ok (.getfield 34, 3) := by decide +kernel
theorem d_Md_write_269 : decode z_Md_write.2.2.1 269 = .ok (.ifCond .lt 50, 3) := by decide +kernel
theorem d_Md_write_272 : decode z_Md_write.2.2.1 272 = .ok (.aload_n 0, 1) := by decide +kernel
theorem d_Md_write_273 : decode z_Md_write.2.2.1 273 = .ok (.getfield 65, 3) := by decide +kernel
theorem d_Md_write_276 : decode z_Md_write.2.2.1 276 = .ok (.ifCond .le 43, 3) := by decide +kernel
theorem d_Md_write_279 : decode z_Md_write.2.2.1 279 = .ok (.iload 8, 2) := by decide +kernel
theorem d_Md_write_281 : decode z_Md_write.2.2.1 281 = .ok (.bipush 9, 2) := by decide +kernel
theorem d_Md_write_283 : decode z_Md_write.2.2.1 283 = .ok (.bipush 10, 2) := by decide +kernel
theorem d_Md_write_285 : decode z_Md_write.2.2.1 285 = .ok (.aload_n 0, 1) := by decide +kernel
theorem d_Md_write_286 : decode z_Md_write.2.2.1 286 = .ok (.getfield 59, 3) := by decide +kernel
theorem d_Md_write_289 : decode z_Md_write.2.2.1 289 = .ok (.imul, 1) := by decide +kernel
theorem d_Md_write_290 : decode z_Md_write.2.2.1 290 = .ok (.iadd, 1) := by decide +kernel
theorem d_Md_write_291 : decode z_Md_write.2.2.1 291 = .ok (.aload_n 0, 1) := by decide +kernel
theorem d_Md_write_292 : decode z_Md_write.2.2.1 292 = .ok (.getfield 62, 3) := by decide +kernel
theorem d_Md_write_295 : decode z_Md_write.2.2.1 295 = .ok (.iadd, 1) := by decide +kernel
theorem d_Md_write_296 : decode z_Md_write.2.2.1 296 = .ok (.if_icmp .ne 23, 3) := by decide +kernel
theorem d_Md_write_299 : decode z_Md_write.2.2.1 299 = .ok (.iload 7, 2) := by decide +kernel
theorem d_Md_write_301 : decode z_Md_write.2.2.1 301 = .ok (.aload_n 0, 1) := by decide +kernel
theorem d_Md_write_302 : decode z_Md_write.2.2.1 302 = .ok (.getfield 152, 3) := by decide +kernel
theorem d_Md_write_305 : decode z_Md_write.2.2.1 305 = .ok (.if_icmp .ge 14, 3) := by decide +kernel
theorem d_Md_write_308 : decode z_Md_write.2.2.1 308 = .ok (.aload_n 0, 1) := by decide +kernel
theorem d_Md_write_309 : decode z_Md_write.2.2.1 309 = .ok (.aload_n 0, 1) := by decide +kernel
theorem d_Md_write_310 : decode z_Md_write.2.2.1 310 = .ok (.getfield 65, 3) := by decide +kernel
theorem d_Md_write_313 : decode z_Md_write.2.2.1 313 = .ok (.iload 7, 2) := by decide +kernel
theorem d_Md_write_315 : decode z_Md_write.2.2.1 315 = .ok (.iload_n 3, 1) := by decide +kernel
theorem d_Md_write_316 : decode z_Md_write.2.2.1 316 = .ok (.invokevirtual 99, 3) := by decide +kernel
theorem d_Md_write_319 : decode z_Md_write.2.2.1 319 = .ok (.iinc 8 1, 3) := by decide +kernel
theorem d_Md_write_322 : decode z_Md_write.2.2.1 322 = .ok (.goto (-121), 3) := by decide +kernel
theorem d_Md_write_325 : decode z_Md_write.2.2.1 325 = .ok (.aload_n 0, 1) := by decide +kernel
theorem d_Md_write_326 : decode z_Md_write.2.2.1 326 = .ok (.iload 5, 2) := by decide +kernel
theorem d_Md_write_328 : decode z_Md_write.2.2.1 328 = .ok (.invokevirtual 113, 3) := by decide +kernel
theorem d_Md_write_331 : decode z_Md_write.2.2.1 331 = .ok (.ireturn, 1) := by decide +kernel
def lc_Md_write_0 : jx_Cx := (cAnd (cCmp rLt (eI 8) (eBin oAdd (eI 4) (eInt (nI 2)))) (cCmp0 rNe (eGf [8] 4 (eA 0))))
def lb_Md_write_0 : jx_St := (sSeq (sAsg 0 9 (eIte (cCmp0 rGt (eLd 0 (eGf [8] 6 (eA 0)) (eI 8))) (eInt (nI 1)) (eInt (nI 0)))) (sSeq (sIf (cCmp0 rNe (eI 9)) (sCl (jx_ev tb_Md_put) [(eA 0), (eLd 0 (eGf [8] 6 (eA 0)) (eI 8)), (eI 7), (eI 3)]) sSkip) (sSeq (sIf (cAnd (cAnd (cAnd (cAnd (cAnd (cCmp0 rNe (eI 9)) (cCmp0 rNe (eGf [8] 4 (eA 0)))) (cCmp0 rGe (eGf [8] 8 (eA 0)))) (cCmp0 rGt (eGf [8] 11 (eA 0)))) (cCmp rEq (eI 8) (eBin oAdd (eBin oAdd (eInt (nI 9)) (eBin oMul (eInt (nI 10)) (eGf [8] 9 (eA 0)))) (eGf [8] 10 (eA 0))))) (cCmp rLt (eI 7) (eGf [8] 12 (eA 0)))) (sCl (jx_ev tb_Md_put) [(eA 0), (eGf [8] 11 (eA 0)), (eI 7), (eI 3)]) sSkip) (sInc 8 (nI 1)))))
theorem ml_Md_write_0 : jx_Ts z_Md_write 201 (sWh 64 lc_Md_write_0 lb_Md_write_0) [325] := by
  unfold lc_Md_write_0 lb_Md_write_0
  exact t_wh (EA := [322]) (Fs := [325]) (E := [325]) 64 (s_andg (s_cmp (s_iload d_Md_write_201) (s_bin (s_iload d_Md_write_203) (s_iconst d_Md_write_205 (by decide)) (s_iadd d_Md_write_206)) (s_icmp_geF (tgt := 325) d_Md_write_207 (by decide))) (by decide) (al_1 (s_cmp0 (s_getf (s_aload_n d_Md_write_210 rfl) fi_Md_20 d_Md_write_211) (s_if_eqF (tgt := 325) d_Md_write_214 (by decide))))) (by decide) (t_seq (t_asg (s_ite (q4 := 232) (s_cmp0 (s_load (s_getf (s_aload_n d_Md_write_217 rfl) fi_Md_28 d_Md_write_218) (s_iload d_Md_write_221) (s_iald d_Md_write_223)) (s_if_leF (tgt := 231) d_Md_write_224 (by decide))) (s_iconst d_Md_write_227 (by decide)) d_Md_write_228 (by decide) (s_iconst d_Md_write_231 (by decide))) (fun v k h => b_istore d_Md_write_232 (by decide) h)) (t_seq (t_if1 (Fs := [253]) (E := [253]) (s_cmp0 (s_iload d_Md_write_234) (s_if_eqF (tgt := 253) d_Md_write_236 (by decide))) (by decide) (t_sub (E := [253]) (E' := [253]) (t_cl (s_a1 (s_aload_n d_Md_write_239 rfl) (s_a1 (s_load (s_getf (s_aload_n d_Md_write_240 rfl) fi_Md_28 d_Md_write_241) (s_iload d_Md_write_244) (s_iald d_Md_write_246)) (s_a1 (s_iload d_Md_write_247) (s_a1 (s_iload_n d_Md_write_249 rfl) s_a0)))) (s_ecv (ve_Md_put (by decide) (by decide)) dc_Md_put (by decide) lm_Md_99 pd_Md_put d_Md_write_250)) (by decide)) (by decide)) (t_seq (t_if1 (Fs := [319]) (E := [319]) (s_andg (s_andg (s_andg (s_andg (s_andg (s_cmp0 (s_iload d_Md_write_253) (s_if_eqF (tgt := 319) d_Md_write_255 (by decide))) (by decide) (al_1 (s_cmp0 (s_getf (s_aload_n d_Md_write_258 rfl) fi_Md_20 d_Md_write_259) (s_if_eqF (tgt := 319) d_Md_write_262 (by decide))))) (by decide) (al_1 (s_cmp0 (s_getf (s_aload_n d_Md_write_265 rfl) fi_Md_34 d_Md_write_266) (s_if_ltF (tgt := 319) d_Md_write_269 (by decide))))) (by decide) (al_1 (s_cmp0 (s_getf (s_aload_n d_Md_write_272 rfl) fi_Md_65 d_Md_write_273) (s_if_leF (tgt := 319) d_Md_write_276 (by decide))))) (by decide) (al_1 (s_cmp (s_iload d_Md_write_279) (s_bin (s_bin (s_bipush d_Md_write_281 (by decide)) (s_bin (s_bipush d_Md_write_283 (by decide)) (s_getf (s_aload_n d_Md_write_285 rfl) fi_Md_59 d_Md_write_286) (s_imul d_Md_write_289)) (s_iadd d_Md_write_290)) (s_getf (s_aload_n d_Md_write_291 rfl) fi_Md_62 d_Md_write_292) (s_iadd d_Md_write_295)) (s_icmp_neF (tgt := 319) d_Md_write_296 (by decide))))) (by decide) (al_1 (s_cmp (s_iload d_Md_write_299) (s_getf (s_aload_n d_Md_write_301 rfl) fi_Md_152 d_Md_write_302) (s_icmp_geF (tgt := 319) d_Md_write_305 (by decide))))) (by decide) (t_sub (E := [319]) (E' := [319]) (t_cl (s_a1 (s_aload_n d_Md_write_308 rfl) (s_a1 (s_getf (s_aload_n d_Md_write_309 rfl) fi_Md_65 d_Md_write_310) (s_a1 (s_iload d_Md_write_313) (s_a1 (s_iload_n d_Md_write_315 rfl) s_a0)))) (s_ecv (ve_Md_put (by decide) (by decide)) dc_Md_put (by decide) lm_Md_99 pd_Md_put d_Md_write_316)) (by decide)) (by decide)) (t_iinc d_Md_write_319 (by decide) (by decide))))) (al_1 (Or.inr ⟨-121, d_Md_write_322, by decide⟩)) (by decide)
def bd_Md_write : jx_St := (sSeq (sPf [8] 0 0 (eA 0) (eIte (cNot (cCmp0 rNe (eGf [8] 4 (eA 0)))) (eInt (nI 1)) (eIte (cNot (cCmp0 rNe (eCl (jx_ev tb_Md_isVolume) [(eA 0), (eI 1)]))) (eInt (nI 2)) (eIte (cOr (cCmp0 rLt (eI 2)) (cCmp rGe (eI 2) (eBin oMul (eInt (nI 4)) (eCl (jx_ec f_Md_elementsOf) [(eGf [8] 6 (eA 0)), (eI 1)])))) (eInt (nI 3)) (eInt (nI 0)))))) (sSeq (sIf (cCmp0 rGt (eGf [8] 0 (eA 0))) (sRet 0 (eInt (nI 0))) sSkip) (sSeq (sAsg 0 4 (eBin oAdd (eBin oAdd (eInt (nI 9)) (eBin oMul (eInt (nI 10)) (eI 1))) (eBin oMul (eInt (nI 2)) (eCl (jx_ev tb_Md_elementOf) [(eA 0), (eI 1), (eI 2)])))) (sSeq (sAsg 0 5 (eBin oAdd (eIte (cCmp0 rNe (eCl (jx_ev tb_Md_isReadable) [(eA 0), (eLd 0 (eGf [8] 6 (eA 0)) (eI 4))])) (eInt (nI 1)) (eInt (nI 0))) (eIte (cCmp0 rNe (eCl (jx_ev tb_Md_isReadable) [(eA 0), (eLd 0 (eGf [8] 6 (eA 0)) (eBin oAdd (eI 4) (eInt (nI 1))))])) (eInt (nI 1)) (eInt (nI 0))))) (sSeq (sIf (cCmp0 rEq (eI 5)) (sSeq (sPf [8] 0 0 (eA 0) (eInt (nI 4))) (sRet 0 (eInt (nI 0)))) sSkip) (sSeq (sAsg 0 6 (eIte (cCmp0 rNe (eCl (jx_ev tb_Md_isReadable) [(eA 0), (eLd 0 (eGf [8] 6 (eA 0)) (eI 4))])) (eBin oAdd (eI 4) (eInt (nI 1))) (eI 4))) (sSeq (sIf (cAnd (cCmp rEq (eI 5) (eInt (nI 1))) (cCmp0 rGt (eLd 0 (eGf [8] 6 (eA 0)) (eI 6)))) (sSeq (sCl (jx_ev tb_Md_begin) [(eA 0)]) (sSeq (sSt 0 0 (eGf [8] 7 (eA 0)) (eI 6) (eInt (nI 0))) (sCl (jx_ev tb_Md_change) [(eA 0)]))) sSkip) (sSeq (sAsg 0 7 (eCl (jx_ev tb_Md_wordOf) [(eA 0), (eI 1), (eI 2)])) (sSeq (sSeq (sAsg 0 8 (eI 4)) (sWh 64 lc_Md_write_0 lb_Md_write_0)) (sRet 0 (eCl (jx_ev tb_Md_ended) [(eA 0), (eI 5)])))))))))))
theorem m_Md_write : jx_Ts z_Md_write 0 bd_Md_write [] := by
  unfold bd_Md_write
  exact (t_seq (t_pf (s_aload_n d_Md_write_0 rfl) (s_ite (q4 := 47) (s_not (s_cmp0 (s_getf (s_aload_n d_Md_write_1 rfl) fi_Md_20 d_Md_write_2) (s_if_neT (tgt := 12) d_Md_write_5 (by decide))) (by decide)) (s_iconst d_Md_write_8 (by decide)) d_Md_write_9 (by decide) (s_ite (q4 := 47) (s_not (s_cmp0 (s_cl (s_a1 (s_aload_n d_Md_write_12 rfl) (s_a1 (s_iload_n d_Md_write_13 rfl) s_a0)) (s_ecv (ve_Md_isVolume (by decide) (by decide)) dc_Md_isVolume (by decide) lm_Md_134 pd_Md_isVolume d_Md_write_14)) (s_if_neT (tgt := 24) d_Md_write_17 (by decide))) (by decide)) (s_iconst d_Md_write_20 (by decide)) d_Md_write_21 (by decide) (s_ite (q4 := 47) (s_org (s_cmp0 (s_iload_n d_Md_write_24 rfl) (s_if_ltT (tgt := 42) d_Md_write_25 (by decide))) (by decide) (al_1 (s_cmp (s_iload_n d_Md_write_28 rfl) (s_bin (s_iconst d_Md_write_29 (by decide)) (s_cl (s_a1 (s_getf (s_aload_n d_Md_write_30 rfl) fi_Md_28 d_Md_write_31) (s_a1 (s_iload_n d_Md_write_34 rfl) s_a0)) (s_ecs me_Md_elementsOf mw_Md_elementsOf (by decide) (by decide) (by decide) lm_Md_86 w_st_Md_elementsOf w_in_Md pd_Md_elementsOf d_Md_write_35)) (s_imul d_Md_write_38)) (s_icmp_ltF (tgt := 46) d_Md_write_39 (by decide))))) (s_iconst d_Md_write_42 (by decide)) d_Md_write_43 (by decide) (s_iconst d_Md_write_46 (by decide))))) fi_Md_37 rfl (Or.inl rfl) d_Md_write_47) (t_seq (t_if1 (Fs := [59]) (E := [59]) (s_cmp0 (s_getf (s_aload_n d_Md_write_50 rfl) fi_Md_37 d_Md_write_51) (s_if_leF (tgt := 59) d_Md_write_54 (by decide))) (by decide) (t_sub (E := []) (E' := [59]) (t_ret .int (s_iconst d_Md_write_57 (by decide)) rfl (by decide) d_Md_write_58) (by decide)) (by decide)) (t_seq (t_asg (s_bin (s_bin (s_bipush d_Md_write_59 (by decide)) (s_bin (s_bipush d_Md_write_61 (by decide)) (s_iload_n d_Md_write_63 rfl) (s_imul d_Md_write_64)) (s_iadd d_Md_write_65)) (s_bin (s_iconst d_Md_write_66 (by decide)) (s_cl (s_a1 (s_aload_n d_Md_write_67 rfl) (s_a1 (s_iload_n d_Md_write_68 rfl) (s_a1 (s_iload_n d_Md_write_69 rfl) s_a0))) (s_ecv (ve_Md_elementOf (by decide) (by decide)) dc_Md_elementOf (by decide) lm_Md_143 pd_Md_elementOf d_Md_write_70)) (s_imul d_Md_write_73)) (s_iadd d_Md_write_74)) (fun v k h => b_istore d_Md_write_75 (by decide) h)) (t_seq (t_asg (s_bin (s_ite (q4 := 96) (s_cmp0 (s_cl (s_a1 (s_aload_n d_Md_write_77 rfl) (s_a1 (s_load (s_getf (s_aload_n d_Md_write_78 rfl) fi_Md_28 d_Md_write_79) (s_iload d_Md_write_82) (s_iald d_Md_write_84)) s_a0)) (s_ecv (ve_Md_isReadable (by decide) (by decide)) dc_Md_isReadable (by decide) lm_Md_146 pd_Md_isReadable d_Md_write_85)) (s_if_eqF (tgt := 95) d_Md_write_88 (by decide))) (s_iconst d_Md_write_91 (by decide)) d_Md_write_92 (by decide) (s_iconst d_Md_write_95 (by decide))) (s_ite (q4 := 117) (s_cmp0 (s_cl (s_a1 (s_aload_n d_Md_write_96 rfl) (s_a1 (s_load (s_getf (s_aload_n d_Md_write_97 rfl) fi_Md_28 d_Md_write_98) (s_bin (s_iload d_Md_write_101) (s_iconst d_Md_write_103 (by decide)) (s_iadd d_Md_write_104)) (s_iald d_Md_write_105)) s_a0)) (s_ecv (ve_Md_isReadable (by decide) (by decide)) dc_Md_isReadable (by decide) lm_Md_146 pd_Md_isReadable d_Md_write_106)) (s_if_eqF (tgt := 116) d_Md_write_109 (by decide))) (s_iconst d_Md_write_112 (by decide)) d_Md_write_113 (by decide) (s_iconst d_Md_write_116 (by decide))) (s_iadd d_Md_write_117)) (fun v k h => b_istore d_Md_write_118 (by decide) h)) (t_seq (t_if1 (Fs := [132]) (E := [132]) (s_cmp0 (s_iload d_Md_write_120) (s_if_neF (tgt := 132) d_Md_write_122 (by decide))) (by decide) (t_sub (E := []) (E' := [132]) (t_seq (t_pf (s_aload_n d_Md_write_125 rfl) (s_iconst d_Md_write_126 (by decide)) fi_Md_37 rfl (Or.inl rfl) d_Md_write_127) (t_ret .int (s_iconst d_Md_write_130 (by decide)) rfl (by decide) d_Md_write_131)) (by decide)) (by decide)) (t_seq (t_asg (s_ite (q4 := 155) (s_cmp0 (s_cl (s_a1 (s_aload_n d_Md_write_132 rfl) (s_a1 (s_load (s_getf (s_aload_n d_Md_write_133 rfl) fi_Md_28 d_Md_write_134) (s_iload d_Md_write_137) (s_iald d_Md_write_139)) s_a0)) (s_ecv (ve_Md_isReadable (by decide) (by decide)) dc_Md_isReadable (by decide) lm_Md_146 pd_Md_isReadable d_Md_write_140)) (s_if_eqF (tgt := 153) d_Md_write_143 (by decide))) (s_bin (s_iload d_Md_write_146) (s_iconst d_Md_write_148 (by decide)) (s_iadd d_Md_write_149)) d_Md_write_150 (by decide) (s_iload d_Md_write_153)) (fun v k h => b_istore d_Md_write_155 (by decide) h)) (t_seq (t_if1 (Fs := [189]) (E := [189]) (s_andg (s_cmp (s_iload d_Md_write_157) (s_iconst d_Md_write_159 (by decide)) (s_icmp_neF (tgt := 189) d_Md_write_160 (by decide))) (by decide) (al_1 (s_cmp0 (s_load (s_getf (s_aload_n d_Md_write_163 rfl) fi_Md_28 d_Md_write_164) (s_iload d_Md_write_167) (s_iald d_Md_write_169)) (s_if_leF (tgt := 189) d_Md_write_170 (by decide))))) (by decide) (t_sub (E := [189]) (E' := [189]) (t_seq (t_cl (s_a1 (s_aload_n d_Md_write_173 rfl) s_a0) (s_ecv (ve_Md_begin (by decide) (by decide)) dc_Md_begin (by decide) lm_Md_107 pd_Md_begin d_Md_write_174)) (t_seq (t_st (s_getf (s_aload_n d_Md_write_177 rfl) fi_Md_31 d_Md_write_178) (s_iload d_Md_write_181) (s_iconst d_Md_write_183 (by decide)) (s_iast d_Md_write_184)) (t_cl (s_a1 (s_aload_n d_Md_write_185 rfl) s_a0) (s_ecv (ve_Md_change (by decide) (by decide)) dc_Md_change (by decide) lm_Md_110 pd_Md_change d_Md_write_186)))) (by decide)) (by decide)) (t_seq (t_asg (s_cl (s_a1 (s_aload_n d_Md_write_189 rfl) (s_a1 (s_iload_n d_Md_write_190 rfl) (s_a1 (s_iload_n d_Md_write_191 rfl) s_a0))) (s_ecv (ve_Md_wordOf (by decide) (by decide)) dc_Md_wordOf (by decide) lm_Md_149 pd_Md_wordOf d_Md_write_192)) (fun v k h => b_istore d_Md_write_195 (by decide) h)) (t_seq (t_seq (t_asg (s_iload d_Md_write_197) (fun v k h => b_istore d_Md_write_199 (by decide) h)) ml_Md_write_0) (t_ret .int (s_cl (s_a1 (s_aload_n d_Md_write_325 rfl) (s_a1 (s_iload d_Md_write_326) s_a0)) (s_ecv (ve_Md_ended (by decide) (by decide)) dc_Md_ended (by decide) lm_Md_113 pd_Md_ended d_Md_write_328)) rfl (by decide) d_Md_write_331))))))))))
def f_Md_write : jx_Mt := jx_fn 4 10 (bd_Md_write fun _ _ => none)
theorem me_Md_write : jx_Me 4 z_Md_write f_Md_write := jx_Me.ofT (by decide) m_Md_write
theorem mw_Md_write : jx_mw ⟨"ExtentShelfModel", "write", "(III)I"⟩ z_Md_write := ⟨rfl, rfl, by decide +kernel, ⟨by decide, by decide⟩, by decide +kernel⟩
theorem pd_Md_write : (parseMethodDescriptor (⟨"ExtentShelfModel", "write", "(III)I"⟩ : MethodName).desc).map (fun d => d.parameters.length) = some 3 := by decide +kernel
/-! ExtentShelfModel.read(II)I -/
abbrev z_Md_read : jx_Z := ("ExtentShelfModel", "read", prog_11_method_42_code, 5, some .int, 2, 60)
theorem d_Md_read_0 : decode z_Md_read.2.2.1 0 = .ok (.aload_n 0, 1) := by decide +kernel
theorem d_Md_read_1 : decode z_Md_read.2.2.1 1 = .ok (.aload_n 0, 1) := by decide +kernel
theorem d_Md_read_2 : decode z_Md_read.2.2.1 2 = .ok (.getfield 20, 3) := by decide +kernel
theorem d_Md_read_5 : decode z_Md_read.2.2.1 5 = .ok (.ifCond .ne 7, 3) := by decide +kernel
theorem d_Md_read_8 : decode z_Md_read.2.2.1 8 = .ok (.iconst 1, 1) := by decide +kernel
theorem d_Md_read_9 : decode z_Md_read.2.2.1 9 = .ok (.goto 38, 3) := by decide +kernel
theorem d_Md_read_12 : decode z_Md_read.2.2.1 12 = .ok (.aload_n 0, 1) := by decide +kernel
theorem d_Md_read_13 : decode z_Md_read.2.2.1 13 = .ok (.iload_n 1, 1) := by decide +kernel
theorem d_Md_read_14 : decode z_Md_read.2.2.1 14 = .ok (.invokevirtual 134, 3) := by decide +kernel
theorem d_Md_read_17 : decode z_Md_read.2.2.1 17 = .ok (.ifCond .ne 7, 3) := by decide +kernel
theorem d_Md_read_20 : decode z_Md_read.2.2.1 20 = .ok (.iconst 2, 1) := by decide +kernel
theorem d_Md_read_21 : decode z_Md_read.2.2.1 21 = .ok (.goto 26, 3) := by decide +kernel
theorem d_Md_read_24 : decode z_Md_read.2.2.1 24 = .ok (.iload_n 2, 1) := by decide +kernel
theorem d_Md_read_25 : decode z_Md_read.2.2.1 25 = .ok (.ifCond .lt 17, 3) := by decide +kernel
theorem d_Md_read_28 : decode z_Md_read.2.2.1 28 = .ok (.iload_n 2, 1) := by decide +kernel
theorem d_Md_read_29 : decode z_Md_read.2.2.1 29 = .ok (.iconst 4, 1) := by decide +kernel
theorem d_Md_read_30 : decode z_Md_read.2.2.1 30 = .ok (.aload_n 0, 1) := by decide +kernel
theorem d_Md_read_31 : decode z_Md_read.2.2.1 31 = .ok (.getfield 28, 3) := by decide +kernel
theorem d_Md_read_34 : decode z_Md_read.2.2.1 34 = .ok (.iload_n 1, 1) := by decide +kernel
theorem d_Md_read_35 : decode z_Md_read.2.2.1 35 = .ok (.invokestatic 86, 3) := by decide +kernel
theorem d_Md_read_38 : decode z_Md_read.2.2.1 38 = .ok (.imul, 1) := by decide +kernel
theorem d_Md_read_39 : decode z_Md_read.2.2.1 39 = .ok (.if_icmp .lt 7, 3) := by decide +kernel
theorem d_Md_read_42 : decode z_Md_read.2.2.1 42 = .ok (.iconst 3, 1) := by decide +kernel
theorem d_Md_read_43 : decode z_Md_read.2.2.1 43 = .ok (.goto 4, 3) := by decide +kernel
theorem d_Md_read_46 : decode z_Md_read.2.2.1 46 = .ok (.iconst 0, 1) := by decide +kernel
theorem d_Md_read_47 : decode z_Md_read.2.2.1 47 = .ok (.putfield 37, 3) := by decide +kernel
theorem d_Md_read_50 : decode z_Md_read.2.2.1 50 = .ok (.aload_n 0, 1) := by decide +kernel
theorem d_Md_read_51 : decode z_Md_read.2.2.1 51 = .ok (.getfield 37, 3) := by decide +kernel
theorem d_Md_read_54 : decode z_Md_read.2.2.1 54 = .ok (.ifCond .le 5, 3) := by decide +kernel
theorem d_Md_read_57 : decode z_Md_read.2.2.1 57 = .ok (.iconst 0, 1) := by decide +kernel
theorem d_Md_read_58 : decode z_Md_read.2.2.1 58 = .ok (.ireturn, 1) := by decide +kernel
theorem d_Md_read_59 : decode z_Md_read.2.2.1 59 = .ok (.bipush 9, 2) := by decide +kernel
theorem d_Md_read_61 : decode z_Md_read.2.2.1 61 = .ok (.bipush 10, 2) := by decide +kernel
theorem d_Md_read_63 : decode z_Md_read.2.2.1 63 = .ok (.iload_n 1, 1) := by decide +kernel
theorem d_Md_read_64 : decode z_Md_read.2.2.1 64 = .ok (.imul, 1) := by decide +kernel
theorem d_Md_read_65 : decode z_Md_read.2.2.1 65 = .ok (.iadd, 1) := by decide +kernel
theorem d_Md_read_66 : decode z_Md_read.2.2.1 66 = .ok (.iconst 2, 1) := by decide +kernel
theorem d_Md_read_67 : decode z_Md_read.2.2.1 67 = .ok (.aload_n 0, 1) := by decide +kernel
theorem d_Md_read_68 : decode z_Md_read.2.2.1 68 = .ok (.iload_n 1, 1) := by decide +kernel
theorem d_Md_read_69 : decode z_Md_read.2.2.1 69 = .ok (.iload_n 2, 1) := by decide +kernel
theorem d_Md_read_70 : decode z_Md_read.2.2.1 70 = .ok (.invokevirtual 143, 3) := by decide +kernel
theorem d_Md_read_73 : decode z_Md_read.2.2.1 73 = .ok (.imul, 1) := by decide +kernel
theorem d_Md_read_74 : decode z_Md_read.2.2.1 74 = .ok (.iadd, 1) := by decide +kernel
theorem d_Md_read_75 : decode z_Md_read.2.2.1 75 = .ok (.istore_n 3, 1) := by decide +kernel
theorem d_Md_read_76 : decode z_Md_read.2.2.1 76 = .ok (.aload_n 0, 1) := by decide +kernel
theorem d_Md_read_77 : decode z_Md_read.2.2.1 77 = .ok (.aload_n 0, 1) := by decide +kernel
theorem d_Md_read_78 : decode z_Md_read.2.2.1 78 = .ok (.getfield 28, 3) := by decide +kernel
theorem d_Md_read_81 : decode z_Md_read.2.2.1 81 = .ok (.iload_n 3, 1) := by decide +kernel
theorem d_Md_read_82 : decode z_Md_read.2.2.1 82 = .ok (.iaload, 1) := by decide +kernel
theorem d_Md_read_83 : decode z_Md_read.2.2.1 83 = .ok (.invokevirtual 146, 3) := by decide +kernel
theorem d_Md_read_86 : decode z_Md_read.2.2.1 86 = .ok (.ifCond .eq 12, 3) := by decide +kernel
theorem d_Md_read_89 : decode z_Md_read.2.2.1 89 = .ok (.aload_n 0, 1) := by decide +kernel
theorem d_Md_read_90 : decode z_Md_read.2.2.1 90 = .ok (.getfield 28, 3) := by decide +kernel
theorem d_Md_read_93 : decode z_Md_read.2.2.1 93 = .ok (.iload_n 3, 1) := by decide +kernel
theorem d_Md_read_94 : decode z_Md_read.2.2.1 94 = .ok (.iaload, 1) := by decide +kernel
theorem d_Md_read_95 : decode z_Md_read.2.2.1 95 = .ok (.goto 11, 3) := by decide +kernel
theorem d_Md_read_98 : decode z_Md_read.2.2.1 98 = .ok (.aload_n 0, 1) := by decide +kernel
theorem d_Md_read_99 : decode z_Md_read.2.2.1 99 = .ok (.getfield 28, 3) := by decide +kernel
theorem d_Md_read_102 : decode z_Md_read.2.2.1 102 = .ok (.iload_n 3, 1) := by decide +kernel
theorem d_Md_read_103 : decode z_Md_read.2.2.1 103 = .ok (.iconst 1, 1) := by decide +kernel
theorem d_Md_read_104 : decode z_Md_read.2.2.1 104 = .ok (.iadd, 1) := by decide +kernel
theorem d_Md_read_105 : decode z_Md_read.2.2.1 105 = .ok (.iaload, 1) := by decide +kernel
theorem d_Md_read_106 : decode z_Md_read.2.2.1 106 = .ok (.istore 4, 2) := by decide +kernel
theorem d_Md_read_108 : decode z_Md_read.2.2.1 108 = .ok (.aload_n 0, 1) := by decide +kernel
theorem d_Md_read_109 : decode z_Md_read.2.2.1 109 = .ok (.aload_n 0, 1) := by decide +kernel
theorem d_Md_read_110 : decode z_Md_read.2.2.1 110 = .ok (.iload 4, 2) := by decide +kernel
theorem d_Md_read_112 : decode z_Md_read.2.2.1 112 = .ok (.invokevirtual 146, 3) := by decide +kernel
theorem d_Md_read_115 : decode z_Md_read.2.2.1 115 = .ok (.ifCond .eq 7, 3) := by decide +kernel
theorem d_Md_read_118 : decode z_Md_read.2.2.1 118 = .ok (.iconst 0, 1) := by decide +kernel
theorem d_Md_read_119 : decode z_Md_read.2.2.1 119 = .ok (.goto 4, 3) := by decide +kernel
theorem d_Md_read_122 : decode z_Md_read.2.2.1 122 = .ok (.iconst 4, 1) := by decide +kernel
theorem d_Md_read_123 : decode z_Md_read.2.2.1 123 = .ok (.putfield 37, 3) := by decide +kernel
theorem d_Md_read_126 : decode z_Md_read.2.2.1 126 = .ok (.aload_n 0, 1) := by decide +kernel
theorem d_Md_read_127 : decode z_Md_read.2.2.1 127 = .ok (.getfield 37, 3) := by decide +kernel
theorem d_Md_read_130 : decode z_Md_read.2.2.1 130 = .ok (.ifCond .le 7, 3) := by decide +kernel
theorem d_Md_read_133 : decode z_Md_read.2.2.1 133 = .ok (.iconst 0, 1) := by decide +kernel
theorem d_Md_read_134 : decode z_Md_read.2.2.1 134 = .ok (.goto 15, 3) := by decide +kernel
theorem d_Md_read_137 : decode z_Md_read.2.2.1 137 = .ok (.aload_n 0, 1) := by decide +kernel
theorem d_Md_read_138 : decode z_Md_read.2.2.1 138 = .ok (.iload 4, 2) := by decide +kernel
theorem d_Md_read_140 : decode z_Md_read.2.2.1 140 = .ok (.aload_n 0, 1) := by decide +kernel
theorem d_Md_read_141 : decode z_Md_read.2.2.1 141 = .ok (.iload_n 1, 1) := by decide +kernel
theorem d_Md_read_142 : decode z_Md_read.2.2.1 142 = .ok (.iload_n 2, 1) := by decide +kernel
theorem d_Md_read_143 : decode z_Md_read.2.2.1 143 = .ok (.invokevirtual 149, 3) := by decide +kernel
theorem d_Md_read_146 : decode z_Md_read.2.2.1 146 = .ok (.invokevirtual 140, 3) := by decide +kernel
theorem d_Md_read_149 : decode z_Md_read.2.2.1 149 = .ok (.ireturn, 1) := by decide +kernel
def bd_Md_read : jx_St := (sSeq (sPf [8] 0 0 (eA 0) (eIte (cNot (cCmp0 rNe (eGf [8] 4 (eA 0)))) (eInt (nI 1)) (eIte (cNot (cCmp0 rNe (eCl (jx_ev tb_Md_isVolume) [(eA 0), (eI 1)]))) (eInt (nI 2)) (eIte (cOr (cCmp0 rLt (eI 2)) (cCmp rGe (eI 2) (eBin oMul (eInt (nI 4)) (eCl (jx_ec f_Md_elementsOf) [(eGf [8] 6 (eA 0)), (eI 1)])))) (eInt (nI 3)) (eInt (nI 0)))))) (sSeq (sIf (cCmp0 rGt (eGf [8] 0 (eA 0))) (sRet 0 (eInt (nI 0))) sSkip) (sSeq (sAsg 0 3 (eBin oAdd (eBin oAdd (eInt (nI 9)) (eBin oMul (eInt (nI 10)) (eI 1))) (eBin oMul (eInt (nI 2)) (eCl (jx_ev tb_Md_elementOf) [(eA 0), (eI 1), (eI 2)])))) (sSeq (sAsg 0 4 (eIte (cCmp0 rNe (eCl (jx_ev tb_Md_isReadable) [(eA 0), (eLd 0 (eGf [8] 6 (eA 0)) (eI 3))])) (eLd 0 (eGf [8] 6 (eA 0)) (eI 3)) (eLd 0 (eGf [8] 6 (eA 0)) (eBin oAdd (eI 3) (eInt (nI 1)))))) (sSeq (sPf [8] 0 0 (eA 0) (eIte (cCmp0 rNe (eCl (jx_ev tb_Md_isReadable) [(eA 0), (eI 4)])) (eInt (nI 0)) (eInt (nI 4)))) (sRet 0 (eIte (cCmp0 rGt (eGf [8] 0 (eA 0))) (eInt (nI 0)) (eCl (jx_ev tb_Md_get) [(eA 0), (eI 4), (eCl (jx_ev tb_Md_wordOf) [(eA 0), (eI 1), (eI 2)])]))))))))
theorem m_Md_read : jx_Ts z_Md_read 0 bd_Md_read [] := by
  unfold bd_Md_read
  exact (t_seq (t_pf (s_aload_n d_Md_read_0 rfl) (s_ite (q4 := 47) (s_not (s_cmp0 (s_getf (s_aload_n d_Md_read_1 rfl) fi_Md_20 d_Md_read_2) (s_if_neT (tgt := 12) d_Md_read_5 (by decide))) (by decide)) (s_iconst d_Md_read_8 (by decide)) d_Md_read_9 (by decide) (s_ite (q4 := 47) (s_not (s_cmp0 (s_cl (s_a1 (s_aload_n d_Md_read_12 rfl) (s_a1 (s_iload_n d_Md_read_13 rfl) s_a0)) (s_ecv (ve_Md_isVolume (by decide) (by decide)) dc_Md_isVolume (by decide) lm_Md_134 pd_Md_isVolume d_Md_read_14)) (s_if_neT (tgt := 24) d_Md_read_17 (by decide))) (by decide)) (s_iconst d_Md_read_20 (by decide)) d_Md_read_21 (by decide) (s_ite (q4 := 47) (s_org (s_cmp0 (s_iload_n d_Md_read_24 rfl) (s_if_ltT (tgt := 42) d_Md_read_25 (by decide))) (by decide) (al_1 (s_cmp (s_iload_n d_Md_read_28 rfl) (s_bin (s_iconst d_Md_read_29 (by decide)) (s_cl (s_a1 (s_getf (s_aload_n d_Md_read_30 rfl) fi_Md_28 d_Md_read_31) (s_a1 (s_iload_n d_Md_read_34 rfl) s_a0)) (s_ecs me_Md_elementsOf mw_Md_elementsOf (by decide) (by decide) (by decide) lm_Md_86 w_st_Md_elementsOf w_in_Md pd_Md_elementsOf d_Md_read_35)) (s_imul d_Md_read_38)) (s_icmp_ltF (tgt := 46) d_Md_read_39 (by decide))))) (s_iconst d_Md_read_42 (by decide)) d_Md_read_43 (by decide) (s_iconst d_Md_read_46 (by decide))))) fi_Md_37 rfl (Or.inl rfl) d_Md_read_47) (t_seq (t_if1 (Fs := [59]) (E := [59]) (s_cmp0 (s_getf (s_aload_n d_Md_read_50 rfl) fi_Md_37 d_Md_read_51) (s_if_leF (tgt := 59) d_Md_read_54 (by decide))) (by decide) (t_sub (E := []) (E' := [59]) (t_ret .int (s_iconst d_Md_read_57 (by decide)) rfl (by decide) d_Md_read_58) (by decide)) (by decide)) (t_seq (t_asg (s_bin (s_bin (s_bipush d_Md_read_59 (by decide)) (s_bin (s_bipush d_Md_read_61 (by decide)) (s_iload_n d_Md_read_63 rfl) (s_imul d_Md_read_64)) (s_iadd d_Md_read_65)) (s_bin (s_iconst d_Md_read_66 (by decide)) (s_cl (s_a1 (s_aload_n d_Md_read_67 rfl) (s_a1 (s_iload_n d_Md_read_68 rfl) (s_a1 (s_iload_n d_Md_read_69 rfl) s_a0))) (s_ecv (ve_Md_elementOf (by decide) (by decide)) dc_Md_elementOf (by decide) lm_Md_143 pd_Md_elementOf d_Md_read_70)) (s_imul d_Md_read_73)) (s_iadd d_Md_read_74)) (fun v k h => b_istore_n d_Md_read_75 rfl (by decide) h)) (t_seq (t_asg (s_ite (q4 := 106) (s_cmp0 (s_cl (s_a1 (s_aload_n d_Md_read_76 rfl) (s_a1 (s_load (s_getf (s_aload_n d_Md_read_77 rfl) fi_Md_28 d_Md_read_78) (s_iload_n d_Md_read_81 rfl) (s_iald d_Md_read_82)) s_a0)) (s_ecv (ve_Md_isReadable (by decide) (by decide)) dc_Md_isReadable (by decide) lm_Md_146 pd_Md_isReadable d_Md_read_83)) (s_if_eqF (tgt := 98) d_Md_read_86 (by decide))) (s_load (s_getf (s_aload_n d_Md_read_89 rfl) fi_Md_28 d_Md_read_90) (s_iload_n d_Md_read_93 rfl) (s_iald d_Md_read_94)) d_Md_read_95 (by decide) (s_load (s_getf (s_aload_n d_Md_read_98 rfl) fi_Md_28 d_Md_read_99) (s_bin (s_iload_n d_Md_read_102 rfl) (s_iconst d_Md_read_103 (by decide)) (s_iadd d_Md_read_104)) (s_iald d_Md_read_105))) (fun v k h => b_istore d_Md_read_106 (by decide) h)) (t_seq (t_pf (s_aload_n d_Md_read_108 rfl) (s_ite (q4 := 123) (s_cmp0 (s_cl (s_a1 (s_aload_n d_Md_read_109 rfl) (s_a1 (s_iload d_Md_read_110) s_a0)) (s_ecv (ve_Md_isReadable (by decide) (by decide)) dc_Md_isReadable (by decide) lm_Md_146 pd_Md_isReadable d_Md_read_112)) (s_if_eqF (tgt := 122) d_Md_read_115 (by decide))) (s_iconst d_Md_read_118 (by decide)) d_Md_read_119 (by decide) (s_iconst d_Md_read_122 (by decide))) fi_Md_37 rfl (Or.inl rfl) d_Md_read_123) (t_ret .int (s_ite (q4 := 149) (s_cmp0 (s_getf (s_aload_n d_Md_read_126 rfl) fi_Md_37 d_Md_read_127) (s_if_leF (tgt := 137) d_Md_read_130 (by decide))) (s_iconst d_Md_read_133 (by decide)) d_Md_read_134 (by decide) (s_cl (s_a1 (s_aload_n d_Md_read_137 rfl) (s_a1 (s_iload d_Md_read_138) (s_a1 (s_cl (s_a1 (s_aload_n d_Md_read_140 rfl) (s_a1 (s_iload_n d_Md_read_141 rfl) (s_a1 (s_iload_n d_Md_read_142 rfl) s_a0))) (s_ecv (ve_Md_wordOf (by decide) (by decide)) dc_Md_wordOf (by decide) lm_Md_149 pd_Md_wordOf d_Md_read_143)) s_a0))) (s_ecv (ve_Md_get (by decide) (by decide)) dc_Md_get (by decide) lm_Md_140 pd_Md_get d_Md_read_146))) rfl (by decide) d_Md_read_149))))))
def f_Md_read : jx_Mt := jx_fn 3 5 (bd_Md_read fun _ _ => none)
theorem me_Md_read : jx_Me 3 z_Md_read f_Md_read := jx_Me.ofT (by decide) m_Md_read
theorem mw_Md_read : jx_mw ⟨"ExtentShelfModel", "read", "(II)I"⟩ z_Md_read := ⟨rfl, rfl, by decide +kernel, ⟨by decide, by decide⟩, by decide +kernel⟩
theorem pd_Md_read : (parseMethodDescriptor (⟨"ExtentShelfModel", "read", "(II)I"⟩ : MethodName).desc).map (fun d => d.parameters.length) = some 2 := by decide +kernel
/-! ExtentShelfModel.empty(I)I -/
abbrev z_Md_empty : jx_Z := ("ExtentShelfModel", "empty", prog_11_method_43_code, 2, some .int, 1, 31)
theorem d_Md_empty_0 : decode z_Md_empty.2.2.1 0 = .ok (.aload_n 0, 1) := by decide +kernel
theorem d_Md_empty_1 : decode z_Md_empty.2.2.1 1 = .ok (.aload_n 0, 1) := by decide +kernel
theorem d_Md_empty_2 : decode z_Md_empty.2.2.1 2 = .ok (.getfield 20, 3) := by decide +kernel
theorem d_Md_empty_5 : decode z_Md_empty.2.2.1 5 = .ok (.ifCond .ne 7, 3) := by decide +kernel
theorem d_Md_empty_8 : decode z_Md_empty.2.2.1 8 = .ok (.iconst 1, 1) := by decide +kernel
theorem d_Md_empty_9 : decode z_Md_empty.2.2.1 9 = .ok (.goto 44, 3) := by decide +kernel
theorem d_Md_empty_12 : decode z_Md_empty.2.2.1 12 = .ok (.iload_n 1, 1) := by decide +kernel
theorem d_Md_empty_13 : decode z_Md_empty.2.2.1 13 = .ok (.invokestatic 103, 3) := by decide +kernel
theorem d_Md_empty_16 : decode z_Md_empty.2.2.1 16 = .ok (.ifCond .ne 7, 3) := by decide +kernel
theorem d_Md_empty_19 : decode z_Md_empty.2.2.1 19 = .ok (.iconst 2, 1) := by decide +kernel
theorem d_Md_empty_20 : decode z_Md_empty.2.2.1 20 = .ok (.goto 33, 3) := by decide +kernel
theorem d_Md_empty_23 : decode z_Md_empty.2.2.1 23 = .ok (.aload_n 0, 1) := by decide +kernel
theorem d_Md_empty_24 : decode z_Md_empty.2.2.1 24 = .ok (.getfield 28, 3) := by decide +kernel
theorem d_Md_empty_27 : decode z_Md_empty.2.2.1 27 = .ok (.iconst 1, 1) := by decide +kernel
theorem d_Md_empty_28 : decode z_Md_empty.2.2.1 28 = .ok (.iload_n 1, 1) := by decide +kernel
theorem d_Md_empty_29 : decode z_Md_empty.2.2.1 29 = .ok (.iadd, 1) := by decide +kernel
theorem d_Md_empty_30 : decode z_Md_empty.2.2.1 30 = .ok (.iaload, 1) := by decide +kernel
theorem d_Md_empty_31 : decode z_Md_empty.2.2.1 31 = .ok (.ifCond .eq 17, 3) := by decide +kernel
theorem d_Md_empty_34 : decode z_Md_empty.2.2.1 34 = .ok (.aload_n 0, 1) := by decide +kernel
theorem d_Md_empty_35 : decode z_Md_empty.2.2.1 35 = .ok (.getfield 34, 3) := by decide +kernel
theorem d_Md_empty_38 : decode z_Md_empty.2.2.1 38 = .ok (.ifCond .ge 10, 3) := by decide +kernel
theorem d_Md_empty_41 : decode z_Md_empty.2.2.1 41 = .ok (.aload_n 0, 1) := by decide +kernel
theorem d_Md_empty_42 : decode z_Md_empty.2.2.1 42 = .ok (.invokevirtual 52, 3) := by decide +kernel
theorem d_Md_empty_45 : decode z_Md_empty.2.2.1 45 = .ok (.ifCond .eq 7, 3) := by decide +kernel
theorem d_Md_empty_48 : decode z_Md_empty.2.2.1 48 = .ok (.iconst 3, 1) := by decide +kernel
theorem d_Md_empty_49 : decode z_Md_empty.2.2.1 49 = .ok (.goto 4, 3) := by decide +kernel
theorem d_Md_empty_52 : decode z_Md_empty.2.2.1 52 = .ok (.iconst 0, 1) := by decide +kernel
theorem d_Md_empty_53 : decode z_Md_empty.2.2.1 53 = .ok (.putfield 37, 3) := by decide +kernel
theorem d_Md_empty_56 : decode z_Md_empty.2.2.1 56 = .ok (.aload_n 0, 1) := by decide +kernel
theorem d_Md_empty_57 : decode z_Md_empty.2.2.1 57 = .ok (.getfield 37, 3) := by decide +kernel
theorem d_Md_empty_60 : decode z_Md_empty.2.2.1 60 = .ok (.ifCond .le 5, 3) := by decide +kernel
theorem d_Md_empty_63 : decode z_Md_empty.2.2.1 63 = .ok (.iconst 0, 1) := by decide +kernel
theorem d_Md_empty_64 : decode z_Md_empty.2.2.1 64 = .ok (.ireturn, 1) := by decide +kernel
theorem d_Md_empty_65 : decode z_Md_empty.2.2.1 65 = .ok (.aload_n 0, 1) := by decide +kernel
theorem d_Md_empty_66 : decode z_Md_empty.2.2.1 66 = .ok (.iload_n 1, 1) := by decide +kernel
theorem d_Md_empty_67 : decode z_Md_empty.2.2.1 67 = .ok (.putfield 34, 3) := by decide +kernel
theorem d_Md_empty_70 : decode z_Md_empty.2.2.1 70 = .ok (.aload_n 0, 1) := by decide +kernel
theorem d_Md_empty_71 : decode z_Md_empty.2.2.1 71 = .ok (.iconst 0, 1) := by decide +kernel
theorem d_Md_empty_72 : decode z_Md_empty.2.2.1 72 = .ok (.putfield 65, 3) := by decide +kernel
theorem d_Md_empty_75 : decode z_Md_empty.2.2.1 75 = .ok (.aload_n 0, 1) := by decide +kernel
theorem d_Md_empty_76 : decode z_Md_empty.2.2.1 76 = .ok (.iload_n 1, 1) := by decide +kernel
theorem d_Md_empty_77 : decode z_Md_empty.2.2.1 77 = .ok (.invokevirtual 116, 3) := by decide +kernel
theorem d_Md_empty_80 : decode z_Md_empty.2.2.1 80 = .ok (.ireturn, 1) := by decide +kernel
def bd_Md_empty : jx_St := (sSeq (sPf [8] 0 0 (eA 0) (eIte (cNot (cCmp0 rNe (eGf [8] 4 (eA 0)))) (eInt (nI 1)) (eIte (cNot (cCmp0 rNe (eCl (jx_ec f_Md_isDisk) [(eI 1)]))) (eInt (nI 2)) (eIte (cOr (cOr (cCmp0 rEq (eLd 0 (eGf [8] 6 (eA 0)) (eBin oAdd (eInt (nI 1)) (eI 1)))) (cCmp0 rGe (eGf [8] 8 (eA 0)))) (cCmp0 rNe (eCl (jx_ev tb_Md_isOneAbsent) [(eA 0)]))) (eInt (nI 3)) (eInt (nI 0)))))) (sSeq (sIf (cCmp0 rGt (eGf [8] 0 (eA 0))) (sRet 0 (eInt (nI 0))) sSkip) (sSeq (sPf [8] 8 0 (eA 0) (eI 1)) (sSeq (sPf [8] 11 0 (eA 0) (eInt (nI 0))) (sRet 0 (eCl (jx_ev tb_Md_legsOn) [(eA 0), (eI 1)]))))))
theorem m_Md_empty : jx_Ts z_Md_empty 0 bd_Md_empty [] := by
  unfold bd_Md_empty
  exact (t_seq (t_pf (s_aload_n d_Md_empty_0 rfl) (s_ite (q4 := 53) (s_not (s_cmp0 (s_getf (s_aload_n d_Md_empty_1 rfl) fi_Md_20 d_Md_empty_2) (s_if_neT (tgt := 12) d_Md_empty_5 (by decide))) (by decide)) (s_iconst d_Md_empty_8 (by decide)) d_Md_empty_9 (by decide) (s_ite (q4 := 53) (s_not (s_cmp0 (s_cl (s_a1 (s_iload_n d_Md_empty_12 rfl) s_a0) (s_ecs me_Md_isDisk mw_Md_isDisk (by decide) (by decide) (by decide) lm_Md_103 w_st_Md_isDisk w_in_Md pd_Md_isDisk d_Md_empty_13)) (s_if_neT (tgt := 23) d_Md_empty_16 (by decide))) (by decide)) (s_iconst d_Md_empty_19 (by decide)) d_Md_empty_20 (by decide) (s_ite (q4 := 53) (s_org (s_org (s_cmp0 (s_load (s_getf (s_aload_n d_Md_empty_23 rfl) fi_Md_28 d_Md_empty_24) (s_bin (s_iconst d_Md_empty_27 (by decide)) (s_iload_n d_Md_empty_28 rfl) (s_iadd d_Md_empty_29)) (s_iald d_Md_empty_30)) (s_if_eqT (tgt := 48) d_Md_empty_31 (by decide))) (by decide) (al_1 (s_cmp0 (s_getf (s_aload_n d_Md_empty_34 rfl) fi_Md_34 d_Md_empty_35) (s_if_geT (tgt := 48) d_Md_empty_38 (by decide))))) (by decide) (al_1 (s_cmp0 (s_cl (s_a1 (s_aload_n d_Md_empty_41 rfl) s_a0) (s_ecv (ve_Md_isOneAbsent (by decide) (by decide)) dc_Md_isOneAbsent (by decide) lm_Md_52 pd_Md_isOneAbsent d_Md_empty_42)) (s_if_eqF (tgt := 52) d_Md_empty_45 (by decide))))) (s_iconst d_Md_empty_48 (by decide)) d_Md_empty_49 (by decide) (s_iconst d_Md_empty_52 (by decide))))) fi_Md_37 rfl (Or.inl rfl) d_Md_empty_53) (t_seq (t_if1 (Fs := [65]) (E := [65]) (s_cmp0 (s_getf (s_aload_n d_Md_empty_56 rfl) fi_Md_37 d_Md_empty_57) (s_if_leF (tgt := 65) d_Md_empty_60 (by decide))) (by decide) (t_sub (E := []) (E' := [65]) (t_ret .int (s_iconst d_Md_empty_63 (by decide)) rfl (by decide) d_Md_empty_64) (by decide)) (by decide)) (t_seq (t_pf (s_aload_n d_Md_empty_65 rfl) (s_iload_n d_Md_empty_66 rfl) fi_Md_34 rfl (Or.inl rfl) d_Md_empty_67) (t_seq (t_pf (s_aload_n d_Md_empty_70 rfl) (s_iconst d_Md_empty_71 (by decide)) fi_Md_65 rfl (Or.inl rfl) d_Md_empty_72) (t_ret .int (s_cl (s_a1 (s_aload_n d_Md_empty_75 rfl) (s_a1 (s_iload_n d_Md_empty_76 rfl) s_a0)) (s_ecv (ve_Md_legsOn (by decide) (by decide)) dc_Md_legsOn (by decide) lm_Md_116 pd_Md_legsOn d_Md_empty_77)) rfl (by decide) d_Md_empty_80)))))
def f_Md_empty : jx_Mt := jx_fn 2 2 (bd_Md_empty fun _ _ => none)
theorem me_Md_empty : jx_Me 2 z_Md_empty f_Md_empty := jx_Me.ofT (by decide) m_Md_empty
theorem mw_Md_empty : jx_mw ⟨"ExtentShelfModel", "empty", "(I)I"⟩ z_Md_empty := ⟨rfl, rfl, by decide +kernel, ⟨by decide, by decide⟩, by decide +kernel⟩
theorem pd_Md_empty : (parseMethodDescriptor (⟨"ExtentShelfModel", "empty", "(I)I"⟩ : MethodName).desc).map (fun d => d.parameters.length) = some 1 := by decide +kernel
/-! ExtentShelfModel.step()I -/
abbrev z_Md_step : jx_Z := ("ExtentShelfModel", "step", prog_11_method_44_code, 3, some .int, 4, 132)
theorem d_Md_step_0 : decode z_Md_step.2.2.1 0 = .ok (.aload_n 0, 1) := by decide +kernel
theorem d_Md_step_1 : decode z_Md_step.2.2.1 1 = .ok (.aload_n 0, 1) := by decide +kernel
theorem d_Md_step_2 : decode z_Md_step.2.2.1 2 = .ok (.getfield 20, 3) := by decide +kernel
theorem d_Md_step_5 : decode z_Md_step.2.2.1 5 = .ok (.ifCond .ne 7, 3) := by decide +kernel
theorem d_Md_step_8 : decode z_Md_step.2.2.1 8 = .ok (.iconst 1, 1) := by decide +kernel
theorem d_Md_step_9 : decode z_Md_step.2.2.1 9 = .ok (.goto 15, 3) := by decide +kernel
theorem d_Md_step_12 : decode z_Md_step.2.2.1 12 = .ok (.aload_n 0, 1) := by decide +kernel
theorem d_Md_step_13 : decode z_Md_step.2.2.1 13 = .ok (.getfield 34, 3) := by decide +kernel
theorem d_Md_step_16 : decode z_Md_step.2.2.1 16 = .ok (.ifCond .ge 7, 3) := by decide +kernel
theorem d_Md_step_19 : decode z_Md_step.2.2.1 19 = .ok (.iconst 2, 1) := by decide +kernel
theorem d_Md_step_20 : decode z_Md_step.2.2.1 20 = .ok (.goto 4, 3) := by decide +kernel
theorem d_Md_step_23 : decode z_Md_step.2.2.1 23 = .ok (.iconst 0, 1) := by decide +kernel
theorem d_Md_step_24 : decode z_Md_step.2.2.1 24 = .ok (.putfield 37, 3) := by decide +kernel
theorem d_Md_step_27 : decode z_Md_step.2.2.1 27 = .ok (.aload_n 0, 1) := by decide +kernel
theorem d_Md_step_28 : decode z_Md_step.2.2.1 28 = .ok (.getfield 37, 3) := by decide +kernel
theorem d_Md_step_31 : decode z_Md_step.2.2.1 31 = .ok (.ifCond .le 5, 3) := by decide +kernel
theorem d_Md_step_34 : decode z_Md_step.2.2.1 34 = .ok (.iconst 0, 1) := by decide +kernel
theorem d_Md_step_35 : decode z_Md_step.2.2.1 35 = .ok (.ireturn, 1) := by decide +kernel
theorem d_Md_step_36 : decode z_Md_step.2.2.1 36 = .ok (.aload_n 0, 1) := by decide +kernel
theorem d_Md_step_37 : decode z_Md_step.2.2.1 37 = .ok (.getfield 65, 3) := by decide +kernel
theorem d_Md_step_40 : decode z_Md_step.2.2.1 40 = .ok (.ifCond .ne 123, 3) := by decide +kernel
theorem d_Md_step_43 : decode z_Md_step.2.2.1 43 = .ok (.bipush 9, 2) := by decide +kernel
theorem d_Md_step_45 : decode z_Md_step.2.2.1 45 = .ok (.istore_n 1, 1) := by decide +kernel
theorem d_Md_step_46 : decode z_Md_step.2.2.1 46 = .ok (.iload_n 1, 1) := by decide +kernel
theorem d_Md_step_47 : decode z_Md_step.2.2.1 47 = .ok (.bipush 49, 2) := by decide +kernel
theorem d_Md_step_49 : decode z_Md_step.2.2.1 49 = .ok (.if_icmp .ge 36, 3) := by decide +kernel
theorem d_Md_step_52 : decode z_Md_step.2.2.1 52 = .ok (.aload_n 0, 1) := by decide +kernel
theorem d_Md_step_53 : decode z_Md_step.2.2.1 53 = .ok (.getfield 28, 3) := by decide +kernel
theorem d_Md_step_56 : decode z_Md_step.2.2.1 56 = .ok (.iload_n 1, 1) := by decide +kernel
theorem d_Md_step_57 : decode z_Md_step.2.2.1 57 = .ok (.iaload, 1) := by decide +kernel
theorem d_Md_step_58 : decode z_Md_step.2.2.1 58 = .ok (.ifCond .eq 21, 3) := by decide +kernel
theorem d_Md_step_61 : decode z_Md_step.2.2.1 61 = .ok (.aload_n 0, 1) := by decide +kernel
theorem d_Md_step_62 : decode z_Md_step.2.2.1 62 = .ok (.getfield 28, 3) := by decide +kernel
theorem d_Md_step_65 : decode z_Md_step.2.2.1 65 = .ok (.iload_n 1, 1) := by decide +kernel
theorem d_Md_step_66 : decode z_Md_step.2.2.1 66 = .ok (.iaload, 1) := by decide +kernel
theorem d_Md_step_67 : decode z_Md_step.2.2.1 67 = .ok (.iconst 1, 1) := by decide +kernel
theorem d_Md_step_68 : decode z_Md_step.2.2.1 68 = .ok (.isub, 1) := by decide +kernel
theorem d_Md_step_69 : decode z_Md_step.2.2.1 69 = .ok (.bipush 8, 2) := by decide +kernel
theorem d_Md_step_71 : decode z_Md_step.2.2.1 71 = .ok (.idiv, 1) := by decide +kernel
theorem d_Md_step_72 : decode z_Md_step.2.2.1 72 = .ok (.aload_n 0, 1) := by decide +kernel
theorem d_Md_step_73 : decode z_Md_step.2.2.1 73 = .ok (.getfield 34, 3) := by decide +kernel
theorem d_Md_step_76 : decode z_Md_step.2.2.1 76 = .ok (.if_icmp .eq 9, 3) := by decide +kernel
theorem d_Md_step_79 : decode z_Md_step.2.2.1 79 = .ok (.iinc 1 1, 3) := by decide +kernel
theorem d_Md_step_82 : decode z_Md_step.2.2.1 82 = .ok (.goto (-36), 3) := by decide +kernel
theorem d_Md_step_85 : decode z_Md_step.2.2.1 85 = .ok (.iload_n 1, 1) := by decide +kernel
theorem d_Md_step_86 : decode z_Md_step.2.2.1 86 = .ok (.bipush 49, 2) := by decide +kernel
theorem d_Md_step_88 : decode z_Md_step.2.2.1 88 = .ok (.if_icmp .ne 10, 3) := by decide +kernel
theorem d_Md_step_91 : decode z_Md_step.2.2.1 91 = .ok (.aload_n 0, 1) := by decide +kernel
theorem d_Md_step_92 : decode z_Md_step.2.2.1 92 = .ok (.iconst (-1), 1) := by decide +kernel
theorem d_Md_step_93 : decode z_Md_step.2.2.1 93 = .ok (.putfield 34, 3) := by decide +kernel
theorem d_Md_step_96 : decode z_Md_step.2.2.1 96 = .ok (.iconst 0, 1) := by decide +kernel
theorem d_Md_step_97 : decode z_Md_step.2.2.1 97 = .ok (.ireturn, 1) := by decide +kernel
theorem d_Md_step_98 : decode z_Md_step.2.2.1 98 = .ok (.aload_n 0, 1) := by decide +kernel
theorem d_Md_step_99 : decode z_Md_step.2.2.1 99 = .ok (.iload_n 1, 1) := by decide +kernel
theorem d_Md_step_100 : decode z_Md_step.2.2.1 100 = .ok (.bipush 9, 2) := by decide +kernel
theorem d_Md_step_102 : decode z_Md_step.2.2.1 102 = .ok (.isub, 1) := by decide +kernel
theorem d_Md_step_103 : decode z_Md_step.2.2.1 103 = .ok (.bipush 10, 2) := by decide +kernel
theorem d_Md_step_105 : decode z_Md_step.2.2.1 105 = .ok (.idiv, 1) := by decide +kernel
theorem d_Md_step_106 : decode z_Md_step.2.2.1 106 = .ok (.putfield 59, 3) := by decide +kernel
theorem d_Md_step_109 : decode z_Md_step.2.2.1 109 = .ok (.aload_n 0, 1) := by decide +kernel
theorem d_Md_step_110 : decode z_Md_step.2.2.1 110 = .ok (.iload_n 1, 1) := by decide +kernel
theorem d_Md_step_111 : decode z_Md_step.2.2.1 111 = .ok (.bipush 9, 2) := by decide +kernel
theorem d_Md_step_113 : decode z_Md_step.2.2.1 113 = .ok (.isub, 1) := by decide +kernel
theorem d_Md_step_114 : decode z_Md_step.2.2.1 114 = .ok (.bipush 10, 2) := by decide +kernel
theorem d_Md_step_116 : decode z_Md_step.2.2.1 116 = .ok (.irem, 1) := by decide +kernel
theorem d_Md_step_117 : decode z_Md_step.2.2.1 117 = .ok (.putfield 62, 3) := by decide +kernel
theorem d_Md_step_120 : decode z_Md_step.2.2.1 120 = .ok (.aload_n 0, 1) := by decide +kernel
theorem d_Md_step_121 : decode z_Md_step.2.2.1 121 = .ok (.iconst 0, 1) := by decide +kernel
theorem d_Md_step_122 : decode z_Md_step.2.2.1 122 = .ok (.putfield 152, 3) := by decide +kernel
theorem d_Md_step_125 : decode z_Md_step.2.2.1 125 = .ok (.aload_n 0, 1) := by decide +kernel
theorem d_Md_step_126 : decode z_Md_step.2.2.1 126 = .ok (.aload_n 0, 1) := by decide +kernel
theorem d_Md_step_127 : decode z_Md_step.2.2.1 127 = .ok (.aload_n 0, 1) := by decide +kernel
theorem d_Md_step_128 : decode z_Md_step.2.2.1 128 = .ok (.getfield 28, 3) := by decide +kernel
theorem d_Md_step_131 : decode z_Md_step.2.2.1 131 = .ok (.aload_n 0, 1) := by decide +kernel
theorem d_Md_step_132 : decode z_Md_step.2.2.1 132 = .ok (.getfield 59, 3) := by decide +kernel
theorem d_Md_step_135 : decode z_Md_step.2.2.1 135 = .ok (.aload_n 0, 1) := by decide +kernel
theorem d_Md_step_136 : decode z_Md_step.2.2.1 136 = .ok (.getfield 62, 3) := by decide +kernel
theorem d_Md_step_139 : decode z_Md_step.2.2.1 139 = .ok (.aload_n 0, 1) := by decide +kernel
theorem d_Md_step_140 : decode z_Md_step.2.2.1 140 = .ok (.getfield 34, 3) := by decide +kernel
theorem d_Md_step_143 : decode z_Md_step.2.2.1 143 = .ok (.invokevirtual 95, 3) := by decide +kernel
theorem d_Md_step_146 : decode z_Md_step.2.2.1 146 = .ok (.putfield 65, 3) := by decide +kernel
theorem d_Md_step_149 : decode z_Md_step.2.2.1 149 = .ok (.aload_n 0, 1) := by decide +kernel
theorem d_Md_step_150 : decode z_Md_step.2.2.1 150 = .ok (.getfield 65, 3) := by decide +kernel
theorem d_Md_step_153 : decode z_Md_step.2.2.1 153 = .ok (.ifCond .ne 10, 3) := by decide +kernel
theorem d_Md_step_156 : decode z_Md_step.2.2.1 156 = .ok (.aload_n 0, 1) := by decide +kernel
theorem d_Md_step_157 : decode z_Md_step.2.2.1 157 = .ok (.iconst (-1), 1) := by decide +kernel
theorem d_Md_step_158 : decode z_Md_step.2.2.1 158 = .ok (.putfield 34, 3) := by decide +kernel
theorem d_Md_step_161 : decode z_Md_step.2.2.1 161 = .ok (.iconst (-1), 1) := by decide +kernel
theorem d_Md_step_162 : decode z_Md_step.2.2.1 162 = .ok (.ireturn, 1) := by decide +kernel
theorem d_Md_step_163 : decode z_Md_step.2.2.1 163 = .ok (.bipush 9, 2) := by decide +kernel
theorem d_Md_step_165 : decode z_Md_step.2.2.1 165 = .ok (.bipush 10, 2) := by decide +kernel
theorem d_Md_step_167 : decode z_Md_step.2.2.1 167 = .ok (.aload_n 0, 1) := by decide +kernel
theorem d_Md_step_168 : decode z_Md_step.2.2.1 168 = .ok (.getfield 59, 3) := by decide +kernel
theorem d_Md_step_171 : decode z_Md_step.2.2.1 171 = .ok (.imul, 1) := by decide +kernel
theorem d_Md_step_172 : decode z_Md_step.2.2.1 172 = .ok (.iadd, 1) := by decide +kernel
theorem d_Md_step_173 : decode z_Md_step.2.2.1 173 = .ok (.aload_n 0, 1) := by decide +kernel
theorem d_Md_step_174 : decode z_Md_step.2.2.1 174 = .ok (.getfield 62, 3) := by decide +kernel
theorem d_Md_step_177 : decode z_Md_step.2.2.1 177 = .ok (.iadd, 1) := by decide +kernel
theorem d_Md_step_178 : decode z_Md_step.2.2.1 178 = .ok (.istore_n 1, 1) := by decide +kernel
theorem d_Md_step_179 : decode z_Md_step.2.2.1 179 = .ok (.aload_n 0, 1) := by decide +kernel
theorem d_Md_step_180 : decode z_Md_step.2.2.1 180 = .ok (.aload_n 0, 1) := by decide +kernel
theorem d_Md_step_181 : decode z_Md_step.2.2.1 181 = .ok (.getfield 65, 3) := by decide +kernel
theorem d_Md_step_184 : decode z_Md_step.2.2.1 184 = .ok (.aload_n 0, 1) := by decide +kernel
theorem d_Md_step_185 : decode z_Md_step.2.2.1 185 = .ok (.getfield 152, 3) := by decide +kernel
theorem d_Md_step_188 : decode z_Md_step.2.2.1 188 = .ok (.aload_n 0, 1) := by decide +kernel
theorem d_Md_step_189 : decode z_Md_step.2.2.1 189 = .ok (.aload_n 0, 1) := by decide +kernel
theorem d_Md_step_190 : decode z_Md_step.2.2.1 190 = .ok (.getfield 28, 3) := by decide +kernel
theorem d_Md_step_193 : decode z_Md_step.2.2.1 193 = .ok (.iload_n 1, 1) := by decide +kernel
theorem d_Md_step_194 : decode z_Md_step.2.2.1 194 = .ok (.iaload, 1) := by decide +kernel
theorem d_Md_step_195 : decode z_Md_step.2.2.1 195 = .ok (.aload_n 0, 1) := by decide +kernel
theorem d_Md_step_196 : decode z_Md_step.2.2.1 196 = .ok (.getfield 152, 3) := by decide +kernel
theorem d_Md_step_199 : decode z_Md_step.2.2.1 199 = .ok (.invokevirtual 140, 3) := by decide +kernel
theorem d_Md_step_202 : decode z_Md_step.2.2.1 202 = .ok (.invokevirtual 99, 3) := by decide +kernel
theorem d_Md_step_205 : decode z_Md_step.2.2.1 205 = .ok (.aload_n 0, 1) := by decide +kernel
theorem d_Md_step_206 : decode z_Md_step.2.2.1 206 = .ok (.dup, 1) := by decide +kernel
theorem d_Md_step_207 : decode z_Md_step.2.2.1 207 = .ok (.getfield 152, 3) := by decide +kernel
theorem d_Md_step_210 : decode z_Md_step.2.2.1 210 = .ok (.iconst 1, 1) := by decide +kernel
theorem d_Md_step_211 : decode z_Md_step.2.2.1 211 = .ok (.iadd, 1) := by decide +kernel
theorem d_Md_step_212 : decode z_Md_step.2.2.1 212 = .ok (.putfield 152, 3) := by decide +kernel
theorem d_Md_step_215 : decode z_Md_step.2.2.1 215 = .ok (.aload_n 0, 1) := by decide +kernel
theorem d_Md_step_216 : decode z_Md_step.2.2.1 216 = .ok (.getfield 20, 3) := by decide +kernel
theorem d_Md_step_219 : decode z_Md_step.2.2.1 219 = .ok (.ifCond .eq 29, 3) := by decide +kernel
theorem d_Md_step_222 : decode z_Md_step.2.2.1 222 = .ok (.aload_n 0, 1) := by decide +kernel
theorem d_Md_step_223 : decode z_Md_step.2.2.1 223 = .ok (.getfield 152, 3) := by decide +kernel
theorem d_Md_step_226 : decode z_Md_step.2.2.1 226 = .ok (.iconst 4, 1) := by decide +kernel
theorem d_Md_step_227 : decode z_Md_step.2.2.1 227 = .ok (.if_icmp .ne 21, 3) := by decide +kernel
theorem d_Md_step_230 : decode z_Md_step.2.2.1 230 = .ok (.aload_n 0, 1) := by decide +kernel
theorem d_Md_step_231 : decode z_Md_step.2.2.1 231 = .ok (.invokevirtual 107, 3) := by decide +kernel
theorem d_Md_step_234 : decode z_Md_step.2.2.1 234 = .ok (.aload_n 0, 1) := by decide +kernel
theorem d_Md_step_235 : decode z_Md_step.2.2.1 235 = .ok (.getfield 31, 3) := by decide +kernel
theorem d_Md_step_238 : decode z_Md_step.2.2.1 238 = .ok (.iload_n 1, 1) := by decide +kernel
theorem d_Md_step_239 : decode z_Md_step.2.2.1 239 = .ok (.aload_n 0, 1) := by decide +kernel
theorem d_Md_step_240 : decode z_Md_step.2.2.1 240 = .ok (.getfield 65, 3) := by decide +kernel
theorem d_Md_step_243 : decode z_Md_step.2.2.1 243 = .ok (.iastore, 1) := by decide +kernel
theorem d_Md_step_244 : decode z_Md_step.2.2.1 244 = .ok (.aload_n 0, 1) := by decide +kernel
theorem d_Md_step_245 : decode z_Md_step.2.2.1 245 = .ok (.invokevirtual 110, 3) := by decide +kernel
theorem d_Md_step_248 : decode z_Md_step.2.2.1 248 = .ok (.aload_n 0, 1) := by decide +kernel
theorem d_Md_step_249 : decode z_Md_step.2.2.1 249 = .ok (.getfield 34, 3) := by decide +kernel
theorem d_Md_step_252 : decode z_Md_step.2.2.1 252 = .ok (.ifCond .ge 7, 3) := by decide +kernel
theorem d_Md_step_255 : decode z_Md_step.2.2.1 255 = .ok (.iconst 0, 1) := by decide +kernel
theorem d_Md_step_256 : decode z_Md_step.2.2.1 256 = .ok (.goto 11, 3) := by decide +kernel
theorem d_Md_step_259 : decode z_Md_step.2.2.1 259 = .ok (.aload_n 0, 1) := by decide +kernel
theorem d_Md_step_260 : decode z_Md_step.2.2.1 260 = .ok (.aload_n 0, 1) := by decide +kernel
theorem d_Md_step_261 : decode z_Md_step.2.2.1 261 = .ok (.getfield 34, 3) := by decide +kernel
theorem d_Md_step_264 : decode z_Md_step.2.2.1 264 = .ok (.invokevirtual 116, 3) := by decide +kernel
theorem d_Md_step_267 : decode z_Md_step.2.2.1 267 = .ok (.istore_n 2, 1) := by decide +kernel
theorem d_Md_step_268 : decode z_Md_step.2.2.1 268 = .ok (.aload_n 0, 1) := by decide +kernel
theorem d_Md_step_269 : decode z_Md_step.2.2.1 269 = .ok (.iload_n 2, 1) := by decide +kernel
theorem d_Md_step_270 : decode z_Md_step.2.2.1 270 = .ok (.ifCond .ne 7, 3) := by decide +kernel
theorem d_Md_step_273 : decode z_Md_step.2.2.1 273 = .ok (.iconst (-1), 1) := by decide +kernel
theorem d_Md_step_274 : decode z_Md_step.2.2.1 274 = .ok (.goto 7, 3) := by decide +kernel
theorem d_Md_step_277 : decode z_Md_step.2.2.1 277 = .ok (.aload_n 0, 1) := by decide +kernel
theorem d_Md_step_278 : decode z_Md_step.2.2.1 278 = .ok (.getfield 34, 3) := by decide +kernel
theorem d_Md_step_281 : decode z_Md_step.2.2.1 281 = .ok (.putfield 34, 3) := by decide +kernel
theorem d_Md_step_284 : decode z_Md_step.2.2.1 284 = .ok (.aload_n 0, 1) := by decide +kernel
theorem d_Md_step_285 : decode z_Md_step.2.2.1 285 = .ok (.iload_n 2, 1) := by decide +kernel
theorem d_Md_step_286 : decode z_Md_step.2.2.1 286 = .ok (.invokevirtual 113, 3) := by decide +kernel
theorem d_Md_step_289 : decode z_Md_step.2.2.1 289 = .ok (.ireturn, 1) := by decide +kernel
def lc_Md_step_0 : jx_Cx := (cAnd (cCmp rLt (eI 1) (eInt (nI 49))) (cOr (cCmp0 rEq (eLd 0 (eGf [8] 6 (eA 0)) (eI 1))) (cCmp rNe (eBin oDiv (eBin oSub (eLd 0 (eGf [8] 6 (eA 0)) (eI 1)) (eInt (nI 1))) (eInt (nI 8))) (eGf [8] 8 (eA 0)))))
def lb_Md_step_0 : jx_St := (sInc 1 (nI 1))
theorem ml_Md_step_0 : jx_Ts z_Md_step 46 (sWh 64 lc_Md_step_0 lb_Md_step_0) [85] := by
  unfold lc_Md_step_0 lb_Md_step_0
  exact t_wh (EA := [82]) (Fs := [85]) (E := [85]) 64 (s_andg (s_cmp (s_iload_n d_Md_step_46 rfl) (s_bipush d_Md_step_47 (by decide)) (s_icmp_geF (tgt := 85) d_Md_step_49 (by decide))) (by decide) (al_1 (s_org (s_cmp0 (s_load (s_getf (s_aload_n d_Md_step_52 rfl) fi_Md_28 d_Md_step_53) (s_iload_n d_Md_step_56 rfl) (s_iald d_Md_step_57)) (s_if_eqT (tgt := 79) d_Md_step_58 (by decide))) (by decide) (al_1 (s_cmp (s_bin (s_bin (s_load (s_getf (s_aload_n d_Md_step_61 rfl) fi_Md_28 d_Md_step_62) (s_iload_n d_Md_step_65 rfl) (s_iald d_Md_step_66)) (s_iconst d_Md_step_67 (by decide)) (s_isub d_Md_step_68)) (s_bipush d_Md_step_69 (by decide)) (s_idiv d_Md_step_71)) (s_getf (s_aload_n d_Md_step_72 rfl) fi_Md_34 d_Md_step_73) (s_icmp_eqF (tgt := 85) d_Md_step_76 (by decide))))))) (by decide) (t_iinc d_Md_step_79 (by decide) (by decide)) (al_1 (Or.inr ⟨-36, d_Md_step_82, by decide⟩)) (by decide)
def bd_Md_step : jx_St := (sSeq (sPf [8] 0 0 (eA 0) (eIte (cNot (cCmp0 rNe (eGf [8] 4 (eA 0)))) (eInt (nI 1)) (eIte (cCmp0 rLt (eGf [8] 8 (eA 0))) (eInt (nI 2)) (eInt (nI 0))))) (sSeq (sIf (cCmp0 rGt (eGf [8] 0 (eA 0))) (sRet 0 (eInt (nI 0))) sSkip) (sSeq (sIf (cCmp0 rEq (eGf [8] 11 (eA 0))) (sSeq (sAsg 0 1 (eInt (nI 9))) (sSeq (sWh 64 lc_Md_step_0 lb_Md_step_0) (sSeq (sIf (cCmp rEq (eI 1) (eInt (nI 49))) (sSeq (sPf [8] 8 0 (eA 0) (eInt (-1))) (sRet 0 (eInt (nI 0)))) sSkip) (sSeq (sPf [8] 9 0 (eA 0) (eBin oDiv (eBin oSub (eI 1) (eInt (nI 9))) (eInt (nI 10)))) (sSeq (sPf [8] 10 0 (eA 0) (eBin oRem (eBin oSub (eI 1) (eInt (nI 9))) (eInt (nI 10)))) (sSeq (sPf [8] 12 0 (eA 0) (eInt (nI 0))) (sSeq (sPf [8] 11 0 (eA 0) (eCl (jx_ev tb_Md_room) [(eA 0), (eGf [8] 6 (eA 0)), (eGf [8] 9 (eA 0)), (eGf [8] 10 (eA 0)), (eGf [8] 8 (eA 0))])) (sIf (cCmp0 rEq (eGf [8] 11 (eA 0))) (sSeq (sPf [8] 8 0 (eA 0) (eInt (-1))) (sRet 0 (eInt (-1)))) sSkip)))))))) sSkip) (sSeq (sAsg 0 1 (eBin oAdd (eBin oAdd (eInt (nI 9)) (eBin oMul (eInt (nI 10)) (eGf [8] 9 (eA 0)))) (eGf [8] 10 (eA 0)))) (sSeq (sCl (jx_ev tb_Md_put) [(eA 0), (eGf [8] 11 (eA 0)), (eGf [8] 12 (eA 0)), (eCl (jx_ev tb_Md_get) [(eA 0), (eLd 0 (eGf [8] 6 (eA 0)) (eI 1)), (eGf [8] 12 (eA 0))])]) (sSeq (sUf [8] 12 0 oAdd (eA 0) (eInt (nI 1))) (sSeq (sIf (cAnd (cCmp0 rNe (eGf [8] 4 (eA 0))) (cCmp rEq (eGf [8] 12 (eA 0)) (eInt (nI 4)))) (sSeq (sCl (jx_ev tb_Md_begin) [(eA 0)]) (sSeq (sSt 0 0 (eGf [8] 7 (eA 0)) (eI 1) (eGf [8] 11 (eA 0))) (sCl (jx_ev tb_Md_change) [(eA 0)]))) sSkip) (sSeq (sAsg 0 2 (eIte (cCmp0 rLt (eGf [8] 8 (eA 0))) (eInt (nI 0)) (eCl (jx_ev tb_Md_legsOn) [(eA 0), (eGf [8] 8 (eA 0))]))) (sSeq (sPf [8] 8 0 (eA 0) (eIte (cCmp0 rEq (eI 2)) (eInt (-1)) (eGf [8] 8 (eA 0)))) (sRet 0 (eCl (jx_ev tb_Md_ended) [(eA 0), (eI 2)])))))))))))
theorem m_Md_step : jx_Ts z_Md_step 0 bd_Md_step [] := by
  unfold bd_Md_step
  exact (t_seq (t_pf (s_aload_n d_Md_step_0 rfl) (s_ite (q4 := 24) (s_not (s_cmp0 (s_getf (s_aload_n d_Md_step_1 rfl) fi_Md_20 d_Md_step_2) (s_if_neT (tgt := 12) d_Md_step_5 (by decide))) (by decide)) (s_iconst d_Md_step_8 (by decide)) d_Md_step_9 (by decide) (s_ite (q4 := 24) (s_cmp0 (s_getf (s_aload_n d_Md_step_12 rfl) fi_Md_34 d_Md_step_13) (s_if_geF (tgt := 23) d_Md_step_16 (by decide))) (s_iconst d_Md_step_19 (by decide)) d_Md_step_20 (by decide) (s_iconst d_Md_step_23 (by decide)))) fi_Md_37 rfl (Or.inl rfl) d_Md_step_24) (t_seq (t_if1 (Fs := [36]) (E := [36]) (s_cmp0 (s_getf (s_aload_n d_Md_step_27 rfl) fi_Md_37 d_Md_step_28) (s_if_leF (tgt := 36) d_Md_step_31 (by decide))) (by decide) (t_sub (E := []) (E' := [36]) (t_ret .int (s_iconst d_Md_step_34 (by decide)) rfl (by decide) d_Md_step_35) (by decide)) (by decide)) (t_seq (t_if1 (Fs := [163]) (E := [163]) (s_cmp0 (s_getf (s_aload_n d_Md_step_36 rfl) fi_Md_65 d_Md_step_37) (s_if_neF (tgt := 163) d_Md_step_40 (by decide))) (by decide) (t_sub (E := [163]) (E' := [163]) (t_seq (t_asg (s_bipush d_Md_step_43 (by decide)) (fun v k h => b_istore_n d_Md_step_45 rfl (by decide) h)) (t_seq ml_Md_step_0 (t_seq (t_if1 (Fs := [98]) (E := [98]) (s_cmp (s_iload_n d_Md_step_85 rfl) (s_bipush d_Md_step_86 (by decide)) (s_icmp_neF (tgt := 98) d_Md_step_88 (by decide))) (by decide) (t_sub (E := []) (E' := [98]) (t_seq (t_pf (s_aload_n d_Md_step_91 rfl) (s_iconst d_Md_step_92 (by decide)) fi_Md_34 rfl (Or.inl rfl) d_Md_step_93) (t_ret .int (s_iconst d_Md_step_96 (by decide)) rfl (by decide) d_Md_step_97)) (by decide)) (by decide)) (t_seq (t_pf (s_aload_n d_Md_step_98 rfl) (s_bin (s_bin (s_iload_n d_Md_step_99 rfl) (s_bipush d_Md_step_100 (by decide)) (s_isub d_Md_step_102)) (s_bipush d_Md_step_103 (by decide)) (s_idiv d_Md_step_105)) fi_Md_59 rfl (Or.inl rfl) d_Md_step_106) (t_seq (t_pf (s_aload_n d_Md_step_109 rfl) (s_bin (s_bin (s_iload_n d_Md_step_110 rfl) (s_bipush d_Md_step_111 (by decide)) (s_isub d_Md_step_113)) (s_bipush d_Md_step_114 (by decide)) (s_irem d_Md_step_116)) fi_Md_62 rfl (Or.inl rfl) d_Md_step_117) (t_seq (t_pf (s_aload_n d_Md_step_120 rfl) (s_iconst d_Md_step_121 (by decide)) fi_Md_152 rfl (Or.inl rfl) d_Md_step_122) (t_seq (t_pf (s_aload_n d_Md_step_125 rfl) (s_cl (s_a1 (s_aload_n d_Md_step_126 rfl) (s_a1 (s_getf (s_aload_n d_Md_step_127 rfl) fi_Md_28 d_Md_step_128) (s_a1 (s_getf (s_aload_n d_Md_step_131 rfl) fi_Md_59 d_Md_step_132) (s_a1 (s_getf (s_aload_n d_Md_step_135 rfl) fi_Md_62 d_Md_step_136) (s_a1 (s_getf (s_aload_n d_Md_step_139 rfl) fi_Md_34 d_Md_step_140) s_a0))))) (s_ecv (ve_Md_room (by decide) (by decide)) dc_Md_room (by decide) lm_Md_95 pd_Md_room d_Md_step_143)) fi_Md_65 rfl (Or.inl rfl) d_Md_step_146) (t_if1 (Fs := [163]) (E := [163]) (s_cmp0 (s_getf (s_aload_n d_Md_step_149 rfl) fi_Md_65 d_Md_step_150) (s_if_neF (tgt := 163) d_Md_step_153 (by decide))) (by decide) (t_sub (E := []) (E' := [163]) (t_seq (t_pf (s_aload_n d_Md_step_156 rfl) (s_iconst d_Md_step_157 (by decide)) fi_Md_34 rfl (Or.inl rfl) d_Md_step_158) (t_ret .int (s_iconst d_Md_step_161 (by decide)) rfl (by decide) d_Md_step_162)) (by decide)) (by decide))))))))) (by decide)) (by decide)) (t_seq (t_asg (s_bin (s_bin (s_bipush d_Md_step_163 (by decide)) (s_bin (s_bipush d_Md_step_165 (by decide)) (s_getf (s_aload_n d_Md_step_167 rfl) fi_Md_59 d_Md_step_168) (s_imul d_Md_step_171)) (s_iadd d_Md_step_172)) (s_getf (s_aload_n d_Md_step_173 rfl) fi_Md_62 d_Md_step_174) (s_iadd d_Md_step_177)) (fun v k h => b_istore_n d_Md_step_178 rfl (by decide) h)) (t_seq (t_cl (s_a1 (s_aload_n d_Md_step_179 rfl) (s_a1 (s_getf (s_aload_n d_Md_step_180 rfl) fi_Md_65 d_Md_step_181) (s_a1 (s_getf (s_aload_n d_Md_step_184 rfl) fi_Md_152 d_Md_step_185) (s_a1 (s_cl (s_a1 (s_aload_n d_Md_step_188 rfl) (s_a1 (s_load (s_getf (s_aload_n d_Md_step_189 rfl) fi_Md_28 d_Md_step_190) (s_iload_n d_Md_step_193 rfl) (s_iald d_Md_step_194)) (s_a1 (s_getf (s_aload_n d_Md_step_195 rfl) fi_Md_152 d_Md_step_196) s_a0))) (s_ecv (ve_Md_get (by decide) (by decide)) dc_Md_get (by decide) lm_Md_140 pd_Md_get d_Md_step_199)) s_a0)))) (s_ecv (ve_Md_put (by decide) (by decide)) dc_Md_put (by decide) lm_Md_99 pd_Md_put d_Md_step_202)) (t_seq (t_uf (s_aload_n d_Md_step_205 rfl) d_Md_step_206 d_Md_step_207 (s_iconst d_Md_step_210 (by decide)) (s_iadd d_Md_step_211) fi_Md_152 rfl rfl d_Md_step_212) (t_seq (t_if1 (Fs := [248]) (E := [248]) (s_andg (s_cmp0 (s_getf (s_aload_n d_Md_step_215 rfl) fi_Md_20 d_Md_step_216) (s_if_eqF (tgt := 248) d_Md_step_219 (by decide))) (by decide) (al_1 (s_cmp (s_getf (s_aload_n d_Md_step_222 rfl) fi_Md_152 d_Md_step_223) (s_iconst d_Md_step_226 (by decide)) (s_icmp_neF (tgt := 248) d_Md_step_227 (by decide))))) (by decide) (t_sub (E := [248]) (E' := [248]) (t_seq (t_cl (s_a1 (s_aload_n d_Md_step_230 rfl) s_a0) (s_ecv (ve_Md_begin (by decide) (by decide)) dc_Md_begin (by decide) lm_Md_107 pd_Md_begin d_Md_step_231)) (t_seq (t_st (s_getf (s_aload_n d_Md_step_234 rfl) fi_Md_31 d_Md_step_235) (s_iload_n d_Md_step_238 rfl) (s_getf (s_aload_n d_Md_step_239 rfl) fi_Md_65 d_Md_step_240) (s_iast d_Md_step_243)) (t_cl (s_a1 (s_aload_n d_Md_step_244 rfl) s_a0) (s_ecv (ve_Md_change (by decide) (by decide)) dc_Md_change (by decide) lm_Md_110 pd_Md_change d_Md_step_245)))) (by decide)) (by decide)) (t_seq (t_asg (s_ite (q4 := 267) (s_cmp0 (s_getf (s_aload_n d_Md_step_248 rfl) fi_Md_34 d_Md_step_249) (s_if_geF (tgt := 259) d_Md_step_252 (by decide))) (s_iconst d_Md_step_255 (by decide)) d_Md_step_256 (by decide) (s_cl (s_a1 (s_aload_n d_Md_step_259 rfl) (s_a1 (s_getf (s_aload_n d_Md_step_260 rfl) fi_Md_34 d_Md_step_261) s_a0)) (s_ecv (ve_Md_legsOn (by decide) (by decide)) dc_Md_legsOn (by decide) lm_Md_116 pd_Md_legsOn d_Md_step_264))) (fun v k h => b_istore_n d_Md_step_267 rfl (by decide) h)) (t_seq (t_pf (s_aload_n d_Md_step_268 rfl) (s_ite (q4 := 281) (s_cmp0 (s_iload_n d_Md_step_269 rfl) (s_if_neF (tgt := 277) d_Md_step_270 (by decide))) (s_iconst d_Md_step_273 (by decide)) d_Md_step_274 (by decide) (s_getf (s_aload_n d_Md_step_277 rfl) fi_Md_34 d_Md_step_278)) fi_Md_34 rfl (Or.inl rfl) d_Md_step_281) (t_ret .int (s_cl (s_a1 (s_aload_n d_Md_step_284 rfl) (s_a1 (s_iload_n d_Md_step_285 rfl) s_a0)) (s_ecv (ve_Md_ended (by decide) (by decide)) dc_Md_ended (by decide) lm_Md_113 pd_Md_ended d_Md_step_286)) rfl (by decide) d_Md_step_289))))))))))
def f_Md_step : jx_Mt := jx_fn 1 3 (bd_Md_step fun _ _ => none)
theorem me_Md_step : jx_Me 1 z_Md_step f_Md_step := jx_Me.ofT (by decide) m_Md_step
theorem mw_Md_step : jx_mw ⟨"ExtentShelfModel", "step", "()I"⟩ z_Md_step := ⟨rfl, rfl, by decide +kernel, ⟨by decide, by decide⟩, by decide +kernel⟩
theorem pd_Md_step : (parseMethodDescriptor (⟨"ExtentShelfModel", "step", "()I"⟩ : MethodName).desc).map (fun d => d.parameters.length) = some 0 := by decide +kernel
/-! ExtentShelfModel.moving()I -/
abbrev z_Md_moving : jx_Z := ("ExtentShelfModel", "moving", prog_11_method_45_code, 1, some .int, 0, 0)
theorem d_Md_moving_0 : decode z_Md_moving.2.2.1 0 = .ok (.aload_n 0, 1) := by decide +kernel
theorem d_Md_moving_1 : decode z_Md_moving.2.2.1 1 = .ok (.iconst 0, 1) := by decide +kernel
theorem d_Md_moving_2 : decode z_Md_moving.2.2.1 2 = .ok (.putfield 37, 3) := by decide +kernel
theorem d_Md_moving_5 : decode z_Md_moving.2.2.1 5 = .ok (.aload_n 0, 1) := by decide +kernel
theorem d_Md_moving_6 : decode z_Md_moving.2.2.1 6 = .ok (.getfield 20, 3) := by decide +kernel
theorem d_Md_moving_9 : decode z_Md_moving.2.2.1 9 = .ok (.ifCond .eq 10, 3) := by decide +kernel
theorem d_Md_moving_12 : decode z_Md_moving.2.2.1 12 = .ok (.aload_n 0, 1) := by decide +kernel
theorem d_Md_moving_13 : decode z_Md_moving.2.2.1 13 = .ok (.getfield 34, 3) := by decide +kernel
theorem d_Md_moving_16 : decode z_Md_moving.2.2.1 16 = .ok (.goto 4, 3) := by decide +kernel
theorem d_Md_moving_19 : decode z_Md_moving.2.2.1 19 = .ok (.iconst (-1), 1) := by decide +kernel
theorem d_Md_moving_20 : decode z_Md_moving.2.2.1 20 = .ok (.ireturn, 1) := by decide +kernel
def bd_Md_moving : jx_St := (sSeq (sPf [8] 0 0 (eA 0) (eInt (nI 0))) (sRet 0 (eIte (cCmp0 rNe (eGf [8] 4 (eA 0))) (eGf [8] 8 (eA 0)) (eInt (-1)))))
theorem m_Md_moving : jx_Ts z_Md_moving 0 bd_Md_moving [] := by
  unfold bd_Md_moving
  exact (t_seq (t_pf (s_aload_n d_Md_moving_0 rfl) (s_iconst d_Md_moving_1 (by decide)) fi_Md_37 rfl (Or.inl rfl) d_Md_moving_2) (t_ret .int (s_ite (q4 := 20) (s_cmp0 (s_getf (s_aload_n d_Md_moving_5 rfl) fi_Md_20 d_Md_moving_6) (s_if_eqF (tgt := 19) d_Md_moving_9 (by decide))) (s_getf (s_aload_n d_Md_moving_12 rfl) fi_Md_34 d_Md_moving_13) d_Md_moving_16 (by decide) (s_iconst d_Md_moving_19 (by decide))) rfl (by decide) d_Md_moving_20))
def f_Md_moving : jx_Mt := jx_fn 1 1 (bd_Md_moving fun _ _ => none)
theorem me_Md_moving : jx_Me 1 z_Md_moving f_Md_moving := jx_Me.ofT (by decide) m_Md_moving
theorem mw_Md_moving : jx_mw ⟨"ExtentShelfModel", "moving", "()I"⟩ z_Md_moving := ⟨rfl, rfl, by decide +kernel, ⟨by decide, by decide⟩, by decide +kernel⟩
theorem pd_Md_moving : (parseMethodDescriptor (⟨"ExtentShelfModel", "moving", "()I"⟩ : MethodName).desc).map (fun d => d.parameters.length) = some 0 := by decide +kernel
