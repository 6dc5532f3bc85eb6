/-! METHODS, printed by jgen.py -/
/-! ExtentShelfModel.thrown()I -/
abbrev z_Md_thrown : jx_Z := ("ExtentShelfModel", "thrown", prog_11_method_2_code, 1, some .int, 0, 0)
theorem d_Md_thrown_0 : decode z_Md_thrown.2.2.1 0 = .ok (.aload_n 0, 1) := by decide +kernel
theorem d_Md_thrown_1 : decode z_Md_thrown.2.2.1 1 = .ok (.getfield 37, 3) := by decide +kernel
theorem d_Md_thrown_4 : decode z_Md_thrown.2.2.1 4 = .ok (.ireturn, 1) := by decide +kernel
def bd_Md_thrown : jx_St := (sRet 0 (eGf [8] 0 (eA 0)))
theorem m_Md_thrown : jx_Ts z_Md_thrown 0 bd_Md_thrown [] := by
  unfold bd_Md_thrown
  exact (t_ret .int (s_getf (s_aload_n d_Md_thrown_0 rfl) fi_Md_37 d_Md_thrown_1) rfl (by decide) d_Md_thrown_4)
def f_Md_thrown : jx_Mt := jx_fn 1 1 (bd_Md_thrown fun _ _ => none)
theorem me_Md_thrown : jx_Me 1 z_Md_thrown f_Md_thrown := jx_Me.ofT (by decide) m_Md_thrown
theorem mw_Md_thrown : jx_mw ⟨"ExtentShelfModel", "thrown", "()I"⟩ z_Md_thrown := ⟨rfl, rfl, by decide +kernel, ⟨by decide, by decide⟩, by decide +kernel⟩
theorem pd_Md_thrown : (parseMethodDescriptor (⟨"ExtentShelfModel", "thrown", "()I"⟩ : MethodName).desc).map (fun d => d.parameters.length) = some 0 := by decide +kernel
/-! ExtentShelfModel.isDisk(I)Z -/
abbrev z_Md_isDisk : jx_Z := ("ExtentShelfModel", "isDisk", prog_11_method_3_code, 1, some .boolean, 0, 0)
theorem d_Md_isDisk_0 : decode z_Md_isDisk.2.2.1 0 = .ok (.iload_n 0, 1) := by decide +kernel
theorem d_Md_isDisk_1 : decode z_Md_isDisk.2.2.1 1 = .ok (.ifCond .lt 12, 3) := by decide +kernel
theorem d_Md_isDisk_4 : decode z_Md_isDisk.2.2.1 4 = .ok (.iload_n 0, 1) := by decide +kernel
theorem d_Md_isDisk_5 : decode z_Md_isDisk.2.2.1 5 = .ok (.iconst 4, 1) := by decide +kernel
theorem d_Md_isDisk_6 : decode z_Md_isDisk.2.2.1 6 = .ok (.if_icmp .ge 7, 3) := by decide +kernel
theorem d_Md_isDisk_9 : decode z_Md_isDisk.2.2.1 9 = .ok (.iconst 1, 1) := by decide +kernel
theorem d_Md_isDisk_10 : decode z_Md_isDisk.2.2.1 10 = .ok (.goto 4, 3) := by decide +kernel
theorem d_Md_isDisk_13 : decode z_Md_isDisk.2.2.1 13 = .ok (.iconst 0, 1) := by decide +kernel
theorem d_Md_isDisk_14 : decode z_Md_isDisk.2.2.1 14 = .ok (.ireturn, 1) := by decide +kernel
def bd_Md_isDisk : jx_St := (sRet 1 (eIte (cAnd (cCmp0 rGe (eI 0)) (cCmp rLt (eI 0) (eInt (nI 4)))) (eInt (nI 1)) (eInt (nI 0))))
theorem m_Md_isDisk : jx_Ts z_Md_isDisk 0 bd_Md_isDisk [] := by
  unfold bd_Md_isDisk
  exact (t_ret .boolean (s_ite (q4 := 14) (s_andg (s_cmp0 (s_iload_n d_Md_isDisk_0 rfl) (s_if_ltF (tgt := 13) d_Md_isDisk_1 (by decide))) (by decide) (al_1 (s_cmp (s_iload_n d_Md_isDisk_4 rfl) (s_iconst d_Md_isDisk_5 (by decide)) (s_icmp_geF (tgt := 13) d_Md_isDisk_6 (by decide))))) (s_iconst d_Md_isDisk_9 (by decide)) d_Md_isDisk_10 (by decide) (s_iconst d_Md_isDisk_13 (by decide))) rfl (by decide) d_Md_isDisk_14)
def f_Md_isDisk : jx_Mt := jx_fn 1 1 (bd_Md_isDisk fun _ _ => none)
theorem me_Md_isDisk : jx_Me 1 z_Md_isDisk f_Md_isDisk := jx_Me.ofT (by decide) m_Md_isDisk
theorem mw_Md_isDisk : jx_mw ⟨"ExtentShelfModel", "isDisk", "(I)Z"⟩ z_Md_isDisk := ⟨rfl, rfl, by decide +kernel, ⟨by decide, by decide⟩, by decide +kernel⟩
theorem pd_Md_isDisk : (parseMethodDescriptor (⟨"ExtentShelfModel", "isDisk", "(I)Z"⟩ : MethodName).desc).map (fun d => d.parameters.length) = some 1 := by decide +kernel
/-! ExtentShelfModel.mayWrite()Z -/
abbrev z_Md_mayWrite : jx_Z := ("ExtentShelfModel", "mayWrite", prog_11_method_4_code, 1, some .boolean, 0, 0)
theorem d_Md_mayWrite_0 : decode z_Md_mayWrite.2.2.1 0 = .ok (.aload_n 0, 1) := by decide +kernel
theorem d_Md_mayWrite_1 : decode z_Md_mayWrite.2.2.1 1 = .ok (.getfield 20, 3) := by decide +kernel
theorem d_Md_mayWrite_4 : decode z_Md_mayWrite.2.2.1 4 = .ok (.ifCond .ne 5, 3) := by decide +kernel
theorem d_Md_mayWrite_7 : decode z_Md_mayWrite.2.2.1 7 = .ok (.iconst 0, 1) := by decide +kernel
theorem d_Md_mayWrite_8 : decode z_Md_mayWrite.2.2.1 8 = .ok (.ireturn, 1) := by decide +kernel
theorem d_Md_mayWrite_9 : decode z_Md_mayWrite.2.2.1 9 = .ok (.aload_n 0, 1) := by decide +kernel
theorem d_Md_mayWrite_10 : decode z_Md_mayWrite.2.2.1 10 = .ok (.getfield 24, 3) := by decide +kernel
theorem d_Md_mayWrite_13 : decode z_Md_mayWrite.2.2.1 13 = .ok (.ifCond .ne 20, 3) := by decide +kernel
theorem d_Md_mayWrite_16 : decode z_Md_mayWrite.2.2.1 16 = .ok (.aload_n 0, 1) := by decide +kernel
theorem d_Md_mayWrite_17 : decode z_Md_mayWrite.2.2.1 17 = .ok (.iconst 0, 1) := by decide +kernel
theorem d_Md_mayWrite_18 : decode z_Md_mayWrite.2.2.1 18 = .ok (.putfield 20, 3) := by decide +kernel
theorem d_Md_mayWrite_21 : decode z_Md_mayWrite.2.2.1 21 = .ok (.aload_n 0, 1) := by decide +kernel
theorem d_Md_mayWrite_22 : decode z_Md_mayWrite.2.2.1 22 = .ok (.iconst (-1), 1) := by decide +kernel
theorem d_Md_mayWrite_23 : decode z_Md_mayWrite.2.2.1 23 = .ok (.putfield 24, 3) := by decide +kernel
theorem d_Md_mayWrite_26 : decode z_Md_mayWrite.2.2.1 26 = .ok (.aload_n 0, 1) := by decide +kernel
theorem d_Md_mayWrite_27 : decode z_Md_mayWrite.2.2.1 27 = .ok (.iconst (-1), 1) := by decide +kernel
theorem d_Md_mayWrite_28 : decode z_Md_mayWrite.2.2.1 28 = .ok (.putfield 34, 3) := by decide +kernel
theorem d_Md_mayWrite_31 : decode z_Md_mayWrite.2.2.1 31 = .ok (.iconst 0, 1) := by decide +kernel
theorem d_Md_mayWrite_32 : decode z_Md_mayWrite.2.2.1 32 = .ok (.ireturn, 1) := by decide +kernel
theorem d_Md_mayWrite_33 : decode z_Md_mayWrite.2.2.1 33 = .ok (.aload_n 0, 1) := by decide +kernel
theorem d_Md_mayWrite_34 : decode z_Md_mayWrite.2.2.1 34 = .ok (.aload_n 0, 1) := by decide +kernel
theorem d_Md_mayWrite_35 : decode z_Md_mayWrite.2.2.1 35 = .ok (.getfield 24, 3) := by decide +kernel
theorem d_Md_mayWrite_38 : decode z_Md_mayWrite.2.2.1 38 = .ok (.ifCond .le 12, 3) := by decide +kernel
theorem d_Md_mayWrite_41 : decode z_Md_mayWrite.2.2.1 41 = .ok (.aload_n 0, 1) := by decide +kernel
theorem d_Md_mayWrite_42 : decode z_Md_mayWrite.2.2.1 42 = .ok (.getfield 24, 3) := by decide +kernel
theorem d_Md_mayWrite_45 : decode z_Md_mayWrite.2.2.1 45 = .ok (.iconst 1, 1) := by decide +kernel
theorem d_Md_mayWrite_46 : decode z_Md_mayWrite.2.2.1 46 = .ok (.isub, 1) := by decide +kernel
theorem d_Md_mayWrite_47 : decode z_Md_mayWrite.2.2.1 47 = .ok (.goto 7, 3) := by decide +kernel
theorem d_Md_mayWrite_50 : decode z_Md_mayWrite.2.2.1 50 = .ok (.aload_n 0, 1) := by decide +kernel
theorem d_Md_mayWrite_51 : decode z_Md_mayWrite.2.2.1 51 = .ok (.getfield 24, 3) := by decide +kernel
theorem d_Md_mayWrite_54 : decode z_Md_mayWrite.2.2.1 54 = .ok (.putfield 24, 3) := by decide +kernel
theorem d_Md_mayWrite_57 : decode z_Md_mayWrite.2.2.1 57 = .ok (.iconst 1, 1) := by decide +kernel
theorem d_Md_mayWrite_58 : decode z_Md_mayWrite.2.2.1 58 = .ok (.ireturn, 1) := by decide +kernel
def bd_Md_mayWrite : jx_St := (sSeq (sIf (cNot (cCmp0 rNe (eGf [8] 4 (eA 0)))) (sRet 1 (eInt (nI 0))) sSkip) (sSeq (sIf (cCmp0 rEq (eGf [8] 5 (eA 0))) (sSeq (sPf [8] 4 1 (eA 0) (eInt (nI 0))) (sSeq (sPf [8] 5 0 (eA 0) (eInt (-1))) (sSeq (sPf [8] 8 0 (eA 0) (eInt (-1))) (sRet 1 (eInt (nI 0)))))) sSkip) (sSeq (sPf [8] 5 0 (eA 0) (eIte (cCmp0 rGt (eGf [8] 5 (eA 0))) (eBin oSub (eGf [8] 5 (eA 0)) (eInt (nI 1))) (eGf [8] 5 (eA 0)))) (sRet 1 (eInt (nI 1))))))
theorem m_Md_mayWrite : jx_Ts z_Md_mayWrite 0 bd_Md_mayWrite [] := by
  unfold bd_Md_mayWrite
  exact (t_seq (t_if1 (Fs := [9]) (E := [9]) (s_not (s_cmp0 (s_getf (s_aload_n d_Md_mayWrite_0 rfl) fi_Md_20 d_Md_mayWrite_1) (s_if_neT (tgt := 9) d_Md_mayWrite_4 (by decide))) (by decide)) (by decide) (t_sub (E := []) (E' := [9]) (t_ret .boolean (s_iconst d_Md_mayWrite_7 (by decide)) rfl (by decide) d_Md_mayWrite_8) (by decide)) (by decide)) (t_seq (t_if1 (Fs := [33]) (E := [33]) (s_cmp0 (s_getf (s_aload_n d_Md_mayWrite_9 rfl) fi_Md_24 d_Md_mayWrite_10) (s_if_neF (tgt := 33) d_Md_mayWrite_13 (by decide))) (by decide) (t_sub (E := []) (E' := [33]) (t_seq (t_pf (s_aload_n d_Md_mayWrite_16 rfl) (s_iconst d_Md_mayWrite_17 (by decide)) fi_Md_20 rfl (Or.inl rfl) d_Md_mayWrite_18) (t_seq (t_pf (s_aload_n d_Md_mayWrite_21 rfl) (s_iconst d_Md_mayWrite_22 (by decide)) fi_Md_24 rfl (Or.inl rfl) d_Md_mayWrite_23) (t_seq (t_pf (s_aload_n d_Md_mayWrite_26 rfl) (s_iconst d_Md_mayWrite_27 (by decide)) fi_Md_34 rfl (Or.inl rfl) d_Md_mayWrite_28) (t_ret .boolean (s_iconst d_Md_mayWrite_31 (by decide)) rfl (by decide) d_Md_mayWrite_32)))) (by decide)) (by decide)) (t_seq (t_pf (s_aload_n d_Md_mayWrite_33 rfl) (s_ite (q4 := 54) (s_cmp0 (s_getf (s_aload_n d_Md_mayWrite_34 rfl) fi_Md_24 d_Md_mayWrite_35) (s_if_leF (tgt := 50) d_Md_mayWrite_38 (by decide))) (s_bin (s_getf (s_aload_n d_Md_mayWrite_41 rfl) fi_Md_24 d_Md_mayWrite_42) (s_iconst d_Md_mayWrite_45 (by decide)) (s_isub d_Md_mayWrite_46)) d_Md_mayWrite_47 (by decide) (s_getf (s_aload_n d_Md_mayWrite_50 rfl) fi_Md_24 d_Md_mayWrite_51)) fi_Md_24 rfl (Or.inl rfl) d_Md_mayWrite_54) (t_ret .boolean (s_iconst d_Md_mayWrite_57 (by decide)) rfl (by decide) d_Md_mayWrite_58))))
def f_Md_mayWrite : jx_Mt := jx_fn 1 1 (bd_Md_mayWrite fun _ _ => none)
theorem me_Md_mayWrite : jx_Me 1 z_Md_mayWrite f_Md_mayWrite := jx_Me.ofT (by decide) m_Md_mayWrite
theorem mw_Md_mayWrite : jx_mw ⟨"ExtentShelfModel", "mayWrite", "()Z"⟩ z_Md_mayWrite := ⟨rfl, rfl, by decide +kernel, ⟨by decide, by decide⟩, by decide +kernel⟩
theorem pd_Md_mayWrite : (parseMethodDescriptor (⟨"ExtentShelfModel", "mayWrite", "()Z"⟩ : MethodName).desc).map (fun d => d.parameters.length) = some 0 := by decide +kernel
abbrev tb_Md_mayWrite : List (Nat × jx_Mt) := [(8, f_Md_mayWrite)]
theorem ve_Md_mayWrite {fr lo : Nat} (h1 : 1 ≤ fr) (h2 : 28 ≤ lo) : ∀ q ∈ tb_Md_mayWrite, jx_ve ⟨"ExtentShelfModel", "mayWrite", "()Z"⟩ 0 fr lo q.1 q.2 := tv_1 ⟨R_Model, F_Model, 13, ⟨"ExtentShelfModel", "mayWrite", "()Z"⟩, z_Md_mayWrite, rfl, by decide +kernel, mw_Md_mayWrite, by decide +kernel, me_Md_mayWrite, Nat.le_trans (by decide) h1, Nat.le_trans (by decide) h2⟩
theorem dc_Md_mayWrite : jx_dc ⟨"ExtentShelfModel", "mayWrite", "()Z"⟩ := ⟨⟨by decide, by decide⟩, Or.inr ⟨by decide +kernel, prog_11_method_4_code, 1, _, (by decide +kernel : Cond.code ⟨"ExtentShelfModel", "mayWrite", "()Z"⟩ prog_11_method_4_code 1 (some .boolean) ∈ jx_tbl)⟩, "ExtentShelfModel", ⟨"ExtentShelfModel", "mayWrite", "()Z"⟩, ⟨"ExtentShelfModel", "mayWrite", "()Z"⟩, by decide +kernel, rfl⟩
/-! ExtentShelfModel.put(III)V -/
abbrev z_Md_put : jx_Z := ("ExtentShelfModel", "put", prog_11_method_5_code, 4, none, 1, 28)
theorem d_Md_put_0 : decode z_Md_put.2.2.1 0 = .ok (.aload_n 0, 1) := by decide +kernel
theorem d_Md_put_1 : decode z_Md_put.2.2.1 1 = .ok (.invokevirtual 40, 3) := by decide +kernel
theorem d_Md_put_4 : decode z_Md_put.2.2.1 4 = .ok (.ifCond .eq 16, 3) := by decide +kernel
theorem d_Md_put_7 : decode z_Md_put.2.2.1 7 = .ok (.aload_n 0, 1) := by decide +kernel
theorem d_Md_put_8 : decode z_Md_put.2.2.1 8 = .ok (.getfield 17, 3) := by decide +kernel
theorem d_Md_put_11 : decode z_Md_put.2.2.1 11 = .ok (.iconst 4, 1) := by decide +kernel
theorem d_Md_put_12 : decode z_Md_put.2.2.1 12 = .ok (.iload_n 1, 1) := by decide +kernel
theorem d_Md_put_13 : decode z_Md_put.2.2.1 13 = .ok (.iconst 1, 1) := by decide +kernel
theorem d_Md_put_14 : decode z_Md_put.2.2.1 14 = .ok (.isub, 1) := by decide +kernel
theorem d_Md_put_15 : decode z_Md_put.2.2.1 15 = .ok (.imul, 1) := by decide +kernel
theorem d_Md_put_16 : decode z_Md_put.2.2.1 16 = .ok (.iload_n 2, 1) := by decide +kernel
theorem d_Md_put_17 : decode z_Md_put.2.2.1 17 = .ok (.iadd, 1) := by decide +kernel
theorem d_Md_put_18 : decode z_Md_put.2.2.1 18 = .ok (.iload_n 3, 1) := by decide +kernel
theorem d_Md_put_19 : decode z_Md_put.2.2.1 19 = .ok (.iastore, 1) := by decide +kernel
theorem d_Md_put_20 : decode z_Md_put.2.2.1 20 = .ok (.return_, 1) := by decide +kernel
def bd_Md_put : jx_St := (sSeq (sIf (cCmp0 rNe (eCl (jx_ev tb_Md_mayWrite) [(eA 0)])) (sSt 0 0 (eGf [8] 3 (eA 0)) (eBin oAdd (eBin oMul (eInt (nI 4)) (eBin oSub (eI 1) (eInt (nI 1)))) (eI 2)) (eI 3)) sSkip) sRetV)
theorem m_Md_put : jx_Ts z_Md_put 0 bd_Md_put [] := by
  unfold bd_Md_put
  exact (t_seq (t_if1 (Fs := [20]) (E := [20]) (s_cmp0 (s_cl (s_a1 (s_aload_n d_Md_put_0 rfl) s_a0) (s_ecv (ve_Md_mayWrite (by decide) (by decide)) dc_Md_mayWrite (by decide) lm_Md_40 pd_Md_mayWrite d_Md_put_1)) (s_if_eqF (tgt := 20) d_Md_put_4 (by decide))) (by decide) (t_sub (E := [20]) (E' := [20]) (t_st (s_getf (s_aload_n d_Md_put_7 rfl) fi_Md_17 d_Md_put_8) (s_bin (s_bin (s_iconst d_Md_put_11 (by decide)) (s_bin (s_iload_n d_Md_put_12 rfl) (s_iconst d_Md_put_13 (by decide)) (s_isub d_Md_put_14)) (s_imul d_Md_put_15)) (s_iload_n d_Md_put_16 rfl) (s_iadd d_Md_put_17)) (s_iload_n d_Md_put_18 rfl) (s_iast d_Md_put_19)) (by decide)) (by decide)) (t_retv rfl d_Md_put_20))
def f_Md_put : jx_Mt := jx_fn 4 4 (bd_Md_put fun _ _ => none)
theorem me_Md_put : jx_Me 4 z_Md_put f_Md_put := jx_Me.ofT (by decide) m_Md_put
theorem mw_Md_put : jx_mw ⟨"ExtentShelfModel", "put", "(III)V"⟩ z_Md_put := ⟨rfl, rfl, by decide +kernel, ⟨by decide, by decide⟩, by decide +kernel⟩
theorem pd_Md_put : (parseMethodDescriptor (⟨"ExtentShelfModel", "put", "(III)V"⟩ : MethodName).desc).map (fun d => d.parameters.length) = some 3 := by decide +kernel
/-! ExtentShelfModel.get(II)I -/
abbrev z_Md_get : jx_Z := ("ExtentShelfModel", "get", prog_11_method_6_code, 3, some .int, 0, 0)
theorem d_Md_get_0 : decode z_Md_get.2.2.1 0 = .ok (.aload_n 0, 1) := by decide +kernel
theorem d_Md_get_1 : decode z_Md_get.2.2.1 1 = .ok (.getfield 17, 3) := by decide +kernel
theorem d_Md_get_4 : decode z_Md_get.2.2.1 4 = .ok (.iconst 4, 1) := by decide +kernel
theorem d_Md_get_5 : decode z_Md_get.2.2.1 5 = .ok (.iload_n 1, 1) := by decide +kernel
theorem d_Md_get_6 : decode z_Md_get.2.2.1 6 = .ok (.iconst 1, 1) := by decide +kernel
theorem d_Md_get_7 : decode z_Md_get.2.2.1 7 = .ok (.isub, 1) := by decide +kernel
theorem d_Md_get_8 : decode z_Md_get.2.2.1 8 = .ok (.imul, 1) := by decide +kernel
theorem d_Md_get_9 : decode z_Md_get.2.2.1 9 = .ok (.iload_n 2, 1) := by decide +kernel
theorem d_Md_get_10 : decode z_Md_get.2.2.1 10 = .ok (.iadd, 1) := by decide +kernel
theorem d_Md_get_11 : decode z_Md_get.2.2.1 11 = .ok (.iaload, 1) := by decide +kernel
theorem d_Md_get_12 : decode z_Md_get.2.2.1 12 = .ok (.ireturn, 1) := by decide +kernel
def bd_Md_get : jx_St := (sRet 0 (eLd 0 (eGf [8] 3 (eA 0)) (eBin oAdd (eBin oMul (eInt (nI 4)) (eBin oSub (eI 1) (eInt (nI 1)))) (eI 2))))
theorem m_Md_get : jx_Ts z_Md_get 0 bd_Md_get [] := by
  unfold bd_Md_get
  exact (t_ret .int (s_load (s_getf (s_aload_n d_Md_get_0 rfl) fi_Md_17 d_Md_get_1) (s_bin (s_bin (s_iconst d_Md_get_4 (by decide)) (s_bin (s_iload_n d_Md_get_5 rfl) (s_iconst d_Md_get_6 (by decide)) (s_isub d_Md_get_7)) (s_imul d_Md_get_8)) (s_iload_n d_Md_get_9 rfl) (s_iadd d_Md_get_10)) (s_iald d_Md_get_11)) rfl (by decide) d_Md_get_12)
def f_Md_get : jx_Mt := jx_fn 3 3 (bd_Md_get fun _ _ => none)
theorem me_Md_get : jx_Me 3 z_Md_get f_Md_get := jx_Me.ofT (by decide) m_Md_get
theorem mw_Md_get : jx_mw ⟨"ExtentShelfModel", "get", "(II)I"⟩ z_Md_get := ⟨rfl, rfl, by decide +kernel, ⟨by decide, by decide⟩, by decide +kernel⟩
theorem pd_Md_get : (parseMethodDescriptor (⟨"ExtentShelfModel", "get", "(II)I"⟩ : MethodName).desc).map (fun d => d.parameters.length) = some 2 := by decide +kernel
/-! ExtentShelfModel.kindOf([II)I -/
abbrev z_Md_kindOf : jx_Z := ("ExtentShelfModel", "kindOf", prog_11_method_7_code, 2, some .int, 0, 0)
theorem d_Md_kindOf_0 : decode z_Md_kindOf.2.2.1 0 = .ok (.aload_n 0, 1) := by decide +kernel
theorem d_Md_kindOf_1 : decode z_Md_kindOf.2.2.1 1 = .ok (.iconst 5, 1) := by decide +kernel
theorem d_Md_kindOf_2 : decode z_Md_kindOf.2.2.1 2 = .ok (.iload_n 1, 1) := by decide +kernel
theorem d_Md_kindOf_3 : decode z_Md_kindOf.2.2.1 3 = .ok (.iadd, 1) := by decide +kernel
theorem d_Md_kindOf_4 : decode z_Md_kindOf.2.2.1 4 = .ok (.iaload, 1) := by decide +kernel
theorem d_Md_kindOf_5 : decode z_Md_kindOf.2.2.1 5 = .ok (.ifCond .ne 7, 3) := by decide +kernel
theorem d_Md_kindOf_8 : decode z_Md_kindOf.2.2.1 8 = .ok (.iconst (-1), 1) := by decide +kernel
theorem d_Md_kindOf_9 : decode z_Md_kindOf.2.2.1 9 = .ok (.goto 12, 3) := by decide +kernel
theorem d_Md_kindOf_12 : decode z_Md_kindOf.2.2.1 12 = .ok (.aload_n 0, 1) := by decide +kernel
theorem d_Md_kindOf_13 : decode z_Md_kindOf.2.2.1 13 = .ok (.iconst 5, 1) := by decide +kernel
theorem d_Md_kindOf_14 : decode z_Md_kindOf.2.2.1 14 = .ok (.iload_n 1, 1) := by decide +kernel
theorem d_Md_kindOf_15 : decode z_Md_kindOf.2.2.1 15 = .ok (.iadd, 1) := by decide +kernel
theorem d_Md_kindOf_16 : decode z_Md_kindOf.2.2.1 16 = .ok (.iaload, 1) := by decide +kernel
theorem d_Md_kindOf_17 : decode z_Md_kindOf.2.2.1 17 = .ok (.iconst 4, 1) := by decide +kernel
theorem d_Md_kindOf_18 : decode z_Md_kindOf.2.2.1 18 = .ok (.irem, 1) := by decide +kernel
theorem d_Md_kindOf_19 : decode z_Md_kindOf.2.2.1 19 = .ok (.iconst 1, 1) := by decide +kernel
theorem d_Md_kindOf_20 : decode z_Md_kindOf.2.2.1 20 = .ok (.isub, 1) := by decide +kernel
theorem d_Md_kindOf_21 : decode z_Md_kindOf.2.2.1 21 = .ok (.ireturn, 1) := by decide +kernel
def bd_Md_kindOf : jx_St := (sRet 0 (eIte (cCmp0 rEq (eLd 0 (eA 0) (eBin oAdd (eInt (nI 5)) (eI 1)))) (eInt (-1)) (eBin oSub (eBin oRem (eLd 0 (eA 0) (eBin oAdd (eInt (nI 5)) (eI 1))) (eInt (nI 4))) (eInt (nI 1)))))
theorem m_Md_kindOf : jx_Ts z_Md_kindOf 0 bd_Md_kindOf [] := by
  unfold bd_Md_kindOf
  exact (t_ret .int (s_ite (q4 := 21) (s_cmp0 (s_load (s_aload_n d_Md_kindOf_0 rfl) (s_bin (s_iconst d_Md_kindOf_1 (by decide)) (s_iload_n d_Md_kindOf_2 rfl) (s_iadd d_Md_kindOf_3)) (s_iald d_Md_kindOf_4)) (s_if_neF (tgt := 12) d_Md_kindOf_5 (by decide))) (s_iconst d_Md_kindOf_8 (by decide)) d_Md_kindOf_9 (by decide) (s_bin (s_bin (s_load (s_aload_n d_Md_kindOf_12 rfl) (s_bin (s_iconst d_Md_kindOf_13 (by decide)) (s_iload_n d_Md_kindOf_14 rfl) (s_iadd d_Md_kindOf_15)) (s_iald d_Md_kindOf_16)) (s_iconst d_Md_kindOf_17 (by decide)) (s_irem d_Md_kindOf_18)) (s_iconst d_Md_kindOf_19 (by decide)) (s_isub d_Md_kindOf_20))) rfl (by decide) d_Md_kindOf_21)
def f_Md_kindOf : jx_Mt := jx_fn 2 2 (bd_Md_kindOf fun _ _ => none)
theorem me_Md_kindOf : jx_Me 2 z_Md_kindOf f_Md_kindOf := jx_Me.ofT (by decide) m_Md_kindOf
theorem mw_Md_kindOf : jx_mw ⟨"ExtentShelfModel", "kindOf", "([II)I"⟩ z_Md_kindOf := ⟨rfl, rfl, by decide +kernel, ⟨by decide, by decide⟩, by decide +kernel⟩
theorem pd_Md_kindOf : (parseMethodDescriptor (⟨"ExtentShelfModel", "kindOf", "([II)I"⟩ : MethodName).desc).map (fun d => d.parameters.length) = some 2 := by decide +kernel
/-! ExtentShelfModel.columnsOf([II)I -/
abbrev z_Md_columnsOf : jx_Z := ("ExtentShelfModel", "columnsOf", prog_11_method_8_code, 2, some .int, 0, 0)
theorem d_Md_columnsOf_0 : decode z_Md_columnsOf.2.2.1 0 = .ok (.aload_n 0, 1) := by decide +kernel
theorem d_Md_columnsOf_1 : decode z_Md_columnsOf.2.2.1 1 = .ok (.iconst 5, 1) := by decide +kernel
theorem d_Md_columnsOf_2 : decode z_Md_columnsOf.2.2.1 2 = .ok (.iload_n 1, 1) := by decide +kernel
theorem d_Md_columnsOf_3 : decode z_Md_columnsOf.2.2.1 3 = .ok (.iadd, 1) := by decide +kernel
theorem d_Md_columnsOf_4 : decode z_Md_columnsOf.2.2.1 4 = .ok (.iaload, 1) := by decide +kernel
theorem d_Md_columnsOf_5 : decode z_Md_columnsOf.2.2.1 5 = .ok (.iconst 4, 1) := by decide +kernel
theorem d_Md_columnsOf_6 : decode z_Md_columnsOf.2.2.1 6 = .ok (.idiv, 1) := by decide +kernel
theorem d_Md_columnsOf_7 : decode z_Md_columnsOf.2.2.1 7 = .ok (.bipush 8, 2) := by decide +kernel
theorem d_Md_columnsOf_9 : decode z_Md_columnsOf.2.2.1 9 = .ok (.irem, 1) := by decide +kernel
theorem d_Md_columnsOf_10 : decode z_Md_columnsOf.2.2.1 10 = .ok (.ireturn, 1) := by decide +kernel
def bd_Md_columnsOf : jx_St := (sRet 0 (eBin oRem (eBin oDiv (eLd 0 (eA 0) (eBin oAdd (eInt (nI 5)) (eI 1))) (eInt (nI 4))) (eInt (nI 8))))
theorem m_Md_columnsOf : jx_Ts z_Md_columnsOf 0 bd_Md_columnsOf [] := by
  unfold bd_Md_columnsOf
  exact (t_ret .int (s_bin (s_bin (s_load (s_aload_n d_Md_columnsOf_0 rfl) (s_bin (s_iconst d_Md_columnsOf_1 (by decide)) (s_iload_n d_Md_columnsOf_2 rfl) (s_iadd d_Md_columnsOf_3)) (s_iald d_Md_columnsOf_4)) (s_iconst d_Md_columnsOf_5 (by decide)) (s_idiv d_Md_columnsOf_6)) (s_bipush d_Md_columnsOf_7 (by decide)) (s_irem d_Md_columnsOf_9)) rfl (by decide) d_Md_columnsOf_10)
def f_Md_columnsOf : jx_Mt := jx_fn 2 2 (bd_Md_columnsOf fun _ _ => none)
theorem me_Md_columnsOf : jx_Me 2 z_Md_columnsOf f_Md_columnsOf := jx_Me.ofT (by decide) m_Md_columnsOf
theorem mw_Md_columnsOf : jx_mw ⟨"ExtentShelfModel", "columnsOf", "([II)I"⟩ z_Md_columnsOf := ⟨rfl, rfl, by decide +kernel, ⟨by decide, by decide⟩, by decide +kernel⟩
theorem pd_Md_columnsOf : (parseMethodDescriptor (⟨"ExtentShelfModel", "columnsOf", "([II)I"⟩ : MethodName).desc).map (fun d => d.parameters.length) = some 2 := by decide +kernel
/-! ExtentShelfModel.elementsOf([II)I -/
abbrev z_Md_elementsOf : jx_Z := ("ExtentShelfModel", "elementsOf", prog_11_method_9_code, 2, some .int, 0, 0)
theorem d_Md_elementsOf_0 : decode z_Md_elementsOf.2.2.1 0 = .ok (.aload_n 0, 1) := by decide +kernel
theorem d_Md_elementsOf_1 : decode z_Md_elementsOf.2.2.1 1 = .ok (.iconst 5, 1) := by decide +kernel
theorem d_Md_elementsOf_2 : decode z_Md_elementsOf.2.2.1 2 = .ok (.iload_n 1, 1) := by decide +kernel
theorem d_Md_elementsOf_3 : decode z_Md_elementsOf.2.2.1 3 = .ok (.iadd, 1) := by decide +kernel
theorem d_Md_elementsOf_4 : decode z_Md_elementsOf.2.2.1 4 = .ok (.iaload, 1) := by decide +kernel
theorem d_Md_elementsOf_5 : decode z_Md_elementsOf.2.2.1 5 = .ok (.bipush 32, 2) := by decide +kernel
theorem d_Md_elementsOf_7 : decode z_Md_elementsOf.2.2.1 7 = .ok (.idiv, 1) := by decide +kernel
theorem d_Md_elementsOf_8 : decode z_Md_elementsOf.2.2.1 8 = .ok (.ireturn, 1) := by decide +kernel
def bd_Md_elementsOf : jx_St := (sRet 0 (eBin oDiv (eLd 0 (eA 0) (eBin oAdd (eInt (nI 5)) (eI 1))) (eInt (nI 32))))
theorem m_Md_elementsOf : jx_Ts z_Md_elementsOf 0 bd_Md_elementsOf [] := by
  unfold bd_Md_elementsOf
  exact (t_ret .int (s_bin (s_load (s_aload_n d_Md_elementsOf_0 rfl) (s_bin (s_iconst d_Md_elementsOf_1 (by decide)) (s_iload_n d_Md_elementsOf_2 rfl) (s_iadd d_Md_elementsOf_3)) (s_iald d_Md_elementsOf_4)) (s_bipush d_Md_elementsOf_5 (by decide)) (s_idiv d_Md_elementsOf_7)) rfl (by decide) d_Md_elementsOf_8)
def f_Md_elementsOf : jx_Mt := jx_fn 2 2 (bd_Md_elementsOf fun _ _ => none)
theorem me_Md_elementsOf : jx_Me 2 z_Md_elementsOf f_Md_elementsOf := jx_Me.ofT (by decide) m_Md_elementsOf
theorem mw_Md_elementsOf : jx_mw ⟨"ExtentShelfModel", "elementsOf", "([II)I"⟩ z_Md_elementsOf := ⟨rfl, rfl, by decide +kernel, ⟨by decide, by decide⟩, by decide +kernel⟩
theorem pd_Md_elementsOf : (parseMethodDescriptor (⟨"ExtentShelfModel", "elementsOf", "([II)I"⟩ : MethodName).desc).map (fun d => d.parameters.length) = some 2 := by decide +kernel
/-! ExtentShelfModel.isVolume(I)Z -/
abbrev z_Md_isVolume : jx_Z := ("ExtentShelfModel", "isVolume", prog_11_method_10_code, 2, some .boolean, 0, 0)
theorem d_Md_isVolume_0 : decode z_Md_isVolume.2.2.1 0 = .ok (.iload_n 1, 1) := by decide +kernel
theorem d_Md_isVolume_1 : decode z_Md_isVolume.2.2.1 1 = .ok (.ifCond .lt 23, 3) := by decide +kernel
theorem d_Md_isVolume_4 : decode z_Md_isVolume.2.2.1 4 = .ok (.iload_n 1, 1) := by decide +kernel
theorem d_Md_isVolume_5 : decode z_Md_isVolume.2.2.1 5 = .ok (.iconst 4, 1) := by decide +kernel
theorem d_Md_isVolume_6 : decode z_Md_isVolume.2.2.1 6 = .ok (.if_icmp .ge 18, 3) := by decide +kernel
theorem d_Md_isVolume_9 : decode z_Md_isVolume.2.2.1 9 = .ok (.aload_n 0, 1) := by decide +kernel
theorem d_Md_isVolume_10 : decode z_Md_isVolume.2.2.1 10 = .ok (.getfield 28, 3) := by decide +kernel
theorem d_Md_isVolume_13 : decode z_Md_isVolume.2.2.1 13 = .ok (.iconst 5, 1) := by decide +kernel
theorem d_Md_isVolume_14 : decode z_Md_isVolume.2.2.1 14 = .ok (.iload_n 1, 1) := by decide +kernel
theorem d_Md_isVolume_15 : decode z_Md_isVolume.2.2.1 15 = .ok (.iadd, 1) := by decide +kernel
theorem d_Md_isVolume_16 : decode z_Md_isVolume.2.2.1 16 = .ok (.iaload, 1) := by decide +kernel
theorem d_Md_isVolume_17 : decode z_Md_isVolume.2.2.1 17 = .ok (.ifCond .eq 7, 3) := by decide +kernel
theorem d_Md_isVolume_20 : decode z_Md_isVolume.2.2.1 20 = .ok (.iconst 1, 1) := by decide +kernel
theorem d_Md_isVolume_21 : decode z_Md_isVolume.2.2.1 21 = .ok (.goto 4, 3) := by decide +kernel
theorem d_Md_isVolume_24 : decode z_Md_isVolume.2.2.1 24 = .ok (.iconst 0, 1) := by decide +kernel
theorem d_Md_isVolume_25 : decode z_Md_isVolume.2.2.1 25 = .ok (.ireturn, 1) := by decide +kernel
def bd_Md_isVolume : jx_St := (sRet 1 (eIte (cAnd (cAnd (cCmp0 rGe (eI 1)) (cCmp rLt (eI 1) (eInt (nI 4)))) (cCmp0 rNe (eLd 0 (eGf [8] 6 (eA 0)) (eBin oAdd (eInt (nI 5)) (eI 1))))) (eInt (nI 1)) (eInt (nI 0))))
theorem m_Md_isVolume : jx_Ts z_Md_isVolume 0 bd_Md_isVolume [] := by
  unfold bd_Md_isVolume
  exact (t_ret .boolean (s_ite (q4 := 25) (s_andg (s_andg (s_cmp0 (s_iload_n d_Md_isVolume_0 rfl) (s_if_ltF (tgt := 24) d_Md_isVolume_1 (by decide))) (by decide) (al_1 (s_cmp (s_iload_n d_Md_isVolume_4 rfl) (s_iconst d_Md_isVolume_5 (by decide)) (s_icmp_geF (tgt := 24) d_Md_isVolume_6 (by decide))))) (by decide) (al_1 (s_cmp0 (s_load (s_getf (s_aload_n d_Md_isVolume_9 rfl) fi_Md_28 d_Md_isVolume_10) (s_bin (s_iconst d_Md_isVolume_13 (by decide)) (s_iload_n d_Md_isVolume_14 rfl) (s_iadd d_Md_isVolume_15)) (s_iald d_Md_isVolume_16)) (s_if_eqF (tgt := 24) d_Md_isVolume_17 (by decide))))) (s_iconst d_Md_isVolume_20 (by decide)) d_Md_isVolume_21 (by decide) (s_iconst d_Md_isVolume_24 (by decide))) rfl (by decide) d_Md_isVolume_25)
def f_Md_isVolume : jx_Mt := jx_fn 2 2 (bd_Md_isVolume fun _ _ => none)
theorem me_Md_isVolume : jx_Me 2 z_Md_isVolume f_Md_isVolume := jx_Me.ofT (by decide) m_Md_isVolume
theorem mw_Md_isVolume : jx_mw ⟨"ExtentShelfModel", "isVolume", "(I)Z"⟩ z_Md_isVolume := ⟨rfl, rfl, by decide +kernel, ⟨by decide, by decide⟩, by decide +kernel⟩
theorem pd_Md_isVolume : (parseMethodDescriptor (⟨"ExtentShelfModel", "isVolume", "(I)Z"⟩ : MethodName).desc).map (fun d => d.parameters.length) = some 1 := by decide +kernel
/-! ExtentShelfModel.holds([II)Z -/
abbrev z_Md_holds : jx_Z := ("ExtentShelfModel", "holds", prog_11_method_11_code, 4, some .boolean, 0, 0)
theorem d_Md_holds_0 : decode z_Md_holds.2.2.1 0 = .ok (.iconst 0, 1) := by decide +kernel
theorem d_Md_holds_1 : decode z_Md_holds.2.2.1 1 = .ok (.istore_n 2, 1) := by decide +kernel
theorem d_Md_holds_2 : decode z_Md_holds.2.2.1 2 = .ok (.bipush 9, 2) := by decide +kernel
theorem d_Md_holds_4 : decode z_Md_holds.2.2.1 4 = .ok (.istore_n 3, 1) := by decide +kernel
theorem d_Md_holds_5 : decode z_Md_holds.2.2.1 5 = .ok (.iload_n 3, 1) := by decide +kernel
theorem d_Md_holds_6 : decode z_Md_holds.2.2.1 6 = .ok (.bipush 49, 2) := by decide +kernel
theorem d_Md_holds_8 : decode z_Md_holds.2.2.1 8 = .ok (.if_icmp .ge 26, 3) := by decide +kernel
theorem d_Md_holds_11 : decode z_Md_holds.2.2.1 11 = .ok (.iload_n 2, 1) := by decide +kernel
theorem d_Md_holds_12 : decode z_Md_holds.2.2.1 12 = .ok (.ifCond .ne 10, 3) := by decide +kernel
theorem d_Md_holds_15 : decode z_Md_holds.2.2.1 15 = .ok (.aload_n 0, 1) := by decide +kernel
theorem d_Md_holds_16 : decode z_Md_holds.2.2.1 16 = .ok (.iload_n 3, 1) := by decide +kernel
theorem d_Md_holds_17 : decode z_Md_holds.2.2.1 17 = .ok (.iaload, 1) := by decide +kernel
theorem d_Md_holds_18 : decode z_Md_holds.2.2.1 18 = .ok (.iload_n 1, 1) := by decide +kernel
theorem d_Md_holds_19 : decode z_Md_holds.2.2.1 19 = .ok (.if_icmp .ne 7, 3) := by decide +kernel
theorem d_Md_holds_22 : decode z_Md_holds.2.2.1 22 = .ok (.iconst 1, 1) := by decide +kernel
theorem d_Md_holds_23 : decode z_Md_holds.2.2.1 23 = .ok (.goto 4, 3) := by decide +kernel
theorem d_Md_holds_26 : decode z_Md_holds.2.2.1 26 = .ok (.iconst 0, 1) := by decide +kernel
theorem d_Md_holds_27 : decode z_Md_holds.2.2.1 27 = .ok (.istore_n 2, 1) := by decide +kernel
theorem d_Md_holds_28 : decode z_Md_holds.2.2.1 28 = .ok (.iinc 3 1, 3) := by decide +kernel
theorem d_Md_holds_31 : decode z_Md_holds.2.2.1 31 = .ok (.goto (-26), 3) := by decide +kernel
theorem d_Md_holds_34 : decode z_Md_holds.2.2.1 34 = .ok (.iload_n 2, 1) := by decide +kernel
theorem d_Md_holds_35 : decode z_Md_holds.2.2.1 35 = .ok (.ireturn, 1) := by decide +kernel
def lc_Md_holds_0 : jx_Cx := (cCmp rLt (eI 3) (eInt (nI 49)))
def lb_Md_holds_0 : jx_St := (sSeq (sAsg 0 2 (eIte (cOr (cCmp0 rNe (eI 2)) (cCmp rEq (eLd 0 (eA 0) (eI 3)) (eI 1))) (eInt (nI 1)) (eInt (nI 0)))) (sInc 3 (nI 1)))
theorem ml_Md_holds_0 : jx_Ts z_Md_holds 5 (sWh 64 lc_Md_holds_0 lb_Md_holds_0) [34] := by
  unfold lc_Md_holds_0 lb_Md_holds_0
  exact t_wh (EA := [31]) (Fs := [34]) (E := [34]) 64 (s_cmp (s_iload_n d_Md_holds_5 rfl) (s_bipush d_Md_holds_6 (by decide)) (s_icmp_geF (tgt := 34) d_Md_holds_8 (by decide))) (by decide) (t_seq (t_asg (s_ite (q4 := 27) (s_org (s_cmp0 (s_iload_n d_Md_holds_11 rfl) (s_if_neT (tgt := 22) d_Md_holds_12 (by decide))) (by decide) (al_1 (s_cmp (s_load (s_aload_n d_Md_holds_15 rfl) (s_iload_n d_Md_holds_16 rfl) (s_iald d_Md_holds_17)) (s_iload_n d_Md_holds_18 rfl) (s_icmp_neF (tgt := 26) d_Md_holds_19 (by decide))))) (s_iconst d_Md_holds_22 (by decide)) d_Md_holds_23 (by decide) (s_iconst d_Md_holds_26 (by decide))) (fun v k h => b_istore_n d_Md_holds_27 rfl (by decide) h)) (t_iinc d_Md_holds_28 (by decide) (by decide))) (al_1 (Or.inr ⟨-26, d_Md_holds_31, by decide⟩)) (by decide)
def bd_Md_holds : jx_St := (sSeq (sAsg 0 2 (eInt (nI 0))) (sSeq (sSeq (sAsg 0 3 (eInt (nI 9))) (sWh 64 lc_Md_holds_0 lb_Md_holds_0)) (sRet 1 (eI 2))))
theorem m_Md_holds : jx_Ts z_Md_holds 0 bd_Md_holds [] := by
  unfold bd_Md_holds
  exact (t_seq (t_asg (s_iconst d_Md_holds_0 (by decide)) (fun v k h => b_istore_n d_Md_holds_1 rfl (by decide) h)) (t_seq (t_seq (t_asg (s_bipush d_Md_holds_2 (by decide)) (fun v k h => b_istore_n d_Md_holds_4 rfl (by decide) h)) ml_Md_holds_0) (t_ret .boolean (s_iload_n d_Md_holds_34 rfl) rfl (by decide) d_Md_holds_35)))
def f_Md_holds : jx_Mt := jx_fn 2 4 (bd_Md_holds fun _ _ => none)
theorem me_Md_holds : jx_Me 2 z_Md_holds f_Md_holds := jx_Me.ofT (by decide) m_Md_holds
theorem mw_Md_holds : jx_mw ⟨"ExtentShelfModel", "holds", "([II)Z"⟩ z_Md_holds := ⟨rfl, rfl, by decide +kernel, ⟨by decide, by decide⟩, by decide +kernel⟩
theorem pd_Md_holds : (parseMethodDescriptor (⟨"ExtentShelfModel", "holds", "([II)Z"⟩ : MethodName).desc).map (fun d => d.parameters.length) = some 2 := by decide +kernel
/-! ExtentShelfModel.legsOn(I)I -/
abbrev z_Md_legsOn : jx_Z := ("ExtentShelfModel", "legsOn", prog_11_method_12_code, 4, some .int, 0, 0)
theorem d_Md_legsOn_0 : decode z_Md_legsOn.2.2.1 0 = .ok (.iconst 0, 1) := by decide +kernel
theorem d_Md_legsOn_1 : decode z_Md_legsOn.2.2.1 1 = .ok (.istore_n 2, 1) := by decide +kernel
theorem d_Md_legsOn_2 : decode z_Md_legsOn.2.2.1 2 = .ok (.bipush 9, 2) := by decide +kernel
theorem d_Md_legsOn_4 : decode z_Md_legsOn.2.2.1 4 = .ok (.istore_n 3, 1) := by decide +kernel
theorem d_Md_legsOn_5 : decode z_Md_legsOn.2.2.1 5 = .ok (.iload_n 3, 1) := by decide +kernel
theorem d_Md_legsOn_6 : decode z_Md_legsOn.2.2.1 6 = .ok (.bipush 49, 2) := by decide +kernel
theorem d_Md_legsOn_8 : decode z_Md_legsOn.2.2.1 8 = .ok (.if_icmp .ge 41, 3) := by decide +kernel
theorem d_Md_legsOn_11 : decode z_Md_legsOn.2.2.1 11 = .ok (.aload_n 0, 1) := by decide +kernel
theorem d_Md_legsOn_12 : decode z_Md_legsOn.2.2.1 12 = .ok (.getfield 28, 3) := by decide +kernel
theorem d_Md_legsOn_15 : decode z_Md_legsOn.2.2.1 15 = .ok (.iload_n 3, 1) := by decide +kernel
theorem d_Md_legsOn_16 : decode z_Md_legsOn.2.2.1 16 = .ok (.iaload, 1) := by decide +kernel
theorem d_Md_legsOn_17 : decode z_Md_legsOn.2.2.1 17 = .ok (.ifCond .le 24, 3) := by decide +kernel
theorem d_Md_legsOn_20 : decode z_Md_legsOn.2.2.1 20 = .ok (.aload_n 0, 1) := by decide +kernel
theorem d_Md_legsOn_21 : decode z_Md_legsOn.2.2.1 21 = .ok (.getfield 28, 3) := by decide +kernel
theorem d_Md_legsOn_24 : decode z_Md_legsOn.2.2.1 24 = .ok (.iload_n 3, 1) := by decide +kernel
theorem d_Md_legsOn_25 : decode z_Md_legsOn.2.2.1 25 = .ok (.iaload, 1) := by decide +kernel
theorem d_Md_legsOn_26 : decode z_Md_legsOn.2.2.1 26 = .ok (.iconst 1, 1) := by decide +kernel
theorem d_Md_legsOn_27 : decode z_Md_legsOn.2.2.1 27 = .ok (.isub, 1) := by decide +kernel
theorem d_Md_legsOn_28 : decode z_Md_legsOn.2.2.1 28 = .ok (.bipush 8, 2) := by decide +kernel
theorem d_Md_legsOn_30 : decode z_Md_legsOn.2.2.1 30 = .ok (.idiv, 1) := by decide +kernel
theorem d_Md_legsOn_31 : decode z_Md_legsOn.2.2.1 31 = .ok (.iload_n 1, 1) := by decide +kernel
theorem d_Md_legsOn_32 : decode z_Md_legsOn.2.2.1 32 = .ok (.if_icmp .ne 9, 3) := by decide +kernel
theorem d_Md_legsOn_35 : decode z_Md_legsOn.2.2.1 35 = .ok (.iload_n 2, 1) := by decide +kernel
theorem d_Md_legsOn_36 : decode z_Md_legsOn.2.2.1 36 = .ok (.iconst 1, 1) := by decide +kernel
theorem d_Md_legsOn_37 : decode z_Md_legsOn.2.2.1 37 = .ok (.iadd, 1) := by decide +kernel
theorem d_Md_legsOn_38 : decode z_Md_legsOn.2.2.1 38 = .ok (.goto 4, 3) := by decide +kernel
theorem d_Md_legsOn_41 : decode z_Md_legsOn.2.2.1 41 = .ok (.iload_n 2, 1) := by decide +kernel
theorem d_Md_legsOn_42 : decode z_Md_legsOn.2.2.1 42 = .ok (.istore_n 2, 1) := by decide +kernel
theorem d_Md_legsOn_43 : decode z_Md_legsOn.2.2.1 43 = .ok (.iinc 3 1, 3) := by decide +kernel
theorem d_Md_legsOn_46 : decode z_Md_legsOn.2.2.1 46 = .ok (.goto (-41), 3) := by decide +kernel
theorem d_Md_legsOn_49 : decode z_Md_legsOn.2.2.1 49 = .ok (.iload_n 2, 1) := by decide +kernel
theorem d_Md_legsOn_50 : decode z_Md_legsOn.2.2.1 50 = .ok (.ireturn, 1) := by decide +kernel
def lc_Md_legsOn_0 : jx_Cx := (cCmp rLt (eI 3) (eInt (nI 49)))
def lb_Md_legsOn_0 : jx_St := (sSeq (sAsg 0 2 (eIte (cAnd (cCmp0 rGt (eLd 0 (eGf [8] 6 (eA 0)) (eI 3))) (cCmp rEq (eBin oDiv (eBin oSub (eLd 0 (eGf [8] 6 (eA 0)) (eI 3)) (eInt (nI 1))) (eInt (nI 8))) (eI 1))) (eBin oAdd (eI 2) (eInt (nI 1))) (eI 2))) (sInc 3 (nI 1)))
theorem ml_Md_legsOn_0 : jx_Ts z_Md_legsOn 5 (sWh 64 lc_Md_legsOn_0 lb_Md_legsOn_0) [49] := by
  unfold lc_Md_legsOn_0 lb_Md_legsOn_0
  exact t_wh (EA := [46]) (Fs := [49]) (E := [49]) 64 (s_cmp (s_iload_n d_Md_legsOn_5 rfl) (s_bipush d_Md_legsOn_6 (by decide)) (s_icmp_geF (tgt := 49) d_Md_legsOn_8 (by decide))) (by decide) (t_seq (t_asg (s_ite (q4 := 42) (s_andg (s_cmp0 (s_load (s_getf (s_aload_n d_Md_legsOn_11 rfl) fi_Md_28 d_Md_legsOn_12) (s_iload_n d_Md_legsOn_15 rfl) (s_iald d_Md_legsOn_16)) (s_if_leF (tgt := 41) d_Md_legsOn_17 (by decide))) (by decide) (al_1 (s_cmp (s_bin (s_bin (s_load (s_getf (s_aload_n d_Md_legsOn_20 rfl) fi_Md_28 d_Md_legsOn_21) (s_iload_n d_Md_legsOn_24 rfl) (s_iald d_Md_legsOn_25)) (s_iconst d_Md_legsOn_26 (by decide)) (s_isub d_Md_legsOn_27)) (s_bipush d_Md_legsOn_28 (by decide)) (s_idiv d_Md_legsOn_30)) (s_iload_n d_Md_legsOn_31 rfl) (s_icmp_neF (tgt := 41) d_Md_legsOn_32 (by decide))))) (s_bin (s_iload_n d_Md_legsOn_35 rfl) (s_iconst d_Md_legsOn_36 (by decide)) (s_iadd d_Md_legsOn_37)) d_Md_legsOn_38 (by decide) (s_iload_n d_Md_legsOn_41 rfl)) (fun v k h => b_istore_n d_Md_legsOn_42 rfl (by decide) h)) (t_iinc d_Md_legsOn_43 (by decide) (by decide))) (al_1 (Or.inr ⟨-41, d_Md_legsOn_46, by decide⟩)) (by decide)
def bd_Md_legsOn : jx_St := (sSeq (sAsg 0 2 (eInt (nI 0))) (sSeq (sSeq (sAsg 0 3 (eInt (nI 9))) (sWh 64 lc_Md_legsOn_0 lb_Md_legsOn_0)) (sRet 0 (eI 2))))
theorem m_Md_legsOn : jx_Ts z_Md_legsOn 0 bd_Md_legsOn [] := by
  unfold bd_Md_legsOn
  exact (t_seq (t_asg (s_iconst d_Md_legsOn_0 (by decide)) (fun v k h => b_istore_n d_Md_legsOn_1 rfl (by decide) h)) (t_seq (t_seq (t_asg (s_bipush d_Md_legsOn_2 (by decide)) (fun v k h => b_istore_n d_Md_legsOn_4 rfl (by decide) h)) ml_Md_legsOn_0) (t_ret .int (s_iload_n d_Md_legsOn_49 rfl) rfl (by decide) d_Md_legsOn_50)))
def f_Md_legsOn : jx_Mt := jx_fn 2 4 (bd_Md_legsOn fun _ _ => none)
theorem me_Md_legsOn : jx_Me 2 z_Md_legsOn f_Md_legsOn := jx_Me.ofT (by decide) m_Md_legsOn
theorem mw_Md_legsOn : jx_mw ⟨"ExtentShelfModel", "legsOn", "(I)I"⟩ z_Md_legsOn := ⟨rfl, rfl, by decide +kernel, ⟨by decide, by decide⟩, by decide +kernel⟩
theorem pd_Md_legsOn : (parseMethodDescriptor (⟨"ExtentShelfModel", "legsOn", "(I)I"⟩ : MethodName).desc).map (fun d => d.parameters.length) = some 1 := by decide +kernel
/-! ExtentShelfModel.isOneAbsent()Z -/
abbrev z_Md_isOneAbsent : jx_Z := ("ExtentShelfModel", "isOneAbsent", prog_11_method_13_code, 3, some .boolean, 0, 0)
theorem d_Md_isOneAbsent_0 : decode z_Md_isOneAbsent.2.2.1 0 = .ok (.iconst 0, 1) := by decide +kernel
theorem d_Md_isOneAbsent_1 : decode z_Md_isOneAbsent.2.2.1 1 = .ok (.istore_n 1, 1) := by decide +kernel
theorem d_Md_isOneAbsent_2 : decode z_Md_isOneAbsent.2.2.1 2 = .ok (.iconst 0, 1) := by decide +kernel
theorem d_Md_isOneAbsent_3 : decode z_Md_isOneAbsent.2.2.1 3 = .ok (.istore_n 2, 1) := by decide +kernel
theorem d_Md_isOneAbsent_4 : decode z_Md_isOneAbsent.2.2.1 4 = .ok (.iload_n 2, 1) := by decide +kernel
theorem d_Md_isOneAbsent_5 : decode z_Md_isOneAbsent.2.2.1 5 = .ok (.iconst 4, 1) := by decide +kernel
theorem d_Md_isOneAbsent_6 : decode z_Md_isOneAbsent.2.2.1 6 = .ok (.if_icmp .ge 39, 3) := by decide +kernel
theorem d_Md_isOneAbsent_9 : decode z_Md_isOneAbsent.2.2.1 9 = .ok (.iload_n 1, 1) := by decide +kernel
theorem d_Md_isOneAbsent_10 : decode z_Md_isOneAbsent.2.2.1 10 = .ok (.ifCond .ne 23, 3) := by decide +kernel
theorem d_Md_isOneAbsent_13 : decode z_Md_isOneAbsent.2.2.1 13 = .ok (.aload_n 0, 1) := by decide +kernel
theorem d_Md_isOneAbsent_14 : decode z_Md_isOneAbsent.2.2.1 14 = .ok (.getfield 28, 3) := by decide +kernel
theorem d_Md_isOneAbsent_17 : decode z_Md_isOneAbsent.2.2.1 17 = .ok (.iconst 1, 1) := by decide +kernel
theorem d_Md_isOneAbsent_18 : decode z_Md_isOneAbsent.2.2.1 18 = .ok (.iload_n 2, 1) := by decide +kernel
theorem d_Md_isOneAbsent_19 : decode z_Md_isOneAbsent.2.2.1 19 = .ok (.iadd, 1) := by decide +kernel
theorem d_Md_isOneAbsent_20 : decode z_Md_isOneAbsent.2.2.1 20 = .ok (.iaload, 1) := by decide +kernel
theorem d_Md_isOneAbsent_21 : decode z_Md_isOneAbsent.2.2.1 21 = .ok (.ifCond .le 16, 3) := by decide +kernel
theorem d_Md_isOneAbsent_24 : decode z_Md_isOneAbsent.2.2.1 24 = .ok (.aload_n 0, 1) := by decide +kernel
theorem d_Md_isOneAbsent_25 : decode z_Md_isOneAbsent.2.2.1 25 = .ok (.getfield 7, 3) := by decide +kernel
theorem d_Md_isOneAbsent_28 : decode z_Md_isOneAbsent.2.2.1 28 = .ok (.iload_n 2, 1) := by decide +kernel
theorem d_Md_isOneAbsent_29 : decode z_Md_isOneAbsent.2.2.1 29 = .ok (.baload, 1) := by decide +kernel
theorem d_Md_isOneAbsent_30 : decode z_Md_isOneAbsent.2.2.1 30 = .ok (.ifCond .ne 7, 3) := by decide +kernel
theorem d_Md_isOneAbsent_33 : decode z_Md_isOneAbsent.2.2.1 33 = .ok (.iconst 1, 1) := by decide +kernel
theorem d_Md_isOneAbsent_34 : decode z_Md_isOneAbsent.2.2.1 34 = .ok (.goto 4, 3) := by decide +kernel
theorem d_Md_isOneAbsent_37 : decode z_Md_isOneAbsent.2.2.1 37 = .ok (.iconst 0, 1) := by decide +kernel
theorem d_Md_isOneAbsent_38 : decode z_Md_isOneAbsent.2.2.1 38 = .ok (.istore_n 1, 1) := by decide +kernel
theorem d_Md_isOneAbsent_39 : decode z_Md_isOneAbsent.2.2.1 39 = .ok (.iinc 2 1, 3) := by decide +kernel
theorem d_Md_isOneAbsent_42 : decode z_Md_isOneAbsent.2.2.1 42 = .ok (.goto (-38), 3) := by decide +kernel
theorem d_Md_isOneAbsent_45 : decode z_Md_isOneAbsent.2.2.1 45 = .ok (.iload_n 1, 1) := by decide +kernel
theorem d_Md_isOneAbsent_46 : decode z_Md_isOneAbsent.2.2.1 46 = .ok (.ireturn, 1) := by decide +kernel
def lc_Md_isOneAbsent_0 : jx_Cx := (cCmp rLt (eI 2) (eInt (nI 4)))
def lb_Md_isOneAbsent_0 : jx_St := (sSeq (sAsg 0 1 (eIte (cOr (cCmp0 rNe (eI 1)) (cAnd (cCmp0 rGt (eLd 0 (eGf [8] 6 (eA 0)) (eBin oAdd (eInt (nI 1)) (eI 2)))) (cNot (cCmp0 rNe (eLd 2 (eGf [8] 1 (eA 0)) (eI 2)))))) (eInt (nI 1)) (eInt (nI 0)))) (sInc 2 (nI 1)))
theorem ml_Md_isOneAbsent_0 : jx_Ts z_Md_isOneAbsent 4 (sWh 64 lc_Md_isOneAbsent_0 lb_Md_isOneAbsent_0) [45] := by
  unfold lc_Md_isOneAbsent_0 lb_Md_isOneAbsent_0
  exact t_wh (EA := [42]) (Fs := [45]) (E := [45]) 64 (s_cmp (s_iload_n d_Md_isOneAbsent_4 rfl) (s_iconst d_Md_isOneAbsent_5 (by decide)) (s_icmp_geF (tgt := 45) d_Md_isOneAbsent_6 (by decide))) (by decide) (t_seq (t_asg (s_ite (q4 := 38) (s_org (s_cmp0 (s_iload_n d_Md_isOneAbsent_9 rfl) (s_if_neT (tgt := 33) d_Md_isOneAbsent_10 (by decide))) (by decide) (al_1 (s_andg (s_cmp0 (s_load (s_getf (s_aload_n d_Md_isOneAbsent_13 rfl) fi_Md_28 d_Md_isOneAbsent_14) (s_bin (s_iconst d_Md_isOneAbsent_17 (by decide)) (s_iload_n d_Md_isOneAbsent_18 rfl) (s_iadd d_Md_isOneAbsent_19)) (s_iald d_Md_isOneAbsent_20)) (s_if_leF (tgt := 37) d_Md_isOneAbsent_21 (by decide))) (by decide) (al_1 (s_not (s_cmp0 (s_load (s_getf (s_aload_n d_Md_isOneAbsent_24 rfl) fi_Md_7 d_Md_isOneAbsent_25) (s_iload_n d_Md_isOneAbsent_28 rfl) (s_zald d_Md_isOneAbsent_29)) (s_if_neT (tgt := 37) d_Md_isOneAbsent_30 (by decide))) (by decide)))))) (s_iconst d_Md_isOneAbsent_33 (by decide)) d_Md_isOneAbsent_34 (by decide) (s_iconst d_Md_isOneAbsent_37 (by decide))) (fun v k h => b_istore_n d_Md_isOneAbsent_38 rfl (by decide) h)) (t_iinc d_Md_isOneAbsent_39 (by decide) (by decide))) (al_1 (Or.inr ⟨-38, d_Md_isOneAbsent_42, by decide⟩)) (by decide)
def bd_Md_isOneAbsent : jx_St := (sSeq (sAsg 0 1 (eInt (nI 0))) (sSeq (sSeq (sAsg 0 2 (eInt (nI 0))) (sWh 64 lc_Md_isOneAbsent_0 lb_Md_isOneAbsent_0)) (sRet 1 (eI 1))))
theorem m_Md_isOneAbsent : jx_Ts z_Md_isOneAbsent 0 bd_Md_isOneAbsent [] := by
  unfold bd_Md_isOneAbsent
  exact (t_seq (t_asg (s_iconst d_Md_isOneAbsent_0 (by decide)) (fun v k h => b_istore_n d_Md_isOneAbsent_1 rfl (by decide) h)) (t_seq (t_seq (t_asg (s_iconst d_Md_isOneAbsent_2 (by decide)) (fun v k h => b_istore_n d_Md_isOneAbsent_3 rfl (by decide) h)) ml_Md_isOneAbsent_0) (t_ret .boolean (s_iload_n d_Md_isOneAbsent_45 rfl) rfl (by decide) d_Md_isOneAbsent_46)))
def f_Md_isOneAbsent : jx_Mt := jx_fn 1 3 (bd_Md_isOneAbsent fun _ _ => none)
theorem me_Md_isOneAbsent : jx_Me 1 z_Md_isOneAbsent f_Md_isOneAbsent := jx_Me.ofT (by decide) m_Md_isOneAbsent
theorem mw_Md_isOneAbsent : jx_mw ⟨"ExtentShelfModel", "isOneAbsent", "()Z"⟩ z_Md_isOneAbsent := ⟨rfl, rfl, by decide +kernel, ⟨by decide, by decide⟩, by decide +kernel⟩
theorem pd_Md_isOneAbsent : (parseMethodDescriptor (⟨"ExtentShelfModel", "isOneAbsent", "()Z"⟩ : MethodName).desc).map (fun d => d.parameters.length) = some 0 := by decide +kernel
/-! ExtentShelfModel.begin()V -/
abbrev z_Md_begin : jx_Z := ("ExtentShelfModel", "begin", prog_11_method_14_code, 2, none, 0, 0)
theorem d_Md_begin_0 : decode z_Md_begin.2.2.1 0 = .ok (.iconst 0, 1) := by decide +kernel
theorem d_Md_begin_1 : decode z_Md_begin.2.2.1 1 = .ok (.istore_n 1, 1) := by decide +kernel
theorem d_Md_begin_2 : decode z_Md_begin.2.2.1 2 = .ok (.iload_n 1, 1) := by decide +kernel
theorem d_Md_begin_3 : decode z_Md_begin.2.2.1 3 = .ok (.bipush 51, 2) := by decide +kernel
theorem d_Md_begin_5 : decode z_Md_begin.2.2.1 5 = .ok (.if_icmp .ge 21, 3) := by decide +kernel
theorem d_Md_begin_8 : decode z_Md_begin.2.2.1 8 = .ok (.aload_n 0, 1) := by decide +kernel
theorem d_Md_begin_9 : decode z_Md_begin.2.2.1 9 = .ok (.getfield 31, 3) := by decide +kernel
theorem d_Md_begin_12 : decode z_Md_begin.2.2.1 12 = .ok (.iload_n 1, 1) := by decide +kernel
theorem d_Md_begin_13 : decode z_Md_begin.2.2.1 13 = .ok (.aload_n 0, 1) := by decide +kernel
theorem d_Md_begin_14 : decode z_Md_begin.2.2.1 14 = .ok (.getfield 28, 3) := by decide +kernel
theorem d_Md_begin_17 : decode z_Md_begin.2.2.1 17 = .ok (.iload_n 1, 1) := by decide +kernel
theorem d_Md_begin_18 : decode z_Md_begin.2.2.1 18 = .ok (.iaload, 1) := by decide +kernel
theorem d_Md_begin_19 : decode z_Md_begin.2.2.1 19 = .ok (.iastore, 1) := by decide +kernel
theorem d_Md_begin_20 : decode z_Md_begin.2.2.1 20 = .ok (.iinc 1 1, 3) := by decide +kernel
theorem d_Md_begin_23 : decode z_Md_begin.2.2.1 23 = .ok (.goto (-21), 3) := by decide +kernel
theorem d_Md_begin_26 : decode z_Md_begin.2.2.1 26 = .ok (.return_, 1) := by decide +kernel
def lc_Md_begin_0 : jx_Cx := (cCmp rLt (eI 1) (eInt (nI 51)))
def lb_Md_begin_0 : jx_St := (sSeq (sSt 0 0 (eGf [8] 7 (eA 0)) (eI 1) (eLd 0 (eGf [8] 6 (eA 0)) (eI 1))) (sInc 1 (nI 1)))
theorem ml_Md_begin_0 : jx_Ts z_Md_begin 2 (sWh 64 lc_Md_begin_0 lb_Md_begin_0) [26] := by
  unfold lc_Md_begin_0 lb_Md_begin_0
  exact t_wh (EA := [23]) (Fs := [26]) (E := [26]) 64 (s_cmp (s_iload_n d_Md_begin_2 rfl) (s_bipush d_Md_begin_3 (by decide)) (s_icmp_geF (tgt := 26) d_Md_begin_5 (by decide))) (by decide) (t_seq (t_st (s_getf (s_aload_n d_Md_begin_8 rfl) fi_Md_31 d_Md_begin_9) (s_iload_n d_Md_begin_12 rfl) (s_load (s_getf (s_aload_n d_Md_begin_13 rfl) fi_Md_28 d_Md_begin_14) (s_iload_n d_Md_begin_17 rfl) (s_iald d_Md_begin_18)) (s_iast d_Md_begin_19)) (t_iinc d_Md_begin_20 (by decide) (by decide))) (al_1 (Or.inr ⟨-21, d_Md_begin_23, by decide⟩)) (by decide)
def bd_Md_begin : jx_St := (sSeq (sSeq (sAsg 0 1 (eInt (nI 0))) (sWh 64 lc_Md_begin_0 lb_Md_begin_0)) sRetV)
theorem m_Md_begin : jx_Ts z_Md_begin 0 bd_Md_begin [] := by
  unfold bd_Md_begin
  exact (t_seq (t_seq (t_asg (s_iconst d_Md_begin_0 (by decide)) (fun v k h => b_istore_n d_Md_begin_1 rfl (by decide) h)) ml_Md_begin_0) (t_retv rfl d_Md_begin_26))
def f_Md_begin : jx_Mt := jx_fn 1 2 (bd_Md_begin fun _ _ => none)
theorem me_Md_begin : jx_Me 1 z_Md_begin f_Md_begin := jx_Me.ofT (by decide) m_Md_begin
theorem mw_Md_begin : jx_mw ⟨"ExtentShelfModel", "begin", "()V"⟩ z_Md_begin := ⟨rfl, rfl, by decide +kernel, ⟨by decide, by decide⟩, by decide +kernel⟩
theorem pd_Md_begin : (parseMethodDescriptor (⟨"ExtentShelfModel", "begin", "()V"⟩ : MethodName).desc).map (fun d => d.parameters.length) = some 0 := by decide +kernel
/-! ExtentShelfModel.numberOf(II)I -/
abbrev z_Md_numberOf : jx_Z := ("ExtentShelfModel", "numberOf", prog_11_method_15_code, 6, some .int, 0, 0)
theorem d_Md_numberOf_0 : decode z_Md_numberOf.2.2.1 0 = .ok (.bipush 102, 2) := by decide +kernel
theorem d_Md_numberOf_2 : decode z_Md_numberOf.2.2.1 2 = .ok (.iload_n 1, 1) := by decide +kernel
theorem d_Md_numberOf_3 : decode z_Md_numberOf.2.2.1 3 = .ok (.imul, 1) := by decide +kernel
theorem d_Md_numberOf_4 : decode z_Md_numberOf.2.2.1 4 = .ok (.bipush 51, 2) := by decide +kernel
theorem d_Md_numberOf_6 : decode z_Md_numberOf.2.2.1 6 = .ok (.iload_n 2, 1) := by decide +kernel
theorem d_Md_numberOf_7 : decode z_Md_numberOf.2.2.1 7 = .ok (.imul, 1) := by decide +kernel
theorem d_Md_numberOf_8 : decode z_Md_numberOf.2.2.1 8 = .ok (.iadd, 1) := by decide +kernel
theorem d_Md_numberOf_9 : decode z_Md_numberOf.2.2.1 9 = .ok (.istore_n 3, 1) := by decide +kernel
theorem d_Md_numberOf_10 : decode z_Md_numberOf.2.2.1 10 = .ok (.iconst 0, 1) := by decide +kernel
theorem d_Md_numberOf_11 : decode z_Md_numberOf.2.2.1 11 = .ok (.istore 4, 2) := by decide +kernel
theorem d_Md_numberOf_13 : decode z_Md_numberOf.2.2.1 13 = .ok (.iconst 0, 1) := by decide +kernel
theorem d_Md_numberOf_14 : decode z_Md_numberOf.2.2.1 14 = .ok (.istore 5, 2) := by decide +kernel
theorem d_Md_numberOf_16 : decode z_Md_numberOf.2.2.1 16 = .ok (.iload 5, 2) := by decide +kernel
theorem d_Md_numberOf_18 : decode z_Md_numberOf.2.2.1 18 = .ok (.bipush 49, 2) := by decide +kernel
theorem d_Md_numberOf_20 : decode z_Md_numberOf.2.2.1 20 = .ok (.if_icmp .ge 28, 3) := by decide +kernel
theorem d_Md_numberOf_23 : decode z_Md_numberOf.2.2.1 23 = .ok (.iload 4, 2) := by decide +kernel
theorem d_Md_numberOf_25 : decode z_Md_numberOf.2.2.1 25 = .ok (.aload_n 0, 1) := by decide +kernel
theorem d_Md_numberOf_26 : decode z_Md_numberOf.2.2.1 26 = .ok (.getfield 13, 3) := by decide +kernel
theorem d_Md_numberOf_29 : decode z_Md_numberOf.2.2.1 29 = .ok (.iload_n 3, 1) := by decide +kernel
theorem d_Md_numberOf_30 : decode z_Md_numberOf.2.2.1 30 = .ok (.iload 5, 2) := by decide +kernel
theorem d_Md_numberOf_32 : decode z_Md_numberOf.2.2.1 32 = .ok (.iadd, 1) := by decide +kernel
theorem d_Md_numberOf_33 : decode z_Md_numberOf.2.2.1 33 = .ok (.iaload, 1) := by decide +kernel
theorem d_Md_numberOf_34 : decode z_Md_numberOf.2.2.1 34 = .ok (.iload 5, 2) := by decide +kernel
theorem d_Md_numberOf_36 : decode z_Md_numberOf.2.2.1 36 = .ok (.iconst 1, 1) := by decide +kernel
theorem d_Md_numberOf_37 : decode z_Md_numberOf.2.2.1 37 = .ok (.iadd, 1) := by decide +kernel
theorem d_Md_numberOf_38 : decode z_Md_numberOf.2.2.1 38 = .ok (.imul, 1) := by decide +kernel
theorem d_Md_numberOf_39 : decode z_Md_numberOf.2.2.1 39 = .ok (.iadd, 1) := by decide +kernel
theorem d_Md_numberOf_40 : decode z_Md_numberOf.2.2.1 40 = .ok (.istore 4, 2) := by decide +kernel
theorem d_Md_numberOf_42 : decode z_Md_numberOf.2.2.1 42 = .ok (.iinc 5 1, 3) := by decide +kernel
theorem d_Md_numberOf_45 : decode z_Md_numberOf.2.2.1 45 = .ok (.goto (-29), 3) := by decide +kernel
theorem d_Md_numberOf_48 : decode z_Md_numberOf.2.2.1 48 = .ok (.iload 4, 2) := by decide +kernel
theorem d_Md_numberOf_50 : decode z_Md_numberOf.2.2.1 50 = .ok (.aload_n 0, 1) := by decide +kernel
theorem d_Md_numberOf_51 : decode z_Md_numberOf.2.2.1 51 = .ok (.getfield 13, 3) := by decide +kernel
theorem d_Md_numberOf_54 : decode z_Md_numberOf.2.2.1 54 = .ok (.iload_n 3, 1) := by decide +kernel
theorem d_Md_numberOf_55 : decode z_Md_numberOf.2.2.1 55 = .ok (.bipush 49, 2) := by decide +kernel
theorem d_Md_numberOf_57 : decode z_Md_numberOf.2.2.1 57 = .ok (.iadd, 1) := by decide +kernel
theorem d_Md_numberOf_58 : decode z_Md_numberOf.2.2.1 58 = .ok (.iaload, 1) := by decide +kernel
theorem d_Md_numberOf_59 : decode z_Md_numberOf.2.2.1 59 = .ok (.if_icmp .ne 34, 3) := by decide +kernel
theorem d_Md_numberOf_62 : decode z_Md_numberOf.2.2.1 62 = .ok (.aload_n 0, 1) := by decide +kernel
theorem d_Md_numberOf_63 : decode z_Md_numberOf.2.2.1 63 = .ok (.getfield 13, 3) := by decide +kernel
theorem d_Md_numberOf_66 : decode z_Md_numberOf.2.2.1 66 = .ok (.iload_n 3, 1) := by decide +kernel
theorem d_Md_numberOf_67 : decode z_Md_numberOf.2.2.1 67 = .ok (.bipush 50, 2) := by decide +kernel
theorem d_Md_numberOf_69 : decode z_Md_numberOf.2.2.1 69 = .ok (.iadd, 1) := by decide +kernel
theorem d_Md_numberOf_70 : decode z_Md_numberOf.2.2.1 70 = .ok (.iaload, 1) := by decide +kernel
theorem d_Md_numberOf_71 : decode z_Md_numberOf.2.2.1 71 = .ok (.aload_n 0, 1) := by decide +kernel
theorem d_Md_numberOf_72 : decode z_Md_numberOf.2.2.1 72 = .ok (.getfield 13, 3) := by decide +kernel
theorem d_Md_numberOf_75 : decode z_Md_numberOf.2.2.1 75 = .ok (.iload_n 3, 1) := by decide +kernel
theorem d_Md_numberOf_76 : decode z_Md_numberOf.2.2.1 76 = .ok (.iaload, 1) := by decide +kernel
theorem d_Md_numberOf_77 : decode z_Md_numberOf.2.2.1 77 = .ok (.if_icmp .ne 16, 3) := by decide +kernel
theorem d_Md_numberOf_80 : decode z_Md_numberOf.2.2.1 80 = .ok (.aload_n 0, 1) := by decide +kernel
theorem d_Md_numberOf_81 : decode z_Md_numberOf.2.2.1 81 = .ok (.getfield 13, 3) := by decide +kernel
theorem d_Md_numberOf_84 : decode z_Md_numberOf.2.2.1 84 = .ok (.iload_n 3, 1) := by decide +kernel
theorem d_Md_numberOf_85 : decode z_Md_numberOf.2.2.1 85 = .ok (.iaload, 1) := by decide +kernel
theorem d_Md_numberOf_86 : decode z_Md_numberOf.2.2.1 86 = .ok (.ifCond .le 7, 3) := by decide +kernel
theorem d_Md_numberOf_89 : decode z_Md_numberOf.2.2.1 89 = .ok (.iconst 1, 1) := by decide +kernel
theorem d_Md_numberOf_90 : decode z_Md_numberOf.2.2.1 90 = .ok (.goto 4, 3) := by decide +kernel
theorem d_Md_numberOf_93 : decode z_Md_numberOf.2.2.1 93 = .ok (.iconst 0, 1) := by decide +kernel
theorem d_Md_numberOf_94 : decode z_Md_numberOf.2.2.1 94 = .ok (.istore 5, 2) := by decide +kernel
theorem d_Md_numberOf_96 : decode z_Md_numberOf.2.2.1 96 = .ok (.iload 5, 2) := by decide +kernel
theorem d_Md_numberOf_98 : decode z_Md_numberOf.2.2.1 98 = .ok (.ifCond .eq 12, 3) := by decide +kernel
theorem d_Md_numberOf_101 : decode z_Md_numberOf.2.2.1 101 = .ok (.aload_n 0, 1) := by decide +kernel
theorem d_Md_numberOf_102 : decode z_Md_numberOf.2.2.1 102 = .ok (.getfield 13, 3) := by decide +kernel
theorem d_Md_numberOf_105 : decode z_Md_numberOf.2.2.1 105 = .ok (.iload_n 3, 1) := by decide +kernel
theorem d_Md_numberOf_106 : decode z_Md_numberOf.2.2.1 106 = .ok (.iaload, 1) := by decide +kernel
theorem d_Md_numberOf_107 : decode z_Md_numberOf.2.2.1 107 = .ok (.goto 4, 3) := by decide +kernel
theorem d_Md_numberOf_110 : decode z_Md_numberOf.2.2.1 110 = .ok (.iconst 0, 1) := by decide +kernel
theorem d_Md_numberOf_111 : decode z_Md_numberOf.2.2.1 111 = .ok (.ireturn, 1) := by decide +kernel
def lc_Md_numberOf_0 : jx_Cx := (cCmp rLt (eI 5) (eInt (nI 49)))
def lb_Md_numberOf_0 : jx_St := (sSeq (sAsg 0 4 (eBin oAdd (eI 4) (eBin oMul (eLd 0 (eGf [8] 2 (eA 0)) (eBin oAdd (eI 3) (eI 5))) (eBin oAdd (eI 5) (eInt (nI 1)))))) (sInc 5 (nI 1)))
theorem ml_Md_numberOf_0 : jx_Ts z_Md_numberOf 16 (sWh 64 lc_Md_numberOf_0 lb_Md_numberOf_0) [48] := by
  unfold lc_Md_numberOf_0 lb_Md_numberOf_0
  exact t_wh (EA := [45]) (Fs := [48]) (E := [48]) 64 (s_cmp (s_iload d_Md_numberOf_16) (s_bipush d_Md_numberOf_18 (by decide)) (s_icmp_geF (tgt := 48) d_Md_numberOf_20 (by decide))) (by decide) (t_seq (t_asg (s_bin (s_iload d_Md_numberOf_23) (s_bin (s_load (s_getf (s_aload_n d_Md_numberOf_25 rfl) fi_Md_13 d_Md_numberOf_26) (s_bin (s_iload_n d_Md_numberOf_29 rfl) (s_iload d_Md_numberOf_30) (s_iadd d_Md_numberOf_32)) (s_iald d_Md_numberOf_33)) (s_bin (s_iload d_Md_numberOf_34) (s_iconst d_Md_numberOf_36 (by decide)) (s_iadd d_Md_numberOf_37)) (s_imul d_Md_numberOf_38)) (s_iadd d_Md_numberOf_39)) (fun v k h => b_istore d_Md_numberOf_40 (by decide) h)) (t_iinc d_Md_numberOf_42 (by decide) (by decide))) (al_1 (Or.inr ⟨-29, d_Md_numberOf_45, by decide⟩)) (by decide)
def bd_Md_numberOf : jx_St := (sSeq (sAsg 0 3 (eBin oAdd (eBin oMul (eInt (nI 102)) (eI 1)) (eBin oMul (eInt (nI 51)) (eI 2)))) (sSeq (sAsg 0 4 (eInt (nI 0))) (sSeq (sSeq (sAsg 0 5 (eInt (nI 0))) (sWh 64 lc_Md_numberOf_0 lb_Md_numberOf_0)) (sSeq (sAsg 0 5 (eIte (cAnd (cAnd (cCmp rEq (eI 4) (eLd 0 (eGf [8] 2 (eA 0)) (eBin oAdd (eI 3) (eInt (nI 49))))) (cCmp rEq (eLd 0 (eGf [8] 2 (eA 0)) (eBin oAdd (eI 3) (eInt (nI 50)))) (eLd 0 (eGf [8] 2 (eA 0)) (eI 3)))) (cCmp0 rGt (eLd 0 (eGf [8] 2 (eA 0)) (eI 3)))) (eInt (nI 1)) (eInt (nI 0)))) (sRet 0 (eIte (cCmp0 rNe (eI 5)) (eLd 0 (eGf [8] 2 (eA 0)) (eI 3)) (eInt (nI 0))))))))
theorem m_Md_numberOf : jx_Ts z_Md_numberOf 0 bd_Md_numberOf [] := by
  unfold bd_Md_numberOf
  exact (t_seq (t_asg (s_bin (s_bin (s_bipush d_Md_numberOf_0 (by decide)) (s_iload_n d_Md_numberOf_2 rfl) (s_imul d_Md_numberOf_3)) (s_bin (s_bipush d_Md_numberOf_4 (by decide)) (s_iload_n d_Md_numberOf_6 rfl) (s_imul d_Md_numberOf_7)) (s_iadd d_Md_numberOf_8)) (fun v k h => b_istore_n d_Md_numberOf_9 rfl (by decide) h)) (t_seq (t_asg (s_iconst d_Md_numberOf_10 (by decide)) (fun v k h => b_istore d_Md_numberOf_11 (by decide) h)) (t_seq (t_seq (t_asg (s_iconst d_Md_numberOf_13 (by decide)) (fun v k h => b_istore d_Md_numberOf_14 (by decide) h)) ml_Md_numberOf_0) (t_seq (t_asg (s_ite (q4 := 94) (s_andg (s_andg (s_cmp (s_iload d_Md_numberOf_48) (s_load (s_getf (s_aload_n d_Md_numberOf_50 rfl) fi_Md_13 d_Md_numberOf_51) (s_bin (s_iload_n d_Md_numberOf_54 rfl) (s_bipush d_Md_numberOf_55 (by decide)) (s_iadd d_Md_numberOf_57)) (s_iald d_Md_numberOf_58)) (s_icmp_neF (tgt := 93) d_Md_numberOf_59 (by decide))) (by decide) (al_1 (s_cmp (s_load (s_getf (s_aload_n d_Md_numberOf_62 rfl) fi_Md_13 d_Md_numberOf_63) (s_bin (s_iload_n d_Md_numberOf_66 rfl) (s_bipush d_Md_numberOf_67 (by decide)) (s_iadd d_Md_numberOf_69)) (s_iald d_Md_numberOf_70)) (s_load (s_getf (s_aload_n d_Md_numberOf_71 rfl) fi_Md_13 d_Md_numberOf_72) (s_iload_n d_Md_numberOf_75 rfl) (s_iald d_Md_numberOf_76)) (s_icmp_neF (tgt := 93) d_Md_numberOf_77 (by decide))))) (by decide) (al_1 (s_cmp0 (s_load (s_getf (s_aload_n d_Md_numberOf_80 rfl) fi_Md_13 d_Md_numberOf_81) (s_iload_n d_Md_numberOf_84 rfl) (s_iald d_Md_numberOf_85)) (s_if_leF (tgt := 93) d_Md_numberOf_86 (by decide))))) (s_iconst d_Md_numberOf_89 (by decide)) d_Md_numberOf_90 (by decide) (s_iconst d_Md_numberOf_93 (by decide))) (fun v k h => b_istore d_Md_numberOf_94 (by decide) h)) (t_ret .int (s_ite (q4 := 111) (s_cmp0 (s_iload d_Md_numberOf_96) (s_if_eqF (tgt := 110) d_Md_numberOf_98 (by decide))) (s_load (s_getf (s_aload_n d_Md_numberOf_101 rfl) fi_Md_13 d_Md_numberOf_102) (s_iload_n d_Md_numberOf_105 rfl) (s_iald d_Md_numberOf_106)) d_Md_numberOf_107 (by decide) (s_iconst d_Md_numberOf_110 (by decide))) rfl (by decide) d_Md_numberOf_111)))))
def f_Md_numberOf : jx_Mt := jx_fn 3 6 (bd_Md_numberOf fun _ _ => none)
theorem me_Md_numberOf : jx_Me 3 z_Md_numberOf f_Md_numberOf := jx_Me.ofT (by decide) m_Md_numberOf
theorem mw_Md_numberOf : jx_mw ⟨"ExtentShelfModel", "numberOf", "(II)I"⟩ z_Md_numberOf := ⟨rfl, rfl, by decide +kernel, ⟨by decide, by decide⟩, by decide +kernel⟩
theorem pd_Md_numberOf : (parseMethodDescriptor (⟨"ExtentShelfModel", "numberOf", "(II)I"⟩ : MethodName).desc).map (fun d => d.parameters.length) = some 2 := by decide +kernel
abbrev tb_Md_numberOf : List (Nat × jx_Mt) := [(8, f_Md_numberOf)]
theorem ve_Md_numberOf {fr lo : Nat} (h1 : 1 ≤ fr) (h2 : 33 ≤ lo) : ∀ q ∈ tb_Md_numberOf, jx_ve ⟨"ExtentShelfModel", "numberOf", "(II)I"⟩ 2 fr lo q.1 q.2 := tv_1 ⟨R_Model, F_Model, 13, ⟨"ExtentShelfModel", "numberOf", "(II)I"⟩, z_Md_numberOf, rfl, by decide +kernel, mw_Md_numberOf, by decide +kernel, me_Md_numberOf, Nat.le_trans (by decide) h1, Nat.le_trans (by decide) h2⟩
theorem dc_Md_numberOf : jx_dc ⟨"ExtentShelfModel", "numberOf", "(II)I"⟩ := ⟨⟨by decide, by decide⟩, Or.inr ⟨by decide +kernel, prog_11_method_15_code, 6, _, (by decide +kernel : Cond.code ⟨"ExtentShelfModel", "numberOf", "(II)I"⟩ prog_11_method_15_code 6 (some .int) ∈ jx_tbl)⟩, "ExtentShelfModel", ⟨"ExtentShelfModel", "numberOf", "(II)I"⟩, ⟨"ExtentShelfModel", "numberOf", "(II)I"⟩, by decide +kernel, rfl⟩
/-! ExtentShelfModel.slotToWrite(I)I -/
abbrev z_Md_slotToWrite : jx_Z := ("ExtentShelfModel", "slotToWrite", prog_11_method_16_code, 4, some .int, 1, 33)
theorem d_Md_slotToWrite_0 : decode z_Md_slotToWrite.2.2.1 0 = .ok (.aload_n 0, 1) := by decide +kernel
theorem d_Md_slotToWrite_1 : decode z_Md_slotToWrite.2.2.1 1 = .ok (.iload_n 1, 1) := by decide +kernel
theorem d_Md_slotToWrite_2 : decode z_Md_slotToWrite.2.2.1 2 = .ok (.iconst 0, 1) := by decide +kernel
theorem d_Md_slotToWrite_3 : decode z_Md_slotToWrite.2.2.1 3 = .ok (.invokevirtual 44, 3) := by decide +kernel
theorem d_Md_slotToWrite_6 : decode z_Md_slotToWrite.2.2.1 6 = .ok (.istore_n 2, 1) := by decide +kernel
theorem d_Md_slotToWrite_7 : decode z_Md_slotToWrite.2.2.1 7 = .ok (.aload_n 0, 1) := by decide +kernel
theorem d_Md_slotToWrite_8 : decode z_Md_slotToWrite.2.2.1 8 = .ok (.iload_n 1, 1) := by decide +kernel
theorem d_Md_slotToWrite_9 : decode z_Md_slotToWrite.2.2.1 9 = .ok (.iconst 1, 1) := by decide +kernel
theorem d_Md_slotToWrite_10 : decode z_Md_slotToWrite.2.2.1 10 = .ok (.invokevirtual 44, 3) := by decide +kernel
theorem d_Md_slotToWrite_13 : decode z_Md_slotToWrite.2.2.1 13 = .ok (.istore_n 3, 1) := by decide +kernel
theorem d_Md_slotToWrite_14 : decode z_Md_slotToWrite.2.2.1 14 = .ok (.iload_n 2, 1) := by decide +kernel
theorem d_Md_slotToWrite_15 : decode z_Md_slotToWrite.2.2.1 15 = .ok (.ifCond .eq 7, 3) := by decide +kernel
theorem d_Md_slotToWrite_18 : decode z_Md_slotToWrite.2.2.1 18 = .ok (.iload_n 3, 1) := by decide +kernel
theorem d_Md_slotToWrite_19 : decode z_Md_slotToWrite.2.2.1 19 = .ok (.ifCond .ne 13, 3) := by decide +kernel
theorem d_Md_slotToWrite_22 : decode z_Md_slotToWrite.2.2.1 22 = .ok (.iload_n 2, 1) := by decide +kernel
theorem d_Md_slotToWrite_23 : decode z_Md_slotToWrite.2.2.1 23 = .ok (.ifCond .ne 7, 3) := by decide +kernel
theorem d_Md_slotToWrite_26 : decode z_Md_slotToWrite.2.2.1 26 = .ok (.iconst 0, 1) := by decide +kernel
theorem d_Md_slotToWrite_27 : decode z_Md_slotToWrite.2.2.1 27 = .ok (.goto 4, 3) := by decide +kernel
theorem d_Md_slotToWrite_30 : decode z_Md_slotToWrite.2.2.1 30 = .ok (.iconst 1, 1) := by decide +kernel
theorem d_Md_slotToWrite_31 : decode z_Md_slotToWrite.2.2.1 31 = .ok (.ireturn, 1) := by decide +kernel
theorem d_Md_slotToWrite_32 : decode z_Md_slotToWrite.2.2.1 32 = .ok (.iload_n 2, 1) := by decide +kernel
theorem d_Md_slotToWrite_33 : decode z_Md_slotToWrite.2.2.1 33 = .ok (.iload_n 3, 1) := by decide +kernel
theorem d_Md_slotToWrite_34 : decode z_Md_slotToWrite.2.2.1 34 = .ok (.if_icmp .ge 7, 3) := by decide +kernel
theorem d_Md_slotToWrite_37 : decode z_Md_slotToWrite.2.2.1 37 = .ok (.iconst 0, 1) := by decide +kernel
theorem d_Md_slotToWrite_38 : decode z_Md_slotToWrite.2.2.1 38 = .ok (.goto 4, 3) := by decide +kernel
theorem d_Md_slotToWrite_41 : decode z_Md_slotToWrite.2.2.1 41 = .ok (.iconst 1, 1) := by decide +kernel
theorem d_Md_slotToWrite_42 : decode z_Md_slotToWrite.2.2.1 42 = .ok (.ireturn, 1) := by decide +kernel
def bd_Md_slotToWrite : jx_St := (sSeq (sAsg 0 2 (eCl (jx_ev tb_Md_numberOf) [(eA 0), (eI 1), (eInt (nI 0))])) (sSeq (sAsg 0 3 (eCl (jx_ev tb_Md_numberOf) [(eA 0), (eI 1), (eInt (nI 1))])) (sSeq (sIf (cOr (cCmp0 rEq (eI 2)) (cCmp0 rEq (eI 3))) (sRet 0 (eIte (cCmp0 rEq (eI 2)) (eInt (nI 0)) (eInt (nI 1)))) sSkip) (sRet 0 (eIte (cCmp rLt (eI 2) (eI 3)) (eInt (nI 0)) (eInt (nI 1)))))))
theorem m_Md_slotToWrite : jx_Ts z_Md_slotToWrite 0 bd_Md_slotToWrite [] := by
  unfold bd_Md_slotToWrite
  exact (t_seq (t_asg (s_cl (s_a1 (s_aload_n d_Md_slotToWrite_0 rfl) (s_a1 (s_iload_n d_Md_slotToWrite_1 rfl) (s_a1 (s_iconst d_Md_slotToWrite_2 (by decide)) s_a0))) (s_ecv (ve_Md_numberOf (by decide) (by decide)) dc_Md_numberOf (by decide) lm_Md_44 pd_Md_numberOf d_Md_slotToWrite_3)) (fun v k h => b_istore_n d_Md_slotToWrite_6 rfl (by decide) h)) (t_seq (t_asg (s_cl (s_a1 (s_aload_n d_Md_slotToWrite_7 rfl) (s_a1 (s_iload_n d_Md_slotToWrite_8 rfl) (s_a1 (s_iconst d_Md_slotToWrite_9 (by decide)) s_a0))) (s_ecv (ve_Md_numberOf (by decide) (by decide)) dc_Md_numberOf (by decide) lm_Md_44 pd_Md_numberOf d_Md_slotToWrite_10)) (fun v k h => b_istore_n d_Md_slotToWrite_13 rfl (by decide) h)) (t_seq (t_if1 (Fs := [32]) (E := [32]) (s_org (s_cmp0 (s_iload_n d_Md_slotToWrite_14 rfl) (s_if_eqT (tgt := 22) d_Md_slotToWrite_15 (by decide))) (by decide) (al_1 (s_cmp0 (s_iload_n d_Md_slotToWrite_18 rfl) (s_if_neF (tgt := 32) d_Md_slotToWrite_19 (by decide))))) (by decide) (t_sub (E := []) (E' := [32]) (t_ret .int (s_ite (q4 := 31) (s_cmp0 (s_iload_n d_Md_slotToWrite_22 rfl) (s_if_neF (tgt := 30) d_Md_slotToWrite_23 (by decide))) (s_iconst d_Md_slotToWrite_26 (by decide)) d_Md_slotToWrite_27 (by decide) (s_iconst d_Md_slotToWrite_30 (by decide))) rfl (by decide) d_Md_slotToWrite_31) (by decide)) (by decide)) (t_ret .int (s_ite (q4 := 42) (s_cmp (s_iload_n d_Md_slotToWrite_32 rfl) (s_iload_n d_Md_slotToWrite_33 rfl) (s_icmp_geF (tgt := 41) d_Md_slotToWrite_34 (by decide))) (s_iconst d_Md_slotToWrite_37 (by decide)) d_Md_slotToWrite_38 (by decide) (s_iconst d_Md_slotToWrite_41 (by decide))) rfl (by decide) d_Md_slotToWrite_42))))
def f_Md_slotToWrite : jx_Mt := jx_fn 2 4 (bd_Md_slotToWrite fun _ _ => none)
theorem me_Md_slotToWrite : jx_Me 2 z_Md_slotToWrite f_Md_slotToWrite := jx_Me.ofT (by decide) m_Md_slotToWrite
theorem mw_Md_slotToWrite : jx_mw ⟨"ExtentShelfModel", "slotToWrite", "(I)I"⟩ z_Md_slotToWrite := ⟨rfl, rfl, by decide +kernel, ⟨by decide, by decide⟩, by decide +kernel⟩
theorem pd_Md_slotToWrite : (parseMethodDescriptor (⟨"ExtentShelfModel", "slotToWrite", "(I)I"⟩ : MethodName).desc).map (fun d => d.parameters.length) = some 1 := by decide +kernel
abbrev tb_Md_slotToWrite : List (Nat × jx_Mt) := [(8, f_Md_slotToWrite)]
theorem ve_Md_slotToWrite {fr lo : Nat} (h1 : 2 ≤ fr) (h2 : 64 ≤ lo) : ∀ q ∈ tb_Md_slotToWrite, jx_ve ⟨"ExtentShelfModel", "slotToWrite", "(I)I"⟩ 1 fr lo q.1 q.2 := tv_1 ⟨R_Model, F_Model, 13, ⟨"ExtentShelfModel", "slotToWrite", "(I)I"⟩, z_Md_slotToWrite, rfl, by decide +kernel, mw_Md_slotToWrite, by decide +kernel, me_Md_slotToWrite, Nat.le_trans (by decide) h1, Nat.le_trans (by decide) h2⟩
theorem dc_Md_slotToWrite : jx_dc ⟨"ExtentShelfModel", "slotToWrite", "(I)I"⟩ := ⟨⟨by decide, by decide⟩, Or.inr ⟨by decide +kernel, prog_11_method_16_code, 4, _, (by decide +kernel : Cond.code ⟨"ExtentShelfModel", "slotToWrite", "(I)I"⟩ prog_11_method_16_code 4 (some .int) ∈ jx_tbl)⟩, "ExtentShelfModel", ⟨"ExtentShelfModel", "slotToWrite", "(I)I"⟩, ⟨"ExtentShelfModel", "slotToWrite", "(I)I"⟩, by decide +kernel, rfl⟩
/-! ExtentShelfModel.writeTo(I[I)V -/
abbrev z_Md_writeTo : jx_Z := ("ExtentShelfModel", "writeTo", prog_11_method_17_code, 5, none, 2, 64)
theorem d_Md_writeTo_0 : decode z_Md_writeTo.2.2.1 0 = .ok (.bipush 102, 2) := by decide +kernel
theorem d_Md_writeTo_2 : decode z_Md_writeTo.2.2.1 2 = .ok (.iload_n 1, 1) := by decide +kernel
theorem d_Md_writeTo_3 : decode z_Md_writeTo.2.2.1 3 = .ok (.imul, 1) := by decide +kernel
theorem d_Md_writeTo_4 : decode z_Md_writeTo.2.2.1 4 = .ok (.bipush 51, 2) := by decide +kernel
theorem d_Md_writeTo_6 : decode z_Md_writeTo.2.2.1 6 = .ok (.aload_n 0, 1) := by decide +kernel
theorem d_Md_writeTo_7 : decode z_Md_writeTo.2.2.1 7 = .ok (.iload_n 1, 1) := by decide +kernel
theorem d_Md_writeTo_8 : decode z_Md_writeTo.2.2.1 8 = .ok (.invokevirtual 48, 3) := by decide +kernel
theorem d_Md_writeTo_11 : decode z_Md_writeTo.2.2.1 11 = .ok (.imul, 1) := by decide +kernel
theorem d_Md_writeTo_12 : decode z_Md_writeTo.2.2.1 12 = .ok (.iadd, 1) := by decide +kernel
theorem d_Md_writeTo_13 : decode z_Md_writeTo.2.2.1 13 = .ok (.istore_n 3, 1) := by decide +kernel
theorem d_Md_writeTo_14 : decode z_Md_writeTo.2.2.1 14 = .ok (.iconst 0, 1) := by decide +kernel
theorem d_Md_writeTo_15 : decode z_Md_writeTo.2.2.1 15 = .ok (.istore 4, 2) := by decide +kernel
theorem d_Md_writeTo_17 : decode z_Md_writeTo.2.2.1 17 = .ok (.iload 4, 2) := by decide +kernel
theorem d_Md_writeTo_19 : decode z_Md_writeTo.2.2.1 19 = .ok (.bipush 51, 2) := by decide +kernel
theorem d_Md_writeTo_21 : decode z_Md_writeTo.2.2.1 21 = .ok (.if_icmp .ge 36, 3) := by decide +kernel
theorem d_Md_writeTo_24 : decode z_Md_writeTo.2.2.1 24 = .ok (.aload_n 0, 1) := by decide +kernel
theorem d_Md_writeTo_25 : decode z_Md_writeTo.2.2.1 25 = .ok (.getfield 20, 3) := by decide +kernel
theorem d_Md_writeTo_28 : decode z_Md_writeTo.2.2.1 28 = .ok (.ifCond .eq 29, 3) := by decide +kernel
theorem d_Md_writeTo_31 : decode z_Md_writeTo.2.2.1 31 = .ok (.aload_n 0, 1) := by decide +kernel
theorem d_Md_writeTo_32 : decode z_Md_writeTo.2.2.1 32 = .ok (.invokevirtual 40, 3) := by decide +kernel
theorem d_Md_writeTo_35 : decode z_Md_writeTo.2.2.1 35 = .ok (.ifCond .eq 16, 3) := by decide +kernel
theorem d_Md_writeTo_38 : decode z_Md_writeTo.2.2.1 38 = .ok (.aload_n 0, 1) := by decide +kernel
theorem d_Md_writeTo_39 : decode z_Md_writeTo.2.2.1 39 = .ok (.getfield 13, 3) := by decide +kernel
theorem d_Md_writeTo_42 : decode z_Md_writeTo.2.2.1 42 = .ok (.iload_n 3, 1) := by decide +kernel
theorem d_Md_writeTo_43 : decode z_Md_writeTo.2.2.1 43 = .ok (.iload 4, 2) := by decide +kernel
theorem d_Md_writeTo_45 : decode z_Md_writeTo.2.2.1 45 = .ok (.iadd, 1) := by decide +kernel
theorem d_Md_writeTo_46 : decode z_Md_writeTo.2.2.1 46 = .ok (.aload_n 2, 1) := by decide +kernel
theorem d_Md_writeTo_47 : decode z_Md_writeTo.2.2.1 47 = .ok (.iload 4, 2) := by decide +kernel
theorem d_Md_writeTo_49 : decode z_Md_writeTo.2.2.1 49 = .ok (.iaload, 1) := by decide +kernel
theorem d_Md_writeTo_50 : decode z_Md_writeTo.2.2.1 50 = .ok (.iastore, 1) := by decide +kernel
theorem d_Md_writeTo_51 : decode z_Md_writeTo.2.2.1 51 = .ok (.iinc 4 1, 3) := by decide +kernel
theorem d_Md_writeTo_54 : decode z_Md_writeTo.2.2.1 54 = .ok (.goto (-37), 3) := by decide +kernel
theorem d_Md_writeTo_57 : decode z_Md_writeTo.2.2.1 57 = .ok (.return_, 1) := by decide +kernel
def lc_Md_writeTo_0 : jx_Cx := (cAnd (cCmp rLt (eI 4) (eInt (nI 51))) (cCmp0 rNe (eGf [8] 4 (eA 0))))
def lb_Md_writeTo_0 : jx_St := (sSeq (sIf (cCmp0 rNe (eCl (jx_ev tb_Md_mayWrite) [(eA 0)])) (sSt 0 0 (eGf [8] 2 (eA 0)) (eBin oAdd (eI 3) (eI 4)) (eLd 0 (eA 2) (eI 4))) sSkip) (sInc 4 (nI 1)))
theorem ml_Md_writeTo_0 : jx_Ts z_Md_writeTo 17 (sWh 64 lc_Md_writeTo_0 lb_Md_writeTo_0) [57] := by
  unfold lc_Md_writeTo_0 lb_Md_writeTo_0
  exact t_wh (EA := [54]) (Fs := [57]) (E := [57]) 64 (s_andg (s_cmp (s_iload d_Md_writeTo_17) (s_bipush d_Md_writeTo_19 (by decide)) (s_icmp_geF (tgt := 57) d_Md_writeTo_21 (by decide))) (by decide) (al_1 (s_cmp0 (s_getf (s_aload_n d_Md_writeTo_24 rfl) fi_Md_20 d_Md_writeTo_25) (s_if_eqF (tgt := 57) d_Md_writeTo_28 (by decide))))) (by decide) (t_seq (t_if1 (Fs := [51]) (E := [51]) (s_cmp0 (s_cl (s_a1 (s_aload_n d_Md_writeTo_31 rfl) s_a0) (s_ecv (ve_Md_mayWrite (by decide) (by decide)) dc_Md_mayWrite (by decide) lm_Md_40 pd_Md_mayWrite d_Md_writeTo_32)) (s_if_eqF (tgt := 51) d_Md_writeTo_35 (by decide))) (by decide) (t_sub (E := [51]) (E' := [51]) (t_st (s_getf (s_aload_n d_Md_writeTo_38 rfl) fi_Md_13 d_Md_writeTo_39) (s_bin (s_iload_n d_Md_writeTo_42 rfl) (s_iload d_Md_writeTo_43) (s_iadd d_Md_writeTo_45)) (s_load (s_aload_n d_Md_writeTo_46 rfl) (s_iload d_Md_writeTo_47) (s_iald d_Md_writeTo_49)) (s_iast d_Md_writeTo_50)) (by decide)) (by decide)) (t_iinc d_Md_writeTo_51 (by decide) (by decide))) (al_1 (Or.inr ⟨-37, d_Md_writeTo_54, by decide⟩)) (by decide)
def bd_Md_writeTo : jx_St := (sSeq (sSeq (sAsg 0 3 (eBin oAdd (eBin oMul (eInt (nI 102)) (eI 1)) (eBin oMul (eInt (nI 51)) (eCl (jx_ev tb_Md_slotToWrite) [(eA 0), (eI 1)])))) (sSeq (sAsg 0 4 (eInt (nI 0))) (sWh 64 lc_Md_writeTo_0 lb_Md_writeTo_0))) sRetV)
theorem m_Md_writeTo : jx_Ts z_Md_writeTo 0 bd_Md_writeTo [] := by
  unfold bd_Md_writeTo
  exact (t_seq (t_seq (t_asg (s_bin (s_bin (s_bipush d_Md_writeTo_0 (by decide)) (s_iload_n d_Md_writeTo_2 rfl) (s_imul d_Md_writeTo_3)) (s_bin (s_bipush d_Md_writeTo_4 (by decide)) (s_cl (s_a1 (s_aload_n d_Md_writeTo_6 rfl) (s_a1 (s_iload_n d_Md_writeTo_7 rfl) s_a0)) (s_ecv (ve_Md_slotToWrite (by decide) (by decide)) dc_Md_slotToWrite (by decide) lm_Md_48 pd_Md_slotToWrite d_Md_writeTo_8)) (s_imul d_Md_writeTo_11)) (s_iadd d_Md_writeTo_12)) (fun v k h => b_istore_n d_Md_writeTo_13 rfl (by decide) h)) (t_seq (t_asg (s_iconst d_Md_writeTo_14 (by decide)) (fun v k h => b_istore d_Md_writeTo_15 (by decide) h)) ml_Md_writeTo_0)) (t_retv rfl d_Md_writeTo_57))
def f_Md_writeTo : jx_Mt := jx_fn 3 5 (bd_Md_writeTo fun _ _ => none)
theorem me_Md_writeTo : jx_Me 3 z_Md_writeTo f_Md_writeTo := jx_Me.ofT (by decide) m_Md_writeTo
theorem mw_Md_writeTo : jx_mw ⟨"ExtentShelfModel", "writeTo", "(I[I)V"⟩ z_Md_writeTo := ⟨rfl, rfl, by decide +kernel, ⟨by decide, by decide⟩, by decide +kernel⟩
theorem pd_Md_writeTo : (parseMethodDescriptor (⟨"ExtentShelfModel", "writeTo", "(I[I)V"⟩ : MethodName).desc).map (fun d => d.parameters.length) = some 2 := by decide +kernel
abbrev tb_Md_isOneAbsent : List (Nat × jx_Mt) := [(8, f_Md_isOneAbsent)]
theorem ve_Md_isOneAbsent {fr lo : Nat} (h1 : 1 ≤ fr) (h2 : 30 ≤ lo) : ∀ q ∈ tb_Md_isOneAbsent, jx_ve ⟨"ExtentShelfModel", "isOneAbsent", "()Z"⟩ 0 fr lo q.1 q.2 := tv_1 ⟨R_Model, F_Model, 13, ⟨"ExtentShelfModel", "isOneAbsent", "()Z"⟩, z_Md_isOneAbsent, rfl, by decide +kernel, mw_Md_isOneAbsent, by decide +kernel, me_Md_isOneAbsent, Nat.le_trans (by decide) h1, Nat.le_trans (by decide) h2⟩
theorem dc_Md_isOneAbsent : jx_dc ⟨"ExtentShelfModel", "isOneAbsent", "()Z"⟩ := ⟨⟨by decide, by decide⟩, Or.inr ⟨by decide +kernel, prog_11_method_13_code, 3, _, (by decide +kernel : Cond.code ⟨"ExtentShelfModel", "isOneAbsent", "()Z"⟩ prog_11_method_13_code 3 (some .boolean) ∈ jx_tbl)⟩, "ExtentShelfModel", ⟨"ExtentShelfModel", "isOneAbsent", "()Z"⟩, ⟨"ExtentShelfModel", "isOneAbsent", "()Z"⟩, by decide +kernel, rfl⟩
abbrev tb_Md_writeTo : List (Nat × jx_Mt) := [(8, f_Md_writeTo)]
theorem ve_Md_writeTo {fr lo : Nat} (h1 : 3 ≤ fr) (h2 : 96 ≤ lo) : ∀ q ∈ tb_Md_writeTo, jx_ve ⟨"ExtentShelfModel", "writeTo", "(I[I)V"⟩ 2 fr lo q.1 q.2 := tv_1 ⟨R_Model, F_Model, 13, ⟨"ExtentShelfModel", "writeTo", "(I[I)V"⟩, z_Md_writeTo, rfl, by decide +kernel, mw_Md_writeTo, by decide +kernel, me_Md_writeTo, Nat.le_trans (by decide) h1, Nat.le_trans (by decide) h2⟩
theorem dc_Md_writeTo : jx_dc ⟨"ExtentShelfModel", "writeTo", "(I[I)V"⟩ := ⟨⟨by decide, by decide⟩, Or.inr ⟨by decide +kernel, prog_11_method_17_code, 5, _, (by decide +kernel : Cond.code ⟨"ExtentShelfModel", "writeTo", "(I[I)V"⟩ prog_11_method_17_code 5 none ∈ jx_tbl)⟩, "ExtentShelfModel", ⟨"ExtentShelfModel", "writeTo", "(I[I)V"⟩, ⟨"ExtentShelfModel", "writeTo", "(I[I)V"⟩, by decide +kernel, rfl⟩
/-! ExtentShelfModel.change()V -/
abbrev z_Md_change : jx_Z := ("ExtentShelfModel", "change", prog_11_method_18_code, 3, none, 3, 96)
theorem d_Md_change_0 : decode z_Md_change.2.2.1 0 = .ok (.aload_n 0, 1) := by decide +kernel
theorem d_Md_change_1 : decode z_Md_change.2.2.1 1 = .ok (.getfield 31, 3) := by decide +kernel
theorem d_Md_change_4 : decode z_Md_change.2.2.1 4 = .ok (.iconst 0, 1) := by decide +kernel
theorem d_Md_change_5 : decode z_Md_change.2.2.1 5 = .ok (.aload_n 0, 1) := by decide +kernel
theorem d_Md_change_6 : decode z_Md_change.2.2.1 6 = .ok (.getfield 28, 3) := by decide +kernel
theorem d_Md_change_9 : decode z_Md_change.2.2.1 9 = .ok (.iconst 0, 1) := by decide +kernel
theorem d_Md_change_10 : decode z_Md_change.2.2.1 10 = .ok (.iaload, 1) := by decide +kernel
theorem d_Md_change_11 : decode z_Md_change.2.2.1 11 = .ok (.aload_n 0, 1) := by decide +kernel
theorem d_Md_change_12 : decode z_Md_change.2.2.1 12 = .ok (.invokevirtual 52, 3) := by decide +kernel
theorem d_Md_change_15 : decode z_Md_change.2.2.1 15 = .ok (.ifCond .eq 7, 3) := by decide +kernel
theorem d_Md_change_18 : decode z_Md_change.2.2.1 18 = .ok (.iconst 2, 1) := by decide +kernel
theorem d_Md_change_19 : decode z_Md_change.2.2.1 19 = .ok (.goto 4, 3) := by decide +kernel
theorem d_Md_change_22 : decode z_Md_change.2.2.1 22 = .ok (.iconst 1, 1) := by decide +kernel
theorem d_Md_change_23 : decode z_Md_change.2.2.1 23 = .ok (.iadd, 1) := by decide +kernel
theorem d_Md_change_24 : decode z_Md_change.2.2.1 24 = .ok (.iastore, 1) := by decide +kernel
theorem d_Md_change_25 : decode z_Md_change.2.2.1 25 = .ok (.aload_n 0, 1) := by decide +kernel
theorem d_Md_change_26 : decode z_Md_change.2.2.1 26 = .ok (.getfield 31, 3) := by decide +kernel
theorem d_Md_change_29 : decode z_Md_change.2.2.1 29 = .ok (.bipush 50, 2) := by decide +kernel
theorem d_Md_change_31 : decode z_Md_change.2.2.1 31 = .ok (.aload_n 0, 1) := by decide +kernel
theorem d_Md_change_32 : decode z_Md_change.2.2.1 32 = .ok (.getfield 31, 3) := by decide +kernel
theorem d_Md_change_35 : decode z_Md_change.2.2.1 35 = .ok (.iconst 0, 1) := by decide +kernel
theorem d_Md_change_36 : decode z_Md_change.2.2.1 36 = .ok (.iaload, 1) := by decide +kernel
theorem d_Md_change_37 : decode z_Md_change.2.2.1 37 = .ok (.iastore, 1) := by decide +kernel
theorem d_Md_change_38 : decode z_Md_change.2.2.1 38 = .ok (.aload_n 0, 1) := by decide +kernel
theorem d_Md_change_39 : decode z_Md_change.2.2.1 39 = .ok (.getfield 31, 3) := by decide +kernel
theorem d_Md_change_42 : decode z_Md_change.2.2.1 42 = .ok (.bipush 49, 2) := by decide +kernel
theorem d_Md_change_44 : decode z_Md_change.2.2.1 44 = .ok (.iconst 0, 1) := by decide +kernel
theorem d_Md_change_45 : decode z_Md_change.2.2.1 45 = .ok (.iastore, 1) := by decide +kernel
theorem d_Md_change_46 : decode z_Md_change.2.2.1 46 = .ok (.iconst 0, 1) := by decide +kernel
theorem d_Md_change_47 : decode z_Md_change.2.2.1 47 = .ok (.istore_n 1, 1) := by decide +kernel
theorem d_Md_change_48 : decode z_Md_change.2.2.1 48 = .ok (.iload_n 1, 1) := by decide +kernel
theorem d_Md_change_49 : decode z_Md_change.2.2.1 49 = .ok (.bipush 49, 2) := by decide +kernel
theorem d_Md_change_51 : decode z_Md_change.2.2.1 51 = .ok (.if_icmp .ge 34, 3) := by decide +kernel
theorem d_Md_change_54 : decode z_Md_change.2.2.1 54 = .ok (.aload_n 0, 1) := by decide +kernel
theorem d_Md_change_55 : decode z_Md_change.2.2.1 55 = .ok (.getfield 31, 3) := by decide +kernel
theorem d_Md_change_58 : decode z_Md_change.2.2.1 58 = .ok (.bipush 49, 2) := by decide +kernel
theorem d_Md_change_60 : decode z_Md_change.2.2.1 60 = .ok (.aload_n 0, 1) := by decide +kernel
theorem d_Md_change_61 : decode z_Md_change.2.2.1 61 = .ok (.getfield 31, 3) := by decide +kernel
theorem d_Md_change_64 : decode z_Md_change.2.2.1 64 = .ok (.bipush 49, 2) := by decide +kernel
theorem d_Md_change_66 : decode z_Md_change.2.2.1 66 = .ok (.iaload, 1) := by decide +kernel
theorem d_Md_change_67 : decode z_Md_change.2.2.1 67 = .ok (.aload_n 0, 1) := by decide +kernel
theorem d_Md_change_68 : decode z_Md_change.2.2.1 68 = .ok (.getfield 31, 3) := by decide +kernel
theorem d_Md_change_71 : decode z_Md_change.2.2.1 71 = .ok (.iload_n 1, 1) := by decide +kernel
theorem d_Md_change_72 : decode z_Md_change.2.2.1 72 = .ok (.iaload, 1) := by decide +kernel
theorem d_Md_change_73 : decode z_Md_change.2.2.1 73 = .ok (.iload_n 1, 1) := by decide +kernel
theorem d_Md_change_74 : decode z_Md_change.2.2.1 74 = .ok (.iconst 1, 1) := by decide +kernel
theorem d_Md_change_75 : decode z_Md_change.2.2.1 75 = .ok (.iadd, 1) := by decide +kernel
theorem d_Md_change_76 : decode z_Md_change.2.2.1 76 = .ok (.imul, 1) := by decide +kernel
theorem d_Md_change_77 : decode z_Md_change.2.2.1 77 = .ok (.iadd, 1) := by decide +kernel
theorem d_Md_change_78 : decode z_Md_change.2.2.1 78 = .ok (.iastore, 1) := by decide +kernel
theorem d_Md_change_79 : decode z_Md_change.2.2.1 79 = .ok (.iinc 1 1, 3) := by decide +kernel
theorem d_Md_change_82 : decode z_Md_change.2.2.1 82 = .ok (.goto (-34), 3) := by decide +kernel
theorem d_Md_change_85 : decode z_Md_change.2.2.1 85 = .ok (.iconst 0, 1) := by decide +kernel
theorem d_Md_change_86 : decode z_Md_change.2.2.1 86 = .ok (.istore_n 1, 1) := by decide +kernel
theorem d_Md_change_87 : decode z_Md_change.2.2.1 87 = .ok (.iload_n 1, 1) := by decide +kernel
theorem d_Md_change_88 : decode z_Md_change.2.2.1 88 = .ok (.iconst 4, 1) := by decide +kernel
theorem d_Md_change_89 : decode z_Md_change.2.2.1 89 = .ok (.if_icmp .ge 45, 3) := by decide +kernel
theorem d_Md_change_92 : decode z_Md_change.2.2.1 92 = .ok (.aload_n 0, 1) := by decide +kernel
theorem d_Md_change_93 : decode z_Md_change.2.2.1 93 = .ok (.getfield 20, 3) := by decide +kernel
theorem d_Md_change_96 : decode z_Md_change.2.2.1 96 = .ok (.ifCond .eq 38, 3) := by decide +kernel
theorem d_Md_change_99 : decode z_Md_change.2.2.1 99 = .ok (.aload_n 0, 1) := by decide +kernel
theorem d_Md_change_100 : decode z_Md_change.2.2.1 100 = .ok (.getfield 31, 3) := by decide +kernel
theorem d_Md_change_103 : decode z_Md_change.2.2.1 103 = .ok (.iconst 1, 1) := by decide +kernel
theorem d_Md_change_104 : decode z_Md_change.2.2.1 104 = .ok (.iload_n 1, 1) := by decide +kernel
theorem d_Md_change_105 : decode z_Md_change.2.2.1 105 = .ok (.iadd, 1) := by decide +kernel
theorem d_Md_change_106 : decode z_Md_change.2.2.1 106 = .ok (.iaload, 1) := by decide +kernel
theorem d_Md_change_107 : decode z_Md_change.2.2.1 107 = .ok (.ifCond .le 21, 3) := by decide +kernel
theorem d_Md_change_110 : decode z_Md_change.2.2.1 110 = .ok (.aload_n 0, 1) := by decide +kernel
theorem d_Md_change_111 : decode z_Md_change.2.2.1 111 = .ok (.getfield 7, 3) := by decide +kernel
theorem d_Md_change_114 : decode z_Md_change.2.2.1 114 = .ok (.iload_n 1, 1) := by decide +kernel
theorem d_Md_change_115 : decode z_Md_change.2.2.1 115 = .ok (.baload, 1) := by decide +kernel
theorem d_Md_change_116 : decode z_Md_change.2.2.1 116 = .ok (.ifCond .eq 12, 3) := by decide +kernel
theorem d_Md_change_119 : decode z_Md_change.2.2.1 119 = .ok (.aload_n 0, 1) := by decide +kernel
theorem d_Md_change_120 : decode z_Md_change.2.2.1 120 = .ok (.iload_n 1, 1) := by decide +kernel
theorem d_Md_change_121 : decode z_Md_change.2.2.1 121 = .ok (.aload_n 0, 1) := by decide +kernel
theorem d_Md_change_122 : decode z_Md_change.2.2.1 122 = .ok (.getfield 31, 3) := by decide +kernel
theorem d_Md_change_125 : decode z_Md_change.2.2.1 125 = .ok (.invokevirtual 55, 3) := by decide +kernel
theorem d_Md_change_128 : decode z_Md_change.2.2.1 128 = .ok (.iinc 1 1, 3) := by decide +kernel
theorem d_Md_change_131 : decode z_Md_change.2.2.1 131 = .ok (.goto (-44), 3) := by decide +kernel
theorem d_Md_change_134 : decode z_Md_change.2.2.1 134 = .ok (.aload_n 0, 1) := by decide +kernel
theorem d_Md_change_135 : decode z_Md_change.2.2.1 135 = .ok (.getfield 20, 3) := by decide +kernel
theorem d_Md_change_138 : decode z_Md_change.2.2.1 138 = .ok (.ifCond .ne 4, 3) := by decide +kernel
theorem d_Md_change_141 : decode z_Md_change.2.2.1 141 = .ok (.return_, 1) := by decide +kernel
theorem d_Md_change_142 : decode z_Md_change.2.2.1 142 = .ok (.bipush 9, 2) := by decide +kernel
theorem d_Md_change_144 : decode z_Md_change.2.2.1 144 = .ok (.bipush 10, 2) := by decide +kernel
theorem d_Md_change_146 : decode z_Md_change.2.2.1 146 = .ok (.aload_n 0, 1) := by decide +kernel
theorem d_Md_change_147 : decode z_Md_change.2.2.1 147 = .ok (.getfield 59, 3) := by decide +kernel
theorem d_Md_change_150 : decode z_Md_change.2.2.1 150 = .ok (.imul, 1) := by decide +kernel
theorem d_Md_change_151 : decode z_Md_change.2.2.1 151 = .ok (.iadd, 1) := by decide +kernel
theorem d_Md_change_152 : decode z_Md_change.2.2.1 152 = .ok (.aload_n 0, 1) := by decide +kernel
theorem d_Md_change_153 : decode z_Md_change.2.2.1 153 = .ok (.getfield 62, 3) := by decide +kernel
theorem d_Md_change_156 : decode z_Md_change.2.2.1 156 = .ok (.iadd, 1) := by decide +kernel
theorem d_Md_change_157 : decode z_Md_change.2.2.1 157 = .ok (.istore_n 1, 1) := by decide +kernel
theorem d_Md_change_158 : decode z_Md_change.2.2.1 158 = .ok (.aload_n 0, 1) := by decide +kernel
theorem d_Md_change_159 : decode z_Md_change.2.2.1 159 = .ok (.aload_n 0, 1) := by decide +kernel
theorem d_Md_change_160 : decode z_Md_change.2.2.1 160 = .ok (.getfield 65, 3) := by decide +kernel
theorem d_Md_change_163 : decode z_Md_change.2.2.1 163 = .ok (.ifCond .le 22, 3) := by decide +kernel
theorem d_Md_change_166 : decode z_Md_change.2.2.1 166 = .ok (.aload_n 0, 1) := by decide +kernel
theorem d_Md_change_167 : decode z_Md_change.2.2.1 167 = .ok (.getfield 31, 3) := by decide +kernel
theorem d_Md_change_170 : decode z_Md_change.2.2.1 170 = .ok (.iload_n 1, 1) := by decide +kernel
theorem d_Md_change_171 : decode z_Md_change.2.2.1 171 = .ok (.iaload, 1) := by decide +kernel
theorem d_Md_change_172 : decode z_Md_change.2.2.1 172 = .ok (.aload_n 0, 1) := by decide +kernel
theorem d_Md_change_173 : decode z_Md_change.2.2.1 173 = .ok (.getfield 28, 3) := by decide +kernel
theorem d_Md_change_176 : decode z_Md_change.2.2.1 176 = .ok (.iload_n 1, 1) := by decide +kernel
theorem d_Md_change_177 : decode z_Md_change.2.2.1 177 = .ok (.iaload, 1) := by decide +kernel
theorem d_Md_change_178 : decode z_Md_change.2.2.1 178 = .ok (.if_icmp .eq 7, 3) := by decide +kernel
theorem d_Md_change_181 : decode z_Md_change.2.2.1 181 = .ok (.iconst 0, 1) := by decide +kernel
theorem d_Md_change_182 : decode z_Md_change.2.2.1 182 = .ok (.goto 7, 3) := by decide +kernel
theorem d_Md_change_185 : decode z_Md_change.2.2.1 185 = .ok (.aload_n 0, 1) := by decide +kernel
theorem d_Md_change_186 : decode z_Md_change.2.2.1 186 = .ok (.getfield 65, 3) := by decide +kernel
theorem d_Md_change_189 : decode z_Md_change.2.2.1 189 = .ok (.putfield 65, 3) := by decide +kernel
theorem d_Md_change_192 : decode z_Md_change.2.2.1 192 = .ok (.iconst 0, 1) := by decide +kernel
theorem d_Md_change_193 : decode z_Md_change.2.2.1 193 = .ok (.istore_n 2, 1) := by decide +kernel
theorem d_Md_change_194 : decode z_Md_change.2.2.1 194 = .ok (.iload_n 2, 1) := by decide +kernel
theorem d_Md_change_195 : decode z_Md_change.2.2.1 195 = .ok (.bipush 51, 2) := by decide +kernel
theorem d_Md_change_197 : decode z_Md_change.2.2.1 197 = .ok (.if_icmp .ge 21, 3) := by decide +kernel
theorem d_Md_change_200 : decode z_Md_change.2.2.1 200 = .ok (.aload_n 0, 1) := by decide +kernel
theorem d_Md_change_201 : decode z_Md_change.2.2.1 201 = .ok (.getfield 28, 3) := by decide +kernel
theorem d_Md_change_204 : decode z_Md_change.2.2.1 204 = .ok (.iload_n 2, 1) := by decide +kernel
theorem d_Md_change_205 : decode z_Md_change.2.2.1 205 = .ok (.aload_n 0, 1) := by decide +kernel
theorem d_Md_change_206 : decode z_Md_change.2.2.1 206 = .ok (.getfield 31, 3) := by decide +kernel
theorem d_Md_change_209 : decode z_Md_change.2.2.1 209 = .ok (.iload_n 2, 1) := by decide +kernel
theorem d_Md_change_210 : decode z_Md_change.2.2.1 210 = .ok (.iaload, 1) := by decide +kernel
theorem d_Md_change_211 : decode z_Md_change.2.2.1 211 = .ok (.iastore, 1) := by decide +kernel
theorem d_Md_change_212 : decode z_Md_change.2.2.1 212 = .ok (.iinc 2 1, 3) := by decide +kernel
theorem d_Md_change_215 : decode z_Md_change.2.2.1 215 = .ok (.goto (-21), 3) := by decide +kernel
theorem d_Md_change_218 : decode z_Md_change.2.2.1 218 = .ok (.return_, 1) := by decide +kernel
def lc_Md_change_0 : jx_Cx := (cCmp rLt (eI 1) (eInt (nI 49)))
def lb_Md_change_0 : jx_St := (sSeq (sSt 0 0 (eGf [8] 7 (eA 0)) (eInt (nI 49)) (eBin oAdd (eLd 0 (eGf [8] 7 (eA 0)) (eInt (nI 49))) (eBin oMul (eLd 0 (eGf [8] 7 (eA 0)) (eI 1)) (eBin oAdd (eI 1) (eInt (nI 1)))))) (sInc 1 (nI 1)))
theorem ml_Md_change_0 : jx_Ts z_Md_change 48 (sWh 64 lc_Md_change_0 lb_Md_change_0) [85] := by
  unfold lc_Md_change_0 lb_Md_change_0
  exact t_wh (EA := [82]) (Fs := [85]) (E := [85]) 64 (s_cmp (s_iload_n d_Md_change_48 rfl) (s_bipush d_Md_change_49 (by decide)) (s_icmp_geF (tgt := 85) d_Md_change_51 (by decide))) (by decide) (t_seq (t_st (s_getf (s_aload_n d_Md_change_54 rfl) fi_Md_31 d_Md_change_55) (s_bipush d_Md_change_58 (by decide)) (s_bin (s_load (s_getf (s_aload_n d_Md_change_60 rfl) fi_Md_31 d_Md_change_61) (s_bipush d_Md_change_64 (by decide)) (s_iald d_Md_change_66)) (s_bin (s_load (s_getf (s_aload_n d_Md_change_67 rfl) fi_Md_31 d_Md_change_68) (s_iload_n d_Md_change_71 rfl) (s_iald d_Md_change_72)) (s_bin (s_iload_n d_Md_change_73 rfl) (s_iconst d_Md_change_74 (by decide)) (s_iadd d_Md_change_75)) (s_imul d_Md_change_76)) (s_iadd d_Md_change_77)) (s_iast d_Md_change_78)) (t_iinc d_Md_change_79 (by decide) (by decide))) (al_1 (Or.inr ⟨-34, d_Md_change_82, by decide⟩)) (by decide)
def lc_Md_change_1 : jx_Cx := (cAnd (cCmp rLt (eI 1) (eInt (nI 4))) (cCmp0 rNe (eGf [8] 4 (eA 0))))
def lb_Md_change_1 : jx_St := (sSeq (sIf (cAnd (cCmp0 rGt (eLd 0 (eGf [8] 7 (eA 0)) (eBin oAdd (eInt (nI 1)) (eI 1)))) (cCmp0 rNe (eLd 2 (eGf [8] 1 (eA 0)) (eI 1)))) (sCl (jx_ev tb_Md_writeTo) [(eA 0), (eI 1), (eGf [8] 7 (eA 0))]) sSkip) (sInc 1 (nI 1)))
theorem ml_Md_change_1 : jx_Ts z_Md_change 87 (sWh 64 lc_Md_change_1 lb_Md_change_1) [134] := by
  unfold lc_Md_change_1 lb_Md_change_1
  exact t_wh (EA := [131]) (Fs := [134]) (E := [134]) 64 (s_andg (s_cmp (s_iload_n d_Md_change_87 rfl) (s_iconst d_Md_change_88 (by decide)) (s_icmp_geF (tgt := 134) d_Md_change_89 (by decide))) (by decide) (al_1 (s_cmp0 (s_getf (s_aload_n d_Md_change_92 rfl) fi_Md_20 d_Md_change_93) (s_if_eqF (tgt := 134) d_Md_change_96 (by decide))))) (by decide) (t_seq (t_if1 (Fs := [128]) (E := [128]) (s_andg (s_cmp0 (s_load (s_getf (s_aload_n d_Md_change_99 rfl) fi_Md_31 d_Md_change_100) (s_bin (s_iconst d_Md_change_103 (by decide)) (s_iload_n d_Md_change_104 rfl) (s_iadd d_Md_change_105)) (s_iald d_Md_change_106)) (s_if_leF (tgt := 128) d_Md_change_107 (by decide))) (by decide) (al_1 (s_cmp0 (s_load (s_getf (s_aload_n d_Md_change_110 rfl) fi_Md_7 d_Md_change_111) (s_iload_n d_Md_change_114 rfl) (s_zald d_Md_change_115)) (s_if_eqF (tgt := 128) d_Md_change_116 (by decide))))) (by decide) (t_sub (E := [128]) (E' := [128]) (t_cl (s_a1 (s_aload_n d_Md_change_119 rfl) (s_a1 (s_iload_n d_Md_change_120 rfl) (s_a1 (s_getf (s_aload_n d_Md_change_121 rfl) fi_Md_31 d_Md_change_122) s_a0))) (s_ecv (ve_Md_writeTo (by decide) (by decide)) dc_Md_writeTo (by decide) lm_Md_55 pd_Md_writeTo d_Md_change_125)) (by decide)) (by decide)) (t_iinc d_Md_change_128 (by decide) (by decide))) (al_1 (Or.inr ⟨-44, d_Md_change_131, by decide⟩)) (by decide)
def lc_Md_change_2 : jx_Cx := (cCmp rLt (eI 2) (eInt (nI 51)))
def lb_Md_change_2 : jx_St := (sSeq (sSt 0 0 (eGf [8] 6 (eA 0)) (eI 2) (eLd 0 (eGf [8] 7 (eA 0)) (eI 2))) (sInc 2 (nI 1)))
theorem ml_Md_change_2 : jx_Ts z_Md_change 194 (sWh 64 lc_Md_change_2 lb_Md_change_2) [218] := by
  unfold lc_Md_change_2 lb_Md_change_2
  exact t_wh (EA := [215]) (Fs := [218]) (E := [218]) 64 (s_cmp (s_iload_n d_Md_change_194 rfl) (s_bipush d_Md_change_195 (by decide)) (s_icmp_geF (tgt := 218) d_Md_change_197 (by decide))) (by decide) (t_seq (t_st (s_getf (s_aload_n d_Md_change_200 rfl) fi_Md_28 d_Md_change_201) (s_iload_n d_Md_change_204 rfl) (s_load (s_getf (s_aload_n d_Md_change_205 rfl) fi_Md_31 d_Md_change_206) (s_iload_n d_Md_change_209 rfl) (s_iald d_Md_change_210)) (s_iast d_Md_change_211)) (t_iinc d_Md_change_212 (by decide) (by decide))) (al_1 (Or.inr ⟨-21, d_Md_change_215, by decide⟩)) (by decide)
def bd_Md_change : jx_St := (sSeq (sSeq (sSt 0 0 (eGf [8] 7 (eA 0)) (eInt (nI 0)) (eBin oAdd (eLd 0 (eGf [8] 6 (eA 0)) (eInt (nI 0))) (eIte (cCmp0 rNe (eCl (jx_ev tb_Md_isOneAbsent) [(eA 0)])) (eInt (nI 2)) (eInt (nI 1))))) (sSeq (sSt 0 0 (eGf [8] 7 (eA 0)) (eInt (nI 50)) (eLd 0 (eGf [8] 7 (eA 0)) (eInt (nI 0)))) (sSeq (sSt 0 0 (eGf [8] 7 (eA 0)) (eInt (nI 49)) (eInt (nI 0))) (sSeq (sSeq (sAsg 0 1 (eInt (nI 0))) (sWh 64 lc_Md_change_0 lb_Md_change_0)) (sSeq (sSeq (sAsg 0 1 (eInt (nI 0))) (sWh 64 lc_Md_change_1 lb_Md_change_1)) (sSeq (sIf (cNot (cCmp0 rNe (eGf [8] 4 (eA 0)))) sRetV sSkip) (sSeq (sAsg 0 1 (eBin oAdd (eBin oAdd (eInt (nI 9)) (eBin oMul (eInt (nI 10)) (eGf [8] 9 (eA 0)))) (eGf [8] 10 (eA 0)))) (sSeq (sPf [8] 11 0 (eA 0) (eIte (cAnd (cCmp0 rGt (eGf [8] 11 (eA 0))) (cCmp rNe (eLd 0 (eGf [8] 7 (eA 0)) (eI 1)) (eLd 0 (eGf [8] 6 (eA 0)) (eI 1)))) (eInt (nI 0)) (eGf [8] 11 (eA 0)))) (sSeq (sAsg 0 2 (eInt (nI 0))) (sWh 64 lc_Md_change_2 lb_Md_change_2)))))))))) sRetV)
theorem m_Md_change : jx_Ts z_Md_change 0 bd_Md_change [] := by
  unfold bd_Md_change
  exact (t_seq (t_seq (t_st (s_getf (s_aload_n d_Md_change_0 rfl) fi_Md_31 d_Md_change_1) (s_iconst d_Md_change_4 (by decide)) (s_bin (s_load (s_getf (s_aload_n d_Md_change_5 rfl) fi_Md_28 d_Md_change_6) (s_iconst d_Md_change_9 (by decide)) (s_iald d_Md_change_10)) (s_ite (q4 := 23) (s_cmp0 (s_cl (s_a1 (s_aload_n d_Md_change_11 rfl) s_a0) (s_ecv (ve_Md_isOneAbsent (by decide) (by decide)) dc_Md_isOneAbsent (by decide) lm_Md_52 pd_Md_isOneAbsent d_Md_change_12)) (s_if_eqF (tgt := 22) d_Md_change_15 (by decide))) (s_iconst d_Md_change_18 (by decide)) d_Md_change_19 (by decide) (s_iconst d_Md_change_22 (by decide))) (s_iadd d_Md_change_23)) (s_iast d_Md_change_24)) (t_seq (t_st (s_getf (s_aload_n d_Md_change_25 rfl) fi_Md_31 d_Md_change_26) (s_bipush d_Md_change_29 (by decide)) (s_load (s_getf (s_aload_n d_Md_change_31 rfl) fi_Md_31 d_Md_change_32) (s_iconst d_Md_change_35 (by decide)) (s_iald d_Md_change_36)) (s_iast d_Md_change_37)) (t_seq (t_st (s_getf (s_aload_n d_Md_change_38 rfl) fi_Md_31 d_Md_change_39) (s_bipush d_Md_change_42 (by decide)) (s_iconst d_Md_change_44 (by decide)) (s_iast d_Md_change_45)) (t_seq (t_seq (t_asg (s_iconst d_Md_change_46 (by decide)) (fun v k h => b_istore_n d_Md_change_47 rfl (by decide) h)) ml_Md_change_0) (t_seq (t_seq (t_asg (s_iconst d_Md_change_85 (by decide)) (fun v k h => b_istore_n d_Md_change_86 rfl (by decide) h)) ml_Md_change_1) (t_seq (t_if1 (Fs := [142]) (E := [142]) (s_not (s_cmp0 (s_getf (s_aload_n d_Md_change_134 rfl) fi_Md_20 d_Md_change_135) (s_if_neT (tgt := 142) d_Md_change_138 (by decide))) (by decide)) (by decide) (t_sub (E := []) (E' := [142]) (t_retv rfl d_Md_change_141) (by decide)) (by decide)) (t_seq (t_asg (s_bin (s_bin (s_bipush d_Md_change_142 (by decide)) (s_bin (s_bipush d_Md_change_144 (by decide)) (s_getf (s_aload_n d_Md_change_146 rfl) fi_Md_59 d_Md_change_147) (s_imul d_Md_change_150)) (s_iadd d_Md_change_151)) (s_getf (s_aload_n d_Md_change_152 rfl) fi_Md_62 d_Md_change_153) (s_iadd d_Md_change_156)) (fun v k h => b_istore_n d_Md_change_157 rfl (by decide) h)) (t_seq (t_pf (s_aload_n d_Md_change_158 rfl) (s_ite (q4 := 189) (s_andg (s_cmp0 (s_getf (s_aload_n d_Md_change_159 rfl) fi_Md_65 d_Md_change_160) (s_if_leF (tgt := 185) d_Md_change_163 (by decide))) (by decide) (al_1 (s_cmp (s_load (s_getf (s_aload_n d_Md_change_166 rfl) fi_Md_31 d_Md_change_167) (s_iload_n d_Md_change_170 rfl) (s_iald d_Md_change_171)) (s_load (s_getf (s_aload_n d_Md_change_172 rfl) fi_Md_28 d_Md_change_173) (s_iload_n d_Md_change_176 rfl) (s_iald d_Md_change_177)) (s_icmp_eqF (tgt := 185) d_Md_change_178 (by decide))))) (s_iconst d_Md_change_181 (by decide)) d_Md_change_182 (by decide) (s_getf (s_aload_n d_Md_change_185 rfl) fi_Md_65 d_Md_change_186)) fi_Md_65 rfl (Or.inl rfl) d_Md_change_189) (t_seq (t_asg (s_iconst d_Md_change_192 (by decide)) (fun v k h => b_istore_n d_Md_change_193 rfl (by decide) h)) ml_Md_change_2))))))))) (t_retv rfl d_Md_change_218))
def f_Md_change : jx_Mt := jx_fn 1 3 (bd_Md_change fun _ _ => none)
theorem me_Md_change : jx_Me 1 z_Md_change f_Md_change := jx_Me.ofT (by decide) m_Md_change
theorem mw_Md_change : jx_mw ⟨"ExtentShelfModel", "change", "()V"⟩ z_Md_change := ⟨rfl, rfl, by decide +kernel, ⟨by decide, by decide⟩, by decide +kernel⟩
theorem pd_Md_change : (parseMethodDescriptor (⟨"ExtentShelfModel", "change", "()V"⟩ : MethodName).desc).map (fun d => d.parameters.length) = some 0 := by decide +kernel
/-! ExtentShelfModel.ended(I)I -/
abbrev z_Md_ended : jx_Z := ("ExtentShelfModel", "ended", prog_11_method_19_code, 2, some .int, 0, 0)
theorem d_Md_ended_0 : decode z_Md_ended.2.2.1 0 = .ok (.aload_n 0, 1) := by decide +kernel
theorem d_Md_ended_1 : decode z_Md_ended.2.2.1 1 = .ok (.aload_n 0, 1) := by decide +kernel
theorem d_Md_ended_2 : decode z_Md_ended.2.2.1 2 = .ok (.getfield 20, 3) := by decide +kernel
theorem d_Md_ended_5 : decode z_Md_ended.2.2.1 5 = .ok (.ifCond .eq 7, 3) := by decide +kernel
theorem d_Md_ended_8 : decode z_Md_ended.2.2.1 8 = .ok (.iconst 0, 1) := by decide +kernel
theorem d_Md_ended_9 : decode z_Md_ended.2.2.1 9 = .ok (.goto 4, 3) := by decide +kernel
theorem d_Md_ended_12 : decode z_Md_ended.2.2.1 12 = .ok (.iconst 1, 1) := by decide +kernel
theorem d_Md_ended_13 : decode z_Md_ended.2.2.1 13 = .ok (.putfield 37, 3) := by decide +kernel
theorem d_Md_ended_16 : decode z_Md_ended.2.2.1 16 = .ok (.aload_n 0, 1) := by decide +kernel
theorem d_Md_ended_17 : decode z_Md_ended.2.2.1 17 = .ok (.getfield 20, 3) := by decide +kernel
theorem d_Md_ended_20 : decode z_Md_ended.2.2.1 20 = .ok (.ifCond .eq 7, 3) := by decide +kernel
theorem d_Md_ended_23 : decode z_Md_ended.2.2.1 23 = .ok (.iload_n 1, 1) := by decide +kernel
theorem d_Md_ended_24 : decode z_Md_ended.2.2.1 24 = .ok (.goto 4, 3) := by decide +kernel
theorem d_Md_ended_27 : decode z_Md_ended.2.2.1 27 = .ok (.iconst 0, 1) := by decide +kernel
theorem d_Md_ended_28 : decode z_Md_ended.2.2.1 28 = .ok (.ireturn, 1) := by decide +kernel
def bd_Md_ended : jx_St := (sSeq (sPf [8] 0 0 (eA 0) (eIte (cCmp0 rNe (eGf [8] 4 (eA 0))) (eInt (nI 0)) (eInt (nI 1)))) (sRet 0 (eIte (cCmp0 rNe (eGf [8] 4 (eA 0))) (eI 1) (eInt (nI 0)))))
theorem m_Md_ended : jx_Ts z_Md_ended 0 bd_Md_ended [] := by
  unfold bd_Md_ended
  exact (t_seq (t_pf (s_aload_n d_Md_ended_0 rfl) (s_ite (q4 := 13) (s_cmp0 (s_getf (s_aload_n d_Md_ended_1 rfl) fi_Md_20 d_Md_ended_2) (s_if_eqF (tgt := 12) d_Md_ended_5 (by decide))) (s_iconst d_Md_ended_8 (by decide)) d_Md_ended_9 (by decide) (s_iconst d_Md_ended_12 (by decide))) fi_Md_37 rfl (Or.inl rfl) d_Md_ended_13) (t_ret .int (s_ite (q4 := 28) (s_cmp0 (s_getf (s_aload_n d_Md_ended_16 rfl) fi_Md_20 d_Md_ended_17) (s_if_eqF (tgt := 27) d_Md_ended_20 (by decide))) (s_iload_n d_Md_ended_23 rfl) d_Md_ended_24 (by decide) (s_iconst d_Md_ended_27 (by decide))) rfl (by decide) d_Md_ended_28))
def f_Md_ended : jx_Mt := jx_fn 2 2 (bd_Md_ended fun _ _ => none)
theorem me_Md_ended : jx_Me 2 z_Md_ended f_Md_ended := jx_Me.ofT (by decide) m_Md_ended
theorem mw_Md_ended : jx_mw ⟨"ExtentShelfModel", "ended", "(I)I"⟩ z_Md_ended := ⟨rfl, rfl, by decide +kernel, ⟨by decide, by decide⟩, by decide +kernel⟩
theorem pd_Md_ended : (parseMethodDescriptor (⟨"ExtentShelfModel", "ended", "(I)I"⟩ : MethodName).desc).map (fun d => d.parameters.length) = some 1 := by decide +kernel
