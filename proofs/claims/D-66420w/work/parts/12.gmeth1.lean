/-! METHODS, printed by jgen.py -/
/-! ExtentShelf.diskOf(I)I -/
abbrev z_Sh_diskOf : jx_Z := ("ExtentShelf", "diskOf", prog_1_method_1_code, 1, some .int, 0, 0)
theorem d_Sh_diskOf_0 : decode z_Sh_diskOf.2.2.1 0 = .ok (.iload_n 0, 1) := by decide +kernel
theorem d_Sh_diskOf_1 : decode z_Sh_diskOf.2.2.1 1 = .ok (.iconst 1, 1) := by decide +kernel
theorem d_Sh_diskOf_2 : decode z_Sh_diskOf.2.2.1 2 = .ok (.isub, 1) := by decide +kernel
theorem d_Sh_diskOf_3 : decode z_Sh_diskOf.2.2.1 3 = .ok (.iconst 3, 1) := by decide +kernel
theorem d_Sh_diskOf_4 : decode z_Sh_diskOf.2.2.1 4 = .ok (.ishr, 1) := by decide +kernel
theorem d_Sh_diskOf_5 : decode z_Sh_diskOf.2.2.1 5 = .ok (.ireturn, 1) := by decide +kernel
def bd_Sh_diskOf : jx_St := (sRet 0 (eBin oShr (eBin oSub (eI 0) (eInt (nI 1))) (eInt (nI 3))))
theorem m_Sh_diskOf : jx_Ts z_Sh_diskOf 0 bd_Sh_diskOf [] := by
  unfold bd_Sh_diskOf
  exact (t_ret .int (s_bin (s_bin (s_iload_n d_Sh_diskOf_0 rfl) (s_iconst d_Sh_diskOf_1 (by decide)) (s_isub d_Sh_diskOf_2)) (s_iconst d_Sh_diskOf_3 (by decide)) (s_ishr d_Sh_diskOf_4)) rfl (by decide) d_Sh_diskOf_5)
def f_Sh_diskOf : jx_Mt := jx_fn 1 1 (bd_Sh_diskOf fun _ _ => none)
theorem me_Sh_diskOf : jx_Me 1 z_Sh_diskOf f_Sh_diskOf := jx_Me.ofT (by decide) m_Sh_diskOf
theorem mw_Sh_diskOf : jx_mw ⟨"ExtentShelf", "diskOf", "(I)I"⟩ z_Sh_diskOf := ⟨rfl, rfl, by decide +kernel, ⟨by decide, by decide⟩, by decide +kernel⟩
theorem pd_Sh_diskOf : (parseMethodDescriptor (⟨"ExtentShelf", "diskOf", "(I)I"⟩ : MethodName).desc).map (fun d => d.parameters.length) = some 1 := by decide +kernel
/-! ExtentShelf.placeOf(I)I -/
abbrev z_Sh_placeOf : jx_Z := ("ExtentShelf", "placeOf", prog_1_method_2_code, 1, some .int, 0, 0)
theorem d_Sh_placeOf_0 : decode z_Sh_placeOf.2.2.1 0 = .ok (.iload_n 0, 1) := by decide +kernel
theorem d_Sh_placeOf_1 : decode z_Sh_placeOf.2.2.1 1 = .ok (.iconst 1, 1) := by decide +kernel
theorem d_Sh_placeOf_2 : decode z_Sh_placeOf.2.2.1 2 = .ok (.isub, 1) := by decide +kernel
theorem d_Sh_placeOf_3 : decode z_Sh_placeOf.2.2.1 3 = .ok (.bipush 7, 2) := by decide +kernel
theorem d_Sh_placeOf_5 : decode z_Sh_placeOf.2.2.1 5 = .ok (.iand, 1) := by decide +kernel
theorem d_Sh_placeOf_6 : decode z_Sh_placeOf.2.2.1 6 = .ok (.ireturn, 1) := by decide +kernel
def bd_Sh_placeOf : jx_St := (sRet 0 (eBin oAnd (eBin oSub (eI 0) (eInt (nI 1))) (eInt (nI 7))))
theorem m_Sh_placeOf : jx_Ts z_Sh_placeOf 0 bd_Sh_placeOf [] := by
  unfold bd_Sh_placeOf
  exact (t_ret .int (s_bin (s_bin (s_iload_n d_Sh_placeOf_0 rfl) (s_iconst d_Sh_placeOf_1 (by decide)) (s_isub d_Sh_placeOf_2)) (s_bipush d_Sh_placeOf_3 (by decide)) (s_iand d_Sh_placeOf_5)) rfl (by decide) d_Sh_placeOf_6)
def f_Sh_placeOf : jx_Mt := jx_fn 1 1 (bd_Sh_placeOf fun _ _ => none)
theorem me_Sh_placeOf : jx_Me 1 z_Sh_placeOf f_Sh_placeOf := jx_Me.ofT (by decide) m_Sh_placeOf
theorem mw_Sh_placeOf : jx_mw ⟨"ExtentShelf", "placeOf", "(I)I"⟩ z_Sh_placeOf := ⟨rfl, rfl, by decide +kernel, ⟨by decide, by decide⟩, by decide +kernel⟩
theorem pd_Sh_placeOf : (parseMethodDescriptor (⟨"ExtentShelf", "placeOf", "(I)I"⟩ : MethodName).desc).map (fun d => d.parameters.length) = some 1 := by decide +kernel
/-! ExtentShelf$Disk.<init>(I)V -/
abbrev z_Dk_init : jx_Z := ("ExtentShelf$Disk", "<init>", prog_2_method_1_code, 2, none, 1, 28)
theorem d_Dk_init_0 : decode z_Dk_init.2.2.1 0 = .ok (.aload_n 0, 1) := by decide +kernel
theorem d_Dk_init_1 : decode z_Dk_init.2.2.1 1 = .ok (.invokespecial 3, 3) := by decide +kernel
theorem d_Dk_init_4 : decode z_Dk_init.2.2.1 4 = .ok (.aload_n 0, 1) := by decide +kernel
theorem d_Dk_init_5 : decode z_Dk_init.2.2.1 5 = .ok (.bipush 102, 2) := by decide +kernel
theorem d_Dk_init_7 : decode z_Dk_init.2.2.1 7 = .ok (.newarray .int, 2) := by decide +kernel
theorem d_Dk_init_9 : decode z_Dk_init.2.2.1 9 = .ok (.putfield 9, 3) := by decide +kernel
theorem d_Dk_init_12 : decode z_Dk_init.2.2.1 12 = .ok (.aload_n 0, 1) := by decide +kernel
theorem d_Dk_init_13 : decode z_Dk_init.2.2.1 13 = .ok (.bipush 32, 2) := by decide +kernel
theorem d_Dk_init_15 : decode z_Dk_init.2.2.1 15 = .ok (.newarray .int, 2) := by decide +kernel
theorem d_Dk_init_17 : decode z_Dk_init.2.2.1 17 = .ok (.putfield 15, 3) := by decide +kernel
theorem d_Dk_init_20 : decode z_Dk_init.2.2.1 20 = .ok (.aload_n 0, 1) := by decide +kernel
theorem d_Dk_init_21 : decode z_Dk_init.2.2.1 21 = .ok (.iconst 1, 1) := by decide +kernel
theorem d_Dk_init_22 : decode z_Dk_init.2.2.1 22 = .ok (.putfield 18, 3) := by decide +kernel
theorem d_Dk_init_25 : decode z_Dk_init.2.2.1 25 = .ok (.aload_n 0, 1) := by decide +kernel
theorem d_Dk_init_26 : decode z_Dk_init.2.2.1 26 = .ok (.iload_n 1, 1) := by decide +kernel
theorem d_Dk_init_27 : decode z_Dk_init.2.2.1 27 = .ok (.putfield 22, 3) := by decide +kernel
theorem d_Dk_init_30 : decode z_Dk_init.2.2.1 30 = .ok (.return_, 1) := by decide +kernel
def bd_Dk_init : jx_St := (sSeq (sObj (eA 0)) (sSeq (sPf [1] 1 2 (eA 0) (eNa 0 (eInt (nI 102)))) (sSeq (sPf [1] 2 2 (eA 0) (eNa 0 (eInt (nI 32)))) (sSeq (sPf [1] 3 1 (eA 0) (eInt (nI 1))) (sSeq (sPf [1] 0 0 (eA 0) (eI 1)) sRetV)))))
theorem m_Dk_init : jx_Ts z_Dk_init 0 bd_Dk_init [] := by
  unfold bd_Dk_init
  exact (t_seq (t_obj (s_aload_n d_Dk_init_0 rfl) (by decide +kernel) (by decide +kernel) (by decide +kernel) (by decide) (by decide) d_Dk_init_1) (t_seq (t_pf (s_aload_n d_Dk_init_4 rfl) (s_na (s_bipush d_Dk_init_5 (by decide)) (s_newa (by decide) rfl (by decide +kernel) d_Dk_init_7)) fi_Dk_9 rfl (Or.inr ⟨rfl, jx_fin (by decide +kernel)⟩) d_Dk_init_9) (t_seq (t_pf (s_aload_n d_Dk_init_12 rfl) (s_na (s_bipush d_Dk_init_13 (by decide)) (s_newa (by decide) rfl (by decide +kernel) d_Dk_init_15)) fi_Dk_15 rfl (Or.inr ⟨rfl, jx_fin (by decide +kernel)⟩) d_Dk_init_17) (t_seq (t_pf (s_aload_n d_Dk_init_20 rfl) (s_iconst d_Dk_init_21 (by decide)) fi_Dk_18 rfl (Or.inl rfl) d_Dk_init_22) (t_seq (t_pf (s_aload_n d_Dk_init_25 rfl) (s_iload_n d_Dk_init_26 rfl) fi_Dk_22 rfl (Or.inr ⟨rfl, jx_fin (by decide +kernel)⟩) d_Dk_init_27) (t_retv rfl d_Dk_init_30))))))
def f_Dk_init : jx_Mt := jx_fn 2 2 (bd_Dk_init fun _ _ => none)
theorem me_Dk_init : jx_Me 2 z_Dk_init f_Dk_init := jx_Me.ofT (by decide) m_Dk_init
theorem mw_Dk_init : jx_mw ⟨"ExtentShelf$Disk", "<init>", "(I)V"⟩ z_Dk_init := ⟨rfl, rfl, by decide +kernel, ⟨by decide, by decide⟩, by decide +kernel⟩
theorem pd_Dk_init : (parseMethodDescriptor (⟨"ExtentShelf$Disk", "<init>", "(I)V"⟩ : MethodName).desc).map (fun d => d.parameters.length) = some 1 := by decide +kernel
/-! ExtentShelf$Pen.<init>()V -/
abbrev z_Pn_init : jx_Z := ("ExtentShelf$Pen", "<init>", prog_5_method_1_code, 1, none, 1, 28)
theorem d_Pn_init_0 : decode z_Pn_init.2.2.1 0 = .ok (.aload_n 0, 1) := by decide +kernel
theorem d_Pn_init_1 : decode z_Pn_init.2.2.1 1 = .ok (.invokespecial 3, 3) := by decide +kernel
theorem d_Pn_init_4 : decode z_Pn_init.2.2.1 4 = .ok (.aload_n 0, 1) := by decide +kernel
theorem d_Pn_init_5 : decode z_Pn_init.2.2.1 5 = .ok (.iconst (-1), 1) := by decide +kernel
theorem d_Pn_init_6 : decode z_Pn_init.2.2.1 6 = .ok (.putfield 9, 3) := by decide +kernel
theorem d_Pn_init_9 : decode z_Pn_init.2.2.1 9 = .ok (.aload_n 0, 1) := by decide +kernel
theorem d_Pn_init_10 : decode z_Pn_init.2.2.1 10 = .ok (.iconst 1, 1) := by decide +kernel
theorem d_Pn_init_11 : decode z_Pn_init.2.2.1 11 = .ok (.putfield 15, 3) := by decide +kernel
theorem d_Pn_init_14 : decode z_Pn_init.2.2.1 14 = .ok (.return_, 1) := by decide +kernel
def bd_Pn_init : jx_St := (sSeq (sObj (eA 0)) (sSeq (sPf [2] 0 0 (eA 0) (eInt (-1))) (sSeq (sPf [2] 1 1 (eA 0) (eInt (nI 1))) sRetV)))
theorem m_Pn_init : jx_Ts z_Pn_init 0 bd_Pn_init [] := by
  unfold bd_Pn_init
  exact (t_seq (t_obj (s_aload_n d_Pn_init_0 rfl) (by decide +kernel) (by decide +kernel) (by decide +kernel) (by decide) (by decide) d_Pn_init_1) (t_seq (t_pf (s_aload_n d_Pn_init_4 rfl) (s_iconst d_Pn_init_5 (by decide)) fi_Pn_9 rfl (Or.inl rfl) d_Pn_init_6) (t_seq (t_pf (s_aload_n d_Pn_init_9 rfl) (s_iconst d_Pn_init_10 (by decide)) fi_Pn_15 rfl (Or.inl rfl) d_Pn_init_11) (t_retv rfl d_Pn_init_14))))
def f_Pn_init : jx_Mt := jx_fn 1 1 (bd_Pn_init fun _ _ => none)
theorem me_Pn_init : jx_Me 1 z_Pn_init f_Pn_init := jx_Me.ofT (by decide) m_Pn_init
theorem mw_Pn_init : jx_mw ⟨"ExtentShelf$Pen", "<init>", "()V"⟩ z_Pn_init := ⟨rfl, rfl, by decide +kernel, ⟨by decide, by decide⟩, by decide +kernel⟩
theorem pd_Pn_init : (parseMethodDescriptor (⟨"ExtentShelf$Pen", "<init>", "()V"⟩ : MethodName).desc).map (fun d => d.parameters.length) = some 0 := by decide +kernel
/-! ExtentShelf$Table.<init>()V -/
abbrev z_Tb_init : jx_Z := ("ExtentShelf$Table", "<init>", prog_7_method_1_code, 1, none, 1, 28)
theorem d_Tb_init_0 : decode z_Tb_init.2.2.1 0 = .ok (.aload_n 0, 1) := by decide +kernel
theorem d_Tb_init_1 : decode z_Tb_init.2.2.1 1 = .ok (.invokespecial 3, 3) := by decide +kernel
theorem d_Tb_init_4 : decode z_Tb_init.2.2.1 4 = .ok (.aload_n 0, 1) := by decide +kernel
theorem d_Tb_init_5 : decode z_Tb_init.2.2.1 5 = .ok (.iconst 4, 1) := by decide +kernel
theorem d_Tb_init_6 : decode z_Tb_init.2.2.1 6 = .ok (.newarray .int, 2) := by decide +kernel
theorem d_Tb_init_8 : decode z_Tb_init.2.2.1 8 = .ok (.putfield 9, 3) := by decide +kernel
theorem d_Tb_init_11 : decode z_Tb_init.2.2.1 11 = .ok (.aload_n 0, 1) := by decide +kernel
theorem d_Tb_init_12 : decode z_Tb_init.2.2.1 12 = .ok (.iconst 4, 1) := by decide +kernel
theorem d_Tb_init_13 : decode z_Tb_init.2.2.1 13 = .ok (.anewarray 15, 3) := by decide +kernel
theorem d_Tb_init_16 : decode z_Tb_init.2.2.1 16 = .ok (.putfield 17, 3) := by decide +kernel
theorem d_Tb_init_19 : decode z_Tb_init.2.2.1 19 = .ok (.return_, 1) := by decide +kernel
def bd_Tb_init : jx_St := (sSeq (sObj (eA 0)) (sSeq (sPf [3] 1 2 (eA 0) (eNa 0 (eInt (nI 4)))) (sSeq (sPf [3] 2 2 (eA 0) (eNa 4 (eInt (nI 4)))) sRetV)))
theorem m_Tb_init : jx_Ts z_Tb_init 0 bd_Tb_init [] := by
  unfold bd_Tb_init
  exact (t_seq (t_obj (s_aload_n d_Tb_init_0 rfl) (by decide +kernel) (by decide +kernel) (by decide +kernel) (by decide) (by decide) d_Tb_init_1) (t_seq (t_pf (s_aload_n d_Tb_init_4 rfl) (s_na (s_iconst d_Tb_init_5 (by decide)) (s_newa (by decide) rfl (by decide +kernel) d_Tb_init_6)) fi_Tb_9 rfl (Or.inr ⟨rfl, jx_fin (by decide +kernel)⟩) d_Tb_init_8) (t_seq (t_pf (s_aload_n d_Tb_init_11 rfl) (s_na (s_iconst d_Tb_init_12 (by decide)) (s_newq ⟨Or.inr rfl, rfl⟩ (by decide +kernel) (by decide +kernel) d_Tb_init_13)) fi_Tb_17 rfl (Or.inr ⟨rfl, jx_fin (by decide +kernel)⟩) d_Tb_init_16) (t_retv rfl d_Tb_init_19))))
def f_Tb_init : jx_Mt := jx_fn 1 1 (bd_Tb_init fun _ _ => none)
theorem me_Tb_init : jx_Me 1 z_Tb_init f_Tb_init := jx_Me.ofT (by decide) m_Tb_init
theorem mw_Tb_init : jx_mw ⟨"ExtentShelf$Table", "<init>", "()V"⟩ z_Tb_init := ⟨rfl, rfl, by decide +kernel, ⟨by decide, by decide⟩, by decide +kernel⟩
theorem pd_Tb_init : (parseMethodDescriptor (⟨"ExtentShelf$Table", "<init>", "()V"⟩ : MethodName).desc).map (fun d => d.parameters.length) = some 0 := by decide +kernel
/-! ExtentShelf.<init>()V -/
abbrev z_Sh_init : jx_Z := ("ExtentShelf", "<init>", prog_1_method_3_code, 1, none, 2, 57)
theorem d_Sh_init_0 : decode z_Sh_init.2.2.1 0 = .ok (.aload_n 0, 1) := by decide +kernel
theorem d_Sh_init_1 : decode z_Sh_init.2.2.1 1 = .ok (.invokespecial 1, 3) := by decide +kernel
theorem d_Sh_init_4 : decode z_Sh_init.2.2.1 4 = .ok (.aload_n 0, 1) := by decide +kernel
theorem d_Sh_init_5 : decode z_Sh_init.2.2.1 5 = .ok (.iconst 4, 1) := by decide +kernel
theorem d_Sh_init_6 : decode z_Sh_init.2.2.1 6 = .ok (.anewarray 7, 3) := by decide +kernel
theorem d_Sh_init_9 : decode z_Sh_init.2.2.1 9 = .ok (.dup, 1) := by decide +kernel
theorem d_Sh_init_10 : decode z_Sh_init.2.2.1 10 = .ok (.iconst 0, 1) := by decide +kernel
theorem d_Sh_init_11 : decode z_Sh_init.2.2.1 11 = .ok (.new 7, 3) := by decide +kernel
theorem d_Sh_init_14 : decode z_Sh_init.2.2.1 14 = .ok (.dup, 1) := by decide +kernel
theorem d_Sh_init_15 : decode z_Sh_init.2.2.1 15 = .ok (.iconst 0, 1) := by decide +kernel
theorem d_Sh_init_16 : decode z_Sh_init.2.2.1 16 = .ok (.invokespecial 9, 3) := by decide +kernel
theorem d_Sh_init_19 : decode z_Sh_init.2.2.1 19 = .ok (.aastore, 1) := by decide +kernel
theorem d_Sh_init_20 : decode z_Sh_init.2.2.1 20 = .ok (.dup, 1) := by decide +kernel
theorem d_Sh_init_21 : decode z_Sh_init.2.2.1 21 = .ok (.iconst 1, 1) := by decide +kernel
theorem d_Sh_init_22 : decode z_Sh_init.2.2.1 22 = .ok (.new 7, 3) := by decide +kernel
theorem d_Sh_init_25 : decode z_Sh_init.2.2.1 25 = .ok (.dup, 1) := by decide +kernel
theorem d_Sh_init_26 : decode z_Sh_init.2.2.1 26 = .ok (.iconst 1, 1) := by decide +kernel
theorem d_Sh_init_27 : decode z_Sh_init.2.2.1 27 = .ok (.invokespecial 9, 3) := by decide +kernel
theorem d_Sh_init_30 : decode z_Sh_init.2.2.1 30 = .ok (.aastore, 1) := by decide +kernel
theorem d_Sh_init_31 : decode z_Sh_init.2.2.1 31 = .ok (.dup, 1) := by decide +kernel
theorem d_Sh_init_32 : decode z_Sh_init.2.2.1 32 = .ok (.iconst 2, 1) := by decide +kernel
theorem d_Sh_init_33 : decode z_Sh_init.2.2.1 33 = .ok (.new 7, 3) := by decide +kernel
theorem d_Sh_init_36 : decode z_Sh_init.2.2.1 36 = .ok (.dup, 1) := by decide +kernel
theorem d_Sh_init_37 : decode z_Sh_init.2.2.1 37 = .ok (.iconst 2, 1) := by decide +kernel
theorem d_Sh_init_38 : decode z_Sh_init.2.2.1 38 = .ok (.invokespecial 9, 3) := by decide +kernel
theorem d_Sh_init_41 : decode z_Sh_init.2.2.1 41 = .ok (.aastore, 1) := by decide +kernel
theorem d_Sh_init_42 : decode z_Sh_init.2.2.1 42 = .ok (.dup, 1) := by decide +kernel
theorem d_Sh_init_43 : decode z_Sh_init.2.2.1 43 = .ok (.iconst 3, 1) := by decide +kernel
theorem d_Sh_init_44 : decode z_Sh_init.2.2.1 44 = .ok (.new 7, 3) := by decide +kernel
theorem d_Sh_init_47 : decode z_Sh_init.2.2.1 47 = .ok (.dup, 1) := by decide +kernel
theorem d_Sh_init_48 : decode z_Sh_init.2.2.1 48 = .ok (.iconst 3, 1) := by decide +kernel
theorem d_Sh_init_49 : decode z_Sh_init.2.2.1 49 = .ok (.invokespecial 9, 3) := by decide +kernel
theorem d_Sh_init_52 : decode z_Sh_init.2.2.1 52 = .ok (.aastore, 1) := by decide +kernel
theorem d_Sh_init_53 : decode z_Sh_init.2.2.1 53 = .ok (.putfield 12, 3) := by decide +kernel
theorem d_Sh_init_56 : decode z_Sh_init.2.2.1 56 = .ok (.aload_n 0, 1) := by decide +kernel
theorem d_Sh_init_57 : decode z_Sh_init.2.2.1 57 = .ok (.new 18, 3) := by decide +kernel
theorem d_Sh_init_60 : decode z_Sh_init.2.2.1 60 = .ok (.dup, 1) := by decide +kernel
theorem d_Sh_init_61 : decode z_Sh_init.2.2.1 61 = .ok (.invokespecial 20, 3) := by decide +kernel
theorem d_Sh_init_64 : decode z_Sh_init.2.2.1 64 = .ok (.putfield 21, 3) := by decide +kernel
theorem d_Sh_init_67 : decode z_Sh_init.2.2.1 67 = .ok (.aload_n 0, 1) := by decide +kernel
theorem d_Sh_init_68 : decode z_Sh_init.2.2.1 68 = .ok (.new 25, 3) := by decide +kernel
theorem d_Sh_init_71 : decode z_Sh_init.2.2.1 71 = .ok (.dup, 1) := by decide +kernel
theorem d_Sh_init_72 : decode z_Sh_init.2.2.1 72 = .ok (.invokespecial 27, 3) := by decide +kernel
theorem d_Sh_init_75 : decode z_Sh_init.2.2.1 75 = .ok (.putfield 28, 3) := by decide +kernel
theorem d_Sh_init_78 : decode z_Sh_init.2.2.1 78 = .ok (.aload_n 0, 1) := by decide +kernel
theorem d_Sh_init_79 : decode z_Sh_init.2.2.1 79 = .ok (.bipush 51, 2) := by decide +kernel
theorem d_Sh_init_81 : decode z_Sh_init.2.2.1 81 = .ok (.newarray .int, 2) := by decide +kernel
theorem d_Sh_init_83 : decode z_Sh_init.2.2.1 83 = .ok (.putfield 32, 3) := by decide +kernel
theorem d_Sh_init_86 : decode z_Sh_init.2.2.1 86 = .ok (.return_, 1) := by decide +kernel
def bd_Sh_init : jx_St := (sSeq (sObj (eA 0)) (sSeq (sPf [0] 0 2 (eA 0) (eIsta 3 [1] (eIsta 3 [1] (eIsta 3 [1] (eIsta 3 [1] (eNa 3 (eInt (nI 4))) (eInt (nI 0)) (eNew 1 4 [.int 0, .null, .null, .int 0] f_Dk_init [(eInt (nI 0))])) (eInt (nI 1)) (eNew 1 4 [.int 0, .null, .null, .int 0] f_Dk_init [(eInt (nI 1))])) (eInt (nI 2)) (eNew 1 4 [.int 0, .null, .null, .int 0] f_Dk_init [(eInt (nI 2))])) (eInt (nI 3)) (eNew 1 4 [.int 0, .null, .null, .int 0] f_Dk_init [(eInt (nI 3))]))) (sSeq (sPf [0] 1 2 (eA 0) (eNew 2 2 [.int 0, .int 0] f_Pn_init [])) (sSeq (sPf [0] 2 2 (eA 0) (eNew 3 3 [.int 0, .null, .null] f_Tb_init [])) (sSeq (sPf [0] 4 2 (eA 0) (eNa 0 (eInt (nI 51)))) sRetV)))))
theorem m_Sh_init : jx_Ts z_Sh_init 0 bd_Sh_init [] := by
  unfold bd_Sh_init
  exact (t_seq (t_obj (s_aload_n d_Sh_init_0 rfl) (by decide +kernel) (by decide +kernel) (by decide +kernel) (by decide) (by decide) d_Sh_init_1) (t_seq (t_pf (s_aload_n d_Sh_init_4 rfl) (s_ist0 (s_ist0 (s_ist0 (s_ist0 (s_na (s_iconst d_Sh_init_5 (by decide)) (s_newq ⟨Or.inl rfl, rfl⟩ (by decide +kernel) (by decide +kernel) d_Sh_init_6)) d_Sh_init_9 (s_iconst d_Sh_init_10 (by decide)) (s_newi (s_new (C := R_Disk) (T := F_Disk) rfl t_Disk_ok (by decide +kernel) (by decide +kernel) (by decide +kernel) (by decide +kernel) d_Sh_init_11) d_Sh_init_14 (s_a1 (s_iconst d_Sh_init_15 (by decide)) s_a0) (s_eci me_Dk_init mw_Dk_init rfl rfl (by decide) (by decide) (by decide) lm_Sh_9 (by decide +kernel) pd_Dk_init d_Sh_init_16)) (s_aast ⟨Or.inl rfl, rfl⟩ (al_1 ⟨R_Disk, F_Disk, 4, rfl, Or.inl rfl⟩) d_Sh_init_19)) d_Sh_init_20 (s_iconst d_Sh_init_21 (by decide)) (s_newi (s_new (C := R_Disk) (T := F_Disk) rfl t_Disk_ok (by decide +kernel) (by decide +kernel) (by decide +kernel) (by decide +kernel) d_Sh_init_22) d_Sh_init_25 (s_a1 (s_iconst d_Sh_init_26 (by decide)) s_a0) (s_eci me_Dk_init mw_Dk_init rfl rfl (by decide) (by decide) (by decide) lm_Sh_9 (by decide +kernel) pd_Dk_init d_Sh_init_27)) (s_aast ⟨Or.inl rfl, rfl⟩ (al_1 ⟨R_Disk, F_Disk, 4, rfl, Or.inl rfl⟩) d_Sh_init_30)) d_Sh_init_31 (s_iconst d_Sh_init_32 (by decide)) (s_newi (s_new (C := R_Disk) (T := F_Disk) rfl t_Disk_ok (by decide +kernel) (by decide +kernel) (by decide +kernel) (by decide +kernel) d_Sh_init_33) d_Sh_init_36 (s_a1 (s_iconst d_Sh_init_37 (by decide)) s_a0) (s_eci me_Dk_init mw_Dk_init rfl rfl (by decide) (by decide) (by decide) lm_Sh_9 (by decide +kernel) pd_Dk_init d_Sh_init_38)) (s_aast ⟨Or.inl rfl, rfl⟩ (al_1 ⟨R_Disk, F_Disk, 4, rfl, Or.inl rfl⟩) d_Sh_init_41)) d_Sh_init_42 (s_iconst d_Sh_init_43 (by decide)) (s_newi (s_new (C := R_Disk) (T := F_Disk) rfl t_Disk_ok (by decide +kernel) (by decide +kernel) (by decide +kernel) (by decide +kernel) d_Sh_init_44) d_Sh_init_47 (s_a1 (s_iconst d_Sh_init_48 (by decide)) s_a0) (s_eci me_Dk_init mw_Dk_init rfl rfl (by decide) (by decide) (by decide) lm_Sh_9 (by decide +kernel) pd_Dk_init d_Sh_init_49)) (s_aast ⟨Or.inl rfl, rfl⟩ (al_1 ⟨R_Disk, F_Disk, 4, rfl, Or.inl rfl⟩) d_Sh_init_52)) fi_Sh_12 rfl (Or.inr ⟨rfl, jx_fin (by decide +kernel)⟩) d_Sh_init_53) (t_seq (t_pf (s_aload_n d_Sh_init_56 rfl) (s_newi (s_new (C := R_Pen) (T := F_Pen) rfl t_Pen_ok (by decide +kernel) (by decide +kernel) (by decide +kernel) (by decide +kernel) d_Sh_init_57) d_Sh_init_60 s_a0 (s_eci me_Pn_init mw_Pn_init rfl rfl (by decide) (by decide) (by decide) lm_Sh_20 (by decide +kernel) pd_Pn_init d_Sh_init_61)) fi_Sh_21 rfl (Or.inr ⟨rfl, jx_fin (by decide +kernel)⟩) d_Sh_init_64) (t_seq (t_pf (s_aload_n d_Sh_init_67 rfl) (s_newi (s_new (C := R_Table) (T := F_Table) rfl t_Table_ok (by decide +kernel) (by decide +kernel) (by decide +kernel) (by decide +kernel) d_Sh_init_68) d_Sh_init_71 s_a0 (s_eci me_Tb_init mw_Tb_init rfl rfl (by decide) (by decide) (by decide) lm_Sh_27 (by decide +kernel) pd_Tb_init d_Sh_init_72)) fi_Sh_28 rfl (Or.inl rfl) d_Sh_init_75) (t_seq (t_pf (s_aload_n d_Sh_init_78 rfl) (s_na (s_bipush d_Sh_init_79 (by decide)) (s_newa (by decide) rfl (by decide +kernel) d_Sh_init_81)) fi_Sh_32 rfl (Or.inr ⟨rfl, jx_fin (by decide +kernel)⟩) d_Sh_init_83) (t_retv rfl d_Sh_init_86))))))
def f_Sh_init : jx_Mt := jx_fn 1 1 (bd_Sh_init fun _ _ => none)
theorem me_Sh_init : jx_Me 1 z_Sh_init f_Sh_init := jx_Me.ofT (by decide) m_Sh_init
theorem mw_Sh_init : jx_mw ⟨"ExtentShelf", "<init>", "()V"⟩ z_Sh_init := ⟨rfl, rfl, by decide +kernel, ⟨by decide, by decide⟩, by decide +kernel⟩
theorem pd_Sh_init : (parseMethodDescriptor (⟨"ExtentShelf", "<init>", "()V"⟩ : MethodName).desc).map (fun d => d.parameters.length) = some 0 := by decide +kernel
/-! ExtentShelf.needOn()V -/
abbrev z_Sh_needOn : jx_Z := ("ExtentShelf", "needOn", prog_1_method_4_code, 1, none, 6, 100)
theorem d_Sh_needOn_0 : decode z_Sh_needOn.2.2.1 0 = .ok (.aload_n 0, 1) := by decide +kernel
theorem d_Sh_needOn_1 : decode z_Sh_needOn.2.2.1 1 = .ok (.getfield 21, 3) := by decide +kernel
theorem d_Sh_needOn_4 : decode z_Sh_needOn.2.2.1 4 = .ok (.getfield 36, 3) := by decide +kernel
theorem d_Sh_needOn_7 : decode z_Sh_needOn.2.2.1 7 = .ok (.ifCond .ne 13, 3) := by decide +kernel
theorem d_Sh_needOn_10 : decode z_Sh_needOn.2.2.1 10 = .ok (.new 40, 3) := by decide +kernel
theorem d_Sh_needOn_13 : decode z_Sh_needOn.2.2.1 13 = .ok (.dup, 1) := by decide +kernel
theorem d_Sh_needOn_14 : decode z_Sh_needOn.2.2.1 14 = .ok (.ldc 42, 2) := by decide +kernel
theorem d_Sh_needOn_16 : decode z_Sh_needOn.2.2.1 16 = .ok (.invokespecial 44, 3) := by decide +kernel
theorem d_Sh_needOn_19 : decode z_Sh_needOn.2.2.1 19 = .ok (.athrow, 1) := by decide +kernel
theorem d_Sh_needOn_20 : decode z_Sh_needOn.2.2.1 20 = .ok (.return_, 1) := by decide +kernel
def bd_Sh_needOn : jx_St := (sSeq (sIf (cNot (cCmp0 rNe (eGf [2] 1 (eGf [0] 1 (eA 0))))) (sThrow 9) sSkip) sRetV)
theorem m_Sh_needOn : jx_Ts z_Sh_needOn 0 bd_Sh_needOn [] := by
  unfold bd_Sh_needOn
  exact (t_seq (t_if1 (Fs := [20]) (E := [20]) (s_not (s_cmp0 (s_getf (s_getf (s_aload_n d_Sh_needOn_0 rfl) fi_Sh_21 d_Sh_needOn_1) fi_Sh_36 d_Sh_needOn_4) (s_if_neT (tgt := 20) d_Sh_needOn_7 (by decide))) (by decide)) (by decide) (t_sub (E := []) (E' := [20]) (t_throwS (C := R_Ise) (F := F_Ise) (tx := "the power is off") (names := ["java/lang/RuntimeException", "java/lang/Exception"]) rfl (by decide +kernel) (by decide +kernel) (by decide +kernel) (by decide +kernel) at_Sh_9_44 (by decide +kernel) (by decide +kernel) d_Sh_needOn_10 d_Sh_needOn_13 d_Sh_needOn_14 d_Sh_needOn_16 d_Sh_needOn_19 (by decide) (by decide)) (by decide)) (by decide)) (t_retv rfl d_Sh_needOn_20))
def f_Sh_needOn : jx_Mt := jx_fn 1 1 (bd_Sh_needOn fun _ _ => none)
theorem me_Sh_needOn : jx_Me 1 z_Sh_needOn f_Sh_needOn := jx_Me.ofT (by decide) m_Sh_needOn
theorem mw_Sh_needOn : jx_mw ⟨"ExtentShelf", "needOn", "()V"⟩ z_Sh_needOn := ⟨rfl, rfl, by decide +kernel, ⟨by decide, by decide⟩, by decide +kernel⟩
theorem pd_Sh_needOn : (parseMethodDescriptor (⟨"ExtentShelf", "needOn", "()V"⟩ : MethodName).desc).map (fun d => d.parameters.length) = some 0 := by decide +kernel
/-! ExtentShelf.need(Z)V -/
abbrev z_Sh_need : jx_Z := ("ExtentShelf", "need", prog_1_method_5_code, 1, none, 6, 100)
theorem d_Sh_need_0 : decode z_Sh_need.2.2.1 0 = .ok (.iload_n 0, 1) := by decide +kernel
theorem d_Sh_need_1 : decode z_Sh_need.2.2.1 1 = .ok (.ifCond .ne 13, 3) := by decide +kernel
theorem d_Sh_need_4 : decode z_Sh_need.2.2.1 4 = .ok (.new 47, 3) := by decide +kernel
theorem d_Sh_need_7 : decode z_Sh_need.2.2.1 7 = .ok (.dup, 1) := by decide +kernel
theorem d_Sh_need_8 : decode z_Sh_need.2.2.1 8 = .ok (.ldc 49, 2) := by decide +kernel
theorem d_Sh_need_10 : decode z_Sh_need.2.2.1 10 = .ok (.invokespecial 51, 3) := by decide +kernel
theorem d_Sh_need_13 : decode z_Sh_need.2.2.1 13 = .ok (.athrow, 1) := by decide +kernel
theorem d_Sh_need_14 : decode z_Sh_need.2.2.1 14 = .ok (.return_, 1) := by decide +kernel
def bd_Sh_need : jx_St := (sSeq (sIf (cNot (cCmp0 rNe (eI 0))) (sThrow 10) sSkip) sRetV)
theorem m_Sh_need : jx_Ts z_Sh_need 0 bd_Sh_need [] := by
  unfold bd_Sh_need
  exact (t_seq (t_if1 (Fs := [14]) (E := [14]) (s_not (s_cmp0 (s_iload_n d_Sh_need_0 rfl) (s_if_neT (tgt := 14) d_Sh_need_1 (by decide))) (by decide)) (by decide) (t_sub (E := []) (E' := [14]) (t_throwS (C := R_Iae) (F := F_Iae) (tx := "not as said") (names := ["java/lang/RuntimeException", "java/lang/Exception"]) rfl (by decide +kernel) (by decide +kernel) (by decide +kernel) (by decide +kernel) at_Sh_10_51 (by decide +kernel) (by decide +kernel) d_Sh_need_4 d_Sh_need_7 d_Sh_need_8 d_Sh_need_10 d_Sh_need_13 (by decide) (by decide)) (by decide)) (by decide)) (t_retv rfl d_Sh_need_14))
def f_Sh_need : jx_Mt := jx_fn 1 1 (bd_Sh_need fun _ _ => none)
theorem me_Sh_need : jx_Me 1 z_Sh_need f_Sh_need := jx_Me.ofT (by decide) m_Sh_need
theorem mw_Sh_need : jx_mw ⟨"ExtentShelf", "need", "(Z)V"⟩ z_Sh_need := ⟨rfl, rfl, by decide +kernel, ⟨by decide, by decide⟩, by decide +kernel⟩
theorem pd_Sh_need : (parseMethodDescriptor (⟨"ExtentShelf", "need", "(Z)V"⟩ : MethodName).desc).map (fun d => d.parameters.length) = some 1 := by decide +kernel
/-! ExtentShelf.allow(Z)V -/
abbrev z_Sh_allow : jx_Z := ("ExtentShelf", "allow", prog_1_method_6_code, 1, none, 6, 100)
theorem d_Sh_allow_0 : decode z_Sh_allow.2.2.1 0 = .ok (.iload_n 0, 1) := by decide +kernel
theorem d_Sh_allow_1 : decode z_Sh_allow.2.2.1 1 = .ok (.ifCond .ne 13, 3) := by decide +kernel
theorem d_Sh_allow_4 : decode z_Sh_allow.2.2.1 4 = .ok (.new 52, 3) := by decide +kernel
theorem d_Sh_allow_7 : decode z_Sh_allow.2.2.1 7 = .ok (.dup, 1) := by decide +kernel
theorem d_Sh_allow_8 : decode z_Sh_allow.2.2.1 8 = .ok (.ldc 54, 2) := by decide +kernel
theorem d_Sh_allow_10 : decode z_Sh_allow.2.2.1 10 = .ok (.invokespecial 56, 3) := by decide +kernel
theorem d_Sh_allow_13 : decode z_Sh_allow.2.2.1 13 = .ok (.athrow, 1) := by decide +kernel
theorem d_Sh_allow_14 : decode z_Sh_allow.2.2.1 14 = .ok (.return_, 1) := by decide +kernel
def bd_Sh_allow : jx_St := (sSeq (sIf (cNot (cCmp0 rNe (eI 0))) (sThrow 11) sSkip) sRetV)
theorem m_Sh_allow : jx_Ts z_Sh_allow 0 bd_Sh_allow [] := by
  unfold bd_Sh_allow
  exact (t_seq (t_if1 (Fs := [14]) (E := [14]) (s_not (s_cmp0 (s_iload_n d_Sh_allow_0 rfl) (s_if_neT (tgt := 14) d_Sh_allow_1 (by decide))) (by decide)) (by decide) (t_sub (E := []) (E' := [14]) (t_throwS (C := R_Uoe) (F := F_Uoe) (tx := "not now") (names := ["java/lang/RuntimeException", "java/lang/Exception"]) rfl (by decide +kernel) (by decide +kernel) (by decide +kernel) (by decide +kernel) at_Sh_11_56 (by decide +kernel) (by decide +kernel) d_Sh_allow_4 d_Sh_allow_7 d_Sh_allow_8 d_Sh_allow_10 d_Sh_allow_13 (by decide) (by decide)) (by decide)) (by decide)) (t_retv rfl d_Sh_allow_14))
def f_Sh_allow : jx_Mt := jx_fn 1 1 (bd_Sh_allow fun _ _ => none)
theorem me_Sh_allow : jx_Me 1 z_Sh_allow f_Sh_allow := jx_Me.ofT (by decide) m_Sh_allow
theorem mw_Sh_allow : jx_mw ⟨"ExtentShelf", "allow", "(Z)V"⟩ z_Sh_allow := ⟨rfl, rfl, by decide +kernel, ⟨by decide, by decide⟩, by decide +kernel⟩
theorem pd_Sh_allow : (parseMethodDescriptor (⟨"ExtentShelf", "allow", "(Z)V"⟩ : MethodName).desc).map (fun d => d.parameters.length) = some 1 := by decide +kernel
/-! ExtentShelf.isDisk(I)Z -/
abbrev z_Sh_isDisk : jx_Z := ("ExtentShelf", "isDisk", prog_1_method_7_code, 1, some .boolean, 0, 0)
theorem d_Sh_isDisk_0 : decode z_Sh_isDisk.2.2.1 0 = .ok (.iload_n 0, 1) := by decide +kernel
theorem d_Sh_isDisk_1 : decode z_Sh_isDisk.2.2.1 1 = .ok (.ifCond .lt 12, 3) := by decide +kernel
theorem d_Sh_isDisk_4 : decode z_Sh_isDisk.2.2.1 4 = .ok (.iload_n 0, 1) := by decide +kernel
theorem d_Sh_isDisk_5 : decode z_Sh_isDisk.2.2.1 5 = .ok (.iconst 4, 1) := by decide +kernel
theorem d_Sh_isDisk_6 : decode z_Sh_isDisk.2.2.1 6 = .ok (.if_icmp .ge 7, 3) := by decide +kernel
theorem d_Sh_isDisk_9 : decode z_Sh_isDisk.2.2.1 9 = .ok (.iconst 1, 1) := by decide +kernel
theorem d_Sh_isDisk_10 : decode z_Sh_isDisk.2.2.1 10 = .ok (.goto 4, 3) := by decide +kernel
theorem d_Sh_isDisk_13 : decode z_Sh_isDisk.2.2.1 13 = .ok (.iconst 0, 1) := by decide +kernel
theorem d_Sh_isDisk_14 : decode z_Sh_isDisk.2.2.1 14 = .ok (.ireturn, 1) := by decide +kernel
def bd_Sh_isDisk : jx_St := (sRet 1 (eIte (cAnd (cCmp0 rGe (eI 0)) (cCmp rLt (eI 0) (eInt (nI 4)))) (eInt (nI 1)) (eInt (nI 0))))
theorem m_Sh_isDisk : jx_Ts z_Sh_isDisk 0 bd_Sh_isDisk [] := by
  unfold bd_Sh_isDisk
  exact (t_ret .boolean (s_ite (q4 := 14) (s_andg (s_cmp0 (s_iload_n d_Sh_isDisk_0 rfl) (s_if_ltF (tgt := 13) d_Sh_isDisk_1 (by decide))) (by decide) (al_1 (s_cmp (s_iload_n d_Sh_isDisk_4 rfl) (s_iconst d_Sh_isDisk_5 (by decide)) (s_icmp_geF (tgt := 13) d_Sh_isDisk_6 (by decide))))) (s_iconst d_Sh_isDisk_9 (by decide)) d_Sh_isDisk_10 (by decide) (s_iconst d_Sh_isDisk_13 (by decide))) rfl (by decide) d_Sh_isDisk_14)
def f_Sh_isDisk : jx_Mt := jx_fn 1 1 (bd_Sh_isDisk fun _ _ => none)
theorem me_Sh_isDisk : jx_Me 1 z_Sh_isDisk f_Sh_isDisk := jx_Me.ofT (by decide) m_Sh_isDisk
theorem mw_Sh_isDisk : jx_mw ⟨"ExtentShelf", "isDisk", "(I)Z"⟩ z_Sh_isDisk := ⟨rfl, rfl, by decide +kernel, ⟨by decide, by decide⟩, by decide +kernel⟩
theorem pd_Sh_isDisk : (parseMethodDescriptor (⟨"ExtentShelf", "isDisk", "(I)Z"⟩ : MethodName).desc).map (fun d => d.parameters.length) = some 1 := by decide +kernel
/-! ExtentShelf.isListed(I)Z -/
abbrev z_Sh_isListed : jx_Z := ("ExtentShelf", "isListed", prog_1_method_8_code, 2, some .boolean, 0, 0)
theorem d_Sh_isListed_0 : decode z_Sh_isListed.2.2.1 0 = .ok (.aload_n 0, 1) := by decide +kernel
theorem d_Sh_isListed_1 : decode z_Sh_isListed.2.2.1 1 = .ok (.getfield 28, 3) := by decide +kernel
theorem d_Sh_isListed_4 : decode z_Sh_isListed.2.2.1 4 = .ok (.getfield 57, 3) := by decide +kernel
theorem d_Sh_isListed_7 : decode z_Sh_isListed.2.2.1 7 = .ok (.iload_n 1, 1) := by decide +kernel
theorem d_Sh_isListed_8 : decode z_Sh_isListed.2.2.1 8 = .ok (.iaload, 1) := by decide +kernel
theorem d_Sh_isListed_9 : decode z_Sh_isListed.2.2.1 9 = .ok (.ifCond .le 7, 3) := by decide +kernel
theorem d_Sh_isListed_12 : decode z_Sh_isListed.2.2.1 12 = .ok (.iconst 1, 1) := by decide +kernel
theorem d_Sh_isListed_13 : decode z_Sh_isListed.2.2.1 13 = .ok (.goto 4, 3) := by decide +kernel
theorem d_Sh_isListed_16 : decode z_Sh_isListed.2.2.1 16 = .ok (.iconst 0, 1) := by decide +kernel
theorem d_Sh_isListed_17 : decode z_Sh_isListed.2.2.1 17 = .ok (.ireturn, 1) := by decide +kernel
def bd_Sh_isListed : jx_St := (sRet 1 (eIte (cCmp0 rGt (eLd 0 (eGf [3] 1 (eGf [0] 2 (eA 0))) (eI 1))) (eInt (nI 1)) (eInt (nI 0))))
theorem m_Sh_isListed : jx_Ts z_Sh_isListed 0 bd_Sh_isListed [] := by
  unfold bd_Sh_isListed
  exact (t_ret .boolean (s_ite (q4 := 17) (s_cmp0 (s_load (s_getf (s_getf (s_aload_n d_Sh_isListed_0 rfl) fi_Sh_28 d_Sh_isListed_1) fi_Sh_57 d_Sh_isListed_4) (s_iload_n d_Sh_isListed_7 rfl) (s_iald d_Sh_isListed_8)) (s_if_leF (tgt := 16) d_Sh_isListed_9 (by decide))) (s_iconst d_Sh_isListed_12 (by decide)) d_Sh_isListed_13 (by decide) (s_iconst d_Sh_isListed_16 (by decide))) rfl (by decide) d_Sh_isListed_17)
def f_Sh_isListed : jx_Mt := jx_fn 2 2 (bd_Sh_isListed fun _ _ => none)
theorem me_Sh_isListed : jx_Me 2 z_Sh_isListed f_Sh_isListed := jx_Me.ofT (by decide) m_Sh_isListed
theorem mw_Sh_isListed : jx_mw ⟨"ExtentShelf", "isListed", "(I)Z"⟩ z_Sh_isListed := ⟨rfl, rfl, by decide +kernel, ⟨by decide, by decide⟩, by decide +kernel⟩
theorem pd_Sh_isListed : (parseMethodDescriptor (⟨"ExtentShelf", "isListed", "(I)Z"⟩ : MethodName).desc).map (fun d => d.parameters.length) = some 1 := by decide +kernel
abbrev tb_Sh_isListed : List (Nat × jx_Mt) := [(0, f_Sh_isListed)]
theorem ve_Sh_isListed {fr lo : Nat} (h1 : 1 ≤ fr) (h2 : 29 ≤ lo) : ∀ q ∈ tb_Sh_isListed, jx_ve ⟨"ExtentShelf", "isListed", "(I)Z"⟩ 1 fr lo q.1 q.2 := tv_1 ⟨R_Shelf, F_Shelf, 5, ⟨"ExtentShelf", "isListed", "(I)Z"⟩, z_Sh_isListed, rfl, by decide +kernel, mw_Sh_isListed, by decide +kernel, me_Sh_isListed, Nat.le_trans (by decide) h1, Nat.le_trans (by decide) h2⟩
theorem dc_Sh_isListed : jx_dc ⟨"ExtentShelf", "isListed", "(I)Z"⟩ := ⟨⟨by decide, by decide⟩, Or.inr ⟨by decide +kernel, prog_1_method_8_code, 2, _, (by decide +kernel : Cond.code ⟨"ExtentShelf", "isListed", "(I)Z"⟩ prog_1_method_8_code 2 (some .boolean) ∈ jx_tbl)⟩, "ExtentShelf", ⟨"ExtentShelf", "isListed", "(I)Z"⟩, ⟨"ExtentShelf", "isListed", "(I)Z"⟩, by decide +kernel, rfl⟩
/-! ExtentShelf.isOneAbsent()Z -/
abbrev z_Sh_isOneAbsent : jx_Z := ("ExtentShelf", "isOneAbsent", prog_1_method_9_code, 6, some .boolean, 1, 29)
theorem d_Sh_isOneAbsent_0 : decode z_Sh_isOneAbsent.2.2.1 0 = .ok (.iconst 0, 1) := by decide +kernel
theorem d_Sh_isOneAbsent_1 : decode z_Sh_isOneAbsent.2.2.1 1 = .ok (.istore_n 1, 1) := by decide +kernel
theorem d_Sh_isOneAbsent_2 : decode z_Sh_isOneAbsent.2.2.1 2 = .ok (.aload_n 0, 1) := by decide +kernel
theorem d_Sh_isOneAbsent_3 : decode z_Sh_isOneAbsent.2.2.1 3 = .ok (.getfield 12, 3) := by decide +kernel
theorem d_Sh_isOneAbsent_6 : decode z_Sh_isOneAbsent.2.2.1 6 = .ok (.astore_n 2, 1) := by decide +kernel
theorem d_Sh_isOneAbsent_7 : decode z_Sh_isOneAbsent.2.2.1 7 = .ok (.aload_n 2, 1) := by decide +kernel
theorem d_Sh_isOneAbsent_8 : decode z_Sh_isOneAbsent.2.2.1 8 = .ok (.arraylength, 1) := by decide +kernel
theorem d_Sh_isOneAbsent_9 : decode z_Sh_isOneAbsent.2.2.1 9 = .ok (.istore_n 3, 1) := by decide +kernel
theorem d_Sh_isOneAbsent_10 : decode z_Sh_isOneAbsent.2.2.1 10 = .ok (.iconst 0, 1) := by decide +kernel
theorem d_Sh_isOneAbsent_11 : decode z_Sh_isOneAbsent.2.2.1 11 = .ok (.istore 4, 2) := by decide +kernel
theorem d_Sh_isOneAbsent_13 : decode z_Sh_isOneAbsent.2.2.1 13 = .ok (.iload 4, 2) := by decide +kernel
theorem d_Sh_isOneAbsent_15 : decode z_Sh_isOneAbsent.2.2.1 15 = .ok (.iload_n 3, 1) := by decide +kernel
theorem d_Sh_isOneAbsent_16 : decode z_Sh_isOneAbsent.2.2.1 16 = .ok (.if_icmp .ge 45, 3) := by decide +kernel
theorem d_Sh_isOneAbsent_19 : decode z_Sh_isOneAbsent.2.2.1 19 = .ok (.aload_n 2, 1) := by decide +kernel
theorem d_Sh_isOneAbsent_20 : decode z_Sh_isOneAbsent.2.2.1 20 = .ok (.iload 4, 2) := by decide +kernel
theorem d_Sh_isOneAbsent_22 : decode z_Sh_isOneAbsent.2.2.1 22 = .ok (.aaload, 1) := by decide +kernel
theorem d_Sh_isOneAbsent_23 : decode z_Sh_isOneAbsent.2.2.1 23 = .ok (.astore 5, 2) := by decide +kernel
theorem d_Sh_isOneAbsent_25 : decode z_Sh_isOneAbsent.2.2.1 25 = .ok (.iload_n 1, 1) := by decide +kernel
theorem d_Sh_isOneAbsent_26 : decode z_Sh_isOneAbsent.2.2.1 26 = .ok (.ifCond .ne 23, 3) := by decide +kernel
theorem d_Sh_isOneAbsent_29 : decode z_Sh_isOneAbsent.2.2.1 29 = .ok (.aload_n 0, 1) := by decide +kernel
theorem d_Sh_isOneAbsent_30 : decode z_Sh_isOneAbsent.2.2.1 30 = .ok (.aload 5, 2) := by decide +kernel
theorem d_Sh_isOneAbsent_32 : decode z_Sh_isOneAbsent.2.2.1 32 = .ok (.getfield 60, 3) := by decide +kernel
theorem d_Sh_isOneAbsent_35 : decode z_Sh_isOneAbsent.2.2.1 35 = .ok (.invokevirtual 64, 3) := by decide +kernel
theorem d_Sh_isOneAbsent_38 : decode z_Sh_isOneAbsent.2.2.1 38 = .ok (.ifCond .eq 15, 3) := by decide +kernel
theorem d_Sh_isOneAbsent_41 : decode z_Sh_isOneAbsent.2.2.1 41 = .ok (.aload 5, 2) := by decide +kernel
theorem d_Sh_isOneAbsent_43 : decode z_Sh_isOneAbsent.2.2.1 43 = .ok (.getfield 68, 3) := by decide +kernel
theorem d_Sh_isOneAbsent_46 : decode z_Sh_isOneAbsent.2.2.1 46 = .ok (.ifCond .ne 7, 3) := by decide +kernel
theorem d_Sh_isOneAbsent_49 : decode z_Sh_isOneAbsent.2.2.1 49 = .ok (.iconst 1, 1) := by decide +kernel
theorem d_Sh_isOneAbsent_50 : decode z_Sh_isOneAbsent.2.2.1 50 = .ok (.goto 4, 3) := by decide +kernel
theorem d_Sh_isOneAbsent_53 : decode z_Sh_isOneAbsent.2.2.1 53 = .ok (.iconst 0, 1) := by decide +kernel
theorem d_Sh_isOneAbsent_54 : decode z_Sh_isOneAbsent.2.2.1 54 = .ok (.istore_n 1, 1) := by decide +kernel
theorem d_Sh_isOneAbsent_55 : decode z_Sh_isOneAbsent.2.2.1 55 = .ok (.iinc 4 1, 3) := by decide +kernel
theorem d_Sh_isOneAbsent_58 : decode z_Sh_isOneAbsent.2.2.1 58 = .ok (.goto (-45), 3) := by decide +kernel
theorem d_Sh_isOneAbsent_61 : decode z_Sh_isOneAbsent.2.2.1 61 = .ok (.iload_n 1, 1) := by decide +kernel
theorem d_Sh_isOneAbsent_62 : decode z_Sh_isOneAbsent.2.2.1 62 = .ok (.ireturn, 1) := by decide +kernel
def lc_Sh_isOneAbsent_0 : jx_Cx := (cCmp rLt (eI 4) (eI 3))
def lb_Sh_isOneAbsent_0 : jx_St := (sSeq (sAsg 2 5 (eLda 3 (eA 2) (eI 4))) (sSeq (sAsg 0 1 (eIte (cOr (cCmp0 rNe (eI 1)) (cAnd (cCmp0 rNe (eCl (jx_ev tb_Sh_isListed) [(eA 0), (eGf [1] 0 (eA 5))])) (cNot (cCmp0 rNe (eGf [1] 3 (eA 5)))))) (eInt (nI 1)) (eInt (nI 0)))) (sInc 4 (nI 1))))
theorem ml_Sh_isOneAbsent_0 : jx_Ts z_Sh_isOneAbsent 13 (sWh 64 lc_Sh_isOneAbsent_0 lb_Sh_isOneAbsent_0) [61] := by
  unfold lc_Sh_isOneAbsent_0 lb_Sh_isOneAbsent_0
  exact t_wh (EA := [58]) (Fs := [61]) (E := [61]) 64 (s_cmp (s_iload d_Sh_isOneAbsent_13) (s_iload_n d_Sh_isOneAbsent_15 rfl) (s_icmp_geF (tgt := 61) d_Sh_isOneAbsent_16 (by decide))) (by decide) (t_seq (t_asg (s_loada (s_aload_n d_Sh_isOneAbsent_19 rfl) (s_iload d_Sh_isOneAbsent_20) (s_aald (Or.inl rfl) d_Sh_isOneAbsent_22)) (fun v k h => b_astore d_Sh_isOneAbsent_23 (by decide) h)) (t_seq (t_asg (s_ite (q4 := 54) (s_org (s_cmp0 (s_iload_n d_Sh_isOneAbsent_25 rfl) (s_if_neT (tgt := 49) d_Sh_isOneAbsent_26 (by decide))) (by decide) (al_1 (s_andg (s_cmp0 (s_cl (s_a1 (s_aload_n d_Sh_isOneAbsent_29 rfl) (s_a1 (s_getf (s_aload d_Sh_isOneAbsent_30) fi_Sh_60 d_Sh_isOneAbsent_32) s_a0)) (s_ecv (ve_Sh_isListed (by decide) (by decide)) dc_Sh_isListed (by decide) lm_Sh_64 pd_Sh_isListed d_Sh_isOneAbsent_35)) (s_if_eqF (tgt := 53) d_Sh_isOneAbsent_38 (by decide))) (by decide) (al_1 (s_not (s_cmp0 (s_getf (s_aload d_Sh_isOneAbsent_41) fi_Sh_68 d_Sh_isOneAbsent_43) (s_if_neT (tgt := 53) d_Sh_isOneAbsent_46 (by decide))) (by decide)))))) (s_iconst d_Sh_isOneAbsent_49 (by decide)) d_Sh_isOneAbsent_50 (by decide) (s_iconst d_Sh_isOneAbsent_53 (by decide))) (fun v k h => b_istore_n d_Sh_isOneAbsent_54 rfl (by decide) h)) (t_iinc d_Sh_isOneAbsent_55 (by decide) (by decide)))) (al_1 (Or.inr ⟨-45, d_Sh_isOneAbsent_58, by decide⟩)) (by decide)
def bd_Sh_isOneAbsent : jx_St := (sSeq (sAsg 0 1 (eInt (nI 0))) (sSeq (sSeq (sAsg 2 2 (eGf [0] 0 (eA 0))) (sSeq (sAsg 0 3 (eLen (eA 2))) (sSeq (sAsg 0 4 (eInt (nI 0))) (sWh 64 lc_Sh_isOneAbsent_0 lb_Sh_isOneAbsent_0)))) (sRet 1 (eI 1))))
theorem m_Sh_isOneAbsent : jx_Ts z_Sh_isOneAbsent 0 bd_Sh_isOneAbsent [] := by
  unfold bd_Sh_isOneAbsent
  exact (t_seq (t_asg (s_iconst d_Sh_isOneAbsent_0 (by decide)) (fun v k h => b_istore_n d_Sh_isOneAbsent_1 rfl (by decide) h)) (t_seq (t_seq (t_asg (s_getf (s_aload_n d_Sh_isOneAbsent_2 rfl) fi_Sh_12 d_Sh_isOneAbsent_3) (fun v k h => b_astore_n d_Sh_isOneAbsent_6 rfl (by decide) h)) (t_seq (t_asg (s_len (s_aload_n d_Sh_isOneAbsent_7 rfl) d_Sh_isOneAbsent_8) (fun v k h => b_istore_n d_Sh_isOneAbsent_9 rfl (by decide) h)) (t_seq (t_asg (s_iconst d_Sh_isOneAbsent_10 (by decide)) (fun v k h => b_istore d_Sh_isOneAbsent_11 (by decide) h)) ml_Sh_isOneAbsent_0))) (t_ret .boolean (s_iload_n d_Sh_isOneAbsent_61 rfl) rfl (by decide) d_Sh_isOneAbsent_62)))
def f_Sh_isOneAbsent : jx_Mt := jx_fn 1 6 (bd_Sh_isOneAbsent fun _ _ => none)
theorem me_Sh_isOneAbsent : jx_Me 1 z_Sh_isOneAbsent f_Sh_isOneAbsent := jx_Me.ofT (by decide) m_Sh_isOneAbsent
theorem mw_Sh_isOneAbsent : jx_mw ⟨"ExtentShelf", "isOneAbsent", "()Z"⟩ z_Sh_isOneAbsent := ⟨rfl, rfl, by decide +kernel, ⟨by decide, by decide⟩, by decide +kernel⟩
theorem pd_Sh_isOneAbsent : (parseMethodDescriptor (⟨"ExtentShelf", "isOneAbsent", "()Z"⟩ : MethodName).desc).map (fun d => d.parameters.length) = some 0 := by decide +kernel
/-! ExtentShelf.volumeAt(I)LExtentShelf$Volume; -/
abbrev z_Sh_volumeAt : jx_Z := ("ExtentShelf", "volumeAt", prog_1_method_10_code, 2, some (.object "ExtentShelf$Volume"), 6, 100)
theorem d_Sh_volumeAt_0 : decode z_Sh_volumeAt.2.2.1 0 = .ok (.iload_n 1, 1) := by decide +kernel
theorem d_Sh_volumeAt_1 : decode z_Sh_volumeAt.2.2.1 1 = .ok (.ifCond .lt 20, 3) := by decide +kernel
theorem d_Sh_volumeAt_4 : decode z_Sh_volumeAt.2.2.1 4 = .ok (.iload_n 1, 1) := by decide +kernel
theorem d_Sh_volumeAt_5 : decode z_Sh_volumeAt.2.2.1 5 = .ok (.iconst 4, 1) := by decide +kernel
theorem d_Sh_volumeAt_6 : decode z_Sh_volumeAt.2.2.1 6 = .ok (.if_icmp .ge 15, 3) := by decide +kernel
theorem d_Sh_volumeAt_9 : decode z_Sh_volumeAt.2.2.1 9 = .ok (.aload_n 0, 1) := by decide +kernel
theorem d_Sh_volumeAt_10 : decode z_Sh_volumeAt.2.2.1 10 = .ok (.getfield 28, 3) := by decide +kernel
theorem d_Sh_volumeAt_13 : decode z_Sh_volumeAt.2.2.1 13 = .ok (.getfield 71, 3) := by decide +kernel
theorem d_Sh_volumeAt_16 : decode z_Sh_volumeAt.2.2.1 16 = .ok (.iload_n 1, 1) := by decide +kernel
theorem d_Sh_volumeAt_17 : decode z_Sh_volumeAt.2.2.1 17 = .ok (.aaload, 1) := by decide +kernel
theorem d_Sh_volumeAt_18 : decode z_Sh_volumeAt.2.2.1 18 = .ok (.ifnonnull 11, 3) := by decide +kernel
theorem d_Sh_volumeAt_21 : decode z_Sh_volumeAt.2.2.1 21 = .ok (.new 75, 3) := by decide +kernel
theorem d_Sh_volumeAt_24 : decode z_Sh_volumeAt.2.2.1 24 = .ok (.dup, 1) := by decide +kernel
theorem d_Sh_volumeAt_25 : decode z_Sh_volumeAt.2.2.1 25 = .ok (.invokespecial 77, 3) := by decide +kernel
theorem d_Sh_volumeAt_28 : decode z_Sh_volumeAt.2.2.1 28 = .ok (.athrow, 1) := by decide +kernel
theorem d_Sh_volumeAt_29 : decode z_Sh_volumeAt.2.2.1 29 = .ok (.aload_n 0, 1) := by decide +kernel
theorem d_Sh_volumeAt_30 : decode z_Sh_volumeAt.2.2.1 30 = .ok (.getfield 28, 3) := by decide +kernel
theorem d_Sh_volumeAt_33 : decode z_Sh_volumeAt.2.2.1 33 = .ok (.getfield 71, 3) := by decide +kernel
theorem d_Sh_volumeAt_36 : decode z_Sh_volumeAt.2.2.1 36 = .ok (.iload_n 1, 1) := by decide +kernel
theorem d_Sh_volumeAt_37 : decode z_Sh_volumeAt.2.2.1 37 = .ok (.aaload, 1) := by decide +kernel
theorem d_Sh_volumeAt_38 : decode z_Sh_volumeAt.2.2.1 38 = .ok (.areturn, 1) := by decide +kernel
def bd_Sh_volumeAt : jx_St := (sSeq (sIf (cOr (cOr (cCmp0 rLt (eI 1)) (cCmp rGe (eI 1) (eInt (nI 4)))) (cNull (eLda 4 (eGf [3] 2 (eGf [0] 2 (eA 0))) (eI 1)))) (sThrow 12) sSkip) (sRet 2 (eLda 4 (eGf [3] 2 (eGf [0] 2 (eA 0))) (eI 1))))
theorem m_Sh_volumeAt : jx_Ts z_Sh_volumeAt 0 bd_Sh_volumeAt [] := by
  unfold bd_Sh_volumeAt
  exact (t_seq (t_if1 (Fs := [29]) (E := [29]) (s_org (s_org (s_cmp0 (s_iload_n d_Sh_volumeAt_0 rfl) (s_if_ltT (tgt := 21) d_Sh_volumeAt_1 (by decide))) (by decide) (al_1 (s_cmp (s_iload_n d_Sh_volumeAt_4 rfl) (s_iconst d_Sh_volumeAt_5 (by decide)) (s_icmp_geT (tgt := 21) d_Sh_volumeAt_6 (by decide))))) (by decide) (al_1 (s_nul (s_loada (s_getf (s_getf (s_aload_n d_Sh_volumeAt_9 rfl) fi_Sh_28 d_Sh_volumeAt_10) fi_Sh_71 d_Sh_volumeAt_13) (s_iload_n d_Sh_volumeAt_16 rfl) (s_aald (Or.inr rfl) d_Sh_volumeAt_17)) (s_ifnonnull (tgt := 29) d_Sh_volumeAt_18 (by decide))))) (by decide) (t_sub (E := []) (E' := [29]) (t_throw0 (C := R_Nse) (F := F_Nse) (names := ["java/lang/RuntimeException", "java/lang/Exception"]) rfl (by decide +kernel) (by decide +kernel) (by decide +kernel) at_Sh_12_77 (by decide +kernel) (by decide +kernel) d_Sh_volumeAt_21 d_Sh_volumeAt_24 d_Sh_volumeAt_25 d_Sh_volumeAt_28 (by decide) (by decide)) (by decide)) (by decide)) (t_reta (.object "ExtentShelf$Volume") (s_loada (s_getf (s_getf (s_aload_n d_Sh_volumeAt_29 rfl) fi_Sh_28 d_Sh_volumeAt_30) fi_Sh_71 d_Sh_volumeAt_33) (s_iload_n d_Sh_volumeAt_36 rfl) (s_aald (Or.inr rfl) d_Sh_volumeAt_37)) rfl (Or.inl ⟨_, rfl⟩) d_Sh_volumeAt_38))
def f_Sh_volumeAt : jx_Mt := jx_fn 2 2 (bd_Sh_volumeAt fun _ _ => none)
theorem me_Sh_volumeAt : jx_Me 2 z_Sh_volumeAt f_Sh_volumeAt := jx_Me.ofT (by decide) m_Sh_volumeAt
theorem mw_Sh_volumeAt : jx_mw ⟨"ExtentShelf", "volumeAt", "(I)LExtentShelf$Volume;"⟩ z_Sh_volumeAt := ⟨rfl, rfl, by decide +kernel, ⟨by decide, by decide⟩, by decide +kernel⟩
theorem pd_Sh_volumeAt : (parseMethodDescriptor (⟨"ExtentShelf", "volumeAt", "(I)LExtentShelf$Volume;"⟩ : MethodName).desc).map (fun d => d.parameters.length) = some 1 := by decide +kernel
/-! ExtentShelf$Pen.write([III)V -/
abbrev z_Pn_write : jx_Z := ("ExtentShelf$Pen", "write", prog_5_method_2_code, 4, none, 6, 100)
theorem d_Pn_write_0 : decode z_Pn_write.2.2.1 0 = .ok (.aload_n 0, 1) := by decide +kernel
theorem d_Pn_write_1 : decode z_Pn_write.2.2.1 1 = .ok (.getfield 9, 3) := by decide +kernel
theorem d_Pn_write_4 : decode z_Pn_write.2.2.1 4 = .ok (.ifCond .ne 23, 3) := by decide +kernel
theorem d_Pn_write_7 : decode z_Pn_write.2.2.1 7 = .ok (.aload_n 0, 1) := by decide +kernel
theorem d_Pn_write_8 : decode z_Pn_write.2.2.1 8 = .ok (.iconst 0, 1) := by decide +kernel
theorem d_Pn_write_9 : decode z_Pn_write.2.2.1 9 = .ok (.putfield 15, 3) := by decide +kernel
theorem d_Pn_write_12 : decode z_Pn_write.2.2.1 12 = .ok (.aload_n 0, 1) := by decide +kernel
theorem d_Pn_write_13 : decode z_Pn_write.2.2.1 13 = .ok (.iconst (-1), 1) := by decide +kernel
theorem d_Pn_write_14 : decode z_Pn_write.2.2.1 14 = .ok (.putfield 9, 3) := by decide +kernel
theorem d_Pn_write_17 : decode z_Pn_write.2.2.1 17 = .ok (.new 19, 3) := by decide +kernel
theorem d_Pn_write_20 : decode z_Pn_write.2.2.1 20 = .ok (.dup, 1) := by decide +kernel
theorem d_Pn_write_21 : decode z_Pn_write.2.2.1 21 = .ok (.ldc 21, 2) := by decide +kernel
theorem d_Pn_write_23 : decode z_Pn_write.2.2.1 23 = .ok (.invokespecial 23, 3) := by decide +kernel
theorem d_Pn_write_26 : decode z_Pn_write.2.2.1 26 = .ok (.athrow, 1) := by decide +kernel
theorem d_Pn_write_27 : decode z_Pn_write.2.2.1 27 = .ok (.aload_n 0, 1) := by decide +kernel
theorem d_Pn_write_28 : decode z_Pn_write.2.2.1 28 = .ok (.dup, 1) := by decide +kernel
theorem d_Pn_write_29 : decode z_Pn_write.2.2.1 29 = .ok (.getfield 9, 3) := by decide +kernel
theorem d_Pn_write_32 : decode z_Pn_write.2.2.1 32 = .ok (.aload_n 0, 1) := by decide +kernel
theorem d_Pn_write_33 : decode z_Pn_write.2.2.1 33 = .ok (.getfield 9, 3) := by decide +kernel
theorem d_Pn_write_36 : decode z_Pn_write.2.2.1 36 = .ok (.ifCond .le 7, 3) := by decide +kernel
theorem d_Pn_write_39 : decode z_Pn_write.2.2.1 39 = .ok (.iconst 1, 1) := by decide +kernel
theorem d_Pn_write_40 : decode z_Pn_write.2.2.1 40 = .ok (.goto 4, 3) := by decide +kernel
theorem d_Pn_write_43 : decode z_Pn_write.2.2.1 43 = .ok (.iconst 0, 1) := by decide +kernel
theorem d_Pn_write_44 : decode z_Pn_write.2.2.1 44 = .ok (.isub, 1) := by decide +kernel
theorem d_Pn_write_45 : decode z_Pn_write.2.2.1 45 = .ok (.putfield 9, 3) := by decide +kernel
theorem d_Pn_write_48 : decode z_Pn_write.2.2.1 48 = .ok (.aload_n 1, 1) := by decide +kernel
theorem d_Pn_write_49 : decode z_Pn_write.2.2.1 49 = .ok (.iload_n 2, 1) := by decide +kernel
theorem d_Pn_write_50 : decode z_Pn_write.2.2.1 50 = .ok (.iload_n 3, 1) := by decide +kernel
theorem d_Pn_write_51 : decode z_Pn_write.2.2.1 51 = .ok (.iastore, 1) := by decide +kernel
theorem d_Pn_write_52 : decode z_Pn_write.2.2.1 52 = .ok (.return_, 1) := by decide +kernel
def bd_Pn_write : jx_St := (sSeq (sSeq (sIf (cCmp0 rEq (eGf [2] 0 (eA 0))) (sSeq (sPf [2] 1 1 (eA 0) (eInt (nI 0))) (sSeq (sPf [2] 0 0 (eA 0) (eInt (-1))) (sThrow 9))) sSkip) (sSeq (sUf [2] 0 0 oSub (eA 0) (eIte (cCmp0 rGt (eGf [2] 0 (eA 0))) (eInt (nI 1)) (eInt (nI 0)))) (sSt 0 0 (eA 1) (eI 2) (eI 3)))) sRetV)
theorem m_Pn_write : jx_Ts z_Pn_write 0 bd_Pn_write [] := by
  unfold bd_Pn_write
  exact (t_seq (t_seq (t_if1 (Fs := [27]) (E := [27]) (s_cmp0 (s_getf (s_aload_n d_Pn_write_0 rfl) fi_Pn_9 d_Pn_write_1) (s_if_neF (tgt := 27) d_Pn_write_4 (by decide))) (by decide) (t_sub (E := []) (E' := [27]) (t_seq (t_pf (s_aload_n d_Pn_write_7 rfl) (s_iconst d_Pn_write_8 (by decide)) fi_Pn_15 rfl (Or.inl rfl) d_Pn_write_9) (t_seq (t_pf (s_aload_n d_Pn_write_12 rfl) (s_iconst d_Pn_write_13 (by decide)) fi_Pn_9 rfl (Or.inl rfl) d_Pn_write_14) (t_throwS (C := R_Ise) (F := F_Ise) (tx := "the power went off") (names := ["java/lang/RuntimeException", "java/lang/Exception"]) rfl (by decide +kernel) (by decide +kernel) (by decide +kernel) (by decide +kernel) at_Pn_9_23 (by decide +kernel) (by decide +kernel) d_Pn_write_17 d_Pn_write_20 d_Pn_write_21 d_Pn_write_23 d_Pn_write_26 (by decide) (by decide)))) (by decide)) (by decide)) (t_seq (t_uf (s_aload_n d_Pn_write_27 rfl) d_Pn_write_28 d_Pn_write_29 (s_ite (q4 := 44) (s_cmp0 (s_getf (s_aload_n d_Pn_write_32 rfl) fi_Pn_9 d_Pn_write_33) (s_if_leF (tgt := 43) d_Pn_write_36 (by decide))) (s_iconst d_Pn_write_39 (by decide)) d_Pn_write_40 (by decide) (s_iconst d_Pn_write_43 (by decide))) (s_isub d_Pn_write_44) fi_Pn_9 rfl rfl d_Pn_write_45) (t_st (s_aload_n d_Pn_write_48 rfl) (s_iload_n d_Pn_write_49 rfl) (s_iload_n d_Pn_write_50 rfl) (s_iast d_Pn_write_51)))) (t_retv rfl d_Pn_write_52))
def f_Pn_write : jx_Mt := jx_fn 4 4 (bd_Pn_write fun _ _ => none)
theorem me_Pn_write : jx_Me 4 z_Pn_write f_Pn_write := jx_Me.ofT (by decide) m_Pn_write
theorem mw_Pn_write : jx_mw ⟨"ExtentShelf$Pen", "write", "([III)V"⟩ z_Pn_write := ⟨rfl, rfl, by decide +kernel, ⟨by decide, by decide⟩, by decide +kernel⟩
theorem pd_Pn_write : (parseMethodDescriptor (⟨"ExtentShelf$Pen", "write", "([III)V"⟩ : MethodName).desc).map (fun d => d.parameters.length) = some 3 := by decide +kernel
abbrev tb_Pn_write : List (Nat × jx_Mt) := [(2, f_Pn_write)]
theorem ve_Pn_write {fr lo : Nat} (h1 : 7 ≤ fr) (h2 : 131 ≤ lo) : ∀ q ∈ tb_Pn_write, jx_ve ⟨"ExtentShelf$Pen", "write", "([III)V"⟩ 3 fr lo q.1 q.2 := tv_1 ⟨R_Pen, F_Pen, 2, ⟨"ExtentShelf$Pen", "write", "([III)V"⟩, z_Pn_write, rfl, by decide +kernel, mw_Pn_write, by decide +kernel, me_Pn_write, Nat.le_trans (by decide) h1, Nat.le_trans (by decide) h2⟩
theorem dc_Pn_write : jx_dc ⟨"ExtentShelf$Pen", "write", "([III)V"⟩ := ⟨⟨by decide, by decide⟩, Or.inr ⟨by decide +kernel, prog_5_method_2_code, 4, _, (by decide +kernel : Cond.code ⟨"ExtentShelf$Pen", "write", "([III)V"⟩ prog_5_method_2_code 4 none ∈ jx_tbl)⟩, "ExtentShelf$Pen", ⟨"ExtentShelf$Pen", "write", "([III)V"⟩, ⟨"ExtentShelf$Pen", "write", "([III)V"⟩, by decide +kernel, rfl⟩
/-! ExtentShelf.put(III)V -/
abbrev z_Sh_put : jx_Z := ("ExtentShelf", "put", prog_1_method_11_code, 4, none, 7, 131)
theorem d_Sh_put_0 : decode z_Sh_put.2.2.1 0 = .ok (.aload_n 0, 1) := by decide +kernel
theorem d_Sh_put_1 : decode z_Sh_put.2.2.1 1 = .ok (.getfield 21, 3) := by decide +kernel
theorem d_Sh_put_4 : decode z_Sh_put.2.2.1 4 = .ok (.aload_n 0, 1) := by decide +kernel
theorem d_Sh_put_5 : decode z_Sh_put.2.2.1 5 = .ok (.getfield 12, 3) := by decide +kernel
theorem d_Sh_put_8 : decode z_Sh_put.2.2.1 8 = .ok (.iload_n 1, 1) := by decide +kernel
theorem d_Sh_put_9 : decode z_Sh_put.2.2.1 9 = .ok (.invokestatic 78, 3) := by decide +kernel
theorem d_Sh_put_12 : decode z_Sh_put.2.2.1 12 = .ok (.aaload, 1) := by decide +kernel
theorem d_Sh_put_13 : decode z_Sh_put.2.2.1 13 = .ok (.getfield 82, 3) := by decide +kernel
theorem d_Sh_put_16 : decode z_Sh_put.2.2.1 16 = .ok (.iconst 4, 1) := by decide +kernel
theorem d_Sh_put_17 : decode z_Sh_put.2.2.1 17 = .ok (.iload_n 1, 1) := by decide +kernel
theorem d_Sh_put_18 : decode z_Sh_put.2.2.1 18 = .ok (.invokestatic 85, 3) := by decide +kernel
theorem d_Sh_put_21 : decode z_Sh_put.2.2.1 21 = .ok (.imul, 1) := by decide +kernel
theorem d_Sh_put_22 : decode z_Sh_put.2.2.1 22 = .ok (.iload_n 2, 1) := by decide +kernel
theorem d_Sh_put_23 : decode z_Sh_put.2.2.1 23 = .ok (.iadd, 1) := by decide +kernel
theorem d_Sh_put_24 : decode z_Sh_put.2.2.1 24 = .ok (.iload_n 3, 1) := by decide +kernel
theorem d_Sh_put_25 : decode z_Sh_put.2.2.1 25 = .ok (.invokevirtual 88, 3) := by decide +kernel
theorem d_Sh_put_28 : decode z_Sh_put.2.2.1 28 = .ok (.return_, 1) := by decide +kernel
def bd_Sh_put : jx_St := (sSeq (sCl (jx_ev tb_Pn_write) [(eGf [0] 1 (eA 0)), (eGf [1] 2 (eLda 3 (eGf [0] 0 (eA 0)) (eCl (jx_ec f_Sh_diskOf) [(eI 1)]))), (eBin oAdd (eBin oMul (eInt (nI 4)) (eCl (jx_ec f_Sh_placeOf) [(eI 1)])) (eI 2)), (eI 3)]) sRetV)
theorem m_Sh_put : jx_Ts z_Sh_put 0 bd_Sh_put [] := by
  unfold bd_Sh_put
  exact (t_seq (t_cl (s_a1 (s_getf (s_aload_n d_Sh_put_0 rfl) fi_Sh_21 d_Sh_put_1) (s_a1 (s_getf (s_loada (s_getf (s_aload_n d_Sh_put_4 rfl) fi_Sh_12 d_Sh_put_5) (s_cl (s_a1 (s_iload_n d_Sh_put_8 rfl) s_a0) (s_ecs me_Sh_diskOf mw_Sh_diskOf (by decide) (by decide) (by decide) lm_Sh_78 w_st_Sh_diskOf w_in_Sh pd_Sh_diskOf d_Sh_put_9)) (s_aald (Or.inl rfl) d_Sh_put_12)) fi_Sh_82 d_Sh_put_13) (s_a1 (s_bin (s_bin (s_iconst d_Sh_put_16 (by decide)) (s_cl (s_a1 (s_iload_n d_Sh_put_17 rfl) s_a0) (s_ecs me_Sh_placeOf mw_Sh_placeOf (by decide) (by decide) (by decide) lm_Sh_85 w_st_Sh_placeOf w_in_Sh pd_Sh_placeOf d_Sh_put_18)) (s_imul d_Sh_put_21)) (s_iload_n d_Sh_put_22 rfl) (s_iadd d_Sh_put_23)) (s_a1 (s_iload_n d_Sh_put_24 rfl) s_a0)))) (s_ecv (ve_Pn_write (by decide) (by decide)) dc_Pn_write (by decide) lm_Sh_88 pd_Pn_write d_Sh_put_25)) (t_retv rfl d_Sh_put_28))
def f_Sh_put : jx_Mt := jx_fn 4 4 (bd_Sh_put fun _ _ => none)
theorem me_Sh_put : jx_Me 4 z_Sh_put f_Sh_put := jx_Me.ofT (by decide) m_Sh_put
theorem mw_Sh_put : jx_mw ⟨"ExtentShelf", "put", "(III)V"⟩ z_Sh_put := ⟨rfl, rfl, by decide +kernel, ⟨by decide, by decide⟩, by decide +kernel⟩
theorem pd_Sh_put : (parseMethodDescriptor (⟨"ExtentShelf", "put", "(III)V"⟩ : MethodName).desc).map (fun d => d.parameters.length) = some 3 := by decide +kernel
/-! ExtentShelf.get(II)I -/
abbrev z_Sh_get : jx_Z := ("ExtentShelf", "get", prog_1_method_12_code, 3, some .int, 1, 28)
theorem d_Sh_get_0 : decode z_Sh_get.2.2.1 0 = .ok (.aload_n 0, 1) := by decide +kernel
theorem d_Sh_get_1 : decode z_Sh_get.2.2.1 1 = .ok (.getfield 12, 3) := by decide +kernel
theorem d_Sh_get_4 : decode z_Sh_get.2.2.1 4 = .ok (.iload_n 1, 1) := by decide +kernel
theorem d_Sh_get_5 : decode z_Sh_get.2.2.1 5 = .ok (.invokestatic 78, 3) := by decide +kernel
theorem d_Sh_get_8 : decode z_Sh_get.2.2.1 8 = .ok (.aaload, 1) := by decide +kernel
theorem d_Sh_get_9 : decode z_Sh_get.2.2.1 9 = .ok (.getfield 82, 3) := by decide +kernel
theorem d_Sh_get_12 : decode z_Sh_get.2.2.1 12 = .ok (.iconst 4, 1) := by decide +kernel
theorem d_Sh_get_13 : decode z_Sh_get.2.2.1 13 = .ok (.iload_n 1, 1) := by decide +kernel
theorem d_Sh_get_14 : decode z_Sh_get.2.2.1 14 = .ok (.invokestatic 85, 3) := by decide +kernel
theorem d_Sh_get_17 : decode z_Sh_get.2.2.1 17 = .ok (.imul, 1) := by decide +kernel
theorem d_Sh_get_18 : decode z_Sh_get.2.2.1 18 = .ok (.iload_n 2, 1) := by decide +kernel
theorem d_Sh_get_19 : decode z_Sh_get.2.2.1 19 = .ok (.iadd, 1) := by decide +kernel
theorem d_Sh_get_20 : decode z_Sh_get.2.2.1 20 = .ok (.iaload, 1) := by decide +kernel
theorem d_Sh_get_21 : decode z_Sh_get.2.2.1 21 = .ok (.ireturn, 1) := by decide +kernel
def bd_Sh_get : jx_St := (sRet 0 (eLd 0 (eGf [1] 2 (eLda 3 (eGf [0] 0 (eA 0)) (eCl (jx_ec f_Sh_diskOf) [(eI 1)]))) (eBin oAdd (eBin oMul (eInt (nI 4)) (eCl (jx_ec f_Sh_placeOf) [(eI 1)])) (eI 2))))
theorem m_Sh_get : jx_Ts z_Sh_get 0 bd_Sh_get [] := by
  unfold bd_Sh_get
  exact (t_ret .int (s_load (s_getf (s_loada (s_getf (s_aload_n d_Sh_get_0 rfl) fi_Sh_12 d_Sh_get_1) (s_cl (s_a1 (s_iload_n d_Sh_get_4 rfl) s_a0) (s_ecs me_Sh_diskOf mw_Sh_diskOf (by decide) (by decide) (by decide) lm_Sh_78 w_st_Sh_diskOf w_in_Sh pd_Sh_diskOf d_Sh_get_5)) (s_aald (Or.inl rfl) d_Sh_get_8)) fi_Sh_82 d_Sh_get_9) (s_bin (s_bin (s_iconst d_Sh_get_12 (by decide)) (s_cl (s_a1 (s_iload_n d_Sh_get_13 rfl) s_a0) (s_ecs me_Sh_placeOf mw_Sh_placeOf (by decide) (by decide) (by decide) lm_Sh_85 w_st_Sh_placeOf w_in_Sh pd_Sh_placeOf d_Sh_get_14)) (s_imul d_Sh_get_17)) (s_iload_n d_Sh_get_18 rfl) (s_iadd d_Sh_get_19)) (s_iald d_Sh_get_20)) rfl (by decide) d_Sh_get_21)
def f_Sh_get : jx_Mt := jx_fn 3 3 (bd_Sh_get fun _ _ => none)
theorem me_Sh_get : jx_Me 3 z_Sh_get f_Sh_get := jx_Me.ofT (by decide) m_Sh_get
theorem mw_Sh_get : jx_mw ⟨"ExtentShelf", "get", "(II)I"⟩ z_Sh_get := ⟨rfl, rfl, by decide +kernel, ⟨by decide, by decide⟩, by decide +kernel⟩
theorem pd_Sh_get : (parseMethodDescriptor (⟨"ExtentShelf", "get", "(II)I"⟩ : MethodName).desc).map (fun d => d.parameters.length) = some 2 := by decide +kernel
/-! ExtentShelf.isReadable(I)Z -/
abbrev z_Sh_isReadable : jx_Z := ("ExtentShelf", "isReadable", prog_1_method_13_code, 2, some .boolean, 1, 28)
theorem d_Sh_isReadable_0 : decode z_Sh_isReadable.2.2.1 0 = .ok (.iload_n 1, 1) := by decide +kernel
theorem d_Sh_isReadable_1 : decode z_Sh_isReadable.2.2.1 1 = .ok (.ifCond .eq 22, 3) := by decide +kernel
theorem d_Sh_isReadable_4 : decode z_Sh_isReadable.2.2.1 4 = .ok (.aload_n 0, 1) := by decide +kernel
theorem d_Sh_isReadable_5 : decode z_Sh_isReadable.2.2.1 5 = .ok (.getfield 12, 3) := by decide +kernel
theorem d_Sh_isReadable_8 : decode z_Sh_isReadable.2.2.1 8 = .ok (.iload_n 1, 1) := by decide +kernel
theorem d_Sh_isReadable_9 : decode z_Sh_isReadable.2.2.1 9 = .ok (.invokestatic 78, 3) := by decide +kernel
theorem d_Sh_isReadable_12 : decode z_Sh_isReadable.2.2.1 12 = .ok (.aaload, 1) := by decide +kernel
theorem d_Sh_isReadable_13 : decode z_Sh_isReadable.2.2.1 13 = .ok (.getfield 68, 3) := by decide +kernel
theorem d_Sh_isReadable_16 : decode z_Sh_isReadable.2.2.1 16 = .ok (.ifCond .eq 7, 3) := by decide +kernel
theorem d_Sh_isReadable_19 : decode z_Sh_isReadable.2.2.1 19 = .ok (.iconst 1, 1) := by decide +kernel
theorem d_Sh_isReadable_20 : decode z_Sh_isReadable.2.2.1 20 = .ok (.goto 4, 3) := by decide +kernel
theorem d_Sh_isReadable_23 : decode z_Sh_isReadable.2.2.1 23 = .ok (.iconst 0, 1) := by decide +kernel
theorem d_Sh_isReadable_24 : decode z_Sh_isReadable.2.2.1 24 = .ok (.ireturn, 1) := by decide +kernel
def bd_Sh_isReadable : jx_St := (sRet 1 (eIte (cAnd (cCmp0 rNe (eI 1)) (cCmp0 rNe (eGf [1] 3 (eLda 3 (eGf [0] 0 (eA 0)) (eCl (jx_ec f_Sh_diskOf) [(eI 1)]))))) (eInt (nI 1)) (eInt (nI 0))))
theorem m_Sh_isReadable : jx_Ts z_Sh_isReadable 0 bd_Sh_isReadable [] := by
  unfold bd_Sh_isReadable
  exact (t_ret .boolean (s_ite (q4 := 24) (s_andg (s_cmp0 (s_iload_n d_Sh_isReadable_0 rfl) (s_if_eqF (tgt := 23) d_Sh_isReadable_1 (by decide))) (by decide) (al_1 (s_cmp0 (s_getf (s_loada (s_getf (s_aload_n d_Sh_isReadable_4 rfl) fi_Sh_12 d_Sh_isReadable_5) (s_cl (s_a1 (s_iload_n d_Sh_isReadable_8 rfl) s_a0) (s_ecs me_Sh_diskOf mw_Sh_diskOf (by decide) (by decide) (by decide) lm_Sh_78 w_st_Sh_diskOf w_in_Sh pd_Sh_diskOf d_Sh_isReadable_9)) (s_aald (Or.inl rfl) d_Sh_isReadable_12)) fi_Sh_68 d_Sh_isReadable_13) (s_if_eqF (tgt := 23) d_Sh_isReadable_16 (by decide))))) (s_iconst d_Sh_isReadable_19 (by decide)) d_Sh_isReadable_20 (by decide) (s_iconst d_Sh_isReadable_23 (by decide))) rfl (by decide) d_Sh_isReadable_24)
def f_Sh_isReadable : jx_Mt := jx_fn 2 2 (bd_Sh_isReadable fun _ _ => none)
theorem me_Sh_isReadable : jx_Me 2 z_Sh_isReadable f_Sh_isReadable := jx_Me.ofT (by decide) m_Sh_isReadable
theorem mw_Sh_isReadable : jx_mw ⟨"ExtentShelf", "isReadable", "(I)Z"⟩ z_Sh_isReadable := ⟨rfl, rfl, by decide +kernel, ⟨by decide, by decide⟩, by decide +kernel⟩
theorem pd_Sh_isReadable : (parseMethodDescriptor (⟨"ExtentShelf", "isReadable", "(I)Z"⟩ : MethodName).desc).map (fun d => d.parameters.length) = some 1 := by decide +kernel
abbrev tb_Sh_isOneAbsent : List (Nat × jx_Mt) := [(0, f_Sh_isOneAbsent)]
theorem ve_Sh_isOneAbsent {fr lo : Nat} (h1 : 2 ≤ fr) (h2 : 62 ≤ lo) : ∀ q ∈ tb_Sh_isOneAbsent, jx_ve ⟨"ExtentShelf", "isOneAbsent", "()Z"⟩ 0 fr lo q.1 q.2 := tv_1 ⟨R_Shelf, F_Shelf, 5, ⟨"ExtentShelf", "isOneAbsent", "()Z"⟩, z_Sh_isOneAbsent, rfl, by decide +kernel, mw_Sh_isOneAbsent, by decide +kernel, me_Sh_isOneAbsent, Nat.le_trans (by decide) h1, Nat.le_trans (by decide) h2⟩
theorem dc_Sh_isOneAbsent : jx_dc ⟨"ExtentShelf", "isOneAbsent", "()Z"⟩ := ⟨⟨by decide, by decide⟩, Or.inr ⟨by decide +kernel, prog_1_method_9_code, 6, _, (by decide +kernel : Cond.code ⟨"ExtentShelf", "isOneAbsent", "()Z"⟩ prog_1_method_9_code 6 (some .boolean) ∈ jx_tbl)⟩, "ExtentShelf", ⟨"ExtentShelf", "isOneAbsent", "()Z"⟩, ⟨"ExtentShelf", "isOneAbsent", "()Z"⟩, by decide +kernel, rfl⟩
/-! ExtentShelf$Linear.kind()I -/
abbrev z_Li_kind : jx_Z := ("ExtentShelf$Linear", "kind", prog_3_method_2_code, 1, some .int, 0, 0)
theorem d_Li_kind_0 : decode z_Li_kind.2.2.1 0 = .ok (.iconst 0, 1) := by decide +kernel
theorem d_Li_kind_1 : decode z_Li_kind.2.2.1 1 = .ok (.ireturn, 1) := by decide +kernel
def bd_Li_kind : jx_St := (sRet 0 (eInt (nI 0)))
theorem m_Li_kind : jx_Ts z_Li_kind 0 bd_Li_kind [] := by
  unfold bd_Li_kind
  exact (t_ret .int (s_iconst d_Li_kind_0 (by decide)) rfl (by decide) d_Li_kind_1)
def f_Li_kind : jx_Mt := jx_fn 1 1 (bd_Li_kind fun _ _ => none)
theorem me_Li_kind : jx_Me 1 z_Li_kind f_Li_kind := jx_Me.ofT (by decide) m_Li_kind
theorem mw_Li_kind : jx_mw ⟨"ExtentShelf$Linear", "kind", "()I"⟩ z_Li_kind := ⟨rfl, rfl, by decide +kernel, ⟨by decide, by decide⟩, by decide +kernel⟩
theorem pd_Li_kind : (parseMethodDescriptor (⟨"ExtentShelf$Linear", "kind", "()I"⟩ : MethodName).desc).map (fun d => d.parameters.length) = some 0 := by decide +kernel
/-! ExtentShelf$Striped.kind()I -/
abbrev z_Sr_kind : jx_Z := ("ExtentShelf$Striped", "kind", prog_6_method_2_code, 1, some .int, 0, 0)
theorem d_Sr_kind_0 : decode z_Sr_kind.2.2.1 0 = .ok (.iconst 1, 1) := by decide +kernel
theorem d_Sr_kind_1 : decode z_Sr_kind.2.2.1 1 = .ok (.ireturn, 1) := by decide +kernel
def bd_Sr_kind : jx_St := (sRet 0 (eInt (nI 1)))
theorem m_Sr_kind : jx_Ts z_Sr_kind 0 bd_Sr_kind [] := by
  unfold bd_Sr_kind
  exact (t_ret .int (s_iconst d_Sr_kind_0 (by decide)) rfl (by decide) d_Sr_kind_1)
def f_Sr_kind : jx_Mt := jx_fn 1 1 (bd_Sr_kind fun _ _ => none)
theorem me_Sr_kind : jx_Me 1 z_Sr_kind f_Sr_kind := jx_Me.ofT (by decide) m_Sr_kind
theorem mw_Sr_kind : jx_mw ⟨"ExtentShelf$Striped", "kind", "()I"⟩ z_Sr_kind := ⟨rfl, rfl, by decide +kernel, ⟨by decide, by decide⟩, by decide +kernel⟩
theorem pd_Sr_kind : (parseMethodDescriptor (⟨"ExtentShelf$Striped", "kind", "()I"⟩ : MethodName).desc).map (fun d => d.parameters.length) = some 0 := by decide +kernel
/-! ExtentShelf$Twinned.kind()I -/
abbrev z_Tw_kind : jx_Z := ("ExtentShelf$Twinned", "kind", prog_8_method_2_code, 1, some .int, 0, 0)
theorem d_Tw_kind_0 : decode z_Tw_kind.2.2.1 0 = .ok (.iconst 2, 1) := by decide +kernel
theorem d_Tw_kind_1 : decode z_Tw_kind.2.2.1 1 = .ok (.ireturn, 1) := by decide +kernel
def bd_Tw_kind : jx_St := (sRet 0 (eInt (nI 2)))
theorem m_Tw_kind : jx_Ts z_Tw_kind 0 bd_Tw_kind [] := by
  unfold bd_Tw_kind
  exact (t_ret .int (s_iconst d_Tw_kind_0 (by decide)) rfl (by decide) d_Tw_kind_1)
def f_Tw_kind : jx_Mt := jx_fn 1 1 (bd_Tw_kind fun _ _ => none)
theorem me_Tw_kind : jx_Me 1 z_Tw_kind f_Tw_kind := jx_Me.ofT (by decide) m_Tw_kind
theorem mw_Tw_kind : jx_mw ⟨"ExtentShelf$Twinned", "kind", "()I"⟩ z_Tw_kind := ⟨rfl, rfl, by decide +kernel, ⟨by decide, by decide⟩, by decide +kernel⟩
theorem pd_Tw_kind : (parseMethodDescriptor (⟨"ExtentShelf$Twinned", "kind", "()I"⟩ : MethodName).desc).map (fun d => d.parameters.length) = some 0 := by decide +kernel
abbrev tb_Vo_kind : List (Nat × jx_Mt) := [(5, f_Li_kind), (6, f_Sr_kind), (7, f_Tw_kind)]
theorem ve_Vo_kind {fr lo : Nat} (h1 : 1 ≤ fr) (h2 : 28 ≤ lo) : ∀ q ∈ tb_Vo_kind, jx_ve ⟨"ExtentShelf$Volume", "kind", "()I"⟩ 0 fr lo q.1 q.2 := tv_3 ⟨R_Linear, F_Linear, 3, ⟨"ExtentShelf$Linear", "kind", "()I"⟩, z_Li_kind, rfl, by decide +kernel, mw_Li_kind, by decide +kernel, me_Li_kind, Nat.le_trans (by decide) h1, Nat.le_trans (by decide) h2⟩ ⟨R_Striped, F_Striped, 3, ⟨"ExtentShelf$Striped", "kind", "()I"⟩, z_Sr_kind, rfl, by decide +kernel, mw_Sr_kind, by decide +kernel, me_Sr_kind, Nat.le_trans (by decide) h1, Nat.le_trans (by decide) h2⟩ ⟨R_Twinned, F_Twinned, 3, ⟨"ExtentShelf$Twinned", "kind", "()I"⟩, z_Tw_kind, rfl, by decide +kernel, mw_Tw_kind, by decide +kernel, me_Tw_kind, Nat.le_trans (by decide) h1, Nat.le_trans (by decide) h2⟩
theorem dc_Vo_kind : jx_dc ⟨"ExtentShelf$Volume", "kind", "()I"⟩ := ⟨⟨by decide, by decide⟩, Or.inl (by decide +kernel), "ExtentShelf$Linear", ⟨"ExtentShelf$Volume", "said", "()I"⟩, ⟨"ExtentShelf$Volume", "said", "()I"⟩, by decide +kernel, rfl⟩
theorem pd_Vo_kind : (parseMethodDescriptor (⟨"ExtentShelf$Volume", "kind", "()I"⟩ : MethodName).desc).map (fun d => d.parameters.length) = some 0 := by decide +kernel
/-! ExtentShelf$Volume.said()I -/
abbrev z_Vo_said : jx_Z := ("ExtentShelf$Volume", "said", prog_9_method_8_code, 1, some .int, 1, 28)
theorem d_Vo_said_0 : decode z_Vo_said.2.2.1 0 = .ok (.iconst 1, 1) := by decide +kernel
theorem d_Vo_said_1 : decode z_Vo_said.2.2.1 1 = .ok (.aload_n 0, 1) := by decide +kernel
theorem d_Vo_said_2 : decode z_Vo_said.2.2.1 2 = .ok (.invokevirtual 22, 3) := by decide +kernel
theorem d_Vo_said_5 : decode z_Vo_said.2.2.1 5 = .ok (.iadd, 1) := by decide +kernel
theorem d_Vo_said_6 : decode z_Vo_said.2.2.1 6 = .ok (.iconst 4, 1) := by decide +kernel
theorem d_Vo_said_7 : decode z_Vo_said.2.2.1 7 = .ok (.aload_n 0, 1) := by decide +kernel
theorem d_Vo_said_8 : decode z_Vo_said.2.2.1 8 = .ok (.getfield 15, 3) := by decide +kernel
theorem d_Vo_said_11 : decode z_Vo_said.2.2.1 11 = .ok (.imul, 1) := by decide +kernel
theorem d_Vo_said_12 : decode z_Vo_said.2.2.1 12 = .ok (.iadd, 1) := by decide +kernel
theorem d_Vo_said_13 : decode z_Vo_said.2.2.1 13 = .ok (.bipush 32, 2) := by decide +kernel
theorem d_Vo_said_15 : decode z_Vo_said.2.2.1 15 = .ok (.aload_n 0, 1) := by decide +kernel
theorem d_Vo_said_16 : decode z_Vo_said.2.2.1 16 = .ok (.getfield 19, 3) := by decide +kernel
theorem d_Vo_said_19 : decode z_Vo_said.2.2.1 19 = .ok (.imul, 1) := by decide +kernel
theorem d_Vo_said_20 : decode z_Vo_said.2.2.1 20 = .ok (.iadd, 1) := by decide +kernel
theorem d_Vo_said_21 : decode z_Vo_said.2.2.1 21 = .ok (.ireturn, 1) := by decide +kernel
def bd_Vo_said : jx_St := (sRet 0 (eBin oAdd (eBin oAdd (eBin oAdd (eInt (nI 1)) (eCl (jx_ev tb_Vo_kind) [(eA 0)])) (eBin oMul (eInt (nI 4)) (eGf [5, 6, 7] 0 (eA 0)))) (eBin oMul (eInt (nI 32)) (eGf [5, 6, 7] 1 (eA 0)))))
theorem m_Vo_said : jx_Ts z_Vo_said 0 bd_Vo_said [] := by
  unfold bd_Vo_said
  exact (t_ret .int (s_bin (s_bin (s_bin (s_iconst d_Vo_said_0 (by decide)) (s_cl (s_a1 (s_aload_n d_Vo_said_1 rfl) s_a0) (s_ecv (ve_Vo_kind (by decide) (by decide)) dc_Vo_kind (by decide) lm_Vo_22 pd_Vo_kind d_Vo_said_2)) (s_iadd d_Vo_said_5)) (s_bin (s_iconst d_Vo_said_6 (by decide)) (s_getf (s_aload_n d_Vo_said_7 rfl) fi_Vo_15 d_Vo_said_8) (s_imul d_Vo_said_11)) (s_iadd d_Vo_said_12)) (s_bin (s_bipush d_Vo_said_13 (by decide)) (s_getf (s_aload_n d_Vo_said_15 rfl) fi_Vo_19 d_Vo_said_16) (s_imul d_Vo_said_19)) (s_iadd d_Vo_said_20)) rfl (by decide) d_Vo_said_21)
def f_Vo_said : jx_Mt := jx_fn 1 1 (bd_Vo_said fun _ _ => none)
theorem me_Vo_said : jx_Me 1 z_Vo_said f_Vo_said := jx_Me.ofT (by decide) m_Vo_said
theorem mw_Vo_said : jx_mw ⟨"ExtentShelf$Volume", "said", "()I"⟩ z_Vo_said := ⟨rfl, rfl, by decide +kernel, ⟨by decide, by decide⟩, by decide +kernel⟩
theorem pd_Vo_said : (parseMethodDescriptor (⟨"ExtentShelf$Volume", "said", "()I"⟩ : MethodName).desc).map (fun d => d.parameters.length) = some 0 := by decide +kernel
abbrev tb_Vo_said : List (Nat × jx_Mt) := [(5, f_Vo_said), (6, f_Vo_said), (7, f_Vo_said)]
theorem ve_Vo_said {fr lo : Nat} (h1 : 2 ≤ fr) (h2 : 56 ≤ lo) : ∀ q ∈ tb_Vo_said, jx_ve ⟨"ExtentShelf$Volume", "said", "()I"⟩ 0 fr lo q.1 q.2 := tv_3 ⟨R_Linear, F_Linear, 3, ⟨"ExtentShelf$Volume", "said", "()I"⟩, z_Vo_said, rfl, by decide +kernel, mw_Vo_said, by decide +kernel, me_Vo_said, Nat.le_trans (by decide) h1, Nat.le_trans (by decide) h2⟩ ⟨R_Striped, F_Striped, 3, ⟨"ExtentShelf$Volume", "said", "()I"⟩, z_Vo_said, rfl, by decide +kernel, mw_Vo_said, by decide +kernel, me_Vo_said, Nat.le_trans (by decide) h1, Nat.le_trans (by decide) h2⟩ ⟨R_Twinned, F_Twinned, 3, ⟨"ExtentShelf$Volume", "said", "()I"⟩, z_Vo_said, rfl, by decide +kernel, mw_Vo_said, by decide +kernel, me_Vo_said, Nat.le_trans (by decide) h1, Nat.le_trans (by decide) h2⟩
theorem dc_Vo_said : jx_dc ⟨"ExtentShelf$Volume", "said", "()I"⟩ := ⟨⟨by decide, by decide⟩, Or.inr ⟨by decide +kernel, prog_9_method_8_code, 1, _, (by decide +kernel : Cond.code ⟨"ExtentShelf$Volume", "said", "()I"⟩ prog_9_method_8_code 1 (some .int) ∈ jx_tbl)⟩, "ExtentShelf$Linear", ⟨"ExtentShelf$Volume", "said", "()I"⟩, ⟨"ExtentShelf$Volume", "said", "()I"⟩, by decide +kernel, rfl⟩
/-! ExtentShelf$Table.fill([I)V -/
abbrev z_Tb_fill : jx_Z := ("ExtentShelf$Table", "fill", prog_7_method_3_code, 4, none, 2, 56)
theorem d_Tb_fill_0 : decode z_Tb_fill.2.2.1 0 = .ok (.aload_n 1, 1) := by decide +kernel
theorem d_Tb_fill_1 : decode z_Tb_fill.2.2.1 1 = .ok (.iconst 0, 1) := by decide +kernel
theorem d_Tb_fill_2 : decode z_Tb_fill.2.2.1 2 = .ok (.aload_n 0, 1) := by decide +kernel
theorem d_Tb_fill_3 : decode z_Tb_fill.2.2.1 3 = .ok (.getfield 22, 3) := by decide +kernel
theorem d_Tb_fill_6 : decode z_Tb_fill.2.2.1 6 = .ok (.iastore, 1) := by decide +kernel
theorem d_Tb_fill_7 : decode z_Tb_fill.2.2.1 7 = .ok (.aload_n 1, 1) := by decide +kernel
theorem d_Tb_fill_8 : decode z_Tb_fill.2.2.1 8 = .ok (.bipush 50, 2) := by decide +kernel
theorem d_Tb_fill_10 : decode z_Tb_fill.2.2.1 10 = .ok (.aload_n 0, 1) := by decide +kernel
theorem d_Tb_fill_11 : decode z_Tb_fill.2.2.1 11 = .ok (.getfield 22, 3) := by decide +kernel
theorem d_Tb_fill_14 : decode z_Tb_fill.2.2.1 14 = .ok (.iastore, 1) := by decide +kernel
theorem d_Tb_fill_15 : decode z_Tb_fill.2.2.1 15 = .ok (.iconst 0, 1) := by decide +kernel
theorem d_Tb_fill_16 : decode z_Tb_fill.2.2.1 16 = .ok (.istore_n 2, 1) := by decide +kernel
theorem d_Tb_fill_17 : decode z_Tb_fill.2.2.1 17 = .ok (.iload_n 2, 1) := by decide +kernel
theorem d_Tb_fill_18 : decode z_Tb_fill.2.2.1 18 = .ok (.iconst 4, 1) := by decide +kernel
theorem d_Tb_fill_19 : decode z_Tb_fill.2.2.1 19 = .ok (.if_icmp .ge 20, 3) := by decide +kernel
theorem d_Tb_fill_22 : decode z_Tb_fill.2.2.1 22 = .ok (.aload_n 1, 1) := by decide +kernel
theorem d_Tb_fill_23 : decode z_Tb_fill.2.2.1 23 = .ok (.iconst 1, 1) := by decide +kernel
theorem d_Tb_fill_24 : decode z_Tb_fill.2.2.1 24 = .ok (.iload_n 2, 1) := by decide +kernel
theorem d_Tb_fill_25 : decode z_Tb_fill.2.2.1 25 = .ok (.iadd, 1) := by decide +kernel
theorem d_Tb_fill_26 : decode z_Tb_fill.2.2.1 26 = .ok (.aload_n 0, 1) := by decide +kernel
theorem d_Tb_fill_27 : decode z_Tb_fill.2.2.1 27 = .ok (.getfield 9, 3) := by decide +kernel
theorem d_Tb_fill_30 : decode z_Tb_fill.2.2.1 30 = .ok (.iload_n 2, 1) := by decide +kernel
theorem d_Tb_fill_31 : decode z_Tb_fill.2.2.1 31 = .ok (.iaload, 1) := by decide +kernel
theorem d_Tb_fill_32 : decode z_Tb_fill.2.2.1 32 = .ok (.iastore, 1) := by decide +kernel
theorem d_Tb_fill_33 : decode z_Tb_fill.2.2.1 33 = .ok (.iinc 2 1, 3) := by decide +kernel
theorem d_Tb_fill_36 : decode z_Tb_fill.2.2.1 36 = .ok (.goto (-19), 3) := by decide +kernel
theorem d_Tb_fill_39 : decode z_Tb_fill.2.2.1 39 = .ok (.iconst 0, 1) := by decide +kernel
theorem d_Tb_fill_40 : decode z_Tb_fill.2.2.1 40 = .ok (.istore_n 2, 1) := by decide +kernel
theorem d_Tb_fill_41 : decode z_Tb_fill.2.2.1 41 = .ok (.iload_n 2, 1) := by decide +kernel
theorem d_Tb_fill_42 : decode z_Tb_fill.2.2.1 42 = .ok (.iconst 4, 1) := by decide +kernel
theorem d_Tb_fill_43 : decode z_Tb_fill.2.2.1 43 = .ok (.if_icmp .ge 85, 3) := by decide +kernel
theorem d_Tb_fill_46 : decode z_Tb_fill.2.2.1 46 = .ok (.aload_n 1, 1) := by decide +kernel
theorem d_Tb_fill_47 : decode z_Tb_fill.2.2.1 47 = .ok (.iconst 5, 1) := by decide +kernel
theorem d_Tb_fill_48 : decode z_Tb_fill.2.2.1 48 = .ok (.iload_n 2, 1) := by decide +kernel
theorem d_Tb_fill_49 : decode z_Tb_fill.2.2.1 49 = .ok (.iadd, 1) := by decide +kernel
theorem d_Tb_fill_50 : decode z_Tb_fill.2.2.1 50 = .ok (.aload_n 0, 1) := by decide +kernel
theorem d_Tb_fill_51 : decode z_Tb_fill.2.2.1 51 = .ok (.getfield 17, 3) := by decide +kernel
theorem d_Tb_fill_54 : decode z_Tb_fill.2.2.1 54 = .ok (.iload_n 2, 1) := by decide +kernel
theorem d_Tb_fill_55 : decode z_Tb_fill.2.2.1 55 = .ok (.aaload, 1) := by decide +kernel
theorem d_Tb_fill_56 : decode z_Tb_fill.2.2.1 56 = .ok (.ifnonnull 7, 3) := by decide +kernel
theorem d_Tb_fill_59 : decode z_Tb_fill.2.2.1 59 = .ok (.iconst 0, 1) := by decide +kernel
theorem d_Tb_fill_60 : decode z_Tb_fill.2.2.1 60 = .ok (.goto 12, 3) := by decide +kernel
theorem d_Tb_fill_63 : decode z_Tb_fill.2.2.1 63 = .ok (.aload_n 0, 1) := by decide +kernel
theorem d_Tb_fill_64 : decode z_Tb_fill.2.2.1 64 = .ok (.getfield 17, 3) := by decide +kernel
theorem d_Tb_fill_67 : decode z_Tb_fill.2.2.1 67 = .ok (.iload_n 2, 1) := by decide +kernel
theorem d_Tb_fill_68 : decode z_Tb_fill.2.2.1 68 = .ok (.aaload, 1) := by decide +kernel
theorem d_Tb_fill_69 : decode z_Tb_fill.2.2.1 69 = .ok (.invokevirtual 49, 3) := by decide +kernel
theorem d_Tb_fill_72 : decode z_Tb_fill.2.2.1 72 = .ok (.iastore, 1) := by decide +kernel
theorem d_Tb_fill_73 : decode z_Tb_fill.2.2.1 73 = .ok (.iconst 0, 1) := by decide +kernel
theorem d_Tb_fill_74 : decode z_Tb_fill.2.2.1 74 = .ok (.istore_n 3, 1) := by decide +kernel
theorem d_Tb_fill_75 : decode z_Tb_fill.2.2.1 75 = .ok (.iload_n 3, 1) := by decide +kernel
theorem d_Tb_fill_76 : decode z_Tb_fill.2.2.1 76 = .ok (.bipush 10, 2) := by decide +kernel
theorem d_Tb_fill_78 : decode z_Tb_fill.2.2.1 78 = .ok (.if_icmp .ge 44, 3) := by decide +kernel
theorem d_Tb_fill_81 : decode z_Tb_fill.2.2.1 81 = .ok (.aload_n 1, 1) := by decide +kernel
theorem d_Tb_fill_82 : decode z_Tb_fill.2.2.1 82 = .ok (.bipush 9, 2) := by decide +kernel
theorem d_Tb_fill_84 : decode z_Tb_fill.2.2.1 84 = .ok (.bipush 10, 2) := by decide +kernel
theorem d_Tb_fill_86 : decode z_Tb_fill.2.2.1 86 = .ok (.iload_n 2, 1) := by decide +kernel
theorem d_Tb_fill_87 : decode z_Tb_fill.2.2.1 87 = .ok (.imul, 1) := by decide +kernel
theorem d_Tb_fill_88 : decode z_Tb_fill.2.2.1 88 = .ok (.iadd, 1) := by decide +kernel
theorem d_Tb_fill_89 : decode z_Tb_fill.2.2.1 89 = .ok (.iload_n 3, 1) := by decide +kernel
theorem d_Tb_fill_90 : decode z_Tb_fill.2.2.1 90 = .ok (.iadd, 1) := by decide +kernel
theorem d_Tb_fill_91 : decode z_Tb_fill.2.2.1 91 = .ok (.aload_n 0, 1) := by decide +kernel
theorem d_Tb_fill_92 : decode z_Tb_fill.2.2.1 92 = .ok (.getfield 17, 3) := by decide +kernel
theorem d_Tb_fill_95 : decode z_Tb_fill.2.2.1 95 = .ok (.iload_n 2, 1) := by decide +kernel
theorem d_Tb_fill_96 : decode z_Tb_fill.2.2.1 96 = .ok (.aaload, 1) := by decide +kernel
theorem d_Tb_fill_97 : decode z_Tb_fill.2.2.1 97 = .ok (.ifnonnull 7, 3) := by decide +kernel
theorem d_Tb_fill_100 : decode z_Tb_fill.2.2.1 100 = .ok (.iconst 0, 1) := by decide +kernel
theorem d_Tb_fill_101 : decode z_Tb_fill.2.2.1 101 = .ok (.goto 14, 3) := by decide +kernel
theorem d_Tb_fill_104 : decode z_Tb_fill.2.2.1 104 = .ok (.aload_n 0, 1) := by decide +kernel
theorem d_Tb_fill_105 : decode z_Tb_fill.2.2.1 105 = .ok (.getfield 17, 3) := by decide +kernel
theorem d_Tb_fill_108 : decode z_Tb_fill.2.2.1 108 = .ok (.iload_n 2, 1) := by decide +kernel
theorem d_Tb_fill_109 : decode z_Tb_fill.2.2.1 109 = .ok (.aaload, 1) := by decide +kernel
theorem d_Tb_fill_110 : decode z_Tb_fill.2.2.1 110 = .ok (.getfield 46, 3) := by decide +kernel
theorem d_Tb_fill_113 : decode z_Tb_fill.2.2.1 113 = .ok (.iload_n 3, 1) := by decide +kernel
theorem d_Tb_fill_114 : decode z_Tb_fill.2.2.1 114 = .ok (.iaload, 1) := by decide +kernel
theorem d_Tb_fill_115 : decode z_Tb_fill.2.2.1 115 = .ok (.iastore, 1) := by decide +kernel
theorem d_Tb_fill_116 : decode z_Tb_fill.2.2.1 116 = .ok (.iinc 3 1, 3) := by decide +kernel
theorem d_Tb_fill_119 : decode z_Tb_fill.2.2.1 119 = .ok (.goto (-44), 3) := by decide +kernel
theorem d_Tb_fill_122 : decode z_Tb_fill.2.2.1 122 = .ok (.iinc 2 1, 3) := by decide +kernel
theorem d_Tb_fill_125 : decode z_Tb_fill.2.2.1 125 = .ok (.goto (-84), 3) := by decide +kernel
theorem d_Tb_fill_128 : decode z_Tb_fill.2.2.1 128 = .ok (.aload_n 1, 1) := by decide +kernel
theorem d_Tb_fill_129 : decode z_Tb_fill.2.2.1 129 = .ok (.bipush 49, 2) := by decide +kernel
theorem d_Tb_fill_131 : decode z_Tb_fill.2.2.1 131 = .ok (.iconst 0, 1) := by decide +kernel
theorem d_Tb_fill_132 : decode z_Tb_fill.2.2.1 132 = .ok (.iastore, 1) := by decide +kernel
theorem d_Tb_fill_133 : decode z_Tb_fill.2.2.1 133 = .ok (.iconst 0, 1) := by decide +kernel
theorem d_Tb_fill_134 : decode z_Tb_fill.2.2.1 134 = .ok (.istore_n 2, 1) := by decide +kernel
theorem d_Tb_fill_135 : decode z_Tb_fill.2.2.1 135 = .ok (.iload_n 2, 1) := by decide +kernel
theorem d_Tb_fill_136 : decode z_Tb_fill.2.2.1 136 = .ok (.bipush 49, 2) := by decide +kernel
theorem d_Tb_fill_138 : decode z_Tb_fill.2.2.1 138 = .ok (.if_icmp .ge 23, 3) := by decide +kernel
theorem d_Tb_fill_141 : decode z_Tb_fill.2.2.1 141 = .ok (.aload_n 1, 1) := by decide +kernel
theorem d_Tb_fill_142 : decode z_Tb_fill.2.2.1 142 = .ok (.bipush 49, 2) := by decide +kernel
theorem d_Tb_fill_144 : decode z_Tb_fill.2.2.1 144 = .ok (.dup2, 1) := by decide +kernel
theorem d_Tb_fill_145 : decode z_Tb_fill.2.2.1 145 = .ok (.iaload, 1) := by decide +kernel
theorem d_Tb_fill_146 : decode z_Tb_fill.2.2.1 146 = .ok (.iload_n 2, 1) := by decide +kernel
theorem d_Tb_fill_147 : decode z_Tb_fill.2.2.1 147 = .ok (.iconst 1, 1) := by decide +kernel
theorem d_Tb_fill_148 : decode z_Tb_fill.2.2.1 148 = .ok (.iadd, 1) := by decide +kernel
theorem d_Tb_fill_149 : decode z_Tb_fill.2.2.1 149 = .ok (.aload_n 1, 1) := by decide +kernel
theorem d_Tb_fill_150 : decode z_Tb_fill.2.2.1 150 = .ok (.iload_n 2, 1) := by decide +kernel
theorem d_Tb_fill_151 : decode z_Tb_fill.2.2.1 151 = .ok (.iaload, 1) := by decide +kernel
theorem d_Tb_fill_152 : decode z_Tb_fill.2.2.1 152 = .ok (.imul, 1) := by decide +kernel
theorem d_Tb_fill_153 : decode z_Tb_fill.2.2.1 153 = .ok (.iadd, 1) := by decide +kernel
theorem d_Tb_fill_154 : decode z_Tb_fill.2.2.1 154 = .ok (.iastore, 1) := by decide +kernel
theorem d_Tb_fill_155 : decode z_Tb_fill.2.2.1 155 = .ok (.iinc 2 1, 3) := by decide +kernel
theorem d_Tb_fill_158 : decode z_Tb_fill.2.2.1 158 = .ok (.goto (-23), 3) := by decide +kernel
theorem d_Tb_fill_161 : decode z_Tb_fill.2.2.1 161 = .ok (.return_, 1) := by decide +kernel
def lc_Tb_fill_0 : jx_Cx := (cCmp rLt (eI 2) (eInt (nI 4)))
def lb_Tb_fill_0 : jx_St := (sSeq (sSt 0 0 (eA 1) (eBin oAdd (eInt (nI 1)) (eI 2)) (eLd 0 (eGf [3] 1 (eA 0)) (eI 2))) (sInc 2 (nI 1)))
theorem ml_Tb_fill_0 : jx_Ts z_Tb_fill 17 (sWh 64 lc_Tb_fill_0 lb_Tb_fill_0) [39] := by
  unfold lc_Tb_fill_0 lb_Tb_fill_0
  exact t_wh (EA := [36]) (Fs := [39]) (E := [39]) 64 (s_cmp (s_iload_n d_Tb_fill_17 rfl) (s_iconst d_Tb_fill_18 (by decide)) (s_icmp_geF (tgt := 39) d_Tb_fill_19 (by decide))) (by decide) (t_seq (t_st (s_aload_n d_Tb_fill_22 rfl) (s_bin (s_iconst d_Tb_fill_23 (by decide)) (s_iload_n d_Tb_fill_24 rfl) (s_iadd d_Tb_fill_25)) (s_load (s_getf (s_aload_n d_Tb_fill_26 rfl) fi_Tb_9 d_Tb_fill_27) (s_iload_n d_Tb_fill_30 rfl) (s_iald d_Tb_fill_31)) (s_iast d_Tb_fill_32)) (t_iinc d_Tb_fill_33 (by decide) (by decide))) (al_1 (Or.inr ⟨-19, d_Tb_fill_36, by decide⟩)) (by decide)
def lc_Tb_fill_2 : jx_Cx := (cCmp rLt (eI 3) (eInt (nI 10)))
def lb_Tb_fill_2 : jx_St := (sSeq (sSt 0 0 (eA 1) (eBin oAdd (eBin oAdd (eInt (nI 9)) (eBin oMul (eInt (nI 10)) (eI 2))) (eI 3)) (eIte (cNull (eLda 4 (eGf [3] 2 (eA 0)) (eI 2))) (eInt (nI 0)) (eLd 0 (eGf [5, 6, 7] 2 (eLda 4 (eGf [3] 2 (eA 0)) (eI 2))) (eI 3)))) (sInc 3 (nI 1)))
theorem ml_Tb_fill_2 : jx_Ts z_Tb_fill 75 (sWh 64 lc_Tb_fill_2 lb_Tb_fill_2) [122] := by
  unfold lc_Tb_fill_2 lb_Tb_fill_2
  exact t_wh (EA := [119]) (Fs := [122]) (E := [122]) 64 (s_cmp (s_iload_n d_Tb_fill_75 rfl) (s_bipush d_Tb_fill_76 (by decide)) (s_icmp_geF (tgt := 122) d_Tb_fill_78 (by decide))) (by decide) (t_seq (t_st (s_aload_n d_Tb_fill_81 rfl) (s_bin (s_bin (s_bipush d_Tb_fill_82 (by decide)) (s_bin (s_bipush d_Tb_fill_84 (by decide)) (s_iload_n d_Tb_fill_86 rfl) (s_imul d_Tb_fill_87)) (s_iadd d_Tb_fill_88)) (s_iload_n d_Tb_fill_89 rfl) (s_iadd d_Tb_fill_90)) (s_ite (q4 := 115) (s_nul (s_loada (s_getf (s_aload_n d_Tb_fill_91 rfl) fi_Tb_17 d_Tb_fill_92) (s_iload_n d_Tb_fill_95 rfl) (s_aald (Or.inr rfl) d_Tb_fill_96)) (s_ifnonnull (tgt := 104) d_Tb_fill_97 (by decide))) (s_iconst d_Tb_fill_100 (by decide)) d_Tb_fill_101 (by decide) (s_load (s_getf (s_loada (s_getf (s_aload_n d_Tb_fill_104 rfl) fi_Tb_17 d_Tb_fill_105) (s_iload_n d_Tb_fill_108 rfl) (s_aald (Or.inr rfl) d_Tb_fill_109)) fi_Tb_46 d_Tb_fill_110) (s_iload_n d_Tb_fill_113 rfl) (s_iald d_Tb_fill_114))) (s_iast d_Tb_fill_115)) (t_iinc d_Tb_fill_116 (by decide) (by decide))) (al_1 (Or.inr ⟨-44, d_Tb_fill_119, by decide⟩)) (by decide)
def lc_Tb_fill_1 : jx_Cx := (cCmp rLt (eI 2) (eInt (nI 4)))
def lb_Tb_fill_1 : jx_St := (sSeq (sSt 0 0 (eA 1) (eBin oAdd (eInt (nI 5)) (eI 2)) (eIte (cNull (eLda 4 (eGf [3] 2 (eA 0)) (eI 2))) (eInt (nI 0)) (eCl (jx_ev tb_Vo_said) [(eLda 4 (eGf [3] 2 (eA 0)) (eI 2))]))) (sSeq (sSeq (sAsg 0 3 (eInt (nI 0))) (sWh 64 lc_Tb_fill_2 lb_Tb_fill_2)) (sInc 2 (nI 1))))
theorem ml_Tb_fill_1 : jx_Ts z_Tb_fill 41 (sWh 64 lc_Tb_fill_1 lb_Tb_fill_1) [128] := by
  unfold lc_Tb_fill_1 lb_Tb_fill_1
  exact t_wh (EA := [125]) (Fs := [128]) (E := [128]) 64 (s_cmp (s_iload_n d_Tb_fill_41 rfl) (s_iconst d_Tb_fill_42 (by decide)) (s_icmp_geF (tgt := 128) d_Tb_fill_43 (by decide))) (by decide) (t_seq (t_st (s_aload_n d_Tb_fill_46 rfl) (s_bin (s_iconst d_Tb_fill_47 (by decide)) (s_iload_n d_Tb_fill_48 rfl) (s_iadd d_Tb_fill_49)) (s_ite (q4 := 72) (s_nul (s_loada (s_getf (s_aload_n d_Tb_fill_50 rfl) fi_Tb_17 d_Tb_fill_51) (s_iload_n d_Tb_fill_54 rfl) (s_aald (Or.inr rfl) d_Tb_fill_55)) (s_ifnonnull (tgt := 63) d_Tb_fill_56 (by decide))) (s_iconst d_Tb_fill_59 (by decide)) d_Tb_fill_60 (by decide) (s_cl (s_a1 (s_loada (s_getf (s_aload_n d_Tb_fill_63 rfl) fi_Tb_17 d_Tb_fill_64) (s_iload_n d_Tb_fill_67 rfl) (s_aald (Or.inr rfl) d_Tb_fill_68)) s_a0) (s_ecv (ve_Vo_said (by decide) (by decide)) dc_Vo_said (by decide) lm_Tb_49 pd_Vo_said d_Tb_fill_69))) (s_iast d_Tb_fill_72)) (t_seq (t_seq (t_asg (s_iconst d_Tb_fill_73 (by decide)) (fun v k h => b_istore_n d_Tb_fill_74 rfl (by decide) h)) ml_Tb_fill_2) (t_iinc d_Tb_fill_122 (by decide) (by decide)))) (al_1 (Or.inr ⟨-84, d_Tb_fill_125, by decide⟩)) (by decide)
def lc_Tb_fill_3 : jx_Cx := (cCmp rLt (eI 2) (eInt (nI 49)))
def lb_Tb_fill_3 : jx_St := (sSeq (sUst 0 0 oAdd (eA 1) (eInt (nI 49)) (eBin oMul (eBin oAdd (eI 2) (eInt (nI 1))) (eLd 0 (eA 1) (eI 2)))) (sInc 2 (nI 1)))
theorem ml_Tb_fill_3 : jx_Ts z_Tb_fill 135 (sWh 64 lc_Tb_fill_3 lb_Tb_fill_3) [161] := by
  unfold lc_Tb_fill_3 lb_Tb_fill_3
  exact t_wh (EA := [158]) (Fs := [161]) (E := [161]) 64 (s_cmp (s_iload_n d_Tb_fill_135 rfl) (s_bipush d_Tb_fill_136 (by decide)) (s_icmp_geF (tgt := 161) d_Tb_fill_138 (by decide))) (by decide) (t_seq (t_ust (s_aload_n d_Tb_fill_141 rfl) (s_bipush d_Tb_fill_142 (by decide)) d_Tb_fill_144 (s_iald d_Tb_fill_145) (s_bin (s_bin (s_iload_n d_Tb_fill_146 rfl) (s_iconst d_Tb_fill_147 (by decide)) (s_iadd d_Tb_fill_148)) (s_load (s_aload_n d_Tb_fill_149 rfl) (s_iload_n d_Tb_fill_150 rfl) (s_iald d_Tb_fill_151)) (s_imul d_Tb_fill_152)) (s_iadd d_Tb_fill_153) (s_iast d_Tb_fill_154)) (t_iinc d_Tb_fill_155 (by decide) (by decide))) (al_1 (Or.inr ⟨-23, d_Tb_fill_158, by decide⟩)) (by decide)
def bd_Tb_fill : jx_St := (sSeq (sSeq (sSt 0 0 (eA 1) (eInt (nI 0)) (eGf [3] 0 (eA 0))) (sSeq (sSt 0 0 (eA 1) (eInt (nI 50)) (eGf [3] 0 (eA 0))) (sSeq (sSeq (sAsg 0 2 (eInt (nI 0))) (sWh 64 lc_Tb_fill_0 lb_Tb_fill_0)) (sSeq (sSeq (sAsg 0 2 (eInt (nI 0))) (sWh 64 lc_Tb_fill_1 lb_Tb_fill_1)) (sSeq (sSt 0 0 (eA 1) (eInt (nI 49)) (eInt (nI 0))) (sSeq (sAsg 0 2 (eInt (nI 0))) (sWh 64 lc_Tb_fill_3 lb_Tb_fill_3))))))) sRetV)
theorem m_Tb_fill : jx_Ts z_Tb_fill 0 bd_Tb_fill [] := by
  unfold bd_Tb_fill
  exact (t_seq (t_seq (t_st (s_aload_n d_Tb_fill_0 rfl) (s_iconst d_Tb_fill_1 (by decide)) (s_getf (s_aload_n d_Tb_fill_2 rfl) fi_Tb_22 d_Tb_fill_3) (s_iast d_Tb_fill_6)) (t_seq (t_st (s_aload_n d_Tb_fill_7 rfl) (s_bipush d_Tb_fill_8 (by decide)) (s_getf (s_aload_n d_Tb_fill_10 rfl) fi_Tb_22 d_Tb_fill_11) (s_iast d_Tb_fill_14)) (t_seq (t_seq (t_asg (s_iconst d_Tb_fill_15 (by decide)) (fun v k h => b_istore_n d_Tb_fill_16 rfl (by decide) h)) ml_Tb_fill_0) (t_seq (t_seq (t_asg (s_iconst d_Tb_fill_39 (by decide)) (fun v k h => b_istore_n d_Tb_fill_40 rfl (by decide) h)) ml_Tb_fill_1) (t_seq (t_st (s_aload_n d_Tb_fill_128 rfl) (s_bipush d_Tb_fill_129 (by decide)) (s_iconst d_Tb_fill_131 (by decide)) (s_iast d_Tb_fill_132)) (t_seq (t_asg (s_iconst d_Tb_fill_133 (by decide)) (fun v k h => b_istore_n d_Tb_fill_134 rfl (by decide) h)) ml_Tb_fill_3)))))) (t_retv rfl d_Tb_fill_161))
def f_Tb_fill : jx_Mt := jx_fn 2 4 (bd_Tb_fill fun _ _ => none)
theorem me_Tb_fill : jx_Me 2 z_Tb_fill f_Tb_fill := jx_Me.ofT (by decide) m_Tb_fill
theorem mw_Tb_fill : jx_mw ⟨"ExtentShelf$Table", "fill", "([I)V"⟩ z_Tb_fill := ⟨rfl, rfl, by decide +kernel, ⟨by decide, by decide⟩, by decide +kernel⟩
theorem pd_Tb_fill : (parseMethodDescriptor (⟨"ExtentShelf$Table", "fill", "([I)V"⟩ : MethodName).desc).map (fun d => d.parameters.length) = some 1 := by decide +kernel
abbrev tb_Tb_fill : List (Nat × jx_Mt) := [(3, f_Tb_fill)]
theorem ve_Tb_fill {fr lo : Nat} (h1 : 3 ≤ fr) (h2 : 87 ≤ lo) : ∀ q ∈ tb_Tb_fill, jx_ve ⟨"ExtentShelf$Table", "fill", "([I)V"⟩ 1 fr lo q.1 q.2 := tv_1 ⟨R_Table, F_Table, 3, ⟨"ExtentShelf$Table", "fill", "([I)V"⟩, z_Tb_fill, rfl, by decide +kernel, mw_Tb_fill, by decide +kernel, me_Tb_fill, Nat.le_trans (by decide) h1, Nat.le_trans (by decide) h2⟩
theorem dc_Tb_fill : jx_dc ⟨"ExtentShelf$Table", "fill", "([I)V"⟩ := ⟨⟨by decide, by decide⟩, Or.inr ⟨by decide +kernel, prog_7_method_3_code, 4, _, (by decide +kernel : Cond.code ⟨"ExtentShelf$Table", "fill", "([I)V"⟩ prog_7_method_3_code 4 none ∈ jx_tbl)⟩, "ExtentShelf$Table", ⟨"ExtentShelf$Table", "copy", "()LExtentShelf$Table;"⟩, ⟨"ExtentShelf$Table", "copy", "()LExtentShelf$Table;"⟩, by decide +kernel, rfl⟩
/-! ExtentShelf$Disk.word(II)I -/
abbrev z_Dk_word : jx_Z := ("ExtentShelf$Disk", "word", prog_2_method_2_code, 3, some .int, 0, 0)
theorem d_Dk_word_0 : decode z_Dk_word.2.2.1 0 = .ok (.aload_n 0, 1) := by decide +kernel
theorem d_Dk_word_1 : decode z_Dk_word.2.2.1 1 = .ok (.getfield 9, 3) := by decide +kernel
theorem d_Dk_word_4 : decode z_Dk_word.2.2.1 4 = .ok (.bipush 51, 2) := by decide +kernel
theorem d_Dk_word_6 : decode z_Dk_word.2.2.1 6 = .ok (.iload_n 1, 1) := by decide +kernel
theorem d_Dk_word_7 : decode z_Dk_word.2.2.1 7 = .ok (.imul, 1) := by decide +kernel
theorem d_Dk_word_8 : decode z_Dk_word.2.2.1 8 = .ok (.iload_n 2, 1) := by decide +kernel
theorem d_Dk_word_9 : decode z_Dk_word.2.2.1 9 = .ok (.iadd, 1) := by decide +kernel
theorem d_Dk_word_10 : decode z_Dk_word.2.2.1 10 = .ok (.iaload, 1) := by decide +kernel
theorem d_Dk_word_11 : decode z_Dk_word.2.2.1 11 = .ok (.ireturn, 1) := by decide +kernel
def bd_Dk_word : jx_St := (sRet 0 (eLd 0 (eGf [1] 1 (eA 0)) (eBin oAdd (eBin oMul (eInt (nI 51)) (eI 1)) (eI 2))))
theorem m_Dk_word : jx_Ts z_Dk_word 0 bd_Dk_word [] := by
  unfold bd_Dk_word
  exact (t_ret .int (s_load (s_getf (s_aload_n d_Dk_word_0 rfl) fi_Dk_9 d_Dk_word_1) (s_bin (s_bin (s_bipush d_Dk_word_4 (by decide)) (s_iload_n d_Dk_word_6 rfl) (s_imul d_Dk_word_7)) (s_iload_n d_Dk_word_8 rfl) (s_iadd d_Dk_word_9)) (s_iald d_Dk_word_10)) rfl (by decide) d_Dk_word_11)
def f_Dk_word : jx_Mt := jx_fn 3 3 (bd_Dk_word fun _ _ => none)
theorem me_Dk_word : jx_Me 3 z_Dk_word f_Dk_word := jx_Me.ofT (by decide) m_Dk_word
theorem mw_Dk_word : jx_mw ⟨"ExtentShelf$Disk", "word", "(II)I"⟩ z_Dk_word := ⟨rfl, rfl, by decide +kernel, ⟨by decide, by decide⟩, by decide +kernel⟩
theorem pd_Dk_word : (parseMethodDescriptor (⟨"ExtentShelf$Disk", "word", "(II)I"⟩ : MethodName).desc).map (fun d => d.parameters.length) = some 2 := by decide +kernel
abbrev tb_Dk_word : List (Nat × jx_Mt) := [(1, f_Dk_word)]
theorem ve_Dk_word {fr lo : Nat} (h1 : 1 ≤ fr) (h2 : 30 ≤ lo) : ∀ q ∈ tb_Dk_word, jx_ve ⟨"ExtentShelf$Disk", "word", "(II)I"⟩ 2 fr lo q.1 q.2 := tv_1 ⟨R_Disk, F_Disk, 4, ⟨"ExtentShelf$Disk", "word", "(II)I"⟩, z_Dk_word, rfl, by decide +kernel, mw_Dk_word, by decide +kernel, me_Dk_word, Nat.le_trans (by decide) h1, Nat.le_trans (by decide) h2⟩
theorem dc_Dk_word : jx_dc ⟨"ExtentShelf$Disk", "word", "(II)I"⟩ := ⟨⟨by decide, by decide⟩, Or.inr ⟨by decide +kernel, prog_2_method_2_code, 3, _, (by decide +kernel : Cond.code ⟨"ExtentShelf$Disk", "word", "(II)I"⟩ prog_2_method_2_code 3 (some .int) ∈ jx_tbl)⟩, "ExtentShelf$Disk", ⟨"ExtentShelf$Disk", "older", "()I"⟩, ⟨"ExtentShelf$Disk", "older", "()I"⟩, by decide +kernel, rfl⟩
/-! java/lang/Math.max(II)I -/
abbrev z_Ma_max : jx_Z := ("java/lang/Math", "max", prog_16_method_65_code, 2, some .int, 0, 0)
theorem d_Ma_max_0 : decode z_Ma_max.2.2.1 0 = .ok (.iload_n 0, 1) := by decide +kernel
theorem d_Ma_max_1 : decode z_Ma_max.2.2.1 1 = .ok (.iload_n 1, 1) := by decide +kernel
theorem d_Ma_max_2 : decode z_Ma_max.2.2.1 2 = .ok (.if_icmp .lt 7, 3) := by decide +kernel
theorem d_Ma_max_5 : decode z_Ma_max.2.2.1 5 = .ok (.iload_n 0, 1) := by decide +kernel
theorem d_Ma_max_6 : decode z_Ma_max.2.2.1 6 = .ok (.goto 4, 3) := by decide +kernel
theorem d_Ma_max_9 : decode z_Ma_max.2.2.1 9 = .ok (.iload_n 1, 1) := by decide +kernel
theorem d_Ma_max_10 : decode z_Ma_max.2.2.1 10 = .ok (.ireturn, 1) := by decide +kernel
def bd_Ma_max : jx_St := (sRet 0 (eIte (cCmp rGe (eI 0) (eI 1)) (eI 0) (eI 1)))
theorem m_Ma_max : jx_Ts z_Ma_max 0 bd_Ma_max [] := by
  unfold bd_Ma_max
  exact (t_ret .int (s_ite (q4 := 10) (s_cmp (s_iload_n d_Ma_max_0 rfl) (s_iload_n d_Ma_max_1 rfl) (s_icmp_ltF (tgt := 9) d_Ma_max_2 (by decide))) (s_iload_n d_Ma_max_5 rfl) d_Ma_max_6 (by decide) (s_iload_n d_Ma_max_9 rfl)) rfl (by decide) d_Ma_max_10)
def f_Ma_max : jx_Mt := jx_fn 2 2 (bd_Ma_max fun _ _ => none)
theorem me_Ma_max : jx_Me 2 z_Ma_max f_Ma_max := jx_Me.ofT (by decide) m_Ma_max
theorem mw_Ma_max : jx_mw ⟨"java/lang/Math", "max", "(II)I"⟩ z_Ma_max := ⟨rfl, rfl, by decide +kernel, ⟨by decide, by decide⟩, by decide +kernel⟩
theorem pd_Ma_max : (parseMethodDescriptor (⟨"java/lang/Math", "max", "(II)I"⟩ : MethodName).desc).map (fun d => d.parameters.length) = some 2 := by decide +kernel
/-! ExtentShelf$Disk.numberOf(I)I -/
abbrev z_Dk_numberOf : jx_Z := ("ExtentShelf$Disk", "numberOf", prog_2_method_3_code, 4, some .int, 1, 30)
theorem d_Dk_numberOf_0 : decode z_Dk_numberOf.2.2.1 0 = .ok (.iconst 0, 1) := by decide +kernel
theorem d_Dk_numberOf_1 : decode z_Dk_numberOf.2.2.1 1 = .ok (.istore_n 2, 1) := by decide +kernel
theorem d_Dk_numberOf_2 : decode z_Dk_numberOf.2.2.1 2 = .ok (.iconst 0, 1) := by decide +kernel
theorem d_Dk_numberOf_3 : decode z_Dk_numberOf.2.2.1 3 = .ok (.istore_n 3, 1) := by decide +kernel
theorem d_Dk_numberOf_4 : decode z_Dk_numberOf.2.2.1 4 = .ok (.iload_n 3, 1) := by decide +kernel
theorem d_Dk_numberOf_5 : decode z_Dk_numberOf.2.2.1 5 = .ok (.bipush 49, 2) := by decide +kernel
theorem d_Dk_numberOf_7 : decode z_Dk_numberOf.2.2.1 7 = .ok (.if_icmp .ge 22, 3) := by decide +kernel
theorem d_Dk_numberOf_10 : decode z_Dk_numberOf.2.2.1 10 = .ok (.iload_n 2, 1) := by decide +kernel
theorem d_Dk_numberOf_11 : decode z_Dk_numberOf.2.2.1 11 = .ok (.iload_n 3, 1) := by decide +kernel
theorem d_Dk_numberOf_12 : decode z_Dk_numberOf.2.2.1 12 = .ok (.iconst 1, 1) := by decide +kernel
theorem d_Dk_numberOf_13 : decode z_Dk_numberOf.2.2.1 13 = .ok (.iadd, 1) := by decide +kernel
theorem d_Dk_numberOf_14 : decode z_Dk_numberOf.2.2.1 14 = .ok (.aload_n 0, 1) := by decide +kernel
theorem d_Dk_numberOf_15 : decode z_Dk_numberOf.2.2.1 15 = .ok (.iload_n 1, 1) := by decide +kernel
theorem d_Dk_numberOf_16 : decode z_Dk_numberOf.2.2.1 16 = .ok (.iload_n 3, 1) := by decide +kernel
theorem d_Dk_numberOf_17 : decode z_Dk_numberOf.2.2.1 17 = .ok (.invokevirtual 26, 3) := by decide +kernel
theorem d_Dk_numberOf_20 : decode z_Dk_numberOf.2.2.1 20 = .ok (.imul, 1) := by decide +kernel
theorem d_Dk_numberOf_21 : decode z_Dk_numberOf.2.2.1 21 = .ok (.iadd, 1) := by decide +kernel
theorem d_Dk_numberOf_22 : decode z_Dk_numberOf.2.2.1 22 = .ok (.istore_n 2, 1) := by decide +kernel
theorem d_Dk_numberOf_23 : decode z_Dk_numberOf.2.2.1 23 = .ok (.iinc 3 1, 3) := by decide +kernel
theorem d_Dk_numberOf_26 : decode z_Dk_numberOf.2.2.1 26 = .ok (.goto (-22), 3) := by decide +kernel
theorem d_Dk_numberOf_29 : decode z_Dk_numberOf.2.2.1 29 = .ok (.iload_n 2, 1) := by decide +kernel
theorem d_Dk_numberOf_30 : decode z_Dk_numberOf.2.2.1 30 = .ok (.aload_n 0, 1) := by decide +kernel
theorem d_Dk_numberOf_31 : decode z_Dk_numberOf.2.2.1 31 = .ok (.iload_n 1, 1) := by decide +kernel
theorem d_Dk_numberOf_32 : decode z_Dk_numberOf.2.2.1 32 = .ok (.bipush 49, 2) := by decide +kernel
theorem d_Dk_numberOf_34 : decode z_Dk_numberOf.2.2.1 34 = .ok (.invokevirtual 26, 3) := by decide +kernel
theorem d_Dk_numberOf_37 : decode z_Dk_numberOf.2.2.1 37 = .ok (.if_icmp .ne 32, 3) := by decide +kernel
theorem d_Dk_numberOf_40 : decode z_Dk_numberOf.2.2.1 40 = .ok (.aload_n 0, 1) := by decide +kernel
theorem d_Dk_numberOf_41 : decode z_Dk_numberOf.2.2.1 41 = .ok (.iload_n 1, 1) := by decide +kernel
theorem d_Dk_numberOf_42 : decode z_Dk_numberOf.2.2.1 42 = .ok (.bipush 50, 2) := by decide +kernel
theorem d_Dk_numberOf_44 : decode z_Dk_numberOf.2.2.1 44 = .ok (.invokevirtual 26, 3) := by decide +kernel
theorem d_Dk_numberOf_47 : decode z_Dk_numberOf.2.2.1 47 = .ok (.aload_n 0, 1) := by decide +kernel
theorem d_Dk_numberOf_48 : decode z_Dk_numberOf.2.2.1 48 = .ok (.iload_n 1, 1) := by decide +kernel
theorem d_Dk_numberOf_49 : decode z_Dk_numberOf.2.2.1 49 = .ok (.iconst 0, 1) := by decide +kernel
theorem d_Dk_numberOf_50 : decode z_Dk_numberOf.2.2.1 50 = .ok (.invokevirtual 26, 3) := by decide +kernel
theorem d_Dk_numberOf_53 : decode z_Dk_numberOf.2.2.1 53 = .ok (.if_icmp .ne 16, 3) := by decide +kernel
theorem d_Dk_numberOf_56 : decode z_Dk_numberOf.2.2.1 56 = .ok (.iconst 0, 1) := by decide +kernel
theorem d_Dk_numberOf_57 : decode z_Dk_numberOf.2.2.1 57 = .ok (.aload_n 0, 1) := by decide +kernel
theorem d_Dk_numberOf_58 : decode z_Dk_numberOf.2.2.1 58 = .ok (.iload_n 1, 1) := by decide +kernel
theorem d_Dk_numberOf_59 : decode z_Dk_numberOf.2.2.1 59 = .ok (.iconst 0, 1) := by decide +kernel
theorem d_Dk_numberOf_60 : decode z_Dk_numberOf.2.2.1 60 = .ok (.invokevirtual 26, 3) := by decide +kernel
theorem d_Dk_numberOf_63 : decode z_Dk_numberOf.2.2.1 63 = .ok (.invokestatic 30, 3) := by decide +kernel
theorem d_Dk_numberOf_66 : decode z_Dk_numberOf.2.2.1 66 = .ok (.goto 4, 3) := by decide +kernel
theorem d_Dk_numberOf_69 : decode z_Dk_numberOf.2.2.1 69 = .ok (.iconst 0, 1) := by decide +kernel
theorem d_Dk_numberOf_70 : decode z_Dk_numberOf.2.2.1 70 = .ok (.ireturn, 1) := by decide +kernel
def lc_Dk_numberOf_0 : jx_Cx := (cCmp rLt (eI 3) (eInt (nI 49)))
def lb_Dk_numberOf_0 : jx_St := (sSeq (sAsg 0 2 (eBin oAdd (eI 2) (eBin oMul (eBin oAdd (eI 3) (eInt (nI 1))) (eCl (jx_ev tb_Dk_word) [(eA 0), (eI 1), (eI 3)])))) (sInc 3 (nI 1)))
theorem ml_Dk_numberOf_0 : jx_Ts z_Dk_numberOf 4 (sWh 64 lc_Dk_numberOf_0 lb_Dk_numberOf_0) [29] := by
  unfold lc_Dk_numberOf_0 lb_Dk_numberOf_0
  exact t_wh (EA := [26]) (Fs := [29]) (E := [29]) 64 (s_cmp (s_iload_n d_Dk_numberOf_4 rfl) (s_bipush d_Dk_numberOf_5 (by decide)) (s_icmp_geF (tgt := 29) d_Dk_numberOf_7 (by decide))) (by decide) (t_seq (t_asg (s_bin (s_iload_n d_Dk_numberOf_10 rfl) (s_bin (s_bin (s_iload_n d_Dk_numberOf_11 rfl) (s_iconst d_Dk_numberOf_12 (by decide)) (s_iadd d_Dk_numberOf_13)) (s_cl (s_a1 (s_aload_n d_Dk_numberOf_14 rfl) (s_a1 (s_iload_n d_Dk_numberOf_15 rfl) (s_a1 (s_iload_n d_Dk_numberOf_16 rfl) s_a0))) (s_ecv (ve_Dk_word (by decide) (by decide)) dc_Dk_word (by decide) lm_Dk_26 pd_Dk_word d_Dk_numberOf_17)) (s_imul d_Dk_numberOf_20)) (s_iadd d_Dk_numberOf_21)) (fun v k h => b_istore_n d_Dk_numberOf_22 rfl (by decide) h)) (t_iinc d_Dk_numberOf_23 (by decide) (by decide))) (al_1 (Or.inr ⟨-22, d_Dk_numberOf_26, by decide⟩)) (by decide)
def bd_Dk_numberOf : jx_St := (sSeq (sAsg 0 2 (eInt (nI 0))) (sSeq (sSeq (sAsg 0 3 (eInt (nI 0))) (sWh 64 lc_Dk_numberOf_0 lb_Dk_numberOf_0)) (sRet 0 (eIte (cAnd (cCmp rEq (eI 2) (eCl (jx_ev tb_Dk_word) [(eA 0), (eI 1), (eInt (nI 49))])) (cCmp rEq (eCl (jx_ev tb_Dk_word) [(eA 0), (eI 1), (eInt (nI 50))]) (eCl (jx_ev tb_Dk_word) [(eA 0), (eI 1), (eInt (nI 0))]))) (eCl (jx_ec f_Ma_max) [(eInt (nI 0)), (eCl (jx_ev tb_Dk_word) [(eA 0), (eI 1), (eInt (nI 0))])]) (eInt (nI 0))))))
theorem m_Dk_numberOf : jx_Ts z_Dk_numberOf 0 bd_Dk_numberOf [] := by
  unfold bd_Dk_numberOf
  exact (t_seq (t_asg (s_iconst d_Dk_numberOf_0 (by decide)) (fun v k h => b_istore_n d_Dk_numberOf_1 rfl (by decide) h)) (t_seq (t_seq (t_asg (s_iconst d_Dk_numberOf_2 (by decide)) (fun v k h => b_istore_n d_Dk_numberOf_3 rfl (by decide) h)) ml_Dk_numberOf_0) (t_ret .int (s_ite (q4 := 70) (s_andg (s_cmp (s_iload_n d_Dk_numberOf_29 rfl) (s_cl (s_a1 (s_aload_n d_Dk_numberOf_30 rfl) (s_a1 (s_iload_n d_Dk_numberOf_31 rfl) (s_a1 (s_bipush d_Dk_numberOf_32 (by decide)) s_a0))) (s_ecv (ve_Dk_word (by decide) (by decide)) dc_Dk_word (by decide) lm_Dk_26 pd_Dk_word d_Dk_numberOf_34)) (s_icmp_neF (tgt := 69) d_Dk_numberOf_37 (by decide))) (by decide) (al_1 (s_cmp (s_cl (s_a1 (s_aload_n d_Dk_numberOf_40 rfl) (s_a1 (s_iload_n d_Dk_numberOf_41 rfl) (s_a1 (s_bipush d_Dk_numberOf_42 (by decide)) s_a0))) (s_ecv (ve_Dk_word (by decide) (by decide)) dc_Dk_word (by decide) lm_Dk_26 pd_Dk_word d_Dk_numberOf_44)) (s_cl (s_a1 (s_aload_n d_Dk_numberOf_47 rfl) (s_a1 (s_iload_n d_Dk_numberOf_48 rfl) (s_a1 (s_iconst d_Dk_numberOf_49 (by decide)) s_a0))) (s_ecv (ve_Dk_word (by decide) (by decide)) dc_Dk_word (by decide) lm_Dk_26 pd_Dk_word d_Dk_numberOf_50)) (s_icmp_neF (tgt := 69) d_Dk_numberOf_53 (by decide))))) (s_cl (s_a1 (s_iconst d_Dk_numberOf_56 (by decide)) (s_a1 (s_cl (s_a1 (s_aload_n d_Dk_numberOf_57 rfl) (s_a1 (s_iload_n d_Dk_numberOf_58 rfl) (s_a1 (s_iconst d_Dk_numberOf_59 (by decide)) s_a0))) (s_ecv (ve_Dk_word (by decide) (by decide)) dc_Dk_word (by decide) lm_Dk_26 pd_Dk_word d_Dk_numberOf_60)) s_a0)) (s_ecs me_Ma_max mw_Ma_max (by decide) (by decide) (by decide) lm_Dk_30 w_st_Ma_max w_in_Ma pd_Ma_max d_Dk_numberOf_63)) d_Dk_numberOf_66 (by decide) (s_iconst d_Dk_numberOf_69 (by decide))) rfl (by decide) d_Dk_numberOf_70)))
def f_Dk_numberOf : jx_Mt := jx_fn 2 4 (bd_Dk_numberOf fun _ _ => none)
theorem me_Dk_numberOf : jx_Me 2 z_Dk_numberOf f_Dk_numberOf := jx_Me.ofT (by decide) m_Dk_numberOf
theorem mw_Dk_numberOf : jx_mw ⟨"ExtentShelf$Disk", "numberOf", "(I)I"⟩ z_Dk_numberOf := ⟨rfl, rfl, by decide +kernel, ⟨by decide, by decide⟩, by decide +kernel⟩
theorem pd_Dk_numberOf : (parseMethodDescriptor (⟨"ExtentShelf$Disk", "numberOf", "(I)I"⟩ : MethodName).desc).map (fun d => d.parameters.length) = some 1 := by decide +kernel
abbrev tb_Dk_numberOf : List (Nat × jx_Mt) := [(1, f_Dk_numberOf)]
theorem ve_Dk_numberOf {fr lo : Nat} (h1 : 2 ≤ fr) (h2 : 61 ≤ lo) : ∀ q ∈ tb_Dk_numberOf, jx_ve ⟨"ExtentShelf$Disk", "numberOf", "(I)I"⟩ 1 fr lo q.1 q.2 := tv_1 ⟨R_Disk, F_Disk, 4, ⟨"ExtentShelf$Disk", "numberOf", "(I)I"⟩, z_Dk_numberOf, rfl, by decide +kernel, mw_Dk_numberOf, by decide +kernel, me_Dk_numberOf, Nat.le_trans (by decide) h1, Nat.le_trans (by decide) h2⟩
theorem dc_Dk_numberOf : jx_dc ⟨"ExtentShelf$Disk", "numberOf", "(I)I"⟩ := ⟨⟨by decide, by decide⟩, Or.inr ⟨by decide +kernel, prog_2_method_3_code, 4, _, (by decide +kernel : Cond.code ⟨"ExtentShelf$Disk", "numberOf", "(I)I"⟩ prog_2_method_3_code 4 (some .int) ∈ jx_tbl)⟩, "ExtentShelf$Disk", ⟨"ExtentShelf$Disk", "older", "()I"⟩, ⟨"ExtentShelf$Disk", "older", "()I"⟩, by decide +kernel, rfl⟩
/-! ExtentShelf$Disk.older()I -/
abbrev z_Dk_older : jx_Z := ("ExtentShelf$Disk", "older", prog_2_method_4_code, 3, some .int, 2, 61)
theorem d_Dk_older_0 : decode z_Dk_older.2.2.1 0 = .ok (.aload_n 0, 1) := by decide +kernel
theorem d_Dk_older_1 : decode z_Dk_older.2.2.1 1 = .ok (.iconst 0, 1) := by decide +kernel
theorem d_Dk_older_2 : decode z_Dk_older.2.2.1 2 = .ok (.invokevirtual 35, 3) := by decide +kernel
theorem d_Dk_older_5 : decode z_Dk_older.2.2.1 5 = .ok (.istore_n 1, 1) := by decide +kernel
theorem d_Dk_older_6 : decode z_Dk_older.2.2.1 6 = .ok (.aload_n 0, 1) := by decide +kernel
theorem d_Dk_older_7 : decode z_Dk_older.2.2.1 7 = .ok (.iconst 1, 1) := by decide +kernel
theorem d_Dk_older_8 : decode z_Dk_older.2.2.1 8 = .ok (.invokevirtual 35, 3) := by decide +kernel
theorem d_Dk_older_11 : decode z_Dk_older.2.2.1 11 = .ok (.istore_n 2, 1) := by decide +kernel
theorem d_Dk_older_12 : decode z_Dk_older.2.2.1 12 = .ok (.iload_n 1, 1) := by decide +kernel
theorem d_Dk_older_13 : decode z_Dk_older.2.2.1 13 = .ok (.ifCond .eq 12, 3) := by decide +kernel
theorem d_Dk_older_16 : decode z_Dk_older.2.2.1 16 = .ok (.iload_n 2, 1) := by decide +kernel
theorem d_Dk_older_17 : decode z_Dk_older.2.2.1 17 = .ok (.ifCond .le 12, 3) := by decide +kernel
theorem d_Dk_older_20 : decode z_Dk_older.2.2.1 20 = .ok (.iload_n 1, 1) := by decide +kernel
theorem d_Dk_older_21 : decode z_Dk_older.2.2.1 21 = .ok (.iload_n 2, 1) := by decide +kernel
theorem d_Dk_older_22 : decode z_Dk_older.2.2.1 22 = .ok (.if_icmp .ge 7, 3) := by decide +kernel
theorem d_Dk_older_25 : decode z_Dk_older.2.2.1 25 = .ok (.iconst 0, 1) := by decide +kernel
theorem d_Dk_older_26 : decode z_Dk_older.2.2.1 26 = .ok (.goto 4, 3) := by decide +kernel
theorem d_Dk_older_29 : decode z_Dk_older.2.2.1 29 = .ok (.iconst 1, 1) := by decide +kernel
theorem d_Dk_older_30 : decode z_Dk_older.2.2.1 30 = .ok (.ireturn, 1) := by decide +kernel
def bd_Dk_older : jx_St := (sSeq (sAsg 0 1 (eCl (jx_ev tb_Dk_numberOf) [(eA 0), (eInt (nI 0))])) (sSeq (sAsg 0 2 (eCl (jx_ev tb_Dk_numberOf) [(eA 0), (eInt (nI 1))])) (sRet 0 (eIte (cOr (cCmp0 rEq (eI 1)) (cAnd (cCmp0 rGt (eI 2)) (cCmp rLt (eI 1) (eI 2)))) (eInt (nI 0)) (eInt (nI 1))))))
theorem m_Dk_older : jx_Ts z_Dk_older 0 bd_Dk_older [] := by
  unfold bd_Dk_older
  exact (t_seq (t_asg (s_cl (s_a1 (s_aload_n d_Dk_older_0 rfl) (s_a1 (s_iconst d_Dk_older_1 (by decide)) s_a0)) (s_ecv (ve_Dk_numberOf (by decide) (by decide)) dc_Dk_numberOf (by decide) lm_Dk_35 pd_Dk_numberOf d_Dk_older_2)) (fun v k h => b_istore_n d_Dk_older_5 rfl (by decide) h)) (t_seq (t_asg (s_cl (s_a1 (s_aload_n d_Dk_older_6 rfl) (s_a1 (s_iconst d_Dk_older_7 (by decide)) s_a0)) (s_ecv (ve_Dk_numberOf (by decide) (by decide)) dc_Dk_numberOf (by decide) lm_Dk_35 pd_Dk_numberOf d_Dk_older_8)) (fun v k h => b_istore_n d_Dk_older_11 rfl (by decide) h)) (t_ret .int (s_ite (q4 := 30) (s_org (s_cmp0 (s_iload_n d_Dk_older_12 rfl) (s_if_eqT (tgt := 25) d_Dk_older_13 (by decide))) (by decide) (al_1 (s_andg (s_cmp0 (s_iload_n d_Dk_older_16 rfl) (s_if_leF (tgt := 29) d_Dk_older_17 (by decide))) (by decide) (al_1 (s_cmp (s_iload_n d_Dk_older_20 rfl) (s_iload_n d_Dk_older_21 rfl) (s_icmp_geF (tgt := 29) d_Dk_older_22 (by decide))))))) (s_iconst d_Dk_older_25 (by decide)) d_Dk_older_26 (by decide) (s_iconst d_Dk_older_29 (by decide))) rfl (by decide) d_Dk_older_30)))
def f_Dk_older : jx_Mt := jx_fn 1 3 (bd_Dk_older fun _ _ => none)
theorem me_Dk_older : jx_Me 1 z_Dk_older f_Dk_older := jx_Me.ofT (by decide) m_Dk_older
theorem mw_Dk_older : jx_mw ⟨"ExtentShelf$Disk", "older", "()I"⟩ z_Dk_older := ⟨rfl, rfl, by decide +kernel, ⟨by decide, by decide⟩, by decide +kernel⟩
theorem pd_Dk_older : (parseMethodDescriptor (⟨"ExtentShelf$Disk", "older", "()I"⟩ : MethodName).desc).map (fun d => d.parameters.length) = some 0 := by decide +kernel
