/-! THE LAW's WRAPPERS (printed by tools/lawgen.py) -/
abbrev tb_Sh_add : List (Nat × jx_Mt) := [(0, f_Sh_add)]
theorem ve_Sh_add {fr lo : Nat} (h1 : 9 ≤ fr) (h2 : 197 ≤ lo) : ∀ q ∈ tb_Sh_add, jx_ve ⟨"ExtentShelf", "add", "(II)V"⟩ 2 fr lo q.1 q.2 := tv_1 ⟨R_Shelf, F_Shelf, 5, ⟨"ExtentShelf", "add", "(II)V"⟩, z_Sh_add, rfl, by decide +kernel, mw_Sh_add, by decide +kernel, me_Sh_add, Nat.le_trans (by decide) h1, Nat.le_trans (by decide) h2⟩
theorem dc_Sh_add : jx_dc ⟨"ExtentShelf", "add", "(II)V"⟩ := ⟨⟨by decide, by decide⟩, Or.inr ⟨by decide +kernel, prog_1_method_20_code, 4, _, (by decide +kernel : Cond.code ⟨"ExtentShelf", "add", "(II)V"⟩ prog_1_method_20_code 4 none ∈ jx_tbl)⟩, "ExtentShelf", ⟨"ExtentShelf", "add", "(II)V"⟩, ⟨"ExtentShelf", "add", "(II)V"⟩, by decide +kernel, rfl⟩
theorem ll_add : jx_lm "ExtentShelfLaw" 7 ⟨"ExtentShelf", "add", "(II)V"⟩ := Or.inl (by decide +kernel)
abbrev z_w_add : jx_Z := ("ExtentShelfLaw", "add", method_3_code, 4, some .int, 9, 197)
abbrev hs_w_add : List (Nat × Nat × Nat × Nat) := [(0, 6, 9, 13), (0, 6, 12, 15), (0, 6, 15, 17)]
theorem mw_w_add : jx_mwH ⟨"ExtentShelfLaw", "add", "(LExtentShelf;II)I"⟩ z_w_add hs_w_add := ⟨rfl, rfl, by decide +kernel, ⟨by decide, by decide⟩, by decide +kernel⟩
theorem dw_add_0 : decode z_w_add.2.2.1 0 = .ok (.aload_n 0, 1) := by decide +kernel
theorem dw_add_1 : decode z_w_add.2.2.1 1 = .ok (.iload_n 1, 1) := by decide +kernel
theorem dw_add_2 : decode z_w_add.2.2.1 2 = .ok (.iload_n 2, 1) := by decide +kernel
theorem dw_add_3 : decode z_w_add.2.2.1 3 = .ok (.invokevirtual 7, 3) := by decide +kernel
theorem dw_add_6 : decode z_w_add.2.2.1 6 = .ok (.goto 12, 3) := by decide +kernel
theorem dw_add_9 : decode z_w_add.2.2.1 9 = .ok (.astore_n 3, 1) := by decide +kernel
theorem dw_add_10 : decode z_w_add.2.2.1 10 = .ok (.iconst 1, 1) := by decide +kernel
theorem dw_add_11 : decode z_w_add.2.2.1 11 = .ok (.ireturn, 1) := by decide +kernel
theorem dw_add_12 : decode z_w_add.2.2.1 12 = .ok (.astore_n 3, 1) := by decide +kernel
theorem dw_add_13 : decode z_w_add.2.2.1 13 = .ok (.iconst 2, 1) := by decide +kernel
theorem dw_add_14 : decode z_w_add.2.2.1 14 = .ok (.ireturn, 1) := by decide +kernel
theorem dw_add_15 : decode z_w_add.2.2.1 15 = .ok (.astore_n 3, 1) := by decide +kernel
theorem dw_add_16 : decode z_w_add.2.2.1 16 = .ok (.iconst 3, 1) := by decide +kernel
theorem dw_add_17 : decode z_w_add.2.2.1 17 = .ok (.ireturn, 1) := by decide +kernel
theorem dw_add_18 : decode z_w_add.2.2.1 18 = .ok (.iconst 0, 1) := by decide +kernel
theorem dw_add_19 : decode z_w_add.2.2.1 19 = .ok (.ireturn, 1) := by decide +kernel
def w_add : jx_Mt := fun vs h => match vs with
  | [.ref x, .int a1, .int a2] => wV (jx_ev tb_Sh_add [.ref x, .int a1, .int a2] [] h) [9, 10, 11]
  | _ => none
set_option maxHeartbeats 4000000 in
theorem me_w_add : jx_MeH 3 z_w_add hs_w_add jx_P w_add := by
  refine jx_MeH.of (by decide) (fun vs h o h' hF => ?_) (fun vs h o h' hF p l e R s m args below meth c V u hC hP het hfit hs hu => ?_)
  · unfold w_add at hF
    split at hF
    · rename_i x a1 a2
      exact ⟨wV_le (fun r hr => (jx_vcH (Z := z_w_add) (k := 16) (ve_Sh_add (by decide) (by decide)) dc_Sh_add (by decide) ll_add pd_Sh_add dw_add_3 _ [] h r hr).1) hF, rfl, rfl⟩
    · cases hF
  · unfold w_add at hF
    split at hF
    · rename_i x a1 a2
      show jx_G p l e R s m args below meth c V u o h' 0 [.ref x, .int a1, .int a2, .double 0] [] h
      refine g_aload_n hC dw_add_0 rfl rfl ?_
      refine g_iload_n hC dw_add_1 rfl rfl ?_
      refine g_iload_n hC dw_add_2 rfl rfl ?_
      rcases wV_sp hF with ⟨h1, hev, rfl, rfl⟩ | ⟨y, h1, k, ci, fs, hev, hk, hcell, rfl, rfl⟩
      · refine (jx_vcH (Z := z_w_add) (k := 16) (ve_Sh_add (by decide) (by decide)) dc_Sh_add (by decide) ll_add pd_Sh_add dw_add_3 [.ref x, .int a1, .int a2] [.ref x, .int a1, .int a2, .double 0] h _ hev).2 p l e R s m args below meth c V u _ _ hC hfit hs hu (jx_le.rf _) [] (by decide) (fun v2 h2 q2 => ?_) (fun y2 h2 q2 => by cases q2)
        cases q2
        exact g_goto (tgt := 18) hC dw_add_6 (by decide) (g_iconst (v := nI 0) hC dw_add_18 (by decide) (g_ireturn hC rfl dw_add_19))
      · refine (jx_vcH (Z := z_w_add) (k := 16) (ve_Sh_add (by decide) (by decide)) dc_Sh_add (by decide) ll_add pd_Sh_add dw_add_3 [.ref x, .int a1, .int a2] [.ref x, .int a1, .int a2, .double 0] h _ hev).2 p l e R s m args below meth c V u _ _ hC hfit hs hu (jx_le.rf _) [] (by decide) (fun v2 h2 q2 => by cases q2) (fun y2 h2 q2 => ?_)
        cases q2
        rcases k with _ | _ | _ | k
        · cases hk
          exact ⟨9, fs, R_Ise, F_Ise, 0, 9, [R_Ise], hcell, rfl, by rw [het]; exact hs_here (by decide) (by decide) (by decide +kernel), g_astore_n hC dw_add_9 rfl (by decide) (g_iconst (v := nI 1) hC dw_add_10 (by decide) (g_ireturn hC rfl dw_add_11))⟩
        · cases hk
          exact ⟨10, fs, R_Iae, F_Iae, 0, 12, [R_Ise, R_Iae], hcell, rfl, by rw [het]; exact hs_next (by decide) (by decide) (by decide +kernel) (hP _ (by decide) _ (by decide) (by decide)) (hs_here (by decide) (by decide) (by decide +kernel)), g_astore_n hC dw_add_12 rfl (by decide) (g_iconst (v := nI 2) hC dw_add_13 (by decide) (g_ireturn hC rfl dw_add_14))⟩
        · cases hk
          exact ⟨11, fs, R_Uoe, F_Uoe, 0, 15, [R_Ise, R_Iae, R_Uoe], hcell, rfl, by rw [het]; exact hs_next (by decide) (by decide) (by decide +kernel) (hP _ (by decide) _ (by decide) (by decide)) (hs_next (by decide) (by decide) (by decide +kernel) (hP _ (by decide) _ (by decide) (by decide)) (hs_here (by decide) (by decide) (by decide +kernel))), g_astore_n hC dw_add_15 rfl (by decide) (g_iconst (v := nI 3) hC dw_add_16 (by decide) (g_ireturn hC rfl dw_add_17))⟩
        · cases hk
    · cases hF
abbrev tb_Sh_remove : List (Nat × jx_Mt) := [(0, f_Sh_remove)]
theorem ve_Sh_remove {fr lo : Nat} (h1 : 9 ≤ fr) (h2 : 198 ≤ lo) : ∀ q ∈ tb_Sh_remove, jx_ve ⟨"ExtentShelf", "remove", "(I)V"⟩ 1 fr lo q.1 q.2 := tv_1 ⟨R_Shelf, F_Shelf, 5, ⟨"ExtentShelf", "remove", "(I)V"⟩, z_Sh_remove, rfl, by decide +kernel, mw_Sh_remove, by decide +kernel, me_Sh_remove, Nat.le_trans (by decide) h1, Nat.le_trans (by decide) h2⟩
theorem dc_Sh_remove : jx_dc ⟨"ExtentShelf", "remove", "(I)V"⟩ := ⟨⟨by decide, by decide⟩, Or.inr ⟨by decide +kernel, prog_1_method_21_code, 5, _, (by decide +kernel : Cond.code ⟨"ExtentShelf", "remove", "(I)V"⟩ prog_1_method_21_code 5 none ∈ jx_tbl)⟩, "ExtentShelf", ⟨"ExtentShelf", "remove", "(I)V"⟩, ⟨"ExtentShelf", "remove", "(I)V"⟩, by decide +kernel, rfl⟩
theorem ll_remove : jx_lm "ExtentShelfLaw" 19 ⟨"ExtentShelf", "remove", "(I)V"⟩ := Or.inl (by decide +kernel)
abbrev z_w_remove : jx_Z := ("ExtentShelfLaw", "remove", method_4_code, 3, some .int, 9, 198)
abbrev hs_w_remove : List (Nat × Nat × Nat × Nat) := [(0, 5, 8, 13), (0, 5, 11, 15), (0, 5, 14, 17)]
theorem mw_w_remove : jx_mwH ⟨"ExtentShelfLaw", "remove", "(LExtentShelf;I)I"⟩ z_w_remove hs_w_remove := ⟨rfl, rfl, by decide +kernel, ⟨by decide, by decide⟩, by decide +kernel⟩
theorem dw_remove_0 : decode z_w_remove.2.2.1 0 = .ok (.aload_n 0, 1) := by decide +kernel
theorem dw_remove_1 : decode z_w_remove.2.2.1 1 = .ok (.iload_n 1, 1) := by decide +kernel
theorem dw_remove_2 : decode z_w_remove.2.2.1 2 = .ok (.invokevirtual 19, 3) := by decide +kernel
theorem dw_remove_5 : decode z_w_remove.2.2.1 5 = .ok (.goto 12, 3) := by decide +kernel
theorem dw_remove_8 : decode z_w_remove.2.2.1 8 = .ok (.astore_n 2, 1) := by decide +kernel
theorem dw_remove_9 : decode z_w_remove.2.2.1 9 = .ok (.iconst 1, 1) := by decide +kernel
theorem dw_remove_10 : decode z_w_remove.2.2.1 10 = .ok (.ireturn, 1) := by decide +kernel
theorem dw_remove_11 : decode z_w_remove.2.2.1 11 = .ok (.astore_n 2, 1) := by decide +kernel
theorem dw_remove_12 : decode z_w_remove.2.2.1 12 = .ok (.iconst 2, 1) := by decide +kernel
theorem dw_remove_13 : decode z_w_remove.2.2.1 13 = .ok (.ireturn, 1) := by decide +kernel
theorem dw_remove_14 : decode z_w_remove.2.2.1 14 = .ok (.astore_n 2, 1) := by decide +kernel
theorem dw_remove_15 : decode z_w_remove.2.2.1 15 = .ok (.iconst 3, 1) := by decide +kernel
theorem dw_remove_16 : decode z_w_remove.2.2.1 16 = .ok (.ireturn, 1) := by decide +kernel
theorem dw_remove_17 : decode z_w_remove.2.2.1 17 = .ok (.iconst 0, 1) := by decide +kernel
theorem dw_remove_18 : decode z_w_remove.2.2.1 18 = .ok (.ireturn, 1) := by decide +kernel
def w_remove : jx_Mt := fun vs h => match vs with
  | [.ref x, .int a1] => wV (jx_ev tb_Sh_remove [.ref x, .int a1] [] h) [9, 10, 11]
  | _ => none
set_option maxHeartbeats 4000000 in
theorem me_w_remove : jx_MeH 2 z_w_remove hs_w_remove jx_P w_remove := by
  refine jx_MeH.of (by decide) (fun vs h o h' hF => ?_) (fun vs h o h' hF p l e R s m args below meth c V u hC hP het hfit hs hu => ?_)
  · unfold w_remove at hF
    split at hF
    · rename_i x a1
      exact ⟨wV_le (fun r hr => (jx_vcH (Z := z_w_remove) (k := 16) (ve_Sh_remove (by decide) (by decide)) dc_Sh_remove (by decide) ll_remove pd_Sh_remove dw_remove_2 _ [] h r hr).1) hF, rfl, rfl⟩
    · cases hF
  · unfold w_remove at hF
    split at hF
    · rename_i x a1
      show jx_G p l e R s m args below meth c V u o h' 0 [.ref x, .int a1, .double 0] [] h
      refine g_aload_n hC dw_remove_0 rfl rfl ?_
      refine g_iload_n hC dw_remove_1 rfl rfl ?_
      rcases wV_sp hF with ⟨h1, hev, rfl, rfl⟩ | ⟨y, h1, k, ci, fs, hev, hk, hcell, rfl, rfl⟩
      · refine (jx_vcH (Z := z_w_remove) (k := 16) (ve_Sh_remove (by decide) (by decide)) dc_Sh_remove (by decide) ll_remove pd_Sh_remove dw_remove_2 [.ref x, .int a1] [.ref x, .int a1, .double 0] h _ hev).2 p l e R s m args below meth c V u _ _ hC hfit hs hu (jx_le.rf _) [] (by decide) (fun v2 h2 q2 => ?_) (fun y2 h2 q2 => by cases q2)
        cases q2
        exact g_goto (tgt := 17) hC dw_remove_5 (by decide) (g_iconst (v := nI 0) hC dw_remove_17 (by decide) (g_ireturn hC rfl dw_remove_18))
      · refine (jx_vcH (Z := z_w_remove) (k := 16) (ve_Sh_remove (by decide) (by decide)) dc_Sh_remove (by decide) ll_remove pd_Sh_remove dw_remove_2 [.ref x, .int a1] [.ref x, .int a1, .double 0] h _ hev).2 p l e R s m args below meth c V u _ _ hC hfit hs hu (jx_le.rf _) [] (by decide) (fun v2 h2 q2 => by cases q2) (fun y2 h2 q2 => ?_)
        cases q2
        rcases k with _ | _ | _ | k
        · cases hk
          exact ⟨9, fs, R_Ise, F_Ise, 0, 8, [R_Ise], hcell, rfl, by rw [het]; exact hs_here (by decide) (by decide) (by decide +kernel), g_astore_n hC dw_remove_8 rfl (by decide) (g_iconst (v := nI 1) hC dw_remove_9 (by decide) (g_ireturn hC rfl dw_remove_10))⟩
        · cases hk
          exact ⟨10, fs, R_Iae, F_Iae, 0, 11, [R_Ise, R_Iae], hcell, rfl, by rw [het]; exact hs_next (by decide) (by decide) (by decide +kernel) (hP _ (by decide) _ (by decide) (by decide)) (hs_here (by decide) (by decide) (by decide +kernel)), g_astore_n hC dw_remove_11 rfl (by decide) (g_iconst (v := nI 2) hC dw_remove_12 (by decide) (g_ireturn hC rfl dw_remove_13))⟩
        · cases hk
          exact ⟨11, fs, R_Uoe, F_Uoe, 0, 14, [R_Ise, R_Iae, R_Uoe], hcell, rfl, by rw [het]; exact hs_next (by decide) (by decide) (by decide +kernel) (hP _ (by decide) _ (by decide) (by decide)) (hs_next (by decide) (by decide) (by decide +kernel) (hP _ (by decide) _ (by decide) (by decide)) (hs_here (by decide) (by decide) (by decide +kernel))), g_astore_n hC dw_remove_14 rfl (by decide) (g_iconst (v := nI 3) hC dw_remove_15 (by decide) (g_ireturn hC rfl dw_remove_16))⟩
        · cases hk
    · cases hF
abbrev tb_Sh_drop : List (Nat × jx_Mt) := [(0, f_Sh_drop)]
theorem ve_Sh_drop {fr lo : Nat} (h1 : 9 ≤ fr) (h2 : 203 ≤ lo) : ∀ q ∈ tb_Sh_drop, jx_ve ⟨"ExtentShelf", "drop", "(I)I"⟩ 1 fr lo q.1 q.2 := tv_1 ⟨R_Shelf, F_Shelf, 5, ⟨"ExtentShelf", "drop", "(I)I"⟩, z_Sh_drop, rfl, by decide +kernel, mw_Sh_drop, by decide +kernel, me_Sh_drop, Nat.le_trans (by decide) h1, Nat.le_trans (by decide) h2⟩
theorem dc_Sh_drop : jx_dc ⟨"ExtentShelf", "drop", "(I)I"⟩ := ⟨⟨by decide, by decide⟩, Or.inr ⟨by decide +kernel, prog_1_method_22_code, 10, _, (by decide +kernel : Cond.code ⟨"ExtentShelf", "drop", "(I)I"⟩ prog_1_method_22_code 10 (some .int) ∈ jx_tbl)⟩, "ExtentShelf", ⟨"ExtentShelf", "drop", "(I)I"⟩, ⟨"ExtentShelf", "drop", "(I)I"⟩, by decide +kernel, rfl⟩
theorem ll_drop : jx_lm "ExtentShelfLaw" 23 ⟨"ExtentShelf", "drop", "(I)I"⟩ := Or.inl (by decide +kernel)
abbrev z_w_drop : jx_Z := ("ExtentShelfLaw", "drop", method_5_code, 4, some .int, 9, 203)
abbrev hs_w_drop : List (Nat × Nat × Nat × Nat) := [(0, 9, 12, 13), (0, 9, 15, 15), (0, 9, 18, 17)]
theorem mw_w_drop : jx_mwH ⟨"ExtentShelfLaw", "drop", "(LExtentShelf;I[J)I"⟩ z_w_drop hs_w_drop := ⟨rfl, rfl, by decide +kernel, ⟨by decide, by decide⟩, by decide +kernel⟩
theorem dw_drop_0 : decode z_w_drop.2.2.1 0 = .ok (.aload_n 2, 1) := by decide +kernel
theorem dw_drop_1 : decode z_w_drop.2.2.1 1 = .ok (.iconst 0, 1) := by decide +kernel
theorem dw_drop_2 : decode z_w_drop.2.2.1 2 = .ok (.aload_n 0, 1) := by decide +kernel
theorem dw_drop_3 : decode z_w_drop.2.2.1 3 = .ok (.iload_n 1, 1) := by decide +kernel
theorem dw_drop_4 : decode z_w_drop.2.2.1 4 = .ok (.invokevirtual 23, 3) := by decide +kernel
theorem dw_drop_7 : decode z_w_drop.2.2.1 7 = .ok (.i2l, 1) := by decide +kernel
theorem dw_drop_8 : decode z_w_drop.2.2.1 8 = .ok (.lastore, 1) := by decide +kernel
theorem dw_drop_9 : decode z_w_drop.2.2.1 9 = .ok (.goto 12, 3) := by decide +kernel
theorem dw_drop_12 : decode z_w_drop.2.2.1 12 = .ok (.astore_n 3, 1) := by decide +kernel
theorem dw_drop_13 : decode z_w_drop.2.2.1 13 = .ok (.iconst 1, 1) := by decide +kernel
theorem dw_drop_14 : decode z_w_drop.2.2.1 14 = .ok (.ireturn, 1) := by decide +kernel
theorem dw_drop_15 : decode z_w_drop.2.2.1 15 = .ok (.astore_n 3, 1) := by decide +kernel
theorem dw_drop_16 : decode z_w_drop.2.2.1 16 = .ok (.iconst 2, 1) := by decide +kernel
theorem dw_drop_17 : decode z_w_drop.2.2.1 17 = .ok (.ireturn, 1) := by decide +kernel
theorem dw_drop_18 : decode z_w_drop.2.2.1 18 = .ok (.astore_n 3, 1) := by decide +kernel
theorem dw_drop_19 : decode z_w_drop.2.2.1 19 = .ok (.iconst 3, 1) := by decide +kernel
theorem dw_drop_20 : decode z_w_drop.2.2.1 20 = .ok (.ireturn, 1) := by decide +kernel
theorem dw_drop_21 : decode z_w_drop.2.2.1 21 = .ok (.iconst 0, 1) := by decide +kernel
theorem dw_drop_22 : decode z_w_drop.2.2.1 22 = .ok (.ireturn, 1) := by decide +kernel
def w_drop : jx_Mt := fun vs h => match vs with
  | [.ref x, .int a1, .ref t] => wI (jx_ev tb_Sh_drop [.ref x, .int a1] [] h) [9, 10, 11] t
  | _ => none
set_option maxHeartbeats 4000000 in
theorem me_w_drop : jx_MeH 3 z_w_drop hs_w_drop jx_P w_drop := by
  refine jx_MeH.of (by decide) (fun vs h o h' hF => ?_) (fun vs h o h' hF p l e R s m args below meth c V u hC hP het hfit hs hu => ?_)
  · unfold w_drop at hF
    split at hF
    · rename_i x a1 t
      exact ⟨wI_le (fun r hr => (jx_vcH (Z := z_w_drop) (k := 16) (ve_Sh_drop (by decide) (by decide)) dc_Sh_drop (by decide) ll_drop pd_Sh_drop dw_drop_4 _ [] h r hr).1) hF, rfl, rfl⟩
    · cases hF
  · unfold w_drop at hF
    split at hF
    · rename_i x a1 t
      show jx_G p l e R s m args below meth c V u o h' 0 [.ref x, .int a1, .ref t, .double 0] [] h
      refine g_aload_n hC dw_drop_0 rfl rfl ?_
      refine g_iconst (v := nI 0) hC dw_drop_1 (by decide) ?_
      refine g_aload_n hC dw_drop_2 rfl rfl ?_
      refine g_iload_n hC dw_drop_3 rfl rfl ?_
      rcases wI_sp hF with ⟨v, f, h1, hev, hcell, rfl, rfl⟩ | ⟨y, h1, k, ci, fs, hev, hk, hcell, rfl, rfl⟩
      · refine (jx_vcH (Z := z_w_drop) (k := 16) (ve_Sh_drop (by decide) (by decide)) dc_Sh_drop (by decide) ll_drop pd_Sh_drop dw_drop_4 [.ref x, .int a1] [.ref x, .int a1, .ref t, .double 0] h _ hev).2 p l e R s m args below meth c V u _ _ hC hfit hs hu (jx_le.rf _) [.int (nI 0), .ref t] (wt_it t) (fun v2 h2 q2 => ?_) (fun y2 h2 q2 => by cases q2)
        cases q2
        exact g_i2l hC dw_drop_7 (g_last hC hcell (by decide) (by decide) dw_drop_8 (g_goto (tgt := 21) hC dw_drop_9 (by decide) (g_iconst (v := nI 0) hC dw_drop_21 (by decide) (g_ireturn hC rfl dw_drop_22))))
      · refine (jx_vcH (Z := z_w_drop) (k := 16) (ve_Sh_drop (by decide) (by decide)) dc_Sh_drop (by decide) ll_drop pd_Sh_drop dw_drop_4 [.ref x, .int a1] [.ref x, .int a1, .ref t, .double 0] h _ hev).2 p l e R s m args below meth c V u _ _ hC hfit hs hu (jx_le.rf _) [.int (nI 0), .ref t] (wt_it t) (fun v2 h2 q2 => by cases q2) (fun y2 h2 q2 => ?_)
        cases q2
        rcases k with _ | _ | _ | k
        · cases hk
          exact ⟨9, fs, R_Ise, F_Ise, 0, 12, [R_Ise], hcell, rfl, by rw [het]; exact hs_here (by decide) (by decide) (by decide +kernel), g_astore_n hC dw_drop_12 rfl (by decide) (g_iconst (v := nI 1) hC dw_drop_13 (by decide) (g_ireturn hC rfl dw_drop_14))⟩
        · cases hk
          exact ⟨10, fs, R_Iae, F_Iae, 0, 15, [R_Ise, R_Iae], hcell, rfl, by rw [het]; exact hs_next (by decide) (by decide) (by decide +kernel) (hP _ (by decide) _ (by decide) (by decide)) (hs_here (by decide) (by decide) (by decide +kernel)), g_astore_n hC dw_drop_15 rfl (by decide) (g_iconst (v := nI 2) hC dw_drop_16 (by decide) (g_ireturn hC rfl dw_drop_17))⟩
        · cases hk
          exact ⟨11, fs, R_Uoe, F_Uoe, 0, 18, [R_Ise, R_Iae, R_Uoe], hcell, rfl, by rw [het]; exact hs_next (by decide) (by decide) (by decide +kernel) (hP _ (by decide) _ (by decide) (by decide)) (hs_next (by decide) (by decide) (by decide +kernel) (hP _ (by decide) _ (by decide) (by decide)) (hs_here (by decide) (by decide) (by decide +kernel))), g_astore_n hC dw_drop_18 rfl (by decide) (g_iconst (v := nI 3) hC dw_drop_19 (by decide) (g_ireturn hC rfl dw_drop_20))⟩
        · cases hk
    · cases hF
abbrev tb_Sh_make : List (Nat × jx_Mt) := [(0, f_Sh_make)]
theorem ve_Sh_make {fr lo : Nat} (h1 : 10 ≤ fr) (h2 : 231 ≤ lo) : ∀ q ∈ tb_Sh_make, jx_ve ⟨"ExtentShelf", "make", "(III)I"⟩ 3 fr lo q.1 q.2 := tv_1 ⟨R_Shelf, F_Shelf, 5, ⟨"ExtentShelf", "make", "(III)I"⟩, z_Sh_make, rfl, by decide +kernel, mw_Sh_make, by decide +kernel, me_Sh_make, Nat.le_trans (by decide) h1, Nat.le_trans (by decide) h2⟩
theorem dc_Sh_make : jx_dc ⟨"ExtentShelf", "make", "(III)I"⟩ := ⟨⟨by decide, by decide⟩, Or.inr ⟨by decide +kernel, prog_1_method_23_code, 7, _, (by decide +kernel : Cond.code ⟨"ExtentShelf", "make", "(III)I"⟩ prog_1_method_23_code 7 (some .int) ∈ jx_tbl)⟩, "ExtentShelf", ⟨"ExtentShelf", "make", "(III)I"⟩, ⟨"ExtentShelf", "make", "(III)I"⟩, by decide +kernel, rfl⟩
theorem ll_make : jx_lm "ExtentShelfLaw" 27 ⟨"ExtentShelf", "make", "(III)I"⟩ := Or.inl (by decide +kernel)
abbrev z_w_make : jx_Z := ("ExtentShelfLaw", "make", method_6_code, 6, some .int, 10, 231)
abbrev hs_w_make : List (Nat × Nat × Nat × Nat) := [(0, 12, 15, 13), (0, 12, 19, 15), (0, 12, 23, 17)]
theorem mw_w_make : jx_mwH ⟨"ExtentShelfLaw", "make", "(LExtentShelf;III[J)I"⟩ z_w_make hs_w_make := ⟨rfl, rfl, by decide +kernel, ⟨by decide, by decide⟩, by decide +kernel⟩
theorem dw_make_0 : decode z_w_make.2.2.1 0 = .ok (.aload 4, 2) := by decide +kernel
theorem dw_make_2 : decode z_w_make.2.2.1 2 = .ok (.iconst 0, 1) := by decide +kernel
theorem dw_make_3 : decode z_w_make.2.2.1 3 = .ok (.aload_n 0, 1) := by decide +kernel
theorem dw_make_4 : decode z_w_make.2.2.1 4 = .ok (.iload_n 1, 1) := by decide +kernel
theorem dw_make_5 : decode z_w_make.2.2.1 5 = .ok (.iload_n 2, 1) := by decide +kernel
theorem dw_make_6 : decode z_w_make.2.2.1 6 = .ok (.iload_n 3, 1) := by decide +kernel
theorem dw_make_7 : decode z_w_make.2.2.1 7 = .ok (.invokevirtual 27, 3) := by decide +kernel
theorem dw_make_10 : decode z_w_make.2.2.1 10 = .ok (.i2l, 1) := by decide +kernel
theorem dw_make_11 : decode z_w_make.2.2.1 11 = .ok (.lastore, 1) := by decide +kernel
theorem dw_make_12 : decode z_w_make.2.2.1 12 = .ok (.goto 15, 3) := by decide +kernel
theorem dw_make_15 : decode z_w_make.2.2.1 15 = .ok (.astore 5, 2) := by decide +kernel
theorem dw_make_17 : decode z_w_make.2.2.1 17 = .ok (.iconst 1, 1) := by decide +kernel
theorem dw_make_18 : decode z_w_make.2.2.1 18 = .ok (.ireturn, 1) := by decide +kernel
theorem dw_make_19 : decode z_w_make.2.2.1 19 = .ok (.astore 5, 2) := by decide +kernel
theorem dw_make_21 : decode z_w_make.2.2.1 21 = .ok (.iconst 2, 1) := by decide +kernel
theorem dw_make_22 : decode z_w_make.2.2.1 22 = .ok (.ireturn, 1) := by decide +kernel
theorem dw_make_23 : decode z_w_make.2.2.1 23 = .ok (.astore 5, 2) := by decide +kernel
theorem dw_make_25 : decode z_w_make.2.2.1 25 = .ok (.iconst 3, 1) := by decide +kernel
theorem dw_make_26 : decode z_w_make.2.2.1 26 = .ok (.ireturn, 1) := by decide +kernel
theorem dw_make_27 : decode z_w_make.2.2.1 27 = .ok (.iconst 0, 1) := by decide +kernel
theorem dw_make_28 : decode z_w_make.2.2.1 28 = .ok (.ireturn, 1) := by decide +kernel
def w_make : jx_Mt := fun vs h => match vs with
  | [.ref x, .int a1, .int a2, .int a3, .ref t] => wI (jx_ev tb_Sh_make [.ref x, .int a1, .int a2, .int a3] [] h) [9, 10, 11] t
  | _ => none
set_option maxHeartbeats 4000000 in
theorem me_w_make : jx_MeH 5 z_w_make hs_w_make jx_P w_make := by
  refine jx_MeH.of (by decide) (fun vs h o h' hF => ?_) (fun vs h o h' hF p l e R s m args below meth c V u hC hP het hfit hs hu => ?_)
  · unfold w_make at hF
    split at hF
    · rename_i x a1 a2 a3 t
      exact ⟨wI_le (fun r hr => (jx_vcH (Z := z_w_make) (k := 16) (ve_Sh_make (by decide) (by decide)) dc_Sh_make (by decide) ll_make pd_Sh_make dw_make_7 _ [] h r hr).1) hF, rfl, rfl⟩
    · cases hF
  · unfold w_make at hF
    split at hF
    · rename_i x a1 a2 a3 t
      show jx_G p l e R s m args below meth c V u o h' 0 [.ref x, .int a1, .int a2, .int a3, .ref t, .double 0] [] h
      refine g_aload hC dw_make_0 rfl ?_
      refine g_iconst (v := nI 0) hC dw_make_2 (by decide) ?_
      refine g_aload_n hC dw_make_3 rfl rfl ?_
      refine g_iload_n hC dw_make_4 rfl rfl ?_
      refine g_iload_n hC dw_make_5 rfl rfl ?_
      refine g_iload_n hC dw_make_6 rfl rfl ?_
      rcases wI_sp hF with ⟨v, f, h1, hev, hcell, rfl, rfl⟩ | ⟨y, h1, k, ci, fs, hev, hk, hcell, rfl, rfl⟩
      · refine (jx_vcH (Z := z_w_make) (k := 16) (ve_Sh_make (by decide) (by decide)) dc_Sh_make (by decide) ll_make pd_Sh_make dw_make_7 [.ref x, .int a1, .int a2, .int a3] [.ref x, .int a1, .int a2, .int a3, .ref t, .double 0] h _ hev).2 p l e R s m args below meth c V u _ _ hC hfit hs hu (jx_le.rf _) [.int (nI 0), .ref t] (wt_it t) (fun v2 h2 q2 => ?_) (fun y2 h2 q2 => by cases q2)
        cases q2
        exact g_i2l hC dw_make_10 (g_last hC hcell (by decide) (by decide) dw_make_11 (g_goto (tgt := 27) hC dw_make_12 (by decide) (g_iconst (v := nI 0) hC dw_make_27 (by decide) (g_ireturn hC rfl dw_make_28))))
      · refine (jx_vcH (Z := z_w_make) (k := 16) (ve_Sh_make (by decide) (by decide)) dc_Sh_make (by decide) ll_make pd_Sh_make dw_make_7 [.ref x, .int a1, .int a2, .int a3] [.ref x, .int a1, .int a2, .int a3, .ref t, .double 0] h _ hev).2 p l e R s m args below meth c V u _ _ hC hfit hs hu (jx_le.rf _) [.int (nI 0), .ref t] (wt_it t) (fun v2 h2 q2 => by cases q2) (fun y2 h2 q2 => ?_)
        cases q2
        rcases k with _ | _ | _ | k
        · cases hk
          exact ⟨9, fs, R_Ise, F_Ise, 0, 15, [R_Ise], hcell, rfl, by rw [het]; exact hs_here (by decide) (by decide) (by decide +kernel), g_astore hC dw_make_15 (by decide) (g_iconst (v := nI 1) hC dw_make_17 (by decide) (g_ireturn hC rfl dw_make_18))⟩
        · cases hk
          exact ⟨10, fs, R_Iae, F_Iae, 0, 19, [R_Ise, R_Iae], hcell, rfl, by rw [het]; exact hs_next (by decide) (by decide) (by decide +kernel) (hP _ (by decide) _ (by decide) (by decide)) (hs_here (by decide) (by decide) (by decide +kernel)), g_astore hC dw_make_19 (by decide) (g_iconst (v := nI 2) hC dw_make_21 (by decide) (g_ireturn hC rfl dw_make_22))⟩
        · cases hk
          exact ⟨11, fs, R_Uoe, F_Uoe, 0, 23, [R_Ise, R_Iae, R_Uoe], hcell, rfl, by rw [het]; exact hs_next (by decide) (by decide) (by decide +kernel) (hP _ (by decide) _ (by decide) (by decide)) (hs_next (by decide) (by decide) (by decide +kernel) (hP _ (by decide) _ (by decide) (by decide)) (hs_here (by decide) (by decide) (by decide +kernel))), g_astore hC dw_make_23 (by decide) (g_iconst (v := nI 3) hC dw_make_25 (by decide) (g_ireturn hC rfl dw_make_26))⟩
        · cases hk
    · cases hF
abbrev tb_Sh_grow : List (Nat × jx_Mt) := [(0, f_Sh_grow)]
theorem ve_Sh_grow {fr lo : Nat} (h1 : 10 ≤ fr) (h2 : 229 ≤ lo) : ∀ q ∈ tb_Sh_grow, jx_ve ⟨"ExtentShelf", "grow", "(II)I"⟩ 2 fr lo q.1 q.2 := tv_1 ⟨R_Shelf, F_Shelf, 5, ⟨"ExtentShelf", "grow", "(II)I"⟩, z_Sh_grow, rfl, by decide +kernel, mw_Sh_grow, by decide +kernel, me_Sh_grow, Nat.le_trans (by decide) h1, Nat.le_trans (by decide) h2⟩
theorem dc_Sh_grow : jx_dc ⟨"ExtentShelf", "grow", "(II)I"⟩ := ⟨⟨by decide, by decide⟩, Or.inr ⟨by decide +kernel, prog_1_method_24_code, 5, _, (by decide +kernel : Cond.code ⟨"ExtentShelf", "grow", "(II)I"⟩ prog_1_method_24_code 5 (some .int) ∈ jx_tbl)⟩, "ExtentShelf", ⟨"ExtentShelf", "grow", "(II)I"⟩, ⟨"ExtentShelf", "grow", "(II)I"⟩, by decide +kernel, rfl⟩
theorem ll_grow : jx_lm "ExtentShelfLaw" 31 ⟨"ExtentShelf", "grow", "(II)I"⟩ := Or.inl (by decide +kernel)
abbrev z_w_grow : jx_Z := ("ExtentShelfLaw", "grow", method_7_code, 5, some .int, 10, 229)
abbrev hs_w_grow : List (Nat × Nat × Nat × Nat) := [(0, 10, 13, 13), (0, 10, 17, 35), (0, 10, 21, 15), (0, 10, 25, 17)]
theorem mw_w_grow : jx_mwH ⟨"ExtentShelfLaw", "grow", "(LExtentShelf;II[J)I"⟩ z_w_grow hs_w_grow := ⟨rfl, rfl, by decide +kernel, ⟨by decide, by decide⟩, by decide +kernel⟩
theorem dw_grow_0 : decode z_w_grow.2.2.1 0 = .ok (.aload_n 3, 1) := by decide +kernel
theorem dw_grow_1 : decode z_w_grow.2.2.1 1 = .ok (.iconst 0, 1) := by decide +kernel
theorem dw_grow_2 : decode z_w_grow.2.2.1 2 = .ok (.aload_n 0, 1) := by decide +kernel
theorem dw_grow_3 : decode z_w_grow.2.2.1 3 = .ok (.iload_n 1, 1) := by decide +kernel
theorem dw_grow_4 : decode z_w_grow.2.2.1 4 = .ok (.iload_n 2, 1) := by decide +kernel
theorem dw_grow_5 : decode z_w_grow.2.2.1 5 = .ok (.invokevirtual 31, 3) := by decide +kernel
theorem dw_grow_8 : decode z_w_grow.2.2.1 8 = .ok (.i2l, 1) := by decide +kernel
theorem dw_grow_9 : decode z_w_grow.2.2.1 9 = .ok (.lastore, 1) := by decide +kernel
theorem dw_grow_10 : decode z_w_grow.2.2.1 10 = .ok (.goto 19, 3) := by decide +kernel
theorem dw_grow_13 : decode z_w_grow.2.2.1 13 = .ok (.astore 4, 2) := by decide +kernel
theorem dw_grow_15 : decode z_w_grow.2.2.1 15 = .ok (.iconst 1, 1) := by decide +kernel
theorem dw_grow_16 : decode z_w_grow.2.2.1 16 = .ok (.ireturn, 1) := by decide +kernel
theorem dw_grow_17 : decode z_w_grow.2.2.1 17 = .ok (.astore 4, 2) := by decide +kernel
theorem dw_grow_19 : decode z_w_grow.2.2.1 19 = .ok (.iconst 2, 1) := by decide +kernel
theorem dw_grow_20 : decode z_w_grow.2.2.1 20 = .ok (.ireturn, 1) := by decide +kernel
theorem dw_grow_21 : decode z_w_grow.2.2.1 21 = .ok (.astore 4, 2) := by decide +kernel
theorem dw_grow_23 : decode z_w_grow.2.2.1 23 = .ok (.iconst 3, 1) := by decide +kernel
theorem dw_grow_24 : decode z_w_grow.2.2.1 24 = .ok (.ireturn, 1) := by decide +kernel
theorem dw_grow_25 : decode z_w_grow.2.2.1 25 = .ok (.astore 4, 2) := by decide +kernel
theorem dw_grow_27 : decode z_w_grow.2.2.1 27 = .ok (.iconst 4, 1) := by decide +kernel
theorem dw_grow_28 : decode z_w_grow.2.2.1 28 = .ok (.ireturn, 1) := by decide +kernel
theorem dw_grow_29 : decode z_w_grow.2.2.1 29 = .ok (.iconst 0, 1) := by decide +kernel
theorem dw_grow_30 : decode z_w_grow.2.2.1 30 = .ok (.ireturn, 1) := by decide +kernel
def w_grow : jx_Mt := fun vs h => match vs with
  | [.ref x, .int a1, .int a2, .ref t] => wI (jx_ev tb_Sh_grow [.ref x, .int a1, .int a2] [] h) [9, 12, 10, 11] t
  | _ => none
set_option maxHeartbeats 4000000 in
theorem me_w_grow : jx_MeH 4 z_w_grow hs_w_grow jx_P w_grow := by
  refine jx_MeH.of (by decide) (fun vs h o h' hF => ?_) (fun vs h o h' hF p l e R s m args below meth c V u hC hP het hfit hs hu => ?_)
  · unfold w_grow at hF
    split at hF
    · rename_i x a1 a2 t
      exact ⟨wI_le (fun r hr => (jx_vcH (Z := z_w_grow) (k := 16) (ve_Sh_grow (by decide) (by decide)) dc_Sh_grow (by decide) ll_grow pd_Sh_grow dw_grow_5 _ [] h r hr).1) hF, rfl, rfl⟩
    · cases hF
  · unfold w_grow at hF
    split at hF
    · rename_i x a1 a2 t
      show jx_G p l e R s m args below meth c V u o h' 0 [.ref x, .int a1, .int a2, .ref t, .double 0] [] h
      refine g_aload_n hC dw_grow_0 rfl rfl ?_
      refine g_iconst (v := nI 0) hC dw_grow_1 (by decide) ?_
      refine g_aload_n hC dw_grow_2 rfl rfl ?_
      refine g_iload_n hC dw_grow_3 rfl rfl ?_
      refine g_iload_n hC dw_grow_4 rfl rfl ?_
      rcases wI_sp hF with ⟨v, f, h1, hev, hcell, rfl, rfl⟩ | ⟨y, h1, k, ci, fs, hev, hk, hcell, rfl, rfl⟩
      · refine (jx_vcH (Z := z_w_grow) (k := 16) (ve_Sh_grow (by decide) (by decide)) dc_Sh_grow (by decide) ll_grow pd_Sh_grow dw_grow_5 [.ref x, .int a1, .int a2] [.ref x, .int a1, .int a2, .ref t, .double 0] h _ hev).2 p l e R s m args below meth c V u _ _ hC hfit hs hu (jx_le.rf _) [.int (nI 0), .ref t] (wt_it t) (fun v2 h2 q2 => ?_) (fun y2 h2 q2 => by cases q2)
        cases q2
        exact g_i2l hC dw_grow_8 (g_last hC hcell (by decide) (by decide) dw_grow_9 (g_goto (tgt := 29) hC dw_grow_10 (by decide) (g_iconst (v := nI 0) hC dw_grow_29 (by decide) (g_ireturn hC rfl dw_grow_30))))
      · refine (jx_vcH (Z := z_w_grow) (k := 16) (ve_Sh_grow (by decide) (by decide)) dc_Sh_grow (by decide) ll_grow pd_Sh_grow dw_grow_5 [.ref x, .int a1, .int a2] [.ref x, .int a1, .int a2, .ref t, .double 0] h _ hev).2 p l e R s m args below meth c V u _ _ hC hfit hs hu (jx_le.rf _) [.int (nI 0), .ref t] (wt_it t) (fun v2 h2 q2 => by cases q2) (fun y2 h2 q2 => ?_)
        cases q2
        rcases k with _ | _ | _ | _ | k
        · cases hk
          exact ⟨9, fs, R_Ise, F_Ise, 0, 13, [R_Ise], hcell, rfl, by rw [het]; exact hs_here (by decide) (by decide) (by decide +kernel), g_astore hC dw_grow_13 (by decide) (g_iconst (v := nI 1) hC dw_grow_15 (by decide) (g_ireturn hC rfl dw_grow_16))⟩
        · cases hk
          exact ⟨12, fs, R_Nse, F_Nse, 0, 17, [R_Ise, R_Nse], hcell, rfl, by rw [het]; exact hs_next (by decide) (by decide) (by decide +kernel) (hP _ (by decide) _ (by decide) (by decide)) (hs_here (by decide) (by decide) (by decide +kernel)), g_astore hC dw_grow_17 (by decide) (g_iconst (v := nI 2) hC dw_grow_19 (by decide) (g_ireturn hC rfl dw_grow_20))⟩
        · cases hk
          exact ⟨10, fs, R_Iae, F_Iae, 0, 21, [R_Ise, R_Nse, R_Iae], hcell, rfl, by rw [het]; exact hs_next (by decide) (by decide) (by decide +kernel) (hP _ (by decide) _ (by decide) (by decide)) (hs_next (by decide) (by decide) (by decide +kernel) (hP _ (by decide) _ (by decide) (by decide)) (hs_here (by decide) (by decide) (by decide +kernel))), g_astore hC dw_grow_21 (by decide) (g_iconst (v := nI 3) hC dw_grow_23 (by decide) (g_ireturn hC rfl dw_grow_24))⟩
        · cases hk
          exact ⟨11, fs, R_Uoe, F_Uoe, 0, 25, [R_Ise, R_Nse, R_Iae, R_Uoe], hcell, rfl, by rw [het]; exact hs_next (by decide) (by decide) (by decide +kernel) (hP _ (by decide) _ (by decide) (by decide)) (hs_next (by decide) (by decide) (by decide +kernel) (hP _ (by decide) _ (by decide) (by decide)) (hs_next (by decide) (by decide) (by decide +kernel) (hP _ (by decide) _ (by decide) (by decide)) (hs_here (by decide) (by decide) (by decide +kernel)))), g_astore hC dw_grow_25 (by decide) (g_iconst (v := nI 4) hC dw_grow_27 (by decide) (g_ireturn hC rfl dw_grow_28))⟩
        · cases hk
    · cases hF
abbrev tb_Sh_shrink : List (Nat × jx_Mt) := [(0, f_Sh_shrink)]
theorem ve_Sh_shrink {fr lo : Nat} (h1 : 9 ≤ fr) (h2 : 199 ≤ lo) : ∀ q ∈ tb_Sh_shrink, jx_ve ⟨"ExtentShelf", "shrink", "(II)I"⟩ 2 fr lo q.1 q.2 := tv_1 ⟨R_Shelf, F_Shelf, 5, ⟨"ExtentShelf", "shrink", "(II)I"⟩, z_Sh_shrink, rfl, by decide +kernel, mw_Sh_shrink, by decide +kernel, me_Sh_shrink, Nat.le_trans (by decide) h1, Nat.le_trans (by decide) h2⟩
theorem dc_Sh_shrink : jx_dc ⟨"ExtentShelf", "shrink", "(II)I"⟩ := ⟨⟨by decide, by decide⟩, Or.inr ⟨by decide +kernel, prog_1_method_25_code, 6, _, (by decide +kernel : Cond.code ⟨"ExtentShelf", "shrink", "(II)I"⟩ prog_1_method_25_code 6 (some .int) ∈ jx_tbl)⟩, "ExtentShelf", ⟨"ExtentShelf", "shrink", "(II)I"⟩, ⟨"ExtentShelf", "shrink", "(II)I"⟩, by decide +kernel, rfl⟩
theorem ll_shrink : jx_lm "ExtentShelfLaw" 37 ⟨"ExtentShelf", "shrink", "(II)I"⟩ := Or.inl (by decide +kernel)
abbrev z_w_shrink : jx_Z := ("ExtentShelfLaw", "shrink", method_8_code, 5, some .int, 9, 199)
abbrev hs_w_shrink : List (Nat × Nat × Nat × Nat) := [(0, 10, 13, 13), (0, 10, 17, 35), (0, 10, 21, 15), (0, 10, 25, 17)]
theorem mw_w_shrink : jx_mwH ⟨"ExtentShelfLaw", "shrink", "(LExtentShelf;II[J)I"⟩ z_w_shrink hs_w_shrink := ⟨rfl, rfl, by decide +kernel, ⟨by decide, by decide⟩, by decide +kernel⟩
theorem dw_shrink_0 : decode z_w_shrink.2.2.1 0 = .ok (.aload_n 3, 1) := by decide +kernel
theorem dw_shrink_1 : decode z_w_shrink.2.2.1 1 = .ok (.iconst 0, 1) := by decide +kernel
theorem dw_shrink_2 : decode z_w_shrink.2.2.1 2 = .ok (.aload_n 0, 1) := by decide +kernel
theorem dw_shrink_3 : decode z_w_shrink.2.2.1 3 = .ok (.iload_n 1, 1) := by decide +kernel
theorem dw_shrink_4 : decode z_w_shrink.2.2.1 4 = .ok (.iload_n 2, 1) := by decide +kernel
theorem dw_shrink_5 : decode z_w_shrink.2.2.1 5 = .ok (.invokevirtual 37, 3) := by decide +kernel
theorem dw_shrink_8 : decode z_w_shrink.2.2.1 8 = .ok (.i2l, 1) := by decide +kernel
theorem dw_shrink_9 : decode z_w_shrink.2.2.1 9 = .ok (.lastore, 1) := by decide +kernel
theorem dw_shrink_10 : decode z_w_shrink.2.2.1 10 = .ok (.goto 19, 3) := by decide +kernel
theorem dw_shrink_13 : decode z_w_shrink.2.2.1 13 = .ok (.astore 4, 2) := by decide +kernel
theorem dw_shrink_15 : decode z_w_shrink.2.2.1 15 = .ok (.iconst 1, 1) := by decide +kernel
theorem dw_shrink_16 : decode z_w_shrink.2.2.1 16 = .ok (.ireturn, 1) := by decide +kernel
theorem dw_shrink_17 : decode z_w_shrink.2.2.1 17 = .ok (.astore 4, 2) := by decide +kernel
theorem dw_shrink_19 : decode z_w_shrink.2.2.1 19 = .ok (.iconst 2, 1) := by decide +kernel
theorem dw_shrink_20 : decode z_w_shrink.2.2.1 20 = .ok (.ireturn, 1) := by decide +kernel
theorem dw_shrink_21 : decode z_w_shrink.2.2.1 21 = .ok (.astore 4, 2) := by decide +kernel
theorem dw_shrink_23 : decode z_w_shrink.2.2.1 23 = .ok (.iconst 3, 1) := by decide +kernel
theorem dw_shrink_24 : decode z_w_shrink.2.2.1 24 = .ok (.ireturn, 1) := by decide +kernel
theorem dw_shrink_25 : decode z_w_shrink.2.2.1 25 = .ok (.astore 4, 2) := by decide +kernel
theorem dw_shrink_27 : decode z_w_shrink.2.2.1 27 = .ok (.iconst 4, 1) := by decide +kernel
theorem dw_shrink_28 : decode z_w_shrink.2.2.1 28 = .ok (.ireturn, 1) := by decide +kernel
theorem dw_shrink_29 : decode z_w_shrink.2.2.1 29 = .ok (.iconst 0, 1) := by decide +kernel
theorem dw_shrink_30 : decode z_w_shrink.2.2.1 30 = .ok (.ireturn, 1) := by decide +kernel
def w_shrink : jx_Mt := fun vs h => match vs with
  | [.ref x, .int a1, .int a2, .ref t] => wI (jx_ev tb_Sh_shrink [.ref x, .int a1, .int a2] [] h) [9, 12, 10, 11] t
  | _ => none
set_option maxHeartbeats 4000000 in
theorem me_w_shrink : jx_MeH 4 z_w_shrink hs_w_shrink jx_P w_shrink := by
  refine jx_MeH.of (by decide) (fun vs h o h' hF => ?_) (fun vs h o h' hF p l e R s m args below meth c V u hC hP het hfit hs hu => ?_)
  · unfold w_shrink at hF
    split at hF
    · rename_i x a1 a2 t
      exact ⟨wI_le (fun r hr => (jx_vcH (Z := z_w_shrink) (k := 16) (ve_Sh_shrink (by decide) (by decide)) dc_Sh_shrink (by decide) ll_shrink pd_Sh_shrink dw_shrink_5 _ [] h r hr).1) hF, rfl, rfl⟩
    · cases hF
  · unfold w_shrink at hF
    split at hF
    · rename_i x a1 a2 t
      show jx_G p l e R s m args below meth c V u o h' 0 [.ref x, .int a1, .int a2, .ref t, .double 0] [] h
      refine g_aload_n hC dw_shrink_0 rfl rfl ?_
      refine g_iconst (v := nI 0) hC dw_shrink_1 (by decide) ?_
      refine g_aload_n hC dw_shrink_2 rfl rfl ?_
      refine g_iload_n hC dw_shrink_3 rfl rfl ?_
      refine g_iload_n hC dw_shrink_4 rfl rfl ?_
      rcases wI_sp hF with ⟨v, f, h1, hev, hcell, rfl, rfl⟩ | ⟨y, h1, k, ci, fs, hev, hk, hcell, rfl, rfl⟩
      · refine (jx_vcH (Z := z_w_shrink) (k := 16) (ve_Sh_shrink (by decide) (by decide)) dc_Sh_shrink (by decide) ll_shrink pd_Sh_shrink dw_shrink_5 [.ref x, .int a1, .int a2] [.ref x, .int a1, .int a2, .ref t, .double 0] h _ hev).2 p l e R s m args below meth c V u _ _ hC hfit hs hu (jx_le.rf _) [.int (nI 0), .ref t] (wt_it t) (fun v2 h2 q2 => ?_) (fun y2 h2 q2 => by cases q2)
        cases q2
        exact g_i2l hC dw_shrink_8 (g_last hC hcell (by decide) (by decide) dw_shrink_9 (g_goto (tgt := 29) hC dw_shrink_10 (by decide) (g_iconst (v := nI 0) hC dw_shrink_29 (by decide) (g_ireturn hC rfl dw_shrink_30))))
      · refine (jx_vcH (Z := z_w_shrink) (k := 16) (ve_Sh_shrink (by decide) (by decide)) dc_Sh_shrink (by decide) ll_shrink pd_Sh_shrink dw_shrink_5 [.ref x, .int a1, .int a2] [.ref x, .int a1, .int a2, .ref t, .double 0] h _ hev).2 p l e R s m args below meth c V u _ _ hC hfit hs hu (jx_le.rf _) [.int (nI 0), .ref t] (wt_it t) (fun v2 h2 q2 => by cases q2) (fun y2 h2 q2 => ?_)
        cases q2
        rcases k with _ | _ | _ | _ | k
        · cases hk
          exact ⟨9, fs, R_Ise, F_Ise, 0, 13, [R_Ise], hcell, rfl, by rw [het]; exact hs_here (by decide) (by decide) (by decide +kernel), g_astore hC dw_shrink_13 (by decide) (g_iconst (v := nI 1) hC dw_shrink_15 (by decide) (g_ireturn hC rfl dw_shrink_16))⟩
        · cases hk
          exact ⟨12, fs, R_Nse, F_Nse, 0, 17, [R_Ise, R_Nse], hcell, rfl, by rw [het]; exact hs_next (by decide) (by decide) (by decide +kernel) (hP _ (by decide) _ (by decide) (by decide)) (hs_here (by decide) (by decide) (by decide +kernel)), g_astore hC dw_shrink_17 (by decide) (g_iconst (v := nI 2) hC dw_shrink_19 (by decide) (g_ireturn hC rfl dw_shrink_20))⟩
        · cases hk
          exact ⟨10, fs, R_Iae, F_Iae, 0, 21, [R_Ise, R_Nse, R_Iae], hcell, rfl, by rw [het]; exact hs_next (by decide) (by decide) (by decide +kernel) (hP _ (by decide) _ (by decide) (by decide)) (hs_next (by decide) (by decide) (by decide +kernel) (hP _ (by decide) _ (by decide) (by decide)) (hs_here (by decide) (by decide) (by decide +kernel))), g_astore hC dw_shrink_21 (by decide) (g_iconst (v := nI 3) hC dw_shrink_23 (by decide) (g_ireturn hC rfl dw_shrink_24))⟩
        · cases hk
          exact ⟨11, fs, R_Uoe, F_Uoe, 0, 25, [R_Ise, R_Nse, R_Iae, R_Uoe], hcell, rfl, by rw [het]; exact hs_next (by decide) (by decide) (by decide +kernel) (hP _ (by decide) _ (by decide) (by decide)) (hs_next (by decide) (by decide) (by decide +kernel) (hP _ (by decide) _ (by decide) (by decide)) (hs_next (by decide) (by decide) (by decide +kernel) (hP _ (by decide) _ (by decide) (by decide)) (hs_here (by decide) (by decide) (by decide +kernel)))), g_astore hC dw_shrink_25 (by decide) (g_iconst (v := nI 4) hC dw_shrink_27 (by decide) (g_ireturn hC rfl dw_shrink_28))⟩
        · cases hk
    · cases hF
abbrev tb_Sh_delete : List (Nat × jx_Mt) := [(0, f_Sh_delete)]
theorem ve_Sh_delete {fr lo : Nat} (h1 : 9 ≤ fr) (h2 : 197 ≤ lo) : ∀ q ∈ tb_Sh_delete, jx_ve ⟨"ExtentShelf", "delete", "(I)V"⟩ 1 fr lo q.1 q.2 := tv_1 ⟨R_Shelf, F_Shelf, 5, ⟨"ExtentShelf", "delete", "(I)V"⟩, z_Sh_delete, rfl, by decide +kernel, mw_Sh_delete, by decide +kernel, me_Sh_delete, Nat.le_trans (by decide) h1, Nat.le_trans (by decide) h2⟩
theorem dc_Sh_delete : jx_dc ⟨"ExtentShelf", "delete", "(I)V"⟩ := ⟨⟨by decide, by decide⟩, Or.inr ⟨by decide +kernel, prog_1_method_26_code, 4, _, (by decide +kernel : Cond.code ⟨"ExtentShelf", "delete", "(I)V"⟩ prog_1_method_26_code 4 none ∈ jx_tbl)⟩, "ExtentShelf", ⟨"ExtentShelf", "delete", "(I)V"⟩, ⟨"ExtentShelf", "delete", "(I)V"⟩, by decide +kernel, rfl⟩
theorem ll_delete : jx_lm "ExtentShelfLaw" 40 ⟨"ExtentShelf", "delete", "(I)V"⟩ := Or.inl (by decide +kernel)
abbrev z_w_delete : jx_Z := ("ExtentShelfLaw", "delete", method_9_code, 3, some .int, 9, 197)
abbrev hs_w_delete : List (Nat × Nat × Nat × Nat) := [(0, 5, 8, 13), (0, 5, 11, 35), (0, 5, 14, 17)]
theorem mw_w_delete : jx_mwH ⟨"ExtentShelfLaw", "delete", "(LExtentShelf;I)I"⟩ z_w_delete hs_w_delete := ⟨rfl, rfl, by decide +kernel, ⟨by decide, by decide⟩, by decide +kernel⟩
theorem dw_delete_0 : decode z_w_delete.2.2.1 0 = .ok (.aload_n 0, 1) := by decide +kernel
theorem dw_delete_1 : decode z_w_delete.2.2.1 1 = .ok (.iload_n 1, 1) := by decide +kernel
theorem dw_delete_2 : decode z_w_delete.2.2.1 2 = .ok (.invokevirtual 40, 3) := by decide +kernel
theorem dw_delete_5 : decode z_w_delete.2.2.1 5 = .ok (.goto 12, 3) := by decide +kernel
theorem dw_delete_8 : decode z_w_delete.2.2.1 8 = .ok (.astore_n 2, 1) := by decide +kernel
theorem dw_delete_9 : decode z_w_delete.2.2.1 9 = .ok (.iconst 1, 1) := by decide +kernel
theorem dw_delete_10 : decode z_w_delete.2.2.1 10 = .ok (.ireturn, 1) := by decide +kernel
theorem dw_delete_11 : decode z_w_delete.2.2.1 11 = .ok (.astore_n 2, 1) := by decide +kernel
theorem dw_delete_12 : decode z_w_delete.2.2.1 12 = .ok (.iconst 2, 1) := by decide +kernel
theorem dw_delete_13 : decode z_w_delete.2.2.1 13 = .ok (.ireturn, 1) := by decide +kernel
theorem dw_delete_14 : decode z_w_delete.2.2.1 14 = .ok (.astore_n 2, 1) := by decide +kernel
theorem dw_delete_15 : decode z_w_delete.2.2.1 15 = .ok (.iconst 3, 1) := by decide +kernel
theorem dw_delete_16 : decode z_w_delete.2.2.1 16 = .ok (.ireturn, 1) := by decide +kernel
theorem dw_delete_17 : decode z_w_delete.2.2.1 17 = .ok (.iconst 0, 1) := by decide +kernel
theorem dw_delete_18 : decode z_w_delete.2.2.1 18 = .ok (.ireturn, 1) := by decide +kernel
def w_delete : jx_Mt := fun vs h => match vs with
  | [.ref x, .int a1] => wV (jx_ev tb_Sh_delete [.ref x, .int a1] [] h) [9, 12, 11]
  | _ => none
set_option maxHeartbeats 4000000 in
theorem me_w_delete : jx_MeH 2 z_w_delete hs_w_delete jx_P w_delete := by
  refine jx_MeH.of (by decide) (fun vs h o h' hF => ?_) (fun vs h o h' hF p l e R s m args below meth c V u hC hP het hfit hs hu => ?_)
  · unfold w_delete at hF
    split at hF
    · rename_i x a1
      exact ⟨wV_le (fun r hr => (jx_vcH (Z := z_w_delete) (k := 16) (ve_Sh_delete (by decide) (by decide)) dc_Sh_delete (by decide) ll_delete pd_Sh_delete dw_delete_2 _ [] h r hr).1) hF, rfl, rfl⟩
    · cases hF
  · unfold w_delete at hF
    split at hF
    · rename_i x a1
      show jx_G p l e R s m args below meth c V u o h' 0 [.ref x, .int a1, .double 0] [] h
      refine g_aload_n hC dw_delete_0 rfl rfl ?_
      refine g_iload_n hC dw_delete_1 rfl rfl ?_
      rcases wV_sp hF with ⟨h1, hev, rfl, rfl⟩ | ⟨y, h1, k, ci, fs, hev, hk, hcell, rfl, rfl⟩
      · refine (jx_vcH (Z := z_w_delete) (k := 16) (ve_Sh_delete (by decide) (by decide)) dc_Sh_delete (by decide) ll_delete pd_Sh_delete dw_delete_2 [.ref x, .int a1] [.ref x, .int a1, .double 0] h _ hev).2 p l e R s m args below meth c V u _ _ hC hfit hs hu (jx_le.rf _) [] (by decide) (fun v2 h2 q2 => ?_) (fun y2 h2 q2 => by cases q2)
        cases q2
        exact g_goto (tgt := 17) hC dw_delete_5 (by decide) (g_iconst (v := nI 0) hC dw_delete_17 (by decide) (g_ireturn hC rfl dw_delete_18))
      · refine (jx_vcH (Z := z_w_delete) (k := 16) (ve_Sh_delete (by decide) (by decide)) dc_Sh_delete (by decide) ll_delete pd_Sh_delete dw_delete_2 [.ref x, .int a1] [.ref x, .int a1, .double 0] h _ hev).2 p l e R s m args below meth c V u _ _ hC hfit hs hu (jx_le.rf _) [] (by decide) (fun v2 h2 q2 => by cases q2) (fun y2 h2 q2 => ?_)
        cases q2
        rcases k with _ | _ | _ | k
        · cases hk
          exact ⟨9, fs, R_Ise, F_Ise, 0, 8, [R_Ise], hcell, rfl, by rw [het]; exact hs_here (by decide) (by decide) (by decide +kernel), g_astore_n hC dw_delete_8 rfl (by decide) (g_iconst (v := nI 1) hC dw_delete_9 (by decide) (g_ireturn hC rfl dw_delete_10))⟩
        · cases hk
          exact ⟨12, fs, R_Nse, F_Nse, 0, 11, [R_Ise, R_Nse], hcell, rfl, by rw [het]; exact hs_next (by decide) (by decide) (by decide +kernel) (hP _ (by decide) _ (by decide) (by decide)) (hs_here (by decide) (by decide) (by decide +kernel)), g_astore_n hC dw_delete_11 rfl (by decide) (g_iconst (v := nI 2) hC dw_delete_12 (by decide) (g_ireturn hC rfl dw_delete_13))⟩
        · cases hk
          exact ⟨11, fs, R_Uoe, F_Uoe, 0, 14, [R_Ise, R_Nse, R_Uoe], hcell, rfl, by rw [het]; exact hs_next (by decide) (by decide) (by decide +kernel) (hP _ (by decide) _ (by decide) (by decide)) (hs_next (by decide) (by decide) (by decide +kernel) (hP _ (by decide) _ (by decide) (by decide)) (hs_here (by decide) (by decide) (by decide +kernel))), g_astore_n hC dw_delete_14 rfl (by decide) (g_iconst (v := nI 3) hC dw_delete_15 (by decide) (g_ireturn hC rfl dw_delete_16))⟩
        · cases hk
    · cases hF
abbrev tb_Sh_mend : List (Nat × jx_Mt) := [(0, f_Sh_mend)]
theorem ve_Sh_mend {fr lo : Nat} (h1 : 9 ≤ fr) (h2 : 201 ≤ lo) : ∀ q ∈ tb_Sh_mend, jx_ve ⟨"ExtentShelf", "mend", "(I)I"⟩ 1 fr lo q.1 q.2 := tv_1 ⟨R_Shelf, F_Shelf, 5, ⟨"ExtentShelf", "mend", "(I)I"⟩, z_Sh_mend, rfl, by decide +kernel, mw_Sh_mend, by decide +kernel, me_Sh_mend, Nat.le_trans (by decide) h1, Nat.le_trans (by decide) h2⟩
theorem dc_Sh_mend : jx_dc ⟨"ExtentShelf", "mend", "(I)I"⟩ := ⟨⟨by decide, by decide⟩, Or.inr ⟨by decide +kernel, prog_1_method_27_code, 8, _, (by decide +kernel : Cond.code ⟨"ExtentShelf", "mend", "(I)I"⟩ prog_1_method_27_code 8 (some .int) ∈ jx_tbl)⟩, "ExtentShelf", ⟨"ExtentShelf", "mend", "(I)I"⟩, ⟨"ExtentShelf", "mend", "(I)I"⟩, by decide +kernel, rfl⟩
theorem ll_mend : jx_lm "ExtentShelfLaw" 43 ⟨"ExtentShelf", "mend", "(I)I"⟩ := Or.inl (by decide +kernel)
abbrev z_w_mend : jx_Z := ("ExtentShelfLaw", "mend", method_10_code, 4, some .int, 9, 201)
abbrev hs_w_mend : List (Nat × Nat × Nat × Nat) := [(0, 9, 12, 13), (0, 9, 15, 35), (0, 9, 18, 15), (0, 9, 21, 17)]
theorem mw_w_mend : jx_mwH ⟨"ExtentShelfLaw", "mend", "(LExtentShelf;I[J)I"⟩ z_w_mend hs_w_mend := ⟨rfl, rfl, by decide +kernel, ⟨by decide, by decide⟩, by decide +kernel⟩
theorem dw_mend_0 : decode z_w_mend.2.2.1 0 = .ok (.aload_n 2, 1) := by decide +kernel
theorem dw_mend_1 : decode z_w_mend.2.2.1 1 = .ok (.iconst 0, 1) := by decide +kernel
theorem dw_mend_2 : decode z_w_mend.2.2.1 2 = .ok (.aload_n 0, 1) := by decide +kernel
theorem dw_mend_3 : decode z_w_mend.2.2.1 3 = .ok (.iload_n 1, 1) := by decide +kernel
theorem dw_mend_4 : decode z_w_mend.2.2.1 4 = .ok (.invokevirtual 43, 3) := by decide +kernel
theorem dw_mend_7 : decode z_w_mend.2.2.1 7 = .ok (.i2l, 1) := by decide +kernel
theorem dw_mend_8 : decode z_w_mend.2.2.1 8 = .ok (.lastore, 1) := by decide +kernel
theorem dw_mend_9 : decode z_w_mend.2.2.1 9 = .ok (.goto 15, 3) := by decide +kernel
theorem dw_mend_12 : decode z_w_mend.2.2.1 12 = .ok (.astore_n 3, 1) := by decide +kernel
theorem dw_mend_13 : decode z_w_mend.2.2.1 13 = .ok (.iconst 1, 1) := by decide +kernel
theorem dw_mend_14 : decode z_w_mend.2.2.1 14 = .ok (.ireturn, 1) := by decide +kernel
theorem dw_mend_15 : decode z_w_mend.2.2.1 15 = .ok (.astore_n 3, 1) := by decide +kernel
theorem dw_mend_16 : decode z_w_mend.2.2.1 16 = .ok (.iconst 2, 1) := by decide +kernel
theorem dw_mend_17 : decode z_w_mend.2.2.1 17 = .ok (.ireturn, 1) := by decide +kernel
theorem dw_mend_18 : decode z_w_mend.2.2.1 18 = .ok (.astore_n 3, 1) := by decide +kernel
theorem dw_mend_19 : decode z_w_mend.2.2.1 19 = .ok (.iconst 3, 1) := by decide +kernel
theorem dw_mend_20 : decode z_w_mend.2.2.1 20 = .ok (.ireturn, 1) := by decide +kernel
theorem dw_mend_21 : decode z_w_mend.2.2.1 21 = .ok (.astore_n 3, 1) := by decide +kernel
theorem dw_mend_22 : decode z_w_mend.2.2.1 22 = .ok (.iconst 4, 1) := by decide +kernel
theorem dw_mend_23 : decode z_w_mend.2.2.1 23 = .ok (.ireturn, 1) := by decide +kernel
theorem dw_mend_24 : decode z_w_mend.2.2.1 24 = .ok (.iconst 0, 1) := by decide +kernel
theorem dw_mend_25 : decode z_w_mend.2.2.1 25 = .ok (.ireturn, 1) := by decide +kernel
def w_mend : jx_Mt := fun vs h => match vs with
  | [.ref x, .int a1, .ref t] => wI (jx_ev tb_Sh_mend [.ref x, .int a1] [] h) [9, 12, 10, 11] t
  | _ => none
set_option maxHeartbeats 4000000 in
theorem me_w_mend : jx_MeH 3 z_w_mend hs_w_mend jx_P w_mend := by
  refine jx_MeH.of (by decide) (fun vs h o h' hF => ?_) (fun vs h o h' hF p l e R s m args below meth c V u hC hP het hfit hs hu => ?_)
  · unfold w_mend at hF
    split at hF
    · rename_i x a1 t
      exact ⟨wI_le (fun r hr => (jx_vcH (Z := z_w_mend) (k := 16) (ve_Sh_mend (by decide) (by decide)) dc_Sh_mend (by decide) ll_mend pd_Sh_mend dw_mend_4 _ [] h r hr).1) hF, rfl, rfl⟩
    · cases hF
  · unfold w_mend at hF
    split at hF
    · rename_i x a1 t
      show jx_G p l e R s m args below meth c V u o h' 0 [.ref x, .int a1, .ref t, .double 0] [] h
      refine g_aload_n hC dw_mend_0 rfl rfl ?_
      refine g_iconst (v := nI 0) hC dw_mend_1 (by decide) ?_
      refine g_aload_n hC dw_mend_2 rfl rfl ?_
      refine g_iload_n hC dw_mend_3 rfl rfl ?_
      rcases wI_sp hF with ⟨v, f, h1, hev, hcell, rfl, rfl⟩ | ⟨y, h1, k, ci, fs, hev, hk, hcell, rfl, rfl⟩
      · refine (jx_vcH (Z := z_w_mend) (k := 16) (ve_Sh_mend (by decide) (by decide)) dc_Sh_mend (by decide) ll_mend pd_Sh_mend dw_mend_4 [.ref x, .int a1] [.ref x, .int a1, .ref t, .double 0] h _ hev).2 p l e R s m args below meth c V u _ _ hC hfit hs hu (jx_le.rf _) [.int (nI 0), .ref t] (wt_it t) (fun v2 h2 q2 => ?_) (fun y2 h2 q2 => by cases q2)
        cases q2
        exact g_i2l hC dw_mend_7 (g_last hC hcell (by decide) (by decide) dw_mend_8 (g_goto (tgt := 24) hC dw_mend_9 (by decide) (g_iconst (v := nI 0) hC dw_mend_24 (by decide) (g_ireturn hC rfl dw_mend_25))))
      · refine (jx_vcH (Z := z_w_mend) (k := 16) (ve_Sh_mend (by decide) (by decide)) dc_Sh_mend (by decide) ll_mend pd_Sh_mend dw_mend_4 [.ref x, .int a1] [.ref x, .int a1, .ref t, .double 0] h _ hev).2 p l e R s m args below meth c V u _ _ hC hfit hs hu (jx_le.rf _) [.int (nI 0), .ref t] (wt_it t) (fun v2 h2 q2 => by cases q2) (fun y2 h2 q2 => ?_)
        cases q2
        rcases k with _ | _ | _ | _ | k
        · cases hk
          exact ⟨9, fs, R_Ise, F_Ise, 0, 12, [R_Ise], hcell, rfl, by rw [het]; exact hs_here (by decide) (by decide) (by decide +kernel), g_astore_n hC dw_mend_12 rfl (by decide) (g_iconst (v := nI 1) hC dw_mend_13 (by decide) (g_ireturn hC rfl dw_mend_14))⟩
        · cases hk
          exact ⟨12, fs, R_Nse, F_Nse, 0, 15, [R_Ise, R_Nse], hcell, rfl, by rw [het]; exact hs_next (by decide) (by decide) (by decide +kernel) (hP _ (by decide) _ (by decide) (by decide)) (hs_here (by decide) (by decide) (by decide +kernel)), g_astore_n hC dw_mend_15 rfl (by decide) (g_iconst (v := nI 2) hC dw_mend_16 (by decide) (g_ireturn hC rfl dw_mend_17))⟩
        · cases hk
          exact ⟨10, fs, R_Iae, F_Iae, 0, 18, [R_Ise, R_Nse, R_Iae], hcell, rfl, by rw [het]; exact hs_next (by decide) (by decide) (by decide +kernel) (hP _ (by decide) _ (by decide) (by decide)) (hs_next (by decide) (by decide) (by decide +kernel) (hP _ (by decide) _ (by decide) (by decide)) (hs_here (by decide) (by decide) (by decide +kernel))), g_astore_n hC dw_mend_18 rfl (by decide) (g_iconst (v := nI 3) hC dw_mend_19 (by decide) (g_ireturn hC rfl dw_mend_20))⟩
        · cases hk
          exact ⟨11, fs, R_Uoe, F_Uoe, 0, 21, [R_Ise, R_Nse, R_Iae, R_Uoe], hcell, rfl, by rw [het]; exact hs_next (by decide) (by decide) (by decide +kernel) (hP _ (by decide) _ (by decide) (by decide)) (hs_next (by decide) (by decide) (by decide +kernel) (hP _ (by decide) _ (by decide) (by decide)) (hs_next (by decide) (by decide) (by decide +kernel) (hP _ (by decide) _ (by decide) (by decide)) (hs_here (by decide) (by decide) (by decide +kernel)))), g_astore_n hC dw_mend_21 rfl (by decide) (g_iconst (v := nI 4) hC dw_mend_22 (by decide) (g_ireturn hC rfl dw_mend_23))⟩
        · cases hk
    · cases hF
abbrev tb_Sh_write : List (Nat × jx_Mt) := [(0, f_Sh_write)]
theorem ve_Sh_write {fr lo : Nat} (h1 : 9 ≤ fr) (h2 : 204 ≤ lo) : ∀ q ∈ tb_Sh_write, jx_ve ⟨"ExtentShelf", "write", "(III)I"⟩ 3 fr lo q.1 q.2 := tv_1 ⟨R_Shelf, F_Shelf, 5, ⟨"ExtentShelf", "write", "(III)I"⟩, z_Sh_write, rfl, by decide +kernel, mw_Sh_write, by decide +kernel, me_Sh_write, Nat.le_trans (by decide) h1, Nat.le_trans (by decide) h2⟩
theorem dc_Sh_write : jx_dc ⟨"ExtentShelf", "write", "(III)I"⟩ := ⟨⟨by decide, by decide⟩, Or.inr ⟨by decide +kernel, prog_1_method_29_code, 11, _, (by decide +kernel : Cond.code ⟨"ExtentShelf", "write", "(III)I"⟩ prog_1_method_29_code 11 (some .int) ∈ jx_tbl)⟩, "ExtentShelf", ⟨"ExtentShelf", "write", "(III)I"⟩, ⟨"ExtentShelf", "write", "(III)I"⟩, by decide +kernel, rfl⟩
theorem ll_write : jx_lm "ExtentShelfLaw" 46 ⟨"ExtentShelf", "write", "(III)I"⟩ := Or.inl (by decide +kernel)
abbrev z_w_write : jx_Z := ("ExtentShelfLaw", "write", method_11_code, 6, some .int, 9, 204)
abbrev hs_w_write : List (Nat × Nat × Nat × Nat) := [(0, 12, 15, 13), (0, 12, 19, 35), (0, 12, 23, 49), (0, 12, 27, 17)]
theorem mw_w_write : jx_mwH ⟨"ExtentShelfLaw", "write", "(LExtentShelf;III[J)I"⟩ z_w_write hs_w_write := ⟨rfl, rfl, by decide +kernel, ⟨by decide, by decide⟩, by decide +kernel⟩
theorem dw_write_0 : decode z_w_write.2.2.1 0 = .ok (.aload 4, 2) := by decide +kernel
theorem dw_write_2 : decode z_w_write.2.2.1 2 = .ok (.iconst 0, 1) := by decide +kernel
theorem dw_write_3 : decode z_w_write.2.2.1 3 = .ok (.aload_n 0, 1) := by decide +kernel
theorem dw_write_4 : decode z_w_write.2.2.1 4 = .ok (.iload_n 1, 1) := by decide +kernel
theorem dw_write_5 : decode z_w_write.2.2.1 5 = .ok (.iload_n 2, 1) := by decide +kernel
theorem dw_write_6 : decode z_w_write.2.2.1 6 = .ok (.iload_n 3, 1) := by decide +kernel
theorem dw_write_7 : decode z_w_write.2.2.1 7 = .ok (.invokevirtual 46, 3) := by decide +kernel
theorem dw_write_10 : decode z_w_write.2.2.1 10 = .ok (.i2l, 1) := by decide +kernel
theorem dw_write_11 : decode z_w_write.2.2.1 11 = .ok (.lastore, 1) := by decide +kernel
theorem dw_write_12 : decode z_w_write.2.2.1 12 = .ok (.goto 19, 3) := by decide +kernel
theorem dw_write_15 : decode z_w_write.2.2.1 15 = .ok (.astore 5, 2) := by decide +kernel
theorem dw_write_17 : decode z_w_write.2.2.1 17 = .ok (.iconst 1, 1) := by decide +kernel
theorem dw_write_18 : decode z_w_write.2.2.1 18 = .ok (.ireturn, 1) := by decide +kernel
theorem dw_write_19 : decode z_w_write.2.2.1 19 = .ok (.astore 5, 2) := by decide +kernel
theorem dw_write_21 : decode z_w_write.2.2.1 21 = .ok (.iconst 2, 1) := by decide +kernel
theorem dw_write_22 : decode z_w_write.2.2.1 22 = .ok (.ireturn, 1) := by decide +kernel
theorem dw_write_23 : decode z_w_write.2.2.1 23 = .ok (.astore 5, 2) := by decide +kernel
theorem dw_write_25 : decode z_w_write.2.2.1 25 = .ok (.iconst 3, 1) := by decide +kernel
theorem dw_write_26 : decode z_w_write.2.2.1 26 = .ok (.ireturn, 1) := by decide +kernel
theorem dw_write_27 : decode z_w_write.2.2.1 27 = .ok (.astore 5, 2) := by decide +kernel
theorem dw_write_29 : decode z_w_write.2.2.1 29 = .ok (.iconst 4, 1) := by decide +kernel
theorem dw_write_30 : decode z_w_write.2.2.1 30 = .ok (.ireturn, 1) := by decide +kernel
theorem dw_write_31 : decode z_w_write.2.2.1 31 = .ok (.iconst 0, 1) := by decide +kernel
theorem dw_write_32 : decode z_w_write.2.2.1 32 = .ok (.ireturn, 1) := by decide +kernel
def w_write : jx_Mt := fun vs h => match vs with
  | [.ref x, .int a1, .int a2, .int a3, .ref t] => wI (jx_ev tb_Sh_write [.ref x, .int a1, .int a2, .int a3] [] h) [9, 12, 13, 11] t
  | _ => none
set_option maxHeartbeats 4000000 in
theorem me_w_write : jx_MeH 5 z_w_write hs_w_write jx_P w_write := by
  refine jx_MeH.of (by decide) (fun vs h o h' hF => ?_) (fun vs h o h' hF p l e R s m args below meth c V u hC hP het hfit hs hu => ?_)
  · unfold w_write at hF
    split at hF
    · rename_i x a1 a2 a3 t
      exact ⟨wI_le (fun r hr => (jx_vcH (Z := z_w_write) (k := 16) (ve_Sh_write (by decide) (by decide)) dc_Sh_write (by decide) ll_write pd_Sh_write dw_write_7 _ [] h r hr).1) hF, rfl, rfl⟩
    · cases hF
  · unfold w_write at hF
    split at hF
    · rename_i x a1 a2 a3 t
      show jx_G p l e R s m args below meth c V u o h' 0 [.ref x, .int a1, .int a2, .int a3, .ref t, .double 0] [] h
      refine g_aload hC dw_write_0 rfl ?_
      refine g_iconst (v := nI 0) hC dw_write_2 (by decide) ?_
      refine g_aload_n hC dw_write_3 rfl rfl ?_
      refine g_iload_n hC dw_write_4 rfl rfl ?_
      refine g_iload_n hC dw_write_5 rfl rfl ?_
      refine g_iload_n hC dw_write_6 rfl rfl ?_
      rcases wI_sp hF with ⟨v, f, h1, hev, hcell, rfl, rfl⟩ | ⟨y, h1, k, ci, fs, hev, hk, hcell, rfl, rfl⟩
      · refine (jx_vcH (Z := z_w_write) (k := 16) (ve_Sh_write (by decide) (by decide)) dc_Sh_write (by decide) ll_write pd_Sh_write dw_write_7 [.ref x, .int a1, .int a2, .int a3] [.ref x, .int a1, .int a2, .int a3, .ref t, .double 0] h _ hev).2 p l e R s m args below meth c V u _ _ hC hfit hs hu (jx_le.rf _) [.int (nI 0), .ref t] (wt_it t) (fun v2 h2 q2 => ?_) (fun y2 h2 q2 => by cases q2)
        cases q2
        exact g_i2l hC dw_write_10 (g_last hC hcell (by decide) (by decide) dw_write_11 (g_goto (tgt := 31) hC dw_write_12 (by decide) (g_iconst (v := nI 0) hC dw_write_31 (by decide) (g_ireturn hC rfl dw_write_32))))
      · refine (jx_vcH (Z := z_w_write) (k := 16) (ve_Sh_write (by decide) (by decide)) dc_Sh_write (by decide) ll_write pd_Sh_write dw_write_7 [.ref x, .int a1, .int a2, .int a3] [.ref x, .int a1, .int a2, .int a3, .ref t, .double 0] h _ hev).2 p l e R s m args below meth c V u _ _ hC hfit hs hu (jx_le.rf _) [.int (nI 0), .ref t] (wt_it t) (fun v2 h2 q2 => by cases q2) (fun y2 h2 q2 => ?_)
        cases q2
        rcases k with _ | _ | _ | _ | k
        · cases hk
          exact ⟨9, fs, R_Ise, F_Ise, 0, 15, [R_Ise], hcell, rfl, by rw [het]; exact hs_here (by decide) (by decide) (by decide +kernel), g_astore hC dw_write_15 (by decide) (g_iconst (v := nI 1) hC dw_write_17 (by decide) (g_ireturn hC rfl dw_write_18))⟩
        · cases hk
          exact ⟨12, fs, R_Nse, F_Nse, 0, 19, [R_Ise, R_Nse], hcell, rfl, by rw [het]; exact hs_next (by decide) (by decide) (by decide +kernel) (hP _ (by decide) _ (by decide) (by decide)) (hs_here (by decide) (by decide) (by decide +kernel)), g_astore hC dw_write_19 (by decide) (g_iconst (v := nI 2) hC dw_write_21 (by decide) (g_ireturn hC rfl dw_write_22))⟩
        · cases hk
          exact ⟨13, fs, R_Ioe, F_Ioe, 0, 23, [R_Ise, R_Nse, R_Ioe], hcell, rfl, by rw [het]; exact hs_next (by decide) (by decide) (by decide +kernel) (hP _ (by decide) _ (by decide) (by decide)) (hs_next (by decide) (by decide) (by decide +kernel) (hP _ (by decide) _ (by decide) (by decide)) (hs_here (by decide) (by decide) (by decide +kernel))), g_astore hC dw_write_23 (by decide) (g_iconst (v := nI 3) hC dw_write_25 (by decide) (g_ireturn hC rfl dw_write_26))⟩
        · cases hk
          exact ⟨11, fs, R_Uoe, F_Uoe, 0, 27, [R_Ise, R_Nse, R_Ioe, R_Uoe], hcell, rfl, by rw [het]; exact hs_next (by decide) (by decide) (by decide +kernel) (hP _ (by decide) _ (by decide) (by decide)) (hs_next (by decide) (by decide) (by decide +kernel) (hP _ (by decide) _ (by decide) (by decide)) (hs_next (by decide) (by decide) (by decide +kernel) (hP _ (by decide) _ (by decide) (by decide)) (hs_here (by decide) (by decide) (by decide +kernel)))), g_astore hC dw_write_27 (by decide) (g_iconst (v := nI 4) hC dw_write_29 (by decide) (g_ireturn hC rfl dw_write_30))⟩
        · cases hk
    · cases hF
abbrev tb_Sh_read : List (Nat × jx_Mt) := [(0, f_Sh_read)]
theorem ve_Sh_read {fr lo : Nat} (h1 : 8 ≤ fr) (h2 : 162 ≤ lo) : ∀ q ∈ tb_Sh_read, jx_ve ⟨"ExtentShelf", "read", "(II)I"⟩ 2 fr lo q.1 q.2 := tv_1 ⟨R_Shelf, F_Shelf, 5, ⟨"ExtentShelf", "read", "(II)I"⟩, z_Sh_read, rfl, by decide +kernel, mw_Sh_read, by decide +kernel, me_Sh_read, Nat.le_trans (by decide) h1, Nat.le_trans (by decide) h2⟩
theorem dc_Sh_read : jx_dc ⟨"ExtentShelf", "read", "(II)I"⟩ := ⟨⟨by decide, by decide⟩, Or.inr ⟨by decide +kernel, prog_1_method_30_code, 6, _, (by decide +kernel : Cond.code ⟨"ExtentShelf", "read", "(II)I"⟩ prog_1_method_30_code 6 (some .int) ∈ jx_tbl)⟩, "ExtentShelf", ⟨"ExtentShelf", "read", "(II)I"⟩, ⟨"ExtentShelf", "read", "(II)I"⟩, by decide +kernel, rfl⟩
theorem ll_read : jx_lm "ExtentShelfLaw" 51 ⟨"ExtentShelf", "read", "(II)I"⟩ := Or.inl (by decide +kernel)
abbrev z_w_read : jx_Z := ("ExtentShelfLaw", "read", method_12_code, 5, some .int, 8, 162)
abbrev hs_w_read : List (Nat × Nat × Nat × Nat) := [(0, 10, 13, 13), (0, 10, 17, 35), (0, 10, 21, 49), (0, 10, 25, 17)]
theorem mw_w_read : jx_mwH ⟨"ExtentShelfLaw", "read", "(LExtentShelf;II[J)I"⟩ z_w_read hs_w_read := ⟨rfl, rfl, by decide +kernel, ⟨by decide, by decide⟩, by decide +kernel⟩
theorem dw_read_0 : decode z_w_read.2.2.1 0 = .ok (.aload_n 3, 1) := by decide +kernel
theorem dw_read_1 : decode z_w_read.2.2.1 1 = .ok (.iconst 0, 1) := by decide +kernel
theorem dw_read_2 : decode z_w_read.2.2.1 2 = .ok (.aload_n 0, 1) := by decide +kernel
theorem dw_read_3 : decode z_w_read.2.2.1 3 = .ok (.iload_n 1, 1) := by decide +kernel
theorem dw_read_4 : decode z_w_read.2.2.1 4 = .ok (.iload_n 2, 1) := by decide +kernel
theorem dw_read_5 : decode z_w_read.2.2.1 5 = .ok (.invokevirtual 51, 3) := by decide +kernel
theorem dw_read_8 : decode z_w_read.2.2.1 8 = .ok (.i2l, 1) := by decide +kernel
theorem dw_read_9 : decode z_w_read.2.2.1 9 = .ok (.lastore, 1) := by decide +kernel
theorem dw_read_10 : decode z_w_read.2.2.1 10 = .ok (.goto 19, 3) := by decide +kernel
theorem dw_read_13 : decode z_w_read.2.2.1 13 = .ok (.astore 4, 2) := by decide +kernel
theorem dw_read_15 : decode z_w_read.2.2.1 15 = .ok (.iconst 1, 1) := by decide +kernel
theorem dw_read_16 : decode z_w_read.2.2.1 16 = .ok (.ireturn, 1) := by decide +kernel
theorem dw_read_17 : decode z_w_read.2.2.1 17 = .ok (.astore 4, 2) := by decide +kernel
theorem dw_read_19 : decode z_w_read.2.2.1 19 = .ok (.iconst 2, 1) := by decide +kernel
theorem dw_read_20 : decode z_w_read.2.2.1 20 = .ok (.ireturn, 1) := by decide +kernel
theorem dw_read_21 : decode z_w_read.2.2.1 21 = .ok (.astore 4, 2) := by decide +kernel
theorem dw_read_23 : decode z_w_read.2.2.1 23 = .ok (.iconst 3, 1) := by decide +kernel
theorem dw_read_24 : decode z_w_read.2.2.1 24 = .ok (.ireturn, 1) := by decide +kernel
theorem dw_read_25 : decode z_w_read.2.2.1 25 = .ok (.astore 4, 2) := by decide +kernel
theorem dw_read_27 : decode z_w_read.2.2.1 27 = .ok (.iconst 4, 1) := by decide +kernel
theorem dw_read_28 : decode z_w_read.2.2.1 28 = .ok (.ireturn, 1) := by decide +kernel
theorem dw_read_29 : decode z_w_read.2.2.1 29 = .ok (.iconst 0, 1) := by decide +kernel
theorem dw_read_30 : decode z_w_read.2.2.1 30 = .ok (.ireturn, 1) := by decide +kernel
def w_read : jx_Mt := fun vs h => match vs with
  | [.ref x, .int a1, .int a2, .ref t] => wI (jx_ev tb_Sh_read [.ref x, .int a1, .int a2] [] h) [9, 12, 13, 11] t
  | _ => none
set_option maxHeartbeats 4000000 in
theorem me_w_read : jx_MeH 4 z_w_read hs_w_read jx_P w_read := by
  refine jx_MeH.of (by decide) (fun vs h o h' hF => ?_) (fun vs h o h' hF p l e R s m args below meth c V u hC hP het hfit hs hu => ?_)
  · unfold w_read at hF
    split at hF
    · rename_i x a1 a2 t
      exact ⟨wI_le (fun r hr => (jx_vcH (Z := z_w_read) (k := 16) (ve_Sh_read (by decide) (by decide)) dc_Sh_read (by decide) ll_read pd_Sh_read dw_read_5 _ [] h r hr).1) hF, rfl, rfl⟩
    · cases hF
  · unfold w_read at hF
    split at hF
    · rename_i x a1 a2 t
      show jx_G p l e R s m args below meth c V u o h' 0 [.ref x, .int a1, .int a2, .ref t, .double 0] [] h
      refine g_aload_n hC dw_read_0 rfl rfl ?_
      refine g_iconst (v := nI 0) hC dw_read_1 (by decide) ?_
      refine g_aload_n hC dw_read_2 rfl rfl ?_
      refine g_iload_n hC dw_read_3 rfl rfl ?_
      refine g_iload_n hC dw_read_4 rfl rfl ?_
      rcases wI_sp hF with ⟨v, f, h1, hev, hcell, rfl, rfl⟩ | ⟨y, h1, k, ci, fs, hev, hk, hcell, rfl, rfl⟩
      · refine (jx_vcH (Z := z_w_read) (k := 16) (ve_Sh_read (by decide) (by decide)) dc_Sh_read (by decide) ll_read pd_Sh_read dw_read_5 [.ref x, .int a1, .int a2] [.ref x, .int a1, .int a2, .ref t, .double 0] h _ hev).2 p l e R s m args below meth c V u _ _ hC hfit hs hu (jx_le.rf _) [.int (nI 0), .ref t] (wt_it t) (fun v2 h2 q2 => ?_) (fun y2 h2 q2 => by cases q2)
        cases q2
        exact g_i2l hC dw_read_8 (g_last hC hcell (by decide) (by decide) dw_read_9 (g_goto (tgt := 29) hC dw_read_10 (by decide) (g_iconst (v := nI 0) hC dw_read_29 (by decide) (g_ireturn hC rfl dw_read_30))))
      · refine (jx_vcH (Z := z_w_read) (k := 16) (ve_Sh_read (by decide) (by decide)) dc_Sh_read (by decide) ll_read pd_Sh_read dw_read_5 [.ref x, .int a1, .int a2] [.ref x, .int a1, .int a2, .ref t, .double 0] h _ hev).2 p l e R s m args below meth c V u _ _ hC hfit hs hu (jx_le.rf _) [.int (nI 0), .ref t] (wt_it t) (fun v2 h2 q2 => by cases q2) (fun y2 h2 q2 => ?_)
        cases q2
        rcases k with _ | _ | _ | _ | k
        · cases hk
          exact ⟨9, fs, R_Ise, F_Ise, 0, 13, [R_Ise], hcell, rfl, by rw [het]; exact hs_here (by decide) (by decide) (by decide +kernel), g_astore hC dw_read_13 (by decide) (g_iconst (v := nI 1) hC dw_read_15 (by decide) (g_ireturn hC rfl dw_read_16))⟩
        · cases hk
          exact ⟨12, fs, R_Nse, F_Nse, 0, 17, [R_Ise, R_Nse], hcell, rfl, by rw [het]; exact hs_next (by decide) (by decide) (by decide +kernel) (hP _ (by decide) _ (by decide) (by decide)) (hs_here (by decide) (by decide) (by decide +kernel)), g_astore hC dw_read_17 (by decide) (g_iconst (v := nI 2) hC dw_read_19 (by decide) (g_ireturn hC rfl dw_read_20))⟩
        · cases hk
          exact ⟨13, fs, R_Ioe, F_Ioe, 0, 21, [R_Ise, R_Nse, R_Ioe], hcell, rfl, by rw [het]; exact hs_next (by decide) (by decide) (by decide +kernel) (hP _ (by decide) _ (by decide) (by decide)) (hs_next (by decide) (by decide) (by decide +kernel) (hP _ (by decide) _ (by decide) (by decide)) (hs_here (by decide) (by decide) (by decide +kernel))), g_astore hC dw_read_21 (by decide) (g_iconst (v := nI 3) hC dw_read_23 (by decide) (g_ireturn hC rfl dw_read_24))⟩
        · cases hk
          exact ⟨11, fs, R_Uoe, F_Uoe, 0, 25, [R_Ise, R_Nse, R_Ioe, R_Uoe], hcell, rfl, by rw [het]; exact hs_next (by decide) (by decide) (by decide +kernel) (hP _ (by decide) _ (by decide) (by decide)) (hs_next (by decide) (by decide) (by decide +kernel) (hP _ (by decide) _ (by decide) (by decide)) (hs_next (by decide) (by decide) (by decide +kernel) (hP _ (by decide) _ (by decide) (by decide)) (hs_here (by decide) (by decide) (by decide +kernel)))), g_astore hC dw_read_25 (by decide) (g_iconst (v := nI 4) hC dw_read_27 (by decide) (g_ireturn hC rfl dw_read_28))⟩
        · cases hk
    · cases hF
abbrev tb_Sh_empty : List (Nat × jx_Mt) := [(0, f_Sh_empty)]
theorem ve_Sh_empty {fr lo : Nat} (h1 : 8 ≤ fr) (h2 : 157 ≤ lo) : ∀ q ∈ tb_Sh_empty, jx_ve ⟨"ExtentShelf", "empty", "(I)I"⟩ 1 fr lo q.1 q.2 := tv_1 ⟨R_Shelf, F_Shelf, 5, ⟨"ExtentShelf", "empty", "(I)I"⟩, z_Sh_empty, rfl, by decide +kernel, mw_Sh_empty, by decide +kernel, me_Sh_empty, Nat.le_trans (by decide) h1, Nat.le_trans (by decide) h2⟩
theorem dc_Sh_empty : jx_dc ⟨"ExtentShelf", "empty", "(I)I"⟩ := ⟨⟨by decide, by decide⟩, Or.inr ⟨by decide +kernel, prog_1_method_31_code, 2, _, (by decide +kernel : Cond.code ⟨"ExtentShelf", "empty", "(I)I"⟩ prog_1_method_31_code 2 (some .int) ∈ jx_tbl)⟩, "ExtentShelf", ⟨"ExtentShelf", "empty", "(I)I"⟩, ⟨"ExtentShelf", "empty", "(I)I"⟩, by decide +kernel, rfl⟩
theorem ll_empty : jx_lm "ExtentShelfLaw" 54 ⟨"ExtentShelf", "empty", "(I)I"⟩ := Or.inl (by decide +kernel)
abbrev z_w_empty : jx_Z := ("ExtentShelfLaw", "empty", method_13_code, 4, some .int, 8, 157)
abbrev hs_w_empty : List (Nat × Nat × Nat × Nat) := [(0, 9, 12, 13), (0, 9, 15, 15), (0, 9, 18, 17)]
theorem mw_w_empty : jx_mwH ⟨"ExtentShelfLaw", "empty", "(LExtentShelf;I[J)I"⟩ z_w_empty hs_w_empty := ⟨rfl, rfl, by decide +kernel, ⟨by decide, by decide⟩, by decide +kernel⟩
theorem dw_empty_0 : decode z_w_empty.2.2.1 0 = .ok (.aload_n 2, 1) := by decide +kernel
theorem dw_empty_1 : decode z_w_empty.2.2.1 1 = .ok (.iconst 0, 1) := by decide +kernel
theorem dw_empty_2 : decode z_w_empty.2.2.1 2 = .ok (.aload_n 0, 1) := by decide +kernel
theorem dw_empty_3 : decode z_w_empty.2.2.1 3 = .ok (.iload_n 1, 1) := by decide +kernel
theorem dw_empty_4 : decode z_w_empty.2.2.1 4 = .ok (.invokevirtual 54, 3) := by decide +kernel
theorem dw_empty_7 : decode z_w_empty.2.2.1 7 = .ok (.i2l, 1) := by decide +kernel
theorem dw_empty_8 : decode z_w_empty.2.2.1 8 = .ok (.lastore, 1) := by decide +kernel
theorem dw_empty_9 : decode z_w_empty.2.2.1 9 = .ok (.goto 12, 3) := by decide +kernel
theorem dw_empty_12 : decode z_w_empty.2.2.1 12 = .ok (.astore_n 3, 1) := by decide +kernel
theorem dw_empty_13 : decode z_w_empty.2.2.1 13 = .ok (.iconst 1, 1) := by decide +kernel
theorem dw_empty_14 : decode z_w_empty.2.2.1 14 = .ok (.ireturn, 1) := by decide +kernel
theorem dw_empty_15 : decode z_w_empty.2.2.1 15 = .ok (.astore_n 3, 1) := by decide +kernel
theorem dw_empty_16 : decode z_w_empty.2.2.1 16 = .ok (.iconst 2, 1) := by decide +kernel
theorem dw_empty_17 : decode z_w_empty.2.2.1 17 = .ok (.ireturn, 1) := by decide +kernel
theorem dw_empty_18 : decode z_w_empty.2.2.1 18 = .ok (.astore_n 3, 1) := by decide +kernel
theorem dw_empty_19 : decode z_w_empty.2.2.1 19 = .ok (.iconst 3, 1) := by decide +kernel
theorem dw_empty_20 : decode z_w_empty.2.2.1 20 = .ok (.ireturn, 1) := by decide +kernel
theorem dw_empty_21 : decode z_w_empty.2.2.1 21 = .ok (.iconst 0, 1) := by decide +kernel
theorem dw_empty_22 : decode z_w_empty.2.2.1 22 = .ok (.ireturn, 1) := by decide +kernel
def w_empty : jx_Mt := fun vs h => match vs with
  | [.ref x, .int a1, .ref t] => wI (jx_ev tb_Sh_empty [.ref x, .int a1] [] h) [9, 10, 11] t
  | _ => none
set_option maxHeartbeats 4000000 in
theorem me_w_empty : jx_MeH 3 z_w_empty hs_w_empty jx_P w_empty := by
  refine jx_MeH.of (by decide) (fun vs h o h' hF => ?_) (fun vs h o h' hF p l e R s m args below meth c V u hC hP het hfit hs hu => ?_)
  · unfold w_empty at hF
    split at hF
    · rename_i x a1 t
      exact ⟨wI_le (fun r hr => (jx_vcH (Z := z_w_empty) (k := 16) (ve_Sh_empty (by decide) (by decide)) dc_Sh_empty (by decide) ll_empty pd_Sh_empty dw_empty_4 _ [] h r hr).1) hF, rfl, rfl⟩
    · cases hF
  · unfold w_empty at hF
    split at hF
    · rename_i x a1 t
      show jx_G p l e R s m args below meth c V u o h' 0 [.ref x, .int a1, .ref t, .double 0] [] h
      refine g_aload_n hC dw_empty_0 rfl rfl ?_
      refine g_iconst (v := nI 0) hC dw_empty_1 (by decide) ?_
      refine g_aload_n hC dw_empty_2 rfl rfl ?_
      refine g_iload_n hC dw_empty_3 rfl rfl ?_
      rcases wI_sp hF with ⟨v, f, h1, hev, hcell, rfl, rfl⟩ | ⟨y, h1, k, ci, fs, hev, hk, hcell, rfl, rfl⟩
      · refine (jx_vcH (Z := z_w_empty) (k := 16) (ve_Sh_empty (by decide) (by decide)) dc_Sh_empty (by decide) ll_empty pd_Sh_empty dw_empty_4 [.ref x, .int a1] [.ref x, .int a1, .ref t, .double 0] h _ hev).2 p l e R s m args below meth c V u _ _ hC hfit hs hu (jx_le.rf _) [.int (nI 0), .ref t] (wt_it t) (fun v2 h2 q2 => ?_) (fun y2 h2 q2 => by cases q2)
        cases q2
        exact g_i2l hC dw_empty_7 (g_last hC hcell (by decide) (by decide) dw_empty_8 (g_goto (tgt := 21) hC dw_empty_9 (by decide) (g_iconst (v := nI 0) hC dw_empty_21 (by decide) (g_ireturn hC rfl dw_empty_22))))
      · refine (jx_vcH (Z := z_w_empty) (k := 16) (ve_Sh_empty (by decide) (by decide)) dc_Sh_empty (by decide) ll_empty pd_Sh_empty dw_empty_4 [.ref x, .int a1] [.ref x, .int a1, .ref t, .double 0] h _ hev).2 p l e R s m args below meth c V u _ _ hC hfit hs hu (jx_le.rf _) [.int (nI 0), .ref t] (wt_it t) (fun v2 h2 q2 => by cases q2) (fun y2 h2 q2 => ?_)
        cases q2
        rcases k with _ | _ | _ | k
        · cases hk
          exact ⟨9, fs, R_Ise, F_Ise, 0, 12, [R_Ise], hcell, rfl, by rw [het]; exact hs_here (by decide) (by decide) (by decide +kernel), g_astore_n hC dw_empty_12 rfl (by decide) (g_iconst (v := nI 1) hC dw_empty_13 (by decide) (g_ireturn hC rfl dw_empty_14))⟩
        · cases hk
          exact ⟨10, fs, R_Iae, F_Iae, 0, 15, [R_Ise, R_Iae], hcell, rfl, by rw [het]; exact hs_next (by decide) (by decide) (by decide +kernel) (hP _ (by decide) _ (by decide) (by decide)) (hs_here (by decide) (by decide) (by decide +kernel)), g_astore_n hC dw_empty_15 rfl (by decide) (g_iconst (v := nI 2) hC dw_empty_16 (by decide) (g_ireturn hC rfl dw_empty_17))⟩
        · cases hk
          exact ⟨11, fs, R_Uoe, F_Uoe, 0, 18, [R_Ise, R_Iae, R_Uoe], hcell, rfl, by rw [het]; exact hs_next (by decide) (by decide) (by decide +kernel) (hP _ (by decide) _ (by decide) (by decide)) (hs_next (by decide) (by decide) (by decide +kernel) (hP _ (by decide) _ (by decide) (by decide)) (hs_here (by decide) (by decide) (by decide +kernel))), g_astore_n hC dw_empty_18 rfl (by decide) (g_iconst (v := nI 3) hC dw_empty_19 (by decide) (g_ireturn hC rfl dw_empty_20))⟩
        · cases hk
    · cases hF
abbrev tb_Sh_step : List (Nat × jx_Mt) := [(0, f_Sh_step)]
theorem ve_Sh_step {fr lo : Nat} (h1 : 9 ≤ fr) (h2 : 197 ≤ lo) : ∀ q ∈ tb_Sh_step, jx_ve ⟨"ExtentShelf", "step", "()I"⟩ 0 fr lo q.1 q.2 := tv_1 ⟨R_Shelf, F_Shelf, 5, ⟨"ExtentShelf", "step", "()I"⟩, z_Sh_step, rfl, by decide +kernel, mw_Sh_step, by decide +kernel, me_Sh_step, Nat.le_trans (by decide) h1, Nat.le_trans (by decide) h2⟩
theorem dc_Sh_step : jx_dc ⟨"ExtentShelf", "step", "()I"⟩ := ⟨⟨by decide, by decide⟩, Or.inr ⟨by decide +kernel, prog_1_method_34_code, 3, _, (by decide +kernel : Cond.code ⟨"ExtentShelf", "step", "()I"⟩ prog_1_method_34_code 3 (some .int) ∈ jx_tbl)⟩, "ExtentShelf", ⟨"ExtentShelf", "step", "()I"⟩, ⟨"ExtentShelf", "step", "()I"⟩, by decide +kernel, rfl⟩
theorem ll_step : jx_lm "ExtentShelfLaw" 57 ⟨"ExtentShelf", "step", "()I"⟩ := Or.inl (by decide +kernel)
abbrev z_w_step : jx_Z := ("ExtentShelfLaw", "step", method_14_code, 3, some .int, 9, 197)
abbrev hs_w_step : List (Nat × Nat × Nat × Nat) := [(0, 8, 11, 13), (0, 8, 14, 17)]
theorem mw_w_step : jx_mwH ⟨"ExtentShelfLaw", "step", "(LExtentShelf;[J)I"⟩ z_w_step hs_w_step := ⟨rfl, rfl, by decide +kernel, ⟨by decide, by decide⟩, by decide +kernel⟩
theorem dw_step_0 : decode z_w_step.2.2.1 0 = .ok (.aload_n 1, 1) := by decide +kernel
theorem dw_step_1 : decode z_w_step.2.2.1 1 = .ok (.iconst 0, 1) := by decide +kernel
theorem dw_step_2 : decode z_w_step.2.2.1 2 = .ok (.aload_n 0, 1) := by decide +kernel
theorem dw_step_3 : decode z_w_step.2.2.1 3 = .ok (.invokevirtual 57, 3) := by decide +kernel
theorem dw_step_6 : decode z_w_step.2.2.1 6 = .ok (.i2l, 1) := by decide +kernel
theorem dw_step_7 : decode z_w_step.2.2.1 7 = .ok (.lastore, 1) := by decide +kernel
theorem dw_step_8 : decode z_w_step.2.2.1 8 = .ok (.goto 9, 3) := by decide +kernel
theorem dw_step_11 : decode z_w_step.2.2.1 11 = .ok (.astore_n 2, 1) := by decide +kernel
theorem dw_step_12 : decode z_w_step.2.2.1 12 = .ok (.iconst 1, 1) := by decide +kernel
theorem dw_step_13 : decode z_w_step.2.2.1 13 = .ok (.ireturn, 1) := by decide +kernel
theorem dw_step_14 : decode z_w_step.2.2.1 14 = .ok (.astore_n 2, 1) := by decide +kernel
theorem dw_step_15 : decode z_w_step.2.2.1 15 = .ok (.iconst 2, 1) := by decide +kernel
theorem dw_step_16 : decode z_w_step.2.2.1 16 = .ok (.ireturn, 1) := by decide +kernel
theorem dw_step_17 : decode z_w_step.2.2.1 17 = .ok (.iconst 0, 1) := by decide +kernel
theorem dw_step_18 : decode z_w_step.2.2.1 18 = .ok (.ireturn, 1) := by decide +kernel
def w_step : jx_Mt := fun vs h => match vs with
  | [.ref x, .ref t] => wI (jx_ev tb_Sh_step [.ref x] [] h) [9, 11] t
  | _ => none
set_option maxHeartbeats 4000000 in
theorem me_w_step : jx_MeH 2 z_w_step hs_w_step jx_P w_step := by
  refine jx_MeH.of (by decide) (fun vs h o h' hF => ?_) (fun vs h o h' hF p l e R s m args below meth c V u hC hP het hfit hs hu => ?_)
  · unfold w_step at hF
    split at hF
    · rename_i x t
      exact ⟨wI_le (fun r hr => (jx_vcH (Z := z_w_step) (k := 16) (ve_Sh_step (by decide) (by decide)) dc_Sh_step (by decide) ll_step pd_Sh_step dw_step_3 _ [] h r hr).1) hF, rfl, rfl⟩
    · cases hF
  · unfold w_step at hF
    split at hF
    · rename_i x t
      show jx_G p l e R s m args below meth c V u o h' 0 [.ref x, .ref t, .double 0] [] h
      refine g_aload_n hC dw_step_0 rfl rfl ?_
      refine g_iconst (v := nI 0) hC dw_step_1 (by decide) ?_
      refine g_aload_n hC dw_step_2 rfl rfl ?_
      rcases wI_sp hF with ⟨v, f, h1, hev, hcell, rfl, rfl⟩ | ⟨y, h1, k, ci, fs, hev, hk, hcell, rfl, rfl⟩
      · refine (jx_vcH (Z := z_w_step) (k := 16) (ve_Sh_step (by decide) (by decide)) dc_Sh_step (by decide) ll_step pd_Sh_step dw_step_3 [.ref x] [.ref x, .ref t, .double 0] h _ hev).2 p l e R s m args below meth c V u _ _ hC hfit hs hu (jx_le.rf _) [.int (nI 0), .ref t] (wt_it t) (fun v2 h2 q2 => ?_) (fun y2 h2 q2 => by cases q2)
        cases q2
        exact g_i2l hC dw_step_6 (g_last hC hcell (by decide) (by decide) dw_step_7 (g_goto (tgt := 17) hC dw_step_8 (by decide) (g_iconst (v := nI 0) hC dw_step_17 (by decide) (g_ireturn hC rfl dw_step_18))))
      · refine (jx_vcH (Z := z_w_step) (k := 16) (ve_Sh_step (by decide) (by decide)) dc_Sh_step (by decide) ll_step pd_Sh_step dw_step_3 [.ref x] [.ref x, .ref t, .double 0] h _ hev).2 p l e R s m args below meth c V u _ _ hC hfit hs hu (jx_le.rf _) [.int (nI 0), .ref t] (wt_it t) (fun v2 h2 q2 => by cases q2) (fun y2 h2 q2 => ?_)
        cases q2
        rcases k with _ | _ | k
        · cases hk
          exact ⟨9, fs, R_Ise, F_Ise, 0, 11, [R_Ise], hcell, rfl, by rw [het]; exact hs_here (by decide) (by decide) (by decide +kernel), g_astore_n hC dw_step_11 rfl (by decide) (g_iconst (v := nI 1) hC dw_step_12 (by decide) (g_ireturn hC rfl dw_step_13))⟩
        · cases hk
          exact ⟨11, fs, R_Uoe, F_Uoe, 0, 14, [R_Ise, R_Uoe], hcell, rfl, by rw [het]; exact hs_next (by decide) (by decide) (by decide +kernel) (hP _ (by decide) _ (by decide) (by decide)) (hs_here (by decide) (by decide) (by decide +kernel)), g_astore_n hC dw_step_14 rfl (by decide) (g_iconst (v := nI 2) hC dw_step_15 (by decide) (g_ireturn hC rfl dw_step_16))⟩
        · cases hk
    · cases hF
abbrev tb_Sh_volume : List (Nat × jx_Mt) := [(0, f_Sh_volume)]
theorem ve_Sh_volume {fr lo : Nat} (h1 : 8 ≤ fr) (h2 : 160 ≤ lo) : ∀ q ∈ tb_Sh_volume, jx_ve ⟨"ExtentShelf", "volume", "(II)I"⟩ 2 fr lo q.1 q.2 := tv_1 ⟨R_Shelf, F_Shelf, 5, ⟨"ExtentShelf", "volume", "(II)I"⟩, z_Sh_volume, rfl, by decide +kernel, mw_Sh_volume, by decide +kernel, me_Sh_volume, Nat.le_trans (by decide) h1, Nat.le_trans (by decide) h2⟩
theorem dc_Sh_volume : jx_dc ⟨"ExtentShelf", "volume", "(II)I"⟩ := ⟨⟨by decide, by decide⟩, Or.inr ⟨by decide +kernel, prog_1_method_36_code, 4, _, (by decide +kernel : Cond.code ⟨"ExtentShelf", "volume", "(II)I"⟩ prog_1_method_36_code 4 (some .int) ∈ jx_tbl)⟩, "ExtentShelf", ⟨"ExtentShelf", "volume", "(II)I"⟩, ⟨"ExtentShelf", "volume", "(II)I"⟩, by decide +kernel, rfl⟩
theorem ll_volume : jx_lm "ExtentShelfLaw" 61 ⟨"ExtentShelf", "volume", "(II)I"⟩ := Or.inl (by decide +kernel)
abbrev z_w_volume : jx_Z := ("ExtentShelfLaw", "volume", method_15_code, 5, some .int, 8, 160)
abbrev hs_w_volume : List (Nat × Nat × Nat × Nat) := [(0, 10, 13, 13), (0, 10, 17, 35), (0, 10, 21, 15)]
theorem mw_w_volume : jx_mwH ⟨"ExtentShelfLaw", "volume", "(LExtentShelf;II[J)I"⟩ z_w_volume hs_w_volume := ⟨rfl, rfl, by decide +kernel, ⟨by decide, by decide⟩, by decide +kernel⟩
theorem dw_volume_0 : decode z_w_volume.2.2.1 0 = .ok (.aload_n 3, 1) := by decide +kernel
theorem dw_volume_1 : decode z_w_volume.2.2.1 1 = .ok (.iconst 0, 1) := by decide +kernel
theorem dw_volume_2 : decode z_w_volume.2.2.1 2 = .ok (.aload_n 0, 1) := by decide +kernel
theorem dw_volume_3 : decode z_w_volume.2.2.1 3 = .ok (.iload_n 1, 1) := by decide +kernel
theorem dw_volume_4 : decode z_w_volume.2.2.1 4 = .ok (.iload_n 2, 1) := by decide +kernel
theorem dw_volume_5 : decode z_w_volume.2.2.1 5 = .ok (.invokevirtual 61, 3) := by decide +kernel
theorem dw_volume_8 : decode z_w_volume.2.2.1 8 = .ok (.i2l, 1) := by decide +kernel
theorem dw_volume_9 : decode z_w_volume.2.2.1 9 = .ok (.lastore, 1) := by decide +kernel
theorem dw_volume_10 : decode z_w_volume.2.2.1 10 = .ok (.goto 15, 3) := by decide +kernel
theorem dw_volume_13 : decode z_w_volume.2.2.1 13 = .ok (.astore 4, 2) := by decide +kernel
theorem dw_volume_15 : decode z_w_volume.2.2.1 15 = .ok (.iconst 1, 1) := by decide +kernel
theorem dw_volume_16 : decode z_w_volume.2.2.1 16 = .ok (.ireturn, 1) := by decide +kernel
theorem dw_volume_17 : decode z_w_volume.2.2.1 17 = .ok (.astore 4, 2) := by decide +kernel
theorem dw_volume_19 : decode z_w_volume.2.2.1 19 = .ok (.iconst 2, 1) := by decide +kernel
theorem dw_volume_20 : decode z_w_volume.2.2.1 20 = .ok (.ireturn, 1) := by decide +kernel
theorem dw_volume_21 : decode z_w_volume.2.2.1 21 = .ok (.astore 4, 2) := by decide +kernel
theorem dw_volume_23 : decode z_w_volume.2.2.1 23 = .ok (.iconst 3, 1) := by decide +kernel
theorem dw_volume_24 : decode z_w_volume.2.2.1 24 = .ok (.ireturn, 1) := by decide +kernel
theorem dw_volume_25 : decode z_w_volume.2.2.1 25 = .ok (.iconst 0, 1) := by decide +kernel
theorem dw_volume_26 : decode z_w_volume.2.2.1 26 = .ok (.ireturn, 1) := by decide +kernel
def w_volume : jx_Mt := fun vs h => match vs with
  | [.ref x, .int a1, .int a2, .ref t] => wI (jx_ev tb_Sh_volume [.ref x, .int a1, .int a2] [] h) [9, 12, 10] t
  | _ => none
set_option maxHeartbeats 4000000 in
theorem me_w_volume : jx_MeH 4 z_w_volume hs_w_volume jx_P w_volume := by
  refine jx_MeH.of (by decide) (fun vs h o h' hF => ?_) (fun vs h o h' hF p l e R s m args below meth c V u hC hP het hfit hs hu => ?_)
  · unfold w_volume at hF
    split at hF
    · rename_i x a1 a2 t
      exact ⟨wI_le (fun r hr => (jx_vcH (Z := z_w_volume) (k := 16) (ve_Sh_volume (by decide) (by decide)) dc_Sh_volume (by decide) ll_volume pd_Sh_volume dw_volume_5 _ [] h r hr).1) hF, rfl, rfl⟩
    · cases hF
  · unfold w_volume at hF
    split at hF
    · rename_i x a1 a2 t
      show jx_G p l e R s m args below meth c V u o h' 0 [.ref x, .int a1, .int a2, .ref t, .double 0] [] h
      refine g_aload_n hC dw_volume_0 rfl rfl ?_
      refine g_iconst (v := nI 0) hC dw_volume_1 (by decide) ?_
      refine g_aload_n hC dw_volume_2 rfl rfl ?_
      refine g_iload_n hC dw_volume_3 rfl rfl ?_
      refine g_iload_n hC dw_volume_4 rfl rfl ?_
      rcases wI_sp hF with ⟨v, f, h1, hev, hcell, rfl, rfl⟩ | ⟨y, h1, k, ci, fs, hev, hk, hcell, rfl, rfl⟩
      · refine (jx_vcH (Z := z_w_volume) (k := 16) (ve_Sh_volume (by decide) (by decide)) dc_Sh_volume (by decide) ll_volume pd_Sh_volume dw_volume_5 [.ref x, .int a1, .int a2] [.ref x, .int a1, .int a2, .ref t, .double 0] h _ hev).2 p l e R s m args below meth c V u _ _ hC hfit hs hu (jx_le.rf _) [.int (nI 0), .ref t] (wt_it t) (fun v2 h2 q2 => ?_) (fun y2 h2 q2 => by cases q2)
        cases q2
        exact g_i2l hC dw_volume_8 (g_last hC hcell (by decide) (by decide) dw_volume_9 (g_goto (tgt := 25) hC dw_volume_10 (by decide) (g_iconst (v := nI 0) hC dw_volume_25 (by decide) (g_ireturn hC rfl dw_volume_26))))
      · refine (jx_vcH (Z := z_w_volume) (k := 16) (ve_Sh_volume (by decide) (by decide)) dc_Sh_volume (by decide) ll_volume pd_Sh_volume dw_volume_5 [.ref x, .int a1, .int a2] [.ref x, .int a1, .int a2, .ref t, .double 0] h _ hev).2 p l e R s m args below meth c V u _ _ hC hfit hs hu (jx_le.rf _) [.int (nI 0), .ref t] (wt_it t) (fun v2 h2 q2 => by cases q2) (fun y2 h2 q2 => ?_)
        cases q2
        rcases k with _ | _ | _ | k
        · cases hk
          exact ⟨9, fs, R_Ise, F_Ise, 0, 13, [R_Ise], hcell, rfl, by rw [het]; exact hs_here (by decide) (by decide) (by decide +kernel), g_astore hC dw_volume_13 (by decide) (g_iconst (v := nI 1) hC dw_volume_15 (by decide) (g_ireturn hC rfl dw_volume_16))⟩
        · cases hk
          exact ⟨12, fs, R_Nse, F_Nse, 0, 17, [R_Ise, R_Nse], hcell, rfl, by rw [het]; exact hs_next (by decide) (by decide) (by decide +kernel) (hP _ (by decide) _ (by decide) (by decide)) (hs_here (by decide) (by decide) (by decide +kernel)), g_astore hC dw_volume_17 (by decide) (g_iconst (v := nI 2) hC dw_volume_19 (by decide) (g_ireturn hC rfl dw_volume_20))⟩
        · cases hk
          exact ⟨10, fs, R_Iae, F_Iae, 0, 21, [R_Ise, R_Nse, R_Iae], hcell, rfl, by rw [het]; exact hs_next (by decide) (by decide) (by decide +kernel) (hP _ (by decide) _ (by decide) (by decide)) (hs_next (by decide) (by decide) (by decide +kernel) (hP _ (by decide) _ (by decide) (by decide)) (hs_here (by decide) (by decide) (by decide +kernel))), g_astore hC dw_volume_21 (by decide) (g_iconst (v := nI 3) hC dw_volume_23 (by decide) (g_ireturn hC rfl dw_volume_24))⟩
        · cases hk
    · cases hF
abbrev tb_Sh_where : List (Nat × jx_Mt) := [(0, f_Sh_where)]
theorem ve_Sh_where {fr lo : Nat} (h1 : 8 ≤ fr) (h2 : 162 ≤ lo) : ∀ q ∈ tb_Sh_where, jx_ve ⟨"ExtentShelf", "where", "(III)I"⟩ 3 fr lo q.1 q.2 := tv_1 ⟨R_Shelf, F_Shelf, 5, ⟨"ExtentShelf", "where", "(III)I"⟩, z_Sh_where, rfl, by decide +kernel, mw_Sh_where, by decide +kernel, me_Sh_where, Nat.le_trans (by decide) h1, Nat.le_trans (by decide) h2⟩
theorem dc_Sh_where : jx_dc ⟨"ExtentShelf", "where", "(III)I"⟩ := ⟨⟨by decide, by decide⟩, Or.inr ⟨by decide +kernel, prog_1_method_37_code, 6, _, (by decide +kernel : Cond.code ⟨"ExtentShelf", "where", "(III)I"⟩ prog_1_method_37_code 6 (some .int) ∈ jx_tbl)⟩, "ExtentShelf", ⟨"ExtentShelf", "where", "(III)I"⟩, ⟨"ExtentShelf", "where", "(III)I"⟩, by decide +kernel, rfl⟩
theorem ll_where : jx_lm "ExtentShelfLaw" 64 ⟨"ExtentShelf", "where", "(III)I"⟩ := Or.inl (by decide +kernel)
abbrev z_w_where : jx_Z := ("ExtentShelfLaw", "where", method_16_code, 6, some .int, 8, 162)
abbrev hs_w_where : List (Nat × Nat × Nat × Nat) := [(0, 12, 15, 13), (0, 12, 19, 35)]
theorem mw_w_where : jx_mwH ⟨"ExtentShelfLaw", "where", "(LExtentShelf;III[J)I"⟩ z_w_where hs_w_where := ⟨rfl, rfl, by decide +kernel, ⟨by decide, by decide⟩, by decide +kernel⟩
theorem dw_where_0 : decode z_w_where.2.2.1 0 = .ok (.aload 4, 2) := by decide +kernel
theorem dw_where_2 : decode z_w_where.2.2.1 2 = .ok (.iconst 0, 1) := by decide +kernel
theorem dw_where_3 : decode z_w_where.2.2.1 3 = .ok (.aload_n 0, 1) := by decide +kernel
theorem dw_where_4 : decode z_w_where.2.2.1 4 = .ok (.iload_n 1, 1) := by decide +kernel
theorem dw_where_5 : decode z_w_where.2.2.1 5 = .ok (.iload_n 2, 1) := by decide +kernel
theorem dw_where_6 : decode z_w_where.2.2.1 6 = .ok (.iload_n 3, 1) := by decide +kernel
theorem dw_where_7 : decode z_w_where.2.2.1 7 = .ok (.invokevirtual 64, 3) := by decide +kernel
theorem dw_where_10 : decode z_w_where.2.2.1 10 = .ok (.i2l, 1) := by decide +kernel
theorem dw_where_11 : decode z_w_where.2.2.1 11 = .ok (.lastore, 1) := by decide +kernel
theorem dw_where_12 : decode z_w_where.2.2.1 12 = .ok (.goto 11, 3) := by decide +kernel
theorem dw_where_15 : decode z_w_where.2.2.1 15 = .ok (.astore 5, 2) := by decide +kernel
theorem dw_where_17 : decode z_w_where.2.2.1 17 = .ok (.iconst 1, 1) := by decide +kernel
theorem dw_where_18 : decode z_w_where.2.2.1 18 = .ok (.ireturn, 1) := by decide +kernel
theorem dw_where_19 : decode z_w_where.2.2.1 19 = .ok (.astore 5, 2) := by decide +kernel
theorem dw_where_21 : decode z_w_where.2.2.1 21 = .ok (.iconst 2, 1) := by decide +kernel
theorem dw_where_22 : decode z_w_where.2.2.1 22 = .ok (.ireturn, 1) := by decide +kernel
theorem dw_where_23 : decode z_w_where.2.2.1 23 = .ok (.iconst 0, 1) := by decide +kernel
theorem dw_where_24 : decode z_w_where.2.2.1 24 = .ok (.ireturn, 1) := by decide +kernel
def w_where : jx_Mt := fun vs h => match vs with
  | [.ref x, .int a1, .int a2, .int a3, .ref t] => wI (jx_ev tb_Sh_where [.ref x, .int a1, .int a2, .int a3] [] h) [9, 12] t
  | _ => none
set_option maxHeartbeats 4000000 in
theorem me_w_where : jx_MeH 5 z_w_where hs_w_where jx_P w_where := by
  refine jx_MeH.of (by decide) (fun vs h o h' hF => ?_) (fun vs h o h' hF p l e R s m args below meth c V u hC hP het hfit hs hu => ?_)
  · unfold w_where at hF
    split at hF
    · rename_i x a1 a2 a3 t
      exact ⟨wI_le (fun r hr => (jx_vcH (Z := z_w_where) (k := 16) (ve_Sh_where (by decide) (by decide)) dc_Sh_where (by decide) ll_where pd_Sh_where dw_where_7 _ [] h r hr).1) hF, rfl, rfl⟩
    · cases hF
  · unfold w_where at hF
    split at hF
    · rename_i x a1 a2 a3 t
      show jx_G p l e R s m args below meth c V u o h' 0 [.ref x, .int a1, .int a2, .int a3, .ref t, .double 0] [] h
      refine g_aload hC dw_where_0 rfl ?_
      refine g_iconst (v := nI 0) hC dw_where_2 (by decide) ?_
      refine g_aload_n hC dw_where_3 rfl rfl ?_
      refine g_iload_n hC dw_where_4 rfl rfl ?_
      refine g_iload_n hC dw_where_5 rfl rfl ?_
      refine g_iload_n hC dw_where_6 rfl rfl ?_
      rcases wI_sp hF with ⟨v, f, h1, hev, hcell, rfl, rfl⟩ | ⟨y, h1, k, ci, fs, hev, hk, hcell, rfl, rfl⟩
      · refine (jx_vcH (Z := z_w_where) (k := 16) (ve_Sh_where (by decide) (by decide)) dc_Sh_where (by decide) ll_where pd_Sh_where dw_where_7 [.ref x, .int a1, .int a2, .int a3] [.ref x, .int a1, .int a2, .int a3, .ref t, .double 0] h _ hev).2 p l e R s m args below meth c V u _ _ hC hfit hs hu (jx_le.rf _) [.int (nI 0), .ref t] (wt_it t) (fun v2 h2 q2 => ?_) (fun y2 h2 q2 => by cases q2)
        cases q2
        exact g_i2l hC dw_where_10 (g_last hC hcell (by decide) (by decide) dw_where_11 (g_goto (tgt := 23) hC dw_where_12 (by decide) (g_iconst (v := nI 0) hC dw_where_23 (by decide) (g_ireturn hC rfl dw_where_24))))
      · refine (jx_vcH (Z := z_w_where) (k := 16) (ve_Sh_where (by decide) (by decide)) dc_Sh_where (by decide) ll_where pd_Sh_where dw_where_7 [.ref x, .int a1, .int a2, .int a3] [.ref x, .int a1, .int a2, .int a3, .ref t, .double 0] h _ hev).2 p l e R s m args below meth c V u _ _ hC hfit hs hu (jx_le.rf _) [.int (nI 0), .ref t] (wt_it t) (fun v2 h2 q2 => by cases q2) (fun y2 h2 q2 => ?_)
        cases q2
        rcases k with _ | _ | k
        · cases hk
          exact ⟨9, fs, R_Ise, F_Ise, 0, 15, [R_Ise], hcell, rfl, by rw [het]; exact hs_here (by decide) (by decide) (by decide +kernel), g_astore hC dw_where_15 (by decide) (g_iconst (v := nI 1) hC dw_where_17 (by decide) (g_ireturn hC rfl dw_where_18))⟩
        · cases hk
          exact ⟨12, fs, R_Nse, F_Nse, 0, 19, [R_Ise, R_Nse], hcell, rfl, by rw [het]; exact hs_next (by decide) (by decide) (by decide +kernel) (hP _ (by decide) _ (by decide) (by decide)) (hs_here (by decide) (by decide) (by decide +kernel)), g_astore hC dw_where_19 (by decide) (g_iconst (v := nI 2) hC dw_where_21 (by decide) (g_ireturn hC rfl dw_where_22))⟩
        · cases hk
    · cases hF
abbrev tb_Sh_free : List (Nat × jx_Mt) := [(0, f_Sh_free)]
theorem ve_Sh_free {fr lo : Nat} (h1 : 8 ≤ fr) (h2 : 157 ≤ lo) : ∀ q ∈ tb_Sh_free, jx_ve ⟨"ExtentShelf", "free", "(I)I"⟩ 1 fr lo q.1 q.2 := tv_1 ⟨R_Shelf, F_Shelf, 5, ⟨"ExtentShelf", "free", "(I)I"⟩, z_Sh_free, rfl, by decide +kernel, mw_Sh_free, by decide +kernel, me_Sh_free, Nat.le_trans (by decide) h1, Nat.le_trans (by decide) h2⟩
theorem dc_Sh_free : jx_dc ⟨"ExtentShelf", "free", "(I)I"⟩ := ⟨⟨by decide, by decide⟩, Or.inr ⟨by decide +kernel, prog_1_method_38_code, 2, _, (by decide +kernel : Cond.code ⟨"ExtentShelf", "free", "(I)I"⟩ prog_1_method_38_code 2 (some .int) ∈ jx_tbl)⟩, "ExtentShelf", ⟨"ExtentShelf", "free", "(I)I"⟩, ⟨"ExtentShelf", "free", "(I)I"⟩, by decide +kernel, rfl⟩
theorem ll_free : jx_lm "ExtentShelfLaw" 67 ⟨"ExtentShelf", "free", "(I)I"⟩ := Or.inl (by decide +kernel)
abbrev z_w_free : jx_Z := ("ExtentShelfLaw", "free", method_17_code, 4, some .int, 8, 157)
abbrev hs_w_free : List (Nat × Nat × Nat × Nat) := [(0, 9, 12, 13), (0, 9, 15, 15)]
theorem mw_w_free : jx_mwH ⟨"ExtentShelfLaw", "free", "(LExtentShelf;I[J)I"⟩ z_w_free hs_w_free := ⟨rfl, rfl, by decide +kernel, ⟨by decide, by decide⟩, by decide +kernel⟩
theorem dw_free_0 : decode z_w_free.2.2.1 0 = .ok (.aload_n 2, 1) := by decide +kernel
theorem dw_free_1 : decode z_w_free.2.2.1 1 = .ok (.iconst 0, 1) := by decide +kernel
theorem dw_free_2 : decode z_w_free.2.2.1 2 = .ok (.aload_n 0, 1) := by decide +kernel
theorem dw_free_3 : decode z_w_free.2.2.1 3 = .ok (.iload_n 1, 1) := by decide +kernel
theorem dw_free_4 : decode z_w_free.2.2.1 4 = .ok (.invokevirtual 67, 3) := by decide +kernel
theorem dw_free_7 : decode z_w_free.2.2.1 7 = .ok (.i2l, 1) := by decide +kernel
theorem dw_free_8 : decode z_w_free.2.2.1 8 = .ok (.lastore, 1) := by decide +kernel
theorem dw_free_9 : decode z_w_free.2.2.1 9 = .ok (.goto 9, 3) := by decide +kernel
theorem dw_free_12 : decode z_w_free.2.2.1 12 = .ok (.astore_n 3, 1) := by decide +kernel
theorem dw_free_13 : decode z_w_free.2.2.1 13 = .ok (.iconst 1, 1) := by decide +kernel
theorem dw_free_14 : decode z_w_free.2.2.1 14 = .ok (.ireturn, 1) := by decide +kernel
theorem dw_free_15 : decode z_w_free.2.2.1 15 = .ok (.astore_n 3, 1) := by decide +kernel
theorem dw_free_16 : decode z_w_free.2.2.1 16 = .ok (.iconst 2, 1) := by decide +kernel
theorem dw_free_17 : decode z_w_free.2.2.1 17 = .ok (.ireturn, 1) := by decide +kernel
theorem dw_free_18 : decode z_w_free.2.2.1 18 = .ok (.iconst 0, 1) := by decide +kernel
theorem dw_free_19 : decode z_w_free.2.2.1 19 = .ok (.ireturn, 1) := by decide +kernel
def w_free : jx_Mt := fun vs h => match vs with
  | [.ref x, .int a1, .ref t] => wI (jx_ev tb_Sh_free [.ref x, .int a1] [] h) [9, 10] t
  | _ => none
set_option maxHeartbeats 4000000 in
theorem me_w_free : jx_MeH 3 z_w_free hs_w_free jx_P w_free := by
  refine jx_MeH.of (by decide) (fun vs h o h' hF => ?_) (fun vs h o h' hF p l e R s m args below meth c V u hC hP het hfit hs hu => ?_)
  · unfold w_free at hF
    split at hF
    · rename_i x a1 t
      exact ⟨wI_le (fun r hr => (jx_vcH (Z := z_w_free) (k := 16) (ve_Sh_free (by decide) (by decide)) dc_Sh_free (by decide) ll_free pd_Sh_free dw_free_4 _ [] h r hr).1) hF, rfl, rfl⟩
    · cases hF
  · unfold w_free at hF
    split at hF
    · rename_i x a1 t
      show jx_G p l e R s m args below meth c V u o h' 0 [.ref x, .int a1, .ref t, .double 0] [] h
      refine g_aload_n hC dw_free_0 rfl rfl ?_
      refine g_iconst (v := nI 0) hC dw_free_1 (by decide) ?_
      refine g_aload_n hC dw_free_2 rfl rfl ?_
      refine g_iload_n hC dw_free_3 rfl rfl ?_
      rcases wI_sp hF with ⟨v, f, h1, hev, hcell, rfl, rfl⟩ | ⟨y, h1, k, ci, fs, hev, hk, hcell, rfl, rfl⟩
      · refine (jx_vcH (Z := z_w_free) (k := 16) (ve_Sh_free (by decide) (by decide)) dc_Sh_free (by decide) ll_free pd_Sh_free dw_free_4 [.ref x, .int a1] [.ref x, .int a1, .ref t, .double 0] h _ hev).2 p l e R s m args below meth c V u _ _ hC hfit hs hu (jx_le.rf _) [.int (nI 0), .ref t] (wt_it t) (fun v2 h2 q2 => ?_) (fun y2 h2 q2 => by cases q2)
        cases q2
        exact g_i2l hC dw_free_7 (g_last hC hcell (by decide) (by decide) dw_free_8 (g_goto (tgt := 18) hC dw_free_9 (by decide) (g_iconst (v := nI 0) hC dw_free_18 (by decide) (g_ireturn hC rfl dw_free_19))))
      · refine (jx_vcH (Z := z_w_free) (k := 16) (ve_Sh_free (by decide) (by decide)) dc_Sh_free (by decide) ll_free pd_Sh_free dw_free_4 [.ref x, .int a1] [.ref x, .int a1, .ref t, .double 0] h _ hev).2 p l e R s m args below meth c V u _ _ hC hfit hs hu (jx_le.rf _) [.int (nI 0), .ref t] (wt_it t) (fun v2 h2 q2 => by cases q2) (fun y2 h2 q2 => ?_)
        cases q2
        rcases k with _ | _ | k
        · cases hk
          exact ⟨9, fs, R_Ise, F_Ise, 0, 12, [R_Ise], hcell, rfl, by rw [het]; exact hs_here (by decide) (by decide) (by decide +kernel), g_astore_n hC dw_free_12 rfl (by decide) (g_iconst (v := nI 1) hC dw_free_13 (by decide) (g_ireturn hC rfl dw_free_14))⟩
        · cases hk
          exact ⟨10, fs, R_Iae, F_Iae, 0, 15, [R_Ise, R_Iae], hcell, rfl, by rw [het]; exact hs_next (by decide) (by decide) (by decide +kernel) (hP _ (by decide) _ (by decide) (by decide)) (hs_here (by decide) (by decide) (by decide +kernel)), g_astore_n hC dw_free_15 rfl (by decide) (g_iconst (v := nI 2) hC dw_free_16 (by decide) (g_ireturn hC rfl dw_free_17))⟩
        · cases hk
    · cases hF
abbrev tb_Sh_cut : List (Nat × jx_Mt) := [(0, f_Sh_cut)]
theorem ve_Sh_cut {fr lo : Nat} (h1 : 8 ≤ fr) (h2 : 157 ≤ lo) : ∀ q ∈ tb_Sh_cut, jx_ve ⟨"ExtentShelf", "cut", "(I)V"⟩ 1 fr lo q.1 q.2 := tv_1 ⟨R_Shelf, F_Shelf, 5, ⟨"ExtentShelf", "cut", "(I)V"⟩, z_Sh_cut, rfl, by decide +kernel, mw_Sh_cut, by decide +kernel, me_Sh_cut, Nat.le_trans (by decide) h1, Nat.le_trans (by decide) h2⟩
theorem dc_Sh_cut : jx_dc ⟨"ExtentShelf", "cut", "(I)V"⟩ := ⟨⟨by decide, by decide⟩, Or.inr ⟨by decide +kernel, prog_1_method_41_code, 2, _, (by decide +kernel : Cond.code ⟨"ExtentShelf", "cut", "(I)V"⟩ prog_1_method_41_code 2 none ∈ jx_tbl)⟩, "ExtentShelf", ⟨"ExtentShelf", "cut", "(I)V"⟩, ⟨"ExtentShelf", "cut", "(I)V"⟩, by decide +kernel, rfl⟩
theorem ll_cut : jx_lm "ExtentShelfLaw" 70 ⟨"ExtentShelf", "cut", "(I)V"⟩ := Or.inl (by decide +kernel)
abbrev z_w_cut : jx_Z := ("ExtentShelfLaw", "cut", method_18_code, 3, some .int, 8, 157)
abbrev hs_w_cut : List (Nat × Nat × Nat × Nat) := [(0, 5, 8, 13), (0, 5, 11, 15)]
theorem mw_w_cut : jx_mwH ⟨"ExtentShelfLaw", "cut", "(LExtentShelf;I)I"⟩ z_w_cut hs_w_cut := ⟨rfl, rfl, by decide +kernel, ⟨by decide, by decide⟩, by decide +kernel⟩
theorem dw_cut_0 : decode z_w_cut.2.2.1 0 = .ok (.aload_n 0, 1) := by decide +kernel
theorem dw_cut_1 : decode z_w_cut.2.2.1 1 = .ok (.iload_n 1, 1) := by decide +kernel
theorem dw_cut_2 : decode z_w_cut.2.2.1 2 = .ok (.invokevirtual 70, 3) := by decide +kernel
theorem dw_cut_5 : decode z_w_cut.2.2.1 5 = .ok (.goto 9, 3) := by decide +kernel
theorem dw_cut_8 : decode z_w_cut.2.2.1 8 = .ok (.astore_n 2, 1) := by decide +kernel
theorem dw_cut_9 : decode z_w_cut.2.2.1 9 = .ok (.iconst 1, 1) := by decide +kernel
theorem dw_cut_10 : decode z_w_cut.2.2.1 10 = .ok (.ireturn, 1) := by decide +kernel
theorem dw_cut_11 : decode z_w_cut.2.2.1 11 = .ok (.astore_n 2, 1) := by decide +kernel
theorem dw_cut_12 : decode z_w_cut.2.2.1 12 = .ok (.iconst 2, 1) := by decide +kernel
theorem dw_cut_13 : decode z_w_cut.2.2.1 13 = .ok (.ireturn, 1) := by decide +kernel
theorem dw_cut_14 : decode z_w_cut.2.2.1 14 = .ok (.iconst 0, 1) := by decide +kernel
theorem dw_cut_15 : decode z_w_cut.2.2.1 15 = .ok (.ireturn, 1) := by decide +kernel
def w_cut : jx_Mt := fun vs h => match vs with
  | [.ref x, .int a1] => wV (jx_ev tb_Sh_cut [.ref x, .int a1] [] h) [9, 10]
  | _ => none
set_option maxHeartbeats 4000000 in
theorem me_w_cut : jx_MeH 2 z_w_cut hs_w_cut jx_P w_cut := by
  refine jx_MeH.of (by decide) (fun vs h o h' hF => ?_) (fun vs h o h' hF p l e R s m args below meth c V u hC hP het hfit hs hu => ?_)
  · unfold w_cut at hF
    split at hF
    · rename_i x a1
      exact ⟨wV_le (fun r hr => (jx_vcH (Z := z_w_cut) (k := 16) (ve_Sh_cut (by decide) (by decide)) dc_Sh_cut (by decide) ll_cut pd_Sh_cut dw_cut_2 _ [] h r hr).1) hF, rfl, rfl⟩
    · cases hF
  · unfold w_cut at hF
    split at hF
    · rename_i x a1
      show jx_G p l e R s m args below meth c V u o h' 0 [.ref x, .int a1, .double 0] [] h
      refine g_aload_n hC dw_cut_0 rfl rfl ?_
      refine g_iload_n hC dw_cut_1 rfl rfl ?_
      rcases wV_sp hF with ⟨h1, hev, rfl, rfl⟩ | ⟨y, h1, k, ci, fs, hev, hk, hcell, rfl, rfl⟩
      · refine (jx_vcH (Z := z_w_cut) (k := 16) (ve_Sh_cut (by decide) (by decide)) dc_Sh_cut (by decide) ll_cut pd_Sh_cut dw_cut_2 [.ref x, .int a1] [.ref x, .int a1, .double 0] h _ hev).2 p l e R s m args below meth c V u _ _ hC hfit hs hu (jx_le.rf _) [] (by decide) (fun v2 h2 q2 => ?_) (fun y2 h2 q2 => by cases q2)
        cases q2
        exact g_goto (tgt := 14) hC dw_cut_5 (by decide) (g_iconst (v := nI 0) hC dw_cut_14 (by decide) (g_ireturn hC rfl dw_cut_15))
      · refine (jx_vcH (Z := z_w_cut) (k := 16) (ve_Sh_cut (by decide) (by decide)) dc_Sh_cut (by decide) ll_cut pd_Sh_cut dw_cut_2 [.ref x, .int a1] [.ref x, .int a1, .double 0] h _ hev).2 p l e R s m args below meth c V u _ _ hC hfit hs hu (jx_le.rf _) [] (by decide) (fun v2 h2 q2 => by cases q2) (fun y2 h2 q2 => ?_)
        cases q2
        rcases k with _ | _ | k
        · cases hk
          exact ⟨9, fs, R_Ise, F_Ise, 0, 8, [R_Ise], hcell, rfl, by rw [het]; exact hs_here (by decide) (by decide) (by decide +kernel), g_astore_n hC dw_cut_8 rfl (by decide) (g_iconst (v := nI 1) hC dw_cut_9 (by decide) (g_ireturn hC rfl dw_cut_10))⟩
        · cases hk
          exact ⟨10, fs, R_Iae, F_Iae, 0, 11, [R_Ise, R_Iae], hcell, rfl, by rw [het]; exact hs_next (by decide) (by decide) (by decide +kernel) (hP _ (by decide) _ (by decide) (by decide)) (hs_here (by decide) (by decide) (by decide +kernel)), g_astore_n hC dw_cut_11 rfl (by decide) (g_iconst (v := nI 2) hC dw_cut_12 (by decide) (g_ireturn hC rfl dw_cut_13))⟩
        · cases hk
    · cases hF
abbrev tb_Sh_off : List (Nat × jx_Mt) := [(0, f_Sh_off)]
theorem ve_Sh_off {fr lo : Nat} (h1 : 8 ≤ fr) (h2 : 156 ≤ lo) : ∀ q ∈ tb_Sh_off, jx_ve ⟨"ExtentShelf", "off", "()V"⟩ 0 fr lo q.1 q.2 := tv_1 ⟨R_Shelf, F_Shelf, 5, ⟨"ExtentShelf", "off", "()V"⟩, z_Sh_off, rfl, by decide +kernel, mw_Sh_off, by decide +kernel, me_Sh_off, Nat.le_trans (by decide) h1, Nat.le_trans (by decide) h2⟩
theorem dc_Sh_off : jx_dc ⟨"ExtentShelf", "off", "()V"⟩ := ⟨⟨by decide, by decide⟩, Or.inr ⟨by decide +kernel, prog_1_method_42_code, 1, _, (by decide +kernel : Cond.code ⟨"ExtentShelf", "off", "()V"⟩ prog_1_method_42_code 1 none ∈ jx_tbl)⟩, "ExtentShelf", ⟨"ExtentShelf", "off", "()V"⟩, ⟨"ExtentShelf", "off", "()V"⟩, by decide +kernel, rfl⟩
theorem ll_off : jx_lm "ExtentShelfLaw" 73 ⟨"ExtentShelf", "off", "()V"⟩ := Or.inl (by decide +kernel)
abbrev z_w_off : jx_Z := ("ExtentShelfLaw", "off", method_19_code, 2, some .int, 8, 156)
abbrev hs_w_off : List (Nat × Nat × Nat × Nat) := [(0, 4, 7, 13)]
theorem mw_w_off : jx_mwH ⟨"ExtentShelfLaw", "off", "(LExtentShelf;)I"⟩ z_w_off hs_w_off := ⟨rfl, rfl, by decide +kernel, ⟨by decide, by decide⟩, by decide +kernel⟩
theorem dw_off_0 : decode z_w_off.2.2.1 0 = .ok (.aload_n 0, 1) := by decide +kernel
theorem dw_off_1 : decode z_w_off.2.2.1 1 = .ok (.invokevirtual 73, 3) := by decide +kernel
theorem dw_off_4 : decode z_w_off.2.2.1 4 = .ok (.goto 6, 3) := by decide +kernel
theorem dw_off_7 : decode z_w_off.2.2.1 7 = .ok (.astore_n 1, 1) := by decide +kernel
theorem dw_off_8 : decode z_w_off.2.2.1 8 = .ok (.iconst 1, 1) := by decide +kernel
theorem dw_off_9 : decode z_w_off.2.2.1 9 = .ok (.ireturn, 1) := by decide +kernel
theorem dw_off_10 : decode z_w_off.2.2.1 10 = .ok (.iconst 0, 1) := by decide +kernel
theorem dw_off_11 : decode z_w_off.2.2.1 11 = .ok (.ireturn, 1) := by decide +kernel
def w_off : jx_Mt := fun vs h => match vs with
  | [.ref x] => wV (jx_ev tb_Sh_off [.ref x] [] h) [9]
  | _ => none
set_option maxHeartbeats 4000000 in
theorem me_w_off : jx_MeH 1 z_w_off hs_w_off jx_P w_off := by
  refine jx_MeH.of (by decide) (fun vs h o h' hF => ?_) (fun vs h o h' hF p l e R s m args below meth c V u hC hP het hfit hs hu => ?_)
  · unfold w_off at hF
    split at hF
    · rename_i x
      exact ⟨wV_le (fun r hr => (jx_vcH (Z := z_w_off) (k := 16) (ve_Sh_off (by decide) (by decide)) dc_Sh_off (by decide) ll_off pd_Sh_off dw_off_1 _ [] h r hr).1) hF, rfl, rfl⟩
    · cases hF
  · unfold w_off at hF
    split at hF
    · rename_i x
      show jx_G p l e R s m args below meth c V u o h' 0 [.ref x, .double 0] [] h
      refine g_aload_n hC dw_off_0 rfl rfl ?_
      rcases wV_sp hF with ⟨h1, hev, rfl, rfl⟩ | ⟨y, h1, k, ci, fs, hev, hk, hcell, rfl, rfl⟩
      · refine (jx_vcH (Z := z_w_off) (k := 16) (ve_Sh_off (by decide) (by decide)) dc_Sh_off (by decide) ll_off pd_Sh_off dw_off_1 [.ref x] [.ref x, .double 0] h _ hev).2 p l e R s m args below meth c V u _ _ hC hfit hs hu (jx_le.rf _) [] (by decide) (fun v2 h2 q2 => ?_) (fun y2 h2 q2 => by cases q2)
        cases q2
        exact g_goto (tgt := 10) hC dw_off_4 (by decide) (g_iconst (v := nI 0) hC dw_off_10 (by decide) (g_ireturn hC rfl dw_off_11))
      · refine (jx_vcH (Z := z_w_off) (k := 16) (ve_Sh_off (by decide) (by decide)) dc_Sh_off (by decide) ll_off pd_Sh_off dw_off_1 [.ref x] [.ref x, .double 0] h _ hev).2 p l e R s m args below meth c V u _ _ hC hfit hs hu (jx_le.rf _) [] (by decide) (fun v2 h2 q2 => by cases q2) (fun y2 h2 q2 => ?_)
        cases q2
        rcases k with _ | k
        · cases hk
          exact ⟨9, fs, R_Ise, F_Ise, 0, 7, [R_Ise], hcell, rfl, by rw [het]; exact hs_here (by decide) (by decide) (by decide +kernel), g_astore_n hC dw_off_7 rfl (by decide) (g_iconst (v := nI 1) hC dw_off_8 (by decide) (g_ireturn hC rfl dw_off_9))⟩
        · cases hk
    · cases hF
abbrev tb_Sh_plug : List (Nat × jx_Mt) := [(0, f_Sh_plug)]
theorem ve_Sh_plug {fr lo : Nat} (h1 : 8 ≤ fr) (h2 : 159 ≤ lo) : ∀ q ∈ tb_Sh_plug, jx_ve ⟨"ExtentShelf", "plug", "(IZ)Z"⟩ 2 fr lo q.1 q.2 := tv_1 ⟨R_Shelf, F_Shelf, 5, ⟨"ExtentShelf", "plug", "(IZ)Z"⟩, z_Sh_plug, rfl, by decide +kernel, mw_Sh_plug, by decide +kernel, me_Sh_plug, Nat.le_trans (by decide) h1, Nat.le_trans (by decide) h2⟩
theorem dc_Sh_plug : jx_dc ⟨"ExtentShelf", "plug", "(IZ)Z"⟩ := ⟨⟨by decide, by decide⟩, Or.inr ⟨by decide +kernel, prog_1_method_43_code, 4, _, (by decide +kernel : Cond.code ⟨"ExtentShelf", "plug", "(IZ)Z"⟩ prog_1_method_43_code 4 (some .boolean) ∈ jx_tbl)⟩, "ExtentShelf", ⟨"ExtentShelf", "plug", "(IZ)Z"⟩, ⟨"ExtentShelf", "plug", "(IZ)Z"⟩, by decide +kernel, rfl⟩
theorem ll_plug : jx_lm "ExtentShelfLaw" 76 ⟨"ExtentShelf", "plug", "(IZ)Z"⟩ := Or.inl (by decide +kernel)
abbrev z_w_plug : jx_Z := ("ExtentShelfLaw", "plug", method_20_code, 5, some .int, 8, 159)
abbrev hs_w_plug : List (Nat × Nat × Nat × Nat) := [(0, 17, 20, 13), (0, 17, 24, 15)]
theorem mw_w_plug : jx_mwH ⟨"ExtentShelfLaw", "plug", "(LExtentShelf;IZ[J)I"⟩ z_w_plug hs_w_plug := ⟨rfl, rfl, by decide +kernel, ⟨by decide, by decide⟩, by decide +kernel⟩
theorem dw_plug_0 : decode z_w_plug.2.2.1 0 = .ok (.aload_n 3, 1) := by decide +kernel
theorem dw_plug_1 : decode z_w_plug.2.2.1 1 = .ok (.iconst 0, 1) := by decide +kernel
theorem dw_plug_2 : decode z_w_plug.2.2.1 2 = .ok (.aload_n 0, 1) := by decide +kernel
theorem dw_plug_3 : decode z_w_plug.2.2.1 3 = .ok (.iload_n 1, 1) := by decide +kernel
theorem dw_plug_4 : decode z_w_plug.2.2.1 4 = .ok (.iload_n 2, 1) := by decide +kernel
theorem dw_plug_5 : decode z_w_plug.2.2.1 5 = .ok (.invokevirtual 76, 3) := by decide +kernel
theorem dw_plug_8 : decode z_w_plug.2.2.1 8 = .ok (.ifCond .eq 7, 3) := by decide +kernel
theorem dw_plug_11 : decode z_w_plug.2.2.1 11 = .ok (.lconst 1, 1) := by decide +kernel
theorem dw_plug_12 : decode z_w_plug.2.2.1 12 = .ok (.goto 4, 3) := by decide +kernel
theorem dw_plug_15 : decode z_w_plug.2.2.1 15 = .ok (.lconst 0, 1) := by decide +kernel
theorem dw_plug_16 : decode z_w_plug.2.2.1 16 = .ok (.lastore, 1) := by decide +kernel
theorem dw_plug_17 : decode z_w_plug.2.2.1 17 = .ok (.goto 11, 3) := by decide +kernel
theorem dw_plug_20 : decode z_w_plug.2.2.1 20 = .ok (.astore 4, 2) := by decide +kernel
theorem dw_plug_22 : decode z_w_plug.2.2.1 22 = .ok (.iconst 1, 1) := by decide +kernel
theorem dw_plug_23 : decode z_w_plug.2.2.1 23 = .ok (.ireturn, 1) := by decide +kernel
theorem dw_plug_24 : decode z_w_plug.2.2.1 24 = .ok (.astore 4, 2) := by decide +kernel
theorem dw_plug_26 : decode z_w_plug.2.2.1 26 = .ok (.iconst 2, 1) := by decide +kernel
theorem dw_plug_27 : decode z_w_plug.2.2.1 27 = .ok (.ireturn, 1) := by decide +kernel
theorem dw_plug_28 : decode z_w_plug.2.2.1 28 = .ok (.iconst 0, 1) := by decide +kernel
theorem dw_plug_29 : decode z_w_plug.2.2.1 29 = .ok (.ireturn, 1) := by decide +kernel
def w_plug : jx_Mt := fun vs h => match vs with
  | [.ref x, .int a1, .int a2, .ref t] => wP (jx_ev tb_Sh_plug [.ref x, .int a1, .int a2] [] h) [9, 10] t
  | _ => none
set_option maxHeartbeats 4000000 in
theorem me_w_plug : jx_MeH 4 z_w_plug hs_w_plug jx_P w_plug := by
  refine jx_MeH.of (by decide) (fun vs h o h' hF => ?_) (fun vs h o h' hF p l e R s m args below meth c V u hC hP het hfit hs hu => ?_)
  · unfold w_plug at hF
    split at hF
    · rename_i x a1 a2 t
      exact ⟨wP_le (fun r hr => (jx_vcH (Z := z_w_plug) (k := 16) (ve_Sh_plug (by decide) (by decide)) dc_Sh_plug (by decide) ll_plug pd_Sh_plug dw_plug_5 _ [] h r hr).1) hF, rfl, rfl⟩
    · cases hF
  · unfold w_plug at hF
    split at hF
    · rename_i x a1 a2 t
      show jx_G p l e R s m args below meth c V u o h' 0 [.ref x, .int a1, .int a2, .ref t, .double 0] [] h
      refine g_aload_n hC dw_plug_0 rfl rfl ?_
      refine g_iconst (v := nI 0) hC dw_plug_1 (by decide) ?_
      refine g_aload_n hC dw_plug_2 rfl rfl ?_
      refine g_iload_n hC dw_plug_3 rfl rfl ?_
      refine g_iload_n hC dw_plug_4 rfl rfl ?_
      rcases wP_sp hF with ⟨v, f, h1, hev, hcell, rfl, rfl⟩ | ⟨y, h1, k, ci, fs, hev, hk, hcell, rfl, rfl⟩
      · refine (jx_vcH (Z := z_w_plug) (k := 16) (ve_Sh_plug (by decide) (by decide)) dc_Sh_plug (by decide) ll_plug pd_Sh_plug dw_plug_5 [.ref x, .int a1, .int a2] [.ref x, .int a1, .int a2, .ref t, .double 0] h _ hev).2 p l e R s m args below meth c V u _ _ hC hfit hs hu (jx_le.rf _) [.int (nI 0), .ref t] (wt_it t) (fun v2 h2 q2 => ?_) (fun y2 h2 q2 => by cases q2)
        cases q2
        refine g_if_eq (tgt := 15) hC dw_plug_8 (by decide) (fun z => ?_) (fun z => ?_)
        · rw [if_pos z]
          exact g_lconst (v := 0) hC dw_plug_15 (by decide) (g_last hC hcell (by decide) (by decide) dw_plug_16 (g_goto (tgt := 28) hC dw_plug_17 (by decide) (g_iconst (v := nI 0) hC dw_plug_28 (by decide) (g_ireturn hC rfl dw_plug_29))))
        · rw [if_neg z]
          exact g_lconst (v := 1) hC dw_plug_11 (by decide) (g_goto (tgt := 16) hC dw_plug_12 (by decide) (g_last hC hcell (by decide) (by decide) dw_plug_16 (g_goto (tgt := 28) hC dw_plug_17 (by decide) (g_iconst (v := nI 0) hC dw_plug_28 (by decide) (g_ireturn hC rfl dw_plug_29)))))
      · refine (jx_vcH (Z := z_w_plug) (k := 16) (ve_Sh_plug (by decide) (by decide)) dc_Sh_plug (by decide) ll_plug pd_Sh_plug dw_plug_5 [.ref x, .int a1, .int a2] [.ref x, .int a1, .int a2, .ref t, .double 0] h _ hev).2 p l e R s m args below meth c V u _ _ hC hfit hs hu (jx_le.rf _) [.int (nI 0), .ref t] (wt_it t) (fun v2 h2 q2 => by cases q2) (fun y2 h2 q2 => ?_)
        cases q2
        rcases k with _ | _ | k
        · cases hk
          exact ⟨9, fs, R_Ise, F_Ise, 0, 20, [R_Ise], hcell, rfl, by rw [het]; exact hs_here (by decide) (by decide) (by decide +kernel), g_astore hC dw_plug_20 (by decide) (g_iconst (v := nI 1) hC dw_plug_22 (by decide) (g_ireturn hC rfl dw_plug_23))⟩
        · cases hk
          exact ⟨10, fs, R_Iae, F_Iae, 0, 24, [R_Ise, R_Iae], hcell, rfl, by rw [het]; exact hs_next (by decide) (by decide) (by decide +kernel) (hP _ (by decide) _ (by decide) (by decide)) (hs_here (by decide) (by decide) (by decide +kernel)), g_astore hC dw_plug_24 (by decide) (g_iconst (v := nI 2) hC dw_plug_26 (by decide) (g_ireturn hC rfl dw_plug_27))⟩
        · cases hk
    · cases hF
abbrev tb_Sh_start : List (Nat × jx_Mt) := [(0, f_Sh_start)]
theorem ve_Sh_start {fr lo : Nat} (h1 : 10 ≤ fr) (h2 : 227 ≤ lo) : ∀ q ∈ tb_Sh_start, jx_ve ⟨"ExtentShelf", "start", "()I"⟩ 0 fr lo q.1 q.2 := tv_1 ⟨R_Shelf, F_Shelf, 5, ⟨"ExtentShelf", "start", "()I"⟩, z_Sh_start, rfl, by decide +kernel, mw_Sh_start, by decide +kernel, me_Sh_start, Nat.le_trans (by decide) h1, Nat.le_trans (by decide) h2⟩
theorem dc_Sh_start : jx_dc ⟨"ExtentShelf", "start", "()I"⟩ := ⟨⟨by decide, by decide⟩, Or.inr ⟨by decide +kernel, prog_1_method_45_code, 7, _, (by decide +kernel : Cond.code ⟨"ExtentShelf", "start", "()I"⟩ prog_1_method_45_code 7 (some .int) ∈ jx_tbl)⟩, "ExtentShelf", ⟨"ExtentShelf", "start", "()I"⟩, ⟨"ExtentShelf", "start", "()I"⟩, by decide +kernel, rfl⟩
theorem ll_start : jx_lm "ExtentShelfLaw" 80 ⟨"ExtentShelf", "start", "()I"⟩ := Or.inl (by decide +kernel)
abbrev z_w_start : jx_Z := ("ExtentShelfLaw", "start", method_21_code, 3, some .int, 10, 227)
abbrev hs_w_start : List (Nat × Nat × Nat × Nat) := [(0, 8, 11, 13)]
theorem mw_w_start : jx_mwH ⟨"ExtentShelfLaw", "start", "(LExtentShelf;[J)I"⟩ z_w_start hs_w_start := ⟨rfl, rfl, by decide +kernel, ⟨by decide, by decide⟩, by decide +kernel⟩
theorem dw_start_0 : decode z_w_start.2.2.1 0 = .ok (.aload_n 1, 1) := by decide +kernel
theorem dw_start_1 : decode z_w_start.2.2.1 1 = .ok (.iconst 0, 1) := by decide +kernel
theorem dw_start_2 : decode z_w_start.2.2.1 2 = .ok (.aload_n 0, 1) := by decide +kernel
theorem dw_start_3 : decode z_w_start.2.2.1 3 = .ok (.invokevirtual 80, 3) := by decide +kernel
theorem dw_start_6 : decode z_w_start.2.2.1 6 = .ok (.i2l, 1) := by decide +kernel
theorem dw_start_7 : decode z_w_start.2.2.1 7 = .ok (.lastore, 1) := by decide +kernel
theorem dw_start_8 : decode z_w_start.2.2.1 8 = .ok (.goto 6, 3) := by decide +kernel
theorem dw_start_11 : decode z_w_start.2.2.1 11 = .ok (.astore_n 2, 1) := by decide +kernel
theorem dw_start_12 : decode z_w_start.2.2.1 12 = .ok (.iconst 1, 1) := by decide +kernel
theorem dw_start_13 : decode z_w_start.2.2.1 13 = .ok (.ireturn, 1) := by decide +kernel
theorem dw_start_14 : decode z_w_start.2.2.1 14 = .ok (.iconst 0, 1) := by decide +kernel
theorem dw_start_15 : decode z_w_start.2.2.1 15 = .ok (.ireturn, 1) := by decide +kernel
def w_start : jx_Mt := fun vs h => match vs with
  | [.ref x, .ref t] => wI (jx_ev tb_Sh_start [.ref x] [] h) [9] t
  | _ => none
set_option maxHeartbeats 4000000 in
theorem me_w_start : jx_MeH 2 z_w_start hs_w_start jx_P w_start := by
  refine jx_MeH.of (by decide) (fun vs h o h' hF => ?_) (fun vs h o h' hF p l e R s m args below meth c V u hC hP het hfit hs hu => ?_)
  · unfold w_start at hF
    split at hF
    · rename_i x t
      exact ⟨wI_le (fun r hr => (jx_vcH (Z := z_w_start) (k := 16) (ve_Sh_start (by decide) (by decide)) dc_Sh_start (by decide) ll_start pd_Sh_start dw_start_3 _ [] h r hr).1) hF, rfl, rfl⟩
    · cases hF
  · unfold w_start at hF
    split at hF
    · rename_i x t
      show jx_G p l e R s m args below meth c V u o h' 0 [.ref x, .ref t, .double 0] [] h
      refine g_aload_n hC dw_start_0 rfl rfl ?_
      refine g_iconst (v := nI 0) hC dw_start_1 (by decide) ?_
      refine g_aload_n hC dw_start_2 rfl rfl ?_
      rcases wI_sp hF with ⟨v, f, h1, hev, hcell, rfl, rfl⟩ | ⟨y, h1, k, ci, fs, hev, hk, hcell, rfl, rfl⟩
      · refine (jx_vcH (Z := z_w_start) (k := 16) (ve_Sh_start (by decide) (by decide)) dc_Sh_start (by decide) ll_start pd_Sh_start dw_start_3 [.ref x] [.ref x, .ref t, .double 0] h _ hev).2 p l e R s m args below meth c V u _ _ hC hfit hs hu (jx_le.rf _) [.int (nI 0), .ref t] (wt_it t) (fun v2 h2 q2 => ?_) (fun y2 h2 q2 => by cases q2)
        cases q2
        exact g_i2l hC dw_start_6 (g_last hC hcell (by decide) (by decide) dw_start_7 (g_goto (tgt := 14) hC dw_start_8 (by decide) (g_iconst (v := nI 0) hC dw_start_14 (by decide) (g_ireturn hC rfl dw_start_15))))
      · refine (jx_vcH (Z := z_w_start) (k := 16) (ve_Sh_start (by decide) (by decide)) dc_Sh_start (by decide) ll_start pd_Sh_start dw_start_3 [.ref x] [.ref x, .ref t, .double 0] h _ hev).2 p l e R s m args below meth c V u _ _ hC hfit hs hu (jx_le.rf _) [.int (nI 0), .ref t] (wt_it t) (fun v2 h2 q2 => by cases q2) (fun y2 h2 q2 => ?_)
        cases q2
        rcases k with _ | k
        · cases hk
          exact ⟨9, fs, R_Ise, F_Ise, 0, 11, [R_Ise], hcell, rfl, by rw [het]; exact hs_here (by decide) (by decide) (by decide +kernel), g_astore_n hC dw_start_11 rfl (by decide) (g_iconst (v := nI 1) hC dw_start_12 (by decide) (g_ireturn hC rfl dw_start_13))⟩
        · cases hk
    · cases hF
abbrev tb_Sh_look : List (Nat × jx_Mt) := [(0, f_Sh_look)]
theorem ve_Sh_look {fr lo : Nat} (h1 : 7 ≤ fr) (h2 : 131 ≤ lo) : ∀ q ∈ tb_Sh_look, jx_ve ⟨"ExtentShelf", "look", "(III)I"⟩ 3 fr lo q.1 q.2 := tv_1 ⟨R_Shelf, F_Shelf, 5, ⟨"ExtentShelf", "look", "(III)I"⟩, z_Sh_look, rfl, by decide +kernel, mw_Sh_look, by decide +kernel, me_Sh_look, Nat.le_trans (by decide) h1, Nat.le_trans (by decide) h2⟩
theorem dc_Sh_look : jx_dc ⟨"ExtentShelf", "look", "(III)I"⟩ := ⟨⟨by decide, by decide⟩, Or.inr ⟨by decide +kernel, prog_1_method_40_code, 4, _, (by decide +kernel : Cond.code ⟨"ExtentShelf", "look", "(III)I"⟩ prog_1_method_40_code 4 (some .int) ∈ jx_tbl)⟩, "ExtentShelf", ⟨"ExtentShelf", "look", "(III)I"⟩, ⟨"ExtentShelf", "look", "(III)I"⟩, by decide +kernel, rfl⟩
theorem ll_look : jx_lm "ExtentShelfLaw" 83 ⟨"ExtentShelf", "look", "(III)I"⟩ := Or.inl (by decide +kernel)
abbrev z_w_look : jx_Z := ("ExtentShelfLaw", "look", method_22_code, 6, some .int, 7, 131)
abbrev hs_w_look : List (Nat × Nat × Nat × Nat) := [(0, 12, 15, 49)]
theorem mw_w_look : jx_mwH ⟨"ExtentShelfLaw", "look", "(LExtentShelf;III[J)I"⟩ z_w_look hs_w_look := ⟨rfl, rfl, by decide +kernel, ⟨by decide, by decide⟩, by decide +kernel⟩
theorem dw_look_0 : decode z_w_look.2.2.1 0 = .ok (.aload 4, 2) := by decide +kernel
theorem dw_look_2 : decode z_w_look.2.2.1 2 = .ok (.iconst 0, 1) := by decide +kernel
theorem dw_look_3 : decode z_w_look.2.2.1 3 = .ok (.aload_n 0, 1) := by decide +kernel
theorem dw_look_4 : decode z_w_look.2.2.1 4 = .ok (.iload_n 1, 1) := by decide +kernel
theorem dw_look_5 : decode z_w_look.2.2.1 5 = .ok (.iload_n 2, 1) := by decide +kernel
theorem dw_look_6 : decode z_w_look.2.2.1 6 = .ok (.iload_n 3, 1) := by decide +kernel
theorem dw_look_7 : decode z_w_look.2.2.1 7 = .ok (.invokevirtual 83, 3) := by decide +kernel
theorem dw_look_10 : decode z_w_look.2.2.1 10 = .ok (.i2l, 1) := by decide +kernel
theorem dw_look_11 : decode z_w_look.2.2.1 11 = .ok (.lastore, 1) := by decide +kernel
theorem dw_look_12 : decode z_w_look.2.2.1 12 = .ok (.goto 7, 3) := by decide +kernel
theorem dw_look_15 : decode z_w_look.2.2.1 15 = .ok (.astore 5, 2) := by decide +kernel
theorem dw_look_17 : decode z_w_look.2.2.1 17 = .ok (.iconst 1, 1) := by decide +kernel
theorem dw_look_18 : decode z_w_look.2.2.1 18 = .ok (.ireturn, 1) := by decide +kernel
theorem dw_look_19 : decode z_w_look.2.2.1 19 = .ok (.iconst 0, 1) := by decide +kernel
theorem dw_look_20 : decode z_w_look.2.2.1 20 = .ok (.ireturn, 1) := by decide +kernel
def w_look : jx_Mt := fun vs h => match vs with
  | [.ref x, .int a1, .int a2, .int a3, .ref t] => wI (jx_ev tb_Sh_look [.ref x, .int a1, .int a2, .int a3] [] h) [13] t
  | _ => none
set_option maxHeartbeats 4000000 in
theorem me_w_look : jx_MeH 5 z_w_look hs_w_look jx_P w_look := by
  refine jx_MeH.of (by decide) (fun vs h o h' hF => ?_) (fun vs h o h' hF p l e R s m args below meth c V u hC hP het hfit hs hu => ?_)
  · unfold w_look at hF
    split at hF
    · rename_i x a1 a2 a3 t
      exact ⟨wI_le (fun r hr => (jx_vcH (Z := z_w_look) (k := 16) (ve_Sh_look (by decide) (by decide)) dc_Sh_look (by decide) ll_look pd_Sh_look dw_look_7 _ [] h r hr).1) hF, rfl, rfl⟩
    · cases hF
  · unfold w_look at hF
    split at hF
    · rename_i x a1 a2 a3 t
      show jx_G p l e R s m args below meth c V u o h' 0 [.ref x, .int a1, .int a2, .int a3, .ref t, .double 0] [] h
      refine g_aload hC dw_look_0 rfl ?_
      refine g_iconst (v := nI 0) hC dw_look_2 (by decide) ?_
      refine g_aload_n hC dw_look_3 rfl rfl ?_
      refine g_iload_n hC dw_look_4 rfl rfl ?_
      refine g_iload_n hC dw_look_5 rfl rfl ?_
      refine g_iload_n hC dw_look_6 rfl rfl ?_
      rcases wI_sp hF with ⟨v, f, h1, hev, hcell, rfl, rfl⟩ | ⟨y, h1, k, ci, fs, hev, hk, hcell, rfl, rfl⟩
      · refine (jx_vcH (Z := z_w_look) (k := 16) (ve_Sh_look (by decide) (by decide)) dc_Sh_look (by decide) ll_look pd_Sh_look dw_look_7 [.ref x, .int a1, .int a2, .int a3] [.ref x, .int a1, .int a2, .int a3, .ref t, .double 0] h _ hev).2 p l e R s m args below meth c V u _ _ hC hfit hs hu (jx_le.rf _) [.int (nI 0), .ref t] (wt_it t) (fun v2 h2 q2 => ?_) (fun y2 h2 q2 => by cases q2)
        cases q2
        exact g_i2l hC dw_look_10 (g_last hC hcell (by decide) (by decide) dw_look_11 (g_goto (tgt := 19) hC dw_look_12 (by decide) (g_iconst (v := nI 0) hC dw_look_19 (by decide) (g_ireturn hC rfl dw_look_20))))
      · refine (jx_vcH (Z := z_w_look) (k := 16) (ve_Sh_look (by decide) (by decide)) dc_Sh_look (by decide) ll_look pd_Sh_look dw_look_7 [.ref x, .int a1, .int a2, .int a3] [.ref x, .int a1, .int a2, .int a3, .ref t, .double 0] h _ hev).2 p l e R s m args below meth c V u _ _ hC hfit hs hu (jx_le.rf _) [.int (nI 0), .ref t] (wt_it t) (fun v2 h2 q2 => by cases q2) (fun y2 h2 q2 => ?_)
        cases q2
        rcases k with _ | k
        · cases hk
          exact ⟨13, fs, R_Ioe, F_Ioe, 0, 15, [R_Ioe], hcell, rfl, by rw [het]; exact hs_here (by decide) (by decide) (by decide +kernel), g_astore hC dw_look_15 (by decide) (g_iconst (v := nI 1) hC dw_look_17 (by decide) (g_ireturn hC rfl dw_look_18))⟩
        · cases hk
    · cases hF
