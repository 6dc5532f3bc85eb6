-- ===== PART A: goes FIRST, ahead of the names: the tables' words, and 'selects' of the private methods out of them =====
/-- a private method of a class that the tables say can be made, by its rows of tables_1 -/
def lw_okq (q : MethodName × Nat) : Prop := (q.1.cls ≠ "java/lang/invoke/MethodHandle" ∧ q.1.cls ≠ "java/lang/invoke/VarHandle") ∧ Cond.instantiable q.1.cls q.2 ∈ tables_1 ∧ Cond.privateMethod q.1 ∈ tables_1 ∧ Cond.instanceMethod q.1 ∈ tables_1
theorem lw_p0 : lw_okq (⟨"ExtentShelf", "needOn", "()V"⟩, 5) := ⟨⟨by decide +kernel, by decide +kernel⟩, List.mem_of_getElem? (i := 22) (by decide +kernel), List.mem_of_getElem? (i := 125) (by decide +kernel), List.mem_of_getElem? (i := 126) (by decide +kernel)⟩
theorem lw_p1 : lw_okq (⟨"java/lang/Throwable", "fillInStackTrace", "(I)Ljava/lang/Throwable;"⟩, 6) := ⟨⟨by decide +kernel, by decide +kernel⟩, List.mem_of_getElem? (i := 169) (by decide +kernel), List.mem_of_getElem? (i := 167) (by decide +kernel), List.mem_of_getElem? (i := 168) (by decide +kernel)⟩
theorem lw_p2 : lw_okq (⟨"ExtentShelf", "isListed", "(I)Z"⟩, 5) := ⟨⟨by decide +kernel, by decide +kernel⟩, List.mem_of_getElem? (i := 22) (by decide +kernel), List.mem_of_getElem? (i := 221) (by decide +kernel), List.mem_of_getElem? (i := 222) (by decide +kernel)⟩
theorem lw_p3 : lw_okq (⟨"ExtentShelf", "isOneAbsent", "()Z"⟩, 5) := ⟨⟨by decide +kernel, by decide +kernel⟩, List.mem_of_getElem? (i := 22) (by decide +kernel), List.mem_of_getElem? (i := 225) (by decide +kernel), List.mem_of_getElem? (i := 226) (by decide +kernel)⟩
theorem lw_p4 : lw_okq (⟨"ExtentShelf", "change", "(LExtentShelf$Table;)V"⟩, 5) := ⟨⟨by decide +kernel, by decide +kernel⟩, List.mem_of_getElem? (i := 22) (by decide +kernel), List.mem_of_getElem? (i := 319) (by decide +kernel), List.mem_of_getElem? (i := 320) (by decide +kernel)⟩
theorem lw_p5 : lw_okq (⟨"ExtentShelf", "fill", "(LExtentShelf$Table;II)V"⟩, 5) := ⟨⟨by decide +kernel, by decide +kernel⟩, List.mem_of_getElem? (i := 22) (by decide +kernel), List.mem_of_getElem? (i := 397) (by decide +kernel), List.mem_of_getElem? (i := 398) (by decide +kernel)⟩
theorem lw_p6 : lw_okq (⟨"ExtentShelf", "room", "(LExtentShelf$Table;IIII)I"⟩, 5) := ⟨⟨by decide +kernel, by decide +kernel⟩, List.mem_of_getElem? (i := 22) (by decide +kernel), List.mem_of_getElem? (i := 410) (by decide +kernel), List.mem_of_getElem? (i := 411) (by decide +kernel)⟩
theorem lw_p7 : lw_okq (⟨"ExtentShelf", "freeOn", "(LExtentShelf$Table;I)I"⟩, 5) := ⟨⟨by decide +kernel, by decide +kernel⟩, List.mem_of_getElem? (i := 22) (by decide +kernel), List.mem_of_getElem? (i := 414) (by decide +kernel), List.mem_of_getElem? (i := 415) (by decide +kernel)⟩
theorem lw_p8 : lw_okq (⟨"ExtentShelf", "isFree", "(LExtentShelf$Table;I)Z"⟩, 5) := ⟨⟨by decide +kernel, by decide +kernel⟩, List.mem_of_getElem? (i := 22) (by decide +kernel), List.mem_of_getElem? (i := 418) (by decide +kernel), List.mem_of_getElem? (i := 419) (by decide +kernel)⟩
theorem lw_p9 : lw_okq (⟨"ExtentShelf", "isAimed", "(LExtentShelf$Volume;IIII)Z"⟩, 5) := ⟨⟨by decide +kernel, by decide +kernel⟩, List.mem_of_getElem? (i := 22) (by decide +kernel), List.mem_of_getElem? (i := 442) (by decide +kernel), List.mem_of_getElem? (i := 443) (by decide +kernel)⟩
theorem lw_p10 : lw_okq (⟨"ExtentShelf", "put", "(III)V"⟩, 5) := ⟨⟨by decide +kernel, by decide +kernel⟩, List.mem_of_getElem? (i := 22) (by decide +kernel), List.mem_of_getElem? (i := 447) (by decide +kernel), List.mem_of_getElem? (i := 448) (by decide +kernel)⟩
theorem lw_p11 : lw_okq (⟨"ExtentShelf", "volumeAt", "(I)LExtentShelf$Volume;"⟩, 5) := ⟨⟨by decide +kernel, by decide +kernel⟩, List.mem_of_getElem? (i := 22) (by decide +kernel), List.mem_of_getElem? (i := 462) (by decide +kernel), List.mem_of_getElem? (i := 463) (by decide +kernel)⟩
theorem lw_p12 : lw_okq (⟨"ExtentShelf", "get", "(II)I"⟩, 5) := ⟨⟨by decide +kernel, by decide +kernel⟩, List.mem_of_getElem? (i := 22) (by decide +kernel), List.mem_of_getElem? (i := 508) (by decide +kernel), List.mem_of_getElem? (i := 509) (by decide +kernel)⟩
theorem lw_p13 : lw_okq (⟨"ExtentShelf", "isReadable", "(I)Z"⟩, 5) := ⟨⟨by decide +kernel, by decide +kernel⟩, List.mem_of_getElem? (i := 22) (by decide +kernel), List.mem_of_getElem? (i := 545) (by decide +kernel), List.mem_of_getElem? (i := 546) (by decide +kernel)⟩
theorem lw_p14 : lw_okq (⟨"ExtentShelf", "firstLeg", "()I"⟩, 5) := ⟨⟨by decide +kernel, by decide +kernel⟩, List.mem_of_getElem? (i := 22) (by decide +kernel), List.mem_of_getElem? (i := 610) (by decide +kernel), List.mem_of_getElem? (i := 611) (by decide +kernel)⟩
theorem lw_p15 : lw_okq (⟨"ExtentShelf", "isBegun", "(I)Z"⟩, 5) := ⟨⟨by decide +kernel, by decide +kernel⟩, List.mem_of_getElem? (i := 22) (by decide +kernel), List.mem_of_getElem? (i := 614) (by decide +kernel), List.mem_of_getElem? (i := 615) (by decide +kernel)⟩
def lw_privs_1 : List (MethodName × Nat) := [(⟨"ExtentShelf", "needOn", "()V"⟩, 5), (⟨"java/lang/Throwable", "fillInStackTrace", "(I)Ljava/lang/Throwable;"⟩, 6), (⟨"ExtentShelf", "isListed", "(I)Z"⟩, 5), (⟨"ExtentShelf", "isOneAbsent", "()Z"⟩, 5), (⟨"ExtentShelf", "change", "(LExtentShelf$Table;)V"⟩, 5), (⟨"ExtentShelf", "fill", "(LExtentShelf$Table;II)V"⟩, 5), (⟨"ExtentShelf", "room", "(LExtentShelf$Table;IIII)I"⟩, 5), (⟨"ExtentShelf", "freeOn", "(LExtentShelf$Table;I)I"⟩, 5), (⟨"ExtentShelf", "isFree", "(LExtentShelf$Table;I)Z"⟩, 5), (⟨"ExtentShelf", "isAimed", "(LExtentShelf$Volume;IIII)Z"⟩, 5), (⟨"ExtentShelf", "put", "(III)V"⟩, 5), (⟨"ExtentShelf", "volumeAt", "(I)LExtentShelf$Volume;"⟩, 5), (⟨"ExtentShelf", "get", "(II)I"⟩, 5), (⟨"ExtentShelf", "isReadable", "(I)Z"⟩, 5), (⟨"ExtentShelf", "firstLeg", "()I"⟩, 5), (⟨"ExtentShelf", "isBegun", "(I)Z"⟩, 5)]
theorem lw_r1 : ∀ q ∈ lw_privs_1, lw_okq q := List.forall_mem_cons.mpr ⟨lw_p0, List.forall_mem_cons.mpr ⟨lw_p1, List.forall_mem_cons.mpr ⟨lw_p2, List.forall_mem_cons.mpr ⟨lw_p3, List.forall_mem_cons.mpr ⟨lw_p4, List.forall_mem_cons.mpr ⟨lw_p5, List.forall_mem_cons.mpr ⟨lw_p6, List.forall_mem_cons.mpr ⟨lw_p7, List.forall_mem_cons.mpr ⟨lw_p8, List.forall_mem_cons.mpr ⟨lw_p9, List.forall_mem_cons.mpr ⟨lw_p10, List.forall_mem_cons.mpr ⟨lw_p11, List.forall_mem_cons.mpr ⟨lw_p12, List.forall_mem_cons.mpr ⟨lw_p13, List.forall_mem_cons.mpr ⟨lw_p14, List.forall_mem_cons.mpr ⟨lw_p15, fun _ h => absurd h List.not_mem_nil⟩⟩⟩⟩⟩⟩⟩⟩⟩⟩⟩⟩⟩⟩⟩⟩
theorem lw_p16 : lw_okq (⟨"ExtentShelf", "choose", "()V"⟩, 5) := ⟨⟨by decide +kernel, by decide +kernel⟩, List.mem_of_getElem? (i := 22) (by decide +kernel), List.mem_of_getElem? (i := 669) (by decide +kernel), List.mem_of_getElem? (i := 670) (by decide +kernel)⟩
theorem lw_p17 : lw_okq (⟨"ExtentShelf", "alike", "(II)V"⟩, 5) := ⟨⟨by decide +kernel, by decide +kernel⟩, List.mem_of_getElem? (i := 22) (by decide +kernel), List.mem_of_getElem? (i := 678) (by decide +kernel), List.mem_of_getElem? (i := 679) (by decide +kernel)⟩
theorem lw_p18 : lw_okq (⟨"ExtentShelfModel", "isOneAbsent", "()Z"⟩, 13) := ⟨⟨by decide +kernel, by decide +kernel⟩, List.mem_of_getElem? (i := 690) (by decide +kernel), List.mem_of_getElem? (i := 748) (by decide +kernel), List.mem_of_getElem? (i := 749) (by decide +kernel)⟩
theorem lw_p19 : lw_okq (⟨"ExtentShelfModel", "begin", "()V"⟩, 13) := ⟨⟨by decide +kernel, by decide +kernel⟩, List.mem_of_getElem? (i := 690) (by decide +kernel), List.mem_of_getElem? (i := 752) (by decide +kernel), List.mem_of_getElem? (i := 753) (by decide +kernel)⟩
theorem lw_p20 : lw_okq (⟨"ExtentShelfModel", "change", "()V"⟩, 13) := ⟨⟨by decide +kernel, by decide +kernel⟩, List.mem_of_getElem? (i := 690) (by decide +kernel), List.mem_of_getElem? (i := 756) (by decide +kernel), List.mem_of_getElem? (i := 757) (by decide +kernel)⟩
theorem lw_p21 : lw_okq (⟨"ExtentShelfModel", "writeTo", "(I[I)V"⟩, 13) := ⟨⟨by decide +kernel, by decide +kernel⟩, List.mem_of_getElem? (i := 690) (by decide +kernel), List.mem_of_getElem? (i := 760) (by decide +kernel), List.mem_of_getElem? (i := 761) (by decide +kernel)⟩
theorem lw_p22 : lw_okq (⟨"ExtentShelfModel", "slotToWrite", "(I)I"⟩, 13) := ⟨⟨by decide +kernel, by decide +kernel⟩, List.mem_of_getElem? (i := 690) (by decide +kernel), List.mem_of_getElem? (i := 764) (by decide +kernel), List.mem_of_getElem? (i := 765) (by decide +kernel)⟩
theorem lw_p23 : lw_okq (⟨"ExtentShelfModel", "numberOf", "(II)I"⟩, 13) := ⟨⟨by decide +kernel, by decide +kernel⟩, List.mem_of_getElem? (i := 690) (by decide +kernel), List.mem_of_getElem? (i := 768) (by decide +kernel), List.mem_of_getElem? (i := 769) (by decide +kernel)⟩
theorem lw_p24 : lw_okq (⟨"ExtentShelfModel", "mayWrite", "()Z"⟩, 13) := ⟨⟨by decide +kernel, by decide +kernel⟩, List.mem_of_getElem? (i := 690) (by decide +kernel), List.mem_of_getElem? (i := 772) (by decide +kernel), List.mem_of_getElem? (i := 773) (by decide +kernel)⟩
theorem lw_p25 : lw_okq (⟨"ExtentShelfModel", "ended", "(I)I"⟩, 13) := ⟨⟨by decide +kernel, by decide +kernel⟩, List.mem_of_getElem? (i := 690) (by decide +kernel), List.mem_of_getElem? (i := 776) (by decide +kernel), List.mem_of_getElem? (i := 777) (by decide +kernel)⟩
theorem lw_p26 : lw_okq (⟨"ExtentShelfModel", "legsOn", "(I)I"⟩, 13) := ⟨⟨by decide +kernel, by decide +kernel⟩, List.mem_of_getElem? (i := 690) (by decide +kernel), List.mem_of_getElem? (i := 784) (by decide +kernel), List.mem_of_getElem? (i := 785) (by decide +kernel)⟩
theorem lw_p27 : lw_okq (⟨"ExtentShelfModel", "listed", "()I"⟩, 13) := ⟨⟨by decide +kernel, by decide +kernel⟩, List.mem_of_getElem? (i := 690) (by decide +kernel), List.mem_of_getElem? (i := 788) (by decide +kernel), List.mem_of_getElem? (i := 789) (by decide +kernel)⟩
theorem lw_p28 : lw_okq (⟨"ExtentShelfModel", "find", "(II)Z"⟩, 13) := ⟨⟨by decide +kernel, by decide +kernel⟩, List.mem_of_getElem? (i := 690) (by decide +kernel), List.mem_of_getElem? (i := 803) (by decide +kernel), List.mem_of_getElem? (i := 804) (by decide +kernel)⟩
theorem lw_p29 : lw_okq (⟨"ExtentShelfModel", "room", "([IIII)I"⟩, 13) := ⟨⟨by decide +kernel, by decide +kernel⟩, List.mem_of_getElem? (i := 690) (by decide +kernel), List.mem_of_getElem? (i := 813) (by decide +kernel), List.mem_of_getElem? (i := 814) (by decide +kernel)⟩
theorem lw_p30 : lw_okq (⟨"ExtentShelfModel", "meets", "([IIII)Z"⟩, 13) := ⟨⟨by decide +kernel, by decide +kernel⟩, List.mem_of_getElem? (i := 690) (by decide +kernel), List.mem_of_getElem? (i := 817) (by decide +kernel), List.mem_of_getElem? (i := 818) (by decide +kernel)⟩
theorem lw_p31 : lw_okq (⟨"ExtentShelfModel", "freeOn", "([II)I"⟩, 13) := ⟨⟨by decide +kernel, by decide +kernel⟩, List.mem_of_getElem? (i := 690) (by decide +kernel), List.mem_of_getElem? (i := 827) (by decide +kernel), List.mem_of_getElem? (i := 828) (by decide +kernel)⟩
def lw_privs_2 : List (MethodName × Nat) := [(⟨"ExtentShelf", "choose", "()V"⟩, 5), (⟨"ExtentShelf", "alike", "(II)V"⟩, 5), (⟨"ExtentShelfModel", "isOneAbsent", "()Z"⟩, 13), (⟨"ExtentShelfModel", "begin", "()V"⟩, 13), (⟨"ExtentShelfModel", "change", "()V"⟩, 13), (⟨"ExtentShelfModel", "writeTo", "(I[I)V"⟩, 13), (⟨"ExtentShelfModel", "slotToWrite", "(I)I"⟩, 13), (⟨"ExtentShelfModel", "numberOf", "(II)I"⟩, 13), (⟨"ExtentShelfModel", "mayWrite", "()Z"⟩, 13), (⟨"ExtentShelfModel", "ended", "(I)I"⟩, 13), (⟨"ExtentShelfModel", "legsOn", "(I)I"⟩, 13), (⟨"ExtentShelfModel", "listed", "()I"⟩, 13), (⟨"ExtentShelfModel", "find", "(II)Z"⟩, 13), (⟨"ExtentShelfModel", "room", "([IIII)I"⟩, 13), (⟨"ExtentShelfModel", "meets", "([IIII)Z"⟩, 13), (⟨"ExtentShelfModel", "freeOn", "([II)I"⟩, 13)]
theorem lw_r2 : ∀ q ∈ lw_privs_2, lw_okq q := List.forall_mem_cons.mpr ⟨lw_p16, List.forall_mem_cons.mpr ⟨lw_p17, List.forall_mem_cons.mpr ⟨lw_p18, List.forall_mem_cons.mpr ⟨lw_p19, List.forall_mem_cons.mpr ⟨lw_p20, List.forall_mem_cons.mpr ⟨lw_p21, List.forall_mem_cons.mpr ⟨lw_p22, List.forall_mem_cons.mpr ⟨lw_p23, List.forall_mem_cons.mpr ⟨lw_p24, List.forall_mem_cons.mpr ⟨lw_p25, List.forall_mem_cons.mpr ⟨lw_p26, List.forall_mem_cons.mpr ⟨lw_p27, List.forall_mem_cons.mpr ⟨lw_p28, List.forall_mem_cons.mpr ⟨lw_p29, List.forall_mem_cons.mpr ⟨lw_p30, List.forall_mem_cons.mpr ⟨lw_p31, fun _ h => absurd h List.not_mem_nil⟩⟩⟩⟩⟩⟩⟩⟩⟩⟩⟩⟩⟩⟩⟩⟩
theorem lw_p32 : lw_okq (⟨"ExtentShelfModel", "isFree", "([II)Z"⟩, 13) := ⟨⟨by decide +kernel, by decide +kernel⟩, List.mem_of_getElem? (i := 690) (by decide +kernel), List.mem_of_getElem? (i := 831) (by decide +kernel), List.mem_of_getElem? (i := 832) (by decide +kernel)⟩
theorem lw_p33 : lw_okq (⟨"ExtentShelfModel", "clear", "(II)V"⟩, 13) := ⟨⟨by decide +kernel, by decide +kernel⟩, List.mem_of_getElem? (i := 690) (by decide +kernel), List.mem_of_getElem? (i := 838) (by decide +kernel), List.mem_of_getElem? (i := 839) (by decide +kernel)⟩
theorem lw_p34 : lw_okq (⟨"ExtentShelfModel", "put", "(III)V"⟩, 13) := ⟨⟨by decide +kernel, by decide +kernel⟩, List.mem_of_getElem? (i := 690) (by decide +kernel), List.mem_of_getElem? (i := 842) (by decide +kernel), List.mem_of_getElem? (i := 843) (by decide +kernel)⟩
theorem lw_p35 : lw_okq (⟨"ExtentShelfModel", "isVolume", "(I)Z"⟩, 13) := ⟨⟨by decide +kernel, by decide +kernel⟩, List.mem_of_getElem? (i := 690) (by decide +kernel), List.mem_of_getElem? (i := 850) (by decide +kernel), List.mem_of_getElem? (i := 851) (by decide +kernel)⟩
theorem lw_p36 : lw_okq (⟨"ExtentShelfModel", "get", "(II)I"⟩, 13) := ⟨⟨by decide +kernel, by decide +kernel⟩, List.mem_of_getElem? (i := 690) (by decide +kernel), List.mem_of_getElem? (i := 869) (by decide +kernel), List.mem_of_getElem? (i := 870) (by decide +kernel)⟩
theorem lw_p37 : lw_okq (⟨"ExtentShelfModel", "elementOf", "(II)I"⟩, 13) := ⟨⟨by decide +kernel, by decide +kernel⟩, List.mem_of_getElem? (i := 690) (by decide +kernel), List.mem_of_getElem? (i := 877) (by decide +kernel), List.mem_of_getElem? (i := 878) (by decide +kernel)⟩
theorem lw_p38 : lw_okq (⟨"ExtentShelfModel", "isReadable", "(I)Z"⟩, 13) := ⟨⟨by decide +kernel, by decide +kernel⟩, List.mem_of_getElem? (i := 690) (by decide +kernel), List.mem_of_getElem? (i := 881) (by decide +kernel), List.mem_of_getElem? (i := 882) (by decide +kernel)⟩
theorem lw_p39 : lw_okq (⟨"ExtentShelfModel", "wordOf", "(II)I"⟩, 13) := ⟨⟨by decide +kernel, by decide +kernel⟩, List.mem_of_getElem? (i := 690) (by decide +kernel), List.mem_of_getElem? (i := 885) (by decide +kernel), List.mem_of_getElem? (i := 886) (by decide +kernel)⟩
def lw_privs_3 : List (MethodName × Nat) := [(⟨"ExtentShelfModel", "isFree", "([II)Z"⟩, 13), (⟨"ExtentShelfModel", "clear", "(II)V"⟩, 13), (⟨"ExtentShelfModel", "put", "(III)V"⟩, 13), (⟨"ExtentShelfModel", "isVolume", "(I)Z"⟩, 13), (⟨"ExtentShelfModel", "get", "(II)I"⟩, 13), (⟨"ExtentShelfModel", "elementOf", "(II)I"⟩, 13), (⟨"ExtentShelfModel", "isReadable", "(I)Z"⟩, 13), (⟨"ExtentShelfModel", "wordOf", "(II)I"⟩, 13)]
theorem lw_r3 : ∀ q ∈ lw_privs_3, lw_okq q := List.forall_mem_cons.mpr ⟨lw_p32, List.forall_mem_cons.mpr ⟨lw_p33, List.forall_mem_cons.mpr ⟨lw_p34, List.forall_mem_cons.mpr ⟨lw_p35, List.forall_mem_cons.mpr ⟨lw_p36, List.forall_mem_cons.mpr ⟨lw_p37, List.forall_mem_cons.mpr ⟨lw_p38, List.forall_mem_cons.mpr ⟨lw_p39, fun _ h => absurd h List.not_mem_nil⟩⟩⟩⟩⟩⟩⟩⟩
def lw_privs : List (MethodName × Nat) := lw_privs_1 ++ (lw_privs_2 ++ (lw_privs_3))
def lw_tbl : List Cond := k2_sels lw_privs ++ tables_1
theorem lw_privs_ok : ∀ q ∈ lw_privs, lw_okq q := by
  show ∀ q ∈ lw_privs_1 ++ (lw_privs_2 ++ (lw_privs_3)), lw_okq q
  exact List.forall_mem_append.mpr ⟨lw_r1, List.forall_mem_append.mpr ⟨lw_r2, lw_r3⟩⟩
/-! CLASS TABLES: a class, its fields (declaring class, name, descriptor, final), their types -/
def R_Shelf : String := "ExtentShelf"
def F_Shelf : u_T := fun k => match k with
  | 0 => ("ExtentShelf", "disks", "[LExtentShelf$Disk;", true)
  | 1 => ("ExtentShelf", "pen", "LExtentShelf$Pen;", true)
  | 2 => ("ExtentShelf", "table", "LExtentShelf$Table;", false)
  | 3 => ("ExtentShelf", "move", "LExtentShelf$Move;", false)
  | _ => ("ExtentShelf", "words", "[I", true)
def t_Shelf : Nat → FieldType := fun k => match k with
  | 0 => .array (.object "ExtentShelf$Disk")
  | 1 => .object "ExtentShelf$Pen"
  | 2 => .object "ExtentShelf$Table"
  | 3 => .object "ExtentShelf$Move"
  | _ => .array .int
theorem n_Shelf : ∀ a, a < 5 → ∀ b, b < 5 → a ≠ b → (F_Shelf a).2.1 ≠ (F_Shelf b).2.1 := by decide +kernel
theorem t_Shelf_ok : ∀ k, k < 5 → parseFieldDescriptor (F_Shelf k).2.2.1 = some (t_Shelf k) := by decide +kernel
theorem i_Shelf : ∀ w ∈ u_ws R_Shelf F_Shelf 5, w ∈ lw_tbl := by decide +kernel
def R_Disk : String := "ExtentShelf$Disk"
def F_Disk : u_T := fun k => match k with
  | 0 => ("ExtentShelf$Disk", "number", "I", true)
  | 1 => ("ExtentShelf$Disk", "slots", "[I", true)
  | 2 => ("ExtentShelf$Disk", "data", "[I", true)
  | _ => ("ExtentShelf$Disk", "present", "Z", false)
def t_Disk : Nat → FieldType := fun k => match k with
  | 0 => .int
  | 1 => .array .int
  | 2 => .array .int
  | _ => .boolean
theorem n_Disk : ∀ a, a < 4 → ∀ b, b < 4 → a ≠ b → (F_Disk a).2.1 ≠ (F_Disk b).2.1 := by decide +kernel
theorem t_Disk_ok : ∀ k, k < 4 → parseFieldDescriptor (F_Disk k).2.2.1 = some (t_Disk k) := by decide +kernel
theorem i_Disk : ∀ w ∈ u_ws R_Disk F_Disk 4, w ∈ lw_tbl := by decide +kernel
def R_Pen : String := "ExtentShelf$Pen"
def F_Pen : u_T := fun k => match k with
  | 0 => ("ExtentShelf$Pen", "left", "I", false)
  | _ => ("ExtentShelf$Pen", "on", "Z", false)
def t_Pen : Nat → FieldType := fun k => match k with
  | 0 => .int
  | _ => .boolean
theorem n_Pen : ∀ a, a < 2 → ∀ b, b < 2 → a ≠ b → (F_Pen a).2.1 ≠ (F_Pen b).2.1 := by decide +kernel
theorem t_Pen_ok : ∀ k, k < 2 → parseFieldDescriptor (F_Pen k).2.2.1 = some (t_Pen k) := by decide +kernel
theorem i_Pen : ∀ w ∈ u_ws R_Pen F_Pen 2, w ∈ lw_tbl := by decide +kernel
def R_Table : String := "ExtentShelf$Table"
def F_Table : u_T := fun k => match k with
  | 0 => ("ExtentShelf$Table", "number", "I", false)
  | 1 => ("ExtentShelf$Table", "extents", "[I", true)
  | _ => ("ExtentShelf$Table", "volumes", "[LExtentShelf$Volume;", true)
def t_Table : Nat → FieldType := fun k => match k with
  | 0 => .int
  | 1 => .array .int
  | _ => .array (.object "ExtentShelf$Volume")
theorem n_Table : ∀ a, a < 3 → ∀ b, b < 3 → a ≠ b → (F_Table a).2.1 ≠ (F_Table b).2.1 := by decide +kernel
theorem t_Table_ok : ∀ k, k < 3 → parseFieldDescriptor (F_Table k).2.2.1 = some (t_Table k) := by decide +kernel
theorem i_Table : ∀ w ∈ u_ws R_Table F_Table 3, w ∈ lw_tbl := by decide +kernel
def R_Move : String := "ExtentShelf$Move"
def F_Move : u_T := fun k => match k with
  | 0 => ("ExtentShelf$Move", "disk", "I", true)
  | 1 => ("ExtentShelf$Move", "volume", "I", false)
  | 2 => ("ExtentShelf$Move", "leg", "I", false)
  | 3 => ("ExtentShelf$Move", "from", "I", false)
  | 4 => ("ExtentShelf$Move", "to", "I", false)
  | _ => ("ExtentShelf$Move", "copied", "I", false)
def t_Move : Nat → FieldType := fun k => match k with
  | 0 => .int
  | 1 => .int
  | 2 => .int
  | 3 => .int
  | 4 => .int
  | _ => .int
theorem n_Move : ∀ a, a < 6 → ∀ b, b < 6 → a ≠ b → (F_Move a).2.1 ≠ (F_Move b).2.1 := by decide +kernel
theorem t_Move_ok : ∀ k, k < 6 → parseFieldDescriptor (F_Move k).2.2.1 = some (t_Move k) := by decide +kernel
theorem i_Move : ∀ w ∈ u_ws R_Move F_Move 6, w ∈ lw_tbl := by decide +kernel
def R_Linear : String := "ExtentShelf$Linear"
def F_Linear : u_T := fun k => match k with
  | 0 => ("ExtentShelf$Volume", "columns", "I", true)
  | 1 => ("ExtentShelf$Volume", "elements", "I", false)
  | _ => ("ExtentShelf$Volume", "legs", "[I", true)
def t_Linear : Nat → FieldType := fun k => match k with
  | 0 => .int
  | 1 => .int
  | _ => .array .int
theorem n_Linear : ∀ a, a < 3 → ∀ b, b < 3 → a ≠ b → (F_Linear a).2.1 ≠ (F_Linear b).2.1 := by decide +kernel
theorem t_Linear_ok : ∀ k, k < 3 → parseFieldDescriptor (F_Linear k).2.2.1 = some (t_Linear k) := by decide +kernel
theorem i_Linear : ∀ w ∈ u_ws R_Linear F_Linear 3, w ∈ lw_tbl := by decide +kernel
def R_Striped : String := "ExtentShelf$Striped"
def F_Striped : u_T := fun k => match k with
  | 0 => ("ExtentShelf$Volume", "columns", "I", true)
  | 1 => ("ExtentShelf$Volume", "elements", "I", false)
  | _ => ("ExtentShelf$Volume", "legs", "[I", true)
def t_Striped : Nat → FieldType := fun k => match k with
  | 0 => .int
  | 1 => .int
  | _ => .array .int
theorem n_Striped : ∀ a, a < 3 → ∀ b, b < 3 → a ≠ b → (F_Striped a).2.1 ≠ (F_Striped b).2.1 := by decide +kernel
theorem t_Striped_ok : ∀ k, k < 3 → parseFieldDescriptor (F_Striped k).2.2.1 = some (t_Striped k) := by decide +kernel
theorem i_Striped : ∀ w ∈ u_ws R_Striped F_Striped 3, w ∈ lw_tbl := by decide +kernel
def R_Twinned : String := "ExtentShelf$Twinned"
def F_Twinned : u_T := fun k => match k with
  | 0 => ("ExtentShelf$Volume", "columns", "I", true)
  | 1 => ("ExtentShelf$Volume", "elements", "I", false)
  | _ => ("ExtentShelf$Volume", "legs", "[I", true)
def t_Twinned : Nat → FieldType := fun k => match k with
  | 0 => .int
  | 1 => .int
  | _ => .array .int
theorem n_Twinned : ∀ a, a < 3 → ∀ b, b < 3 → a ≠ b → (F_Twinned a).2.1 ≠ (F_Twinned b).2.1 := by decide +kernel
theorem t_Twinned_ok : ∀ k, k < 3 → parseFieldDescriptor (F_Twinned k).2.2.1 = some (t_Twinned k) := by decide +kernel
theorem i_Twinned : ∀ w ∈ u_ws R_Twinned F_Twinned 3, w ∈ lw_tbl := by decide +kernel
def R_Model : String := "ExtentShelfModel"
def F_Model : u_T := fun k => match k with
  | 0 => ("ExtentShelfModel", "thrown", "I", false)
  | 1 => ("ExtentShelfModel", "present", "[Z", true)
  | 2 => ("ExtentShelfModel", "slots", "[I", true)
  | 3 => ("ExtentShelfModel", "data", "[I", true)
  | 4 => ("ExtentShelfModel", "on", "Z", false)
  | 5 => ("ExtentShelfModel", "left", "I", false)
  | 6 => ("ExtentShelfModel", "table", "[I", true)
  | 7 => ("ExtentShelfModel", "next", "[I", true)
  | 8 => ("ExtentShelfModel", "moved", "I", false)
  | 9 => ("ExtentShelfModel", "copyVolume", "I", false)
  | 10 => ("ExtentShelfModel", "copyLeg", "I", false)
  | 11 => ("ExtentShelfModel", "copyTo", "I", false)
  | _ => ("ExtentShelfModel", "copied", "I", false)
def t_Model : Nat → FieldType := fun k => match k with
  | 0 => .int
  | 1 => .array .boolean
  | 2 => .array .int
  | 3 => .array .int
  | 4 => .boolean
  | 5 => .int
  | 6 => .array .int
  | 7 => .array .int
  | 8 => .int
  | 9 => .int
  | 10 => .int
  | 11 => .int
  | _ => .int
theorem n_Model : ∀ a, a < 13 → ∀ b, b < 13 → a ≠ b → (F_Model a).2.1 ≠ (F_Model b).2.1 := by decide +kernel
theorem t_Model_ok : ∀ k, k < 13 → parseFieldDescriptor (F_Model k).2.2.1 = some (t_Model k) := by decide +kernel
theorem i_Model : ∀ w ∈ u_ws R_Model F_Model 13, w ∈ lw_tbl := by decide +kernel
def R_Ise : String := "java/lang/IllegalStateException"
def F_Ise : u_T := fun _ => ("","","",false)
def R_Iae : String := "java/lang/IllegalArgumentException"
def F_Iae : u_T := fun _ => ("","","",false)
def R_Uoe : String := "java/lang/UnsupportedOperationException"
def F_Uoe : u_T := fun _ => ("","","",false)
def R_Nse : String := "java/util/NoSuchElementException"
def F_Nse : u_T := fun _ => ("","","",false)
def R_Ioe : String := "java/lang/IndexOutOfBoundsException"
def F_Ioe : u_T := fun _ => ("","","",false)
abbrev jx_cl : List vw_C := [(R_Shelf, F_Shelf, 5), (R_Disk, F_Disk, 4), (R_Pen, F_Pen, 2), (R_Table, F_Table, 3), (R_Move, F_Move, 6), (R_Linear, F_Linear, 3), (R_Striped, F_Striped, 3), (R_Twinned, F_Twinned, 3), (R_Model, F_Model, 13), (R_Ise, F_Ise, 0), (R_Iae, F_Iae, 0), (R_Uoe, F_Uoe, 0), (R_Nse, F_Nse, 0), (R_Ioe, F_Ioe, 0)]
abbrev jx_ty : Nat → FieldType := fun k => match k with
  | 0 => .int
  | 1 => .long
  | 2 => .boolean
  | 3 => .object "ExtentShelf$Disk"
  | _ => .object "ExtentShelf$Volume"
def jx_tbl : List Cond := lw_tbl.filter goodWord
theorem jx_good {w : Cond} (h : w ∈ jx_tbl) : (w.onTables && w.keeps) = true ∨ ∃ ty, w = .arrayClass ty := good_of_word (List.mem_filter.mp h).2
