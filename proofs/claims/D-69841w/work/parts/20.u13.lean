/-! printed by gen_all.py: what the methods compute -/
set_option maxRecDepth 100000
/-! SchemaPascalModel.thrown()I -/
theorem zm_8001 {σ : Nat → Nat} {n0 : Nat} {bf : ab_B} : ab_code (zx σ n0 bf).1 8001 = prog_17_method_2_code := rfl
theorem zq_8001 {σ : Nat → Nat} {n0 : Nat} {bf : ab_B} : ab_maxL (zx σ n0 bf).1 8001 = 1 := rfl
theorem zr_8001 {σ : Nat → Nat} {n0 : Nat} {bf : ab_B} : ab_ret (zx σ n0 bf).1 8001 = (Option.some Jvm.ClassFile.FieldType.int) := rfl
theorem d_8001_0 {σ : Nat → Nat} {n0 : Nat} {bf : ab_B} : decode (ab_code (zx σ n0 bf).1 8001) 0 = .ok (.aload_n 0, 1) := zd zm_8001 (by decide +kernel)
theorem d_8001_1 {σ : Nat → Nat} {n0 : Nat} {bf : ab_B} : decode (ab_code (zx σ n0 bf).1 8001) 1 = .ok (.getfield 441, 3) := zd zm_8001 (by decide +kernel)
theorem d_8001_4 {σ : Nat → Nat} {n0 : Nat} {bf : ab_B} : decode (ab_code (zx σ n0 bf).1 8001) 4 = .ok (.ireturn, 1) := zd zm_8001 (by decide +kernel)
def w_X9_thrown (X : zs_X) (d : Nat) (p0 : Nat) (S : zs_T) (Q : zs_Q) : Prop :=
  (zs_K S p0 = some (.inl 8) ∧ Q (.returned (some (.int (zs_I S 8000 p0)))) S)
theorem u_X9_thrown {σ : Nat → Nat} {n0 : Nat} {bf : ab_B} {d : Nat} {p0 : Nat} {S : zs_T} {Q : zs_Q} (hB : zt_B bf) (hd : 1 ≤ d) (h : w_X9_thrown (zx σ n0 bf) (d - 1) p0 S Q) : zs_C (zx σ n0 bf) d 8001 [.ref p0] S Q := by
  have hL : lv_args 0 [.ref p0] = [(0, .ref p0)] := rfl
  refine zs_C.of1 (hB.2 8001 (by decide) (by decide)) hd (by rw [hL]; exact zs_sub_self _ (by exact ⟨rfl, trivial⟩)) ?_
  rw [hL]
  clear hL
  unfold w_X9_thrown at h
  refine zu_aload_n d_8001_0 rfl (zs_ra _) ?_
  obtain ⟨k1, h⟩ := h
  refine zg_8_441 rfl d_8001_1 k1 ?_
  exact zu_iret d_8001_4 zr_8001 rfl h
/-! SchemaPascalModel.compile()I -/
theorem zm_8002 {σ : Nat → Nat} {n0 : Nat} {bf : ab_B} : ab_code (zx σ n0 bf).1 8002 = prog_17_method_202_code := rfl
theorem zq_8002 {σ : Nat → Nat} {n0 : Nat} {bf : ab_B} : ab_maxL (zx σ n0 bf).1 8002 = 5 := rfl
theorem zr_8002 {σ : Nat → Nat} {n0 : Nat} {bf : ab_B} : ab_ret (zx σ n0 bf).1 8002 = (Option.some Jvm.ClassFile.FieldType.int) := rfl
theorem d_8002_0 {σ : Nat → Nat} {n0 : Nat} {bf : ab_B} : decode (ab_code (zx σ n0 bf).1 8002) 0 = .ok (.aload_n 0, 1) := zd zm_8002 (by decide +kernel)
theorem d_8002_1 {σ : Nat → Nat} {n0 : Nat} {bf : ab_B} : decode (ab_code (zx σ n0 bf).1 8002) 1 = .ok (.iconst 0, 1) := zd zm_8002 (by decide +kernel)
theorem d_8002_2 {σ : Nat → Nat} {n0 : Nat} {bf : ab_B} : decode (ab_code (zx σ n0 bf).1 8002) 2 = .ok (.putfield 441, 3) := zd zm_8002 (by decide +kernel)
theorem d_8002_5 {σ : Nat → Nat} {n0 : Nat} {bf : ab_B} : decode (ab_code (zx σ n0 bf).1 8002) 5 = .ok (.aload_n 0, 1) := zd zm_8002 (by decide +kernel)
theorem d_8002_6 {σ : Nat → Nat} {n0 : Nat} {bf : ab_B} : decode (ab_code (zx σ n0 bf).1 8002) 6 = .ok (.aload_n 0, 1) := zd zm_8002 (by decide +kernel)
theorem d_8002_7 {σ : Nat → Nat} {n0 : Nat} {bf : ab_B} : decode (ab_code (zx σ n0 bf).1 8002) 7 = .ok (.getfield 1213, 3) := zd zm_8002 (by decide +kernel)
theorem d_8002_10 {σ : Nat → Nat} {n0 : Nat} {bf : ab_B} : decode (ab_code (zx σ n0 bf).1 8002) 10 = .ok (.putfield 457, 3) := zd zm_8002 (by decide +kernel)
theorem d_8002_13 {σ : Nat → Nat} {n0 : Nat} {bf : ab_B} : decode (ab_code (zx σ n0 bf).1 8002) 13 = .ok (.aload_n 0, 1) := zd zm_8002 (by decide +kernel)
theorem d_8002_14 {σ : Nat → Nat} {n0 : Nat} {bf : ab_B} : decode (ab_code (zx σ n0 bf).1 8002) 14 = .ok (.iconst 0, 1) := zd zm_8002 (by decide +kernel)
theorem d_8002_15 {σ : Nat → Nat} {n0 : Nat} {bf : ab_B} : decode (ab_code (zx σ n0 bf).1 8002) 15 = .ok (.putfield 1213, 3) := zd zm_8002 (by decide +kernel)
theorem d_8002_18 {σ : Nat → Nat} {n0 : Nat} {bf : ab_B} : decode (ab_code (zx σ n0 bf).1 8002) 18 = .ok (.iconst 0, 1) := zd zm_8002 (by decide +kernel)
theorem d_8002_19 {σ : Nat → Nat} {n0 : Nat} {bf : ab_B} : decode (ab_code (zx σ n0 bf).1 8002) 19 = .ok (.istore_n 1, 1) := zd zm_8002 (by decide +kernel)
theorem d_8002_20 {σ : Nat → Nat} {n0 : Nat} {bf : ab_B} : decode (ab_code (zx σ n0 bf).1 8002) 20 = .ok (.iload_n 1, 1) := zd zm_8002 (by decide +kernel)
theorem d_8002_21 {σ : Nat → Nat} {n0 : Nat} {bf : ab_B} : decode (ab_code (zx σ n0 bf).1 8002) 21 = .ok (.aload_n 0, 1) := zd zm_8002 (by decide +kernel)
theorem d_8002_22 {σ : Nat → Nat} {n0 : Nat} {bf : ab_B} : decode (ab_code (zx σ n0 bf).1 8002) 22 = .ok (.getfield 457, 3) := zd zm_8002 (by decide +kernel)
theorem d_8002_25 {σ : Nat → Nat} {n0 : Nat} {bf : ab_B} : decode (ab_code (zx σ n0 bf).1 8002) 25 = .ok (.if_icmp .ge 21, 3) := zd zm_8002 (by decide +kernel)
theorem d_8002_28 {σ : Nat → Nat} {n0 : Nat} {bf : ab_B} : decode (ab_code (zx σ n0 bf).1 8002) 28 = .ok (.aload_n 0, 1) := zd zm_8002 (by decide +kernel)
theorem d_8002_29 {σ : Nat → Nat} {n0 : Nat} {bf : ab_B} : decode (ab_code (zx σ n0 bf).1 8002) 29 = .ok (.getfield 14, 3) := zd zm_8002 (by decide +kernel)
theorem d_8002_32 {σ : Nat → Nat} {n0 : Nat} {bf : ab_B} : decode (ab_code (zx σ n0 bf).1 8002) 32 = .ok (.iload_n 1, 1) := zd zm_8002 (by decide +kernel)
theorem d_8002_33 {σ : Nat → Nat} {n0 : Nat} {bf : ab_B} : decode (ab_code (zx σ n0 bf).1 8002) 33 = .ok (.aload_n 0, 1) := zd zm_8002 (by decide +kernel)
theorem d_8002_34 {σ : Nat → Nat} {n0 : Nat} {bf : ab_B} : decode (ab_code (zx σ n0 bf).1 8002) 34 = .ok (.getfield 8, 3) := zd zm_8002 (by decide +kernel)
theorem d_8002_37 {σ : Nat → Nat} {n0 : Nat} {bf : ab_B} : decode (ab_code (zx σ n0 bf).1 8002) 37 = .ok (.iload_n 1, 1) := zd zm_8002 (by decide +kernel)
theorem d_8002_38 {σ : Nat → Nat} {n0 : Nat} {bf : ab_B} : decode (ab_code (zx σ n0 bf).1 8002) 38 = .ok (.baload, 1) := zd zm_8002 (by decide +kernel)
theorem d_8002_39 {σ : Nat → Nat} {n0 : Nat} {bf : ab_B} : decode (ab_code (zx σ n0 bf).1 8002) 39 = .ok (.bastore, 1) := zd zm_8002 (by decide +kernel)
theorem d_8002_40 {σ : Nat → Nat} {n0 : Nat} {bf : ab_B} : decode (ab_code (zx σ n0 bf).1 8002) 40 = .ok (.iinc 1 1, 3) := zd zm_8002 (by decide +kernel)
theorem d_8002_43 {σ : Nat → Nat} {n0 : Nat} {bf : ab_B} : decode (ab_code (zx σ n0 bf).1 8002) 43 = .ok (.goto (-23), 3) := zd zm_8002 (by decide +kernel)
theorem d_8002_46 {σ : Nat → Nat} {n0 : Nat} {bf : ab_B} : decode (ab_code (zx σ n0 bf).1 8002) 46 = .ok (.aload_n 0, 1) := zd zm_8002 (by decide +kernel)
theorem d_8002_47 {σ : Nat → Nat} {n0 : Nat} {bf : ab_B} : decode (ab_code (zx σ n0 bf).1 8002) 47 = .ok (.invokevirtual 1216, 3) := zd zm_8002 (by decide +kernel)
theorem d_8002_50 {σ : Nat → Nat} {n0 : Nat} {bf : ab_B} : decode (ab_code (zx σ n0 bf).1 8002) 50 = .ok (.aload_n 0, 1) := zd zm_8002 (by decide +kernel)
theorem d_8002_51 {σ : Nat → Nat} {n0 : Nat} {bf : ab_B} : decode (ab_code (zx σ n0 bf).1 8002) 51 = .ok (.iconst 0, 1) := zd zm_8002 (by decide +kernel)
theorem d_8002_52 {σ : Nat → Nat} {n0 : Nat} {bf : ab_B} : decode (ab_code (zx σ n0 bf).1 8002) 52 = .ok (.putfield 1219, 3) := zd zm_8002 (by decide +kernel)
theorem d_8002_55 {σ : Nat → Nat} {n0 : Nat} {bf : ab_B} : decode (ab_code (zx σ n0 bf).1 8002) 55 = .ok (.aload_n 0, 1) := zd zm_8002 (by decide +kernel)
theorem d_8002_56 {σ : Nat → Nat} {n0 : Nat} {bf : ab_B} : decode (ab_code (zx σ n0 bf).1 8002) 56 = .ok (.iconst 0, 1) := zd zm_8002 (by decide +kernel)
theorem d_8002_57 {σ : Nat → Nat} {n0 : Nat} {bf : ab_B} : decode (ab_code (zx σ n0 bf).1 8002) 57 = .ok (.putfield 1222, 3) := zd zm_8002 (by decide +kernel)
theorem d_8002_60 {σ : Nat → Nat} {n0 : Nat} {bf : ab_B} : decode (ab_code (zx σ n0 bf).1 8002) 60 = .ok (.aload_n 0, 1) := zd zm_8002 (by decide +kernel)
theorem d_8002_61 {σ : Nat → Nat} {n0 : Nat} {bf : ab_B} : decode (ab_code (zx σ n0 bf).1 8002) 61 = .ok (.invokevirtual 1225, 3) := zd zm_8002 (by decide +kernel)
theorem d_8002_64 {σ : Nat → Nat} {n0 : Nat} {bf : ab_B} : decode (ab_code (zx σ n0 bf).1 8002) 64 = .ok (.aload_n 0, 1) := zd zm_8002 (by decide +kernel)
theorem d_8002_65 {σ : Nat → Nat} {n0 : Nat} {bf : ab_B} : decode (ab_code (zx σ n0 bf).1 8002) 65 = .ok (.invokevirtual 538, 3) := zd zm_8002 (by decide +kernel)
theorem d_8002_68 {σ : Nat → Nat} {n0 : Nat} {bf : ab_B} : decode (ab_code (zx σ n0 bf).1 8002) 68 = .ok (.aload_n 0, 1) := zd zm_8002 (by decide +kernel)
theorem d_8002_69 {σ : Nat → Nat} {n0 : Nat} {bf : ab_B} : decode (ab_code (zx σ n0 bf).1 8002) 69 = .ok (.getfield 311, 3) := zd zm_8002 (by decide +kernel)
theorem d_8002_72 {σ : Nat → Nat} {n0 : Nat} {bf : ab_B} : decode (ab_code (zx σ n0 bf).1 8002) 72 = .ok (.iconst 0, 1) := zd zm_8002 (by decide +kernel)
theorem d_8002_73 {σ : Nat → Nat} {n0 : Nat} {bf : ab_B} : decode (ab_code (zx σ n0 bf).1 8002) 73 = .ok (.aload_n 0, 1) := zd zm_8002 (by decide +kernel)
theorem d_8002_74 {σ : Nat → Nat} {n0 : Nat} {bf : ab_B} : decode (ab_code (zx σ n0 bf).1 8002) 74 = .ok (.getfield 450, 3) := zd zm_8002 (by decide +kernel)
theorem d_8002_77 {σ : Nat → Nat} {n0 : Nat} {bf : ab_B} : decode (ab_code (zx σ n0 bf).1 8002) 77 = .ok (.iastore, 1) := zd zm_8002 (by decide +kernel)
theorem d_8002_78 {σ : Nat → Nat} {n0 : Nat} {bf : ab_B} : decode (ab_code (zx σ n0 bf).1 8002) 78 = .ok (.aload_n 0, 1) := zd zm_8002 (by decide +kernel)
theorem d_8002_79 {σ : Nat → Nat} {n0 : Nat} {bf : ab_B} : decode (ab_code (zx σ n0 bf).1 8002) 79 = .ok (.iconst 1, 1) := zd zm_8002 (by decide +kernel)
theorem d_8002_80 {σ : Nat → Nat} {n0 : Nat} {bf : ab_B} : decode (ab_code (zx σ n0 bf).1 8002) 80 = .ok (.invokevirtual 846, 3) := zd zm_8002 (by decide +kernel)
theorem d_8002_83 {σ : Nat → Nat} {n0 : Nat} {bf : ab_B} : decode (ab_code (zx σ n0 bf).1 8002) 83 = .ok (.aload_n 0, 1) := zd zm_8002 (by decide +kernel)
theorem d_8002_84 {σ : Nat → Nat} {n0 : Nat} {bf : ab_B} : decode (ab_code (zx σ n0 bf).1 8002) 84 = .ok (.getfield 444, 3) := zd zm_8002 (by decide +kernel)
theorem d_8002_87 {σ : Nat → Nat} {n0 : Nat} {bf : ab_B} : decode (ab_code (zx σ n0 bf).1 8002) 87 = .ok (.ifCond .ne 16, 3) := zd zm_8002 (by decide +kernel)
theorem d_8002_90 {σ : Nat → Nat} {n0 : Nat} {bf : ab_B} : decode (ab_code (zx σ n0 bf).1 8002) 90 = .ok (.aload_n 0, 1) := zd zm_8002 (by decide +kernel)
theorem d_8002_91 {σ : Nat → Nat} {n0 : Nat} {bf : ab_B} : decode (ab_code (zx σ n0 bf).1 8002) 91 = .ok (.getfield 484, 3) := zd zm_8002 (by decide +kernel)
theorem d_8002_94 {σ : Nat → Nat} {n0 : Nat} {bf : ab_B} : decode (ab_code (zx σ n0 bf).1 8002) 94 = .ok (.iconst 1, 1) := zd zm_8002 (by decide +kernel)
theorem d_8002_95 {σ : Nat → Nat} {n0 : Nat} {bf : ab_B} : decode (ab_code (zx σ n0 bf).1 8002) 95 = .ok (.if_icmp .eq 8, 3) := zd zm_8002 (by decide +kernel)
theorem d_8002_98 {σ : Nat → Nat} {n0 : Nat} {bf : ab_B} : decode (ab_code (zx σ n0 bf).1 8002) 98 = .ok (.aload_n 0, 1) := zd zm_8002 (by decide +kernel)
theorem d_8002_99 {σ : Nat → Nat} {n0 : Nat} {bf : ab_B} : decode (ab_code (zx σ n0 bf).1 8002) 99 = .ok (.iconst 2, 1) := zd zm_8002 (by decide +kernel)
theorem d_8002_100 {σ : Nat → Nat} {n0 : Nat} {bf : ab_B} : decode (ab_code (zx σ n0 bf).1 8002) 100 = .ok (.invokevirtual 541, 3) := zd zm_8002 (by decide +kernel)
theorem d_8002_103 {σ : Nat → Nat} {n0 : Nat} {bf : ab_B} : decode (ab_code (zx σ n0 bf).1 8002) 103 = .ok (.aload_n 0, 1) := zd zm_8002 (by decide +kernel)
theorem d_8002_104 {σ : Nat → Nat} {n0 : Nat} {bf : ab_B} : decode (ab_code (zx σ n0 bf).1 8002) 104 = .ok (.invokevirtual 538, 3) := zd zm_8002 (by decide +kernel)
theorem d_8002_107 {σ : Nat → Nat} {n0 : Nat} {bf : ab_B} : decode (ab_code (zx σ n0 bf).1 8002) 107 = .ok (.aload_n 0, 1) := zd zm_8002 (by decide +kernel)
theorem d_8002_108 {σ : Nat → Nat} {n0 : Nat} {bf : ab_B} : decode (ab_code (zx σ n0 bf).1 8002) 108 = .ok (.bipush 13, 2) := zd zm_8002 (by decide +kernel)
theorem d_8002_110 {σ : Nat → Nat} {n0 : Nat} {bf : ab_B} : decode (ab_code (zx σ n0 bf).1 8002) 110 = .ok (.invokevirtual 746, 3) := zd zm_8002 (by decide +kernel)
theorem d_8002_113 {σ : Nat → Nat} {n0 : Nat} {bf : ab_B} : decode (ab_code (zx σ n0 bf).1 8002) 113 = .ok (.aload_n 0, 1) := zd zm_8002 (by decide +kernel)
theorem d_8002_114 {σ : Nat → Nat} {n0 : Nat} {bf : ab_B} : decode (ab_code (zx σ n0 bf).1 8002) 114 = .ok (.bipush 71, 2) := zd zm_8002 (by decide +kernel)
theorem d_8002_116 {σ : Nat → Nat} {n0 : Nat} {bf : ab_B} : decode (ab_code (zx σ n0 bf).1 8002) 116 = .ok (.iconst 0, 1) := zd zm_8002 (by decide +kernel)
theorem d_8002_117 {σ : Nat → Nat} {n0 : Nat} {bf : ab_B} : decode (ab_code (zx σ n0 bf).1 8002) 117 = .ok (.iconst 0, 1) := zd zm_8002 (by decide +kernel)
theorem d_8002_118 {σ : Nat → Nat} {n0 : Nat} {bf : ab_B} : decode (ab_code (zx σ n0 bf).1 8002) 118 = .ok (.iconst 0, 1) := zd zm_8002 (by decide +kernel)
theorem d_8002_119 {σ : Nat → Nat} {n0 : Nat} {bf : ab_B} : decode (ab_code (zx σ n0 bf).1 8002) 119 = .ok (.invokevirtual 649, 3) := zd zm_8002 (by decide +kernel)
theorem d_8002_122 {σ : Nat → Nat} {n0 : Nat} {bf : ab_B} : decode (ab_code (zx σ n0 bf).1 8002) 122 = .ok (.aload_n 0, 1) := zd zm_8002 (by decide +kernel)
theorem d_8002_123 {σ : Nat → Nat} {n0 : Nat} {bf : ab_B} : decode (ab_code (zx σ n0 bf).1 8002) 123 = .ok (.bipush 60, 2) := zd zm_8002 (by decide +kernel)
theorem d_8002_125 {σ : Nat → Nat} {n0 : Nat} {bf : ab_B} : decode (ab_code (zx σ n0 bf).1 8002) 125 = .ok (.iconst 0, 1) := zd zm_8002 (by decide +kernel)
theorem d_8002_126 {σ : Nat → Nat} {n0 : Nat} {bf : ab_B} : decode (ab_code (zx σ n0 bf).1 8002) 126 = .ok (.iconst 0, 1) := zd zm_8002 (by decide +kernel)
theorem d_8002_127 {σ : Nat → Nat} {n0 : Nat} {bf : ab_B} : decode (ab_code (zx σ n0 bf).1 8002) 127 = .ok (.iconst 0, 1) := zd zm_8002 (by decide +kernel)
theorem d_8002_128 {σ : Nat → Nat} {n0 : Nat} {bf : ab_B} : decode (ab_code (zx σ n0 bf).1 8002) 128 = .ok (.invokevirtual 649, 3) := zd zm_8002 (by decide +kernel)
theorem d_8002_131 {σ : Nat → Nat} {n0 : Nat} {bf : ab_B} : decode (ab_code (zx σ n0 bf).1 8002) 131 = .ok (.aload_n 0, 1) := zd zm_8002 (by decide +kernel)
theorem d_8002_132 {σ : Nat → Nat} {n0 : Nat} {bf : ab_B} : decode (ab_code (zx σ n0 bf).1 8002) 132 = .ok (.getfield 643, 3) := zd zm_8002 (by decide +kernel)
theorem d_8002_135 {σ : Nat → Nat} {n0 : Nat} {bf : ab_B} : decode (ab_code (zx σ n0 bf).1 8002) 135 = .ok (.ifCond .le 127, 3) := zd zm_8002 (by decide +kernel)
theorem d_8002_138 {σ : Nat → Nat} {n0 : Nat} {bf : ab_B} : decode (ab_code (zx σ n0 bf).1 8002) 138 = .ok (.aload_n 0, 1) := zd zm_8002 (by decide +kernel)
theorem d_8002_139 {σ : Nat → Nat} {n0 : Nat} {bf : ab_B} : decode (ab_code (zx σ n0 bf).1 8002) 139 = .ok (.getfield 444, 3) := zd zm_8002 (by decide +kernel)
theorem d_8002_142 {σ : Nat → Nat} {n0 : Nat} {bf : ab_B} : decode (ab_code (zx σ n0 bf).1 8002) 142 = .ok (.ifCond .ne 120, 3) := zd zm_8002 (by decide +kernel)
theorem d_8002_145 {σ : Nat → Nat} {n0 : Nat} {bf : ab_B} : decode (ab_code (zx σ n0 bf).1 8002) 145 = .ok (.aload_n 0, 1) := zd zm_8002 (by decide +kernel)
theorem d_8002_146 {σ : Nat → Nat} {n0 : Nat} {bf : ab_B} : decode (ab_code (zx σ n0 bf).1 8002) 146 = .ok (.dup, 1) := zd zm_8002 (by decide +kernel)
theorem d_8002_147 {σ : Nat → Nat} {n0 : Nat} {bf : ab_B} : decode (ab_code (zx σ n0 bf).1 8002) 147 = .ok (.getfield 643, 3) := zd zm_8002 (by decide +kernel)
theorem d_8002_150 {σ : Nat → Nat} {n0 : Nat} {bf : ab_B} : decode (ab_code (zx σ n0 bf).1 8002) 150 = .ok (.iconst 1, 1) := zd zm_8002 (by decide +kernel)
theorem d_8002_151 {σ : Nat → Nat} {n0 : Nat} {bf : ab_B} : decode (ab_code (zx σ n0 bf).1 8002) 151 = .ok (.isub, 1) := zd zm_8002 (by decide +kernel)
theorem d_8002_152 {σ : Nat → Nat} {n0 : Nat} {bf : ab_B} : decode (ab_code (zx σ n0 bf).1 8002) 152 = .ok (.putfield 643, 3) := zd zm_8002 (by decide +kernel)
theorem d_8002_155 {σ : Nat → Nat} {n0 : Nat} {bf : ab_B} : decode (ab_code (zx σ n0 bf).1 8002) 155 = .ok (.aload_n 0, 1) := zd zm_8002 (by decide +kernel)
theorem d_8002_156 {σ : Nat → Nat} {n0 : Nat} {bf : ab_B} : decode (ab_code (zx σ n0 bf).1 8002) 156 = .ok (.getfield 179, 3) := zd zm_8002 (by decide +kernel)
theorem d_8002_159 {σ : Nat → Nat} {n0 : Nat} {bf : ab_B} : decode (ab_code (zx σ n0 bf).1 8002) 159 = .ok (.aload_n 0, 1) := zd zm_8002 (by decide +kernel)
theorem d_8002_160 {σ : Nat → Nat} {n0 : Nat} {bf : ab_B} : decode (ab_code (zx σ n0 bf).1 8002) 160 = .ok (.getfield 643, 3) := zd zm_8002 (by decide +kernel)
theorem d_8002_163 {σ : Nat → Nat} {n0 : Nat} {bf : ab_B} : decode (ab_code (zx σ n0 bf).1 8002) 163 = .ok (.iaload, 1) := zd zm_8002 (by decide +kernel)
theorem d_8002_164 {σ : Nat → Nat} {n0 : Nat} {bf : ab_B} : decode (ab_code (zx σ n0 bf).1 8002) 164 = .ok (.istore_n 1, 1) := zd zm_8002 (by decide +kernel)
theorem d_8002_165 {σ : Nat → Nat} {n0 : Nat} {bf : ab_B} : decode (ab_code (zx σ n0 bf).1 8002) 165 = .ok (.aload_n 0, 1) := zd zm_8002 (by decide +kernel)
theorem d_8002_166 {σ : Nat → Nat} {n0 : Nat} {bf : ab_B} : decode (ab_code (zx σ n0 bf).1 8002) 166 = .ok (.getfield 182, 3) := zd zm_8002 (by decide +kernel)
theorem d_8002_169 {σ : Nat → Nat} {n0 : Nat} {bf : ab_B} : decode (ab_code (zx σ n0 bf).1 8002) 169 = .ok (.aload_n 0, 1) := zd zm_8002 (by decide +kernel)
theorem d_8002_170 {σ : Nat → Nat} {n0 : Nat} {bf : ab_B} : decode (ab_code (zx σ n0 bf).1 8002) 170 = .ok (.getfield 643, 3) := zd zm_8002 (by decide +kernel)
theorem d_8002_173 {σ : Nat → Nat} {n0 : Nat} {bf : ab_B} : decode (ab_code (zx σ n0 bf).1 8002) 173 = .ok (.iaload, 1) := zd zm_8002 (by decide +kernel)
theorem d_8002_174 {σ : Nat → Nat} {n0 : Nat} {bf : ab_B} : decode (ab_code (zx σ n0 bf).1 8002) 174 = .ok (.istore_n 2, 1) := zd zm_8002 (by decide +kernel)
theorem d_8002_175 {σ : Nat → Nat} {n0 : Nat} {bf : ab_B} : decode (ab_code (zx σ n0 bf).1 8002) 175 = .ok (.aload_n 0, 1) := zd zm_8002 (by decide +kernel)
theorem d_8002_176 {σ : Nat → Nat} {n0 : Nat} {bf : ab_B} : decode (ab_code (zx σ n0 bf).1 8002) 176 = .ok (.getfield 185, 3) := zd zm_8002 (by decide +kernel)
theorem d_8002_179 {σ : Nat → Nat} {n0 : Nat} {bf : ab_B} : decode (ab_code (zx σ n0 bf).1 8002) 179 = .ok (.aload_n 0, 1) := zd zm_8002 (by decide +kernel)
theorem d_8002_180 {σ : Nat → Nat} {n0 : Nat} {bf : ab_B} : decode (ab_code (zx σ n0 bf).1 8002) 180 = .ok (.getfield 643, 3) := zd zm_8002 (by decide +kernel)
theorem d_8002_183 {σ : Nat → Nat} {n0 : Nat} {bf : ab_B} : decode (ab_code (zx σ n0 bf).1 8002) 183 = .ok (.iaload, 1) := zd zm_8002 (by decide +kernel)
theorem d_8002_184 {σ : Nat → Nat} {n0 : Nat} {bf : ab_B} : decode (ab_code (zx σ n0 bf).1 8002) 184 = .ok (.istore_n 3, 1) := zd zm_8002 (by decide +kernel)
theorem d_8002_185 {σ : Nat → Nat} {n0 : Nat} {bf : ab_B} : decode (ab_code (zx σ n0 bf).1 8002) 185 = .ok (.aload_n 0, 1) := zd zm_8002 (by decide +kernel)
theorem d_8002_186 {σ : Nat → Nat} {n0 : Nat} {bf : ab_B} : decode (ab_code (zx σ n0 bf).1 8002) 186 = .ok (.getfield 188, 3) := zd zm_8002 (by decide +kernel)
theorem d_8002_189 {σ : Nat → Nat} {n0 : Nat} {bf : ab_B} : decode (ab_code (zx σ n0 bf).1 8002) 189 = .ok (.aload_n 0, 1) := zd zm_8002 (by decide +kernel)
theorem d_8002_190 {σ : Nat → Nat} {n0 : Nat} {bf : ab_B} : decode (ab_code (zx σ n0 bf).1 8002) 190 = .ok (.getfield 643, 3) := zd zm_8002 (by decide +kernel)
theorem d_8002_193 {σ : Nat → Nat} {n0 : Nat} {bf : ab_B} : decode (ab_code (zx σ n0 bf).1 8002) 193 = .ok (.iaload, 1) := zd zm_8002 (by decide +kernel)
theorem d_8002_194 {σ : Nat → Nat} {n0 : Nat} {bf : ab_B} : decode (ab_code (zx σ n0 bf).1 8002) 194 = .ok (.istore 4, 2) := zd zm_8002 (by decide +kernel)
theorem d_8002_196 {σ : Nat → Nat} {n0 : Nat} {bf : ab_B} : decode (ab_code (zx σ n0 bf).1 8002) 196 = .ok (.iload_n 1, 1) := zd zm_8002 (by decide +kernel)
theorem d_8002_197 {σ : Nat → Nat} {n0 : Nat} {bf : ab_B} : decode (ab_code (zx σ n0 bf).1 8002) 197 = .ok (.bipush 30, 2) := zd zm_8002 (by decide +kernel)
theorem d_8002_199 {σ : Nat → Nat} {n0 : Nat} {bf : ab_B} : decode (ab_code (zx σ n0 bf).1 8002) 199 = .ok (.if_icmp .ge 15, 3) := zd zm_8002 (by decide +kernel)
theorem d_8002_202 {σ : Nat → Nat} {n0 : Nat} {bf : ab_B} : decode (ab_code (zx σ n0 bf).1 8002) 202 = .ok (.aload_n 0, 1) := zd zm_8002 (by decide +kernel)
theorem d_8002_203 {σ : Nat → Nat} {n0 : Nat} {bf : ab_B} : decode (ab_code (zx σ n0 bf).1 8002) 203 = .ok (.iload_n 1, 1) := zd zm_8002 (by decide +kernel)
theorem d_8002_204 {σ : Nat → Nat} {n0 : Nat} {bf : ab_B} : decode (ab_code (zx σ n0 bf).1 8002) 204 = .ok (.iload_n 2, 1) := zd zm_8002 (by decide +kernel)
theorem d_8002_205 {σ : Nat → Nat} {n0 : Nat} {bf : ab_B} : decode (ab_code (zx σ n0 bf).1 8002) 205 = .ok (.iload_n 3, 1) := zd zm_8002 (by decide +kernel)
theorem d_8002_206 {σ : Nat → Nat} {n0 : Nat} {bf : ab_B} : decode (ab_code (zx σ n0 bf).1 8002) 206 = .ok (.iload 4, 2) := zd zm_8002 (by decide +kernel)
theorem d_8002_208 {σ : Nat → Nat} {n0 : Nat} {bf : ab_B} : decode (ab_code (zx σ n0 bf).1 8002) 208 = .ok (.invokevirtual 1228, 3) := zd zm_8002 (by decide +kernel)
theorem d_8002_211 {σ : Nat → Nat} {n0 : Nat} {bf : ab_B} : decode (ab_code (zx σ n0 bf).1 8002) 211 = .ok (.goto 48, 3) := zd zm_8002 (by decide +kernel)
theorem d_8002_214 {σ : Nat → Nat} {n0 : Nat} {bf : ab_B} : decode (ab_code (zx σ n0 bf).1 8002) 214 = .ok (.iload_n 1, 1) := zd zm_8002 (by decide +kernel)
theorem d_8002_215 {σ : Nat → Nat} {n0 : Nat} {bf : ab_B} : decode (ab_code (zx σ n0 bf).1 8002) 215 = .ok (.bipush 60, 2) := zd zm_8002 (by decide +kernel)
theorem d_8002_217 {σ : Nat → Nat} {n0 : Nat} {bf : ab_B} : decode (ab_code (zx σ n0 bf).1 8002) 217 = .ok (.if_icmp .ge 15, 3) := zd zm_8002 (by decide +kernel)
theorem d_8002_220 {σ : Nat → Nat} {n0 : Nat} {bf : ab_B} : decode (ab_code (zx σ n0 bf).1 8002) 220 = .ok (.aload_n 0, 1) := zd zm_8002 (by decide +kernel)
theorem d_8002_221 {σ : Nat → Nat} {n0 : Nat} {bf : ab_B} : decode (ab_code (zx σ n0 bf).1 8002) 221 = .ok (.iload_n 1, 1) := zd zm_8002 (by decide +kernel)
theorem d_8002_222 {σ : Nat → Nat} {n0 : Nat} {bf : ab_B} : decode (ab_code (zx σ n0 bf).1 8002) 222 = .ok (.iload_n 2, 1) := zd zm_8002 (by decide +kernel)
theorem d_8002_223 {σ : Nat → Nat} {n0 : Nat} {bf : ab_B} : decode (ab_code (zx σ n0 bf).1 8002) 223 = .ok (.iload_n 3, 1) := zd zm_8002 (by decide +kernel)
theorem d_8002_224 {σ : Nat → Nat} {n0 : Nat} {bf : ab_B} : decode (ab_code (zx σ n0 bf).1 8002) 224 = .ok (.iload 4, 2) := zd zm_8002 (by decide +kernel)
theorem d_8002_226 {σ : Nat → Nat} {n0 : Nat} {bf : ab_B} : decode (ab_code (zx σ n0 bf).1 8002) 226 = .ok (.invokevirtual 1231, 3) := zd zm_8002 (by decide +kernel)
theorem d_8002_229 {σ : Nat → Nat} {n0 : Nat} {bf : ab_B} : decode (ab_code (zx σ n0 bf).1 8002) 229 = .ok (.goto 30, 3) := zd zm_8002 (by decide +kernel)
theorem d_8002_232 {σ : Nat → Nat} {n0 : Nat} {bf : ab_B} : decode (ab_code (zx σ n0 bf).1 8002) 232 = .ok (.iload_n 1, 1) := zd zm_8002 (by decide +kernel)
theorem d_8002_233 {σ : Nat → Nat} {n0 : Nat} {bf : ab_B} : decode (ab_code (zx σ n0 bf).1 8002) 233 = .ok (.bipush 100, 2) := zd zm_8002 (by decide +kernel)
theorem d_8002_235 {σ : Nat → Nat} {n0 : Nat} {bf : ab_B} : decode (ab_code (zx σ n0 bf).1 8002) 235 = .ok (.if_icmp .ge 15, 3) := zd zm_8002 (by decide +kernel)
theorem d_8002_238 {σ : Nat → Nat} {n0 : Nat} {bf : ab_B} : decode (ab_code (zx σ n0 bf).1 8002) 238 = .ok (.aload_n 0, 1) := zd zm_8002 (by decide +kernel)
theorem d_8002_239 {σ : Nat → Nat} {n0 : Nat} {bf : ab_B} : decode (ab_code (zx σ n0 bf).1 8002) 239 = .ok (.iload_n 1, 1) := zd zm_8002 (by decide +kernel)
theorem d_8002_240 {σ : Nat → Nat} {n0 : Nat} {bf : ab_B} : decode (ab_code (zx σ n0 bf).1 8002) 240 = .ok (.iload_n 2, 1) := zd zm_8002 (by decide +kernel)
theorem d_8002_241 {σ : Nat → Nat} {n0 : Nat} {bf : ab_B} : decode (ab_code (zx σ n0 bf).1 8002) 241 = .ok (.iload_n 3, 1) := zd zm_8002 (by decide +kernel)
theorem d_8002_242 {σ : Nat → Nat} {n0 : Nat} {bf : ab_B} : decode (ab_code (zx σ n0 bf).1 8002) 242 = .ok (.iload 4, 2) := zd zm_8002 (by decide +kernel)
theorem d_8002_244 {σ : Nat → Nat} {n0 : Nat} {bf : ab_B} : decode (ab_code (zx σ n0 bf).1 8002) 244 = .ok (.invokevirtual 1234, 3) := zd zm_8002 (by decide +kernel)
theorem d_8002_247 {σ : Nat → Nat} {n0 : Nat} {bf : ab_B} : decode (ab_code (zx σ n0 bf).1 8002) 247 = .ok (.goto 12, 3) := zd zm_8002 (by decide +kernel)
theorem d_8002_250 {σ : Nat → Nat} {n0 : Nat} {bf : ab_B} : decode (ab_code (zx σ n0 bf).1 8002) 250 = .ok (.aload_n 0, 1) := zd zm_8002 (by decide +kernel)
theorem d_8002_251 {σ : Nat → Nat} {n0 : Nat} {bf : ab_B} : decode (ab_code (zx σ n0 bf).1 8002) 251 = .ok (.iload_n 1, 1) := zd zm_8002 (by decide +kernel)
theorem d_8002_252 {σ : Nat → Nat} {n0 : Nat} {bf : ab_B} : decode (ab_code (zx σ n0 bf).1 8002) 252 = .ok (.iload_n 2, 1) := zd zm_8002 (by decide +kernel)
theorem d_8002_253 {σ : Nat → Nat} {n0 : Nat} {bf : ab_B} : decode (ab_code (zx σ n0 bf).1 8002) 253 = .ok (.iload_n 3, 1) := zd zm_8002 (by decide +kernel)
theorem d_8002_254 {σ : Nat → Nat} {n0 : Nat} {bf : ab_B} : decode (ab_code (zx σ n0 bf).1 8002) 254 = .ok (.iload 4, 2) := zd zm_8002 (by decide +kernel)
theorem d_8002_256 {σ : Nat → Nat} {n0 : Nat} {bf : ab_B} : decode (ab_code (zx σ n0 bf).1 8002) 256 = .ok (.invokevirtual 1237, 3) := zd zm_8002 (by decide +kernel)
theorem d_8002_259 {σ : Nat → Nat} {n0 : Nat} {bf : ab_B} : decode (ab_code (zx σ n0 bf).1 8002) 259 = .ok (.goto (-128), 3) := zd zm_8002 (by decide +kernel)
theorem d_8002_262 {σ : Nat → Nat} {n0 : Nat} {bf : ab_B} : decode (ab_code (zx σ n0 bf).1 8002) 262 = .ok (.aload_n 0, 1) := zd zm_8002 (by decide +kernel)
theorem d_8002_263 {σ : Nat → Nat} {n0 : Nat} {bf : ab_B} : decode (ab_code (zx σ n0 bf).1 8002) 263 = .ok (.aload_n 0, 1) := zd zm_8002 (by decide +kernel)
theorem d_8002_264 {σ : Nat → Nat} {n0 : Nat} {bf : ab_B} : decode (ab_code (zx σ n0 bf).1 8002) 264 = .ok (.getfield 444, 3) := zd zm_8002 (by decide +kernel)
theorem d_8002_267 {σ : Nat → Nat} {n0 : Nat} {bf : ab_B} : decode (ab_code (zx σ n0 bf).1 8002) 267 = .ok (.ifCond .ne 7, 3) := zd zm_8002 (by decide +kernel)
theorem d_8002_270 {σ : Nat → Nat} {n0 : Nat} {bf : ab_B} : decode (ab_code (zx σ n0 bf).1 8002) 270 = .ok (.iconst 1, 1) := zd zm_8002 (by decide +kernel)
theorem d_8002_271 {σ : Nat → Nat} {n0 : Nat} {bf : ab_B} : decode (ab_code (zx σ n0 bf).1 8002) 271 = .ok (.goto 4, 3) := zd zm_8002 (by decide +kernel)
theorem d_8002_274 {σ : Nat → Nat} {n0 : Nat} {bf : ab_B} : decode (ab_code (zx σ n0 bf).1 8002) 274 = .ok (.iconst 0, 1) := zd zm_8002 (by decide +kernel)
theorem d_8002_275 {σ : Nat → Nat} {n0 : Nat} {bf : ab_B} : decode (ab_code (zx σ n0 bf).1 8002) 275 = .ok (.putfield 1219, 3) := zd zm_8002 (by decide +kernel)
theorem d_8002_278 {σ : Nat → Nat} {n0 : Nat} {bf : ab_B} : decode (ab_code (zx σ n0 bf).1 8002) 278 = .ok (.aload_n 0, 1) := zd zm_8002 (by decide +kernel)
theorem d_8002_279 {σ : Nat → Nat} {n0 : Nat} {bf : ab_B} : decode (ab_code (zx σ n0 bf).1 8002) 279 = .ok (.getfield 444, 3) := zd zm_8002 (by decide +kernel)
theorem d_8002_282 {σ : Nat → Nat} {n0 : Nat} {bf : ab_B} : decode (ab_code (zx σ n0 bf).1 8002) 282 = .ok (.ifCond .le 12, 3) := zd zm_8002 (by decide +kernel)
theorem d_8002_285 {σ : Nat → Nat} {n0 : Nat} {bf : ab_B} : decode (ab_code (zx σ n0 bf).1 8002) 285 = .ok (.iconst (-1), 1) := zd zm_8002 (by decide +kernel)
theorem d_8002_286 {σ : Nat → Nat} {n0 : Nat} {bf : ab_B} : decode (ab_code (zx σ n0 bf).1 8002) 286 = .ok (.aload_n 0, 1) := zd zm_8002 (by decide +kernel)
theorem d_8002_287 {σ : Nat → Nat} {n0 : Nat} {bf : ab_B} : decode (ab_code (zx σ n0 bf).1 8002) 287 = .ok (.getfield 447, 3) := zd zm_8002 (by decide +kernel)
theorem d_8002_290 {σ : Nat → Nat} {n0 : Nat} {bf : ab_B} : decode (ab_code (zx σ n0 bf).1 8002) 290 = .ok (.isub, 1) := zd zm_8002 (by decide +kernel)
theorem d_8002_291 {σ : Nat → Nat} {n0 : Nat} {bf : ab_B} : decode (ab_code (zx σ n0 bf).1 8002) 291 = .ok (.goto 4, 3) := zd zm_8002 (by decide +kernel)
theorem d_8002_294 {σ : Nat → Nat} {n0 : Nat} {bf : ab_B} : decode (ab_code (zx σ n0 bf).1 8002) 294 = .ok (.iconst 0, 1) := zd zm_8002 (by decide +kernel)
theorem d_8002_295 {σ : Nat → Nat} {n0 : Nat} {bf : ab_B} : decode (ab_code (zx σ n0 bf).1 8002) 295 = .ok (.ireturn, 1) := zd zm_8002 (by decide +kernel)
def w_X9_compile_103 (X : zs_X) (d : Nat) (p0 : Nat) (S : zs_T) (Q : zs_Q) : Prop :=
  (zs_K S p0 = some (.inl 8) ∧ zs_C X d 8014 [.ref p0] S (zs_kV (fun S2 => (zs_K S2 p0 = some (.inl 8) ∧ zs_C X d 8028 [.ref p0, .int (13 : Int32)] S2 (zs_kV (fun S5 => (zs_K S5 p0 = some (.inl 8) ∧ zs_C X d 8030 [.ref p0, .int (71 : Int32), .int (0 : Int32), .int (0 : Int32), .int (0 : Int32)] S5 (zs_kV (fun S8 => (zs_K S8 p0 = some (.inl 8) ∧ zs_C X d 8030 [.ref p0, .int (60 : Int32), .int (0 : Int32), .int (0 : Int32), .int (0 : Int32)] S8 (zs_kV (fun S11 => zs_U X d 8002 131 [(0, .ref p0)] [] S11 Q) Q))) Q))) Q))) Q))
theorem u_X9_compile_103 {σ : Nat → Nat} {n0 : Nat} {bf : ab_B} {d : Nat} {p0 : Nat} {S : zs_T} {Q : zs_Q} (hB : zt_B bf) (h : w_X9_compile_103 (zx σ n0 bf) d p0 S Q) : zs_U (zx σ n0 bf) d 8002 103 [(0, .ref p0)] [] S Q := by
  unfold w_X9_compile_103 at h
  refine zu_aload_n d_8002_103 rfl (zs_ra _) ?_
  obtain ⟨k1, h⟩ := h
  refine zc_8_538  hB rfl k1 d_8002_104 (Nat.le_of_ble_eq_true rfl) h (fun S2 h => ?_)
  refine zu_aload_n d_8002_107 rfl (zs_ra _) ?_
  refine zu_bipush d_8002_108 zj_13 ?_
  obtain ⟨k4, h⟩ := h
  refine zc_8_746 (x0 := (13 : Int32)) hB rfl k4 d_8002_110 (Nat.le_of_ble_eq_true rfl) h (fun S5 h => ?_)
  refine zu_aload_n d_8002_113 rfl (zs_ra _) ?_
  refine zu_bipush d_8002_114 zj_71 ?_
  refine zu_iconst d_8002_116 zi_0 ?_
  refine zu_iconst d_8002_117 zi_0 ?_
  refine zu_iconst d_8002_118 zi_0 ?_
  obtain ⟨k7, h⟩ := h
  refine zc_8_649 (x0 := (71 : Int32)) (x1 := (0 : Int32)) (x2 := (0 : Int32)) (x3 := (0 : Int32)) hB rfl k7 d_8002_119 (Nat.le_of_ble_eq_true rfl) h (fun S8 h => ?_)
  refine zu_aload_n d_8002_122 rfl (zs_ra _) ?_
  refine zu_bipush d_8002_123 zj_60 ?_
  refine zu_iconst d_8002_125 zi_0 ?_
  refine zu_iconst d_8002_126 zi_0 ?_
  refine zu_iconst d_8002_127 zi_0 ?_
  obtain ⟨k10, h⟩ := h
  refine zc_8_649 (x0 := (60 : Int32)) (x1 := (0 : Int32)) (x2 := (0 : Int32)) (x3 := (0 : Int32)) hB rfl k10 d_8002_128 (Nat.le_of_ble_eq_true rfl) h (fun S11 h => ?_)
  exact h.weak ⟨rfl, trivial⟩
def w_X9_compile_98 (X : zs_X) (d : Nat) (p0 : Nat) (S : zs_T) (Q : zs_Q) : Prop :=
  (zs_K S p0 = some (.inl 8) ∧ zs_C X d 8027 [.ref p0, .int (2 : Int32)] S (zs_kV (fun S2 => w_X9_compile_103 X d p0 S2 Q) Q))
theorem u_X9_compile_98 {σ : Nat → Nat} {n0 : Nat} {bf : ab_B} {d : Nat} {p0 : Nat} {S : zs_T} {Q : zs_Q} (hB : zt_B bf) (h : w_X9_compile_98 (zx σ n0 bf) d p0 S Q) : zs_U (zx σ n0 bf) d 8002 98 [(0, .ref p0)] [] S Q := by
  unfold w_X9_compile_98 at h
  refine zu_aload_n d_8002_98 rfl (zs_ra _) ?_
  refine zu_iconst d_8002_99 zi_2 ?_
  obtain ⟨k1, h⟩ := h
  refine zc_8_541 (x0 := (2 : Int32)) hB rfl k1 d_8002_100 (Nat.le_of_ble_eq_true rfl) h (fun S2 h => ?_)
  exact (u_X9_compile_103 hB h).weak ⟨rfl, trivial⟩
def w_X9_compile_68 (X : zs_X) (d : Nat) (p0 : Nat) (S : zs_T) (Q : zs_Q) : Prop :=
  (zs_K S p0 = some (.inl 8) ∧ ∃ b2, (zs_R S 8145 p0) = some b2 ∧ zs_A S b2 0 (0 : Int32) ∧ ab_n0 X.1 ≤ b2 ∧ ∀ S6, S6 = zs_si S b2 (0 : Int32).toNatClampNeg (zs_I S 8007 p0) → zs_C X d 8025 [.ref p0, .int (1 : Int32)] S6 (zs_kV (fun S9 => (zs_K S9 p0 = some (.inl 8) ∧ ((¬ (zs_I S9 8010 p0) = 0 → w_X9_compile_103 X d p0 S9 Q) ∧ (¬ (¬ (zs_I S9 8010 p0) = 0) → ((((zs_I S9 8006 p0) = (1 : Int32) → w_X9_compile_103 X d p0 S9 Q) ∧ (¬ ((zs_I S9 8006 p0) = (1 : Int32)) → w_X9_compile_98 X d p0 S9 Q))))))) Q))
theorem u_X9_compile_68 {σ : Nat → Nat} {n0 : Nat} {bf : ab_B} {d : Nat} {p0 : Nat} {S : zs_T} {Q : zs_Q} (hB : zt_B bf) (h : w_X9_compile_68 (zx σ n0 bf) d p0 S Q) : zs_U (zx σ n0 bf) d 8002 68 [(0, .ref p0)] [] S Q := by
  unfold w_X9_compile_68 at h
  refine zu_aload_n d_8002_68 rfl (zs_ra _) ?_
  obtain ⟨k1, h⟩ := h
  refine zg_8_311 rfl d_8002_69 k1 ?_
  refine zu_iconst d_8002_72 zi_0 ?_
  refine zu_aload_n d_8002_73 rfl (zs_ra _) ?_
  refine zg_8_450 rfl d_8002_74 k1 ?_
  obtain ⟨b2, e3, h⟩ := h
  refine zs_stk2 (zs_rfe e3) ?_
  obtain ⟨k4, h⟩ := h
  obtain ⟨k5, h⟩ := h
  refine zu_iast (k := 0) d_8002_77 rfl rfl k5 k4 ?_
  generalize e7 : zs_si S b2 (0 : Int32).toNatClampNeg (zs_I S 8007 p0) = S6
  have h := h S6 e7.symm
  have K8 : ∀ b, zs_K S6 b = zs_K S b := zs_Kt e7 (zs_Ksi _ _ _ _) (fun _ => rfl)
  refine zu_aload_n d_8002_78 rfl (zs_ra _) ?_
  refine zu_iconst d_8002_79 zi_1 ?_
  refine zc_8_846 (x0 := (1 : Int32)) hB rfl ((K8 _).trans k1) d_8002_80 (Nat.le_of_ble_eq_true rfl) h (fun S9 h => ?_)
  refine zu_aload_n d_8002_83 rfl (zs_ra _) ?_
  obtain ⟨k11, h⟩ := h
  refine zg_8_444 rfl d_8002_84 k11 ?_
  refine zu_ifne (t := 103) d_8002_87 rfl (fun c12 => ?_) (fun c12 => ?_)
  · have h := h.1 c12
    exact (u_X9_compile_103 hB h).weak ⟨rfl, trivial⟩
  · have h := h.2 c12
    refine zu_aload_n d_8002_90 rfl (zs_ra _) ?_
    refine zg_8_484 rfl d_8002_91 k11 ?_
    refine zu_iconst d_8002_94 zi_1 ?_
    refine zu_cmpeq (t := 103) d_8002_95 rfl (fun c13 => ?_) (fun c13 => ?_)
    · have h := h.1 c13
      exact (u_X9_compile_103 hB h).weak ⟨rfl, trivial⟩
    · have h := h.2 c13
      exact (u_X9_compile_98 hB h).weak ⟨rfl, trivial⟩
def w_X9_compile_20 (X : zs_X) (d : Nat) (p0 : Nat) (p1 : Int32) (S : zs_T) (Q : zs_Q) : Prop :=
  (zs_K S p0 = some (.inl 8) ∧ (((zs_I S 8004 p0) ≤ p1 → (zs_C X d 8003 [.ref p0] S (zs_kV (fun S3 => (zs_K S3 p0 = some (.inl 8) ∧ ab_n0 X.1 ≤ p0 ∧ ∀ S7, S7 = zs_sI S3 8155 p0 (0 : Int32) → ∀ S10, S10 = zs_sI S7 8196 p0 (0 : Int32) → zs_C X d 8013 [.ref p0] S10 (zs_kV (fun S13 => (zs_K S13 p0 = some (.inl 8) ∧ zs_C X d 8014 [.ref p0] S13 (zs_kV (fun S16 => w_X9_compile_68 X d p0 S16 Q) Q))) Q))) Q))) ∧ (¬ ((zs_I S 8004 p0) ≤ p1) → (∃ b18, (zs_R S 8001 p0) = some b18 ∧ zs_A S b18 1 p1 ∧ ∃ b21, (zs_R S 8003 p0) = some b21 ∧ zs_A S b21 1 p1 ∧ ab_n0 X.1 ≤ b21 ∧ ∀ S25, S25 = zs_si S b21 p1.toNatClampNeg (vp_nar .byte (zs_i S b18 p1.toNatClampNeg)) → zs_U X d 8002 20 [(0, .ref p0), (1, .int (p1 + (1 : Int32)))] [] S25 Q))))
theorem u_X9_compile_20 {σ : Nat → Nat} {n0 : Nat} {bf : ab_B} {d : Nat} {p0 : Nat} {p1 : Int32} {S : zs_T} {Q : zs_Q} (hB : zt_B bf) (h : w_X9_compile_20 (zx σ n0 bf) d p0 p1 S Q) : zs_U (zx σ n0 bf) d 8002 20 [(0, .ref p0), (1, .int p1)] [] S Q := by
  unfold w_X9_compile_20 at h
  refine zu_iload_n d_8002_20 rfl ?_
  refine zu_aload_n d_8002_21 rfl (zs_ra _) ?_
  obtain ⟨k1, h⟩ := h
  refine zg_8_457 rfl d_8002_22 k1 ?_
  refine zu_cmpge (t := 46) d_8002_25 rfl (fun c2 => ?_) (fun c2 => ?_)
  · have h := h.1 c2
    refine zu_aload_n d_8002_46 rfl (zs_ra _) ?_
    refine zc_8_1216  hB rfl k1 d_8002_47 (Nat.le_of_ble_eq_true rfl) h (fun S3 h => ?_)
    refine zu_aload_n d_8002_50 rfl (zs_ra _) ?_
    refine zu_iconst d_8002_51 zi_0 ?_
    obtain ⟨k5, h⟩ := h
    obtain ⟨k6, h⟩ := h
    refine zp_8_1219 (v := (0 : Int32)) rfl d_8002_52 k5 k6 (Or.inl rfl) ?_
    generalize e8 : zs_sI S3 8155 p0 (0 : Int32) = S7
    have h := h S7 e8.symm
    have K9 : ∀ b, zs_K S7 b = zs_K S3 b := zs_Kt e8 (zs_KsI _ _ _ _) (fun _ => rfl)
    refine zu_aload_n d_8002_55 rfl (zs_ra _) ?_
    refine zu_iconst d_8002_56 zi_0 ?_
    refine zp_8_1222 (v := (0 : Int32)) rfl d_8002_57 ((K9 _).trans k5) k6 (Or.inl rfl) ?_
    generalize e11 : zs_sI S7 8196 p0 (0 : Int32) = S10
    have h := h S10 e11.symm
    have K12 : ∀ b, zs_K S10 b = zs_K S3 b := zs_Kt e11 (zs_KsI _ _ _ _) K9
    refine zu_aload_n d_8002_60 rfl (zs_ra _) ?_
    refine zc_8_1225  hB rfl ((K12 _).trans k5) d_8002_61 (Nat.le_of_ble_eq_true rfl) h (fun S13 h => ?_)
    refine zu_aload_n d_8002_64 rfl (zs_ra _) ?_
    obtain ⟨k15, h⟩ := h
    refine zc_8_538  hB rfl k15 d_8002_65 (Nat.le_of_ble_eq_true rfl) h (fun S16 h => ?_)
    exact (u_X9_compile_68 hB h).weak ⟨rfl, trivial⟩
  · have h := h.2 c2
    refine zu_aload_n d_8002_28 rfl (zs_ra _) ?_
    refine zg_8_14 rfl d_8002_29 k1 ?_
    refine zu_iload_n d_8002_32 rfl ?_
    refine zu_aload_n d_8002_33 rfl (zs_ra _) ?_
    refine zg_8_8 rfl d_8002_34 k1 ?_
    refine zu_iload_n d_8002_37 rfl ?_
    obtain ⟨b18, e19, h⟩ := h
    refine zs_stk1 (zs_rfe e19) ?_
    obtain ⟨k20, h⟩ := h
    refine zu_bald (k := 1) d_8002_38 rfl (Or.inl rfl) k20 ?_
    obtain ⟨b21, e22, h⟩ := h
    refine zs_stk2 (zs_rfe e22) ?_
    obtain ⟨k23, h⟩ := h
    obtain ⟨k24, h⟩ := h
    refine zu_bast_byte (k := 1) d_8002_39 rfl rfl k24 k23 ?_
    generalize e26 : zs_si S b21 p1.toNatClampNeg (vp_nar .byte (zs_i S b18 p1.toNatClampNeg)) = S25
    have h := h S25 e26.symm
    have K27 : ∀ b, zs_K S25 b = zs_K S b := zs_Kt e26 (zs_Ksi _ _ _ _) (fun _ => rfl)
    refine zu_iinc d_8002_40 rfl zi_1 (zs_lt zq_8002 rfl) ?_
    refine zu_goto (t := 20) d_8002_43 rfl ?_
    exact h.weak ⟨rfl, rfl, trivial⟩
def w_X9_compile_275 (X : zs_X) (d : Nat) (p0 : Nat) (q0 : Option Nat) (q1 : Int32) (S : zs_T) (Q : zs_Q) : Prop :=
  (∃ b1, q0 = some b1 ∧ zs_K S b1 = some (.inl 8) ∧ ab_n0 X.1 ≤ b1 ∧ zs_b q1 ∧ ∀ S6, S6 = zs_sI S 8155 b1 q1 → zs_K S p0 = some (.inl 8) ∧ (((zs_I S6 8010 p0) ≤ 0 → (Q (.returned (some (.int (0 : Int32)))) S6)) ∧ (¬ ((zs_I S6 8010 p0) ≤ 0) → (Q (.returned (some (.int ((-1 : Int32) - (zs_I S6 8011 p0))))) S6))))
theorem u_X9_compile_275 {σ : Nat → Nat} {n0 : Nat} {bf : ab_B} {d : Nat} {p0 : Nat} {q0 : Option Nat} {q1 : Int32} {S : zs_T} {Q : zs_Q} (hB : zt_B bf) (h : w_X9_compile_275 (zx σ n0 bf) d p0 q0 q1 S Q) : zs_U (zx σ n0 bf) d 8002 275 [(0, .ref p0)] [.int q1, va_rf q0] S Q := by
  unfold w_X9_compile_275 at h
  obtain ⟨b1, e2, h⟩ := h
  refine zs_stk1 (zs_rfe e2) ?_
  obtain ⟨k3, h⟩ := h
  obtain ⟨k4, h⟩ := h
  obtain ⟨k5, h⟩ := h
  refine zp_8_1219 (v := q1) rfl d_8002_275 k3 k4 k5 ?_
  generalize e7 : zs_sI S 8155 b1 q1 = S6
  have h := h S6 e7.symm
  have K8 : ∀ b, zs_K S6 b = zs_K S b := zs_Kt e7 (zs_KsI _ _ _ _) (fun _ => rfl)
  refine zu_aload_n d_8002_278 rfl (zs_ra _) ?_
  obtain ⟨k9, h⟩ := h
  refine zg_8_444 rfl d_8002_279 ((K8 _).trans k9) ?_
  refine zu_ifle (t := 294) d_8002_282 rfl (fun c10 => ?_) (fun c10 => ?_)
  · have h := h.1 c10
    refine zu_iconst d_8002_294 zi_0 ?_
    exact zu_iret d_8002_295 zr_8002 rfl h
  · have h := h.2 c10
    refine zu_iconst d_8002_285 zi_m1 ?_
    refine zu_aload_n d_8002_286 rfl (zs_ra _) ?_
    refine zg_8_447 rfl d_8002_287 ((K8 _).trans k9) ?_
    refine zu_stk d_8002_290 rfl rfl ?_
    refine zu_goto (t := 295) d_8002_291 rfl ?_
    exact zu_iret d_8002_295 zr_8002 rfl h
def w_X9_compile_262 (X : zs_X) (d : Nat) (p0 : Nat) (S : zs_T) (Q : zs_Q) : Prop :=
  (zs_K S p0 = some (.inl 8) ∧ ((¬ (zs_I S 8010 p0) = 0 → (w_X9_compile_275 X d p0 (some p0) (0 : Int32) S Q)) ∧ (¬ (¬ (zs_I S 8010 p0) = 0) → (w_X9_compile_275 X d p0 (some p0) (1 : Int32) S Q))))
theorem u_X9_compile_262 {σ : Nat → Nat} {n0 : Nat} {bf : ab_B} {d : Nat} {p0 : Nat} {S : zs_T} {Q : zs_Q} (hB : zt_B bf) (h : w_X9_compile_262 (zx σ n0 bf) d p0 S Q) : zs_U (zx σ n0 bf) d 8002 262 [(0, .ref p0)] [] S Q := by
  unfold w_X9_compile_262 at h
  refine zu_aload_n d_8002_262 rfl (zs_ra _) ?_
  refine zu_aload_n d_8002_263 rfl (zs_ra _) ?_
  obtain ⟨k1, h⟩ := h
  refine zg_8_444 rfl d_8002_264 k1 ?_
  refine zu_ifne (t := 274) d_8002_267 rfl (fun c2 => ?_) (fun c2 => ?_)
  · have h := h.1 c2
    refine zu_iconst d_8002_274 zi_0 ?_
    exact (u_X9_compile_275 hB h).weak ⟨rfl, trivial⟩
  · have h := h.2 c2
    refine zu_iconst d_8002_270 zi_1 ?_
    refine zu_goto (t := 275) d_8002_271 rfl ?_
    exact (u_X9_compile_275 hB h).weak ⟨rfl, trivial⟩
def w_X9_compile_259 (X : zs_X) (d : Nat) (p0 : Nat) (S : zs_T) (Q : zs_Q) : Prop :=
  (zs_U X d 8002 131 [(0, .ref p0)] [] S Q)
theorem u_X9_compile_259 {σ : Nat → Nat} {n0 : Nat} {bf : ab_B} {d : Nat} {p0 : Nat} {S : zs_T} {Q : zs_Q} (hB : zt_B bf) (h : w_X9_compile_259 (zx σ n0 bf) d p0 S Q) : zs_U (zx σ n0 bf) d 8002 259 [(0, .ref p0)] [] S Q := by
  unfold w_X9_compile_259 at h
  refine zu_goto (t := 131) d_8002_259 rfl ?_
  exact h.weak ⟨rfl, trivial⟩
def w_X9_compile_196 (X : zs_X) (d : Nat) (p0 : Nat) (p1 : Int32) (p2 : Int32) (p3 : Int32) (p4 : Int32) (S : zs_T) (Q : zs_Q) : Prop :=
  ((((30 : Int32) ≤ p1 → ((((60 : Int32) ≤ p1 → ((((100 : Int32) ≤ p1 → (zs_K S p0 = some (.inl 8) ∧ zs_C X d 8166 [.ref p0, .int p1, .int p2, .int p3, .int p4] S (zs_kV (fun S5 => w_X9_compile_259 X d p0 S5 Q) Q))) ∧ (¬ ((100 : Int32) ≤ p1) → (zs_K S p0 = some (.inl 8) ∧ zs_C X d 8143 [.ref p0, .int p1, .int p2, .int p3, .int p4] S (zs_kV (fun S8 => (w_X9_compile_259 X d p0 S8 Q)) Q)))))) ∧ (¬ ((60 : Int32) ≤ p1) → (zs_K S p0 = some (.inl 8) ∧ zs_C X d 8089 [.ref p0, .int p1, .int p2, .int p3, .int p4] S (zs_kV (fun S11 => (w_X9_compile_259 X d p0 S11 Q)) Q)))))) ∧ (¬ ((30 : Int32) ≤ p1) → (zs_K S p0 = some (.inl 8) ∧ zs_C X d 8031 [.ref p0, .int p1, .int p2, .int p3, .int p4] S (zs_kV (fun S14 => (w_X9_compile_259 X d p0 S14 Q)) Q)))))
theorem u_X9_compile_196 {σ : Nat → Nat} {n0 : Nat} {bf : ab_B} {d : Nat} {p0 : Nat} {p1 : Int32} {p2 : Int32} {p3 : Int32} {p4 : Int32} {S : zs_T} {Q : zs_Q} (hB : zt_B bf) (h : w_X9_compile_196 (zx σ n0 bf) d p0 p1 p2 p3 p4 S Q) : zs_U (zx σ n0 bf) d 8002 196 [(0, .ref p0), (1, .int p1), (2, .int p2), (3, .int p3), (4, .int p4)] [] S Q := by
  unfold w_X9_compile_196 at h
  refine zu_iload_n d_8002_196 rfl ?_
  refine zu_bipush d_8002_197 zj_30 ?_
  refine zu_cmpge (t := 214) d_8002_199 rfl (fun c1 => ?_) (fun c1 => ?_)
  · have h := h.1 c1
    refine zu_iload_n d_8002_214 rfl ?_
    refine zu_bipush d_8002_215 zj_60 ?_
    refine zu_cmpge (t := 232) d_8002_217 rfl (fun c2 => ?_) (fun c2 => ?_)
    · have h := h.1 c2
      refine zu_iload_n d_8002_232 rfl ?_
      refine zu_bipush d_8002_233 zj_100 ?_
      refine zu_cmpge (t := 250) d_8002_235 rfl (fun c3 => ?_) (fun c3 => ?_)
      · have h := h.1 c3
        refine zu_aload_n d_8002_250 rfl (zs_ra _) ?_
        refine zu_iload_n d_8002_251 rfl ?_
        refine zu_iload_n d_8002_252 rfl ?_
        refine zu_iload_n d_8002_253 rfl ?_
        refine zu_iload d_8002_254 rfl ?_
        obtain ⟨k4, h⟩ := h
        refine zc_8_1237 (x0 := p1) (x1 := p2) (x2 := p3) (x3 := p4) hB rfl k4 d_8002_256 (Nat.le_of_ble_eq_true rfl) h (fun S5 h => ?_)
        exact (u_X9_compile_259 hB h).weak ⟨rfl, trivial⟩
      · have h := h.2 c3
        refine zu_aload_n d_8002_238 rfl (zs_ra _) ?_
        refine zu_iload_n d_8002_239 rfl ?_
        refine zu_iload_n d_8002_240 rfl ?_
        refine zu_iload_n d_8002_241 rfl ?_
        refine zu_iload d_8002_242 rfl ?_
        obtain ⟨k7, h⟩ := h
        refine zc_8_1234 (x0 := p1) (x1 := p2) (x2 := p3) (x3 := p4) hB rfl k7 d_8002_244 (Nat.le_of_ble_eq_true rfl) h (fun S8 h => ?_)
        refine zu_goto (t := 259) d_8002_247 rfl ?_
        exact (u_X9_compile_259 hB h).weak ⟨rfl, trivial⟩
    · have h := h.2 c2
      refine zu_aload_n d_8002_220 rfl (zs_ra _) ?_
      refine zu_iload_n d_8002_221 rfl ?_
      refine zu_iload_n d_8002_222 rfl ?_
      refine zu_iload_n d_8002_223 rfl ?_
      refine zu_iload d_8002_224 rfl ?_
      obtain ⟨k10, h⟩ := h
      refine zc_8_1231 (x0 := p1) (x1 := p2) (x2 := p3) (x3 := p4) hB rfl k10 d_8002_226 (Nat.le_of_ble_eq_true rfl) h (fun S11 h => ?_)
      refine zu_goto (t := 259) d_8002_229 rfl ?_
      exact (u_X9_compile_259 hB h).weak ⟨rfl, trivial⟩
  · have h := h.2 c1
    refine zu_aload_n d_8002_202 rfl (zs_ra _) ?_
    refine zu_iload_n d_8002_203 rfl ?_
    refine zu_iload_n d_8002_204 rfl ?_
    refine zu_iload_n d_8002_205 rfl ?_
    refine zu_iload d_8002_206 rfl ?_
    obtain ⟨k13, h⟩ := h
    refine zc_8_1228 (x0 := p1) (x1 := p2) (x2 := p3) (x3 := p4) hB rfl k13 d_8002_208 (Nat.le_of_ble_eq_true rfl) h (fun S14 h => ?_)
    refine zu_goto (t := 259) d_8002_211 rfl ?_
    exact (u_X9_compile_259 hB h).weak ⟨rfl, trivial⟩
def w_X9_compile_165 (X : zs_X) (d : Nat) (p0 : Nat) (p1 : Int32) (S : zs_T) (Q : zs_Q) : Prop :=
  (zs_K S p0 = some (.inl 8) ∧ ∃ b2, (zs_R S 8086 p0) = some b2 ∧ zs_A S b2 0 (zs_I S 8089 p0) ∧ ∃ b5, (zs_R S 8087 p0) = some b5 ∧ zs_A S b5 0 (zs_I S 8089 p0) ∧ ∃ b8, (zs_R S 8088 p0) = some b8 ∧ zs_A S b8 0 (zs_I S 8089 p0) ∧ w_X9_compile_196 X d p0 p1 (zs_i S b2 (zs_I S 8089 p0).toNatClampNeg) (zs_i S b5 (zs_I S 8089 p0).toNatClampNeg) (zs_i S b8 (zs_I S 8089 p0).toNatClampNeg) S Q)
theorem u_X9_compile_165 {σ : Nat → Nat} {n0 : Nat} {bf : ab_B} {d : Nat} {p0 : Nat} {p1 : Int32} {S : zs_T} {Q : zs_Q} (hB : zt_B bf) (h : w_X9_compile_165 (zx σ n0 bf) d p0 p1 S Q) : zs_U (zx σ n0 bf) d 8002 165 [(0, .ref p0), (1, .int p1)] [] S Q := by
  unfold w_X9_compile_165 at h
  refine zu_aload_n d_8002_165 rfl (zs_ra _) ?_
  obtain ⟨k1, h⟩ := h
  refine zg_8_182 rfl d_8002_166 k1 ?_
  refine zu_aload_n d_8002_169 rfl (zs_ra _) ?_
  refine zg_8_643 rfl d_8002_170 k1 ?_
  obtain ⟨b2, e3, h⟩ := h
  refine zs_stk1 (zs_rfe e3) ?_
  obtain ⟨k4, h⟩ := h
  refine zu_iald (k := 0) d_8002_173 rfl rfl k4 ?_
  refine zu_istore_n d_8002_174 (zs_lt zq_8002 rfl) ?_
  refine zu_aload_n d_8002_175 rfl (zs_ra _) ?_
  refine zg_8_185 rfl d_8002_176 k1 ?_
  refine zu_aload_n d_8002_179 rfl (zs_ra _) ?_
  refine zg_8_643 rfl d_8002_180 k1 ?_
  obtain ⟨b5, e6, h⟩ := h
  refine zs_stk1 (zs_rfe e6) ?_
  obtain ⟨k7, h⟩ := h
  refine zu_iald (k := 0) d_8002_183 rfl rfl k7 ?_
  refine zu_istore_n d_8002_184 (zs_lt zq_8002 rfl) ?_
  refine zu_aload_n d_8002_185 rfl (zs_ra _) ?_
  refine zg_8_188 rfl d_8002_186 k1 ?_
  refine zu_aload_n d_8002_189 rfl (zs_ra _) ?_
  refine zg_8_643 rfl d_8002_190 k1 ?_
  obtain ⟨b8, e9, h⟩ := h
  refine zs_stk1 (zs_rfe e9) ?_
  obtain ⟨k10, h⟩ := h
  refine zu_iald (k := 0) d_8002_193 rfl rfl k10 ?_
  refine zu_istore d_8002_194 (zs_lt zq_8002 rfl) ?_
  exact (u_X9_compile_196 hB h).weak ⟨rfl, rfl, rfl, rfl, rfl, trivial⟩
def w_X9_compile_131 (X : zs_X) (d : Nat) (p0 : Nat) (S : zs_T) (Q : zs_Q) : Prop :=
  (zs_K S p0 = some (.inl 8) ∧ (((zs_I S 8089 p0) ≤ 0 → w_X9_compile_262 X d p0 S Q) ∧ (¬ ((zs_I S 8089 p0) ≤ 0) → (((¬ (zs_I S 8010 p0) = 0 → w_X9_compile_262 X d p0 S Q) ∧ (¬ (¬ (zs_I S 8010 p0) = 0) → (ab_n0 X.1 ≤ p0 ∧ ∀ S5, S5 = zs_sI S 8089 p0 ((zs_I S 8089 p0) - (1 : Int32)) → ∃ b8, (zs_R S5 8085 p0) = some b8 ∧ zs_A S b8 0 (zs_I S5 8089 p0) ∧ w_X9_compile_165 X d p0 (zs_i S5 b8 (zs_I S5 8089 p0).toNatClampNeg) S5 Q)))))))
theorem u_X9_compile_131 {σ : Nat → Nat} {n0 : Nat} {bf : ab_B} {d : Nat} {p0 : Nat} {S : zs_T} {Q : zs_Q} (hB : zt_B bf) (h : w_X9_compile_131 (zx σ n0 bf) d p0 S Q) : zs_U (zx σ n0 bf) d 8002 131 [(0, .ref p0)] [] S Q := by
  unfold w_X9_compile_131 at h
  refine zu_aload_n d_8002_131 rfl (zs_ra _) ?_
  obtain ⟨k1, h⟩ := h
  refine zg_8_643 rfl d_8002_132 k1 ?_
  refine zu_ifle (t := 262) d_8002_135 rfl (fun c2 => ?_) (fun c2 => ?_)
  · have h := h.1 c2
    exact (u_X9_compile_262 hB h).weak ⟨rfl, trivial⟩
  · have h := h.2 c2
    refine zu_aload_n d_8002_138 rfl (zs_ra _) ?_
    refine zg_8_444 rfl d_8002_139 k1 ?_
    refine zu_ifne (t := 262) d_8002_142 rfl (fun c3 => ?_) (fun c3 => ?_)
    · have h := h.1 c3
      exact (u_X9_compile_262 hB h).weak ⟨rfl, trivial⟩
    · have h := h.2 c3
      refine zu_aload_n d_8002_145 rfl (zs_ra _) ?_
      refine zu_dup d_8002_146 rfl ?_
      refine zg_8_643 rfl d_8002_147 k1 ?_
      refine zu_iconst d_8002_150 zi_1 ?_
      refine zu_stk d_8002_151 rfl rfl ?_
      obtain ⟨k4, h⟩ := h
      refine zp_8_643 (v := ((zs_I S 8089 p0) - (1 : Int32))) rfl d_8002_152 k1 k4 ?_
      generalize e6 : zs_sI S 8089 p0 ((zs_I S 8089 p0) - (1 : Int32)) = S5
      have h := h S5 e6.symm
      have K7 : ∀ b, zs_K S5 b = zs_K S b := zs_Kt e6 (zs_KsI _ _ _ _) (fun _ => rfl)
      refine zu_aload_n d_8002_155 rfl (zs_ra _) ?_
      refine zg_8_179 rfl d_8002_156 ((K7 _).trans k1) ?_
      refine zu_aload_n d_8002_159 rfl (zs_ra _) ?_
      refine zg_8_643 rfl d_8002_160 ((K7 _).trans k1) ?_
      obtain ⟨b8, e9, h⟩ := h
      refine zs_stk1 (zs_rfe e9) ?_
      obtain ⟨k10, h⟩ := h
      refine zu_iald (k := 0) d_8002_163 rfl rfl (zs_Ak K7 k10) ?_
      refine zu_istore_n d_8002_164 (zs_lt zq_8002 rfl) ?_
      exact (u_X9_compile_165 hB h).weak ⟨rfl, rfl, trivial⟩
def w_X9_compile (X : zs_X) (d : Nat) (p0 : Nat) (S : zs_T) (Q : zs_Q) : Prop :=
  (zs_K S p0 = some (.inl 8) ∧ ab_n0 X.1 ≤ p0 ∧ ∀ S3, S3 = zs_sI S 8000 p0 (0 : Int32) → ∀ S6, S6 = zs_sI S3 8004 p0 (zs_I S3 8002 p0) → ∀ S9, S9 = zs_sI S6 8002 p0 (0 : Int32) → zs_U X d 8002 20 [(0, .ref p0), (1, .int (0 : Int32))] [] S9 Q)
theorem u_X9_compile {σ : Nat → Nat} {n0 : Nat} {bf : ab_B} {d : Nat} {p0 : Nat} {S : zs_T} {Q : zs_Q} (hB : zt_B bf) (hd : 1 ≤ d) (h : w_X9_compile (zx σ n0 bf) (d - 1) p0 S Q) : zs_C (zx σ n0 bf) d 8002 [.ref p0] S Q := by
  have hL : lv_args 0 [.ref p0] = [(0, .ref p0)] := rfl
  refine zs_C.of1 (hB.2 8002 (by decide) (by decide)) hd (by rw [hL]; exact zs_sub_self _ (by exact ⟨rfl, trivial⟩)) ?_
  rw [hL]
  clear hL
  unfold w_X9_compile at h
  refine zu_aload_n d_8002_0 rfl (zs_ra _) ?_
  refine zu_iconst d_8002_1 zi_0 ?_
  obtain ⟨k1, h⟩ := h
  obtain ⟨k2, h⟩ := h
  refine zp_8_441 (v := (0 : Int32)) rfl d_8002_2 k1 k2 ?_
  generalize e4 : zs_sI S 8000 p0 (0 : Int32) = S3
  have h := h S3 e4.symm
  have K5 : ∀ b, zs_K S3 b = zs_K S b := zs_Kt e4 (zs_KsI _ _ _ _) (fun _ => rfl)
  refine zu_aload_n d_8002_5 rfl (zs_ra _) ?_
  refine zu_aload_n d_8002_6 rfl (zs_ra _) ?_
  refine zg_8_1213 rfl d_8002_7 ((K5 _).trans k1) ?_
  refine zp_8_457 (v := (zs_I S3 8002 p0)) rfl d_8002_10 ((K5 _).trans k1) k2 ?_
  generalize e7 : zs_sI S3 8004 p0 (zs_I S3 8002 p0) = S6
  have h := h S6 e7.symm
  have K8 : ∀ b, zs_K S6 b = zs_K S b := zs_Kt e7 (zs_KsI _ _ _ _) K5
  refine zu_aload_n d_8002_13 rfl (zs_ra _) ?_
  refine zu_iconst d_8002_14 zi_0 ?_
  refine zp_8_1213 (v := (0 : Int32)) rfl d_8002_15 ((K8 _).trans k1) k2 ?_
  generalize e10 : zs_sI S6 8002 p0 (0 : Int32) = S9
  have h := h S9 e10.symm
  have K11 : ∀ b, zs_K S9 b = zs_K S b := zs_Kt e10 (zs_KsI _ _ _ _) K8
  refine zu_iconst d_8002_18 zi_0 ?_
  refine zu_istore_n d_8002_19 (zs_lt zq_8002 rfl) ?_
  exact h.weak ⟨rfl, rfl, trivial⟩
/-! SchemaPascalModel.beginReading()V -/
theorem zm_8003 {σ : Nat → Nat} {n0 : Nat} {bf : ab_B} : ab_code (zx σ n0 bf).1 8003 = prog_17_method_201_code := rfl
theorem zq_8003 {σ : Nat → Nat} {n0 : Nat} {bf : ab_B} : ab_maxL (zx σ n0 bf).1 8003 = 2 := rfl
theorem zr_8003 {σ : Nat → Nat} {n0 : Nat} {bf : ab_B} : ab_ret (zx σ n0 bf).1 8003 = (Option.none : Option Jvm.ClassFile.FieldType) := rfl
theorem d_8003_0 {σ : Nat → Nat} {n0 : Nat} {bf : ab_B} : decode (ab_code (zx σ n0 bf).1 8003) 0 = .ok (.aload_n 0, 1) := zd zm_8003 (by decide +kernel)
theorem d_8003_1 {σ : Nat → Nat} {n0 : Nat} {bf : ab_B} : decode (ab_code (zx σ n0 bf).1 8003) 1 = .ok (.invokevirtual 1207, 3) := zd zm_8003 (by decide +kernel)
theorem d_8003_4 {σ : Nat → Nat} {n0 : Nat} {bf : ab_B} : decode (ab_code (zx σ n0 bf).1 8003) 4 = .ok (.aload_n 0, 1) := zd zm_8003 (by decide +kernel)
theorem d_8003_5 {σ : Nat → Nat} {n0 : Nat} {bf : ab_B} : decode (ab_code (zx σ n0 bf).1 8003) 5 = .ok (.invokevirtual 1210, 3) := zd zm_8003 (by decide +kernel)
theorem d_8003_8 {σ : Nat → Nat} {n0 : Nat} {bf : ab_B} : decode (ab_code (zx σ n0 bf).1 8003) 8 = .ok (.iconst 0, 1) := zd zm_8003 (by decide +kernel)
theorem d_8003_9 {σ : Nat → Nat} {n0 : Nat} {bf : ab_B} : decode (ab_code (zx σ n0 bf).1 8003) 9 = .ok (.istore_n 1, 1) := zd zm_8003 (by decide +kernel)
theorem d_8003_10 {σ : Nat → Nat} {n0 : Nat} {bf : ab_B} : decode (ab_code (zx σ n0 bf).1 8003) 10 = .ok (.iload_n 1, 1) := zd zm_8003 (by decide +kernel)
theorem d_8003_11 {σ : Nat → Nat} {n0 : Nat} {bf : ab_B} : decode (ab_code (zx σ n0 bf).1 8003) 11 = .ok (.sipush 20000, 3) := zd zm_8003 (by decide +kernel)
theorem d_8003_14 {σ : Nat → Nat} {n0 : Nat} {bf : ab_B} : decode (ab_code (zx σ n0 bf).1 8003) 14 = .ok (.if_icmp .ge 16, 3) := zd zm_8003 (by decide +kernel)
theorem d_8003_17 {σ : Nat → Nat} {n0 : Nat} {bf : ab_B} : decode (ab_code (zx σ n0 bf).1 8003) 17 = .ok (.aload_n 0, 1) := zd zm_8003 (by decide +kernel)
theorem d_8003_18 {σ : Nat → Nat} {n0 : Nat} {bf : ab_B} : decode (ab_code (zx σ n0 bf).1 8003) 18 = .ok (.getfield 251, 3) := zd zm_8003 (by decide +kernel)
theorem d_8003_21 {σ : Nat → Nat} {n0 : Nat} {bf : ab_B} : decode (ab_code (zx σ n0 bf).1 8003) 21 = .ok (.iload_n 1, 1) := zd zm_8003 (by decide +kernel)
theorem d_8003_22 {σ : Nat → Nat} {n0 : Nat} {bf : ab_B} : decode (ab_code (zx σ n0 bf).1 8003) 22 = .ok (.iconst 0, 1) := zd zm_8003 (by decide +kernel)
theorem d_8003_23 {σ : Nat → Nat} {n0 : Nat} {bf : ab_B} : decode (ab_code (zx σ n0 bf).1 8003) 23 = .ok (.iastore, 1) := zd zm_8003 (by decide +kernel)
theorem d_8003_24 {σ : Nat → Nat} {n0 : Nat} {bf : ab_B} : decode (ab_code (zx σ n0 bf).1 8003) 24 = .ok (.iinc 1 1, 3) := zd zm_8003 (by decide +kernel)
theorem d_8003_27 {σ : Nat → Nat} {n0 : Nat} {bf : ab_B} : decode (ab_code (zx σ n0 bf).1 8003) 27 = .ok (.goto (-17), 3) := zd zm_8003 (by decide +kernel)
theorem d_8003_30 {σ : Nat → Nat} {n0 : Nat} {bf : ab_B} : decode (ab_code (zx σ n0 bf).1 8003) 30 = .ok (.aload_n 0, 1) := zd zm_8003 (by decide +kernel)
theorem d_8003_31 {σ : Nat → Nat} {n0 : Nat} {bf : ab_B} : decode (ab_code (zx σ n0 bf).1 8003) 31 = .ok (.iconst 0, 1) := zd zm_8003 (by decide +kernel)
theorem d_8003_32 {σ : Nat → Nat} {n0 : Nat} {bf : ab_B} : decode (ab_code (zx σ n0 bf).1 8003) 32 = .ok (.putfield 487, 3) := zd zm_8003 (by decide +kernel)
theorem d_8003_35 {σ : Nat → Nat} {n0 : Nat} {bf : ab_B} : decode (ab_code (zx σ n0 bf).1 8003) 35 = .ok (.aload_n 0, 1) := zd zm_8003 (by decide +kernel)
theorem d_8003_36 {σ : Nat → Nat} {n0 : Nat} {bf : ab_B} : decode (ab_code (zx σ n0 bf).1 8003) 36 = .ok (.iconst 0, 1) := zd zm_8003 (by decide +kernel)
theorem d_8003_37 {σ : Nat → Nat} {n0 : Nat} {bf : ab_B} : decode (ab_code (zx σ n0 bf).1 8003) 37 = .ok (.putfield 444, 3) := zd zm_8003 (by decide +kernel)
theorem d_8003_40 {σ : Nat → Nat} {n0 : Nat} {bf : ab_B} : decode (ab_code (zx σ n0 bf).1 8003) 40 = .ok (.aload_n 0, 1) := zd zm_8003 (by decide +kernel)
theorem d_8003_41 {σ : Nat → Nat} {n0 : Nat} {bf : ab_B} : decode (ab_code (zx σ n0 bf).1 8003) 41 = .ok (.iconst 0, 1) := zd zm_8003 (by decide +kernel)
theorem d_8003_42 {σ : Nat → Nat} {n0 : Nat} {bf : ab_B} : decode (ab_code (zx σ n0 bf).1 8003) 42 = .ok (.putfield 447, 3) := zd zm_8003 (by decide +kernel)
theorem d_8003_45 {σ : Nat → Nat} {n0 : Nat} {bf : ab_B} : decode (ab_code (zx σ n0 bf).1 8003) 45 = .ok (.aload_n 0, 1) := zd zm_8003 (by decide +kernel)
theorem d_8003_46 {σ : Nat → Nat} {n0 : Nat} {bf : ab_B} : decode (ab_code (zx σ n0 bf).1 8003) 46 = .ok (.iconst 0, 1) := zd zm_8003 (by decide +kernel)
theorem d_8003_47 {σ : Nat → Nat} {n0 : Nat} {bf : ab_B} : decode (ab_code (zx σ n0 bf).1 8003) 47 = .ok (.putfield 643, 3) := zd zm_8003 (by decide +kernel)
theorem d_8003_50 {σ : Nat → Nat} {n0 : Nat} {bf : ab_B} : decode (ab_code (zx σ n0 bf).1 8003) 50 = .ok (.aload_n 0, 1) := zd zm_8003 (by decide +kernel)
theorem d_8003_51 {σ : Nat → Nat} {n0 : Nat} {bf : ab_B} : decode (ab_code (zx σ n0 bf).1 8003) 51 = .ok (.iconst 0, 1) := zd zm_8003 (by decide +kernel)
theorem d_8003_52 {σ : Nat → Nat} {n0 : Nat} {bf : ab_B} : decode (ab_code (zx σ n0 bf).1 8003) 52 = .ok (.putfield 653, 3) := zd zm_8003 (by decide +kernel)
theorem d_8003_55 {σ : Nat → Nat} {n0 : Nat} {bf : ab_B} : decode (ab_code (zx σ n0 bf).1 8003) 55 = .ok (.aload_n 0, 1) := zd zm_8003 (by decide +kernel)
theorem d_8003_56 {σ : Nat → Nat} {n0 : Nat} {bf : ab_B} : decode (ab_code (zx σ n0 bf).1 8003) 56 = .ok (.iconst 0, 1) := zd zm_8003 (by decide +kernel)
theorem d_8003_57 {σ : Nat → Nat} {n0 : Nat} {bf : ab_B} : decode (ab_code (zx σ n0 bf).1 8003) 57 = .ok (.putfield 831, 3) := zd zm_8003 (by decide +kernel)
theorem d_8003_60 {σ : Nat → Nat} {n0 : Nat} {bf : ab_B} : decode (ab_code (zx σ n0 bf).1 8003) 60 = .ok (.aload_n 0, 1) := zd zm_8003 (by decide +kernel)
theorem d_8003_61 {σ : Nat → Nat} {n0 : Nat} {bf : ab_B} : decode (ab_code (zx σ n0 bf).1 8003) 61 = .ok (.iconst 0, 1) := zd zm_8003 (by decide +kernel)
theorem d_8003_62 {σ : Nat → Nat} {n0 : Nat} {bf : ab_B} : decode (ab_code (zx σ n0 bf).1 8003) 62 = .ok (.putfield 646, 3) := zd zm_8003 (by decide +kernel)
theorem d_8003_65 {σ : Nat → Nat} {n0 : Nat} {bf : ab_B} : decode (ab_code (zx σ n0 bf).1 8003) 65 = .ok (.aload_n 0, 1) := zd zm_8003 (by decide +kernel)
theorem d_8003_66 {σ : Nat → Nat} {n0 : Nat} {bf : ab_B} : decode (ab_code (zx σ n0 bf).1 8003) 66 = .ok (.iconst 0, 1) := zd zm_8003 (by decide +kernel)
theorem d_8003_67 {σ : Nat → Nat} {n0 : Nat} {bf : ab_B} : decode (ab_code (zx σ n0 bf).1 8003) 67 = .ok (.putfield 983, 3) := zd zm_8003 (by decide +kernel)
theorem d_8003_70 {σ : Nat → Nat} {n0 : Nat} {bf : ab_B} : decode (ab_code (zx σ n0 bf).1 8003) 70 = .ok (.aload_n 0, 1) := zd zm_8003 (by decide +kernel)
theorem d_8003_71 {σ : Nat → Nat} {n0 : Nat} {bf : ab_B} : decode (ab_code (zx σ n0 bf).1 8003) 71 = .ok (.iconst 0, 1) := zd zm_8003 (by decide +kernel)
theorem d_8003_72 {σ : Nat → Nat} {n0 : Nat} {bf : ab_B} : decode (ab_code (zx σ n0 bf).1 8003) 72 = .ok (.putfield 852, 3) := zd zm_8003 (by decide +kernel)
theorem d_8003_75 {σ : Nat → Nat} {n0 : Nat} {bf : ab_B} : decode (ab_code (zx σ n0 bf).1 8003) 75 = .ok (.aload_n 0, 1) := zd zm_8003 (by decide +kernel)
theorem d_8003_76 {σ : Nat → Nat} {n0 : Nat} {bf : ab_B} : decode (ab_code (zx σ n0 bf).1 8003) 76 = .ok (.iconst 0, 1) := zd zm_8003 (by decide +kernel)
theorem d_8003_77 {σ : Nat → Nat} {n0 : Nat} {bf : ab_B} : decode (ab_code (zx σ n0 bf).1 8003) 77 = .ok (.putfield 986, 3) := zd zm_8003 (by decide +kernel)
theorem d_8003_80 {σ : Nat → Nat} {n0 : Nat} {bf : ab_B} : decode (ab_code (zx σ n0 bf).1 8003) 80 = .ok (.aload_n 0, 1) := zd zm_8003 (by decide +kernel)
theorem d_8003_81 {σ : Nat → Nat} {n0 : Nat} {bf : ab_B} : decode (ab_code (zx σ n0 bf).1 8003) 81 = .ok (.iconst 0, 1) := zd zm_8003 (by decide +kernel)
theorem d_8003_82 {σ : Nat → Nat} {n0 : Nat} {bf : ab_B} : decode (ab_code (zx σ n0 bf).1 8003) 82 = .ok (.putfield 867, 3) := zd zm_8003 (by decide +kernel)
theorem d_8003_85 {σ : Nat → Nat} {n0 : Nat} {bf : ab_B} : decode (ab_code (zx σ n0 bf).1 8003) 85 = .ok (.aload_n 0, 1) := zd zm_8003 (by decide +kernel)
theorem d_8003_86 {σ : Nat → Nat} {n0 : Nat} {bf : ab_B} : decode (ab_code (zx σ n0 bf).1 8003) 86 = .ok (.iconst 0, 1) := zd zm_8003 (by decide +kernel)
theorem d_8003_87 {σ : Nat → Nat} {n0 : Nat} {bf : ab_B} : decode (ab_code (zx σ n0 bf).1 8003) 87 = .ok (.putfield 870, 3) := zd zm_8003 (by decide +kernel)
theorem d_8003_90 {σ : Nat → Nat} {n0 : Nat} {bf : ab_B} : decode (ab_code (zx σ n0 bf).1 8003) 90 = .ok (.aload_n 0, 1) := zd zm_8003 (by decide +kernel)
theorem d_8003_91 {σ : Nat → Nat} {n0 : Nat} {bf : ab_B} : decode (ab_code (zx σ n0 bf).1 8003) 91 = .ok (.iconst 0, 1) := zd zm_8003 (by decide +kernel)
theorem d_8003_92 {σ : Nat → Nat} {n0 : Nat} {bf : ab_B} : decode (ab_code (zx σ n0 bf).1 8003) 92 = .ok (.putfield 944, 3) := zd zm_8003 (by decide +kernel)
theorem d_8003_95 {σ : Nat → Nat} {n0 : Nat} {bf : ab_B} : decode (ab_code (zx σ n0 bf).1 8003) 95 = .ok (.aload_n 0, 1) := zd zm_8003 (by decide +kernel)
theorem d_8003_96 {σ : Nat → Nat} {n0 : Nat} {bf : ab_B} : decode (ab_code (zx σ n0 bf).1 8003) 96 = .ok (.iconst 0, 1) := zd zm_8003 (by decide +kernel)
theorem d_8003_97 {σ : Nat → Nat} {n0 : Nat} {bf : ab_B} : decode (ab_code (zx σ n0 bf).1 8003) 97 = .ok (.putfield 722, 3) := zd zm_8003 (by decide +kernel)
theorem d_8003_100 {σ : Nat → Nat} {n0 : Nat} {bf : ab_B} : decode (ab_code (zx σ n0 bf).1 8003) 100 = .ok (.aload_n 0, 1) := zd zm_8003 (by decide +kernel)
theorem d_8003_101 {σ : Nat → Nat} {n0 : Nat} {bf : ab_B} : decode (ab_code (zx σ n0 bf).1 8003) 101 = .ok (.iconst 0, 1) := zd zm_8003 (by decide +kernel)
theorem d_8003_102 {σ : Nat → Nat} {n0 : Nat} {bf : ab_B} : decode (ab_code (zx σ n0 bf).1 8003) 102 = .ok (.putfield 953, 3) := zd zm_8003 (by decide +kernel)
theorem d_8003_105 {σ : Nat → Nat} {n0 : Nat} {bf : ab_B} : decode (ab_code (zx σ n0 bf).1 8003) 105 = .ok (.aload_n 0, 1) := zd zm_8003 (by decide +kernel)
theorem d_8003_106 {σ : Nat → Nat} {n0 : Nat} {bf : ab_B} : decode (ab_code (zx σ n0 bf).1 8003) 106 = .ok (.getfield 218, 3) := zd zm_8003 (by decide +kernel)
theorem d_8003_109 {σ : Nat → Nat} {n0 : Nat} {bf : ab_B} : decode (ab_code (zx σ n0 bf).1 8003) 109 = .ok (.iconst 0, 1) := zd zm_8003 (by decide +kernel)
theorem d_8003_110 {σ : Nat → Nat} {n0 : Nat} {bf : ab_B} : decode (ab_code (zx σ n0 bf).1 8003) 110 = .ok (.iconst 0, 1) := zd zm_8003 (by decide +kernel)
theorem d_8003_111 {σ : Nat → Nat} {n0 : Nat} {bf : ab_B} : decode (ab_code (zx σ n0 bf).1 8003) 111 = .ok (.iastore, 1) := zd zm_8003 (by decide +kernel)
theorem d_8003_112 {σ : Nat → Nat} {n0 : Nat} {bf : ab_B} : decode (ab_code (zx σ n0 bf).1 8003) 112 = .ok (.aload_n 0, 1) := zd zm_8003 (by decide +kernel)
theorem d_8003_113 {σ : Nat → Nat} {n0 : Nat} {bf : ab_B} : decode (ab_code (zx σ n0 bf).1 8003) 113 = .ok (.getfield 233, 3) := zd zm_8003 (by decide +kernel)
theorem d_8003_116 {σ : Nat → Nat} {n0 : Nat} {bf : ab_B} : decode (ab_code (zx σ n0 bf).1 8003) 116 = .ok (.iconst 0, 1) := zd zm_8003 (by decide +kernel)
theorem d_8003_117 {σ : Nat → Nat} {n0 : Nat} {bf : ab_B} : decode (ab_code (zx σ n0 bf).1 8003) 117 = .ok (.iconst (-1), 1) := zd zm_8003 (by decide +kernel)
theorem d_8003_118 {σ : Nat → Nat} {n0 : Nat} {bf : ab_B} : decode (ab_code (zx σ n0 bf).1 8003) 118 = .ok (.iastore, 1) := zd zm_8003 (by decide +kernel)
theorem d_8003_119 {σ : Nat → Nat} {n0 : Nat} {bf : ab_B} : decode (ab_code (zx σ n0 bf).1 8003) 119 = .ok (.aload_n 0, 1) := zd zm_8003 (by decide +kernel)
theorem d_8003_120 {σ : Nat → Nat} {n0 : Nat} {bf : ab_B} : decode (ab_code (zx σ n0 bf).1 8003) 120 = .ok (.getfield 224, 3) := zd zm_8003 (by decide +kernel)
theorem d_8003_123 {σ : Nat → Nat} {n0 : Nat} {bf : ab_B} : decode (ab_code (zx σ n0 bf).1 8003) 123 = .ok (.iconst 0, 1) := zd zm_8003 (by decide +kernel)
theorem d_8003_124 {σ : Nat → Nat} {n0 : Nat} {bf : ab_B} : decode (ab_code (zx σ n0 bf).1 8003) 124 = .ok (.iconst 0, 1) := zd zm_8003 (by decide +kernel)
theorem d_8003_125 {σ : Nat → Nat} {n0 : Nat} {bf : ab_B} : decode (ab_code (zx σ n0 bf).1 8003) 125 = .ok (.iastore, 1) := zd zm_8003 (by decide +kernel)
theorem d_8003_126 {σ : Nat → Nat} {n0 : Nat} {bf : ab_B} : decode (ab_code (zx σ n0 bf).1 8003) 126 = .ok (.aload_n 0, 1) := zd zm_8003 (by decide +kernel)
theorem d_8003_127 {σ : Nat → Nat} {n0 : Nat} {bf : ab_B} : decode (ab_code (zx σ n0 bf).1 8003) 127 = .ok (.getfield 215, 3) := zd zm_8003 (by decide +kernel)
theorem d_8003_130 {σ : Nat → Nat} {n0 : Nat} {bf : ab_B} : decode (ab_code (zx σ n0 bf).1 8003) 130 = .ok (.iconst 0, 1) := zd zm_8003 (by decide +kernel)
theorem d_8003_131 {σ : Nat → Nat} {n0 : Nat} {bf : ab_B} : decode (ab_code (zx σ n0 bf).1 8003) 131 = .ok (.iconst 0, 1) := zd zm_8003 (by decide +kernel)
theorem d_8003_132 {σ : Nat → Nat} {n0 : Nat} {bf : ab_B} : decode (ab_code (zx σ n0 bf).1 8003) 132 = .ok (.iastore, 1) := zd zm_8003 (by decide +kernel)
theorem d_8003_133 {σ : Nat → Nat} {n0 : Nat} {bf : ab_B} : decode (ab_code (zx σ n0 bf).1 8003) 133 = .ok (.aload_n 0, 1) := zd zm_8003 (by decide +kernel)
theorem d_8003_134 {σ : Nat → Nat} {n0 : Nat} {bf : ab_B} : decode (ab_code (zx σ n0 bf).1 8003) 134 = .ok (.getfield 221, 3) := zd zm_8003 (by decide +kernel)
theorem d_8003_137 {σ : Nat → Nat} {n0 : Nat} {bf : ab_B} : decode (ab_code (zx σ n0 bf).1 8003) 137 = .ok (.iconst 0, 1) := zd zm_8003 (by decide +kernel)
theorem d_8003_138 {σ : Nat → Nat} {n0 : Nat} {bf : ab_B} : decode (ab_code (zx σ n0 bf).1 8003) 138 = .ok (.iconst 0, 1) := zd zm_8003 (by decide +kernel)
theorem d_8003_139 {σ : Nat → Nat} {n0 : Nat} {bf : ab_B} : decode (ab_code (zx σ n0 bf).1 8003) 139 = .ok (.iastore, 1) := zd zm_8003 (by decide +kernel)
theorem d_8003_140 {σ : Nat → Nat} {n0 : Nat} {bf : ab_B} : decode (ab_code (zx σ n0 bf).1 8003) 140 = .ok (.aload_n 0, 1) := zd zm_8003 (by decide +kernel)
theorem d_8003_141 {σ : Nat → Nat} {n0 : Nat} {bf : ab_B} : decode (ab_code (zx σ n0 bf).1 8003) 141 = .ok (.getfield 236, 3) := zd zm_8003 (by decide +kernel)
theorem d_8003_144 {σ : Nat → Nat} {n0 : Nat} {bf : ab_B} : decode (ab_code (zx σ n0 bf).1 8003) 144 = .ok (.iconst 0, 1) := zd zm_8003 (by decide +kernel)
theorem d_8003_145 {σ : Nat → Nat} {n0 : Nat} {bf : ab_B} : decode (ab_code (zx σ n0 bf).1 8003) 145 = .ok (.iconst 0, 1) := zd zm_8003 (by decide +kernel)
theorem d_8003_146 {σ : Nat → Nat} {n0 : Nat} {bf : ab_B} : decode (ab_code (zx σ n0 bf).1 8003) 146 = .ok (.iastore, 1) := zd zm_8003 (by decide +kernel)
theorem d_8003_147 {σ : Nat → Nat} {n0 : Nat} {bf : ab_B} : decode (ab_code (zx σ n0 bf).1 8003) 147 = .ok (.aload_n 0, 1) := zd zm_8003 (by decide +kernel)
theorem d_8003_148 {σ : Nat → Nat} {n0 : Nat} {bf : ab_B} : decode (ab_code (zx σ n0 bf).1 8003) 148 = .ok (.getfield 227, 3) := zd zm_8003 (by decide +kernel)
theorem d_8003_151 {σ : Nat → Nat} {n0 : Nat} {bf : ab_B} : decode (ab_code (zx σ n0 bf).1 8003) 151 = .ok (.iconst 0, 1) := zd zm_8003 (by decide +kernel)
theorem d_8003_152 {σ : Nat → Nat} {n0 : Nat} {bf : ab_B} : decode (ab_code (zx σ n0 bf).1 8003) 152 = .ok (.iconst 0, 1) := zd zm_8003 (by decide +kernel)
theorem d_8003_153 {σ : Nat → Nat} {n0 : Nat} {bf : ab_B} : decode (ab_code (zx σ n0 bf).1 8003) 153 = .ok (.iastore, 1) := zd zm_8003 (by decide +kernel)
theorem d_8003_154 {σ : Nat → Nat} {n0 : Nat} {bf : ab_B} : decode (ab_code (zx σ n0 bf).1 8003) 154 = .ok (.aload_n 0, 1) := zd zm_8003 (by decide +kernel)
theorem d_8003_155 {σ : Nat → Nat} {n0 : Nat} {bf : ab_B} : decode (ab_code (zx σ n0 bf).1 8003) 155 = .ok (.getfield 230, 3) := zd zm_8003 (by decide +kernel)
theorem d_8003_158 {σ : Nat → Nat} {n0 : Nat} {bf : ab_B} : decode (ab_code (zx σ n0 bf).1 8003) 158 = .ok (.iconst 0, 1) := zd zm_8003 (by decide +kernel)
theorem d_8003_159 {σ : Nat → Nat} {n0 : Nat} {bf : ab_B} : decode (ab_code (zx σ n0 bf).1 8003) 159 = .ok (.iconst 0, 1) := zd zm_8003 (by decide +kernel)
theorem d_8003_160 {σ : Nat → Nat} {n0 : Nat} {bf : ab_B} : decode (ab_code (zx σ n0 bf).1 8003) 160 = .ok (.bastore, 1) := zd zm_8003 (by decide +kernel)
theorem d_8003_161 {σ : Nat → Nat} {n0 : Nat} {bf : ab_B} : decode (ab_code (zx σ n0 bf).1 8003) 161 = .ok (.aload_n 0, 1) := zd zm_8003 (by decide +kernel)
theorem d_8003_162 {σ : Nat → Nat} {n0 : Nat} {bf : ab_B} : decode (ab_code (zx σ n0 bf).1 8003) 162 = .ok (.bipush 80, 2) := zd zm_8003 (by decide +kernel)
theorem d_8003_164 {σ : Nat → Nat} {n0 : Nat} {bf : ab_B} : decode (ab_code (zx σ n0 bf).1 8003) 164 = .ok (.iconst 1, 1) := zd zm_8003 (by decide +kernel)
theorem d_8003_165 {σ : Nat → Nat} {n0 : Nat} {bf : ab_B} : decode (ab_code (zx σ n0 bf).1 8003) 165 = .ok (.iconst 0, 1) := zd zm_8003 (by decide +kernel)
theorem d_8003_166 {σ : Nat → Nat} {n0 : Nat} {bf : ab_B} : decode (ab_code (zx σ n0 bf).1 8003) 166 = .ok (.iconst 0, 1) := zd zm_8003 (by decide +kernel)
theorem d_8003_167 {σ : Nat → Nat} {n0 : Nat} {bf : ab_B} : decode (ab_code (zx σ n0 bf).1 8003) 167 = .ok (.invokevirtual 656, 3) := zd zm_8003 (by decide +kernel)
theorem d_8003_170 {σ : Nat → Nat} {n0 : Nat} {bf : ab_B} : decode (ab_code (zx σ n0 bf).1 8003) 170 = .ok (.istore_n 1, 1) := zd zm_8003 (by decide +kernel)
theorem d_8003_171 {σ : Nat → Nat} {n0 : Nat} {bf : ab_B} : decode (ab_code (zx σ n0 bf).1 8003) 171 = .ok (.aload_n 0, 1) := zd zm_8003 (by decide +kernel)
theorem d_8003_172 {σ : Nat → Nat} {n0 : Nat} {bf : ab_B} : decode (ab_code (zx σ n0 bf).1 8003) 172 = .ok (.getfield 212, 3) := zd zm_8003 (by decide +kernel)
theorem d_8003_175 {σ : Nat → Nat} {n0 : Nat} {bf : ab_B} : decode (ab_code (zx σ n0 bf).1 8003) 175 = .ok (.iconst 0, 1) := zd zm_8003 (by decide +kernel)
theorem d_8003_176 {σ : Nat → Nat} {n0 : Nat} {bf : ab_B} : decode (ab_code (zx σ n0 bf).1 8003) 176 = .ok (.iconst 1, 1) := zd zm_8003 (by decide +kernel)
theorem d_8003_177 {σ : Nat → Nat} {n0 : Nat} {bf : ab_B} : decode (ab_code (zx σ n0 bf).1 8003) 177 = .ok (.iastore, 1) := zd zm_8003 (by decide +kernel)
theorem d_8003_178 {σ : Nat → Nat} {n0 : Nat} {bf : ab_B} : decode (ab_code (zx σ n0 bf).1 8003) 178 = .ok (.aload_n 0, 1) := zd zm_8003 (by decide +kernel)
theorem d_8003_179 {σ : Nat → Nat} {n0 : Nat} {bf : ab_B} : decode (ab_code (zx σ n0 bf).1 8003) 179 = .ok (.invokevirtual 603, 3) := zd zm_8003 (by decide +kernel)
theorem d_8003_182 {σ : Nat → Nat} {n0 : Nat} {bf : ab_B} : decode (ab_code (zx σ n0 bf).1 8003) 182 = .ok (.return_, 1) := zd zm_8003 (by decide +kernel)
def w_X9_beginReading_171 (X : zs_X) (d : Nat) (p0 : Nat) (S : zs_T) (Q : zs_Q) : Prop :=
  (zs_K S p0 = some (.inl 8) ∧ ∃ b2, (zs_R S 8099 p0) = some b2 ∧ zs_A S b2 0 (0 : Int32) ∧ ab_n0 X.1 ≤ b2 ∧ ∀ S6, S6 = zs_si S b2 (0 : Int32).toNatClampNeg (1 : Int32) → zs_C X d 8010 [.ref p0] S6 (zs_kV (fun S9 => (Q (.returned none) S9)) Q))
theorem u_X9_beginReading_171 {σ : Nat → Nat} {n0 : Nat} {bf : ab_B} {d : Nat} {p0 : Nat} {S : zs_T} {Q : zs_Q} (hB : zt_B bf) (h : w_X9_beginReading_171 (zx σ n0 bf) d p0 S Q) : zs_U (zx σ n0 bf) d 8003 171 [(0, .ref p0)] [] S Q := by
  unfold w_X9_beginReading_171 at h
  refine zu_aload_n d_8003_171 rfl (zs_ra _) ?_
  obtain ⟨k1, h⟩ := h
  refine zg_8_212 rfl d_8003_172 k1 ?_
  refine zu_iconst d_8003_175 zi_0 ?_
  refine zu_iconst d_8003_176 zi_1 ?_
  obtain ⟨b2, e3, h⟩ := h
  refine zs_stk2 (zs_rfe e3) ?_
  obtain ⟨k4, h⟩ := h
  obtain ⟨k5, h⟩ := h
  refine zu_iast (k := 0) d_8003_177 rfl rfl k5 k4 ?_
  generalize e7 : zs_si S b2 (0 : Int32).toNatClampNeg (1 : Int32) = S6
  have h := h S6 e7.symm
  have K8 : ∀ b, zs_K S6 b = zs_K S b := zs_Kt e7 (zs_Ksi _ _ _ _) (fun _ => rfl)
  refine zu_aload_n d_8003_178 rfl (zs_ra _) ?_
  refine zc_8_603  hB rfl ((K8 _).trans k1) d_8003_179 (Nat.le_of_ble_eq_true rfl) h (fun S9 h => ?_)
  exact zu_vret d_8003_182 zr_8003 h
def w_X9_beginReading_140 (X : zs_X) (d : Nat) (p0 : Nat) (S : zs_T) (Q : zs_Q) : Prop :=
  (zs_K S p0 = some (.inl 8) ∧ ∃ b2, (zs_R S 8107 p0) = some b2 ∧ zs_A S b2 0 (0 : Int32) ∧ ab_n0 X.1 ≤ b2 ∧ ∀ S6, S6 = zs_si S b2 (0 : Int32).toNatClampNeg (0 : Int32) → ∃ b9, (zs_R S6 8104 p0) = some b9 ∧ zs_A S b9 0 (0 : Int32) ∧ ab_n0 X.1 ≤ b9 ∧ ∀ S13, S13 = zs_si S6 b9 (0 : Int32).toNatClampNeg (0 : Int32) → ∃ b16, (zs_R S13 8105 p0) = some b16 ∧ zs_A S b16 2 (0 : Int32) ∧ ab_n0 X.1 ≤ b16 ∧ ∀ S20, S20 = zs_si S13 b16 (0 : Int32).toNatClampNeg (vp_nar .boolean (0 : Int32)) → zs_C X d 8012 [.ref p0, .int (80 : Int32), .int (1 : Int32), .int (0 : Int32), .int (0 : Int32)] S20 (zs_kI (fun v24 S23 => (w_X9_beginReading_171 X d p0 S23 Q)) Q))
theorem u_X9_beginReading_140 {σ : Nat → Nat} {n0 : Nat} {bf : ab_B} {d : Nat} {p0 : Nat} {S : zs_T} {Q : zs_Q} (hB : zt_B bf) (h : w_X9_beginReading_140 (zx σ n0 bf) d p0 S Q) : zs_U (zx σ n0 bf) d 8003 140 [(0, .ref p0)] [] S Q := by
  unfold w_X9_beginReading_140 at h
  refine zu_aload_n d_8003_140 rfl (zs_ra _) ?_
  obtain ⟨k1, h⟩ := h
  refine zg_8_236 rfl d_8003_141 k1 ?_
  refine zu_iconst d_8003_144 zi_0 ?_
  refine zu_iconst d_8003_145 zi_0 ?_
  obtain ⟨b2, e3, h⟩ := h
  refine zs_stk2 (zs_rfe e3) ?_
  obtain ⟨k4, h⟩ := h
  obtain ⟨k5, h⟩ := h
  refine zu_iast (k := 0) d_8003_146 rfl rfl k5 k4 ?_
  generalize e7 : zs_si S b2 (0 : Int32).toNatClampNeg (0 : Int32) = S6
  have h := h S6 e7.symm
  have K8 : ∀ b, zs_K S6 b = zs_K S b := zs_Kt e7 (zs_Ksi _ _ _ _) (fun _ => rfl)
  refine zu_aload_n d_8003_147 rfl (zs_ra _) ?_
  refine zg_8_227 rfl d_8003_148 ((K8 _).trans k1) ?_
  refine zu_iconst d_8003_151 zi_0 ?_
  refine zu_iconst d_8003_152 zi_0 ?_
  obtain ⟨b9, e10, h⟩ := h
  refine zs_stk2 (zs_rfe e10) ?_
  obtain ⟨k11, h⟩ := h
  obtain ⟨k12, h⟩ := h
  refine zu_iast (k := 0) d_8003_153 rfl rfl k12 (zs_Ak K8 k11) ?_
  generalize e14 : zs_si S6 b9 (0 : Int32).toNatClampNeg (0 : Int32) = S13
  have h := h S13 e14.symm
  have K15 : ∀ b, zs_K S13 b = zs_K S b := zs_Kt e14 (zs_Ksi _ _ _ _) K8
  refine zu_aload_n d_8003_154 rfl (zs_ra _) ?_
  refine zg_8_230 rfl d_8003_155 ((K15 _).trans k1) ?_
  refine zu_iconst d_8003_158 zi_0 ?_
  refine zu_iconst d_8003_159 zi_0 ?_
  obtain ⟨b16, e17, h⟩ := h
  refine zs_stk2 (zs_rfe e17) ?_
  obtain ⟨k18, h⟩ := h
  obtain ⟨k19, h⟩ := h
  refine zu_bast_bool (k := 2) d_8003_160 rfl rfl k19 (zs_Ak K15 k18) ?_
  generalize e21 : zs_si S13 b16 (0 : Int32).toNatClampNeg (vp_nar .boolean (0 : Int32)) = S20
  have h := h S20 e21.symm
  have K22 : ∀ b, zs_K S20 b = zs_K S b := zs_Kt e21 (zs_Ksi _ _ _ _) K15
  refine zu_aload_n d_8003_161 rfl (zs_ra _) ?_
  refine zu_bipush d_8003_162 zj_80 ?_
  refine zu_iconst d_8003_164 zi_1 ?_
  refine zu_iconst d_8003_165 zi_0 ?_
  refine zu_iconst d_8003_166 zi_0 ?_
  refine zc_8_656 (x0 := (80 : Int32)) (x1 := (1 : Int32)) (x2 := (0 : Int32)) (x3 := (0 : Int32)) hB rfl ((K22 _).trans k1) d_8003_167 (Nat.le_of_ble_eq_true rfl) h (fun v24 S23 h => ?_)
  refine zu_istore_n d_8003_170 (zs_lt zq_8003 rfl) ?_
  exact (u_X9_beginReading_171 hB h).weak ⟨rfl, trivial⟩
def w_X9_beginReading_112 (X : zs_X) (d : Nat) (p0 : Nat) (S : zs_T) (Q : zs_Q) : Prop :=
  (zs_K S p0 = some (.inl 8) ∧ ∃ b2, (zs_R S 8106 p0) = some b2 ∧ zs_A S b2 0 (0 : Int32) ∧ ab_n0 X.1 ≤ b2 ∧ ∀ S6, S6 = zs_si S b2 (0 : Int32).toNatClampNeg (-1 : Int32) → ∃ b9, (zs_R S6 8103 p0) = some b9 ∧ zs_A S b9 0 (0 : Int32) ∧ ab_n0 X.1 ≤ b9 ∧ ∀ S13, S13 = zs_si S6 b9 (0 : Int32).toNatClampNeg (0 : Int32) → ∃ b16, (zs_R S13 8100 p0) = some b16 ∧ zs_A S b16 0 (0 : Int32) ∧ ab_n0 X.1 ≤ b16 ∧ ∀ S20, S20 = zs_si S13 b16 (0 : Int32).toNatClampNeg (0 : Int32) → ∃ b23, (zs_R S20 8102 p0) = some b23 ∧ zs_A S b23 0 (0 : Int32) ∧ ab_n0 X.1 ≤ b23 ∧ ∀ S27, S27 = zs_si S20 b23 (0 : Int32).toNatClampNeg (0 : Int32) → w_X9_beginReading_140 X d p0 S27 Q)
theorem u_X9_beginReading_112 {σ : Nat → Nat} {n0 : Nat} {bf : ab_B} {d : Nat} {p0 : Nat} {S : zs_T} {Q : zs_Q} (hB : zt_B bf) (h : w_X9_beginReading_112 (zx σ n0 bf) d p0 S Q) : zs_U (zx σ n0 bf) d 8003 112 [(0, .ref p0)] [] S Q := by
  unfold w_X9_beginReading_112 at h
  refine zu_aload_n d_8003_112 rfl (zs_ra _) ?_
  obtain ⟨k1, h⟩ := h
  refine zg_8_233 rfl d_8003_113 k1 ?_
  refine zu_iconst d_8003_116 zi_0 ?_
  refine zu_iconst d_8003_117 zi_m1 ?_
  obtain ⟨b2, e3, h⟩ := h
  refine zs_stk2 (zs_rfe e3) ?_
  obtain ⟨k4, h⟩ := h
  obtain ⟨k5, h⟩ := h
  refine zu_iast (k := 0) d_8003_118 rfl rfl k5 k4 ?_
  generalize e7 : zs_si S b2 (0 : Int32).toNatClampNeg (-1 : Int32) = S6
  have h := h S6 e7.symm
  have K8 : ∀ b, zs_K S6 b = zs_K S b := zs_Kt e7 (zs_Ksi _ _ _ _) (fun _ => rfl)
  refine zu_aload_n d_8003_119 rfl (zs_ra _) ?_
  refine zg_8_224 rfl d_8003_120 ((K8 _).trans k1) ?_
  refine zu_iconst d_8003_123 zi_0 ?_
  refine zu_iconst d_8003_124 zi_0 ?_
  obtain ⟨b9, e10, h⟩ := h
  refine zs_stk2 (zs_rfe e10) ?_
  obtain ⟨k11, h⟩ := h
  obtain ⟨k12, h⟩ := h
  refine zu_iast (k := 0) d_8003_125 rfl rfl k12 (zs_Ak K8 k11) ?_
  generalize e14 : zs_si S6 b9 (0 : Int32).toNatClampNeg (0 : Int32) = S13
  have h := h S13 e14.symm
  have K15 : ∀ b, zs_K S13 b = zs_K S b := zs_Kt e14 (zs_Ksi _ _ _ _) K8
  refine zu_aload_n d_8003_126 rfl (zs_ra _) ?_
  refine zg_8_215 rfl d_8003_127 ((K15 _).trans k1) ?_
  refine zu_iconst d_8003_130 zi_0 ?_
  refine zu_iconst d_8003_131 zi_0 ?_
  obtain ⟨b16, e17, h⟩ := h
  refine zs_stk2 (zs_rfe e17) ?_
  obtain ⟨k18, h⟩ := h
  obtain ⟨k19, h⟩ := h
  refine zu_iast (k := 0) d_8003_132 rfl rfl k19 (zs_Ak K15 k18) ?_
  generalize e21 : zs_si S13 b16 (0 : Int32).toNatClampNeg (0 : Int32) = S20
  have h := h S20 e21.symm
  have K22 : ∀ b, zs_K S20 b = zs_K S b := zs_Kt e21 (zs_Ksi _ _ _ _) K15
  refine zu_aload_n d_8003_133 rfl (zs_ra _) ?_
  refine zg_8_221 rfl d_8003_134 ((K22 _).trans k1) ?_
  refine zu_iconst d_8003_137 zi_0 ?_
  refine zu_iconst d_8003_138 zi_0 ?_
  obtain ⟨b23, e24, h⟩ := h
  refine zs_stk2 (zs_rfe e24) ?_
  obtain ⟨k25, h⟩ := h
  obtain ⟨k26, h⟩ := h
  refine zu_iast (k := 0) d_8003_139 rfl rfl k26 (zs_Ak K22 k25) ?_
  generalize e28 : zs_si S20 b23 (0 : Int32).toNatClampNeg (0 : Int32) = S27
  have h := h S27 e28.symm
  have K29 : ∀ b, zs_K S27 b = zs_K S b := zs_Kt e28 (zs_Ksi _ _ _ _) K22
  exact (u_X9_beginReading_140 hB h).weak ⟨rfl, trivial⟩
def w_X9_beginReading_85 (X : zs_X) (d : Nat) (p0 : Nat) (S : zs_T) (Q : zs_Q) : Prop :=
  (zs_K S p0 = some (.inl 8) ∧ ab_n0 X.1 ≤ p0 ∧ ∀ S3, S3 = zs_sI S 8136 p0 (0 : Int32) → ∀ S6, S6 = zs_sI S3 8108 p0 (0 : Int32) → ∀ S9, S9 = zs_sI S6 8113 p0 (0 : Int32) → ∀ S12, S12 = zs_sI S9 8112 p0 (0 : Int32) → ∃ b15, (zs_R S12 8101 p0) = some b15 ∧ zs_A S b15 0 (0 : Int32) ∧ ab_n0 X.1 ≤ b15 ∧ ∀ S19, S19 = zs_si S12 b15 (0 : Int32).toNatClampNeg (0 : Int32) → w_X9_beginReading_112 X d p0 S19 Q)
theorem u_X9_beginReading_85 {σ : Nat → Nat} {n0 : Nat} {bf : ab_B} {d : Nat} {p0 : Nat} {S : zs_T} {Q : zs_Q} (hB : zt_B bf) (h : w_X9_beginReading_85 (zx σ n0 bf) d p0 S Q) : zs_U (zx σ n0 bf) d 8003 85 [(0, .ref p0)] [] S Q := by
  unfold w_X9_beginReading_85 at h
  refine zu_aload_n d_8003_85 rfl (zs_ra _) ?_
  refine zu_iconst d_8003_86 zi_0 ?_
  obtain ⟨k1, h⟩ := h
  obtain ⟨k2, h⟩ := h
  refine zp_8_870 (v := (0 : Int32)) rfl d_8003_87 k1 k2 ?_
  generalize e4 : zs_sI S 8136 p0 (0 : Int32) = S3
  have h := h S3 e4.symm
  have K5 : ∀ b, zs_K S3 b = zs_K S b := zs_Kt e4 (zs_KsI _ _ _ _) (fun _ => rfl)
  refine zu_aload_n d_8003_90 rfl (zs_ra _) ?_
  refine zu_iconst d_8003_91 zi_0 ?_
  refine zp_8_944 (v := (0 : Int32)) rfl d_8003_92 ((K5 _).trans k1) k2 ?_
  generalize e7 : zs_sI S3 8108 p0 (0 : Int32) = S6
  have h := h S6 e7.symm
  have K8 : ∀ b, zs_K S6 b = zs_K S b := zs_Kt e7 (zs_KsI _ _ _ _) K5
  refine zu_aload_n d_8003_95 rfl (zs_ra _) ?_
  refine zu_iconst d_8003_96 zi_0 ?_
  refine zp_8_722 (v := (0 : Int32)) rfl d_8003_97 ((K8 _).trans k1) k2 ?_
  generalize e10 : zs_sI S6 8113 p0 (0 : Int32) = S9
  have h := h S9 e10.symm
  have K11 : ∀ b, zs_K S9 b = zs_K S b := zs_Kt e10 (zs_KsI _ _ _ _) K8
  refine zu_aload_n d_8003_100 rfl (zs_ra _) ?_
  refine zu_iconst d_8003_101 zi_0 ?_
  refine zp_8_953 (v := (0 : Int32)) rfl d_8003_102 ((K11 _).trans k1) k2 ?_
  generalize e13 : zs_sI S9 8112 p0 (0 : Int32) = S12
  have h := h S12 e13.symm
  have K14 : ∀ b, zs_K S12 b = zs_K S b := zs_Kt e13 (zs_KsI _ _ _ _) K11
  refine zu_aload_n d_8003_105 rfl (zs_ra _) ?_
  refine zg_8_218 rfl d_8003_106 ((K14 _).trans k1) ?_
  refine zu_iconst d_8003_109 zi_0 ?_
  refine zu_iconst d_8003_110 zi_0 ?_
  obtain ⟨b15, e16, h⟩ := h
  refine zs_stk2 (zs_rfe e16) ?_
  obtain ⟨k17, h⟩ := h
  obtain ⟨k18, h⟩ := h
  refine zu_iast (k := 0) d_8003_111 rfl rfl k18 (zs_Ak K14 k17) ?_
  generalize e20 : zs_si S12 b15 (0 : Int32).toNatClampNeg (0 : Int32) = S19
  have h := h S19 e20.symm
  have K21 : ∀ b, zs_K S19 b = zs_K S b := zs_Kt e20 (zs_Ksi _ _ _ _) K14
  exact (u_X9_beginReading_112 hB h).weak ⟨rfl, trivial⟩
def w_X9_beginReading_55 (X : zs_X) (d : Nat) (p0 : Nat) (S : zs_T) (Q : zs_Q) : Prop :=
  (zs_K S p0 = some (.inl 8) ∧ ab_n0 X.1 ≤ p0 ∧ ∀ S3, S3 = zs_sI S 8129 p0 (0 : Int32) → ∀ S6, S6 = zs_sI S3 8090 p0 (0 : Int32) → ∀ S9, S9 = zs_sI S6 8153 p0 (0 : Int32) → ∀ S12, S12 = zs_sI S9 8114 p0 (0 : Int32) → ∀ S15, S15 = zs_sI S12 8154 p0 (0 : Int32) → ∀ S18, S18 = zs_sI S15 8132 p0 (0 : Int32) → w_X9_beginReading_85 X d p0 S18 Q)
theorem u_X9_beginReading_55 {σ : Nat → Nat} {n0 : Nat} {bf : ab_B} {d : Nat} {p0 : Nat} {S : zs_T} {Q : zs_Q} (hB : zt_B bf) (h : w_X9_beginReading_55 (zx σ n0 bf) d p0 S Q) : zs_U (zx σ n0 bf) d 8003 55 [(0, .ref p0)] [] S Q := by
  unfold w_X9_beginReading_55 at h
  refine zu_aload_n d_8003_55 rfl (zs_ra _) ?_
  refine zu_iconst d_8003_56 zi_0 ?_
  obtain ⟨k1, h⟩ := h
  obtain ⟨k2, h⟩ := h
  refine zp_8_831 (v := (0 : Int32)) rfl d_8003_57 k1 k2 ?_
  generalize e4 : zs_sI S 8129 p0 (0 : Int32) = S3
  have h := h S3 e4.symm
  have K5 : ∀ b, zs_K S3 b = zs_K S b := zs_Kt e4 (zs_KsI _ _ _ _) (fun _ => rfl)
  refine zu_aload_n d_8003_60 rfl (zs_ra _) ?_
  refine zu_iconst d_8003_61 zi_0 ?_
  refine zp_8_646 (v := (0 : Int32)) rfl d_8003_62 ((K5 _).trans k1) k2 ?_
  generalize e7 : zs_sI S3 8090 p0 (0 : Int32) = S6
  have h := h S6 e7.symm
  have K8 : ∀ b, zs_K S6 b = zs_K S b := zs_Kt e7 (zs_KsI _ _ _ _) K5
  refine zu_aload_n d_8003_65 rfl (zs_ra _) ?_
  refine zu_iconst d_8003_66 zi_0 ?_
  refine zp_8_983 (v := (0 : Int32)) rfl d_8003_67 ((K8 _).trans k1) k2 ?_
  generalize e10 : zs_sI S6 8153 p0 (0 : Int32) = S9
  have h := h S9 e10.symm
  have K11 : ∀ b, zs_K S9 b = zs_K S b := zs_Kt e10 (zs_KsI _ _ _ _) K8
  refine zu_aload_n d_8003_70 rfl (zs_ra _) ?_
  refine zu_iconst d_8003_71 zi_0 ?_
  refine zp_8_852 (v := (0 : Int32)) rfl d_8003_72 ((K11 _).trans k1) k2 ?_
  generalize e13 : zs_sI S9 8114 p0 (0 : Int32) = S12
  have h := h S12 e13.symm
  have K14 : ∀ b, zs_K S12 b = zs_K S b := zs_Kt e13 (zs_KsI _ _ _ _) K11
  refine zu_aload_n d_8003_75 rfl (zs_ra _) ?_
  refine zu_iconst d_8003_76 zi_0 ?_
  refine zp_8_986 (v := (0 : Int32)) rfl d_8003_77 ((K14 _).trans k1) k2 ?_
  generalize e16 : zs_sI S12 8154 p0 (0 : Int32) = S15
  have h := h S15 e16.symm
  have K17 : ∀ b, zs_K S15 b = zs_K S b := zs_Kt e16 (zs_KsI _ _ _ _) K14
  refine zu_aload_n d_8003_80 rfl (zs_ra _) ?_
  refine zu_iconst d_8003_81 zi_0 ?_
  refine zp_8_867 (v := (0 : Int32)) rfl d_8003_82 ((K17 _).trans k1) k2 (Or.inl rfl) ?_
  generalize e19 : zs_sI S15 8132 p0 (0 : Int32) = S18
  have h := h S18 e19.symm
  have K20 : ∀ b, zs_K S18 b = zs_K S b := zs_Kt e19 (zs_KsI _ _ _ _) K17
  exact (u_X9_beginReading_85 hB h).weak ⟨rfl, trivial⟩
def w_X9_beginReading_10 (X : zs_X) (d : Nat) (p0 : Nat) (p1 : Int32) (S : zs_T) (Q : zs_Q) : Prop :=
  ((((20000 : Int32) ≤ p1 → (zs_K S p0 = some (.inl 8) ∧ ab_n0 X.1 ≤ p0 ∧ ∀ S4, S4 = zs_sI S 8005 p0 (0 : Int32) → ∀ S7, S7 = zs_sI S4 8010 p0 (0 : Int32) → ∀ S10, S10 = zs_sI S7 8011 p0 (0 : Int32) → ∀ S13, S13 = zs_sI S10 8089 p0 (0 : Int32) → ∀ S16, S16 = zs_sI S13 8097 p0 (0 : Int32) → w_X9_beginReading_55 X d p0 S16 Q)) ∧ (¬ ((20000 : Int32) ≤ p1) → (zs_K S p0 = some (.inl 8) ∧ ∃ b20, (zs_R S 8116 p0) = some b20 ∧ zs_A S b20 0 p1 ∧ ab_n0 X.1 ≤ b20 ∧ ∀ S24, S24 = zs_si S b20 p1.toNatClampNeg (0 : Int32) → zs_U X d 8003 10 [(0, .ref p0), (1, .int (p1 + (1 : Int32)))] [] S24 Q))))
theorem u_X9_beginReading_10 {σ : Nat → Nat} {n0 : Nat} {bf : ab_B} {d : Nat} {p0 : Nat} {p1 : Int32} {S : zs_T} {Q : zs_Q} (hB : zt_B bf) (h : w_X9_beginReading_10 (zx σ n0 bf) d p0 p1 S Q) : zs_U (zx σ n0 bf) d 8003 10 [(0, .ref p0), (1, .int p1)] [] S Q := by
  unfold w_X9_beginReading_10 at h
  refine zu_iload_n d_8003_10 rfl ?_
  refine zu_sipush d_8003_11 zh_20000 ?_
  refine zu_cmpge (t := 30) d_8003_14 rfl (fun c1 => ?_) (fun c1 => ?_)
  · have h := h.1 c1
    refine zu_aload_n d_8003_30 rfl (zs_ra _) ?_
    refine zu_iconst d_8003_31 zi_0 ?_
    obtain ⟨k2, h⟩ := h
    obtain ⟨k3, h⟩ := h
    refine zp_8_487 (v := (0 : Int32)) rfl d_8003_32 k2 k3 ?_
    generalize e5 : zs_sI S 8005 p0 (0 : Int32) = S4
    have h := h S4 e5.symm
    have K6 : ∀ b, zs_K S4 b = zs_K S b := zs_Kt e5 (zs_KsI _ _ _ _) (fun _ => rfl)
    refine zu_aload_n d_8003_35 rfl (zs_ra _) ?_
    refine zu_iconst d_8003_36 zi_0 ?_
    refine zp_8_444 (v := (0 : Int32)) rfl d_8003_37 ((K6 _).trans k2) k3 ?_
    generalize e8 : zs_sI S4 8010 p0 (0 : Int32) = S7
    have h := h S7 e8.symm
    have K9 : ∀ b, zs_K S7 b = zs_K S b := zs_Kt e8 (zs_KsI _ _ _ _) K6
    refine zu_aload_n d_8003_40 rfl (zs_ra _) ?_
    refine zu_iconst d_8003_41 zi_0 ?_
    refine zp_8_447 (v := (0 : Int32)) rfl d_8003_42 ((K9 _).trans k2) k3 ?_
    generalize e11 : zs_sI S7 8011 p0 (0 : Int32) = S10
    have h := h S10 e11.symm
    have K12 : ∀ b, zs_K S10 b = zs_K S b := zs_Kt e11 (zs_KsI _ _ _ _) K9
    refine zu_aload_n d_8003_45 rfl (zs_ra _) ?_
    refine zu_iconst d_8003_46 zi_0 ?_
    refine zp_8_643 (v := (0 : Int32)) rfl d_8003_47 ((K12 _).trans k2) k3 ?_
    generalize e14 : zs_sI S10 8089 p0 (0 : Int32) = S13
    have h := h S13 e14.symm
    have K15 : ∀ b, zs_K S13 b = zs_K S b := zs_Kt e14 (zs_KsI _ _ _ _) K12
    refine zu_aload_n d_8003_50 rfl (zs_ra _) ?_
    refine zu_iconst d_8003_51 zi_0 ?_
    refine zp_8_653 (v := (0 : Int32)) rfl d_8003_52 ((K15 _).trans k2) k3 ?_
    generalize e17 : zs_sI S13 8097 p0 (0 : Int32) = S16
    have h := h S16 e17.symm
    have K18 : ∀ b, zs_K S16 b = zs_K S b := zs_Kt e17 (zs_KsI _ _ _ _) K15
    exact (u_X9_beginReading_55 hB h).weak ⟨rfl, trivial⟩
  · have h := h.2 c1
    refine zu_aload_n d_8003_17 rfl (zs_ra _) ?_
    obtain ⟨k19, h⟩ := h
    refine zg_8_251 rfl d_8003_18 k19 ?_
    refine zu_iload_n d_8003_21 rfl ?_
    refine zu_iconst d_8003_22 zi_0 ?_
    obtain ⟨b20, e21, h⟩ := h
    refine zs_stk2 (zs_rfe e21) ?_
    obtain ⟨k22, h⟩ := h
    obtain ⟨k23, h⟩ := h
    refine zu_iast (k := 0) d_8003_23 rfl rfl k23 k22 ?_
    generalize e25 : zs_si S b20 p1.toNatClampNeg (0 : Int32) = S24
    have h := h S24 e25.symm
    have K26 : ∀ b, zs_K S24 b = zs_K S b := zs_Kt e25 (zs_Ksi _ _ _ _) (fun _ => rfl)
    refine zu_iinc d_8003_24 rfl zi_1 (zs_lt zq_8003 rfl) ?_
    refine zu_goto (t := 10) d_8003_27 rfl ?_
    exact h.weak ⟨rfl, rfl, trivial⟩
def w_X9_beginReading (X : zs_X) (d : Nat) (p0 : Nat) (S : zs_T) (Q : zs_Q) : Prop :=
  (zs_K S p0 = some (.inl 8) ∧ zs_C X d 8004 [.ref p0] S (zs_kV (fun S2 => (zs_K S2 p0 = some (.inl 8) ∧ zs_C X d 8008 [.ref p0] S2 (zs_kV (fun S5 => (zs_U X d 8003 10 [(0, .ref p0), (1, .int (0 : Int32))] [] S5 Q)) Q))) Q))
theorem u_X9_beginReading {σ : Nat → Nat} {n0 : Nat} {bf : ab_B} {d : Nat} {p0 : Nat} {S : zs_T} {Q : zs_Q} (hB : zt_B bf) (hd : 1 ≤ d) (h : w_X9_beginReading (zx σ n0 bf) (d - 1) p0 S Q) : zs_C (zx σ n0 bf) d 8003 [.ref p0] S Q := by
  have hL : lv_args 0 [.ref p0] = [(0, .ref p0)] := rfl
  refine zs_C.of1 (hB.2 8003 (by decide) (by decide)) hd (by rw [hL]; exact zs_sub_self _ (by exact ⟨rfl, trivial⟩)) ?_
  rw [hL]
  clear hL
  unfold w_X9_beginReading at h
  refine zu_aload_n d_8003_0 rfl (zs_ra _) ?_
  obtain ⟨k1, h⟩ := h
  refine zc_8_1207  hB rfl k1 d_8003_1 (Nat.le_of_ble_eq_true rfl) h (fun S2 h => ?_)
  refine zu_aload_n d_8003_4 rfl (zs_ra _) ?_
  obtain ⟨k4, h⟩ := h
  refine zc_8_1210  hB rfl k4 d_8003_5 (Nat.le_of_ble_eq_true rfl) h (fun S5 h => ?_)
  refine zu_iconst d_8003_8 zi_0 ?_
  refine zu_istore_n d_8003_9 (zs_lt zq_8003 rfl) ?_
  exact h.weak ⟨rfl, rfl, trivial⟩
/-! SchemaPascalModel.beginNames()V -/
theorem zm_8004 {σ : Nat → Nat} {n0 : Nat} {bf : ab_B} : ab_code (zx σ n0 bf).1 8004 = prog_17_method_11_code := rfl
theorem zq_8004 {σ : Nat → Nat} {n0 : Nat} {bf : ab_B} : ab_maxL (zx σ n0 bf).1 8004 = 4 := rfl
theorem zr_8004 {σ : Nat → Nat} {n0 : Nat} {bf : ab_B} : ab_ret (zx σ n0 bf).1 8004 = (Option.none : Option Jvm.ClassFile.FieldType) := rfl
theorem d_8004_0 {σ : Nat → Nat} {n0 : Nat} {bf : ab_B} : decode (ab_code (zx σ n0 bf).1 8004) 0 = .ok (.aload_n 0, 1) := zd zm_8004 (by decide +kernel)
theorem d_8004_1 {σ : Nat → Nat} {n0 : Nat} {bf : ab_B} : decode (ab_code (zx σ n0 bf).1 8004) 1 = .ok (.iconst 0, 1) := zd zm_8004 (by decide +kernel)
theorem d_8004_2 {σ : Nat → Nat} {n0 : Nat} {bf : ab_B} : decode (ab_code (zx σ n0 bf).1 8004) 2 = .ok (.putfield 474, 3) := zd zm_8004 (by decide +kernel)
theorem d_8004_5 {σ : Nat → Nat} {n0 : Nat} {bf : ab_B} : decode (ab_code (zx σ n0 bf).1 8004) 5 = .ok (.aload_n 0, 1) := zd zm_8004 (by decide +kernel)
theorem d_8004_6 {σ : Nat → Nat} {n0 : Nat} {bf : ab_B} : decode (ab_code (zx σ n0 bf).1 8004) 6 = .ok (.iconst 0, 1) := zd zm_8004 (by decide +kernel)
theorem d_8004_7 {σ : Nat → Nat} {n0 : Nat} {bf : ab_B} : decode (ab_code (zx σ n0 bf).1 8004) 7 = .ok (.putfield 477, 3) := zd zm_8004 (by decide +kernel)
theorem d_8004_10 {σ : Nat → Nat} {n0 : Nat} {bf : ab_B} : decode (ab_code (zx σ n0 bf).1 8004) 10 = .ok (.iconst 0, 1) := zd zm_8004 (by decide +kernel)
theorem d_8004_11 {σ : Nat → Nat} {n0 : Nat} {bf : ab_B} : decode (ab_code (zx σ n0 bf).1 8004) 11 = .ok (.istore_n 1, 1) := zd zm_8004 (by decide +kernel)
theorem d_8004_12 {σ : Nat → Nat} {n0 : Nat} {bf : ab_B} : decode (ab_code (zx σ n0 bf).1 8004) 12 = .ok (.iload_n 1, 1) := zd zm_8004 (by decide +kernel)
theorem d_8004_13 {σ : Nat → Nat} {n0 : Nat} {bf : ab_B} : decode (ab_code (zx σ n0 bf).1 8004) 13 = .ok (.sipush 4096, 3) := zd zm_8004 (by decide +kernel)
theorem d_8004_16 {σ : Nat → Nat} {n0 : Nat} {bf : ab_B} : decode (ab_code (zx σ n0 bf).1 8004) 16 = .ok (.if_icmp .ge 16, 3) := zd zm_8004 (by decide +kernel)
theorem d_8004_19 {σ : Nat → Nat} {n0 : Nat} {bf : ab_B} : decode (ab_code (zx σ n0 bf).1 8004) 19 = .ok (.aload_n 0, 1) := zd zm_8004 (by decide +kernel)
theorem d_8004_20 {σ : Nat → Nat} {n0 : Nat} {bf : ab_B} : decode (ab_code (zx σ n0 bf).1 8004) 20 = .ok (.getfield 34, 3) := zd zm_8004 (by decide +kernel)
theorem d_8004_23 {σ : Nat → Nat} {n0 : Nat} {bf : ab_B} : decode (ab_code (zx σ n0 bf).1 8004) 23 = .ok (.iload_n 1, 1) := zd zm_8004 (by decide +kernel)
theorem d_8004_24 {σ : Nat → Nat} {n0 : Nat} {bf : ab_B} : decode (ab_code (zx σ n0 bf).1 8004) 24 = .ok (.iconst 0, 1) := zd zm_8004 (by decide +kernel)
theorem d_8004_25 {σ : Nat → Nat} {n0 : Nat} {bf : ab_B} : decode (ab_code (zx σ n0 bf).1 8004) 25 = .ok (.iastore, 1) := zd zm_8004 (by decide +kernel)
theorem d_8004_26 {σ : Nat → Nat} {n0 : Nat} {bf : ab_B} : decode (ab_code (zx σ n0 bf).1 8004) 26 = .ok (.iinc 1 1, 3) := zd zm_8004 (by decide +kernel)
theorem d_8004_29 {σ : Nat → Nat} {n0 : Nat} {bf : ab_B} : decode (ab_code (zx σ n0 bf).1 8004) 29 = .ok (.goto (-17), 3) := zd zm_8004 (by decide +kernel)
theorem d_8004_32 {σ : Nat → Nat} {n0 : Nat} {bf : ab_B} : decode (ab_code (zx σ n0 bf).1 8004) 32 = .ok (.iconst 0, 1) := zd zm_8004 (by decide +kernel)
theorem d_8004_33 {σ : Nat → Nat} {n0 : Nat} {bf : ab_B} : decode (ab_code (zx σ n0 bf).1 8004) 33 = .ok (.istore_n 1, 1) := zd zm_8004 (by decide +kernel)
theorem d_8004_34 {σ : Nat → Nat} {n0 : Nat} {bf : ab_B} : decode (ab_code (zx σ n0 bf).1 8004) 34 = .ok (.iconst 0, 1) := zd zm_8004 (by decide +kernel)
theorem d_8004_35 {σ : Nat → Nat} {n0 : Nat} {bf : ab_B} : decode (ab_code (zx σ n0 bf).1 8004) 35 = .ok (.istore_n 2, 1) := zd zm_8004 (by decide +kernel)
theorem d_8004_36 {σ : Nat → Nat} {n0 : Nat} {bf : ab_B} : decode (ab_code (zx σ n0 bf).1 8004) 36 = .ok (.iload_n 2, 1) := zd zm_8004 (by decide +kernel)
theorem d_8004_37 {σ : Nat → Nat} {n0 : Nat} {bf : ab_B} : decode (ab_code (zx σ n0 bf).1 8004) 37 = .ok (.aload_n 0, 1) := zd zm_8004 (by decide +kernel)
theorem d_8004_38 {σ : Nat → Nat} {n0 : Nat} {bf : ab_B} : decode (ab_code (zx σ n0 bf).1 8004) 38 = .ok (.getfield 17, 3) := zd zm_8004 (by decide +kernel)
theorem d_8004_41 {σ : Nat → Nat} {n0 : Nat} {bf : ab_B} : decode (ab_code (zx σ n0 bf).1 8004) 41 = .ok (.arraylength, 1) := zd zm_8004 (by decide +kernel)
theorem d_8004_42 {σ : Nat → Nat} {n0 : Nat} {bf : ab_B} : decode (ab_code (zx σ n0 bf).1 8004) 42 = .ok (.if_icmp .ge 34, 3) := zd zm_8004 (by decide +kernel)
theorem d_8004_45 {σ : Nat → Nat} {n0 : Nat} {bf : ab_B} : decode (ab_code (zx σ n0 bf).1 8004) 45 = .ok (.aload_n 0, 1) := zd zm_8004 (by decide +kernel)
theorem d_8004_46 {σ : Nat → Nat} {n0 : Nat} {bf : ab_B} : decode (ab_code (zx σ n0 bf).1 8004) 46 = .ok (.getfield 17, 3) := zd zm_8004 (by decide +kernel)
theorem d_8004_49 {σ : Nat → Nat} {n0 : Nat} {bf : ab_B} : decode (ab_code (zx σ n0 bf).1 8004) 49 = .ok (.iload_n 2, 1) := zd zm_8004 (by decide +kernel)
theorem d_8004_50 {σ : Nat → Nat} {n0 : Nat} {bf : ab_B} : decode (ab_code (zx σ n0 bf).1 8004) 50 = .ok (.baload, 1) := zd zm_8004 (by decide +kernel)
theorem d_8004_51 {σ : Nat → Nat} {n0 : Nat} {bf : ab_B} : decode (ab_code (zx σ n0 bf).1 8004) 51 = .ok (.bipush 32, 2) := zd zm_8004 (by decide +kernel)
theorem d_8004_53 {σ : Nat → Nat} {n0 : Nat} {bf : ab_B} : decode (ab_code (zx σ n0 bf).1 8004) 53 = .ok (.if_icmp .ne 17, 3) := zd zm_8004 (by decide +kernel)
theorem d_8004_56 {σ : Nat → Nat} {n0 : Nat} {bf : ab_B} : decode (ab_code (zx σ n0 bf).1 8004) 56 = .ok (.aload_n 0, 1) := zd zm_8004 (by decide +kernel)
theorem d_8004_57 {σ : Nat → Nat} {n0 : Nat} {bf : ab_B} : decode (ab_code (zx σ n0 bf).1 8004) 57 = .ok (.iconst 1, 1) := zd zm_8004 (by decide +kernel)
theorem d_8004_58 {σ : Nat → Nat} {n0 : Nat} {bf : ab_B} : decode (ab_code (zx σ n0 bf).1 8004) 58 = .ok (.iload_n 1, 1) := zd zm_8004 (by decide +kernel)
theorem d_8004_59 {σ : Nat → Nat} {n0 : Nat} {bf : ab_B} : decode (ab_code (zx σ n0 bf).1 8004) 59 = .ok (.iload_n 2, 1) := zd zm_8004 (by decide +kernel)
theorem d_8004_60 {σ : Nat → Nat} {n0 : Nat} {bf : ab_B} : decode (ab_code (zx σ n0 bf).1 8004) 60 = .ok (.iload_n 1, 1) := zd zm_8004 (by decide +kernel)
theorem d_8004_61 {σ : Nat → Nat} {n0 : Nat} {bf : ab_B} : decode (ab_code (zx σ n0 bf).1 8004) 61 = .ok (.isub, 1) := zd zm_8004 (by decide +kernel)
theorem d_8004_62 {σ : Nat → Nat} {n0 : Nat} {bf : ab_B} : decode (ab_code (zx σ n0 bf).1 8004) 62 = .ok (.invokevirtual 480, 3) := zd zm_8004 (by decide +kernel)
theorem d_8004_65 {σ : Nat → Nat} {n0 : Nat} {bf : ab_B} : decode (ab_code (zx σ n0 bf).1 8004) 65 = .ok (.istore_n 3, 1) := zd zm_8004 (by decide +kernel)
theorem d_8004_66 {σ : Nat → Nat} {n0 : Nat} {bf : ab_B} : decode (ab_code (zx σ n0 bf).1 8004) 66 = .ok (.iload_n 2, 1) := zd zm_8004 (by decide +kernel)
theorem d_8004_67 {σ : Nat → Nat} {n0 : Nat} {bf : ab_B} : decode (ab_code (zx σ n0 bf).1 8004) 67 = .ok (.iconst 1, 1) := zd zm_8004 (by decide +kernel)
theorem d_8004_68 {σ : Nat → Nat} {n0 : Nat} {bf : ab_B} : decode (ab_code (zx σ n0 bf).1 8004) 68 = .ok (.iadd, 1) := zd zm_8004 (by decide +kernel)
theorem d_8004_69 {σ : Nat → Nat} {n0 : Nat} {bf : ab_B} : decode (ab_code (zx σ n0 bf).1 8004) 69 = .ok (.istore_n 1, 1) := zd zm_8004 (by decide +kernel)
theorem d_8004_70 {σ : Nat → Nat} {n0 : Nat} {bf : ab_B} : decode (ab_code (zx σ n0 bf).1 8004) 70 = .ok (.iinc 2 1, 3) := zd zm_8004 (by decide +kernel)
theorem d_8004_73 {σ : Nat → Nat} {n0 : Nat} {bf : ab_B} : decode (ab_code (zx σ n0 bf).1 8004) 73 = .ok (.goto (-37), 3) := zd zm_8004 (by decide +kernel)
theorem d_8004_76 {σ : Nat → Nat} {n0 : Nat} {bf : ab_B} : decode (ab_code (zx σ n0 bf).1 8004) 76 = .ok (.return_, 1) := zd zm_8004 (by decide +kernel)
def w_X9_beginNames_12 (X : zs_X) (d : Nat) (p0 : Nat) (p1 : Int32) (S : zs_T) (Q : zs_Q) : Prop :=
  ((((4096 : Int32) ≤ p1 → (zs_U X d 8004 36 [(0, .ref p0), (1, .int (0 : Int32)), (2, .int (0 : Int32))] [] S Q)) ∧ (¬ ((4096 : Int32) ≤ p1) → (zs_K S p0 = some (.inl 8) ∧ ∃ b3, (zs_R S 8018 p0) = some b3 ∧ zs_A S b3 0 p1 ∧ ab_n0 X.1 ≤ b3 ∧ ∀ S7, S7 = zs_si S b3 p1.toNatClampNeg (0 : Int32) → zs_U X d 8004 12 [(0, .ref p0), (1, .int (p1 + (1 : Int32)))] [] S7 Q))))
theorem u_X9_beginNames_12 {σ : Nat → Nat} {n0 : Nat} {bf : ab_B} {d : Nat} {p0 : Nat} {p1 : Int32} {S : zs_T} {Q : zs_Q} (hB : zt_B bf) (h : w_X9_beginNames_12 (zx σ n0 bf) d p0 p1 S Q) : zs_U (zx σ n0 bf) d 8004 12 [(0, .ref p0), (1, .int p1)] [] S Q := by
  unfold w_X9_beginNames_12 at h
  refine zu_iload_n d_8004_12 rfl ?_
  refine zu_sipush d_8004_13 zh_4096 ?_
  refine zu_cmpge (t := 32) d_8004_16 rfl (fun c1 => ?_) (fun c1 => ?_)
  · have h := h.1 c1
    refine zu_iconst d_8004_32 zi_0 ?_
    refine zu_istore_n d_8004_33 (zs_lt zq_8004 rfl) ?_
    refine zu_iconst d_8004_34 zi_0 ?_
    refine zu_istore_n d_8004_35 (zs_lt zq_8004 rfl) ?_
    exact h.weak ⟨rfl, rfl, rfl, trivial⟩
  · have h := h.2 c1
    refine zu_aload_n d_8004_19 rfl (zs_ra _) ?_
    obtain ⟨k2, h⟩ := h
    refine zg_8_34 rfl d_8004_20 k2 ?_
    refine zu_iload_n d_8004_23 rfl ?_
    refine zu_iconst d_8004_24 zi_0 ?_
    obtain ⟨b3, e4, h⟩ := h
    refine zs_stk2 (zs_rfe e4) ?_
    obtain ⟨k5, h⟩ := h
    obtain ⟨k6, h⟩ := h
    refine zu_iast (k := 0) d_8004_25 rfl rfl k6 k5 ?_
    generalize e8 : zs_si S b3 p1.toNatClampNeg (0 : Int32) = S7
    have h := h S7 e8.symm
    have K9 : ∀ b, zs_K S7 b = zs_K S b := zs_Kt e8 (zs_Ksi _ _ _ _) (fun _ => rfl)
    refine zu_iinc d_8004_26 rfl zi_1 (zs_lt zq_8004 rfl) ?_
    refine zu_goto (t := 12) d_8004_29 rfl ?_
    exact h.weak ⟨rfl, rfl, trivial⟩
def w_X9_beginNames_66 (X : zs_X) (d : Nat) (p0 : Nat) (p2 : Int32) (S : zs_T) (Q : zs_Q) : Prop :=
  (zs_U X d 8004 36 [(0, .ref p0), (1, .int (p2 + (1 : Int32))), (2, .int (p2 + (1 : Int32)))] [] S Q)
theorem u_X9_beginNames_66 {σ : Nat → Nat} {n0 : Nat} {bf : ab_B} {d : Nat} {p0 : Nat} {p2 : Int32} {S : zs_T} {Q : zs_Q} (hB : zt_B bf) (h : w_X9_beginNames_66 (zx σ n0 bf) d p0 p2 S Q) : zs_U (zx σ n0 bf) d 8004 66 [(0, .ref p0), (2, .int p2)] [] S Q := by
  unfold w_X9_beginNames_66 at h
  refine zu_iload_n d_8004_66 rfl ?_
  refine zu_iconst d_8004_67 zi_1 ?_
  refine zu_stk d_8004_68 rfl rfl ?_
  refine zu_istore_n d_8004_69 (zs_lt zq_8004 rfl) ?_
  refine zu_iinc d_8004_70 rfl zi_1 (zs_lt zq_8004 rfl) ?_
  refine zu_goto (t := 36) d_8004_73 rfl ?_
  exact h.weak ⟨rfl, rfl, rfl, trivial⟩
def w_X9_beginNames_36 (X : zs_X) (d : Nat) (p0 : Nat) (p1 : Int32) (p2 : Int32) (S : zs_T) (Q : zs_Q) : Prop :=
  (zs_K S p0 = some (.inl 8) ∧ ∃ b2, (zs_R S 8012 p0) = some b2 ∧ ∃ n4, zs_K S b2 = some (.inr (1, n4)) ∧ (((Int32.ofNat n4) ≤ p2 → (Q (.returned none) S)) ∧ (¬ ((Int32.ofNat n4) ≤ p2) → (zs_A S b2 1 p2 ∧ ((¬ (zs_i S b2 p2.toNatClampNeg) = (32 : Int32) → (zs_U X d 8004 36 [(0, .ref p0), (1, .int p1), (2, .int (p2 + (1 : Int32)))] [] S Q)) ∧ (¬ (¬ (zs_i S b2 p2.toNatClampNeg) = (32 : Int32)) → (zs_C X d 8005 [.ref p0, .int (1 : Int32), .int p1, .int (p2 - p1)] S (zs_kI (fun v10 S9 => (w_X9_beginNames_66 X d p0 p2 S9 Q)) Q))))))))
theorem u_X9_beginNames_36 {σ : Nat → Nat} {n0 : Nat} {bf : ab_B} {d : Nat} {p0 : Nat} {p1 : Int32} {p2 : Int32} {S : zs_T} {Q : zs_Q} (hB : zt_B bf) (h : w_X9_beginNames_36 (zx σ n0 bf) d p0 p1 p2 S Q) : zs_U (zx σ n0 bf) d 8004 36 [(0, .ref p0), (1, .int p1), (2, .int p2)] [] S Q := by
  unfold w_X9_beginNames_36 at h
  refine zu_iload_n d_8004_36 rfl ?_
  refine zu_aload_n d_8004_37 rfl (zs_ra _) ?_
  obtain ⟨k1, h⟩ := h
  refine zg_8_17 rfl d_8004_38 k1 ?_
  obtain ⟨b2, e3, h⟩ := h
  refine zs_stk0 (zs_rfe e3) ?_
  obtain ⟨n4, k5, h⟩ := h
  refine zu_alen d_8004_41 k5 (zs_lt (b := 7) rfl rfl) ?_
  refine zu_cmpge (t := 76) d_8004_42 rfl (fun c6 => ?_) (fun c6 => ?_)
  · have h := h.1 c6
    exact zu_vret d_8004_76 zr_8004 h
  · have h := h.2 c6
    refine zu_aload_n d_8004_45 rfl (zs_ra _) ?_
    refine zg_8_17 rfl d_8004_46 k1 ?_
    refine zu_iload_n d_8004_49 rfl ?_
    refine zs_stk1 (zs_rfe e3) ?_
    obtain ⟨k7, h⟩ := h
    refine zu_bald (k := 1) d_8004_50 rfl (Or.inl rfl) k7 ?_
    refine zu_bipush d_8004_51 zj_32 ?_
    refine zu_cmpne (t := 70) d_8004_53 rfl (fun c8 => ?_) (fun c8 => ?_)
    · have h := h.1 c8
      refine zu_iinc d_8004_70 rfl zi_1 (zs_lt zq_8004 rfl) ?_
      refine zu_goto (t := 36) d_8004_73 rfl ?_
      exact h.weak ⟨rfl, rfl, rfl, trivial⟩
    · have h := h.2 c8
      refine zu_aload_n d_8004_56 rfl (zs_ra _) ?_
      refine zu_iconst d_8004_57 zi_1 ?_
      refine zu_iload_n d_8004_58 rfl ?_
      refine zu_iload_n d_8004_59 rfl ?_
      refine zu_iload_n d_8004_60 rfl ?_
      refine zu_stk d_8004_61 rfl rfl ?_
      refine zc_8_480 (x0 := (1 : Int32)) (x1 := p1) (x2 := (p2 - p1)) hB rfl k1 d_8004_62 (Nat.le_of_ble_eq_true rfl) h (fun v10 S9 h => ?_)
      refine zu_istore_n d_8004_65 (zs_lt zq_8004 rfl) ?_
      exact (u_X9_beginNames_66 hB h).weak ⟨rfl, rfl, trivial⟩
def w_X9_beginNames (X : zs_X) (d : Nat) (p0 : Nat) (S : zs_T) (Q : zs_Q) : Prop :=
  (zs_K S p0 = some (.inl 8) ∧ ab_n0 X.1 ≤ p0 ∧ ∀ S3, S3 = zs_sI S 8020 p0 (0 : Int32) → ∀ S6, S6 = zs_sI S3 8014 p0 (0 : Int32) → zs_U X d 8004 12 [(0, .ref p0), (1, .int (0 : Int32))] [] S6 Q)
theorem u_X9_beginNames {σ : Nat → Nat} {n0 : Nat} {bf : ab_B} {d : Nat} {p0 : Nat} {S : zs_T} {Q : zs_Q} (hB : zt_B bf) (hd : 1 ≤ d) (h : w_X9_beginNames (zx σ n0 bf) (d - 1) p0 S Q) : zs_C (zx σ n0 bf) d 8004 [.ref p0] S Q := by
  have hL : lv_args 0 [.ref p0] = [(0, .ref p0)] := rfl
  refine zs_C.of1 (hB.2 8004 (by decide) (by decide)) hd (by rw [hL]; exact zs_sub_self _ (by exact ⟨rfl, trivial⟩)) ?_
  rw [hL]
  clear hL
  unfold w_X9_beginNames at h
  refine zu_aload_n d_8004_0 rfl (zs_ra _) ?_
  refine zu_iconst d_8004_1 zi_0 ?_
  obtain ⟨k1, h⟩ := h
  obtain ⟨k2, h⟩ := h
  refine zp_8_474 (v := (0 : Int32)) rfl d_8004_2 k1 k2 ?_
  generalize e4 : zs_sI S 8020 p0 (0 : Int32) = S3
  have h := h S3 e4.symm
  have K5 : ∀ b, zs_K S3 b = zs_K S b := zs_Kt e4 (zs_KsI _ _ _ _) (fun _ => rfl)
  refine zu_aload_n d_8004_5 rfl (zs_ra _) ?_
  refine zu_iconst d_8004_6 zi_0 ?_
  refine zp_8_477 (v := (0 : Int32)) rfl d_8004_7 ((K5 _).trans k1) k2 ?_
  generalize e7 : zs_sI S3 8014 p0 (0 : Int32) = S6
  have h := h S6 e7.symm
  have K8 : ∀ b, zs_K S6 b = zs_K S b := zs_Kt e7 (zs_KsI _ _ _ _) K5
  refine zu_iconst d_8004_10 zi_0 ?_
  refine zu_istore_n d_8004_11 (zs_lt zq_8004 rfl) ?_
  exact h.weak ⟨rfl, rfl, trivial⟩
/-! SchemaPascalModel.nameOf(ZII)I -/
theorem zm_8005 {σ : Nat → Nat} {n0 : Nat} {bf : ab_B} : ab_code (zx σ n0 bf).1 8005 = prog_17_method_10_code := rfl
theorem zq_8005 {σ : Nat → Nat} {n0 : Nat} {bf : ab_B} : ab_maxL (zx σ n0 bf).1 8005 = 8 := rfl
theorem zr_8005 {σ : Nat → Nat} {n0 : Nat} {bf : ab_B} : ab_ret (zx σ n0 bf).1 8005 = (Option.some Jvm.ClassFile.FieldType.int) := rfl
theorem d_8005_0 {σ : Nat → Nat} {n0 : Nat} {bf : ab_B} : decode (ab_code (zx σ n0 bf).1 8005) 0 = .ok (.iload_n 3, 1) := zd zm_8005 (by decide +kernel)
theorem d_8005_1 {σ : Nat → Nat} {n0 : Nat} {bf : ab_B} : decode (ab_code (zx σ n0 bf).1 8005) 1 = .ok (.istore 4, 2) := zd zm_8005 (by decide +kernel)
theorem d_8005_3 {σ : Nat → Nat} {n0 : Nat} {bf : ab_B} : decode (ab_code (zx σ n0 bf).1 8005) 3 = .ok (.iconst 0, 1) := zd zm_8005 (by decide +kernel)
theorem d_8005_4 {σ : Nat → Nat} {n0 : Nat} {bf : ab_B} : decode (ab_code (zx σ n0 bf).1 8005) 4 = .ok (.istore 5, 2) := zd zm_8005 (by decide +kernel)
theorem d_8005_6 {σ : Nat → Nat} {n0 : Nat} {bf : ab_B} : decode (ab_code (zx σ n0 bf).1 8005) 6 = .ok (.iload 5, 2) := zd zm_8005 (by decide +kernel)
theorem d_8005_8 {σ : Nat → Nat} {n0 : Nat} {bf : ab_B} : decode (ab_code (zx σ n0 bf).1 8005) 8 = .ok (.iload_n 3, 1) := zd zm_8005 (by decide +kernel)
theorem d_8005_9 {σ : Nat → Nat} {n0 : Nat} {bf : ab_B} : decode (ab_code (zx σ n0 bf).1 8005) 9 = .ok (.if_icmp .ge 48, 3) := zd zm_8005 (by decide +kernel)
theorem d_8005_12 {σ : Nat → Nat} {n0 : Nat} {bf : ab_B} : decode (ab_code (zx σ n0 bf).1 8005) 12 = .ok (.bipush 31, 2) := zd zm_8005 (by decide +kernel)
theorem d_8005_14 {σ : Nat → Nat} {n0 : Nat} {bf : ab_B} : decode (ab_code (zx σ n0 bf).1 8005) 14 = .ok (.iload 4, 2) := zd zm_8005 (by decide +kernel)
theorem d_8005_16 {σ : Nat → Nat} {n0 : Nat} {bf : ab_B} : decode (ab_code (zx σ n0 bf).1 8005) 16 = .ok (.imul, 1) := zd zm_8005 (by decide +kernel)
theorem d_8005_17 {σ : Nat → Nat} {n0 : Nat} {bf : ab_B} : decode (ab_code (zx σ n0 bf).1 8005) 17 = .ok (.iload_n 1, 1) := zd zm_8005 (by decide +kernel)
theorem d_8005_18 {σ : Nat → Nat} {n0 : Nat} {bf : ab_B} : decode (ab_code (zx σ n0 bf).1 8005) 18 = .ok (.ifCond .eq 15, 3) := zd zm_8005 (by decide +kernel)
theorem d_8005_21 {σ : Nat → Nat} {n0 : Nat} {bf : ab_B} : decode (ab_code (zx σ n0 bf).1 8005) 21 = .ok (.aload_n 0, 1) := zd zm_8005 (by decide +kernel)
theorem d_8005_22 {σ : Nat → Nat} {n0 : Nat} {bf : ab_B} : decode (ab_code (zx σ n0 bf).1 8005) 22 = .ok (.getfield 17, 3) := zd zm_8005 (by decide +kernel)
theorem d_8005_25 {σ : Nat → Nat} {n0 : Nat} {bf : ab_B} : decode (ab_code (zx σ n0 bf).1 8005) 25 = .ok (.iload_n 2, 1) := zd zm_8005 (by decide +kernel)
theorem d_8005_26 {σ : Nat → Nat} {n0 : Nat} {bf : ab_B} : decode (ab_code (zx σ n0 bf).1 8005) 26 = .ok (.iload 5, 2) := zd zm_8005 (by decide +kernel)
theorem d_8005_28 {σ : Nat → Nat} {n0 : Nat} {bf : ab_B} : decode (ab_code (zx σ n0 bf).1 8005) 28 = .ok (.iadd, 1) := zd zm_8005 (by decide +kernel)
theorem d_8005_29 {σ : Nat → Nat} {n0 : Nat} {bf : ab_B} : decode (ab_code (zx σ n0 bf).1 8005) 29 = .ok (.baload, 1) := zd zm_8005 (by decide +kernel)
theorem d_8005_30 {σ : Nat → Nat} {n0 : Nat} {bf : ab_B} : decode (ab_code (zx σ n0 bf).1 8005) 30 = .ok (.goto 14, 3) := zd zm_8005 (by decide +kernel)
theorem d_8005_33 {σ : Nat → Nat} {n0 : Nat} {bf : ab_B} : decode (ab_code (zx σ n0 bf).1 8005) 33 = .ok (.aload_n 0, 1) := zd zm_8005 (by decide +kernel)
theorem d_8005_34 {σ : Nat → Nat} {n0 : Nat} {bf : ab_B} : decode (ab_code (zx σ n0 bf).1 8005) 34 = .ok (.iload_n 2, 1) := zd zm_8005 (by decide +kernel)
theorem d_8005_35 {σ : Nat → Nat} {n0 : Nat} {bf : ab_B} : decode (ab_code (zx σ n0 bf).1 8005) 35 = .ok (.iload 5, 2) := zd zm_8005 (by decide +kernel)
theorem d_8005_37 {σ : Nat → Nat} {n0 : Nat} {bf : ab_B} : decode (ab_code (zx σ n0 bf).1 8005) 37 = .ok (.iadd, 1) := zd zm_8005 (by decide +kernel)
theorem d_8005_38 {σ : Nat → Nat} {n0 : Nat} {bf : ab_B} : decode (ab_code (zx σ n0 bf).1 8005) 38 = .ok (.invokevirtual 471, 3) := zd zm_8005 (by decide +kernel)
theorem d_8005_41 {σ : Nat → Nat} {n0 : Nat} {bf : ab_B} : decode (ab_code (zx σ n0 bf).1 8005) 41 = .ok (.invokestatic 467, 3) := zd zm_8005 (by decide +kernel)
theorem d_8005_44 {σ : Nat → Nat} {n0 : Nat} {bf : ab_B} : decode (ab_code (zx σ n0 bf).1 8005) 44 = .ok (.iadd, 1) := zd zm_8005 (by decide +kernel)
theorem d_8005_45 {σ : Nat → Nat} {n0 : Nat} {bf : ab_B} : decode (ab_code (zx σ n0 bf).1 8005) 45 = .ok (.sipush 4095, 3) := zd zm_8005 (by decide +kernel)
theorem d_8005_48 {σ : Nat → Nat} {n0 : Nat} {bf : ab_B} : decode (ab_code (zx σ n0 bf).1 8005) 48 = .ok (.iand, 1) := zd zm_8005 (by decide +kernel)
theorem d_8005_49 {σ : Nat → Nat} {n0 : Nat} {bf : ab_B} : decode (ab_code (zx σ n0 bf).1 8005) 49 = .ok (.istore 4, 2) := zd zm_8005 (by decide +kernel)
theorem d_8005_51 {σ : Nat → Nat} {n0 : Nat} {bf : ab_B} : decode (ab_code (zx σ n0 bf).1 8005) 51 = .ok (.iinc 5 1, 3) := zd zm_8005 (by decide +kernel)
theorem d_8005_54 {σ : Nat → Nat} {n0 : Nat} {bf : ab_B} : decode (ab_code (zx σ n0 bf).1 8005) 54 = .ok (.goto (-48), 3) := zd zm_8005 (by decide +kernel)
theorem d_8005_57 {σ : Nat → Nat} {n0 : Nat} {bf : ab_B} : decode (ab_code (zx σ n0 bf).1 8005) 57 = .ok (.aload_n 0, 1) := zd zm_8005 (by decide +kernel)
theorem d_8005_58 {σ : Nat → Nat} {n0 : Nat} {bf : ab_B} : decode (ab_code (zx σ n0 bf).1 8005) 58 = .ok (.getfield 34, 3) := zd zm_8005 (by decide +kernel)
theorem d_8005_61 {σ : Nat → Nat} {n0 : Nat} {bf : ab_B} : decode (ab_code (zx σ n0 bf).1 8005) 61 = .ok (.iload 4, 2) := zd zm_8005 (by decide +kernel)
theorem d_8005_63 {σ : Nat → Nat} {n0 : Nat} {bf : ab_B} : decode (ab_code (zx σ n0 bf).1 8005) 63 = .ok (.iaload, 1) := zd zm_8005 (by decide +kernel)
theorem d_8005_64 {σ : Nat → Nat} {n0 : Nat} {bf : ab_B} : decode (ab_code (zx σ n0 bf).1 8005) 64 = .ok (.istore 5, 2) := zd zm_8005 (by decide +kernel)
theorem d_8005_66 {σ : Nat → Nat} {n0 : Nat} {bf : ab_B} : decode (ab_code (zx σ n0 bf).1 8005) 66 = .ok (.iload 5, 2) := zd zm_8005 (by decide +kernel)
theorem d_8005_68 {σ : Nat → Nat} {n0 : Nat} {bf : ab_B} : decode (ab_code (zx σ n0 bf).1 8005) 68 = .ok (.ifCond .le 113, 3) := zd zm_8005 (by decide +kernel)
theorem d_8005_71 {σ : Nat → Nat} {n0 : Nat} {bf : ab_B} : decode (ab_code (zx σ n0 bf).1 8005) 71 = .ok (.aload_n 0, 1) := zd zm_8005 (by decide +kernel)
theorem d_8005_72 {σ : Nat → Nat} {n0 : Nat} {bf : ab_B} : decode (ab_code (zx σ n0 bf).1 8005) 72 = .ok (.getfield 28, 3) := zd zm_8005 (by decide +kernel)
theorem d_8005_75 {σ : Nat → Nat} {n0 : Nat} {bf : ab_B} : decode (ab_code (zx σ n0 bf).1 8005) 75 = .ok (.iload 5, 2) := zd zm_8005 (by decide +kernel)
theorem d_8005_77 {σ : Nat → Nat} {n0 : Nat} {bf : ab_B} : decode (ab_code (zx σ n0 bf).1 8005) 77 = .ok (.baload, 1) := zd zm_8005 (by decide +kernel)
theorem d_8005_78 {σ : Nat → Nat} {n0 : Nat} {bf : ab_B} : decode (ab_code (zx σ n0 bf).1 8005) 78 = .ok (.iload_n 3, 1) := zd zm_8005 (by decide +kernel)
theorem d_8005_79 {σ : Nat → Nat} {n0 : Nat} {bf : ab_B} : decode (ab_code (zx σ n0 bf).1 8005) 79 = .ok (.if_icmp .ne 7, 3) := zd zm_8005 (by decide +kernel)
theorem d_8005_82 {σ : Nat → Nat} {n0 : Nat} {bf : ab_B} : decode (ab_code (zx σ n0 bf).1 8005) 82 = .ok (.iconst 1, 1) := zd zm_8005 (by decide +kernel)
theorem d_8005_83 {σ : Nat → Nat} {n0 : Nat} {bf : ab_B} : decode (ab_code (zx σ n0 bf).1 8005) 83 = .ok (.goto 4, 3) := zd zm_8005 (by decide +kernel)
theorem d_8005_86 {σ : Nat → Nat} {n0 : Nat} {bf : ab_B} : decode (ab_code (zx σ n0 bf).1 8005) 86 = .ok (.iconst 0, 1) := zd zm_8005 (by decide +kernel)
theorem d_8005_87 {σ : Nat → Nat} {n0 : Nat} {bf : ab_B} : decode (ab_code (zx σ n0 bf).1 8005) 87 = .ok (.istore 6, 2) := zd zm_8005 (by decide +kernel)
theorem d_8005_89 {σ : Nat → Nat} {n0 : Nat} {bf : ab_B} : decode (ab_code (zx σ n0 bf).1 8005) 89 = .ok (.iconst 0, 1) := zd zm_8005 (by decide +kernel)
theorem d_8005_90 {σ : Nat → Nat} {n0 : Nat} {bf : ab_B} : decode (ab_code (zx σ n0 bf).1 8005) 90 = .ok (.istore 7, 2) := zd zm_8005 (by decide +kernel)
theorem d_8005_92 {σ : Nat → Nat} {n0 : Nat} {bf : ab_B} : decode (ab_code (zx σ n0 bf).1 8005) 92 = .ok (.iload 7, 2) := zd zm_8005 (by decide +kernel)
theorem d_8005_94 {σ : Nat → Nat} {n0 : Nat} {bf : ab_B} : decode (ab_code (zx σ n0 bf).1 8005) 94 = .ok (.iload_n 3, 1) := zd zm_8005 (by decide +kernel)
theorem d_8005_95 {σ : Nat → Nat} {n0 : Nat} {bf : ab_B} : decode (ab_code (zx σ n0 bf).1 8005) 95 = .ok (.if_icmp .ge 66, 3) := zd zm_8005 (by decide +kernel)
theorem d_8005_98 {σ : Nat → Nat} {n0 : Nat} {bf : ab_B} : decode (ab_code (zx σ n0 bf).1 8005) 98 = .ok (.iload 6, 2) := zd zm_8005 (by decide +kernel)
theorem d_8005_100 {σ : Nat → Nat} {n0 : Nat} {bf : ab_B} : decode (ab_code (zx σ n0 bf).1 8005) 100 = .ok (.ifCond .eq 61, 3) := zd zm_8005 (by decide +kernel)
theorem d_8005_103 {σ : Nat → Nat} {n0 : Nat} {bf : ab_B} : decode (ab_code (zx σ n0 bf).1 8005) 103 = .ok (.aload_n 0, 1) := zd zm_8005 (by decide +kernel)
theorem d_8005_104 {σ : Nat → Nat} {n0 : Nat} {bf : ab_B} : decode (ab_code (zx σ n0 bf).1 8005) 104 = .ok (.getfield 21, 3) := zd zm_8005 (by decide +kernel)
theorem d_8005_107 {σ : Nat → Nat} {n0 : Nat} {bf : ab_B} : decode (ab_code (zx σ n0 bf).1 8005) 107 = .ok (.aload_n 0, 1) := zd zm_8005 (by decide +kernel)
theorem d_8005_108 {σ : Nat → Nat} {n0 : Nat} {bf : ab_B} : decode (ab_code (zx σ n0 bf).1 8005) 108 = .ok (.getfield 24, 3) := zd zm_8005 (by decide +kernel)
theorem d_8005_111 {σ : Nat → Nat} {n0 : Nat} {bf : ab_B} : decode (ab_code (zx σ n0 bf).1 8005) 111 = .ok (.iload 5, 2) := zd zm_8005 (by decide +kernel)
theorem d_8005_113 {σ : Nat → Nat} {n0 : Nat} {bf : ab_B} : decode (ab_code (zx σ n0 bf).1 8005) 113 = .ok (.iaload, 1) := zd zm_8005 (by decide +kernel)
theorem d_8005_114 {σ : Nat → Nat} {n0 : Nat} {bf : ab_B} : decode (ab_code (zx σ n0 bf).1 8005) 114 = .ok (.iload 7, 2) := zd zm_8005 (by decide +kernel)
theorem d_8005_116 {σ : Nat → Nat} {n0 : Nat} {bf : ab_B} : decode (ab_code (zx σ n0 bf).1 8005) 116 = .ok (.iadd, 1) := zd zm_8005 (by decide +kernel)
theorem d_8005_117 {σ : Nat → Nat} {n0 : Nat} {bf : ab_B} : decode (ab_code (zx σ n0 bf).1 8005) 117 = .ok (.baload, 1) := zd zm_8005 (by decide +kernel)
theorem d_8005_118 {σ : Nat → Nat} {n0 : Nat} {bf : ab_B} : decode (ab_code (zx σ n0 bf).1 8005) 118 = .ok (.iload_n 1, 1) := zd zm_8005 (by decide +kernel)
theorem d_8005_119 {σ : Nat → Nat} {n0 : Nat} {bf : ab_B} : decode (ab_code (zx σ n0 bf).1 8005) 119 = .ok (.ifCond .eq 15, 3) := zd zm_8005 (by decide +kernel)
theorem d_8005_122 {σ : Nat → Nat} {n0 : Nat} {bf : ab_B} : decode (ab_code (zx σ n0 bf).1 8005) 122 = .ok (.aload_n 0, 1) := zd zm_8005 (by decide +kernel)
theorem d_8005_123 {σ : Nat → Nat} {n0 : Nat} {bf : ab_B} : decode (ab_code (zx σ n0 bf).1 8005) 123 = .ok (.getfield 17, 3) := zd zm_8005 (by decide +kernel)
theorem d_8005_126 {σ : Nat → Nat} {n0 : Nat} {bf : ab_B} : decode (ab_code (zx σ n0 bf).1 8005) 126 = .ok (.iload_n 2, 1) := zd zm_8005 (by decide +kernel)
theorem d_8005_127 {σ : Nat → Nat} {n0 : Nat} {bf : ab_B} : decode (ab_code (zx σ n0 bf).1 8005) 127 = .ok (.iload 7, 2) := zd zm_8005 (by decide +kernel)
theorem d_8005_129 {σ : Nat → Nat} {n0 : Nat} {bf : ab_B} : decode (ab_code (zx σ n0 bf).1 8005) 129 = .ok (.iadd, 1) := zd zm_8005 (by decide +kernel)
theorem d_8005_130 {σ : Nat → Nat} {n0 : Nat} {bf : ab_B} : decode (ab_code (zx σ n0 bf).1 8005) 130 = .ok (.baload, 1) := zd zm_8005 (by decide +kernel)
theorem d_8005_131 {σ : Nat → Nat} {n0 : Nat} {bf : ab_B} : decode (ab_code (zx σ n0 bf).1 8005) 131 = .ok (.goto 14, 3) := zd zm_8005 (by decide +kernel)
theorem d_8005_134 {σ : Nat → Nat} {n0 : Nat} {bf : ab_B} : decode (ab_code (zx σ n0 bf).1 8005) 134 = .ok (.aload_n 0, 1) := zd zm_8005 (by decide +kernel)
theorem d_8005_135 {σ : Nat → Nat} {n0 : Nat} {bf : ab_B} : decode (ab_code (zx σ n0 bf).1 8005) 135 = .ok (.iload_n 2, 1) := zd zm_8005 (by decide +kernel)
theorem d_8005_136 {σ : Nat → Nat} {n0 : Nat} {bf : ab_B} : decode (ab_code (zx σ n0 bf).1 8005) 136 = .ok (.iload 7, 2) := zd zm_8005 (by decide +kernel)
theorem d_8005_138 {σ : Nat → Nat} {n0 : Nat} {bf : ab_B} : decode (ab_code (zx σ n0 bf).1 8005) 138 = .ok (.iadd, 1) := zd zm_8005 (by decide +kernel)
theorem d_8005_139 {σ : Nat → Nat} {n0 : Nat} {bf : ab_B} : decode (ab_code (zx σ n0 bf).1 8005) 139 = .ok (.invokevirtual 471, 3) := zd zm_8005 (by decide +kernel)
theorem d_8005_142 {σ : Nat → Nat} {n0 : Nat} {bf : ab_B} : decode (ab_code (zx σ n0 bf).1 8005) 142 = .ok (.invokestatic 467, 3) := zd zm_8005 (by decide +kernel)
theorem d_8005_145 {σ : Nat → Nat} {n0 : Nat} {bf : ab_B} : decode (ab_code (zx σ n0 bf).1 8005) 145 = .ok (.if_icmp .ne 7, 3) := zd zm_8005 (by decide +kernel)
theorem d_8005_148 {σ : Nat → Nat} {n0 : Nat} {bf : ab_B} : decode (ab_code (zx σ n0 bf).1 8005) 148 = .ok (.iconst 1, 1) := zd zm_8005 (by decide +kernel)
theorem d_8005_149 {σ : Nat → Nat} {n0 : Nat} {bf : ab_B} : decode (ab_code (zx σ n0 bf).1 8005) 149 = .ok (.goto 4, 3) := zd zm_8005 (by decide +kernel)
theorem d_8005_152 {σ : Nat → Nat} {n0 : Nat} {bf : ab_B} : decode (ab_code (zx σ n0 bf).1 8005) 152 = .ok (.iconst 0, 1) := zd zm_8005 (by decide +kernel)
theorem d_8005_153 {σ : Nat → Nat} {n0 : Nat} {bf : ab_B} : decode (ab_code (zx σ n0 bf).1 8005) 153 = .ok (.istore 6, 2) := zd zm_8005 (by decide +kernel)
theorem d_8005_155 {σ : Nat → Nat} {n0 : Nat} {bf : ab_B} : decode (ab_code (zx σ n0 bf).1 8005) 155 = .ok (.iinc 7 1, 3) := zd zm_8005 (by decide +kernel)
theorem d_8005_158 {σ : Nat → Nat} {n0 : Nat} {bf : ab_B} : decode (ab_code (zx σ n0 bf).1 8005) 158 = .ok (.goto (-66), 3) := zd zm_8005 (by decide +kernel)
theorem d_8005_161 {σ : Nat → Nat} {n0 : Nat} {bf : ab_B} : decode (ab_code (zx σ n0 bf).1 8005) 161 = .ok (.iload 6, 2) := zd zm_8005 (by decide +kernel)
theorem d_8005_163 {σ : Nat → Nat} {n0 : Nat} {bf : ab_B} : decode (ab_code (zx σ n0 bf).1 8005) 163 = .ok (.ifCond .eq 6, 3) := zd zm_8005 (by decide +kernel)
theorem d_8005_166 {σ : Nat → Nat} {n0 : Nat} {bf : ab_B} : decode (ab_code (zx σ n0 bf).1 8005) 166 = .ok (.iload 5, 2) := zd zm_8005 (by decide +kernel)
theorem d_8005_168 {σ : Nat → Nat} {n0 : Nat} {bf : ab_B} : decode (ab_code (zx σ n0 bf).1 8005) 168 = .ok (.ireturn, 1) := zd zm_8005 (by decide +kernel)
theorem d_8005_169 {σ : Nat → Nat} {n0 : Nat} {bf : ab_B} : decode (ab_code (zx σ n0 bf).1 8005) 169 = .ok (.aload_n 0, 1) := zd zm_8005 (by decide +kernel)
theorem d_8005_170 {σ : Nat → Nat} {n0 : Nat} {bf : ab_B} : decode (ab_code (zx σ n0 bf).1 8005) 170 = .ok (.getfield 31, 3) := zd zm_8005 (by decide +kernel)
theorem d_8005_173 {σ : Nat → Nat} {n0 : Nat} {bf : ab_B} : decode (ab_code (zx σ n0 bf).1 8005) 173 = .ok (.iload 5, 2) := zd zm_8005 (by decide +kernel)
theorem d_8005_175 {σ : Nat → Nat} {n0 : Nat} {bf : ab_B} : decode (ab_code (zx σ n0 bf).1 8005) 175 = .ok (.iaload, 1) := zd zm_8005 (by decide +kernel)
theorem d_8005_176 {σ : Nat → Nat} {n0 : Nat} {bf : ab_B} : decode (ab_code (zx σ n0 bf).1 8005) 176 = .ok (.istore 5, 2) := zd zm_8005 (by decide +kernel)
theorem d_8005_178 {σ : Nat → Nat} {n0 : Nat} {bf : ab_B} : decode (ab_code (zx σ n0 bf).1 8005) 178 = .ok (.goto (-112), 3) := zd zm_8005 (by decide +kernel)
theorem d_8005_181 {σ : Nat → Nat} {n0 : Nat} {bf : ab_B} : decode (ab_code (zx σ n0 bf).1 8005) 181 = .ok (.aload_n 0, 1) := zd zm_8005 (by decide +kernel)
theorem d_8005_182 {σ : Nat → Nat} {n0 : Nat} {bf : ab_B} : decode (ab_code (zx σ n0 bf).1 8005) 182 = .ok (.dup, 1) := zd zm_8005 (by decide +kernel)
theorem d_8005_183 {σ : Nat → Nat} {n0 : Nat} {bf : ab_B} : decode (ab_code (zx σ n0 bf).1 8005) 183 = .ok (.getfield 474, 3) := zd zm_8005 (by decide +kernel)
theorem d_8005_186 {σ : Nat → Nat} {n0 : Nat} {bf : ab_B} : decode (ab_code (zx σ n0 bf).1 8005) 186 = .ok (.iconst 1, 1) := zd zm_8005 (by decide +kernel)
theorem d_8005_187 {σ : Nat → Nat} {n0 : Nat} {bf : ab_B} : decode (ab_code (zx σ n0 bf).1 8005) 187 = .ok (.iadd, 1) := zd zm_8005 (by decide +kernel)
theorem d_8005_188 {σ : Nat → Nat} {n0 : Nat} {bf : ab_B} : decode (ab_code (zx σ n0 bf).1 8005) 188 = .ok (.putfield 474, 3) := zd zm_8005 (by decide +kernel)
theorem d_8005_191 {σ : Nat → Nat} {n0 : Nat} {bf : ab_B} : decode (ab_code (zx σ n0 bf).1 8005) 191 = .ok (.aload_n 0, 1) := zd zm_8005 (by decide +kernel)
theorem d_8005_192 {σ : Nat → Nat} {n0 : Nat} {bf : ab_B} : decode (ab_code (zx σ n0 bf).1 8005) 192 = .ok (.getfield 24, 3) := zd zm_8005 (by decide +kernel)
theorem d_8005_195 {σ : Nat → Nat} {n0 : Nat} {bf : ab_B} : decode (ab_code (zx σ n0 bf).1 8005) 195 = .ok (.aload_n 0, 1) := zd zm_8005 (by decide +kernel)
theorem d_8005_196 {σ : Nat → Nat} {n0 : Nat} {bf : ab_B} : decode (ab_code (zx σ n0 bf).1 8005) 196 = .ok (.getfield 474, 3) := zd zm_8005 (by decide +kernel)
theorem d_8005_199 {σ : Nat → Nat} {n0 : Nat} {bf : ab_B} : decode (ab_code (zx σ n0 bf).1 8005) 199 = .ok (.aload_n 0, 1) := zd zm_8005 (by decide +kernel)
theorem d_8005_200 {σ : Nat → Nat} {n0 : Nat} {bf : ab_B} : decode (ab_code (zx σ n0 bf).1 8005) 200 = .ok (.getfield 477, 3) := zd zm_8005 (by decide +kernel)
theorem d_8005_203 {σ : Nat → Nat} {n0 : Nat} {bf : ab_B} : decode (ab_code (zx σ n0 bf).1 8005) 203 = .ok (.iastore, 1) := zd zm_8005 (by decide +kernel)
theorem d_8005_204 {σ : Nat → Nat} {n0 : Nat} {bf : ab_B} : decode (ab_code (zx σ n0 bf).1 8005) 204 = .ok (.aload_n 0, 1) := zd zm_8005 (by decide +kernel)
theorem d_8005_205 {σ : Nat → Nat} {n0 : Nat} {bf : ab_B} : decode (ab_code (zx σ n0 bf).1 8005) 205 = .ok (.getfield 28, 3) := zd zm_8005 (by decide +kernel)
theorem d_8005_208 {σ : Nat → Nat} {n0 : Nat} {bf : ab_B} : decode (ab_code (zx σ n0 bf).1 8005) 208 = .ok (.aload_n 0, 1) := zd zm_8005 (by decide +kernel)
theorem d_8005_209 {σ : Nat → Nat} {n0 : Nat} {bf : ab_B} : decode (ab_code (zx σ n0 bf).1 8005) 209 = .ok (.getfield 474, 3) := zd zm_8005 (by decide +kernel)
theorem d_8005_212 {σ : Nat → Nat} {n0 : Nat} {bf : ab_B} : decode (ab_code (zx σ n0 bf).1 8005) 212 = .ok (.iload_n 3, 1) := zd zm_8005 (by decide +kernel)
theorem d_8005_213 {σ : Nat → Nat} {n0 : Nat} {bf : ab_B} : decode (ab_code (zx σ n0 bf).1 8005) 213 = .ok (.i2b, 1) := zd zm_8005 (by decide +kernel)
theorem d_8005_214 {σ : Nat → Nat} {n0 : Nat} {bf : ab_B} : decode (ab_code (zx σ n0 bf).1 8005) 214 = .ok (.bastore, 1) := zd zm_8005 (by decide +kernel)
theorem d_8005_215 {σ : Nat → Nat} {n0 : Nat} {bf : ab_B} : decode (ab_code (zx σ n0 bf).1 8005) 215 = .ok (.aload_n 0, 1) := zd zm_8005 (by decide +kernel)
theorem d_8005_216 {σ : Nat → Nat} {n0 : Nat} {bf : ab_B} : decode (ab_code (zx σ n0 bf).1 8005) 216 = .ok (.getfield 31, 3) := zd zm_8005 (by decide +kernel)
theorem d_8005_219 {σ : Nat → Nat} {n0 : Nat} {bf : ab_B} : decode (ab_code (zx σ n0 bf).1 8005) 219 = .ok (.aload_n 0, 1) := zd zm_8005 (by decide +kernel)
theorem d_8005_220 {σ : Nat → Nat} {n0 : Nat} {bf : ab_B} : decode (ab_code (zx σ n0 bf).1 8005) 220 = .ok (.getfield 474, 3) := zd zm_8005 (by decide +kernel)
theorem d_8005_223 {σ : Nat → Nat} {n0 : Nat} {bf : ab_B} : decode (ab_code (zx σ n0 bf).1 8005) 223 = .ok (.aload_n 0, 1) := zd zm_8005 (by decide +kernel)
theorem d_8005_224 {σ : Nat → Nat} {n0 : Nat} {bf : ab_B} : decode (ab_code (zx σ n0 bf).1 8005) 224 = .ok (.getfield 34, 3) := zd zm_8005 (by decide +kernel)
theorem d_8005_227 {σ : Nat → Nat} {n0 : Nat} {bf : ab_B} : decode (ab_code (zx σ n0 bf).1 8005) 227 = .ok (.iload 4, 2) := zd zm_8005 (by decide +kernel)
theorem d_8005_229 {σ : Nat → Nat} {n0 : Nat} {bf : ab_B} : decode (ab_code (zx σ n0 bf).1 8005) 229 = .ok (.iaload, 1) := zd zm_8005 (by decide +kernel)
theorem d_8005_230 {σ : Nat → Nat} {n0 : Nat} {bf : ab_B} : decode (ab_code (zx σ n0 bf).1 8005) 230 = .ok (.iastore, 1) := zd zm_8005 (by decide +kernel)
theorem d_8005_231 {σ : Nat → Nat} {n0 : Nat} {bf : ab_B} : decode (ab_code (zx σ n0 bf).1 8005) 231 = .ok (.aload_n 0, 1) := zd zm_8005 (by decide +kernel)
theorem d_8005_232 {σ : Nat → Nat} {n0 : Nat} {bf : ab_B} : decode (ab_code (zx σ n0 bf).1 8005) 232 = .ok (.getfield 34, 3) := zd zm_8005 (by decide +kernel)
theorem d_8005_235 {σ : Nat → Nat} {n0 : Nat} {bf : ab_B} : decode (ab_code (zx σ n0 bf).1 8005) 235 = .ok (.iload 4, 2) := zd zm_8005 (by decide +kernel)
theorem d_8005_237 {σ : Nat → Nat} {n0 : Nat} {bf : ab_B} : decode (ab_code (zx σ n0 bf).1 8005) 237 = .ok (.aload_n 0, 1) := zd zm_8005 (by decide +kernel)
theorem d_8005_238 {σ : Nat → Nat} {n0 : Nat} {bf : ab_B} : decode (ab_code (zx σ n0 bf).1 8005) 238 = .ok (.getfield 474, 3) := zd zm_8005 (by decide +kernel)
theorem d_8005_241 {σ : Nat → Nat} {n0 : Nat} {bf : ab_B} : decode (ab_code (zx σ n0 bf).1 8005) 241 = .ok (.iastore, 1) := zd zm_8005 (by decide +kernel)
theorem d_8005_242 {σ : Nat → Nat} {n0 : Nat} {bf : ab_B} : decode (ab_code (zx σ n0 bf).1 8005) 242 = .ok (.aload_n 0, 1) := zd zm_8005 (by decide +kernel)
theorem d_8005_243 {σ : Nat → Nat} {n0 : Nat} {bf : ab_B} : decode (ab_code (zx σ n0 bf).1 8005) 243 = .ok (.getfield 37, 3) := zd zm_8005 (by decide +kernel)
theorem d_8005_246 {σ : Nat → Nat} {n0 : Nat} {bf : ab_B} : decode (ab_code (zx σ n0 bf).1 8005) 246 = .ok (.aload_n 0, 1) := zd zm_8005 (by decide +kernel)
theorem d_8005_247 {σ : Nat → Nat} {n0 : Nat} {bf : ab_B} : decode (ab_code (zx σ n0 bf).1 8005) 247 = .ok (.getfield 474, 3) := zd zm_8005 (by decide +kernel)
theorem d_8005_250 {σ : Nat → Nat} {n0 : Nat} {bf : ab_B} : decode (ab_code (zx σ n0 bf).1 8005) 250 = .ok (.iconst 0, 1) := zd zm_8005 (by decide +kernel)
theorem d_8005_251 {σ : Nat → Nat} {n0 : Nat} {bf : ab_B} : decode (ab_code (zx σ n0 bf).1 8005) 251 = .ok (.iastore, 1) := zd zm_8005 (by decide +kernel)
theorem d_8005_252 {σ : Nat → Nat} {n0 : Nat} {bf : ab_B} : decode (ab_code (zx σ n0 bf).1 8005) 252 = .ok (.iconst 0, 1) := zd zm_8005 (by decide +kernel)
theorem d_8005_253 {σ : Nat → Nat} {n0 : Nat} {bf : ab_B} : decode (ab_code (zx σ n0 bf).1 8005) 253 = .ok (.istore 5, 2) := zd zm_8005 (by decide +kernel)
theorem d_8005_255 {σ : Nat → Nat} {n0 : Nat} {bf : ab_B} : decode (ab_code (zx σ n0 bf).1 8005) 255 = .ok (.iload 5, 2) := zd zm_8005 (by decide +kernel)
theorem d_8005_257 {σ : Nat → Nat} {n0 : Nat} {bf : ab_B} : decode (ab_code (zx σ n0 bf).1 8005) 257 = .ok (.iload_n 3, 1) := zd zm_8005 (by decide +kernel)
theorem d_8005_258 {σ : Nat → Nat} {n0 : Nat} {bf : ab_B} : decode (ab_code (zx σ n0 bf).1 8005) 258 = .ok (.if_icmp .ge 56, 3) := zd zm_8005 (by decide +kernel)
theorem d_8005_261 {σ : Nat → Nat} {n0 : Nat} {bf : ab_B} : decode (ab_code (zx σ n0 bf).1 8005) 261 = .ok (.aload_n 0, 1) := zd zm_8005 (by decide +kernel)
theorem d_8005_262 {σ : Nat → Nat} {n0 : Nat} {bf : ab_B} : decode (ab_code (zx σ n0 bf).1 8005) 262 = .ok (.getfield 21, 3) := zd zm_8005 (by decide +kernel)
theorem d_8005_265 {σ : Nat → Nat} {n0 : Nat} {bf : ab_B} : decode (ab_code (zx σ n0 bf).1 8005) 265 = .ok (.aload_n 0, 1) := zd zm_8005 (by decide +kernel)
theorem d_8005_266 {σ : Nat → Nat} {n0 : Nat} {bf : ab_B} : decode (ab_code (zx σ n0 bf).1 8005) 266 = .ok (.getfield 477, 3) := zd zm_8005 (by decide +kernel)
theorem d_8005_269 {σ : Nat → Nat} {n0 : Nat} {bf : ab_B} : decode (ab_code (zx σ n0 bf).1 8005) 269 = .ok (.iload_n 1, 1) := zd zm_8005 (by decide +kernel)
theorem d_8005_270 {σ : Nat → Nat} {n0 : Nat} {bf : ab_B} : decode (ab_code (zx σ n0 bf).1 8005) 270 = .ok (.ifCond .eq 15, 3) := zd zm_8005 (by decide +kernel)
theorem d_8005_273 {σ : Nat → Nat} {n0 : Nat} {bf : ab_B} : decode (ab_code (zx σ n0 bf).1 8005) 273 = .ok (.aload_n 0, 1) := zd zm_8005 (by decide +kernel)
theorem d_8005_274 {σ : Nat → Nat} {n0 : Nat} {bf : ab_B} : decode (ab_code (zx σ n0 bf).1 8005) 274 = .ok (.getfield 17, 3) := zd zm_8005 (by decide +kernel)
theorem d_8005_277 {σ : Nat → Nat} {n0 : Nat} {bf : ab_B} : decode (ab_code (zx σ n0 bf).1 8005) 277 = .ok (.iload_n 2, 1) := zd zm_8005 (by decide +kernel)
theorem d_8005_278 {σ : Nat → Nat} {n0 : Nat} {bf : ab_B} : decode (ab_code (zx σ n0 bf).1 8005) 278 = .ok (.iload 5, 2) := zd zm_8005 (by decide +kernel)
theorem d_8005_280 {σ : Nat → Nat} {n0 : Nat} {bf : ab_B} : decode (ab_code (zx σ n0 bf).1 8005) 280 = .ok (.iadd, 1) := zd zm_8005 (by decide +kernel)
theorem d_8005_281 {σ : Nat → Nat} {n0 : Nat} {bf : ab_B} : decode (ab_code (zx σ n0 bf).1 8005) 281 = .ok (.baload, 1) := zd zm_8005 (by decide +kernel)
theorem d_8005_282 {σ : Nat → Nat} {n0 : Nat} {bf : ab_B} : decode (ab_code (zx σ n0 bf).1 8005) 282 = .ok (.goto 14, 3) := zd zm_8005 (by decide +kernel)
theorem d_8005_285 {σ : Nat → Nat} {n0 : Nat} {bf : ab_B} : decode (ab_code (zx σ n0 bf).1 8005) 285 = .ok (.aload_n 0, 1) := zd zm_8005 (by decide +kernel)
theorem d_8005_286 {σ : Nat → Nat} {n0 : Nat} {bf : ab_B} : decode (ab_code (zx σ n0 bf).1 8005) 286 = .ok (.iload_n 2, 1) := zd zm_8005 (by decide +kernel)
theorem d_8005_287 {σ : Nat → Nat} {n0 : Nat} {bf : ab_B} : decode (ab_code (zx σ n0 bf).1 8005) 287 = .ok (.iload 5, 2) := zd zm_8005 (by decide +kernel)
theorem d_8005_289 {σ : Nat → Nat} {n0 : Nat} {bf : ab_B} : decode (ab_code (zx σ n0 bf).1 8005) 289 = .ok (.iadd, 1) := zd zm_8005 (by decide +kernel)
theorem d_8005_290 {σ : Nat → Nat} {n0 : Nat} {bf : ab_B} : decode (ab_code (zx σ n0 bf).1 8005) 290 = .ok (.invokevirtual 471, 3) := zd zm_8005 (by decide +kernel)
theorem d_8005_293 {σ : Nat → Nat} {n0 : Nat} {bf : ab_B} : decode (ab_code (zx σ n0 bf).1 8005) 293 = .ok (.invokestatic 467, 3) := zd zm_8005 (by decide +kernel)
theorem d_8005_296 {σ : Nat → Nat} {n0 : Nat} {bf : ab_B} : decode (ab_code (zx σ n0 bf).1 8005) 296 = .ok (.i2b, 1) := zd zm_8005 (by decide +kernel)
theorem d_8005_297 {σ : Nat → Nat} {n0 : Nat} {bf : ab_B} : decode (ab_code (zx σ n0 bf).1 8005) 297 = .ok (.bastore, 1) := zd zm_8005 (by decide +kernel)
theorem d_8005_298 {σ : Nat → Nat} {n0 : Nat} {bf : ab_B} : decode (ab_code (zx σ n0 bf).1 8005) 298 = .ok (.aload_n 0, 1) := zd zm_8005 (by decide +kernel)
theorem d_8005_299 {σ : Nat → Nat} {n0 : Nat} {bf : ab_B} : decode (ab_code (zx σ n0 bf).1 8005) 299 = .ok (.dup, 1) := zd zm_8005 (by decide +kernel)
theorem d_8005_300 {σ : Nat → Nat} {n0 : Nat} {bf : ab_B} : decode (ab_code (zx σ n0 bf).1 8005) 300 = .ok (.getfield 477, 3) := zd zm_8005 (by decide +kernel)
theorem d_8005_303 {σ : Nat → Nat} {n0 : Nat} {bf : ab_B} : decode (ab_code (zx σ n0 bf).1 8005) 303 = .ok (.iconst 1, 1) := zd zm_8005 (by decide +kernel)
theorem d_8005_304 {σ : Nat → Nat} {n0 : Nat} {bf : ab_B} : decode (ab_code (zx σ n0 bf).1 8005) 304 = .ok (.iadd, 1) := zd zm_8005 (by decide +kernel)
theorem d_8005_305 {σ : Nat → Nat} {n0 : Nat} {bf : ab_B} : decode (ab_code (zx σ n0 bf).1 8005) 305 = .ok (.putfield 477, 3) := zd zm_8005 (by decide +kernel)
theorem d_8005_308 {σ : Nat → Nat} {n0 : Nat} {bf : ab_B} : decode (ab_code (zx σ n0 bf).1 8005) 308 = .ok (.iinc 5 1, 3) := zd zm_8005 (by decide +kernel)
theorem d_8005_311 {σ : Nat → Nat} {n0 : Nat} {bf : ab_B} : decode (ab_code (zx σ n0 bf).1 8005) 311 = .ok (.goto (-56), 3) := zd zm_8005 (by decide +kernel)
theorem d_8005_314 {σ : Nat → Nat} {n0 : Nat} {bf : ab_B} : decode (ab_code (zx σ n0 bf).1 8005) 314 = .ok (.aload_n 0, 1) := zd zm_8005 (by decide +kernel)
theorem d_8005_315 {σ : Nat → Nat} {n0 : Nat} {bf : ab_B} : decode (ab_code (zx σ n0 bf).1 8005) 315 = .ok (.getfield 474, 3) := zd zm_8005 (by decide +kernel)
theorem d_8005_318 {σ : Nat → Nat} {n0 : Nat} {bf : ab_B} : decode (ab_code (zx σ n0 bf).1 8005) 318 = .ok (.ireturn, 1) := zd zm_8005 (by decide +kernel)
def w_X9_nameOf_44 (X : zs_X) (d : Nat) (p0 : Nat) (p1 : Int32) (p2 : Int32) (p3 : Int32) (p5 : Int32) (q0 : Int32) (q1 : Int32) (S : zs_T) (Q : zs_Q) : Prop :=
  (zs_U X d 8005 6 [(0, .ref p0), (1, .int p1), (2, .int p2), (3, .int p3), (4, .int ((q0 + q1) &&& (4095 : Int32))), (5, .int (p5 + (1 : Int32)))] [] S Q)
theorem u_X9_nameOf_44 {σ : Nat → Nat} {n0 : Nat} {bf : ab_B} {d : Nat} {p0 : Nat} {p1 : Int32} {p2 : Int32} {p3 : Int32} {p5 : Int32} {q0 : Int32} {q1 : Int32} {S : zs_T} {Q : zs_Q} (hB : zt_B bf) (h : w_X9_nameOf_44 (zx σ n0 bf) d p0 p1 p2 p3 p5 q0 q1 S Q) : zs_U (zx σ n0 bf) d 8005 44 [(0, .ref p0), (1, .int p1), (2, .int p2), (3, .int p3), (5, .int p5)] [.int q1, .int q0] S Q := by
  unfold w_X9_nameOf_44 at h
  refine zu_stk d_8005_44 rfl rfl ?_
  refine zu_sipush d_8005_45 zh_4095 ?_
  refine zu_stk d_8005_48 rfl rfl ?_
  refine zu_istore d_8005_49 (zs_lt zq_8005 rfl) ?_
  refine zu_iinc d_8005_51 rfl zi_1 (zs_lt zq_8005 rfl) ?_
  refine zu_goto (t := 6) d_8005_54 rfl ?_
  exact h.weak ⟨rfl, rfl, rfl, rfl, rfl, rfl, trivial⟩
def w_X9_nameOf_6 (X : zs_X) (d : Nat) (p0 : Nat) (p1 : Int32) (p2 : Int32) (p3 : Int32) (p4 : Int32) (p5 : Int32) (S : zs_T) (Q : zs_Q) : Prop :=
  (((p3 ≤ p5 → (zs_K S p0 = some (.inl 8) ∧ ∃ b3, (zs_R S 8018 p0) = some b3 ∧ zs_A S b3 0 p4 ∧ zs_U X d 8005 66 [(0, .ref p0), (1, .int p1), (2, .int p2), (3, .int p3), (4, .int p4), (5, .int (zs_i S b3 p4.toNatClampNeg))] [] S Q)) ∧ (¬ (p3 ≤ p5) → (((p1 = 0 → (zs_K S p0 = some (.inl 8) ∧ zs_C X d 8006 [.ref p0, .int (p2 + p5)] S (zs_kI (fun v9 S8 => (zs_C X d 8007 [.int v9] S8 (zs_kI (fun v11 S10 => w_X9_nameOf_44 X d p0 p1 p2 p3 p5 ((31 : Int32) * p4) v11 S10 Q) Q))) Q))) ∧ (¬ (p1 = 0) → (zs_K S p0 = some (.inl 8) ∧ ∃ b13, (zs_R S 8012 p0) = some b13 ∧ zs_A S b13 1 (p2 + p5) ∧ w_X9_nameOf_44 X d p0 p1 p2 p3 p5 ((31 : Int32) * p4) (zs_i S b13 (p2 + p5).toNatClampNeg) S Q)))))))
theorem u_X9_nameOf_6 {σ : Nat → Nat} {n0 : Nat} {bf : ab_B} {d : Nat} {p0 : Nat} {p1 : Int32} {p2 : Int32} {p3 : Int32} {p4 : Int32} {p5 : Int32} {S : zs_T} {Q : zs_Q} (hB : zt_B bf) (h : w_X9_nameOf_6 (zx σ n0 bf) d p0 p1 p2 p3 p4 p5 S Q) : zs_U (zx σ n0 bf) d 8005 6 [(0, .ref p0), (1, .int p1), (2, .int p2), (3, .int p3), (4, .int p4), (5, .int p5)] [] S Q := by
  unfold w_X9_nameOf_6 at h
  refine zu_iload d_8005_6 rfl ?_
  refine zu_iload_n d_8005_8 rfl ?_
  refine zu_cmpge (t := 57) d_8005_9 rfl (fun c1 => ?_) (fun c1 => ?_)
  · have h := h.1 c1
    refine zu_aload_n d_8005_57 rfl (zs_ra _) ?_
    obtain ⟨k2, h⟩ := h
    refine zg_8_34 rfl d_8005_58 k2 ?_
    refine zu_iload d_8005_61 rfl ?_
    obtain ⟨b3, e4, h⟩ := h
    refine zs_stk1 (zs_rfe e4) ?_
    obtain ⟨k5, h⟩ := h
    refine zu_iald (k := 0) d_8005_63 rfl rfl k5 ?_
    refine zu_istore d_8005_64 (zs_lt zq_8005 rfl) ?_
    exact h.weak ⟨rfl, rfl, rfl, rfl, rfl, rfl, trivial⟩
  · have h := h.2 c1
    refine zu_bipush d_8005_12 zj_31 ?_
    refine zu_iload d_8005_14 rfl ?_
    refine zu_stk d_8005_16 rfl rfl ?_
    refine zu_iload_n d_8005_17 rfl ?_
    refine zu_ifeq (t := 33) d_8005_18 rfl (fun c6 => ?_) (fun c6 => ?_)
    · have h := h.1 c6
      refine zu_aload_n d_8005_33 rfl (zs_ra _) ?_
      refine zu_iload_n d_8005_34 rfl ?_
      refine zu_iload d_8005_35 rfl ?_
      refine zu_stk d_8005_37 rfl rfl ?_
      obtain ⟨k7, h⟩ := h
      refine zc_8_471 (x0 := (p2 + p5)) hB rfl k7 d_8005_38 (Nat.le_of_ble_eq_true rfl) h (fun v9 S8 h => ?_)
      refine zc_8_467 (x0 := v9) hB rfl d_8005_41 (Nat.le_of_ble_eq_true rfl) h (fun v11 S10 h => ?_)
      exact (u_X9_nameOf_44 hB h).weak ⟨rfl, rfl, rfl, rfl, rfl, trivial⟩
    · have h := h.2 c6
      refine zu_aload_n d_8005_21 rfl (zs_ra _) ?_
      obtain ⟨k12, h⟩ := h
      refine zg_8_17 rfl d_8005_22 k12 ?_
      refine zu_iload_n d_8005_25 rfl ?_
      refine zu_iload d_8005_26 rfl ?_
      refine zu_stk d_8005_28 rfl rfl ?_
      obtain ⟨b13, e14, h⟩ := h
      refine zs_stk1 (zs_rfe e14) ?_
      obtain ⟨k15, h⟩ := h
      refine zu_bald (k := 1) d_8005_29 rfl (Or.inl rfl) k15 ?_
      refine zu_goto (t := 44) d_8005_30 rfl ?_
      exact (u_X9_nameOf_44 hB h).weak ⟨rfl, rfl, rfl, rfl, rfl, trivial⟩
def w_X9_nameOf_252 (X : zs_X) (d : Nat) (p0 : Nat) (p1 : Int32) (p2 : Int32) (p3 : Int32) (S : zs_T) (Q : zs_Q) : Prop :=
  (zs_U X d 8005 255 [(0, .ref p0), (1, .int p1), (2, .int p2), (3, .int p3), (5, .int (0 : Int32))] [] S Q)
theorem u_X9_nameOf_252 {σ : Nat → Nat} {n0 : Nat} {bf : ab_B} {d : Nat} {p0 : Nat} {p1 : Int32} {p2 : Int32} {p3 : Int32} {S : zs_T} {Q : zs_Q} (hB : zt_B bf) (h : w_X9_nameOf_252 (zx σ n0 bf) d p0 p1 p2 p3 S Q) : zs_U (zx σ n0 bf) d 8005 252 [(0, .ref p0), (1, .int p1), (2, .int p2), (3, .int p3)] [] S Q := by
  unfold w_X9_nameOf_252 at h
  refine zu_iconst d_8005_252 zi_0 ?_
  refine zu_istore d_8005_253 (zs_lt zq_8005 rfl) ?_
  exact h.weak ⟨rfl, rfl, rfl, rfl, rfl, trivial⟩
def w_X9_nameOf_215 (X : zs_X) (d : Nat) (p0 : Nat) (p1 : Int32) (p2 : Int32) (p3 : Int32) (p4 : Int32) (S : zs_T) (Q : zs_Q) : Prop :=
  (zs_K S p0 = some (.inl 8) ∧ ∃ b2, (zs_R S 8018 p0) = some b2 ∧ zs_A S b2 0 p4 ∧ ∃ b5, (zs_R S 8017 p0) = some b5 ∧ zs_A S b5 0 (zs_I S 8020 p0) ∧ ab_n0 X.1 ≤ b5 ∧ ∀ S9, S9 = zs_si S b5 (zs_I S 8020 p0).toNatClampNeg (zs_i S b2 p4.toNatClampNeg) → ∃ b12, (zs_R S9 8018 p0) = some b12 ∧ zs_A S b12 0 p4 ∧ ab_n0 X.1 ≤ b12 ∧ ∀ S16, S16 = zs_si S9 b12 p4.toNatClampNeg (zs_I S9 8020 p0) → ∃ b19, (zs_R S16 8019 p0) = some b19 ∧ zs_A S b19 0 (zs_I S16 8020 p0) ∧ ab_n0 X.1 ≤ b19 ∧ ∀ S23, S23 = zs_si S16 b19 (zs_I S16 8020 p0).toNatClampNeg (0 : Int32) → w_X9_nameOf_252 X d p0 p1 p2 p3 S23 Q)
theorem u_X9_nameOf_215 {σ : Nat → Nat} {n0 : Nat} {bf : ab_B} {d : Nat} {p0 : Nat} {p1 : Int32} {p2 : Int32} {p3 : Int32} {p4 : Int32} {S : zs_T} {Q : zs_Q} (hB : zt_B bf) (h : w_X9_nameOf_215 (zx σ n0 bf) d p0 p1 p2 p3 p4 S Q) : zs_U (zx σ n0 bf) d 8005 215 [(0, .ref p0), (1, .int p1), (2, .int p2), (3, .int p3), (4, .int p4)] [] S Q := by
  unfold w_X9_nameOf_215 at h
  refine zu_aload_n d_8005_215 rfl (zs_ra _) ?_
  obtain ⟨k1, h⟩ := h
  refine zg_8_31 rfl d_8005_216 k1 ?_
  refine zu_aload_n d_8005_219 rfl (zs_ra _) ?_
  refine zg_8_474 rfl d_8005_220 k1 ?_
  refine zu_aload_n d_8005_223 rfl (zs_ra _) ?_
  refine zg_8_34 rfl d_8005_224 k1 ?_
  refine zu_iload d_8005_227 rfl ?_
  obtain ⟨b2, e3, h⟩ := h
  refine zs_stk1 (zs_rfe e3) ?_
  obtain ⟨k4, h⟩ := h
  refine zu_iald (k := 0) d_8005_229 rfl rfl k4 ?_
  obtain ⟨b5, e6, h⟩ := h
  refine zs_stk2 (zs_rfe e6) ?_
  obtain ⟨k7, h⟩ := h
  obtain ⟨k8, h⟩ := h
  refine zu_iast (k := 0) d_8005_230 rfl rfl k8 k7 ?_
  generalize e10 : zs_si S b5 (zs_I S 8020 p0).toNatClampNeg (zs_i S b2 p4.toNatClampNeg) = S9
  have h := h S9 e10.symm
  have K11 : ∀ b, zs_K S9 b = zs_K S b := zs_Kt e10 (zs_Ksi _ _ _ _) (fun _ => rfl)
  refine zu_aload_n d_8005_231 rfl (zs_ra _) ?_
  refine zg_8_34 rfl d_8005_232 ((K11 _).trans k1) ?_
  refine zu_iload d_8005_235 rfl ?_
  refine zu_aload_n d_8005_237 rfl (zs_ra _) ?_
  refine zg_8_474 rfl d_8005_238 ((K11 _).trans k1) ?_
  obtain ⟨b12, e13, h⟩ := h
  refine zs_stk2 (zs_rfe e13) ?_
  obtain ⟨k14, h⟩ := h
  obtain ⟨k15, h⟩ := h
  refine zu_iast (k := 0) d_8005_241 rfl rfl k15 (zs_Ak K11 k14) ?_
  generalize e17 : zs_si S9 b12 p4.toNatClampNeg (zs_I S9 8020 p0) = S16
  have h := h S16 e17.symm
  have K18 : ∀ b, zs_K S16 b = zs_K S b := zs_Kt e17 (zs_Ksi _ _ _ _) K11
  refine zu_aload_n d_8005_242 rfl (zs_ra _) ?_
  refine zg_8_37 rfl d_8005_243 ((K18 _).trans k1) ?_
  refine zu_aload_n d_8005_246 rfl (zs_ra _) ?_
  refine zg_8_474 rfl d_8005_247 ((K18 _).trans k1) ?_
  refine zu_iconst d_8005_250 zi_0 ?_
  obtain ⟨b19, e20, h⟩ := h
  refine zs_stk2 (zs_rfe e20) ?_
  obtain ⟨k21, h⟩ := h
  obtain ⟨k22, h⟩ := h
  refine zu_iast (k := 0) d_8005_251 rfl rfl k22 (zs_Ak K18 k21) ?_
  generalize e24 : zs_si S16 b19 (zs_I S16 8020 p0).toNatClampNeg (0 : Int32) = S23
  have h := h S23 e24.symm
  have K25 : ∀ b, zs_K S23 b = zs_K S b := zs_Kt e24 (zs_Ksi _ _ _ _) K18
  exact (u_X9_nameOf_252 hB h).weak ⟨rfl, rfl, rfl, rfl, trivial⟩
def w_X9_nameOf_66 (X : zs_X) (d : Nat) (p0 : Nat) (p1 : Int32) (p2 : Int32) (p3 : Int32) (p4 : Int32) (p5 : Int32) (S : zs_T) (Q : zs_Q) : Prop :=
  (((p5 ≤ 0 → (zs_K S p0 = some (.inl 8) ∧ ab_n0 X.1 ≤ p0 ∧ ∀ S4, S4 = zs_sI S 8020 p0 ((zs_I S 8020 p0) + (1 : Int32)) → ∃ b7, (zs_R S4 8015 p0) = some b7 ∧ zs_A S b7 0 (zs_I S4 8020 p0) ∧ ab_n0 X.1 ≤ b7 ∧ ∀ S11, S11 = zs_si S4 b7 (zs_I S4 8020 p0).toNatClampNeg (zs_I S4 8014 p0) → ∃ b14, (zs_R S11 8016 p0) = some b14 ∧ zs_A S b14 1 (zs_I S11 8020 p0) ∧ ab_n0 X.1 ≤ b14 ∧ ∀ S18, S18 = zs_si S11 b14 (zs_I S11 8020 p0).toNatClampNeg (vp_nar .byte ((p3).toInt8.toInt32)) → w_X9_nameOf_215 X d p0 p1 p2 p3 p4 S18 Q)) ∧ (¬ (p5 ≤ 0) → (zs_K S p0 = some (.inl 8) ∧ ∃ b22, (zs_R S 8016 p0) = some b22 ∧ zs_A S b22 1 p5 ∧ ((¬ (zs_i S b22 p5.toNatClampNeg) = p3 → (zs_U X d 8005 92 [(0, .ref p0), (1, .int p1), (2, .int p2), (3, .int p3), (4, .int p4), (5, .int p5), (6, .int (0 : Int32)), (7, .int (0 : Int32))] [] S Q)) ∧ (¬ (¬ (zs_i S b22 p5.toNatClampNeg) = p3) → (zs_U X d 8005 92 [(0, .ref p0), (1, .int p1), (2, .int p2), (3, .int p3), (4, .int p4), (5, .int p5), (6, .int (1 : Int32)), (7, .int (0 : Int32))] [] S Q)))))))
theorem u_X9_nameOf_66 {σ : Nat → Nat} {n0 : Nat} {bf : ab_B} {d : Nat} {p0 : Nat} {p1 : Int32} {p2 : Int32} {p3 : Int32} {p4 : Int32} {p5 : Int32} {S : zs_T} {Q : zs_Q} (hB : zt_B bf) (h : w_X9_nameOf_66 (zx σ n0 bf) d p0 p1 p2 p3 p4 p5 S Q) : zs_U (zx σ n0 bf) d 8005 66 [(0, .ref p0), (1, .int p1), (2, .int p2), (3, .int p3), (4, .int p4), (5, .int p5)] [] S Q := by
  unfold w_X9_nameOf_66 at h
  refine zu_iload d_8005_66 rfl ?_
  refine zu_ifle (t := 181) d_8005_68 rfl (fun c1 => ?_) (fun c1 => ?_)
  · have h := h.1 c1
    refine zu_aload_n d_8005_181 rfl (zs_ra _) ?_
    refine zu_dup d_8005_182 rfl ?_
    obtain ⟨k2, h⟩ := h
    refine zg_8_474 rfl d_8005_183 k2 ?_
    refine zu_iconst d_8005_186 zi_1 ?_
    refine zu_stk d_8005_187 rfl rfl ?_
    obtain ⟨k3, h⟩ := h
    refine zp_8_474 (v := ((zs_I S 8020 p0) + (1 : Int32))) rfl d_8005_188 k2 k3 ?_
    generalize e5 : zs_sI S 8020 p0 ((zs_I S 8020 p0) + (1 : Int32)) = S4
    have h := h S4 e5.symm
    have K6 : ∀ b, zs_K S4 b = zs_K S b := zs_Kt e5 (zs_KsI _ _ _ _) (fun _ => rfl)
    refine zu_aload_n d_8005_191 rfl (zs_ra _) ?_
    refine zg_8_24 rfl d_8005_192 ((K6 _).trans k2) ?_
    refine zu_aload_n d_8005_195 rfl (zs_ra _) ?_
    refine zg_8_474 rfl d_8005_196 ((K6 _).trans k2) ?_
    refine zu_aload_n d_8005_199 rfl (zs_ra _) ?_
    refine zg_8_477 rfl d_8005_200 ((K6 _).trans k2) ?_
    obtain ⟨b7, e8, h⟩ := h
    refine zs_stk2 (zs_rfe e8) ?_
    obtain ⟨k9, h⟩ := h
    obtain ⟨k10, h⟩ := h
    refine zu_iast (k := 0) d_8005_203 rfl rfl k10 (zs_Ak K6 k9) ?_
    generalize e12 : zs_si S4 b7 (zs_I S4 8020 p0).toNatClampNeg (zs_I S4 8014 p0) = S11
    have h := h S11 e12.symm
    have K13 : ∀ b, zs_K S11 b = zs_K S b := zs_Kt e12 (zs_Ksi _ _ _ _) K6
    refine zu_aload_n d_8005_204 rfl (zs_ra _) ?_
    refine zg_8_28 rfl d_8005_205 ((K13 _).trans k2) ?_
    refine zu_aload_n d_8005_208 rfl (zs_ra _) ?_
    refine zg_8_474 rfl d_8005_209 ((K13 _).trans k2) ?_
    refine zu_iload_n d_8005_212 rfl ?_
    refine zu_stk d_8005_213 rfl rfl ?_
    obtain ⟨b14, e15, h⟩ := h
    refine zs_stk2 (zs_rfe e15) ?_
    obtain ⟨k16, h⟩ := h
    obtain ⟨k17, h⟩ := h
    refine zu_bast_byte (k := 1) d_8005_214 rfl rfl k17 (zs_Ak K13 k16) ?_
    generalize e19 : zs_si S11 b14 (zs_I S11 8020 p0).toNatClampNeg (vp_nar .byte ((p3).toInt8.toInt32)) = S18
    have h := h S18 e19.symm
    have K20 : ∀ b, zs_K S18 b = zs_K S b := zs_Kt e19 (zs_Ksi _ _ _ _) K13
    exact (u_X9_nameOf_215 hB h).weak ⟨rfl, rfl, rfl, rfl, rfl, trivial⟩
  · have h := h.2 c1
    refine zu_aload_n d_8005_71 rfl (zs_ra _) ?_
    obtain ⟨k21, h⟩ := h
    refine zg_8_28 rfl d_8005_72 k21 ?_
    refine zu_iload d_8005_75 rfl ?_
    obtain ⟨b22, e23, h⟩ := h
    refine zs_stk1 (zs_rfe e23) ?_
    obtain ⟨k24, h⟩ := h
    refine zu_bald (k := 1) d_8005_77 rfl (Or.inl rfl) k24 ?_
    refine zu_iload_n d_8005_78 rfl ?_
    refine zu_cmpne (t := 86) d_8005_79 rfl (fun c25 => ?_) (fun c25 => ?_)
    · have h := h.1 c25
      refine zu_iconst d_8005_86 zi_0 ?_
      refine zu_istore d_8005_87 (zs_lt zq_8005 rfl) ?_
      refine zu_iconst d_8005_89 zi_0 ?_
      refine zu_istore d_8005_90 (zs_lt zq_8005 rfl) ?_
      exact h.weak ⟨rfl, rfl, rfl, rfl, rfl, rfl, rfl, rfl, trivial⟩
    · have h := h.2 c25
      refine zu_iconst d_8005_82 zi_1 ?_
      refine zu_goto (t := 87) d_8005_83 rfl ?_
      refine zu_istore d_8005_87 (zs_lt zq_8005 rfl) ?_
      refine zu_iconst d_8005_89 zi_0 ?_
      refine zu_istore d_8005_90 (zs_lt zq_8005 rfl) ?_
      exact h.weak ⟨rfl, rfl, rfl, rfl, rfl, rfl, rfl, rfl, trivial⟩
def w_X9_nameOf_161 (X : zs_X) (d : Nat) (p0 : Nat) (p1 : Int32) (p2 : Int32) (p3 : Int32) (p4 : Int32) (p5 : Int32) (p6 : Int32) (S : zs_T) (Q : zs_Q) : Prop :=
  (((p6 = 0 → (zs_K S p0 = some (.inl 8) ∧ ∃ b3, (zs_R S 8017 p0) = some b3 ∧ zs_A S b3 0 p5 ∧ zs_U X d 8005 66 [(0, .ref p0), (1, .int p1), (2, .int p2), (3, .int p3), (4, .int p4), (5, .int (zs_i S b3 p5.toNatClampNeg))] [] S Q)) ∧ (¬ (p6 = 0) → (Q (.returned (some (.int p5))) S))))
theorem u_X9_nameOf_161 {σ : Nat → Nat} {n0 : Nat} {bf : ab_B} {d : Nat} {p0 : Nat} {p1 : Int32} {p2 : Int32} {p3 : Int32} {p4 : Int32} {p5 : Int32} {p6 : Int32} {S : zs_T} {Q : zs_Q} (hB : zt_B bf) (h : w_X9_nameOf_161 (zx σ n0 bf) d p0 p1 p2 p3 p4 p5 p6 S Q) : zs_U (zx σ n0 bf) d 8005 161 [(0, .ref p0), (1, .int p1), (2, .int p2), (3, .int p3), (4, .int p4), (5, .int p5), (6, .int p6)] [] S Q := by
  unfold w_X9_nameOf_161 at h
  refine zu_iload d_8005_161 rfl ?_
  refine zu_ifeq (t := 169) d_8005_163 rfl (fun c1 => ?_) (fun c1 => ?_)
  · have h := h.1 c1
    refine zu_aload_n d_8005_169 rfl (zs_ra _) ?_
    obtain ⟨k2, h⟩ := h
    refine zg_8_31 rfl d_8005_170 k2 ?_
    refine zu_iload d_8005_173 rfl ?_
    obtain ⟨b3, e4, h⟩ := h
    refine zs_stk1 (zs_rfe e4) ?_
    obtain ⟨k5, h⟩ := h
    refine zu_iald (k := 0) d_8005_175 rfl rfl k5 ?_
    refine zu_istore d_8005_176 (zs_lt zq_8005 rfl) ?_
    refine zu_goto (t := 66) d_8005_178 rfl ?_
    exact h.weak ⟨rfl, rfl, rfl, rfl, rfl, rfl, trivial⟩
  · have h := h.2 c1
    refine zu_iload d_8005_166 rfl ?_
    exact zu_iret d_8005_168 zr_8005 rfl h
def w_X9_nameOf_145 (X : zs_X) (d : Nat) (p0 : Nat) (p1 : Int32) (p2 : Int32) (p3 : Int32) (p4 : Int32) (p5 : Int32) (p7 : Int32) (q0 : Int32) (q1 : Int32) (S : zs_T) (Q : zs_Q) : Prop :=
  (((¬ q0 = q1 → (zs_U X d 8005 92 [(0, .ref p0), (1, .int p1), (2, .int p2), (3, .int p3), (4, .int p4), (5, .int p5), (6, .int (0 : Int32)), (7, .int (p7 + (1 : Int32)))] [] S Q)) ∧ (¬ (¬ q0 = q1) → (zs_U X d 8005 92 [(0, .ref p0), (1, .int p1), (2, .int p2), (3, .int p3), (4, .int p4), (5, .int p5), (6, .int (1 : Int32)), (7, .int (p7 + (1 : Int32)))] [] S Q))))
theorem u_X9_nameOf_145 {σ : Nat → Nat} {n0 : Nat} {bf : ab_B} {d : Nat} {p0 : Nat} {p1 : Int32} {p2 : Int32} {p3 : Int32} {p4 : Int32} {p5 : Int32} {p7 : Int32} {q0 : Int32} {q1 : Int32} {S : zs_T} {Q : zs_Q} (hB : zt_B bf) (h : w_X9_nameOf_145 (zx σ n0 bf) d p0 p1 p2 p3 p4 p5 p7 q0 q1 S Q) : zs_U (zx σ n0 bf) d 8005 145 [(0, .ref p0), (1, .int p1), (2, .int p2), (3, .int p3), (4, .int p4), (5, .int p5), (7, .int p7)] [.int q1, .int q0] S Q := by
  unfold w_X9_nameOf_145 at h
  refine zu_cmpne (t := 152) d_8005_145 rfl (fun c1 => ?_) (fun c1 => ?_)
  · have h := h.1 c1
    refine zu_iconst d_8005_152 zi_0 ?_
    refine zu_istore d_8005_153 (zs_lt zq_8005 rfl) ?_
    refine zu_iinc d_8005_155 rfl zi_1 (zs_lt zq_8005 rfl) ?_
    refine zu_goto (t := 92) d_8005_158 rfl ?_
    exact h.weak ⟨rfl, rfl, rfl, rfl, rfl, rfl, rfl, rfl, trivial⟩
  · have h := h.2 c1
    refine zu_iconst d_8005_148 zi_1 ?_
    refine zu_goto (t := 153) d_8005_149 rfl ?_
    refine zu_istore d_8005_153 (zs_lt zq_8005 rfl) ?_
    refine zu_iinc d_8005_155 rfl zi_1 (zs_lt zq_8005 rfl) ?_
    refine zu_goto (t := 92) d_8005_158 rfl ?_
    exact h.weak ⟨rfl, rfl, rfl, rfl, rfl, rfl, rfl, rfl, trivial⟩
def w_X9_nameOf_92 (X : zs_X) (d : Nat) (p0 : Nat) (p1 : Int32) (p2 : Int32) (p3 : Int32) (p4 : Int32) (p5 : Int32) (p6 : Int32) (p7 : Int32) (S : zs_T) (Q : zs_Q) : Prop :=
  (((p3 ≤ p7 → w_X9_nameOf_161 X d p0 p1 p2 p3 p4 p5 p6 S Q) ∧ (¬ (p3 ≤ p7) → (((p6 = 0 → w_X9_nameOf_161 X d p0 p1 p2 p3 p4 p5 p6 S Q) ∧ (¬ (p6 = 0) → (zs_K S p0 = some (.inl 8) ∧ ∃ b4, (zs_R S 8015 p0) = some b4 ∧ zs_A S b4 0 p5 ∧ ∃ b7, (zs_R S 8013 p0) = some b7 ∧ zs_A S b7 1 ((zs_i S b4 p5.toNatClampNeg) + p7) ∧ ((p1 = 0 → (zs_C X d 8006 [.ref p0, .int (p2 + p7)] S (zs_kI (fun v12 S11 => (zs_C X d 8007 [.int v12] S11 (zs_kI (fun v14 S13 => w_X9_nameOf_145 X d p0 p1 p2 p3 p4 p5 p7 (zs_i S b7 ((zs_i S b4 p5.toNatClampNeg) + p7).toNatClampNeg) v14 S13 Q) Q))) Q))) ∧ (¬ (p1 = 0) → (∃ b15, (zs_R S 8012 p0) = some b15 ∧ zs_A S b15 1 (p2 + p7) ∧ w_X9_nameOf_145 X d p0 p1 p2 p3 p4 p5 p7 (zs_i S b7 ((zs_i S b4 p5.toNatClampNeg) + p7).toNatClampNeg) (zs_i S b15 (p2 + p7).toNatClampNeg) S Q))))))))))
theorem u_X9_nameOf_92 {σ : Nat → Nat} {n0 : Nat} {bf : ab_B} {d : Nat} {p0 : Nat} {p1 : Int32} {p2 : Int32} {p3 : Int32} {p4 : Int32} {p5 : Int32} {p6 : Int32} {p7 : Int32} {S : zs_T} {Q : zs_Q} (hB : zt_B bf) (h : w_X9_nameOf_92 (zx σ n0 bf) d p0 p1 p2 p3 p4 p5 p6 p7 S Q) : zs_U (zx σ n0 bf) d 8005 92 [(0, .ref p0), (1, .int p1), (2, .int p2), (3, .int p3), (4, .int p4), (5, .int p5), (6, .int p6), (7, .int p7)] [] S Q := by
  unfold w_X9_nameOf_92 at h
  refine zu_iload d_8005_92 rfl ?_
  refine zu_iload_n d_8005_94 rfl ?_
  refine zu_cmpge (t := 161) d_8005_95 rfl (fun c1 => ?_) (fun c1 => ?_)
  · have h := h.1 c1
    exact (u_X9_nameOf_161 hB h).weak ⟨rfl, rfl, rfl, rfl, rfl, rfl, rfl, trivial⟩
  · have h := h.2 c1
    refine zu_iload d_8005_98 rfl ?_
    refine zu_ifeq (t := 161) d_8005_100 rfl (fun c2 => ?_) (fun c2 => ?_)
    · have h := h.1 c2
      exact (u_X9_nameOf_161 hB h).weak ⟨rfl, rfl, rfl, rfl, rfl, rfl, rfl, trivial⟩
    · have h := h.2 c2
      refine zu_aload_n d_8005_103 rfl (zs_ra _) ?_
      obtain ⟨k3, h⟩ := h
      refine zg_8_21 rfl d_8005_104 k3 ?_
      refine zu_aload_n d_8005_107 rfl (zs_ra _) ?_
      refine zg_8_24 rfl d_8005_108 k3 ?_
      refine zu_iload d_8005_111 rfl ?_
      obtain ⟨b4, e5, h⟩ := h
      refine zs_stk1 (zs_rfe e5) ?_
      obtain ⟨k6, h⟩ := h
      refine zu_iald (k := 0) d_8005_113 rfl rfl k6 ?_
      refine zu_iload d_8005_114 rfl ?_
      refine zu_stk d_8005_116 rfl rfl ?_
      obtain ⟨b7, e8, h⟩ := h
      refine zs_stk1 (zs_rfe e8) ?_
      obtain ⟨k9, h⟩ := h
      refine zu_bald (k := 1) d_8005_117 rfl (Or.inl rfl) k9 ?_
      refine zu_iload_n d_8005_118 rfl ?_
      refine zu_ifeq (t := 134) d_8005_119 rfl (fun c10 => ?_) (fun c10 => ?_)
      · have h := h.1 c10
        refine zu_aload_n d_8005_134 rfl (zs_ra _) ?_
        refine zu_iload_n d_8005_135 rfl ?_
        refine zu_iload d_8005_136 rfl ?_
        refine zu_stk d_8005_138 rfl rfl ?_
        refine zc_8_471 (x0 := (p2 + p7)) hB rfl k3 d_8005_139 (Nat.le_of_ble_eq_true rfl) h (fun v12 S11 h => ?_)
        refine zc_8_467 (x0 := v12) hB rfl d_8005_142 (Nat.le_of_ble_eq_true rfl) h (fun v14 S13 h => ?_)
        exact (u_X9_nameOf_145 hB h).weak ⟨rfl, rfl, rfl, rfl, rfl, rfl, rfl, trivial⟩
      · have h := h.2 c10
        refine zu_aload_n d_8005_122 rfl (zs_ra _) ?_
        refine zg_8_17 rfl d_8005_123 k3 ?_
        refine zu_iload_n d_8005_126 rfl ?_
        refine zu_iload d_8005_127 rfl ?_
        refine zu_stk d_8005_129 rfl rfl ?_
        obtain ⟨b15, e16, h⟩ := h
        refine zs_stk1 (zs_rfe e16) ?_
        obtain ⟨k17, h⟩ := h
        refine zu_bald (k := 1) d_8005_130 rfl (Or.inl rfl) k17 ?_
        refine zu_goto (t := 145) d_8005_131 rfl ?_
        exact (u_X9_nameOf_145 hB h).weak ⟨rfl, rfl, rfl, rfl, rfl, rfl, rfl, trivial⟩
def w_X9_nameOf_296 (X : zs_X) (d : Nat) (p0 : Nat) (p1 : Int32) (p2 : Int32) (p3 : Int32) (p5 : Int32) (q0 : Option Nat) (q1 : Int32) (q2 : Int32) (S : zs_T) (Q : zs_Q) : Prop :=
  (∃ b1, q0 = some b1 ∧ zs_A S b1 1 q1 ∧ ab_n0 X.1 ≤ b1 ∧ ∀ S5, S5 = zs_si S b1 q1.toNatClampNeg (vp_nar .byte ((q2).toInt8.toInt32)) → zs_K S p0 = some (.inl 8) ∧ ab_n0 X.1 ≤ p0 ∧ ∀ S10, S10 = zs_sI S5 8014 p0 ((zs_I S5 8014 p0) + (1 : Int32)) → zs_U X d 8005 255 [(0, .ref p0), (1, .int p1), (2, .int p2), (3, .int p3), (5, .int (p5 + (1 : Int32)))] [] S10 Q)
theorem u_X9_nameOf_296 {σ : Nat → Nat} {n0 : Nat} {bf : ab_B} {d : Nat} {p0 : Nat} {p1 : Int32} {p2 : Int32} {p3 : Int32} {p5 : Int32} {q0 : Option Nat} {q1 : Int32} {q2 : Int32} {S : zs_T} {Q : zs_Q} (hB : zt_B bf) (h : w_X9_nameOf_296 (zx σ n0 bf) d p0 p1 p2 p3 p5 q0 q1 q2 S Q) : zs_U (zx σ n0 bf) d 8005 296 [(0, .ref p0), (1, .int p1), (2, .int p2), (3, .int p3), (5, .int p5)] [.int q2, .int q1, va_rf q0] S Q := by
  unfold w_X9_nameOf_296 at h
  refine zu_stk d_8005_296 rfl rfl ?_
  obtain ⟨b1, e2, h⟩ := h
  refine zs_stk2 (zs_rfe e2) ?_
  obtain ⟨k3, h⟩ := h
  obtain ⟨k4, h⟩ := h
  refine zu_bast_byte (k := 1) d_8005_297 rfl rfl k4 k3 ?_
  generalize e6 : zs_si S b1 q1.toNatClampNeg (vp_nar .byte ((q2).toInt8.toInt32)) = S5
  have h := h S5 e6.symm
  have K7 : ∀ b, zs_K S5 b = zs_K S b := zs_Kt e6 (zs_Ksi _ _ _ _) (fun _ => rfl)
  refine zu_aload_n d_8005_298 rfl (zs_ra _) ?_
  refine zu_dup d_8005_299 rfl ?_
  obtain ⟨k8, h⟩ := h
  refine zg_8_477 rfl d_8005_300 ((K7 _).trans k8) ?_
  refine zu_iconst d_8005_303 zi_1 ?_
  refine zu_stk d_8005_304 rfl rfl ?_
  obtain ⟨k9, h⟩ := h
  refine zp_8_477 (v := ((zs_I S5 8014 p0) + (1 : Int32))) rfl d_8005_305 ((K7 _).trans k8) k9 ?_
  generalize e11 : zs_sI S5 8014 p0 ((zs_I S5 8014 p0) + (1 : Int32)) = S10
  have h := h S10 e11.symm
  have K12 : ∀ b, zs_K S10 b = zs_K S b := zs_Kt e11 (zs_KsI _ _ _ _) K7
  refine zu_iinc d_8005_308 rfl zi_1 (zs_lt zq_8005 rfl) ?_
  refine zu_goto (t := 255) d_8005_311 rfl ?_
  exact h.weak ⟨rfl, rfl, rfl, rfl, rfl, trivial⟩
def w_X9_nameOf_255 (X : zs_X) (d : Nat) (p0 : Nat) (p1 : Int32) (p2 : Int32) (p3 : Int32) (p5 : Int32) (S : zs_T) (Q : zs_Q) : Prop :=
  (((p3 ≤ p5 → (zs_K S p0 = some (.inl 8) ∧ Q (.returned (some (.int (zs_I S 8020 p0)))) S)) ∧ (¬ (p3 ≤ p5) → (zs_K S p0 = some (.inl 8) ∧ ((p1 = 0 → (zs_C X d 8006 [.ref p0, .int (p2 + p5)] S (zs_kI (fun v6 S5 => (zs_C X d 8007 [.int v6] S5 (zs_kI (fun v8 S7 => w_X9_nameOf_296 X d p0 p1 p2 p3 p5 (zs_R S 8013 p0) (zs_I S 8014 p0) v8 S7 Q) Q))) Q))) ∧ (¬ (p1 = 0) → (∃ b9, (zs_R S 8012 p0) = some b9 ∧ zs_A S b9 1 (p2 + p5) ∧ w_X9_nameOf_296 X d p0 p1 p2 p3 p5 (zs_R S 8013 p0) (zs_I S 8014 p0) (zs_i S b9 (p2 + p5).toNatClampNeg) S Q)))))))
theorem u_X9_nameOf_255 {σ : Nat → Nat} {n0 : Nat} {bf : ab_B} {d : Nat} {p0 : Nat} {p1 : Int32} {p2 : Int32} {p3 : Int32} {p5 : Int32} {S : zs_T} {Q : zs_Q} (hB : zt_B bf) (h : w_X9_nameOf_255 (zx σ n0 bf) d p0 p1 p2 p3 p5 S Q) : zs_U (zx σ n0 bf) d 8005 255 [(0, .ref p0), (1, .int p1), (2, .int p2), (3, .int p3), (5, .int p5)] [] S Q := by
  unfold w_X9_nameOf_255 at h
  refine zu_iload d_8005_255 rfl ?_
  refine zu_iload_n d_8005_257 rfl ?_
  refine zu_cmpge (t := 314) d_8005_258 rfl (fun c1 => ?_) (fun c1 => ?_)
  · have h := h.1 c1
    refine zu_aload_n d_8005_314 rfl (zs_ra _) ?_
    obtain ⟨k2, h⟩ := h
    refine zg_8_474 rfl d_8005_315 k2 ?_
    exact zu_iret d_8005_318 zr_8005 rfl h
  · have h := h.2 c1
    refine zu_aload_n d_8005_261 rfl (zs_ra _) ?_
    obtain ⟨k3, h⟩ := h
    refine zg_8_21 rfl d_8005_262 k3 ?_
    refine zu_aload_n d_8005_265 rfl (zs_ra _) ?_
    refine zg_8_477 rfl d_8005_266 k3 ?_
    refine zu_iload_n d_8005_269 rfl ?_
    refine zu_ifeq (t := 285) d_8005_270 rfl (fun c4 => ?_) (fun c4 => ?_)
    · have h := h.1 c4
      refine zu_aload_n d_8005_285 rfl (zs_ra _) ?_
      refine zu_iload_n d_8005_286 rfl ?_
      refine zu_iload d_8005_287 rfl ?_
      refine zu_stk d_8005_289 rfl rfl ?_
      refine zc_8_471 (x0 := (p2 + p5)) hB rfl k3 d_8005_290 (by simp only [List.map_cons, List.map_nil, List.sum_cons, List.sum_nil, zs_cat, zs_cI, zs_cJ, zs_cA]; exact Nat.le_of_ble_eq_true rfl) h (fun v6 S5 h => ?_)
      refine zc_8_467 (x0 := v6) hB rfl d_8005_293 (by simp only [List.map_cons, List.map_nil, List.sum_cons, List.sum_nil, zs_cat, zs_cI, zs_cJ, zs_cA]; exact Nat.le_of_ble_eq_true rfl) h (fun v8 S7 h => ?_)
      exact (u_X9_nameOf_296 hB h).weak ⟨rfl, rfl, rfl, rfl, rfl, trivial⟩
    · have h := h.2 c4
      refine zu_aload_n d_8005_273 rfl (zs_ra _) ?_
      refine zg_8_17 rfl d_8005_274 k3 ?_
      refine zu_iload_n d_8005_277 rfl ?_
      refine zu_iload d_8005_278 rfl ?_
      refine zu_stk d_8005_280 rfl rfl ?_
      obtain ⟨b9, e10, h⟩ := h
      refine zs_stk1 (zs_rfe e10) ?_
      obtain ⟨k11, h⟩ := h
      refine zu_bald (k := 1) d_8005_281 rfl (Or.inl rfl) k11 ?_
      refine zu_goto (t := 296) d_8005_282 rfl ?_
      exact (u_X9_nameOf_296 hB h).weak ⟨rfl, rfl, rfl, rfl, rfl, trivial⟩
def w_X9_nameOf (X : zs_X) (d : Nat) (p0 : Nat) (p1 : Int32) (p2 : Int32) (p3 : Int32) (S : zs_T) (Q : zs_Q) : Prop :=
  (zs_U X d 8005 6 [(0, .ref p0), (1, .int p1), (2, .int p2), (3, .int p3), (4, .int p3), (5, .int (0 : Int32))] [] S Q)
theorem u_X9_nameOf {σ : Nat → Nat} {n0 : Nat} {bf : ab_B} {d : Nat} {p0 : Nat} {p1 : Int32} {p2 : Int32} {p3 : Int32} {S : zs_T} {Q : zs_Q} (hB : zt_B bf) (hd : 1 ≤ d) (h : w_X9_nameOf (zx σ n0 bf) (d - 1) p0 p1 p2 p3 S Q) : zs_C (zx σ n0 bf) d 8005 [.ref p0, .int p1, .int p2, .int p3] S Q := by
  have hL : lv_args 0 [.ref p0, .int p1, .int p2, .int p3] = [(0, .ref p0), (1, .int p1), (2, .int p2), (3, .int p3)] := rfl
  refine zs_C.of1 (hB.2 8005 (by decide) (by decide)) hd (by rw [hL]; exact zs_sub_self _ (by exact ⟨rfl, rfl, rfl, rfl, trivial⟩)) ?_
  rw [hL]
  clear hL
  unfold w_X9_nameOf at h
  refine zu_iload_n d_8005_0 rfl ?_
  refine zu_istore d_8005_1 (zs_lt zq_8005 rfl) ?_
  refine zu_iconst d_8005_3 zi_0 ?_
  refine zu_istore d_8005_4 (zs_lt zq_8005 rfl) ?_
  exact h.weak ⟨rfl, rfl, rfl, rfl, rfl, rfl, trivial⟩
/-! SchemaPascalModel.byteAt(I)I -/
theorem zm_8006 {σ : Nat → Nat} {n0 : Nat} {bf : ab_B} : ab_code (zx σ n0 bf).1 8006 = prog_17_method_5_code := rfl
theorem zq_8006 {σ : Nat → Nat} {n0 : Nat} {bf : ab_B} : ab_maxL (zx σ n0 bf).1 8006 = 2 := rfl
theorem zr_8006 {σ : Nat → Nat} {n0 : Nat} {bf : ab_B} : ab_ret (zx σ n0 bf).1 8006 = (Option.some Jvm.ClassFile.FieldType.int) := rfl
theorem d_8006_0 {σ : Nat → Nat} {n0 : Nat} {bf : ab_B} : decode (ab_code (zx σ n0 bf).1 8006) 0 = .ok (.iload_n 1, 1) := zd zm_8006 (by decide +kernel)
theorem d_8006_1 {σ : Nat → Nat} {n0 : Nat} {bf : ab_B} : decode (ab_code (zx σ n0 bf).1 8006) 1 = .ok (.aload_n 0, 1) := zd zm_8006 (by decide +kernel)
theorem d_8006_2 {σ : Nat → Nat} {n0 : Nat} {bf : ab_B} : decode (ab_code (zx σ n0 bf).1 8006) 2 = .ok (.getfield 457, 3) := zd zm_8006 (by decide +kernel)
theorem d_8006_5 {σ : Nat → Nat} {n0 : Nat} {bf : ab_B} : decode (ab_code (zx σ n0 bf).1 8006) 5 = .ok (.if_icmp .ge 16, 3) := zd zm_8006 (by decide +kernel)
theorem d_8006_8 {σ : Nat → Nat} {n0 : Nat} {bf : ab_B} : decode (ab_code (zx σ n0 bf).1 8006) 8 = .ok (.aload_n 0, 1) := zd zm_8006 (by decide +kernel)
theorem d_8006_9 {σ : Nat → Nat} {n0 : Nat} {bf : ab_B} : decode (ab_code (zx σ n0 bf).1 8006) 9 = .ok (.getfield 14, 3) := zd zm_8006 (by decide +kernel)
theorem d_8006_12 {σ : Nat → Nat} {n0 : Nat} {bf : ab_B} : decode (ab_code (zx σ n0 bf).1 8006) 12 = .ok (.iload_n 1, 1) := zd zm_8006 (by decide +kernel)
theorem d_8006_13 {σ : Nat → Nat} {n0 : Nat} {bf : ab_B} : decode (ab_code (zx σ n0 bf).1 8006) 13 = .ok (.baload, 1) := zd zm_8006 (by decide +kernel)
theorem d_8006_14 {σ : Nat → Nat} {n0 : Nat} {bf : ab_B} : decode (ab_code (zx σ n0 bf).1 8006) 14 = .ok (.sipush 255, 3) := zd zm_8006 (by decide +kernel)
theorem d_8006_17 {σ : Nat → Nat} {n0 : Nat} {bf : ab_B} : decode (ab_code (zx σ n0 bf).1 8006) 17 = .ok (.iand, 1) := zd zm_8006 (by decide +kernel)
theorem d_8006_18 {σ : Nat → Nat} {n0 : Nat} {bf : ab_B} : decode (ab_code (zx σ n0 bf).1 8006) 18 = .ok (.goto 4, 3) := zd zm_8006 (by decide +kernel)
theorem d_8006_21 {σ : Nat → Nat} {n0 : Nat} {bf : ab_B} : decode (ab_code (zx σ n0 bf).1 8006) 21 = .ok (.iconst (-1), 1) := zd zm_8006 (by decide +kernel)
theorem d_8006_22 {σ : Nat → Nat} {n0 : Nat} {bf : ab_B} : decode (ab_code (zx σ n0 bf).1 8006) 22 = .ok (.ireturn, 1) := zd zm_8006 (by decide +kernel)
def w_X9_byteAt (X : zs_X) (d : Nat) (p0 : Nat) (p1 : Int32) (S : zs_T) (Q : zs_Q) : Prop :=
  (zs_K S p0 = some (.inl 8) ∧ (((zs_I S 8004 p0) ≤ p1 → (Q (.returned (some (.int (-1 : Int32)))) S)) ∧ (¬ ((zs_I S 8004 p0) ≤ p1) → (∃ b3, (zs_R S 8003 p0) = some b3 ∧ zs_A S b3 1 p1 ∧ Q (.returned (some (.int ((zs_i S b3 p1.toNatClampNeg) &&& (255 : Int32))))) S))))
theorem u_X9_byteAt {σ : Nat → Nat} {n0 : Nat} {bf : ab_B} {d : Nat} {p0 : Nat} {p1 : Int32} {S : zs_T} {Q : zs_Q} (hB : zt_B bf) (hd : 1 ≤ d) (h : w_X9_byteAt (zx σ n0 bf) (d - 1) p0 p1 S Q) : zs_C (zx σ n0 bf) d 8006 [.ref p0, .int p1] S Q := by
  have hL : lv_args 0 [.ref p0, .int p1] = [(0, .ref p0), (1, .int p1)] := rfl
  refine zs_C.of1 (hB.2 8006 (by decide) (by decide)) hd (by rw [hL]; exact zs_sub_self _ (by exact ⟨rfl, rfl, trivial⟩)) ?_
  rw [hL]
  clear hL
  unfold w_X9_byteAt at h
  refine zu_iload_n d_8006_0 rfl ?_
  refine zu_aload_n d_8006_1 rfl (zs_ra _) ?_
  obtain ⟨k1, h⟩ := h
  refine zg_8_457 rfl d_8006_2 k1 ?_
  refine zu_cmpge (t := 21) d_8006_5 rfl (fun c2 => ?_) (fun c2 => ?_)
  · have h := h.1 c2
    refine zu_iconst d_8006_21 zi_m1 ?_
    exact zu_iret d_8006_22 zr_8006 rfl h
  · have h := h.2 c2
    refine zu_aload_n d_8006_8 rfl (zs_ra _) ?_
    refine zg_8_14 rfl d_8006_9 k1 ?_
    refine zu_iload_n d_8006_12 rfl ?_
    obtain ⟨b3, e4, h⟩ := h
    refine zs_stk1 (zs_rfe e4) ?_
    obtain ⟨k5, h⟩ := h
    refine zu_bald (k := 1) d_8006_13 rfl (Or.inl rfl) k5 ?_
    refine zu_sipush d_8006_14 zh_255 ?_
    refine zu_stk d_8006_17 rfl rfl ?_
    refine zu_goto (t := 22) d_8006_18 rfl ?_
    exact zu_iret d_8006_22 zr_8006 rfl h
/-! SchemaPascalModel.small(I)I -/
theorem zm_8007 {σ : Nat → Nat} {n0 : Nat} {bf : ab_B} : ab_code (zx σ n0 bf).1 8007 = prog_17_method_8_code := rfl
theorem zq_8007 {σ : Nat → Nat} {n0 : Nat} {bf : ab_B} : ab_maxL (zx σ n0 bf).1 8007 = 1 := rfl
theorem zr_8007 {σ : Nat → Nat} {n0 : Nat} {bf : ab_B} : ab_ret (zx σ n0 bf).1 8007 = (Option.some Jvm.ClassFile.FieldType.int) := rfl
theorem d_8007_0 {σ : Nat → Nat} {n0 : Nat} {bf : ab_B} : decode (ab_code (zx σ n0 bf).1 8007) 0 = .ok (.iload_n 0, 1) := zd zm_8007 (by decide +kernel)
theorem d_8007_1 {σ : Nat → Nat} {n0 : Nat} {bf : ab_B} : decode (ab_code (zx σ n0 bf).1 8007) 1 = .ok (.bipush 65, 2) := zd zm_8007 (by decide +kernel)
theorem d_8007_3 {σ : Nat → Nat} {n0 : Nat} {bf : ab_B} : decode (ab_code (zx σ n0 bf).1 8007) 3 = .ok (.if_icmp .lt 16, 3) := zd zm_8007 (by decide +kernel)
theorem d_8007_6 {σ : Nat → Nat} {n0 : Nat} {bf : ab_B} : decode (ab_code (zx σ n0 bf).1 8007) 6 = .ok (.iload_n 0, 1) := zd zm_8007 (by decide +kernel)
theorem d_8007_7 {σ : Nat → Nat} {n0 : Nat} {bf : ab_B} : decode (ab_code (zx σ n0 bf).1 8007) 7 = .ok (.bipush 90, 2) := zd zm_8007 (by decide +kernel)
theorem d_8007_9 {σ : Nat → Nat} {n0 : Nat} {bf : ab_B} : decode (ab_code (zx σ n0 bf).1 8007) 9 = .ok (.if_icmp .gt 10, 3) := zd zm_8007 (by decide +kernel)
theorem d_8007_12 {σ : Nat → Nat} {n0 : Nat} {bf : ab_B} : decode (ab_code (zx σ n0 bf).1 8007) 12 = .ok (.iload_n 0, 1) := zd zm_8007 (by decide +kernel)
theorem d_8007_13 {σ : Nat → Nat} {n0 : Nat} {bf : ab_B} : decode (ab_code (zx σ n0 bf).1 8007) 13 = .ok (.bipush 32, 2) := zd zm_8007 (by decide +kernel)
theorem d_8007_15 {σ : Nat → Nat} {n0 : Nat} {bf : ab_B} : decode (ab_code (zx σ n0 bf).1 8007) 15 = .ok (.iadd, 1) := zd zm_8007 (by decide +kernel)
theorem d_8007_16 {σ : Nat → Nat} {n0 : Nat} {bf : ab_B} : decode (ab_code (zx σ n0 bf).1 8007) 16 = .ok (.goto 4, 3) := zd zm_8007 (by decide +kernel)
theorem d_8007_19 {σ : Nat → Nat} {n0 : Nat} {bf : ab_B} : decode (ab_code (zx σ n0 bf).1 8007) 19 = .ok (.iload_n 0, 1) := zd zm_8007 (by decide +kernel)
theorem d_8007_20 {σ : Nat → Nat} {n0 : Nat} {bf : ab_B} : decode (ab_code (zx σ n0 bf).1 8007) 20 = .ok (.ireturn, 1) := zd zm_8007 (by decide +kernel)
def w_X9_small (X : zs_X) (d : Nat) (p0 : Int32) (S : zs_T) (Q : zs_Q) : Prop :=
  (((p0 < (65 : Int32) → (Q (.returned (some (.int p0))) S)) ∧ (¬ (p0 < (65 : Int32)) → ((((90 : Int32) < p0 → (Q (.returned (some (.int p0))) S)) ∧ (¬ ((90 : Int32) < p0) → (Q (.returned (some (.int (p0 + (32 : Int32))))) S)))))))
theorem u_X9_small {σ : Nat → Nat} {n0 : Nat} {bf : ab_B} {d : Nat} {p0 : Int32} {S : zs_T} {Q : zs_Q} (hB : zt_B bf) (hd : 1 ≤ d) (h : w_X9_small (zx σ n0 bf) (d - 1) p0 S Q) : zs_C (zx σ n0 bf) d 8007 [.int p0] S Q := by
  have hL : lv_args 0 [.int p0] = [(0, .int p0)] := rfl
  refine zs_C.of1 (hB.2 8007 (by decide) (by decide)) hd (by rw [hL]; exact zs_sub_self _ (by exact ⟨rfl, trivial⟩)) ?_
  rw [hL]
  clear hL
  unfold w_X9_small at h
  refine zu_iload_n d_8007_0 rfl ?_
  refine zu_bipush d_8007_1 zj_65 ?_
  refine zu_cmplt (t := 19) d_8007_3 rfl (fun c1 => ?_) (fun c1 => ?_)
  · have h := h.1 c1
    refine zu_iload_n d_8007_19 rfl ?_
    exact zu_iret d_8007_20 zr_8007 rfl h
  · have h := h.2 c1
    refine zu_iload_n d_8007_6 rfl ?_
    refine zu_bipush d_8007_7 zj_90 ?_
    refine zu_cmpgt (t := 19) d_8007_9 rfl (fun c2 => ?_) (fun c2 => ?_)
    · have h := h.1 c2
      refine zu_iload_n d_8007_19 rfl ?_
      exact zu_iret d_8007_20 zr_8007 rfl h
    · have h := h.2 c2
      refine zu_iload_n d_8007_12 rfl ?_
      refine zu_bipush d_8007_13 zj_32 ?_
      refine zu_stk d_8007_15 rfl rfl ?_
      refine zu_goto (t := 20) d_8007_16 rfl ?_
      exact zu_iret d_8007_20 zr_8007 rfl h
/-! SchemaPascalModel.beginTypes()V -/
theorem zm_8008 {σ : Nat → Nat} {n0 : Nat} {bf : ab_B} : ab_code (zx σ n0 bf).1 8008 = prog_17_method_43_code := rfl
theorem zq_8008 {σ : Nat → Nat} {n0 : Nat} {bf : ab_B} : ab_maxL (zx σ n0 bf).1 8008 = 4 := rfl
theorem zr_8008 {σ : Nat → Nat} {n0 : Nat} {bf : ab_B} : ab_ret (zx σ n0 bf).1 8008 = (Option.none : Option Jvm.ClassFile.FieldType) := rfl
theorem d_8008_0 {σ : Nat → Nat} {n0 : Nat} {bf : ab_B} : decode (ab_code (zx σ n0 bf).1 8008) 0 = .ok (.aload_n 0, 1) := zd zm_8008 (by decide +kernel)
theorem d_8008_1 {σ : Nat → Nat} {n0 : Nat} {bf : ab_B} : decode (ab_code (zx σ n0 bf).1 8008) 1 = .ok (.iconst 0, 1) := zd zm_8008 (by decide +kernel)
theorem d_8008_2 {σ : Nat → Nat} {n0 : Nat} {bf : ab_B} : decode (ab_code (zx σ n0 bf).1 8008) 2 = .ok (.putfield 558, 3) := zd zm_8008 (by decide +kernel)
theorem d_8008_5 {σ : Nat → Nat} {n0 : Nat} {bf : ab_B} : decode (ab_code (zx σ n0 bf).1 8008) 5 = .ok (.aload_n 0, 1) := zd zm_8008 (by decide +kernel)
theorem d_8008_6 {σ : Nat → Nat} {n0 : Nat} {bf : ab_B} : decode (ab_code (zx σ n0 bf).1 8008) 6 = .ok (.iconst 0, 1) := zd zm_8008 (by decide +kernel)
theorem d_8008_7 {σ : Nat → Nat} {n0 : Nat} {bf : ab_B} : decode (ab_code (zx σ n0 bf).1 8008) 7 = .ok (.putfield 578, 3) := zd zm_8008 (by decide +kernel)
theorem d_8008_10 {σ : Nat → Nat} {n0 : Nat} {bf : ab_B} : decode (ab_code (zx σ n0 bf).1 8008) 10 = .ok (.aload_n 0, 1) := zd zm_8008 (by decide +kernel)
theorem d_8008_11 {σ : Nat → Nat} {n0 : Nat} {bf : ab_B} : decode (ab_code (zx σ n0 bf).1 8008) 11 = .ok (.iconst 0, 1) := zd zm_8008 (by decide +kernel)
theorem d_8008_12 {σ : Nat → Nat} {n0 : Nat} {bf : ab_B} : decode (ab_code (zx σ n0 bf).1 8008) 12 = .ok (.putfield 581, 3) := zd zm_8008 (by decide +kernel)
theorem d_8008_15 {σ : Nat → Nat} {n0 : Nat} {bf : ab_B} : decode (ab_code (zx σ n0 bf).1 8008) 15 = .ok (.aload_n 0, 1) := zd zm_8008 (by decide +kernel)
theorem d_8008_16 {σ : Nat → Nat} {n0 : Nat} {bf : ab_B} : decode (ab_code (zx σ n0 bf).1 8008) 16 = .ok (.iconst 0, 1) := zd zm_8008 (by decide +kernel)
theorem d_8008_17 {σ : Nat → Nat} {n0 : Nat} {bf : ab_B} : decode (ab_code (zx σ n0 bf).1 8008) 17 = .ok (.putfield 584, 3) := zd zm_8008 (by decide +kernel)
theorem d_8008_20 {σ : Nat → Nat} {n0 : Nat} {bf : ab_B} : decode (ab_code (zx σ n0 bf).1 8008) 20 = .ok (.aload_n 0, 1) := zd zm_8008 (by decide +kernel)
theorem d_8008_21 {σ : Nat → Nat} {n0 : Nat} {bf : ab_B} : decode (ab_code (zx σ n0 bf).1 8008) 21 = .ok (.iconst 0, 1) := zd zm_8008 (by decide +kernel)
theorem d_8008_22 {σ : Nat → Nat} {n0 : Nat} {bf : ab_B} : decode (ab_code (zx σ n0 bf).1 8008) 22 = .ok (.putfield 587, 3) := zd zm_8008 (by decide +kernel)
theorem d_8008_25 {σ : Nat → Nat} {n0 : Nat} {bf : ab_B} : decode (ab_code (zx σ n0 bf).1 8008) 25 = .ok (.aload_n 0, 1) := zd zm_8008 (by decide +kernel)
theorem d_8008_26 {σ : Nat → Nat} {n0 : Nat} {bf : ab_B} : decode (ab_code (zx σ n0 bf).1 8008) 26 = .ok (.iconst 0, 1) := zd zm_8008 (by decide +kernel)
theorem d_8008_27 {σ : Nat → Nat} {n0 : Nat} {bf : ab_B} : decode (ab_code (zx σ n0 bf).1 8008) 27 = .ok (.putfield 590, 3) := zd zm_8008 (by decide +kernel)
theorem d_8008_30 {σ : Nat → Nat} {n0 : Nat} {bf : ab_B} : decode (ab_code (zx σ n0 bf).1 8008) 30 = .ok (.aload_n 0, 1) := zd zm_8008 (by decide +kernel)
theorem d_8008_31 {σ : Nat → Nat} {n0 : Nat} {bf : ab_B} : decode (ab_code (zx σ n0 bf).1 8008) 31 = .ok (.iconst 0, 1) := zd zm_8008 (by decide +kernel)
theorem d_8008_32 {σ : Nat → Nat} {n0 : Nat} {bf : ab_B} : decode (ab_code (zx σ n0 bf).1 8008) 32 = .ok (.putfield 593, 3) := zd zm_8008 (by decide +kernel)
theorem d_8008_35 {σ : Nat → Nat} {n0 : Nat} {bf : ab_B} : decode (ab_code (zx σ n0 bf).1 8008) 35 = .ok (.aload_n 0, 1) := zd zm_8008 (by decide +kernel)
theorem d_8008_36 {σ : Nat → Nat} {n0 : Nat} {bf : ab_B} : decode (ab_code (zx σ n0 bf).1 8008) 36 = .ok (.iconst 0, 1) := zd zm_8008 (by decide +kernel)
theorem d_8008_37 {σ : Nat → Nat} {n0 : Nat} {bf : ab_B} : decode (ab_code (zx σ n0 bf).1 8008) 37 = .ok (.putfield 556, 3) := zd zm_8008 (by decide +kernel)
theorem d_8008_40 {σ : Nat → Nat} {n0 : Nat} {bf : ab_B} : decode (ab_code (zx σ n0 bf).1 8008) 40 = .ok (.aload_n 0, 1) := zd zm_8008 (by decide +kernel)
theorem d_8008_41 {σ : Nat → Nat} {n0 : Nat} {bf : ab_B} : decode (ab_code (zx σ n0 bf).1 8008) 41 = .ok (.iconst 0, 1) := zd zm_8008 (by decide +kernel)
theorem d_8008_42 {σ : Nat → Nat} {n0 : Nat} {bf : ab_B} : decode (ab_code (zx σ n0 bf).1 8008) 42 = .ok (.putfield 596, 3) := zd zm_8008 (by decide +kernel)
theorem d_8008_45 {σ : Nat → Nat} {n0 : Nat} {bf : ab_B} : decode (ab_code (zx σ n0 bf).1 8008) 45 = .ok (.aload_n 0, 1) := zd zm_8008 (by decide +kernel)
theorem d_8008_46 {σ : Nat → Nat} {n0 : Nat} {bf : ab_B} : decode (ab_code (zx σ n0 bf).1 8008) 46 = .ok (.iconst 0, 1) := zd zm_8008 (by decide +kernel)
theorem d_8008_47 {σ : Nat → Nat} {n0 : Nat} {bf : ab_B} : decode (ab_code (zx σ n0 bf).1 8008) 47 = .ok (.putfield 510, 3) := zd zm_8008 (by decide +kernel)
theorem d_8008_50 {σ : Nat → Nat} {n0 : Nat} {bf : ab_B} : decode (ab_code (zx σ n0 bf).1 8008) 50 = .ok (.aload_n 0, 1) := zd zm_8008 (by decide +kernel)
theorem d_8008_51 {σ : Nat → Nat} {n0 : Nat} {bf : ab_B} : decode (ab_code (zx σ n0 bf).1 8008) 51 = .ok (.iconst 1, 1) := zd zm_8008 (by decide +kernel)
theorem d_8008_52 {σ : Nat → Nat} {n0 : Nat} {bf : ab_B} : decode (ab_code (zx σ n0 bf).1 8008) 52 = .ok (.iconst 0, 1) := zd zm_8008 (by decide +kernel)
theorem d_8008_53 {σ : Nat → Nat} {n0 : Nat} {bf : ab_B} : decode (ab_code (zx σ n0 bf).1 8008) 53 = .ok (.iconst 1, 1) := zd zm_8008 (by decide +kernel)
theorem d_8008_54 {σ : Nat → Nat} {n0 : Nat} {bf : ab_B} : decode (ab_code (zx σ n0 bf).1 8008) 54 = .ok (.invokevirtual 599, 3) := zd zm_8008 (by decide +kernel)
theorem d_8008_57 {σ : Nat → Nat} {n0 : Nat} {bf : ab_B} : decode (ab_code (zx σ n0 bf).1 8008) 57 = .ok (.istore_n 1, 1) := zd zm_8008 (by decide +kernel)
theorem d_8008_58 {σ : Nat → Nat} {n0 : Nat} {bf : ab_B} : decode (ab_code (zx σ n0 bf).1 8008) 58 = .ok (.aload_n 0, 1) := zd zm_8008 (by decide +kernel)
theorem d_8008_59 {σ : Nat → Nat} {n0 : Nat} {bf : ab_B} : decode (ab_code (zx σ n0 bf).1 8008) 59 = .ok (.iconst 2, 1) := zd zm_8008 (by decide +kernel)
theorem d_8008_60 {σ : Nat → Nat} {n0 : Nat} {bf : ab_B} : decode (ab_code (zx σ n0 bf).1 8008) 60 = .ok (.iconst 0, 1) := zd zm_8008 (by decide +kernel)
theorem d_8008_61 {σ : Nat → Nat} {n0 : Nat} {bf : ab_B} : decode (ab_code (zx σ n0 bf).1 8008) 61 = .ok (.iconst 1, 1) := zd zm_8008 (by decide +kernel)
theorem d_8008_62 {σ : Nat → Nat} {n0 : Nat} {bf : ab_B} : decode (ab_code (zx σ n0 bf).1 8008) 62 = .ok (.invokevirtual 599, 3) := zd zm_8008 (by decide +kernel)
theorem d_8008_65 {σ : Nat → Nat} {n0 : Nat} {bf : ab_B} : decode (ab_code (zx σ n0 bf).1 8008) 65 = .ok (.istore_n 1, 1) := zd zm_8008 (by decide +kernel)
theorem d_8008_66 {σ : Nat → Nat} {n0 : Nat} {bf : ab_B} : decode (ab_code (zx σ n0 bf).1 8008) 66 = .ok (.aload_n 0, 1) := zd zm_8008 (by decide +kernel)
theorem d_8008_67 {σ : Nat → Nat} {n0 : Nat} {bf : ab_B} : decode (ab_code (zx σ n0 bf).1 8008) 67 = .ok (.iconst 3, 1) := zd zm_8008 (by decide +kernel)
theorem d_8008_68 {σ : Nat → Nat} {n0 : Nat} {bf : ab_B} : decode (ab_code (zx σ n0 bf).1 8008) 68 = .ok (.iconst 0, 1) := zd zm_8008 (by decide +kernel)
theorem d_8008_69 {σ : Nat → Nat} {n0 : Nat} {bf : ab_B} : decode (ab_code (zx σ n0 bf).1 8008) 69 = .ok (.iconst 1, 1) := zd zm_8008 (by decide +kernel)
theorem d_8008_70 {σ : Nat → Nat} {n0 : Nat} {bf : ab_B} : decode (ab_code (zx σ n0 bf).1 8008) 70 = .ok (.invokevirtual 599, 3) := zd zm_8008 (by decide +kernel)
theorem d_8008_73 {σ : Nat → Nat} {n0 : Nat} {bf : ab_B} : decode (ab_code (zx σ n0 bf).1 8008) 73 = .ok (.istore_n 1, 1) := zd zm_8008 (by decide +kernel)
theorem d_8008_74 {σ : Nat → Nat} {n0 : Nat} {bf : ab_B} : decode (ab_code (zx σ n0 bf).1 8008) 74 = .ok (.aload_n 0, 1) := zd zm_8008 (by decide +kernel)
theorem d_8008_75 {σ : Nat → Nat} {n0 : Nat} {bf : ab_B} : decode (ab_code (zx σ n0 bf).1 8008) 75 = .ok (.bipush 12, 2) := zd zm_8008 (by decide +kernel)
theorem d_8008_77 {σ : Nat → Nat} {n0 : Nat} {bf : ab_B} : decode (ab_code (zx σ n0 bf).1 8008) 77 = .ok (.iconst 0, 1) := zd zm_8008 (by decide +kernel)
theorem d_8008_78 {σ : Nat → Nat} {n0 : Nat} {bf : ab_B} : decode (ab_code (zx σ n0 bf).1 8008) 78 = .ok (.iconst 1, 1) := zd zm_8008 (by decide +kernel)
theorem d_8008_79 {σ : Nat → Nat} {n0 : Nat} {bf : ab_B} : decode (ab_code (zx σ n0 bf).1 8008) 79 = .ok (.invokevirtual 599, 3) := zd zm_8008 (by decide +kernel)
theorem d_8008_82 {σ : Nat → Nat} {n0 : Nat} {bf : ab_B} : decode (ab_code (zx σ n0 bf).1 8008) 82 = .ok (.istore_n 1, 1) := zd zm_8008 (by decide +kernel)
theorem d_8008_83 {σ : Nat → Nat} {n0 : Nat} {bf : ab_B} : decode (ab_code (zx σ n0 bf).1 8008) 83 = .ok (.aload_n 0, 1) := zd zm_8008 (by decide +kernel)
theorem d_8008_84 {σ : Nat → Nat} {n0 : Nat} {bf : ab_B} : decode (ab_code (zx σ n0 bf).1 8008) 84 = .ok (.bipush 13, 2) := zd zm_8008 (by decide +kernel)
theorem d_8008_86 {σ : Nat → Nat} {n0 : Nat} {bf : ab_B} : decode (ab_code (zx σ n0 bf).1 8008) 86 = .ok (.iconst 0, 1) := zd zm_8008 (by decide +kernel)
theorem d_8008_87 {σ : Nat → Nat} {n0 : Nat} {bf : ab_B} : decode (ab_code (zx σ n0 bf).1 8008) 87 = .ok (.iconst 1, 1) := zd zm_8008 (by decide +kernel)
theorem d_8008_88 {σ : Nat → Nat} {n0 : Nat} {bf : ab_B} : decode (ab_code (zx σ n0 bf).1 8008) 88 = .ok (.invokevirtual 599, 3) := zd zm_8008 (by decide +kernel)
theorem d_8008_91 {σ : Nat → Nat} {n0 : Nat} {bf : ab_B} : decode (ab_code (zx σ n0 bf).1 8008) 91 = .ok (.istore_n 1, 1) := zd zm_8008 (by decide +kernel)
theorem d_8008_92 {σ : Nat → Nat} {n0 : Nat} {bf : ab_B} : decode (ab_code (zx σ n0 bf).1 8008) 92 = .ok (.aload_n 0, 1) := zd zm_8008 (by decide +kernel)
theorem d_8008_93 {σ : Nat → Nat} {n0 : Nat} {bf : ab_B} : decode (ab_code (zx σ n0 bf).1 8008) 93 = .ok (.bipush 14, 2) := zd zm_8008 (by decide +kernel)
theorem d_8008_95 {σ : Nat → Nat} {n0 : Nat} {bf : ab_B} : decode (ab_code (zx σ n0 bf).1 8008) 95 = .ok (.iconst 0, 1) := zd zm_8008 (by decide +kernel)
theorem d_8008_96 {σ : Nat → Nat} {n0 : Nat} {bf : ab_B} : decode (ab_code (zx σ n0 bf).1 8008) 96 = .ok (.iconst 1, 1) := zd zm_8008 (by decide +kernel)
theorem d_8008_97 {σ : Nat → Nat} {n0 : Nat} {bf : ab_B} : decode (ab_code (zx σ n0 bf).1 8008) 97 = .ok (.invokevirtual 599, 3) := zd zm_8008 (by decide +kernel)
theorem d_8008_100 {σ : Nat → Nat} {n0 : Nat} {bf : ab_B} : decode (ab_code (zx σ n0 bf).1 8008) 100 = .ok (.istore_n 1, 1) := zd zm_8008 (by decide +kernel)
theorem d_8008_101 {σ : Nat → Nat} {n0 : Nat} {bf : ab_B} : decode (ab_code (zx σ n0 bf).1 8008) 101 = .ok (.aload_n 0, 1) := zd zm_8008 (by decide +kernel)
theorem d_8008_102 {σ : Nat → Nat} {n0 : Nat} {bf : ab_B} : decode (ab_code (zx σ n0 bf).1 8008) 102 = .ok (.iconst 0, 1) := zd zm_8008 (by decide +kernel)
theorem d_8008_103 {σ : Nat → Nat} {n0 : Nat} {bf : ab_B} : decode (ab_code (zx σ n0 bf).1 8008) 103 = .ok (.putfield 550, 3) := zd zm_8008 (by decide +kernel)
theorem d_8008_106 {σ : Nat → Nat} {n0 : Nat} {bf : ab_B} : decode (ab_code (zx σ n0 bf).1 8008) 106 = .ok (.aload_n 0, 1) := zd zm_8008 (by decide +kernel)
theorem d_8008_107 {σ : Nat → Nat} {n0 : Nat} {bf : ab_B} : decode (ab_code (zx σ n0 bf).1 8008) 107 = .ok (.iconst 0, 1) := zd zm_8008 (by decide +kernel)
theorem d_8008_108 {σ : Nat → Nat} {n0 : Nat} {bf : ab_B} : decode (ab_code (zx σ n0 bf).1 8008) 108 = .ok (.putfield 547, 3) := zd zm_8008 (by decide +kernel)
theorem d_8008_111 {σ : Nat → Nat} {n0 : Nat} {bf : ab_B} : decode (ab_code (zx σ n0 bf).1 8008) 111 = .ok (.aload_n 0, 1) := zd zm_8008 (by decide +kernel)
theorem d_8008_112 {σ : Nat → Nat} {n0 : Nat} {bf : ab_B} : decode (ab_code (zx σ n0 bf).1 8008) 112 = .ok (.iconst 0, 1) := zd zm_8008 (by decide +kernel)
theorem d_8008_113 {σ : Nat → Nat} {n0 : Nat} {bf : ab_B} : decode (ab_code (zx σ n0 bf).1 8008) 113 = .ok (.putfield 553, 3) := zd zm_8008 (by decide +kernel)
theorem d_8008_116 {σ : Nat → Nat} {n0 : Nat} {bf : ab_B} : decode (ab_code (zx σ n0 bf).1 8008) 116 = .ok (.aload_n 0, 1) := zd zm_8008 (by decide +kernel)
theorem d_8008_117 {σ : Nat → Nat} {n0 : Nat} {bf : ab_B} : decode (ab_code (zx σ n0 bf).1 8008) 117 = .ok (.invokevirtual 603, 3) := zd zm_8008 (by decide +kernel)
theorem d_8008_120 {σ : Nat → Nat} {n0 : Nat} {bf : ab_B} : decode (ab_code (zx σ n0 bf).1 8008) 120 = .ok (.iconst 1, 1) := zd zm_8008 (by decide +kernel)
theorem d_8008_121 {σ : Nat → Nat} {n0 : Nat} {bf : ab_B} : decode (ab_code (zx σ n0 bf).1 8008) 121 = .ok (.istore_n 2, 1) := zd zm_8008 (by decide +kernel)
theorem d_8008_122 {σ : Nat → Nat} {n0 : Nat} {bf : ab_B} : decode (ab_code (zx σ n0 bf).1 8008) 122 = .ok (.iload_n 2, 1) := zd zm_8008 (by decide +kernel)
theorem d_8008_123 {σ : Nat → Nat} {n0 : Nat} {bf : ab_B} : decode (ab_code (zx σ n0 bf).1 8008) 123 = .ok (.bipush 24, 2) := zd zm_8008 (by decide +kernel)
theorem d_8008_125 {σ : Nat → Nat} {n0 : Nat} {bf : ab_B} : decode (ab_code (zx σ n0 bf).1 8008) 125 = .ok (.if_icmp .gt 93, 3) := zd zm_8008 (by decide +kernel)
theorem d_8008_128 {σ : Nat → Nat} {n0 : Nat} {bf : ab_B} : decode (ab_code (zx σ n0 bf).1 8008) 128 = .ok (.bipush 36, 2) := zd zm_8008 (by decide +kernel)
theorem d_8008_130 {σ : Nat → Nat} {n0 : Nat} {bf : ab_B} : decode (ab_code (zx σ n0 bf).1 8008) 130 = .ok (.iload_n 2, 1) := zd zm_8008 (by decide +kernel)
theorem d_8008_131 {σ : Nat → Nat} {n0 : Nat} {bf : ab_B} : decode (ab_code (zx σ n0 bf).1 8008) 131 = .ok (.iadd, 1) := zd zm_8008 (by decide +kernel)
theorem d_8008_132 {σ : Nat → Nat} {n0 : Nat} {bf : ab_B} : decode (ab_code (zx σ n0 bf).1 8008) 132 = .ok (.istore_n 3, 1) := zd zm_8008 (by decide +kernel)
theorem d_8008_133 {σ : Nat → Nat} {n0 : Nat} {bf : ab_B} : decode (ab_code (zx σ n0 bf).1 8008) 133 = .ok (.iload_n 2, 1) := zd zm_8008 (by decide +kernel)
theorem d_8008_134 {σ : Nat → Nat} {n0 : Nat} {bf : ab_B} : decode (ab_code (zx σ n0 bf).1 8008) 134 = .ok (.iconst 3, 1) := zd zm_8008 (by decide +kernel)
theorem d_8008_135 {σ : Nat → Nat} {n0 : Nat} {bf : ab_B} : decode (ab_code (zx σ n0 bf).1 8008) 135 = .ok (.if_icmp .gt 16, 3) := zd zm_8008 (by decide +kernel)
theorem d_8008_138 {σ : Nat → Nat} {n0 : Nat} {bf : ab_B} : decode (ab_code (zx σ n0 bf).1 8008) 138 = .ok (.aload_n 0, 1) := zd zm_8008 (by decide +kernel)
theorem d_8008_139 {σ : Nat → Nat} {n0 : Nat} {bf : ab_B} : decode (ab_code (zx σ n0 bf).1 8008) 139 = .ok (.iload_n 3, 1) := zd zm_8008 (by decide +kernel)
theorem d_8008_140 {σ : Nat → Nat} {n0 : Nat} {bf : ab_B} : decode (ab_code (zx σ n0 bf).1 8008) 140 = .ok (.iconst 2, 1) := zd zm_8008 (by decide +kernel)
theorem d_8008_141 {σ : Nat → Nat} {n0 : Nat} {bf : ab_B} : decode (ab_code (zx σ n0 bf).1 8008) 141 = .ok (.iload_n 2, 1) := zd zm_8008 (by decide +kernel)
theorem d_8008_142 {σ : Nat → Nat} {n0 : Nat} {bf : ab_B} : decode (ab_code (zx σ n0 bf).1 8008) 142 = .ok (.iconst 0, 1) := zd zm_8008 (by decide +kernel)
theorem d_8008_143 {σ : Nat → Nat} {n0 : Nat} {bf : ab_B} : decode (ab_code (zx σ n0 bf).1 8008) 143 = .ok (.iconst 0, 1) := zd zm_8008 (by decide +kernel)
theorem d_8008_144 {σ : Nat → Nat} {n0 : Nat} {bf : ab_B} : decode (ab_code (zx σ n0 bf).1 8008) 144 = .ok (.invokevirtual 606, 3) := zd zm_8008 (by decide +kernel)
theorem d_8008_147 {σ : Nat → Nat} {n0 : Nat} {bf : ab_B} : decode (ab_code (zx σ n0 bf).1 8008) 147 = .ok (.istore_n 1, 1) := zd zm_8008 (by decide +kernel)
theorem d_8008_148 {σ : Nat → Nat} {n0 : Nat} {bf : ab_B} : decode (ab_code (zx σ n0 bf).1 8008) 148 = .ok (.goto 64, 3) := zd zm_8008 (by decide +kernel)
theorem d_8008_151 {σ : Nat → Nat} {n0 : Nat} {bf : ab_B} : decode (ab_code (zx σ n0 bf).1 8008) 151 = .ok (.iload_n 2, 1) := zd zm_8008 (by decide +kernel)
theorem d_8008_152 {σ : Nat → Nat} {n0 : Nat} {bf : ab_B} : decode (ab_code (zx σ n0 bf).1 8008) 152 = .ok (.bipush 6, 2) := zd zm_8008 (by decide +kernel)
theorem d_8008_154 {σ : Nat → Nat} {n0 : Nat} {bf : ab_B} : decode (ab_code (zx σ n0 bf).1 8008) 154 = .ok (.if_icmp .gt 47, 3) := zd zm_8008 (by decide +kernel)
theorem d_8008_157 {σ : Nat → Nat} {n0 : Nat} {bf : ab_B} : decode (ab_code (zx σ n0 bf).1 8008) 157 = .ok (.aload_n 0, 1) := zd zm_8008 (by decide +kernel)
theorem d_8008_158 {σ : Nat → Nat} {n0 : Nat} {bf : ab_B} : decode (ab_code (zx σ n0 bf).1 8008) 158 = .ok (.iload_n 3, 1) := zd zm_8008 (by decide +kernel)
theorem d_8008_159 {σ : Nat → Nat} {n0 : Nat} {bf : ab_B} : decode (ab_code (zx σ n0 bf).1 8008) 159 = .ok (.iconst 1, 1) := zd zm_8008 (by decide +kernel)
theorem d_8008_160 {σ : Nat → Nat} {n0 : Nat} {bf : ab_B} : decode (ab_code (zx σ n0 bf).1 8008) 160 = .ok (.iload_n 2, 1) := zd zm_8008 (by decide +kernel)
theorem d_8008_161 {σ : Nat → Nat} {n0 : Nat} {bf : ab_B} : decode (ab_code (zx σ n0 bf).1 8008) 161 = .ok (.bipush 6, 2) := zd zm_8008 (by decide +kernel)
theorem d_8008_163 {σ : Nat → Nat} {n0 : Nat} {bf : ab_B} : decode (ab_code (zx σ n0 bf).1 8008) 163 = .ok (.if_icmp .ne 7, 3) := zd zm_8008 (by decide +kernel)
theorem d_8008_166 {σ : Nat → Nat} {n0 : Nat} {bf : ab_B} : decode (ab_code (zx σ n0 bf).1 8008) 166 = .ok (.iconst 1, 1) := zd zm_8008 (by decide +kernel)
theorem d_8008_167 {σ : Nat → Nat} {n0 : Nat} {bf : ab_B} : decode (ab_code (zx σ n0 bf).1 8008) 167 = .ok (.goto 4, 3) := zd zm_8008 (by decide +kernel)
theorem d_8008_170 {σ : Nat → Nat} {n0 : Nat} {bf : ab_B} : decode (ab_code (zx σ n0 bf).1 8008) 170 = .ok (.iconst 2, 1) := zd zm_8008 (by decide +kernel)
theorem d_8008_171 {σ : Nat → Nat} {n0 : Nat} {bf : ab_B} : decode (ab_code (zx σ n0 bf).1 8008) 171 = .ok (.iload_n 2, 1) := zd zm_8008 (by decide +kernel)
theorem d_8008_172 {σ : Nat → Nat} {n0 : Nat} {bf : ab_B} : decode (ab_code (zx σ n0 bf).1 8008) 172 = .ok (.bipush 6, 2) := zd zm_8008 (by decide +kernel)
theorem d_8008_174 {σ : Nat → Nat} {n0 : Nat} {bf : ab_B} : decode (ab_code (zx σ n0 bf).1 8008) 174 = .ok (.if_icmp .ne 9, 3) := zd zm_8008 (by decide +kernel)
theorem d_8008_177 {σ : Nat → Nat} {n0 : Nat} {bf : ab_B} : decode (ab_code (zx σ n0 bf).1 8008) 177 = .ok (.ldc_w 577, 3) := zd zm_8008 (by decide +kernel)
theorem d_8008_180 {σ : Nat → Nat} {n0 : Nat} {bf : ab_B} : decode (ab_code (zx σ n0 bf).1 8008) 180 = .ok (.goto 13, 3) := zd zm_8008 (by decide +kernel)
theorem d_8008_183 {σ : Nat → Nat} {n0 : Nat} {bf : ab_B} : decode (ab_code (zx σ n0 bf).1 8008) 183 = .ok (.iload_n 2, 1) := zd zm_8008 (by decide +kernel)
theorem d_8008_184 {σ : Nat → Nat} {n0 : Nat} {bf : ab_B} : decode (ab_code (zx σ n0 bf).1 8008) 184 = .ok (.iconst 4, 1) := zd zm_8008 (by decide +kernel)
theorem d_8008_185 {σ : Nat → Nat} {n0 : Nat} {bf : ab_B} : decode (ab_code (zx σ n0 bf).1 8008) 185 = .ok (.if_icmp .ne 7, 3) := zd zm_8008 (by decide +kernel)
theorem d_8008_188 {σ : Nat → Nat} {n0 : Nat} {bf : ab_B} : decode (ab_code (zx σ n0 bf).1 8008) 188 = .ok (.iconst 1, 1) := zd zm_8008 (by decide +kernel)
theorem d_8008_189 {σ : Nat → Nat} {n0 : Nat} {bf : ab_B} : decode (ab_code (zx σ n0 bf).1 8008) 189 = .ok (.goto 4, 3) := zd zm_8008 (by decide +kernel)
theorem d_8008_192 {σ : Nat → Nat} {n0 : Nat} {bf : ab_B} : decode (ab_code (zx σ n0 bf).1 8008) 192 = .ok (.iconst 0, 1) := zd zm_8008 (by decide +kernel)
theorem d_8008_193 {σ : Nat → Nat} {n0 : Nat} {bf : ab_B} : decode (ab_code (zx σ n0 bf).1 8008) 193 = .ok (.iconst 0, 1) := zd zm_8008 (by decide +kernel)
theorem d_8008_194 {σ : Nat → Nat} {n0 : Nat} {bf : ab_B} : decode (ab_code (zx σ n0 bf).1 8008) 194 = .ok (.invokevirtual 606, 3) := zd zm_8008 (by decide +kernel)
theorem d_8008_197 {σ : Nat → Nat} {n0 : Nat} {bf : ab_B} : decode (ab_code (zx σ n0 bf).1 8008) 197 = .ok (.istore_n 1, 1) := zd zm_8008 (by decide +kernel)
theorem d_8008_198 {σ : Nat → Nat} {n0 : Nat} {bf : ab_B} : decode (ab_code (zx σ n0 bf).1 8008) 198 = .ok (.goto 14, 3) := zd zm_8008 (by decide +kernel)
theorem d_8008_201 {σ : Nat → Nat} {n0 : Nat} {bf : ab_B} : decode (ab_code (zx σ n0 bf).1 8008) 201 = .ok (.aload_n 0, 1) := zd zm_8008 (by decide +kernel)
theorem d_8008_202 {σ : Nat → Nat} {n0 : Nat} {bf : ab_B} : decode (ab_code (zx σ n0 bf).1 8008) 202 = .ok (.iload_n 3, 1) := zd zm_8008 (by decide +kernel)
theorem d_8008_203 {σ : Nat → Nat} {n0 : Nat} {bf : ab_B} : decode (ab_code (zx σ n0 bf).1 8008) 203 = .ok (.bipush 6, 2) := zd zm_8008 (by decide +kernel)
theorem d_8008_205 {σ : Nat → Nat} {n0 : Nat} {bf : ab_B} : decode (ab_code (zx σ n0 bf).1 8008) 205 = .ok (.iconst 0, 1) := zd zm_8008 (by decide +kernel)
theorem d_8008_206 {σ : Nat → Nat} {n0 : Nat} {bf : ab_B} : decode (ab_code (zx σ n0 bf).1 8008) 206 = .ok (.iload_n 2, 1) := zd zm_8008 (by decide +kernel)
theorem d_8008_207 {σ : Nat → Nat} {n0 : Nat} {bf : ab_B} : decode (ab_code (zx σ n0 bf).1 8008) 207 = .ok (.iconst 0, 1) := zd zm_8008 (by decide +kernel)
theorem d_8008_208 {σ : Nat → Nat} {n0 : Nat} {bf : ab_B} : decode (ab_code (zx σ n0 bf).1 8008) 208 = .ok (.invokevirtual 606, 3) := zd zm_8008 (by decide +kernel)
theorem d_8008_211 {σ : Nat → Nat} {n0 : Nat} {bf : ab_B} : decode (ab_code (zx σ n0 bf).1 8008) 211 = .ok (.istore_n 1, 1) := zd zm_8008 (by decide +kernel)
theorem d_8008_212 {σ : Nat → Nat} {n0 : Nat} {bf : ab_B} : decode (ab_code (zx σ n0 bf).1 8008) 212 = .ok (.iinc 2 1, 3) := zd zm_8008 (by decide +kernel)
theorem d_8008_215 {σ : Nat → Nat} {n0 : Nat} {bf : ab_B} : decode (ab_code (zx σ n0 bf).1 8008) 215 = .ok (.goto (-93), 3) := zd zm_8008 (by decide +kernel)
theorem d_8008_218 {σ : Nat → Nat} {n0 : Nat} {bf : ab_B} : decode (ab_code (zx σ n0 bf).1 8008) 218 = .ok (.return_, 1) := zd zm_8008 (by decide +kernel)
def w_X9_beginTypes_111 (X : zs_X) (d : Nat) (p0 : Nat) (S : zs_T) (Q : zs_Q) : Prop :=
  (zs_K S p0 = some (.inl 8) ∧ ab_n0 X.1 ≤ p0 ∧ ∀ S3, S3 = zs_sI S 8035 p0 (0 : Int32) → zs_C X d 8010 [.ref p0] S3 (zs_kV (fun S6 => (zs_U X d 8008 122 [(0, .ref p0), (2, .int (1 : Int32))] [] S6 Q)) Q))
theorem u_X9_beginTypes_111 {σ : Nat → Nat} {n0 : Nat} {bf : ab_B} {d : Nat} {p0 : Nat} {S : zs_T} {Q : zs_Q} (hB : zt_B bf) (h : w_X9_beginTypes_111 (zx σ n0 bf) d p0 S Q) : zs_U (zx σ n0 bf) d 8008 111 [(0, .ref p0)] [] S Q := by
  unfold w_X9_beginTypes_111 at h
  refine zu_aload_n d_8008_111 rfl (zs_ra _) ?_
  refine zu_iconst d_8008_112 zi_0 ?_
  obtain ⟨k1, h⟩ := h
  obtain ⟨k2, h⟩ := h
  refine zp_8_553 (v := (0 : Int32)) rfl d_8008_113 k1 k2 ?_
  generalize e4 : zs_sI S 8035 p0 (0 : Int32) = S3
  have h := h S3 e4.symm
  have K5 : ∀ b, zs_K S3 b = zs_K S b := zs_Kt e4 (zs_KsI _ _ _ _) (fun _ => rfl)
  refine zu_aload_n d_8008_116 rfl (zs_ra _) ?_
  refine zc_8_603  hB rfl ((K5 _).trans k1) d_8008_117 (Nat.le_of_ble_eq_true rfl) h (fun S6 h => ?_)
  refine zu_iconst d_8008_120 zi_1 ?_
  refine zu_istore_n d_8008_121 (zs_lt zq_8008 rfl) ?_
  exact h.weak ⟨rfl, rfl, trivial⟩
def w_X9_beginTypes_83 (X : zs_X) (d : Nat) (p0 : Nat) (S : zs_T) (Q : zs_Q) : Prop :=
  (zs_K S p0 = some (.inl 8) ∧ zs_C X d 8009 [.ref p0, .int (13 : Int32), .int (0 : Int32), .int (1 : Int32)] S (zs_kI (fun v3 S2 => (zs_K S2 p0 = some (.inl 8) ∧ zs_C X d 8009 [.ref p0, .int (14 : Int32), .int (0 : Int32), .int (1 : Int32)] S2 (zs_kI (fun v6 S5 => (zs_K S5 p0 = some (.inl 8) ∧ ab_n0 X.1 ≤ p0 ∧ ∀ S9, S9 = zs_sI S5 8031 p0 (0 : Int32) → ∀ S12, S12 = zs_sI S9 8034 p0 (0 : Int32) → w_X9_beginTypes_111 X d p0 S12 Q)) Q))) Q))
theorem u_X9_beginTypes_83 {σ : Nat → Nat} {n0 : Nat} {bf : ab_B} {d : Nat} {p0 : Nat} {S : zs_T} {Q : zs_Q} (hB : zt_B bf) (h : w_X9_beginTypes_83 (zx σ n0 bf) d p0 S Q) : zs_U (zx σ n0 bf) d 8008 83 [(0, .ref p0)] [] S Q := by
  unfold w_X9_beginTypes_83 at h
  refine zu_aload_n d_8008_83 rfl (zs_ra _) ?_
  refine zu_bipush d_8008_84 zj_13 ?_
  refine zu_iconst d_8008_86 zi_0 ?_
  refine zu_iconst d_8008_87 zi_1 ?_
  obtain ⟨k1, h⟩ := h
  refine zc_8_599 (x0 := (13 : Int32)) (x1 := (0 : Int32)) (x2 := (1 : Int32)) hB rfl k1 d_8008_88 (Nat.le_of_ble_eq_true rfl) h (fun v3 S2 h => ?_)
  refine zu_istore_n d_8008_91 (zs_lt zq_8008 rfl) ?_
  refine zu_aload_n d_8008_92 rfl (zs_ra _) ?_
  refine zu_bipush d_8008_93 zj_14 ?_
  refine zu_iconst d_8008_95 zi_0 ?_
  refine zu_iconst d_8008_96 zi_1 ?_
  obtain ⟨k4, h⟩ := h
  refine zc_8_599 (x0 := (14 : Int32)) (x1 := (0 : Int32)) (x2 := (1 : Int32)) hB rfl k4 d_8008_97 (Nat.le_of_ble_eq_true rfl) h (fun v6 S5 h => ?_)
  refine zu_istore_n d_8008_100 (zs_lt zq_8008 rfl) ?_
  refine zu_aload_n d_8008_101 rfl (zs_ra _) ?_
  refine zu_iconst d_8008_102 zi_0 ?_
  obtain ⟨k7, h⟩ := h
  obtain ⟨k8, h⟩ := h
  refine zp_8_550 (v := (0 : Int32)) rfl d_8008_103 k7 k8 ?_
  generalize e10 : zs_sI S5 8031 p0 (0 : Int32) = S9
  have h := h S9 e10.symm
  have K11 : ∀ b, zs_K S9 b = zs_K S5 b := zs_Kt e10 (zs_KsI _ _ _ _) (fun _ => rfl)
  refine zu_aload_n d_8008_106 rfl (zs_ra _) ?_
  refine zu_iconst d_8008_107 zi_0 ?_
  refine zp_8_547 (v := (0 : Int32)) rfl d_8008_108 ((K11 _).trans k7) k8 ?_
  generalize e13 : zs_sI S9 8034 p0 (0 : Int32) = S12
  have h := h S12 e13.symm
  have K14 : ∀ b, zs_K S12 b = zs_K S5 b := zs_Kt e13 (zs_KsI _ _ _ _) K11
  exact (u_X9_beginTypes_111 hB h).weak ⟨rfl, trivial⟩
def w_X9_beginTypes_58 (X : zs_X) (d : Nat) (p0 : Nat) (S : zs_T) (Q : zs_Q) : Prop :=
  (zs_K S p0 = some (.inl 8) ∧ zs_C X d 8009 [.ref p0, .int (2 : Int32), .int (0 : Int32), .int (1 : Int32)] S (zs_kI (fun v3 S2 => (zs_K S2 p0 = some (.inl 8) ∧ zs_C X d 8009 [.ref p0, .int (3 : Int32), .int (0 : Int32), .int (1 : Int32)] S2 (zs_kI (fun v6 S5 => (zs_K S5 p0 = some (.inl 8) ∧ zs_C X d 8009 [.ref p0, .int (12 : Int32), .int (0 : Int32), .int (1 : Int32)] S5 (zs_kI (fun v9 S8 => (w_X9_beginTypes_83 X d p0 S8 Q)) Q))) Q))) Q))
theorem u_X9_beginTypes_58 {σ : Nat → Nat} {n0 : Nat} {bf : ab_B} {d : Nat} {p0 : Nat} {S : zs_T} {Q : zs_Q} (hB : zt_B bf) (h : w_X9_beginTypes_58 (zx σ n0 bf) d p0 S Q) : zs_U (zx σ n0 bf) d 8008 58 [(0, .ref p0)] [] S Q := by
  unfold w_X9_beginTypes_58 at h
  refine zu_aload_n d_8008_58 rfl (zs_ra _) ?_
  refine zu_iconst d_8008_59 zi_2 ?_
  refine zu_iconst d_8008_60 zi_0 ?_
  refine zu_iconst d_8008_61 zi_1 ?_
  obtain ⟨k1, h⟩ := h
  refine zc_8_599 (x0 := (2 : Int32)) (x1 := (0 : Int32)) (x2 := (1 : Int32)) hB rfl k1 d_8008_62 (Nat.le_of_ble_eq_true rfl) h (fun v3 S2 h => ?_)
  refine zu_istore_n d_8008_65 (zs_lt zq_8008 rfl) ?_
  refine zu_aload_n d_8008_66 rfl (zs_ra _) ?_
  refine zu_iconst d_8008_67 zi_3 ?_
  refine zu_iconst d_8008_68 zi_0 ?_
  refine zu_iconst d_8008_69 zi_1 ?_
  obtain ⟨k4, h⟩ := h
  refine zc_8_599 (x0 := (3 : Int32)) (x1 := (0 : Int32)) (x2 := (1 : Int32)) hB rfl k4 d_8008_70 (Nat.le_of_ble_eq_true rfl) h (fun v6 S5 h => ?_)
  refine zu_istore_n d_8008_73 (zs_lt zq_8008 rfl) ?_
  refine zu_aload_n d_8008_74 rfl (zs_ra _) ?_
  refine zu_bipush d_8008_75 zj_12 ?_
  refine zu_iconst d_8008_77 zi_0 ?_
  refine zu_iconst d_8008_78 zi_1 ?_
  obtain ⟨k7, h⟩ := h
  refine zc_8_599 (x0 := (12 : Int32)) (x1 := (0 : Int32)) (x2 := (1 : Int32)) hB rfl k7 d_8008_79 (Nat.le_of_ble_eq_true rfl) h (fun v9 S8 h => ?_)
  refine zu_istore_n d_8008_82 (zs_lt zq_8008 rfl) ?_
  exact (u_X9_beginTypes_83 hB h).weak ⟨rfl, trivial⟩
def w_X9_beginTypes_30 (X : zs_X) (d : Nat) (p0 : Nat) (S : zs_T) (Q : zs_Q) : Prop :=
  (zs_K S p0 = some (.inl 8) ∧ ab_n0 X.1 ≤ p0 ∧ ∀ S3, S3 = zs_sI S 8077 p0 (0 : Int32) → ∀ S6, S6 = zs_sI S3 8040 p0 (0 : Int32) → ∀ S9, S9 = zs_sI S6 8043 p0 (0 : Int32) → ∀ S12, S12 = zs_sI S9 8022 p0 (0 : Int32) → zs_C X d 8009 [.ref p0, .int (1 : Int32), .int (0 : Int32), .int (1 : Int32)] S12 (zs_kI (fun v16 S15 => (w_X9_beginTypes_58 X d p0 S15 Q)) Q))
theorem u_X9_beginTypes_30 {σ : Nat → Nat} {n0 : Nat} {bf : ab_B} {d : Nat} {p0 : Nat} {S : zs_T} {Q : zs_Q} (hB : zt_B bf) (h : w_X9_beginTypes_30 (zx σ n0 bf) d p0 S Q) : zs_U (zx σ n0 bf) d 8008 30 [(0, .ref p0)] [] S Q := by
  unfold w_X9_beginTypes_30 at h
  refine zu_aload_n d_8008_30 rfl (zs_ra _) ?_
  refine zu_iconst d_8008_31 zi_0 ?_
  obtain ⟨k1, h⟩ := h
  obtain ⟨k2, h⟩ := h
  refine zp_8_593 (v := (0 : Int32)) rfl d_8008_32 k1 k2 ?_
  generalize e4 : zs_sI S 8077 p0 (0 : Int32) = S3
  have h := h S3 e4.symm
  have K5 : ∀ b, zs_K S3 b = zs_K S b := zs_Kt e4 (zs_KsI _ _ _ _) (fun _ => rfl)
  refine zu_aload_n d_8008_35 rfl (zs_ra _) ?_
  refine zu_iconst d_8008_36 zi_0 ?_
  refine zp_8_556 (v := (0 : Int32)) rfl d_8008_37 ((K5 _).trans k1) k2 ?_
  generalize e7 : zs_sI S3 8040 p0 (0 : Int32) = S6
  have h := h S6 e7.symm
  have K8 : ∀ b, zs_K S6 b = zs_K S b := zs_Kt e7 (zs_KsI _ _ _ _) K5
  refine zu_aload_n d_8008_40 rfl (zs_ra _) ?_
  refine zu_iconst d_8008_41 zi_0 ?_
  refine zp_8_596 (v := (0 : Int32)) rfl d_8008_42 ((K8 _).trans k1) k2 ?_
  generalize e10 : zs_sI S6 8043 p0 (0 : Int32) = S9
  have h := h S9 e10.symm
  have K11 : ∀ b, zs_K S9 b = zs_K S b := zs_Kt e10 (zs_KsI _ _ _ _) K8
  refine zu_aload_n d_8008_45 rfl (zs_ra _) ?_
  refine zu_iconst d_8008_46 zi_0 ?_
  refine zp_8_510 (v := (0 : Int32)) rfl d_8008_47 ((K11 _).trans k1) k2 ?_
  generalize e13 : zs_sI S9 8022 p0 (0 : Int32) = S12
  have h := h S12 e13.symm
  have K14 : ∀ b, zs_K S12 b = zs_K S b := zs_Kt e13 (zs_KsI _ _ _ _) K11
  refine zu_aload_n d_8008_50 rfl (zs_ra _) ?_
  refine zu_iconst d_8008_51 zi_1 ?_
  refine zu_iconst d_8008_52 zi_0 ?_
  refine zu_iconst d_8008_53 zi_1 ?_
  refine zc_8_599 (x0 := (1 : Int32)) (x1 := (0 : Int32)) (x2 := (1 : Int32)) hB rfl ((K14 _).trans k1) d_8008_54 (Nat.le_of_ble_eq_true rfl) h (fun v16 S15 h => ?_)
  refine zu_istore_n d_8008_57 (zs_lt zq_8008 rfl) ?_
  exact (u_X9_beginTypes_58 hB h).weak ⟨rfl, trivial⟩
def w_X9_beginTypes_212 (X : zs_X) (d : Nat) (p0 : Nat) (p2 : Int32) (S : zs_T) (Q : zs_Q) : Prop :=
  (zs_U X d 8008 122 [(0, .ref p0), (2, .int (p2 + (1 : Int32)))] [] S Q)
theorem u_X9_beginTypes_212 {σ : Nat → Nat} {n0 : Nat} {bf : ab_B} {d : Nat} {p0 : Nat} {p2 : Int32} {S : zs_T} {Q : zs_Q} (hB : zt_B bf) (h : w_X9_beginTypes_212 (zx σ n0 bf) d p0 p2 S Q) : zs_U (zx σ n0 bf) d 8008 212 [(0, .ref p0), (2, .int p2)] [] S Q := by
  unfold w_X9_beginTypes_212 at h
  refine zu_iinc d_8008_212 rfl zi_1 (zs_lt zq_8008 rfl) ?_
  refine zu_goto (t := 122) d_8008_215 rfl ?_
  exact h.weak ⟨rfl, rfl, trivial⟩
def w_X9_beginTypes_193 (X : zs_X) (d : Nat) (p0 : Nat) (p2 : Int32) (q0 : Option Nat) (q1 : Int32) (q2 : Int32) (q3 : Int32) (q4 : Int32) (S : zs_T) (Q : zs_Q) : Prop :=
  (∃ b1, q0 = some b1 ∧ zs_K S b1 = some (.inl 8) ∧ zs_C X d 8011 [.ref b1, .int q1, .int q2, .int q3, .int q4, .int (0 : Int32)] S (zs_kI (fun v5 S4 => (w_X9_beginTypes_212 X d p0 p2 S4 Q)) Q))
theorem u_X9_beginTypes_193 {σ : Nat → Nat} {n0 : Nat} {bf : ab_B} {d : Nat} {p0 : Nat} {p2 : Int32} {q0 : Option Nat} {q1 : Int32} {q2 : Int32} {q3 : Int32} {q4 : Int32} {S : zs_T} {Q : zs_Q} (hB : zt_B bf) (h : w_X9_beginTypes_193 (zx σ n0 bf) d p0 p2 q0 q1 q2 q3 q4 S Q) : zs_U (zx σ n0 bf) d 8008 193 [(0, .ref p0), (2, .int p2)] [.int q4, .int q3, .int q2, .int q1, va_rf q0] S Q := by
  unfold w_X9_beginTypes_193 at h
  refine zu_iconst d_8008_193 zi_0 ?_
  obtain ⟨b1, e2, h⟩ := h
  refine zs_stk5 (zs_rfe e2) ?_
  obtain ⟨k3, h⟩ := h
  refine zc_8_606 (x0 := q1) (x1 := q2) (x2 := q3) (x3 := q4) (x4 := (0 : Int32)) hB rfl k3 d_8008_194 (Nat.le_of_ble_eq_true rfl) h (fun v5 S4 h => ?_)
  refine zu_istore_n d_8008_197 (zs_lt zq_8008 rfl) ?_
  refine zu_goto (t := 212) d_8008_198 rfl ?_
  exact (u_X9_beginTypes_212 hB h).weak ⟨rfl, rfl, trivial⟩
def w_X9_beginTypes_171 (X : zs_X) (d : Nat) (p0 : Nat) (p2 : Int32) (q0 : Option Nat) (q1 : Int32) (q2 : Int32) (q3 : Int32) (S : zs_T) (Q : zs_Q) : Prop :=
  (((¬ p2 = (6 : Int32) → (((¬ p2 = (4 : Int32) → (w_X9_beginTypes_193 X d p0 p2 q0 q1 q2 q3 (0 : Int32) S Q)) ∧ (¬ (¬ p2 = (4 : Int32)) → (w_X9_beginTypes_193 X d p0 p2 q0 q1 q2 q3 (1 : Int32) S Q))))) ∧ (¬ (¬ p2 = (6 : Int32)) → (w_X9_beginTypes_193 X d p0 p2 q0 q1 q2 q3 (2147483647 : Int32) S Q))))
theorem u_X9_beginTypes_171 {σ : Nat → Nat} {n0 : Nat} {bf : ab_B} {d : Nat} {p0 : Nat} {p2 : Int32} {q0 : Option Nat} {q1 : Int32} {q2 : Int32} {q3 : Int32} {S : zs_T} {Q : zs_Q} (hB : zt_B bf) (h : w_X9_beginTypes_171 (zx σ n0 bf) d p0 p2 q0 q1 q2 q3 S Q) : zs_U (zx σ n0 bf) d 8008 171 [(0, .ref p0), (2, .int p2)] [.int q3, .int q2, .int q1, va_rf q0] S Q := by
  unfold w_X9_beginTypes_171 at h
  refine zu_iload_n d_8008_171 rfl ?_
  refine zu_bipush d_8008_172 zj_6 ?_
  refine zu_cmpne (t := 183) d_8008_174 rfl (fun c1 => ?_) (fun c1 => ?_)
  · have h := h.1 c1
    refine zu_iload_n d_8008_183 rfl ?_
    refine zu_iconst d_8008_184 zi_4 ?_
    refine zu_cmpne (t := 192) d_8008_185 rfl (fun c2 => ?_) (fun c2 => ?_)
    · have h := h.1 c2
      refine zu_iconst d_8008_192 zi_0 ?_
      exact (u_X9_beginTypes_193 hB h).weak ⟨rfl, rfl, trivial⟩
    · have h := h.2 c2
      refine zu_iconst d_8008_188 zi_1 ?_
      refine zu_goto (t := 193) d_8008_189 rfl ?_
      exact (u_X9_beginTypes_193 hB h).weak ⟨rfl, rfl, trivial⟩
  · have h := h.2 c1
    refine zlw_8_577 rfl d_8008_177 ?_
    refine zu_goto (t := 193) d_8008_180 rfl ?_
    exact (u_X9_beginTypes_193 hB h).weak ⟨rfl, rfl, trivial⟩
def w_X9_beginTypes_148 (X : zs_X) (d : Nat) (p0 : Nat) (p2 : Int32) (S : zs_T) (Q : zs_Q) : Prop :=
  (w_X9_beginTypes_212 X d p0 p2 S Q)
theorem u_X9_beginTypes_148 {σ : Nat → Nat} {n0 : Nat} {bf : ab_B} {d : Nat} {p0 : Nat} {p2 : Int32} {S : zs_T} {Q : zs_Q} (hB : zt_B bf) (h : w_X9_beginTypes_148 (zx σ n0 bf) d p0 p2 S Q) : zs_U (zx σ n0 bf) d 8008 148 [(0, .ref p0), (2, .int p2)] [] S Q := by
  unfold w_X9_beginTypes_148 at h
  refine zu_goto (t := 212) d_8008_148 rfl ?_
  exact (u_X9_beginTypes_212 hB h).weak ⟨rfl, rfl, trivial⟩
def w_X9_beginTypes_122 (X : zs_X) (d : Nat) (p0 : Nat) (p2 : Int32) (S : zs_T) (Q : zs_Q) : Prop :=
  ((((24 : Int32) < p2 → (Q (.returned none) S)) ∧ (¬ ((24 : Int32) < p2) → ((((3 : Int32) < p2 → ((((6 : Int32) < p2 → (zs_K S p0 = some (.inl 8) ∧ zs_C X d 8011 [.ref p0, .int ((36 : Int32) + p2), .int (6 : Int32), .int (0 : Int32), .int p2, .int (0 : Int32)] S (zs_kI (fun v6 S5 => (w_X9_beginTypes_212 X d p0 p2 S5 Q)) Q))) ∧ (¬ ((6 : Int32) < p2) → (((¬ p2 = (6 : Int32) → (w_X9_beginTypes_171 X d p0 p2 (some p0) ((36 : Int32) + p2) (1 : Int32) (2 : Int32) S Q)) ∧ (¬ (¬ p2 = (6 : Int32)) → (w_X9_beginTypes_171 X d p0 p2 (some p0) ((36 : Int32) + p2) (1 : Int32) (1 : Int32) S Q)))))))) ∧ (¬ ((3 : Int32) < p2) → (zs_K S p0 = some (.inl 8) ∧ zs_C X d 8011 [.ref p0, .int ((36 : Int32) + p2), .int (2 : Int32), .int p2, .int (0 : Int32), .int (0 : Int32)] S (zs_kI (fun v10 S9 => (w_X9_beginTypes_148 X d p0 p2 S9 Q)) Q))))))))
theorem u_X9_beginTypes_122 {σ : Nat → Nat} {n0 : Nat} {bf : ab_B} {d : Nat} {p0 : Nat} {p2 : Int32} {S : zs_T} {Q : zs_Q} (hB : zt_B bf) (h : w_X9_beginTypes_122 (zx σ n0 bf) d p0 p2 S Q) : zs_U (zx σ n0 bf) d 8008 122 [(0, .ref p0), (2, .int p2)] [] S Q := by
  unfold w_X9_beginTypes_122 at h
  refine zu_iload_n d_8008_122 rfl ?_
  refine zu_bipush d_8008_123 zj_24 ?_
  refine zu_cmpgt (t := 218) d_8008_125 rfl (fun c1 => ?_) (fun c1 => ?_)
  · have h := h.1 c1
    exact zu_vret d_8008_218 zr_8008 h
  · have h := h.2 c1
    refine zu_bipush d_8008_128 zj_36 ?_
    refine zu_iload_n d_8008_130 rfl ?_
    refine zu_stk d_8008_131 rfl rfl ?_
    refine zu_istore_n d_8008_132 (zs_lt zq_8008 rfl) ?_
    refine zu_iload_n d_8008_133 rfl ?_
    refine zu_iconst d_8008_134 zi_3 ?_
    refine zu_cmpgt (t := 151) d_8008_135 rfl (fun c2 => ?_) (fun c2 => ?_)
    · have h := h.1 c2
      refine zu_iload_n d_8008_151 rfl ?_
      refine zu_bipush d_8008_152 zj_6 ?_
      refine zu_cmpgt (t := 201) d_8008_154 rfl (fun c3 => ?_) (fun c3 => ?_)
      · have h := h.1 c3
        refine zu_aload_n d_8008_201 rfl (zs_ra _) ?_
        refine zu_iload_n d_8008_202 rfl ?_
        refine zu_bipush d_8008_203 zj_6 ?_
        refine zu_iconst d_8008_205 zi_0 ?_
        refine zu_iload_n d_8008_206 rfl ?_
        refine zu_iconst d_8008_207 zi_0 ?_
        obtain ⟨k4, h⟩ := h
        refine zc_8_606 (x0 := ((36 : Int32) + p2)) (x1 := (6 : Int32)) (x2 := (0 : Int32)) (x3 := p2) (x4 := (0 : Int32)) hB rfl k4 d_8008_208 (Nat.le_of_ble_eq_true rfl) h (fun v6 S5 h => ?_)
        refine zu_istore_n d_8008_211 (zs_lt zq_8008 rfl) ?_
        exact (u_X9_beginTypes_212 hB h).weak ⟨rfl, rfl, trivial⟩
      · have h := h.2 c3
        refine zu_aload_n d_8008_157 rfl (zs_ra _) ?_
        refine zu_iload_n d_8008_158 rfl ?_
        refine zu_iconst d_8008_159 zi_1 ?_
        refine zu_iload_n d_8008_160 rfl ?_
        refine zu_bipush d_8008_161 zj_6 ?_
        refine zu_cmpne (t := 170) d_8008_163 rfl (fun c7 => ?_) (fun c7 => ?_)
        · have h := h.1 c7
          refine zu_iconst d_8008_170 zi_2 ?_
          exact (u_X9_beginTypes_171 hB h).weak ⟨rfl, rfl, trivial⟩
        · have h := h.2 c7
          refine zu_iconst d_8008_166 zi_1 ?_
          refine zu_goto (t := 171) d_8008_167 rfl ?_
          exact (u_X9_beginTypes_171 hB h).weak ⟨rfl, rfl, trivial⟩
    · have h := h.2 c2
      refine zu_aload_n d_8008_138 rfl (zs_ra _) ?_
      refine zu_iload_n d_8008_139 rfl ?_
      refine zu_iconst d_8008_140 zi_2 ?_
      refine zu_iload_n d_8008_141 rfl ?_
      refine zu_iconst d_8008_142 zi_0 ?_
      refine zu_iconst d_8008_143 zi_0 ?_
      obtain ⟨k8, h⟩ := h
      refine zc_8_606 (x0 := ((36 : Int32) + p2)) (x1 := (2 : Int32)) (x2 := p2) (x3 := (0 : Int32)) (x4 := (0 : Int32)) hB rfl k8 d_8008_144 (Nat.le_of_ble_eq_true rfl) h (fun v10 S9 h => ?_)
      refine zu_istore_n d_8008_147 (zs_lt zq_8008 rfl) ?_
      exact (u_X9_beginTypes_148 hB h).weak ⟨rfl, rfl, trivial⟩
def w_X9_beginTypes (X : zs_X) (d : Nat) (p0 : Nat) (S : zs_T) (Q : zs_Q) : Prop :=
  (zs_K S p0 = some (.inl 8) ∧ ab_n0 X.1 ≤ p0 ∧ ∀ S3, S3 = zs_sI S 8053 p0 (0 : Int32) → ∀ S6, S6 = zs_sI S3 8056 p0 (0 : Int32) → ∀ S9, S9 = zs_sI S6 8060 p0 (0 : Int32) → ∀ S12, S12 = zs_sI S9 8063 p0 (0 : Int32) → ∀ S15, S15 = zs_sI S12 8069 p0 (0 : Int32) → ∀ S18, S18 = zs_sI S15 8073 p0 (0 : Int32) → w_X9_beginTypes_30 X d p0 S18 Q)
theorem u_X9_beginTypes {σ : Nat → Nat} {n0 : Nat} {bf : ab_B} {d : Nat} {p0 : Nat} {S : zs_T} {Q : zs_Q} (hB : zt_B bf) (hd : 1 ≤ d) (h : w_X9_beginTypes (zx σ n0 bf) (d - 1) p0 S Q) : zs_C (zx σ n0 bf) d 8008 [.ref p0] S Q := by
  have hL : lv_args 0 [.ref p0] = [(0, .ref p0)] := rfl
  refine zs_C.of1 (hB.2 8008 (by decide) (by decide)) hd (by rw [hL]; exact zs_sub_self _ (by exact ⟨rfl, trivial⟩)) ?_
  rw [hL]
  clear hL
  unfold w_X9_beginTypes at h
  refine zu_aload_n d_8008_0 rfl (zs_ra _) ?_
  refine zu_iconst d_8008_1 zi_0 ?_
  obtain ⟨k1, h⟩ := h
  obtain ⟨k2, h⟩ := h
  refine zp_8_558 (v := (0 : Int32)) rfl d_8008_2 k1 k2 ?_
  generalize e4 : zs_sI S 8053 p0 (0 : Int32) = S3
  have h := h S3 e4.symm
  have K5 : ∀ b, zs_K S3 b = zs_K S b := zs_Kt e4 (zs_KsI _ _ _ _) (fun _ => rfl)
  refine zu_aload_n d_8008_5 rfl (zs_ra _) ?_
  refine zu_iconst d_8008_6 zi_0 ?_
  refine zp_8_578 (v := (0 : Int32)) rfl d_8008_7 ((K5 _).trans k1) k2 ?_
  generalize e7 : zs_sI S3 8056 p0 (0 : Int32) = S6
  have h := h S6 e7.symm
  have K8 : ∀ b, zs_K S6 b = zs_K S b := zs_Kt e7 (zs_KsI _ _ _ _) K5
  refine zu_aload_n d_8008_10 rfl (zs_ra _) ?_
  refine zu_iconst d_8008_11 zi_0 ?_
  refine zp_8_581 (v := (0 : Int32)) rfl d_8008_12 ((K8 _).trans k1) k2 ?_
  generalize e10 : zs_sI S6 8060 p0 (0 : Int32) = S9
  have h := h S9 e10.symm
  have K11 : ∀ b, zs_K S9 b = zs_K S b := zs_Kt e10 (zs_KsI _ _ _ _) K8
  refine zu_aload_n d_8008_15 rfl (zs_ra _) ?_
  refine zu_iconst d_8008_16 zi_0 ?_
  refine zp_8_584 (v := (0 : Int32)) rfl d_8008_17 ((K11 _).trans k1) k2 ?_
  generalize e13 : zs_sI S9 8063 p0 (0 : Int32) = S12
  have h := h S12 e13.symm
  have K14 : ∀ b, zs_K S12 b = zs_K S b := zs_Kt e13 (zs_KsI _ _ _ _) K11
  refine zu_aload_n d_8008_20 rfl (zs_ra _) ?_
  refine zu_iconst d_8008_21 zi_0 ?_
  refine zp_8_587 (v := (0 : Int32)) rfl d_8008_22 ((K14 _).trans k1) k2 ?_
  generalize e16 : zs_sI S12 8069 p0 (0 : Int32) = S15
  have h := h S15 e16.symm
  have K17 : ∀ b, zs_K S15 b = zs_K S b := zs_Kt e16 (zs_KsI _ _ _ _) K14
  refine zu_aload_n d_8008_25 rfl (zs_ra _) ?_
  refine zu_iconst d_8008_26 zi_0 ?_
  refine zp_8_590 (v := (0 : Int32)) rfl d_8008_27 ((K17 _).trans k1) k2 ?_
  generalize e19 : zs_sI S15 8073 p0 (0 : Int32) = S18
  have h := h S18 e19.symm
  have K20 : ∀ b, zs_K S18 b = zs_K S b := zs_Kt e19 (zs_KsI _ _ _ _) K17
  exact (u_X9_beginTypes_30 hB h).weak ⟨rfl, trivial⟩
/-! SchemaPascalModel.newType(III)I -/
theorem zm_8009 {σ : Nat → Nat} {n0 : Nat} {bf : ab_B} : ab_code (zx σ n0 bf).1 8009 = prog_17_method_28_code := rfl
theorem zq_8009 {σ : Nat → Nat} {n0 : Nat} {bf : ab_B} : ab_maxL (zx σ n0 bf).1 8009 = 4 := rfl
theorem zr_8009 {σ : Nat → Nat} {n0 : Nat} {bf : ab_B} : ab_ret (zx σ n0 bf).1 8009 = (Option.some Jvm.ClassFile.FieldType.int) := rfl
theorem d_8009_0 {σ : Nat → Nat} {n0 : Nat} {bf : ab_B} : decode (ab_code (zx σ n0 bf).1 8009) 0 = .ok (.aload_n 0, 1) := zd zm_8009 (by decide +kernel)
theorem d_8009_1 {σ : Nat → Nat} {n0 : Nat} {bf : ab_B} : decode (ab_code (zx σ n0 bf).1 8009) 1 = .ok (.dup, 1) := zd zm_8009 (by decide +kernel)
theorem d_8009_2 {σ : Nat → Nat} {n0 : Nat} {bf : ab_B} : decode (ab_code (zx σ n0 bf).1 8009) 2 = .ok (.getfield 558, 3) := zd zm_8009 (by decide +kernel)
theorem d_8009_5 {σ : Nat → Nat} {n0 : Nat} {bf : ab_B} : decode (ab_code (zx σ n0 bf).1 8009) 5 = .ok (.iconst 1, 1) := zd zm_8009 (by decide +kernel)
theorem d_8009_6 {σ : Nat → Nat} {n0 : Nat} {bf : ab_B} : decode (ab_code (zx σ n0 bf).1 8009) 6 = .ok (.iadd, 1) := zd zm_8009 (by decide +kernel)
theorem d_8009_7 {σ : Nat → Nat} {n0 : Nat} {bf : ab_B} : decode (ab_code (zx σ n0 bf).1 8009) 7 = .ok (.putfield 558, 3) := zd zm_8009 (by decide +kernel)
theorem d_8009_10 {σ : Nat → Nat} {n0 : Nat} {bf : ab_B} : decode (ab_code (zx σ n0 bf).1 8009) 10 = .ok (.aload_n 0, 1) := zd zm_8009 (by decide +kernel)
theorem d_8009_11 {σ : Nat → Nat} {n0 : Nat} {bf : ab_B} : decode (ab_code (zx σ n0 bf).1 8009) 11 = .ok (.getfield 90, 3) := zd zm_8009 (by decide +kernel)
theorem d_8009_14 {σ : Nat → Nat} {n0 : Nat} {bf : ab_B} : decode (ab_code (zx σ n0 bf).1 8009) 14 = .ok (.aload_n 0, 1) := zd zm_8009 (by decide +kernel)
theorem d_8009_15 {σ : Nat → Nat} {n0 : Nat} {bf : ab_B} : decode (ab_code (zx σ n0 bf).1 8009) 15 = .ok (.getfield 558, 3) := zd zm_8009 (by decide +kernel)
theorem d_8009_18 {σ : Nat → Nat} {n0 : Nat} {bf : ab_B} : decode (ab_code (zx σ n0 bf).1 8009) 18 = .ok (.iload_n 1, 1) := zd zm_8009 (by decide +kernel)
theorem d_8009_19 {σ : Nat → Nat} {n0 : Nat} {bf : ab_B} : decode (ab_code (zx σ n0 bf).1 8009) 19 = .ok (.i2b, 1) := zd zm_8009 (by decide +kernel)
theorem d_8009_20 {σ : Nat → Nat} {n0 : Nat} {bf : ab_B} : decode (ab_code (zx σ n0 bf).1 8009) 20 = .ok (.bastore, 1) := zd zm_8009 (by decide +kernel)
theorem d_8009_21 {σ : Nat → Nat} {n0 : Nat} {bf : ab_B} : decode (ab_code (zx σ n0 bf).1 8009) 21 = .ok (.aload_n 0, 1) := zd zm_8009 (by decide +kernel)
theorem d_8009_22 {σ : Nat → Nat} {n0 : Nat} {bf : ab_B} : decode (ab_code (zx σ n0 bf).1 8009) 22 = .ok (.getfield 93, 3) := zd zm_8009 (by decide +kernel)
theorem d_8009_25 {σ : Nat → Nat} {n0 : Nat} {bf : ab_B} : decode (ab_code (zx σ n0 bf).1 8009) 25 = .ok (.aload_n 0, 1) := zd zm_8009 (by decide +kernel)
theorem d_8009_26 {σ : Nat → Nat} {n0 : Nat} {bf : ab_B} : decode (ab_code (zx σ n0 bf).1 8009) 26 = .ok (.getfield 558, 3) := zd zm_8009 (by decide +kernel)
theorem d_8009_29 {σ : Nat → Nat} {n0 : Nat} {bf : ab_B} : decode (ab_code (zx σ n0 bf).1 8009) 29 = .ok (.iload_n 2, 1) := zd zm_8009 (by decide +kernel)
theorem d_8009_30 {σ : Nat → Nat} {n0 : Nat} {bf : ab_B} : decode (ab_code (zx σ n0 bf).1 8009) 30 = .ok (.iastore, 1) := zd zm_8009 (by decide +kernel)
theorem d_8009_31 {σ : Nat → Nat} {n0 : Nat} {bf : ab_B} : decode (ab_code (zx σ n0 bf).1 8009) 31 = .ok (.aload_n 0, 1) := zd zm_8009 (by decide +kernel)
theorem d_8009_32 {σ : Nat → Nat} {n0 : Nat} {bf : ab_B} : decode (ab_code (zx σ n0 bf).1 8009) 32 = .ok (.getfield 96, 3) := zd zm_8009 (by decide +kernel)
theorem d_8009_35 {σ : Nat → Nat} {n0 : Nat} {bf : ab_B} : decode (ab_code (zx σ n0 bf).1 8009) 35 = .ok (.aload_n 0, 1) := zd zm_8009 (by decide +kernel)
theorem d_8009_36 {σ : Nat → Nat} {n0 : Nat} {bf : ab_B} : decode (ab_code (zx σ n0 bf).1 8009) 36 = .ok (.getfield 558, 3) := zd zm_8009 (by decide +kernel)
theorem d_8009_39 {σ : Nat → Nat} {n0 : Nat} {bf : ab_B} : decode (ab_code (zx σ n0 bf).1 8009) 39 = .ok (.iconst 0, 1) := zd zm_8009 (by decide +kernel)
theorem d_8009_40 {σ : Nat → Nat} {n0 : Nat} {bf : ab_B} : decode (ab_code (zx σ n0 bf).1 8009) 40 = .ok (.iastore, 1) := zd zm_8009 (by decide +kernel)
theorem d_8009_41 {σ : Nat → Nat} {n0 : Nat} {bf : ab_B} : decode (ab_code (zx σ n0 bf).1 8009) 41 = .ok (.aload_n 0, 1) := zd zm_8009 (by decide +kernel)
theorem d_8009_42 {σ : Nat → Nat} {n0 : Nat} {bf : ab_B} : decode (ab_code (zx σ n0 bf).1 8009) 42 = .ok (.getfield 99, 3) := zd zm_8009 (by decide +kernel)
theorem d_8009_45 {σ : Nat → Nat} {n0 : Nat} {bf : ab_B} : decode (ab_code (zx σ n0 bf).1 8009) 45 = .ok (.aload_n 0, 1) := zd zm_8009 (by decide +kernel)
theorem d_8009_46 {σ : Nat → Nat} {n0 : Nat} {bf : ab_B} : decode (ab_code (zx σ n0 bf).1 8009) 46 = .ok (.getfield 558, 3) := zd zm_8009 (by decide +kernel)
theorem d_8009_49 {σ : Nat → Nat} {n0 : Nat} {bf : ab_B} : decode (ab_code (zx σ n0 bf).1 8009) 49 = .ok (.iconst 0, 1) := zd zm_8009 (by decide +kernel)
theorem d_8009_50 {σ : Nat → Nat} {n0 : Nat} {bf : ab_B} : decode (ab_code (zx σ n0 bf).1 8009) 50 = .ok (.iastore, 1) := zd zm_8009 (by decide +kernel)
theorem d_8009_51 {σ : Nat → Nat} {n0 : Nat} {bf : ab_B} : decode (ab_code (zx σ n0 bf).1 8009) 51 = .ok (.aload_n 0, 1) := zd zm_8009 (by decide +kernel)
theorem d_8009_52 {σ : Nat → Nat} {n0 : Nat} {bf : ab_B} : decode (ab_code (zx σ n0 bf).1 8009) 52 = .ok (.getfield 102, 3) := zd zm_8009 (by decide +kernel)
theorem d_8009_55 {σ : Nat → Nat} {n0 : Nat} {bf : ab_B} : decode (ab_code (zx σ n0 bf).1 8009) 55 = .ok (.aload_n 0, 1) := zd zm_8009 (by decide +kernel)
theorem d_8009_56 {σ : Nat → Nat} {n0 : Nat} {bf : ab_B} : decode (ab_code (zx σ n0 bf).1 8009) 56 = .ok (.getfield 558, 3) := zd zm_8009 (by decide +kernel)
theorem d_8009_59 {σ : Nat → Nat} {n0 : Nat} {bf : ab_B} : decode (ab_code (zx σ n0 bf).1 8009) 59 = .ok (.iconst 0, 1) := zd zm_8009 (by decide +kernel)
theorem d_8009_60 {σ : Nat → Nat} {n0 : Nat} {bf : ab_B} : decode (ab_code (zx σ n0 bf).1 8009) 60 = .ok (.iastore, 1) := zd zm_8009 (by decide +kernel)
theorem d_8009_61 {σ : Nat → Nat} {n0 : Nat} {bf : ab_B} : decode (ab_code (zx σ n0 bf).1 8009) 61 = .ok (.aload_n 0, 1) := zd zm_8009 (by decide +kernel)
theorem d_8009_62 {σ : Nat → Nat} {n0 : Nat} {bf : ab_B} : decode (ab_code (zx σ n0 bf).1 8009) 62 = .ok (.getfield 105, 3) := zd zm_8009 (by decide +kernel)
theorem d_8009_65 {σ : Nat → Nat} {n0 : Nat} {bf : ab_B} : decode (ab_code (zx σ n0 bf).1 8009) 65 = .ok (.aload_n 0, 1) := zd zm_8009 (by decide +kernel)
theorem d_8009_66 {σ : Nat → Nat} {n0 : Nat} {bf : ab_B} : decode (ab_code (zx σ n0 bf).1 8009) 66 = .ok (.getfield 558, 3) := zd zm_8009 (by decide +kernel)
theorem d_8009_69 {σ : Nat → Nat} {n0 : Nat} {bf : ab_B} : decode (ab_code (zx σ n0 bf).1 8009) 69 = .ok (.iconst 0, 1) := zd zm_8009 (by decide +kernel)
theorem d_8009_70 {σ : Nat → Nat} {n0 : Nat} {bf : ab_B} : decode (ab_code (zx σ n0 bf).1 8009) 70 = .ok (.bastore, 1) := zd zm_8009 (by decide +kernel)
theorem d_8009_71 {σ : Nat → Nat} {n0 : Nat} {bf : ab_B} : decode (ab_code (zx σ n0 bf).1 8009) 71 = .ok (.aload_n 0, 1) := zd zm_8009 (by decide +kernel)
theorem d_8009_72 {σ : Nat → Nat} {n0 : Nat} {bf : ab_B} : decode (ab_code (zx σ n0 bf).1 8009) 72 = .ok (.getfield 109, 3) := zd zm_8009 (by decide +kernel)
theorem d_8009_75 {σ : Nat → Nat} {n0 : Nat} {bf : ab_B} : decode (ab_code (zx σ n0 bf).1 8009) 75 = .ok (.aload_n 0, 1) := zd zm_8009 (by decide +kernel)
theorem d_8009_76 {σ : Nat → Nat} {n0 : Nat} {bf : ab_B} : decode (ab_code (zx σ n0 bf).1 8009) 76 = .ok (.getfield 558, 3) := zd zm_8009 (by decide +kernel)
theorem d_8009_79 {σ : Nat → Nat} {n0 : Nat} {bf : ab_B} : decode (ab_code (zx σ n0 bf).1 8009) 79 = .ok (.iload_n 3, 1) := zd zm_8009 (by decide +kernel)
theorem d_8009_80 {σ : Nat → Nat} {n0 : Nat} {bf : ab_B} : decode (ab_code (zx σ n0 bf).1 8009) 80 = .ok (.bipush 100, 2) := zd zm_8009 (by decide +kernel)
theorem d_8009_82 {σ : Nat → Nat} {n0 : Nat} {bf : ab_B} : decode (ab_code (zx σ n0 bf).1 8009) 82 = .ok (.if_icmp .le 8, 3) := zd zm_8009 (by decide +kernel)
theorem d_8009_85 {σ : Nat → Nat} {n0 : Nat} {bf : ab_B} : decode (ab_code (zx σ n0 bf).1 8009) 85 = .ok (.bipush 100, 2) := zd zm_8009 (by decide +kernel)
theorem d_8009_87 {σ : Nat → Nat} {n0 : Nat} {bf : ab_B} : decode (ab_code (zx σ n0 bf).1 8009) 87 = .ok (.goto 4, 3) := zd zm_8009 (by decide +kernel)
theorem d_8009_90 {σ : Nat → Nat} {n0 : Nat} {bf : ab_B} : decode (ab_code (zx σ n0 bf).1 8009) 90 = .ok (.iload_n 3, 1) := zd zm_8009 (by decide +kernel)
theorem d_8009_91 {σ : Nat → Nat} {n0 : Nat} {bf : ab_B} : decode (ab_code (zx σ n0 bf).1 8009) 91 = .ok (.i2b, 1) := zd zm_8009 (by decide +kernel)
theorem d_8009_92 {σ : Nat → Nat} {n0 : Nat} {bf : ab_B} : decode (ab_code (zx σ n0 bf).1 8009) 92 = .ok (.bastore, 1) := zd zm_8009 (by decide +kernel)
theorem d_8009_93 {σ : Nat → Nat} {n0 : Nat} {bf : ab_B} : decode (ab_code (zx σ n0 bf).1 8009) 93 = .ok (.aload_n 0, 1) := zd zm_8009 (by decide +kernel)
theorem d_8009_94 {σ : Nat → Nat} {n0 : Nat} {bf : ab_B} : decode (ab_code (zx σ n0 bf).1 8009) 94 = .ok (.getfield 112, 3) := zd zm_8009 (by decide +kernel)
theorem d_8009_97 {σ : Nat → Nat} {n0 : Nat} {bf : ab_B} : decode (ab_code (zx σ n0 bf).1 8009) 97 = .ok (.aload_n 0, 1) := zd zm_8009 (by decide +kernel)
theorem d_8009_98 {σ : Nat → Nat} {n0 : Nat} {bf : ab_B} : decode (ab_code (zx σ n0 bf).1 8009) 98 = .ok (.getfield 558, 3) := zd zm_8009 (by decide +kernel)
theorem d_8009_101 {σ : Nat → Nat} {n0 : Nat} {bf : ab_B} : decode (ab_code (zx σ n0 bf).1 8009) 101 = .ok (.iconst 1, 1) := zd zm_8009 (by decide +kernel)
theorem d_8009_102 {σ : Nat → Nat} {n0 : Nat} {bf : ab_B} : decode (ab_code (zx σ n0 bf).1 8009) 102 = .ok (.iastore, 1) := zd zm_8009 (by decide +kernel)
theorem d_8009_103 {σ : Nat → Nat} {n0 : Nat} {bf : ab_B} : decode (ab_code (zx σ n0 bf).1 8009) 103 = .ok (.aload_n 0, 1) := zd zm_8009 (by decide +kernel)
theorem d_8009_104 {σ : Nat → Nat} {n0 : Nat} {bf : ab_B} : decode (ab_code (zx σ n0 bf).1 8009) 104 = .ok (.getfield 115, 3) := zd zm_8009 (by decide +kernel)
theorem d_8009_107 {σ : Nat → Nat} {n0 : Nat} {bf : ab_B} : decode (ab_code (zx σ n0 bf).1 8009) 107 = .ok (.aload_n 0, 1) := zd zm_8009 (by decide +kernel)
theorem d_8009_108 {σ : Nat → Nat} {n0 : Nat} {bf : ab_B} : decode (ab_code (zx σ n0 bf).1 8009) 108 = .ok (.getfield 558, 3) := zd zm_8009 (by decide +kernel)
theorem d_8009_111 {σ : Nat → Nat} {n0 : Nat} {bf : ab_B} : decode (ab_code (zx σ n0 bf).1 8009) 111 = .ok (.iconst 1, 1) := zd zm_8009 (by decide +kernel)
theorem d_8009_112 {σ : Nat → Nat} {n0 : Nat} {bf : ab_B} : decode (ab_code (zx σ n0 bf).1 8009) 112 = .ok (.iastore, 1) := zd zm_8009 (by decide +kernel)
theorem d_8009_113 {σ : Nat → Nat} {n0 : Nat} {bf : ab_B} : decode (ab_code (zx σ n0 bf).1 8009) 113 = .ok (.aload_n 0, 1) := zd zm_8009 (by decide +kernel)
theorem d_8009_114 {σ : Nat → Nat} {n0 : Nat} {bf : ab_B} : decode (ab_code (zx σ n0 bf).1 8009) 114 = .ok (.getfield 558, 3) := zd zm_8009 (by decide +kernel)
theorem d_8009_117 {σ : Nat → Nat} {n0 : Nat} {bf : ab_B} : decode (ab_code (zx σ n0 bf).1 8009) 117 = .ok (.ireturn, 1) := zd zm_8009 (by decide +kernel)
def w_X9_newType_91 (X : zs_X) (d : Nat) (p0 : Nat) (q0 : Option Nat) (q1 : Int32) (q2 : Int32) (S : zs_T) (Q : zs_Q) : Prop :=
  (∃ b1, q0 = some b1 ∧ zs_A S b1 1 q1 ∧ ab_n0 X.1 ≤ b1 ∧ ∀ S5, S5 = zs_si S b1 q1.toNatClampNeg (vp_nar .byte ((q2).toInt8.toInt32)) → zs_K S p0 = some (.inl 8) ∧ ∃ b9, (zs_R S5 8051 p0) = some b9 ∧ zs_A S b9 0 (zs_I S5 8053 p0) ∧ ab_n0 X.1 ≤ b9 ∧ ∀ S13, S13 = zs_si S5 b9 (zs_I S5 8053 p0).toNatClampNeg (1 : Int32) → ∃ b16, (zs_R S13 8052 p0) = some b16 ∧ zs_A S b16 0 (zs_I S13 8053 p0) ∧ ab_n0 X.1 ≤ b16 ∧ ∀ S20, S20 = zs_si S13 b16 (zs_I S13 8053 p0).toNatClampNeg (1 : Int32) → Q (.returned (some (.int (zs_I S20 8053 p0)))) S20)
theorem u_X9_newType_91 {σ : Nat → Nat} {n0 : Nat} {bf : ab_B} {d : Nat} {p0 : Nat} {q0 : Option Nat} {q1 : Int32} {q2 : Int32} {S : zs_T} {Q : zs_Q} (hB : zt_B bf) (h : w_X9_newType_91 (zx σ n0 bf) d p0 q0 q1 q2 S Q) : zs_U (zx σ n0 bf) d 8009 91 [(0, .ref p0)] [.int q2, .int q1, va_rf q0] S Q := by
  unfold w_X9_newType_91 at h
  refine zu_stk d_8009_91 rfl rfl ?_
  obtain ⟨b1, e2, h⟩ := h
  refine zs_stk2 (zs_rfe e2) ?_
  obtain ⟨k3, h⟩ := h
  obtain ⟨k4, h⟩ := h
  refine zu_bast_byte (k := 1) d_8009_92 rfl rfl k4 k3 ?_
  generalize e6 : zs_si S b1 q1.toNatClampNeg (vp_nar .byte ((q2).toInt8.toInt32)) = S5
  have h := h S5 e6.symm
  have K7 : ∀ b, zs_K S5 b = zs_K S b := zs_Kt e6 (zs_Ksi _ _ _ _) (fun _ => rfl)
  refine zu_aload_n d_8009_93 rfl (zs_ra _) ?_
  obtain ⟨k8, h⟩ := h
  refine zg_8_112 rfl d_8009_94 ((K7 _).trans k8) ?_
  refine zu_aload_n d_8009_97 rfl (zs_ra _) ?_
  refine zg_8_558 rfl d_8009_98 ((K7 _).trans k8) ?_
  refine zu_iconst d_8009_101 zi_1 ?_
  obtain ⟨b9, e10, h⟩ := h
  refine zs_stk2 (zs_rfe e10) ?_
  obtain ⟨k11, h⟩ := h
  obtain ⟨k12, h⟩ := h
  refine zu_iast (k := 0) d_8009_102 rfl rfl k12 (zs_Ak K7 k11) ?_
  generalize e14 : zs_si S5 b9 (zs_I S5 8053 p0).toNatClampNeg (1 : Int32) = S13
  have h := h S13 e14.symm
  have K15 : ∀ b, zs_K S13 b = zs_K S b := zs_Kt e14 (zs_Ksi _ _ _ _) K7
  refine zu_aload_n d_8009_103 rfl (zs_ra _) ?_
  refine zg_8_115 rfl d_8009_104 ((K15 _).trans k8) ?_
  refine zu_aload_n d_8009_107 rfl (zs_ra _) ?_
  refine zg_8_558 rfl d_8009_108 ((K15 _).trans k8) ?_
  refine zu_iconst d_8009_111 zi_1 ?_
  obtain ⟨b16, e17, h⟩ := h
  refine zs_stk2 (zs_rfe e17) ?_
  obtain ⟨k18, h⟩ := h
  obtain ⟨k19, h⟩ := h
  refine zu_iast (k := 0) d_8009_112 rfl rfl k19 (zs_Ak K15 k18) ?_
  generalize e21 : zs_si S13 b16 (zs_I S13 8053 p0).toNatClampNeg (1 : Int32) = S20
  have h := h S20 e21.symm
  have K22 : ∀ b, zs_K S20 b = zs_K S b := zs_Kt e21 (zs_Ksi _ _ _ _) K15
  refine zu_aload_n d_8009_113 rfl (zs_ra _) ?_
  refine zg_8_558 rfl d_8009_114 ((K22 _).trans k8) ?_
  exact zu_iret d_8009_117 zr_8009 rfl h
def w_X9_newType_61 (X : zs_X) (d : Nat) (p0 : Nat) (p3 : Int32) (S : zs_T) (Q : zs_Q) : Prop :=
  (zs_K S p0 = some (.inl 8) ∧ ∃ b2, (zs_R S 8049 p0) = some b2 ∧ zs_A S b2 2 (zs_I S 8053 p0) ∧ ab_n0 X.1 ≤ b2 ∧ ∀ S6, S6 = zs_si S b2 (zs_I S 8053 p0).toNatClampNeg (vp_nar .boolean (0 : Int32)) → ((p3 ≤ (100 : Int32) → (w_X9_newType_91 X d p0 (zs_R S6 8050 p0) (zs_I S6 8053 p0) p3 S6 Q)) ∧ (¬ (p3 ≤ (100 : Int32)) → (w_X9_newType_91 X d p0 (zs_R S6 8050 p0) (zs_I S6 8053 p0) (100 : Int32) S6 Q))))
theorem u_X9_newType_61 {σ : Nat → Nat} {n0 : Nat} {bf : ab_B} {d : Nat} {p0 : Nat} {p3 : Int32} {S : zs_T} {Q : zs_Q} (hB : zt_B bf) (h : w_X9_newType_61 (zx σ n0 bf) d p0 p3 S Q) : zs_U (zx σ n0 bf) d 8009 61 [(0, .ref p0), (3, .int p3)] [] S Q := by
  unfold w_X9_newType_61 at h
  refine zu_aload_n d_8009_61 rfl (zs_ra _) ?_
  obtain ⟨k1, h⟩ := h
  refine zg_8_105 rfl d_8009_62 k1 ?_
  refine zu_aload_n d_8009_65 rfl (zs_ra _) ?_
  refine zg_8_558 rfl d_8009_66 k1 ?_
  refine zu_iconst d_8009_69 zi_0 ?_
  obtain ⟨b2, e3, h⟩ := h
  refine zs_stk2 (zs_rfe e3) ?_
  obtain ⟨k4, h⟩ := h
  obtain ⟨k5, h⟩ := h
  refine zu_bast_bool (k := 2) d_8009_70 rfl rfl k5 k4 ?_
  generalize e7 : zs_si S b2 (zs_I S 8053 p0).toNatClampNeg (vp_nar .boolean (0 : Int32)) = S6
  have h := h S6 e7.symm
  have K8 : ∀ b, zs_K S6 b = zs_K S b := zs_Kt e7 (zs_Ksi _ _ _ _) (fun _ => rfl)
  refine zu_aload_n d_8009_71 rfl (zs_ra _) ?_
  refine zg_8_109 rfl d_8009_72 ((K8 _).trans k1) ?_
  refine zu_aload_n d_8009_75 rfl (zs_ra _) ?_
  refine zg_8_558 rfl d_8009_76 ((K8 _).trans k1) ?_
  refine zu_iload_n d_8009_79 rfl ?_
  refine zu_bipush d_8009_80 zj_100 ?_
  refine zu_cmple (t := 90) d_8009_82 rfl (fun c9 => ?_) (fun c9 => ?_)
  · have h := h.1 c9
    refine zu_iload_n d_8009_90 rfl ?_
    exact (u_X9_newType_91 hB h).weak ⟨rfl, trivial⟩
  · have h := h.2 c9
    refine zu_bipush d_8009_85 zj_100 ?_
    refine zu_goto (t := 91) d_8009_87 rfl ?_
    exact (u_X9_newType_91 hB h).weak ⟨rfl, trivial⟩
def w_X9_newType_31 (X : zs_X) (d : Nat) (p0 : Nat) (p3 : Int32) (S : zs_T) (Q : zs_Q) : Prop :=
  (zs_K S p0 = some (.inl 8) ∧ ∃ b2, (zs_R S 8046 p0) = some b2 ∧ zs_A S b2 0 (zs_I S 8053 p0) ∧ ab_n0 X.1 ≤ b2 ∧ ∀ S6, S6 = zs_si S b2 (zs_I S 8053 p0).toNatClampNeg (0 : Int32) → ∃ b9, (zs_R S6 8047 p0) = some b9 ∧ zs_A S b9 0 (zs_I S6 8053 p0) ∧ ab_n0 X.1 ≤ b9 ∧ ∀ S13, S13 = zs_si S6 b9 (zs_I S6 8053 p0).toNatClampNeg (0 : Int32) → ∃ b16, (zs_R S13 8048 p0) = some b16 ∧ zs_A S b16 0 (zs_I S13 8053 p0) ∧ ab_n0 X.1 ≤ b16 ∧ ∀ S20, S20 = zs_si S13 b16 (zs_I S13 8053 p0).toNatClampNeg (0 : Int32) → w_X9_newType_61 X d p0 p3 S20 Q)
theorem u_X9_newType_31 {σ : Nat → Nat} {n0 : Nat} {bf : ab_B} {d : Nat} {p0 : Nat} {p3 : Int32} {S : zs_T} {Q : zs_Q} (hB : zt_B bf) (h : w_X9_newType_31 (zx σ n0 bf) d p0 p3 S Q) : zs_U (zx σ n0 bf) d 8009 31 [(0, .ref p0), (3, .int p3)] [] S Q := by
  unfold w_X9_newType_31 at h
  refine zu_aload_n d_8009_31 rfl (zs_ra _) ?_
  obtain ⟨k1, h⟩ := h
  refine zg_8_96 rfl d_8009_32 k1 ?_
  refine zu_aload_n d_8009_35 rfl (zs_ra _) ?_
  refine zg_8_558 rfl d_8009_36 k1 ?_
  refine zu_iconst d_8009_39 zi_0 ?_
  obtain ⟨b2, e3, h⟩ := h
  refine zs_stk2 (zs_rfe e3) ?_
  obtain ⟨k4, h⟩ := h
  obtain ⟨k5, h⟩ := h
  refine zu_iast (k := 0) d_8009_40 rfl rfl k5 k4 ?_
  generalize e7 : zs_si S b2 (zs_I S 8053 p0).toNatClampNeg (0 : Int32) = S6
  have h := h S6 e7.symm
  have K8 : ∀ b, zs_K S6 b = zs_K S b := zs_Kt e7 (zs_Ksi _ _ _ _) (fun _ => rfl)
  refine zu_aload_n d_8009_41 rfl (zs_ra _) ?_
  refine zg_8_99 rfl d_8009_42 ((K8 _).trans k1) ?_
  refine zu_aload_n d_8009_45 rfl (zs_ra _) ?_
  refine zg_8_558 rfl d_8009_46 ((K8 _).trans k1) ?_
  refine zu_iconst d_8009_49 zi_0 ?_
  obtain ⟨b9, e10, h⟩ := h
  refine zs_stk2 (zs_rfe e10) ?_
  obtain ⟨k11, h⟩ := h
  obtain ⟨k12, h⟩ := h
  refine zu_iast (k := 0) d_8009_50 rfl rfl k12 (zs_Ak K8 k11) ?_
  generalize e14 : zs_si S6 b9 (zs_I S6 8053 p0).toNatClampNeg (0 : Int32) = S13
  have h := h S13 e14.symm
  have K15 : ∀ b, zs_K S13 b = zs_K S b := zs_Kt e14 (zs_Ksi _ _ _ _) K8
  refine zu_aload_n d_8009_51 rfl (zs_ra _) ?_
  refine zg_8_102 rfl d_8009_52 ((K15 _).trans k1) ?_
  refine zu_aload_n d_8009_55 rfl (zs_ra _) ?_
  refine zg_8_558 rfl d_8009_56 ((K15 _).trans k1) ?_
  refine zu_iconst d_8009_59 zi_0 ?_
  obtain ⟨b16, e17, h⟩ := h
  refine zs_stk2 (zs_rfe e17) ?_
  obtain ⟨k18, h⟩ := h
  obtain ⟨k19, h⟩ := h
  refine zu_iast (k := 0) d_8009_60 rfl rfl k19 (zs_Ak K15 k18) ?_
  generalize e21 : zs_si S13 b16 (zs_I S13 8053 p0).toNatClampNeg (0 : Int32) = S20
  have h := h S20 e21.symm
  have K22 : ∀ b, zs_K S20 b = zs_K S b := zs_Kt e21 (zs_Ksi _ _ _ _) K15
  exact (u_X9_newType_61 hB h).weak ⟨rfl, rfl, trivial⟩
def w_X9_newType (X : zs_X) (d : Nat) (p0 : Nat) (p1 : Int32) (p2 : Int32) (p3 : Int32) (S : zs_T) (Q : zs_Q) : Prop :=
  (zs_K S p0 = some (.inl 8) ∧ ab_n0 X.1 ≤ p0 ∧ ∀ S3, S3 = zs_sI S 8053 p0 ((zs_I S 8053 p0) + (1 : Int32)) → ∃ b6, (zs_R S3 8044 p0) = some b6 ∧ zs_A S b6 1 (zs_I S3 8053 p0) ∧ ab_n0 X.1 ≤ b6 ∧ ∀ S10, S10 = zs_si S3 b6 (zs_I S3 8053 p0).toNatClampNeg (vp_nar .byte ((p1).toInt8.toInt32)) → ∃ b13, (zs_R S10 8045 p0) = some b13 ∧ zs_A S b13 0 (zs_I S10 8053 p0) ∧ ab_n0 X.1 ≤ b13 ∧ ∀ S17, S17 = zs_si S10 b13 (zs_I S10 8053 p0).toNatClampNeg p2 → w_X9_newType_31 X d p0 p3 S17 Q)
theorem u_X9_newType {σ : Nat → Nat} {n0 : Nat} {bf : ab_B} {d : Nat} {p0 : Nat} {p1 : Int32} {p2 : Int32} {p3 : Int32} {S : zs_T} {Q : zs_Q} (hB : zt_B bf) (hd : 1 ≤ d) (h : w_X9_newType (zx σ n0 bf) (d - 1) p0 p1 p2 p3 S Q) : zs_C (zx σ n0 bf) d 8009 [.ref p0, .int p1, .int p2, .int p3] S Q := by
  have hL : lv_args 0 [.ref p0, .int p1, .int p2, .int p3] = [(0, .ref p0), (1, .int p1), (2, .int p2), (3, .int p3)] := rfl
  refine zs_C.of1 (hB.2 8009 (by decide) (by decide)) hd (by rw [hL]; exact zs_sub_self _ (by exact ⟨rfl, rfl, rfl, rfl, trivial⟩)) ?_
  rw [hL]
  clear hL
  unfold w_X9_newType at h
  refine zu_aload_n d_8009_0 rfl (zs_ra _) ?_
  refine zu_dup d_8009_1 rfl ?_
  obtain ⟨k1, h⟩ := h
  refine zg_8_558 rfl d_8009_2 k1 ?_
  refine zu_iconst d_8009_5 zi_1 ?_
  refine zu_stk d_8009_6 rfl rfl ?_
  obtain ⟨k2, h⟩ := h
  refine zp_8_558 (v := ((zs_I S 8053 p0) + (1 : Int32))) rfl d_8009_7 k1 k2 ?_
  generalize e4 : zs_sI S 8053 p0 ((zs_I S 8053 p0) + (1 : Int32)) = S3
  have h := h S3 e4.symm
  have K5 : ∀ b, zs_K S3 b = zs_K S b := zs_Kt e4 (zs_KsI _ _ _ _) (fun _ => rfl)
  refine zu_aload_n d_8009_10 rfl (zs_ra _) ?_
  refine zg_8_90 rfl d_8009_11 ((K5 _).trans k1) ?_
  refine zu_aload_n d_8009_14 rfl (zs_ra _) ?_
  refine zg_8_558 rfl d_8009_15 ((K5 _).trans k1) ?_
  refine zu_iload_n d_8009_18 rfl ?_
  refine zu_stk d_8009_19 rfl rfl ?_
  obtain ⟨b6, e7, h⟩ := h
  refine zs_stk2 (zs_rfe e7) ?_
  obtain ⟨k8, h⟩ := h
  obtain ⟨k9, h⟩ := h
  refine zu_bast_byte (k := 1) d_8009_20 rfl rfl k9 (zs_Ak K5 k8) ?_
  generalize e11 : zs_si S3 b6 (zs_I S3 8053 p0).toNatClampNeg (vp_nar .byte ((p1).toInt8.toInt32)) = S10
  have h := h S10 e11.symm
  have K12 : ∀ b, zs_K S10 b = zs_K S b := zs_Kt e11 (zs_Ksi _ _ _ _) K5
  refine zu_aload_n d_8009_21 rfl (zs_ra _) ?_
  refine zg_8_93 rfl d_8009_22 ((K12 _).trans k1) ?_
  refine zu_aload_n d_8009_25 rfl (zs_ra _) ?_
  refine zg_8_558 rfl d_8009_26 ((K12 _).trans k1) ?_
  refine zu_iload_n d_8009_29 rfl ?_
  obtain ⟨b13, e14, h⟩ := h
  refine zs_stk2 (zs_rfe e14) ?_
  obtain ⟨k15, h⟩ := h
  obtain ⟨k16, h⟩ := h
  refine zu_iast (k := 0) d_8009_30 rfl rfl k16 (zs_Ak K12 k15) ?_
  generalize e18 : zs_si S10 b13 (zs_I S10 8053 p0).toNatClampNeg p2 = S17
  have h := h S17 e18.symm
  have K19 : ∀ b, zs_K S17 b = zs_K S b := zs_Kt e18 (zs_Ksi _ _ _ _) K12
  exact (u_X9_newType_31 hB h).weak ⟨rfl, rfl, trivial⟩
/-! SchemaPascalModel.openNames()V -/
theorem zm_8010 {σ : Nat → Nat} {n0 : Nat} {bf : ab_B} : ab_code (zx σ n0 bf).1 8010 = prog_17_method_23_code := rfl
theorem zq_8010 {σ : Nat → Nat} {n0 : Nat} {bf : ab_B} : ab_maxL (zx σ n0 bf).1 8010 = 1 := rfl
theorem zr_8010 {σ : Nat → Nat} {n0 : Nat} {bf : ab_B} : ab_ret (zx σ n0 bf).1 8010 = (Option.none : Option Jvm.ClassFile.FieldType) := rfl
theorem d_8010_0 {σ : Nat → Nat} {n0 : Nat} {bf : ab_B} : decode (ab_code (zx σ n0 bf).1 8010) 0 = .ok (.aload_n 0, 1) := zd zm_8010 (by decide +kernel)
theorem d_8010_1 {σ : Nat → Nat} {n0 : Nat} {bf : ab_B} : decode (ab_code (zx σ n0 bf).1 8010) 1 = .ok (.getfield 65, 3) := zd zm_8010 (by decide +kernel)
theorem d_8010_4 {σ : Nat → Nat} {n0 : Nat} {bf : ab_B} : decode (ab_code (zx σ n0 bf).1 8010) 4 = .ok (.aload_n 0, 1) := zd zm_8010 (by decide +kernel)
theorem d_8010_5 {σ : Nat → Nat} {n0 : Nat} {bf : ab_B} : decode (ab_code (zx σ n0 bf).1 8010) 5 = .ok (.getfield 547, 3) := zd zm_8010 (by decide +kernel)
theorem d_8010_8 {σ : Nat → Nat} {n0 : Nat} {bf : ab_B} : decode (ab_code (zx σ n0 bf).1 8010) 8 = .ok (.aload_n 0, 1) := zd zm_8010 (by decide +kernel)
theorem d_8010_9 {σ : Nat → Nat} {n0 : Nat} {bf : ab_B} : decode (ab_code (zx σ n0 bf).1 8010) 9 = .ok (.getfield 550, 3) := zd zm_8010 (by decide +kernel)
theorem d_8010_12 {σ : Nat → Nat} {n0 : Nat} {bf : ab_B} : decode (ab_code (zx σ n0 bf).1 8010) 12 = .ok (.iastore, 1) := zd zm_8010 (by decide +kernel)
theorem d_8010_13 {σ : Nat → Nat} {n0 : Nat} {bf : ab_B} : decode (ab_code (zx σ n0 bf).1 8010) 13 = .ok (.aload_n 0, 1) := zd zm_8010 (by decide +kernel)
theorem d_8010_14 {σ : Nat → Nat} {n0 : Nat} {bf : ab_B} : decode (ab_code (zx σ n0 bf).1 8010) 14 = .ok (.dup, 1) := zd zm_8010 (by decide +kernel)
theorem d_8010_15 {σ : Nat → Nat} {n0 : Nat} {bf : ab_B} : decode (ab_code (zx σ n0 bf).1 8010) 15 = .ok (.getfield 553, 3) := zd zm_8010 (by decide +kernel)
theorem d_8010_18 {σ : Nat → Nat} {n0 : Nat} {bf : ab_B} : decode (ab_code (zx σ n0 bf).1 8010) 18 = .ok (.iconst 1, 1) := zd zm_8010 (by decide +kernel)
theorem d_8010_19 {σ : Nat → Nat} {n0 : Nat} {bf : ab_B} : decode (ab_code (zx σ n0 bf).1 8010) 19 = .ok (.iadd, 1) := zd zm_8010 (by decide +kernel)
theorem d_8010_20 {σ : Nat → Nat} {n0 : Nat} {bf : ab_B} : decode (ab_code (zx σ n0 bf).1 8010) 20 = .ok (.putfield 553, 3) := zd zm_8010 (by decide +kernel)
theorem d_8010_23 {σ : Nat → Nat} {n0 : Nat} {bf : ab_B} : decode (ab_code (zx σ n0 bf).1 8010) 23 = .ok (.aload_n 0, 1) := zd zm_8010 (by decide +kernel)
theorem d_8010_24 {σ : Nat → Nat} {n0 : Nat} {bf : ab_B} : decode (ab_code (zx σ n0 bf).1 8010) 24 = .ok (.getfield 68, 3) := zd zm_8010 (by decide +kernel)
theorem d_8010_27 {σ : Nat → Nat} {n0 : Nat} {bf : ab_B} : decode (ab_code (zx σ n0 bf).1 8010) 27 = .ok (.aload_n 0, 1) := zd zm_8010 (by decide +kernel)
theorem d_8010_28 {σ : Nat → Nat} {n0 : Nat} {bf : ab_B} : decode (ab_code (zx σ n0 bf).1 8010) 28 = .ok (.getfield 547, 3) := zd zm_8010 (by decide +kernel)
theorem d_8010_31 {σ : Nat → Nat} {n0 : Nat} {bf : ab_B} : decode (ab_code (zx σ n0 bf).1 8010) 31 = .ok (.aload_n 0, 1) := zd zm_8010 (by decide +kernel)
theorem d_8010_32 {σ : Nat → Nat} {n0 : Nat} {bf : ab_B} : decode (ab_code (zx σ n0 bf).1 8010) 32 = .ok (.getfield 553, 3) := zd zm_8010 (by decide +kernel)
theorem d_8010_35 {σ : Nat → Nat} {n0 : Nat} {bf : ab_B} : decode (ab_code (zx σ n0 bf).1 8010) 35 = .ok (.iastore, 1) := zd zm_8010 (by decide +kernel)
theorem d_8010_36 {σ : Nat → Nat} {n0 : Nat} {bf : ab_B} : decode (ab_code (zx σ n0 bf).1 8010) 36 = .ok (.aload_n 0, 1) := zd zm_8010 (by decide +kernel)
theorem d_8010_37 {σ : Nat → Nat} {n0 : Nat} {bf : ab_B} : decode (ab_code (zx σ n0 bf).1 8010) 37 = .ok (.dup, 1) := zd zm_8010 (by decide +kernel)
theorem d_8010_38 {σ : Nat → Nat} {n0 : Nat} {bf : ab_B} : decode (ab_code (zx σ n0 bf).1 8010) 38 = .ok (.getfield 547, 3) := zd zm_8010 (by decide +kernel)
theorem d_8010_41 {σ : Nat → Nat} {n0 : Nat} {bf : ab_B} : decode (ab_code (zx σ n0 bf).1 8010) 41 = .ok (.iconst 1, 1) := zd zm_8010 (by decide +kernel)
theorem d_8010_42 {σ : Nat → Nat} {n0 : Nat} {bf : ab_B} : decode (ab_code (zx σ n0 bf).1 8010) 42 = .ok (.iadd, 1) := zd zm_8010 (by decide +kernel)
theorem d_8010_43 {σ : Nat → Nat} {n0 : Nat} {bf : ab_B} : decode (ab_code (zx σ n0 bf).1 8010) 43 = .ok (.putfield 547, 3) := zd zm_8010 (by decide +kernel)
theorem d_8010_46 {σ : Nat → Nat} {n0 : Nat} {bf : ab_B} : decode (ab_code (zx σ n0 bf).1 8010) 46 = .ok (.return_, 1) := zd zm_8010 (by decide +kernel)
def w_X9_openNames_36 (X : zs_X) (d : Nat) (p0 : Nat) (S : zs_T) (Q : zs_Q) : Prop :=
  (zs_K S p0 = some (.inl 8) ∧ ab_n0 X.1 ≤ p0 ∧ ∀ S3, S3 = zs_sI S 8034 p0 ((zs_I S 8034 p0) + (1 : Int32)) → Q (.returned none) S3)
theorem u_X9_openNames_36 {σ : Nat → Nat} {n0 : Nat} {bf : ab_B} {d : Nat} {p0 : Nat} {S : zs_T} {Q : zs_Q} (hB : zt_B bf) (h : w_X9_openNames_36 (zx σ n0 bf) d p0 S Q) : zs_U (zx σ n0 bf) d 8010 36 [(0, .ref p0)] [] S Q := by
  unfold w_X9_openNames_36 at h
  refine zu_aload_n d_8010_36 rfl (zs_ra _) ?_
  refine zu_dup d_8010_37 rfl ?_
  obtain ⟨k1, h⟩ := h
  refine zg_8_547 rfl d_8010_38 k1 ?_
  refine zu_iconst d_8010_41 zi_1 ?_
  refine zu_stk d_8010_42 rfl rfl ?_
  obtain ⟨k2, h⟩ := h
  refine zp_8_547 (v := ((zs_I S 8034 p0) + (1 : Int32))) rfl d_8010_43 k1 k2 ?_
  generalize e4 : zs_sI S 8034 p0 ((zs_I S 8034 p0) + (1 : Int32)) = S3
  have h := h S3 e4.symm
  have K5 : ∀ b, zs_K S3 b = zs_K S b := zs_Kt e4 (zs_KsI _ _ _ _) (fun _ => rfl)
  exact zu_vret d_8010_46 zr_8010 h
def w_X9_openNames (X : zs_X) (d : Nat) (p0 : Nat) (S : zs_T) (Q : zs_Q) : Prop :=
  (zs_K S p0 = some (.inl 8) ∧ ∃ b2, (zs_R S 8032 p0) = some b2 ∧ zs_A S b2 0 (zs_I S 8034 p0) ∧ ab_n0 X.1 ≤ b2 ∧ ∀ S6, S6 = zs_si S b2 (zs_I S 8034 p0).toNatClampNeg (zs_I S 8031 p0) → ab_n0 X.1 ≤ p0 ∧ ∀ S10, S10 = zs_sI S6 8035 p0 ((zs_I S6 8035 p0) + (1 : Int32)) → ∃ b13, (zs_R S10 8033 p0) = some b13 ∧ zs_A S b13 0 (zs_I S10 8034 p0) ∧ ab_n0 X.1 ≤ b13 ∧ ∀ S17, S17 = zs_si S10 b13 (zs_I S10 8034 p0).toNatClampNeg (zs_I S10 8035 p0) → w_X9_openNames_36 X d p0 S17 Q)
theorem u_X9_openNames {σ : Nat → Nat} {n0 : Nat} {bf : ab_B} {d : Nat} {p0 : Nat} {S : zs_T} {Q : zs_Q} (hB : zt_B bf) (hd : 1 ≤ d) (h : w_X9_openNames (zx σ n0 bf) (d - 1) p0 S Q) : zs_C (zx σ n0 bf) d 8010 [.ref p0] S Q := by
  have hL : lv_args 0 [.ref p0] = [(0, .ref p0)] := rfl
  refine zs_C.of1 (hB.2 8010 (by decide) (by decide)) hd (by rw [hL]; exact zs_sub_self _ (by exact ⟨rfl, trivial⟩)) ?_
  rw [hL]
  clear hL
  unfold w_X9_openNames at h
  refine zu_aload_n d_8010_0 rfl (zs_ra _) ?_
  obtain ⟨k1, h⟩ := h
  refine zg_8_65 rfl d_8010_1 k1 ?_
  refine zu_aload_n d_8010_4 rfl (zs_ra _) ?_
  refine zg_8_547 rfl d_8010_5 k1 ?_
  refine zu_aload_n d_8010_8 rfl (zs_ra _) ?_
  refine zg_8_550 rfl d_8010_9 k1 ?_
  obtain ⟨b2, e3, h⟩ := h
  refine zs_stk2 (zs_rfe e3) ?_
  obtain ⟨k4, h⟩ := h
  obtain ⟨k5, h⟩ := h
  refine zu_iast (k := 0) d_8010_12 rfl rfl k5 k4 ?_
  generalize e7 : zs_si S b2 (zs_I S 8034 p0).toNatClampNeg (zs_I S 8031 p0) = S6
  have h := h S6 e7.symm
  have K8 : ∀ b, zs_K S6 b = zs_K S b := zs_Kt e7 (zs_Ksi _ _ _ _) (fun _ => rfl)
  refine zu_aload_n d_8010_13 rfl (zs_ra _) ?_
  refine zu_dup d_8010_14 rfl ?_
  refine zg_8_553 rfl d_8010_15 ((K8 _).trans k1) ?_
  refine zu_iconst d_8010_18 zi_1 ?_
  refine zu_stk d_8010_19 rfl rfl ?_
  obtain ⟨k9, h⟩ := h
  refine zp_8_553 (v := ((zs_I S6 8035 p0) + (1 : Int32))) rfl d_8010_20 ((K8 _).trans k1) k9 ?_
  generalize e11 : zs_sI S6 8035 p0 ((zs_I S6 8035 p0) + (1 : Int32)) = S10
  have h := h S10 e11.symm
  have K12 : ∀ b, zs_K S10 b = zs_K S b := zs_Kt e11 (zs_KsI _ _ _ _) K8
  refine zu_aload_n d_8010_23 rfl (zs_ra _) ?_
  refine zg_8_68 rfl d_8010_24 ((K12 _).trans k1) ?_
  refine zu_aload_n d_8010_27 rfl (zs_ra _) ?_
  refine zg_8_547 rfl d_8010_28 ((K12 _).trans k1) ?_
  refine zu_aload_n d_8010_31 rfl (zs_ra _) ?_
  refine zg_8_553 rfl d_8010_32 ((K12 _).trans k1) ?_
  obtain ⟨b13, e14, h⟩ := h
  refine zs_stk2 (zs_rfe e14) ?_
  obtain ⟨k15, h⟩ := h
  obtain ⟨k16, h⟩ := h
  refine zu_iast (k := 0) d_8010_35 rfl rfl k16 (zs_Ak K12 k15) ?_
  generalize e18 : zs_si S10 b13 (zs_I S10 8034 p0).toNatClampNeg (zs_I S10 8035 p0) = S17
  have h := h S17 e18.symm
  have K19 : ∀ b, zs_K S17 b = zs_K S b := zs_Kt e18 (zs_Ksi _ _ _ _) K12
  exact (u_X9_openNames_36 hB h).weak ⟨rfl, trivial⟩
/-! SchemaPascalModel.tell(IIIII)I -/
theorem zm_8011 {σ : Nat → Nat} {n0 : Nat} {bf : ab_B} : ab_code (zx σ n0 bf).1 8011 = prog_17_method_25_code := rfl
theorem zq_8011 {σ : Nat → Nat} {n0 : Nat} {bf : ab_B} : ab_maxL (zx σ n0 bf).1 8011 = 6 := rfl
theorem zr_8011 {σ : Nat → Nat} {n0 : Nat} {bf : ab_B} : ab_ret (zx σ n0 bf).1 8011 = (Option.some Jvm.ClassFile.FieldType.int) := rfl
theorem d_8011_0 {σ : Nat → Nat} {n0 : Nat} {bf : ab_B} : decode (ab_code (zx σ n0 bf).1 8011) 0 = .ok (.aload_n 0, 1) := zd zm_8011 (by decide +kernel)
theorem d_8011_1 {σ : Nat → Nat} {n0 : Nat} {bf : ab_B} : decode (ab_code (zx σ n0 bf).1 8011) 1 = .ok (.dup, 1) := zd zm_8011 (by decide +kernel)
theorem d_8011_2 {σ : Nat → Nat} {n0 : Nat} {bf : ab_B} : decode (ab_code (zx σ n0 bf).1 8011) 2 = .ok (.getfield 550, 3) := zd zm_8011 (by decide +kernel)
theorem d_8011_5 {σ : Nat → Nat} {n0 : Nat} {bf : ab_B} : decode (ab_code (zx σ n0 bf).1 8011) 5 = .ok (.iconst 1, 1) := zd zm_8011 (by decide +kernel)
theorem d_8011_6 {σ : Nat → Nat} {n0 : Nat} {bf : ab_B} : decode (ab_code (zx σ n0 bf).1 8011) 6 = .ok (.iadd, 1) := zd zm_8011 (by decide +kernel)
theorem d_8011_7 {σ : Nat → Nat} {n0 : Nat} {bf : ab_B} : decode (ab_code (zx σ n0 bf).1 8011) 7 = .ok (.putfield 550, 3) := zd zm_8011 (by decide +kernel)
theorem d_8011_10 {σ : Nat → Nat} {n0 : Nat} {bf : ab_B} : decode (ab_code (zx σ n0 bf).1 8011) 10 = .ok (.aload_n 0, 1) := zd zm_8011 (by decide +kernel)
theorem d_8011_11 {σ : Nat → Nat} {n0 : Nat} {bf : ab_B} : decode (ab_code (zx σ n0 bf).1 8011) 11 = .ok (.getfield 44, 3) := zd zm_8011 (by decide +kernel)
theorem d_8011_14 {σ : Nat → Nat} {n0 : Nat} {bf : ab_B} : decode (ab_code (zx σ n0 bf).1 8011) 14 = .ok (.aload_n 0, 1) := zd zm_8011 (by decide +kernel)
theorem d_8011_15 {σ : Nat → Nat} {n0 : Nat} {bf : ab_B} : decode (ab_code (zx σ n0 bf).1 8011) 15 = .ok (.getfield 550, 3) := zd zm_8011 (by decide +kernel)
theorem d_8011_18 {σ : Nat → Nat} {n0 : Nat} {bf : ab_B} : decode (ab_code (zx σ n0 bf).1 8011) 18 = .ok (.iload_n 2, 1) := zd zm_8011 (by decide +kernel)
theorem d_8011_19 {σ : Nat → Nat} {n0 : Nat} {bf : ab_B} : decode (ab_code (zx σ n0 bf).1 8011) 19 = .ok (.i2b, 1) := zd zm_8011 (by decide +kernel)
theorem d_8011_20 {σ : Nat → Nat} {n0 : Nat} {bf : ab_B} : decode (ab_code (zx σ n0 bf).1 8011) 20 = .ok (.bastore, 1) := zd zm_8011 (by decide +kernel)
theorem d_8011_21 {σ : Nat → Nat} {n0 : Nat} {bf : ab_B} : decode (ab_code (zx σ n0 bf).1 8011) 21 = .ok (.aload_n 0, 1) := zd zm_8011 (by decide +kernel)
theorem d_8011_22 {σ : Nat → Nat} {n0 : Nat} {bf : ab_B} : decode (ab_code (zx σ n0 bf).1 8011) 22 = .ok (.getfield 47, 3) := zd zm_8011 (by decide +kernel)
theorem d_8011_25 {σ : Nat → Nat} {n0 : Nat} {bf : ab_B} : decode (ab_code (zx σ n0 bf).1 8011) 25 = .ok (.aload_n 0, 1) := zd zm_8011 (by decide +kernel)
theorem d_8011_26 {σ : Nat → Nat} {n0 : Nat} {bf : ab_B} : decode (ab_code (zx σ n0 bf).1 8011) 26 = .ok (.getfield 550, 3) := zd zm_8011 (by decide +kernel)
theorem d_8011_29 {σ : Nat → Nat} {n0 : Nat} {bf : ab_B} : decode (ab_code (zx σ n0 bf).1 8011) 29 = .ok (.iload_n 1, 1) := zd zm_8011 (by decide +kernel)
theorem d_8011_30 {σ : Nat → Nat} {n0 : Nat} {bf : ab_B} : decode (ab_code (zx σ n0 bf).1 8011) 30 = .ok (.iastore, 1) := zd zm_8011 (by decide +kernel)
theorem d_8011_31 {σ : Nat → Nat} {n0 : Nat} {bf : ab_B} : decode (ab_code (zx σ n0 bf).1 8011) 31 = .ok (.aload_n 0, 1) := zd zm_8011 (by decide +kernel)
theorem d_8011_32 {σ : Nat → Nat} {n0 : Nat} {bf : ab_B} : decode (ab_code (zx σ n0 bf).1 8011) 32 = .ok (.getfield 50, 3) := zd zm_8011 (by decide +kernel)
theorem d_8011_35 {σ : Nat → Nat} {n0 : Nat} {bf : ab_B} : decode (ab_code (zx σ n0 bf).1 8011) 35 = .ok (.aload_n 0, 1) := zd zm_8011 (by decide +kernel)
theorem d_8011_36 {σ : Nat → Nat} {n0 : Nat} {bf : ab_B} : decode (ab_code (zx σ n0 bf).1 8011) 36 = .ok (.getfield 550, 3) := zd zm_8011 (by decide +kernel)
theorem d_8011_39 {σ : Nat → Nat} {n0 : Nat} {bf : ab_B} : decode (ab_code (zx σ n0 bf).1 8011) 39 = .ok (.iload_n 3, 1) := zd zm_8011 (by decide +kernel)
theorem d_8011_40 {σ : Nat → Nat} {n0 : Nat} {bf : ab_B} : decode (ab_code (zx σ n0 bf).1 8011) 40 = .ok (.iastore, 1) := zd zm_8011 (by decide +kernel)
theorem d_8011_41 {σ : Nat → Nat} {n0 : Nat} {bf : ab_B} : decode (ab_code (zx σ n0 bf).1 8011) 41 = .ok (.aload_n 0, 1) := zd zm_8011 (by decide +kernel)
theorem d_8011_42 {σ : Nat → Nat} {n0 : Nat} {bf : ab_B} : decode (ab_code (zx σ n0 bf).1 8011) 42 = .ok (.getfield 53, 3) := zd zm_8011 (by decide +kernel)
theorem d_8011_45 {σ : Nat → Nat} {n0 : Nat} {bf : ab_B} : decode (ab_code (zx σ n0 bf).1 8011) 45 = .ok (.aload_n 0, 1) := zd zm_8011 (by decide +kernel)
theorem d_8011_46 {σ : Nat → Nat} {n0 : Nat} {bf : ab_B} : decode (ab_code (zx σ n0 bf).1 8011) 46 = .ok (.getfield 550, 3) := zd zm_8011 (by decide +kernel)
theorem d_8011_49 {σ : Nat → Nat} {n0 : Nat} {bf : ab_B} : decode (ab_code (zx σ n0 bf).1 8011) 49 = .ok (.iload 4, 2) := zd zm_8011 (by decide +kernel)
theorem d_8011_51 {σ : Nat → Nat} {n0 : Nat} {bf : ab_B} : decode (ab_code (zx σ n0 bf).1 8011) 51 = .ok (.iastore, 1) := zd zm_8011 (by decide +kernel)
theorem d_8011_52 {σ : Nat → Nat} {n0 : Nat} {bf : ab_B} : decode (ab_code (zx σ n0 bf).1 8011) 52 = .ok (.aload_n 0, 1) := zd zm_8011 (by decide +kernel)
theorem d_8011_53 {σ : Nat → Nat} {n0 : Nat} {bf : ab_B} : decode (ab_code (zx σ n0 bf).1 8011) 53 = .ok (.getfield 56, 3) := zd zm_8011 (by decide +kernel)
theorem d_8011_56 {σ : Nat → Nat} {n0 : Nat} {bf : ab_B} : decode (ab_code (zx σ n0 bf).1 8011) 56 = .ok (.aload_n 0, 1) := zd zm_8011 (by decide +kernel)
theorem d_8011_57 {σ : Nat → Nat} {n0 : Nat} {bf : ab_B} : decode (ab_code (zx σ n0 bf).1 8011) 57 = .ok (.getfield 550, 3) := zd zm_8011 (by decide +kernel)
theorem d_8011_60 {σ : Nat → Nat} {n0 : Nat} {bf : ab_B} : decode (ab_code (zx σ n0 bf).1 8011) 60 = .ok (.iload 5, 2) := zd zm_8011 (by decide +kernel)
theorem d_8011_62 {σ : Nat → Nat} {n0 : Nat} {bf : ab_B} : decode (ab_code (zx σ n0 bf).1 8011) 62 = .ok (.iastore, 1) := zd zm_8011 (by decide +kernel)
theorem d_8011_63 {σ : Nat → Nat} {n0 : Nat} {bf : ab_B} : decode (ab_code (zx σ n0 bf).1 8011) 63 = .ok (.aload_n 0, 1) := zd zm_8011 (by decide +kernel)
theorem d_8011_64 {σ : Nat → Nat} {n0 : Nat} {bf : ab_B} : decode (ab_code (zx σ n0 bf).1 8011) 64 = .ok (.getfield 59, 3) := zd zm_8011 (by decide +kernel)
theorem d_8011_67 {σ : Nat → Nat} {n0 : Nat} {bf : ab_B} : decode (ab_code (zx σ n0 bf).1 8011) 67 = .ok (.aload_n 0, 1) := zd zm_8011 (by decide +kernel)
theorem d_8011_68 {σ : Nat → Nat} {n0 : Nat} {bf : ab_B} : decode (ab_code (zx σ n0 bf).1 8011) 68 = .ok (.getfield 550, 3) := zd zm_8011 (by decide +kernel)
theorem d_8011_71 {σ : Nat → Nat} {n0 : Nat} {bf : ab_B} : decode (ab_code (zx σ n0 bf).1 8011) 71 = .ok (.aload_n 0, 1) := zd zm_8011 (by decide +kernel)
theorem d_8011_72 {σ : Nat → Nat} {n0 : Nat} {bf : ab_B} : decode (ab_code (zx σ n0 bf).1 8011) 72 = .ok (.getfield 37, 3) := zd zm_8011 (by decide +kernel)
theorem d_8011_75 {σ : Nat → Nat} {n0 : Nat} {bf : ab_B} : decode (ab_code (zx σ n0 bf).1 8011) 75 = .ok (.iload_n 1, 1) := zd zm_8011 (by decide +kernel)
theorem d_8011_76 {σ : Nat → Nat} {n0 : Nat} {bf : ab_B} : decode (ab_code (zx σ n0 bf).1 8011) 76 = .ok (.iaload, 1) := zd zm_8011 (by decide +kernel)
theorem d_8011_77 {σ : Nat → Nat} {n0 : Nat} {bf : ab_B} : decode (ab_code (zx σ n0 bf).1 8011) 77 = .ok (.iastore, 1) := zd zm_8011 (by decide +kernel)
theorem d_8011_78 {σ : Nat → Nat} {n0 : Nat} {bf : ab_B} : decode (ab_code (zx σ n0 bf).1 8011) 78 = .ok (.aload_n 0, 1) := zd zm_8011 (by decide +kernel)
theorem d_8011_79 {σ : Nat → Nat} {n0 : Nat} {bf : ab_B} : decode (ab_code (zx σ n0 bf).1 8011) 79 = .ok (.getfield 62, 3) := zd zm_8011 (by decide +kernel)
theorem d_8011_82 {σ : Nat → Nat} {n0 : Nat} {bf : ab_B} : decode (ab_code (zx σ n0 bf).1 8011) 82 = .ok (.aload_n 0, 1) := zd zm_8011 (by decide +kernel)
theorem d_8011_83 {σ : Nat → Nat} {n0 : Nat} {bf : ab_B} : decode (ab_code (zx σ n0 bf).1 8011) 83 = .ok (.getfield 550, 3) := zd zm_8011 (by decide +kernel)
theorem d_8011_86 {σ : Nat → Nat} {n0 : Nat} {bf : ab_B} : decode (ab_code (zx σ n0 bf).1 8011) 86 = .ok (.aload_n 0, 1) := zd zm_8011 (by decide +kernel)
theorem d_8011_87 {σ : Nat → Nat} {n0 : Nat} {bf : ab_B} : decode (ab_code (zx σ n0 bf).1 8011) 87 = .ok (.getfield 68, 3) := zd zm_8011 (by decide +kernel)
theorem d_8011_90 {σ : Nat → Nat} {n0 : Nat} {bf : ab_B} : decode (ab_code (zx σ n0 bf).1 8011) 90 = .ok (.aload_n 0, 1) := zd zm_8011 (by decide +kernel)
theorem d_8011_91 {σ : Nat → Nat} {n0 : Nat} {bf : ab_B} : decode (ab_code (zx σ n0 bf).1 8011) 91 = .ok (.getfield 547, 3) := zd zm_8011 (by decide +kernel)
theorem d_8011_94 {σ : Nat → Nat} {n0 : Nat} {bf : ab_B} : decode (ab_code (zx σ n0 bf).1 8011) 94 = .ok (.iconst 1, 1) := zd zm_8011 (by decide +kernel)
theorem d_8011_95 {σ : Nat → Nat} {n0 : Nat} {bf : ab_B} : decode (ab_code (zx σ n0 bf).1 8011) 95 = .ok (.isub, 1) := zd zm_8011 (by decide +kernel)
theorem d_8011_96 {σ : Nat → Nat} {n0 : Nat} {bf : ab_B} : decode (ab_code (zx σ n0 bf).1 8011) 96 = .ok (.iaload, 1) := zd zm_8011 (by decide +kernel)
theorem d_8011_97 {σ : Nat → Nat} {n0 : Nat} {bf : ab_B} : decode (ab_code (zx σ n0 bf).1 8011) 97 = .ok (.iastore, 1) := zd zm_8011 (by decide +kernel)
theorem d_8011_98 {σ : Nat → Nat} {n0 : Nat} {bf : ab_B} : decode (ab_code (zx σ n0 bf).1 8011) 98 = .ok (.aload_n 0, 1) := zd zm_8011 (by decide +kernel)
theorem d_8011_99 {σ : Nat → Nat} {n0 : Nat} {bf : ab_B} : decode (ab_code (zx σ n0 bf).1 8011) 99 = .ok (.getfield 37, 3) := zd zm_8011 (by decide +kernel)
theorem d_8011_102 {σ : Nat → Nat} {n0 : Nat} {bf : ab_B} : decode (ab_code (zx σ n0 bf).1 8011) 102 = .ok (.iload_n 1, 1) := zd zm_8011 (by decide +kernel)
theorem d_8011_103 {σ : Nat → Nat} {n0 : Nat} {bf : ab_B} : decode (ab_code (zx σ n0 bf).1 8011) 103 = .ok (.aload_n 0, 1) := zd zm_8011 (by decide +kernel)
theorem d_8011_104 {σ : Nat → Nat} {n0 : Nat} {bf : ab_B} : decode (ab_code (zx σ n0 bf).1 8011) 104 = .ok (.getfield 550, 3) := zd zm_8011 (by decide +kernel)
theorem d_8011_107 {σ : Nat → Nat} {n0 : Nat} {bf : ab_B} : decode (ab_code (zx σ n0 bf).1 8011) 107 = .ok (.iastore, 1) := zd zm_8011 (by decide +kernel)
theorem d_8011_108 {σ : Nat → Nat} {n0 : Nat} {bf : ab_B} : decode (ab_code (zx σ n0 bf).1 8011) 108 = .ok (.aload_n 0, 1) := zd zm_8011 (by decide +kernel)
theorem d_8011_109 {σ : Nat → Nat} {n0 : Nat} {bf : ab_B} : decode (ab_code (zx σ n0 bf).1 8011) 109 = .ok (.getfield 550, 3) := zd zm_8011 (by decide +kernel)
theorem d_8011_112 {σ : Nat → Nat} {n0 : Nat} {bf : ab_B} : decode (ab_code (zx σ n0 bf).1 8011) 112 = .ok (.ireturn, 1) := zd zm_8011 (by decide +kernel)
def w_X9_tell_98 (X : zs_X) (d : Nat) (p0 : Nat) (p1 : Int32) (S : zs_T) (Q : zs_Q) : Prop :=
  (zs_K S p0 = some (.inl 8) ∧ ∃ b2, (zs_R S 8019 p0) = some b2 ∧ zs_A S b2 0 p1 ∧ ab_n0 X.1 ≤ b2 ∧ ∀ S6, S6 = zs_si S b2 p1.toNatClampNeg (zs_I S 8031 p0) → Q (.returned (some (.int (zs_I S6 8031 p0)))) S6)
theorem u_X9_tell_98 {σ : Nat → Nat} {n0 : Nat} {bf : ab_B} {d : Nat} {p0 : Nat} {p1 : Int32} {S : zs_T} {Q : zs_Q} (hB : zt_B bf) (h : w_X9_tell_98 (zx σ n0 bf) d p0 p1 S Q) : zs_U (zx σ n0 bf) d 8011 98 [(0, .ref p0), (1, .int p1)] [] S Q := by
  unfold w_X9_tell_98 at h
  refine zu_aload_n d_8011_98 rfl (zs_ra _) ?_
  obtain ⟨k1, h⟩ := h
  refine zg_8_37 rfl d_8011_99 k1 ?_
  refine zu_iload_n d_8011_102 rfl ?_
  refine zu_aload_n d_8011_103 rfl (zs_ra _) ?_
  refine zg_8_550 rfl d_8011_104 k1 ?_
  obtain ⟨b2, e3, h⟩ := h
  refine zs_stk2 (zs_rfe e3) ?_
  obtain ⟨k4, h⟩ := h
  obtain ⟨k5, h⟩ := h
  refine zu_iast (k := 0) d_8011_107 rfl rfl k5 k4 ?_
  generalize e7 : zs_si S b2 p1.toNatClampNeg (zs_I S 8031 p0) = S6
  have h := h S6 e7.symm
  have K8 : ∀ b, zs_K S6 b = zs_K S b := zs_Kt e7 (zs_Ksi _ _ _ _) (fun _ => rfl)
  refine zu_aload_n d_8011_108 rfl (zs_ra _) ?_
  refine zg_8_550 rfl d_8011_109 ((K8 _).trans k1) ?_
  exact zu_iret d_8011_112 zr_8011 rfl h
def w_X9_tell_63 (X : zs_X) (d : Nat) (p0 : Nat) (p1 : Int32) (S : zs_T) (Q : zs_Q) : Prop :=
  (zs_K S p0 = some (.inl 8) ∧ ∃ b2, (zs_R S 8019 p0) = some b2 ∧ zs_A S b2 0 p1 ∧ ∃ b5, (zs_R S 8029 p0) = some b5 ∧ zs_A S b5 0 (zs_I S 8031 p0) ∧ ab_n0 X.1 ≤ b5 ∧ ∀ S9, S9 = zs_si S b5 (zs_I S 8031 p0).toNatClampNeg (zs_i S b2 p1.toNatClampNeg) → ∃ b12, (zs_R S9 8033 p0) = some b12 ∧ zs_A S b12 0 ((zs_I S9 8034 p0) - (1 : Int32)) ∧ ∃ b15, (zs_R S9 8030 p0) = some b15 ∧ zs_A S b15 0 (zs_I S9 8031 p0) ∧ ab_n0 X.1 ≤ b15 ∧ ∀ S19, S19 = zs_si S9 b15 (zs_I S9 8031 p0).toNatClampNeg (zs_i S9 b12 ((zs_I S9 8034 p0) - (1 : Int32)).toNatClampNeg) → w_X9_tell_98 X d p0 p1 S19 Q)
theorem u_X9_tell_63 {σ : Nat → Nat} {n0 : Nat} {bf : ab_B} {d : Nat} {p0 : Nat} {p1 : Int32} {S : zs_T} {Q : zs_Q} (hB : zt_B bf) (h : w_X9_tell_63 (zx σ n0 bf) d p0 p1 S Q) : zs_U (zx σ n0 bf) d 8011 63 [(0, .ref p0), (1, .int p1)] [] S Q := by
  unfold w_X9_tell_63 at h
  refine zu_aload_n d_8011_63 rfl (zs_ra _) ?_
  obtain ⟨k1, h⟩ := h
  refine zg_8_59 rfl d_8011_64 k1 ?_
  refine zu_aload_n d_8011_67 rfl (zs_ra _) ?_
  refine zg_8_550 rfl d_8011_68 k1 ?_
  refine zu_aload_n d_8011_71 rfl (zs_ra _) ?_
  refine zg_8_37 rfl d_8011_72 k1 ?_
  refine zu_iload_n d_8011_75 rfl ?_
  obtain ⟨b2, e3, h⟩ := h
  refine zs_stk1 (zs_rfe e3) ?_
  obtain ⟨k4, h⟩ := h
  refine zu_iald (k := 0) d_8011_76 rfl rfl k4 ?_
  obtain ⟨b5, e6, h⟩ := h
  refine zs_stk2 (zs_rfe e6) ?_
  obtain ⟨k7, h⟩ := h
  obtain ⟨k8, h⟩ := h
  refine zu_iast (k := 0) d_8011_77 rfl rfl k8 k7 ?_
  generalize e10 : zs_si S b5 (zs_I S 8031 p0).toNatClampNeg (zs_i S b2 p1.toNatClampNeg) = S9
  have h := h S9 e10.symm
  have K11 : ∀ b, zs_K S9 b = zs_K S b := zs_Kt e10 (zs_Ksi _ _ _ _) (fun _ => rfl)
  refine zu_aload_n d_8011_78 rfl (zs_ra _) ?_
  refine zg_8_62 rfl d_8011_79 ((K11 _).trans k1) ?_
  refine zu_aload_n d_8011_82 rfl (zs_ra _) ?_
  refine zg_8_550 rfl d_8011_83 ((K11 _).trans k1) ?_
  refine zu_aload_n d_8011_86 rfl (zs_ra _) ?_
  refine zg_8_68 rfl d_8011_87 ((K11 _).trans k1) ?_
  refine zu_aload_n d_8011_90 rfl (zs_ra _) ?_
  refine zg_8_547 rfl d_8011_91 ((K11 _).trans k1) ?_
  refine zu_iconst d_8011_94 zi_1 ?_
  refine zu_stk d_8011_95 rfl rfl ?_
  obtain ⟨b12, e13, h⟩ := h
  refine zs_stk1 (zs_rfe e13) ?_
  obtain ⟨k14, h⟩ := h
  refine zu_iald (k := 0) d_8011_96 rfl rfl (zs_Ak K11 k14) ?_
  obtain ⟨b15, e16, h⟩ := h
  refine zs_stk2 (zs_rfe e16) ?_
  obtain ⟨k17, h⟩ := h
  obtain ⟨k18, h⟩ := h
  refine zu_iast (k := 0) d_8011_97 rfl rfl k18 (zs_Ak K11 k17) ?_
  generalize e20 : zs_si S9 b15 (zs_I S9 8031 p0).toNatClampNeg (zs_i S9 b12 ((zs_I S9 8034 p0) - (1 : Int32)).toNatClampNeg) = S19
  have h := h S19 e20.symm
  have K21 : ∀ b, zs_K S19 b = zs_K S b := zs_Kt e20 (zs_Ksi _ _ _ _) K11
  exact (u_X9_tell_98 hB h).weak ⟨rfl, rfl, trivial⟩
def w_X9_tell_31 (X : zs_X) (d : Nat) (p0 : Nat) (p1 : Int32) (p3 : Int32) (p4 : Int32) (p5 : Int32) (S : zs_T) (Q : zs_Q) : Prop :=
  (zs_K S p0 = some (.inl 8) ∧ ∃ b2, (zs_R S 8026 p0) = some b2 ∧ zs_A S b2 0 (zs_I S 8031 p0) ∧ ab_n0 X.1 ≤ b2 ∧ ∀ S6, S6 = zs_si S b2 (zs_I S 8031 p0).toNatClampNeg p3 → ∃ b9, (zs_R S6 8027 p0) = some b9 ∧ zs_A S b9 0 (zs_I S6 8031 p0) ∧ ab_n0 X.1 ≤ b9 ∧ ∀ S13, S13 = zs_si S6 b9 (zs_I S6 8031 p0).toNatClampNeg p4 → ∃ b16, (zs_R S13 8028 p0) = some b16 ∧ zs_A S b16 0 (zs_I S13 8031 p0) ∧ ab_n0 X.1 ≤ b16 ∧ ∀ S20, S20 = zs_si S13 b16 (zs_I S13 8031 p0).toNatClampNeg p5 → w_X9_tell_63 X d p0 p1 S20 Q)
theorem u_X9_tell_31 {σ : Nat → Nat} {n0 : Nat} {bf : ab_B} {d : Nat} {p0 : Nat} {p1 : Int32} {p3 : Int32} {p4 : Int32} {p5 : Int32} {S : zs_T} {Q : zs_Q} (hB : zt_B bf) (h : w_X9_tell_31 (zx σ n0 bf) d p0 p1 p3 p4 p5 S Q) : zs_U (zx σ n0 bf) d 8011 31 [(0, .ref p0), (1, .int p1), (3, .int p3), (4, .int p4), (5, .int p5)] [] S Q := by
  unfold w_X9_tell_31 at h
  refine zu_aload_n d_8011_31 rfl (zs_ra _) ?_
  obtain ⟨k1, h⟩ := h
  refine zg_8_50 rfl d_8011_32 k1 ?_
  refine zu_aload_n d_8011_35 rfl (zs_ra _) ?_
  refine zg_8_550 rfl d_8011_36 k1 ?_
  refine zu_iload_n d_8011_39 rfl ?_
  obtain ⟨b2, e3, h⟩ := h
  refine zs_stk2 (zs_rfe e3) ?_
  obtain ⟨k4, h⟩ := h
  obtain ⟨k5, h⟩ := h
  refine zu_iast (k := 0) d_8011_40 rfl rfl k5 k4 ?_
  generalize e7 : zs_si S b2 (zs_I S 8031 p0).toNatClampNeg p3 = S6
  have h := h S6 e7.symm
  have K8 : ∀ b, zs_K S6 b = zs_K S b := zs_Kt e7 (zs_Ksi _ _ _ _) (fun _ => rfl)
  refine zu_aload_n d_8011_41 rfl (zs_ra _) ?_
  refine zg_8_53 rfl d_8011_42 ((K8 _).trans k1) ?_
  refine zu_aload_n d_8011_45 rfl (zs_ra _) ?_
  refine zg_8_550 rfl d_8011_46 ((K8 _).trans k1) ?_
  refine zu_iload d_8011_49 rfl ?_
  obtain ⟨b9, e10, h⟩ := h
  refine zs_stk2 (zs_rfe e10) ?_
  obtain ⟨k11, h⟩ := h
  obtain ⟨k12, h⟩ := h
  refine zu_iast (k := 0) d_8011_51 rfl rfl k12 (zs_Ak K8 k11) ?_
  generalize e14 : zs_si S6 b9 (zs_I S6 8031 p0).toNatClampNeg p4 = S13
  have h := h S13 e14.symm
  have K15 : ∀ b, zs_K S13 b = zs_K S b := zs_Kt e14 (zs_Ksi _ _ _ _) K8
  refine zu_aload_n d_8011_52 rfl (zs_ra _) ?_
  refine zg_8_56 rfl d_8011_53 ((K15 _).trans k1) ?_
  refine zu_aload_n d_8011_56 rfl (zs_ra _) ?_
  refine zg_8_550 rfl d_8011_57 ((K15 _).trans k1) ?_
  refine zu_iload d_8011_60 rfl ?_
  obtain ⟨b16, e17, h⟩ := h
  refine zs_stk2 (zs_rfe e17) ?_
  obtain ⟨k18, h⟩ := h
  obtain ⟨k19, h⟩ := h
  refine zu_iast (k := 0) d_8011_62 rfl rfl k19 (zs_Ak K15 k18) ?_
  generalize e21 : zs_si S13 b16 (zs_I S13 8031 p0).toNatClampNeg p5 = S20
  have h := h S20 e21.symm
  have K22 : ∀ b, zs_K S20 b = zs_K S b := zs_Kt e21 (zs_Ksi _ _ _ _) K15
  exact (u_X9_tell_63 hB h).weak ⟨rfl, rfl, trivial⟩
def w_X9_tell (X : zs_X) (d : Nat) (p0 : Nat) (p1 : Int32) (p2 : Int32) (p3 : Int32) (p4 : Int32) (p5 : Int32) (S : zs_T) (Q : zs_Q) : Prop :=
  (zs_K S p0 = some (.inl 8) ∧ ab_n0 X.1 ≤ p0 ∧ ∀ S3, S3 = zs_sI S 8031 p0 ((zs_I S 8031 p0) + (1 : Int32)) → ∃ b6, (zs_R S3 8024 p0) = some b6 ∧ zs_A S b6 1 (zs_I S3 8031 p0) ∧ ab_n0 X.1 ≤ b6 ∧ ∀ S10, S10 = zs_si S3 b6 (zs_I S3 8031 p0).toNatClampNeg (vp_nar .byte ((p2).toInt8.toInt32)) → ∃ b13, (zs_R S10 8025 p0) = some b13 ∧ zs_A S b13 0 (zs_I S10 8031 p0) ∧ ab_n0 X.1 ≤ b13 ∧ ∀ S17, S17 = zs_si S10 b13 (zs_I S10 8031 p0).toNatClampNeg p1 → w_X9_tell_31 X d p0 p1 p3 p4 p5 S17 Q)
theorem u_X9_tell {σ : Nat → Nat} {n0 : Nat} {bf : ab_B} {d : Nat} {p0 : Nat} {p1 : Int32} {p2 : Int32} {p3 : Int32} {p4 : Int32} {p5 : Int32} {S : zs_T} {Q : zs_Q} (hB : zt_B bf) (hd : 1 ≤ d) (h : w_X9_tell (zx σ n0 bf) (d - 1) p0 p1 p2 p3 p4 p5 S Q) : zs_C (zx σ n0 bf) d 8011 [.ref p0, .int p1, .int p2, .int p3, .int p4, .int p5] S Q := by
  have hL : lv_args 0 [.ref p0, .int p1, .int p2, .int p3, .int p4, .int p5] = [(0, .ref p0), (1, .int p1), (2, .int p2), (3, .int p3), (4, .int p4), (5, .int p5)] := rfl
  refine zs_C.of1 (hB.2 8011 (by decide) (by decide)) hd (by rw [hL]; exact zs_sub_self _ (by exact ⟨rfl, rfl, rfl, rfl, rfl, rfl, trivial⟩)) ?_
  rw [hL]
  clear hL
  unfold w_X9_tell at h
  refine zu_aload_n d_8011_0 rfl (zs_ra _) ?_
  refine zu_dup d_8011_1 rfl ?_
  obtain ⟨k1, h⟩ := h
  refine zg_8_550 rfl d_8011_2 k1 ?_
  refine zu_iconst d_8011_5 zi_1 ?_
  refine zu_stk d_8011_6 rfl rfl ?_
  obtain ⟨k2, h⟩ := h
  refine zp_8_550 (v := ((zs_I S 8031 p0) + (1 : Int32))) rfl d_8011_7 k1 k2 ?_
  generalize e4 : zs_sI S 8031 p0 ((zs_I S 8031 p0) + (1 : Int32)) = S3
  have h := h S3 e4.symm
  have K5 : ∀ b, zs_K S3 b = zs_K S b := zs_Kt e4 (zs_KsI _ _ _ _) (fun _ => rfl)
  refine zu_aload_n d_8011_10 rfl (zs_ra _) ?_
  refine zg_8_44 rfl d_8011_11 ((K5 _).trans k1) ?_
  refine zu_aload_n d_8011_14 rfl (zs_ra _) ?_
  refine zg_8_550 rfl d_8011_15 ((K5 _).trans k1) ?_
  refine zu_iload_n d_8011_18 rfl ?_
  refine zu_stk d_8011_19 rfl rfl ?_
  obtain ⟨b6, e7, h⟩ := h
  refine zs_stk2 (zs_rfe e7) ?_
  obtain ⟨k8, h⟩ := h
  obtain ⟨k9, h⟩ := h
  refine zu_bast_byte (k := 1) d_8011_20 rfl rfl k9 (zs_Ak K5 k8) ?_
  generalize e11 : zs_si S3 b6 (zs_I S3 8031 p0).toNatClampNeg (vp_nar .byte ((p2).toInt8.toInt32)) = S10
  have h := h S10 e11.symm
  have K12 : ∀ b, zs_K S10 b = zs_K S b := zs_Kt e11 (zs_Ksi _ _ _ _) K5
  refine zu_aload_n d_8011_21 rfl (zs_ra _) ?_
  refine zg_8_47 rfl d_8011_22 ((K12 _).trans k1) ?_
  refine zu_aload_n d_8011_25 rfl (zs_ra _) ?_
  refine zg_8_550 rfl d_8011_26 ((K12 _).trans k1) ?_
  refine zu_iload_n d_8011_29 rfl ?_
  obtain ⟨b13, e14, h⟩ := h
  refine zs_stk2 (zs_rfe e14) ?_
  obtain ⟨k15, h⟩ := h
  obtain ⟨k16, h⟩ := h
  refine zu_iast (k := 0) d_8011_30 rfl rfl k16 (zs_Ak K12 k15) ?_
  generalize e18 : zs_si S10 b13 (zs_I S10 8031 p0).toNatClampNeg p1 = S17
  have h := h S17 e18.symm
  have K19 : ∀ b, zs_K S17 b = zs_K S b := zs_Kt e18 (zs_Ksi _ _ _ _) K12
  exact (u_X9_tell_31 hB h).weak ⟨rfl, rfl, rfl, rfl, rfl, trivial⟩
/-! SchemaPascalModel.emit(IIII)I -/
theorem zm_8012 {σ : Nat → Nat} {n0 : Nat} {bf : ab_B} : ab_code (zx σ n0 bf).1 8012 = prog_17_method_27_code := rfl
theorem zq_8012 {σ : Nat → Nat} {n0 : Nat} {bf : ab_B} : ab_maxL (zx σ n0 bf).1 8012 = 5 := rfl
theorem zr_8012 {σ : Nat → Nat} {n0 : Nat} {bf : ab_B} : ab_ret (zx σ n0 bf).1 8012 = (Option.some Jvm.ClassFile.FieldType.int) := rfl
theorem d_8012_0 {σ : Nat → Nat} {n0 : Nat} {bf : ab_B} : decode (ab_code (zx σ n0 bf).1 8012) 0 = .ok (.aload_n 0, 1) := zd zm_8012 (by decide +kernel)
theorem d_8012_1 {σ : Nat → Nat} {n0 : Nat} {bf : ab_B} : decode (ab_code (zx σ n0 bf).1 8012) 1 = .ok (.getfield 72, 3) := zd zm_8012 (by decide +kernel)
theorem d_8012_4 {σ : Nat → Nat} {n0 : Nat} {bf : ab_B} : decode (ab_code (zx σ n0 bf).1 8012) 4 = .ok (.aload_n 0, 1) := zd zm_8012 (by decide +kernel)
theorem d_8012_5 {σ : Nat → Nat} {n0 : Nat} {bf : ab_B} : decode (ab_code (zx σ n0 bf).1 8012) 5 = .ok (.getfield 556, 3) := zd zm_8012 (by decide +kernel)
theorem d_8012_8 {σ : Nat → Nat} {n0 : Nat} {bf : ab_B} : decode (ab_code (zx σ n0 bf).1 8012) 8 = .ok (.iload_n 1, 1) := zd zm_8012 (by decide +kernel)
theorem d_8012_9 {σ : Nat → Nat} {n0 : Nat} {bf : ab_B} : decode (ab_code (zx σ n0 bf).1 8012) 9 = .ok (.iastore, 1) := zd zm_8012 (by decide +kernel)
theorem d_8012_10 {σ : Nat → Nat} {n0 : Nat} {bf : ab_B} : decode (ab_code (zx σ n0 bf).1 8012) 10 = .ok (.aload_n 0, 1) := zd zm_8012 (by decide +kernel)
theorem d_8012_11 {σ : Nat → Nat} {n0 : Nat} {bf : ab_B} : decode (ab_code (zx σ n0 bf).1 8012) 11 = .ok (.getfield 75, 3) := zd zm_8012 (by decide +kernel)
theorem d_8012_14 {σ : Nat → Nat} {n0 : Nat} {bf : ab_B} : decode (ab_code (zx σ n0 bf).1 8012) 14 = .ok (.aload_n 0, 1) := zd zm_8012 (by decide +kernel)
theorem d_8012_15 {σ : Nat → Nat} {n0 : Nat} {bf : ab_B} : decode (ab_code (zx σ n0 bf).1 8012) 15 = .ok (.getfield 556, 3) := zd zm_8012 (by decide +kernel)
theorem d_8012_18 {σ : Nat → Nat} {n0 : Nat} {bf : ab_B} : decode (ab_code (zx σ n0 bf).1 8012) 18 = .ok (.iload_n 2, 1) := zd zm_8012 (by decide +kernel)
theorem d_8012_19 {σ : Nat → Nat} {n0 : Nat} {bf : ab_B} : decode (ab_code (zx σ n0 bf).1 8012) 19 = .ok (.iastore, 1) := zd zm_8012 (by decide +kernel)
theorem d_8012_20 {σ : Nat → Nat} {n0 : Nat} {bf : ab_B} : decode (ab_code (zx σ n0 bf).1 8012) 20 = .ok (.aload_n 0, 1) := zd zm_8012 (by decide +kernel)
theorem d_8012_21 {σ : Nat → Nat} {n0 : Nat} {bf : ab_B} : decode (ab_code (zx σ n0 bf).1 8012) 21 = .ok (.getfield 78, 3) := zd zm_8012 (by decide +kernel)
theorem d_8012_24 {σ : Nat → Nat} {n0 : Nat} {bf : ab_B} : decode (ab_code (zx σ n0 bf).1 8012) 24 = .ok (.aload_n 0, 1) := zd zm_8012 (by decide +kernel)
theorem d_8012_25 {σ : Nat → Nat} {n0 : Nat} {bf : ab_B} : decode (ab_code (zx σ n0 bf).1 8012) 25 = .ok (.getfield 556, 3) := zd zm_8012 (by decide +kernel)
theorem d_8012_28 {σ : Nat → Nat} {n0 : Nat} {bf : ab_B} : decode (ab_code (zx σ n0 bf).1 8012) 28 = .ok (.iload_n 3, 1) := zd zm_8012 (by decide +kernel)
theorem d_8012_29 {σ : Nat → Nat} {n0 : Nat} {bf : ab_B} : decode (ab_code (zx σ n0 bf).1 8012) 29 = .ok (.iastore, 1) := zd zm_8012 (by decide +kernel)
theorem d_8012_30 {σ : Nat → Nat} {n0 : Nat} {bf : ab_B} : decode (ab_code (zx σ n0 bf).1 8012) 30 = .ok (.aload_n 0, 1) := zd zm_8012 (by decide +kernel)
theorem d_8012_31 {σ : Nat → Nat} {n0 : Nat} {bf : ab_B} : decode (ab_code (zx σ n0 bf).1 8012) 31 = .ok (.getfield 81, 3) := zd zm_8012 (by decide +kernel)
theorem d_8012_34 {σ : Nat → Nat} {n0 : Nat} {bf : ab_B} : decode (ab_code (zx σ n0 bf).1 8012) 34 = .ok (.aload_n 0, 1) := zd zm_8012 (by decide +kernel)
theorem d_8012_35 {σ : Nat → Nat} {n0 : Nat} {bf : ab_B} : decode (ab_code (zx σ n0 bf).1 8012) 35 = .ok (.getfield 556, 3) := zd zm_8012 (by decide +kernel)
theorem d_8012_38 {σ : Nat → Nat} {n0 : Nat} {bf : ab_B} : decode (ab_code (zx σ n0 bf).1 8012) 38 = .ok (.iload 4, 2) := zd zm_8012 (by decide +kernel)
theorem d_8012_40 {σ : Nat → Nat} {n0 : Nat} {bf : ab_B} : decode (ab_code (zx σ n0 bf).1 8012) 40 = .ok (.iastore, 1) := zd zm_8012 (by decide +kernel)
theorem d_8012_41 {σ : Nat → Nat} {n0 : Nat} {bf : ab_B} : decode (ab_code (zx σ n0 bf).1 8012) 41 = .ok (.aload_n 0, 1) := zd zm_8012 (by decide +kernel)
theorem d_8012_42 {σ : Nat → Nat} {n0 : Nat} {bf : ab_B} : decode (ab_code (zx σ n0 bf).1 8012) 42 = .ok (.dup, 1) := zd zm_8012 (by decide +kernel)
theorem d_8012_43 {σ : Nat → Nat} {n0 : Nat} {bf : ab_B} : decode (ab_code (zx σ n0 bf).1 8012) 43 = .ok (.getfield 556, 3) := zd zm_8012 (by decide +kernel)
theorem d_8012_46 {σ : Nat → Nat} {n0 : Nat} {bf : ab_B} : decode (ab_code (zx σ n0 bf).1 8012) 46 = .ok (.iconst 1, 1) := zd zm_8012 (by decide +kernel)
theorem d_8012_47 {σ : Nat → Nat} {n0 : Nat} {bf : ab_B} : decode (ab_code (zx σ n0 bf).1 8012) 47 = .ok (.iadd, 1) := zd zm_8012 (by decide +kernel)
theorem d_8012_48 {σ : Nat → Nat} {n0 : Nat} {bf : ab_B} : decode (ab_code (zx σ n0 bf).1 8012) 48 = .ok (.putfield 556, 3) := zd zm_8012 (by decide +kernel)
theorem d_8012_51 {σ : Nat → Nat} {n0 : Nat} {bf : ab_B} : decode (ab_code (zx σ n0 bf).1 8012) 51 = .ok (.aload_n 0, 1) := zd zm_8012 (by decide +kernel)
theorem d_8012_52 {σ : Nat → Nat} {n0 : Nat} {bf : ab_B} : decode (ab_code (zx σ n0 bf).1 8012) 52 = .ok (.getfield 556, 3) := zd zm_8012 (by decide +kernel)
theorem d_8012_55 {σ : Nat → Nat} {n0 : Nat} {bf : ab_B} : decode (ab_code (zx σ n0 bf).1 8012) 55 = .ok (.iconst 1, 1) := zd zm_8012 (by decide +kernel)
theorem d_8012_56 {σ : Nat → Nat} {n0 : Nat} {bf : ab_B} : decode (ab_code (zx σ n0 bf).1 8012) 56 = .ok (.isub, 1) := zd zm_8012 (by decide +kernel)
theorem d_8012_57 {σ : Nat → Nat} {n0 : Nat} {bf : ab_B} : decode (ab_code (zx σ n0 bf).1 8012) 57 = .ok (.ireturn, 1) := zd zm_8012 (by decide +kernel)
def w_X9_emit_30 (X : zs_X) (d : Nat) (p0 : Nat) (p4 : Int32) (S : zs_T) (Q : zs_Q) : Prop :=
  (zs_K S p0 = some (.inl 8) ∧ ∃ b2, (zs_R S 8039 p0) = some b2 ∧ zs_A S b2 0 (zs_I S 8040 p0) ∧ ab_n0 X.1 ≤ b2 ∧ ∀ S6, S6 = zs_si S b2 (zs_I S 8040 p0).toNatClampNeg p4 → ab_n0 X.1 ≤ p0 ∧ ∀ S10, S10 = zs_sI S6 8040 p0 ((zs_I S6 8040 p0) + (1 : Int32)) → Q (.returned (some (.int ((zs_I S10 8040 p0) - (1 : Int32))))) S10)
theorem u_X9_emit_30 {σ : Nat → Nat} {n0 : Nat} {bf : ab_B} {d : Nat} {p0 : Nat} {p4 : Int32} {S : zs_T} {Q : zs_Q} (hB : zt_B bf) (h : w_X9_emit_30 (zx σ n0 bf) d p0 p4 S Q) : zs_U (zx σ n0 bf) d 8012 30 [(0, .ref p0), (4, .int p4)] [] S Q := by
  unfold w_X9_emit_30 at h
  refine zu_aload_n d_8012_30 rfl (zs_ra _) ?_
  obtain ⟨k1, h⟩ := h
  refine zg_8_81 rfl d_8012_31 k1 ?_
  refine zu_aload_n d_8012_34 rfl (zs_ra _) ?_
  refine zg_8_556 rfl d_8012_35 k1 ?_
  refine zu_iload d_8012_38 rfl ?_
  obtain ⟨b2, e3, h⟩ := h
  refine zs_stk2 (zs_rfe e3) ?_
  obtain ⟨k4, h⟩ := h
  obtain ⟨k5, h⟩ := h
  refine zu_iast (k := 0) d_8012_40 rfl rfl k5 k4 ?_
  generalize e7 : zs_si S b2 (zs_I S 8040 p0).toNatClampNeg p4 = S6
  have h := h S6 e7.symm
  have K8 : ∀ b, zs_K S6 b = zs_K S b := zs_Kt e7 (zs_Ksi _ _ _ _) (fun _ => rfl)
  refine zu_aload_n d_8012_41 rfl (zs_ra _) ?_
  refine zu_dup d_8012_42 rfl ?_
  refine zg_8_556 rfl d_8012_43 ((K8 _).trans k1) ?_
  refine zu_iconst d_8012_46 zi_1 ?_
  refine zu_stk d_8012_47 rfl rfl ?_
  obtain ⟨k9, h⟩ := h
  refine zp_8_556 (v := ((zs_I S6 8040 p0) + (1 : Int32))) rfl d_8012_48 ((K8 _).trans k1) k9 ?_
  generalize e11 : zs_sI S6 8040 p0 ((zs_I S6 8040 p0) + (1 : Int32)) = S10
  have h := h S10 e11.symm
  have K12 : ∀ b, zs_K S10 b = zs_K S b := zs_Kt e11 (zs_KsI _ _ _ _) K8
  refine zu_aload_n d_8012_51 rfl (zs_ra _) ?_
  refine zg_8_556 rfl d_8012_52 ((K12 _).trans k1) ?_
  refine zu_iconst d_8012_55 zi_1 ?_
  refine zu_stk d_8012_56 rfl rfl ?_
  exact zu_iret d_8012_57 zr_8012 rfl h
def w_X9_emit (X : zs_X) (d : Nat) (p0 : Nat) (p1 : Int32) (p2 : Int32) (p3 : Int32) (p4 : Int32) (S : zs_T) (Q : zs_Q) : Prop :=
  (zs_K S p0 = some (.inl 8) ∧ ∃ b2, (zs_R S 8036 p0) = some b2 ∧ zs_A S b2 0 (zs_I S 8040 p0) ∧ ab_n0 X.1 ≤ b2 ∧ ∀ S6, S6 = zs_si S b2 (zs_I S 8040 p0).toNatClampNeg p1 → ∃ b9, (zs_R S6 8037 p0) = some b9 ∧ zs_A S b9 0 (zs_I S6 8040 p0) ∧ ab_n0 X.1 ≤ b9 ∧ ∀ S13, S13 = zs_si S6 b9 (zs_I S6 8040 p0).toNatClampNeg p2 → ∃ b16, (zs_R S13 8038 p0) = some b16 ∧ zs_A S b16 0 (zs_I S13 8040 p0) ∧ ab_n0 X.1 ≤ b16 ∧ ∀ S20, S20 = zs_si S13 b16 (zs_I S13 8040 p0).toNatClampNeg p3 → w_X9_emit_30 X d p0 p4 S20 Q)
theorem u_X9_emit {σ : Nat → Nat} {n0 : Nat} {bf : ab_B} {d : Nat} {p0 : Nat} {p1 : Int32} {p2 : Int32} {p3 : Int32} {p4 : Int32} {S : zs_T} {Q : zs_Q} (hB : zt_B bf) (hd : 1 ≤ d) (h : w_X9_emit (zx σ n0 bf) (d - 1) p0 p1 p2 p3 p4 S Q) : zs_C (zx σ n0 bf) d 8012 [.ref p0, .int p1, .int p2, .int p3, .int p4] S Q := by
  have hL : lv_args 0 [.ref p0, .int p1, .int p2, .int p3, .int p4] = [(0, .ref p0), (1, .int p1), (2, .int p2), (3, .int p3), (4, .int p4)] := rfl
  refine zs_C.of1 (hB.2 8012 (by decide) (by decide)) hd (by rw [hL]; exact zs_sub_self _ (by exact ⟨rfl, rfl, rfl, rfl, rfl, trivial⟩)) ?_
  rw [hL]
  clear hL
  unfold w_X9_emit at h
  refine zu_aload_n d_8012_0 rfl (zs_ra _) ?_
  obtain ⟨k1, h⟩ := h
  refine zg_8_72 rfl d_8012_1 k1 ?_
  refine zu_aload_n d_8012_4 rfl (zs_ra _) ?_
  refine zg_8_556 rfl d_8012_5 k1 ?_
  refine zu_iload_n d_8012_8 rfl ?_
  obtain ⟨b2, e3, h⟩ := h
  refine zs_stk2 (zs_rfe e3) ?_
  obtain ⟨k4, h⟩ := h
  obtain ⟨k5, h⟩ := h
  refine zu_iast (k := 0) d_8012_9 rfl rfl k5 k4 ?_
  generalize e7 : zs_si S b2 (zs_I S 8040 p0).toNatClampNeg p1 = S6
  have h := h S6 e7.symm
  have K8 : ∀ b, zs_K S6 b = zs_K S b := zs_Kt e7 (zs_Ksi _ _ _ _) (fun _ => rfl)
  refine zu_aload_n d_8012_10 rfl (zs_ra _) ?_
  refine zg_8_75 rfl d_8012_11 ((K8 _).trans k1) ?_
  refine zu_aload_n d_8012_14 rfl (zs_ra _) ?_
  refine zg_8_556 rfl d_8012_15 ((K8 _).trans k1) ?_
  refine zu_iload_n d_8012_18 rfl ?_
  obtain ⟨b9, e10, h⟩ := h
  refine zs_stk2 (zs_rfe e10) ?_
  obtain ⟨k11, h⟩ := h
  obtain ⟨k12, h⟩ := h
  refine zu_iast (k := 0) d_8012_19 rfl rfl k12 (zs_Ak K8 k11) ?_
  generalize e14 : zs_si S6 b9 (zs_I S6 8040 p0).toNatClampNeg p2 = S13
  have h := h S13 e14.symm
  have K15 : ∀ b, zs_K S13 b = zs_K S b := zs_Kt e14 (zs_Ksi _ _ _ _) K8
  refine zu_aload_n d_8012_20 rfl (zs_ra _) ?_
  refine zg_8_78 rfl d_8012_21 ((K15 _).trans k1) ?_
  refine zu_aload_n d_8012_24 rfl (zs_ra _) ?_
  refine zg_8_556 rfl d_8012_25 ((K15 _).trans k1) ?_
  refine zu_iload_n d_8012_28 rfl ?_
  obtain ⟨b16, e17, h⟩ := h
  refine zs_stk2 (zs_rfe e17) ?_
  obtain ⟨k18, h⟩ := h
  obtain ⟨k19, h⟩ := h
  refine zu_iast (k := 0) d_8012_29 rfl rfl k19 (zs_Ak K15 k18) ?_
  generalize e21 : zs_si S13 b16 (zs_I S13 8040 p0).toNatClampNeg p3 = S20
  have h := h S20 e21.symm
  have K22 : ∀ b, zs_K S20 b = zs_K S b := zs_Kt e21 (zs_Ksi _ _ _ _) K15
  exact (u_X9_emit_30 hB h).weak ⟨rfl, rfl, trivial⟩
/-! SchemaPascalModel.forget()V -/
theorem zm_8013 {σ : Nat → Nat} {n0 : Nat} {bf : ab_B} : ab_code (zx σ n0 bf).1 8013 = prog_17_method_203_code := rfl
theorem zq_8013 {σ : Nat → Nat} {n0 : Nat} {bf : ab_B} : ab_maxL (zx σ n0 bf).1 8013 = 1 := rfl
theorem zr_8013 {σ : Nat → Nat} {n0 : Nat} {bf : ab_B} : ab_ret (zx σ n0 bf).1 8013 = (Option.none : Option Jvm.ClassFile.FieldType) := rfl
theorem d_8013_0 {σ : Nat → Nat} {n0 : Nat} {bf : ab_B} : decode (ab_code (zx σ n0 bf).1 8013) 0 = .ok (.aload_n 0, 1) := zd zm_8013 (by decide +kernel)
theorem d_8013_1 {σ : Nat → Nat} {n0 : Nat} {bf : ab_B} : decode (ab_code (zx σ n0 bf).1 8013) 1 = .ok (.iconst 0, 1) := zd zm_8013 (by decide +kernel)
theorem d_8013_2 {σ : Nat → Nat} {n0 : Nat} {bf : ab_B} : decode (ab_code (zx σ n0 bf).1 8013) 2 = .ok (.putfield 1240, 3) := zd zm_8013 (by decide +kernel)
theorem d_8013_5 {σ : Nat → Nat} {n0 : Nat} {bf : ab_B} : decode (ab_code (zx σ n0 bf).1 8013) 5 = .ok (.aload_n 0, 1) := zd zm_8013 (by decide +kernel)
theorem d_8013_6 {σ : Nat → Nat} {n0 : Nat} {bf : ab_B} : decode (ab_code (zx σ n0 bf).1 8013) 6 = .ok (.iconst 0, 1) := zd zm_8013 (by decide +kernel)
theorem d_8013_7 {σ : Nat → Nat} {n0 : Nat} {bf : ab_B} : decode (ab_code (zx σ n0 bf).1 8013) 7 = .ok (.putfield 1243, 3) := zd zm_8013 (by decide +kernel)
theorem d_8013_10 {σ : Nat → Nat} {n0 : Nat} {bf : ab_B} : decode (ab_code (zx σ n0 bf).1 8013) 10 = .ok (.aload_n 0, 1) := zd zm_8013 (by decide +kernel)
theorem d_8013_11 {σ : Nat → Nat} {n0 : Nat} {bf : ab_B} : decode (ab_code (zx σ n0 bf).1 8013) 11 = .ok (.iconst 0, 1) := zd zm_8013 (by decide +kernel)
theorem d_8013_12 {σ : Nat → Nat} {n0 : Nat} {bf : ab_B} : decode (ab_code (zx σ n0 bf).1 8013) 12 = .ok (.putfield 1246, 3) := zd zm_8013 (by decide +kernel)
theorem d_8013_15 {σ : Nat → Nat} {n0 : Nat} {bf : ab_B} : decode (ab_code (zx σ n0 bf).1 8013) 15 = .ok (.aload_n 0, 1) := zd zm_8013 (by decide +kernel)
theorem d_8013_16 {σ : Nat → Nat} {n0 : Nat} {bf : ab_B} : decode (ab_code (zx σ n0 bf).1 8013) 16 = .ok (.sipush 20000, 3) := zd zm_8013 (by decide +kernel)
theorem d_8013_19 {σ : Nat → Nat} {n0 : Nat} {bf : ab_B} : decode (ab_code (zx σ n0 bf).1 8013) 19 = .ok (.putfield 1249, 3) := zd zm_8013 (by decide +kernel)
theorem d_8013_22 {σ : Nat → Nat} {n0 : Nat} {bf : ab_B} : decode (ab_code (zx σ n0 bf).1 8013) 22 = .ok (.aload_n 0, 1) := zd zm_8013 (by decide +kernel)
theorem d_8013_23 {σ : Nat → Nat} {n0 : Nat} {bf : ab_B} : decode (ab_code (zx σ n0 bf).1 8013) 23 = .ok (.iconst 0, 1) := zd zm_8013 (by decide +kernel)
theorem d_8013_24 {σ : Nat → Nat} {n0 : Nat} {bf : ab_B} : decode (ab_code (zx σ n0 bf).1 8013) 24 = .ok (.putfield 1252, 3) := zd zm_8013 (by decide +kernel)
theorem d_8013_27 {σ : Nat → Nat} {n0 : Nat} {bf : ab_B} : decode (ab_code (zx σ n0 bf).1 8013) 27 = .ok (.aload_n 0, 1) := zd zm_8013 (by decide +kernel)
theorem d_8013_28 {σ : Nat → Nat} {n0 : Nat} {bf : ab_B} : decode (ab_code (zx σ n0 bf).1 8013) 28 = .ok (.iconst 0, 1) := zd zm_8013 (by decide +kernel)
theorem d_8013_29 {σ : Nat → Nat} {n0 : Nat} {bf : ab_B} : decode (ab_code (zx σ n0 bf).1 8013) 29 = .ok (.putfield 1255, 3) := zd zm_8013 (by decide +kernel)
theorem d_8013_32 {σ : Nat → Nat} {n0 : Nat} {bf : ab_B} : decode (ab_code (zx σ n0 bf).1 8013) 32 = .ok (.aload_n 0, 1) := zd zm_8013 (by decide +kernel)
theorem d_8013_33 {σ : Nat → Nat} {n0 : Nat} {bf : ab_B} : decode (ab_code (zx σ n0 bf).1 8013) 33 = .ok (.iconst 0, 1) := zd zm_8013 (by decide +kernel)
theorem d_8013_34 {σ : Nat → Nat} {n0 : Nat} {bf : ab_B} : decode (ab_code (zx σ n0 bf).1 8013) 34 = .ok (.putfield 1258, 3) := zd zm_8013 (by decide +kernel)
theorem d_8013_37 {σ : Nat → Nat} {n0 : Nat} {bf : ab_B} : decode (ab_code (zx σ n0 bf).1 8013) 37 = .ok (.aload_n 0, 1) := zd zm_8013 (by decide +kernel)
theorem d_8013_38 {σ : Nat → Nat} {n0 : Nat} {bf : ab_B} : decode (ab_code (zx σ n0 bf).1 8013) 38 = .ok (.iconst 0, 1) := zd zm_8013 (by decide +kernel)
theorem d_8013_39 {σ : Nat → Nat} {n0 : Nat} {bf : ab_B} : decode (ab_code (zx σ n0 bf).1 8013) 39 = .ok (.putfield 1261, 3) := zd zm_8013 (by decide +kernel)
theorem d_8013_42 {σ : Nat → Nat} {n0 : Nat} {bf : ab_B} : decode (ab_code (zx σ n0 bf).1 8013) 42 = .ok (.aload_n 0, 1) := zd zm_8013 (by decide +kernel)
theorem d_8013_43 {σ : Nat → Nat} {n0 : Nat} {bf : ab_B} : decode (ab_code (zx σ n0 bf).1 8013) 43 = .ok (.iconst 0, 1) := zd zm_8013 (by decide +kernel)
theorem d_8013_44 {σ : Nat → Nat} {n0 : Nat} {bf : ab_B} : decode (ab_code (zx σ n0 bf).1 8013) 44 = .ok (.putfield 1264, 3) := zd zm_8013 (by decide +kernel)
theorem d_8013_47 {σ : Nat → Nat} {n0 : Nat} {bf : ab_B} : decode (ab_code (zx σ n0 bf).1 8013) 47 = .ok (.aload_n 0, 1) := zd zm_8013 (by decide +kernel)
theorem d_8013_48 {σ : Nat → Nat} {n0 : Nat} {bf : ab_B} : decode (ab_code (zx σ n0 bf).1 8013) 48 = .ok (.iconst 0, 1) := zd zm_8013 (by decide +kernel)
theorem d_8013_49 {σ : Nat → Nat} {n0 : Nat} {bf : ab_B} : decode (ab_code (zx σ n0 bf).1 8013) 49 = .ok (.putfield 1267, 3) := zd zm_8013 (by decide +kernel)
theorem d_8013_52 {σ : Nat → Nat} {n0 : Nat} {bf : ab_B} : decode (ab_code (zx σ n0 bf).1 8013) 52 = .ok (.aload_n 0, 1) := zd zm_8013 (by decide +kernel)
theorem d_8013_53 {σ : Nat → Nat} {n0 : Nat} {bf : ab_B} : decode (ab_code (zx σ n0 bf).1 8013) 53 = .ok (.iconst 0, 1) := zd zm_8013 (by decide +kernel)
theorem d_8013_54 {σ : Nat → Nat} {n0 : Nat} {bf : ab_B} : decode (ab_code (zx σ n0 bf).1 8013) 54 = .ok (.putfield 1270, 3) := zd zm_8013 (by decide +kernel)
theorem d_8013_57 {σ : Nat → Nat} {n0 : Nat} {bf : ab_B} : decode (ab_code (zx σ n0 bf).1 8013) 57 = .ok (.aload_n 0, 1) := zd zm_8013 (by decide +kernel)
theorem d_8013_58 {σ : Nat → Nat} {n0 : Nat} {bf : ab_B} : decode (ab_code (zx σ n0 bf).1 8013) 58 = .ok (.iconst 0, 1) := zd zm_8013 (by decide +kernel)
theorem d_8013_59 {σ : Nat → Nat} {n0 : Nat} {bf : ab_B} : decode (ab_code (zx σ n0 bf).1 8013) 59 = .ok (.putfield 1273, 3) := zd zm_8013 (by decide +kernel)
theorem d_8013_62 {σ : Nat → Nat} {n0 : Nat} {bf : ab_B} : decode (ab_code (zx σ n0 bf).1 8013) 62 = .ok (.aload_n 0, 1) := zd zm_8013 (by decide +kernel)
theorem d_8013_63 {σ : Nat → Nat} {n0 : Nat} {bf : ab_B} : decode (ab_code (zx σ n0 bf).1 8013) 63 = .ok (.iconst (-1), 1) := zd zm_8013 (by decide +kernel)
theorem d_8013_64 {σ : Nat → Nat} {n0 : Nat} {bf : ab_B} : decode (ab_code (zx σ n0 bf).1 8013) 64 = .ok (.putfield 428, 3) := zd zm_8013 (by decide +kernel)
theorem d_8013_67 {σ : Nat → Nat} {n0 : Nat} {bf : ab_B} : decode (ab_code (zx σ n0 bf).1 8013) 67 = .ok (.aload_n 0, 1) := zd zm_8013 (by decide +kernel)
theorem d_8013_68 {σ : Nat → Nat} {n0 : Nat} {bf : ab_B} : decode (ab_code (zx σ n0 bf).1 8013) 68 = .ok (.iconst 0, 1) := zd zm_8013 (by decide +kernel)
theorem d_8013_69 {σ : Nat → Nat} {n0 : Nat} {bf : ab_B} : decode (ab_code (zx σ n0 bf).1 8013) 69 = .ok (.putfield 1276, 3) := zd zm_8013 (by decide +kernel)
theorem d_8013_72 {σ : Nat → Nat} {n0 : Nat} {bf : ab_B} : decode (ab_code (zx σ n0 bf).1 8013) 72 = .ok (.aload_n 0, 1) := zd zm_8013 (by decide +kernel)
theorem d_8013_73 {σ : Nat → Nat} {n0 : Nat} {bf : ab_B} : decode (ab_code (zx σ n0 bf).1 8013) 73 = .ok (.lconst 0, 1) := zd zm_8013 (by decide +kernel)
theorem d_8013_74 {σ : Nat → Nat} {n0 : Nat} {bf : ab_B} : decode (ab_code (zx σ n0 bf).1 8013) 74 = .ok (.putfield 1279, 3) := zd zm_8013 (by decide +kernel)
theorem d_8013_77 {σ : Nat → Nat} {n0 : Nat} {bf : ab_B} : decode (ab_code (zx σ n0 bf).1 8013) 77 = .ok (.aload_n 0, 1) := zd zm_8013 (by decide +kernel)
theorem d_8013_78 {σ : Nat → Nat} {n0 : Nat} {bf : ab_B} : decode (ab_code (zx σ n0 bf).1 8013) 78 = .ok (.iconst 0, 1) := zd zm_8013 (by decide +kernel)
theorem d_8013_79 {σ : Nat → Nat} {n0 : Nat} {bf : ab_B} : decode (ab_code (zx σ n0 bf).1 8013) 79 = .ok (.putfield 1282, 3) := zd zm_8013 (by decide +kernel)
theorem d_8013_82 {σ : Nat → Nat} {n0 : Nat} {bf : ab_B} : decode (ab_code (zx σ n0 bf).1 8013) 82 = .ok (.return_, 1) := zd zm_8013 (by decide +kernel)
def w_X9_forget_62 (X : zs_X) (d : Nat) (p0 : Nat) (S : zs_T) (Q : zs_Q) : Prop :=
  (zs_K S p0 = some (.inl 8) ∧ ab_n0 X.1 ≤ p0 ∧ ∀ S3, S3 = zs_sI S 8198 p0 (-1 : Int32) → ∀ S6, S6 = zs_sI S3 8200 p0 (0 : Int32) → ∀ S9, S9 = zs_sJ S6 8205 p0 (0 : Int64) → ∀ S12, S12 = zs_sI S9 8201 p0 (0 : Int32) → Q (.returned none) S12)
theorem u_X9_forget_62 {σ : Nat → Nat} {n0 : Nat} {bf : ab_B} {d : Nat} {p0 : Nat} {S : zs_T} {Q : zs_Q} (hB : zt_B bf) (h : w_X9_forget_62 (zx σ n0 bf) d p0 S Q) : zs_U (zx σ n0 bf) d 8013 62 [(0, .ref p0)] [] S Q := by
  unfold w_X9_forget_62 at h
  refine zu_aload_n d_8013_62 rfl (zs_ra _) ?_
  refine zu_iconst d_8013_63 zi_m1 ?_
  obtain ⟨k1, h⟩ := h
  obtain ⟨k2, h⟩ := h
  refine zp_8_428 (v := (-1 : Int32)) rfl d_8013_64 k1 k2 ?_
  generalize e4 : zs_sI S 8198 p0 (-1 : Int32) = S3
  have h := h S3 e4.symm
  have K5 : ∀ b, zs_K S3 b = zs_K S b := zs_Kt e4 (zs_KsI _ _ _ _) (fun _ => rfl)
  refine zu_aload_n d_8013_67 rfl (zs_ra _) ?_
  refine zu_iconst d_8013_68 zi_0 ?_
  refine zp_8_1276 (v := (0 : Int32)) rfl d_8013_69 ((K5 _).trans k1) k2 ?_
  generalize e7 : zs_sI S3 8200 p0 (0 : Int32) = S6
  have h := h S6 e7.symm
  have K8 : ∀ b, zs_K S6 b = zs_K S b := zs_Kt e7 (zs_KsI _ _ _ _) K5
  refine zu_aload_n d_8013_72 rfl (zs_ra _) ?_
  refine zu_lconst (v := 0) d_8013_73 rfl ?_
  refine zp_8_1279 (v := (0 : Int64)) rfl d_8013_74 ((K8 _).trans k1) k2 ?_
  generalize e10 : zs_sJ S6 8205 p0 (0 : Int64) = S9
  have h := h S9 e10.symm
  have K11 : ∀ b, zs_K S9 b = zs_K S b := zs_Kt e10 (zs_KsJ _ _ _ _) K8
  refine zu_aload_n d_8013_77 rfl (zs_ra _) ?_
  refine zu_iconst d_8013_78 zi_0 ?_
  refine zp_8_1282 (v := (0 : Int32)) rfl d_8013_79 ((K11 _).trans k1) k2 (Or.inl rfl) ?_
  generalize e13 : zs_sI S9 8201 p0 (0 : Int32) = S12
  have h := h S12 e13.symm
  have K14 : ∀ b, zs_K S12 b = zs_K S b := zs_Kt e13 (zs_KsI _ _ _ _) K11
  exact zu_vret d_8013_82 zr_8013 h
def w_X9_forget_32 (X : zs_X) (d : Nat) (p0 : Nat) (S : zs_T) (Q : zs_Q) : Prop :=
  (zs_K S p0 = some (.inl 8) ∧ ab_n0 X.1 ≤ p0 ∧ ∀ S3, S3 = zs_sI S 8182 p0 (0 : Int32) → ∀ S6, S6 = zs_sI S3 8184 p0 (0 : Int32) → ∀ S9, S9 = zs_sI S6 8187 p0 (0 : Int32) → ∀ S12, S12 = zs_sI S9 8188 p0 (0 : Int32) → ∀ S15, S15 = zs_sI S12 8195 p0 (0 : Int32) → ∀ S18, S18 = zs_sI S15 8197 p0 (0 : Int32) → w_X9_forget_62 X d p0 S18 Q)
theorem u_X9_forget_32 {σ : Nat → Nat} {n0 : Nat} {bf : ab_B} {d : Nat} {p0 : Nat} {S : zs_T} {Q : zs_Q} (hB : zt_B bf) (h : w_X9_forget_32 (zx σ n0 bf) d p0 S Q) : zs_U (zx σ n0 bf) d 8013 32 [(0, .ref p0)] [] S Q := by
  unfold w_X9_forget_32 at h
  refine zu_aload_n d_8013_32 rfl (zs_ra _) ?_
  refine zu_iconst d_8013_33 zi_0 ?_
  obtain ⟨k1, h⟩ := h
  obtain ⟨k2, h⟩ := h
  refine zp_8_1258 (v := (0 : Int32)) rfl d_8013_34 k1 k2 ?_
  generalize e4 : zs_sI S 8182 p0 (0 : Int32) = S3
  have h := h S3 e4.symm
  have K5 : ∀ b, zs_K S3 b = zs_K S b := zs_Kt e4 (zs_KsI _ _ _ _) (fun _ => rfl)
  refine zu_aload_n d_8013_37 rfl (zs_ra _) ?_
  refine zu_iconst d_8013_38 zi_0 ?_
  refine zp_8_1261 (v := (0 : Int32)) rfl d_8013_39 ((K5 _).trans k1) k2 ?_
  generalize e7 : zs_sI S3 8184 p0 (0 : Int32) = S6
  have h := h S6 e7.symm
  have K8 : ∀ b, zs_K S6 b = zs_K S b := zs_Kt e7 (zs_KsI _ _ _ _) K5
  refine zu_aload_n d_8013_42 rfl (zs_ra _) ?_
  refine zu_iconst d_8013_43 zi_0 ?_
  refine zp_8_1264 (v := (0 : Int32)) rfl d_8013_44 ((K8 _).trans k1) k2 ?_
  generalize e10 : zs_sI S6 8187 p0 (0 : Int32) = S9
  have h := h S9 e10.symm
  have K11 : ∀ b, zs_K S9 b = zs_K S b := zs_Kt e10 (zs_KsI _ _ _ _) K8
  refine zu_aload_n d_8013_47 rfl (zs_ra _) ?_
  refine zu_iconst d_8013_48 zi_0 ?_
  refine zp_8_1267 (v := (0 : Int32)) rfl d_8013_49 ((K11 _).trans k1) k2 ?_
  generalize e13 : zs_sI S9 8188 p0 (0 : Int32) = S12
  have h := h S12 e13.symm
  have K14 : ∀ b, zs_K S12 b = zs_K S b := zs_Kt e13 (zs_KsI _ _ _ _) K11
  refine zu_aload_n d_8013_52 rfl (zs_ra _) ?_
  refine zu_iconst d_8013_53 zi_0 ?_
  refine zp_8_1270 (v := (0 : Int32)) rfl d_8013_54 ((K14 _).trans k1) k2 ?_
  generalize e16 : zs_sI S12 8195 p0 (0 : Int32) = S15
  have h := h S15 e16.symm
  have K17 : ∀ b, zs_K S15 b = zs_K S b := zs_Kt e16 (zs_KsI _ _ _ _) K14
  refine zu_aload_n d_8013_57 rfl (zs_ra _) ?_
  refine zu_iconst d_8013_58 zi_0 ?_
  refine zp_8_1273 (v := (0 : Int32)) rfl d_8013_59 ((K17 _).trans k1) k2 ?_
  generalize e19 : zs_sI S15 8197 p0 (0 : Int32) = S18
  have h := h S18 e19.symm
  have K20 : ∀ b, zs_K S18 b = zs_K S b := zs_Kt e19 (zs_KsI _ _ _ _) K17
  exact (u_X9_forget_62 hB h).weak ⟨rfl, trivial⟩
def w_X9_forget (X : zs_X) (d : Nat) (p0 : Nat) (S : zs_T) (Q : zs_Q) : Prop :=
  (zs_K S p0 = some (.inl 8) ∧ ab_n0 X.1 ≤ p0 ∧ ∀ S3, S3 = zs_sI S 8165 p0 (0 : Int32) → ∀ S6, S6 = zs_sI S3 8166 p0 (0 : Int32) → ∀ S9, S9 = zs_sI S6 8173 p0 (0 : Int32) → ∀ S12, S12 = zs_sI S9 8174 p0 (20000 : Int32) → ∀ S15, S15 = zs_sI S12 8175 p0 (0 : Int32) → ∀ S18, S18 = zs_sI S15 8181 p0 (0 : Int32) → w_X9_forget_32 X d p0 S18 Q)
theorem u_X9_forget {σ : Nat → Nat} {n0 : Nat} {bf : ab_B} {d : Nat} {p0 : Nat} {S : zs_T} {Q : zs_Q} (hB : zt_B bf) (hd : 1 ≤ d) (h : w_X9_forget (zx σ n0 bf) (d - 1) p0 S Q) : zs_C (zx σ n0 bf) d 8013 [.ref p0] S Q := by
  have hL : lv_args 0 [.ref p0] = [(0, .ref p0)] := rfl
  refine zs_C.of1 (hB.2 8013 (by decide) (by decide)) hd (by rw [hL]; exact zs_sub_self _ (by exact ⟨rfl, trivial⟩)) ?_
  rw [hL]
  clear hL
  unfold w_X9_forget at h
  refine zu_aload_n d_8013_0 rfl (zs_ra _) ?_
  refine zu_iconst d_8013_1 zi_0 ?_
  obtain ⟨k1, h⟩ := h
  obtain ⟨k2, h⟩ := h
  refine zp_8_1240 (v := (0 : Int32)) rfl d_8013_2 k1 k2 ?_
  generalize e4 : zs_sI S 8165 p0 (0 : Int32) = S3
  have h := h S3 e4.symm
  have K5 : ∀ b, zs_K S3 b = zs_K S b := zs_Kt e4 (zs_KsI _ _ _ _) (fun _ => rfl)
  refine zu_aload_n d_8013_5 rfl (zs_ra _) ?_
  refine zu_iconst d_8013_6 zi_0 ?_
  refine zp_8_1243 (v := (0 : Int32)) rfl d_8013_7 ((K5 _).trans k1) k2 ?_
  generalize e7 : zs_sI S3 8166 p0 (0 : Int32) = S6
  have h := h S6 e7.symm
  have K8 : ∀ b, zs_K S6 b = zs_K S b := zs_Kt e7 (zs_KsI _ _ _ _) K5
  refine zu_aload_n d_8013_10 rfl (zs_ra _) ?_
  refine zu_iconst d_8013_11 zi_0 ?_
  refine zp_8_1246 (v := (0 : Int32)) rfl d_8013_12 ((K8 _).trans k1) k2 ?_
  generalize e10 : zs_sI S6 8173 p0 (0 : Int32) = S9
  have h := h S9 e10.symm
  have K11 : ∀ b, zs_K S9 b = zs_K S b := zs_Kt e10 (zs_KsI _ _ _ _) K8
  refine zu_aload_n d_8013_15 rfl (zs_ra _) ?_
  refine zu_sipush d_8013_16 zh_20000 ?_
  refine zp_8_1249 (v := (20000 : Int32)) rfl d_8013_19 ((K11 _).trans k1) k2 ?_
  generalize e13 : zs_sI S9 8174 p0 (20000 : Int32) = S12
  have h := h S12 e13.symm
  have K14 : ∀ b, zs_K S12 b = zs_K S b := zs_Kt e13 (zs_KsI _ _ _ _) K11
  refine zu_aload_n d_8013_22 rfl (zs_ra _) ?_
  refine zu_iconst d_8013_23 zi_0 ?_
  refine zp_8_1252 (v := (0 : Int32)) rfl d_8013_24 ((K14 _).trans k1) k2 ?_
  generalize e16 : zs_sI S12 8175 p0 (0 : Int32) = S15
  have h := h S15 e16.symm
  have K17 : ∀ b, zs_K S15 b = zs_K S b := zs_Kt e16 (zs_KsI _ _ _ _) K14
  refine zu_aload_n d_8013_27 rfl (zs_ra _) ?_
  refine zu_iconst d_8013_28 zi_0 ?_
  refine zp_8_1255 (v := (0 : Int32)) rfl d_8013_29 ((K17 _).trans k1) k2 ?_
  generalize e19 : zs_sI S15 8181 p0 (0 : Int32) = S18
  have h := h S18 e19.symm
  have K20 : ∀ b, zs_K S18 b = zs_K S b := zs_Kt e19 (zs_KsI _ _ _ _) K17
  exact (u_X9_forget_32 hB h).weak ⟨rfl, trivial⟩
/-! SchemaPascalModel.next()V -/
theorem zm_8014 {σ : Nat → Nat} {n0 : Nat} {bf : ab_B} : ab_code (zx σ n0 bf).1 8014 = prog_17_method_18_code := rfl
theorem zq_8014 {σ : Nat → Nat} {n0 : Nat} {bf : ab_B} : ab_maxL (zx σ n0 bf).1 8014 = 2 := rfl
theorem zr_8014 {σ : Nat → Nat} {n0 : Nat} {bf : ab_B} : ab_ret (zx σ n0 bf).1 8014 = (Option.none : Option Jvm.ClassFile.FieldType) := rfl
theorem d_8014_0 {σ : Nat → Nat} {n0 : Nat} {bf : ab_B} : decode (ab_code (zx σ n0 bf).1 8014) 0 = .ok (.aload_n 0, 1) := zd zm_8014 (by decide +kernel)
theorem d_8014_1 {σ : Nat → Nat} {n0 : Nat} {bf : ab_B} : decode (ab_code (zx σ n0 bf).1 8014) 1 = .ok (.getfield 444, 3) := zd zm_8014 (by decide +kernel)
theorem d_8014_4 {σ : Nat → Nat} {n0 : Nat} {bf : ab_B} : decode (ab_code (zx σ n0 bf).1 8014) 4 = .ok (.ifCond .gt 10, 3) := zd zm_8014 (by decide +kernel)
theorem d_8014_7 {σ : Nat → Nat} {n0 : Nat} {bf : ab_B} : decode (ab_code (zx σ n0 bf).1 8014) 7 = .ok (.aload_n 0, 1) := zd zm_8014 (by decide +kernel)
theorem d_8014_8 {σ : Nat → Nat} {n0 : Nat} {bf : ab_B} : decode (ab_code (zx σ n0 bf).1 8014) 8 = .ok (.invokevirtual 516, 3) := zd zm_8014 (by decide +kernel)
theorem d_8014_11 {σ : Nat → Nat} {n0 : Nat} {bf : ab_B} : decode (ab_code (zx σ n0 bf).1 8014) 11 = .ok (.ifCond .ne 4, 3) := zd zm_8014 (by decide +kernel)
theorem d_8014_14 {σ : Nat → Nat} {n0 : Nat} {bf : ab_B} : decode (ab_code (zx σ n0 bf).1 8014) 14 = .ok (.return_, 1) := zd zm_8014 (by decide +kernel)
theorem d_8014_15 {σ : Nat → Nat} {n0 : Nat} {bf : ab_B} : decode (ab_code (zx σ n0 bf).1 8014) 15 = .ok (.aload_n 0, 1) := zd zm_8014 (by decide +kernel)
theorem d_8014_16 {σ : Nat → Nat} {n0 : Nat} {bf : ab_B} : decode (ab_code (zx σ n0 bf).1 8014) 16 = .ok (.aload_n 0, 1) := zd zm_8014 (by decide +kernel)
theorem d_8014_17 {σ : Nat → Nat} {n0 : Nat} {bf : ab_B} : decode (ab_code (zx σ n0 bf).1 8014) 17 = .ok (.getfield 487, 3) := zd zm_8014 (by decide +kernel)
theorem d_8014_20 {σ : Nat → Nat} {n0 : Nat} {bf : ab_B} : decode (ab_code (zx σ n0 bf).1 8014) 20 = .ok (.putfield 450, 3) := zd zm_8014 (by decide +kernel)
theorem d_8014_23 {σ : Nat → Nat} {n0 : Nat} {bf : ab_B} : decode (ab_code (zx σ n0 bf).1 8014) 23 = .ok (.aload_n 0, 1) := zd zm_8014 (by decide +kernel)
theorem d_8014_24 {σ : Nat → Nat} {n0 : Nat} {bf : ab_B} : decode (ab_code (zx σ n0 bf).1 8014) 24 = .ok (.aload_n 0, 1) := zd zm_8014 (by decide +kernel)
theorem d_8014_25 {σ : Nat → Nat} {n0 : Nat} {bf : ab_B} : decode (ab_code (zx σ n0 bf).1 8014) 25 = .ok (.getfield 487, 3) := zd zm_8014 (by decide +kernel)
theorem d_8014_28 {σ : Nat → Nat} {n0 : Nat} {bf : ab_B} : decode (ab_code (zx σ n0 bf).1 8014) 28 = .ok (.invokevirtual 471, 3) := zd zm_8014 (by decide +kernel)
theorem d_8014_31 {σ : Nat → Nat} {n0 : Nat} {bf : ab_B} : decode (ab_code (zx σ n0 bf).1 8014) 31 = .ok (.istore_n 1, 1) := zd zm_8014 (by decide +kernel)
theorem d_8014_32 {σ : Nat → Nat} {n0 : Nat} {bf : ab_B} : decode (ab_code (zx σ n0 bf).1 8014) 32 = .ok (.iload_n 1, 1) := zd zm_8014 (by decide +kernel)
theorem d_8014_33 {σ : Nat → Nat} {n0 : Nat} {bf : ab_B} : decode (ab_code (zx σ n0 bf).1 8014) 33 = .ok (.iconst (-1), 1) := zd zm_8014 (by decide +kernel)
theorem d_8014_34 {σ : Nat → Nat} {n0 : Nat} {bf : ab_B} : decode (ab_code (zx σ n0 bf).1 8014) 34 = .ok (.if_icmp .ne 19, 3) := zd zm_8014 (by decide +kernel)
theorem d_8014_37 {σ : Nat → Nat} {n0 : Nat} {bf : ab_B} : decode (ab_code (zx σ n0 bf).1 8014) 37 = .ok (.aload_n 0, 1) := zd zm_8014 (by decide +kernel)
theorem d_8014_38 {σ : Nat → Nat} {n0 : Nat} {bf : ab_B} : decode (ab_code (zx σ n0 bf).1 8014) 38 = .ok (.iconst 0, 1) := zd zm_8014 (by decide +kernel)
theorem d_8014_39 {σ : Nat → Nat} {n0 : Nat} {bf : ab_B} : decode (ab_code (zx σ n0 bf).1 8014) 39 = .ok (.putfield 484, 3) := zd zm_8014 (by decide +kernel)
theorem d_8014_42 {σ : Nat → Nat} {n0 : Nat} {bf : ab_B} : decode (ab_code (zx σ n0 bf).1 8014) 42 = .ok (.aload_n 0, 1) := zd zm_8014 (by decide +kernel)
theorem d_8014_43 {σ : Nat → Nat} {n0 : Nat} {bf : ab_B} : decode (ab_code (zx σ n0 bf).1 8014) 43 = .ok (.aload_n 0, 1) := zd zm_8014 (by decide +kernel)
theorem d_8014_44 {σ : Nat → Nat} {n0 : Nat} {bf : ab_B} : decode (ab_code (zx σ n0 bf).1 8014) 44 = .ok (.getfield 457, 3) := zd zm_8014 (by decide +kernel)
theorem d_8014_47 {σ : Nat → Nat} {n0 : Nat} {bf : ab_B} : decode (ab_code (zx σ n0 bf).1 8014) 47 = .ok (.putfield 450, 3) := zd zm_8014 (by decide +kernel)
theorem d_8014_50 {σ : Nat → Nat} {n0 : Nat} {bf : ab_B} : decode (ab_code (zx σ n0 bf).1 8014) 50 = .ok (.goto 48, 3) := zd zm_8014 (by decide +kernel)
theorem d_8014_53 {σ : Nat → Nat} {n0 : Nat} {bf : ab_B} : decode (ab_code (zx σ n0 bf).1 8014) 53 = .ok (.iload_n 1, 1) := zd zm_8014 (by decide +kernel)
theorem d_8014_54 {σ : Nat → Nat} {n0 : Nat} {bf : ab_B} : decode (ab_code (zx σ n0 bf).1 8014) 54 = .ok (.invokestatic 464, 3) := zd zm_8014 (by decide +kernel)
theorem d_8014_57 {σ : Nat → Nat} {n0 : Nat} {bf : ab_B} : decode (ab_code (zx σ n0 bf).1 8014) 57 = .ok (.ifCond .eq 10, 3) := zd zm_8014 (by decide +kernel)
theorem d_8014_60 {σ : Nat → Nat} {n0 : Nat} {bf : ab_B} : decode (ab_code (zx σ n0 bf).1 8014) 60 = .ok (.aload_n 0, 1) := zd zm_8014 (by decide +kernel)
theorem d_8014_61 {σ : Nat → Nat} {n0 : Nat} {bf : ab_B} : decode (ab_code (zx σ n0 bf).1 8014) 61 = .ok (.invokevirtual 520, 3) := zd zm_8014 (by decide +kernel)
theorem d_8014_64 {σ : Nat → Nat} {n0 : Nat} {bf : ab_B} : decode (ab_code (zx σ n0 bf).1 8014) 64 = .ok (.goto 34, 3) := zd zm_8014 (by decide +kernel)
theorem d_8014_67 {σ : Nat → Nat} {n0 : Nat} {bf : ab_B} : decode (ab_code (zx σ n0 bf).1 8014) 67 = .ok (.iload_n 1, 1) := zd zm_8014 (by decide +kernel)
theorem d_8014_68 {σ : Nat → Nat} {n0 : Nat} {bf : ab_B} : decode (ab_code (zx σ n0 bf).1 8014) 68 = .ok (.invokestatic 460, 3) := zd zm_8014 (by decide +kernel)
theorem d_8014_71 {σ : Nat → Nat} {n0 : Nat} {bf : ab_B} : decode (ab_code (zx σ n0 bf).1 8014) 71 = .ok (.ifCond .eq 10, 3) := zd zm_8014 (by decide +kernel)
theorem d_8014_74 {σ : Nat → Nat} {n0 : Nat} {bf : ab_B} : decode (ab_code (zx σ n0 bf).1 8014) 74 = .ok (.aload_n 0, 1) := zd zm_8014 (by decide +kernel)
theorem d_8014_75 {σ : Nat → Nat} {n0 : Nat} {bf : ab_B} : decode (ab_code (zx σ n0 bf).1 8014) 75 = .ok (.invokevirtual 523, 3) := zd zm_8014 (by decide +kernel)
theorem d_8014_78 {σ : Nat → Nat} {n0 : Nat} {bf : ab_B} : decode (ab_code (zx σ n0 bf).1 8014) 78 = .ok (.goto 20, 3) := zd zm_8014 (by decide +kernel)
theorem d_8014_81 {σ : Nat → Nat} {n0 : Nat} {bf : ab_B} : decode (ab_code (zx σ n0 bf).1 8014) 81 = .ok (.iload_n 1, 1) := zd zm_8014 (by decide +kernel)
theorem d_8014_82 {σ : Nat → Nat} {n0 : Nat} {bf : ab_B} : decode (ab_code (zx σ n0 bf).1 8014) 82 = .ok (.bipush 39, 2) := zd zm_8014 (by decide +kernel)
theorem d_8014_84 {σ : Nat → Nat} {n0 : Nat} {bf : ab_B} : decode (ab_code (zx σ n0 bf).1 8014) 84 = .ok (.if_icmp .ne 10, 3) := zd zm_8014 (by decide +kernel)
theorem d_8014_87 {σ : Nat → Nat} {n0 : Nat} {bf : ab_B} : decode (ab_code (zx σ n0 bf).1 8014) 87 = .ok (.aload_n 0, 1) := zd zm_8014 (by decide +kernel)
theorem d_8014_88 {σ : Nat → Nat} {n0 : Nat} {bf : ab_B} : decode (ab_code (zx σ n0 bf).1 8014) 88 = .ok (.invokevirtual 526, 3) := zd zm_8014 (by decide +kernel)
theorem d_8014_91 {σ : Nat → Nat} {n0 : Nat} {bf : ab_B} : decode (ab_code (zx σ n0 bf).1 8014) 91 = .ok (.goto 7, 3) := zd zm_8014 (by decide +kernel)
theorem d_8014_94 {σ : Nat → Nat} {n0 : Nat} {bf : ab_B} : decode (ab_code (zx σ n0 bf).1 8014) 94 = .ok (.aload_n 0, 1) := zd zm_8014 (by decide +kernel)
theorem d_8014_95 {σ : Nat → Nat} {n0 : Nat} {bf : ab_B} : decode (ab_code (zx σ n0 bf).1 8014) 95 = .ok (.invokevirtual 529, 3) := zd zm_8014 (by decide +kernel)
theorem d_8014_98 {σ : Nat → Nat} {n0 : Nat} {bf : ab_B} : decode (ab_code (zx σ n0 bf).1 8014) 98 = .ok (.aload_n 0, 1) := zd zm_8014 (by decide +kernel)
theorem d_8014_99 {σ : Nat → Nat} {n0 : Nat} {bf : ab_B} : decode (ab_code (zx σ n0 bf).1 8014) 99 = .ok (.aload_n 0, 1) := zd zm_8014 (by decide +kernel)
theorem d_8014_100 {σ : Nat → Nat} {n0 : Nat} {bf : ab_B} : decode (ab_code (zx σ n0 bf).1 8014) 100 = .ok (.getfield 487, 3) := zd zm_8014 (by decide +kernel)
theorem d_8014_103 {σ : Nat → Nat} {n0 : Nat} {bf : ab_B} : decode (ab_code (zx σ n0 bf).1 8014) 103 = .ok (.putfield 532, 3) := zd zm_8014 (by decide +kernel)
theorem d_8014_106 {σ : Nat → Nat} {n0 : Nat} {bf : ab_B} : decode (ab_code (zx σ n0 bf).1 8014) 106 = .ok (.return_, 1) := zd zm_8014 (by decide +kernel)
def w_X9_next_98 (X : zs_X) (d : Nat) (p0 : Nat) (S : zs_T) (Q : zs_Q) : Prop :=
  (zs_K S p0 = some (.inl 8) ∧ ab_n0 X.1 ≤ p0 ∧ ∀ S3, S3 = zs_sI S 8008 p0 (zs_I S 8005 p0) → Q (.returned none) S3)
theorem u_X9_next_98 {σ : Nat → Nat} {n0 : Nat} {bf : ab_B} {d : Nat} {p0 : Nat} {S : zs_T} {Q : zs_Q} (hB : zt_B bf) (h : w_X9_next_98 (zx σ n0 bf) d p0 S Q) : zs_U (zx σ n0 bf) d 8014 98 [(0, .ref p0)] [] S Q := by
  unfold w_X9_next_98 at h
  refine zu_aload_n d_8014_98 rfl (zs_ra _) ?_
  refine zu_aload_n d_8014_99 rfl (zs_ra _) ?_
  obtain ⟨k1, h⟩ := h
  refine zg_8_487 rfl d_8014_100 k1 ?_
  obtain ⟨k2, h⟩ := h
  refine zp_8_532 (v := (zs_I S 8005 p0)) rfl d_8014_103 k1 k2 ?_
  generalize e4 : zs_sI S 8008 p0 (zs_I S 8005 p0) = S3
  have h := h S3 e4.symm
  have K5 : ∀ b, zs_K S3 b = zs_K S b := zs_Kt e4 (zs_KsI _ _ _ _) (fun _ => rfl)
  exact zu_vret d_8014_106 zr_8014 h
def w_X9_next_37 (X : zs_X) (d : Nat) (p0 : Nat) (S : zs_T) (Q : zs_Q) : Prop :=
  (zs_K S p0 = some (.inl 8) ∧ ab_n0 X.1 ≤ p0 ∧ ∀ S3, S3 = zs_sI S 8006 p0 (0 : Int32) → ∀ S6, S6 = zs_sI S3 8007 p0 (zs_I S3 8004 p0) → w_X9_next_98 X d p0 S6 Q)
theorem u_X9_next_37 {σ : Nat → Nat} {n0 : Nat} {bf : ab_B} {d : Nat} {p0 : Nat} {S : zs_T} {Q : zs_Q} (hB : zt_B bf) (h : w_X9_next_37 (zx σ n0 bf) d p0 S Q) : zs_U (zx σ n0 bf) d 8014 37 [(0, .ref p0)] [] S Q := by
  unfold w_X9_next_37 at h
  refine zu_aload_n d_8014_37 rfl (zs_ra _) ?_
  refine zu_iconst d_8014_38 zi_0 ?_
  obtain ⟨k1, h⟩ := h
  obtain ⟨k2, h⟩ := h
  refine zp_8_484 (v := (0 : Int32)) rfl d_8014_39 k1 k2 ?_
  generalize e4 : zs_sI S 8006 p0 (0 : Int32) = S3
  have h := h S3 e4.symm
  have K5 : ∀ b, zs_K S3 b = zs_K S b := zs_Kt e4 (zs_KsI _ _ _ _) (fun _ => rfl)
  refine zu_aload_n d_8014_42 rfl (zs_ra _) ?_
  refine zu_aload_n d_8014_43 rfl (zs_ra _) ?_
  refine zg_8_457 rfl d_8014_44 ((K5 _).trans k1) ?_
  refine zp_8_450 (v := (zs_I S3 8004 p0)) rfl d_8014_47 ((K5 _).trans k1) k2 ?_
  generalize e7 : zs_sI S3 8007 p0 (zs_I S3 8004 p0) = S6
  have h := h S6 e7.symm
  have K8 : ∀ b, zs_K S6 b = zs_K S b := zs_Kt e7 (zs_KsI _ _ _ _) K5
  refine zu_goto (t := 98) d_8014_50 rfl ?_
  exact (u_X9_next_98 hB h).weak ⟨rfl, trivial⟩
def w_X9_next_53 (X : zs_X) (d : Nat) (p0 : Nat) (p1 : Int32) (S : zs_T) (Q : zs_Q) : Prop :=
  (zs_C X d 8018 [.int p1] S (zs_kI (fun v2 S1 => (((v2 = 0 → (zs_C X d 8020 [.int p1] S1 (zs_kI (fun v5 S4 => (((v5 = 0 → (((¬ p1 = (39 : Int32) → (zs_K S4 p0 = some (.inl 8) ∧ zs_C X d 8024 [.ref p0] S4 (zs_kV (fun S9 => w_X9_next_98 X d p0 S9 Q) Q))) ∧ (¬ (¬ p1 = (39 : Int32)) → (zs_K S4 p0 = some (.inl 8) ∧ zs_C X d 8023 [.ref p0] S4 (zs_kV (fun S12 => (w_X9_next_98 X d p0 S12 Q)) Q)))))) ∧ (¬ (v5 = 0) → (zs_K S4 p0 = some (.inl 8) ∧ zs_C X d 8021 [.ref p0] S4 (zs_kV (fun S15 => (w_X9_next_98 X d p0 S15 Q)) Q)))))) Q))) ∧ (¬ (v2 = 0) → (zs_K S1 p0 = some (.inl 8) ∧ zs_C X d 8019 [.ref p0] S1 (zs_kV (fun S18 => (w_X9_next_98 X d p0 S18 Q)) Q)))))) Q))
theorem u_X9_next_53 {σ : Nat → Nat} {n0 : Nat} {bf : ab_B} {d : Nat} {p0 : Nat} {p1 : Int32} {S : zs_T} {Q : zs_Q} (hB : zt_B bf) (h : w_X9_next_53 (zx σ n0 bf) d p0 p1 S Q) : zs_U (zx σ n0 bf) d 8014 53 [(0, .ref p0), (1, .int p1)] [] S Q := by
  unfold w_X9_next_53 at h
  refine zu_iload_n d_8014_53 rfl ?_
  refine zc_8_464 (x0 := p1) hB rfl d_8014_54 (Nat.le_of_ble_eq_true rfl) h (fun v2 S1 h => ?_)
  refine zu_ifeq (t := 67) d_8014_57 rfl (fun c3 => ?_) (fun c3 => ?_)
  · have h := h.1 c3
    refine zu_iload_n d_8014_67 rfl ?_
    refine zc_8_460 (x0 := p1) hB rfl d_8014_68 (Nat.le_of_ble_eq_true rfl) h (fun v5 S4 h => ?_)
    refine zu_ifeq (t := 81) d_8014_71 rfl (fun c6 => ?_) (fun c6 => ?_)
    · have h := h.1 c6
      refine zu_iload_n d_8014_81 rfl ?_
      refine zu_bipush d_8014_82 zj_39 ?_
      refine zu_cmpne (t := 94) d_8014_84 rfl (fun c7 => ?_) (fun c7 => ?_)
      · have h := h.1 c7
        refine zu_aload_n d_8014_94 rfl (zs_ra _) ?_
        obtain ⟨k8, h⟩ := h
        refine zc_8_529  hB rfl k8 d_8014_95 (Nat.le_of_ble_eq_true rfl) h (fun S9 h => ?_)
        exact (u_X9_next_98 hB h).weak ⟨rfl, trivial⟩
      · have h := h.2 c7
        refine zu_aload_n d_8014_87 rfl (zs_ra _) ?_
        obtain ⟨k11, h⟩ := h
        refine zc_8_526  hB rfl k11 d_8014_88 (Nat.le_of_ble_eq_true rfl) h (fun S12 h => ?_)
        refine zu_goto (t := 98) d_8014_91 rfl ?_
        exact (u_X9_next_98 hB h).weak ⟨rfl, trivial⟩
    · have h := h.2 c6
      refine zu_aload_n d_8014_74 rfl (zs_ra _) ?_
      obtain ⟨k14, h⟩ := h
      refine zc_8_523  hB rfl k14 d_8014_75 (Nat.le_of_ble_eq_true rfl) h (fun S15 h => ?_)
      refine zu_goto (t := 98) d_8014_78 rfl ?_
      exact (u_X9_next_98 hB h).weak ⟨rfl, trivial⟩
  · have h := h.2 c3
    refine zu_aload_n d_8014_60 rfl (zs_ra _) ?_
    obtain ⟨k17, h⟩ := h
    refine zc_8_520  hB rfl k17 d_8014_61 (Nat.le_of_ble_eq_true rfl) h (fun S18 h => ?_)
    refine zu_goto (t := 98) d_8014_64 rfl ?_
    exact (u_X9_next_98 hB h).weak ⟨rfl, trivial⟩
def w_X9_next (X : zs_X) (d : Nat) (p0 : Nat) (S : zs_T) (Q : zs_Q) : Prop :=
  (zs_K S p0 = some (.inl 8) ∧ ((0 < (zs_I S 8010 p0) → (Q (.returned none) S)) ∧ (¬ (0 < (zs_I S 8010 p0)) → (zs_C X d 8015 [.ref p0] S (zs_kI (fun v4 S3 => (((¬ v4 = 0 → (zs_K S3 p0 = some (.inl 8) ∧ ab_n0 X.1 ≤ p0 ∧ ∀ S8, S8 = zs_sI S3 8007 p0 (zs_I S3 8005 p0) → zs_C X d 8006 [.ref p0, .int (zs_I S8 8005 p0)] S8 (zs_kI (fun v12 S11 => (((¬ v12 = (-1 : Int32) → w_X9_next_53 X d p0 v12 S11 Q) ∧ (¬ (¬ v12 = (-1 : Int32)) → w_X9_next_37 X d p0 S11 Q)))) Q))) ∧ (¬ (¬ v4 = 0) → (Q (.returned none) S3))))) Q)))))
theorem u_X9_next {σ : Nat → Nat} {n0 : Nat} {bf : ab_B} {d : Nat} {p0 : Nat} {S : zs_T} {Q : zs_Q} (hB : zt_B bf) (hd : 1 ≤ d) (h : w_X9_next (zx σ n0 bf) (d - 1) p0 S Q) : zs_C (zx σ n0 bf) d 8014 [.ref p0] S Q := by
  have hL : lv_args 0 [.ref p0] = [(0, .ref p0)] := rfl
  refine zs_C.of1 (hB.2 8014 (by decide) (by decide)) hd (by rw [hL]; exact zs_sub_self _ (by exact ⟨rfl, trivial⟩)) ?_
  rw [hL]
  clear hL
  unfold w_X9_next at h
  refine zu_aload_n d_8014_0 rfl (zs_ra _) ?_
  obtain ⟨k1, h⟩ := h
  refine zg_8_444 rfl d_8014_1 k1 ?_
  refine zu_ifgt (t := 14) d_8014_4 rfl (fun c2 => ?_) (fun c2 => ?_)
  · have h := h.1 c2
    exact zu_vret d_8014_14 zr_8014 h
  · have h := h.2 c2
    refine zu_aload_n d_8014_7 rfl (zs_ra _) ?_
    refine zc_8_516  hB rfl k1 d_8014_8 (Nat.le_of_ble_eq_true rfl) h (fun v4 S3 h => ?_)
    refine zu_ifne (t := 15) d_8014_11 rfl (fun c5 => ?_) (fun c5 => ?_)
    · have h := h.1 c5
      refine zu_aload_n d_8014_15 rfl (zs_ra _) ?_
      refine zu_aload_n d_8014_16 rfl (zs_ra _) ?_
      obtain ⟨k6, h⟩ := h
      refine zg_8_487 rfl d_8014_17 k6 ?_
      obtain ⟨k7, h⟩ := h
      refine zp_8_450 (v := (zs_I S3 8005 p0)) rfl d_8014_20 k6 k7 ?_
      generalize e9 : zs_sI S3 8007 p0 (zs_I S3 8005 p0) = S8
      have h := h S8 e9.symm
      have K10 : ∀ b, zs_K S8 b = zs_K S3 b := zs_Kt e9 (zs_KsI _ _ _ _) (fun _ => rfl)
      refine zu_aload_n d_8014_23 rfl (zs_ra _) ?_
      refine zu_aload_n d_8014_24 rfl (zs_ra _) ?_
      refine zg_8_487 rfl d_8014_25 ((K10 _).trans k6) ?_
      refine zc_8_471 (x0 := (zs_I S8 8005 p0)) hB rfl ((K10 _).trans k6) d_8014_28 (Nat.le_of_ble_eq_true rfl) h (fun v12 S11 h => ?_)
      refine zu_istore_n d_8014_31 (zs_lt zq_8014 rfl) ?_
      refine zu_iload_n d_8014_32 rfl ?_
      refine zu_iconst d_8014_33 zi_m1 ?_
      refine zu_cmpne (t := 53) d_8014_34 rfl (fun c13 => ?_) (fun c13 => ?_)
      · have h := h.1 c13
        exact (u_X9_next_53 hB h).weak ⟨rfl, rfl, trivial⟩
      · have h := h.2 c13
        exact (u_X9_next_37 hB h).weak ⟨rfl, trivial⟩
    · have h := h.2 c5
      exact zu_vret d_8014_14 zr_8014 h
/-! SchemaPascalModel.skip()Z -/
theorem zm_8015 {σ : Nat → Nat} {n0 : Nat} {bf : ab_B} : ab_code (zx σ n0 bf).1 8015 = prog_17_method_13_code := rfl
theorem zq_8015 {σ : Nat → Nat} {n0 : Nat} {bf : ab_B} : ab_maxL (zx σ n0 bf).1 8015 = 5 := rfl
theorem zr_8015 {σ : Nat → Nat} {n0 : Nat} {bf : ab_B} : ab_ret (zx σ n0 bf).1 8015 = (Option.some Jvm.ClassFile.FieldType.boolean) := rfl
theorem d_8015_0 {σ : Nat → Nat} {n0 : Nat} {bf : ab_B} : decode (ab_code (zx σ n0 bf).1 8015) 0 = .ok (.iconst 1, 1) := zd zm_8015 (by decide +kernel)
theorem d_8015_1 {σ : Nat → Nat} {n0 : Nat} {bf : ab_B} : decode (ab_code (zx σ n0 bf).1 8015) 1 = .ok (.istore_n 1, 1) := zd zm_8015 (by decide +kernel)
theorem d_8015_2 {σ : Nat → Nat} {n0 : Nat} {bf : ab_B} : decode (ab_code (zx σ n0 bf).1 8015) 2 = .ok (.iload_n 1, 1) := zd zm_8015 (by decide +kernel)
theorem d_8015_3 {σ : Nat → Nat} {n0 : Nat} {bf : ab_B} : decode (ab_code (zx σ n0 bf).1 8015) 3 = .ok (.ifCond .eq 242, 3) := zd zm_8015 (by decide +kernel)
theorem d_8015_6 {σ : Nat → Nat} {n0 : Nat} {bf : ab_B} : decode (ab_code (zx σ n0 bf).1 8015) 6 = .ok (.aload_n 0, 1) := zd zm_8015 (by decide +kernel)
theorem d_8015_7 {σ : Nat → Nat} {n0 : Nat} {bf : ab_B} : decode (ab_code (zx σ n0 bf).1 8015) 7 = .ok (.aload_n 0, 1) := zd zm_8015 (by decide +kernel)
theorem d_8015_8 {σ : Nat → Nat} {n0 : Nat} {bf : ab_B} : decode (ab_code (zx σ n0 bf).1 8015) 8 = .ok (.getfield 487, 3) := zd zm_8015 (by decide +kernel)
theorem d_8015_11 {σ : Nat → Nat} {n0 : Nat} {bf : ab_B} : decode (ab_code (zx σ n0 bf).1 8015) 11 = .ok (.invokevirtual 471, 3) := zd zm_8015 (by decide +kernel)
theorem d_8015_14 {σ : Nat → Nat} {n0 : Nat} {bf : ab_B} : decode (ab_code (zx σ n0 bf).1 8015) 14 = .ok (.istore_n 2, 1) := zd zm_8015 (by decide +kernel)
theorem d_8015_15 {σ : Nat → Nat} {n0 : Nat} {bf : ab_B} : decode (ab_code (zx σ n0 bf).1 8015) 15 = .ok (.iload_n 2, 1) := zd zm_8015 (by decide +kernel)
theorem d_8015_16 {σ : Nat → Nat} {n0 : Nat} {bf : ab_B} : decode (ab_code (zx σ n0 bf).1 8015) 16 = .ok (.bipush 123, 2) := zd zm_8015 (by decide +kernel)
theorem d_8015_18 {σ : Nat → Nat} {n0 : Nat} {bf : ab_B} : decode (ab_code (zx σ n0 bf).1 8015) 18 = .ok (.if_icmp .eq 24, 3) := zd zm_8015 (by decide +kernel)
theorem d_8015_21 {σ : Nat → Nat} {n0 : Nat} {bf : ab_B} : decode (ab_code (zx σ n0 bf).1 8015) 21 = .ok (.iload_n 2, 1) := zd zm_8015 (by decide +kernel)
theorem d_8015_22 {σ : Nat → Nat} {n0 : Nat} {bf : ab_B} : decode (ab_code (zx σ n0 bf).1 8015) 22 = .ok (.bipush 40, 2) := zd zm_8015 (by decide +kernel)
theorem d_8015_24 {σ : Nat → Nat} {n0 : Nat} {bf : ab_B} : decode (ab_code (zx σ n0 bf).1 8015) 24 = .ok (.if_icmp .ne 22, 3) := zd zm_8015 (by decide +kernel)
theorem d_8015_27 {σ : Nat → Nat} {n0 : Nat} {bf : ab_B} : decode (ab_code (zx σ n0 bf).1 8015) 27 = .ok (.aload_n 0, 1) := zd zm_8015 (by decide +kernel)
theorem d_8015_28 {σ : Nat → Nat} {n0 : Nat} {bf : ab_B} : decode (ab_code (zx σ n0 bf).1 8015) 28 = .ok (.aload_n 0, 1) := zd zm_8015 (by decide +kernel)
theorem d_8015_29 {σ : Nat → Nat} {n0 : Nat} {bf : ab_B} : decode (ab_code (zx σ n0 bf).1 8015) 29 = .ok (.getfield 487, 3) := zd zm_8015 (by decide +kernel)
theorem d_8015_32 {σ : Nat → Nat} {n0 : Nat} {bf : ab_B} : decode (ab_code (zx σ n0 bf).1 8015) 32 = .ok (.iconst 1, 1) := zd zm_8015 (by decide +kernel)
theorem d_8015_33 {σ : Nat → Nat} {n0 : Nat} {bf : ab_B} : decode (ab_code (zx σ n0 bf).1 8015) 33 = .ok (.iadd, 1) := zd zm_8015 (by decide +kernel)
theorem d_8015_34 {σ : Nat → Nat} {n0 : Nat} {bf : ab_B} : decode (ab_code (zx σ n0 bf).1 8015) 34 = .ok (.invokevirtual 471, 3) := zd zm_8015 (by decide +kernel)
theorem d_8015_37 {σ : Nat → Nat} {n0 : Nat} {bf : ab_B} : decode (ab_code (zx σ n0 bf).1 8015) 37 = .ok (.bipush 42, 2) := zd zm_8015 (by decide +kernel)
theorem d_8015_39 {σ : Nat → Nat} {n0 : Nat} {bf : ab_B} : decode (ab_code (zx σ n0 bf).1 8015) 39 = .ok (.if_icmp .ne 7, 3) := zd zm_8015 (by decide +kernel)
theorem d_8015_42 {σ : Nat → Nat} {n0 : Nat} {bf : ab_B} : decode (ab_code (zx σ n0 bf).1 8015) 42 = .ok (.iconst 1, 1) := zd zm_8015 (by decide +kernel)
theorem d_8015_43 {σ : Nat → Nat} {n0 : Nat} {bf : ab_B} : decode (ab_code (zx σ n0 bf).1 8015) 43 = .ok (.goto 4, 3) := zd zm_8015 (by decide +kernel)
theorem d_8015_46 {σ : Nat → Nat} {n0 : Nat} {bf : ab_B} : decode (ab_code (zx σ n0 bf).1 8015) 46 = .ok (.iconst 0, 1) := zd zm_8015 (by decide +kernel)
theorem d_8015_47 {σ : Nat → Nat} {n0 : Nat} {bf : ab_B} : decode (ab_code (zx σ n0 bf).1 8015) 47 = .ok (.istore_n 3, 1) := zd zm_8015 (by decide +kernel)
theorem d_8015_48 {σ : Nat → Nat} {n0 : Nat} {bf : ab_B} : decode (ab_code (zx σ n0 bf).1 8015) 48 = .ok (.iload_n 3, 1) := zd zm_8015 (by decide +kernel)
theorem d_8015_49 {σ : Nat → Nat} {n0 : Nat} {bf : ab_B} : decode (ab_code (zx σ n0 bf).1 8015) 49 = .ok (.ifCond .ne 27, 3) := zd zm_8015 (by decide +kernel)
theorem d_8015_52 {σ : Nat → Nat} {n0 : Nat} {bf : ab_B} : decode (ab_code (zx σ n0 bf).1 8015) 52 = .ok (.iload_n 2, 1) := zd zm_8015 (by decide +kernel)
theorem d_8015_53 {σ : Nat → Nat} {n0 : Nat} {bf : ab_B} : decode (ab_code (zx σ n0 bf).1 8015) 53 = .ok (.bipush 9, 2) := zd zm_8015 (by decide +kernel)
theorem d_8015_55 {σ : Nat → Nat} {n0 : Nat} {bf : ab_B} : decode (ab_code (zx σ n0 bf).1 8015) 55 = .ok (.if_icmp .eq 21, 3) := zd zm_8015 (by decide +kernel)
theorem d_8015_58 {σ : Nat → Nat} {n0 : Nat} {bf : ab_B} : decode (ab_code (zx σ n0 bf).1 8015) 58 = .ok (.iload_n 2, 1) := zd zm_8015 (by decide +kernel)
theorem d_8015_59 {σ : Nat → Nat} {n0 : Nat} {bf : ab_B} : decode (ab_code (zx σ n0 bf).1 8015) 59 = .ok (.bipush 10, 2) := zd zm_8015 (by decide +kernel)
theorem d_8015_61 {σ : Nat → Nat} {n0 : Nat} {bf : ab_B} : decode (ab_code (zx σ n0 bf).1 8015) 61 = .ok (.if_icmp .eq 15, 3) := zd zm_8015 (by decide +kernel)
theorem d_8015_64 {σ : Nat → Nat} {n0 : Nat} {bf : ab_B} : decode (ab_code (zx σ n0 bf).1 8015) 64 = .ok (.iload_n 2, 1) := zd zm_8015 (by decide +kernel)
theorem d_8015_65 {σ : Nat → Nat} {n0 : Nat} {bf : ab_B} : decode (ab_code (zx σ n0 bf).1 8015) 65 = .ok (.bipush 13, 2) := zd zm_8015 (by decide +kernel)
theorem d_8015_67 {σ : Nat → Nat} {n0 : Nat} {bf : ab_B} : decode (ab_code (zx σ n0 bf).1 8015) 67 = .ok (.if_icmp .eq 9, 3) := zd zm_8015 (by decide +kernel)
theorem d_8015_70 {σ : Nat → Nat} {n0 : Nat} {bf : ab_B} : decode (ab_code (zx σ n0 bf).1 8015) 70 = .ok (.iload_n 2, 1) := zd zm_8015 (by decide +kernel)
theorem d_8015_71 {σ : Nat → Nat} {n0 : Nat} {bf : ab_B} : decode (ab_code (zx σ n0 bf).1 8015) 71 = .ok (.bipush 32, 2) := zd zm_8015 (by decide +kernel)
theorem d_8015_73 {σ : Nat → Nat} {n0 : Nat} {bf : ab_B} : decode (ab_code (zx σ n0 bf).1 8015) 73 = .ok (.if_icmp .ne 7, 3) := zd zm_8015 (by decide +kernel)
theorem d_8015_76 {σ : Nat → Nat} {n0 : Nat} {bf : ab_B} : decode (ab_code (zx σ n0 bf).1 8015) 76 = .ok (.iconst 1, 1) := zd zm_8015 (by decide +kernel)
theorem d_8015_77 {σ : Nat → Nat} {n0 : Nat} {bf : ab_B} : decode (ab_code (zx σ n0 bf).1 8015) 77 = .ok (.goto 4, 3) := zd zm_8015 (by decide +kernel)
theorem d_8015_80 {σ : Nat → Nat} {n0 : Nat} {bf : ab_B} : decode (ab_code (zx σ n0 bf).1 8015) 80 = .ok (.iconst 0, 1) := zd zm_8015 (by decide +kernel)
theorem d_8015_81 {σ : Nat → Nat} {n0 : Nat} {bf : ab_B} : decode (ab_code (zx σ n0 bf).1 8015) 81 = .ok (.istore_n 1, 1) := zd zm_8015 (by decide +kernel)
theorem d_8015_82 {σ : Nat → Nat} {n0 : Nat} {bf : ab_B} : decode (ab_code (zx σ n0 bf).1 8015) 82 = .ok (.iload_n 3, 1) := zd zm_8015 (by decide +kernel)
theorem d_8015_83 {σ : Nat → Nat} {n0 : Nat} {bf : ab_B} : decode (ab_code (zx σ n0 bf).1 8015) 83 = .ok (.ifCond .eq 145, 3) := zd zm_8015 (by decide +kernel)
theorem d_8015_86 {σ : Nat → Nat} {n0 : Nat} {bf : ab_B} : decode (ab_code (zx σ n0 bf).1 8015) 86 = .ok (.aload_n 0, 1) := zd zm_8015 (by decide +kernel)
theorem d_8015_87 {σ : Nat → Nat} {n0 : Nat} {bf : ab_B} : decode (ab_code (zx σ n0 bf).1 8015) 87 = .ok (.getfield 487, 3) := zd zm_8015 (by decide +kernel)
theorem d_8015_90 {σ : Nat → Nat} {n0 : Nat} {bf : ab_B} : decode (ab_code (zx σ n0 bf).1 8015) 90 = .ok (.istore 4, 2) := zd zm_8015 (by decide +kernel)
theorem d_8015_92 {σ : Nat → Nat} {n0 : Nat} {bf : ab_B} : decode (ab_code (zx σ n0 bf).1 8015) 92 = .ok (.aload_n 0, 1) := zd zm_8015 (by decide +kernel)
theorem d_8015_93 {σ : Nat → Nat} {n0 : Nat} {bf : ab_B} : decode (ab_code (zx σ n0 bf).1 8015) 93 = .ok (.dup, 1) := zd zm_8015 (by decide +kernel)
theorem d_8015_94 {σ : Nat → Nat} {n0 : Nat} {bf : ab_B} : decode (ab_code (zx σ n0 bf).1 8015) 94 = .ok (.getfield 487, 3) := zd zm_8015 (by decide +kernel)
theorem d_8015_97 {σ : Nat → Nat} {n0 : Nat} {bf : ab_B} : decode (ab_code (zx σ n0 bf).1 8015) 97 = .ok (.iload_n 2, 1) := zd zm_8015 (by decide +kernel)
theorem d_8015_98 {σ : Nat → Nat} {n0 : Nat} {bf : ab_B} : decode (ab_code (zx σ n0 bf).1 8015) 98 = .ok (.bipush 123, 2) := zd zm_8015 (by decide +kernel)
theorem d_8015_100 {σ : Nat → Nat} {n0 : Nat} {bf : ab_B} : decode (ab_code (zx σ n0 bf).1 8015) 100 = .ok (.if_icmp .ne 7, 3) := zd zm_8015 (by decide +kernel)
theorem d_8015_103 {σ : Nat → Nat} {n0 : Nat} {bf : ab_B} : decode (ab_code (zx σ n0 bf).1 8015) 103 = .ok (.iconst 1, 1) := zd zm_8015 (by decide +kernel)
theorem d_8015_104 {σ : Nat → Nat} {n0 : Nat} {bf : ab_B} : decode (ab_code (zx σ n0 bf).1 8015) 104 = .ok (.goto 4, 3) := zd zm_8015 (by decide +kernel)
theorem d_8015_107 {σ : Nat → Nat} {n0 : Nat} {bf : ab_B} : decode (ab_code (zx σ n0 bf).1 8015) 107 = .ok (.iconst 2, 1) := zd zm_8015 (by decide +kernel)
theorem d_8015_108 {σ : Nat → Nat} {n0 : Nat} {bf : ab_B} : decode (ab_code (zx σ n0 bf).1 8015) 108 = .ok (.iadd, 1) := zd zm_8015 (by decide +kernel)
theorem d_8015_109 {σ : Nat → Nat} {n0 : Nat} {bf : ab_B} : decode (ab_code (zx σ n0 bf).1 8015) 109 = .ok (.putfield 487, 3) := zd zm_8015 (by decide +kernel)
theorem d_8015_112 {σ : Nat → Nat} {n0 : Nat} {bf : ab_B} : decode (ab_code (zx σ n0 bf).1 8015) 112 = .ok (.aload_n 0, 1) := zd zm_8015 (by decide +kernel)
theorem d_8015_113 {σ : Nat → Nat} {n0 : Nat} {bf : ab_B} : decode (ab_code (zx σ n0 bf).1 8015) 113 = .ok (.aload_n 0, 1) := zd zm_8015 (by decide +kernel)
theorem d_8015_114 {σ : Nat → Nat} {n0 : Nat} {bf : ab_B} : decode (ab_code (zx σ n0 bf).1 8015) 114 = .ok (.getfield 487, 3) := zd zm_8015 (by decide +kernel)
theorem d_8015_117 {σ : Nat → Nat} {n0 : Nat} {bf : ab_B} : decode (ab_code (zx σ n0 bf).1 8015) 117 = .ok (.invokevirtual 471, 3) := zd zm_8015 (by decide +kernel)
theorem d_8015_120 {σ : Nat → Nat} {n0 : Nat} {bf : ab_B} : decode (ab_code (zx σ n0 bf).1 8015) 120 = .ok (.iconst (-1), 1) := zd zm_8015 (by decide +kernel)
theorem d_8015_121 {σ : Nat → Nat} {n0 : Nat} {bf : ab_B} : decode (ab_code (zx σ n0 bf).1 8015) 121 = .ok (.if_icmp .eq 57, 3) := zd zm_8015 (by decide +kernel)
theorem d_8015_124 {σ : Nat → Nat} {n0 : Nat} {bf : ab_B} : decode (ab_code (zx σ n0 bf).1 8015) 124 = .ok (.aload_n 0, 1) := zd zm_8015 (by decide +kernel)
theorem d_8015_125 {σ : Nat → Nat} {n0 : Nat} {bf : ab_B} : decode (ab_code (zx σ n0 bf).1 8015) 125 = .ok (.aload_n 0, 1) := zd zm_8015 (by decide +kernel)
theorem d_8015_126 {σ : Nat → Nat} {n0 : Nat} {bf : ab_B} : decode (ab_code (zx σ n0 bf).1 8015) 126 = .ok (.getfield 487, 3) := zd zm_8015 (by decide +kernel)
theorem d_8015_129 {σ : Nat → Nat} {n0 : Nat} {bf : ab_B} : decode (ab_code (zx σ n0 bf).1 8015) 129 = .ok (.invokevirtual 471, 3) := zd zm_8015 (by decide +kernel)
theorem d_8015_132 {σ : Nat → Nat} {n0 : Nat} {bf : ab_B} : decode (ab_code (zx σ n0 bf).1 8015) 132 = .ok (.bipush 125, 2) := zd zm_8015 (by decide +kernel)
theorem d_8015_134 {σ : Nat → Nat} {n0 : Nat} {bf : ab_B} : decode (ab_code (zx σ n0 bf).1 8015) 134 = .ok (.if_icmp .eq 44, 3) := zd zm_8015 (by decide +kernel)
theorem d_8015_137 {σ : Nat → Nat} {n0 : Nat} {bf : ab_B} : decode (ab_code (zx σ n0 bf).1 8015) 137 = .ok (.aload_n 0, 1) := zd zm_8015 (by decide +kernel)
theorem d_8015_138 {σ : Nat → Nat} {n0 : Nat} {bf : ab_B} : decode (ab_code (zx σ n0 bf).1 8015) 138 = .ok (.aload_n 0, 1) := zd zm_8015 (by decide +kernel)
theorem d_8015_139 {σ : Nat → Nat} {n0 : Nat} {bf : ab_B} : decode (ab_code (zx σ n0 bf).1 8015) 139 = .ok (.getfield 487, 3) := zd zm_8015 (by decide +kernel)
theorem d_8015_142 {σ : Nat → Nat} {n0 : Nat} {bf : ab_B} : decode (ab_code (zx σ n0 bf).1 8015) 142 = .ok (.invokevirtual 471, 3) := zd zm_8015 (by decide +kernel)
theorem d_8015_145 {σ : Nat → Nat} {n0 : Nat} {bf : ab_B} : decode (ab_code (zx σ n0 bf).1 8015) 145 = .ok (.bipush 42, 2) := zd zm_8015 (by decide +kernel)
theorem d_8015_147 {σ : Nat → Nat} {n0 : Nat} {bf : ab_B} : decode (ab_code (zx σ n0 bf).1 8015) 147 = .ok (.if_icmp .ne 18, 3) := zd zm_8015 (by decide +kernel)
theorem d_8015_150 {σ : Nat → Nat} {n0 : Nat} {bf : ab_B} : decode (ab_code (zx σ n0 bf).1 8015) 150 = .ok (.aload_n 0, 1) := zd zm_8015 (by decide +kernel)
theorem d_8015_151 {σ : Nat → Nat} {n0 : Nat} {bf : ab_B} : decode (ab_code (zx σ n0 bf).1 8015) 151 = .ok (.aload_n 0, 1) := zd zm_8015 (by decide +kernel)
theorem d_8015_152 {σ : Nat → Nat} {n0 : Nat} {bf : ab_B} : decode (ab_code (zx σ n0 bf).1 8015) 152 = .ok (.getfield 487, 3) := zd zm_8015 (by decide +kernel)
theorem d_8015_155 {σ : Nat → Nat} {n0 : Nat} {bf : ab_B} : decode (ab_code (zx σ n0 bf).1 8015) 155 = .ok (.iconst 1, 1) := zd zm_8015 (by decide +kernel)
theorem d_8015_156 {σ : Nat → Nat} {n0 : Nat} {bf : ab_B} : decode (ab_code (zx σ n0 bf).1 8015) 156 = .ok (.iadd, 1) := zd zm_8015 (by decide +kernel)
theorem d_8015_157 {σ : Nat → Nat} {n0 : Nat} {bf : ab_B} : decode (ab_code (zx σ n0 bf).1 8015) 157 = .ok (.invokevirtual 471, 3) := zd zm_8015 (by decide +kernel)
theorem d_8015_160 {σ : Nat → Nat} {n0 : Nat} {bf : ab_B} : decode (ab_code (zx σ n0 bf).1 8015) 160 = .ok (.bipush 41, 2) := zd zm_8015 (by decide +kernel)
theorem d_8015_162 {σ : Nat → Nat} {n0 : Nat} {bf : ab_B} : decode (ab_code (zx σ n0 bf).1 8015) 162 = .ok (.if_icmp .eq 16, 3) := zd zm_8015 (by decide +kernel)
theorem d_8015_165 {σ : Nat → Nat} {n0 : Nat} {bf : ab_B} : decode (ab_code (zx σ n0 bf).1 8015) 165 = .ok (.aload_n 0, 1) := zd zm_8015 (by decide +kernel)
theorem d_8015_166 {σ : Nat → Nat} {n0 : Nat} {bf : ab_B} : decode (ab_code (zx σ n0 bf).1 8015) 166 = .ok (.dup, 1) := zd zm_8015 (by decide +kernel)
theorem d_8015_167 {σ : Nat → Nat} {n0 : Nat} {bf : ab_B} : decode (ab_code (zx σ n0 bf).1 8015) 167 = .ok (.getfield 487, 3) := zd zm_8015 (by decide +kernel)
theorem d_8015_170 {σ : Nat → Nat} {n0 : Nat} {bf : ab_B} : decode (ab_code (zx σ n0 bf).1 8015) 170 = .ok (.iconst 1, 1) := zd zm_8015 (by decide +kernel)
theorem d_8015_171 {σ : Nat → Nat} {n0 : Nat} {bf : ab_B} : decode (ab_code (zx σ n0 bf).1 8015) 171 = .ok (.iadd, 1) := zd zm_8015 (by decide +kernel)
theorem d_8015_172 {σ : Nat → Nat} {n0 : Nat} {bf : ab_B} : decode (ab_code (zx σ n0 bf).1 8015) 172 = .ok (.putfield 487, 3) := zd zm_8015 (by decide +kernel)
theorem d_8015_175 {σ : Nat → Nat} {n0 : Nat} {bf : ab_B} : decode (ab_code (zx σ n0 bf).1 8015) 175 = .ok (.goto (-63), 3) := zd zm_8015 (by decide +kernel)
theorem d_8015_178 {σ : Nat → Nat} {n0 : Nat} {bf : ab_B} : decode (ab_code (zx σ n0 bf).1 8015) 178 = .ok (.aload_n 0, 1) := zd zm_8015 (by decide +kernel)
theorem d_8015_179 {σ : Nat → Nat} {n0 : Nat} {bf : ab_B} : decode (ab_code (zx σ n0 bf).1 8015) 179 = .ok (.aload_n 0, 1) := zd zm_8015 (by decide +kernel)
theorem d_8015_180 {σ : Nat → Nat} {n0 : Nat} {bf : ab_B} : decode (ab_code (zx σ n0 bf).1 8015) 180 = .ok (.getfield 487, 3) := zd zm_8015 (by decide +kernel)
theorem d_8015_183 {σ : Nat → Nat} {n0 : Nat} {bf : ab_B} : decode (ab_code (zx σ n0 bf).1 8015) 183 = .ok (.invokevirtual 471, 3) := zd zm_8015 (by decide +kernel)
theorem d_8015_186 {σ : Nat → Nat} {n0 : Nat} {bf : ab_B} : decode (ab_code (zx σ n0 bf).1 8015) 186 = .ok (.iconst (-1), 1) := zd zm_8015 (by decide +kernel)
theorem d_8015_187 {σ : Nat → Nat} {n0 : Nat} {bf : ab_B} : decode (ab_code (zx σ n0 bf).1 8015) 187 = .ok (.if_icmp .ne 11, 3) := zd zm_8015 (by decide +kernel)
theorem d_8015_190 {σ : Nat → Nat} {n0 : Nat} {bf : ab_B} : decode (ab_code (zx σ n0 bf).1 8015) 190 = .ok (.aload_n 0, 1) := zd zm_8015 (by decide +kernel)
theorem d_8015_191 {σ : Nat → Nat} {n0 : Nat} {bf : ab_B} : decode (ab_code (zx σ n0 bf).1 8015) 191 = .ok (.iload 4, 2) := zd zm_8015 (by decide +kernel)
theorem d_8015_193 {σ : Nat → Nat} {n0 : Nat} {bf : ab_B} : decode (ab_code (zx σ n0 bf).1 8015) 193 = .ok (.invokevirtual 490, 3) := zd zm_8015 (by decide +kernel)
theorem d_8015_196 {σ : Nat → Nat} {n0 : Nat} {bf : ab_B} : decode (ab_code (zx σ n0 bf).1 8015) 196 = .ok (.iconst 0, 1) := zd zm_8015 (by decide +kernel)
theorem d_8015_197 {σ : Nat → Nat} {n0 : Nat} {bf : ab_B} : decode (ab_code (zx σ n0 bf).1 8015) 197 = .ok (.ireturn, 1) := zd zm_8015 (by decide +kernel)
theorem d_8015_198 {σ : Nat → Nat} {n0 : Nat} {bf : ab_B} : decode (ab_code (zx σ n0 bf).1 8015) 198 = .ok (.aload_n 0, 1) := zd zm_8015 (by decide +kernel)
theorem d_8015_199 {σ : Nat → Nat} {n0 : Nat} {bf : ab_B} : decode (ab_code (zx σ n0 bf).1 8015) 199 = .ok (.dup, 1) := zd zm_8015 (by decide +kernel)
theorem d_8015_200 {σ : Nat → Nat} {n0 : Nat} {bf : ab_B} : decode (ab_code (zx σ n0 bf).1 8015) 200 = .ok (.getfield 487, 3) := zd zm_8015 (by decide +kernel)
theorem d_8015_203 {σ : Nat → Nat} {n0 : Nat} {bf : ab_B} : decode (ab_code (zx σ n0 bf).1 8015) 203 = .ok (.aload_n 0, 1) := zd zm_8015 (by decide +kernel)
theorem d_8015_204 {σ : Nat → Nat} {n0 : Nat} {bf : ab_B} : decode (ab_code (zx σ n0 bf).1 8015) 204 = .ok (.aload_n 0, 1) := zd zm_8015 (by decide +kernel)
theorem d_8015_205 {σ : Nat → Nat} {n0 : Nat} {bf : ab_B} : decode (ab_code (zx σ n0 bf).1 8015) 205 = .ok (.getfield 487, 3) := zd zm_8015 (by decide +kernel)
theorem d_8015_208 {σ : Nat → Nat} {n0 : Nat} {bf : ab_B} : decode (ab_code (zx σ n0 bf).1 8015) 208 = .ok (.invokevirtual 471, 3) := zd zm_8015 (by decide +kernel)
theorem d_8015_211 {σ : Nat → Nat} {n0 : Nat} {bf : ab_B} : decode (ab_code (zx σ n0 bf).1 8015) 211 = .ok (.bipush 125, 2) := zd zm_8015 (by decide +kernel)
theorem d_8015_213 {σ : Nat → Nat} {n0 : Nat} {bf : ab_B} : decode (ab_code (zx σ n0 bf).1 8015) 213 = .ok (.if_icmp .ne 7, 3) := zd zm_8015 (by decide +kernel)
theorem d_8015_216 {σ : Nat → Nat} {n0 : Nat} {bf : ab_B} : decode (ab_code (zx σ n0 bf).1 8015) 216 = .ok (.iconst 1, 1) := zd zm_8015 (by decide +kernel)
theorem d_8015_217 {σ : Nat → Nat} {n0 : Nat} {bf : ab_B} : decode (ab_code (zx σ n0 bf).1 8015) 217 = .ok (.goto 4, 3) := zd zm_8015 (by decide +kernel)
theorem d_8015_220 {σ : Nat → Nat} {n0 : Nat} {bf : ab_B} : decode (ab_code (zx σ n0 bf).1 8015) 220 = .ok (.iconst 2, 1) := zd zm_8015 (by decide +kernel)
theorem d_8015_221 {σ : Nat → Nat} {n0 : Nat} {bf : ab_B} : decode (ab_code (zx σ n0 bf).1 8015) 221 = .ok (.iadd, 1) := zd zm_8015 (by decide +kernel)
theorem d_8015_222 {σ : Nat → Nat} {n0 : Nat} {bf : ab_B} : decode (ab_code (zx σ n0 bf).1 8015) 222 = .ok (.putfield 487, 3) := zd zm_8015 (by decide +kernel)
theorem d_8015_225 {σ : Nat → Nat} {n0 : Nat} {bf : ab_B} : decode (ab_code (zx σ n0 bf).1 8015) 225 = .ok (.goto 17, 3) := zd zm_8015 (by decide +kernel)
theorem d_8015_228 {σ : Nat → Nat} {n0 : Nat} {bf : ab_B} : decode (ab_code (zx σ n0 bf).1 8015) 228 = .ok (.iload_n 1, 1) := zd zm_8015 (by decide +kernel)
theorem d_8015_229 {σ : Nat → Nat} {n0 : Nat} {bf : ab_B} : decode (ab_code (zx σ n0 bf).1 8015) 229 = .ok (.ifCond .eq 13, 3) := zd zm_8015 (by decide +kernel)
theorem d_8015_232 {σ : Nat → Nat} {n0 : Nat} {bf : ab_B} : decode (ab_code (zx σ n0 bf).1 8015) 232 = .ok (.aload_n 0, 1) := zd zm_8015 (by decide +kernel)
theorem d_8015_233 {σ : Nat → Nat} {n0 : Nat} {bf : ab_B} : decode (ab_code (zx σ n0 bf).1 8015) 233 = .ok (.dup, 1) := zd zm_8015 (by decide +kernel)
theorem d_8015_234 {σ : Nat → Nat} {n0 : Nat} {bf : ab_B} : decode (ab_code (zx σ n0 bf).1 8015) 234 = .ok (.getfield 487, 3) := zd zm_8015 (by decide +kernel)
theorem d_8015_237 {σ : Nat → Nat} {n0 : Nat} {bf : ab_B} : decode (ab_code (zx σ n0 bf).1 8015) 237 = .ok (.iconst 1, 1) := zd zm_8015 (by decide +kernel)
theorem d_8015_238 {σ : Nat → Nat} {n0 : Nat} {bf : ab_B} : decode (ab_code (zx σ n0 bf).1 8015) 238 = .ok (.iadd, 1) := zd zm_8015 (by decide +kernel)
theorem d_8015_239 {σ : Nat → Nat} {n0 : Nat} {bf : ab_B} : decode (ab_code (zx σ n0 bf).1 8015) 239 = .ok (.putfield 487, 3) := zd zm_8015 (by decide +kernel)
theorem d_8015_242 {σ : Nat → Nat} {n0 : Nat} {bf : ab_B} : decode (ab_code (zx σ n0 bf).1 8015) 242 = .ok (.goto (-240), 3) := zd zm_8015 (by decide +kernel)
theorem d_8015_245 {σ : Nat → Nat} {n0 : Nat} {bf : ab_B} : decode (ab_code (zx σ n0 bf).1 8015) 245 = .ok (.iconst 1, 1) := zd zm_8015 (by decide +kernel)
theorem d_8015_246 {σ : Nat → Nat} {n0 : Nat} {bf : ab_B} : decode (ab_code (zx σ n0 bf).1 8015) 246 = .ok (.ireturn, 1) := zd zm_8015 (by decide +kernel)
def w_X9_skip_81 (X : zs_X) (d : Nat) (p0 : Nat) (p2 : Int32) (p3 : Int32) (q0 : Int32) (S : zs_T) (Q : zs_Q) : Prop :=
  (((p3 = 0 → (((q0 = 0 → (zs_U X d 8015 2 [(0, .ref p0), (1, .int q0)] [] S Q)) ∧ (¬ (q0 = 0) → (zs_K S p0 = some (.inl 8) ∧ ab_n0 X.1 ≤ p0 ∧ ∀ S5, S5 = zs_sI S 8005 p0 ((zs_I S 8005 p0) + (1 : Int32)) → zs_U X d 8015 2 [(0, .ref p0), (1, .int q0)] [] S5 Q))))) ∧ (¬ (p3 = 0) → (zs_K S p0 = some (.inl 8) ∧ ((¬ p2 = (123 : Int32) → (ab_n0 X.1 ≤ p0 ∧ ∀ S11, S11 = zs_sI S 8005 p0 ((zs_I S 8005 p0) + (2 : Int32)) → zs_U X d 8015 112 [(0, .ref p0), (1, .int q0), (4, .int (zs_I S 8005 p0))] [] S11 Q)) ∧ (¬ (¬ p2 = (123 : Int32)) → (ab_n0 X.1 ≤ p0 ∧ ∀ S15, S15 = zs_sI S 8005 p0 ((zs_I S 8005 p0) + (1 : Int32)) → zs_U X d 8015 112 [(0, .ref p0), (1, .int q0), (4, .int (zs_I S 8005 p0))] [] S15 Q)))))))
theorem u_X9_skip_81 {σ : Nat → Nat} {n0 : Nat} {bf : ab_B} {d : Nat} {p0 : Nat} {p2 : Int32} {p3 : Int32} {q0 : Int32} {S : zs_T} {Q : zs_Q} (hB : zt_B bf) (h : w_X9_skip_81 (zx σ n0 bf) d p0 p2 p3 q0 S Q) : zs_U (zx σ n0 bf) d 8015 81 [(0, .ref p0), (2, .int p2), (3, .int p3)] [.int q0] S Q := by
  unfold w_X9_skip_81 at h
  refine zu_istore_n d_8015_81 (zs_lt zq_8015 rfl) ?_
  refine zu_iload_n d_8015_82 rfl ?_
  refine zu_ifeq (t := 228) d_8015_83 rfl (fun c1 => ?_) (fun c1 => ?_)
  · have h := h.1 c1
    refine zu_iload_n d_8015_228 rfl ?_
    refine zu_ifeq (t := 242) d_8015_229 rfl (fun c2 => ?_) (fun c2 => ?_)
    · have h := h.1 c2
      refine zu_goto (t := 2) d_8015_242 rfl ?_
      exact h.weak ⟨rfl, rfl, trivial⟩
    · have h := h.2 c2
      refine zu_aload_n d_8015_232 rfl (zs_ra _) ?_
      refine zu_dup d_8015_233 rfl ?_
      obtain ⟨k3, h⟩ := h
      refine zg_8_487 rfl d_8015_234 k3 ?_
      refine zu_iconst d_8015_237 zi_1 ?_
      refine zu_stk d_8015_238 rfl rfl ?_
      obtain ⟨k4, h⟩ := h
      refine zp_8_487 (v := ((zs_I S 8005 p0) + (1 : Int32))) rfl d_8015_239 k3 k4 ?_
      generalize e6 : zs_sI S 8005 p0 ((zs_I S 8005 p0) + (1 : Int32)) = S5
      have h := h S5 e6.symm
      have K7 : ∀ b, zs_K S5 b = zs_K S b := zs_Kt e6 (zs_KsI _ _ _ _) (fun _ => rfl)
      refine zu_goto (t := 2) d_8015_242 rfl ?_
      exact h.weak ⟨rfl, rfl, trivial⟩
  · have h := h.2 c1
    refine zu_aload_n d_8015_86 rfl (zs_ra _) ?_
    obtain ⟨k8, h⟩ := h
    refine zg_8_487 rfl d_8015_87 k8 ?_
    refine zu_istore d_8015_90 (zs_lt zq_8015 rfl) ?_
    refine zu_aload_n d_8015_92 rfl (zs_ra _) ?_
    refine zu_dup d_8015_93 rfl ?_
    refine zg_8_487 rfl d_8015_94 k8 ?_
    refine zu_iload_n d_8015_97 rfl ?_
    refine zu_bipush d_8015_98 zj_123 ?_
    refine zu_cmpne (t := 107) d_8015_100 rfl (fun c9 => ?_) (fun c9 => ?_)
    · have h := h.1 c9
      refine zu_iconst d_8015_107 zi_2 ?_
      refine zu_stk d_8015_108 rfl rfl ?_
      obtain ⟨k10, h⟩ := h
      refine zp_8_487 (v := ((zs_I S 8005 p0) + (2 : Int32))) rfl d_8015_109 k8 k10 ?_
      generalize e12 : zs_sI S 8005 p0 ((zs_I S 8005 p0) + (2 : Int32)) = S11
      have h := h S11 e12.symm
      have K13 : ∀ b, zs_K S11 b = zs_K S b := zs_Kt e12 (zs_KsI _ _ _ _) (fun _ => rfl)
      exact h.weak ⟨rfl, rfl, rfl, trivial⟩
    · have h := h.2 c9
      refine zu_iconst d_8015_103 zi_1 ?_
      refine zu_goto (t := 108) d_8015_104 rfl ?_
      refine zu_stk d_8015_108 rfl rfl ?_
      obtain ⟨k14, h⟩ := h
      refine zp_8_487 (v := ((zs_I S 8005 p0) + (1 : Int32))) rfl d_8015_109 k8 k14 ?_
      generalize e16 : zs_sI S 8005 p0 ((zs_I S 8005 p0) + (1 : Int32)) = S15
      have h := h S15 e16.symm
      have K17 : ∀ b, zs_K S15 b = zs_K S b := zs_Kt e16 (zs_KsI _ _ _ _) (fun _ => rfl)
      exact h.weak ⟨rfl, rfl, rfl, trivial⟩
def w_X9_skip_76 (X : zs_X) (d : Nat) (p0 : Nat) (p2 : Int32) (p3 : Int32) (S : zs_T) (Q : zs_Q) : Prop :=
  (w_X9_skip_81 X d p0 p2 p3 (1 : Int32) S Q)
theorem u_X9_skip_76 {σ : Nat → Nat} {n0 : Nat} {bf : ab_B} {d : Nat} {p0 : Nat} {p2 : Int32} {p3 : Int32} {S : zs_T} {Q : zs_Q} (hB : zt_B bf) (h : w_X9_skip_76 (zx σ n0 bf) d p0 p2 p3 S Q) : zs_U (zx σ n0 bf) d 8015 76 [(0, .ref p0), (2, .int p2), (3, .int p3)] [] S Q := by
  unfold w_X9_skip_76 at h
  refine zu_iconst d_8015_76 zi_1 ?_
  refine zu_goto (t := 81) d_8015_77 rfl ?_
  exact (u_X9_skip_81 hB h).weak ⟨rfl, rfl, rfl, trivial⟩
def w_X9_skip_47 (X : zs_X) (d : Nat) (p0 : Nat) (p2 : Int32) (q0 : Int32) (S : zs_T) (Q : zs_Q) : Prop :=
  (((¬ q0 = 0 → w_X9_skip_76 X d p0 p2 q0 S Q) ∧ (¬ (¬ q0 = 0) → (((p2 = (9 : Int32) → w_X9_skip_76 X d p0 p2 q0 S Q) ∧ (¬ (p2 = (9 : Int32)) → (((p2 = (10 : Int32) → w_X9_skip_76 X d p0 p2 q0 S Q) ∧ (¬ (p2 = (10 : Int32)) → (((p2 = (13 : Int32) → w_X9_skip_76 X d p0 p2 q0 S Q) ∧ (¬ (p2 = (13 : Int32)) → (((¬ p2 = (32 : Int32) → (w_X9_skip_81 X d p0 p2 q0 (0 : Int32) S Q)) ∧ (¬ (¬ p2 = (32 : Int32)) → w_X9_skip_76 X d p0 p2 q0 S Q)))))))))))))))
theorem u_X9_skip_47 {σ : Nat → Nat} {n0 : Nat} {bf : ab_B} {d : Nat} {p0 : Nat} {p2 : Int32} {q0 : Int32} {S : zs_T} {Q : zs_Q} (hB : zt_B bf) (h : w_X9_skip_47 (zx σ n0 bf) d p0 p2 q0 S Q) : zs_U (zx σ n0 bf) d 8015 47 [(0, .ref p0), (2, .int p2)] [.int q0] S Q := by
  unfold w_X9_skip_47 at h
  refine zu_istore_n d_8015_47 (zs_lt zq_8015 rfl) ?_
  refine zu_iload_n d_8015_48 rfl ?_
  refine zu_ifne (t := 76) d_8015_49 rfl (fun c1 => ?_) (fun c1 => ?_)
  · have h := h.1 c1
    exact (u_X9_skip_76 hB h).weak ⟨rfl, rfl, rfl, trivial⟩
  · have h := h.2 c1
    refine zu_iload_n d_8015_52 rfl ?_
    refine zu_bipush d_8015_53 zj_9 ?_
    refine zu_cmpeq (t := 76) d_8015_55 rfl (fun c2 => ?_) (fun c2 => ?_)
    · have h := h.1 c2
      exact (u_X9_skip_76 hB h).weak ⟨rfl, rfl, rfl, trivial⟩
    · have h := h.2 c2
      refine zu_iload_n d_8015_58 rfl ?_
      refine zu_bipush d_8015_59 zj_10 ?_
      refine zu_cmpeq (t := 76) d_8015_61 rfl (fun c3 => ?_) (fun c3 => ?_)
      · have h := h.1 c3
        exact (u_X9_skip_76 hB h).weak ⟨rfl, rfl, rfl, trivial⟩
      · have h := h.2 c3
        refine zu_iload_n d_8015_64 rfl ?_
        refine zu_bipush d_8015_65 zj_13 ?_
        refine zu_cmpeq (t := 76) d_8015_67 rfl (fun c4 => ?_) (fun c4 => ?_)
        · have h := h.1 c4
          exact (u_X9_skip_76 hB h).weak ⟨rfl, rfl, rfl, trivial⟩
        · have h := h.2 c4
          refine zu_iload_n d_8015_70 rfl ?_
          refine zu_bipush d_8015_71 zj_32 ?_
          refine zu_cmpne (t := 80) d_8015_73 rfl (fun c5 => ?_) (fun c5 => ?_)
          · have h := h.1 c5
            refine zu_iconst d_8015_80 zi_0 ?_
            exact (u_X9_skip_81 hB h).weak ⟨rfl, rfl, rfl, trivial⟩
          · have h := h.2 c5
            exact (u_X9_skip_76 hB h).weak ⟨rfl, rfl, rfl, trivial⟩
def w_X9_skip_42 (X : zs_X) (d : Nat) (p0 : Nat) (p2 : Int32) (S : zs_T) (Q : zs_Q) : Prop :=
  (w_X9_skip_47 X d p0 p2 (1 : Int32) S Q)
theorem u_X9_skip_42 {σ : Nat → Nat} {n0 : Nat} {bf : ab_B} {d : Nat} {p0 : Nat} {p2 : Int32} {S : zs_T} {Q : zs_Q} (hB : zt_B bf) (h : w_X9_skip_42 (zx σ n0 bf) d p0 p2 S Q) : zs_U (zx σ n0 bf) d 8015 42 [(0, .ref p0), (2, .int p2)] [] S Q := by
  unfold w_X9_skip_42 at h
  refine zu_iconst d_8015_42 zi_1 ?_
  refine zu_goto (t := 47) d_8015_43 rfl ?_
  exact (u_X9_skip_47 hB h).weak ⟨rfl, rfl, trivial⟩
def w_X9_skip_46 (X : zs_X) (d : Nat) (p0 : Nat) (p2 : Int32) (S : zs_T) (Q : zs_Q) : Prop :=
  (w_X9_skip_47 X d p0 p2 (0 : Int32) S Q)
theorem u_X9_skip_46 {σ : Nat → Nat} {n0 : Nat} {bf : ab_B} {d : Nat} {p0 : Nat} {p2 : Int32} {S : zs_T} {Q : zs_Q} (hB : zt_B bf) (h : w_X9_skip_46 (zx σ n0 bf) d p0 p2 S Q) : zs_U (zx σ n0 bf) d 8015 46 [(0, .ref p0), (2, .int p2)] [] S Q := by
  unfold w_X9_skip_46 at h
  refine zu_iconst d_8015_46 zi_0 ?_
  exact (u_X9_skip_47 hB h).weak ⟨rfl, rfl, trivial⟩
def w_X9_skip_2 (X : zs_X) (d : Nat) (p0 : Nat) (p1 : Int32) (S : zs_T) (Q : zs_Q) : Prop :=
  (((p1 = 0 → (Q (.returned (some (.int (1 : Int32)))) S)) ∧ (¬ (p1 = 0) → (zs_K S p0 = some (.inl 8) ∧ zs_C X d 8006 [.ref p0, .int (zs_I S 8005 p0)] S (zs_kI (fun v4 S3 => (((v4 = (123 : Int32) → w_X9_skip_42 X d p0 v4 S3 Q) ∧ (¬ (v4 = (123 : Int32)) → (((¬ v4 = (40 : Int32) → w_X9_skip_46 X d p0 v4 S3 Q) ∧ (¬ (¬ v4 = (40 : Int32)) → (zs_K S3 p0 = some (.inl 8) ∧ zs_C X d 8006 [.ref p0, .int ((zs_I S3 8005 p0) + (1 : Int32))] S3 (zs_kI (fun v9 S8 => (((¬ v9 = (42 : Int32) → w_X9_skip_46 X d p0 v4 S8 Q) ∧ (¬ (¬ v9 = (42 : Int32)) → w_X9_skip_42 X d p0 v4 S8 Q)))) Q))))))))) Q)))))
theorem u_X9_skip_2 {σ : Nat → Nat} {n0 : Nat} {bf : ab_B} {d : Nat} {p0 : Nat} {p1 : Int32} {S : zs_T} {Q : zs_Q} (hB : zt_B bf) (h : w_X9_skip_2 (zx σ n0 bf) d p0 p1 S Q) : zs_U (zx σ n0 bf) d 8015 2 [(0, .ref p0), (1, .int p1)] [] S Q := by
  unfold w_X9_skip_2 at h
  refine zu_iload_n d_8015_2 rfl ?_
  refine zu_ifeq (t := 245) d_8015_3 rfl (fun c1 => ?_) (fun c1 => ?_)
  · have h := h.1 c1
    refine zu_iconst d_8015_245 zi_1 ?_
    exact zu_iret d_8015_246 zr_8015 (zs_b_n (Or.inr rfl)) h
  · have h := h.2 c1
    refine zu_aload_n d_8015_6 rfl (zs_ra _) ?_
    refine zu_aload_n d_8015_7 rfl (zs_ra _) ?_
    obtain ⟨k2, h⟩ := h
    refine zg_8_487 rfl d_8015_8 k2 ?_
    refine zc_8_471 (x0 := (zs_I S 8005 p0)) hB rfl k2 d_8015_11 (Nat.le_of_ble_eq_true rfl) h (fun v4 S3 h => ?_)
    refine zu_istore_n d_8015_14 (zs_lt zq_8015 rfl) ?_
    refine zu_iload_n d_8015_15 rfl ?_
    refine zu_bipush d_8015_16 zj_123 ?_
    refine zu_cmpeq (t := 42) d_8015_18 rfl (fun c5 => ?_) (fun c5 => ?_)
    · have h := h.1 c5
      exact (u_X9_skip_42 hB h).weak ⟨rfl, rfl, trivial⟩
    · have h := h.2 c5
      refine zu_iload_n d_8015_21 rfl ?_
      refine zu_bipush d_8015_22 zj_40 ?_
      refine zu_cmpne (t := 46) d_8015_24 rfl (fun c6 => ?_) (fun c6 => ?_)
      · have h := h.1 c6
        exact (u_X9_skip_46 hB h).weak ⟨rfl, rfl, trivial⟩
      · have h := h.2 c6
        refine zu_aload_n d_8015_27 rfl (zs_ra _) ?_
        refine zu_aload_n d_8015_28 rfl (zs_ra _) ?_
        obtain ⟨k7, h⟩ := h
        refine zg_8_487 rfl d_8015_29 k7 ?_
        refine zu_iconst d_8015_32 zi_1 ?_
        refine zu_stk d_8015_33 rfl rfl ?_
        refine zc_8_471 (x0 := ((zs_I S3 8005 p0) + (1 : Int32))) hB rfl k7 d_8015_34 (Nat.le_of_ble_eq_true rfl) h (fun v9 S8 h => ?_)
        refine zu_bipush d_8015_37 zj_42 ?_
        refine zu_cmpne (t := 46) d_8015_39 rfl (fun c10 => ?_) (fun c10 => ?_)
        · have h := h.1 c10
          exact (u_X9_skip_46 hB h).weak ⟨rfl, rfl, trivial⟩
        · have h := h.2 c10
          exact (u_X9_skip_42 hB h).weak ⟨rfl, rfl, trivial⟩
def w_X9_skip_221 (X : zs_X) (d : Nat) (p0 : Nat) (p1 : Int32) (q0 : Option Nat) (q1 : Int32) (q2 : Int32) (S : zs_T) (Q : zs_Q) : Prop :=
  (∃ b1, q0 = some b1 ∧ zs_K S b1 = some (.inl 8) ∧ ab_n0 X.1 ≤ b1 ∧ ∀ S5, S5 = zs_sI S 8005 b1 (q1 + q2) → zs_U X d 8015 2 [(0, .ref p0), (1, .int p1)] [] S5 Q)
theorem u_X9_skip_221 {σ : Nat → Nat} {n0 : Nat} {bf : ab_B} {d : Nat} {p0 : Nat} {p1 : Int32} {q0 : Option Nat} {q1 : Int32} {q2 : Int32} {S : zs_T} {Q : zs_Q} (hB : zt_B bf) (h : w_X9_skip_221 (zx σ n0 bf) d p0 p1 q0 q1 q2 S Q) : zs_U (zx σ n0 bf) d 8015 221 [(0, .ref p0), (1, .int p1)] [.int q2, .int q1, va_rf q0] S Q := by
  unfold w_X9_skip_221 at h
  refine zu_stk d_8015_221 rfl rfl ?_
  obtain ⟨b1, e2, h⟩ := h
  refine zs_stk1 (zs_rfe e2) ?_
  obtain ⟨k3, h⟩ := h
  obtain ⟨k4, h⟩ := h
  refine zp_8_487 (v := (q1 + q2)) rfl d_8015_222 k3 k4 ?_
  generalize e6 : zs_sI S 8005 b1 (q1 + q2) = S5
  have h := h S5 e6.symm
  have K7 : ∀ b, zs_K S5 b = zs_K S b := zs_Kt e6 (zs_KsI _ _ _ _) (fun _ => rfl)
  refine zu_goto (t := 242) d_8015_225 rfl ?_
  refine zu_goto (t := 2) d_8015_242 rfl ?_
  exact h.weak ⟨rfl, rfl, trivial⟩
def w_X9_skip_178 (X : zs_X) (d : Nat) (p0 : Nat) (p1 : Int32) (p4 : Int32) (S : zs_T) (Q : zs_Q) : Prop :=
  (zs_K S p0 = some (.inl 8) ∧ zs_C X d 8006 [.ref p0, .int (zs_I S 8005 p0)] S (zs_kI (fun v3 S2 => (((¬ v3 = (-1 : Int32) → (zs_K S2 p0 = some (.inl 8) ∧ zs_C X d 8006 [.ref p0, .int (zs_I S2 8005 p0)] S2 (zs_kI (fun v7 S6 => (((¬ v7 = (125 : Int32) → (w_X9_skip_221 X d p0 p1 (some p0) (zs_I S2 8005 p0) (2 : Int32) S6 Q)) ∧ (¬ (¬ v7 = (125 : Int32)) → (w_X9_skip_221 X d p0 p1 (some p0) (zs_I S2 8005 p0) (1 : Int32) S6 Q))))) Q))) ∧ (¬ (¬ v3 = (-1 : Int32)) → (zs_K S2 p0 = some (.inl 8) ∧ zs_C X d 8016 [.ref p0, .int p4] S2 (zs_kV (fun S10 => (Q (.returned (some (.int (0 : Int32)))) S10)) Q)))))) Q))
theorem u_X9_skip_178 {σ : Nat → Nat} {n0 : Nat} {bf : ab_B} {d : Nat} {p0 : Nat} {p1 : Int32} {p4 : Int32} {S : zs_T} {Q : zs_Q} (hB : zt_B bf) (h : w_X9_skip_178 (zx σ n0 bf) d p0 p1 p4 S Q) : zs_U (zx σ n0 bf) d 8015 178 [(0, .ref p0), (1, .int p1), (4, .int p4)] [] S Q := by
  unfold w_X9_skip_178 at h
  refine zu_aload_n d_8015_178 rfl (zs_ra _) ?_
  refine zu_aload_n d_8015_179 rfl (zs_ra _) ?_
  obtain ⟨k1, h⟩ := h
  refine zg_8_487 rfl d_8015_180 k1 ?_
  refine zc_8_471 (x0 := (zs_I S 8005 p0)) hB rfl k1 d_8015_183 (Nat.le_of_ble_eq_true rfl) h (fun v3 S2 h => ?_)
  refine zu_iconst d_8015_186 zi_m1 ?_
  refine zu_cmpne (t := 198) d_8015_187 rfl (fun c4 => ?_) (fun c4 => ?_)
  · have h := h.1 c4
    refine zu_aload_n d_8015_198 rfl (zs_ra _) ?_
    refine zu_dup d_8015_199 rfl ?_
    obtain ⟨k5, h⟩ := h
    refine zg_8_487 rfl d_8015_200 k5 ?_
    refine zu_aload_n d_8015_203 rfl (zs_ra _) ?_
    refine zu_aload_n d_8015_204 rfl (zs_ra _) ?_
    refine zg_8_487 rfl d_8015_205 k5 ?_
    refine zc_8_471 (x0 := (zs_I S2 8005 p0)) hB rfl k5 d_8015_208 (Nat.le_of_ble_eq_true rfl) h (fun v7 S6 h => ?_)
    refine zu_bipush d_8015_211 zj_125 ?_
    refine zu_cmpne (t := 220) d_8015_213 rfl (fun c8 => ?_) (fun c8 => ?_)
    · have h := h.1 c8
      refine zu_iconst d_8015_220 zi_2 ?_
      exact (u_X9_skip_221 hB h).weak ⟨rfl, rfl, trivial⟩
    · have h := h.2 c8
      refine zu_iconst d_8015_216 zi_1 ?_
      refine zu_goto (t := 221) d_8015_217 rfl ?_
      exact (u_X9_skip_221 hB h).weak ⟨rfl, rfl, trivial⟩
  · have h := h.2 c4
    refine zu_aload_n d_8015_190 rfl (zs_ra _) ?_
    refine zu_iload d_8015_191 rfl ?_
    obtain ⟨k9, h⟩ := h
    refine zc_8_490 (x0 := p4) hB rfl k9 d_8015_193 (Nat.le_of_ble_eq_true rfl) h (fun S10 h => ?_)
    refine zu_iconst d_8015_196 zi_0 ?_
    exact zu_iret d_8015_197 zr_8015 (zs_b_n (Or.inl rfl)) h
def w_X9_skip_165 (X : zs_X) (d : Nat) (p0 : Nat) (p1 : Int32) (p4 : Int32) (S : zs_T) (Q : zs_Q) : Prop :=
  (zs_K S p0 = some (.inl 8) ∧ ab_n0 X.1 ≤ p0 ∧ ∀ S3, S3 = zs_sI S 8005 p0 ((zs_I S 8005 p0) + (1 : Int32)) → zs_U X d 8015 112 [(0, .ref p0), (1, .int p1), (4, .int p4)] [] S3 Q)
theorem u_X9_skip_165 {σ : Nat → Nat} {n0 : Nat} {bf : ab_B} {d : Nat} {p0 : Nat} {p1 : Int32} {p4 : Int32} {S : zs_T} {Q : zs_Q} (hB : zt_B bf) (h : w_X9_skip_165 (zx σ n0 bf) d p0 p1 p4 S Q) : zs_U (zx σ n0 bf) d 8015 165 [(0, .ref p0), (1, .int p1), (4, .int p4)] [] S Q := by
  unfold w_X9_skip_165 at h
  refine zu_aload_n d_8015_165 rfl (zs_ra _) ?_
  refine zu_dup d_8015_166 rfl ?_
  obtain ⟨k1, h⟩ := h
  refine zg_8_487 rfl d_8015_167 k1 ?_
  refine zu_iconst d_8015_170 zi_1 ?_
  refine zu_stk d_8015_171 rfl rfl ?_
  obtain ⟨k2, h⟩ := h
  refine zp_8_487 (v := ((zs_I S 8005 p0) + (1 : Int32))) rfl d_8015_172 k1 k2 ?_
  generalize e4 : zs_sI S 8005 p0 ((zs_I S 8005 p0) + (1 : Int32)) = S3
  have h := h S3 e4.symm
  have K5 : ∀ b, zs_K S3 b = zs_K S b := zs_Kt e4 (zs_KsI _ _ _ _) (fun _ => rfl)
  refine zu_goto (t := 112) d_8015_175 rfl ?_
  exact h.weak ⟨rfl, rfl, rfl, trivial⟩
def w_X9_skip_150 (X : zs_X) (d : Nat) (p0 : Nat) (p1 : Int32) (p4 : Int32) (S : zs_T) (Q : zs_Q) : Prop :=
  (zs_K S p0 = some (.inl 8) ∧ zs_C X d 8006 [.ref p0, .int ((zs_I S 8005 p0) + (1 : Int32))] S (zs_kI (fun v3 S2 => (((v3 = (41 : Int32) → w_X9_skip_178 X d p0 p1 p4 S2 Q) ∧ (¬ (v3 = (41 : Int32)) → w_X9_skip_165 X d p0 p1 p4 S2 Q)))) Q))
theorem u_X9_skip_150 {σ : Nat → Nat} {n0 : Nat} {bf : ab_B} {d : Nat} {p0 : Nat} {p1 : Int32} {p4 : Int32} {S : zs_T} {Q : zs_Q} (hB : zt_B bf) (h : w_X9_skip_150 (zx σ n0 bf) d p0 p1 p4 S Q) : zs_U (zx σ n0 bf) d 8015 150 [(0, .ref p0), (1, .int p1), (4, .int p4)] [] S Q := by
  unfold w_X9_skip_150 at h
  refine zu_aload_n d_8015_150 rfl (zs_ra _) ?_
  refine zu_aload_n d_8015_151 rfl (zs_ra _) ?_
  obtain ⟨k1, h⟩ := h
  refine zg_8_487 rfl d_8015_152 k1 ?_
  refine zu_iconst d_8015_155 zi_1 ?_
  refine zu_stk d_8015_156 rfl rfl ?_
  refine zc_8_471 (x0 := ((zs_I S 8005 p0) + (1 : Int32))) hB rfl k1 d_8015_157 (Nat.le_of_ble_eq_true rfl) h (fun v3 S2 h => ?_)
  refine zu_bipush d_8015_160 zj_41 ?_
  refine zu_cmpeq (t := 178) d_8015_162 rfl (fun c4 => ?_) (fun c4 => ?_)
  · have h := h.1 c4
    exact (u_X9_skip_178 hB h).weak ⟨rfl, rfl, rfl, trivial⟩
  · have h := h.2 c4
    exact (u_X9_skip_165 hB h).weak ⟨rfl, rfl, rfl, trivial⟩
def w_X9_skip_112 (X : zs_X) (d : Nat) (p0 : Nat) (p1 : Int32) (p4 : Int32) (S : zs_T) (Q : zs_Q) : Prop :=
  (zs_K S p0 = some (.inl 8) ∧ zs_C X d 8006 [.ref p0, .int (zs_I S 8005 p0)] S (zs_kI (fun v3 S2 => (((v3 = (-1 : Int32) → w_X9_skip_178 X d p0 p1 p4 S2 Q) ∧ (¬ (v3 = (-1 : Int32)) → (zs_K S2 p0 = some (.inl 8) ∧ zs_C X d 8006 [.ref p0, .int (zs_I S2 8005 p0)] S2 (zs_kI (fun v7 S6 => (((v7 = (125 : Int32) → w_X9_skip_178 X d p0 p1 p4 S6 Q) ∧ (¬ (v7 = (125 : Int32)) → (zs_K S6 p0 = some (.inl 8) ∧ zs_C X d 8006 [.ref p0, .int (zs_I S6 8005 p0)] S6 (zs_kI (fun v11 S10 => (((¬ v11 = (42 : Int32) → w_X9_skip_165 X d p0 p1 p4 S10 Q) ∧ (¬ (¬ v11 = (42 : Int32)) → w_X9_skip_150 X d p0 p1 p4 S10 Q)))) Q)))))) Q)))))) Q))
theorem u_X9_skip_112 {σ : Nat → Nat} {n0 : Nat} {bf : ab_B} {d : Nat} {p0 : Nat} {p1 : Int32} {p4 : Int32} {S : zs_T} {Q : zs_Q} (hB : zt_B bf) (h : w_X9_skip_112 (zx σ n0 bf) d p0 p1 p4 S Q) : zs_U (zx σ n0 bf) d 8015 112 [(0, .ref p0), (1, .int p1), (4, .int p4)] [] S Q := by
  unfold w_X9_skip_112 at h
  refine zu_aload_n d_8015_112 rfl (zs_ra _) ?_
  refine zu_aload_n d_8015_113 rfl (zs_ra _) ?_
  obtain ⟨k1, h⟩ := h
  refine zg_8_487 rfl d_8015_114 k1 ?_
  refine zc_8_471 (x0 := (zs_I S 8005 p0)) hB rfl k1 d_8015_117 (Nat.le_of_ble_eq_true rfl) h (fun v3 S2 h => ?_)
  refine zu_iconst d_8015_120 zi_m1 ?_
  refine zu_cmpeq (t := 178) d_8015_121 rfl (fun c4 => ?_) (fun c4 => ?_)
  · have h := h.1 c4
    exact (u_X9_skip_178 hB h).weak ⟨rfl, rfl, rfl, trivial⟩
  · have h := h.2 c4
    refine zu_aload_n d_8015_124 rfl (zs_ra _) ?_
    refine zu_aload_n d_8015_125 rfl (zs_ra _) ?_
    obtain ⟨k5, h⟩ := h
    refine zg_8_487 rfl d_8015_126 k5 ?_
    refine zc_8_471 (x0 := (zs_I S2 8005 p0)) hB rfl k5 d_8015_129 (Nat.le_of_ble_eq_true rfl) h (fun v7 S6 h => ?_)
    refine zu_bipush d_8015_132 zj_125 ?_
    refine zu_cmpeq (t := 178) d_8015_134 rfl (fun c8 => ?_) (fun c8 => ?_)
    · have h := h.1 c8
      exact (u_X9_skip_178 hB h).weak ⟨rfl, rfl, rfl, trivial⟩
    · have h := h.2 c8
      refine zu_aload_n d_8015_137 rfl (zs_ra _) ?_
      refine zu_aload_n d_8015_138 rfl (zs_ra _) ?_
      obtain ⟨k9, h⟩ := h
      refine zg_8_487 rfl d_8015_139 k9 ?_
      refine zc_8_471 (x0 := (zs_I S6 8005 p0)) hB rfl k9 d_8015_142 (Nat.le_of_ble_eq_true rfl) h (fun v11 S10 h => ?_)
      refine zu_bipush d_8015_145 zj_42 ?_
      refine zu_cmpne (t := 165) d_8015_147 rfl (fun c12 => ?_) (fun c12 => ?_)
      · have h := h.1 c12
        exact (u_X9_skip_165 hB h).weak ⟨rfl, rfl, rfl, trivial⟩
      · have h := h.2 c12
        exact (u_X9_skip_150 hB h).weak ⟨rfl, rfl, rfl, trivial⟩
def w_X9_skip (X : zs_X) (d : Nat) (p0 : Nat) (S : zs_T) (Q : zs_Q) : Prop :=
  (zs_U X d 8015 2 [(0, .ref p0), (1, .int (1 : Int32))] [] S Q)
theorem u_X9_skip {σ : Nat → Nat} {n0 : Nat} {bf : ab_B} {d : Nat} {p0 : Nat} {S : zs_T} {Q : zs_Q} (hB : zt_B bf) (hd : 1 ≤ d) (h : w_X9_skip (zx σ n0 bf) (d - 1) p0 S Q) : zs_C (zx σ n0 bf) d 8015 [.ref p0] S Q := by
  have hL : lv_args 0 [.ref p0] = [(0, .ref p0)] := rfl
  refine zs_C.of1 (hB.2 8015 (by decide) (by decide)) hd (by rw [hL]; exact zs_sub_self _ (by exact ⟨rfl, trivial⟩)) ?_
  rw [hL]
  clear hL
  unfold w_X9_skip at h
  refine zu_iconst d_8015_0 zi_1 ?_
  refine zu_istore_n d_8015_1 (zs_lt zq_8015 rfl) ?_
  exact h.weak ⟨rfl, rfl, trivial⟩
/-! SchemaPascalModel.bad(I)V -/
theorem zm_8016 {σ : Nat → Nat} {n0 : Nat} {bf : ab_B} : ab_code (zx σ n0 bf).1 8016 = prog_17_method_12_code := rfl
theorem zq_8016 {σ : Nat → Nat} {n0 : Nat} {bf : ab_B} : ab_maxL (zx σ n0 bf).1 8016 = 2 := rfl
theorem zr_8016 {σ : Nat → Nat} {n0 : Nat} {bf : ab_B} : ab_ret (zx σ n0 bf).1 8016 = (Option.none : Option Jvm.ClassFile.FieldType) := rfl
theorem d_8016_0 {σ : Nat → Nat} {n0 : Nat} {bf : ab_B} : decode (ab_code (zx σ n0 bf).1 8016) 0 = .ok (.aload_n 0, 1) := zd zm_8016 (by decide +kernel)
theorem d_8016_1 {σ : Nat → Nat} {n0 : Nat} {bf : ab_B} : decode (ab_code (zx σ n0 bf).1 8016) 1 = .ok (.iconst 0, 1) := zd zm_8016 (by decide +kernel)
theorem d_8016_2 {σ : Nat → Nat} {n0 : Nat} {bf : ab_B} : decode (ab_code (zx σ n0 bf).1 8016) 2 = .ok (.putfield 484, 3) := zd zm_8016 (by decide +kernel)
theorem d_8016_5 {σ : Nat → Nat} {n0 : Nat} {bf : ab_B} : decode (ab_code (zx σ n0 bf).1 8016) 5 = .ok (.aload_n 0, 1) := zd zm_8016 (by decide +kernel)
theorem d_8016_6 {σ : Nat → Nat} {n0 : Nat} {bf : ab_B} : decode (ab_code (zx σ n0 bf).1 8016) 6 = .ok (.iload_n 1, 1) := zd zm_8016 (by decide +kernel)
theorem d_8016_7 {σ : Nat → Nat} {n0 : Nat} {bf : ab_B} : decode (ab_code (zx σ n0 bf).1 8016) 7 = .ok (.putfield 450, 3) := zd zm_8016 (by decide +kernel)
theorem d_8016_10 {σ : Nat → Nat} {n0 : Nat} {bf : ab_B} : decode (ab_code (zx σ n0 bf).1 8016) 10 = .ok (.aload_n 0, 1) := zd zm_8016 (by decide +kernel)
theorem d_8016_11 {σ : Nat → Nat} {n0 : Nat} {bf : ab_B} : decode (ab_code (zx σ n0 bf).1 8016) 11 = .ok (.iconst 1, 1) := zd zm_8016 (by decide +kernel)
theorem d_8016_12 {σ : Nat → Nat} {n0 : Nat} {bf : ab_B} : decode (ab_code (zx σ n0 bf).1 8016) 12 = .ok (.iload_n 1, 1) := zd zm_8016 (by decide +kernel)
theorem d_8016_13 {σ : Nat → Nat} {n0 : Nat} {bf : ab_B} : decode (ab_code (zx σ n0 bf).1 8016) 13 = .ok (.invokevirtual 453, 3) := zd zm_8016 (by decide +kernel)
theorem d_8016_16 {σ : Nat → Nat} {n0 : Nat} {bf : ab_B} : decode (ab_code (zx σ n0 bf).1 8016) 16 = .ok (.return_, 1) := zd zm_8016 (by decide +kernel)
def w_X9_bad (X : zs_X) (d : Nat) (p0 : Nat) (p1 : Int32) (S : zs_T) (Q : zs_Q) : Prop :=
  (zs_K S p0 = some (.inl 8) ∧ ab_n0 X.1 ≤ p0 ∧ ∀ S3, S3 = zs_sI S 8006 p0 (0 : Int32) → ∀ S6, S6 = zs_sI S3 8007 p0 p1 → zs_C X d 8017 [.ref p0, .int (1 : Int32), .int p1] S6 (zs_kV (fun S9 => (Q (.returned none) S9)) Q))
theorem u_X9_bad {σ : Nat → Nat} {n0 : Nat} {bf : ab_B} {d : Nat} {p0 : Nat} {p1 : Int32} {S : zs_T} {Q : zs_Q} (hB : zt_B bf) (hd : 1 ≤ d) (h : w_X9_bad (zx σ n0 bf) (d - 1) p0 p1 S Q) : zs_C (zx σ n0 bf) d 8016 [.ref p0, .int p1] S Q := by
  have hL : lv_args 0 [.ref p0, .int p1] = [(0, .ref p0), (1, .int p1)] := rfl
  refine zs_C.of1 (hB.2 8016 (by decide) (by decide)) hd (by rw [hL]; exact zs_sub_self _ (by exact ⟨rfl, rfl, trivial⟩)) ?_
  rw [hL]
  clear hL
  unfold w_X9_bad at h
  refine zu_aload_n d_8016_0 rfl (zs_ra _) ?_
  refine zu_iconst d_8016_1 zi_0 ?_
  obtain ⟨k1, h⟩ := h
  obtain ⟨k2, h⟩ := h
  refine zp_8_484 (v := (0 : Int32)) rfl d_8016_2 k1 k2 ?_
  generalize e4 : zs_sI S 8006 p0 (0 : Int32) = S3
  have h := h S3 e4.symm
  have K5 : ∀ b, zs_K S3 b = zs_K S b := zs_Kt e4 (zs_KsI _ _ _ _) (fun _ => rfl)
  refine zu_aload_n d_8016_5 rfl (zs_ra _) ?_
  refine zu_iload_n d_8016_6 rfl ?_
  refine zp_8_450 (v := p1) rfl d_8016_7 ((K5 _).trans k1) k2 ?_
  generalize e7 : zs_sI S3 8007 p0 p1 = S6
  have h := h S6 e7.symm
  have K8 : ∀ b, zs_K S6 b = zs_K S b := zs_Kt e7 (zs_KsI _ _ _ _) K5
  refine zu_aload_n d_8016_10 rfl (zs_ra _) ?_
  refine zu_iconst d_8016_11 zi_1 ?_
  refine zu_iload_n d_8016_12 rfl ?_
  refine zc_8_453 (x0 := (1 : Int32)) (x1 := p1) hB rfl ((K8 _).trans k1) d_8016_13 (Nat.le_of_ble_eq_true rfl) h (fun S9 h => ?_)
  exact zu_vret d_8016_16 zr_8016 h
/-! SchemaPascalModel.flaw(II)V -/
theorem zm_8017 {σ : Nat → Nat} {n0 : Nat} {bf : ab_B} : ab_code (zx σ n0 bf).1 8017 = prog_17_method_3_code := rfl
theorem zq_8017 {σ : Nat → Nat} {n0 : Nat} {bf : ab_B} : ab_maxL (zx σ n0 bf).1 8017 = 3 := rfl
theorem zr_8017 {σ : Nat → Nat} {n0 : Nat} {bf : ab_B} : ab_ret (zx σ n0 bf).1 8017 = (Option.none : Option Jvm.ClassFile.FieldType) := rfl
theorem d_8017_0 {σ : Nat → Nat} {n0 : Nat} {bf : ab_B} : decode (ab_code (zx σ n0 bf).1 8017) 0 = .ok (.aload_n 0, 1) := zd zm_8017 (by decide +kernel)
theorem d_8017_1 {σ : Nat → Nat} {n0 : Nat} {bf : ab_B} : decode (ab_code (zx σ n0 bf).1 8017) 1 = .ok (.getfield 444, 3) := zd zm_8017 (by decide +kernel)
theorem d_8017_4 {σ : Nat → Nat} {n0 : Nat} {bf : ab_B} : decode (ab_code (zx σ n0 bf).1 8017) 4 = .ok (.ifCond .ne 13, 3) := zd zm_8017 (by decide +kernel)
theorem d_8017_7 {σ : Nat → Nat} {n0 : Nat} {bf : ab_B} : decode (ab_code (zx σ n0 bf).1 8017) 7 = .ok (.aload_n 0, 1) := zd zm_8017 (by decide +kernel)
theorem d_8017_8 {σ : Nat → Nat} {n0 : Nat} {bf : ab_B} : decode (ab_code (zx σ n0 bf).1 8017) 8 = .ok (.iload_n 1, 1) := zd zm_8017 (by decide +kernel)
theorem d_8017_9 {σ : Nat → Nat} {n0 : Nat} {bf : ab_B} : decode (ab_code (zx σ n0 bf).1 8017) 9 = .ok (.putfield 444, 3) := zd zm_8017 (by decide +kernel)
theorem d_8017_12 {σ : Nat → Nat} {n0 : Nat} {bf : ab_B} : decode (ab_code (zx σ n0 bf).1 8017) 12 = .ok (.aload_n 0, 1) := zd zm_8017 (by decide +kernel)
theorem d_8017_13 {σ : Nat → Nat} {n0 : Nat} {bf : ab_B} : decode (ab_code (zx σ n0 bf).1 8017) 13 = .ok (.iload_n 2, 1) := zd zm_8017 (by decide +kernel)
theorem d_8017_14 {σ : Nat → Nat} {n0 : Nat} {bf : ab_B} : decode (ab_code (zx σ n0 bf).1 8017) 14 = .ok (.putfield 447, 3) := zd zm_8017 (by decide +kernel)
theorem d_8017_17 {σ : Nat → Nat} {n0 : Nat} {bf : ab_B} : decode (ab_code (zx σ n0 bf).1 8017) 17 = .ok (.return_, 1) := zd zm_8017 (by decide +kernel)
def w_X9_flaw (X : zs_X) (d : Nat) (p0 : Nat) (p1 : Int32) (p2 : Int32) (S : zs_T) (Q : zs_Q) : Prop :=
  (zs_K S p0 = some (.inl 8) ∧ ((¬ (zs_I S 8010 p0) = 0 → (Q (.returned none) S)) ∧ (¬ (¬ (zs_I S 8010 p0) = 0) → (ab_n0 X.1 ≤ p0 ∧ ∀ S4, S4 = zs_sI S 8010 p0 p1 → ∀ S7, S7 = zs_sI S4 8011 p0 p2 → Q (.returned none) S7))))
theorem u_X9_flaw {σ : Nat → Nat} {n0 : Nat} {bf : ab_B} {d : Nat} {p0 : Nat} {p1 : Int32} {p2 : Int32} {S : zs_T} {Q : zs_Q} (hB : zt_B bf) (hd : 1 ≤ d) (h : w_X9_flaw (zx σ n0 bf) (d - 1) p0 p1 p2 S Q) : zs_C (zx σ n0 bf) d 8017 [.ref p0, .int p1, .int p2] S Q := by
  have hL : lv_args 0 [.ref p0, .int p1, .int p2] = [(0, .ref p0), (1, .int p1), (2, .int p2)] := rfl
  refine zs_C.of1 (hB.2 8017 (by decide) (by decide)) hd (by rw [hL]; exact zs_sub_self _ (by exact ⟨rfl, rfl, rfl, trivial⟩)) ?_
  rw [hL]
  clear hL
  unfold w_X9_flaw at h
  refine zu_aload_n d_8017_0 rfl (zs_ra _) ?_
  obtain ⟨k1, h⟩ := h
  refine zg_8_444 rfl d_8017_1 k1 ?_
  refine zu_ifne (t := 17) d_8017_4 rfl (fun c2 => ?_) (fun c2 => ?_)
  · have h := h.1 c2
    exact zu_vret d_8017_17 zr_8017 h
  · have h := h.2 c2
    refine zu_aload_n d_8017_7 rfl (zs_ra _) ?_
    refine zu_iload_n d_8017_8 rfl ?_
    obtain ⟨k3, h⟩ := h
    refine zp_8_444 (v := p1) rfl d_8017_9 k1 k3 ?_
    generalize e5 : zs_sI S 8010 p0 p1 = S4
    have h := h S4 e5.symm
    have K6 : ∀ b, zs_K S4 b = zs_K S b := zs_Kt e5 (zs_KsI _ _ _ _) (fun _ => rfl)
    refine zu_aload_n d_8017_12 rfl (zs_ra _) ?_
    refine zu_iload_n d_8017_13 rfl ?_
    refine zp_8_447 (v := p2) rfl d_8017_14 ((K6 _).trans k1) k3 ?_
    generalize e8 : zs_sI S4 8011 p0 p2 = S7
    have h := h S7 e8.symm
    have K9 : ∀ b, zs_K S7 b = zs_K S b := zs_Kt e8 (zs_KsI _ _ _ _) K6
    exact zu_vret d_8017_17 zr_8017 h
/-! SchemaPascalModel.isLetter(I)Z -/
theorem zm_8018 {σ : Nat → Nat} {n0 : Nat} {bf : ab_B} : ab_code (zx σ n0 bf).1 8018 = prog_17_method_7_code := rfl
theorem zq_8018 {σ : Nat → Nat} {n0 : Nat} {bf : ab_B} : ab_maxL (zx σ n0 bf).1 8018 = 1 := rfl
theorem zr_8018 {σ : Nat → Nat} {n0 : Nat} {bf : ab_B} : ab_ret (zx σ n0 bf).1 8018 = (Option.some Jvm.ClassFile.FieldType.boolean) := rfl
theorem d_8018_0 {σ : Nat → Nat} {n0 : Nat} {bf : ab_B} : decode (ab_code (zx σ n0 bf).1 8018) 0 = .ok (.iload_n 0, 1) := zd zm_8018 (by decide +kernel)
theorem d_8018_1 {σ : Nat → Nat} {n0 : Nat} {bf : ab_B} : decode (ab_code (zx σ n0 bf).1 8018) 1 = .ok (.bipush 97, 2) := zd zm_8018 (by decide +kernel)
theorem d_8018_3 {σ : Nat → Nat} {n0 : Nat} {bf : ab_B} : decode (ab_code (zx σ n0 bf).1 8018) 3 = .ok (.if_icmp .lt 9, 3) := zd zm_8018 (by decide +kernel)
theorem d_8018_6 {σ : Nat → Nat} {n0 : Nat} {bf : ab_B} : decode (ab_code (zx σ n0 bf).1 8018) 6 = .ok (.iload_n 0, 1) := zd zm_8018 (by decide +kernel)
theorem d_8018_7 {σ : Nat → Nat} {n0 : Nat} {bf : ab_B} : decode (ab_code (zx σ n0 bf).1 8018) 7 = .ok (.bipush 122, 2) := zd zm_8018 (by decide +kernel)
theorem d_8018_9 {σ : Nat → Nat} {n0 : Nat} {bf : ab_B} : decode (ab_code (zx σ n0 bf).1 8018) 9 = .ok (.if_icmp .le 15, 3) := zd zm_8018 (by decide +kernel)
theorem d_8018_12 {σ : Nat → Nat} {n0 : Nat} {bf : ab_B} : decode (ab_code (zx σ n0 bf).1 8018) 12 = .ok (.iload_n 0, 1) := zd zm_8018 (by decide +kernel)
theorem d_8018_13 {σ : Nat → Nat} {n0 : Nat} {bf : ab_B} : decode (ab_code (zx σ n0 bf).1 8018) 13 = .ok (.bipush 65, 2) := zd zm_8018 (by decide +kernel)
theorem d_8018_15 {σ : Nat → Nat} {n0 : Nat} {bf : ab_B} : decode (ab_code (zx σ n0 bf).1 8018) 15 = .ok (.if_icmp .lt 13, 3) := zd zm_8018 (by decide +kernel)
theorem d_8018_18 {σ : Nat → Nat} {n0 : Nat} {bf : ab_B} : decode (ab_code (zx σ n0 bf).1 8018) 18 = .ok (.iload_n 0, 1) := zd zm_8018 (by decide +kernel)
theorem d_8018_19 {σ : Nat → Nat} {n0 : Nat} {bf : ab_B} : decode (ab_code (zx σ n0 bf).1 8018) 19 = .ok (.bipush 90, 2) := zd zm_8018 (by decide +kernel)
theorem d_8018_21 {σ : Nat → Nat} {n0 : Nat} {bf : ab_B} : decode (ab_code (zx σ n0 bf).1 8018) 21 = .ok (.if_icmp .gt 7, 3) := zd zm_8018 (by decide +kernel)
theorem d_8018_24 {σ : Nat → Nat} {n0 : Nat} {bf : ab_B} : decode (ab_code (zx σ n0 bf).1 8018) 24 = .ok (.iconst 1, 1) := zd zm_8018 (by decide +kernel)
theorem d_8018_25 {σ : Nat → Nat} {n0 : Nat} {bf : ab_B} : decode (ab_code (zx σ n0 bf).1 8018) 25 = .ok (.goto 4, 3) := zd zm_8018 (by decide +kernel)
theorem d_8018_28 {σ : Nat → Nat} {n0 : Nat} {bf : ab_B} : decode (ab_code (zx σ n0 bf).1 8018) 28 = .ok (.iconst 0, 1) := zd zm_8018 (by decide +kernel)
theorem d_8018_29 {σ : Nat → Nat} {n0 : Nat} {bf : ab_B} : decode (ab_code (zx σ n0 bf).1 8018) 29 = .ok (.ireturn, 1) := zd zm_8018 (by decide +kernel)
def w_X9_isLetter_12 (X : zs_X) (d : Nat) (p0 : Int32) (S : zs_T) (Q : zs_Q) : Prop :=
  (((p0 < (65 : Int32) → (Q (.returned (some (.int (0 : Int32)))) S)) ∧ (¬ (p0 < (65 : Int32)) → ((((90 : Int32) < p0 → (Q (.returned (some (.int (0 : Int32)))) S)) ∧ (¬ ((90 : Int32) < p0) → (Q (.returned (some (.int (1 : Int32)))) S)))))))
theorem u_X9_isLetter_12 {σ : Nat → Nat} {n0 : Nat} {bf : ab_B} {d : Nat} {p0 : Int32} {S : zs_T} {Q : zs_Q} (hB : zt_B bf) (h : w_X9_isLetter_12 (zx σ n0 bf) d p0 S Q) : zs_U (zx σ n0 bf) d 8018 12 [(0, .int p0)] [] S Q := by
  unfold w_X9_isLetter_12 at h
  refine zu_iload_n d_8018_12 rfl ?_
  refine zu_bipush d_8018_13 zj_65 ?_
  refine zu_cmplt (t := 28) d_8018_15 rfl (fun c1 => ?_) (fun c1 => ?_)
  · have h := h.1 c1
    refine zu_iconst d_8018_28 zi_0 ?_
    exact zu_iret d_8018_29 zr_8018 (zs_b_n (Or.inl rfl)) h
  · have h := h.2 c1
    refine zu_iload_n d_8018_18 rfl ?_
    refine zu_bipush d_8018_19 zj_90 ?_
    refine zu_cmpgt (t := 28) d_8018_21 rfl (fun c2 => ?_) (fun c2 => ?_)
    · have h := h.1 c2
      refine zu_iconst d_8018_28 zi_0 ?_
      exact zu_iret d_8018_29 zr_8018 (zs_b_n (Or.inl rfl)) h
    · have h := h.2 c2
      refine zu_iconst d_8018_24 zi_1 ?_
      refine zu_goto (t := 29) d_8018_25 rfl ?_
      exact zu_iret d_8018_29 zr_8018 (zs_b_n (Or.inr rfl)) h
def w_X9_isLetter (X : zs_X) (d : Nat) (p0 : Int32) (S : zs_T) (Q : zs_Q) : Prop :=
  (((p0 < (97 : Int32) → w_X9_isLetter_12 X d p0 S Q) ∧ (¬ (p0 < (97 : Int32)) → (((p0 ≤ (122 : Int32) → (Q (.returned (some (.int (1 : Int32)))) S)) ∧ (¬ (p0 ≤ (122 : Int32)) → w_X9_isLetter_12 X d p0 S Q))))))
theorem u_X9_isLetter {σ : Nat → Nat} {n0 : Nat} {bf : ab_B} {d : Nat} {p0 : Int32} {S : zs_T} {Q : zs_Q} (hB : zt_B bf) (hd : 1 ≤ d) (h : w_X9_isLetter (zx σ n0 bf) (d - 1) p0 S Q) : zs_C (zx σ n0 bf) d 8018 [.int p0] S Q := by
  have hL : lv_args 0 [.int p0] = [(0, .int p0)] := rfl
  refine zs_C.of1 (hB.2 8018 (by decide) (by decide)) hd (by rw [hL]; exact zs_sub_self _ (by exact ⟨rfl, trivial⟩)) ?_
  rw [hL]
  clear hL
  unfold w_X9_isLetter at h
  refine zu_iload_n d_8018_0 rfl ?_
  refine zu_bipush d_8018_1 zj_97 ?_
  refine zu_cmplt (t := 12) d_8018_3 rfl (fun c1 => ?_) (fun c1 => ?_)
  · have h := h.1 c1
    exact (u_X9_isLetter_12 hB h).weak ⟨rfl, trivial⟩
  · have h := h.2 c1
    refine zu_iload_n d_8018_6 rfl ?_
    refine zu_bipush d_8018_7 zj_122 ?_
    refine zu_cmple (t := 24) d_8018_9 rfl (fun c2 => ?_) (fun c2 => ?_)
    · have h := h.1 c2
      refine zu_iconst d_8018_24 zi_1 ?_
      refine zu_goto (t := 29) d_8018_25 rfl ?_
      exact zu_iret d_8018_29 zr_8018 (zs_b_n (Or.inr rfl)) h
    · have h := h.2 c2
      exact (u_X9_isLetter_12 hB h).weak ⟨rfl, trivial⟩
/-! SchemaPascalModel.readName()V -/
theorem zm_8019 {σ : Nat → Nat} {n0 : Nat} {bf : ab_B} : ab_code (zx σ n0 bf).1 8019 = prog_17_method_14_code := rfl
theorem zq_8019 {σ : Nat → Nat} {n0 : Nat} {bf : ab_B} : ab_maxL (zx σ n0 bf).1 8019 = 2 := rfl
theorem zr_8019 {σ : Nat → Nat} {n0 : Nat} {bf : ab_B} : ab_ret (zx σ n0 bf).1 8019 = (Option.none : Option Jvm.ClassFile.FieldType) := rfl
theorem d_8019_0 {σ : Nat → Nat} {n0 : Nat} {bf : ab_B} : decode (ab_code (zx σ n0 bf).1 8019) 0 = .ok (.iconst 0, 1) := zd zm_8019 (by decide +kernel)
theorem d_8019_1 {σ : Nat → Nat} {n0 : Nat} {bf : ab_B} : decode (ab_code (zx σ n0 bf).1 8019) 1 = .ok (.istore_n 1, 1) := zd zm_8019 (by decide +kernel)
theorem d_8019_2 {σ : Nat → Nat} {n0 : Nat} {bf : ab_B} : decode (ab_code (zx σ n0 bf).1 8019) 2 = .ok (.aload_n 0, 1) := zd zm_8019 (by decide +kernel)
theorem d_8019_3 {σ : Nat → Nat} {n0 : Nat} {bf : ab_B} : decode (ab_code (zx σ n0 bf).1 8019) 3 = .ok (.aload_n 0, 1) := zd zm_8019 (by decide +kernel)
theorem d_8019_4 {σ : Nat → Nat} {n0 : Nat} {bf : ab_B} : decode (ab_code (zx σ n0 bf).1 8019) 4 = .ok (.getfield 487, 3) := zd zm_8019 (by decide +kernel)
theorem d_8019_7 {σ : Nat → Nat} {n0 : Nat} {bf : ab_B} : decode (ab_code (zx σ n0 bf).1 8019) 7 = .ok (.iload_n 1, 1) := zd zm_8019 (by decide +kernel)
theorem d_8019_8 {σ : Nat → Nat} {n0 : Nat} {bf : ab_B} : decode (ab_code (zx σ n0 bf).1 8019) 8 = .ok (.iadd, 1) := zd zm_8019 (by decide +kernel)
theorem d_8019_9 {σ : Nat → Nat} {n0 : Nat} {bf : ab_B} : decode (ab_code (zx σ n0 bf).1 8019) 9 = .ok (.invokevirtual 471, 3) := zd zm_8019 (by decide +kernel)
theorem d_8019_12 {σ : Nat → Nat} {n0 : Nat} {bf : ab_B} : decode (ab_code (zx σ n0 bf).1 8019) 12 = .ok (.invokestatic 464, 3) := zd zm_8019 (by decide +kernel)
theorem d_8019_15 {σ : Nat → Nat} {n0 : Nat} {bf : ab_B} : decode (ab_code (zx σ n0 bf).1 8019) 15 = .ok (.ifCond .ne 34, 3) := zd zm_8019 (by decide +kernel)
theorem d_8019_18 {σ : Nat → Nat} {n0 : Nat} {bf : ab_B} : decode (ab_code (zx σ n0 bf).1 8019) 18 = .ok (.aload_n 0, 1) := zd zm_8019 (by decide +kernel)
theorem d_8019_19 {σ : Nat → Nat} {n0 : Nat} {bf : ab_B} : decode (ab_code (zx σ n0 bf).1 8019) 19 = .ok (.aload_n 0, 1) := zd zm_8019 (by decide +kernel)
theorem d_8019_20 {σ : Nat → Nat} {n0 : Nat} {bf : ab_B} : decode (ab_code (zx σ n0 bf).1 8019) 20 = .ok (.getfield 487, 3) := zd zm_8019 (by decide +kernel)
theorem d_8019_23 {σ : Nat → Nat} {n0 : Nat} {bf : ab_B} : decode (ab_code (zx σ n0 bf).1 8019) 23 = .ok (.iload_n 1, 1) := zd zm_8019 (by decide +kernel)
theorem d_8019_24 {σ : Nat → Nat} {n0 : Nat} {bf : ab_B} : decode (ab_code (zx σ n0 bf).1 8019) 24 = .ok (.iadd, 1) := zd zm_8019 (by decide +kernel)
theorem d_8019_25 {σ : Nat → Nat} {n0 : Nat} {bf : ab_B} : decode (ab_code (zx σ n0 bf).1 8019) 25 = .ok (.invokevirtual 471, 3) := zd zm_8019 (by decide +kernel)
theorem d_8019_28 {σ : Nat → Nat} {n0 : Nat} {bf : ab_B} : decode (ab_code (zx σ n0 bf).1 8019) 28 = .ok (.invokestatic 460, 3) := zd zm_8019 (by decide +kernel)
theorem d_8019_31 {σ : Nat → Nat} {n0 : Nat} {bf : ab_B} : decode (ab_code (zx σ n0 bf).1 8019) 31 = .ok (.ifCond .ne 18, 3) := zd zm_8019 (by decide +kernel)
theorem d_8019_34 {σ : Nat → Nat} {n0 : Nat} {bf : ab_B} : decode (ab_code (zx σ n0 bf).1 8019) 34 = .ok (.aload_n 0, 1) := zd zm_8019 (by decide +kernel)
theorem d_8019_35 {σ : Nat → Nat} {n0 : Nat} {bf : ab_B} : decode (ab_code (zx σ n0 bf).1 8019) 35 = .ok (.aload_n 0, 1) := zd zm_8019 (by decide +kernel)
theorem d_8019_36 {σ : Nat → Nat} {n0 : Nat} {bf : ab_B} : decode (ab_code (zx σ n0 bf).1 8019) 36 = .ok (.getfield 487, 3) := zd zm_8019 (by decide +kernel)
theorem d_8019_39 {σ : Nat → Nat} {n0 : Nat} {bf : ab_B} : decode (ab_code (zx σ n0 bf).1 8019) 39 = .ok (.iload_n 1, 1) := zd zm_8019 (by decide +kernel)
theorem d_8019_40 {σ : Nat → Nat} {n0 : Nat} {bf : ab_B} : decode (ab_code (zx σ n0 bf).1 8019) 40 = .ok (.iadd, 1) := zd zm_8019 (by decide +kernel)
theorem d_8019_41 {σ : Nat → Nat} {n0 : Nat} {bf : ab_B} : decode (ab_code (zx σ n0 bf).1 8019) 41 = .ok (.invokevirtual 471, 3) := zd zm_8019 (by decide +kernel)
theorem d_8019_44 {σ : Nat → Nat} {n0 : Nat} {bf : ab_B} : decode (ab_code (zx σ n0 bf).1 8019) 44 = .ok (.bipush 95, 2) := zd zm_8019 (by decide +kernel)
theorem d_8019_46 {σ : Nat → Nat} {n0 : Nat} {bf : ab_B} : decode (ab_code (zx σ n0 bf).1 8019) 46 = .ok (.if_icmp .ne 9, 3) := zd zm_8019 (by decide +kernel)
theorem d_8019_49 {σ : Nat → Nat} {n0 : Nat} {bf : ab_B} : decode (ab_code (zx σ n0 bf).1 8019) 49 = .ok (.iinc 1 1, 3) := zd zm_8019 (by decide +kernel)
theorem d_8019_52 {σ : Nat → Nat} {n0 : Nat} {bf : ab_B} : decode (ab_code (zx σ n0 bf).1 8019) 52 = .ok (.goto (-50), 3) := zd zm_8019 (by decide +kernel)
theorem d_8019_55 {σ : Nat → Nat} {n0 : Nat} {bf : ab_B} : decode (ab_code (zx σ n0 bf).1 8019) 55 = .ok (.iload_n 1, 1) := zd zm_8019 (by decide +kernel)
theorem d_8019_56 {σ : Nat → Nat} {n0 : Nat} {bf : ab_B} : decode (ab_code (zx σ n0 bf).1 8019) 56 = .ok (.bipush 20, 2) := zd zm_8019 (by decide +kernel)
theorem d_8019_58 {σ : Nat → Nat} {n0 : Nat} {bf : ab_B} : decode (ab_code (zx σ n0 bf).1 8019) 58 = .ok (.if_icmp .le 12, 3) := zd zm_8019 (by decide +kernel)
theorem d_8019_61 {σ : Nat → Nat} {n0 : Nat} {bf : ab_B} : decode (ab_code (zx σ n0 bf).1 8019) 61 = .ok (.aload_n 0, 1) := zd zm_8019 (by decide +kernel)
theorem d_8019_62 {σ : Nat → Nat} {n0 : Nat} {bf : ab_B} : decode (ab_code (zx σ n0 bf).1 8019) 62 = .ok (.aload_n 0, 1) := zd zm_8019 (by decide +kernel)
theorem d_8019_63 {σ : Nat → Nat} {n0 : Nat} {bf : ab_B} : decode (ab_code (zx σ n0 bf).1 8019) 63 = .ok (.getfield 487, 3) := zd zm_8019 (by decide +kernel)
theorem d_8019_66 {σ : Nat → Nat} {n0 : Nat} {bf : ab_B} : decode (ab_code (zx σ n0 bf).1 8019) 66 = .ok (.invokevirtual 490, 3) := zd zm_8019 (by decide +kernel)
theorem d_8019_69 {σ : Nat → Nat} {n0 : Nat} {bf : ab_B} : decode (ab_code (zx σ n0 bf).1 8019) 69 = .ok (.return_, 1) := zd zm_8019 (by decide +kernel)
theorem d_8019_70 {σ : Nat → Nat} {n0 : Nat} {bf : ab_B} : decode (ab_code (zx σ n0 bf).1 8019) 70 = .ok (.aload_n 0, 1) := zd zm_8019 (by decide +kernel)
theorem d_8019_71 {σ : Nat → Nat} {n0 : Nat} {bf : ab_B} : decode (ab_code (zx σ n0 bf).1 8019) 71 = .ok (.aload_n 0, 1) := zd zm_8019 (by decide +kernel)
theorem d_8019_72 {σ : Nat → Nat} {n0 : Nat} {bf : ab_B} : decode (ab_code (zx σ n0 bf).1 8019) 72 = .ok (.iconst 0, 1) := zd zm_8019 (by decide +kernel)
theorem d_8019_73 {σ : Nat → Nat} {n0 : Nat} {bf : ab_B} : decode (ab_code (zx σ n0 bf).1 8019) 73 = .ok (.aload_n 0, 1) := zd zm_8019 (by decide +kernel)
theorem d_8019_74 {σ : Nat → Nat} {n0 : Nat} {bf : ab_B} : decode (ab_code (zx σ n0 bf).1 8019) 74 = .ok (.getfield 487, 3) := zd zm_8019 (by decide +kernel)
theorem d_8019_77 {σ : Nat → Nat} {n0 : Nat} {bf : ab_B} : decode (ab_code (zx σ n0 bf).1 8019) 77 = .ok (.iload_n 1, 1) := zd zm_8019 (by decide +kernel)
theorem d_8019_78 {σ : Nat → Nat} {n0 : Nat} {bf : ab_B} : decode (ab_code (zx σ n0 bf).1 8019) 78 = .ok (.invokevirtual 480, 3) := zd zm_8019 (by decide +kernel)
theorem d_8019_81 {σ : Nat → Nat} {n0 : Nat} {bf : ab_B} : decode (ab_code (zx σ n0 bf).1 8019) 81 = .ok (.putfield 494, 3) := zd zm_8019 (by decide +kernel)
theorem d_8019_84 {σ : Nat → Nat} {n0 : Nat} {bf : ab_B} : decode (ab_code (zx σ n0 bf).1 8019) 84 = .ok (.aload_n 0, 1) := zd zm_8019 (by decide +kernel)
theorem d_8019_85 {σ : Nat → Nat} {n0 : Nat} {bf : ab_B} : decode (ab_code (zx σ n0 bf).1 8019) 85 = .ok (.aload_n 0, 1) := zd zm_8019 (by decide +kernel)
theorem d_8019_86 {σ : Nat → Nat} {n0 : Nat} {bf : ab_B} : decode (ab_code (zx σ n0 bf).1 8019) 86 = .ok (.getfield 494, 3) := zd zm_8019 (by decide +kernel)
theorem d_8019_89 {σ : Nat → Nat} {n0 : Nat} {bf : ab_B} : decode (ab_code (zx σ n0 bf).1 8019) 89 = .ok (.bipush 36, 2) := zd zm_8019 (by decide +kernel)
theorem d_8019_91 {σ : Nat → Nat} {n0 : Nat} {bf : ab_B} : decode (ab_code (zx σ n0 bf).1 8019) 91 = .ok (.if_icmp .gt 7, 3) := zd zm_8019 (by decide +kernel)
theorem d_8019_94 {σ : Nat → Nat} {n0 : Nat} {bf : ab_B} : decode (ab_code (zx σ n0 bf).1 8019) 94 = .ok (.iconst 2, 1) := zd zm_8019 (by decide +kernel)
theorem d_8019_95 {σ : Nat → Nat} {n0 : Nat} {bf : ab_B} : decode (ab_code (zx σ n0 bf).1 8019) 95 = .ok (.goto 4, 3) := zd zm_8019 (by decide +kernel)
theorem d_8019_98 {σ : Nat → Nat} {n0 : Nat} {bf : ab_B} : decode (ab_code (zx σ n0 bf).1 8019) 98 = .ok (.iconst 1, 1) := zd zm_8019 (by decide +kernel)
theorem d_8019_99 {σ : Nat → Nat} {n0 : Nat} {bf : ab_B} : decode (ab_code (zx σ n0 bf).1 8019) 99 = .ok (.putfield 484, 3) := zd zm_8019 (by decide +kernel)
theorem d_8019_102 {σ : Nat → Nat} {n0 : Nat} {bf : ab_B} : decode (ab_code (zx σ n0 bf).1 8019) 102 = .ok (.aload_n 0, 1) := zd zm_8019 (by decide +kernel)
theorem d_8019_103 {σ : Nat → Nat} {n0 : Nat} {bf : ab_B} : decode (ab_code (zx σ n0 bf).1 8019) 103 = .ok (.dup, 1) := zd zm_8019 (by decide +kernel)
theorem d_8019_104 {σ : Nat → Nat} {n0 : Nat} {bf : ab_B} : decode (ab_code (zx σ n0 bf).1 8019) 104 = .ok (.getfield 487, 3) := zd zm_8019 (by decide +kernel)
theorem d_8019_107 {σ : Nat → Nat} {n0 : Nat} {bf : ab_B} : decode (ab_code (zx σ n0 bf).1 8019) 107 = .ok (.iload_n 1, 1) := zd zm_8019 (by decide +kernel)
theorem d_8019_108 {σ : Nat → Nat} {n0 : Nat} {bf : ab_B} : decode (ab_code (zx σ n0 bf).1 8019) 108 = .ok (.iadd, 1) := zd zm_8019 (by decide +kernel)
theorem d_8019_109 {σ : Nat → Nat} {n0 : Nat} {bf : ab_B} : decode (ab_code (zx σ n0 bf).1 8019) 109 = .ok (.putfield 487, 3) := zd zm_8019 (by decide +kernel)
theorem d_8019_112 {σ : Nat → Nat} {n0 : Nat} {bf : ab_B} : decode (ab_code (zx σ n0 bf).1 8019) 112 = .ok (.return_, 1) := zd zm_8019 (by decide +kernel)
def w_X9_readName_49 (X : zs_X) (d : Nat) (p0 : Nat) (p1 : Int32) (S : zs_T) (Q : zs_Q) : Prop :=
  (zs_U X d 8019 2 [(0, .ref p0), (1, .int (p1 + (1 : Int32)))] [] S Q)
theorem u_X9_readName_49 {σ : Nat → Nat} {n0 : Nat} {bf : ab_B} {d : Nat} {p0 : Nat} {p1 : Int32} {S : zs_T} {Q : zs_Q} (hB : zt_B bf) (h : w_X9_readName_49 (zx σ n0 bf) d p0 p1 S Q) : zs_U (zx σ n0 bf) d 8019 49 [(0, .ref p0), (1, .int p1)] [] S Q := by
  unfold w_X9_readName_49 at h
  refine zu_iinc d_8019_49 rfl zi_1 (zs_lt zq_8019 rfl) ?_
  refine zu_goto (t := 2) d_8019_52 rfl ?_
  exact h.weak ⟨rfl, rfl, trivial⟩
def w_X9_readName_99 (X : zs_X) (d : Nat) (p0 : Nat) (p1 : Int32) (q0 : Option Nat) (q1 : Int32) (S : zs_T) (Q : zs_Q) : Prop :=
  (∃ b1, q0 = some b1 ∧ zs_K S b1 = some (.inl 8) ∧ ab_n0 X.1 ≤ b1 ∧ ∀ S5, S5 = zs_sI S 8006 b1 q1 → zs_K S p0 = some (.inl 8) ∧ ab_n0 X.1 ≤ p0 ∧ ∀ S10, S10 = zs_sI S5 8005 p0 ((zs_I S5 8005 p0) + p1) → Q (.returned none) S10)
theorem u_X9_readName_99 {σ : Nat → Nat} {n0 : Nat} {bf : ab_B} {d : Nat} {p0 : Nat} {p1 : Int32} {q0 : Option Nat} {q1 : Int32} {S : zs_T} {Q : zs_Q} (hB : zt_B bf) (h : w_X9_readName_99 (zx σ n0 bf) d p0 p1 q0 q1 S Q) : zs_U (zx σ n0 bf) d 8019 99 [(0, .ref p0), (1, .int p1)] [.int q1, va_rf q0] S Q := by
  unfold w_X9_readName_99 at h
  obtain ⟨b1, e2, h⟩ := h
  refine zs_stk1 (zs_rfe e2) ?_
  obtain ⟨k3, h⟩ := h
  obtain ⟨k4, h⟩ := h
  refine zp_8_484 (v := q1) rfl d_8019_99 k3 k4 ?_
  generalize e6 : zs_sI S 8006 b1 q1 = S5
  have h := h S5 e6.symm
  have K7 : ∀ b, zs_K S5 b = zs_K S b := zs_Kt e6 (zs_KsI _ _ _ _) (fun _ => rfl)
  refine zu_aload_n d_8019_102 rfl (zs_ra _) ?_
  refine zu_dup d_8019_103 rfl ?_
  obtain ⟨k8, h⟩ := h
  refine zg_8_487 rfl d_8019_104 ((K7 _).trans k8) ?_
  refine zu_iload_n d_8019_107 rfl ?_
  refine zu_stk d_8019_108 rfl rfl ?_
  obtain ⟨k9, h⟩ := h
  refine zp_8_487 (v := ((zs_I S5 8005 p0) + p1)) rfl d_8019_109 ((K7 _).trans k8) k9 ?_
  generalize e11 : zs_sI S5 8005 p0 ((zs_I S5 8005 p0) + p1) = S10
  have h := h S10 e11.symm
  have K12 : ∀ b, zs_K S10 b = zs_K S b := zs_Kt e11 (zs_KsI _ _ _ _) K7
  exact zu_vret d_8019_112 zr_8019 h
def w_X9_readName_84 (X : zs_X) (d : Nat) (p0 : Nat) (p1 : Int32) (S : zs_T) (Q : zs_Q) : Prop :=
  (zs_K S p0 = some (.inl 8) ∧ (((36 : Int32) < (zs_I S 8009 p0) → (w_X9_readName_99 X d p0 p1 (some p0) (1 : Int32) S Q)) ∧ (¬ ((36 : Int32) < (zs_I S 8009 p0)) → (w_X9_readName_99 X d p0 p1 (some p0) (2 : Int32) S Q))))
theorem u_X9_readName_84 {σ : Nat → Nat} {n0 : Nat} {bf : ab_B} {d : Nat} {p0 : Nat} {p1 : Int32} {S : zs_T} {Q : zs_Q} (hB : zt_B bf) (h : w_X9_readName_84 (zx σ n0 bf) d p0 p1 S Q) : zs_U (zx σ n0 bf) d 8019 84 [(0, .ref p0), (1, .int p1)] [] S Q := by
  unfold w_X9_readName_84 at h
  refine zu_aload_n d_8019_84 rfl (zs_ra _) ?_
  refine zu_aload_n d_8019_85 rfl (zs_ra _) ?_
  obtain ⟨k1, h⟩ := h
  refine zg_8_494 rfl d_8019_86 k1 ?_
  refine zu_bipush d_8019_89 zj_36 ?_
  refine zu_cmpgt (t := 98) d_8019_91 rfl (fun c2 => ?_) (fun c2 => ?_)
  · have h := h.1 c2
    refine zu_iconst d_8019_98 zi_1 ?_
    exact (u_X9_readName_99 hB h).weak ⟨rfl, rfl, trivial⟩
  · have h := h.2 c2
    refine zu_iconst d_8019_94 zi_2 ?_
    refine zu_goto (t := 99) d_8019_95 rfl ?_
    exact (u_X9_readName_99 hB h).weak ⟨rfl, rfl, trivial⟩
def w_X9_readName_34 (X : zs_X) (d : Nat) (p0 : Nat) (p1 : Int32) (S : zs_T) (Q : zs_Q) : Prop :=
  (zs_K S p0 = some (.inl 8) ∧ zs_C X d 8006 [.ref p0, .int ((zs_I S 8005 p0) + p1)] S (zs_kI (fun v3 S2 => (((¬ v3 = (95 : Int32) → (((p1 ≤ (20 : Int32) → (zs_K S2 p0 = some (.inl 8) ∧ zs_C X d 8005 [.ref p0, .int (0 : Int32), .int (zs_I S2 8005 p0), .int p1] S2 (zs_kI (fun v8 S7 => (zs_K S7 p0 = some (.inl 8) ∧ ab_n0 X.1 ≤ p0 ∧ ∀ S11, S11 = zs_sI S7 8009 p0 v8 → w_X9_readName_84 X d p0 p1 S11 Q)) Q))) ∧ (¬ (p1 ≤ (20 : Int32)) → (zs_K S2 p0 = some (.inl 8) ∧ zs_C X d 8016 [.ref p0, .int (zs_I S2 8005 p0)] S2 (zs_kV (fun S15 => (Q (.returned none) S15)) Q)))))) ∧ (¬ (¬ v3 = (95 : Int32)) → w_X9_readName_49 X d p0 p1 S2 Q)))) Q))
theorem u_X9_readName_34 {σ : Nat → Nat} {n0 : Nat} {bf : ab_B} {d : Nat} {p0 : Nat} {p1 : Int32} {S : zs_T} {Q : zs_Q} (hB : zt_B bf) (h : w_X9_readName_34 (zx σ n0 bf) d p0 p1 S Q) : zs_U (zx σ n0 bf) d 8019 34 [(0, .ref p0), (1, .int p1)] [] S Q := by
  unfold w_X9_readName_34 at h
  refine zu_aload_n d_8019_34 rfl (zs_ra _) ?_
  refine zu_aload_n d_8019_35 rfl (zs_ra _) ?_
  obtain ⟨k1, h⟩ := h
  refine zg_8_487 rfl d_8019_36 k1 ?_
  refine zu_iload_n d_8019_39 rfl ?_
  refine zu_stk d_8019_40 rfl rfl ?_
  refine zc_8_471 (x0 := ((zs_I S 8005 p0) + p1)) hB rfl k1 d_8019_41 (Nat.le_of_ble_eq_true rfl) h (fun v3 S2 h => ?_)
  refine zu_bipush d_8019_44 zj_95 ?_
  refine zu_cmpne (t := 55) d_8019_46 rfl (fun c4 => ?_) (fun c4 => ?_)
  · have h := h.1 c4
    refine zu_iload_n d_8019_55 rfl ?_
    refine zu_bipush d_8019_56 zj_20 ?_
    refine zu_cmple (t := 70) d_8019_58 rfl (fun c5 => ?_) (fun c5 => ?_)
    · have h := h.1 c5
      refine zu_aload_n d_8019_70 rfl (zs_ra _) ?_
      refine zu_aload_n d_8019_71 rfl (zs_ra _) ?_
      refine zu_iconst d_8019_72 zi_0 ?_
      refine zu_aload_n d_8019_73 rfl (zs_ra _) ?_
      obtain ⟨k6, h⟩ := h
      refine zg_8_487 rfl d_8019_74 k6 ?_
      refine zu_iload_n d_8019_77 rfl ?_
      refine zc_8_480 (x0 := (0 : Int32)) (x1 := (zs_I S2 8005 p0)) (x2 := p1) hB rfl k6 d_8019_78 (Nat.le_of_ble_eq_true rfl) h (fun v8 S7 h => ?_)
      obtain ⟨k9, h⟩ := h
      obtain ⟨k10, h⟩ := h
      refine zp_8_494 (v := v8) rfl d_8019_81 k9 k10 ?_
      generalize e12 : zs_sI S7 8009 p0 v8 = S11
      have h := h S11 e12.symm
      have K13 : ∀ b, zs_K S11 b = zs_K S7 b := zs_Kt e12 (zs_KsI _ _ _ _) (fun _ => rfl)
      exact (u_X9_readName_84 hB h).weak ⟨rfl, rfl, trivial⟩
    · have h := h.2 c5
      refine zu_aload_n d_8019_61 rfl (zs_ra _) ?_
      refine zu_aload_n d_8019_62 rfl (zs_ra _) ?_
      obtain ⟨k14, h⟩ := h
      refine zg_8_487 rfl d_8019_63 k14 ?_
      refine zc_8_490 (x0 := (zs_I S2 8005 p0)) hB rfl k14 d_8019_66 (Nat.le_of_ble_eq_true rfl) h (fun S15 h => ?_)
      exact zu_vret d_8019_69 zr_8019 h
  · have h := h.2 c4
    exact (u_X9_readName_49 hB h).weak ⟨rfl, rfl, trivial⟩
def w_X9_readName_2 (X : zs_X) (d : Nat) (p0 : Nat) (p1 : Int32) (S : zs_T) (Q : zs_Q) : Prop :=
  (zs_K S p0 = some (.inl 8) ∧ zs_C X d 8006 [.ref p0, .int ((zs_I S 8005 p0) + p1)] S (zs_kI (fun v3 S2 => (zs_C X d 8018 [.int v3] S2 (zs_kI (fun v5 S4 => (((¬ v5 = 0 → w_X9_readName_49 X d p0 p1 S4 Q) ∧ (¬ (¬ v5 = 0) → (zs_K S4 p0 = some (.inl 8) ∧ zs_C X d 8006 [.ref p0, .int ((zs_I S4 8005 p0) + p1)] S4 (zs_kI (fun v9 S8 => (zs_C X d 8020 [.int v9] S8 (zs_kI (fun v11 S10 => (((¬ v11 = 0 → w_X9_readName_49 X d p0 p1 S10 Q) ∧ (¬ (¬ v11 = 0) → w_X9_readName_34 X d p0 p1 S10 Q)))) Q))) Q)))))) Q))) Q))
theorem u_X9_readName_2 {σ : Nat → Nat} {n0 : Nat} {bf : ab_B} {d : Nat} {p0 : Nat} {p1 : Int32} {S : zs_T} {Q : zs_Q} (hB : zt_B bf) (h : w_X9_readName_2 (zx σ n0 bf) d p0 p1 S Q) : zs_U (zx σ n0 bf) d 8019 2 [(0, .ref p0), (1, .int p1)] [] S Q := by
  unfold w_X9_readName_2 at h
  refine zu_aload_n d_8019_2 rfl (zs_ra _) ?_
  refine zu_aload_n d_8019_3 rfl (zs_ra _) ?_
  obtain ⟨k1, h⟩ := h
  refine zg_8_487 rfl d_8019_4 k1 ?_
  refine zu_iload_n d_8019_7 rfl ?_
  refine zu_stk d_8019_8 rfl rfl ?_
  refine zc_8_471 (x0 := ((zs_I S 8005 p0) + p1)) hB rfl k1 d_8019_9 (Nat.le_of_ble_eq_true rfl) h (fun v3 S2 h => ?_)
  refine zc_8_464 (x0 := v3) hB rfl d_8019_12 (Nat.le_of_ble_eq_true rfl) h (fun v5 S4 h => ?_)
  refine zu_ifne (t := 49) d_8019_15 rfl (fun c6 => ?_) (fun c6 => ?_)
  · have h := h.1 c6
    exact (u_X9_readName_49 hB h).weak ⟨rfl, rfl, trivial⟩
  · have h := h.2 c6
    refine zu_aload_n d_8019_18 rfl (zs_ra _) ?_
    refine zu_aload_n d_8019_19 rfl (zs_ra _) ?_
    obtain ⟨k7, h⟩ := h
    refine zg_8_487 rfl d_8019_20 k7 ?_
    refine zu_iload_n d_8019_23 rfl ?_
    refine zu_stk d_8019_24 rfl rfl ?_
    refine zc_8_471 (x0 := ((zs_I S4 8005 p0) + p1)) hB rfl k7 d_8019_25 (Nat.le_of_ble_eq_true rfl) h (fun v9 S8 h => ?_)
    refine zc_8_460 (x0 := v9) hB rfl d_8019_28 (Nat.le_of_ble_eq_true rfl) h (fun v11 S10 h => ?_)
    refine zu_ifne (t := 49) d_8019_31 rfl (fun c12 => ?_) (fun c12 => ?_)
    · have h := h.1 c12
      exact (u_X9_readName_49 hB h).weak ⟨rfl, rfl, trivial⟩
    · have h := h.2 c12
      exact (u_X9_readName_34 hB h).weak ⟨rfl, rfl, trivial⟩
def w_X9_readName (X : zs_X) (d : Nat) (p0 : Nat) (S : zs_T) (Q : zs_Q) : Prop :=
  (zs_U X d 8019 2 [(0, .ref p0), (1, .int (0 : Int32))] [] S Q)
theorem u_X9_readName {σ : Nat → Nat} {n0 : Nat} {bf : ab_B} {d : Nat} {p0 : Nat} {S : zs_T} {Q : zs_Q} (hB : zt_B bf) (hd : 1 ≤ d) (h : w_X9_readName (zx σ n0 bf) (d - 1) p0 S Q) : zs_C (zx σ n0 bf) d 8019 [.ref p0] S Q := by
  have hL : lv_args 0 [.ref p0] = [(0, .ref p0)] := rfl
  refine zs_C.of1 (hB.2 8019 (by decide) (by decide)) hd (by rw [hL]; exact zs_sub_self _ (by exact ⟨rfl, trivial⟩)) ?_
  rw [hL]
  clear hL
  unfold w_X9_readName at h
  refine zu_iconst d_8019_0 zi_0 ?_
  refine zu_istore_n d_8019_1 (zs_lt zq_8019 rfl) ?_
  exact h.weak ⟨rfl, rfl, trivial⟩
/-! SchemaPascalModel.isDigit(I)Z -/
theorem zm_8020 {σ : Nat → Nat} {n0 : Nat} {bf : ab_B} : ab_code (zx σ n0 bf).1 8020 = prog_17_method_6_code := rfl
theorem zq_8020 {σ : Nat → Nat} {n0 : Nat} {bf : ab_B} : ab_maxL (zx σ n0 bf).1 8020 = 1 := rfl
theorem zr_8020 {σ : Nat → Nat} {n0 : Nat} {bf : ab_B} : ab_ret (zx σ n0 bf).1 8020 = (Option.some Jvm.ClassFile.FieldType.boolean) := rfl
theorem d_8020_0 {σ : Nat → Nat} {n0 : Nat} {bf : ab_B} : decode (ab_code (zx σ n0 bf).1 8020) 0 = .ok (.iload_n 0, 1) := zd zm_8020 (by decide +kernel)
theorem d_8020_1 {σ : Nat → Nat} {n0 : Nat} {bf : ab_B} : decode (ab_code (zx σ n0 bf).1 8020) 1 = .ok (.bipush 48, 2) := zd zm_8020 (by decide +kernel)
theorem d_8020_3 {σ : Nat → Nat} {n0 : Nat} {bf : ab_B} : decode (ab_code (zx σ n0 bf).1 8020) 3 = .ok (.if_icmp .lt 13, 3) := zd zm_8020 (by decide +kernel)
theorem d_8020_6 {σ : Nat → Nat} {n0 : Nat} {bf : ab_B} : decode (ab_code (zx σ n0 bf).1 8020) 6 = .ok (.iload_n 0, 1) := zd zm_8020 (by decide +kernel)
theorem d_8020_7 {σ : Nat → Nat} {n0 : Nat} {bf : ab_B} : decode (ab_code (zx σ n0 bf).1 8020) 7 = .ok (.bipush 57, 2) := zd zm_8020 (by decide +kernel)
theorem d_8020_9 {σ : Nat → Nat} {n0 : Nat} {bf : ab_B} : decode (ab_code (zx σ n0 bf).1 8020) 9 = .ok (.if_icmp .gt 7, 3) := zd zm_8020 (by decide +kernel)
theorem d_8020_12 {σ : Nat → Nat} {n0 : Nat} {bf : ab_B} : decode (ab_code (zx σ n0 bf).1 8020) 12 = .ok (.iconst 1, 1) := zd zm_8020 (by decide +kernel)
theorem d_8020_13 {σ : Nat → Nat} {n0 : Nat} {bf : ab_B} : decode (ab_code (zx σ n0 bf).1 8020) 13 = .ok (.goto 4, 3) := zd zm_8020 (by decide +kernel)
theorem d_8020_16 {σ : Nat → Nat} {n0 : Nat} {bf : ab_B} : decode (ab_code (zx σ n0 bf).1 8020) 16 = .ok (.iconst 0, 1) := zd zm_8020 (by decide +kernel)
theorem d_8020_17 {σ : Nat → Nat} {n0 : Nat} {bf : ab_B} : decode (ab_code (zx σ n0 bf).1 8020) 17 = .ok (.ireturn, 1) := zd zm_8020 (by decide +kernel)
def w_X9_isDigit (X : zs_X) (d : Nat) (p0 : Int32) (S : zs_T) (Q : zs_Q) : Prop :=
  (((p0 < (48 : Int32) → (Q (.returned (some (.int (0 : Int32)))) S)) ∧ (¬ (p0 < (48 : Int32)) → ((((57 : Int32) < p0 → (Q (.returned (some (.int (0 : Int32)))) S)) ∧ (¬ ((57 : Int32) < p0) → (Q (.returned (some (.int (1 : Int32)))) S)))))))
theorem u_X9_isDigit {σ : Nat → Nat} {n0 : Nat} {bf : ab_B} {d : Nat} {p0 : Int32} {S : zs_T} {Q : zs_Q} (hB : zt_B bf) (hd : 1 ≤ d) (h : w_X9_isDigit (zx σ n0 bf) (d - 1) p0 S Q) : zs_C (zx σ n0 bf) d 8020 [.int p0] S Q := by
  have hL : lv_args 0 [.int p0] = [(0, .int p0)] := rfl
  refine zs_C.of1 (hB.2 8020 (by decide) (by decide)) hd (by rw [hL]; exact zs_sub_self _ (by exact ⟨rfl, trivial⟩)) ?_
  rw [hL]
  clear hL
  unfold w_X9_isDigit at h
  refine zu_iload_n d_8020_0 rfl ?_
  refine zu_bipush d_8020_1 zj_48 ?_
  refine zu_cmplt (t := 16) d_8020_3 rfl (fun c1 => ?_) (fun c1 => ?_)
  · have h := h.1 c1
    refine zu_iconst d_8020_16 zi_0 ?_
    exact zu_iret d_8020_17 zr_8020 (zs_b_n (Or.inl rfl)) h
  · have h := h.2 c1
    refine zu_iload_n d_8020_6 rfl ?_
    refine zu_bipush d_8020_7 zj_57 ?_
    refine zu_cmpgt (t := 16) d_8020_9 rfl (fun c2 => ?_) (fun c2 => ?_)
    · have h := h.1 c2
      refine zu_iconst d_8020_16 zi_0 ?_
      exact zu_iret d_8020_17 zr_8020 (zs_b_n (Or.inl rfl)) h
    · have h := h.2 c2
      refine zu_iconst d_8020_12 zi_1 ?_
      refine zu_goto (t := 17) d_8020_13 rfl ?_
      exact zu_iret d_8020_17 zr_8020 (zs_b_n (Or.inr rfl)) h
