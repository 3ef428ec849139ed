/-! printed by gen_all.py: what the methods compute -/
set_option maxRecDepth 100000
/-! SchemaPascalModel.given(III)V -/
theorem zm_8141 {σ : Nat → Nat} {n0 : Nat} {bf : ab_B} : ab_code (zx σ n0 bf).1 8141 = prog_17_method_137_code := rfl
theorem zq_8141 {σ : Nat → Nat} {n0 : Nat} {bf : ab_B} : ab_maxL (zx σ n0 bf).1 8141 = 11 := rfl
theorem zr_8141 {σ : Nat → Nat} {n0 : Nat} {bf : ab_B} : ab_ret (zx σ n0 bf).1 8141 = (Option.none : Option Jvm.ClassFile.FieldType) := rfl
theorem d_8141_0 {σ : Nat → Nat} {n0 : Nat} {bf : ab_B} : decode (ab_code (zx σ n0 bf).1 8141) 0 = .ok (.aload_n 0, 1) := zd zm_8141 (by decide +kernel)
theorem d_8141_1 {σ : Nat → Nat} {n0 : Nat} {bf : ab_B} : decode (ab_code (zx σ n0 bf).1 8141) 1 = .ok (.invokevirtual 660, 3) := zd zm_8141 (by decide +kernel)
theorem d_8141_4 {σ : Nat → Nat} {n0 : Nat} {bf : ab_B} : decode (ab_code (zx σ n0 bf).1 8141) 4 = .ok (.aload_n 0, 1) := zd zm_8141 (by decide +kernel)
theorem d_8141_5 {σ : Nat → Nat} {n0 : Nat} {bf : ab_B} : decode (ab_code (zx σ n0 bf).1 8141) 5 = .ok (.getfield 444, 3) := zd zm_8141 (by decide +kernel)
theorem d_8141_8 {σ : Nat → Nat} {n0 : Nat} {bf : ab_B} : decode (ab_code (zx σ n0 bf).1 8141) 8 = .ok (.ifCond .le 4, 3) := zd zm_8141 (by decide +kernel)
theorem d_8141_11 {σ : Nat → Nat} {n0 : Nat} {bf : ab_B} : decode (ab_code (zx σ n0 bf).1 8141) 11 = .ok (.return_, 1) := zd zm_8141 (by decide +kernel)
theorem d_8141_12 {σ : Nat → Nat} {n0 : Nat} {bf : ab_B} : decode (ab_code (zx σ n0 bf).1 8141) 12 = .ok (.aload_n 0, 1) := zd zm_8141 (by decide +kernel)
theorem d_8141_13 {σ : Nat → Nat} {n0 : Nat} {bf : ab_B} : decode (ab_code (zx σ n0 bf).1 8141) 13 = .ok (.getfield 653, 3) := zd zm_8141 (by decide +kernel)
theorem d_8141_16 {σ : Nat → Nat} {n0 : Nat} {bf : ab_B} : decode (ab_code (zx σ n0 bf).1 8141) 16 = .ok (.iconst 1, 1) := zd zm_8141 (by decide +kernel)
theorem d_8141_17 {σ : Nat → Nat} {n0 : Nat} {bf : ab_B} : decode (ab_code (zx σ n0 bf).1 8141) 17 = .ok (.isub, 1) := zd zm_8141 (by decide +kernel)
theorem d_8141_18 {σ : Nat → Nat} {n0 : Nat} {bf : ab_B} : decode (ab_code (zx σ n0 bf).1 8141) 18 = .ok (.istore 4, 2) := zd zm_8141 (by decide +kernel)
theorem d_8141_20 {σ : Nat → Nat} {n0 : Nat} {bf : ab_B} : decode (ab_code (zx σ n0 bf).1 8141) 20 = .ok (.aload_n 0, 1) := zd zm_8141 (by decide +kernel)
theorem d_8141_21 {σ : Nat → Nat} {n0 : Nat} {bf : ab_B} : decode (ab_code (zx σ n0 bf).1 8141) 21 = .ok (.getfield 136, 3) := zd zm_8141 (by decide +kernel)
theorem d_8141_24 {σ : Nat → Nat} {n0 : Nat} {bf : ab_B} : decode (ab_code (zx σ n0 bf).1 8141) 24 = .ok (.aload_n 0, 1) := zd zm_8141 (by decide +kernel)
theorem d_8141_25 {σ : Nat → Nat} {n0 : Nat} {bf : ab_B} : decode (ab_code (zx σ n0 bf).1 8141) 25 = .ok (.getfield 124, 3) := zd zm_8141 (by decide +kernel)
theorem d_8141_28 {σ : Nat → Nat} {n0 : Nat} {bf : ab_B} : decode (ab_code (zx σ n0 bf).1 8141) 28 = .ok (.iload_n 1, 1) := zd zm_8141 (by decide +kernel)
theorem d_8141_29 {σ : Nat → Nat} {n0 : Nat} {bf : ab_B} : decode (ab_code (zx σ n0 bf).1 8141) 29 = .ok (.iaload, 1) := zd zm_8141 (by decide +kernel)
theorem d_8141_30 {σ : Nat → Nat} {n0 : Nat} {bf : ab_B} : decode (ab_code (zx σ n0 bf).1 8141) 30 = .ok (.iload_n 2, 1) := zd zm_8141 (by decide +kernel)
theorem d_8141_31 {σ : Nat → Nat} {n0 : Nat} {bf : ab_B} : decode (ab_code (zx σ n0 bf).1 8141) 31 = .ok (.iadd, 1) := zd zm_8141 (by decide +kernel)
theorem d_8141_32 {σ : Nat → Nat} {n0 : Nat} {bf : ab_B} : decode (ab_code (zx σ n0 bf).1 8141) 32 = .ok (.iaload, 1) := zd zm_8141 (by decide +kernel)
theorem d_8141_33 {σ : Nat → Nat} {n0 : Nat} {bf : ab_B} : decode (ab_code (zx σ n0 bf).1 8141) 33 = .ok (.istore 5, 2) := zd zm_8141 (by decide +kernel)
theorem d_8141_35 {σ : Nat → Nat} {n0 : Nat} {bf : ab_B} : decode (ab_code (zx σ n0 bf).1 8141) 35 = .ok (.aload_n 0, 1) := zd zm_8141 (by decide +kernel)
theorem d_8141_36 {σ : Nat → Nat} {n0 : Nat} {bf : ab_B} : decode (ab_code (zx σ n0 bf).1 8141) 36 = .ok (.getfield 188, 3) := zd zm_8141 (by decide +kernel)
theorem d_8141_39 {σ : Nat → Nat} {n0 : Nat} {bf : ab_B} : decode (ab_code (zx σ n0 bf).1 8141) 39 = .ok (.aload_n 0, 1) := zd zm_8141 (by decide +kernel)
theorem d_8141_40 {σ : Nat → Nat} {n0 : Nat} {bf : ab_B} : decode (ab_code (zx σ n0 bf).1 8141) 40 = .ok (.getfield 643, 3) := zd zm_8141 (by decide +kernel)
theorem d_8141_43 {σ : Nat → Nat} {n0 : Nat} {bf : ab_B} : decode (ab_code (zx σ n0 bf).1 8141) 43 = .ok (.iconst 1, 1) := zd zm_8141 (by decide +kernel)
theorem d_8141_44 {σ : Nat → Nat} {n0 : Nat} {bf : ab_B} : decode (ab_code (zx σ n0 bf).1 8141) 44 = .ok (.isub, 1) := zd zm_8141 (by decide +kernel)
theorem d_8141_45 {σ : Nat → Nat} {n0 : Nat} {bf : ab_B} : decode (ab_code (zx σ n0 bf).1 8141) 45 = .ok (.iaload, 1) := zd zm_8141 (by decide +kernel)
theorem d_8141_46 {σ : Nat → Nat} {n0 : Nat} {bf : ab_B} : decode (ab_code (zx σ n0 bf).1 8141) 46 = .ok (.ifCond .le 7, 3) := zd zm_8141 (by decide +kernel)
theorem d_8141_49 {σ : Nat → Nat} {n0 : Nat} {bf : ab_B} : decode (ab_code (zx σ n0 bf).1 8141) 49 = .ok (.iconst 1, 1) := zd zm_8141 (by decide +kernel)
theorem d_8141_50 {σ : Nat → Nat} {n0 : Nat} {bf : ab_B} : decode (ab_code (zx σ n0 bf).1 8141) 50 = .ok (.goto 4, 3) := zd zm_8141 (by decide +kernel)
theorem d_8141_53 {σ : Nat → Nat} {n0 : Nat} {bf : ab_B} : decode (ab_code (zx σ n0 bf).1 8141) 53 = .ok (.iconst 0, 1) := zd zm_8141 (by decide +kernel)
theorem d_8141_54 {σ : Nat → Nat} {n0 : Nat} {bf : ab_B} : decode (ab_code (zx σ n0 bf).1 8141) 54 = .ok (.istore 6, 2) := zd zm_8141 (by decide +kernel)
theorem d_8141_56 {σ : Nat → Nat} {n0 : Nat} {bf : ab_B} : decode (ab_code (zx σ n0 bf).1 8141) 56 = .ok (.iload_n 2, 1) := zd zm_8141 (by decide +kernel)
theorem d_8141_57 {σ : Nat → Nat} {n0 : Nat} {bf : ab_B} : decode (ab_code (zx σ n0 bf).1 8141) 57 = .ok (.ifCond .ne 17, 3) := zd zm_8141 (by decide +kernel)
theorem d_8141_60 {σ : Nat → Nat} {n0 : Nat} {bf : ab_B} : decode (ab_code (zx σ n0 bf).1 8141) 60 = .ok (.aload_n 0, 1) := zd zm_8141 (by decide +kernel)
theorem d_8141_61 {σ : Nat → Nat} {n0 : Nat} {bf : ab_B} : decode (ab_code (zx σ n0 bf).1 8141) 61 = .ok (.getfield 299, 3) := zd zm_8141 (by decide +kernel)
theorem d_8141_64 {σ : Nat → Nat} {n0 : Nat} {bf : ab_B} : decode (ab_code (zx σ n0 bf).1 8141) 64 = .ok (.iload_n 3, 1) := zd zm_8141 (by decide +kernel)
theorem d_8141_65 {σ : Nat → Nat} {n0 : Nat} {bf : ab_B} : decode (ab_code (zx σ n0 bf).1 8141) 65 = .ok (.iconst 0, 1) := zd zm_8141 (by decide +kernel)
theorem d_8141_66 {σ : Nat → Nat} {n0 : Nat} {bf : ab_B} : decode (ab_code (zx σ n0 bf).1 8141) 66 = .ok (.bastore, 1) := zd zm_8141 (by decide +kernel)
theorem d_8141_67 {σ : Nat → Nat} {n0 : Nat} {bf : ab_B} : decode (ab_code (zx σ n0 bf).1 8141) 67 = .ok (.aload_n 0, 1) := zd zm_8141 (by decide +kernel)
theorem d_8141_68 {σ : Nat → Nat} {n0 : Nat} {bf : ab_B} : decode (ab_code (zx σ n0 bf).1 8141) 68 = .ok (.getfield 302, 3) := zd zm_8141 (by decide +kernel)
theorem d_8141_71 {σ : Nat → Nat} {n0 : Nat} {bf : ab_B} : decode (ab_code (zx σ n0 bf).1 8141) 71 = .ok (.iload_n 3, 1) := zd zm_8141 (by decide +kernel)
theorem d_8141_72 {σ : Nat → Nat} {n0 : Nat} {bf : ab_B} : decode (ab_code (zx σ n0 bf).1 8141) 72 = .ok (.iconst 0, 1) := zd zm_8141 (by decide +kernel)
theorem d_8141_73 {σ : Nat → Nat} {n0 : Nat} {bf : ab_B} : decode (ab_code (zx σ n0 bf).1 8141) 73 = .ok (.bastore, 1) := zd zm_8141 (by decide +kernel)
theorem d_8141_74 {σ : Nat → Nat} {n0 : Nat} {bf : ab_B} : decode (ab_code (zx σ n0 bf).1 8141) 74 = .ok (.aload_n 0, 1) := zd zm_8141 (by decide +kernel)
theorem d_8141_75 {σ : Nat → Nat} {n0 : Nat} {bf : ab_B} : decode (ab_code (zx σ n0 bf).1 8141) 75 = .ok (.aload_n 0, 1) := zd zm_8141 (by decide +kernel)
theorem d_8141_76 {σ : Nat → Nat} {n0 : Nat} {bf : ab_B} : decode (ab_code (zx σ n0 bf).1 8141) 76 = .ok (.getfield 191, 3) := zd zm_8141 (by decide +kernel)
theorem d_8141_79 {σ : Nat → Nat} {n0 : Nat} {bf : ab_B} : decode (ab_code (zx σ n0 bf).1 8141) 79 = .ok (.iload 4, 2) := zd zm_8141 (by decide +kernel)
theorem d_8141_81 {σ : Nat → Nat} {n0 : Nat} {bf : ab_B} : decode (ab_code (zx σ n0 bf).1 8141) 81 = .ok (.iaload, 1) := zd zm_8141 (by decide +kernel)
theorem d_8141_82 {σ : Nat → Nat} {n0 : Nat} {bf : ab_B} : decode (ab_code (zx σ n0 bf).1 8141) 82 = .ok (.invokevirtual 564, 3) := zd zm_8141 (by decide +kernel)
theorem d_8141_85 {σ : Nat → Nat} {n0 : Nat} {bf : ab_B} : decode (ab_code (zx σ n0 bf).1 8141) 85 = .ok (.ifCond .eq 18, 3) := zd zm_8141 (by decide +kernel)
theorem d_8141_88 {σ : Nat → Nat} {n0 : Nat} {bf : ab_B} : decode (ab_code (zx σ n0 bf).1 8141) 88 = .ok (.aload_n 0, 1) := zd zm_8141 (by decide +kernel)
theorem d_8141_89 {σ : Nat → Nat} {n0 : Nat} {bf : ab_B} : decode (ab_code (zx σ n0 bf).1 8141) 89 = .ok (.getfield 197, 3) := zd zm_8141 (by decide +kernel)
theorem d_8141_92 {σ : Nat → Nat} {n0 : Nat} {bf : ab_B} : decode (ab_code (zx σ n0 bf).1 8141) 92 = .ok (.iload 4, 2) := zd zm_8141 (by decide +kernel)
theorem d_8141_94 {σ : Nat → Nat} {n0 : Nat} {bf : ab_B} : decode (ab_code (zx σ n0 bf).1 8141) 94 = .ok (.baload, 1) := zd zm_8141 (by decide +kernel)
theorem d_8141_95 {σ : Nat → Nat} {n0 : Nat} {bf : ab_B} : decode (ab_code (zx σ n0 bf).1 8141) 95 = .ok (.ifCond .ne 14, 3) := zd zm_8141 (by decide +kernel)
theorem d_8141_98 {σ : Nat → Nat} {n0 : Nat} {bf : ab_B} : decode (ab_code (zx σ n0 bf).1 8141) 98 = .ok (.iload 6, 2) := zd zm_8141 (by decide +kernel)
theorem d_8141_100 {σ : Nat → Nat} {n0 : Nat} {bf : ab_B} : decode (ab_code (zx σ n0 bf).1 8141) 100 = .ok (.ifCond .ne 9, 3) := zd zm_8141 (by decide +kernel)
theorem d_8141_103 {σ : Nat → Nat} {n0 : Nat} {bf : ab_B} : decode (ab_code (zx σ n0 bf).1 8141) 103 = .ok (.aload_n 0, 1) := zd zm_8141 (by decide +kernel)
theorem d_8141_104 {σ : Nat → Nat} {n0 : Nat} {bf : ab_B} : decode (ab_code (zx σ n0 bf).1 8141) 104 = .ok (.iconst 5, 1) := zd zm_8141 (by decide +kernel)
theorem d_8141_105 {σ : Nat → Nat} {n0 : Nat} {bf : ab_B} : decode (ab_code (zx σ n0 bf).1 8141) 105 = .ok (.invokevirtual 541, 3) := zd zm_8141 (by decide +kernel)
theorem d_8141_108 {σ : Nat → Nat} {n0 : Nat} {bf : ab_B} : decode (ab_code (zx σ n0 bf).1 8141) 108 = .ok (.return_, 1) := zd zm_8141 (by decide +kernel)
theorem d_8141_109 {σ : Nat → Nat} {n0 : Nat} {bf : ab_B} : decode (ab_code (zx σ n0 bf).1 8141) 109 = .ok (.aload_n 0, 1) := zd zm_8141 (by decide +kernel)
theorem d_8141_110 {σ : Nat → Nat} {n0 : Nat} {bf : ab_B} : decode (ab_code (zx σ n0 bf).1 8141) 110 = .ok (.aload_n 0, 1) := zd zm_8141 (by decide +kernel)
theorem d_8141_111 {σ : Nat → Nat} {n0 : Nat} {bf : ab_B} : decode (ab_code (zx σ n0 bf).1 8141) 111 = .ok (.getfield 191, 3) := zd zm_8141 (by decide +kernel)
theorem d_8141_114 {σ : Nat → Nat} {n0 : Nat} {bf : ab_B} : decode (ab_code (zx σ n0 bf).1 8141) 114 = .ok (.iload 4, 2) := zd zm_8141 (by decide +kernel)
theorem d_8141_116 {σ : Nat → Nat} {n0 : Nat} {bf : ab_B} : decode (ab_code (zx σ n0 bf).1 8141) 116 = .ok (.iaload, 1) := zd zm_8141 (by decide +kernel)
theorem d_8141_117 {σ : Nat → Nat} {n0 : Nat} {bf : ab_B} : decode (ab_code (zx σ n0 bf).1 8141) 117 = .ok (.invokevirtual 561, 3) := zd zm_8141 (by decide +kernel)
theorem d_8141_120 {σ : Nat → Nat} {n0 : Nat} {bf : ab_B} : decode (ab_code (zx σ n0 bf).1 8141) 120 = .ok (.aload_n 0, 1) := zd zm_8141 (by decide +kernel)
theorem d_8141_121 {σ : Nat → Nat} {n0 : Nat} {bf : ab_B} : decode (ab_code (zx σ n0 bf).1 8141) 121 = .ok (.iload 5, 2) := zd zm_8141 (by decide +kernel)
theorem d_8141_123 {σ : Nat → Nat} {n0 : Nat} {bf : ab_B} : decode (ab_code (zx σ n0 bf).1 8141) 123 = .ok (.invokevirtual 561, 3) := zd zm_8141 (by decide +kernel)
theorem d_8141_126 {σ : Nat → Nat} {n0 : Nat} {bf : ab_B} : decode (ab_code (zx σ n0 bf).1 8141) 126 = .ok (.if_icmp .eq 7, 3) := zd zm_8141 (by decide +kernel)
theorem d_8141_129 {σ : Nat → Nat} {n0 : Nat} {bf : ab_B} : decode (ab_code (zx σ n0 bf).1 8141) 129 = .ok (.iconst 1, 1) := zd zm_8141 (by decide +kernel)
theorem d_8141_130 {σ : Nat → Nat} {n0 : Nat} {bf : ab_B} : decode (ab_code (zx σ n0 bf).1 8141) 130 = .ok (.goto 4, 3) := zd zm_8141 (by decide +kernel)
theorem d_8141_133 {σ : Nat → Nat} {n0 : Nat} {bf : ab_B} : decode (ab_code (zx σ n0 bf).1 8141) 133 = .ok (.iconst 0, 1) := zd zm_8141 (by decide +kernel)
theorem d_8141_134 {σ : Nat → Nat} {n0 : Nat} {bf : ab_B} : decode (ab_code (zx σ n0 bf).1 8141) 134 = .ok (.istore 7, 2) := zd zm_8141 (by decide +kernel)
theorem d_8141_136 {σ : Nat → Nat} {n0 : Nat} {bf : ab_B} : decode (ab_code (zx σ n0 bf).1 8141) 136 = .ok (.aload_n 0, 1) := zd zm_8141 (by decide +kernel)
theorem d_8141_137 {σ : Nat → Nat} {n0 : Nat} {bf : ab_B} : decode (ab_code (zx σ n0 bf).1 8141) 137 = .ok (.getfield 121, 3) := zd zm_8141 (by decide +kernel)
theorem d_8141_140 {σ : Nat → Nat} {n0 : Nat} {bf : ab_B} : decode (ab_code (zx σ n0 bf).1 8141) 140 = .ok (.iload_n 3, 1) := zd zm_8141 (by decide +kernel)
theorem d_8141_141 {σ : Nat → Nat} {n0 : Nat} {bf : ab_B} : decode (ab_code (zx σ n0 bf).1 8141) 141 = .ok (.iload_n 2, 1) := zd zm_8141 (by decide +kernel)
theorem d_8141_142 {σ : Nat → Nat} {n0 : Nat} {bf : ab_B} : decode (ab_code (zx σ n0 bf).1 8141) 142 = .ok (.iadd, 1) := zd zm_8141 (by decide +kernel)
theorem d_8141_143 {σ : Nat → Nat} {n0 : Nat} {bf : ab_B} : decode (ab_code (zx σ n0 bf).1 8141) 143 = .ok (.iconst 0, 1) := zd zm_8141 (by decide +kernel)
theorem d_8141_144 {σ : Nat → Nat} {n0 : Nat} {bf : ab_B} : decode (ab_code (zx σ n0 bf).1 8141) 144 = .ok (.bastore, 1) := zd zm_8141 (by decide +kernel)
theorem d_8141_145 {σ : Nat → Nat} {n0 : Nat} {bf : ab_B} : decode (ab_code (zx σ n0 bf).1 8141) 145 = .ok (.aload_n 0, 1) := zd zm_8141 (by decide +kernel)
theorem d_8141_146 {σ : Nat → Nat} {n0 : Nat} {bf : ab_B} : decode (ab_code (zx σ n0 bf).1 8141) 146 = .ok (.getfield 197, 3) := zd zm_8141 (by decide +kernel)
theorem d_8141_149 {σ : Nat → Nat} {n0 : Nat} {bf : ab_B} : decode (ab_code (zx σ n0 bf).1 8141) 149 = .ok (.iload 4, 2) := zd zm_8141 (by decide +kernel)
theorem d_8141_151 {σ : Nat → Nat} {n0 : Nat} {bf : ab_B} : decode (ab_code (zx σ n0 bf).1 8141) 151 = .ok (.baload, 1) := zd zm_8141 (by decide +kernel)
theorem d_8141_152 {σ : Nat → Nat} {n0 : Nat} {bf : ab_B} : decode (ab_code (zx σ n0 bf).1 8141) 152 = .ok (.ifCond .ne 23, 3) := zd zm_8141 (by decide +kernel)
theorem d_8141_155 {σ : Nat → Nat} {n0 : Nat} {bf : ab_B} : decode (ab_code (zx σ n0 bf).1 8141) 155 = .ok (.aload_n 0, 1) := zd zm_8141 (by decide +kernel)
theorem d_8141_156 {σ : Nat → Nat} {n0 : Nat} {bf : ab_B} : decode (ab_code (zx σ n0 bf).1 8141) 156 = .ok (.getfield 299, 3) := zd zm_8141 (by decide +kernel)
theorem d_8141_159 {σ : Nat → Nat} {n0 : Nat} {bf : ab_B} : decode (ab_code (zx σ n0 bf).1 8141) 159 = .ok (.iload_n 3, 1) := zd zm_8141 (by decide +kernel)
theorem d_8141_160 {σ : Nat → Nat} {n0 : Nat} {bf : ab_B} : decode (ab_code (zx σ n0 bf).1 8141) 160 = .ok (.iconst 1, 1) := zd zm_8141 (by decide +kernel)
theorem d_8141_161 {σ : Nat → Nat} {n0 : Nat} {bf : ab_B} : decode (ab_code (zx σ n0 bf).1 8141) 161 = .ok (.bastore, 1) := zd zm_8141 (by decide +kernel)
theorem d_8141_162 {σ : Nat → Nat} {n0 : Nat} {bf : ab_B} : decode (ab_code (zx σ n0 bf).1 8141) 162 = .ok (.aload_n 0, 1) := zd zm_8141 (by decide +kernel)
theorem d_8141_163 {σ : Nat → Nat} {n0 : Nat} {bf : ab_B} : decode (ab_code (zx σ n0 bf).1 8141) 163 = .ok (.dup, 1) := zd zm_8141 (by decide +kernel)
theorem d_8141_164 {σ : Nat → Nat} {n0 : Nat} {bf : ab_B} : decode (ab_code (zx σ n0 bf).1 8141) 164 = .ok (.getfield 653, 3) := zd zm_8141 (by decide +kernel)
theorem d_8141_167 {σ : Nat → Nat} {n0 : Nat} {bf : ab_B} : decode (ab_code (zx σ n0 bf).1 8141) 167 = .ok (.iconst 1, 1) := zd zm_8141 (by decide +kernel)
theorem d_8141_168 {σ : Nat → Nat} {n0 : Nat} {bf : ab_B} : decode (ab_code (zx σ n0 bf).1 8141) 168 = .ok (.isub, 1) := zd zm_8141 (by decide +kernel)
theorem d_8141_169 {σ : Nat → Nat} {n0 : Nat} {bf : ab_B} : decode (ab_code (zx σ n0 bf).1 8141) 169 = .ok (.putfield 653, 3) := zd zm_8141 (by decide +kernel)
theorem d_8141_172 {σ : Nat → Nat} {n0 : Nat} {bf : ab_B} : decode (ab_code (zx σ n0 bf).1 8141) 172 = .ok (.goto 127, 3) := zd zm_8141 (by decide +kernel)
theorem d_8141_175 {σ : Nat → Nat} {n0 : Nat} {bf : ab_B} : decode (ab_code (zx σ n0 bf).1 8141) 175 = .ok (.aload_n 0, 1) := zd zm_8141 (by decide +kernel)
theorem d_8141_176 {σ : Nat → Nat} {n0 : Nat} {bf : ab_B} : decode (ab_code (zx σ n0 bf).1 8141) 176 = .ok (.invokevirtual 877, 3) := zd zm_8141 (by decide +kernel)
theorem d_8141_179 {σ : Nat → Nat} {n0 : Nat} {bf : ab_B} : decode (ab_code (zx σ n0 bf).1 8141) 179 = .ok (.ifCond .eq 37, 3) := zd zm_8141 (by decide +kernel)
theorem d_8141_182 {σ : Nat → Nat} {n0 : Nat} {bf : ab_B} : decode (ab_code (zx σ n0 bf).1 8141) 182 = .ok (.aload_n 0, 1) := zd zm_8141 (by decide +kernel)
theorem d_8141_183 {σ : Nat → Nat} {n0 : Nat} {bf : ab_B} : decode (ab_code (zx σ n0 bf).1 8141) 183 = .ok (.getfield 121, 3) := zd zm_8141 (by decide +kernel)
theorem d_8141_186 {σ : Nat → Nat} {n0 : Nat} {bf : ab_B} : decode (ab_code (zx σ n0 bf).1 8141) 186 = .ok (.iload_n 3, 1) := zd zm_8141 (by decide +kernel)
theorem d_8141_187 {σ : Nat → Nat} {n0 : Nat} {bf : ab_B} : decode (ab_code (zx σ n0 bf).1 8141) 187 = .ok (.iload_n 2, 1) := zd zm_8141 (by decide +kernel)
theorem d_8141_188 {σ : Nat → Nat} {n0 : Nat} {bf : ab_B} : decode (ab_code (zx σ n0 bf).1 8141) 188 = .ok (.iadd, 1) := zd zm_8141 (by decide +kernel)
theorem d_8141_189 {σ : Nat → Nat} {n0 : Nat} {bf : ab_B} : decode (ab_code (zx σ n0 bf).1 8141) 189 = .ok (.iconst 1, 1) := zd zm_8141 (by decide +kernel)
theorem d_8141_190 {σ : Nat → Nat} {n0 : Nat} {bf : ab_B} : decode (ab_code (zx σ n0 bf).1 8141) 190 = .ok (.bastore, 1) := zd zm_8141 (by decide +kernel)
theorem d_8141_191 {σ : Nat → Nat} {n0 : Nat} {bf : ab_B} : decode (ab_code (zx σ n0 bf).1 8141) 191 = .ok (.aload_n 0, 1) := zd zm_8141 (by decide +kernel)
theorem d_8141_192 {σ : Nat → Nat} {n0 : Nat} {bf : ab_B} : decode (ab_code (zx σ n0 bf).1 8141) 192 = .ok (.getfield 118, 3) := zd zm_8141 (by decide +kernel)
theorem d_8141_195 {σ : Nat → Nat} {n0 : Nat} {bf : ab_B} : decode (ab_code (zx σ n0 bf).1 8141) 195 = .ok (.iload_n 3, 1) := zd zm_8141 (by decide +kernel)
theorem d_8141_196 {σ : Nat → Nat} {n0 : Nat} {bf : ab_B} : decode (ab_code (zx σ n0 bf).1 8141) 196 = .ok (.iload_n 2, 1) := zd zm_8141 (by decide +kernel)
theorem d_8141_197 {σ : Nat → Nat} {n0 : Nat} {bf : ab_B} : decode (ab_code (zx σ n0 bf).1 8141) 197 = .ok (.iadd, 1) := zd zm_8141 (by decide +kernel)
theorem d_8141_198 {σ : Nat → Nat} {n0 : Nat} {bf : ab_B} : decode (ab_code (zx σ n0 bf).1 8141) 198 = .ok (.aload_n 0, 1) := zd zm_8141 (by decide +kernel)
theorem d_8141_199 {σ : Nat → Nat} {n0 : Nat} {bf : ab_B} : decode (ab_code (zx σ n0 bf).1 8141) 199 = .ok (.invokevirtual 777, 3) := zd zm_8141 (by decide +kernel)
theorem d_8141_202 {σ : Nat → Nat} {n0 : Nat} {bf : ab_B} : decode (ab_code (zx σ n0 bf).1 8141) 202 = .ok (.iastore, 1) := zd zm_8141 (by decide +kernel)
theorem d_8141_203 {σ : Nat → Nat} {n0 : Nat} {bf : ab_B} : decode (ab_code (zx σ n0 bf).1 8141) 203 = .ok (.aload_n 0, 1) := zd zm_8141 (by decide +kernel)
theorem d_8141_204 {σ : Nat → Nat} {n0 : Nat} {bf : ab_B} : decode (ab_code (zx σ n0 bf).1 8141) 204 = .ok (.dup, 1) := zd zm_8141 (by decide +kernel)
theorem d_8141_205 {σ : Nat → Nat} {n0 : Nat} {bf : ab_B} : decode (ab_code (zx σ n0 bf).1 8141) 205 = .ok (.getfield 653, 3) := zd zm_8141 (by decide +kernel)
theorem d_8141_208 {σ : Nat → Nat} {n0 : Nat} {bf : ab_B} : decode (ab_code (zx σ n0 bf).1 8141) 208 = .ok (.iconst 1, 1) := zd zm_8141 (by decide +kernel)
theorem d_8141_209 {σ : Nat → Nat} {n0 : Nat} {bf : ab_B} : decode (ab_code (zx σ n0 bf).1 8141) 209 = .ok (.isub, 1) := zd zm_8141 (by decide +kernel)
theorem d_8141_210 {σ : Nat → Nat} {n0 : Nat} {bf : ab_B} : decode (ab_code (zx σ n0 bf).1 8141) 210 = .ok (.putfield 653, 3) := zd zm_8141 (by decide +kernel)
theorem d_8141_213 {σ : Nat → Nat} {n0 : Nat} {bf : ab_B} : decode (ab_code (zx σ n0 bf).1 8141) 213 = .ok (.goto 86, 3) := zd zm_8141 (by decide +kernel)
theorem d_8141_216 {σ : Nat → Nat} {n0 : Nat} {bf : ab_B} : decode (ab_code (zx σ n0 bf).1 8141) 216 = .ok (.aload_n 0, 1) := zd zm_8141 (by decide +kernel)
theorem d_8141_217 {σ : Nat → Nat} {n0 : Nat} {bf : ab_B} : decode (ab_code (zx σ n0 bf).1 8141) 217 = .ok (.invokevirtual 880, 3) := zd zm_8141 (by decide +kernel)
theorem d_8141_220 {σ : Nat → Nat} {n0 : Nat} {bf : ab_B} : decode (ab_code (zx σ n0 bf).1 8141) 220 = .ok (.lstore 8, 2) := zd zm_8141 (by decide +kernel)
theorem d_8141_222 {σ : Nat → Nat} {n0 : Nat} {bf : ab_B} : decode (ab_code (zx σ n0 bf).1 8141) 222 = .ok (.aload_n 0, 1) := zd zm_8141 (by decide +kernel)
theorem d_8141_223 {σ : Nat → Nat} {n0 : Nat} {bf : ab_B} : decode (ab_code (zx σ n0 bf).1 8141) 223 = .ok (.getfield 302, 3) := zd zm_8141 (by decide +kernel)
theorem d_8141_226 {σ : Nat → Nat} {n0 : Nat} {bf : ab_B} : decode (ab_code (zx σ n0 bf).1 8141) 226 = .ok (.iload_n 3, 1) := zd zm_8141 (by decide +kernel)
theorem d_8141_227 {σ : Nat → Nat} {n0 : Nat} {bf : ab_B} : decode (ab_code (zx σ n0 bf).1 8141) 227 = .ok (.aload_n 0, 1) := zd zm_8141 (by decide +kernel)
theorem d_8141_228 {σ : Nat → Nat} {n0 : Nat} {bf : ab_B} : decode (ab_code (zx σ n0 bf).1 8141) 228 = .ok (.getfield 302, 3) := zd zm_8141 (by decide +kernel)
theorem d_8141_231 {σ : Nat → Nat} {n0 : Nat} {bf : ab_B} : decode (ab_code (zx σ n0 bf).1 8141) 231 = .ok (.iload_n 3, 1) := zd zm_8141 (by decide +kernel)
theorem d_8141_232 {σ : Nat → Nat} {n0 : Nat} {bf : ab_B} : decode (ab_code (zx σ n0 bf).1 8141) 232 = .ok (.baload, 1) := zd zm_8141 (by decide +kernel)
theorem d_8141_233 {σ : Nat → Nat} {n0 : Nat} {bf : ab_B} : decode (ab_code (zx σ n0 bf).1 8141) 233 = .ok (.ifCond .ne 29, 3) := zd zm_8141 (by decide +kernel)
theorem d_8141_236 {σ : Nat → Nat} {n0 : Nat} {bf : ab_B} : decode (ab_code (zx σ n0 bf).1 8141) 236 = .ok (.lload 8, 2) := zd zm_8141 (by decide +kernel)
theorem d_8141_238 {σ : Nat → Nat} {n0 : Nat} {bf : ab_B} : decode (ab_code (zx σ n0 bf).1 8141) 238 = .ok (.aload_n 0, 1) := zd zm_8141 (by decide +kernel)
theorem d_8141_239 {σ : Nat → Nat} {n0 : Nat} {bf : ab_B} : decode (ab_code (zx σ n0 bf).1 8141) 239 = .ok (.iload 5, 2) := zd zm_8141 (by decide +kernel)
theorem d_8141_241 {σ : Nat → Nat} {n0 : Nat} {bf : ab_B} : decode (ab_code (zx σ n0 bf).1 8141) 241 = .ok (.invokevirtual 789, 3) := zd zm_8141 (by decide +kernel)
theorem d_8141_244 {σ : Nat → Nat} {n0 : Nat} {bf : ab_B} : decode (ab_code (zx σ n0 bf).1 8141) 244 = .ok (.i2l, 1) := zd zm_8141 (by decide +kernel)
theorem d_8141_245 {σ : Nat → Nat} {n0 : Nat} {bf : ab_B} : decode (ab_code (zx σ n0 bf).1 8141) 245 = .ok (.lcmp, 1) := zd zm_8141 (by decide +kernel)
theorem d_8141_246 {σ : Nat → Nat} {n0 : Nat} {bf : ab_B} : decode (ab_code (zx σ n0 bf).1 8141) 246 = .ok (.ifCond .lt 16, 3) := zd zm_8141 (by decide +kernel)
theorem d_8141_249 {σ : Nat → Nat} {n0 : Nat} {bf : ab_B} : decode (ab_code (zx σ n0 bf).1 8141) 249 = .ok (.lload 8, 2) := zd zm_8141 (by decide +kernel)
theorem d_8141_251 {σ : Nat → Nat} {n0 : Nat} {bf : ab_B} : decode (ab_code (zx σ n0 bf).1 8141) 251 = .ok (.aload_n 0, 1) := zd zm_8141 (by decide +kernel)
theorem d_8141_252 {σ : Nat → Nat} {n0 : Nat} {bf : ab_B} : decode (ab_code (zx σ n0 bf).1 8141) 252 = .ok (.iload 5, 2) := zd zm_8141 (by decide +kernel)
theorem d_8141_254 {σ : Nat → Nat} {n0 : Nat} {bf : ab_B} : decode (ab_code (zx σ n0 bf).1 8141) 254 = .ok (.invokevirtual 774, 3) := zd zm_8141 (by decide +kernel)
theorem d_8141_257 {σ : Nat → Nat} {n0 : Nat} {bf : ab_B} : decode (ab_code (zx σ n0 bf).1 8141) 257 = .ok (.i2l, 1) := zd zm_8141 (by decide +kernel)
theorem d_8141_258 {σ : Nat → Nat} {n0 : Nat} {bf : ab_B} : decode (ab_code (zx σ n0 bf).1 8141) 258 = .ok (.lcmp, 1) := zd zm_8141 (by decide +kernel)
theorem d_8141_259 {σ : Nat → Nat} {n0 : Nat} {bf : ab_B} : decode (ab_code (zx σ n0 bf).1 8141) 259 = .ok (.ifCond .le 7, 3) := zd zm_8141 (by decide +kernel)
theorem d_8141_262 {σ : Nat → Nat} {n0 : Nat} {bf : ab_B} : decode (ab_code (zx σ n0 bf).1 8141) 262 = .ok (.iconst 1, 1) := zd zm_8141 (by decide +kernel)
theorem d_8141_263 {σ : Nat → Nat} {n0 : Nat} {bf : ab_B} : decode (ab_code (zx σ n0 bf).1 8141) 263 = .ok (.goto 4, 3) := zd zm_8141 (by decide +kernel)
theorem d_8141_266 {σ : Nat → Nat} {n0 : Nat} {bf : ab_B} : decode (ab_code (zx σ n0 bf).1 8141) 266 = .ok (.iconst 0, 1) := zd zm_8141 (by decide +kernel)
theorem d_8141_267 {σ : Nat → Nat} {n0 : Nat} {bf : ab_B} : decode (ab_code (zx σ n0 bf).1 8141) 267 = .ok (.bastore, 1) := zd zm_8141 (by decide +kernel)
theorem d_8141_268 {σ : Nat → Nat} {n0 : Nat} {bf : ab_B} : decode (ab_code (zx σ n0 bf).1 8141) 268 = .ok (.aload_n 0, 1) := zd zm_8141 (by decide +kernel)
theorem d_8141_269 {σ : Nat → Nat} {n0 : Nat} {bf : ab_B} : decode (ab_code (zx σ n0 bf).1 8141) 269 = .ok (.getfield 118, 3) := zd zm_8141 (by decide +kernel)
theorem d_8141_272 {σ : Nat → Nat} {n0 : Nat} {bf : ab_B} : decode (ab_code (zx σ n0 bf).1 8141) 272 = .ok (.iload_n 3, 1) := zd zm_8141 (by decide +kernel)
theorem d_8141_273 {σ : Nat → Nat} {n0 : Nat} {bf : ab_B} : decode (ab_code (zx σ n0 bf).1 8141) 273 = .ok (.iload_n 2, 1) := zd zm_8141 (by decide +kernel)
theorem d_8141_274 {σ : Nat → Nat} {n0 : Nat} {bf : ab_B} : decode (ab_code (zx σ n0 bf).1 8141) 274 = .ok (.iadd, 1) := zd zm_8141 (by decide +kernel)
theorem d_8141_275 {σ : Nat → Nat} {n0 : Nat} {bf : ab_B} : decode (ab_code (zx σ n0 bf).1 8141) 275 = .ok (.lload 8, 2) := zd zm_8141 (by decide +kernel)
theorem d_8141_277 {σ : Nat → Nat} {n0 : Nat} {bf : ab_B} : decode (ab_code (zx σ n0 bf).1 8141) 277 = .ok (.l2i, 1) := zd zm_8141 (by decide +kernel)
theorem d_8141_278 {σ : Nat → Nat} {n0 : Nat} {bf : ab_B} : decode (ab_code (zx σ n0 bf).1 8141) 278 = .ok (.iastore, 1) := zd zm_8141 (by decide +kernel)
theorem d_8141_279 {σ : Nat → Nat} {n0 : Nat} {bf : ab_B} : decode (ab_code (zx σ n0 bf).1 8141) 279 = .ok (.iload 6, 2) := zd zm_8141 (by decide +kernel)
theorem d_8141_281 {σ : Nat → Nat} {n0 : Nat} {bf : ab_B} : decode (ab_code (zx σ n0 bf).1 8141) 281 = .ok (.ifCond .eq 18, 3) := zd zm_8141 (by decide +kernel)
theorem d_8141_284 {σ : Nat → Nat} {n0 : Nat} {bf : ab_B} : decode (ab_code (zx σ n0 bf).1 8141) 284 = .ok (.aload_n 0, 1) := zd zm_8141 (by decide +kernel)
theorem d_8141_285 {σ : Nat → Nat} {n0 : Nat} {bf : ab_B} : decode (ab_code (zx σ n0 bf).1 8141) 285 = .ok (.iconst 1, 1) := zd zm_8141 (by decide +kernel)
theorem d_8141_286 {σ : Nat → Nat} {n0 : Nat} {bf : ab_B} : decode (ab_code (zx σ n0 bf).1 8141) 286 = .ok (.lload 8, 2) := zd zm_8141 (by decide +kernel)
theorem d_8141_288 {σ : Nat → Nat} {n0 : Nat} {bf : ab_B} : decode (ab_code (zx σ n0 bf).1 8141) 288 = .ok (.l2i, 1) := zd zm_8141 (by decide +kernel)
theorem d_8141_289 {σ : Nat → Nat} {n0 : Nat} {bf : ab_B} : decode (ab_code (zx σ n0 bf).1 8141) 289 = .ok (.iconst 0, 1) := zd zm_8141 (by decide +kernel)
theorem d_8141_290 {σ : Nat → Nat} {n0 : Nat} {bf : ab_B} : decode (ab_code (zx σ n0 bf).1 8141) 290 = .ok (.aload_n 0, 1) := zd zm_8141 (by decide +kernel)
theorem d_8141_291 {σ : Nat → Nat} {n0 : Nat} {bf : ab_B} : decode (ab_code (zx σ n0 bf).1 8141) 291 = .ok (.getfield 450, 3) := zd zm_8141 (by decide +kernel)
theorem d_8141_294 {σ : Nat → Nat} {n0 : Nat} {bf : ab_B} : decode (ab_code (zx σ n0 bf).1 8141) 294 = .ok (.invokevirtual 656, 3) := zd zm_8141 (by decide +kernel)
theorem d_8141_297 {σ : Nat → Nat} {n0 : Nat} {bf : ab_B} : decode (ab_code (zx σ n0 bf).1 8141) 297 = .ok (.istore 10, 2) := zd zm_8141 (by decide +kernel)
theorem d_8141_299 {σ : Nat → Nat} {n0 : Nat} {bf : ab_B} : decode (ab_code (zx σ n0 bf).1 8141) 299 = .ok (.iload 7, 2) := zd zm_8141 (by decide +kernel)
theorem d_8141_301 {σ : Nat → Nat} {n0 : Nat} {bf : ab_B} : decode (ab_code (zx σ n0 bf).1 8141) 301 = .ok (.ifCond .eq 8, 3) := zd zm_8141 (by decide +kernel)
theorem d_8141_304 {σ : Nat → Nat} {n0 : Nat} {bf : ab_B} : decode (ab_code (zx σ n0 bf).1 8141) 304 = .ok (.aload_n 0, 1) := zd zm_8141 (by decide +kernel)
theorem d_8141_305 {σ : Nat → Nat} {n0 : Nat} {bf : ab_B} : decode (ab_code (zx σ n0 bf).1 8141) 305 = .ok (.iconst 5, 1) := zd zm_8141 (by decide +kernel)
theorem d_8141_306 {σ : Nat → Nat} {n0 : Nat} {bf : ab_B} : decode (ab_code (zx σ n0 bf).1 8141) 306 = .ok (.invokevirtual 541, 3) := zd zm_8141 (by decide +kernel)
theorem d_8141_309 {σ : Nat → Nat} {n0 : Nat} {bf : ab_B} : decode (ab_code (zx σ n0 bf).1 8141) 309 = .ok (.iload_n 2, 1) := zd zm_8141 (by decide +kernel)
theorem d_8141_310 {σ : Nat → Nat} {n0 : Nat} {bf : ab_B} : decode (ab_code (zx σ n0 bf).1 8141) 310 = .ok (.iconst 1, 1) := zd zm_8141 (by decide +kernel)
theorem d_8141_311 {σ : Nat → Nat} {n0 : Nat} {bf : ab_B} : decode (ab_code (zx σ n0 bf).1 8141) 311 = .ok (.iadd, 1) := zd zm_8141 (by decide +kernel)
theorem d_8141_312 {σ : Nat → Nat} {n0 : Nat} {bf : ab_B} : decode (ab_code (zx σ n0 bf).1 8141) 312 = .ok (.aload_n 0, 1) := zd zm_8141 (by decide +kernel)
theorem d_8141_313 {σ : Nat → Nat} {n0 : Nat} {bf : ab_B} : decode (ab_code (zx σ n0 bf).1 8141) 313 = .ok (.getfield 127, 3) := zd zm_8141 (by decide +kernel)
theorem d_8141_316 {σ : Nat → Nat} {n0 : Nat} {bf : ab_B} : decode (ab_code (zx σ n0 bf).1 8141) 316 = .ok (.iload_n 1, 1) := zd zm_8141 (by decide +kernel)
theorem d_8141_317 {σ : Nat → Nat} {n0 : Nat} {bf : ab_B} : decode (ab_code (zx σ n0 bf).1 8141) 317 = .ok (.baload, 1) := zd zm_8141 (by decide +kernel)
theorem d_8141_318 {σ : Nat → Nat} {n0 : Nat} {bf : ab_B} : decode (ab_code (zx σ n0 bf).1 8141) 318 = .ok (.if_icmp .ge 59, 3) := zd zm_8141 (by decide +kernel)
theorem d_8141_321 {σ : Nat → Nat} {n0 : Nat} {bf : ab_B} : decode (ab_code (zx σ n0 bf).1 8141) 321 = .ok (.aload_n 0, 1) := zd zm_8141 (by decide +kernel)
theorem d_8141_322 {σ : Nat → Nat} {n0 : Nat} {bf : ab_B} : decode (ab_code (zx σ n0 bf).1 8141) 322 = .ok (.bipush 12, 2) := zd zm_8141 (by decide +kernel)
theorem d_8141_324 {σ : Nat → Nat} {n0 : Nat} {bf : ab_B} : decode (ab_code (zx σ n0 bf).1 8141) 324 = .ok (.invokevirtual 535, 3) := zd zm_8141 (by decide +kernel)
theorem d_8141_327 {σ : Nat → Nat} {n0 : Nat} {bf : ab_B} : decode (ab_code (zx σ n0 bf).1 8141) 327 = .ok (.ifCond .eq 29, 3) := zd zm_8141 (by decide +kernel)
theorem d_8141_330 {σ : Nat → Nat} {n0 : Nat} {bf : ab_B} : decode (ab_code (zx σ n0 bf).1 8141) 330 = .ok (.aload_n 0, 1) := zd zm_8141 (by decide +kernel)
theorem d_8141_331 {σ : Nat → Nat} {n0 : Nat} {bf : ab_B} : decode (ab_code (zx σ n0 bf).1 8141) 331 = .ok (.invokevirtual 538, 3) := zd zm_8141 (by decide +kernel)
theorem d_8141_334 {σ : Nat → Nat} {n0 : Nat} {bf : ab_B} : decode (ab_code (zx σ n0 bf).1 8141) 334 = .ok (.aload_n 0, 1) := zd zm_8141 (by decide +kernel)
theorem d_8141_335 {σ : Nat → Nat} {n0 : Nat} {bf : ab_B} : decode (ab_code (zx σ n0 bf).1 8141) 335 = .ok (.bipush 45, 2) := zd zm_8141 (by decide +kernel)
theorem d_8141_337 {σ : Nat → Nat} {n0 : Nat} {bf : ab_B} : decode (ab_code (zx σ n0 bf).1 8141) 337 = .ok (.iload_n 1, 1) := zd zm_8141 (by decide +kernel)
theorem d_8141_338 {σ : Nat → Nat} {n0 : Nat} {bf : ab_B} : decode (ab_code (zx σ n0 bf).1 8141) 338 = .ok (.iload_n 2, 1) := zd zm_8141 (by decide +kernel)
theorem d_8141_339 {σ : Nat → Nat} {n0 : Nat} {bf : ab_B} : decode (ab_code (zx σ n0 bf).1 8141) 339 = .ok (.iconst 1, 1) := zd zm_8141 (by decide +kernel)
theorem d_8141_340 {σ : Nat → Nat} {n0 : Nat} {bf : ab_B} : decode (ab_code (zx σ n0 bf).1 8141) 340 = .ok (.iadd, 1) := zd zm_8141 (by decide +kernel)
theorem d_8141_341 {σ : Nat → Nat} {n0 : Nat} {bf : ab_B} : decode (ab_code (zx σ n0 bf).1 8141) 341 = .ok (.iload_n 3, 1) := zd zm_8141 (by decide +kernel)
theorem d_8141_342 {σ : Nat → Nat} {n0 : Nat} {bf : ab_B} : decode (ab_code (zx σ n0 bf).1 8141) 342 = .ok (.invokevirtual 649, 3) := zd zm_8141 (by decide +kernel)
theorem d_8141_345 {σ : Nat → Nat} {n0 : Nat} {bf : ab_B} : decode (ab_code (zx σ n0 bf).1 8141) 345 = .ok (.aload_n 0, 1) := zd zm_8141 (by decide +kernel)
theorem d_8141_346 {σ : Nat → Nat} {n0 : Nat} {bf : ab_B} : decode (ab_code (zx σ n0 bf).1 8141) 346 = .ok (.iconst 5, 1) := zd zm_8141 (by decide +kernel)
theorem d_8141_347 {σ : Nat → Nat} {n0 : Nat} {bf : ab_B} : decode (ab_code (zx σ n0 bf).1 8141) 347 = .ok (.iconst 0, 1) := zd zm_8141 (by decide +kernel)
theorem d_8141_348 {σ : Nat → Nat} {n0 : Nat} {bf : ab_B} : decode (ab_code (zx σ n0 bf).1 8141) 348 = .ok (.iconst 0, 1) := zd zm_8141 (by decide +kernel)
theorem d_8141_349 {σ : Nat → Nat} {n0 : Nat} {bf : ab_B} : decode (ab_code (zx σ n0 bf).1 8141) 349 = .ok (.iconst 0, 1) := zd zm_8141 (by decide +kernel)
theorem d_8141_350 {σ : Nat → Nat} {n0 : Nat} {bf : ab_B} : decode (ab_code (zx σ n0 bf).1 8141) 350 = .ok (.invokevirtual 649, 3) := zd zm_8141 (by decide +kernel)
theorem d_8141_353 {σ : Nat → Nat} {n0 : Nat} {bf : ab_B} : decode (ab_code (zx σ n0 bf).1 8141) 353 = .ok (.goto 38, 3) := zd zm_8141 (by decide +kernel)
theorem d_8141_356 {σ : Nat → Nat} {n0 : Nat} {bf : ab_B} : decode (ab_code (zx σ n0 bf).1 8141) 356 = .ok (.aload_n 0, 1) := zd zm_8141 (by decide +kernel)
theorem d_8141_357 {σ : Nat → Nat} {n0 : Nat} {bf : ab_B} : decode (ab_code (zx σ n0 bf).1 8141) 357 = .ok (.aload_n 0, 1) := zd zm_8141 (by decide +kernel)
theorem d_8141_358 {σ : Nat → Nat} {n0 : Nat} {bf : ab_B} : decode (ab_code (zx σ n0 bf).1 8141) 358 = .ok (.bipush 9, 2) := zd zm_8141 (by decide +kernel)
theorem d_8141_360 {σ : Nat → Nat} {n0 : Nat} {bf : ab_B} : decode (ab_code (zx σ n0 bf).1 8141) 360 = .ok (.invokevirtual 535, 3) := zd zm_8141 (by decide +kernel)
theorem d_8141_363 {σ : Nat → Nat} {n0 : Nat} {bf : ab_B} : decode (ab_code (zx σ n0 bf).1 8141) 363 = .ok (.ifCond .eq 7, 3) := zd zm_8141 (by decide +kernel)
theorem d_8141_366 {σ : Nat → Nat} {n0 : Nat} {bf : ab_B} : decode (ab_code (zx σ n0 bf).1 8141) 366 = .ok (.iconst 5, 1) := zd zm_8141 (by decide +kernel)
theorem d_8141_367 {σ : Nat → Nat} {n0 : Nat} {bf : ab_B} : decode (ab_code (zx σ n0 bf).1 8141) 367 = .ok (.goto 4, 3) := zd zm_8141 (by decide +kernel)
theorem d_8141_370 {σ : Nat → Nat} {n0 : Nat} {bf : ab_B} : decode (ab_code (zx σ n0 bf).1 8141) 370 = .ok (.iconst 2, 1) := zd zm_8141 (by decide +kernel)
theorem d_8141_371 {σ : Nat → Nat} {n0 : Nat} {bf : ab_B} : decode (ab_code (zx σ n0 bf).1 8141) 371 = .ok (.invokevirtual 541, 3) := zd zm_8141 (by decide +kernel)
theorem d_8141_374 {σ : Nat → Nat} {n0 : Nat} {bf : ab_B} : decode (ab_code (zx σ n0 bf).1 8141) 374 = .ok (.goto 17, 3) := zd zm_8141 (by decide +kernel)
theorem d_8141_377 {σ : Nat → Nat} {n0 : Nat} {bf : ab_B} : decode (ab_code (zx σ n0 bf).1 8141) 377 = .ok (.aload_n 0, 1) := zd zm_8141 (by decide +kernel)
theorem d_8141_378 {σ : Nat → Nat} {n0 : Nat} {bf : ab_B} : decode (ab_code (zx σ n0 bf).1 8141) 378 = .ok (.bipush 12, 2) := zd zm_8141 (by decide +kernel)
theorem d_8141_380 {σ : Nat → Nat} {n0 : Nat} {bf : ab_B} : decode (ab_code (zx σ n0 bf).1 8141) 380 = .ok (.invokevirtual 535, 3) := zd zm_8141 (by decide +kernel)
theorem d_8141_383 {σ : Nat → Nat} {n0 : Nat} {bf : ab_B} : decode (ab_code (zx σ n0 bf).1 8141) 383 = .ok (.ifCond .eq 8, 3) := zd zm_8141 (by decide +kernel)
theorem d_8141_386 {σ : Nat → Nat} {n0 : Nat} {bf : ab_B} : decode (ab_code (zx σ n0 bf).1 8141) 386 = .ok (.aload_n 0, 1) := zd zm_8141 (by decide +kernel)
theorem d_8141_387 {σ : Nat → Nat} {n0 : Nat} {bf : ab_B} : decode (ab_code (zx σ n0 bf).1 8141) 387 = .ok (.iconst 5, 1) := zd zm_8141 (by decide +kernel)
theorem d_8141_388 {σ : Nat → Nat} {n0 : Nat} {bf : ab_B} : decode (ab_code (zx σ n0 bf).1 8141) 388 = .ok (.invokevirtual 541, 3) := zd zm_8141 (by decide +kernel)
theorem d_8141_391 {σ : Nat → Nat} {n0 : Nat} {bf : ab_B} : decode (ab_code (zx σ n0 bf).1 8141) 391 = .ok (.return_, 1) := zd zm_8141 (by decide +kernel)
def w_X9_given_103 (X : zs_X) (d : Nat) (p0 : Nat) (S : zs_T) (Q : zs_Q) : Prop :=
  (zs_K S p0 = some (.inl 8) ∧ zs_C X d 8027 [.ref p0, .int (5 : Int32)] S (zs_kV (fun S2 => (Q (.returned none) S2)) Q))
theorem u_X9_given_103 {σ : Nat → Nat} {n0 : Nat} {bf : ab_B} {d : Nat} {p0 : Nat} {S : zs_T} {Q : zs_Q} (hB : zt_B bf) (h : w_X9_given_103 (zx σ n0 bf) d p0 S Q) : zs_U (zx σ n0 bf) d 8141 103 [(0, .ref p0)] [] S Q := by
  unfold w_X9_given_103 at h
  refine zu_aload_n d_8141_103 rfl (zs_ra _) ?_
  refine zu_iconst d_8141_104 zi_5 ?_
  obtain ⟨k1, h⟩ := h
  refine zc_8_541 (x0 := (5 : Int32)) hB rfl k1 d_8141_105 (Nat.le_of_ble_eq_true rfl) h (fun S2 h => ?_)
  exact zu_vret d_8141_108 zr_8141 h
def w_X9_given_371 (X : zs_X) (d : Nat) (q0 : Option Nat) (q1 : Int32) (S : zs_T) (Q : zs_Q) : Prop :=
  (∃ b1, q0 = some b1 ∧ zs_K S b1 = some (.inl 8) ∧ zs_C X d 8027 [.ref b1, .int q1] S (zs_kV (fun S4 => (Q (.returned none) S4)) Q))
theorem u_X9_given_371 {σ : Nat → Nat} {n0 : Nat} {bf : ab_B} {d : Nat} {q0 : Option Nat} {q1 : Int32} {S : zs_T} {Q : zs_Q} (hB : zt_B bf) (h : w_X9_given_371 (zx σ n0 bf) d q0 q1 S Q) : zs_U (zx σ n0 bf) d 8141 371 [] [.int q1, va_rf q0] S Q := by
  unfold w_X9_given_371 at h
  obtain ⟨b1, e2, h⟩ := h
  refine zs_stk1 (zs_rfe e2) ?_
  obtain ⟨k3, h⟩ := h
  refine zc_8_541 (x0 := q1) hB rfl k3 d_8141_371 (Nat.le_of_ble_eq_true rfl) h (fun S4 h => ?_)
  refine zu_goto (t := 391) d_8141_374 rfl ?_
  exact zu_vret d_8141_391 zr_8141 h
def w_X9_given_345 (X : zs_X) (d : Nat) (p0 : Nat) (S : zs_T) (Q : zs_Q) : Prop :=
  (zs_K S p0 = some (.inl 8) ∧ zs_C X d 8030 [.ref p0, .int (5 : Int32), .int (0 : Int32), .int (0 : Int32), .int (0 : Int32)] S (zs_kV (fun S2 => (Q (.returned none) S2)) Q))
theorem u_X9_given_345 {σ : Nat → Nat} {n0 : Nat} {bf : ab_B} {d : Nat} {p0 : Nat} {S : zs_T} {Q : zs_Q} (hB : zt_B bf) (h : w_X9_given_345 (zx σ n0 bf) d p0 S Q) : zs_U (zx σ n0 bf) d 8141 345 [(0, .ref p0)] [] S Q := by
  unfold w_X9_given_345 at h
  refine zu_aload_n d_8141_345 rfl (zs_ra _) ?_
  refine zu_iconst d_8141_346 zi_5 ?_
  refine zu_iconst d_8141_347 zi_0 ?_
  refine zu_iconst d_8141_348 zi_0 ?_
  refine zu_iconst d_8141_349 zi_0 ?_
  obtain ⟨k1, h⟩ := h
  refine zc_8_649 (x0 := (5 : Int32)) (x1 := (0 : Int32)) (x2 := (0 : Int32)) (x3 := (0 : Int32)) hB rfl k1 d_8141_350 (Nat.le_of_ble_eq_true rfl) h (fun S2 h => ?_)
  refine zu_goto (t := 391) d_8141_353 rfl ?_
  exact zu_vret d_8141_391 zr_8141 h
def w_X9_given_309 (X : zs_X) (d : Nat) (p0 : Nat) (p1 : Int32) (p2 : Int32) (p3 : Int32) (S : zs_T) (Q : zs_Q) : Prop :=
  (zs_K S p0 = some (.inl 8) ∧ ∃ b2, (zs_R S 8058 p0) = some b2 ∧ zs_A S b2 1 p1 ∧ (((zs_i S b2 p1.toNatClampNeg) ≤ (p2 + (1 : Int32)) → (zs_C X d 8029 [.ref p0, .int (12 : Int32)] S (zs_kI (fun v7 S6 => (((v7 = 0 → (Q (.returned none) S6)) ∧ (¬ (v7 = 0) → (zs_K S6 p0 = some (.inl 8) ∧ zs_C X d 8027 [.ref p0, .int (5 : Int32)] S6 (zs_kV (fun S10 => (Q (.returned none) S10)) Q)))))) Q))) ∧ (¬ ((zs_i S b2 p1.toNatClampNeg) ≤ (p2 + (1 : Int32))) → (zs_C X d 8029 [.ref p0, .int (12 : Int32)] S (zs_kI (fun v13 S12 => (((v13 = 0 → (zs_K S12 p0 = some (.inl 8) ∧ zs_C X d 8029 [.ref p0, .int (9 : Int32)] S12 (zs_kI (fun v17 S16 => (((v17 = 0 → (w_X9_given_371 X d (some p0) (2 : Int32) S16 Q)) ∧ (¬ (v17 = 0) → (w_X9_given_371 X d (some p0) (5 : Int32) S16 Q))))) Q))) ∧ (¬ (v13 = 0) → (zs_K S12 p0 = some (.inl 8) ∧ zs_C X d 8014 [.ref p0] S12 (zs_kV (fun S20 => (zs_K S20 p0 = some (.inl 8) ∧ zs_C X d 8030 [.ref p0, .int (45 : Int32), .int p1, .int (p2 + (1 : Int32)), .int p3] S20 (zs_kV (fun S23 => w_X9_given_345 X d p0 S23 Q) Q))) Q)))))) Q)))))
theorem u_X9_given_309 {σ : Nat → Nat} {n0 : Nat} {bf : ab_B} {d : Nat} {p0 : Nat} {p1 : Int32} {p2 : Int32} {p3 : Int32} {S : zs_T} {Q : zs_Q} (hB : zt_B bf) (h : w_X9_given_309 (zx σ n0 bf) d p0 p1 p2 p3 S Q) : zs_U (zx σ n0 bf) d 8141 309 [(0, .ref p0), (1, .int p1), (2, .int p2), (3, .int p3)] [] S Q := by
  unfold w_X9_given_309 at h
  refine zu_iload_n d_8141_309 rfl ?_
  refine zu_iconst d_8141_310 zi_1 ?_
  refine zu_stk d_8141_311 rfl rfl ?_
  refine zu_aload_n d_8141_312 rfl (zs_ra _) ?_
  obtain ⟨k1, h⟩ := h
  refine zg_8_127 rfl d_8141_313 k1 ?_
  refine zu_iload_n d_8141_316 rfl ?_
  obtain ⟨b2, e3, h⟩ := h
  refine zs_stk1 (zs_rfe e3) ?_
  obtain ⟨k4, h⟩ := h
  refine zu_bald (k := 1) d_8141_317 rfl (Or.inl rfl) k4 ?_
  refine zu_cmpge (t := 377) d_8141_318 rfl (fun c5 => ?_) (fun c5 => ?_)
  · have h := h.1 c5
    refine zu_aload_n d_8141_377 rfl (zs_ra _) ?_
    refine zu_bipush d_8141_378 zj_12 ?_
    refine zc_8_535 (x0 := (12 : Int32)) hB rfl k1 d_8141_380 (Nat.le_of_ble_eq_true rfl) h (fun v7 S6 h => ?_)
    refine zu_ifeq (t := 391) d_8141_383 rfl (fun c8 => ?_) (fun c8 => ?_)
    · have h := h.1 c8
      exact zu_vret d_8141_391 zr_8141 h
    · have h := h.2 c8
      refine zu_aload_n d_8141_386 rfl (zs_ra _) ?_
      refine zu_iconst d_8141_387 zi_5 ?_
      obtain ⟨k9, h⟩ := h
      refine zc_8_541 (x0 := (5 : Int32)) hB rfl k9 d_8141_388 (Nat.le_of_ble_eq_true rfl) h (fun S10 h => ?_)
      exact zu_vret d_8141_391 zr_8141 h
  · have h := h.2 c5
    refine zu_aload_n d_8141_321 rfl (zs_ra _) ?_
    refine zu_bipush d_8141_322 zj_12 ?_
    refine zc_8_535 (x0 := (12 : Int32)) hB rfl k1 d_8141_324 (Nat.le_of_ble_eq_true rfl) h (fun v13 S12 h => ?_)
    refine zu_ifeq (t := 356) d_8141_327 rfl (fun c14 => ?_) (fun c14 => ?_)
    · have h := h.1 c14
      refine zu_aload_n d_8141_356 rfl (zs_ra _) ?_
      refine zu_aload_n d_8141_357 rfl (zs_ra _) ?_
      refine zu_bipush d_8141_358 zj_9 ?_
      obtain ⟨k15, h⟩ := h
      refine zc_8_535 (x0 := (9 : Int32)) hB rfl k15 d_8141_360 (Nat.le_of_ble_eq_true rfl) h (fun v17 S16 h => ?_)
      refine zu_ifeq (t := 370) d_8141_363 rfl (fun c18 => ?_) (fun c18 => ?_)
      · have h := h.1 c18
        refine zu_iconst d_8141_370 zi_2 ?_
        exact (u_X9_given_371 hB h).weak trivial
      · have h := h.2 c18
        refine zu_iconst d_8141_366 zi_5 ?_
        refine zu_goto (t := 371) d_8141_367 rfl ?_
        exact (u_X9_given_371 hB h).weak trivial
    · have h := h.2 c14
      refine zu_aload_n d_8141_330 rfl (zs_ra _) ?_
      obtain ⟨k19, h⟩ := h
      refine zc_8_538  hB rfl k19 d_8141_331 (Nat.le_of_ble_eq_true rfl) h (fun S20 h => ?_)
      refine zu_aload_n d_8141_334 rfl (zs_ra _) ?_
      refine zu_bipush d_8141_335 zj_45 ?_
      refine zu_iload_n d_8141_337 rfl ?_
      refine zu_iload_n d_8141_338 rfl ?_
      refine zu_iconst d_8141_339 zi_1 ?_
      refine zu_stk d_8141_340 rfl rfl ?_
      refine zu_iload_n d_8141_341 rfl ?_
      obtain ⟨k22, h⟩ := h
      refine zc_8_649 (x0 := (45 : Int32)) (x1 := p1) (x2 := (p2 + (1 : Int32))) (x3 := p3) hB rfl k22 d_8141_342 (Nat.le_of_ble_eq_true rfl) h (fun S23 h => ?_)
      exact (u_X9_given_345 hB h).weak ⟨rfl, trivial⟩
def w_X9_given_299 (X : zs_X) (d : Nat) (p0 : Nat) (p1 : Int32) (p2 : Int32) (p3 : Int32) (p7 : Int32) (S : zs_T) (Q : zs_Q) : Prop :=
  (((p7 = 0 → w_X9_given_309 X d p0 p1 p2 p3 S Q) ∧ (¬ (p7 = 0) → (zs_K S p0 = some (.inl 8) ∧ zs_C X d 8027 [.ref p0, .int (5 : Int32)] S (zs_kV (fun S3 => w_X9_given_309 X d p0 p1 p2 p3 S3 Q) Q)))))
theorem u_X9_given_299 {σ : Nat → Nat} {n0 : Nat} {bf : ab_B} {d : Nat} {p0 : Nat} {p1 : Int32} {p2 : Int32} {p3 : Int32} {p7 : Int32} {S : zs_T} {Q : zs_Q} (hB : zt_B bf) (h : w_X9_given_299 (zx σ n0 bf) d p0 p1 p2 p3 p7 S Q) : zs_U (zx σ n0 bf) d 8141 299 [(0, .ref p0), (1, .int p1), (2, .int p2), (3, .int p3), (7, .int p7)] [] S Q := by
  unfold w_X9_given_299 at h
  refine zu_iload d_8141_299 rfl ?_
  refine zu_ifeq (t := 309) d_8141_301 rfl (fun c1 => ?_) (fun c1 => ?_)
  · have h := h.1 c1
    exact (u_X9_given_309 hB h).weak ⟨rfl, rfl, rfl, rfl, trivial⟩
  · have h := h.2 c1
    refine zu_aload_n d_8141_304 rfl (zs_ra _) ?_
    refine zu_iconst d_8141_305 zi_5 ?_
    obtain ⟨k2, h⟩ := h
    refine zc_8_541 (x0 := (5 : Int32)) hB rfl k2 d_8141_306 (Nat.le_of_ble_eq_true rfl) h (fun S3 h => ?_)
    exact (u_X9_given_309 hB h).weak ⟨rfl, rfl, rfl, rfl, trivial⟩
def w_X9_given_267 (X : zs_X) (d : Nat) (p0 : Nat) (p1 : Int32) (p2 : Int32) (p3 : Int32) (p6 : Int32) (p7 : Int32) (p8 : Int64) (q0 : Option Nat) (q1 : Int32) (q2 : Int32) (S : zs_T) (Q : zs_Q) : Prop :=
  (∃ b1, q0 = some b1 ∧ zs_A S b1 2 q1 ∧ ab_n0 X.1 ≤ b1 ∧ ∀ S5, S5 = zs_si S b1 q1.toNatClampNeg (vp_nar .boolean q2) → zs_K S p0 = some (.inl 8) ∧ ∃ b9, (zs_R S5 8054 p0) = some b9 ∧ zs_A S b9 0 (p3 + p2) ∧ ab_n0 X.1 ≤ b9 ∧ ∀ S13, S13 = zs_si S5 b9 (p3 + p2).toNatClampNeg ((p8).toInt32) → ((p6 = 0 → w_X9_given_299 X d p0 p1 p2 p3 p7 S13 Q) ∧ (¬ (p6 = 0) → (zs_C X d 8012 [.ref p0, .int (1 : Int32), .int ((p8).toInt32), .int (0 : Int32), .int (zs_I S13 8007 p0)] S13 (zs_kI (fun v18 S17 => (w_X9_given_299 X d p0 p1 p2 p3 p7 S17 Q)) Q)))))
theorem u_X9_given_267 {σ : Nat → Nat} {n0 : Nat} {bf : ab_B} {d : Nat} {p0 : Nat} {p1 : Int32} {p2 : Int32} {p3 : Int32} {p6 : Int32} {p7 : Int32} {p8 : Int64} {q0 : Option Nat} {q1 : Int32} {q2 : Int32} {S : zs_T} {Q : zs_Q} (hB : zt_B bf) (h : w_X9_given_267 (zx σ n0 bf) d p0 p1 p2 p3 p6 p7 p8 q0 q1 q2 S Q) : zs_U (zx σ n0 bf) d 8141 267 [(0, .ref p0), (1, .int p1), (2, .int p2), (3, .int p3), (6, .int p6), (7, .int p7), (8, .long p8)] [.int q2, .int q1, va_rf q0] S Q := by
  unfold w_X9_given_267 at h
  obtain ⟨b1, e2, h⟩ := h
  refine zs_stk2 (zs_rfe e2) ?_
  obtain ⟨k3, h⟩ := h
  obtain ⟨k4, h⟩ := h
  refine zu_bast_bool (k := 2) d_8141_267 rfl rfl k4 k3 ?_
  generalize e6 : zs_si S b1 q1.toNatClampNeg (vp_nar .boolean q2) = S5
  have h := h S5 e6.symm
  have K7 : ∀ b, zs_K S5 b = zs_K S b := zs_Kt e6 (zs_Ksi _ _ _ _) (fun _ => rfl)
  refine zu_aload_n d_8141_268 rfl (zs_ra _) ?_
  obtain ⟨k8, h⟩ := h
  refine zg_8_118 rfl d_8141_269 ((K7 _).trans k8) ?_
  refine zu_iload_n d_8141_272 rfl ?_
  refine zu_iload_n d_8141_273 rfl ?_
  refine zu_stk d_8141_274 rfl rfl ?_
  refine zu_lload d_8141_275 rfl ?_
  refine zu_stk d_8141_277 rfl rfl ?_
  obtain ⟨b9, e10, h⟩ := h
  refine zs_stk2 (zs_rfe e10) ?_
  obtain ⟨k11, h⟩ := h
  obtain ⟨k12, h⟩ := h
  refine zu_iast (k := 0) d_8141_278 rfl rfl k12 (zs_Ak K7 k11) ?_
  generalize e14 : zs_si S5 b9 (p3 + p2).toNatClampNeg ((p8).toInt32) = S13
  have h := h S13 e14.symm
  have K15 : ∀ b, zs_K S13 b = zs_K S b := zs_Kt e14 (zs_Ksi _ _ _ _) K7
  refine zu_iload d_8141_279 rfl ?_
  refine zu_ifeq (t := 299) d_8141_281 rfl (fun c16 => ?_) (fun c16 => ?_)
  · have h := h.1 c16
    exact (u_X9_given_299 hB h).weak ⟨rfl, rfl, rfl, rfl, rfl, trivial⟩
  · have h := h.2 c16
    refine zu_aload_n d_8141_284 rfl (zs_ra _) ?_
    refine zu_iconst d_8141_285 zi_1 ?_
    refine zu_lload d_8141_286 rfl ?_
    refine zu_stk d_8141_288 rfl rfl ?_
    refine zu_iconst d_8141_289 zi_0 ?_
    refine zu_aload_n d_8141_290 rfl (zs_ra _) ?_
    refine zg_8_450 rfl d_8141_291 ((K15 _).trans k8) ?_
    refine zc_8_656 (x0 := (1 : Int32)) (x1 := ((p8).toInt32)) (x2 := (0 : Int32)) (x3 := (zs_I S13 8007 p0)) hB rfl ((K15 _).trans k8) d_8141_294 (Nat.le_of_ble_eq_true rfl) h (fun v18 S17 h => ?_)
    refine zu_istore d_8141_297 (zs_lt zq_8141 rfl) ?_
    exact (u_X9_given_299 hB h).weak ⟨rfl, rfl, rfl, rfl, rfl, trivial⟩
def w_X9_given_262 (X : zs_X) (d : Nat) (p0 : Nat) (p1 : Int32) (p2 : Int32) (p3 : Int32) (p6 : Int32) (p7 : Int32) (p8 : Int64) (q0 : Option Nat) (q1 : Int32) (S : zs_T) (Q : zs_Q) : Prop :=
  (w_X9_given_267 X d p0 p1 p2 p3 p6 p7 p8 q0 q1 (1 : Int32) S Q)
theorem u_X9_given_262 {σ : Nat → Nat} {n0 : Nat} {bf : ab_B} {d : Nat} {p0 : Nat} {p1 : Int32} {p2 : Int32} {p3 : Int32} {p6 : Int32} {p7 : Int32} {p8 : Int64} {q0 : Option Nat} {q1 : Int32} {S : zs_T} {Q : zs_Q} (hB : zt_B bf) (h : w_X9_given_262 (zx σ n0 bf) d p0 p1 p2 p3 p6 p7 p8 q0 q1 S Q) : zs_U (zx σ n0 bf) d 8141 262 [(0, .ref p0), (1, .int p1), (2, .int p2), (3, .int p3), (6, .int p6), (7, .int p7), (8, .long p8)] [.int q1, va_rf q0] S Q := by
  unfold w_X9_given_262 at h
  refine zu_iconst d_8141_262 zi_1 ?_
  refine zu_goto (t := 267) d_8141_263 rfl ?_
  exact (u_X9_given_267 hB h).weak ⟨rfl, rfl, rfl, rfl, rfl, rfl, rfl, trivial⟩
def w_X9_given_216 (X : zs_X) (d : Nat) (p0 : Nat) (p1 : Int32) (p2 : Int32) (p3 : Int32) (p5 : Int32) (p6 : Int32) (p7 : Int32) (S : zs_T) (Q : zs_Q) : Prop :=
  (zs_K S p0 = some (.inl 8) ∧ zs_C X d 8102 [.ref p0] S (zs_kJ (fun v3 S2 => (zs_K S2 p0 = some (.inl 8) ∧ ∃ b5, (zs_R S2 8142 p0) = some b5 ∧ zs_A S2 b5 2 p3 ∧ ((¬ (zs_i S2 b5 p3.toNatClampNeg) = 0 → w_X9_given_262 X d p0 p1 p2 p3 p6 p7 v3 (zs_R S2 8142 p0) p3 S2 Q) ∧ (¬ (¬ (zs_i S2 b5 p3.toNatClampNeg) = 0) → (zs_C X d 8111 [.ref p0, .int p5] S2 (zs_kI (fun v10 S9 => (((v3 < ((v10).toInt64) → w_X9_given_262 X d p0 p1 p2 p3 p6 p7 v3 (zs_R S2 8142 p0) p3 S9 Q) ∧ (¬ (v3 < ((v10).toInt64)) → (zs_K S9 p0 = some (.inl 8) ∧ zs_C X d 8088 [.ref p0, .int p5] S9 (zs_kI (fun v14 S13 => (((v3 ≤ ((v14).toInt64) → (w_X9_given_267 X d p0 p1 p2 p3 p6 p7 v3 (zs_R S2 8142 p0) p3 (0 : Int32) S13 Q)) ∧ (¬ (v3 ≤ ((v14).toInt64)) → w_X9_given_262 X d p0 p1 p2 p3 p6 p7 v3 (zs_R S2 8142 p0) p3 S13 Q)))) Q)))))) Q)))))) Q))
theorem u_X9_given_216 {σ : Nat → Nat} {n0 : Nat} {bf : ab_B} {d : Nat} {p0 : Nat} {p1 : Int32} {p2 : Int32} {p3 : Int32} {p5 : Int32} {p6 : Int32} {p7 : Int32} {S : zs_T} {Q : zs_Q} (hB : zt_B bf) (h : w_X9_given_216 (zx σ n0 bf) d p0 p1 p2 p3 p5 p6 p7 S Q) : zs_U (zx σ n0 bf) d 8141 216 [(0, .ref p0), (1, .int p1), (2, .int p2), (3, .int p3), (5, .int p5), (6, .int p6), (7, .int p7)] [] S Q := by
  unfold w_X9_given_216 at h
  refine zu_aload_n d_8141_216 rfl (zs_ra _) ?_
  obtain ⟨k1, h⟩ := h
  refine zc_8_880  hB rfl k1 d_8141_217 (Nat.le_of_ble_eq_true rfl) h (fun v3 S2 h => ?_)
  refine zu_lstore d_8141_220 (zs_lt zq_8141 rfl) ?_
  refine zu_aload_n d_8141_222 rfl (zs_ra _) ?_
  obtain ⟨k4, h⟩ := h
  refine zg_8_302 rfl d_8141_223 k4 ?_
  refine zu_iload_n d_8141_226 rfl ?_
  refine zu_aload_n d_8141_227 rfl (zs_ra _) ?_
  refine zg_8_302 rfl d_8141_228 k4 ?_
  refine zu_iload_n d_8141_231 rfl ?_
  obtain ⟨b5, e6, h⟩ := h
  refine zs_stk1 (zs_rfe e6) ?_
  obtain ⟨k7, h⟩ := h
  refine zu_bald (k := 2) d_8141_232 rfl (Or.inr rfl) k7 ?_
  refine zu_ifne (t := 262) d_8141_233 rfl (fun c8 => ?_) (fun c8 => ?_)
  · have h := h.1 c8
    exact (u_X9_given_262 hB h).weak ⟨rfl, rfl, rfl, rfl, rfl, rfl, rfl, trivial⟩
  · have h := h.2 c8
    refine zu_lload d_8141_236 rfl ?_
    refine zu_aload_n d_8141_238 rfl (zs_ra _) ?_
    refine zu_iload d_8141_239 rfl ?_
    refine zc_8_789 (x0 := p5) hB rfl k4 d_8141_241 (by simp only [List.map_cons, List.map_nil, List.sum_cons, List.sum_nil, zs_cat, zs_cI, zs_cJ, zs_cA]; exact Nat.le_of_ble_eq_true rfl) h (fun v10 S9 h => ?_)
    refine zu_stk d_8141_244 rfl rfl ?_
    refine zu_llt (t := 262) d_8141_245 d_8141_246 rfl (fun c11 => ?_) (fun c11 => ?_)
    · have h := h.1 c11
      exact (u_X9_given_262 hB h).weak ⟨rfl, rfl, rfl, rfl, rfl, rfl, rfl, trivial⟩
    · have h := h.2 c11
      refine zu_lload d_8141_249 rfl ?_
      refine zu_aload_n d_8141_251 rfl (zs_ra _) ?_
      refine zu_iload d_8141_252 rfl ?_
      obtain ⟨k12, h⟩ := h
      refine zc_8_774 (x0 := p5) hB rfl k12 d_8141_254 (by simp only [List.map_cons, List.map_nil, List.sum_cons, List.sum_nil, zs_cat, zs_cI, zs_cJ, zs_cA]; exact Nat.le_of_ble_eq_true rfl) h (fun v14 S13 h => ?_)
      refine zu_stk d_8141_257 rfl rfl ?_
      refine zu_lle (t := 266) d_8141_258 d_8141_259 rfl (fun c15 => ?_) (fun c15 => ?_)
      · have h := h.1 c15
        refine zu_iconst d_8141_266 zi_0 ?_
        exact (u_X9_given_267 hB h).weak ⟨rfl, rfl, rfl, rfl, rfl, rfl, rfl, trivial⟩
      · have h := h.2 c15
        exact (u_X9_given_262 hB h).weak ⟨rfl, rfl, rfl, rfl, rfl, rfl, rfl, trivial⟩
def w_X9_given_213 (X : zs_X) (d : Nat) (p0 : Nat) (p1 : Int32) (p2 : Int32) (p3 : Int32) (p7 : Int32) (S : zs_T) (Q : zs_Q) : Prop :=
  (w_X9_given_299 X d p0 p1 p2 p3 p7 S Q)
theorem u_X9_given_213 {σ : Nat → Nat} {n0 : Nat} {bf : ab_B} {d : Nat} {p0 : Nat} {p1 : Int32} {p2 : Int32} {p3 : Int32} {p7 : Int32} {S : zs_T} {Q : zs_Q} (hB : zt_B bf) (h : w_X9_given_213 (zx σ n0 bf) d p0 p1 p2 p3 p7 S Q) : zs_U (zx σ n0 bf) d 8141 213 [(0, .ref p0), (1, .int p1), (2, .int p2), (3, .int p3), (7, .int p7)] [] S Q := by
  unfold w_X9_given_213 at h
  refine zu_goto (t := 299) d_8141_213 rfl ?_
  exact (u_X9_given_299 hB h).weak ⟨rfl, rfl, rfl, rfl, rfl, trivial⟩
def w_X9_given_182 (X : zs_X) (d : Nat) (p0 : Nat) (p1 : Int32) (p2 : Int32) (p3 : Int32) (p7 : Int32) (S : zs_T) (Q : zs_Q) : Prop :=
  (zs_K S p0 = some (.inl 8) ∧ ∃ b2, (zs_R S 8055 p0) = some b2 ∧ zs_A S b2 2 (p3 + p2) ∧ ab_n0 X.1 ≤ b2 ∧ ∀ S6, S6 = zs_si S b2 (p3 + p2).toNatClampNeg (vp_nar .boolean (1 : Int32)) → zs_C X d 8103 [.ref p0] S6 (zs_kI (fun v10 S9 => (∃ b11, (zs_R S6 8054 p0) = some b11 ∧ zs_A S9 b11 0 (p3 + p2) ∧ ab_n0 X.1 ≤ b11 ∧ ∀ S15, S15 = zs_si S9 b11 (p3 + p2).toNatClampNeg v10 → zs_K S9 p0 = some (.inl 8) ∧ ab_n0 X.1 ≤ p0 ∧ ∀ S20, S20 = zs_sI S15 8097 p0 ((zs_I S15 8097 p0) - (1 : Int32)) → w_X9_given_213 X d p0 p1 p2 p3 p7 S20 Q)) Q))
theorem u_X9_given_182 {σ : Nat → Nat} {n0 : Nat} {bf : ab_B} {d : Nat} {p0 : Nat} {p1 : Int32} {p2 : Int32} {p3 : Int32} {p7 : Int32} {S : zs_T} {Q : zs_Q} (hB : zt_B bf) (h : w_X9_given_182 (zx σ n0 bf) d p0 p1 p2 p3 p7 S Q) : zs_U (zx σ n0 bf) d 8141 182 [(0, .ref p0), (1, .int p1), (2, .int p2), (3, .int p3), (7, .int p7)] [] S Q := by
  unfold w_X9_given_182 at h
  refine zu_aload_n d_8141_182 rfl (zs_ra _) ?_
  obtain ⟨k1, h⟩ := h
  refine zg_8_121 rfl d_8141_183 k1 ?_
  refine zu_iload_n d_8141_186 rfl ?_
  refine zu_iload_n d_8141_187 rfl ?_
  refine zu_stk d_8141_188 rfl rfl ?_
  refine zu_iconst d_8141_189 zi_1 ?_
  obtain ⟨b2, e3, h⟩ := h
  refine zs_stk2 (zs_rfe e3) ?_
  obtain ⟨k4, h⟩ := h
  obtain ⟨k5, h⟩ := h
  refine zu_bast_bool (k := 2) d_8141_190 rfl rfl k5 k4 ?_
  generalize e7 : zs_si S b2 (p3 + p2).toNatClampNeg (vp_nar .boolean (1 : Int32)) = S6
  have h := h S6 e7.symm
  have K8 : ∀ b, zs_K S6 b = zs_K S b := zs_Kt e7 (zs_Ksi _ _ _ _) (fun _ => rfl)
  refine zu_aload_n d_8141_191 rfl (zs_ra _) ?_
  refine zg_8_118 rfl d_8141_192 ((K8 _).trans k1) ?_
  refine zu_iload_n d_8141_195 rfl ?_
  refine zu_iload_n d_8141_196 rfl ?_
  refine zu_stk d_8141_197 rfl rfl ?_
  refine zu_aload_n d_8141_198 rfl (zs_ra _) ?_
  refine zc_8_777  hB rfl ((K8 _).trans k1) d_8141_199 (by simp only [List.map_cons, List.map_nil, List.sum_cons, List.sum_nil, zs_cat, zs_cI, zs_cJ, zs_cA]; exact Nat.le_of_ble_eq_true rfl) h (fun v10 S9 h => ?_)
  obtain ⟨b11, e12, h⟩ := h
  refine zs_stk2 (zs_rfe e12) ?_
  obtain ⟨k13, h⟩ := h
  obtain ⟨k14, h⟩ := h
  refine zu_iast (k := 0) d_8141_202 rfl rfl k14 k13 ?_
  generalize e16 : zs_si S9 b11 (p3 + p2).toNatClampNeg v10 = S15
  have h := h S15 e16.symm
  have K17 : ∀ b, zs_K S15 b = zs_K S9 b := zs_Kt e16 (zs_Ksi _ _ _ _) (fun _ => rfl)
  refine zu_aload_n d_8141_203 rfl (zs_ra _) ?_
  refine zu_dup d_8141_204 rfl ?_
  obtain ⟨k18, h⟩ := h
  refine zg_8_653 rfl d_8141_205 ((K17 _).trans k18) ?_
  refine zu_iconst d_8141_208 zi_1 ?_
  refine zu_stk d_8141_209 rfl rfl ?_
  obtain ⟨k19, h⟩ := h
  refine zp_8_653 (v := ((zs_I S15 8097 p0) - (1 : Int32))) rfl d_8141_210 ((K17 _).trans k18) k19 ?_
  generalize e21 : zs_sI S15 8097 p0 ((zs_I S15 8097 p0) - (1 : Int32)) = S20
  have h := h S20 e21.symm
  have K22 : ∀ b, zs_K S20 b = zs_K S9 b := zs_Kt e21 (zs_KsI _ _ _ _) K17
  exact (u_X9_given_213 hB h).weak ⟨rfl, rfl, rfl, rfl, rfl, trivial⟩
def w_X9_given_162 (X : zs_X) (d : Nat) (p0 : Nat) (p1 : Int32) (p2 : Int32) (p3 : Int32) (p7 : Int32) (S : zs_T) (Q : zs_Q) : Prop :=
  (zs_K S p0 = some (.inl 8) ∧ ab_n0 X.1 ≤ p0 ∧ ∀ S3, S3 = zs_sI S 8097 p0 ((zs_I S 8097 p0) - (1 : Int32)) → w_X9_given_299 X d p0 p1 p2 p3 p7 S3 Q)
theorem u_X9_given_162 {σ : Nat → Nat} {n0 : Nat} {bf : ab_B} {d : Nat} {p0 : Nat} {p1 : Int32} {p2 : Int32} {p3 : Int32} {p7 : Int32} {S : zs_T} {Q : zs_Q} (hB : zt_B bf) (h : w_X9_given_162 (zx σ n0 bf) d p0 p1 p2 p3 p7 S Q) : zs_U (zx σ n0 bf) d 8141 162 [(0, .ref p0), (1, .int p1), (2, .int p2), (3, .int p3), (7, .int p7)] [] S Q := by
  unfold w_X9_given_162 at h
  refine zu_aload_n d_8141_162 rfl (zs_ra _) ?_
  refine zu_dup d_8141_163 rfl ?_
  obtain ⟨k1, h⟩ := h
  refine zg_8_653 rfl d_8141_164 k1 ?_
  refine zu_iconst d_8141_167 zi_1 ?_
  refine zu_stk d_8141_168 rfl rfl ?_
  obtain ⟨k2, h⟩ := h
  refine zp_8_653 (v := ((zs_I S 8097 p0) - (1 : Int32))) rfl d_8141_169 k1 k2 ?_
  generalize e4 : zs_sI S 8097 p0 ((zs_I S 8097 p0) - (1 : Int32)) = S3
  have h := h S3 e4.symm
  have K5 : ∀ b, zs_K S3 b = zs_K S b := zs_Kt e4 (zs_KsI _ _ _ _) (fun _ => rfl)
  refine zu_goto (t := 299) d_8141_172 rfl ?_
  exact (u_X9_given_299 hB h).weak ⟨rfl, rfl, rfl, rfl, rfl, trivial⟩
def w_X9_given_134 (X : zs_X) (d : Nat) (p0 : Nat) (p1 : Int32) (p2 : Int32) (p3 : Int32) (p4 : Int32) (p5 : Int32) (p6 : Int32) (q0 : Int32) (S : zs_T) (Q : zs_Q) : Prop :=
  (zs_K S p0 = some (.inl 8) ∧ ∃ b2, (zs_R S 8055 p0) = some b2 ∧ zs_A S b2 2 (p3 + p2) ∧ ab_n0 X.1 ≤ b2 ∧ ∀ S6, S6 = zs_si S b2 (p3 + p2).toNatClampNeg (vp_nar .boolean (0 : Int32)) → ∃ b9, (zs_R S6 8093 p0) = some b9 ∧ zs_A S b9 2 p4 ∧ ((¬ (zs_i S6 b9 p4.toNatClampNeg) = 0 → (zs_C X d 8101 [.ref p0] S6 (zs_kI (fun v14 S13 => (((v14 = 0 → w_X9_given_216 X d p0 p1 p2 p3 p5 p6 q0 S13 Q) ∧ (¬ (v14 = 0) → w_X9_given_182 X d p0 p1 p2 p3 q0 S13 Q)))) Q))) ∧ (¬ (¬ (zs_i S6 b9 p4.toNatClampNeg) = 0) → (∃ b16, (zs_R S6 8141 p0) = some b16 ∧ zs_A S b16 2 p3 ∧ ab_n0 X.1 ≤ b16 ∧ ∀ S20, S20 = zs_si S6 b16 p3.toNatClampNeg (vp_nar .boolean (1 : Int32)) → w_X9_given_162 X d p0 p1 p2 p3 q0 S20 Q))))
theorem u_X9_given_134 {σ : Nat → Nat} {n0 : Nat} {bf : ab_B} {d : Nat} {p0 : Nat} {p1 : Int32} {p2 : Int32} {p3 : Int32} {p4 : Int32} {p5 : Int32} {p6 : Int32} {q0 : Int32} {S : zs_T} {Q : zs_Q} (hB : zt_B bf) (h : w_X9_given_134 (zx σ n0 bf) d p0 p1 p2 p3 p4 p5 p6 q0 S Q) : zs_U (zx σ n0 bf) d 8141 134 [(0, .ref p0), (1, .int p1), (2, .int p2), (3, .int p3), (4, .int p4), (5, .int p5), (6, .int p6)] [.int q0] S Q := by
  unfold w_X9_given_134 at h
  refine zu_istore d_8141_134 (zs_lt zq_8141 rfl) ?_
  refine zu_aload_n d_8141_136 rfl (zs_ra _) ?_
  obtain ⟨k1, h⟩ := h
  refine zg_8_121 rfl d_8141_137 k1 ?_
  refine zu_iload_n d_8141_140 rfl ?_
  refine zu_iload_n d_8141_141 rfl ?_
  refine zu_stk d_8141_142 rfl rfl ?_
  refine zu_iconst d_8141_143 zi_0 ?_
  obtain ⟨b2, e3, h⟩ := h
  refine zs_stk2 (zs_rfe e3) ?_
  obtain ⟨k4, h⟩ := h
  obtain ⟨k5, h⟩ := h
  refine zu_bast_bool (k := 2) d_8141_144 rfl rfl k5 k4 ?_
  generalize e7 : zs_si S b2 (p3 + p2).toNatClampNeg (vp_nar .boolean (0 : Int32)) = S6
  have h := h S6 e7.symm
  have K8 : ∀ b, zs_K S6 b = zs_K S b := zs_Kt e7 (zs_Ksi _ _ _ _) (fun _ => rfl)
  refine zu_aload_n d_8141_145 rfl (zs_ra _) ?_
  refine zg_8_197 rfl d_8141_146 ((K8 _).trans k1) ?_
  refine zu_iload d_8141_149 rfl ?_
  obtain ⟨b9, e10, h⟩ := h
  refine zs_stk1 (zs_rfe e10) ?_
  obtain ⟨k11, h⟩ := h
  refine zu_bald (k := 2) d_8141_151 rfl (Or.inr rfl) (zs_Ak K8 k11) ?_
  refine zu_ifne (t := 175) d_8141_152 rfl (fun c12 => ?_) (fun c12 => ?_)
  · have h := h.1 c12
    refine zu_aload_n d_8141_175 rfl (zs_ra _) ?_
    refine zc_8_877  hB rfl ((K8 _).trans k1) d_8141_176 (Nat.le_of_ble_eq_true rfl) h (fun v14 S13 h => ?_)
    refine zu_ifeq (t := 216) d_8141_179 rfl (fun c15 => ?_) (fun c15 => ?_)
    · have h := h.1 c15
      exact (u_X9_given_216 hB h).weak ⟨rfl, rfl, rfl, rfl, rfl, rfl, rfl, trivial⟩
    · have h := h.2 c15
      exact (u_X9_given_182 hB h).weak ⟨rfl, rfl, rfl, rfl, rfl, trivial⟩
  · have h := h.2 c12
    refine zu_aload_n d_8141_155 rfl (zs_ra _) ?_
    refine zg_8_299 rfl d_8141_156 ((K8 _).trans k1) ?_
    refine zu_iload_n d_8141_159 rfl ?_
    refine zu_iconst d_8141_160 zi_1 ?_
    obtain ⟨b16, e17, h⟩ := h
    refine zs_stk2 (zs_rfe e17) ?_
    obtain ⟨k18, h⟩ := h
    obtain ⟨k19, h⟩ := h
    refine zu_bast_bool (k := 2) d_8141_161 rfl rfl k19 (zs_Ak K8 k18) ?_
    generalize e21 : zs_si S6 b16 p3.toNatClampNeg (vp_nar .boolean (1 : Int32)) = S20
    have h := h S20 e21.symm
    have K22 : ∀ b, zs_K S20 b = zs_K S b := zs_Kt e21 (zs_Ksi _ _ _ _) K8
    exact (u_X9_given_162 hB h).weak ⟨rfl, rfl, rfl, rfl, rfl, trivial⟩
def w_X9_given_109 (X : zs_X) (d : Nat) (p0 : Nat) (p1 : Int32) (p2 : Int32) (p3 : Int32) (p4 : Int32) (p5 : Int32) (p6 : Int32) (S : zs_T) (Q : zs_Q) : Prop :=
  (zs_K S p0 = some (.inl 8) ∧ ∃ b2, (zs_R S 8091 p0) = some b2 ∧ zs_A S b2 0 p4 ∧ zs_C X d 8042 [.ref p0, .int (zs_i S b2 p4.toNatClampNeg)] S (zs_kI (fun v6 S5 => (zs_K S5 p0 = some (.inl 8) ∧ zs_C X d 8042 [.ref p0, .int p5] S5 (zs_kI (fun v9 S8 => (((v6 = v9 → (w_X9_given_134 X d p0 p1 p2 p3 p4 p5 p6 (0 : Int32) S8 Q)) ∧ (¬ (v6 = v9) → (w_X9_given_134 X d p0 p1 p2 p3 p4 p5 p6 (1 : Int32) S8 Q))))) Q))) Q))
theorem u_X9_given_109 {σ : Nat → Nat} {n0 : Nat} {bf : ab_B} {d : Nat} {p0 : Nat} {p1 : Int32} {p2 : Int32} {p3 : Int32} {p4 : Int32} {p5 : Int32} {p6 : Int32} {S : zs_T} {Q : zs_Q} (hB : zt_B bf) (h : w_X9_given_109 (zx σ n0 bf) d p0 p1 p2 p3 p4 p5 p6 S Q) : zs_U (zx σ n0 bf) d 8141 109 [(0, .ref p0), (1, .int p1), (2, .int p2), (3, .int p3), (4, .int p4), (5, .int p5), (6, .int p6)] [] S Q := by
  unfold w_X9_given_109 at h
  refine zu_aload_n d_8141_109 rfl (zs_ra _) ?_
  refine zu_aload_n d_8141_110 rfl (zs_ra _) ?_
  obtain ⟨k1, h⟩ := h
  refine zg_8_191 rfl d_8141_111 k1 ?_
  refine zu_iload d_8141_114 rfl ?_
  obtain ⟨b2, e3, h⟩ := h
  refine zs_stk1 (zs_rfe e3) ?_
  obtain ⟨k4, h⟩ := h
  refine zu_iald (k := 0) d_8141_116 rfl rfl k4 ?_
  refine zc_8_561 (x0 := (zs_i S b2 p4.toNatClampNeg)) hB rfl k1 d_8141_117 (Nat.le_of_ble_eq_true rfl) h (fun v6 S5 h => ?_)
  refine zu_aload_n d_8141_120 rfl (zs_ra _) ?_
  refine zu_iload d_8141_121 rfl ?_
  obtain ⟨k7, h⟩ := h
  refine zc_8_561 (x0 := p5) hB rfl k7 d_8141_123 (Nat.le_of_ble_eq_true rfl) h (fun v9 S8 h => ?_)
  refine zu_cmpeq (t := 133) d_8141_126 rfl (fun c10 => ?_) (fun c10 => ?_)
  · have h := h.1 c10
    refine zu_iconst d_8141_133 zi_0 ?_
    exact (u_X9_given_134 hB h).weak ⟨rfl, rfl, rfl, rfl, rfl, rfl, rfl, trivial⟩
  · have h := h.2 c10
    refine zu_iconst d_8141_129 zi_1 ?_
    refine zu_goto (t := 134) d_8141_130 rfl ?_
    exact (u_X9_given_134 hB h).weak ⟨rfl, rfl, rfl, rfl, rfl, rfl, rfl, trivial⟩
def w_X9_given_74 (X : zs_X) (d : Nat) (p0 : Nat) (p1 : Int32) (p2 : Int32) (p3 : Int32) (p4 : Int32) (p5 : Int32) (p6 : Int32) (S : zs_T) (Q : zs_Q) : Prop :=
  (zs_K S p0 = some (.inl 8) ∧ ∃ b2, (zs_R S 8091 p0) = some b2 ∧ zs_A S b2 0 p4 ∧ zs_C X d 8036 [.ref p0, .int (zs_i S b2 p4.toNatClampNeg)] S (zs_kI (fun v6 S5 => (((v6 = 0 → w_X9_given_103 X d p0 S5 Q) ∧ (¬ (v6 = 0) → (zs_K S5 p0 = some (.inl 8) ∧ ∃ b9, (zs_R S5 8093 p0) = some b9 ∧ zs_A S5 b9 2 p4 ∧ ((¬ (zs_i S5 b9 p4.toNatClampNeg) = 0 → w_X9_given_109 X d p0 p1 p2 p3 p4 p5 p6 S5 Q) ∧ (¬ (¬ (zs_i S5 b9 p4.toNatClampNeg) = 0) → (((¬ p6 = 0 → w_X9_given_109 X d p0 p1 p2 p3 p4 p5 p6 S5 Q) ∧ (¬ (¬ p6 = 0) → w_X9_given_103 X d p0 S5 Q)))))))))) Q))
theorem u_X9_given_74 {σ : Nat → Nat} {n0 : Nat} {bf : ab_B} {d : Nat} {p0 : Nat} {p1 : Int32} {p2 : Int32} {p3 : Int32} {p4 : Int32} {p5 : Int32} {p6 : Int32} {S : zs_T} {Q : zs_Q} (hB : zt_B bf) (h : w_X9_given_74 (zx σ n0 bf) d p0 p1 p2 p3 p4 p5 p6 S Q) : zs_U (zx σ n0 bf) d 8141 74 [(0, .ref p0), (1, .int p1), (2, .int p2), (3, .int p3), (4, .int p4), (5, .int p5), (6, .int p6)] [] S Q := by
  unfold w_X9_given_74 at h
  refine zu_aload_n d_8141_74 rfl (zs_ra _) ?_
  refine zu_aload_n d_8141_75 rfl (zs_ra _) ?_
  obtain ⟨k1, h⟩ := h
  refine zg_8_191 rfl d_8141_76 k1 ?_
  refine zu_iload d_8141_79 rfl ?_
  obtain ⟨b2, e3, h⟩ := h
  refine zs_stk1 (zs_rfe e3) ?_
  obtain ⟨k4, h⟩ := h
  refine zu_iald (k := 0) d_8141_81 rfl rfl k4 ?_
  refine zc_8_564 (x0 := (zs_i S b2 p4.toNatClampNeg)) hB rfl k1 d_8141_82 (Nat.le_of_ble_eq_true rfl) h (fun v6 S5 h => ?_)
  refine zu_ifeq (t := 103) d_8141_85 rfl (fun c7 => ?_) (fun c7 => ?_)
  · have h := h.1 c7
    exact (u_X9_given_103 hB h).weak ⟨rfl, trivial⟩
  · have h := h.2 c7
    refine zu_aload_n d_8141_88 rfl (zs_ra _) ?_
    obtain ⟨k8, h⟩ := h
    refine zg_8_197 rfl d_8141_89 k8 ?_
    refine zu_iload d_8141_92 rfl ?_
    obtain ⟨b9, e10, h⟩ := h
    refine zs_stk1 (zs_rfe e10) ?_
    obtain ⟨k11, h⟩ := h
    refine zu_bald (k := 2) d_8141_94 rfl (Or.inr rfl) k11 ?_
    refine zu_ifne (t := 109) d_8141_95 rfl (fun c12 => ?_) (fun c12 => ?_)
    · have h := h.1 c12
      exact (u_X9_given_109 hB h).weak ⟨rfl, rfl, rfl, rfl, rfl, rfl, rfl, trivial⟩
    · have h := h.2 c12
      refine zu_iload d_8141_98 rfl ?_
      refine zu_ifne (t := 109) d_8141_100 rfl (fun c13 => ?_) (fun c13 => ?_)
      · have h := h.1 c13
        exact (u_X9_given_109 hB h).weak ⟨rfl, rfl, rfl, rfl, rfl, rfl, rfl, trivial⟩
      · have h := h.2 c13
        exact (u_X9_given_103 hB h).weak ⟨rfl, trivial⟩
def w_X9_given_54 (X : zs_X) (d : Nat) (p0 : Nat) (p1 : Int32) (p2 : Int32) (p3 : Int32) (p4 : Int32) (p5 : Int32) (q0 : Int32) (S : zs_T) (Q : zs_Q) : Prop :=
  (((¬ p2 = 0 → w_X9_given_74 X d p0 p1 p2 p3 p4 p5 q0 S Q) ∧ (¬ (¬ p2 = 0) → (zs_K S p0 = some (.inl 8) ∧ ∃ b3, (zs_R S 8141 p0) = some b3 ∧ zs_A S b3 2 p3 ∧ ab_n0 X.1 ≤ b3 ∧ ∀ S7, S7 = zs_si S b3 p3.toNatClampNeg (vp_nar .boolean (0 : Int32)) → ∃ b10, (zs_R S7 8142 p0) = some b10 ∧ zs_A S b10 2 p3 ∧ ab_n0 X.1 ≤ b10 ∧ ∀ S14, S14 = zs_si S7 b10 p3.toNatClampNeg (vp_nar .boolean (0 : Int32)) → w_X9_given_74 X d p0 p1 p2 p3 p4 p5 q0 S14 Q))))
theorem u_X9_given_54 {σ : Nat → Nat} {n0 : Nat} {bf : ab_B} {d : Nat} {p0 : Nat} {p1 : Int32} {p2 : Int32} {p3 : Int32} {p4 : Int32} {p5 : Int32} {q0 : Int32} {S : zs_T} {Q : zs_Q} (hB : zt_B bf) (h : w_X9_given_54 (zx σ n0 bf) d p0 p1 p2 p3 p4 p5 q0 S Q) : zs_U (zx σ n0 bf) d 8141 54 [(0, .ref p0), (1, .int p1), (2, .int p2), (3, .int p3), (4, .int p4), (5, .int p5)] [.int q0] S Q := by
  unfold w_X9_given_54 at h
  refine zu_istore d_8141_54 (zs_lt zq_8141 rfl) ?_
  refine zu_iload_n d_8141_56 rfl ?_
  refine zu_ifne (t := 74) d_8141_57 rfl (fun c1 => ?_) (fun c1 => ?_)
  · have h := h.1 c1
    exact (u_X9_given_74 hB h).weak ⟨rfl, rfl, rfl, rfl, rfl, rfl, rfl, trivial⟩
  · have h := h.2 c1
    refine zu_aload_n d_8141_60 rfl (zs_ra _) ?_
    obtain ⟨k2, h⟩ := h
    refine zg_8_299 rfl d_8141_61 k2 ?_
    refine zu_iload_n d_8141_64 rfl ?_
    refine zu_iconst d_8141_65 zi_0 ?_
    obtain ⟨b3, e4, h⟩ := h
    refine zs_stk2 (zs_rfe e4) ?_
    obtain ⟨k5, h⟩ := h
    obtain ⟨k6, h⟩ := h
    refine zu_bast_bool (k := 2) d_8141_66 rfl rfl k6 k5 ?_
    generalize e8 : zs_si S b3 p3.toNatClampNeg (vp_nar .boolean (0 : Int32)) = S7
    have h := h S7 e8.symm
    have K9 : ∀ b, zs_K S7 b = zs_K S b := zs_Kt e8 (zs_Ksi _ _ _ _) (fun _ => rfl)
    refine zu_aload_n d_8141_67 rfl (zs_ra _) ?_
    refine zg_8_302 rfl d_8141_68 ((K9 _).trans k2) ?_
    refine zu_iload_n d_8141_71 rfl ?_
    refine zu_iconst d_8141_72 zi_0 ?_
    obtain ⟨b10, e11, h⟩ := h
    refine zs_stk2 (zs_rfe e11) ?_
    obtain ⟨k12, h⟩ := h
    obtain ⟨k13, h⟩ := h
    refine zu_bast_bool (k := 2) d_8141_73 rfl rfl k13 (zs_Ak K9 k12) ?_
    generalize e15 : zs_si S7 b10 p3.toNatClampNeg (vp_nar .boolean (0 : Int32)) = S14
    have h := h S14 e15.symm
    have K16 : ∀ b, zs_K S14 b = zs_K S b := zs_Kt e15 (zs_Ksi _ _ _ _) K9
    exact (u_X9_given_74 hB h).weak ⟨rfl, rfl, rfl, rfl, rfl, rfl, rfl, trivial⟩
def w_X9_given_35 (X : zs_X) (d : Nat) (p0 : Nat) (p1 : Int32) (p2 : Int32) (p3 : Int32) (p4 : Int32) (p5 : Int32) (S : zs_T) (Q : zs_Q) : Prop :=
  (zs_K S p0 = some (.inl 8) ∧ ∃ b2, (zs_R S 8088 p0) = some b2 ∧ zs_A S b2 0 ((zs_I S 8089 p0) - (1 : Int32)) ∧ (((zs_i S b2 ((zs_I S 8089 p0) - (1 : Int32)).toNatClampNeg) ≤ 0 → (w_X9_given_54 X d p0 p1 p2 p3 p4 p5 (0 : Int32) S Q)) ∧ (¬ ((zs_i S b2 ((zs_I S 8089 p0) - (1 : Int32)).toNatClampNeg) ≤ 0) → (w_X9_given_54 X d p0 p1 p2 p3 p4 p5 (1 : Int32) S Q))))
theorem u_X9_given_35 {σ : Nat → Nat} {n0 : Nat} {bf : ab_B} {d : Nat} {p0 : Nat} {p1 : Int32} {p2 : Int32} {p3 : Int32} {p4 : Int32} {p5 : Int32} {S : zs_T} {Q : zs_Q} (hB : zt_B bf) (h : w_X9_given_35 (zx σ n0 bf) d p0 p1 p2 p3 p4 p5 S Q) : zs_U (zx σ n0 bf) d 8141 35 [(0, .ref p0), (1, .int p1), (2, .int p2), (3, .int p3), (4, .int p4), (5, .int p5)] [] S Q := by
  unfold w_X9_given_35 at h
  refine zu_aload_n d_8141_35 rfl (zs_ra _) ?_
  obtain ⟨k1, h⟩ := h
  refine zg_8_188 rfl d_8141_36 k1 ?_
  refine zu_aload_n d_8141_39 rfl (zs_ra _) ?_
  refine zg_8_643 rfl d_8141_40 k1 ?_
  refine zu_iconst d_8141_43 zi_1 ?_
  refine zu_stk d_8141_44 rfl rfl ?_
  obtain ⟨b2, e3, h⟩ := h
  refine zs_stk1 (zs_rfe e3) ?_
  obtain ⟨k4, h⟩ := h
  refine zu_iald (k := 0) d_8141_45 rfl rfl k4 ?_
  refine zu_ifle (t := 53) d_8141_46 rfl (fun c5 => ?_) (fun c5 => ?_)
  · have h := h.1 c5
    refine zu_iconst d_8141_53 zi_0 ?_
    exact (u_X9_given_54 hB h).weak ⟨rfl, rfl, rfl, rfl, rfl, rfl, trivial⟩
  · have h := h.2 c5
    refine zu_iconst d_8141_49 zi_1 ?_
    refine zu_goto (t := 54) d_8141_50 rfl ?_
    exact (u_X9_given_54 hB h).weak ⟨rfl, rfl, rfl, rfl, rfl, rfl, trivial⟩
def w_X9_given (X : zs_X) (d : Nat) (p0 : Nat) (p1 : Int32) (p2 : Int32) (p3 : Int32) (S : zs_T) (Q : zs_Q) : Prop :=
  (zs_K S p0 = some (.inl 8) ∧ zs_C X d 8037 [.ref p0] S (zs_kV (fun S2 => (zs_K S2 p0 = some (.inl 8) ∧ (((zs_I S2 8010 p0) ≤ 0 → (∃ b6, (zs_R S2 8057 p0) = some b6 ∧ zs_A S2 b6 0 p1 ∧ ∃ b9, (zs_R S2 8062 p0) = some b9 ∧ zs_A S2 b9 0 ((zs_i S2 b6 p1.toNatClampNeg) + p2) ∧ w_X9_given_35 X d p0 p1 p2 p3 ((zs_I S2 8097 p0) - (1 : Int32)) (zs_i S2 b9 ((zs_i S2 b6 p1.toNatClampNeg) + p2).toNatClampNeg) S2 Q)) ∧ (¬ ((zs_I S2 8010 p0) ≤ 0) → (Q (.returned none) S2))))) Q))
theorem u_X9_given {σ : Nat → Nat} {n0 : Nat} {bf : ab_B} {d : Nat} {p0 : Nat} {p1 : Int32} {p2 : Int32} {p3 : Int32} {S : zs_T} {Q : zs_Q} (hB : zt_B bf) (hd : 1 ≤ d) (h : w_X9_given (zx σ n0 bf) (d - 1) p0 p1 p2 p3 S Q) : zs_C (zx σ n0 bf) d 8141 [.ref p0, .int p1, .int p2, .int p3] S Q := by
  have hL : lv_args 0 [.ref p0, .int p1, .int p2, .int p3] = [(0, .ref p0), (1, .int p1), (2, .int p2), (3, .int p3)] := rfl
  refine zs_C.of1 (hB.2 8141 (by decide) (by decide)) hd (by rw [hL]; exact zs_sub_self _ (by exact ⟨rfl, rfl, rfl, rfl, trivial⟩)) ?_
  rw [hL]
  clear hL
  unfold w_X9_given at h
  refine zu_aload_n d_8141_0 rfl (zs_ra _) ?_
  obtain ⟨k1, h⟩ := h
  refine zc_8_660  hB rfl k1 d_8141_1 (Nat.le_of_ble_eq_true rfl) h (fun S2 h => ?_)
  refine zu_aload_n d_8141_4 rfl (zs_ra _) ?_
  obtain ⟨k4, h⟩ := h
  refine zg_8_444 rfl d_8141_5 k4 ?_
  refine zu_ifle (t := 12) d_8141_8 rfl (fun c5 => ?_) (fun c5 => ?_)
  · have h := h.1 c5
    refine zu_aload_n d_8141_12 rfl (zs_ra _) ?_
    refine zg_8_653 rfl d_8141_13 k4 ?_
    refine zu_iconst d_8141_16 zi_1 ?_
    refine zu_stk d_8141_17 rfl rfl ?_
    refine zu_istore d_8141_18 (zs_lt zq_8141 rfl) ?_
    refine zu_aload_n d_8141_20 rfl (zs_ra _) ?_
    refine zg_8_136 rfl d_8141_21 k4 ?_
    refine zu_aload_n d_8141_24 rfl (zs_ra _) ?_
    refine zg_8_124 rfl d_8141_25 k4 ?_
    refine zu_iload_n d_8141_28 rfl ?_
    obtain ⟨b6, e7, h⟩ := h
    refine zs_stk1 (zs_rfe e7) ?_
    obtain ⟨k8, h⟩ := h
    refine zu_iald (k := 0) d_8141_29 rfl rfl k8 ?_
    refine zu_iload_n d_8141_30 rfl ?_
    refine zu_stk d_8141_31 rfl rfl ?_
    obtain ⟨b9, e10, h⟩ := h
    refine zs_stk1 (zs_rfe e10) ?_
    obtain ⟨k11, h⟩ := h
    refine zu_iald (k := 0) d_8141_32 rfl rfl k11 ?_
    refine zu_istore d_8141_33 (zs_lt zq_8141 rfl) ?_
    exact (u_X9_given_35 hB h).weak ⟨rfl, rfl, rfl, rfl, rfl, rfl, trivial⟩
  · have h := h.2 c5
    exact zu_vret d_8141_11 zr_8141 h
/-! SchemaPascalModel.givenDone(III)V -/
theorem zm_8142 {σ : Nat → Nat} {n0 : Nat} {bf : ab_B} : ab_code (zx σ n0 bf).1 8142 = prog_17_method_138_code := rfl
theorem zq_8142 {σ : Nat → Nat} {n0 : Nat} {bf : ab_B} : ab_maxL (zx σ n0 bf).1 8142 = 7 := rfl
theorem zr_8142 {σ : Nat → Nat} {n0 : Nat} {bf : ab_B} : ab_ret (zx σ n0 bf).1 8142 = (Option.none : Option Jvm.ClassFile.FieldType) := rfl
theorem d_8142_0 {σ : Nat → Nat} {n0 : Nat} {bf : ab_B} : decode (ab_code (zx σ n0 bf).1 8142) 0 = .ok (.aload_n 0, 1) := zd zm_8142 (by decide +kernel)
theorem d_8142_1 {σ : Nat → Nat} {n0 : Nat} {bf : ab_B} : decode (ab_code (zx σ n0 bf).1 8142) 1 = .ok (.bipush 9, 2) := zd zm_8142 (by decide +kernel)
theorem d_8142_3 {σ : Nat → Nat} {n0 : Nat} {bf : ab_B} : decode (ab_code (zx σ n0 bf).1 8142) 3 = .ok (.invokevirtual 746, 3) := zd zm_8142 (by decide +kernel)
theorem d_8142_6 {σ : Nat → Nat} {n0 : Nat} {bf : ab_B} : decode (ab_code (zx σ n0 bf).1 8142) 6 = .ok (.aload_n 0, 1) := zd zm_8142 (by decide +kernel)
theorem d_8142_7 {σ : Nat → Nat} {n0 : Nat} {bf : ab_B} : decode (ab_code (zx σ n0 bf).1 8142) 7 = .ok (.getfield 444, 3) := zd zm_8142 (by decide +kernel)
theorem d_8142_10 {σ : Nat → Nat} {n0 : Nat} {bf : ab_B} : decode (ab_code (zx σ n0 bf).1 8142) 10 = .ok (.ifCond .le 4, 3) := zd zm_8142 (by decide +kernel)
theorem d_8142_13 {σ : Nat → Nat} {n0 : Nat} {bf : ab_B} : decode (ab_code (zx σ n0 bf).1 8142) 13 = .ok (.return_, 1) := zd zm_8142 (by decide +kernel)
theorem d_8142_14 {σ : Nat → Nat} {n0 : Nat} {bf : ab_B} : decode (ab_code (zx σ n0 bf).1 8142) 14 = .ok (.iload_n 3, 1) := zd zm_8142 (by decide +kernel)
theorem d_8142_15 {σ : Nat → Nat} {n0 : Nat} {bf : ab_B} : decode (ab_code (zx σ n0 bf).1 8142) 15 = .ok (.ifCond .le 16, 3) := zd zm_8142 (by decide +kernel)
theorem d_8142_18 {σ : Nat → Nat} {n0 : Nat} {bf : ab_B} : decode (ab_code (zx σ n0 bf).1 8142) 18 = .ok (.aload_n 0, 1) := zd zm_8142 (by decide +kernel)
theorem d_8142_19 {σ : Nat → Nat} {n0 : Nat} {bf : ab_B} : decode (ab_code (zx σ n0 bf).1 8142) 19 = .ok (.getfield 299, 3) := zd zm_8142 (by decide +kernel)
theorem d_8142_22 {σ : Nat → Nat} {n0 : Nat} {bf : ab_B} : decode (ab_code (zx σ n0 bf).1 8142) 22 = .ok (.iload_n 2, 1) := zd zm_8142 (by decide +kernel)
theorem d_8142_23 {σ : Nat → Nat} {n0 : Nat} {bf : ab_B} : decode (ab_code (zx σ n0 bf).1 8142) 23 = .ok (.baload, 1) := zd zm_8142 (by decide +kernel)
theorem d_8142_24 {σ : Nat → Nat} {n0 : Nat} {bf : ab_B} : decode (ab_code (zx σ n0 bf).1 8142) 24 = .ok (.ifCond .eq 7, 3) := zd zm_8142 (by decide +kernel)
theorem d_8142_27 {σ : Nat → Nat} {n0 : Nat} {bf : ab_B} : decode (ab_code (zx σ n0 bf).1 8142) 27 = .ok (.iconst 1, 1) := zd zm_8142 (by decide +kernel)
theorem d_8142_28 {σ : Nat → Nat} {n0 : Nat} {bf : ab_B} : decode (ab_code (zx σ n0 bf).1 8142) 28 = .ok (.goto 4, 3) := zd zm_8142 (by decide +kernel)
theorem d_8142_31 {σ : Nat → Nat} {n0 : Nat} {bf : ab_B} : decode (ab_code (zx σ n0 bf).1 8142) 31 = .ok (.iconst 0, 1) := zd zm_8142 (by decide +kernel)
theorem d_8142_32 {σ : Nat → Nat} {n0 : Nat} {bf : ab_B} : decode (ab_code (zx σ n0 bf).1 8142) 32 = .ok (.istore 4, 2) := zd zm_8142 (by decide +kernel)
theorem d_8142_34 {σ : Nat → Nat} {n0 : Nat} {bf : ab_B} : decode (ab_code (zx σ n0 bf).1 8142) 34 = .ok (.iload_n 3, 1) := zd zm_8142 (by decide +kernel)
theorem d_8142_35 {σ : Nat → Nat} {n0 : Nat} {bf : ab_B} : decode (ab_code (zx σ n0 bf).1 8142) 35 = .ok (.ifCond .le 15, 3) := zd zm_8142 (by decide +kernel)
theorem d_8142_38 {σ : Nat → Nat} {n0 : Nat} {bf : ab_B} : decode (ab_code (zx σ n0 bf).1 8142) 38 = .ok (.iload 4, 2) := zd zm_8142 (by decide +kernel)
theorem d_8142_40 {σ : Nat → Nat} {n0 : Nat} {bf : ab_B} : decode (ab_code (zx σ n0 bf).1 8142) 40 = .ok (.ifCond .ne 10, 3) := zd zm_8142 (by decide +kernel)
theorem d_8142_43 {σ : Nat → Nat} {n0 : Nat} {bf : ab_B} : decode (ab_code (zx σ n0 bf).1 8142) 43 = .ok (.aload_n 0, 1) := zd zm_8142 (by decide +kernel)
theorem d_8142_44 {σ : Nat → Nat} {n0 : Nat} {bf : ab_B} : decode (ab_code (zx σ n0 bf).1 8142) 44 = .ok (.iload_n 3, 1) := zd zm_8142 (by decide +kernel)
theorem d_8142_45 {σ : Nat → Nat} {n0 : Nat} {bf : ab_B} : decode (ab_code (zx σ n0 bf).1 8142) 45 = .ok (.iconst 1, 1) := zd zm_8142 (by decide +kernel)
theorem d_8142_46 {σ : Nat → Nat} {n0 : Nat} {bf : ab_B} : decode (ab_code (zx σ n0 bf).1 8142) 46 = .ok (.isub, 1) := zd zm_8142 (by decide +kernel)
theorem d_8142_47 {σ : Nat → Nat} {n0 : Nat} {bf : ab_B} : decode (ab_code (zx σ n0 bf).1 8142) 47 = .ok (.putfield 556, 3) := zd zm_8142 (by decide +kernel)
theorem d_8142_50 {σ : Nat → Nat} {n0 : Nat} {bf : ab_B} : decode (ab_code (zx σ n0 bf).1 8142) 50 = .ok (.aload_n 0, 1) := zd zm_8142 (by decide +kernel)
theorem d_8142_51 {σ : Nat → Nat} {n0 : Nat} {bf : ab_B} : decode (ab_code (zx σ n0 bf).1 8142) 51 = .ok (.bipush 11, 2) := zd zm_8142 (by decide +kernel)
theorem d_8142_53 {σ : Nat → Nat} {n0 : Nat} {bf : ab_B} : decode (ab_code (zx σ n0 bf).1 8142) 53 = .ok (.iload_n 1, 1) := zd zm_8142 (by decide +kernel)
theorem d_8142_54 {σ : Nat → Nat} {n0 : Nat} {bf : ab_B} : decode (ab_code (zx σ n0 bf).1 8142) 54 = .ok (.aload_n 0, 1) := zd zm_8142 (by decide +kernel)
theorem d_8142_55 {σ : Nat → Nat} {n0 : Nat} {bf : ab_B} : decode (ab_code (zx σ n0 bf).1 8142) 55 = .ok (.getfield 109, 3) := zd zm_8142 (by decide +kernel)
theorem d_8142_58 {σ : Nat → Nat} {n0 : Nat} {bf : ab_B} : decode (ab_code (zx σ n0 bf).1 8142) 58 = .ok (.aload_n 0, 1) := zd zm_8142 (by decide +kernel)
theorem d_8142_59 {σ : Nat → Nat} {n0 : Nat} {bf : ab_B} : decode (ab_code (zx σ n0 bf).1 8142) 59 = .ok (.getfield 130, 3) := zd zm_8142 (by decide +kernel)
theorem d_8142_62 {σ : Nat → Nat} {n0 : Nat} {bf : ab_B} : decode (ab_code (zx σ n0 bf).1 8142) 62 = .ok (.iload_n 1, 1) := zd zm_8142 (by decide +kernel)
theorem d_8142_63 {σ : Nat → Nat} {n0 : Nat} {bf : ab_B} : decode (ab_code (zx σ n0 bf).1 8142) 63 = .ok (.iaload, 1) := zd zm_8142 (by decide +kernel)
theorem d_8142_64 {σ : Nat → Nat} {n0 : Nat} {bf : ab_B} : decode (ab_code (zx σ n0 bf).1 8142) 64 = .ok (.baload, 1) := zd zm_8142 (by decide +kernel)
theorem d_8142_65 {σ : Nat → Nat} {n0 : Nat} {bf : ab_B} : decode (ab_code (zx σ n0 bf).1 8142) 65 = .ok (.iconst 2, 1) := zd zm_8142 (by decide +kernel)
theorem d_8142_66 {σ : Nat → Nat} {n0 : Nat} {bf : ab_B} : decode (ab_code (zx σ n0 bf).1 8142) 66 = .ok (.iadd, 1) := zd zm_8142 (by decide +kernel)
theorem d_8142_67 {σ : Nat → Nat} {n0 : Nat} {bf : ab_B} : decode (ab_code (zx σ n0 bf).1 8142) 67 = .ok (.invokevirtual 599, 3) := zd zm_8142 (by decide +kernel)
theorem d_8142_70 {σ : Nat → Nat} {n0 : Nat} {bf : ab_B} : decode (ab_code (zx σ n0 bf).1 8142) 70 = .ok (.istore 5, 2) := zd zm_8142 (by decide +kernel)
theorem d_8142_72 {σ : Nat → Nat} {n0 : Nat} {bf : ab_B} : decode (ab_code (zx σ n0 bf).1 8142) 72 = .ok (.aload_n 0, 1) := zd zm_8142 (by decide +kernel)
theorem d_8142_73 {σ : Nat → Nat} {n0 : Nat} {bf : ab_B} : decode (ab_code (zx σ n0 bf).1 8142) 73 = .ok (.iload 5, 2) := zd zm_8142 (by decide +kernel)
theorem d_8142_75 {σ : Nat → Nat} {n0 : Nat} {bf : ab_B} : decode (ab_code (zx σ n0 bf).1 8142) 75 = .ok (.aload_n 0, 1) := zd zm_8142 (by decide +kernel)
theorem d_8142_76 {σ : Nat → Nat} {n0 : Nat} {bf : ab_B} : decode (ab_code (zx σ n0 bf).1 8142) 76 = .ok (.getfield 130, 3) := zd zm_8142 (by decide +kernel)
theorem d_8142_79 {σ : Nat → Nat} {n0 : Nat} {bf : ab_B} : decode (ab_code (zx σ n0 bf).1 8142) 79 = .ok (.iload_n 1, 1) := zd zm_8142 (by decide +kernel)
theorem d_8142_80 {σ : Nat → Nat} {n0 : Nat} {bf : ab_B} : decode (ab_code (zx σ n0 bf).1 8142) 80 = .ok (.iaload, 1) := zd zm_8142 (by decide +kernel)
theorem d_8142_81 {σ : Nat → Nat} {n0 : Nat} {bf : ab_B} : decode (ab_code (zx σ n0 bf).1 8142) 81 = .ok (.iconst 1, 1) := zd zm_8142 (by decide +kernel)
theorem d_8142_82 {σ : Nat → Nat} {n0 : Nat} {bf : ab_B} : decode (ab_code (zx σ n0 bf).1 8142) 82 = .ok (.invokevirtual 887, 3) := zd zm_8142 (by decide +kernel)
theorem d_8142_85 {σ : Nat → Nat} {n0 : Nat} {bf : ab_B} : decode (ab_code (zx σ n0 bf).1 8142) 85 = .ok (.aload_n 0, 1) := zd zm_8142 (by decide +kernel)
theorem d_8142_86 {σ : Nat → Nat} {n0 : Nat} {bf : ab_B} : decode (ab_code (zx σ n0 bf).1 8142) 86 = .ok (.getfield 96, 3) := zd zm_8142 (by decide +kernel)
theorem d_8142_89 {σ : Nat → Nat} {n0 : Nat} {bf : ab_B} : decode (ab_code (zx σ n0 bf).1 8142) 89 = .ok (.iload 5, 2) := zd zm_8142 (by decide +kernel)
theorem d_8142_91 {σ : Nat → Nat} {n0 : Nat} {bf : ab_B} : decode (ab_code (zx σ n0 bf).1 8142) 91 = .ok (.iload_n 2, 1) := zd zm_8142 (by decide +kernel)
theorem d_8142_92 {σ : Nat → Nat} {n0 : Nat} {bf : ab_B} : decode (ab_code (zx σ n0 bf).1 8142) 92 = .ok (.iastore, 1) := zd zm_8142 (by decide +kernel)
theorem d_8142_93 {σ : Nat → Nat} {n0 : Nat} {bf : ab_B} : decode (ab_code (zx σ n0 bf).1 8142) 93 = .ok (.aload_n 0, 1) := zd zm_8142 (by decide +kernel)
theorem d_8142_94 {σ : Nat → Nat} {n0 : Nat} {bf : ab_B} : decode (ab_code (zx σ n0 bf).1 8142) 94 = .ok (.getfield 99, 3) := zd zm_8142 (by decide +kernel)
theorem d_8142_97 {σ : Nat → Nat} {n0 : Nat} {bf : ab_B} : decode (ab_code (zx σ n0 bf).1 8142) 97 = .ok (.iload 5, 2) := zd zm_8142 (by decide +kernel)
theorem d_8142_99 {σ : Nat → Nat} {n0 : Nat} {bf : ab_B} : decode (ab_code (zx σ n0 bf).1 8142) 99 = .ok (.iload 4, 2) := zd zm_8142 (by decide +kernel)
theorem d_8142_101 {σ : Nat → Nat} {n0 : Nat} {bf : ab_B} : decode (ab_code (zx σ n0 bf).1 8142) 101 = .ok (.ifCond .eq 7, 3) := zd zm_8142 (by decide +kernel)
theorem d_8142_104 {σ : Nat → Nat} {n0 : Nat} {bf : ab_B} : decode (ab_code (zx σ n0 bf).1 8142) 104 = .ok (.iconst 1, 1) := zd zm_8142 (by decide +kernel)
theorem d_8142_105 {σ : Nat → Nat} {n0 : Nat} {bf : ab_B} : decode (ab_code (zx σ n0 bf).1 8142) 105 = .ok (.goto 4, 3) := zd zm_8142 (by decide +kernel)
theorem d_8142_108 {σ : Nat → Nat} {n0 : Nat} {bf : ab_B} : decode (ab_code (zx σ n0 bf).1 8142) 108 = .ok (.iconst 0, 1) := zd zm_8142 (by decide +kernel)
theorem d_8142_109 {σ : Nat → Nat} {n0 : Nat} {bf : ab_B} : decode (ab_code (zx σ n0 bf).1 8142) 109 = .ok (.iastore, 1) := zd zm_8142 (by decide +kernel)
theorem d_8142_110 {σ : Nat → Nat} {n0 : Nat} {bf : ab_B} : decode (ab_code (zx σ n0 bf).1 8142) 110 = .ok (.aload_n 0, 1) := zd zm_8142 (by decide +kernel)
theorem d_8142_111 {σ : Nat → Nat} {n0 : Nat} {bf : ab_B} : decode (ab_code (zx σ n0 bf).1 8142) 111 = .ok (.getfield 105, 3) := zd zm_8142 (by decide +kernel)
theorem d_8142_114 {σ : Nat → Nat} {n0 : Nat} {bf : ab_B} : decode (ab_code (zx σ n0 bf).1 8142) 114 = .ok (.iload 5, 2) := zd zm_8142 (by decide +kernel)
theorem d_8142_116 {σ : Nat → Nat} {n0 : Nat} {bf : ab_B} : decode (ab_code (zx σ n0 bf).1 8142) 116 = .ok (.iload 4, 2) := zd zm_8142 (by decide +kernel)
theorem d_8142_118 {σ : Nat → Nat} {n0 : Nat} {bf : ab_B} : decode (ab_code (zx σ n0 bf).1 8142) 118 = .ok (.bastore, 1) := zd zm_8142 (by decide +kernel)
theorem d_8142_119 {σ : Nat → Nat} {n0 : Nat} {bf : ab_B} : decode (ab_code (zx σ n0 bf).1 8142) 119 = .ok (.iconst 0, 1) := zd zm_8142 (by decide +kernel)
theorem d_8142_120 {σ : Nat → Nat} {n0 : Nat} {bf : ab_B} : decode (ab_code (zx σ n0 bf).1 8142) 120 = .ok (.istore 6, 2) := zd zm_8142 (by decide +kernel)
theorem d_8142_122 {σ : Nat → Nat} {n0 : Nat} {bf : ab_B} : decode (ab_code (zx σ n0 bf).1 8142) 122 = .ok (.iload 6, 2) := zd zm_8142 (by decide +kernel)
theorem d_8142_124 {σ : Nat → Nat} {n0 : Nat} {bf : ab_B} : decode (ab_code (zx σ n0 bf).1 8142) 124 = .ok (.aload_n 0, 1) := zd zm_8142 (by decide +kernel)
theorem d_8142_125 {σ : Nat → Nat} {n0 : Nat} {bf : ab_B} : decode (ab_code (zx σ n0 bf).1 8142) 125 = .ok (.getfield 127, 3) := zd zm_8142 (by decide +kernel)
theorem d_8142_128 {σ : Nat → Nat} {n0 : Nat} {bf : ab_B} : decode (ab_code (zx σ n0 bf).1 8142) 128 = .ok (.iload_n 1, 1) := zd zm_8142 (by decide +kernel)
theorem d_8142_129 {σ : Nat → Nat} {n0 : Nat} {bf : ab_B} : decode (ab_code (zx σ n0 bf).1 8142) 129 = .ok (.baload, 1) := zd zm_8142 (by decide +kernel)
theorem d_8142_130 {σ : Nat → Nat} {n0 : Nat} {bf : ab_B} : decode (ab_code (zx σ n0 bf).1 8142) 130 = .ok (.if_icmp .ge 43, 3) := zd zm_8142 (by decide +kernel)
theorem d_8142_133 {σ : Nat → Nat} {n0 : Nat} {bf : ab_B} : decode (ab_code (zx σ n0 bf).1 8142) 133 = .ok (.aload_n 0, 1) := zd zm_8142 (by decide +kernel)
theorem d_8142_134 {σ : Nat → Nat} {n0 : Nat} {bf : ab_B} : decode (ab_code (zx σ n0 bf).1 8142) 134 = .ok (.getfield 105, 3) := zd zm_8142 (by decide +kernel)
theorem d_8142_137 {σ : Nat → Nat} {n0 : Nat} {bf : ab_B} : decode (ab_code (zx σ n0 bf).1 8142) 137 = .ok (.iload 5, 2) := zd zm_8142 (by decide +kernel)
theorem d_8142_139 {σ : Nat → Nat} {n0 : Nat} {bf : ab_B} : decode (ab_code (zx σ n0 bf).1 8142) 139 = .ok (.aload_n 0, 1) := zd zm_8142 (by decide +kernel)
theorem d_8142_140 {σ : Nat → Nat} {n0 : Nat} {bf : ab_B} : decode (ab_code (zx σ n0 bf).1 8142) 140 = .ok (.getfield 105, 3) := zd zm_8142 (by decide +kernel)
theorem d_8142_143 {σ : Nat → Nat} {n0 : Nat} {bf : ab_B} : decode (ab_code (zx σ n0 bf).1 8142) 143 = .ok (.iload 5, 2) := zd zm_8142 (by decide +kernel)
theorem d_8142_145 {σ : Nat → Nat} {n0 : Nat} {bf : ab_B} : decode (ab_code (zx σ n0 bf).1 8142) 145 = .ok (.baload, 1) := zd zm_8142 (by decide +kernel)
theorem d_8142_146 {σ : Nat → Nat} {n0 : Nat} {bf : ab_B} : decode (ab_code (zx σ n0 bf).1 8142) 146 = .ok (.ifCond .ne 15, 3) := zd zm_8142 (by decide +kernel)
theorem d_8142_149 {σ : Nat → Nat} {n0 : Nat} {bf : ab_B} : decode (ab_code (zx σ n0 bf).1 8142) 149 = .ok (.aload_n 0, 1) := zd zm_8142 (by decide +kernel)
theorem d_8142_150 {σ : Nat → Nat} {n0 : Nat} {bf : ab_B} : decode (ab_code (zx σ n0 bf).1 8142) 150 = .ok (.getfield 121, 3) := zd zm_8142 (by decide +kernel)
theorem d_8142_153 {σ : Nat → Nat} {n0 : Nat} {bf : ab_B} : decode (ab_code (zx σ n0 bf).1 8142) 153 = .ok (.iload_n 2, 1) := zd zm_8142 (by decide +kernel)
theorem d_8142_154 {σ : Nat → Nat} {n0 : Nat} {bf : ab_B} : decode (ab_code (zx σ n0 bf).1 8142) 154 = .ok (.iload 6, 2) := zd zm_8142 (by decide +kernel)
theorem d_8142_156 {σ : Nat → Nat} {n0 : Nat} {bf : ab_B} : decode (ab_code (zx σ n0 bf).1 8142) 156 = .ok (.iadd, 1) := zd zm_8142 (by decide +kernel)
theorem d_8142_157 {σ : Nat → Nat} {n0 : Nat} {bf : ab_B} : decode (ab_code (zx σ n0 bf).1 8142) 157 = .ok (.baload, 1) := zd zm_8142 (by decide +kernel)
theorem d_8142_158 {σ : Nat → Nat} {n0 : Nat} {bf : ab_B} : decode (ab_code (zx σ n0 bf).1 8142) 158 = .ok (.ifCond .eq 7, 3) := zd zm_8142 (by decide +kernel)
theorem d_8142_161 {σ : Nat → Nat} {n0 : Nat} {bf : ab_B} : decode (ab_code (zx σ n0 bf).1 8142) 161 = .ok (.iconst 1, 1) := zd zm_8142 (by decide +kernel)
theorem d_8142_162 {σ : Nat → Nat} {n0 : Nat} {bf : ab_B} : decode (ab_code (zx σ n0 bf).1 8142) 162 = .ok (.goto 4, 3) := zd zm_8142 (by decide +kernel)
theorem d_8142_165 {σ : Nat → Nat} {n0 : Nat} {bf : ab_B} : decode (ab_code (zx σ n0 bf).1 8142) 165 = .ok (.iconst 0, 1) := zd zm_8142 (by decide +kernel)
theorem d_8142_166 {σ : Nat → Nat} {n0 : Nat} {bf : ab_B} : decode (ab_code (zx σ n0 bf).1 8142) 166 = .ok (.bastore, 1) := zd zm_8142 (by decide +kernel)
theorem d_8142_167 {σ : Nat → Nat} {n0 : Nat} {bf : ab_B} : decode (ab_code (zx σ n0 bf).1 8142) 167 = .ok (.iinc 6 1, 3) := zd zm_8142 (by decide +kernel)
theorem d_8142_170 {σ : Nat → Nat} {n0 : Nat} {bf : ab_B} : decode (ab_code (zx σ n0 bf).1 8142) 170 = .ok (.goto (-48), 3) := zd zm_8142 (by decide +kernel)
theorem d_8142_173 {σ : Nat → Nat} {n0 : Nat} {bf : ab_B} : decode (ab_code (zx σ n0 bf).1 8142) 173 = .ok (.aload_n 0, 1) := zd zm_8142 (by decide +kernel)
theorem d_8142_174 {σ : Nat → Nat} {n0 : Nat} {bf : ab_B} : decode (ab_code (zx σ n0 bf).1 8142) 174 = .ok (.getfield 302, 3) := zd zm_8142 (by decide +kernel)
theorem d_8142_177 {σ : Nat → Nat} {n0 : Nat} {bf : ab_B} : decode (ab_code (zx σ n0 bf).1 8142) 177 = .ok (.iload_n 2, 1) := zd zm_8142 (by decide +kernel)
theorem d_8142_178 {σ : Nat → Nat} {n0 : Nat} {bf : ab_B} : decode (ab_code (zx σ n0 bf).1 8142) 178 = .ok (.baload, 1) := zd zm_8142 (by decide +kernel)
theorem d_8142_179 {σ : Nat → Nat} {n0 : Nat} {bf : ab_B} : decode (ab_code (zx σ n0 bf).1 8142) 179 = .ok (.ifCond .eq 21, 3) := zd zm_8142 (by decide +kernel)
theorem d_8142_182 {σ : Nat → Nat} {n0 : Nat} {bf : ab_B} : decode (ab_code (zx σ n0 bf).1 8142) 182 = .ok (.aload_n 0, 1) := zd zm_8142 (by decide +kernel)
theorem d_8142_183 {σ : Nat → Nat} {n0 : Nat} {bf : ab_B} : decode (ab_code (zx σ n0 bf).1 8142) 183 = .ok (.getfield 105, 3) := zd zm_8142 (by decide +kernel)
theorem d_8142_186 {σ : Nat → Nat} {n0 : Nat} {bf : ab_B} : decode (ab_code (zx σ n0 bf).1 8142) 186 = .ok (.iload 5, 2) := zd zm_8142 (by decide +kernel)
theorem d_8142_188 {σ : Nat → Nat} {n0 : Nat} {bf : ab_B} : decode (ab_code (zx σ n0 bf).1 8142) 188 = .ok (.baload, 1) := zd zm_8142 (by decide +kernel)
theorem d_8142_189 {σ : Nat → Nat} {n0 : Nat} {bf : ab_B} : decode (ab_code (zx σ n0 bf).1 8142) 189 = .ok (.ifCond .ne 11, 3) := zd zm_8142 (by decide +kernel)
theorem d_8142_192 {σ : Nat → Nat} {n0 : Nat} {bf : ab_B} : decode (ab_code (zx σ n0 bf).1 8142) 192 = .ok (.aload_n 0, 1) := zd zm_8142 (by decide +kernel)
theorem d_8142_193 {σ : Nat → Nat} {n0 : Nat} {bf : ab_B} : decode (ab_code (zx σ n0 bf).1 8142) 193 = .ok (.getfield 115, 3) := zd zm_8142 (by decide +kernel)
theorem d_8142_196 {σ : Nat → Nat} {n0 : Nat} {bf : ab_B} : decode (ab_code (zx σ n0 bf).1 8142) 196 = .ok (.iload 5, 2) := zd zm_8142 (by decide +kernel)
theorem d_8142_198 {σ : Nat → Nat} {n0 : Nat} {bf : ab_B} : decode (ab_code (zx σ n0 bf).1 8142) 198 = .ok (.iconst (-1), 1) := zd zm_8142 (by decide +kernel)
theorem d_8142_199 {σ : Nat → Nat} {n0 : Nat} {bf : ab_B} : decode (ab_code (zx σ n0 bf).1 8142) 199 = .ok (.iastore, 1) := zd zm_8142 (by decide +kernel)
theorem d_8142_200 {σ : Nat → Nat} {n0 : Nat} {bf : ab_B} : decode (ab_code (zx σ n0 bf).1 8142) 200 = .ok (.aload_n 0, 1) := zd zm_8142 (by decide +kernel)
theorem d_8142_201 {σ : Nat → Nat} {n0 : Nat} {bf : ab_B} : decode (ab_code (zx σ n0 bf).1 8142) 201 = .ok (.iload 5, 2) := zd zm_8142 (by decide +kernel)
theorem d_8142_203 {σ : Nat → Nat} {n0 : Nat} {bf : ab_B} : decode (ab_code (zx σ n0 bf).1 8142) 203 = .ok (.invokevirtual 890, 3) := zd zm_8142 (by decide +kernel)
theorem d_8142_206 {σ : Nat → Nat} {n0 : Nat} {bf : ab_B} : decode (ab_code (zx σ n0 bf).1 8142) 206 = .ok (.return_, 1) := zd zm_8142 (by decide +kernel)
def w_X9_givenDone_109 (X : zs_X) (d : Nat) (p0 : Nat) (p1 : Int32) (p2 : Int32) (p4 : Int32) (p5 : Int32) (q0 : Option Nat) (q1 : Int32) (q2 : Int32) (S : zs_T) (Q : zs_Q) : Prop :=
  (∃ b1, q0 = some b1 ∧ zs_A S b1 0 q1 ∧ ab_n0 X.1 ≤ b1 ∧ ∀ S5, S5 = zs_si S b1 q1.toNatClampNeg q2 → zs_K S p0 = some (.inl 8) ∧ ∃ b9, (zs_R S5 8049 p0) = some b9 ∧ zs_A S b9 2 p5 ∧ ab_n0 X.1 ≤ b9 ∧ ∀ S13, S13 = zs_si S5 b9 p5.toNatClampNeg (vp_nar .boolean p4) → zs_U X d 8142 122 [(0, .ref p0), (1, .int p1), (2, .int p2), (5, .int p5), (6, .int (0 : Int32))] [] S13 Q)
theorem u_X9_givenDone_109 {σ : Nat → Nat} {n0 : Nat} {bf : ab_B} {d : Nat} {p0 : Nat} {p1 : Int32} {p2 : Int32} {p4 : Int32} {p5 : Int32} {q0 : Option Nat} {q1 : Int32} {q2 : Int32} {S : zs_T} {Q : zs_Q} (hB : zt_B bf) (h : w_X9_givenDone_109 (zx σ n0 bf) d p0 p1 p2 p4 p5 q0 q1 q2 S Q) : zs_U (zx σ n0 bf) d 8142 109 [(0, .ref p0), (1, .int p1), (2, .int p2), (4, .int p4), (5, .int p5)] [.int q2, .int q1, va_rf q0] S Q := by
  unfold w_X9_givenDone_109 at h
  obtain ⟨b1, e2, h⟩ := h
  refine zs_stk2 (zs_rfe e2) ?_
  obtain ⟨k3, h⟩ := h
  obtain ⟨k4, h⟩ := h
  refine zu_iast (k := 0) d_8142_109 rfl rfl k4 k3 ?_
  generalize e6 : zs_si S b1 q1.toNatClampNeg q2 = S5
  have h := h S5 e6.symm
  have K7 : ∀ b, zs_K S5 b = zs_K S b := zs_Kt e6 (zs_Ksi _ _ _ _) (fun _ => rfl)
  refine zu_aload_n d_8142_110 rfl (zs_ra _) ?_
  obtain ⟨k8, h⟩ := h
  refine zg_8_105 rfl d_8142_111 ((K7 _).trans k8) ?_
  refine zu_iload d_8142_114 rfl ?_
  refine zu_iload d_8142_116 rfl ?_
  obtain ⟨b9, e10, h⟩ := h
  refine zs_stk2 (zs_rfe e10) ?_
  obtain ⟨k11, h⟩ := h
  obtain ⟨k12, h⟩ := h
  refine zu_bast_bool (k := 2) d_8142_118 rfl rfl k12 (zs_Ak K7 k11) ?_
  generalize e14 : zs_si S5 b9 p5.toNatClampNeg (vp_nar .boolean p4) = S13
  have h := h S13 e14.symm
  have K15 : ∀ b, zs_K S13 b = zs_K S b := zs_Kt e14 (zs_Ksi _ _ _ _) K7
  refine zu_iconst d_8142_119 zi_0 ?_
  refine zu_istore d_8142_120 (zs_lt zq_8142 rfl) ?_
  exact h.weak ⟨rfl, rfl, rfl, rfl, rfl, trivial⟩
def w_X9_givenDone_85 (X : zs_X) (d : Nat) (p0 : Nat) (p1 : Int32) (p2 : Int32) (p4 : Int32) (p5 : Int32) (S : zs_T) (Q : zs_Q) : Prop :=
  (zs_K S p0 = some (.inl 8) ∧ ∃ b2, (zs_R S 8046 p0) = some b2 ∧ zs_A S b2 0 p5 ∧ ab_n0 X.1 ≤ b2 ∧ ∀ S6, S6 = zs_si S b2 p5.toNatClampNeg p2 → ((p4 = 0 → (w_X9_givenDone_109 X d p0 p1 p2 p4 p5 (zs_R S6 8047 p0) p5 (0 : Int32) S6 Q)) ∧ (¬ (p4 = 0) → (w_X9_givenDone_109 X d p0 p1 p2 p4 p5 (zs_R S6 8047 p0) p5 (1 : Int32) S6 Q))))
theorem u_X9_givenDone_85 {σ : Nat → Nat} {n0 : Nat} {bf : ab_B} {d : Nat} {p0 : Nat} {p1 : Int32} {p2 : Int32} {p4 : Int32} {p5 : Int32} {S : zs_T} {Q : zs_Q} (hB : zt_B bf) (h : w_X9_givenDone_85 (zx σ n0 bf) d p0 p1 p2 p4 p5 S Q) : zs_U (zx σ n0 bf) d 8142 85 [(0, .ref p0), (1, .int p1), (2, .int p2), (4, .int p4), (5, .int p5)] [] S Q := by
  unfold w_X9_givenDone_85 at h
  refine zu_aload_n d_8142_85 rfl (zs_ra _) ?_
  obtain ⟨k1, h⟩ := h
  refine zg_8_96 rfl d_8142_86 k1 ?_
  refine zu_iload d_8142_89 rfl ?_
  refine zu_iload_n d_8142_91 rfl ?_
  obtain ⟨b2, e3, h⟩ := h
  refine zs_stk2 (zs_rfe e3) ?_
  obtain ⟨k4, h⟩ := h
  obtain ⟨k5, h⟩ := h
  refine zu_iast (k := 0) d_8142_92 rfl rfl k5 k4 ?_
  generalize e7 : zs_si S b2 p5.toNatClampNeg p2 = S6
  have h := h S6 e7.symm
  have K8 : ∀ b, zs_K S6 b = zs_K S b := zs_Kt e7 (zs_Ksi _ _ _ _) (fun _ => rfl)
  refine zu_aload_n d_8142_93 rfl (zs_ra _) ?_
  refine zg_8_99 rfl d_8142_94 ((K8 _).trans k1) ?_
  refine zu_iload d_8142_97 rfl ?_
  refine zu_iload d_8142_99 rfl ?_
  refine zu_ifeq (t := 108) d_8142_101 rfl (fun c9 => ?_) (fun c9 => ?_)
  · have h := h.1 c9
    refine zu_iconst d_8142_108 zi_0 ?_
    exact (u_X9_givenDone_109 hB h).weak ⟨rfl, rfl, rfl, rfl, rfl, trivial⟩
  · have h := h.2 c9
    refine zu_iconst d_8142_104 zi_1 ?_
    refine zu_goto (t := 109) d_8142_105 rfl ?_
    exact (u_X9_givenDone_109 hB h).weak ⟨rfl, rfl, rfl, rfl, rfl, trivial⟩
def w_X9_givenDone_50 (X : zs_X) (d : Nat) (p0 : Nat) (p1 : Int32) (p2 : Int32) (p4 : Int32) (S : zs_T) (Q : zs_Q) : Prop :=
  (zs_K S p0 = some (.inl 8) ∧ ∃ b2, (zs_R S 8059 p0) = some b2 ∧ zs_A S b2 0 p1 ∧ ∃ b5, (zs_R S 8050 p0) = some b5 ∧ zs_A S b5 1 (zs_i S b2 p1.toNatClampNeg) ∧ zs_C X d 8009 [.ref p0, .int (11 : Int32), .int p1, .int ((zs_i S b5 (zs_i S b2 p1.toNatClampNeg).toNatClampNeg) + (2 : Int32))] S (zs_kI (fun v9 S8 => (zs_K S8 p0 = some (.inl 8) ∧ ∃ b11, (zs_R S8 8059 p0) = some b11 ∧ zs_A S8 b11 0 p1 ∧ zs_C X d 8113 [.ref p0, .int v9, .int (zs_i S8 b11 p1.toNatClampNeg), .int (1 : Int32)] S8 (zs_kV (fun S14 => w_X9_givenDone_85 X d p0 p1 p2 p4 v9 S14 Q) Q))) Q))
theorem u_X9_givenDone_50 {σ : Nat → Nat} {n0 : Nat} {bf : ab_B} {d : Nat} {p0 : Nat} {p1 : Int32} {p2 : Int32} {p4 : Int32} {S : zs_T} {Q : zs_Q} (hB : zt_B bf) (h : w_X9_givenDone_50 (zx σ n0 bf) d p0 p1 p2 p4 S Q) : zs_U (zx σ n0 bf) d 8142 50 [(0, .ref p0), (1, .int p1), (2, .int p2), (4, .int p4)] [] S Q := by
  unfold w_X9_givenDone_50 at h
  refine zu_aload_n d_8142_50 rfl (zs_ra _) ?_
  refine zu_bipush d_8142_51 zj_11 ?_
  refine zu_iload_n d_8142_53 rfl ?_
  refine zu_aload_n d_8142_54 rfl (zs_ra _) ?_
  obtain ⟨k1, h⟩ := h
  refine zg_8_109 rfl d_8142_55 k1 ?_
  refine zu_aload_n d_8142_58 rfl (zs_ra _) ?_
  refine zg_8_130 rfl d_8142_59 k1 ?_
  refine zu_iload_n d_8142_62 rfl ?_
  obtain ⟨b2, e3, h⟩ := h
  refine zs_stk1 (zs_rfe e3) ?_
  obtain ⟨k4, h⟩ := h
  refine zu_iald (k := 0) d_8142_63 rfl rfl k4 ?_
  obtain ⟨b5, e6, h⟩ := h
  refine zs_stk1 (zs_rfe e6) ?_
  obtain ⟨k7, h⟩ := h
  refine zu_bald (k := 1) d_8142_64 rfl (Or.inl rfl) k7 ?_
  refine zu_iconst d_8142_65 zi_2 ?_
  refine zu_stk d_8142_66 rfl rfl ?_
  refine zc_8_599 (x0 := (11 : Int32)) (x1 := p1) (x2 := ((zs_i S b5 (zs_i S b2 p1.toNatClampNeg).toNatClampNeg) + (2 : Int32))) hB rfl k1 d_8142_67 (Nat.le_of_ble_eq_true rfl) h (fun v9 S8 h => ?_)
  refine zu_istore d_8142_70 (zs_lt zq_8142 rfl) ?_
  refine zu_aload_n d_8142_72 rfl (zs_ra _) ?_
  refine zu_iload d_8142_73 rfl ?_
  refine zu_aload_n d_8142_75 rfl (zs_ra _) ?_
  obtain ⟨k10, h⟩ := h
  refine zg_8_130 rfl d_8142_76 k10 ?_
  refine zu_iload_n d_8142_79 rfl ?_
  obtain ⟨b11, e12, h⟩ := h
  refine zs_stk1 (zs_rfe e12) ?_
  obtain ⟨k13, h⟩ := h
  refine zu_iald (k := 0) d_8142_80 rfl rfl k13 ?_
  refine zu_iconst d_8142_81 zi_1 ?_
  refine zc_8_887 (x0 := v9) (x1 := (zs_i S8 b11 p1.toNatClampNeg)) (x2 := (1 : Int32)) hB rfl k10 d_8142_82 (Nat.le_of_ble_eq_true rfl) h (fun S14 h => ?_)
  exact (u_X9_givenDone_85 hB h).weak ⟨rfl, rfl, rfl, rfl, rfl, trivial⟩
def w_X9_givenDone_32 (X : zs_X) (d : Nat) (p0 : Nat) (p1 : Int32) (p2 : Int32) (p3 : Int32) (q0 : Int32) (S : zs_T) (Q : zs_Q) : Prop :=
  (((p3 ≤ 0 → w_X9_givenDone_50 X d p0 p1 p2 q0 S Q) ∧ (¬ (p3 ≤ 0) → (((¬ q0 = 0 → w_X9_givenDone_50 X d p0 p1 p2 q0 S Q) ∧ (¬ (¬ q0 = 0) → (zs_K S p0 = some (.inl 8) ∧ ab_n0 X.1 ≤ p0 ∧ ∀ S5, S5 = zs_sI S 8040 p0 (p3 - (1 : Int32)) → w_X9_givenDone_50 X d p0 p1 p2 q0 S5 Q)))))))
theorem u_X9_givenDone_32 {σ : Nat → Nat} {n0 : Nat} {bf : ab_B} {d : Nat} {p0 : Nat} {p1 : Int32} {p2 : Int32} {p3 : Int32} {q0 : Int32} {S : zs_T} {Q : zs_Q} (hB : zt_B bf) (h : w_X9_givenDone_32 (zx σ n0 bf) d p0 p1 p2 p3 q0 S Q) : zs_U (zx σ n0 bf) d 8142 32 [(0, .ref p0), (1, .int p1), (2, .int p2), (3, .int p3)] [.int q0] S Q := by
  unfold w_X9_givenDone_32 at h
  refine zu_istore d_8142_32 (zs_lt zq_8142 rfl) ?_
  refine zu_iload_n d_8142_34 rfl ?_
  refine zu_ifle (t := 50) d_8142_35 rfl (fun c1 => ?_) (fun c1 => ?_)
  · have h := h.1 c1
    exact (u_X9_givenDone_50 hB h).weak ⟨rfl, rfl, rfl, rfl, trivial⟩
  · have h := h.2 c1
    refine zu_iload d_8142_38 rfl ?_
    refine zu_ifne (t := 50) d_8142_40 rfl (fun c2 => ?_) (fun c2 => ?_)
    · have h := h.1 c2
      exact (u_X9_givenDone_50 hB h).weak ⟨rfl, rfl, rfl, rfl, trivial⟩
    · have h := h.2 c2
      refine zu_aload_n d_8142_43 rfl (zs_ra _) ?_
      refine zu_iload_n d_8142_44 rfl ?_
      refine zu_iconst d_8142_45 zi_1 ?_
      refine zu_stk d_8142_46 rfl rfl ?_
      obtain ⟨k3, h⟩ := h
      obtain ⟨k4, h⟩ := h
      refine zp_8_556 (v := (p3 - (1 : Int32))) rfl d_8142_47 k3 k4 ?_
      generalize e6 : zs_sI S 8040 p0 (p3 - (1 : Int32)) = S5
      have h := h S5 e6.symm
      have K7 : ∀ b, zs_K S5 b = zs_K S b := zs_Kt e6 (zs_KsI _ _ _ _) (fun _ => rfl)
      exact (u_X9_givenDone_50 hB h).weak ⟨rfl, rfl, rfl, rfl, trivial⟩
def w_X9_givenDone_31 (X : zs_X) (d : Nat) (p0 : Nat) (p1 : Int32) (p2 : Int32) (p3 : Int32) (S : zs_T) (Q : zs_Q) : Prop :=
  (w_X9_givenDone_32 X d p0 p1 p2 p3 (0 : Int32) S Q)
theorem u_X9_givenDone_31 {σ : Nat → Nat} {n0 : Nat} {bf : ab_B} {d : Nat} {p0 : Nat} {p1 : Int32} {p2 : Int32} {p3 : Int32} {S : zs_T} {Q : zs_Q} (hB : zt_B bf) (h : w_X9_givenDone_31 (zx σ n0 bf) d p0 p1 p2 p3 S Q) : zs_U (zx σ n0 bf) d 8142 31 [(0, .ref p0), (1, .int p1), (2, .int p2), (3, .int p3)] [] S Q := by
  unfold w_X9_givenDone_31 at h
  refine zu_iconst d_8142_31 zi_0 ?_
  exact (u_X9_givenDone_32 hB h).weak ⟨rfl, rfl, rfl, rfl, trivial⟩
def w_X9_givenDone_200 (X : zs_X) (d : Nat) (p0 : Nat) (p5 : Int32) (S : zs_T) (Q : zs_Q) : Prop :=
  (zs_K S p0 = some (.inl 8) ∧ zs_C X d 8114 [.ref p0, .int p5] S (zs_kV (fun S2 => (Q (.returned none) S2)) Q))
theorem u_X9_givenDone_200 {σ : Nat → Nat} {n0 : Nat} {bf : ab_B} {d : Nat} {p0 : Nat} {p5 : Int32} {S : zs_T} {Q : zs_Q} (hB : zt_B bf) (h : w_X9_givenDone_200 (zx σ n0 bf) d p0 p5 S Q) : zs_U (zx σ n0 bf) d 8142 200 [(0, .ref p0), (5, .int p5)] [] S Q := by
  unfold w_X9_givenDone_200 at h
  refine zu_aload_n d_8142_200 rfl (zs_ra _) ?_
  refine zu_iload d_8142_201 rfl ?_
  obtain ⟨k1, h⟩ := h
  refine zc_8_890 (x0 := p5) hB rfl k1 d_8142_203 (Nat.le_of_ble_eq_true rfl) h (fun S2 h => ?_)
  exact zu_vret d_8142_206 zr_8142 h
def w_X9_givenDone_192 (X : zs_X) (d : Nat) (p0 : Nat) (p5 : Int32) (S : zs_T) (Q : zs_Q) : Prop :=
  (zs_K S p0 = some (.inl 8) ∧ ∃ b2, (zs_R S 8052 p0) = some b2 ∧ zs_A S b2 0 p5 ∧ ab_n0 X.1 ≤ b2 ∧ ∀ S6, S6 = zs_si S b2 p5.toNatClampNeg (-1 : Int32) → w_X9_givenDone_200 X d p0 p5 S6 Q)
theorem u_X9_givenDone_192 {σ : Nat → Nat} {n0 : Nat} {bf : ab_B} {d : Nat} {p0 : Nat} {p5 : Int32} {S : zs_T} {Q : zs_Q} (hB : zt_B bf) (h : w_X9_givenDone_192 (zx σ n0 bf) d p0 p5 S Q) : zs_U (zx σ n0 bf) d 8142 192 [(0, .ref p0), (5, .int p5)] [] S Q := by
  unfold w_X9_givenDone_192 at h
  refine zu_aload_n d_8142_192 rfl (zs_ra _) ?_
  obtain ⟨k1, h⟩ := h
  refine zg_8_115 rfl d_8142_193 k1 ?_
  refine zu_iload d_8142_196 rfl ?_
  refine zu_iconst d_8142_198 zi_m1 ?_
  obtain ⟨b2, e3, h⟩ := h
  refine zs_stk2 (zs_rfe e3) ?_
  obtain ⟨k4, h⟩ := h
  obtain ⟨k5, h⟩ := h
  refine zu_iast (k := 0) d_8142_199 rfl rfl k5 k4 ?_
  generalize e7 : zs_si S b2 p5.toNatClampNeg (-1 : Int32) = S6
  have h := h S6 e7.symm
  have K8 : ∀ b, zs_K S6 b = zs_K S b := zs_Kt e7 (zs_Ksi _ _ _ _) (fun _ => rfl)
  exact (u_X9_givenDone_200 hB h).weak ⟨rfl, rfl, trivial⟩
def w_X9_givenDone_167 (X : zs_X) (d : Nat) (p0 : Nat) (p1 : Int32) (p2 : Int32) (p5 : Int32) (p6 : Int32) (S : zs_T) (Q : zs_Q) : Prop :=
  (zs_U X d 8142 122 [(0, .ref p0), (1, .int p1), (2, .int p2), (5, .int p5), (6, .int (p6 + (1 : Int32)))] [] S Q)
theorem u_X9_givenDone_167 {σ : Nat → Nat} {n0 : Nat} {bf : ab_B} {d : Nat} {p0 : Nat} {p1 : Int32} {p2 : Int32} {p5 : Int32} {p6 : Int32} {S : zs_T} {Q : zs_Q} (hB : zt_B bf) (h : w_X9_givenDone_167 (zx σ n0 bf) d p0 p1 p2 p5 p6 S Q) : zs_U (zx σ n0 bf) d 8142 167 [(0, .ref p0), (1, .int p1), (2, .int p2), (5, .int p5), (6, .int p6)] [] S Q := by
  unfold w_X9_givenDone_167 at h
  refine zu_iinc d_8142_167 rfl zi_1 (zs_lt zq_8142 rfl) ?_
  refine zu_goto (t := 122) d_8142_170 rfl ?_
  exact h.weak ⟨rfl, rfl, rfl, rfl, rfl, trivial⟩
def w_X9_givenDone_161 (X : zs_X) (d : Nat) (p0 : Nat) (p1 : Int32) (p2 : Int32) (p5 : Int32) (p6 : Int32) (q0 : Option Nat) (q1 : Int32) (S : zs_T) (Q : zs_Q) : Prop :=
  (∃ b1, q0 = some b1 ∧ zs_A S b1 2 q1 ∧ ab_n0 X.1 ≤ b1 ∧ ∀ S5, S5 = zs_si S b1 q1.toNatClampNeg (vp_nar .boolean (1 : Int32)) → w_X9_givenDone_167 X d p0 p1 p2 p5 p6 S5 Q)
theorem u_X9_givenDone_161 {σ : Nat → Nat} {n0 : Nat} {bf : ab_B} {d : Nat} {p0 : Nat} {p1 : Int32} {p2 : Int32} {p5 : Int32} {p6 : Int32} {q0 : Option Nat} {q1 : Int32} {S : zs_T} {Q : zs_Q} (hB : zt_B bf) (h : w_X9_givenDone_161 (zx σ n0 bf) d p0 p1 p2 p5 p6 q0 q1 S Q) : zs_U (zx σ n0 bf) d 8142 161 [(0, .ref p0), (1, .int p1), (2, .int p2), (5, .int p5), (6, .int p6)] [.int q1, va_rf q0] S Q := by
  unfold w_X9_givenDone_161 at h
  refine zu_iconst d_8142_161 zi_1 ?_
  refine zu_goto (t := 166) d_8142_162 rfl ?_
  obtain ⟨b1, e2, h⟩ := h
  refine zs_stk2 (zs_rfe e2) ?_
  obtain ⟨k3, h⟩ := h
  obtain ⟨k4, h⟩ := h
  refine zu_bast_bool (k := 2) d_8142_166 rfl rfl k4 k3 ?_
  generalize e6 : zs_si S b1 q1.toNatClampNeg (vp_nar .boolean (1 : Int32)) = S5
  have h := h S5 e6.symm
  have K7 : ∀ b, zs_K S5 b = zs_K S b := zs_Kt e6 (zs_Ksi _ _ _ _) (fun _ => rfl)
  exact (u_X9_givenDone_167 hB h).weak ⟨rfl, rfl, rfl, rfl, rfl, trivial⟩
def w_X9_givenDone_122 (X : zs_X) (d : Nat) (p0 : Nat) (p1 : Int32) (p2 : Int32) (p5 : Int32) (p6 : Int32) (S : zs_T) (Q : zs_Q) : Prop :=
  (zs_K S p0 = some (.inl 8) ∧ ∃ b2, (zs_R S 8058 p0) = some b2 ∧ zs_A S b2 1 p1 ∧ (((zs_i S b2 p1.toNatClampNeg) ≤ p6 → (∃ b6, (zs_R S 8142 p0) = some b6 ∧ zs_A S b6 2 p2 ∧ (((zs_i S b6 p2.toNatClampNeg) = 0 → w_X9_givenDone_200 X d p0 p5 S Q) ∧ (¬ ((zs_i S b6 p2.toNatClampNeg) = 0) → (∃ b10, (zs_R S 8049 p0) = some b10 ∧ zs_A S b10 2 p5 ∧ ((¬ (zs_i S b10 p5.toNatClampNeg) = 0 → w_X9_givenDone_200 X d p0 p5 S Q) ∧ (¬ (¬ (zs_i S b10 p5.toNatClampNeg) = 0) → w_X9_givenDone_192 X d p0 p5 S Q))))))) ∧ (¬ ((zs_i S b2 p1.toNatClampNeg) ≤ p6) → (∃ b14, (zs_R S 8049 p0) = some b14 ∧ zs_A S b14 2 p5 ∧ ((¬ (zs_i S b14 p5.toNatClampNeg) = 0 → w_X9_givenDone_161 X d p0 p1 p2 p5 p6 (zs_R S 8049 p0) p5 S Q) ∧ (¬ (¬ (zs_i S b14 p5.toNatClampNeg) = 0) → (∃ b18, (zs_R S 8055 p0) = some b18 ∧ zs_A S b18 2 (p2 + p6) ∧ (((zs_i S b18 (p2 + p6).toNatClampNeg) = 0 → (ab_n0 X.1 ≤ b14 ∧ ∀ S23, S23 = zs_si S b14 p5.toNatClampNeg (vp_nar .boolean (0 : Int32)) → w_X9_givenDone_167 X d p0 p1 p2 p5 p6 S23 Q)) ∧ (¬ ((zs_i S b18 (p2 + p6).toNatClampNeg) = 0) → w_X9_givenDone_161 X d p0 p1 p2 p5 p6 (zs_R S 8049 p0) p5 S Q)))))))))
theorem u_X9_givenDone_122 {σ : Nat → Nat} {n0 : Nat} {bf : ab_B} {d : Nat} {p0 : Nat} {p1 : Int32} {p2 : Int32} {p5 : Int32} {p6 : Int32} {S : zs_T} {Q : zs_Q} (hB : zt_B bf) (h : w_X9_givenDone_122 (zx σ n0 bf) d p0 p1 p2 p5 p6 S Q) : zs_U (zx σ n0 bf) d 8142 122 [(0, .ref p0), (1, .int p1), (2, .int p2), (5, .int p5), (6, .int p6)] [] S Q := by
  unfold w_X9_givenDone_122 at h
  refine zu_iload d_8142_122 rfl ?_
  refine zu_aload_n d_8142_124 rfl (zs_ra _) ?_
  obtain ⟨k1, h⟩ := h
  refine zg_8_127 rfl d_8142_125 k1 ?_
  refine zu_iload_n d_8142_128 rfl ?_
  obtain ⟨b2, e3, h⟩ := h
  refine zs_stk1 (zs_rfe e3) ?_
  obtain ⟨k4, h⟩ := h
  refine zu_bald (k := 1) d_8142_129 rfl (Or.inl rfl) k4 ?_
  refine zu_cmpge (t := 173) d_8142_130 rfl (fun c5 => ?_) (fun c5 => ?_)
  · have h := h.1 c5
    refine zu_aload_n d_8142_173 rfl (zs_ra _) ?_
    refine zg_8_302 rfl d_8142_174 k1 ?_
    refine zu_iload_n d_8142_177 rfl ?_
    obtain ⟨b6, e7, h⟩ := h
    refine zs_stk1 (zs_rfe e7) ?_
    obtain ⟨k8, h⟩ := h
    refine zu_bald (k := 2) d_8142_178 rfl (Or.inr rfl) k8 ?_
    refine zu_ifeq (t := 200) d_8142_179 rfl (fun c9 => ?_) (fun c9 => ?_)
    · have h := h.1 c9
      exact (u_X9_givenDone_200 hB h).weak ⟨rfl, rfl, trivial⟩
    · have h := h.2 c9
      refine zu_aload_n d_8142_182 rfl (zs_ra _) ?_
      refine zg_8_105 rfl d_8142_183 k1 ?_
      refine zu_iload d_8142_186 rfl ?_
      obtain ⟨b10, e11, h⟩ := h
      refine zs_stk1 (zs_rfe e11) ?_
      obtain ⟨k12, h⟩ := h
      refine zu_bald (k := 2) d_8142_188 rfl (Or.inr rfl) k12 ?_
      refine zu_ifne (t := 200) d_8142_189 rfl (fun c13 => ?_) (fun c13 => ?_)
      · have h := h.1 c13
        exact (u_X9_givenDone_200 hB h).weak ⟨rfl, rfl, trivial⟩
      · have h := h.2 c13
        exact (u_X9_givenDone_192 hB h).weak ⟨rfl, rfl, trivial⟩
  · have h := h.2 c5
    refine zu_aload_n d_8142_133 rfl (zs_ra _) ?_
    refine zg_8_105 rfl d_8142_134 k1 ?_
    refine zu_iload d_8142_137 rfl ?_
    refine zu_aload_n d_8142_139 rfl (zs_ra _) ?_
    refine zg_8_105 rfl d_8142_140 k1 ?_
    refine zu_iload d_8142_143 rfl ?_
    obtain ⟨b14, e15, h⟩ := h
    refine zs_stk1 (zs_rfe e15) ?_
    obtain ⟨k16, h⟩ := h
    refine zu_bald (k := 2) d_8142_145 rfl (Or.inr rfl) k16 ?_
    refine zu_ifne (t := 161) d_8142_146 rfl (fun c17 => ?_) (fun c17 => ?_)
    · have h := h.1 c17
      exact (u_X9_givenDone_161 hB h).weak ⟨rfl, rfl, rfl, rfl, rfl, trivial⟩
    · have h := h.2 c17
      refine zu_aload_n d_8142_149 rfl (zs_ra _) ?_
      refine zg_8_121 rfl d_8142_150 k1 ?_
      refine zu_iload_n d_8142_153 rfl ?_
      refine zu_iload d_8142_154 rfl ?_
      refine zu_stk d_8142_156 rfl rfl ?_
      obtain ⟨b18, e19, h⟩ := h
      refine zs_stk1 (zs_rfe e19) ?_
      obtain ⟨k20, h⟩ := h
      refine zu_bald (k := 2) d_8142_157 rfl (Or.inr rfl) k20 ?_
      refine zu_ifeq (t := 165) d_8142_158 rfl (fun c21 => ?_) (fun c21 => ?_)
      · have h := h.1 c21
        refine zu_iconst d_8142_165 zi_0 ?_
        refine zs_stk2 (zs_rfe e15) ?_
        obtain ⟨k22, h⟩ := h
        refine zu_bast_bool (k := 2) d_8142_166 rfl rfl k22 k16 ?_
        generalize e24 : zs_si S b14 p5.toNatClampNeg (vp_nar .boolean (0 : Int32)) = S23
        have h := h S23 e24.symm
        have K25 : ∀ b, zs_K S23 b = zs_K S b := zs_Kt e24 (zs_Ksi _ _ _ _) (fun _ => rfl)
        exact (u_X9_givenDone_167 hB h).weak ⟨rfl, rfl, rfl, rfl, rfl, trivial⟩
      · have h := h.2 c21
        exact (u_X9_givenDone_161 hB h).weak ⟨rfl, rfl, rfl, rfl, rfl, trivial⟩
def w_X9_givenDone (X : zs_X) (d : Nat) (p0 : Nat) (p1 : Int32) (p2 : Int32) (p3 : Int32) (S : zs_T) (Q : zs_Q) : Prop :=
  (zs_K S p0 = some (.inl 8) ∧ zs_C X d 8028 [.ref p0, .int (9 : Int32)] S (zs_kV (fun S2 => (zs_K S2 p0 = some (.inl 8) ∧ (((zs_I S2 8010 p0) ≤ 0 → (((p3 ≤ 0 → w_X9_givenDone_31 X d p0 p1 p2 p3 S2 Q) ∧ (¬ (p3 ≤ 0) → (∃ b7, (zs_R S2 8141 p0) = some b7 ∧ zs_A S2 b7 2 p2 ∧ (((zs_i S2 b7 p2.toNatClampNeg) = 0 → w_X9_givenDone_31 X d p0 p1 p2 p3 S2 Q) ∧ (¬ ((zs_i S2 b7 p2.toNatClampNeg) = 0) → (w_X9_givenDone_32 X d p0 p1 p2 p3 (1 : Int32) S2 Q)))))))) ∧ (¬ ((zs_I S2 8010 p0) ≤ 0) → (Q (.returned none) S2))))) Q))
theorem u_X9_givenDone {σ : Nat → Nat} {n0 : Nat} {bf : ab_B} {d : Nat} {p0 : Nat} {p1 : Int32} {p2 : Int32} {p3 : Int32} {S : zs_T} {Q : zs_Q} (hB : zt_B bf) (hd : 1 ≤ d) (h : w_X9_givenDone (zx σ n0 bf) (d - 1) p0 p1 p2 p3 S Q) : zs_C (zx σ n0 bf) d 8142 [.ref p0, .int p1, .int p2, .int p3] S Q := by
  have hL : lv_args 0 [.ref p0, .int p1, .int p2, .int p3] = [(0, .ref p0), (1, .int p1), (2, .int p2), (3, .int p3)] := rfl
  refine zs_C.of1 (hB.2 8142 (by decide) (by decide)) hd (by rw [hL]; exact zs_sub_self _ (by exact ⟨rfl, rfl, rfl, rfl, trivial⟩)) ?_
  rw [hL]
  clear hL
  unfold w_X9_givenDone at h
  refine zu_aload_n d_8142_0 rfl (zs_ra _) ?_
  refine zu_bipush d_8142_1 zj_9 ?_
  obtain ⟨k1, h⟩ := h
  refine zc_8_746 (x0 := (9 : Int32)) hB rfl k1 d_8142_3 (Nat.le_of_ble_eq_true rfl) h (fun S2 h => ?_)
  refine zu_aload_n d_8142_6 rfl (zs_ra _) ?_
  obtain ⟨k4, h⟩ := h
  refine zg_8_444 rfl d_8142_7 k4 ?_
  refine zu_ifle (t := 14) d_8142_10 rfl (fun c5 => ?_) (fun c5 => ?_)
  · have h := h.1 c5
    refine zu_iload_n d_8142_14 rfl ?_
    refine zu_ifle (t := 31) d_8142_15 rfl (fun c6 => ?_) (fun c6 => ?_)
    · have h := h.1 c6
      exact (u_X9_givenDone_31 hB h).weak ⟨rfl, rfl, rfl, rfl, trivial⟩
    · have h := h.2 c6
      refine zu_aload_n d_8142_18 rfl (zs_ra _) ?_
      refine zg_8_299 rfl d_8142_19 k4 ?_
      refine zu_iload_n d_8142_22 rfl ?_
      obtain ⟨b7, e8, h⟩ := h
      refine zs_stk1 (zs_rfe e8) ?_
      obtain ⟨k9, h⟩ := h
      refine zu_bald (k := 2) d_8142_23 rfl (Or.inr rfl) k9 ?_
      refine zu_ifeq (t := 31) d_8142_24 rfl (fun c10 => ?_) (fun c10 => ?_)
      · have h := h.1 c10
        exact (u_X9_givenDone_31 hB h).weak ⟨rfl, rfl, rfl, rfl, trivial⟩
      · have h := h.2 c10
        refine zu_iconst d_8142_27 zi_1 ?_
        refine zu_goto (t := 32) d_8142_28 rfl ?_
        exact (u_X9_givenDone_32 hB h).weak ⟨rfl, rfl, rfl, rfl, trivial⟩
  · have h := h.2 c5
    exact zu_vret d_8142_13 zr_8142 h
/-! SchemaPascalModel.tellGoal(IIII)V -/
theorem zm_8143 {σ : Nat → Nat} {n0 : Nat} {bf : ab_B} : ab_code (zx σ n0 bf).1 8143 = prog_17_method_198_code := rfl
theorem zq_8143 {σ : Nat → Nat} {n0 : Nat} {bf : ab_B} : ab_maxL (zx σ n0 bf).1 8143 = 5 := rfl
theorem zr_8143 {σ : Nat → Nat} {n0 : Nat} {bf : ab_B} : ab_ret (zx σ n0 bf).1 8143 = (Option.none : Option Jvm.ClassFile.FieldType) := rfl
theorem d_8143_0 {σ : Nat → Nat} {n0 : Nat} {bf : ab_B} : decode (ab_code (zx σ n0 bf).1 8143) 0 = .ok (.iload_n 1, 1) := zd zm_8143 (by decide +kernel)
theorem d_8143_1 {σ : Nat → Nat} {n0 : Nat} {bf : ab_B} : decode (ab_code (zx σ n0 bf).1 8143) 1 = .ok (.tableswitch 194 60 70 #[59, 67, 84, 92, 109, 117, 126, 144, 155, 166, 186], 59) := zd zm_8143 (by decide +kernel)
theorem d_8143_60 {σ : Nat → Nat} {n0 : Nat} {bf : ab_B} : decode (ab_code (zx σ n0 bf).1 8143) 60 = .ok (.aload_n 0, 1) := zd zm_8143 (by decide +kernel)
theorem d_8143_61 {σ : Nat → Nat} {n0 : Nat} {bf : ab_B} : decode (ab_code (zx σ n0 bf).1 8143) 61 = .ok (.iload_n 2, 1) := zd zm_8143 (by decide +kernel)
theorem d_8143_62 {σ : Nat → Nat} {n0 : Nat} {bf : ab_B} : decode (ab_code (zx σ n0 bf).1 8143) 62 = .ok (.invokevirtual 1096, 3) := zd zm_8143 (by decide +kernel)
theorem d_8143_65 {σ : Nat → Nat} {n0 : Nat} {bf : ab_B} : decode (ab_code (zx σ n0 bf).1 8143) 65 = .ok (.goto 155, 3) := zd zm_8143 (by decide +kernel)
theorem d_8143_68 {σ : Nat → Nat} {n0 : Nat} {bf : ab_B} : decode (ab_code (zx σ n0 bf).1 8143) 68 = .ok (.aload_n 0, 1) := zd zm_8143 (by decide +kernel)
theorem d_8143_69 {σ : Nat → Nat} {n0 : Nat} {bf : ab_B} : decode (ab_code (zx σ n0 bf).1 8143) 69 = .ok (.iload_n 2, 1) := zd zm_8143 (by decide +kernel)
theorem d_8143_70 {σ : Nat → Nat} {n0 : Nat} {bf : ab_B} : decode (ab_code (zx σ n0 bf).1 8143) 70 = .ok (.iconst 1, 1) := zd zm_8143 (by decide +kernel)
theorem d_8143_71 {σ : Nat → Nat} {n0 : Nat} {bf : ab_B} : decode (ab_code (zx σ n0 bf).1 8143) 71 = .ok (.if_icmp .ne 7, 3) := zd zm_8143 (by decide +kernel)
theorem d_8143_74 {σ : Nat → Nat} {n0 : Nat} {bf : ab_B} : decode (ab_code (zx σ n0 bf).1 8143) 74 = .ok (.iconst 1, 1) := zd zm_8143 (by decide +kernel)
theorem d_8143_75 {σ : Nat → Nat} {n0 : Nat} {bf : ab_B} : decode (ab_code (zx σ n0 bf).1 8143) 75 = .ok (.goto 4, 3) := zd zm_8143 (by decide +kernel)
theorem d_8143_78 {σ : Nat → Nat} {n0 : Nat} {bf : ab_B} : decode (ab_code (zx σ n0 bf).1 8143) 78 = .ok (.iconst 0, 1) := zd zm_8143 (by decide +kernel)
theorem d_8143_79 {σ : Nat → Nat} {n0 : Nat} {bf : ab_B} : decode (ab_code (zx σ n0 bf).1 8143) 79 = .ok (.invokevirtual 1099, 3) := zd zm_8143 (by decide +kernel)
theorem d_8143_82 {σ : Nat → Nat} {n0 : Nat} {bf : ab_B} : decode (ab_code (zx σ n0 bf).1 8143) 82 = .ok (.goto 138, 3) := zd zm_8143 (by decide +kernel)
theorem d_8143_85 {σ : Nat → Nat} {n0 : Nat} {bf : ab_B} : decode (ab_code (zx σ n0 bf).1 8143) 85 = .ok (.aload_n 0, 1) := zd zm_8143 (by decide +kernel)
theorem d_8143_86 {σ : Nat → Nat} {n0 : Nat} {bf : ab_B} : decode (ab_code (zx σ n0 bf).1 8143) 86 = .ok (.iload_n 2, 1) := zd zm_8143 (by decide +kernel)
theorem d_8143_87 {σ : Nat → Nat} {n0 : Nat} {bf : ab_B} : decode (ab_code (zx σ n0 bf).1 8143) 87 = .ok (.invokevirtual 1102, 3) := zd zm_8143 (by decide +kernel)
theorem d_8143_90 {σ : Nat → Nat} {n0 : Nat} {bf : ab_B} : decode (ab_code (zx σ n0 bf).1 8143) 90 = .ok (.goto 130, 3) := zd zm_8143 (by decide +kernel)
theorem d_8143_93 {σ : Nat → Nat} {n0 : Nat} {bf : ab_B} : decode (ab_code (zx σ n0 bf).1 8143) 93 = .ok (.aload_n 0, 1) := zd zm_8143 (by decide +kernel)
theorem d_8143_94 {σ : Nat → Nat} {n0 : Nat} {bf : ab_B} : decode (ab_code (zx σ n0 bf).1 8143) 94 = .ok (.iload_n 2, 1) := zd zm_8143 (by decide +kernel)
theorem d_8143_95 {σ : Nat → Nat} {n0 : Nat} {bf : ab_B} : decode (ab_code (zx σ n0 bf).1 8143) 95 = .ok (.iconst 1, 1) := zd zm_8143 (by decide +kernel)
theorem d_8143_96 {σ : Nat → Nat} {n0 : Nat} {bf : ab_B} : decode (ab_code (zx σ n0 bf).1 8143) 96 = .ok (.if_icmp .ne 7, 3) := zd zm_8143 (by decide +kernel)
theorem d_8143_99 {σ : Nat → Nat} {n0 : Nat} {bf : ab_B} : decode (ab_code (zx σ n0 bf).1 8143) 99 = .ok (.iconst 1, 1) := zd zm_8143 (by decide +kernel)
theorem d_8143_100 {σ : Nat → Nat} {n0 : Nat} {bf : ab_B} : decode (ab_code (zx σ n0 bf).1 8143) 100 = .ok (.goto 4, 3) := zd zm_8143 (by decide +kernel)
theorem d_8143_103 {σ : Nat → Nat} {n0 : Nat} {bf : ab_B} : decode (ab_code (zx σ n0 bf).1 8143) 103 = .ok (.iconst 0, 1) := zd zm_8143 (by decide +kernel)
theorem d_8143_104 {σ : Nat → Nat} {n0 : Nat} {bf : ab_B} : decode (ab_code (zx σ n0 bf).1 8143) 104 = .ok (.invokevirtual 1105, 3) := zd zm_8143 (by decide +kernel)
theorem d_8143_107 {σ : Nat → Nat} {n0 : Nat} {bf : ab_B} : decode (ab_code (zx σ n0 bf).1 8143) 107 = .ok (.goto 113, 3) := zd zm_8143 (by decide +kernel)
theorem d_8143_110 {σ : Nat → Nat} {n0 : Nat} {bf : ab_B} : decode (ab_code (zx σ n0 bf).1 8143) 110 = .ok (.aload_n 0, 1) := zd zm_8143 (by decide +kernel)
theorem d_8143_111 {σ : Nat → Nat} {n0 : Nat} {bf : ab_B} : decode (ab_code (zx σ n0 bf).1 8143) 111 = .ok (.iload_n 2, 1) := zd zm_8143 (by decide +kernel)
theorem d_8143_112 {σ : Nat → Nat} {n0 : Nat} {bf : ab_B} : decode (ab_code (zx σ n0 bf).1 8143) 112 = .ok (.invokevirtual 1108, 3) := zd zm_8143 (by decide +kernel)
theorem d_8143_115 {σ : Nat → Nat} {n0 : Nat} {bf : ab_B} : decode (ab_code (zx σ n0 bf).1 8143) 115 = .ok (.goto 105, 3) := zd zm_8143 (by decide +kernel)
theorem d_8143_118 {σ : Nat → Nat} {n0 : Nat} {bf : ab_B} : decode (ab_code (zx σ n0 bf).1 8143) 118 = .ok (.aload_n 0, 1) := zd zm_8143 (by decide +kernel)
theorem d_8143_119 {σ : Nat → Nat} {n0 : Nat} {bf : ab_B} : decode (ab_code (zx σ n0 bf).1 8143) 119 = .ok (.iload_n 2, 1) := zd zm_8143 (by decide +kernel)
theorem d_8143_120 {σ : Nat → Nat} {n0 : Nat} {bf : ab_B} : decode (ab_code (zx σ n0 bf).1 8143) 120 = .ok (.iload_n 3, 1) := zd zm_8143 (by decide +kernel)
theorem d_8143_121 {σ : Nat → Nat} {n0 : Nat} {bf : ab_B} : decode (ab_code (zx σ n0 bf).1 8143) 121 = .ok (.invokevirtual 1111, 3) := zd zm_8143 (by decide +kernel)
theorem d_8143_124 {σ : Nat → Nat} {n0 : Nat} {bf : ab_B} : decode (ab_code (zx σ n0 bf).1 8143) 124 = .ok (.goto 96, 3) := zd zm_8143 (by decide +kernel)
theorem d_8143_127 {σ : Nat → Nat} {n0 : Nat} {bf : ab_B} : decode (ab_code (zx σ n0 bf).1 8143) 127 = .ok (.aload_n 0, 1) := zd zm_8143 (by decide +kernel)
theorem d_8143_128 {σ : Nat → Nat} {n0 : Nat} {bf : ab_B} : decode (ab_code (zx σ n0 bf).1 8143) 128 = .ok (.iload_n 2, 1) := zd zm_8143 (by decide +kernel)
theorem d_8143_129 {σ : Nat → Nat} {n0 : Nat} {bf : ab_B} : decode (ab_code (zx σ n0 bf).1 8143) 129 = .ok (.iconst 1, 1) := zd zm_8143 (by decide +kernel)
theorem d_8143_130 {σ : Nat → Nat} {n0 : Nat} {bf : ab_B} : decode (ab_code (zx σ n0 bf).1 8143) 130 = .ok (.if_icmp .ne 7, 3) := zd zm_8143 (by decide +kernel)
theorem d_8143_133 {σ : Nat → Nat} {n0 : Nat} {bf : ab_B} : decode (ab_code (zx σ n0 bf).1 8143) 133 = .ok (.iconst 1, 1) := zd zm_8143 (by decide +kernel)
theorem d_8143_134 {σ : Nat → Nat} {n0 : Nat} {bf : ab_B} : decode (ab_code (zx σ n0 bf).1 8143) 134 = .ok (.goto 4, 3) := zd zm_8143 (by decide +kernel)
theorem d_8143_137 {σ : Nat → Nat} {n0 : Nat} {bf : ab_B} : decode (ab_code (zx σ n0 bf).1 8143) 137 = .ok (.iconst 0, 1) := zd zm_8143 (by decide +kernel)
theorem d_8143_138 {σ : Nat → Nat} {n0 : Nat} {bf : ab_B} : decode (ab_code (zx σ n0 bf).1 8143) 138 = .ok (.iload_n 3, 1) := zd zm_8143 (by decide +kernel)
theorem d_8143_139 {σ : Nat → Nat} {n0 : Nat} {bf : ab_B} : decode (ab_code (zx σ n0 bf).1 8143) 139 = .ok (.invokevirtual 1114, 3) := zd zm_8143 (by decide +kernel)
theorem d_8143_142 {σ : Nat → Nat} {n0 : Nat} {bf : ab_B} : decode (ab_code (zx σ n0 bf).1 8143) 142 = .ok (.goto 78, 3) := zd zm_8143 (by decide +kernel)
theorem d_8143_145 {σ : Nat → Nat} {n0 : Nat} {bf : ab_B} : decode (ab_code (zx σ n0 bf).1 8143) 145 = .ok (.aload_n 0, 1) := zd zm_8143 (by decide +kernel)
theorem d_8143_146 {σ : Nat → Nat} {n0 : Nat} {bf : ab_B} : decode (ab_code (zx σ n0 bf).1 8143) 146 = .ok (.iload_n 2, 1) := zd zm_8143 (by decide +kernel)
theorem d_8143_147 {σ : Nat → Nat} {n0 : Nat} {bf : ab_B} : decode (ab_code (zx σ n0 bf).1 8143) 147 = .ok (.iload_n 3, 1) := zd zm_8143 (by decide +kernel)
theorem d_8143_148 {σ : Nat → Nat} {n0 : Nat} {bf : ab_B} : decode (ab_code (zx σ n0 bf).1 8143) 148 = .ok (.iload 4, 2) := zd zm_8143 (by decide +kernel)
theorem d_8143_150 {σ : Nat → Nat} {n0 : Nat} {bf : ab_B} : decode (ab_code (zx σ n0 bf).1 8143) 150 = .ok (.invokevirtual 1118, 3) := zd zm_8143 (by decide +kernel)
theorem d_8143_153 {σ : Nat → Nat} {n0 : Nat} {bf : ab_B} : decode (ab_code (zx σ n0 bf).1 8143) 153 = .ok (.goto 67, 3) := zd zm_8143 (by decide +kernel)
theorem d_8143_156 {σ : Nat → Nat} {n0 : Nat} {bf : ab_B} : decode (ab_code (zx σ n0 bf).1 8143) 156 = .ok (.aload_n 0, 1) := zd zm_8143 (by decide +kernel)
theorem d_8143_157 {σ : Nat → Nat} {n0 : Nat} {bf : ab_B} : decode (ab_code (zx σ n0 bf).1 8143) 157 = .ok (.iload_n 2, 1) := zd zm_8143 (by decide +kernel)
theorem d_8143_158 {σ : Nat → Nat} {n0 : Nat} {bf : ab_B} : decode (ab_code (zx σ n0 bf).1 8143) 158 = .ok (.iload_n 3, 1) := zd zm_8143 (by decide +kernel)
theorem d_8143_159 {σ : Nat → Nat} {n0 : Nat} {bf : ab_B} : decode (ab_code (zx σ n0 bf).1 8143) 159 = .ok (.iload 4, 2) := zd zm_8143 (by decide +kernel)
theorem d_8143_161 {σ : Nat → Nat} {n0 : Nat} {bf : ab_B} : decode (ab_code (zx σ n0 bf).1 8143) 161 = .ok (.invokevirtual 1121, 3) := zd zm_8143 (by decide +kernel)
theorem d_8143_164 {σ : Nat → Nat} {n0 : Nat} {bf : ab_B} : decode (ab_code (zx σ n0 bf).1 8143) 164 = .ok (.goto 56, 3) := zd zm_8143 (by decide +kernel)
theorem d_8143_167 {σ : Nat → Nat} {n0 : Nat} {bf : ab_B} : decode (ab_code (zx σ n0 bf).1 8143) 167 = .ok (.aload_n 0, 1) := zd zm_8143 (by decide +kernel)
theorem d_8143_168 {σ : Nat → Nat} {n0 : Nat} {bf : ab_B} : decode (ab_code (zx σ n0 bf).1 8143) 168 = .ok (.iload_n 2, 1) := zd zm_8143 (by decide +kernel)
theorem d_8143_169 {σ : Nat → Nat} {n0 : Nat} {bf : ab_B} : decode (ab_code (zx σ n0 bf).1 8143) 169 = .ok (.iload_n 3, 1) := zd zm_8143 (by decide +kernel)
theorem d_8143_170 {σ : Nat → Nat} {n0 : Nat} {bf : ab_B} : decode (ab_code (zx σ n0 bf).1 8143) 170 = .ok (.iload 4, 2) := zd zm_8143 (by decide +kernel)
theorem d_8143_172 {σ : Nat → Nat} {n0 : Nat} {bf : ab_B} : decode (ab_code (zx σ n0 bf).1 8143) 172 = .ok (.iconst 1, 1) := zd zm_8143 (by decide +kernel)
theorem d_8143_173 {σ : Nat → Nat} {n0 : Nat} {bf : ab_B} : decode (ab_code (zx σ n0 bf).1 8143) 173 = .ok (.if_icmp .ne 7, 3) := zd zm_8143 (by decide +kernel)
theorem d_8143_176 {σ : Nat → Nat} {n0 : Nat} {bf : ab_B} : decode (ab_code (zx σ n0 bf).1 8143) 176 = .ok (.iconst 1, 1) := zd zm_8143 (by decide +kernel)
theorem d_8143_177 {σ : Nat → Nat} {n0 : Nat} {bf : ab_B} : decode (ab_code (zx σ n0 bf).1 8143) 177 = .ok (.goto 4, 3) := zd zm_8143 (by decide +kernel)
theorem d_8143_180 {σ : Nat → Nat} {n0 : Nat} {bf : ab_B} : decode (ab_code (zx σ n0 bf).1 8143) 180 = .ok (.iconst 0, 1) := zd zm_8143 (by decide +kernel)
theorem d_8143_181 {σ : Nat → Nat} {n0 : Nat} {bf : ab_B} : decode (ab_code (zx σ n0 bf).1 8143) 181 = .ok (.invokevirtual 1124, 3) := zd zm_8143 (by decide +kernel)
theorem d_8143_184 {σ : Nat → Nat} {n0 : Nat} {bf : ab_B} : decode (ab_code (zx σ n0 bf).1 8143) 184 = .ok (.goto 36, 3) := zd zm_8143 (by decide +kernel)
theorem d_8143_187 {σ : Nat → Nat} {n0 : Nat} {bf : ab_B} : decode (ab_code (zx σ n0 bf).1 8143) 187 = .ok (.aload_n 0, 1) := zd zm_8143 (by decide +kernel)
theorem d_8143_188 {σ : Nat → Nat} {n0 : Nat} {bf : ab_B} : decode (ab_code (zx σ n0 bf).1 8143) 188 = .ok (.iload_n 2, 1) := zd zm_8143 (by decide +kernel)
theorem d_8143_189 {σ : Nat → Nat} {n0 : Nat} {bf : ab_B} : decode (ab_code (zx σ n0 bf).1 8143) 189 = .ok (.invokevirtual 1127, 3) := zd zm_8143 (by decide +kernel)
theorem d_8143_192 {σ : Nat → Nat} {n0 : Nat} {bf : ab_B} : decode (ab_code (zx σ n0 bf).1 8143) 192 = .ok (.goto 28, 3) := zd zm_8143 (by decide +kernel)
theorem d_8143_195 {σ : Nat → Nat} {n0 : Nat} {bf : ab_B} : decode (ab_code (zx σ n0 bf).1 8143) 195 = .ok (.aload_n 0, 1) := zd zm_8143 (by decide +kernel)
theorem d_8143_196 {σ : Nat → Nat} {n0 : Nat} {bf : ab_B} : decode (ab_code (zx σ n0 bf).1 8143) 196 = .ok (.bipush 16, 2) := zd zm_8143 (by decide +kernel)
theorem d_8143_198 {σ : Nat → Nat} {n0 : Nat} {bf : ab_B} : decode (ab_code (zx σ n0 bf).1 8143) 198 = .ok (.invokevirtual 746, 3) := zd zm_8143 (by decide +kernel)
theorem d_8143_201 {σ : Nat → Nat} {n0 : Nat} {bf : ab_B} : decode (ab_code (zx σ n0 bf).1 8143) 201 = .ok (.aload_n 0, 1) := zd zm_8143 (by decide +kernel)
theorem d_8143_202 {σ : Nat → Nat} {n0 : Nat} {bf : ab_B} : decode (ab_code (zx σ n0 bf).1 8143) 202 = .ok (.getfield 444, 3) := zd zm_8143 (by decide +kernel)
theorem d_8143_205 {σ : Nat → Nat} {n0 : Nat} {bf : ab_B} : decode (ab_code (zx σ n0 bf).1 8143) 205 = .ok (.ifCond .ne 15, 3) := zd zm_8143 (by decide +kernel)
theorem d_8143_208 {σ : Nat → Nat} {n0 : Nat} {bf : ab_B} : decode (ab_code (zx σ n0 bf).1 8143) 208 = .ok (.aload_n 0, 1) := zd zm_8143 (by decide +kernel)
theorem d_8143_209 {σ : Nat → Nat} {n0 : Nat} {bf : ab_B} : decode (ab_code (zx σ n0 bf).1 8143) 209 = .ok (.getfield 484, 3) := zd zm_8143 (by decide +kernel)
theorem d_8143_212 {σ : Nat → Nat} {n0 : Nat} {bf : ab_B} : decode (ab_code (zx σ n0 bf).1 8143) 212 = .ok (.ifCond .eq 8, 3) := zd zm_8143 (by decide +kernel)
theorem d_8143_215 {σ : Nat → Nat} {n0 : Nat} {bf : ab_B} : decode (ab_code (zx σ n0 bf).1 8143) 215 = .ok (.aload_n 0, 1) := zd zm_8143 (by decide +kernel)
theorem d_8143_216 {σ : Nat → Nat} {n0 : Nat} {bf : ab_B} : decode (ab_code (zx σ n0 bf).1 8143) 216 = .ok (.iconst 2, 1) := zd zm_8143 (by decide +kernel)
theorem d_8143_217 {σ : Nat → Nat} {n0 : Nat} {bf : ab_B} : decode (ab_code (zx σ n0 bf).1 8143) 217 = .ok (.invokevirtual 541, 3) := zd zm_8143 (by decide +kernel)
theorem d_8143_220 {σ : Nat → Nat} {n0 : Nat} {bf : ab_B} : decode (ab_code (zx σ n0 bf).1 8143) 220 = .ok (.return_, 1) := zd zm_8143 (by decide +kernel)
def w_X9_tellGoal_79 (X : zs_X) (d : Nat) (q0 : Option Nat) (q1 : Int32) (S : zs_T) (Q : zs_Q) : Prop :=
  (∃ b1, q0 = some b1 ∧ zs_K S b1 = some (.inl 8) ∧ zs_C X d 8150 [.ref b1, .int q1] S (zs_kV (fun S4 => (Q (.returned none) S4)) Q))
theorem u_X9_tellGoal_79 {σ : Nat → Nat} {n0 : Nat} {bf : ab_B} {d : Nat} {q0 : Option Nat} {q1 : Int32} {S : zs_T} {Q : zs_Q} (hB : zt_B bf) (h : w_X9_tellGoal_79 (zx σ n0 bf) d q0 q1 S Q) : zs_U (zx σ n0 bf) d 8143 79 [] [.int q1, va_rf q0] S Q := by
  unfold w_X9_tellGoal_79 at h
  obtain ⟨b1, e2, h⟩ := h
  refine zs_stk1 (zs_rfe e2) ?_
  obtain ⟨k3, h⟩ := h
  refine zc_8_1099 (x0 := q1) hB rfl k3 d_8143_79 (Nat.le_of_ble_eq_true rfl) h (fun S4 h => ?_)
  refine zu_goto (t := 220) d_8143_82 rfl ?_
  exact zu_vret d_8143_220 zr_8143 h
def w_X9_tellGoal_104 (X : zs_X) (d : Nat) (q0 : Option Nat) (q1 : Int32) (S : zs_T) (Q : zs_Q) : Prop :=
  (∃ b1, q0 = some b1 ∧ zs_K S b1 = some (.inl 8) ∧ zs_C X d 8153 [.ref b1, .int q1] S (zs_kV (fun S4 => (Q (.returned none) S4)) Q))
theorem u_X9_tellGoal_104 {σ : Nat → Nat} {n0 : Nat} {bf : ab_B} {d : Nat} {q0 : Option Nat} {q1 : Int32} {S : zs_T} {Q : zs_Q} (hB : zt_B bf) (h : w_X9_tellGoal_104 (zx σ n0 bf) d q0 q1 S Q) : zs_U (zx σ n0 bf) d 8143 104 [] [.int q1, va_rf q0] S Q := by
  unfold w_X9_tellGoal_104 at h
  obtain ⟨b1, e2, h⟩ := h
  refine zs_stk1 (zs_rfe e2) ?_
  obtain ⟨k3, h⟩ := h
  refine zc_8_1105 (x0 := q1) hB rfl k3 d_8143_104 (Nat.le_of_ble_eq_true rfl) h (fun S4 h => ?_)
  refine zu_goto (t := 220) d_8143_107 rfl ?_
  exact zu_vret d_8143_220 zr_8143 h
def w_X9_tellGoal_138 (X : zs_X) (d : Nat) (p3 : Int32) (q0 : Option Nat) (q1 : Int32) (S : zs_T) (Q : zs_Q) : Prop :=
  (∃ b1, q0 = some b1 ∧ zs_K S b1 = some (.inl 8) ∧ zs_C X d 8159 [.ref b1, .int q1, .int p3] S (zs_kV (fun S4 => (Q (.returned none) S4)) Q))
theorem u_X9_tellGoal_138 {σ : Nat → Nat} {n0 : Nat} {bf : ab_B} {d : Nat} {p3 : Int32} {q0 : Option Nat} {q1 : Int32} {S : zs_T} {Q : zs_Q} (hB : zt_B bf) (h : w_X9_tellGoal_138 (zx σ n0 bf) d p3 q0 q1 S Q) : zs_U (zx σ n0 bf) d 8143 138 [(3, .int p3)] [.int q1, va_rf q0] S Q := by
  unfold w_X9_tellGoal_138 at h
  refine zu_iload_n d_8143_138 rfl ?_
  obtain ⟨b1, e2, h⟩ := h
  refine zs_stk2 (zs_rfe e2) ?_
  obtain ⟨k3, h⟩ := h
  refine zc_8_1114 (x0 := q1) (x1 := p3) hB rfl k3 d_8143_139 (Nat.le_of_ble_eq_true rfl) h (fun S4 h => ?_)
  refine zu_goto (t := 220) d_8143_142 rfl ?_
  exact zu_vret d_8143_220 zr_8143 h
def w_X9_tellGoal_181 (X : zs_X) (d : Nat) (q0 : Option Nat) (q1 : Int32) (q2 : Int32) (q3 : Int32) (S : zs_T) (Q : zs_Q) : Prop :=
  (∃ b1, q0 = some b1 ∧ zs_K S b1 = some (.inl 8) ∧ zs_C X d 8164 [.ref b1, .int q1, .int q2, .int q3] S (zs_kV (fun S4 => (Q (.returned none) S4)) Q))
theorem u_X9_tellGoal_181 {σ : Nat → Nat} {n0 : Nat} {bf : ab_B} {d : Nat} {q0 : Option Nat} {q1 : Int32} {q2 : Int32} {q3 : Int32} {S : zs_T} {Q : zs_Q} (hB : zt_B bf) (h : w_X9_tellGoal_181 (zx σ n0 bf) d q0 q1 q2 q3 S Q) : zs_U (zx σ n0 bf) d 8143 181 [] [.int q3, .int q2, .int q1, va_rf q0] S Q := by
  unfold w_X9_tellGoal_181 at h
  obtain ⟨b1, e2, h⟩ := h
  refine zs_stk3 (zs_rfe e2) ?_
  obtain ⟨k3, h⟩ := h
  refine zc_8_1124 (x0 := q1) (x1 := q2) (x2 := q3) hB rfl k3 d_8143_181 (Nat.le_of_ble_eq_true rfl) h (fun S4 h => ?_)
  refine zu_goto (t := 220) d_8143_184 rfl ?_
  exact zu_vret d_8143_220 zr_8143 h
def w_X9_tellGoal (X : zs_X) (d : Nat) (p0 : Nat) (p1 : Int32) (p2 : Int32) (p3 : Int32) (p4 : Int32) (S : zs_T) (Q : zs_Q) : Prop :=
  (((p1.toInt < 60 ∨ 70 < p1.toInt → (zs_K S p0 = some (.inl 8) ∧ zs_C X d 8028 [.ref p0, .int (16 : Int32)] S (zs_kV (fun S3 => (zs_K S3 p0 = some (.inl 8) ∧ ((¬ (zs_I S3 8010 p0) = 0 → (Q (.returned none) S3)) ∧ (¬ (¬ (zs_I S3 8010 p0) = 0) → ((((zs_I S3 8006 p0) = 0 → (Q (.returned none) S3)) ∧ (¬ ((zs_I S3 8006 p0) = 0) → (zs_C X d 8027 [.ref p0, .int (2 : Int32)] S3 (zs_kV (fun S8 => (Q (.returned none) S8)) Q))))))))) Q))) ∧ (p1.toInt = 60 → (zs_K S p0 = some (.inl 8) ∧ zs_C X d 8144 [.ref p0, .int p2] S (zs_kV (fun S11 => (Q (.returned none) S11)) Q))) ∧ (p1.toInt = 61 → (((¬ p2 = (1 : Int32) → (w_X9_tellGoal_79 X d (some p0) (0 : Int32) S Q)) ∧ (¬ (¬ p2 = (1 : Int32)) → (w_X9_tellGoal_79 X d (some p0) (1 : Int32) S Q))))) ∧ (p1.toInt = 62 → (zs_K S p0 = some (.inl 8) ∧ zs_C X d 8152 [.ref p0, .int p2] S (zs_kV (fun S15 => (Q (.returned none) S15)) Q))) ∧ (p1.toInt = 63 → (((¬ p2 = (1 : Int32) → (w_X9_tellGoal_104 X d (some p0) (0 : Int32) S Q)) ∧ (¬ (¬ p2 = (1 : Int32)) → (w_X9_tellGoal_104 X d (some p0) (1 : Int32) S Q))))) ∧ (p1.toInt = 64 → (zs_K S p0 = some (.inl 8) ∧ zs_C X d 8156 [.ref p0, .int p2] S (zs_kV (fun S19 => (Q (.returned none) S19)) Q))) ∧ (p1.toInt = 65 → (zs_K S p0 = some (.inl 8) ∧ zs_C X d 8158 [.ref p0, .int p2, .int p3] S (zs_kV (fun S22 => (Q (.returned none) S22)) Q))) ∧ (p1.toInt = 66 → (((¬ p2 = (1 : Int32) → (w_X9_tellGoal_138 X d p3 (some p0) (0 : Int32) S Q)) ∧ (¬ (¬ p2 = (1 : Int32)) → (w_X9_tellGoal_138 X d p3 (some p0) (1 : Int32) S Q))))) ∧ (p1.toInt = 67 → (zs_K S p0 = some (.inl 8) ∧ zs_C X d 8161 [.ref p0, .int p2, .int p3, .int p4] S (zs_kV (fun S26 => (Q (.returned none) S26)) Q))) ∧ (p1.toInt = 68 → (zs_K S p0 = some (.inl 8) ∧ zs_C X d 8163 [.ref p0, .int p2, .int p3, .int p4] S (zs_kV (fun S29 => (Q (.returned none) S29)) Q))) ∧ (p1.toInt = 69 → (((¬ p4 = (1 : Int32) → (w_X9_tellGoal_181 X d (some p0) p2 p3 (0 : Int32) S Q)) ∧ (¬ (¬ p4 = (1 : Int32)) → (w_X9_tellGoal_181 X d (some p0) p2 p3 (1 : Int32) S Q))))) ∧ (p1.toInt = 70 → (zs_K S p0 = some (.inl 8) ∧ zs_C X d 8165 [.ref p0, .int p2] S (zs_kV (fun S33 => (Q (.returned none) S33)) Q)))))
theorem u_X9_tellGoal {σ : Nat → Nat} {n0 : Nat} {bf : ab_B} {d : Nat} {p0 : Nat} {p1 : Int32} {p2 : Int32} {p3 : Int32} {p4 : Int32} {S : zs_T} {Q : zs_Q} (hB : zt_B bf) (hd : 1 ≤ d) (h : w_X9_tellGoal (zx σ n0 bf) (d - 1) p0 p1 p2 p3 p4 S Q) : zs_C (zx σ n0 bf) d 8143 [.ref p0, .int p1, .int p2, .int p3, .int p4] S Q := by
  have hL : lv_args 0 [.ref p0, .int p1, .int p2, .int p3, .int p4] = [(0, .ref p0), (1, .int p1), (2, .int p2), (3, .int p3), (4, .int p4)] := rfl
  refine zs_C.of1 (hB.2 8143 (by decide) (by decide)) hd (by rw [hL]; exact zs_sub_self _ (by exact ⟨rfl, rfl, rfl, rfl, rfl, trivial⟩)) ?_
  rw [hL]
  clear hL
  unfold w_X9_tellGoal at h
  refine zu_iload_n d_8143_0 rfl ?_
  refine zu_tsw (td := 195) d_8143_1 (by decide) rfl (fun c1 => ?_) ⟨fun c1 => ⟨by decide, ?_⟩, fun c1 => ⟨by decide, ?_⟩, fun c1 => ⟨by decide, ?_⟩, fun c1 => ⟨by decide, ?_⟩, fun c1 => ⟨by decide, ?_⟩, fun c1 => ⟨by decide, ?_⟩, fun c1 => ⟨by decide, ?_⟩, fun c1 => ⟨by decide, ?_⟩, fun c1 => ⟨by decide, ?_⟩, fun c1 => ⟨by decide, ?_⟩, fun c1 => ⟨by decide, ?_⟩, trivial⟩
  · have h := h.1 c1
    refine zu_aload_n d_8143_195 rfl (zs_ra _) ?_
    refine zu_bipush d_8143_196 zj_16 ?_
    obtain ⟨k2, h⟩ := h
    refine zc_8_746 (x0 := (16 : Int32)) hB rfl k2 d_8143_198 (Nat.le_of_ble_eq_true rfl) h (fun S3 h => ?_)
    refine zu_aload_n d_8143_201 rfl (zs_ra _) ?_
    obtain ⟨k5, h⟩ := h
    refine zg_8_444 rfl d_8143_202 k5 ?_
    refine zu_ifne (t := 220) d_8143_205 rfl (fun c6 => ?_) (fun c6 => ?_)
    · have h := h.1 c6
      exact zu_vret d_8143_220 zr_8143 h
    · have h := h.2 c6
      refine zu_aload_n d_8143_208 rfl (zs_ra _) ?_
      refine zg_8_484 rfl d_8143_209 k5 ?_
      refine zu_ifeq (t := 220) d_8143_212 rfl (fun c7 => ?_) (fun c7 => ?_)
      · have h := h.1 c7
        exact zu_vret d_8143_220 zr_8143 h
      · have h := h.2 c7
        refine zu_aload_n d_8143_215 rfl (zs_ra _) ?_
        refine zu_iconst d_8143_216 zi_2 ?_
        refine zc_8_541 (x0 := (2 : Int32)) hB rfl k5 d_8143_217 (Nat.le_of_ble_eq_true rfl) h (fun S8 h => ?_)
        exact zu_vret d_8143_220 zr_8143 h
  · have h := h.2.1 c1
    show zs_U _ _ _ 60 _ _ _ _
    refine zu_aload_n d_8143_60 rfl (zs_ra _) ?_
    refine zu_iload_n d_8143_61 rfl ?_
    obtain ⟨k10, h⟩ := h
    refine zc_8_1096 (x0 := p2) hB rfl k10 d_8143_62 (Nat.le_of_ble_eq_true rfl) h (fun S11 h => ?_)
    refine zu_goto (t := 220) d_8143_65 rfl ?_
    exact zu_vret d_8143_220 zr_8143 h
  · have h := h.2.2.1 c1
    show zs_U _ _ _ 68 _ _ _ _
    refine zu_aload_n d_8143_68 rfl (zs_ra _) ?_
    refine zu_iload_n d_8143_69 rfl ?_
    refine zu_iconst d_8143_70 zi_1 ?_
    refine zu_cmpne (t := 78) d_8143_71 rfl (fun c13 => ?_) (fun c13 => ?_)
    · have h := h.1 c13
      refine zu_iconst d_8143_78 zi_0 ?_
      exact (u_X9_tellGoal_79 hB h).weak trivial
    · have h := h.2 c13
      refine zu_iconst d_8143_74 zi_1 ?_
      refine zu_goto (t := 79) d_8143_75 rfl ?_
      exact (u_X9_tellGoal_79 hB h).weak trivial
  · have h := h.2.2.2.1 c1
    show zs_U _ _ _ 85 _ _ _ _
    refine zu_aload_n d_8143_85 rfl (zs_ra _) ?_
    refine zu_iload_n d_8143_86 rfl ?_
    obtain ⟨k14, h⟩ := h
    refine zc_8_1102 (x0 := p2) hB rfl k14 d_8143_87 (Nat.le_of_ble_eq_true rfl) h (fun S15 h => ?_)
    refine zu_goto (t := 220) d_8143_90 rfl ?_
    exact zu_vret d_8143_220 zr_8143 h
  · have h := h.2.2.2.2.1 c1
    show zs_U _ _ _ 93 _ _ _ _
    refine zu_aload_n d_8143_93 rfl (zs_ra _) ?_
    refine zu_iload_n d_8143_94 rfl ?_
    refine zu_iconst d_8143_95 zi_1 ?_
    refine zu_cmpne (t := 103) d_8143_96 rfl (fun c17 => ?_) (fun c17 => ?_)
    · have h := h.1 c17
      refine zu_iconst d_8143_103 zi_0 ?_
      exact (u_X9_tellGoal_104 hB h).weak trivial
    · have h := h.2 c17
      refine zu_iconst d_8143_99 zi_1 ?_
      refine zu_goto (t := 104) d_8143_100 rfl ?_
      exact (u_X9_tellGoal_104 hB h).weak trivial
  · have h := h.2.2.2.2.2.1 c1
    show zs_U _ _ _ 110 _ _ _ _
    refine zu_aload_n d_8143_110 rfl (zs_ra _) ?_
    refine zu_iload_n d_8143_111 rfl ?_
    obtain ⟨k18, h⟩ := h
    refine zc_8_1108 (x0 := p2) hB rfl k18 d_8143_112 (Nat.le_of_ble_eq_true rfl) h (fun S19 h => ?_)
    refine zu_goto (t := 220) d_8143_115 rfl ?_
    exact zu_vret d_8143_220 zr_8143 h
  · have h := h.2.2.2.2.2.2.1 c1
    show zs_U _ _ _ 118 _ _ _ _
    refine zu_aload_n d_8143_118 rfl (zs_ra _) ?_
    refine zu_iload_n d_8143_119 rfl ?_
    refine zu_iload_n d_8143_120 rfl ?_
    obtain ⟨k21, h⟩ := h
    refine zc_8_1111 (x0 := p2) (x1 := p3) hB rfl k21 d_8143_121 (Nat.le_of_ble_eq_true rfl) h (fun S22 h => ?_)
    refine zu_goto (t := 220) d_8143_124 rfl ?_
    exact zu_vret d_8143_220 zr_8143 h
  · have h := h.2.2.2.2.2.2.2.1 c1
    show zs_U _ _ _ 127 _ _ _ _
    refine zu_aload_n d_8143_127 rfl (zs_ra _) ?_
    refine zu_iload_n d_8143_128 rfl ?_
    refine zu_iconst d_8143_129 zi_1 ?_
    refine zu_cmpne (t := 137) d_8143_130 rfl (fun c24 => ?_) (fun c24 => ?_)
    · have h := h.1 c24
      refine zu_iconst d_8143_137 zi_0 ?_
      exact (u_X9_tellGoal_138 hB h).weak ⟨rfl, trivial⟩
    · have h := h.2 c24
      refine zu_iconst d_8143_133 zi_1 ?_
      refine zu_goto (t := 138) d_8143_134 rfl ?_
      exact (u_X9_tellGoal_138 hB h).weak ⟨rfl, trivial⟩
  · have h := h.2.2.2.2.2.2.2.2.1 c1
    show zs_U _ _ _ 145 _ _ _ _
    refine zu_aload_n d_8143_145 rfl (zs_ra _) ?_
    refine zu_iload_n d_8143_146 rfl ?_
    refine zu_iload_n d_8143_147 rfl ?_
    refine zu_iload d_8143_148 rfl ?_
    obtain ⟨k25, h⟩ := h
    refine zc_8_1118 (x0 := p2) (x1 := p3) (x2 := p4) hB rfl k25 d_8143_150 (Nat.le_of_ble_eq_true rfl) h (fun S26 h => ?_)
    refine zu_goto (t := 220) d_8143_153 rfl ?_
    exact zu_vret d_8143_220 zr_8143 h
  · have h := h.2.2.2.2.2.2.2.2.2.1 c1
    show zs_U _ _ _ 156 _ _ _ _
    refine zu_aload_n d_8143_156 rfl (zs_ra _) ?_
    refine zu_iload_n d_8143_157 rfl ?_
    refine zu_iload_n d_8143_158 rfl ?_
    refine zu_iload d_8143_159 rfl ?_
    obtain ⟨k28, h⟩ := h
    refine zc_8_1121 (x0 := p2) (x1 := p3) (x2 := p4) hB rfl k28 d_8143_161 (Nat.le_of_ble_eq_true rfl) h (fun S29 h => ?_)
    refine zu_goto (t := 220) d_8143_164 rfl ?_
    exact zu_vret d_8143_220 zr_8143 h
  · have h := h.2.2.2.2.2.2.2.2.2.2.1 c1
    show zs_U _ _ _ 167 _ _ _ _
    refine zu_aload_n d_8143_167 rfl (zs_ra _) ?_
    refine zu_iload_n d_8143_168 rfl ?_
    refine zu_iload_n d_8143_169 rfl ?_
    refine zu_iload d_8143_170 rfl ?_
    refine zu_iconst d_8143_172 zi_1 ?_
    refine zu_cmpne (t := 180) d_8143_173 rfl (fun c31 => ?_) (fun c31 => ?_)
    · have h := h.1 c31
      refine zu_iconst d_8143_180 zi_0 ?_
      exact (u_X9_tellGoal_181 hB h).weak trivial
    · have h := h.2 c31
      refine zu_iconst d_8143_176 zi_1 ?_
      refine zu_goto (t := 181) d_8143_177 rfl ?_
      exact (u_X9_tellGoal_181 hB h).weak trivial
  · have h := h.2.2.2.2.2.2.2.2.2.2.2 c1
    show zs_U _ _ _ 187 _ _ _ _
    refine zu_aload_n d_8143_187 rfl (zs_ra _) ?_
    refine zu_iload_n d_8143_188 rfl ?_
    obtain ⟨k32, h⟩ := h
    refine zc_8_1127 (x0 := p2) hB rfl k32 d_8143_189 (Nat.le_of_ble_eq_true rfl) h (fun S33 h => ?_)
    refine zu_goto (t := 220) d_8143_192 rfl ?_
    exact zu_vret d_8143_220 zr_8143 h
/-! SchemaPascalModel.block(I)V -/
theorem zm_8144 {σ : Nat → Nat} {n0 : Nat} {bf : ab_B} : ab_code (zx σ n0 bf).1 8144 = prog_17_method_140_code := rfl
theorem zq_8144 {σ : Nat → Nat} {n0 : Nat} {bf : ab_B} : ab_maxL (zx σ n0 bf).1 8144 = 2 := rfl
theorem zr_8144 {σ : Nat → Nat} {n0 : Nat} {bf : ab_B} : ab_ret (zx σ n0 bf).1 8144 = (Option.none : Option Jvm.ClassFile.FieldType) := rfl
theorem d_8144_0 {σ : Nat → Nat} {n0 : Nat} {bf : ab_B} : decode (ab_code (zx σ n0 bf).1 8144) 0 = .ok (.aload_n 0, 1) := zd zm_8144 (by decide +kernel)
theorem d_8144_1 {σ : Nat → Nat} {n0 : Nat} {bf : ab_B} : decode (ab_code (zx σ n0 bf).1 8144) 1 = .ok (.getfield 444, 3) := zd zm_8144 (by decide +kernel)
theorem d_8144_4 {σ : Nat → Nat} {n0 : Nat} {bf : ab_B} : decode (ab_code (zx σ n0 bf).1 8144) 4 = .ok (.ifCond .le 4, 3) := zd zm_8144 (by decide +kernel)
theorem d_8144_7 {σ : Nat → Nat} {n0 : Nat} {bf : ab_B} : decode (ab_code (zx σ n0 bf).1 8144) 7 = .ok (.return_, 1) := zd zm_8144 (by decide +kernel)
theorem d_8144_8 {σ : Nat → Nat} {n0 : Nat} {bf : ab_B} : decode (ab_code (zx σ n0 bf).1 8144) 8 = .ok (.aload_n 0, 1) := zd zm_8144 (by decide +kernel)
theorem d_8144_9 {σ : Nat → Nat} {n0 : Nat} {bf : ab_B} : decode (ab_code (zx σ n0 bf).1 8144) 9 = .ok (.iconst 2, 1) := zd zm_8144 (by decide +kernel)
theorem d_8144_10 {σ : Nat → Nat} {n0 : Nat} {bf : ab_B} : decode (ab_code (zx σ n0 bf).1 8144) 10 = .ok (.invokevirtual 544, 3) := zd zm_8144 (by decide +kernel)
theorem d_8144_13 {σ : Nat → Nat} {n0 : Nat} {bf : ab_B} : decode (ab_code (zx σ n0 bf).1 8144) 13 = .ok (.ifCond .eq 28, 3) := zd zm_8144 (by decide +kernel)
theorem d_8144_16 {σ : Nat → Nat} {n0 : Nat} {bf : ab_B} : decode (ab_code (zx σ n0 bf).1 8144) 16 = .ok (.aload_n 0, 1) := zd zm_8144 (by decide +kernel)
theorem d_8144_17 {σ : Nat → Nat} {n0 : Nat} {bf : ab_B} : decode (ab_code (zx σ n0 bf).1 8144) 17 = .ok (.invokevirtual 538, 3) := zd zm_8144 (by decide +kernel)
theorem d_8144_20 {σ : Nat → Nat} {n0 : Nat} {bf : ab_B} : decode (ab_code (zx σ n0 bf).1 8144) 20 = .ok (.aload_n 0, 1) := zd zm_8144 (by decide +kernel)
theorem d_8144_21 {σ : Nat → Nat} {n0 : Nat} {bf : ab_B} : decode (ab_code (zx σ n0 bf).1 8144) 21 = .ok (.bipush 60, 2) := zd zm_8144 (by decide +kernel)
theorem d_8144_23 {σ : Nat → Nat} {n0 : Nat} {bf : ab_B} : decode (ab_code (zx σ n0 bf).1 8144) 23 = .ok (.iload_n 1, 1) := zd zm_8144 (by decide +kernel)
theorem d_8144_24 {σ : Nat → Nat} {n0 : Nat} {bf : ab_B} : decode (ab_code (zx σ n0 bf).1 8144) 24 = .ok (.iconst 0, 1) := zd zm_8144 (by decide +kernel)
theorem d_8144_25 {σ : Nat → Nat} {n0 : Nat} {bf : ab_B} : decode (ab_code (zx σ n0 bf).1 8144) 25 = .ok (.iconst 0, 1) := zd zm_8144 (by decide +kernel)
theorem d_8144_26 {σ : Nat → Nat} {n0 : Nat} {bf : ab_B} : decode (ab_code (zx σ n0 bf).1 8144) 26 = .ok (.invokevirtual 649, 3) := zd zm_8144 (by decide +kernel)
theorem d_8144_29 {σ : Nat → Nat} {n0 : Nat} {bf : ab_B} : decode (ab_code (zx σ n0 bf).1 8144) 29 = .ok (.aload_n 0, 1) := zd zm_8144 (by decide +kernel)
theorem d_8144_30 {σ : Nat → Nat} {n0 : Nat} {bf : ab_B} : decode (ab_code (zx σ n0 bf).1 8144) 30 = .ok (.bipush 61, 2) := zd zm_8144 (by decide +kernel)
theorem d_8144_32 {σ : Nat → Nat} {n0 : Nat} {bf : ab_B} : decode (ab_code (zx σ n0 bf).1 8144) 32 = .ok (.iconst 1, 1) := zd zm_8144 (by decide +kernel)
theorem d_8144_33 {σ : Nat → Nat} {n0 : Nat} {bf : ab_B} : decode (ab_code (zx σ n0 bf).1 8144) 33 = .ok (.iconst 0, 1) := zd zm_8144 (by decide +kernel)
theorem d_8144_34 {σ : Nat → Nat} {n0 : Nat} {bf : ab_B} : decode (ab_code (zx σ n0 bf).1 8144) 34 = .ok (.iconst 0, 1) := zd zm_8144 (by decide +kernel)
theorem d_8144_35 {σ : Nat → Nat} {n0 : Nat} {bf : ab_B} : decode (ab_code (zx σ n0 bf).1 8144) 35 = .ok (.invokevirtual 649, 3) := zd zm_8144 (by decide +kernel)
theorem d_8144_38 {σ : Nat → Nat} {n0 : Nat} {bf : ab_B} : decode (ab_code (zx σ n0 bf).1 8144) 38 = .ok (.goto 149, 3) := zd zm_8144 (by decide +kernel)
theorem d_8144_41 {σ : Nat → Nat} {n0 : Nat} {bf : ab_B} : decode (ab_code (zx σ n0 bf).1 8144) 41 = .ok (.aload_n 0, 1) := zd zm_8144 (by decide +kernel)
theorem d_8144_42 {σ : Nat → Nat} {n0 : Nat} {bf : ab_B} : decode (ab_code (zx σ n0 bf).1 8144) 42 = .ok (.iconst 3, 1) := zd zm_8144 (by decide +kernel)
theorem d_8144_43 {σ : Nat → Nat} {n0 : Nat} {bf : ab_B} : decode (ab_code (zx σ n0 bf).1 8144) 43 = .ok (.invokevirtual 544, 3) := zd zm_8144 (by decide +kernel)
theorem d_8144_46 {σ : Nat → Nat} {n0 : Nat} {bf : ab_B} : decode (ab_code (zx σ n0 bf).1 8144) 46 = .ok (.ifCond .eq 38, 3) := zd zm_8144 (by decide +kernel)
theorem d_8144_49 {σ : Nat → Nat} {n0 : Nat} {bf : ab_B} : decode (ab_code (zx σ n0 bf).1 8144) 49 = .ok (.aload_n 0, 1) := zd zm_8144 (by decide +kernel)
theorem d_8144_50 {σ : Nat → Nat} {n0 : Nat} {bf : ab_B} : decode (ab_code (zx σ n0 bf).1 8144) 50 = .ok (.invokevirtual 538, 3) := zd zm_8144 (by decide +kernel)
theorem d_8144_53 {σ : Nat → Nat} {n0 : Nat} {bf : ab_B} : decode (ab_code (zx σ n0 bf).1 8144) 53 = .ok (.aload_n 0, 1) := zd zm_8144 (by decide +kernel)
theorem d_8144_54 {σ : Nat → Nat} {n0 : Nat} {bf : ab_B} : decode (ab_code (zx σ n0 bf).1 8144) 54 = .ok (.iconst 1, 1) := zd zm_8144 (by decide +kernel)
theorem d_8144_55 {σ : Nat → Nat} {n0 : Nat} {bf : ab_B} : decode (ab_code (zx σ n0 bf).1 8144) 55 = .ok (.putfield 867, 3) := zd zm_8144 (by decide +kernel)
theorem d_8144_58 {σ : Nat → Nat} {n0 : Nat} {bf : ab_B} : decode (ab_code (zx σ n0 bf).1 8144) 58 = .ok (.aload_n 0, 1) := zd zm_8144 (by decide +kernel)
theorem d_8144_59 {σ : Nat → Nat} {n0 : Nat} {bf : ab_B} : decode (ab_code (zx σ n0 bf).1 8144) 59 = .ok (.iconst 0, 1) := zd zm_8144 (by decide +kernel)
theorem d_8144_60 {σ : Nat → Nat} {n0 : Nat} {bf : ab_B} : decode (ab_code (zx σ n0 bf).1 8144) 60 = .ok (.putfield 870, 3) := zd zm_8144 (by decide +kernel)
theorem d_8144_63 {σ : Nat → Nat} {n0 : Nat} {bf : ab_B} : decode (ab_code (zx σ n0 bf).1 8144) 63 = .ok (.aload_n 0, 1) := zd zm_8144 (by decide +kernel)
theorem d_8144_64 {σ : Nat → Nat} {n0 : Nat} {bf : ab_B} : decode (ab_code (zx σ n0 bf).1 8144) 64 = .ok (.bipush 60, 2) := zd zm_8144 (by decide +kernel)
theorem d_8144_66 {σ : Nat → Nat} {n0 : Nat} {bf : ab_B} : decode (ab_code (zx σ n0 bf).1 8144) 66 = .ok (.iload_n 1, 1) := zd zm_8144 (by decide +kernel)
theorem d_8144_67 {σ : Nat → Nat} {n0 : Nat} {bf : ab_B} : decode (ab_code (zx σ n0 bf).1 8144) 67 = .ok (.iconst 0, 1) := zd zm_8144 (by decide +kernel)
theorem d_8144_68 {σ : Nat → Nat} {n0 : Nat} {bf : ab_B} : decode (ab_code (zx σ n0 bf).1 8144) 68 = .ok (.iconst 0, 1) := zd zm_8144 (by decide +kernel)
theorem d_8144_69 {σ : Nat → Nat} {n0 : Nat} {bf : ab_B} : decode (ab_code (zx σ n0 bf).1 8144) 69 = .ok (.invokevirtual 649, 3) := zd zm_8144 (by decide +kernel)
theorem d_8144_72 {σ : Nat → Nat} {n0 : Nat} {bf : ab_B} : decode (ab_code (zx σ n0 bf).1 8144) 72 = .ok (.aload_n 0, 1) := zd zm_8144 (by decide +kernel)
theorem d_8144_73 {σ : Nat → Nat} {n0 : Nat} {bf : ab_B} : decode (ab_code (zx σ n0 bf).1 8144) 73 = .ok (.bipush 63, 2) := zd zm_8144 (by decide +kernel)
theorem d_8144_75 {σ : Nat → Nat} {n0 : Nat} {bf : ab_B} : decode (ab_code (zx σ n0 bf).1 8144) 75 = .ok (.iconst 1, 1) := zd zm_8144 (by decide +kernel)
theorem d_8144_76 {σ : Nat → Nat} {n0 : Nat} {bf : ab_B} : decode (ab_code (zx σ n0 bf).1 8144) 76 = .ok (.iconst 0, 1) := zd zm_8144 (by decide +kernel)
theorem d_8144_77 {σ : Nat → Nat} {n0 : Nat} {bf : ab_B} : decode (ab_code (zx σ n0 bf).1 8144) 77 = .ok (.iconst 0, 1) := zd zm_8144 (by decide +kernel)
theorem d_8144_78 {σ : Nat → Nat} {n0 : Nat} {bf : ab_B} : decode (ab_code (zx σ n0 bf).1 8144) 78 = .ok (.invokevirtual 649, 3) := zd zm_8144 (by decide +kernel)
theorem d_8144_81 {σ : Nat → Nat} {n0 : Nat} {bf : ab_B} : decode (ab_code (zx σ n0 bf).1 8144) 81 = .ok (.goto 106, 3) := zd zm_8144 (by decide +kernel)
theorem d_8144_84 {σ : Nat → Nat} {n0 : Nat} {bf : ab_B} : decode (ab_code (zx σ n0 bf).1 8144) 84 = .ok (.aload_n 0, 1) := zd zm_8144 (by decide +kernel)
theorem d_8144_85 {σ : Nat → Nat} {n0 : Nat} {bf : ab_B} : decode (ab_code (zx σ n0 bf).1 8144) 85 = .ok (.iconst 4, 1) := zd zm_8144 (by decide +kernel)
theorem d_8144_86 {σ : Nat → Nat} {n0 : Nat} {bf : ab_B} : decode (ab_code (zx σ n0 bf).1 8144) 86 = .ok (.invokevirtual 544, 3) := zd zm_8144 (by decide +kernel)
theorem d_8144_89 {σ : Nat → Nat} {n0 : Nat} {bf : ab_B} : decode (ab_code (zx σ n0 bf).1 8144) 89 = .ok (.ifCond .eq 28, 3) := zd zm_8144 (by decide +kernel)
theorem d_8144_92 {σ : Nat → Nat} {n0 : Nat} {bf : ab_B} : decode (ab_code (zx σ n0 bf).1 8144) 92 = .ok (.aload_n 0, 1) := zd zm_8144 (by decide +kernel)
theorem d_8144_93 {σ : Nat → Nat} {n0 : Nat} {bf : ab_B} : decode (ab_code (zx σ n0 bf).1 8144) 93 = .ok (.invokevirtual 538, 3) := zd zm_8144 (by decide +kernel)
theorem d_8144_96 {σ : Nat → Nat} {n0 : Nat} {bf : ab_B} : decode (ab_code (zx σ n0 bf).1 8144) 96 = .ok (.aload_n 0, 1) := zd zm_8144 (by decide +kernel)
theorem d_8144_97 {σ : Nat → Nat} {n0 : Nat} {bf : ab_B} : decode (ab_code (zx σ n0 bf).1 8144) 97 = .ok (.bipush 60, 2) := zd zm_8144 (by decide +kernel)
theorem d_8144_99 {σ : Nat → Nat} {n0 : Nat} {bf : ab_B} : decode (ab_code (zx σ n0 bf).1 8144) 99 = .ok (.iload_n 1, 1) := zd zm_8144 (by decide +kernel)
theorem d_8144_100 {σ : Nat → Nat} {n0 : Nat} {bf : ab_B} : decode (ab_code (zx σ n0 bf).1 8144) 100 = .ok (.iconst 0, 1) := zd zm_8144 (by decide +kernel)
theorem d_8144_101 {σ : Nat → Nat} {n0 : Nat} {bf : ab_B} : decode (ab_code (zx σ n0 bf).1 8144) 101 = .ok (.iconst 0, 1) := zd zm_8144 (by decide +kernel)
theorem d_8144_102 {σ : Nat → Nat} {n0 : Nat} {bf : ab_B} : decode (ab_code (zx σ n0 bf).1 8144) 102 = .ok (.invokevirtual 649, 3) := zd zm_8144 (by decide +kernel)
theorem d_8144_105 {σ : Nat → Nat} {n0 : Nat} {bf : ab_B} : decode (ab_code (zx σ n0 bf).1 8144) 105 = .ok (.aload_n 0, 1) := zd zm_8144 (by decide +kernel)
theorem d_8144_106 {σ : Nat → Nat} {n0 : Nat} {bf : ab_B} : decode (ab_code (zx σ n0 bf).1 8144) 106 = .ok (.bipush 66, 2) := zd zm_8144 (by decide +kernel)
theorem d_8144_108 {σ : Nat → Nat} {n0 : Nat} {bf : ab_B} : decode (ab_code (zx σ n0 bf).1 8144) 108 = .ok (.iconst 1, 1) := zd zm_8144 (by decide +kernel)
theorem d_8144_109 {σ : Nat → Nat} {n0 : Nat} {bf : ab_B} : decode (ab_code (zx σ n0 bf).1 8144) 109 = .ok (.iload_n 1, 1) := zd zm_8144 (by decide +kernel)
theorem d_8144_110 {σ : Nat → Nat} {n0 : Nat} {bf : ab_B} : decode (ab_code (zx σ n0 bf).1 8144) 110 = .ok (.iconst 0, 1) := zd zm_8144 (by decide +kernel)
theorem d_8144_111 {σ : Nat → Nat} {n0 : Nat} {bf : ab_B} : decode (ab_code (zx σ n0 bf).1 8144) 111 = .ok (.invokevirtual 649, 3) := zd zm_8144 (by decide +kernel)
theorem d_8144_114 {σ : Nat → Nat} {n0 : Nat} {bf : ab_B} : decode (ab_code (zx σ n0 bf).1 8144) 114 = .ok (.goto 73, 3) := zd zm_8144 (by decide +kernel)
theorem d_8144_117 {σ : Nat → Nat} {n0 : Nat} {bf : ab_B} : decode (ab_code (zx σ n0 bf).1 8144) 117 = .ok (.aload_n 0, 1) := zd zm_8144 (by decide +kernel)
theorem d_8144_118 {σ : Nat → Nat} {n0 : Nat} {bf : ab_B} : decode (ab_code (zx σ n0 bf).1 8144) 118 = .ok (.iconst 5, 1) := zd zm_8144 (by decide +kernel)
theorem d_8144_119 {σ : Nat → Nat} {n0 : Nat} {bf : ab_B} : decode (ab_code (zx σ n0 bf).1 8144) 119 = .ok (.invokevirtual 544, 3) := zd zm_8144 (by decide +kernel)
theorem d_8144_122 {σ : Nat → Nat} {n0 : Nat} {bf : ab_B} : decode (ab_code (zx σ n0 bf).1 8144) 122 = .ok (.ifCond .ne 12, 3) := zd zm_8144 (by decide +kernel)
theorem d_8144_125 {σ : Nat → Nat} {n0 : Nat} {bf : ab_B} : decode (ab_code (zx σ n0 bf).1 8144) 125 = .ok (.aload_n 0, 1) := zd zm_8144 (by decide +kernel)
theorem d_8144_126 {σ : Nat → Nat} {n0 : Nat} {bf : ab_B} : decode (ab_code (zx σ n0 bf).1 8144) 126 = .ok (.bipush 6, 2) := zd zm_8144 (by decide +kernel)
theorem d_8144_128 {σ : Nat → Nat} {n0 : Nat} {bf : ab_B} : decode (ab_code (zx σ n0 bf).1 8144) 128 = .ok (.invokevirtual 544, 3) := zd zm_8144 (by decide +kernel)
theorem d_8144_131 {σ : Nat → Nat} {n0 : Nat} {bf : ab_B} : decode (ab_code (zx σ n0 bf).1 8144) 131 = .ok (.ifCond .eq 34, 3) := zd zm_8144 (by decide +kernel)
theorem d_8144_134 {σ : Nat → Nat} {n0 : Nat} {bf : ab_B} : decode (ab_code (zx σ n0 bf).1 8144) 134 = .ok (.aload_n 0, 1) := zd zm_8144 (by decide +kernel)
theorem d_8144_135 {σ : Nat → Nat} {n0 : Nat} {bf : ab_B} : decode (ab_code (zx σ n0 bf).1 8144) 135 = .ok (.bipush 60, 2) := zd zm_8144 (by decide +kernel)
theorem d_8144_137 {σ : Nat → Nat} {n0 : Nat} {bf : ab_B} : decode (ab_code (zx σ n0 bf).1 8144) 137 = .ok (.iload_n 1, 1) := zd zm_8144 (by decide +kernel)
theorem d_8144_138 {σ : Nat → Nat} {n0 : Nat} {bf : ab_B} : decode (ab_code (zx σ n0 bf).1 8144) 138 = .ok (.iconst 0, 1) := zd zm_8144 (by decide +kernel)
theorem d_8144_139 {σ : Nat → Nat} {n0 : Nat} {bf : ab_B} : decode (ab_code (zx σ n0 bf).1 8144) 139 = .ok (.iconst 0, 1) := zd zm_8144 (by decide +kernel)
theorem d_8144_140 {σ : Nat → Nat} {n0 : Nat} {bf : ab_B} : decode (ab_code (zx σ n0 bf).1 8144) 140 = .ok (.invokevirtual 649, 3) := zd zm_8144 (by decide +kernel)
theorem d_8144_143 {σ : Nat → Nat} {n0 : Nat} {bf : ab_B} : decode (ab_code (zx σ n0 bf).1 8144) 143 = .ok (.aload_n 0, 1) := zd zm_8144 (by decide +kernel)
theorem d_8144_144 {σ : Nat → Nat} {n0 : Nat} {bf : ab_B} : decode (ab_code (zx σ n0 bf).1 8144) 144 = .ok (.iload_n 1, 1) := zd zm_8144 (by decide +kernel)
theorem d_8144_145 {σ : Nat → Nat} {n0 : Nat} {bf : ab_B} : decode (ab_code (zx σ n0 bf).1 8144) 145 = .ok (.aload_n 0, 1) := zd zm_8144 (by decide +kernel)
theorem d_8144_146 {σ : Nat → Nat} {n0 : Nat} {bf : ab_B} : decode (ab_code (zx σ n0 bf).1 8144) 146 = .ok (.getfield 494, 3) := zd zm_8144 (by decide +kernel)
theorem d_8144_149 {σ : Nat → Nat} {n0 : Nat} {bf : ab_B} : decode (ab_code (zx σ n0 bf).1 8144) 149 = .ok (.bipush 6, 2) := zd zm_8144 (by decide +kernel)
theorem d_8144_151 {σ : Nat → Nat} {n0 : Nat} {bf : ab_B} : decode (ab_code (zx σ n0 bf).1 8144) 151 = .ok (.if_icmp .ne 7, 3) := zd zm_8144 (by decide +kernel)
theorem d_8144_154 {σ : Nat → Nat} {n0 : Nat} {bf : ab_B} : decode (ab_code (zx σ n0 bf).1 8144) 154 = .ok (.iconst 1, 1) := zd zm_8144 (by decide +kernel)
theorem d_8144_155 {σ : Nat → Nat} {n0 : Nat} {bf : ab_B} : decode (ab_code (zx σ n0 bf).1 8144) 155 = .ok (.goto 4, 3) := zd zm_8144 (by decide +kernel)
theorem d_8144_158 {σ : Nat → Nat} {n0 : Nat} {bf : ab_B} : decode (ab_code (zx σ n0 bf).1 8144) 158 = .ok (.iconst 0, 1) := zd zm_8144 (by decide +kernel)
theorem d_8144_159 {σ : Nat → Nat} {n0 : Nat} {bf : ab_B} : decode (ab_code (zx σ n0 bf).1 8144) 159 = .ok (.invokevirtual 919, 3) := zd zm_8144 (by decide +kernel)
theorem d_8144_162 {σ : Nat → Nat} {n0 : Nat} {bf : ab_B} : decode (ab_code (zx σ n0 bf).1 8144) 162 = .ok (.goto 25, 3) := zd zm_8144 (by decide +kernel)
theorem d_8144_165 {σ : Nat → Nat} {n0 : Nat} {bf : ab_B} : decode (ab_code (zx σ n0 bf).1 8144) 165 = .ok (.aload_n 0, 1) := zd zm_8144 (by decide +kernel)
theorem d_8144_166 {σ : Nat → Nat} {n0 : Nat} {bf : ab_B} : decode (ab_code (zx σ n0 bf).1 8144) 166 = .ok (.bipush 8, 2) := zd zm_8144 (by decide +kernel)
theorem d_8144_168 {σ : Nat → Nat} {n0 : Nat} {bf : ab_B} : decode (ab_code (zx σ n0 bf).1 8144) 168 = .ok (.invokevirtual 544, 3) := zd zm_8144 (by decide +kernel)
theorem d_8144_171 {σ : Nat → Nat} {n0 : Nat} {bf : ab_B} : decode (ab_code (zx σ n0 bf).1 8144) 171 = .ok (.ifCond .eq 11, 3) := zd zm_8144 (by decide +kernel)
theorem d_8144_174 {σ : Nat → Nat} {n0 : Nat} {bf : ab_B} : decode (ab_code (zx σ n0 bf).1 8144) 174 = .ok (.aload_n 0, 1) := zd zm_8144 (by decide +kernel)
theorem d_8144_175 {σ : Nat → Nat} {n0 : Nat} {bf : ab_B} : decode (ab_code (zx σ n0 bf).1 8144) 175 = .ok (.iload_n 1, 1) := zd zm_8144 (by decide +kernel)
theorem d_8144_176 {σ : Nat → Nat} {n0 : Nat} {bf : ab_B} : decode (ab_code (zx σ n0 bf).1 8144) 176 = .ok (.invokevirtual 922, 3) := zd zm_8144 (by decide +kernel)
theorem d_8144_179 {σ : Nat → Nat} {n0 : Nat} {bf : ab_B} : decode (ab_code (zx σ n0 bf).1 8144) 179 = .ok (.goto 8, 3) := zd zm_8144 (by decide +kernel)
theorem d_8144_182 {σ : Nat → Nat} {n0 : Nat} {bf : ab_B} : decode (ab_code (zx σ n0 bf).1 8144) 182 = .ok (.aload_n 0, 1) := zd zm_8144 (by decide +kernel)
theorem d_8144_183 {σ : Nat → Nat} {n0 : Nat} {bf : ab_B} : decode (ab_code (zx σ n0 bf).1 8144) 183 = .ok (.iconst 2, 1) := zd zm_8144 (by decide +kernel)
theorem d_8144_184 {σ : Nat → Nat} {n0 : Nat} {bf : ab_B} : decode (ab_code (zx σ n0 bf).1 8144) 184 = .ok (.invokevirtual 541, 3) := zd zm_8144 (by decide +kernel)
theorem d_8144_187 {σ : Nat → Nat} {n0 : Nat} {bf : ab_B} : decode (ab_code (zx σ n0 bf).1 8144) 187 = .ok (.return_, 1) := zd zm_8144 (by decide +kernel)
def w_X9_block_187 (X : zs_X) (d : Nat)  (S : zs_T) (Q : zs_Q) : Prop :=
  (Q (.returned none) S)
theorem u_X9_block_187 {σ : Nat → Nat} {n0 : Nat} {bf : ab_B} {d : Nat}  {S : zs_T} {Q : zs_Q} (hB : zt_B bf) (h : w_X9_block_187 (zx σ n0 bf) d  S Q) : zs_U (zx σ n0 bf) d 8144 187 [] [] S Q := by
  unfold w_X9_block_187 at h
  exact zu_vret d_8144_187 zr_8144 h
def w_X9_block_38 (X : zs_X) (d : Nat)  (S : zs_T) (Q : zs_Q) : Prop :=
  (w_X9_block_187 X d  S Q)
theorem u_X9_block_38 {σ : Nat → Nat} {n0 : Nat} {bf : ab_B} {d : Nat}  {S : zs_T} {Q : zs_Q} (hB : zt_B bf) (h : w_X9_block_38 (zx σ n0 bf) d  S Q) : zs_U (zx σ n0 bf) d 8144 38 [] [] S Q := by
  unfold w_X9_block_38 at h
  refine zu_goto (t := 187) d_8144_38 rfl ?_
  exact (u_X9_block_187 hB h).weak trivial
def w_X9_block_58 (X : zs_X) (d : Nat) (p0 : Nat) (p1 : Int32) (S : zs_T) (Q : zs_Q) : Prop :=
  (zs_K S p0 = some (.inl 8) ∧ ab_n0 X.1 ≤ p0 ∧ ∀ S3, S3 = zs_sI S 8136 p0 (0 : Int32) → zs_C X d 8030 [.ref p0, .int (60 : Int32), .int p1, .int (0 : Int32), .int (0 : Int32)] S3 (zs_kV (fun S6 => (zs_K S6 p0 = some (.inl 8) ∧ zs_C X d 8030 [.ref p0, .int (63 : Int32), .int (1 : Int32), .int (0 : Int32), .int (0 : Int32)] S6 (zs_kV (fun S9 => (w_X9_block_187 X d  S9 Q)) Q))) Q))
theorem u_X9_block_58 {σ : Nat → Nat} {n0 : Nat} {bf : ab_B} {d : Nat} {p0 : Nat} {p1 : Int32} {S : zs_T} {Q : zs_Q} (hB : zt_B bf) (h : w_X9_block_58 (zx σ n0 bf) d p0 p1 S Q) : zs_U (zx σ n0 bf) d 8144 58 [(0, .ref p0), (1, .int p1)] [] S Q := by
  unfold w_X9_block_58 at h
  refine zu_aload_n d_8144_58 rfl (zs_ra _) ?_
  refine zu_iconst d_8144_59 zi_0 ?_
  obtain ⟨k1, h⟩ := h
  obtain ⟨k2, h⟩ := h
  refine zp_8_870 (v := (0 : Int32)) rfl d_8144_60 k1 k2 ?_
  generalize e4 : zs_sI S 8136 p0 (0 : Int32) = S3
  have h := h S3 e4.symm
  have K5 : ∀ b, zs_K S3 b = zs_K S b := zs_Kt e4 (zs_KsI _ _ _ _) (fun _ => rfl)
  refine zu_aload_n d_8144_63 rfl (zs_ra _) ?_
  refine zu_bipush d_8144_64 zj_60 ?_
  refine zu_iload_n d_8144_66 rfl ?_
  refine zu_iconst d_8144_67 zi_0 ?_
  refine zu_iconst d_8144_68 zi_0 ?_
  refine zc_8_649 (x0 := (60 : Int32)) (x1 := p1) (x2 := (0 : Int32)) (x3 := (0 : Int32)) hB rfl ((K5 _).trans k1) d_8144_69 (Nat.le_of_ble_eq_true rfl) h (fun S6 h => ?_)
  refine zu_aload_n d_8144_72 rfl (zs_ra _) ?_
  refine zu_bipush d_8144_73 zj_63 ?_
  refine zu_iconst d_8144_75 zi_1 ?_
  refine zu_iconst d_8144_76 zi_0 ?_
  refine zu_iconst d_8144_77 zi_0 ?_
  obtain ⟨k8, h⟩ := h
  refine zc_8_649 (x0 := (63 : Int32)) (x1 := (1 : Int32)) (x2 := (0 : Int32)) (x3 := (0 : Int32)) hB rfl k8 d_8144_78 (Nat.le_of_ble_eq_true rfl) h (fun S9 h => ?_)
  refine zu_goto (t := 187) d_8144_81 rfl ?_
  exact (u_X9_block_187 hB h).weak trivial
def w_X9_block_96 (X : zs_X) (d : Nat) (p0 : Nat) (p1 : Int32) (S : zs_T) (Q : zs_Q) : Prop :=
  (zs_K S p0 = some (.inl 8) ∧ zs_C X d 8030 [.ref p0, .int (60 : Int32), .int p1, .int (0 : Int32), .int (0 : Int32)] S (zs_kV (fun S2 => (zs_K S2 p0 = some (.inl 8) ∧ zs_C X d 8030 [.ref p0, .int (66 : Int32), .int (1 : Int32), .int p1, .int (0 : Int32)] S2 (zs_kV (fun S5 => (w_X9_block_187 X d  S5 Q)) Q))) Q))
theorem u_X9_block_96 {σ : Nat → Nat} {n0 : Nat} {bf : ab_B} {d : Nat} {p0 : Nat} {p1 : Int32} {S : zs_T} {Q : zs_Q} (hB : zt_B bf) (h : w_X9_block_96 (zx σ n0 bf) d p0 p1 S Q) : zs_U (zx σ n0 bf) d 8144 96 [(0, .ref p0), (1, .int p1)] [] S Q := by
  unfold w_X9_block_96 at h
  refine zu_aload_n d_8144_96 rfl (zs_ra _) ?_
  refine zu_bipush d_8144_97 zj_60 ?_
  refine zu_iload_n d_8144_99 rfl ?_
  refine zu_iconst d_8144_100 zi_0 ?_
  refine zu_iconst d_8144_101 zi_0 ?_
  obtain ⟨k1, h⟩ := h
  refine zc_8_649 (x0 := (60 : Int32)) (x1 := p1) (x2 := (0 : Int32)) (x3 := (0 : Int32)) hB rfl k1 d_8144_102 (Nat.le_of_ble_eq_true rfl) h (fun S2 h => ?_)
  refine zu_aload_n d_8144_105 rfl (zs_ra _) ?_
  refine zu_bipush d_8144_106 zj_66 ?_
  refine zu_iconst d_8144_108 zi_1 ?_
  refine zu_iload_n d_8144_109 rfl ?_
  refine zu_iconst d_8144_110 zi_0 ?_
  obtain ⟨k4, h⟩ := h
  refine zc_8_649 (x0 := (66 : Int32)) (x1 := (1 : Int32)) (x2 := p1) (x3 := (0 : Int32)) hB rfl k4 d_8144_111 (Nat.le_of_ble_eq_true rfl) h (fun S5 h => ?_)
  refine zu_goto (t := 187) d_8144_114 rfl ?_
  exact (u_X9_block_187 hB h).weak trivial
def w_X9_block_159 (X : zs_X) (d : Nat) (q0 : Option Nat) (q1 : Int32) (q2 : Int32) (S : zs_T) (Q : zs_Q) : Prop :=
  (∃ b1, q0 = some b1 ∧ zs_K S b1 = some (.inl 8) ∧ zs_C X d 8145 [.ref b1, .int q1, .int q2] S (zs_kV (fun S4 => (w_X9_block_187 X d  S4 Q)) Q))
theorem u_X9_block_159 {σ : Nat → Nat} {n0 : Nat} {bf : ab_B} {d : Nat} {q0 : Option Nat} {q1 : Int32} {q2 : Int32} {S : zs_T} {Q : zs_Q} (hB : zt_B bf) (h : w_X9_block_159 (zx σ n0 bf) d q0 q1 q2 S Q) : zs_U (zx σ n0 bf) d 8144 159 [] [.int q2, .int q1, va_rf q0] S Q := by
  unfold w_X9_block_159 at h
  obtain ⟨b1, e2, h⟩ := h
  refine zs_stk2 (zs_rfe e2) ?_
  obtain ⟨k3, h⟩ := h
  refine zc_8_919 (x0 := q1) (x1 := q2) hB rfl k3 d_8144_159 (Nat.le_of_ble_eq_true rfl) h (fun S4 h => ?_)
  refine zu_goto (t := 187) d_8144_162 rfl ?_
  exact (u_X9_block_187 hB h).weak trivial
def w_X9_block_134 (X : zs_X) (d : Nat) (p0 : Nat) (p1 : Int32) (S : zs_T) (Q : zs_Q) : Prop :=
  (zs_K S p0 = some (.inl 8) ∧ zs_C X d 8030 [.ref p0, .int (60 : Int32), .int p1, .int (0 : Int32), .int (0 : Int32)] S (zs_kV (fun S2 => (zs_K S2 p0 = some (.inl 8) ∧ ((¬ (zs_I S2 8009 p0) = (6 : Int32) → (w_X9_block_159 X d (some p0) p1 (0 : Int32) S2 Q)) ∧ (¬ (¬ (zs_I S2 8009 p0) = (6 : Int32)) → (w_X9_block_159 X d (some p0) p1 (1 : Int32) S2 Q))))) Q))
theorem u_X9_block_134 {σ : Nat → Nat} {n0 : Nat} {bf : ab_B} {d : Nat} {p0 : Nat} {p1 : Int32} {S : zs_T} {Q : zs_Q} (hB : zt_B bf) (h : w_X9_block_134 (zx σ n0 bf) d p0 p1 S Q) : zs_U (zx σ n0 bf) d 8144 134 [(0, .ref p0), (1, .int p1)] [] S Q := by
  unfold w_X9_block_134 at h
  refine zu_aload_n d_8144_134 rfl (zs_ra _) ?_
  refine zu_bipush d_8144_135 zj_60 ?_
  refine zu_iload_n d_8144_137 rfl ?_
  refine zu_iconst d_8144_138 zi_0 ?_
  refine zu_iconst d_8144_139 zi_0 ?_
  obtain ⟨k1, h⟩ := h
  refine zc_8_649 (x0 := (60 : Int32)) (x1 := p1) (x2 := (0 : Int32)) (x3 := (0 : Int32)) hB rfl k1 d_8144_140 (Nat.le_of_ble_eq_true rfl) h (fun S2 h => ?_)
  refine zu_aload_n d_8144_143 rfl (zs_ra _) ?_
  refine zu_iload_n d_8144_144 rfl ?_
  refine zu_aload_n d_8144_145 rfl (zs_ra _) ?_
  obtain ⟨k4, h⟩ := h
  refine zg_8_494 rfl d_8144_146 k4 ?_
  refine zu_bipush d_8144_149 zj_6 ?_
  refine zu_cmpne (t := 158) d_8144_151 rfl (fun c5 => ?_) (fun c5 => ?_)
  · have h := h.1 c5
    refine zu_iconst d_8144_158 zi_0 ?_
    exact (u_X9_block_159 hB h).weak trivial
  · have h := h.2 c5
    refine zu_iconst d_8144_154 zi_1 ?_
    refine zu_goto (t := 159) d_8144_155 rfl ?_
    exact (u_X9_block_159 hB h).weak trivial
def w_X9_block_125 (X : zs_X) (d : Nat) (p0 : Nat) (p1 : Int32) (S : zs_T) (Q : zs_Q) : Prop :=
  (zs_K S p0 = some (.inl 8) ∧ zs_C X d 8026 [.ref p0, .int (6 : Int32)] S (zs_kI (fun v3 S2 => (((v3 = 0 → (zs_K S2 p0 = some (.inl 8) ∧ zs_C X d 8026 [.ref p0, .int (8 : Int32)] S2 (zs_kI (fun v7 S6 => (((v7 = 0 → (zs_K S6 p0 = some (.inl 8) ∧ zs_C X d 8027 [.ref p0, .int (2 : Int32)] S6 (zs_kV (fun S10 => w_X9_block_187 X d  S10 Q) Q))) ∧ (¬ (v7 = 0) → (zs_K S6 p0 = some (.inl 8) ∧ zs_C X d 8149 [.ref p0, .int p1] S6 (zs_kV (fun S13 => (w_X9_block_187 X d  S13 Q)) Q)))))) Q))) ∧ (¬ (v3 = 0) → w_X9_block_134 X d p0 p1 S2 Q)))) Q))
theorem u_X9_block_125 {σ : Nat → Nat} {n0 : Nat} {bf : ab_B} {d : Nat} {p0 : Nat} {p1 : Int32} {S : zs_T} {Q : zs_Q} (hB : zt_B bf) (h : w_X9_block_125 (zx σ n0 bf) d p0 p1 S Q) : zs_U (zx σ n0 bf) d 8144 125 [(0, .ref p0), (1, .int p1)] [] S Q := by
  unfold w_X9_block_125 at h
  refine zu_aload_n d_8144_125 rfl (zs_ra _) ?_
  refine zu_bipush d_8144_126 zj_6 ?_
  obtain ⟨k1, h⟩ := h
  refine zc_8_544 (x0 := (6 : Int32)) hB rfl k1 d_8144_128 (Nat.le_of_ble_eq_true rfl) h (fun v3 S2 h => ?_)
  refine zu_ifeq (t := 165) d_8144_131 rfl (fun c4 => ?_) (fun c4 => ?_)
  · have h := h.1 c4
    refine zu_aload_n d_8144_165 rfl (zs_ra _) ?_
    refine zu_bipush d_8144_166 zj_8 ?_
    obtain ⟨k5, h⟩ := h
    refine zc_8_544 (x0 := (8 : Int32)) hB rfl k5 d_8144_168 (Nat.le_of_ble_eq_true rfl) h (fun v7 S6 h => ?_)
    refine zu_ifeq (t := 182) d_8144_171 rfl (fun c8 => ?_) (fun c8 => ?_)
    · have h := h.1 c8
      refine zu_aload_n d_8144_182 rfl (zs_ra _) ?_
      refine zu_iconst d_8144_183 zi_2 ?_
      obtain ⟨k9, h⟩ := h
      refine zc_8_541 (x0 := (2 : Int32)) hB rfl k9 d_8144_184 (Nat.le_of_ble_eq_true rfl) h (fun S10 h => ?_)
      exact (u_X9_block_187 hB h).weak trivial
    · have h := h.2 c8
      refine zu_aload_n d_8144_174 rfl (zs_ra _) ?_
      refine zu_iload_n d_8144_175 rfl ?_
      obtain ⟨k12, h⟩ := h
      refine zc_8_922 (x0 := p1) hB rfl k12 d_8144_176 (Nat.le_of_ble_eq_true rfl) h (fun S13 h => ?_)
      refine zu_goto (t := 187) d_8144_179 rfl ?_
      exact (u_X9_block_187 hB h).weak trivial
  · have h := h.2 c4
    exact (u_X9_block_134 hB h).weak ⟨rfl, rfl, trivial⟩
def w_X9_block (X : zs_X) (d : Nat) (p0 : Nat) (p1 : Int32) (S : zs_T) (Q : zs_Q) : Prop :=
  (zs_K S p0 = some (.inl 8) ∧ (((zs_I S 8010 p0) ≤ 0 → (zs_C X d 8026 [.ref p0, .int (2 : Int32)] S (zs_kI (fun v4 S3 => (((v4 = 0 → (zs_K S3 p0 = some (.inl 8) ∧ zs_C X d 8026 [.ref p0, .int (3 : Int32)] S3 (zs_kI (fun v8 S7 => (((v8 = 0 → (zs_K S7 p0 = some (.inl 8) ∧ zs_C X d 8026 [.ref p0, .int (4 : Int32)] S7 (zs_kI (fun v12 S11 => (((v12 = 0 → (zs_K S11 p0 = some (.inl 8) ∧ zs_C X d 8026 [.ref p0, .int (5 : Int32)] S11 (zs_kI (fun v16 S15 => (((¬ v16 = 0 → w_X9_block_134 X d p0 p1 S15 Q) ∧ (¬ (¬ v16 = 0) → w_X9_block_125 X d p0 p1 S15 Q)))) Q))) ∧ (¬ (v12 = 0) → (zs_K S11 p0 = some (.inl 8) ∧ zs_C X d 8014 [.ref p0] S11 (zs_kV (fun S19 => w_X9_block_96 X d p0 p1 S19 Q) Q)))))) Q))) ∧ (¬ (v8 = 0) → (zs_K S7 p0 = some (.inl 8) ∧ zs_C X d 8014 [.ref p0] S7 (zs_kV (fun S22 => (zs_K S22 p0 = some (.inl 8) ∧ ab_n0 X.1 ≤ p0 ∧ ∀ S26, S26 = zs_sI S22 8132 p0 (1 : Int32) → w_X9_block_58 X d p0 p1 S26 Q)) Q)))))) Q))) ∧ (¬ (v4 = 0) → (zs_K S3 p0 = some (.inl 8) ∧ zs_C X d 8014 [.ref p0] S3 (zs_kV (fun S30 => (zs_K S30 p0 = some (.inl 8) ∧ zs_C X d 8030 [.ref p0, .int (60 : Int32), .int p1, .int (0 : Int32), .int (0 : Int32)] S30 (zs_kV (fun S33 => (zs_K S33 p0 = some (.inl 8) ∧ zs_C X d 8030 [.ref p0, .int (61 : Int32), .int (1 : Int32), .int (0 : Int32), .int (0 : Int32)] S33 (zs_kV (fun S36 => w_X9_block_38 X d  S36 Q) Q))) Q))) Q)))))) Q))) ∧ (¬ ((zs_I S 8010 p0) ≤ 0) → (Q (.returned none) S))))
theorem u_X9_block {σ : Nat → Nat} {n0 : Nat} {bf : ab_B} {d : Nat} {p0 : Nat} {p1 : Int32} {S : zs_T} {Q : zs_Q} (hB : zt_B bf) (hd : 1 ≤ d) (h : w_X9_block (zx σ n0 bf) (d - 1) p0 p1 S Q) : zs_C (zx σ n0 bf) d 8144 [.ref p0, .int p1] S Q := by
  have hL : lv_args 0 [.ref p0, .int p1] = [(0, .ref p0), (1, .int p1)] := rfl
  refine zs_C.of1 (hB.2 8144 (by decide) (by decide)) hd (by rw [hL]; exact zs_sub_self _ (by exact ⟨rfl, rfl, trivial⟩)) ?_
  rw [hL]
  clear hL
  unfold w_X9_block at h
  refine zu_aload_n d_8144_0 rfl (zs_ra _) ?_
  obtain ⟨k1, h⟩ := h
  refine zg_8_444 rfl d_8144_1 k1 ?_
  refine zu_ifle (t := 8) d_8144_4 rfl (fun c2 => ?_) (fun c2 => ?_)
  · have h := h.1 c2
    refine zu_aload_n d_8144_8 rfl (zs_ra _) ?_
    refine zu_iconst d_8144_9 zi_2 ?_
    refine zc_8_544 (x0 := (2 : Int32)) hB rfl k1 d_8144_10 (Nat.le_of_ble_eq_true rfl) h (fun v4 S3 h => ?_)
    refine zu_ifeq (t := 41) d_8144_13 rfl (fun c5 => ?_) (fun c5 => ?_)
    · have h := h.1 c5
      refine zu_aload_n d_8144_41 rfl (zs_ra _) ?_
      refine zu_iconst d_8144_42 zi_3 ?_
      obtain ⟨k6, h⟩ := h
      refine zc_8_544 (x0 := (3 : Int32)) hB rfl k6 d_8144_43 (Nat.le_of_ble_eq_true rfl) h (fun v8 S7 h => ?_)
      refine zu_ifeq (t := 84) d_8144_46 rfl (fun c9 => ?_) (fun c9 => ?_)
      · have h := h.1 c9
        refine zu_aload_n d_8144_84 rfl (zs_ra _) ?_
        refine zu_iconst d_8144_85 zi_4 ?_
        obtain ⟨k10, h⟩ := h
        refine zc_8_544 (x0 := (4 : Int32)) hB rfl k10 d_8144_86 (Nat.le_of_ble_eq_true rfl) h (fun v12 S11 h => ?_)
        refine zu_ifeq (t := 117) d_8144_89 rfl (fun c13 => ?_) (fun c13 => ?_)
        · have h := h.1 c13
          refine zu_aload_n d_8144_117 rfl (zs_ra _) ?_
          refine zu_iconst d_8144_118 zi_5 ?_
          obtain ⟨k14, h⟩ := h
          refine zc_8_544 (x0 := (5 : Int32)) hB rfl k14 d_8144_119 (Nat.le_of_ble_eq_true rfl) h (fun v16 S15 h => ?_)
          refine zu_ifne (t := 134) d_8144_122 rfl (fun c17 => ?_) (fun c17 => ?_)
          · have h := h.1 c17
            exact (u_X9_block_134 hB h).weak ⟨rfl, rfl, trivial⟩
          · have h := h.2 c17
            exact (u_X9_block_125 hB h).weak ⟨rfl, rfl, trivial⟩
        · have h := h.2 c13
          refine zu_aload_n d_8144_92 rfl (zs_ra _) ?_
          obtain ⟨k18, h⟩ := h
          refine zc_8_538  hB rfl k18 d_8144_93 (Nat.le_of_ble_eq_true rfl) h (fun S19 h => ?_)
          exact (u_X9_block_96 hB h).weak ⟨rfl, rfl, trivial⟩
      · have h := h.2 c9
        refine zu_aload_n d_8144_49 rfl (zs_ra _) ?_
        obtain ⟨k21, h⟩ := h
        refine zc_8_538  hB rfl k21 d_8144_50 (Nat.le_of_ble_eq_true rfl) h (fun S22 h => ?_)
        refine zu_aload_n d_8144_53 rfl (zs_ra _) ?_
        refine zu_iconst d_8144_54 zi_1 ?_
        obtain ⟨k24, h⟩ := h
        obtain ⟨k25, h⟩ := h
        refine zp_8_867 (v := (1 : Int32)) rfl d_8144_55 k24 k25 (Or.inr rfl) ?_
        generalize e27 : zs_sI S22 8132 p0 (1 : Int32) = S26
        have h := h S26 e27.symm
        have K28 : ∀ b, zs_K S26 b = zs_K S22 b := zs_Kt e27 (zs_KsI _ _ _ _) (fun _ => rfl)
        exact (u_X9_block_58 hB h).weak ⟨rfl, rfl, trivial⟩
    · have h := h.2 c5
      refine zu_aload_n d_8144_16 rfl (zs_ra _) ?_
      obtain ⟨k29, h⟩ := h
      refine zc_8_538  hB rfl k29 d_8144_17 (Nat.le_of_ble_eq_true rfl) h (fun S30 h => ?_)
      refine zu_aload_n d_8144_20 rfl (zs_ra _) ?_
      refine zu_bipush d_8144_21 zj_60 ?_
      refine zu_iload_n d_8144_23 rfl ?_
      refine zu_iconst d_8144_24 zi_0 ?_
      refine zu_iconst d_8144_25 zi_0 ?_
      obtain ⟨k32, h⟩ := h
      refine zc_8_649 (x0 := (60 : Int32)) (x1 := p1) (x2 := (0 : Int32)) (x3 := (0 : Int32)) hB rfl k32 d_8144_26 (Nat.le_of_ble_eq_true rfl) h (fun S33 h => ?_)
      refine zu_aload_n d_8144_29 rfl (zs_ra _) ?_
      refine zu_bipush d_8144_30 zj_61 ?_
      refine zu_iconst d_8144_32 zi_1 ?_
      refine zu_iconst d_8144_33 zi_0 ?_
      refine zu_iconst d_8144_34 zi_0 ?_
      obtain ⟨k35, h⟩ := h
      refine zc_8_649 (x0 := (61 : Int32)) (x1 := (1 : Int32)) (x2 := (0 : Int32)) (x3 := (0 : Int32)) hB rfl k35 d_8144_35 (Nat.le_of_ble_eq_true rfl) h (fun S36 h => ?_)
      exact (u_X9_block_38 hB h).weak trivial
  · have h := h.2 c2
    exact zu_vret d_8144_7 zr_8144 h
/-! SchemaPascalModel.routineHere(IZ)V -/
theorem zm_8145 {σ : Nat → Nat} {n0 : Nat} {bf : ab_B} : ab_code (zx σ n0 bf).1 8145 = prog_17_method_154_code := rfl
theorem zq_8145 {σ : Nat → Nat} {n0 : Nat} {bf : ab_B} : ab_maxL (zx σ n0 bf).1 8145 = 11 := rfl
theorem zr_8145 {σ : Nat → Nat} {n0 : Nat} {bf : ab_B} : ab_ret (zx σ n0 bf).1 8145 = (Option.none : Option Jvm.ClassFile.FieldType) := rfl
theorem d_8145_0 {σ : Nat → Nat} {n0 : Nat} {bf : ab_B} : decode (ab_code (zx σ n0 bf).1 8145) 0 = .ok (.aload_n 0, 1) := zd zm_8145 (by decide +kernel)
theorem d_8145_1 {σ : Nat → Nat} {n0 : Nat} {bf : ab_B} : decode (ab_code (zx σ n0 bf).1 8145) 1 = .ok (.bipush 69, 2) := zd zm_8145 (by decide +kernel)
theorem d_8145_3 {σ : Nat → Nat} {n0 : Nat} {bf : ab_B} : decode (ab_code (zx σ n0 bf).1 8145) 3 = .ok (.iconst 0, 1) := zd zm_8145 (by decide +kernel)
theorem d_8145_4 {σ : Nat → Nat} {n0 : Nat} {bf : ab_B} : decode (ab_code (zx σ n0 bf).1 8145) 4 = .ok (.iload_n 1, 1) := zd zm_8145 (by decide +kernel)
theorem d_8145_5 {σ : Nat → Nat} {n0 : Nat} {bf : ab_B} : decode (ab_code (zx σ n0 bf).1 8145) 5 = .ok (.iconst 0, 1) := zd zm_8145 (by decide +kernel)
theorem d_8145_6 {σ : Nat → Nat} {n0 : Nat} {bf : ab_B} : decode (ab_code (zx σ n0 bf).1 8145) 6 = .ok (.invokevirtual 649, 3) := zd zm_8145 (by decide +kernel)
theorem d_8145_9 {σ : Nat → Nat} {n0 : Nat} {bf : ab_B} : decode (ab_code (zx σ n0 bf).1 8145) 9 = .ok (.aload_n 0, 1) := zd zm_8145 (by decide +kernel)
theorem d_8145_10 {σ : Nat → Nat} {n0 : Nat} {bf : ab_B} : decode (ab_code (zx σ n0 bf).1 8145) 10 = .ok (.getfield 643, 3) := zd zm_8145 (by decide +kernel)
theorem d_8145_13 {σ : Nat → Nat} {n0 : Nat} {bf : ab_B} : decode (ab_code (zx σ n0 bf).1 8145) 13 = .ok (.iconst 1, 1) := zd zm_8145 (by decide +kernel)
theorem d_8145_14 {σ : Nat → Nat} {n0 : Nat} {bf : ab_B} : decode (ab_code (zx σ n0 bf).1 8145) 14 = .ok (.isub, 1) := zd zm_8145 (by decide +kernel)
theorem d_8145_15 {σ : Nat → Nat} {n0 : Nat} {bf : ab_B} : decode (ab_code (zx σ n0 bf).1 8145) 15 = .ok (.istore_n 3, 1) := zd zm_8145 (by decide +kernel)
theorem d_8145_16 {σ : Nat → Nat} {n0 : Nat} {bf : ab_B} : decode (ab_code (zx σ n0 bf).1 8145) 16 = .ok (.aload_n 0, 1) := zd zm_8145 (by decide +kernel)
theorem d_8145_17 {σ : Nat → Nat} {n0 : Nat} {bf : ab_B} : decode (ab_code (zx σ n0 bf).1 8145) 17 = .ok (.invokevirtual 706, 3) := zd zm_8145 (by decide +kernel)
theorem d_8145_20 {σ : Nat → Nat} {n0 : Nat} {bf : ab_B} : decode (ab_code (zx σ n0 bf).1 8145) 20 = .ok (.aload_n 0, 1) := zd zm_8145 (by decide +kernel)
theorem d_8145_21 {σ : Nat → Nat} {n0 : Nat} {bf : ab_B} : decode (ab_code (zx σ n0 bf).1 8145) 21 = .ok (.invokevirtual 538, 3) := zd zm_8145 (by decide +kernel)
theorem d_8145_24 {σ : Nat → Nat} {n0 : Nat} {bf : ab_B} : decode (ab_code (zx σ n0 bf).1 8145) 24 = .ok (.aload_n 0, 1) := zd zm_8145 (by decide +kernel)
theorem d_8145_25 {σ : Nat → Nat} {n0 : Nat} {bf : ab_B} : decode (ab_code (zx σ n0 bf).1 8145) 25 = .ok (.getfield 444, 3) := zd zm_8145 (by decide +kernel)
theorem d_8145_28 {σ : Nat → Nat} {n0 : Nat} {bf : ab_B} : decode (ab_code (zx σ n0 bf).1 8145) 28 = .ok (.ifCond .le 4, 3) := zd zm_8145 (by decide +kernel)
theorem d_8145_31 {σ : Nat → Nat} {n0 : Nat} {bf : ab_B} : decode (ab_code (zx σ n0 bf).1 8145) 31 = .ok (.return_, 1) := zd zm_8145 (by decide +kernel)
theorem d_8145_32 {σ : Nat → Nat} {n0 : Nat} {bf : ab_B} : decode (ab_code (zx σ n0 bf).1 8145) 32 = .ok (.aload_n 0, 1) := zd zm_8145 (by decide +kernel)
theorem d_8145_33 {σ : Nat → Nat} {n0 : Nat} {bf : ab_B} : decode (ab_code (zx σ n0 bf).1 8145) 33 = .ok (.getfield 484, 3) := zd zm_8145 (by decide +kernel)
theorem d_8145_36 {σ : Nat → Nat} {n0 : Nat} {bf : ab_B} : decode (ab_code (zx σ n0 bf).1 8145) 36 = .ok (.iconst 1, 1) := zd zm_8145 (by decide +kernel)
theorem d_8145_37 {σ : Nat → Nat} {n0 : Nat} {bf : ab_B} : decode (ab_code (zx σ n0 bf).1 8145) 37 = .ok (.if_icmp .eq 9, 3) := zd zm_8145 (by decide +kernel)
theorem d_8145_40 {σ : Nat → Nat} {n0 : Nat} {bf : ab_B} : decode (ab_code (zx σ n0 bf).1 8145) 40 = .ok (.aload_n 0, 1) := zd zm_8145 (by decide +kernel)
theorem d_8145_41 {σ : Nat → Nat} {n0 : Nat} {bf : ab_B} : decode (ab_code (zx σ n0 bf).1 8145) 41 = .ok (.iconst 2, 1) := zd zm_8145 (by decide +kernel)
theorem d_8145_42 {σ : Nat → Nat} {n0 : Nat} {bf : ab_B} : decode (ab_code (zx σ n0 bf).1 8145) 42 = .ok (.invokevirtual 541, 3) := zd zm_8145 (by decide +kernel)
theorem d_8145_45 {σ : Nat → Nat} {n0 : Nat} {bf : ab_B} : decode (ab_code (zx σ n0 bf).1 8145) 45 = .ok (.return_, 1) := zd zm_8145 (by decide +kernel)
theorem d_8145_46 {σ : Nat → Nat} {n0 : Nat} {bf : ab_B} : decode (ab_code (zx σ n0 bf).1 8145) 46 = .ok (.aload_n 0, 1) := zd zm_8145 (by decide +kernel)
theorem d_8145_47 {σ : Nat → Nat} {n0 : Nat} {bf : ab_B} : decode (ab_code (zx σ n0 bf).1 8145) 47 = .ok (.getfield 494, 3) := zd zm_8145 (by decide +kernel)
theorem d_8145_50 {σ : Nat → Nat} {n0 : Nat} {bf : ab_B} : decode (ab_code (zx σ n0 bf).1 8145) 50 = .ok (.istore 4, 2) := zd zm_8145 (by decide +kernel)
theorem d_8145_52 {σ : Nat → Nat} {n0 : Nat} {bf : ab_B} : decode (ab_code (zx σ n0 bf).1 8145) 52 = .ok (.aload_n 0, 1) := zd zm_8145 (by decide +kernel)
theorem d_8145_53 {σ : Nat → Nat} {n0 : Nat} {bf : ab_B} : decode (ab_code (zx σ n0 bf).1 8145) 53 = .ok (.getfield 450, 3) := zd zm_8145 (by decide +kernel)
theorem d_8145_56 {σ : Nat → Nat} {n0 : Nat} {bf : ab_B} : decode (ab_code (zx σ n0 bf).1 8145) 56 = .ok (.istore 5, 2) := zd zm_8145 (by decide +kernel)
theorem d_8145_58 {σ : Nat → Nat} {n0 : Nat} {bf : ab_B} : decode (ab_code (zx σ n0 bf).1 8145) 58 = .ok (.aload_n 0, 1) := zd zm_8145 (by decide +kernel)
theorem d_8145_59 {σ : Nat → Nat} {n0 : Nat} {bf : ab_B} : decode (ab_code (zx σ n0 bf).1 8145) 59 = .ok (.getfield 37, 3) := zd zm_8145 (by decide +kernel)
theorem d_8145_62 {σ : Nat → Nat} {n0 : Nat} {bf : ab_B} : decode (ab_code (zx σ n0 bf).1 8145) 62 = .ok (.iload 4, 2) := zd zm_8145 (by decide +kernel)
theorem d_8145_64 {σ : Nat → Nat} {n0 : Nat} {bf : ab_B} : decode (ab_code (zx σ n0 bf).1 8145) 64 = .ok (.iaload, 1) := zd zm_8145 (by decide +kernel)
theorem d_8145_65 {σ : Nat → Nat} {n0 : Nat} {bf : ab_B} : decode (ab_code (zx σ n0 bf).1 8145) 65 = .ok (.istore 6, 2) := zd zm_8145 (by decide +kernel)
theorem d_8145_67 {σ : Nat → Nat} {n0 : Nat} {bf : ab_B} : decode (ab_code (zx σ n0 bf).1 8145) 67 = .ok (.aload_n 0, 1) := zd zm_8145 (by decide +kernel)
theorem d_8145_68 {σ : Nat → Nat} {n0 : Nat} {bf : ab_B} : decode (ab_code (zx σ n0 bf).1 8145) 68 = .ok (.iload 4, 2) := zd zm_8145 (by decide +kernel)
theorem d_8145_70 {σ : Nat → Nat} {n0 : Nat} {bf : ab_B} : decode (ab_code (zx σ n0 bf).1 8145) 70 = .ok (.invokevirtual 864, 3) := zd zm_8145 (by decide +kernel)
theorem d_8145_73 {σ : Nat → Nat} {n0 : Nat} {bf : ab_B} : decode (ab_code (zx σ n0 bf).1 8145) 73 = .ok (.ifCond .eq 73, 3) := zd zm_8145 (by decide +kernel)
theorem d_8145_76 {σ : Nat → Nat} {n0 : Nat} {bf : ab_B} : decode (ab_code (zx σ n0 bf).1 8145) 76 = .ok (.aload_n 0, 1) := zd zm_8145 (by decide +kernel)
theorem d_8145_77 {σ : Nat → Nat} {n0 : Nat} {bf : ab_B} : decode (ab_code (zx σ n0 bf).1 8145) 77 = .ok (.getfield 44, 3) := zd zm_8145 (by decide +kernel)
theorem d_8145_80 {σ : Nat → Nat} {n0 : Nat} {bf : ab_B} : decode (ab_code (zx σ n0 bf).1 8145) 80 = .ok (.iload 6, 2) := zd zm_8145 (by decide +kernel)
theorem d_8145_82 {σ : Nat → Nat} {n0 : Nat} {bf : ab_B} : decode (ab_code (zx σ n0 bf).1 8145) 82 = .ok (.baload, 1) := zd zm_8145 (by decide +kernel)
theorem d_8145_83 {σ : Nat → Nat} {n0 : Nat} {bf : ab_B} : decode (ab_code (zx σ n0 bf).1 8145) 83 = .ok (.iconst 5, 1) := zd zm_8145 (by decide +kernel)
theorem d_8145_84 {σ : Nat → Nat} {n0 : Nat} {bf : ab_B} : decode (ab_code (zx σ n0 bf).1 8145) 84 = .ok (.if_icmp .ne 62, 3) := zd zm_8145 (by decide +kernel)
theorem d_8145_87 {σ : Nat → Nat} {n0 : Nat} {bf : ab_B} : decode (ab_code (zx σ n0 bf).1 8145) 87 = .ok (.aload_n 0, 1) := zd zm_8145 (by decide +kernel)
theorem d_8145_88 {σ : Nat → Nat} {n0 : Nat} {bf : ab_B} : decode (ab_code (zx σ n0 bf).1 8145) 88 = .ok (.getfield 230, 3) := zd zm_8145 (by decide +kernel)
theorem d_8145_91 {σ : Nat → Nat} {n0 : Nat} {bf : ab_B} : decode (ab_code (zx σ n0 bf).1 8145) 91 = .ok (.aload_n 0, 1) := zd zm_8145 (by decide +kernel)
theorem d_8145_92 {σ : Nat → Nat} {n0 : Nat} {bf : ab_B} : decode (ab_code (zx σ n0 bf).1 8145) 92 = .ok (.getfield 53, 3) := zd zm_8145 (by decide +kernel)
theorem d_8145_95 {σ : Nat → Nat} {n0 : Nat} {bf : ab_B} : decode (ab_code (zx σ n0 bf).1 8145) 95 = .ok (.iload 6, 2) := zd zm_8145 (by decide +kernel)
theorem d_8145_97 {σ : Nat → Nat} {n0 : Nat} {bf : ab_B} : decode (ab_code (zx σ n0 bf).1 8145) 97 = .ok (.iaload, 1) := zd zm_8145 (by decide +kernel)
theorem d_8145_98 {σ : Nat → Nat} {n0 : Nat} {bf : ab_B} : decode (ab_code (zx σ n0 bf).1 8145) 98 = .ok (.baload, 1) := zd zm_8145 (by decide +kernel)
theorem d_8145_99 {σ : Nat → Nat} {n0 : Nat} {bf : ab_B} : decode (ab_code (zx σ n0 bf).1 8145) 99 = .ok (.ifCond .eq 47, 3) := zd zm_8145 (by decide +kernel)
theorem d_8145_102 {σ : Nat → Nat} {n0 : Nat} {bf : ab_B} : decode (ab_code (zx σ n0 bf).1 8145) 102 = .ok (.aload_n 0, 1) := zd zm_8145 (by decide +kernel)
theorem d_8145_103 {σ : Nat → Nat} {n0 : Nat} {bf : ab_B} : decode (ab_code (zx σ n0 bf).1 8145) 103 = .ok (.getfield 233, 3) := zd zm_8145 (by decide +kernel)
theorem d_8145_106 {σ : Nat → Nat} {n0 : Nat} {bf : ab_B} : decode (ab_code (zx σ n0 bf).1 8145) 106 = .ok (.aload_n 0, 1) := zd zm_8145 (by decide +kernel)
theorem d_8145_107 {σ : Nat → Nat} {n0 : Nat} {bf : ab_B} : decode (ab_code (zx σ n0 bf).1 8145) 107 = .ok (.getfield 53, 3) := zd zm_8145 (by decide +kernel)
theorem d_8145_110 {σ : Nat → Nat} {n0 : Nat} {bf : ab_B} : decode (ab_code (zx σ n0 bf).1 8145) 110 = .ok (.iload 6, 2) := zd zm_8145 (by decide +kernel)
theorem d_8145_112 {σ : Nat → Nat} {n0 : Nat} {bf : ab_B} : decode (ab_code (zx σ n0 bf).1 8145) 112 = .ok (.iaload, 1) := zd zm_8145 (by decide +kernel)
theorem d_8145_113 {σ : Nat → Nat} {n0 : Nat} {bf : ab_B} : decode (ab_code (zx σ n0 bf).1 8145) 113 = .ok (.iaload, 1) := zd zm_8145 (by decide +kernel)
theorem d_8145_114 {σ : Nat → Nat} {n0 : Nat} {bf : ab_B} : decode (ab_code (zx σ n0 bf).1 8145) 114 = .ok (.iload_n 1, 1) := zd zm_8145 (by decide +kernel)
theorem d_8145_115 {σ : Nat → Nat} {n0 : Nat} {bf : ab_B} : decode (ab_code (zx σ n0 bf).1 8145) 115 = .ok (.if_icmp .ne 31, 3) := zd zm_8145 (by decide +kernel)
theorem d_8145_118 {σ : Nat → Nat} {n0 : Nat} {bf : ab_B} : decode (ab_code (zx σ n0 bf).1 8145) 118 = .ok (.aload_n 0, 1) := zd zm_8145 (by decide +kernel)
theorem d_8145_119 {σ : Nat → Nat} {n0 : Nat} {bf : ab_B} : decode (ab_code (zx σ n0 bf).1 8145) 119 = .ok (.getfield 215, 3) := zd zm_8145 (by decide +kernel)
theorem d_8145_122 {σ : Nat → Nat} {n0 : Nat} {bf : ab_B} : decode (ab_code (zx σ n0 bf).1 8145) 122 = .ok (.aload_n 0, 1) := zd zm_8145 (by decide +kernel)
theorem d_8145_123 {σ : Nat → Nat} {n0 : Nat} {bf : ab_B} : decode (ab_code (zx σ n0 bf).1 8145) 123 = .ok (.getfield 53, 3) := zd zm_8145 (by decide +kernel)
theorem d_8145_126 {σ : Nat → Nat} {n0 : Nat} {bf : ab_B} : decode (ab_code (zx σ n0 bf).1 8145) 126 = .ok (.iload 6, 2) := zd zm_8145 (by decide +kernel)
theorem d_8145_128 {σ : Nat → Nat} {n0 : Nat} {bf : ab_B} : decode (ab_code (zx σ n0 bf).1 8145) 128 = .ok (.iaload, 1) := zd zm_8145 (by decide +kernel)
theorem d_8145_129 {σ : Nat → Nat} {n0 : Nat} {bf : ab_B} : decode (ab_code (zx σ n0 bf).1 8145) 129 = .ok (.iaload, 1) := zd zm_8145 (by decide +kernel)
theorem d_8145_130 {σ : Nat → Nat} {n0 : Nat} {bf : ab_B} : decode (ab_code (zx σ n0 bf).1 8145) 130 = .ok (.ifCond .le 7, 3) := zd zm_8145 (by decide +kernel)
theorem d_8145_133 {σ : Nat → Nat} {n0 : Nat} {bf : ab_B} : decode (ab_code (zx σ n0 bf).1 8145) 133 = .ok (.iconst 1, 1) := zd zm_8145 (by decide +kernel)
theorem d_8145_134 {σ : Nat → Nat} {n0 : Nat} {bf : ab_B} : decode (ab_code (zx σ n0 bf).1 8145) 134 = .ok (.goto 4, 3) := zd zm_8145 (by decide +kernel)
theorem d_8145_137 {σ : Nat → Nat} {n0 : Nat} {bf : ab_B} : decode (ab_code (zx σ n0 bf).1 8145) 137 = .ok (.iconst 0, 1) := zd zm_8145 (by decide +kernel)
theorem d_8145_138 {σ : Nat → Nat} {n0 : Nat} {bf : ab_B} : decode (ab_code (zx σ n0 bf).1 8145) 138 = .ok (.iload_n 2, 1) := zd zm_8145 (by decide +kernel)
theorem d_8145_139 {σ : Nat → Nat} {n0 : Nat} {bf : ab_B} : decode (ab_code (zx σ n0 bf).1 8145) 139 = .ok (.if_icmp .ne 7, 3) := zd zm_8145 (by decide +kernel)
theorem d_8145_142 {σ : Nat → Nat} {n0 : Nat} {bf : ab_B} : decode (ab_code (zx σ n0 bf).1 8145) 142 = .ok (.iconst 1, 1) := zd zm_8145 (by decide +kernel)
theorem d_8145_143 {σ : Nat → Nat} {n0 : Nat} {bf : ab_B} : decode (ab_code (zx σ n0 bf).1 8145) 143 = .ok (.goto 4, 3) := zd zm_8145 (by decide +kernel)
theorem d_8145_146 {σ : Nat → Nat} {n0 : Nat} {bf : ab_B} : decode (ab_code (zx σ n0 bf).1 8145) 146 = .ok (.iconst 0, 1) := zd zm_8145 (by decide +kernel)
theorem d_8145_147 {σ : Nat → Nat} {n0 : Nat} {bf : ab_B} : decode (ab_code (zx σ n0 bf).1 8145) 147 = .ok (.istore 7, 2) := zd zm_8145 (by decide +kernel)
theorem d_8145_149 {σ : Nat → Nat} {n0 : Nat} {bf : ab_B} : decode (ab_code (zx σ n0 bf).1 8145) 149 = .ok (.aload_n 0, 1) := zd zm_8145 (by decide +kernel)
theorem d_8145_150 {σ : Nat → Nat} {n0 : Nat} {bf : ab_B} : decode (ab_code (zx σ n0 bf).1 8145) 150 = .ok (.iload 4, 2) := zd zm_8145 (by decide +kernel)
theorem d_8145_152 {σ : Nat → Nat} {n0 : Nat} {bf : ab_B} : decode (ab_code (zx σ n0 bf).1 8145) 152 = .ok (.invokevirtual 864, 3) := zd zm_8145 (by decide +kernel)
theorem d_8145_155 {σ : Nat → Nat} {n0 : Nat} {bf : ab_B} : decode (ab_code (zx σ n0 bf).1 8145) 155 = .ok (.ifCond .eq 14, 3) := zd zm_8145 (by decide +kernel)
theorem d_8145_158 {σ : Nat → Nat} {n0 : Nat} {bf : ab_B} : decode (ab_code (zx σ n0 bf).1 8145) 158 = .ok (.iload 7, 2) := zd zm_8145 (by decide +kernel)
theorem d_8145_160 {σ : Nat → Nat} {n0 : Nat} {bf : ab_B} : decode (ab_code (zx σ n0 bf).1 8145) 160 = .ok (.ifCond .ne 9, 3) := zd zm_8145 (by decide +kernel)
theorem d_8145_163 {σ : Nat → Nat} {n0 : Nat} {bf : ab_B} : decode (ab_code (zx σ n0 bf).1 8145) 163 = .ok (.aload_n 0, 1) := zd zm_8145 (by decide +kernel)
theorem d_8145_164 {σ : Nat → Nat} {n0 : Nat} {bf : ab_B} : decode (ab_code (zx σ n0 bf).1 8145) 164 = .ok (.iconst 4, 1) := zd zm_8145 (by decide +kernel)
theorem d_8145_165 {σ : Nat → Nat} {n0 : Nat} {bf : ab_B} : decode (ab_code (zx σ n0 bf).1 8145) 165 = .ok (.invokevirtual 541, 3) := zd zm_8145 (by decide +kernel)
theorem d_8145_168 {σ : Nat → Nat} {n0 : Nat} {bf : ab_B} : decode (ab_code (zx σ n0 bf).1 8145) 168 = .ok (.return_, 1) := zd zm_8145 (by decide +kernel)
theorem d_8145_169 {σ : Nat → Nat} {n0 : Nat} {bf : ab_B} : decode (ab_code (zx σ n0 bf).1 8145) 169 = .ok (.iload 7, 2) := zd zm_8145 (by decide +kernel)
theorem d_8145_171 {σ : Nat → Nat} {n0 : Nat} {bf : ab_B} : decode (ab_code (zx σ n0 bf).1 8145) 171 = .ok (.ifCond .eq 13, 3) := zd zm_8145 (by decide +kernel)
theorem d_8145_174 {σ : Nat → Nat} {n0 : Nat} {bf : ab_B} : decode (ab_code (zx σ n0 bf).1 8145) 174 = .ok (.aload_n 0, 1) := zd zm_8145 (by decide +kernel)
theorem d_8145_175 {σ : Nat → Nat} {n0 : Nat} {bf : ab_B} : decode (ab_code (zx σ n0 bf).1 8145) 175 = .ok (.getfield 53, 3) := zd zm_8145 (by decide +kernel)
theorem d_8145_178 {σ : Nat → Nat} {n0 : Nat} {bf : ab_B} : decode (ab_code (zx σ n0 bf).1 8145) 178 = .ok (.iload 6, 2) := zd zm_8145 (by decide +kernel)
theorem d_8145_180 {σ : Nat → Nat} {n0 : Nat} {bf : ab_B} : decode (ab_code (zx σ n0 bf).1 8145) 180 = .ok (.iaload, 1) := zd zm_8145 (by decide +kernel)
theorem d_8145_181 {σ : Nat → Nat} {n0 : Nat} {bf : ab_B} : decode (ab_code (zx σ n0 bf).1 8145) 181 = .ok (.goto 9, 3) := zd zm_8145 (by decide +kernel)
theorem d_8145_184 {σ : Nat → Nat} {n0 : Nat} {bf : ab_B} : decode (ab_code (zx σ n0 bf).1 8145) 184 = .ok (.aload_n 0, 1) := zd zm_8145 (by decide +kernel)
theorem d_8145_185 {σ : Nat → Nat} {n0 : Nat} {bf : ab_B} : decode (ab_code (zx σ n0 bf).1 8145) 185 = .ok (.getfield 944, 3) := zd zm_8145 (by decide +kernel)
theorem d_8145_188 {σ : Nat → Nat} {n0 : Nat} {bf : ab_B} : decode (ab_code (zx σ n0 bf).1 8145) 188 = .ok (.iconst 1, 1) := zd zm_8145 (by decide +kernel)
theorem d_8145_189 {σ : Nat → Nat} {n0 : Nat} {bf : ab_B} : decode (ab_code (zx σ n0 bf).1 8145) 189 = .ok (.iadd, 1) := zd zm_8145 (by decide +kernel)
theorem d_8145_190 {σ : Nat → Nat} {n0 : Nat} {bf : ab_B} : decode (ab_code (zx σ n0 bf).1 8145) 190 = .ok (.istore 8, 2) := zd zm_8145 (by decide +kernel)
theorem d_8145_192 {σ : Nat → Nat} {n0 : Nat} {bf : ab_B} : decode (ab_code (zx σ n0 bf).1 8145) 192 = .ok (.aload_n 0, 1) := zd zm_8145 (by decide +kernel)
theorem d_8145_193 {σ : Nat → Nat} {n0 : Nat} {bf : ab_B} : decode (ab_code (zx σ n0 bf).1 8145) 193 = .ok (.invokevirtual 538, 3) := zd zm_8145 (by decide +kernel)
theorem d_8145_196 {σ : Nat → Nat} {n0 : Nat} {bf : ab_B} : decode (ab_code (zx σ n0 bf).1 8145) 196 = .ok (.aload_n 0, 1) := zd zm_8145 (by decide +kernel)
theorem d_8145_197 {σ : Nat → Nat} {n0 : Nat} {bf : ab_B} : decode (ab_code (zx σ n0 bf).1 8145) 197 = .ok (.getfield 182, 3) := zd zm_8145 (by decide +kernel)
theorem d_8145_200 {σ : Nat → Nat} {n0 : Nat} {bf : ab_B} : decode (ab_code (zx σ n0 bf).1 8145) 200 = .ok (.iload_n 3, 1) := zd zm_8145 (by decide +kernel)
theorem d_8145_201 {σ : Nat → Nat} {n0 : Nat} {bf : ab_B} : decode (ab_code (zx σ n0 bf).1 8145) 201 = .ok (.iload 8, 2) := zd zm_8145 (by decide +kernel)
theorem d_8145_203 {σ : Nat → Nat} {n0 : Nat} {bf : ab_B} : decode (ab_code (zx σ n0 bf).1 8145) 203 = .ok (.iastore, 1) := zd zm_8145 (by decide +kernel)
theorem d_8145_204 {σ : Nat → Nat} {n0 : Nat} {bf : ab_B} : decode (ab_code (zx σ n0 bf).1 8145) 204 = .ok (.iload 7, 2) := zd zm_8145 (by decide +kernel)
theorem d_8145_206 {σ : Nat → Nat} {n0 : Nat} {bf : ab_B} : decode (ab_code (zx σ n0 bf).1 8145) 206 = .ok (.ifCond .eq 35, 3) := zd zm_8145 (by decide +kernel)
theorem d_8145_209 {σ : Nat → Nat} {n0 : Nat} {bf : ab_B} : decode (ab_code (zx σ n0 bf).1 8145) 209 = .ok (.aload_n 0, 1) := zd zm_8145 (by decide +kernel)
theorem d_8145_210 {σ : Nat → Nat} {n0 : Nat} {bf : ab_B} : decode (ab_code (zx σ n0 bf).1 8145) 210 = .ok (.bipush 13, 2) := zd zm_8145 (by decide +kernel)
theorem d_8145_212 {σ : Nat → Nat} {n0 : Nat} {bf : ab_B} : decode (ab_code (zx σ n0 bf).1 8145) 212 = .ok (.invokevirtual 746, 3) := zd zm_8145 (by decide +kernel)
theorem d_8145_215 {σ : Nat → Nat} {n0 : Nat} {bf : ab_B} : decode (ab_code (zx σ n0 bf).1 8145) 215 = .ok (.aload_n 0, 1) := zd zm_8145 (by decide +kernel)
theorem d_8145_216 {σ : Nat → Nat} {n0 : Nat} {bf : ab_B} : decode (ab_code (zx σ n0 bf).1 8145) 216 = .ok (.invokevirtual 603, 3) := zd zm_8145 (by decide +kernel)
theorem d_8145_219 {σ : Nat → Nat} {n0 : Nat} {bf : ab_B} : decode (ab_code (zx σ n0 bf).1 8145) 219 = .ok (.aload_n 0, 1) := zd zm_8145 (by decide +kernel)
theorem d_8145_220 {σ : Nat → Nat} {n0 : Nat} {bf : ab_B} : decode (ab_code (zx σ n0 bf).1 8145) 220 = .ok (.iload 8, 2) := zd zm_8145 (by decide +kernel)
theorem d_8145_222 {σ : Nat → Nat} {n0 : Nat} {bf : ab_B} : decode (ab_code (zx σ n0 bf).1 8145) 222 = .ok (.invokevirtual 947, 3) := zd zm_8145 (by decide +kernel)
theorem d_8145_225 {σ : Nat → Nat} {n0 : Nat} {bf : ab_B} : decode (ab_code (zx σ n0 bf).1 8145) 225 = .ok (.aload_n 0, 1) := zd zm_8145 (by decide +kernel)
theorem d_8145_226 {σ : Nat → Nat} {n0 : Nat} {bf : ab_B} : decode (ab_code (zx σ n0 bf).1 8145) 226 = .ok (.getfield 230, 3) := zd zm_8145 (by decide +kernel)
theorem d_8145_229 {σ : Nat → Nat} {n0 : Nat} {bf : ab_B} : decode (ab_code (zx σ n0 bf).1 8145) 229 = .ok (.iload 8, 2) := zd zm_8145 (by decide +kernel)
theorem d_8145_231 {σ : Nat → Nat} {n0 : Nat} {bf : ab_B} : decode (ab_code (zx σ n0 bf).1 8145) 231 = .ok (.iconst 0, 1) := zd zm_8145 (by decide +kernel)
theorem d_8145_232 {σ : Nat → Nat} {n0 : Nat} {bf : ab_B} : decode (ab_code (zx σ n0 bf).1 8145) 232 = .ok (.bastore, 1) := zd zm_8145 (by decide +kernel)
theorem d_8145_233 {σ : Nat → Nat} {n0 : Nat} {bf : ab_B} : decode (ab_code (zx σ n0 bf).1 8145) 233 = .ok (.aload_n 0, 1) := zd zm_8145 (by decide +kernel)
theorem d_8145_234 {σ : Nat → Nat} {n0 : Nat} {bf : ab_B} : decode (ab_code (zx σ n0 bf).1 8145) 234 = .ok (.iload 8, 2) := zd zm_8145 (by decide +kernel)
theorem d_8145_236 {σ : Nat → Nat} {n0 : Nat} {bf : ab_B} : decode (ab_code (zx σ n0 bf).1 8145) 236 = .ok (.iload_n 1, 1) := zd zm_8145 (by decide +kernel)
theorem d_8145_237 {σ : Nat → Nat} {n0 : Nat} {bf : ab_B} : decode (ab_code (zx σ n0 bf).1 8145) 237 = .ok (.invokevirtual 950, 3) := zd zm_8145 (by decide +kernel)
theorem d_8145_240 {σ : Nat → Nat} {n0 : Nat} {bf : ab_B} : decode (ab_code (zx σ n0 bf).1 8145) 240 = .ok (.return_, 1) := zd zm_8145 (by decide +kernel)
theorem d_8145_241 {σ : Nat → Nat} {n0 : Nat} {bf : ab_B} : decode (ab_code (zx σ n0 bf).1 8145) 241 = .ok (.aload_n 0, 1) := zd zm_8145 (by decide +kernel)
theorem d_8145_242 {σ : Nat → Nat} {n0 : Nat} {bf : ab_B} : decode (ab_code (zx σ n0 bf).1 8145) 242 = .ok (.iload 8, 2) := zd zm_8145 (by decide +kernel)
theorem d_8145_244 {σ : Nat → Nat} {n0 : Nat} {bf : ab_B} : decode (ab_code (zx σ n0 bf).1 8145) 244 = .ok (.putfield 944, 3) := zd zm_8145 (by decide +kernel)
theorem d_8145_247 {σ : Nat → Nat} {n0 : Nat} {bf : ab_B} : decode (ab_code (zx σ n0 bf).1 8145) 247 = .ok (.aload_n 0, 1) := zd zm_8145 (by decide +kernel)
theorem d_8145_248 {σ : Nat → Nat} {n0 : Nat} {bf : ab_B} : decode (ab_code (zx σ n0 bf).1 8145) 248 = .ok (.getfield 209, 3) := zd zm_8145 (by decide +kernel)
theorem d_8145_251 {σ : Nat → Nat} {n0 : Nat} {bf : ab_B} : decode (ab_code (zx σ n0 bf).1 8145) 251 = .ok (.iload 8, 2) := zd zm_8145 (by decide +kernel)
theorem d_8145_253 {σ : Nat → Nat} {n0 : Nat} {bf : ab_B} : decode (ab_code (zx σ n0 bf).1 8145) 253 = .ok (.iload 4, 2) := zd zm_8145 (by decide +kernel)
theorem d_8145_255 {σ : Nat → Nat} {n0 : Nat} {bf : ab_B} : decode (ab_code (zx σ n0 bf).1 8145) 255 = .ok (.iastore, 1) := zd zm_8145 (by decide +kernel)
theorem d_8145_256 {σ : Nat → Nat} {n0 : Nat} {bf : ab_B} : decode (ab_code (zx σ n0 bf).1 8145) 256 = .ok (.aload_n 0, 1) := zd zm_8145 (by decide +kernel)
theorem d_8145_257 {σ : Nat → Nat} {n0 : Nat} {bf : ab_B} : decode (ab_code (zx σ n0 bf).1 8145) 257 = .ok (.getfield 311, 3) := zd zm_8145 (by decide +kernel)
theorem d_8145_260 {σ : Nat → Nat} {n0 : Nat} {bf : ab_B} : decode (ab_code (zx σ n0 bf).1 8145) 260 = .ok (.iload 8, 2) := zd zm_8145 (by decide +kernel)
theorem d_8145_262 {σ : Nat → Nat} {n0 : Nat} {bf : ab_B} : decode (ab_code (zx σ n0 bf).1 8145) 262 = .ok (.iload 5, 2) := zd zm_8145 (by decide +kernel)
theorem d_8145_264 {σ : Nat → Nat} {n0 : Nat} {bf : ab_B} : decode (ab_code (zx σ n0 bf).1 8145) 264 = .ok (.iastore, 1) := zd zm_8145 (by decide +kernel)
theorem d_8145_265 {σ : Nat → Nat} {n0 : Nat} {bf : ab_B} : decode (ab_code (zx σ n0 bf).1 8145) 265 = .ok (.aload_n 0, 1) := zd zm_8145 (by decide +kernel)
theorem d_8145_266 {σ : Nat → Nat} {n0 : Nat} {bf : ab_B} : decode (ab_code (zx σ n0 bf).1 8145) 266 = .ok (.getfield 233, 3) := zd zm_8145 (by decide +kernel)
theorem d_8145_269 {σ : Nat → Nat} {n0 : Nat} {bf : ab_B} : decode (ab_code (zx σ n0 bf).1 8145) 269 = .ok (.iload 8, 2) := zd zm_8145 (by decide +kernel)
theorem d_8145_271 {σ : Nat → Nat} {n0 : Nat} {bf : ab_B} : decode (ab_code (zx σ n0 bf).1 8145) 271 = .ok (.iload_n 1, 1) := zd zm_8145 (by decide +kernel)
theorem d_8145_272 {σ : Nat → Nat} {n0 : Nat} {bf : ab_B} : decode (ab_code (zx σ n0 bf).1 8145) 272 = .ok (.iastore, 1) := zd zm_8145 (by decide +kernel)
theorem d_8145_273 {σ : Nat → Nat} {n0 : Nat} {bf : ab_B} : decode (ab_code (zx σ n0 bf).1 8145) 273 = .ok (.aload_n 0, 1) := zd zm_8145 (by decide +kernel)
theorem d_8145_274 {σ : Nat → Nat} {n0 : Nat} {bf : ab_B} : decode (ab_code (zx σ n0 bf).1 8145) 274 = .ok (.getfield 218, 3) := zd zm_8145 (by decide +kernel)
theorem d_8145_277 {σ : Nat → Nat} {n0 : Nat} {bf : ab_B} : decode (ab_code (zx σ n0 bf).1 8145) 277 = .ok (.iload 8, 2) := zd zm_8145 (by decide +kernel)
theorem d_8145_279 {σ : Nat → Nat} {n0 : Nat} {bf : ab_B} : decode (ab_code (zx σ n0 bf).1 8145) 279 = .ok (.aload_n 0, 1) := zd zm_8145 (by decide +kernel)
theorem d_8145_280 {σ : Nat → Nat} {n0 : Nat} {bf : ab_B} : decode (ab_code (zx σ n0 bf).1 8145) 280 = .ok (.getfield 218, 3) := zd zm_8145 (by decide +kernel)
theorem d_8145_283 {σ : Nat → Nat} {n0 : Nat} {bf : ab_B} : decode (ab_code (zx σ n0 bf).1 8145) 283 = .ok (.iload_n 1, 1) := zd zm_8145 (by decide +kernel)
theorem d_8145_284 {σ : Nat → Nat} {n0 : Nat} {bf : ab_B} : decode (ab_code (zx σ n0 bf).1 8145) 284 = .ok (.iaload, 1) := zd zm_8145 (by decide +kernel)
theorem d_8145_285 {σ : Nat → Nat} {n0 : Nat} {bf : ab_B} : decode (ab_code (zx σ n0 bf).1 8145) 285 = .ok (.iconst 1, 1) := zd zm_8145 (by decide +kernel)
theorem d_8145_286 {σ : Nat → Nat} {n0 : Nat} {bf : ab_B} : decode (ab_code (zx σ n0 bf).1 8145) 286 = .ok (.iadd, 1) := zd zm_8145 (by decide +kernel)
theorem d_8145_287 {σ : Nat → Nat} {n0 : Nat} {bf : ab_B} : decode (ab_code (zx σ n0 bf).1 8145) 287 = .ok (.iastore, 1) := zd zm_8145 (by decide +kernel)
theorem d_8145_288 {σ : Nat → Nat} {n0 : Nat} {bf : ab_B} : decode (ab_code (zx σ n0 bf).1 8145) 288 = .ok (.aload_n 0, 1) := zd zm_8145 (by decide +kernel)
theorem d_8145_289 {σ : Nat → Nat} {n0 : Nat} {bf : ab_B} : decode (ab_code (zx σ n0 bf).1 8145) 289 = .ok (.getfield 227, 3) := zd zm_8145 (by decide +kernel)
theorem d_8145_292 {σ : Nat → Nat} {n0 : Nat} {bf : ab_B} : decode (ab_code (zx σ n0 bf).1 8145) 292 = .ok (.iload 8, 2) := zd zm_8145 (by decide +kernel)
theorem d_8145_294 {σ : Nat → Nat} {n0 : Nat} {bf : ab_B} : decode (ab_code (zx σ n0 bf).1 8145) 294 = .ok (.aload_n 0, 1) := zd zm_8145 (by decide +kernel)
theorem d_8145_295 {σ : Nat → Nat} {n0 : Nat} {bf : ab_B} : decode (ab_code (zx σ n0 bf).1 8145) 295 = .ok (.getfield 953, 3) := zd zm_8145 (by decide +kernel)
theorem d_8145_298 {σ : Nat → Nat} {n0 : Nat} {bf : ab_B} : decode (ab_code (zx σ n0 bf).1 8145) 298 = .ok (.iastore, 1) := zd zm_8145 (by decide +kernel)
theorem d_8145_299 {σ : Nat → Nat} {n0 : Nat} {bf : ab_B} : decode (ab_code (zx σ n0 bf).1 8145) 299 = .ok (.aload_n 0, 1) := zd zm_8145 (by decide +kernel)
theorem d_8145_300 {σ : Nat → Nat} {n0 : Nat} {bf : ab_B} : decode (ab_code (zx σ n0 bf).1 8145) 300 = .ok (.getfield 224, 3) := zd zm_8145 (by decide +kernel)
theorem d_8145_303 {σ : Nat → Nat} {n0 : Nat} {bf : ab_B} : decode (ab_code (zx σ n0 bf).1 8145) 303 = .ok (.iload 8, 2) := zd zm_8145 (by decide +kernel)
theorem d_8145_305 {σ : Nat → Nat} {n0 : Nat} {bf : ab_B} : decode (ab_code (zx σ n0 bf).1 8145) 305 = .ok (.iconst 0, 1) := zd zm_8145 (by decide +kernel)
theorem d_8145_306 {σ : Nat → Nat} {n0 : Nat} {bf : ab_B} : decode (ab_code (zx σ n0 bf).1 8145) 306 = .ok (.iastore, 1) := zd zm_8145 (by decide +kernel)
theorem d_8145_307 {σ : Nat → Nat} {n0 : Nat} {bf : ab_B} : decode (ab_code (zx σ n0 bf).1 8145) 307 = .ok (.aload_n 0, 1) := zd zm_8145 (by decide +kernel)
theorem d_8145_308 {σ : Nat → Nat} {n0 : Nat} {bf : ab_B} : decode (ab_code (zx σ n0 bf).1 8145) 308 = .ok (.getfield 215, 3) := zd zm_8145 (by decide +kernel)
theorem d_8145_311 {σ : Nat → Nat} {n0 : Nat} {bf : ab_B} : decode (ab_code (zx σ n0 bf).1 8145) 311 = .ok (.iload 8, 2) := zd zm_8145 (by decide +kernel)
theorem d_8145_313 {σ : Nat → Nat} {n0 : Nat} {bf : ab_B} : decode (ab_code (zx σ n0 bf).1 8145) 313 = .ok (.iconst 0, 1) := zd zm_8145 (by decide +kernel)
theorem d_8145_314 {σ : Nat → Nat} {n0 : Nat} {bf : ab_B} : decode (ab_code (zx σ n0 bf).1 8145) 314 = .ok (.iastore, 1) := zd zm_8145 (by decide +kernel)
theorem d_8145_315 {σ : Nat → Nat} {n0 : Nat} {bf : ab_B} : decode (ab_code (zx σ n0 bf).1 8145) 315 = .ok (.aload_n 0, 1) := zd zm_8145 (by decide +kernel)
theorem d_8145_316 {σ : Nat → Nat} {n0 : Nat} {bf : ab_B} : decode (ab_code (zx σ n0 bf).1 8145) 316 = .ok (.getfield 236, 3) := zd zm_8145 (by decide +kernel)
theorem d_8145_319 {σ : Nat → Nat} {n0 : Nat} {bf : ab_B} : decode (ab_code (zx σ n0 bf).1 8145) 319 = .ok (.iload 8, 2) := zd zm_8145 (by decide +kernel)
theorem d_8145_321 {σ : Nat → Nat} {n0 : Nat} {bf : ab_B} : decode (ab_code (zx σ n0 bf).1 8145) 321 = .ok (.iconst 0, 1) := zd zm_8145 (by decide +kernel)
theorem d_8145_322 {σ : Nat → Nat} {n0 : Nat} {bf : ab_B} : decode (ab_code (zx σ n0 bf).1 8145) 322 = .ok (.iastore, 1) := zd zm_8145 (by decide +kernel)
theorem d_8145_323 {σ : Nat → Nat} {n0 : Nat} {bf : ab_B} : decode (ab_code (zx σ n0 bf).1 8145) 323 = .ok (.aload_n 0, 1) := zd zm_8145 (by decide +kernel)
theorem d_8145_324 {σ : Nat → Nat} {n0 : Nat} {bf : ab_B} : decode (ab_code (zx σ n0 bf).1 8145) 324 = .ok (.getfield 230, 3) := zd zm_8145 (by decide +kernel)
theorem d_8145_327 {σ : Nat → Nat} {n0 : Nat} {bf : ab_B} : decode (ab_code (zx σ n0 bf).1 8145) 327 = .ok (.iload 8, 2) := zd zm_8145 (by decide +kernel)
theorem d_8145_329 {σ : Nat → Nat} {n0 : Nat} {bf : ab_B} : decode (ab_code (zx σ n0 bf).1 8145) 329 = .ok (.iconst 0, 1) := zd zm_8145 (by decide +kernel)
theorem d_8145_330 {σ : Nat → Nat} {n0 : Nat} {bf : ab_B} : decode (ab_code (zx σ n0 bf).1 8145) 330 = .ok (.bastore, 1) := zd zm_8145 (by decide +kernel)
theorem d_8145_331 {σ : Nat → Nat} {n0 : Nat} {bf : ab_B} : decode (ab_code (zx σ n0 bf).1 8145) 331 = .ok (.aload_n 0, 1) := zd zm_8145 (by decide +kernel)
theorem d_8145_332 {σ : Nat → Nat} {n0 : Nat} {bf : ab_B} : decode (ab_code (zx σ n0 bf).1 8145) 332 = .ok (.iload 4, 2) := zd zm_8145 (by decide +kernel)
theorem d_8145_334 {σ : Nat → Nat} {n0 : Nat} {bf : ab_B} : decode (ab_code (zx σ n0 bf).1 8145) 334 = .ok (.iconst 5, 1) := zd zm_8145 (by decide +kernel)
theorem d_8145_335 {σ : Nat → Nat} {n0 : Nat} {bf : ab_B} : decode (ab_code (zx σ n0 bf).1 8145) 335 = .ok (.iconst 0, 1) := zd zm_8145 (by decide +kernel)
theorem d_8145_336 {σ : Nat → Nat} {n0 : Nat} {bf : ab_B} : decode (ab_code (zx σ n0 bf).1 8145) 336 = .ok (.iload 8, 2) := zd zm_8145 (by decide +kernel)
theorem d_8145_338 {σ : Nat → Nat} {n0 : Nat} {bf : ab_B} : decode (ab_code (zx σ n0 bf).1 8145) 338 = .ok (.iconst 0, 1) := zd zm_8145 (by decide +kernel)
theorem d_8145_339 {σ : Nat → Nat} {n0 : Nat} {bf : ab_B} : decode (ab_code (zx σ n0 bf).1 8145) 339 = .ok (.invokevirtual 606, 3) := zd zm_8145 (by decide +kernel)
theorem d_8145_342 {σ : Nat → Nat} {n0 : Nat} {bf : ab_B} : decode (ab_code (zx σ n0 bf).1 8145) 342 = .ok (.istore 9, 2) := zd zm_8145 (by decide +kernel)
theorem d_8145_344 {σ : Nat → Nat} {n0 : Nat} {bf : ab_B} : decode (ab_code (zx σ n0 bf).1 8145) 344 = .ok (.aload_n 0, 1) := zd zm_8145 (by decide +kernel)
theorem d_8145_345 {σ : Nat → Nat} {n0 : Nat} {bf : ab_B} : decode (ab_code (zx σ n0 bf).1 8145) 345 = .ok (.invokevirtual 603, 3) := zd zm_8145 (by decide +kernel)
theorem d_8145_348 {σ : Nat → Nat} {n0 : Nat} {bf : ab_B} : decode (ab_code (zx σ n0 bf).1 8145) 348 = .ok (.aload_n 0, 1) := zd zm_8145 (by decide +kernel)
theorem d_8145_349 {σ : Nat → Nat} {n0 : Nat} {bf : ab_B} : decode (ab_code (zx σ n0 bf).1 8145) 349 = .ok (.bipush 8, 2) := zd zm_8145 (by decide +kernel)
theorem d_8145_351 {σ : Nat → Nat} {n0 : Nat} {bf : ab_B} : decode (ab_code (zx σ n0 bf).1 8145) 351 = .ok (.invokevirtual 535, 3) := zd zm_8145 (by decide +kernel)
theorem d_8145_354 {σ : Nat → Nat} {n0 : Nat} {bf : ab_B} : decode (ab_code (zx σ n0 bf).1 8145) 354 = .ok (.ifCond .eq 19, 3) := zd zm_8145 (by decide +kernel)
theorem d_8145_357 {σ : Nat → Nat} {n0 : Nat} {bf : ab_B} : decode (ab_code (zx σ n0 bf).1 8145) 357 = .ok (.aload_n 0, 1) := zd zm_8145 (by decide +kernel)
theorem d_8145_358 {σ : Nat → Nat} {n0 : Nat} {bf : ab_B} : decode (ab_code (zx σ n0 bf).1 8145) 358 = .ok (.invokevirtual 538, 3) := zd zm_8145 (by decide +kernel)
theorem d_8145_361 {σ : Nat → Nat} {n0 : Nat} {bf : ab_B} : decode (ab_code (zx σ n0 bf).1 8145) 361 = .ok (.aload_n 0, 1) := zd zm_8145 (by decide +kernel)
theorem d_8145_362 {σ : Nat → Nat} {n0 : Nat} {bf : ab_B} : decode (ab_code (zx σ n0 bf).1 8145) 362 = .ok (.iload 8, 2) := zd zm_8145 (by decide +kernel)
theorem d_8145_364 {σ : Nat → Nat} {n0 : Nat} {bf : ab_B} : decode (ab_code (zx σ n0 bf).1 8145) 364 = .ok (.invokevirtual 956, 3) := zd zm_8145 (by decide +kernel)
theorem d_8145_367 {σ : Nat → Nat} {n0 : Nat} {bf : ab_B} : decode (ab_code (zx σ n0 bf).1 8145) 367 = .ok (.aload_n 0, 1) := zd zm_8145 (by decide +kernel)
theorem d_8145_368 {σ : Nat → Nat} {n0 : Nat} {bf : ab_B} : decode (ab_code (zx σ n0 bf).1 8145) 368 = .ok (.bipush 9, 2) := zd zm_8145 (by decide +kernel)
theorem d_8145_370 {σ : Nat → Nat} {n0 : Nat} {bf : ab_B} : decode (ab_code (zx σ n0 bf).1 8145) 370 = .ok (.invokevirtual 746, 3) := zd zm_8145 (by decide +kernel)
theorem d_8145_373 {σ : Nat → Nat} {n0 : Nat} {bf : ab_B} : decode (ab_code (zx σ n0 bf).1 8145) 373 = .ok (.iload_n 2, 1) := zd zm_8145 (by decide +kernel)
theorem d_8145_374 {σ : Nat → Nat} {n0 : Nat} {bf : ab_B} : decode (ab_code (zx σ n0 bf).1 8145) 374 = .ok (.ifCond .eq 82, 3) := zd zm_8145 (by decide +kernel)
theorem d_8145_377 {σ : Nat → Nat} {n0 : Nat} {bf : ab_B} : decode (ab_code (zx σ n0 bf).1 8145) 377 = .ok (.aload_n 0, 1) := zd zm_8145 (by decide +kernel)
theorem d_8145_378 {σ : Nat → Nat} {n0 : Nat} {bf : ab_B} : decode (ab_code (zx σ n0 bf).1 8145) 378 = .ok (.bipush 14, 2) := zd zm_8145 (by decide +kernel)
theorem d_8145_380 {σ : Nat → Nat} {n0 : Nat} {bf : ab_B} : decode (ab_code (zx σ n0 bf).1 8145) 380 = .ok (.invokevirtual 746, 3) := zd zm_8145 (by decide +kernel)
theorem d_8145_383 {σ : Nat → Nat} {n0 : Nat} {bf : ab_B} : decode (ab_code (zx σ n0 bf).1 8145) 383 = .ok (.aload_n 0, 1) := zd zm_8145 (by decide +kernel)
theorem d_8145_384 {σ : Nat → Nat} {n0 : Nat} {bf : ab_B} : decode (ab_code (zx σ n0 bf).1 8145) 384 = .ok (.iconst 0, 1) := zd zm_8145 (by decide +kernel)
theorem d_8145_385 {σ : Nat → Nat} {n0 : Nat} {bf : ab_B} : decode (ab_code (zx σ n0 bf).1 8145) 385 = .ok (.invokevirtual 905, 3) := zd zm_8145 (by decide +kernel)
theorem d_8145_388 {σ : Nat → Nat} {n0 : Nat} {bf : ab_B} : decode (ab_code (zx σ n0 bf).1 8145) 388 = .ok (.istore 10, 2) := zd zm_8145 (by decide +kernel)
theorem d_8145_390 {σ : Nat → Nat} {n0 : Nat} {bf : ab_B} : decode (ab_code (zx σ n0 bf).1 8145) 390 = .ok (.aload_n 0, 1) := zd zm_8145 (by decide +kernel)
theorem d_8145_391 {σ : Nat → Nat} {n0 : Nat} {bf : ab_B} : decode (ab_code (zx σ n0 bf).1 8145) 391 = .ok (.getfield 444, 3) := zd zm_8145 (by decide +kernel)
theorem d_8145_394 {σ : Nat → Nat} {n0 : Nat} {bf : ab_B} : decode (ab_code (zx σ n0 bf).1 8145) 394 = .ok (.ifCond .ne 53, 3) := zd zm_8145 (by decide +kernel)
theorem d_8145_397 {σ : Nat → Nat} {n0 : Nat} {bf : ab_B} : decode (ab_code (zx σ n0 bf).1 8145) 397 = .ok (.aload_n 0, 1) := zd zm_8145 (by decide +kernel)
theorem d_8145_398 {σ : Nat → Nat} {n0 : Nat} {bf : ab_B} : decode (ab_code (zx σ n0 bf).1 8145) 398 = .ok (.iload 10, 2) := zd zm_8145 (by decide +kernel)
theorem d_8145_400 {σ : Nat → Nat} {n0 : Nat} {bf : ab_B} : decode (ab_code (zx σ n0 bf).1 8145) 400 = .ok (.invokevirtual 564, 3) := zd zm_8145 (by decide +kernel)
theorem d_8145_403 {σ : Nat → Nat} {n0 : Nat} {bf : ab_B} : decode (ab_code (zx σ n0 bf).1 8145) 403 = .ok (.ifCond .ne 44, 3) := zd zm_8145 (by decide +kernel)
theorem d_8145_406 {σ : Nat → Nat} {n0 : Nat} {bf : ab_B} : decode (ab_code (zx σ n0 bf).1 8145) 406 = .ok (.aload_n 0, 1) := zd zm_8145 (by decide +kernel)
theorem d_8145_407 {σ : Nat → Nat} {n0 : Nat} {bf : ab_B} : decode (ab_code (zx σ n0 bf).1 8145) 407 = .ok (.getfield 90, 3) := zd zm_8145 (by decide +kernel)
theorem d_8145_410 {σ : Nat → Nat} {n0 : Nat} {bf : ab_B} : decode (ab_code (zx σ n0 bf).1 8145) 410 = .ok (.iload 10, 2) := zd zm_8145 (by decide +kernel)
theorem d_8145_412 {σ : Nat → Nat} {n0 : Nat} {bf : ab_B} : decode (ab_code (zx σ n0 bf).1 8145) 412 = .ok (.baload, 1) := zd zm_8145 (by decide +kernel)
theorem d_8145_413 {σ : Nat → Nat} {n0 : Nat} {bf : ab_B} : decode (ab_code (zx σ n0 bf).1 8145) 413 = .ok (.bipush 7, 2) := zd zm_8145 (by decide +kernel)
theorem d_8145_415 {σ : Nat → Nat} {n0 : Nat} {bf : ab_B} : decode (ab_code (zx σ n0 bf).1 8145) 415 = .ok (.if_icmp .eq 32, 3) := zd zm_8145 (by decide +kernel)
theorem d_8145_418 {σ : Nat → Nat} {n0 : Nat} {bf : ab_B} : decode (ab_code (zx σ n0 bf).1 8145) 418 = .ok (.aload_n 0, 1) := zd zm_8145 (by decide +kernel)
theorem d_8145_419 {σ : Nat → Nat} {n0 : Nat} {bf : ab_B} : decode (ab_code (zx σ n0 bf).1 8145) 419 = .ok (.getfield 90, 3) := zd zm_8145 (by decide +kernel)
theorem d_8145_422 {σ : Nat → Nat} {n0 : Nat} {bf : ab_B} : decode (ab_code (zx σ n0 bf).1 8145) 422 = .ok (.iload 10, 2) := zd zm_8145 (by decide +kernel)
theorem d_8145_424 {σ : Nat → Nat} {n0 : Nat} {bf : ab_B} : decode (ab_code (zx σ n0 bf).1 8145) 424 = .ok (.baload, 1) := zd zm_8145 (by decide +kernel)
theorem d_8145_425 {σ : Nat → Nat} {n0 : Nat} {bf : ab_B} : decode (ab_code (zx σ n0 bf).1 8145) 425 = .ok (.bipush 6, 2) := zd zm_8145 (by decide +kernel)
theorem d_8145_427 {σ : Nat → Nat} {n0 : Nat} {bf : ab_B} : decode (ab_code (zx σ n0 bf).1 8145) 427 = .ok (.if_icmp .eq 20, 3) := zd zm_8145 (by decide +kernel)
theorem d_8145_430 {σ : Nat → Nat} {n0 : Nat} {bf : ab_B} : decode (ab_code (zx σ n0 bf).1 8145) 430 = .ok (.aload_n 0, 1) := zd zm_8145 (by decide +kernel)
theorem d_8145_431 {σ : Nat → Nat} {n0 : Nat} {bf : ab_B} : decode (ab_code (zx σ n0 bf).1 8145) 431 = .ok (.getfield 90, 3) := zd zm_8145 (by decide +kernel)
theorem d_8145_434 {σ : Nat → Nat} {n0 : Nat} {bf : ab_B} : decode (ab_code (zx σ n0 bf).1 8145) 434 = .ok (.iload 10, 2) := zd zm_8145 (by decide +kernel)
theorem d_8145_436 {σ : Nat → Nat} {n0 : Nat} {bf : ab_B} : decode (ab_code (zx σ n0 bf).1 8145) 436 = .ok (.baload, 1) := zd zm_8145 (by decide +kernel)
theorem d_8145_437 {σ : Nat → Nat} {n0 : Nat} {bf : ab_B} : decode (ab_code (zx σ n0 bf).1 8145) 437 = .ok (.bipush 10, 2) := zd zm_8145 (by decide +kernel)
theorem d_8145_439 {σ : Nat → Nat} {n0 : Nat} {bf : ab_B} : decode (ab_code (zx σ n0 bf).1 8145) 439 = .ok (.if_icmp .eq 8, 3) := zd zm_8145 (by decide +kernel)
theorem d_8145_442 {σ : Nat → Nat} {n0 : Nat} {bf : ab_B} : decode (ab_code (zx σ n0 bf).1 8145) 442 = .ok (.aload_n 0, 1) := zd zm_8145 (by decide +kernel)
theorem d_8145_443 {σ : Nat → Nat} {n0 : Nat} {bf : ab_B} : decode (ab_code (zx σ n0 bf).1 8145) 443 = .ok (.iconst 5, 1) := zd zm_8145 (by decide +kernel)
theorem d_8145_444 {σ : Nat → Nat} {n0 : Nat} {bf : ab_B} : decode (ab_code (zx σ n0 bf).1 8145) 444 = .ok (.invokevirtual 541, 3) := zd zm_8145 (by decide +kernel)
theorem d_8145_447 {σ : Nat → Nat} {n0 : Nat} {bf : ab_B} : decode (ab_code (zx σ n0 bf).1 8145) 447 = .ok (.aload_n 0, 1) := zd zm_8145 (by decide +kernel)
theorem d_8145_448 {σ : Nat → Nat} {n0 : Nat} {bf : ab_B} : decode (ab_code (zx σ n0 bf).1 8145) 448 = .ok (.getfield 215, 3) := zd zm_8145 (by decide +kernel)
theorem d_8145_451 {σ : Nat → Nat} {n0 : Nat} {bf : ab_B} : decode (ab_code (zx σ n0 bf).1 8145) 451 = .ok (.iload 8, 2) := zd zm_8145 (by decide +kernel)
theorem d_8145_453 {σ : Nat → Nat} {n0 : Nat} {bf : ab_B} : decode (ab_code (zx σ n0 bf).1 8145) 453 = .ok (.iload 10, 2) := zd zm_8145 (by decide +kernel)
theorem d_8145_455 {σ : Nat → Nat} {n0 : Nat} {bf : ab_B} : decode (ab_code (zx σ n0 bf).1 8145) 455 = .ok (.iastore, 1) := zd zm_8145 (by decide +kernel)
theorem d_8145_456 {σ : Nat → Nat} {n0 : Nat} {bf : ab_B} : decode (ab_code (zx σ n0 bf).1 8145) 456 = .ok (.aload_n 0, 1) := zd zm_8145 (by decide +kernel)
theorem d_8145_457 {σ : Nat → Nat} {n0 : Nat} {bf : ab_B} : decode (ab_code (zx σ n0 bf).1 8145) 457 = .ok (.iload 8, 2) := zd zm_8145 (by decide +kernel)
theorem d_8145_459 {σ : Nat → Nat} {n0 : Nat} {bf : ab_B} : decode (ab_code (zx σ n0 bf).1 8145) 459 = .ok (.invokevirtual 947, 3) := zd zm_8145 (by decide +kernel)
theorem d_8145_462 {σ : Nat → Nat} {n0 : Nat} {bf : ab_B} : decode (ab_code (zx σ n0 bf).1 8145) 462 = .ok (.aload_n 0, 1) := zd zm_8145 (by decide +kernel)
theorem d_8145_463 {σ : Nat → Nat} {n0 : Nat} {bf : ab_B} : decode (ab_code (zx σ n0 bf).1 8145) 463 = .ok (.bipush 13, 2) := zd zm_8145 (by decide +kernel)
theorem d_8145_465 {σ : Nat → Nat} {n0 : Nat} {bf : ab_B} : decode (ab_code (zx σ n0 bf).1 8145) 465 = .ok (.invokevirtual 746, 3) := zd zm_8145 (by decide +kernel)
theorem d_8145_468 {σ : Nat → Nat} {n0 : Nat} {bf : ab_B} : decode (ab_code (zx σ n0 bf).1 8145) 468 = .ok (.aload_n 0, 1) := zd zm_8145 (by decide +kernel)
theorem d_8145_469 {σ : Nat → Nat} {n0 : Nat} {bf : ab_B} : decode (ab_code (zx σ n0 bf).1 8145) 469 = .ok (.getfield 221, 3) := zd zm_8145 (by decide +kernel)
theorem d_8145_472 {σ : Nat → Nat} {n0 : Nat} {bf : ab_B} : decode (ab_code (zx σ n0 bf).1 8145) 472 = .ok (.iload 8, 2) := zd zm_8145 (by decide +kernel)
theorem d_8145_474 {σ : Nat → Nat} {n0 : Nat} {bf : ab_B} : decode (ab_code (zx σ n0 bf).1 8145) 474 = .ok (.aload_n 0, 1) := zd zm_8145 (by decide +kernel)
theorem d_8145_475 {σ : Nat → Nat} {n0 : Nat} {bf : ab_B} : decode (ab_code (zx σ n0 bf).1 8145) 475 = .ok (.getfield 224, 3) := zd zm_8145 (by decide +kernel)
theorem d_8145_478 {σ : Nat → Nat} {n0 : Nat} {bf : ab_B} : decode (ab_code (zx σ n0 bf).1 8145) 478 = .ok (.iload 8, 2) := zd zm_8145 (by decide +kernel)
theorem d_8145_480 {σ : Nat → Nat} {n0 : Nat} {bf : ab_B} : decode (ab_code (zx σ n0 bf).1 8145) 480 = .ok (.iaload, 1) := zd zm_8145 (by decide +kernel)
theorem d_8145_481 {σ : Nat → Nat} {n0 : Nat} {bf : ab_B} : decode (ab_code (zx σ n0 bf).1 8145) 481 = .ok (.iastore, 1) := zd zm_8145 (by decide +kernel)
theorem d_8145_482 {σ : Nat → Nat} {n0 : Nat} {bf : ab_B} : decode (ab_code (zx σ n0 bf).1 8145) 482 = .ok (.aload_n 0, 1) := zd zm_8145 (by decide +kernel)
theorem d_8145_483 {σ : Nat → Nat} {n0 : Nat} {bf : ab_B} : decode (ab_code (zx σ n0 bf).1 8145) 483 = .ok (.bipush 7, 2) := zd zm_8145 (by decide +kernel)
theorem d_8145_485 {σ : Nat → Nat} {n0 : Nat} {bf : ab_B} : decode (ab_code (zx σ n0 bf).1 8145) 485 = .ok (.invokevirtual 544, 3) := zd zm_8145 (by decide +kernel)
theorem d_8145_488 {σ : Nat → Nat} {n0 : Nat} {bf : ab_B} : decode (ab_code (zx σ n0 bf).1 8145) 488 = .ok (.ifCond .eq 25, 3) := zd zm_8145 (by decide +kernel)
theorem d_8145_491 {σ : Nat → Nat} {n0 : Nat} {bf : ab_B} : decode (ab_code (zx σ n0 bf).1 8145) 491 = .ok (.aload_n 0, 1) := zd zm_8145 (by decide +kernel)
theorem d_8145_492 {σ : Nat → Nat} {n0 : Nat} {bf : ab_B} : decode (ab_code (zx σ n0 bf).1 8145) 492 = .ok (.invokevirtual 538, 3) := zd zm_8145 (by decide +kernel)
theorem d_8145_495 {σ : Nat → Nat} {n0 : Nat} {bf : ab_B} : decode (ab_code (zx σ n0 bf).1 8145) 495 = .ok (.aload_n 0, 1) := zd zm_8145 (by decide +kernel)
theorem d_8145_496 {σ : Nat → Nat} {n0 : Nat} {bf : ab_B} : decode (ab_code (zx σ n0 bf).1 8145) 496 = .ok (.getfield 230, 3) := zd zm_8145 (by decide +kernel)
theorem d_8145_499 {σ : Nat → Nat} {n0 : Nat} {bf : ab_B} : decode (ab_code (zx σ n0 bf).1 8145) 499 = .ok (.iload 8, 2) := zd zm_8145 (by decide +kernel)
theorem d_8145_501 {σ : Nat → Nat} {n0 : Nat} {bf : ab_B} : decode (ab_code (zx σ n0 bf).1 8145) 501 = .ok (.iconst 1, 1) := zd zm_8145 (by decide +kernel)
theorem d_8145_502 {σ : Nat → Nat} {n0 : Nat} {bf : ab_B} : decode (ab_code (zx σ n0 bf).1 8145) 502 = .ok (.bastore, 1) := zd zm_8145 (by decide +kernel)
theorem d_8145_503 {σ : Nat → Nat} {n0 : Nat} {bf : ab_B} : decode (ab_code (zx σ n0 bf).1 8145) 503 = .ok (.aload_n 0, 1) := zd zm_8145 (by decide +kernel)
theorem d_8145_504 {σ : Nat → Nat} {n0 : Nat} {bf : ab_B} : decode (ab_code (zx σ n0 bf).1 8145) 504 = .ok (.getfield 188, 3) := zd zm_8145 (by decide +kernel)
theorem d_8145_507 {σ : Nat → Nat} {n0 : Nat} {bf : ab_B} : decode (ab_code (zx σ n0 bf).1 8145) 507 = .ok (.iload_n 3, 1) := zd zm_8145 (by decide +kernel)
theorem d_8145_508 {σ : Nat → Nat} {n0 : Nat} {bf : ab_B} : decode (ab_code (zx σ n0 bf).1 8145) 508 = .ok (.iconst 1, 1) := zd zm_8145 (by decide +kernel)
theorem d_8145_509 {σ : Nat → Nat} {n0 : Nat} {bf : ab_B} : decode (ab_code (zx σ n0 bf).1 8145) 509 = .ok (.iastore, 1) := zd zm_8145 (by decide +kernel)
theorem d_8145_510 {σ : Nat → Nat} {n0 : Nat} {bf : ab_B} : decode (ab_code (zx σ n0 bf).1 8145) 510 = .ok (.goto 10, 3) := zd zm_8145 (by decide +kernel)
theorem d_8145_513 {σ : Nat → Nat} {n0 : Nat} {bf : ab_B} : decode (ab_code (zx σ n0 bf).1 8145) 513 = .ok (.aload_n 0, 1) := zd zm_8145 (by decide +kernel)
theorem d_8145_514 {σ : Nat → Nat} {n0 : Nat} {bf : ab_B} : decode (ab_code (zx σ n0 bf).1 8145) 514 = .ok (.iload 8, 2) := zd zm_8145 (by decide +kernel)
theorem d_8145_516 {σ : Nat → Nat} {n0 : Nat} {bf : ab_B} : decode (ab_code (zx σ n0 bf).1 8145) 516 = .ok (.iload_n 1, 1) := zd zm_8145 (by decide +kernel)
theorem d_8145_517 {σ : Nat → Nat} {n0 : Nat} {bf : ab_B} : decode (ab_code (zx σ n0 bf).1 8145) 517 = .ok (.invokevirtual 950, 3) := zd zm_8145 (by decide +kernel)
theorem d_8145_520 {σ : Nat → Nat} {n0 : Nat} {bf : ab_B} : decode (ab_code (zx σ n0 bf).1 8145) 520 = .ok (.return_, 1) := zd zm_8145 (by decide +kernel)
def w_X9_routineHere_31 (X : zs_X) (d : Nat)  (S : zs_T) (Q : zs_Q) : Prop :=
  (Q (.returned none) S)
theorem u_X9_routineHere_31 {σ : Nat → Nat} {n0 : Nat} {bf : ab_B} {d : Nat}  {S : zs_T} {Q : zs_Q} (hB : zt_B bf) (h : w_X9_routineHere_31 (zx σ n0 bf) d  S Q) : zs_U (zx σ n0 bf) d 8145 31 [] [] S Q := by
  unfold w_X9_routineHere_31 at h
  exact zu_vret d_8145_31 zr_8145 h
def w_X9_routineHere_513 (X : zs_X) (d : Nat) (p0 : Nat) (p1 : Int32) (p8 : Int32) (S : zs_T) (Q : zs_Q) : Prop :=
  (zs_K S p0 = some (.inl 8) ∧ zs_C X d 8147 [.ref p0, .int p8, .int p1] S (zs_kV (fun S2 => (Q (.returned none) S2)) Q))
theorem u_X9_routineHere_513 {σ : Nat → Nat} {n0 : Nat} {bf : ab_B} {d : Nat} {p0 : Nat} {p1 : Int32} {p8 : Int32} {S : zs_T} {Q : zs_Q} (hB : zt_B bf) (h : w_X9_routineHere_513 (zx σ n0 bf) d p0 p1 p8 S Q) : zs_U (zx σ n0 bf) d 8145 513 [(0, .ref p0), (1, .int p1), (8, .int p8)] [] S Q := by
  unfold w_X9_routineHere_513 at h
  refine zu_aload_n d_8145_513 rfl (zs_ra _) ?_
  refine zu_iload d_8145_514 rfl ?_
  refine zu_iload_n d_8145_516 rfl ?_
  obtain ⟨k1, h⟩ := h
  refine zc_8_950 (x0 := p8) (x1 := p1) hB rfl k1 d_8145_517 (Nat.le_of_ble_eq_true rfl) h (fun S2 h => ?_)
  exact zu_vret d_8145_520 zr_8145 h
def w_X9_routineHere_491 (X : zs_X) (d : Nat) (p0 : Nat) (p3 : Int32) (p8 : Int32) (S : zs_T) (Q : zs_Q) : Prop :=
  (zs_K S p0 = some (.inl 8) ∧ zs_C X d 8014 [.ref p0] S (zs_kV (fun S2 => (zs_K S2 p0 = some (.inl 8) ∧ ∃ b5, (zs_R S2 8105 p0) = some b5 ∧ zs_A S2 b5 2 p8 ∧ ab_n0 X.1 ≤ b5 ∧ ∀ S9, S9 = zs_si S2 b5 p8.toNatClampNeg (vp_nar .boolean (1 : Int32)) → ∃ b12, (zs_R S9 8088 p0) = some b12 ∧ zs_A S2 b12 0 p3 ∧ ab_n0 X.1 ≤ b12 ∧ ∀ S16, S16 = zs_si S9 b12 p3.toNatClampNeg (1 : Int32) → Q (.returned none) S16)) Q))
theorem u_X9_routineHere_491 {σ : Nat → Nat} {n0 : Nat} {bf : ab_B} {d : Nat} {p0 : Nat} {p3 : Int32} {p8 : Int32} {S : zs_T} {Q : zs_Q} (hB : zt_B bf) (h : w_X9_routineHere_491 (zx σ n0 bf) d p0 p3 p8 S Q) : zs_U (zx σ n0 bf) d 8145 491 [(0, .ref p0), (3, .int p3), (8, .int p8)] [] S Q := by
  unfold w_X9_routineHere_491 at h
  refine zu_aload_n d_8145_491 rfl (zs_ra _) ?_
  obtain ⟨k1, h⟩ := h
  refine zc_8_538  hB rfl k1 d_8145_492 (Nat.le_of_ble_eq_true rfl) h (fun S2 h => ?_)
  refine zu_aload_n d_8145_495 rfl (zs_ra _) ?_
  obtain ⟨k4, h⟩ := h
  refine zg_8_230 rfl d_8145_496 k4 ?_
  refine zu_iload d_8145_499 rfl ?_
  refine zu_iconst d_8145_501 zi_1 ?_
  obtain ⟨b5, e6, h⟩ := h
  refine zs_stk2 (zs_rfe e6) ?_
  obtain ⟨k7, h⟩ := h
  obtain ⟨k8, h⟩ := h
  refine zu_bast_bool (k := 2) d_8145_502 rfl rfl k8 k7 ?_
  generalize e10 : zs_si S2 b5 p8.toNatClampNeg (vp_nar .boolean (1 : Int32)) = S9
  have h := h S9 e10.symm
  have K11 : ∀ b, zs_K S9 b = zs_K S2 b := zs_Kt e10 (zs_Ksi _ _ _ _) (fun _ => rfl)
  refine zu_aload_n d_8145_503 rfl (zs_ra _) ?_
  refine zg_8_188 rfl d_8145_504 ((K11 _).trans k4) ?_
  refine zu_iload_n d_8145_507 rfl ?_
  refine zu_iconst d_8145_508 zi_1 ?_
  obtain ⟨b12, e13, h⟩ := h
  refine zs_stk2 (zs_rfe e13) ?_
  obtain ⟨k14, h⟩ := h
  obtain ⟨k15, h⟩ := h
  refine zu_iast (k := 0) d_8145_509 rfl rfl k15 (zs_Ak K11 k14) ?_
  generalize e17 : zs_si S9 b12 p3.toNatClampNeg (1 : Int32) = S16
  have h := h S16 e17.symm
  have K18 : ∀ b, zs_K S16 b = zs_K S2 b := zs_Kt e17 (zs_Ksi _ _ _ _) K11
  refine zu_goto (t := 520) d_8145_510 rfl ?_
  exact zu_vret d_8145_520 zr_8145 h
def w_X9_routineHere_456 (X : zs_X) (d : Nat) (p0 : Nat) (p1 : Int32) (p3 : Int32) (p8 : Int32) (S : zs_T) (Q : zs_Q) : Prop :=
  (zs_K S p0 = some (.inl 8) ∧ zs_C X d 8146 [.ref p0, .int p8] S (zs_kV (fun S2 => (zs_K S2 p0 = some (.inl 8) ∧ zs_C X d 8028 [.ref p0, .int (13 : Int32)] S2 (zs_kV (fun S5 => (zs_K S5 p0 = some (.inl 8) ∧ ∃ b8, (zs_R S5 8103 p0) = some b8 ∧ zs_A S5 b8 0 p8 ∧ ∃ b11, (zs_R S5 8102 p0) = some b11 ∧ zs_A S5 b11 0 p8 ∧ ab_n0 X.1 ≤ b11 ∧ ∀ S15, S15 = zs_si S5 b11 p8.toNatClampNeg (zs_i S5 b8 p8.toNatClampNeg) → zs_C X d 8026 [.ref p0, .int (7 : Int32)] S15 (zs_kI (fun v19 S18 => (((v19 = 0 → w_X9_routineHere_513 X d p0 p1 p8 S18 Q) ∧ (¬ (v19 = 0) → w_X9_routineHere_491 X d p0 p3 p8 S18 Q)))) Q))) Q))) Q))
theorem u_X9_routineHere_456 {σ : Nat → Nat} {n0 : Nat} {bf : ab_B} {d : Nat} {p0 : Nat} {p1 : Int32} {p3 : Int32} {p8 : Int32} {S : zs_T} {Q : zs_Q} (hB : zt_B bf) (h : w_X9_routineHere_456 (zx σ n0 bf) d p0 p1 p3 p8 S Q) : zs_U (zx σ n0 bf) d 8145 456 [(0, .ref p0), (1, .int p1), (3, .int p3), (8, .int p8)] [] S Q := by
  unfold w_X9_routineHere_456 at h
  refine zu_aload_n d_8145_456 rfl (zs_ra _) ?_
  refine zu_iload d_8145_457 rfl ?_
  obtain ⟨k1, h⟩ := h
  refine zc_8_947 (x0 := p8) hB rfl k1 d_8145_459 (Nat.le_of_ble_eq_true rfl) h (fun S2 h => ?_)
  refine zu_aload_n d_8145_462 rfl (zs_ra _) ?_
  refine zu_bipush d_8145_463 zj_13 ?_
  obtain ⟨k4, h⟩ := h
  refine zc_8_746 (x0 := (13 : Int32)) hB rfl k4 d_8145_465 (Nat.le_of_ble_eq_true rfl) h (fun S5 h => ?_)
  refine zu_aload_n d_8145_468 rfl (zs_ra _) ?_
  obtain ⟨k7, h⟩ := h
  refine zg_8_221 rfl d_8145_469 k7 ?_
  refine zu_iload d_8145_472 rfl ?_
  refine zu_aload_n d_8145_474 rfl (zs_ra _) ?_
  refine zg_8_224 rfl d_8145_475 k7 ?_
  refine zu_iload d_8145_478 rfl ?_
  obtain ⟨b8, e9, h⟩ := h
  refine zs_stk1 (zs_rfe e9) ?_
  obtain ⟨k10, h⟩ := h
  refine zu_iald (k := 0) d_8145_480 rfl rfl k10 ?_
  obtain ⟨b11, e12, h⟩ := h
  refine zs_stk2 (zs_rfe e12) ?_
  obtain ⟨k13, h⟩ := h
  obtain ⟨k14, h⟩ := h
  refine zu_iast (k := 0) d_8145_481 rfl rfl k14 k13 ?_
  generalize e16 : zs_si S5 b11 p8.toNatClampNeg (zs_i S5 b8 p8.toNatClampNeg) = S15
  have h := h S15 e16.symm
  have K17 : ∀ b, zs_K S15 b = zs_K S5 b := zs_Kt e16 (zs_Ksi _ _ _ _) (fun _ => rfl)
  refine zu_aload_n d_8145_482 rfl (zs_ra _) ?_
  refine zu_bipush d_8145_483 zj_7 ?_
  refine zc_8_544 (x0 := (7 : Int32)) hB rfl ((K17 _).trans k7) d_8145_485 (Nat.le_of_ble_eq_true rfl) h (fun v19 S18 h => ?_)
  refine zu_ifeq (t := 513) d_8145_488 rfl (fun c20 => ?_) (fun c20 => ?_)
  · have h := h.1 c20
    exact (u_X9_routineHere_513 hB h).weak ⟨rfl, rfl, rfl, trivial⟩
  · have h := h.2 c20
    exact (u_X9_routineHere_491 hB h).weak ⟨rfl, rfl, rfl, trivial⟩
def w_X9_routineHere_447 (X : zs_X) (d : Nat) (p0 : Nat) (p1 : Int32) (p3 : Int32) (p8 : Int32) (p10 : Int32) (S : zs_T) (Q : zs_Q) : Prop :=
  (zs_K S p0 = some (.inl 8) ∧ ∃ b2, (zs_R S 8100 p0) = some b2 ∧ zs_A S b2 0 p8 ∧ ab_n0 X.1 ≤ b2 ∧ ∀ S6, S6 = zs_si S b2 p8.toNatClampNeg p10 → w_X9_routineHere_456 X d p0 p1 p3 p8 S6 Q)
theorem u_X9_routineHere_447 {σ : Nat → Nat} {n0 : Nat} {bf : ab_B} {d : Nat} {p0 : Nat} {p1 : Int32} {p3 : Int32} {p8 : Int32} {p10 : Int32} {S : zs_T} {Q : zs_Q} (hB : zt_B bf) (h : w_X9_routineHere_447 (zx σ n0 bf) d p0 p1 p3 p8 p10 S Q) : zs_U (zx σ n0 bf) d 8145 447 [(0, .ref p0), (1, .int p1), (3, .int p3), (8, .int p8), (10, .int p10)] [] S Q := by
  unfold w_X9_routineHere_447 at h
  refine zu_aload_n d_8145_447 rfl (zs_ra _) ?_
  obtain ⟨k1, h⟩ := h
  refine zg_8_215 rfl d_8145_448 k1 ?_
  refine zu_iload d_8145_451 rfl ?_
  refine zu_iload d_8145_453 rfl ?_
  obtain ⟨b2, e3, h⟩ := h
  refine zs_stk2 (zs_rfe e3) ?_
  obtain ⟨k4, h⟩ := h
  obtain ⟨k5, h⟩ := h
  refine zu_iast (k := 0) d_8145_455 rfl rfl k5 k4 ?_
  generalize e7 : zs_si S b2 p8.toNatClampNeg p10 = S6
  have h := h S6 e7.symm
  have K8 : ∀ b, zs_K S6 b = zs_K S b := zs_Kt e7 (zs_Ksi _ _ _ _) (fun _ => rfl)
  exact (u_X9_routineHere_456 hB h).weak ⟨rfl, rfl, rfl, rfl, trivial⟩
def w_X9_routineHere_442 (X : zs_X) (d : Nat) (p0 : Nat) (p1 : Int32) (p3 : Int32) (p8 : Int32) (p10 : Int32) (S : zs_T) (Q : zs_Q) : Prop :=
  (zs_K S p0 = some (.inl 8) ∧ zs_C X d 8027 [.ref p0, .int (5 : Int32)] S (zs_kV (fun S2 => w_X9_routineHere_447 X d p0 p1 p3 p8 p10 S2 Q) Q))
theorem u_X9_routineHere_442 {σ : Nat → Nat} {n0 : Nat} {bf : ab_B} {d : Nat} {p0 : Nat} {p1 : Int32} {p3 : Int32} {p8 : Int32} {p10 : Int32} {S : zs_T} {Q : zs_Q} (hB : zt_B bf) (h : w_X9_routineHere_442 (zx σ n0 bf) d p0 p1 p3 p8 p10 S Q) : zs_U (zx σ n0 bf) d 8145 442 [(0, .ref p0), (1, .int p1), (3, .int p3), (8, .int p8), (10, .int p10)] [] S Q := by
  unfold w_X9_routineHere_442 at h
  refine zu_aload_n d_8145_442 rfl (zs_ra _) ?_
  refine zu_iconst d_8145_443 zi_5 ?_
  obtain ⟨k1, h⟩ := h
  refine zc_8_541 (x0 := (5 : Int32)) hB rfl k1 d_8145_444 (Nat.le_of_ble_eq_true rfl) h (fun S2 h => ?_)
  exact (u_X9_routineHere_447 hB h).weak ⟨rfl, rfl, rfl, rfl, rfl, trivial⟩
def w_X9_routineHere_406 (X : zs_X) (d : Nat) (p0 : Nat) (p1 : Int32) (p3 : Int32) (p8 : Int32) (p10 : Int32) (S : zs_T) (Q : zs_Q) : Prop :=
  (zs_K S p0 = some (.inl 8) ∧ ∃ b2, (zs_R S 8044 p0) = some b2 ∧ zs_A S b2 1 p10 ∧ (((zs_i S b2 p10.toNatClampNeg) = (7 : Int32) → w_X9_routineHere_447 X d p0 p1 p3 p8 p10 S Q) ∧ (¬ ((zs_i S b2 p10.toNatClampNeg) = (7 : Int32)) → ((((zs_i S b2 p10.toNatClampNeg) = (6 : Int32) → w_X9_routineHere_447 X d p0 p1 p3 p8 p10 S Q) ∧ (¬ ((zs_i S b2 p10.toNatClampNeg) = (6 : Int32)) → ((((zs_i S b2 p10.toNatClampNeg) = (10 : Int32) → w_X9_routineHere_447 X d p0 p1 p3 p8 p10 S Q) ∧ (¬ ((zs_i S b2 p10.toNatClampNeg) = (10 : Int32)) → w_X9_routineHere_442 X d p0 p1 p3 p8 p10 S Q)))))))))
theorem u_X9_routineHere_406 {σ : Nat → Nat} {n0 : Nat} {bf : ab_B} {d : Nat} {p0 : Nat} {p1 : Int32} {p3 : Int32} {p8 : Int32} {p10 : Int32} {S : zs_T} {Q : zs_Q} (hB : zt_B bf) (h : w_X9_routineHere_406 (zx σ n0 bf) d p0 p1 p3 p8 p10 S Q) : zs_U (zx σ n0 bf) d 8145 406 [(0, .ref p0), (1, .int p1), (3, .int p3), (8, .int p8), (10, .int p10)] [] S Q := by
  unfold w_X9_routineHere_406 at h
  refine zu_aload_n d_8145_406 rfl (zs_ra _) ?_
  obtain ⟨k1, h⟩ := h
  refine zg_8_90 rfl d_8145_407 k1 ?_
  refine zu_iload d_8145_410 rfl ?_
  obtain ⟨b2, e3, h⟩ := h
  refine zs_stk1 (zs_rfe e3) ?_
  obtain ⟨k4, h⟩ := h
  refine zu_bald (k := 1) d_8145_412 rfl (Or.inl rfl) k4 ?_
  refine zu_bipush d_8145_413 zj_7 ?_
  refine zu_cmpeq (t := 447) d_8145_415 rfl (fun c5 => ?_) (fun c5 => ?_)
  · have h := h.1 c5
    exact (u_X9_routineHere_447 hB h).weak ⟨rfl, rfl, rfl, rfl, rfl, trivial⟩
  · have h := h.2 c5
    refine zu_aload_n d_8145_418 rfl (zs_ra _) ?_
    refine zg_8_90 rfl d_8145_419 k1 ?_
    refine zu_iload d_8145_422 rfl ?_
    refine zs_stk1 (zs_rfe e3) ?_
    refine zu_bald (k := 1) d_8145_424 rfl (Or.inl rfl) k4 ?_
    refine zu_bipush d_8145_425 zj_6 ?_
    refine zu_cmpeq (t := 447) d_8145_427 rfl (fun c6 => ?_) (fun c6 => ?_)
    · have h := h.1 c6
      exact (u_X9_routineHere_447 hB h).weak ⟨rfl, rfl, rfl, rfl, rfl, trivial⟩
    · have h := h.2 c6
      refine zu_aload_n d_8145_430 rfl (zs_ra _) ?_
      refine zg_8_90 rfl d_8145_431 k1 ?_
      refine zu_iload d_8145_434 rfl ?_
      refine zs_stk1 (zs_rfe e3) ?_
      refine zu_bald (k := 1) d_8145_436 rfl (Or.inl rfl) k4 ?_
      refine zu_bipush d_8145_437 zj_10 ?_
      refine zu_cmpeq (t := 447) d_8145_439 rfl (fun c7 => ?_) (fun c7 => ?_)
      · have h := h.1 c7
        exact (u_X9_routineHere_447 hB h).weak ⟨rfl, rfl, rfl, rfl, rfl, trivial⟩
      · have h := h.2 c7
        exact (u_X9_routineHere_442 hB h).weak ⟨rfl, rfl, rfl, rfl, rfl, trivial⟩
def w_X9_routineHere_373 (X : zs_X) (d : Nat) (p0 : Nat) (p1 : Int32) (p2 : Int32) (p3 : Int32) (p8 : Int32) (S : zs_T) (Q : zs_Q) : Prop :=
  (((p2 = 0 → w_X9_routineHere_456 X d p0 p1 p3 p8 S Q) ∧ (¬ (p2 = 0) → (zs_K S p0 = some (.inl 8) ∧ zs_C X d 8028 [.ref p0, .int (14 : Int32)] S (zs_kV (fun S3 => (zs_K S3 p0 = some (.inl 8) ∧ zs_C X d 8133 [.ref p0, .int (0 : Int32)] S3 (zs_kI (fun v7 S6 => (zs_K S6 p0 = some (.inl 8) ∧ ((¬ (zs_I S6 8010 p0) = 0 → w_X9_routineHere_447 X d p0 p1 p3 p8 v7 S6 Q) ∧ (¬ (¬ (zs_I S6 8010 p0) = 0) → (zs_C X d 8036 [.ref p0, .int v7] S6 (zs_kI (fun v11 S10 => (((¬ v11 = 0 → w_X9_routineHere_447 X d p0 p1 p3 p8 v7 S10 Q) ∧ (¬ (¬ v11 = 0) → w_X9_routineHere_406 X d p0 p1 p3 p8 v7 S10 Q)))) Q)))))) Q))) Q)))))
theorem u_X9_routineHere_373 {σ : Nat → Nat} {n0 : Nat} {bf : ab_B} {d : Nat} {p0 : Nat} {p1 : Int32} {p2 : Int32} {p3 : Int32} {p8 : Int32} {S : zs_T} {Q : zs_Q} (hB : zt_B bf) (h : w_X9_routineHere_373 (zx σ n0 bf) d p0 p1 p2 p3 p8 S Q) : zs_U (zx σ n0 bf) d 8145 373 [(0, .ref p0), (1, .int p1), (2, .int p2), (3, .int p3), (8, .int p8)] [] S Q := by
  unfold w_X9_routineHere_373 at h
  refine zu_iload_n d_8145_373 rfl ?_
  refine zu_ifeq (t := 456) d_8145_374 rfl (fun c1 => ?_) (fun c1 => ?_)
  · have h := h.1 c1
    exact (u_X9_routineHere_456 hB h).weak ⟨rfl, rfl, rfl, rfl, trivial⟩
  · have h := h.2 c1
    refine zu_aload_n d_8145_377 rfl (zs_ra _) ?_
    refine zu_bipush d_8145_378 zj_14 ?_
    obtain ⟨k2, h⟩ := h
    refine zc_8_746 (x0 := (14 : Int32)) hB rfl k2 d_8145_380 (Nat.le_of_ble_eq_true rfl) h (fun S3 h => ?_)
    refine zu_aload_n d_8145_383 rfl (zs_ra _) ?_
    refine zu_iconst d_8145_384 zi_0 ?_
    obtain ⟨k5, h⟩ := h
    refine zc_8_905 (x0 := (0 : Int32)) hB rfl k5 d_8145_385 (Nat.le_of_ble_eq_true rfl) h (fun v7 S6 h => ?_)
    refine zu_istore d_8145_388 (zs_lt zq_8145 rfl) ?_
    refine zu_aload_n d_8145_390 rfl (zs_ra _) ?_
    obtain ⟨k8, h⟩ := h
    refine zg_8_444 rfl d_8145_391 k8 ?_
    refine zu_ifne (t := 447) d_8145_394 rfl (fun c9 => ?_) (fun c9 => ?_)
    · have h := h.1 c9
      exact (u_X9_routineHere_447 hB h).weak ⟨rfl, rfl, rfl, rfl, rfl, trivial⟩
    · have h := h.2 c9
      refine zu_aload_n d_8145_397 rfl (zs_ra _) ?_
      refine zu_iload d_8145_398 rfl ?_
      refine zc_8_564 (x0 := v7) hB rfl k8 d_8145_400 (Nat.le_of_ble_eq_true rfl) h (fun v11 S10 h => ?_)
      refine zu_ifne (t := 447) d_8145_403 rfl (fun c12 => ?_) (fun c12 => ?_)
      · have h := h.1 c12
        exact (u_X9_routineHere_447 hB h).weak ⟨rfl, rfl, rfl, rfl, rfl, trivial⟩
      · have h := h.2 c12
        exact (u_X9_routineHere_406 hB h).weak ⟨rfl, rfl, rfl, rfl, rfl, trivial⟩
def w_X9_routineHere_344 (X : zs_X) (d : Nat) (p0 : Nat) (p1 : Int32) (p2 : Int32) (p3 : Int32) (p8 : Int32) (S : zs_T) (Q : zs_Q) : Prop :=
  (zs_K S p0 = some (.inl 8) ∧ zs_C X d 8010 [.ref p0] S (zs_kV (fun S2 => (zs_K S2 p0 = some (.inl 8) ∧ zs_C X d 8029 [.ref p0, .int (8 : Int32)] S2 (zs_kI (fun v6 S5 => (((v6 = 0 → w_X9_routineHere_373 X d p0 p1 p2 p3 p8 S5 Q) ∧ (¬ (v6 = 0) → (zs_K S5 p0 = some (.inl 8) ∧ zs_C X d 8014 [.ref p0] S5 (zs_kV (fun S9 => (zs_K S9 p0 = some (.inl 8) ∧ zs_C X d 8148 [.ref p0, .int p8] S9 (zs_kV (fun S12 => (zs_K S12 p0 = some (.inl 8) ∧ zs_C X d 8028 [.ref p0, .int (9 : Int32)] S12 (zs_kV (fun S15 => w_X9_routineHere_373 X d p0 p1 p2 p3 p8 S15 Q) Q))) Q))) Q)))))) Q))) Q))
theorem u_X9_routineHere_344 {σ : Nat → Nat} {n0 : Nat} {bf : ab_B} {d : Nat} {p0 : Nat} {p1 : Int32} {p2 : Int32} {p3 : Int32} {p8 : Int32} {S : zs_T} {Q : zs_Q} (hB : zt_B bf) (h : w_X9_routineHere_344 (zx σ n0 bf) d p0 p1 p2 p3 p8 S Q) : zs_U (zx σ n0 bf) d 8145 344 [(0, .ref p0), (1, .int p1), (2, .int p2), (3, .int p3), (8, .int p8)] [] S Q := by
  unfold w_X9_routineHere_344 at h
  refine zu_aload_n d_8145_344 rfl (zs_ra _) ?_
  obtain ⟨k1, h⟩ := h
  refine zc_8_603  hB rfl k1 d_8145_345 (Nat.le_of_ble_eq_true rfl) h (fun S2 h => ?_)
  refine zu_aload_n d_8145_348 rfl (zs_ra _) ?_
  refine zu_bipush d_8145_349 zj_8 ?_
  obtain ⟨k4, h⟩ := h
  refine zc_8_535 (x0 := (8 : Int32)) hB rfl k4 d_8145_351 (Nat.le_of_ble_eq_true rfl) h (fun v6 S5 h => ?_)
  refine zu_ifeq (t := 373) d_8145_354 rfl (fun c7 => ?_) (fun c7 => ?_)
  · have h := h.1 c7
    exact (u_X9_routineHere_373 hB h).weak ⟨rfl, rfl, rfl, rfl, rfl, trivial⟩
  · have h := h.2 c7
    refine zu_aload_n d_8145_357 rfl (zs_ra _) ?_
    obtain ⟨k8, h⟩ := h
    refine zc_8_538  hB rfl k8 d_8145_358 (Nat.le_of_ble_eq_true rfl) h (fun S9 h => ?_)
    refine zu_aload_n d_8145_361 rfl (zs_ra _) ?_
    refine zu_iload d_8145_362 rfl ?_
    obtain ⟨k11, h⟩ := h
    refine zc_8_956 (x0 := p8) hB rfl k11 d_8145_364 (Nat.le_of_ble_eq_true rfl) h (fun S12 h => ?_)
    refine zu_aload_n d_8145_367 rfl (zs_ra _) ?_
    refine zu_bipush d_8145_368 zj_9 ?_
    obtain ⟨k14, h⟩ := h
    refine zc_8_746 (x0 := (9 : Int32)) hB rfl k14 d_8145_370 (Nat.le_of_ble_eq_true rfl) h (fun S15 h => ?_)
    exact (u_X9_routineHere_373 hB h).weak ⟨rfl, rfl, rfl, rfl, rfl, trivial⟩
def w_X9_routineHere_315 (X : zs_X) (d : Nat) (p0 : Nat) (p1 : Int32) (p2 : Int32) (p3 : Int32) (p4 : Int32) (p8 : Int32) (S : zs_T) (Q : zs_Q) : Prop :=
  (zs_K S p0 = some (.inl 8) ∧ ∃ b2, (zs_R S 8107 p0) = some b2 ∧ zs_A S b2 0 p8 ∧ ab_n0 X.1 ≤ b2 ∧ ∀ S6, S6 = zs_si S b2 p8.toNatClampNeg (0 : Int32) → ∃ b9, (zs_R S6 8105 p0) = some b9 ∧ zs_A S b9 2 p8 ∧ ab_n0 X.1 ≤ b9 ∧ ∀ S13, S13 = zs_si S6 b9 p8.toNatClampNeg (vp_nar .boolean (0 : Int32)) → zs_C X d 8011 [.ref p0, .int p4, .int (5 : Int32), .int (0 : Int32), .int p8, .int (0 : Int32)] S13 (zs_kI (fun v17 S16 => (w_X9_routineHere_344 X d p0 p1 p2 p3 p8 S16 Q)) Q))
theorem u_X9_routineHere_315 {σ : Nat → Nat} {n0 : Nat} {bf : ab_B} {d : Nat} {p0 : Nat} {p1 : Int32} {p2 : Int32} {p3 : Int32} {p4 : Int32} {p8 : Int32} {S : zs_T} {Q : zs_Q} (hB : zt_B bf) (h : w_X9_routineHere_315 (zx σ n0 bf) d p0 p1 p2 p3 p4 p8 S Q) : zs_U (zx σ n0 bf) d 8145 315 [(0, .ref p0), (1, .int p1), (2, .int p2), (3, .int p3), (4, .int p4), (8, .int p8)] [] S Q := by
  unfold w_X9_routineHere_315 at h
  refine zu_aload_n d_8145_315 rfl (zs_ra _) ?_
  obtain ⟨k1, h⟩ := h
  refine zg_8_236 rfl d_8145_316 k1 ?_
  refine zu_iload d_8145_319 rfl ?_
  refine zu_iconst d_8145_321 zi_0 ?_
  obtain ⟨b2, e3, h⟩ := h
  refine zs_stk2 (zs_rfe e3) ?_
  obtain ⟨k4, h⟩ := h
  obtain ⟨k5, h⟩ := h
  refine zu_iast (k := 0) d_8145_322 rfl rfl k5 k4 ?_
  generalize e7 : zs_si S b2 p8.toNatClampNeg (0 : Int32) = S6
  have h := h S6 e7.symm
  have K8 : ∀ b, zs_K S6 b = zs_K S b := zs_Kt e7 (zs_Ksi _ _ _ _) (fun _ => rfl)
  refine zu_aload_n d_8145_323 rfl (zs_ra _) ?_
  refine zg_8_230 rfl d_8145_324 ((K8 _).trans k1) ?_
  refine zu_iload d_8145_327 rfl ?_
  refine zu_iconst d_8145_329 zi_0 ?_
  obtain ⟨b9, e10, h⟩ := h
  refine zs_stk2 (zs_rfe e10) ?_
  obtain ⟨k11, h⟩ := h
  obtain ⟨k12, h⟩ := h
  refine zu_bast_bool (k := 2) d_8145_330 rfl rfl k12 (zs_Ak K8 k11) ?_
  generalize e14 : zs_si S6 b9 p8.toNatClampNeg (vp_nar .boolean (0 : Int32)) = S13
  have h := h S13 e14.symm
  have K15 : ∀ b, zs_K S13 b = zs_K S b := zs_Kt e14 (zs_Ksi _ _ _ _) K8
  refine zu_aload_n d_8145_331 rfl (zs_ra _) ?_
  refine zu_iload d_8145_332 rfl ?_
  refine zu_iconst d_8145_334 zi_5 ?_
  refine zu_iconst d_8145_335 zi_0 ?_
  refine zu_iload d_8145_336 rfl ?_
  refine zu_iconst d_8145_338 zi_0 ?_
  refine zc_8_606 (x0 := p4) (x1 := (5 : Int32)) (x2 := (0 : Int32)) (x3 := p8) (x4 := (0 : Int32)) hB rfl ((K15 _).trans k1) d_8145_339 (Nat.le_of_ble_eq_true rfl) h (fun v17 S16 h => ?_)
  refine zu_istore d_8145_342 (zs_lt zq_8145 rfl) ?_
  exact (u_X9_routineHere_344 hB h).weak ⟨rfl, rfl, rfl, rfl, rfl, trivial⟩
def w_X9_routineHere_288 (X : zs_X) (d : Nat) (p0 : Nat) (p1 : Int32) (p2 : Int32) (p3 : Int32) (p4 : Int32) (p8 : Int32) (S : zs_T) (Q : zs_Q) : Prop :=
  (zs_K S p0 = some (.inl 8) ∧ ∃ b2, (zs_R S 8104 p0) = some b2 ∧ zs_A S b2 0 p8 ∧ ab_n0 X.1 ≤ b2 ∧ ∀ S6, S6 = zs_si S b2 p8.toNatClampNeg (zs_I S 8112 p0) → ∃ b9, (zs_R S6 8103 p0) = some b9 ∧ zs_A S b9 0 p8 ∧ ab_n0 X.1 ≤ b9 ∧ ∀ S13, S13 = zs_si S6 b9 p8.toNatClampNeg (0 : Int32) → ∃ b16, (zs_R S13 8100 p0) = some b16 ∧ zs_A S b16 0 p8 ∧ ab_n0 X.1 ≤ b16 ∧ ∀ S20, S20 = zs_si S13 b16 p8.toNatClampNeg (0 : Int32) → w_X9_routineHere_315 X d p0 p1 p2 p3 p4 p8 S20 Q)
theorem u_X9_routineHere_288 {σ : Nat → Nat} {n0 : Nat} {bf : ab_B} {d : Nat} {p0 : Nat} {p1 : Int32} {p2 : Int32} {p3 : Int32} {p4 : Int32} {p8 : Int32} {S : zs_T} {Q : zs_Q} (hB : zt_B bf) (h : w_X9_routineHere_288 (zx σ n0 bf) d p0 p1 p2 p3 p4 p8 S Q) : zs_U (zx σ n0 bf) d 8145 288 [(0, .ref p0), (1, .int p1), (2, .int p2), (3, .int p3), (4, .int p4), (8, .int p8)] [] S Q := by
  unfold w_X9_routineHere_288 at h
  refine zu_aload_n d_8145_288 rfl (zs_ra _) ?_
  obtain ⟨k1, h⟩ := h
  refine zg_8_227 rfl d_8145_289 k1 ?_
  refine zu_iload d_8145_292 rfl ?_
  refine zu_aload_n d_8145_294 rfl (zs_ra _) ?_
  refine zg_8_953 rfl d_8145_295 k1 ?_
  obtain ⟨b2, e3, h⟩ := h
  refine zs_stk2 (zs_rfe e3) ?_
  obtain ⟨k4, h⟩ := h
  obtain ⟨k5, h⟩ := h
  refine zu_iast (k := 0) d_8145_298 rfl rfl k5 k4 ?_
  generalize e7 : zs_si S b2 p8.toNatClampNeg (zs_I S 8112 p0) = S6
  have h := h S6 e7.symm
  have K8 : ∀ b, zs_K S6 b = zs_K S b := zs_Kt e7 (zs_Ksi _ _ _ _) (fun _ => rfl)
  refine zu_aload_n d_8145_299 rfl (zs_ra _) ?_
  refine zg_8_224 rfl d_8145_300 ((K8 _).trans k1) ?_
  refine zu_iload d_8145_303 rfl ?_
  refine zu_iconst d_8145_305 zi_0 ?_
  obtain ⟨b9, e10, h⟩ := h
  refine zs_stk2 (zs_rfe e10) ?_
  obtain ⟨k11, h⟩ := h
  obtain ⟨k12, h⟩ := h
  refine zu_iast (k := 0) d_8145_306 rfl rfl k12 (zs_Ak K8 k11) ?_
  generalize e14 : zs_si S6 b9 p8.toNatClampNeg (0 : Int32) = S13
  have h := h S13 e14.symm
  have K15 : ∀ b, zs_K S13 b = zs_K S b := zs_Kt e14 (zs_Ksi _ _ _ _) K8
  refine zu_aload_n d_8145_307 rfl (zs_ra _) ?_
  refine zg_8_215 rfl d_8145_308 ((K15 _).trans k1) ?_
  refine zu_iload d_8145_311 rfl ?_
  refine zu_iconst d_8145_313 zi_0 ?_
  obtain ⟨b16, e17, h⟩ := h
  refine zs_stk2 (zs_rfe e17) ?_
  obtain ⟨k18, h⟩ := h
  obtain ⟨k19, h⟩ := h
  refine zu_iast (k := 0) d_8145_314 rfl rfl k19 (zs_Ak K15 k18) ?_
  generalize e21 : zs_si S13 b16 p8.toNatClampNeg (0 : Int32) = S20
  have h := h S20 e21.symm
  have K22 : ∀ b, zs_K S20 b = zs_K S b := zs_Kt e21 (zs_Ksi _ _ _ _) K15
  exact (u_X9_routineHere_315 hB h).weak ⟨rfl, rfl, rfl, rfl, rfl, rfl, trivial⟩
def w_X9_routineHere_256 (X : zs_X) (d : Nat) (p0 : Nat) (p1 : Int32) (p2 : Int32) (p3 : Int32) (p4 : Int32) (p5 : Int32) (p8 : Int32) (S : zs_T) (Q : zs_Q) : Prop :=
  (zs_K S p0 = some (.inl 8) ∧ ∃ b2, (zs_R S 8145 p0) = some b2 ∧ zs_A S b2 0 p8 ∧ ab_n0 X.1 ≤ b2 ∧ ∀ S6, S6 = zs_si S b2 p8.toNatClampNeg p5 → ∃ b9, (zs_R S6 8106 p0) = some b9 ∧ zs_A S b9 0 p8 ∧ ab_n0 X.1 ≤ b9 ∧ ∀ S13, S13 = zs_si S6 b9 p8.toNatClampNeg p1 → ∃ b16, (zs_R S13 8101 p0) = some b16 ∧ zs_A S b16 0 p1 ∧ zs_A S b16 0 p8 ∧ ab_n0 X.1 ≤ b16 ∧ ∀ S21, S21 = zs_si S13 b16 p8.toNatClampNeg ((zs_i S13 b16 p1.toNatClampNeg) + (1 : Int32)) → w_X9_routineHere_288 X d p0 p1 p2 p3 p4 p8 S21 Q)
theorem u_X9_routineHere_256 {σ : Nat → Nat} {n0 : Nat} {bf : ab_B} {d : Nat} {p0 : Nat} {p1 : Int32} {p2 : Int32} {p3 : Int32} {p4 : Int32} {p5 : Int32} {p8 : Int32} {S : zs_T} {Q : zs_Q} (hB : zt_B bf) (h : w_X9_routineHere_256 (zx σ n0 bf) d p0 p1 p2 p3 p4 p5 p8 S Q) : zs_U (zx σ n0 bf) d 8145 256 [(0, .ref p0), (1, .int p1), (2, .int p2), (3, .int p3), (4, .int p4), (5, .int p5), (8, .int p8)] [] S Q := by
  unfold w_X9_routineHere_256 at h
  refine zu_aload_n d_8145_256 rfl (zs_ra _) ?_
  obtain ⟨k1, h⟩ := h
  refine zg_8_311 rfl d_8145_257 k1 ?_
  refine zu_iload d_8145_260 rfl ?_
  refine zu_iload d_8145_262 rfl ?_
  obtain ⟨b2, e3, h⟩ := h
  refine zs_stk2 (zs_rfe e3) ?_
  obtain ⟨k4, h⟩ := h
  obtain ⟨k5, h⟩ := h
  refine zu_iast (k := 0) d_8145_264 rfl rfl k5 k4 ?_
  generalize e7 : zs_si S b2 p8.toNatClampNeg p5 = S6
  have h := h S6 e7.symm
  have K8 : ∀ b, zs_K S6 b = zs_K S b := zs_Kt e7 (zs_Ksi _ _ _ _) (fun _ => rfl)
  refine zu_aload_n d_8145_265 rfl (zs_ra _) ?_
  refine zg_8_233 rfl d_8145_266 ((K8 _).trans k1) ?_
  refine zu_iload d_8145_269 rfl ?_
  refine zu_iload_n d_8145_271 rfl ?_
  obtain ⟨b9, e10, h⟩ := h
  refine zs_stk2 (zs_rfe e10) ?_
  obtain ⟨k11, h⟩ := h
  obtain ⟨k12, h⟩ := h
  refine zu_iast (k := 0) d_8145_272 rfl rfl k12 (zs_Ak K8 k11) ?_
  generalize e14 : zs_si S6 b9 p8.toNatClampNeg p1 = S13
  have h := h S13 e14.symm
  have K15 : ∀ b, zs_K S13 b = zs_K S b := zs_Kt e14 (zs_Ksi _ _ _ _) K8
  refine zu_aload_n d_8145_273 rfl (zs_ra _) ?_
  refine zg_8_218 rfl d_8145_274 ((K15 _).trans k1) ?_
  refine zu_iload d_8145_277 rfl ?_
  refine zu_aload_n d_8145_279 rfl (zs_ra _) ?_
  refine zg_8_218 rfl d_8145_280 ((K15 _).trans k1) ?_
  refine zu_iload_n d_8145_283 rfl ?_
  obtain ⟨b16, e17, h⟩ := h
  refine zs_stk1 (zs_rfe e17) ?_
  obtain ⟨k18, h⟩ := h
  refine zu_iald (k := 0) d_8145_284 rfl rfl (zs_Ak K15 k18) ?_
  refine zu_iconst d_8145_285 zi_1 ?_
  refine zu_stk d_8145_286 rfl rfl ?_
  refine zs_stk2 (zs_rfe e17) ?_
  obtain ⟨k19, h⟩ := h
  obtain ⟨k20, h⟩ := h
  refine zu_iast (k := 0) d_8145_287 rfl rfl k20 (zs_Ak K15 k19) ?_
  generalize e22 : zs_si S13 b16 p8.toNatClampNeg ((zs_i S13 b16 p1.toNatClampNeg) + (1 : Int32)) = S21
  have h := h S21 e22.symm
  have K23 : ∀ b, zs_K S21 b = zs_K S b := zs_Kt e22 (zs_Ksi _ _ _ _) K15
  exact (u_X9_routineHere_288 hB h).weak ⟨rfl, rfl, rfl, rfl, rfl, rfl, trivial⟩
def w_X9_routineHere_225 (X : zs_X) (d : Nat) (p0 : Nat) (p1 : Int32) (p8 : Int32) (S : zs_T) (Q : zs_Q) : Prop :=
  (zs_K S p0 = some (.inl 8) ∧ ∃ b2, (zs_R S 8105 p0) = some b2 ∧ zs_A S b2 2 p8 ∧ ab_n0 X.1 ≤ b2 ∧ ∀ S6, S6 = zs_si S b2 p8.toNatClampNeg (vp_nar .boolean (0 : Int32)) → zs_C X d 8147 [.ref p0, .int p8, .int p1] S6 (zs_kV (fun S9 => (Q (.returned none) S9)) Q))
theorem u_X9_routineHere_225 {σ : Nat → Nat} {n0 : Nat} {bf : ab_B} {d : Nat} {p0 : Nat} {p1 : Int32} {p8 : Int32} {S : zs_T} {Q : zs_Q} (hB : zt_B bf) (h : w_X9_routineHere_225 (zx σ n0 bf) d p0 p1 p8 S Q) : zs_U (zx σ n0 bf) d 8145 225 [(0, .ref p0), (1, .int p1), (8, .int p8)] [] S Q := by
  unfold w_X9_routineHere_225 at h
  refine zu_aload_n d_8145_225 rfl (zs_ra _) ?_
  obtain ⟨k1, h⟩ := h
  refine zg_8_230 rfl d_8145_226 k1 ?_
  refine zu_iload d_8145_229 rfl ?_
  refine zu_iconst d_8145_231 zi_0 ?_
  obtain ⟨b2, e3, h⟩ := h
  refine zs_stk2 (zs_rfe e3) ?_
  obtain ⟨k4, h⟩ := h
  obtain ⟨k5, h⟩ := h
  refine zu_bast_bool (k := 2) d_8145_232 rfl rfl k5 k4 ?_
  generalize e7 : zs_si S b2 p8.toNatClampNeg (vp_nar .boolean (0 : Int32)) = S6
  have h := h S6 e7.symm
  have K8 : ∀ b, zs_K S6 b = zs_K S b := zs_Kt e7 (zs_Ksi _ _ _ _) (fun _ => rfl)
  refine zu_aload_n d_8145_233 rfl (zs_ra _) ?_
  refine zu_iload d_8145_234 rfl ?_
  refine zu_iload_n d_8145_236 rfl ?_
  refine zc_8_950 (x0 := p8) (x1 := p1) hB rfl ((K8 _).trans k1) d_8145_237 (Nat.le_of_ble_eq_true rfl) h (fun S9 h => ?_)
  exact zu_vret d_8145_240 zr_8145 h
def w_X9_routineHere_190 (X : zs_X) (d : Nat) (p0 : Nat) (p1 : Int32) (p2 : Int32) (p3 : Int32) (p4 : Int32) (p5 : Int32) (p7 : Int32) (q0 : Int32) (S : zs_T) (Q : zs_Q) : Prop :=
  (zs_K S p0 = some (.inl 8) ∧ zs_C X d 8014 [.ref p0] S (zs_kV (fun S2 => (zs_K S2 p0 = some (.inl 8) ∧ ∃ b5, (zs_R S2 8086 p0) = some b5 ∧ zs_A S2 b5 0 p3 ∧ ab_n0 X.1 ≤ b5 ∧ ∀ S9, S9 = zs_si S2 b5 p3.toNatClampNeg q0 → ((p7 = 0 → (ab_n0 X.1 ≤ p0 ∧ ∀ S14, S14 = zs_sI S9 8108 p0 q0 → ∃ b17, (zs_R S14 8098 p0) = some b17 ∧ zs_A S2 b17 0 q0 ∧ ab_n0 X.1 ≤ b17 ∧ ∀ S21, S21 = zs_si S14 b17 q0.toNatClampNeg p4 → w_X9_routineHere_256 X d p0 p1 p2 p3 p4 p5 q0 S21 Q)) ∧ (¬ (p7 = 0) → (zs_C X d 8028 [.ref p0, .int (13 : Int32)] S9 (zs_kV (fun S24 => (zs_K S24 p0 = some (.inl 8) ∧ zs_C X d 8010 [.ref p0] S24 (zs_kV (fun S27 => (zs_K S27 p0 = some (.inl 8) ∧ zs_C X d 8146 [.ref p0, .int q0] S27 (zs_kV (fun S30 => w_X9_routineHere_225 X d p0 p1 q0 S30 Q) Q))) Q))) Q)))))) Q))
theorem u_X9_routineHere_190 {σ : Nat → Nat} {n0 : Nat} {bf : ab_B} {d : Nat} {p0 : Nat} {p1 : Int32} {p2 : Int32} {p3 : Int32} {p4 : Int32} {p5 : Int32} {p7 : Int32} {q0 : Int32} {S : zs_T} {Q : zs_Q} (hB : zt_B bf) (h : w_X9_routineHere_190 (zx σ n0 bf) d p0 p1 p2 p3 p4 p5 p7 q0 S Q) : zs_U (zx σ n0 bf) d 8145 190 [(0, .ref p0), (1, .int p1), (2, .int p2), (3, .int p3), (4, .int p4), (5, .int p5), (7, .int p7)] [.int q0] S Q := by
  unfold w_X9_routineHere_190 at h
  refine zu_istore d_8145_190 (zs_lt zq_8145 rfl) ?_
  refine zu_aload_n d_8145_192 rfl (zs_ra _) ?_
  obtain ⟨k1, h⟩ := h
  refine zc_8_538  hB rfl k1 d_8145_193 (Nat.le_of_ble_eq_true rfl) h (fun S2 h => ?_)
  refine zu_aload_n d_8145_196 rfl (zs_ra _) ?_
  obtain ⟨k4, h⟩ := h
  refine zg_8_182 rfl d_8145_197 k4 ?_
  refine zu_iload_n d_8145_200 rfl ?_
  refine zu_iload d_8145_201 rfl ?_
  obtain ⟨b5, e6, h⟩ := h
  refine zs_stk2 (zs_rfe e6) ?_
  obtain ⟨k7, h⟩ := h
  obtain ⟨k8, h⟩ := h
  refine zu_iast (k := 0) d_8145_203 rfl rfl k8 k7 ?_
  generalize e10 : zs_si S2 b5 p3.toNatClampNeg q0 = S9
  have h := h S9 e10.symm
  have K11 : ∀ b, zs_K S9 b = zs_K S2 b := zs_Kt e10 (zs_Ksi _ _ _ _) (fun _ => rfl)
  refine zu_iload d_8145_204 rfl ?_
  refine zu_ifeq (t := 241) d_8145_206 rfl (fun c12 => ?_) (fun c12 => ?_)
  · have h := h.1 c12
    refine zu_aload_n d_8145_241 rfl (zs_ra _) ?_
    refine zu_iload d_8145_242 rfl ?_
    obtain ⟨k13, h⟩ := h
    refine zp_8_944 (v := q0) rfl d_8145_244 ((K11 _).trans k4) k13 ?_
    generalize e15 : zs_sI S9 8108 p0 q0 = S14
    have h := h S14 e15.symm
    have K16 : ∀ b, zs_K S14 b = zs_K S2 b := zs_Kt e15 (zs_KsI _ _ _ _) K11
    refine zu_aload_n d_8145_247 rfl (zs_ra _) ?_
    refine zg_8_209 rfl d_8145_248 ((K16 _).trans k4) ?_
    refine zu_iload d_8145_251 rfl ?_
    refine zu_iload d_8145_253 rfl ?_
    obtain ⟨b17, e18, h⟩ := h
    refine zs_stk2 (zs_rfe e18) ?_
    obtain ⟨k19, h⟩ := h
    obtain ⟨k20, h⟩ := h
    refine zu_iast (k := 0) d_8145_255 rfl rfl k20 (zs_Ak K16 k19) ?_
    generalize e22 : zs_si S14 b17 q0.toNatClampNeg p4 = S21
    have h := h S21 e22.symm
    have K23 : ∀ b, zs_K S21 b = zs_K S2 b := zs_Kt e22 (zs_Ksi _ _ _ _) K16
    exact (u_X9_routineHere_256 hB h).weak ⟨rfl, rfl, rfl, rfl, rfl, rfl, rfl, trivial⟩
  · have h := h.2 c12
    refine zu_aload_n d_8145_209 rfl (zs_ra _) ?_
    refine zu_bipush d_8145_210 zj_13 ?_
    refine zc_8_746 (x0 := (13 : Int32)) hB rfl ((K11 _).trans k4) d_8145_212 (Nat.le_of_ble_eq_true rfl) h (fun S24 h => ?_)
    refine zu_aload_n d_8145_215 rfl (zs_ra _) ?_
    obtain ⟨k26, h⟩ := h
    refine zc_8_603  hB rfl k26 d_8145_216 (Nat.le_of_ble_eq_true rfl) h (fun S27 h => ?_)
    refine zu_aload_n d_8145_219 rfl (zs_ra _) ?_
    refine zu_iload d_8145_220 rfl ?_
    obtain ⟨k29, h⟩ := h
    refine zc_8_947 (x0 := q0) hB rfl k29 d_8145_222 (Nat.le_of_ble_eq_true rfl) h (fun S30 h => ?_)
    exact (u_X9_routineHere_225 hB h).weak ⟨rfl, rfl, rfl, trivial⟩
def w_X9_routineHere_169 (X : zs_X) (d : Nat) (p0 : Nat) (p1 : Int32) (p2 : Int32) (p3 : Int32) (p4 : Int32) (p5 : Int32) (p6 : Int32) (p7 : Int32) (S : zs_T) (Q : zs_Q) : Prop :=
  (((p7 = 0 → (zs_K S p0 = some (.inl 8) ∧ w_X9_routineHere_190 X d p0 p1 p2 p3 p4 p5 p7 ((zs_I S 8108 p0) + (1 : Int32)) S Q)) ∧ (¬ (p7 = 0) → (zs_K S p0 = some (.inl 8) ∧ ∃ b4, (zs_R S 8027 p0) = some b4 ∧ zs_A S b4 0 p6 ∧ w_X9_routineHere_190 X d p0 p1 p2 p3 p4 p5 p7 (zs_i S b4 p6.toNatClampNeg) S Q))))
theorem u_X9_routineHere_169 {σ : Nat → Nat} {n0 : Nat} {bf : ab_B} {d : Nat} {p0 : Nat} {p1 : Int32} {p2 : Int32} {p3 : Int32} {p4 : Int32} {p5 : Int32} {p6 : Int32} {p7 : Int32} {S : zs_T} {Q : zs_Q} (hB : zt_B bf) (h : w_X9_routineHere_169 (zx σ n0 bf) d p0 p1 p2 p3 p4 p5 p6 p7 S Q) : zs_U (zx σ n0 bf) d 8145 169 [(0, .ref p0), (1, .int p1), (2, .int p2), (3, .int p3), (4, .int p4), (5, .int p5), (6, .int p6), (7, .int p7)] [] S Q := by
  unfold w_X9_routineHere_169 at h
  refine zu_iload d_8145_169 rfl ?_
  refine zu_ifeq (t := 184) d_8145_171 rfl (fun c1 => ?_) (fun c1 => ?_)
  · have h := h.1 c1
    refine zu_aload_n d_8145_184 rfl (zs_ra _) ?_
    obtain ⟨k2, h⟩ := h
    refine zg_8_944 rfl d_8145_185 k2 ?_
    refine zu_iconst d_8145_188 zi_1 ?_
    refine zu_stk d_8145_189 rfl rfl ?_
    exact (u_X9_routineHere_190 hB h).weak ⟨rfl, rfl, rfl, rfl, rfl, rfl, rfl, trivial⟩
  · have h := h.2 c1
    refine zu_aload_n d_8145_174 rfl (zs_ra _) ?_
    obtain ⟨k3, h⟩ := h
    refine zg_8_53 rfl d_8145_175 k3 ?_
    refine zu_iload d_8145_178 rfl ?_
    obtain ⟨b4, e5, h⟩ := h
    refine zs_stk1 (zs_rfe e5) ?_
    obtain ⟨k6, h⟩ := h
    refine zu_iald (k := 0) d_8145_180 rfl rfl k6 ?_
    refine zu_goto (t := 190) d_8145_181 rfl ?_
    exact (u_X9_routineHere_190 hB h).weak ⟨rfl, rfl, rfl, rfl, rfl, rfl, rfl, trivial⟩
def w_X9_routineHere_147 (X : zs_X) (d : Nat) (p0 : Nat) (p1 : Int32) (p2 : Int32) (p3 : Int32) (p4 : Int32) (p5 : Int32) (p6 : Int32) (q0 : Int32) (S : zs_T) (Q : zs_Q) : Prop :=
  (zs_K S p0 = some (.inl 8) ∧ zs_C X d 8095 [.ref p0, .int p4] S (zs_kI (fun v3 S2 => (((v3 = 0 → w_X9_routineHere_169 X d p0 p1 p2 p3 p4 p5 p6 q0 S2 Q) ∧ (¬ (v3 = 0) → (((¬ q0 = 0 → w_X9_routineHere_169 X d p0 p1 p2 p3 p4 p5 p6 q0 S2 Q) ∧ (¬ (¬ q0 = 0) → (zs_K S2 p0 = some (.inl 8) ∧ zs_C X d 8027 [.ref p0, .int (4 : Int32)] S2 (zs_kV (fun S7 => (Q (.returned none) S7)) Q))))))))) Q))
theorem u_X9_routineHere_147 {σ : Nat → Nat} {n0 : Nat} {bf : ab_B} {d : Nat} {p0 : Nat} {p1 : Int32} {p2 : Int32} {p3 : Int32} {p4 : Int32} {p5 : Int32} {p6 : Int32} {q0 : Int32} {S : zs_T} {Q : zs_Q} (hB : zt_B bf) (h : w_X9_routineHere_147 (zx σ n0 bf) d p0 p1 p2 p3 p4 p5 p6 q0 S Q) : zs_U (zx σ n0 bf) d 8145 147 [(0, .ref p0), (1, .int p1), (2, .int p2), (3, .int p3), (4, .int p4), (5, .int p5), (6, .int p6)] [.int q0] S Q := by
  unfold w_X9_routineHere_147 at h
  refine zu_istore d_8145_147 (zs_lt zq_8145 rfl) ?_
  refine zu_aload_n d_8145_149 rfl (zs_ra _) ?_
  refine zu_iload d_8145_150 rfl ?_
  obtain ⟨k1, h⟩ := h
  refine zc_8_864 (x0 := p4) hB rfl k1 d_8145_152 (Nat.le_of_ble_eq_true rfl) h (fun v3 S2 h => ?_)
  refine zu_ifeq (t := 169) d_8145_155 rfl (fun c4 => ?_) (fun c4 => ?_)
  · have h := h.1 c4
    exact (u_X9_routineHere_169 hB h).weak ⟨rfl, rfl, rfl, rfl, rfl, rfl, rfl, rfl, trivial⟩
  · have h := h.2 c4
    refine zu_iload d_8145_158 rfl ?_
    refine zu_ifne (t := 169) d_8145_160 rfl (fun c5 => ?_) (fun c5 => ?_)
    · have h := h.1 c5
      exact (u_X9_routineHere_169 hB h).weak ⟨rfl, rfl, rfl, rfl, rfl, rfl, rfl, rfl, trivial⟩
    · have h := h.2 c5
      refine zu_aload_n d_8145_163 rfl (zs_ra _) ?_
      refine zu_iconst d_8145_164 zi_4 ?_
      obtain ⟨k6, h⟩ := h
      refine zc_8_541 (x0 := (4 : Int32)) hB rfl k6 d_8145_165 (Nat.le_of_ble_eq_true rfl) h (fun S7 h => ?_)
      exact zu_vret d_8145_168 zr_8145 h
def w_X9_routineHere_146 (X : zs_X) (d : Nat) (p0 : Nat) (p1 : Int32) (p2 : Int32) (p3 : Int32) (p4 : Int32) (p5 : Int32) (p6 : Int32) (S : zs_T) (Q : zs_Q) : Prop :=
  (w_X9_routineHere_147 X d p0 p1 p2 p3 p4 p5 p6 (0 : Int32) S Q)
theorem u_X9_routineHere_146 {σ : Nat → Nat} {n0 : Nat} {bf : ab_B} {d : Nat} {p0 : Nat} {p1 : Int32} {p2 : Int32} {p3 : Int32} {p4 : Int32} {p5 : Int32} {p6 : Int32} {S : zs_T} {Q : zs_Q} (hB : zt_B bf) (h : w_X9_routineHere_146 (zx σ n0 bf) d p0 p1 p2 p3 p4 p5 p6 S Q) : zs_U (zx σ n0 bf) d 8145 146 [(0, .ref p0), (1, .int p1), (2, .int p2), (3, .int p3), (4, .int p4), (5, .int p5), (6, .int p6)] [] S Q := by
  unfold w_X9_routineHere_146 at h
  refine zu_iconst d_8145_146 zi_0 ?_
  exact (u_X9_routineHere_147 hB h).weak ⟨rfl, rfl, rfl, rfl, rfl, rfl, rfl, trivial⟩
def w_X9_routineHere_138 (X : zs_X) (d : Nat) (p0 : Nat) (p1 : Int32) (p2 : Int32) (p3 : Int32) (p4 : Int32) (p5 : Int32) (p6 : Int32) (q0 : Int32) (S : zs_T) (Q : zs_Q) : Prop :=
  (((¬ q0 = p2 → w_X9_routineHere_146 X d p0 p1 p2 p3 p4 p5 p6 S Q) ∧ (¬ (¬ q0 = p2) → (w_X9_routineHere_147 X d p0 p1 p2 p3 p4 p5 p6 (1 : Int32) S Q))))
theorem u_X9_routineHere_138 {σ : Nat → Nat} {n0 : Nat} {bf : ab_B} {d : Nat} {p0 : Nat} {p1 : Int32} {p2 : Int32} {p3 : Int32} {p4 : Int32} {p5 : Int32} {p6 : Int32} {q0 : Int32} {S : zs_T} {Q : zs_Q} (hB : zt_B bf) (h : w_X9_routineHere_138 (zx σ n0 bf) d p0 p1 p2 p3 p4 p5 p6 q0 S Q) : zs_U (zx σ n0 bf) d 8145 138 [(0, .ref p0), (1, .int p1), (2, .int p2), (3, .int p3), (4, .int p4), (5, .int p5), (6, .int p6)] [.int q0] S Q := by
  unfold w_X9_routineHere_138 at h
  refine zu_iload_n d_8145_138 rfl ?_
  refine zu_cmpne (t := 146) d_8145_139 rfl (fun c1 => ?_) (fun c1 => ?_)
  · have h := h.1 c1
    exact (u_X9_routineHere_146 hB h).weak ⟨rfl, rfl, rfl, rfl, rfl, rfl, rfl, trivial⟩
  · have h := h.2 c1
    refine zu_iconst d_8145_142 zi_1 ?_
    refine zu_goto (t := 147) d_8145_143 rfl ?_
    exact (u_X9_routineHere_147 hB h).weak ⟨rfl, rfl, rfl, rfl, rfl, rfl, rfl, trivial⟩
def w_X9_routineHere_118 (X : zs_X) (d : Nat) (p0 : Nat) (p1 : Int32) (p2 : Int32) (p3 : Int32) (p4 : Int32) (p5 : Int32) (p6 : Int32) (S : zs_T) (Q : zs_Q) : Prop :=
  (zs_K S p0 = some (.inl 8) ∧ ∃ b2, (zs_R S 8027 p0) = some b2 ∧ zs_A S b2 0 p6 ∧ ∃ b5, (zs_R S 8100 p0) = some b5 ∧ zs_A S b5 0 (zs_i S b2 p6.toNatClampNeg) ∧ (((zs_i S b5 (zs_i S b2 p6.toNatClampNeg).toNatClampNeg) ≤ 0 → (w_X9_routineHere_138 X d p0 p1 p2 p3 p4 p5 p6 (0 : Int32) S Q)) ∧ (¬ ((zs_i S b5 (zs_i S b2 p6.toNatClampNeg).toNatClampNeg) ≤ 0) → (w_X9_routineHere_138 X d p0 p1 p2 p3 p4 p5 p6 (1 : Int32) S Q))))
theorem u_X9_routineHere_118 {σ : Nat → Nat} {n0 : Nat} {bf : ab_B} {d : Nat} {p0 : Nat} {p1 : Int32} {p2 : Int32} {p3 : Int32} {p4 : Int32} {p5 : Int32} {p6 : Int32} {S : zs_T} {Q : zs_Q} (hB : zt_B bf) (h : w_X9_routineHere_118 (zx σ n0 bf) d p0 p1 p2 p3 p4 p5 p6 S Q) : zs_U (zx σ n0 bf) d 8145 118 [(0, .ref p0), (1, .int p1), (2, .int p2), (3, .int p3), (4, .int p4), (5, .int p5), (6, .int p6)] [] S Q := by
  unfold w_X9_routineHere_118 at h
  refine zu_aload_n d_8145_118 rfl (zs_ra _) ?_
  obtain ⟨k1, h⟩ := h
  refine zg_8_215 rfl d_8145_119 k1 ?_
  refine zu_aload_n d_8145_122 rfl (zs_ra _) ?_
  refine zg_8_53 rfl d_8145_123 k1 ?_
  refine zu_iload d_8145_126 rfl ?_
  obtain ⟨b2, e3, h⟩ := h
  refine zs_stk1 (zs_rfe e3) ?_
  obtain ⟨k4, h⟩ := h
  refine zu_iald (k := 0) d_8145_128 rfl rfl k4 ?_
  obtain ⟨b5, e6, h⟩ := h
  refine zs_stk1 (zs_rfe e6) ?_
  obtain ⟨k7, h⟩ := h
  refine zu_iald (k := 0) d_8145_129 rfl rfl k7 ?_
  refine zu_ifle (t := 137) d_8145_130 rfl (fun c8 => ?_) (fun c8 => ?_)
  · have h := h.1 c8
    refine zu_iconst d_8145_137 zi_0 ?_
    exact (u_X9_routineHere_138 hB h).weak ⟨rfl, rfl, rfl, rfl, rfl, rfl, rfl, trivial⟩
  · have h := h.2 c8
    refine zu_iconst d_8145_133 zi_1 ?_
    refine zu_goto (t := 138) d_8145_134 rfl ?_
    exact (u_X9_routineHere_138 hB h).weak ⟨rfl, rfl, rfl, rfl, rfl, rfl, rfl, trivial⟩
def w_X9_routineHere_76 (X : zs_X) (d : Nat) (p0 : Nat) (p1 : Int32) (p2 : Int32) (p3 : Int32) (p4 : Int32) (p5 : Int32) (p6 : Int32) (S : zs_T) (Q : zs_Q) : Prop :=
  (zs_K S p0 = some (.inl 8) ∧ ∃ b2, (zs_R S 8024 p0) = some b2 ∧ zs_A S b2 1 p6 ∧ ((¬ (zs_i S b2 p6.toNatClampNeg) = (5 : Int32) → w_X9_routineHere_146 X d p0 p1 p2 p3 p4 p5 p6 S Q) ∧ (¬ (¬ (zs_i S b2 p6.toNatClampNeg) = (5 : Int32)) → (∃ b6, (zs_R S 8027 p0) = some b6 ∧ zs_A S b6 0 p6 ∧ ∃ b9, (zs_R S 8105 p0) = some b9 ∧ zs_A S b9 2 (zs_i S b6 p6.toNatClampNeg) ∧ (((zs_i S b9 (zs_i S b6 p6.toNatClampNeg).toNatClampNeg) = 0 → w_X9_routineHere_146 X d p0 p1 p2 p3 p4 p5 p6 S Q) ∧ (¬ ((zs_i S b9 (zs_i S b6 p6.toNatClampNeg).toNatClampNeg) = 0) → (∃ b13, (zs_R S 8106 p0) = some b13 ∧ zs_A S b13 0 (zs_i S b6 p6.toNatClampNeg) ∧ ((¬ (zs_i S b13 (zs_i S b6 p6.toNatClampNeg).toNatClampNeg) = p1 → w_X9_routineHere_146 X d p0 p1 p2 p3 p4 p5 p6 S Q) ∧ (¬ (¬ (zs_i S b13 (zs_i S b6 p6.toNatClampNeg).toNatClampNeg) = p1) → w_X9_routineHere_118 X d p0 p1 p2 p3 p4 p5 p6 S Q)))))))))
theorem u_X9_routineHere_76 {σ : Nat → Nat} {n0 : Nat} {bf : ab_B} {d : Nat} {p0 : Nat} {p1 : Int32} {p2 : Int32} {p3 : Int32} {p4 : Int32} {p5 : Int32} {p6 : Int32} {S : zs_T} {Q : zs_Q} (hB : zt_B bf) (h : w_X9_routineHere_76 (zx σ n0 bf) d p0 p1 p2 p3 p4 p5 p6 S Q) : zs_U (zx σ n0 bf) d 8145 76 [(0, .ref p0), (1, .int p1), (2, .int p2), (3, .int p3), (4, .int p4), (5, .int p5), (6, .int p6)] [] S Q := by
  unfold w_X9_routineHere_76 at h
  refine zu_aload_n d_8145_76 rfl (zs_ra _) ?_
  obtain ⟨k1, h⟩ := h
  refine zg_8_44 rfl d_8145_77 k1 ?_
  refine zu_iload d_8145_80 rfl ?_
  obtain ⟨b2, e3, h⟩ := h
  refine zs_stk1 (zs_rfe e3) ?_
  obtain ⟨k4, h⟩ := h
  refine zu_bald (k := 1) d_8145_82 rfl (Or.inl rfl) k4 ?_
  refine zu_iconst d_8145_83 zi_5 ?_
  refine zu_cmpne (t := 146) d_8145_84 rfl (fun c5 => ?_) (fun c5 => ?_)
  · have h := h.1 c5
    exact (u_X9_routineHere_146 hB h).weak ⟨rfl, rfl, rfl, rfl, rfl, rfl, rfl, trivial⟩
  · have h := h.2 c5
    refine zu_aload_n d_8145_87 rfl (zs_ra _) ?_
    refine zg_8_230 rfl d_8145_88 k1 ?_
    refine zu_aload_n d_8145_91 rfl (zs_ra _) ?_
    refine zg_8_53 rfl d_8145_92 k1 ?_
    refine zu_iload d_8145_95 rfl ?_
    obtain ⟨b6, e7, h⟩ := h
    refine zs_stk1 (zs_rfe e7) ?_
    obtain ⟨k8, h⟩ := h
    refine zu_iald (k := 0) d_8145_97 rfl rfl k8 ?_
    obtain ⟨b9, e10, h⟩ := h
    refine zs_stk1 (zs_rfe e10) ?_
    obtain ⟨k11, h⟩ := h
    refine zu_bald (k := 2) d_8145_98 rfl (Or.inr rfl) k11 ?_
    refine zu_ifeq (t := 146) d_8145_99 rfl (fun c12 => ?_) (fun c12 => ?_)
    · have h := h.1 c12
      exact (u_X9_routineHere_146 hB h).weak ⟨rfl, rfl, rfl, rfl, rfl, rfl, rfl, trivial⟩
    · have h := h.2 c12
      refine zu_aload_n d_8145_102 rfl (zs_ra _) ?_
      refine zg_8_233 rfl d_8145_103 k1 ?_
      refine zu_aload_n d_8145_106 rfl (zs_ra _) ?_
      refine zg_8_53 rfl d_8145_107 k1 ?_
      refine zu_iload d_8145_110 rfl ?_
      refine zs_stk1 (zs_rfe e7) ?_
      refine zu_iald (k := 0) d_8145_112 rfl rfl k8 ?_
      obtain ⟨b13, e14, h⟩ := h
      refine zs_stk1 (zs_rfe e14) ?_
      obtain ⟨k15, h⟩ := h
      refine zu_iald (k := 0) d_8145_113 rfl rfl k15 ?_
      refine zu_iload_n d_8145_114 rfl ?_
      refine zu_cmpne (t := 146) d_8145_115 rfl (fun c16 => ?_) (fun c16 => ?_)
      · have h := h.1 c16
        exact (u_X9_routineHere_146 hB h).weak ⟨rfl, rfl, rfl, rfl, rfl, rfl, rfl, trivial⟩
      · have h := h.2 c16
        exact (u_X9_routineHere_118 hB h).weak ⟨rfl, rfl, rfl, rfl, rfl, rfl, rfl, trivial⟩
def w_X9_routineHere_32 (X : zs_X) (d : Nat) (p0 : Nat) (p1 : Int32) (p2 : Int32) (p3 : Int32) (S : zs_T) (Q : zs_Q) : Prop :=
  (zs_K S p0 = some (.inl 8) ∧ (((zs_I S 8006 p0) = (1 : Int32) → (∃ b3, (zs_R S 8019 p0) = some b3 ∧ zs_A S b3 0 (zs_I S 8009 p0) ∧ zs_C X d 8095 [.ref p0, .int (zs_I S 8009 p0)] S (zs_kI (fun v7 S6 => (((v7 = 0 → w_X9_routineHere_146 X d p0 p1 p2 p3 (zs_I S 8009 p0) (zs_I S 8007 p0) (zs_i S b3 (zs_I S 8009 p0).toNatClampNeg) S6 Q) ∧ (¬ (v7 = 0) → w_X9_routineHere_76 X d p0 p1 p2 p3 (zs_I S 8009 p0) (zs_I S 8007 p0) (zs_i S b3 (zs_I S 8009 p0).toNatClampNeg) S6 Q)))) Q))) ∧ (¬ ((zs_I S 8006 p0) = (1 : Int32)) → (zs_C X d 8027 [.ref p0, .int (2 : Int32)] S (zs_kV (fun S9 => (Q (.returned none) S9)) Q)))))
theorem u_X9_routineHere_32 {σ : Nat → Nat} {n0 : Nat} {bf : ab_B} {d : Nat} {p0 : Nat} {p1 : Int32} {p2 : Int32} {p3 : Int32} {S : zs_T} {Q : zs_Q} (hB : zt_B bf) (h : w_X9_routineHere_32 (zx σ n0 bf) d p0 p1 p2 p3 S Q) : zs_U (zx σ n0 bf) d 8145 32 [(0, .ref p0), (1, .int p1), (2, .int p2), (3, .int p3)] [] S Q := by
  unfold w_X9_routineHere_32 at h
  refine zu_aload_n d_8145_32 rfl (zs_ra _) ?_
  obtain ⟨k1, h⟩ := h
  refine zg_8_484 rfl d_8145_33 k1 ?_
  refine zu_iconst d_8145_36 zi_1 ?_
  refine zu_cmpeq (t := 46) d_8145_37 rfl (fun c2 => ?_) (fun c2 => ?_)
  · have h := h.1 c2
    refine zu_aload_n d_8145_46 rfl (zs_ra _) ?_
    refine zg_8_494 rfl d_8145_47 k1 ?_
    refine zu_istore d_8145_50 (zs_lt zq_8145 rfl) ?_
    refine zu_aload_n d_8145_52 rfl (zs_ra _) ?_
    refine zg_8_450 rfl d_8145_53 k1 ?_
    refine zu_istore d_8145_56 (zs_lt zq_8145 rfl) ?_
    refine zu_aload_n d_8145_58 rfl (zs_ra _) ?_
    refine zg_8_37 rfl d_8145_59 k1 ?_
    refine zu_iload d_8145_62 rfl ?_
    obtain ⟨b3, e4, h⟩ := h
    refine zs_stk1 (zs_rfe e4) ?_
    obtain ⟨k5, h⟩ := h
    refine zu_iald (k := 0) d_8145_64 rfl rfl k5 ?_
    refine zu_istore d_8145_65 (zs_lt zq_8145 rfl) ?_
    refine zu_aload_n d_8145_67 rfl (zs_ra _) ?_
    refine zu_iload d_8145_68 rfl ?_
    refine zc_8_864 (x0 := (zs_I S 8009 p0)) hB rfl k1 d_8145_70 (Nat.le_of_ble_eq_true rfl) h (fun v7 S6 h => ?_)
    refine zu_ifeq (t := 146) d_8145_73 rfl (fun c8 => ?_) (fun c8 => ?_)
    · have h := h.1 c8
      exact (u_X9_routineHere_146 hB h).weak ⟨rfl, rfl, rfl, rfl, rfl, rfl, rfl, trivial⟩
    · have h := h.2 c8
      exact (u_X9_routineHere_76 hB h).weak ⟨rfl, rfl, rfl, rfl, rfl, rfl, rfl, trivial⟩
  · have h := h.2 c2
    refine zu_aload_n d_8145_40 rfl (zs_ra _) ?_
    refine zu_iconst d_8145_41 zi_2 ?_
    refine zc_8_541 (x0 := (2 : Int32)) hB rfl k1 d_8145_42 (Nat.le_of_ble_eq_true rfl) h (fun S9 h => ?_)
    exact zu_vret d_8145_45 zr_8145 h
def w_X9_routineHere (X : zs_X) (d : Nat) (p0 : Nat) (p1 : Int32) (p2 : Int32) (S : zs_T) (Q : zs_Q) : Prop :=
  (zs_K S p0 = some (.inl 8) ∧ zs_C X d 8030 [.ref p0, .int (69 : Int32), .int (0 : Int32), .int p1, .int (0 : Int32)] S (zs_kV (fun S2 => (zs_K S2 p0 = some (.inl 8) ∧ zs_C X d 8060 [.ref p0] S2 (zs_kV (fun S5 => (zs_K S5 p0 = some (.inl 8) ∧ zs_C X d 8014 [.ref p0] S5 (zs_kV (fun S8 => (zs_K S8 p0 = some (.inl 8) ∧ (((zs_I S8 8010 p0) ≤ 0 → w_X9_routineHere_32 X d p0 p1 p2 ((zs_I S2 8089 p0) - (1 : Int32)) S8 Q) ∧ (¬ ((zs_I S8 8010 p0) ≤ 0) → w_X9_routineHere_31 X d  S8 Q)))) Q))) Q))) Q))
theorem u_X9_routineHere {σ : Nat → Nat} {n0 : Nat} {bf : ab_B} {d : Nat} {p0 : Nat} {p1 : Int32} {p2 : Int32} {S : zs_T} {Q : zs_Q} (hB : zt_B bf) (hd : 1 ≤ d) (h : w_X9_routineHere (zx σ n0 bf) (d - 1) p0 p1 p2 S Q) : zs_C (zx σ n0 bf) d 8145 [.ref p0, .int p1, .int p2] S Q := by
  have hL : lv_args 0 [.ref p0, .int p1, .int p2] = [(0, .ref p0), (1, .int p1), (2, .int p2)] := rfl
  refine zs_C.of1 (hB.2 8145 (by decide) (by decide)) hd (by rw [hL]; exact zs_sub_self _ (by exact ⟨rfl, rfl, rfl, trivial⟩)) ?_
  rw [hL]
  clear hL
  unfold w_X9_routineHere at h
  refine zu_aload_n d_8145_0 rfl (zs_ra _) ?_
  refine zu_bipush d_8145_1 zj_69 ?_
  refine zu_iconst d_8145_3 zi_0 ?_
  refine zu_iload_n d_8145_4 rfl ?_
  refine zu_iconst d_8145_5 zi_0 ?_
  obtain ⟨k1, h⟩ := h
  refine zc_8_649 (x0 := (69 : Int32)) (x1 := (0 : Int32)) (x2 := p1) (x3 := (0 : Int32)) hB rfl k1 d_8145_6 (Nat.le_of_ble_eq_true rfl) h (fun S2 h => ?_)
  refine zu_aload_n d_8145_9 rfl (zs_ra _) ?_
  obtain ⟨k4, h⟩ := h
  refine zg_8_643 rfl d_8145_10 k4 ?_
  refine zu_iconst d_8145_13 zi_1 ?_
  refine zu_stk d_8145_14 rfl rfl ?_
  refine zu_istore_n d_8145_15 (zs_lt zq_8145 rfl) ?_
  refine zu_aload_n d_8145_16 rfl (zs_ra _) ?_
  refine zc_8_706  hB rfl k4 d_8145_17 (Nat.le_of_ble_eq_true rfl) h (fun S5 h => ?_)
  refine zu_aload_n d_8145_20 rfl (zs_ra _) ?_
  obtain ⟨k7, h⟩ := h
  refine zc_8_538  hB rfl k7 d_8145_21 (Nat.le_of_ble_eq_true rfl) h (fun S8 h => ?_)
  refine zu_aload_n d_8145_24 rfl (zs_ra _) ?_
  obtain ⟨k10, h⟩ := h
  refine zg_8_444 rfl d_8145_25 k10 ?_
  refine zu_ifle (t := 32) d_8145_28 rfl (fun c11 => ?_) (fun c11 => ?_)
  · have h := h.1 c11
    exact (u_X9_routineHere_32 hB h).weak ⟨rfl, rfl, rfl, rfl, trivial⟩
  · have h := h.2 c11
    exact (u_X9_routineHere_31 hB h).weak trivial
/-! SchemaPascalModel.tellParams(I)V -/
theorem zm_8146 {σ : Nat → Nat} {n0 : Nat} {bf : ab_B} : ab_code (zx σ n0 bf).1 8146 = prog_17_method_156_code := rfl
theorem zq_8146 {σ : Nat → Nat} {n0 : Nat} {bf : ab_B} : ab_maxL (zx σ n0 bf).1 8146 = 5 := rfl
theorem zr_8146 {σ : Nat → Nat} {n0 : Nat} {bf : ab_B} : ab_ret (zx σ n0 bf).1 8146 = (Option.none : Option Jvm.ClassFile.FieldType) := rfl
theorem d_8146_0 {σ : Nat → Nat} {n0 : Nat} {bf : ab_B} : decode (ab_code (zx σ n0 bf).1 8146) 0 = .ok (.iconst 0, 1) := zd zm_8146 (by decide +kernel)
theorem d_8146_1 {σ : Nat → Nat} {n0 : Nat} {bf : ab_B} : decode (ab_code (zx σ n0 bf).1 8146) 1 = .ok (.istore_n 2, 1) := zd zm_8146 (by decide +kernel)
theorem d_8146_2 {σ : Nat → Nat} {n0 : Nat} {bf : ab_B} : decode (ab_code (zx σ n0 bf).1 8146) 2 = .ok (.iload_n 2, 1) := zd zm_8146 (by decide +kernel)
theorem d_8146_3 {σ : Nat → Nat} {n0 : Nat} {bf : ab_B} : decode (ab_code (zx σ n0 bf).1 8146) 3 = .ok (.aload_n 0, 1) := zd zm_8146 (by decide +kernel)
theorem d_8146_4 {σ : Nat → Nat} {n0 : Nat} {bf : ab_B} : decode (ab_code (zx σ n0 bf).1 8146) 4 = .ok (.getfield 224, 3) := zd zm_8146 (by decide +kernel)
theorem d_8146_7 {σ : Nat → Nat} {n0 : Nat} {bf : ab_B} : decode (ab_code (zx σ n0 bf).1 8146) 7 = .ok (.iload_n 1, 1) := zd zm_8146 (by decide +kernel)
theorem d_8146_8 {σ : Nat → Nat} {n0 : Nat} {bf : ab_B} : decode (ab_code (zx σ n0 bf).1 8146) 8 = .ok (.iaload, 1) := zd zm_8146 (by decide +kernel)
theorem d_8146_9 {σ : Nat → Nat} {n0 : Nat} {bf : ab_B} : decode (ab_code (zx σ n0 bf).1 8146) 9 = .ok (.if_icmp .ge 64, 3) := zd zm_8146 (by decide +kernel)
theorem d_8146_12 {σ : Nat → Nat} {n0 : Nat} {bf : ab_B} : decode (ab_code (zx σ n0 bf).1 8146) 12 = .ok (.aload_n 0, 1) := zd zm_8146 (by decide +kernel)
theorem d_8146_13 {σ : Nat → Nat} {n0 : Nat} {bf : ab_B} : decode (ab_code (zx σ n0 bf).1 8146) 13 = .ok (.getfield 444, 3) := zd zm_8146 (by decide +kernel)
theorem d_8146_16 {σ : Nat → Nat} {n0 : Nat} {bf : ab_B} : decode (ab_code (zx σ n0 bf).1 8146) 16 = .ok (.ifCond .ne 57, 3) := zd zm_8146 (by decide +kernel)
theorem d_8146_19 {σ : Nat → Nat} {n0 : Nat} {bf : ab_B} : decode (ab_code (zx σ n0 bf).1 8146) 19 = .ok (.aload_n 0, 1) := zd zm_8146 (by decide +kernel)
theorem d_8146_20 {σ : Nat → Nat} {n0 : Nat} {bf : ab_B} : decode (ab_code (zx σ n0 bf).1 8146) 20 = .ok (.getfield 227, 3) := zd zm_8146 (by decide +kernel)
theorem d_8146_23 {σ : Nat → Nat} {n0 : Nat} {bf : ab_B} : decode (ab_code (zx σ n0 bf).1 8146) 23 = .ok (.iload_n 1, 1) := zd zm_8146 (by decide +kernel)
theorem d_8146_24 {σ : Nat → Nat} {n0 : Nat} {bf : ab_B} : decode (ab_code (zx σ n0 bf).1 8146) 24 = .ok (.iaload, 1) := zd zm_8146 (by decide +kernel)
theorem d_8146_25 {σ : Nat → Nat} {n0 : Nat} {bf : ab_B} : decode (ab_code (zx σ n0 bf).1 8146) 25 = .ok (.iload_n 2, 1) := zd zm_8146 (by decide +kernel)
theorem d_8146_26 {σ : Nat → Nat} {n0 : Nat} {bf : ab_B} : decode (ab_code (zx σ n0 bf).1 8146) 26 = .ok (.iadd, 1) := zd zm_8146 (by decide +kernel)
theorem d_8146_27 {σ : Nat → Nat} {n0 : Nat} {bf : ab_B} : decode (ab_code (zx σ n0 bf).1 8146) 27 = .ok (.istore_n 3, 1) := zd zm_8146 (by decide +kernel)
theorem d_8146_28 {σ : Nat → Nat} {n0 : Nat} {bf : ab_B} : decode (ab_code (zx σ n0 bf).1 8146) 28 = .ok (.aload_n 0, 1) := zd zm_8146 (by decide +kernel)
theorem d_8146_29 {σ : Nat → Nat} {n0 : Nat} {bf : ab_B} : decode (ab_code (zx σ n0 bf).1 8146) 29 = .ok (.aload_n 0, 1) := zd zm_8146 (by decide +kernel)
theorem d_8146_30 {σ : Nat → Nat} {n0 : Nat} {bf : ab_B} : decode (ab_code (zx σ n0 bf).1 8146) 30 = .ok (.getfield 245, 3) := zd zm_8146 (by decide +kernel)
theorem d_8146_33 {σ : Nat → Nat} {n0 : Nat} {bf : ab_B} : decode (ab_code (zx σ n0 bf).1 8146) 33 = .ok (.iload_n 3, 1) := zd zm_8146 (by decide +kernel)
theorem d_8146_34 {σ : Nat → Nat} {n0 : Nat} {bf : ab_B} : decode (ab_code (zx σ n0 bf).1 8146) 34 = .ok (.iaload, 1) := zd zm_8146 (by decide +kernel)
theorem d_8146_35 {σ : Nat → Nat} {n0 : Nat} {bf : ab_B} : decode (ab_code (zx σ n0 bf).1 8146) 35 = .ok (.iconst 4, 1) := zd zm_8146 (by decide +kernel)
theorem d_8146_36 {σ : Nat → Nat} {n0 : Nat} {bf : ab_B} : decode (ab_code (zx σ n0 bf).1 8146) 36 = .ok (.aload_n 0, 1) := zd zm_8146 (by decide +kernel)
theorem d_8146_37 {σ : Nat → Nat} {n0 : Nat} {bf : ab_B} : decode (ab_code (zx σ n0 bf).1 8146) 37 = .ok (.getfield 239, 3) := zd zm_8146 (by decide +kernel)
theorem d_8146_40 {σ : Nat → Nat} {n0 : Nat} {bf : ab_B} : decode (ab_code (zx σ n0 bf).1 8146) 40 = .ok (.iload_n 3, 1) := zd zm_8146 (by decide +kernel)
theorem d_8146_41 {σ : Nat → Nat} {n0 : Nat} {bf : ab_B} : decode (ab_code (zx σ n0 bf).1 8146) 41 = .ok (.iaload, 1) := zd zm_8146 (by decide +kernel)
theorem d_8146_42 {σ : Nat → Nat} {n0 : Nat} {bf : ab_B} : decode (ab_code (zx σ n0 bf).1 8146) 42 = .ok (.iload_n 2, 1) := zd zm_8146 (by decide +kernel)
theorem d_8146_43 {σ : Nat → Nat} {n0 : Nat} {bf : ab_B} : decode (ab_code (zx σ n0 bf).1 8146) 43 = .ok (.aload_n 0, 1) := zd zm_8146 (by decide +kernel)
theorem d_8146_44 {σ : Nat → Nat} {n0 : Nat} {bf : ab_B} : decode (ab_code (zx σ n0 bf).1 8146) 44 = .ok (.getfield 242, 3) := zd zm_8146 (by decide +kernel)
theorem d_8146_47 {σ : Nat → Nat} {n0 : Nat} {bf : ab_B} : decode (ab_code (zx σ n0 bf).1 8146) 47 = .ok (.iload_n 3, 1) := zd zm_8146 (by decide +kernel)
theorem d_8146_48 {σ : Nat → Nat} {n0 : Nat} {bf : ab_B} : decode (ab_code (zx σ n0 bf).1 8146) 48 = .ok (.baload, 1) := zd zm_8146 (by decide +kernel)
theorem d_8146_49 {σ : Nat → Nat} {n0 : Nat} {bf : ab_B} : decode (ab_code (zx σ n0 bf).1 8146) 49 = .ok (.iconst 2, 1) := zd zm_8146 (by decide +kernel)
theorem d_8146_50 {σ : Nat → Nat} {n0 : Nat} {bf : ab_B} : decode (ab_code (zx σ n0 bf).1 8146) 50 = .ok (.if_icmp .ne 9, 3) := zd zm_8146 (by decide +kernel)
theorem d_8146_53 {σ : Nat → Nat} {n0 : Nat} {bf : ab_B} : decode (ab_code (zx σ n0 bf).1 8146) 53 = .ok (.ldc_w 726, 3) := zd zm_8146 (by decide +kernel)
theorem d_8146_56 {σ : Nat → Nat} {n0 : Nat} {bf : ab_B} : decode (ab_code (zx σ n0 bf).1 8146) 56 = .ok (.goto 4, 3) := zd zm_8146 (by decide +kernel)
theorem d_8146_59 {σ : Nat → Nat} {n0 : Nat} {bf : ab_B} : decode (ab_code (zx σ n0 bf).1 8146) 59 = .ok (.iconst 0, 1) := zd zm_8146 (by decide +kernel)
theorem d_8146_60 {σ : Nat → Nat} {n0 : Nat} {bf : ab_B} : decode (ab_code (zx σ n0 bf).1 8146) 60 = .ok (.ior, 1) := zd zm_8146 (by decide +kernel)
theorem d_8146_61 {σ : Nat → Nat} {n0 : Nat} {bf : ab_B} : decode (ab_code (zx σ n0 bf).1 8146) 61 = .ok (.iload_n 1, 1) := zd zm_8146 (by decide +kernel)
theorem d_8146_62 {σ : Nat → Nat} {n0 : Nat} {bf : ab_B} : decode (ab_code (zx σ n0 bf).1 8146) 62 = .ok (.invokevirtual 606, 3) := zd zm_8146 (by decide +kernel)
theorem d_8146_65 {σ : Nat → Nat} {n0 : Nat} {bf : ab_B} : decode (ab_code (zx σ n0 bf).1 8146) 65 = .ok (.istore 4, 2) := zd zm_8146 (by decide +kernel)
theorem d_8146_67 {σ : Nat → Nat} {n0 : Nat} {bf : ab_B} : decode (ab_code (zx σ n0 bf).1 8146) 67 = .ok (.iinc 2 1, 3) := zd zm_8146 (by decide +kernel)
theorem d_8146_70 {σ : Nat → Nat} {n0 : Nat} {bf : ab_B} : decode (ab_code (zx σ n0 bf).1 8146) 70 = .ok (.goto (-68), 3) := zd zm_8146 (by decide +kernel)
theorem d_8146_73 {σ : Nat → Nat} {n0 : Nat} {bf : ab_B} : decode (ab_code (zx σ n0 bf).1 8146) 73 = .ok (.return_, 1) := zd zm_8146 (by decide +kernel)
def w_X9_tellParams_60 (X : zs_X) (d : Nat) (p0 : Nat) (p1 : Int32) (p2 : Int32) (q0 : Option Nat) (q1 : Int32) (q2 : Int32) (q3 : Int32) (q4 : Int32) (q5 : Int32) (S : zs_T) (Q : zs_Q) : Prop :=
  (∃ b1, q0 = some b1 ∧ zs_K S b1 = some (.inl 8) ∧ zs_C X d 8011 [.ref b1, .int q1, .int q2, .int q3, .int (q4 ||| q5), .int p1] S (zs_kI (fun v5 S4 => (zs_U X d 8146 2 [(0, .ref p0), (1, .int p1), (2, .int (p2 + (1 : Int32)))] [] S4 Q)) Q))
theorem u_X9_tellParams_60 {σ : Nat → Nat} {n0 : Nat} {bf : ab_B} {d : Nat} {p0 : Nat} {p1 : Int32} {p2 : Int32} {q0 : Option Nat} {q1 : Int32} {q2 : Int32} {q3 : Int32} {q4 : Int32} {q5 : Int32} {S : zs_T} {Q : zs_Q} (hB : zt_B bf) (h : w_X9_tellParams_60 (zx σ n0 bf) d p0 p1 p2 q0 q1 q2 q3 q4 q5 S Q) : zs_U (zx σ n0 bf) d 8146 60 [(0, .ref p0), (1, .int p1), (2, .int p2)] [.int q5, .int q4, .int q3, .int q2, .int q1, va_rf q0] S Q := by
  unfold w_X9_tellParams_60 at h
  refine zu_stk d_8146_60 rfl rfl ?_
  refine zu_iload_n d_8146_61 rfl ?_
  obtain ⟨b1, e2, h⟩ := h
  refine zs_stk5 (zs_rfe e2) ?_
  obtain ⟨k3, h⟩ := h
  refine zc_8_606 (x0 := q1) (x1 := q2) (x2 := q3) (x3 := (q4 ||| q5)) (x4 := p1) hB rfl k3 d_8146_62 (Nat.le_of_ble_eq_true rfl) h (fun v5 S4 h => ?_)
  refine zu_istore d_8146_65 (zs_lt zq_8146 rfl) ?_
  refine zu_iinc d_8146_67 rfl zi_1 (zs_lt zq_8146 rfl) ?_
  refine zu_goto (t := 2) d_8146_70 rfl ?_
  exact h.weak ⟨rfl, rfl, rfl, trivial⟩
def w_X9_tellParams_28 (X : zs_X) (d : Nat) (p0 : Nat) (p1 : Int32) (p2 : Int32) (p3 : Int32) (S : zs_T) (Q : zs_Q) : Prop :=
  (zs_K S p0 = some (.inl 8) ∧ ∃ b2, (zs_R S 8111 p0) = some b2 ∧ zs_A S b2 0 p3 ∧ ∃ b5, (zs_R S 8109 p0) = some b5 ∧ zs_A S b5 0 p3 ∧ ∃ b8, (zs_R S 8110 p0) = some b8 ∧ zs_A S b8 1 p3 ∧ ((¬ (zs_i S b8 p3.toNatClampNeg) = (2 : Int32) → (w_X9_tellParams_60 X d p0 p1 p2 (some p0) (zs_i S b2 p3.toNatClampNeg) (4 : Int32) (zs_i S b5 p3.toNatClampNeg) p2 (0 : Int32) S Q)) ∧ (¬ (¬ (zs_i S b8 p3.toNatClampNeg) = (2 : Int32)) → (w_X9_tellParams_60 X d p0 p1 p2 (some p0) (zs_i S b2 p3.toNatClampNeg) (4 : Int32) (zs_i S b5 p3.toNatClampNeg) p2 (65536 : Int32) S Q))))
theorem u_X9_tellParams_28 {σ : Nat → Nat} {n0 : Nat} {bf : ab_B} {d : Nat} {p0 : Nat} {p1 : Int32} {p2 : Int32} {p3 : Int32} {S : zs_T} {Q : zs_Q} (hB : zt_B bf) (h : w_X9_tellParams_28 (zx σ n0 bf) d p0 p1 p2 p3 S Q) : zs_U (zx σ n0 bf) d 8146 28 [(0, .ref p0), (1, .int p1), (2, .int p2), (3, .int p3)] [] S Q := by
  unfold w_X9_tellParams_28 at h
  refine zu_aload_n d_8146_28 rfl (zs_ra _) ?_
  refine zu_aload_n d_8146_29 rfl (zs_ra _) ?_
  obtain ⟨k1, h⟩ := h
  refine zg_8_245 rfl d_8146_30 k1 ?_
  refine zu_iload_n d_8146_33 rfl ?_
  obtain ⟨b2, e3, h⟩ := h
  refine zs_stk1 (zs_rfe e3) ?_
  obtain ⟨k4, h⟩ := h
  refine zu_iald (k := 0) d_8146_34 rfl rfl k4 ?_
  refine zu_iconst d_8146_35 zi_4 ?_
  refine zu_aload_n d_8146_36 rfl (zs_ra _) ?_
  refine zg_8_239 rfl d_8146_37 k1 ?_
  refine zu_iload_n d_8146_40 rfl ?_
  obtain ⟨b5, e6, h⟩ := h
  refine zs_stk1 (zs_rfe e6) ?_
  obtain ⟨k7, h⟩ := h
  refine zu_iald (k := 0) d_8146_41 rfl rfl k7 ?_
  refine zu_iload_n d_8146_42 rfl ?_
  refine zu_aload_n d_8146_43 rfl (zs_ra _) ?_
  refine zg_8_242 rfl d_8146_44 k1 ?_
  refine zu_iload_n d_8146_47 rfl ?_
  obtain ⟨b8, e9, h⟩ := h
  refine zs_stk1 (zs_rfe e9) ?_
  obtain ⟨k10, h⟩ := h
  refine zu_bald (k := 1) d_8146_48 rfl (Or.inl rfl) k10 ?_
  refine zu_iconst d_8146_49 zi_2 ?_
  refine zu_cmpne (t := 59) d_8146_50 rfl (fun c11 => ?_) (fun c11 => ?_)
  · have h := h.1 c11
    refine zu_iconst d_8146_59 zi_0 ?_
    exact (u_X9_tellParams_60 hB h).weak ⟨rfl, rfl, rfl, trivial⟩
  · have h := h.2 c11
    refine zlw_8_726 rfl d_8146_53 ?_
    refine zu_goto (t := 60) d_8146_56 rfl ?_
    exact (u_X9_tellParams_60 hB h).weak ⟨rfl, rfl, rfl, trivial⟩
def w_X9_tellParams_2 (X : zs_X) (d : Nat) (p0 : Nat) (p1 : Int32) (p2 : Int32) (S : zs_T) (Q : zs_Q) : Prop :=
  (zs_K S p0 = some (.inl 8) ∧ ∃ b2, (zs_R S 8103 p0) = some b2 ∧ zs_A S b2 0 p1 ∧ (((zs_i S b2 p1.toNatClampNeg) ≤ p2 → (Q (.returned none) S)) ∧ (¬ ((zs_i S b2 p1.toNatClampNeg) ≤ p2) → (((¬ (zs_I S 8010 p0) = 0 → (Q (.returned none) S)) ∧ (¬ (¬ (zs_I S 8010 p0) = 0) → (∃ b7, (zs_R S 8104 p0) = some b7 ∧ zs_A S b7 0 p1 ∧ w_X9_tellParams_28 X d p0 p1 p2 ((zs_i S b7 p1.toNatClampNeg) + p2) S Q)))))))
theorem u_X9_tellParams_2 {σ : Nat → Nat} {n0 : Nat} {bf : ab_B} {d : Nat} {p0 : Nat} {p1 : Int32} {p2 : Int32} {S : zs_T} {Q : zs_Q} (hB : zt_B bf) (h : w_X9_tellParams_2 (zx σ n0 bf) d p0 p1 p2 S Q) : zs_U (zx σ n0 bf) d 8146 2 [(0, .ref p0), (1, .int p1), (2, .int p2)] [] S Q := by
  unfold w_X9_tellParams_2 at h
  refine zu_iload_n d_8146_2 rfl ?_
  refine zu_aload_n d_8146_3 rfl (zs_ra _) ?_
  obtain ⟨k1, h⟩ := h
  refine zg_8_224 rfl d_8146_4 k1 ?_
  refine zu_iload_n d_8146_7 rfl ?_
  obtain ⟨b2, e3, h⟩ := h
  refine zs_stk1 (zs_rfe e3) ?_
  obtain ⟨k4, h⟩ := h
  refine zu_iald (k := 0) d_8146_8 rfl rfl k4 ?_
  refine zu_cmpge (t := 73) d_8146_9 rfl (fun c5 => ?_) (fun c5 => ?_)
  · have h := h.1 c5
    exact zu_vret d_8146_73 zr_8146 h
  · have h := h.2 c5
    refine zu_aload_n d_8146_12 rfl (zs_ra _) ?_
    refine zg_8_444 rfl d_8146_13 k1 ?_
    refine zu_ifne (t := 73) d_8146_16 rfl (fun c6 => ?_) (fun c6 => ?_)
    · have h := h.1 c6
      exact zu_vret d_8146_73 zr_8146 h
    · have h := h.2 c6
      refine zu_aload_n d_8146_19 rfl (zs_ra _) ?_
      refine zg_8_227 rfl d_8146_20 k1 ?_
      refine zu_iload_n d_8146_23 rfl ?_
      obtain ⟨b7, e8, h⟩ := h
      refine zs_stk1 (zs_rfe e8) ?_
      obtain ⟨k9, h⟩ := h
      refine zu_iald (k := 0) d_8146_24 rfl rfl k9 ?_
      refine zu_iload_n d_8146_25 rfl ?_
      refine zu_stk d_8146_26 rfl rfl ?_
      refine zu_istore_n d_8146_27 (zs_lt zq_8146 rfl) ?_
      exact (u_X9_tellParams_28 hB h).weak ⟨rfl, rfl, rfl, rfl, trivial⟩
def w_X9_tellParams (X : zs_X) (d : Nat) (p0 : Nat) (p1 : Int32) (S : zs_T) (Q : zs_Q) : Prop :=
  (zs_U X d 8146 2 [(0, .ref p0), (1, .int p1), (2, .int (0 : Int32))] [] S Q)
theorem u_X9_tellParams {σ : Nat → Nat} {n0 : Nat} {bf : ab_B} {d : Nat} {p0 : Nat} {p1 : Int32} {S : zs_T} {Q : zs_Q} (hB : zt_B bf) (hd : 1 ≤ d) (h : w_X9_tellParams (zx σ n0 bf) (d - 1) p0 p1 S Q) : zs_C (zx σ n0 bf) d 8146 [.ref p0, .int p1] S Q := by
  have hL : lv_args 0 [.ref p0, .int p1] = [(0, .ref p0), (1, .int p1)] := rfl
  refine zs_C.of1 (hB.2 8146 (by decide) (by decide)) hd (by rw [hL]; exact zs_sub_self _ (by exact ⟨rfl, rfl, trivial⟩)) ?_
  rw [hL]
  clear hL
  unfold w_X9_tellParams at h
  refine zu_iconst d_8146_0 zi_0 ?_
  refine zu_istore_n d_8146_1 (zs_lt zq_8146 rfl) ?_
  exact h.weak ⟨rfl, rfl, rfl, trivial⟩
/-! SchemaPascalModel.beginBlock(II)V -/
theorem zm_8147 {σ : Nat → Nat} {n0 : Nat} {bf : ab_B} : ab_code (zx σ n0 bf).1 8147 = prog_17_method_157_code := rfl
theorem zq_8147 {σ : Nat → Nat} {n0 : Nat} {bf : ab_B} : ab_maxL (zx σ n0 bf).1 8147 = 4 := rfl
theorem zr_8147 {σ : Nat → Nat} {n0 : Nat} {bf : ab_B} : ab_ret (zx σ n0 bf).1 8147 = (Option.none : Option Jvm.ClassFile.FieldType) := rfl
theorem d_8147_0 {σ : Nat → Nat} {n0 : Nat} {bf : ab_B} : decode (ab_code (zx σ n0 bf).1 8147) 0 = .ok (.aload_n 0, 1) := zd zm_8147 (by decide +kernel)
theorem d_8147_1 {σ : Nat → Nat} {n0 : Nat} {bf : ab_B} : decode (ab_code (zx σ n0 bf).1 8147) 1 = .ok (.bipush 80, 2) := zd zm_8147 (by decide +kernel)
theorem d_8147_3 {σ : Nat → Nat} {n0 : Nat} {bf : ab_B} : decode (ab_code (zx σ n0 bf).1 8147) 3 = .ok (.iconst 0, 1) := zd zm_8147 (by decide +kernel)
theorem d_8147_4 {σ : Nat → Nat} {n0 : Nat} {bf : ab_B} : decode (ab_code (zx σ n0 bf).1 8147) 4 = .ok (.iconst 0, 1) := zd zm_8147 (by decide +kernel)
theorem d_8147_5 {σ : Nat → Nat} {n0 : Nat} {bf : ab_B} : decode (ab_code (zx σ n0 bf).1 8147) 5 = .ok (.iconst 0, 1) := zd zm_8147 (by decide +kernel)
theorem d_8147_6 {σ : Nat → Nat} {n0 : Nat} {bf : ab_B} : decode (ab_code (zx σ n0 bf).1 8147) 6 = .ok (.invokevirtual 656, 3) := zd zm_8147 (by decide +kernel)
theorem d_8147_9 {σ : Nat → Nat} {n0 : Nat} {bf : ab_B} : decode (ab_code (zx σ n0 bf).1 8147) 9 = .ok (.istore_n 3, 1) := zd zm_8147 (by decide +kernel)
theorem d_8147_10 {σ : Nat → Nat} {n0 : Nat} {bf : ab_B} : decode (ab_code (zx σ n0 bf).1 8147) 10 = .ok (.aload_n 0, 1) := zd zm_8147 (by decide +kernel)
theorem d_8147_11 {σ : Nat → Nat} {n0 : Nat} {bf : ab_B} : decode (ab_code (zx σ n0 bf).1 8147) 11 = .ok (.getfield 308, 3) := zd zm_8147 (by decide +kernel)
theorem d_8147_14 {σ : Nat → Nat} {n0 : Nat} {bf : ab_B} : decode (ab_code (zx σ n0 bf).1 8147) 14 = .ok (.iload_n 1, 1) := zd zm_8147 (by decide +kernel)
theorem d_8147_15 {σ : Nat → Nat} {n0 : Nat} {bf : ab_B} : decode (ab_code (zx σ n0 bf).1 8147) 15 = .ok (.iload_n 3, 1) := zd zm_8147 (by decide +kernel)
theorem d_8147_16 {σ : Nat → Nat} {n0 : Nat} {bf : ab_B} : decode (ab_code (zx σ n0 bf).1 8147) 16 = .ok (.iastore, 1) := zd zm_8147 (by decide +kernel)
theorem d_8147_17 {σ : Nat → Nat} {n0 : Nat} {bf : ab_B} : decode (ab_code (zx σ n0 bf).1 8147) 17 = .ok (.aload_n 0, 1) := zd zm_8147 (by decide +kernel)
theorem d_8147_18 {σ : Nat → Nat} {n0 : Nat} {bf : ab_B} : decode (ab_code (zx σ n0 bf).1 8147) 18 = .ok (.getfield 212, 3) := zd zm_8147 (by decide +kernel)
theorem d_8147_21 {σ : Nat → Nat} {n0 : Nat} {bf : ab_B} : decode (ab_code (zx σ n0 bf).1 8147) 21 = .ok (.iload_n 1, 1) := zd zm_8147 (by decide +kernel)
theorem d_8147_22 {σ : Nat → Nat} {n0 : Nat} {bf : ab_B} : decode (ab_code (zx σ n0 bf).1 8147) 22 = .ok (.aload_n 0, 1) := zd zm_8147 (by decide +kernel)
theorem d_8147_23 {σ : Nat → Nat} {n0 : Nat} {bf : ab_B} : decode (ab_code (zx σ n0 bf).1 8147) 23 = .ok (.getfield 556, 3) := zd zm_8147 (by decide +kernel)
theorem d_8147_26 {σ : Nat → Nat} {n0 : Nat} {bf : ab_B} : decode (ab_code (zx σ n0 bf).1 8147) 26 = .ok (.iastore, 1) := zd zm_8147 (by decide +kernel)
theorem d_8147_27 {σ : Nat → Nat} {n0 : Nat} {bf : ab_B} : decode (ab_code (zx σ n0 bf).1 8147) 27 = .ok (.aload_n 0, 1) := zd zm_8147 (by decide +kernel)
theorem d_8147_28 {σ : Nat → Nat} {n0 : Nat} {bf : ab_B} : decode (ab_code (zx σ n0 bf).1 8147) 28 = .ok (.iload_n 1, 1) := zd zm_8147 (by decide +kernel)
theorem d_8147_29 {σ : Nat → Nat} {n0 : Nat} {bf : ab_B} : decode (ab_code (zx σ n0 bf).1 8147) 29 = .ok (.putfield 722, 3) := zd zm_8147 (by decide +kernel)
theorem d_8147_32 {σ : Nat → Nat} {n0 : Nat} {bf : ab_B} : decode (ab_code (zx σ n0 bf).1 8147) 32 = .ok (.aload_n 0, 1) := zd zm_8147 (by decide +kernel)
theorem d_8147_33 {σ : Nat → Nat} {n0 : Nat} {bf : ab_B} : decode (ab_code (zx σ n0 bf).1 8147) 33 = .ok (.bipush 60, 2) := zd zm_8147 (by decide +kernel)
theorem d_8147_35 {σ : Nat → Nat} {n0 : Nat} {bf : ab_B} : decode (ab_code (zx σ n0 bf).1 8147) 35 = .ok (.iload_n 1, 1) := zd zm_8147 (by decide +kernel)
theorem d_8147_36 {σ : Nat → Nat} {n0 : Nat} {bf : ab_B} : decode (ab_code (zx σ n0 bf).1 8147) 36 = .ok (.iconst 0, 1) := zd zm_8147 (by decide +kernel)
theorem d_8147_37 {σ : Nat → Nat} {n0 : Nat} {bf : ab_B} : decode (ab_code (zx σ n0 bf).1 8147) 37 = .ok (.iconst 0, 1) := zd zm_8147 (by decide +kernel)
theorem d_8147_38 {σ : Nat → Nat} {n0 : Nat} {bf : ab_B} : decode (ab_code (zx σ n0 bf).1 8147) 38 = .ok (.invokevirtual 649, 3) := zd zm_8147 (by decide +kernel)
theorem d_8147_41 {σ : Nat → Nat} {n0 : Nat} {bf : ab_B} : decode (ab_code (zx σ n0 bf).1 8147) 41 = .ok (.return_, 1) := zd zm_8147 (by decide +kernel)
def w_X9_beginBlock_27 (X : zs_X) (d : Nat) (p0 : Nat) (p1 : Int32) (S : zs_T) (Q : zs_Q) : Prop :=
  (zs_K S p0 = some (.inl 8) ∧ ab_n0 X.1 ≤ p0 ∧ ∀ S3, S3 = zs_sI S 8113 p0 p1 → zs_C X d 8030 [.ref p0, .int (60 : Int32), .int p1, .int (0 : Int32), .int (0 : Int32)] S3 (zs_kV (fun S6 => (Q (.returned none) S6)) Q))
theorem u_X9_beginBlock_27 {σ : Nat → Nat} {n0 : Nat} {bf : ab_B} {d : Nat} {p0 : Nat} {p1 : Int32} {S : zs_T} {Q : zs_Q} (hB : zt_B bf) (h : w_X9_beginBlock_27 (zx σ n0 bf) d p0 p1 S Q) : zs_U (zx σ n0 bf) d 8147 27 [(0, .ref p0), (1, .int p1)] [] S Q := by
  unfold w_X9_beginBlock_27 at h
  refine zu_aload_n d_8147_27 rfl (zs_ra _) ?_
  refine zu_iload_n d_8147_28 rfl ?_
  obtain ⟨k1, h⟩ := h
  obtain ⟨k2, h⟩ := h
  refine zp_8_722 (v := p1) rfl d_8147_29 k1 k2 ?_
  generalize e4 : zs_sI S 8113 p0 p1 = S3
  have h := h S3 e4.symm
  have K5 : ∀ b, zs_K S3 b = zs_K S b := zs_Kt e4 (zs_KsI _ _ _ _) (fun _ => rfl)
  refine zu_aload_n d_8147_32 rfl (zs_ra _) ?_
  refine zu_bipush d_8147_33 zj_60 ?_
  refine zu_iload_n d_8147_35 rfl ?_
  refine zu_iconst d_8147_36 zi_0 ?_
  refine zu_iconst d_8147_37 zi_0 ?_
  refine zc_8_649 (x0 := (60 : Int32)) (x1 := p1) (x2 := (0 : Int32)) (x3 := (0 : Int32)) hB rfl ((K5 _).trans k1) d_8147_38 (Nat.le_of_ble_eq_true rfl) h (fun S6 h => ?_)
  exact zu_vret d_8147_41 zr_8147 h
def w_X9_beginBlock (X : zs_X) (d : Nat) (p0 : Nat) (p1 : Int32) (p2 : Int32) (S : zs_T) (Q : zs_Q) : Prop :=
  (zs_K S p0 = some (.inl 8) ∧ zs_C X d 8012 [.ref p0, .int (80 : Int32), .int (0 : Int32), .int (0 : Int32), .int (0 : Int32)] S (zs_kI (fun v3 S2 => (zs_K S2 p0 = some (.inl 8) ∧ ∃ b5, (zs_R S2 8144 p0) = some b5 ∧ zs_A S2 b5 0 p1 ∧ ab_n0 X.1 ≤ b5 ∧ ∀ S9, S9 = zs_si S2 b5 p1.toNatClampNeg v3 → ∃ b12, (zs_R S9 8099 p0) = some b12 ∧ zs_A S2 b12 0 p1 ∧ ab_n0 X.1 ≤ b12 ∧ ∀ S16, S16 = zs_si S9 b12 p1.toNatClampNeg (zs_I S9 8040 p0) → w_X9_beginBlock_27 X d p0 p1 S16 Q)) Q))
theorem u_X9_beginBlock {σ : Nat → Nat} {n0 : Nat} {bf : ab_B} {d : Nat} {p0 : Nat} {p1 : Int32} {p2 : Int32} {S : zs_T} {Q : zs_Q} (hB : zt_B bf) (hd : 1 ≤ d) (h : w_X9_beginBlock (zx σ n0 bf) (d - 1) p0 p1 p2 S Q) : zs_C (zx σ n0 bf) d 8147 [.ref p0, .int p1, .int p2] S Q := by
  have hL : lv_args 0 [.ref p0, .int p1, .int p2] = [(0, .ref p0), (1, .int p1), (2, .int p2)] := rfl
  refine zs_C.of1 (hB.2 8147 (by decide) (by decide)) hd (by rw [hL]; exact zs_sub_self _ (by exact ⟨rfl, rfl, rfl, trivial⟩)) ?_
  rw [hL]
  clear hL
  unfold w_X9_beginBlock at h
  refine zu_aload_n d_8147_0 rfl (zs_ra _) ?_
  refine zu_bipush d_8147_1 zj_80 ?_
  refine zu_iconst d_8147_3 zi_0 ?_
  refine zu_iconst d_8147_4 zi_0 ?_
  refine zu_iconst d_8147_5 zi_0 ?_
  obtain ⟨k1, h⟩ := h
  refine zc_8_656 (x0 := (80 : Int32)) (x1 := (0 : Int32)) (x2 := (0 : Int32)) (x3 := (0 : Int32)) hB rfl k1 d_8147_6 (Nat.le_of_ble_eq_true rfl) h (fun v3 S2 h => ?_)
  refine zu_istore_n d_8147_9 (zs_lt zq_8147 rfl) ?_
  refine zu_aload_n d_8147_10 rfl (zs_ra _) ?_
  obtain ⟨k4, h⟩ := h
  refine zg_8_308 rfl d_8147_11 k4 ?_
  refine zu_iload_n d_8147_14 rfl ?_
  refine zu_iload_n d_8147_15 rfl ?_
  obtain ⟨b5, e6, h⟩ := h
  refine zs_stk2 (zs_rfe e6) ?_
  obtain ⟨k7, h⟩ := h
  obtain ⟨k8, h⟩ := h
  refine zu_iast (k := 0) d_8147_16 rfl rfl k8 k7 ?_
  generalize e10 : zs_si S2 b5 p1.toNatClampNeg v3 = S9
  have h := h S9 e10.symm
  have K11 : ∀ b, zs_K S9 b = zs_K S2 b := zs_Kt e10 (zs_Ksi _ _ _ _) (fun _ => rfl)
  refine zu_aload_n d_8147_17 rfl (zs_ra _) ?_
  refine zg_8_212 rfl d_8147_18 ((K11 _).trans k4) ?_
  refine zu_iload_n d_8147_21 rfl ?_
  refine zu_aload_n d_8147_22 rfl (zs_ra _) ?_
  refine zg_8_556 rfl d_8147_23 ((K11 _).trans k4) ?_
  obtain ⟨b12, e13, h⟩ := h
  refine zs_stk2 (zs_rfe e13) ?_
  obtain ⟨k14, h⟩ := h
  obtain ⟨k15, h⟩ := h
  refine zu_iast (k := 0) d_8147_26 rfl rfl k15 (zs_Ak K11 k14) ?_
  generalize e17 : zs_si S9 b12 p1.toNatClampNeg (zs_I S9 8040 p0) = S16
  have h := h S16 e17.symm
  have K18 : ∀ b, zs_K S16 b = zs_K S2 b := zs_Kt e17 (zs_Ksi _ _ _ _) K11
  exact (u_X9_beginBlock_27 hB h).weak ⟨rfl, rfl, trivial⟩
/-! SchemaPascalModel.params(I)V -/
theorem zm_8148 {σ : Nat → Nat} {n0 : Nat} {bf : ab_B} : ab_code (zx σ n0 bf).1 8148 = prog_17_method_155_code := rfl
theorem zq_8148 {σ : Nat → Nat} {n0 : Nat} {bf : ab_B} : ab_maxL (zx σ n0 bf).1 8148 = 8 := rfl
theorem zr_8148 {σ : Nat → Nat} {n0 : Nat} {bf : ab_B} : ab_ret (zx σ n0 bf).1 8148 = (Option.none : Option Jvm.ClassFile.FieldType) := rfl
theorem d_8148_0 {σ : Nat → Nat} {n0 : Nat} {bf : ab_B} : decode (ab_code (zx σ n0 bf).1 8148) 0 = .ok (.iconst 1, 1) := zd zm_8148 (by decide +kernel)
theorem d_8148_1 {σ : Nat → Nat} {n0 : Nat} {bf : ab_B} : decode (ab_code (zx σ n0 bf).1 8148) 1 = .ok (.istore_n 2, 1) := zd zm_8148 (by decide +kernel)
theorem d_8148_2 {σ : Nat → Nat} {n0 : Nat} {bf : ab_B} : decode (ab_code (zx σ n0 bf).1 8148) 2 = .ok (.aload_n 0, 1) := zd zm_8148 (by decide +kernel)
theorem d_8148_3 {σ : Nat → Nat} {n0 : Nat} {bf : ab_B} : decode (ab_code (zx σ n0 bf).1 8148) 3 = .ok (.getfield 444, 3) := zd zm_8148 (by decide +kernel)
theorem d_8148_6 {σ : Nat → Nat} {n0 : Nat} {bf : ab_B} : decode (ab_code (zx σ n0 bf).1 8148) 6 = .ok (.ifCond .ne 296, 3) := zd zm_8148 (by decide +kernel)
theorem d_8148_9 {σ : Nat → Nat} {n0 : Nat} {bf : ab_B} : decode (ab_code (zx σ n0 bf).1 8148) 9 = .ok (.iload_n 2, 1) := zd zm_8148 (by decide +kernel)
theorem d_8148_10 {σ : Nat → Nat} {n0 : Nat} {bf : ab_B} : decode (ab_code (zx σ n0 bf).1 8148) 10 = .ok (.ifCond .eq 292, 3) := zd zm_8148 (by decide +kernel)
theorem d_8148_13 {σ : Nat → Nat} {n0 : Nat} {bf : ab_B} : decode (ab_code (zx σ n0 bf).1 8148) 13 = .ok (.aload_n 0, 1) := zd zm_8148 (by decide +kernel)
theorem d_8148_14 {σ : Nat → Nat} {n0 : Nat} {bf : ab_B} : decode (ab_code (zx σ n0 bf).1 8148) 14 = .ok (.iconst 4, 1) := zd zm_8148 (by decide +kernel)
theorem d_8148_15 {σ : Nat → Nat} {n0 : Nat} {bf : ab_B} : decode (ab_code (zx σ n0 bf).1 8148) 15 = .ok (.invokevirtual 544, 3) := zd zm_8148 (by decide +kernel)
theorem d_8148_18 {σ : Nat → Nat} {n0 : Nat} {bf : ab_B} : decode (ab_code (zx σ n0 bf).1 8148) 18 = .ok (.ifCond .eq 7, 3) := zd zm_8148 (by decide +kernel)
theorem d_8148_21 {σ : Nat → Nat} {n0 : Nat} {bf : ab_B} : decode (ab_code (zx σ n0 bf).1 8148) 21 = .ok (.iconst 1, 1) := zd zm_8148 (by decide +kernel)
theorem d_8148_22 {σ : Nat → Nat} {n0 : Nat} {bf : ab_B} : decode (ab_code (zx σ n0 bf).1 8148) 22 = .ok (.goto 17, 3) := zd zm_8148 (by decide +kernel)
theorem d_8148_25 {σ : Nat → Nat} {n0 : Nat} {bf : ab_B} : decode (ab_code (zx σ n0 bf).1 8148) 25 = .ok (.aload_n 0, 1) := zd zm_8148 (by decide +kernel)
theorem d_8148_26 {σ : Nat → Nat} {n0 : Nat} {bf : ab_B} : decode (ab_code (zx σ n0 bf).1 8148) 26 = .ok (.bipush 35, 2) := zd zm_8148 (by decide +kernel)
theorem d_8148_28 {σ : Nat → Nat} {n0 : Nat} {bf : ab_B} : decode (ab_code (zx σ n0 bf).1 8148) 28 = .ok (.invokevirtual 544, 3) := zd zm_8148 (by decide +kernel)
theorem d_8148_31 {σ : Nat → Nat} {n0 : Nat} {bf : ab_B} : decode (ab_code (zx σ n0 bf).1 8148) 31 = .ok (.ifCond .eq 7, 3) := zd zm_8148 (by decide +kernel)
theorem d_8148_34 {σ : Nat → Nat} {n0 : Nat} {bf : ab_B} : decode (ab_code (zx σ n0 bf).1 8148) 34 = .ok (.iconst 2, 1) := zd zm_8148 (by decide +kernel)
theorem d_8148_35 {σ : Nat → Nat} {n0 : Nat} {bf : ab_B} : decode (ab_code (zx σ n0 bf).1 8148) 35 = .ok (.goto 4, 3) := zd zm_8148 (by decide +kernel)
theorem d_8148_38 {σ : Nat → Nat} {n0 : Nat} {bf : ab_B} : decode (ab_code (zx σ n0 bf).1 8148) 38 = .ok (.iconst 0, 1) := zd zm_8148 (by decide +kernel)
theorem d_8148_39 {σ : Nat → Nat} {n0 : Nat} {bf : ab_B} : decode (ab_code (zx σ n0 bf).1 8148) 39 = .ok (.istore_n 3, 1) := zd zm_8148 (by decide +kernel)
theorem d_8148_40 {σ : Nat → Nat} {n0 : Nat} {bf : ab_B} : decode (ab_code (zx σ n0 bf).1 8148) 40 = .ok (.iload_n 3, 1) := zd zm_8148 (by decide +kernel)
theorem d_8148_41 {σ : Nat → Nat} {n0 : Nat} {bf : ab_B} : decode (ab_code (zx σ n0 bf).1 8148) 41 = .ok (.ifCond .eq 7, 3) := zd zm_8148 (by decide +kernel)
theorem d_8148_44 {σ : Nat → Nat} {n0 : Nat} {bf : ab_B} : decode (ab_code (zx σ n0 bf).1 8148) 44 = .ok (.aload_n 0, 1) := zd zm_8148 (by decide +kernel)
theorem d_8148_45 {σ : Nat → Nat} {n0 : Nat} {bf : ab_B} : decode (ab_code (zx σ n0 bf).1 8148) 45 = .ok (.invokevirtual 538, 3) := zd zm_8148 (by decide +kernel)
theorem d_8148_48 {σ : Nat → Nat} {n0 : Nat} {bf : ab_B} : decode (ab_code (zx σ n0 bf).1 8148) 48 = .ok (.aload_n 0, 1) := zd zm_8148 (by decide +kernel)
theorem d_8148_49 {σ : Nat → Nat} {n0 : Nat} {bf : ab_B} : decode (ab_code (zx σ n0 bf).1 8148) 49 = .ok (.getfield 224, 3) := zd zm_8148 (by decide +kernel)
theorem d_8148_52 {σ : Nat → Nat} {n0 : Nat} {bf : ab_B} : decode (ab_code (zx σ n0 bf).1 8148) 52 = .ok (.iload_n 1, 1) := zd zm_8148 (by decide +kernel)
theorem d_8148_53 {σ : Nat → Nat} {n0 : Nat} {bf : ab_B} : decode (ab_code (zx σ n0 bf).1 8148) 53 = .ok (.iaload, 1) := zd zm_8148 (by decide +kernel)
theorem d_8148_54 {σ : Nat → Nat} {n0 : Nat} {bf : ab_B} : decode (ab_code (zx σ n0 bf).1 8148) 54 = .ok (.istore 4, 2) := zd zm_8148 (by decide +kernel)
theorem d_8148_56 {σ : Nat → Nat} {n0 : Nat} {bf : ab_B} : decode (ab_code (zx σ n0 bf).1 8148) 56 = .ok (.iconst 1, 1) := zd zm_8148 (by decide +kernel)
theorem d_8148_57 {σ : Nat → Nat} {n0 : Nat} {bf : ab_B} : decode (ab_code (zx σ n0 bf).1 8148) 57 = .ok (.istore 5, 2) := zd zm_8148 (by decide +kernel)
theorem d_8148_59 {σ : Nat → Nat} {n0 : Nat} {bf : ab_B} : decode (ab_code (zx σ n0 bf).1 8148) 59 = .ok (.aload_n 0, 1) := zd zm_8148 (by decide +kernel)
theorem d_8148_60 {σ : Nat → Nat} {n0 : Nat} {bf : ab_B} : decode (ab_code (zx σ n0 bf).1 8148) 60 = .ok (.getfield 444, 3) := zd zm_8148 (by decide +kernel)
theorem d_8148_63 {σ : Nat → Nat} {n0 : Nat} {bf : ab_B} : decode (ab_code (zx σ n0 bf).1 8148) 63 = .ok (.ifCond .ne 171, 3) := zd zm_8148 (by decide +kernel)
theorem d_8148_66 {σ : Nat → Nat} {n0 : Nat} {bf : ab_B} : decode (ab_code (zx σ n0 bf).1 8148) 66 = .ok (.iload 5, 2) := zd zm_8148 (by decide +kernel)
theorem d_8148_68 {σ : Nat → Nat} {n0 : Nat} {bf : ab_B} : decode (ab_code (zx σ n0 bf).1 8148) 68 = .ok (.ifCond .eq 166, 3) := zd zm_8148 (by decide +kernel)
theorem d_8148_71 {σ : Nat → Nat} {n0 : Nat} {bf : ab_B} : decode (ab_code (zx σ n0 bf).1 8148) 71 = .ok (.aload_n 0, 1) := zd zm_8148 (by decide +kernel)
theorem d_8148_72 {σ : Nat → Nat} {n0 : Nat} {bf : ab_B} : decode (ab_code (zx σ n0 bf).1 8148) 72 = .ok (.getfield 484, 3) := zd zm_8148 (by decide +kernel)
theorem d_8148_75 {σ : Nat → Nat} {n0 : Nat} {bf : ab_B} : decode (ab_code (zx σ n0 bf).1 8148) 75 = .ok (.iconst 1, 1) := zd zm_8148 (by decide +kernel)
theorem d_8148_76 {σ : Nat → Nat} {n0 : Nat} {bf : ab_B} : decode (ab_code (zx σ n0 bf).1 8148) 76 = .ok (.if_icmp .eq 9, 3) := zd zm_8148 (by decide +kernel)
theorem d_8148_79 {σ : Nat → Nat} {n0 : Nat} {bf : ab_B} : decode (ab_code (zx σ n0 bf).1 8148) 79 = .ok (.aload_n 0, 1) := zd zm_8148 (by decide +kernel)
theorem d_8148_80 {σ : Nat → Nat} {n0 : Nat} {bf : ab_B} : decode (ab_code (zx σ n0 bf).1 8148) 80 = .ok (.iconst 2, 1) := zd zm_8148 (by decide +kernel)
theorem d_8148_81 {σ : Nat → Nat} {n0 : Nat} {bf : ab_B} : decode (ab_code (zx σ n0 bf).1 8148) 81 = .ok (.invokevirtual 541, 3) := zd zm_8148 (by decide +kernel)
theorem d_8148_84 {σ : Nat → Nat} {n0 : Nat} {bf : ab_B} : decode (ab_code (zx σ n0 bf).1 8148) 84 = .ok (.return_, 1) := zd zm_8148 (by decide +kernel)
theorem d_8148_85 {σ : Nat → Nat} {n0 : Nat} {bf : ab_B} : decode (ab_code (zx σ n0 bf).1 8148) 85 = .ok (.aload_n 0, 1) := zd zm_8148 (by decide +kernel)
theorem d_8148_86 {σ : Nat → Nat} {n0 : Nat} {bf : ab_B} : decode (ab_code (zx σ n0 bf).1 8148) 86 = .ok (.getfield 224, 3) := zd zm_8148 (by decide +kernel)
theorem d_8148_89 {σ : Nat → Nat} {n0 : Nat} {bf : ab_B} : decode (ab_code (zx σ n0 bf).1 8148) 89 = .ok (.iload_n 1, 1) := zd zm_8148 (by decide +kernel)
theorem d_8148_90 {σ : Nat → Nat} {n0 : Nat} {bf : ab_B} : decode (ab_code (zx σ n0 bf).1 8148) 90 = .ok (.iaload, 1) := zd zm_8148 (by decide +kernel)
theorem d_8148_91 {σ : Nat → Nat} {n0 : Nat} {bf : ab_B} : decode (ab_code (zx σ n0 bf).1 8148) 91 = .ok (.bipush 10, 2) := zd zm_8148 (by decide +kernel)
theorem d_8148_93 {σ : Nat → Nat} {n0 : Nat} {bf : ab_B} : decode (ab_code (zx σ n0 bf).1 8148) 93 = .ok (.if_icmp .ne 9, 3) := zd zm_8148 (by decide +kernel)
theorem d_8148_96 {σ : Nat → Nat} {n0 : Nat} {bf : ab_B} : decode (ab_code (zx σ n0 bf).1 8148) 96 = .ok (.aload_n 0, 1) := zd zm_8148 (by decide +kernel)
theorem d_8148_97 {σ : Nat → Nat} {n0 : Nat} {bf : ab_B} : decode (ab_code (zx σ n0 bf).1 8148) 97 = .ok (.bipush 8, 2) := zd zm_8148 (by decide +kernel)
theorem d_8148_99 {σ : Nat → Nat} {n0 : Nat} {bf : ab_B} : decode (ab_code (zx σ n0 bf).1 8148) 99 = .ok (.invokevirtual 541, 3) := zd zm_8148 (by decide +kernel)
theorem d_8148_102 {σ : Nat → Nat} {n0 : Nat} {bf : ab_B} : decode (ab_code (zx σ n0 bf).1 8148) 102 = .ok (.iconst 0, 1) := zd zm_8148 (by decide +kernel)
theorem d_8148_103 {σ : Nat → Nat} {n0 : Nat} {bf : ab_B} : decode (ab_code (zx σ n0 bf).1 8148) 103 = .ok (.istore 6, 2) := zd zm_8148 (by decide +kernel)
theorem d_8148_105 {σ : Nat → Nat} {n0 : Nat} {bf : ab_B} : decode (ab_code (zx σ n0 bf).1 8148) 105 = .ok (.iload 6, 2) := zd zm_8148 (by decide +kernel)
theorem d_8148_107 {σ : Nat → Nat} {n0 : Nat} {bf : ab_B} : decode (ab_code (zx σ n0 bf).1 8148) 107 = .ok (.aload_n 0, 1) := zd zm_8148 (by decide +kernel)
theorem d_8148_108 {σ : Nat → Nat} {n0 : Nat} {bf : ab_B} : decode (ab_code (zx σ n0 bf).1 8148) 108 = .ok (.getfield 224, 3) := zd zm_8148 (by decide +kernel)
theorem d_8148_111 {σ : Nat → Nat} {n0 : Nat} {bf : ab_B} : decode (ab_code (zx σ n0 bf).1 8148) 111 = .ok (.iload_n 1, 1) := zd zm_8148 (by decide +kernel)
theorem d_8148_112 {σ : Nat → Nat} {n0 : Nat} {bf : ab_B} : decode (ab_code (zx σ n0 bf).1 8148) 112 = .ok (.iaload, 1) := zd zm_8148 (by decide +kernel)
theorem d_8148_113 {σ : Nat → Nat} {n0 : Nat} {bf : ab_B} : decode (ab_code (zx σ n0 bf).1 8148) 113 = .ok (.if_icmp .ge 35, 3) := zd zm_8148 (by decide +kernel)
theorem d_8148_116 {σ : Nat → Nat} {n0 : Nat} {bf : ab_B} : decode (ab_code (zx σ n0 bf).1 8148) 116 = .ok (.aload_n 0, 1) := zd zm_8148 (by decide +kernel)
theorem d_8148_117 {σ : Nat → Nat} {n0 : Nat} {bf : ab_B} : decode (ab_code (zx σ n0 bf).1 8148) 117 = .ok (.getfield 245, 3) := zd zm_8148 (by decide +kernel)
theorem d_8148_120 {σ : Nat → Nat} {n0 : Nat} {bf : ab_B} : decode (ab_code (zx σ n0 bf).1 8148) 120 = .ok (.aload_n 0, 1) := zd zm_8148 (by decide +kernel)
theorem d_8148_121 {σ : Nat → Nat} {n0 : Nat} {bf : ab_B} : decode (ab_code (zx σ n0 bf).1 8148) 121 = .ok (.getfield 227, 3) := zd zm_8148 (by decide +kernel)
theorem d_8148_124 {σ : Nat → Nat} {n0 : Nat} {bf : ab_B} : decode (ab_code (zx σ n0 bf).1 8148) 124 = .ok (.iload_n 1, 1) := zd zm_8148 (by decide +kernel)
theorem d_8148_125 {σ : Nat → Nat} {n0 : Nat} {bf : ab_B} : decode (ab_code (zx σ n0 bf).1 8148) 125 = .ok (.iaload, 1) := zd zm_8148 (by decide +kernel)
theorem d_8148_126 {σ : Nat → Nat} {n0 : Nat} {bf : ab_B} : decode (ab_code (zx σ n0 bf).1 8148) 126 = .ok (.iload 6, 2) := zd zm_8148 (by decide +kernel)
theorem d_8148_128 {σ : Nat → Nat} {n0 : Nat} {bf : ab_B} : decode (ab_code (zx σ n0 bf).1 8148) 128 = .ok (.iadd, 1) := zd zm_8148 (by decide +kernel)
theorem d_8148_129 {σ : Nat → Nat} {n0 : Nat} {bf : ab_B} : decode (ab_code (zx σ n0 bf).1 8148) 129 = .ok (.iaload, 1) := zd zm_8148 (by decide +kernel)
theorem d_8148_130 {σ : Nat → Nat} {n0 : Nat} {bf : ab_B} : decode (ab_code (zx σ n0 bf).1 8148) 130 = .ok (.aload_n 0, 1) := zd zm_8148 (by decide +kernel)
theorem d_8148_131 {σ : Nat → Nat} {n0 : Nat} {bf : ab_B} : decode (ab_code (zx σ n0 bf).1 8148) 131 = .ok (.getfield 494, 3) := zd zm_8148 (by decide +kernel)
theorem d_8148_134 {σ : Nat → Nat} {n0 : Nat} {bf : ab_B} : decode (ab_code (zx σ n0 bf).1 8148) 134 = .ok (.if_icmp .ne 8, 3) := zd zm_8148 (by decide +kernel)
theorem d_8148_137 {σ : Nat → Nat} {n0 : Nat} {bf : ab_B} : decode (ab_code (zx σ n0 bf).1 8148) 137 = .ok (.aload_n 0, 1) := zd zm_8148 (by decide +kernel)
theorem d_8148_138 {σ : Nat → Nat} {n0 : Nat} {bf : ab_B} : decode (ab_code (zx σ n0 bf).1 8148) 138 = .ok (.iconst 4, 1) := zd zm_8148 (by decide +kernel)
theorem d_8148_139 {σ : Nat → Nat} {n0 : Nat} {bf : ab_B} : decode (ab_code (zx σ n0 bf).1 8148) 139 = .ok (.invokevirtual 541, 3) := zd zm_8148 (by decide +kernel)
theorem d_8148_142 {σ : Nat → Nat} {n0 : Nat} {bf : ab_B} : decode (ab_code (zx σ n0 bf).1 8148) 142 = .ok (.iinc 6 1, 3) := zd zm_8148 (by decide +kernel)
theorem d_8148_145 {σ : Nat → Nat} {n0 : Nat} {bf : ab_B} : decode (ab_code (zx σ n0 bf).1 8148) 145 = .ok (.goto (-40), 3) := zd zm_8148 (by decide +kernel)
theorem d_8148_148 {σ : Nat → Nat} {n0 : Nat} {bf : ab_B} : decode (ab_code (zx σ n0 bf).1 8148) 148 = .ok (.aload_n 0, 1) := zd zm_8148 (by decide +kernel)
theorem d_8148_149 {σ : Nat → Nat} {n0 : Nat} {bf : ab_B} : decode (ab_code (zx σ n0 bf).1 8148) 149 = .ok (.getfield 245, 3) := zd zm_8148 (by decide +kernel)
theorem d_8148_152 {σ : Nat → Nat} {n0 : Nat} {bf : ab_B} : decode (ab_code (zx σ n0 bf).1 8148) 152 = .ok (.aload_n 0, 1) := zd zm_8148 (by decide +kernel)
theorem d_8148_153 {σ : Nat → Nat} {n0 : Nat} {bf : ab_B} : decode (ab_code (zx σ n0 bf).1 8148) 153 = .ok (.getfield 227, 3) := zd zm_8148 (by decide +kernel)
theorem d_8148_156 {σ : Nat → Nat} {n0 : Nat} {bf : ab_B} : decode (ab_code (zx σ n0 bf).1 8148) 156 = .ok (.iload_n 1, 1) := zd zm_8148 (by decide +kernel)
theorem d_8148_157 {σ : Nat → Nat} {n0 : Nat} {bf : ab_B} : decode (ab_code (zx σ n0 bf).1 8148) 157 = .ok (.iaload, 1) := zd zm_8148 (by decide +kernel)
theorem d_8148_158 {σ : Nat → Nat} {n0 : Nat} {bf : ab_B} : decode (ab_code (zx σ n0 bf).1 8148) 158 = .ok (.aload_n 0, 1) := zd zm_8148 (by decide +kernel)
theorem d_8148_159 {σ : Nat → Nat} {n0 : Nat} {bf : ab_B} : decode (ab_code (zx σ n0 bf).1 8148) 159 = .ok (.getfield 224, 3) := zd zm_8148 (by decide +kernel)
theorem d_8148_162 {σ : Nat → Nat} {n0 : Nat} {bf : ab_B} : decode (ab_code (zx σ n0 bf).1 8148) 162 = .ok (.iload_n 1, 1) := zd zm_8148 (by decide +kernel)
theorem d_8148_163 {σ : Nat → Nat} {n0 : Nat} {bf : ab_B} : decode (ab_code (zx σ n0 bf).1 8148) 163 = .ok (.iaload, 1) := zd zm_8148 (by decide +kernel)
theorem d_8148_164 {σ : Nat → Nat} {n0 : Nat} {bf : ab_B} : decode (ab_code (zx σ n0 bf).1 8148) 164 = .ok (.iadd, 1) := zd zm_8148 (by decide +kernel)
theorem d_8148_165 {σ : Nat → Nat} {n0 : Nat} {bf : ab_B} : decode (ab_code (zx σ n0 bf).1 8148) 165 = .ok (.aload_n 0, 1) := zd zm_8148 (by decide +kernel)
theorem d_8148_166 {σ : Nat → Nat} {n0 : Nat} {bf : ab_B} : decode (ab_code (zx σ n0 bf).1 8148) 166 = .ok (.getfield 494, 3) := zd zm_8148 (by decide +kernel)
theorem d_8148_169 {σ : Nat → Nat} {n0 : Nat} {bf : ab_B} : decode (ab_code (zx σ n0 bf).1 8148) 169 = .ok (.iastore, 1) := zd zm_8148 (by decide +kernel)
theorem d_8148_170 {σ : Nat → Nat} {n0 : Nat} {bf : ab_B} : decode (ab_code (zx σ n0 bf).1 8148) 170 = .ok (.aload_n 0, 1) := zd zm_8148 (by decide +kernel)
theorem d_8148_171 {σ : Nat → Nat} {n0 : Nat} {bf : ab_B} : decode (ab_code (zx σ n0 bf).1 8148) 171 = .ok (.getfield 242, 3) := zd zm_8148 (by decide +kernel)
theorem d_8148_174 {σ : Nat → Nat} {n0 : Nat} {bf : ab_B} : decode (ab_code (zx σ n0 bf).1 8148) 174 = .ok (.aload_n 0, 1) := zd zm_8148 (by decide +kernel)
theorem d_8148_175 {σ : Nat → Nat} {n0 : Nat} {bf : ab_B} : decode (ab_code (zx σ n0 bf).1 8148) 175 = .ok (.getfield 227, 3) := zd zm_8148 (by decide +kernel)
theorem d_8148_178 {σ : Nat → Nat} {n0 : Nat} {bf : ab_B} : decode (ab_code (zx σ n0 bf).1 8148) 178 = .ok (.iload_n 1, 1) := zd zm_8148 (by decide +kernel)
theorem d_8148_179 {σ : Nat → Nat} {n0 : Nat} {bf : ab_B} : decode (ab_code (zx σ n0 bf).1 8148) 179 = .ok (.iaload, 1) := zd zm_8148 (by decide +kernel)
theorem d_8148_180 {σ : Nat → Nat} {n0 : Nat} {bf : ab_B} : decode (ab_code (zx σ n0 bf).1 8148) 180 = .ok (.aload_n 0, 1) := zd zm_8148 (by decide +kernel)
theorem d_8148_181 {σ : Nat → Nat} {n0 : Nat} {bf : ab_B} : decode (ab_code (zx σ n0 bf).1 8148) 181 = .ok (.getfield 224, 3) := zd zm_8148 (by decide +kernel)
theorem d_8148_184 {σ : Nat → Nat} {n0 : Nat} {bf : ab_B} : decode (ab_code (zx σ n0 bf).1 8148) 184 = .ok (.iload_n 1, 1) := zd zm_8148 (by decide +kernel)
theorem d_8148_185 {σ : Nat → Nat} {n0 : Nat} {bf : ab_B} : decode (ab_code (zx σ n0 bf).1 8148) 185 = .ok (.iaload, 1) := zd zm_8148 (by decide +kernel)
theorem d_8148_186 {σ : Nat → Nat} {n0 : Nat} {bf : ab_B} : decode (ab_code (zx σ n0 bf).1 8148) 186 = .ok (.iadd, 1) := zd zm_8148 (by decide +kernel)
theorem d_8148_187 {σ : Nat → Nat} {n0 : Nat} {bf : ab_B} : decode (ab_code (zx σ n0 bf).1 8148) 187 = .ok (.iload_n 3, 1) := zd zm_8148 (by decide +kernel)
theorem d_8148_188 {σ : Nat → Nat} {n0 : Nat} {bf : ab_B} : decode (ab_code (zx σ n0 bf).1 8148) 188 = .ok (.i2b, 1) := zd zm_8148 (by decide +kernel)
theorem d_8148_189 {σ : Nat → Nat} {n0 : Nat} {bf : ab_B} : decode (ab_code (zx σ n0 bf).1 8148) 189 = .ok (.bastore, 1) := zd zm_8148 (by decide +kernel)
theorem d_8148_190 {σ : Nat → Nat} {n0 : Nat} {bf : ab_B} : decode (ab_code (zx σ n0 bf).1 8148) 190 = .ok (.aload_n 0, 1) := zd zm_8148 (by decide +kernel)
theorem d_8148_191 {σ : Nat → Nat} {n0 : Nat} {bf : ab_B} : decode (ab_code (zx σ n0 bf).1 8148) 191 = .ok (.getfield 224, 3) := zd zm_8148 (by decide +kernel)
theorem d_8148_194 {σ : Nat → Nat} {n0 : Nat} {bf : ab_B} : decode (ab_code (zx σ n0 bf).1 8148) 194 = .ok (.iload_n 1, 1) := zd zm_8148 (by decide +kernel)
theorem d_8148_195 {σ : Nat → Nat} {n0 : Nat} {bf : ab_B} : decode (ab_code (zx σ n0 bf).1 8148) 195 = .ok (.dup2, 1) := zd zm_8148 (by decide +kernel)
theorem d_8148_196 {σ : Nat → Nat} {n0 : Nat} {bf : ab_B} : decode (ab_code (zx σ n0 bf).1 8148) 196 = .ok (.iaload, 1) := zd zm_8148 (by decide +kernel)
theorem d_8148_197 {σ : Nat → Nat} {n0 : Nat} {bf : ab_B} : decode (ab_code (zx σ n0 bf).1 8148) 197 = .ok (.iconst 1, 1) := zd zm_8148 (by decide +kernel)
theorem d_8148_198 {σ : Nat → Nat} {n0 : Nat} {bf : ab_B} : decode (ab_code (zx σ n0 bf).1 8148) 198 = .ok (.iadd, 1) := zd zm_8148 (by decide +kernel)
theorem d_8148_199 {σ : Nat → Nat} {n0 : Nat} {bf : ab_B} : decode (ab_code (zx σ n0 bf).1 8148) 199 = .ok (.iastore, 1) := zd zm_8148 (by decide +kernel)
theorem d_8148_200 {σ : Nat → Nat} {n0 : Nat} {bf : ab_B} : decode (ab_code (zx σ n0 bf).1 8148) 200 = .ok (.aload_n 0, 1) := zd zm_8148 (by decide +kernel)
theorem d_8148_201 {σ : Nat → Nat} {n0 : Nat} {bf : ab_B} : decode (ab_code (zx σ n0 bf).1 8148) 201 = .ok (.dup, 1) := zd zm_8148 (by decide +kernel)
theorem d_8148_202 {σ : Nat → Nat} {n0 : Nat} {bf : ab_B} : decode (ab_code (zx σ n0 bf).1 8148) 202 = .ok (.getfield 953, 3) := zd zm_8148 (by decide +kernel)
theorem d_8148_205 {σ : Nat → Nat} {n0 : Nat} {bf : ab_B} : decode (ab_code (zx σ n0 bf).1 8148) 205 = .ok (.iconst 1, 1) := zd zm_8148 (by decide +kernel)
theorem d_8148_206 {σ : Nat → Nat} {n0 : Nat} {bf : ab_B} : decode (ab_code (zx σ n0 bf).1 8148) 206 = .ok (.iadd, 1) := zd zm_8148 (by decide +kernel)
theorem d_8148_207 {σ : Nat → Nat} {n0 : Nat} {bf : ab_B} : decode (ab_code (zx σ n0 bf).1 8148) 207 = .ok (.putfield 953, 3) := zd zm_8148 (by decide +kernel)
theorem d_8148_210 {σ : Nat → Nat} {n0 : Nat} {bf : ab_B} : decode (ab_code (zx σ n0 bf).1 8148) 210 = .ok (.aload_n 0, 1) := zd zm_8148 (by decide +kernel)
theorem d_8148_211 {σ : Nat → Nat} {n0 : Nat} {bf : ab_B} : decode (ab_code (zx σ n0 bf).1 8148) 211 = .ok (.invokevirtual 538, 3) := zd zm_8148 (by decide +kernel)
theorem d_8148_214 {σ : Nat → Nat} {n0 : Nat} {bf : ab_B} : decode (ab_code (zx σ n0 bf).1 8148) 214 = .ok (.aload_n 0, 1) := zd zm_8148 (by decide +kernel)
theorem d_8148_215 {σ : Nat → Nat} {n0 : Nat} {bf : ab_B} : decode (ab_code (zx σ n0 bf).1 8148) 215 = .ok (.bipush 12, 2) := zd zm_8148 (by decide +kernel)
theorem d_8148_217 {σ : Nat → Nat} {n0 : Nat} {bf : ab_B} : decode (ab_code (zx σ n0 bf).1 8148) 217 = .ok (.invokevirtual 535, 3) := zd zm_8148 (by decide +kernel)
theorem d_8148_220 {σ : Nat → Nat} {n0 : Nat} {bf : ab_B} : decode (ab_code (zx σ n0 bf).1 8148) 220 = .ok (.istore 5, 2) := zd zm_8148 (by decide +kernel)
theorem d_8148_222 {σ : Nat → Nat} {n0 : Nat} {bf : ab_B} : decode (ab_code (zx σ n0 bf).1 8148) 222 = .ok (.iload 5, 2) := zd zm_8148 (by decide +kernel)
theorem d_8148_224 {σ : Nat → Nat} {n0 : Nat} {bf : ab_B} : decode (ab_code (zx σ n0 bf).1 8148) 224 = .ok (.ifCond .eq (-165), 3) := zd zm_8148 (by decide +kernel)
theorem d_8148_227 {σ : Nat → Nat} {n0 : Nat} {bf : ab_B} : decode (ab_code (zx σ n0 bf).1 8148) 227 = .ok (.aload_n 0, 1) := zd zm_8148 (by decide +kernel)
theorem d_8148_228 {σ : Nat → Nat} {n0 : Nat} {bf : ab_B} : decode (ab_code (zx σ n0 bf).1 8148) 228 = .ok (.invokevirtual 538, 3) := zd zm_8148 (by decide +kernel)
theorem d_8148_231 {σ : Nat → Nat} {n0 : Nat} {bf : ab_B} : decode (ab_code (zx σ n0 bf).1 8148) 231 = .ok (.goto (-172), 3) := zd zm_8148 (by decide +kernel)
theorem d_8148_234 {σ : Nat → Nat} {n0 : Nat} {bf : ab_B} : decode (ab_code (zx σ n0 bf).1 8148) 234 = .ok (.aload_n 0, 1) := zd zm_8148 (by decide +kernel)
theorem d_8148_235 {σ : Nat → Nat} {n0 : Nat} {bf : ab_B} : decode (ab_code (zx σ n0 bf).1 8148) 235 = .ok (.bipush 14, 2) := zd zm_8148 (by decide +kernel)
theorem d_8148_237 {σ : Nat → Nat} {n0 : Nat} {bf : ab_B} : decode (ab_code (zx σ n0 bf).1 8148) 237 = .ok (.invokevirtual 746, 3) := zd zm_8148 (by decide +kernel)
theorem d_8148_240 {σ : Nat → Nat} {n0 : Nat} {bf : ab_B} : decode (ab_code (zx σ n0 bf).1 8148) 240 = .ok (.aload_n 0, 1) := zd zm_8148 (by decide +kernel)
theorem d_8148_241 {σ : Nat → Nat} {n0 : Nat} {bf : ab_B} : decode (ab_code (zx σ n0 bf).1 8148) 241 = .ok (.iconst 1, 1) := zd zm_8148 (by decide +kernel)
theorem d_8148_242 {σ : Nat → Nat} {n0 : Nat} {bf : ab_B} : decode (ab_code (zx σ n0 bf).1 8148) 242 = .ok (.invokevirtual 905, 3) := zd zm_8148 (by decide +kernel)
theorem d_8148_245 {σ : Nat → Nat} {n0 : Nat} {bf : ab_B} : decode (ab_code (zx σ n0 bf).1 8148) 245 = .ok (.istore 6, 2) := zd zm_8148 (by decide +kernel)
theorem d_8148_247 {σ : Nat → Nat} {n0 : Nat} {bf : ab_B} : decode (ab_code (zx σ n0 bf).1 8148) 247 = .ok (.iload 4, 2) := zd zm_8148 (by decide +kernel)
theorem d_8148_249 {σ : Nat → Nat} {n0 : Nat} {bf : ab_B} : decode (ab_code (zx σ n0 bf).1 8148) 249 = .ok (.istore 7, 2) := zd zm_8148 (by decide +kernel)
theorem d_8148_251 {σ : Nat → Nat} {n0 : Nat} {bf : ab_B} : decode (ab_code (zx σ n0 bf).1 8148) 251 = .ok (.iload 7, 2) := zd zm_8148 (by decide +kernel)
theorem d_8148_253 {σ : Nat → Nat} {n0 : Nat} {bf : ab_B} : decode (ab_code (zx σ n0 bf).1 8148) 253 = .ok (.aload_n 0, 1) := zd zm_8148 (by decide +kernel)
theorem d_8148_254 {σ : Nat → Nat} {n0 : Nat} {bf : ab_B} : decode (ab_code (zx σ n0 bf).1 8148) 254 = .ok (.getfield 224, 3) := zd zm_8148 (by decide +kernel)
theorem d_8148_257 {σ : Nat → Nat} {n0 : Nat} {bf : ab_B} : decode (ab_code (zx σ n0 bf).1 8148) 257 = .ok (.iload_n 1, 1) := zd zm_8148 (by decide +kernel)
theorem d_8148_258 {σ : Nat → Nat} {n0 : Nat} {bf : ab_B} : decode (ab_code (zx σ n0 bf).1 8148) 258 = .ok (.iaload, 1) := zd zm_8148 (by decide +kernel)
theorem d_8148_259 {σ : Nat → Nat} {n0 : Nat} {bf : ab_B} : decode (ab_code (zx σ n0 bf).1 8148) 259 = .ok (.if_icmp .ge 25, 3) := zd zm_8148 (by decide +kernel)
theorem d_8148_262 {σ : Nat → Nat} {n0 : Nat} {bf : ab_B} : decode (ab_code (zx σ n0 bf).1 8148) 262 = .ok (.aload_n 0, 1) := zd zm_8148 (by decide +kernel)
theorem d_8148_263 {σ : Nat → Nat} {n0 : Nat} {bf : ab_B} : decode (ab_code (zx σ n0 bf).1 8148) 263 = .ok (.getfield 239, 3) := zd zm_8148 (by decide +kernel)
theorem d_8148_266 {σ : Nat → Nat} {n0 : Nat} {bf : ab_B} : decode (ab_code (zx σ n0 bf).1 8148) 266 = .ok (.aload_n 0, 1) := zd zm_8148 (by decide +kernel)
theorem d_8148_267 {σ : Nat → Nat} {n0 : Nat} {bf : ab_B} : decode (ab_code (zx σ n0 bf).1 8148) 267 = .ok (.getfield 227, 3) := zd zm_8148 (by decide +kernel)
theorem d_8148_270 {σ : Nat → Nat} {n0 : Nat} {bf : ab_B} : decode (ab_code (zx σ n0 bf).1 8148) 270 = .ok (.iload_n 1, 1) := zd zm_8148 (by decide +kernel)
theorem d_8148_271 {σ : Nat → Nat} {n0 : Nat} {bf : ab_B} : decode (ab_code (zx σ n0 bf).1 8148) 271 = .ok (.iaload, 1) := zd zm_8148 (by decide +kernel)
theorem d_8148_272 {σ : Nat → Nat} {n0 : Nat} {bf : ab_B} : decode (ab_code (zx σ n0 bf).1 8148) 272 = .ok (.iload 7, 2) := zd zm_8148 (by decide +kernel)
theorem d_8148_274 {σ : Nat → Nat} {n0 : Nat} {bf : ab_B} : decode (ab_code (zx σ n0 bf).1 8148) 274 = .ok (.iadd, 1) := zd zm_8148 (by decide +kernel)
theorem d_8148_275 {σ : Nat → Nat} {n0 : Nat} {bf : ab_B} : decode (ab_code (zx σ n0 bf).1 8148) 275 = .ok (.iload 6, 2) := zd zm_8148 (by decide +kernel)
theorem d_8148_277 {σ : Nat → Nat} {n0 : Nat} {bf : ab_B} : decode (ab_code (zx σ n0 bf).1 8148) 277 = .ok (.iastore, 1) := zd zm_8148 (by decide +kernel)
theorem d_8148_278 {σ : Nat → Nat} {n0 : Nat} {bf : ab_B} : decode (ab_code (zx σ n0 bf).1 8148) 278 = .ok (.iinc 7 1, 3) := zd zm_8148 (by decide +kernel)
theorem d_8148_281 {σ : Nat → Nat} {n0 : Nat} {bf : ab_B} : decode (ab_code (zx σ n0 bf).1 8148) 281 = .ok (.goto (-30), 3) := zd zm_8148 (by decide +kernel)
theorem d_8148_284 {σ : Nat → Nat} {n0 : Nat} {bf : ab_B} : decode (ab_code (zx σ n0 bf).1 8148) 284 = .ok (.aload_n 0, 1) := zd zm_8148 (by decide +kernel)
theorem d_8148_285 {σ : Nat → Nat} {n0 : Nat} {bf : ab_B} : decode (ab_code (zx σ n0 bf).1 8148) 285 = .ok (.bipush 13, 2) := zd zm_8148 (by decide +kernel)
theorem d_8148_287 {σ : Nat → Nat} {n0 : Nat} {bf : ab_B} : decode (ab_code (zx σ n0 bf).1 8148) 287 = .ok (.invokevirtual 535, 3) := zd zm_8148 (by decide +kernel)
theorem d_8148_290 {σ : Nat → Nat} {n0 : Nat} {bf : ab_B} : decode (ab_code (zx σ n0 bf).1 8148) 290 = .ok (.istore_n 2, 1) := zd zm_8148 (by decide +kernel)
theorem d_8148_291 {σ : Nat → Nat} {n0 : Nat} {bf : ab_B} : decode (ab_code (zx σ n0 bf).1 8148) 291 = .ok (.iload_n 2, 1) := zd zm_8148 (by decide +kernel)
theorem d_8148_292 {σ : Nat → Nat} {n0 : Nat} {bf : ab_B} : decode (ab_code (zx σ n0 bf).1 8148) 292 = .ok (.ifCond .eq 7, 3) := zd zm_8148 (by decide +kernel)
theorem d_8148_295 {σ : Nat → Nat} {n0 : Nat} {bf : ab_B} : decode (ab_code (zx σ n0 bf).1 8148) 295 = .ok (.aload_n 0, 1) := zd zm_8148 (by decide +kernel)
theorem d_8148_296 {σ : Nat → Nat} {n0 : Nat} {bf : ab_B} : decode (ab_code (zx σ n0 bf).1 8148) 296 = .ok (.invokevirtual 538, 3) := zd zm_8148 (by decide +kernel)
theorem d_8148_299 {σ : Nat → Nat} {n0 : Nat} {bf : ab_B} : decode (ab_code (zx σ n0 bf).1 8148) 299 = .ok (.goto (-297), 3) := zd zm_8148 (by decide +kernel)
theorem d_8148_302 {σ : Nat → Nat} {n0 : Nat} {bf : ab_B} : decode (ab_code (zx σ n0 bf).1 8148) 302 = .ok (.return_, 1) := zd zm_8148 (by decide +kernel)
def w_X9_params_48 (X : zs_X) (d : Nat) (p0 : Nat) (p1 : Int32) (p3 : Int32) (S : zs_T) (Q : zs_Q) : Prop :=
  (zs_K S p0 = some (.inl 8) ∧ ∃ b2, (zs_R S 8103 p0) = some b2 ∧ zs_A S b2 0 p1 ∧ zs_U X d 8148 59 [(0, .ref p0), (1, .int p1), (3, .int p3), (4, .int (zs_i S b2 p1.toNatClampNeg)), (5, .int (1 : Int32))] [] S Q)
theorem u_X9_params_48 {σ : Nat → Nat} {n0 : Nat} {bf : ab_B} {d : Nat} {p0 : Nat} {p1 : Int32} {p3 : Int32} {S : zs_T} {Q : zs_Q} (hB : zt_B bf) (h : w_X9_params_48 (zx σ n0 bf) d p0 p1 p3 S Q) : zs_U (zx σ n0 bf) d 8148 48 [(0, .ref p0), (1, .int p1), (3, .int p3)] [] S Q := by
  unfold w_X9_params_48 at h
  refine zu_aload_n d_8148_48 rfl (zs_ra _) ?_
  obtain ⟨k1, h⟩ := h
  refine zg_8_224 rfl d_8148_49 k1 ?_
  refine zu_iload_n d_8148_52 rfl ?_
  obtain ⟨b2, e3, h⟩ := h
  refine zs_stk1 (zs_rfe e3) ?_
  obtain ⟨k4, h⟩ := h
  refine zu_iald (k := 0) d_8148_53 rfl rfl k4 ?_
  refine zu_istore d_8148_54 (zs_lt zq_8148 rfl) ?_
  refine zu_iconst d_8148_56 zi_1 ?_
  refine zu_istore d_8148_57 (zs_lt zq_8148 rfl) ?_
  exact h.weak ⟨rfl, rfl, rfl, rfl, rfl, trivial⟩
def w_X9_params_39 (X : zs_X) (d : Nat) (p0 : Nat) (p1 : Int32) (q0 : Int32) (S : zs_T) (Q : zs_Q) : Prop :=
  (((q0 = 0 → w_X9_params_48 X d p0 p1 q0 S Q) ∧ (¬ (q0 = 0) → (zs_K S p0 = some (.inl 8) ∧ zs_C X d 8014 [.ref p0] S (zs_kV (fun S3 => w_X9_params_48 X d p0 p1 q0 S3 Q) Q)))))
theorem u_X9_params_39 {σ : Nat → Nat} {n0 : Nat} {bf : ab_B} {d : Nat} {p0 : Nat} {p1 : Int32} {q0 : Int32} {S : zs_T} {Q : zs_Q} (hB : zt_B bf) (h : w_X9_params_39 (zx σ n0 bf) d p0 p1 q0 S Q) : zs_U (zx σ n0 bf) d 8148 39 [(0, .ref p0), (1, .int p1)] [.int q0] S Q := by
  unfold w_X9_params_39 at h
  refine zu_istore_n d_8148_39 (zs_lt zq_8148 rfl) ?_
  refine zu_iload_n d_8148_40 rfl ?_
  refine zu_ifeq (t := 48) d_8148_41 rfl (fun c1 => ?_) (fun c1 => ?_)
  · have h := h.1 c1
    exact (u_X9_params_48 hB h).weak ⟨rfl, rfl, rfl, trivial⟩
  · have h := h.2 c1
    refine zu_aload_n d_8148_44 rfl (zs_ra _) ?_
    obtain ⟨k2, h⟩ := h
    refine zc_8_538  hB rfl k2 d_8148_45 (Nat.le_of_ble_eq_true rfl) h (fun S3 h => ?_)
    exact (u_X9_params_48 hB h).weak ⟨rfl, rfl, rfl, trivial⟩
def w_X9_params_2 (X : zs_X) (d : Nat) (p0 : Nat) (p1 : Int32) (p2 : Int32) (S : zs_T) (Q : zs_Q) : Prop :=
  (zs_K S p0 = some (.inl 8) ∧ ((¬ (zs_I S 8010 p0) = 0 → (Q (.returned none) S)) ∧ (¬ (¬ (zs_I S 8010 p0) = 0) → (((p2 = 0 → (Q (.returned none) S)) ∧ (¬ (p2 = 0) → (zs_C X d 8026 [.ref p0, .int (4 : Int32)] S (zs_kI (fun v5 S4 => (((v5 = 0 → (zs_K S4 p0 = some (.inl 8) ∧ zs_C X d 8026 [.ref p0, .int (35 : Int32)] S4 (zs_kI (fun v9 S8 => (((v9 = 0 → (w_X9_params_39 X d p0 p1 (0 : Int32) S8 Q)) ∧ (¬ (v9 = 0) → (w_X9_params_39 X d p0 p1 (2 : Int32) S8 Q))))) Q))) ∧ (¬ (v5 = 0) → (w_X9_params_39 X d p0 p1 (1 : Int32) S4 Q))))) Q))))))))
theorem u_X9_params_2 {σ : Nat → Nat} {n0 : Nat} {bf : ab_B} {d : Nat} {p0 : Nat} {p1 : Int32} {p2 : Int32} {S : zs_T} {Q : zs_Q} (hB : zt_B bf) (h : w_X9_params_2 (zx σ n0 bf) d p0 p1 p2 S Q) : zs_U (zx σ n0 bf) d 8148 2 [(0, .ref p0), (1, .int p1), (2, .int p2)] [] S Q := by
  unfold w_X9_params_2 at h
  refine zu_aload_n d_8148_2 rfl (zs_ra _) ?_
  obtain ⟨k1, h⟩ := h
  refine zg_8_444 rfl d_8148_3 k1 ?_
  refine zu_ifne (t := 302) d_8148_6 rfl (fun c2 => ?_) (fun c2 => ?_)
  · have h := h.1 c2
    exact zu_vret d_8148_302 zr_8148 h
  · have h := h.2 c2
    refine zu_iload_n d_8148_9 rfl ?_
    refine zu_ifeq (t := 302) d_8148_10 rfl (fun c3 => ?_) (fun c3 => ?_)
    · have h := h.1 c3
      exact zu_vret d_8148_302 zr_8148 h
    · have h := h.2 c3
      refine zu_aload_n d_8148_13 rfl (zs_ra _) ?_
      refine zu_iconst d_8148_14 zi_4 ?_
      refine zc_8_544 (x0 := (4 : Int32)) hB rfl k1 d_8148_15 (Nat.le_of_ble_eq_true rfl) h (fun v5 S4 h => ?_)
      refine zu_ifeq (t := 25) d_8148_18 rfl (fun c6 => ?_) (fun c6 => ?_)
      · have h := h.1 c6
        refine zu_aload_n d_8148_25 rfl (zs_ra _) ?_
        refine zu_bipush d_8148_26 zj_35 ?_
        obtain ⟨k7, h⟩ := h
        refine zc_8_544 (x0 := (35 : Int32)) hB rfl k7 d_8148_28 (Nat.le_of_ble_eq_true rfl) h (fun v9 S8 h => ?_)
        refine zu_ifeq (t := 38) d_8148_31 rfl (fun c10 => ?_) (fun c10 => ?_)
        · have h := h.1 c10
          refine zu_iconst d_8148_38 zi_0 ?_
          exact (u_X9_params_39 hB h).weak ⟨rfl, rfl, trivial⟩
        · have h := h.2 c10
          refine zu_iconst d_8148_34 zi_2 ?_
          refine zu_goto (t := 39) d_8148_35 rfl ?_
          exact (u_X9_params_39 hB h).weak ⟨rfl, rfl, trivial⟩
      · have h := h.2 c6
        refine zu_iconst d_8148_21 zi_1 ?_
        refine zu_goto (t := 39) d_8148_22 rfl ?_
        exact (u_X9_params_39 hB h).weak ⟨rfl, rfl, trivial⟩
def w_X9_params_234 (X : zs_X) (d : Nat) (p0 : Nat) (p1 : Int32) (p4 : Int32) (S : zs_T) (Q : zs_Q) : Prop :=
  (zs_K S p0 = some (.inl 8) ∧ zs_C X d 8028 [.ref p0, .int (14 : Int32)] S (zs_kV (fun S2 => (zs_K S2 p0 = some (.inl 8) ∧ zs_C X d 8133 [.ref p0, .int (1 : Int32)] S2 (zs_kI (fun v6 S5 => (zs_U X d 8148 251 [(0, .ref p0), (1, .int p1), (6, .int v6), (7, .int p4)] [] S5 Q)) Q))) Q))
theorem u_X9_params_234 {σ : Nat → Nat} {n0 : Nat} {bf : ab_B} {d : Nat} {p0 : Nat} {p1 : Int32} {p4 : Int32} {S : zs_T} {Q : zs_Q} (hB : zt_B bf) (h : w_X9_params_234 (zx σ n0 bf) d p0 p1 p4 S Q) : zs_U (zx σ n0 bf) d 8148 234 [(0, .ref p0), (1, .int p1), (4, .int p4)] [] S Q := by
  unfold w_X9_params_234 at h
  refine zu_aload_n d_8148_234 rfl (zs_ra _) ?_
  refine zu_bipush d_8148_235 zj_14 ?_
  obtain ⟨k1, h⟩ := h
  refine zc_8_746 (x0 := (14 : Int32)) hB rfl k1 d_8148_237 (Nat.le_of_ble_eq_true rfl) h (fun S2 h => ?_)
  refine zu_aload_n d_8148_240 rfl (zs_ra _) ?_
  refine zu_iconst d_8148_241 zi_1 ?_
  obtain ⟨k4, h⟩ := h
  refine zc_8_905 (x0 := (1 : Int32)) hB rfl k4 d_8148_242 (Nat.le_of_ble_eq_true rfl) h (fun v6 S5 h => ?_)
  refine zu_istore d_8148_245 (zs_lt zq_8148 rfl) ?_
  refine zu_iload d_8148_247 rfl ?_
  refine zu_istore d_8148_249 (zs_lt zq_8148 rfl) ?_
  exact h.weak ⟨rfl, rfl, rfl, rfl, trivial⟩
def w_X9_params_102 (X : zs_X) (d : Nat) (p0 : Nat) (p1 : Int32) (p3 : Int32) (p4 : Int32) (S : zs_T) (Q : zs_Q) : Prop :=
  (zs_U X d 8148 105 [(0, .ref p0), (1, .int p1), (3, .int p3), (4, .int p4), (6, .int (0 : Int32))] [] S Q)
theorem u_X9_params_102 {σ : Nat → Nat} {n0 : Nat} {bf : ab_B} {d : Nat} {p0 : Nat} {p1 : Int32} {p3 : Int32} {p4 : Int32} {S : zs_T} {Q : zs_Q} (hB : zt_B bf) (h : w_X9_params_102 (zx σ n0 bf) d p0 p1 p3 p4 S Q) : zs_U (zx σ n0 bf) d 8148 102 [(0, .ref p0), (1, .int p1), (3, .int p3), (4, .int p4)] [] S Q := by
  unfold w_X9_params_102 at h
  refine zu_iconst d_8148_102 zi_0 ?_
  refine zu_istore d_8148_103 (zs_lt zq_8148 rfl) ?_
  exact h.weak ⟨rfl, rfl, rfl, rfl, rfl, trivial⟩
def w_X9_params_59 (X : zs_X) (d : Nat) (p0 : Nat) (p1 : Int32) (p3 : Int32) (p4 : Int32) (p5 : Int32) (S : zs_T) (Q : zs_Q) : Prop :=
  (zs_K S p0 = some (.inl 8) ∧ ((¬ (zs_I S 8010 p0) = 0 → w_X9_params_234 X d p0 p1 p4 S Q) ∧ (¬ (¬ (zs_I S 8010 p0) = 0) → (((p5 = 0 → w_X9_params_234 X d p0 p1 p4 S Q) ∧ (¬ (p5 = 0) → ((((zs_I S 8006 p0) = (1 : Int32) → (∃ b5, (zs_R S 8103 p0) = some b5 ∧ zs_A S b5 0 p1 ∧ ((¬ (zs_i S b5 p1.toNatClampNeg) = (10 : Int32) → w_X9_params_102 X d p0 p1 p3 p4 S Q) ∧ (¬ (¬ (zs_i S b5 p1.toNatClampNeg) = (10 : Int32)) → (zs_C X d 8027 [.ref p0, .int (8 : Int32)] S (zs_kV (fun S9 => w_X9_params_102 X d p0 p1 p3 p4 S9 Q) Q)))))) ∧ (¬ ((zs_I S 8006 p0) = (1 : Int32)) → (zs_C X d 8027 [.ref p0, .int (2 : Int32)] S (zs_kV (fun S11 => (Q (.returned none) S11)) Q)))))))))))
theorem u_X9_params_59 {σ : Nat → Nat} {n0 : Nat} {bf : ab_B} {d : Nat} {p0 : Nat} {p1 : Int32} {p3 : Int32} {p4 : Int32} {p5 : Int32} {S : zs_T} {Q : zs_Q} (hB : zt_B bf) (h : w_X9_params_59 (zx σ n0 bf) d p0 p1 p3 p4 p5 S Q) : zs_U (zx σ n0 bf) d 8148 59 [(0, .ref p0), (1, .int p1), (3, .int p3), (4, .int p4), (5, .int p5)] [] S Q := by
  unfold w_X9_params_59 at h
  refine zu_aload_n d_8148_59 rfl (zs_ra _) ?_
  obtain ⟨k1, h⟩ := h
  refine zg_8_444 rfl d_8148_60 k1 ?_
  refine zu_ifne (t := 234) d_8148_63 rfl (fun c2 => ?_) (fun c2 => ?_)
  · have h := h.1 c2
    exact (u_X9_params_234 hB h).weak ⟨rfl, rfl, rfl, trivial⟩
  · have h := h.2 c2
    refine zu_iload d_8148_66 rfl ?_
    refine zu_ifeq (t := 234) d_8148_68 rfl (fun c3 => ?_) (fun c3 => ?_)
    · have h := h.1 c3
      exact (u_X9_params_234 hB h).weak ⟨rfl, rfl, rfl, trivial⟩
    · have h := h.2 c3
      refine zu_aload_n d_8148_71 rfl (zs_ra _) ?_
      refine zg_8_484 rfl d_8148_72 k1 ?_
      refine zu_iconst d_8148_75 zi_1 ?_
      refine zu_cmpeq (t := 85) d_8148_76 rfl (fun c4 => ?_) (fun c4 => ?_)
      · have h := h.1 c4
        refine zu_aload_n d_8148_85 rfl (zs_ra _) ?_
        refine zg_8_224 rfl d_8148_86 k1 ?_
        refine zu_iload_n d_8148_89 rfl ?_
        obtain ⟨b5, e6, h⟩ := h
        refine zs_stk1 (zs_rfe e6) ?_
        obtain ⟨k7, h⟩ := h
        refine zu_iald (k := 0) d_8148_90 rfl rfl k7 ?_
        refine zu_bipush d_8148_91 zj_10 ?_
        refine zu_cmpne (t := 102) d_8148_93 rfl (fun c8 => ?_) (fun c8 => ?_)
        · have h := h.1 c8
          exact (u_X9_params_102 hB h).weak ⟨rfl, rfl, rfl, rfl, trivial⟩
        · have h := h.2 c8
          refine zu_aload_n d_8148_96 rfl (zs_ra _) ?_
          refine zu_bipush d_8148_97 zj_8 ?_
          refine zc_8_541 (x0 := (8 : Int32)) hB rfl k1 d_8148_99 (Nat.le_of_ble_eq_true rfl) h (fun S9 h => ?_)
          exact (u_X9_params_102 hB h).weak ⟨rfl, rfl, rfl, rfl, trivial⟩
      · have h := h.2 c4
        refine zu_aload_n d_8148_79 rfl (zs_ra _) ?_
        refine zu_iconst d_8148_80 zi_2 ?_
        refine zc_8_541 (x0 := (2 : Int32)) hB rfl k1 d_8148_81 (Nat.le_of_ble_eq_true rfl) h (fun S11 h => ?_)
        exact zu_vret d_8148_84 zr_8148 h
def w_X9_params_231 (X : zs_X) (d : Nat) (p0 : Nat) (p1 : Int32) (p3 : Int32) (p4 : Int32) (p5 : Int32) (S : zs_T) (Q : zs_Q) : Prop :=
  (zs_U X d 8148 59 [(0, .ref p0), (1, .int p1), (3, .int p3), (4, .int p4), (5, .int p5)] [] S Q)
theorem u_X9_params_231 {σ : Nat → Nat} {n0 : Nat} {bf : ab_B} {d : Nat} {p0 : Nat} {p1 : Int32} {p3 : Int32} {p4 : Int32} {p5 : Int32} {S : zs_T} {Q : zs_Q} (hB : zt_B bf) (h : w_X9_params_231 (zx σ n0 bf) d p0 p1 p3 p4 p5 S Q) : zs_U (zx σ n0 bf) d 8148 231 [(0, .ref p0), (1, .int p1), (3, .int p3), (4, .int p4), (5, .int p5)] [] S Q := by
  unfold w_X9_params_231 at h
  refine zu_goto (t := 59) d_8148_231 rfl ?_
  exact h.weak ⟨rfl, rfl, rfl, rfl, rfl, trivial⟩
def w_X9_params_200 (X : zs_X) (d : Nat) (p0 : Nat) (p1 : Int32) (p3 : Int32) (p4 : Int32) (S : zs_T) (Q : zs_Q) : Prop :=
  (zs_K S p0 = some (.inl 8) ∧ ab_n0 X.1 ≤ p0 ∧ ∀ S3, S3 = zs_sI S 8112 p0 ((zs_I S 8112 p0) + (1 : Int32)) → zs_C X d 8014 [.ref p0] S3 (zs_kV (fun S6 => (zs_K S6 p0 = some (.inl 8) ∧ zs_C X d 8029 [.ref p0, .int (12 : Int32)] S6 (zs_kI (fun v10 S9 => (((v10 = 0 → zs_U X d 8148 59 [(0, .ref p0), (1, .int p1), (3, .int p3), (4, .int p4), (5, .int v10)] [] S9 Q) ∧ (¬ (v10 = 0) → (zs_K S9 p0 = some (.inl 8) ∧ zs_C X d 8014 [.ref p0] S9 (zs_kV (fun S13 => w_X9_params_231 X d p0 p1 p3 p4 v10 S13 Q) Q)))))) Q))) Q))
theorem u_X9_params_200 {σ : Nat → Nat} {n0 : Nat} {bf : ab_B} {d : Nat} {p0 : Nat} {p1 : Int32} {p3 : Int32} {p4 : Int32} {S : zs_T} {Q : zs_Q} (hB : zt_B bf) (h : w_X9_params_200 (zx σ n0 bf) d p0 p1 p3 p4 S Q) : zs_U (zx σ n0 bf) d 8148 200 [(0, .ref p0), (1, .int p1), (3, .int p3), (4, .int p4)] [] S Q := by
  unfold w_X9_params_200 at h
  refine zu_aload_n d_8148_200 rfl (zs_ra _) ?_
  refine zu_dup d_8148_201 rfl ?_
  obtain ⟨k1, h⟩ := h
  refine zg_8_953 rfl d_8148_202 k1 ?_
  refine zu_iconst d_8148_205 zi_1 ?_
  refine zu_stk d_8148_206 rfl rfl ?_
  obtain ⟨k2, h⟩ := h
  refine zp_8_953 (v := ((zs_I S 8112 p0) + (1 : Int32))) rfl d_8148_207 k1 k2 ?_
  generalize e4 : zs_sI S 8112 p0 ((zs_I S 8112 p0) + (1 : Int32)) = S3
  have h := h S3 e4.symm
  have K5 : ∀ b, zs_K S3 b = zs_K S b := zs_Kt e4 (zs_KsI _ _ _ _) (fun _ => rfl)
  refine zu_aload_n d_8148_210 rfl (zs_ra _) ?_
  refine zc_8_538  hB rfl ((K5 _).trans k1) d_8148_211 (Nat.le_of_ble_eq_true rfl) h (fun S6 h => ?_)
  refine zu_aload_n d_8148_214 rfl (zs_ra _) ?_
  refine zu_bipush d_8148_215 zj_12 ?_
  obtain ⟨k8, h⟩ := h
  refine zc_8_535 (x0 := (12 : Int32)) hB rfl k8 d_8148_217 (Nat.le_of_ble_eq_true rfl) h (fun v10 S9 h => ?_)
  refine zu_istore d_8148_220 (zs_lt zq_8148 rfl) ?_
  refine zu_iload d_8148_222 rfl ?_
  refine zu_ifeq (t := 59) d_8148_224 rfl (fun c11 => ?_) (fun c11 => ?_)
  · have h := h.1 c11
    exact h.weak ⟨rfl, rfl, rfl, rfl, rfl, trivial⟩
  · have h := h.2 c11
    refine zu_aload_n d_8148_227 rfl (zs_ra _) ?_
    obtain ⟨k12, h⟩ := h
    refine zc_8_538  hB rfl k12 d_8148_228 (Nat.le_of_ble_eq_true rfl) h (fun S13 h => ?_)
    exact (u_X9_params_231 hB h).weak ⟨rfl, rfl, rfl, rfl, rfl, trivial⟩
def w_X9_params_170 (X : zs_X) (d : Nat) (p0 : Nat) (p1 : Int32) (p3 : Int32) (p4 : Int32) (S : zs_T) (Q : zs_Q) : Prop :=
  (zs_K S p0 = some (.inl 8) ∧ ∃ b2, (zs_R S 8104 p0) = some b2 ∧ zs_A S b2 0 p1 ∧ ∃ b5, (zs_R S 8103 p0) = some b5 ∧ zs_A S b5 0 p1 ∧ ∃ b8, (zs_R S 8110 p0) = some b8 ∧ zs_A S b8 1 ((zs_i S b2 p1.toNatClampNeg) + (zs_i S b5 p1.toNatClampNeg)) ∧ ab_n0 X.1 ≤ b8 ∧ ∀ S12, S12 = zs_si S b8 ((zs_i S b2 p1.toNatClampNeg) + (zs_i S b5 p1.toNatClampNeg)).toNatClampNeg (vp_nar .byte ((p3).toInt8.toInt32)) → ∃ b15, (zs_R S12 8103 p0) = some b15 ∧ zs_A S b15 0 p1 ∧ ab_n0 X.1 ≤ b15 ∧ ∀ S19, S19 = zs_si S12 b15 p1.toNatClampNeg ((zs_i S12 b15 p1.toNatClampNeg) + (1 : Int32)) → w_X9_params_200 X d p0 p1 p3 p4 S19 Q)
theorem u_X9_params_170 {σ : Nat → Nat} {n0 : Nat} {bf : ab_B} {d : Nat} {p0 : Nat} {p1 : Int32} {p3 : Int32} {p4 : Int32} {S : zs_T} {Q : zs_Q} (hB : zt_B bf) (h : w_X9_params_170 (zx σ n0 bf) d p0 p1 p3 p4 S Q) : zs_U (zx σ n0 bf) d 8148 170 [(0, .ref p0), (1, .int p1), (3, .int p3), (4, .int p4)] [] S Q := by
  unfold w_X9_params_170 at h
  refine zu_aload_n d_8148_170 rfl (zs_ra _) ?_
  obtain ⟨k1, h⟩ := h
  refine zg_8_242 rfl d_8148_171 k1 ?_
  refine zu_aload_n d_8148_174 rfl (zs_ra _) ?_
  refine zg_8_227 rfl d_8148_175 k1 ?_
  refine zu_iload_n d_8148_178 rfl ?_
  obtain ⟨b2, e3, h⟩ := h
  refine zs_stk1 (zs_rfe e3) ?_
  obtain ⟨k4, h⟩ := h
  refine zu_iald (k := 0) d_8148_179 rfl rfl k4 ?_
  refine zu_aload_n d_8148_180 rfl (zs_ra _) ?_
  refine zg_8_224 rfl d_8148_181 k1 ?_
  refine zu_iload_n d_8148_184 rfl ?_
  obtain ⟨b5, e6, h⟩ := h
  refine zs_stk1 (zs_rfe e6) ?_
  obtain ⟨k7, h⟩ := h
  refine zu_iald (k := 0) d_8148_185 rfl rfl k7 ?_
  refine zu_stk d_8148_186 rfl rfl ?_
  refine zu_iload_n d_8148_187 rfl ?_
  refine zu_stk d_8148_188 rfl rfl ?_
  obtain ⟨b8, e9, h⟩ := h
  refine zs_stk2 (zs_rfe e9) ?_
  obtain ⟨k10, h⟩ := h
  obtain ⟨k11, h⟩ := h
  refine zu_bast_byte (k := 1) d_8148_189 rfl rfl k11 k10 ?_
  generalize e13 : zs_si S b8 ((zs_i S b2 p1.toNatClampNeg) + (zs_i S b5 p1.toNatClampNeg)).toNatClampNeg (vp_nar .byte ((p3).toInt8.toInt32)) = S12
  have h := h S12 e13.symm
  have K14 : ∀ b, zs_K S12 b = zs_K S b := zs_Kt e13 (zs_Ksi _ _ _ _) (fun _ => rfl)
  refine zu_aload_n d_8148_190 rfl (zs_ra _) ?_
  refine zg_8_224 rfl d_8148_191 ((K14 _).trans k1) ?_
  refine zu_iload_n d_8148_194 rfl ?_
  refine zu_dup2 d_8148_195 rfl (zs_cat _) ?_
  obtain ⟨b15, e16, h⟩ := h
  refine zs_stk1 (zs_rfe e16) ?_
  obtain ⟨k17, h⟩ := h
  refine zu_iald (k := 0) d_8148_196 rfl rfl (zs_Ak K14 k17) ?_
  refine zu_iconst d_8148_197 zi_1 ?_
  refine zu_stk d_8148_198 rfl rfl ?_
  refine zs_stk2 (zs_rfe e16) ?_
  obtain ⟨k18, h⟩ := h
  refine zu_iast (k := 0) d_8148_199 rfl rfl k18 (zs_Ak K14 k17) ?_
  generalize e20 : zs_si S12 b15 p1.toNatClampNeg ((zs_i S12 b15 p1.toNatClampNeg) + (1 : Int32)) = S19
  have h := h S19 e20.symm
  have K21 : ∀ b, zs_K S19 b = zs_K S b := zs_Kt e20 (zs_Ksi _ _ _ _) K14
  exact (u_X9_params_200 hB h).weak ⟨rfl, rfl, rfl, rfl, trivial⟩
def w_X9_params_142 (X : zs_X) (d : Nat) (p0 : Nat) (p1 : Int32) (p3 : Int32) (p4 : Int32) (p6 : Int32) (S : zs_T) (Q : zs_Q) : Prop :=
  (zs_U X d 8148 105 [(0, .ref p0), (1, .int p1), (3, .int p3), (4, .int p4), (6, .int (p6 + (1 : Int32)))] [] S Q)
theorem u_X9_params_142 {σ : Nat → Nat} {n0 : Nat} {bf : ab_B} {d : Nat} {p0 : Nat} {p1 : Int32} {p3 : Int32} {p4 : Int32} {p6 : Int32} {S : zs_T} {Q : zs_Q} (hB : zt_B bf) (h : w_X9_params_142 (zx σ n0 bf) d p0 p1 p3 p4 p6 S Q) : zs_U (zx σ n0 bf) d 8148 142 [(0, .ref p0), (1, .int p1), (3, .int p3), (4, .int p4), (6, .int p6)] [] S Q := by
  unfold w_X9_params_142 at h
  refine zu_iinc d_8148_142 rfl zi_1 (zs_lt zq_8148 rfl) ?_
  refine zu_goto (t := 105) d_8148_145 rfl ?_
  exact h.weak ⟨rfl, rfl, rfl, rfl, rfl, trivial⟩
def w_X9_params_137 (X : zs_X) (d : Nat) (p0 : Nat) (p1 : Int32) (p3 : Int32) (p4 : Int32) (p6 : Int32) (S : zs_T) (Q : zs_Q) : Prop :=
  (zs_K S p0 = some (.inl 8) ∧ zs_C X d 8027 [.ref p0, .int (4 : Int32)] S (zs_kV (fun S2 => w_X9_params_142 X d p0 p1 p3 p4 p6 S2 Q) Q))
theorem u_X9_params_137 {σ : Nat → Nat} {n0 : Nat} {bf : ab_B} {d : Nat} {p0 : Nat} {p1 : Int32} {p3 : Int32} {p4 : Int32} {p6 : Int32} {S : zs_T} {Q : zs_Q} (hB : zt_B bf) (h : w_X9_params_137 (zx σ n0 bf) d p0 p1 p3 p4 p6 S Q) : zs_U (zx σ n0 bf) d 8148 137 [(0, .ref p0), (1, .int p1), (3, .int p3), (4, .int p4), (6, .int p6)] [] S Q := by
  unfold w_X9_params_137 at h
  refine zu_aload_n d_8148_137 rfl (zs_ra _) ?_
  refine zu_iconst d_8148_138 zi_4 ?_
  obtain ⟨k1, h⟩ := h
  refine zc_8_541 (x0 := (4 : Int32)) hB rfl k1 d_8148_139 (Nat.le_of_ble_eq_true rfl) h (fun S2 h => ?_)
  exact (u_X9_params_142 hB h).weak ⟨rfl, rfl, rfl, rfl, rfl, trivial⟩
def w_X9_params_105 (X : zs_X) (d : Nat) (p0 : Nat) (p1 : Int32) (p3 : Int32) (p4 : Int32) (p6 : Int32) (S : zs_T) (Q : zs_Q) : Prop :=
  (zs_K S p0 = some (.inl 8) ∧ ∃ b2, (zs_R S 8103 p0) = some b2 ∧ zs_A S b2 0 p1 ∧ (((zs_i S b2 p1.toNatClampNeg) ≤ p6 → (∃ b6, (zs_R S 8104 p0) = some b6 ∧ zs_A S b6 0 p1 ∧ ∃ b9, (zs_R S 8111 p0) = some b9 ∧ zs_A S b9 0 ((zs_i S b6 p1.toNatClampNeg) + (zs_i S b2 p1.toNatClampNeg)) ∧ ab_n0 X.1 ≤ b9 ∧ ∀ S13, S13 = zs_si S b9 ((zs_i S b6 p1.toNatClampNeg) + (zs_i S b2 p1.toNatClampNeg)).toNatClampNeg (zs_I S 8009 p0) → w_X9_params_170 X d p0 p1 p3 p4 S13 Q)) ∧ (¬ ((zs_i S b2 p1.toNatClampNeg) ≤ p6) → (∃ b16, (zs_R S 8104 p0) = some b16 ∧ zs_A S b16 0 p1 ∧ ∃ b19, (zs_R S 8111 p0) = some b19 ∧ zs_A S b19 0 ((zs_i S b16 p1.toNatClampNeg) + p6) ∧ ((¬ (zs_i S b19 ((zs_i S b16 p1.toNatClampNeg) + p6).toNatClampNeg) = (zs_I S 8009 p0) → w_X9_params_142 X d p0 p1 p3 p4 p6 S Q) ∧ (¬ (¬ (zs_i S b19 ((zs_i S b16 p1.toNatClampNeg) + p6).toNatClampNeg) = (zs_I S 8009 p0)) → w_X9_params_137 X d p0 p1 p3 p4 p6 S Q))))))
theorem u_X9_params_105 {σ : Nat → Nat} {n0 : Nat} {bf : ab_B} {d : Nat} {p0 : Nat} {p1 : Int32} {p3 : Int32} {p4 : Int32} {p6 : Int32} {S : zs_T} {Q : zs_Q} (hB : zt_B bf) (h : w_X9_params_105 (zx σ n0 bf) d p0 p1 p3 p4 p6 S Q) : zs_U (zx σ n0 bf) d 8148 105 [(0, .ref p0), (1, .int p1), (3, .int p3), (4, .int p4), (6, .int p6)] [] S Q := by
  unfold w_X9_params_105 at h
  refine zu_iload d_8148_105 rfl ?_
  refine zu_aload_n d_8148_107 rfl (zs_ra _) ?_
  obtain ⟨k1, h⟩ := h
  refine zg_8_224 rfl d_8148_108 k1 ?_
  refine zu_iload_n d_8148_111 rfl ?_
  obtain ⟨b2, e3, h⟩ := h
  refine zs_stk1 (zs_rfe e3) ?_
  obtain ⟨k4, h⟩ := h
  refine zu_iald (k := 0) d_8148_112 rfl rfl k4 ?_
  refine zu_cmpge (t := 148) d_8148_113 rfl (fun c5 => ?_) (fun c5 => ?_)
  · have h := h.1 c5
    refine zu_aload_n d_8148_148 rfl (zs_ra _) ?_
    refine zg_8_245 rfl d_8148_149 k1 ?_
    refine zu_aload_n d_8148_152 rfl (zs_ra _) ?_
    refine zg_8_227 rfl d_8148_153 k1 ?_
    refine zu_iload_n d_8148_156 rfl ?_
    obtain ⟨b6, e7, h⟩ := h
    refine zs_stk1 (zs_rfe e7) ?_
    obtain ⟨k8, h⟩ := h
    refine zu_iald (k := 0) d_8148_157 rfl rfl k8 ?_
    refine zu_aload_n d_8148_158 rfl (zs_ra _) ?_
    refine zg_8_224 rfl d_8148_159 k1 ?_
    refine zu_iload_n d_8148_162 rfl ?_
    refine zs_stk1 (zs_rfe e3) ?_
    refine zu_iald (k := 0) d_8148_163 rfl rfl k4 ?_
    refine zu_stk d_8148_164 rfl rfl ?_
    refine zu_aload_n d_8148_165 rfl (zs_ra _) ?_
    refine zg_8_494 rfl d_8148_166 k1 ?_
    obtain ⟨b9, e10, h⟩ := h
    refine zs_stk2 (zs_rfe e10) ?_
    obtain ⟨k11, h⟩ := h
    obtain ⟨k12, h⟩ := h
    refine zu_iast (k := 0) d_8148_169 rfl rfl k12 k11 ?_
    generalize e14 : zs_si S b9 ((zs_i S b6 p1.toNatClampNeg) + (zs_i S b2 p1.toNatClampNeg)).toNatClampNeg (zs_I S 8009 p0) = S13
    have h := h S13 e14.symm
    have K15 : ∀ b, zs_K S13 b = zs_K S b := zs_Kt e14 (zs_Ksi _ _ _ _) (fun _ => rfl)
    exact (u_X9_params_170 hB h).weak ⟨rfl, rfl, rfl, rfl, trivial⟩
  · have h := h.2 c5
    refine zu_aload_n d_8148_116 rfl (zs_ra _) ?_
    refine zg_8_245 rfl d_8148_117 k1 ?_
    refine zu_aload_n d_8148_120 rfl (zs_ra _) ?_
    refine zg_8_227 rfl d_8148_121 k1 ?_
    refine zu_iload_n d_8148_124 rfl ?_
    obtain ⟨b16, e17, h⟩ := h
    refine zs_stk1 (zs_rfe e17) ?_
    obtain ⟨k18, h⟩ := h
    refine zu_iald (k := 0) d_8148_125 rfl rfl k18 ?_
    refine zu_iload d_8148_126 rfl ?_
    refine zu_stk d_8148_128 rfl rfl ?_
    obtain ⟨b19, e20, h⟩ := h
    refine zs_stk1 (zs_rfe e20) ?_
    obtain ⟨k21, h⟩ := h
    refine zu_iald (k := 0) d_8148_129 rfl rfl k21 ?_
    refine zu_aload_n d_8148_130 rfl (zs_ra _) ?_
    refine zg_8_494 rfl d_8148_131 k1 ?_
    refine zu_cmpne (t := 142) d_8148_134 rfl (fun c22 => ?_) (fun c22 => ?_)
    · have h := h.1 c22
      exact (u_X9_params_142 hB h).weak ⟨rfl, rfl, rfl, rfl, rfl, trivial⟩
    · have h := h.2 c22
      exact (u_X9_params_137 hB h).weak ⟨rfl, rfl, rfl, rfl, rfl, trivial⟩
def w_X9_params_278 (X : zs_X) (d : Nat) (p0 : Nat) (p1 : Int32) (p6 : Int32) (p7 : Int32) (S : zs_T) (Q : zs_Q) : Prop :=
  (zs_U X d 8148 251 [(0, .ref p0), (1, .int p1), (6, .int p6), (7, .int (p7 + (1 : Int32)))] [] S Q)
theorem u_X9_params_278 {σ : Nat → Nat} {n0 : Nat} {bf : ab_B} {d : Nat} {p0 : Nat} {p1 : Int32} {p6 : Int32} {p7 : Int32} {S : zs_T} {Q : zs_Q} (hB : zt_B bf) (h : w_X9_params_278 (zx σ n0 bf) d p0 p1 p6 p7 S Q) : zs_U (zx σ n0 bf) d 8148 278 [(0, .ref p0), (1, .int p1), (6, .int p6), (7, .int p7)] [] S Q := by
  unfold w_X9_params_278 at h
  refine zu_iinc d_8148_278 rfl zi_1 (zs_lt zq_8148 rfl) ?_
  refine zu_goto (t := 251) d_8148_281 rfl ?_
  exact h.weak ⟨rfl, rfl, rfl, rfl, trivial⟩
def w_X9_params_251 (X : zs_X) (d : Nat) (p0 : Nat) (p1 : Int32) (p6 : Int32) (p7 : Int32) (S : zs_T) (Q : zs_Q) : Prop :=
  (zs_K S p0 = some (.inl 8) ∧ ∃ b2, (zs_R S 8103 p0) = some b2 ∧ zs_A S b2 0 p1 ∧ (((zs_i S b2 p1.toNatClampNeg) ≤ p7 → (zs_C X d 8029 [.ref p0, .int (13 : Int32)] S (zs_kI (fun v7 S6 => (((v7 = 0 → (zs_U X d 8148 2 [(0, .ref p0), (1, .int p1), (2, .int v7)] [] S6 Q)) ∧ (¬ (v7 = 0) → (zs_K S6 p0 = some (.inl 8) ∧ zs_C X d 8014 [.ref p0] S6 (zs_kV (fun S10 => (zs_U X d 8148 2 [(0, .ref p0), (1, .int p1), (2, .int v7)] [] S10 Q)) Q)))))) Q))) ∧ (¬ ((zs_i S b2 p1.toNatClampNeg) ≤ p7) → (∃ b12, (zs_R S 8104 p0) = some b12 ∧ zs_A S b12 0 p1 ∧ ∃ b15, (zs_R S 8109 p0) = some b15 ∧ zs_A S b15 0 ((zs_i S b12 p1.toNatClampNeg) + p7) ∧ ab_n0 X.1 ≤ b15 ∧ ∀ S19, S19 = zs_si S b15 ((zs_i S b12 p1.toNatClampNeg) + p7).toNatClampNeg p6 → w_X9_params_278 X d p0 p1 p6 p7 S19 Q))))
theorem u_X9_params_251 {σ : Nat → Nat} {n0 : Nat} {bf : ab_B} {d : Nat} {p0 : Nat} {p1 : Int32} {p6 : Int32} {p7 : Int32} {S : zs_T} {Q : zs_Q} (hB : zt_B bf) (h : w_X9_params_251 (zx σ n0 bf) d p0 p1 p6 p7 S Q) : zs_U (zx σ n0 bf) d 8148 251 [(0, .ref p0), (1, .int p1), (6, .int p6), (7, .int p7)] [] S Q := by
  unfold w_X9_params_251 at h
  refine zu_iload d_8148_251 rfl ?_
  refine zu_aload_n d_8148_253 rfl (zs_ra _) ?_
  obtain ⟨k1, h⟩ := h
  refine zg_8_224 rfl d_8148_254 k1 ?_
  refine zu_iload_n d_8148_257 rfl ?_
  obtain ⟨b2, e3, h⟩ := h
  refine zs_stk1 (zs_rfe e3) ?_
  obtain ⟨k4, h⟩ := h
  refine zu_iald (k := 0) d_8148_258 rfl rfl k4 ?_
  refine zu_cmpge (t := 284) d_8148_259 rfl (fun c5 => ?_) (fun c5 => ?_)
  · have h := h.1 c5
    refine zu_aload_n d_8148_284 rfl (zs_ra _) ?_
    refine zu_bipush d_8148_285 zj_13 ?_
    refine zc_8_535 (x0 := (13 : Int32)) hB rfl k1 d_8148_287 (Nat.le_of_ble_eq_true rfl) h (fun v7 S6 h => ?_)
    refine zu_istore_n d_8148_290 (zs_lt zq_8148 rfl) ?_
    refine zu_iload_n d_8148_291 rfl ?_
    refine zu_ifeq (t := 299) d_8148_292 rfl (fun c8 => ?_) (fun c8 => ?_)
    · have h := h.1 c8
      refine zu_goto (t := 2) d_8148_299 rfl ?_
      exact h.weak ⟨rfl, rfl, rfl, trivial⟩
    · have h := h.2 c8
      refine zu_aload_n d_8148_295 rfl (zs_ra _) ?_
      obtain ⟨k9, h⟩ := h
      refine zc_8_538  hB rfl k9 d_8148_296 (Nat.le_of_ble_eq_true rfl) h (fun S10 h => ?_)
      refine zu_goto (t := 2) d_8148_299 rfl ?_
      exact h.weak ⟨rfl, rfl, rfl, trivial⟩
  · have h := h.2 c5
    refine zu_aload_n d_8148_262 rfl (zs_ra _) ?_
    refine zg_8_239 rfl d_8148_263 k1 ?_
    refine zu_aload_n d_8148_266 rfl (zs_ra _) ?_
    refine zg_8_227 rfl d_8148_267 k1 ?_
    refine zu_iload_n d_8148_270 rfl ?_
    obtain ⟨b12, e13, h⟩ := h
    refine zs_stk1 (zs_rfe e13) ?_
    obtain ⟨k14, h⟩ := h
    refine zu_iald (k := 0) d_8148_271 rfl rfl k14 ?_
    refine zu_iload d_8148_272 rfl ?_
    refine zu_stk d_8148_274 rfl rfl ?_
    refine zu_iload d_8148_275 rfl ?_
    obtain ⟨b15, e16, h⟩ := h
    refine zs_stk2 (zs_rfe e16) ?_
    obtain ⟨k17, h⟩ := h
    obtain ⟨k18, h⟩ := h
    refine zu_iast (k := 0) d_8148_277 rfl rfl k18 k17 ?_
    generalize e20 : zs_si S b15 ((zs_i S b12 p1.toNatClampNeg) + p7).toNatClampNeg p6 = S19
    have h := h S19 e20.symm
    have K21 : ∀ b, zs_K S19 b = zs_K S b := zs_Kt e20 (zs_Ksi _ _ _ _) (fun _ => rfl)
    exact (u_X9_params_278 hB h).weak ⟨rfl, rfl, rfl, rfl, trivial⟩
def w_X9_params (X : zs_X) (d : Nat) (p0 : Nat) (p1 : Int32) (S : zs_T) (Q : zs_Q) : Prop :=
  (zs_U X d 8148 2 [(0, .ref p0), (1, .int p1), (2, .int (1 : Int32))] [] S Q)
theorem u_X9_params {σ : Nat → Nat} {n0 : Nat} {bf : ab_B} {d : Nat} {p0 : Nat} {p1 : Int32} {S : zs_T} {Q : zs_Q} (hB : zt_B bf) (hd : 1 ≤ d) (h : w_X9_params (zx σ n0 bf) (d - 1) p0 p1 S Q) : zs_C (zx σ n0 bf) d 8148 [.ref p0, .int p1] S Q := by
  have hL : lv_args 0 [.ref p0, .int p1] = [(0, .ref p0), (1, .int p1)] := rfl
  refine zs_C.of1 (hB.2 8148 (by decide) (by decide)) hd (by rw [hL]; exact zs_sub_self _ (by exact ⟨rfl, rfl, trivial⟩)) ?_
  rw [hL]
  clear hL
  unfold w_X9_params at h
  refine zu_iconst d_8148_0 zi_1 ?_
  refine zu_istore_n d_8148_1 (zs_lt zq_8148 rfl) ?_
  exact h.weak ⟨rfl, rfl, rfl, trivial⟩
/-! SchemaPascalModel.beginBody(I)V -/
theorem zm_8149 {σ : Nat → Nat} {n0 : Nat} {bf : ab_B} : ab_code (zx σ n0 bf).1 8149 = prog_17_method_159_code := rfl
theorem zq_8149 {σ : Nat → Nat} {n0 : Nat} {bf : ab_B} : ab_maxL (zx σ n0 bf).1 8149 = 3 := rfl
theorem zr_8149 {σ : Nat → Nat} {n0 : Nat} {bf : ab_B} : ab_ret (zx σ n0 bf).1 8149 = (Option.none : Option Jvm.ClassFile.FieldType) := rfl
theorem d_8149_0 {σ : Nat → Nat} {n0 : Nat} {bf : ab_B} : decode (ab_code (zx σ n0 bf).1 8149) 0 = .ok (.iconst 1, 1) := zd zm_8149 (by decide +kernel)
theorem d_8149_1 {σ : Nat → Nat} {n0 : Nat} {bf : ab_B} : decode (ab_code (zx σ n0 bf).1 8149) 1 = .ok (.istore_n 2, 1) := zd zm_8149 (by decide +kernel)
theorem d_8149_2 {σ : Nat → Nat} {n0 : Nat} {bf : ab_B} : decode (ab_code (zx σ n0 bf).1 8149) 2 = .ok (.iload_n 2, 1) := zd zm_8149 (by decide +kernel)
theorem d_8149_3 {σ : Nat → Nat} {n0 : Nat} {bf : ab_B} : decode (ab_code (zx σ n0 bf).1 8149) 3 = .ok (.aload_n 0, 1) := zd zm_8149 (by decide +kernel)
theorem d_8149_4 {σ : Nat → Nat} {n0 : Nat} {bf : ab_B} : decode (ab_code (zx σ n0 bf).1 8149) 4 = .ok (.getfield 944, 3) := zd zm_8149 (by decide +kernel)
theorem d_8149_7 {σ : Nat → Nat} {n0 : Nat} {bf : ab_B} : decode (ab_code (zx σ n0 bf).1 8149) 7 = .ok (.if_icmp .gt 38, 3) := zd zm_8149 (by decide +kernel)
theorem d_8149_10 {σ : Nat → Nat} {n0 : Nat} {bf : ab_B} : decode (ab_code (zx σ n0 bf).1 8149) 10 = .ok (.aload_n 0, 1) := zd zm_8149 (by decide +kernel)
theorem d_8149_11 {σ : Nat → Nat} {n0 : Nat} {bf : ab_B} : decode (ab_code (zx σ n0 bf).1 8149) 11 = .ok (.getfield 233, 3) := zd zm_8149 (by decide +kernel)
theorem d_8149_14 {σ : Nat → Nat} {n0 : Nat} {bf : ab_B} : decode (ab_code (zx σ n0 bf).1 8149) 14 = .ok (.iload_n 2, 1) := zd zm_8149 (by decide +kernel)
theorem d_8149_15 {σ : Nat → Nat} {n0 : Nat} {bf : ab_B} : decode (ab_code (zx σ n0 bf).1 8149) 15 = .ok (.iaload, 1) := zd zm_8149 (by decide +kernel)
theorem d_8149_16 {σ : Nat → Nat} {n0 : Nat} {bf : ab_B} : decode (ab_code (zx σ n0 bf).1 8149) 16 = .ok (.iload_n 1, 1) := zd zm_8149 (by decide +kernel)
theorem d_8149_17 {σ : Nat → Nat} {n0 : Nat} {bf : ab_B} : decode (ab_code (zx σ n0 bf).1 8149) 17 = .ok (.if_icmp .ne 22, 3) := zd zm_8149 (by decide +kernel)
theorem d_8149_20 {σ : Nat → Nat} {n0 : Nat} {bf : ab_B} : decode (ab_code (zx σ n0 bf).1 8149) 20 = .ok (.aload_n 0, 1) := zd zm_8149 (by decide +kernel)
theorem d_8149_21 {σ : Nat → Nat} {n0 : Nat} {bf : ab_B} : decode (ab_code (zx σ n0 bf).1 8149) 21 = .ok (.getfield 230, 3) := zd zm_8149 (by decide +kernel)
theorem d_8149_24 {σ : Nat → Nat} {n0 : Nat} {bf : ab_B} : decode (ab_code (zx σ n0 bf).1 8149) 24 = .ok (.iload_n 2, 1) := zd zm_8149 (by decide +kernel)
theorem d_8149_25 {σ : Nat → Nat} {n0 : Nat} {bf : ab_B} : decode (ab_code (zx σ n0 bf).1 8149) 25 = .ok (.baload, 1) := zd zm_8149 (by decide +kernel)
theorem d_8149_26 {σ : Nat → Nat} {n0 : Nat} {bf : ab_B} : decode (ab_code (zx σ n0 bf).1 8149) 26 = .ok (.ifCond .eq 13, 3) := zd zm_8149 (by decide +kernel)
theorem d_8149_29 {σ : Nat → Nat} {n0 : Nat} {bf : ab_B} : decode (ab_code (zx σ n0 bf).1 8149) 29 = .ok (.iload_n 2, 1) := zd zm_8149 (by decide +kernel)
theorem d_8149_30 {σ : Nat → Nat} {n0 : Nat} {bf : ab_B} : decode (ab_code (zx σ n0 bf).1 8149) 30 = .ok (.ifCond .eq 9, 3) := zd zm_8149 (by decide +kernel)
theorem d_8149_33 {σ : Nat → Nat} {n0 : Nat} {bf : ab_B} : decode (ab_code (zx σ n0 bf).1 8149) 33 = .ok (.aload_n 0, 1) := zd zm_8149 (by decide +kernel)
theorem d_8149_34 {σ : Nat → Nat} {n0 : Nat} {bf : ab_B} : decode (ab_code (zx σ n0 bf).1 8149) 34 = .ok (.bipush 10, 2) := zd zm_8149 (by decide +kernel)
theorem d_8149_36 {σ : Nat → Nat} {n0 : Nat} {bf : ab_B} : decode (ab_code (zx σ n0 bf).1 8149) 36 = .ok (.invokevirtual 541, 3) := zd zm_8149 (by decide +kernel)
theorem d_8149_39 {σ : Nat → Nat} {n0 : Nat} {bf : ab_B} : decode (ab_code (zx σ n0 bf).1 8149) 39 = .ok (.iinc 2 1, 3) := zd zm_8149 (by decide +kernel)
theorem d_8149_42 {σ : Nat → Nat} {n0 : Nat} {bf : ab_B} : decode (ab_code (zx σ n0 bf).1 8149) 42 = .ok (.goto (-40), 3) := zd zm_8149 (by decide +kernel)
theorem d_8149_45 {σ : Nat → Nat} {n0 : Nat} {bf : ab_B} : decode (ab_code (zx σ n0 bf).1 8149) 45 = .ok (.aload_n 0, 1) := zd zm_8149 (by decide +kernel)
theorem d_8149_46 {σ : Nat → Nat} {n0 : Nat} {bf : ab_B} : decode (ab_code (zx σ n0 bf).1 8149) 46 = .ok (.invokevirtual 538, 3) := zd zm_8149 (by decide +kernel)
theorem d_8149_49 {σ : Nat → Nat} {n0 : Nat} {bf : ab_B} : decode (ab_code (zx σ n0 bf).1 8149) 49 = .ok (.aload_n 0, 1) := zd zm_8149 (by decide +kernel)
theorem d_8149_50 {σ : Nat → Nat} {n0 : Nat} {bf : ab_B} : decode (ab_code (zx σ n0 bf).1 8149) 50 = .ok (.bipush 70, 2) := zd zm_8149 (by decide +kernel)
theorem d_8149_52 {σ : Nat → Nat} {n0 : Nat} {bf : ab_B} : decode (ab_code (zx σ n0 bf).1 8149) 52 = .ok (.iload_n 1, 1) := zd zm_8149 (by decide +kernel)
theorem d_8149_53 {σ : Nat → Nat} {n0 : Nat} {bf : ab_B} : decode (ab_code (zx σ n0 bf).1 8149) 53 = .ok (.iconst 0, 1) := zd zm_8149 (by decide +kernel)
theorem d_8149_54 {σ : Nat → Nat} {n0 : Nat} {bf : ab_B} : decode (ab_code (zx σ n0 bf).1 8149) 54 = .ok (.iconst 0, 1) := zd zm_8149 (by decide +kernel)
theorem d_8149_55 {σ : Nat → Nat} {n0 : Nat} {bf : ab_B} : decode (ab_code (zx σ n0 bf).1 8149) 55 = .ok (.invokevirtual 649, 3) := zd zm_8149 (by decide +kernel)
theorem d_8149_58 {σ : Nat → Nat} {n0 : Nat} {bf : ab_B} : decode (ab_code (zx σ n0 bf).1 8149) 58 = .ok (.aload_n 0, 1) := zd zm_8149 (by decide +kernel)
theorem d_8149_59 {σ : Nat → Nat} {n0 : Nat} {bf : ab_B} : decode (ab_code (zx σ n0 bf).1 8149) 59 = .ok (.bipush 100, 2) := zd zm_8149 (by decide +kernel)
theorem d_8149_61 {σ : Nat → Nat} {n0 : Nat} {bf : ab_B} : decode (ab_code (zx σ n0 bf).1 8149) 61 = .ok (.iconst 0, 1) := zd zm_8149 (by decide +kernel)
theorem d_8149_62 {σ : Nat → Nat} {n0 : Nat} {bf : ab_B} : decode (ab_code (zx σ n0 bf).1 8149) 62 = .ok (.iconst 0, 1) := zd zm_8149 (by decide +kernel)
theorem d_8149_63 {σ : Nat → Nat} {n0 : Nat} {bf : ab_B} : decode (ab_code (zx σ n0 bf).1 8149) 63 = .ok (.iconst 0, 1) := zd zm_8149 (by decide +kernel)
theorem d_8149_64 {σ : Nat → Nat} {n0 : Nat} {bf : ab_B} : decode (ab_code (zx σ n0 bf).1 8149) 64 = .ok (.invokevirtual 649, 3) := zd zm_8149 (by decide +kernel)
theorem d_8149_67 {σ : Nat → Nat} {n0 : Nat} {bf : ab_B} : decode (ab_code (zx σ n0 bf).1 8149) 67 = .ok (.return_, 1) := zd zm_8149 (by decide +kernel)
def w_X9_beginBody_67 (X : zs_X) (d : Nat)  (S : zs_T) (Q : zs_Q) : Prop :=
  (Q (.returned none) S)
theorem u_X9_beginBody_67 {σ : Nat → Nat} {n0 : Nat} {bf : ab_B} {d : Nat}  {S : zs_T} {Q : zs_Q} (hB : zt_B bf) (h : w_X9_beginBody_67 (zx σ n0 bf) d  S Q) : zs_U (zx σ n0 bf) d 8149 67 [] [] S Q := by
  unfold w_X9_beginBody_67 at h
  exact zu_vret d_8149_67 zr_8149 h
def w_X9_beginBody_39 (X : zs_X) (d : Nat) (p0 : Nat) (p1 : Int32) (p2 : Int32) (S : zs_T) (Q : zs_Q) : Prop :=
  (zs_U X d 8149 2 [(0, .ref p0), (1, .int p1), (2, .int (p2 + (1 : Int32)))] [] S Q)
theorem u_X9_beginBody_39 {σ : Nat → Nat} {n0 : Nat} {bf : ab_B} {d : Nat} {p0 : Nat} {p1 : Int32} {p2 : Int32} {S : zs_T} {Q : zs_Q} (hB : zt_B bf) (h : w_X9_beginBody_39 (zx σ n0 bf) d p0 p1 p2 S Q) : zs_U (zx σ n0 bf) d 8149 39 [(0, .ref p0), (1, .int p1), (2, .int p2)] [] S Q := by
  unfold w_X9_beginBody_39 at h
  refine zu_iinc d_8149_39 rfl zi_1 (zs_lt zq_8149 rfl) ?_
  refine zu_goto (t := 2) d_8149_42 rfl ?_
  exact h.weak ⟨rfl, rfl, rfl, trivial⟩
def w_X9_beginBody_33 (X : zs_X) (d : Nat) (p0 : Nat) (p1 : Int32) (p2 : Int32) (S : zs_T) (Q : zs_Q) : Prop :=
  (zs_K S p0 = some (.inl 8) ∧ zs_C X d 8027 [.ref p0, .int (10 : Int32)] S (zs_kV (fun S2 => w_X9_beginBody_39 X d p0 p1 p2 S2 Q) Q))
theorem u_X9_beginBody_33 {σ : Nat → Nat} {n0 : Nat} {bf : ab_B} {d : Nat} {p0 : Nat} {p1 : Int32} {p2 : Int32} {S : zs_T} {Q : zs_Q} (hB : zt_B bf) (h : w_X9_beginBody_33 (zx σ n0 bf) d p0 p1 p2 S Q) : zs_U (zx σ n0 bf) d 8149 33 [(0, .ref p0), (1, .int p1), (2, .int p2)] [] S Q := by
  unfold w_X9_beginBody_33 at h
  refine zu_aload_n d_8149_33 rfl (zs_ra _) ?_
  refine zu_bipush d_8149_34 zj_10 ?_
  obtain ⟨k1, h⟩ := h
  refine zc_8_541 (x0 := (10 : Int32)) hB rfl k1 d_8149_36 (Nat.le_of_ble_eq_true rfl) h (fun S2 h => ?_)
  exact (u_X9_beginBody_39 hB h).weak ⟨rfl, rfl, rfl, trivial⟩
def w_X9_beginBody_2 (X : zs_X) (d : Nat) (p0 : Nat) (p1 : Int32) (p2 : Int32) (S : zs_T) (Q : zs_Q) : Prop :=
  (zs_K S p0 = some (.inl 8) ∧ (((zs_I S 8108 p0) < p2 → (zs_C X d 8014 [.ref p0] S (zs_kV (fun S3 => (zs_K S3 p0 = some (.inl 8) ∧ zs_C X d 8030 [.ref p0, .int (70 : Int32), .int p1, .int (0 : Int32), .int (0 : Int32)] S3 (zs_kV (fun S6 => (zs_K S6 p0 = some (.inl 8) ∧ zs_C X d 8030 [.ref p0, .int (100 : Int32), .int (0 : Int32), .int (0 : Int32), .int (0 : Int32)] S6 (zs_kV (fun S9 => w_X9_beginBody_67 X d  S9 Q) Q))) Q))) Q))) ∧ (¬ ((zs_I S 8108 p0) < p2) → (∃ b11, (zs_R S 8106 p0) = some b11 ∧ zs_A S b11 0 p2 ∧ ((¬ (zs_i S b11 p2.toNatClampNeg) = p1 → w_X9_beginBody_39 X d p0 p1 p2 S Q) ∧ (¬ (¬ (zs_i S b11 p2.toNatClampNeg) = p1) → (∃ b15, (zs_R S 8105 p0) = some b15 ∧ zs_A S b15 2 p2 ∧ (((zs_i S b15 p2.toNatClampNeg) = 0 → w_X9_beginBody_39 X d p0 p1 p2 S Q) ∧ (¬ ((zs_i S b15 p2.toNatClampNeg) = 0) → (((p2 = 0 → w_X9_beginBody_39 X d p0 p1 p2 S Q) ∧ (¬ (p2 = 0) → w_X9_beginBody_33 X d p0 p1 p2 S Q))))))))))))
theorem u_X9_beginBody_2 {σ : Nat → Nat} {n0 : Nat} {bf : ab_B} {d : Nat} {p0 : Nat} {p1 : Int32} {p2 : Int32} {S : zs_T} {Q : zs_Q} (hB : zt_B bf) (h : w_X9_beginBody_2 (zx σ n0 bf) d p0 p1 p2 S Q) : zs_U (zx σ n0 bf) d 8149 2 [(0, .ref p0), (1, .int p1), (2, .int p2)] [] S Q := by
  unfold w_X9_beginBody_2 at h
  refine zu_iload_n d_8149_2 rfl ?_
  refine zu_aload_n d_8149_3 rfl (zs_ra _) ?_
  obtain ⟨k1, h⟩ := h
  refine zg_8_944 rfl d_8149_4 k1 ?_
  refine zu_cmpgt (t := 45) d_8149_7 rfl (fun c2 => ?_) (fun c2 => ?_)
  · have h := h.1 c2
    refine zu_aload_n d_8149_45 rfl (zs_ra _) ?_
    refine zc_8_538  hB rfl k1 d_8149_46 (Nat.le_of_ble_eq_true rfl) h (fun S3 h => ?_)
    refine zu_aload_n d_8149_49 rfl (zs_ra _) ?_
    refine zu_bipush d_8149_50 zj_70 ?_
    refine zu_iload_n d_8149_52 rfl ?_
    refine zu_iconst d_8149_53 zi_0 ?_
    refine zu_iconst d_8149_54 zi_0 ?_
    obtain ⟨k5, h⟩ := h
    refine zc_8_649 (x0 := (70 : Int32)) (x1 := p1) (x2 := (0 : Int32)) (x3 := (0 : Int32)) hB rfl k5 d_8149_55 (Nat.le_of_ble_eq_true rfl) h (fun S6 h => ?_)
    refine zu_aload_n d_8149_58 rfl (zs_ra _) ?_
    refine zu_bipush d_8149_59 zj_100 ?_
    refine zu_iconst d_8149_61 zi_0 ?_
    refine zu_iconst d_8149_62 zi_0 ?_
    refine zu_iconst d_8149_63 zi_0 ?_
    obtain ⟨k8, h⟩ := h
    refine zc_8_649 (x0 := (100 : Int32)) (x1 := (0 : Int32)) (x2 := (0 : Int32)) (x3 := (0 : Int32)) hB rfl k8 d_8149_64 (Nat.le_of_ble_eq_true rfl) h (fun S9 h => ?_)
    exact (u_X9_beginBody_67 hB h).weak trivial
  · have h := h.2 c2
    refine zu_aload_n d_8149_10 rfl (zs_ra _) ?_
    refine zg_8_233 rfl d_8149_11 k1 ?_
    refine zu_iload_n d_8149_14 rfl ?_
    obtain ⟨b11, e12, h⟩ := h
    refine zs_stk1 (zs_rfe e12) ?_
    obtain ⟨k13, h⟩ := h
    refine zu_iald (k := 0) d_8149_15 rfl rfl k13 ?_
    refine zu_iload_n d_8149_16 rfl ?_
    refine zu_cmpne (t := 39) d_8149_17 rfl (fun c14 => ?_) (fun c14 => ?_)
    · have h := h.1 c14
      exact (u_X9_beginBody_39 hB h).weak ⟨rfl, rfl, rfl, trivial⟩
    · have h := h.2 c14
      refine zu_aload_n d_8149_20 rfl (zs_ra _) ?_
      refine zg_8_230 rfl d_8149_21 k1 ?_
      refine zu_iload_n d_8149_24 rfl ?_
      obtain ⟨b15, e16, h⟩ := h
      refine zs_stk1 (zs_rfe e16) ?_
      obtain ⟨k17, h⟩ := h
      refine zu_bald (k := 2) d_8149_25 rfl (Or.inr rfl) k17 ?_
      refine zu_ifeq (t := 39) d_8149_26 rfl (fun c18 => ?_) (fun c18 => ?_)
      · have h := h.1 c18
        exact (u_X9_beginBody_39 hB h).weak ⟨rfl, rfl, rfl, trivial⟩
      · have h := h.2 c18
        refine zu_iload_n d_8149_29 rfl ?_
        refine zu_ifeq (t := 39) d_8149_30 rfl (fun c19 => ?_) (fun c19 => ?_)
        · have h := h.1 c19
          exact (u_X9_beginBody_39 hB h).weak ⟨rfl, rfl, rfl, trivial⟩
        · have h := h.2 c19
          exact (u_X9_beginBody_33 hB h).weak ⟨rfl, rfl, rfl, trivial⟩
def w_X9_beginBody (X : zs_X) (d : Nat) (p0 : Nat) (p1 : Int32) (S : zs_T) (Q : zs_Q) : Prop :=
  (zs_U X d 8149 2 [(0, .ref p0), (1, .int p1), (2, .int (1 : Int32))] [] S Q)
theorem u_X9_beginBody {σ : Nat → Nat} {n0 : Nat} {bf : ab_B} {d : Nat} {p0 : Nat} {p1 : Int32} {S : zs_T} {Q : zs_Q} (hB : zt_B bf) (hd : 1 ≤ d) (h : w_X9_beginBody (zx σ n0 bf) (d - 1) p0 p1 S Q) : zs_C (zx σ n0 bf) d 8149 [.ref p0, .int p1] S Q := by
  have hL : lv_args 0 [.ref p0, .int p1] = [(0, .ref p0), (1, .int p1)] := rfl
  refine zs_C.of1 (hB.2 8149 (by decide) (by decide)) hd (by rw [hL]; exact zs_sub_self _ (by exact ⟨rfl, rfl, trivial⟩)) ?_
  rw [hL]
  clear hL
  unfold w_X9_beginBody at h
  refine zu_iconst d_8149_0 zi_1 ?_
  refine zu_istore_n d_8149_1 (zs_lt zq_8149 rfl) ?_
  exact h.weak ⟨rfl, rfl, rfl, trivial⟩
/-! SchemaPascalModel.consts(Z)V -/
theorem zm_8150 {σ : Nat → Nat} {n0 : Nat} {bf : ab_B} : ab_code (zx σ n0 bf).1 8150 = prog_17_method_141_code := rfl
theorem zq_8150 {σ : Nat → Nat} {n0 : Nat} {bf : ab_B} : ab_maxL (zx σ n0 bf).1 8150 = 2 := rfl
theorem zr_8150 {σ : Nat → Nat} {n0 : Nat} {bf : ab_B} : ab_ret (zx σ n0 bf).1 8150 = (Option.none : Option Jvm.ClassFile.FieldType) := rfl
theorem d_8150_0 {σ : Nat → Nat} {n0 : Nat} {bf : ab_B} : decode (ab_code (zx σ n0 bf).1 8150) 0 = .ok (.aload_n 0, 1) := zd zm_8150 (by decide +kernel)
theorem d_8150_1 {σ : Nat → Nat} {n0 : Nat} {bf : ab_B} : decode (ab_code (zx σ n0 bf).1 8150) 1 = .ok (.getfield 484, 3) := zd zm_8150 (by decide +kernel)
theorem d_8150_4 {σ : Nat → Nat} {n0 : Nat} {bf : ab_B} : decode (ab_code (zx σ n0 bf).1 8150) 4 = .ok (.iconst 1, 1) := zd zm_8150 (by decide +kernel)
theorem d_8150_5 {σ : Nat → Nat} {n0 : Nat} {bf : ab_B} : decode (ab_code (zx σ n0 bf).1 8150) 5 = .ok (.if_icmp .eq 8, 3) := zd zm_8150 (by decide +kernel)
theorem d_8150_8 {σ : Nat → Nat} {n0 : Nat} {bf : ab_B} : decode (ab_code (zx σ n0 bf).1 8150) 8 = .ok (.iload_n 1, 1) := zd zm_8150 (by decide +kernel)
theorem d_8150_9 {σ : Nat → Nat} {n0 : Nat} {bf : ab_B} : decode (ab_code (zx σ n0 bf).1 8150) 9 = .ok (.ifCond .ne 4, 3) := zd zm_8150 (by decide +kernel)
theorem d_8150_12 {σ : Nat → Nat} {n0 : Nat} {bf : ab_B} : decode (ab_code (zx σ n0 bf).1 8150) 12 = .ok (.return_, 1) := zd zm_8150 (by decide +kernel)
theorem d_8150_13 {σ : Nat → Nat} {n0 : Nat} {bf : ab_B} : decode (ab_code (zx σ n0 bf).1 8150) 13 = .ok (.aload_n 0, 1) := zd zm_8150 (by decide +kernel)
theorem d_8150_14 {σ : Nat → Nat} {n0 : Nat} {bf : ab_B} : decode (ab_code (zx σ n0 bf).1 8150) 14 = .ok (.invokevirtual 925, 3) := zd zm_8150 (by decide +kernel)
theorem d_8150_17 {σ : Nat → Nat} {n0 : Nat} {bf : ab_B} : decode (ab_code (zx σ n0 bf).1 8150) 17 = .ok (.ifCond .eq 32, 3) := zd zm_8150 (by decide +kernel)
theorem d_8150_20 {σ : Nat → Nat} {n0 : Nat} {bf : ab_B} : decode (ab_code (zx σ n0 bf).1 8150) 20 = .ok (.aload_n 0, 1) := zd zm_8150 (by decide +kernel)
theorem d_8150_21 {σ : Nat → Nat} {n0 : Nat} {bf : ab_B} : decode (ab_code (zx σ n0 bf).1 8150) 21 = .ok (.bipush 62, 2) := zd zm_8150 (by decide +kernel)
theorem d_8150_23 {σ : Nat → Nat} {n0 : Nat} {bf : ab_B} : decode (ab_code (zx σ n0 bf).1 8150) 23 = .ok (.aload_n 0, 1) := zd zm_8150 (by decide +kernel)
theorem d_8150_24 {σ : Nat → Nat} {n0 : Nat} {bf : ab_B} : decode (ab_code (zx σ n0 bf).1 8150) 24 = .ok (.getfield 494, 3) := zd zm_8150 (by decide +kernel)
theorem d_8150_27 {σ : Nat → Nat} {n0 : Nat} {bf : ab_B} : decode (ab_code (zx σ n0 bf).1 8150) 27 = .ok (.iconst 0, 1) := zd zm_8150 (by decide +kernel)
theorem d_8150_28 {σ : Nat → Nat} {n0 : Nat} {bf : ab_B} : decode (ab_code (zx σ n0 bf).1 8150) 28 = .ok (.iconst 0, 1) := zd zm_8150 (by decide +kernel)
theorem d_8150_29 {σ : Nat → Nat} {n0 : Nat} {bf : ab_B} : decode (ab_code (zx σ n0 bf).1 8150) 29 = .ok (.invokevirtual 649, 3) := zd zm_8150 (by decide +kernel)
theorem d_8150_32 {σ : Nat → Nat} {n0 : Nat} {bf : ab_B} : decode (ab_code (zx σ n0 bf).1 8150) 32 = .ok (.aload_n 0, 1) := zd zm_8150 (by decide +kernel)
theorem d_8150_33 {σ : Nat → Nat} {n0 : Nat} {bf : ab_B} : decode (ab_code (zx σ n0 bf).1 8150) 33 = .ok (.iconst 2, 1) := zd zm_8150 (by decide +kernel)
theorem d_8150_34 {σ : Nat → Nat} {n0 : Nat} {bf : ab_B} : decode (ab_code (zx σ n0 bf).1 8150) 34 = .ok (.iconst 0, 1) := zd zm_8150 (by decide +kernel)
theorem d_8150_35 {σ : Nat → Nat} {n0 : Nat} {bf : ab_B} : decode (ab_code (zx σ n0 bf).1 8150) 35 = .ok (.iconst 0, 1) := zd zm_8150 (by decide +kernel)
theorem d_8150_36 {σ : Nat → Nat} {n0 : Nat} {bf : ab_B} : decode (ab_code (zx σ n0 bf).1 8150) 36 = .ok (.iconst 0, 1) := zd zm_8150 (by decide +kernel)
theorem d_8150_37 {σ : Nat → Nat} {n0 : Nat} {bf : ab_B} : decode (ab_code (zx σ n0 bf).1 8150) 37 = .ok (.invokevirtual 649, 3) := zd zm_8150 (by decide +kernel)
theorem d_8150_40 {σ : Nat → Nat} {n0 : Nat} {bf : ab_B} : decode (ab_code (zx σ n0 bf).1 8150) 40 = .ok (.aload_n 0, 1) := zd zm_8150 (by decide +kernel)
theorem d_8150_41 {σ : Nat → Nat} {n0 : Nat} {bf : ab_B} : decode (ab_code (zx σ n0 bf).1 8150) 41 = .ok (.invokevirtual 538, 3) := zd zm_8150 (by decide +kernel)
theorem d_8150_44 {σ : Nat → Nat} {n0 : Nat} {bf : ab_B} : decode (ab_code (zx σ n0 bf).1 8150) 44 = .ok (.aload_n 0, 1) := zd zm_8150 (by decide +kernel)
theorem d_8150_45 {σ : Nat → Nat} {n0 : Nat} {bf : ab_B} : decode (ab_code (zx σ n0 bf).1 8150) 45 = .ok (.iconst 5, 1) := zd zm_8150 (by decide +kernel)
theorem d_8150_46 {σ : Nat → Nat} {n0 : Nat} {bf : ab_B} : decode (ab_code (zx σ n0 bf).1 8150) 46 = .ok (.invokevirtual 746, 3) := zd zm_8150 (by decide +kernel)
theorem d_8150_49 {σ : Nat → Nat} {n0 : Nat} {bf : ab_B} : decode (ab_code (zx σ n0 bf).1 8150) 49 = .ok (.return_, 1) := zd zm_8150 (by decide +kernel)
def w_X9_consts_40 (X : zs_X) (d : Nat) (p0 : Nat) (S : zs_T) (Q : zs_Q) : Prop :=
  (zs_K S p0 = some (.inl 8) ∧ zs_C X d 8014 [.ref p0] S (zs_kV (fun S2 => (zs_K S2 p0 = some (.inl 8) ∧ zs_C X d 8028 [.ref p0, .int (5 : Int32)] S2 (zs_kV (fun S5 => (Q (.returned none) S5)) Q))) Q))
theorem u_X9_consts_40 {σ : Nat → Nat} {n0 : Nat} {bf : ab_B} {d : Nat} {p0 : Nat} {S : zs_T} {Q : zs_Q} (hB : zt_B bf) (h : w_X9_consts_40 (zx σ n0 bf) d p0 S Q) : zs_U (zx σ n0 bf) d 8150 40 [(0, .ref p0)] [] S Q := by
  unfold w_X9_consts_40 at h
  refine zu_aload_n d_8150_40 rfl (zs_ra _) ?_
  obtain ⟨k1, h⟩ := h
  refine zc_8_538  hB rfl k1 d_8150_41 (Nat.le_of_ble_eq_true rfl) h (fun S2 h => ?_)
  refine zu_aload_n d_8150_44 rfl (zs_ra _) ?_
  refine zu_iconst d_8150_45 zi_5 ?_
  obtain ⟨k4, h⟩ := h
  refine zc_8_746 (x0 := (5 : Int32)) hB rfl k4 d_8150_46 (Nat.le_of_ble_eq_true rfl) h (fun S5 h => ?_)
  exact zu_vret d_8150_49 zr_8150 h
def w_X9_consts_13 (X : zs_X) (d : Nat) (p0 : Nat) (S : zs_T) (Q : zs_Q) : Prop :=
  (zs_K S p0 = some (.inl 8) ∧ zs_C X d 8151 [.ref p0] S (zs_kI (fun v3 S2 => (((v3 = 0 → (Q (.returned none) S2)) ∧ (¬ (v3 = 0) → (zs_K S2 p0 = some (.inl 8) ∧ zs_C X d 8030 [.ref p0, .int (62 : Int32), .int (zs_I S2 8009 p0), .int (0 : Int32), .int (0 : Int32)] S2 (zs_kV (fun S6 => (zs_K S6 p0 = some (.inl 8) ∧ zs_C X d 8030 [.ref p0, .int (2 : Int32), .int (0 : Int32), .int (0 : Int32), .int (0 : Int32)] S6 (zs_kV (fun S9 => w_X9_consts_40 X d p0 S9 Q) Q))) Q)))))) Q))
theorem u_X9_consts_13 {σ : Nat → Nat} {n0 : Nat} {bf : ab_B} {d : Nat} {p0 : Nat} {S : zs_T} {Q : zs_Q} (hB : zt_B bf) (h : w_X9_consts_13 (zx σ n0 bf) d p0 S Q) : zs_U (zx σ n0 bf) d 8150 13 [(0, .ref p0)] [] S Q := by
  unfold w_X9_consts_13 at h
  refine zu_aload_n d_8150_13 rfl (zs_ra _) ?_
  obtain ⟨k1, h⟩ := h
  refine zc_8_925  hB rfl k1 d_8150_14 (Nat.le_of_ble_eq_true rfl) h (fun v3 S2 h => ?_)
  refine zu_ifeq (t := 49) d_8150_17 rfl (fun c4 => ?_) (fun c4 => ?_)
  · have h := h.1 c4
    exact zu_vret d_8150_49 zr_8150 h
  · have h := h.2 c4
    refine zu_aload_n d_8150_20 rfl (zs_ra _) ?_
    refine zu_bipush d_8150_21 zj_62 ?_
    refine zu_aload_n d_8150_23 rfl (zs_ra _) ?_
    obtain ⟨k5, h⟩ := h
    refine zg_8_494 rfl d_8150_24 k5 ?_
    refine zu_iconst d_8150_27 zi_0 ?_
    refine zu_iconst d_8150_28 zi_0 ?_
    refine zc_8_649 (x0 := (62 : Int32)) (x1 := (zs_I S2 8009 p0)) (x2 := (0 : Int32)) (x3 := (0 : Int32)) hB rfl k5 d_8150_29 (Nat.le_of_ble_eq_true rfl) h (fun S6 h => ?_)
    refine zu_aload_n d_8150_32 rfl (zs_ra _) ?_
    refine zu_iconst d_8150_33 zi_2 ?_
    refine zu_iconst d_8150_34 zi_0 ?_
    refine zu_iconst d_8150_35 zi_0 ?_
    refine zu_iconst d_8150_36 zi_0 ?_
    obtain ⟨k8, h⟩ := h
    refine zc_8_649 (x0 := (2 : Int32)) (x1 := (0 : Int32)) (x2 := (0 : Int32)) (x3 := (0 : Int32)) hB rfl k8 d_8150_37 (Nat.le_of_ble_eq_true rfl) h (fun S9 h => ?_)
    exact (u_X9_consts_40 hB h).weak ⟨rfl, trivial⟩
def w_X9_consts (X : zs_X) (d : Nat) (p0 : Nat) (p1 : Int32) (S : zs_T) (Q : zs_Q) : Prop :=
  (zs_K S p0 = some (.inl 8) ∧ (((zs_I S 8006 p0) = (1 : Int32) → w_X9_consts_13 X d p0 S Q) ∧ (¬ ((zs_I S 8006 p0) = (1 : Int32)) → (((¬ p1 = 0 → w_X9_consts_13 X d p0 S Q) ∧ (¬ (¬ p1 = 0) → (Q (.returned none) S)))))))
theorem u_X9_consts {σ : Nat → Nat} {n0 : Nat} {bf : ab_B} {d : Nat} {p0 : Nat} {p1 : Int32} {S : zs_T} {Q : zs_Q} (hB : zt_B bf) (hd : 1 ≤ d) (h : w_X9_consts (zx σ n0 bf) (d - 1) p0 p1 S Q) : zs_C (zx σ n0 bf) d 8150 [.ref p0, .int p1] S Q := by
  have hL : lv_args 0 [.ref p0, .int p1] = [(0, .ref p0), (1, .int p1)] := rfl
  refine zs_C.of1 (hB.2 8150 (by decide) (by decide)) hd (by rw [hL]; exact zs_sub_self _ (by exact ⟨rfl, rfl, trivial⟩)) ?_
  rw [hL]
  clear hL
  unfold w_X9_consts at h
  refine zu_aload_n d_8150_0 rfl (zs_ra _) ?_
  obtain ⟨k1, h⟩ := h
  refine zg_8_484 rfl d_8150_1 k1 ?_
  refine zu_iconst d_8150_4 zi_1 ?_
  refine zu_cmpeq (t := 13) d_8150_5 rfl (fun c2 => ?_) (fun c2 => ?_)
  · have h := h.1 c2
    exact (u_X9_consts_13 hB h).weak ⟨rfl, trivial⟩
  · have h := h.2 c2
    refine zu_iload_n d_8150_8 rfl ?_
    refine zu_ifne (t := 13) d_8150_9 rfl (fun c3 => ?_) (fun c3 => ?_)
    · have h := h.1 c3
      exact (u_X9_consts_13 hB h).weak ⟨rfl, trivial⟩
    · have h := h.2 c3
      exact zu_vret d_8150_12 zr_8150 h
/-! SchemaPascalModel.newHere()Z -/
theorem zm_8151 {σ : Nat → Nat} {n0 : Nat} {bf : ab_B} : ab_code (zx σ n0 bf).1 8151 = prog_17_method_139_code := rfl
theorem zq_8151 {σ : Nat → Nat} {n0 : Nat} {bf : ab_B} : ab_maxL (zx σ n0 bf).1 8151 = 1 := rfl
theorem zr_8151 {σ : Nat → Nat} {n0 : Nat} {bf : ab_B} : ab_ret (zx σ n0 bf).1 8151 = (Option.some Jvm.ClassFile.FieldType.boolean) := rfl
theorem d_8151_0 {σ : Nat → Nat} {n0 : Nat} {bf : ab_B} : decode (ab_code (zx σ n0 bf).1 8151) 0 = .ok (.aload_n 0, 1) := zd zm_8151 (by decide +kernel)
theorem d_8151_1 {σ : Nat → Nat} {n0 : Nat} {bf : ab_B} : decode (ab_code (zx σ n0 bf).1 8151) 1 = .ok (.getfield 444, 3) := zd zm_8151 (by decide +kernel)
theorem d_8151_4 {σ : Nat → Nat} {n0 : Nat} {bf : ab_B} : decode (ab_code (zx σ n0 bf).1 8151) 4 = .ok (.ifCond .le 5, 3) := zd zm_8151 (by decide +kernel)
theorem d_8151_7 {σ : Nat → Nat} {n0 : Nat} {bf : ab_B} : decode (ab_code (zx σ n0 bf).1 8151) 7 = .ok (.iconst 0, 1) := zd zm_8151 (by decide +kernel)
theorem d_8151_8 {σ : Nat → Nat} {n0 : Nat} {bf : ab_B} : decode (ab_code (zx σ n0 bf).1 8151) 8 = .ok (.ireturn, 1) := zd zm_8151 (by decide +kernel)
theorem d_8151_9 {σ : Nat → Nat} {n0 : Nat} {bf : ab_B} : decode (ab_code (zx σ n0 bf).1 8151) 9 = .ok (.aload_n 0, 1) := zd zm_8151 (by decide +kernel)
theorem d_8151_10 {σ : Nat → Nat} {n0 : Nat} {bf : ab_B} : decode (ab_code (zx σ n0 bf).1 8151) 10 = .ok (.getfield 484, 3) := zd zm_8151 (by decide +kernel)
theorem d_8151_13 {σ : Nat → Nat} {n0 : Nat} {bf : ab_B} : decode (ab_code (zx σ n0 bf).1 8151) 13 = .ok (.iconst 1, 1) := zd zm_8151 (by decide +kernel)
theorem d_8151_14 {σ : Nat → Nat} {n0 : Nat} {bf : ab_B} : decode (ab_code (zx σ n0 bf).1 8151) 14 = .ok (.if_icmp .eq 10, 3) := zd zm_8151 (by decide +kernel)
theorem d_8151_17 {σ : Nat → Nat} {n0 : Nat} {bf : ab_B} : decode (ab_code (zx σ n0 bf).1 8151) 17 = .ok (.aload_n 0, 1) := zd zm_8151 (by decide +kernel)
theorem d_8151_18 {σ : Nat → Nat} {n0 : Nat} {bf : ab_B} : decode (ab_code (zx σ n0 bf).1 8151) 18 = .ok (.iconst 2, 1) := zd zm_8151 (by decide +kernel)
theorem d_8151_19 {σ : Nat → Nat} {n0 : Nat} {bf : ab_B} : decode (ab_code (zx σ n0 bf).1 8151) 19 = .ok (.invokevirtual 541, 3) := zd zm_8151 (by decide +kernel)
theorem d_8151_22 {σ : Nat → Nat} {n0 : Nat} {bf : ab_B} : decode (ab_code (zx σ n0 bf).1 8151) 22 = .ok (.iconst 0, 1) := zd zm_8151 (by decide +kernel)
theorem d_8151_23 {σ : Nat → Nat} {n0 : Nat} {bf : ab_B} : decode (ab_code (zx σ n0 bf).1 8151) 23 = .ok (.ireturn, 1) := zd zm_8151 (by decide +kernel)
theorem d_8151_24 {σ : Nat → Nat} {n0 : Nat} {bf : ab_B} : decode (ab_code (zx σ n0 bf).1 8151) 24 = .ok (.aload_n 0, 1) := zd zm_8151 (by decide +kernel)
theorem d_8151_25 {σ : Nat → Nat} {n0 : Nat} {bf : ab_B} : decode (ab_code (zx σ n0 bf).1 8151) 25 = .ok (.aload_n 0, 1) := zd zm_8151 (by decide +kernel)
theorem d_8151_26 {σ : Nat → Nat} {n0 : Nat} {bf : ab_B} : decode (ab_code (zx σ n0 bf).1 8151) 26 = .ok (.getfield 494, 3) := zd zm_8151 (by decide +kernel)
theorem d_8151_29 {σ : Nat → Nat} {n0 : Nat} {bf : ab_B} : decode (ab_code (zx σ n0 bf).1 8151) 29 = .ok (.invokevirtual 864, 3) := zd zm_8151 (by decide +kernel)
theorem d_8151_32 {σ : Nat → Nat} {n0 : Nat} {bf : ab_B} : decode (ab_code (zx σ n0 bf).1 8151) 32 = .ok (.ifCond .eq 10, 3) := zd zm_8151 (by decide +kernel)
theorem d_8151_35 {σ : Nat → Nat} {n0 : Nat} {bf : ab_B} : decode (ab_code (zx σ n0 bf).1 8151) 35 = .ok (.aload_n 0, 1) := zd zm_8151 (by decide +kernel)
theorem d_8151_36 {σ : Nat → Nat} {n0 : Nat} {bf : ab_B} : decode (ab_code (zx σ n0 bf).1 8151) 36 = .ok (.iconst 4, 1) := zd zm_8151 (by decide +kernel)
theorem d_8151_37 {σ : Nat → Nat} {n0 : Nat} {bf : ab_B} : decode (ab_code (zx σ n0 bf).1 8151) 37 = .ok (.invokevirtual 541, 3) := zd zm_8151 (by decide +kernel)
theorem d_8151_40 {σ : Nat → Nat} {n0 : Nat} {bf : ab_B} : decode (ab_code (zx σ n0 bf).1 8151) 40 = .ok (.iconst 0, 1) := zd zm_8151 (by decide +kernel)
theorem d_8151_41 {σ : Nat → Nat} {n0 : Nat} {bf : ab_B} : decode (ab_code (zx σ n0 bf).1 8151) 41 = .ok (.ireturn, 1) := zd zm_8151 (by decide +kernel)
theorem d_8151_42 {σ : Nat → Nat} {n0 : Nat} {bf : ab_B} : decode (ab_code (zx σ n0 bf).1 8151) 42 = .ok (.iconst 1, 1) := zd zm_8151 (by decide +kernel)
theorem d_8151_43 {σ : Nat → Nat} {n0 : Nat} {bf : ab_B} : decode (ab_code (zx σ n0 bf).1 8151) 43 = .ok (.ireturn, 1) := zd zm_8151 (by decide +kernel)
def w_X9_newHere (X : zs_X) (d : Nat) (p0 : Nat) (S : zs_T) (Q : zs_Q) : Prop :=
  (zs_K S p0 = some (.inl 8) ∧ (((zs_I S 8010 p0) ≤ 0 → ((((zs_I S 8006 p0) = (1 : Int32) → (zs_C X d 8095 [.ref p0, .int (zs_I S 8009 p0)] S (zs_kI (fun v5 S4 => (((v5 = 0 → (Q (.returned (some (.int (1 : Int32)))) S4)) ∧ (¬ (v5 = 0) → (zs_K S4 p0 = some (.inl 8) ∧ zs_C X d 8027 [.ref p0, .int (4 : Int32)] S4 (zs_kV (fun S8 => (Q (.returned (some (.int (0 : Int32)))) S8)) Q)))))) Q))) ∧ (¬ ((zs_I S 8006 p0) = (1 : Int32)) → (zs_C X d 8027 [.ref p0, .int (2 : Int32)] S (zs_kV (fun S10 => (Q (.returned (some (.int (0 : Int32)))) S10)) Q)))))) ∧ (¬ ((zs_I S 8010 p0) ≤ 0) → (Q (.returned (some (.int (0 : Int32)))) S))))
theorem u_X9_newHere {σ : Nat → Nat} {n0 : Nat} {bf : ab_B} {d : Nat} {p0 : Nat} {S : zs_T} {Q : zs_Q} (hB : zt_B bf) (hd : 1 ≤ d) (h : w_X9_newHere (zx σ n0 bf) (d - 1) p0 S Q) : zs_C (zx σ n0 bf) d 8151 [.ref p0] S Q := by
  have hL : lv_args 0 [.ref p0] = [(0, .ref p0)] := rfl
  refine zs_C.of1 (hB.2 8151 (by decide) (by decide)) hd (by rw [hL]; exact zs_sub_self _ (by exact ⟨rfl, trivial⟩)) ?_
  rw [hL]
  clear hL
  unfold w_X9_newHere at h
  refine zu_aload_n d_8151_0 rfl (zs_ra _) ?_
  obtain ⟨k1, h⟩ := h
  refine zg_8_444 rfl d_8151_1 k1 ?_
  refine zu_ifle (t := 9) d_8151_4 rfl (fun c2 => ?_) (fun c2 => ?_)
  · have h := h.1 c2
    refine zu_aload_n d_8151_9 rfl (zs_ra _) ?_
    refine zg_8_484 rfl d_8151_10 k1 ?_
    refine zu_iconst d_8151_13 zi_1 ?_
    refine zu_cmpeq (t := 24) d_8151_14 rfl (fun c3 => ?_) (fun c3 => ?_)
    · have h := h.1 c3
      refine zu_aload_n d_8151_24 rfl (zs_ra _) ?_
      refine zu_aload_n d_8151_25 rfl (zs_ra _) ?_
      refine zg_8_494 rfl d_8151_26 k1 ?_
      refine zc_8_864 (x0 := (zs_I S 8009 p0)) hB rfl k1 d_8151_29 (Nat.le_of_ble_eq_true rfl) h (fun v5 S4 h => ?_)
      refine zu_ifeq (t := 42) d_8151_32 rfl (fun c6 => ?_) (fun c6 => ?_)
      · have h := h.1 c6
        refine zu_iconst d_8151_42 zi_1 ?_
        exact zu_iret d_8151_43 zr_8151 (zs_b_n (Or.inr rfl)) h
      · have h := h.2 c6
        refine zu_aload_n d_8151_35 rfl (zs_ra _) ?_
        refine zu_iconst d_8151_36 zi_4 ?_
        obtain ⟨k7, h⟩ := h
        refine zc_8_541 (x0 := (4 : Int32)) hB rfl k7 d_8151_37 (Nat.le_of_ble_eq_true rfl) h (fun S8 h => ?_)
        refine zu_iconst d_8151_40 zi_0 ?_
        exact zu_iret d_8151_41 zr_8151 (zs_b_n (Or.inl rfl)) h
    · have h := h.2 c3
      refine zu_aload_n d_8151_17 rfl (zs_ra _) ?_
      refine zu_iconst d_8151_18 zi_2 ?_
      refine zc_8_541 (x0 := (2 : Int32)) hB rfl k1 d_8151_19 (Nat.le_of_ble_eq_true rfl) h (fun S10 h => ?_)
      refine zu_iconst d_8151_22 zi_0 ?_
      exact zu_iret d_8151_23 zr_8151 (zs_b_n (Or.inl rfl)) h
  · have h := h.2 c2
    refine zu_iconst d_8151_7 zi_0 ?_
    exact zu_iret d_8151_8 zr_8151 (zs_b_n (Or.inl rfl)) h
/-! SchemaPascalModel.consted(I)V -/
theorem zm_8152 {σ : Nat → Nat} {n0 : Nat} {bf : ab_B} : ab_code (zx σ n0 bf).1 8152 = prog_17_method_142_code := rfl
theorem zq_8152 {σ : Nat → Nat} {n0 : Nat} {bf : ab_B} : ab_maxL (zx σ n0 bf).1 8152 = 6 := rfl
theorem zr_8152 {σ : Nat → Nat} {n0 : Nat} {bf : ab_B} : ab_ret (zx σ n0 bf).1 8152 = (Option.none : Option Jvm.ClassFile.FieldType) := rfl
theorem d_8152_0 {σ : Nat → Nat} {n0 : Nat} {bf : ab_B} : decode (ab_code (zx σ n0 bf).1 8152) 0 = .ok (.aload_n 0, 1) := zd zm_8152 (by decide +kernel)
theorem d_8152_1 {σ : Nat → Nat} {n0 : Nat} {bf : ab_B} : decode (ab_code (zx σ n0 bf).1 8152) 1 = .ok (.getfield 444, 3) := zd zm_8152 (by decide +kernel)
theorem d_8152_4 {σ : Nat → Nat} {n0 : Nat} {bf : ab_B} : decode (ab_code (zx σ n0 bf).1 8152) 4 = .ok (.ifCond .le 4, 3) := zd zm_8152 (by decide +kernel)
theorem d_8152_7 {σ : Nat → Nat} {n0 : Nat} {bf : ab_B} : decode (ab_code (zx σ n0 bf).1 8152) 7 = .ok (.return_, 1) := zd zm_8152 (by decide +kernel)
theorem d_8152_8 {σ : Nat → Nat} {n0 : Nat} {bf : ab_B} : decode (ab_code (zx σ n0 bf).1 8152) 8 = .ok (.aload_n 0, 1) := zd zm_8152 (by decide +kernel)
theorem d_8152_9 {σ : Nat → Nat} {n0 : Nat} {bf : ab_B} : decode (ab_code (zx σ n0 bf).1 8152) 9 = .ok (.getfield 653, 3) := zd zm_8152 (by decide +kernel)
theorem d_8152_12 {σ : Nat → Nat} {n0 : Nat} {bf : ab_B} : decode (ab_code (zx σ n0 bf).1 8152) 12 = .ok (.iconst 1, 1) := zd zm_8152 (by decide +kernel)
theorem d_8152_13 {σ : Nat → Nat} {n0 : Nat} {bf : ab_B} : decode (ab_code (zx σ n0 bf).1 8152) 13 = .ok (.isub, 1) := zd zm_8152 (by decide +kernel)
theorem d_8152_14 {σ : Nat → Nat} {n0 : Nat} {bf : ab_B} : decode (ab_code (zx σ n0 bf).1 8152) 14 = .ok (.istore_n 2, 1) := zd zm_8152 (by decide +kernel)
theorem d_8152_15 {σ : Nat → Nat} {n0 : Nat} {bf : ab_B} : decode (ab_code (zx σ n0 bf).1 8152) 15 = .ok (.aload_n 0, 1) := zd zm_8152 (by decide +kernel)
theorem d_8152_16 {σ : Nat → Nat} {n0 : Nat} {bf : ab_B} : decode (ab_code (zx σ n0 bf).1 8152) 16 = .ok (.getfield 200, 3) := zd zm_8152 (by decide +kernel)
theorem d_8152_19 {σ : Nat → Nat} {n0 : Nat} {bf : ab_B} : decode (ab_code (zx σ n0 bf).1 8152) 19 = .ok (.iload_n 2, 1) := zd zm_8152 (by decide +kernel)
theorem d_8152_20 {σ : Nat → Nat} {n0 : Nat} {bf : ab_B} : decode (ab_code (zx σ n0 bf).1 8152) 20 = .ok (.iaload, 1) := zd zm_8152 (by decide +kernel)
theorem d_8152_21 {σ : Nat → Nat} {n0 : Nat} {bf : ab_B} : decode (ab_code (zx σ n0 bf).1 8152) 21 = .ok (.bipush 32, 2) := zd zm_8152 (by decide +kernel)
theorem d_8152_23 {σ : Nat → Nat} {n0 : Nat} {bf : ab_B} : decode (ab_code (zx σ n0 bf).1 8152) 23 = .ok (.iand, 1) := zd zm_8152 (by decide +kernel)
theorem d_8152_24 {σ : Nat → Nat} {n0 : Nat} {bf : ab_B} : decode (ab_code (zx σ n0 bf).1 8152) 24 = .ok (.ifCond .eq 75, 3) := zd zm_8152 (by decide +kernel)
theorem d_8152_27 {σ : Nat → Nat} {n0 : Nat} {bf : ab_B} : decode (ab_code (zx σ n0 bf).1 8152) 27 = .ok (.aload_n 0, 1) := zd zm_8152 (by decide +kernel)
theorem d_8152_28 {σ : Nat → Nat} {n0 : Nat} {bf : ab_B} : decode (ab_code (zx σ n0 bf).1 8152) 28 = .ok (.getfield 556, 3) := zd zm_8152 (by decide +kernel)
theorem d_8152_31 {σ : Nat → Nat} {n0 : Nat} {bf : ab_B} : decode (ab_code (zx σ n0 bf).1 8152) 31 = .ok (.iconst 1, 1) := zd zm_8152 (by decide +kernel)
theorem d_8152_32 {σ : Nat → Nat} {n0 : Nat} {bf : ab_B} : decode (ab_code (zx σ n0 bf).1 8152) 32 = .ok (.isub, 1) := zd zm_8152 (by decide +kernel)
theorem d_8152_33 {σ : Nat → Nat} {n0 : Nat} {bf : ab_B} : decode (ab_code (zx σ n0 bf).1 8152) 33 = .ok (.istore_n 3, 1) := zd zm_8152 (by decide +kernel)
theorem d_8152_34 {σ : Nat → Nat} {n0 : Nat} {bf : ab_B} : decode (ab_code (zx σ n0 bf).1 8152) 34 = .ok (.aload_n 0, 1) := zd zm_8152 (by decide +kernel)
theorem d_8152_35 {σ : Nat → Nat} {n0 : Nat} {bf : ab_B} : decode (ab_code (zx σ n0 bf).1 8152) 35 = .ok (.getfield 75, 3) := zd zm_8152 (by decide +kernel)
theorem d_8152_38 {σ : Nat → Nat} {n0 : Nat} {bf : ab_B} : decode (ab_code (zx σ n0 bf).1 8152) 38 = .ok (.iload_n 3, 1) := zd zm_8152 (by decide +kernel)
theorem d_8152_39 {σ : Nat → Nat} {n0 : Nat} {bf : ab_B} : decode (ab_code (zx σ n0 bf).1 8152) 39 = .ok (.iaload, 1) := zd zm_8152 (by decide +kernel)
theorem d_8152_40 {σ : Nat → Nat} {n0 : Nat} {bf : ab_B} : decode (ab_code (zx σ n0 bf).1 8152) 40 = .ok (.istore 4, 2) := zd zm_8152 (by decide +kernel)
theorem d_8152_42 {σ : Nat → Nat} {n0 : Nat} {bf : ab_B} : decode (ab_code (zx σ n0 bf).1 8152) 42 = .ok (.aload_n 0, 1) := zd zm_8152 (by decide +kernel)
theorem d_8152_43 {σ : Nat → Nat} {n0 : Nat} {bf : ab_B} : decode (ab_code (zx σ n0 bf).1 8152) 43 = .ok (.getfield 78, 3) := zd zm_8152 (by decide +kernel)
theorem d_8152_46 {σ : Nat → Nat} {n0 : Nat} {bf : ab_B} : decode (ab_code (zx σ n0 bf).1 8152) 46 = .ok (.iload_n 3, 1) := zd zm_8152 (by decide +kernel)
theorem d_8152_47 {σ : Nat → Nat} {n0 : Nat} {bf : ab_B} : decode (ab_code (zx σ n0 bf).1 8152) 47 = .ok (.iaload, 1) := zd zm_8152 (by decide +kernel)
theorem d_8152_48 {σ : Nat → Nat} {n0 : Nat} {bf : ab_B} : decode (ab_code (zx σ n0 bf).1 8152) 48 = .ok (.istore 5, 2) := zd zm_8152 (by decide +kernel)
theorem d_8152_50 {σ : Nat → Nat} {n0 : Nat} {bf : ab_B} : decode (ab_code (zx σ n0 bf).1 8152) 50 = .ok (.aload_n 0, 1) := zd zm_8152 (by decide +kernel)
theorem d_8152_51 {σ : Nat → Nat} {n0 : Nat} {bf : ab_B} : decode (ab_code (zx σ n0 bf).1 8152) 51 = .ok (.aload_n 0, 1) := zd zm_8152 (by decide +kernel)
theorem d_8152_52 {σ : Nat → Nat} {n0 : Nat} {bf : ab_B} : decode (ab_code (zx σ n0 bf).1 8152) 52 = .ok (.getfield 203, 3) := zd zm_8152 (by decide +kernel)
theorem d_8152_55 {σ : Nat → Nat} {n0 : Nat} {bf : ab_B} : decode (ab_code (zx σ n0 bf).1 8152) 55 = .ok (.iload_n 2, 1) := zd zm_8152 (by decide +kernel)
theorem d_8152_56 {σ : Nat → Nat} {n0 : Nat} {bf : ab_B} : decode (ab_code (zx σ n0 bf).1 8152) 56 = .ok (.iaload, 1) := zd zm_8152 (by decide +kernel)
theorem d_8152_57 {σ : Nat → Nat} {n0 : Nat} {bf : ab_B} : decode (ab_code (zx σ n0 bf).1 8152) 57 = .ok (.putfield 556, 3) := zd zm_8152 (by decide +kernel)
theorem d_8152_60 {σ : Nat → Nat} {n0 : Nat} {bf : ab_B} : decode (ab_code (zx σ n0 bf).1 8152) 60 = .ok (.aload_n 0, 1) := zd zm_8152 (by decide +kernel)
theorem d_8152_61 {σ : Nat → Nat} {n0 : Nat} {bf : ab_B} : decode (ab_code (zx σ n0 bf).1 8152) 61 = .ok (.dup, 1) := zd zm_8152 (by decide +kernel)
theorem d_8152_62 {σ : Nat → Nat} {n0 : Nat} {bf : ab_B} : decode (ab_code (zx σ n0 bf).1 8152) 62 = .ok (.getfield 653, 3) := zd zm_8152 (by decide +kernel)
theorem d_8152_65 {σ : Nat → Nat} {n0 : Nat} {bf : ab_B} : decode (ab_code (zx σ n0 bf).1 8152) 65 = .ok (.iconst 1, 1) := zd zm_8152 (by decide +kernel)
theorem d_8152_66 {σ : Nat → Nat} {n0 : Nat} {bf : ab_B} : decode (ab_code (zx σ n0 bf).1 8152) 66 = .ok (.isub, 1) := zd zm_8152 (by decide +kernel)
theorem d_8152_67 {σ : Nat → Nat} {n0 : Nat} {bf : ab_B} : decode (ab_code (zx σ n0 bf).1 8152) 67 = .ok (.putfield 653, 3) := zd zm_8152 (by decide +kernel)
theorem d_8152_70 {σ : Nat → Nat} {n0 : Nat} {bf : ab_B} : decode (ab_code (zx σ n0 bf).1 8152) 70 = .ok (.aload_n 0, 1) := zd zm_8152 (by decide +kernel)
theorem d_8152_71 {σ : Nat → Nat} {n0 : Nat} {bf : ab_B} : decode (ab_code (zx σ n0 bf).1 8152) 71 = .ok (.bipush 13, 2) := zd zm_8152 (by decide +kernel)
theorem d_8152_73 {σ : Nat → Nat} {n0 : Nat} {bf : ab_B} : decode (ab_code (zx σ n0 bf).1 8152) 73 = .ok (.invokevirtual 746, 3) := zd zm_8152 (by decide +kernel)
theorem d_8152_76 {σ : Nat → Nat} {n0 : Nat} {bf : ab_B} : decode (ab_code (zx σ n0 bf).1 8152) 76 = .ok (.aload_n 0, 1) := zd zm_8152 (by decide +kernel)
theorem d_8152_77 {σ : Nat → Nat} {n0 : Nat} {bf : ab_B} : decode (ab_code (zx σ n0 bf).1 8152) 77 = .ok (.getfield 444, 3) := zd zm_8152 (by decide +kernel)
theorem d_8152_80 {σ : Nat → Nat} {n0 : Nat} {bf : ab_B} : decode (ab_code (zx σ n0 bf).1 8152) 80 = .ok (.ifCond .ne 16, 3) := zd zm_8152 (by decide +kernel)
theorem d_8152_83 {σ : Nat → Nat} {n0 : Nat} {bf : ab_B} : decode (ab_code (zx σ n0 bf).1 8152) 83 = .ok (.aload_n 0, 1) := zd zm_8152 (by decide +kernel)
theorem d_8152_84 {σ : Nat → Nat} {n0 : Nat} {bf : ab_B} : decode (ab_code (zx σ n0 bf).1 8152) 84 = .ok (.iload_n 1, 1) := zd zm_8152 (by decide +kernel)
theorem d_8152_85 {σ : Nat → Nat} {n0 : Nat} {bf : ab_B} : decode (ab_code (zx σ n0 bf).1 8152) 85 = .ok (.iconst 1, 1) := zd zm_8152 (by decide +kernel)
theorem d_8152_86 {σ : Nat → Nat} {n0 : Nat} {bf : ab_B} : decode (ab_code (zx σ n0 bf).1 8152) 86 = .ok (.bipush 6, 2) := zd zm_8152 (by decide +kernel)
theorem d_8152_88 {σ : Nat → Nat} {n0 : Nat} {bf : ab_B} : decode (ab_code (zx σ n0 bf).1 8152) 88 = .ok (.iload 4, 2) := zd zm_8152 (by decide +kernel)
theorem d_8152_90 {σ : Nat → Nat} {n0 : Nat} {bf : ab_B} : decode (ab_code (zx σ n0 bf).1 8152) 90 = .ok (.iload 5, 2) := zd zm_8152 (by decide +kernel)
theorem d_8152_92 {σ : Nat → Nat} {n0 : Nat} {bf : ab_B} : decode (ab_code (zx σ n0 bf).1 8152) 92 = .ok (.invokevirtual 606, 3) := zd zm_8152 (by decide +kernel)
theorem d_8152_95 {σ : Nat → Nat} {n0 : Nat} {bf : ab_B} : decode (ab_code (zx σ n0 bf).1 8152) 95 = .ok (.istore_n 3, 1) := zd zm_8152 (by decide +kernel)
theorem d_8152_96 {σ : Nat → Nat} {n0 : Nat} {bf : ab_B} : decode (ab_code (zx σ n0 bf).1 8152) 96 = .ok (.goto 80, 3) := zd zm_8152 (by decide +kernel)
theorem d_8152_99 {σ : Nat → Nat} {n0 : Nat} {bf : ab_B} : decode (ab_code (zx σ n0 bf).1 8152) 99 = .ok (.aload_n 0, 1) := zd zm_8152 (by decide +kernel)
theorem d_8152_100 {σ : Nat → Nat} {n0 : Nat} {bf : ab_B} : decode (ab_code (zx σ n0 bf).1 8152) 100 = .ok (.invokevirtual 660, 3) := zd zm_8152 (by decide +kernel)
theorem d_8152_103 {σ : Nat → Nat} {n0 : Nat} {bf : ab_B} : decode (ab_code (zx σ n0 bf).1 8152) 103 = .ok (.aload_n 0, 1) := zd zm_8152 (by decide +kernel)
theorem d_8152_104 {σ : Nat → Nat} {n0 : Nat} {bf : ab_B} : decode (ab_code (zx σ n0 bf).1 8152) 104 = .ok (.getfield 444, 3) := zd zm_8152 (by decide +kernel)
theorem d_8152_107 {σ : Nat → Nat} {n0 : Nat} {bf : ab_B} : decode (ab_code (zx σ n0 bf).1 8152) 107 = .ok (.ifCond .le 4, 3) := zd zm_8152 (by decide +kernel)
theorem d_8152_110 {σ : Nat → Nat} {n0 : Nat} {bf : ab_B} : decode (ab_code (zx σ n0 bf).1 8152) 110 = .ok (.return_, 1) := zd zm_8152 (by decide +kernel)
theorem d_8152_111 {σ : Nat → Nat} {n0 : Nat} {bf : ab_B} : decode (ab_code (zx σ n0 bf).1 8152) 111 = .ok (.aload_n 0, 1) := zd zm_8152 (by decide +kernel)
theorem d_8152_112 {σ : Nat → Nat} {n0 : Nat} {bf : ab_B} : decode (ab_code (zx σ n0 bf).1 8152) 112 = .ok (.getfield 197, 3) := zd zm_8152 (by decide +kernel)
theorem d_8152_115 {σ : Nat → Nat} {n0 : Nat} {bf : ab_B} : decode (ab_code (zx σ n0 bf).1 8152) 115 = .ok (.iload_n 2, 1) := zd zm_8152 (by decide +kernel)
theorem d_8152_116 {σ : Nat → Nat} {n0 : Nat} {bf : ab_B} : decode (ab_code (zx σ n0 bf).1 8152) 116 = .ok (.baload, 1) := zd zm_8152 (by decide +kernel)
theorem d_8152_117 {σ : Nat → Nat} {n0 : Nat} {bf : ab_B} : decode (ab_code (zx σ n0 bf).1 8152) 117 = .ok (.ifCond .eq 10, 3) := zd zm_8152 (by decide +kernel)
theorem d_8152_120 {σ : Nat → Nat} {n0 : Nat} {bf : ab_B} : decode (ab_code (zx σ n0 bf).1 8152) 120 = .ok (.aload_n 0, 1) := zd zm_8152 (by decide +kernel)
theorem d_8152_121 {σ : Nat → Nat} {n0 : Nat} {bf : ab_B} : decode (ab_code (zx σ n0 bf).1 8152) 121 = .ok (.invokevirtual 877, 3) := zd zm_8152 (by decide +kernel)
theorem d_8152_124 {σ : Nat → Nat} {n0 : Nat} {bf : ab_B} : decode (ab_code (zx σ n0 bf).1 8152) 124 = .ok (.ifCond .eq 9, 3) := zd zm_8152 (by decide +kernel)
theorem d_8152_127 {σ : Nat → Nat} {n0 : Nat} {bf : ab_B} : decode (ab_code (zx σ n0 bf).1 8152) 127 = .ok (.aload_n 0, 1) := zd zm_8152 (by decide +kernel)
theorem d_8152_128 {σ : Nat → Nat} {n0 : Nat} {bf : ab_B} : decode (ab_code (zx σ n0 bf).1 8152) 128 = .ok (.iconst 5, 1) := zd zm_8152 (by decide +kernel)
theorem d_8152_129 {σ : Nat → Nat} {n0 : Nat} {bf : ab_B} : decode (ab_code (zx σ n0 bf).1 8152) 129 = .ok (.invokevirtual 541, 3) := zd zm_8152 (by decide +kernel)
theorem d_8152_132 {σ : Nat → Nat} {n0 : Nat} {bf : ab_B} : decode (ab_code (zx σ n0 bf).1 8152) 132 = .ok (.return_, 1) := zd zm_8152 (by decide +kernel)
theorem d_8152_133 {σ : Nat → Nat} {n0 : Nat} {bf : ab_B} : decode (ab_code (zx σ n0 bf).1 8152) 133 = .ok (.aload_n 0, 1) := zd zm_8152 (by decide +kernel)
theorem d_8152_134 {σ : Nat → Nat} {n0 : Nat} {bf : ab_B} : decode (ab_code (zx σ n0 bf).1 8152) 134 = .ok (.aload_n 0, 1) := zd zm_8152 (by decide +kernel)
theorem d_8152_135 {σ : Nat → Nat} {n0 : Nat} {bf : ab_B} : decode (ab_code (zx σ n0 bf).1 8152) 135 = .ok (.getfield 191, 3) := zd zm_8152 (by decide +kernel)
theorem d_8152_138 {σ : Nat → Nat} {n0 : Nat} {bf : ab_B} : decode (ab_code (zx σ n0 bf).1 8152) 138 = .ok (.iload_n 2, 1) := zd zm_8152 (by decide +kernel)
theorem d_8152_139 {σ : Nat → Nat} {n0 : Nat} {bf : ab_B} : decode (ab_code (zx σ n0 bf).1 8152) 139 = .ok (.iaload, 1) := zd zm_8152 (by decide +kernel)
theorem d_8152_140 {σ : Nat → Nat} {n0 : Nat} {bf : ab_B} : decode (ab_code (zx σ n0 bf).1 8152) 140 = .ok (.invokevirtual 561, 3) := zd zm_8152 (by decide +kernel)
theorem d_8152_143 {σ : Nat → Nat} {n0 : Nat} {bf : ab_B} : decode (ab_code (zx σ n0 bf).1 8152) 143 = .ok (.istore_n 3, 1) := zd zm_8152 (by decide +kernel)
theorem d_8152_144 {σ : Nat → Nat} {n0 : Nat} {bf : ab_B} : decode (ab_code (zx σ n0 bf).1 8152) 144 = .ok (.aload_n 0, 1) := zd zm_8152 (by decide +kernel)
theorem d_8152_145 {σ : Nat → Nat} {n0 : Nat} {bf : ab_B} : decode (ab_code (zx σ n0 bf).1 8152) 145 = .ok (.invokevirtual 880, 3) := zd zm_8152 (by decide +kernel)
theorem d_8152_148 {σ : Nat → Nat} {n0 : Nat} {bf : ab_B} : decode (ab_code (zx σ n0 bf).1 8152) 148 = .ok (.l2i, 1) := zd zm_8152 (by decide +kernel)
theorem d_8152_149 {σ : Nat → Nat} {n0 : Nat} {bf : ab_B} : decode (ab_code (zx σ n0 bf).1 8152) 149 = .ok (.istore 4, 2) := zd zm_8152 (by decide +kernel)
theorem d_8152_151 {σ : Nat → Nat} {n0 : Nat} {bf : ab_B} : decode (ab_code (zx σ n0 bf).1 8152) 151 = .ok (.aload_n 0, 1) := zd zm_8152 (by decide +kernel)
theorem d_8152_152 {σ : Nat → Nat} {n0 : Nat} {bf : ab_B} : decode (ab_code (zx σ n0 bf).1 8152) 152 = .ok (.bipush 13, 2) := zd zm_8152 (by decide +kernel)
theorem d_8152_154 {σ : Nat → Nat} {n0 : Nat} {bf : ab_B} : decode (ab_code (zx σ n0 bf).1 8152) 154 = .ok (.invokevirtual 746, 3) := zd zm_8152 (by decide +kernel)
theorem d_8152_157 {σ : Nat → Nat} {n0 : Nat} {bf : ab_B} : decode (ab_code (zx σ n0 bf).1 8152) 157 = .ok (.aload_n 0, 1) := zd zm_8152 (by decide +kernel)
theorem d_8152_158 {σ : Nat → Nat} {n0 : Nat} {bf : ab_B} : decode (ab_code (zx σ n0 bf).1 8152) 158 = .ok (.getfield 444, 3) := zd zm_8152 (by decide +kernel)
theorem d_8152_161 {σ : Nat → Nat} {n0 : Nat} {bf : ab_B} : decode (ab_code (zx σ n0 bf).1 8152) 161 = .ok (.ifCond .ne 15, 3) := zd zm_8152 (by decide +kernel)
theorem d_8152_164 {σ : Nat → Nat} {n0 : Nat} {bf : ab_B} : decode (ab_code (zx σ n0 bf).1 8152) 164 = .ok (.aload_n 0, 1) := zd zm_8152 (by decide +kernel)
theorem d_8152_165 {σ : Nat → Nat} {n0 : Nat} {bf : ab_B} : decode (ab_code (zx σ n0 bf).1 8152) 165 = .ok (.iload_n 1, 1) := zd zm_8152 (by decide +kernel)
theorem d_8152_166 {σ : Nat → Nat} {n0 : Nat} {bf : ab_B} : decode (ab_code (zx σ n0 bf).1 8152) 166 = .ok (.iconst 1, 1) := zd zm_8152 (by decide +kernel)
theorem d_8152_167 {σ : Nat → Nat} {n0 : Nat} {bf : ab_B} : decode (ab_code (zx σ n0 bf).1 8152) 167 = .ok (.iload_n 3, 1) := zd zm_8152 (by decide +kernel)
theorem d_8152_168 {σ : Nat → Nat} {n0 : Nat} {bf : ab_B} : decode (ab_code (zx σ n0 bf).1 8152) 168 = .ok (.iload 4, 2) := zd zm_8152 (by decide +kernel)
theorem d_8152_170 {σ : Nat → Nat} {n0 : Nat} {bf : ab_B} : decode (ab_code (zx σ n0 bf).1 8152) 170 = .ok (.iconst 0, 1) := zd zm_8152 (by decide +kernel)
theorem d_8152_171 {σ : Nat → Nat} {n0 : Nat} {bf : ab_B} : decode (ab_code (zx σ n0 bf).1 8152) 171 = .ok (.invokevirtual 606, 3) := zd zm_8152 (by decide +kernel)
theorem d_8152_174 {σ : Nat → Nat} {n0 : Nat} {bf : ab_B} : decode (ab_code (zx σ n0 bf).1 8152) 174 = .ok (.istore 5, 2) := zd zm_8152 (by decide +kernel)
theorem d_8152_176 {σ : Nat → Nat} {n0 : Nat} {bf : ab_B} : decode (ab_code (zx σ n0 bf).1 8152) 176 = .ok (.aload_n 0, 1) := zd zm_8152 (by decide +kernel)
theorem d_8152_177 {σ : Nat → Nat} {n0 : Nat} {bf : ab_B} : decode (ab_code (zx σ n0 bf).1 8152) 177 = .ok (.bipush 61, 2) := zd zm_8152 (by decide +kernel)
theorem d_8152_179 {σ : Nat → Nat} {n0 : Nat} {bf : ab_B} : decode (ab_code (zx σ n0 bf).1 8152) 179 = .ok (.iconst 0, 1) := zd zm_8152 (by decide +kernel)
theorem d_8152_180 {σ : Nat → Nat} {n0 : Nat} {bf : ab_B} : decode (ab_code (zx σ n0 bf).1 8152) 180 = .ok (.iconst 0, 1) := zd zm_8152 (by decide +kernel)
theorem d_8152_181 {σ : Nat → Nat} {n0 : Nat} {bf : ab_B} : decode (ab_code (zx σ n0 bf).1 8152) 181 = .ok (.iconst 0, 1) := zd zm_8152 (by decide +kernel)
theorem d_8152_182 {σ : Nat → Nat} {n0 : Nat} {bf : ab_B} : decode (ab_code (zx σ n0 bf).1 8152) 182 = .ok (.invokevirtual 649, 3) := zd zm_8152 (by decide +kernel)
theorem d_8152_185 {σ : Nat → Nat} {n0 : Nat} {bf : ab_B} : decode (ab_code (zx σ n0 bf).1 8152) 185 = .ok (.return_, 1) := zd zm_8152 (by decide +kernel)
def w_X9_consted_176 (X : zs_X) (d : Nat) (p0 : Nat) (S : zs_T) (Q : zs_Q) : Prop :=
  (zs_K S p0 = some (.inl 8) ∧ zs_C X d 8030 [.ref p0, .int (61 : Int32), .int (0 : Int32), .int (0 : Int32), .int (0 : Int32)] S (zs_kV (fun S2 => (Q (.returned none) S2)) Q))
theorem u_X9_consted_176 {σ : Nat → Nat} {n0 : Nat} {bf : ab_B} {d : Nat} {p0 : Nat} {S : zs_T} {Q : zs_Q} (hB : zt_B bf) (h : w_X9_consted_176 (zx σ n0 bf) d p0 S Q) : zs_U (zx σ n0 bf) d 8152 176 [(0, .ref p0)] [] S Q := by
  unfold w_X9_consted_176 at h
  refine zu_aload_n d_8152_176 rfl (zs_ra _) ?_
  refine zu_bipush d_8152_177 zj_61 ?_
  refine zu_iconst d_8152_179 zi_0 ?_
  refine zu_iconst d_8152_180 zi_0 ?_
  refine zu_iconst d_8152_181 zi_0 ?_
  obtain ⟨k1, h⟩ := h
  refine zc_8_649 (x0 := (61 : Int32)) (x1 := (0 : Int32)) (x2 := (0 : Int32)) (x3 := (0 : Int32)) hB rfl k1 d_8152_182 (Nat.le_of_ble_eq_true rfl) h (fun S2 h => ?_)
  exact zu_vret d_8152_185 zr_8152 h
def w_X9_consted_96 (X : zs_X) (d : Nat) (p0 : Nat) (S : zs_T) (Q : zs_Q) : Prop :=
  (w_X9_consted_176 X d p0 S Q)
theorem u_X9_consted_96 {σ : Nat → Nat} {n0 : Nat} {bf : ab_B} {d : Nat} {p0 : Nat} {S : zs_T} {Q : zs_Q} (hB : zt_B bf) (h : w_X9_consted_96 (zx σ n0 bf) d p0 S Q) : zs_U (zx σ n0 bf) d 8152 96 [(0, .ref p0)] [] S Q := by
  unfold w_X9_consted_96 at h
  refine zu_goto (t := 176) d_8152_96 rfl ?_
  exact (u_X9_consted_176 hB h).weak ⟨rfl, trivial⟩
def w_X9_consted_60 (X : zs_X) (d : Nat) (p0 : Nat) (p1 : Int32) (p4 : Int32) (p5 : Int32) (S : zs_T) (Q : zs_Q) : Prop :=
  (zs_K S p0 = some (.inl 8) ∧ ab_n0 X.1 ≤ p0 ∧ ∀ S3, S3 = zs_sI S 8097 p0 ((zs_I S 8097 p0) - (1 : Int32)) → zs_C X d 8028 [.ref p0, .int (13 : Int32)] S3 (zs_kV (fun S6 => (zs_K S6 p0 = some (.inl 8) ∧ ((¬ (zs_I S6 8010 p0) = 0 → w_X9_consted_96 X d p0 S6 Q) ∧ (¬ (¬ (zs_I S6 8010 p0) = 0) → (zs_C X d 8011 [.ref p0, .int p1, .int (1 : Int32), .int (6 : Int32), .int p4, .int p5] S6 (zs_kI (fun v11 S10 => (w_X9_consted_96 X d p0 S10 Q)) Q)))))) Q))
theorem u_X9_consted_60 {σ : Nat → Nat} {n0 : Nat} {bf : ab_B} {d : Nat} {p0 : Nat} {p1 : Int32} {p4 : Int32} {p5 : Int32} {S : zs_T} {Q : zs_Q} (hB : zt_B bf) (h : w_X9_consted_60 (zx σ n0 bf) d p0 p1 p4 p5 S Q) : zs_U (zx σ n0 bf) d 8152 60 [(0, .ref p0), (1, .int p1), (4, .int p4), (5, .int p5)] [] S Q := by
  unfold w_X9_consted_60 at h
  refine zu_aload_n d_8152_60 rfl (zs_ra _) ?_
  refine zu_dup d_8152_61 rfl ?_
  obtain ⟨k1, h⟩ := h
  refine zg_8_653 rfl d_8152_62 k1 ?_
  refine zu_iconst d_8152_65 zi_1 ?_
  refine zu_stk d_8152_66 rfl rfl ?_
  obtain ⟨k2, h⟩ := h
  refine zp_8_653 (v := ((zs_I S 8097 p0) - (1 : Int32))) rfl d_8152_67 k1 k2 ?_
  generalize e4 : zs_sI S 8097 p0 ((zs_I S 8097 p0) - (1 : Int32)) = S3
  have h := h S3 e4.symm
  have K5 : ∀ b, zs_K S3 b = zs_K S b := zs_Kt e4 (zs_KsI _ _ _ _) (fun _ => rfl)
  refine zu_aload_n d_8152_70 rfl (zs_ra _) ?_
  refine zu_bipush d_8152_71 zj_13 ?_
  refine zc_8_746 (x0 := (13 : Int32)) hB rfl ((K5 _).trans k1) d_8152_73 (Nat.le_of_ble_eq_true rfl) h (fun S6 h => ?_)
  refine zu_aload_n d_8152_76 rfl (zs_ra _) ?_
  obtain ⟨k8, h⟩ := h
  refine zg_8_444 rfl d_8152_77 k8 ?_
  refine zu_ifne (t := 96) d_8152_80 rfl (fun c9 => ?_) (fun c9 => ?_)
  · have h := h.1 c9
    exact (u_X9_consted_96 hB h).weak ⟨rfl, trivial⟩
  · have h := h.2 c9
    refine zu_aload_n d_8152_83 rfl (zs_ra _) ?_
    refine zu_iload_n d_8152_84 rfl ?_
    refine zu_iconst d_8152_85 zi_1 ?_
    refine zu_bipush d_8152_86 zj_6 ?_
    refine zu_iload d_8152_88 rfl ?_
    refine zu_iload d_8152_90 rfl ?_
    refine zc_8_606 (x0 := p1) (x1 := (1 : Int32)) (x2 := (6 : Int32)) (x3 := p4) (x4 := p5) hB rfl k8 d_8152_92 (Nat.le_of_ble_eq_true rfl) h (fun v11 S10 h => ?_)
    refine zu_istore_n d_8152_95 (zs_lt zq_8152 rfl) ?_
    exact (u_X9_consted_96 hB h).weak ⟨rfl, trivial⟩
def w_X9_consted_34 (X : zs_X) (d : Nat) (p0 : Nat) (p1 : Int32) (p2 : Int32) (p3 : Int32) (S : zs_T) (Q : zs_Q) : Prop :=
  (zs_K S p0 = some (.inl 8) ∧ ∃ b2, (zs_R S 8037 p0) = some b2 ∧ zs_A S b2 0 p3 ∧ ∃ b5, (zs_R S 8038 p0) = some b5 ∧ zs_A S b5 0 p3 ∧ ∃ b8, (zs_R S 8095 p0) = some b8 ∧ zs_A S b8 0 p2 ∧ ab_n0 X.1 ≤ p0 ∧ ∀ S12, S12 = zs_sI S 8040 p0 (zs_i S b8 p2.toNatClampNeg) → w_X9_consted_60 X d p0 p1 (zs_i S b2 p3.toNatClampNeg) (zs_i S b5 p3.toNatClampNeg) S12 Q)
theorem u_X9_consted_34 {σ : Nat → Nat} {n0 : Nat} {bf : ab_B} {d : Nat} {p0 : Nat} {p1 : Int32} {p2 : Int32} {p3 : Int32} {S : zs_T} {Q : zs_Q} (hB : zt_B bf) (h : w_X9_consted_34 (zx σ n0 bf) d p0 p1 p2 p3 S Q) : zs_U (zx σ n0 bf) d 8152 34 [(0, .ref p0), (1, .int p1), (2, .int p2), (3, .int p3)] [] S Q := by
  unfold w_X9_consted_34 at h
  refine zu_aload_n d_8152_34 rfl (zs_ra _) ?_
  obtain ⟨k1, h⟩ := h
  refine zg_8_75 rfl d_8152_35 k1 ?_
  refine zu_iload_n d_8152_38 rfl ?_
  obtain ⟨b2, e3, h⟩ := h
  refine zs_stk1 (zs_rfe e3) ?_
  obtain ⟨k4, h⟩ := h
  refine zu_iald (k := 0) d_8152_39 rfl rfl k4 ?_
  refine zu_istore d_8152_40 (zs_lt zq_8152 rfl) ?_
  refine zu_aload_n d_8152_42 rfl (zs_ra _) ?_
  refine zg_8_78 rfl d_8152_43 k1 ?_
  refine zu_iload_n d_8152_46 rfl ?_
  obtain ⟨b5, e6, h⟩ := h
  refine zs_stk1 (zs_rfe e6) ?_
  obtain ⟨k7, h⟩ := h
  refine zu_iald (k := 0) d_8152_47 rfl rfl k7 ?_
  refine zu_istore d_8152_48 (zs_lt zq_8152 rfl) ?_
  refine zu_aload_n d_8152_50 rfl (zs_ra _) ?_
  refine zu_aload_n d_8152_51 rfl (zs_ra _) ?_
  refine zg_8_203 rfl d_8152_52 k1 ?_
  refine zu_iload_n d_8152_55 rfl ?_
  obtain ⟨b8, e9, h⟩ := h
  refine zs_stk1 (zs_rfe e9) ?_
  obtain ⟨k10, h⟩ := h
  refine zu_iald (k := 0) d_8152_56 rfl rfl k10 ?_
  obtain ⟨k11, h⟩ := h
  refine zp_8_556 (v := (zs_i S b8 p2.toNatClampNeg)) rfl d_8152_57 k1 k11 ?_
  generalize e13 : zs_sI S 8040 p0 (zs_i S b8 p2.toNatClampNeg) = S12
  have h := h S12 e13.symm
  have K14 : ∀ b, zs_K S12 b = zs_K S b := zs_Kt e13 (zs_KsI _ _ _ _) (fun _ => rfl)
  exact (u_X9_consted_60 hB h).weak ⟨rfl, rfl, rfl, rfl, trivial⟩
def w_X9_consted_127 (X : zs_X) (d : Nat) (p0 : Nat) (S : zs_T) (Q : zs_Q) : Prop :=
  (zs_K S p0 = some (.inl 8) ∧ zs_C X d 8027 [.ref p0, .int (5 : Int32)] S (zs_kV (fun S2 => (Q (.returned none) S2)) Q))
theorem u_X9_consted_127 {σ : Nat → Nat} {n0 : Nat} {bf : ab_B} {d : Nat} {p0 : Nat} {S : zs_T} {Q : zs_Q} (hB : zt_B bf) (h : w_X9_consted_127 (zx σ n0 bf) d p0 S Q) : zs_U (zx σ n0 bf) d 8152 127 [(0, .ref p0)] [] S Q := by
  unfold w_X9_consted_127 at h
  refine zu_aload_n d_8152_127 rfl (zs_ra _) ?_
  refine zu_iconst d_8152_128 zi_5 ?_
  obtain ⟨k1, h⟩ := h
  refine zc_8_541 (x0 := (5 : Int32)) hB rfl k1 d_8152_129 (Nat.le_of_ble_eq_true rfl) h (fun S2 h => ?_)
  exact zu_vret d_8152_132 zr_8152 h
def w_X9_consted_144 (X : zs_X) (d : Nat) (p0 : Nat) (p1 : Int32) (p3 : Int32) (S : zs_T) (Q : zs_Q) : Prop :=
  (zs_K S p0 = some (.inl 8) ∧ zs_C X d 8102 [.ref p0] S (zs_kJ (fun v3 S2 => (zs_K S2 p0 = some (.inl 8) ∧ zs_C X d 8028 [.ref p0, .int (13 : Int32)] S2 (zs_kV (fun S5 => (zs_K S5 p0 = some (.inl 8) ∧ ((¬ (zs_I S5 8010 p0) = 0 → w_X9_consted_176 X d p0 S5 Q) ∧ (¬ (¬ (zs_I S5 8010 p0) = 0) → (zs_C X d 8011 [.ref p0, .int p1, .int (1 : Int32), .int p3, .int ((v3).toInt32), .int (0 : Int32)] S5 (zs_kI (fun v10 S9 => (w_X9_consted_176 X d p0 S9 Q)) Q)))))) Q))) Q))
theorem u_X9_consted_144 {σ : Nat → Nat} {n0 : Nat} {bf : ab_B} {d : Nat} {p0 : Nat} {p1 : Int32} {p3 : Int32} {S : zs_T} {Q : zs_Q} (hB : zt_B bf) (h : w_X9_consted_144 (zx σ n0 bf) d p0 p1 p3 S Q) : zs_U (zx σ n0 bf) d 8152 144 [(0, .ref p0), (1, .int p1), (3, .int p3)] [] S Q := by
  unfold w_X9_consted_144 at h
  refine zu_aload_n d_8152_144 rfl (zs_ra _) ?_
  obtain ⟨k1, h⟩ := h
  refine zc_8_880  hB rfl k1 d_8152_145 (Nat.le_of_ble_eq_true rfl) h (fun v3 S2 h => ?_)
  refine zu_stk d_8152_148 rfl rfl ?_
  refine zu_istore d_8152_149 (zs_lt zq_8152 rfl) ?_
  refine zu_aload_n d_8152_151 rfl (zs_ra _) ?_
  refine zu_bipush d_8152_152 zj_13 ?_
  obtain ⟨k4, h⟩ := h
  refine zc_8_746 (x0 := (13 : Int32)) hB rfl k4 d_8152_154 (Nat.le_of_ble_eq_true rfl) h (fun S5 h => ?_)
  refine zu_aload_n d_8152_157 rfl (zs_ra _) ?_
  obtain ⟨k7, h⟩ := h
  refine zg_8_444 rfl d_8152_158 k7 ?_
  refine zu_ifne (t := 176) d_8152_161 rfl (fun c8 => ?_) (fun c8 => ?_)
  · have h := h.1 c8
    exact (u_X9_consted_176 hB h).weak ⟨rfl, trivial⟩
  · have h := h.2 c8
    refine zu_aload_n d_8152_164 rfl (zs_ra _) ?_
    refine zu_iload_n d_8152_165 rfl ?_
    refine zu_iconst d_8152_166 zi_1 ?_
    refine zu_iload_n d_8152_167 rfl ?_
    refine zu_iload d_8152_168 rfl ?_
    refine zu_iconst d_8152_170 zi_0 ?_
    refine zc_8_606 (x0 := p1) (x1 := (1 : Int32)) (x2 := p3) (x3 := ((v3).toInt32)) (x4 := (0 : Int32)) hB rfl k7 d_8152_171 (Nat.le_of_ble_eq_true rfl) h (fun v10 S9 h => ?_)
    refine zu_istore d_8152_174 (zs_lt zq_8152 rfl) ?_
    exact (u_X9_consted_176 hB h).weak ⟨rfl, trivial⟩
def w_X9_consted_103 (X : zs_X) (d : Nat) (p0 : Nat) (p1 : Int32) (p2 : Int32) (S : zs_T) (Q : zs_Q) : Prop :=
  (zs_K S p0 = some (.inl 8) ∧ (((zs_I S 8010 p0) ≤ 0 → (∃ b3, (zs_R S 8093 p0) = some b3 ∧ zs_A S b3 2 p2 ∧ (((zs_i S b3 p2.toNatClampNeg) = 0 → w_X9_consted_127 X d p0 S Q) ∧ (¬ ((zs_i S b3 p2.toNatClampNeg) = 0) → (zs_C X d 8101 [.ref p0] S (zs_kI (fun v8 S7 => (((v8 = 0 → (zs_K S7 p0 = some (.inl 8) ∧ ∃ b11, (zs_R S7 8091 p0) = some b11 ∧ zs_A S7 b11 0 p2 ∧ zs_C X d 8042 [.ref p0, .int (zs_i S7 b11 p2.toNatClampNeg)] S7 (zs_kI (fun v15 S14 => (w_X9_consted_144 X d p0 p1 v15 S14 Q)) Q))) ∧ (¬ (v8 = 0) → w_X9_consted_127 X d p0 S7 Q)))) Q)))))) ∧ (¬ ((zs_I S 8010 p0) ≤ 0) → (Q (.returned none) S))))
theorem u_X9_consted_103 {σ : Nat → Nat} {n0 : Nat} {bf : ab_B} {d : Nat} {p0 : Nat} {p1 : Int32} {p2 : Int32} {S : zs_T} {Q : zs_Q} (hB : zt_B bf) (h : w_X9_consted_103 (zx σ n0 bf) d p0 p1 p2 S Q) : zs_U (zx σ n0 bf) d 8152 103 [(0, .ref p0), (1, .int p1), (2, .int p2)] [] S Q := by
  unfold w_X9_consted_103 at h
  refine zu_aload_n d_8152_103 rfl (zs_ra _) ?_
  obtain ⟨k1, h⟩ := h
  refine zg_8_444 rfl d_8152_104 k1 ?_
  refine zu_ifle (t := 111) d_8152_107 rfl (fun c2 => ?_) (fun c2 => ?_)
  · have h := h.1 c2
    refine zu_aload_n d_8152_111 rfl (zs_ra _) ?_
    refine zg_8_197 rfl d_8152_112 k1 ?_
    refine zu_iload_n d_8152_115 rfl ?_
    obtain ⟨b3, e4, h⟩ := h
    refine zs_stk1 (zs_rfe e4) ?_
    obtain ⟨k5, h⟩ := h
    refine zu_bald (k := 2) d_8152_116 rfl (Or.inr rfl) k5 ?_
    refine zu_ifeq (t := 127) d_8152_117 rfl (fun c6 => ?_) (fun c6 => ?_)
    · have h := h.1 c6
      exact (u_X9_consted_127 hB h).weak ⟨rfl, trivial⟩
    · have h := h.2 c6
      refine zu_aload_n d_8152_120 rfl (zs_ra _) ?_
      refine zc_8_877  hB rfl k1 d_8152_121 (Nat.le_of_ble_eq_true rfl) h (fun v8 S7 h => ?_)
      refine zu_ifeq (t := 133) d_8152_124 rfl (fun c9 => ?_) (fun c9 => ?_)
      · have h := h.1 c9
        refine zu_aload_n d_8152_133 rfl (zs_ra _) ?_
        refine zu_aload_n d_8152_134 rfl (zs_ra _) ?_
        obtain ⟨k10, h⟩ := h
        refine zg_8_191 rfl d_8152_135 k10 ?_
        refine zu_iload_n d_8152_138 rfl ?_
        obtain ⟨b11, e12, h⟩ := h
        refine zs_stk1 (zs_rfe e12) ?_
        obtain ⟨k13, h⟩ := h
        refine zu_iald (k := 0) d_8152_139 rfl rfl k13 ?_
        refine zc_8_561 (x0 := (zs_i S7 b11 p2.toNatClampNeg)) hB rfl k10 d_8152_140 (Nat.le_of_ble_eq_true rfl) h (fun v15 S14 h => ?_)
        refine zu_istore_n d_8152_143 (zs_lt zq_8152 rfl) ?_
        exact (u_X9_consted_144 hB h).weak ⟨rfl, rfl, rfl, trivial⟩
      · have h := h.2 c9
        exact (u_X9_consted_127 hB h).weak ⟨rfl, trivial⟩
  · have h := h.2 c2
    exact zu_vret d_8152_110 zr_8152 h
def w_X9_consted (X : zs_X) (d : Nat) (p0 : Nat) (p1 : Int32) (S : zs_T) (Q : zs_Q) : Prop :=
  (zs_K S p0 = some (.inl 8) ∧ (((zs_I S 8010 p0) ≤ 0 → (∃ b3, (zs_R S 8094 p0) = some b3 ∧ zs_A S b3 0 ((zs_I S 8097 p0) - (1 : Int32)) ∧ ((((zs_i S b3 ((zs_I S 8097 p0) - (1 : Int32)).toNatClampNeg) &&& (32 : Int32)) = 0 → (zs_C X d 8037 [.ref p0] S (zs_kV (fun S7 => w_X9_consted_103 X d p0 p1 ((zs_I S 8097 p0) - (1 : Int32)) S7 Q) Q))) ∧ (¬ (((zs_i S b3 ((zs_I S 8097 p0) - (1 : Int32)).toNatClampNeg) &&& (32 : Int32)) = 0) → (w_X9_consted_34 X d p0 p1 ((zs_I S 8097 p0) - (1 : Int32)) ((zs_I S 8040 p0) - (1 : Int32)) S Q))))) ∧ (¬ ((zs_I S 8010 p0) ≤ 0) → (Q (.returned none) S))))
theorem u_X9_consted {σ : Nat → Nat} {n0 : Nat} {bf : ab_B} {d : Nat} {p0 : Nat} {p1 : Int32} {S : zs_T} {Q : zs_Q} (hB : zt_B bf) (hd : 1 ≤ d) (h : w_X9_consted (zx σ n0 bf) (d - 1) p0 p1 S Q) : zs_C (zx σ n0 bf) d 8152 [.ref p0, .int p1] S Q := by
  have hL : lv_args 0 [.ref p0, .int p1] = [(0, .ref p0), (1, .int p1)] := rfl
  refine zs_C.of1 (hB.2 8152 (by decide) (by decide)) hd (by rw [hL]; exact zs_sub_self _ (by exact ⟨rfl, rfl, trivial⟩)) ?_
  rw [hL]
  clear hL
  unfold w_X9_consted at h
  refine zu_aload_n d_8152_0 rfl (zs_ra _) ?_
  obtain ⟨k1, h⟩ := h
  refine zg_8_444 rfl d_8152_1 k1 ?_
  refine zu_ifle (t := 8) d_8152_4 rfl (fun c2 => ?_) (fun c2 => ?_)
  · have h := h.1 c2
    refine zu_aload_n d_8152_8 rfl (zs_ra _) ?_
    refine zg_8_653 rfl d_8152_9 k1 ?_
    refine zu_iconst d_8152_12 zi_1 ?_
    refine zu_stk d_8152_13 rfl rfl ?_
    refine zu_istore_n d_8152_14 (zs_lt zq_8152 rfl) ?_
    refine zu_aload_n d_8152_15 rfl (zs_ra _) ?_
    refine zg_8_200 rfl d_8152_16 k1 ?_
    refine zu_iload_n d_8152_19 rfl ?_
    obtain ⟨b3, e4, h⟩ := h
    refine zs_stk1 (zs_rfe e4) ?_
    obtain ⟨k5, h⟩ := h
    refine zu_iald (k := 0) d_8152_20 rfl rfl k5 ?_
    refine zu_bipush d_8152_21 zj_32 ?_
    refine zu_stk d_8152_23 rfl rfl ?_
    refine zu_ifeq (t := 99) d_8152_24 rfl (fun c6 => ?_) (fun c6 => ?_)
    · have h := h.1 c6
      refine zu_aload_n d_8152_99 rfl (zs_ra _) ?_
      refine zc_8_660  hB rfl k1 d_8152_100 (Nat.le_of_ble_eq_true rfl) h (fun S7 h => ?_)
      exact (u_X9_consted_103 hB h).weak ⟨rfl, rfl, rfl, trivial⟩
    · have h := h.2 c6
      refine zu_aload_n d_8152_27 rfl (zs_ra _) ?_
      refine zg_8_556 rfl d_8152_28 k1 ?_
      refine zu_iconst d_8152_31 zi_1 ?_
      refine zu_stk d_8152_32 rfl rfl ?_
      refine zu_istore_n d_8152_33 (zs_lt zq_8152 rfl) ?_
      exact (u_X9_consted_34 hB h).weak ⟨rfl, rfl, rfl, rfl, trivial⟩
  · have h := h.2 c2
    exact zu_vret d_8152_7 zr_8152 h
