/-! printed by gen_all.py: what the methods compute -/
set_option maxRecDepth 100000
/-! SchemaPascalModel.withVar(I)V -/
theorem zm_8193 {σ : Nat → Nat} {n0 : Nat} {bf : ab_B} : ab_code (zx σ n0 bf).1 8193 = prog_17_method_185_code := rfl
theorem zq_8193 {σ : Nat → Nat} {n0 : Nat} {bf : ab_B} : ab_maxL (zx σ n0 bf).1 8193 = 7 := rfl
theorem zr_8193 {σ : Nat → Nat} {n0 : Nat} {bf : ab_B} : ab_ret (zx σ n0 bf).1 8193 = (Option.none : Option Jvm.ClassFile.FieldType) := rfl
theorem d_8193_0 {σ : Nat → Nat} {n0 : Nat} {bf : ab_B} : decode (ab_code (zx σ n0 bf).1 8193) 0 = .ok (.aload_n 0, 1) := zd zm_8193 (by decide +kernel)
theorem d_8193_1 {σ : Nat → Nat} {n0 : Nat} {bf : ab_B} : decode (ab_code (zx σ n0 bf).1 8193) 1 = .ok (.getfield 444, 3) := zd zm_8193 (by decide +kernel)
theorem d_8193_4 {σ : Nat → Nat} {n0 : Nat} {bf : ab_B} : decode (ab_code (zx σ n0 bf).1 8193) 4 = .ok (.ifCond .le 4, 3) := zd zm_8193 (by decide +kernel)
theorem d_8193_7 {σ : Nat → Nat} {n0 : Nat} {bf : ab_B} : decode (ab_code (zx σ n0 bf).1 8193) 7 = .ok (.return_, 1) := zd zm_8193 (by decide +kernel)
theorem d_8193_8 {σ : Nat → Nat} {n0 : Nat} {bf : ab_B} : decode (ab_code (zx σ n0 bf).1 8193) 8 = .ok (.aload_n 0, 1) := zd zm_8193 (by decide +kernel)
theorem d_8193_9 {σ : Nat → Nat} {n0 : Nat} {bf : ab_B} : decode (ab_code (zx σ n0 bf).1 8193) 9 = .ok (.dup, 1) := zd zm_8193 (by decide +kernel)
theorem d_8193_10 {σ : Nat → Nat} {n0 : Nat} {bf : ab_B} : decode (ab_code (zx σ n0 bf).1 8193) 10 = .ok (.getfield 653, 3) := zd zm_8193 (by decide +kernel)
theorem d_8193_13 {σ : Nat → Nat} {n0 : Nat} {bf : ab_B} : decode (ab_code (zx σ n0 bf).1 8193) 13 = .ok (.iconst 1, 1) := zd zm_8193 (by decide +kernel)
theorem d_8193_14 {σ : Nat → Nat} {n0 : Nat} {bf : ab_B} : decode (ab_code (zx σ n0 bf).1 8193) 14 = .ok (.isub, 1) := zd zm_8193 (by decide +kernel)
theorem d_8193_15 {σ : Nat → Nat} {n0 : Nat} {bf : ab_B} : decode (ab_code (zx σ n0 bf).1 8193) 15 = .ok (.putfield 653, 3) := zd zm_8193 (by decide +kernel)
theorem d_8193_18 {σ : Nat → Nat} {n0 : Nat} {bf : ab_B} : decode (ab_code (zx σ n0 bf).1 8193) 18 = .ok (.aload_n 0, 1) := zd zm_8193 (by decide +kernel)
theorem d_8193_19 {σ : Nat → Nat} {n0 : Nat} {bf : ab_B} : decode (ab_code (zx σ n0 bf).1 8193) 19 = .ok (.aload_n 0, 1) := zd zm_8193 (by decide +kernel)
theorem d_8193_20 {σ : Nat → Nat} {n0 : Nat} {bf : ab_B} : decode (ab_code (zx σ n0 bf).1 8193) 20 = .ok (.getfield 191, 3) := zd zm_8193 (by decide +kernel)
theorem d_8193_23 {σ : Nat → Nat} {n0 : Nat} {bf : ab_B} : decode (ab_code (zx σ n0 bf).1 8193) 23 = .ok (.aload_n 0, 1) := zd zm_8193 (by decide +kernel)
theorem d_8193_24 {σ : Nat → Nat} {n0 : Nat} {bf : ab_B} : decode (ab_code (zx σ n0 bf).1 8193) 24 = .ok (.getfield 653, 3) := zd zm_8193 (by decide +kernel)
theorem d_8193_27 {σ : Nat → Nat} {n0 : Nat} {bf : ab_B} : decode (ab_code (zx σ n0 bf).1 8193) 27 = .ok (.iaload, 1) := zd zm_8193 (by decide +kernel)
theorem d_8193_28 {σ : Nat → Nat} {n0 : Nat} {bf : ab_B} : decode (ab_code (zx σ n0 bf).1 8193) 28 = .ok (.invokevirtual 730, 3) := zd zm_8193 (by decide +kernel)
theorem d_8193_31 {σ : Nat → Nat} {n0 : Nat} {bf : ab_B} : decode (ab_code (zx σ n0 bf).1 8193) 31 = .ok (.istore_n 2, 1) := zd zm_8193 (by decide +kernel)
theorem d_8193_32 {σ : Nat → Nat} {n0 : Nat} {bf : ab_B} : decode (ab_code (zx σ n0 bf).1 8193) 32 = .ok (.aload_n 0, 1) := zd zm_8193 (by decide +kernel)
theorem d_8193_33 {σ : Nat → Nat} {n0 : Nat} {bf : ab_B} : decode (ab_code (zx σ n0 bf).1 8193) 33 = .ok (.getfield 194, 3) := zd zm_8193 (by decide +kernel)
theorem d_8193_36 {σ : Nat → Nat} {n0 : Nat} {bf : ab_B} : decode (ab_code (zx σ n0 bf).1 8193) 36 = .ok (.aload_n 0, 1) := zd zm_8193 (by decide +kernel)
theorem d_8193_37 {σ : Nat → Nat} {n0 : Nat} {bf : ab_B} : decode (ab_code (zx σ n0 bf).1 8193) 37 = .ok (.getfield 653, 3) := zd zm_8193 (by decide +kernel)
theorem d_8193_40 {σ : Nat → Nat} {n0 : Nat} {bf : ab_B} : decode (ab_code (zx σ n0 bf).1 8193) 40 = .ok (.baload, 1) := zd zm_8193 (by decide +kernel)
theorem d_8193_41 {σ : Nat → Nat} {n0 : Nat} {bf : ab_B} : decode (ab_code (zx σ n0 bf).1 8193) 41 = .ok (.ifCond .eq 14, 3) := zd zm_8193 (by decide +kernel)
theorem d_8193_44 {σ : Nat → Nat} {n0 : Nat} {bf : ab_B} : decode (ab_code (zx σ n0 bf).1 8193) 44 = .ok (.aload_n 0, 1) := zd zm_8193 (by decide +kernel)
theorem d_8193_45 {σ : Nat → Nat} {n0 : Nat} {bf : ab_B} : decode (ab_code (zx σ n0 bf).1 8193) 45 = .ok (.getfield 90, 3) := zd zm_8193 (by decide +kernel)
theorem d_8193_48 {σ : Nat → Nat} {n0 : Nat} {bf : ab_B} : decode (ab_code (zx σ n0 bf).1 8193) 48 = .ok (.iload_n 2, 1) := zd zm_8193 (by decide +kernel)
theorem d_8193_49 {σ : Nat → Nat} {n0 : Nat} {bf : ab_B} : decode (ab_code (zx σ n0 bf).1 8193) 49 = .ok (.baload, 1) := zd zm_8193 (by decide +kernel)
theorem d_8193_50 {σ : Nat → Nat} {n0 : Nat} {bf : ab_B} : decode (ab_code (zx σ n0 bf).1 8193) 50 = .ok (.bipush 9, 2) := zd zm_8193 (by decide +kernel)
theorem d_8193_52 {σ : Nat → Nat} {n0 : Nat} {bf : ab_B} : decode (ab_code (zx σ n0 bf).1 8193) 52 = .ok (.if_icmp .eq 9, 3) := zd zm_8193 (by decide +kernel)
theorem d_8193_55 {σ : Nat → Nat} {n0 : Nat} {bf : ab_B} : decode (ab_code (zx σ n0 bf).1 8193) 55 = .ok (.aload_n 0, 1) := zd zm_8193 (by decide +kernel)
theorem d_8193_56 {σ : Nat → Nat} {n0 : Nat} {bf : ab_B} : decode (ab_code (zx σ n0 bf).1 8193) 56 = .ok (.iconst 5, 1) := zd zm_8193 (by decide +kernel)
theorem d_8193_57 {σ : Nat → Nat} {n0 : Nat} {bf : ab_B} : decode (ab_code (zx σ n0 bf).1 8193) 57 = .ok (.invokevirtual 541, 3) := zd zm_8193 (by decide +kernel)
theorem d_8193_60 {σ : Nat → Nat} {n0 : Nat} {bf : ab_B} : decode (ab_code (zx σ n0 bf).1 8193) 60 = .ok (.return_, 1) := zd zm_8193 (by decide +kernel)
theorem d_8193_61 {σ : Nat → Nat} {n0 : Nat} {bf : ab_B} : decode (ab_code (zx σ n0 bf).1 8193) 61 = .ok (.aload_n 0, 1) := zd zm_8193 (by decide +kernel)
theorem d_8193_62 {σ : Nat → Nat} {n0 : Nat} {bf : ab_B} : decode (ab_code (zx σ n0 bf).1 8193) 62 = .ok (.getfield 221, 3) := zd zm_8193 (by decide +kernel)
theorem d_8193_65 {σ : Nat → Nat} {n0 : Nat} {bf : ab_B} : decode (ab_code (zx σ n0 bf).1 8193) 65 = .ok (.aload_n 0, 1) := zd zm_8193 (by decide +kernel)
theorem d_8193_66 {σ : Nat → Nat} {n0 : Nat} {bf : ab_B} : decode (ab_code (zx σ n0 bf).1 8193) 66 = .ok (.getfield 722, 3) := zd zm_8193 (by decide +kernel)
theorem d_8193_69 {σ : Nat → Nat} {n0 : Nat} {bf : ab_B} : decode (ab_code (zx σ n0 bf).1 8193) 69 = .ok (.iaload, 1) := zd zm_8193 (by decide +kernel)
theorem d_8193_70 {σ : Nat → Nat} {n0 : Nat} {bf : ab_B} : decode (ab_code (zx σ n0 bf).1 8193) 70 = .ok (.aload_n 0, 1) := zd zm_8193 (by decide +kernel)
theorem d_8193_71 {σ : Nat → Nat} {n0 : Nat} {bf : ab_B} : decode (ab_code (zx σ n0 bf).1 8193) 71 = .ok (.getfield 215, 3) := zd zm_8193 (by decide +kernel)
theorem d_8193_74 {σ : Nat → Nat} {n0 : Nat} {bf : ab_B} : decode (ab_code (zx σ n0 bf).1 8193) 74 = .ok (.aload_n 0, 1) := zd zm_8193 (by decide +kernel)
theorem d_8193_75 {σ : Nat → Nat} {n0 : Nat} {bf : ab_B} : decode (ab_code (zx σ n0 bf).1 8193) 75 = .ok (.getfield 722, 3) := zd zm_8193 (by decide +kernel)
theorem d_8193_78 {σ : Nat → Nat} {n0 : Nat} {bf : ab_B} : decode (ab_code (zx σ n0 bf).1 8193) 78 = .ok (.iaload, 1) := zd zm_8193 (by decide +kernel)
theorem d_8193_79 {σ : Nat → Nat} {n0 : Nat} {bf : ab_B} : decode (ab_code (zx σ n0 bf).1 8193) 79 = .ok (.ifCond .le 7, 3) := zd zm_8193 (by decide +kernel)
theorem d_8193_82 {σ : Nat → Nat} {n0 : Nat} {bf : ab_B} : decode (ab_code (zx σ n0 bf).1 8193) 82 = .ok (.iconst 1, 1) := zd zm_8193 (by decide +kernel)
theorem d_8193_83 {σ : Nat → Nat} {n0 : Nat} {bf : ab_B} : decode (ab_code (zx σ n0 bf).1 8193) 83 = .ok (.goto 4, 3) := zd zm_8193 (by decide +kernel)
theorem d_8193_86 {σ : Nat → Nat} {n0 : Nat} {bf : ab_B} : decode (ab_code (zx σ n0 bf).1 8193) 86 = .ok (.iconst 0, 1) := zd zm_8193 (by decide +kernel)
theorem d_8193_87 {σ : Nat → Nat} {n0 : Nat} {bf : ab_B} : decode (ab_code (zx σ n0 bf).1 8193) 87 = .ok (.iadd, 1) := zd zm_8193 (by decide +kernel)
theorem d_8193_88 {σ : Nat → Nat} {n0 : Nat} {bf : ab_B} : decode (ab_code (zx σ n0 bf).1 8193) 88 = .ok (.aload_n 0, 1) := zd zm_8193 (by decide +kernel)
theorem d_8193_89 {σ : Nat → Nat} {n0 : Nat} {bf : ab_B} : decode (ab_code (zx σ n0 bf).1 8193) 89 = .ok (.getfield 236, 3) := zd zm_8193 (by decide +kernel)
theorem d_8193_92 {σ : Nat → Nat} {n0 : Nat} {bf : ab_B} : decode (ab_code (zx σ n0 bf).1 8193) 92 = .ok (.aload_n 0, 1) := zd zm_8193 (by decide +kernel)
theorem d_8193_93 {σ : Nat → Nat} {n0 : Nat} {bf : ab_B} : decode (ab_code (zx σ n0 bf).1 8193) 93 = .ok (.getfield 722, 3) := zd zm_8193 (by decide +kernel)
theorem d_8193_96 {σ : Nat → Nat} {n0 : Nat} {bf : ab_B} : decode (ab_code (zx σ n0 bf).1 8193) 96 = .ok (.iaload, 1) := zd zm_8193 (by decide +kernel)
theorem d_8193_97 {σ : Nat → Nat} {n0 : Nat} {bf : ab_B} : decode (ab_code (zx σ n0 bf).1 8193) 97 = .ok (.iadd, 1) := zd zm_8193 (by decide +kernel)
theorem d_8193_98 {σ : Nat → Nat} {n0 : Nat} {bf : ab_B} : decode (ab_code (zx σ n0 bf).1 8193) 98 = .ok (.istore_n 3, 1) := zd zm_8193 (by decide +kernel)
theorem d_8193_99 {σ : Nat → Nat} {n0 : Nat} {bf : ab_B} : decode (ab_code (zx σ n0 bf).1 8193) 99 = .ok (.aload_n 0, 1) := zd zm_8193 (by decide +kernel)
theorem d_8193_100 {σ : Nat → Nat} {n0 : Nat} {bf : ab_B} : decode (ab_code (zx σ n0 bf).1 8193) 100 = .ok (.getfield 236, 3) := zd zm_8193 (by decide +kernel)
theorem d_8193_103 {σ : Nat → Nat} {n0 : Nat} {bf : ab_B} : decode (ab_code (zx σ n0 bf).1 8193) 103 = .ok (.aload_n 0, 1) := zd zm_8193 (by decide +kernel)
theorem d_8193_104 {σ : Nat → Nat} {n0 : Nat} {bf : ab_B} : decode (ab_code (zx σ n0 bf).1 8193) 104 = .ok (.getfield 722, 3) := zd zm_8193 (by decide +kernel)
theorem d_8193_107 {σ : Nat → Nat} {n0 : Nat} {bf : ab_B} : decode (ab_code (zx σ n0 bf).1 8193) 107 = .ok (.dup2, 1) := zd zm_8193 (by decide +kernel)
theorem d_8193_108 {σ : Nat → Nat} {n0 : Nat} {bf : ab_B} : decode (ab_code (zx σ n0 bf).1 8193) 108 = .ok (.iaload, 1) := zd zm_8193 (by decide +kernel)
theorem d_8193_109 {σ : Nat → Nat} {n0 : Nat} {bf : ab_B} : decode (ab_code (zx σ n0 bf).1 8193) 109 = .ok (.iconst 1, 1) := zd zm_8193 (by decide +kernel)
theorem d_8193_110 {σ : Nat → Nat} {n0 : Nat} {bf : ab_B} : decode (ab_code (zx σ n0 bf).1 8193) 110 = .ok (.iadd, 1) := zd zm_8193 (by decide +kernel)
theorem d_8193_111 {σ : Nat → Nat} {n0 : Nat} {bf : ab_B} : decode (ab_code (zx σ n0 bf).1 8193) 111 = .ok (.iastore, 1) := zd zm_8193 (by decide +kernel)
theorem d_8193_112 {σ : Nat → Nat} {n0 : Nat} {bf : ab_B} : decode (ab_code (zx σ n0 bf).1 8193) 112 = .ok (.aload_n 0, 1) := zd zm_8193 (by decide +kernel)
theorem d_8193_113 {σ : Nat → Nat} {n0 : Nat} {bf : ab_B} : decode (ab_code (zx σ n0 bf).1 8193) 113 = .ok (.bipush 88, 2) := zd zm_8193 (by decide +kernel)
theorem d_8193_115 {σ : Nat → Nat} {n0 : Nat} {bf : ab_B} : decode (ab_code (zx σ n0 bf).1 8193) 115 = .ok (.iload_n 3, 1) := zd zm_8193 (by decide +kernel)
theorem d_8193_116 {σ : Nat → Nat} {n0 : Nat} {bf : ab_B} : decode (ab_code (zx σ n0 bf).1 8193) 116 = .ok (.iconst 0, 1) := zd zm_8193 (by decide +kernel)
theorem d_8193_117 {σ : Nat → Nat} {n0 : Nat} {bf : ab_B} : decode (ab_code (zx σ n0 bf).1 8193) 117 = .ok (.iconst 0, 1) := zd zm_8193 (by decide +kernel)
theorem d_8193_118 {σ : Nat → Nat} {n0 : Nat} {bf : ab_B} : decode (ab_code (zx σ n0 bf).1 8193) 118 = .ok (.invokevirtual 656, 3) := zd zm_8193 (by decide +kernel)
theorem d_8193_121 {σ : Nat → Nat} {n0 : Nat} {bf : ab_B} : decode (ab_code (zx σ n0 bf).1 8193) 121 = .ok (.istore 4, 2) := zd zm_8193 (by decide +kernel)
theorem d_8193_123 {σ : Nat → Nat} {n0 : Nat} {bf : ab_B} : decode (ab_code (zx σ n0 bf).1 8193) 123 = .ok (.aload_n 0, 1) := zd zm_8193 (by decide +kernel)
theorem d_8193_124 {σ : Nat → Nat} {n0 : Nat} {bf : ab_B} : decode (ab_code (zx σ n0 bf).1 8193) 124 = .ok (.getfield 200, 3) := zd zm_8193 (by decide +kernel)
theorem d_8193_127 {σ : Nat → Nat} {n0 : Nat} {bf : ab_B} : decode (ab_code (zx σ n0 bf).1 8193) 127 = .ok (.aload_n 0, 1) := zd zm_8193 (by decide +kernel)
theorem d_8193_128 {σ : Nat → Nat} {n0 : Nat} {bf : ab_B} : decode (ab_code (zx σ n0 bf).1 8193) 128 = .ok (.getfield 653, 3) := zd zm_8193 (by decide +kernel)
theorem d_8193_131 {σ : Nat → Nat} {n0 : Nat} {bf : ab_B} : decode (ab_code (zx σ n0 bf).1 8193) 131 = .ok (.iaload, 1) := zd zm_8193 (by decide +kernel)
theorem d_8193_132 {σ : Nat → Nat} {n0 : Nat} {bf : ab_B} : decode (ab_code (zx σ n0 bf).1 8193) 132 = .ok (.iconst 1, 1) := zd zm_8193 (by decide +kernel)
theorem d_8193_133 {σ : Nat → Nat} {n0 : Nat} {bf : ab_B} : decode (ab_code (zx σ n0 bf).1 8193) 133 = .ok (.iand, 1) := zd zm_8193 (by decide +kernel)
theorem d_8193_134 {σ : Nat → Nat} {n0 : Nat} {bf : ab_B} : decode (ab_code (zx σ n0 bf).1 8193) 134 = .ok (.ifCond .eq 9, 3) := zd zm_8193 (by decide +kernel)
theorem d_8193_137 {σ : Nat → Nat} {n0 : Nat} {bf : ab_B} : decode (ab_code (zx σ n0 bf).1 8193) 137 = .ok (.ldc_w 726, 3) := zd zm_8193 (by decide +kernel)
theorem d_8193_140 {σ : Nat → Nat} {n0 : Nat} {bf : ab_B} : decode (ab_code (zx σ n0 bf).1 8193) 140 = .ok (.goto 4, 3) := zd zm_8193 (by decide +kernel)
theorem d_8193_143 {σ : Nat → Nat} {n0 : Nat} {bf : ab_B} : decode (ab_code (zx σ n0 bf).1 8193) 143 = .ok (.iconst 0, 1) := zd zm_8193 (by decide +kernel)
theorem d_8193_144 {σ : Nat → Nat} {n0 : Nat} {bf : ab_B} : decode (ab_code (zx σ n0 bf).1 8193) 144 = .ok (.istore 5, 2) := zd zm_8193 (by decide +kernel)
theorem d_8193_146 {σ : Nat → Nat} {n0 : Nat} {bf : ab_B} : decode (ab_code (zx σ n0 bf).1 8193) 146 = .ok (.aload_n 0, 1) := zd zm_8193 (by decide +kernel)
theorem d_8193_147 {σ : Nat → Nat} {n0 : Nat} {bf : ab_B} : decode (ab_code (zx σ n0 bf).1 8193) 147 = .ok (.invokevirtual 603, 3) := zd zm_8193 (by decide +kernel)
theorem d_8193_150 {σ : Nat → Nat} {n0 : Nat} {bf : ab_B} : decode (ab_code (zx σ n0 bf).1 8193) 150 = .ok (.aload_n 0, 1) := zd zm_8193 (by decide +kernel)
theorem d_8193_151 {σ : Nat → Nat} {n0 : Nat} {bf : ab_B} : decode (ab_code (zx σ n0 bf).1 8193) 151 = .ok (.getfield 96, 3) := zd zm_8193 (by decide +kernel)
theorem d_8193_154 {σ : Nat → Nat} {n0 : Nat} {bf : ab_B} : decode (ab_code (zx σ n0 bf).1 8193) 154 = .ok (.iload_n 2, 1) := zd zm_8193 (by decide +kernel)
theorem d_8193_155 {σ : Nat → Nat} {n0 : Nat} {bf : ab_B} : decode (ab_code (zx σ n0 bf).1 8193) 155 = .ok (.iaload, 1) := zd zm_8193 (by decide +kernel)
theorem d_8193_156 {σ : Nat → Nat} {n0 : Nat} {bf : ab_B} : decode (ab_code (zx σ n0 bf).1 8193) 156 = .ok (.istore 6, 2) := zd zm_8193 (by decide +kernel)
theorem d_8193_158 {σ : Nat → Nat} {n0 : Nat} {bf : ab_B} : decode (ab_code (zx σ n0 bf).1 8193) 158 = .ok (.iload 6, 2) := zd zm_8193 (by decide +kernel)
theorem d_8193_160 {σ : Nat → Nat} {n0 : Nat} {bf : ab_B} : decode (ab_code (zx σ n0 bf).1 8193) 160 = .ok (.ifCond .le 87, 3) := zd zm_8193 (by decide +kernel)
theorem d_8193_163 {σ : Nat → Nat} {n0 : Nat} {bf : ab_B} : decode (ab_code (zx σ n0 bf).1 8193) 163 = .ok (.aload_n 0, 1) := zd zm_8193 (by decide +kernel)
theorem d_8193_164 {σ : Nat → Nat} {n0 : Nat} {bf : ab_B} : decode (ab_code (zx σ n0 bf).1 8193) 164 = .ok (.getfield 444, 3) := zd zm_8193 (by decide +kernel)
theorem d_8193_167 {σ : Nat → Nat} {n0 : Nat} {bf : ab_B} : decode (ab_code (zx σ n0 bf).1 8193) 167 = .ok (.ifCond .ne 80, 3) := zd zm_8193 (by decide +kernel)
theorem d_8193_170 {σ : Nat → Nat} {n0 : Nat} {bf : ab_B} : decode (ab_code (zx σ n0 bf).1 8193) 170 = .ok (.aload_n 0, 1) := zd zm_8193 (by decide +kernel)
theorem d_8193_171 {σ : Nat → Nat} {n0 : Nat} {bf : ab_B} : decode (ab_code (zx σ n0 bf).1 8193) 171 = .ok (.dup, 1) := zd zm_8193 (by decide +kernel)
theorem d_8193_172 {σ : Nat → Nat} {n0 : Nat} {bf : ab_B} : decode (ab_code (zx σ n0 bf).1 8193) 172 = .ok (.getfield 986, 3) := zd zm_8193 (by decide +kernel)
theorem d_8193_175 {σ : Nat → Nat} {n0 : Nat} {bf : ab_B} : decode (ab_code (zx σ n0 bf).1 8193) 175 = .ok (.iconst 1, 1) := zd zm_8193 (by decide +kernel)
theorem d_8193_176 {σ : Nat → Nat} {n0 : Nat} {bf : ab_B} : decode (ab_code (zx σ n0 bf).1 8193) 176 = .ok (.iadd, 1) := zd zm_8193 (by decide +kernel)
theorem d_8193_177 {σ : Nat → Nat} {n0 : Nat} {bf : ab_B} : decode (ab_code (zx σ n0 bf).1 8193) 177 = .ok (.putfield 986, 3) := zd zm_8193 (by decide +kernel)
theorem d_8193_180 {σ : Nat → Nat} {n0 : Nat} {bf : ab_B} : decode (ab_code (zx σ n0 bf).1 8193) 180 = .ok (.aload_n 0, 1) := zd zm_8193 (by decide +kernel)
theorem d_8193_181 {σ : Nat → Nat} {n0 : Nat} {bf : ab_B} : decode (ab_code (zx σ n0 bf).1 8193) 181 = .ok (.getfield 986, 3) := zd zm_8193 (by decide +kernel)
theorem d_8193_184 {σ : Nat → Nat} {n0 : Nat} {bf : ab_B} : decode (ab_code (zx σ n0 bf).1 8193) 184 = .ok (.sipush 4000, 3) := zd zm_8193 (by decide +kernel)
theorem d_8193_187 {σ : Nat → Nat} {n0 : Nat} {bf : ab_B} : decode (ab_code (zx σ n0 bf).1 8193) 187 = .ok (.if_icmp .le 9, 3) := zd zm_8193 (by decide +kernel)
theorem d_8193_190 {σ : Nat → Nat} {n0 : Nat} {bf : ab_B} : decode (ab_code (zx σ n0 bf).1 8193) 190 = .ok (.aload_n 0, 1) := zd zm_8193 (by decide +kernel)
theorem d_8193_191 {σ : Nat → Nat} {n0 : Nat} {bf : ab_B} : decode (ab_code (zx σ n0 bf).1 8193) 191 = .ok (.bipush 8, 2) := zd zm_8193 (by decide +kernel)
theorem d_8193_193 {σ : Nat → Nat} {n0 : Nat} {bf : ab_B} : decode (ab_code (zx σ n0 bf).1 8193) 193 = .ok (.invokevirtual 541, 3) := zd zm_8193 (by decide +kernel)
theorem d_8193_196 {σ : Nat → Nat} {n0 : Nat} {bf : ab_B} : decode (ab_code (zx σ n0 bf).1 8193) 196 = .ok (.aload_n 0, 1) := zd zm_8193 (by decide +kernel)
theorem d_8193_197 {σ : Nat → Nat} {n0 : Nat} {bf : ab_B} : decode (ab_code (zx σ n0 bf).1 8193) 197 = .ok (.aload_n 0, 1) := zd zm_8193 (by decide +kernel)
theorem d_8193_198 {σ : Nat → Nat} {n0 : Nat} {bf : ab_B} : decode (ab_code (zx σ n0 bf).1 8193) 198 = .ok (.getfield 139, 3) := zd zm_8193 (by decide +kernel)
theorem d_8193_201 {σ : Nat → Nat} {n0 : Nat} {bf : ab_B} : decode (ab_code (zx σ n0 bf).1 8193) 201 = .ok (.iload 6, 2) := zd zm_8193 (by decide +kernel)
theorem d_8193_203 {σ : Nat → Nat} {n0 : Nat} {bf : ab_B} : decode (ab_code (zx σ n0 bf).1 8193) 203 = .ok (.iaload, 1) := zd zm_8193 (by decide +kernel)
theorem d_8193_204 {σ : Nat → Nat} {n0 : Nat} {bf : ab_B} : decode (ab_code (zx σ n0 bf).1 8193) 204 = .ok (.bipush 8, 2) := zd zm_8193 (by decide +kernel)
theorem d_8193_206 {σ : Nat → Nat} {n0 : Nat} {bf : ab_B} : decode (ab_code (zx σ n0 bf).1 8193) 206 = .ok (.aload_n 0, 1) := zd zm_8193 (by decide +kernel)
theorem d_8193_207 {σ : Nat → Nat} {n0 : Nat} {bf : ab_B} : decode (ab_code (zx σ n0 bf).1 8193) 207 = .ok (.getfield 142, 3) := zd zm_8193 (by decide +kernel)
theorem d_8193_210 {σ : Nat → Nat} {n0 : Nat} {bf : ab_B} : decode (ab_code (zx σ n0 bf).1 8193) 210 = .ok (.iload 6, 2) := zd zm_8193 (by decide +kernel)
theorem d_8193_212 {σ : Nat → Nat} {n0 : Nat} {bf : ab_B} : decode (ab_code (zx σ n0 bf).1 8193) 212 = .ok (.iaload, 1) := zd zm_8193 (by decide +kernel)
theorem d_8193_213 {σ : Nat → Nat} {n0 : Nat} {bf : ab_B} : decode (ab_code (zx σ n0 bf).1 8193) 213 = .ok (.iload 6, 2) := zd zm_8193 (by decide +kernel)
theorem d_8193_215 {σ : Nat → Nat} {n0 : Nat} {bf : ab_B} : decode (ab_code (zx σ n0 bf).1 8193) 215 = .ok (.bipush 17, 2) := zd zm_8193 (by decide +kernel)
theorem d_8193_217 {σ : Nat → Nat} {n0 : Nat} {bf : ab_B} : decode (ab_code (zx σ n0 bf).1 8193) 217 = .ok (.ishl, 1) := zd zm_8193 (by decide +kernel)
theorem d_8193_218 {σ : Nat → Nat} {n0 : Nat} {bf : ab_B} : decode (ab_code (zx σ n0 bf).1 8193) 218 = .ok (.iload 5, 2) := zd zm_8193 (by decide +kernel)
theorem d_8193_220 {σ : Nat → Nat} {n0 : Nat} {bf : ab_B} : decode (ab_code (zx σ n0 bf).1 8193) 220 = .ok (.ior, 1) := zd zm_8193 (by decide +kernel)
theorem d_8193_221 {σ : Nat → Nat} {n0 : Nat} {bf : ab_B} : decode (ab_code (zx σ n0 bf).1 8193) 221 = .ok (.aload_n 0, 1) := zd zm_8193 (by decide +kernel)
theorem d_8193_222 {σ : Nat → Nat} {n0 : Nat} {bf : ab_B} : decode (ab_code (zx σ n0 bf).1 8193) 222 = .ok (.getfield 722, 3) := zd zm_8193 (by decide +kernel)
theorem d_8193_225 {σ : Nat → Nat} {n0 : Nat} {bf : ab_B} : decode (ab_code (zx σ n0 bf).1 8193) 225 = .ok (.bipush 16, 2) := zd zm_8193 (by decide +kernel)
theorem d_8193_227 {σ : Nat → Nat} {n0 : Nat} {bf : ab_B} : decode (ab_code (zx σ n0 bf).1 8193) 227 = .ok (.ishl, 1) := zd zm_8193 (by decide +kernel)
theorem d_8193_228 {σ : Nat → Nat} {n0 : Nat} {bf : ab_B} : decode (ab_code (zx σ n0 bf).1 8193) 228 = .ok (.iload_n 3, 1) := zd zm_8193 (by decide +kernel)
theorem d_8193_229 {σ : Nat → Nat} {n0 : Nat} {bf : ab_B} : decode (ab_code (zx σ n0 bf).1 8193) 229 = .ok (.ior, 1) := zd zm_8193 (by decide +kernel)
theorem d_8193_230 {σ : Nat → Nat} {n0 : Nat} {bf : ab_B} : decode (ab_code (zx σ n0 bf).1 8193) 230 = .ok (.invokevirtual 606, 3) := zd zm_8193 (by decide +kernel)
theorem d_8193_233 {σ : Nat → Nat} {n0 : Nat} {bf : ab_B} : decode (ab_code (zx σ n0 bf).1 8193) 233 = .ok (.istore 4, 2) := zd zm_8193 (by decide +kernel)
theorem d_8193_235 {σ : Nat → Nat} {n0 : Nat} {bf : ab_B} : decode (ab_code (zx σ n0 bf).1 8193) 235 = .ok (.aload_n 0, 1) := zd zm_8193 (by decide +kernel)
theorem d_8193_236 {σ : Nat → Nat} {n0 : Nat} {bf : ab_B} : decode (ab_code (zx σ n0 bf).1 8193) 236 = .ok (.getfield 148, 3) := zd zm_8193 (by decide +kernel)
theorem d_8193_239 {σ : Nat → Nat} {n0 : Nat} {bf : ab_B} : decode (ab_code (zx σ n0 bf).1 8193) 239 = .ok (.iload 6, 2) := zd zm_8193 (by decide +kernel)
theorem d_8193_241 {σ : Nat → Nat} {n0 : Nat} {bf : ab_B} : decode (ab_code (zx σ n0 bf).1 8193) 241 = .ok (.iaload, 1) := zd zm_8193 (by decide +kernel)
theorem d_8193_242 {σ : Nat → Nat} {n0 : Nat} {bf : ab_B} : decode (ab_code (zx σ n0 bf).1 8193) 242 = .ok (.istore 6, 2) := zd zm_8193 (by decide +kernel)
theorem d_8193_244 {σ : Nat → Nat} {n0 : Nat} {bf : ab_B} : decode (ab_code (zx σ n0 bf).1 8193) 244 = .ok (.goto (-86), 3) := zd zm_8193 (by decide +kernel)
theorem d_8193_247 {σ : Nat → Nat} {n0 : Nat} {bf : ab_B} : decode (ab_code (zx σ n0 bf).1 8193) 247 = .ok (.aload_n 0, 1) := zd zm_8193 (by decide +kernel)
theorem d_8193_248 {σ : Nat → Nat} {n0 : Nat} {bf : ab_B} : decode (ab_code (zx σ n0 bf).1 8193) 248 = .ok (.bipush 12, 2) := zd zm_8193 (by decide +kernel)
theorem d_8193_250 {σ : Nat → Nat} {n0 : Nat} {bf : ab_B} : decode (ab_code (zx σ n0 bf).1 8193) 250 = .ok (.invokevirtual 535, 3) := zd zm_8193 (by decide +kernel)
theorem d_8193_253 {σ : Nat → Nat} {n0 : Nat} {bf : ab_B} : decode (ab_code (zx σ n0 bf).1 8193) 253 = .ok (.ifCond .eq 29, 3) := zd zm_8193 (by decide +kernel)
theorem d_8193_256 {σ : Nat → Nat} {n0 : Nat} {bf : ab_B} : decode (ab_code (zx σ n0 bf).1 8193) 256 = .ok (.aload_n 0, 1) := zd zm_8193 (by decide +kernel)
theorem d_8193_257 {σ : Nat → Nat} {n0 : Nat} {bf : ab_B} : decode (ab_code (zx σ n0 bf).1 8193) 257 = .ok (.invokevirtual 538, 3) := zd zm_8193 (by decide +kernel)
theorem d_8193_260 {σ : Nat → Nat} {n0 : Nat} {bf : ab_B} : decode (ab_code (zx σ n0 bf).1 8193) 260 = .ok (.aload_n 0, 1) := zd zm_8193 (by decide +kernel)
theorem d_8193_261 {σ : Nat → Nat} {n0 : Nat} {bf : ab_B} : decode (ab_code (zx σ n0 bf).1 8193) 261 = .ok (.invokevirtual 706, 3) := zd zm_8193 (by decide +kernel)
theorem d_8193_264 {σ : Nat → Nat} {n0 : Nat} {bf : ab_B} : decode (ab_code (zx σ n0 bf).1 8193) 264 = .ok (.aload_n 0, 1) := zd zm_8193 (by decide +kernel)
theorem d_8193_265 {σ : Nat → Nat} {n0 : Nat} {bf : ab_B} : decode (ab_code (zx σ n0 bf).1 8193) 265 = .ok (.bipush 122, 2) := zd zm_8193 (by decide +kernel)
theorem d_8193_267 {σ : Nat → Nat} {n0 : Nat} {bf : ab_B} : decode (ab_code (zx σ n0 bf).1 8193) 267 = .ok (.iload_n 1, 1) := zd zm_8193 (by decide +kernel)
theorem d_8193_268 {σ : Nat → Nat} {n0 : Nat} {bf : ab_B} : decode (ab_code (zx σ n0 bf).1 8193) 268 = .ok (.iconst 1, 1) := zd zm_8193 (by decide +kernel)
theorem d_8193_269 {σ : Nat → Nat} {n0 : Nat} {bf : ab_B} : decode (ab_code (zx σ n0 bf).1 8193) 269 = .ok (.iadd, 1) := zd zm_8193 (by decide +kernel)
theorem d_8193_270 {σ : Nat → Nat} {n0 : Nat} {bf : ab_B} : decode (ab_code (zx σ n0 bf).1 8193) 270 = .ok (.iconst 0, 1) := zd zm_8193 (by decide +kernel)
theorem d_8193_271 {σ : Nat → Nat} {n0 : Nat} {bf : ab_B} : decode (ab_code (zx σ n0 bf).1 8193) 271 = .ok (.iconst 0, 1) := zd zm_8193 (by decide +kernel)
theorem d_8193_272 {σ : Nat → Nat} {n0 : Nat} {bf : ab_B} : decode (ab_code (zx σ n0 bf).1 8193) 272 = .ok (.invokevirtual 649, 3) := zd zm_8193 (by decide +kernel)
theorem d_8193_275 {σ : Nat → Nat} {n0 : Nat} {bf : ab_B} : decode (ab_code (zx σ n0 bf).1 8193) 275 = .ok (.aload_n 0, 1) := zd zm_8193 (by decide +kernel)
theorem d_8193_276 {σ : Nat → Nat} {n0 : Nat} {bf : ab_B} : decode (ab_code (zx σ n0 bf).1 8193) 276 = .ok (.invokevirtual 968, 3) := zd zm_8193 (by decide +kernel)
theorem d_8193_279 {σ : Nat → Nat} {n0 : Nat} {bf : ab_B} : decode (ab_code (zx σ n0 bf).1 8193) 279 = .ok (.goto 27, 3) := zd zm_8193 (by decide +kernel)
theorem d_8193_282 {σ : Nat → Nat} {n0 : Nat} {bf : ab_B} : decode (ab_code (zx σ n0 bf).1 8193) 282 = .ok (.aload_n 0, 1) := zd zm_8193 (by decide +kernel)
theorem d_8193_283 {σ : Nat → Nat} {n0 : Nat} {bf : ab_B} : decode (ab_code (zx σ n0 bf).1 8193) 283 = .ok (.bipush 14, 2) := zd zm_8193 (by decide +kernel)
theorem d_8193_285 {σ : Nat → Nat} {n0 : Nat} {bf : ab_B} : decode (ab_code (zx σ n0 bf).1 8193) 285 = .ok (.invokevirtual 846, 3) := zd zm_8193 (by decide +kernel)
theorem d_8193_288 {σ : Nat → Nat} {n0 : Nat} {bf : ab_B} : decode (ab_code (zx σ n0 bf).1 8193) 288 = .ok (.aload_n 0, 1) := zd zm_8193 (by decide +kernel)
theorem d_8193_289 {σ : Nat → Nat} {n0 : Nat} {bf : ab_B} : decode (ab_code (zx σ n0 bf).1 8193) 289 = .ok (.bipush 123, 2) := zd zm_8193 (by decide +kernel)
theorem d_8193_291 {σ : Nat → Nat} {n0 : Nat} {bf : ab_B} : decode (ab_code (zx σ n0 bf).1 8193) 291 = .ok (.iload_n 1, 1) := zd zm_8193 (by decide +kernel)
theorem d_8193_292 {σ : Nat → Nat} {n0 : Nat} {bf : ab_B} : decode (ab_code (zx σ n0 bf).1 8193) 292 = .ok (.iconst 0, 1) := zd zm_8193 (by decide +kernel)
theorem d_8193_293 {σ : Nat → Nat} {n0 : Nat} {bf : ab_B} : decode (ab_code (zx σ n0 bf).1 8193) 293 = .ok (.iconst 0, 1) := zd zm_8193 (by decide +kernel)
theorem d_8193_294 {σ : Nat → Nat} {n0 : Nat} {bf : ab_B} : decode (ab_code (zx σ n0 bf).1 8193) 294 = .ok (.invokevirtual 649, 3) := zd zm_8193 (by decide +kernel)
theorem d_8193_297 {σ : Nat → Nat} {n0 : Nat} {bf : ab_B} : decode (ab_code (zx σ n0 bf).1 8193) 297 = .ok (.aload_n 0, 1) := zd zm_8193 (by decide +kernel)
theorem d_8193_298 {σ : Nat → Nat} {n0 : Nat} {bf : ab_B} : decode (ab_code (zx σ n0 bf).1 8193) 298 = .ok (.bipush 102, 2) := zd zm_8193 (by decide +kernel)
theorem d_8193_300 {σ : Nat → Nat} {n0 : Nat} {bf : ab_B} : decode (ab_code (zx σ n0 bf).1 8193) 300 = .ok (.iconst 0, 1) := zd zm_8193 (by decide +kernel)
theorem d_8193_301 {σ : Nat → Nat} {n0 : Nat} {bf : ab_B} : decode (ab_code (zx σ n0 bf).1 8193) 301 = .ok (.iconst 0, 1) := zd zm_8193 (by decide +kernel)
theorem d_8193_302 {σ : Nat → Nat} {n0 : Nat} {bf : ab_B} : decode (ab_code (zx σ n0 bf).1 8193) 302 = .ok (.iconst 0, 1) := zd zm_8193 (by decide +kernel)
theorem d_8193_303 {σ : Nat → Nat} {n0 : Nat} {bf : ab_B} : decode (ab_code (zx σ n0 bf).1 8193) 303 = .ok (.invokevirtual 649, 3) := zd zm_8193 (by decide +kernel)
theorem d_8193_306 {σ : Nat → Nat} {n0 : Nat} {bf : ab_B} : decode (ab_code (zx σ n0 bf).1 8193) 306 = .ok (.return_, 1) := zd zm_8193 (by decide +kernel)
def w_X9_withVar_55 (X : zs_X) (d : Nat) (p0 : Nat) (S : zs_T) (Q : zs_Q) : Prop :=
  (zs_K S p0 = some (.inl 8) ∧ zs_C X d 8027 [.ref p0, .int (5 : Int32)] S (zs_kV (fun S2 => (Q (.returned none) S2)) Q))
theorem u_X9_withVar_55 {σ : Nat → Nat} {n0 : Nat} {bf : ab_B} {d : Nat} {p0 : Nat} {S : zs_T} {Q : zs_Q} (hB : zt_B bf) (h : w_X9_withVar_55 (zx σ n0 bf) d p0 S Q) : zs_U (zx σ n0 bf) d 8193 55 [(0, .ref p0)] [] S Q := by
  unfold w_X9_withVar_55 at h
  refine zu_aload_n d_8193_55 rfl (zs_ra _) ?_
  refine zu_iconst d_8193_56 zi_5 ?_
  obtain ⟨k1, h⟩ := h
  refine zc_8_541 (x0 := (5 : Int32)) hB rfl k1 d_8193_57 (Nat.le_of_ble_eq_true rfl) h (fun S2 h => ?_)
  exact zu_vret d_8193_60 zr_8193 h
def w_X9_withVar_144 (X : zs_X) (d : Nat) (p0 : Nat) (p1 : Int32) (p2 : Int32) (p3 : Int32) (q0 : Int32) (S : zs_T) (Q : zs_Q) : Prop :=
  (zs_K S p0 = some (.inl 8) ∧ zs_C X d 8010 [.ref p0] S (zs_kV (fun S2 => (zs_K S2 p0 = some (.inl 8) ∧ ∃ b5, (zs_R S2 8046 p0) = some b5 ∧ zs_A S2 b5 0 p2 ∧ zs_U X d 8193 158 [(0, .ref p0), (1, .int p1), (3, .int p3), (5, .int q0), (6, .int (zs_i S2 b5 p2.toNatClampNeg))] [] S2 Q)) Q))
theorem u_X9_withVar_144 {σ : Nat → Nat} {n0 : Nat} {bf : ab_B} {d : Nat} {p0 : Nat} {p1 : Int32} {p2 : Int32} {p3 : Int32} {q0 : Int32} {S : zs_T} {Q : zs_Q} (hB : zt_B bf) (h : w_X9_withVar_144 (zx σ n0 bf) d p0 p1 p2 p3 q0 S Q) : zs_U (zx σ n0 bf) d 8193 144 [(0, .ref p0), (1, .int p1), (2, .int p2), (3, .int p3)] [.int q0] S Q := by
  unfold w_X9_withVar_144 at h
  refine zu_istore d_8193_144 (zs_lt zq_8193 rfl) ?_
  refine zu_aload_n d_8193_146 rfl (zs_ra _) ?_
  obtain ⟨k1, h⟩ := h
  refine zc_8_603  hB rfl k1 d_8193_147 (Nat.le_of_ble_eq_true rfl) h (fun S2 h => ?_)
  refine zu_aload_n d_8193_150 rfl (zs_ra _) ?_
  obtain ⟨k4, h⟩ := h
  refine zg_8_96 rfl d_8193_151 k4 ?_
  refine zu_iload_n d_8193_154 rfl ?_
  obtain ⟨b5, e6, h⟩ := h
  refine zs_stk1 (zs_rfe e6) ?_
  obtain ⟨k7, h⟩ := h
  refine zu_iald (k := 0) d_8193_155 rfl rfl k7 ?_
  refine zu_istore d_8193_156 (zs_lt zq_8193 rfl) ?_
  exact h.weak ⟨rfl, rfl, rfl, rfl, rfl, trivial⟩
def w_X9_withVar_112 (X : zs_X) (d : Nat) (p0 : Nat) (p1 : Int32) (p2 : Int32) (p3 : Int32) (S : zs_T) (Q : zs_Q) : Prop :=
  (zs_K S p0 = some (.inl 8) ∧ zs_C X d 8012 [.ref p0, .int (88 : Int32), .int p3, .int (0 : Int32), .int (0 : Int32)] S (zs_kI (fun v3 S2 => (zs_K S2 p0 = some (.inl 8) ∧ ∃ b5, (zs_R S2 8094 p0) = some b5 ∧ zs_A S2 b5 0 (zs_I S2 8097 p0) ∧ ((((zs_i S2 b5 (zs_I S2 8097 p0).toNatClampNeg) &&& (1 : Int32)) = 0 → (w_X9_withVar_144 X d p0 p1 p2 p3 (0 : Int32) S2 Q)) ∧ (¬ (((zs_i S2 b5 (zs_I S2 8097 p0).toNatClampNeg) &&& (1 : Int32)) = 0) → (w_X9_withVar_144 X d p0 p1 p2 p3 (65536 : Int32) S2 Q))))) Q))
theorem u_X9_withVar_112 {σ : Nat → Nat} {n0 : Nat} {bf : ab_B} {d : Nat} {p0 : Nat} {p1 : Int32} {p2 : Int32} {p3 : Int32} {S : zs_T} {Q : zs_Q} (hB : zt_B bf) (h : w_X9_withVar_112 (zx σ n0 bf) d p0 p1 p2 p3 S Q) : zs_U (zx σ n0 bf) d 8193 112 [(0, .ref p0), (1, .int p1), (2, .int p2), (3, .int p3)] [] S Q := by
  unfold w_X9_withVar_112 at h
  refine zu_aload_n d_8193_112 rfl (zs_ra _) ?_
  refine zu_bipush d_8193_113 zj_88 ?_
  refine zu_iload_n d_8193_115 rfl ?_
  refine zu_iconst d_8193_116 zi_0 ?_
  refine zu_iconst d_8193_117 zi_0 ?_
  obtain ⟨k1, h⟩ := h
  refine zc_8_656 (x0 := (88 : Int32)) (x1 := p3) (x2 := (0 : Int32)) (x3 := (0 : Int32)) hB rfl k1 d_8193_118 (Nat.le_of_ble_eq_true rfl) h (fun v3 S2 h => ?_)
  refine zu_istore d_8193_121 (zs_lt zq_8193 rfl) ?_
  refine zu_aload_n d_8193_123 rfl (zs_ra _) ?_
  obtain ⟨k4, h⟩ := h
  refine zg_8_200 rfl d_8193_124 k4 ?_
  refine zu_aload_n d_8193_127 rfl (zs_ra _) ?_
  refine zg_8_653 rfl d_8193_128 k4 ?_
  obtain ⟨b5, e6, h⟩ := h
  refine zs_stk1 (zs_rfe e6) ?_
  obtain ⟨k7, h⟩ := h
  refine zu_iald (k := 0) d_8193_131 rfl rfl k7 ?_
  refine zu_iconst d_8193_132 zi_1 ?_
  refine zu_stk d_8193_133 rfl rfl ?_
  refine zu_ifeq (t := 143) d_8193_134 rfl (fun c8 => ?_) (fun c8 => ?_)
  · have h := h.1 c8
    refine zu_iconst d_8193_143 zi_0 ?_
    exact (u_X9_withVar_144 hB h).weak ⟨rfl, rfl, rfl, rfl, trivial⟩
  · have h := h.2 c8
    refine zlw_8_726 rfl d_8193_137 ?_
    refine zu_goto (t := 144) d_8193_140 rfl ?_
    exact (u_X9_withVar_144 hB h).weak ⟨rfl, rfl, rfl, rfl, trivial⟩
def w_X9_withVar_87 (X : zs_X) (d : Nat) (p0 : Nat) (p1 : Int32) (p2 : Int32) (q0 : Int32) (q1 : Int32) (S : zs_T) (Q : zs_Q) : Prop :=
  (zs_K S p0 = some (.inl 8) ∧ ∃ b2, (zs_R S 8107 p0) = some b2 ∧ zs_A S b2 0 (zs_I S 8113 p0) ∧ ab_n0 X.1 ≤ b2 ∧ ∀ S6, S6 = zs_si S b2 (zs_I S 8113 p0).toNatClampNeg ((zs_i S b2 (zs_I S 8113 p0).toNatClampNeg) + (1 : Int32)) → w_X9_withVar_112 X d p0 p1 p2 ((q0 + q1) + (zs_i S b2 (zs_I S 8113 p0).toNatClampNeg)) S6 Q)
theorem u_X9_withVar_87 {σ : Nat → Nat} {n0 : Nat} {bf : ab_B} {d : Nat} {p0 : Nat} {p1 : Int32} {p2 : Int32} {q0 : Int32} {q1 : Int32} {S : zs_T} {Q : zs_Q} (hB : zt_B bf) (h : w_X9_withVar_87 (zx σ n0 bf) d p0 p1 p2 q0 q1 S Q) : zs_U (zx σ n0 bf) d 8193 87 [(0, .ref p0), (1, .int p1), (2, .int p2)] [.int q1, .int q0] S Q := by
  unfold w_X9_withVar_87 at h
  refine zu_stk d_8193_87 rfl rfl ?_
  refine zu_aload_n d_8193_88 rfl (zs_ra _) ?_
  obtain ⟨k1, h⟩ := h
  refine zg_8_236 rfl d_8193_89 k1 ?_
  refine zu_aload_n d_8193_92 rfl (zs_ra _) ?_
  refine zg_8_722 rfl d_8193_93 k1 ?_
  obtain ⟨b2, e3, h⟩ := h
  refine zs_stk1 (zs_rfe e3) ?_
  obtain ⟨k4, h⟩ := h
  refine zu_iald (k := 0) d_8193_96 rfl rfl k4 ?_
  refine zu_stk d_8193_97 rfl rfl ?_
  refine zu_istore_n d_8193_98 (zs_lt zq_8193 rfl) ?_
  refine zu_aload_n d_8193_99 rfl (zs_ra _) ?_
  refine zg_8_236 rfl d_8193_100 k1 ?_
  refine zu_aload_n d_8193_103 rfl (zs_ra _) ?_
  refine zg_8_722 rfl d_8193_104 k1 ?_
  refine zu_dup2 d_8193_107 rfl (zs_cat _) ?_
  refine zs_stk1 (zs_rfe e3) ?_
  refine zu_iald (k := 0) d_8193_108 rfl rfl k4 ?_
  refine zu_iconst d_8193_109 zi_1 ?_
  refine zu_stk d_8193_110 rfl rfl ?_
  refine zs_stk2 (zs_rfe e3) ?_
  obtain ⟨k5, h⟩ := h
  refine zu_iast (k := 0) d_8193_111 rfl rfl k5 k4 ?_
  generalize e7 : zs_si S b2 (zs_I S 8113 p0).toNatClampNeg ((zs_i S b2 (zs_I S 8113 p0).toNatClampNeg) + (1 : Int32)) = S6
  have h := h S6 e7.symm
  have K8 : ∀ b, zs_K S6 b = zs_K S b := zs_Kt e7 (zs_Ksi _ _ _ _) (fun _ => rfl)
  exact (u_X9_withVar_112 hB h).weak ⟨rfl, rfl, rfl, rfl, trivial⟩
def w_X9_withVar_32 (X : zs_X) (d : Nat) (p0 : Nat) (p1 : Int32) (p2 : Int32) (S : zs_T) (Q : zs_Q) : Prop :=
  (zs_K S p0 = some (.inl 8) ∧ ∃ b2, (zs_R S 8092 p0) = some b2 ∧ zs_A S b2 2 (zs_I S 8097 p0) ∧ (((zs_i S b2 (zs_I S 8097 p0).toNatClampNeg) = 0 → w_X9_withVar_55 X d p0 S Q) ∧ (¬ ((zs_i S b2 (zs_I S 8097 p0).toNatClampNeg) = 0) → (∃ b6, (zs_R S 8044 p0) = some b6 ∧ zs_A S b6 1 p2 ∧ (((zs_i S b6 p2.toNatClampNeg) = (9 : Int32) → (∃ b10, (zs_R S 8102 p0) = some b10 ∧ zs_A S b10 0 (zs_I S 8113 p0) ∧ ∃ b13, (zs_R S 8100 p0) = some b13 ∧ zs_A S b13 0 (zs_I S 8113 p0) ∧ (((zs_i S b13 (zs_I S 8113 p0).toNatClampNeg) ≤ 0 → (w_X9_withVar_87 X d p0 p1 p2 (zs_i S b10 (zs_I S 8113 p0).toNatClampNeg) (0 : Int32) S Q)) ∧ (¬ ((zs_i S b13 (zs_I S 8113 p0).toNatClampNeg) ≤ 0) → (w_X9_withVar_87 X d p0 p1 p2 (zs_i S b10 (zs_I S 8113 p0).toNatClampNeg) (1 : Int32) S Q))))) ∧ (¬ ((zs_i S b6 p2.toNatClampNeg) = (9 : Int32)) → w_X9_withVar_55 X d p0 S Q))))))
theorem u_X9_withVar_32 {σ : Nat → Nat} {n0 : Nat} {bf : ab_B} {d : Nat} {p0 : Nat} {p1 : Int32} {p2 : Int32} {S : zs_T} {Q : zs_Q} (hB : zt_B bf) (h : w_X9_withVar_32 (zx σ n0 bf) d p0 p1 p2 S Q) : zs_U (zx σ n0 bf) d 8193 32 [(0, .ref p0), (1, .int p1), (2, .int p2)] [] S Q := by
  unfold w_X9_withVar_32 at h
  refine zu_aload_n d_8193_32 rfl (zs_ra _) ?_
  obtain ⟨k1, h⟩ := h
  refine zg_8_194 rfl d_8193_33 k1 ?_
  refine zu_aload_n d_8193_36 rfl (zs_ra _) ?_
  refine zg_8_653 rfl d_8193_37 k1 ?_
  obtain ⟨b2, e3, h⟩ := h
  refine zs_stk1 (zs_rfe e3) ?_
  obtain ⟨k4, h⟩ := h
  refine zu_bald (k := 2) d_8193_40 rfl (Or.inr rfl) k4 ?_
  refine zu_ifeq (t := 55) d_8193_41 rfl (fun c5 => ?_) (fun c5 => ?_)
  · have h := h.1 c5
    exact (u_X9_withVar_55 hB h).weak ⟨rfl, trivial⟩
  · have h := h.2 c5
    refine zu_aload_n d_8193_44 rfl (zs_ra _) ?_
    refine zg_8_90 rfl d_8193_45 k1 ?_
    refine zu_iload_n d_8193_48 rfl ?_
    obtain ⟨b6, e7, h⟩ := h
    refine zs_stk1 (zs_rfe e7) ?_
    obtain ⟨k8, h⟩ := h
    refine zu_bald (k := 1) d_8193_49 rfl (Or.inl rfl) k8 ?_
    refine zu_bipush d_8193_50 zj_9 ?_
    refine zu_cmpeq (t := 61) d_8193_52 rfl (fun c9 => ?_) (fun c9 => ?_)
    · have h := h.1 c9
      refine zu_aload_n d_8193_61 rfl (zs_ra _) ?_
      refine zg_8_221 rfl d_8193_62 k1 ?_
      refine zu_aload_n d_8193_65 rfl (zs_ra _) ?_
      refine zg_8_722 rfl d_8193_66 k1 ?_
      obtain ⟨b10, e11, h⟩ := h
      refine zs_stk1 (zs_rfe e11) ?_
      obtain ⟨k12, h⟩ := h
      refine zu_iald (k := 0) d_8193_69 rfl rfl k12 ?_
      refine zu_aload_n d_8193_70 rfl (zs_ra _) ?_
      refine zg_8_215 rfl d_8193_71 k1 ?_
      refine zu_aload_n d_8193_74 rfl (zs_ra _) ?_
      refine zg_8_722 rfl d_8193_75 k1 ?_
      obtain ⟨b13, e14, h⟩ := h
      refine zs_stk1 (zs_rfe e14) ?_
      obtain ⟨k15, h⟩ := h
      refine zu_iald (k := 0) d_8193_78 rfl rfl k15 ?_
      refine zu_ifle (t := 86) d_8193_79 rfl (fun c16 => ?_) (fun c16 => ?_)
      · have h := h.1 c16
        refine zu_iconst d_8193_86 zi_0 ?_
        exact (u_X9_withVar_87 hB h).weak ⟨rfl, rfl, rfl, trivial⟩
      · have h := h.2 c16
        refine zu_iconst d_8193_82 zi_1 ?_
        refine zu_goto (t := 87) d_8193_83 rfl ?_
        exact (u_X9_withVar_87 hB h).weak ⟨rfl, rfl, rfl, trivial⟩
    · have h := h.2 c9
      exact (u_X9_withVar_55 hB h).weak ⟨rfl, trivial⟩
def w_X9_withVar_306 (X : zs_X) (d : Nat)  (S : zs_T) (Q : zs_Q) : Prop :=
  (Q (.returned none) S)
theorem u_X9_withVar_306 {σ : Nat → Nat} {n0 : Nat} {bf : ab_B} {d : Nat}  {S : zs_T} {Q : zs_Q} (hB : zt_B bf) (h : w_X9_withVar_306 (zx σ n0 bf) d  S Q) : zs_U (zx σ n0 bf) d 8193 306 [] [] S Q := by
  unfold w_X9_withVar_306 at h
  exact zu_vret d_8193_306 zr_8193 h
def w_X9_withVar_275 (X : zs_X) (d : Nat) (p0 : Nat) (S : zs_T) (Q : zs_Q) : Prop :=
  (zs_K S p0 = some (.inl 8) ∧ zs_C X d 8171 [.ref p0] S (zs_kV (fun S2 => (w_X9_withVar_306 X d  S2 Q)) Q))
theorem u_X9_withVar_275 {σ : Nat → Nat} {n0 : Nat} {bf : ab_B} {d : Nat} {p0 : Nat} {S : zs_T} {Q : zs_Q} (hB : zt_B bf) (h : w_X9_withVar_275 (zx σ n0 bf) d p0 S Q) : zs_U (zx σ n0 bf) d 8193 275 [(0, .ref p0)] [] S Q := by
  unfold w_X9_withVar_275 at h
  refine zu_aload_n d_8193_275 rfl (zs_ra _) ?_
  obtain ⟨k1, h⟩ := h
  refine zc_8_968  hB rfl k1 d_8193_276 (Nat.le_of_ble_eq_true rfl) h (fun S2 h => ?_)
  refine zu_goto (t := 306) d_8193_279 rfl ?_
  exact (u_X9_withVar_306 hB h).weak trivial
def w_X9_withVar_247 (X : zs_X) (d : Nat) (p0 : Nat) (p1 : Int32) (S : zs_T) (Q : zs_Q) : Prop :=
  (zs_K S p0 = some (.inl 8) ∧ zs_C X d 8029 [.ref p0, .int (12 : Int32)] S (zs_kI (fun v3 S2 => (((v3 = 0 → (zs_K S2 p0 = some (.inl 8) ∧ zs_C X d 8025 [.ref p0, .int (14 : Int32)] S2 (zs_kV (fun S6 => (zs_K S6 p0 = some (.inl 8) ∧ zs_C X d 8030 [.ref p0, .int (123 : Int32), .int p1, .int (0 : Int32), .int (0 : Int32)] S6 (zs_kV (fun S9 => (zs_K S9 p0 = some (.inl 8) ∧ zs_C X d 8030 [.ref p0, .int (102 : Int32), .int (0 : Int32), .int (0 : Int32), .int (0 : Int32)] S9 (zs_kV (fun S12 => w_X9_withVar_306 X d  S12 Q) Q))) Q))) Q))) ∧ (¬ (v3 = 0) → (zs_K S2 p0 = some (.inl 8) ∧ zs_C X d 8014 [.ref p0] S2 (zs_kV (fun S15 => (zs_K S15 p0 = some (.inl 8) ∧ zs_C X d 8060 [.ref p0] S15 (zs_kV (fun S18 => (zs_K S18 p0 = some (.inl 8) ∧ zs_C X d 8030 [.ref p0, .int (122 : Int32), .int (p1 + (1 : Int32)), .int (0 : Int32), .int (0 : Int32)] S18 (zs_kV (fun S21 => w_X9_withVar_275 X d p0 S21 Q) Q))) Q))) Q)))))) Q))
theorem u_X9_withVar_247 {σ : Nat → Nat} {n0 : Nat} {bf : ab_B} {d : Nat} {p0 : Nat} {p1 : Int32} {S : zs_T} {Q : zs_Q} (hB : zt_B bf) (h : w_X9_withVar_247 (zx σ n0 bf) d p0 p1 S Q) : zs_U (zx σ n0 bf) d 8193 247 [(0, .ref p0), (1, .int p1)] [] S Q := by
  unfold w_X9_withVar_247 at h
  refine zu_aload_n d_8193_247 rfl (zs_ra _) ?_
  refine zu_bipush d_8193_248 zj_12 ?_
  obtain ⟨k1, h⟩ := h
  refine zc_8_535 (x0 := (12 : Int32)) hB rfl k1 d_8193_250 (Nat.le_of_ble_eq_true rfl) h (fun v3 S2 h => ?_)
  refine zu_ifeq (t := 282) d_8193_253 rfl (fun c4 => ?_) (fun c4 => ?_)
  · have h := h.1 c4
    refine zu_aload_n d_8193_282 rfl (zs_ra _) ?_
    refine zu_bipush d_8193_283 zj_14 ?_
    obtain ⟨k5, h⟩ := h
    refine zc_8_846 (x0 := (14 : Int32)) hB rfl k5 d_8193_285 (Nat.le_of_ble_eq_true rfl) h (fun S6 h => ?_)
    refine zu_aload_n d_8193_288 rfl (zs_ra _) ?_
    refine zu_bipush d_8193_289 zj_123 ?_
    refine zu_iload_n d_8193_291 rfl ?_
    refine zu_iconst d_8193_292 zi_0 ?_
    refine zu_iconst d_8193_293 zi_0 ?_
    obtain ⟨k8, h⟩ := h
    refine zc_8_649 (x0 := (123 : Int32)) (x1 := p1) (x2 := (0 : Int32)) (x3 := (0 : Int32)) hB rfl k8 d_8193_294 (Nat.le_of_ble_eq_true rfl) h (fun S9 h => ?_)
    refine zu_aload_n d_8193_297 rfl (zs_ra _) ?_
    refine zu_bipush d_8193_298 zj_102 ?_
    refine zu_iconst d_8193_300 zi_0 ?_
    refine zu_iconst d_8193_301 zi_0 ?_
    refine zu_iconst d_8193_302 zi_0 ?_
    obtain ⟨k11, h⟩ := h
    refine zc_8_649 (x0 := (102 : Int32)) (x1 := (0 : Int32)) (x2 := (0 : Int32)) (x3 := (0 : Int32)) hB rfl k11 d_8193_303 (Nat.le_of_ble_eq_true rfl) h (fun S12 h => ?_)
    exact (u_X9_withVar_306 hB h).weak trivial
  · have h := h.2 c4
    refine zu_aload_n d_8193_256 rfl (zs_ra _) ?_
    obtain ⟨k14, h⟩ := h
    refine zc_8_538  hB rfl k14 d_8193_257 (Nat.le_of_ble_eq_true rfl) h (fun S15 h => ?_)
    refine zu_aload_n d_8193_260 rfl (zs_ra _) ?_
    obtain ⟨k17, h⟩ := h
    refine zc_8_706  hB rfl k17 d_8193_261 (Nat.le_of_ble_eq_true rfl) h (fun S18 h => ?_)
    refine zu_aload_n d_8193_264 rfl (zs_ra _) ?_
    refine zu_bipush d_8193_265 zj_122 ?_
    refine zu_iload_n d_8193_267 rfl ?_
    refine zu_iconst d_8193_268 zi_1 ?_
    refine zu_stk d_8193_269 rfl rfl ?_
    refine zu_iconst d_8193_270 zi_0 ?_
    refine zu_iconst d_8193_271 zi_0 ?_
    obtain ⟨k20, h⟩ := h
    refine zc_8_649 (x0 := (122 : Int32)) (x1 := (p1 + (1 : Int32))) (x2 := (0 : Int32)) (x3 := (0 : Int32)) hB rfl k20 d_8193_272 (Nat.le_of_ble_eq_true rfl) h (fun S21 h => ?_)
    exact (u_X9_withVar_275 hB h).weak ⟨rfl, trivial⟩
def w_X9_withVar_235 (X : zs_X) (d : Nat) (p0 : Nat) (p1 : Int32) (p3 : Int32) (p5 : Int32) (p6 : Int32) (S : zs_T) (Q : zs_Q) : Prop :=
  (zs_K S p0 = some (.inl 8) ∧ ∃ b2, (zs_R S 8067 p0) = some b2 ∧ zs_A S b2 0 p6 ∧ zs_U X d 8193 158 [(0, .ref p0), (1, .int p1), (3, .int p3), (5, .int p5), (6, .int (zs_i S b2 p6.toNatClampNeg))] [] S Q)
theorem u_X9_withVar_235 {σ : Nat → Nat} {n0 : Nat} {bf : ab_B} {d : Nat} {p0 : Nat} {p1 : Int32} {p3 : Int32} {p5 : Int32} {p6 : Int32} {S : zs_T} {Q : zs_Q} (hB : zt_B bf) (h : w_X9_withVar_235 (zx σ n0 bf) d p0 p1 p3 p5 p6 S Q) : zs_U (zx σ n0 bf) d 8193 235 [(0, .ref p0), (1, .int p1), (3, .int p3), (5, .int p5), (6, .int p6)] [] S Q := by
  unfold w_X9_withVar_235 at h
  refine zu_aload_n d_8193_235 rfl (zs_ra _) ?_
  obtain ⟨k1, h⟩ := h
  refine zg_8_148 rfl d_8193_236 k1 ?_
  refine zu_iload d_8193_239 rfl ?_
  obtain ⟨b2, e3, h⟩ := h
  refine zs_stk1 (zs_rfe e3) ?_
  obtain ⟨k4, h⟩ := h
  refine zu_iald (k := 0) d_8193_241 rfl rfl k4 ?_
  refine zu_istore d_8193_242 (zs_lt zq_8193 rfl) ?_
  refine zu_goto (t := 158) d_8193_244 rfl ?_
  exact h.weak ⟨rfl, rfl, rfl, rfl, rfl, trivial⟩
def w_X9_withVar_196 (X : zs_X) (d : Nat) (p0 : Nat) (p1 : Int32) (p3 : Int32) (p5 : Int32) (p6 : Int32) (S : zs_T) (Q : zs_Q) : Prop :=
  (zs_K S p0 = some (.inl 8) ∧ ∃ b2, (zs_R S 8064 p0) = some b2 ∧ zs_A S b2 0 p6 ∧ ∃ b5, (zs_R S 8065 p0) = some b5 ∧ zs_A S b5 0 p6 ∧ zs_C X d 8011 [.ref p0, .int (zs_i S b2 p6.toNatClampNeg), .int (8 : Int32), .int (zs_i S b5 p6.toNatClampNeg), .int ((p6 <<< ((17 : Int32) &&& 31)) ||| p5), .int (((zs_I S 8113 p0) <<< ((16 : Int32) &&& 31)) ||| p3)] S (zs_kI (fun v9 S8 => (w_X9_withVar_235 X d p0 p1 p3 p5 p6 S8 Q)) Q))
theorem u_X9_withVar_196 {σ : Nat → Nat} {n0 : Nat} {bf : ab_B} {d : Nat} {p0 : Nat} {p1 : Int32} {p3 : Int32} {p5 : Int32} {p6 : Int32} {S : zs_T} {Q : zs_Q} (hB : zt_B bf) (h : w_X9_withVar_196 (zx σ n0 bf) d p0 p1 p3 p5 p6 S Q) : zs_U (zx σ n0 bf) d 8193 196 [(0, .ref p0), (1, .int p1), (3, .int p3), (5, .int p5), (6, .int p6)] [] S Q := by
  unfold w_X9_withVar_196 at h
  refine zu_aload_n d_8193_196 rfl (zs_ra _) ?_
  refine zu_aload_n d_8193_197 rfl (zs_ra _) ?_
  obtain ⟨k1, h⟩ := h
  refine zg_8_139 rfl d_8193_198 k1 ?_
  refine zu_iload d_8193_201 rfl ?_
  obtain ⟨b2, e3, h⟩ := h
  refine zs_stk1 (zs_rfe e3) ?_
  obtain ⟨k4, h⟩ := h
  refine zu_iald (k := 0) d_8193_203 rfl rfl k4 ?_
  refine zu_bipush d_8193_204 zj_8 ?_
  refine zu_aload_n d_8193_206 rfl (zs_ra _) ?_
  refine zg_8_142 rfl d_8193_207 k1 ?_
  refine zu_iload d_8193_210 rfl ?_
  obtain ⟨b5, e6, h⟩ := h
  refine zs_stk1 (zs_rfe e6) ?_
  obtain ⟨k7, h⟩ := h
  refine zu_iald (k := 0) d_8193_212 rfl rfl k7 ?_
  refine zu_iload d_8193_213 rfl ?_
  refine zu_bipush d_8193_215 zj_17 ?_
  refine zu_stk d_8193_217 rfl rfl ?_
  refine zu_iload d_8193_218 rfl ?_
  refine zu_stk d_8193_220 rfl rfl ?_
  refine zu_aload_n d_8193_221 rfl (zs_ra _) ?_
  refine zg_8_722 rfl d_8193_222 k1 ?_
  refine zu_bipush d_8193_225 zj_16 ?_
  refine zu_stk d_8193_227 rfl rfl ?_
  refine zu_iload_n d_8193_228 rfl ?_
  refine zu_stk d_8193_229 rfl rfl ?_
  refine zc_8_606 (x0 := (zs_i S b2 p6.toNatClampNeg)) (x1 := (8 : Int32)) (x2 := (zs_i S b5 p6.toNatClampNeg)) (x3 := ((p6 <<< ((17 : Int32) &&& 31)) ||| p5)) (x4 := (((zs_I S 8113 p0) <<< ((16 : Int32) &&& 31)) ||| p3)) hB rfl k1 d_8193_230 (Nat.le_of_ble_eq_true rfl) h (fun v9 S8 h => ?_)
  refine zu_istore d_8193_233 (zs_lt zq_8193 rfl) ?_
  exact (u_X9_withVar_235 hB h).weak ⟨rfl, rfl, rfl, rfl, rfl, trivial⟩
def w_X9_withVar_158 (X : zs_X) (d : Nat) (p0 : Nat) (p1 : Int32) (p3 : Int32) (p5 : Int32) (p6 : Int32) (S : zs_T) (Q : zs_Q) : Prop :=
  (((p6 ≤ 0 → w_X9_withVar_247 X d p0 p1 S Q) ∧ (¬ (p6 ≤ 0) → (zs_K S p0 = some (.inl 8) ∧ ((¬ (zs_I S 8010 p0) = 0 → w_X9_withVar_247 X d p0 p1 S Q) ∧ (¬ (¬ (zs_I S 8010 p0) = 0) → (ab_n0 X.1 ≤ p0 ∧ ∀ S5, S5 = zs_sI S 8154 p0 ((zs_I S 8154 p0) + (1 : Int32)) → (((zs_I S5 8154 p0) ≤ (4000 : Int32) → w_X9_withVar_196 X d p0 p1 p3 p5 p6 S5 Q) ∧ (¬ ((zs_I S5 8154 p0) ≤ (4000 : Int32)) → (zs_C X d 8027 [.ref p0, .int (8 : Int32)] S5 (zs_kV (fun S9 => w_X9_withVar_196 X d p0 p1 p3 p5 p6 S9 Q) Q)))))))))))
theorem u_X9_withVar_158 {σ : Nat → Nat} {n0 : Nat} {bf : ab_B} {d : Nat} {p0 : Nat} {p1 : Int32} {p3 : Int32} {p5 : Int32} {p6 : Int32} {S : zs_T} {Q : zs_Q} (hB : zt_B bf) (h : w_X9_withVar_158 (zx σ n0 bf) d p0 p1 p3 p5 p6 S Q) : zs_U (zx σ n0 bf) d 8193 158 [(0, .ref p0), (1, .int p1), (3, .int p3), (5, .int p5), (6, .int p6)] [] S Q := by
  unfold w_X9_withVar_158 at h
  refine zu_iload d_8193_158 rfl ?_
  refine zu_ifle (t := 247) d_8193_160 rfl (fun c1 => ?_) (fun c1 => ?_)
  · have h := h.1 c1
    exact (u_X9_withVar_247 hB h).weak ⟨rfl, rfl, trivial⟩
  · have h := h.2 c1
    refine zu_aload_n d_8193_163 rfl (zs_ra _) ?_
    obtain ⟨k2, h⟩ := h
    refine zg_8_444 rfl d_8193_164 k2 ?_
    refine zu_ifne (t := 247) d_8193_167 rfl (fun c3 => ?_) (fun c3 => ?_)
    · have h := h.1 c3
      exact (u_X9_withVar_247 hB h).weak ⟨rfl, rfl, trivial⟩
    · have h := h.2 c3
      refine zu_aload_n d_8193_170 rfl (zs_ra _) ?_
      refine zu_dup d_8193_171 rfl ?_
      refine zg_8_986 rfl d_8193_172 k2 ?_
      refine zu_iconst d_8193_175 zi_1 ?_
      refine zu_stk d_8193_176 rfl rfl ?_
      obtain ⟨k4, h⟩ := h
      refine zp_8_986 (v := ((zs_I S 8154 p0) + (1 : Int32))) rfl d_8193_177 k2 k4 ?_
      generalize e6 : zs_sI S 8154 p0 ((zs_I S 8154 p0) + (1 : Int32)) = S5
      have h := h S5 e6.symm
      have K7 : ∀ b, zs_K S5 b = zs_K S b := zs_Kt e6 (zs_KsI _ _ _ _) (fun _ => rfl)
      refine zu_aload_n d_8193_180 rfl (zs_ra _) ?_
      refine zg_8_986 rfl d_8193_181 ((K7 _).trans k2) ?_
      refine zu_sipush d_8193_184 zh_4000 ?_
      refine zu_cmple (t := 196) d_8193_187 rfl (fun c8 => ?_) (fun c8 => ?_)
      · have h := h.1 c8
        exact (u_X9_withVar_196 hB h).weak ⟨rfl, rfl, rfl, rfl, rfl, trivial⟩
      · have h := h.2 c8
        refine zu_aload_n d_8193_190 rfl (zs_ra _) ?_
        refine zu_bipush d_8193_191 zj_8 ?_
        refine zc_8_541 (x0 := (8 : Int32)) hB rfl ((K7 _).trans k2) d_8193_193 (Nat.le_of_ble_eq_true rfl) h (fun S9 h => ?_)
        exact (u_X9_withVar_196 hB h).weak ⟨rfl, rfl, rfl, rfl, rfl, trivial⟩
def w_X9_withVar (X : zs_X) (d : Nat) (p0 : Nat) (p1 : Int32) (S : zs_T) (Q : zs_Q) : Prop :=
  (zs_K S p0 = some (.inl 8) ∧ (((zs_I S 8010 p0) ≤ 0 → (ab_n0 X.1 ≤ p0 ∧ ∀ S4, S4 = zs_sI S 8097 p0 ((zs_I S 8097 p0) - (1 : Int32)) → ∃ b7, (zs_R S4 8091 p0) = some b7 ∧ zs_A S b7 0 (zs_I S4 8097 p0) ∧ zs_C X d 8073 [.ref p0, .int (zs_i S4 b7 (zs_I S4 8097 p0).toNatClampNeg)] S4 (zs_kI (fun v11 S10 => (w_X9_withVar_32 X d p0 p1 v11 S10 Q)) Q))) ∧ (¬ ((zs_I S 8010 p0) ≤ 0) → (Q (.returned none) S))))
theorem u_X9_withVar {σ : Nat → Nat} {n0 : Nat} {bf : ab_B} {d : Nat} {p0 : Nat} {p1 : Int32} {S : zs_T} {Q : zs_Q} (hB : zt_B bf) (hd : 1 ≤ d) (h : w_X9_withVar (zx σ n0 bf) (d - 1) p0 p1 S Q) : zs_C (zx σ n0 bf) d 8193 [.ref p0, .int p1] S Q := by
  have hL : lv_args 0 [.ref p0, .int p1] = [(0, .ref p0), (1, .int p1)] := rfl
  refine zs_C.of1 (hB.2 8193 (by decide) (by decide)) hd (by rw [hL]; exact zs_sub_self _ (by exact ⟨rfl, rfl, trivial⟩)) ?_
  rw [hL]
  clear hL
  unfold w_X9_withVar at h
  refine zu_aload_n d_8193_0 rfl (zs_ra _) ?_
  obtain ⟨k1, h⟩ := h
  refine zg_8_444 rfl d_8193_1 k1 ?_
  refine zu_ifle (t := 8) d_8193_4 rfl (fun c2 => ?_) (fun c2 => ?_)
  · have h := h.1 c2
    refine zu_aload_n d_8193_8 rfl (zs_ra _) ?_
    refine zu_dup d_8193_9 rfl ?_
    refine zg_8_653 rfl d_8193_10 k1 ?_
    refine zu_iconst d_8193_13 zi_1 ?_
    refine zu_stk d_8193_14 rfl rfl ?_
    obtain ⟨k3, h⟩ := h
    refine zp_8_653 (v := ((zs_I S 8097 p0) - (1 : Int32))) rfl d_8193_15 k1 k3 ?_
    generalize e5 : zs_sI S 8097 p0 ((zs_I S 8097 p0) - (1 : Int32)) = S4
    have h := h S4 e5.symm
    have K6 : ∀ b, zs_K S4 b = zs_K S b := zs_Kt e5 (zs_KsI _ _ _ _) (fun _ => rfl)
    refine zu_aload_n d_8193_18 rfl (zs_ra _) ?_
    refine zu_aload_n d_8193_19 rfl (zs_ra _) ?_
    refine zg_8_191 rfl d_8193_20 ((K6 _).trans k1) ?_
    refine zu_aload_n d_8193_23 rfl (zs_ra _) ?_
    refine zg_8_653 rfl d_8193_24 ((K6 _).trans k1) ?_
    obtain ⟨b7, e8, h⟩ := h
    refine zs_stk1 (zs_rfe e8) ?_
    obtain ⟨k9, h⟩ := h
    refine zu_iald (k := 0) d_8193_27 rfl rfl (zs_Ak K6 k9) ?_
    refine zc_8_730 (x0 := (zs_i S4 b7 (zs_I S4 8097 p0).toNatClampNeg)) hB rfl ((K6 _).trans k1) d_8193_28 (Nat.le_of_ble_eq_true rfl) h (fun v11 S10 h => ?_)
    refine zu_istore_n d_8193_31 (zs_lt zq_8193 rfl) ?_
    exact (u_X9_withVar_32 hB h).weak ⟨rfl, rfl, rfl, trivial⟩
  · have h := h.2 c2
    exact zu_vret d_8193_7 zr_8193 h
/-! SchemaPascalModel.withed(I)V -/
theorem zm_8194 {σ : Nat → Nat} {n0 : Nat} {bf : ab_B} : ab_code (zx σ n0 bf).1 8194 = prog_17_method_186_code := rfl
theorem zq_8194 {σ : Nat → Nat} {n0 : Nat} {bf : ab_B} : ab_maxL (zx σ n0 bf).1 8194 = 4 := rfl
theorem zr_8194 {σ : Nat → Nat} {n0 : Nat} {bf : ab_B} : ab_ret (zx σ n0 bf).1 8194 = (Option.none : Option Jvm.ClassFile.FieldType) := rfl
theorem d_8194_0 {σ : Nat → Nat} {n0 : Nat} {bf : ab_B} : decode (ab_code (zx σ n0 bf).1 8194) 0 = .ok (.aload_n 0, 1) := zd zm_8194 (by decide +kernel)
theorem d_8194_1 {σ : Nat → Nat} {n0 : Nat} {bf : ab_B} : decode (ab_code (zx σ n0 bf).1 8194) 1 = .ok (.getfield 550, 3) := zd zm_8194 (by decide +kernel)
theorem d_8194_4 {σ : Nat → Nat} {n0 : Nat} {bf : ab_B} : decode (ab_code (zx σ n0 bf).1 8194) 4 = .ok (.istore_n 2, 1) := zd zm_8194 (by decide +kernel)
theorem d_8194_5 {σ : Nat → Nat} {n0 : Nat} {bf : ab_B} : decode (ab_code (zx σ n0 bf).1 8194) 5 = .ok (.iconst 0, 1) := zd zm_8194 (by decide +kernel)
theorem d_8194_6 {σ : Nat → Nat} {n0 : Nat} {bf : ab_B} : decode (ab_code (zx σ n0 bf).1 8194) 6 = .ok (.istore_n 3, 1) := zd zm_8194 (by decide +kernel)
theorem d_8194_7 {σ : Nat → Nat} {n0 : Nat} {bf : ab_B} : decode (ab_code (zx σ n0 bf).1 8194) 7 = .ok (.iload_n 3, 1) := zd zm_8194 (by decide +kernel)
theorem d_8194_8 {σ : Nat → Nat} {n0 : Nat} {bf : ab_B} : decode (ab_code (zx σ n0 bf).1 8194) 8 = .ok (.iload_n 1, 1) := zd zm_8194 (by decide +kernel)
theorem d_8194_9 {σ : Nat → Nat} {n0 : Nat} {bf : ab_B} : decode (ab_code (zx σ n0 bf).1 8194) 9 = .ok (.if_icmp .ge 20, 3) := zd zm_8194 (by decide +kernel)
theorem d_8194_12 {σ : Nat → Nat} {n0 : Nat} {bf : ab_B} : decode (ab_code (zx σ n0 bf).1 8194) 12 = .ok (.aload_n 0, 1) := zd zm_8194 (by decide +kernel)
theorem d_8194_13 {σ : Nat → Nat} {n0 : Nat} {bf : ab_B} : decode (ab_code (zx σ n0 bf).1 8194) 13 = .ok (.getfield 444, 3) := zd zm_8194 (by decide +kernel)
theorem d_8194_16 {σ : Nat → Nat} {n0 : Nat} {bf : ab_B} : decode (ab_code (zx σ n0 bf).1 8194) 16 = .ok (.ifCond .ne 13, 3) := zd zm_8194 (by decide +kernel)
theorem d_8194_19 {σ : Nat → Nat} {n0 : Nat} {bf : ab_B} : decode (ab_code (zx σ n0 bf).1 8194) 19 = .ok (.aload_n 0, 1) := zd zm_8194 (by decide +kernel)
theorem d_8194_20 {σ : Nat → Nat} {n0 : Nat} {bf : ab_B} : decode (ab_code (zx σ n0 bf).1 8194) 20 = .ok (.invokevirtual 855, 3) := zd zm_8194 (by decide +kernel)
theorem d_8194_23 {σ : Nat → Nat} {n0 : Nat} {bf : ab_B} : decode (ab_code (zx σ n0 bf).1 8194) 23 = .ok (.iinc 3 1, 3) := zd zm_8194 (by decide +kernel)
theorem d_8194_26 {σ : Nat → Nat} {n0 : Nat} {bf : ab_B} : decode (ab_code (zx σ n0 bf).1 8194) 26 = .ok (.goto (-19), 3) := zd zm_8194 (by decide +kernel)
theorem d_8194_29 {σ : Nat → Nat} {n0 : Nat} {bf : ab_B} : decode (ab_code (zx σ n0 bf).1 8194) 29 = .ok (.aload_n 0, 1) := zd zm_8194 (by decide +kernel)
theorem d_8194_30 {σ : Nat → Nat} {n0 : Nat} {bf : ab_B} : decode (ab_code (zx σ n0 bf).1 8194) 30 = .ok (.dup, 1) := zd zm_8194 (by decide +kernel)
theorem d_8194_31 {σ : Nat → Nat} {n0 : Nat} {bf : ab_B} : decode (ab_code (zx σ n0 bf).1 8194) 31 = .ok (.getfield 986, 3) := zd zm_8194 (by decide +kernel)
theorem d_8194_34 {σ : Nat → Nat} {n0 : Nat} {bf : ab_B} : decode (ab_code (zx σ n0 bf).1 8194) 34 = .ok (.iload_n 2, 1) := zd zm_8194 (by decide +kernel)
theorem d_8194_35 {σ : Nat → Nat} {n0 : Nat} {bf : ab_B} : decode (ab_code (zx σ n0 bf).1 8194) 35 = .ok (.aload_n 0, 1) := zd zm_8194 (by decide +kernel)
theorem d_8194_36 {σ : Nat → Nat} {n0 : Nat} {bf : ab_B} : decode (ab_code (zx σ n0 bf).1 8194) 36 = .ok (.getfield 550, 3) := zd zm_8194 (by decide +kernel)
theorem d_8194_39 {σ : Nat → Nat} {n0 : Nat} {bf : ab_B} : decode (ab_code (zx σ n0 bf).1 8194) 39 = .ok (.isub, 1) := zd zm_8194 (by decide +kernel)
theorem d_8194_40 {σ : Nat → Nat} {n0 : Nat} {bf : ab_B} : decode (ab_code (zx σ n0 bf).1 8194) 40 = .ok (.isub, 1) := zd zm_8194 (by decide +kernel)
theorem d_8194_41 {σ : Nat → Nat} {n0 : Nat} {bf : ab_B} : decode (ab_code (zx σ n0 bf).1 8194) 41 = .ok (.putfield 986, 3) := zd zm_8194 (by decide +kernel)
theorem d_8194_44 {σ : Nat → Nat} {n0 : Nat} {bf : ab_B} : decode (ab_code (zx σ n0 bf).1 8194) 44 = .ok (.return_, 1) := zd zm_8194 (by decide +kernel)
def w_X9_withed_29 (X : zs_X) (d : Nat) (p0 : Nat) (p2 : Int32) (S : zs_T) (Q : zs_Q) : Prop :=
  (zs_K S p0 = some (.inl 8) ∧ ab_n0 X.1 ≤ p0 ∧ ∀ S3, S3 = zs_sI S 8154 p0 ((zs_I S 8154 p0) - (p2 - (zs_I S 8031 p0))) → Q (.returned none) S3)
theorem u_X9_withed_29 {σ : Nat → Nat} {n0 : Nat} {bf : ab_B} {d : Nat} {p0 : Nat} {p2 : Int32} {S : zs_T} {Q : zs_Q} (hB : zt_B bf) (h : w_X9_withed_29 (zx σ n0 bf) d p0 p2 S Q) : zs_U (zx σ n0 bf) d 8194 29 [(0, .ref p0), (2, .int p2)] [] S Q := by
  unfold w_X9_withed_29 at h
  refine zu_aload_n d_8194_29 rfl (zs_ra _) ?_
  refine zu_dup d_8194_30 rfl ?_
  obtain ⟨k1, h⟩ := h
  refine zg_8_986 rfl d_8194_31 k1 ?_
  refine zu_iload_n d_8194_34 rfl ?_
  refine zu_aload_n d_8194_35 rfl (zs_ra _) ?_
  refine zg_8_550 rfl d_8194_36 k1 ?_
  refine zu_stk d_8194_39 rfl rfl ?_
  refine zu_stk d_8194_40 rfl rfl ?_
  obtain ⟨k2, h⟩ := h
  refine zp_8_986 (v := ((zs_I S 8154 p0) - (p2 - (zs_I S 8031 p0)))) rfl d_8194_41 k1 k2 ?_
  generalize e4 : zs_sI S 8154 p0 ((zs_I S 8154 p0) - (p2 - (zs_I S 8031 p0))) = S3
  have h := h S3 e4.symm
  have K5 : ∀ b, zs_K S3 b = zs_K S b := zs_Kt e4 (zs_KsI _ _ _ _) (fun _ => rfl)
  exact zu_vret d_8194_44 zr_8194 h
def w_X9_withed_7 (X : zs_X) (d : Nat) (p0 : Nat) (p1 : Int32) (p2 : Int32) (p3 : Int32) (S : zs_T) (Q : zs_Q) : Prop :=
  (((p1 ≤ p3 → w_X9_withed_29 X d p0 p2 S Q) ∧ (¬ (p1 ≤ p3) → (zs_K S p0 = some (.inl 8) ∧ ((¬ (zs_I S 8010 p0) = 0 → w_X9_withed_29 X d p0 p2 S Q) ∧ (¬ (¬ (zs_I S 8010 p0) = 0) → (zs_C X d 8093 [.ref p0] S (zs_kV (fun S4 => (zs_U X d 8194 7 [(0, .ref p0), (1, .int p1), (2, .int p2), (3, .int (p3 + (1 : Int32)))] [] S4 Q)) Q))))))))
theorem u_X9_withed_7 {σ : Nat → Nat} {n0 : Nat} {bf : ab_B} {d : Nat} {p0 : Nat} {p1 : Int32} {p2 : Int32} {p3 : Int32} {S : zs_T} {Q : zs_Q} (hB : zt_B bf) (h : w_X9_withed_7 (zx σ n0 bf) d p0 p1 p2 p3 S Q) : zs_U (zx σ n0 bf) d 8194 7 [(0, .ref p0), (1, .int p1), (2, .int p2), (3, .int p3)] [] S Q := by
  unfold w_X9_withed_7 at h
  refine zu_iload_n d_8194_7 rfl ?_
  refine zu_iload_n d_8194_8 rfl ?_
  refine zu_cmpge (t := 29) d_8194_9 rfl (fun c1 => ?_) (fun c1 => ?_)
  · have h := h.1 c1
    exact (u_X9_withed_29 hB h).weak ⟨rfl, rfl, trivial⟩
  · have h := h.2 c1
    refine zu_aload_n d_8194_12 rfl (zs_ra _) ?_
    obtain ⟨k2, h⟩ := h
    refine zg_8_444 rfl d_8194_13 k2 ?_
    refine zu_ifne (t := 29) d_8194_16 rfl (fun c3 => ?_) (fun c3 => ?_)
    · have h := h.1 c3
      exact (u_X9_withed_29 hB h).weak ⟨rfl, rfl, trivial⟩
    · have h := h.2 c3
      refine zu_aload_n d_8194_19 rfl (zs_ra _) ?_
      refine zc_8_855  hB rfl k2 d_8194_20 (Nat.le_of_ble_eq_true rfl) h (fun S4 h => ?_)
      refine zu_iinc d_8194_23 rfl zi_1 (zs_lt zq_8194 rfl) ?_
      refine zu_goto (t := 7) d_8194_26 rfl ?_
      exact h.weak ⟨rfl, rfl, rfl, rfl, trivial⟩
def w_X9_withed (X : zs_X) (d : Nat) (p0 : Nat) (p1 : Int32) (S : zs_T) (Q : zs_Q) : Prop :=
  (zs_K S p0 = some (.inl 8) ∧ zs_U X d 8194 7 [(0, .ref p0), (1, .int p1), (2, .int (zs_I S 8031 p0)), (3, .int (0 : Int32))] [] S Q)
theorem u_X9_withed {σ : Nat → Nat} {n0 : Nat} {bf : ab_B} {d : Nat} {p0 : Nat} {p1 : Int32} {S : zs_T} {Q : zs_Q} (hB : zt_B bf) (hd : 1 ≤ d) (h : w_X9_withed (zx σ n0 bf) (d - 1) p0 p1 S Q) : zs_C (zx σ n0 bf) d 8194 [.ref p0, .int p1] S Q := by
  have hL : lv_args 0 [.ref p0, .int p1] = [(0, .ref p0), (1, .int p1)] := rfl
  refine zs_C.of1 (hB.2 8194 (by decide) (by decide)) hd (by rw [hL]; exact zs_sub_self _ (by exact ⟨rfl, rfl, trivial⟩)) ?_
  rw [hL]
  clear hL
  unfold w_X9_withed at h
  refine zu_aload_n d_8194_0 rfl (zs_ra _) ?_
  obtain ⟨k1, h⟩ := h
  refine zg_8_550 rfl d_8194_1 k1 ?_
  refine zu_istore_n d_8194_4 (zs_lt zq_8194 rfl) ?_
  refine zu_iconst d_8194_5 zi_0 ?_
  refine zu_istore_n d_8194_6 (zs_lt zq_8194 rfl) ?_
  exact h.weak ⟨rfl, rfl, rfl, rfl, trivial⟩
/-! SchemaPascalModel.newVar(I)V -/
theorem zm_8195 {σ : Nat → Nat} {n0 : Nat} {bf : ab_B} : ab_code (zx σ n0 bf).1 8195 = prog_17_method_192_code := rfl
theorem zq_8195 {σ : Nat → Nat} {n0 : Nat} {bf : ab_B} : ab_maxL (zx σ n0 bf).1 8195 = 4 := rfl
theorem zr_8195 {σ : Nat → Nat} {n0 : Nat} {bf : ab_B} : ab_ret (zx σ n0 bf).1 8195 = (Option.none : Option Jvm.ClassFile.FieldType) := rfl
theorem d_8195_0 {σ : Nat → Nat} {n0 : Nat} {bf : ab_B} : decode (ab_code (zx σ n0 bf).1 8195) 0 = .ok (.aload_n 0, 1) := zd zm_8195 (by decide +kernel)
theorem d_8195_1 {σ : Nat → Nat} {n0 : Nat} {bf : ab_B} : decode (ab_code (zx σ n0 bf).1 8195) 1 = .ok (.getfield 444, 3) := zd zm_8195 (by decide +kernel)
theorem d_8195_4 {σ : Nat → Nat} {n0 : Nat} {bf : ab_B} : decode (ab_code (zx σ n0 bf).1 8195) 4 = .ok (.ifCond .gt 36, 3) := zd zm_8195 (by decide +kernel)
theorem d_8195_7 {σ : Nat → Nat} {n0 : Nat} {bf : ab_B} : decode (ab_code (zx σ n0 bf).1 8195) 7 = .ok (.aload_n 0, 1) := zd zm_8195 (by decide +kernel)
theorem d_8195_8 {σ : Nat → Nat} {n0 : Nat} {bf : ab_B} : decode (ab_code (zx σ n0 bf).1 8195) 8 = .ok (.aload_n 0, 1) := zd zm_8195 (by decide +kernel)
theorem d_8195_9 {σ : Nat → Nat} {n0 : Nat} {bf : ab_B} : decode (ab_code (zx σ n0 bf).1 8195) 9 = .ok (.getfield 90, 3) := zd zm_8195 (by decide +kernel)
theorem d_8195_12 {σ : Nat → Nat} {n0 : Nat} {bf : ab_B} : decode (ab_code (zx σ n0 bf).1 8195) 12 = .ok (.aload_n 0, 1) := zd zm_8195 (by decide +kernel)
theorem d_8195_13 {σ : Nat → Nat} {n0 : Nat} {bf : ab_B} : decode (ab_code (zx σ n0 bf).1 8195) 13 = .ok (.getfield 191, 3) := zd zm_8195 (by decide +kernel)
theorem d_8195_16 {σ : Nat → Nat} {n0 : Nat} {bf : ab_B} : decode (ab_code (zx σ n0 bf).1 8195) 16 = .ok (.aload_n 0, 1) := zd zm_8195 (by decide +kernel)
theorem d_8195_17 {σ : Nat → Nat} {n0 : Nat} {bf : ab_B} : decode (ab_code (zx σ n0 bf).1 8195) 17 = .ok (.getfield 653, 3) := zd zm_8195 (by decide +kernel)
theorem d_8195_20 {σ : Nat → Nat} {n0 : Nat} {bf : ab_B} : decode (ab_code (zx σ n0 bf).1 8195) 20 = .ok (.iconst 1, 1) := zd zm_8195 (by decide +kernel)
theorem d_8195_21 {σ : Nat → Nat} {n0 : Nat} {bf : ab_B} : decode (ab_code (zx σ n0 bf).1 8195) 21 = .ok (.isub, 1) := zd zm_8195 (by decide +kernel)
theorem d_8195_22 {σ : Nat → Nat} {n0 : Nat} {bf : ab_B} : decode (ab_code (zx σ n0 bf).1 8195) 22 = .ok (.iaload, 1) := zd zm_8195 (by decide +kernel)
theorem d_8195_23 {σ : Nat → Nat} {n0 : Nat} {bf : ab_B} : decode (ab_code (zx σ n0 bf).1 8195) 23 = .ok (.baload, 1) := zd zm_8195 (by decide +kernel)
theorem d_8195_24 {σ : Nat → Nat} {n0 : Nat} {bf : ab_B} : decode (ab_code (zx σ n0 bf).1 8195) 24 = .ok (.bipush 10, 2) := zd zm_8195 (by decide +kernel)
theorem d_8195_26 {σ : Nat → Nat} {n0 : Nat} {bf : ab_B} : decode (ab_code (zx σ n0 bf).1 8195) 26 = .ok (.if_icmp .ne 7, 3) := zd zm_8195 (by decide +kernel)
theorem d_8195_29 {σ : Nat → Nat} {n0 : Nat} {bf : ab_B} : decode (ab_code (zx σ n0 bf).1 8195) 29 = .ok (.iconst 1, 1) := zd zm_8195 (by decide +kernel)
theorem d_8195_30 {σ : Nat → Nat} {n0 : Nat} {bf : ab_B} : decode (ab_code (zx σ n0 bf).1 8195) 30 = .ok (.goto 4, 3) := zd zm_8195 (by decide +kernel)
theorem d_8195_33 {σ : Nat → Nat} {n0 : Nat} {bf : ab_B} : decode (ab_code (zx σ n0 bf).1 8195) 33 = .ok (.iconst 0, 1) := zd zm_8195 (by decide +kernel)
theorem d_8195_34 {σ : Nat → Nat} {n0 : Nat} {bf : ab_B} : decode (ab_code (zx σ n0 bf).1 8195) 34 = .ok (.invokevirtual 989, 3) := zd zm_8195 (by decide +kernel)
theorem d_8195_37 {σ : Nat → Nat} {n0 : Nat} {bf : ab_B} : decode (ab_code (zx σ n0 bf).1 8195) 37 = .ok (.ifCond .ne 4, 3) := zd zm_8195 (by decide +kernel)
theorem d_8195_40 {σ : Nat → Nat} {n0 : Nat} {bf : ab_B} : decode (ab_code (zx σ n0 bf).1 8195) 40 = .ok (.return_, 1) := zd zm_8195 (by decide +kernel)
theorem d_8195_41 {σ : Nat → Nat} {n0 : Nat} {bf : ab_B} : decode (ab_code (zx σ n0 bf).1 8195) 41 = .ok (.aload_n 0, 1) := zd zm_8195 (by decide +kernel)
theorem d_8195_42 {σ : Nat → Nat} {n0 : Nat} {bf : ab_B} : decode (ab_code (zx σ n0 bf).1 8195) 42 = .ok (.aload_n 0, 1) := zd zm_8195 (by decide +kernel)
theorem d_8195_43 {σ : Nat → Nat} {n0 : Nat} {bf : ab_B} : decode (ab_code (zx σ n0 bf).1 8195) 43 = .ok (.getfield 191, 3) := zd zm_8195 (by decide +kernel)
theorem d_8195_46 {σ : Nat → Nat} {n0 : Nat} {bf : ab_B} : decode (ab_code (zx σ n0 bf).1 8195) 46 = .ok (.aload_n 0, 1) := zd zm_8195 (by decide +kernel)
theorem d_8195_47 {σ : Nat → Nat} {n0 : Nat} {bf : ab_B} : decode (ab_code (zx σ n0 bf).1 8195) 47 = .ok (.getfield 653, 3) := zd zm_8195 (by decide +kernel)
theorem d_8195_50 {σ : Nat → Nat} {n0 : Nat} {bf : ab_B} : decode (ab_code (zx σ n0 bf).1 8195) 50 = .ok (.iconst 1, 1) := zd zm_8195 (by decide +kernel)
theorem d_8195_51 {σ : Nat → Nat} {n0 : Nat} {bf : ab_B} : decode (ab_code (zx σ n0 bf).1 8195) 51 = .ok (.isub, 1) := zd zm_8195 (by decide +kernel)
theorem d_8195_52 {σ : Nat → Nat} {n0 : Nat} {bf : ab_B} : decode (ab_code (zx σ n0 bf).1 8195) 52 = .ok (.iaload, 1) := zd zm_8195 (by decide +kernel)
theorem d_8195_53 {σ : Nat → Nat} {n0 : Nat} {bf : ab_B} : decode (ab_code (zx σ n0 bf).1 8195) 53 = .ok (.invokevirtual 736, 3) := zd zm_8195 (by decide +kernel)
theorem d_8195_56 {σ : Nat → Nat} {n0 : Nat} {bf : ab_B} : decode (ab_code (zx σ n0 bf).1 8195) 56 = .ok (.istore_n 2, 1) := zd zm_8195 (by decide +kernel)
theorem d_8195_57 {σ : Nat → Nat} {n0 : Nat} {bf : ab_B} : decode (ab_code (zx σ n0 bf).1 8195) 57 = .ok (.aload_n 0, 1) := zd zm_8195 (by decide +kernel)
theorem d_8195_58 {σ : Nat → Nat} {n0 : Nat} {bf : ab_B} : decode (ab_code (zx σ n0 bf).1 8195) 58 = .ok (.dup, 1) := zd zm_8195 (by decide +kernel)
theorem d_8195_59 {σ : Nat → Nat} {n0 : Nat} {bf : ab_B} : decode (ab_code (zx σ n0 bf).1 8195) 59 = .ok (.getfield 653, 3) := zd zm_8195 (by decide +kernel)
theorem d_8195_62 {σ : Nat → Nat} {n0 : Nat} {bf : ab_B} : decode (ab_code (zx σ n0 bf).1 8195) 62 = .ok (.iconst 1, 1) := zd zm_8195 (by decide +kernel)
theorem d_8195_63 {σ : Nat → Nat} {n0 : Nat} {bf : ab_B} : decode (ab_code (zx σ n0 bf).1 8195) 63 = .ok (.isub, 1) := zd zm_8195 (by decide +kernel)
theorem d_8195_64 {σ : Nat → Nat} {n0 : Nat} {bf : ab_B} : decode (ab_code (zx σ n0 bf).1 8195) 64 = .ok (.putfield 653, 3) := zd zm_8195 (by decide +kernel)
theorem d_8195_67 {σ : Nat → Nat} {n0 : Nat} {bf : ab_B} : decode (ab_code (zx σ n0 bf).1 8195) 67 = .ok (.aload_n 0, 1) := zd zm_8195 (by decide +kernel)
theorem d_8195_68 {σ : Nat → Nat} {n0 : Nat} {bf : ab_B} : decode (ab_code (zx σ n0 bf).1 8195) 68 = .ok (.getfield 90, 3) := zd zm_8195 (by decide +kernel)
theorem d_8195_71 {σ : Nat → Nat} {n0 : Nat} {bf : ab_B} : decode (ab_code (zx σ n0 bf).1 8195) 71 = .ok (.iload_n 2, 1) := zd zm_8195 (by decide +kernel)
theorem d_8195_72 {σ : Nat → Nat} {n0 : Nat} {bf : ab_B} : decode (ab_code (zx σ n0 bf).1 8195) 72 = .ok (.baload, 1) := zd zm_8195 (by decide +kernel)
theorem d_8195_73 {σ : Nat → Nat} {n0 : Nat} {bf : ab_B} : decode (ab_code (zx σ n0 bf).1 8195) 73 = .ok (.bipush 15, 2) := zd zm_8195 (by decide +kernel)
theorem d_8195_75 {σ : Nat → Nat} {n0 : Nat} {bf : ab_B} : decode (ab_code (zx σ n0 bf).1 8195) 75 = .ok (.if_icmp .ne 57, 3) := zd zm_8195 (by decide +kernel)
theorem d_8195_78 {σ : Nat → Nat} {n0 : Nat} {bf : ab_B} : decode (ab_code (zx σ n0 bf).1 8195) 78 = .ok (.aload_n 0, 1) := zd zm_8195 (by decide +kernel)
theorem d_8195_79 {σ : Nat → Nat} {n0 : Nat} {bf : ab_B} : decode (ab_code (zx σ n0 bf).1 8195) 79 = .ok (.bipush 12, 2) := zd zm_8195 (by decide +kernel)
theorem d_8195_81 {σ : Nat → Nat} {n0 : Nat} {bf : ab_B} : decode (ab_code (zx σ n0 bf).1 8195) 81 = .ok (.invokevirtual 535, 3) := zd zm_8195 (by decide +kernel)
theorem d_8195_84 {σ : Nat → Nat} {n0 : Nat} {bf : ab_B} : decode (ab_code (zx σ n0 bf).1 8195) 84 = .ok (.ifCond .eq 27, 3) := zd zm_8195 (by decide +kernel)
theorem d_8195_87 {σ : Nat → Nat} {n0 : Nat} {bf : ab_B} : decode (ab_code (zx σ n0 bf).1 8195) 87 = .ok (.aload_n 0, 1) := zd zm_8195 (by decide +kernel)
theorem d_8195_88 {σ : Nat → Nat} {n0 : Nat} {bf : ab_B} : decode (ab_code (zx σ n0 bf).1 8195) 88 = .ok (.invokevirtual 538, 3) := zd zm_8195 (by decide +kernel)
theorem d_8195_91 {σ : Nat → Nat} {n0 : Nat} {bf : ab_B} : decode (ab_code (zx σ n0 bf).1 8195) 91 = .ok (.aload_n 0, 1) := zd zm_8195 (by decide +kernel)
theorem d_8195_92 {σ : Nat → Nat} {n0 : Nat} {bf : ab_B} : decode (ab_code (zx σ n0 bf).1 8195) 92 = .ok (.bipush 125, 2) := zd zm_8195 (by decide +kernel)
theorem d_8195_94 {σ : Nat → Nat} {n0 : Nat} {bf : ab_B} : decode (ab_code (zx σ n0 bf).1 8195) 94 = .ok (.iload_n 2, 1) := zd zm_8195 (by decide +kernel)
theorem d_8195_95 {σ : Nat → Nat} {n0 : Nat} {bf : ab_B} : decode (ab_code (zx σ n0 bf).1 8195) 95 = .ok (.iconst 0, 1) := zd zm_8195 (by decide +kernel)
theorem d_8195_96 {σ : Nat → Nat} {n0 : Nat} {bf : ab_B} : decode (ab_code (zx σ n0 bf).1 8195) 96 = .ok (.iload_n 1, 1) := zd zm_8195 (by decide +kernel)
theorem d_8195_97 {σ : Nat → Nat} {n0 : Nat} {bf : ab_B} : decode (ab_code (zx σ n0 bf).1 8195) 97 = .ok (.invokevirtual 649, 3) := zd zm_8195 (by decide +kernel)
theorem d_8195_100 {σ : Nat → Nat} {n0 : Nat} {bf : ab_B} : decode (ab_code (zx σ n0 bf).1 8195) 100 = .ok (.aload_n 0, 1) := zd zm_8195 (by decide +kernel)
theorem d_8195_101 {σ : Nat → Nat} {n0 : Nat} {bf : ab_B} : decode (ab_code (zx σ n0 bf).1 8195) 101 = .ok (.iconst 2, 1) := zd zm_8195 (by decide +kernel)
theorem d_8195_102 {σ : Nat → Nat} {n0 : Nat} {bf : ab_B} : decode (ab_code (zx σ n0 bf).1 8195) 102 = .ok (.iconst 0, 1) := zd zm_8195 (by decide +kernel)
theorem d_8195_103 {σ : Nat → Nat} {n0 : Nat} {bf : ab_B} : decode (ab_code (zx σ n0 bf).1 8195) 103 = .ok (.iconst 0, 1) := zd zm_8195 (by decide +kernel)
theorem d_8195_104 {σ : Nat → Nat} {n0 : Nat} {bf : ab_B} : decode (ab_code (zx σ n0 bf).1 8195) 104 = .ok (.iconst 0, 1) := zd zm_8195 (by decide +kernel)
theorem d_8195_105 {σ : Nat → Nat} {n0 : Nat} {bf : ab_B} : decode (ab_code (zx σ n0 bf).1 8195) 105 = .ok (.invokevirtual 649, 3) := zd zm_8195 (by decide +kernel)
theorem d_8195_108 {σ : Nat → Nat} {n0 : Nat} {bf : ab_B} : decode (ab_code (zx σ n0 bf).1 8195) 108 = .ok (.goto 48, 3) := zd zm_8195 (by decide +kernel)
theorem d_8195_111 {σ : Nat → Nat} {n0 : Nat} {bf : ab_B} : decode (ab_code (zx σ n0 bf).1 8195) 111 = .ok (.aload_n 0, 1) := zd zm_8195 (by decide +kernel)
theorem d_8195_112 {σ : Nat → Nat} {n0 : Nat} {bf : ab_B} : decode (ab_code (zx σ n0 bf).1 8195) 112 = .ok (.aload_n 0, 1) := zd zm_8195 (by decide +kernel)
theorem d_8195_113 {σ : Nat → Nat} {n0 : Nat} {bf : ab_B} : decode (ab_code (zx σ n0 bf).1 8195) 113 = .ok (.bipush 9, 2) := zd zm_8195 (by decide +kernel)
theorem d_8195_115 {σ : Nat → Nat} {n0 : Nat} {bf : ab_B} : decode (ab_code (zx σ n0 bf).1 8195) 115 = .ok (.invokevirtual 535, 3) := zd zm_8195 (by decide +kernel)
theorem d_8195_118 {σ : Nat → Nat} {n0 : Nat} {bf : ab_B} : decode (ab_code (zx σ n0 bf).1 8195) 118 = .ok (.ifCond .eq 7, 3) := zd zm_8195 (by decide +kernel)
theorem d_8195_121 {σ : Nat → Nat} {n0 : Nat} {bf : ab_B} : decode (ab_code (zx σ n0 bf).1 8195) 121 = .ok (.iconst 5, 1) := zd zm_8195 (by decide +kernel)
theorem d_8195_122 {σ : Nat → Nat} {n0 : Nat} {bf : ab_B} : decode (ab_code (zx σ n0 bf).1 8195) 122 = .ok (.goto 4, 3) := zd zm_8195 (by decide +kernel)
theorem d_8195_125 {σ : Nat → Nat} {n0 : Nat} {bf : ab_B} : decode (ab_code (zx σ n0 bf).1 8195) 125 = .ok (.iconst 2, 1) := zd zm_8195 (by decide +kernel)
theorem d_8195_126 {σ : Nat → Nat} {n0 : Nat} {bf : ab_B} : decode (ab_code (zx σ n0 bf).1 8195) 126 = .ok (.invokevirtual 541, 3) := zd zm_8195 (by decide +kernel)
theorem d_8195_129 {σ : Nat → Nat} {n0 : Nat} {bf : ab_B} : decode (ab_code (zx σ n0 bf).1 8195) 129 = .ok (.goto 27, 3) := zd zm_8195 (by decide +kernel)
theorem d_8195_132 {σ : Nat → Nat} {n0 : Nat} {bf : ab_B} : decode (ab_code (zx σ n0 bf).1 8195) 132 = .ok (.aload_n 0, 1) := zd zm_8195 (by decide +kernel)
theorem d_8195_133 {σ : Nat → Nat} {n0 : Nat} {bf : ab_B} : decode (ab_code (zx σ n0 bf).1 8195) 133 = .ok (.bipush 12, 2) := zd zm_8195 (by decide +kernel)
theorem d_8195_135 {σ : Nat → Nat} {n0 : Nat} {bf : ab_B} : decode (ab_code (zx σ n0 bf).1 8195) 135 = .ok (.invokevirtual 535, 3) := zd zm_8195 (by decide +kernel)
theorem d_8195_138 {σ : Nat → Nat} {n0 : Nat} {bf : ab_B} : decode (ab_code (zx σ n0 bf).1 8195) 138 = .ok (.ifCond .eq 8, 3) := zd zm_8195 (by decide +kernel)
theorem d_8195_141 {σ : Nat → Nat} {n0 : Nat} {bf : ab_B} : decode (ab_code (zx σ n0 bf).1 8195) 141 = .ok (.aload_n 0, 1) := zd zm_8195 (by decide +kernel)
theorem d_8195_142 {σ : Nat → Nat} {n0 : Nat} {bf : ab_B} : decode (ab_code (zx σ n0 bf).1 8195) 142 = .ok (.iconst 5, 1) := zd zm_8195 (by decide +kernel)
theorem d_8195_143 {σ : Nat → Nat} {n0 : Nat} {bf : ab_B} : decode (ab_code (zx σ n0 bf).1 8195) 143 = .ok (.invokevirtual 541, 3) := zd zm_8195 (by decide +kernel)
theorem d_8195_146 {σ : Nat → Nat} {n0 : Nat} {bf : ab_B} : decode (ab_code (zx σ n0 bf).1 8195) 146 = .ok (.aload_n 0, 1) := zd zm_8195 (by decide +kernel)
theorem d_8195_147 {σ : Nat → Nat} {n0 : Nat} {bf : ab_B} : decode (ab_code (zx σ n0 bf).1 8195) 147 = .ok (.bipush 99, 2) := zd zm_8195 (by decide +kernel)
theorem d_8195_149 {σ : Nat → Nat} {n0 : Nat} {bf : ab_B} : decode (ab_code (zx σ n0 bf).1 8195) 149 = .ok (.iload_n 2, 1) := zd zm_8195 (by decide +kernel)
theorem d_8195_150 {σ : Nat → Nat} {n0 : Nat} {bf : ab_B} : decode (ab_code (zx σ n0 bf).1 8195) 150 = .ok (.iconst 0, 1) := zd zm_8195 (by decide +kernel)
theorem d_8195_151 {σ : Nat → Nat} {n0 : Nat} {bf : ab_B} : decode (ab_code (zx σ n0 bf).1 8195) 151 = .ok (.iload_n 1, 1) := zd zm_8195 (by decide +kernel)
theorem d_8195_152 {σ : Nat → Nat} {n0 : Nat} {bf : ab_B} : decode (ab_code (zx σ n0 bf).1 8195) 152 = .ok (.invokevirtual 656, 3) := zd zm_8195 (by decide +kernel)
theorem d_8195_155 {σ : Nat → Nat} {n0 : Nat} {bf : ab_B} : decode (ab_code (zx σ n0 bf).1 8195) 155 = .ok (.istore_n 3, 1) := zd zm_8195 (by decide +kernel)
theorem d_8195_156 {σ : Nat → Nat} {n0 : Nat} {bf : ab_B} : decode (ab_code (zx σ n0 bf).1 8195) 156 = .ok (.return_, 1) := zd zm_8195 (by decide +kernel)
def w_X9_newVar_146 (X : zs_X) (d : Nat) (p0 : Nat) (p1 : Int32) (p2 : Int32) (S : zs_T) (Q : zs_Q) : Prop :=
  (zs_K S p0 = some (.inl 8) ∧ zs_C X d 8012 [.ref p0, .int (99 : Int32), .int p2, .int (0 : Int32), .int p1] S (zs_kI (fun v3 S2 => (Q (.returned none) S2)) Q))
theorem u_X9_newVar_146 {σ : Nat → Nat} {n0 : Nat} {bf : ab_B} {d : Nat} {p0 : Nat} {p1 : Int32} {p2 : Int32} {S : zs_T} {Q : zs_Q} (hB : zt_B bf) (h : w_X9_newVar_146 (zx σ n0 bf) d p0 p1 p2 S Q) : zs_U (zx σ n0 bf) d 8195 146 [(0, .ref p0), (1, .int p1), (2, .int p2)] [] S Q := by
  unfold w_X9_newVar_146 at h
  refine zu_aload_n d_8195_146 rfl (zs_ra _) ?_
  refine zu_bipush d_8195_147 zj_99 ?_
  refine zu_iload_n d_8195_149 rfl ?_
  refine zu_iconst d_8195_150 zi_0 ?_
  refine zu_iload_n d_8195_151 rfl ?_
  obtain ⟨k1, h⟩ := h
  refine zc_8_656 (x0 := (99 : Int32)) (x1 := p2) (x2 := (0 : Int32)) (x3 := p1) hB rfl k1 d_8195_152 (Nat.le_of_ble_eq_true rfl) h (fun v3 S2 h => ?_)
  refine zu_istore_n d_8195_155 (zs_lt zq_8195 rfl) ?_
  exact zu_vret d_8195_156 zr_8195 h
def w_X9_newVar_126 (X : zs_X) (d : Nat) (q0 : Option Nat) (q1 : Int32) (S : zs_T) (Q : zs_Q) : Prop :=
  (∃ b1, q0 = some b1 ∧ zs_K S b1 = some (.inl 8) ∧ zs_C X d 8027 [.ref b1, .int q1] S (zs_kV (fun S4 => (Q (.returned none) S4)) Q))
theorem u_X9_newVar_126 {σ : Nat → Nat} {n0 : Nat} {bf : ab_B} {d : Nat} {q0 : Option Nat} {q1 : Int32} {S : zs_T} {Q : zs_Q} (hB : zt_B bf) (h : w_X9_newVar_126 (zx σ n0 bf) d q0 q1 S Q) : zs_U (zx σ n0 bf) d 8195 126 [] [.int q1, va_rf q0] S Q := by
  unfold w_X9_newVar_126 at h
  obtain ⟨b1, e2, h⟩ := h
  refine zs_stk1 (zs_rfe e2) ?_
  obtain ⟨k3, h⟩ := h
  refine zc_8_541 (x0 := q1) hB rfl k3 d_8195_126 (Nat.le_of_ble_eq_true rfl) h (fun S4 h => ?_)
  refine zu_goto (t := 156) d_8195_129 rfl ?_
  exact zu_vret d_8195_156 zr_8195 h
def w_X9_newVar_100 (X : zs_X) (d : Nat) (p0 : Nat) (S : zs_T) (Q : zs_Q) : Prop :=
  (zs_K S p0 = some (.inl 8) ∧ zs_C X d 8030 [.ref p0, .int (2 : Int32), .int (0 : Int32), .int (0 : Int32), .int (0 : Int32)] S (zs_kV (fun S2 => (Q (.returned none) S2)) Q))
theorem u_X9_newVar_100 {σ : Nat → Nat} {n0 : Nat} {bf : ab_B} {d : Nat} {p0 : Nat} {S : zs_T} {Q : zs_Q} (hB : zt_B bf) (h : w_X9_newVar_100 (zx σ n0 bf) d p0 S Q) : zs_U (zx σ n0 bf) d 8195 100 [(0, .ref p0)] [] S Q := by
  unfold w_X9_newVar_100 at h
  refine zu_aload_n d_8195_100 rfl (zs_ra _) ?_
  refine zu_iconst d_8195_101 zi_2 ?_
  refine zu_iconst d_8195_102 zi_0 ?_
  refine zu_iconst d_8195_103 zi_0 ?_
  refine zu_iconst d_8195_104 zi_0 ?_
  obtain ⟨k1, h⟩ := h
  refine zc_8_649 (x0 := (2 : Int32)) (x1 := (0 : Int32)) (x2 := (0 : Int32)) (x3 := (0 : Int32)) hB rfl k1 d_8195_105 (Nat.le_of_ble_eq_true rfl) h (fun S2 h => ?_)
  refine zu_goto (t := 156) d_8195_108 rfl ?_
  exact zu_vret d_8195_156 zr_8195 h
def w_X9_newVar_67 (X : zs_X) (d : Nat) (p0 : Nat) (p1 : Int32) (p2 : Int32) (S : zs_T) (Q : zs_Q) : Prop :=
  (zs_K S p0 = some (.inl 8) ∧ ∃ b2, (zs_R S 8044 p0) = some b2 ∧ zs_A S b2 1 p2 ∧ ((¬ (zs_i S b2 p2.toNatClampNeg) = (15 : Int32) → (zs_C X d 8029 [.ref p0, .int (12 : Int32)] S (zs_kI (fun v7 S6 => (((v7 = 0 → w_X9_newVar_146 X d p0 p1 p2 S6 Q) ∧ (¬ (v7 = 0) → (zs_K S6 p0 = some (.inl 8) ∧ zs_C X d 8027 [.ref p0, .int (5 : Int32)] S6 (zs_kV (fun S10 => w_X9_newVar_146 X d p0 p1 p2 S10 Q) Q)))))) Q))) ∧ (¬ (¬ (zs_i S b2 p2.toNatClampNeg) = (15 : Int32)) → (zs_C X d 8029 [.ref p0, .int (12 : Int32)] S (zs_kI (fun v13 S12 => (((v13 = 0 → (zs_K S12 p0 = some (.inl 8) ∧ zs_C X d 8029 [.ref p0, .int (9 : Int32)] S12 (zs_kI (fun v17 S16 => (((v17 = 0 → (w_X9_newVar_126 X d (some p0) (2 : Int32) S16 Q)) ∧ (¬ (v17 = 0) → (w_X9_newVar_126 X d (some p0) (5 : Int32) S16 Q))))) Q))) ∧ (¬ (v13 = 0) → (zs_K S12 p0 = some (.inl 8) ∧ zs_C X d 8014 [.ref p0] S12 (zs_kV (fun S20 => (zs_K S20 p0 = some (.inl 8) ∧ zs_C X d 8030 [.ref p0, .int (125 : Int32), .int p2, .int (0 : Int32), .int p1] S20 (zs_kV (fun S23 => w_X9_newVar_100 X d p0 S23 Q) Q))) Q)))))) Q)))))
theorem u_X9_newVar_67 {σ : Nat → Nat} {n0 : Nat} {bf : ab_B} {d : Nat} {p0 : Nat} {p1 : Int32} {p2 : Int32} {S : zs_T} {Q : zs_Q} (hB : zt_B bf) (h : w_X9_newVar_67 (zx σ n0 bf) d p0 p1 p2 S Q) : zs_U (zx σ n0 bf) d 8195 67 [(0, .ref p0), (1, .int p1), (2, .int p2)] [] S Q := by
  unfold w_X9_newVar_67 at h
  refine zu_aload_n d_8195_67 rfl (zs_ra _) ?_
  obtain ⟨k1, h⟩ := h
  refine zg_8_90 rfl d_8195_68 k1 ?_
  refine zu_iload_n d_8195_71 rfl ?_
  obtain ⟨b2, e3, h⟩ := h
  refine zs_stk1 (zs_rfe e3) ?_
  obtain ⟨k4, h⟩ := h
  refine zu_bald (k := 1) d_8195_72 rfl (Or.inl rfl) k4 ?_
  refine zu_bipush d_8195_73 zj_15 ?_
  refine zu_cmpne (t := 132) d_8195_75 rfl (fun c5 => ?_) (fun c5 => ?_)
  · have h := h.1 c5
    refine zu_aload_n d_8195_132 rfl (zs_ra _) ?_
    refine zu_bipush d_8195_133 zj_12 ?_
    refine zc_8_535 (x0 := (12 : Int32)) hB rfl k1 d_8195_135 (Nat.le_of_ble_eq_true rfl) h (fun v7 S6 h => ?_)
    refine zu_ifeq (t := 146) d_8195_138 rfl (fun c8 => ?_) (fun c8 => ?_)
    · have h := h.1 c8
      exact (u_X9_newVar_146 hB h).weak ⟨rfl, rfl, rfl, trivial⟩
    · have h := h.2 c8
      refine zu_aload_n d_8195_141 rfl (zs_ra _) ?_
      refine zu_iconst d_8195_142 zi_5 ?_
      obtain ⟨k9, h⟩ := h
      refine zc_8_541 (x0 := (5 : Int32)) hB rfl k9 d_8195_143 (Nat.le_of_ble_eq_true rfl) h (fun S10 h => ?_)
      exact (u_X9_newVar_146 hB h).weak ⟨rfl, rfl, rfl, trivial⟩
  · have h := h.2 c5
    refine zu_aload_n d_8195_78 rfl (zs_ra _) ?_
    refine zu_bipush d_8195_79 zj_12 ?_
    refine zc_8_535 (x0 := (12 : Int32)) hB rfl k1 d_8195_81 (Nat.le_of_ble_eq_true rfl) h (fun v13 S12 h => ?_)
    refine zu_ifeq (t := 111) d_8195_84 rfl (fun c14 => ?_) (fun c14 => ?_)
    · have h := h.1 c14
      refine zu_aload_n d_8195_111 rfl (zs_ra _) ?_
      refine zu_aload_n d_8195_112 rfl (zs_ra _) ?_
      refine zu_bipush d_8195_113 zj_9 ?_
      obtain ⟨k15, h⟩ := h
      refine zc_8_535 (x0 := (9 : Int32)) hB rfl k15 d_8195_115 (Nat.le_of_ble_eq_true rfl) h (fun v17 S16 h => ?_)
      refine zu_ifeq (t := 125) d_8195_118 rfl (fun c18 => ?_) (fun c18 => ?_)
      · have h := h.1 c18
        refine zu_iconst d_8195_125 zi_2 ?_
        exact (u_X9_newVar_126 hB h).weak trivial
      · have h := h.2 c18
        refine zu_iconst d_8195_121 zi_5 ?_
        refine zu_goto (t := 126) d_8195_122 rfl ?_
        exact (u_X9_newVar_126 hB h).weak trivial
    · have h := h.2 c14
      refine zu_aload_n d_8195_87 rfl (zs_ra _) ?_
      obtain ⟨k19, h⟩ := h
      refine zc_8_538  hB rfl k19 d_8195_88 (Nat.le_of_ble_eq_true rfl) h (fun S20 h => ?_)
      refine zu_aload_n d_8195_91 rfl (zs_ra _) ?_
      refine zu_bipush d_8195_92 zj_125 ?_
      refine zu_iload_n d_8195_94 rfl ?_
      refine zu_iconst d_8195_95 zi_0 ?_
      refine zu_iload_n d_8195_96 rfl ?_
      obtain ⟨k22, h⟩ := h
      refine zc_8_649 (x0 := (125 : Int32)) (x1 := p2) (x2 := (0 : Int32)) (x3 := p1) hB rfl k22 d_8195_97 (Nat.le_of_ble_eq_true rfl) h (fun S23 h => ?_)
      exact (u_X9_newVar_100 hB h).weak ⟨rfl, trivial⟩
def w_X9_newVar_34 (X : zs_X) (d : Nat) (p0 : Nat) (p1 : Int32) (q0 : Option Nat) (q1 : Int32) (S : zs_T) (Q : zs_Q) : Prop :=
  (∃ b1, q0 = some b1 ∧ zs_K S b1 = some (.inl 8) ∧ zs_C X d 8196 [.ref b1, .int q1] S (zs_kI (fun v5 S4 => (((¬ v5 = 0 → (zs_K S4 p0 = some (.inl 8) ∧ ∃ b8, (zs_R S4 8091 p0) = some b8 ∧ zs_A S4 b8 0 ((zs_I S4 8097 p0) - (1 : Int32)) ∧ zs_C X d 8078 [.ref p0, .int (zs_i S4 b8 ((zs_I S4 8097 p0) - (1 : Int32)).toNatClampNeg)] S4 (zs_kI (fun v12 S11 => (zs_K S11 p0 = some (.inl 8) ∧ ab_n0 X.1 ≤ p0 ∧ ∀ S15, S15 = zs_sI S11 8097 p0 ((zs_I S11 8097 p0) - (1 : Int32)) → w_X9_newVar_67 X d p0 p1 v12 S15 Q)) Q))) ∧ (¬ (¬ v5 = 0) → (Q (.returned none) S4))))) Q))
theorem u_X9_newVar_34 {σ : Nat → Nat} {n0 : Nat} {bf : ab_B} {d : Nat} {p0 : Nat} {p1 : Int32} {q0 : Option Nat} {q1 : Int32} {S : zs_T} {Q : zs_Q} (hB : zt_B bf) (h : w_X9_newVar_34 (zx σ n0 bf) d p0 p1 q0 q1 S Q) : zs_U (zx σ n0 bf) d 8195 34 [(0, .ref p0), (1, .int p1)] [.int q1, va_rf q0] S Q := by
  unfold w_X9_newVar_34 at h
  obtain ⟨b1, e2, h⟩ := h
  refine zs_stk1 (zs_rfe e2) ?_
  obtain ⟨k3, h⟩ := h
  refine zc_8_989 (x0 := q1) hB rfl k3 d_8195_34 (Nat.le_of_ble_eq_true rfl) h (fun v5 S4 h => ?_)
  refine zu_ifne (t := 41) d_8195_37 rfl (fun c6 => ?_) (fun c6 => ?_)
  · have h := h.1 c6
    refine zu_aload_n d_8195_41 rfl (zs_ra _) ?_
    refine zu_aload_n d_8195_42 rfl (zs_ra _) ?_
    obtain ⟨k7, h⟩ := h
    refine zg_8_191 rfl d_8195_43 k7 ?_
    refine zu_aload_n d_8195_46 rfl (zs_ra _) ?_
    refine zg_8_653 rfl d_8195_47 k7 ?_
    refine zu_iconst d_8195_50 zi_1 ?_
    refine zu_stk d_8195_51 rfl rfl ?_
    obtain ⟨b8, e9, h⟩ := h
    refine zs_stk1 (zs_rfe e9) ?_
    obtain ⟨k10, h⟩ := h
    refine zu_iald (k := 0) d_8195_52 rfl rfl k10 ?_
    refine zc_8_736 (x0 := (zs_i S4 b8 ((zs_I S4 8097 p0) - (1 : Int32)).toNatClampNeg)) hB rfl k7 d_8195_53 (Nat.le_of_ble_eq_true rfl) h (fun v12 S11 h => ?_)
    refine zu_istore_n d_8195_56 (zs_lt zq_8195 rfl) ?_
    refine zu_aload_n d_8195_57 rfl (zs_ra _) ?_
    refine zu_dup d_8195_58 rfl ?_
    obtain ⟨k13, h⟩ := h
    refine zg_8_653 rfl d_8195_59 k13 ?_
    refine zu_iconst d_8195_62 zi_1 ?_
    refine zu_stk d_8195_63 rfl rfl ?_
    obtain ⟨k14, h⟩ := h
    refine zp_8_653 (v := ((zs_I S11 8097 p0) - (1 : Int32))) rfl d_8195_64 k13 k14 ?_
    generalize e16 : zs_sI S11 8097 p0 ((zs_I S11 8097 p0) - (1 : Int32)) = S15
    have h := h S15 e16.symm
    have K17 : ∀ b, zs_K S15 b = zs_K S11 b := zs_Kt e16 (zs_KsI _ _ _ _) (fun _ => rfl)
    exact (u_X9_newVar_67 hB h).weak ⟨rfl, rfl, rfl, trivial⟩
  · have h := h.2 c6
    exact zu_vret d_8195_40 zr_8195 h
def w_X9_newVar (X : zs_X) (d : Nat) (p0 : Nat) (p1 : Int32) (S : zs_T) (Q : zs_Q) : Prop :=
  (zs_K S p0 = some (.inl 8) ∧ ((0 < (zs_I S 8010 p0) → (Q (.returned none) S)) ∧ (¬ (0 < (zs_I S 8010 p0)) → (∃ b3, (zs_R S 8091 p0) = some b3 ∧ zs_A S b3 0 ((zs_I S 8097 p0) - (1 : Int32)) ∧ ∃ b6, (zs_R S 8044 p0) = some b6 ∧ zs_A S b6 1 (zs_i S b3 ((zs_I S 8097 p0) - (1 : Int32)).toNatClampNeg) ∧ ((¬ (zs_i S b6 (zs_i S b3 ((zs_I S 8097 p0) - (1 : Int32)).toNatClampNeg).toNatClampNeg) = (10 : Int32) → (w_X9_newVar_34 X d p0 p1 (some p0) (0 : Int32) S Q)) ∧ (¬ (¬ (zs_i S b6 (zs_i S b3 ((zs_I S 8097 p0) - (1 : Int32)).toNatClampNeg).toNatClampNeg) = (10 : Int32)) → (w_X9_newVar_34 X d p0 p1 (some p0) (1 : Int32) S Q)))))))
theorem u_X9_newVar {σ : Nat → Nat} {n0 : Nat} {bf : ab_B} {d : Nat} {p0 : Nat} {p1 : Int32} {S : zs_T} {Q : zs_Q} (hB : zt_B bf) (hd : 1 ≤ d) (h : w_X9_newVar (zx σ n0 bf) (d - 1) p0 p1 S Q) : zs_C (zx σ n0 bf) d 8195 [.ref p0, .int p1] S Q := by
  have hL : lv_args 0 [.ref p0, .int p1] = [(0, .ref p0), (1, .int p1)] := rfl
  refine zs_C.of1 (hB.2 8195 (by decide) (by decide)) hd (by rw [hL]; exact zs_sub_self _ (by exact ⟨rfl, rfl, trivial⟩)) ?_
  rw [hL]
  clear hL
  unfold w_X9_newVar at h
  refine zu_aload_n d_8195_0 rfl (zs_ra _) ?_
  obtain ⟨k1, h⟩ := h
  refine zg_8_444 rfl d_8195_1 k1 ?_
  refine zu_ifgt (t := 40) d_8195_4 rfl (fun c2 => ?_) (fun c2 => ?_)
  · have h := h.1 c2
    exact zu_vret d_8195_40 zr_8195 h
  · have h := h.2 c2
    refine zu_aload_n d_8195_7 rfl (zs_ra _) ?_
    refine zu_aload_n d_8195_8 rfl (zs_ra _) ?_
    refine zg_8_90 rfl d_8195_9 k1 ?_
    refine zu_aload_n d_8195_12 rfl (zs_ra _) ?_
    refine zg_8_191 rfl d_8195_13 k1 ?_
    refine zu_aload_n d_8195_16 rfl (zs_ra _) ?_
    refine zg_8_653 rfl d_8195_17 k1 ?_
    refine zu_iconst d_8195_20 zi_1 ?_
    refine zu_stk d_8195_21 rfl rfl ?_
    obtain ⟨b3, e4, h⟩ := h
    refine zs_stk1 (zs_rfe e4) ?_
    obtain ⟨k5, h⟩ := h
    refine zu_iald (k := 0) d_8195_22 rfl rfl k5 ?_
    obtain ⟨b6, e7, h⟩ := h
    refine zs_stk1 (zs_rfe e7) ?_
    obtain ⟨k8, h⟩ := h
    refine zu_bald (k := 1) d_8195_23 rfl (Or.inl rfl) k8 ?_
    refine zu_bipush d_8195_24 zj_10 ?_
    refine zu_cmpne (t := 33) d_8195_26 rfl (fun c9 => ?_) (fun c9 => ?_)
    · have h := h.1 c9
      refine zu_iconst d_8195_33 zi_0 ?_
      exact (u_X9_newVar_34 hB h).weak ⟨rfl, rfl, trivial⟩
    · have h := h.2 c9
      refine zu_iconst d_8195_29 zi_1 ?_
      refine zu_goto (t := 34) d_8195_30 rfl ?_
      exact (u_X9_newVar_34 hB h).weak ⟨rfl, rfl, trivial⟩
/-! SchemaPascalModel.giveable(Z)Z -/
theorem zm_8196 {σ : Nat → Nat} {n0 : Nat} {bf : ab_B} : ab_code (zx σ n0 bf).1 8196 = prog_17_method_189_code := rfl
theorem zq_8196 {σ : Nat → Nat} {n0 : Nat} {bf : ab_B} : ab_maxL (zx σ n0 bf).1 8196 = 3 := rfl
theorem zr_8196 {σ : Nat → Nat} {n0 : Nat} {bf : ab_B} : ab_ret (zx σ n0 bf).1 8196 = (Option.some Jvm.ClassFile.FieldType.boolean) := rfl
theorem d_8196_0 {σ : Nat → Nat} {n0 : Nat} {bf : ab_B} : decode (ab_code (zx σ n0 bf).1 8196) 0 = .ok (.aload_n 0, 1) := zd zm_8196 (by decide +kernel)
theorem d_8196_1 {σ : Nat → Nat} {n0 : Nat} {bf : ab_B} : decode (ab_code (zx σ n0 bf).1 8196) 1 = .ok (.getfield 653, 3) := zd zm_8196 (by decide +kernel)
theorem d_8196_4 {σ : Nat → Nat} {n0 : Nat} {bf : ab_B} : decode (ab_code (zx σ n0 bf).1 8196) 4 = .ok (.iconst 1, 1) := zd zm_8196 (by decide +kernel)
theorem d_8196_5 {σ : Nat → Nat} {n0 : Nat} {bf : ab_B} : decode (ab_code (zx σ n0 bf).1 8196) 5 = .ok (.isub, 1) := zd zm_8196 (by decide +kernel)
theorem d_8196_6 {σ : Nat → Nat} {n0 : Nat} {bf : ab_B} : decode (ab_code (zx σ n0 bf).1 8196) 6 = .ok (.istore_n 2, 1) := zd zm_8196 (by decide +kernel)
theorem d_8196_7 {σ : Nat → Nat} {n0 : Nat} {bf : ab_B} : decode (ab_code (zx σ n0 bf).1 8196) 7 = .ok (.aload_n 0, 1) := zd zm_8196 (by decide +kernel)
theorem d_8196_8 {σ : Nat → Nat} {n0 : Nat} {bf : ab_B} : decode (ab_code (zx σ n0 bf).1 8196) 8 = .ok (.getfield 444, 3) := zd zm_8196 (by decide +kernel)
theorem d_8196_11 {σ : Nat → Nat} {n0 : Nat} {bf : ab_B} : decode (ab_code (zx σ n0 bf).1 8196) 11 = .ok (.ifCond .ne 36, 3) := zd zm_8196 (by decide +kernel)
theorem d_8196_14 {σ : Nat → Nat} {n0 : Nat} {bf : ab_B} : decode (ab_code (zx σ n0 bf).1 8196) 14 = .ok (.aload_n 0, 1) := zd zm_8196 (by decide +kernel)
theorem d_8196_15 {σ : Nat → Nat} {n0 : Nat} {bf : ab_B} : decode (ab_code (zx σ n0 bf).1 8196) 15 = .ok (.getfield 194, 3) := zd zm_8196 (by decide +kernel)
theorem d_8196_18 {σ : Nat → Nat} {n0 : Nat} {bf : ab_B} : decode (ab_code (zx σ n0 bf).1 8196) 18 = .ok (.iload_n 2, 1) := zd zm_8196 (by decide +kernel)
theorem d_8196_19 {σ : Nat → Nat} {n0 : Nat} {bf : ab_B} : decode (ab_code (zx σ n0 bf).1 8196) 19 = .ok (.baload, 1) := zd zm_8196 (by decide +kernel)
theorem d_8196_20 {σ : Nat → Nat} {n0 : Nat} {bf : ab_B} : decode (ab_code (zx σ n0 bf).1 8196) 20 = .ok (.ifCond .eq 19, 3) := zd zm_8196 (by decide +kernel)
theorem d_8196_23 {σ : Nat → Nat} {n0 : Nat} {bf : ab_B} : decode (ab_code (zx σ n0 bf).1 8196) 23 = .ok (.aload_n 0, 1) := zd zm_8196 (by decide +kernel)
theorem d_8196_24 {σ : Nat → Nat} {n0 : Nat} {bf : ab_B} : decode (ab_code (zx σ n0 bf).1 8196) 24 = .ok (.getfield 200, 3) := zd zm_8196 (by decide +kernel)
theorem d_8196_27 {σ : Nat → Nat} {n0 : Nat} {bf : ab_B} : decode (ab_code (zx σ n0 bf).1 8196) 27 = .ok (.iload_n 2, 1) := zd zm_8196 (by decide +kernel)
theorem d_8196_28 {σ : Nat → Nat} {n0 : Nat} {bf : ab_B} : decode (ab_code (zx σ n0 bf).1 8196) 28 = .ok (.iaload, 1) := zd zm_8196 (by decide +kernel)
theorem d_8196_29 {σ : Nat → Nat} {n0 : Nat} {bf : ab_B} : decode (ab_code (zx σ n0 bf).1 8196) 29 = .ok (.bipush 8, 2) := zd zm_8196 (by decide +kernel)
theorem d_8196_31 {σ : Nat → Nat} {n0 : Nat} {bf : ab_B} : decode (ab_code (zx σ n0 bf).1 8196) 31 = .ok (.iand, 1) := zd zm_8196 (by decide +kernel)
theorem d_8196_32 {σ : Nat → Nat} {n0 : Nat} {bf : ab_B} : decode (ab_code (zx σ n0 bf).1 8196) 32 = .ok (.ifCond .ne 7, 3) := zd zm_8196 (by decide +kernel)
theorem d_8196_35 {σ : Nat → Nat} {n0 : Nat} {bf : ab_B} : decode (ab_code (zx σ n0 bf).1 8196) 35 = .ok (.iload_n 1, 1) := zd zm_8196 (by decide +kernel)
theorem d_8196_36 {σ : Nat → Nat} {n0 : Nat} {bf : ab_B} : decode (ab_code (zx σ n0 bf).1 8196) 36 = .ok (.ifCond .ne 11, 3) := zd zm_8196 (by decide +kernel)
theorem d_8196_39 {σ : Nat → Nat} {n0 : Nat} {bf : ab_B} : decode (ab_code (zx σ n0 bf).1 8196) 39 = .ok (.aload_n 0, 1) := zd zm_8196 (by decide +kernel)
theorem d_8196_40 {σ : Nat → Nat} {n0 : Nat} {bf : ab_B} : decode (ab_code (zx σ n0 bf).1 8196) 40 = .ok (.iconst 5, 1) := zd zm_8196 (by decide +kernel)
theorem d_8196_41 {σ : Nat → Nat} {n0 : Nat} {bf : ab_B} : decode (ab_code (zx σ n0 bf).1 8196) 41 = .ok (.invokevirtual 541, 3) := zd zm_8196 (by decide +kernel)
theorem d_8196_44 {σ : Nat → Nat} {n0 : Nat} {bf : ab_B} : decode (ab_code (zx σ n0 bf).1 8196) 44 = .ok (.goto 27, 3) := zd zm_8196 (by decide +kernel)
theorem d_8196_47 {σ : Nat → Nat} {n0 : Nat} {bf : ab_B} : decode (ab_code (zx σ n0 bf).1 8196) 47 = .ok (.aload_n 0, 1) := zd zm_8196 (by decide +kernel)
theorem d_8196_48 {σ : Nat → Nat} {n0 : Nat} {bf : ab_B} : decode (ab_code (zx σ n0 bf).1 8196) 48 = .ok (.getfield 444, 3) := zd zm_8196 (by decide +kernel)
theorem d_8196_51 {σ : Nat → Nat} {n0 : Nat} {bf : ab_B} : decode (ab_code (zx σ n0 bf).1 8196) 51 = .ok (.ifCond .ne 20, 3) := zd zm_8196 (by decide +kernel)
theorem d_8196_54 {σ : Nat → Nat} {n0 : Nat} {bf : ab_B} : decode (ab_code (zx σ n0 bf).1 8196) 54 = .ok (.aload_n 0, 1) := zd zm_8196 (by decide +kernel)
theorem d_8196_55 {σ : Nat → Nat} {n0 : Nat} {bf : ab_B} : decode (ab_code (zx σ n0 bf).1 8196) 55 = .ok (.getfield 200, 3) := zd zm_8196 (by decide +kernel)
theorem d_8196_58 {σ : Nat → Nat} {n0 : Nat} {bf : ab_B} : decode (ab_code (zx σ n0 bf).1 8196) 58 = .ok (.iload_n 2, 1) := zd zm_8196 (by decide +kernel)
theorem d_8196_59 {σ : Nat → Nat} {n0 : Nat} {bf : ab_B} : decode (ab_code (zx σ n0 bf).1 8196) 59 = .ok (.iaload, 1) := zd zm_8196 (by decide +kernel)
theorem d_8196_60 {σ : Nat → Nat} {n0 : Nat} {bf : ab_B} : decode (ab_code (zx σ n0 bf).1 8196) 60 = .ok (.iconst 3, 1) := zd zm_8196 (by decide +kernel)
theorem d_8196_61 {σ : Nat → Nat} {n0 : Nat} {bf : ab_B} : decode (ab_code (zx σ n0 bf).1 8196) 61 = .ok (.iand, 1) := zd zm_8196 (by decide +kernel)
theorem d_8196_62 {σ : Nat → Nat} {n0 : Nat} {bf : ab_B} : decode (ab_code (zx σ n0 bf).1 8196) 62 = .ok (.ifCond .eq 9, 3) := zd zm_8196 (by decide +kernel)
theorem d_8196_65 {σ : Nat → Nat} {n0 : Nat} {bf : ab_B} : decode (ab_code (zx σ n0 bf).1 8196) 65 = .ok (.aload_n 0, 1) := zd zm_8196 (by decide +kernel)
theorem d_8196_66 {σ : Nat → Nat} {n0 : Nat} {bf : ab_B} : decode (ab_code (zx σ n0 bf).1 8196) 66 = .ok (.bipush 6, 2) := zd zm_8196 (by decide +kernel)
theorem d_8196_68 {σ : Nat → Nat} {n0 : Nat} {bf : ab_B} : decode (ab_code (zx σ n0 bf).1 8196) 68 = .ok (.invokevirtual 541, 3) := zd zm_8196 (by decide +kernel)
theorem d_8196_71 {σ : Nat → Nat} {n0 : Nat} {bf : ab_B} : decode (ab_code (zx σ n0 bf).1 8196) 71 = .ok (.aload_n 0, 1) := zd zm_8196 (by decide +kernel)
theorem d_8196_72 {σ : Nat → Nat} {n0 : Nat} {bf : ab_B} : decode (ab_code (zx σ n0 bf).1 8196) 72 = .ok (.getfield 444, 3) := zd zm_8196 (by decide +kernel)
theorem d_8196_75 {σ : Nat → Nat} {n0 : Nat} {bf : ab_B} : decode (ab_code (zx σ n0 bf).1 8196) 75 = .ok (.ifCond .ne 7, 3) := zd zm_8196 (by decide +kernel)
theorem d_8196_78 {σ : Nat → Nat} {n0 : Nat} {bf : ab_B} : decode (ab_code (zx σ n0 bf).1 8196) 78 = .ok (.iconst 1, 1) := zd zm_8196 (by decide +kernel)
theorem d_8196_79 {σ : Nat → Nat} {n0 : Nat} {bf : ab_B} : decode (ab_code (zx σ n0 bf).1 8196) 79 = .ok (.goto 4, 3) := zd zm_8196 (by decide +kernel)
theorem d_8196_82 {σ : Nat → Nat} {n0 : Nat} {bf : ab_B} : decode (ab_code (zx σ n0 bf).1 8196) 82 = .ok (.iconst 0, 1) := zd zm_8196 (by decide +kernel)
theorem d_8196_83 {σ : Nat → Nat} {n0 : Nat} {bf : ab_B} : decode (ab_code (zx σ n0 bf).1 8196) 83 = .ok (.ireturn, 1) := zd zm_8196 (by decide +kernel)
def w_X9_giveable_71 (X : zs_X) (d : Nat) (p0 : Nat) (S : zs_T) (Q : zs_Q) : Prop :=
  (zs_K S p0 = some (.inl 8) ∧ ((¬ (zs_I S 8010 p0) = 0 → (Q (.returned (some (.int (0 : Int32)))) S)) ∧ (¬ (¬ (zs_I S 8010 p0) = 0) → (Q (.returned (some (.int (1 : Int32)))) S))))
theorem u_X9_giveable_71 {σ : Nat → Nat} {n0 : Nat} {bf : ab_B} {d : Nat} {p0 : Nat} {S : zs_T} {Q : zs_Q} (hB : zt_B bf) (h : w_X9_giveable_71 (zx σ n0 bf) d p0 S Q) : zs_U (zx σ n0 bf) d 8196 71 [(0, .ref p0)] [] S Q := by
  unfold w_X9_giveable_71 at h
  refine zu_aload_n d_8196_71 rfl (zs_ra _) ?_
  obtain ⟨k1, h⟩ := h
  refine zg_8_444 rfl d_8196_72 k1 ?_
  refine zu_ifne (t := 82) d_8196_75 rfl (fun c2 => ?_) (fun c2 => ?_)
  · have h := h.1 c2
    refine zu_iconst d_8196_82 zi_0 ?_
    exact zu_iret d_8196_83 zr_8196 (zs_b_n (Or.inl rfl)) h
  · have h := h.2 c2
    refine zu_iconst d_8196_78 zi_1 ?_
    refine zu_goto (t := 83) d_8196_79 rfl ?_
    exact zu_iret d_8196_83 zr_8196 (zs_b_n (Or.inr rfl)) h
def w_X9_giveable_47 (X : zs_X) (d : Nat) (p0 : Nat) (p2 : Int32) (S : zs_T) (Q : zs_Q) : Prop :=
  (zs_K S p0 = some (.inl 8) ∧ ((¬ (zs_I S 8010 p0) = 0 → w_X9_giveable_71 X d p0 S Q) ∧ (¬ (¬ (zs_I S 8010 p0) = 0) → (∃ b3, (zs_R S 8094 p0) = some b3 ∧ zs_A S b3 0 p2 ∧ ((((zs_i S b3 p2.toNatClampNeg) &&& (3 : Int32)) = 0 → w_X9_giveable_71 X d p0 S Q) ∧ (¬ (((zs_i S b3 p2.toNatClampNeg) &&& (3 : Int32)) = 0) → (zs_C X d 8027 [.ref p0, .int (6 : Int32)] S (zs_kV (fun S7 => w_X9_giveable_71 X d p0 S7 Q) Q))))))))
theorem u_X9_giveable_47 {σ : Nat → Nat} {n0 : Nat} {bf : ab_B} {d : Nat} {p0 : Nat} {p2 : Int32} {S : zs_T} {Q : zs_Q} (hB : zt_B bf) (h : w_X9_giveable_47 (zx σ n0 bf) d p0 p2 S Q) : zs_U (zx σ n0 bf) d 8196 47 [(0, .ref p0), (2, .int p2)] [] S Q := by
  unfold w_X9_giveable_47 at h
  refine zu_aload_n d_8196_47 rfl (zs_ra _) ?_
  obtain ⟨k1, h⟩ := h
  refine zg_8_444 rfl d_8196_48 k1 ?_
  refine zu_ifne (t := 71) d_8196_51 rfl (fun c2 => ?_) (fun c2 => ?_)
  · have h := h.1 c2
    exact (u_X9_giveable_71 hB h).weak ⟨rfl, trivial⟩
  · have h := h.2 c2
    refine zu_aload_n d_8196_54 rfl (zs_ra _) ?_
    refine zg_8_200 rfl d_8196_55 k1 ?_
    refine zu_iload_n d_8196_58 rfl ?_
    obtain ⟨b3, e4, h⟩ := h
    refine zs_stk1 (zs_rfe e4) ?_
    obtain ⟨k5, h⟩ := h
    refine zu_iald (k := 0) d_8196_59 rfl rfl k5 ?_
    refine zu_iconst d_8196_60 zi_3 ?_
    refine zu_stk d_8196_61 rfl rfl ?_
    refine zu_ifeq (t := 71) d_8196_62 rfl (fun c6 => ?_) (fun c6 => ?_)
    · have h := h.1 c6
      exact (u_X9_giveable_71 hB h).weak ⟨rfl, trivial⟩
    · have h := h.2 c6
      refine zu_aload_n d_8196_65 rfl (zs_ra _) ?_
      refine zu_bipush d_8196_66 zj_6 ?_
      refine zc_8_541 (x0 := (6 : Int32)) hB rfl k1 d_8196_68 (Nat.le_of_ble_eq_true rfl) h (fun S7 h => ?_)
      exact (u_X9_giveable_71 hB h).weak ⟨rfl, trivial⟩
def w_X9_giveable_39 (X : zs_X) (d : Nat) (p0 : Nat) (S : zs_T) (Q : zs_Q) : Prop :=
  (zs_K S p0 = some (.inl 8) ∧ zs_C X d 8027 [.ref p0, .int (5 : Int32)] S (zs_kV (fun S2 => (w_X9_giveable_71 X d p0 S2 Q)) Q))
theorem u_X9_giveable_39 {σ : Nat → Nat} {n0 : Nat} {bf : ab_B} {d : Nat} {p0 : Nat} {S : zs_T} {Q : zs_Q} (hB : zt_B bf) (h : w_X9_giveable_39 (zx σ n0 bf) d p0 S Q) : zs_U (zx σ n0 bf) d 8196 39 [(0, .ref p0)] [] S Q := by
  unfold w_X9_giveable_39 at h
  refine zu_aload_n d_8196_39 rfl (zs_ra _) ?_
  refine zu_iconst d_8196_40 zi_5 ?_
  obtain ⟨k1, h⟩ := h
  refine zc_8_541 (x0 := (5 : Int32)) hB rfl k1 d_8196_41 (Nat.le_of_ble_eq_true rfl) h (fun S2 h => ?_)
  refine zu_goto (t := 71) d_8196_44 rfl ?_
  exact (u_X9_giveable_71 hB h).weak ⟨rfl, trivial⟩
def w_X9_giveable_35 (X : zs_X) (d : Nat) (p0 : Nat) (p1 : Int32) (p2 : Int32) (S : zs_T) (Q : zs_Q) : Prop :=
  (((¬ p1 = 0 → w_X9_giveable_47 X d p0 p2 S Q) ∧ (¬ (¬ p1 = 0) → w_X9_giveable_39 X d p0 S Q)))
theorem u_X9_giveable_35 {σ : Nat → Nat} {n0 : Nat} {bf : ab_B} {d : Nat} {p0 : Nat} {p1 : Int32} {p2 : Int32} {S : zs_T} {Q : zs_Q} (hB : zt_B bf) (h : w_X9_giveable_35 (zx σ n0 bf) d p0 p1 p2 S Q) : zs_U (zx σ n0 bf) d 8196 35 [(0, .ref p0), (1, .int p1), (2, .int p2)] [] S Q := by
  unfold w_X9_giveable_35 at h
  refine zu_iload_n d_8196_35 rfl ?_
  refine zu_ifne (t := 47) d_8196_36 rfl (fun c1 => ?_) (fun c1 => ?_)
  · have h := h.1 c1
    exact (u_X9_giveable_47 hB h).weak ⟨rfl, rfl, trivial⟩
  · have h := h.2 c1
    exact (u_X9_giveable_39 hB h).weak ⟨rfl, trivial⟩
def w_X9_giveable (X : zs_X) (d : Nat) (p0 : Nat) (p1 : Int32) (S : zs_T) (Q : zs_Q) : Prop :=
  (zs_K S p0 = some (.inl 8) ∧ ((¬ (zs_I S 8010 p0) = 0 → w_X9_giveable_47 X d p0 ((zs_I S 8097 p0) - (1 : Int32)) S Q) ∧ (¬ (¬ (zs_I S 8010 p0) = 0) → (∃ b3, (zs_R S 8092 p0) = some b3 ∧ zs_A S b3 2 ((zs_I S 8097 p0) - (1 : Int32)) ∧ (((zs_i S b3 ((zs_I S 8097 p0) - (1 : Int32)).toNatClampNeg) = 0 → w_X9_giveable_39 X d p0 S Q) ∧ (¬ ((zs_i S b3 ((zs_I S 8097 p0) - (1 : Int32)).toNatClampNeg) = 0) → (∃ b7, (zs_R S 8094 p0) = some b7 ∧ zs_A S b7 0 ((zs_I S 8097 p0) - (1 : Int32)) ∧ ((¬ ((zs_i S b7 ((zs_I S 8097 p0) - (1 : Int32)).toNatClampNeg) &&& (8 : Int32)) = 0 → w_X9_giveable_39 X d p0 S Q) ∧ (¬ (¬ ((zs_i S b7 ((zs_I S 8097 p0) - (1 : Int32)).toNatClampNeg) &&& (8 : Int32)) = 0) → w_X9_giveable_35 X d p0 p1 ((zs_I S 8097 p0) - (1 : Int32)) S Q)))))))))
theorem u_X9_giveable {σ : Nat → Nat} {n0 : Nat} {bf : ab_B} {d : Nat} {p0 : Nat} {p1 : Int32} {S : zs_T} {Q : zs_Q} (hB : zt_B bf) (hd : 1 ≤ d) (h : w_X9_giveable (zx σ n0 bf) (d - 1) p0 p1 S Q) : zs_C (zx σ n0 bf) d 8196 [.ref p0, .int p1] S Q := by
  have hL : lv_args 0 [.ref p0, .int p1] = [(0, .ref p0), (1, .int p1)] := rfl
  refine zs_C.of1 (hB.2 8196 (by decide) (by decide)) hd (by rw [hL]; exact zs_sub_self _ (by exact ⟨rfl, rfl, trivial⟩)) ?_
  rw [hL]
  clear hL
  unfold w_X9_giveable at h
  refine zu_aload_n d_8196_0 rfl (zs_ra _) ?_
  obtain ⟨k1, h⟩ := h
  refine zg_8_653 rfl d_8196_1 k1 ?_
  refine zu_iconst d_8196_4 zi_1 ?_
  refine zu_stk d_8196_5 rfl rfl ?_
  refine zu_istore_n d_8196_6 (zs_lt zq_8196 rfl) ?_
  refine zu_aload_n d_8196_7 rfl (zs_ra _) ?_
  refine zg_8_444 rfl d_8196_8 k1 ?_
  refine zu_ifne (t := 47) d_8196_11 rfl (fun c2 => ?_) (fun c2 => ?_)
  · have h := h.1 c2
    exact (u_X9_giveable_47 hB h).weak ⟨rfl, rfl, trivial⟩
  · have h := h.2 c2
    refine zu_aload_n d_8196_14 rfl (zs_ra _) ?_
    refine zg_8_194 rfl d_8196_15 k1 ?_
    refine zu_iload_n d_8196_18 rfl ?_
    obtain ⟨b3, e4, h⟩ := h
    refine zs_stk1 (zs_rfe e4) ?_
    obtain ⟨k5, h⟩ := h
    refine zu_bald (k := 2) d_8196_19 rfl (Or.inr rfl) k5 ?_
    refine zu_ifeq (t := 39) d_8196_20 rfl (fun c6 => ?_) (fun c6 => ?_)
    · have h := h.1 c6
      exact (u_X9_giveable_39 hB h).weak ⟨rfl, trivial⟩
    · have h := h.2 c6
      refine zu_aload_n d_8196_23 rfl (zs_ra _) ?_
      refine zg_8_200 rfl d_8196_24 k1 ?_
      refine zu_iload_n d_8196_27 rfl ?_
      obtain ⟨b7, e8, h⟩ := h
      refine zs_stk1 (zs_rfe e8) ?_
      obtain ⟨k9, h⟩ := h
      refine zu_iald (k := 0) d_8196_28 rfl rfl k9 ?_
      refine zu_bipush d_8196_29 zj_8 ?_
      refine zu_stk d_8196_31 rfl rfl ?_
      refine zu_ifne (t := 39) d_8196_32 rfl (fun c10 => ?_) (fun c10 => ?_)
      · have h := h.1 c10
        exact (u_X9_giveable_39 hB h).weak ⟨rfl, trivial⟩
      · have h := h.2 c10
        exact (u_X9_giveable_35 hB h).weak ⟨rfl, rfl, rfl, trivial⟩
/-! SchemaPascalModel.newValue(III)V -/
theorem zm_8197 {σ : Nat → Nat} {n0 : Nat} {bf : ab_B} : ab_code (zx σ n0 bf).1 8197 = prog_17_method_193_code := rfl
theorem zq_8197 {σ : Nat → Nat} {n0 : Nat} {bf : ab_B} : ab_maxL (zx σ n0 bf).1 8197 = 7 := rfl
theorem zr_8197 {σ : Nat → Nat} {n0 : Nat} {bf : ab_B} : ab_ret (zx σ n0 bf).1 8197 = (Option.none : Option Jvm.ClassFile.FieldType) := rfl
theorem d_8197_0 {σ : Nat → Nat} {n0 : Nat} {bf : ab_B} : decode (ab_code (zx σ n0 bf).1 8197) 0 = .ok (.aload_n 0, 1) := zd zm_8197 (by decide +kernel)
theorem d_8197_1 {σ : Nat → Nat} {n0 : Nat} {bf : ab_B} : decode (ab_code (zx σ n0 bf).1 8197) 1 = .ok (.invokevirtual 660, 3) := zd zm_8197 (by decide +kernel)
theorem d_8197_4 {σ : Nat → Nat} {n0 : Nat} {bf : ab_B} : decode (ab_code (zx σ n0 bf).1 8197) 4 = .ok (.aload_n 0, 1) := zd zm_8197 (by decide +kernel)
theorem d_8197_5 {σ : Nat → Nat} {n0 : Nat} {bf : ab_B} : decode (ab_code (zx σ n0 bf).1 8197) 5 = .ok (.getfield 444, 3) := zd zm_8197 (by decide +kernel)
theorem d_8197_8 {σ : Nat → Nat} {n0 : Nat} {bf : ab_B} : decode (ab_code (zx σ n0 bf).1 8197) 8 = .ok (.ifCond .le 4, 3) := zd zm_8197 (by decide +kernel)
theorem d_8197_11 {σ : Nat → Nat} {n0 : Nat} {bf : ab_B} : decode (ab_code (zx σ n0 bf).1 8197) 11 = .ok (.return_, 1) := zd zm_8197 (by decide +kernel)
theorem d_8197_12 {σ : Nat → Nat} {n0 : Nat} {bf : ab_B} : decode (ab_code (zx σ n0 bf).1 8197) 12 = .ok (.aload_n 0, 1) := zd zm_8197 (by decide +kernel)
theorem d_8197_13 {σ : Nat → Nat} {n0 : Nat} {bf : ab_B} : decode (ab_code (zx σ n0 bf).1 8197) 13 = .ok (.getfield 93, 3) := zd zm_8197 (by decide +kernel)
theorem d_8197_16 {σ : Nat → Nat} {n0 : Nat} {bf : ab_B} : decode (ab_code (zx σ n0 bf).1 8197) 16 = .ok (.iload_n 1, 1) := zd zm_8197 (by decide +kernel)
theorem d_8197_17 {σ : Nat → Nat} {n0 : Nat} {bf : ab_B} : decode (ab_code (zx σ n0 bf).1 8197) 17 = .ok (.iaload, 1) := zd zm_8197 (by decide +kernel)
theorem d_8197_18 {σ : Nat → Nat} {n0 : Nat} {bf : ab_B} : decode (ab_code (zx σ n0 bf).1 8197) 18 = .ok (.istore 4, 2) := zd zm_8197 (by decide +kernel)
theorem d_8197_20 {σ : Nat → Nat} {n0 : Nat} {bf : ab_B} : decode (ab_code (zx σ n0 bf).1 8197) 20 = .ok (.aload_n 0, 1) := zd zm_8197 (by decide +kernel)
theorem d_8197_21 {σ : Nat → Nat} {n0 : Nat} {bf : ab_B} : decode (ab_code (zx σ n0 bf).1 8197) 21 = .ok (.getfield 136, 3) := zd zm_8197 (by decide +kernel)
theorem d_8197_24 {σ : Nat → Nat} {n0 : Nat} {bf : ab_B} : decode (ab_code (zx σ n0 bf).1 8197) 24 = .ok (.aload_n 0, 1) := zd zm_8197 (by decide +kernel)
theorem d_8197_25 {σ : Nat → Nat} {n0 : Nat} {bf : ab_B} : decode (ab_code (zx σ n0 bf).1 8197) 25 = .ok (.getfield 124, 3) := zd zm_8197 (by decide +kernel)
theorem d_8197_28 {σ : Nat → Nat} {n0 : Nat} {bf : ab_B} : decode (ab_code (zx σ n0 bf).1 8197) 28 = .ok (.iload 4, 2) := zd zm_8197 (by decide +kernel)
theorem d_8197_30 {σ : Nat → Nat} {n0 : Nat} {bf : ab_B} : decode (ab_code (zx σ n0 bf).1 8197) 30 = .ok (.iaload, 1) := zd zm_8197 (by decide +kernel)
theorem d_8197_31 {σ : Nat → Nat} {n0 : Nat} {bf : ab_B} : decode (ab_code (zx σ n0 bf).1 8197) 31 = .ok (.iload_n 2, 1) := zd zm_8197 (by decide +kernel)
theorem d_8197_32 {σ : Nat → Nat} {n0 : Nat} {bf : ab_B} : decode (ab_code (zx σ n0 bf).1 8197) 32 = .ok (.iadd, 1) := zd zm_8197 (by decide +kernel)
theorem d_8197_33 {σ : Nat → Nat} {n0 : Nat} {bf : ab_B} : decode (ab_code (zx σ n0 bf).1 8197) 33 = .ok (.iaload, 1) := zd zm_8197 (by decide +kernel)
theorem d_8197_34 {σ : Nat → Nat} {n0 : Nat} {bf : ab_B} : decode (ab_code (zx σ n0 bf).1 8197) 34 = .ok (.istore 5, 2) := zd zm_8197 (by decide +kernel)
theorem d_8197_36 {σ : Nat → Nat} {n0 : Nat} {bf : ab_B} : decode (ab_code (zx σ n0 bf).1 8197) 36 = .ok (.aload_n 0, 1) := zd zm_8197 (by decide +kernel)
theorem d_8197_37 {σ : Nat → Nat} {n0 : Nat} {bf : ab_B} : decode (ab_code (zx σ n0 bf).1 8197) 37 = .ok (.aload_n 0, 1) := zd zm_8197 (by decide +kernel)
theorem d_8197_38 {σ : Nat → Nat} {n0 : Nat} {bf : ab_B} : decode (ab_code (zx σ n0 bf).1 8197) 38 = .ok (.getfield 191, 3) := zd zm_8197 (by decide +kernel)
theorem d_8197_41 {σ : Nat → Nat} {n0 : Nat} {bf : ab_B} : decode (ab_code (zx σ n0 bf).1 8197) 41 = .ok (.aload_n 0, 1) := zd zm_8197 (by decide +kernel)
theorem d_8197_42 {σ : Nat → Nat} {n0 : Nat} {bf : ab_B} : decode (ab_code (zx σ n0 bf).1 8197) 42 = .ok (.getfield 653, 3) := zd zm_8197 (by decide +kernel)
theorem d_8197_45 {σ : Nat → Nat} {n0 : Nat} {bf : ab_B} : decode (ab_code (zx σ n0 bf).1 8197) 45 = .ok (.iconst 1, 1) := zd zm_8197 (by decide +kernel)
theorem d_8197_46 {σ : Nat → Nat} {n0 : Nat} {bf : ab_B} : decode (ab_code (zx σ n0 bf).1 8197) 46 = .ok (.isub, 1) := zd zm_8197 (by decide +kernel)
theorem d_8197_47 {σ : Nat → Nat} {n0 : Nat} {bf : ab_B} : decode (ab_code (zx σ n0 bf).1 8197) 47 = .ok (.iaload, 1) := zd zm_8197 (by decide +kernel)
theorem d_8197_48 {σ : Nat → Nat} {n0 : Nat} {bf : ab_B} : decode (ab_code (zx σ n0 bf).1 8197) 48 = .ok (.invokevirtual 564, 3) := zd zm_8197 (by decide +kernel)
theorem d_8197_51 {σ : Nat → Nat} {n0 : Nat} {bf : ab_B} : decode (ab_code (zx σ n0 bf).1 8197) 51 = .ok (.ifCond .eq 27, 3) := zd zm_8197 (by decide +kernel)
theorem d_8197_54 {σ : Nat → Nat} {n0 : Nat} {bf : ab_B} : decode (ab_code (zx σ n0 bf).1 8197) 54 = .ok (.aload_n 0, 1) := zd zm_8197 (by decide +kernel)
theorem d_8197_55 {σ : Nat → Nat} {n0 : Nat} {bf : ab_B} : decode (ab_code (zx σ n0 bf).1 8197) 55 = .ok (.aload_n 0, 1) := zd zm_8197 (by decide +kernel)
theorem d_8197_56 {σ : Nat → Nat} {n0 : Nat} {bf : ab_B} : decode (ab_code (zx σ n0 bf).1 8197) 56 = .ok (.getfield 191, 3) := zd zm_8197 (by decide +kernel)
theorem d_8197_59 {σ : Nat → Nat} {n0 : Nat} {bf : ab_B} : decode (ab_code (zx σ n0 bf).1 8197) 59 = .ok (.aload_n 0, 1) := zd zm_8197 (by decide +kernel)
theorem d_8197_60 {σ : Nat → Nat} {n0 : Nat} {bf : ab_B} : decode (ab_code (zx σ n0 bf).1 8197) 60 = .ok (.getfield 653, 3) := zd zm_8197 (by decide +kernel)
theorem d_8197_63 {σ : Nat → Nat} {n0 : Nat} {bf : ab_B} : decode (ab_code (zx σ n0 bf).1 8197) 63 = .ok (.iconst 1, 1) := zd zm_8197 (by decide +kernel)
theorem d_8197_64 {σ : Nat → Nat} {n0 : Nat} {bf : ab_B} : decode (ab_code (zx σ n0 bf).1 8197) 64 = .ok (.isub, 1) := zd zm_8197 (by decide +kernel)
theorem d_8197_65 {σ : Nat → Nat} {n0 : Nat} {bf : ab_B} : decode (ab_code (zx σ n0 bf).1 8197) 65 = .ok (.iaload, 1) := zd zm_8197 (by decide +kernel)
theorem d_8197_66 {σ : Nat → Nat} {n0 : Nat} {bf : ab_B} : decode (ab_code (zx σ n0 bf).1 8197) 66 = .ok (.invokevirtual 561, 3) := zd zm_8197 (by decide +kernel)
theorem d_8197_69 {σ : Nat → Nat} {n0 : Nat} {bf : ab_B} : decode (ab_code (zx σ n0 bf).1 8197) 69 = .ok (.aload_n 0, 1) := zd zm_8197 (by decide +kernel)
theorem d_8197_70 {σ : Nat → Nat} {n0 : Nat} {bf : ab_B} : decode (ab_code (zx σ n0 bf).1 8197) 70 = .ok (.iload 5, 2) := zd zm_8197 (by decide +kernel)
theorem d_8197_72 {σ : Nat → Nat} {n0 : Nat} {bf : ab_B} : decode (ab_code (zx σ n0 bf).1 8197) 72 = .ok (.invokevirtual 561, 3) := zd zm_8197 (by decide +kernel)
theorem d_8197_75 {σ : Nat → Nat} {n0 : Nat} {bf : ab_B} : decode (ab_code (zx σ n0 bf).1 8197) 75 = .ok (.if_icmp .eq 9, 3) := zd zm_8197 (by decide +kernel)
theorem d_8197_78 {σ : Nat → Nat} {n0 : Nat} {bf : ab_B} : decode (ab_code (zx σ n0 bf).1 8197) 78 = .ok (.aload_n 0, 1) := zd zm_8197 (by decide +kernel)
theorem d_8197_79 {σ : Nat → Nat} {n0 : Nat} {bf : ab_B} : decode (ab_code (zx σ n0 bf).1 8197) 79 = .ok (.iconst 5, 1) := zd zm_8197 (by decide +kernel)
theorem d_8197_80 {σ : Nat → Nat} {n0 : Nat} {bf : ab_B} : decode (ab_code (zx σ n0 bf).1 8197) 80 = .ok (.invokevirtual 541, 3) := zd zm_8197 (by decide +kernel)
theorem d_8197_83 {σ : Nat → Nat} {n0 : Nat} {bf : ab_B} : decode (ab_code (zx σ n0 bf).1 8197) 83 = .ok (.return_, 1) := zd zm_8197 (by decide +kernel)
theorem d_8197_84 {σ : Nat → Nat} {n0 : Nat} {bf : ab_B} : decode (ab_code (zx σ n0 bf).1 8197) 84 = .ok (.aload_n 0, 1) := zd zm_8197 (by decide +kernel)
theorem d_8197_85 {σ : Nat → Nat} {n0 : Nat} {bf : ab_B} : decode (ab_code (zx σ n0 bf).1 8197) 85 = .ok (.dup, 1) := zd zm_8197 (by decide +kernel)
theorem d_8197_86 {σ : Nat → Nat} {n0 : Nat} {bf : ab_B} : decode (ab_code (zx σ n0 bf).1 8197) 86 = .ok (.getfield 653, 3) := zd zm_8197 (by decide +kernel)
theorem d_8197_89 {σ : Nat → Nat} {n0 : Nat} {bf : ab_B} : decode (ab_code (zx σ n0 bf).1 8197) 89 = .ok (.iconst 1, 1) := zd zm_8197 (by decide +kernel)
theorem d_8197_90 {σ : Nat → Nat} {n0 : Nat} {bf : ab_B} : decode (ab_code (zx σ n0 bf).1 8197) 90 = .ok (.isub, 1) := zd zm_8197 (by decide +kernel)
theorem d_8197_91 {σ : Nat → Nat} {n0 : Nat} {bf : ab_B} : decode (ab_code (zx σ n0 bf).1 8197) 91 = .ok (.putfield 653, 3) := zd zm_8197 (by decide +kernel)
theorem d_8197_94 {σ : Nat → Nat} {n0 : Nat} {bf : ab_B} : decode (ab_code (zx σ n0 bf).1 8197) 94 = .ok (.iload_n 2, 1) := zd zm_8197 (by decide +kernel)
theorem d_8197_95 {σ : Nat → Nat} {n0 : Nat} {bf : ab_B} : decode (ab_code (zx σ n0 bf).1 8197) 95 = .ok (.iconst 1, 1) := zd zm_8197 (by decide +kernel)
theorem d_8197_96 {σ : Nat → Nat} {n0 : Nat} {bf : ab_B} : decode (ab_code (zx σ n0 bf).1 8197) 96 = .ok (.iadd, 1) := zd zm_8197 (by decide +kernel)
theorem d_8197_97 {σ : Nat → Nat} {n0 : Nat} {bf : ab_B} : decode (ab_code (zx σ n0 bf).1 8197) 97 = .ok (.aload_n 0, 1) := zd zm_8197 (by decide +kernel)
theorem d_8197_98 {σ : Nat → Nat} {n0 : Nat} {bf : ab_B} : decode (ab_code (zx σ n0 bf).1 8197) 98 = .ok (.getfield 127, 3) := zd zm_8197 (by decide +kernel)
theorem d_8197_101 {σ : Nat → Nat} {n0 : Nat} {bf : ab_B} : decode (ab_code (zx σ n0 bf).1 8197) 101 = .ok (.iload 4, 2) := zd zm_8197 (by decide +kernel)
theorem d_8197_103 {σ : Nat → Nat} {n0 : Nat} {bf : ab_B} : decode (ab_code (zx σ n0 bf).1 8197) 103 = .ok (.baload, 1) := zd zm_8197 (by decide +kernel)
theorem d_8197_104 {σ : Nat → Nat} {n0 : Nat} {bf : ab_B} : decode (ab_code (zx σ n0 bf).1 8197) 104 = .ok (.if_icmp .ge 59, 3) := zd zm_8197 (by decide +kernel)
theorem d_8197_107 {σ : Nat → Nat} {n0 : Nat} {bf : ab_B} : decode (ab_code (zx σ n0 bf).1 8197) 107 = .ok (.aload_n 0, 1) := zd zm_8197 (by decide +kernel)
theorem d_8197_108 {σ : Nat → Nat} {n0 : Nat} {bf : ab_B} : decode (ab_code (zx σ n0 bf).1 8197) 108 = .ok (.bipush 12, 2) := zd zm_8197 (by decide +kernel)
theorem d_8197_110 {σ : Nat → Nat} {n0 : Nat} {bf : ab_B} : decode (ab_code (zx σ n0 bf).1 8197) 110 = .ok (.invokevirtual 535, 3) := zd zm_8197 (by decide +kernel)
theorem d_8197_113 {σ : Nat → Nat} {n0 : Nat} {bf : ab_B} : decode (ab_code (zx σ n0 bf).1 8197) 113 = .ok (.ifCond .eq 29, 3) := zd zm_8197 (by decide +kernel)
theorem d_8197_116 {σ : Nat → Nat} {n0 : Nat} {bf : ab_B} : decode (ab_code (zx σ n0 bf).1 8197) 116 = .ok (.aload_n 0, 1) := zd zm_8197 (by decide +kernel)
theorem d_8197_117 {σ : Nat → Nat} {n0 : Nat} {bf : ab_B} : decode (ab_code (zx σ n0 bf).1 8197) 117 = .ok (.invokevirtual 538, 3) := zd zm_8197 (by decide +kernel)
theorem d_8197_120 {σ : Nat → Nat} {n0 : Nat} {bf : ab_B} : decode (ab_code (zx σ n0 bf).1 8197) 120 = .ok (.aload_n 0, 1) := zd zm_8197 (by decide +kernel)
theorem d_8197_121 {σ : Nat → Nat} {n0 : Nat} {bf : ab_B} : decode (ab_code (zx σ n0 bf).1 8197) 121 = .ok (.bipush 125, 2) := zd zm_8197 (by decide +kernel)
theorem d_8197_123 {σ : Nat → Nat} {n0 : Nat} {bf : ab_B} : decode (ab_code (zx σ n0 bf).1 8197) 123 = .ok (.iload_n 1, 1) := zd zm_8197 (by decide +kernel)
theorem d_8197_124 {σ : Nat → Nat} {n0 : Nat} {bf : ab_B} : decode (ab_code (zx σ n0 bf).1 8197) 124 = .ok (.iload_n 2, 1) := zd zm_8197 (by decide +kernel)
theorem d_8197_125 {σ : Nat → Nat} {n0 : Nat} {bf : ab_B} : decode (ab_code (zx σ n0 bf).1 8197) 125 = .ok (.iconst 1, 1) := zd zm_8197 (by decide +kernel)
theorem d_8197_126 {σ : Nat → Nat} {n0 : Nat} {bf : ab_B} : decode (ab_code (zx σ n0 bf).1 8197) 126 = .ok (.iadd, 1) := zd zm_8197 (by decide +kernel)
theorem d_8197_127 {σ : Nat → Nat} {n0 : Nat} {bf : ab_B} : decode (ab_code (zx σ n0 bf).1 8197) 127 = .ok (.iload_n 3, 1) := zd zm_8197 (by decide +kernel)
theorem d_8197_128 {σ : Nat → Nat} {n0 : Nat} {bf : ab_B} : decode (ab_code (zx σ n0 bf).1 8197) 128 = .ok (.invokevirtual 649, 3) := zd zm_8197 (by decide +kernel)
theorem d_8197_131 {σ : Nat → Nat} {n0 : Nat} {bf : ab_B} : decode (ab_code (zx σ n0 bf).1 8197) 131 = .ok (.aload_n 0, 1) := zd zm_8197 (by decide +kernel)
theorem d_8197_132 {σ : Nat → Nat} {n0 : Nat} {bf : ab_B} : decode (ab_code (zx σ n0 bf).1 8197) 132 = .ok (.iconst 2, 1) := zd zm_8197 (by decide +kernel)
theorem d_8197_133 {σ : Nat → Nat} {n0 : Nat} {bf : ab_B} : decode (ab_code (zx σ n0 bf).1 8197) 133 = .ok (.iconst 0, 1) := zd zm_8197 (by decide +kernel)
theorem d_8197_134 {σ : Nat → Nat} {n0 : Nat} {bf : ab_B} : decode (ab_code (zx σ n0 bf).1 8197) 134 = .ok (.iconst 0, 1) := zd zm_8197 (by decide +kernel)
theorem d_8197_135 {σ : Nat → Nat} {n0 : Nat} {bf : ab_B} : decode (ab_code (zx σ n0 bf).1 8197) 135 = .ok (.iconst 0, 1) := zd zm_8197 (by decide +kernel)
theorem d_8197_136 {σ : Nat → Nat} {n0 : Nat} {bf : ab_B} : decode (ab_code (zx σ n0 bf).1 8197) 136 = .ok (.invokevirtual 649, 3) := zd zm_8197 (by decide +kernel)
theorem d_8197_139 {σ : Nat → Nat} {n0 : Nat} {bf : ab_B} : decode (ab_code (zx σ n0 bf).1 8197) 139 = .ok (.goto 55, 3) := zd zm_8197 (by decide +kernel)
theorem d_8197_142 {σ : Nat → Nat} {n0 : Nat} {bf : ab_B} : decode (ab_code (zx σ n0 bf).1 8197) 142 = .ok (.aload_n 0, 1) := zd zm_8197 (by decide +kernel)
theorem d_8197_143 {σ : Nat → Nat} {n0 : Nat} {bf : ab_B} : decode (ab_code (zx σ n0 bf).1 8197) 143 = .ok (.aload_n 0, 1) := zd zm_8197 (by decide +kernel)
theorem d_8197_144 {σ : Nat → Nat} {n0 : Nat} {bf : ab_B} : decode (ab_code (zx σ n0 bf).1 8197) 144 = .ok (.bipush 9, 2) := zd zm_8197 (by decide +kernel)
theorem d_8197_146 {σ : Nat → Nat} {n0 : Nat} {bf : ab_B} : decode (ab_code (zx σ n0 bf).1 8197) 146 = .ok (.invokevirtual 535, 3) := zd zm_8197 (by decide +kernel)
theorem d_8197_149 {σ : Nat → Nat} {n0 : Nat} {bf : ab_B} : decode (ab_code (zx σ n0 bf).1 8197) 149 = .ok (.ifCond .eq 7, 3) := zd zm_8197 (by decide +kernel)
theorem d_8197_152 {σ : Nat → Nat} {n0 : Nat} {bf : ab_B} : decode (ab_code (zx σ n0 bf).1 8197) 152 = .ok (.iconst 5, 1) := zd zm_8197 (by decide +kernel)
theorem d_8197_153 {σ : Nat → Nat} {n0 : Nat} {bf : ab_B} : decode (ab_code (zx σ n0 bf).1 8197) 153 = .ok (.goto 4, 3) := zd zm_8197 (by decide +kernel)
theorem d_8197_156 {σ : Nat → Nat} {n0 : Nat} {bf : ab_B} : decode (ab_code (zx σ n0 bf).1 8197) 156 = .ok (.iconst 2, 1) := zd zm_8197 (by decide +kernel)
theorem d_8197_157 {σ : Nat → Nat} {n0 : Nat} {bf : ab_B} : decode (ab_code (zx σ n0 bf).1 8197) 157 = .ok (.invokevirtual 541, 3) := zd zm_8197 (by decide +kernel)
theorem d_8197_160 {σ : Nat → Nat} {n0 : Nat} {bf : ab_B} : decode (ab_code (zx σ n0 bf).1 8197) 160 = .ok (.goto 34, 3) := zd zm_8197 (by decide +kernel)
theorem d_8197_163 {σ : Nat → Nat} {n0 : Nat} {bf : ab_B} : decode (ab_code (zx σ n0 bf).1 8197) 163 = .ok (.aload_n 0, 1) := zd zm_8197 (by decide +kernel)
theorem d_8197_164 {σ : Nat → Nat} {n0 : Nat} {bf : ab_B} : decode (ab_code (zx σ n0 bf).1 8197) 164 = .ok (.bipush 12, 2) := zd zm_8197 (by decide +kernel)
theorem d_8197_166 {σ : Nat → Nat} {n0 : Nat} {bf : ab_B} : decode (ab_code (zx σ n0 bf).1 8197) 166 = .ok (.invokevirtual 535, 3) := zd zm_8197 (by decide +kernel)
theorem d_8197_169 {σ : Nat → Nat} {n0 : Nat} {bf : ab_B} : decode (ab_code (zx σ n0 bf).1 8197) 169 = .ok (.ifCond .eq 8, 3) := zd zm_8197 (by decide +kernel)
theorem d_8197_172 {σ : Nat → Nat} {n0 : Nat} {bf : ab_B} : decode (ab_code (zx σ n0 bf).1 8197) 172 = .ok (.aload_n 0, 1) := zd zm_8197 (by decide +kernel)
theorem d_8197_173 {σ : Nat → Nat} {n0 : Nat} {bf : ab_B} : decode (ab_code (zx σ n0 bf).1 8197) 173 = .ok (.iconst 5, 1) := zd zm_8197 (by decide +kernel)
theorem d_8197_174 {σ : Nat → Nat} {n0 : Nat} {bf : ab_B} : decode (ab_code (zx σ n0 bf).1 8197) 174 = .ok (.invokevirtual 541, 3) := zd zm_8197 (by decide +kernel)
theorem d_8197_177 {σ : Nat → Nat} {n0 : Nat} {bf : ab_B} : decode (ab_code (zx σ n0 bf).1 8197) 177 = .ok (.aload_n 0, 1) := zd zm_8197 (by decide +kernel)
theorem d_8197_178 {σ : Nat → Nat} {n0 : Nat} {bf : ab_B} : decode (ab_code (zx σ n0 bf).1 8197) 178 = .ok (.bipush 99, 2) := zd zm_8197 (by decide +kernel)
theorem d_8197_180 {σ : Nat → Nat} {n0 : Nat} {bf : ab_B} : decode (ab_code (zx σ n0 bf).1 8197) 180 = .ok (.iload_n 1, 1) := zd zm_8197 (by decide +kernel)
theorem d_8197_181 {σ : Nat → Nat} {n0 : Nat} {bf : ab_B} : decode (ab_code (zx σ n0 bf).1 8197) 181 = .ok (.aload_n 0, 1) := zd zm_8197 (by decide +kernel)
theorem d_8197_182 {σ : Nat → Nat} {n0 : Nat} {bf : ab_B} : decode (ab_code (zx σ n0 bf).1 8197) 182 = .ok (.getfield 127, 3) := zd zm_8197 (by decide +kernel)
theorem d_8197_185 {σ : Nat → Nat} {n0 : Nat} {bf : ab_B} : decode (ab_code (zx σ n0 bf).1 8197) 185 = .ok (.iload 4, 2) := zd zm_8197 (by decide +kernel)
theorem d_8197_187 {σ : Nat → Nat} {n0 : Nat} {bf : ab_B} : decode (ab_code (zx σ n0 bf).1 8197) 187 = .ok (.baload, 1) := zd zm_8197 (by decide +kernel)
theorem d_8197_188 {σ : Nat → Nat} {n0 : Nat} {bf : ab_B} : decode (ab_code (zx σ n0 bf).1 8197) 188 = .ok (.iload_n 3, 1) := zd zm_8197 (by decide +kernel)
theorem d_8197_189 {σ : Nat → Nat} {n0 : Nat} {bf : ab_B} : decode (ab_code (zx σ n0 bf).1 8197) 189 = .ok (.invokevirtual 656, 3) := zd zm_8197 (by decide +kernel)
theorem d_8197_192 {σ : Nat → Nat} {n0 : Nat} {bf : ab_B} : decode (ab_code (zx σ n0 bf).1 8197) 192 = .ok (.istore 6, 2) := zd zm_8197 (by decide +kernel)
theorem d_8197_194 {σ : Nat → Nat} {n0 : Nat} {bf : ab_B} : decode (ab_code (zx σ n0 bf).1 8197) 194 = .ok (.return_, 1) := zd zm_8197 (by decide +kernel)
def w_X9_newValue_78 (X : zs_X) (d : Nat) (p0 : Nat) (S : zs_T) (Q : zs_Q) : Prop :=
  (zs_K S p0 = some (.inl 8) ∧ zs_C X d 8027 [.ref p0, .int (5 : Int32)] S (zs_kV (fun S2 => (Q (.returned none) S2)) Q))
theorem u_X9_newValue_78 {σ : Nat → Nat} {n0 : Nat} {bf : ab_B} {d : Nat} {p0 : Nat} {S : zs_T} {Q : zs_Q} (hB : zt_B bf) (h : w_X9_newValue_78 (zx σ n0 bf) d p0 S Q) : zs_U (zx σ n0 bf) d 8197 78 [(0, .ref p0)] [] S Q := by
  unfold w_X9_newValue_78 at h
  refine zu_aload_n d_8197_78 rfl (zs_ra _) ?_
  refine zu_iconst d_8197_79 zi_5 ?_
  obtain ⟨k1, h⟩ := h
  refine zc_8_541 (x0 := (5 : Int32)) hB rfl k1 d_8197_80 (Nat.le_of_ble_eq_true rfl) h (fun S2 h => ?_)
  exact zu_vret d_8197_83 zr_8197 h
def w_X9_newValue_177 (X : zs_X) (d : Nat) (p0 : Nat) (p1 : Int32) (p3 : Int32) (p4 : Int32) (S : zs_T) (Q : zs_Q) : Prop :=
  (zs_K S p0 = some (.inl 8) ∧ ∃ b2, (zs_R S 8058 p0) = some b2 ∧ zs_A S b2 1 p4 ∧ zs_C X d 8012 [.ref p0, .int (99 : Int32), .int p1, .int (zs_i S b2 p4.toNatClampNeg), .int p3] S (zs_kI (fun v6 S5 => (Q (.returned none) S5)) Q))
theorem u_X9_newValue_177 {σ : Nat → Nat} {n0 : Nat} {bf : ab_B} {d : Nat} {p0 : Nat} {p1 : Int32} {p3 : Int32} {p4 : Int32} {S : zs_T} {Q : zs_Q} (hB : zt_B bf) (h : w_X9_newValue_177 (zx σ n0 bf) d p0 p1 p3 p4 S Q) : zs_U (zx σ n0 bf) d 8197 177 [(0, .ref p0), (1, .int p1), (3, .int p3), (4, .int p4)] [] S Q := by
  unfold w_X9_newValue_177 at h
  refine zu_aload_n d_8197_177 rfl (zs_ra _) ?_
  refine zu_bipush d_8197_178 zj_99 ?_
  refine zu_iload_n d_8197_180 rfl ?_
  refine zu_aload_n d_8197_181 rfl (zs_ra _) ?_
  obtain ⟨k1, h⟩ := h
  refine zg_8_127 rfl d_8197_182 k1 ?_
  refine zu_iload d_8197_185 rfl ?_
  obtain ⟨b2, e3, h⟩ := h
  refine zs_stk1 (zs_rfe e3) ?_
  obtain ⟨k4, h⟩ := h
  refine zu_bald (k := 1) d_8197_187 rfl (Or.inl rfl) k4 ?_
  refine zu_iload_n d_8197_188 rfl ?_
  refine zc_8_656 (x0 := (99 : Int32)) (x1 := p1) (x2 := (zs_i S b2 p4.toNatClampNeg)) (x3 := p3) hB rfl k1 d_8197_189 (Nat.le_of_ble_eq_true rfl) h (fun v6 S5 h => ?_)
  refine zu_istore d_8197_192 (zs_lt zq_8197 rfl) ?_
  exact zu_vret d_8197_194 zr_8197 h
def w_X9_newValue_172 (X : zs_X) (d : Nat) (p0 : Nat) (p1 : Int32) (p3 : Int32) (p4 : Int32) (S : zs_T) (Q : zs_Q) : Prop :=
  (zs_K S p0 = some (.inl 8) ∧ zs_C X d 8027 [.ref p0, .int (5 : Int32)] S (zs_kV (fun S2 => w_X9_newValue_177 X d p0 p1 p3 p4 S2 Q) Q))
theorem u_X9_newValue_172 {σ : Nat → Nat} {n0 : Nat} {bf : ab_B} {d : Nat} {p0 : Nat} {p1 : Int32} {p3 : Int32} {p4 : Int32} {S : zs_T} {Q : zs_Q} (hB : zt_B bf) (h : w_X9_newValue_172 (zx σ n0 bf) d p0 p1 p3 p4 S Q) : zs_U (zx σ n0 bf) d 8197 172 [(0, .ref p0), (1, .int p1), (3, .int p3), (4, .int p4)] [] S Q := by
  unfold w_X9_newValue_172 at h
  refine zu_aload_n d_8197_172 rfl (zs_ra _) ?_
  refine zu_iconst d_8197_173 zi_5 ?_
  obtain ⟨k1, h⟩ := h
  refine zc_8_541 (x0 := (5 : Int32)) hB rfl k1 d_8197_174 (Nat.le_of_ble_eq_true rfl) h (fun S2 h => ?_)
  exact (u_X9_newValue_177 hB h).weak ⟨rfl, rfl, rfl, rfl, trivial⟩
def w_X9_newValue_157 (X : zs_X) (d : Nat) (q0 : Option Nat) (q1 : Int32) (S : zs_T) (Q : zs_Q) : Prop :=
  (∃ b1, q0 = some b1 ∧ zs_K S b1 = some (.inl 8) ∧ zs_C X d 8027 [.ref b1, .int q1] S (zs_kV (fun S4 => (Q (.returned none) S4)) Q))
theorem u_X9_newValue_157 {σ : Nat → Nat} {n0 : Nat} {bf : ab_B} {d : Nat} {q0 : Option Nat} {q1 : Int32} {S : zs_T} {Q : zs_Q} (hB : zt_B bf) (h : w_X9_newValue_157 (zx σ n0 bf) d q0 q1 S Q) : zs_U (zx σ n0 bf) d 8197 157 [] [.int q1, va_rf q0] S Q := by
  unfold w_X9_newValue_157 at h
  obtain ⟨b1, e2, h⟩ := h
  refine zs_stk1 (zs_rfe e2) ?_
  obtain ⟨k3, h⟩ := h
  refine zc_8_541 (x0 := q1) hB rfl k3 d_8197_157 (Nat.le_of_ble_eq_true rfl) h (fun S4 h => ?_)
  refine zu_goto (t := 194) d_8197_160 rfl ?_
  exact zu_vret d_8197_194 zr_8197 h
def w_X9_newValue_142 (X : zs_X) (d : Nat) (p0 : Nat) (S : zs_T) (Q : zs_Q) : Prop :=
  (zs_K S p0 = some (.inl 8) ∧ zs_C X d 8029 [.ref p0, .int (9 : Int32)] S (zs_kI (fun v3 S2 => (((v3 = 0 → (w_X9_newValue_157 X d (some p0) (2 : Int32) S2 Q)) ∧ (¬ (v3 = 0) → (w_X9_newValue_157 X d (some p0) (5 : Int32) S2 Q))))) Q))
theorem u_X9_newValue_142 {σ : Nat → Nat} {n0 : Nat} {bf : ab_B} {d : Nat} {p0 : Nat} {S : zs_T} {Q : zs_Q} (hB : zt_B bf) (h : w_X9_newValue_142 (zx σ n0 bf) d p0 S Q) : zs_U (zx σ n0 bf) d 8197 142 [(0, .ref p0)] [] S Q := by
  unfold w_X9_newValue_142 at h
  refine zu_aload_n d_8197_142 rfl (zs_ra _) ?_
  refine zu_aload_n d_8197_143 rfl (zs_ra _) ?_
  refine zu_bipush d_8197_144 zj_9 ?_
  obtain ⟨k1, h⟩ := h
  refine zc_8_535 (x0 := (9 : Int32)) hB rfl k1 d_8197_146 (Nat.le_of_ble_eq_true rfl) h (fun v3 S2 h => ?_)
  refine zu_ifeq (t := 156) d_8197_149 rfl (fun c4 => ?_) (fun c4 => ?_)
  · have h := h.1 c4
    refine zu_iconst d_8197_156 zi_2 ?_
    exact (u_X9_newValue_157 hB h).weak trivial
  · have h := h.2 c4
    refine zu_iconst d_8197_152 zi_5 ?_
    refine zu_goto (t := 157) d_8197_153 rfl ?_
    exact (u_X9_newValue_157 hB h).weak trivial
def w_X9_newValue_139 (X : zs_X) (d : Nat)  (S : zs_T) (Q : zs_Q) : Prop :=
  (Q (.returned none) S)
theorem u_X9_newValue_139 {σ : Nat → Nat} {n0 : Nat} {bf : ab_B} {d : Nat}  {S : zs_T} {Q : zs_Q} (hB : zt_B bf) (h : w_X9_newValue_139 (zx σ n0 bf) d  S Q) : zs_U (zx σ n0 bf) d 8197 139 [] [] S Q := by
  unfold w_X9_newValue_139 at h
  refine zu_goto (t := 194) d_8197_139 rfl ?_
  exact zu_vret d_8197_194 zr_8197 h
def w_X9_newValue_116 (X : zs_X) (d : Nat) (p0 : Nat) (p1 : Int32) (p2 : Int32) (p3 : Int32) (S : zs_T) (Q : zs_Q) : Prop :=
  (zs_K S p0 = some (.inl 8) ∧ zs_C X d 8014 [.ref p0] S (zs_kV (fun S2 => (zs_K S2 p0 = some (.inl 8) ∧ zs_C X d 8030 [.ref p0, .int (125 : Int32), .int p1, .int (p2 + (1 : Int32)), .int p3] S2 (zs_kV (fun S5 => (zs_K S5 p0 = some (.inl 8) ∧ zs_C X d 8030 [.ref p0, .int (2 : Int32), .int (0 : Int32), .int (0 : Int32), .int (0 : Int32)] S5 (zs_kV (fun S8 => w_X9_newValue_139 X d  S8 Q) Q))) Q))) Q))
theorem u_X9_newValue_116 {σ : Nat → Nat} {n0 : Nat} {bf : ab_B} {d : Nat} {p0 : Nat} {p1 : Int32} {p2 : Int32} {p3 : Int32} {S : zs_T} {Q : zs_Q} (hB : zt_B bf) (h : w_X9_newValue_116 (zx σ n0 bf) d p0 p1 p2 p3 S Q) : zs_U (zx σ n0 bf) d 8197 116 [(0, .ref p0), (1, .int p1), (2, .int p2), (3, .int p3)] [] S Q := by
  unfold w_X9_newValue_116 at h
  refine zu_aload_n d_8197_116 rfl (zs_ra _) ?_
  obtain ⟨k1, h⟩ := h
  refine zc_8_538  hB rfl k1 d_8197_117 (Nat.le_of_ble_eq_true rfl) h (fun S2 h => ?_)
  refine zu_aload_n d_8197_120 rfl (zs_ra _) ?_
  refine zu_bipush d_8197_121 zj_125 ?_
  refine zu_iload_n d_8197_123 rfl ?_
  refine zu_iload_n d_8197_124 rfl ?_
  refine zu_iconst d_8197_125 zi_1 ?_
  refine zu_stk d_8197_126 rfl rfl ?_
  refine zu_iload_n d_8197_127 rfl ?_
  obtain ⟨k4, h⟩ := h
  refine zc_8_649 (x0 := (125 : Int32)) (x1 := p1) (x2 := (p2 + (1 : Int32))) (x3 := p3) hB rfl k4 d_8197_128 (Nat.le_of_ble_eq_true rfl) h (fun S5 h => ?_)
  refine zu_aload_n d_8197_131 rfl (zs_ra _) ?_
  refine zu_iconst d_8197_132 zi_2 ?_
  refine zu_iconst d_8197_133 zi_0 ?_
  refine zu_iconst d_8197_134 zi_0 ?_
  refine zu_iconst d_8197_135 zi_0 ?_
  obtain ⟨k7, h⟩ := h
  refine zc_8_649 (x0 := (2 : Int32)) (x1 := (0 : Int32)) (x2 := (0 : Int32)) (x3 := (0 : Int32)) hB rfl k7 d_8197_136 (Nat.le_of_ble_eq_true rfl) h (fun S8 h => ?_)
  exact (u_X9_newValue_139 hB h).weak trivial
def w_X9_newValue_84 (X : zs_X) (d : Nat) (p0 : Nat) (p1 : Int32) (p2 : Int32) (p3 : Int32) (p4 : Int32) (S : zs_T) (Q : zs_Q) : Prop :=
  (zs_K S p0 = some (.inl 8) ∧ ab_n0 X.1 ≤ p0 ∧ ∀ S3, S3 = zs_sI S 8097 p0 ((zs_I S 8097 p0) - (1 : Int32)) → ∃ b6, (zs_R S3 8058 p0) = some b6 ∧ zs_A S b6 1 p4 ∧ (((zs_i S3 b6 p4.toNatClampNeg) ≤ (p2 + (1 : Int32)) → (zs_C X d 8029 [.ref p0, .int (12 : Int32)] S3 (zs_kI (fun v11 S10 => (((v11 = 0 → w_X9_newValue_177 X d p0 p1 p3 p4 S10 Q) ∧ (¬ (v11 = 0) → w_X9_newValue_172 X d p0 p1 p3 p4 S10 Q)))) Q))) ∧ (¬ ((zs_i S3 b6 p4.toNatClampNeg) ≤ (p2 + (1 : Int32))) → (zs_C X d 8029 [.ref p0, .int (12 : Int32)] S3 (zs_kI (fun v14 S13 => (((v14 = 0 → w_X9_newValue_142 X d p0 S13 Q) ∧ (¬ (v14 = 0) → w_X9_newValue_116 X d p0 p1 p2 p3 S13 Q)))) Q)))))
theorem u_X9_newValue_84 {σ : Nat → Nat} {n0 : Nat} {bf : ab_B} {d : Nat} {p0 : Nat} {p1 : Int32} {p2 : Int32} {p3 : Int32} {p4 : Int32} {S : zs_T} {Q : zs_Q} (hB : zt_B bf) (h : w_X9_newValue_84 (zx σ n0 bf) d p0 p1 p2 p3 p4 S Q) : zs_U (zx σ n0 bf) d 8197 84 [(0, .ref p0), (1, .int p1), (2, .int p2), (3, .int p3), (4, .int p4)] [] S Q := by
  unfold w_X9_newValue_84 at h
  refine zu_aload_n d_8197_84 rfl (zs_ra _) ?_
  refine zu_dup d_8197_85 rfl ?_
  obtain ⟨k1, h⟩ := h
  refine zg_8_653 rfl d_8197_86 k1 ?_
  refine zu_iconst d_8197_89 zi_1 ?_
  refine zu_stk d_8197_90 rfl rfl ?_
  obtain ⟨k2, h⟩ := h
  refine zp_8_653 (v := ((zs_I S 8097 p0) - (1 : Int32))) rfl d_8197_91 k1 k2 ?_
  generalize e4 : zs_sI S 8097 p0 ((zs_I S 8097 p0) - (1 : Int32)) = S3
  have h := h S3 e4.symm
  have K5 : ∀ b, zs_K S3 b = zs_K S b := zs_Kt e4 (zs_KsI _ _ _ _) (fun _ => rfl)
  refine zu_iload_n d_8197_94 rfl ?_
  refine zu_iconst d_8197_95 zi_1 ?_
  refine zu_stk d_8197_96 rfl rfl ?_
  refine zu_aload_n d_8197_97 rfl (zs_ra _) ?_
  refine zg_8_127 rfl d_8197_98 ((K5 _).trans k1) ?_
  refine zu_iload d_8197_101 rfl ?_
  obtain ⟨b6, e7, h⟩ := h
  refine zs_stk1 (zs_rfe e7) ?_
  obtain ⟨k8, h⟩ := h
  refine zu_bald (k := 1) d_8197_103 rfl (Or.inl rfl) (zs_Ak K5 k8) ?_
  refine zu_cmpge (t := 163) d_8197_104 rfl (fun c9 => ?_) (fun c9 => ?_)
  · have h := h.1 c9
    refine zu_aload_n d_8197_163 rfl (zs_ra _) ?_
    refine zu_bipush d_8197_164 zj_12 ?_
    refine zc_8_535 (x0 := (12 : Int32)) hB rfl ((K5 _).trans k1) d_8197_166 (Nat.le_of_ble_eq_true rfl) h (fun v11 S10 h => ?_)
    refine zu_ifeq (t := 177) d_8197_169 rfl (fun c12 => ?_) (fun c12 => ?_)
    · have h := h.1 c12
      exact (u_X9_newValue_177 hB h).weak ⟨rfl, rfl, rfl, rfl, trivial⟩
    · have h := h.2 c12
      exact (u_X9_newValue_172 hB h).weak ⟨rfl, rfl, rfl, rfl, trivial⟩
  · have h := h.2 c9
    refine zu_aload_n d_8197_107 rfl (zs_ra _) ?_
    refine zu_bipush d_8197_108 zj_12 ?_
    refine zc_8_535 (x0 := (12 : Int32)) hB rfl ((K5 _).trans k1) d_8197_110 (Nat.le_of_ble_eq_true rfl) h (fun v14 S13 h => ?_)
    refine zu_ifeq (t := 142) d_8197_113 rfl (fun c15 => ?_) (fun c15 => ?_)
    · have h := h.1 c15
      exact (u_X9_newValue_142 hB h).weak ⟨rfl, trivial⟩
    · have h := h.2 c15
      exact (u_X9_newValue_116 hB h).weak ⟨rfl, rfl, rfl, rfl, trivial⟩
def w_X9_newValue_36 (X : zs_X) (d : Nat) (p0 : Nat) (p1 : Int32) (p2 : Int32) (p3 : Int32) (p4 : Int32) (p5 : Int32) (S : zs_T) (Q : zs_Q) : Prop :=
  (zs_K S p0 = some (.inl 8) ∧ ∃ b2, (zs_R S 8091 p0) = some b2 ∧ zs_A S b2 0 ((zs_I S 8097 p0) - (1 : Int32)) ∧ zs_C X d 8036 [.ref p0, .int (zs_i S b2 ((zs_I S 8097 p0) - (1 : Int32)).toNatClampNeg)] S (zs_kI (fun v6 S5 => (((v6 = 0 → w_X9_newValue_78 X d p0 S5 Q) ∧ (¬ (v6 = 0) → (zs_K S5 p0 = some (.inl 8) ∧ ∃ b9, (zs_R S5 8091 p0) = some b9 ∧ zs_A S5 b9 0 ((zs_I S5 8097 p0) - (1 : Int32)) ∧ zs_C X d 8042 [.ref p0, .int (zs_i S5 b9 ((zs_I S5 8097 p0) - (1 : Int32)).toNatClampNeg)] S5 (zs_kI (fun v13 S12 => (zs_K S12 p0 = some (.inl 8) ∧ zs_C X d 8042 [.ref p0, .int p5] S12 (zs_kI (fun v16 S15 => (((v13 = v16 → w_X9_newValue_84 X d p0 p1 p2 p3 p4 S15 Q) ∧ (¬ (v13 = v16) → w_X9_newValue_78 X d p0 S15 Q)))) Q))) Q)))))) Q))
theorem u_X9_newValue_36 {σ : Nat → Nat} {n0 : Nat} {bf : ab_B} {d : Nat} {p0 : Nat} {p1 : Int32} {p2 : Int32} {p3 : Int32} {p4 : Int32} {p5 : Int32} {S : zs_T} {Q : zs_Q} (hB : zt_B bf) (h : w_X9_newValue_36 (zx σ n0 bf) d p0 p1 p2 p3 p4 p5 S Q) : zs_U (zx σ n0 bf) d 8197 36 [(0, .ref p0), (1, .int p1), (2, .int p2), (3, .int p3), (4, .int p4), (5, .int p5)] [] S Q := by
  unfold w_X9_newValue_36 at h
  refine zu_aload_n d_8197_36 rfl (zs_ra _) ?_
  refine zu_aload_n d_8197_37 rfl (zs_ra _) ?_
  obtain ⟨k1, h⟩ := h
  refine zg_8_191 rfl d_8197_38 k1 ?_
  refine zu_aload_n d_8197_41 rfl (zs_ra _) ?_
  refine zg_8_653 rfl d_8197_42 k1 ?_
  refine zu_iconst d_8197_45 zi_1 ?_
  refine zu_stk d_8197_46 rfl rfl ?_
  obtain ⟨b2, e3, h⟩ := h
  refine zs_stk1 (zs_rfe e3) ?_
  obtain ⟨k4, h⟩ := h
  refine zu_iald (k := 0) d_8197_47 rfl rfl k4 ?_
  refine zc_8_564 (x0 := (zs_i S b2 ((zs_I S 8097 p0) - (1 : Int32)).toNatClampNeg)) hB rfl k1 d_8197_48 (Nat.le_of_ble_eq_true rfl) h (fun v6 S5 h => ?_)
  refine zu_ifeq (t := 78) d_8197_51 rfl (fun c7 => ?_) (fun c7 => ?_)
  · have h := h.1 c7
    exact (u_X9_newValue_78 hB h).weak ⟨rfl, trivial⟩
  · have h := h.2 c7
    refine zu_aload_n d_8197_54 rfl (zs_ra _) ?_
    refine zu_aload_n d_8197_55 rfl (zs_ra _) ?_
    obtain ⟨k8, h⟩ := h
    refine zg_8_191 rfl d_8197_56 k8 ?_
    refine zu_aload_n d_8197_59 rfl (zs_ra _) ?_
    refine zg_8_653 rfl d_8197_60 k8 ?_
    refine zu_iconst d_8197_63 zi_1 ?_
    refine zu_stk d_8197_64 rfl rfl ?_
    obtain ⟨b9, e10, h⟩ := h
    refine zs_stk1 (zs_rfe e10) ?_
    obtain ⟨k11, h⟩ := h
    refine zu_iald (k := 0) d_8197_65 rfl rfl k11 ?_
    refine zc_8_561 (x0 := (zs_i S5 b9 ((zs_I S5 8097 p0) - (1 : Int32)).toNatClampNeg)) hB rfl k8 d_8197_66 (Nat.le_of_ble_eq_true rfl) h (fun v13 S12 h => ?_)
    refine zu_aload_n d_8197_69 rfl (zs_ra _) ?_
    refine zu_iload d_8197_70 rfl ?_
    obtain ⟨k14, h⟩ := h
    refine zc_8_561 (x0 := p5) hB rfl k14 d_8197_72 (Nat.le_of_ble_eq_true rfl) h (fun v16 S15 h => ?_)
    refine zu_cmpeq (t := 84) d_8197_75 rfl (fun c17 => ?_) (fun c17 => ?_)
    · have h := h.1 c17
      exact (u_X9_newValue_84 hB h).weak ⟨rfl, rfl, rfl, rfl, rfl, trivial⟩
    · have h := h.2 c17
      exact (u_X9_newValue_78 hB h).weak ⟨rfl, trivial⟩
def w_X9_newValue (X : zs_X) (d : Nat) (p0 : Nat) (p1 : Int32) (p2 : Int32) (p3 : Int32) (S : zs_T) (Q : zs_Q) : Prop :=
  (zs_K S p0 = some (.inl 8) ∧ zs_C X d 8037 [.ref p0] S (zs_kV (fun S2 => (zs_K S2 p0 = some (.inl 8) ∧ (((zs_I S2 8010 p0) ≤ 0 → (∃ b6, (zs_R S2 8045 p0) = some b6 ∧ zs_A S2 b6 0 p1 ∧ ∃ b9, (zs_R S2 8057 p0) = some b9 ∧ zs_A S2 b9 0 (zs_i S2 b6 p1.toNatClampNeg) ∧ ∃ b12, (zs_R S2 8062 p0) = some b12 ∧ zs_A S2 b12 0 ((zs_i S2 b9 (zs_i S2 b6 p1.toNatClampNeg).toNatClampNeg) + p2) ∧ w_X9_newValue_36 X d p0 p1 p2 p3 (zs_i S2 b6 p1.toNatClampNeg) (zs_i S2 b12 ((zs_i S2 b9 (zs_i S2 b6 p1.toNatClampNeg).toNatClampNeg) + p2).toNatClampNeg) S2 Q)) ∧ (¬ ((zs_I S2 8010 p0) ≤ 0) → (Q (.returned none) S2))))) Q))
theorem u_X9_newValue {σ : Nat → Nat} {n0 : Nat} {bf : ab_B} {d : Nat} {p0 : Nat} {p1 : Int32} {p2 : Int32} {p3 : Int32} {S : zs_T} {Q : zs_Q} (hB : zt_B bf) (hd : 1 ≤ d) (h : w_X9_newValue (zx σ n0 bf) (d - 1) p0 p1 p2 p3 S Q) : zs_C (zx σ n0 bf) d 8197 [.ref p0, .int p1, .int p2, .int p3] S Q := by
  have hL : lv_args 0 [.ref p0, .int p1, .int p2, .int p3] = [(0, .ref p0), (1, .int p1), (2, .int p2), (3, .int p3)] := rfl
  refine zs_C.of1 (hB.2 8197 (by decide) (by decide)) hd (by rw [hL]; exact zs_sub_self _ (by exact ⟨rfl, rfl, rfl, rfl, trivial⟩)) ?_
  rw [hL]
  clear hL
  unfold w_X9_newValue at h
  refine zu_aload_n d_8197_0 rfl (zs_ra _) ?_
  obtain ⟨k1, h⟩ := h
  refine zc_8_660  hB rfl k1 d_8197_1 (Nat.le_of_ble_eq_true rfl) h (fun S2 h => ?_)
  refine zu_aload_n d_8197_4 rfl (zs_ra _) ?_
  obtain ⟨k4, h⟩ := h
  refine zg_8_444 rfl d_8197_5 k4 ?_
  refine zu_ifle (t := 12) d_8197_8 rfl (fun c5 => ?_) (fun c5 => ?_)
  · have h := h.1 c5
    refine zu_aload_n d_8197_12 rfl (zs_ra _) ?_
    refine zg_8_93 rfl d_8197_13 k4 ?_
    refine zu_iload_n d_8197_16 rfl ?_
    obtain ⟨b6, e7, h⟩ := h
    refine zs_stk1 (zs_rfe e7) ?_
    obtain ⟨k8, h⟩ := h
    refine zu_iald (k := 0) d_8197_17 rfl rfl k8 ?_
    refine zu_istore d_8197_18 (zs_lt zq_8197 rfl) ?_
    refine zu_aload_n d_8197_20 rfl (zs_ra _) ?_
    refine zg_8_136 rfl d_8197_21 k4 ?_
    refine zu_aload_n d_8197_24 rfl (zs_ra _) ?_
    refine zg_8_124 rfl d_8197_25 k4 ?_
    refine zu_iload d_8197_28 rfl ?_
    obtain ⟨b9, e10, h⟩ := h
    refine zs_stk1 (zs_rfe e10) ?_
    obtain ⟨k11, h⟩ := h
    refine zu_iald (k := 0) d_8197_30 rfl rfl k11 ?_
    refine zu_iload_n d_8197_31 rfl ?_
    refine zu_stk d_8197_32 rfl rfl ?_
    obtain ⟨b12, e13, h⟩ := h
    refine zs_stk1 (zs_rfe e13) ?_
    obtain ⟨k14, h⟩ := h
    refine zu_iald (k := 0) d_8197_33 rfl rfl k14 ?_
    refine zu_istore d_8197_34 (zs_lt zq_8197 rfl) ?_
    exact (u_X9_newValue_36 hB h).weak ⟨rfl, rfl, rfl, rfl, rfl, rfl, trivial⟩
  · have h := h.2 c5
    exact zu_vret d_8197_11 zr_8197 h
/-! SchemaPascalModel.disposed(I)V -/
theorem zm_8198 {σ : Nat → Nat} {n0 : Nat} {bf : ab_B} : ab_code (zx σ n0 bf).1 8198 = prog_17_method_194_code := rfl
theorem zq_8198 {σ : Nat → Nat} {n0 : Nat} {bf : ab_B} : ab_maxL (zx σ n0 bf).1 8198 = 3 := rfl
theorem zr_8198 {σ : Nat → Nat} {n0 : Nat} {bf : ab_B} : ab_ret (zx σ n0 bf).1 8198 = (Option.none : Option Jvm.ClassFile.FieldType) := rfl
theorem d_8198_0 {σ : Nat → Nat} {n0 : Nat} {bf : ab_B} : decode (ab_code (zx σ n0 bf).1 8198) 0 = .ok (.aload_n 0, 1) := zd zm_8198 (by decide +kernel)
theorem d_8198_1 {σ : Nat → Nat} {n0 : Nat} {bf : ab_B} : decode (ab_code (zx σ n0 bf).1 8198) 1 = .ok (.getfield 444, 3) := zd zm_8198 (by decide +kernel)
theorem d_8198_4 {σ : Nat → Nat} {n0 : Nat} {bf : ab_B} : decode (ab_code (zx σ n0 bf).1 8198) 4 = .ok (.ifCond .ne 43, 3) := zd zm_8198 (by decide +kernel)
theorem d_8198_7 {σ : Nat → Nat} {n0 : Nat} {bf : ab_B} : decode (ab_code (zx σ n0 bf).1 8198) 7 = .ok (.aload_n 0, 1) := zd zm_8198 (by decide +kernel)
theorem d_8198_8 {σ : Nat → Nat} {n0 : Nat} {bf : ab_B} : decode (ab_code (zx σ n0 bf).1 8198) 8 = .ok (.getfield 194, 3) := zd zm_8198 (by decide +kernel)
theorem d_8198_11 {σ : Nat → Nat} {n0 : Nat} {bf : ab_B} : decode (ab_code (zx σ n0 bf).1 8198) 11 = .ok (.aload_n 0, 1) := zd zm_8198 (by decide +kernel)
theorem d_8198_12 {σ : Nat → Nat} {n0 : Nat} {bf : ab_B} : decode (ab_code (zx σ n0 bf).1 8198) 12 = .ok (.getfield 653, 3) := zd zm_8198 (by decide +kernel)
theorem d_8198_15 {σ : Nat → Nat} {n0 : Nat} {bf : ab_B} : decode (ab_code (zx σ n0 bf).1 8198) 15 = .ok (.iconst 1, 1) := zd zm_8198 (by decide +kernel)
theorem d_8198_16 {σ : Nat → Nat} {n0 : Nat} {bf : ab_B} : decode (ab_code (zx σ n0 bf).1 8198) 16 = .ok (.isub, 1) := zd zm_8198 (by decide +kernel)
theorem d_8198_17 {σ : Nat → Nat} {n0 : Nat} {bf : ab_B} : decode (ab_code (zx σ n0 bf).1 8198) 17 = .ok (.baload, 1) := zd zm_8198 (by decide +kernel)
theorem d_8198_18 {σ : Nat → Nat} {n0 : Nat} {bf : ab_B} : decode (ab_code (zx σ n0 bf).1 8198) 18 = .ok (.ifCond .eq 24, 3) := zd zm_8198 (by decide +kernel)
theorem d_8198_21 {σ : Nat → Nat} {n0 : Nat} {bf : ab_B} : decode (ab_code (zx σ n0 bf).1 8198) 21 = .ok (.aload_n 0, 1) := zd zm_8198 (by decide +kernel)
theorem d_8198_22 {σ : Nat → Nat} {n0 : Nat} {bf : ab_B} : decode (ab_code (zx σ n0 bf).1 8198) 22 = .ok (.getfield 90, 3) := zd zm_8198 (by decide +kernel)
theorem d_8198_25 {σ : Nat → Nat} {n0 : Nat} {bf : ab_B} : decode (ab_code (zx σ n0 bf).1 8198) 25 = .ok (.aload_n 0, 1) := zd zm_8198 (by decide +kernel)
theorem d_8198_26 {σ : Nat → Nat} {n0 : Nat} {bf : ab_B} : decode (ab_code (zx σ n0 bf).1 8198) 26 = .ok (.getfield 191, 3) := zd zm_8198 (by decide +kernel)
theorem d_8198_29 {σ : Nat → Nat} {n0 : Nat} {bf : ab_B} : decode (ab_code (zx σ n0 bf).1 8198) 29 = .ok (.aload_n 0, 1) := zd zm_8198 (by decide +kernel)
theorem d_8198_30 {σ : Nat → Nat} {n0 : Nat} {bf : ab_B} : decode (ab_code (zx σ n0 bf).1 8198) 30 = .ok (.getfield 653, 3) := zd zm_8198 (by decide +kernel)
theorem d_8198_33 {σ : Nat → Nat} {n0 : Nat} {bf : ab_B} : decode (ab_code (zx σ n0 bf).1 8198) 33 = .ok (.iconst 1, 1) := zd zm_8198 (by decide +kernel)
theorem d_8198_34 {σ : Nat → Nat} {n0 : Nat} {bf : ab_B} : decode (ab_code (zx σ n0 bf).1 8198) 34 = .ok (.isub, 1) := zd zm_8198 (by decide +kernel)
theorem d_8198_35 {σ : Nat → Nat} {n0 : Nat} {bf : ab_B} : decode (ab_code (zx σ n0 bf).1 8198) 35 = .ok (.iaload, 1) := zd zm_8198 (by decide +kernel)
theorem d_8198_36 {σ : Nat → Nat} {n0 : Nat} {bf : ab_B} : decode (ab_code (zx σ n0 bf).1 8198) 36 = .ok (.baload, 1) := zd zm_8198 (by decide +kernel)
theorem d_8198_37 {σ : Nat → Nat} {n0 : Nat} {bf : ab_B} : decode (ab_code (zx σ n0 bf).1 8198) 37 = .ok (.bipush 10, 2) := zd zm_8198 (by decide +kernel)
theorem d_8198_39 {σ : Nat → Nat} {n0 : Nat} {bf : ab_B} : decode (ab_code (zx σ n0 bf).1 8198) 39 = .ok (.if_icmp .eq 8, 3) := zd zm_8198 (by decide +kernel)
theorem d_8198_42 {σ : Nat → Nat} {n0 : Nat} {bf : ab_B} : decode (ab_code (zx σ n0 bf).1 8198) 42 = .ok (.aload_n 0, 1) := zd zm_8198 (by decide +kernel)
theorem d_8198_43 {σ : Nat → Nat} {n0 : Nat} {bf : ab_B} : decode (ab_code (zx σ n0 bf).1 8198) 43 = .ok (.iconst 5, 1) := zd zm_8198 (by decide +kernel)
theorem d_8198_44 {σ : Nat → Nat} {n0 : Nat} {bf : ab_B} : decode (ab_code (zx σ n0 bf).1 8198) 44 = .ok (.invokevirtual 541, 3) := zd zm_8198 (by decide +kernel)
theorem d_8198_47 {σ : Nat → Nat} {n0 : Nat} {bf : ab_B} : decode (ab_code (zx σ n0 bf).1 8198) 47 = .ok (.aload_n 0, 1) := zd zm_8198 (by decide +kernel)
theorem d_8198_48 {σ : Nat → Nat} {n0 : Nat} {bf : ab_B} : decode (ab_code (zx σ n0 bf).1 8198) 48 = .ok (.getfield 206, 3) := zd zm_8198 (by decide +kernel)
theorem d_8198_51 {σ : Nat → Nat} {n0 : Nat} {bf : ab_B} : decode (ab_code (zx σ n0 bf).1 8198) 51 = .ok (.aload_n 0, 1) := zd zm_8198 (by decide +kernel)
theorem d_8198_52 {σ : Nat → Nat} {n0 : Nat} {bf : ab_B} : decode (ab_code (zx σ n0 bf).1 8198) 52 = .ok (.getfield 653, 3) := zd zm_8198 (by decide +kernel)
theorem d_8198_55 {σ : Nat → Nat} {n0 : Nat} {bf : ab_B} : decode (ab_code (zx σ n0 bf).1 8198) 55 = .ok (.iconst 1, 1) := zd zm_8198 (by decide +kernel)
theorem d_8198_56 {σ : Nat → Nat} {n0 : Nat} {bf : ab_B} : decode (ab_code (zx σ n0 bf).1 8198) 56 = .ok (.isub, 1) := zd zm_8198 (by decide +kernel)
theorem d_8198_57 {σ : Nat → Nat} {n0 : Nat} {bf : ab_B} : decode (ab_code (zx σ n0 bf).1 8198) 57 = .ok (.iload_n 1, 1) := zd zm_8198 (by decide +kernel)
theorem d_8198_58 {σ : Nat → Nat} {n0 : Nat} {bf : ab_B} : decode (ab_code (zx σ n0 bf).1 8198) 58 = .ok (.iastore, 1) := zd zm_8198 (by decide +kernel)
theorem d_8198_59 {σ : Nat → Nat} {n0 : Nat} {bf : ab_B} : decode (ab_code (zx σ n0 bf).1 8198) 59 = .ok (.aload_n 0, 1) := zd zm_8198 (by decide +kernel)
theorem d_8198_60 {σ : Nat → Nat} {n0 : Nat} {bf : ab_B} : decode (ab_code (zx σ n0 bf).1 8198) 60 = .ok (.invokevirtual 660, 3) := zd zm_8198 (by decide +kernel)
theorem d_8198_63 {σ : Nat → Nat} {n0 : Nat} {bf : ab_B} : decode (ab_code (zx σ n0 bf).1 8198) 63 = .ok (.aload_n 0, 1) := zd zm_8198 (by decide +kernel)
theorem d_8198_64 {σ : Nat → Nat} {n0 : Nat} {bf : ab_B} : decode (ab_code (zx σ n0 bf).1 8198) 64 = .ok (.bipush 100, 2) := zd zm_8198 (by decide +kernel)
theorem d_8198_66 {σ : Nat → Nat} {n0 : Nat} {bf : ab_B} : decode (ab_code (zx σ n0 bf).1 8198) 66 = .ok (.iconst 0, 1) := zd zm_8198 (by decide +kernel)
theorem d_8198_67 {σ : Nat → Nat} {n0 : Nat} {bf : ab_B} : decode (ab_code (zx σ n0 bf).1 8198) 67 = .ok (.iconst 0, 1) := zd zm_8198 (by decide +kernel)
theorem d_8198_68 {σ : Nat → Nat} {n0 : Nat} {bf : ab_B} : decode (ab_code (zx σ n0 bf).1 8198) 68 = .ok (.iload_n 1, 1) := zd zm_8198 (by decide +kernel)
theorem d_8198_69 {σ : Nat → Nat} {n0 : Nat} {bf : ab_B} : decode (ab_code (zx σ n0 bf).1 8198) 69 = .ok (.invokevirtual 656, 3) := zd zm_8198 (by decide +kernel)
theorem d_8198_72 {σ : Nat → Nat} {n0 : Nat} {bf : ab_B} : decode (ab_code (zx σ n0 bf).1 8198) 72 = .ok (.istore_n 2, 1) := zd zm_8198 (by decide +kernel)
theorem d_8198_73 {σ : Nat → Nat} {n0 : Nat} {bf : ab_B} : decode (ab_code (zx σ n0 bf).1 8198) 73 = .ok (.aload_n 0, 1) := zd zm_8198 (by decide +kernel)
theorem d_8198_74 {σ : Nat → Nat} {n0 : Nat} {bf : ab_B} : decode (ab_code (zx σ n0 bf).1 8198) 74 = .ok (.dup, 1) := zd zm_8198 (by decide +kernel)
theorem d_8198_75 {σ : Nat → Nat} {n0 : Nat} {bf : ab_B} : decode (ab_code (zx σ n0 bf).1 8198) 75 = .ok (.getfield 653, 3) := zd zm_8198 (by decide +kernel)
theorem d_8198_78 {σ : Nat → Nat} {n0 : Nat} {bf : ab_B} : decode (ab_code (zx σ n0 bf).1 8198) 78 = .ok (.iconst 1, 1) := zd zm_8198 (by decide +kernel)
theorem d_8198_79 {σ : Nat → Nat} {n0 : Nat} {bf : ab_B} : decode (ab_code (zx σ n0 bf).1 8198) 79 = .ok (.isub, 1) := zd zm_8198 (by decide +kernel)
theorem d_8198_80 {σ : Nat → Nat} {n0 : Nat} {bf : ab_B} : decode (ab_code (zx σ n0 bf).1 8198) 80 = .ok (.putfield 653, 3) := zd zm_8198 (by decide +kernel)
theorem d_8198_83 {σ : Nat → Nat} {n0 : Nat} {bf : ab_B} : decode (ab_code (zx σ n0 bf).1 8198) 83 = .ok (.aload_n 0, 1) := zd zm_8198 (by decide +kernel)
theorem d_8198_84 {σ : Nat → Nat} {n0 : Nat} {bf : ab_B} : decode (ab_code (zx σ n0 bf).1 8198) 84 = .ok (.bipush 12, 2) := zd zm_8198 (by decide +kernel)
theorem d_8198_86 {σ : Nat → Nat} {n0 : Nat} {bf : ab_B} : decode (ab_code (zx σ n0 bf).1 8198) 86 = .ok (.invokevirtual 535, 3) := zd zm_8198 (by decide +kernel)
theorem d_8198_89 {σ : Nat → Nat} {n0 : Nat} {bf : ab_B} : decode (ab_code (zx σ n0 bf).1 8198) 89 = .ok (.ifCond .eq 8, 3) := zd zm_8198 (by decide +kernel)
theorem d_8198_92 {σ : Nat → Nat} {n0 : Nat} {bf : ab_B} : decode (ab_code (zx σ n0 bf).1 8198) 92 = .ok (.aload_n 0, 1) := zd zm_8198 (by decide +kernel)
theorem d_8198_93 {σ : Nat → Nat} {n0 : Nat} {bf : ab_B} : decode (ab_code (zx σ n0 bf).1 8198) 93 = .ok (.iconst 5, 1) := zd zm_8198 (by decide +kernel)
theorem d_8198_94 {σ : Nat → Nat} {n0 : Nat} {bf : ab_B} : decode (ab_code (zx σ n0 bf).1 8198) 94 = .ok (.invokevirtual 541, 3) := zd zm_8198 (by decide +kernel)
theorem d_8198_97 {σ : Nat → Nat} {n0 : Nat} {bf : ab_B} : decode (ab_code (zx σ n0 bf).1 8198) 97 = .ok (.return_, 1) := zd zm_8198 (by decide +kernel)
def w_X9_disposed_73 (X : zs_X) (d : Nat) (p0 : Nat) (S : zs_T) (Q : zs_Q) : Prop :=
  (zs_K S p0 = some (.inl 8) ∧ ab_n0 X.1 ≤ p0 ∧ ∀ S3, S3 = zs_sI S 8097 p0 ((zs_I S 8097 p0) - (1 : Int32)) → zs_C X d 8029 [.ref p0, .int (12 : Int32)] S3 (zs_kI (fun v7 S6 => (((v7 = 0 → (Q (.returned none) S6)) ∧ (¬ (v7 = 0) → (zs_K S6 p0 = some (.inl 8) ∧ zs_C X d 8027 [.ref p0, .int (5 : Int32)] S6 (zs_kV (fun S10 => (Q (.returned none) S10)) Q)))))) Q))
theorem u_X9_disposed_73 {σ : Nat → Nat} {n0 : Nat} {bf : ab_B} {d : Nat} {p0 : Nat} {S : zs_T} {Q : zs_Q} (hB : zt_B bf) (h : w_X9_disposed_73 (zx σ n0 bf) d p0 S Q) : zs_U (zx σ n0 bf) d 8198 73 [(0, .ref p0)] [] S Q := by
  unfold w_X9_disposed_73 at h
  refine zu_aload_n d_8198_73 rfl (zs_ra _) ?_
  refine zu_dup d_8198_74 rfl ?_
  obtain ⟨k1, h⟩ := h
  refine zg_8_653 rfl d_8198_75 k1 ?_
  refine zu_iconst d_8198_78 zi_1 ?_
  refine zu_stk d_8198_79 rfl rfl ?_
  obtain ⟨k2, h⟩ := h
  refine zp_8_653 (v := ((zs_I S 8097 p0) - (1 : Int32))) rfl d_8198_80 k1 k2 ?_
  generalize e4 : zs_sI S 8097 p0 ((zs_I S 8097 p0) - (1 : Int32)) = S3
  have h := h S3 e4.symm
  have K5 : ∀ b, zs_K S3 b = zs_K S b := zs_Kt e4 (zs_KsI _ _ _ _) (fun _ => rfl)
  refine zu_aload_n d_8198_83 rfl (zs_ra _) ?_
  refine zu_bipush d_8198_84 zj_12 ?_
  refine zc_8_535 (x0 := (12 : Int32)) hB rfl ((K5 _).trans k1) d_8198_86 (Nat.le_of_ble_eq_true rfl) h (fun v7 S6 h => ?_)
  refine zu_ifeq (t := 97) d_8198_89 rfl (fun c8 => ?_) (fun c8 => ?_)
  · have h := h.1 c8
    exact zu_vret d_8198_97 zr_8198 h
  · have h := h.2 c8
    refine zu_aload_n d_8198_92 rfl (zs_ra _) ?_
    refine zu_iconst d_8198_93 zi_5 ?_
    obtain ⟨k9, h⟩ := h
    refine zc_8_541 (x0 := (5 : Int32)) hB rfl k9 d_8198_94 (Nat.le_of_ble_eq_true rfl) h (fun S10 h => ?_)
    exact zu_vret d_8198_97 zr_8198 h
def w_X9_disposed_47 (X : zs_X) (d : Nat) (p0 : Nat) (p1 : Int32) (S : zs_T) (Q : zs_Q) : Prop :=
  (zs_K S p0 = some (.inl 8) ∧ ∃ b2, (zs_R S 8096 p0) = some b2 ∧ zs_A S b2 0 ((zs_I S 8097 p0) - (1 : Int32)) ∧ ab_n0 X.1 ≤ b2 ∧ ∀ S6, S6 = zs_si S b2 ((zs_I S 8097 p0) - (1 : Int32)).toNatClampNeg p1 → zs_C X d 8037 [.ref p0] S6 (zs_kV (fun S9 => (zs_K S9 p0 = some (.inl 8) ∧ zs_C X d 8012 [.ref p0, .int (100 : Int32), .int (0 : Int32), .int (0 : Int32), .int p1] S9 (zs_kI (fun v13 S12 => (w_X9_disposed_73 X d p0 S12 Q)) Q))) Q))
theorem u_X9_disposed_47 {σ : Nat → Nat} {n0 : Nat} {bf : ab_B} {d : Nat} {p0 : Nat} {p1 : Int32} {S : zs_T} {Q : zs_Q} (hB : zt_B bf) (h : w_X9_disposed_47 (zx σ n0 bf) d p0 p1 S Q) : zs_U (zx σ n0 bf) d 8198 47 [(0, .ref p0), (1, .int p1)] [] S Q := by
  unfold w_X9_disposed_47 at h
  refine zu_aload_n d_8198_47 rfl (zs_ra _) ?_
  obtain ⟨k1, h⟩ := h
  refine zg_8_206 rfl d_8198_48 k1 ?_
  refine zu_aload_n d_8198_51 rfl (zs_ra _) ?_
  refine zg_8_653 rfl d_8198_52 k1 ?_
  refine zu_iconst d_8198_55 zi_1 ?_
  refine zu_stk d_8198_56 rfl rfl ?_
  refine zu_iload_n d_8198_57 rfl ?_
  obtain ⟨b2, e3, h⟩ := h
  refine zs_stk2 (zs_rfe e3) ?_
  obtain ⟨k4, h⟩ := h
  obtain ⟨k5, h⟩ := h
  refine zu_iast (k := 0) d_8198_58 rfl rfl k5 k4 ?_
  generalize e7 : zs_si S b2 ((zs_I S 8097 p0) - (1 : Int32)).toNatClampNeg p1 = S6
  have h := h S6 e7.symm
  have K8 : ∀ b, zs_K S6 b = zs_K S b := zs_Kt e7 (zs_Ksi _ _ _ _) (fun _ => rfl)
  refine zu_aload_n d_8198_59 rfl (zs_ra _) ?_
  refine zc_8_660  hB rfl ((K8 _).trans k1) d_8198_60 (Nat.le_of_ble_eq_true rfl) h (fun S9 h => ?_)
  refine zu_aload_n d_8198_63 rfl (zs_ra _) ?_
  refine zu_bipush d_8198_64 zj_100 ?_
  refine zu_iconst d_8198_66 zi_0 ?_
  refine zu_iconst d_8198_67 zi_0 ?_
  refine zu_iload_n d_8198_68 rfl ?_
  obtain ⟨k11, h⟩ := h
  refine zc_8_656 (x0 := (100 : Int32)) (x1 := (0 : Int32)) (x2 := (0 : Int32)) (x3 := p1) hB rfl k11 d_8198_69 (Nat.le_of_ble_eq_true rfl) h (fun v13 S12 h => ?_)
  refine zu_istore_n d_8198_72 (zs_lt zq_8198 rfl) ?_
  exact (u_X9_disposed_73 hB h).weak ⟨rfl, trivial⟩
def w_X9_disposed_42 (X : zs_X) (d : Nat) (p0 : Nat) (p1 : Int32) (S : zs_T) (Q : zs_Q) : Prop :=
  (zs_K S p0 = some (.inl 8) ∧ zs_C X d 8027 [.ref p0, .int (5 : Int32)] S (zs_kV (fun S2 => w_X9_disposed_47 X d p0 p1 S2 Q) Q))
theorem u_X9_disposed_42 {σ : Nat → Nat} {n0 : Nat} {bf : ab_B} {d : Nat} {p0 : Nat} {p1 : Int32} {S : zs_T} {Q : zs_Q} (hB : zt_B bf) (h : w_X9_disposed_42 (zx σ n0 bf) d p0 p1 S Q) : zs_U (zx σ n0 bf) d 8198 42 [(0, .ref p0), (1, .int p1)] [] S Q := by
  unfold w_X9_disposed_42 at h
  refine zu_aload_n d_8198_42 rfl (zs_ra _) ?_
  refine zu_iconst d_8198_43 zi_5 ?_
  obtain ⟨k1, h⟩ := h
  refine zc_8_541 (x0 := (5 : Int32)) hB rfl k1 d_8198_44 (Nat.le_of_ble_eq_true rfl) h (fun S2 h => ?_)
  exact (u_X9_disposed_47 hB h).weak ⟨rfl, rfl, trivial⟩
def w_X9_disposed (X : zs_X) (d : Nat) (p0 : Nat) (p1 : Int32) (S : zs_T) (Q : zs_Q) : Prop :=
  (zs_K S p0 = some (.inl 8) ∧ ((¬ (zs_I S 8010 p0) = 0 → w_X9_disposed_47 X d p0 p1 S Q) ∧ (¬ (¬ (zs_I S 8010 p0) = 0) → (∃ b3, (zs_R S 8092 p0) = some b3 ∧ zs_A S b3 2 ((zs_I S 8097 p0) - (1 : Int32)) ∧ (((zs_i S b3 ((zs_I S 8097 p0) - (1 : Int32)).toNatClampNeg) = 0 → w_X9_disposed_42 X d p0 p1 S Q) ∧ (¬ ((zs_i S b3 ((zs_I S 8097 p0) - (1 : Int32)).toNatClampNeg) = 0) → (∃ b7, (zs_R S 8091 p0) = some b7 ∧ zs_A S b7 0 ((zs_I S 8097 p0) - (1 : Int32)) ∧ ∃ b10, (zs_R S 8044 p0) = some b10 ∧ zs_A S b10 1 (zs_i S b7 ((zs_I S 8097 p0) - (1 : Int32)).toNatClampNeg) ∧ (((zs_i S b10 (zs_i S b7 ((zs_I S 8097 p0) - (1 : Int32)).toNatClampNeg).toNatClampNeg) = (10 : Int32) → w_X9_disposed_47 X d p0 p1 S Q) ∧ (¬ ((zs_i S b10 (zs_i S b7 ((zs_I S 8097 p0) - (1 : Int32)).toNatClampNeg).toNatClampNeg) = (10 : Int32)) → w_X9_disposed_42 X d p0 p1 S Q)))))))))
theorem u_X9_disposed {σ : Nat → Nat} {n0 : Nat} {bf : ab_B} {d : Nat} {p0 : Nat} {p1 : Int32} {S : zs_T} {Q : zs_Q} (hB : zt_B bf) (hd : 1 ≤ d) (h : w_X9_disposed (zx σ n0 bf) (d - 1) p0 p1 S Q) : zs_C (zx σ n0 bf) d 8198 [.ref p0, .int p1] S Q := by
  have hL : lv_args 0 [.ref p0, .int p1] = [(0, .ref p0), (1, .int p1)] := rfl
  refine zs_C.of1 (hB.2 8198 (by decide) (by decide)) hd (by rw [hL]; exact zs_sub_self _ (by exact ⟨rfl, rfl, trivial⟩)) ?_
  rw [hL]
  clear hL
  unfold w_X9_disposed at h
  refine zu_aload_n d_8198_0 rfl (zs_ra _) ?_
  obtain ⟨k1, h⟩ := h
  refine zg_8_444 rfl d_8198_1 k1 ?_
  refine zu_ifne (t := 47) d_8198_4 rfl (fun c2 => ?_) (fun c2 => ?_)
  · have h := h.1 c2
    exact (u_X9_disposed_47 hB h).weak ⟨rfl, rfl, trivial⟩
  · have h := h.2 c2
    refine zu_aload_n d_8198_7 rfl (zs_ra _) ?_
    refine zg_8_194 rfl d_8198_8 k1 ?_
    refine zu_aload_n d_8198_11 rfl (zs_ra _) ?_
    refine zg_8_653 rfl d_8198_12 k1 ?_
    refine zu_iconst d_8198_15 zi_1 ?_
    refine zu_stk d_8198_16 rfl rfl ?_
    obtain ⟨b3, e4, h⟩ := h
    refine zs_stk1 (zs_rfe e4) ?_
    obtain ⟨k5, h⟩ := h
    refine zu_bald (k := 2) d_8198_17 rfl (Or.inr rfl) k5 ?_
    refine zu_ifeq (t := 42) d_8198_18 rfl (fun c6 => ?_) (fun c6 => ?_)
    · have h := h.1 c6
      exact (u_X9_disposed_42 hB h).weak ⟨rfl, rfl, trivial⟩
    · have h := h.2 c6
      refine zu_aload_n d_8198_21 rfl (zs_ra _) ?_
      refine zg_8_90 rfl d_8198_22 k1 ?_
      refine zu_aload_n d_8198_25 rfl (zs_ra _) ?_
      refine zg_8_191 rfl d_8198_26 k1 ?_
      refine zu_aload_n d_8198_29 rfl (zs_ra _) ?_
      refine zg_8_653 rfl d_8198_30 k1 ?_
      refine zu_iconst d_8198_33 zi_1 ?_
      refine zu_stk d_8198_34 rfl rfl ?_
      obtain ⟨b7, e8, h⟩ := h
      refine zs_stk1 (zs_rfe e8) ?_
      obtain ⟨k9, h⟩ := h
      refine zu_iald (k := 0) d_8198_35 rfl rfl k9 ?_
      obtain ⟨b10, e11, h⟩ := h
      refine zs_stk1 (zs_rfe e11) ?_
      obtain ⟨k12, h⟩ := h
      refine zu_bald (k := 1) d_8198_36 rfl (Or.inl rfl) k12 ?_
      refine zu_bipush d_8198_37 zj_10 ?_
      refine zu_cmpeq (t := 47) d_8198_39 rfl (fun c13 => ?_) (fun c13 => ?_)
      · have h := h.1 c13
        exact (u_X9_disposed_47 hB h).weak ⟨rfl, rfl, trivial⟩
      · have h := h.2 c13
        exact (u_X9_disposed_42 hB h).weak ⟨rfl, rfl, trivial⟩
/-! SchemaPascalModel.readVar(II)V -/
theorem zm_8199 {σ : Nat → Nat} {n0 : Nat} {bf : ab_B} : ab_code (zx σ n0 bf).1 8199 = prog_17_method_190_code := rfl
theorem zq_8199 {σ : Nat → Nat} {n0 : Nat} {bf : ab_B} : ab_maxL (zx σ n0 bf).1 8199 = 4 := rfl
theorem zr_8199 {σ : Nat → Nat} {n0 : Nat} {bf : ab_B} : ab_ret (zx σ n0 bf).1 8199 = (Option.none : Option Jvm.ClassFile.FieldType) := rfl
theorem d_8199_0 {σ : Nat → Nat} {n0 : Nat} {bf : ab_B} : decode (ab_code (zx σ n0 bf).1 8199) 0 = .ok (.aload_n 0, 1) := zd zm_8199 (by decide +kernel)
theorem d_8199_1 {σ : Nat → Nat} {n0 : Nat} {bf : ab_B} : decode (ab_code (zx σ n0 bf).1 8199) 1 = .ok (.getfield 444, 3) := zd zm_8199 (by decide +kernel)
theorem d_8199_4 {σ : Nat → Nat} {n0 : Nat} {bf : ab_B} : decode (ab_code (zx σ n0 bf).1 8199) 4 = .ok (.ifCond .ne 35, 3) := zd zm_8199 (by decide +kernel)
theorem d_8199_7 {σ : Nat → Nat} {n0 : Nat} {bf : ab_B} : decode (ab_code (zx σ n0 bf).1 8199) 7 = .ok (.aload_n 0, 1) := zd zm_8199 (by decide +kernel)
theorem d_8199_8 {σ : Nat → Nat} {n0 : Nat} {bf : ab_B} : decode (ab_code (zx σ n0 bf).1 8199) 8 = .ok (.aload_n 0, 1) := zd zm_8199 (by decide +kernel)
theorem d_8199_9 {σ : Nat → Nat} {n0 : Nat} {bf : ab_B} : decode (ab_code (zx σ n0 bf).1 8199) 9 = .ok (.aload_n 0, 1) := zd zm_8199 (by decide +kernel)
theorem d_8199_10 {σ : Nat → Nat} {n0 : Nat} {bf : ab_B} : decode (ab_code (zx σ n0 bf).1 8199) 10 = .ok (.getfield 191, 3) := zd zm_8199 (by decide +kernel)
theorem d_8199_13 {σ : Nat → Nat} {n0 : Nat} {bf : ab_B} : decode (ab_code (zx σ n0 bf).1 8199) 13 = .ok (.aload_n 0, 1) := zd zm_8199 (by decide +kernel)
theorem d_8199_14 {σ : Nat → Nat} {n0 : Nat} {bf : ab_B} : decode (ab_code (zx σ n0 bf).1 8199) 14 = .ok (.getfield 653, 3) := zd zm_8199 (by decide +kernel)
theorem d_8199_17 {σ : Nat → Nat} {n0 : Nat} {bf : ab_B} : decode (ab_code (zx σ n0 bf).1 8199) 17 = .ok (.iconst 1, 1) := zd zm_8199 (by decide +kernel)
theorem d_8199_18 {σ : Nat → Nat} {n0 : Nat} {bf : ab_B} : decode (ab_code (zx σ n0 bf).1 8199) 18 = .ok (.isub, 1) := zd zm_8199 (by decide +kernel)
theorem d_8199_19 {σ : Nat → Nat} {n0 : Nat} {bf : ab_B} : decode (ab_code (zx σ n0 bf).1 8199) 19 = .ok (.iaload, 1) := zd zm_8199 (by decide +kernel)
theorem d_8199_20 {σ : Nat → Nat} {n0 : Nat} {bf : ab_B} : decode (ab_code (zx σ n0 bf).1 8199) 20 = .ok (.invokevirtual 693, 3) := zd zm_8199 (by decide +kernel)
theorem d_8199_23 {σ : Nat → Nat} {n0 : Nat} {bf : ab_B} : decode (ab_code (zx σ n0 bf).1 8199) 23 = .ok (.invokevirtual 989, 3) := zd zm_8199 (by decide +kernel)
theorem d_8199_26 {σ : Nat → Nat} {n0 : Nat} {bf : ab_B} : decode (ab_code (zx σ n0 bf).1 8199) 26 = .ok (.ifCond .eq 13, 3) := zd zm_8199 (by decide +kernel)
theorem d_8199_29 {σ : Nat → Nat} {n0 : Nat} {bf : ab_B} : decode (ab_code (zx σ n0 bf).1 8199) 29 = .ok (.aload_n 0, 1) := zd zm_8199 (by decide +kernel)
theorem d_8199_30 {σ : Nat → Nat} {n0 : Nat} {bf : ab_B} : decode (ab_code (zx σ n0 bf).1 8199) 30 = .ok (.bipush 96, 2) := zd zm_8199 (by decide +kernel)
theorem d_8199_32 {σ : Nat → Nat} {n0 : Nat} {bf : ab_B} : decode (ab_code (zx σ n0 bf).1 8199) 32 = .ok (.iconst 0, 1) := zd zm_8199 (by decide +kernel)
theorem d_8199_33 {σ : Nat → Nat} {n0 : Nat} {bf : ab_B} : decode (ab_code (zx σ n0 bf).1 8199) 33 = .ok (.iconst 0, 1) := zd zm_8199 (by decide +kernel)
theorem d_8199_34 {σ : Nat → Nat} {n0 : Nat} {bf : ab_B} : decode (ab_code (zx σ n0 bf).1 8199) 34 = .ok (.iload_n 2, 1) := zd zm_8199 (by decide +kernel)
theorem d_8199_35 {σ : Nat → Nat} {n0 : Nat} {bf : ab_B} : decode (ab_code (zx σ n0 bf).1 8199) 35 = .ok (.invokevirtual 656, 3) := zd zm_8199 (by decide +kernel)
theorem d_8199_38 {σ : Nat → Nat} {n0 : Nat} {bf : ab_B} : decode (ab_code (zx σ n0 bf).1 8199) 38 = .ok (.istore_n 3, 1) := zd zm_8199 (by decide +kernel)
theorem d_8199_39 {σ : Nat → Nat} {n0 : Nat} {bf : ab_B} : decode (ab_code (zx σ n0 bf).1 8199) 39 = .ok (.aload_n 0, 1) := zd zm_8199 (by decide +kernel)
theorem d_8199_40 {σ : Nat → Nat} {n0 : Nat} {bf : ab_B} : decode (ab_code (zx σ n0 bf).1 8199) 40 = .ok (.dup, 1) := zd zm_8199 (by decide +kernel)
theorem d_8199_41 {σ : Nat → Nat} {n0 : Nat} {bf : ab_B} : decode (ab_code (zx σ n0 bf).1 8199) 41 = .ok (.getfield 653, 3) := zd zm_8199 (by decide +kernel)
theorem d_8199_44 {σ : Nat → Nat} {n0 : Nat} {bf : ab_B} : decode (ab_code (zx σ n0 bf).1 8199) 44 = .ok (.iconst 1, 1) := zd zm_8199 (by decide +kernel)
theorem d_8199_45 {σ : Nat → Nat} {n0 : Nat} {bf : ab_B} : decode (ab_code (zx σ n0 bf).1 8199) 45 = .ok (.isub, 1) := zd zm_8199 (by decide +kernel)
theorem d_8199_46 {σ : Nat → Nat} {n0 : Nat} {bf : ab_B} : decode (ab_code (zx σ n0 bf).1 8199) 46 = .ok (.putfield 653, 3) := zd zm_8199 (by decide +kernel)
theorem d_8199_49 {σ : Nat → Nat} {n0 : Nat} {bf : ab_B} : decode (ab_code (zx σ n0 bf).1 8199) 49 = .ok (.aload_n 0, 1) := zd zm_8199 (by decide +kernel)
theorem d_8199_50 {σ : Nat → Nat} {n0 : Nat} {bf : ab_B} : decode (ab_code (zx σ n0 bf).1 8199) 50 = .ok (.bipush 127, 2) := zd zm_8199 (by decide +kernel)
theorem d_8199_52 {σ : Nat → Nat} {n0 : Nat} {bf : ab_B} : decode (ab_code (zx σ n0 bf).1 8199) 52 = .ok (.iload_n 1, 1) := zd zm_8199 (by decide +kernel)
theorem d_8199_53 {σ : Nat → Nat} {n0 : Nat} {bf : ab_B} : decode (ab_code (zx σ n0 bf).1 8199) 53 = .ok (.iload_n 2, 1) := zd zm_8199 (by decide +kernel)
theorem d_8199_54 {σ : Nat → Nat} {n0 : Nat} {bf : ab_B} : decode (ab_code (zx σ n0 bf).1 8199) 54 = .ok (.invokevirtual 993, 3) := zd zm_8199 (by decide +kernel)
theorem d_8199_57 {σ : Nat → Nat} {n0 : Nat} {bf : ab_B} : decode (ab_code (zx σ n0 bf).1 8199) 57 = .ok (.return_, 1) := zd zm_8199 (by decide +kernel)
def w_X9_readVar_39 (X : zs_X) (d : Nat) (p0 : Nat) (p1 : Int32) (p2 : Int32) (S : zs_T) (Q : zs_Q) : Prop :=
  (zs_K S p0 = some (.inl 8) ∧ ab_n0 X.1 ≤ p0 ∧ ∀ S3, S3 = zs_sI S 8097 p0 ((zs_I S 8097 p0) - (1 : Int32)) → zs_C X d 8200 [.ref p0, .int (127 : Int32), .int p1, .int p2] S3 (zs_kV (fun S6 => (Q (.returned none) S6)) Q))
theorem u_X9_readVar_39 {σ : Nat → Nat} {n0 : Nat} {bf : ab_B} {d : Nat} {p0 : Nat} {p1 : Int32} {p2 : Int32} {S : zs_T} {Q : zs_Q} (hB : zt_B bf) (h : w_X9_readVar_39 (zx σ n0 bf) d p0 p1 p2 S Q) : zs_U (zx σ n0 bf) d 8199 39 [(0, .ref p0), (1, .int p1), (2, .int p2)] [] S Q := by
  unfold w_X9_readVar_39 at h
  refine zu_aload_n d_8199_39 rfl (zs_ra _) ?_
  refine zu_dup d_8199_40 rfl ?_
  obtain ⟨k1, h⟩ := h
  refine zg_8_653 rfl d_8199_41 k1 ?_
  refine zu_iconst d_8199_44 zi_1 ?_
  refine zu_stk d_8199_45 rfl rfl ?_
  obtain ⟨k2, h⟩ := h
  refine zp_8_653 (v := ((zs_I S 8097 p0) - (1 : Int32))) rfl d_8199_46 k1 k2 ?_
  generalize e4 : zs_sI S 8097 p0 ((zs_I S 8097 p0) - (1 : Int32)) = S3
  have h := h S3 e4.symm
  have K5 : ∀ b, zs_K S3 b = zs_K S b := zs_Kt e4 (zs_KsI _ _ _ _) (fun _ => rfl)
  refine zu_aload_n d_8199_49 rfl (zs_ra _) ?_
  refine zu_bipush d_8199_50 zj_127 ?_
  refine zu_iload_n d_8199_52 rfl ?_
  refine zu_iload_n d_8199_53 rfl ?_
  refine zc_8_993 (x0 := (127 : Int32)) (x1 := p1) (x2 := p2) hB rfl ((K5 _).trans k1) d_8199_54 (Nat.le_of_ble_eq_true rfl) h (fun S6 h => ?_)
  exact zu_vret d_8199_57 zr_8199 h
def w_X9_readVar (X : zs_X) (d : Nat) (p0 : Nat) (p1 : Int32) (p2 : Int32) (S : zs_T) (Q : zs_Q) : Prop :=
  (zs_K S p0 = some (.inl 8) ∧ ((¬ (zs_I S 8010 p0) = 0 → w_X9_readVar_39 X d p0 p1 p2 S Q) ∧ (¬ (¬ (zs_I S 8010 p0) = 0) → (∃ b3, (zs_R S 8091 p0) = some b3 ∧ zs_A S b3 0 ((zs_I S 8097 p0) - (1 : Int32)) ∧ zs_C X d 8051 [.ref p0, .int (zs_i S b3 ((zs_I S 8097 p0) - (1 : Int32)).toNatClampNeg)] S (zs_kI (fun v7 S6 => (zs_K S6 p0 = some (.inl 8) ∧ zs_C X d 8196 [.ref p0, .int v7] S6 (zs_kI (fun v10 S9 => (((v10 = 0 → w_X9_readVar_39 X d p0 p1 p2 S9 Q) ∧ (¬ (v10 = 0) → (zs_K S9 p0 = some (.inl 8) ∧ zs_C X d 8012 [.ref p0, .int (96 : Int32), .int (0 : Int32), .int (0 : Int32), .int p2] S9 (zs_kI (fun v14 S13 => (w_X9_readVar_39 X d p0 p1 p2 S13 Q)) Q)))))) Q))) Q)))))
theorem u_X9_readVar {σ : Nat → Nat} {n0 : Nat} {bf : ab_B} {d : Nat} {p0 : Nat} {p1 : Int32} {p2 : Int32} {S : zs_T} {Q : zs_Q} (hB : zt_B bf) (hd : 1 ≤ d) (h : w_X9_readVar (zx σ n0 bf) (d - 1) p0 p1 p2 S Q) : zs_C (zx σ n0 bf) d 8199 [.ref p0, .int p1, .int p2] S Q := by
  have hL : lv_args 0 [.ref p0, .int p1, .int p2] = [(0, .ref p0), (1, .int p1), (2, .int p2)] := rfl
  refine zs_C.of1 (hB.2 8199 (by decide) (by decide)) hd (by rw [hL]; exact zs_sub_self _ (by exact ⟨rfl, rfl, rfl, trivial⟩)) ?_
  rw [hL]
  clear hL
  unfold w_X9_readVar at h
  refine zu_aload_n d_8199_0 rfl (zs_ra _) ?_
  obtain ⟨k1, h⟩ := h
  refine zg_8_444 rfl d_8199_1 k1 ?_
  refine zu_ifne (t := 39) d_8199_4 rfl (fun c2 => ?_) (fun c2 => ?_)
  · have h := h.1 c2
    exact (u_X9_readVar_39 hB h).weak ⟨rfl, rfl, rfl, trivial⟩
  · have h := h.2 c2
    refine zu_aload_n d_8199_7 rfl (zs_ra _) ?_
    refine zu_aload_n d_8199_8 rfl (zs_ra _) ?_
    refine zu_aload_n d_8199_9 rfl (zs_ra _) ?_
    refine zg_8_191 rfl d_8199_10 k1 ?_
    refine zu_aload_n d_8199_13 rfl (zs_ra _) ?_
    refine zg_8_653 rfl d_8199_14 k1 ?_
    refine zu_iconst d_8199_17 zi_1 ?_
    refine zu_stk d_8199_18 rfl rfl ?_
    obtain ⟨b3, e4, h⟩ := h
    refine zs_stk1 (zs_rfe e4) ?_
    obtain ⟨k5, h⟩ := h
    refine zu_iald (k := 0) d_8199_19 rfl rfl k5 ?_
    refine zc_8_693 (x0 := (zs_i S b3 ((zs_I S 8097 p0) - (1 : Int32)).toNatClampNeg)) hB rfl k1 d_8199_20 (Nat.le_of_ble_eq_true rfl) h (fun v7 S6 h => ?_)
    obtain ⟨k8, h⟩ := h
    refine zc_8_989 (x0 := v7) hB rfl k8 d_8199_23 (Nat.le_of_ble_eq_true rfl) h (fun v10 S9 h => ?_)
    refine zu_ifeq (t := 39) d_8199_26 rfl (fun c11 => ?_) (fun c11 => ?_)
    · have h := h.1 c11
      exact (u_X9_readVar_39 hB h).weak ⟨rfl, rfl, rfl, trivial⟩
    · have h := h.2 c11
      refine zu_aload_n d_8199_29 rfl (zs_ra _) ?_
      refine zu_bipush d_8199_30 zj_96 ?_
      refine zu_iconst d_8199_32 zi_0 ?_
      refine zu_iconst d_8199_33 zi_0 ?_
      refine zu_iload_n d_8199_34 rfl ?_
      obtain ⟨k12, h⟩ := h
      refine zc_8_656 (x0 := (96 : Int32)) (x1 := (0 : Int32)) (x2 := (0 : Int32)) (x3 := p2) hB rfl k12 d_8199_35 (Nat.le_of_ble_eq_true rfl) h (fun v14 S13 h => ?_)
      refine zu_istore_n d_8199_38 (zs_lt zq_8199 rfl) ?_
      exact (u_X9_readVar_39 hB h).weak ⟨rfl, rfl, rfl, trivial⟩
/-! SchemaPascalModel.another(III)V -/
theorem zm_8200 {σ : Nat → Nat} {n0 : Nat} {bf : ab_B} : ab_code (zx σ n0 bf).1 8200 = prog_17_method_188_code := rfl
theorem zq_8200 {σ : Nat → Nat} {n0 : Nat} {bf : ab_B} : ab_maxL (zx σ n0 bf).1 8200 = 4 := rfl
theorem zr_8200 {σ : Nat → Nat} {n0 : Nat} {bf : ab_B} : ab_ret (zx σ n0 bf).1 8200 = (Option.none : Option Jvm.ClassFile.FieldType) := rfl
theorem d_8200_0 {σ : Nat → Nat} {n0 : Nat} {bf : ab_B} : decode (ab_code (zx σ n0 bf).1 8200) 0 = .ok (.aload_n 0, 1) := zd zm_8200 (by decide +kernel)
theorem d_8200_1 {σ : Nat → Nat} {n0 : Nat} {bf : ab_B} : decode (ab_code (zx σ n0 bf).1 8200) 1 = .ok (.bipush 12, 2) := zd zm_8200 (by decide +kernel)
theorem d_8200_3 {σ : Nat → Nat} {n0 : Nat} {bf : ab_B} : decode (ab_code (zx σ n0 bf).1 8200) 3 = .ok (.invokevirtual 535, 3) := zd zm_8200 (by decide +kernel)
theorem d_8200_6 {σ : Nat → Nat} {n0 : Nat} {bf : ab_B} : decode (ab_code (zx σ n0 bf).1 8200) 6 = .ok (.ifCond .eq 36, 3) := zd zm_8200 (by decide +kernel)
theorem d_8200_9 {σ : Nat → Nat} {n0 : Nat} {bf : ab_B} : decode (ab_code (zx σ n0 bf).1 8200) 9 = .ok (.aload_n 0, 1) := zd zm_8200 (by decide +kernel)
theorem d_8200_10 {σ : Nat → Nat} {n0 : Nat} {bf : ab_B} : decode (ab_code (zx σ n0 bf).1 8200) 10 = .ok (.invokevirtual 538, 3) := zd zm_8200 (by decide +kernel)
theorem d_8200_13 {σ : Nat → Nat} {n0 : Nat} {bf : ab_B} : decode (ab_code (zx σ n0 bf).1 8200) 13 = .ok (.aload_n 0, 1) := zd zm_8200 (by decide +kernel)
theorem d_8200_14 {σ : Nat → Nat} {n0 : Nat} {bf : ab_B} : decode (ab_code (zx σ n0 bf).1 8200) 14 = .ok (.iload_n 1, 1) := zd zm_8200 (by decide +kernel)
theorem d_8200_15 {σ : Nat → Nat} {n0 : Nat} {bf : ab_B} : decode (ab_code (zx σ n0 bf).1 8200) 15 = .ok (.iload_n 2, 1) := zd zm_8200 (by decide +kernel)
theorem d_8200_16 {σ : Nat → Nat} {n0 : Nat} {bf : ab_B} : decode (ab_code (zx σ n0 bf).1 8200) 16 = .ok (.iload_n 3, 1) := zd zm_8200 (by decide +kernel)
theorem d_8200_17 {σ : Nat → Nat} {n0 : Nat} {bf : ab_B} : decode (ab_code (zx σ n0 bf).1 8200) 17 = .ok (.iconst 0, 1) := zd zm_8200 (by decide +kernel)
theorem d_8200_18 {σ : Nat → Nat} {n0 : Nat} {bf : ab_B} : decode (ab_code (zx σ n0 bf).1 8200) 18 = .ok (.invokevirtual 649, 3) := zd zm_8200 (by decide +kernel)
theorem d_8200_21 {σ : Nat → Nat} {n0 : Nat} {bf : ab_B} : decode (ab_code (zx σ n0 bf).1 8200) 21 = .ok (.iload_n 2, 1) := zd zm_8200 (by decide +kernel)
theorem d_8200_22 {σ : Nat → Nat} {n0 : Nat} {bf : ab_B} : decode (ab_code (zx σ n0 bf).1 8200) 22 = .ok (.bipush 21, 2) := zd zm_8200 (by decide +kernel)
theorem d_8200_24 {σ : Nat → Nat} {n0 : Nat} {bf : ab_B} : decode (ab_code (zx σ n0 bf).1 8200) 24 = .ok (.if_icmp .ne 10, 3) := zd zm_8200 (by decide +kernel)
theorem d_8200_27 {σ : Nat → Nat} {n0 : Nat} {bf : ab_B} : decode (ab_code (zx σ n0 bf).1 8200) 27 = .ok (.aload_n 0, 1) := zd zm_8200 (by decide +kernel)
theorem d_8200_28 {σ : Nat → Nat} {n0 : Nat} {bf : ab_B} : decode (ab_code (zx σ n0 bf).1 8200) 28 = .ok (.invokevirtual 968, 3) := zd zm_8200 (by decide +kernel)
theorem d_8200_31 {σ : Nat → Nat} {n0 : Nat} {bf : ab_B} : decode (ab_code (zx σ n0 bf).1 8200) 31 = .ok (.goto 11, 3) := zd zm_8200 (by decide +kernel)
theorem d_8200_34 {σ : Nat → Nat} {n0 : Nat} {bf : ab_B} : decode (ab_code (zx σ n0 bf).1 8200) 34 = .ok (.aload_n 0, 1) := zd zm_8200 (by decide +kernel)
theorem d_8200_35 {σ : Nat → Nat} {n0 : Nat} {bf : ab_B} : decode (ab_code (zx σ n0 bf).1 8200) 35 = .ok (.iconst 2, 1) := zd zm_8200 (by decide +kernel)
theorem d_8200_36 {σ : Nat → Nat} {n0 : Nat} {bf : ab_B} : decode (ab_code (zx σ n0 bf).1 8200) 36 = .ok (.iconst 0, 1) := zd zm_8200 (by decide +kernel)
theorem d_8200_37 {σ : Nat → Nat} {n0 : Nat} {bf : ab_B} : decode (ab_code (zx σ n0 bf).1 8200) 37 = .ok (.iconst 0, 1) := zd zm_8200 (by decide +kernel)
theorem d_8200_38 {σ : Nat → Nat} {n0 : Nat} {bf : ab_B} : decode (ab_code (zx σ n0 bf).1 8200) 38 = .ok (.iconst 0, 1) := zd zm_8200 (by decide +kernel)
theorem d_8200_39 {σ : Nat → Nat} {n0 : Nat} {bf : ab_B} : decode (ab_code (zx σ n0 bf).1 8200) 39 = .ok (.invokevirtual 649, 3) := zd zm_8200 (by decide +kernel)
theorem d_8200_42 {σ : Nat → Nat} {n0 : Nat} {bf : ab_B} : decode (ab_code (zx σ n0 bf).1 8200) 42 = .ok (.return_, 1) := zd zm_8200 (by decide +kernel)
def w_X9_another_42 (X : zs_X) (d : Nat)  (S : zs_T) (Q : zs_Q) : Prop :=
  (Q (.returned none) S)
theorem u_X9_another_42 {σ : Nat → Nat} {n0 : Nat} {bf : ab_B} {d : Nat}  {S : zs_T} {Q : zs_Q} (hB : zt_B bf) (h : w_X9_another_42 (zx σ n0 bf) d  S Q) : zs_U (zx σ n0 bf) d 8200 42 [] [] S Q := by
  unfold w_X9_another_42 at h
  exact zu_vret d_8200_42 zr_8200 h
def w_X9_another_31 (X : zs_X) (d : Nat)  (S : zs_T) (Q : zs_Q) : Prop :=
  (w_X9_another_42 X d  S Q)
theorem u_X9_another_31 {σ : Nat → Nat} {n0 : Nat} {bf : ab_B} {d : Nat}  {S : zs_T} {Q : zs_Q} (hB : zt_B bf) (h : w_X9_another_31 (zx σ n0 bf) d  S Q) : zs_U (zx σ n0 bf) d 8200 31 [] [] S Q := by
  unfold w_X9_another_31 at h
  refine zu_goto (t := 42) d_8200_31 rfl ?_
  exact (u_X9_another_42 hB h).weak trivial
def w_X9_another (X : zs_X) (d : Nat) (p0 : Nat) (p1 : Int32) (p2 : Int32) (p3 : Int32) (S : zs_T) (Q : zs_Q) : Prop :=
  (zs_K S p0 = some (.inl 8) ∧ zs_C X d 8029 [.ref p0, .int (12 : Int32)] S (zs_kI (fun v3 S2 => (((v3 = 0 → w_X9_another_42 X d  S2 Q) ∧ (¬ (v3 = 0) → (zs_K S2 p0 = some (.inl 8) ∧ zs_C X d 8014 [.ref p0] S2 (zs_kV (fun S6 => (zs_K S6 p0 = some (.inl 8) ∧ zs_C X d 8030 [.ref p0, .int p1, .int p2, .int p3, .int (0 : Int32)] S6 (zs_kV (fun S9 => (((¬ p2 = (21 : Int32) → (zs_K S9 p0 = some (.inl 8) ∧ zs_C X d 8030 [.ref p0, .int (2 : Int32), .int (0 : Int32), .int (0 : Int32), .int (0 : Int32)] S9 (zs_kV (fun S13 => w_X9_another_42 X d  S13 Q) Q))) ∧ (¬ (¬ p2 = (21 : Int32)) → (zs_K S9 p0 = some (.inl 8) ∧ zs_C X d 8171 [.ref p0] S9 (zs_kV (fun S16 => w_X9_another_31 X d  S16 Q) Q)))))) Q))) Q)))))) Q))
theorem u_X9_another {σ : Nat → Nat} {n0 : Nat} {bf : ab_B} {d : Nat} {p0 : Nat} {p1 : Int32} {p2 : Int32} {p3 : Int32} {S : zs_T} {Q : zs_Q} (hB : zt_B bf) (hd : 1 ≤ d) (h : w_X9_another (zx σ n0 bf) (d - 1) p0 p1 p2 p3 S Q) : zs_C (zx σ n0 bf) d 8200 [.ref p0, .int p1, .int p2, .int p3] S Q := by
  have hL : lv_args 0 [.ref p0, .int p1, .int p2, .int p3] = [(0, .ref p0), (1, .int p1), (2, .int p2), (3, .int p3)] := rfl
  refine zs_C.of1 (hB.2 8200 (by decide) (by decide)) hd (by rw [hL]; exact zs_sub_self _ (by exact ⟨rfl, rfl, rfl, rfl, trivial⟩)) ?_
  rw [hL]
  clear hL
  unfold w_X9_another at h
  refine zu_aload_n d_8200_0 rfl (zs_ra _) ?_
  refine zu_bipush d_8200_1 zj_12 ?_
  obtain ⟨k1, h⟩ := h
  refine zc_8_535 (x0 := (12 : Int32)) hB rfl k1 d_8200_3 (Nat.le_of_ble_eq_true rfl) h (fun v3 S2 h => ?_)
  refine zu_ifeq (t := 42) d_8200_6 rfl (fun c4 => ?_) (fun c4 => ?_)
  · have h := h.1 c4
    exact (u_X9_another_42 hB h).weak trivial
  · have h := h.2 c4
    refine zu_aload_n d_8200_9 rfl (zs_ra _) ?_
    obtain ⟨k5, h⟩ := h
    refine zc_8_538  hB rfl k5 d_8200_10 (Nat.le_of_ble_eq_true rfl) h (fun S6 h => ?_)
    refine zu_aload_n d_8200_13 rfl (zs_ra _) ?_
    refine zu_iload_n d_8200_14 rfl ?_
    refine zu_iload_n d_8200_15 rfl ?_
    refine zu_iload_n d_8200_16 rfl ?_
    refine zu_iconst d_8200_17 zi_0 ?_
    obtain ⟨k8, h⟩ := h
    refine zc_8_649 (x0 := p1) (x1 := p2) (x2 := p3) (x3 := (0 : Int32)) hB rfl k8 d_8200_18 (Nat.le_of_ble_eq_true rfl) h (fun S9 h => ?_)
    refine zu_iload_n d_8200_21 rfl ?_
    refine zu_bipush d_8200_22 zj_21 ?_
    refine zu_cmpne (t := 34) d_8200_24 rfl (fun c11 => ?_) (fun c11 => ?_)
    · have h := h.1 c11
      refine zu_aload_n d_8200_34 rfl (zs_ra _) ?_
      refine zu_iconst d_8200_35 zi_2 ?_
      refine zu_iconst d_8200_36 zi_0 ?_
      refine zu_iconst d_8200_37 zi_0 ?_
      refine zu_iconst d_8200_38 zi_0 ?_
      obtain ⟨k12, h⟩ := h
      refine zc_8_649 (x0 := (2 : Int32)) (x1 := (0 : Int32)) (x2 := (0 : Int32)) (x3 := (0 : Int32)) hB rfl k12 d_8200_39 (Nat.le_of_ble_eq_true rfl) h (fun S13 h => ?_)
      exact (u_X9_another_42 hB h).weak trivial
    · have h := h.2 c11
      refine zu_aload_n d_8200_27 rfl (zs_ra _) ?_
      obtain ⟨k15, h⟩ := h
      refine zc_8_968  hB rfl k15 d_8200_28 (Nat.le_of_ble_eq_true rfl) h (fun S16 h => ?_)
      exact (u_X9_another_31 hB h).weak trivial
/-! SchemaPascalModel.writeN(II)V -/
theorem zm_8201 {σ : Nat → Nat} {n0 : Nat} {bf : ab_B} : ab_code (zx σ n0 bf).1 8201 = prog_17_method_191_code := rfl
theorem zq_8201 {σ : Nat → Nat} {n0 : Nat} {bf : ab_B} : ab_maxL (zx σ n0 bf).1 8201 = 6 := rfl
theorem zr_8201 {σ : Nat → Nat} {n0 : Nat} {bf : ab_B} : ab_ret (zx σ n0 bf).1 8201 = (Option.none : Option Jvm.ClassFile.FieldType) := rfl
theorem d_8201_0 {σ : Nat → Nat} {n0 : Nat} {bf : ab_B} : decode (ab_code (zx σ n0 bf).1 8201) 0 = .ok (.aload_n 0, 1) := zd zm_8201 (by decide +kernel)
theorem d_8201_1 {σ : Nat → Nat} {n0 : Nat} {bf : ab_B} : decode (ab_code (zx σ n0 bf).1 8201) 1 = .ok (.invokevirtual 660, 3) := zd zm_8201 (by decide +kernel)
theorem d_8201_4 {σ : Nat → Nat} {n0 : Nat} {bf : ab_B} : decode (ab_code (zx σ n0 bf).1 8201) 4 = .ok (.aload_n 0, 1) := zd zm_8201 (by decide +kernel)
theorem d_8201_5 {σ : Nat → Nat} {n0 : Nat} {bf : ab_B} : decode (ab_code (zx σ n0 bf).1 8201) 5 = .ok (.getfield 444, 3) := zd zm_8201 (by decide +kernel)
theorem d_8201_8 {σ : Nat → Nat} {n0 : Nat} {bf : ab_B} : decode (ab_code (zx σ n0 bf).1 8201) 8 = .ok (.ifCond .ne 95, 3) := zd zm_8201 (by decide +kernel)
theorem d_8201_11 {σ : Nat → Nat} {n0 : Nat} {bf : ab_B} : decode (ab_code (zx σ n0 bf).1 8201) 11 = .ok (.aload_n 0, 1) := zd zm_8201 (by decide +kernel)
theorem d_8201_12 {σ : Nat → Nat} {n0 : Nat} {bf : ab_B} : decode (ab_code (zx σ n0 bf).1 8201) 12 = .ok (.getfield 191, 3) := zd zm_8201 (by decide +kernel)
theorem d_8201_15 {σ : Nat → Nat} {n0 : Nat} {bf : ab_B} : decode (ab_code (zx σ n0 bf).1 8201) 15 = .ok (.aload_n 0, 1) := zd zm_8201 (by decide +kernel)
theorem d_8201_16 {σ : Nat → Nat} {n0 : Nat} {bf : ab_B} : decode (ab_code (zx σ n0 bf).1 8201) 16 = .ok (.getfield 653, 3) := zd zm_8201 (by decide +kernel)
theorem d_8201_19 {σ : Nat → Nat} {n0 : Nat} {bf : ab_B} : decode (ab_code (zx σ n0 bf).1 8201) 19 = .ok (.iconst 1, 1) := zd zm_8201 (by decide +kernel)
theorem d_8201_20 {σ : Nat → Nat} {n0 : Nat} {bf : ab_B} : decode (ab_code (zx σ n0 bf).1 8201) 20 = .ok (.isub, 1) := zd zm_8201 (by decide +kernel)
theorem d_8201_21 {σ : Nat → Nat} {n0 : Nat} {bf : ab_B} : decode (ab_code (zx σ n0 bf).1 8201) 21 = .ok (.iaload, 1) := zd zm_8201 (by decide +kernel)
theorem d_8201_22 {σ : Nat → Nat} {n0 : Nat} {bf : ab_B} : decode (ab_code (zx σ n0 bf).1 8201) 22 = .ok (.istore_n 3, 1) := zd zm_8201 (by decide +kernel)
theorem d_8201_23 {σ : Nat → Nat} {n0 : Nat} {bf : ab_B} : decode (ab_code (zx σ n0 bf).1 8201) 23 = .ok (.aload_n 0, 1) := zd zm_8201 (by decide +kernel)
theorem d_8201_24 {σ : Nat → Nat} {n0 : Nat} {bf : ab_B} : decode (ab_code (zx σ n0 bf).1 8201) 24 = .ok (.iload_n 3, 1) := zd zm_8201 (by decide +kernel)
theorem d_8201_25 {σ : Nat → Nat} {n0 : Nat} {bf : ab_B} : decode (ab_code (zx σ n0 bf).1 8201) 25 = .ok (.invokevirtual 564, 3) := zd zm_8201 (by decide +kernel)
theorem d_8201_28 {σ : Nat → Nat} {n0 : Nat} {bf : ab_B} : decode (ab_code (zx σ n0 bf).1 8201) 28 = .ok (.ifCond .ne 16, 3) := zd zm_8201 (by decide +kernel)
theorem d_8201_31 {σ : Nat → Nat} {n0 : Nat} {bf : ab_B} : decode (ab_code (zx σ n0 bf).1 8201) 31 = .ok (.aload_n 0, 1) := zd zm_8201 (by decide +kernel)
theorem d_8201_32 {σ : Nat → Nat} {n0 : Nat} {bf : ab_B} : decode (ab_code (zx σ n0 bf).1 8201) 32 = .ok (.iload_n 3, 1) := zd zm_8201 (by decide +kernel)
theorem d_8201_33 {σ : Nat → Nat} {n0 : Nat} {bf : ab_B} : decode (ab_code (zx σ n0 bf).1 8201) 33 = .ok (.invokevirtual 676, 3) := zd zm_8201 (by decide +kernel)
theorem d_8201_36 {σ : Nat → Nat} {n0 : Nat} {bf : ab_B} : decode (ab_code (zx σ n0 bf).1 8201) 36 = .ok (.ifCond .ne 8, 3) := zd zm_8201 (by decide +kernel)
theorem d_8201_39 {σ : Nat → Nat} {n0 : Nat} {bf : ab_B} : decode (ab_code (zx σ n0 bf).1 8201) 39 = .ok (.aload_n 0, 1) := zd zm_8201 (by decide +kernel)
theorem d_8201_40 {σ : Nat → Nat} {n0 : Nat} {bf : ab_B} : decode (ab_code (zx σ n0 bf).1 8201) 40 = .ok (.iconst 5, 1) := zd zm_8201 (by decide +kernel)
theorem d_8201_41 {σ : Nat → Nat} {n0 : Nat} {bf : ab_B} : decode (ab_code (zx σ n0 bf).1 8201) 41 = .ok (.invokevirtual 541, 3) := zd zm_8201 (by decide +kernel)
theorem d_8201_44 {σ : Nat → Nat} {n0 : Nat} {bf : ab_B} : decode (ab_code (zx σ n0 bf).1 8201) 44 = .ok (.aload_n 0, 1) := zd zm_8201 (by decide +kernel)
theorem d_8201_45 {σ : Nat → Nat} {n0 : Nat} {bf : ab_B} : decode (ab_code (zx σ n0 bf).1 8201) 45 = .ok (.iload_n 3, 1) := zd zm_8201 (by decide +kernel)
theorem d_8201_46 {σ : Nat → Nat} {n0 : Nat} {bf : ab_B} : decode (ab_code (zx σ n0 bf).1 8201) 46 = .ok (.invokevirtual 564, 3) := zd zm_8201 (by decide +kernel)
theorem d_8201_49 {σ : Nat → Nat} {n0 : Nat} {bf : ab_B} : decode (ab_code (zx σ n0 bf).1 8201) 49 = .ok (.ifCond .eq 11, 3) := zd zm_8201 (by decide +kernel)
theorem d_8201_52 {σ : Nat → Nat} {n0 : Nat} {bf : ab_B} : decode (ab_code (zx σ n0 bf).1 8201) 52 = .ok (.aload_n 0, 1) := zd zm_8201 (by decide +kernel)
theorem d_8201_53 {σ : Nat → Nat} {n0 : Nat} {bf : ab_B} : decode (ab_code (zx σ n0 bf).1 8201) 53 = .ok (.iload_n 3, 1) := zd zm_8201 (by decide +kernel)
theorem d_8201_54 {σ : Nat → Nat} {n0 : Nat} {bf : ab_B} : decode (ab_code (zx σ n0 bf).1 8201) 54 = .ok (.invokevirtual 561, 3) := zd zm_8201 (by decide +kernel)
theorem d_8201_57 {σ : Nat → Nat} {n0 : Nat} {bf : ab_B} : decode (ab_code (zx σ n0 bf).1 8201) 57 = .ok (.goto 4, 3) := zd zm_8201 (by decide +kernel)
theorem d_8201_60 {σ : Nat → Nat} {n0 : Nat} {bf : ab_B} : decode (ab_code (zx σ n0 bf).1 8201) 60 = .ok (.iconst 0, 1) := zd zm_8201 (by decide +kernel)
theorem d_8201_61 {σ : Nat → Nat} {n0 : Nat} {bf : ab_B} : decode (ab_code (zx σ n0 bf).1 8201) 61 = .ok (.istore 4, 2) := zd zm_8201 (by decide +kernel)
theorem d_8201_63 {σ : Nat → Nat} {n0 : Nat} {bf : ab_B} : decode (ab_code (zx σ n0 bf).1 8201) 63 = .ok (.aload_n 0, 1) := zd zm_8201 (by decide +kernel)
theorem d_8201_64 {σ : Nat → Nat} {n0 : Nat} {bf : ab_B} : decode (ab_code (zx σ n0 bf).1 8201) 64 = .ok (.bipush 97, 2) := zd zm_8201 (by decide +kernel)
theorem d_8201_66 {σ : Nat → Nat} {n0 : Nat} {bf : ab_B} : decode (ab_code (zx σ n0 bf).1 8201) 66 = .ok (.iload 4, 2) := zd zm_8201 (by decide +kernel)
theorem d_8201_68 {σ : Nat → Nat} {n0 : Nat} {bf : ab_B} : decode (ab_code (zx σ n0 bf).1 8201) 68 = .ok (.iconst 2, 1) := zd zm_8201 (by decide +kernel)
theorem d_8201_69 {σ : Nat → Nat} {n0 : Nat} {bf : ab_B} : decode (ab_code (zx σ n0 bf).1 8201) 69 = .ok (.if_icmp .ne 7, 3) := zd zm_8201 (by decide +kernel)
theorem d_8201_72 {σ : Nat → Nat} {n0 : Nat} {bf : ab_B} : decode (ab_code (zx σ n0 bf).1 8201) 72 = .ok (.iconst 2, 1) := zd zm_8201 (by decide +kernel)
theorem d_8201_73 {σ : Nat → Nat} {n0 : Nat} {bf : ab_B} : decode (ab_code (zx σ n0 bf).1 8201) 73 = .ok (.goto 23, 3) := zd zm_8201 (by decide +kernel)
theorem d_8201_76 {σ : Nat → Nat} {n0 : Nat} {bf : ab_B} : decode (ab_code (zx σ n0 bf).1 8201) 76 = .ok (.iload 4, 2) := zd zm_8201 (by decide +kernel)
theorem d_8201_78 {σ : Nat → Nat} {n0 : Nat} {bf : ab_B} : decode (ab_code (zx σ n0 bf).1 8201) 78 = .ok (.iconst 3, 1) := zd zm_8201 (by decide +kernel)
theorem d_8201_79 {σ : Nat → Nat} {n0 : Nat} {bf : ab_B} : decode (ab_code (zx σ n0 bf).1 8201) 79 = .ok (.if_icmp .ne 7, 3) := zd zm_8201 (by decide +kernel)
theorem d_8201_82 {σ : Nat → Nat} {n0 : Nat} {bf : ab_B} : decode (ab_code (zx σ n0 bf).1 8201) 82 = .ok (.iconst 3, 1) := zd zm_8201 (by decide +kernel)
theorem d_8201_83 {σ : Nat → Nat} {n0 : Nat} {bf : ab_B} : decode (ab_code (zx σ n0 bf).1 8201) 83 = .ok (.goto 13, 3) := zd zm_8201 (by decide +kernel)
theorem d_8201_86 {σ : Nat → Nat} {n0 : Nat} {bf : ab_B} : decode (ab_code (zx σ n0 bf).1 8201) 86 = .ok (.iload 4, 2) := zd zm_8201 (by decide +kernel)
theorem d_8201_88 {σ : Nat → Nat} {n0 : Nat} {bf : ab_B} : decode (ab_code (zx σ n0 bf).1 8201) 88 = .ok (.ifCond .ne 7, 3) := zd zm_8201 (by decide +kernel)
theorem d_8201_91 {σ : Nat → Nat} {n0 : Nat} {bf : ab_B} : decode (ab_code (zx σ n0 bf).1 8201) 91 = .ok (.iconst 0, 1) := zd zm_8201 (by decide +kernel)
theorem d_8201_92 {σ : Nat → Nat} {n0 : Nat} {bf : ab_B} : decode (ab_code (zx σ n0 bf).1 8201) 92 = .ok (.goto 4, 3) := zd zm_8201 (by decide +kernel)
theorem d_8201_95 {σ : Nat → Nat} {n0 : Nat} {bf : ab_B} : decode (ab_code (zx σ n0 bf).1 8201) 95 = .ok (.iconst 1, 1) := zd zm_8201 (by decide +kernel)
theorem d_8201_96 {σ : Nat → Nat} {n0 : Nat} {bf : ab_B} : decode (ab_code (zx σ n0 bf).1 8201) 96 = .ok (.iconst 0, 1) := zd zm_8201 (by decide +kernel)
theorem d_8201_97 {σ : Nat → Nat} {n0 : Nat} {bf : ab_B} : decode (ab_code (zx σ n0 bf).1 8201) 97 = .ok (.iload_n 2, 1) := zd zm_8201 (by decide +kernel)
theorem d_8201_98 {σ : Nat → Nat} {n0 : Nat} {bf : ab_B} : decode (ab_code (zx σ n0 bf).1 8201) 98 = .ok (.invokevirtual 656, 3) := zd zm_8201 (by decide +kernel)
theorem d_8201_101 {σ : Nat → Nat} {n0 : Nat} {bf : ab_B} : decode (ab_code (zx σ n0 bf).1 8201) 101 = .ok (.istore 5, 2) := zd zm_8201 (by decide +kernel)
theorem d_8201_103 {σ : Nat → Nat} {n0 : Nat} {bf : ab_B} : decode (ab_code (zx σ n0 bf).1 8201) 103 = .ok (.aload_n 0, 1) := zd zm_8201 (by decide +kernel)
theorem d_8201_104 {σ : Nat → Nat} {n0 : Nat} {bf : ab_B} : decode (ab_code (zx σ n0 bf).1 8201) 104 = .ok (.dup, 1) := zd zm_8201 (by decide +kernel)
theorem d_8201_105 {σ : Nat → Nat} {n0 : Nat} {bf : ab_B} : decode (ab_code (zx σ n0 bf).1 8201) 105 = .ok (.getfield 653, 3) := zd zm_8201 (by decide +kernel)
theorem d_8201_108 {σ : Nat → Nat} {n0 : Nat} {bf : ab_B} : decode (ab_code (zx σ n0 bf).1 8201) 108 = .ok (.iconst 1, 1) := zd zm_8201 (by decide +kernel)
theorem d_8201_109 {σ : Nat → Nat} {n0 : Nat} {bf : ab_B} : decode (ab_code (zx σ n0 bf).1 8201) 109 = .ok (.isub, 1) := zd zm_8201 (by decide +kernel)
theorem d_8201_110 {σ : Nat → Nat} {n0 : Nat} {bf : ab_B} : decode (ab_code (zx σ n0 bf).1 8201) 110 = .ok (.putfield 653, 3) := zd zm_8201 (by decide +kernel)
theorem d_8201_113 {σ : Nat → Nat} {n0 : Nat} {bf : ab_B} : decode (ab_code (zx σ n0 bf).1 8201) 113 = .ok (.aload_n 0, 1) := zd zm_8201 (by decide +kernel)
theorem d_8201_114 {σ : Nat → Nat} {n0 : Nat} {bf : ab_B} : decode (ab_code (zx σ n0 bf).1 8201) 114 = .ok (.sipush 128, 3) := zd zm_8201 (by decide +kernel)
theorem d_8201_117 {σ : Nat → Nat} {n0 : Nat} {bf : ab_B} : decode (ab_code (zx σ n0 bf).1 8201) 117 = .ok (.iload_n 1, 1) := zd zm_8201 (by decide +kernel)
theorem d_8201_118 {σ : Nat → Nat} {n0 : Nat} {bf : ab_B} : decode (ab_code (zx σ n0 bf).1 8201) 118 = .ok (.iload_n 2, 1) := zd zm_8201 (by decide +kernel)
theorem d_8201_119 {σ : Nat → Nat} {n0 : Nat} {bf : ab_B} : decode (ab_code (zx σ n0 bf).1 8201) 119 = .ok (.invokevirtual 993, 3) := zd zm_8201 (by decide +kernel)
theorem d_8201_122 {σ : Nat → Nat} {n0 : Nat} {bf : ab_B} : decode (ab_code (zx σ n0 bf).1 8201) 122 = .ok (.return_, 1) := zd zm_8201 (by decide +kernel)
def w_X9_writeN_103 (X : zs_X) (d : Nat) (p0 : Nat) (p1 : Int32) (p2 : Int32) (S : zs_T) (Q : zs_Q) : Prop :=
  (zs_K S p0 = some (.inl 8) ∧ ab_n0 X.1 ≤ p0 ∧ ∀ S3, S3 = zs_sI S 8097 p0 ((zs_I S 8097 p0) - (1 : Int32)) → zs_C X d 8200 [.ref p0, .int (128 : Int32), .int p1, .int p2] S3 (zs_kV (fun S6 => (Q (.returned none) S6)) Q))
theorem u_X9_writeN_103 {σ : Nat → Nat} {n0 : Nat} {bf : ab_B} {d : Nat} {p0 : Nat} {p1 : Int32} {p2 : Int32} {S : zs_T} {Q : zs_Q} (hB : zt_B bf) (h : w_X9_writeN_103 (zx σ n0 bf) d p0 p1 p2 S Q) : zs_U (zx σ n0 bf) d 8201 103 [(0, .ref p0), (1, .int p1), (2, .int p2)] [] S Q := by
  unfold w_X9_writeN_103 at h
  refine zu_aload_n d_8201_103 rfl (zs_ra _) ?_
  refine zu_dup d_8201_104 rfl ?_
  obtain ⟨k1, h⟩ := h
  refine zg_8_653 rfl d_8201_105 k1 ?_
  refine zu_iconst d_8201_108 zi_1 ?_
  refine zu_stk d_8201_109 rfl rfl ?_
  obtain ⟨k2, h⟩ := h
  refine zp_8_653 (v := ((zs_I S 8097 p0) - (1 : Int32))) rfl d_8201_110 k1 k2 ?_
  generalize e4 : zs_sI S 8097 p0 ((zs_I S 8097 p0) - (1 : Int32)) = S3
  have h := h S3 e4.symm
  have K5 : ∀ b, zs_K S3 b = zs_K S b := zs_Kt e4 (zs_KsI _ _ _ _) (fun _ => rfl)
  refine zu_aload_n d_8201_113 rfl (zs_ra _) ?_
  refine zu_sipush d_8201_114 zh_128 ?_
  refine zu_iload_n d_8201_117 rfl ?_
  refine zu_iload_n d_8201_118 rfl ?_
  refine zc_8_993 (x0 := (128 : Int32)) (x1 := p1) (x2 := p2) hB rfl ((K5 _).trans k1) d_8201_119 (Nat.le_of_ble_eq_true rfl) h (fun S6 h => ?_)
  exact zu_vret d_8201_122 zr_8201 h
def w_X9_writeN_96 (X : zs_X) (d : Nat) (p0 : Nat) (p1 : Int32) (p2 : Int32) (q0 : Option Nat) (q1 : Int32) (q2 : Int32) (S : zs_T) (Q : zs_Q) : Prop :=
  (∃ b1, q0 = some b1 ∧ zs_K S b1 = some (.inl 8) ∧ zs_C X d 8012 [.ref b1, .int q1, .int q2, .int (0 : Int32), .int p2] S (zs_kI (fun v5 S4 => (w_X9_writeN_103 X d p0 p1 p2 S4 Q)) Q))
theorem u_X9_writeN_96 {σ : Nat → Nat} {n0 : Nat} {bf : ab_B} {d : Nat} {p0 : Nat} {p1 : Int32} {p2 : Int32} {q0 : Option Nat} {q1 : Int32} {q2 : Int32} {S : zs_T} {Q : zs_Q} (hB : zt_B bf) (h : w_X9_writeN_96 (zx σ n0 bf) d p0 p1 p2 q0 q1 q2 S Q) : zs_U (zx σ n0 bf) d 8201 96 [(0, .ref p0), (1, .int p1), (2, .int p2)] [.int q2, .int q1, va_rf q0] S Q := by
  unfold w_X9_writeN_96 at h
  refine zu_iconst d_8201_96 zi_0 ?_
  refine zu_iload_n d_8201_97 rfl ?_
  obtain ⟨b1, e2, h⟩ := h
  refine zs_stk4 (zs_rfe e2) ?_
  obtain ⟨k3, h⟩ := h
  refine zc_8_656 (x0 := q1) (x1 := q2) (x2 := (0 : Int32)) (x3 := p2) hB rfl k3 d_8201_98 (Nat.le_of_ble_eq_true rfl) h (fun v5 S4 h => ?_)
  refine zu_istore d_8201_101 (zs_lt zq_8201 rfl) ?_
  exact (u_X9_writeN_103 hB h).weak ⟨rfl, rfl, rfl, trivial⟩
def w_X9_writeN_61 (X : zs_X) (d : Nat) (p0 : Nat) (p1 : Int32) (p2 : Int32) (q0 : Int32) (S : zs_T) (Q : zs_Q) : Prop :=
  (((¬ q0 = (2 : Int32) → (((¬ q0 = (3 : Int32) → (((¬ q0 = 0 → (w_X9_writeN_96 X d p0 p1 p2 (some p0) (97 : Int32) (1 : Int32) S Q)) ∧ (¬ (¬ q0 = 0) → (w_X9_writeN_96 X d p0 p1 p2 (some p0) (97 : Int32) (0 : Int32) S Q))))) ∧ (¬ (¬ q0 = (3 : Int32)) → (w_X9_writeN_96 X d p0 p1 p2 (some p0) (97 : Int32) (3 : Int32) S Q))))) ∧ (¬ (¬ q0 = (2 : Int32)) → (w_X9_writeN_96 X d p0 p1 p2 (some p0) (97 : Int32) (2 : Int32) S Q))))
theorem u_X9_writeN_61 {σ : Nat → Nat} {n0 : Nat} {bf : ab_B} {d : Nat} {p0 : Nat} {p1 : Int32} {p2 : Int32} {q0 : Int32} {S : zs_T} {Q : zs_Q} (hB : zt_B bf) (h : w_X9_writeN_61 (zx σ n0 bf) d p0 p1 p2 q0 S Q) : zs_U (zx σ n0 bf) d 8201 61 [(0, .ref p0), (1, .int p1), (2, .int p2)] [.int q0] S Q := by
  unfold w_X9_writeN_61 at h
  refine zu_istore d_8201_61 (zs_lt zq_8201 rfl) ?_
  refine zu_aload_n d_8201_63 rfl (zs_ra _) ?_
  refine zu_bipush d_8201_64 zj_97 ?_
  refine zu_iload d_8201_66 rfl ?_
  refine zu_iconst d_8201_68 zi_2 ?_
  refine zu_cmpne (t := 76) d_8201_69 rfl (fun c1 => ?_) (fun c1 => ?_)
  · have h := h.1 c1
    refine zu_iload d_8201_76 rfl ?_
    refine zu_iconst d_8201_78 zi_3 ?_
    refine zu_cmpne (t := 86) d_8201_79 rfl (fun c2 => ?_) (fun c2 => ?_)
    · have h := h.1 c2
      refine zu_iload d_8201_86 rfl ?_
      refine zu_ifne (t := 95) d_8201_88 rfl (fun c3 => ?_) (fun c3 => ?_)
      · have h := h.1 c3
        refine zu_iconst d_8201_95 zi_1 ?_
        exact (u_X9_writeN_96 hB h).weak ⟨rfl, rfl, rfl, trivial⟩
      · have h := h.2 c3
        refine zu_iconst d_8201_91 zi_0 ?_
        refine zu_goto (t := 96) d_8201_92 rfl ?_
        exact (u_X9_writeN_96 hB h).weak ⟨rfl, rfl, rfl, trivial⟩
    · have h := h.2 c2
      refine zu_iconst d_8201_82 zi_3 ?_
      refine zu_goto (t := 96) d_8201_83 rfl ?_
      exact (u_X9_writeN_96 hB h).weak ⟨rfl, rfl, rfl, trivial⟩
  · have h := h.2 c1
    refine zu_iconst d_8201_72 zi_2 ?_
    refine zu_goto (t := 96) d_8201_73 rfl ?_
    exact (u_X9_writeN_96 hB h).weak ⟨rfl, rfl, rfl, trivial⟩
def w_X9_writeN_44 (X : zs_X) (d : Nat) (p0 : Nat) (p1 : Int32) (p2 : Int32) (p3 : Int32) (S : zs_T) (Q : zs_Q) : Prop :=
  (zs_K S p0 = some (.inl 8) ∧ zs_C X d 8036 [.ref p0, .int p3] S (zs_kI (fun v3 S2 => (((v3 = 0 → (w_X9_writeN_61 X d p0 p1 p2 (0 : Int32) S2 Q)) ∧ (¬ (v3 = 0) → (zs_K S2 p0 = some (.inl 8) ∧ zs_C X d 8042 [.ref p0, .int p3] S2 (zs_kI (fun v7 S6 => (w_X9_writeN_61 X d p0 p1 p2 v7 S6 Q)) Q)))))) Q))
theorem u_X9_writeN_44 {σ : Nat → Nat} {n0 : Nat} {bf : ab_B} {d : Nat} {p0 : Nat} {p1 : Int32} {p2 : Int32} {p3 : Int32} {S : zs_T} {Q : zs_Q} (hB : zt_B bf) (h : w_X9_writeN_44 (zx σ n0 bf) d p0 p1 p2 p3 S Q) : zs_U (zx σ n0 bf) d 8201 44 [(0, .ref p0), (1, .int p1), (2, .int p2), (3, .int p3)] [] S Q := by
  unfold w_X9_writeN_44 at h
  refine zu_aload_n d_8201_44 rfl (zs_ra _) ?_
  refine zu_iload_n d_8201_45 rfl ?_
  obtain ⟨k1, h⟩ := h
  refine zc_8_564 (x0 := p3) hB rfl k1 d_8201_46 (Nat.le_of_ble_eq_true rfl) h (fun v3 S2 h => ?_)
  refine zu_ifeq (t := 60) d_8201_49 rfl (fun c4 => ?_) (fun c4 => ?_)
  · have h := h.1 c4
    refine zu_iconst d_8201_60 zi_0 ?_
    exact (u_X9_writeN_61 hB h).weak ⟨rfl, rfl, rfl, trivial⟩
  · have h := h.2 c4
    refine zu_aload_n d_8201_52 rfl (zs_ra _) ?_
    refine zu_iload_n d_8201_53 rfl ?_
    obtain ⟨k5, h⟩ := h
    refine zc_8_561 (x0 := p3) hB rfl k5 d_8201_54 (Nat.le_of_ble_eq_true rfl) h (fun v7 S6 h => ?_)
    refine zu_goto (t := 61) d_8201_57 rfl ?_
    exact (u_X9_writeN_61 hB h).weak ⟨rfl, rfl, rfl, trivial⟩
def w_X9_writeN_31 (X : zs_X) (d : Nat) (p0 : Nat) (p1 : Int32) (p2 : Int32) (p3 : Int32) (S : zs_T) (Q : zs_Q) : Prop :=
  (zs_K S p0 = some (.inl 8) ∧ zs_C X d 8044 [.ref p0, .int p3] S (zs_kI (fun v3 S2 => (((¬ v3 = 0 → w_X9_writeN_44 X d p0 p1 p2 p3 S2 Q) ∧ (¬ (¬ v3 = 0) → (zs_K S2 p0 = some (.inl 8) ∧ zs_C X d 8027 [.ref p0, .int (5 : Int32)] S2 (zs_kV (fun S6 => w_X9_writeN_44 X d p0 p1 p2 p3 S6 Q) Q)))))) Q))
theorem u_X9_writeN_31 {σ : Nat → Nat} {n0 : Nat} {bf : ab_B} {d : Nat} {p0 : Nat} {p1 : Int32} {p2 : Int32} {p3 : Int32} {S : zs_T} {Q : zs_Q} (hB : zt_B bf) (h : w_X9_writeN_31 (zx σ n0 bf) d p0 p1 p2 p3 S Q) : zs_U (zx σ n0 bf) d 8201 31 [(0, .ref p0), (1, .int p1), (2, .int p2), (3, .int p3)] [] S Q := by
  unfold w_X9_writeN_31 at h
  refine zu_aload_n d_8201_31 rfl (zs_ra _) ?_
  refine zu_iload_n d_8201_32 rfl ?_
  obtain ⟨k1, h⟩ := h
  refine zc_8_676 (x0 := p3) hB rfl k1 d_8201_33 (Nat.le_of_ble_eq_true rfl) h (fun v3 S2 h => ?_)
  refine zu_ifne (t := 44) d_8201_36 rfl (fun c4 => ?_) (fun c4 => ?_)
  · have h := h.1 c4
    exact (u_X9_writeN_44 hB h).weak ⟨rfl, rfl, rfl, rfl, trivial⟩
  · have h := h.2 c4
    refine zu_aload_n d_8201_39 rfl (zs_ra _) ?_
    refine zu_iconst d_8201_40 zi_5 ?_
    obtain ⟨k5, h⟩ := h
    refine zc_8_541 (x0 := (5 : Int32)) hB rfl k5 d_8201_41 (Nat.le_of_ble_eq_true rfl) h (fun S6 h => ?_)
    exact (u_X9_writeN_44 hB h).weak ⟨rfl, rfl, rfl, rfl, trivial⟩
def w_X9_writeN (X : zs_X) (d : Nat) (p0 : Nat) (p1 : Int32) (p2 : Int32) (S : zs_T) (Q : zs_Q) : Prop :=
  (zs_K S p0 = some (.inl 8) ∧ zs_C X d 8037 [.ref p0] S (zs_kV (fun S2 => (zs_K S2 p0 = some (.inl 8) ∧ ((¬ (zs_I S2 8010 p0) = 0 → w_X9_writeN_103 X d p0 p1 p2 S2 Q) ∧ (¬ (¬ (zs_I S2 8010 p0) = 0) → (∃ b6, (zs_R S2 8091 p0) = some b6 ∧ zs_A S2 b6 0 ((zs_I S2 8097 p0) - (1 : Int32)) ∧ zs_C X d 8036 [.ref p0, .int (zs_i S2 b6 ((zs_I S2 8097 p0) - (1 : Int32)).toNatClampNeg)] S2 (zs_kI (fun v10 S9 => (((¬ v10 = 0 → w_X9_writeN_44 X d p0 p1 p2 (zs_i S2 b6 ((zs_I S2 8097 p0) - (1 : Int32)).toNatClampNeg) S9 Q) ∧ (¬ (¬ v10 = 0) → w_X9_writeN_31 X d p0 p1 p2 (zs_i S2 b6 ((zs_I S2 8097 p0) - (1 : Int32)).toNatClampNeg) S9 Q)))) Q)))))) Q))
theorem u_X9_writeN {σ : Nat → Nat} {n0 : Nat} {bf : ab_B} {d : Nat} {p0 : Nat} {p1 : Int32} {p2 : Int32} {S : zs_T} {Q : zs_Q} (hB : zt_B bf) (hd : 1 ≤ d) (h : w_X9_writeN (zx σ n0 bf) (d - 1) p0 p1 p2 S Q) : zs_C (zx σ n0 bf) d 8201 [.ref p0, .int p1, .int p2] S Q := by
  have hL : lv_args 0 [.ref p0, .int p1, .int p2] = [(0, .ref p0), (1, .int p1), (2, .int p2)] := rfl
  refine zs_C.of1 (hB.2 8201 (by decide) (by decide)) hd (by rw [hL]; exact zs_sub_self _ (by exact ⟨rfl, rfl, rfl, trivial⟩)) ?_
  rw [hL]
  clear hL
  unfold w_X9_writeN at h
  refine zu_aload_n d_8201_0 rfl (zs_ra _) ?_
  obtain ⟨k1, h⟩ := h
  refine zc_8_660  hB rfl k1 d_8201_1 (Nat.le_of_ble_eq_true rfl) h (fun S2 h => ?_)
  refine zu_aload_n d_8201_4 rfl (zs_ra _) ?_
  obtain ⟨k4, h⟩ := h
  refine zg_8_444 rfl d_8201_5 k4 ?_
  refine zu_ifne (t := 103) d_8201_8 rfl (fun c5 => ?_) (fun c5 => ?_)
  · have h := h.1 c5
    exact (u_X9_writeN_103 hB h).weak ⟨rfl, rfl, rfl, trivial⟩
  · have h := h.2 c5
    refine zu_aload_n d_8201_11 rfl (zs_ra _) ?_
    refine zg_8_191 rfl d_8201_12 k4 ?_
    refine zu_aload_n d_8201_15 rfl (zs_ra _) ?_
    refine zg_8_653 rfl d_8201_16 k4 ?_
    refine zu_iconst d_8201_19 zi_1 ?_
    refine zu_stk d_8201_20 rfl rfl ?_
    obtain ⟨b6, e7, h⟩ := h
    refine zs_stk1 (zs_rfe e7) ?_
    obtain ⟨k8, h⟩ := h
    refine zu_iald (k := 0) d_8201_21 rfl rfl k8 ?_
    refine zu_istore_n d_8201_22 (zs_lt zq_8201 rfl) ?_
    refine zu_aload_n d_8201_23 rfl (zs_ra _) ?_
    refine zu_iload_n d_8201_24 rfl ?_
    refine zc_8_564 (x0 := (zs_i S2 b6 ((zs_I S2 8097 p0) - (1 : Int32)).toNatClampNeg)) hB rfl k4 d_8201_25 (Nat.le_of_ble_eq_true rfl) h (fun v10 S9 h => ?_)
    refine zu_ifne (t := 44) d_8201_28 rfl (fun c11 => ?_) (fun c11 => ?_)
    · have h := h.1 c11
      exact (u_X9_writeN_44 hB h).weak ⟨rfl, rfl, rfl, rfl, trivial⟩
    · have h := h.2 c11
      exact (u_X9_writeN_31 hB h).weak ⟨rfl, rfl, rfl, rfl, trivial⟩
/-! SchemaPascalModel.bye(II)V -/
theorem zm_8202 {σ : Nat → Nat} {n0 : Nat} {bf : ab_B} : ab_code (zx σ n0 bf).1 8202 = prog_17_method_195_code := rfl
theorem zq_8202 {σ : Nat → Nat} {n0 : Nat} {bf : ab_B} : ab_maxL (zx σ n0 bf).1 8202 = 4 := rfl
theorem zr_8202 {σ : Nat → Nat} {n0 : Nat} {bf : ab_B} : ab_ret (zx σ n0 bf).1 8202 = (Option.none : Option Jvm.ClassFile.FieldType) := rfl
theorem d_8202_0 {σ : Nat → Nat} {n0 : Nat} {bf : ab_B} : decode (ab_code (zx σ n0 bf).1 8202) 0 = .ok (.aload_n 0, 1) := zd zm_8202 (by decide +kernel)
theorem d_8202_1 {σ : Nat → Nat} {n0 : Nat} {bf : ab_B} : decode (ab_code (zx σ n0 bf).1 8202) 1 = .ok (.bipush 9, 2) := zd zm_8202 (by decide +kernel)
theorem d_8202_3 {σ : Nat → Nat} {n0 : Nat} {bf : ab_B} : decode (ab_code (zx σ n0 bf).1 8202) 3 = .ok (.invokevirtual 746, 3) := zd zm_8202 (by decide +kernel)
theorem d_8202_6 {σ : Nat → Nat} {n0 : Nat} {bf : ab_B} : decode (ab_code (zx σ n0 bf).1 8202) 6 = .ok (.iload_n 1, 1) := zd zm_8202 (by decide +kernel)
theorem d_8202_7 {σ : Nat → Nat} {n0 : Nat} {bf : ab_B} : decode (ab_code (zx σ n0 bf).1 8202) 7 = .ok (.bipush 23, 2) := zd zm_8202 (by decide +kernel)
theorem d_8202_9 {σ : Nat → Nat} {n0 : Nat} {bf : ab_B} : decode (ab_code (zx σ n0 bf).1 8202) 9 = .ok (.if_icmp .ne 13, 3) := zd zm_8202 (by decide +kernel)
theorem d_8202_12 {σ : Nat → Nat} {n0 : Nat} {bf : ab_B} : decode (ab_code (zx σ n0 bf).1 8202) 12 = .ok (.aload_n 0, 1) := zd zm_8202 (by decide +kernel)
theorem d_8202_13 {σ : Nat → Nat} {n0 : Nat} {bf : ab_B} : decode (ab_code (zx σ n0 bf).1 8202) 13 = .ok (.bipush 98, 2) := zd zm_8202 (by decide +kernel)
theorem d_8202_15 {σ : Nat → Nat} {n0 : Nat} {bf : ab_B} : decode (ab_code (zx σ n0 bf).1 8202) 15 = .ok (.iconst 0, 1) := zd zm_8202 (by decide +kernel)
theorem d_8202_16 {σ : Nat → Nat} {n0 : Nat} {bf : ab_B} : decode (ab_code (zx σ n0 bf).1 8202) 16 = .ok (.iconst 0, 1) := zd zm_8202 (by decide +kernel)
theorem d_8202_17 {σ : Nat → Nat} {n0 : Nat} {bf : ab_B} : decode (ab_code (zx σ n0 bf).1 8202) 17 = .ok (.iload_n 2, 1) := zd zm_8202 (by decide +kernel)
theorem d_8202_18 {σ : Nat → Nat} {n0 : Nat} {bf : ab_B} : decode (ab_code (zx σ n0 bf).1 8202) 18 = .ok (.invokevirtual 656, 3) := zd zm_8202 (by decide +kernel)
theorem d_8202_21 {σ : Nat → Nat} {n0 : Nat} {bf : ab_B} : decode (ab_code (zx σ n0 bf).1 8202) 21 = .ok (.istore_n 3, 1) := zd zm_8202 (by decide +kernel)
theorem d_8202_22 {σ : Nat → Nat} {n0 : Nat} {bf : ab_B} : decode (ab_code (zx σ n0 bf).1 8202) 22 = .ok (.return_, 1) := zd zm_8202 (by decide +kernel)
def w_X9_bye (X : zs_X) (d : Nat) (p0 : Nat) (p1 : Int32) (p2 : Int32) (S : zs_T) (Q : zs_Q) : Prop :=
  (zs_K S p0 = some (.inl 8) ∧ zs_C X d 8028 [.ref p0, .int (9 : Int32)] S (zs_kV (fun S2 => (((¬ p1 = (23 : Int32) → (Q (.returned none) S2)) ∧ (¬ (¬ p1 = (23 : Int32)) → (zs_K S2 p0 = some (.inl 8) ∧ zs_C X d 8012 [.ref p0, .int (98 : Int32), .int (0 : Int32), .int (0 : Int32), .int p2] S2 (zs_kI (fun v7 S6 => (Q (.returned none) S6)) Q)))))) Q))
theorem u_X9_bye {σ : Nat → Nat} {n0 : Nat} {bf : ab_B} {d : Nat} {p0 : Nat} {p1 : Int32} {p2 : Int32} {S : zs_T} {Q : zs_Q} (hB : zt_B bf) (hd : 1 ≤ d) (h : w_X9_bye (zx σ n0 bf) (d - 1) p0 p1 p2 S Q) : zs_C (zx σ n0 bf) d 8202 [.ref p0, .int p1, .int p2] S Q := by
  have hL : lv_args 0 [.ref p0, .int p1, .int p2] = [(0, .ref p0), (1, .int p1), (2, .int p2)] := rfl
  refine zs_C.of1 (hB.2 8202 (by decide) (by decide)) hd (by rw [hL]; exact zs_sub_self _ (by exact ⟨rfl, rfl, rfl, trivial⟩)) ?_
  rw [hL]
  clear hL
  unfold w_X9_bye at h
  refine zu_aload_n d_8202_0 rfl (zs_ra _) ?_
  refine zu_bipush d_8202_1 zj_9 ?_
  obtain ⟨k1, h⟩ := h
  refine zc_8_746 (x0 := (9 : Int32)) hB rfl k1 d_8202_3 (Nat.le_of_ble_eq_true rfl) h (fun S2 h => ?_)
  refine zu_iload_n d_8202_6 rfl ?_
  refine zu_bipush d_8202_7 zj_23 ?_
  refine zu_cmpne (t := 22) d_8202_9 rfl (fun c4 => ?_) (fun c4 => ?_)
  · have h := h.1 c4
    exact zu_vret d_8202_22 zr_8202 h
  · have h := h.2 c4
    refine zu_aload_n d_8202_12 rfl (zs_ra _) ?_
    refine zu_bipush d_8202_13 zj_98 ?_
    refine zu_iconst d_8202_15 zi_0 ?_
    refine zu_iconst d_8202_16 zi_0 ?_
    refine zu_iload_n d_8202_17 rfl ?_
    obtain ⟨k5, h⟩ := h
    refine zc_8_656 (x0 := (98 : Int32)) (x1 := (0 : Int32)) (x2 := (0 : Int32)) (x3 := p2) hB rfl k5 d_8202_18 (Nat.le_of_ble_eq_true rfl) h (fun v7 S6 h => ?_)
    refine zu_istore_n d_8202_21 (zs_lt zq_8202 rfl) ?_
    exact zu_vret d_8202_22 zr_8202 h
/-! SchemaPascalModel.feed(IIIII)I -/
theorem zm_8203 {σ : Nat → Nat} {n0 : Nat} {bf : ab_B} : ab_code (zx σ n0 bf).1 8203 = prog_17_method_272_code := rfl
theorem zq_8203 {σ : Nat → Nat} {n0 : Nat} {bf : ab_B} : ab_maxL (zx σ n0 bf).1 8203 = 8 := rfl
theorem zr_8203 {σ : Nat → Nat} {n0 : Nat} {bf : ab_B} : ab_ret (zx σ n0 bf).1 8203 = (Option.some Jvm.ClassFile.FieldType.int) := rfl
theorem d_8203_0 {σ : Nat → Nat} {n0 : Nat} {bf : ab_B} : decode (ab_code (zx σ n0 bf).1 8203) 0 = .ok (.aload_n 0, 1) := zd zm_8203 (by decide +kernel)
theorem d_8203_1 {σ : Nat → Nat} {n0 : Nat} {bf : ab_B} : decode (ab_code (zx σ n0 bf).1 8203) 1 = .ok (.aload_n 0, 1) := zd zm_8203 (by decide +kernel)
theorem d_8203_2 {σ : Nat → Nat} {n0 : Nat} {bf : ab_B} : decode (ab_code (zx σ n0 bf).1 8203) 2 = .ok (.getfield 1213, 3) := zd zm_8203 (by decide +kernel)
theorem d_8203_5 {σ : Nat → Nat} {n0 : Nat} {bf : ab_B} : decode (ab_code (zx σ n0 bf).1 8203) 5 = .ok (.bipush 20, 2) := zd zm_8203 (by decide +kernel)
theorem d_8203_7 {σ : Nat → Nat} {n0 : Nat} {bf : ab_B} : decode (ab_code (zx σ n0 bf).1 8203) 7 = .ok (.iadd, 1) := zd zm_8203 (by decide +kernel)
theorem d_8203_8 {σ : Nat → Nat} {n0 : Nat} {bf : ab_B} : decode (ab_code (zx σ n0 bf).1 8203) 8 = .ok (.ldc 7, 2) := zd zm_8203 (by decide +kernel)
theorem d_8203_10 {σ : Nat → Nat} {n0 : Nat} {bf : ab_B} : decode (ab_code (zx σ n0 bf).1 8203) 10 = .ok (.if_icmp .le 7, 3) := zd zm_8203 (by decide +kernel)
theorem d_8203_13 {σ : Nat → Nat} {n0 : Nat} {bf : ab_B} : decode (ab_code (zx σ n0 bf).1 8203) 13 = .ok (.iconst 1, 1) := zd zm_8203 (by decide +kernel)
theorem d_8203_14 {σ : Nat → Nat} {n0 : Nat} {bf : ab_B} : decode (ab_code (zx σ n0 bf).1 8203) 14 = .ok (.goto 4, 3) := zd zm_8203 (by decide +kernel)
theorem d_8203_17 {σ : Nat → Nat} {n0 : Nat} {bf : ab_B} : decode (ab_code (zx σ n0 bf).1 8203) 17 = .ok (.iconst 0, 1) := zd zm_8203 (by decide +kernel)
theorem d_8203_18 {σ : Nat → Nat} {n0 : Nat} {bf : ab_B} : decode (ab_code (zx σ n0 bf).1 8203) 18 = .ok (.putfield 441, 3) := zd zm_8203 (by decide +kernel)
theorem d_8203_21 {σ : Nat → Nat} {n0 : Nat} {bf : ab_B} : decode (ab_code (zx σ n0 bf).1 8203) 21 = .ok (.aload_n 0, 1) := zd zm_8203 (by decide +kernel)
theorem d_8203_22 {σ : Nat → Nat} {n0 : Nat} {bf : ab_B} : decode (ab_code (zx σ n0 bf).1 8203) 22 = .ok (.getfield 441, 3) := zd zm_8203 (by decide +kernel)
theorem d_8203_25 {σ : Nat → Nat} {n0 : Nat} {bf : ab_B} : decode (ab_code (zx σ n0 bf).1 8203) 25 = .ok (.ifCond .le 5, 3) := zd zm_8203 (by decide +kernel)
theorem d_8203_28 {σ : Nat → Nat} {n0 : Nat} {bf : ab_B} : decode (ab_code (zx σ n0 bf).1 8203) 28 = .ok (.iconst 0, 1) := zd zm_8203 (by decide +kernel)
theorem d_8203_29 {σ : Nat → Nat} {n0 : Nat} {bf : ab_B} : decode (ab_code (zx σ n0 bf).1 8203) 29 = .ok (.ireturn, 1) := zd zm_8203 (by decide +kernel)
theorem d_8203_30 {σ : Nat → Nat} {n0 : Nat} {bf : ab_B} : decode (ab_code (zx σ n0 bf).1 8203) 30 = .ok (.iconst 0, 1) := zd zm_8203 (by decide +kernel)
theorem d_8203_31 {σ : Nat → Nat} {n0 : Nat} {bf : ab_B} : decode (ab_code (zx σ n0 bf).1 8203) 31 = .ok (.istore 6, 2) := zd zm_8203 (by decide +kernel)
theorem d_8203_33 {σ : Nat → Nat} {n0 : Nat} {bf : ab_B} : decode (ab_code (zx σ n0 bf).1 8203) 33 = .ok (.iload 6, 2) := zd zm_8203 (by decide +kernel)
theorem d_8203_35 {σ : Nat → Nat} {n0 : Nat} {bf : ab_B} : decode (ab_code (zx σ n0 bf).1 8203) 35 = .ok (.bipush 20, 2) := zd zm_8203 (by decide +kernel)
theorem d_8203_37 {σ : Nat → Nat} {n0 : Nat} {bf : ab_B} : decode (ab_code (zx σ n0 bf).1 8203) 37 = .ok (.if_icmp .ge 90, 3) := zd zm_8203 (by decide +kernel)
theorem d_8203_40 {σ : Nat → Nat} {n0 : Nat} {bf : ab_B} : decode (ab_code (zx σ n0 bf).1 8203) 40 = .ok (.iload 6, 2) := zd zm_8203 (by decide +kernel)
theorem d_8203_42 {σ : Nat → Nat} {n0 : Nat} {bf : ab_B} : decode (ab_code (zx σ n0 bf).1 8203) 42 = .ok (.iconst 4, 1) := zd zm_8203 (by decide +kernel)
theorem d_8203_43 {σ : Nat → Nat} {n0 : Nat} {bf : ab_B} : decode (ab_code (zx σ n0 bf).1 8203) 43 = .ok (.if_icmp .ge 7, 3) := zd zm_8203 (by decide +kernel)
theorem d_8203_46 {σ : Nat → Nat} {n0 : Nat} {bf : ab_B} : decode (ab_code (zx σ n0 bf).1 8203) 46 = .ok (.iload_n 1, 1) := zd zm_8203 (by decide +kernel)
theorem d_8203_47 {σ : Nat → Nat} {n0 : Nat} {bf : ab_B} : decode (ab_code (zx σ n0 bf).1 8203) 47 = .ok (.goto 39, 3) := zd zm_8203 (by decide +kernel)
theorem d_8203_50 {σ : Nat → Nat} {n0 : Nat} {bf : ab_B} : decode (ab_code (zx σ n0 bf).1 8203) 50 = .ok (.iload 6, 2) := zd zm_8203 (by decide +kernel)
theorem d_8203_52 {σ : Nat → Nat} {n0 : Nat} {bf : ab_B} : decode (ab_code (zx σ n0 bf).1 8203) 52 = .ok (.bipush 8, 2) := zd zm_8203 (by decide +kernel)
theorem d_8203_54 {σ : Nat → Nat} {n0 : Nat} {bf : ab_B} : decode (ab_code (zx σ n0 bf).1 8203) 54 = .ok (.if_icmp .ge 7, 3) := zd zm_8203 (by decide +kernel)
theorem d_8203_57 {σ : Nat → Nat} {n0 : Nat} {bf : ab_B} : decode (ab_code (zx σ n0 bf).1 8203) 57 = .ok (.iload_n 2, 1) := zd zm_8203 (by decide +kernel)
theorem d_8203_58 {σ : Nat → Nat} {n0 : Nat} {bf : ab_B} : decode (ab_code (zx σ n0 bf).1 8203) 58 = .ok (.goto 28, 3) := zd zm_8203 (by decide +kernel)
theorem d_8203_61 {σ : Nat → Nat} {n0 : Nat} {bf : ab_B} : decode (ab_code (zx σ n0 bf).1 8203) 61 = .ok (.iload 6, 2) := zd zm_8203 (by decide +kernel)
theorem d_8203_63 {σ : Nat → Nat} {n0 : Nat} {bf : ab_B} : decode (ab_code (zx σ n0 bf).1 8203) 63 = .ok (.bipush 12, 2) := zd zm_8203 (by decide +kernel)
theorem d_8203_65 {σ : Nat → Nat} {n0 : Nat} {bf : ab_B} : decode (ab_code (zx σ n0 bf).1 8203) 65 = .ok (.if_icmp .ge 7, 3) := zd zm_8203 (by decide +kernel)
theorem d_8203_68 {σ : Nat → Nat} {n0 : Nat} {bf : ab_B} : decode (ab_code (zx σ n0 bf).1 8203) 68 = .ok (.iload_n 3, 1) := zd zm_8203 (by decide +kernel)
theorem d_8203_69 {σ : Nat → Nat} {n0 : Nat} {bf : ab_B} : decode (ab_code (zx σ n0 bf).1 8203) 69 = .ok (.goto 17, 3) := zd zm_8203 (by decide +kernel)
theorem d_8203_72 {σ : Nat → Nat} {n0 : Nat} {bf : ab_B} : decode (ab_code (zx σ n0 bf).1 8203) 72 = .ok (.iload 6, 2) := zd zm_8203 (by decide +kernel)
theorem d_8203_74 {σ : Nat → Nat} {n0 : Nat} {bf : ab_B} : decode (ab_code (zx σ n0 bf).1 8203) 74 = .ok (.bipush 16, 2) := zd zm_8203 (by decide +kernel)
theorem d_8203_76 {σ : Nat → Nat} {n0 : Nat} {bf : ab_B} : decode (ab_code (zx σ n0 bf).1 8203) 76 = .ok (.if_icmp .ge 8, 3) := zd zm_8203 (by decide +kernel)
theorem d_8203_79 {σ : Nat → Nat} {n0 : Nat} {bf : ab_B} : decode (ab_code (zx σ n0 bf).1 8203) 79 = .ok (.iload 4, 2) := zd zm_8203 (by decide +kernel)
theorem d_8203_81 {σ : Nat → Nat} {n0 : Nat} {bf : ab_B} : decode (ab_code (zx σ n0 bf).1 8203) 81 = .ok (.goto 5, 3) := zd zm_8203 (by decide +kernel)
theorem d_8203_84 {σ : Nat → Nat} {n0 : Nat} {bf : ab_B} : decode (ab_code (zx σ n0 bf).1 8203) 84 = .ok (.iload 5, 2) := zd zm_8203 (by decide +kernel)
theorem d_8203_86 {σ : Nat → Nat} {n0 : Nat} {bf : ab_B} : decode (ab_code (zx σ n0 bf).1 8203) 86 = .ok (.istore 7, 2) := zd zm_8203 (by decide +kernel)
theorem d_8203_88 {σ : Nat → Nat} {n0 : Nat} {bf : ab_B} : decode (ab_code (zx σ n0 bf).1 8203) 88 = .ok (.aload_n 0, 1) := zd zm_8203 (by decide +kernel)
theorem d_8203_89 {σ : Nat → Nat} {n0 : Nat} {bf : ab_B} : decode (ab_code (zx σ n0 bf).1 8203) 89 = .ok (.getfield 8, 3) := zd zm_8203 (by decide +kernel)
theorem d_8203_92 {σ : Nat → Nat} {n0 : Nat} {bf : ab_B} : decode (ab_code (zx σ n0 bf).1 8203) 92 = .ok (.aload_n 0, 1) := zd zm_8203 (by decide +kernel)
theorem d_8203_93 {σ : Nat → Nat} {n0 : Nat} {bf : ab_B} : decode (ab_code (zx σ n0 bf).1 8203) 93 = .ok (.getfield 1213, 3) := zd zm_8203 (by decide +kernel)
theorem d_8203_96 {σ : Nat → Nat} {n0 : Nat} {bf : ab_B} : decode (ab_code (zx σ n0 bf).1 8203) 96 = .ok (.iload 7, 2) := zd zm_8203 (by decide +kernel)
theorem d_8203_98 {σ : Nat → Nat} {n0 : Nat} {bf : ab_B} : decode (ab_code (zx σ n0 bf).1 8203) 98 = .ok (.bipush 24, 2) := zd zm_8203 (by decide +kernel)
theorem d_8203_100 {σ : Nat → Nat} {n0 : Nat} {bf : ab_B} : decode (ab_code (zx σ n0 bf).1 8203) 100 = .ok (.bipush 8, 2) := zd zm_8203 (by decide +kernel)
theorem d_8203_102 {σ : Nat → Nat} {n0 : Nat} {bf : ab_B} : decode (ab_code (zx σ n0 bf).1 8203) 102 = .ok (.iload 6, 2) := zd zm_8203 (by decide +kernel)
theorem d_8203_104 {σ : Nat → Nat} {n0 : Nat} {bf : ab_B} : decode (ab_code (zx σ n0 bf).1 8203) 104 = .ok (.iconst 3, 1) := zd zm_8203 (by decide +kernel)
theorem d_8203_105 {σ : Nat → Nat} {n0 : Nat} {bf : ab_B} : decode (ab_code (zx σ n0 bf).1 8203) 105 = .ok (.iand, 1) := zd zm_8203 (by decide +kernel)
theorem d_8203_106 {σ : Nat → Nat} {n0 : Nat} {bf : ab_B} : decode (ab_code (zx σ n0 bf).1 8203) 106 = .ok (.imul, 1) := zd zm_8203 (by decide +kernel)
theorem d_8203_107 {σ : Nat → Nat} {n0 : Nat} {bf : ab_B} : decode (ab_code (zx σ n0 bf).1 8203) 107 = .ok (.isub, 1) := zd zm_8203 (by decide +kernel)
theorem d_8203_108 {σ : Nat → Nat} {n0 : Nat} {bf : ab_B} : decode (ab_code (zx σ n0 bf).1 8203) 108 = .ok (.ishr, 1) := zd zm_8203 (by decide +kernel)
theorem d_8203_109 {σ : Nat → Nat} {n0 : Nat} {bf : ab_B} : decode (ab_code (zx σ n0 bf).1 8203) 109 = .ok (.i2b, 1) := zd zm_8203 (by decide +kernel)
theorem d_8203_110 {σ : Nat → Nat} {n0 : Nat} {bf : ab_B} : decode (ab_code (zx σ n0 bf).1 8203) 110 = .ok (.bastore, 1) := zd zm_8203 (by decide +kernel)
theorem d_8203_111 {σ : Nat → Nat} {n0 : Nat} {bf : ab_B} : decode (ab_code (zx σ n0 bf).1 8203) 111 = .ok (.aload_n 0, 1) := zd zm_8203 (by decide +kernel)
theorem d_8203_112 {σ : Nat → Nat} {n0 : Nat} {bf : ab_B} : decode (ab_code (zx σ n0 bf).1 8203) 112 = .ok (.dup, 1) := zd zm_8203 (by decide +kernel)
theorem d_8203_113 {σ : Nat → Nat} {n0 : Nat} {bf : ab_B} : decode (ab_code (zx σ n0 bf).1 8203) 113 = .ok (.getfield 1213, 3) := zd zm_8203 (by decide +kernel)
theorem d_8203_116 {σ : Nat → Nat} {n0 : Nat} {bf : ab_B} : decode (ab_code (zx σ n0 bf).1 8203) 116 = .ok (.iconst 1, 1) := zd zm_8203 (by decide +kernel)
theorem d_8203_117 {σ : Nat → Nat} {n0 : Nat} {bf : ab_B} : decode (ab_code (zx σ n0 bf).1 8203) 117 = .ok (.iadd, 1) := zd zm_8203 (by decide +kernel)
theorem d_8203_118 {σ : Nat → Nat} {n0 : Nat} {bf : ab_B} : decode (ab_code (zx σ n0 bf).1 8203) 118 = .ok (.putfield 1213, 3) := zd zm_8203 (by decide +kernel)
theorem d_8203_121 {σ : Nat → Nat} {n0 : Nat} {bf : ab_B} : decode (ab_code (zx σ n0 bf).1 8203) 121 = .ok (.iinc 6 1, 3) := zd zm_8203 (by decide +kernel)
theorem d_8203_124 {σ : Nat → Nat} {n0 : Nat} {bf : ab_B} : decode (ab_code (zx σ n0 bf).1 8203) 124 = .ok (.goto (-91), 3) := zd zm_8203 (by decide +kernel)
theorem d_8203_127 {σ : Nat → Nat} {n0 : Nat} {bf : ab_B} : decode (ab_code (zx σ n0 bf).1 8203) 127 = .ok (.aload_n 0, 1) := zd zm_8203 (by decide +kernel)
theorem d_8203_128 {σ : Nat → Nat} {n0 : Nat} {bf : ab_B} : decode (ab_code (zx σ n0 bf).1 8203) 128 = .ok (.getfield 1213, 3) := zd zm_8203 (by decide +kernel)
theorem d_8203_131 {σ : Nat → Nat} {n0 : Nat} {bf : ab_B} : decode (ab_code (zx σ n0 bf).1 8203) 131 = .ok (.ireturn, 1) := zd zm_8203 (by decide +kernel)
def w_X9_feed_18 (X : zs_X) (d : Nat) (p0 : Nat) (p1 : Int32) (p2 : Int32) (p3 : Int32) (p4 : Int32) (p5 : Int32) (q0 : Option Nat) (q1 : Int32) (S : zs_T) (Q : zs_Q) : Prop :=
  (∃ b1, q0 = some b1 ∧ zs_K S b1 = some (.inl 8) ∧ ab_n0 X.1 ≤ b1 ∧ ∀ S5, S5 = zs_sI S 8000 b1 q1 → zs_K S p0 = some (.inl 8) ∧ (((zs_I S5 8000 p0) ≤ 0 → (zs_U X d 8203 33 [(0, .ref p0), (1, .int p1), (2, .int p2), (3, .int p3), (4, .int p4), (5, .int p5), (6, .int (0 : Int32))] [] S5 Q)) ∧ (¬ ((zs_I S5 8000 p0) ≤ 0) → (Q (.returned (some (.int (0 : Int32)))) S5))))
theorem u_X9_feed_18 {σ : Nat → Nat} {n0 : Nat} {bf : ab_B} {d : Nat} {p0 : Nat} {p1 : Int32} {p2 : Int32} {p3 : Int32} {p4 : Int32} {p5 : Int32} {q0 : Option Nat} {q1 : Int32} {S : zs_T} {Q : zs_Q} (hB : zt_B bf) (h : w_X9_feed_18 (zx σ n0 bf) d p0 p1 p2 p3 p4 p5 q0 q1 S Q) : zs_U (zx σ n0 bf) d 8203 18 [(0, .ref p0), (1, .int p1), (2, .int p2), (3, .int p3), (4, .int p4), (5, .int p5)] [.int q1, va_rf q0] S Q := by
  unfold w_X9_feed_18 at h
  obtain ⟨b1, e2, h⟩ := h
  refine zs_stk1 (zs_rfe e2) ?_
  obtain ⟨k3, h⟩ := h
  obtain ⟨k4, h⟩ := h
  refine zp_8_441 (v := q1) rfl d_8203_18 k3 k4 ?_
  generalize e6 : zs_sI S 8000 b1 q1 = S5
  have h := h S5 e6.symm
  have K7 : ∀ b, zs_K S5 b = zs_K S b := zs_Kt e6 (zs_KsI _ _ _ _) (fun _ => rfl)
  refine zu_aload_n d_8203_21 rfl (zs_ra _) ?_
  obtain ⟨k8, h⟩ := h
  refine zg_8_441 rfl d_8203_22 ((K7 _).trans k8) ?_
  refine zu_ifle (t := 30) d_8203_25 rfl (fun c9 => ?_) (fun c9 => ?_)
  · have h := h.1 c9
    refine zu_iconst d_8203_30 zi_0 ?_
    refine zu_istore d_8203_31 (zs_lt zq_8203 rfl) ?_
    exact h.weak ⟨rfl, rfl, rfl, rfl, rfl, rfl, rfl, trivial⟩
  · have h := h.2 c9
    refine zu_iconst d_8203_28 zi_0 ?_
    exact zu_iret d_8203_29 zr_8203 rfl h
def w_X9_feed_111 (X : zs_X) (d : Nat) (p0 : Nat) (p1 : Int32) (p2 : Int32) (p3 : Int32) (p4 : Int32) (p5 : Int32) (p6 : Int32) (S : zs_T) (Q : zs_Q) : Prop :=
  (zs_K S p0 = some (.inl 8) ∧ ab_n0 X.1 ≤ p0 ∧ ∀ S3, S3 = zs_sI S 8002 p0 ((zs_I S 8002 p0) + (1 : Int32)) → zs_U X d 8203 33 [(0, .ref p0), (1, .int p1), (2, .int p2), (3, .int p3), (4, .int p4), (5, .int p5), (6, .int (p6 + (1 : Int32)))] [] S3 Q)
theorem u_X9_feed_111 {σ : Nat → Nat} {n0 : Nat} {bf : ab_B} {d : Nat} {p0 : Nat} {p1 : Int32} {p2 : Int32} {p3 : Int32} {p4 : Int32} {p5 : Int32} {p6 : Int32} {S : zs_T} {Q : zs_Q} (hB : zt_B bf) (h : w_X9_feed_111 (zx σ n0 bf) d p0 p1 p2 p3 p4 p5 p6 S Q) : zs_U (zx σ n0 bf) d 8203 111 [(0, .ref p0), (1, .int p1), (2, .int p2), (3, .int p3), (4, .int p4), (5, .int p5), (6, .int p6)] [] S Q := by
  unfold w_X9_feed_111 at h
  refine zu_aload_n d_8203_111 rfl (zs_ra _) ?_
  refine zu_dup d_8203_112 rfl ?_
  obtain ⟨k1, h⟩ := h
  refine zg_8_1213 rfl d_8203_113 k1 ?_
  refine zu_iconst d_8203_116 zi_1 ?_
  refine zu_stk d_8203_117 rfl rfl ?_
  obtain ⟨k2, h⟩ := h
  refine zp_8_1213 (v := ((zs_I S 8002 p0) + (1 : Int32))) rfl d_8203_118 k1 k2 ?_
  generalize e4 : zs_sI S 8002 p0 ((zs_I S 8002 p0) + (1 : Int32)) = S3
  have h := h S3 e4.symm
  have K5 : ∀ b, zs_K S3 b = zs_K S b := zs_Kt e4 (zs_KsI _ _ _ _) (fun _ => rfl)
  refine zu_iinc d_8203_121 rfl zi_1 (zs_lt zq_8203 rfl) ?_
  refine zu_goto (t := 33) d_8203_124 rfl ?_
  exact h.weak ⟨rfl, rfl, rfl, rfl, rfl, rfl, rfl, trivial⟩
def w_X9_feed_86 (X : zs_X) (d : Nat) (p0 : Nat) (p1 : Int32) (p2 : Int32) (p3 : Int32) (p4 : Int32) (p5 : Int32) (p6 : Int32) (q0 : Int32) (S : zs_T) (Q : zs_Q) : Prop :=
  (zs_K S p0 = some (.inl 8) ∧ ∃ b2, (zs_R S 8001 p0) = some b2 ∧ zs_A S b2 1 (zs_I S 8002 p0) ∧ ab_n0 X.1 ≤ b2 ∧ ∀ S6, S6 = zs_si S b2 (zs_I S 8002 p0).toNatClampNeg (vp_nar .byte (((q0 >>> (((24 : Int32) - ((8 : Int32) * (p6 &&& (3 : Int32)))) &&& 31))).toInt8.toInt32)) → w_X9_feed_111 X d p0 p1 p2 p3 p4 p5 p6 S6 Q)
theorem u_X9_feed_86 {σ : Nat → Nat} {n0 : Nat} {bf : ab_B} {d : Nat} {p0 : Nat} {p1 : Int32} {p2 : Int32} {p3 : Int32} {p4 : Int32} {p5 : Int32} {p6 : Int32} {q0 : Int32} {S : zs_T} {Q : zs_Q} (hB : zt_B bf) (h : w_X9_feed_86 (zx σ n0 bf) d p0 p1 p2 p3 p4 p5 p6 q0 S Q) : zs_U (zx σ n0 bf) d 8203 86 [(0, .ref p0), (1, .int p1), (2, .int p2), (3, .int p3), (4, .int p4), (5, .int p5), (6, .int p6)] [.int q0] S Q := by
  unfold w_X9_feed_86 at h
  refine zu_istore d_8203_86 (zs_lt zq_8203 rfl) ?_
  refine zu_aload_n d_8203_88 rfl (zs_ra _) ?_
  obtain ⟨k1, h⟩ := h
  refine zg_8_8 rfl d_8203_89 k1 ?_
  refine zu_aload_n d_8203_92 rfl (zs_ra _) ?_
  refine zg_8_1213 rfl d_8203_93 k1 ?_
  refine zu_iload d_8203_96 rfl ?_
  refine zu_bipush d_8203_98 zj_24 ?_
  refine zu_bipush d_8203_100 zj_8 ?_
  refine zu_iload d_8203_102 rfl ?_
  refine zu_iconst d_8203_104 zi_3 ?_
  refine zu_stk d_8203_105 rfl rfl ?_
  refine zu_stk d_8203_106 rfl rfl ?_
  refine zu_stk d_8203_107 rfl rfl ?_
  refine zu_stk d_8203_108 rfl rfl ?_
  refine zu_stk d_8203_109 rfl rfl ?_
  obtain ⟨b2, e3, h⟩ := h
  refine zs_stk2 (zs_rfe e3) ?_
  obtain ⟨k4, h⟩ := h
  obtain ⟨k5, h⟩ := h
  refine zu_bast_byte (k := 1) d_8203_110 rfl rfl k5 k4 ?_
  generalize e7 : zs_si S b2 (zs_I S 8002 p0).toNatClampNeg (vp_nar .byte (((q0 >>> (((24 : Int32) - ((8 : Int32) * (p6 &&& (3 : Int32)))) &&& 31))).toInt8.toInt32)) = S6
  have h := h S6 e7.symm
  have K8 : ∀ b, zs_K S6 b = zs_K S b := zs_Kt e7 (zs_Ksi _ _ _ _) (fun _ => rfl)
  exact (u_X9_feed_111 hB h).weak ⟨rfl, rfl, rfl, rfl, rfl, rfl, rfl, trivial⟩
def w_X9_feed_33 (X : zs_X) (d : Nat) (p0 : Nat) (p1 : Int32) (p2 : Int32) (p3 : Int32) (p4 : Int32) (p5 : Int32) (p6 : Int32) (S : zs_T) (Q : zs_Q) : Prop :=
  ((((20 : Int32) ≤ p6 → (zs_K S p0 = some (.inl 8) ∧ Q (.returned (some (.int (zs_I S 8002 p0)))) S)) ∧ (¬ ((20 : Int32) ≤ p6) → ((((4 : Int32) ≤ p6 → ((((8 : Int32) ≤ p6 → ((((12 : Int32) ≤ p6 → ((((16 : Int32) ≤ p6 → (w_X9_feed_86 X d p0 p1 p2 p3 p4 p5 p6 p5 S Q)) ∧ (¬ ((16 : Int32) ≤ p6) → (w_X9_feed_86 X d p0 p1 p2 p3 p4 p5 p6 p4 S Q))))) ∧ (¬ ((12 : Int32) ≤ p6) → (w_X9_feed_86 X d p0 p1 p2 p3 p4 p5 p6 p3 S Q))))) ∧ (¬ ((8 : Int32) ≤ p6) → (w_X9_feed_86 X d p0 p1 p2 p3 p4 p5 p6 p2 S Q))))) ∧ (¬ ((4 : Int32) ≤ p6) → (w_X9_feed_86 X d p0 p1 p2 p3 p4 p5 p6 p1 S Q)))))))
theorem u_X9_feed_33 {σ : Nat → Nat} {n0 : Nat} {bf : ab_B} {d : Nat} {p0 : Nat} {p1 : Int32} {p2 : Int32} {p3 : Int32} {p4 : Int32} {p5 : Int32} {p6 : Int32} {S : zs_T} {Q : zs_Q} (hB : zt_B bf) (h : w_X9_feed_33 (zx σ n0 bf) d p0 p1 p2 p3 p4 p5 p6 S Q) : zs_U (zx σ n0 bf) d 8203 33 [(0, .ref p0), (1, .int p1), (2, .int p2), (3, .int p3), (4, .int p4), (5, .int p5), (6, .int p6)] [] S Q := by
  unfold w_X9_feed_33 at h
  refine zu_iload d_8203_33 rfl ?_
  refine zu_bipush d_8203_35 zj_20 ?_
  refine zu_cmpge (t := 127) d_8203_37 rfl (fun c1 => ?_) (fun c1 => ?_)
  · have h := h.1 c1
    refine zu_aload_n d_8203_127 rfl (zs_ra _) ?_
    obtain ⟨k2, h⟩ := h
    refine zg_8_1213 rfl d_8203_128 k2 ?_
    exact zu_iret d_8203_131 zr_8203 rfl h
  · have h := h.2 c1
    refine zu_iload d_8203_40 rfl ?_
    refine zu_iconst d_8203_42 zi_4 ?_
    refine zu_cmpge (t := 50) d_8203_43 rfl (fun c3 => ?_) (fun c3 => ?_)
    · have h := h.1 c3
      refine zu_iload d_8203_50 rfl ?_
      refine zu_bipush d_8203_52 zj_8 ?_
      refine zu_cmpge (t := 61) d_8203_54 rfl (fun c4 => ?_) (fun c4 => ?_)
      · have h := h.1 c4
        refine zu_iload d_8203_61 rfl ?_
        refine zu_bipush d_8203_63 zj_12 ?_
        refine zu_cmpge (t := 72) d_8203_65 rfl (fun c5 => ?_) (fun c5 => ?_)
        · have h := h.1 c5
          refine zu_iload d_8203_72 rfl ?_
          refine zu_bipush d_8203_74 zj_16 ?_
          refine zu_cmpge (t := 84) d_8203_76 rfl (fun c6 => ?_) (fun c6 => ?_)
          · have h := h.1 c6
            refine zu_iload d_8203_84 rfl ?_
            exact (u_X9_feed_86 hB h).weak ⟨rfl, rfl, rfl, rfl, rfl, rfl, rfl, trivial⟩
          · have h := h.2 c6
            refine zu_iload d_8203_79 rfl ?_
            refine zu_goto (t := 86) d_8203_81 rfl ?_
            exact (u_X9_feed_86 hB h).weak ⟨rfl, rfl, rfl, rfl, rfl, rfl, rfl, trivial⟩
        · have h := h.2 c5
          refine zu_iload_n d_8203_68 rfl ?_
          refine zu_goto (t := 86) d_8203_69 rfl ?_
          exact (u_X9_feed_86 hB h).weak ⟨rfl, rfl, rfl, rfl, rfl, rfl, rfl, trivial⟩
      · have h := h.2 c4
        refine zu_iload_n d_8203_57 rfl ?_
        refine zu_goto (t := 86) d_8203_58 rfl ?_
        exact (u_X9_feed_86 hB h).weak ⟨rfl, rfl, rfl, rfl, rfl, rfl, rfl, trivial⟩
    · have h := h.2 c3
      refine zu_iload_n d_8203_46 rfl ?_
      refine zu_goto (t := 86) d_8203_47 rfl ?_
      exact (u_X9_feed_86 hB h).weak ⟨rfl, rfl, rfl, rfl, rfl, rfl, rfl, trivial⟩
def w_X9_feed (X : zs_X) (d : Nat) (p0 : Nat) (p1 : Int32) (p2 : Int32) (p3 : Int32) (p4 : Int32) (p5 : Int32) (S : zs_T) (Q : zs_Q) : Prop :=
  (zs_K S p0 = some (.inl 8) ∧ ((((zs_I S 8002 p0) + (20 : Int32)) ≤ (32768 : Int32) → (w_X9_feed_18 X d p0 p1 p2 p3 p4 p5 (some p0) (0 : Int32) S Q)) ∧ (¬ (((zs_I S 8002 p0) + (20 : Int32)) ≤ (32768 : Int32)) → (w_X9_feed_18 X d p0 p1 p2 p3 p4 p5 (some p0) (1 : Int32) S Q))))
theorem u_X9_feed {σ : Nat → Nat} {n0 : Nat} {bf : ab_B} {d : Nat} {p0 : Nat} {p1 : Int32} {p2 : Int32} {p3 : Int32} {p4 : Int32} {p5 : Int32} {S : zs_T} {Q : zs_Q} (hB : zt_B bf) (hd : 1 ≤ d) (h : w_X9_feed (zx σ n0 bf) (d - 1) p0 p1 p2 p3 p4 p5 S Q) : zs_C (zx σ n0 bf) d 8203 [.ref p0, .int p1, .int p2, .int p3, .int p4, .int p5] S Q := by
  have hL : lv_args 0 [.ref p0, .int p1, .int p2, .int p3, .int p4, .int p5] = [(0, .ref p0), (1, .int p1), (2, .int p2), (3, .int p3), (4, .int p4), (5, .int p5)] := rfl
  refine zs_C.of1 (hB.2 8203 (by decide) (by decide)) hd (by rw [hL]; exact zs_sub_self _ (by exact ⟨rfl, rfl, rfl, rfl, rfl, rfl, trivial⟩)) ?_
  rw [hL]
  clear hL
  unfold w_X9_feed at h
  refine zu_aload_n d_8203_0 rfl (zs_ra _) ?_
  refine zu_aload_n d_8203_1 rfl (zs_ra _) ?_
  obtain ⟨k1, h⟩ := h
  refine zg_8_1213 rfl d_8203_2 k1 ?_
  refine zu_bipush d_8203_5 zj_20 ?_
  refine zu_stk d_8203_7 rfl rfl ?_
  refine zl_8_7 rfl d_8203_8 ?_
  refine zu_cmple (t := 17) d_8203_10 rfl (fun c2 => ?_) (fun c2 => ?_)
  · have h := h.1 c2
    refine zu_iconst d_8203_17 zi_0 ?_
    exact (u_X9_feed_18 hB h).weak ⟨rfl, rfl, rfl, rfl, rfl, rfl, trivial⟩
  · have h := h.2 c2
    refine zu_iconst d_8203_13 zi_1 ?_
    refine zu_goto (t := 18) d_8203_14 rfl ?_
    exact (u_X9_feed_18 hB h).weak ⟨rfl, rfl, rfl, rfl, rfl, rfl, trivial⟩
/-! SchemaPascalModel.end(I)V -/
theorem zm_8204 {σ : Nat → Nat} {n0 : Nat} {bf : ab_B} : ab_code (zx σ n0 bf).1 8204 = prog_17_method_273_code := rfl
theorem zq_8204 {σ : Nat → Nat} {n0 : Nat} {bf : ab_B} : ab_maxL (zx σ n0 bf).1 8204 = 2 := rfl
theorem zr_8204 {σ : Nat → Nat} {n0 : Nat} {bf : ab_B} : ab_ret (zx σ n0 bf).1 8204 = (Option.none : Option Jvm.ClassFile.FieldType) := rfl
theorem d_8204_0 {σ : Nat → Nat} {n0 : Nat} {bf : ab_B} : decode (ab_code (zx σ n0 bf).1 8204) 0 = .ok (.aload_n 0, 1) := zd zm_8204 (by decide +kernel)
theorem d_8204_1 {σ : Nat → Nat} {n0 : Nat} {bf : ab_B} : decode (ab_code (zx σ n0 bf).1 8204) 1 = .ok (.iload_n 1, 1) := zd zm_8204 (by decide +kernel)
theorem d_8204_2 {σ : Nat → Nat} {n0 : Nat} {bf : ab_B} : decode (ab_code (zx σ n0 bf).1 8204) 2 = .ok (.ifCond .lt 11, 3) := zd zm_8204 (by decide +kernel)
theorem d_8204_5 {σ : Nat → Nat} {n0 : Nat} {bf : ab_B} : decode (ab_code (zx σ n0 bf).1 8204) 5 = .ok (.iload_n 1, 1) := zd zm_8204 (by decide +kernel)
theorem d_8204_6 {σ : Nat → Nat} {n0 : Nat} {bf : ab_B} : decode (ab_code (zx σ n0 bf).1 8204) 6 = .ok (.aload_n 0, 1) := zd zm_8204 (by decide +kernel)
theorem d_8204_7 {σ : Nat → Nat} {n0 : Nat} {bf : ab_B} : decode (ab_code (zx σ n0 bf).1 8204) 7 = .ok (.getfield 1213, 3) := zd zm_8204 (by decide +kernel)
theorem d_8204_10 {σ : Nat → Nat} {n0 : Nat} {bf : ab_B} : decode (ab_code (zx σ n0 bf).1 8204) 10 = .ok (.if_icmp .le 7, 3) := zd zm_8204 (by decide +kernel)
theorem d_8204_13 {σ : Nat → Nat} {n0 : Nat} {bf : ab_B} : decode (ab_code (zx σ n0 bf).1 8204) 13 = .ok (.iconst 1, 1) := zd zm_8204 (by decide +kernel)
theorem d_8204_14 {σ : Nat → Nat} {n0 : Nat} {bf : ab_B} : decode (ab_code (zx σ n0 bf).1 8204) 14 = .ok (.goto 4, 3) := zd zm_8204 (by decide +kernel)
theorem d_8204_17 {σ : Nat → Nat} {n0 : Nat} {bf : ab_B} : decode (ab_code (zx σ n0 bf).1 8204) 17 = .ok (.iconst 0, 1) := zd zm_8204 (by decide +kernel)
theorem d_8204_18 {σ : Nat → Nat} {n0 : Nat} {bf : ab_B} : decode (ab_code (zx σ n0 bf).1 8204) 18 = .ok (.putfield 441, 3) := zd zm_8204 (by decide +kernel)
theorem d_8204_21 {σ : Nat → Nat} {n0 : Nat} {bf : ab_B} : decode (ab_code (zx σ n0 bf).1 8204) 21 = .ok (.aload_n 0, 1) := zd zm_8204 (by decide +kernel)
theorem d_8204_22 {σ : Nat → Nat} {n0 : Nat} {bf : ab_B} : decode (ab_code (zx σ n0 bf).1 8204) 22 = .ok (.aload_n 0, 1) := zd zm_8204 (by decide +kernel)
theorem d_8204_23 {σ : Nat → Nat} {n0 : Nat} {bf : ab_B} : decode (ab_code (zx σ n0 bf).1 8204) 23 = .ok (.getfield 441, 3) := zd zm_8204 (by decide +kernel)
theorem d_8204_26 {σ : Nat → Nat} {n0 : Nat} {bf : ab_B} : decode (ab_code (zx σ n0 bf).1 8204) 26 = .ok (.ifCond .le 10, 3) := zd zm_8204 (by decide +kernel)
theorem d_8204_29 {σ : Nat → Nat} {n0 : Nat} {bf : ab_B} : decode (ab_code (zx σ n0 bf).1 8204) 29 = .ok (.aload_n 0, 1) := zd zm_8204 (by decide +kernel)
theorem d_8204_30 {σ : Nat → Nat} {n0 : Nat} {bf : ab_B} : decode (ab_code (zx σ n0 bf).1 8204) 30 = .ok (.getfield 1213, 3) := zd zm_8204 (by decide +kernel)
theorem d_8204_33 {σ : Nat → Nat} {n0 : Nat} {bf : ab_B} : decode (ab_code (zx σ n0 bf).1 8204) 33 = .ok (.goto 4, 3) := zd zm_8204 (by decide +kernel)
theorem d_8204_36 {σ : Nat → Nat} {n0 : Nat} {bf : ab_B} : decode (ab_code (zx σ n0 bf).1 8204) 36 = .ok (.iload_n 1, 1) := zd zm_8204 (by decide +kernel)
theorem d_8204_37 {σ : Nat → Nat} {n0 : Nat} {bf : ab_B} : decode (ab_code (zx σ n0 bf).1 8204) 37 = .ok (.putfield 1213, 3) := zd zm_8204 (by decide +kernel)
theorem d_8204_40 {σ : Nat → Nat} {n0 : Nat} {bf : ab_B} : decode (ab_code (zx σ n0 bf).1 8204) 40 = .ok (.return_, 1) := zd zm_8204 (by decide +kernel)
def w_X9_end_18 (X : zs_X) (d : Nat) (p0 : Nat) (p1 : Int32) (q0 : Option Nat) (q1 : Int32) (S : zs_T) (Q : zs_Q) : Prop :=
  (∃ b1, q0 = some b1 ∧ zs_K S b1 = some (.inl 8) ∧ ab_n0 X.1 ≤ b1 ∧ ∀ S5, S5 = zs_sI S 8000 b1 q1 → zs_K S p0 = some (.inl 8) ∧ (((zs_I S5 8000 p0) ≤ 0 → (ab_n0 X.1 ≤ p0 ∧ ∀ S11, S11 = zs_sI S5 8002 p0 p1 → Q (.returned none) S11)) ∧ (¬ ((zs_I S5 8000 p0) ≤ 0) → (ab_n0 X.1 ≤ p0 ∧ ∀ S15, S15 = zs_sI S5 8002 p0 (zs_I S5 8002 p0) → Q (.returned none) S15))))
theorem u_X9_end_18 {σ : Nat → Nat} {n0 : Nat} {bf : ab_B} {d : Nat} {p0 : Nat} {p1 : Int32} {q0 : Option Nat} {q1 : Int32} {S : zs_T} {Q : zs_Q} (hB : zt_B bf) (h : w_X9_end_18 (zx σ n0 bf) d p0 p1 q0 q1 S Q) : zs_U (zx σ n0 bf) d 8204 18 [(0, .ref p0), (1, .int p1)] [.int q1, va_rf q0] S Q := by
  unfold w_X9_end_18 at h
  obtain ⟨b1, e2, h⟩ := h
  refine zs_stk1 (zs_rfe e2) ?_
  obtain ⟨k3, h⟩ := h
  obtain ⟨k4, h⟩ := h
  refine zp_8_441 (v := q1) rfl d_8204_18 k3 k4 ?_
  generalize e6 : zs_sI S 8000 b1 q1 = S5
  have h := h S5 e6.symm
  have K7 : ∀ b, zs_K S5 b = zs_K S b := zs_Kt e6 (zs_KsI _ _ _ _) (fun _ => rfl)
  refine zu_aload_n d_8204_21 rfl (zs_ra _) ?_
  refine zu_aload_n d_8204_22 rfl (zs_ra _) ?_
  obtain ⟨k8, h⟩ := h
  refine zg_8_441 rfl d_8204_23 ((K7 _).trans k8) ?_
  refine zu_ifle (t := 36) d_8204_26 rfl (fun c9 => ?_) (fun c9 => ?_)
  · have h := h.1 c9
    refine zu_iload_n d_8204_36 rfl ?_
    obtain ⟨k10, h⟩ := h
    refine zp_8_1213 (v := p1) rfl d_8204_37 ((K7 _).trans k8) k10 ?_
    generalize e12 : zs_sI S5 8002 p0 p1 = S11
    have h := h S11 e12.symm
    have K13 : ∀ b, zs_K S11 b = zs_K S b := zs_Kt e12 (zs_KsI _ _ _ _) K7
    exact zu_vret d_8204_40 zr_8204 h
  · have h := h.2 c9
    refine zu_aload_n d_8204_29 rfl (zs_ra _) ?_
    refine zg_8_1213 rfl d_8204_30 ((K7 _).trans k8) ?_
    refine zu_goto (t := 37) d_8204_33 rfl ?_
    obtain ⟨k14, h⟩ := h
    refine zp_8_1213 (v := (zs_I S5 8002 p0)) rfl d_8204_37 ((K7 _).trans k8) k14 ?_
    generalize e16 : zs_sI S5 8002 p0 (zs_I S5 8002 p0) = S15
    have h := h S15 e16.symm
    have K17 : ∀ b, zs_K S15 b = zs_K S b := zs_Kt e16 (zs_KsI _ _ _ _) K7
    exact zu_vret d_8204_40 zr_8204 h
def w_X9_end_13 (X : zs_X) (d : Nat) (p0 : Nat) (p1 : Int32) (q0 : Option Nat) (S : zs_T) (Q : zs_Q) : Prop :=
  (w_X9_end_18 X d p0 p1 q0 (1 : Int32) S Q)
theorem u_X9_end_13 {σ : Nat → Nat} {n0 : Nat} {bf : ab_B} {d : Nat} {p0 : Nat} {p1 : Int32} {q0 : Option Nat} {S : zs_T} {Q : zs_Q} (hB : zt_B bf) (h : w_X9_end_13 (zx σ n0 bf) d p0 p1 q0 S Q) : zs_U (zx σ n0 bf) d 8204 13 [(0, .ref p0), (1, .int p1)] [va_rf q0] S Q := by
  unfold w_X9_end_13 at h
  refine zu_iconst d_8204_13 zi_1 ?_
  refine zu_goto (t := 18) d_8204_14 rfl ?_
  exact (u_X9_end_18 hB h).weak ⟨rfl, rfl, trivial⟩
def w_X9_end (X : zs_X) (d : Nat) (p0 : Nat) (p1 : Int32) (S : zs_T) (Q : zs_Q) : Prop :=
  (((p1 < 0 → w_X9_end_13 X d p0 p1 (some p0) S Q) ∧ (¬ (p1 < 0) → (zs_K S p0 = some (.inl 8) ∧ ((p1 ≤ (zs_I S 8002 p0) → (w_X9_end_18 X d p0 p1 (some p0) (0 : Int32) S Q)) ∧ (¬ (p1 ≤ (zs_I S 8002 p0)) → w_X9_end_13 X d p0 p1 (some p0) S Q))))))
theorem u_X9_end {σ : Nat → Nat} {n0 : Nat} {bf : ab_B} {d : Nat} {p0 : Nat} {p1 : Int32} {S : zs_T} {Q : zs_Q} (hB : zt_B bf) (hd : 1 ≤ d) (h : w_X9_end (zx σ n0 bf) (d - 1) p0 p1 S Q) : zs_C (zx σ n0 bf) d 8204 [.ref p0, .int p1] S Q := by
  have hL : lv_args 0 [.ref p0, .int p1] = [(0, .ref p0), (1, .int p1)] := rfl
  refine zs_C.of1 (hB.2 8204 (by decide) (by decide)) hd (by rw [hL]; exact zs_sub_self _ (by exact ⟨rfl, rfl, trivial⟩)) ?_
  rw [hL]
  clear hL
  unfold w_X9_end at h
  refine zu_aload_n d_8204_0 rfl (zs_ra _) ?_
  refine zu_iload_n d_8204_1 rfl ?_
  refine zu_iflt (t := 13) d_8204_2 rfl (fun c1 => ?_) (fun c1 => ?_)
  · have h := h.1 c1
    exact (u_X9_end_13 hB h).weak ⟨rfl, rfl, trivial⟩
  · have h := h.2 c1
    refine zu_iload_n d_8204_5 rfl ?_
    refine zu_aload_n d_8204_6 rfl (zs_ra _) ?_
    obtain ⟨k2, h⟩ := h
    refine zg_8_1213 rfl d_8204_7 k2 ?_
    refine zu_cmple (t := 17) d_8204_10 rfl (fun c3 => ?_) (fun c3 => ?_)
    · have h := h.1 c3
      refine zu_iconst d_8204_17 zi_0 ?_
      exact (u_X9_end_18 hB h).weak ⟨rfl, rfl, trivial⟩
    · have h := h.2 c3
      exact (u_X9_end_13 hB h).weak ⟨rfl, rfl, trivial⟩
/-! SchemaPascalModel.fault()I -/
theorem zm_8205 {σ : Nat → Nat} {n0 : Nat} {bf : ab_B} : ab_code (zx σ n0 bf).1 8205 = prog_17_method_274_code := rfl
theorem zq_8205 {σ : Nat → Nat} {n0 : Nat} {bf : ab_B} : ab_maxL (zx σ n0 bf).1 8205 = 1 := rfl
theorem zr_8205 {σ : Nat → Nat} {n0 : Nat} {bf : ab_B} : ab_ret (zx σ n0 bf).1 8205 = (Option.some Jvm.ClassFile.FieldType.int) := rfl
theorem d_8205_0 {σ : Nat → Nat} {n0 : Nat} {bf : ab_B} : decode (ab_code (zx σ n0 bf).1 8205) 0 = .ok (.aload_n 0, 1) := zd zm_8205 (by decide +kernel)
theorem d_8205_1 {σ : Nat → Nat} {n0 : Nat} {bf : ab_B} : decode (ab_code (zx σ n0 bf).1 8205) 1 = .ok (.iconst 0, 1) := zd zm_8205 (by decide +kernel)
theorem d_8205_2 {σ : Nat → Nat} {n0 : Nat} {bf : ab_B} : decode (ab_code (zx σ n0 bf).1 8205) 2 = .ok (.putfield 441, 3) := zd zm_8205 (by decide +kernel)
theorem d_8205_5 {σ : Nat → Nat} {n0 : Nat} {bf : ab_B} : decode (ab_code (zx σ n0 bf).1 8205) 5 = .ok (.aload_n 0, 1) := zd zm_8205 (by decide +kernel)
theorem d_8205_6 {σ : Nat → Nat} {n0 : Nat} {bf : ab_B} : decode (ab_code (zx σ n0 bf).1 8205) 6 = .ok (.getfield 444, 3) := zd zm_8205 (by decide +kernel)
theorem d_8205_9 {σ : Nat → Nat} {n0 : Nat} {bf : ab_B} : decode (ab_code (zx σ n0 bf).1 8205) 9 = .ok (.ireturn, 1) := zd zm_8205 (by decide +kernel)
def w_X9_fault (X : zs_X) (d : Nat) (p0 : Nat) (S : zs_T) (Q : zs_Q) : Prop :=
  (zs_K S p0 = some (.inl 8) ∧ ab_n0 X.1 ≤ p0 ∧ ∀ S3, S3 = zs_sI S 8000 p0 (0 : Int32) → Q (.returned (some (.int (zs_I S3 8010 p0)))) S3)
theorem u_X9_fault {σ : Nat → Nat} {n0 : Nat} {bf : ab_B} {d : Nat} {p0 : Nat} {S : zs_T} {Q : zs_Q} (hB : zt_B bf) (hd : 1 ≤ d) (h : w_X9_fault (zx σ n0 bf) (d - 1) p0 S Q) : zs_C (zx σ n0 bf) d 8205 [.ref p0] S Q := by
  have hL : lv_args 0 [.ref p0] = [(0, .ref p0)] := rfl
  refine zs_C.of1 (hB.2 8205 (by decide) (by decide)) hd (by rw [hL]; exact zs_sub_self _ (by exact ⟨rfl, trivial⟩)) ?_
  rw [hL]
  clear hL
  unfold w_X9_fault at h
  refine zu_aload_n d_8205_0 rfl (zs_ra _) ?_
  refine zu_iconst d_8205_1 zi_0 ?_
  obtain ⟨k1, h⟩ := h
  obtain ⟨k2, h⟩ := h
  refine zp_8_441 (v := (0 : Int32)) rfl d_8205_2 k1 k2 ?_
  generalize e4 : zs_sI S 8000 p0 (0 : Int32) = S3
  have h := h S3 e4.symm
  have K5 : ∀ b, zs_K S3 b = zs_K S b := zs_Kt e4 (zs_KsI _ _ _ _) (fun _ => rfl)
  refine zu_aload_n d_8205_5 rfl (zs_ra _) ?_
  refine zg_8_444 rfl d_8205_6 ((K5 _).trans k1) ?_
  exact zu_iret d_8205_9 zr_8205 rfl h
/-! SchemaPascalModel.start()V -/
theorem zm_8206 {σ : Nat → Nat} {n0 : Nat} {bf : ab_B} : ab_code (zx σ n0 bf).1 8206 = prog_17_method_275_code := rfl
theorem zq_8206 {σ : Nat → Nat} {n0 : Nat} {bf : ab_B} : ab_maxL (zx σ n0 bf).1 8206 = 1 := rfl
theorem zr_8206 {σ : Nat → Nat} {n0 : Nat} {bf : ab_B} : ab_ret (zx σ n0 bf).1 8206 = (Option.none : Option Jvm.ClassFile.FieldType) := rfl
theorem d_8206_0 {σ : Nat → Nat} {n0 : Nat} {bf : ab_B} : decode (ab_code (zx σ n0 bf).1 8206) 0 = .ok (.aload_n 0, 1) := zd zm_8206 (by decide +kernel)
theorem d_8206_1 {σ : Nat → Nat} {n0 : Nat} {bf : ab_B} : decode (ab_code (zx σ n0 bf).1 8206) 1 = .ok (.aload_n 0, 1) := zd zm_8206 (by decide +kernel)
theorem d_8206_2 {σ : Nat → Nat} {n0 : Nat} {bf : ab_B} : decode (ab_code (zx σ n0 bf).1 8206) 2 = .ok (.getfield 1219, 3) := zd zm_8206 (by decide +kernel)
theorem d_8206_5 {σ : Nat → Nat} {n0 : Nat} {bf : ab_B} : decode (ab_code (zx σ n0 bf).1 8206) 5 = .ok (.ifCond .eq 7, 3) := zd zm_8206 (by decide +kernel)
theorem d_8206_8 {σ : Nat → Nat} {n0 : Nat} {bf : ab_B} : decode (ab_code (zx σ n0 bf).1 8206) 8 = .ok (.iconst 0, 1) := zd zm_8206 (by decide +kernel)
theorem d_8206_9 {σ : Nat → Nat} {n0 : Nat} {bf : ab_B} : decode (ab_code (zx σ n0 bf).1 8206) 9 = .ok (.goto 4, 3) := zd zm_8206 (by decide +kernel)
theorem d_8206_12 {σ : Nat → Nat} {n0 : Nat} {bf : ab_B} : decode (ab_code (zx σ n0 bf).1 8206) 12 = .ok (.iconst 1, 1) := zd zm_8206 (by decide +kernel)
theorem d_8206_13 {σ : Nat → Nat} {n0 : Nat} {bf : ab_B} : decode (ab_code (zx σ n0 bf).1 8206) 13 = .ok (.putfield 441, 3) := zd zm_8206 (by decide +kernel)
theorem d_8206_16 {σ : Nat → Nat} {n0 : Nat} {bf : ab_B} : decode (ab_code (zx σ n0 bf).1 8206) 16 = .ok (.aload_n 0, 1) := zd zm_8206 (by decide +kernel)
theorem d_8206_17 {σ : Nat → Nat} {n0 : Nat} {bf : ab_B} : decode (ab_code (zx σ n0 bf).1 8206) 17 = .ok (.getfield 441, 3) := zd zm_8206 (by decide +kernel)
theorem d_8206_20 {σ : Nat → Nat} {n0 : Nat} {bf : ab_B} : decode (ab_code (zx σ n0 bf).1 8206) 20 = .ok (.ifCond .le 4, 3) := zd zm_8206 (by decide +kernel)
theorem d_8206_23 {σ : Nat → Nat} {n0 : Nat} {bf : ab_B} : decode (ab_code (zx σ n0 bf).1 8206) 23 = .ok (.return_, 1) := zd zm_8206 (by decide +kernel)
theorem d_8206_24 {σ : Nat → Nat} {n0 : Nat} {bf : ab_B} : decode (ab_code (zx σ n0 bf).1 8206) 24 = .ok (.aload_n 0, 1) := zd zm_8206 (by decide +kernel)
theorem d_8206_25 {σ : Nat → Nat} {n0 : Nat} {bf : ab_B} : decode (ab_code (zx σ n0 bf).1 8206) 25 = .ok (.invokevirtual 1225, 3) := zd zm_8206 (by decide +kernel)
theorem d_8206_28 {σ : Nat → Nat} {n0 : Nat} {bf : ab_B} : decode (ab_code (zx σ n0 bf).1 8206) 28 = .ok (.aload_n 0, 1) := zd zm_8206 (by decide +kernel)
theorem d_8206_29 {σ : Nat → Nat} {n0 : Nat} {bf : ab_B} : decode (ab_code (zx σ n0 bf).1 8206) 29 = .ok (.iconst 1, 1) := zd zm_8206 (by decide +kernel)
theorem d_8206_30 {σ : Nat → Nat} {n0 : Nat} {bf : ab_B} : decode (ab_code (zx σ n0 bf).1 8206) 30 = .ok (.putfield 1222, 3) := zd zm_8206 (by decide +kernel)
theorem d_8206_33 {σ : Nat → Nat} {n0 : Nat} {bf : ab_B} : decode (ab_code (zx σ n0 bf).1 8206) 33 = .ok (.aload_n 0, 1) := zd zm_8206 (by decide +kernel)
theorem d_8206_34 {σ : Nat → Nat} {n0 : Nat} {bf : ab_B} : decode (ab_code (zx σ n0 bf).1 8206) 34 = .ok (.aload_n 0, 1) := zd zm_8206 (by decide +kernel)
theorem d_8206_35 {σ : Nat → Nat} {n0 : Nat} {bf : ab_B} : decode (ab_code (zx σ n0 bf).1 8206) 35 = .ok (.getfield 212, 3) := zd zm_8206 (by decide +kernel)
theorem d_8206_38 {σ : Nat → Nat} {n0 : Nat} {bf : ab_B} : decode (ab_code (zx σ n0 bf).1 8206) 38 = .ok (.iconst 0, 1) := zd zm_8206 (by decide +kernel)
theorem d_8206_39 {σ : Nat → Nat} {n0 : Nat} {bf : ab_B} : decode (ab_code (zx σ n0 bf).1 8206) 39 = .ok (.iaload, 1) := zd zm_8206 (by decide +kernel)
theorem d_8206_40 {σ : Nat → Nat} {n0 : Nat} {bf : ab_B} : decode (ab_code (zx σ n0 bf).1 8206) 40 = .ok (.putfield 1377, 3) := zd zm_8206 (by decide +kernel)
theorem d_8206_43 {σ : Nat → Nat} {n0 : Nat} {bf : ab_B} : decode (ab_code (zx σ n0 bf).1 8206) 43 = .ok (.aload_n 0, 1) := zd zm_8206 (by decide +kernel)
theorem d_8206_44 {σ : Nat → Nat} {n0 : Nat} {bf : ab_B} : decode (ab_code (zx σ n0 bf).1 8206) 44 = .ok (.iconst 0, 1) := zd zm_8206 (by decide +kernel)
theorem d_8206_45 {σ : Nat → Nat} {n0 : Nat} {bf : ab_B} : decode (ab_code (zx σ n0 bf).1 8206) 45 = .ok (.iconst (-1), 1) := zd zm_8206 (by decide +kernel)
theorem d_8206_46 {σ : Nat → Nat} {n0 : Nat} {bf : ab_B} : decode (ab_code (zx σ n0 bf).1 8206) 46 = .ok (.invokevirtual 1452, 3) := zd zm_8206 (by decide +kernel)
theorem d_8206_49 {σ : Nat → Nat} {n0 : Nat} {bf : ab_B} : decode (ab_code (zx σ n0 bf).1 8206) 49 = .ok (.aload_n 0, 1) := zd zm_8206 (by decide +kernel)
theorem d_8206_50 {σ : Nat → Nat} {n0 : Nat} {bf : ab_B} : decode (ab_code (zx σ n0 bf).1 8206) 50 = .ok (.aload_n 0, 1) := zd zm_8206 (by decide +kernel)
theorem d_8206_51 {σ : Nat → Nat} {n0 : Nat} {bf : ab_B} : decode (ab_code (zx σ n0 bf).1 8206) 51 = .ok (.getfield 1273, 3) := zd zm_8206 (by decide +kernel)
theorem d_8206_54 {σ : Nat → Nat} {n0 : Nat} {bf : ab_B} : decode (ab_code (zx σ n0 bf).1 8206) 54 = .ok (.ifCond .le 7, 3) := zd zm_8206 (by decide +kernel)
theorem d_8206_57 {σ : Nat → Nat} {n0 : Nat} {bf : ab_B} : decode (ab_code (zx σ n0 bf).1 8206) 57 = .ok (.iconst 1, 1) := zd zm_8206 (by decide +kernel)
theorem d_8206_58 {σ : Nat → Nat} {n0 : Nat} {bf : ab_B} : decode (ab_code (zx σ n0 bf).1 8206) 58 = .ok (.goto 4, 3) := zd zm_8206 (by decide +kernel)
theorem d_8206_61 {σ : Nat → Nat} {n0 : Nat} {bf : ab_B} : decode (ab_code (zx σ n0 bf).1 8206) 61 = .ok (.iconst 0, 1) := zd zm_8206 (by decide +kernel)
theorem d_8206_62 {σ : Nat → Nat} {n0 : Nat} {bf : ab_B} : decode (ab_code (zx σ n0 bf).1 8206) 62 = .ok (.putfield 1282, 3) := zd zm_8206 (by decide +kernel)
theorem d_8206_65 {σ : Nat → Nat} {n0 : Nat} {bf : ab_B} : decode (ab_code (zx σ n0 bf).1 8206) 65 = .ok (.aload_n 0, 1) := zd zm_8206 (by decide +kernel)
theorem d_8206_66 {σ : Nat → Nat} {n0 : Nat} {bf : ab_B} : decode (ab_code (zx σ n0 bf).1 8206) 66 = .ok (.iconst 0, 1) := zd zm_8206 (by decide +kernel)
theorem d_8206_67 {σ : Nat → Nat} {n0 : Nat} {bf : ab_B} : decode (ab_code (zx σ n0 bf).1 8206) 67 = .ok (.invokevirtual 1512, 3) := zd zm_8206 (by decide +kernel)
theorem d_8206_70 {σ : Nat → Nat} {n0 : Nat} {bf : ab_B} : decode (ab_code (zx σ n0 bf).1 8206) 70 = .ok (.return_, 1) := zd zm_8206 (by decide +kernel)
def w_X9_start_62 (X : zs_X) (d : Nat) (p0 : Nat) (q0 : Option Nat) (q1 : Int32) (S : zs_T) (Q : zs_Q) : Prop :=
  (∃ b1, q0 = some b1 ∧ zs_K S b1 = some (.inl 8) ∧ ab_n0 X.1 ≤ b1 ∧ zs_b q1 ∧ ∀ S6, S6 = zs_sI S 8201 b1 q1 → zs_K S p0 = some (.inl 8) ∧ zs_C X d 8229 [.ref p0, .int (0 : Int32)] S6 (zs_kV (fun S10 => (Q (.returned none) S10)) Q))
theorem u_X9_start_62 {σ : Nat → Nat} {n0 : Nat} {bf : ab_B} {d : Nat} {p0 : Nat} {q0 : Option Nat} {q1 : Int32} {S : zs_T} {Q : zs_Q} (hB : zt_B bf) (h : w_X9_start_62 (zx σ n0 bf) d p0 q0 q1 S Q) : zs_U (zx σ n0 bf) d 8206 62 [(0, .ref p0)] [.int q1, va_rf q0] S Q := by
  unfold w_X9_start_62 at h
  obtain ⟨b1, e2, h⟩ := h
  refine zs_stk1 (zs_rfe e2) ?_
  obtain ⟨k3, h⟩ := h
  obtain ⟨k4, h⟩ := h
  obtain ⟨k5, h⟩ := h
  refine zp_8_1282 (v := q1) rfl d_8206_62 k3 k4 k5 ?_
  generalize e7 : zs_sI S 8201 b1 q1 = S6
  have h := h S6 e7.symm
  have K8 : ∀ b, zs_K S6 b = zs_K S b := zs_Kt e7 (zs_KsI _ _ _ _) (fun _ => rfl)
  refine zu_aload_n d_8206_65 rfl (zs_ra _) ?_
  refine zu_iconst d_8206_66 zi_0 ?_
  obtain ⟨k9, h⟩ := h
  refine zc_8_1512 (x0 := (0 : Int32)) hB rfl ((K8 _).trans k9) d_8206_67 (Nat.le_of_ble_eq_true rfl) h (fun S10 h => ?_)
  exact zu_vret d_8206_70 zr_8206 h
def w_X9_start_49 (X : zs_X) (d : Nat) (p0 : Nat) (S : zs_T) (Q : zs_Q) : Prop :=
  (zs_K S p0 = some (.inl 8) ∧ (((zs_I S 8197 p0) ≤ 0 → (w_X9_start_62 X d p0 (some p0) (0 : Int32) S Q)) ∧ (¬ ((zs_I S 8197 p0) ≤ 0) → (w_X9_start_62 X d p0 (some p0) (1 : Int32) S Q))))
theorem u_X9_start_49 {σ : Nat → Nat} {n0 : Nat} {bf : ab_B} {d : Nat} {p0 : Nat} {S : zs_T} {Q : zs_Q} (hB : zt_B bf) (h : w_X9_start_49 (zx σ n0 bf) d p0 S Q) : zs_U (zx σ n0 bf) d 8206 49 [(0, .ref p0)] [] S Q := by
  unfold w_X9_start_49 at h
  refine zu_aload_n d_8206_49 rfl (zs_ra _) ?_
  refine zu_aload_n d_8206_50 rfl (zs_ra _) ?_
  obtain ⟨k1, h⟩ := h
  refine zg_8_1273 rfl d_8206_51 k1 ?_
  refine zu_ifle (t := 61) d_8206_54 rfl (fun c2 => ?_) (fun c2 => ?_)
  · have h := h.1 c2
    refine zu_iconst d_8206_61 zi_0 ?_
    exact (u_X9_start_62 hB h).weak ⟨rfl, trivial⟩
  · have h := h.2 c2
    refine zu_iconst d_8206_57 zi_1 ?_
    refine zu_goto (t := 62) d_8206_58 rfl ?_
    exact (u_X9_start_62 hB h).weak ⟨rfl, trivial⟩
def w_X9_start_13 (X : zs_X) (d : Nat) (p0 : Nat) (q0 : Option Nat) (q1 : Int32) (S : zs_T) (Q : zs_Q) : Prop :=
  (∃ b1, q0 = some b1 ∧ zs_K S b1 = some (.inl 8) ∧ ab_n0 X.1 ≤ b1 ∧ ∀ S5, S5 = zs_sI S 8000 b1 q1 → zs_K S p0 = some (.inl 8) ∧ (((zs_I S5 8000 p0) ≤ 0 → (zs_C X d 8013 [.ref p0] S5 (zs_kV (fun S10 => (zs_K S10 p0 = some (.inl 8) ∧ ab_n0 X.1 ≤ p0 ∧ ∀ S14, S14 = zs_sI S10 8196 p0 (1 : Int32) → ∃ b17, (zs_R S14 8099 p0) = some b17 ∧ zs_A S10 b17 0 (0 : Int32) ∧ ∀ S20, S20 = zs_sI S14 8199 p0 (zs_i S14 b17 (0 : Int32).toNatClampNeg) → zs_C X d 8207 [.ref p0, .int (0 : Int32), .int (-1 : Int32)] S20 (zs_kV (fun S23 => w_X9_start_49 X d p0 S23 Q) Q))) Q))) ∧ (¬ ((zs_I S5 8000 p0) ≤ 0) → (Q (.returned none) S5))))
theorem u_X9_start_13 {σ : Nat → Nat} {n0 : Nat} {bf : ab_B} {d : Nat} {p0 : Nat} {q0 : Option Nat} {q1 : Int32} {S : zs_T} {Q : zs_Q} (hB : zt_B bf) (h : w_X9_start_13 (zx σ n0 bf) d p0 q0 q1 S Q) : zs_U (zx σ n0 bf) d 8206 13 [(0, .ref p0)] [.int q1, va_rf q0] S Q := by
  unfold w_X9_start_13 at h
  obtain ⟨b1, e2, h⟩ := h
  refine zs_stk1 (zs_rfe e2) ?_
  obtain ⟨k3, h⟩ := h
  obtain ⟨k4, h⟩ := h
  refine zp_8_441 (v := q1) rfl d_8206_13 k3 k4 ?_
  generalize e6 : zs_sI S 8000 b1 q1 = S5
  have h := h S5 e6.symm
  have K7 : ∀ b, zs_K S5 b = zs_K S b := zs_Kt e6 (zs_KsI _ _ _ _) (fun _ => rfl)
  refine zu_aload_n d_8206_16 rfl (zs_ra _) ?_
  obtain ⟨k8, h⟩ := h
  refine zg_8_441 rfl d_8206_17 ((K7 _).trans k8) ?_
  refine zu_ifle (t := 24) d_8206_20 rfl (fun c9 => ?_) (fun c9 => ?_)
  · have h := h.1 c9
    refine zu_aload_n d_8206_24 rfl (zs_ra _) ?_
    refine zc_8_1225  hB rfl ((K7 _).trans k8) d_8206_25 (Nat.le_of_ble_eq_true rfl) h (fun S10 h => ?_)
    refine zu_aload_n d_8206_28 rfl (zs_ra _) ?_
    refine zu_iconst d_8206_29 zi_1 ?_
    obtain ⟨k12, h⟩ := h
    obtain ⟨k13, h⟩ := h
    refine zp_8_1222 (v := (1 : Int32)) rfl d_8206_30 k12 k13 (Or.inr rfl) ?_
    generalize e15 : zs_sI S10 8196 p0 (1 : Int32) = S14
    have h := h S14 e15.symm
    have K16 : ∀ b, zs_K S14 b = zs_K S10 b := zs_Kt e15 (zs_KsI _ _ _ _) (fun _ => rfl)
    refine zu_aload_n d_8206_33 rfl (zs_ra _) ?_
    refine zu_aload_n d_8206_34 rfl (zs_ra _) ?_
    refine zg_8_212 rfl d_8206_35 ((K16 _).trans k12) ?_
    refine zu_iconst d_8206_38 zi_0 ?_
    obtain ⟨b17, e18, h⟩ := h
    refine zs_stk1 (zs_rfe e18) ?_
    obtain ⟨k19, h⟩ := h
    refine zu_iald (k := 0) d_8206_39 rfl rfl (zs_Ak K16 k19) ?_
    refine zp_8_1377 (v := (zs_i S14 b17 (0 : Int32).toNatClampNeg)) rfl d_8206_40 ((K16 _).trans k12) k13 ?_
    generalize e21 : zs_sI S14 8199 p0 (zs_i S14 b17 (0 : Int32).toNatClampNeg) = S20
    have h := h S20 e21.symm
    have K22 : ∀ b, zs_K S20 b = zs_K S10 b := zs_Kt e21 (zs_KsI _ _ _ _) K16
    refine zu_aload_n d_8206_43 rfl (zs_ra _) ?_
    refine zu_iconst d_8206_44 zi_0 ?_
    refine zu_iconst d_8206_45 zi_m1 ?_
    refine zc_8_1452 (x0 := (0 : Int32)) (x1 := (-1 : Int32)) hB rfl ((K22 _).trans k12) d_8206_46 (Nat.le_of_ble_eq_true rfl) h (fun S23 h => ?_)
    exact (u_X9_start_49 hB h).weak ⟨rfl, trivial⟩
  · have h := h.2 c9
    exact zu_vret d_8206_23 zr_8206 h
def w_X9_start (X : zs_X) (d : Nat) (p0 : Nat) (S : zs_T) (Q : zs_Q) : Prop :=
  (zs_K S p0 = some (.inl 8) ∧ (((zs_I S 8155 p0) = 0 → (w_X9_start_13 X d p0 (some p0) (1 : Int32) S Q)) ∧ (¬ ((zs_I S 8155 p0) = 0) → (w_X9_start_13 X d p0 (some p0) (0 : Int32) S Q))))
theorem u_X9_start {σ : Nat → Nat} {n0 : Nat} {bf : ab_B} {d : Nat} {p0 : Nat} {S : zs_T} {Q : zs_Q} (hB : zt_B bf) (hd : 1 ≤ d) (h : w_X9_start (zx σ n0 bf) (d - 1) p0 S Q) : zs_C (zx σ n0 bf) d 8206 [.ref p0] S Q := by
  have hL : lv_args 0 [.ref p0] = [(0, .ref p0)] := rfl
  refine zs_C.of1 (hB.2 8206 (by decide) (by decide)) hd (by rw [hL]; exact zs_sub_self _ (by exact ⟨rfl, trivial⟩)) ?_
  rw [hL]
  clear hL
  unfold w_X9_start at h
  refine zu_aload_n d_8206_0 rfl (zs_ra _) ?_
  refine zu_aload_n d_8206_1 rfl (zs_ra _) ?_
  obtain ⟨k1, h⟩ := h
  refine zg_8_1219 rfl d_8206_2 k1 ?_
  refine zu_ifeq (t := 12) d_8206_5 rfl (fun c2 => ?_) (fun c2 => ?_)
  · have h := h.1 c2
    refine zu_iconst d_8206_12 zi_1 ?_
    exact (u_X9_start_13 hB h).weak ⟨rfl, trivial⟩
  · have h := h.2 c2
    refine zu_iconst d_8206_8 zi_0 ?_
    refine zu_goto (t := 13) d_8206_9 rfl ?_
    exact (u_X9_start_13 hB h).weak ⟨rfl, trivial⟩
/-! SchemaPascalModel.call(II)V -/
theorem zm_8207 {σ : Nat → Nat} {n0 : Nat} {bf : ab_B} : ab_code (zx σ n0 bf).1 8207 = prog_17_method_242_code := rfl
theorem zq_8207 {σ : Nat → Nat} {n0 : Nat} {bf : ab_B} : ab_maxL (zx σ n0 bf).1 8207 = 17 := rfl
theorem zr_8207 {σ : Nat → Nat} {n0 : Nat} {bf : ab_B} : ab_ret (zx σ n0 bf).1 8207 = (Option.none : Option Jvm.ClassFile.FieldType) := rfl
theorem d_8207_0 {σ : Nat → Nat} {n0 : Nat} {bf : ab_B} : decode (ab_code (zx σ n0 bf).1 8207) 0 = .ok (.aload_n 0, 1) := zd zm_8207 (by decide +kernel)
theorem d_8207_1 {σ : Nat → Nat} {n0 : Nat} {bf : ab_B} : decode (ab_code (zx σ n0 bf).1 8207) 1 = .ok (.getfield 1240, 3) := zd zm_8207 (by decide +kernel)
theorem d_8207_4 {σ : Nat → Nat} {n0 : Nat} {bf : ab_B} : decode (ab_code (zx σ n0 bf).1 8207) 4 = .ok (.bipush 100, 2) := zd zm_8207 (by decide +kernel)
theorem d_8207_6 {σ : Nat → Nat} {n0 : Nat} {bf : ab_B} : decode (ab_code (zx σ n0 bf).1 8207) 6 = .ok (.if_icmp .ne 16, 3) := zd zm_8207 (by decide +kernel)
theorem d_8207_9 {σ : Nat → Nat} {n0 : Nat} {bf : ab_B} : decode (ab_code (zx σ n0 bf).1 8207) 9 = .ok (.aload_n 0, 1) := zd zm_8207 (by decide +kernel)
theorem d_8207_10 {σ : Nat → Nat} {n0 : Nat} {bf : ab_B} : decode (ab_code (zx σ n0 bf).1 8207) 10 = .ok (.bipush 11, 2) := zd zm_8207 (by decide +kernel)
theorem d_8207_12 {σ : Nat → Nat} {n0 : Nat} {bf : ab_B} : decode (ab_code (zx σ n0 bf).1 8207) 12 = .ok (.aload_n 0, 1) := zd zm_8207 (by decide +kernel)
theorem d_8207_13 {σ : Nat → Nat} {n0 : Nat} {bf : ab_B} : decode (ab_code (zx σ n0 bf).1 8207) 13 = .ok (.getfield 311, 3) := zd zm_8207 (by decide +kernel)
theorem d_8207_16 {σ : Nat → Nat} {n0 : Nat} {bf : ab_B} : decode (ab_code (zx σ n0 bf).1 8207) 16 = .ok (.iload_n 1, 1) := zd zm_8207 (by decide +kernel)
theorem d_8207_17 {σ : Nat → Nat} {n0 : Nat} {bf : ab_B} : decode (ab_code (zx σ n0 bf).1 8207) 17 = .ok (.iaload, 1) := zd zm_8207 (by decide +kernel)
theorem d_8207_18 {σ : Nat → Nat} {n0 : Nat} {bf : ab_B} : decode (ab_code (zx σ n0 bf).1 8207) 18 = .ok (.invokevirtual 1297, 3) := zd zm_8207 (by decide +kernel)
theorem d_8207_21 {σ : Nat → Nat} {n0 : Nat} {bf : ab_B} : decode (ab_code (zx σ n0 bf).1 8207) 21 = .ok (.return_, 1) := zd zm_8207 (by decide +kernel)
theorem d_8207_22 {σ : Nat → Nat} {n0 : Nat} {bf : ab_B} : decode (ab_code (zx σ n0 bf).1 8207) 22 = .ok (.aload_n 0, 1) := zd zm_8207 (by decide +kernel)
theorem d_8207_23 {σ : Nat → Nat} {n0 : Nat} {bf : ab_B} : decode (ab_code (zx σ n0 bf).1 8207) 23 = .ok (.getfield 1240, 3) := zd zm_8207 (by decide +kernel)
theorem d_8207_26 {σ : Nat → Nat} {n0 : Nat} {bf : ab_B} : decode (ab_code (zx σ n0 bf).1 8207) 26 = .ok (.ifCond .ne 7, 3) := zd zm_8207 (by decide +kernel)
theorem d_8207_29 {σ : Nat → Nat} {n0 : Nat} {bf : ab_B} : decode (ab_code (zx σ n0 bf).1 8207) 29 = .ok (.iconst 0, 1) := zd zm_8207 (by decide +kernel)
theorem d_8207_30 {σ : Nat → Nat} {n0 : Nat} {bf : ab_B} : decode (ab_code (zx σ n0 bf).1 8207) 30 = .ok (.goto 31, 3) := zd zm_8207 (by decide +kernel)
theorem d_8207_33 {σ : Nat → Nat} {n0 : Nat} {bf : ab_B} : decode (ab_code (zx σ n0 bf).1 8207) 33 = .ok (.aload_n 0, 1) := zd zm_8207 (by decide +kernel)
theorem d_8207_34 {σ : Nat → Nat} {n0 : Nat} {bf : ab_B} : decode (ab_code (zx σ n0 bf).1 8207) 34 = .ok (.getfield 218, 3) := zd zm_8207 (by decide +kernel)
theorem d_8207_37 {σ : Nat → Nat} {n0 : Nat} {bf : ab_B} : decode (ab_code (zx σ n0 bf).1 8207) 37 = .ok (.aload_n 0, 1) := zd zm_8207 (by decide +kernel)
theorem d_8207_38 {σ : Nat → Nat} {n0 : Nat} {bf : ab_B} : decode (ab_code (zx σ n0 bf).1 8207) 38 = .ok (.getfield 335, 3) := zd zm_8207 (by decide +kernel)
theorem d_8207_41 {σ : Nat → Nat} {n0 : Nat} {bf : ab_B} : decode (ab_code (zx σ n0 bf).1 8207) 41 = .ok (.aload_n 0, 1) := zd zm_8207 (by decide +kernel)
theorem d_8207_42 {σ : Nat → Nat} {n0 : Nat} {bf : ab_B} : decode (ab_code (zx σ n0 bf).1 8207) 42 = .ok (.getfield 1240, 3) := zd zm_8207 (by decide +kernel)
theorem d_8207_45 {σ : Nat → Nat} {n0 : Nat} {bf : ab_B} : decode (ab_code (zx σ n0 bf).1 8207) 45 = .ok (.iconst 1, 1) := zd zm_8207 (by decide +kernel)
theorem d_8207_46 {σ : Nat → Nat} {n0 : Nat} {bf : ab_B} : decode (ab_code (zx σ n0 bf).1 8207) 46 = .ok (.isub, 1) := zd zm_8207 (by decide +kernel)
theorem d_8207_47 {σ : Nat → Nat} {n0 : Nat} {bf : ab_B} : decode (ab_code (zx σ n0 bf).1 8207) 47 = .ok (.iaload, 1) := zd zm_8207 (by decide +kernel)
theorem d_8207_48 {σ : Nat → Nat} {n0 : Nat} {bf : ab_B} : decode (ab_code (zx σ n0 bf).1 8207) 48 = .ok (.iaload, 1) := zd zm_8207 (by decide +kernel)
theorem d_8207_49 {σ : Nat → Nat} {n0 : Nat} {bf : ab_B} : decode (ab_code (zx σ n0 bf).1 8207) 49 = .ok (.aload_n 0, 1) := zd zm_8207 (by decide +kernel)
theorem d_8207_50 {σ : Nat → Nat} {n0 : Nat} {bf : ab_B} : decode (ab_code (zx σ n0 bf).1 8207) 50 = .ok (.getfield 218, 3) := zd zm_8207 (by decide +kernel)
theorem d_8207_53 {σ : Nat → Nat} {n0 : Nat} {bf : ab_B} : decode (ab_code (zx σ n0 bf).1 8207) 53 = .ok (.aload_n 0, 1) := zd zm_8207 (by decide +kernel)
theorem d_8207_54 {σ : Nat → Nat} {n0 : Nat} {bf : ab_B} : decode (ab_code (zx σ n0 bf).1 8207) 54 = .ok (.getfield 233, 3) := zd zm_8207 (by decide +kernel)
theorem d_8207_57 {σ : Nat → Nat} {n0 : Nat} {bf : ab_B} : decode (ab_code (zx σ n0 bf).1 8207) 57 = .ok (.iload_n 1, 1) := zd zm_8207 (by decide +kernel)
theorem d_8207_58 {σ : Nat → Nat} {n0 : Nat} {bf : ab_B} : decode (ab_code (zx σ n0 bf).1 8207) 58 = .ok (.iaload, 1) := zd zm_8207 (by decide +kernel)
theorem d_8207_59 {σ : Nat → Nat} {n0 : Nat} {bf : ab_B} : decode (ab_code (zx σ n0 bf).1 8207) 59 = .ok (.iaload, 1) := zd zm_8207 (by decide +kernel)
theorem d_8207_60 {σ : Nat → Nat} {n0 : Nat} {bf : ab_B} : decode (ab_code (zx σ n0 bf).1 8207) 60 = .ok (.isub, 1) := zd zm_8207 (by decide +kernel)
theorem d_8207_61 {σ : Nat → Nat} {n0 : Nat} {bf : ab_B} : decode (ab_code (zx σ n0 bf).1 8207) 61 = .ok (.istore_n 3, 1) := zd zm_8207 (by decide +kernel)
theorem d_8207_62 {σ : Nat → Nat} {n0 : Nat} {bf : ab_B} : decode (ab_code (zx σ n0 bf).1 8207) 62 = .ok (.aload_n 0, 1) := zd zm_8207 (by decide +kernel)
theorem d_8207_63 {σ : Nat → Nat} {n0 : Nat} {bf : ab_B} : decode (ab_code (zx σ n0 bf).1 8207) 63 = .ok (.getfield 1240, 3) := zd zm_8207 (by decide +kernel)
theorem d_8207_66 {σ : Nat → Nat} {n0 : Nat} {bf : ab_B} : decode (ab_code (zx σ n0 bf).1 8207) 66 = .ok (.ifCond .ne 7, 3) := zd zm_8207 (by decide +kernel)
theorem d_8207_69 {σ : Nat → Nat} {n0 : Nat} {bf : ab_B} : decode (ab_code (zx σ n0 bf).1 8207) 69 = .ok (.iconst (-1), 1) := zd zm_8207 (by decide +kernel)
theorem d_8207_70 {σ : Nat → Nat} {n0 : Nat} {bf : ab_B} : decode (ab_code (zx σ n0 bf).1 8207) 70 = .ok (.goto 8, 3) := zd zm_8207 (by decide +kernel)
theorem d_8207_73 {σ : Nat → Nat} {n0 : Nat} {bf : ab_B} : decode (ab_code (zx σ n0 bf).1 8207) 73 = .ok (.aload_n 0, 1) := zd zm_8207 (by decide +kernel)
theorem d_8207_74 {σ : Nat → Nat} {n0 : Nat} {bf : ab_B} : decode (ab_code (zx σ n0 bf).1 8207) 74 = .ok (.iload_n 3, 1) := zd zm_8207 (by decide +kernel)
theorem d_8207_75 {σ : Nat → Nat} {n0 : Nat} {bf : ab_B} : decode (ab_code (zx σ n0 bf).1 8207) 75 = .ok (.invokevirtual 1371, 3) := zd zm_8207 (by decide +kernel)
theorem d_8207_78 {σ : Nat → Nat} {n0 : Nat} {bf : ab_B} : decode (ab_code (zx σ n0 bf).1 8207) 78 = .ok (.istore 4, 2) := zd zm_8207 (by decide +kernel)
theorem d_8207_80 {σ : Nat → Nat} {n0 : Nat} {bf : ab_B} : decode (ab_code (zx σ n0 bf).1 8207) 80 = .ok (.aload_n 0, 1) := zd zm_8207 (by decide +kernel)
theorem d_8207_81 {σ : Nat → Nat} {n0 : Nat} {bf : ab_B} : decode (ab_code (zx σ n0 bf).1 8207) 81 = .ok (.getfield 1240, 3) := zd zm_8207 (by decide +kernel)
theorem d_8207_84 {σ : Nat → Nat} {n0 : Nat} {bf : ab_B} : decode (ab_code (zx σ n0 bf).1 8207) 84 = .ok (.istore 5, 2) := zd zm_8207 (by decide +kernel)
theorem d_8207_86 {σ : Nat → Nat} {n0 : Nat} {bf : ab_B} : decode (ab_code (zx σ n0 bf).1 8207) 86 = .ok (.aload_n 0, 1) := zd zm_8207 (by decide +kernel)
theorem d_8207_87 {σ : Nat → Nat} {n0 : Nat} {bf : ab_B} : decode (ab_code (zx σ n0 bf).1 8207) 87 = .ok (.getfield 224, 3) := zd zm_8207 (by decide +kernel)
theorem d_8207_90 {σ : Nat → Nat} {n0 : Nat} {bf : ab_B} : decode (ab_code (zx σ n0 bf).1 8207) 90 = .ok (.iload_n 1, 1) := zd zm_8207 (by decide +kernel)
theorem d_8207_91 {σ : Nat → Nat} {n0 : Nat} {bf : ab_B} : decode (ab_code (zx σ n0 bf).1 8207) 91 = .ok (.iaload, 1) := zd zm_8207 (by decide +kernel)
theorem d_8207_92 {σ : Nat → Nat} {n0 : Nat} {bf : ab_B} : decode (ab_code (zx σ n0 bf).1 8207) 92 = .ok (.istore 6, 2) := zd zm_8207 (by decide +kernel)
theorem d_8207_94 {σ : Nat → Nat} {n0 : Nat} {bf : ab_B} : decode (ab_code (zx σ n0 bf).1 8207) 94 = .ok (.aload_n 0, 1) := zd zm_8207 (by decide +kernel)
theorem d_8207_95 {σ : Nat → Nat} {n0 : Nat} {bf : ab_B} : decode (ab_code (zx σ n0 bf).1 8207) 95 = .ok (.getfield 221, 3) := zd zm_8207 (by decide +kernel)
theorem d_8207_98 {σ : Nat → Nat} {n0 : Nat} {bf : ab_B} : decode (ab_code (zx σ n0 bf).1 8207) 98 = .ok (.iload_n 1, 1) := zd zm_8207 (by decide +kernel)
theorem d_8207_99 {σ : Nat → Nat} {n0 : Nat} {bf : ab_B} : decode (ab_code (zx σ n0 bf).1 8207) 99 = .ok (.iaload, 1) := zd zm_8207 (by decide +kernel)
theorem d_8207_100 {σ : Nat → Nat} {n0 : Nat} {bf : ab_B} : decode (ab_code (zx σ n0 bf).1 8207) 100 = .ok (.aload_n 0, 1) := zd zm_8207 (by decide +kernel)
theorem d_8207_101 {σ : Nat → Nat} {n0 : Nat} {bf : ab_B} : decode (ab_code (zx σ n0 bf).1 8207) 101 = .ok (.getfield 215, 3) := zd zm_8207 (by decide +kernel)
theorem d_8207_104 {σ : Nat → Nat} {n0 : Nat} {bf : ab_B} : decode (ab_code (zx σ n0 bf).1 8207) 104 = .ok (.iload_n 1, 1) := zd zm_8207 (by decide +kernel)
theorem d_8207_105 {σ : Nat → Nat} {n0 : Nat} {bf : ab_B} : decode (ab_code (zx σ n0 bf).1 8207) 105 = .ok (.iaload, 1) := zd zm_8207 (by decide +kernel)
theorem d_8207_106 {σ : Nat → Nat} {n0 : Nat} {bf : ab_B} : decode (ab_code (zx σ n0 bf).1 8207) 106 = .ok (.ifCond .le 7, 3) := zd zm_8207 (by decide +kernel)
theorem d_8207_109 {σ : Nat → Nat} {n0 : Nat} {bf : ab_B} : decode (ab_code (zx σ n0 bf).1 8207) 109 = .ok (.iconst 1, 1) := zd zm_8207 (by decide +kernel)
theorem d_8207_110 {σ : Nat → Nat} {n0 : Nat} {bf : ab_B} : decode (ab_code (zx σ n0 bf).1 8207) 110 = .ok (.goto 4, 3) := zd zm_8207 (by decide +kernel)
theorem d_8207_113 {σ : Nat → Nat} {n0 : Nat} {bf : ab_B} : decode (ab_code (zx σ n0 bf).1 8207) 113 = .ok (.iconst 0, 1) := zd zm_8207 (by decide +kernel)
theorem d_8207_114 {σ : Nat → Nat} {n0 : Nat} {bf : ab_B} : decode (ab_code (zx σ n0 bf).1 8207) 114 = .ok (.iadd, 1) := zd zm_8207 (by decide +kernel)
theorem d_8207_115 {σ : Nat → Nat} {n0 : Nat} {bf : ab_B} : decode (ab_code (zx σ n0 bf).1 8207) 115 = .ok (.aload_n 0, 1) := zd zm_8207 (by decide +kernel)
theorem d_8207_116 {σ : Nat → Nat} {n0 : Nat} {bf : ab_B} : decode (ab_code (zx σ n0 bf).1 8207) 116 = .ok (.getfield 236, 3) := zd zm_8207 (by decide +kernel)
theorem d_8207_119 {σ : Nat → Nat} {n0 : Nat} {bf : ab_B} : decode (ab_code (zx σ n0 bf).1 8207) 119 = .ok (.iload_n 1, 1) := zd zm_8207 (by decide +kernel)
theorem d_8207_120 {σ : Nat → Nat} {n0 : Nat} {bf : ab_B} : decode (ab_code (zx σ n0 bf).1 8207) 120 = .ok (.iaload, 1) := zd zm_8207 (by decide +kernel)
theorem d_8207_121 {σ : Nat → Nat} {n0 : Nat} {bf : ab_B} : decode (ab_code (zx σ n0 bf).1 8207) 121 = .ok (.iadd, 1) := zd zm_8207 (by decide +kernel)
theorem d_8207_122 {σ : Nat → Nat} {n0 : Nat} {bf : ab_B} : decode (ab_code (zx σ n0 bf).1 8207) 122 = .ok (.istore 7, 2) := zd zm_8207 (by decide +kernel)
theorem d_8207_124 {σ : Nat → Nat} {n0 : Nat} {bf : ab_B} : decode (ab_code (zx σ n0 bf).1 8207) 124 = .ok (.aload_n 0, 1) := zd zm_8207 (by decide +kernel)
theorem d_8207_125 {σ : Nat → Nat} {n0 : Nat} {bf : ab_B} : decode (ab_code (zx σ n0 bf).1 8207) 125 = .ok (.getfield 347, 3) := zd zm_8207 (by decide +kernel)
theorem d_8207_128 {σ : Nat → Nat} {n0 : Nat} {bf : ab_B} : decode (ab_code (zx σ n0 bf).1 8207) 128 = .ok (.iload 5, 2) := zd zm_8207 (by decide +kernel)
theorem d_8207_130 {σ : Nat → Nat} {n0 : Nat} {bf : ab_B} : decode (ab_code (zx σ n0 bf).1 8207) 130 = .ok (.iload 5, 2) := zd zm_8207 (by decide +kernel)
theorem d_8207_132 {σ : Nat → Nat} {n0 : Nat} {bf : ab_B} : decode (ab_code (zx σ n0 bf).1 8207) 132 = .ok (.ifCond .ne 7, 3) := zd zm_8207 (by decide +kernel)
theorem d_8207_135 {σ : Nat → Nat} {n0 : Nat} {bf : ab_B} : decode (ab_code (zx σ n0 bf).1 8207) 135 = .ok (.iconst 0, 1) := zd zm_8207 (by decide +kernel)
theorem d_8207_136 {σ : Nat → Nat} {n0 : Nat} {bf : ab_B} : decode (ab_code (zx σ n0 bf).1 8207) 136 = .ok (.goto 26, 3) := zd zm_8207 (by decide +kernel)
theorem d_8207_139 {σ : Nat → Nat} {n0 : Nat} {bf : ab_B} : decode (ab_code (zx σ n0 bf).1 8207) 139 = .ok (.aload_n 0, 1) := zd zm_8207 (by decide +kernel)
theorem d_8207_140 {σ : Nat → Nat} {n0 : Nat} {bf : ab_B} : decode (ab_code (zx σ n0 bf).1 8207) 140 = .ok (.getfield 347, 3) := zd zm_8207 (by decide +kernel)
theorem d_8207_143 {σ : Nat → Nat} {n0 : Nat} {bf : ab_B} : decode (ab_code (zx σ n0 bf).1 8207) 143 = .ok (.iload 5, 2) := zd zm_8207 (by decide +kernel)
theorem d_8207_145 {σ : Nat → Nat} {n0 : Nat} {bf : ab_B} : decode (ab_code (zx σ n0 bf).1 8207) 145 = .ok (.iconst 1, 1) := zd zm_8207 (by decide +kernel)
theorem d_8207_146 {σ : Nat → Nat} {n0 : Nat} {bf : ab_B} : decode (ab_code (zx σ n0 bf).1 8207) 146 = .ok (.isub, 1) := zd zm_8207 (by decide +kernel)
theorem d_8207_147 {σ : Nat → Nat} {n0 : Nat} {bf : ab_B} : decode (ab_code (zx σ n0 bf).1 8207) 147 = .ok (.iaload, 1) := zd zm_8207 (by decide +kernel)
theorem d_8207_148 {σ : Nat → Nat} {n0 : Nat} {bf : ab_B} : decode (ab_code (zx σ n0 bf).1 8207) 148 = .ok (.aload_n 0, 1) := zd zm_8207 (by decide +kernel)
theorem d_8207_149 {σ : Nat → Nat} {n0 : Nat} {bf : ab_B} : decode (ab_code (zx σ n0 bf).1 8207) 149 = .ok (.aload_n 0, 1) := zd zm_8207 (by decide +kernel)
theorem d_8207_150 {σ : Nat → Nat} {n0 : Nat} {bf : ab_B} : decode (ab_code (zx σ n0 bf).1 8207) 150 = .ok (.getfield 335, 3) := zd zm_8207 (by decide +kernel)
theorem d_8207_153 {σ : Nat → Nat} {n0 : Nat} {bf : ab_B} : decode (ab_code (zx σ n0 bf).1 8207) 153 = .ok (.iload 5, 2) := zd zm_8207 (by decide +kernel)
theorem d_8207_155 {σ : Nat → Nat} {n0 : Nat} {bf : ab_B} : decode (ab_code (zx σ n0 bf).1 8207) 155 = .ok (.iconst 1, 1) := zd zm_8207 (by decide +kernel)
theorem d_8207_156 {σ : Nat → Nat} {n0 : Nat} {bf : ab_B} : decode (ab_code (zx σ n0 bf).1 8207) 156 = .ok (.isub, 1) := zd zm_8207 (by decide +kernel)
theorem d_8207_157 {σ : Nat → Nat} {n0 : Nat} {bf : ab_B} : decode (ab_code (zx σ n0 bf).1 8207) 157 = .ok (.iaload, 1) := zd zm_8207 (by decide +kernel)
theorem d_8207_158 {σ : Nat → Nat} {n0 : Nat} {bf : ab_B} : decode (ab_code (zx σ n0 bf).1 8207) 158 = .ok (.invokevirtual 1374, 3) := zd zm_8207 (by decide +kernel)
theorem d_8207_161 {σ : Nat → Nat} {n0 : Nat} {bf : ab_B} : decode (ab_code (zx σ n0 bf).1 8207) 161 = .ok (.iadd, 1) := zd zm_8207 (by decide +kernel)
theorem d_8207_162 {σ : Nat → Nat} {n0 : Nat} {bf : ab_B} : decode (ab_code (zx σ n0 bf).1 8207) 162 = .ok (.iastore, 1) := zd zm_8207 (by decide +kernel)
theorem d_8207_163 {σ : Nat → Nat} {n0 : Nat} {bf : ab_B} : decode (ab_code (zx σ n0 bf).1 8207) 163 = .ok (.aload_n 0, 1) := zd zm_8207 (by decide +kernel)
theorem d_8207_164 {σ : Nat → Nat} {n0 : Nat} {bf : ab_B} : decode (ab_code (zx σ n0 bf).1 8207) 164 = .ok (.getfield 335, 3) := zd zm_8207 (by decide +kernel)
theorem d_8207_167 {σ : Nat → Nat} {n0 : Nat} {bf : ab_B} : decode (ab_code (zx σ n0 bf).1 8207) 167 = .ok (.iload 5, 2) := zd zm_8207 (by decide +kernel)
theorem d_8207_169 {σ : Nat → Nat} {n0 : Nat} {bf : ab_B} : decode (ab_code (zx σ n0 bf).1 8207) 169 = .ok (.iload_n 1, 1) := zd zm_8207 (by decide +kernel)
theorem d_8207_170 {σ : Nat → Nat} {n0 : Nat} {bf : ab_B} : decode (ab_code (zx σ n0 bf).1 8207) 170 = .ok (.iastore, 1) := zd zm_8207 (by decide +kernel)
theorem d_8207_171 {σ : Nat → Nat} {n0 : Nat} {bf : ab_B} : decode (ab_code (zx σ n0 bf).1 8207) 171 = .ok (.aload_n 0, 1) := zd zm_8207 (by decide +kernel)
theorem d_8207_172 {σ : Nat → Nat} {n0 : Nat} {bf : ab_B} : decode (ab_code (zx σ n0 bf).1 8207) 172 = .ok (.getfield 338, 3) := zd zm_8207 (by decide +kernel)
theorem d_8207_175 {σ : Nat → Nat} {n0 : Nat} {bf : ab_B} : decode (ab_code (zx σ n0 bf).1 8207) 175 = .ok (.iload 5, 2) := zd zm_8207 (by decide +kernel)
theorem d_8207_177 {σ : Nat → Nat} {n0 : Nat} {bf : ab_B} : decode (ab_code (zx σ n0 bf).1 8207) 177 = .ok (.iload_n 2, 1) := zd zm_8207 (by decide +kernel)
theorem d_8207_178 {σ : Nat → Nat} {n0 : Nat} {bf : ab_B} : decode (ab_code (zx σ n0 bf).1 8207) 178 = .ok (.iastore, 1) := zd zm_8207 (by decide +kernel)
theorem d_8207_179 {σ : Nat → Nat} {n0 : Nat} {bf : ab_B} : decode (ab_code (zx σ n0 bf).1 8207) 179 = .ok (.aload_n 0, 1) := zd zm_8207 (by decide +kernel)
theorem d_8207_180 {σ : Nat → Nat} {n0 : Nat} {bf : ab_B} : decode (ab_code (zx σ n0 bf).1 8207) 180 = .ok (.getfield 341, 3) := zd zm_8207 (by decide +kernel)
theorem d_8207_183 {σ : Nat → Nat} {n0 : Nat} {bf : ab_B} : decode (ab_code (zx σ n0 bf).1 8207) 183 = .ok (.iload 5, 2) := zd zm_8207 (by decide +kernel)
theorem d_8207_185 {σ : Nat → Nat} {n0 : Nat} {bf : ab_B} : decode (ab_code (zx σ n0 bf).1 8207) 185 = .ok (.aload_n 0, 1) := zd zm_8207 (by decide +kernel)
theorem d_8207_186 {σ : Nat → Nat} {n0 : Nat} {bf : ab_B} : decode (ab_code (zx σ n0 bf).1 8207) 186 = .ok (.getfield 1377, 3) := zd zm_8207 (by decide +kernel)
theorem d_8207_189 {σ : Nat → Nat} {n0 : Nat} {bf : ab_B} : decode (ab_code (zx σ n0 bf).1 8207) 189 = .ok (.iastore, 1) := zd zm_8207 (by decide +kernel)
theorem d_8207_190 {σ : Nat → Nat} {n0 : Nat} {bf : ab_B} : decode (ab_code (zx σ n0 bf).1 8207) 190 = .ok (.aload_n 0, 1) := zd zm_8207 (by decide +kernel)
theorem d_8207_191 {σ : Nat → Nat} {n0 : Nat} {bf : ab_B} : decode (ab_code (zx σ n0 bf).1 8207) 191 = .ok (.getfield 344, 3) := zd zm_8207 (by decide +kernel)
theorem d_8207_194 {σ : Nat → Nat} {n0 : Nat} {bf : ab_B} : decode (ab_code (zx σ n0 bf).1 8207) 194 = .ok (.iload 5, 2) := zd zm_8207 (by decide +kernel)
theorem d_8207_196 {σ : Nat → Nat} {n0 : Nat} {bf : ab_B} : decode (ab_code (zx σ n0 bf).1 8207) 196 = .ok (.iload 4, 2) := zd zm_8207 (by decide +kernel)
theorem d_8207_198 {σ : Nat → Nat} {n0 : Nat} {bf : ab_B} : decode (ab_code (zx σ n0 bf).1 8207) 198 = .ok (.iastore, 1) := zd zm_8207 (by decide +kernel)
theorem d_8207_199 {σ : Nat → Nat} {n0 : Nat} {bf : ab_B} : decode (ab_code (zx σ n0 bf).1 8207) 199 = .ok (.aload_n 0, 1) := zd zm_8207 (by decide +kernel)
theorem d_8207_200 {σ : Nat → Nat} {n0 : Nat} {bf : ab_B} : decode (ab_code (zx σ n0 bf).1 8207) 200 = .ok (.getfield 353, 3) := zd zm_8207 (by decide +kernel)
theorem d_8207_203 {σ : Nat → Nat} {n0 : Nat} {bf : ab_B} : decode (ab_code (zx σ n0 bf).1 8207) 203 = .ok (.iload 5, 2) := zd zm_8207 (by decide +kernel)
theorem d_8207_205 {σ : Nat → Nat} {n0 : Nat} {bf : ab_B} : decode (ab_code (zx σ n0 bf).1 8207) 205 = .ok (.iconst 0, 1) := zd zm_8207 (by decide +kernel)
theorem d_8207_206 {σ : Nat → Nat} {n0 : Nat} {bf : ab_B} : decode (ab_code (zx σ n0 bf).1 8207) 206 = .ok (.iastore, 1) := zd zm_8207 (by decide +kernel)
theorem d_8207_207 {σ : Nat → Nat} {n0 : Nat} {bf : ab_B} : decode (ab_code (zx σ n0 bf).1 8207) 207 = .ok (.aload_n 0, 1) := zd zm_8207 (by decide +kernel)
theorem d_8207_208 {σ : Nat → Nat} {n0 : Nat} {bf : ab_B} : decode (ab_code (zx σ n0 bf).1 8207) 208 = .ok (.getfield 356, 3) := zd zm_8207 (by decide +kernel)
theorem d_8207_211 {σ : Nat → Nat} {n0 : Nat} {bf : ab_B} : decode (ab_code (zx σ n0 bf).1 8207) 211 = .ok (.iload 5, 2) := zd zm_8207 (by decide +kernel)
theorem d_8207_213 {σ : Nat → Nat} {n0 : Nat} {bf : ab_B} : decode (ab_code (zx σ n0 bf).1 8207) 213 = .ok (.aload_n 0, 1) := zd zm_8207 (by decide +kernel)
theorem d_8207_214 {σ : Nat → Nat} {n0 : Nat} {bf : ab_B} : decode (ab_code (zx σ n0 bf).1 8207) 214 = .ok (.getfield 1246, 3) := zd zm_8207 (by decide +kernel)
theorem d_8207_217 {σ : Nat → Nat} {n0 : Nat} {bf : ab_B} : decode (ab_code (zx σ n0 bf).1 8207) 217 = .ok (.iastore, 1) := zd zm_8207 (by decide +kernel)
theorem d_8207_218 {σ : Nat → Nat} {n0 : Nat} {bf : ab_B} : decode (ab_code (zx σ n0 bf).1 8207) 218 = .ok (.aload_n 0, 1) := zd zm_8207 (by decide +kernel)
theorem d_8207_219 {σ : Nat → Nat} {n0 : Nat} {bf : ab_B} : decode (ab_code (zx σ n0 bf).1 8207) 219 = .ok (.getfield 359, 3) := zd zm_8207 (by decide +kernel)
theorem d_8207_222 {σ : Nat → Nat} {n0 : Nat} {bf : ab_B} : decode (ab_code (zx σ n0 bf).1 8207) 222 = .ok (.iload 5, 2) := zd zm_8207 (by decide +kernel)
theorem d_8207_224 {σ : Nat → Nat} {n0 : Nat} {bf : ab_B} : decode (ab_code (zx σ n0 bf).1 8207) 224 = .ok (.iconst (-1), 1) := zd zm_8207 (by decide +kernel)
theorem d_8207_225 {σ : Nat → Nat} {n0 : Nat} {bf : ab_B} : decode (ab_code (zx σ n0 bf).1 8207) 225 = .ok (.iastore, 1) := zd zm_8207 (by decide +kernel)
theorem d_8207_226 {σ : Nat → Nat} {n0 : Nat} {bf : ab_B} : decode (ab_code (zx σ n0 bf).1 8207) 226 = .ok (.aload_n 0, 1) := zd zm_8207 (by decide +kernel)
theorem d_8207_227 {σ : Nat → Nat} {n0 : Nat} {bf : ab_B} : decode (ab_code (zx σ n0 bf).1 8207) 227 = .ok (.dup, 1) := zd zm_8207 (by decide +kernel)
theorem d_8207_228 {σ : Nat → Nat} {n0 : Nat} {bf : ab_B} : decode (ab_code (zx σ n0 bf).1 8207) 228 = .ok (.getfield 1240, 3) := zd zm_8207 (by decide +kernel)
theorem d_8207_231 {σ : Nat → Nat} {n0 : Nat} {bf : ab_B} : decode (ab_code (zx σ n0 bf).1 8207) 231 = .ok (.iconst 1, 1) := zd zm_8207 (by decide +kernel)
theorem d_8207_232 {σ : Nat → Nat} {n0 : Nat} {bf : ab_B} : decode (ab_code (zx σ n0 bf).1 8207) 232 = .ok (.iadd, 1) := zd zm_8207 (by decide +kernel)
theorem d_8207_233 {σ : Nat → Nat} {n0 : Nat} {bf : ab_B} : decode (ab_code (zx σ n0 bf).1 8207) 233 = .ok (.putfield 1240, 3) := zd zm_8207 (by decide +kernel)
theorem d_8207_236 {σ : Nat → Nat} {n0 : Nat} {bf : ab_B} : decode (ab_code (zx σ n0 bf).1 8207) 236 = .ok (.iconst 0, 1) := zd zm_8207 (by decide +kernel)
theorem d_8207_237 {σ : Nat → Nat} {n0 : Nat} {bf : ab_B} : decode (ab_code (zx σ n0 bf).1 8207) 237 = .ok (.istore 8, 2) := zd zm_8207 (by decide +kernel)
theorem d_8207_239 {σ : Nat → Nat} {n0 : Nat} {bf : ab_B} : decode (ab_code (zx σ n0 bf).1 8207) 239 = .ok (.iload 8, 2) := zd zm_8207 (by decide +kernel)
theorem d_8207_241 {σ : Nat → Nat} {n0 : Nat} {bf : ab_B} : decode (ab_code (zx σ n0 bf).1 8207) 241 = .ok (.iload 7, 2) := zd zm_8207 (by decide +kernel)
theorem d_8207_243 {σ : Nat → Nat} {n0 : Nat} {bf : ab_B} : decode (ab_code (zx σ n0 bf).1 8207) 243 = .ok (.if_icmp .ge 48, 3) := zd zm_8207 (by decide +kernel)
theorem d_8207_246 {σ : Nat → Nat} {n0 : Nat} {bf : ab_B} : decode (ab_code (zx σ n0 bf).1 8207) 246 = .ok (.iload 5, 2) := zd zm_8207 (by decide +kernel)
theorem d_8207_248 {σ : Nat → Nat} {n0 : Nat} {bf : ab_B} : decode (ab_code (zx σ n0 bf).1 8207) 248 = .ok (.bipush 101, 2) := zd zm_8207 (by decide +kernel)
theorem d_8207_250 {σ : Nat → Nat} {n0 : Nat} {bf : ab_B} : decode (ab_code (zx σ n0 bf).1 8207) 250 = .ok (.if_icmp .ge 41, 3) := zd zm_8207 (by decide +kernel)
theorem d_8207_253 {σ : Nat → Nat} {n0 : Nat} {bf : ab_B} : decode (ab_code (zx σ n0 bf).1 8207) 253 = .ok (.aload_n 0, 1) := zd zm_8207 (by decide +kernel)
theorem d_8207_254 {σ : Nat → Nat} {n0 : Nat} {bf : ab_B} : decode (ab_code (zx σ n0 bf).1 8207) 254 = .ok (.getfield 347, 3) := zd zm_8207 (by decide +kernel)
theorem d_8207_257 {σ : Nat → Nat} {n0 : Nat} {bf : ab_B} : decode (ab_code (zx σ n0 bf).1 8207) 257 = .ok (.iload 5, 2) := zd zm_8207 (by decide +kernel)
theorem d_8207_259 {σ : Nat → Nat} {n0 : Nat} {bf : ab_B} : decode (ab_code (zx σ n0 bf).1 8207) 259 = .ok (.iaload, 1) := zd zm_8207 (by decide +kernel)
theorem d_8207_260 {σ : Nat → Nat} {n0 : Nat} {bf : ab_B} : decode (ab_code (zx σ n0 bf).1 8207) 260 = .ok (.iload 8, 2) := zd zm_8207 (by decide +kernel)
theorem d_8207_262 {σ : Nat → Nat} {n0 : Nat} {bf : ab_B} : decode (ab_code (zx σ n0 bf).1 8207) 262 = .ok (.iadd, 1) := zd zm_8207 (by decide +kernel)
theorem d_8207_263 {σ : Nat → Nat} {n0 : Nat} {bf : ab_B} : decode (ab_code (zx σ n0 bf).1 8207) 263 = .ok (.sipush 21000, 3) := zd zm_8207 (by decide +kernel)
theorem d_8207_266 {σ : Nat → Nat} {n0 : Nat} {bf : ab_B} : decode (ab_code (zx σ n0 bf).1 8207) 266 = .ok (.if_icmp .ge 19, 3) := zd zm_8207 (by decide +kernel)
theorem d_8207_269 {σ : Nat → Nat} {n0 : Nat} {bf : ab_B} : decode (ab_code (zx σ n0 bf).1 8207) 269 = .ok (.aload_n 0, 1) := zd zm_8207 (by decide +kernel)
theorem d_8207_270 {σ : Nat → Nat} {n0 : Nat} {bf : ab_B} : decode (ab_code (zx σ n0 bf).1 8207) 270 = .ok (.getfield 365, 3) := zd zm_8207 (by decide +kernel)
theorem d_8207_273 {σ : Nat → Nat} {n0 : Nat} {bf : ab_B} : decode (ab_code (zx σ n0 bf).1 8207) 273 = .ok (.aload_n 0, 1) := zd zm_8207 (by decide +kernel)
theorem d_8207_274 {σ : Nat → Nat} {n0 : Nat} {bf : ab_B} : decode (ab_code (zx σ n0 bf).1 8207) 274 = .ok (.getfield 347, 3) := zd zm_8207 (by decide +kernel)
theorem d_8207_277 {σ : Nat → Nat} {n0 : Nat} {bf : ab_B} : decode (ab_code (zx σ n0 bf).1 8207) 277 = .ok (.iload 5, 2) := zd zm_8207 (by decide +kernel)
theorem d_8207_279 {σ : Nat → Nat} {n0 : Nat} {bf : ab_B} : decode (ab_code (zx σ n0 bf).1 8207) 279 = .ok (.iaload, 1) := zd zm_8207 (by decide +kernel)
theorem d_8207_280 {σ : Nat → Nat} {n0 : Nat} {bf : ab_B} : decode (ab_code (zx σ n0 bf).1 8207) 280 = .ok (.iload 8, 2) := zd zm_8207 (by decide +kernel)
theorem d_8207_282 {σ : Nat → Nat} {n0 : Nat} {bf : ab_B} : decode (ab_code (zx σ n0 bf).1 8207) 282 = .ok (.iadd, 1) := zd zm_8207 (by decide +kernel)
theorem d_8207_283 {σ : Nat → Nat} {n0 : Nat} {bf : ab_B} : decode (ab_code (zx σ n0 bf).1 8207) 283 = .ok (.iconst 0, 1) := zd zm_8207 (by decide +kernel)
theorem d_8207_284 {σ : Nat → Nat} {n0 : Nat} {bf : ab_B} : decode (ab_code (zx σ n0 bf).1 8207) 284 = .ok (.iastore, 1) := zd zm_8207 (by decide +kernel)
theorem d_8207_285 {σ : Nat → Nat} {n0 : Nat} {bf : ab_B} : decode (ab_code (zx σ n0 bf).1 8207) 285 = .ok (.iinc 8 1, 3) := zd zm_8207 (by decide +kernel)
theorem d_8207_288 {σ : Nat → Nat} {n0 : Nat} {bf : ab_B} : decode (ab_code (zx σ n0 bf).1 8207) 288 = .ok (.goto (-49), 3) := zd zm_8207 (by decide +kernel)
theorem d_8207_291 {σ : Nat → Nat} {n0 : Nat} {bf : ab_B} : decode (ab_code (zx σ n0 bf).1 8207) 291 = .ok (.aload_n 0, 1) := zd zm_8207 (by decide +kernel)
theorem d_8207_292 {σ : Nat → Nat} {n0 : Nat} {bf : ab_B} : decode (ab_code (zx σ n0 bf).1 8207) 292 = .ok (.iload 7, 2) := zd zm_8207 (by decide +kernel)
theorem d_8207_294 {σ : Nat → Nat} {n0 : Nat} {bf : ab_B} : decode (ab_code (zx σ n0 bf).1 8207) 294 = .ok (.aload_n 0, 1) := zd zm_8207 (by decide +kernel)
theorem d_8207_295 {σ : Nat → Nat} {n0 : Nat} {bf : ab_B} : decode (ab_code (zx σ n0 bf).1 8207) 295 = .ok (.getfield 311, 3) := zd zm_8207 (by decide +kernel)
theorem d_8207_298 {σ : Nat → Nat} {n0 : Nat} {bf : ab_B} : decode (ab_code (zx σ n0 bf).1 8207) 298 = .ok (.iload_n 1, 1) := zd zm_8207 (by decide +kernel)
theorem d_8207_299 {σ : Nat → Nat} {n0 : Nat} {bf : ab_B} : decode (ab_code (zx σ n0 bf).1 8207) 299 = .ok (.iaload, 1) := zd zm_8207 (by decide +kernel)
theorem d_8207_300 {σ : Nat → Nat} {n0 : Nat} {bf : ab_B} : decode (ab_code (zx σ n0 bf).1 8207) 300 = .ok (.invokevirtual 1362, 3) := zd zm_8207 (by decide +kernel)
theorem d_8207_303 {σ : Nat → Nat} {n0 : Nat} {bf : ab_B} : decode (ab_code (zx σ n0 bf).1 8207) 303 = .ok (.ifCond .ne 4, 3) := zd zm_8207 (by decide +kernel)
theorem d_8207_306 {σ : Nat → Nat} {n0 : Nat} {bf : ab_B} : decode (ab_code (zx σ n0 bf).1 8207) 306 = .ok (.return_, 1) := zd zm_8207 (by decide +kernel)
theorem d_8207_307 {σ : Nat → Nat} {n0 : Nat} {bf : ab_B} : decode (ab_code (zx σ n0 bf).1 8207) 307 = .ok (.iconst 0, 1) := zd zm_8207 (by decide +kernel)
theorem d_8207_308 {σ : Nat → Nat} {n0 : Nat} {bf : ab_B} : decode (ab_code (zx σ n0 bf).1 8207) 308 = .ok (.istore 8, 2) := zd zm_8207 (by decide +kernel)
theorem d_8207_310 {σ : Nat → Nat} {n0 : Nat} {bf : ab_B} : decode (ab_code (zx σ n0 bf).1 8207) 310 = .ok (.iconst 0, 1) := zd zm_8207 (by decide +kernel)
theorem d_8207_311 {σ : Nat → Nat} {n0 : Nat} {bf : ab_B} : decode (ab_code (zx σ n0 bf).1 8207) 311 = .ok (.istore 9, 2) := zd zm_8207 (by decide +kernel)
theorem d_8207_313 {σ : Nat → Nat} {n0 : Nat} {bf : ab_B} : decode (ab_code (zx σ n0 bf).1 8207) 313 = .ok (.iconst 0, 1) := zd zm_8207 (by decide +kernel)
theorem d_8207_314 {σ : Nat → Nat} {n0 : Nat} {bf : ab_B} : decode (ab_code (zx σ n0 bf).1 8207) 314 = .ok (.istore 10, 2) := zd zm_8207 (by decide +kernel)
theorem d_8207_316 {σ : Nat → Nat} {n0 : Nat} {bf : ab_B} : decode (ab_code (zx σ n0 bf).1 8207) 316 = .ok (.iconst 0, 1) := zd zm_8207 (by decide +kernel)
theorem d_8207_317 {σ : Nat → Nat} {n0 : Nat} {bf : ab_B} : decode (ab_code (zx σ n0 bf).1 8207) 317 = .ok (.istore 11, 2) := zd zm_8207 (by decide +kernel)
theorem d_8207_319 {σ : Nat → Nat} {n0 : Nat} {bf : ab_B} : decode (ab_code (zx σ n0 bf).1 8207) 319 = .ok (.iload 11, 2) := zd zm_8207 (by decide +kernel)
theorem d_8207_321 {σ : Nat → Nat} {n0 : Nat} {bf : ab_B} : decode (ab_code (zx σ n0 bf).1 8207) 321 = .ok (.iload 6, 2) := zd zm_8207 (by decide +kernel)
theorem d_8207_323 {σ : Nat → Nat} {n0 : Nat} {bf : ab_B} : decode (ab_code (zx σ n0 bf).1 8207) 323 = .ok (.if_icmp .ge 144, 3) := zd zm_8207 (by decide +kernel)
theorem d_8207_326 {σ : Nat → Nat} {n0 : Nat} {bf : ab_B} : decode (ab_code (zx σ n0 bf).1 8207) 326 = .ok (.aload_n 0, 1) := zd zm_8207 (by decide +kernel)
theorem d_8207_327 {σ : Nat → Nat} {n0 : Nat} {bf : ab_B} : decode (ab_code (zx σ n0 bf).1 8207) 327 = .ok (.getfield 227, 3) := zd zm_8207 (by decide +kernel)
theorem d_8207_330 {σ : Nat → Nat} {n0 : Nat} {bf : ab_B} : decode (ab_code (zx σ n0 bf).1 8207) 330 = .ok (.iload_n 1, 1) := zd zm_8207 (by decide +kernel)
theorem d_8207_331 {σ : Nat → Nat} {n0 : Nat} {bf : ab_B} : decode (ab_code (zx σ n0 bf).1 8207) 331 = .ok (.iaload, 1) := zd zm_8207 (by decide +kernel)
theorem d_8207_332 {σ : Nat → Nat} {n0 : Nat} {bf : ab_B} : decode (ab_code (zx σ n0 bf).1 8207) 332 = .ok (.iload 11, 2) := zd zm_8207 (by decide +kernel)
theorem d_8207_334 {σ : Nat → Nat} {n0 : Nat} {bf : ab_B} : decode (ab_code (zx σ n0 bf).1 8207) 334 = .ok (.iadd, 1) := zd zm_8207 (by decide +kernel)
theorem d_8207_335 {σ : Nat → Nat} {n0 : Nat} {bf : ab_B} : decode (ab_code (zx σ n0 bf).1 8207) 335 = .ok (.istore 12, 2) := zd zm_8207 (by decide +kernel)
theorem d_8207_337 {σ : Nat → Nat} {n0 : Nat} {bf : ab_B} : decode (ab_code (zx σ n0 bf).1 8207) 337 = .ok (.aload_n 0, 1) := zd zm_8207 (by decide +kernel)
theorem d_8207_338 {σ : Nat → Nat} {n0 : Nat} {bf : ab_B} : decode (ab_code (zx σ n0 bf).1 8207) 338 = .ok (.getfield 242, 3) := zd zm_8207 (by decide +kernel)
theorem d_8207_341 {σ : Nat → Nat} {n0 : Nat} {bf : ab_B} : decode (ab_code (zx σ n0 bf).1 8207) 341 = .ok (.iload 12, 2) := zd zm_8207 (by decide +kernel)
theorem d_8207_343 {σ : Nat → Nat} {n0 : Nat} {bf : ab_B} : decode (ab_code (zx σ n0 bf).1 8207) 343 = .ok (.baload, 1) := zd zm_8207 (by decide +kernel)
theorem d_8207_344 {σ : Nat → Nat} {n0 : Nat} {bf : ab_B} : decode (ab_code (zx σ n0 bf).1 8207) 344 = .ok (.ifCond .ne 7, 3) := zd zm_8207 (by decide +kernel)
theorem d_8207_347 {σ : Nat → Nat} {n0 : Nat} {bf : ab_B} : decode (ab_code (zx σ n0 bf).1 8207) 347 = .ok (.iconst 1, 1) := zd zm_8207 (by decide +kernel)
theorem d_8207_348 {σ : Nat → Nat} {n0 : Nat} {bf : ab_B} : decode (ab_code (zx σ n0 bf).1 8207) 348 = .ok (.goto 4, 3) := zd zm_8207 (by decide +kernel)
theorem d_8207_351 {σ : Nat → Nat} {n0 : Nat} {bf : ab_B} : decode (ab_code (zx σ n0 bf).1 8207) 351 = .ok (.iconst 0, 1) := zd zm_8207 (by decide +kernel)
theorem d_8207_352 {σ : Nat → Nat} {n0 : Nat} {bf : ab_B} : decode (ab_code (zx σ n0 bf).1 8207) 352 = .ok (.istore 13, 2) := zd zm_8207 (by decide +kernel)
theorem d_8207_354 {σ : Nat → Nat} {n0 : Nat} {bf : ab_B} : decode (ab_code (zx σ n0 bf).1 8207) 354 = .ok (.iload 8, 2) := zd zm_8207 (by decide +kernel)
theorem d_8207_356 {σ : Nat → Nat} {n0 : Nat} {bf : ab_B} : decode (ab_code (zx σ n0 bf).1 8207) 356 = .ok (.iload 13, 2) := zd zm_8207 (by decide +kernel)
theorem d_8207_358 {σ : Nat → Nat} {n0 : Nat} {bf : ab_B} : decode (ab_code (zx σ n0 bf).1 8207) 358 = .ok (.ifCond .eq 21, 3) := zd zm_8207 (by decide +kernel)
theorem d_8207_361 {σ : Nat → Nat} {n0 : Nat} {bf : ab_B} : decode (ab_code (zx σ n0 bf).1 8207) 361 = .ok (.aload_n 0, 1) := zd zm_8207 (by decide +kernel)
theorem d_8207_362 {σ : Nat → Nat} {n0 : Nat} {bf : ab_B} : decode (ab_code (zx σ n0 bf).1 8207) 362 = .ok (.aload_n 0, 1) := zd zm_8207 (by decide +kernel)
theorem d_8207_363 {σ : Nat → Nat} {n0 : Nat} {bf : ab_B} : decode (ab_code (zx σ n0 bf).1 8207) 363 = .ok (.getfield 239, 3) := zd zm_8207 (by decide +kernel)
theorem d_8207_366 {σ : Nat → Nat} {n0 : Nat} {bf : ab_B} : decode (ab_code (zx σ n0 bf).1 8207) 366 = .ok (.iload 12, 2) := zd zm_8207 (by decide +kernel)
theorem d_8207_368 {σ : Nat → Nat} {n0 : Nat} {bf : ab_B} : decode (ab_code (zx σ n0 bf).1 8207) 368 = .ok (.iaload, 1) := zd zm_8207 (by decide +kernel)
theorem d_8207_369 {σ : Nat → Nat} {n0 : Nat} {bf : ab_B} : decode (ab_code (zx σ n0 bf).1 8207) 369 = .ok (.invokevirtual 1380, 3) := zd zm_8207 (by decide +kernel)
theorem d_8207_372 {σ : Nat → Nat} {n0 : Nat} {bf : ab_B} : decode (ab_code (zx σ n0 bf).1 8207) 372 = .ok (.ifCond .eq 7, 3) := zd zm_8207 (by decide +kernel)
theorem d_8207_375 {σ : Nat → Nat} {n0 : Nat} {bf : ab_B} : decode (ab_code (zx σ n0 bf).1 8207) 375 = .ok (.iconst 1, 1) := zd zm_8207 (by decide +kernel)
theorem d_8207_376 {σ : Nat → Nat} {n0 : Nat} {bf : ab_B} : decode (ab_code (zx σ n0 bf).1 8207) 376 = .ok (.goto 4, 3) := zd zm_8207 (by decide +kernel)
theorem d_8207_379 {σ : Nat → Nat} {n0 : Nat} {bf : ab_B} : decode (ab_code (zx σ n0 bf).1 8207) 379 = .ok (.iconst 0, 1) := zd zm_8207 (by decide +kernel)
theorem d_8207_380 {σ : Nat → Nat} {n0 : Nat} {bf : ab_B} : decode (ab_code (zx σ n0 bf).1 8207) 380 = .ok (.iadd, 1) := zd zm_8207 (by decide +kernel)
theorem d_8207_381 {σ : Nat → Nat} {n0 : Nat} {bf : ab_B} : decode (ab_code (zx σ n0 bf).1 8207) 381 = .ok (.istore 8, 2) := zd zm_8207 (by decide +kernel)
theorem d_8207_383 {σ : Nat → Nat} {n0 : Nat} {bf : ab_B} : decode (ab_code (zx σ n0 bf).1 8207) 383 = .ok (.iload 9, 2) := zd zm_8207 (by decide +kernel)
theorem d_8207_385 {σ : Nat → Nat} {n0 : Nat} {bf : ab_B} : decode (ab_code (zx σ n0 bf).1 8207) 385 = .ok (.iload 13, 2) := zd zm_8207 (by decide +kernel)
theorem d_8207_387 {σ : Nat → Nat} {n0 : Nat} {bf : ab_B} : decode (ab_code (zx σ n0 bf).1 8207) 387 = .ok (.ifCond .eq 24, 3) := zd zm_8207 (by decide +kernel)
theorem d_8207_390 {σ : Nat → Nat} {n0 : Nat} {bf : ab_B} : decode (ab_code (zx σ n0 bf).1 8207) 390 = .ok (.aload_n 0, 1) := zd zm_8207 (by decide +kernel)
theorem d_8207_391 {σ : Nat → Nat} {n0 : Nat} {bf : ab_B} : decode (ab_code (zx σ n0 bf).1 8207) 391 = .ok (.getfield 90, 3) := zd zm_8207 (by decide +kernel)
theorem d_8207_394 {σ : Nat → Nat} {n0 : Nat} {bf : ab_B} : decode (ab_code (zx σ n0 bf).1 8207) 394 = .ok (.aload_n 0, 1) := zd zm_8207 (by decide +kernel)
theorem d_8207_395 {σ : Nat → Nat} {n0 : Nat} {bf : ab_B} : decode (ab_code (zx σ n0 bf).1 8207) 395 = .ok (.getfield 239, 3) := zd zm_8207 (by decide +kernel)
theorem d_8207_398 {σ : Nat → Nat} {n0 : Nat} {bf : ab_B} : decode (ab_code (zx σ n0 bf).1 8207) 398 = .ok (.iload 12, 2) := zd zm_8207 (by decide +kernel)
theorem d_8207_400 {σ : Nat → Nat} {n0 : Nat} {bf : ab_B} : decode (ab_code (zx σ n0 bf).1 8207) 400 = .ok (.iaload, 1) := zd zm_8207 (by decide +kernel)
theorem d_8207_401 {σ : Nat → Nat} {n0 : Nat} {bf : ab_B} : decode (ab_code (zx σ n0 bf).1 8207) 401 = .ok (.baload, 1) := zd zm_8207 (by decide +kernel)
theorem d_8207_402 {σ : Nat → Nat} {n0 : Nat} {bf : ab_B} : decode (ab_code (zx σ n0 bf).1 8207) 402 = .ok (.bipush 7, 2) := zd zm_8207 (by decide +kernel)
theorem d_8207_404 {σ : Nat → Nat} {n0 : Nat} {bf : ab_B} : decode (ab_code (zx σ n0 bf).1 8207) 404 = .ok (.if_icmp .ne 7, 3) := zd zm_8207 (by decide +kernel)
theorem d_8207_407 {σ : Nat → Nat} {n0 : Nat} {bf : ab_B} : decode (ab_code (zx σ n0 bf).1 8207) 407 = .ok (.iconst 1, 1) := zd zm_8207 (by decide +kernel)
theorem d_8207_408 {σ : Nat → Nat} {n0 : Nat} {bf : ab_B} : decode (ab_code (zx σ n0 bf).1 8207) 408 = .ok (.goto 4, 3) := zd zm_8207 (by decide +kernel)
theorem d_8207_411 {σ : Nat → Nat} {n0 : Nat} {bf : ab_B} : decode (ab_code (zx σ n0 bf).1 8207) 411 = .ok (.iconst 0, 1) := zd zm_8207 (by decide +kernel)
theorem d_8207_412 {σ : Nat → Nat} {n0 : Nat} {bf : ab_B} : decode (ab_code (zx σ n0 bf).1 8207) 412 = .ok (.iadd, 1) := zd zm_8207 (by decide +kernel)
theorem d_8207_413 {σ : Nat → Nat} {n0 : Nat} {bf : ab_B} : decode (ab_code (zx σ n0 bf).1 8207) 413 = .ok (.istore 9, 2) := zd zm_8207 (by decide +kernel)
theorem d_8207_415 {σ : Nat → Nat} {n0 : Nat} {bf : ab_B} : decode (ab_code (zx σ n0 bf).1 8207) 415 = .ok (.iload 10, 2) := zd zm_8207 (by decide +kernel)
theorem d_8207_417 {σ : Nat → Nat} {n0 : Nat} {bf : ab_B} : decode (ab_code (zx σ n0 bf).1 8207) 417 = .ok (.iload 13, 2) := zd zm_8207 (by decide +kernel)
theorem d_8207_419 {σ : Nat → Nat} {n0 : Nat} {bf : ab_B} : decode (ab_code (zx σ n0 bf).1 8207) 419 = .ok (.ifCond .eq 38, 3) := zd zm_8207 (by decide +kernel)
theorem d_8207_422 {σ : Nat → Nat} {n0 : Nat} {bf : ab_B} : decode (ab_code (zx σ n0 bf).1 8207) 422 = .ok (.aload_n 0, 1) := zd zm_8207 (by decide +kernel)
theorem d_8207_423 {σ : Nat → Nat} {n0 : Nat} {bf : ab_B} : decode (ab_code (zx σ n0 bf).1 8207) 423 = .ok (.aload_n 0, 1) := zd zm_8207 (by decide +kernel)
theorem d_8207_424 {σ : Nat → Nat} {n0 : Nat} {bf : ab_B} : decode (ab_code (zx σ n0 bf).1 8207) 424 = .ok (.getfield 239, 3) := zd zm_8207 (by decide +kernel)
theorem d_8207_427 {σ : Nat → Nat} {n0 : Nat} {bf : ab_B} : decode (ab_code (zx σ n0 bf).1 8207) 427 = .ok (.iload 12, 2) := zd zm_8207 (by decide +kernel)
theorem d_8207_429 {σ : Nat → Nat} {n0 : Nat} {bf : ab_B} : decode (ab_code (zx σ n0 bf).1 8207) 429 = .ok (.iaload, 1) := zd zm_8207 (by decide +kernel)
theorem d_8207_430 {σ : Nat → Nat} {n0 : Nat} {bf : ab_B} : decode (ab_code (zx σ n0 bf).1 8207) 430 = .ok (.invokevirtual 1380, 3) := zd zm_8207 (by decide +kernel)
theorem d_8207_433 {σ : Nat → Nat} {n0 : Nat} {bf : ab_B} : decode (ab_code (zx σ n0 bf).1 8207) 433 = .ok (.ifCond .ne 20, 3) := zd zm_8207 (by decide +kernel)
theorem d_8207_436 {σ : Nat → Nat} {n0 : Nat} {bf : ab_B} : decode (ab_code (zx σ n0 bf).1 8207) 436 = .ok (.aload_n 0, 1) := zd zm_8207 (by decide +kernel)
theorem d_8207_437 {σ : Nat → Nat} {n0 : Nat} {bf : ab_B} : decode (ab_code (zx σ n0 bf).1 8207) 437 = .ok (.getfield 90, 3) := zd zm_8207 (by decide +kernel)
theorem d_8207_440 {σ : Nat → Nat} {n0 : Nat} {bf : ab_B} : decode (ab_code (zx σ n0 bf).1 8207) 440 = .ok (.aload_n 0, 1) := zd zm_8207 (by decide +kernel)
theorem d_8207_441 {σ : Nat → Nat} {n0 : Nat} {bf : ab_B} : decode (ab_code (zx σ n0 bf).1 8207) 441 = .ok (.getfield 239, 3) := zd zm_8207 (by decide +kernel)
theorem d_8207_444 {σ : Nat → Nat} {n0 : Nat} {bf : ab_B} : decode (ab_code (zx σ n0 bf).1 8207) 444 = .ok (.iload 12, 2) := zd zm_8207 (by decide +kernel)
theorem d_8207_446 {σ : Nat → Nat} {n0 : Nat} {bf : ab_B} : decode (ab_code (zx σ n0 bf).1 8207) 446 = .ok (.iaload, 1) := zd zm_8207 (by decide +kernel)
theorem d_8207_447 {σ : Nat → Nat} {n0 : Nat} {bf : ab_B} : decode (ab_code (zx σ n0 bf).1 8207) 447 = .ok (.baload, 1) := zd zm_8207 (by decide +kernel)
theorem d_8207_448 {σ : Nat → Nat} {n0 : Nat} {bf : ab_B} : decode (ab_code (zx σ n0 bf).1 8207) 448 = .ok (.bipush 7, 2) := zd zm_8207 (by decide +kernel)
theorem d_8207_450 {σ : Nat → Nat} {n0 : Nat} {bf : ab_B} : decode (ab_code (zx σ n0 bf).1 8207) 450 = .ok (.if_icmp .ne 7, 3) := zd zm_8207 (by decide +kernel)
theorem d_8207_453 {σ : Nat → Nat} {n0 : Nat} {bf : ab_B} : decode (ab_code (zx σ n0 bf).1 8207) 453 = .ok (.iconst 0, 1) := zd zm_8207 (by decide +kernel)
theorem d_8207_454 {σ : Nat → Nat} {n0 : Nat} {bf : ab_B} : decode (ab_code (zx σ n0 bf).1 8207) 454 = .ok (.goto 4, 3) := zd zm_8207 (by decide +kernel)
theorem d_8207_457 {σ : Nat → Nat} {n0 : Nat} {bf : ab_B} : decode (ab_code (zx σ n0 bf).1 8207) 457 = .ok (.iconst 1, 1) := zd zm_8207 (by decide +kernel)
theorem d_8207_458 {σ : Nat → Nat} {n0 : Nat} {bf : ab_B} : decode (ab_code (zx σ n0 bf).1 8207) 458 = .ok (.iadd, 1) := zd zm_8207 (by decide +kernel)
theorem d_8207_459 {σ : Nat → Nat} {n0 : Nat} {bf : ab_B} : decode (ab_code (zx σ n0 bf).1 8207) 459 = .ok (.istore 10, 2) := zd zm_8207 (by decide +kernel)
theorem d_8207_461 {σ : Nat → Nat} {n0 : Nat} {bf : ab_B} : decode (ab_code (zx σ n0 bf).1 8207) 461 = .ok (.iinc 11 1, 3) := zd zm_8207 (by decide +kernel)
theorem d_8207_464 {σ : Nat → Nat} {n0 : Nat} {bf : ab_B} : decode (ab_code (zx σ n0 bf).1 8207) 464 = .ok (.goto (-145), 3) := zd zm_8207 (by decide +kernel)
theorem d_8207_467 {σ : Nat → Nat} {n0 : Nat} {bf : ab_B} : decode (ab_code (zx σ n0 bf).1 8207) 467 = .ok (.aload_n 0, 1) := zd zm_8207 (by decide +kernel)
theorem d_8207_468 {σ : Nat → Nat} {n0 : Nat} {bf : ab_B} : decode (ab_code (zx σ n0 bf).1 8207) 468 = .ok (.dup, 1) := zd zm_8207 (by decide +kernel)
theorem d_8207_469 {σ : Nat → Nat} {n0 : Nat} {bf : ab_B} : decode (ab_code (zx σ n0 bf).1 8207) 469 = .ok (.getfield 1261, 3) := zd zm_8207 (by decide +kernel)
theorem d_8207_472 {σ : Nat → Nat} {n0 : Nat} {bf : ab_B} : decode (ab_code (zx σ n0 bf).1 8207) 472 = .ok (.iload 8, 2) := zd zm_8207 (by decide +kernel)
theorem d_8207_474 {σ : Nat → Nat} {n0 : Nat} {bf : ab_B} : decode (ab_code (zx σ n0 bf).1 8207) 474 = .ok (.isub, 1) := zd zm_8207 (by decide +kernel)
theorem d_8207_475 {σ : Nat → Nat} {n0 : Nat} {bf : ab_B} : decode (ab_code (zx σ n0 bf).1 8207) 475 = .ok (.putfield 1261, 3) := zd zm_8207 (by decide +kernel)
theorem d_8207_478 {σ : Nat → Nat} {n0 : Nat} {bf : ab_B} : decode (ab_code (zx σ n0 bf).1 8207) 478 = .ok (.aload_n 0, 1) := zd zm_8207 (by decide +kernel)
theorem d_8207_479 {σ : Nat → Nat} {n0 : Nat} {bf : ab_B} : decode (ab_code (zx σ n0 bf).1 8207) 479 = .ok (.dup, 1) := zd zm_8207 (by decide +kernel)
theorem d_8207_480 {σ : Nat → Nat} {n0 : Nat} {bf : ab_B} : decode (ab_code (zx σ n0 bf).1 8207) 480 = .ok (.getfield 1270, 3) := zd zm_8207 (by decide +kernel)
theorem d_8207_483 {σ : Nat → Nat} {n0 : Nat} {bf : ab_B} : decode (ab_code (zx σ n0 bf).1 8207) 483 = .ok (.iload 10, 2) := zd zm_8207 (by decide +kernel)
theorem d_8207_485 {σ : Nat → Nat} {n0 : Nat} {bf : ab_B} : decode (ab_code (zx σ n0 bf).1 8207) 485 = .ok (.isub, 1) := zd zm_8207 (by decide +kernel)
theorem d_8207_486 {σ : Nat → Nat} {n0 : Nat} {bf : ab_B} : decode (ab_code (zx σ n0 bf).1 8207) 486 = .ok (.putfield 1270, 3) := zd zm_8207 (by decide +kernel)
theorem d_8207_489 {σ : Nat → Nat} {n0 : Nat} {bf : ab_B} : decode (ab_code (zx σ n0 bf).1 8207) 489 = .ok (.aload_n 0, 1) := zd zm_8207 (by decide +kernel)
theorem d_8207_490 {σ : Nat → Nat} {n0 : Nat} {bf : ab_B} : decode (ab_code (zx σ n0 bf).1 8207) 490 = .ok (.getfield 1261, 3) := zd zm_8207 (by decide +kernel)
theorem d_8207_493 {σ : Nat → Nat} {n0 : Nat} {bf : ab_B} : decode (ab_code (zx σ n0 bf).1 8207) 493 = .ok (.istore 11, 2) := zd zm_8207 (by decide +kernel)
theorem d_8207_495 {σ : Nat → Nat} {n0 : Nat} {bf : ab_B} : decode (ab_code (zx σ n0 bf).1 8207) 495 = .ok (.aload_n 0, 1) := zd zm_8207 (by decide +kernel)
theorem d_8207_496 {σ : Nat → Nat} {n0 : Nat} {bf : ab_B} : decode (ab_code (zx σ n0 bf).1 8207) 496 = .ok (.getfield 1264, 3) := zd zm_8207 (by decide +kernel)
theorem d_8207_499 {σ : Nat → Nat} {n0 : Nat} {bf : ab_B} : decode (ab_code (zx σ n0 bf).1 8207) 499 = .ok (.iload 9, 2) := zd zm_8207 (by decide +kernel)
theorem d_8207_501 {σ : Nat → Nat} {n0 : Nat} {bf : ab_B} : decode (ab_code (zx σ n0 bf).1 8207) 501 = .ok (.isub, 1) := zd zm_8207 (by decide +kernel)
theorem d_8207_502 {σ : Nat → Nat} {n0 : Nat} {bf : ab_B} : decode (ab_code (zx σ n0 bf).1 8207) 502 = .ok (.istore 12, 2) := zd zm_8207 (by decide +kernel)
theorem d_8207_504 {σ : Nat → Nat} {n0 : Nat} {bf : ab_B} : decode (ab_code (zx σ n0 bf).1 8207) 504 = .ok (.aload_n 0, 1) := zd zm_8207 (by decide +kernel)
theorem d_8207_505 {σ : Nat → Nat} {n0 : Nat} {bf : ab_B} : decode (ab_code (zx σ n0 bf).1 8207) 505 = .ok (.getfield 1270, 3) := zd zm_8207 (by decide +kernel)
theorem d_8207_508 {σ : Nat → Nat} {n0 : Nat} {bf : ab_B} : decode (ab_code (zx σ n0 bf).1 8207) 508 = .ok (.istore 13, 2) := zd zm_8207 (by decide +kernel)
theorem d_8207_510 {σ : Nat → Nat} {n0 : Nat} {bf : ab_B} : decode (ab_code (zx σ n0 bf).1 8207) 510 = .ok (.iconst 0, 1) := zd zm_8207 (by decide +kernel)
theorem d_8207_511 {σ : Nat → Nat} {n0 : Nat} {bf : ab_B} : decode (ab_code (zx σ n0 bf).1 8207) 511 = .ok (.istore 14, 2) := zd zm_8207 (by decide +kernel)
theorem d_8207_513 {σ : Nat → Nat} {n0 : Nat} {bf : ab_B} : decode (ab_code (zx σ n0 bf).1 8207) 513 = .ok (.iload 14, 2) := zd zm_8207 (by decide +kernel)
theorem d_8207_515 {σ : Nat → Nat} {n0 : Nat} {bf : ab_B} : decode (ab_code (zx σ n0 bf).1 8207) 515 = .ok (.iload 6, 2) := zd zm_8207 (by decide +kernel)
theorem d_8207_517 {σ : Nat → Nat} {n0 : Nat} {bf : ab_B} : decode (ab_code (zx σ n0 bf).1 8207) 517 = .ok (.if_icmp .ge 184, 3) := zd zm_8207 (by decide +kernel)
theorem d_8207_520 {σ : Nat → Nat} {n0 : Nat} {bf : ab_B} : decode (ab_code (zx σ n0 bf).1 8207) 520 = .ok (.aload_n 0, 1) := zd zm_8207 (by decide +kernel)
theorem d_8207_521 {σ : Nat → Nat} {n0 : Nat} {bf : ab_B} : decode (ab_code (zx σ n0 bf).1 8207) 521 = .ok (.getfield 1273, 3) := zd zm_8207 (by decide +kernel)
theorem d_8207_524 {σ : Nat → Nat} {n0 : Nat} {bf : ab_B} : decode (ab_code (zx σ n0 bf).1 8207) 524 = .ok (.ifCond .ne 177, 3) := zd zm_8207 (by decide +kernel)
theorem d_8207_527 {σ : Nat → Nat} {n0 : Nat} {bf : ab_B} : decode (ab_code (zx σ n0 bf).1 8207) 527 = .ok (.aload_n 0, 1) := zd zm_8207 (by decide +kernel)
theorem d_8207_528 {σ : Nat → Nat} {n0 : Nat} {bf : ab_B} : decode (ab_code (zx σ n0 bf).1 8207) 528 = .ok (.getfield 239, 3) := zd zm_8207 (by decide +kernel)
theorem d_8207_531 {σ : Nat → Nat} {n0 : Nat} {bf : ab_B} : decode (ab_code (zx σ n0 bf).1 8207) 531 = .ok (.aload_n 0, 1) := zd zm_8207 (by decide +kernel)
theorem d_8207_532 {σ : Nat → Nat} {n0 : Nat} {bf : ab_B} : decode (ab_code (zx σ n0 bf).1 8207) 532 = .ok (.getfield 227, 3) := zd zm_8207 (by decide +kernel)
theorem d_8207_535 {σ : Nat → Nat} {n0 : Nat} {bf : ab_B} : decode (ab_code (zx σ n0 bf).1 8207) 535 = .ok (.iload_n 1, 1) := zd zm_8207 (by decide +kernel)
theorem d_8207_536 {σ : Nat → Nat} {n0 : Nat} {bf : ab_B} : decode (ab_code (zx σ n0 bf).1 8207) 536 = .ok (.iaload, 1) := zd zm_8207 (by decide +kernel)
theorem d_8207_537 {σ : Nat → Nat} {n0 : Nat} {bf : ab_B} : decode (ab_code (zx σ n0 bf).1 8207) 537 = .ok (.iload 14, 2) := zd zm_8207 (by decide +kernel)
theorem d_8207_539 {σ : Nat → Nat} {n0 : Nat} {bf : ab_B} : decode (ab_code (zx σ n0 bf).1 8207) 539 = .ok (.iadd, 1) := zd zm_8207 (by decide +kernel)
theorem d_8207_540 {σ : Nat → Nat} {n0 : Nat} {bf : ab_B} : decode (ab_code (zx σ n0 bf).1 8207) 540 = .ok (.iaload, 1) := zd zm_8207 (by decide +kernel)
theorem d_8207_541 {σ : Nat → Nat} {n0 : Nat} {bf : ab_B} : decode (ab_code (zx σ n0 bf).1 8207) 541 = .ok (.istore 15, 2) := zd zm_8207 (by decide +kernel)
theorem d_8207_543 {σ : Nat → Nat} {n0 : Nat} {bf : ab_B} : decode (ab_code (zx σ n0 bf).1 8207) 543 = .ok (.aload_n 0, 1) := zd zm_8207 (by decide +kernel)
theorem d_8207_544 {σ : Nat → Nat} {n0 : Nat} {bf : ab_B} : decode (ab_code (zx σ n0 bf).1 8207) 544 = .ok (.getfield 242, 3) := zd zm_8207 (by decide +kernel)
theorem d_8207_547 {σ : Nat → Nat} {n0 : Nat} {bf : ab_B} : decode (ab_code (zx σ n0 bf).1 8207) 547 = .ok (.aload_n 0, 1) := zd zm_8207 (by decide +kernel)
theorem d_8207_548 {σ : Nat → Nat} {n0 : Nat} {bf : ab_B} : decode (ab_code (zx σ n0 bf).1 8207) 548 = .ok (.getfield 227, 3) := zd zm_8207 (by decide +kernel)
theorem d_8207_551 {σ : Nat → Nat} {n0 : Nat} {bf : ab_B} : decode (ab_code (zx σ n0 bf).1 8207) 551 = .ok (.iload_n 1, 1) := zd zm_8207 (by decide +kernel)
theorem d_8207_552 {σ : Nat → Nat} {n0 : Nat} {bf : ab_B} : decode (ab_code (zx σ n0 bf).1 8207) 552 = .ok (.iaload, 1) := zd zm_8207 (by decide +kernel)
theorem d_8207_553 {σ : Nat → Nat} {n0 : Nat} {bf : ab_B} : decode (ab_code (zx σ n0 bf).1 8207) 553 = .ok (.iload 14, 2) := zd zm_8207 (by decide +kernel)
theorem d_8207_555 {σ : Nat → Nat} {n0 : Nat} {bf : ab_B} : decode (ab_code (zx σ n0 bf).1 8207) 555 = .ok (.iadd, 1) := zd zm_8207 (by decide +kernel)
theorem d_8207_556 {σ : Nat → Nat} {n0 : Nat} {bf : ab_B} : decode (ab_code (zx σ n0 bf).1 8207) 556 = .ok (.baload, 1) := zd zm_8207 (by decide +kernel)
theorem d_8207_557 {σ : Nat → Nat} {n0 : Nat} {bf : ab_B} : decode (ab_code (zx σ n0 bf).1 8207) 557 = .ok (.ifCond .ne 7, 3) := zd zm_8207 (by decide +kernel)
theorem d_8207_560 {σ : Nat → Nat} {n0 : Nat} {bf : ab_B} : decode (ab_code (zx σ n0 bf).1 8207) 560 = .ok (.iconst 1, 1) := zd zm_8207 (by decide +kernel)
theorem d_8207_561 {σ : Nat → Nat} {n0 : Nat} {bf : ab_B} : decode (ab_code (zx σ n0 bf).1 8207) 561 = .ok (.goto 4, 3) := zd zm_8207 (by decide +kernel)
theorem d_8207_564 {σ : Nat → Nat} {n0 : Nat} {bf : ab_B} : decode (ab_code (zx σ n0 bf).1 8207) 564 = .ok (.iconst 0, 1) := zd zm_8207 (by decide +kernel)
theorem d_8207_565 {σ : Nat → Nat} {n0 : Nat} {bf : ab_B} : decode (ab_code (zx σ n0 bf).1 8207) 565 = .ok (.istore 16, 2) := zd zm_8207 (by decide +kernel)
theorem d_8207_567 {σ : Nat → Nat} {n0 : Nat} {bf : ab_B} : decode (ab_code (zx σ n0 bf).1 8207) 567 = .ok (.iload 16, 2) := zd zm_8207 (by decide +kernel)
theorem d_8207_569 {σ : Nat → Nat} {n0 : Nat} {bf : ab_B} : decode (ab_code (zx σ n0 bf).1 8207) 569 = .ok (.ifCond .eq 48, 3) := zd zm_8207 (by decide +kernel)
theorem d_8207_572 {σ : Nat → Nat} {n0 : Nat} {bf : ab_B} : decode (ab_code (zx σ n0 bf).1 8207) 572 = .ok (.aload_n 0, 1) := zd zm_8207 (by decide +kernel)
theorem d_8207_573 {σ : Nat → Nat} {n0 : Nat} {bf : ab_B} : decode (ab_code (zx σ n0 bf).1 8207) 573 = .ok (.iload 15, 2) := zd zm_8207 (by decide +kernel)
theorem d_8207_575 {σ : Nat → Nat} {n0 : Nat} {bf : ab_B} : decode (ab_code (zx σ n0 bf).1 8207) 575 = .ok (.invokevirtual 1380, 3) := zd zm_8207 (by decide +kernel)
theorem d_8207_578 {σ : Nat → Nat} {n0 : Nat} {bf : ab_B} : decode (ab_code (zx σ n0 bf).1 8207) 578 = .ok (.ifCond .eq 39, 3) := zd zm_8207 (by decide +kernel)
theorem d_8207_581 {σ : Nat → Nat} {n0 : Nat} {bf : ab_B} : decode (ab_code (zx σ n0 bf).1 8207) 581 = .ok (.aload_n 0, 1) := zd zm_8207 (by decide +kernel)
theorem d_8207_582 {σ : Nat → Nat} {n0 : Nat} {bf : ab_B} : decode (ab_code (zx σ n0 bf).1 8207) 582 = .ok (.aload_n 0, 1) := zd zm_8207 (by decide +kernel)
theorem d_8207_583 {σ : Nat → Nat} {n0 : Nat} {bf : ab_B} : decode (ab_code (zx σ n0 bf).1 8207) 583 = .ok (.getfield 347, 3) := zd zm_8207 (by decide +kernel)
theorem d_8207_586 {σ : Nat → Nat} {n0 : Nat} {bf : ab_B} : decode (ab_code (zx σ n0 bf).1 8207) 586 = .ok (.iload 5, 2) := zd zm_8207 (by decide +kernel)
theorem d_8207_588 {σ : Nat → Nat} {n0 : Nat} {bf : ab_B} : decode (ab_code (zx σ n0 bf).1 8207) 588 = .ok (.iaload, 1) := zd zm_8207 (by decide +kernel)
theorem d_8207_589 {σ : Nat → Nat} {n0 : Nat} {bf : ab_B} : decode (ab_code (zx σ n0 bf).1 8207) 589 = .ok (.iload 14, 2) := zd zm_8207 (by decide +kernel)
theorem d_8207_591 {σ : Nat → Nat} {n0 : Nat} {bf : ab_B} : decode (ab_code (zx σ n0 bf).1 8207) 591 = .ok (.iadd, 1) := zd zm_8207 (by decide +kernel)
theorem d_8207_592 {σ : Nat → Nat} {n0 : Nat} {bf : ab_B} : decode (ab_code (zx σ n0 bf).1 8207) 592 = .ok (.iload 15, 2) := zd zm_8207 (by decide +kernel)
theorem d_8207_594 {σ : Nat → Nat} {n0 : Nat} {bf : ab_B} : decode (ab_code (zx σ n0 bf).1 8207) 594 = .ok (.aload_n 0, 1) := zd zm_8207 (by decide +kernel)
theorem d_8207_595 {σ : Nat → Nat} {n0 : Nat} {bf : ab_B} : decode (ab_code (zx σ n0 bf).1 8207) 595 = .ok (.getfield 399, 3) := zd zm_8207 (by decide +kernel)
theorem d_8207_598 {σ : Nat → Nat} {n0 : Nat} {bf : ab_B} : decode (ab_code (zx σ n0 bf).1 8207) 598 = .ok (.iload 11, 2) := zd zm_8207 (by decide +kernel)
theorem d_8207_600 {σ : Nat → Nat} {n0 : Nat} {bf : ab_B} : decode (ab_code (zx σ n0 bf).1 8207) 600 = .ok (.laload, 1) := zd zm_8207 (by decide +kernel)
theorem d_8207_601 {σ : Nat → Nat} {n0 : Nat} {bf : ab_B} : decode (ab_code (zx σ n0 bf).1 8207) 601 = .ok (.iload_n 2, 1) := zd zm_8207 (by decide +kernel)
theorem d_8207_602 {σ : Nat → Nat} {n0 : Nat} {bf : ab_B} : decode (ab_code (zx σ n0 bf).1 8207) 602 = .ok (.aload_n 0, 1) := zd zm_8207 (by decide +kernel)
theorem d_8207_603 {σ : Nat → Nat} {n0 : Nat} {bf : ab_B} : decode (ab_code (zx σ n0 bf).1 8207) 603 = .ok (.getfield 311, 3) := zd zm_8207 (by decide +kernel)
theorem d_8207_606 {σ : Nat → Nat} {n0 : Nat} {bf : ab_B} : decode (ab_code (zx σ n0 bf).1 8207) 606 = .ok (.iload_n 1, 1) := zd zm_8207 (by decide +kernel)
theorem d_8207_607 {σ : Nat → Nat} {n0 : Nat} {bf : ab_B} : decode (ab_code (zx σ n0 bf).1 8207) 607 = .ok (.iaload, 1) := zd zm_8207 (by decide +kernel)
theorem d_8207_608 {σ : Nat → Nat} {n0 : Nat} {bf : ab_B} : decode (ab_code (zx σ n0 bf).1 8207) 608 = .ok (.invokevirtual 1383, 3) := zd zm_8207 (by decide +kernel)
theorem d_8207_611 {σ : Nat → Nat} {n0 : Nat} {bf : ab_B} : decode (ab_code (zx σ n0 bf).1 8207) 611 = .ok (.iinc 11 1, 3) := zd zm_8207 (by decide +kernel)
theorem d_8207_614 {σ : Nat → Nat} {n0 : Nat} {bf : ab_B} : decode (ab_code (zx σ n0 bf).1 8207) 614 = .ok (.goto 81, 3) := zd zm_8207 (by decide +kernel)
theorem d_8207_617 {σ : Nat → Nat} {n0 : Nat} {bf : ab_B} : decode (ab_code (zx σ n0 bf).1 8207) 617 = .ok (.iload 16, 2) := zd zm_8207 (by decide +kernel)
theorem d_8207_619 {σ : Nat → Nat} {n0 : Nat} {bf : ab_B} : decode (ab_code (zx σ n0 bf).1 8207) 619 = .ok (.ifCond .eq 46, 3) := zd zm_8207 (by decide +kernel)
theorem d_8207_622 {σ : Nat → Nat} {n0 : Nat} {bf : ab_B} : decode (ab_code (zx σ n0 bf).1 8207) 622 = .ok (.aload_n 0, 1) := zd zm_8207 (by decide +kernel)
theorem d_8207_623 {σ : Nat → Nat} {n0 : Nat} {bf : ab_B} : decode (ab_code (zx σ n0 bf).1 8207) 623 = .ok (.getfield 90, 3) := zd zm_8207 (by decide +kernel)
theorem d_8207_626 {σ : Nat → Nat} {n0 : Nat} {bf : ab_B} : decode (ab_code (zx σ n0 bf).1 8207) 626 = .ok (.iload 15, 2) := zd zm_8207 (by decide +kernel)
theorem d_8207_628 {σ : Nat → Nat} {n0 : Nat} {bf : ab_B} : decode (ab_code (zx σ n0 bf).1 8207) 628 = .ok (.baload, 1) := zd zm_8207 (by decide +kernel)
theorem d_8207_629 {σ : Nat → Nat} {n0 : Nat} {bf : ab_B} : decode (ab_code (zx σ n0 bf).1 8207) 629 = .ok (.bipush 7, 2) := zd zm_8207 (by decide +kernel)
theorem d_8207_631 {σ : Nat → Nat} {n0 : Nat} {bf : ab_B} : decode (ab_code (zx σ n0 bf).1 8207) 631 = .ok (.if_icmp .ne 34, 3) := zd zm_8207 (by decide +kernel)
theorem d_8207_634 {σ : Nat → Nat} {n0 : Nat} {bf : ab_B} : decode (ab_code (zx σ n0 bf).1 8207) 634 = .ok (.aload_n 0, 1) := zd zm_8207 (by decide +kernel)
theorem d_8207_635 {σ : Nat → Nat} {n0 : Nat} {bf : ab_B} : decode (ab_code (zx σ n0 bf).1 8207) 635 = .ok (.aload_n 0, 1) := zd zm_8207 (by decide +kernel)
theorem d_8207_636 {σ : Nat → Nat} {n0 : Nat} {bf : ab_B} : decode (ab_code (zx σ n0 bf).1 8207) 636 = .ok (.getfield 347, 3) := zd zm_8207 (by decide +kernel)
theorem d_8207_639 {σ : Nat → Nat} {n0 : Nat} {bf : ab_B} : decode (ab_code (zx σ n0 bf).1 8207) 639 = .ok (.iload 5, 2) := zd zm_8207 (by decide +kernel)
theorem d_8207_641 {σ : Nat → Nat} {n0 : Nat} {bf : ab_B} : decode (ab_code (zx σ n0 bf).1 8207) 641 = .ok (.iaload, 1) := zd zm_8207 (by decide +kernel)
theorem d_8207_642 {σ : Nat → Nat} {n0 : Nat} {bf : ab_B} : decode (ab_code (zx σ n0 bf).1 8207) 642 = .ok (.iload 14, 2) := zd zm_8207 (by decide +kernel)
theorem d_8207_644 {σ : Nat → Nat} {n0 : Nat} {bf : ab_B} : decode (ab_code (zx σ n0 bf).1 8207) 644 = .ok (.iadd, 1) := zd zm_8207 (by decide +kernel)
theorem d_8207_645 {σ : Nat → Nat} {n0 : Nat} {bf : ab_B} : decode (ab_code (zx σ n0 bf).1 8207) 645 = .ok (.iload 15, 2) := zd zm_8207 (by decide +kernel)
theorem d_8207_647 {σ : Nat → Nat} {n0 : Nat} {bf : ab_B} : decode (ab_code (zx σ n0 bf).1 8207) 647 = .ok (.iload 12, 2) := zd zm_8207 (by decide +kernel)
theorem d_8207_649 {σ : Nat → Nat} {n0 : Nat} {bf : ab_B} : decode (ab_code (zx σ n0 bf).1 8207) 649 = .ok (.iload_n 2, 1) := zd zm_8207 (by decide +kernel)
theorem d_8207_650 {σ : Nat → Nat} {n0 : Nat} {bf : ab_B} : decode (ab_code (zx σ n0 bf).1 8207) 650 = .ok (.aload_n 0, 1) := zd zm_8207 (by decide +kernel)
theorem d_8207_651 {σ : Nat → Nat} {n0 : Nat} {bf : ab_B} : decode (ab_code (zx σ n0 bf).1 8207) 651 = .ok (.getfield 311, 3) := zd zm_8207 (by decide +kernel)
theorem d_8207_654 {σ : Nat → Nat} {n0 : Nat} {bf : ab_B} : decode (ab_code (zx σ n0 bf).1 8207) 654 = .ok (.iload_n 1, 1) := zd zm_8207 (by decide +kernel)
theorem d_8207_655 {σ : Nat → Nat} {n0 : Nat} {bf : ab_B} : decode (ab_code (zx σ n0 bf).1 8207) 655 = .ok (.iaload, 1) := zd zm_8207 (by decide +kernel)
theorem d_8207_656 {σ : Nat → Nat} {n0 : Nat} {bf : ab_B} : decode (ab_code (zx σ n0 bf).1 8207) 656 = .ok (.invokevirtual 1387, 3) := zd zm_8207 (by decide +kernel)
theorem d_8207_659 {σ : Nat → Nat} {n0 : Nat} {bf : ab_B} : decode (ab_code (zx σ n0 bf).1 8207) 659 = .ok (.iinc 12 1, 3) := zd zm_8207 (by decide +kernel)
theorem d_8207_662 {σ : Nat → Nat} {n0 : Nat} {bf : ab_B} : decode (ab_code (zx σ n0 bf).1 8207) 662 = .ok (.goto 33, 3) := zd zm_8207 (by decide +kernel)
theorem d_8207_665 {σ : Nat → Nat} {n0 : Nat} {bf : ab_B} : decode (ab_code (zx σ n0 bf).1 8207) 665 = .ok (.aload_n 0, 1) := zd zm_8207 (by decide +kernel)
theorem d_8207_666 {σ : Nat → Nat} {n0 : Nat} {bf : ab_B} : decode (ab_code (zx σ n0 bf).1 8207) 666 = .ok (.aload_n 0, 1) := zd zm_8207 (by decide +kernel)
theorem d_8207_667 {σ : Nat → Nat} {n0 : Nat} {bf : ab_B} : decode (ab_code (zx σ n0 bf).1 8207) 667 = .ok (.getfield 347, 3) := zd zm_8207 (by decide +kernel)
theorem d_8207_670 {σ : Nat → Nat} {n0 : Nat} {bf : ab_B} : decode (ab_code (zx σ n0 bf).1 8207) 670 = .ok (.iload 5, 2) := zd zm_8207 (by decide +kernel)
theorem d_8207_672 {σ : Nat → Nat} {n0 : Nat} {bf : ab_B} : decode (ab_code (zx σ n0 bf).1 8207) 672 = .ok (.iaload, 1) := zd zm_8207 (by decide +kernel)
theorem d_8207_673 {σ : Nat → Nat} {n0 : Nat} {bf : ab_B} : decode (ab_code (zx σ n0 bf).1 8207) 673 = .ok (.iload 14, 2) := zd zm_8207 (by decide +kernel)
theorem d_8207_675 {σ : Nat → Nat} {n0 : Nat} {bf : ab_B} : decode (ab_code (zx σ n0 bf).1 8207) 675 = .ok (.iadd, 1) := zd zm_8207 (by decide +kernel)
theorem d_8207_676 {σ : Nat → Nat} {n0 : Nat} {bf : ab_B} : decode (ab_code (zx σ n0 bf).1 8207) 676 = .ok (.iload 15, 2) := zd zm_8207 (by decide +kernel)
theorem d_8207_678 {σ : Nat → Nat} {n0 : Nat} {bf : ab_B} : decode (ab_code (zx σ n0 bf).1 8207) 678 = .ok (.iload 13, 2) := zd zm_8207 (by decide +kernel)
theorem d_8207_680 {σ : Nat → Nat} {n0 : Nat} {bf : ab_B} : decode (ab_code (zx σ n0 bf).1 8207) 680 = .ok (.iload 16, 2) := zd zm_8207 (by decide +kernel)
theorem d_8207_682 {σ : Nat → Nat} {n0 : Nat} {bf : ab_B} : decode (ab_code (zx σ n0 bf).1 8207) 682 = .ok (.iload_n 2, 1) := zd zm_8207 (by decide +kernel)
theorem d_8207_683 {σ : Nat → Nat} {n0 : Nat} {bf : ab_B} : decode (ab_code (zx σ n0 bf).1 8207) 683 = .ok (.aload_n 0, 1) := zd zm_8207 (by decide +kernel)
theorem d_8207_684 {σ : Nat → Nat} {n0 : Nat} {bf : ab_B} : decode (ab_code (zx σ n0 bf).1 8207) 684 = .ok (.getfield 311, 3) := zd zm_8207 (by decide +kernel)
theorem d_8207_687 {σ : Nat → Nat} {n0 : Nat} {bf : ab_B} : decode (ab_code (zx σ n0 bf).1 8207) 687 = .ok (.iload_n 1, 1) := zd zm_8207 (by decide +kernel)
theorem d_8207_688 {σ : Nat → Nat} {n0 : Nat} {bf : ab_B} : decode (ab_code (zx σ n0 bf).1 8207) 688 = .ok (.iaload, 1) := zd zm_8207 (by decide +kernel)
theorem d_8207_689 {σ : Nat → Nat} {n0 : Nat} {bf : ab_B} : decode (ab_code (zx σ n0 bf).1 8207) 689 = .ok (.invokevirtual 1391, 3) := zd zm_8207 (by decide +kernel)
theorem d_8207_692 {σ : Nat → Nat} {n0 : Nat} {bf : ab_B} : decode (ab_code (zx σ n0 bf).1 8207) 692 = .ok (.iinc 13 1, 3) := zd zm_8207 (by decide +kernel)
theorem d_8207_695 {σ : Nat → Nat} {n0 : Nat} {bf : ab_B} : decode (ab_code (zx σ n0 bf).1 8207) 695 = .ok (.iinc 14 1, 3) := zd zm_8207 (by decide +kernel)
theorem d_8207_698 {σ : Nat → Nat} {n0 : Nat} {bf : ab_B} : decode (ab_code (zx σ n0 bf).1 8207) 698 = .ok (.goto (-185), 3) := zd zm_8207 (by decide +kernel)
theorem d_8207_701 {σ : Nat → Nat} {n0 : Nat} {bf : ab_B} : decode (ab_code (zx σ n0 bf).1 8207) 701 = .ok (.iload 9, 2) := zd zm_8207 (by decide +kernel)
theorem d_8207_703 {σ : Nat → Nat} {n0 : Nat} {bf : ab_B} : decode (ab_code (zx σ n0 bf).1 8207) 703 = .ok (.ifCond .le 13, 3) := zd zm_8207 (by decide +kernel)
theorem d_8207_706 {σ : Nat → Nat} {n0 : Nat} {bf : ab_B} : decode (ab_code (zx σ n0 bf).1 8207) 706 = .ok (.aload_n 0, 1) := zd zm_8207 (by decide +kernel)
theorem d_8207_707 {σ : Nat → Nat} {n0 : Nat} {bf : ab_B} : decode (ab_code (zx σ n0 bf).1 8207) 707 = .ok (.invokevirtual 1323, 3) := zd zm_8207 (by decide +kernel)
theorem d_8207_710 {σ : Nat → Nat} {n0 : Nat} {bf : ab_B} : decode (ab_code (zx σ n0 bf).1 8207) 710 = .ok (.iinc 9 (-1), 3) := zd zm_8207 (by decide +kernel)
theorem d_8207_713 {σ : Nat → Nat} {n0 : Nat} {bf : ab_B} : decode (ab_code (zx σ n0 bf).1 8207) 713 = .ok (.goto (-12), 3) := zd zm_8207 (by decide +kernel)
theorem d_8207_716 {σ : Nat → Nat} {n0 : Nat} {bf : ab_B} : decode (ab_code (zx σ n0 bf).1 8207) 716 = .ok (.aload_n 0, 1) := zd zm_8207 (by decide +kernel)
theorem d_8207_717 {σ : Nat → Nat} {n0 : Nat} {bf : ab_B} : decode (ab_code (zx σ n0 bf).1 8207) 717 = .ok (.getfield 1273, 3) := zd zm_8207 (by decide +kernel)
theorem d_8207_720 {σ : Nat → Nat} {n0 : Nat} {bf : ab_B} : decode (ab_code (zx σ n0 bf).1 8207) 720 = .ok (.ifCond .ne 54, 3) := zd zm_8207 (by decide +kernel)
theorem d_8207_723 {σ : Nat → Nat} {n0 : Nat} {bf : ab_B} : decode (ab_code (zx σ n0 bf).1 8207) 723 = .ok (.aload_n 0, 1) := zd zm_8207 (by decide +kernel)
theorem d_8207_724 {σ : Nat → Nat} {n0 : Nat} {bf : ab_B} : decode (ab_code (zx σ n0 bf).1 8207) 724 = .ok (.getfield 215, 3) := zd zm_8207 (by decide +kernel)
theorem d_8207_727 {σ : Nat → Nat} {n0 : Nat} {bf : ab_B} : decode (ab_code (zx σ n0 bf).1 8207) 727 = .ok (.iload_n 1, 1) := zd zm_8207 (by decide +kernel)
theorem d_8207_728 {σ : Nat → Nat} {n0 : Nat} {bf : ab_B} : decode (ab_code (zx σ n0 bf).1 8207) 728 = .ok (.iaload, 1) := zd zm_8207 (by decide +kernel)
theorem d_8207_729 {σ : Nat → Nat} {n0 : Nat} {bf : ab_B} : decode (ab_code (zx σ n0 bf).1 8207) 729 = .ok (.ifCond .le 45, 3) := zd zm_8207 (by decide +kernel)
theorem d_8207_732 {σ : Nat → Nat} {n0 : Nat} {bf : ab_B} : decode (ab_code (zx σ n0 bf).1 8207) 732 = .ok (.aload_n 0, 1) := zd zm_8207 (by decide +kernel)
theorem d_8207_733 {σ : Nat → Nat} {n0 : Nat} {bf : ab_B} : decode (ab_code (zx σ n0 bf).1 8207) 733 = .ok (.aload_n 0, 1) := zd zm_8207 (by decide +kernel)
theorem d_8207_734 {σ : Nat → Nat} {n0 : Nat} {bf : ab_B} : decode (ab_code (zx σ n0 bf).1 8207) 734 = .ok (.getfield 215, 3) := zd zm_8207 (by decide +kernel)
theorem d_8207_737 {σ : Nat → Nat} {n0 : Nat} {bf : ab_B} : decode (ab_code (zx σ n0 bf).1 8207) 737 = .ok (.iload_n 1, 1) := zd zm_8207 (by decide +kernel)
theorem d_8207_738 {σ : Nat → Nat} {n0 : Nat} {bf : ab_B} : decode (ab_code (zx σ n0 bf).1 8207) 738 = .ok (.iaload, 1) := zd zm_8207 (by decide +kernel)
theorem d_8207_739 {σ : Nat → Nat} {n0 : Nat} {bf : ab_B} : decode (ab_code (zx σ n0 bf).1 8207) 739 = .ok (.invokevirtual 1395, 3) := zd zm_8207 (by decide +kernel)
theorem d_8207_742 {σ : Nat → Nat} {n0 : Nat} {bf : ab_B} : decode (ab_code (zx σ n0 bf).1 8207) 742 = .ok (.aload_n 0, 1) := zd zm_8207 (by decide +kernel)
theorem d_8207_743 {σ : Nat → Nat} {n0 : Nat} {bf : ab_B} : decode (ab_code (zx σ n0 bf).1 8207) 743 = .ok (.aload_n 0, 1) := zd zm_8207 (by decide +kernel)
theorem d_8207_744 {σ : Nat → Nat} {n0 : Nat} {bf : ab_B} : decode (ab_code (zx σ n0 bf).1 8207) 744 = .ok (.getfield 347, 3) := zd zm_8207 (by decide +kernel)
theorem d_8207_747 {σ : Nat → Nat} {n0 : Nat} {bf : ab_B} : decode (ab_code (zx σ n0 bf).1 8207) 747 = .ok (.iload 5, 2) := zd zm_8207 (by decide +kernel)
theorem d_8207_749 {σ : Nat → Nat} {n0 : Nat} {bf : ab_B} : decode (ab_code (zx σ n0 bf).1 8207) 749 = .ok (.iaload, 1) := zd zm_8207 (by decide +kernel)
theorem d_8207_750 {σ : Nat → Nat} {n0 : Nat} {bf : ab_B} : decode (ab_code (zx σ n0 bf).1 8207) 750 = .ok (.aload_n 0, 1) := zd zm_8207 (by decide +kernel)
theorem d_8207_751 {σ : Nat → Nat} {n0 : Nat} {bf : ab_B} : decode (ab_code (zx σ n0 bf).1 8207) 751 = .ok (.getfield 221, 3) := zd zm_8207 (by decide +kernel)
theorem d_8207_754 {σ : Nat → Nat} {n0 : Nat} {bf : ab_B} : decode (ab_code (zx σ n0 bf).1 8207) 754 = .ok (.iload_n 1, 1) := zd zm_8207 (by decide +kernel)
theorem d_8207_755 {σ : Nat → Nat} {n0 : Nat} {bf : ab_B} : decode (ab_code (zx σ n0 bf).1 8207) 755 = .ok (.iaload, 1) := zd zm_8207 (by decide +kernel)
theorem d_8207_756 {σ : Nat → Nat} {n0 : Nat} {bf : ab_B} : decode (ab_code (zx σ n0 bf).1 8207) 756 = .ok (.iadd, 1) := zd zm_8207 (by decide +kernel)
theorem d_8207_757 {σ : Nat → Nat} {n0 : Nat} {bf : ab_B} : decode (ab_code (zx σ n0 bf).1 8207) 757 = .ok (.aload_n 0, 1) := zd zm_8207 (by decide +kernel)
theorem d_8207_758 {σ : Nat → Nat} {n0 : Nat} {bf : ab_B} : decode (ab_code (zx σ n0 bf).1 8207) 758 = .ok (.getfield 215, 3) := zd zm_8207 (by decide +kernel)
theorem d_8207_761 {σ : Nat → Nat} {n0 : Nat} {bf : ab_B} : decode (ab_code (zx σ n0 bf).1 8207) 761 = .ok (.iload_n 1, 1) := zd zm_8207 (by decide +kernel)
theorem d_8207_762 {σ : Nat → Nat} {n0 : Nat} {bf : ab_B} : decode (ab_code (zx σ n0 bf).1 8207) 762 = .ok (.iaload, 1) := zd zm_8207 (by decide +kernel)
theorem d_8207_763 {σ : Nat → Nat} {n0 : Nat} {bf : ab_B} : decode (ab_code (zx σ n0 bf).1 8207) 763 = .ok (.aload_n 0, 1) := zd zm_8207 (by decide +kernel)
theorem d_8207_764 {σ : Nat → Nat} {n0 : Nat} {bf : ab_B} : decode (ab_code (zx σ n0 bf).1 8207) 764 = .ok (.getfield 311, 3) := zd zm_8207 (by decide +kernel)
theorem d_8207_767 {σ : Nat → Nat} {n0 : Nat} {bf : ab_B} : decode (ab_code (zx σ n0 bf).1 8207) 767 = .ok (.iload_n 1, 1) := zd zm_8207 (by decide +kernel)
theorem d_8207_768 {σ : Nat → Nat} {n0 : Nat} {bf : ab_B} : decode (ab_code (zx σ n0 bf).1 8207) 768 = .ok (.iaload, 1) := zd zm_8207 (by decide +kernel)
theorem d_8207_769 {σ : Nat → Nat} {n0 : Nat} {bf : ab_B} : decode (ab_code (zx σ n0 bf).1 8207) 769 = .ok (.invokevirtual 1398, 3) := zd zm_8207 (by decide +kernel)
theorem d_8207_772 {σ : Nat → Nat} {n0 : Nat} {bf : ab_B} : decode (ab_code (zx σ n0 bf).1 8207) 772 = .ok (.istore 14, 2) := zd zm_8207 (by decide +kernel)
theorem d_8207_774 {σ : Nat → Nat} {n0 : Nat} {bf : ab_B} : decode (ab_code (zx σ n0 bf).1 8207) 774 = .ok (.aload_n 0, 1) := zd zm_8207 (by decide +kernel)
theorem d_8207_775 {σ : Nat → Nat} {n0 : Nat} {bf : ab_B} : decode (ab_code (zx σ n0 bf).1 8207) 775 = .ok (.aload_n 0, 1) := zd zm_8207 (by decide +kernel)
theorem d_8207_776 {σ : Nat → Nat} {n0 : Nat} {bf : ab_B} : decode (ab_code (zx σ n0 bf).1 8207) 776 = .ok (.getfield 212, 3) := zd zm_8207 (by decide +kernel)
theorem d_8207_779 {σ : Nat → Nat} {n0 : Nat} {bf : ab_B} : decode (ab_code (zx σ n0 bf).1 8207) 779 = .ok (.iload_n 1, 1) := zd zm_8207 (by decide +kernel)
theorem d_8207_780 {σ : Nat → Nat} {n0 : Nat} {bf : ab_B} : decode (ab_code (zx σ n0 bf).1 8207) 780 = .ok (.iaload, 1) := zd zm_8207 (by decide +kernel)
theorem d_8207_781 {σ : Nat → Nat} {n0 : Nat} {bf : ab_B} : decode (ab_code (zx σ n0 bf).1 8207) 781 = .ok (.putfield 1377, 3) := zd zm_8207 (by decide +kernel)
theorem d_8207_784 {σ : Nat → Nat} {n0 : Nat} {bf : ab_B} : decode (ab_code (zx σ n0 bf).1 8207) 784 = .ok (.return_, 1) := zd zm_8207 (by decide +kernel)
def w_X9_call_2_218 (X : zs_X) (d : Nat) (p0 : Nat) (p1 : Int32) (p2 : Int32) (p5 : Int32) (p6 : Int32) (p7 : Int32) (S : zs_T) (Q : zs_Q) : Prop :=
  (zs_K S p0 = some (.inl 8) ∧ ∃ b2, (zs_R S 8164 p0) = some b2 ∧ zs_A S b2 0 p5 ∧ ab_n0 X.1 ≤ b2 ∧ ∀ S6, S6 = zs_si S b2 p5.toNatClampNeg (-1 : Int32) → ab_n0 X.1 ≤ p0 ∧ ∀ S10, S10 = zs_sI S6 8165 p0 ((zs_I S6 8165 p0) + (1 : Int32)) → zs_U X d 8207 239 [(0, .ref p0), (1, .int p1), (2, .int p2), (5, .int p5), (6, .int p6), (7, .int p7), (8, .int (0 : Int32))] [] S10 Q)
theorem u_X9_call_2_218 {σ : Nat → Nat} {n0 : Nat} {bf : ab_B} {d : Nat} {p0 : Nat} {p1 : Int32} {p2 : Int32} {p5 : Int32} {p6 : Int32} {p7 : Int32} {S : zs_T} {Q : zs_Q} (hB : zt_B bf) (h : w_X9_call_2_218 (zx σ n0 bf) d p0 p1 p2 p5 p6 p7 S Q) : zs_U (zx σ n0 bf) d 8207 218 [(0, .ref p0), (1, .int p1), (2, .int p2), (5, .int p5), (6, .int p6), (7, .int p7)] [] S Q := by
  unfold w_X9_call_2_218 at h
  refine zu_aload_n d_8207_218 rfl (zs_ra _) ?_
  obtain ⟨k1, h⟩ := h
  refine zg_8_359 rfl d_8207_219 k1 ?_
  refine zu_iload d_8207_222 rfl ?_
  refine zu_iconst d_8207_224 zi_m1 ?_
  obtain ⟨b2, e3, h⟩ := h
  refine zs_stk2 (zs_rfe e3) ?_
  obtain ⟨k4, h⟩ := h
  obtain ⟨k5, h⟩ := h
  refine zu_iast (k := 0) d_8207_225 rfl rfl k5 k4 ?_
  generalize e7 : zs_si S b2 p5.toNatClampNeg (-1 : Int32) = S6
  have h := h S6 e7.symm
  have K8 : ∀ b, zs_K S6 b = zs_K S b := zs_Kt e7 (zs_Ksi _ _ _ _) (fun _ => rfl)
  refine zu_aload_n d_8207_226 rfl (zs_ra _) ?_
  refine zu_dup d_8207_227 rfl ?_
  refine zg_8_1240 rfl d_8207_228 ((K8 _).trans k1) ?_
  refine zu_iconst d_8207_231 zi_1 ?_
  refine zu_stk d_8207_232 rfl rfl ?_
  obtain ⟨k9, h⟩ := h
  refine zp_8_1240 (v := ((zs_I S6 8165 p0) + (1 : Int32))) rfl d_8207_233 ((K8 _).trans k1) k9 ?_
  generalize e11 : zs_sI S6 8165 p0 ((zs_I S6 8165 p0) + (1 : Int32)) = S10
  have h := h S10 e11.symm
  have K12 : ∀ b, zs_K S10 b = zs_K S b := zs_Kt e11 (zs_KsI _ _ _ _) K8
  refine zu_iconst d_8207_236 zi_0 ?_
  refine zu_istore d_8207_237 (zs_lt zq_8207 rfl) ?_
  exact h.weak ⟨rfl, rfl, rfl, rfl, rfl, rfl, rfl, trivial⟩
def w_X9_call_2_190 (X : zs_X) (d : Nat) (p0 : Nat) (p1 : Int32) (p2 : Int32) (p4 : Int32) (p5 : Int32) (p6 : Int32) (p7 : Int32) (S : zs_T) (Q : zs_Q) : Prop :=
  (zs_K S p0 = some (.inl 8) ∧ ∃ b2, (zs_R S 8159 p0) = some b2 ∧ zs_A S b2 0 p5 ∧ ab_n0 X.1 ≤ b2 ∧ ∀ S6, S6 = zs_si S b2 p5.toNatClampNeg p4 → ∃ b9, (zs_R S6 8162 p0) = some b9 ∧ zs_A S b9 0 p5 ∧ ab_n0 X.1 ≤ b9 ∧ ∀ S13, S13 = zs_si S6 b9 p5.toNatClampNeg (0 : Int32) → ∃ b16, (zs_R S13 8163 p0) = some b16 ∧ zs_A S b16 0 p5 ∧ ab_n0 X.1 ≤ b16 ∧ ∀ S20, S20 = zs_si S13 b16 p5.toNatClampNeg (zs_I S13 8173 p0) → w_X9_call_2_218 X d p0 p1 p2 p5 p6 p7 S20 Q)
theorem u_X9_call_2_190 {σ : Nat → Nat} {n0 : Nat} {bf : ab_B} {d : Nat} {p0 : Nat} {p1 : Int32} {p2 : Int32} {p4 : Int32} {p5 : Int32} {p6 : Int32} {p7 : Int32} {S : zs_T} {Q : zs_Q} (hB : zt_B bf) (h : w_X9_call_2_190 (zx σ n0 bf) d p0 p1 p2 p4 p5 p6 p7 S Q) : zs_U (zx σ n0 bf) d 8207 190 [(0, .ref p0), (1, .int p1), (2, .int p2), (4, .int p4), (5, .int p5), (6, .int p6), (7, .int p7)] [] S Q := by
  unfold w_X9_call_2_190 at h
  refine zu_aload_n d_8207_190 rfl (zs_ra _) ?_
  obtain ⟨k1, h⟩ := h
  refine zg_8_344 rfl d_8207_191 k1 ?_
  refine zu_iload d_8207_194 rfl ?_
  refine zu_iload d_8207_196 rfl ?_
  obtain ⟨b2, e3, h⟩ := h
  refine zs_stk2 (zs_rfe e3) ?_
  obtain ⟨k4, h⟩ := h
  obtain ⟨k5, h⟩ := h
  refine zu_iast (k := 0) d_8207_198 rfl rfl k5 k4 ?_
  generalize e7 : zs_si S b2 p5.toNatClampNeg p4 = S6
  have h := h S6 e7.symm
  have K8 : ∀ b, zs_K S6 b = zs_K S b := zs_Kt e7 (zs_Ksi _ _ _ _) (fun _ => rfl)
  refine zu_aload_n d_8207_199 rfl (zs_ra _) ?_
  refine zg_8_353 rfl d_8207_200 ((K8 _).trans k1) ?_
  refine zu_iload d_8207_203 rfl ?_
  refine zu_iconst d_8207_205 zi_0 ?_
  obtain ⟨b9, e10, h⟩ := h
  refine zs_stk2 (zs_rfe e10) ?_
  obtain ⟨k11, h⟩ := h
  obtain ⟨k12, h⟩ := h
  refine zu_iast (k := 0) d_8207_206 rfl rfl k12 (zs_Ak K8 k11) ?_
  generalize e14 : zs_si S6 b9 p5.toNatClampNeg (0 : Int32) = S13
  have h := h S13 e14.symm
  have K15 : ∀ b, zs_K S13 b = zs_K S b := zs_Kt e14 (zs_Ksi _ _ _ _) K8
  refine zu_aload_n d_8207_207 rfl (zs_ra _) ?_
  refine zg_8_356 rfl d_8207_208 ((K15 _).trans k1) ?_
  refine zu_iload d_8207_211 rfl ?_
  refine zu_aload_n d_8207_213 rfl (zs_ra _) ?_
  refine zg_8_1246 rfl d_8207_214 ((K15 _).trans k1) ?_
  obtain ⟨b16, e17, h⟩ := h
  refine zs_stk2 (zs_rfe e17) ?_
  obtain ⟨k18, h⟩ := h
  obtain ⟨k19, h⟩ := h
  refine zu_iast (k := 0) d_8207_217 rfl rfl k19 (zs_Ak K15 k18) ?_
  generalize e21 : zs_si S13 b16 p5.toNatClampNeg (zs_I S13 8173 p0) = S20
  have h := h S20 e21.symm
  have K22 : ∀ b, zs_K S20 b = zs_K S b := zs_Kt e21 (zs_Ksi _ _ _ _) K15
  exact (u_X9_call_2_218 hB h).weak ⟨rfl, rfl, rfl, rfl, rfl, rfl, trivial⟩
def w_X9_call_2_162 (X : zs_X) (d : Nat) (p0 : Nat) (p1 : Int32) (p2 : Int32) (p4 : Int32) (p5 : Int32) (p6 : Int32) (p7 : Int32) (q0 : Option Nat) (q1 : Int32) (q2 : Int32) (S : zs_T) (Q : zs_Q) : Prop :=
  (∃ b1, q0 = some b1 ∧ zs_A S b1 0 q1 ∧ ab_n0 X.1 ≤ b1 ∧ ∀ S5, S5 = zs_si S b1 q1.toNatClampNeg q2 → zs_K S p0 = some (.inl 8) ∧ ∃ b9, (zs_R S5 8156 p0) = some b9 ∧ zs_A S b9 0 p5 ∧ ab_n0 X.1 ≤ b9 ∧ ∀ S13, S13 = zs_si S5 b9 p5.toNatClampNeg p1 → ∃ b16, (zs_R S13 8157 p0) = some b16 ∧ zs_A S b16 0 p5 ∧ ab_n0 X.1 ≤ b16 ∧ ∀ S20, S20 = zs_si S13 b16 p5.toNatClampNeg p2 → ∃ b23, (zs_R S20 8158 p0) = some b23 ∧ zs_A S b23 0 p5 ∧ ab_n0 X.1 ≤ b23 ∧ ∀ S27, S27 = zs_si S20 b23 p5.toNatClampNeg (zs_I S20 8199 p0) → w_X9_call_2_190 X d p0 p1 p2 p4 p5 p6 p7 S27 Q)
theorem u_X9_call_2_162 {σ : Nat → Nat} {n0 : Nat} {bf : ab_B} {d : Nat} {p0 : Nat} {p1 : Int32} {p2 : Int32} {p4 : Int32} {p5 : Int32} {p6 : Int32} {p7 : Int32} {q0 : Option Nat} {q1 : Int32} {q2 : Int32} {S : zs_T} {Q : zs_Q} (hB : zt_B bf) (h : w_X9_call_2_162 (zx σ n0 bf) d p0 p1 p2 p4 p5 p6 p7 q0 q1 q2 S Q) : zs_U (zx σ n0 bf) d 8207 162 [(0, .ref p0), (1, .int p1), (2, .int p2), (4, .int p4), (5, .int p5), (6, .int p6), (7, .int p7)] [.int q2, .int q1, va_rf q0] S Q := by
  unfold w_X9_call_2_162 at h
  obtain ⟨b1, e2, h⟩ := h
  refine zs_stk2 (zs_rfe e2) ?_
  obtain ⟨k3, h⟩ := h
  obtain ⟨k4, h⟩ := h
  refine zu_iast (k := 0) d_8207_162 rfl rfl k4 k3 ?_
  generalize e6 : zs_si S b1 q1.toNatClampNeg q2 = S5
  have h := h S5 e6.symm
  have K7 : ∀ b, zs_K S5 b = zs_K S b := zs_Kt e6 (zs_Ksi _ _ _ _) (fun _ => rfl)
  refine zu_aload_n d_8207_163 rfl (zs_ra _) ?_
  obtain ⟨k8, h⟩ := h
  refine zg_8_335 rfl d_8207_164 ((K7 _).trans k8) ?_
  refine zu_iload d_8207_167 rfl ?_
  refine zu_iload_n d_8207_169 rfl ?_
  obtain ⟨b9, e10, h⟩ := h
  refine zs_stk2 (zs_rfe e10) ?_
  obtain ⟨k11, h⟩ := h
  obtain ⟨k12, h⟩ := h
  refine zu_iast (k := 0) d_8207_170 rfl rfl k12 (zs_Ak K7 k11) ?_
  generalize e14 : zs_si S5 b9 p5.toNatClampNeg p1 = S13
  have h := h S13 e14.symm
  have K15 : ∀ b, zs_K S13 b = zs_K S b := zs_Kt e14 (zs_Ksi _ _ _ _) K7
  refine zu_aload_n d_8207_171 rfl (zs_ra _) ?_
  refine zg_8_338 rfl d_8207_172 ((K15 _).trans k8) ?_
  refine zu_iload d_8207_175 rfl ?_
  refine zu_iload_n d_8207_177 rfl ?_
  obtain ⟨b16, e17, h⟩ := h
  refine zs_stk2 (zs_rfe e17) ?_
  obtain ⟨k18, h⟩ := h
  obtain ⟨k19, h⟩ := h
  refine zu_iast (k := 0) d_8207_178 rfl rfl k19 (zs_Ak K15 k18) ?_
  generalize e21 : zs_si S13 b16 p5.toNatClampNeg p2 = S20
  have h := h S20 e21.symm
  have K22 : ∀ b, zs_K S20 b = zs_K S b := zs_Kt e21 (zs_Ksi _ _ _ _) K15
  refine zu_aload_n d_8207_179 rfl (zs_ra _) ?_
  refine zg_8_341 rfl d_8207_180 ((K22 _).trans k8) ?_
  refine zu_iload d_8207_183 rfl ?_
  refine zu_aload_n d_8207_185 rfl (zs_ra _) ?_
  refine zg_8_1377 rfl d_8207_186 ((K22 _).trans k8) ?_
  obtain ⟨b23, e24, h⟩ := h
  refine zs_stk2 (zs_rfe e24) ?_
  obtain ⟨k25, h⟩ := h
  obtain ⟨k26, h⟩ := h
  refine zu_iast (k := 0) d_8207_189 rfl rfl k26 (zs_Ak K22 k25) ?_
  generalize e28 : zs_si S20 b23 p5.toNatClampNeg (zs_I S20 8199 p0) = S27
  have h := h S27 e28.symm
  have K29 : ∀ b, zs_K S27 b = zs_K S b := zs_Kt e28 (zs_Ksi _ _ _ _) K22
  exact (u_X9_call_2_190 hB h).weak ⟨rfl, rfl, rfl, rfl, rfl, rfl, rfl, trivial⟩
def w_X9_call_2_114 (X : zs_X) (d : Nat) (p0 : Nat) (p1 : Int32) (p2 : Int32) (p4 : Int32) (p5 : Int32) (p6 : Int32) (q0 : Int32) (q1 : Int32) (S : zs_T) (Q : zs_Q) : Prop :=
  (zs_K S p0 = some (.inl 8) ∧ ∃ b2, (zs_R S 8107 p0) = some b2 ∧ zs_A S b2 0 p1 ∧ ((¬ p5 = 0 → (∃ b6, (zs_R S 8160 p0) = some b6 ∧ zs_A S b6 0 (p5 - (1 : Int32)) ∧ ∃ b9, (zs_R S 8156 p0) = some b9 ∧ zs_A S b9 0 (p5 - (1 : Int32)) ∧ zs_C X d 8210 [.ref p0, .int (zs_i S b9 (p5 - (1 : Int32)).toNatClampNeg)] S (zs_kI (fun v13 S12 => (w_X9_call_2_162 X d p0 p1 p2 p4 p5 p6 ((q0 + q1) + (zs_i S b2 p1.toNatClampNeg)) (zs_R S 8160 p0) p5 ((zs_i S b6 (p5 - (1 : Int32)).toNatClampNeg) + v13) S12 Q)) Q))) ∧ (¬ (¬ p5 = 0) → (w_X9_call_2_162 X d p0 p1 p2 p4 p5 p6 ((q0 + q1) + (zs_i S b2 p1.toNatClampNeg)) (zs_R S 8160 p0) p5 (0 : Int32) S Q))))
theorem u_X9_call_2_114 {σ : Nat → Nat} {n0 : Nat} {bf : ab_B} {d : Nat} {p0 : Nat} {p1 : Int32} {p2 : Int32} {p4 : Int32} {p5 : Int32} {p6 : Int32} {q0 : Int32} {q1 : Int32} {S : zs_T} {Q : zs_Q} (hB : zt_B bf) (h : w_X9_call_2_114 (zx σ n0 bf) d p0 p1 p2 p4 p5 p6 q0 q1 S Q) : zs_U (zx σ n0 bf) d 8207 114 [(0, .ref p0), (1, .int p1), (2, .int p2), (4, .int p4), (5, .int p5), (6, .int p6)] [.int q1, .int q0] S Q := by
  unfold w_X9_call_2_114 at h
  refine zu_stk d_8207_114 rfl rfl ?_
  refine zu_aload_n d_8207_115 rfl (zs_ra _) ?_
  obtain ⟨k1, h⟩ := h
  refine zg_8_236 rfl d_8207_116 k1 ?_
  refine zu_iload_n d_8207_119 rfl ?_
  obtain ⟨b2, e3, h⟩ := h
  refine zs_stk1 (zs_rfe e3) ?_
  obtain ⟨k4, h⟩ := h
  refine zu_iald (k := 0) d_8207_120 rfl rfl k4 ?_
  refine zu_stk d_8207_121 rfl rfl ?_
  refine zu_istore d_8207_122 (zs_lt zq_8207 rfl) ?_
  refine zu_aload_n d_8207_124 rfl (zs_ra _) ?_
  refine zg_8_347 rfl d_8207_125 k1 ?_
  refine zu_iload d_8207_128 rfl ?_
  refine zu_iload d_8207_130 rfl ?_
  refine zu_ifne (t := 139) d_8207_132 rfl (fun c5 => ?_) (fun c5 => ?_)
  · have h := h.1 c5
    refine zu_aload_n d_8207_139 rfl (zs_ra _) ?_
    refine zg_8_347 rfl d_8207_140 k1 ?_
    refine zu_iload d_8207_143 rfl ?_
    refine zu_iconst d_8207_145 zi_1 ?_
    refine zu_stk d_8207_146 rfl rfl ?_
    obtain ⟨b6, e7, h⟩ := h
    refine zs_stk1 (zs_rfe e7) ?_
    obtain ⟨k8, h⟩ := h
    refine zu_iald (k := 0) d_8207_147 rfl rfl k8 ?_
    refine zu_aload_n d_8207_148 rfl (zs_ra _) ?_
    refine zu_aload_n d_8207_149 rfl (zs_ra _) ?_
    refine zg_8_335 rfl d_8207_150 k1 ?_
    refine zu_iload d_8207_153 rfl ?_
    refine zu_iconst d_8207_155 zi_1 ?_
    refine zu_stk d_8207_156 rfl rfl ?_
    obtain ⟨b9, e10, h⟩ := h
    refine zs_stk1 (zs_rfe e10) ?_
    obtain ⟨k11, h⟩ := h
    refine zu_iald (k := 0) d_8207_157 rfl rfl k11 ?_
    refine zc_8_1374 (x0 := (zs_i S b9 (p5 - (1 : Int32)).toNatClampNeg)) hB rfl k1 d_8207_158 (by simp only [List.map_cons, List.map_nil, List.sum_cons, List.sum_nil, zs_cat, zs_cI, zs_cJ, zs_cA]; exact Nat.le_of_ble_eq_true rfl) h (fun v13 S12 h => ?_)
    refine zu_stk d_8207_161 rfl rfl ?_
    exact (u_X9_call_2_162 hB h).weak ⟨rfl, rfl, rfl, rfl, rfl, rfl, rfl, trivial⟩
  · have h := h.2 c5
    refine zu_iconst d_8207_135 zi_0 ?_
    refine zu_goto (t := 162) d_8207_136 rfl ?_
    exact (u_X9_call_2_162 hB h).weak ⟨rfl, rfl, rfl, rfl, rfl, rfl, rfl, trivial⟩
def w_X9_call_2_78 (X : zs_X) (d : Nat) (p0 : Nat) (p1 : Int32) (p2 : Int32) (q0 : Int32) (S : zs_T) (Q : zs_Q) : Prop :=
  (zs_K S p0 = some (.inl 8) ∧ ∃ b2, (zs_R S 8103 p0) = some b2 ∧ zs_A S b2 0 p1 ∧ ∃ b5, (zs_R S 8102 p0) = some b5 ∧ zs_A S b5 0 p1 ∧ ∃ b8, (zs_R S 8100 p0) = some b8 ∧ zs_A S b8 0 p1 ∧ (((zs_i S b8 p1.toNatClampNeg) ≤ 0 → (w_X9_call_2_114 X d p0 p1 p2 q0 (zs_I S 8165 p0) (zs_i S b2 p1.toNatClampNeg) (zs_i S b5 p1.toNatClampNeg) (0 : Int32) S Q)) ∧ (¬ ((zs_i S b8 p1.toNatClampNeg) ≤ 0) → (w_X9_call_2_114 X d p0 p1 p2 q0 (zs_I S 8165 p0) (zs_i S b2 p1.toNatClampNeg) (zs_i S b5 p1.toNatClampNeg) (1 : Int32) S Q))))
theorem u_X9_call_2_78 {σ : Nat → Nat} {n0 : Nat} {bf : ab_B} {d : Nat} {p0 : Nat} {p1 : Int32} {p2 : Int32} {q0 : Int32} {S : zs_T} {Q : zs_Q} (hB : zt_B bf) (h : w_X9_call_2_78 (zx σ n0 bf) d p0 p1 p2 q0 S Q) : zs_U (zx σ n0 bf) d 8207 78 [(0, .ref p0), (1, .int p1), (2, .int p2)] [.int q0] S Q := by
  unfold w_X9_call_2_78 at h
  refine zu_istore d_8207_78 (zs_lt zq_8207 rfl) ?_
  refine zu_aload_n d_8207_80 rfl (zs_ra _) ?_
  obtain ⟨k1, h⟩ := h
  refine zg_8_1240 rfl d_8207_81 k1 ?_
  refine zu_istore d_8207_84 (zs_lt zq_8207 rfl) ?_
  refine zu_aload_n d_8207_86 rfl (zs_ra _) ?_
  refine zg_8_224 rfl d_8207_87 k1 ?_
  refine zu_iload_n d_8207_90 rfl ?_
  obtain ⟨b2, e3, h⟩ := h
  refine zs_stk1 (zs_rfe e3) ?_
  obtain ⟨k4, h⟩ := h
  refine zu_iald (k := 0) d_8207_91 rfl rfl k4 ?_
  refine zu_istore d_8207_92 (zs_lt zq_8207 rfl) ?_
  refine zu_aload_n d_8207_94 rfl (zs_ra _) ?_
  refine zg_8_221 rfl d_8207_95 k1 ?_
  refine zu_iload_n d_8207_98 rfl ?_
  obtain ⟨b5, e6, h⟩ := h
  refine zs_stk1 (zs_rfe e6) ?_
  obtain ⟨k7, h⟩ := h
  refine zu_iald (k := 0) d_8207_99 rfl rfl k7 ?_
  refine zu_aload_n d_8207_100 rfl (zs_ra _) ?_
  refine zg_8_215 rfl d_8207_101 k1 ?_
  refine zu_iload_n d_8207_104 rfl ?_
  obtain ⟨b8, e9, h⟩ := h
  refine zs_stk1 (zs_rfe e9) ?_
  obtain ⟨k10, h⟩ := h
  refine zu_iald (k := 0) d_8207_105 rfl rfl k10 ?_
  refine zu_ifle (t := 113) d_8207_106 rfl (fun c11 => ?_) (fun c11 => ?_)
  · have h := h.1 c11
    refine zu_iconst d_8207_113 zi_0 ?_
    exact (u_X9_call_2_114 hB h).weak ⟨rfl, rfl, rfl, rfl, rfl, rfl, trivial⟩
  · have h := h.2 c11
    refine zu_iconst d_8207_109 zi_1 ?_
    refine zu_goto (t := 114) d_8207_110 rfl ?_
    exact (u_X9_call_2_114 hB h).weak ⟨rfl, rfl, rfl, rfl, rfl, rfl, trivial⟩
def w_X9_call_2_61 (X : zs_X) (d : Nat) (p0 : Nat) (p1 : Int32) (p2 : Int32) (q0 : Int32) (S : zs_T) (Q : zs_Q) : Prop :=
  (zs_K S p0 = some (.inl 8) ∧ ((¬ (zs_I S 8165 p0) = 0 → (zs_C X d 8209 [.ref p0, .int q0] S (zs_kI (fun v4 S3 => w_X9_call_2_78 X d p0 p1 p2 v4 S3 Q) Q))) ∧ (¬ (¬ (zs_I S 8165 p0) = 0) → (w_X9_call_2_78 X d p0 p1 p2 (-1 : Int32) S Q))))
theorem u_X9_call_2_61 {σ : Nat → Nat} {n0 : Nat} {bf : ab_B} {d : Nat} {p0 : Nat} {p1 : Int32} {p2 : Int32} {q0 : Int32} {S : zs_T} {Q : zs_Q} (hB : zt_B bf) (h : w_X9_call_2_61 (zx σ n0 bf) d p0 p1 p2 q0 S Q) : zs_U (zx σ n0 bf) d 8207 61 [(0, .ref p0), (1, .int p1), (2, .int p2)] [.int q0] S Q := by
  unfold w_X9_call_2_61 at h
  refine zu_istore_n d_8207_61 (zs_lt zq_8207 rfl) ?_
  refine zu_aload_n d_8207_62 rfl (zs_ra _) ?_
  obtain ⟨k1, h⟩ := h
  refine zg_8_1240 rfl d_8207_63 k1 ?_
  refine zu_ifne (t := 73) d_8207_66 rfl (fun c2 => ?_) (fun c2 => ?_)
  · have h := h.1 c2
    refine zu_aload_n d_8207_73 rfl (zs_ra _) ?_
    refine zu_iload_n d_8207_74 rfl ?_
    refine zc_8_1371 (x0 := q0) hB rfl k1 d_8207_75 (Nat.le_of_ble_eq_true rfl) h (fun v4 S3 h => ?_)
    exact (u_X9_call_2_78 hB h).weak ⟨rfl, rfl, rfl, trivial⟩
  · have h := h.2 c2
    refine zu_iconst d_8207_69 zi_m1 ?_
    refine zu_goto (t := 78) d_8207_70 rfl ?_
    exact (u_X9_call_2_78 hB h).weak ⟨rfl, rfl, rfl, trivial⟩
def w_X9_call_2_291 (X : zs_X) (d : Nat) (p0 : Nat) (p1 : Int32) (p2 : Int32) (p5 : Int32) (p6 : Int32) (p7 : Int32) (S : zs_T) (Q : zs_Q) : Prop :=
  (zs_K S p0 = some (.inl 8) ∧ ∃ b2, (zs_R S 8145 p0) = some b2 ∧ zs_A S b2 0 p1 ∧ zs_C X d 8211 [.ref p0, .int p7, .int (zs_i S b2 p1.toNatClampNeg)] S (zs_kI (fun v6 S5 => (((¬ v6 = 0 → (zs_U X d 8207 319 [(0, .ref p0), (1, .int p1), (2, .int p2), (5, .int p5), (6, .int p6), (8, .int (0 : Int32)), (9, .int (0 : Int32)), (10, .int (0 : Int32)), (11, .int (0 : Int32))] [] S5 Q)) ∧ (¬ (¬ v6 = 0) → (Q (.returned none) S5))))) Q))
theorem u_X9_call_2_291 {σ : Nat → Nat} {n0 : Nat} {bf : ab_B} {d : Nat} {p0 : Nat} {p1 : Int32} {p2 : Int32} {p5 : Int32} {p6 : Int32} {p7 : Int32} {S : zs_T} {Q : zs_Q} (hB : zt_B bf) (h : w_X9_call_2_291 (zx σ n0 bf) d p0 p1 p2 p5 p6 p7 S Q) : zs_U (zx σ n0 bf) d 8207 291 [(0, .ref p0), (1, .int p1), (2, .int p2), (5, .int p5), (6, .int p6), (7, .int p7)] [] S Q := by
  unfold w_X9_call_2_291 at h
  refine zu_aload_n d_8207_291 rfl (zs_ra _) ?_
  refine zu_iload d_8207_292 rfl ?_
  refine zu_aload_n d_8207_294 rfl (zs_ra _) ?_
  obtain ⟨k1, h⟩ := h
  refine zg_8_311 rfl d_8207_295 k1 ?_
  refine zu_iload_n d_8207_298 rfl ?_
  obtain ⟨b2, e3, h⟩ := h
  refine zs_stk1 (zs_rfe e3) ?_
  obtain ⟨k4, h⟩ := h
  refine zu_iald (k := 0) d_8207_299 rfl rfl k4 ?_
  refine zc_8_1362 (x0 := p7) (x1 := (zs_i S b2 p1.toNatClampNeg)) hB rfl k1 d_8207_300 (Nat.le_of_ble_eq_true rfl) h (fun v6 S5 h => ?_)
  refine zu_ifne (t := 307) d_8207_303 rfl (fun c7 => ?_) (fun c7 => ?_)
  · have h := h.1 c7
    refine zu_iconst d_8207_307 zi_0 ?_
    refine zu_istore d_8207_308 (zs_lt zq_8207 rfl) ?_
    refine zu_iconst d_8207_310 zi_0 ?_
    refine zu_istore d_8207_311 (zs_lt zq_8207 rfl) ?_
    refine zu_iconst d_8207_313 zi_0 ?_
    refine zu_istore d_8207_314 (zs_lt zq_8207 rfl) ?_
    refine zu_iconst d_8207_316 zi_0 ?_
    refine zu_istore d_8207_317 (zs_lt zq_8207 rfl) ?_
    exact h.weak ⟨rfl, rfl, rfl, rfl, rfl, rfl, rfl, rfl, rfl, trivial⟩
  · have h := h.2 c7
    exact zu_vret d_8207_306 zr_8207 h
def w_X9_call_2_285 (X : zs_X) (d : Nat) (p0 : Nat) (p1 : Int32) (p2 : Int32) (p5 : Int32) (p6 : Int32) (p7 : Int32) (p8 : Int32) (S : zs_T) (Q : zs_Q) : Prop :=
  (zs_U X d 8207 239 [(0, .ref p0), (1, .int p1), (2, .int p2), (5, .int p5), (6, .int p6), (7, .int p7), (8, .int (p8 + (1 : Int32)))] [] S Q)
theorem u_X9_call_2_285 {σ : Nat → Nat} {n0 : Nat} {bf : ab_B} {d : Nat} {p0 : Nat} {p1 : Int32} {p2 : Int32} {p5 : Int32} {p6 : Int32} {p7 : Int32} {p8 : Int32} {S : zs_T} {Q : zs_Q} (hB : zt_B bf) (h : w_X9_call_2_285 (zx σ n0 bf) d p0 p1 p2 p5 p6 p7 p8 S Q) : zs_U (zx σ n0 bf) d 8207 285 [(0, .ref p0), (1, .int p1), (2, .int p2), (5, .int p5), (6, .int p6), (7, .int p7), (8, .int p8)] [] S Q := by
  unfold w_X9_call_2_285 at h
  refine zu_iinc d_8207_285 rfl zi_1 (zs_lt zq_8207 rfl) ?_
  refine zu_goto (t := 239) d_8207_288 rfl ?_
  exact h.weak ⟨rfl, rfl, rfl, rfl, rfl, rfl, rfl, trivial⟩
def w_X9_call_2_239 (X : zs_X) (d : Nat) (p0 : Nat) (p1 : Int32) (p2 : Int32) (p5 : Int32) (p6 : Int32) (p7 : Int32) (p8 : Int32) (S : zs_T) (Q : zs_Q) : Prop :=
  (((p7 ≤ p8 → w_X9_call_2_291 X d p0 p1 p2 p5 p6 p7 S Q) ∧ (¬ (p7 ≤ p8) → ((((101 : Int32) ≤ p5 → w_X9_call_2_291 X d p0 p1 p2 p5 p6 p7 S Q) ∧ (¬ ((101 : Int32) ≤ p5) → (zs_K S p0 = some (.inl 8) ∧ ∃ b4, (zs_R S 8160 p0) = some b4 ∧ zs_A S b4 0 p5 ∧ (((21000 : Int32) ≤ ((zs_i S b4 p5.toNatClampNeg) + p8) → w_X9_call_2_285 X d p0 p1 p2 p5 p6 p7 p8 S Q) ∧ (¬ ((21000 : Int32) ≤ ((zs_i S b4 p5.toNatClampNeg) + p8)) → (∃ b8, (zs_R S 8168 p0) = some b8 ∧ zs_A S b8 0 ((zs_i S b4 p5.toNatClampNeg) + p8) ∧ ab_n0 X.1 ≤ b8 ∧ ∀ S12, S12 = zs_si S b8 ((zs_i S b4 p5.toNatClampNeg) + p8).toNatClampNeg (0 : Int32) → w_X9_call_2_285 X d p0 p1 p2 p5 p6 p7 p8 S12 Q))))))))))
theorem u_X9_call_2_239 {σ : Nat → Nat} {n0 : Nat} {bf : ab_B} {d : Nat} {p0 : Nat} {p1 : Int32} {p2 : Int32} {p5 : Int32} {p6 : Int32} {p7 : Int32} {p8 : Int32} {S : zs_T} {Q : zs_Q} (hB : zt_B bf) (h : w_X9_call_2_239 (zx σ n0 bf) d p0 p1 p2 p5 p6 p7 p8 S Q) : zs_U (zx σ n0 bf) d 8207 239 [(0, .ref p0), (1, .int p1), (2, .int p2), (5, .int p5), (6, .int p6), (7, .int p7), (8, .int p8)] [] S Q := by
  unfold w_X9_call_2_239 at h
  refine zu_iload d_8207_239 rfl ?_
  refine zu_iload d_8207_241 rfl ?_
  refine zu_cmpge (t := 291) d_8207_243 rfl (fun c1 => ?_) (fun c1 => ?_)
  · have h := h.1 c1
    exact (u_X9_call_2_291 hB h).weak ⟨rfl, rfl, rfl, rfl, rfl, rfl, trivial⟩
  · have h := h.2 c1
    refine zu_iload d_8207_246 rfl ?_
    refine zu_bipush d_8207_248 zj_101 ?_
    refine zu_cmpge (t := 291) d_8207_250 rfl (fun c2 => ?_) (fun c2 => ?_)
    · have h := h.1 c2
      exact (u_X9_call_2_291 hB h).weak ⟨rfl, rfl, rfl, rfl, rfl, rfl, trivial⟩
    · have h := h.2 c2
      refine zu_aload_n d_8207_253 rfl (zs_ra _) ?_
      obtain ⟨k3, h⟩ := h
      refine zg_8_347 rfl d_8207_254 k3 ?_
      refine zu_iload d_8207_257 rfl ?_
      obtain ⟨b4, e5, h⟩ := h
      refine zs_stk1 (zs_rfe e5) ?_
      obtain ⟨k6, h⟩ := h
      refine zu_iald (k := 0) d_8207_259 rfl rfl k6 ?_
      refine zu_iload d_8207_260 rfl ?_
      refine zu_stk d_8207_262 rfl rfl ?_
      refine zu_sipush d_8207_263 zh_21000 ?_
      refine zu_cmpge (t := 285) d_8207_266 rfl (fun c7 => ?_) (fun c7 => ?_)
      · have h := h.1 c7
        exact (u_X9_call_2_285 hB h).weak ⟨rfl, rfl, rfl, rfl, rfl, rfl, rfl, trivial⟩
      · have h := h.2 c7
        refine zu_aload_n d_8207_269 rfl (zs_ra _) ?_
        refine zg_8_365 rfl d_8207_270 k3 ?_
        refine zu_aload_n d_8207_273 rfl (zs_ra _) ?_
        refine zg_8_347 rfl d_8207_274 k3 ?_
        refine zu_iload d_8207_277 rfl ?_
        refine zs_stk1 (zs_rfe e5) ?_
        refine zu_iald (k := 0) d_8207_279 rfl rfl k6 ?_
        refine zu_iload d_8207_280 rfl ?_
        refine zu_stk d_8207_282 rfl rfl ?_
        refine zu_iconst d_8207_283 zi_0 ?_
        obtain ⟨b8, e9, h⟩ := h
        refine zs_stk2 (zs_rfe e9) ?_
        obtain ⟨k10, h⟩ := h
        obtain ⟨k11, h⟩ := h
        refine zu_iast (k := 0) d_8207_284 rfl rfl k11 k10 ?_
        generalize e13 : zs_si S b8 ((zs_i S b4 p5.toNatClampNeg) + p8).toNatClampNeg (0 : Int32) = S12
        have h := h S12 e13.symm
        have K14 : ∀ b, zs_K S12 b = zs_K S b := zs_Kt e13 (zs_Ksi _ _ _ _) (fun _ => rfl)
        exact (u_X9_call_2_285 hB h).weak ⟨rfl, rfl, rfl, rfl, rfl, rfl, rfl, trivial⟩
def w_X9_call_2_495 (X : zs_X) (d : Nat) (p0 : Nat) (p1 : Int32) (p2 : Int32) (p5 : Int32) (p6 : Int32) (p9 : Int32) (p11 : Int32) (S : zs_T) (Q : zs_Q) : Prop :=
  (zs_K S p0 = some (.inl 8) ∧ zs_U X d 8207 513 [(0, .ref p0), (1, .int p1), (2, .int p2), (5, .int p5), (6, .int p6), (9, .int p9), (11, .int p11), (12, .int ((zs_I S 8187 p0) - p9)), (13, .int (zs_I S 8195 p0)), (14, .int (0 : Int32))] [] S Q)
theorem u_X9_call_2_495 {σ : Nat → Nat} {n0 : Nat} {bf : ab_B} {d : Nat} {p0 : Nat} {p1 : Int32} {p2 : Int32} {p5 : Int32} {p6 : Int32} {p9 : Int32} {p11 : Int32} {S : zs_T} {Q : zs_Q} (hB : zt_B bf) (h : w_X9_call_2_495 (zx σ n0 bf) d p0 p1 p2 p5 p6 p9 p11 S Q) : zs_U (zx σ n0 bf) d 8207 495 [(0, .ref p0), (1, .int p1), (2, .int p2), (5, .int p5), (6, .int p6), (9, .int p9), (11, .int p11)] [] S Q := by
  unfold w_X9_call_2_495 at h
  refine zu_aload_n d_8207_495 rfl (zs_ra _) ?_
  obtain ⟨k1, h⟩ := h
  refine zg_8_1264 rfl d_8207_496 k1 ?_
  refine zu_iload d_8207_499 rfl ?_
  refine zu_stk d_8207_501 rfl rfl ?_
  refine zu_istore d_8207_502 (zs_lt zq_8207 rfl) ?_
  refine zu_aload_n d_8207_504 rfl (zs_ra _) ?_
  refine zg_8_1270 rfl d_8207_505 k1 ?_
  refine zu_istore d_8207_508 (zs_lt zq_8207 rfl) ?_
  refine zu_iconst d_8207_510 zi_0 ?_
  refine zu_istore d_8207_511 (zs_lt zq_8207 rfl) ?_
  exact h.weak ⟨rfl, rfl, rfl, rfl, rfl, rfl, rfl, rfl, rfl, rfl, trivial⟩
def w_X9_call_2_458 (X : zs_X) (d : Nat) (p0 : Nat) (p1 : Int32) (p2 : Int32) (p5 : Int32) (p6 : Int32) (p8 : Int32) (p9 : Int32) (p11 : Int32) (q0 : Int32) (q1 : Int32) (S : zs_T) (Q : zs_Q) : Prop :=
  (zs_U X d 8207 319 [(0, .ref p0), (1, .int p1), (2, .int p2), (5, .int p5), (6, .int p6), (8, .int p8), (9, .int p9), (10, .int (q0 + q1)), (11, .int (p11 + (1 : Int32)))] [] S Q)
theorem u_X9_call_2_458 {σ : Nat → Nat} {n0 : Nat} {bf : ab_B} {d : Nat} {p0 : Nat} {p1 : Int32} {p2 : Int32} {p5 : Int32} {p6 : Int32} {p8 : Int32} {p9 : Int32} {p11 : Int32} {q0 : Int32} {q1 : Int32} {S : zs_T} {Q : zs_Q} (hB : zt_B bf) (h : w_X9_call_2_458 (zx σ n0 bf) d p0 p1 p2 p5 p6 p8 p9 p11 q0 q1 S Q) : zs_U (zx σ n0 bf) d 8207 458 [(0, .ref p0), (1, .int p1), (2, .int p2), (5, .int p5), (6, .int p6), (8, .int p8), (9, .int p9), (11, .int p11)] [.int q1, .int q0] S Q := by
  unfold w_X9_call_2_458 at h
  refine zu_stk d_8207_458 rfl rfl ?_
  refine zu_istore d_8207_459 (zs_lt zq_8207 rfl) ?_
  refine zu_iinc d_8207_461 rfl zi_1 (zs_lt zq_8207 rfl) ?_
  refine zu_goto (t := 319) d_8207_464 rfl ?_
  exact h.weak ⟨rfl, rfl, rfl, rfl, rfl, rfl, rfl, rfl, rfl, trivial⟩
def w_X9_call_2_457 (X : zs_X) (d : Nat) (p0 : Nat) (p1 : Int32) (p2 : Int32) (p5 : Int32) (p6 : Int32) (p8 : Int32) (p9 : Int32) (p11 : Int32) (q0 : Int32) (S : zs_T) (Q : zs_Q) : Prop :=
  (w_X9_call_2_458 X d p0 p1 p2 p5 p6 p8 p9 p11 q0 (1 : Int32) S Q)
theorem u_X9_call_2_457 {σ : Nat → Nat} {n0 : Nat} {bf : ab_B} {d : Nat} {p0 : Nat} {p1 : Int32} {p2 : Int32} {p5 : Int32} {p6 : Int32} {p8 : Int32} {p9 : Int32} {p11 : Int32} {q0 : Int32} {S : zs_T} {Q : zs_Q} (hB : zt_B bf) (h : w_X9_call_2_457 (zx σ n0 bf) d p0 p1 p2 p5 p6 p8 p9 p11 q0 S Q) : zs_U (zx σ n0 bf) d 8207 457 [(0, .ref p0), (1, .int p1), (2, .int p2), (5, .int p5), (6, .int p6), (8, .int p8), (9, .int p9), (11, .int p11)] [.int q0] S Q := by
  unfold w_X9_call_2_457 at h
  refine zu_iconst d_8207_457 zi_1 ?_
  exact (u_X9_call_2_458 hB h).weak ⟨rfl, rfl, rfl, rfl, rfl, rfl, rfl, rfl, trivial⟩
def w_X9_call_2_453 (X : zs_X) (d : Nat) (p0 : Nat) (p1 : Int32) (p2 : Int32) (p5 : Int32) (p6 : Int32) (p8 : Int32) (p9 : Int32) (p11 : Int32) (q0 : Int32) (S : zs_T) (Q : zs_Q) : Prop :=
  (w_X9_call_2_458 X d p0 p1 p2 p5 p6 p8 p9 p11 q0 (0 : Int32) S Q)
theorem u_X9_call_2_453 {σ : Nat → Nat} {n0 : Nat} {bf : ab_B} {d : Nat} {p0 : Nat} {p1 : Int32} {p2 : Int32} {p5 : Int32} {p6 : Int32} {p8 : Int32} {p9 : Int32} {p11 : Int32} {q0 : Int32} {S : zs_T} {Q : zs_Q} (hB : zt_B bf) (h : w_X9_call_2_453 (zx σ n0 bf) d p0 p1 p2 p5 p6 p8 p9 p11 q0 S Q) : zs_U (zx σ n0 bf) d 8207 453 [(0, .ref p0), (1, .int p1), (2, .int p2), (5, .int p5), (6, .int p6), (8, .int p8), (9, .int p9), (11, .int p11)] [.int q0] S Q := by
  unfold w_X9_call_2_453 at h
  refine zu_iconst d_8207_453 zi_0 ?_
  refine zu_goto (t := 458) d_8207_454 rfl ?_
  exact (u_X9_call_2_458 hB h).weak ⟨rfl, rfl, rfl, rfl, rfl, rfl, rfl, rfl, trivial⟩
def w_X9_call_2_412 (X : zs_X) (d : Nat) (p0 : Nat) (p1 : Int32) (p2 : Int32) (p5 : Int32) (p6 : Int32) (p8 : Int32) (p10 : Int32) (p11 : Int32) (p12 : Int32) (p13 : Int32) (q0 : Int32) (q1 : Int32) (S : zs_T) (Q : zs_Q) : Prop :=
  (((p13 = 0 → w_X9_call_2_457 X d p0 p1 p2 p5 p6 p8 (q0 + q1) p11 p10 S Q) ∧ (¬ (p13 = 0) → (zs_K S p0 = some (.inl 8) ∧ ∃ b3, (zs_R S 8109 p0) = some b3 ∧ zs_A S b3 0 p12 ∧ zs_C X d 8212 [.ref p0, .int (zs_i S b3 p12.toNatClampNeg)] S (zs_kI (fun v7 S6 => (((¬ v7 = 0 → w_X9_call_2_453 X d p0 p1 p2 p5 p6 p8 (q0 + q1) p11 p10 S6 Q) ∧ (¬ (¬ v7 = 0) → (zs_K S6 p0 = some (.inl 8) ∧ ∃ b10, (zs_R S6 8109 p0) = some b10 ∧ zs_A S6 b10 0 p12 ∧ ∃ b13, (zs_R S6 8044 p0) = some b13 ∧ zs_A S6 b13 1 (zs_i S6 b10 p12.toNatClampNeg) ∧ ((¬ (zs_i S6 b13 (zs_i S6 b10 p12.toNatClampNeg).toNatClampNeg) = (7 : Int32) → w_X9_call_2_457 X d p0 p1 p2 p5 p6 p8 (q0 + q1) p11 p10 S6 Q) ∧ (¬ (¬ (zs_i S6 b13 (zs_i S6 b10 p12.toNatClampNeg).toNatClampNeg) = (7 : Int32)) → w_X9_call_2_453 X d p0 p1 p2 p5 p6 p8 (q0 + q1) p11 p10 S6 Q))))))) Q)))))
theorem u_X9_call_2_412 {σ : Nat → Nat} {n0 : Nat} {bf : ab_B} {d : Nat} {p0 : Nat} {p1 : Int32} {p2 : Int32} {p5 : Int32} {p6 : Int32} {p8 : Int32} {p10 : Int32} {p11 : Int32} {p12 : Int32} {p13 : Int32} {q0 : Int32} {q1 : Int32} {S : zs_T} {Q : zs_Q} (hB : zt_B bf) (h : w_X9_call_2_412 (zx σ n0 bf) d p0 p1 p2 p5 p6 p8 p10 p11 p12 p13 q0 q1 S Q) : zs_U (zx σ n0 bf) d 8207 412 [(0, .ref p0), (1, .int p1), (2, .int p2), (5, .int p5), (6, .int p6), (8, .int p8), (10, .int p10), (11, .int p11), (12, .int p12), (13, .int p13)] [.int q1, .int q0] S Q := by
  unfold w_X9_call_2_412 at h
  refine zu_stk d_8207_412 rfl rfl ?_
  refine zu_istore d_8207_413 (zs_lt zq_8207 rfl) ?_
  refine zu_iload d_8207_415 rfl ?_
  refine zu_iload d_8207_417 rfl ?_
  refine zu_ifeq (t := 457) d_8207_419 rfl (fun c1 => ?_) (fun c1 => ?_)
  · have h := h.1 c1
    exact (u_X9_call_2_457 hB h).weak ⟨rfl, rfl, rfl, rfl, rfl, rfl, rfl, rfl, trivial⟩
  · have h := h.2 c1
    refine zu_aload_n d_8207_422 rfl (zs_ra _) ?_
    refine zu_aload_n d_8207_423 rfl (zs_ra _) ?_
    obtain ⟨k2, h⟩ := h
    refine zg_8_239 rfl d_8207_424 k2 ?_
    refine zu_iload d_8207_427 rfl ?_
    obtain ⟨b3, e4, h⟩ := h
    refine zs_stk1 (zs_rfe e4) ?_
    obtain ⟨k5, h⟩ := h
    refine zu_iald (k := 0) d_8207_429 rfl rfl k5 ?_
    refine zc_8_1380 (x0 := (zs_i S b3 p12.toNatClampNeg)) hB rfl k2 d_8207_430 (Nat.le_of_ble_eq_true rfl) h (fun v7 S6 h => ?_)
    refine zu_ifne (t := 453) d_8207_433 rfl (fun c8 => ?_) (fun c8 => ?_)
    · have h := h.1 c8
      exact (u_X9_call_2_453 hB h).weak ⟨rfl, rfl, rfl, rfl, rfl, rfl, rfl, rfl, trivial⟩
    · have h := h.2 c8
      refine zu_aload_n d_8207_436 rfl (zs_ra _) ?_
      obtain ⟨k9, h⟩ := h
      refine zg_8_90 rfl d_8207_437 k9 ?_
      refine zu_aload_n d_8207_440 rfl (zs_ra _) ?_
      refine zg_8_239 rfl d_8207_441 k9 ?_
      refine zu_iload d_8207_444 rfl ?_
      obtain ⟨b10, e11, h⟩ := h
      refine zs_stk1 (zs_rfe e11) ?_
      obtain ⟨k12, h⟩ := h
      refine zu_iald (k := 0) d_8207_446 rfl rfl k12 ?_
      obtain ⟨b13, e14, h⟩ := h
      refine zs_stk1 (zs_rfe e14) ?_
      obtain ⟨k15, h⟩ := h
      refine zu_bald (k := 1) d_8207_447 rfl (Or.inl rfl) k15 ?_
      refine zu_bipush d_8207_448 zj_7 ?_
      refine zu_cmpne (t := 457) d_8207_450 rfl (fun c16 => ?_) (fun c16 => ?_)
      · have h := h.1 c16
        exact (u_X9_call_2_457 hB h).weak ⟨rfl, rfl, rfl, rfl, rfl, rfl, rfl, rfl, trivial⟩
      · have h := h.2 c16
        exact (u_X9_call_2_453 hB h).weak ⟨rfl, rfl, rfl, rfl, rfl, rfl, rfl, rfl, trivial⟩
def w_X9_call_2_411 (X : zs_X) (d : Nat) (p0 : Nat) (p1 : Int32) (p2 : Int32) (p5 : Int32) (p6 : Int32) (p8 : Int32) (p10 : Int32) (p11 : Int32) (p12 : Int32) (p13 : Int32) (q0 : Int32) (S : zs_T) (Q : zs_Q) : Prop :=
  (w_X9_call_2_412 X d p0 p1 p2 p5 p6 p8 p10 p11 p12 p13 q0 (0 : Int32) S Q)
theorem u_X9_call_2_411 {σ : Nat → Nat} {n0 : Nat} {bf : ab_B} {d : Nat} {p0 : Nat} {p1 : Int32} {p2 : Int32} {p5 : Int32} {p6 : Int32} {p8 : Int32} {p10 : Int32} {p11 : Int32} {p12 : Int32} {p13 : Int32} {q0 : Int32} {S : zs_T} {Q : zs_Q} (hB : zt_B bf) (h : w_X9_call_2_411 (zx σ n0 bf) d p0 p1 p2 p5 p6 p8 p10 p11 p12 p13 q0 S Q) : zs_U (zx σ n0 bf) d 8207 411 [(0, .ref p0), (1, .int p1), (2, .int p2), (5, .int p5), (6, .int p6), (8, .int p8), (10, .int p10), (11, .int p11), (12, .int p12), (13, .int p13)] [.int q0] S Q := by
  unfold w_X9_call_2_411 at h
  refine zu_iconst d_8207_411 zi_0 ?_
  exact (u_X9_call_2_412 hB h).weak ⟨rfl, rfl, rfl, rfl, rfl, rfl, rfl, rfl, rfl, rfl, trivial⟩
def w_X9_call_2_380 (X : zs_X) (d : Nat) (p0 : Nat) (p1 : Int32) (p2 : Int32) (p5 : Int32) (p6 : Int32) (p9 : Int32) (p10 : Int32) (p11 : Int32) (p12 : Int32) (p13 : Int32) (q0 : Int32) (q1 : Int32) (S : zs_T) (Q : zs_Q) : Prop :=
  (((p13 = 0 → w_X9_call_2_411 X d p0 p1 p2 p5 p6 (q0 + q1) p10 p11 p12 p13 p9 S Q) ∧ (¬ (p13 = 0) → (zs_K S p0 = some (.inl 8) ∧ ∃ b3, (zs_R S 8109 p0) = some b3 ∧ zs_A S b3 0 p12 ∧ ∃ b6, (zs_R S 8044 p0) = some b6 ∧ zs_A S b6 1 (zs_i S b3 p12.toNatClampNeg) ∧ ((¬ (zs_i S b6 (zs_i S b3 p12.toNatClampNeg).toNatClampNeg) = (7 : Int32) → w_X9_call_2_411 X d p0 p1 p2 p5 p6 (q0 + q1) p10 p11 p12 p13 p9 S Q) ∧ (¬ (¬ (zs_i S b6 (zs_i S b3 p12.toNatClampNeg).toNatClampNeg) = (7 : Int32)) → (w_X9_call_2_412 X d p0 p1 p2 p5 p6 (q0 + q1) p10 p11 p12 p13 p9 (1 : Int32) S Q)))))))
theorem u_X9_call_2_380 {σ : Nat → Nat} {n0 : Nat} {bf : ab_B} {d : Nat} {p0 : Nat} {p1 : Int32} {p2 : Int32} {p5 : Int32} {p6 : Int32} {p9 : Int32} {p10 : Int32} {p11 : Int32} {p12 : Int32} {p13 : Int32} {q0 : Int32} {q1 : Int32} {S : zs_T} {Q : zs_Q} (hB : zt_B bf) (h : w_X9_call_2_380 (zx σ n0 bf) d p0 p1 p2 p5 p6 p9 p10 p11 p12 p13 q0 q1 S Q) : zs_U (zx σ n0 bf) d 8207 380 [(0, .ref p0), (1, .int p1), (2, .int p2), (5, .int p5), (6, .int p6), (9, .int p9), (10, .int p10), (11, .int p11), (12, .int p12), (13, .int p13)] [.int q1, .int q0] S Q := by
  unfold w_X9_call_2_380 at h
  refine zu_stk d_8207_380 rfl rfl ?_
  refine zu_istore d_8207_381 (zs_lt zq_8207 rfl) ?_
  refine zu_iload d_8207_383 rfl ?_
  refine zu_iload d_8207_385 rfl ?_
  refine zu_ifeq (t := 411) d_8207_387 rfl (fun c1 => ?_) (fun c1 => ?_)
  · have h := h.1 c1
    exact (u_X9_call_2_411 hB h).weak ⟨rfl, rfl, rfl, rfl, rfl, rfl, rfl, rfl, rfl, rfl, trivial⟩
  · have h := h.2 c1
    refine zu_aload_n d_8207_390 rfl (zs_ra _) ?_
    obtain ⟨k2, h⟩ := h
    refine zg_8_90 rfl d_8207_391 k2 ?_
    refine zu_aload_n d_8207_394 rfl (zs_ra _) ?_
    refine zg_8_239 rfl d_8207_395 k2 ?_
    refine zu_iload d_8207_398 rfl ?_
    obtain ⟨b3, e4, h⟩ := h
    refine zs_stk1 (zs_rfe e4) ?_
    obtain ⟨k5, h⟩ := h
    refine zu_iald (k := 0) d_8207_400 rfl rfl k5 ?_
    obtain ⟨b6, e7, h⟩ := h
    refine zs_stk1 (zs_rfe e7) ?_
    obtain ⟨k8, h⟩ := h
    refine zu_bald (k := 1) d_8207_401 rfl (Or.inl rfl) k8 ?_
    refine zu_bipush d_8207_402 zj_7 ?_
    refine zu_cmpne (t := 411) d_8207_404 rfl (fun c9 => ?_) (fun c9 => ?_)
    · have h := h.1 c9
      exact (u_X9_call_2_411 hB h).weak ⟨rfl, rfl, rfl, rfl, rfl, rfl, rfl, rfl, rfl, rfl, trivial⟩
    · have h := h.2 c9
      refine zu_iconst d_8207_407 zi_1 ?_
      refine zu_goto (t := 412) d_8207_408 rfl ?_
      exact (u_X9_call_2_412 hB h).weak ⟨rfl, rfl, rfl, rfl, rfl, rfl, rfl, rfl, rfl, rfl, trivial⟩
def w_X9_call_2_379 (X : zs_X) (d : Nat) (p0 : Nat) (p1 : Int32) (p2 : Int32) (p5 : Int32) (p6 : Int32) (p9 : Int32) (p10 : Int32) (p11 : Int32) (p12 : Int32) (p13 : Int32) (q0 : Int32) (S : zs_T) (Q : zs_Q) : Prop :=
  (w_X9_call_2_380 X d p0 p1 p2 p5 p6 p9 p10 p11 p12 p13 q0 (0 : Int32) S Q)
theorem u_X9_call_2_379 {σ : Nat → Nat} {n0 : Nat} {bf : ab_B} {d : Nat} {p0 : Nat} {p1 : Int32} {p2 : Int32} {p5 : Int32} {p6 : Int32} {p9 : Int32} {p10 : Int32} {p11 : Int32} {p12 : Int32} {p13 : Int32} {q0 : Int32} {S : zs_T} {Q : zs_Q} (hB : zt_B bf) (h : w_X9_call_2_379 (zx σ n0 bf) d p0 p1 p2 p5 p6 p9 p10 p11 p12 p13 q0 S Q) : zs_U (zx σ n0 bf) d 8207 379 [(0, .ref p0), (1, .int p1), (2, .int p2), (5, .int p5), (6, .int p6), (9, .int p9), (10, .int p10), (11, .int p11), (12, .int p12), (13, .int p13)] [.int q0] S Q := by
  unfold w_X9_call_2_379 at h
  refine zu_iconst d_8207_379 zi_0 ?_
  exact (u_X9_call_2_380 hB h).weak ⟨rfl, rfl, rfl, rfl, rfl, rfl, rfl, rfl, rfl, rfl, trivial⟩
def w_X9_call_2_352 (X : zs_X) (d : Nat) (p0 : Nat) (p1 : Int32) (p2 : Int32) (p5 : Int32) (p6 : Int32) (p8 : Int32) (p9 : Int32) (p10 : Int32) (p11 : Int32) (p12 : Int32) (q0 : Int32) (S : zs_T) (Q : zs_Q) : Prop :=
  (((q0 = 0 → w_X9_call_2_379 X d p0 p1 p2 p5 p6 p9 p10 p11 p12 q0 p8 S Q) ∧ (¬ (q0 = 0) → (zs_K S p0 = some (.inl 8) ∧ ∃ b3, (zs_R S 8109 p0) = some b3 ∧ zs_A S b3 0 p12 ∧ zs_C X d 8212 [.ref p0, .int (zs_i S b3 p12.toNatClampNeg)] S (zs_kI (fun v7 S6 => (((v7 = 0 → w_X9_call_2_379 X d p0 p1 p2 p5 p6 p9 p10 p11 p12 q0 p8 S6 Q) ∧ (¬ (v7 = 0) → (w_X9_call_2_380 X d p0 p1 p2 p5 p6 p9 p10 p11 p12 q0 p8 (1 : Int32) S6 Q))))) Q)))))
theorem u_X9_call_2_352 {σ : Nat → Nat} {n0 : Nat} {bf : ab_B} {d : Nat} {p0 : Nat} {p1 : Int32} {p2 : Int32} {p5 : Int32} {p6 : Int32} {p8 : Int32} {p9 : Int32} {p10 : Int32} {p11 : Int32} {p12 : Int32} {q0 : Int32} {S : zs_T} {Q : zs_Q} (hB : zt_B bf) (h : w_X9_call_2_352 (zx σ n0 bf) d p0 p1 p2 p5 p6 p8 p9 p10 p11 p12 q0 S Q) : zs_U (zx σ n0 bf) d 8207 352 [(0, .ref p0), (1, .int p1), (2, .int p2), (5, .int p5), (6, .int p6), (8, .int p8), (9, .int p9), (10, .int p10), (11, .int p11), (12, .int p12)] [.int q0] S Q := by
  unfold w_X9_call_2_352 at h
  refine zu_istore d_8207_352 (zs_lt zq_8207 rfl) ?_
  refine zu_iload d_8207_354 rfl ?_
  refine zu_iload d_8207_356 rfl ?_
  refine zu_ifeq (t := 379) d_8207_358 rfl (fun c1 => ?_) (fun c1 => ?_)
  · have h := h.1 c1
    exact (u_X9_call_2_379 hB h).weak ⟨rfl, rfl, rfl, rfl, rfl, rfl, rfl, rfl, rfl, rfl, trivial⟩
  · have h := h.2 c1
    refine zu_aload_n d_8207_361 rfl (zs_ra _) ?_
    refine zu_aload_n d_8207_362 rfl (zs_ra _) ?_
    obtain ⟨k2, h⟩ := h
    refine zg_8_239 rfl d_8207_363 k2 ?_
    refine zu_iload d_8207_366 rfl ?_
    obtain ⟨b3, e4, h⟩ := h
    refine zs_stk1 (zs_rfe e4) ?_
    obtain ⟨k5, h⟩ := h
    refine zu_iald (k := 0) d_8207_368 rfl rfl k5 ?_
    refine zc_8_1380 (x0 := (zs_i S b3 p12.toNatClampNeg)) hB rfl k2 d_8207_369 (Nat.le_of_ble_eq_true rfl) h (fun v7 S6 h => ?_)
    refine zu_ifeq (t := 379) d_8207_372 rfl (fun c8 => ?_) (fun c8 => ?_)
    · have h := h.1 c8
      exact (u_X9_call_2_379 hB h).weak ⟨rfl, rfl, rfl, rfl, rfl, rfl, rfl, rfl, rfl, rfl, trivial⟩
    · have h := h.2 c8
      refine zu_iconst d_8207_375 zi_1 ?_
      refine zu_goto (t := 380) d_8207_376 rfl ?_
      exact (u_X9_call_2_380 hB h).weak ⟨rfl, rfl, rfl, rfl, rfl, rfl, rfl, rfl, rfl, rfl, trivial⟩
def w_X9_call_2_319 (X : zs_X) (d : Nat) (p0 : Nat) (p1 : Int32) (p2 : Int32) (p5 : Int32) (p6 : Int32) (p8 : Int32) (p9 : Int32) (p10 : Int32) (p11 : Int32) (S : zs_T) (Q : zs_Q) : Prop :=
  (((p6 ≤ p11 → (zs_K S p0 = some (.inl 8) ∧ ab_n0 X.1 ≤ p0 ∧ ∀ S4, S4 = zs_sI S 8184 p0 ((zs_I S 8184 p0) - p8) → ∀ S7, S7 = zs_sI S4 8195 p0 ((zs_I S4 8195 p0) - p10) → w_X9_call_2_495 X d p0 p1 p2 p5 p6 p9 (zs_I S7 8184 p0) S7 Q)) ∧ (¬ (p6 ≤ p11) → (zs_K S p0 = some (.inl 8) ∧ ∃ b11, (zs_R S 8104 p0) = some b11 ∧ zs_A S b11 0 p1 ∧ ∃ b14, (zs_R S 8110 p0) = some b14 ∧ zs_A S b14 1 ((zs_i S b11 p1.toNatClampNeg) + p11) ∧ ((¬ (zs_i S b14 ((zs_i S b11 p1.toNatClampNeg) + p11).toNatClampNeg) = 0 → (w_X9_call_2_352 X d p0 p1 p2 p5 p6 p8 p9 p10 p11 ((zs_i S b11 p1.toNatClampNeg) + p11) (0 : Int32) S Q)) ∧ (¬ (¬ (zs_i S b14 ((zs_i S b11 p1.toNatClampNeg) + p11).toNatClampNeg) = 0) → (w_X9_call_2_352 X d p0 p1 p2 p5 p6 p8 p9 p10 p11 ((zs_i S b11 p1.toNatClampNeg) + p11) (1 : Int32) S Q)))))))
theorem u_X9_call_2_319 {σ : Nat → Nat} {n0 : Nat} {bf : ab_B} {d : Nat} {p0 : Nat} {p1 : Int32} {p2 : Int32} {p5 : Int32} {p6 : Int32} {p8 : Int32} {p9 : Int32} {p10 : Int32} {p11 : Int32} {S : zs_T} {Q : zs_Q} (hB : zt_B bf) (h : w_X9_call_2_319 (zx σ n0 bf) d p0 p1 p2 p5 p6 p8 p9 p10 p11 S Q) : zs_U (zx σ n0 bf) d 8207 319 [(0, .ref p0), (1, .int p1), (2, .int p2), (5, .int p5), (6, .int p6), (8, .int p8), (9, .int p9), (10, .int p10), (11, .int p11)] [] S Q := by
  unfold w_X9_call_2_319 at h
  refine zu_iload d_8207_319 rfl ?_
  refine zu_iload d_8207_321 rfl ?_
  refine zu_cmpge (t := 467) d_8207_323 rfl (fun c1 => ?_) (fun c1 => ?_)
  · have h := h.1 c1
    refine zu_aload_n d_8207_467 rfl (zs_ra _) ?_
    refine zu_dup d_8207_468 rfl ?_
    obtain ⟨k2, h⟩ := h
    refine zg_8_1261 rfl d_8207_469 k2 ?_
    refine zu_iload d_8207_472 rfl ?_
    refine zu_stk d_8207_474 rfl rfl ?_
    obtain ⟨k3, h⟩ := h
    refine zp_8_1261 (v := ((zs_I S 8184 p0) - p8)) rfl d_8207_475 k2 k3 ?_
    generalize e5 : zs_sI S 8184 p0 ((zs_I S 8184 p0) - p8) = S4
    have h := h S4 e5.symm
    have K6 : ∀ b, zs_K S4 b = zs_K S b := zs_Kt e5 (zs_KsI _ _ _ _) (fun _ => rfl)
    refine zu_aload_n d_8207_478 rfl (zs_ra _) ?_
    refine zu_dup d_8207_479 rfl ?_
    refine zg_8_1270 rfl d_8207_480 ((K6 _).trans k2) ?_
    refine zu_iload d_8207_483 rfl ?_
    refine zu_stk d_8207_485 rfl rfl ?_
    refine zp_8_1270 (v := ((zs_I S4 8195 p0) - p10)) rfl d_8207_486 ((K6 _).trans k2) k3 ?_
    generalize e8 : zs_sI S4 8195 p0 ((zs_I S4 8195 p0) - p10) = S7
    have h := h S7 e8.symm
    have K9 : ∀ b, zs_K S7 b = zs_K S b := zs_Kt e8 (zs_KsI _ _ _ _) K6
    refine zu_aload_n d_8207_489 rfl (zs_ra _) ?_
    refine zg_8_1261 rfl d_8207_490 ((K9 _).trans k2) ?_
    refine zu_istore d_8207_493 (zs_lt zq_8207 rfl) ?_
    exact (u_X9_call_2_495 hB h).weak ⟨rfl, rfl, rfl, rfl, rfl, rfl, rfl, trivial⟩
  · have h := h.2 c1
    refine zu_aload_n d_8207_326 rfl (zs_ra _) ?_
    obtain ⟨k10, h⟩ := h
    refine zg_8_227 rfl d_8207_327 k10 ?_
    refine zu_iload_n d_8207_330 rfl ?_
    obtain ⟨b11, e12, h⟩ := h
    refine zs_stk1 (zs_rfe e12) ?_
    obtain ⟨k13, h⟩ := h
    refine zu_iald (k := 0) d_8207_331 rfl rfl k13 ?_
    refine zu_iload d_8207_332 rfl ?_
    refine zu_stk d_8207_334 rfl rfl ?_
    refine zu_istore d_8207_335 (zs_lt zq_8207 rfl) ?_
    refine zu_aload_n d_8207_337 rfl (zs_ra _) ?_
    refine zg_8_242 rfl d_8207_338 k10 ?_
    refine zu_iload d_8207_341 rfl ?_
    obtain ⟨b14, e15, h⟩ := h
    refine zs_stk1 (zs_rfe e15) ?_
    obtain ⟨k16, h⟩ := h
    refine zu_bald (k := 1) d_8207_343 rfl (Or.inl rfl) k16 ?_
    refine zu_ifne (t := 351) d_8207_344 rfl (fun c17 => ?_) (fun c17 => ?_)
    · have h := h.1 c17
      refine zu_iconst d_8207_351 zi_0 ?_
      exact (u_X9_call_2_352 hB h).weak ⟨rfl, rfl, rfl, rfl, rfl, rfl, rfl, rfl, rfl, rfl, trivial⟩
    · have h := h.2 c17
      refine zu_iconst d_8207_347 zi_1 ?_
      refine zu_goto (t := 352) d_8207_348 rfl ?_
      exact (u_X9_call_2_352 hB h).weak ⟨rfl, rfl, rfl, rfl, rfl, rfl, rfl, rfl, rfl, rfl, trivial⟩
def w_X9_call_2_692 (X : zs_X) (d : Nat) (p0 : Nat) (p1 : Int32) (p2 : Int32) (p5 : Int32) (p6 : Int32) (p9 : Int32) (p11 : Int32) (p12 : Int32) (p13 : Int32) (p14 : Int32) (S : zs_T) (Q : zs_Q) : Prop :=
  (zs_U X d 8207 513 [(0, .ref p0), (1, .int p1), (2, .int p2), (5, .int p5), (6, .int p6), (9, .int p9), (11, .int p11), (12, .int p12), (13, .int (p13 + (1 : Int32))), (14, .int (p14 + (1 : Int32)))] [] S Q)
theorem u_X9_call_2_692 {σ : Nat → Nat} {n0 : Nat} {bf : ab_B} {d : Nat} {p0 : Nat} {p1 : Int32} {p2 : Int32} {p5 : Int32} {p6 : Int32} {p9 : Int32} {p11 : Int32} {p12 : Int32} {p13 : Int32} {p14 : Int32} {S : zs_T} {Q : zs_Q} (hB : zt_B bf) (h : w_X9_call_2_692 (zx σ n0 bf) d p0 p1 p2 p5 p6 p9 p11 p12 p13 p14 S Q) : zs_U (zx σ n0 bf) d 8207 692 [(0, .ref p0), (1, .int p1), (2, .int p2), (5, .int p5), (6, .int p6), (9, .int p9), (11, .int p11), (12, .int p12), (13, .int p13), (14, .int p14)] [] S Q := by
  unfold w_X9_call_2_692 at h
  refine zu_iinc d_8207_692 rfl zi_1 (zs_lt zq_8207 rfl) ?_
  refine zu_iinc d_8207_695 rfl zi_1 (zs_lt zq_8207 rfl) ?_
  refine zu_goto (t := 513) d_8207_698 rfl ?_
  exact h.weak ⟨rfl, rfl, rfl, rfl, rfl, rfl, rfl, rfl, rfl, rfl, trivial⟩
def w_X9_call_2_665 (X : zs_X) (d : Nat) (p0 : Nat) (p1 : Int32) (p2 : Int32) (p5 : Int32) (p6 : Int32) (p9 : Int32) (p11 : Int32) (p12 : Int32) (p13 : Int32) (p14 : Int32) (p15 : Int32) (p16 : Int32) (S : zs_T) (Q : zs_Q) : Prop :=
  (zs_K S p0 = some (.inl 8) ∧ ∃ b2, (zs_R S 8160 p0) = some b2 ∧ zs_A S b2 0 p5 ∧ ∃ b5, (zs_R S 8145 p0) = some b5 ∧ zs_A S b5 0 p1 ∧ zs_C X d 8224 [.ref p0, .int ((zs_i S b2 p5.toNatClampNeg) + p14), .int p15, .int p13, .int p16, .int p2, .int (zs_i S b5 p1.toNatClampNeg)] S (zs_kV (fun S8 => w_X9_call_2_692 X d p0 p1 p2 p5 p6 p9 p11 p12 p13 p14 S8 Q) Q))
theorem u_X9_call_2_665 {σ : Nat → Nat} {n0 : Nat} {bf : ab_B} {d : Nat} {p0 : Nat} {p1 : Int32} {p2 : Int32} {p5 : Int32} {p6 : Int32} {p9 : Int32} {p11 : Int32} {p12 : Int32} {p13 : Int32} {p14 : Int32} {p15 : Int32} {p16 : Int32} {S : zs_T} {Q : zs_Q} (hB : zt_B bf) (h : w_X9_call_2_665 (zx σ n0 bf) d p0 p1 p2 p5 p6 p9 p11 p12 p13 p14 p15 p16 S Q) : zs_U (zx σ n0 bf) d 8207 665 [(0, .ref p0), (1, .int p1), (2, .int p2), (5, .int p5), (6, .int p6), (9, .int p9), (11, .int p11), (12, .int p12), (13, .int p13), (14, .int p14), (15, .int p15), (16, .int p16)] [] S Q := by
  unfold w_X9_call_2_665 at h
  refine zu_aload_n d_8207_665 rfl (zs_ra _) ?_
  refine zu_aload_n d_8207_666 rfl (zs_ra _) ?_
  obtain ⟨k1, h⟩ := h
  refine zg_8_347 rfl d_8207_667 k1 ?_
  refine zu_iload d_8207_670 rfl ?_
  obtain ⟨b2, e3, h⟩ := h
  refine zs_stk1 (zs_rfe e3) ?_
  obtain ⟨k4, h⟩ := h
  refine zu_iald (k := 0) d_8207_672 rfl rfl k4 ?_
  refine zu_iload d_8207_673 rfl ?_
  refine zu_stk d_8207_675 rfl rfl ?_
  refine zu_iload d_8207_676 rfl ?_
  refine zu_iload d_8207_678 rfl ?_
  refine zu_iload d_8207_680 rfl ?_
  refine zu_iload_n d_8207_682 rfl ?_
  refine zu_aload_n d_8207_683 rfl (zs_ra _) ?_
  refine zg_8_311 rfl d_8207_684 k1 ?_
  refine zu_iload_n d_8207_687 rfl ?_
  obtain ⟨b5, e6, h⟩ := h
  refine zs_stk1 (zs_rfe e6) ?_
  obtain ⟨k7, h⟩ := h
  refine zu_iald (k := 0) d_8207_688 rfl rfl k7 ?_
  refine zc_8_1391 (x0 := ((zs_i S b2 p5.toNatClampNeg) + p14)) (x1 := p15) (x2 := p13) (x3 := p16) (x4 := p2) (x5 := (zs_i S b5 p1.toNatClampNeg)) hB rfl k1 d_8207_689 (Nat.le_of_ble_eq_true rfl) h (fun S8 h => ?_)
  exact (u_X9_call_2_692 hB h).weak ⟨rfl, rfl, rfl, rfl, rfl, rfl, rfl, rfl, rfl, rfl, trivial⟩
def w_X9_call_2_659 (X : zs_X) (d : Nat) (p0 : Nat) (p1 : Int32) (p2 : Int32) (p5 : Int32) (p6 : Int32) (p9 : Int32) (p11 : Int32) (p12 : Int32) (p13 : Int32) (p14 : Int32) (S : zs_T) (Q : zs_Q) : Prop :=
  (zs_U X d 8207 513 [(0, .ref p0), (1, .int p1), (2, .int p2), (5, .int p5), (6, .int p6), (9, .int p9), (11, .int p11), (12, .int (p12 + (1 : Int32))), (13, .int p13), (14, .int (p14 + (1 : Int32)))] [] S Q)
theorem u_X9_call_2_659 {σ : Nat → Nat} {n0 : Nat} {bf : ab_B} {d : Nat} {p0 : Nat} {p1 : Int32} {p2 : Int32} {p5 : Int32} {p6 : Int32} {p9 : Int32} {p11 : Int32} {p12 : Int32} {p13 : Int32} {p14 : Int32} {S : zs_T} {Q : zs_Q} (hB : zt_B bf) (h : w_X9_call_2_659 (zx σ n0 bf) d p0 p1 p2 p5 p6 p9 p11 p12 p13 p14 S Q) : zs_U (zx σ n0 bf) d 8207 659 [(0, .ref p0), (1, .int p1), (2, .int p2), (5, .int p5), (6, .int p6), (9, .int p9), (11, .int p11), (12, .int p12), (13, .int p13), (14, .int p14)] [] S Q := by
  unfold w_X9_call_2_659 at h
  refine zu_iinc d_8207_659 rfl zi_1 (zs_lt zq_8207 rfl) ?_
  refine zu_goto (t := 695) d_8207_662 rfl ?_
  refine zu_iinc d_8207_695 rfl zi_1 (zs_lt zq_8207 rfl) ?_
  refine zu_goto (t := 513) d_8207_698 rfl ?_
  exact h.weak ⟨rfl, rfl, rfl, rfl, rfl, rfl, rfl, rfl, rfl, rfl, trivial⟩
def w_X9_call_2_617 (X : zs_X) (d : Nat) (p0 : Nat) (p1 : Int32) (p2 : Int32) (p5 : Int32) (p6 : Int32) (p9 : Int32) (p11 : Int32) (p12 : Int32) (p13 : Int32) (p14 : Int32) (p15 : Int32) (p16 : Int32) (S : zs_T) (Q : zs_Q) : Prop :=
  (((p16 = 0 → w_X9_call_2_665 X d p0 p1 p2 p5 p6 p9 p11 p12 p13 p14 p15 p16 S Q) ∧ (¬ (p16 = 0) → (zs_K S p0 = some (.inl 8) ∧ ∃ b3, (zs_R S 8044 p0) = some b3 ∧ zs_A S b3 1 p15 ∧ ((¬ (zs_i S b3 p15.toNatClampNeg) = (7 : Int32) → w_X9_call_2_665 X d p0 p1 p2 p5 p6 p9 p11 p12 p13 p14 p15 p16 S Q) ∧ (¬ (¬ (zs_i S b3 p15.toNatClampNeg) = (7 : Int32)) → (∃ b7, (zs_R S 8160 p0) = some b7 ∧ zs_A S b7 0 p5 ∧ ∃ b10, (zs_R S 8145 p0) = some b10 ∧ zs_A S b10 0 p1 ∧ zs_C X d 8222 [.ref p0, .int ((zs_i S b7 p5.toNatClampNeg) + p14), .int p15, .int p12, .int p2, .int (zs_i S b10 p1.toNatClampNeg)] S (zs_kV (fun S13 => w_X9_call_2_659 X d p0 p1 p2 p5 p6 p9 p11 p12 p13 p14 S13 Q) Q))))))))
theorem u_X9_call_2_617 {σ : Nat → Nat} {n0 : Nat} {bf : ab_B} {d : Nat} {p0 : Nat} {p1 : Int32} {p2 : Int32} {p5 : Int32} {p6 : Int32} {p9 : Int32} {p11 : Int32} {p12 : Int32} {p13 : Int32} {p14 : Int32} {p15 : Int32} {p16 : Int32} {S : zs_T} {Q : zs_Q} (hB : zt_B bf) (h : w_X9_call_2_617 (zx σ n0 bf) d p0 p1 p2 p5 p6 p9 p11 p12 p13 p14 p15 p16 S Q) : zs_U (zx σ n0 bf) d 8207 617 [(0, .ref p0), (1, .int p1), (2, .int p2), (5, .int p5), (6, .int p6), (9, .int p9), (11, .int p11), (12, .int p12), (13, .int p13), (14, .int p14), (15, .int p15), (16, .int p16)] [] S Q := by
  unfold w_X9_call_2_617 at h
  refine zu_iload d_8207_617 rfl ?_
  refine zu_ifeq (t := 665) d_8207_619 rfl (fun c1 => ?_) (fun c1 => ?_)
  · have h := h.1 c1
    exact (u_X9_call_2_665 hB h).weak ⟨rfl, rfl, rfl, rfl, rfl, rfl, rfl, rfl, rfl, rfl, rfl, rfl, trivial⟩
  · have h := h.2 c1
    refine zu_aload_n d_8207_622 rfl (zs_ra _) ?_
    obtain ⟨k2, h⟩ := h
    refine zg_8_90 rfl d_8207_623 k2 ?_
    refine zu_iload d_8207_626 rfl ?_
    obtain ⟨b3, e4, h⟩ := h
    refine zs_stk1 (zs_rfe e4) ?_
    obtain ⟨k5, h⟩ := h
    refine zu_bald (k := 1) d_8207_628 rfl (Or.inl rfl) k5 ?_
    refine zu_bipush d_8207_629 zj_7 ?_
    refine zu_cmpne (t := 665) d_8207_631 rfl (fun c6 => ?_) (fun c6 => ?_)
    · have h := h.1 c6
      exact (u_X9_call_2_665 hB h).weak ⟨rfl, rfl, rfl, rfl, rfl, rfl, rfl, rfl, rfl, rfl, rfl, rfl, trivial⟩
    · have h := h.2 c6
      refine zu_aload_n d_8207_634 rfl (zs_ra _) ?_
      refine zu_aload_n d_8207_635 rfl (zs_ra _) ?_
      refine zg_8_347 rfl d_8207_636 k2 ?_
      refine zu_iload d_8207_639 rfl ?_
      obtain ⟨b7, e8, h⟩ := h
      refine zs_stk1 (zs_rfe e8) ?_
      obtain ⟨k9, h⟩ := h
      refine zu_iald (k := 0) d_8207_641 rfl rfl k9 ?_
      refine zu_iload d_8207_642 rfl ?_
      refine zu_stk d_8207_644 rfl rfl ?_
      refine zu_iload d_8207_645 rfl ?_
      refine zu_iload d_8207_647 rfl ?_
      refine zu_iload_n d_8207_649 rfl ?_
      refine zu_aload_n d_8207_650 rfl (zs_ra _) ?_
      refine zg_8_311 rfl d_8207_651 k2 ?_
      refine zu_iload_n d_8207_654 rfl ?_
      obtain ⟨b10, e11, h⟩ := h
      refine zs_stk1 (zs_rfe e11) ?_
      obtain ⟨k12, h⟩ := h
      refine zu_iald (k := 0) d_8207_655 rfl rfl k12 ?_
      refine zc_8_1387 (x0 := ((zs_i S b7 p5.toNatClampNeg) + p14)) (x1 := p15) (x2 := p12) (x3 := p2) (x4 := (zs_i S b10 p1.toNatClampNeg)) hB rfl k2 d_8207_656 (Nat.le_of_ble_eq_true rfl) h (fun S13 h => ?_)
      exact (u_X9_call_2_659 hB h).weak ⟨rfl, rfl, rfl, rfl, rfl, rfl, rfl, rfl, rfl, rfl, trivial⟩
def w_X9_call_2_611 (X : zs_X) (d : Nat) (p0 : Nat) (p1 : Int32) (p2 : Int32) (p5 : Int32) (p6 : Int32) (p9 : Int32) (p11 : Int32) (p12 : Int32) (p13 : Int32) (p14 : Int32) (S : zs_T) (Q : zs_Q) : Prop :=
  (zs_U X d 8207 513 [(0, .ref p0), (1, .int p1), (2, .int p2), (5, .int p5), (6, .int p6), (9, .int p9), (11, .int (p11 + (1 : Int32))), (12, .int p12), (13, .int p13), (14, .int (p14 + (1 : Int32)))] [] S Q)
theorem u_X9_call_2_611 {σ : Nat → Nat} {n0 : Nat} {bf : ab_B} {d : Nat} {p0 : Nat} {p1 : Int32} {p2 : Int32} {p5 : Int32} {p6 : Int32} {p9 : Int32} {p11 : Int32} {p12 : Int32} {p13 : Int32} {p14 : Int32} {S : zs_T} {Q : zs_Q} (hB : zt_B bf) (h : w_X9_call_2_611 (zx σ n0 bf) d p0 p1 p2 p5 p6 p9 p11 p12 p13 p14 S Q) : zs_U (zx σ n0 bf) d 8207 611 [(0, .ref p0), (1, .int p1), (2, .int p2), (5, .int p5), (6, .int p6), (9, .int p9), (11, .int p11), (12, .int p12), (13, .int p13), (14, .int p14)] [] S Q := by
  unfold w_X9_call_2_611 at h
  refine zu_iinc d_8207_611 rfl zi_1 (zs_lt zq_8207 rfl) ?_
  refine zu_goto (t := 695) d_8207_614 rfl ?_
  refine zu_iinc d_8207_695 rfl zi_1 (zs_lt zq_8207 rfl) ?_
  refine zu_goto (t := 513) d_8207_698 rfl ?_
  exact h.weak ⟨rfl, rfl, rfl, rfl, rfl, rfl, rfl, rfl, rfl, rfl, trivial⟩
def w_X9_call_2_565 (X : zs_X) (d : Nat) (p0 : Nat) (p1 : Int32) (p2 : Int32) (p5 : Int32) (p6 : Int32) (p9 : Int32) (p11 : Int32) (p12 : Int32) (p13 : Int32) (p14 : Int32) (p15 : Int32) (q0 : Int32) (S : zs_T) (Q : zs_Q) : Prop :=
  (((q0 = 0 → w_X9_call_2_617 X d p0 p1 p2 p5 p6 p9 p11 p12 p13 p14 p15 q0 S Q) ∧ (¬ (q0 = 0) → (zs_K S p0 = some (.inl 8) ∧ zs_C X d 8212 [.ref p0, .int p15] S (zs_kI (fun v4 S3 => (((v4 = 0 → w_X9_call_2_617 X d p0 p1 p2 p5 p6 p9 p11 p12 p13 p14 p15 q0 S3 Q) ∧ (¬ (v4 = 0) → (zs_K S3 p0 = some (.inl 8) ∧ ∃ b7, (zs_R S3 8160 p0) = some b7 ∧ zs_A S3 b7 0 p5 ∧ ∃ b10, (zs_R S3 8183 p0) = some b10 ∧ zs_A S3 b10 3 p11 ∧ ∃ b13, (zs_R S3 8145 p0) = some b13 ∧ zs_A S3 b13 0 p1 ∧ zs_C X d 8213 [.ref p0, .int ((zs_i S3 b7 p5.toNatClampNeg) + p14), .int p15, .long (zs_j S3 b10 p11.toNatClampNeg), .int p2, .int (zs_i S3 b13 p1.toNatClampNeg)] S3 (zs_kV (fun S16 => w_X9_call_2_611 X d p0 p1 p2 p5 p6 p9 p11 p12 p13 p14 S16 Q) Q)))))) Q)))))
theorem u_X9_call_2_565 {σ : Nat → Nat} {n0 : Nat} {bf : ab_B} {d : Nat} {p0 : Nat} {p1 : Int32} {p2 : Int32} {p5 : Int32} {p6 : Int32} {p9 : Int32} {p11 : Int32} {p12 : Int32} {p13 : Int32} {p14 : Int32} {p15 : Int32} {q0 : Int32} {S : zs_T} {Q : zs_Q} (hB : zt_B bf) (h : w_X9_call_2_565 (zx σ n0 bf) d p0 p1 p2 p5 p6 p9 p11 p12 p13 p14 p15 q0 S Q) : zs_U (zx σ n0 bf) d 8207 565 [(0, .ref p0), (1, .int p1), (2, .int p2), (5, .int p5), (6, .int p6), (9, .int p9), (11, .int p11), (12, .int p12), (13, .int p13), (14, .int p14), (15, .int p15)] [.int q0] S Q := by
  unfold w_X9_call_2_565 at h
  refine zu_istore d_8207_565 (zs_lt zq_8207 rfl) ?_
  refine zu_iload d_8207_567 rfl ?_
  refine zu_ifeq (t := 617) d_8207_569 rfl (fun c1 => ?_) (fun c1 => ?_)
  · have h := h.1 c1
    exact (u_X9_call_2_617 hB h).weak ⟨rfl, rfl, rfl, rfl, rfl, rfl, rfl, rfl, rfl, rfl, rfl, rfl, trivial⟩
  · have h := h.2 c1
    refine zu_aload_n d_8207_572 rfl (zs_ra _) ?_
    refine zu_iload d_8207_573 rfl ?_
    obtain ⟨k2, h⟩ := h
    refine zc_8_1380 (x0 := p15) hB rfl k2 d_8207_575 (Nat.le_of_ble_eq_true rfl) h (fun v4 S3 h => ?_)
    refine zu_ifeq (t := 617) d_8207_578 rfl (fun c5 => ?_) (fun c5 => ?_)
    · have h := h.1 c5
      exact (u_X9_call_2_617 hB h).weak ⟨rfl, rfl, rfl, rfl, rfl, rfl, rfl, rfl, rfl, rfl, rfl, rfl, trivial⟩
    · have h := h.2 c5
      refine zu_aload_n d_8207_581 rfl (zs_ra _) ?_
      refine zu_aload_n d_8207_582 rfl (zs_ra _) ?_
      obtain ⟨k6, h⟩ := h
      refine zg_8_347 rfl d_8207_583 k6 ?_
      refine zu_iload d_8207_586 rfl ?_
      obtain ⟨b7, e8, h⟩ := h
      refine zs_stk1 (zs_rfe e8) ?_
      obtain ⟨k9, h⟩ := h
      refine zu_iald (k := 0) d_8207_588 rfl rfl k9 ?_
      refine zu_iload d_8207_589 rfl ?_
      refine zu_stk d_8207_591 rfl rfl ?_
      refine zu_iload d_8207_592 rfl ?_
      refine zu_aload_n d_8207_594 rfl (zs_ra _) ?_
      refine zg_8_399 rfl d_8207_595 k6 ?_
      refine zu_iload d_8207_598 rfl ?_
      obtain ⟨b10, e11, h⟩ := h
      refine zs_stk1 (zs_rfe e11) ?_
      obtain ⟨k12, h⟩ := h
      refine zu_lald (k := 3) d_8207_600 rfl rfl k12 ?_
      refine zu_iload_n d_8207_601 rfl ?_
      refine zu_aload_n d_8207_602 rfl (zs_ra _) ?_
      refine zg_8_311 rfl d_8207_603 k6 ?_
      refine zu_iload_n d_8207_606 rfl ?_
      obtain ⟨b13, e14, h⟩ := h
      refine zs_stk1 (zs_rfe e14) ?_
      obtain ⟨k15, h⟩ := h
      refine zu_iald (k := 0) d_8207_607 rfl rfl k15 ?_
      refine zc_8_1383 (x0 := ((zs_i S3 b7 p5.toNatClampNeg) + p14)) (x1 := p15) (x2 := (zs_j S3 b10 p11.toNatClampNeg)) (x3 := p2) (x4 := (zs_i S3 b13 p1.toNatClampNeg)) hB rfl k6 d_8207_608 (Nat.le_of_ble_eq_true rfl) h (fun S16 h => ?_)
      exact (u_X9_call_2_611 hB h).weak ⟨rfl, rfl, rfl, rfl, rfl, rfl, rfl, rfl, rfl, rfl, trivial⟩
def w_X9_call_2_543 (X : zs_X) (d : Nat) (p0 : Nat) (p1 : Int32) (p2 : Int32) (p5 : Int32) (p6 : Int32) (p9 : Int32) (p11 : Int32) (p12 : Int32) (p13 : Int32) (p14 : Int32) (p15 : Int32) (S : zs_T) (Q : zs_Q) : Prop :=
  (zs_K S p0 = some (.inl 8) ∧ ∃ b2, (zs_R S 8104 p0) = some b2 ∧ zs_A S b2 0 p1 ∧ ∃ b5, (zs_R S 8110 p0) = some b5 ∧ zs_A S b5 1 ((zs_i S b2 p1.toNatClampNeg) + p14) ∧ ((¬ (zs_i S b5 ((zs_i S b2 p1.toNatClampNeg) + p14).toNatClampNeg) = 0 → (w_X9_call_2_565 X d p0 p1 p2 p5 p6 p9 p11 p12 p13 p14 p15 (0 : Int32) S Q)) ∧ (¬ (¬ (zs_i S b5 ((zs_i S b2 p1.toNatClampNeg) + p14).toNatClampNeg) = 0) → (w_X9_call_2_565 X d p0 p1 p2 p5 p6 p9 p11 p12 p13 p14 p15 (1 : Int32) S Q))))
theorem u_X9_call_2_543 {σ : Nat → Nat} {n0 : Nat} {bf : ab_B} {d : Nat} {p0 : Nat} {p1 : Int32} {p2 : Int32} {p5 : Int32} {p6 : Int32} {p9 : Int32} {p11 : Int32} {p12 : Int32} {p13 : Int32} {p14 : Int32} {p15 : Int32} {S : zs_T} {Q : zs_Q} (hB : zt_B bf) (h : w_X9_call_2_543 (zx σ n0 bf) d p0 p1 p2 p5 p6 p9 p11 p12 p13 p14 p15 S Q) : zs_U (zx σ n0 bf) d 8207 543 [(0, .ref p0), (1, .int p1), (2, .int p2), (5, .int p5), (6, .int p6), (9, .int p9), (11, .int p11), (12, .int p12), (13, .int p13), (14, .int p14), (15, .int p15)] [] S Q := by
  unfold w_X9_call_2_543 at h
  refine zu_aload_n d_8207_543 rfl (zs_ra _) ?_
  obtain ⟨k1, h⟩ := h
  refine zg_8_242 rfl d_8207_544 k1 ?_
  refine zu_aload_n d_8207_547 rfl (zs_ra _) ?_
  refine zg_8_227 rfl d_8207_548 k1 ?_
  refine zu_iload_n d_8207_551 rfl ?_
  obtain ⟨b2, e3, h⟩ := h
  refine zs_stk1 (zs_rfe e3) ?_
  obtain ⟨k4, h⟩ := h
  refine zu_iald (k := 0) d_8207_552 rfl rfl k4 ?_
  refine zu_iload d_8207_553 rfl ?_
  refine zu_stk d_8207_555 rfl rfl ?_
  obtain ⟨b5, e6, h⟩ := h
  refine zs_stk1 (zs_rfe e6) ?_
  obtain ⟨k7, h⟩ := h
  refine zu_bald (k := 1) d_8207_556 rfl (Or.inl rfl) k7 ?_
  refine zu_ifne (t := 564) d_8207_557 rfl (fun c8 => ?_) (fun c8 => ?_)
  · have h := h.1 c8
    refine zu_iconst d_8207_564 zi_0 ?_
    exact (u_X9_call_2_565 hB h).weak ⟨rfl, rfl, rfl, rfl, rfl, rfl, rfl, rfl, rfl, rfl, rfl, trivial⟩
  · have h := h.2 c8
    refine zu_iconst d_8207_560 zi_1 ?_
    refine zu_goto (t := 565) d_8207_561 rfl ?_
    exact (u_X9_call_2_565 hB h).weak ⟨rfl, rfl, rfl, rfl, rfl, rfl, rfl, rfl, rfl, rfl, rfl, trivial⟩
def w_X9_call_2_513 (X : zs_X) (d : Nat) (p0 : Nat) (p1 : Int32) (p2 : Int32) (p5 : Int32) (p6 : Int32) (p9 : Int32) (p11 : Int32) (p12 : Int32) (p13 : Int32) (p14 : Int32) (S : zs_T) (Q : zs_Q) : Prop :=
  (((p6 ≤ p14 → zs_U X d 8207 701 [(0, .ref p0), (1, .int p1), (5, .int p5), (9, .int p9)] [] S Q) ∧ (¬ (p6 ≤ p14) → (zs_K S p0 = some (.inl 8) ∧ ((¬ (zs_I S 8197 p0) = 0 → zs_U X d 8207 701 [(0, .ref p0), (1, .int p1), (5, .int p5), (9, .int p9)] [] S Q) ∧ (¬ (¬ (zs_I S 8197 p0) = 0) → (∃ b4, (zs_R S 8104 p0) = some b4 ∧ zs_A S b4 0 p1 ∧ ∃ b7, (zs_R S 8109 p0) = some b7 ∧ zs_A S b7 0 ((zs_i S b4 p1.toNatClampNeg) + p14) ∧ w_X9_call_2_543 X d p0 p1 p2 p5 p6 p9 p11 p12 p13 p14 (zs_i S b7 ((zs_i S b4 p1.toNatClampNeg) + p14).toNatClampNeg) S Q)))))))
theorem u_X9_call_2_513 {σ : Nat → Nat} {n0 : Nat} {bf : ab_B} {d : Nat} {p0 : Nat} {p1 : Int32} {p2 : Int32} {p5 : Int32} {p6 : Int32} {p9 : Int32} {p11 : Int32} {p12 : Int32} {p13 : Int32} {p14 : Int32} {S : zs_T} {Q : zs_Q} (hB : zt_B bf) (h : w_X9_call_2_513 (zx σ n0 bf) d p0 p1 p2 p5 p6 p9 p11 p12 p13 p14 S Q) : zs_U (zx σ n0 bf) d 8207 513 [(0, .ref p0), (1, .int p1), (2, .int p2), (5, .int p5), (6, .int p6), (9, .int p9), (11, .int p11), (12, .int p12), (13, .int p13), (14, .int p14)] [] S Q := by
  unfold w_X9_call_2_513 at h
  refine zu_iload d_8207_513 rfl ?_
  refine zu_iload d_8207_515 rfl ?_
  refine zu_cmpge (t := 701) d_8207_517 rfl (fun c1 => ?_) (fun c1 => ?_)
  · have h := h.1 c1
    exact h.weak ⟨rfl, rfl, rfl, rfl, trivial⟩
  · have h := h.2 c1
    refine zu_aload_n d_8207_520 rfl (zs_ra _) ?_
    obtain ⟨k2, h⟩ := h
    refine zg_8_1273 rfl d_8207_521 k2 ?_
    refine zu_ifne (t := 701) d_8207_524 rfl (fun c3 => ?_) (fun c3 => ?_)
    · have h := h.1 c3
      exact h.weak ⟨rfl, rfl, rfl, rfl, trivial⟩
    · have h := h.2 c3
      refine zu_aload_n d_8207_527 rfl (zs_ra _) ?_
      refine zg_8_239 rfl d_8207_528 k2 ?_
      refine zu_aload_n d_8207_531 rfl (zs_ra _) ?_
      refine zg_8_227 rfl d_8207_532 k2 ?_
      refine zu_iload_n d_8207_535 rfl ?_
      obtain ⟨b4, e5, h⟩ := h
      refine zs_stk1 (zs_rfe e5) ?_
      obtain ⟨k6, h⟩ := h
      refine zu_iald (k := 0) d_8207_536 rfl rfl k6 ?_
      refine zu_iload d_8207_537 rfl ?_
      refine zu_stk d_8207_539 rfl rfl ?_
      obtain ⟨b7, e8, h⟩ := h
      refine zs_stk1 (zs_rfe e8) ?_
      obtain ⟨k9, h⟩ := h
      refine zu_iald (k := 0) d_8207_540 rfl rfl k9 ?_
      refine zu_istore d_8207_541 (zs_lt zq_8207 rfl) ?_
      exact (u_X9_call_2_543 hB h).weak ⟨rfl, rfl, rfl, rfl, rfl, rfl, rfl, rfl, rfl, rfl, rfl, trivial⟩
def w_X9_call_2_774 (X : zs_X) (d : Nat) (p0 : Nat) (p1 : Int32) (S : zs_T) (Q : zs_Q) : Prop :=
  (zs_K S p0 = some (.inl 8) ∧ ∃ b2, (zs_R S 8099 p0) = some b2 ∧ zs_A S b2 0 p1 ∧ ab_n0 X.1 ≤ p0 ∧ ∀ S6, S6 = zs_sI S 8199 p0 (zs_i S b2 p1.toNatClampNeg) → Q (.returned none) S6)
theorem u_X9_call_2_774 {σ : Nat → Nat} {n0 : Nat} {bf : ab_B} {d : Nat} {p0 : Nat} {p1 : Int32} {S : zs_T} {Q : zs_Q} (hB : zt_B bf) (h : w_X9_call_2_774 (zx σ n0 bf) d p0 p1 S Q) : zs_U (zx σ n0 bf) d 8207 774 [(0, .ref p0), (1, .int p1)] [] S Q := by
  unfold w_X9_call_2_774 at h
  refine zu_aload_n d_8207_774 rfl (zs_ra _) ?_
  refine zu_aload_n d_8207_775 rfl (zs_ra _) ?_
  obtain ⟨k1, h⟩ := h
  refine zg_8_212 rfl d_8207_776 k1 ?_
  refine zu_iload_n d_8207_779 rfl ?_
  obtain ⟨b2, e3, h⟩ := h
  refine zs_stk1 (zs_rfe e3) ?_
  obtain ⟨k4, h⟩ := h
  refine zu_iald (k := 0) d_8207_780 rfl rfl k4 ?_
  obtain ⟨k5, h⟩ := h
  refine zp_8_1377 (v := (zs_i S b2 p1.toNatClampNeg)) rfl d_8207_781 k1 k5 ?_
  generalize e7 : zs_sI S 8199 p0 (zs_i S b2 p1.toNatClampNeg) = S6
  have h := h S6 e7.symm
  have K8 : ∀ b, zs_K S6 b = zs_K S b := zs_Kt e7 (zs_KsI _ _ _ _) (fun _ => rfl)
  exact zu_vret d_8207_784 zr_8207 h
def w_X9_call_2_742 (X : zs_X) (d : Nat) (p0 : Nat) (p1 : Int32) (p5 : Int32) (S : zs_T) (Q : zs_Q) : Prop :=
  (zs_K S p0 = some (.inl 8) ∧ ∃ b2, (zs_R S 8160 p0) = some b2 ∧ zs_A S b2 0 p5 ∧ ∃ b5, (zs_R S 8102 p0) = some b5 ∧ zs_A S b5 0 p1 ∧ ∃ b8, (zs_R S 8100 p0) = some b8 ∧ zs_A S b8 0 p1 ∧ ∃ b11, (zs_R S 8145 p0) = some b11 ∧ zs_A S b11 0 p1 ∧ zs_C X d 8215 [.ref p0, .int ((zs_i S b2 p5.toNatClampNeg) + (zs_i S b5 p1.toNatClampNeg)), .int (zs_i S b8 p1.toNatClampNeg), .int (zs_i S b11 p1.toNatClampNeg)] S (zs_kI (fun v15 S14 => (w_X9_call_2_774 X d p0 p1 S14 Q)) Q))
theorem u_X9_call_2_742 {σ : Nat → Nat} {n0 : Nat} {bf : ab_B} {d : Nat} {p0 : Nat} {p1 : Int32} {p5 : Int32} {S : zs_T} {Q : zs_Q} (hB : zt_B bf) (h : w_X9_call_2_742 (zx σ n0 bf) d p0 p1 p5 S Q) : zs_U (zx σ n0 bf) d 8207 742 [(0, .ref p0), (1, .int p1), (5, .int p5)] [] S Q := by
  unfold w_X9_call_2_742 at h
  refine zu_aload_n d_8207_742 rfl (zs_ra _) ?_
  refine zu_aload_n d_8207_743 rfl (zs_ra _) ?_
  obtain ⟨k1, h⟩ := h
  refine zg_8_347 rfl d_8207_744 k1 ?_
  refine zu_iload d_8207_747 rfl ?_
  obtain ⟨b2, e3, h⟩ := h
  refine zs_stk1 (zs_rfe e3) ?_
  obtain ⟨k4, h⟩ := h
  refine zu_iald (k := 0) d_8207_749 rfl rfl k4 ?_
  refine zu_aload_n d_8207_750 rfl (zs_ra _) ?_
  refine zg_8_221 rfl d_8207_751 k1 ?_
  refine zu_iload_n d_8207_754 rfl ?_
  obtain ⟨b5, e6, h⟩ := h
  refine zs_stk1 (zs_rfe e6) ?_
  obtain ⟨k7, h⟩ := h
  refine zu_iald (k := 0) d_8207_755 rfl rfl k7 ?_
  refine zu_stk d_8207_756 rfl rfl ?_
  refine zu_aload_n d_8207_757 rfl (zs_ra _) ?_
  refine zg_8_215 rfl d_8207_758 k1 ?_
  refine zu_iload_n d_8207_761 rfl ?_
  obtain ⟨b8, e9, h⟩ := h
  refine zs_stk1 (zs_rfe e9) ?_
  obtain ⟨k10, h⟩ := h
  refine zu_iald (k := 0) d_8207_762 rfl rfl k10 ?_
  refine zu_aload_n d_8207_763 rfl (zs_ra _) ?_
  refine zg_8_311 rfl d_8207_764 k1 ?_
  refine zu_iload_n d_8207_767 rfl ?_
  obtain ⟨b11, e12, h⟩ := h
  refine zs_stk1 (zs_rfe e12) ?_
  obtain ⟨k13, h⟩ := h
  refine zu_iald (k := 0) d_8207_768 rfl rfl k13 ?_
  refine zc_8_1398 (x0 := ((zs_i S b2 p5.toNatClampNeg) + (zs_i S b5 p1.toNatClampNeg))) (x1 := (zs_i S b8 p1.toNatClampNeg)) (x2 := (zs_i S b11 p1.toNatClampNeg)) hB rfl k1 d_8207_769 (Nat.le_of_ble_eq_true rfl) h (fun v15 S14 h => ?_)
  refine zu_istore d_8207_772 (zs_lt zq_8207 rfl) ?_
  exact (u_X9_call_2_774 hB h).weak ⟨rfl, rfl, trivial⟩
def w_X9_call_2_701 (X : zs_X) (d : Nat) (p0 : Nat) (p1 : Int32) (p5 : Int32) (p9 : Int32) (S : zs_T) (Q : zs_Q) : Prop :=
  (((p9 ≤ 0 → (zs_K S p0 = some (.inl 8) ∧ ((¬ (zs_I S 8197 p0) = 0 → w_X9_call_2_774 X d p0 p1 S Q) ∧ (¬ (¬ (zs_I S 8197 p0) = 0) → (∃ b4, (zs_R S 8100 p0) = some b4 ∧ zs_A S b4 0 p1 ∧ (((zs_i S b4 p1.toNatClampNeg) ≤ 0 → w_X9_call_2_774 X d p0 p1 S Q) ∧ (¬ ((zs_i S b4 p1.toNatClampNeg) ≤ 0) → (zs_C X d 8225 [.ref p0, .int (zs_i S b4 p1.toNatClampNeg)] S (zs_kV (fun S8 => w_X9_call_2_742 X d p0 p1 p5 S8 Q) Q))))))))) ∧ (¬ (p9 ≤ 0) → (zs_K S p0 = some (.inl 8) ∧ zs_C X d 8228 [.ref p0] S (zs_kV (fun S11 => (zs_U X d 8207 701 [(0, .ref p0), (1, .int p1), (5, .int p5), (9, .int (p9 + (-1 : Int32)))] [] S11 Q)) Q)))))
theorem u_X9_call_2_701 {σ : Nat → Nat} {n0 : Nat} {bf : ab_B} {d : Nat} {p0 : Nat} {p1 : Int32} {p5 : Int32} {p9 : Int32} {S : zs_T} {Q : zs_Q} (hB : zt_B bf) (h : w_X9_call_2_701 (zx σ n0 bf) d p0 p1 p5 p9 S Q) : zs_U (zx σ n0 bf) d 8207 701 [(0, .ref p0), (1, .int p1), (5, .int p5), (9, .int p9)] [] S Q := by
  unfold w_X9_call_2_701 at h
  refine zu_iload d_8207_701 rfl ?_
  refine zu_ifle (t := 716) d_8207_703 rfl (fun c1 => ?_) (fun c1 => ?_)
  · have h := h.1 c1
    refine zu_aload_n d_8207_716 rfl (zs_ra _) ?_
    obtain ⟨k2, h⟩ := h
    refine zg_8_1273 rfl d_8207_717 k2 ?_
    refine zu_ifne (t := 774) d_8207_720 rfl (fun c3 => ?_) (fun c3 => ?_)
    · have h := h.1 c3
      exact (u_X9_call_2_774 hB h).weak ⟨rfl, rfl, trivial⟩
    · have h := h.2 c3
      refine zu_aload_n d_8207_723 rfl (zs_ra _) ?_
      refine zg_8_215 rfl d_8207_724 k2 ?_
      refine zu_iload_n d_8207_727 rfl ?_
      obtain ⟨b4, e5, h⟩ := h
      refine zs_stk1 (zs_rfe e5) ?_
      obtain ⟨k6, h⟩ := h
      refine zu_iald (k := 0) d_8207_728 rfl rfl k6 ?_
      refine zu_ifle (t := 774) d_8207_729 rfl (fun c7 => ?_) (fun c7 => ?_)
      · have h := h.1 c7
        exact (u_X9_call_2_774 hB h).weak ⟨rfl, rfl, trivial⟩
      · have h := h.2 c7
        refine zu_aload_n d_8207_732 rfl (zs_ra _) ?_
        refine zu_aload_n d_8207_733 rfl (zs_ra _) ?_
        refine zg_8_215 rfl d_8207_734 k2 ?_
        refine zu_iload_n d_8207_737 rfl ?_
        refine zs_stk1 (zs_rfe e5) ?_
        refine zu_iald (k := 0) d_8207_738 rfl rfl k6 ?_
        refine zc_8_1395 (x0 := (zs_i S b4 p1.toNatClampNeg)) hB rfl k2 d_8207_739 (Nat.le_of_ble_eq_true rfl) h (fun S8 h => ?_)
        exact (u_X9_call_2_742 hB h).weak ⟨rfl, rfl, rfl, trivial⟩
  · have h := h.2 c1
    refine zu_aload_n d_8207_706 rfl (zs_ra _) ?_
    obtain ⟨k10, h⟩ := h
    refine zc_8_1323  hB rfl k10 d_8207_707 (Nat.le_of_ble_eq_true rfl) h (fun S11 h => ?_)
    refine zu_iinc d_8207_710 rfl zi_m1 (zs_lt zq_8207 rfl) ?_
    refine zu_goto (t := 701) d_8207_713 rfl ?_
    exact h.weak ⟨rfl, rfl, rfl, rfl, trivial⟩
def w_X9_call_2 (X : zs_X) (d : Nat) (p0 : Nat) (p1 : Int32) (p2 : Int32) (S : zs_T) (Q : zs_Q) : Prop :=
  (zs_K S p0 = some (.inl 8) ∧ ((¬ (zs_I S 8165 p0) = (100 : Int32) → (((¬ (zs_I S 8165 p0) = 0 → (∃ b4, (zs_R S 8156 p0) = some b4 ∧ zs_A S b4 0 ((zs_I S 8165 p0) - (1 : Int32)) ∧ ∃ b7, (zs_R S 8101 p0) = some b7 ∧ zs_A S b7 0 (zs_i S b4 ((zs_I S 8165 p0) - (1 : Int32)).toNatClampNeg) ∧ ∃ b10, (zs_R S 8106 p0) = some b10 ∧ zs_A S b10 0 p1 ∧ zs_A S b7 0 (zs_i S b10 p1.toNatClampNeg) ∧ w_X9_call_2_61 X d p0 p1 p2 ((zs_i S b7 (zs_i S b4 ((zs_I S 8165 p0) - (1 : Int32)).toNatClampNeg).toNatClampNeg) - (zs_i S b7 (zs_i S b10 p1.toNatClampNeg).toNatClampNeg)) S Q)) ∧ (¬ (¬ (zs_I S 8165 p0) = 0) → (w_X9_call_2_61 X d p0 p1 p2 (0 : Int32) S Q))))) ∧ (¬ (¬ (zs_I S 8165 p0) = (100 : Int32)) → (∃ b14, (zs_R S 8145 p0) = some b14 ∧ zs_A S b14 0 p1 ∧ zs_C X d 8208 [.ref p0, .int (11 : Int32), .int (zs_i S b14 p1.toNatClampNeg)] S (zs_kV (fun S17 => (Q (.returned none) S17)) Q)))))
theorem u_X9_call_2 {σ : Nat → Nat} {n0 : Nat} {bf : ab_B} {d : Nat} {p0 : Nat} {p1 : Int32} {p2 : Int32} {S : zs_T} {Q : zs_Q} (hB : zt_B bf) (hd : 1 ≤ d) (h : w_X9_call_2 (zx σ n0 bf) (d - 1) p0 p1 p2 S Q) : zs_C (zx σ n0 bf) d 8207 [.ref p0, .int p1, .int p2] S Q := by
  have hL : lv_args 0 [.ref p0, .int p1, .int p2] = [(0, .ref p0), (1, .int p1), (2, .int p2)] := rfl
  refine zs_C.of1 (hB.2 8207 (by decide) (by decide)) hd (by rw [hL]; exact zs_sub_self _ (by exact ⟨rfl, rfl, rfl, trivial⟩)) ?_
  rw [hL]
  clear hL
  unfold w_X9_call_2 at h
  refine zu_aload_n d_8207_0 rfl (zs_ra _) ?_
  obtain ⟨k1, h⟩ := h
  refine zg_8_1240 rfl d_8207_1 k1 ?_
  refine zu_bipush d_8207_4 zj_100 ?_
  refine zu_cmpne (t := 22) d_8207_6 rfl (fun c2 => ?_) (fun c2 => ?_)
  · have h := h.1 c2
    refine zu_aload_n d_8207_22 rfl (zs_ra _) ?_
    refine zg_8_1240 rfl d_8207_23 k1 ?_
    refine zu_ifne (t := 33) d_8207_26 rfl (fun c3 => ?_) (fun c3 => ?_)
    · have h := h.1 c3
      refine zu_aload_n d_8207_33 rfl (zs_ra _) ?_
      refine zg_8_218 rfl d_8207_34 k1 ?_
      refine zu_aload_n d_8207_37 rfl (zs_ra _) ?_
      refine zg_8_335 rfl d_8207_38 k1 ?_
      refine zu_aload_n d_8207_41 rfl (zs_ra _) ?_
      refine zg_8_1240 rfl d_8207_42 k1 ?_
      refine zu_iconst d_8207_45 zi_1 ?_
      refine zu_stk d_8207_46 rfl rfl ?_
      obtain ⟨b4, e5, h⟩ := h
      refine zs_stk1 (zs_rfe e5) ?_
      obtain ⟨k6, h⟩ := h
      refine zu_iald (k := 0) d_8207_47 rfl rfl k6 ?_
      obtain ⟨b7, e8, h⟩ := h
      refine zs_stk1 (zs_rfe e8) ?_
      obtain ⟨k9, h⟩ := h
      refine zu_iald (k := 0) d_8207_48 rfl rfl k9 ?_
      refine zu_aload_n d_8207_49 rfl (zs_ra _) ?_
      refine zg_8_218 rfl d_8207_50 k1 ?_
      refine zu_aload_n d_8207_53 rfl (zs_ra _) ?_
      refine zg_8_233 rfl d_8207_54 k1 ?_
      refine zu_iload_n d_8207_57 rfl ?_
      obtain ⟨b10, e11, h⟩ := h
      refine zs_stk1 (zs_rfe e11) ?_
      obtain ⟨k12, h⟩ := h
      refine zu_iald (k := 0) d_8207_58 rfl rfl k12 ?_
      refine zs_stk1 (zs_rfe e8) ?_
      obtain ⟨k13, h⟩ := h
      refine zu_iald (k := 0) d_8207_59 rfl rfl k13 ?_
      refine zu_stk d_8207_60 rfl rfl ?_
      exact (u_X9_call_2_61 hB h).weak ⟨rfl, rfl, rfl, trivial⟩
    · have h := h.2 c3
      refine zu_iconst d_8207_29 zi_0 ?_
      refine zu_goto (t := 61) d_8207_30 rfl ?_
      exact (u_X9_call_2_61 hB h).weak ⟨rfl, rfl, rfl, trivial⟩
  · have h := h.2 c2
    refine zu_aload_n d_8207_9 rfl (zs_ra _) ?_
    refine zu_bipush d_8207_10 zj_11 ?_
    refine zu_aload_n d_8207_12 rfl (zs_ra _) ?_
    refine zg_8_311 rfl d_8207_13 k1 ?_
    refine zu_iload_n d_8207_16 rfl ?_
    obtain ⟨b14, e15, h⟩ := h
    refine zs_stk1 (zs_rfe e15) ?_
    obtain ⟨k16, h⟩ := h
    refine zu_iald (k := 0) d_8207_17 rfl rfl k16 ?_
    refine zc_8_1297 (x0 := (11 : Int32)) (x1 := (zs_i S b14 p1.toNatClampNeg)) hB rfl k1 d_8207_18 (Nat.le_of_ble_eq_true rfl) h (fun S17 h => ?_)
    exact zu_vret d_8207_21 zr_8207 h
/-! SchemaPascalModel.err(II)V -/
theorem zm_8208 {σ : Nat → Nat} {n0 : Nat} {bf : ab_B} : ab_code (zx σ n0 bf).1 8208 = prog_17_method_204_code := rfl
theorem zq_8208 {σ : Nat → Nat} {n0 : Nat} {bf : ab_B} : ab_maxL (zx σ n0 bf).1 8208 = 3 := rfl
theorem zr_8208 {σ : Nat → Nat} {n0 : Nat} {bf : ab_B} : ab_ret (zx σ n0 bf).1 8208 = (Option.none : Option Jvm.ClassFile.FieldType) := rfl
theorem d_8208_0 {σ : Nat → Nat} {n0 : Nat} {bf : ab_B} : decode (ab_code (zx σ n0 bf).1 8208) 0 = .ok (.aload_n 0, 1) := zd zm_8208 (by decide +kernel)
theorem d_8208_1 {σ : Nat → Nat} {n0 : Nat} {bf : ab_B} : decode (ab_code (zx σ n0 bf).1 8208) 1 = .ok (.getfield 1273, 3) := zd zm_8208 (by decide +kernel)
theorem d_8208_4 {σ : Nat → Nat} {n0 : Nat} {bf : ab_B} : decode (ab_code (zx σ n0 bf).1 8208) 4 = .ok (.ifCond .ne 13, 3) := zd zm_8208 (by decide +kernel)
theorem d_8208_7 {σ : Nat → Nat} {n0 : Nat} {bf : ab_B} : decode (ab_code (zx σ n0 bf).1 8208) 7 = .ok (.aload_n 0, 1) := zd zm_8208 (by decide +kernel)
theorem d_8208_8 {σ : Nat → Nat} {n0 : Nat} {bf : ab_B} : decode (ab_code (zx σ n0 bf).1 8208) 8 = .ok (.iload_n 1, 1) := zd zm_8208 (by decide +kernel)
theorem d_8208_9 {σ : Nat → Nat} {n0 : Nat} {bf : ab_B} : decode (ab_code (zx σ n0 bf).1 8208) 9 = .ok (.putfield 1273, 3) := zd zm_8208 (by decide +kernel)
theorem d_8208_12 {σ : Nat → Nat} {n0 : Nat} {bf : ab_B} : decode (ab_code (zx σ n0 bf).1 8208) 12 = .ok (.aload_n 0, 1) := zd zm_8208 (by decide +kernel)
theorem d_8208_13 {σ : Nat → Nat} {n0 : Nat} {bf : ab_B} : decode (ab_code (zx σ n0 bf).1 8208) 13 = .ok (.iload_n 2, 1) := zd zm_8208 (by decide +kernel)
theorem d_8208_14 {σ : Nat → Nat} {n0 : Nat} {bf : ab_B} : decode (ab_code (zx σ n0 bf).1 8208) 14 = .ok (.putfield 428, 3) := zd zm_8208 (by decide +kernel)
theorem d_8208_17 {σ : Nat → Nat} {n0 : Nat} {bf : ab_B} : decode (ab_code (zx σ n0 bf).1 8208) 17 = .ok (.return_, 1) := zd zm_8208 (by decide +kernel)
def w_X9_err (X : zs_X) (d : Nat) (p0 : Nat) (p1 : Int32) (p2 : Int32) (S : zs_T) (Q : zs_Q) : Prop :=
  (zs_K S p0 = some (.inl 8) ∧ ((¬ (zs_I S 8197 p0) = 0 → (Q (.returned none) S)) ∧ (¬ (¬ (zs_I S 8197 p0) = 0) → (ab_n0 X.1 ≤ p0 ∧ ∀ S4, S4 = zs_sI S 8197 p0 p1 → ∀ S7, S7 = zs_sI S4 8198 p0 p2 → Q (.returned none) S7))))
theorem u_X9_err {σ : Nat → Nat} {n0 : Nat} {bf : ab_B} {d : Nat} {p0 : Nat} {p1 : Int32} {p2 : Int32} {S : zs_T} {Q : zs_Q} (hB : zt_B bf) (hd : 1 ≤ d) (h : w_X9_err (zx σ n0 bf) (d - 1) p0 p1 p2 S Q) : zs_C (zx σ n0 bf) d 8208 [.ref p0, .int p1, .int p2] S Q := by
  have hL : lv_args 0 [.ref p0, .int p1, .int p2] = [(0, .ref p0), (1, .int p1), (2, .int p2)] := rfl
  refine zs_C.of1 (hB.2 8208 (by decide) (by decide)) hd (by rw [hL]; exact zs_sub_self _ (by exact ⟨rfl, rfl, rfl, trivial⟩)) ?_
  rw [hL]
  clear hL
  unfold w_X9_err at h
  refine zu_aload_n d_8208_0 rfl (zs_ra _) ?_
  obtain ⟨k1, h⟩ := h
  refine zg_8_1273 rfl d_8208_1 k1 ?_
  refine zu_ifne (t := 17) d_8208_4 rfl (fun c2 => ?_) (fun c2 => ?_)
  · have h := h.1 c2
    exact zu_vret d_8208_17 zr_8208 h
  · have h := h.2 c2
    refine zu_aload_n d_8208_7 rfl (zs_ra _) ?_
    refine zu_iload_n d_8208_8 rfl ?_
    obtain ⟨k3, h⟩ := h
    refine zp_8_1273 (v := p1) rfl d_8208_9 k1 k3 ?_
    generalize e5 : zs_sI S 8197 p0 p1 = S4
    have h := h S4 e5.symm
    have K6 : ∀ b, zs_K S4 b = zs_K S b := zs_Kt e5 (zs_KsI _ _ _ _) (fun _ => rfl)
    refine zu_aload_n d_8208_12 rfl (zs_ra _) ?_
    refine zu_iload_n d_8208_13 rfl ?_
    refine zp_8_428 (v := p2) rfl d_8208_14 ((K6 _).trans k1) k3 ?_
    generalize e8 : zs_sI S4 8198 p0 p2 = S7
    have h := h S7 e8.symm
    have K9 : ∀ b, zs_K S7 b = zs_K S b := zs_Kt e8 (zs_KsI _ _ _ _) K6
    exact zu_vret d_8208_17 zr_8208 h
/-! SchemaPascalModel.outward(I)I -/
theorem zm_8209 {σ : Nat → Nat} {n0 : Nat} {bf : ab_B} : ab_code (zx σ n0 bf).1 8209 = prog_17_method_213_code := rfl
theorem zq_8209 {σ : Nat → Nat} {n0 : Nat} {bf : ab_B} : ab_maxL (zx σ n0 bf).1 8209 = 4 := rfl
theorem zr_8209 {σ : Nat → Nat} {n0 : Nat} {bf : ab_B} : ab_ret (zx σ n0 bf).1 8209 = (Option.some Jvm.ClassFile.FieldType.int) := rfl
theorem d_8209_0 {σ : Nat → Nat} {n0 : Nat} {bf : ab_B} : decode (ab_code (zx σ n0 bf).1 8209) 0 = .ok (.aload_n 0, 1) := zd zm_8209 (by decide +kernel)
theorem d_8209_1 {σ : Nat → Nat} {n0 : Nat} {bf : ab_B} : decode (ab_code (zx σ n0 bf).1 8209) 1 = .ok (.getfield 1240, 3) := zd zm_8209 (by decide +kernel)
theorem d_8209_4 {σ : Nat → Nat} {n0 : Nat} {bf : ab_B} : decode (ab_code (zx σ n0 bf).1 8209) 4 = .ok (.iconst 1, 1) := zd zm_8209 (by decide +kernel)
theorem d_8209_5 {σ : Nat → Nat} {n0 : Nat} {bf : ab_B} : decode (ab_code (zx σ n0 bf).1 8209) 5 = .ok (.isub, 1) := zd zm_8209 (by decide +kernel)
theorem d_8209_6 {σ : Nat → Nat} {n0 : Nat} {bf : ab_B} : decode (ab_code (zx σ n0 bf).1 8209) 6 = .ok (.istore_n 2, 1) := zd zm_8209 (by decide +kernel)
theorem d_8209_7 {σ : Nat → Nat} {n0 : Nat} {bf : ab_B} : decode (ab_code (zx σ n0 bf).1 8209) 7 = .ok (.iconst 0, 1) := zd zm_8209 (by decide +kernel)
theorem d_8209_8 {σ : Nat → Nat} {n0 : Nat} {bf : ab_B} : decode (ab_code (zx σ n0 bf).1 8209) 8 = .ok (.istore_n 3, 1) := zd zm_8209 (by decide +kernel)
theorem d_8209_9 {σ : Nat → Nat} {n0 : Nat} {bf : ab_B} : decode (ab_code (zx σ n0 bf).1 8209) 9 = .ok (.iload_n 3, 1) := zd zm_8209 (by decide +kernel)
theorem d_8209_10 {σ : Nat → Nat} {n0 : Nat} {bf : ab_B} : decode (ab_code (zx σ n0 bf).1 8209) 10 = .ok (.iload_n 1, 1) := zd zm_8209 (by decide +kernel)
theorem d_8209_11 {σ : Nat → Nat} {n0 : Nat} {bf : ab_B} : decode (ab_code (zx σ n0 bf).1 8209) 11 = .ok (.if_icmp .ge 16, 3) := zd zm_8209 (by decide +kernel)
theorem d_8209_14 {σ : Nat → Nat} {n0 : Nat} {bf : ab_B} : decode (ab_code (zx σ n0 bf).1 8209) 14 = .ok (.aload_n 0, 1) := zd zm_8209 (by decide +kernel)
theorem d_8209_15 {σ : Nat → Nat} {n0 : Nat} {bf : ab_B} : decode (ab_code (zx σ n0 bf).1 8209) 15 = .ok (.getfield 344, 3) := zd zm_8209 (by decide +kernel)
theorem d_8209_18 {σ : Nat → Nat} {n0 : Nat} {bf : ab_B} : decode (ab_code (zx σ n0 bf).1 8209) 18 = .ok (.iload_n 2, 1) := zd zm_8209 (by decide +kernel)
theorem d_8209_19 {σ : Nat → Nat} {n0 : Nat} {bf : ab_B} : decode (ab_code (zx σ n0 bf).1 8209) 19 = .ok (.iaload, 1) := zd zm_8209 (by decide +kernel)
theorem d_8209_20 {σ : Nat → Nat} {n0 : Nat} {bf : ab_B} : decode (ab_code (zx σ n0 bf).1 8209) 20 = .ok (.istore_n 2, 1) := zd zm_8209 (by decide +kernel)
theorem d_8209_21 {σ : Nat → Nat} {n0 : Nat} {bf : ab_B} : decode (ab_code (zx σ n0 bf).1 8209) 21 = .ok (.iinc 3 1, 3) := zd zm_8209 (by decide +kernel)
theorem d_8209_24 {σ : Nat → Nat} {n0 : Nat} {bf : ab_B} : decode (ab_code (zx σ n0 bf).1 8209) 24 = .ok (.goto (-15), 3) := zd zm_8209 (by decide +kernel)
theorem d_8209_27 {σ : Nat → Nat} {n0 : Nat} {bf : ab_B} : decode (ab_code (zx σ n0 bf).1 8209) 27 = .ok (.iload_n 2, 1) := zd zm_8209 (by decide +kernel)
theorem d_8209_28 {σ : Nat → Nat} {n0 : Nat} {bf : ab_B} : decode (ab_code (zx σ n0 bf).1 8209) 28 = .ok (.ireturn, 1) := zd zm_8209 (by decide +kernel)
def w_X9_outward_9 (X : zs_X) (d : Nat) (p0 : Nat) (p1 : Int32) (p2 : Int32) (p3 : Int32) (S : zs_T) (Q : zs_Q) : Prop :=
  (((p1 ≤ p3 → (Q (.returned (some (.int p2))) S)) ∧ (¬ (p1 ≤ p3) → (zs_K S p0 = some (.inl 8) ∧ ∃ b3, (zs_R S 8159 p0) = some b3 ∧ zs_A S b3 0 p2 ∧ zs_U X d 8209 9 [(0, .ref p0), (1, .int p1), (2, .int (zs_i S b3 p2.toNatClampNeg)), (3, .int (p3 + (1 : Int32)))] [] S Q))))
theorem u_X9_outward_9 {σ : Nat → Nat} {n0 : Nat} {bf : ab_B} {d : Nat} {p0 : Nat} {p1 : Int32} {p2 : Int32} {p3 : Int32} {S : zs_T} {Q : zs_Q} (hB : zt_B bf) (h : w_X9_outward_9 (zx σ n0 bf) d p0 p1 p2 p3 S Q) : zs_U (zx σ n0 bf) d 8209 9 [(0, .ref p0), (1, .int p1), (2, .int p2), (3, .int p3)] [] S Q := by
  unfold w_X9_outward_9 at h
  refine zu_iload_n d_8209_9 rfl ?_
  refine zu_iload_n d_8209_10 rfl ?_
  refine zu_cmpge (t := 27) d_8209_11 rfl (fun c1 => ?_) (fun c1 => ?_)
  · have h := h.1 c1
    refine zu_iload_n d_8209_27 rfl ?_
    exact zu_iret d_8209_28 zr_8209 rfl h
  · have h := h.2 c1
    refine zu_aload_n d_8209_14 rfl (zs_ra _) ?_
    obtain ⟨k2, h⟩ := h
    refine zg_8_344 rfl d_8209_15 k2 ?_
    refine zu_iload_n d_8209_18 rfl ?_
    obtain ⟨b3, e4, h⟩ := h
    refine zs_stk1 (zs_rfe e4) ?_
    obtain ⟨k5, h⟩ := h
    refine zu_iald (k := 0) d_8209_19 rfl rfl k5 ?_
    refine zu_istore_n d_8209_20 (zs_lt zq_8209 rfl) ?_
    refine zu_iinc d_8209_21 rfl zi_1 (zs_lt zq_8209 rfl) ?_
    refine zu_goto (t := 9) d_8209_24 rfl ?_
    exact h.weak ⟨rfl, rfl, rfl, rfl, trivial⟩
def w_X9_outward (X : zs_X) (d : Nat) (p0 : Nat) (p1 : Int32) (S : zs_T) (Q : zs_Q) : Prop :=
  (zs_K S p0 = some (.inl 8) ∧ zs_U X d 8209 9 [(0, .ref p0), (1, .int p1), (2, .int ((zs_I S 8165 p0) - (1 : Int32))), (3, .int (0 : Int32))] [] S Q)
theorem u_X9_outward {σ : Nat → Nat} {n0 : Nat} {bf : ab_B} {d : Nat} {p0 : Nat} {p1 : Int32} {S : zs_T} {Q : zs_Q} (hB : zt_B bf) (hd : 1 ≤ d) (h : w_X9_outward (zx σ n0 bf) (d - 1) p0 p1 S Q) : zs_C (zx σ n0 bf) d 8209 [.ref p0, .int p1] S Q := by
  have hL : lv_args 0 [.ref p0, .int p1] = [(0, .ref p0), (1, .int p1)] := rfl
  refine zs_C.of1 (hB.2 8209 (by decide) (by decide)) hd (by rw [hL]; exact zs_sub_self _ (by exact ⟨rfl, rfl, trivial⟩)) ?_
  rw [hL]
  clear hL
  unfold w_X9_outward at h
  refine zu_aload_n d_8209_0 rfl (zs_ra _) ?_
  obtain ⟨k1, h⟩ := h
  refine zg_8_1240 rfl d_8209_1 k1 ?_
  refine zu_iconst d_8209_4 zi_1 ?_
  refine zu_stk d_8209_5 rfl rfl ?_
  refine zu_istore_n d_8209_6 (zs_lt zq_8209 rfl) ?_
  refine zu_iconst d_8209_7 zi_0 ?_
  refine zu_istore_n d_8209_8 (zs_lt zq_8209 rfl) ?_
  exact h.weak ⟨rfl, rfl, rfl, rfl, trivial⟩
/-! SchemaPascalModel.slotsOf(I)I -/
theorem zm_8210 {σ : Nat → Nat} {n0 : Nat} {bf : ab_B} : ab_code (zx σ n0 bf).1 8210 = prog_17_method_243_code := rfl
theorem zq_8210 {σ : Nat → Nat} {n0 : Nat} {bf : ab_B} : ab_maxL (zx σ n0 bf).1 8210 = 2 := rfl
theorem zr_8210 {σ : Nat → Nat} {n0 : Nat} {bf : ab_B} : ab_ret (zx σ n0 bf).1 8210 = (Option.some Jvm.ClassFile.FieldType.int) := rfl
theorem d_8210_0 {σ : Nat → Nat} {n0 : Nat} {bf : ab_B} : decode (ab_code (zx σ n0 bf).1 8210) 0 = .ok (.aload_n 0, 1) := zd zm_8210 (by decide +kernel)
theorem d_8210_1 {σ : Nat → Nat} {n0 : Nat} {bf : ab_B} : decode (ab_code (zx σ n0 bf).1 8210) 1 = .ok (.getfield 221, 3) := zd zm_8210 (by decide +kernel)
theorem d_8210_4 {σ : Nat → Nat} {n0 : Nat} {bf : ab_B} : decode (ab_code (zx σ n0 bf).1 8210) 4 = .ok (.iload_n 1, 1) := zd zm_8210 (by decide +kernel)
theorem d_8210_5 {σ : Nat → Nat} {n0 : Nat} {bf : ab_B} : decode (ab_code (zx σ n0 bf).1 8210) 5 = .ok (.iaload, 1) := zd zm_8210 (by decide +kernel)
theorem d_8210_6 {σ : Nat → Nat} {n0 : Nat} {bf : ab_B} : decode (ab_code (zx σ n0 bf).1 8210) 6 = .ok (.aload_n 0, 1) := zd zm_8210 (by decide +kernel)
theorem d_8210_7 {σ : Nat → Nat} {n0 : Nat} {bf : ab_B} : decode (ab_code (zx σ n0 bf).1 8210) 7 = .ok (.getfield 215, 3) := zd zm_8210 (by decide +kernel)
theorem d_8210_10 {σ : Nat → Nat} {n0 : Nat} {bf : ab_B} : decode (ab_code (zx σ n0 bf).1 8210) 10 = .ok (.iload_n 1, 1) := zd zm_8210 (by decide +kernel)
theorem d_8210_11 {σ : Nat → Nat} {n0 : Nat} {bf : ab_B} : decode (ab_code (zx σ n0 bf).1 8210) 11 = .ok (.iaload, 1) := zd zm_8210 (by decide +kernel)
theorem d_8210_12 {σ : Nat → Nat} {n0 : Nat} {bf : ab_B} : decode (ab_code (zx σ n0 bf).1 8210) 12 = .ok (.ifCond .le 7, 3) := zd zm_8210 (by decide +kernel)
theorem d_8210_15 {σ : Nat → Nat} {n0 : Nat} {bf : ab_B} : decode (ab_code (zx σ n0 bf).1 8210) 15 = .ok (.iconst 1, 1) := zd zm_8210 (by decide +kernel)
theorem d_8210_16 {σ : Nat → Nat} {n0 : Nat} {bf : ab_B} : decode (ab_code (zx σ n0 bf).1 8210) 16 = .ok (.goto 4, 3) := zd zm_8210 (by decide +kernel)
theorem d_8210_19 {σ : Nat → Nat} {n0 : Nat} {bf : ab_B} : decode (ab_code (zx σ n0 bf).1 8210) 19 = .ok (.iconst 0, 1) := zd zm_8210 (by decide +kernel)
theorem d_8210_20 {σ : Nat → Nat} {n0 : Nat} {bf : ab_B} : decode (ab_code (zx σ n0 bf).1 8210) 20 = .ok (.iadd, 1) := zd zm_8210 (by decide +kernel)
theorem d_8210_21 {σ : Nat → Nat} {n0 : Nat} {bf : ab_B} : decode (ab_code (zx σ n0 bf).1 8210) 21 = .ok (.aload_n 0, 1) := zd zm_8210 (by decide +kernel)
theorem d_8210_22 {σ : Nat → Nat} {n0 : Nat} {bf : ab_B} : decode (ab_code (zx σ n0 bf).1 8210) 22 = .ok (.getfield 236, 3) := zd zm_8210 (by decide +kernel)
theorem d_8210_25 {σ : Nat → Nat} {n0 : Nat} {bf : ab_B} : decode (ab_code (zx σ n0 bf).1 8210) 25 = .ok (.iload_n 1, 1) := zd zm_8210 (by decide +kernel)
theorem d_8210_26 {σ : Nat → Nat} {n0 : Nat} {bf : ab_B} : decode (ab_code (zx σ n0 bf).1 8210) 26 = .ok (.iaload, 1) := zd zm_8210 (by decide +kernel)
theorem d_8210_27 {σ : Nat → Nat} {n0 : Nat} {bf : ab_B} : decode (ab_code (zx σ n0 bf).1 8210) 27 = .ok (.iadd, 1) := zd zm_8210 (by decide +kernel)
theorem d_8210_28 {σ : Nat → Nat} {n0 : Nat} {bf : ab_B} : decode (ab_code (zx σ n0 bf).1 8210) 28 = .ok (.ireturn, 1) := zd zm_8210 (by decide +kernel)
def w_X9_slotsOf_20 (X : zs_X) (d : Nat) (p0 : Nat) (p1 : Int32) (q0 : Int32) (q1 : Int32) (S : zs_T) (Q : zs_Q) : Prop :=
  (zs_K S p0 = some (.inl 8) ∧ ∃ b2, (zs_R S 8107 p0) = some b2 ∧ zs_A S b2 0 p1 ∧ Q (.returned (some (.int ((q0 + q1) + (zs_i S b2 p1.toNatClampNeg))))) S)
theorem u_X9_slotsOf_20 {σ : Nat → Nat} {n0 : Nat} {bf : ab_B} {d : Nat} {p0 : Nat} {p1 : Int32} {q0 : Int32} {q1 : Int32} {S : zs_T} {Q : zs_Q} (hB : zt_B bf) (h : w_X9_slotsOf_20 (zx σ n0 bf) d p0 p1 q0 q1 S Q) : zs_U (zx σ n0 bf) d 8210 20 [(0, .ref p0), (1, .int p1)] [.int q1, .int q0] S Q := by
  unfold w_X9_slotsOf_20 at h
  refine zu_stk d_8210_20 rfl rfl ?_
  refine zu_aload_n d_8210_21 rfl (zs_ra _) ?_
  obtain ⟨k1, h⟩ := h
  refine zg_8_236 rfl d_8210_22 k1 ?_
  refine zu_iload_n d_8210_25 rfl ?_
  obtain ⟨b2, e3, h⟩ := h
  refine zs_stk1 (zs_rfe e3) ?_
  obtain ⟨k4, h⟩ := h
  refine zu_iald (k := 0) d_8210_26 rfl rfl k4 ?_
  refine zu_stk d_8210_27 rfl rfl ?_
  exact zu_iret d_8210_28 zr_8210 rfl h
def w_X9_slotsOf (X : zs_X) (d : Nat) (p0 : Nat) (p1 : Int32) (S : zs_T) (Q : zs_Q) : Prop :=
  (zs_K S p0 = some (.inl 8) ∧ ∃ b2, (zs_R S 8102 p0) = some b2 ∧ zs_A S b2 0 p1 ∧ ∃ b5, (zs_R S 8100 p0) = some b5 ∧ zs_A S b5 0 p1 ∧ (((zs_i S b5 p1.toNatClampNeg) ≤ 0 → (w_X9_slotsOf_20 X d p0 p1 (zs_i S b2 p1.toNatClampNeg) (0 : Int32) S Q)) ∧ (¬ ((zs_i S b5 p1.toNatClampNeg) ≤ 0) → (w_X9_slotsOf_20 X d p0 p1 (zs_i S b2 p1.toNatClampNeg) (1 : Int32) S Q))))
theorem u_X9_slotsOf {σ : Nat → Nat} {n0 : Nat} {bf : ab_B} {d : Nat} {p0 : Nat} {p1 : Int32} {S : zs_T} {Q : zs_Q} (hB : zt_B bf) (hd : 1 ≤ d) (h : w_X9_slotsOf (zx σ n0 bf) (d - 1) p0 p1 S Q) : zs_C (zx σ n0 bf) d 8210 [.ref p0, .int p1] S Q := by
  have hL : lv_args 0 [.ref p0, .int p1] = [(0, .ref p0), (1, .int p1)] := rfl
  refine zs_C.of1 (hB.2 8210 (by decide) (by decide)) hd (by rw [hL]; exact zs_sub_self _ (by exact ⟨rfl, rfl, trivial⟩)) ?_
  rw [hL]
  clear hL
  unfold w_X9_slotsOf at h
  refine zu_aload_n d_8210_0 rfl (zs_ra _) ?_
  obtain ⟨k1, h⟩ := h
  refine zg_8_221 rfl d_8210_1 k1 ?_
  refine zu_iload_n d_8210_4 rfl ?_
  obtain ⟨b2, e3, h⟩ := h
  refine zs_stk1 (zs_rfe e3) ?_
  obtain ⟨k4, h⟩ := h
  refine zu_iald (k := 0) d_8210_5 rfl rfl k4 ?_
  refine zu_aload_n d_8210_6 rfl (zs_ra _) ?_
  refine zg_8_215 rfl d_8210_7 k1 ?_
  refine zu_iload_n d_8210_10 rfl ?_
  obtain ⟨b5, e6, h⟩ := h
  refine zs_stk1 (zs_rfe e6) ?_
  obtain ⟨k7, h⟩ := h
  refine zu_iald (k := 0) d_8210_11 rfl rfl k7 ?_
  refine zu_ifle (t := 19) d_8210_12 rfl (fun c8 => ?_) (fun c8 => ?_)
  · have h := h.1 c8
    refine zu_iconst d_8210_19 zi_0 ?_
    exact (u_X9_slotsOf_20 hB h).weak ⟨rfl, rfl, trivial⟩
  · have h := h.2 c8
    refine zu_iconst d_8210_15 zi_1 ?_
    refine zu_goto (t := 20) d_8210_16 rfl ?_
    exact (u_X9_slotsOf_20 hB h).weak ⟨rfl, rfl, trivial⟩
/-! SchemaPascalModel.take(II)Z -/
theorem zm_8211 {σ : Nat → Nat} {n0 : Nat} {bf : ab_B} : ab_code (zx σ n0 bf).1 8211 = prog_17_method_238_code := rfl
theorem zq_8211 {σ : Nat → Nat} {n0 : Nat} {bf : ab_B} : ab_maxL (zx σ n0 bf).1 8211 = 3 := rfl
theorem zr_8211 {σ : Nat → Nat} {n0 : Nat} {bf : ab_B} : ab_ret (zx σ n0 bf).1 8211 = (Option.some Jvm.ClassFile.FieldType.boolean) := rfl
theorem d_8211_0 {σ : Nat → Nat} {n0 : Nat} {bf : ab_B} : decode (ab_code (zx σ n0 bf).1 8211) 0 = .ok (.aload_n 0, 1) := zd zm_8211 (by decide +kernel)
theorem d_8211_1 {σ : Nat → Nat} {n0 : Nat} {bf : ab_B} : decode (ab_code (zx σ n0 bf).1 8211) 1 = .ok (.getfield 1243, 3) := zd zm_8211 (by decide +kernel)
theorem d_8211_4 {σ : Nat → Nat} {n0 : Nat} {bf : ab_B} : decode (ab_code (zx σ n0 bf).1 8211) 4 = .ok (.iload_n 1, 1) := zd zm_8211 (by decide +kernel)
theorem d_8211_5 {σ : Nat → Nat} {n0 : Nat} {bf : ab_B} : decode (ab_code (zx σ n0 bf).1 8211) 5 = .ok (.iadd, 1) := zd zm_8211 (by decide +kernel)
theorem d_8211_6 {σ : Nat → Nat} {n0 : Nat} {bf : ab_B} : decode (ab_code (zx σ n0 bf).1 8211) 6 = .ok (.sipush 20000, 3) := zd zm_8211 (by decide +kernel)
theorem d_8211_9 {σ : Nat → Nat} {n0 : Nat} {bf : ab_B} : decode (ab_code (zx σ n0 bf).1 8211) 9 = .ok (.if_icmp .le 12, 3) := zd zm_8211 (by decide +kernel)
theorem d_8211_12 {σ : Nat → Nat} {n0 : Nat} {bf : ab_B} : decode (ab_code (zx σ n0 bf).1 8211) 12 = .ok (.aload_n 0, 1) := zd zm_8211 (by decide +kernel)
theorem d_8211_13 {σ : Nat → Nat} {n0 : Nat} {bf : ab_B} : decode (ab_code (zx σ n0 bf).1 8211) 13 = .ok (.bipush 11, 2) := zd zm_8211 (by decide +kernel)
theorem d_8211_15 {σ : Nat → Nat} {n0 : Nat} {bf : ab_B} : decode (ab_code (zx σ n0 bf).1 8211) 15 = .ok (.iload_n 2, 1) := zd zm_8211 (by decide +kernel)
theorem d_8211_16 {σ : Nat → Nat} {n0 : Nat} {bf : ab_B} : decode (ab_code (zx σ n0 bf).1 8211) 16 = .ok (.invokevirtual 1297, 3) := zd zm_8211 (by decide +kernel)
theorem d_8211_19 {σ : Nat → Nat} {n0 : Nat} {bf : ab_B} : decode (ab_code (zx σ n0 bf).1 8211) 19 = .ok (.iconst 0, 1) := zd zm_8211 (by decide +kernel)
theorem d_8211_20 {σ : Nat → Nat} {n0 : Nat} {bf : ab_B} : decode (ab_code (zx σ n0 bf).1 8211) 20 = .ok (.ireturn, 1) := zd zm_8211 (by decide +kernel)
theorem d_8211_21 {σ : Nat → Nat} {n0 : Nat} {bf : ab_B} : decode (ab_code (zx σ n0 bf).1 8211) 21 = .ok (.aload_n 0, 1) := zd zm_8211 (by decide +kernel)
theorem d_8211_22 {σ : Nat → Nat} {n0 : Nat} {bf : ab_B} : decode (ab_code (zx σ n0 bf).1 8211) 22 = .ok (.dup, 1) := zd zm_8211 (by decide +kernel)
theorem d_8211_23 {σ : Nat → Nat} {n0 : Nat} {bf : ab_B} : decode (ab_code (zx σ n0 bf).1 8211) 23 = .ok (.getfield 1243, 3) := zd zm_8211 (by decide +kernel)
theorem d_8211_26 {σ : Nat → Nat} {n0 : Nat} {bf : ab_B} : decode (ab_code (zx σ n0 bf).1 8211) 26 = .ok (.iload_n 1, 1) := zd zm_8211 (by decide +kernel)
theorem d_8211_27 {σ : Nat → Nat} {n0 : Nat} {bf : ab_B} : decode (ab_code (zx σ n0 bf).1 8211) 27 = .ok (.iadd, 1) := zd zm_8211 (by decide +kernel)
theorem d_8211_28 {σ : Nat → Nat} {n0 : Nat} {bf : ab_B} : decode (ab_code (zx σ n0 bf).1 8211) 28 = .ok (.putfield 1243, 3) := zd zm_8211 (by decide +kernel)
theorem d_8211_31 {σ : Nat → Nat} {n0 : Nat} {bf : ab_B} : decode (ab_code (zx σ n0 bf).1 8211) 31 = .ok (.aload_n 0, 1) := zd zm_8211 (by decide +kernel)
theorem d_8211_32 {σ : Nat → Nat} {n0 : Nat} {bf : ab_B} : decode (ab_code (zx σ n0 bf).1 8211) 32 = .ok (.getfield 353, 3) := zd zm_8211 (by decide +kernel)
theorem d_8211_35 {σ : Nat → Nat} {n0 : Nat} {bf : ab_B} : decode (ab_code (zx σ n0 bf).1 8211) 35 = .ok (.aload_n 0, 1) := zd zm_8211 (by decide +kernel)
theorem d_8211_36 {σ : Nat → Nat} {n0 : Nat} {bf : ab_B} : decode (ab_code (zx σ n0 bf).1 8211) 36 = .ok (.getfield 1240, 3) := zd zm_8211 (by decide +kernel)
theorem d_8211_39 {σ : Nat → Nat} {n0 : Nat} {bf : ab_B} : decode (ab_code (zx σ n0 bf).1 8211) 39 = .ok (.iconst 1, 1) := zd zm_8211 (by decide +kernel)
theorem d_8211_40 {σ : Nat → Nat} {n0 : Nat} {bf : ab_B} : decode (ab_code (zx σ n0 bf).1 8211) 40 = .ok (.isub, 1) := zd zm_8211 (by decide +kernel)
theorem d_8211_41 {σ : Nat → Nat} {n0 : Nat} {bf : ab_B} : decode (ab_code (zx σ n0 bf).1 8211) 41 = .ok (.dup2, 1) := zd zm_8211 (by decide +kernel)
theorem d_8211_42 {σ : Nat → Nat} {n0 : Nat} {bf : ab_B} : decode (ab_code (zx σ n0 bf).1 8211) 42 = .ok (.iaload, 1) := zd zm_8211 (by decide +kernel)
theorem d_8211_43 {σ : Nat → Nat} {n0 : Nat} {bf : ab_B} : decode (ab_code (zx σ n0 bf).1 8211) 43 = .ok (.iload_n 1, 1) := zd zm_8211 (by decide +kernel)
theorem d_8211_44 {σ : Nat → Nat} {n0 : Nat} {bf : ab_B} : decode (ab_code (zx σ n0 bf).1 8211) 44 = .ok (.iadd, 1) := zd zm_8211 (by decide +kernel)
theorem d_8211_45 {σ : Nat → Nat} {n0 : Nat} {bf : ab_B} : decode (ab_code (zx σ n0 bf).1 8211) 45 = .ok (.iastore, 1) := zd zm_8211 (by decide +kernel)
theorem d_8211_46 {σ : Nat → Nat} {n0 : Nat} {bf : ab_B} : decode (ab_code (zx σ n0 bf).1 8211) 46 = .ok (.iconst 1, 1) := zd zm_8211 (by decide +kernel)
theorem d_8211_47 {σ : Nat → Nat} {n0 : Nat} {bf : ab_B} : decode (ab_code (zx σ n0 bf).1 8211) 47 = .ok (.ireturn, 1) := zd zm_8211 (by decide +kernel)
def w_X9_take_46 (X : zs_X) (d : Nat)  (S : zs_T) (Q : zs_Q) : Prop :=
  (Q (.returned (some (.int (1 : Int32)))) S)
theorem u_X9_take_46 {σ : Nat → Nat} {n0 : Nat} {bf : ab_B} {d : Nat}  {S : zs_T} {Q : zs_Q} (hB : zt_B bf) (h : w_X9_take_46 (zx σ n0 bf) d  S Q) : zs_U (zx σ n0 bf) d 8211 46 [] [] S Q := by
  unfold w_X9_take_46 at h
  refine zu_iconst d_8211_46 zi_1 ?_
  exact zu_iret d_8211_47 zr_8211 (zs_b_n (Or.inr rfl)) h
def w_X9_take (X : zs_X) (d : Nat) (p0 : Nat) (p1 : Int32) (p2 : Int32) (S : zs_T) (Q : zs_Q) : Prop :=
  (zs_K S p0 = some (.inl 8) ∧ ((((zs_I S 8166 p0) + p1) ≤ (20000 : Int32) → (ab_n0 X.1 ≤ p0 ∧ ∀ S4, S4 = zs_sI S 8166 p0 ((zs_I S 8166 p0) + p1) → ∃ b7, (zs_R S4 8162 p0) = some b7 ∧ zs_A S b7 0 ((zs_I S4 8165 p0) - (1 : Int32)) ∧ ab_n0 X.1 ≤ b7 ∧ ∀ S11, S11 = zs_si S4 b7 ((zs_I S4 8165 p0) - (1 : Int32)).toNatClampNeg ((zs_i S4 b7 ((zs_I S4 8165 p0) - (1 : Int32)).toNatClampNeg) + p1) → w_X9_take_46 X d  S11 Q)) ∧ (¬ (((zs_I S 8166 p0) + p1) ≤ (20000 : Int32)) → (zs_C X d 8208 [.ref p0, .int (11 : Int32), .int p2] S (zs_kV (fun S14 => (Q (.returned (some (.int (0 : Int32)))) S14)) Q)))))
theorem u_X9_take {σ : Nat → Nat} {n0 : Nat} {bf : ab_B} {d : Nat} {p0 : Nat} {p1 : Int32} {p2 : Int32} {S : zs_T} {Q : zs_Q} (hB : zt_B bf) (hd : 1 ≤ d) (h : w_X9_take (zx σ n0 bf) (d - 1) p0 p1 p2 S Q) : zs_C (zx σ n0 bf) d 8211 [.ref p0, .int p1, .int p2] S Q := by
  have hL : lv_args 0 [.ref p0, .int p1, .int p2] = [(0, .ref p0), (1, .int p1), (2, .int p2)] := rfl
  refine zs_C.of1 (hB.2 8211 (by decide) (by decide)) hd (by rw [hL]; exact zs_sub_self _ (by exact ⟨rfl, rfl, rfl, trivial⟩)) ?_
  rw [hL]
  clear hL
  unfold w_X9_take at h
  refine zu_aload_n d_8211_0 rfl (zs_ra _) ?_
  obtain ⟨k1, h⟩ := h
  refine zg_8_1243 rfl d_8211_1 k1 ?_
  refine zu_iload_n d_8211_4 rfl ?_
  refine zu_stk d_8211_5 rfl rfl ?_
  refine zu_sipush d_8211_6 zh_20000 ?_
  refine zu_cmple (t := 21) d_8211_9 rfl (fun c2 => ?_) (fun c2 => ?_)
  · have h := h.1 c2
    refine zu_aload_n d_8211_21 rfl (zs_ra _) ?_
    refine zu_dup d_8211_22 rfl ?_
    refine zg_8_1243 rfl d_8211_23 k1 ?_
    refine zu_iload_n d_8211_26 rfl ?_
    refine zu_stk d_8211_27 rfl rfl ?_
    obtain ⟨k3, h⟩ := h
    refine zp_8_1243 (v := ((zs_I S 8166 p0) + p1)) rfl d_8211_28 k1 k3 ?_
    generalize e5 : zs_sI S 8166 p0 ((zs_I S 8166 p0) + p1) = S4
    have h := h S4 e5.symm
    have K6 : ∀ b, zs_K S4 b = zs_K S b := zs_Kt e5 (zs_KsI _ _ _ _) (fun _ => rfl)
    refine zu_aload_n d_8211_31 rfl (zs_ra _) ?_
    refine zg_8_353 rfl d_8211_32 ((K6 _).trans k1) ?_
    refine zu_aload_n d_8211_35 rfl (zs_ra _) ?_
    refine zg_8_1240 rfl d_8211_36 ((K6 _).trans k1) ?_
    refine zu_iconst d_8211_39 zi_1 ?_
    refine zu_stk d_8211_40 rfl rfl ?_
    refine zu_dup2 d_8211_41 rfl (zs_cat _) ?_
    obtain ⟨b7, e8, h⟩ := h
    refine zs_stk1 (zs_rfe e8) ?_
    obtain ⟨k9, h⟩ := h
    refine zu_iald (k := 0) d_8211_42 rfl rfl (zs_Ak K6 k9) ?_
    refine zu_iload_n d_8211_43 rfl ?_
    refine zu_stk d_8211_44 rfl rfl ?_
    refine zs_stk2 (zs_rfe e8) ?_
    obtain ⟨k10, h⟩ := h
    refine zu_iast (k := 0) d_8211_45 rfl rfl k10 (zs_Ak K6 k9) ?_
    generalize e12 : zs_si S4 b7 ((zs_I S4 8165 p0) - (1 : Int32)).toNatClampNeg ((zs_i S4 b7 ((zs_I S4 8165 p0) - (1 : Int32)).toNatClampNeg) + p1) = S11
    have h := h S11 e12.symm
    have K13 : ∀ b, zs_K S11 b = zs_K S b := zs_Kt e12 (zs_Ksi _ _ _ _) K6
    exact (u_X9_take_46 hB h).weak trivial
  · have h := h.2 c2
    refine zu_aload_n d_8211_12 rfl (zs_ra _) ?_
    refine zu_bipush d_8211_13 zj_11 ?_
    refine zu_iload_n d_8211_15 rfl ?_
    refine zc_8_1297 (x0 := (11 : Int32)) (x1 := p2) hB rfl k1 d_8211_16 (Nat.le_of_ble_eq_true rfl) h (fun S14 h => ?_)
    refine zu_iconst d_8211_19 zi_0 ?_
    exact zu_iret d_8211_20 zr_8211 (zs_b_n (Or.inl rfl)) h
