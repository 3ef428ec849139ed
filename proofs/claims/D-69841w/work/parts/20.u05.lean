/-! printed by gen_all.py: what the methods compute -/
set_option maxRecDepth 100000
/-! SchemaPascal$Machine.call(LSchemaPascal$Routine;II)V -/
theorem zm_1045 {σ : Nat → Nat} {n0 : Nat} {bf : ab_B} : ab_code (zx σ n0 bf).1 1045 = prog_5_method_48_code := rfl
theorem zq_1045 {σ : Nat → Nat} {n0 : Nat} {bf : ab_B} : ab_maxL (zx σ n0 bf).1 1045 = 13 := rfl
theorem zr_1045 {σ : Nat → Nat} {n0 : Nat} {bf : ab_B} : ab_ret (zx σ n0 bf).1 1045 = (Option.none : Option Jvm.ClassFile.FieldType) := rfl
theorem d_1045_0 {σ : Nat → Nat} {n0 : Nat} {bf : ab_B} : decode (ab_code (zx σ n0 bf).1 1045) 0 = .ok (.aload_n 0, 1) := zd zm_1045 (by decide +kernel)
theorem d_1045_1 {σ : Nat → Nat} {n0 : Nat} {bf : ab_B} : decode (ab_code (zx σ n0 bf).1 1045) 1 = .ok (.getfield 129, 3) := zd zm_1045 (by decide +kernel)
theorem d_1045_4 {σ : Nat → Nat} {n0 : Nat} {bf : ab_B} : decode (ab_code (zx σ n0 bf).1 1045) 4 = .ok (.istore 4, 2) := zd zm_1045 (by decide +kernel)
theorem d_1045_6 {σ : Nat → Nat} {n0 : Nat} {bf : ab_B} : decode (ab_code (zx σ n0 bf).1 1045) 6 = .ok (.aload_n 1, 1) := zd zm_1045 (by decide +kernel)
theorem d_1045_7 {σ : Nat → Nat} {n0 : Nat} {bf : ab_B} : decode (ab_code (zx σ n0 bf).1 1045) 7 = .ok (.getfield 511, 3) := zd zm_1045 (by decide +kernel)
theorem d_1045_10 {σ : Nat → Nat} {n0 : Nat} {bf : ab_B} : decode (ab_code (zx σ n0 bf).1 1045) 10 = .ok (.iconst 1, 1) := zd zm_1045 (by decide +kernel)
theorem d_1045_11 {σ : Nat → Nat} {n0 : Nat} {bf : ab_B} : decode (ab_code (zx σ n0 bf).1 1045) 11 = .ok (.isub, 1) := zd zm_1045 (by decide +kernel)
theorem d_1045_12 {σ : Nat → Nat} {n0 : Nat} {bf : ab_B} : decode (ab_code (zx σ n0 bf).1 1045) 12 = .ok (.istore 5, 2) := zd zm_1045 (by decide +kernel)
theorem d_1045_14 {σ : Nat → Nat} {n0 : Nat} {bf : ab_B} : decode (ab_code (zx σ n0 bf).1 1045) 14 = .ok (.iload 5, 2) := zd zm_1045 (by decide +kernel)
theorem d_1045_16 {σ : Nat → Nat} {n0 : Nat} {bf : ab_B} : decode (ab_code (zx σ n0 bf).1 1045) 16 = .ok (.iload_n 2, 1) := zd zm_1045 (by decide +kernel)
theorem d_1045_17 {σ : Nat → Nat} {n0 : Nat} {bf : ab_B} : decode (ab_code (zx σ n0 bf).1 1045) 17 = .ok (.if_icmp .ge 18, 3) := zd zm_1045 (by decide +kernel)
theorem d_1045_20 {σ : Nat → Nat} {n0 : Nat} {bf : ab_B} : decode (ab_code (zx σ n0 bf).1 1045) 20 = .ok (.aload_n 0, 1) := zd zm_1045 (by decide +kernel)
theorem d_1045_21 {σ : Nat → Nat} {n0 : Nat} {bf : ab_B} : decode (ab_code (zx σ n0 bf).1 1045) 21 = .ok (.getfield 67, 3) := zd zm_1045 (by decide +kernel)
theorem d_1045_24 {σ : Nat → Nat} {n0 : Nat} {bf : ab_B} : decode (ab_code (zx σ n0 bf).1 1045) 24 = .ok (.iload 4, 2) := zd zm_1045 (by decide +kernel)
theorem d_1045_26 {σ : Nat → Nat} {n0 : Nat} {bf : ab_B} : decode (ab_code (zx σ n0 bf).1 1045) 26 = .ok (.iaload, 1) := zd zm_1045 (by decide +kernel)
theorem d_1045_27 {σ : Nat → Nat} {n0 : Nat} {bf : ab_B} : decode (ab_code (zx σ n0 bf).1 1045) 27 = .ok (.istore 4, 2) := zd zm_1045 (by decide +kernel)
theorem d_1045_29 {σ : Nat → Nat} {n0 : Nat} {bf : ab_B} : decode (ab_code (zx σ n0 bf).1 1045) 29 = .ok (.iinc 5 1, 3) := zd zm_1045 (by decide +kernel)
theorem d_1045_32 {σ : Nat → Nat} {n0 : Nat} {bf : ab_B} : decode (ab_code (zx σ n0 bf).1 1045) 32 = .ok (.goto (-18), 3) := zd zm_1045 (by decide +kernel)
theorem d_1045_35 {σ : Nat → Nat} {n0 : Nat} {bf : ab_B} : decode (ab_code (zx σ n0 bf).1 1045) 35 = .ok (.aload_n 0, 1) := zd zm_1045 (by decide +kernel)
theorem d_1045_36 {σ : Nat → Nat} {n0 : Nat} {bf : ab_B} : decode (ab_code (zx σ n0 bf).1 1045) 36 = .ok (.getfield 129, 3) := zd zm_1045 (by decide +kernel)
theorem d_1045_39 {σ : Nat → Nat} {n0 : Nat} {bf : ab_B} : decode (ab_code (zx σ n0 bf).1 1045) 39 = .ok (.iconst 1, 1) := zd zm_1045 (by decide +kernel)
theorem d_1045_40 {σ : Nat → Nat} {n0 : Nat} {bf : ab_B} : decode (ab_code (zx σ n0 bf).1 1045) 40 = .ok (.iadd, 1) := zd zm_1045 (by decide +kernel)
theorem d_1045_41 {σ : Nat → Nat} {n0 : Nat} {bf : ab_B} : decode (ab_code (zx σ n0 bf).1 1045) 41 = .ok (.bipush 100, 2) := zd zm_1045 (by decide +kernel)
theorem d_1045_43 {σ : Nat → Nat} {n0 : Nat} {bf : ab_B} : decode (ab_code (zx σ n0 bf).1 1045) 43 = .ok (.if_icmp .lt 15, 3) := zd zm_1045 (by decide +kernel)
theorem d_1045_46 {σ : Nat → Nat} {n0 : Nat} {bf : ab_B} : decode (ab_code (zx σ n0 bf).1 1045) 46 = .ok (.aload_n 0, 1) := zd zm_1045 (by decide +kernel)
theorem d_1045_47 {σ : Nat → Nat} {n0 : Nat} {bf : ab_B} : decode (ab_code (zx σ n0 bf).1 1045) 47 = .ok (.bipush 11, 2) := zd zm_1045 (by decide +kernel)
theorem d_1045_49 {σ : Nat → Nat} {n0 : Nat} {bf : ab_B} : decode (ab_code (zx σ n0 bf).1 1045) 49 = .ok (.aload_n 1, 1) := zd zm_1045 (by decide +kernel)
theorem d_1045_50 {σ : Nat → Nat} {n0 : Nat} {bf : ab_B} : decode (ab_code (zx σ n0 bf).1 1045) 50 = .ok (.getfield 181, 3) := zd zm_1045 (by decide +kernel)
theorem d_1045_53 {σ : Nat → Nat} {n0 : Nat} {bf : ab_B} : decode (ab_code (zx σ n0 bf).1 1045) 53 = .ok (.invokevirtual 194, 3) := zd zm_1045 (by decide +kernel)
theorem d_1045_56 {σ : Nat → Nat} {n0 : Nat} {bf : ab_B} : decode (ab_code (zx σ n0 bf).1 1045) 56 = .ok (.pop, 1) := zd zm_1045 (by decide +kernel)
theorem d_1045_57 {σ : Nat → Nat} {n0 : Nat} {bf : ab_B} : decode (ab_code (zx σ n0 bf).1 1045) 57 = .ok (.return_, 1) := zd zm_1045 (by decide +kernel)
theorem d_1045_58 {σ : Nat → Nat} {n0 : Nat} {bf : ab_B} : decode (ab_code (zx σ n0 bf).1 1045) 58 = .ok (.aload_n 0, 1) := zd zm_1045 (by decide +kernel)
theorem d_1045_59 {σ : Nat → Nat} {n0 : Nat} {bf : ab_B} : decode (ab_code (zx σ n0 bf).1 1045) 59 = .ok (.getfield 111, 3) := zd zm_1045 (by decide +kernel)
theorem d_1045_62 {σ : Nat → Nat} {n0 : Nat} {bf : ab_B} : decode (ab_code (zx σ n0 bf).1 1045) 62 = .ok (.istore 5, 2) := zd zm_1045 (by decide +kernel)
theorem d_1045_64 {σ : Nat → Nat} {n0 : Nat} {bf : ab_B} : decode (ab_code (zx σ n0 bf).1 1045) 64 = .ok (.aload_n 0, 1) := zd zm_1045 (by decide +kernel)
theorem d_1045_65 {σ : Nat → Nat} {n0 : Nat} {bf : ab_B} : decode (ab_code (zx σ n0 bf).1 1045) 65 = .ok (.getfield 114, 3) := zd zm_1045 (by decide +kernel)
theorem d_1045_68 {σ : Nat → Nat} {n0 : Nat} {bf : ab_B} : decode (ab_code (zx σ n0 bf).1 1045) 68 = .ok (.istore 6, 2) := zd zm_1045 (by decide +kernel)
theorem d_1045_70 {σ : Nat → Nat} {n0 : Nat} {bf : ab_B} : decode (ab_code (zx σ n0 bf).1 1045) 70 = .ok (.iconst 0, 1) := zd zm_1045 (by decide +kernel)
theorem d_1045_71 {σ : Nat → Nat} {n0 : Nat} {bf : ab_B} : decode (ab_code (zx σ n0 bf).1 1045) 71 = .ok (.istore 7, 2) := zd zm_1045 (by decide +kernel)
theorem d_1045_73 {σ : Nat → Nat} {n0 : Nat} {bf : ab_B} : decode (ab_code (zx σ n0 bf).1 1045) 73 = .ok (.iload 7, 2) := zd zm_1045 (by decide +kernel)
theorem d_1045_75 {σ : Nat → Nat} {n0 : Nat} {bf : ab_B} : decode (ab_code (zx σ n0 bf).1 1045) 75 = .ok (.aload_n 1, 1) := zd zm_1045 (by decide +kernel)
theorem d_1045_76 {σ : Nat → Nat} {n0 : Nat} {bf : ab_B} : decode (ab_code (zx σ n0 bf).1 1045) 76 = .ok (.getfield 514, 3) := zd zm_1045 (by decide +kernel)
theorem d_1045_79 {σ : Nat → Nat} {n0 : Nat} {bf : ab_B} : decode (ab_code (zx σ n0 bf).1 1045) 79 = .ok (.invokevirtual 336, 3) := zd zm_1045 (by decide +kernel)
theorem d_1045_82 {σ : Nat → Nat} {n0 : Nat} {bf : ab_B} : decode (ab_code (zx σ n0 bf).1 1045) 82 = .ok (.if_icmp .ge 53, 3) := zd zm_1045 (by decide +kernel)
theorem d_1045_85 {σ : Nat → Nat} {n0 : Nat} {bf : ab_B} : decode (ab_code (zx σ n0 bf).1 1045) 85 = .ok (.aload_n 1, 1) := zd zm_1045 (by decide +kernel)
theorem d_1045_86 {σ : Nat → Nat} {n0 : Nat} {bf : ab_B} : decode (ab_code (zx σ n0 bf).1 1045) 86 = .ok (.getfield 514, 3) := zd zm_1045 (by decide +kernel)
theorem d_1045_89 {σ : Nat → Nat} {n0 : Nat} {bf : ab_B} : decode (ab_code (zx σ n0 bf).1 1045) 89 = .ok (.iload 7, 2) := zd zm_1045 (by decide +kernel)
theorem d_1045_91 {σ : Nat → Nat} {n0 : Nat} {bf : ab_B} : decode (ab_code (zx σ n0 bf).1 1045) 91 = .ok (.invokevirtual 162, 3) := zd zm_1045 (by decide +kernel)
theorem d_1045_94 {σ : Nat → Nat} {n0 : Nat} {bf : ab_B} : decode (ab_code (zx σ n0 bf).1 1045) 94 = .ok (.checkcast 517, 3) := zd zm_1045 (by decide +kernel)
theorem d_1045_97 {σ : Nat → Nat} {n0 : Nat} {bf : ab_B} : decode (ab_code (zx σ n0 bf).1 1045) 97 = .ok (.astore 8, 2) := zd zm_1045 (by decide +kernel)
theorem d_1045_99 {σ : Nat → Nat} {n0 : Nat} {bf : ab_B} : decode (ab_code (zx σ n0 bf).1 1045) 99 = .ok (.aload 8, 2) := zd zm_1045 (by decide +kernel)
theorem d_1045_101 {σ : Nat → Nat} {n0 : Nat} {bf : ab_B} : decode (ab_code (zx σ n0 bf).1 1045) 101 = .ok (.getfield 519, 3) := zd zm_1045 (by decide +kernel)
theorem d_1045_104 {σ : Nat → Nat} {n0 : Nat} {bf : ab_B} : decode (ab_code (zx σ n0 bf).1 1045) 104 = .ok (.ifCond .ne 22, 3) := zd zm_1045 (by decide +kernel)
theorem d_1045_107 {σ : Nat → Nat} {n0 : Nat} {bf : ab_B} : decode (ab_code (zx σ n0 bf).1 1045) 107 = .ok (.aload 8, 2) := zd zm_1045 (by decide +kernel)
theorem d_1045_109 {σ : Nat → Nat} {n0 : Nat} {bf : ab_B} : decode (ab_code (zx σ n0 bf).1 1045) 109 = .ok (.getfield 522, 3) := zd zm_1045 (by decide +kernel)
theorem d_1045_112 {σ : Nat → Nat} {n0 : Nat} {bf : ab_B} : decode (ab_code (zx σ n0 bf).1 1045) 112 = .ok (.getfield 374, 3) := zd zm_1045 (by decide +kernel)
theorem d_1045_115 {σ : Nat → Nat} {n0 : Nat} {bf : ab_B} : decode (ab_code (zx σ n0 bf).1 1045) 115 = .ok (.bipush 6, 2) := zd zm_1045 (by decide +kernel)
theorem d_1045_117 {σ : Nat → Nat} {n0 : Nat} {bf : ab_B} : decode (ab_code (zx σ n0 bf).1 1045) 117 = .ok (.if_icmp .ne 9, 3) := zd zm_1045 (by decide +kernel)
theorem d_1045_120 {σ : Nat → Nat} {n0 : Nat} {bf : ab_B} : decode (ab_code (zx σ n0 bf).1 1045) 120 = .ok (.iinc 6 (-1), 3) := zd zm_1045 (by decide +kernel)
theorem d_1045_123 {σ : Nat → Nat} {n0 : Nat} {bf : ab_B} : decode (ab_code (zx σ n0 bf).1 1045) 123 = .ok (.goto 6, 3) := zd zm_1045 (by decide +kernel)
theorem d_1045_126 {σ : Nat → Nat} {n0 : Nat} {bf : ab_B} : decode (ab_code (zx σ n0 bf).1 1045) 126 = .ok (.iinc 5 (-1), 3) := zd zm_1045 (by decide +kernel)
theorem d_1045_129 {σ : Nat → Nat} {n0 : Nat} {bf : ab_B} : decode (ab_code (zx σ n0 bf).1 1045) 129 = .ok (.iinc 7 1, 3) := zd zm_1045 (by decide +kernel)
theorem d_1045_132 {σ : Nat → Nat} {n0 : Nat} {bf : ab_B} : decode (ab_code (zx σ n0 bf).1 1045) 132 = .ok (.goto (-59), 3) := zd zm_1045 (by decide +kernel)
theorem d_1045_135 {σ : Nat → Nat} {n0 : Nat} {bf : ab_B} : decode (ab_code (zx σ n0 bf).1 1045) 135 = .ok (.aload_n 0, 1) := zd zm_1045 (by decide +kernel)
theorem d_1045_136 {σ : Nat → Nat} {n0 : Nat} {bf : ab_B} : decode (ab_code (zx σ n0 bf).1 1045) 136 = .ok (.aload_n 1, 1) := zd zm_1045 (by decide +kernel)
theorem d_1045_137 {σ : Nat → Nat} {n0 : Nat} {bf : ab_B} : decode (ab_code (zx σ n0 bf).1 1045) 137 = .ok (.aload_n 0, 1) := zd zm_1045 (by decide +kernel)
theorem d_1045_138 {σ : Nat → Nat} {n0 : Nat} {bf : ab_B} : decode (ab_code (zx σ n0 bf).1 1045) 138 = .ok (.getfield 175, 3) := zd zm_1045 (by decide +kernel)
theorem d_1045_141 {σ : Nat → Nat} {n0 : Nat} {bf : ab_B} : decode (ab_code (zx σ n0 bf).1 1045) 141 = .ok (.iload_n 3, 1) := zd zm_1045 (by decide +kernel)
theorem d_1045_142 {σ : Nat → Nat} {n0 : Nat} {bf : ab_B} : decode (ab_code (zx σ n0 bf).1 1045) 142 = .ok (.iload 4, 2) := zd zm_1045 (by decide +kernel)
theorem d_1045_144 {σ : Nat → Nat} {n0 : Nat} {bf : ab_B} : decode (ab_code (zx σ n0 bf).1 1045) 144 = .ok (.invokevirtual 168, 3) := zd zm_1045 (by decide +kernel)
theorem d_1045_147 {σ : Nat → Nat} {n0 : Nat} {bf : ab_B} : decode (ab_code (zx σ n0 bf).1 1045) 147 = .ok (.aload_n 0, 1) := zd zm_1045 (by decide +kernel)
theorem d_1045_148 {σ : Nat → Nat} {n0 : Nat} {bf : ab_B} : decode (ab_code (zx σ n0 bf).1 1045) 148 = .ok (.aload_n 1, 1) := zd zm_1045 (by decide +kernel)
theorem d_1045_149 {σ : Nat → Nat} {n0 : Nat} {bf : ab_B} : decode (ab_code (zx σ n0 bf).1 1045) 149 = .ok (.getfield 178, 3) := zd zm_1045 (by decide +kernel)
theorem d_1045_152 {σ : Nat → Nat} {n0 : Nat} {bf : ab_B} : decode (ab_code (zx σ n0 bf).1 1045) 152 = .ok (.i2l, 1) := zd zm_1045 (by decide +kernel)
theorem d_1045_153 {σ : Nat → Nat} {n0 : Nat} {bf : ab_B} : decode (ab_code (zx σ n0 bf).1 1045) 153 = .ok (.aload_n 1, 1) := zd zm_1045 (by decide +kernel)
theorem d_1045_154 {σ : Nat → Nat} {n0 : Nat} {bf : ab_B} : decode (ab_code (zx σ n0 bf).1 1045) 154 = .ok (.getfield 181, 3) := zd zm_1045 (by decide +kernel)
theorem d_1045_157 {σ : Nat → Nat} {n0 : Nat} {bf : ab_B} : decode (ab_code (zx σ n0 bf).1 1045) 157 = .ok (.invokevirtual 184, 3) := zd zm_1045 (by decide +kernel)
theorem d_1045_160 {σ : Nat → Nat} {n0 : Nat} {bf : ab_B} : decode (ab_code (zx σ n0 bf).1 1045) 160 = .ok (.ifCond .ne 4, 3) := zd zm_1045 (by decide +kernel)
theorem d_1045_163 {σ : Nat → Nat} {n0 : Nat} {bf : ab_B} : decode (ab_code (zx σ n0 bf).1 1045) 163 = .ok (.return_, 1) := zd zm_1045 (by decide +kernel)
theorem d_1045_164 {σ : Nat → Nat} {n0 : Nat} {bf : ab_B} : decode (ab_code (zx σ n0 bf).1 1045) 164 = .ok (.iload 5, 2) := zd zm_1045 (by decide +kernel)
theorem d_1045_166 {σ : Nat → Nat} {n0 : Nat} {bf : ab_B} : decode (ab_code (zx σ n0 bf).1 1045) 166 = .ok (.istore 7, 2) := zd zm_1045 (by decide +kernel)
theorem d_1045_168 {σ : Nat → Nat} {n0 : Nat} {bf : ab_B} : decode (ab_code (zx σ n0 bf).1 1045) 168 = .ok (.iload 6, 2) := zd zm_1045 (by decide +kernel)
theorem d_1045_170 {σ : Nat → Nat} {n0 : Nat} {bf : ab_B} : decode (ab_code (zx σ n0 bf).1 1045) 170 = .ok (.istore 8, 2) := zd zm_1045 (by decide +kernel)
theorem d_1045_172 {σ : Nat → Nat} {n0 : Nat} {bf : ab_B} : decode (ab_code (zx σ n0 bf).1 1045) 172 = .ok (.iload 8, 2) := zd zm_1045 (by decide +kernel)
theorem d_1045_174 {σ : Nat → Nat} {n0 : Nat} {bf : ab_B} : decode (ab_code (zx σ n0 bf).1 1045) 174 = .ok (.aload_n 0, 1) := zd zm_1045 (by decide +kernel)
theorem d_1045_175 {σ : Nat → Nat} {n0 : Nat} {bf : ab_B} : decode (ab_code (zx σ n0 bf).1 1045) 175 = .ok (.getfield 114, 3) := zd zm_1045 (by decide +kernel)
theorem d_1045_178 {σ : Nat → Nat} {n0 : Nat} {bf : ab_B} : decode (ab_code (zx σ n0 bf).1 1045) 178 = .ok (.if_icmp .ge 13, 3) := zd zm_1045 (by decide +kernel)
theorem d_1045_181 {σ : Nat → Nat} {n0 : Nat} {bf : ab_B} : decode (ab_code (zx σ n0 bf).1 1045) 181 = .ok (.aload_n 0, 1) := zd zm_1045 (by decide +kernel)
theorem d_1045_182 {σ : Nat → Nat} {n0 : Nat} {bf : ab_B} : decode (ab_code (zx σ n0 bf).1 1045) 182 = .ok (.getfield 46, 3) := zd zm_1045 (by decide +kernel)
theorem d_1045_185 {σ : Nat → Nat} {n0 : Nat} {bf : ab_B} : decode (ab_code (zx σ n0 bf).1 1045) 185 = .ok (.iload 8, 2) := zd zm_1045 (by decide +kernel)
theorem d_1045_187 {σ : Nat → Nat} {n0 : Nat} {bf : ab_B} : decode (ab_code (zx σ n0 bf).1 1045) 187 = .ok (.iaload, 1) := zd zm_1045 (by decide +kernel)
theorem d_1045_188 {σ : Nat → Nat} {n0 : Nat} {bf : ab_B} : decode (ab_code (zx σ n0 bf).1 1045) 188 = .ok (.goto 7, 3) := zd zm_1045 (by decide +kernel)
theorem d_1045_191 {σ : Nat → Nat} {n0 : Nat} {bf : ab_B} : decode (ab_code (zx σ n0 bf).1 1045) 191 = .ok (.aload_n 0, 1) := zd zm_1045 (by decide +kernel)
theorem d_1045_192 {σ : Nat → Nat} {n0 : Nat} {bf : ab_B} : decode (ab_code (zx σ n0 bf).1 1045) 192 = .ok (.getfield 117, 3) := zd zm_1045 (by decide +kernel)
theorem d_1045_195 {σ : Nat → Nat} {n0 : Nat} {bf : ab_B} : decode (ab_code (zx σ n0 bf).1 1045) 195 = .ok (.istore 9, 2) := zd zm_1045 (by decide +kernel)
theorem d_1045_197 {σ : Nat → Nat} {n0 : Nat} {bf : ab_B} : decode (ab_code (zx σ n0 bf).1 1045) 197 = .ok (.iconst 0, 1) := zd zm_1045 (by decide +kernel)
theorem d_1045_198 {σ : Nat → Nat} {n0 : Nat} {bf : ab_B} : decode (ab_code (zx σ n0 bf).1 1045) 198 = .ok (.istore 10, 2) := zd zm_1045 (by decide +kernel)
theorem d_1045_200 {σ : Nat → Nat} {n0 : Nat} {bf : ab_B} : decode (ab_code (zx σ n0 bf).1 1045) 200 = .ok (.iload 10, 2) := zd zm_1045 (by decide +kernel)
theorem d_1045_202 {σ : Nat → Nat} {n0 : Nat} {bf : ab_B} : decode (ab_code (zx σ n0 bf).1 1045) 202 = .ok (.aload_n 1, 1) := zd zm_1045 (by decide +kernel)
theorem d_1045_203 {σ : Nat → Nat} {n0 : Nat} {bf : ab_B} : decode (ab_code (zx σ n0 bf).1 1045) 203 = .ok (.getfield 514, 3) := zd zm_1045 (by decide +kernel)
theorem d_1045_206 {σ : Nat → Nat} {n0 : Nat} {bf : ab_B} : decode (ab_code (zx σ n0 bf).1 1045) 206 = .ok (.invokevirtual 336, 3) := zd zm_1045 (by decide +kernel)
theorem d_1045_209 {σ : Nat → Nat} {n0 : Nat} {bf : ab_B} : decode (ab_code (zx σ n0 bf).1 1045) 209 = .ok (.if_icmp .ge 119, 3) := zd zm_1045 (by decide +kernel)
theorem d_1045_212 {σ : Nat → Nat} {n0 : Nat} {bf : ab_B} : decode (ab_code (zx σ n0 bf).1 1045) 212 = .ok (.aload_n 0, 1) := zd zm_1045 (by decide +kernel)
theorem d_1045_213 {σ : Nat → Nat} {n0 : Nat} {bf : ab_B} : decode (ab_code (zx σ n0 bf).1 1045) 213 = .ok (.getfield 151, 3) := zd zm_1045 (by decide +kernel)
theorem d_1045_216 {σ : Nat → Nat} {n0 : Nat} {bf : ab_B} : decode (ab_code (zx σ n0 bf).1 1045) 216 = .ok (.ifCond .ne 112, 3) := zd zm_1045 (by decide +kernel)
theorem d_1045_219 {σ : Nat → Nat} {n0 : Nat} {bf : ab_B} : decode (ab_code (zx σ n0 bf).1 1045) 219 = .ok (.aload_n 1, 1) := zd zm_1045 (by decide +kernel)
theorem d_1045_220 {σ : Nat → Nat} {n0 : Nat} {bf : ab_B} : decode (ab_code (zx σ n0 bf).1 1045) 220 = .ok (.getfield 514, 3) := zd zm_1045 (by decide +kernel)
theorem d_1045_223 {σ : Nat → Nat} {n0 : Nat} {bf : ab_B} : decode (ab_code (zx σ n0 bf).1 1045) 223 = .ok (.iload 10, 2) := zd zm_1045 (by decide +kernel)
theorem d_1045_225 {σ : Nat → Nat} {n0 : Nat} {bf : ab_B} : decode (ab_code (zx σ n0 bf).1 1045) 225 = .ok (.invokevirtual 162, 3) := zd zm_1045 (by decide +kernel)
theorem d_1045_228 {σ : Nat → Nat} {n0 : Nat} {bf : ab_B} : decode (ab_code (zx σ n0 bf).1 1045) 228 = .ok (.checkcast 517, 3) := zd zm_1045 (by decide +kernel)
theorem d_1045_231 {σ : Nat → Nat} {n0 : Nat} {bf : ab_B} : decode (ab_code (zx σ n0 bf).1 1045) 231 = .ok (.astore 11, 2) := zd zm_1045 (by decide +kernel)
theorem d_1045_233 {σ : Nat → Nat} {n0 : Nat} {bf : ab_B} : decode (ab_code (zx σ n0 bf).1 1045) 233 = .ok (.aload 11, 2) := zd zm_1045 (by decide +kernel)
theorem d_1045_235 {σ : Nat → Nat} {n0 : Nat} {bf : ab_B} : decode (ab_code (zx σ n0 bf).1 1045) 235 = .ok (.getfield 519, 3) := zd zm_1045 (by decide +kernel)
theorem d_1045_238 {σ : Nat → Nat} {n0 : Nat} {bf : ab_B} : decode (ab_code (zx σ n0 bf).1 1045) 238 = .ok (.ifCond .ne 20, 3) := zd zm_1045 (by decide +kernel)
theorem d_1045_241 {σ : Nat → Nat} {n0 : Nat} {bf : ab_B} : decode (ab_code (zx σ n0 bf).1 1045) 241 = .ok (.aload 11, 2) := zd zm_1045 (by decide +kernel)
theorem d_1045_243 {σ : Nat → Nat} {n0 : Nat} {bf : ab_B} : decode (ab_code (zx σ n0 bf).1 1045) 243 = .ok (.getfield 522, 3) := zd zm_1045 (by decide +kernel)
theorem d_1045_246 {σ : Nat → Nat} {n0 : Nat} {bf : ab_B} : decode (ab_code (zx σ n0 bf).1 1045) 246 = .ok (.getfield 374, 3) := zd zm_1045 (by decide +kernel)
theorem d_1045_249 {σ : Nat → Nat} {n0 : Nat} {bf : ab_B} : decode (ab_code (zx σ n0 bf).1 1045) 249 = .ok (.bipush 6, 2) := zd zm_1045 (by decide +kernel)
theorem d_1045_251 {σ : Nat → Nat} {n0 : Nat} {bf : ab_B} : decode (ab_code (zx σ n0 bf).1 1045) 251 = .ok (.if_icmp .ne 7, 3) := zd zm_1045 (by decide +kernel)
theorem d_1045_254 {σ : Nat → Nat} {n0 : Nat} {bf : ab_B} : decode (ab_code (zx σ n0 bf).1 1045) 254 = .ok (.iconst 1, 1) := zd zm_1045 (by decide +kernel)
theorem d_1045_255 {σ : Nat → Nat} {n0 : Nat} {bf : ab_B} : decode (ab_code (zx σ n0 bf).1 1045) 255 = .ok (.goto 4, 3) := zd zm_1045 (by decide +kernel)
theorem d_1045_258 {σ : Nat → Nat} {n0 : Nat} {bf : ab_B} : decode (ab_code (zx σ n0 bf).1 1045) 258 = .ok (.iconst 0, 1) := zd zm_1045 (by decide +kernel)
theorem d_1045_259 {σ : Nat → Nat} {n0 : Nat} {bf : ab_B} : decode (ab_code (zx σ n0 bf).1 1045) 259 = .ok (.istore 12, 2) := zd zm_1045 (by decide +kernel)
theorem d_1045_261 {σ : Nat → Nat} {n0 : Nat} {bf : ab_B} : decode (ab_code (zx σ n0 bf).1 1045) 261 = .ok (.aload_n 0, 1) := zd zm_1045 (by decide +kernel)
theorem d_1045_262 {σ : Nat → Nat} {n0 : Nat} {bf : ab_B} : decode (ab_code (zx σ n0 bf).1 1045) 262 = .ok (.aload 11, 2) := zd zm_1045 (by decide +kernel)
theorem d_1045_264 {σ : Nat → Nat} {n0 : Nat} {bf : ab_B} : decode (ab_code (zx σ n0 bf).1 1045) 264 = .ok (.aload_n 0, 1) := zd zm_1045 (by decide +kernel)
theorem d_1045_265 {σ : Nat → Nat} {n0 : Nat} {bf : ab_B} : decode (ab_code (zx σ n0 bf).1 1045) 265 = .ok (.getfield 70, 3) := zd zm_1045 (by decide +kernel)
theorem d_1045_268 {σ : Nat → Nat} {n0 : Nat} {bf : ab_B} : decode (ab_code (zx σ n0 bf).1 1045) 268 = .ok (.aload_n 0, 1) := zd zm_1045 (by decide +kernel)
theorem d_1045_269 {σ : Nat → Nat} {n0 : Nat} {bf : ab_B} : decode (ab_code (zx σ n0 bf).1 1045) 269 = .ok (.getfield 129, 3) := zd zm_1045 (by decide +kernel)
theorem d_1045_272 {σ : Nat → Nat} {n0 : Nat} {bf : ab_B} : decode (ab_code (zx σ n0 bf).1 1045) 272 = .ok (.iaload, 1) := zd zm_1045 (by decide +kernel)
theorem d_1045_273 {σ : Nat → Nat} {n0 : Nat} {bf : ab_B} : decode (ab_code (zx σ n0 bf).1 1045) 273 = .ok (.iload 10, 2) := zd zm_1045 (by decide +kernel)
theorem d_1045_275 {σ : Nat → Nat} {n0 : Nat} {bf : ab_B} : decode (ab_code (zx σ n0 bf).1 1045) 275 = .ok (.iadd, 1) := zd zm_1045 (by decide +kernel)
theorem d_1045_276 {σ : Nat → Nat} {n0 : Nat} {bf : ab_B} : decode (ab_code (zx σ n0 bf).1 1045) 276 = .ok (.iload 12, 2) := zd zm_1045 (by decide +kernel)
theorem d_1045_278 {σ : Nat → Nat} {n0 : Nat} {bf : ab_B} : decode (ab_code (zx σ n0 bf).1 1045) 278 = .ok (.ifCond .eq 8, 3) := zd zm_1045 (by decide +kernel)
theorem d_1045_281 {σ : Nat → Nat} {n0 : Nat} {bf : ab_B} : decode (ab_code (zx σ n0 bf).1 1045) 281 = .ok (.iload 8, 2) := zd zm_1045 (by decide +kernel)
theorem d_1045_283 {σ : Nat → Nat} {n0 : Nat} {bf : ab_B} : decode (ab_code (zx σ n0 bf).1 1045) 283 = .ok (.goto 5, 3) := zd zm_1045 (by decide +kernel)
theorem d_1045_286 {σ : Nat → Nat} {n0 : Nat} {bf : ab_B} : decode (ab_code (zx σ n0 bf).1 1045) 286 = .ok (.iload 7, 2) := zd zm_1045 (by decide +kernel)
theorem d_1045_288 {σ : Nat → Nat} {n0 : Nat} {bf : ab_B} : decode (ab_code (zx σ n0 bf).1 1045) 288 = .ok (.iload_n 3, 1) := zd zm_1045 (by decide +kernel)
theorem d_1045_289 {σ : Nat → Nat} {n0 : Nat} {bf : ab_B} : decode (ab_code (zx σ n0 bf).1 1045) 289 = .ok (.invokevirtual 523, 3) := zd zm_1045 (by decide +kernel)
theorem d_1045_292 {σ : Nat → Nat} {n0 : Nat} {bf : ab_B} : decode (ab_code (zx σ n0 bf).1 1045) 292 = .ok (.iload 8, 2) := zd zm_1045 (by decide +kernel)
theorem d_1045_294 {σ : Nat → Nat} {n0 : Nat} {bf : ab_B} : decode (ab_code (zx σ n0 bf).1 1045) 294 = .ok (.iload 12, 2) := zd zm_1045 (by decide +kernel)
theorem d_1045_296 {σ : Nat → Nat} {n0 : Nat} {bf : ab_B} : decode (ab_code (zx σ n0 bf).1 1045) 296 = .ok (.ifCond .eq 7, 3) := zd zm_1045 (by decide +kernel)
theorem d_1045_299 {σ : Nat → Nat} {n0 : Nat} {bf : ab_B} : decode (ab_code (zx σ n0 bf).1 1045) 299 = .ok (.iconst 1, 1) := zd zm_1045 (by decide +kernel)
theorem d_1045_300 {σ : Nat → Nat} {n0 : Nat} {bf : ab_B} : decode (ab_code (zx σ n0 bf).1 1045) 300 = .ok (.goto 4, 3) := zd zm_1045 (by decide +kernel)
theorem d_1045_303 {σ : Nat → Nat} {n0 : Nat} {bf : ab_B} : decode (ab_code (zx σ n0 bf).1 1045) 303 = .ok (.iconst 0, 1) := zd zm_1045 (by decide +kernel)
theorem d_1045_304 {σ : Nat → Nat} {n0 : Nat} {bf : ab_B} : decode (ab_code (zx σ n0 bf).1 1045) 304 = .ok (.iadd, 1) := zd zm_1045 (by decide +kernel)
theorem d_1045_305 {σ : Nat → Nat} {n0 : Nat} {bf : ab_B} : decode (ab_code (zx σ n0 bf).1 1045) 305 = .ok (.istore 8, 2) := zd zm_1045 (by decide +kernel)
theorem d_1045_307 {σ : Nat → Nat} {n0 : Nat} {bf : ab_B} : decode (ab_code (zx σ n0 bf).1 1045) 307 = .ok (.iload 7, 2) := zd zm_1045 (by decide +kernel)
theorem d_1045_309 {σ : Nat → Nat} {n0 : Nat} {bf : ab_B} : decode (ab_code (zx σ n0 bf).1 1045) 309 = .ok (.iload 12, 2) := zd zm_1045 (by decide +kernel)
theorem d_1045_311 {σ : Nat → Nat} {n0 : Nat} {bf : ab_B} : decode (ab_code (zx σ n0 bf).1 1045) 311 = .ok (.ifCond .eq 7, 3) := zd zm_1045 (by decide +kernel)
theorem d_1045_314 {σ : Nat → Nat} {n0 : Nat} {bf : ab_B} : decode (ab_code (zx σ n0 bf).1 1045) 314 = .ok (.iconst 0, 1) := zd zm_1045 (by decide +kernel)
theorem d_1045_315 {σ : Nat → Nat} {n0 : Nat} {bf : ab_B} : decode (ab_code (zx σ n0 bf).1 1045) 315 = .ok (.goto 4, 3) := zd zm_1045 (by decide +kernel)
theorem d_1045_318 {σ : Nat → Nat} {n0 : Nat} {bf : ab_B} : decode (ab_code (zx σ n0 bf).1 1045) 318 = .ok (.iconst 1, 1) := zd zm_1045 (by decide +kernel)
theorem d_1045_319 {σ : Nat → Nat} {n0 : Nat} {bf : ab_B} : decode (ab_code (zx σ n0 bf).1 1045) 319 = .ok (.iadd, 1) := zd zm_1045 (by decide +kernel)
theorem d_1045_320 {σ : Nat → Nat} {n0 : Nat} {bf : ab_B} : decode (ab_code (zx σ n0 bf).1 1045) 320 = .ok (.istore 7, 2) := zd zm_1045 (by decide +kernel)
theorem d_1045_322 {σ : Nat → Nat} {n0 : Nat} {bf : ab_B} : decode (ab_code (zx σ n0 bf).1 1045) 322 = .ok (.iinc 10 1, 3) := zd zm_1045 (by decide +kernel)
theorem d_1045_325 {σ : Nat → Nat} {n0 : Nat} {bf : ab_B} : decode (ab_code (zx σ n0 bf).1 1045) 325 = .ok (.goto (-125), 3) := zd zm_1045 (by decide +kernel)
theorem d_1045_328 {σ : Nat → Nat} {n0 : Nat} {bf : ab_B} : decode (ab_code (zx σ n0 bf).1 1045) 328 = .ok (.aload_n 0, 1) := zd zm_1045 (by decide +kernel)
theorem d_1045_329 {σ : Nat → Nat} {n0 : Nat} {bf : ab_B} : decode (ab_code (zx σ n0 bf).1 1045) 329 = .ok (.getfield 151, 3) := zd zm_1045 (by decide +kernel)
theorem d_1045_332 {σ : Nat → Nat} {n0 : Nat} {bf : ab_B} : decode (ab_code (zx σ n0 bf).1 1045) 332 = .ok (.ifCond .eq 4, 3) := zd zm_1045 (by decide +kernel)
theorem d_1045_335 {σ : Nat → Nat} {n0 : Nat} {bf : ab_B} : decode (ab_code (zx σ n0 bf).1 1045) 335 = .ok (.return_, 1) := zd zm_1045 (by decide +kernel)
theorem d_1045_336 {σ : Nat → Nat} {n0 : Nat} {bf : ab_B} : decode (ab_code (zx σ n0 bf).1 1045) 336 = .ok (.aload_n 0, 1) := zd zm_1045 (by decide +kernel)
theorem d_1045_337 {σ : Nat → Nat} {n0 : Nat} {bf : ab_B} : decode (ab_code (zx σ n0 bf).1 1045) 337 = .ok (.iload 5, 2) := zd zm_1045 (by decide +kernel)
theorem d_1045_339 {σ : Nat → Nat} {n0 : Nat} {bf : ab_B} : decode (ab_code (zx σ n0 bf).1 1045) 339 = .ok (.putfield 111, 3) := zd zm_1045 (by decide +kernel)
theorem d_1045_342 {σ : Nat → Nat} {n0 : Nat} {bf : ab_B} : decode (ab_code (zx σ n0 bf).1 1045) 342 = .ok (.aload_n 0, 1) := zd zm_1045 (by decide +kernel)
theorem d_1045_343 {σ : Nat → Nat} {n0 : Nat} {bf : ab_B} : decode (ab_code (zx σ n0 bf).1 1045) 343 = .ok (.iload 6, 2) := zd zm_1045 (by decide +kernel)
theorem d_1045_345 {σ : Nat → Nat} {n0 : Nat} {bf : ab_B} : decode (ab_code (zx σ n0 bf).1 1045) 345 = .ok (.putfield 114, 3) := zd zm_1045 (by decide +kernel)
theorem d_1045_348 {σ : Nat → Nat} {n0 : Nat} {bf : ab_B} : decode (ab_code (zx σ n0 bf).1 1045) 348 = .ok (.aload_n 0, 1) := zd zm_1045 (by decide +kernel)
theorem d_1045_349 {σ : Nat → Nat} {n0 : Nat} {bf : ab_B} : decode (ab_code (zx σ n0 bf).1 1045) 349 = .ok (.iload 9, 2) := zd zm_1045 (by decide +kernel)
theorem d_1045_351 {σ : Nat → Nat} {n0 : Nat} {bf : ab_B} : decode (ab_code (zx σ n0 bf).1 1045) 351 = .ok (.putfield 117, 3) := zd zm_1045 (by decide +kernel)
theorem d_1045_354 {σ : Nat → Nat} {n0 : Nat} {bf : ab_B} : decode (ab_code (zx σ n0 bf).1 1045) 354 = .ok (.aload_n 0, 1) := zd zm_1045 (by decide +kernel)
theorem d_1045_355 {σ : Nat → Nat} {n0 : Nat} {bf : ab_B} : decode (ab_code (zx σ n0 bf).1 1045) 355 = .ok (.aload_n 1, 1) := zd zm_1045 (by decide +kernel)
theorem d_1045_356 {σ : Nat → Nat} {n0 : Nat} {bf : ab_B} : decode (ab_code (zx σ n0 bf).1 1045) 356 = .ok (.getfield 172, 3) := zd zm_1045 (by decide +kernel)
theorem d_1045_359 {σ : Nat → Nat} {n0 : Nat} {bf : ab_B} : decode (ab_code (zx σ n0 bf).1 1045) 359 = .ok (.putfield 175, 3) := zd zm_1045 (by decide +kernel)
theorem d_1045_362 {σ : Nat → Nat} {n0 : Nat} {bf : ab_B} : decode (ab_code (zx σ n0 bf).1 1045) 362 = .ok (.return_, 1) := zd zm_1045 (by decide +kernel)
def w_X2_call_14 (X : zs_X) (d : Nat) (p0 : Nat) (p1 : Option Nat) (p2 : Int32) (p3 : Int32) (p4 : Int32) (p5 : Int32) (S : zs_T) (Q : zs_Q) : Prop :=
  (((p2 ≤ p5 → (zs_K S p0 = some (.inl 1) ∧ ((((zs_I S 1025 p0) + (1 : Int32)) < (100 : Int32) → (zs_U X d 1045 73 [(0, .ref p0), (1, va_rf p1), (3, .int p3), (4, .int p4), (5, .int (zs_I S 1007 p0)), (6, .int (zs_I S 1010 p0)), (7, .int (0 : Int32))] [] S Q)) ∧ (¬ (((zs_I S 1025 p0) + (1 : Int32)) < (100 : Int32)) → (∃ b4, p1 = some b4 ∧ zs_K S b4 = some (.inl 10) ∧ zs_C X d 1004 [.ref p0, .int (11 : Int32), .int (zs_I S 10001 b4)] S (zs_kI (fun v8 S7 => (Q (.returned none) S7)) Q)))))) ∧ (¬ (p2 ≤ p5) → (zs_K S p0 = some (.inl 1) ∧ ∃ b10, (zs_R S 1020 p0) = some b10 ∧ zs_A S b10 0 p4 ∧ zs_U X d 1045 14 [(0, .ref p0), (1, va_rf p1), (2, .int p2), (3, .int p3), (4, .int (zs_i S b10 p4.toNatClampNeg)), (5, .int (p5 + (1 : Int32)))] [] S Q))))
theorem u_X2_call_14 {σ : Nat → Nat} {n0 : Nat} {bf : ab_B} {d : Nat} {p0 : Nat} {p1 : Option Nat} {p2 : Int32} {p3 : Int32} {p4 : Int32} {p5 : Int32} {S : zs_T} {Q : zs_Q} (hB : zt_B bf) (h : w_X2_call_14 (zx σ n0 bf) d p0 p1 p2 p3 p4 p5 S Q) : zs_U (zx σ n0 bf) d 1045 14 [(0, .ref p0), (1, va_rf p1), (2, .int p2), (3, .int p3), (4, .int p4), (5, .int p5)] [] S Q := by
  unfold w_X2_call_14 at h
  refine zu_iload d_1045_14 rfl ?_
  refine zu_iload_n d_1045_16 rfl ?_
  refine zu_cmpge (t := 35) d_1045_17 rfl (fun c1 => ?_) (fun c1 => ?_)
  · have h := h.1 c1
    refine zu_aload_n d_1045_35 rfl (zs_ra _) ?_
    obtain ⟨k2, h⟩ := h
    refine zg_1_129 rfl d_1045_36 k2 ?_
    refine zu_iconst d_1045_39 zi_1 ?_
    refine zu_stk d_1045_40 rfl rfl ?_
    refine zu_bipush d_1045_41 zj_100 ?_
    refine zu_cmplt (t := 58) d_1045_43 rfl (fun c3 => ?_) (fun c3 => ?_)
    · have h := h.1 c3
      refine zu_aload_n d_1045_58 rfl (zs_ra _) ?_
      refine zg_1_111 rfl d_1045_59 k2 ?_
      refine zu_istore d_1045_62 (zs_lt zq_1045 rfl) ?_
      refine zu_aload_n d_1045_64 rfl (zs_ra _) ?_
      refine zg_1_114 rfl d_1045_65 k2 ?_
      refine zu_istore d_1045_68 (zs_lt zq_1045 rfl) ?_
      refine zu_iconst d_1045_70 zi_0 ?_
      refine zu_istore d_1045_71 (zs_lt zq_1045 rfl) ?_
      exact h.weak ⟨rfl, rfl, rfl, rfl, rfl, rfl, rfl, trivial⟩
    · have h := h.2 c3
      refine zu_aload_n d_1045_46 rfl (zs_ra _) ?_
      refine zu_bipush d_1045_47 zj_11 ?_
      refine zu_aload_n d_1045_49 rfl (zs_rr _) ?_
      obtain ⟨b4, e5, h⟩ := h
      refine zs_stk0 (zs_rfe e5) ?_
      obtain ⟨k6, h⟩ := h
      refine zg_1_181 rfl d_1045_50 k6 ?_
      refine zc_1_194 (x0 := (11 : Int32)) (x1 := (zs_I S 10001 b4)) hB rfl k2 d_1045_53 (Nat.le_of_ble_eq_true rfl) h (fun v8 S7 h => ?_)
      refine zu_pop d_1045_56 rfl ?_
      exact zu_vret d_1045_57 zr_1045 h
  · have h := h.2 c1
    refine zu_aload_n d_1045_20 rfl (zs_ra _) ?_
    obtain ⟨k9, h⟩ := h
    refine zg_1_67 rfl d_1045_21 k9 ?_
    refine zu_iload d_1045_24 rfl ?_
    obtain ⟨b10, e11, h⟩ := h
    refine zs_stk1 (zs_rfe e11) ?_
    obtain ⟨k12, h⟩ := h
    refine zu_iald (k := 0) d_1045_26 rfl rfl k12 ?_
    refine zu_istore d_1045_27 (zs_lt zq_1045 rfl) ?_
    refine zu_iinc d_1045_29 rfl zi_1 (zs_lt zq_1045 rfl) ?_
    refine zu_goto (t := 14) d_1045_32 rfl ?_
    exact h.weak ⟨rfl, rfl, rfl, rfl, rfl, rfl, trivial⟩
def w_X2_call_164 (X : zs_X) (d : Nat) (p0 : Nat) (p1 : Option Nat) (p3 : Int32) (p5 : Int32) (p6 : Int32) (S : zs_T) (Q : zs_Q) : Prop :=
  (zs_K S p0 = some (.inl 1) ∧ (((zs_I S 1010 p0) ≤ p6 → (zs_U X d 1045 200 [(0, .ref p0), (1, va_rf p1), (3, .int p3), (5, .int p5), (6, .int p6), (7, .int p5), (8, .int p6), (9, .int (zs_I S 1011 p0)), (10, .int (0 : Int32))] [] S Q)) ∧ (¬ ((zs_I S 1010 p0) ≤ p6) → (∃ b3, (zs_R S 1009 p0) = some b3 ∧ zs_A S b3 0 p6 ∧ zs_U X d 1045 200 [(0, .ref p0), (1, va_rf p1), (3, .int p3), (5, .int p5), (6, .int p6), (7, .int p5), (8, .int p6), (9, .int (zs_i S b3 p6.toNatClampNeg)), (10, .int (0 : Int32))] [] S Q))))
theorem u_X2_call_164 {σ : Nat → Nat} {n0 : Nat} {bf : ab_B} {d : Nat} {p0 : Nat} {p1 : Option Nat} {p3 : Int32} {p5 : Int32} {p6 : Int32} {S : zs_T} {Q : zs_Q} (hB : zt_B bf) (h : w_X2_call_164 (zx σ n0 bf) d p0 p1 p3 p5 p6 S Q) : zs_U (zx σ n0 bf) d 1045 164 [(0, .ref p0), (1, va_rf p1), (3, .int p3), (5, .int p5), (6, .int p6)] [] S Q := by
  unfold w_X2_call_164 at h
  refine zu_iload d_1045_164 rfl ?_
  refine zu_istore d_1045_166 (zs_lt zq_1045 rfl) ?_
  refine zu_iload d_1045_168 rfl ?_
  refine zu_istore d_1045_170 (zs_lt zq_1045 rfl) ?_
  refine zu_iload d_1045_172 rfl ?_
  refine zu_aload_n d_1045_174 rfl (zs_ra _) ?_
  obtain ⟨k1, h⟩ := h
  refine zg_1_114 rfl d_1045_175 k1 ?_
  refine zu_cmpge (t := 191) d_1045_178 rfl (fun c2 => ?_) (fun c2 => ?_)
  · have h := h.1 c2
    refine zu_aload_n d_1045_191 rfl (zs_ra _) ?_
    refine zg_1_117 rfl d_1045_192 k1 ?_
    refine zu_istore d_1045_195 (zs_lt zq_1045 rfl) ?_
    refine zu_iconst d_1045_197 zi_0 ?_
    refine zu_istore d_1045_198 (zs_lt zq_1045 rfl) ?_
    exact h.weak ⟨rfl, rfl, rfl, rfl, rfl, rfl, rfl, rfl, rfl, trivial⟩
  · have h := h.2 c2
    refine zu_aload_n d_1045_181 rfl (zs_ra _) ?_
    refine zg_1_46 rfl d_1045_182 k1 ?_
    refine zu_iload d_1045_185 rfl ?_
    obtain ⟨b3, e4, h⟩ := h
    refine zs_stk1 (zs_rfe e4) ?_
    obtain ⟨k5, h⟩ := h
    refine zu_iald (k := 0) d_1045_187 rfl rfl k5 ?_
    refine zu_goto (t := 195) d_1045_188 rfl ?_
    refine zu_istore d_1045_195 (zs_lt zq_1045 rfl) ?_
    refine zu_iconst d_1045_197 zi_0 ?_
    refine zu_istore d_1045_198 (zs_lt zq_1045 rfl) ?_
    exact h.weak ⟨rfl, rfl, rfl, rfl, rfl, rfl, rfl, rfl, rfl, trivial⟩
def w_X2_call_163 (X : zs_X) (d : Nat)  (S : zs_T) (Q : zs_Q) : Prop :=
  (Q (.returned none) S)
theorem u_X2_call_163 {σ : Nat → Nat} {n0 : Nat} {bf : ab_B} {d : Nat}  {S : zs_T} {Q : zs_Q} (hB : zt_B bf) (h : w_X2_call_163 (zx σ n0 bf) d  S Q) : zs_U (zx σ n0 bf) d 1045 163 [] [] S Q := by
  unfold w_X2_call_163 at h
  exact zu_vret d_1045_163 zr_1045 h
def w_X2_call_126 (X : zs_X) (d : Nat) (p0 : Nat) (p1 : Option Nat) (p3 : Int32) (p4 : Int32) (p5 : Int32) (p6 : Int32) (p7 : Int32) (S : zs_T) (Q : zs_Q) : Prop :=
  (zs_U X d 1045 73 [(0, .ref p0), (1, va_rf p1), (3, .int p3), (4, .int p4), (5, .int (p5 + (-1 : Int32))), (6, .int p6), (7, .int (p7 + (1 : Int32)))] [] S Q)
theorem u_X2_call_126 {σ : Nat → Nat} {n0 : Nat} {bf : ab_B} {d : Nat} {p0 : Nat} {p1 : Option Nat} {p3 : Int32} {p4 : Int32} {p5 : Int32} {p6 : Int32} {p7 : Int32} {S : zs_T} {Q : zs_Q} (hB : zt_B bf) (h : w_X2_call_126 (zx σ n0 bf) d p0 p1 p3 p4 p5 p6 p7 S Q) : zs_U (zx σ n0 bf) d 1045 126 [(0, .ref p0), (1, va_rf p1), (3, .int p3), (4, .int p4), (5, .int p5), (6, .int p6), (7, .int p7)] [] S Q := by
  unfold w_X2_call_126 at h
  refine zu_iinc d_1045_126 rfl zi_m1 (zs_lt zq_1045 rfl) ?_
  refine zu_iinc d_1045_129 rfl zi_1 (zs_lt zq_1045 rfl) ?_
  refine zu_goto (t := 73) d_1045_132 rfl ?_
  exact h.weak ⟨rfl, rfl, rfl, rfl, rfl, rfl, rfl, trivial⟩
def w_X2_call_120 (X : zs_X) (d : Nat) (p0 : Nat) (p1 : Option Nat) (p3 : Int32) (p4 : Int32) (p5 : Int32) (p6 : Int32) (p7 : Int32) (S : zs_T) (Q : zs_Q) : Prop :=
  (zs_U X d 1045 73 [(0, .ref p0), (1, va_rf p1), (3, .int p3), (4, .int p4), (5, .int p5), (6, .int (p6 + (-1 : Int32))), (7, .int (p7 + (1 : Int32)))] [] S Q)
theorem u_X2_call_120 {σ : Nat → Nat} {n0 : Nat} {bf : ab_B} {d : Nat} {p0 : Nat} {p1 : Option Nat} {p3 : Int32} {p4 : Int32} {p5 : Int32} {p6 : Int32} {p7 : Int32} {S : zs_T} {Q : zs_Q} (hB : zt_B bf) (h : w_X2_call_120 (zx σ n0 bf) d p0 p1 p3 p4 p5 p6 p7 S Q) : zs_U (zx σ n0 bf) d 1045 120 [(0, .ref p0), (1, va_rf p1), (3, .int p3), (4, .int p4), (5, .int p5), (6, .int p6), (7, .int p7)] [] S Q := by
  unfold w_X2_call_120 at h
  refine zu_iinc d_1045_120 rfl zi_m1 (zs_lt zq_1045 rfl) ?_
  refine zu_goto (t := 129) d_1045_123 rfl ?_
  refine zu_iinc d_1045_129 rfl zi_1 (zs_lt zq_1045 rfl) ?_
  refine zu_goto (t := 73) d_1045_132 rfl ?_
  exact h.weak ⟨rfl, rfl, rfl, rfl, rfl, rfl, rfl, trivial⟩
def w_X2_call_73 (X : zs_X) (d : Nat) (p0 : Nat) (p1 : Option Nat) (p3 : Int32) (p4 : Int32) (p5 : Int32) (p6 : Int32) (p7 : Int32) (S : zs_T) (Q : zs_Q) : Prop :=
  (∃ b1, p1 = some b1 ∧ zs_K S b1 = some (.inl 10) ∧ ∃ b4, (zs_R S 10004 b1) = some b4 ∧ zs_K S b4 = some (.inl 16) ∧ zs_C X d 16001 [.ref b4] S (zs_kI (fun v8 S7 => (((v8 ≤ p7 → (zs_K S7 p0 = some (.inl 1) ∧ zs_C X d 1002 [.ref p0, va_rf p1, .int (zs_I S7 1033 p0), .int p3, .int p4] S7 (zs_kV (fun S11 => (zs_K S11 b1 = some (.inl 10) ∧ zs_K S11 p0 = some (.inl 1) ∧ zs_C X d 1003 [.ref p0, .long (((zs_I S11 10009 b1)).toInt64), .int (zs_I S11 10001 b1)] S11 (zs_kI (fun v16 S15 => (((¬ v16 = 0 → w_X2_call_164 X d p0 p1 p3 p5 p6 S15 Q) ∧ (¬ (¬ v16 = 0) → w_X2_call_163 X d  S15 Q)))) Q))) Q))) ∧ (¬ (v8 ≤ p7) → (zs_K S7 b1 = some (.inl 10) ∧ ∃ b19, (zs_R S7 10004 b1) = some b19 ∧ zs_K S7 b19 = some (.inl 16) ∧ zs_C X d 16009 [.ref b19, .int p7] S7 (zs_kR (fun v23 S22 => ((∀ a, v23 = some a → zs_K S22 a = some (.inl 7)) ∧ ∃ b25, v23 = some b25 ∧ zs_K S22 b25 = some (.inl 7) ∧ ((¬ (zs_I S22 7010 b25) = 0 → w_X2_call_126 X d p0 p1 p3 p4 p5 p6 p7 S22 Q) ∧ (¬ (¬ (zs_I S22 7010 b25) = 0) → (∃ b29, (zs_R S22 7002 b25) = some b29 ∧ zs_K S22 b29 = some (.inl 6) ∧ ((¬ (zs_I S22 6000 b29) = (6 : Int32) → w_X2_call_126 X d p0 p1 p3 p4 p5 p6 p7 S22 Q) ∧ (¬ (¬ (zs_I S22 6000 b29) = (6 : Int32)) → w_X2_call_120 X d p0 p1 p3 p4 p5 p6 p7 S22 Q))))))) Q)))))) Q))
theorem u_X2_call_73 {σ : Nat → Nat} {n0 : Nat} {bf : ab_B} {d : Nat} {p0 : Nat} {p1 : Option Nat} {p3 : Int32} {p4 : Int32} {p5 : Int32} {p6 : Int32} {p7 : Int32} {S : zs_T} {Q : zs_Q} (hB : zt_B bf) (h : w_X2_call_73 (zx σ n0 bf) d p0 p1 p3 p4 p5 p6 p7 S Q) : zs_U (zx σ n0 bf) d 1045 73 [(0, .ref p0), (1, va_rf p1), (3, .int p3), (4, .int p4), (5, .int p5), (6, .int p6), (7, .int p7)] [] S Q := by
  unfold w_X2_call_73 at h
  refine zu_iload d_1045_73 rfl ?_
  refine zu_aload_n d_1045_75 rfl (zs_rr _) ?_
  obtain ⟨b1, e2, h⟩ := h
  refine zs_stk0 (zs_rfe e2) ?_
  obtain ⟨k3, h⟩ := h
  refine zg_1_514 rfl d_1045_76 k3 ?_
  obtain ⟨b4, e5, h⟩ := h
  refine zs_stk0 (zs_rfe e5) ?_
  obtain ⟨k6, h⟩ := h
  refine zc_1_336  hB rfl k6 d_1045_79 (Nat.le_of_ble_eq_true rfl) h (fun v8 S7 h => ?_)
  refine zu_cmpge (t := 135) d_1045_82 rfl (fun c9 => ?_) (fun c9 => ?_)
  · have h := h.1 c9
    refine zu_aload_n d_1045_135 rfl (zs_ra _) ?_
    refine zu_aload_n d_1045_136 rfl (zs_rr _) ?_
    refine zu_aload_n d_1045_137 rfl (zs_ra _) ?_
    obtain ⟨k10, h⟩ := h
    refine zg_1_175 rfl d_1045_138 k10 ?_
    refine zu_iload_n d_1045_141 rfl ?_
    refine zu_iload d_1045_142 rfl ?_
    refine zc_1_168 (x0 := p1) (x1 := (zs_I S7 1033 p0)) (x2 := p3) (x3 := p4) hB rfl k10 d_1045_144 (Nat.le_of_ble_eq_true rfl) h (fun S11 h => ?_)
    refine zu_aload_n d_1045_147 rfl (zs_ra _) ?_
    refine zu_aload_n d_1045_148 rfl (zs_rr _) ?_
    refine zs_stk0 (zs_rfe e2) ?_
    obtain ⟨k13, h⟩ := h
    refine zg_1_178 rfl d_1045_149 k13 ?_
    refine zu_stk d_1045_152 rfl rfl ?_
    refine zu_aload_n d_1045_153 rfl (zs_rr _) ?_
    refine zs_stk0 (zs_rfe e2) ?_
    refine zg_1_181 rfl d_1045_154 k13 ?_
    obtain ⟨k14, h⟩ := h
    refine zc_1_184 (x0 := (((zs_I S11 10009 b1)).toInt64)) (x1 := (zs_I S11 10001 b1)) hB rfl k14 d_1045_157 (Nat.le_of_ble_eq_true rfl) h (fun v16 S15 h => ?_)
    refine zu_ifne (t := 164) d_1045_160 rfl (fun c17 => ?_) (fun c17 => ?_)
    · have h := h.1 c17
      exact (u_X2_call_164 hB h).weak ⟨rfl, rfl, rfl, rfl, rfl, trivial⟩
    · have h := h.2 c17
      exact (u_X2_call_163 hB h).weak trivial
  · have h := h.2 c9
    refine zu_aload_n d_1045_85 rfl (zs_rr _) ?_
    refine zs_stk0 (zs_rfe e2) ?_
    obtain ⟨k18, h⟩ := h
    refine zg_1_514 rfl d_1045_86 k18 ?_
    refine zu_iload d_1045_89 rfl ?_
    obtain ⟨b19, e20, h⟩ := h
    refine zs_stk1 (zs_rfe e20) ?_
    obtain ⟨k21, h⟩ := h
    refine zc_1_162 (x0 := p7) hB rfl k21 d_1045_91 (Nat.le_of_ble_eq_true rfl) h (fun v23 S22 h => ?_)
    obtain ⟨k24, h⟩ := h
    refine zk_1_517 (o := v23) rfl d_1045_94 k24 ?_
    refine zu_astore d_1045_97 (zs_rr _) (zs_lt zq_1045 rfl) ?_
    refine zu_aload d_1045_99 rfl (zs_rr _) ?_
    obtain ⟨b25, e26, h⟩ := h
    refine zs_stk0 (zs_rfe e26) ?_
    obtain ⟨k27, h⟩ := h
    refine zg_1_519 rfl d_1045_101 k27 ?_
    refine zu_ifne (t := 126) d_1045_104 rfl (fun c28 => ?_) (fun c28 => ?_)
    · have h := h.1 c28
      exact (u_X2_call_126 hB h).weak ⟨rfl, rfl, rfl, rfl, rfl, rfl, rfl, trivial⟩
    · have h := h.2 c28
      refine zu_aload d_1045_107 rfl (zs_rr _) ?_
      refine zs_stk0 (zs_rfe e26) ?_
      refine zg_1_522 rfl d_1045_109 k27 ?_
      obtain ⟨b29, e30, h⟩ := h
      refine zs_stk0 (zs_rfe e30) ?_
      obtain ⟨k31, h⟩ := h
      refine zg_1_374 rfl d_1045_112 k31 ?_
      refine zu_bipush d_1045_115 zj_6 ?_
      refine zu_cmpne (t := 126) d_1045_117 rfl (fun c32 => ?_) (fun c32 => ?_)
      · have h := h.1 c32
        exact (u_X2_call_126 hB h).weak ⟨rfl, rfl, rfl, rfl, rfl, rfl, rfl, trivial⟩
      · have h := h.2 c32
        exact (u_X2_call_120 hB h).weak ⟨rfl, rfl, rfl, rfl, rfl, rfl, rfl, trivial⟩
def w_X2_call_362 (X : zs_X) (d : Nat)  (S : zs_T) (Q : zs_Q) : Prop :=
  (Q (.returned none) S)
theorem u_X2_call_362 {σ : Nat → Nat} {n0 : Nat} {bf : ab_B} {d : Nat}  {S : zs_T} {Q : zs_Q} (hB : zt_B bf) (h : w_X2_call_362 (zx σ n0 bf) d  S Q) : zs_U (zx σ n0 bf) d 1045 362 [] [] S Q := by
  unfold w_X2_call_362 at h
  exact zu_vret d_1045_362 zr_1045 h
def w_X2_call_328 (X : zs_X) (d : Nat) (p0 : Nat) (p1 : Option Nat) (p5 : Int32) (p6 : Int32) (p9 : Int32) (S : zs_T) (Q : zs_Q) : Prop :=
  (zs_K S p0 = some (.inl 1) ∧ (((zs_I S 1039 p0) = 0 → (ab_n0 X.1 ≤ p0 ∧ ∀ S4, S4 = zs_sI S 1007 p0 p5 → ∀ S7, S7 = zs_sI S4 1010 p0 p6 → ∀ S10, S10 = zs_sI S7 1011 p0 p9 → ∃ b13, p1 = some b13 ∧ zs_K S b13 = some (.inl 10) ∧ ∀ S16, S16 = zs_sI S10 1033 p0 (zs_I S10 10010 b13) → w_X2_call_362 X d  S16 Q)) ∧ (¬ ((zs_I S 1039 p0) = 0) → (Q (.returned none) S))))
theorem u_X2_call_328 {σ : Nat → Nat} {n0 : Nat} {bf : ab_B} {d : Nat} {p0 : Nat} {p1 : Option Nat} {p5 : Int32} {p6 : Int32} {p9 : Int32} {S : zs_T} {Q : zs_Q} (hB : zt_B bf) (h : w_X2_call_328 (zx σ n0 bf) d p0 p1 p5 p6 p9 S Q) : zs_U (zx σ n0 bf) d 1045 328 [(0, .ref p0), (1, va_rf p1), (5, .int p5), (6, .int p6), (9, .int p9)] [] S Q := by
  unfold w_X2_call_328 at h
  refine zu_aload_n d_1045_328 rfl (zs_ra _) ?_
  obtain ⟨k1, h⟩ := h
  refine zg_1_151 rfl d_1045_329 k1 ?_
  refine zu_ifeq (t := 336) d_1045_332 rfl (fun c2 => ?_) (fun c2 => ?_)
  · have h := h.1 c2
    refine zu_aload_n d_1045_336 rfl (zs_ra _) ?_
    refine zu_iload d_1045_337 rfl ?_
    obtain ⟨k3, h⟩ := h
    refine zp_1_111 (v := p5) rfl d_1045_339 k1 k3 ?_
    generalize e5 : zs_sI S 1007 p0 p5 = S4
    have h := h S4 e5.symm
    have K6 : ∀ b, zs_K S4 b = zs_K S b := zs_Kt e5 (zs_KsI _ _ _ _) (fun _ => rfl)
    refine zu_aload_n d_1045_342 rfl (zs_ra _) ?_
    refine zu_iload d_1045_343 rfl ?_
    refine zp_1_114 (v := p6) rfl d_1045_345 ((K6 _).trans k1) k3 ?_
    generalize e8 : zs_sI S4 1010 p0 p6 = S7
    have h := h S7 e8.symm
    have K9 : ∀ b, zs_K S7 b = zs_K S b := zs_Kt e8 (zs_KsI _ _ _ _) K6
    refine zu_aload_n d_1045_348 rfl (zs_ra _) ?_
    refine zu_iload d_1045_349 rfl ?_
    refine zp_1_117 (v := p9) rfl d_1045_351 ((K9 _).trans k1) k3 ?_
    generalize e11 : zs_sI S7 1011 p0 p9 = S10
    have h := h S10 e11.symm
    have K12 : ∀ b, zs_K S10 b = zs_K S b := zs_Kt e11 (zs_KsI _ _ _ _) K9
    refine zu_aload_n d_1045_354 rfl (zs_ra _) ?_
    refine zu_aload_n d_1045_355 rfl (zs_rr _) ?_
    obtain ⟨b13, e14, h⟩ := h
    refine zs_stk0 (zs_rfe e14) ?_
    obtain ⟨k15, h⟩ := h
    refine zg_1_172 rfl d_1045_356 ((K12 _).trans k15) ?_
    refine zp_1_175 (v := (zs_I S10 10010 b13)) rfl d_1045_359 ((K12 _).trans k1) k3 ?_
    generalize e17 : zs_sI S10 1033 p0 (zs_I S10 10010 b13) = S16
    have h := h S16 e17.symm
    have K18 : ∀ b, zs_K S16 b = zs_K S b := zs_Kt e17 (zs_KsI _ _ _ _) K12
    exact (u_X2_call_362 hB h).weak trivial
  · have h := h.2 c2
    exact zu_vret d_1045_335 zr_1045 h
def w_X2_call_319 (X : zs_X) (d : Nat) (p0 : Nat) (p1 : Option Nat) (p3 : Int32) (p5 : Int32) (p6 : Int32) (p8 : Int32) (p9 : Int32) (p10 : Int32) (q0 : Int32) (q1 : Int32) (S : zs_T) (Q : zs_Q) : Prop :=
  (zs_U X d 1045 200 [(0, .ref p0), (1, va_rf p1), (3, .int p3), (5, .int p5), (6, .int p6), (7, .int (q0 + q1)), (8, .int p8), (9, .int p9), (10, .int (p10 + (1 : Int32)))] [] S Q)
theorem u_X2_call_319 {σ : Nat → Nat} {n0 : Nat} {bf : ab_B} {d : Nat} {p0 : Nat} {p1 : Option Nat} {p3 : Int32} {p5 : Int32} {p6 : Int32} {p8 : Int32} {p9 : Int32} {p10 : Int32} {q0 : Int32} {q1 : Int32} {S : zs_T} {Q : zs_Q} (hB : zt_B bf) (h : w_X2_call_319 (zx σ n0 bf) d p0 p1 p3 p5 p6 p8 p9 p10 q0 q1 S Q) : zs_U (zx σ n0 bf) d 1045 319 [(0, .ref p0), (1, va_rf p1), (3, .int p3), (5, .int p5), (6, .int p6), (8, .int p8), (9, .int p9), (10, .int p10)] [.int q1, .int q0] S Q := by
  unfold w_X2_call_319 at h
  refine zu_stk d_1045_319 rfl rfl ?_
  refine zu_istore d_1045_320 (zs_lt zq_1045 rfl) ?_
  refine zu_iinc d_1045_322 rfl zi_1 (zs_lt zq_1045 rfl) ?_
  refine zu_goto (t := 200) d_1045_325 rfl ?_
  exact h.weak ⟨rfl, rfl, rfl, rfl, rfl, rfl, rfl, rfl, rfl, trivial⟩
def w_X2_call_304 (X : zs_X) (d : Nat) (p0 : Nat) (p1 : Option Nat) (p3 : Int32) (p5 : Int32) (p6 : Int32) (p7 : Int32) (p9 : Int32) (p10 : Int32) (p12 : Int32) (q0 : Int32) (q1 : Int32) (S : zs_T) (Q : zs_Q) : Prop :=
  (((p12 = 0 → (w_X2_call_319 X d p0 p1 p3 p5 p6 (q0 + q1) p9 p10 p7 (1 : Int32) S Q)) ∧ (¬ (p12 = 0) → (w_X2_call_319 X d p0 p1 p3 p5 p6 (q0 + q1) p9 p10 p7 (0 : Int32) S Q))))
theorem u_X2_call_304 {σ : Nat → Nat} {n0 : Nat} {bf : ab_B} {d : Nat} {p0 : Nat} {p1 : Option Nat} {p3 : Int32} {p5 : Int32} {p6 : Int32} {p7 : Int32} {p9 : Int32} {p10 : Int32} {p12 : Int32} {q0 : Int32} {q1 : Int32} {S : zs_T} {Q : zs_Q} (hB : zt_B bf) (h : w_X2_call_304 (zx σ n0 bf) d p0 p1 p3 p5 p6 p7 p9 p10 p12 q0 q1 S Q) : zs_U (zx σ n0 bf) d 1045 304 [(0, .ref p0), (1, va_rf p1), (3, .int p3), (5, .int p5), (6, .int p6), (7, .int p7), (9, .int p9), (10, .int p10), (12, .int p12)] [.int q1, .int q0] S Q := by
  unfold w_X2_call_304 at h
  refine zu_stk d_1045_304 rfl rfl ?_
  refine zu_istore d_1045_305 (zs_lt zq_1045 rfl) ?_
  refine zu_iload d_1045_307 rfl ?_
  refine zu_iload d_1045_309 rfl ?_
  refine zu_ifeq (t := 318) d_1045_311 rfl (fun c1 => ?_) (fun c1 => ?_)
  · have h := h.1 c1
    refine zu_iconst d_1045_318 zi_1 ?_
    exact (u_X2_call_319 hB h).weak ⟨rfl, rfl, rfl, rfl, rfl, rfl, rfl, rfl, trivial⟩
  · have h := h.2 c1
    refine zu_iconst d_1045_314 zi_0 ?_
    refine zu_goto (t := 319) d_1045_315 rfl ?_
    exact (u_X2_call_319 hB h).weak ⟨rfl, rfl, rfl, rfl, rfl, rfl, rfl, rfl, trivial⟩
def w_X2_call_288 (X : zs_X) (d : Nat) (p0 : Nat) (p1 : Option Nat) (p3 : Int32) (p5 : Int32) (p6 : Int32) (p7 : Int32) (p8 : Int32) (p9 : Int32) (p10 : Int32) (p12 : Int32) (q0 : Option Nat) (q1 : Option Nat) (q2 : Int32) (q3 : Int32) (S : zs_T) (Q : zs_Q) : Prop :=
  (∃ b1, q0 = some b1 ∧ zs_K S b1 = some (.inl 1) ∧ zs_C X d 1046 [.ref b1, va_rf q1, .int q2, .int q3, .int p3] S (zs_kV (fun S4 => (((p12 = 0 → (w_X2_call_304 X d p0 p1 p3 p5 p6 p7 p9 p10 p12 p8 (0 : Int32) S4 Q)) ∧ (¬ (p12 = 0) → (w_X2_call_304 X d p0 p1 p3 p5 p6 p7 p9 p10 p12 p8 (1 : Int32) S4 Q))))) Q))
theorem u_X2_call_288 {σ : Nat → Nat} {n0 : Nat} {bf : ab_B} {d : Nat} {p0 : Nat} {p1 : Option Nat} {p3 : Int32} {p5 : Int32} {p6 : Int32} {p7 : Int32} {p8 : Int32} {p9 : Int32} {p10 : Int32} {p12 : Int32} {q0 : Option Nat} {q1 : Option Nat} {q2 : Int32} {q3 : Int32} {S : zs_T} {Q : zs_Q} (hB : zt_B bf) (h : w_X2_call_288 (zx σ n0 bf) d p0 p1 p3 p5 p6 p7 p8 p9 p10 p12 q0 q1 q2 q3 S Q) : zs_U (zx σ n0 bf) d 1045 288 [(0, .ref p0), (1, va_rf p1), (3, .int p3), (5, .int p5), (6, .int p6), (7, .int p7), (8, .int p8), (9, .int p9), (10, .int p10), (12, .int p12)] [.int q3, .int q2, va_rf q1, va_rf q0] S Q := by
  unfold w_X2_call_288 at h
  refine zu_iload_n d_1045_288 rfl ?_
  obtain ⟨b1, e2, h⟩ := h
  refine zs_stk4 (zs_rfe e2) ?_
  obtain ⟨k3, h⟩ := h
  refine zc_1_523 (x0 := q1) (x1 := q2) (x2 := q3) (x3 := p3) hB rfl k3 d_1045_289 (Nat.le_of_ble_eq_true rfl) h (fun S4 h => ?_)
  refine zu_iload d_1045_292 rfl ?_
  refine zu_iload d_1045_294 rfl ?_
  refine zu_ifeq (t := 303) d_1045_296 rfl (fun c6 => ?_) (fun c6 => ?_)
  · have h := h.1 c6
    refine zu_iconst d_1045_303 zi_0 ?_
    exact (u_X2_call_304 hB h).weak ⟨rfl, rfl, rfl, rfl, rfl, rfl, rfl, rfl, rfl, trivial⟩
  · have h := h.2 c6
    refine zu_iconst d_1045_299 zi_1 ?_
    refine zu_goto (t := 304) d_1045_300 rfl ?_
    exact (u_X2_call_304 hB h).weak ⟨rfl, rfl, rfl, rfl, rfl, rfl, rfl, rfl, rfl, trivial⟩
def w_X2_call_259 (X : zs_X) (d : Nat) (p0 : Nat) (p1 : Option Nat) (p3 : Int32) (p5 : Int32) (p6 : Int32) (p7 : Int32) (p8 : Int32) (p9 : Int32) (p10 : Int32) (p11 : Option Nat) (q0 : Int32) (S : zs_T) (Q : zs_Q) : Prop :=
  (zs_K S p0 = some (.inl 1) ∧ ∃ b2, (zs_R S 1021 p0) = some b2 ∧ zs_A S b2 0 (zs_I S 1025 p0) ∧ ((q0 = 0 → (w_X2_call_288 X d p0 p1 p3 p5 p6 p7 p8 p9 p10 q0 (some p0) p11 ((zs_i S b2 (zs_I S 1025 p0).toNatClampNeg) + p10) p7 S Q)) ∧ (¬ (q0 = 0) → (w_X2_call_288 X d p0 p1 p3 p5 p6 p7 p8 p9 p10 q0 (some p0) p11 ((zs_i S b2 (zs_I S 1025 p0).toNatClampNeg) + p10) p8 S Q))))
theorem u_X2_call_259 {σ : Nat → Nat} {n0 : Nat} {bf : ab_B} {d : Nat} {p0 : Nat} {p1 : Option Nat} {p3 : Int32} {p5 : Int32} {p6 : Int32} {p7 : Int32} {p8 : Int32} {p9 : Int32} {p10 : Int32} {p11 : Option Nat} {q0 : Int32} {S : zs_T} {Q : zs_Q} (hB : zt_B bf) (h : w_X2_call_259 (zx σ n0 bf) d p0 p1 p3 p5 p6 p7 p8 p9 p10 p11 q0 S Q) : zs_U (zx σ n0 bf) d 1045 259 [(0, .ref p0), (1, va_rf p1), (3, .int p3), (5, .int p5), (6, .int p6), (7, .int p7), (8, .int p8), (9, .int p9), (10, .int p10), (11, va_rf p11)] [.int q0] S Q := by
  unfold w_X2_call_259 at h
  refine zu_istore d_1045_259 (zs_lt zq_1045 rfl) ?_
  refine zs_U.weak (L1 := [(12, .int q0), (0, .ref p0), (1, va_rf p1), (3, .int p3), (5, .int p5), (6, .int p6), (7, .int p7), (8, .int p8), (9, .int p9), (10, .int p10), (11, va_rf p11)]) ?_ ⟨rfl, zs_gp1 rfl (Or.inl rfl) rfl, zs_gp1 rfl (Or.inl (zs_cat _)) rfl, zs_gp1 rfl (Or.inl rfl) rfl, zs_gp1 rfl (Or.inl rfl) rfl, zs_gp1 rfl (Or.inl rfl) rfl, zs_gp1 rfl (Or.inl rfl) rfl, zs_gp1 rfl (Or.inl rfl) rfl, zs_gp1 rfl (Or.inl rfl) rfl, zs_gp1 rfl (Or.inl rfl) rfl, zs_gp1 rfl (Or.inl (zs_cat _)) rfl, trivial⟩
  refine zu_aload_n d_1045_261 rfl (zs_ra _) ?_
  refine zu_aload d_1045_262 rfl (zs_rr _) ?_
  refine zu_aload_n d_1045_264 rfl (zs_ra _) ?_
  obtain ⟨k1, h⟩ := h
  refine zg_1_70 rfl d_1045_265 k1 ?_
  refine zu_aload_n d_1045_268 rfl (zs_ra _) ?_
  refine zg_1_129 rfl d_1045_269 k1 ?_
  obtain ⟨b2, e3, h⟩ := h
  refine zs_stk1 (zs_rfe e3) ?_
  obtain ⟨k4, h⟩ := h
  refine zu_iald (k := 0) d_1045_272 rfl rfl k4 ?_
  refine zu_iload d_1045_273 rfl ?_
  refine zu_stk d_1045_275 rfl rfl ?_
  refine zu_iload d_1045_276 rfl ?_
  refine zu_ifeq (t := 286) d_1045_278 rfl (fun c5 => ?_) (fun c5 => ?_)
  · have h := h.1 c5
    refine zu_iload d_1045_286 rfl ?_
    exact (u_X2_call_288 hB h).weak ⟨rfl, rfl, rfl, rfl, rfl, rfl, rfl, rfl, rfl, rfl, trivial⟩
  · have h := h.2 c5
    refine zu_iload d_1045_281 rfl ?_
    refine zu_goto (t := 288) d_1045_283 rfl ?_
    exact (u_X2_call_288 hB h).weak ⟨rfl, rfl, rfl, rfl, rfl, rfl, rfl, rfl, rfl, rfl, trivial⟩
def w_X2_call_258 (X : zs_X) (d : Nat) (p0 : Nat) (p1 : Option Nat) (p3 : Int32) (p5 : Int32) (p6 : Int32) (p7 : Int32) (p8 : Int32) (p9 : Int32) (p10 : Int32) (p11 : Option Nat) (S : zs_T) (Q : zs_Q) : Prop :=
  (w_X2_call_259 X d p0 p1 p3 p5 p6 p7 p8 p9 p10 p11 (0 : Int32) S Q)
theorem u_X2_call_258 {σ : Nat → Nat} {n0 : Nat} {bf : ab_B} {d : Nat} {p0 : Nat} {p1 : Option Nat} {p3 : Int32} {p5 : Int32} {p6 : Int32} {p7 : Int32} {p8 : Int32} {p9 : Int32} {p10 : Int32} {p11 : Option Nat} {S : zs_T} {Q : zs_Q} (hB : zt_B bf) (h : w_X2_call_258 (zx σ n0 bf) d p0 p1 p3 p5 p6 p7 p8 p9 p10 p11 S Q) : zs_U (zx σ n0 bf) d 1045 258 [(0, .ref p0), (1, va_rf p1), (3, .int p3), (5, .int p5), (6, .int p6), (7, .int p7), (8, .int p8), (9, .int p9), (10, .int p10), (11, va_rf p11)] [] S Q := by
  unfold w_X2_call_258 at h
  refine zu_iconst d_1045_258 zi_0 ?_
  exact (u_X2_call_259 hB h).weak ⟨rfl, rfl, rfl, rfl, rfl, rfl, rfl, rfl, rfl, rfl, trivial⟩
def w_X2_call_241 (X : zs_X) (d : Nat) (p0 : Nat) (p1 : Option Nat) (p3 : Int32) (p5 : Int32) (p6 : Int32) (p7 : Int32) (p8 : Int32) (p9 : Int32) (p10 : Int32) (p11 : Option Nat) (S : zs_T) (Q : zs_Q) : Prop :=
  (∃ b1, p11 = some b1 ∧ zs_K S b1 = some (.inl 7) ∧ ∃ b4, (zs_R S 7002 b1) = some b4 ∧ zs_K S b4 = some (.inl 6) ∧ ((¬ (zs_I S 6000 b4) = (6 : Int32) → w_X2_call_258 X d p0 p1 p3 p5 p6 p7 p8 p9 p10 p11 S Q) ∧ (¬ (¬ (zs_I S 6000 b4) = (6 : Int32)) → (w_X2_call_259 X d p0 p1 p3 p5 p6 p7 p8 p9 p10 p11 (1 : Int32) S Q))))
theorem u_X2_call_241 {σ : Nat → Nat} {n0 : Nat} {bf : ab_B} {d : Nat} {p0 : Nat} {p1 : Option Nat} {p3 : Int32} {p5 : Int32} {p6 : Int32} {p7 : Int32} {p8 : Int32} {p9 : Int32} {p10 : Int32} {p11 : Option Nat} {S : zs_T} {Q : zs_Q} (hB : zt_B bf) (h : w_X2_call_241 (zx σ n0 bf) d p0 p1 p3 p5 p6 p7 p8 p9 p10 p11 S Q) : zs_U (zx σ n0 bf) d 1045 241 [(0, .ref p0), (1, va_rf p1), (3, .int p3), (5, .int p5), (6, .int p6), (7, .int p7), (8, .int p8), (9, .int p9), (10, .int p10), (11, va_rf p11)] [] S Q := by
  unfold w_X2_call_241 at h
  refine zu_aload d_1045_241 rfl (zs_rr _) ?_
  obtain ⟨b1, e2, h⟩ := h
  refine zs_stk0 (zs_rfe e2) ?_
  obtain ⟨k3, h⟩ := h
  refine zg_1_522 rfl d_1045_243 k3 ?_
  obtain ⟨b4, e5, h⟩ := h
  refine zs_stk0 (zs_rfe e5) ?_
  obtain ⟨k6, h⟩ := h
  refine zg_1_374 rfl d_1045_246 k6 ?_
  refine zu_bipush d_1045_249 zj_6 ?_
  refine zu_cmpne (t := 258) d_1045_251 rfl (fun c7 => ?_) (fun c7 => ?_)
  · have h := h.1 c7
    exact (u_X2_call_258 hB h).weak ⟨rfl, rfl, rfl, rfl, rfl, rfl, rfl, rfl, rfl, rfl, trivial⟩
  · have h := h.2 c7
    refine zu_iconst d_1045_254 zi_1 ?_
    refine zu_goto (t := 259) d_1045_255 rfl ?_
    exact (u_X2_call_259 hB h).weak ⟨rfl, rfl, rfl, rfl, rfl, rfl, rfl, rfl, rfl, rfl, trivial⟩
def w_X2_call_200 (X : zs_X) (d : Nat) (p0 : Nat) (p1 : Option Nat) (p3 : Int32) (p5 : Int32) (p6 : Int32) (p7 : Int32) (p8 : Int32) (p9 : Int32) (p10 : Int32) (S : zs_T) (Q : zs_Q) : Prop :=
  (∃ b1, p1 = some b1 ∧ zs_K S b1 = some (.inl 10) ∧ ∃ b4, (zs_R S 10004 b1) = some b4 ∧ zs_K S b4 = some (.inl 16) ∧ zs_C X d 16001 [.ref b4] S (zs_kI (fun v8 S7 => (((v8 ≤ p10 → w_X2_call_328 X d p0 p1 p5 p6 p9 S7 Q) ∧ (¬ (v8 ≤ p10) → (zs_K S7 p0 = some (.inl 1) ∧ ((¬ (zs_I S7 1039 p0) = 0 → w_X2_call_328 X d p0 p1 p5 p6 p9 S7 Q) ∧ (¬ (¬ (zs_I S7 1039 p0) = 0) → (zs_K S7 b1 = some (.inl 10) ∧ ∃ b13, (zs_R S7 10004 b1) = some b13 ∧ zs_K S7 b13 = some (.inl 16) ∧ zs_C X d 16009 [.ref b13, .int p10] S7 (zs_kR (fun v17 S16 => ((∀ a, v17 = some a → zs_K S16 a = some (.inl 7)) ∧ ∃ b19, v17 = some b19 ∧ zs_K S16 b19 = some (.inl 7) ∧ ((¬ (zs_I S16 7010 b19) = 0 → w_X2_call_258 X d p0 p1 p3 p5 p6 p7 p8 p9 p10 v17 S16 Q) ∧ (¬ (¬ (zs_I S16 7010 b19) = 0) → w_X2_call_241 X d p0 p1 p3 p5 p6 p7 p8 p9 p10 v17 S16 Q)))) Q))))))))) Q))
theorem u_X2_call_200 {σ : Nat → Nat} {n0 : Nat} {bf : ab_B} {d : Nat} {p0 : Nat} {p1 : Option Nat} {p3 : Int32} {p5 : Int32} {p6 : Int32} {p7 : Int32} {p8 : Int32} {p9 : Int32} {p10 : Int32} {S : zs_T} {Q : zs_Q} (hB : zt_B bf) (h : w_X2_call_200 (zx σ n0 bf) d p0 p1 p3 p5 p6 p7 p8 p9 p10 S Q) : zs_U (zx σ n0 bf) d 1045 200 [(0, .ref p0), (1, va_rf p1), (3, .int p3), (5, .int p5), (6, .int p6), (7, .int p7), (8, .int p8), (9, .int p9), (10, .int p10)] [] S Q := by
  unfold w_X2_call_200 at h
  refine zu_iload d_1045_200 rfl ?_
  refine zu_aload_n d_1045_202 rfl (zs_rr _) ?_
  obtain ⟨b1, e2, h⟩ := h
  refine zs_stk0 (zs_rfe e2) ?_
  obtain ⟨k3, h⟩ := h
  refine zg_1_514 rfl d_1045_203 k3 ?_
  obtain ⟨b4, e5, h⟩ := h
  refine zs_stk0 (zs_rfe e5) ?_
  obtain ⟨k6, h⟩ := h
  refine zc_1_336  hB rfl k6 d_1045_206 (Nat.le_of_ble_eq_true rfl) h (fun v8 S7 h => ?_)
  refine zu_cmpge (t := 328) d_1045_209 rfl (fun c9 => ?_) (fun c9 => ?_)
  · have h := h.1 c9
    exact (u_X2_call_328 hB h).weak ⟨rfl, rfl, rfl, rfl, rfl, trivial⟩
  · have h := h.2 c9
    refine zu_aload_n d_1045_212 rfl (zs_ra _) ?_
    obtain ⟨k10, h⟩ := h
    refine zg_1_151 rfl d_1045_213 k10 ?_
    refine zu_ifne (t := 328) d_1045_216 rfl (fun c11 => ?_) (fun c11 => ?_)
    · have h := h.1 c11
      exact (u_X2_call_328 hB h).weak ⟨rfl, rfl, rfl, rfl, rfl, trivial⟩
    · have h := h.2 c11
      refine zu_aload_n d_1045_219 rfl (zs_rr _) ?_
      refine zs_stk0 (zs_rfe e2) ?_
      obtain ⟨k12, h⟩ := h
      refine zg_1_514 rfl d_1045_220 k12 ?_
      refine zu_iload d_1045_223 rfl ?_
      obtain ⟨b13, e14, h⟩ := h
      refine zs_stk1 (zs_rfe e14) ?_
      obtain ⟨k15, h⟩ := h
      refine zc_1_162 (x0 := p10) hB rfl k15 d_1045_225 (Nat.le_of_ble_eq_true rfl) h (fun v17 S16 h => ?_)
      obtain ⟨k18, h⟩ := h
      refine zk_1_517 (o := v17) rfl d_1045_228 k18 ?_
      refine zu_astore d_1045_231 (zs_rr _) (zs_lt zq_1045 rfl) ?_
      refine zu_aload d_1045_233 rfl (zs_rr _) ?_
      obtain ⟨b19, e20, h⟩ := h
      refine zs_stk0 (zs_rfe e20) ?_
      obtain ⟨k21, h⟩ := h
      refine zg_1_519 rfl d_1045_235 k21 ?_
      refine zu_ifne (t := 258) d_1045_238 rfl (fun c22 => ?_) (fun c22 => ?_)
      · have h := h.1 c22
        exact (u_X2_call_258 hB h).weak ⟨rfl, rfl, rfl, rfl, rfl, rfl, rfl, rfl, rfl, rfl, trivial⟩
      · have h := h.2 c22
        exact (u_X2_call_241 hB h).weak ⟨rfl, rfl, rfl, rfl, rfl, rfl, rfl, rfl, rfl, rfl, trivial⟩
def w_X2_call (X : zs_X) (d : Nat) (p0 : Nat) (p1 : Option Nat) (p2 : Int32) (p3 : Int32) (S : zs_T) (Q : zs_Q) : Prop :=
  (zs_K S p0 = some (.inl 1) ∧ ∃ b2, p1 = some b2 ∧ zs_K S b2 = some (.inl 10) ∧ zs_U X d 1045 14 [(0, .ref p0), (1, va_rf p1), (2, .int p2), (3, .int p3), (4, .int (zs_I S 1025 p0)), (5, .int ((zs_I S 10003 b2) - (1 : Int32)))] [] S Q)
theorem u_X2_call {σ : Nat → Nat} {n0 : Nat} {bf : ab_B} {d : Nat} {p0 : Nat} {p1 : Option Nat} {p2 : Int32} {p3 : Int32} {S : zs_T} {Q : zs_Q} (hB : zt_B bf) (hd : 1 ≤ d) (h : w_X2_call (zx σ n0 bf) (d - 1) p0 p1 p2 p3 S Q) : zs_C (zx σ n0 bf) d 1045 [.ref p0, va_rf p1, .int p2, .int p3] S Q := by
  have hL : lv_args 0 [.ref p0, va_rf p1, .int p2, .int p3] = [(0, .ref p0), (1, va_rf p1), (2, .int p2), (3, .int p3)] := by simp [lv_args, zs_cat, zs_cI, zs_cJ, zs_cA]
  refine zs_C.of1 (hB.2 1045 (by decide) (by decide)) hd (by rw [hL]; exact zs_sub_self _ (by exact ⟨rfl, rfl, rfl, rfl, trivial⟩)) ?_
  rw [hL]
  clear hL
  unfold w_X2_call at h
  refine zu_aload_n d_1045_0 rfl (zs_ra _) ?_
  obtain ⟨k1, h⟩ := h
  refine zg_1_129 rfl d_1045_1 k1 ?_
  refine zu_istore d_1045_4 (zs_lt zq_1045 rfl) ?_
  refine zu_aload_n d_1045_6 rfl (zs_rr _) ?_
  obtain ⟨b2, e3, h⟩ := h
  refine zs_stk0 (zs_rfe e3) ?_
  obtain ⟨k4, h⟩ := h
  refine zg_1_511 rfl d_1045_7 k4 ?_
  refine zu_iconst d_1045_10 zi_1 ?_
  refine zu_stk d_1045_11 rfl rfl ?_
  refine zu_istore d_1045_12 (zs_lt zq_1045 rfl) ?_
  exact h.weak ⟨rfl, rfl, rfl, rfl, rfl, rfl, trivial⟩
/-! SchemaPascal$Machine.param(LSchemaPascal$Symbol;III)V -/
theorem zm_1046 {σ : Nat → Nat} {n0 : Nat} {bf : ab_B} : ab_code (zx σ n0 bf).1 1046 = prog_5_method_49_code := rfl
theorem zq_1046 {σ : Nat → Nat} {n0 : Nat} {bf : ab_B} : ab_maxL (zx σ n0 bf).1 1046 = 12 := rfl
theorem zr_1046 {σ : Nat → Nat} {n0 : Nat} {bf : ab_B} : ab_ret (zx σ n0 bf).1 1046 = (Option.none : Option Jvm.ClassFile.FieldType) := rfl
theorem d_1046_0 {σ : Nat → Nat} {n0 : Nat} {bf : ab_B} : decode (ab_code (zx σ n0 bf).1 1046) 0 = .ok (.aload_n 1, 1) := zd zm_1046 (by decide +kernel)
theorem d_1046_1 {σ : Nat → Nat} {n0 : Nat} {bf : ab_B} : decode (ab_code (zx σ n0 bf).1 1046) 1 = .ok (.getfield 522, 3) := zd zm_1046 (by decide +kernel)
theorem d_1046_4 {σ : Nat → Nat} {n0 : Nat} {bf : ab_B} : decode (ab_code (zx σ n0 bf).1 1046) 4 = .ok (.astore 5, 2) := zd zm_1046 (by decide +kernel)
theorem d_1046_6 {σ : Nat → Nat} {n0 : Nat} {bf : ab_B} : decode (ab_code (zx σ n0 bf).1 1046) 6 = .ok (.aload_n 0, 1) := zd zm_1046 (by decide +kernel)
theorem d_1046_7 {σ : Nat → Nat} {n0 : Nat} {bf : ab_B} : decode (ab_code (zx σ n0 bf).1 1046) 7 = .ok (.getfield 39, 3) := zd zm_1046 (by decide +kernel)
theorem d_1046_10 {σ : Nat → Nat} {n0 : Nat} {bf : ab_B} : decode (ab_code (zx σ n0 bf).1 1046) 10 = .ok (.iload_n 3, 1) := zd zm_1046 (by decide +kernel)
theorem d_1046_11 {σ : Nat → Nat} {n0 : Nat} {bf : ab_B} : decode (ab_code (zx σ n0 bf).1 1046) 11 = .ok (.iaload, 1) := zd zm_1046 (by decide +kernel)
theorem d_1046_12 {σ : Nat → Nat} {n0 : Nat} {bf : ab_B} : decode (ab_code (zx σ n0 bf).1 1046) 12 = .ok (.istore 6, 2) := zd zm_1046 (by decide +kernel)
theorem d_1046_14 {σ : Nat → Nat} {n0 : Nat} {bf : ab_B} : decode (ab_code (zx σ n0 bf).1 1046) 14 = .ok (.aload_n 1, 1) := zd zm_1046 (by decide +kernel)
theorem d_1046_15 {σ : Nat → Nat} {n0 : Nat} {bf : ab_B} : decode (ab_code (zx σ n0 bf).1 1046) 15 = .ok (.getfield 519, 3) := zd zm_1046 (by decide +kernel)
theorem d_1046_18 {σ : Nat → Nat} {n0 : Nat} {bf : ab_B} : decode (ab_code (zx σ n0 bf).1 1046) 18 = .ok (.ifCond .eq 49, 3) := zd zm_1046 (by decide +kernel)
theorem d_1046_21 {σ : Nat → Nat} {n0 : Nat} {bf : ab_B} : decode (ab_code (zx σ n0 bf).1 1046) 21 = .ok (.aload 5, 2) := zd zm_1046 (by decide +kernel)
theorem d_1046_23 {σ : Nat → Nat} {n0 : Nat} {bf : ab_B} : decode (ab_code (zx σ n0 bf).1 1046) 23 = .ok (.getfield 374, 3) := zd zm_1046 (by decide +kernel)
theorem d_1046_26 {σ : Nat → Nat} {n0 : Nat} {bf : ab_B} : decode (ab_code (zx σ n0 bf).1 1046) 26 = .ok (.bipush 11, 2) := zd zm_1046 (by decide +kernel)
theorem d_1046_28 {σ : Nat → Nat} {n0 : Nat} {bf : ab_B} : decode (ab_code (zx σ n0 bf).1 1046) 28 = .ok (.if_icmp .ne 24, 3) := zd zm_1046 (by decide +kernel)
theorem d_1046_31 {σ : Nat → Nat} {n0 : Nat} {bf : ab_B} : decode (ab_code (zx σ n0 bf).1 1046) 31 = .ok (.aload_n 0, 1) := zd zm_1046 (by decide +kernel)
theorem d_1046_32 {σ : Nat → Nat} {n0 : Nat} {bf : ab_B} : decode (ab_code (zx σ n0 bf).1 1046) 32 = .ok (.aload 5, 2) := zd zm_1046 (by decide +kernel)
theorem d_1046_34 {σ : Nat → Nat} {n0 : Nat} {bf : ab_B} : decode (ab_code (zx σ n0 bf).1 1046) 34 = .ok (.iload 6, 2) := zd zm_1046 (by decide +kernel)
theorem d_1046_36 {σ : Nat → Nat} {n0 : Nat} {bf : ab_B} : decode (ab_code (zx σ n0 bf).1 1046) 36 = .ok (.invokevirtual 527, 3) := zd zm_1046 (by decide +kernel)
theorem d_1046_39 {σ : Nat → Nat} {n0 : Nat} {bf : ab_B} : decode (ab_code (zx σ n0 bf).1 1046) 39 = .ok (.ifCond .ne 13, 3) := zd zm_1046 (by decide +kernel)
theorem d_1046_42 {σ : Nat → Nat} {n0 : Nat} {bf : ab_B} : decode (ab_code (zx σ n0 bf).1 1046) 42 = .ok (.aload_n 0, 1) := zd zm_1046 (by decide +kernel)
theorem d_1046_43 {σ : Nat → Nat} {n0 : Nat} {bf : ab_B} : decode (ab_code (zx σ n0 bf).1 1046) 43 = .ok (.bipush 9, 2) := zd zm_1046 (by decide +kernel)
theorem d_1046_45 {σ : Nat → Nat} {n0 : Nat} {bf : ab_B} : decode (ab_code (zx σ n0 bf).1 1046) 45 = .ok (.iload 4, 2) := zd zm_1046 (by decide +kernel)
theorem d_1046_47 {σ : Nat → Nat} {n0 : Nat} {bf : ab_B} : decode (ab_code (zx σ n0 bf).1 1046) 47 = .ok (.invokevirtual 194, 3) := zd zm_1046 (by decide +kernel)
theorem d_1046_50 {σ : Nat → Nat} {n0 : Nat} {bf : ab_B} : decode (ab_code (zx σ n0 bf).1 1046) 50 = .ok (.pop, 1) := zd zm_1046 (by decide +kernel)
theorem d_1046_51 {σ : Nat → Nat} {n0 : Nat} {bf : ab_B} : decode (ab_code (zx σ n0 bf).1 1046) 51 = .ok (.return_, 1) := zd zm_1046 (by decide +kernel)
theorem d_1046_52 {σ : Nat → Nat} {n0 : Nat} {bf : ab_B} : decode (ab_code (zx σ n0 bf).1 1046) 52 = .ok (.aload_n 0, 1) := zd zm_1046 (by decide +kernel)
theorem d_1046_53 {σ : Nat → Nat} {n0 : Nat} {bf : ab_B} : decode (ab_code (zx σ n0 bf).1 1046) 53 = .ok (.iload_n 2, 1) := zd zm_1046 (by decide +kernel)
theorem d_1046_54 {σ : Nat → Nat} {n0 : Nat} {bf : ab_B} : decode (ab_code (zx σ n0 bf).1 1046) 54 = .ok (.aload_n 0, 1) := zd zm_1046 (by decide +kernel)
theorem d_1046_55 {σ : Nat → Nat} {n0 : Nat} {bf : ab_B} : decode (ab_code (zx σ n0 bf).1 1046) 55 = .ok (.getfield 36, 3) := zd zm_1046 (by decide +kernel)
theorem d_1046_58 {σ : Nat → Nat} {n0 : Nat} {bf : ab_B} : decode (ab_code (zx σ n0 bf).1 1046) 58 = .ok (.iload_n 3, 1) := zd zm_1046 (by decide +kernel)
theorem d_1046_59 {σ : Nat → Nat} {n0 : Nat} {bf : ab_B} : decode (ab_code (zx σ n0 bf).1 1046) 59 = .ok (.laload, 1) := zd zm_1046 (by decide +kernel)
theorem d_1046_60 {σ : Nat → Nat} {n0 : Nat} {bf : ab_B} : decode (ab_code (zx σ n0 bf).1 1046) 60 = .ok (.l2i, 1) := zd zm_1046 (by decide +kernel)
theorem d_1046_61 {σ : Nat → Nat} {n0 : Nat} {bf : ab_B} : decode (ab_code (zx σ n0 bf).1 1046) 61 = .ok (.iload 6, 2) := zd zm_1046 (by decide +kernel)
theorem d_1046_63 {σ : Nat → Nat} {n0 : Nat} {bf : ab_B} : decode (ab_code (zx σ n0 bf).1 1046) 63 = .ok (.invokevirtual 292, 3) := zd zm_1046 (by decide +kernel)
theorem d_1046_66 {σ : Nat → Nat} {n0 : Nat} {bf : ab_B} : decode (ab_code (zx σ n0 bf).1 1046) 66 = .ok (.return_, 1) := zd zm_1046 (by decide +kernel)
theorem d_1046_67 {σ : Nat → Nat} {n0 : Nat} {bf : ab_B} : decode (ab_code (zx σ n0 bf).1 1046) 67 = .ok (.aload 5, 2) := zd zm_1046 (by decide +kernel)
theorem d_1046_69 {σ : Nat → Nat} {n0 : Nat} {bf : ab_B} : decode (ab_code (zx σ n0 bf).1 1046) 69 = .ok (.invokestatic 531, 3) := zd zm_1046 (by decide +kernel)
theorem d_1046_72 {σ : Nat → Nat} {n0 : Nat} {bf : ab_B} : decode (ab_code (zx σ n0 bf).1 1046) 72 = .ok (.istore 7, 2) := zd zm_1046 (by decide +kernel)
theorem d_1046_74 {σ : Nat → Nat} {n0 : Nat} {bf : ab_B} : decode (ab_code (zx σ n0 bf).1 1046) 74 = .ok (.iload 7, 2) := zd zm_1046 (by decide +kernel)
theorem d_1046_76 {σ : Nat → Nat} {n0 : Nat} {bf : ab_B} : decode (ab_code (zx σ n0 bf).1 1046) 76 = .ok (.ifCond .eq 7, 3) := zd zm_1046 (by decide +kernel)
theorem d_1046_79 {σ : Nat → Nat} {n0 : Nat} {bf : ab_B} : decode (ab_code (zx σ n0 bf).1 1046) 79 = .ok (.lconst 1, 1) := zd zm_1046 (by decide +kernel)
theorem d_1046_80 {σ : Nat → Nat} {n0 : Nat} {bf : ab_B} : decode (ab_code (zx σ n0 bf).1 1046) 80 = .ok (.goto 45, 3) := zd zm_1046 (by decide +kernel)
theorem d_1046_83 {σ : Nat → Nat} {n0 : Nat} {bf : ab_B} : decode (ab_code (zx σ n0 bf).1 1046) 83 = .ok (.aload 5, 2) := zd zm_1046 (by decide +kernel)
theorem d_1046_85 {σ : Nat → Nat} {n0 : Nat} {bf : ab_B} : decode (ab_code (zx σ n0 bf).1 1046) 85 = .ok (.getfield 374, 3) := zd zm_1046 (by decide +kernel)
theorem d_1046_88 {σ : Nat → Nat} {n0 : Nat} {bf : ab_B} : decode (ab_code (zx σ n0 bf).1 1046) 88 = .ok (.bipush 6, 2) := zd zm_1046 (by decide +kernel)
theorem d_1046_90 {σ : Nat → Nat} {n0 : Nat} {bf : ab_B} : decode (ab_code (zx σ n0 bf).1 1046) 90 = .ok (.if_icmp .eq 13, 3) := zd zm_1046 (by decide +kernel)
theorem d_1046_93 {σ : Nat → Nat} {n0 : Nat} {bf : ab_B} : decode (ab_code (zx σ n0 bf).1 1046) 93 = .ok (.aload 5, 2) := zd zm_1046 (by decide +kernel)
theorem d_1046_95 {σ : Nat → Nat} {n0 : Nat} {bf : ab_B} : decode (ab_code (zx σ n0 bf).1 1046) 95 = .ok (.getfield 374, 3) := zd zm_1046 (by decide +kernel)
theorem d_1046_98 {σ : Nat → Nat} {n0 : Nat} {bf : ab_B} : decode (ab_code (zx σ n0 bf).1 1046) 98 = .ok (.bipush 11, 2) := zd zm_1046 (by decide +kernel)
theorem d_1046_100 {σ : Nat → Nat} {n0 : Nat} {bf : ab_B} : decode (ab_code (zx σ n0 bf).1 1046) 100 = .ok (.if_icmp .ne 16, 3) := zd zm_1046 (by decide +kernel)
theorem d_1046_103 {σ : Nat → Nat} {n0 : Nat} {bf : ab_B} : decode (ab_code (zx σ n0 bf).1 1046) 103 = .ok (.aload_n 0, 1) := zd zm_1046 (by decide +kernel)
theorem d_1046_104 {σ : Nat → Nat} {n0 : Nat} {bf : ab_B} : decode (ab_code (zx σ n0 bf).1 1046) 104 = .ok (.getfield 31, 3) := zd zm_1046 (by decide +kernel)
theorem d_1046_107 {σ : Nat → Nat} {n0 : Nat} {bf : ab_B} : decode (ab_code (zx σ n0 bf).1 1046) 107 = .ok (.aload 5, 2) := zd zm_1046 (by decide +kernel)
theorem d_1046_109 {σ : Nat → Nat} {n0 : Nat} {bf : ab_B} : decode (ab_code (zx σ n0 bf).1 1046) 109 = .ok (.iconst (-1), 1) := zd zm_1046 (by decide +kernel)
theorem d_1046_110 {σ : Nat → Nat} {n0 : Nat} {bf : ab_B} : decode (ab_code (zx σ n0 bf).1 1046) 110 = .ok (.invokevirtual 313, 3) := zd zm_1046 (by decide +kernel)
theorem d_1046_113 {σ : Nat → Nat} {n0 : Nat} {bf : ab_B} : decode (ab_code (zx σ n0 bf).1 1046) 113 = .ok (.goto 12, 3) := zd zm_1046 (by decide +kernel)
theorem d_1046_116 {σ : Nat → Nat} {n0 : Nat} {bf : ab_B} : decode (ab_code (zx σ n0 bf).1 1046) 116 = .ok (.aload_n 0, 1) := zd zm_1046 (by decide +kernel)
theorem d_1046_117 {σ : Nat → Nat} {n0 : Nat} {bf : ab_B} : decode (ab_code (zx σ n0 bf).1 1046) 117 = .ok (.aload 5, 2) := zd zm_1046 (by decide +kernel)
theorem d_1046_119 {σ : Nat → Nat} {n0 : Nat} {bf : ab_B} : decode (ab_code (zx σ n0 bf).1 1046) 119 = .ok (.iload 6, 2) := zd zm_1046 (by decide +kernel)
theorem d_1046_121 {σ : Nat → Nat} {n0 : Nat} {bf : ab_B} : decode (ab_code (zx σ n0 bf).1 1046) 121 = .ok (.invokevirtual 408, 3) := zd zm_1046 (by decide +kernel)
theorem d_1046_124 {σ : Nat → Nat} {n0 : Nat} {bf : ab_B} : decode (ab_code (zx σ n0 bf).1 1046) 124 = .ok (.i2l, 1) := zd zm_1046 (by decide +kernel)
theorem d_1046_125 {σ : Nat → Nat} {n0 : Nat} {bf : ab_B} : decode (ab_code (zx σ n0 bf).1 1046) 125 = .ok (.lstore 8, 2) := zd zm_1046 (by decide +kernel)
theorem d_1046_127 {σ : Nat → Nat} {n0 : Nat} {bf : ab_B} : decode (ab_code (zx σ n0 bf).1 1046) 127 = .ok (.aload 5, 2) := zd zm_1046 (by decide +kernel)
theorem d_1046_129 {σ : Nat → Nat} {n0 : Nat} {bf : ab_B} : decode (ab_code (zx σ n0 bf).1 1046) 129 = .ok (.invokevirtual 354, 3) := zd zm_1046 (by decide +kernel)
theorem d_1046_132 {σ : Nat → Nat} {n0 : Nat} {bf : ab_B} : decode (ab_code (zx σ n0 bf).1 1046) 132 = .ok (.ifCond .eq 17, 3) := zd zm_1046 (by decide +kernel)
theorem d_1046_135 {σ : Nat → Nat} {n0 : Nat} {bf : ab_B} : decode (ab_code (zx σ n0 bf).1 1046) 135 = .ok (.aload 5, 2) := zd zm_1046 (by decide +kernel)
theorem d_1046_137 {σ : Nat → Nat} {n0 : Nat} {bf : ab_B} : decode (ab_code (zx σ n0 bf).1 1046) 137 = .ok (.invokevirtual 358, 3) := zd zm_1046 (by decide +kernel)
theorem d_1046_140 {σ : Nat → Nat} {n0 : Nat} {bf : ab_B} : decode (ab_code (zx σ n0 bf).1 1046) 140 = .ok (.getfield 362, 3) := zd zm_1046 (by decide +kernel)
theorem d_1046_143 {σ : Nat → Nat} {n0 : Nat} {bf : ab_B} : decode (ab_code (zx σ n0 bf).1 1046) 143 = .ok (.invokevirtual 336, 3) := zd zm_1046 (by decide +kernel)
theorem d_1046_146 {σ : Nat → Nat} {n0 : Nat} {bf : ab_B} : decode (ab_code (zx σ n0 bf).1 1046) 146 = .ok (.goto 4, 3) := zd zm_1046 (by decide +kernel)
theorem d_1046_149 {σ : Nat → Nat} {n0 : Nat} {bf : ab_B} : decode (ab_code (zx σ n0 bf).1 1046) 149 = .ok (.iconst 0, 1) := zd zm_1046 (by decide +kernel)
theorem d_1046_150 {σ : Nat → Nat} {n0 : Nat} {bf : ab_B} : decode (ab_code (zx σ n0 bf).1 1046) 150 = .ok (.istore 10, 2) := zd zm_1046 (by decide +kernel)
theorem d_1046_152 {σ : Nat → Nat} {n0 : Nat} {bf : ab_B} : decode (ab_code (zx σ n0 bf).1 1046) 152 = .ok (.aload_n 0, 1) := zd zm_1046 (by decide +kernel)
theorem d_1046_153 {σ : Nat → Nat} {n0 : Nat} {bf : ab_B} : decode (ab_code (zx σ n0 bf).1 1046) 153 = .ok (.iload 10, 2) := zd zm_1046 (by decide +kernel)
theorem d_1046_155 {σ : Nat → Nat} {n0 : Nat} {bf : ab_B} : decode (ab_code (zx σ n0 bf).1 1046) 155 = .ok (.i2l, 1) := zd zm_1046 (by decide +kernel)
theorem d_1046_156 {σ : Nat → Nat} {n0 : Nat} {bf : ab_B} : decode (ab_code (zx σ n0 bf).1 1046) 156 = .ok (.lload 8, 2) := zd zm_1046 (by decide +kernel)
theorem d_1046_158 {σ : Nat → Nat} {n0 : Nat} {bf : ab_B} : decode (ab_code (zx σ n0 bf).1 1046) 158 = .ok (.ladd, 1) := zd zm_1046 (by decide +kernel)
theorem d_1046_159 {σ : Nat → Nat} {n0 : Nat} {bf : ab_B} : decode (ab_code (zx σ n0 bf).1 1046) 159 = .ok (.aload_n 0, 1) := zd zm_1046 (by decide +kernel)
theorem d_1046_160 {σ : Nat → Nat} {n0 : Nat} {bf : ab_B} : decode (ab_code (zx σ n0 bf).1 1046) 160 = .ok (.getfield 57, 3) := zd zm_1046 (by decide +kernel)
theorem d_1046_163 {σ : Nat → Nat} {n0 : Nat} {bf : ab_B} : decode (ab_code (zx σ n0 bf).1 1046) 163 = .ok (.aload_n 0, 1) := zd zm_1046 (by decide +kernel)
theorem d_1046_164 {σ : Nat → Nat} {n0 : Nat} {bf : ab_B} : decode (ab_code (zx σ n0 bf).1 1046) 164 = .ok (.getfield 129, 3) := zd zm_1046 (by decide +kernel)
theorem d_1046_167 {σ : Nat → Nat} {n0 : Nat} {bf : ab_B} : decode (ab_code (zx σ n0 bf).1 1046) 167 = .ok (.aaload, 1) := zd zm_1046 (by decide +kernel)
theorem d_1046_168 {σ : Nat → Nat} {n0 : Nat} {bf : ab_B} : decode (ab_code (zx σ n0 bf).1 1046) 168 = .ok (.getfield 181, 3) := zd zm_1046 (by decide +kernel)
theorem d_1046_171 {σ : Nat → Nat} {n0 : Nat} {bf : ab_B} : decode (ab_code (zx σ n0 bf).1 1046) 171 = .ok (.invokevirtual 184, 3) := zd zm_1046 (by decide +kernel)
theorem d_1046_174 {σ : Nat → Nat} {n0 : Nat} {bf : ab_B} : decode (ab_code (zx σ n0 bf).1 1046) 174 = .ok (.ifCond .ne 4, 3) := zd zm_1046 (by decide +kernel)
theorem d_1046_177 {σ : Nat → Nat} {n0 : Nat} {bf : ab_B} : decode (ab_code (zx σ n0 bf).1 1046) 177 = .ok (.return_, 1) := zd zm_1046 (by decide +kernel)
theorem d_1046_178 {σ : Nat → Nat} {n0 : Nat} {bf : ab_B} : decode (ab_code (zx σ n0 bf).1 1046) 178 = .ok (.aload_n 0, 1) := zd zm_1046 (by decide +kernel)
theorem d_1046_179 {σ : Nat → Nat} {n0 : Nat} {bf : ab_B} : decode (ab_code (zx σ n0 bf).1 1046) 179 = .ok (.getfield 49, 3) := zd zm_1046 (by decide +kernel)
theorem d_1046_182 {σ : Nat → Nat} {n0 : Nat} {bf : ab_B} : decode (ab_code (zx σ n0 bf).1 1046) 182 = .ok (.iload_n 2, 1) := zd zm_1046 (by decide +kernel)
theorem d_1046_183 {σ : Nat → Nat} {n0 : Nat} {bf : ab_B} : decode (ab_code (zx σ n0 bf).1 1046) 183 = .ok (.aload_n 0, 1) := zd zm_1046 (by decide +kernel)
theorem d_1046_184 {σ : Nat → Nat} {n0 : Nat} {bf : ab_B} : decode (ab_code (zx σ n0 bf).1 1046) 184 = .ok (.getfield 123, 3) := zd zm_1046 (by decide +kernel)
theorem d_1046_187 {σ : Nat → Nat} {n0 : Nat} {bf : ab_B} : decode (ab_code (zx σ n0 bf).1 1046) 187 = .ok (.iload 10, 2) := zd zm_1046 (by decide +kernel)
theorem d_1046_189 {σ : Nat → Nat} {n0 : Nat} {bf : ab_B} : decode (ab_code (zx σ n0 bf).1 1046) 189 = .ok (.iadd, 1) := zd zm_1046 (by decide +kernel)
theorem d_1046_190 {σ : Nat → Nat} {n0 : Nat} {bf : ab_B} : decode (ab_code (zx σ n0 bf).1 1046) 190 = .ok (.iastore, 1) := zd zm_1046 (by decide +kernel)
theorem d_1046_191 {σ : Nat → Nat} {n0 : Nat} {bf : ab_B} : decode (ab_code (zx σ n0 bf).1 1046) 191 = .ok (.aload_n 0, 1) := zd zm_1046 (by decide +kernel)
theorem d_1046_192 {σ : Nat → Nat} {n0 : Nat} {bf : ab_B} : decode (ab_code (zx σ n0 bf).1 1046) 192 = .ok (.getfield 52, 3) := zd zm_1046 (by decide +kernel)
theorem d_1046_195 {σ : Nat → Nat} {n0 : Nat} {bf : ab_B} : decode (ab_code (zx σ n0 bf).1 1046) 195 = .ok (.iload_n 2, 1) := zd zm_1046 (by decide +kernel)
theorem d_1046_196 {σ : Nat → Nat} {n0 : Nat} {bf : ab_B} : decode (ab_code (zx σ n0 bf).1 1046) 196 = .ok (.iload 10, 2) := zd zm_1046 (by decide +kernel)
theorem d_1046_198 {σ : Nat → Nat} {n0 : Nat} {bf : ab_B} : decode (ab_code (zx σ n0 bf).1 1046) 198 = .ok (.ifCond .le 10, 3) := zd zm_1046 (by decide +kernel)
theorem d_1046_201 {σ : Nat → Nat} {n0 : Nat} {bf : ab_B} : decode (ab_code (zx σ n0 bf).1 1046) 201 = .ok (.aload_n 0, 1) := zd zm_1046 (by decide +kernel)
theorem d_1046_202 {σ : Nat → Nat} {n0 : Nat} {bf : ab_B} : decode (ab_code (zx σ n0 bf).1 1046) 202 = .ok (.getfield 123, 3) := zd zm_1046 (by decide +kernel)
theorem d_1046_205 {σ : Nat → Nat} {n0 : Nat} {bf : ab_B} : decode (ab_code (zx σ n0 bf).1 1046) 205 = .ok (.goto 4, 3) := zd zm_1046 (by decide +kernel)
theorem d_1046_208 {σ : Nat → Nat} {n0 : Nat} {bf : ab_B} : decode (ab_code (zx σ n0 bf).1 1046) 208 = .ok (.iconst (-1), 1) := zd zm_1046 (by decide +kernel)
theorem d_1046_209 {σ : Nat → Nat} {n0 : Nat} {bf : ab_B} : decode (ab_code (zx σ n0 bf).1 1046) 209 = .ok (.iastore, 1) := zd zm_1046 (by decide +kernel)
theorem d_1046_210 {σ : Nat → Nat} {n0 : Nat} {bf : ab_B} : decode (ab_code (zx σ n0 bf).1 1046) 210 = .ok (.aload_n 0, 1) := zd zm_1046 (by decide +kernel)
theorem d_1046_211 {σ : Nat → Nat} {n0 : Nat} {bf : ab_B} : decode (ab_code (zx σ n0 bf).1 1046) 211 = .ok (.dup, 1) := zd zm_1046 (by decide +kernel)
theorem d_1046_212 {σ : Nat → Nat} {n0 : Nat} {bf : ab_B} : decode (ab_code (zx σ n0 bf).1 1046) 212 = .ok (.getfield 123, 3) := zd zm_1046 (by decide +kernel)
theorem d_1046_215 {σ : Nat → Nat} {n0 : Nat} {bf : ab_B} : decode (ab_code (zx σ n0 bf).1 1046) 215 = .ok (.iload 10, 2) := zd zm_1046 (by decide +kernel)
theorem d_1046_217 {σ : Nat → Nat} {n0 : Nat} {bf : ab_B} : decode (ab_code (zx σ n0 bf).1 1046) 217 = .ok (.lload 8, 2) := zd zm_1046 (by decide +kernel)
theorem d_1046_219 {σ : Nat → Nat} {n0 : Nat} {bf : ab_B} : decode (ab_code (zx σ n0 bf).1 1046) 219 = .ok (.l2i, 1) := zd zm_1046 (by decide +kernel)
theorem d_1046_220 {σ : Nat → Nat} {n0 : Nat} {bf : ab_B} : decode (ab_code (zx σ n0 bf).1 1046) 220 = .ok (.iadd, 1) := zd zm_1046 (by decide +kernel)
theorem d_1046_221 {σ : Nat → Nat} {n0 : Nat} {bf : ab_B} : decode (ab_code (zx σ n0 bf).1 1046) 221 = .ok (.iadd, 1) := zd zm_1046 (by decide +kernel)
theorem d_1046_222 {σ : Nat → Nat} {n0 : Nat} {bf : ab_B} : decode (ab_code (zx σ n0 bf).1 1046) 222 = .ok (.putfield 123, 3) := zd zm_1046 (by decide +kernel)
theorem d_1046_225 {σ : Nat → Nat} {n0 : Nat} {bf : ab_B} : decode (ab_code (zx σ n0 bf).1 1046) 225 = .ok (.iconst 0, 1) := zd zm_1046 (by decide +kernel)
theorem d_1046_226 {σ : Nat → Nat} {n0 : Nat} {bf : ab_B} : decode (ab_code (zx σ n0 bf).1 1046) 226 = .ok (.istore 11, 2) := zd zm_1046 (by decide +kernel)
theorem d_1046_228 {σ : Nat → Nat} {n0 : Nat} {bf : ab_B} : decode (ab_code (zx σ n0 bf).1 1046) 228 = .ok (.iload 11, 2) := zd zm_1046 (by decide +kernel)
theorem d_1046_230 {σ : Nat → Nat} {n0 : Nat} {bf : ab_B} : decode (ab_code (zx σ n0 bf).1 1046) 230 = .ok (.i2l, 1) := zd zm_1046 (by decide +kernel)
theorem d_1046_231 {σ : Nat → Nat} {n0 : Nat} {bf : ab_B} : decode (ab_code (zx σ n0 bf).1 1046) 231 = .ok (.lload 8, 2) := zd zm_1046 (by decide +kernel)
theorem d_1046_233 {σ : Nat → Nat} {n0 : Nat} {bf : ab_B} : decode (ab_code (zx σ n0 bf).1 1046) 233 = .ok (.lcmp, 1) := zd zm_1046 (by decide +kernel)
theorem d_1046_234 {σ : Nat → Nat} {n0 : Nat} {bf : ab_B} : decode (ab_code (zx σ n0 bf).1 1046) 234 = .ok (.ifCond .ge 24, 3) := zd zm_1046 (by decide +kernel)
theorem d_1046_237 {σ : Nat → Nat} {n0 : Nat} {bf : ab_B} : decode (ab_code (zx σ n0 bf).1 1046) 237 = .ok (.aload_n 0, 1) := zd zm_1046 (by decide +kernel)
theorem d_1046_238 {σ : Nat → Nat} {n0 : Nat} {bf : ab_B} : decode (ab_code (zx σ n0 bf).1 1046) 238 = .ok (.getfield 17, 3) := zd zm_1046 (by decide +kernel)
theorem d_1046_241 {σ : Nat → Nat} {n0 : Nat} {bf : ab_B} : decode (ab_code (zx σ n0 bf).1 1046) 241 = .ok (.aload_n 0, 1) := zd zm_1046 (by decide +kernel)
theorem d_1046_242 {σ : Nat → Nat} {n0 : Nat} {bf : ab_B} : decode (ab_code (zx σ n0 bf).1 1046) 242 = .ok (.getfield 49, 3) := zd zm_1046 (by decide +kernel)
theorem d_1046_245 {σ : Nat → Nat} {n0 : Nat} {bf : ab_B} : decode (ab_code (zx σ n0 bf).1 1046) 245 = .ok (.iload_n 2, 1) := zd zm_1046 (by decide +kernel)
theorem d_1046_246 {σ : Nat → Nat} {n0 : Nat} {bf : ab_B} : decode (ab_code (zx σ n0 bf).1 1046) 246 = .ok (.iaload, 1) := zd zm_1046 (by decide +kernel)
theorem d_1046_247 {σ : Nat → Nat} {n0 : Nat} {bf : ab_B} : decode (ab_code (zx σ n0 bf).1 1046) 247 = .ok (.iload 11, 2) := zd zm_1046 (by decide +kernel)
theorem d_1046_249 {σ : Nat → Nat} {n0 : Nat} {bf : ab_B} : decode (ab_code (zx σ n0 bf).1 1046) 249 = .ok (.iadd, 1) := zd zm_1046 (by decide +kernel)
theorem d_1046_250 {σ : Nat → Nat} {n0 : Nat} {bf : ab_B} : decode (ab_code (zx σ n0 bf).1 1046) 250 = .ok (.iconst 0, 1) := zd zm_1046 (by decide +kernel)
theorem d_1046_251 {σ : Nat → Nat} {n0 : Nat} {bf : ab_B} : decode (ab_code (zx σ n0 bf).1 1046) 251 = .ok (.bastore, 1) := zd zm_1046 (by decide +kernel)
theorem d_1046_252 {σ : Nat → Nat} {n0 : Nat} {bf : ab_B} : decode (ab_code (zx σ n0 bf).1 1046) 252 = .ok (.iinc 11 1, 3) := zd zm_1046 (by decide +kernel)
theorem d_1046_255 {σ : Nat → Nat} {n0 : Nat} {bf : ab_B} : decode (ab_code (zx σ n0 bf).1 1046) 255 = .ok (.goto (-27), 3) := zd zm_1046 (by decide +kernel)
theorem d_1046_258 {σ : Nat → Nat} {n0 : Nat} {bf : ab_B} : decode (ab_code (zx σ n0 bf).1 1046) 258 = .ok (.iload 7, 2) := zd zm_1046 (by decide +kernel)
theorem d_1046_260 {σ : Nat → Nat} {n0 : Nat} {bf : ab_B} : decode (ab_code (zx σ n0 bf).1 1046) 260 = .ok (.ifCond .eq 28, 3) := zd zm_1046 (by decide +kernel)
theorem d_1046_263 {σ : Nat → Nat} {n0 : Nat} {bf : ab_B} : decode (ab_code (zx σ n0 bf).1 1046) 263 = .ok (.aload_n 0, 1) := zd zm_1046 (by decide +kernel)
theorem d_1046_264 {σ : Nat → Nat} {n0 : Nat} {bf : ab_B} : decode (ab_code (zx σ n0 bf).1 1046) 264 = .ok (.aload_n 0, 1) := zd zm_1046 (by decide +kernel)
theorem d_1046_265 {σ : Nat → Nat} {n0 : Nat} {bf : ab_B} : decode (ab_code (zx σ n0 bf).1 1046) 265 = .ok (.getfield 49, 3) := zd zm_1046 (by decide +kernel)
theorem d_1046_268 {σ : Nat → Nat} {n0 : Nat} {bf : ab_B} : decode (ab_code (zx σ n0 bf).1 1046) 268 = .ok (.iload_n 2, 1) := zd zm_1046 (by decide +kernel)
theorem d_1046_269 {σ : Nat → Nat} {n0 : Nat} {bf : ab_B} : decode (ab_code (zx σ n0 bf).1 1046) 269 = .ok (.iaload, 1) := zd zm_1046 (by decide +kernel)
theorem d_1046_270 {σ : Nat → Nat} {n0 : Nat} {bf : ab_B} : decode (ab_code (zx σ n0 bf).1 1046) 270 = .ok (.iconst (-1), 1) := zd zm_1046 (by decide +kernel)
theorem d_1046_271 {σ : Nat → Nat} {n0 : Nat} {bf : ab_B} : decode (ab_code (zx σ n0 bf).1 1046) 271 = .ok (.aload 5, 2) := zd zm_1046 (by decide +kernel)
theorem d_1046_273 {σ : Nat → Nat} {n0 : Nat} {bf : ab_B} : decode (ab_code (zx σ n0 bf).1 1046) 273 = .ok (.aload_n 0, 1) := zd zm_1046 (by decide +kernel)
theorem d_1046_274 {σ : Nat → Nat} {n0 : Nat} {bf : ab_B} : decode (ab_code (zx σ n0 bf).1 1046) 274 = .ok (.getfield 36, 3) := zd zm_1046 (by decide +kernel)
theorem d_1046_277 {σ : Nat → Nat} {n0 : Nat} {bf : ab_B} : decode (ab_code (zx σ n0 bf).1 1046) 277 = .ok (.iload_n 3, 1) := zd zm_1046 (by decide +kernel)
theorem d_1046_278 {σ : Nat → Nat} {n0 : Nat} {bf : ab_B} : decode (ab_code (zx σ n0 bf).1 1046) 278 = .ok (.laload, 1) := zd zm_1046 (by decide +kernel)
theorem d_1046_279 {σ : Nat → Nat} {n0 : Nat} {bf : ab_B} : decode (ab_code (zx σ n0 bf).1 1046) 279 = .ok (.iload 4, 2) := zd zm_1046 (by decide +kernel)
theorem d_1046_281 {σ : Nat → Nat} {n0 : Nat} {bf : ab_B} : decode (ab_code (zx σ n0 bf).1 1046) 281 = .ok (.invokevirtual 273, 3) := zd zm_1046 (by decide +kernel)
theorem d_1046_284 {σ : Nat → Nat} {n0 : Nat} {bf : ab_B} : decode (ab_code (zx σ n0 bf).1 1046) 284 = .ok (.ifCond .ne 147, 3) := zd zm_1046 (by decide +kernel)
theorem d_1046_287 {σ : Nat → Nat} {n0 : Nat} {bf : ab_B} : decode (ab_code (zx σ n0 bf).1 1046) 287 = .ok (.return_, 1) := zd zm_1046 (by decide +kernel)
theorem d_1046_288 {σ : Nat → Nat} {n0 : Nat} {bf : ab_B} : decode (ab_code (zx σ n0 bf).1 1046) 288 = .ok (.aload 5, 2) := zd zm_1046 (by decide +kernel)
theorem d_1046_290 {σ : Nat → Nat} {n0 : Nat} {bf : ab_B} : decode (ab_code (zx σ n0 bf).1 1046) 290 = .ok (.getfield 374, 3) := zd zm_1046 (by decide +kernel)
theorem d_1046_293 {σ : Nat → Nat} {n0 : Nat} {bf : ab_B} : decode (ab_code (zx σ n0 bf).1 1046) 293 = .ok (.bipush 6, 2) := zd zm_1046 (by decide +kernel)
theorem d_1046_295 {σ : Nat → Nat} {n0 : Nat} {bf : ab_B} : decode (ab_code (zx σ n0 bf).1 1046) 295 = .ok (.if_icmp .ne 21, 3) := zd zm_1046 (by decide +kernel)
theorem d_1046_298 {σ : Nat → Nat} {n0 : Nat} {bf : ab_B} : decode (ab_code (zx σ n0 bf).1 1046) 298 = .ok (.aload_n 0, 1) := zd zm_1046 (by decide +kernel)
theorem d_1046_299 {σ : Nat → Nat} {n0 : Nat} {bf : ab_B} : decode (ab_code (zx σ n0 bf).1 1046) 299 = .ok (.aload 5, 2) := zd zm_1046 (by decide +kernel)
theorem d_1046_301 {σ : Nat → Nat} {n0 : Nat} {bf : ab_B} : decode (ab_code (zx σ n0 bf).1 1046) 301 = .ok (.aload_n 0, 1) := zd zm_1046 (by decide +kernel)
theorem d_1046_302 {σ : Nat → Nat} {n0 : Nat} {bf : ab_B} : decode (ab_code (zx σ n0 bf).1 1046) 302 = .ok (.getfield 49, 3) := zd zm_1046 (by decide +kernel)
theorem d_1046_305 {σ : Nat → Nat} {n0 : Nat} {bf : ab_B} : decode (ab_code (zx σ n0 bf).1 1046) 305 = .ok (.iload_n 2, 1) := zd zm_1046 (by decide +kernel)
theorem d_1046_306 {σ : Nat → Nat} {n0 : Nat} {bf : ab_B} : decode (ab_code (zx σ n0 bf).1 1046) 306 = .ok (.iaload, 1) := zd zm_1046 (by decide +kernel)
theorem d_1046_307 {σ : Nat → Nat} {n0 : Nat} {bf : ab_B} : decode (ab_code (zx σ n0 bf).1 1046) 307 = .ok (.iload_n 3, 1) := zd zm_1046 (by decide +kernel)
theorem d_1046_308 {σ : Nat → Nat} {n0 : Nat} {bf : ab_B} : decode (ab_code (zx σ n0 bf).1 1046) 308 = .ok (.iload 4, 2) := zd zm_1046 (by decide +kernel)
theorem d_1046_310 {σ : Nat → Nat} {n0 : Nat} {bf : ab_B} : decode (ab_code (zx σ n0 bf).1 1046) 310 = .ok (.invokevirtual 535, 3) := zd zm_1046 (by decide +kernel)
theorem d_1046_313 {σ : Nat → Nat} {n0 : Nat} {bf : ab_B} : decode (ab_code (zx σ n0 bf).1 1046) 313 = .ok (.goto 118, 3) := zd zm_1046 (by decide +kernel)
theorem d_1046_316 {σ : Nat → Nat} {n0 : Nat} {bf : ab_B} : decode (ab_code (zx σ n0 bf).1 1046) 316 = .ok (.iconst 0, 1) := zd zm_1046 (by decide +kernel)
theorem d_1046_317 {σ : Nat → Nat} {n0 : Nat} {bf : ab_B} : decode (ab_code (zx σ n0 bf).1 1046) 317 = .ok (.istore 11, 2) := zd zm_1046 (by decide +kernel)
theorem d_1046_319 {σ : Nat → Nat} {n0 : Nat} {bf : ab_B} : decode (ab_code (zx σ n0 bf).1 1046) 319 = .ok (.iload 11, 2) := zd zm_1046 (by decide +kernel)
theorem d_1046_321 {σ : Nat → Nat} {n0 : Nat} {bf : ab_B} : decode (ab_code (zx σ n0 bf).1 1046) 321 = .ok (.iload 10, 2) := zd zm_1046 (by decide +kernel)
theorem d_1046_323 {σ : Nat → Nat} {n0 : Nat} {bf : ab_B} : decode (ab_code (zx σ n0 bf).1 1046) 323 = .ok (.if_icmp .ge 33, 3) := zd zm_1046 (by decide +kernel)
theorem d_1046_326 {σ : Nat → Nat} {n0 : Nat} {bf : ab_B} : decode (ab_code (zx σ n0 bf).1 1046) 326 = .ok (.aload_n 0, 1) := zd zm_1046 (by decide +kernel)
theorem d_1046_327 {σ : Nat → Nat} {n0 : Nat} {bf : ab_B} : decode (ab_code (zx σ n0 bf).1 1046) 327 = .ok (.getfield 10, 3) := zd zm_1046 (by decide +kernel)
theorem d_1046_330 {σ : Nat → Nat} {n0 : Nat} {bf : ab_B} : decode (ab_code (zx σ n0 bf).1 1046) 330 = .ok (.aload_n 0, 1) := zd zm_1046 (by decide +kernel)
theorem d_1046_331 {σ : Nat → Nat} {n0 : Nat} {bf : ab_B} : decode (ab_code (zx σ n0 bf).1 1046) 331 = .ok (.getfield 52, 3) := zd zm_1046 (by decide +kernel)
theorem d_1046_334 {σ : Nat → Nat} {n0 : Nat} {bf : ab_B} : decode (ab_code (zx σ n0 bf).1 1046) 334 = .ok (.iload_n 2, 1) := zd zm_1046 (by decide +kernel)
theorem d_1046_335 {σ : Nat → Nat} {n0 : Nat} {bf : ab_B} : decode (ab_code (zx σ n0 bf).1 1046) 335 = .ok (.iaload, 1) := zd zm_1046 (by decide +kernel)
theorem d_1046_336 {σ : Nat → Nat} {n0 : Nat} {bf : ab_B} : decode (ab_code (zx σ n0 bf).1 1046) 336 = .ok (.iload 11, 2) := zd zm_1046 (by decide +kernel)
theorem d_1046_338 {σ : Nat → Nat} {n0 : Nat} {bf : ab_B} : decode (ab_code (zx σ n0 bf).1 1046) 338 = .ok (.iadd, 1) := zd zm_1046 (by decide +kernel)
theorem d_1046_339 {σ : Nat → Nat} {n0 : Nat} {bf : ab_B} : decode (ab_code (zx σ n0 bf).1 1046) 339 = .ok (.aload_n 0, 1) := zd zm_1046 (by decide +kernel)
theorem d_1046_340 {σ : Nat → Nat} {n0 : Nat} {bf : ab_B} : decode (ab_code (zx σ n0 bf).1 1046) 340 = .ok (.getfield 10, 3) := zd zm_1046 (by decide +kernel)
theorem d_1046_343 {σ : Nat → Nat} {n0 : Nat} {bf : ab_B} : decode (ab_code (zx σ n0 bf).1 1046) 343 = .ok (.iload 6, 2) := zd zm_1046 (by decide +kernel)
theorem d_1046_345 {σ : Nat → Nat} {n0 : Nat} {bf : ab_B} : decode (ab_code (zx σ n0 bf).1 1046) 345 = .ok (.iload 11, 2) := zd zm_1046 (by decide +kernel)
theorem d_1046_347 {σ : Nat → Nat} {n0 : Nat} {bf : ab_B} : decode (ab_code (zx σ n0 bf).1 1046) 347 = .ok (.iadd, 1) := zd zm_1046 (by decide +kernel)
theorem d_1046_348 {σ : Nat → Nat} {n0 : Nat} {bf : ab_B} : decode (ab_code (zx σ n0 bf).1 1046) 348 = .ok (.laload, 1) := zd zm_1046 (by decide +kernel)
theorem d_1046_349 {σ : Nat → Nat} {n0 : Nat} {bf : ab_B} : decode (ab_code (zx σ n0 bf).1 1046) 349 = .ok (.lastore, 1) := zd zm_1046 (by decide +kernel)
theorem d_1046_350 {σ : Nat → Nat} {n0 : Nat} {bf : ab_B} : decode (ab_code (zx σ n0 bf).1 1046) 350 = .ok (.iinc 11 1, 3) := zd zm_1046 (by decide +kernel)
theorem d_1046_353 {σ : Nat → Nat} {n0 : Nat} {bf : ab_B} : decode (ab_code (zx σ n0 bf).1 1046) 353 = .ok (.goto (-34), 3) := zd zm_1046 (by decide +kernel)
theorem d_1046_356 {σ : Nat → Nat} {n0 : Nat} {bf : ab_B} : decode (ab_code (zx σ n0 bf).1 1046) 356 = .ok (.aload 5, 2) := zd zm_1046 (by decide +kernel)
theorem d_1046_358 {σ : Nat → Nat} {n0 : Nat} {bf : ab_B} : decode (ab_code (zx σ n0 bf).1 1046) 358 = .ok (.getfield 374, 3) := zd zm_1046 (by decide +kernel)
theorem d_1046_361 {σ : Nat → Nat} {n0 : Nat} {bf : ab_B} : decode (ab_code (zx σ n0 bf).1 1046) 361 = .ok (.bipush 11, 2) := zd zm_1046 (by decide +kernel)
theorem d_1046_363 {σ : Nat → Nat} {n0 : Nat} {bf : ab_B} : decode (ab_code (zx σ n0 bf).1 1046) 363 = .ok (.if_icmp .ne 19, 3) := zd zm_1046 (by decide +kernel)
theorem d_1046_366 {σ : Nat → Nat} {n0 : Nat} {bf : ab_B} : decode (ab_code (zx σ n0 bf).1 1046) 366 = .ok (.aload_n 0, 1) := zd zm_1046 (by decide +kernel)
theorem d_1046_367 {σ : Nat → Nat} {n0 : Nat} {bf : ab_B} : decode (ab_code (zx σ n0 bf).1 1046) 367 = .ok (.getfield 31, 3) := zd zm_1046 (by decide +kernel)
theorem d_1046_370 {σ : Nat → Nat} {n0 : Nat} {bf : ab_B} : decode (ab_code (zx σ n0 bf).1 1046) 370 = .ok (.aload 5, 2) := zd zm_1046 (by decide +kernel)
theorem d_1046_372 {σ : Nat → Nat} {n0 : Nat} {bf : ab_B} : decode (ab_code (zx σ n0 bf).1 1046) 372 = .ok (.iconst (-1), 1) := zd zm_1046 (by decide +kernel)
theorem d_1046_373 {σ : Nat → Nat} {n0 : Nat} {bf : ab_B} : decode (ab_code (zx σ n0 bf).1 1046) 373 = .ok (.aload_n 0, 1) := zd zm_1046 (by decide +kernel)
theorem d_1046_374 {σ : Nat → Nat} {n0 : Nat} {bf : ab_B} : decode (ab_code (zx σ n0 bf).1 1046) 374 = .ok (.getfield 52, 3) := zd zm_1046 (by decide +kernel)
theorem d_1046_377 {σ : Nat → Nat} {n0 : Nat} {bf : ab_B} : decode (ab_code (zx σ n0 bf).1 1046) 377 = .ok (.iload_n 2, 1) := zd zm_1046 (by decide +kernel)
theorem d_1046_378 {σ : Nat → Nat} {n0 : Nat} {bf : ab_B} : decode (ab_code (zx σ n0 bf).1 1046) 378 = .ok (.iaload, 1) := zd zm_1046 (by decide +kernel)
theorem d_1046_379 {σ : Nat → Nat} {n0 : Nat} {bf : ab_B} : decode (ab_code (zx σ n0 bf).1 1046) 379 = .ok (.invokevirtual 296, 3) := zd zm_1046 (by decide +kernel)
theorem d_1046_382 {σ : Nat → Nat} {n0 : Nat} {bf : ab_B} : decode (ab_code (zx σ n0 bf).1 1046) 382 = .ok (.aload_n 0, 1) := zd zm_1046 (by decide +kernel)
theorem d_1046_383 {σ : Nat → Nat} {n0 : Nat} {bf : ab_B} : decode (ab_code (zx σ n0 bf).1 1046) 383 = .ok (.aload 5, 2) := zd zm_1046 (by decide +kernel)
theorem d_1046_385 {σ : Nat → Nat} {n0 : Nat} {bf : ab_B} : decode (ab_code (zx σ n0 bf).1 1046) 385 = .ok (.aload_n 0, 1) := zd zm_1046 (by decide +kernel)
theorem d_1046_386 {σ : Nat → Nat} {n0 : Nat} {bf : ab_B} : decode (ab_code (zx σ n0 bf).1 1046) 386 = .ok (.getfield 52, 3) := zd zm_1046 (by decide +kernel)
theorem d_1046_389 {σ : Nat → Nat} {n0 : Nat} {bf : ab_B} : decode (ab_code (zx σ n0 bf).1 1046) 389 = .ok (.iload_n 2, 1) := zd zm_1046 (by decide +kernel)
theorem d_1046_390 {σ : Nat → Nat} {n0 : Nat} {bf : ab_B} : decode (ab_code (zx σ n0 bf).1 1046) 390 = .ok (.iaload, 1) := zd zm_1046 (by decide +kernel)
theorem d_1046_391 {σ : Nat → Nat} {n0 : Nat} {bf : ab_B} : decode (ab_code (zx σ n0 bf).1 1046) 391 = .ok (.iload 6, 2) := zd zm_1046 (by decide +kernel)
theorem d_1046_393 {σ : Nat → Nat} {n0 : Nat} {bf : ab_B} : decode (ab_code (zx σ n0 bf).1 1046) 393 = .ok (.invokevirtual 404, 3) := zd zm_1046 (by decide +kernel)
theorem d_1046_396 {σ : Nat → Nat} {n0 : Nat} {bf : ab_B} : decode (ab_code (zx σ n0 bf).1 1046) 396 = .ok (.ifCond .ne 15, 3) := zd zm_1046 (by decide +kernel)
theorem d_1046_399 {σ : Nat → Nat} {n0 : Nat} {bf : ab_B} : decode (ab_code (zx σ n0 bf).1 1046) 399 = .ok (.aload_n 0, 1) := zd zm_1046 (by decide +kernel)
theorem d_1046_400 {σ : Nat → Nat} {n0 : Nat} {bf : ab_B} : decode (ab_code (zx σ n0 bf).1 1046) 400 = .ok (.bipush 9, 2) := zd zm_1046 (by decide +kernel)
theorem d_1046_402 {σ : Nat → Nat} {n0 : Nat} {bf : ab_B} : decode (ab_code (zx σ n0 bf).1 1046) 402 = .ok (.iload 4, 2) := zd zm_1046 (by decide +kernel)
theorem d_1046_404 {σ : Nat → Nat} {n0 : Nat} {bf : ab_B} : decode (ab_code (zx σ n0 bf).1 1046) 404 = .ok (.invokevirtual 194, 3) := zd zm_1046 (by decide +kernel)
theorem d_1046_407 {σ : Nat → Nat} {n0 : Nat} {bf : ab_B} : decode (ab_code (zx σ n0 bf).1 1046) 407 = .ok (.pop, 1) := zd zm_1046 (by decide +kernel)
theorem d_1046_408 {σ : Nat → Nat} {n0 : Nat} {bf : ab_B} : decode (ab_code (zx σ n0 bf).1 1046) 408 = .ok (.goto 23, 3) := zd zm_1046 (by decide +kernel)
theorem d_1046_411 {σ : Nat → Nat} {n0 : Nat} {bf : ab_B} : decode (ab_code (zx σ n0 bf).1 1046) 411 = .ok (.aload_n 0, 1) := zd zm_1046 (by decide +kernel)
theorem d_1046_412 {σ : Nat → Nat} {n0 : Nat} {bf : ab_B} : decode (ab_code (zx σ n0 bf).1 1046) 412 = .ok (.aload_n 0, 1) := zd zm_1046 (by decide +kernel)
theorem d_1046_413 {σ : Nat → Nat} {n0 : Nat} {bf : ab_B} : decode (ab_code (zx σ n0 bf).1 1046) 413 = .ok (.getfield 36, 3) := zd zm_1046 (by decide +kernel)
theorem d_1046_416 {σ : Nat → Nat} {n0 : Nat} {bf : ab_B} : decode (ab_code (zx σ n0 bf).1 1046) 416 = .ok (.iload_n 3, 1) := zd zm_1046 (by decide +kernel)
theorem d_1046_417 {σ : Nat → Nat} {n0 : Nat} {bf : ab_B} : decode (ab_code (zx σ n0 bf).1 1046) 417 = .ok (.laload, 1) := zd zm_1046 (by decide +kernel)
theorem d_1046_418 {σ : Nat → Nat} {n0 : Nat} {bf : ab_B} : decode (ab_code (zx σ n0 bf).1 1046) 418 = .ok (.l2i, 1) := zd zm_1046 (by decide +kernel)
theorem d_1046_419 {σ : Nat → Nat} {n0 : Nat} {bf : ab_B} : decode (ab_code (zx σ n0 bf).1 1046) 419 = .ok (.aload_n 0, 1) := zd zm_1046 (by decide +kernel)
theorem d_1046_420 {σ : Nat → Nat} {n0 : Nat} {bf : ab_B} : decode (ab_code (zx σ n0 bf).1 1046) 420 = .ok (.getfield 49, 3) := zd zm_1046 (by decide +kernel)
theorem d_1046_423 {σ : Nat → Nat} {n0 : Nat} {bf : ab_B} : decode (ab_code (zx σ n0 bf).1 1046) 423 = .ok (.iload_n 2, 1) := zd zm_1046 (by decide +kernel)
theorem d_1046_424 {σ : Nat → Nat} {n0 : Nat} {bf : ab_B} : decode (ab_code (zx σ n0 bf).1 1046) 424 = .ok (.iaload, 1) := zd zm_1046 (by decide +kernel)
theorem d_1046_425 {σ : Nat → Nat} {n0 : Nat} {bf : ab_B} : decode (ab_code (zx σ n0 bf).1 1046) 425 = .ok (.lload 8, 2) := zd zm_1046 (by decide +kernel)
theorem d_1046_427 {σ : Nat → Nat} {n0 : Nat} {bf : ab_B} : decode (ab_code (zx σ n0 bf).1 1046) 427 = .ok (.l2i, 1) := zd zm_1046 (by decide +kernel)
theorem d_1046_428 {σ : Nat → Nat} {n0 : Nat} {bf : ab_B} : decode (ab_code (zx σ n0 bf).1 1046) 428 = .ok (.invokevirtual 412, 3) := zd zm_1046 (by decide +kernel)
theorem d_1046_431 {σ : Nat → Nat} {n0 : Nat} {bf : ab_B} : decode (ab_code (zx σ n0 bf).1 1046) 431 = .ok (.return_, 1) := zd zm_1046 (by decide +kernel)
def w_X2_param_42 (X : zs_X) (d : Nat) (p0 : Nat) (p4 : Int32) (S : zs_T) (Q : zs_Q) : Prop :=
  (zs_K S p0 = some (.inl 1) ∧ zs_C X d 1004 [.ref p0, .int (9 : Int32), .int p4] S (zs_kI (fun v3 S2 => (Q (.returned none) S2)) Q))
theorem u_X2_param_42 {σ : Nat → Nat} {n0 : Nat} {bf : ab_B} {d : Nat} {p0 : Nat} {p4 : Int32} {S : zs_T} {Q : zs_Q} (hB : zt_B bf) (h : w_X2_param_42 (zx σ n0 bf) d p0 p4 S Q) : zs_U (zx σ n0 bf) d 1046 42 [(0, .ref p0), (4, .int p4)] [] S Q := by
  unfold w_X2_param_42 at h
  refine zu_aload_n d_1046_42 rfl (zs_ra _) ?_
  refine zu_bipush d_1046_43 zj_9 ?_
  refine zu_iload d_1046_45 rfl ?_
  obtain ⟨k1, h⟩ := h
  refine zc_1_194 (x0 := (9 : Int32)) (x1 := p4) hB rfl k1 d_1046_47 (Nat.le_of_ble_eq_true rfl) h (fun v3 S2 h => ?_)
  refine zu_pop d_1046_50 rfl ?_
  exact zu_vret d_1046_51 zr_1046 h
def w_X2_param_52 (X : zs_X) (d : Nat) (p0 : Nat) (p2 : Int32) (p3 : Int32) (p6 : Int32) (S : zs_T) (Q : zs_Q) : Prop :=
  (zs_K S p0 = some (.inl 1) ∧ ∃ b2, (zs_R S 1005 p0) = some b2 ∧ zs_A S b2 3 p3 ∧ zs_C X d 1030 [.ref p0, .int p2, .int (((zs_j S b2 p3.toNatClampNeg)).toInt32), .int p6] S (zs_kV (fun S5 => (Q (.returned none) S5)) Q))
theorem u_X2_param_52 {σ : Nat → Nat} {n0 : Nat} {bf : ab_B} {d : Nat} {p0 : Nat} {p2 : Int32} {p3 : Int32} {p6 : Int32} {S : zs_T} {Q : zs_Q} (hB : zt_B bf) (h : w_X2_param_52 (zx σ n0 bf) d p0 p2 p3 p6 S Q) : zs_U (zx σ n0 bf) d 1046 52 [(0, .ref p0), (2, .int p2), (3, .int p3), (6, .int p6)] [] S Q := by
  unfold w_X2_param_52 at h
  refine zu_aload_n d_1046_52 rfl (zs_ra _) ?_
  refine zu_iload_n d_1046_53 rfl ?_
  refine zu_aload_n d_1046_54 rfl (zs_ra _) ?_
  obtain ⟨k1, h⟩ := h
  refine zg_1_36 rfl d_1046_55 k1 ?_
  refine zu_iload_n d_1046_58 rfl ?_
  obtain ⟨b2, e3, h⟩ := h
  refine zs_stk1 (zs_rfe e3) ?_
  obtain ⟨k4, h⟩ := h
  refine zu_lald (k := 3) d_1046_59 rfl rfl k4 ?_
  refine zu_stk d_1046_60 rfl rfl ?_
  refine zu_iload d_1046_61 rfl ?_
  refine zc_1_292 (x0 := p2) (x1 := (((zs_j S b2 p3.toNatClampNeg)).toInt32)) (x2 := p6) hB rfl k1 d_1046_63 (Nat.le_of_ble_eq_true rfl) h (fun S5 h => ?_)
  exact zu_vret d_1046_66 zr_1046 h
def w_X2_param_209 (X : zs_X) (d : Nat) (p0 : Nat) (p2 : Int32) (p3 : Int32) (p4 : Int32) (p5 : Option Nat) (p6 : Int32) (p7 : Int32) (p8 : Int64) (p10 : Int32) (q0 : Option Nat) (q1 : Int32) (q2 : Int32) (S : zs_T) (Q : zs_Q) : Prop :=
  (∃ b1, q0 = some b1 ∧ zs_A S b1 0 q1 ∧ ab_n0 X.1 ≤ b1 ∧ ∀ S5, S5 = zs_si S b1 q1.toNatClampNeg q2 → zs_K S p0 = some (.inl 1) ∧ ab_n0 X.1 ≤ p0 ∧ ∀ S10, S10 = zs_sI S5 1015 p0 ((zs_I S5 1015 p0) + (p10 + ((p8).toInt32))) → zs_U X d 1046 228 [(0, .ref p0), (2, .int p2), (3, .int p3), (4, .int p4), (5, va_rf p5), (6, .int p6), (7, .int p7), (8, .long p8), (10, .int p10), (11, .int (0 : Int32))] [] S10 Q)
theorem u_X2_param_209 {σ : Nat → Nat} {n0 : Nat} {bf : ab_B} {d : Nat} {p0 : Nat} {p2 : Int32} {p3 : Int32} {p4 : Int32} {p5 : Option Nat} {p6 : Int32} {p7 : Int32} {p8 : Int64} {p10 : Int32} {q0 : Option Nat} {q1 : Int32} {q2 : Int32} {S : zs_T} {Q : zs_Q} (hB : zt_B bf) (h : w_X2_param_209 (zx σ n0 bf) d p0 p2 p3 p4 p5 p6 p7 p8 p10 q0 q1 q2 S Q) : zs_U (zx σ n0 bf) d 1046 209 [(0, .ref p0), (2, .int p2), (3, .int p3), (4, .int p4), (5, va_rf p5), (6, .int p6), (7, .int p7), (8, .long p8), (10, .int p10)] [.int q2, .int q1, va_rf q0] S Q := by
  unfold w_X2_param_209 at h
  obtain ⟨b1, e2, h⟩ := h
  refine zs_stk2 (zs_rfe e2) ?_
  obtain ⟨k3, h⟩ := h
  obtain ⟨k4, h⟩ := h
  refine zu_iast (k := 0) d_1046_209 rfl rfl k4 k3 ?_
  generalize e6 : zs_si S b1 q1.toNatClampNeg q2 = S5
  have h := h S5 e6.symm
  have K7 : ∀ b, zs_K S5 b = zs_K S b := zs_Kt e6 (zs_Ksi _ _ _ _) (fun _ => rfl)
  refine zu_aload_n d_1046_210 rfl (zs_ra _) ?_
  refine zu_dup d_1046_211 rfl ?_
  obtain ⟨k8, h⟩ := h
  refine zg_1_123 rfl d_1046_212 ((K7 _).trans k8) ?_
  refine zu_iload d_1046_215 rfl ?_
  refine zu_lload d_1046_217 rfl ?_
  refine zu_stk d_1046_219 rfl rfl ?_
  refine zu_stk d_1046_220 rfl rfl ?_
  refine zu_stk d_1046_221 rfl rfl ?_
  obtain ⟨k9, h⟩ := h
  refine zp_1_123 (v := ((zs_I S5 1015 p0) + (p10 + ((p8).toInt32)))) rfl d_1046_222 ((K7 _).trans k8) k9 ?_
  generalize e11 : zs_sI S5 1015 p0 ((zs_I S5 1015 p0) + (p10 + ((p8).toInt32))) = S10
  have h := h S10 e11.symm
  have K12 : ∀ b, zs_K S10 b = zs_K S b := zs_Kt e11 (zs_KsI _ _ _ _) K7
  refine zu_iconst d_1046_225 zi_0 ?_
  refine zu_istore d_1046_226 (zs_lt zq_1046 rfl) ?_
  exact h.weak ⟨rfl, rfl, rfl, rfl, rfl, rfl, rfl, rfl, rfl, rfl, trivial⟩
def w_X2_param_191 (X : zs_X) (d : Nat) (p0 : Nat) (p2 : Int32) (p3 : Int32) (p4 : Int32) (p5 : Option Nat) (p6 : Int32) (p7 : Int32) (p8 : Int64) (p10 : Int32) (S : zs_T) (Q : zs_Q) : Prop :=
  (zs_K S p0 = some (.inl 1) ∧ ((p10 ≤ 0 → (w_X2_param_209 X d p0 p2 p3 p4 p5 p6 p7 p8 p10 (zs_R S 1013 p0) p2 (-1 : Int32) S Q)) ∧ (¬ (p10 ≤ 0) → (w_X2_param_209 X d p0 p2 p3 p4 p5 p6 p7 p8 p10 (zs_R S 1013 p0) p2 (zs_I S 1015 p0) S Q))))
theorem u_X2_param_191 {σ : Nat → Nat} {n0 : Nat} {bf : ab_B} {d : Nat} {p0 : Nat} {p2 : Int32} {p3 : Int32} {p4 : Int32} {p5 : Option Nat} {p6 : Int32} {p7 : Int32} {p8 : Int64} {p10 : Int32} {S : zs_T} {Q : zs_Q} (hB : zt_B bf) (h : w_X2_param_191 (zx σ n0 bf) d p0 p2 p3 p4 p5 p6 p7 p8 p10 S Q) : zs_U (zx σ n0 bf) d 1046 191 [(0, .ref p0), (2, .int p2), (3, .int p3), (4, .int p4), (5, va_rf p5), (6, .int p6), (7, .int p7), (8, .long p8), (10, .int p10)] [] S Q := by
  unfold w_X2_param_191 at h
  refine zu_aload_n d_1046_191 rfl (zs_ra _) ?_
  obtain ⟨k1, h⟩ := h
  refine zg_1_52 rfl d_1046_192 k1 ?_
  refine zu_iload_n d_1046_195 rfl ?_
  refine zu_iload d_1046_196 rfl ?_
  refine zu_ifle (t := 208) d_1046_198 rfl (fun c2 => ?_) (fun c2 => ?_)
  · have h := h.1 c2
    refine zu_iconst d_1046_208 zi_m1 ?_
    exact (u_X2_param_209 hB h).weak ⟨rfl, rfl, rfl, rfl, rfl, rfl, rfl, rfl, rfl, trivial⟩
  · have h := h.2 c2
    refine zu_aload_n d_1046_201 rfl (zs_ra _) ?_
    refine zg_1_123 rfl d_1046_202 k1 ?_
    refine zu_goto (t := 209) d_1046_205 rfl ?_
    exact (u_X2_param_209 hB h).weak ⟨rfl, rfl, rfl, rfl, rfl, rfl, rfl, rfl, rfl, trivial⟩
def w_X2_param_150 (X : zs_X) (d : Nat) (p0 : Nat) (p2 : Int32) (p3 : Int32) (p4 : Int32) (p5 : Option Nat) (p6 : Int32) (p7 : Int32) (p8 : Int64) (q0 : Int32) (S : zs_T) (Q : zs_Q) : Prop :=
  (zs_K S p0 = some (.inl 1) ∧ ∃ b2, (zs_R S 1017 p0) = some b2 ∧ zs_A S b2 5 (zs_I S 1025 p0) ∧ ∃ b5, (zs_r S b2 (zs_I S 1025 p0).toNatClampNeg) = some b5 ∧ zs_K S b5 = some (.inl 10) ∧ zs_C X d 1003 [.ref p0, .long (((q0).toInt64) + p8), .int (zs_I S 10001 b5)] S (zs_kI (fun v9 S8 => (((¬ v9 = 0 → (zs_K S8 p0 = some (.inl 1) ∧ ∃ b12, (zs_R S8 1012 p0) = some b12 ∧ zs_A S8 b12 0 p2 ∧ ab_n0 X.1 ≤ b12 ∧ ∀ S16, S16 = zs_si S8 b12 p2.toNatClampNeg ((zs_I S8 1015 p0) + q0) → w_X2_param_191 X d p0 p2 p3 p4 p5 p6 p7 p8 q0 S16 Q)) ∧ (¬ (¬ v9 = 0) → (Q (.returned none) S8))))) Q))
theorem u_X2_param_150 {σ : Nat → Nat} {n0 : Nat} {bf : ab_B} {d : Nat} {p0 : Nat} {p2 : Int32} {p3 : Int32} {p4 : Int32} {p5 : Option Nat} {p6 : Int32} {p7 : Int32} {p8 : Int64} {q0 : Int32} {S : zs_T} {Q : zs_Q} (hB : zt_B bf) (h : w_X2_param_150 (zx σ n0 bf) d p0 p2 p3 p4 p5 p6 p7 p8 q0 S Q) : zs_U (zx σ n0 bf) d 1046 150 [(0, .ref p0), (2, .int p2), (3, .int p3), (4, .int p4), (5, va_rf p5), (6, .int p6), (7, .int p7), (8, .long p8)] [.int q0] S Q := by
  unfold w_X2_param_150 at h
  refine zu_istore d_1046_150 (zs_lt zq_1046 rfl) ?_
  refine zu_aload_n d_1046_152 rfl (zs_ra _) ?_
  refine zu_iload d_1046_153 rfl ?_
  refine zu_stk d_1046_155 rfl rfl ?_
  refine zu_lload d_1046_156 rfl ?_
  refine zu_stk d_1046_158 rfl rfl ?_
  refine zu_aload_n d_1046_159 rfl (zs_ra _) ?_
  obtain ⟨k1, h⟩ := h
  refine zg_1_57 rfl d_1046_160 k1 ?_
  refine zu_aload_n d_1046_163 rfl (zs_ra _) ?_
  refine zg_1_129 rfl d_1046_164 k1 ?_
  obtain ⟨b2, e3, h⟩ := h
  refine zs_stk1 (zs_rfe e3) ?_
  obtain ⟨k4, h⟩ := h
  refine zu_aald (k := 5) d_1046_167 rfl rfl k4 ?_
  obtain ⟨b5, e6, h⟩ := h
  refine zs_stk0 (zs_rfe e6) ?_
  obtain ⟨k7, h⟩ := h
  refine zg_1_181 rfl d_1046_168 k7 ?_
  refine zc_1_184 (x0 := (((q0).toInt64) + p8)) (x1 := (zs_I S 10001 b5)) hB rfl k1 d_1046_171 (Nat.le_of_ble_eq_true rfl) h (fun v9 S8 h => ?_)
  refine zu_ifne (t := 178) d_1046_174 rfl (fun c10 => ?_) (fun c10 => ?_)
  · have h := h.1 c10
    refine zu_aload_n d_1046_178 rfl (zs_ra _) ?_
    obtain ⟨k11, h⟩ := h
    refine zg_1_49 rfl d_1046_179 k11 ?_
    refine zu_iload_n d_1046_182 rfl ?_
    refine zu_aload_n d_1046_183 rfl (zs_ra _) ?_
    refine zg_1_123 rfl d_1046_184 k11 ?_
    refine zu_iload d_1046_187 rfl ?_
    refine zu_stk d_1046_189 rfl rfl ?_
    obtain ⟨b12, e13, h⟩ := h
    refine zs_stk2 (zs_rfe e13) ?_
    obtain ⟨k14, h⟩ := h
    obtain ⟨k15, h⟩ := h
    refine zu_iast (k := 0) d_1046_190 rfl rfl k15 k14 ?_
    generalize e17 : zs_si S8 b12 p2.toNatClampNeg ((zs_I S8 1015 p0) + q0) = S16
    have h := h S16 e17.symm
    have K18 : ∀ b, zs_K S16 b = zs_K S8 b := zs_Kt e17 (zs_Ksi _ _ _ _) (fun _ => rfl)
    exact (u_X2_param_191 hB h).weak ⟨rfl, rfl, rfl, rfl, rfl, rfl, rfl, rfl, rfl, trivial⟩
  · have h := h.2 c10
    exact zu_vret d_1046_177 zr_1046 h
def w_X2_param_125 (X : zs_X) (d : Nat) (p0 : Nat) (p2 : Int32) (p3 : Int32) (p4 : Int32) (p5 : Option Nat) (p6 : Int32) (p7 : Int32) (q0 : Int64) (S : zs_T) (Q : zs_Q) : Prop :=
  (∃ b1, p5 = some b1 ∧ zs_K S b1 = some (.inl 6) ∧ zs_C X d 6004 [.ref b1] S (zs_kI (fun v5 S4 => (((v5 = 0 → (w_X2_param_150 X d p0 p2 p3 p4 p5 p6 p7 q0 (0 : Int32) S4 Q)) ∧ (¬ (v5 = 0) → (zs_K S4 b1 = some (.inl 6) ∧ zs_C X d 6005 [.ref b1] S4 (zs_kR (fun v9 S8 => (∃ b10, v9 = some b10 ∧ zs_K S8 b10 = some (.inl 6) ∧ ∃ b13, (zs_R S8 6007 b10) = some b13 ∧ zs_K S8 b13 = some (.inl 16) ∧ zs_C X d 16001 [.ref b13] S8 (zs_kI (fun v17 S16 => (w_X2_param_150 X d p0 p2 p3 p4 p5 p6 p7 q0 v17 S16 Q)) Q))) Q)))))) Q))
theorem u_X2_param_125 {σ : Nat → Nat} {n0 : Nat} {bf : ab_B} {d : Nat} {p0 : Nat} {p2 : Int32} {p3 : Int32} {p4 : Int32} {p5 : Option Nat} {p6 : Int32} {p7 : Int32} {q0 : Int64} {S : zs_T} {Q : zs_Q} (hB : zt_B bf) (h : w_X2_param_125 (zx σ n0 bf) d p0 p2 p3 p4 p5 p6 p7 q0 S Q) : zs_U (zx σ n0 bf) d 1046 125 [(0, .ref p0), (2, .int p2), (3, .int p3), (4, .int p4), (5, va_rf p5), (6, .int p6), (7, .int p7)] [.long q0] S Q := by
  unfold w_X2_param_125 at h
  refine zu_lstore d_1046_125 (zs_lt zq_1046 rfl) ?_
  refine zu_aload d_1046_127 rfl (zs_rr _) ?_
  obtain ⟨b1, e2, h⟩ := h
  refine zs_stk0 (zs_rfe e2) ?_
  obtain ⟨k3, h⟩ := h
  refine zc_1_354  hB rfl k3 d_1046_129 (Nat.le_of_ble_eq_true rfl) h (fun v5 S4 h => ?_)
  refine zu_ifeq (t := 149) d_1046_132 rfl (fun c6 => ?_) (fun c6 => ?_)
  · have h := h.1 c6
    refine zu_iconst d_1046_149 zi_0 ?_
    exact (u_X2_param_150 hB h).weak ⟨rfl, rfl, rfl, rfl, rfl, rfl, rfl, rfl, trivial⟩
  · have h := h.2 c6
    refine zu_aload d_1046_135 rfl (zs_rr _) ?_
    refine zs_stk0 (zs_rfe e2) ?_
    obtain ⟨k7, h⟩ := h
    refine zc_1_358  hB rfl k7 d_1046_137 (Nat.le_of_ble_eq_true rfl) h (fun v9 S8 h => ?_)
    obtain ⟨b10, e11, h⟩ := h
    refine zs_stk0 (zs_rfe e11) ?_
    obtain ⟨k12, h⟩ := h
    refine zg_1_362 rfl d_1046_140 k12 ?_
    obtain ⟨b13, e14, h⟩ := h
    refine zs_stk0 (zs_rfe e14) ?_
    obtain ⟨k15, h⟩ := h
    refine zc_1_336  hB rfl k15 d_1046_143 (Nat.le_of_ble_eq_true rfl) h (fun v17 S16 h => ?_)
    refine zu_goto (t := 150) d_1046_146 rfl ?_
    exact (u_X2_param_150 hB h).weak ⟨rfl, rfl, rfl, rfl, rfl, rfl, rfl, rfl, trivial⟩
def w_X2_param_79 (X : zs_X) (d : Nat) (p0 : Nat) (p2 : Int32) (p3 : Int32) (p4 : Int32) (p5 : Option Nat) (p6 : Int32) (p7 : Int32) (S : zs_T) (Q : zs_Q) : Prop :=
  (w_X2_param_125 X d p0 p2 p3 p4 p5 p6 p7 (1 : Int64) S Q)
theorem u_X2_param_79 {σ : Nat → Nat} {n0 : Nat} {bf : ab_B} {d : Nat} {p0 : Nat} {p2 : Int32} {p3 : Int32} {p4 : Int32} {p5 : Option Nat} {p6 : Int32} {p7 : Int32} {S : zs_T} {Q : zs_Q} (hB : zt_B bf) (h : w_X2_param_79 (zx σ n0 bf) d p0 p2 p3 p4 p5 p6 p7 S Q) : zs_U (zx σ n0 bf) d 1046 79 [(0, .ref p0), (2, .int p2), (3, .int p3), (4, .int p4), (5, va_rf p5), (6, .int p6), (7, .int p7)] [] S Q := by
  unfold w_X2_param_79 at h
  refine zu_lconst (v := 1) d_1046_79 rfl ?_
  refine zu_goto (t := 125) d_1046_80 rfl ?_
  exact (u_X2_param_125 hB h).weak ⟨rfl, rfl, rfl, rfl, rfl, rfl, rfl, trivial⟩
def w_X2_param_103 (X : zs_X) (d : Nat) (p0 : Nat) (p2 : Int32) (p3 : Int32) (p4 : Int32) (p5 : Option Nat) (p6 : Int32) (p7 : Int32) (S : zs_T) (Q : zs_Q) : Prop :=
  (zs_K S p0 = some (.inl 1) ∧ ∃ b2, (zs_R S 1004 p0) = some b2 ∧ zs_K S b2 = some (.inl 2) ∧ zs_C X d 2012 [.ref b2, va_rf p5, .int (-1 : Int32)] S (zs_kJ (fun v6 S5 => (w_X2_param_125 X d p0 p2 p3 p4 p5 p6 p7 v6 S5 Q)) Q))
theorem u_X2_param_103 {σ : Nat → Nat} {n0 : Nat} {bf : ab_B} {d : Nat} {p0 : Nat} {p2 : Int32} {p3 : Int32} {p4 : Int32} {p5 : Option Nat} {p6 : Int32} {p7 : Int32} {S : zs_T} {Q : zs_Q} (hB : zt_B bf) (h : w_X2_param_103 (zx σ n0 bf) d p0 p2 p3 p4 p5 p6 p7 S Q) : zs_U (zx σ n0 bf) d 1046 103 [(0, .ref p0), (2, .int p2), (3, .int p3), (4, .int p4), (5, va_rf p5), (6, .int p6), (7, .int p7)] [] S Q := by
  unfold w_X2_param_103 at h
  refine zu_aload_n d_1046_103 rfl (zs_ra _) ?_
  obtain ⟨k1, h⟩ := h
  refine zg_1_31 rfl d_1046_104 k1 ?_
  refine zu_aload d_1046_107 rfl (zs_rr _) ?_
  refine zu_iconst d_1046_109 zi_m1 ?_
  obtain ⟨b2, e3, h⟩ := h
  refine zs_stk2 (zs_rfe e3) ?_
  obtain ⟨k4, h⟩ := h
  refine zc_1_313 (x0 := p5) (x1 := (-1 : Int32)) hB rfl k4 d_1046_110 (Nat.le_of_ble_eq_true rfl) h (fun v6 S5 h => ?_)
  refine zu_goto (t := 125) d_1046_113 rfl ?_
  exact (u_X2_param_125 hB h).weak ⟨rfl, rfl, rfl, rfl, rfl, rfl, rfl, trivial⟩
def w_X2_param_83 (X : zs_X) (d : Nat) (p0 : Nat) (p2 : Int32) (p3 : Int32) (p4 : Int32) (p5 : Option Nat) (p6 : Int32) (p7 : Int32) (S : zs_T) (Q : zs_Q) : Prop :=
  (∃ b1, p5 = some b1 ∧ zs_K S b1 = some (.inl 6) ∧ (((zs_I S 6000 b1) = (6 : Int32) → w_X2_param_103 X d p0 p2 p3 p4 p5 p6 p7 S Q) ∧ (¬ ((zs_I S 6000 b1) = (6 : Int32)) → (((¬ (zs_I S 6000 b1) = (11 : Int32) → (zs_K S p0 = some (.inl 1) ∧ zs_C X d 1028 [.ref p0, va_rf p5, .int p6] S (zs_kI (fun v8 S7 => (w_X2_param_125 X d p0 p2 p3 p4 p5 p6 p7 ((v8).toInt64) S7 Q)) Q))) ∧ (¬ (¬ (zs_I S 6000 b1) = (11 : Int32)) → w_X2_param_103 X d p0 p2 p3 p4 p5 p6 p7 S Q))))))
theorem u_X2_param_83 {σ : Nat → Nat} {n0 : Nat} {bf : ab_B} {d : Nat} {p0 : Nat} {p2 : Int32} {p3 : Int32} {p4 : Int32} {p5 : Option Nat} {p6 : Int32} {p7 : Int32} {S : zs_T} {Q : zs_Q} (hB : zt_B bf) (h : w_X2_param_83 (zx σ n0 bf) d p0 p2 p3 p4 p5 p6 p7 S Q) : zs_U (zx σ n0 bf) d 1046 83 [(0, .ref p0), (2, .int p2), (3, .int p3), (4, .int p4), (5, va_rf p5), (6, .int p6), (7, .int p7)] [] S Q := by
  unfold w_X2_param_83 at h
  refine zu_aload d_1046_83 rfl (zs_rr _) ?_
  obtain ⟨b1, e2, h⟩ := h
  refine zs_stk0 (zs_rfe e2) ?_
  obtain ⟨k3, h⟩ := h
  refine zg_1_374 rfl d_1046_85 k3 ?_
  refine zu_bipush d_1046_88 zj_6 ?_
  refine zu_cmpeq (t := 103) d_1046_90 rfl (fun c4 => ?_) (fun c4 => ?_)
  · have h := h.1 c4
    exact (u_X2_param_103 hB h).weak ⟨rfl, rfl, rfl, rfl, rfl, rfl, rfl, trivial⟩
  · have h := h.2 c4
    refine zu_aload d_1046_93 rfl (zs_rr _) ?_
    refine zs_stk0 (zs_rfe e2) ?_
    refine zg_1_374 rfl d_1046_95 k3 ?_
    refine zu_bipush d_1046_98 zj_11 ?_
    refine zu_cmpne (t := 116) d_1046_100 rfl (fun c5 => ?_) (fun c5 => ?_)
    · have h := h.1 c5
      refine zu_aload_n d_1046_116 rfl (zs_ra _) ?_
      refine zu_aload d_1046_117 rfl (zs_rr _) ?_
      refine zu_iload d_1046_119 rfl ?_
      obtain ⟨k6, h⟩ := h
      refine zc_1_408 (x0 := p5) (x1 := p6) hB rfl k6 d_1046_121 (Nat.le_of_ble_eq_true rfl) h (fun v8 S7 h => ?_)
      refine zu_stk d_1046_124 rfl rfl ?_
      exact (u_X2_param_125 hB h).weak ⟨rfl, rfl, rfl, rfl, rfl, rfl, rfl, trivial⟩
    · have h := h.2 c5
      exact (u_X2_param_103 hB h).weak ⟨rfl, rfl, rfl, rfl, rfl, rfl, rfl, trivial⟩
def w_X2_param_431 (X : zs_X) (d : Nat)  (S : zs_T) (Q : zs_Q) : Prop :=
  (Q (.returned none) S)
theorem u_X2_param_431 {σ : Nat → Nat} {n0 : Nat} {bf : ab_B} {d : Nat}  {S : zs_T} {Q : zs_Q} (hB : zt_B bf) (h : w_X2_param_431 (zx σ n0 bf) d  S Q) : zs_U (zx σ n0 bf) d 1046 431 [] [] S Q := by
  unfold w_X2_param_431 at h
  exact zu_vret d_1046_431 zr_1046 h
def w_X2_param_313 (X : zs_X) (d : Nat)  (S : zs_T) (Q : zs_Q) : Prop :=
  (w_X2_param_431 X d  S Q)
theorem u_X2_param_313 {σ : Nat → Nat} {n0 : Nat} {bf : ab_B} {d : Nat}  {S : zs_T} {Q : zs_Q} (hB : zt_B bf) (h : w_X2_param_313 (zx σ n0 bf) d  S Q) : zs_U (zx σ n0 bf) d 1046 313 [] [] S Q := by
  unfold w_X2_param_313 at h
  refine zu_goto (t := 431) d_1046_313 rfl ?_
  exact (u_X2_param_431 hB h).weak trivial
def w_X2_param_287 (X : zs_X) (d : Nat)  (S : zs_T) (Q : zs_Q) : Prop :=
  (Q (.returned none) S)
theorem u_X2_param_287 {σ : Nat → Nat} {n0 : Nat} {bf : ab_B} {d : Nat}  {S : zs_T} {Q : zs_Q} (hB : zt_B bf) (h : w_X2_param_287 (zx σ n0 bf) d  S Q) : zs_U (zx σ n0 bf) d 1046 287 [] [] S Q := by
  unfold w_X2_param_287 at h
  exact zu_vret d_1046_287 zr_1046 h
def w_X2_param_255 (X : zs_X) (d : Nat) (p0 : Nat) (p2 : Int32) (p3 : Int32) (p4 : Int32) (p5 : Option Nat) (p6 : Int32) (p7 : Int32) (p8 : Int64) (p10 : Int32) (p11 : Int32) (S : zs_T) (Q : zs_Q) : Prop :=
  (zs_U X d 1046 228 [(0, .ref p0), (2, .int p2), (3, .int p3), (4, .int p4), (5, va_rf p5), (6, .int p6), (7, .int p7), (8, .long p8), (10, .int p10), (11, .int p11)] [] S Q)
theorem u_X2_param_255 {σ : Nat → Nat} {n0 : Nat} {bf : ab_B} {d : Nat} {p0 : Nat} {p2 : Int32} {p3 : Int32} {p4 : Int32} {p5 : Option Nat} {p6 : Int32} {p7 : Int32} {p8 : Int64} {p10 : Int32} {p11 : Int32} {S : zs_T} {Q : zs_Q} (hB : zt_B bf) (h : w_X2_param_255 (zx σ n0 bf) d p0 p2 p3 p4 p5 p6 p7 p8 p10 p11 S Q) : zs_U (zx σ n0 bf) d 1046 255 [(0, .ref p0), (2, .int p2), (3, .int p3), (4, .int p4), (5, va_rf p5), (6, .int p6), (7, .int p7), (8, .long p8), (10, .int p10), (11, .int p11)] [] S Q := by
  unfold w_X2_param_255 at h
  refine zu_goto (t := 228) d_1046_255 rfl ?_
  exact h.weak ⟨rfl, rfl, rfl, rfl, rfl, rfl, rfl, rfl, rfl, rfl, trivial⟩
def w_X2_param_228 (X : zs_X) (d : Nat) (p0 : Nat) (p2 : Int32) (p3 : Int32) (p4 : Int32) (p5 : Option Nat) (p6 : Int32) (p7 : Int32) (p8 : Int64) (p10 : Int32) (p11 : Int32) (S : zs_T) (Q : zs_Q) : Prop :=
  (((p8 ≤ ((p11).toInt64) → (((p7 = 0 → (∃ b3, p5 = some b3 ∧ zs_K S b3 = some (.inl 6) ∧ ((¬ (zs_I S 6000 b3) = (6 : Int32) → (zs_U X d 1046 319 [(0, .ref p0), (2, .int p2), (3, .int p3), (4, .int p4), (5, va_rf p5), (6, .int p6), (8, .long p8), (10, .int p10), (11, .int (0 : Int32))] [] S Q)) ∧ (¬ (¬ (zs_I S 6000 b3) = (6 : Int32)) → (zs_K S p0 = some (.inl 1) ∧ ∃ b8, (zs_R S 1012 p0) = some b8 ∧ zs_A S b8 0 p2 ∧ zs_C X d 1049 [.ref p0, va_rf p5, .int (zs_i S b8 p2.toNatClampNeg), .int p3, .int p4] S (zs_kV (fun S11 => w_X2_param_313 X d  S11 Q) Q)))))) ∧ (¬ (p7 = 0) → (zs_K S p0 = some (.inl 1) ∧ ∃ b14, (zs_R S 1012 p0) = some b14 ∧ zs_A S b14 0 p2 ∧ ∃ b17, (zs_R S 1005 p0) = some b17 ∧ zs_A S b17 3 p3 ∧ zs_C X d 1022 [.ref p0, .int (zs_i S b14 p2.toNatClampNeg), .int (-1 : Int32), va_rf p5, .long (zs_j S b17 p3.toNatClampNeg), .int p4] S (zs_kI (fun v21 S20 => (((¬ v21 = 0 → w_X2_param_431 X d  S20 Q) ∧ (¬ (¬ v21 = 0) → w_X2_param_287 X d  S20 Q)))) Q)))))) ∧ (¬ (p8 ≤ ((p11).toInt64)) → (zs_K S p0 = some (.inl 1) ∧ ∃ b24, (zs_R S 1012 p0) = some b24 ∧ zs_A S b24 0 p2 ∧ ∃ b27, (zs_R S 1002 p0) = some b27 ∧ zs_A S b27 2 ((zs_i S b24 p2.toNatClampNeg) + p11) ∧ ab_n0 X.1 ≤ b27 ∧ ∀ S31, S31 = zs_si S b27 ((zs_i S b24 p2.toNatClampNeg) + p11).toNatClampNeg (vp_nar .boolean (0 : Int32)) → w_X2_param_255 X d p0 p2 p3 p4 p5 p6 p7 p8 p10 (p11 + (1 : Int32)) S31 Q))))
theorem u_X2_param_228 {σ : Nat → Nat} {n0 : Nat} {bf : ab_B} {d : Nat} {p0 : Nat} {p2 : Int32} {p3 : Int32} {p4 : Int32} {p5 : Option Nat} {p6 : Int32} {p7 : Int32} {p8 : Int64} {p10 : Int32} {p11 : Int32} {S : zs_T} {Q : zs_Q} (hB : zt_B bf) (h : w_X2_param_228 (zx σ n0 bf) d p0 p2 p3 p4 p5 p6 p7 p8 p10 p11 S Q) : zs_U (zx σ n0 bf) d 1046 228 [(0, .ref p0), (2, .int p2), (3, .int p3), (4, .int p4), (5, va_rf p5), (6, .int p6), (7, .int p7), (8, .long p8), (10, .int p10), (11, .int p11)] [] S Q := by
  unfold w_X2_param_228 at h
  refine zu_iload d_1046_228 rfl ?_
  refine zu_stk d_1046_230 rfl rfl ?_
  refine zu_lload d_1046_231 rfl ?_
  refine zu_lge (t := 258) d_1046_233 d_1046_234 rfl (fun c1 => ?_) (fun c1 => ?_)
  · have h := h.1 c1
    refine zu_iload d_1046_258 rfl ?_
    refine zu_ifeq (t := 288) d_1046_260 rfl (fun c2 => ?_) (fun c2 => ?_)
    · have h := h.1 c2
      refine zu_aload d_1046_288 rfl (zs_rr _) ?_
      obtain ⟨b3, e4, h⟩ := h
      refine zs_stk0 (zs_rfe e4) ?_
      obtain ⟨k5, h⟩ := h
      refine zg_1_374 rfl d_1046_290 k5 ?_
      refine zu_bipush d_1046_293 zj_6 ?_
      refine zu_cmpne (t := 316) d_1046_295 rfl (fun c6 => ?_) (fun c6 => ?_)
      · have h := h.1 c6
        refine zu_iconst d_1046_316 zi_0 ?_
        refine zu_istore d_1046_317 (zs_lt zq_1046 rfl) ?_
        exact h.weak ⟨rfl, rfl, rfl, rfl, rfl, rfl, rfl, rfl, rfl, trivial⟩
      · have h := h.2 c6
        refine zu_aload_n d_1046_298 rfl (zs_ra _) ?_
        refine zu_aload d_1046_299 rfl (zs_rr _) ?_
        refine zu_aload_n d_1046_301 rfl (zs_ra _) ?_
        obtain ⟨k7, h⟩ := h
        refine zg_1_49 rfl d_1046_302 k7 ?_
        refine zu_iload_n d_1046_305 rfl ?_
        obtain ⟨b8, e9, h⟩ := h
        refine zs_stk1 (zs_rfe e9) ?_
        obtain ⟨k10, h⟩ := h
        refine zu_iald (k := 0) d_1046_306 rfl rfl k10 ?_
        refine zu_iload_n d_1046_307 rfl ?_
        refine zu_iload d_1046_308 rfl ?_
        refine zc_1_535 (x0 := p5) (x1 := (zs_i S b8 p2.toNatClampNeg)) (x2 := p3) (x3 := p4) hB rfl k7 d_1046_310 (Nat.le_of_ble_eq_true rfl) h (fun S11 h => ?_)
        exact (u_X2_param_313 hB h).weak trivial
    · have h := h.2 c2
      refine zu_aload_n d_1046_263 rfl (zs_ra _) ?_
      refine zu_aload_n d_1046_264 rfl (zs_ra _) ?_
      obtain ⟨k13, h⟩ := h
      refine zg_1_49 rfl d_1046_265 k13 ?_
      refine zu_iload_n d_1046_268 rfl ?_
      obtain ⟨b14, e15, h⟩ := h
      refine zs_stk1 (zs_rfe e15) ?_
      obtain ⟨k16, h⟩ := h
      refine zu_iald (k := 0) d_1046_269 rfl rfl k16 ?_
      refine zu_iconst d_1046_270 zi_m1 ?_
      refine zu_aload d_1046_271 rfl (zs_rr _) ?_
      refine zu_aload_n d_1046_273 rfl (zs_ra _) ?_
      refine zg_1_36 rfl d_1046_274 k13 ?_
      refine zu_iload_n d_1046_277 rfl ?_
      obtain ⟨b17, e18, h⟩ := h
      refine zs_stk1 (zs_rfe e18) ?_
      obtain ⟨k19, h⟩ := h
      refine zu_lald (k := 3) d_1046_278 rfl rfl k19 ?_
      refine zu_iload d_1046_279 rfl ?_
      refine zc_1_273 (x0 := (zs_i S b14 p2.toNatClampNeg)) (x1 := (-1 : Int32)) (x2 := p5) (x3 := (zs_j S b17 p3.toNatClampNeg)) (x4 := p4) hB rfl k13 d_1046_281 (Nat.le_of_ble_eq_true rfl) h (fun v21 S20 h => ?_)
      refine zu_ifne (t := 431) d_1046_284 rfl (fun c22 => ?_) (fun c22 => ?_)
      · have h := h.1 c22
        exact (u_X2_param_431 hB h).weak trivial
      · have h := h.2 c22
        exact (u_X2_param_287 hB h).weak trivial
  · have h := h.2 c1
    refine zu_aload_n d_1046_237 rfl (zs_ra _) ?_
    obtain ⟨k23, h⟩ := h
    refine zg_1_17 rfl d_1046_238 k23 ?_
    refine zu_aload_n d_1046_241 rfl (zs_ra _) ?_
    refine zg_1_49 rfl d_1046_242 k23 ?_
    refine zu_iload_n d_1046_245 rfl ?_
    obtain ⟨b24, e25, h⟩ := h
    refine zs_stk1 (zs_rfe e25) ?_
    obtain ⟨k26, h⟩ := h
    refine zu_iald (k := 0) d_1046_246 rfl rfl k26 ?_
    refine zu_iload d_1046_247 rfl ?_
    refine zu_stk d_1046_249 rfl rfl ?_
    refine zu_iconst d_1046_250 zi_0 ?_
    obtain ⟨b27, e28, h⟩ := h
    refine zs_stk2 (zs_rfe e28) ?_
    obtain ⟨k29, h⟩ := h
    obtain ⟨k30, h⟩ := h
    refine zu_bast_bool (k := 2) d_1046_251 rfl rfl k30 k29 ?_
    generalize e32 : zs_si S b27 ((zs_i S b24 p2.toNatClampNeg) + p11).toNatClampNeg (vp_nar .boolean (0 : Int32)) = S31
    have h := h S31 e32.symm
    have K33 : ∀ b, zs_K S31 b = zs_K S b := zs_Kt e32 (zs_Ksi _ _ _ _) (fun _ => rfl)
    refine zu_iinc d_1046_252 rfl zi_1 (zs_lt zq_1046 rfl) ?_
    exact (u_X2_param_255 hB h).weak ⟨rfl, rfl, rfl, rfl, rfl, rfl, rfl, rfl, rfl, rfl, trivial⟩
def w_X2_param_382 (X : zs_X) (d : Nat) (p0 : Nat) (p2 : Int32) (p3 : Int32) (p4 : Int32) (p5 : Option Nat) (p6 : Int32) (p8 : Int64) (S : zs_T) (Q : zs_Q) : Prop :=
  (zs_K S p0 = some (.inl 1) ∧ ∃ b2, (zs_R S 1013 p0) = some b2 ∧ zs_A S b2 0 p2 ∧ zs_C X d 1027 [.ref p0, va_rf p5, .int (zs_i S b2 p2.toNatClampNeg), .int p6] S (zs_kI (fun v6 S5 => (((¬ v6 = 0 → (zs_K S5 p0 = some (.inl 1) ∧ ∃ b9, (zs_R S5 1005 p0) = some b9 ∧ zs_A S5 b9 3 p3 ∧ ∃ b12, (zs_R S5 1012 p0) = some b12 ∧ zs_A S5 b12 0 p2 ∧ zs_C X d 1029 [.ref p0, .int (((zs_j S5 b9 p3.toNatClampNeg)).toInt32), .int (zs_i S5 b12 p2.toNatClampNeg), .int ((p8).toInt32)] S5 (zs_kV (fun S15 => w_X2_param_431 X d  S15 Q) Q))) ∧ (¬ (¬ v6 = 0) → (zs_K S5 p0 = some (.inl 1) ∧ zs_C X d 1004 [.ref p0, .int (9 : Int32), .int p4] S5 (zs_kI (fun v19 S18 => (w_X2_param_431 X d  S18 Q)) Q)))))) Q))
theorem u_X2_param_382 {σ : Nat → Nat} {n0 : Nat} {bf : ab_B} {d : Nat} {p0 : Nat} {p2 : Int32} {p3 : Int32} {p4 : Int32} {p5 : Option Nat} {p6 : Int32} {p8 : Int64} {S : zs_T} {Q : zs_Q} (hB : zt_B bf) (h : w_X2_param_382 (zx σ n0 bf) d p0 p2 p3 p4 p5 p6 p8 S Q) : zs_U (zx σ n0 bf) d 1046 382 [(0, .ref p0), (2, .int p2), (3, .int p3), (4, .int p4), (5, va_rf p5), (6, .int p6), (8, .long p8)] [] S Q := by
  unfold w_X2_param_382 at h
  refine zu_aload_n d_1046_382 rfl (zs_ra _) ?_
  refine zu_aload d_1046_383 rfl (zs_rr _) ?_
  refine zu_aload_n d_1046_385 rfl (zs_ra _) ?_
  obtain ⟨k1, h⟩ := h
  refine zg_1_52 rfl d_1046_386 k1 ?_
  refine zu_iload_n d_1046_389 rfl ?_
  obtain ⟨b2, e3, h⟩ := h
  refine zs_stk1 (zs_rfe e3) ?_
  obtain ⟨k4, h⟩ := h
  refine zu_iald (k := 0) d_1046_390 rfl rfl k4 ?_
  refine zu_iload d_1046_391 rfl ?_
  refine zc_1_404 (x0 := p5) (x1 := (zs_i S b2 p2.toNatClampNeg)) (x2 := p6) hB rfl k1 d_1046_393 (Nat.le_of_ble_eq_true rfl) h (fun v6 S5 h => ?_)
  refine zu_ifne (t := 411) d_1046_396 rfl (fun c7 => ?_) (fun c7 => ?_)
  · have h := h.1 c7
    refine zu_aload_n d_1046_411 rfl (zs_ra _) ?_
    refine zu_aload_n d_1046_412 rfl (zs_ra _) ?_
    obtain ⟨k8, h⟩ := h
    refine zg_1_36 rfl d_1046_413 k8 ?_
    refine zu_iload_n d_1046_416 rfl ?_
    obtain ⟨b9, e10, h⟩ := h
    refine zs_stk1 (zs_rfe e10) ?_
    obtain ⟨k11, h⟩ := h
    refine zu_lald (k := 3) d_1046_417 rfl rfl k11 ?_
    refine zu_stk d_1046_418 rfl rfl ?_
    refine zu_aload_n d_1046_419 rfl (zs_ra _) ?_
    refine zg_1_49 rfl d_1046_420 k8 ?_
    refine zu_iload_n d_1046_423 rfl ?_
    obtain ⟨b12, e13, h⟩ := h
    refine zs_stk1 (zs_rfe e13) ?_
    obtain ⟨k14, h⟩ := h
    refine zu_iald (k := 0) d_1046_424 rfl rfl k14 ?_
    refine zu_lload d_1046_425 rfl ?_
    refine zu_stk d_1046_427 rfl rfl ?_
    refine zc_1_412 (x0 := (((zs_j S5 b9 p3.toNatClampNeg)).toInt32)) (x1 := (zs_i S5 b12 p2.toNatClampNeg)) (x2 := ((p8).toInt32)) hB rfl k8 d_1046_428 (Nat.le_of_ble_eq_true rfl) h (fun S15 h => ?_)
    exact (u_X2_param_431 hB h).weak trivial
  · have h := h.2 c7
    refine zu_aload_n d_1046_399 rfl (zs_ra _) ?_
    refine zu_bipush d_1046_400 zj_9 ?_
    refine zu_iload d_1046_402 rfl ?_
    obtain ⟨k17, h⟩ := h
    refine zc_1_194 (x0 := (9 : Int32)) (x1 := p4) hB rfl k17 d_1046_404 (Nat.le_of_ble_eq_true rfl) h (fun v19 S18 h => ?_)
    refine zu_pop d_1046_407 rfl ?_
    refine zu_goto (t := 431) d_1046_408 rfl ?_
    exact (u_X2_param_431 hB h).weak trivial
def w_X2_param_350 (X : zs_X) (d : Nat) (p0 : Nat) (p2 : Int32) (p3 : Int32) (p4 : Int32) (p5 : Option Nat) (p6 : Int32) (p8 : Int64) (p10 : Int32) (p11 : Int32) (S : zs_T) (Q : zs_Q) : Prop :=
  (zs_U X d 1046 319 [(0, .ref p0), (2, .int p2), (3, .int p3), (4, .int p4), (5, va_rf p5), (6, .int p6), (8, .long p8), (10, .int p10), (11, .int (p11 + (1 : Int32)))] [] S Q)
theorem u_X2_param_350 {σ : Nat → Nat} {n0 : Nat} {bf : ab_B} {d : Nat} {p0 : Nat} {p2 : Int32} {p3 : Int32} {p4 : Int32} {p5 : Option Nat} {p6 : Int32} {p8 : Int64} {p10 : Int32} {p11 : Int32} {S : zs_T} {Q : zs_Q} (hB : zt_B bf) (h : w_X2_param_350 (zx σ n0 bf) d p0 p2 p3 p4 p5 p6 p8 p10 p11 S Q) : zs_U (zx σ n0 bf) d 1046 350 [(0, .ref p0), (2, .int p2), (3, .int p3), (4, .int p4), (5, va_rf p5), (6, .int p6), (8, .long p8), (10, .int p10), (11, .int p11)] [] S Q := by
  unfold w_X2_param_350 at h
  refine zu_iinc d_1046_350 rfl zi_1 (zs_lt zq_1046 rfl) ?_
  refine zu_goto (t := 319) d_1046_353 rfl ?_
  exact h.weak ⟨rfl, rfl, rfl, rfl, rfl, rfl, rfl, rfl, rfl, trivial⟩
def w_X2_param_319 (X : zs_X) (d : Nat) (p0 : Nat) (p2 : Int32) (p3 : Int32) (p4 : Int32) (p5 : Option Nat) (p6 : Int32) (p8 : Int64) (p10 : Int32) (p11 : Int32) (S : zs_T) (Q : zs_Q) : Prop :=
  (((p10 ≤ p11 → (∃ b2, p5 = some b2 ∧ zs_K S b2 = some (.inl 6) ∧ ((¬ (zs_I S 6000 b2) = (11 : Int32) → w_X2_param_382 X d p0 p2 p3 p4 p5 p6 p8 S Q) ∧ (¬ (¬ (zs_I S 6000 b2) = (11 : Int32)) → (zs_K S p0 = some (.inl 1) ∧ ∃ b7, (zs_R S 1013 p0) = some b7 ∧ zs_A S b7 0 p2 ∧ ∃ b10, (zs_R S 1004 p0) = some b10 ∧ zs_K S b10 = some (.inl 2) ∧ zs_C X d 2010 [.ref b10, va_rf p5, .int (-1 : Int32), .int (zs_i S b7 p2.toNatClampNeg)] S (zs_kV (fun S13 => w_X2_param_382 X d p0 p2 p3 p4 p5 p6 p8 S13 Q) Q)))))) ∧ (¬ (p10 ≤ p11) → (zs_K S p0 = some (.inl 1) ∧ ∃ b16, (zs_R S 1013 p0) = some b16 ∧ zs_A S b16 0 p2 ∧ ∃ b19, (zs_R S 1001 p0) = some b19 ∧ zs_A S b19 3 (p6 + p11) ∧ zs_A S b19 3 ((zs_i S b16 p2.toNatClampNeg) + p11) ∧ ab_n0 X.1 ≤ b19 ∧ ∀ S24, S24 = zs_sj S b19 ((zs_i S b16 p2.toNatClampNeg) + p11).toNatClampNeg (zs_j S b19 (p6 + p11).toNatClampNeg) → w_X2_param_350 X d p0 p2 p3 p4 p5 p6 p8 p10 p11 S24 Q))))
theorem u_X2_param_319 {σ : Nat → Nat} {n0 : Nat} {bf : ab_B} {d : Nat} {p0 : Nat} {p2 : Int32} {p3 : Int32} {p4 : Int32} {p5 : Option Nat} {p6 : Int32} {p8 : Int64} {p10 : Int32} {p11 : Int32} {S : zs_T} {Q : zs_Q} (hB : zt_B bf) (h : w_X2_param_319 (zx σ n0 bf) d p0 p2 p3 p4 p5 p6 p8 p10 p11 S Q) : zs_U (zx σ n0 bf) d 1046 319 [(0, .ref p0), (2, .int p2), (3, .int p3), (4, .int p4), (5, va_rf p5), (6, .int p6), (8, .long p8), (10, .int p10), (11, .int p11)] [] S Q := by
  unfold w_X2_param_319 at h
  refine zu_iload d_1046_319 rfl ?_
  refine zu_iload d_1046_321 rfl ?_
  refine zu_cmpge (t := 356) d_1046_323 rfl (fun c1 => ?_) (fun c1 => ?_)
  · have h := h.1 c1
    refine zu_aload d_1046_356 rfl (zs_rr _) ?_
    obtain ⟨b2, e3, h⟩ := h
    refine zs_stk0 (zs_rfe e3) ?_
    obtain ⟨k4, h⟩ := h
    refine zg_1_374 rfl d_1046_358 k4 ?_
    refine zu_bipush d_1046_361 zj_11 ?_
    refine zu_cmpne (t := 382) d_1046_363 rfl (fun c5 => ?_) (fun c5 => ?_)
    · have h := h.1 c5
      exact (u_X2_param_382 hB h).weak ⟨rfl, rfl, rfl, rfl, rfl, rfl, rfl, trivial⟩
    · have h := h.2 c5
      refine zu_aload_n d_1046_366 rfl (zs_ra _) ?_
      obtain ⟨k6, h⟩ := h
      refine zg_1_31 rfl d_1046_367 k6 ?_
      refine zu_aload d_1046_370 rfl (zs_rr _) ?_
      refine zu_iconst d_1046_372 zi_m1 ?_
      refine zu_aload_n d_1046_373 rfl (zs_ra _) ?_
      refine zg_1_52 rfl d_1046_374 k6 ?_
      refine zu_iload_n d_1046_377 rfl ?_
      obtain ⟨b7, e8, h⟩ := h
      refine zs_stk1 (zs_rfe e8) ?_
      obtain ⟨k9, h⟩ := h
      refine zu_iald (k := 0) d_1046_378 rfl rfl k9 ?_
      obtain ⟨b10, e11, h⟩ := h
      refine zs_stk3 (zs_rfe e11) ?_
      obtain ⟨k12, h⟩ := h
      refine zc_1_296 (x0 := p5) (x1 := (-1 : Int32)) (x2 := (zs_i S b7 p2.toNatClampNeg)) hB rfl k12 d_1046_379 (Nat.le_of_ble_eq_true rfl) h (fun S13 h => ?_)
      exact (u_X2_param_382 hB h).weak ⟨rfl, rfl, rfl, rfl, rfl, rfl, rfl, trivial⟩
  · have h := h.2 c1
    refine zu_aload_n d_1046_326 rfl (zs_ra _) ?_
    obtain ⟨k15, h⟩ := h
    refine zg_1_10 rfl d_1046_327 k15 ?_
    refine zu_aload_n d_1046_330 rfl (zs_ra _) ?_
    refine zg_1_52 rfl d_1046_331 k15 ?_
    refine zu_iload_n d_1046_334 rfl ?_
    obtain ⟨b16, e17, h⟩ := h
    refine zs_stk1 (zs_rfe e17) ?_
    obtain ⟨k18, h⟩ := h
    refine zu_iald (k := 0) d_1046_335 rfl rfl k18 ?_
    refine zu_iload d_1046_336 rfl ?_
    refine zu_stk d_1046_338 rfl rfl ?_
    refine zu_aload_n d_1046_339 rfl (zs_ra _) ?_
    refine zg_1_10 rfl d_1046_340 k15 ?_
    refine zu_iload d_1046_343 rfl ?_
    refine zu_iload d_1046_345 rfl ?_
    refine zu_stk d_1046_347 rfl rfl ?_
    obtain ⟨b19, e20, h⟩ := h
    refine zs_stk1 (zs_rfe e20) ?_
    obtain ⟨k21, h⟩ := h
    refine zu_lald (k := 3) d_1046_348 rfl rfl k21 ?_
    refine zs_stk2 (zs_rfe e20) ?_
    obtain ⟨k22, h⟩ := h
    obtain ⟨k23, h⟩ := h
    refine zu_last (k := 3) d_1046_349 rfl rfl k23 k22 ?_
    generalize e25 : zs_sj S b19 ((zs_i S b16 p2.toNatClampNeg) + p11).toNatClampNeg (zs_j S b19 (p6 + p11).toNatClampNeg) = S24
    have h := h S24 e25.symm
    have K26 : ∀ b, zs_K S24 b = zs_K S b := zs_Kt e25 (zs_Ksj _ _ _ _) (fun _ => rfl)
    exact (u_X2_param_350 hB h).weak ⟨rfl, rfl, rfl, rfl, rfl, rfl, rfl, rfl, rfl, trivial⟩
def w_X2_param (X : zs_X) (d : Nat) (p0 : Nat) (p1 : Option Nat) (p2 : Int32) (p3 : Int32) (p4 : Int32) (S : zs_T) (Q : zs_Q) : Prop :=
  (∃ b1, p1 = some b1 ∧ zs_K S b1 = some (.inl 7) ∧ zs_K S p0 = some (.inl 1) ∧ ∃ b5, (zs_R S 1006 p0) = some b5 ∧ zs_A S b5 0 p3 ∧ (((zs_I S 7010 b1) = 0 → (zs_C X d 1048 [va_rf (zs_R S 7002 b1)] S (zs_kI (fun v10 S9 => (((v10 = 0 → w_X2_param_83 X d p0 p2 p3 p4 (zs_R S 7002 b1) (zs_i S b5 p3.toNatClampNeg) v10 S9 Q) ∧ (¬ (v10 = 0) → w_X2_param_79 X d p0 p2 p3 p4 (zs_R S 7002 b1) (zs_i S b5 p3.toNatClampNeg) v10 S9 Q)))) Q))) ∧ (¬ ((zs_I S 7010 b1) = 0) → (∃ b12, (zs_R S 7002 b1) = some b12 ∧ zs_K S b12 = some (.inl 6) ∧ ((¬ (zs_I S 6000 b12) = (11 : Int32) → w_X2_param_52 X d p0 p2 p3 (zs_i S b5 p3.toNatClampNeg) S Q) ∧ (¬ (¬ (zs_I S 6000 b12) = (11 : Int32)) → (zs_C X d 1047 [.ref p0, va_rf (zs_R S 7002 b1), .int (zs_i S b5 p3.toNatClampNeg)] S (zs_kI (fun v17 S16 => (((¬ v17 = 0 → w_X2_param_52 X d p0 p2 p3 (zs_i S b5 p3.toNatClampNeg) S16 Q) ∧ (¬ (¬ v17 = 0) → w_X2_param_42 X d p0 p4 S16 Q)))) Q))))))))
theorem u_X2_param {σ : Nat → Nat} {n0 : Nat} {bf : ab_B} {d : Nat} {p0 : Nat} {p1 : Option Nat} {p2 : Int32} {p3 : Int32} {p4 : Int32} {S : zs_T} {Q : zs_Q} (hB : zt_B bf) (hd : 1 ≤ d) (h : w_X2_param (zx σ n0 bf) (d - 1) p0 p1 p2 p3 p4 S Q) : zs_C (zx σ n0 bf) d 1046 [.ref p0, va_rf p1, .int p2, .int p3, .int p4] S Q := by
  have hL : lv_args 0 [.ref p0, va_rf p1, .int p2, .int p3, .int p4] = [(0, .ref p0), (1, va_rf p1), (2, .int p2), (3, .int p3), (4, .int p4)] := by simp [lv_args, zs_cat, zs_cI, zs_cJ, zs_cA]
  refine zs_C.of1 (hB.2 1046 (by decide) (by decide)) hd (by rw [hL]; exact zs_sub_self _ (by exact ⟨rfl, rfl, rfl, rfl, rfl, trivial⟩)) ?_
  rw [hL]
  clear hL
  unfold w_X2_param at h
  refine zu_aload_n d_1046_0 rfl (zs_rr _) ?_
  obtain ⟨b1, e2, h⟩ := h
  refine zs_stk0 (zs_rfe e2) ?_
  obtain ⟨k3, h⟩ := h
  refine zg_1_522 rfl d_1046_1 k3 ?_
  refine zu_astore d_1046_4 (zs_rr _) (zs_lt zq_1046 rfl) ?_
  refine zu_aload_n d_1046_6 rfl (zs_ra _) ?_
  obtain ⟨k4, h⟩ := h
  refine zg_1_39 rfl d_1046_7 k4 ?_
  refine zu_iload_n d_1046_10 rfl ?_
  obtain ⟨b5, e6, h⟩ := h
  refine zs_stk1 (zs_rfe e6) ?_
  obtain ⟨k7, h⟩ := h
  refine zu_iald (k := 0) d_1046_11 rfl rfl k7 ?_
  refine zu_istore d_1046_12 (zs_lt zq_1046 rfl) ?_
  refine zs_U.weak (L1 := [(6, .int (zs_i S b5 p3.toNatClampNeg)), (0, .ref p0), (1, va_rf p1), (2, .int p2), (3, .int p3), (4, .int p4), (5, va_rf (zs_R S 7002 b1))]) ?_ ⟨rfl, zs_gp1 rfl (Or.inl rfl) rfl, zs_gp1 rfl (Or.inl (zs_cat _)) rfl, zs_gp1 rfl (Or.inl rfl) rfl, zs_gp1 rfl (Or.inl rfl) rfl, zs_gp1 rfl (Or.inl rfl) rfl, zs_gp1 rfl (Or.inl (zs_cat _)) rfl, trivial⟩
  refine zu_aload_n d_1046_14 rfl (zs_rr _) ?_
  refine zs_stk0 (zs_rfe e2) ?_
  refine zg_1_519 rfl d_1046_15 k3 ?_
  refine zu_ifeq (t := 67) d_1046_18 rfl (fun c8 => ?_) (fun c8 => ?_)
  · have h := h.1 c8
    refine zu_aload d_1046_67 rfl (zs_rr _) ?_
    refine zc_1_531 (x0 := (zs_R S 7002 b1)) hB rfl d_1046_69 (Nat.le_of_ble_eq_true rfl) h (fun v10 S9 h => ?_)
    refine zu_istore d_1046_72 (zs_lt zq_1046 rfl) ?_
    refine zu_iload d_1046_74 rfl ?_
    refine zu_ifeq (t := 83) d_1046_76 rfl (fun c11 => ?_) (fun c11 => ?_)
    · have h := h.1 c11
      exact (u_X2_param_83 hB h).weak ⟨rfl, rfl, rfl, rfl, rfl, rfl, rfl, trivial⟩
    · have h := h.2 c11
      exact (u_X2_param_79 hB h).weak ⟨rfl, rfl, rfl, rfl, rfl, rfl, rfl, trivial⟩
  · have h := h.2 c8
    refine zu_aload d_1046_21 rfl (zs_rr _) ?_
    obtain ⟨b12, e13, h⟩ := h
    refine zs_stk0 (zs_rfe e13) ?_
    obtain ⟨k14, h⟩ := h
    refine zg_1_374 rfl d_1046_23 k14 ?_
    refine zu_bipush d_1046_26 zj_11 ?_
    refine zu_cmpne (t := 52) d_1046_28 rfl (fun c15 => ?_) (fun c15 => ?_)
    · have h := h.1 c15
      exact (u_X2_param_52 hB h).weak ⟨rfl, rfl, rfl, rfl, trivial⟩
    · have h := h.2 c15
      refine zu_aload_n d_1046_31 rfl (zs_ra _) ?_
      refine zu_aload d_1046_32 rfl (zs_rr _) ?_
      refine zu_iload d_1046_34 rfl ?_
      refine zc_1_527 (x0 := (zs_R S 7002 b1)) (x1 := (zs_i S b5 p3.toNatClampNeg)) hB rfl k4 d_1046_36 (Nat.le_of_ble_eq_true rfl) h (fun v17 S16 h => ?_)
      refine zu_ifne (t := 52) d_1046_39 rfl (fun c18 => ?_) (fun c18 => ?_)
      · have h := h.1 c18
        exact (u_X2_param_52 hB h).weak ⟨rfl, rfl, rfl, rfl, trivial⟩
      · have h := h.2 c18
        exact (u_X2_param_42 hB h).weak ⟨rfl, rfl, trivial⟩
/-! SchemaPascal$Machine.isGiven(LSchemaPascal$Type;I)Z -/
theorem zm_1047 {σ : Nat → Nat} {n0 : Nat} {bf : ab_B} : ab_code (zx σ n0 bf).1 1047 = prog_5_method_51_code := rfl
theorem zq_1047 {σ : Nat → Nat} {n0 : Nat} {bf : ab_B} : ab_maxL (zx σ n0 bf).1 1047 = 4 := rfl
theorem zr_1047 {σ : Nat → Nat} {n0 : Nat} {bf : ab_B} : ab_ret (zx σ n0 bf).1 1047 = (Option.some Jvm.ClassFile.FieldType.boolean) := rfl
theorem d_1047_0 {σ : Nat → Nat} {n0 : Nat} {bf : ab_B} : decode (ab_code (zx σ n0 bf).1 1047) 0 = .ok (.aload_n 0, 1) := zd zm_1047 (by decide +kernel)
theorem d_1047_1 {σ : Nat → Nat} {n0 : Nat} {bf : ab_B} : decode (ab_code (zx σ n0 bf).1 1047) 1 = .ok (.getfield 31, 3) := zd zm_1047 (by decide +kernel)
theorem d_1047_4 {σ : Nat → Nat} {n0 : Nat} {bf : ab_B} : decode (ab_code (zx σ n0 bf).1 1047) 4 = .ok (.getfield 295, 3) := zd zm_1047 (by decide +kernel)
theorem d_1047_7 {σ : Nat → Nat} {n0 : Nat} {bf : ab_B} : decode (ab_code (zx σ n0 bf).1 1047) 7 = .ok (.istore_n 3, 1) := zd zm_1047 (by decide +kernel)
theorem d_1047_8 {σ : Nat → Nat} {n0 : Nat} {bf : ab_B} : decode (ab_code (zx σ n0 bf).1 1047) 8 = .ok (.aload_n 0, 1) := zd zm_1047 (by decide +kernel)
theorem d_1047_9 {σ : Nat → Nat} {n0 : Nat} {bf : ab_B} : decode (ab_code (zx σ n0 bf).1 1047) 9 = .ok (.getfield 31, 3) := zd zm_1047 (by decide +kernel)
theorem d_1047_12 {σ : Nat → Nat} {n0 : Nat} {bf : ab_B} : decode (ab_code (zx σ n0 bf).1 1047) 12 = .ok (.aload_n 1, 1) := zd zm_1047 (by decide +kernel)
theorem d_1047_13 {σ : Nat → Nat} {n0 : Nat} {bf : ab_B} : decode (ab_code (zx σ n0 bf).1 1047) 13 = .ok (.iconst (-1), 1) := zd zm_1047 (by decide +kernel)
theorem d_1047_14 {σ : Nat → Nat} {n0 : Nat} {bf : ab_B} : decode (ab_code (zx σ n0 bf).1 1047) 14 = .ok (.iload_n 3, 1) := zd zm_1047 (by decide +kernel)
theorem d_1047_15 {σ : Nat → Nat} {n0 : Nat} {bf : ab_B} : decode (ab_code (zx σ n0 bf).1 1047) 15 = .ok (.invokevirtual 296, 3) := zd zm_1047 (by decide +kernel)
theorem d_1047_18 {σ : Nat → Nat} {n0 : Nat} {bf : ab_B} : decode (ab_code (zx σ n0 bf).1 1047) 18 = .ok (.aload_n 0, 1) := zd zm_1047 (by decide +kernel)
theorem d_1047_19 {σ : Nat → Nat} {n0 : Nat} {bf : ab_B} : decode (ab_code (zx σ n0 bf).1 1047) 19 = .ok (.aload_n 1, 1) := zd zm_1047 (by decide +kernel)
theorem d_1047_20 {σ : Nat → Nat} {n0 : Nat} {bf : ab_B} : decode (ab_code (zx σ n0 bf).1 1047) 20 = .ok (.iload_n 3, 1) := zd zm_1047 (by decide +kernel)
theorem d_1047_21 {σ : Nat → Nat} {n0 : Nat} {bf : ab_B} : decode (ab_code (zx σ n0 bf).1 1047) 21 = .ok (.iload_n 2, 1) := zd zm_1047 (by decide +kernel)
theorem d_1047_22 {σ : Nat → Nat} {n0 : Nat} {bf : ab_B} : decode (ab_code (zx σ n0 bf).1 1047) 22 = .ok (.invokevirtual 404, 3) := zd zm_1047 (by decide +kernel)
theorem d_1047_25 {σ : Nat → Nat} {n0 : Nat} {bf : ab_B} : decode (ab_code (zx σ n0 bf).1 1047) 25 = .ok (.ireturn, 1) := zd zm_1047 (by decide +kernel)
def w_X2_isGiven (X : zs_X) (d : Nat) (p0 : Nat) (p1 : Option Nat) (p2 : Int32) (S : zs_T) (Q : zs_Q) : Prop :=
  (zs_K S p0 = some (.inl 1) ∧ ∃ b2, (zs_R S 1004 p0) = some b2 ∧ zs_K S b2 = some (.inl 2) ∧ zs_C X d 2010 [.ref b2, va_rf p1, .int (-1 : Int32), .int (zs_I S 2001 b2)] S (zs_kV (fun S5 => (zs_K S5 p0 = some (.inl 1) ∧ zs_C X d 1027 [.ref p0, va_rf p1, .int (zs_I S 2001 b2), .int p2] S5 (zs_kI (fun v9 S8 => (zs_b v9 ∧ Q (.returned (some (.int v9))) S8)) Q))) Q))
theorem u_X2_isGiven {σ : Nat → Nat} {n0 : Nat} {bf : ab_B} {d : Nat} {p0 : Nat} {p1 : Option Nat} {p2 : Int32} {S : zs_T} {Q : zs_Q} (hB : zt_B bf) (hd : 1 ≤ d) (h : w_X2_isGiven (zx σ n0 bf) (d - 1) p0 p1 p2 S Q) : zs_C (zx σ n0 bf) d 1047 [.ref p0, va_rf p1, .int p2] S Q := by
  have hL : lv_args 0 [.ref p0, va_rf p1, .int p2] = [(0, .ref p0), (1, va_rf p1), (2, .int p2)] := by simp [lv_args, zs_cat, zs_cI, zs_cJ, zs_cA]
  refine zs_C.of1 (hB.2 1047 (by decide) (by decide)) hd (by rw [hL]; exact zs_sub_self _ (by exact ⟨rfl, rfl, rfl, trivial⟩)) ?_
  rw [hL]
  clear hL
  unfold w_X2_isGiven at h
  refine zu_aload_n d_1047_0 rfl (zs_ra _) ?_
  obtain ⟨k1, h⟩ := h
  refine zg_1_31 rfl d_1047_1 k1 ?_
  obtain ⟨b2, e3, h⟩ := h
  refine zs_stk0 (zs_rfe e3) ?_
  obtain ⟨k4, h⟩ := h
  refine zg_1_295 rfl d_1047_4 k4 ?_
  refine zu_istore_n d_1047_7 (zs_lt zq_1047 rfl) ?_
  refine zu_aload_n d_1047_8 rfl (zs_ra _) ?_
  refine zg_1_31 rfl d_1047_9 k1 ?_
  refine zu_aload_n d_1047_12 rfl (zs_rr _) ?_
  refine zu_iconst d_1047_13 zi_m1 ?_
  refine zu_iload_n d_1047_14 rfl ?_
  refine zs_stk3 (zs_rfe e3) ?_
  refine zc_1_296 (x0 := p1) (x1 := (-1 : Int32)) (x2 := (zs_I S 2001 b2)) hB rfl k4 d_1047_15 (Nat.le_of_ble_eq_true rfl) h (fun S5 h => ?_)
  refine zu_aload_n d_1047_18 rfl (zs_ra _) ?_
  refine zu_aload_n d_1047_19 rfl (zs_rr _) ?_
  refine zu_iload_n d_1047_20 rfl ?_
  refine zu_iload_n d_1047_21 rfl ?_
  obtain ⟨k7, h⟩ := h
  refine zc_1_404 (x0 := p1) (x1 := (zs_I S 2001 b2)) (x2 := p2) hB rfl k7 d_1047_22 (Nat.le_of_ble_eq_true rfl) h (fun v9 S8 h => ?_)
  obtain ⟨k10, h⟩ := h
  exact zu_iret d_1047_25 zr_1047 (zs_b_n k10) h
/-! SchemaPascal$Machine.isSimple(LSchemaPascal$Type;)Z -/
theorem zm_1048 {σ : Nat → Nat} {n0 : Nat} {bf : ab_B} : ab_code (zx σ n0 bf).1 1048 = prog_5_method_47_code := rfl
theorem zq_1048 {σ : Nat → Nat} {n0 : Nat} {bf : ab_B} : ab_maxL (zx σ n0 bf).1 1048 = 1 := rfl
theorem zr_1048 {σ : Nat → Nat} {n0 : Nat} {bf : ab_B} : ab_ret (zx σ n0 bf).1 1048 = (Option.some Jvm.ClassFile.FieldType.boolean) := rfl
theorem d_1048_0 {σ : Nat → Nat} {n0 : Nat} {bf : ab_B} : decode (ab_code (zx σ n0 bf).1 1048) 0 = .ok (.aload_n 0, 1) := zd zm_1048 (by decide +kernel)
theorem d_1048_1 {σ : Nat → Nat} {n0 : Nat} {bf : ab_B} : decode (ab_code (zx σ n0 bf).1 1048) 1 = .ok (.invokevirtual 508, 3) := zd zm_1048 (by decide +kernel)
theorem d_1048_4 {σ : Nat → Nat} {n0 : Nat} {bf : ab_B} : decode (ab_code (zx σ n0 bf).1 1048) 4 = .ok (.ifCond .ne 20, 3) := zd zm_1048 (by decide +kernel)
theorem d_1048_7 {σ : Nat → Nat} {n0 : Nat} {bf : ab_B} : decode (ab_code (zx σ n0 bf).1 1048) 7 = .ok (.aload_n 0, 1) := zd zm_1048 (by decide +kernel)
theorem d_1048_8 {σ : Nat → Nat} {n0 : Nat} {bf : ab_B} : decode (ab_code (zx σ n0 bf).1 1048) 8 = .ok (.getfield 374, 3) := zd zm_1048 (by decide +kernel)
theorem d_1048_11 {σ : Nat → Nat} {n0 : Nat} {bf : ab_B} : decode (ab_code (zx σ n0 bf).1 1048) 11 = .ok (.iconst 5, 1) := zd zm_1048 (by decide +kernel)
theorem d_1048_12 {σ : Nat → Nat} {n0 : Nat} {bf : ab_B} : decode (ab_code (zx σ n0 bf).1 1048) 12 = .ok (.if_icmp .eq 12, 3) := zd zm_1048 (by decide +kernel)
theorem d_1048_15 {σ : Nat → Nat} {n0 : Nat} {bf : ab_B} : decode (ab_code (zx σ n0 bf).1 1048) 15 = .ok (.aload_n 0, 1) := zd zm_1048 (by decide +kernel)
theorem d_1048_16 {σ : Nat → Nat} {n0 : Nat} {bf : ab_B} : decode (ab_code (zx σ n0 bf).1 1048) 16 = .ok (.getfield 374, 3) := zd zm_1048 (by decide +kernel)
theorem d_1048_19 {σ : Nat → Nat} {n0 : Nat} {bf : ab_B} : decode (ab_code (zx σ n0 bf).1 1048) 19 = .ok (.bipush 9, 2) := zd zm_1048 (by decide +kernel)
theorem d_1048_21 {σ : Nat → Nat} {n0 : Nat} {bf : ab_B} : decode (ab_code (zx σ n0 bf).1 1048) 21 = .ok (.if_icmp .ne 7, 3) := zd zm_1048 (by decide +kernel)
theorem d_1048_24 {σ : Nat → Nat} {n0 : Nat} {bf : ab_B} : decode (ab_code (zx σ n0 bf).1 1048) 24 = .ok (.iconst 1, 1) := zd zm_1048 (by decide +kernel)
theorem d_1048_25 {σ : Nat → Nat} {n0 : Nat} {bf : ab_B} : decode (ab_code (zx σ n0 bf).1 1048) 25 = .ok (.goto 4, 3) := zd zm_1048 (by decide +kernel)
theorem d_1048_28 {σ : Nat → Nat} {n0 : Nat} {bf : ab_B} : decode (ab_code (zx σ n0 bf).1 1048) 28 = .ok (.iconst 0, 1) := zd zm_1048 (by decide +kernel)
theorem d_1048_29 {σ : Nat → Nat} {n0 : Nat} {bf : ab_B} : decode (ab_code (zx σ n0 bf).1 1048) 29 = .ok (.ireturn, 1) := zd zm_1048 (by decide +kernel)
def w_X2_isSimple (X : zs_X) (d : Nat) (p0 : Option Nat) (S : zs_T) (Q : zs_Q) : Prop :=
  (∃ b1, p0 = some b1 ∧ zs_K S b1 = some (.inl 6) ∧ zs_C X d 6002 [.ref b1] S (zs_kI (fun v5 S4 => (((¬ v5 = 0 → (Q (.returned (some (.int (1 : Int32)))) S4)) ∧ (¬ (¬ v5 = 0) → (zs_K S4 b1 = some (.inl 6) ∧ (((zs_I S4 6000 b1) = (5 : Int32) → (Q (.returned (some (.int (1 : Int32)))) S4)) ∧ (¬ ((zs_I S4 6000 b1) = (5 : Int32)) → (((¬ (zs_I S4 6000 b1) = (9 : Int32) → (Q (.returned (some (.int (0 : Int32)))) S4)) ∧ (¬ (¬ (zs_I S4 6000 b1) = (9 : Int32)) → (Q (.returned (some (.int (1 : Int32)))) S4))))))))))) Q))
theorem u_X2_isSimple {σ : Nat → Nat} {n0 : Nat} {bf : ab_B} {d : Nat} {p0 : Option Nat} {S : zs_T} {Q : zs_Q} (hB : zt_B bf) (hd : 1 ≤ d) (h : w_X2_isSimple (zx σ n0 bf) (d - 1) p0 S Q) : zs_C (zx σ n0 bf) d 1048 [va_rf p0] S Q := by
  have hL : lv_args 0 [va_rf p0] = [(0, va_rf p0)] := by simp [lv_args, zs_cat, zs_cI, zs_cJ, zs_cA]
  refine zs_C.of1 (hB.2 1048 (by decide) (by decide)) hd (by rw [hL]; exact zs_sub_self _ (by exact ⟨rfl, trivial⟩)) ?_
  rw [hL]
  clear hL
  unfold w_X2_isSimple at h
  refine zu_aload_n d_1048_0 rfl (zs_rr _) ?_
  obtain ⟨b1, e2, h⟩ := h
  refine zs_stk0 (zs_rfe e2) ?_
  obtain ⟨k3, h⟩ := h
  refine zc_1_508  hB rfl k3 d_1048_1 (Nat.le_of_ble_eq_true rfl) h (fun v5 S4 h => ?_)
  refine zu_ifne (t := 24) d_1048_4 rfl (fun c6 => ?_) (fun c6 => ?_)
  · have h := h.1 c6
    refine zu_iconst d_1048_24 zi_1 ?_
    refine zu_goto (t := 29) d_1048_25 rfl ?_
    exact zu_iret d_1048_29 zr_1048 (zs_b_n (Or.inr rfl)) h
  · have h := h.2 c6
    refine zu_aload_n d_1048_7 rfl (zs_rr _) ?_
    refine zs_stk0 (zs_rfe e2) ?_
    obtain ⟨k7, h⟩ := h
    refine zg_1_374 rfl d_1048_8 k7 ?_
    refine zu_iconst d_1048_11 zi_5 ?_
    refine zu_cmpeq (t := 24) d_1048_12 rfl (fun c8 => ?_) (fun c8 => ?_)
    · have h := h.1 c8
      refine zu_iconst d_1048_24 zi_1 ?_
      refine zu_goto (t := 29) d_1048_25 rfl ?_
      exact zu_iret d_1048_29 zr_1048 (zs_b_n (Or.inr rfl)) h
    · have h := h.2 c8
      refine zu_aload_n d_1048_15 rfl (zs_rr _) ?_
      refine zs_stk0 (zs_rfe e2) ?_
      refine zg_1_374 rfl d_1048_16 k7 ?_
      refine zu_bipush d_1048_19 zj_9 ?_
      refine zu_cmpne (t := 28) d_1048_21 rfl (fun c9 => ?_) (fun c9 => ?_)
      · have h := h.1 c9
        refine zu_iconst d_1048_28 zi_0 ?_
        exact zu_iret d_1048_29 zr_1048 (zs_b_n (Or.inl rfl)) h
      · have h := h.2 c9
        refine zu_iconst d_1048_24 zi_1 ?_
        refine zu_goto (t := 29) d_1048_25 rfl ?_
        exact zu_iret d_1048_29 zr_1048 (zs_b_n (Or.inr rfl)) h
/-! SchemaPascal$Machine.textParam(LSchemaPascal$Type;III)V -/
theorem zm_1049 {σ : Nat → Nat} {n0 : Nat} {bf : ab_B} : ab_code (zx σ n0 bf).1 1049 = prog_5_method_50_code := rfl
theorem zq_1049 {σ : Nat → Nat} {n0 : Nat} {bf : ab_B} : ab_maxL (zx σ n0 bf).1 1049 = 7 := rfl
theorem zr_1049 {σ : Nat → Nat} {n0 : Nat} {bf : ab_B} : ab_ret (zx σ n0 bf).1 1049 = (Option.none : Option Jvm.ClassFile.FieldType) := rfl
theorem d_1049_0 {σ : Nat → Nat} {n0 : Nat} {bf : ab_B} : decode (ab_code (zx σ n0 bf).1 1049) 0 = .ok (.aload_n 0, 1) := zd zm_1049 (by decide +kernel)
theorem d_1049_1 {σ : Nat → Nat} {n0 : Nat} {bf : ab_B} : decode (ab_code (zx σ n0 bf).1 1049) 1 = .ok (.iload_n 3, 1) := zd zm_1049 (by decide +kernel)
theorem d_1049_2 {σ : Nat → Nat} {n0 : Nat} {bf : ab_B} : decode (ab_code (zx σ n0 bf).1 1049) 2 = .ok (.invokevirtual 443, 3) := zd zm_1049 (by decide +kernel)
theorem d_1049_5 {σ : Nat → Nat} {n0 : Nat} {bf : ab_B} : decode (ab_code (zx σ n0 bf).1 1049) 5 = .ok (.istore 5, 2) := zd zm_1049 (by decide +kernel)
theorem d_1049_7 {σ : Nat → Nat} {n0 : Nat} {bf : ab_B} : decode (ab_code (zx σ n0 bf).1 1049) 7 = .ok (.iload 5, 2) := zd zm_1049 (by decide +kernel)
theorem d_1049_9 {σ : Nat → Nat} {n0 : Nat} {bf : ab_B} : decode (ab_code (zx σ n0 bf).1 1049) 9 = .ok (.i2l, 1) := zd zm_1049 (by decide +kernel)
theorem d_1049_10 {σ : Nat → Nat} {n0 : Nat} {bf : ab_B} : decode (ab_code (zx σ n0 bf).1 1049) 10 = .ok (.aload_n 0, 1) := zd zm_1049 (by decide +kernel)
theorem d_1049_11 {σ : Nat → Nat} {n0 : Nat} {bf : ab_B} : decode (ab_code (zx σ n0 bf).1 1049) 11 = .ok (.getfield 31, 3) := zd zm_1049 (by decide +kernel)
theorem d_1049_14 {σ : Nat → Nat} {n0 : Nat} {bf : ab_B} : decode (ab_code (zx σ n0 bf).1 1049) 14 = .ok (.aload_n 1, 1) := zd zm_1049 (by decide +kernel)
theorem d_1049_15 {σ : Nat → Nat} {n0 : Nat} {bf : ab_B} : decode (ab_code (zx σ n0 bf).1 1049) 15 = .ok (.getfield 366, 3) := zd zm_1049 (by decide +kernel)
theorem d_1049_18 {σ : Nat → Nat} {n0 : Nat} {bf : ab_B} : decode (ab_code (zx σ n0 bf).1 1049) 18 = .ok (.iconst (-1), 1) := zd zm_1049 (by decide +kernel)
theorem d_1049_19 {σ : Nat → Nat} {n0 : Nat} {bf : ab_B} : decode (ab_code (zx σ n0 bf).1 1049) 19 = .ok (.invokevirtual 369, 3) := zd zm_1049 (by decide +kernel)
theorem d_1049_22 {σ : Nat → Nat} {n0 : Nat} {bf : ab_B} : decode (ab_code (zx σ n0 bf).1 1049) 22 = .ok (.lcmp, 1) := zd zm_1049 (by decide +kernel)
theorem d_1049_23 {σ : Nat → Nat} {n0 : Nat} {bf : ab_B} : decode (ab_code (zx σ n0 bf).1 1049) 23 = .ok (.ifCond .le 12, 3) := zd zm_1049 (by decide +kernel)
theorem d_1049_26 {σ : Nat → Nat} {n0 : Nat} {bf : ab_B} : decode (ab_code (zx σ n0 bf).1 1049) 26 = .ok (.aload_n 0, 1) := zd zm_1049 (by decide +kernel)
theorem d_1049_27 {σ : Nat → Nat} {n0 : Nat} {bf : ab_B} : decode (ab_code (zx σ n0 bf).1 1049) 27 = .ok (.iconst 2, 1) := zd zm_1049 (by decide +kernel)
theorem d_1049_28 {σ : Nat → Nat} {n0 : Nat} {bf : ab_B} : decode (ab_code (zx σ n0 bf).1 1049) 28 = .ok (.iload 4, 2) := zd zm_1049 (by decide +kernel)
theorem d_1049_30 {σ : Nat → Nat} {n0 : Nat} {bf : ab_B} : decode (ab_code (zx σ n0 bf).1 1049) 30 = .ok (.invokevirtual 194, 3) := zd zm_1049 (by decide +kernel)
theorem d_1049_33 {σ : Nat → Nat} {n0 : Nat} {bf : ab_B} : decode (ab_code (zx σ n0 bf).1 1049) 33 = .ok (.pop, 1) := zd zm_1049 (by decide +kernel)
theorem d_1049_34 {σ : Nat → Nat} {n0 : Nat} {bf : ab_B} : decode (ab_code (zx σ n0 bf).1 1049) 34 = .ok (.return_, 1) := zd zm_1049 (by decide +kernel)
theorem d_1049_35 {σ : Nat → Nat} {n0 : Nat} {bf : ab_B} : decode (ab_code (zx σ n0 bf).1 1049) 35 = .ok (.aload_n 0, 1) := zd zm_1049 (by decide +kernel)
theorem d_1049_36 {σ : Nat → Nat} {n0 : Nat} {bf : ab_B} : decode (ab_code (zx σ n0 bf).1 1049) 36 = .ok (.iload_n 2, 1) := zd zm_1049 (by decide +kernel)
theorem d_1049_37 {σ : Nat → Nat} {n0 : Nat} {bf : ab_B} : decode (ab_code (zx σ n0 bf).1 1049) 37 = .ok (.iload 5, 2) := zd zm_1049 (by decide +kernel)
theorem d_1049_39 {σ : Nat → Nat} {n0 : Nat} {bf : ab_B} : decode (ab_code (zx σ n0 bf).1 1049) 39 = .ok (.i2l, 1) := zd zm_1049 (by decide +kernel)
theorem d_1049_40 {σ : Nat → Nat} {n0 : Nat} {bf : ab_B} : decode (ab_code (zx σ n0 bf).1 1049) 40 = .ok (.ldc_w 365, 3) := zd zm_1049 (by decide +kernel)
theorem d_1049_43 {σ : Nat → Nat} {n0 : Nat} {bf : ab_B} : decode (ab_code (zx σ n0 bf).1 1049) 43 = .ok (.invokevirtual 385, 3) := zd zm_1049 (by decide +kernel)
theorem d_1049_46 {σ : Nat → Nat} {n0 : Nat} {bf : ab_B} : decode (ab_code (zx σ n0 bf).1 1049) 46 = .ok (.iconst 0, 1) := zd zm_1049 (by decide +kernel)
theorem d_1049_47 {σ : Nat → Nat} {n0 : Nat} {bf : ab_B} : decode (ab_code (zx σ n0 bf).1 1049) 47 = .ok (.istore 6, 2) := zd zm_1049 (by decide +kernel)
theorem d_1049_49 {σ : Nat → Nat} {n0 : Nat} {bf : ab_B} : decode (ab_code (zx σ n0 bf).1 1049) 49 = .ok (.iload 6, 2) := zd zm_1049 (by decide +kernel)
theorem d_1049_51 {σ : Nat → Nat} {n0 : Nat} {bf : ab_B} : decode (ab_code (zx σ n0 bf).1 1049) 51 = .ok (.iload 5, 2) := zd zm_1049 (by decide +kernel)
theorem d_1049_53 {σ : Nat → Nat} {n0 : Nat} {bf : ab_B} : decode (ab_code (zx σ n0 bf).1 1049) 53 = .ok (.if_icmp .ge 41, 3) := zd zm_1049 (by decide +kernel)
theorem d_1049_56 {σ : Nat → Nat} {n0 : Nat} {bf : ab_B} : decode (ab_code (zx σ n0 bf).1 1049) 56 = .ok (.aload_n 0, 1) := zd zm_1049 (by decide +kernel)
theorem d_1049_57 {σ : Nat → Nat} {n0 : Nat} {bf : ab_B} : decode (ab_code (zx σ n0 bf).1 1049) 57 = .ok (.iload_n 2, 1) := zd zm_1049 (by decide +kernel)
theorem d_1049_58 {σ : Nat → Nat} {n0 : Nat} {bf : ab_B} : decode (ab_code (zx σ n0 bf).1 1049) 58 = .ok (.iconst 1, 1) := zd zm_1049 (by decide +kernel)
theorem d_1049_59 {σ : Nat → Nat} {n0 : Nat} {bf : ab_B} : decode (ab_code (zx σ n0 bf).1 1049) 59 = .ok (.iadd, 1) := zd zm_1049 (by decide +kernel)
theorem d_1049_60 {σ : Nat → Nat} {n0 : Nat} {bf : ab_B} : decode (ab_code (zx σ n0 bf).1 1049) 60 = .ok (.iload 6, 2) := zd zm_1049 (by decide +kernel)
theorem d_1049_62 {σ : Nat → Nat} {n0 : Nat} {bf : ab_B} : decode (ab_code (zx σ n0 bf).1 1049) 62 = .ok (.iadd, 1) := zd zm_1049 (by decide +kernel)
theorem d_1049_63 {σ : Nat → Nat} {n0 : Nat} {bf : ab_B} : decode (ab_code (zx σ n0 bf).1 1049) 63 = .ok (.aload_n 0, 1) := zd zm_1049 (by decide +kernel)
theorem d_1049_64 {σ : Nat → Nat} {n0 : Nat} {bf : ab_B} : decode (ab_code (zx σ n0 bf).1 1049) 64 = .ok (.getfield 42, 3) := zd zm_1049 (by decide +kernel)
theorem d_1049_67 {σ : Nat → Nat} {n0 : Nat} {bf : ab_B} : decode (ab_code (zx σ n0 bf).1 1049) 67 = .ok (.aload_n 0, 1) := zd zm_1049 (by decide +kernel)
theorem d_1049_68 {σ : Nat → Nat} {n0 : Nat} {bf : ab_B} : decode (ab_code (zx σ n0 bf).1 1049) 68 = .ok (.getfield 46, 3) := zd zm_1049 (by decide +kernel)
theorem d_1049_71 {σ : Nat → Nat} {n0 : Nat} {bf : ab_B} : decode (ab_code (zx σ n0 bf).1 1049) 71 = .ok (.iload_n 3, 1) := zd zm_1049 (by decide +kernel)
theorem d_1049_72 {σ : Nat → Nat} {n0 : Nat} {bf : ab_B} : decode (ab_code (zx σ n0 bf).1 1049) 72 = .ok (.iaload, 1) := zd zm_1049 (by decide +kernel)
theorem d_1049_73 {σ : Nat → Nat} {n0 : Nat} {bf : ab_B} : decode (ab_code (zx σ n0 bf).1 1049) 73 = .ok (.iload 6, 2) := zd zm_1049 (by decide +kernel)
theorem d_1049_75 {σ : Nat → Nat} {n0 : Nat} {bf : ab_B} : decode (ab_code (zx σ n0 bf).1 1049) 75 = .ok (.iadd, 1) := zd zm_1049 (by decide +kernel)
theorem d_1049_76 {σ : Nat → Nat} {n0 : Nat} {bf : ab_B} : decode (ab_code (zx σ n0 bf).1 1049) 76 = .ok (.baload, 1) := zd zm_1049 (by decide +kernel)
theorem d_1049_77 {σ : Nat → Nat} {n0 : Nat} {bf : ab_B} : decode (ab_code (zx σ n0 bf).1 1049) 77 = .ok (.sipush 255, 3) := zd zm_1049 (by decide +kernel)
theorem d_1049_80 {σ : Nat → Nat} {n0 : Nat} {bf : ab_B} : decode (ab_code (zx σ n0 bf).1 1049) 80 = .ok (.iand, 1) := zd zm_1049 (by decide +kernel)
theorem d_1049_81 {σ : Nat → Nat} {n0 : Nat} {bf : ab_B} : decode (ab_code (zx σ n0 bf).1 1049) 81 = .ok (.i2l, 1) := zd zm_1049 (by decide +kernel)
theorem d_1049_82 {σ : Nat → Nat} {n0 : Nat} {bf : ab_B} : decode (ab_code (zx σ n0 bf).1 1049) 82 = .ok (.ldc_w 373, 3) := zd zm_1049 (by decide +kernel)
theorem d_1049_85 {σ : Nat → Nat} {n0 : Nat} {bf : ab_B} : decode (ab_code (zx σ n0 bf).1 1049) 85 = .ok (.invokevirtual 385, 3) := zd zm_1049 (by decide +kernel)
theorem d_1049_88 {σ : Nat → Nat} {n0 : Nat} {bf : ab_B} : decode (ab_code (zx σ n0 bf).1 1049) 88 = .ok (.iinc 6 1, 3) := zd zm_1049 (by decide +kernel)
theorem d_1049_91 {σ : Nat → Nat} {n0 : Nat} {bf : ab_B} : decode (ab_code (zx σ n0 bf).1 1049) 91 = .ok (.goto (-42), 3) := zd zm_1049 (by decide +kernel)
theorem d_1049_94 {σ : Nat → Nat} {n0 : Nat} {bf : ab_B} : decode (ab_code (zx σ n0 bf).1 1049) 94 = .ok (.return_, 1) := zd zm_1049 (by decide +kernel)
def w_X2_textParam_34 (X : zs_X) (d : Nat)  (S : zs_T) (Q : zs_Q) : Prop :=
  (Q (.returned none) S)
theorem u_X2_textParam_34 {σ : Nat → Nat} {n0 : Nat} {bf : ab_B} {d : Nat}  {S : zs_T} {Q : zs_Q} (hB : zt_B bf) (h : w_X2_textParam_34 (zx σ n0 bf) d  S Q) : zs_U (zx σ n0 bf) d 1049 34 [] [] S Q := by
  unfold w_X2_textParam_34 at h
  exact zu_vret d_1049_34 zr_1049 h
def w_X2_textParam_46 (X : zs_X) (d : Nat) (p0 : Nat) (p2 : Int32) (p3 : Int32) (p5 : Int32) (S : zs_T) (Q : zs_Q) : Prop :=
  (zs_U X d 1049 49 [(0, .ref p0), (2, .int p2), (3, .int p3), (5, .int p5), (6, .int (0 : Int32))] [] S Q)
theorem u_X2_textParam_46 {σ : Nat → Nat} {n0 : Nat} {bf : ab_B} {d : Nat} {p0 : Nat} {p2 : Int32} {p3 : Int32} {p5 : Int32} {S : zs_T} {Q : zs_Q} (hB : zt_B bf) (h : w_X2_textParam_46 (zx σ n0 bf) d p0 p2 p3 p5 S Q) : zs_U (zx σ n0 bf) d 1049 46 [(0, .ref p0), (2, .int p2), (3, .int p3), (5, .int p5)] [] S Q := by
  unfold w_X2_textParam_46 at h
  refine zu_iconst d_1049_46 zi_0 ?_
  refine zu_istore d_1049_47 (zs_lt zq_1049 rfl) ?_
  exact h.weak ⟨rfl, rfl, rfl, rfl, rfl, trivial⟩
def w_X2_textParam_88 (X : zs_X) (d : Nat) (p0 : Nat) (p2 : Int32) (p3 : Int32) (p5 : Int32) (p6 : Int32) (S : zs_T) (Q : zs_Q) : Prop :=
  (zs_U X d 1049 49 [(0, .ref p0), (2, .int p2), (3, .int p3), (5, .int p5), (6, .int (p6 + (1 : Int32)))] [] S Q)
theorem u_X2_textParam_88 {σ : Nat → Nat} {n0 : Nat} {bf : ab_B} {d : Nat} {p0 : Nat} {p2 : Int32} {p3 : Int32} {p5 : Int32} {p6 : Int32} {S : zs_T} {Q : zs_Q} (hB : zt_B bf) (h : w_X2_textParam_88 (zx σ n0 bf) d p0 p2 p3 p5 p6 S Q) : zs_U (zx σ n0 bf) d 1049 88 [(0, .ref p0), (2, .int p2), (3, .int p3), (5, .int p5), (6, .int p6)] [] S Q := by
  unfold w_X2_textParam_88 at h
  refine zu_iinc d_1049_88 rfl zi_1 (zs_lt zq_1049 rfl) ?_
  refine zu_goto (t := 49) d_1049_91 rfl ?_
  exact h.weak ⟨rfl, rfl, rfl, rfl, rfl, trivial⟩
def w_X2_textParam_49 (X : zs_X) (d : Nat) (p0 : Nat) (p2 : Int32) (p3 : Int32) (p5 : Int32) (p6 : Int32) (S : zs_T) (Q : zs_Q) : Prop :=
  (((p5 ≤ p6 → (Q (.returned none) S)) ∧ (¬ (p5 ≤ p6) → (zs_K S p0 = some (.inl 1) ∧ ∃ b3, (zs_R S 1009 p0) = some b3 ∧ zs_A S b3 0 p3 ∧ ∃ b6, (zs_R S 1008 p0) = some b6 ∧ zs_A S b6 1 ((zs_i S b3 p3.toNatClampNeg) + p6) ∧ zs_C X d 1023 [.ref p0, .int ((p2 + (1 : Int32)) + p6), .long ((((zs_i S b6 ((zs_i S b3 p3.toNatClampNeg) + p6).toNatClampNeg) &&& (255 : Int32))).toInt64), .int (3000001 : Int32)] S (zs_kV (fun S9 => w_X2_textParam_88 X d p0 p2 p3 p5 p6 S9 Q) Q)))))
theorem u_X2_textParam_49 {σ : Nat → Nat} {n0 : Nat} {bf : ab_B} {d : Nat} {p0 : Nat} {p2 : Int32} {p3 : Int32} {p5 : Int32} {p6 : Int32} {S : zs_T} {Q : zs_Q} (hB : zt_B bf) (h : w_X2_textParam_49 (zx σ n0 bf) d p0 p2 p3 p5 p6 S Q) : zs_U (zx σ n0 bf) d 1049 49 [(0, .ref p0), (2, .int p2), (3, .int p3), (5, .int p5), (6, .int p6)] [] S Q := by
  unfold w_X2_textParam_49 at h
  refine zu_iload d_1049_49 rfl ?_
  refine zu_iload d_1049_51 rfl ?_
  refine zu_cmpge (t := 94) d_1049_53 rfl (fun c1 => ?_) (fun c1 => ?_)
  · have h := h.1 c1
    exact zu_vret d_1049_94 zr_1049 h
  · have h := h.2 c1
    refine zu_aload_n d_1049_56 rfl (zs_ra _) ?_
    refine zu_iload_n d_1049_57 rfl ?_
    refine zu_iconst d_1049_58 zi_1 ?_
    refine zu_stk d_1049_59 rfl rfl ?_
    refine zu_iload d_1049_60 rfl ?_
    refine zu_stk d_1049_62 rfl rfl ?_
    refine zu_aload_n d_1049_63 rfl (zs_ra _) ?_
    obtain ⟨k2, h⟩ := h
    refine zg_1_42 rfl d_1049_64 k2 ?_
    refine zu_aload_n d_1049_67 rfl (zs_ra _) ?_
    refine zg_1_46 rfl d_1049_68 k2 ?_
    refine zu_iload_n d_1049_71 rfl ?_
    obtain ⟨b3, e4, h⟩ := h
    refine zs_stk1 (zs_rfe e4) ?_
    obtain ⟨k5, h⟩ := h
    refine zu_iald (k := 0) d_1049_72 rfl rfl k5 ?_
    refine zu_iload d_1049_73 rfl ?_
    refine zu_stk d_1049_75 rfl rfl ?_
    obtain ⟨b6, e7, h⟩ := h
    refine zs_stk1 (zs_rfe e7) ?_
    obtain ⟨k8, h⟩ := h
    refine zu_bald (k := 1) d_1049_76 rfl (Or.inl rfl) k8 ?_
    refine zu_sipush d_1049_77 zh_255 ?_
    refine zu_stk d_1049_80 rfl rfl ?_
    refine zu_stk d_1049_81 rfl rfl ?_
    refine zlw_1_373 rfl d_1049_82 ?_
    refine zc_1_385 (x0 := ((p2 + (1 : Int32)) + p6)) (x1 := ((((zs_i S b6 ((zs_i S b3 p3.toNatClampNeg) + p6).toNatClampNeg) &&& (255 : Int32))).toInt64)) (x2 := (3000001 : Int32)) hB rfl k2 d_1049_85 (Nat.le_of_ble_eq_true rfl) h (fun S9 h => ?_)
    exact (u_X2_textParam_88 hB h).weak ⟨rfl, rfl, rfl, rfl, rfl, trivial⟩
def w_X2_textParam (X : zs_X) (d : Nat) (p0 : Nat) (p1 : Option Nat) (p2 : Int32) (p3 : Int32) (p4 : Int32) (S : zs_T) (Q : zs_Q) : Prop :=
  (zs_K S p0 = some (.inl 1) ∧ zs_C X d 1033 [.ref p0, .int p3] S (zs_kI (fun v3 S2 => (zs_K S2 p0 = some (.inl 1) ∧ ∃ b5, p1 = some b5 ∧ zs_K S2 b5 = some (.inl 6) ∧ ∃ b8, (zs_R S2 1004 p0) = some b8 ∧ zs_K S2 b8 = some (.inl 2) ∧ zs_C X d 2001 [.ref b8, va_rf (zs_R S2 6004 b5), .int (-1 : Int32)] S2 (zs_kJ (fun v12 S11 => (((((v3).toInt64) ≤ v12 → (zs_K S11 p0 = some (.inl 1) ∧ zs_C X d 1023 [.ref p0, .int p2, .long ((v3).toInt64), .int (3000000 : Int32)] S11 (zs_kV (fun S15 => w_X2_textParam_46 X d p0 p2 p3 v3 S15 Q) Q))) ∧ (¬ (((v3).toInt64) ≤ v12) → (zs_K S11 p0 = some (.inl 1) ∧ zs_C X d 1004 [.ref p0, .int (2 : Int32), .int p4] S11 (zs_kI (fun v19 S18 => (w_X2_textParam_34 X d  S18 Q)) Q)))))) Q))) Q))
theorem u_X2_textParam {σ : Nat → Nat} {n0 : Nat} {bf : ab_B} {d : Nat} {p0 : Nat} {p1 : Option Nat} {p2 : Int32} {p3 : Int32} {p4 : Int32} {S : zs_T} {Q : zs_Q} (hB : zt_B bf) (hd : 1 ≤ d) (h : w_X2_textParam (zx σ n0 bf) (d - 1) p0 p1 p2 p3 p4 S Q) : zs_C (zx σ n0 bf) d 1049 [.ref p0, va_rf p1, .int p2, .int p3, .int p4] S Q := by
  have hL : lv_args 0 [.ref p0, va_rf p1, .int p2, .int p3, .int p4] = [(0, .ref p0), (1, va_rf p1), (2, .int p2), (3, .int p3), (4, .int p4)] := by simp [lv_args, zs_cat, zs_cI, zs_cJ, zs_cA]
  refine zs_C.of1 (hB.2 1049 (by decide) (by decide)) hd (by rw [hL]; exact zs_sub_self _ (by exact ⟨rfl, rfl, rfl, rfl, rfl, trivial⟩)) ?_
  rw [hL]
  clear hL
  unfold w_X2_textParam at h
  refine zu_aload_n d_1049_0 rfl (zs_ra _) ?_
  refine zu_iload_n d_1049_1 rfl ?_
  obtain ⟨k1, h⟩ := h
  refine zc_1_443 (x0 := p3) hB rfl k1 d_1049_2 (Nat.le_of_ble_eq_true rfl) h (fun v3 S2 h => ?_)
  refine zu_istore d_1049_5 (zs_lt zq_1049 rfl) ?_
  refine zu_iload d_1049_7 rfl ?_
  refine zu_stk d_1049_9 rfl rfl ?_
  refine zu_aload_n d_1049_10 rfl (zs_ra _) ?_
  obtain ⟨k4, h⟩ := h
  refine zg_1_31 rfl d_1049_11 k4 ?_
  refine zu_aload_n d_1049_14 rfl (zs_rr _) ?_
  obtain ⟨b5, e6, h⟩ := h
  refine zs_stk0 (zs_rfe e6) ?_
  obtain ⟨k7, h⟩ := h
  refine zg_1_366 rfl d_1049_15 k7 ?_
  refine zu_iconst d_1049_18 zi_m1 ?_
  obtain ⟨b8, e9, h⟩ := h
  refine zs_stk2 (zs_rfe e9) ?_
  obtain ⟨k10, h⟩ := h
  refine zc_1_369 (x0 := (zs_R S2 6004 b5)) (x1 := (-1 : Int32)) hB rfl k10 d_1049_19 (Nat.le_of_ble_eq_true rfl) h (fun v12 S11 h => ?_)
  refine zu_lle (t := 35) d_1049_22 d_1049_23 rfl (fun c13 => ?_) (fun c13 => ?_)
  · have h := h.1 c13
    refine zu_aload_n d_1049_35 rfl (zs_ra _) ?_
    refine zu_iload_n d_1049_36 rfl ?_
    refine zu_iload d_1049_37 rfl ?_
    refine zu_stk d_1049_39 rfl rfl ?_
    refine zlw_1_365 rfl d_1049_40 ?_
    obtain ⟨k14, h⟩ := h
    refine zc_1_385 (x0 := p2) (x1 := ((v3).toInt64)) (x2 := (3000000 : Int32)) hB rfl k14 d_1049_43 (Nat.le_of_ble_eq_true rfl) h (fun S15 h => ?_)
    exact (u_X2_textParam_46 hB h).weak ⟨rfl, rfl, rfl, rfl, trivial⟩
  · have h := h.2 c13
    refine zu_aload_n d_1049_26 rfl (zs_ra _) ?_
    refine zu_iconst d_1049_27 zi_2 ?_
    refine zu_iload d_1049_28 rfl ?_
    obtain ⟨k17, h⟩ := h
    refine zc_1_194 (x0 := (2 : Int32)) (x1 := p4) hB rfl k17 d_1049_30 (Nat.le_of_ble_eq_true rfl) h (fun v19 S18 h => ?_)
    refine zu_pop d_1049_33 rfl ?_
    exact (u_X2_textParam_34 hB h).weak trivial
/-! SchemaPascal$Machine.makes(I)V -/
theorem zm_1050 {σ : Nat → Nat} {n0 : Nat} {bf : ab_B} : ab_code (zx σ n0 bf).1 1050 = prog_5_method_52_code := rfl
theorem zq_1050 {σ : Nat → Nat} {n0 : Nat} {bf : ab_B} : ab_maxL (zx σ n0 bf).1 1050 = 3 := rfl
theorem zr_1050 {σ : Nat → Nat} {n0 : Nat} {bf : ab_B} : ab_ret (zx σ n0 bf).1 1050 = (Option.none : Option Jvm.ClassFile.FieldType) := rfl
theorem d_1050_0 {σ : Nat → Nat} {n0 : Nat} {bf : ab_B} : decode (ab_code (zx σ n0 bf).1 1050) 0 = .ok (.aload_n 0, 1) := zd zm_1050 (by decide +kernel)
theorem d_1050_1 {σ : Nat → Nat} {n0 : Nat} {bf : ab_B} : decode (ab_code (zx σ n0 bf).1 1050) 1 = .ok (.getfield 57, 3) := zd zm_1050 (by decide +kernel)
theorem d_1050_4 {σ : Nat → Nat} {n0 : Nat} {bf : ab_B} : decode (ab_code (zx σ n0 bf).1 1050) 4 = .ok (.aload_n 0, 1) := zd zm_1050 (by decide +kernel)
theorem d_1050_5 {σ : Nat → Nat} {n0 : Nat} {bf : ab_B} : decode (ab_code (zx σ n0 bf).1 1050) 5 = .ok (.getfield 129, 3) := zd zm_1050 (by decide +kernel)
theorem d_1050_8 {σ : Nat → Nat} {n0 : Nat} {bf : ab_B} : decode (ab_code (zx σ n0 bf).1 1050) 8 = .ok (.aaload, 1) := zd zm_1050 (by decide +kernel)
theorem d_1050_9 {σ : Nat → Nat} {n0 : Nat} {bf : ab_B} : decode (ab_code (zx σ n0 bf).1 1050) 9 = .ok (.astore_n 2, 1) := zd zm_1050 (by decide +kernel)
theorem d_1050_10 {σ : Nat → Nat} {n0 : Nat} {bf : ab_B} : decode (ab_code (zx σ n0 bf).1 1050) 10 = .ok (.aload_n 2, 1) := zd zm_1050 (by decide +kernel)
theorem d_1050_11 {σ : Nat → Nat} {n0 : Nat} {bf : ab_B} : decode (ab_code (zx σ n0 bf).1 1050) 11 = .ok (.getfield 539, 3) := zd zm_1050 (by decide +kernel)
theorem d_1050_14 {σ : Nat → Nat} {n0 : Nat} {bf : ab_B} : decode (ab_code (zx σ n0 bf).1 1050) 14 = .ok (.ifnonnull 4, 3) := zd zm_1050 (by decide +kernel)
theorem d_1050_17 {σ : Nat → Nat} {n0 : Nat} {bf : ab_B} : decode (ab_code (zx σ n0 bf).1 1050) 17 = .ok (.return_, 1) := zd zm_1050 (by decide +kernel)
theorem d_1050_18 {σ : Nat → Nat} {n0 : Nat} {bf : ab_B} : decode (ab_code (zx σ n0 bf).1 1050) 18 = .ok (.aload_n 0, 1) := zd zm_1050 (by decide +kernel)
theorem d_1050_19 {σ : Nat → Nat} {n0 : Nat} {bf : ab_B} : decode (ab_code (zx σ n0 bf).1 1050) 19 = .ok (.aload_n 0, 1) := zd zm_1050 (by decide +kernel)
theorem d_1050_20 {σ : Nat → Nat} {n0 : Nat} {bf : ab_B} : decode (ab_code (zx σ n0 bf).1 1050) 20 = .ok (.getfield 70, 3) := zd zm_1050 (by decide +kernel)
theorem d_1050_23 {σ : Nat → Nat} {n0 : Nat} {bf : ab_B} : decode (ab_code (zx σ n0 bf).1 1050) 23 = .ok (.aload_n 0, 1) := zd zm_1050 (by decide +kernel)
theorem d_1050_24 {σ : Nat → Nat} {n0 : Nat} {bf : ab_B} : decode (ab_code (zx σ n0 bf).1 1050) 24 = .ok (.getfield 129, 3) := zd zm_1050 (by decide +kernel)
theorem d_1050_27 {σ : Nat → Nat} {n0 : Nat} {bf : ab_B} : decode (ab_code (zx σ n0 bf).1 1050) 27 = .ok (.iaload, 1) := zd zm_1050 (by decide +kernel)
theorem d_1050_28 {σ : Nat → Nat} {n0 : Nat} {bf : ab_B} : decode (ab_code (zx σ n0 bf).1 1050) 28 = .ok (.aload_n 2, 1) := zd zm_1050 (by decide +kernel)
theorem d_1050_29 {σ : Nat → Nat} {n0 : Nat} {bf : ab_B} : decode (ab_code (zx σ n0 bf).1 1050) 29 = .ok (.getfield 542, 3) := zd zm_1050 (by decide +kernel)
theorem d_1050_32 {σ : Nat → Nat} {n0 : Nat} {bf : ab_B} : decode (ab_code (zx σ n0 bf).1 1050) 32 = .ok (.iadd, 1) := zd zm_1050 (by decide +kernel)
theorem d_1050_33 {σ : Nat → Nat} {n0 : Nat} {bf : ab_B} : decode (ab_code (zx σ n0 bf).1 1050) 33 = .ok (.iconst 1, 1) := zd zm_1050 (by decide +kernel)
theorem d_1050_34 {σ : Nat → Nat} {n0 : Nat} {bf : ab_B} : decode (ab_code (zx σ n0 bf).1 1050) 34 = .ok (.isub, 1) := zd zm_1050 (by decide +kernel)
theorem d_1050_35 {σ : Nat → Nat} {n0 : Nat} {bf : ab_B} : decode (ab_code (zx σ n0 bf).1 1050) 35 = .ok (.aload_n 2, 1) := zd zm_1050 (by decide +kernel)
theorem d_1050_36 {σ : Nat → Nat} {n0 : Nat} {bf : ab_B} : decode (ab_code (zx σ n0 bf).1 1050) 36 = .ok (.getfield 539, 3) := zd zm_1050 (by decide +kernel)
theorem d_1050_39 {σ : Nat → Nat} {n0 : Nat} {bf : ab_B} : decode (ab_code (zx σ n0 bf).1 1050) 39 = .ok (.iload_n 1, 1) := zd zm_1050 (by decide +kernel)
theorem d_1050_40 {σ : Nat → Nat} {n0 : Nat} {bf : ab_B} : decode (ab_code (zx σ n0 bf).1 1050) 40 = .ok (.invokevirtual 483, 3) := zd zm_1050 (by decide +kernel)
theorem d_1050_43 {σ : Nat → Nat} {n0 : Nat} {bf : ab_B} : decode (ab_code (zx σ n0 bf).1 1050) 43 = .ok (.return_, 1) := zd zm_1050 (by decide +kernel)
def w_X2_makes_43 (X : zs_X) (d : Nat)  (S : zs_T) (Q : zs_Q) : Prop :=
  (Q (.returned none) S)
theorem u_X2_makes_43 {σ : Nat → Nat} {n0 : Nat} {bf : ab_B} {d : Nat}  {S : zs_T} {Q : zs_Q} (hB : zt_B bf) (h : w_X2_makes_43 (zx σ n0 bf) d  S Q) : zs_U (zx σ n0 bf) d 1050 43 [] [] S Q := by
  unfold w_X2_makes_43 at h
  exact zu_vret d_1050_43 zr_1050 h
def w_X2_makes (X : zs_X) (d : Nat) (p0 : Nat) (p1 : Int32) (S : zs_T) (Q : zs_Q) : Prop :=
  (zs_K S p0 = some (.inl 1) ∧ ∃ b2, (zs_R S 1017 p0) = some b2 ∧ zs_A S b2 5 (zs_I S 1025 p0) ∧ ∃ b5, (zs_r S b2 (zs_I S 1025 p0).toNatClampNeg) = some b5 ∧ zs_K S b5 = some (.inl 10) ∧ (((zs_R S 10006 b5) = none → (Q (.returned none) S)) ∧ (∀ b8, (zs_R S 10006 b5) = some b8 → (∃ b10, (zs_R S 1021 p0) = some b10 ∧ zs_A S b10 0 (zs_I S 1025 p0) ∧ zs_C X d 1051 [.ref p0, .int (((zs_i S b10 (zs_I S 1025 p0).toNatClampNeg) + (zs_I S 10008 b5)) - (1 : Int32)), va_rf (zs_R S 10006 b5), .int p1] S (zs_kV (fun S13 => w_X2_makes_43 X d  S13 Q) Q)))))
theorem u_X2_makes {σ : Nat → Nat} {n0 : Nat} {bf : ab_B} {d : Nat} {p0 : Nat} {p1 : Int32} {S : zs_T} {Q : zs_Q} (hB : zt_B bf) (hd : 1 ≤ d) (h : w_X2_makes (zx σ n0 bf) (d - 1) p0 p1 S Q) : zs_C (zx σ n0 bf) d 1050 [.ref p0, .int p1] S Q := by
  have hL : lv_args 0 [.ref p0, .int p1] = [(0, .ref p0), (1, .int p1)] := rfl
  refine zs_C.of1 (hB.2 1050 (by decide) (by decide)) hd (by rw [hL]; exact zs_sub_self _ (by exact ⟨rfl, rfl, trivial⟩)) ?_
  rw [hL]
  clear hL
  unfold w_X2_makes at h
  refine zu_aload_n d_1050_0 rfl (zs_ra _) ?_
  obtain ⟨k1, h⟩ := h
  refine zg_1_57 rfl d_1050_1 k1 ?_
  refine zu_aload_n d_1050_4 rfl (zs_ra _) ?_
  refine zg_1_129 rfl d_1050_5 k1 ?_
  obtain ⟨b2, e3, h⟩ := h
  refine zs_stk1 (zs_rfe e3) ?_
  obtain ⟨k4, h⟩ := h
  refine zu_aald (k := 5) d_1050_8 rfl rfl k4 ?_
  refine zu_astore_n d_1050_9 (zs_rr _) (zs_lt zq_1050 rfl) ?_
  refine zu_aload_n d_1050_10 rfl (zs_rr _) ?_
  obtain ⟨b5, e6, h⟩ := h
  refine zs_stk0 (zs_rfe e6) ?_
  obtain ⟨k7, h⟩ := h
  refine zg_1_539 rfl d_1050_11 k7 ?_
  refine zu_ifnonnull (u := (zs_R S 10006 b5)) (t := 18) d_1050_14 rfl rfl (fun b8 e9 => ?_) (fun e9 => ?_)
  · have h := h.2 b8 e9
    refine zu_aload_n d_1050_18 rfl (zs_ra _) ?_
    refine zu_aload_n d_1050_19 rfl (zs_ra _) ?_
    refine zg_1_70 rfl d_1050_20 k1 ?_
    refine zu_aload_n d_1050_23 rfl (zs_ra _) ?_
    refine zg_1_129 rfl d_1050_24 k1 ?_
    obtain ⟨b10, e11, h⟩ := h
    refine zs_stk1 (zs_rfe e11) ?_
    obtain ⟨k12, h⟩ := h
    refine zu_iald (k := 0) d_1050_27 rfl rfl k12 ?_
    refine zu_aload_n d_1050_28 rfl (zs_rr _) ?_
    refine zs_stk0 (zs_rfe e6) ?_
    refine zg_1_542 rfl d_1050_29 k7 ?_
    refine zu_stk d_1050_32 rfl rfl ?_
    refine zu_iconst d_1050_33 zi_1 ?_
    refine zu_stk d_1050_34 rfl rfl ?_
    refine zu_aload_n d_1050_35 rfl (zs_rr _) ?_
    refine zs_stk0 (zs_rfe e6) ?_
    refine zg_1_539 rfl d_1050_36 k7 ?_
    refine zu_iload_n d_1050_39 rfl ?_
    refine zc_1_483 (x0 := (((zs_i S b10 (zs_I S 1025 p0).toNatClampNeg) + (zs_I S 10008 b5)) - (1 : Int32))) (x1 := (zs_R S 10006 b5)) (x2 := p1) hB rfl k1 d_1050_40 (Nat.le_of_ble_eq_true rfl) h (fun S13 h => ?_)
    exact (u_X2_makes_43 hB h).weak trivial
  · have h := h.1 e9
    exact zu_vret d_1050_17 zr_1050 h
/-! SchemaPascal$Machine.keep(ILSchemaPascal$Type;I)V -/
theorem zm_1051 {σ : Nat → Nat} {n0 : Nat} {bf : ab_B} : ab_code (zx σ n0 bf).1 1051 = prog_5_method_53_code := rfl
theorem zq_1051 {σ : Nat → Nat} {n0 : Nat} {bf : ab_B} : ab_maxL (zx σ n0 bf).1 1051 = 9 := rfl
theorem zr_1051 {σ : Nat → Nat} {n0 : Nat} {bf : ab_B} : ab_ret (zx σ n0 bf).1 1051 = (Option.none : Option Jvm.ClassFile.FieldType) := rfl
theorem d_1051_0 {σ : Nat → Nat} {n0 : Nat} {bf : ab_B} : decode (ab_code (zx σ n0 bf).1 1051) 0 = .ok (.aload_n 2, 1) := zd zm_1051 (by decide +kernel)
theorem d_1051_1 {σ : Nat → Nat} {n0 : Nat} {bf : ab_B} : decode (ab_code (zx σ n0 bf).1 1051) 1 = .ok (.getfield 374, 3) := zd zm_1051 (by decide +kernel)
theorem d_1051_4 {σ : Nat → Nat} {n0 : Nat} {bf : ab_B} : decode (ab_code (zx σ n0 bf).1 1051) 4 = .ok (.bipush 11, 2) := zd zm_1051 (by decide +kernel)
theorem d_1051_6 {σ : Nat → Nat} {n0 : Nat} {bf : ab_B} : decode (ab_code (zx σ n0 bf).1 1051) 6 = .ok (.if_icmp .ne 16, 3) := zd zm_1051 (by decide +kernel)
theorem d_1051_9 {σ : Nat → Nat} {n0 : Nat} {bf : ab_B} : decode (ab_code (zx σ n0 bf).1 1051) 9 = .ok (.aload_n 2, 1) := zd zm_1051 (by decide +kernel)
theorem d_1051_10 {σ : Nat → Nat} {n0 : Nat} {bf : ab_B} : decode (ab_code (zx σ n0 bf).1 1051) 10 = .ok (.getfield 310, 3) := zd zm_1051 (by decide +kernel)
theorem d_1051_13 {σ : Nat → Nat} {n0 : Nat} {bf : ab_B} : decode (ab_code (zx σ n0 bf).1 1051) 13 = .ok (.getfield 362, 3) := zd zm_1051 (by decide +kernel)
theorem d_1051_16 {σ : Nat → Nat} {n0 : Nat} {bf : ab_B} : decode (ab_code (zx σ n0 bf).1 1051) 16 = .ok (.invokevirtual 336, 3) := zd zm_1051 (by decide +kernel)
theorem d_1051_19 {σ : Nat → Nat} {n0 : Nat} {bf : ab_B} : decode (ab_code (zx σ n0 bf).1 1051) 19 = .ok (.goto 4, 3) := zd zm_1051 (by decide +kernel)
theorem d_1051_22 {σ : Nat → Nat} {n0 : Nat} {bf : ab_B} : decode (ab_code (zx σ n0 bf).1 1051) 22 = .ok (.iconst 0, 1) := zd zm_1051 (by decide +kernel)
theorem d_1051_23 {σ : Nat → Nat} {n0 : Nat} {bf : ab_B} : decode (ab_code (zx σ n0 bf).1 1051) 23 = .ok (.istore 4, 2) := zd zm_1051 (by decide +kernel)
theorem d_1051_25 {σ : Nat → Nat} {n0 : Nat} {bf : ab_B} : decode (ab_code (zx σ n0 bf).1 1051) 25 = .ok (.aload_n 0, 1) := zd zm_1051 (by decide +kernel)
theorem d_1051_26 {σ : Nat → Nat} {n0 : Nat} {bf : ab_B} : decode (ab_code (zx σ n0 bf).1 1051) 26 = .ok (.dup, 1) := zd zm_1051 (by decide +kernel)
theorem d_1051_27 {σ : Nat → Nat} {n0 : Nat} {bf : ab_B} : decode (ab_code (zx σ n0 bf).1 1051) 27 = .ok (.getfield 111, 3) := zd zm_1051 (by decide +kernel)
theorem d_1051_30 {σ : Nat → Nat} {n0 : Nat} {bf : ab_B} : decode (ab_code (zx σ n0 bf).1 1051) 30 = .ok (.iload 4, 2) := zd zm_1051 (by decide +kernel)
theorem d_1051_32 {σ : Nat → Nat} {n0 : Nat} {bf : ab_B} : decode (ab_code (zx σ n0 bf).1 1051) 32 = .ok (.isub, 1) := zd zm_1051 (by decide +kernel)
theorem d_1051_33 {σ : Nat → Nat} {n0 : Nat} {bf : ab_B} : decode (ab_code (zx σ n0 bf).1 1051) 33 = .ok (.putfield 111, 3) := zd zm_1051 (by decide +kernel)
theorem d_1051_36 {σ : Nat → Nat} {n0 : Nat} {bf : ab_B} : decode (ab_code (zx σ n0 bf).1 1051) 36 = .ok (.iload 4, 2) := zd zm_1051 (by decide +kernel)
theorem d_1051_38 {σ : Nat → Nat} {n0 : Nat} {bf : ab_B} : decode (ab_code (zx σ n0 bf).1 1051) 38 = .ok (.ifCond .le 208, 3) := zd zm_1051 (by decide +kernel)
theorem d_1051_41 {σ : Nat → Nat} {n0 : Nat} {bf : ab_B} : decode (ab_code (zx σ n0 bf).1 1051) 41 = .ok (.aload_n 0, 1) := zd zm_1051 (by decide +kernel)
theorem d_1051_42 {σ : Nat → Nat} {n0 : Nat} {bf : ab_B} : decode (ab_code (zx σ n0 bf).1 1051) 42 = .ok (.getfield 31, 3) := zd zm_1051 (by decide +kernel)
theorem d_1051_45 {σ : Nat → Nat} {n0 : Nat} {bf : ab_B} : decode (ab_code (zx σ n0 bf).1 1051) 45 = .ok (.getfield 295, 3) := zd zm_1051 (by decide +kernel)
theorem d_1051_48 {σ : Nat → Nat} {n0 : Nat} {bf : ab_B} : decode (ab_code (zx σ n0 bf).1 1051) 48 = .ok (.istore 5, 2) := zd zm_1051 (by decide +kernel)
theorem d_1051_50 {σ : Nat → Nat} {n0 : Nat} {bf : ab_B} : decode (ab_code (zx σ n0 bf).1 1051) 50 = .ok (.iconst 0, 1) := zd zm_1051 (by decide +kernel)
theorem d_1051_51 {σ : Nat → Nat} {n0 : Nat} {bf : ab_B} : decode (ab_code (zx σ n0 bf).1 1051) 51 = .ok (.istore 6, 2) := zd zm_1051 (by decide +kernel)
theorem d_1051_53 {σ : Nat → Nat} {n0 : Nat} {bf : ab_B} : decode (ab_code (zx σ n0 bf).1 1051) 53 = .ok (.iload 6, 2) := zd zm_1051 (by decide +kernel)
theorem d_1051_55 {σ : Nat → Nat} {n0 : Nat} {bf : ab_B} : decode (ab_code (zx σ n0 bf).1 1051) 55 = .ok (.iload 4, 2) := zd zm_1051 (by decide +kernel)
theorem d_1051_57 {σ : Nat → Nat} {n0 : Nat} {bf : ab_B} : decode (ab_code (zx σ n0 bf).1 1051) 57 = .ok (.if_icmp .ge 31, 3) := zd zm_1051 (by decide +kernel)
theorem d_1051_60 {σ : Nat → Nat} {n0 : Nat} {bf : ab_B} : decode (ab_code (zx σ n0 bf).1 1051) 60 = .ok (.aload_n 0, 1) := zd zm_1051 (by decide +kernel)
theorem d_1051_61 {σ : Nat → Nat} {n0 : Nat} {bf : ab_B} : decode (ab_code (zx σ n0 bf).1 1051) 61 = .ok (.getfield 10, 3) := zd zm_1051 (by decide +kernel)
theorem d_1051_64 {σ : Nat → Nat} {n0 : Nat} {bf : ab_B} : decode (ab_code (zx σ n0 bf).1 1051) 64 = .ok (.iload 5, 2) := zd zm_1051 (by decide +kernel)
theorem d_1051_66 {σ : Nat → Nat} {n0 : Nat} {bf : ab_B} : decode (ab_code (zx σ n0 bf).1 1051) 66 = .ok (.iload 6, 2) := zd zm_1051 (by decide +kernel)
theorem d_1051_68 {σ : Nat → Nat} {n0 : Nat} {bf : ab_B} : decode (ab_code (zx σ n0 bf).1 1051) 68 = .ok (.iadd, 1) := zd zm_1051 (by decide +kernel)
theorem d_1051_69 {σ : Nat → Nat} {n0 : Nat} {bf : ab_B} : decode (ab_code (zx σ n0 bf).1 1051) 69 = .ok (.aload_n 0, 1) := zd zm_1051 (by decide +kernel)
theorem d_1051_70 {σ : Nat → Nat} {n0 : Nat} {bf : ab_B} : decode (ab_code (zx σ n0 bf).1 1051) 70 = .ok (.getfield 36, 3) := zd zm_1051 (by decide +kernel)
theorem d_1051_73 {σ : Nat → Nat} {n0 : Nat} {bf : ab_B} : decode (ab_code (zx σ n0 bf).1 1051) 73 = .ok (.aload_n 0, 1) := zd zm_1051 (by decide +kernel)
theorem d_1051_74 {σ : Nat → Nat} {n0 : Nat} {bf : ab_B} : decode (ab_code (zx σ n0 bf).1 1051) 74 = .ok (.getfield 111, 3) := zd zm_1051 (by decide +kernel)
theorem d_1051_77 {σ : Nat → Nat} {n0 : Nat} {bf : ab_B} : decode (ab_code (zx σ n0 bf).1 1051) 77 = .ok (.iload 6, 2) := zd zm_1051 (by decide +kernel)
theorem d_1051_79 {σ : Nat → Nat} {n0 : Nat} {bf : ab_B} : decode (ab_code (zx σ n0 bf).1 1051) 79 = .ok (.iadd, 1) := zd zm_1051 (by decide +kernel)
theorem d_1051_80 {σ : Nat → Nat} {n0 : Nat} {bf : ab_B} : decode (ab_code (zx σ n0 bf).1 1051) 80 = .ok (.laload, 1) := zd zm_1051 (by decide +kernel)
theorem d_1051_81 {σ : Nat → Nat} {n0 : Nat} {bf : ab_B} : decode (ab_code (zx σ n0 bf).1 1051) 81 = .ok (.lastore, 1) := zd zm_1051 (by decide +kernel)
theorem d_1051_82 {σ : Nat → Nat} {n0 : Nat} {bf : ab_B} : decode (ab_code (zx σ n0 bf).1 1051) 82 = .ok (.iinc 6 1, 3) := zd zm_1051 (by decide +kernel)
theorem d_1051_85 {σ : Nat → Nat} {n0 : Nat} {bf : ab_B} : decode (ab_code (zx σ n0 bf).1 1051) 85 = .ok (.goto (-32), 3) := zd zm_1051 (by decide +kernel)
theorem d_1051_88 {σ : Nat → Nat} {n0 : Nat} {bf : ab_B} : decode (ab_code (zx σ n0 bf).1 1051) 88 = .ok (.aload_n 0, 1) := zd zm_1051 (by decide +kernel)
theorem d_1051_89 {σ : Nat → Nat} {n0 : Nat} {bf : ab_B} : decode (ab_code (zx σ n0 bf).1 1051) 89 = .ok (.getfield 31, 3) := zd zm_1051 (by decide +kernel)
theorem d_1051_92 {σ : Nat → Nat} {n0 : Nat} {bf : ab_B} : decode (ab_code (zx σ n0 bf).1 1051) 92 = .ok (.dup, 1) := zd zm_1051 (by decide +kernel)
theorem d_1051_93 {σ : Nat → Nat} {n0 : Nat} {bf : ab_B} : decode (ab_code (zx σ n0 bf).1 1051) 93 = .ok (.getfield 295, 3) := zd zm_1051 (by decide +kernel)
theorem d_1051_96 {σ : Nat → Nat} {n0 : Nat} {bf : ab_B} : decode (ab_code (zx σ n0 bf).1 1051) 96 = .ok (.iconst 4, 1) := zd zm_1051 (by decide +kernel)
theorem d_1051_97 {σ : Nat → Nat} {n0 : Nat} {bf : ab_B} : decode (ab_code (zx σ n0 bf).1 1051) 97 = .ok (.iadd, 1) := zd zm_1051 (by decide +kernel)
theorem d_1051_98 {σ : Nat → Nat} {n0 : Nat} {bf : ab_B} : decode (ab_code (zx σ n0 bf).1 1051) 98 = .ok (.putfield 295, 3) := zd zm_1051 (by decide +kernel)
theorem d_1051_101 {σ : Nat → Nat} {n0 : Nat} {bf : ab_B} : decode (ab_code (zx σ n0 bf).1 1051) 101 = .ok (.aload_n 0, 1) := zd zm_1051 (by decide +kernel)
theorem d_1051_102 {σ : Nat → Nat} {n0 : Nat} {bf : ab_B} : decode (ab_code (zx σ n0 bf).1 1051) 102 = .ok (.getfield 31, 3) := zd zm_1051 (by decide +kernel)
theorem d_1051_105 {σ : Nat → Nat} {n0 : Nat} {bf : ab_B} : decode (ab_code (zx σ n0 bf).1 1051) 105 = .ok (.aload_n 2, 1) := zd zm_1051 (by decide +kernel)
theorem d_1051_106 {σ : Nat → Nat} {n0 : Nat} {bf : ab_B} : decode (ab_code (zx σ n0 bf).1 1051) 106 = .ok (.getfield 310, 3) := zd zm_1051 (by decide +kernel)
theorem d_1051_109 {σ : Nat → Nat} {n0 : Nat} {bf : ab_B} : decode (ab_code (zx σ n0 bf).1 1051) 109 = .ok (.iload 5, 2) := zd zm_1051 (by decide +kernel)
theorem d_1051_111 {σ : Nat → Nat} {n0 : Nat} {bf : ab_B} : decode (ab_code (zx σ n0 bf).1 1051) 111 = .ok (.invokevirtual 545, 3) := zd zm_1051 (by decide +kernel)
theorem d_1051_114 {σ : Nat → Nat} {n0 : Nat} {bf : ab_B} : decode (ab_code (zx σ n0 bf).1 1051) 114 = .ok (.ifCond .eq 22, 3) := zd zm_1051 (by decide +kernel)
theorem d_1051_117 {σ : Nat → Nat} {n0 : Nat} {bf : ab_B} : decode (ab_code (zx σ n0 bf).1 1051) 117 = .ok (.aload_n 0, 1) := zd zm_1051 (by decide +kernel)
theorem d_1051_118 {σ : Nat → Nat} {n0 : Nat} {bf : ab_B} : decode (ab_code (zx σ n0 bf).1 1051) 118 = .ok (.getfield 31, 3) := zd zm_1051 (by decide +kernel)
theorem d_1051_121 {σ : Nat → Nat} {n0 : Nat} {bf : ab_B} : decode (ab_code (zx σ n0 bf).1 1051) 121 = .ok (.aload_n 2, 1) := zd zm_1051 (by decide +kernel)
theorem d_1051_122 {σ : Nat → Nat} {n0 : Nat} {bf : ab_B} : decode (ab_code (zx σ n0 bf).1 1051) 122 = .ok (.getfield 310, 3) := zd zm_1051 (by decide +kernel)
theorem d_1051_125 {σ : Nat → Nat} {n0 : Nat} {bf : ab_B} : decode (ab_code (zx σ n0 bf).1 1051) 125 = .ok (.getfield 310, 3) := zd zm_1051 (by decide +kernel)
theorem d_1051_128 {σ : Nat → Nat} {n0 : Nat} {bf : ab_B} : decode (ab_code (zx σ n0 bf).1 1051) 128 = .ok (.iload 5, 2) := zd zm_1051 (by decide +kernel)
theorem d_1051_130 {σ : Nat → Nat} {n0 : Nat} {bf : ab_B} : decode (ab_code (zx σ n0 bf).1 1051) 130 = .ok (.invokevirtual 548, 3) := zd zm_1051 (by decide +kernel)
theorem d_1051_133 {σ : Nat → Nat} {n0 : Nat} {bf : ab_B} : decode (ab_code (zx σ n0 bf).1 1051) 133 = .ok (.goto 6, 3) := zd zm_1051 (by decide +kernel)
theorem d_1051_136 {σ : Nat → Nat} {n0 : Nat} {bf : ab_B} : decode (ab_code (zx σ n0 bf).1 1051) 136 = .ok (.ldc2_w 437, 3) := zd zm_1051 (by decide +kernel)
theorem d_1051_139 {σ : Nat → Nat} {n0 : Nat} {bf : ab_B} : decode (ab_code (zx σ n0 bf).1 1051) 139 = .ok (.lstore 6, 2) := zd zm_1051 (by decide +kernel)
theorem d_1051_141 {σ : Nat → Nat} {n0 : Nat} {bf : ab_B} : decode (ab_code (zx σ n0 bf).1 1051) 141 = .ok (.aload_n 0, 1) := zd zm_1051 (by decide +kernel)
theorem d_1051_142 {σ : Nat → Nat} {n0 : Nat} {bf : ab_B} : decode (ab_code (zx σ n0 bf).1 1051) 142 = .ok (.getfield 31, 3) := zd zm_1051 (by decide +kernel)
theorem d_1051_145 {σ : Nat → Nat} {n0 : Nat} {bf : ab_B} : decode (ab_code (zx σ n0 bf).1 1051) 145 = .ok (.iload 5, 2) := zd zm_1051 (by decide +kernel)
theorem d_1051_147 {σ : Nat → Nat} {n0 : Nat} {bf : ab_B} : decode (ab_code (zx σ n0 bf).1 1051) 147 = .ok (.putfield 295, 3) := zd zm_1051 (by decide +kernel)
theorem d_1051_150 {σ : Nat → Nat} {n0 : Nat} {bf : ab_B} : decode (ab_code (zx σ n0 bf).1 1051) 150 = .ok (.lload 6, 2) := zd zm_1051 (by decide +kernel)
theorem d_1051_152 {σ : Nat → Nat} {n0 : Nat} {bf : ab_B} : decode (ab_code (zx σ n0 bf).1 1051) 152 = .ok (.lconst 0, 1) := zd zm_1051 (by decide +kernel)
theorem d_1051_153 {σ : Nat → Nat} {n0 : Nat} {bf : ab_B} : decode (ab_code (zx σ n0 bf).1 1051) 153 = .ok (.lcmp, 1) := zd zm_1051 (by decide +kernel)
theorem d_1051_154 {σ : Nat → Nat} {n0 : Nat} {bf : ab_B} : decode (ab_code (zx σ n0 bf).1 1051) 154 = .ok (.ifCond .ge 11, 3) := zd zm_1051 (by decide +kernel)
theorem d_1051_157 {σ : Nat → Nat} {n0 : Nat} {bf : ab_B} : decode (ab_code (zx σ n0 bf).1 1051) 157 = .ok (.aload_n 0, 1) := zd zm_1051 (by decide +kernel)
theorem d_1051_158 {σ : Nat → Nat} {n0 : Nat} {bf : ab_B} : decode (ab_code (zx σ n0 bf).1 1051) 158 = .ok (.iconst 2, 1) := zd zm_1051 (by decide +kernel)
theorem d_1051_159 {σ : Nat → Nat} {n0 : Nat} {bf : ab_B} : decode (ab_code (zx σ n0 bf).1 1051) 159 = .ok (.iload_n 3, 1) := zd zm_1051 (by decide +kernel)
theorem d_1051_160 {σ : Nat → Nat} {n0 : Nat} {bf : ab_B} : decode (ab_code (zx σ n0 bf).1 1051) 160 = .ok (.invokevirtual 194, 3) := zd zm_1051 (by decide +kernel)
theorem d_1051_163 {σ : Nat → Nat} {n0 : Nat} {bf : ab_B} : decode (ab_code (zx σ n0 bf).1 1051) 163 = .ok (.pop, 1) := zd zm_1051 (by decide +kernel)
theorem d_1051_164 {σ : Nat → Nat} {n0 : Nat} {bf : ab_B} : decode (ab_code (zx σ n0 bf).1 1051) 164 = .ok (.return_, 1) := zd zm_1051 (by decide +kernel)
theorem d_1051_165 {σ : Nat → Nat} {n0 : Nat} {bf : ab_B} : decode (ab_code (zx σ n0 bf).1 1051) 165 = .ok (.aload_n 0, 1) := zd zm_1051 (by decide +kernel)
theorem d_1051_166 {σ : Nat → Nat} {n0 : Nat} {bf : ab_B} : decode (ab_code (zx σ n0 bf).1 1051) 166 = .ok (.iload 4, 2) := zd zm_1051 (by decide +kernel)
theorem d_1051_168 {σ : Nat → Nat} {n0 : Nat} {bf : ab_B} : decode (ab_code (zx σ n0 bf).1 1051) 168 = .ok (.i2l, 1) := zd zm_1051 (by decide +kernel)
theorem d_1051_169 {σ : Nat → Nat} {n0 : Nat} {bf : ab_B} : decode (ab_code (zx σ n0 bf).1 1051) 169 = .ok (.lload 6, 2) := zd zm_1051 (by decide +kernel)
theorem d_1051_171 {σ : Nat → Nat} {n0 : Nat} {bf : ab_B} : decode (ab_code (zx σ n0 bf).1 1051) 171 = .ok (.ladd, 1) := zd zm_1051 (by decide +kernel)
theorem d_1051_172 {σ : Nat → Nat} {n0 : Nat} {bf : ab_B} : decode (ab_code (zx σ n0 bf).1 1051) 172 = .ok (.iload_n 3, 1) := zd zm_1051 (by decide +kernel)
theorem d_1051_173 {σ : Nat → Nat} {n0 : Nat} {bf : ab_B} : decode (ab_code (zx σ n0 bf).1 1051) 173 = .ok (.invokevirtual 184, 3) := zd zm_1051 (by decide +kernel)
theorem d_1051_176 {σ : Nat → Nat} {n0 : Nat} {bf : ab_B} : decode (ab_code (zx σ n0 bf).1 1051) 176 = .ok (.ifCond .ne 4, 3) := zd zm_1051 (by decide +kernel)
theorem d_1051_179 {σ : Nat → Nat} {n0 : Nat} {bf : ab_B} : decode (ab_code (zx σ n0 bf).1 1051) 179 = .ok (.return_, 1) := zd zm_1051 (by decide +kernel)
theorem d_1051_180 {σ : Nat → Nat} {n0 : Nat} {bf : ab_B} : decode (ab_code (zx σ n0 bf).1 1051) 180 = .ok (.iconst 0, 1) := zd zm_1051 (by decide +kernel)
theorem d_1051_181 {σ : Nat → Nat} {n0 : Nat} {bf : ab_B} : decode (ab_code (zx σ n0 bf).1 1051) 181 = .ok (.istore 8, 2) := zd zm_1051 (by decide +kernel)
theorem d_1051_183 {σ : Nat → Nat} {n0 : Nat} {bf : ab_B} : decode (ab_code (zx σ n0 bf).1 1051) 183 = .ok (.iload 8, 2) := zd zm_1051 (by decide +kernel)
theorem d_1051_185 {σ : Nat → Nat} {n0 : Nat} {bf : ab_B} : decode (ab_code (zx σ n0 bf).1 1051) 185 = .ok (.iload 4, 2) := zd zm_1051 (by decide +kernel)
theorem d_1051_187 {σ : Nat → Nat} {n0 : Nat} {bf : ab_B} : decode (ab_code (zx σ n0 bf).1 1051) 187 = .ok (.if_icmp .ge 33, 3) := zd zm_1051 (by decide +kernel)
theorem d_1051_190 {σ : Nat → Nat} {n0 : Nat} {bf : ab_B} : decode (ab_code (zx σ n0 bf).1 1051) 190 = .ok (.aload_n 0, 1) := zd zm_1051 (by decide +kernel)
theorem d_1051_191 {σ : Nat → Nat} {n0 : Nat} {bf : ab_B} : decode (ab_code (zx σ n0 bf).1 1051) 191 = .ok (.getfield 10, 3) := zd zm_1051 (by decide +kernel)
theorem d_1051_194 {σ : Nat → Nat} {n0 : Nat} {bf : ab_B} : decode (ab_code (zx σ n0 bf).1 1051) 194 = .ok (.aload_n 0, 1) := zd zm_1051 (by decide +kernel)
theorem d_1051_195 {σ : Nat → Nat} {n0 : Nat} {bf : ab_B} : decode (ab_code (zx σ n0 bf).1 1051) 195 = .ok (.getfield 123, 3) := zd zm_1051 (by decide +kernel)
theorem d_1051_198 {σ : Nat → Nat} {n0 : Nat} {bf : ab_B} : decode (ab_code (zx σ n0 bf).1 1051) 198 = .ok (.iload 8, 2) := zd zm_1051 (by decide +kernel)
theorem d_1051_200 {σ : Nat → Nat} {n0 : Nat} {bf : ab_B} : decode (ab_code (zx σ n0 bf).1 1051) 200 = .ok (.iadd, 1) := zd zm_1051 (by decide +kernel)
theorem d_1051_201 {σ : Nat → Nat} {n0 : Nat} {bf : ab_B} : decode (ab_code (zx σ n0 bf).1 1051) 201 = .ok (.aload_n 0, 1) := zd zm_1051 (by decide +kernel)
theorem d_1051_202 {σ : Nat → Nat} {n0 : Nat} {bf : ab_B} : decode (ab_code (zx σ n0 bf).1 1051) 202 = .ok (.getfield 36, 3) := zd zm_1051 (by decide +kernel)
theorem d_1051_205 {σ : Nat → Nat} {n0 : Nat} {bf : ab_B} : decode (ab_code (zx σ n0 bf).1 1051) 205 = .ok (.aload_n 0, 1) := zd zm_1051 (by decide +kernel)
theorem d_1051_206 {σ : Nat → Nat} {n0 : Nat} {bf : ab_B} : decode (ab_code (zx σ n0 bf).1 1051) 206 = .ok (.getfield 111, 3) := zd zm_1051 (by decide +kernel)
theorem d_1051_209 {σ : Nat → Nat} {n0 : Nat} {bf : ab_B} : decode (ab_code (zx σ n0 bf).1 1051) 209 = .ok (.iload 8, 2) := zd zm_1051 (by decide +kernel)
theorem d_1051_211 {σ : Nat → Nat} {n0 : Nat} {bf : ab_B} : decode (ab_code (zx σ n0 bf).1 1051) 211 = .ok (.iadd, 1) := zd zm_1051 (by decide +kernel)
theorem d_1051_212 {σ : Nat → Nat} {n0 : Nat} {bf : ab_B} : decode (ab_code (zx σ n0 bf).1 1051) 212 = .ok (.laload, 1) := zd zm_1051 (by decide +kernel)
theorem d_1051_213 {σ : Nat → Nat} {n0 : Nat} {bf : ab_B} : decode (ab_code (zx σ n0 bf).1 1051) 213 = .ok (.lastore, 1) := zd zm_1051 (by decide +kernel)
theorem d_1051_214 {σ : Nat → Nat} {n0 : Nat} {bf : ab_B} : decode (ab_code (zx σ n0 bf).1 1051) 214 = .ok (.iinc 8 1, 3) := zd zm_1051 (by decide +kernel)
theorem d_1051_217 {σ : Nat → Nat} {n0 : Nat} {bf : ab_B} : decode (ab_code (zx σ n0 bf).1 1051) 217 = .ok (.goto (-34), 3) := zd zm_1051 (by decide +kernel)
theorem d_1051_220 {σ : Nat → Nat} {n0 : Nat} {bf : ab_B} : decode (ab_code (zx σ n0 bf).1 1051) 220 = .ok (.aload_n 0, 1) := zd zm_1051 (by decide +kernel)
theorem d_1051_221 {σ : Nat → Nat} {n0 : Nat} {bf : ab_B} : decode (ab_code (zx σ n0 bf).1 1051) 221 = .ok (.getfield 52, 3) := zd zm_1051 (by decide +kernel)
theorem d_1051_224 {σ : Nat → Nat} {n0 : Nat} {bf : ab_B} : decode (ab_code (zx σ n0 bf).1 1051) 224 = .ok (.iload_n 1, 1) := zd zm_1051 (by decide +kernel)
theorem d_1051_225 {σ : Nat → Nat} {n0 : Nat} {bf : ab_B} : decode (ab_code (zx σ n0 bf).1 1051) 225 = .ok (.aload_n 0, 1) := zd zm_1051 (by decide +kernel)
theorem d_1051_226 {σ : Nat → Nat} {n0 : Nat} {bf : ab_B} : decode (ab_code (zx σ n0 bf).1 1051) 226 = .ok (.getfield 123, 3) := zd zm_1051 (by decide +kernel)
theorem d_1051_229 {σ : Nat → Nat} {n0 : Nat} {bf : ab_B} : decode (ab_code (zx σ n0 bf).1 1051) 229 = .ok (.iastore, 1) := zd zm_1051 (by decide +kernel)
theorem d_1051_230 {σ : Nat → Nat} {n0 : Nat} {bf : ab_B} : decode (ab_code (zx σ n0 bf).1 1051) 230 = .ok (.aload_n 0, 1) := zd zm_1051 (by decide +kernel)
theorem d_1051_231 {σ : Nat → Nat} {n0 : Nat} {bf : ab_B} : decode (ab_code (zx σ n0 bf).1 1051) 231 = .ok (.iload_n 1, 1) := zd zm_1051 (by decide +kernel)
theorem d_1051_232 {σ : Nat → Nat} {n0 : Nat} {bf : ab_B} : decode (ab_code (zx σ n0 bf).1 1051) 232 = .ok (.aload_n 0, 1) := zd zm_1051 (by decide +kernel)
theorem d_1051_233 {σ : Nat → Nat} {n0 : Nat} {bf : ab_B} : decode (ab_code (zx σ n0 bf).1 1051) 233 = .ok (.getfield 123, 3) := zd zm_1051 (by decide +kernel)
theorem d_1051_236 {σ : Nat → Nat} {n0 : Nat} {bf : ab_B} : decode (ab_code (zx σ n0 bf).1 1051) 236 = .ok (.iload 4, 2) := zd zm_1051 (by decide +kernel)
theorem d_1051_238 {σ : Nat → Nat} {n0 : Nat} {bf : ab_B} : decode (ab_code (zx σ n0 bf).1 1051) 238 = .ok (.iadd, 1) := zd zm_1051 (by decide +kernel)
theorem d_1051_239 {σ : Nat → Nat} {n0 : Nat} {bf : ab_B} : decode (ab_code (zx σ n0 bf).1 1051) 239 = .ok (.lload 6, 2) := zd zm_1051 (by decide +kernel)
theorem d_1051_241 {σ : Nat → Nat} {n0 : Nat} {bf : ab_B} : decode (ab_code (zx σ n0 bf).1 1051) 241 = .ok (.l2i, 1) := zd zm_1051 (by decide +kernel)
theorem d_1051_242 {σ : Nat → Nat} {n0 : Nat} {bf : ab_B} : decode (ab_code (zx σ n0 bf).1 1051) 242 = .ok (.invokevirtual 551, 3) := zd zm_1051 (by decide +kernel)
theorem d_1051_245 {σ : Nat → Nat} {n0 : Nat} {bf : ab_B} : decode (ab_code (zx σ n0 bf).1 1051) 245 = .ok (.return_, 1) := zd zm_1051 (by decide +kernel)
theorem d_1051_246 {σ : Nat → Nat} {n0 : Nat} {bf : ab_B} : decode (ab_code (zx σ n0 bf).1 1051) 246 = .ok (.aload_n 0, 1) := zd zm_1051 (by decide +kernel)
theorem d_1051_247 {σ : Nat → Nat} {n0 : Nat} {bf : ab_B} : decode (ab_code (zx σ n0 bf).1 1051) 247 = .ok (.getfield 31, 3) := zd zm_1051 (by decide +kernel)
theorem d_1051_250 {σ : Nat → Nat} {n0 : Nat} {bf : ab_B} : decode (ab_code (zx σ n0 bf).1 1051) 250 = .ok (.aload_n 2, 1) := zd zm_1051 (by decide +kernel)
theorem d_1051_251 {σ : Nat → Nat} {n0 : Nat} {bf : ab_B} : decode (ab_code (zx σ n0 bf).1 1051) 251 = .ok (.iconst (-1), 1) := zd zm_1051 (by decide +kernel)
theorem d_1051_252 {σ : Nat → Nat} {n0 : Nat} {bf : ab_B} : decode (ab_code (zx σ n0 bf).1 1051) 252 = .ok (.invokevirtual 313, 3) := zd zm_1051 (by decide +kernel)
theorem d_1051_255 {σ : Nat → Nat} {n0 : Nat} {bf : ab_B} : decode (ab_code (zx σ n0 bf).1 1051) 255 = .ok (.lstore 5, 2) := zd zm_1051 (by decide +kernel)
theorem d_1051_257 {σ : Nat → Nat} {n0 : Nat} {bf : ab_B} : decode (ab_code (zx σ n0 bf).1 1051) 257 = .ok (.aload_n 0, 1) := zd zm_1051 (by decide +kernel)
theorem d_1051_258 {σ : Nat → Nat} {n0 : Nat} {bf : ab_B} : decode (ab_code (zx σ n0 bf).1 1051) 258 = .ok (.lload 5, 2) := zd zm_1051 (by decide +kernel)
theorem d_1051_260 {σ : Nat → Nat} {n0 : Nat} {bf : ab_B} : decode (ab_code (zx σ n0 bf).1 1051) 260 = .ok (.iload_n 3, 1) := zd zm_1051 (by decide +kernel)
theorem d_1051_261 {σ : Nat → Nat} {n0 : Nat} {bf : ab_B} : decode (ab_code (zx σ n0 bf).1 1051) 261 = .ok (.invokevirtual 184, 3) := zd zm_1051 (by decide +kernel)
theorem d_1051_264 {σ : Nat → Nat} {n0 : Nat} {bf : ab_B} : decode (ab_code (zx σ n0 bf).1 1051) 264 = .ok (.ifCond .ne 4, 3) := zd zm_1051 (by decide +kernel)
theorem d_1051_267 {σ : Nat → Nat} {n0 : Nat} {bf : ab_B} : decode (ab_code (zx σ n0 bf).1 1051) 267 = .ok (.return_, 1) := zd zm_1051 (by decide +kernel)
theorem d_1051_268 {σ : Nat → Nat} {n0 : Nat} {bf : ab_B} : decode (ab_code (zx σ n0 bf).1 1051) 268 = .ok (.aload_n 0, 1) := zd zm_1051 (by decide +kernel)
theorem d_1051_269 {σ : Nat → Nat} {n0 : Nat} {bf : ab_B} : decode (ab_code (zx σ n0 bf).1 1051) 269 = .ok (.getfield 52, 3) := zd zm_1051 (by decide +kernel)
theorem d_1051_272 {σ : Nat → Nat} {n0 : Nat} {bf : ab_B} : decode (ab_code (zx σ n0 bf).1 1051) 272 = .ok (.iload_n 1, 1) := zd zm_1051 (by decide +kernel)
theorem d_1051_273 {σ : Nat → Nat} {n0 : Nat} {bf : ab_B} : decode (ab_code (zx σ n0 bf).1 1051) 273 = .ok (.iconst (-1), 1) := zd zm_1051 (by decide +kernel)
theorem d_1051_274 {σ : Nat → Nat} {n0 : Nat} {bf : ab_B} : decode (ab_code (zx σ n0 bf).1 1051) 274 = .ok (.iastore, 1) := zd zm_1051 (by decide +kernel)
theorem d_1051_275 {σ : Nat → Nat} {n0 : Nat} {bf : ab_B} : decode (ab_code (zx σ n0 bf).1 1051) 275 = .ok (.aload_n 0, 1) := zd zm_1051 (by decide +kernel)
theorem d_1051_276 {σ : Nat → Nat} {n0 : Nat} {bf : ab_B} : decode (ab_code (zx σ n0 bf).1 1051) 276 = .ok (.iload_n 1, 1) := zd zm_1051 (by decide +kernel)
theorem d_1051_277 {σ : Nat → Nat} {n0 : Nat} {bf : ab_B} : decode (ab_code (zx σ n0 bf).1 1051) 277 = .ok (.aload_n 0, 1) := zd zm_1051 (by decide +kernel)
theorem d_1051_278 {σ : Nat → Nat} {n0 : Nat} {bf : ab_B} : decode (ab_code (zx σ n0 bf).1 1051) 278 = .ok (.getfield 123, 3) := zd zm_1051 (by decide +kernel)
theorem d_1051_281 {σ : Nat → Nat} {n0 : Nat} {bf : ab_B} : decode (ab_code (zx σ n0 bf).1 1051) 281 = .ok (.lload 5, 2) := zd zm_1051 (by decide +kernel)
theorem d_1051_283 {σ : Nat → Nat} {n0 : Nat} {bf : ab_B} : decode (ab_code (zx σ n0 bf).1 1051) 283 = .ok (.l2i, 1) := zd zm_1051 (by decide +kernel)
theorem d_1051_284 {σ : Nat → Nat} {n0 : Nat} {bf : ab_B} : decode (ab_code (zx σ n0 bf).1 1051) 284 = .ok (.invokevirtual 551, 3) := zd zm_1051 (by decide +kernel)
theorem d_1051_287 {σ : Nat → Nat} {n0 : Nat} {bf : ab_B} : decode (ab_code (zx σ n0 bf).1 1051) 287 = .ok (.return_, 1) := zd zm_1051 (by decide +kernel)
def w_X2_keep_268 (X : zs_X) (d : Nat) (p0 : Nat) (p1 : Int32) (p5 : Int64) (S : zs_T) (Q : zs_Q) : Prop :=
  (zs_K S p0 = some (.inl 1) ∧ ∃ b2, (zs_R S 1013 p0) = some b2 ∧ zs_A S b2 0 p1 ∧ ab_n0 X.1 ≤ b2 ∧ ∀ S6, S6 = zs_si S b2 p1.toNatClampNeg (-1 : Int32) → zs_C X d 1052 [.ref p0, .int p1, .int (zs_I S6 1015 p0), .int ((p5).toInt32)] S6 (zs_kV (fun S9 => (Q (.returned none) S9)) Q))
theorem u_X2_keep_268 {σ : Nat → Nat} {n0 : Nat} {bf : ab_B} {d : Nat} {p0 : Nat} {p1 : Int32} {p5 : Int64} {S : zs_T} {Q : zs_Q} (hB : zt_B bf) (h : w_X2_keep_268 (zx σ n0 bf) d p0 p1 p5 S Q) : zs_U (zx σ n0 bf) d 1051 268 [(0, .ref p0), (1, .int p1), (5, .long p5)] [] S Q := by
  unfold w_X2_keep_268 at h
  refine zu_aload_n d_1051_268 rfl (zs_ra _) ?_
  obtain ⟨k1, h⟩ := h
  refine zg_1_52 rfl d_1051_269 k1 ?_
  refine zu_iload_n d_1051_272 rfl ?_
  refine zu_iconst d_1051_273 zi_m1 ?_
  obtain ⟨b2, e3, h⟩ := h
  refine zs_stk2 (zs_rfe e3) ?_
  obtain ⟨k4, h⟩ := h
  obtain ⟨k5, h⟩ := h
  refine zu_iast (k := 0) d_1051_274 rfl rfl k5 k4 ?_
  generalize e7 : zs_si S b2 p1.toNatClampNeg (-1 : Int32) = S6
  have h := h S6 e7.symm
  have K8 : ∀ b, zs_K S6 b = zs_K S b := zs_Kt e7 (zs_Ksi _ _ _ _) (fun _ => rfl)
  refine zu_aload_n d_1051_275 rfl (zs_ra _) ?_
  refine zu_iload_n d_1051_276 rfl ?_
  refine zu_aload_n d_1051_277 rfl (zs_ra _) ?_
  refine zg_1_123 rfl d_1051_278 ((K8 _).trans k1) ?_
  refine zu_lload d_1051_281 rfl ?_
  refine zu_stk d_1051_283 rfl rfl ?_
  refine zc_1_551 (x0 := p1) (x1 := (zs_I S6 1015 p0)) (x2 := ((p5).toInt32)) hB rfl ((K8 _).trans k1) d_1051_284 (Nat.le_of_ble_eq_true rfl) h (fun S9 h => ?_)
  exact zu_vret d_1051_287 zr_1051 h
def w_X2_keep_267 (X : zs_X) (d : Nat)  (S : zs_T) (Q : zs_Q) : Prop :=
  (Q (.returned none) S)
theorem u_X2_keep_267 {σ : Nat → Nat} {n0 : Nat} {bf : ab_B} {d : Nat}  {S : zs_T} {Q : zs_Q} (hB : zt_B bf) (h : w_X2_keep_267 (zx σ n0 bf) d  S Q) : zs_U (zx σ n0 bf) d 1051 267 [] [] S Q := by
  unfold w_X2_keep_267 at h
  exact zu_vret d_1051_267 zr_1051 h
def w_X2_keep_23 (X : zs_X) (d : Nat) (p0 : Nat) (p1 : Int32) (p2 : Option Nat) (p3 : Int32) (q0 : Int32) (S : zs_T) (Q : zs_Q) : Prop :=
  (zs_K S p0 = some (.inl 1) ∧ ab_n0 X.1 ≤ p0 ∧ ∀ S3, S3 = zs_sI S 1007 p0 ((zs_I S 1007 p0) - q0) → ((q0 ≤ 0 → (∃ b7, (zs_R S3 1004 p0) = some b7 ∧ zs_K S b7 = some (.inl 2) ∧ zs_C X d 2012 [.ref b7, va_rf p2, .int (-1 : Int32)] S3 (zs_kJ (fun v11 S10 => (zs_K S10 p0 = some (.inl 1) ∧ zs_C X d 1003 [.ref p0, .long v11, .int p3] S10 (zs_kI (fun v14 S13 => (((¬ v14 = 0 → w_X2_keep_268 X d p0 p1 v11 S13 Q) ∧ (¬ (¬ v14 = 0) → w_X2_keep_267 X d  S13 Q)))) Q))) Q))) ∧ (¬ (q0 ≤ 0) → (∃ b16, (zs_R S3 1004 p0) = some b16 ∧ zs_K S b16 = some (.inl 2) ∧ zs_U X d 1051 53 [(0, .ref p0), (1, .int p1), (2, va_rf p2), (3, .int p3), (4, .int q0), (5, .int (zs_I S3 2001 b16)), (6, .int (0 : Int32))] [] S3 Q))))
theorem u_X2_keep_23 {σ : Nat → Nat} {n0 : Nat} {bf : ab_B} {d : Nat} {p0 : Nat} {p1 : Int32} {p2 : Option Nat} {p3 : Int32} {q0 : Int32} {S : zs_T} {Q : zs_Q} (hB : zt_B bf) (h : w_X2_keep_23 (zx σ n0 bf) d p0 p1 p2 p3 q0 S Q) : zs_U (zx σ n0 bf) d 1051 23 [(0, .ref p0), (1, .int p1), (2, va_rf p2), (3, .int p3)] [.int q0] S Q := by
  unfold w_X2_keep_23 at h
  refine zu_istore d_1051_23 (zs_lt zq_1051 rfl) ?_
  refine zu_aload_n d_1051_25 rfl (zs_ra _) ?_
  refine zu_dup d_1051_26 rfl ?_
  obtain ⟨k1, h⟩ := h
  refine zg_1_111 rfl d_1051_27 k1 ?_
  refine zu_iload d_1051_30 rfl ?_
  refine zu_stk d_1051_32 rfl rfl ?_
  obtain ⟨k2, h⟩ := h
  refine zp_1_111 (v := ((zs_I S 1007 p0) - q0)) rfl d_1051_33 k1 k2 ?_
  generalize e4 : zs_sI S 1007 p0 ((zs_I S 1007 p0) - q0) = S3
  have h := h S3 e4.symm
  have K5 : ∀ b, zs_K S3 b = zs_K S b := zs_Kt e4 (zs_KsI _ _ _ _) (fun _ => rfl)
  refine zu_iload d_1051_36 rfl ?_
  refine zu_ifle (t := 246) d_1051_38 rfl (fun c6 => ?_) (fun c6 => ?_)
  · have h := h.1 c6
    refine zu_aload_n d_1051_246 rfl (zs_ra _) ?_
    refine zg_1_31 rfl d_1051_247 ((K5 _).trans k1) ?_
    refine zu_aload_n d_1051_250 rfl (zs_rr _) ?_
    refine zu_iconst d_1051_251 zi_m1 ?_
    obtain ⟨b7, e8, h⟩ := h
    refine zs_stk2 (zs_rfe e8) ?_
    obtain ⟨k9, h⟩ := h
    refine zc_1_313 (x0 := p2) (x1 := (-1 : Int32)) hB rfl ((K5 _).trans k9) d_1051_252 (Nat.le_of_ble_eq_true rfl) h (fun v11 S10 h => ?_)
    refine zu_lstore d_1051_255 (zs_lt zq_1051 rfl) ?_
    refine zu_aload_n d_1051_257 rfl (zs_ra _) ?_
    refine zu_lload d_1051_258 rfl ?_
    refine zu_iload_n d_1051_260 rfl ?_
    obtain ⟨k12, h⟩ := h
    refine zc_1_184 (x0 := v11) (x1 := p3) hB rfl k12 d_1051_261 (Nat.le_of_ble_eq_true rfl) h (fun v14 S13 h => ?_)
    refine zu_ifne (t := 268) d_1051_264 rfl (fun c15 => ?_) (fun c15 => ?_)
    · have h := h.1 c15
      exact (u_X2_keep_268 hB h).weak ⟨rfl, rfl, rfl, trivial⟩
    · have h := h.2 c15
      exact (u_X2_keep_267 hB h).weak trivial
  · have h := h.2 c6
    refine zu_aload_n d_1051_41 rfl (zs_ra _) ?_
    refine zg_1_31 rfl d_1051_42 ((K5 _).trans k1) ?_
    obtain ⟨b16, e17, h⟩ := h
    refine zs_stk0 (zs_rfe e17) ?_
    obtain ⟨k18, h⟩ := h
    refine zg_1_295 rfl d_1051_45 ((K5 _).trans k18) ?_
    refine zu_istore d_1051_48 (zs_lt zq_1051 rfl) ?_
    refine zu_iconst d_1051_50 zi_0 ?_
    refine zu_istore d_1051_51 (zs_lt zq_1051 rfl) ?_
    exact h.weak ⟨rfl, rfl, rfl, rfl, rfl, rfl, rfl, trivial⟩
def w_X2_keep_180 (X : zs_X) (d : Nat) (p0 : Nat) (p1 : Int32) (p4 : Int32) (p6 : Int64) (S : zs_T) (Q : zs_Q) : Prop :=
  (zs_U X d 1051 183 [(0, .ref p0), (1, .int p1), (4, .int p4), (6, .long p6), (8, .int (0 : Int32))] [] S Q)
theorem u_X2_keep_180 {σ : Nat → Nat} {n0 : Nat} {bf : ab_B} {d : Nat} {p0 : Nat} {p1 : Int32} {p4 : Int32} {p6 : Int64} {S : zs_T} {Q : zs_Q} (hB : zt_B bf) (h : w_X2_keep_180 (zx σ n0 bf) d p0 p1 p4 p6 S Q) : zs_U (zx σ n0 bf) d 1051 180 [(0, .ref p0), (1, .int p1), (4, .int p4), (6, .long p6)] [] S Q := by
  unfold w_X2_keep_180 at h
  refine zu_iconst d_1051_180 zi_0 ?_
  refine zu_istore d_1051_181 (zs_lt zq_1051 rfl) ?_
  exact h.weak ⟨rfl, rfl, rfl, rfl, rfl, trivial⟩
def w_X2_keep_179 (X : zs_X) (d : Nat)  (S : zs_T) (Q : zs_Q) : Prop :=
  (Q (.returned none) S)
theorem u_X2_keep_179 {σ : Nat → Nat} {n0 : Nat} {bf : ab_B} {d : Nat}  {S : zs_T} {Q : zs_Q} (hB : zt_B bf) (h : w_X2_keep_179 (zx σ n0 bf) d  S Q) : zs_U (zx σ n0 bf) d 1051 179 [] [] S Q := by
  unfold w_X2_keep_179 at h
  exact zu_vret d_1051_179 zr_1051 h
def w_X2_keep_139 (X : zs_X) (d : Nat) (p0 : Nat) (p1 : Int32) (p3 : Int32) (p4 : Int32) (p5 : Int32) (q0 : Int64) (S : zs_T) (Q : zs_Q) : Prop :=
  (zs_K S p0 = some (.inl 1) ∧ ∃ b2, (zs_R S 1004 p0) = some b2 ∧ zs_K S b2 = some (.inl 2) ∧ ab_n0 X.1 ≤ b2 ∧ ∀ S6, S6 = zs_sI S 2001 b2 p5 → (((0 : Int64) ≤ q0 → (zs_C X d 1003 [.ref p0, .long (((p4).toInt64) + q0), .int p3] S6 (zs_kI (fun v11 S10 => (((¬ v11 = 0 → w_X2_keep_180 X d p0 p1 p4 q0 S10 Q) ∧ (¬ (¬ v11 = 0) → w_X2_keep_179 X d  S10 Q)))) Q))) ∧ (¬ ((0 : Int64) ≤ q0) → (zs_C X d 1004 [.ref p0, .int (2 : Int32), .int p3] S6 (zs_kI (fun v14 S13 => (Q (.returned none) S13)) Q)))))
theorem u_X2_keep_139 {σ : Nat → Nat} {n0 : Nat} {bf : ab_B} {d : Nat} {p0 : Nat} {p1 : Int32} {p3 : Int32} {p4 : Int32} {p5 : Int32} {q0 : Int64} {S : zs_T} {Q : zs_Q} (hB : zt_B bf) (h : w_X2_keep_139 (zx σ n0 bf) d p0 p1 p3 p4 p5 q0 S Q) : zs_U (zx σ n0 bf) d 1051 139 [(0, .ref p0), (1, .int p1), (3, .int p3), (4, .int p4), (5, .int p5)] [.long q0] S Q := by
  unfold w_X2_keep_139 at h
  refine zu_lstore d_1051_139 (zs_lt zq_1051 rfl) ?_
  refine zu_aload_n d_1051_141 rfl (zs_ra _) ?_
  obtain ⟨k1, h⟩ := h
  refine zg_1_31 rfl d_1051_142 k1 ?_
  refine zu_iload d_1051_145 rfl ?_
  obtain ⟨b2, e3, h⟩ := h
  refine zs_stk1 (zs_rfe e3) ?_
  obtain ⟨k4, h⟩ := h
  obtain ⟨k5, h⟩ := h
  refine zp_1_295 (v := p5) rfl d_1051_147 k4 k5 ?_
  generalize e7 : zs_sI S 2001 b2 p5 = S6
  have h := h S6 e7.symm
  have K8 : ∀ b, zs_K S6 b = zs_K S b := zs_Kt e7 (zs_KsI _ _ _ _) (fun _ => rfl)
  refine zu_lload d_1051_150 rfl ?_
  refine zu_lconst (v := 0) d_1051_152 rfl ?_
  refine zu_lge (t := 165) d_1051_153 d_1051_154 rfl (fun c9 => ?_) (fun c9 => ?_)
  · have h := h.1 c9
    refine zu_aload_n d_1051_165 rfl (zs_ra _) ?_
    refine zu_iload d_1051_166 rfl ?_
    refine zu_stk d_1051_168 rfl rfl ?_
    refine zu_lload d_1051_169 rfl ?_
    refine zu_stk d_1051_171 rfl rfl ?_
    refine zu_iload_n d_1051_172 rfl ?_
    refine zc_1_184 (x0 := (((p4).toInt64) + q0)) (x1 := p3) hB rfl ((K8 _).trans k1) d_1051_173 (Nat.le_of_ble_eq_true rfl) h (fun v11 S10 h => ?_)
    refine zu_ifne (t := 180) d_1051_176 rfl (fun c12 => ?_) (fun c12 => ?_)
    · have h := h.1 c12
      exact (u_X2_keep_180 hB h).weak ⟨rfl, rfl, rfl, rfl, trivial⟩
    · have h := h.2 c12
      exact (u_X2_keep_179 hB h).weak trivial
  · have h := h.2 c9
    refine zu_aload_n d_1051_157 rfl (zs_ra _) ?_
    refine zu_iconst d_1051_158 zi_2 ?_
    refine zu_iload_n d_1051_159 rfl ?_
    refine zc_1_194 (x0 := (2 : Int32)) (x1 := p3) hB rfl ((K8 _).trans k1) d_1051_160 (Nat.le_of_ble_eq_true rfl) h (fun v14 S13 h => ?_)
    refine zu_pop d_1051_163 rfl ?_
    exact zu_vret d_1051_164 zr_1051 h
def w_X2_keep_136 (X : zs_X) (d : Nat) (p0 : Nat) (p1 : Int32) (p3 : Int32) (p4 : Int32) (p5 : Int32) (S : zs_T) (Q : zs_Q) : Prop :=
  (w_X2_keep_139 X d p0 p1 p3 p4 p5 (-1 : Int64) S Q)
theorem u_X2_keep_136 {σ : Nat → Nat} {n0 : Nat} {bf : ab_B} {d : Nat} {p0 : Nat} {p1 : Int32} {p3 : Int32} {p4 : Int32} {p5 : Int32} {S : zs_T} {Q : zs_Q} (hB : zt_B bf) (h : w_X2_keep_136 (zx σ n0 bf) d p0 p1 p3 p4 p5 S Q) : zs_U (zx σ n0 bf) d 1051 136 [(0, .ref p0), (1, .int p1), (3, .int p3), (4, .int p4), (5, .int p5)] [] S Q := by
  unfold w_X2_keep_136 at h
  refine zl2_1_437 rfl d_1051_136 ?_
  exact (u_X2_keep_139 hB h).weak ⟨rfl, rfl, rfl, rfl, rfl, trivial⟩
def w_X2_keep_117 (X : zs_X) (d : Nat) (p0 : Nat) (p1 : Int32) (p2 : Option Nat) (p3 : Int32) (p4 : Int32) (p5 : Int32) (S : zs_T) (Q : zs_Q) : Prop :=
  (zs_K S p0 = some (.inl 1) ∧ ∃ b2, p2 = some b2 ∧ zs_K S b2 = some (.inl 6) ∧ ∃ b5, (zs_R S 6002 b2) = some b5 ∧ zs_K S b5 = some (.inl 6) ∧ ∃ b8, (zs_R S 1004 p0) = some b8 ∧ zs_K S b8 = some (.inl 2) ∧ zs_C X d 2007 [.ref b8, va_rf (zs_R S 6002 b5), .int p5] S (zs_kJ (fun v12 S11 => (w_X2_keep_139 X d p0 p1 p3 p4 p5 v12 S11 Q)) Q))
theorem u_X2_keep_117 {σ : Nat → Nat} {n0 : Nat} {bf : ab_B} {d : Nat} {p0 : Nat} {p1 : Int32} {p2 : Option Nat} {p3 : Int32} {p4 : Int32} {p5 : Int32} {S : zs_T} {Q : zs_Q} (hB : zt_B bf) (h : w_X2_keep_117 (zx σ n0 bf) d p0 p1 p2 p3 p4 p5 S Q) : zs_U (zx σ n0 bf) d 1051 117 [(0, .ref p0), (1, .int p1), (2, va_rf p2), (3, .int p3), (4, .int p4), (5, .int p5)] [] S Q := by
  unfold w_X2_keep_117 at h
  refine zu_aload_n d_1051_117 rfl (zs_ra _) ?_
  obtain ⟨k1, h⟩ := h
  refine zg_1_31 rfl d_1051_118 k1 ?_
  refine zu_aload_n d_1051_121 rfl (zs_rr _) ?_
  obtain ⟨b2, e3, h⟩ := h
  refine zs_stk0 (zs_rfe e3) ?_
  obtain ⟨k4, h⟩ := h
  refine zg_1_310 rfl d_1051_122 k4 ?_
  obtain ⟨b5, e6, h⟩ := h
  refine zs_stk0 (zs_rfe e6) ?_
  obtain ⟨k7, h⟩ := h
  refine zg_1_310 rfl d_1051_125 k7 ?_
  refine zu_iload d_1051_128 rfl ?_
  obtain ⟨b8, e9, h⟩ := h
  refine zs_stk2 (zs_rfe e9) ?_
  obtain ⟨k10, h⟩ := h
  refine zc_1_548 (x0 := (zs_R S 6002 b5)) (x1 := p5) hB rfl k10 d_1051_130 (Nat.le_of_ble_eq_true rfl) h (fun v12 S11 h => ?_)
  refine zu_goto (t := 139) d_1051_133 rfl ?_
  exact (u_X2_keep_139 hB h).weak ⟨rfl, rfl, rfl, rfl, rfl, trivial⟩
def w_X2_keep_82 (X : zs_X) (d : Nat) (p0 : Nat) (p1 : Int32) (p2 : Option Nat) (p3 : Int32) (p4 : Int32) (p5 : Int32) (p6 : Int32) (S : zs_T) (Q : zs_Q) : Prop :=
  (zs_U X d 1051 53 [(0, .ref p0), (1, .int p1), (2, va_rf p2), (3, .int p3), (4, .int p4), (5, .int p5), (6, .int (p6 + (1 : Int32)))] [] S Q)
theorem u_X2_keep_82 {σ : Nat → Nat} {n0 : Nat} {bf : ab_B} {d : Nat} {p0 : Nat} {p1 : Int32} {p2 : Option Nat} {p3 : Int32} {p4 : Int32} {p5 : Int32} {p6 : Int32} {S : zs_T} {Q : zs_Q} (hB : zt_B bf) (h : w_X2_keep_82 (zx σ n0 bf) d p0 p1 p2 p3 p4 p5 p6 S Q) : zs_U (zx σ n0 bf) d 1051 82 [(0, .ref p0), (1, .int p1), (2, va_rf p2), (3, .int p3), (4, .int p4), (5, .int p5), (6, .int p6)] [] S Q := by
  unfold w_X2_keep_82 at h
  refine zu_iinc d_1051_82 rfl zi_1 (zs_lt zq_1051 rfl) ?_
  refine zu_goto (t := 53) d_1051_85 rfl ?_
  exact h.weak ⟨rfl, rfl, rfl, rfl, rfl, rfl, rfl, trivial⟩
def w_X2_keep_53 (X : zs_X) (d : Nat) (p0 : Nat) (p1 : Int32) (p2 : Option Nat) (p3 : Int32) (p4 : Int32) (p5 : Int32) (p6 : Int32) (S : zs_T) (Q : zs_Q) : Prop :=
  (((p4 ≤ p6 → (zs_K S p0 = some (.inl 1) ∧ ∃ b3, (zs_R S 1004 p0) = some b3 ∧ zs_K S b3 = some (.inl 2) ∧ ab_n0 X.1 ≤ b3 ∧ ∀ S7, S7 = zs_sI S 2001 b3 ((zs_I S 2001 b3) + (4 : Int32)) → ∃ b10, p2 = some b10 ∧ zs_K S b10 = some (.inl 6) ∧ ∃ b13, (zs_R S7 1004 p0) = some b13 ∧ zs_K S b13 = some (.inl 2) ∧ zs_C X d 2011 [.ref b13, va_rf (zs_R S7 6002 b10), .int p5] S7 (zs_kI (fun v17 S16 => (((v17 = 0 → w_X2_keep_136 X d p0 p1 p3 p4 p5 S16 Q) ∧ (¬ (v17 = 0) → w_X2_keep_117 X d p0 p1 p2 p3 p4 p5 S16 Q)))) Q))) ∧ (¬ (p4 ≤ p6) → (zs_K S p0 = some (.inl 1) ∧ ∃ b20, (zs_R S 1005 p0) = some b20 ∧ zs_A S b20 3 ((zs_I S 1007 p0) + p6) ∧ ∃ b23, (zs_R S 1001 p0) = some b23 ∧ zs_A S b23 3 (p5 + p6) ∧ ab_n0 X.1 ≤ b23 ∧ ∀ S27, S27 = zs_sj S b23 (p5 + p6).toNatClampNeg (zs_j S b20 ((zs_I S 1007 p0) + p6).toNatClampNeg) → w_X2_keep_82 X d p0 p1 p2 p3 p4 p5 p6 S27 Q))))
theorem u_X2_keep_53 {σ : Nat → Nat} {n0 : Nat} {bf : ab_B} {d : Nat} {p0 : Nat} {p1 : Int32} {p2 : Option Nat} {p3 : Int32} {p4 : Int32} {p5 : Int32} {p6 : Int32} {S : zs_T} {Q : zs_Q} (hB : zt_B bf) (h : w_X2_keep_53 (zx σ n0 bf) d p0 p1 p2 p3 p4 p5 p6 S Q) : zs_U (zx σ n0 bf) d 1051 53 [(0, .ref p0), (1, .int p1), (2, va_rf p2), (3, .int p3), (4, .int p4), (5, .int p5), (6, .int p6)] [] S Q := by
  unfold w_X2_keep_53 at h
  refine zu_iload d_1051_53 rfl ?_
  refine zu_iload d_1051_55 rfl ?_
  refine zu_cmpge (t := 88) d_1051_57 rfl (fun c1 => ?_) (fun c1 => ?_)
  · have h := h.1 c1
    refine zu_aload_n d_1051_88 rfl (zs_ra _) ?_
    obtain ⟨k2, h⟩ := h
    refine zg_1_31 rfl d_1051_89 k2 ?_
    refine zu_dup d_1051_92 (zs_cat _) ?_
    obtain ⟨b3, e4, h⟩ := h
    refine zs_stk0 (zs_rfe e4) ?_
    obtain ⟨k5, h⟩ := h
    refine zg_1_295 rfl d_1051_93 k5 ?_
    refine zu_iconst d_1051_96 zi_4 ?_
    refine zu_stk d_1051_97 rfl rfl ?_
    refine zs_stk1 (zs_rfe e4) ?_
    obtain ⟨k6, h⟩ := h
    refine zp_1_295 (v := ((zs_I S 2001 b3) + (4 : Int32))) rfl d_1051_98 k5 k6 ?_
    generalize e8 : zs_sI S 2001 b3 ((zs_I S 2001 b3) + (4 : Int32)) = S7
    have h := h S7 e8.symm
    have K9 : ∀ b, zs_K S7 b = zs_K S b := zs_Kt e8 (zs_KsI _ _ _ _) (fun _ => rfl)
    refine zu_aload_n d_1051_101 rfl (zs_ra _) ?_
    refine zg_1_31 rfl d_1051_102 ((K9 _).trans k2) ?_
    refine zu_aload_n d_1051_105 rfl (zs_rr _) ?_
    obtain ⟨b10, e11, h⟩ := h
    refine zs_stk0 (zs_rfe e11) ?_
    obtain ⟨k12, h⟩ := h
    refine zg_1_310 rfl d_1051_106 ((K9 _).trans k12) ?_
    refine zu_iload d_1051_109 rfl ?_
    obtain ⟨b13, e14, h⟩ := h
    refine zs_stk2 (zs_rfe e14) ?_
    obtain ⟨k15, h⟩ := h
    refine zc_1_545 (x0 := (zs_R S7 6002 b10)) (x1 := p5) hB rfl ((K9 _).trans k15) d_1051_111 (Nat.le_of_ble_eq_true rfl) h (fun v17 S16 h => ?_)
    refine zu_ifeq (t := 136) d_1051_114 rfl (fun c18 => ?_) (fun c18 => ?_)
    · have h := h.1 c18
      exact (u_X2_keep_136 hB h).weak ⟨rfl, rfl, rfl, rfl, rfl, trivial⟩
    · have h := h.2 c18
      exact (u_X2_keep_117 hB h).weak ⟨rfl, rfl, rfl, rfl, rfl, rfl, trivial⟩
  · have h := h.2 c1
    refine zu_aload_n d_1051_60 rfl (zs_ra _) ?_
    obtain ⟨k19, h⟩ := h
    refine zg_1_10 rfl d_1051_61 k19 ?_
    refine zu_iload d_1051_64 rfl ?_
    refine zu_iload d_1051_66 rfl ?_
    refine zu_stk d_1051_68 rfl rfl ?_
    refine zu_aload_n d_1051_69 rfl (zs_ra _) ?_
    refine zg_1_36 rfl d_1051_70 k19 ?_
    refine zu_aload_n d_1051_73 rfl (zs_ra _) ?_
    refine zg_1_111 rfl d_1051_74 k19 ?_
    refine zu_iload d_1051_77 rfl ?_
    refine zu_stk d_1051_79 rfl rfl ?_
    obtain ⟨b20, e21, h⟩ := h
    refine zs_stk1 (zs_rfe e21) ?_
    obtain ⟨k22, h⟩ := h
    refine zu_lald (k := 3) d_1051_80 rfl rfl k22 ?_
    obtain ⟨b23, e24, h⟩ := h
    refine zs_stk2 (zs_rfe e24) ?_
    obtain ⟨k25, h⟩ := h
    obtain ⟨k26, h⟩ := h
    refine zu_last (k := 3) d_1051_81 rfl rfl k26 k25 ?_
    generalize e28 : zs_sj S b23 (p5 + p6).toNatClampNeg (zs_j S b20 ((zs_I S 1007 p0) + p6).toNatClampNeg) = S27
    have h := h S27 e28.symm
    have K29 : ∀ b, zs_K S27 b = zs_K S b := zs_Kt e28 (zs_Ksj _ _ _ _) (fun _ => rfl)
    exact (u_X2_keep_82 hB h).weak ⟨rfl, rfl, rfl, rfl, rfl, rfl, rfl, trivial⟩
def w_X2_keep_245 (X : zs_X) (d : Nat)  (S : zs_T) (Q : zs_Q) : Prop :=
  (Q (.returned none) S)
theorem u_X2_keep_245 {σ : Nat → Nat} {n0 : Nat} {bf : ab_B} {d : Nat}  {S : zs_T} {Q : zs_Q} (hB : zt_B bf) (h : w_X2_keep_245 (zx σ n0 bf) d  S Q) : zs_U (zx σ n0 bf) d 1051 245 [] [] S Q := by
  unfold w_X2_keep_245 at h
  exact zu_vret d_1051_245 zr_1051 h
def w_X2_keep_214 (X : zs_X) (d : Nat) (p0 : Nat) (p1 : Int32) (p4 : Int32) (p6 : Int64) (p8 : Int32) (S : zs_T) (Q : zs_Q) : Prop :=
  (zs_U X d 1051 183 [(0, .ref p0), (1, .int p1), (4, .int p4), (6, .long p6), (8, .int (p8 + (1 : Int32)))] [] S Q)
theorem u_X2_keep_214 {σ : Nat → Nat} {n0 : Nat} {bf : ab_B} {d : Nat} {p0 : Nat} {p1 : Int32} {p4 : Int32} {p6 : Int64} {p8 : Int32} {S : zs_T} {Q : zs_Q} (hB : zt_B bf) (h : w_X2_keep_214 (zx σ n0 bf) d p0 p1 p4 p6 p8 S Q) : zs_U (zx σ n0 bf) d 1051 214 [(0, .ref p0), (1, .int p1), (4, .int p4), (6, .long p6), (8, .int p8)] [] S Q := by
  unfold w_X2_keep_214 at h
  refine zu_iinc d_1051_214 rfl zi_1 (zs_lt zq_1051 rfl) ?_
  refine zu_goto (t := 183) d_1051_217 rfl ?_
  exact h.weak ⟨rfl, rfl, rfl, rfl, rfl, trivial⟩
def w_X2_keep_183 (X : zs_X) (d : Nat) (p0 : Nat) (p1 : Int32) (p4 : Int32) (p6 : Int64) (p8 : Int32) (S : zs_T) (Q : zs_Q) : Prop :=
  (((p4 ≤ p8 → (zs_K S p0 = some (.inl 1) ∧ ∃ b3, (zs_R S 1013 p0) = some b3 ∧ zs_A S b3 0 p1 ∧ ab_n0 X.1 ≤ b3 ∧ ∀ S7, S7 = zs_si S b3 p1.toNatClampNeg (zs_I S 1015 p0) → zs_C X d 1052 [.ref p0, .int p1, .int ((zs_I S7 1015 p0) + p4), .int ((p6).toInt32)] S7 (zs_kV (fun S10 => w_X2_keep_245 X d  S10 Q) Q))) ∧ (¬ (p4 ≤ p8) → (zs_K S p0 = some (.inl 1) ∧ ∃ b13, (zs_R S 1005 p0) = some b13 ∧ zs_A S b13 3 ((zs_I S 1007 p0) + p8) ∧ ∃ b16, (zs_R S 1001 p0) = some b16 ∧ zs_A S b16 3 ((zs_I S 1015 p0) + p8) ∧ ab_n0 X.1 ≤ b16 ∧ ∀ S20, S20 = zs_sj S b16 ((zs_I S 1015 p0) + p8).toNatClampNeg (zs_j S b13 ((zs_I S 1007 p0) + p8).toNatClampNeg) → w_X2_keep_214 X d p0 p1 p4 p6 p8 S20 Q))))
theorem u_X2_keep_183 {σ : Nat → Nat} {n0 : Nat} {bf : ab_B} {d : Nat} {p0 : Nat} {p1 : Int32} {p4 : Int32} {p6 : Int64} {p8 : Int32} {S : zs_T} {Q : zs_Q} (hB : zt_B bf) (h : w_X2_keep_183 (zx σ n0 bf) d p0 p1 p4 p6 p8 S Q) : zs_U (zx σ n0 bf) d 1051 183 [(0, .ref p0), (1, .int p1), (4, .int p4), (6, .long p6), (8, .int p8)] [] S Q := by
  unfold w_X2_keep_183 at h
  refine zu_iload d_1051_183 rfl ?_
  refine zu_iload d_1051_185 rfl ?_
  refine zu_cmpge (t := 220) d_1051_187 rfl (fun c1 => ?_) (fun c1 => ?_)
  · have h := h.1 c1
    refine zu_aload_n d_1051_220 rfl (zs_ra _) ?_
    obtain ⟨k2, h⟩ := h
    refine zg_1_52 rfl d_1051_221 k2 ?_
    refine zu_iload_n d_1051_224 rfl ?_
    refine zu_aload_n d_1051_225 rfl (zs_ra _) ?_
    refine zg_1_123 rfl d_1051_226 k2 ?_
    obtain ⟨b3, e4, h⟩ := h
    refine zs_stk2 (zs_rfe e4) ?_
    obtain ⟨k5, h⟩ := h
    obtain ⟨k6, h⟩ := h
    refine zu_iast (k := 0) d_1051_229 rfl rfl k6 k5 ?_
    generalize e8 : zs_si S b3 p1.toNatClampNeg (zs_I S 1015 p0) = S7
    have h := h S7 e8.symm
    have K9 : ∀ b, zs_K S7 b = zs_K S b := zs_Kt e8 (zs_Ksi _ _ _ _) (fun _ => rfl)
    refine zu_aload_n d_1051_230 rfl (zs_ra _) ?_
    refine zu_iload_n d_1051_231 rfl ?_
    refine zu_aload_n d_1051_232 rfl (zs_ra _) ?_
    refine zg_1_123 rfl d_1051_233 ((K9 _).trans k2) ?_
    refine zu_iload d_1051_236 rfl ?_
    refine zu_stk d_1051_238 rfl rfl ?_
    refine zu_lload d_1051_239 rfl ?_
    refine zu_stk d_1051_241 rfl rfl ?_
    refine zc_1_551 (x0 := p1) (x1 := ((zs_I S7 1015 p0) + p4)) (x2 := ((p6).toInt32)) hB rfl ((K9 _).trans k2) d_1051_242 (Nat.le_of_ble_eq_true rfl) h (fun S10 h => ?_)
    exact (u_X2_keep_245 hB h).weak trivial
  · have h := h.2 c1
    refine zu_aload_n d_1051_190 rfl (zs_ra _) ?_
    obtain ⟨k12, h⟩ := h
    refine zg_1_10 rfl d_1051_191 k12 ?_
    refine zu_aload_n d_1051_194 rfl (zs_ra _) ?_
    refine zg_1_123 rfl d_1051_195 k12 ?_
    refine zu_iload d_1051_198 rfl ?_
    refine zu_stk d_1051_200 rfl rfl ?_
    refine zu_aload_n d_1051_201 rfl (zs_ra _) ?_
    refine zg_1_36 rfl d_1051_202 k12 ?_
    refine zu_aload_n d_1051_205 rfl (zs_ra _) ?_
    refine zg_1_111 rfl d_1051_206 k12 ?_
    refine zu_iload d_1051_209 rfl ?_
    refine zu_stk d_1051_211 rfl rfl ?_
    obtain ⟨b13, e14, h⟩ := h
    refine zs_stk1 (zs_rfe e14) ?_
    obtain ⟨k15, h⟩ := h
    refine zu_lald (k := 3) d_1051_212 rfl rfl k15 ?_
    obtain ⟨b16, e17, h⟩ := h
    refine zs_stk2 (zs_rfe e17) ?_
    obtain ⟨k18, h⟩ := h
    obtain ⟨k19, h⟩ := h
    refine zu_last (k := 3) d_1051_213 rfl rfl k19 k18 ?_
    generalize e21 : zs_sj S b16 ((zs_I S 1015 p0) + p8).toNatClampNeg (zs_j S b13 ((zs_I S 1007 p0) + p8).toNatClampNeg) = S20
    have h := h S20 e21.symm
    have K22 : ∀ b, zs_K S20 b = zs_K S b := zs_Kt e21 (zs_Ksj _ _ _ _) (fun _ => rfl)
    exact (u_X2_keep_214 hB h).weak ⟨rfl, rfl, rfl, rfl, rfl, trivial⟩
def w_X2_keep (X : zs_X) (d : Nat) (p0 : Nat) (p1 : Int32) (p2 : Option Nat) (p3 : Int32) (S : zs_T) (Q : zs_Q) : Prop :=
  (∃ b1, p2 = some b1 ∧ zs_K S b1 = some (.inl 6) ∧ ((¬ (zs_I S 6000 b1) = (11 : Int32) → (w_X2_keep_23 X d p0 p1 p2 p3 (0 : Int32) S Q)) ∧ (¬ (¬ (zs_I S 6000 b1) = (11 : Int32)) → (∃ b5, (zs_R S 6002 b1) = some b5 ∧ zs_K S b5 = some (.inl 6) ∧ ∃ b8, (zs_R S 6007 b5) = some b8 ∧ zs_K S b8 = some (.inl 16) ∧ zs_C X d 16001 [.ref b8] S (zs_kI (fun v12 S11 => (w_X2_keep_23 X d p0 p1 p2 p3 v12 S11 Q)) Q)))))
theorem u_X2_keep {σ : Nat → Nat} {n0 : Nat} {bf : ab_B} {d : Nat} {p0 : Nat} {p1 : Int32} {p2 : Option Nat} {p3 : Int32} {S : zs_T} {Q : zs_Q} (hB : zt_B bf) (hd : 1 ≤ d) (h : w_X2_keep (zx σ n0 bf) (d - 1) p0 p1 p2 p3 S Q) : zs_C (zx σ n0 bf) d 1051 [.ref p0, .int p1, va_rf p2, .int p3] S Q := by
  have hL : lv_args 0 [.ref p0, .int p1, va_rf p2, .int p3] = [(0, .ref p0), (1, .int p1), (2, va_rf p2), (3, .int p3)] := by simp [lv_args, zs_cat, zs_cI, zs_cJ, zs_cA]
  refine zs_C.of1 (hB.2 1051 (by decide) (by decide)) hd (by rw [hL]; exact zs_sub_self _ (by exact ⟨rfl, rfl, rfl, rfl, trivial⟩)) ?_
  rw [hL]
  clear hL
  unfold w_X2_keep at h
  refine zu_aload_n d_1051_0 rfl (zs_rr _) ?_
  obtain ⟨b1, e2, h⟩ := h
  refine zs_stk0 (zs_rfe e2) ?_
  obtain ⟨k3, h⟩ := h
  refine zg_1_374 rfl d_1051_1 k3 ?_
  refine zu_bipush d_1051_4 zj_11 ?_
  refine zu_cmpne (t := 22) d_1051_6 rfl (fun c4 => ?_) (fun c4 => ?_)
  · have h := h.1 c4
    refine zu_iconst d_1051_22 zi_0 ?_
    exact (u_X2_keep_23 hB h).weak ⟨rfl, rfl, rfl, rfl, trivial⟩
  · have h := h.2 c4
    refine zu_aload_n d_1051_9 rfl (zs_rr _) ?_
    refine zs_stk0 (zs_rfe e2) ?_
    refine zg_1_310 rfl d_1051_10 k3 ?_
    obtain ⟨b5, e6, h⟩ := h
    refine zs_stk0 (zs_rfe e6) ?_
    obtain ⟨k7, h⟩ := h
    refine zg_1_362 rfl d_1051_13 k7 ?_
    obtain ⟨b8, e9, h⟩ := h
    refine zs_stk0 (zs_rfe e9) ?_
    obtain ⟨k10, h⟩ := h
    refine zc_1_336  hB rfl k10 d_1051_16 (Nat.le_of_ble_eq_true rfl) h (fun v12 S11 h => ?_)
    refine zu_goto (t := 23) d_1051_19 rfl ?_
    exact (u_X2_keep_23 hB h).weak ⟨rfl, rfl, rfl, rfl, trivial⟩
/-! SchemaPascal$Machine.place(III)V -/
theorem zm_1052 {σ : Nat → Nat} {n0 : Nat} {bf : ab_B} : ab_code (zx σ n0 bf).1 1052 = prog_5_method_54_code := rfl
theorem zq_1052 {σ : Nat → Nat} {n0 : Nat} {bf : ab_B} : ab_maxL (zx σ n0 bf).1 1052 = 5 := rfl
theorem zr_1052 {σ : Nat → Nat} {n0 : Nat} {bf : ab_B} : ab_ret (zx σ n0 bf).1 1052 = (Option.none : Option Jvm.ClassFile.FieldType) := rfl
theorem d_1052_0 {σ : Nat → Nat} {n0 : Nat} {bf : ab_B} : decode (ab_code (zx σ n0 bf).1 1052) 0 = .ok (.aload_n 0, 1) := zd zm_1052 (by decide +kernel)
theorem d_1052_1 {σ : Nat → Nat} {n0 : Nat} {bf : ab_B} : decode (ab_code (zx σ n0 bf).1 1052) 1 = .ok (.getfield 49, 3) := zd zm_1052 (by decide +kernel)
theorem d_1052_4 {σ : Nat → Nat} {n0 : Nat} {bf : ab_B} : decode (ab_code (zx σ n0 bf).1 1052) 4 = .ok (.iload_n 1, 1) := zd zm_1052 (by decide +kernel)
theorem d_1052_5 {σ : Nat → Nat} {n0 : Nat} {bf : ab_B} : decode (ab_code (zx σ n0 bf).1 1052) 5 = .ok (.iload_n 2, 1) := zd zm_1052 (by decide +kernel)
theorem d_1052_6 {σ : Nat → Nat} {n0 : Nat} {bf : ab_B} : decode (ab_code (zx σ n0 bf).1 1052) 6 = .ok (.iastore, 1) := zd zm_1052 (by decide +kernel)
theorem d_1052_7 {σ : Nat → Nat} {n0 : Nat} {bf : ab_B} : decode (ab_code (zx σ n0 bf).1 1052) 7 = .ok (.aload_n 0, 1) := zd zm_1052 (by decide +kernel)
theorem d_1052_8 {σ : Nat → Nat} {n0 : Nat} {bf : ab_B} : decode (ab_code (zx σ n0 bf).1 1052) 8 = .ok (.iload_n 2, 1) := zd zm_1052 (by decide +kernel)
theorem d_1052_9 {σ : Nat → Nat} {n0 : Nat} {bf : ab_B} : decode (ab_code (zx σ n0 bf).1 1052) 9 = .ok (.iload_n 3, 1) := zd zm_1052 (by decide +kernel)
theorem d_1052_10 {σ : Nat → Nat} {n0 : Nat} {bf : ab_B} : decode (ab_code (zx σ n0 bf).1 1052) 10 = .ok (.iadd, 1) := zd zm_1052 (by decide +kernel)
theorem d_1052_11 {σ : Nat → Nat} {n0 : Nat} {bf : ab_B} : decode (ab_code (zx σ n0 bf).1 1052) 11 = .ok (.putfield 123, 3) := zd zm_1052 (by decide +kernel)
theorem d_1052_14 {σ : Nat → Nat} {n0 : Nat} {bf : ab_B} : decode (ab_code (zx σ n0 bf).1 1052) 14 = .ok (.iconst 0, 1) := zd zm_1052 (by decide +kernel)
theorem d_1052_15 {σ : Nat → Nat} {n0 : Nat} {bf : ab_B} : decode (ab_code (zx σ n0 bf).1 1052) 15 = .ok (.istore 4, 2) := zd zm_1052 (by decide +kernel)
theorem d_1052_17 {σ : Nat → Nat} {n0 : Nat} {bf : ab_B} : decode (ab_code (zx σ n0 bf).1 1052) 17 = .ok (.iload 4, 2) := zd zm_1052 (by decide +kernel)
theorem d_1052_19 {σ : Nat → Nat} {n0 : Nat} {bf : ab_B} : decode (ab_code (zx σ n0 bf).1 1052) 19 = .ok (.iload_n 3, 1) := zd zm_1052 (by decide +kernel)
theorem d_1052_20 {σ : Nat → Nat} {n0 : Nat} {bf : ab_B} : decode (ab_code (zx σ n0 bf).1 1052) 20 = .ok (.if_icmp .ge 19, 3) := zd zm_1052 (by decide +kernel)
theorem d_1052_23 {σ : Nat → Nat} {n0 : Nat} {bf : ab_B} : decode (ab_code (zx σ n0 bf).1 1052) 23 = .ok (.aload_n 0, 1) := zd zm_1052 (by decide +kernel)
theorem d_1052_24 {σ : Nat → Nat} {n0 : Nat} {bf : ab_B} : decode (ab_code (zx σ n0 bf).1 1052) 24 = .ok (.getfield 17, 3) := zd zm_1052 (by decide +kernel)
theorem d_1052_27 {σ : Nat → Nat} {n0 : Nat} {bf : ab_B} : decode (ab_code (zx σ n0 bf).1 1052) 27 = .ok (.iload_n 2, 1) := zd zm_1052 (by decide +kernel)
theorem d_1052_28 {σ : Nat → Nat} {n0 : Nat} {bf : ab_B} : decode (ab_code (zx σ n0 bf).1 1052) 28 = .ok (.iload 4, 2) := zd zm_1052 (by decide +kernel)
theorem d_1052_30 {σ : Nat → Nat} {n0 : Nat} {bf : ab_B} : decode (ab_code (zx σ n0 bf).1 1052) 30 = .ok (.iadd, 1) := zd zm_1052 (by decide +kernel)
theorem d_1052_31 {σ : Nat → Nat} {n0 : Nat} {bf : ab_B} : decode (ab_code (zx σ n0 bf).1 1052) 31 = .ok (.iconst 0, 1) := zd zm_1052 (by decide +kernel)
theorem d_1052_32 {σ : Nat → Nat} {n0 : Nat} {bf : ab_B} : decode (ab_code (zx σ n0 bf).1 1052) 32 = .ok (.bastore, 1) := zd zm_1052 (by decide +kernel)
theorem d_1052_33 {σ : Nat → Nat} {n0 : Nat} {bf : ab_B} : decode (ab_code (zx σ n0 bf).1 1052) 33 = .ok (.iinc 4 1, 3) := zd zm_1052 (by decide +kernel)
theorem d_1052_36 {σ : Nat → Nat} {n0 : Nat} {bf : ab_B} : decode (ab_code (zx σ n0 bf).1 1052) 36 = .ok (.goto (-19), 3) := zd zm_1052 (by decide +kernel)
theorem d_1052_39 {σ : Nat → Nat} {n0 : Nat} {bf : ab_B} : decode (ab_code (zx σ n0 bf).1 1052) 39 = .ok (.return_, 1) := zd zm_1052 (by decide +kernel)
def w_X2_place_17 (X : zs_X) (d : Nat) (p0 : Nat) (p2 : Int32) (p3 : Int32) (p4 : Int32) (S : zs_T) (Q : zs_Q) : Prop :=
  (((p3 ≤ p4 → (Q (.returned none) S)) ∧ (¬ (p3 ≤ p4) → (zs_K S p0 = some (.inl 1) ∧ ∃ b3, (zs_R S 1002 p0) = some b3 ∧ zs_A S b3 2 (p2 + p4) ∧ ab_n0 X.1 ≤ b3 ∧ ∀ S7, S7 = zs_si S b3 (p2 + p4).toNatClampNeg (vp_nar .boolean (0 : Int32)) → zs_U X d 1052 17 [(0, .ref p0), (2, .int p2), (3, .int p3), (4, .int (p4 + (1 : Int32)))] [] S7 Q))))
theorem u_X2_place_17 {σ : Nat → Nat} {n0 : Nat} {bf : ab_B} {d : Nat} {p0 : Nat} {p2 : Int32} {p3 : Int32} {p4 : Int32} {S : zs_T} {Q : zs_Q} (hB : zt_B bf) (h : w_X2_place_17 (zx σ n0 bf) d p0 p2 p3 p4 S Q) : zs_U (zx σ n0 bf) d 1052 17 [(0, .ref p0), (2, .int p2), (3, .int p3), (4, .int p4)] [] S Q := by
  unfold w_X2_place_17 at h
  refine zu_iload d_1052_17 rfl ?_
  refine zu_iload_n d_1052_19 rfl ?_
  refine zu_cmpge (t := 39) d_1052_20 rfl (fun c1 => ?_) (fun c1 => ?_)
  · have h := h.1 c1
    exact zu_vret d_1052_39 zr_1052 h
  · have h := h.2 c1
    refine zu_aload_n d_1052_23 rfl (zs_ra _) ?_
    obtain ⟨k2, h⟩ := h
    refine zg_1_17 rfl d_1052_24 k2 ?_
    refine zu_iload_n d_1052_27 rfl ?_
    refine zu_iload d_1052_28 rfl ?_
    refine zu_stk d_1052_30 rfl rfl ?_
    refine zu_iconst d_1052_31 zi_0 ?_
    obtain ⟨b3, e4, h⟩ := h
    refine zs_stk2 (zs_rfe e4) ?_
    obtain ⟨k5, h⟩ := h
    obtain ⟨k6, h⟩ := h
    refine zu_bast_bool (k := 2) d_1052_32 rfl rfl k6 k5 ?_
    generalize e8 : zs_si S b3 (p2 + p4).toNatClampNeg (vp_nar .boolean (0 : Int32)) = S7
    have h := h S7 e8.symm
    have K9 : ∀ b, zs_K S7 b = zs_K S b := zs_Kt e8 (zs_Ksi _ _ _ _) (fun _ => rfl)
    refine zu_iinc d_1052_33 rfl zi_1 (zs_lt zq_1052 rfl) ?_
    refine zu_goto (t := 17) d_1052_36 rfl ?_
    exact h.weak ⟨rfl, rfl, rfl, rfl, trivial⟩
def w_X2_place (X : zs_X) (d : Nat) (p0 : Nat) (p1 : Int32) (p2 : Int32) (p3 : Int32) (S : zs_T) (Q : zs_Q) : Prop :=
  (zs_K S p0 = some (.inl 1) ∧ ∃ b2, (zs_R S 1012 p0) = some b2 ∧ zs_A S b2 0 p1 ∧ ab_n0 X.1 ≤ b2 ∧ ∀ S6, S6 = zs_si S b2 p1.toNatClampNeg p2 → ab_n0 X.1 ≤ p0 ∧ ∀ S10, S10 = zs_sI S6 1015 p0 (p2 + p3) → zs_U X d 1052 17 [(0, .ref p0), (2, .int p2), (3, .int p3), (4, .int (0 : Int32))] [] S10 Q)
theorem u_X2_place {σ : Nat → Nat} {n0 : Nat} {bf : ab_B} {d : Nat} {p0 : Nat} {p1 : Int32} {p2 : Int32} {p3 : Int32} {S : zs_T} {Q : zs_Q} (hB : zt_B bf) (hd : 1 ≤ d) (h : w_X2_place (zx σ n0 bf) (d - 1) p0 p1 p2 p3 S Q) : zs_C (zx σ n0 bf) d 1052 [.ref p0, .int p1, .int p2, .int p3] S Q := by
  have hL : lv_args 0 [.ref p0, .int p1, .int p2, .int p3] = [(0, .ref p0), (1, .int p1), (2, .int p2), (3, .int p3)] := rfl
  refine zs_C.of1 (hB.2 1052 (by decide) (by decide)) hd (by rw [hL]; exact zs_sub_self _ (by exact ⟨rfl, rfl, rfl, rfl, trivial⟩)) ?_
  rw [hL]
  clear hL
  unfold w_X2_place at h
  refine zu_aload_n d_1052_0 rfl (zs_ra _) ?_
  obtain ⟨k1, h⟩ := h
  refine zg_1_49 rfl d_1052_1 k1 ?_
  refine zu_iload_n d_1052_4 rfl ?_
  refine zu_iload_n d_1052_5 rfl ?_
  obtain ⟨b2, e3, h⟩ := h
  refine zs_stk2 (zs_rfe e3) ?_
  obtain ⟨k4, h⟩ := h
  obtain ⟨k5, h⟩ := h
  refine zu_iast (k := 0) d_1052_6 rfl rfl k5 k4 ?_
  generalize e7 : zs_si S b2 p1.toNatClampNeg p2 = S6
  have h := h S6 e7.symm
  have K8 : ∀ b, zs_K S6 b = zs_K S b := zs_Kt e7 (zs_Ksi _ _ _ _) (fun _ => rfl)
  refine zu_aload_n d_1052_7 rfl (zs_ra _) ?_
  refine zu_iload_n d_1052_8 rfl ?_
  refine zu_iload_n d_1052_9 rfl ?_
  refine zu_stk d_1052_10 rfl rfl ?_
  obtain ⟨k9, h⟩ := h
  refine zp_1_123 (v := (p2 + p3)) rfl d_1052_11 ((K8 _).trans k1) k9 ?_
  generalize e11 : zs_sI S6 1015 p0 (p2 + p3) = S10
  have h := h S10 e11.symm
  have K12 : ∀ b, zs_K S10 b = zs_K S b := zs_Kt e11 (zs_KsI _ _ _ _) K8
  refine zu_iconst d_1052_14 zi_0 ?_
  refine zu_istore d_1052_15 (zs_lt zq_1052 rfl) ?_
  exact h.weak ⟨rfl, rfl, rfl, rfl, trivial⟩
/-! SchemaPascal$Machine.returns(I)V -/
theorem zm_1053 {σ : Nat → Nat} {n0 : Nat} {bf : ab_B} : ab_code (zx σ n0 bf).1 1053 = prog_5_method_55_code := rfl
theorem zq_1053 {σ : Nat → Nat} {n0 : Nat} {bf : ab_B} : ab_maxL (zx σ n0 bf).1 1053 = 5 := rfl
theorem zr_1053 {σ : Nat → Nat} {n0 : Nat} {bf : ab_B} : ab_ret (zx σ n0 bf).1 1053 = (Option.none : Option Jvm.ClassFile.FieldType) := rfl
theorem d_1053_0 {σ : Nat → Nat} {n0 : Nat} {bf : ab_B} : decode (ab_code (zx σ n0 bf).1 1053) 0 = .ok (.aload_n 0, 1) := zd zm_1053 (by decide +kernel)
theorem d_1053_1 {σ : Nat → Nat} {n0 : Nat} {bf : ab_B} : decode (ab_code (zx σ n0 bf).1 1053) 1 = .ok (.getfield 57, 3) := zd zm_1053 (by decide +kernel)
theorem d_1053_4 {σ : Nat → Nat} {n0 : Nat} {bf : ab_B} : decode (ab_code (zx σ n0 bf).1 1053) 4 = .ok (.aload_n 0, 1) := zd zm_1053 (by decide +kernel)
theorem d_1053_5 {σ : Nat → Nat} {n0 : Nat} {bf : ab_B} : decode (ab_code (zx σ n0 bf).1 1053) 5 = .ok (.getfield 129, 3) := zd zm_1053 (by decide +kernel)
theorem d_1053_8 {σ : Nat → Nat} {n0 : Nat} {bf : ab_B} : decode (ab_code (zx σ n0 bf).1 1053) 8 = .ok (.aaload, 1) := zd zm_1053 (by decide +kernel)
theorem d_1053_9 {σ : Nat → Nat} {n0 : Nat} {bf : ab_B} : decode (ab_code (zx σ n0 bf).1 1053) 9 = .ok (.astore_n 2, 1) := zd zm_1053 (by decide +kernel)
theorem d_1053_10 {σ : Nat → Nat} {n0 : Nat} {bf : ab_B} : decode (ab_code (zx σ n0 bf).1 1053) 10 = .ok (.aload_n 0, 1) := zd zm_1053 (by decide +kernel)
theorem d_1053_11 {σ : Nat → Nat} {n0 : Nat} {bf : ab_B} : decode (ab_code (zx σ n0 bf).1 1053) 11 = .ok (.getfield 129, 3) := zd zm_1053 (by decide +kernel)
theorem d_1053_14 {σ : Nat → Nat} {n0 : Nat} {bf : ab_B} : decode (ab_code (zx σ n0 bf).1 1053) 14 = .ok (.ifCond .ne 9, 3) := zd zm_1053 (by decide +kernel)
theorem d_1053_17 {σ : Nat → Nat} {n0 : Nat} {bf : ab_B} : decode (ab_code (zx σ n0 bf).1 1053) 17 = .ok (.aload_n 0, 1) := zd zm_1053 (by decide +kernel)
theorem d_1053_18 {σ : Nat → Nat} {n0 : Nat} {bf : ab_B} : decode (ab_code (zx σ n0 bf).1 1053) 18 = .ok (.iconst 1, 1) := zd zm_1053 (by decide +kernel)
theorem d_1053_19 {σ : Nat → Nat} {n0 : Nat} {bf : ab_B} : decode (ab_code (zx σ n0 bf).1 1053) 19 = .ok (.putfield 151, 3) := zd zm_1053 (by decide +kernel)
theorem d_1053_22 {σ : Nat → Nat} {n0 : Nat} {bf : ab_B} : decode (ab_code (zx σ n0 bf).1 1053) 22 = .ok (.return_, 1) := zd zm_1053 (by decide +kernel)
theorem d_1053_23 {σ : Nat → Nat} {n0 : Nat} {bf : ab_B} : decode (ab_code (zx σ n0 bf).1 1053) 23 = .ok (.aload_n 0, 1) := zd zm_1053 (by decide +kernel)
theorem d_1053_24 {σ : Nat → Nat} {n0 : Nat} {bf : ab_B} : decode (ab_code (zx σ n0 bf).1 1053) 24 = .ok (.getfield 70, 3) := zd zm_1053 (by decide +kernel)
theorem d_1053_27 {σ : Nat → Nat} {n0 : Nat} {bf : ab_B} : decode (ab_code (zx σ n0 bf).1 1053) 27 = .ok (.aload_n 0, 1) := zd zm_1053 (by decide +kernel)
theorem d_1053_28 {σ : Nat → Nat} {n0 : Nat} {bf : ab_B} : decode (ab_code (zx σ n0 bf).1 1053) 28 = .ok (.getfield 129, 3) := zd zm_1053 (by decide +kernel)
theorem d_1053_31 {σ : Nat → Nat} {n0 : Nat} {bf : ab_B} : decode (ab_code (zx σ n0 bf).1 1053) 31 = .ok (.iaload, 1) := zd zm_1053 (by decide +kernel)
theorem d_1053_32 {σ : Nat → Nat} {n0 : Nat} {bf : ab_B} : decode (ab_code (zx σ n0 bf).1 1053) 32 = .ok (.aload_n 2, 1) := zd zm_1053 (by decide +kernel)
theorem d_1053_33 {σ : Nat → Nat} {n0 : Nat} {bf : ab_B} : decode (ab_code (zx σ n0 bf).1 1053) 33 = .ok (.getfield 542, 3) := zd zm_1053 (by decide +kernel)
theorem d_1053_36 {σ : Nat → Nat} {n0 : Nat} {bf : ab_B} : decode (ab_code (zx σ n0 bf).1 1053) 36 = .ok (.iadd, 1) := zd zm_1053 (by decide +kernel)
theorem d_1053_37 {σ : Nat → Nat} {n0 : Nat} {bf : ab_B} : decode (ab_code (zx σ n0 bf).1 1053) 37 = .ok (.iconst 1, 1) := zd zm_1053 (by decide +kernel)
theorem d_1053_38 {σ : Nat → Nat} {n0 : Nat} {bf : ab_B} : decode (ab_code (zx σ n0 bf).1 1053) 38 = .ok (.isub, 1) := zd zm_1053 (by decide +kernel)
theorem d_1053_39 {σ : Nat → Nat} {n0 : Nat} {bf : ab_B} : decode (ab_code (zx σ n0 bf).1 1053) 39 = .ok (.istore_n 3, 1) := zd zm_1053 (by decide +kernel)
theorem d_1053_40 {σ : Nat → Nat} {n0 : Nat} {bf : ab_B} : decode (ab_code (zx σ n0 bf).1 1053) 40 = .ok (.aload_n 2, 1) := zd zm_1053 (by decide +kernel)
theorem d_1053_41 {σ : Nat → Nat} {n0 : Nat} {bf : ab_B} : decode (ab_code (zx σ n0 bf).1 1053) 41 = .ok (.getfield 539, 3) := zd zm_1053 (by decide +kernel)
theorem d_1053_44 {σ : Nat → Nat} {n0 : Nat} {bf : ab_B} : decode (ab_code (zx σ n0 bf).1 1053) 44 = .ok (.ifnull 34, 3) := zd zm_1053 (by decide +kernel)
theorem d_1053_47 {σ : Nat → Nat} {n0 : Nat} {bf : ab_B} : decode (ab_code (zx σ n0 bf).1 1053) 47 = .ok (.aload_n 0, 1) := zd zm_1053 (by decide +kernel)
theorem d_1053_48 {σ : Nat → Nat} {n0 : Nat} {bf : ab_B} : decode (ab_code (zx σ n0 bf).1 1053) 48 = .ok (.getfield 17, 3) := zd zm_1053 (by decide +kernel)
theorem d_1053_51 {σ : Nat → Nat} {n0 : Nat} {bf : ab_B} : decode (ab_code (zx σ n0 bf).1 1053) 51 = .ok (.aload_n 0, 1) := zd zm_1053 (by decide +kernel)
theorem d_1053_52 {σ : Nat → Nat} {n0 : Nat} {bf : ab_B} : decode (ab_code (zx σ n0 bf).1 1053) 52 = .ok (.getfield 49, 3) := zd zm_1053 (by decide +kernel)
theorem d_1053_55 {σ : Nat → Nat} {n0 : Nat} {bf : ab_B} : decode (ab_code (zx σ n0 bf).1 1053) 55 = .ok (.iload_n 3, 1) := zd zm_1053 (by decide +kernel)
theorem d_1053_56 {σ : Nat → Nat} {n0 : Nat} {bf : ab_B} : decode (ab_code (zx σ n0 bf).1 1053) 56 = .ok (.iaload, 1) := zd zm_1053 (by decide +kernel)
theorem d_1053_57 {σ : Nat → Nat} {n0 : Nat} {bf : ab_B} : decode (ab_code (zx σ n0 bf).1 1053) 57 = .ok (.baload, 1) := zd zm_1053 (by decide +kernel)
theorem d_1053_58 {σ : Nat → Nat} {n0 : Nat} {bf : ab_B} : decode (ab_code (zx σ n0 bf).1 1053) 58 = .ok (.ifCond .ne 20, 3) := zd zm_1053 (by decide +kernel)
theorem d_1053_61 {σ : Nat → Nat} {n0 : Nat} {bf : ab_B} : decode (ab_code (zx σ n0 bf).1 1053) 61 = .ok (.aload_n 0, 1) := zd zm_1053 (by decide +kernel)
theorem d_1053_62 {σ : Nat → Nat} {n0 : Nat} {bf : ab_B} : decode (ab_code (zx σ n0 bf).1 1053) 62 = .ok (.bipush 10, 2) := zd zm_1053 (by decide +kernel)
theorem d_1053_64 {σ : Nat → Nat} {n0 : Nat} {bf : ab_B} : decode (ab_code (zx σ n0 bf).1 1053) 64 = .ok (.aload_n 0, 1) := zd zm_1053 (by decide +kernel)
theorem d_1053_65 {σ : Nat → Nat} {n0 : Nat} {bf : ab_B} : decode (ab_code (zx σ n0 bf).1 1053) 65 = .ok (.getfield 64, 3) := zd zm_1053 (by decide +kernel)
theorem d_1053_68 {σ : Nat → Nat} {n0 : Nat} {bf : ab_B} : decode (ab_code (zx σ n0 bf).1 1053) 68 = .ok (.aload_n 0, 1) := zd zm_1053 (by decide +kernel)
theorem d_1053_69 {σ : Nat → Nat} {n0 : Nat} {bf : ab_B} : decode (ab_code (zx σ n0 bf).1 1053) 69 = .ok (.getfield 129, 3) := zd zm_1053 (by decide +kernel)
theorem d_1053_72 {σ : Nat → Nat} {n0 : Nat} {bf : ab_B} : decode (ab_code (zx σ n0 bf).1 1053) 72 = .ok (.iaload, 1) := zd zm_1053 (by decide +kernel)
theorem d_1053_73 {σ : Nat → Nat} {n0 : Nat} {bf : ab_B} : decode (ab_code (zx σ n0 bf).1 1053) 73 = .ok (.invokevirtual 194, 3) := zd zm_1053 (by decide +kernel)
theorem d_1053_76 {σ : Nat → Nat} {n0 : Nat} {bf : ab_B} : decode (ab_code (zx σ n0 bf).1 1053) 76 = .ok (.pop, 1) := zd zm_1053 (by decide +kernel)
theorem d_1053_77 {σ : Nat → Nat} {n0 : Nat} {bf : ab_B} : decode (ab_code (zx σ n0 bf).1 1053) 77 = .ok (.return_, 1) := zd zm_1053 (by decide +kernel)
theorem d_1053_78 {σ : Nat → Nat} {n0 : Nat} {bf : ab_B} : decode (ab_code (zx σ n0 bf).1 1053) 78 = .ok (.aload_n 0, 1) := zd zm_1053 (by decide +kernel)
theorem d_1053_79 {σ : Nat → Nat} {n0 : Nat} {bf : ab_B} : decode (ab_code (zx σ n0 bf).1 1053) 79 = .ok (.getfield 61, 3) := zd zm_1053 (by decide +kernel)
theorem d_1053_82 {σ : Nat → Nat} {n0 : Nat} {bf : ab_B} : decode (ab_code (zx σ n0 bf).1 1053) 82 = .ok (.aload_n 0, 1) := zd zm_1053 (by decide +kernel)
theorem d_1053_83 {σ : Nat → Nat} {n0 : Nat} {bf : ab_B} : decode (ab_code (zx σ n0 bf).1 1053) 83 = .ok (.getfield 129, 3) := zd zm_1053 (by decide +kernel)
theorem d_1053_86 {σ : Nat → Nat} {n0 : Nat} {bf : ab_B} : decode (ab_code (zx σ n0 bf).1 1053) 86 = .ok (.iaload, 1) := zd zm_1053 (by decide +kernel)
theorem d_1053_87 {σ : Nat → Nat} {n0 : Nat} {bf : ab_B} : decode (ab_code (zx σ n0 bf).1 1053) 87 = .ok (.istore 4, 2) := zd zm_1053 (by decide +kernel)
theorem d_1053_89 {σ : Nat → Nat} {n0 : Nat} {bf : ab_B} : decode (ab_code (zx σ n0 bf).1 1053) 89 = .ok (.aload_n 2, 1) := zd zm_1053 (by decide +kernel)
theorem d_1053_90 {σ : Nat → Nat} {n0 : Nat} {bf : ab_B} : decode (ab_code (zx σ n0 bf).1 1053) 90 = .ok (.getfield 539, 3) := zd zm_1053 (by decide +kernel)
theorem d_1053_93 {σ : Nat → Nat} {n0 : Nat} {bf : ab_B} : decode (ab_code (zx σ n0 bf).1 1053) 93 = .ok (.ifnull 42, 3) := zd zm_1053 (by decide +kernel)
theorem d_1053_96 {σ : Nat → Nat} {n0 : Nat} {bf : ab_B} : decode (ab_code (zx σ n0 bf).1 1053) 96 = .ok (.aload_n 2, 1) := zd zm_1053 (by decide +kernel)
theorem d_1053_97 {σ : Nat → Nat} {n0 : Nat} {bf : ab_B} : decode (ab_code (zx σ n0 bf).1 1053) 97 = .ok (.getfield 539, 3) := zd zm_1053 (by decide +kernel)
theorem d_1053_100 {σ : Nat → Nat} {n0 : Nat} {bf : ab_B} : decode (ab_code (zx σ n0 bf).1 1053) 100 = .ok (.getfield 374, 3) := zd zm_1053 (by decide +kernel)
theorem d_1053_103 {σ : Nat → Nat} {n0 : Nat} {bf : ab_B} : decode (ab_code (zx σ n0 bf).1 1053) 103 = .ok (.bipush 6, 2) := zd zm_1053 (by decide +kernel)
theorem d_1053_105 {σ : Nat → Nat} {n0 : Nat} {bf : ab_B} : decode (ab_code (zx σ n0 bf).1 1053) 105 = .ok (.if_icmp .ne 30, 3) := zd zm_1053 (by decide +kernel)
theorem d_1053_108 {σ : Nat → Nat} {n0 : Nat} {bf : ab_B} : decode (ab_code (zx σ n0 bf).1 1053) 108 = .ok (.aload_n 0, 1) := zd zm_1053 (by decide +kernel)
theorem d_1053_109 {σ : Nat → Nat} {n0 : Nat} {bf : ab_B} : decode (ab_code (zx σ n0 bf).1 1053) 109 = .ok (.aload_n 0, 1) := zd zm_1053 (by decide +kernel)
theorem d_1053_110 {σ : Nat → Nat} {n0 : Nat} {bf : ab_B} : decode (ab_code (zx σ n0 bf).1 1053) 110 = .ok (.getfield 49, 3) := zd zm_1053 (by decide +kernel)
theorem d_1053_113 {σ : Nat → Nat} {n0 : Nat} {bf : ab_B} : decode (ab_code (zx σ n0 bf).1 1053) 113 = .ok (.iload_n 3, 1) := zd zm_1053 (by decide +kernel)
theorem d_1053_114 {σ : Nat → Nat} {n0 : Nat} {bf : ab_B} : decode (ab_code (zx σ n0 bf).1 1053) 114 = .ok (.iaload, 1) := zd zm_1053 (by decide +kernel)
theorem d_1053_115 {σ : Nat → Nat} {n0 : Nat} {bf : ab_B} : decode (ab_code (zx σ n0 bf).1 1053) 115 = .ok (.iconst (-1), 1) := zd zm_1053 (by decide +kernel)
theorem d_1053_116 {σ : Nat → Nat} {n0 : Nat} {bf : ab_B} : decode (ab_code (zx σ n0 bf).1 1053) 116 = .ok (.aload_n 2, 1) := zd zm_1053 (by decide +kernel)
theorem d_1053_117 {σ : Nat → Nat} {n0 : Nat} {bf : ab_B} : decode (ab_code (zx σ n0 bf).1 1053) 117 = .ok (.getfield 539, 3) := zd zm_1053 (by decide +kernel)
theorem d_1053_120 {σ : Nat → Nat} {n0 : Nat} {bf : ab_B} : decode (ab_code (zx σ n0 bf).1 1053) 120 = .ok (.aload_n 0, 1) := zd zm_1053 (by decide +kernel)
theorem d_1053_121 {σ : Nat → Nat} {n0 : Nat} {bf : ab_B} : decode (ab_code (zx σ n0 bf).1 1053) 121 = .ok (.getfield 64, 3) := zd zm_1053 (by decide +kernel)
theorem d_1053_124 {σ : Nat → Nat} {n0 : Nat} {bf : ab_B} : decode (ab_code (zx σ n0 bf).1 1053) 124 = .ok (.aload_n 0, 1) := zd zm_1053 (by decide +kernel)
theorem d_1053_125 {σ : Nat → Nat} {n0 : Nat} {bf : ab_B} : decode (ab_code (zx σ n0 bf).1 1053) 125 = .ok (.getfield 129, 3) := zd zm_1053 (by decide +kernel)
theorem d_1053_128 {σ : Nat → Nat} {n0 : Nat} {bf : ab_B} : decode (ab_code (zx σ n0 bf).1 1053) 128 = .ok (.iaload, 1) := zd zm_1053 (by decide +kernel)
theorem d_1053_129 {σ : Nat → Nat} {n0 : Nat} {bf : ab_B} : decode (ab_code (zx σ n0 bf).1 1053) 129 = .ok (.invokevirtual 269, 3) := zd zm_1053 (by decide +kernel)
theorem d_1053_132 {σ : Nat → Nat} {n0 : Nat} {bf : ab_B} : decode (ab_code (zx σ n0 bf).1 1053) 132 = .ok (.goto 25, 3) := zd zm_1053 (by decide +kernel)
theorem d_1053_135 {σ : Nat → Nat} {n0 : Nat} {bf : ab_B} : decode (ab_code (zx σ n0 bf).1 1053) 135 = .ok (.aload_n 2, 1) := zd zm_1053 (by decide +kernel)
theorem d_1053_136 {σ : Nat → Nat} {n0 : Nat} {bf : ab_B} : decode (ab_code (zx σ n0 bf).1 1053) 136 = .ok (.getfield 539, 3) := zd zm_1053 (by decide +kernel)
theorem d_1053_139 {σ : Nat → Nat} {n0 : Nat} {bf : ab_B} : decode (ab_code (zx σ n0 bf).1 1053) 139 = .ok (.ifnull 18, 3) := zd zm_1053 (by decide +kernel)
theorem d_1053_142 {σ : Nat → Nat} {n0 : Nat} {bf : ab_B} : decode (ab_code (zx σ n0 bf).1 1053) 142 = .ok (.aload_n 0, 1) := zd zm_1053 (by decide +kernel)
theorem d_1053_143 {σ : Nat → Nat} {n0 : Nat} {bf : ab_B} : decode (ab_code (zx σ n0 bf).1 1053) 143 = .ok (.aload_n 0, 1) := zd zm_1053 (by decide +kernel)
theorem d_1053_144 {σ : Nat → Nat} {n0 : Nat} {bf : ab_B} : decode (ab_code (zx σ n0 bf).1 1053) 144 = .ok (.getfield 10, 3) := zd zm_1053 (by decide +kernel)
theorem d_1053_147 {σ : Nat → Nat} {n0 : Nat} {bf : ab_B} : decode (ab_code (zx σ n0 bf).1 1053) 147 = .ok (.aload_n 0, 1) := zd zm_1053 (by decide +kernel)
theorem d_1053_148 {σ : Nat → Nat} {n0 : Nat} {bf : ab_B} : decode (ab_code (zx σ n0 bf).1 1053) 148 = .ok (.getfield 49, 3) := zd zm_1053 (by decide +kernel)
theorem d_1053_151 {σ : Nat → Nat} {n0 : Nat} {bf : ab_B} : decode (ab_code (zx σ n0 bf).1 1053) 151 = .ok (.iload_n 3, 1) := zd zm_1053 (by decide +kernel)
theorem d_1053_152 {σ : Nat → Nat} {n0 : Nat} {bf : ab_B} : decode (ab_code (zx σ n0 bf).1 1053) 152 = .ok (.iaload, 1) := zd zm_1053 (by decide +kernel)
theorem d_1053_153 {σ : Nat → Nat} {n0 : Nat} {bf : ab_B} : decode (ab_code (zx σ n0 bf).1 1053) 153 = .ok (.laload, 1) := zd zm_1053 (by decide +kernel)
theorem d_1053_154 {σ : Nat → Nat} {n0 : Nat} {bf : ab_B} : decode (ab_code (zx σ n0 bf).1 1053) 154 = .ok (.invokevirtual 223, 3) := zd zm_1053 (by decide +kernel)
theorem d_1053_157 {σ : Nat → Nat} {n0 : Nat} {bf : ab_B} : decode (ab_code (zx σ n0 bf).1 1053) 157 = .ok (.aload_n 0, 1) := zd zm_1053 (by decide +kernel)
theorem d_1053_158 {σ : Nat → Nat} {n0 : Nat} {bf : ab_B} : decode (ab_code (zx σ n0 bf).1 1053) 158 = .ok (.getfield 151, 3) := zd zm_1053 (by decide +kernel)
theorem d_1053_161 {σ : Nat → Nat} {n0 : Nat} {bf : ab_B} : decode (ab_code (zx σ n0 bf).1 1053) 161 = .ok (.ifCond .eq 4, 3) := zd zm_1053 (by decide +kernel)
theorem d_1053_164 {σ : Nat → Nat} {n0 : Nat} {bf : ab_B} : decode (ab_code (zx σ n0 bf).1 1053) 164 = .ok (.return_, 1) := zd zm_1053 (by decide +kernel)
theorem d_1053_165 {σ : Nat → Nat} {n0 : Nat} {bf : ab_B} : decode (ab_code (zx σ n0 bf).1 1053) 165 = .ok (.aload_n 0, 1) := zd zm_1053 (by decide +kernel)
theorem d_1053_166 {σ : Nat → Nat} {n0 : Nat} {bf : ab_B} : decode (ab_code (zx σ n0 bf).1 1053) 166 = .ok (.aload_n 0, 1) := zd zm_1053 (by decide +kernel)
theorem d_1053_167 {σ : Nat → Nat} {n0 : Nat} {bf : ab_B} : decode (ab_code (zx σ n0 bf).1 1053) 167 = .ok (.getfield 70, 3) := zd zm_1053 (by decide +kernel)
theorem d_1053_170 {σ : Nat → Nat} {n0 : Nat} {bf : ab_B} : decode (ab_code (zx σ n0 bf).1 1053) 170 = .ok (.aload_n 0, 1) := zd zm_1053 (by decide +kernel)
theorem d_1053_171 {σ : Nat → Nat} {n0 : Nat} {bf : ab_B} : decode (ab_code (zx σ n0 bf).1 1053) 171 = .ok (.getfield 129, 3) := zd zm_1053 (by decide +kernel)
theorem d_1053_174 {σ : Nat → Nat} {n0 : Nat} {bf : ab_B} : decode (ab_code (zx σ n0 bf).1 1053) 174 = .ok (.iaload, 1) := zd zm_1053 (by decide +kernel)
theorem d_1053_175 {σ : Nat → Nat} {n0 : Nat} {bf : ab_B} : decode (ab_code (zx σ n0 bf).1 1053) 175 = .ok (.putfield 120, 3) := zd zm_1053 (by decide +kernel)
theorem d_1053_178 {σ : Nat → Nat} {n0 : Nat} {bf : ab_B} : decode (ab_code (zx σ n0 bf).1 1053) 178 = .ok (.aload_n 0, 1) := zd zm_1053 (by decide +kernel)
theorem d_1053_179 {σ : Nat → Nat} {n0 : Nat} {bf : ab_B} : decode (ab_code (zx σ n0 bf).1 1053) 179 = .ok (.aload_n 0, 1) := zd zm_1053 (by decide +kernel)
theorem d_1053_180 {σ : Nat → Nat} {n0 : Nat} {bf : ab_B} : decode (ab_code (zx σ n0 bf).1 1053) 180 = .ok (.getfield 73, 3) := zd zm_1053 (by decide +kernel)
theorem d_1053_183 {σ : Nat → Nat} {n0 : Nat} {bf : ab_B} : decode (ab_code (zx σ n0 bf).1 1053) 183 = .ok (.aload_n 0, 1) := zd zm_1053 (by decide +kernel)
theorem d_1053_184 {σ : Nat → Nat} {n0 : Nat} {bf : ab_B} : decode (ab_code (zx σ n0 bf).1 1053) 184 = .ok (.getfield 129, 3) := zd zm_1053 (by decide +kernel)
theorem d_1053_187 {σ : Nat → Nat} {n0 : Nat} {bf : ab_B} : decode (ab_code (zx σ n0 bf).1 1053) 187 = .ok (.iaload, 1) := zd zm_1053 (by decide +kernel)
theorem d_1053_188 {σ : Nat → Nat} {n0 : Nat} {bf : ab_B} : decode (ab_code (zx σ n0 bf).1 1053) 188 = .ok (.putfield 123, 3) := zd zm_1053 (by decide +kernel)
theorem d_1053_191 {σ : Nat → Nat} {n0 : Nat} {bf : ab_B} : decode (ab_code (zx σ n0 bf).1 1053) 191 = .ok (.aload_n 0, 1) := zd zm_1053 (by decide +kernel)
theorem d_1053_192 {σ : Nat → Nat} {n0 : Nat} {bf : ab_B} : decode (ab_code (zx σ n0 bf).1 1053) 192 = .ok (.aload_n 0, 1) := zd zm_1053 (by decide +kernel)
theorem d_1053_193 {σ : Nat → Nat} {n0 : Nat} {bf : ab_B} : decode (ab_code (zx σ n0 bf).1 1053) 193 = .ok (.getfield 76, 3) := zd zm_1053 (by decide +kernel)
theorem d_1053_196 {σ : Nat → Nat} {n0 : Nat} {bf : ab_B} : decode (ab_code (zx σ n0 bf).1 1053) 196 = .ok (.aload_n 0, 1) := zd zm_1053 (by decide +kernel)
theorem d_1053_197 {σ : Nat → Nat} {n0 : Nat} {bf : ab_B} : decode (ab_code (zx σ n0 bf).1 1053) 197 = .ok (.getfield 129, 3) := zd zm_1053 (by decide +kernel)
theorem d_1053_200 {σ : Nat → Nat} {n0 : Nat} {bf : ab_B} : decode (ab_code (zx σ n0 bf).1 1053) 200 = .ok (.iaload, 1) := zd zm_1053 (by decide +kernel)
theorem d_1053_201 {σ : Nat → Nat} {n0 : Nat} {bf : ab_B} : decode (ab_code (zx σ n0 bf).1 1053) 201 = .ok (.putfield 126, 3) := zd zm_1053 (by decide +kernel)
theorem d_1053_204 {σ : Nat → Nat} {n0 : Nat} {bf : ab_B} : decode (ab_code (zx σ n0 bf).1 1053) 204 = .ok (.aload_n 0, 1) := zd zm_1053 (by decide +kernel)
theorem d_1053_205 {σ : Nat → Nat} {n0 : Nat} {bf : ab_B} : decode (ab_code (zx σ n0 bf).1 1053) 205 = .ok (.dup, 1) := zd zm_1053 (by decide +kernel)
theorem d_1053_206 {σ : Nat → Nat} {n0 : Nat} {bf : ab_B} : decode (ab_code (zx σ n0 bf).1 1053) 206 = .ok (.getfield 129, 3) := zd zm_1053 (by decide +kernel)
theorem d_1053_209 {σ : Nat → Nat} {n0 : Nat} {bf : ab_B} : decode (ab_code (zx σ n0 bf).1 1053) 209 = .ok (.iconst 1, 1) := zd zm_1053 (by decide +kernel)
theorem d_1053_210 {σ : Nat → Nat} {n0 : Nat} {bf : ab_B} : decode (ab_code (zx σ n0 bf).1 1053) 210 = .ok (.isub, 1) := zd zm_1053 (by decide +kernel)
theorem d_1053_211 {σ : Nat → Nat} {n0 : Nat} {bf : ab_B} : decode (ab_code (zx σ n0 bf).1 1053) 211 = .ok (.putfield 129, 3) := zd zm_1053 (by decide +kernel)
theorem d_1053_214 {σ : Nat → Nat} {n0 : Nat} {bf : ab_B} : decode (ab_code (zx σ n0 bf).1 1053) 214 = .ok (.aload_n 0, 1) := zd zm_1053 (by decide +kernel)
theorem d_1053_215 {σ : Nat → Nat} {n0 : Nat} {bf : ab_B} : decode (ab_code (zx σ n0 bf).1 1053) 215 = .ok (.iload 4, 2) := zd zm_1053 (by decide +kernel)
theorem d_1053_217 {σ : Nat → Nat} {n0 : Nat} {bf : ab_B} : decode (ab_code (zx σ n0 bf).1 1053) 217 = .ok (.putfield 175, 3) := zd zm_1053 (by decide +kernel)
theorem d_1053_220 {σ : Nat → Nat} {n0 : Nat} {bf : ab_B} : decode (ab_code (zx σ n0 bf).1 1053) 220 = .ok (.return_, 1) := zd zm_1053 (by decide +kernel)
def w_X2_returns_220 (X : zs_X) (d : Nat)  (S : zs_T) (Q : zs_Q) : Prop :=
  (Q (.returned none) S)
theorem u_X2_returns_220 {σ : Nat → Nat} {n0 : Nat} {bf : ab_B} {d : Nat}  {S : zs_T} {Q : zs_Q} (hB : zt_B bf) (h : w_X2_returns_220 (zx σ n0 bf) d  S Q) : zs_U (zx σ n0 bf) d 1053 220 [] [] S Q := by
  unfold w_X2_returns_220 at h
  exact zu_vret d_1053_220 zr_1053 h
def w_X2_returns_191 (X : zs_X) (d : Nat) (p0 : Nat) (p4 : Int32) (S : zs_T) (Q : zs_Q) : Prop :=
  (zs_K S p0 = some (.inl 1) ∧ ∃ b2, (zs_R S 1023 p0) = some b2 ∧ zs_A S b2 0 (zs_I S 1025 p0) ∧ ab_n0 X.1 ≤ p0 ∧ ∀ S6, S6 = zs_sI S 1016 p0 (zs_i S b2 (zs_I S 1025 p0).toNatClampNeg) → ∀ S9, S9 = zs_sI S6 1025 p0 ((zs_I S6 1025 p0) - (1 : Int32)) → ∀ S12, S12 = zs_sI S9 1033 p0 p4 → w_X2_returns_220 X d  S12 Q)
theorem u_X2_returns_191 {σ : Nat → Nat} {n0 : Nat} {bf : ab_B} {d : Nat} {p0 : Nat} {p4 : Int32} {S : zs_T} {Q : zs_Q} (hB : zt_B bf) (h : w_X2_returns_191 (zx σ n0 bf) d p0 p4 S Q) : zs_U (zx σ n0 bf) d 1053 191 [(0, .ref p0), (4, .int p4)] [] S Q := by
  unfold w_X2_returns_191 at h
  refine zu_aload_n d_1053_191 rfl (zs_ra _) ?_
  refine zu_aload_n d_1053_192 rfl (zs_ra _) ?_
  obtain ⟨k1, h⟩ := h
  refine zg_1_76 rfl d_1053_193 k1 ?_
  refine zu_aload_n d_1053_196 rfl (zs_ra _) ?_
  refine zg_1_129 rfl d_1053_197 k1 ?_
  obtain ⟨b2, e3, h⟩ := h
  refine zs_stk1 (zs_rfe e3) ?_
  obtain ⟨k4, h⟩ := h
  refine zu_iald (k := 0) d_1053_200 rfl rfl k4 ?_
  obtain ⟨k5, h⟩ := h
  refine zp_1_126 (v := (zs_i S b2 (zs_I S 1025 p0).toNatClampNeg)) rfl d_1053_201 k1 k5 ?_
  generalize e7 : zs_sI S 1016 p0 (zs_i S b2 (zs_I S 1025 p0).toNatClampNeg) = S6
  have h := h S6 e7.symm
  have K8 : ∀ b, zs_K S6 b = zs_K S b := zs_Kt e7 (zs_KsI _ _ _ _) (fun _ => rfl)
  refine zu_aload_n d_1053_204 rfl (zs_ra _) ?_
  refine zu_dup d_1053_205 rfl ?_
  refine zg_1_129 rfl d_1053_206 ((K8 _).trans k1) ?_
  refine zu_iconst d_1053_209 zi_1 ?_
  refine zu_stk d_1053_210 rfl rfl ?_
  refine zp_1_129 (v := ((zs_I S6 1025 p0) - (1 : Int32))) rfl d_1053_211 ((K8 _).trans k1) k5 ?_
  generalize e10 : zs_sI S6 1025 p0 ((zs_I S6 1025 p0) - (1 : Int32)) = S9
  have h := h S9 e10.symm
  have K11 : ∀ b, zs_K S9 b = zs_K S b := zs_Kt e10 (zs_KsI _ _ _ _) K8
  refine zu_aload_n d_1053_214 rfl (zs_ra _) ?_
  refine zu_iload d_1053_215 rfl ?_
  refine zp_1_175 (v := p4) rfl d_1053_217 ((K11 _).trans k1) k5 ?_
  generalize e13 : zs_sI S9 1033 p0 p4 = S12
  have h := h S12 e13.symm
  have K14 : ∀ b, zs_K S12 b = zs_K S b := zs_Kt e13 (zs_KsI _ _ _ _) K11
  exact (u_X2_returns_220 hB h).weak trivial
def w_X2_returns_157 (X : zs_X) (d : Nat) (p0 : Nat) (p4 : Int32) (S : zs_T) (Q : zs_Q) : Prop :=
  (zs_K S p0 = some (.inl 1) ∧ (((zs_I S 1039 p0) = 0 → (∃ b3, (zs_R S 1021 p0) = some b3 ∧ zs_A S b3 0 (zs_I S 1025 p0) ∧ ab_n0 X.1 ≤ p0 ∧ ∀ S7, S7 = zs_sI S 1014 p0 (zs_i S b3 (zs_I S 1025 p0).toNatClampNeg) → ∃ b10, (zs_R S7 1022 p0) = some b10 ∧ zs_A S b10 0 (zs_I S7 1025 p0) ∧ ∀ S13, S13 = zs_sI S7 1015 p0 (zs_i S7 b10 (zs_I S7 1025 p0).toNatClampNeg) → w_X2_returns_191 X d p0 p4 S13 Q)) ∧ (¬ ((zs_I S 1039 p0) = 0) → (Q (.returned none) S))))
theorem u_X2_returns_157 {σ : Nat → Nat} {n0 : Nat} {bf : ab_B} {d : Nat} {p0 : Nat} {p4 : Int32} {S : zs_T} {Q : zs_Q} (hB : zt_B bf) (h : w_X2_returns_157 (zx σ n0 bf) d p0 p4 S Q) : zs_U (zx σ n0 bf) d 1053 157 [(0, .ref p0), (4, .int p4)] [] S Q := by
  unfold w_X2_returns_157 at h
  refine zu_aload_n d_1053_157 rfl (zs_ra _) ?_
  obtain ⟨k1, h⟩ := h
  refine zg_1_151 rfl d_1053_158 k1 ?_
  refine zu_ifeq (t := 165) d_1053_161 rfl (fun c2 => ?_) (fun c2 => ?_)
  · have h := h.1 c2
    refine zu_aload_n d_1053_165 rfl (zs_ra _) ?_
    refine zu_aload_n d_1053_166 rfl (zs_ra _) ?_
    refine zg_1_70 rfl d_1053_167 k1 ?_
    refine zu_aload_n d_1053_170 rfl (zs_ra _) ?_
    refine zg_1_129 rfl d_1053_171 k1 ?_
    obtain ⟨b3, e4, h⟩ := h
    refine zs_stk1 (zs_rfe e4) ?_
    obtain ⟨k5, h⟩ := h
    refine zu_iald (k := 0) d_1053_174 rfl rfl k5 ?_
    obtain ⟨k6, h⟩ := h
    refine zp_1_120 (v := (zs_i S b3 (zs_I S 1025 p0).toNatClampNeg)) rfl d_1053_175 k1 k6 ?_
    generalize e8 : zs_sI S 1014 p0 (zs_i S b3 (zs_I S 1025 p0).toNatClampNeg) = S7
    have h := h S7 e8.symm
    have K9 : ∀ b, zs_K S7 b = zs_K S b := zs_Kt e8 (zs_KsI _ _ _ _) (fun _ => rfl)
    refine zu_aload_n d_1053_178 rfl (zs_ra _) ?_
    refine zu_aload_n d_1053_179 rfl (zs_ra _) ?_
    refine zg_1_73 rfl d_1053_180 ((K9 _).trans k1) ?_
    refine zu_aload_n d_1053_183 rfl (zs_ra _) ?_
    refine zg_1_129 rfl d_1053_184 ((K9 _).trans k1) ?_
    obtain ⟨b10, e11, h⟩ := h
    refine zs_stk1 (zs_rfe e11) ?_
    obtain ⟨k12, h⟩ := h
    refine zu_iald (k := 0) d_1053_187 rfl rfl (zs_Ak K9 k12) ?_
    refine zp_1_123 (v := (zs_i S7 b10 (zs_I S7 1025 p0).toNatClampNeg)) rfl d_1053_188 ((K9 _).trans k1) k6 ?_
    generalize e14 : zs_sI S7 1015 p0 (zs_i S7 b10 (zs_I S7 1025 p0).toNatClampNeg) = S13
    have h := h S13 e14.symm
    have K15 : ∀ b, zs_K S13 b = zs_K S b := zs_Kt e14 (zs_KsI _ _ _ _) K9
    exact (u_X2_returns_191 hB h).weak ⟨rfl, rfl, trivial⟩
  · have h := h.2 c2
    exact zu_vret d_1053_164 zr_1053 h
def w_X2_returns_135 (X : zs_X) (d : Nat) (p0 : Nat) (p2 : Option Nat) (p3 : Int32) (p4 : Int32) (S : zs_T) (Q : zs_Q) : Prop :=
  (∃ b1, p2 = some b1 ∧ zs_K S b1 = some (.inl 10) ∧ (((zs_R S 10006 b1) = none → w_X2_returns_157 X d p0 p4 S Q) ∧ (∀ b4, (zs_R S 10006 b1) = some b4 → (zs_K S p0 = some (.inl 1) ∧ ∃ b7, (zs_R S 1012 p0) = some b7 ∧ zs_A S b7 0 p3 ∧ ∃ b10, (zs_R S 1001 p0) = some b10 ∧ zs_A S b10 3 (zs_i S b7 p3.toNatClampNeg) ∧ zs_C X d 1009 [.ref p0, .long (zs_j S b10 (zs_i S b7 p3.toNatClampNeg).toNatClampNeg)] S (zs_kV (fun S13 => w_X2_returns_157 X d p0 p4 S13 Q) Q)))))
theorem u_X2_returns_135 {σ : Nat → Nat} {n0 : Nat} {bf : ab_B} {d : Nat} {p0 : Nat} {p2 : Option Nat} {p3 : Int32} {p4 : Int32} {S : zs_T} {Q : zs_Q} (hB : zt_B bf) (h : w_X2_returns_135 (zx σ n0 bf) d p0 p2 p3 p4 S Q) : zs_U (zx σ n0 bf) d 1053 135 [(0, .ref p0), (2, va_rf p2), (3, .int p3), (4, .int p4)] [] S Q := by
  unfold w_X2_returns_135 at h
  refine zu_aload_n d_1053_135 rfl (zs_rr _) ?_
  obtain ⟨b1, e2, h⟩ := h
  refine zs_stk0 (zs_rfe e2) ?_
  obtain ⟨k3, h⟩ := h
  refine zg_1_539 rfl d_1053_136 k3 ?_
  refine zu_ifnull (u := (zs_R S 10006 b1)) (t := 157) d_1053_139 rfl rfl (fun e5 => ?_) (fun b4 e5 => ?_)
  · have h := h.1 e5
    exact (u_X2_returns_157 hB h).weak ⟨rfl, rfl, trivial⟩
  · have h := h.2 b4 e5
    refine zu_aload_n d_1053_142 rfl (zs_ra _) ?_
    refine zu_aload_n d_1053_143 rfl (zs_ra _) ?_
    obtain ⟨k6, h⟩ := h
    refine zg_1_10 rfl d_1053_144 k6 ?_
    refine zu_aload_n d_1053_147 rfl (zs_ra _) ?_
    refine zg_1_49 rfl d_1053_148 k6 ?_
    refine zu_iload_n d_1053_151 rfl ?_
    obtain ⟨b7, e8, h⟩ := h
    refine zs_stk1 (zs_rfe e8) ?_
    obtain ⟨k9, h⟩ := h
    refine zu_iald (k := 0) d_1053_152 rfl rfl k9 ?_
    obtain ⟨b10, e11, h⟩ := h
    refine zs_stk1 (zs_rfe e11) ?_
    obtain ⟨k12, h⟩ := h
    refine zu_lald (k := 3) d_1053_153 rfl rfl k12 ?_
    refine zc_1_223 (x0 := (zs_j S b10 (zs_i S b7 p3.toNatClampNeg).toNatClampNeg)) hB rfl k6 d_1053_154 (Nat.le_of_ble_eq_true rfl) h (fun S13 h => ?_)
    exact (u_X2_returns_157 hB h).weak ⟨rfl, rfl, trivial⟩
def w_X2_returns_132 (X : zs_X) (d : Nat) (p0 : Nat) (p4 : Int32) (S : zs_T) (Q : zs_Q) : Prop :=
  (w_X2_returns_157 X d p0 p4 S Q)
theorem u_X2_returns_132 {σ : Nat → Nat} {n0 : Nat} {bf : ab_B} {d : Nat} {p0 : Nat} {p4 : Int32} {S : zs_T} {Q : zs_Q} (hB : zt_B bf) (h : w_X2_returns_132 (zx σ n0 bf) d p0 p4 S Q) : zs_U (zx σ n0 bf) d 1053 132 [(0, .ref p0), (4, .int p4)] [] S Q := by
  unfold w_X2_returns_132 at h
  refine zu_goto (t := 157) d_1053_132 rfl ?_
  exact (u_X2_returns_157 hB h).weak ⟨rfl, rfl, trivial⟩
def w_X2_returns_78 (X : zs_X) (d : Nat) (p0 : Nat) (p2 : Option Nat) (p3 : Int32) (S : zs_T) (Q : zs_Q) : Prop :=
  (zs_K S p0 = some (.inl 1) ∧ ∃ b2, (zs_R S 1018 p0) = some b2 ∧ zs_A S b2 0 (zs_I S 1025 p0) ∧ ∃ b5, p2 = some b5 ∧ zs_K S b5 = some (.inl 10) ∧ (((zs_R S 10006 b5) = none → w_X2_returns_135 X d p0 p2 p3 (zs_i S b2 (zs_I S 1025 p0).toNatClampNeg) S Q) ∧ (∀ b8, (zs_R S 10006 b5) = some b8 → (zs_K S b8 = some (.inl 6) ∧ ((¬ (zs_I S 6000 b8) = (6 : Int32) → w_X2_returns_135 X d p0 p2 p3 (zs_i S b2 (zs_I S 1025 p0).toNatClampNeg) S Q) ∧ (¬ (¬ (zs_I S 6000 b8) = (6 : Int32)) → (∃ b12, (zs_R S 1012 p0) = some b12 ∧ zs_A S b12 0 p3 ∧ ∃ b15, (zs_R S 1019 p0) = some b15 ∧ zs_A S b15 0 (zs_I S 1025 p0) ∧ zs_C X d 1021 [.ref p0, .int (zs_i S b12 p3.toNatClampNeg), .int (-1 : Int32), va_rf (zs_R S 10006 b5), .int (zs_i S b15 (zs_I S 1025 p0).toNatClampNeg)] S (zs_kV (fun S18 => w_X2_returns_132 X d p0 (zs_i S b2 (zs_I S 1025 p0).toNatClampNeg) S18 Q) Q))))))))
theorem u_X2_returns_78 {σ : Nat → Nat} {n0 : Nat} {bf : ab_B} {d : Nat} {p0 : Nat} {p2 : Option Nat} {p3 : Int32} {S : zs_T} {Q : zs_Q} (hB : zt_B bf) (h : w_X2_returns_78 (zx σ n0 bf) d p0 p2 p3 S Q) : zs_U (zx σ n0 bf) d 1053 78 [(0, .ref p0), (2, va_rf p2), (3, .int p3)] [] S Q := by
  unfold w_X2_returns_78 at h
  refine zu_aload_n d_1053_78 rfl (zs_ra _) ?_
  obtain ⟨k1, h⟩ := h
  refine zg_1_61 rfl d_1053_79 k1 ?_
  refine zu_aload_n d_1053_82 rfl (zs_ra _) ?_
  refine zg_1_129 rfl d_1053_83 k1 ?_
  obtain ⟨b2, e3, h⟩ := h
  refine zs_stk1 (zs_rfe e3) ?_
  obtain ⟨k4, h⟩ := h
  refine zu_iald (k := 0) d_1053_86 rfl rfl k4 ?_
  refine zu_istore d_1053_87 (zs_lt zq_1053 rfl) ?_
  refine zu_aload_n d_1053_89 rfl (zs_rr _) ?_
  obtain ⟨b5, e6, h⟩ := h
  refine zs_stk0 (zs_rfe e6) ?_
  obtain ⟨k7, h⟩ := h
  refine zg_1_539 rfl d_1053_90 k7 ?_
  refine zu_ifnull (u := (zs_R S 10006 b5)) (t := 135) d_1053_93 rfl rfl (fun e9 => ?_) (fun b8 e9 => ?_)
  · have h := h.1 e9
    exact (u_X2_returns_135 hB h).weak ⟨rfl, rfl, rfl, rfl, trivial⟩
  · have h := h.2 b8 e9
    refine zu_aload_n d_1053_96 rfl (zs_rr _) ?_
    refine zs_stk0 (zs_rfe e6) ?_
    refine zg_1_539 rfl d_1053_97 k7 ?_
    refine zs_stk0 (zs_rfe e9) ?_
    obtain ⟨k10, h⟩ := h
    refine zg_1_374 rfl d_1053_100 k10 ?_
    refine zu_bipush d_1053_103 zj_6 ?_
    refine zu_cmpne (t := 135) d_1053_105 rfl (fun c11 => ?_) (fun c11 => ?_)
    · have h := h.1 c11
      exact (u_X2_returns_135 hB h).weak ⟨rfl, rfl, rfl, rfl, trivial⟩
    · have h := h.2 c11
      refine zu_aload_n d_1053_108 rfl (zs_ra _) ?_
      refine zu_aload_n d_1053_109 rfl (zs_ra _) ?_
      refine zg_1_49 rfl d_1053_110 k1 ?_
      refine zu_iload_n d_1053_113 rfl ?_
      obtain ⟨b12, e13, h⟩ := h
      refine zs_stk1 (zs_rfe e13) ?_
      obtain ⟨k14, h⟩ := h
      refine zu_iald (k := 0) d_1053_114 rfl rfl k14 ?_
      refine zu_iconst d_1053_115 zi_m1 ?_
      refine zu_aload_n d_1053_116 rfl (zs_rr _) ?_
      refine zs_stk0 (zs_rfe e6) ?_
      refine zg_1_539 rfl d_1053_117 k7 ?_
      refine zu_aload_n d_1053_120 rfl (zs_ra _) ?_
      refine zg_1_64 rfl d_1053_121 k1 ?_
      refine zu_aload_n d_1053_124 rfl (zs_ra _) ?_
      refine zg_1_129 rfl d_1053_125 k1 ?_
      obtain ⟨b15, e16, h⟩ := h
      refine zs_stk1 (zs_rfe e16) ?_
      obtain ⟨k17, h⟩ := h
      refine zu_iald (k := 0) d_1053_128 rfl rfl k17 ?_
      refine zc_1_269 (x0 := (zs_i S b12 p3.toNatClampNeg)) (x1 := (-1 : Int32)) (x2 := (zs_R S 10006 b5)) (x3 := (zs_i S b15 (zs_I S 1025 p0).toNatClampNeg)) hB rfl k1 d_1053_129 (Nat.le_of_ble_eq_true rfl) h (fun S18 h => ?_)
      exact (u_X2_returns_132 hB h).weak ⟨rfl, rfl, trivial⟩
def w_X2_returns_77 (X : zs_X) (d : Nat)  (S : zs_T) (Q : zs_Q) : Prop :=
  (Q (.returned none) S)
theorem u_X2_returns_77 {σ : Nat → Nat} {n0 : Nat} {bf : ab_B} {d : Nat}  {S : zs_T} {Q : zs_Q} (hB : zt_B bf) (h : w_X2_returns_77 (zx σ n0 bf) d  S Q) : zs_U (zx σ n0 bf) d 1053 77 [] [] S Q := by
  unfold w_X2_returns_77 at h
  exact zu_vret d_1053_77 zr_1053 h
def w_X2_returns_40 (X : zs_X) (d : Nat) (p0 : Nat) (p2 : Option Nat) (p3 : Int32) (S : zs_T) (Q : zs_Q) : Prop :=
  (∃ b1, p2 = some b1 ∧ zs_K S b1 = some (.inl 10) ∧ (((zs_R S 10006 b1) = none → w_X2_returns_78 X d p0 p2 p3 S Q) ∧ (∀ b4, (zs_R S 10006 b1) = some b4 → (zs_K S p0 = some (.inl 1) ∧ ∃ b7, (zs_R S 1012 p0) = some b7 ∧ zs_A S b7 0 p3 ∧ ∃ b10, (zs_R S 1002 p0) = some b10 ∧ zs_A S b10 2 (zs_i S b7 p3.toNatClampNeg) ∧ ((¬ (zs_i S b10 (zs_i S b7 p3.toNatClampNeg).toNatClampNeg) = 0 → w_X2_returns_78 X d p0 p2 p3 S Q) ∧ (¬ (¬ (zs_i S b10 (zs_i S b7 p3.toNatClampNeg).toNatClampNeg) = 0) → (∃ b14, (zs_R S 1019 p0) = some b14 ∧ zs_A S b14 0 (zs_I S 1025 p0) ∧ zs_C X d 1004 [.ref p0, .int (10 : Int32), .int (zs_i S b14 (zs_I S 1025 p0).toNatClampNeg)] S (zs_kI (fun v18 S17 => (w_X2_returns_77 X d  S17 Q)) Q))))))))
theorem u_X2_returns_40 {σ : Nat → Nat} {n0 : Nat} {bf : ab_B} {d : Nat} {p0 : Nat} {p2 : Option Nat} {p3 : Int32} {S : zs_T} {Q : zs_Q} (hB : zt_B bf) (h : w_X2_returns_40 (zx σ n0 bf) d p0 p2 p3 S Q) : zs_U (zx σ n0 bf) d 1053 40 [(0, .ref p0), (2, va_rf p2), (3, .int p3)] [] S Q := by
  unfold w_X2_returns_40 at h
  refine zu_aload_n d_1053_40 rfl (zs_rr _) ?_
  obtain ⟨b1, e2, h⟩ := h
  refine zs_stk0 (zs_rfe e2) ?_
  obtain ⟨k3, h⟩ := h
  refine zg_1_539 rfl d_1053_41 k3 ?_
  refine zu_ifnull (u := (zs_R S 10006 b1)) (t := 78) d_1053_44 rfl rfl (fun e5 => ?_) (fun b4 e5 => ?_)
  · have h := h.1 e5
    exact (u_X2_returns_78 hB h).weak ⟨rfl, rfl, rfl, trivial⟩
  · have h := h.2 b4 e5
    refine zu_aload_n d_1053_47 rfl (zs_ra _) ?_
    obtain ⟨k6, h⟩ := h
    refine zg_1_17 rfl d_1053_48 k6 ?_
    refine zu_aload_n d_1053_51 rfl (zs_ra _) ?_
    refine zg_1_49 rfl d_1053_52 k6 ?_
    refine zu_iload_n d_1053_55 rfl ?_
    obtain ⟨b7, e8, h⟩ := h
    refine zs_stk1 (zs_rfe e8) ?_
    obtain ⟨k9, h⟩ := h
    refine zu_iald (k := 0) d_1053_56 rfl rfl k9 ?_
    obtain ⟨b10, e11, h⟩ := h
    refine zs_stk1 (zs_rfe e11) ?_
    obtain ⟨k12, h⟩ := h
    refine zu_bald (k := 2) d_1053_57 rfl (Or.inr rfl) k12 ?_
    refine zu_ifne (t := 78) d_1053_58 rfl (fun c13 => ?_) (fun c13 => ?_)
    · have h := h.1 c13
      exact (u_X2_returns_78 hB h).weak ⟨rfl, rfl, rfl, trivial⟩
    · have h := h.2 c13
      refine zu_aload_n d_1053_61 rfl (zs_ra _) ?_
      refine zu_bipush d_1053_62 zj_10 ?_
      refine zu_aload_n d_1053_64 rfl (zs_ra _) ?_
      refine zg_1_64 rfl d_1053_65 k6 ?_
      refine zu_aload_n d_1053_68 rfl (zs_ra _) ?_
      refine zg_1_129 rfl d_1053_69 k6 ?_
      obtain ⟨b14, e15, h⟩ := h
      refine zs_stk1 (zs_rfe e15) ?_
      obtain ⟨k16, h⟩ := h
      refine zu_iald (k := 0) d_1053_72 rfl rfl k16 ?_
      refine zc_1_194 (x0 := (10 : Int32)) (x1 := (zs_i S b14 (zs_I S 1025 p0).toNatClampNeg)) hB rfl k6 d_1053_73 (Nat.le_of_ble_eq_true rfl) h (fun v18 S17 h => ?_)
      refine zu_pop d_1053_76 rfl ?_
      exact (u_X2_returns_77 hB h).weak trivial
def w_X2_returns (X : zs_X) (d : Nat) (p0 : Nat) (p1 : Int32) (S : zs_T) (Q : zs_Q) : Prop :=
  (zs_K S p0 = some (.inl 1) ∧ ∃ b2, (zs_R S 1017 p0) = some b2 ∧ zs_A S b2 5 (zs_I S 1025 p0) ∧ ((¬ (zs_I S 1025 p0) = 0 → (∃ b6, (zs_R S 1021 p0) = some b6 ∧ zs_A S b6 0 (zs_I S 1025 p0) ∧ ∃ b9, (zs_r S b2 (zs_I S 1025 p0).toNatClampNeg) = some b9 ∧ zs_K S b9 = some (.inl 10) ∧ w_X2_returns_40 X d p0 (zs_r S b2 (zs_I S 1025 p0).toNatClampNeg) (((zs_i S b6 (zs_I S 1025 p0).toNatClampNeg) + (zs_I S 10008 b9)) - (1 : Int32)) S Q)) ∧ (¬ (¬ (zs_I S 1025 p0) = 0) → (ab_n0 X.1 ≤ p0 ∧ ∀ S13, S13 = zs_sI S 1039 p0 (1 : Int32) → Q (.returned none) S13))))
theorem u_X2_returns {σ : Nat → Nat} {n0 : Nat} {bf : ab_B} {d : Nat} {p0 : Nat} {p1 : Int32} {S : zs_T} {Q : zs_Q} (hB : zt_B bf) (hd : 1 ≤ d) (h : w_X2_returns (zx σ n0 bf) (d - 1) p0 p1 S Q) : zs_C (zx σ n0 bf) d 1053 [.ref p0, .int p1] S Q := by
  have hL : lv_args 0 [.ref p0, .int p1] = [(0, .ref p0), (1, .int p1)] := rfl
  refine zs_C.of1 (hB.2 1053 (by decide) (by decide)) hd (by rw [hL]; exact zs_sub_self _ (by exact ⟨rfl, rfl, trivial⟩)) ?_
  rw [hL]
  clear hL
  unfold w_X2_returns at h
  refine zu_aload_n d_1053_0 rfl (zs_ra _) ?_
  obtain ⟨k1, h⟩ := h
  refine zg_1_57 rfl d_1053_1 k1 ?_
  refine zu_aload_n d_1053_4 rfl (zs_ra _) ?_
  refine zg_1_129 rfl d_1053_5 k1 ?_
  obtain ⟨b2, e3, h⟩ := h
  refine zs_stk1 (zs_rfe e3) ?_
  obtain ⟨k4, h⟩ := h
  refine zu_aald (k := 5) d_1053_8 rfl rfl k4 ?_
  refine zu_astore_n d_1053_9 (zs_rr _) (zs_lt zq_1053 rfl) ?_
  refine zu_aload_n d_1053_10 rfl (zs_ra _) ?_
  refine zg_1_129 rfl d_1053_11 k1 ?_
  refine zu_ifne (t := 23) d_1053_14 rfl (fun c5 => ?_) (fun c5 => ?_)
  · have h := h.1 c5
    refine zu_aload_n d_1053_23 rfl (zs_ra _) ?_
    refine zg_1_70 rfl d_1053_24 k1 ?_
    refine zu_aload_n d_1053_27 rfl (zs_ra _) ?_
    refine zg_1_129 rfl d_1053_28 k1 ?_
    obtain ⟨b6, e7, h⟩ := h
    refine zs_stk1 (zs_rfe e7) ?_
    obtain ⟨k8, h⟩ := h
    refine zu_iald (k := 0) d_1053_31 rfl rfl k8 ?_
    refine zu_aload_n d_1053_32 rfl (zs_rr _) ?_
    obtain ⟨b9, e10, h⟩ := h
    refine zs_stk0 (zs_rfe e10) ?_
    obtain ⟨k11, h⟩ := h
    refine zg_1_542 rfl d_1053_33 k11 ?_
    refine zu_stk d_1053_36 rfl rfl ?_
    refine zu_iconst d_1053_37 zi_1 ?_
    refine zu_stk d_1053_38 rfl rfl ?_
    refine zu_istore_n d_1053_39 (zs_lt zq_1053 rfl) ?_
    refine zs_U.weak (L1 := [(3, .int (((zs_i S b6 (zs_I S 1025 p0).toNatClampNeg) + (zs_I S 10008 b9)) - (1 : Int32))), (0, .ref p0), (1, .int p1), (2, va_rf (zs_r S b2 (zs_I S 1025 p0).toNatClampNeg))]) ?_ ⟨rfl, zs_gp1 rfl (Or.inl rfl) rfl, zs_gp1 rfl (Or.inl rfl) rfl, zs_gp1 rfl (Or.inl (zs_cat _)) rfl, trivial⟩
    exact (u_X2_returns_40 hB h).weak ⟨rfl, rfl, rfl, trivial⟩
  · have h := h.2 c5
    refine zu_aload_n d_1053_17 rfl (zs_ra _) ?_
    refine zu_iconst d_1053_18 zi_1 ?_
    obtain ⟨k12, h⟩ := h
    refine zp_1_151 (v := (1 : Int32)) rfl d_1053_19 k1 k12 (Or.inr rfl) ?_
    generalize e14 : zs_sI S 1039 p0 (1 : Int32) = S13
    have h := h S13 e14.symm
    have K15 : ∀ b, zs_K S13 b = zs_K S b := zs_Kt e14 (zs_KsI _ _ _ _) (fun _ => rfl)
    exact zu_vret d_1053_22 zr_1053 h
/-! SchemaPascal$Machine.makeNew(LSchemaPascal$Type;I)V -/
theorem zm_1054 {σ : Nat → Nat} {n0 : Nat} {bf : ab_B} : ab_code (zx σ n0 bf).1 1054 = prog_5_method_56_code := rfl
theorem zq_1054 {σ : Nat → Nat} {n0 : Nat} {bf : ab_B} : ab_maxL (zx σ n0 bf).1 1054 = 9 := rfl
theorem zr_1054 {σ : Nat → Nat} {n0 : Nat} {bf : ab_B} : ab_ret (zx σ n0 bf).1 1054 = (Option.none : Option Jvm.ClassFile.FieldType) := rfl
theorem d_1054_0 {σ : Nat → Nat} {n0 : Nat} {bf : ab_B} : decode (ab_code (zx σ n0 bf).1 1054) 0 = .ok (.aload_n 1, 1) := zd zm_1054 (by decide +kernel)
theorem d_1054_1 {σ : Nat → Nat} {n0 : Nat} {bf : ab_B} : decode (ab_code (zx σ n0 bf).1 1054) 1 = .ok (.getfield 310, 3) := zd zm_1054 (by decide +kernel)
theorem d_1054_4 {σ : Nat → Nat} {n0 : Nat} {bf : ab_B} : decode (ab_code (zx σ n0 bf).1 1054) 4 = .ok (.astore_n 3, 1) := zd zm_1054 (by decide +kernel)
theorem d_1054_5 {σ : Nat → Nat} {n0 : Nat} {bf : ab_B} : decode (ab_code (zx σ n0 bf).1 1054) 5 = .ok (.aload_n 3, 1) := zd zm_1054 (by decide +kernel)
theorem d_1054_6 {σ : Nat → Nat} {n0 : Nat} {bf : ab_B} : decode (ab_code (zx σ n0 bf).1 1054) 6 = .ok (.invokevirtual 354, 3) := zd zm_1054 (by decide +kernel)
theorem d_1054_9 {σ : Nat → Nat} {n0 : Nat} {bf : ab_B} : decode (ab_code (zx σ n0 bf).1 1054) 9 = .ok (.ifCond .eq 16, 3) := zd zm_1054 (by decide +kernel)
theorem d_1054_12 {σ : Nat → Nat} {n0 : Nat} {bf : ab_B} : decode (ab_code (zx σ n0 bf).1 1054) 12 = .ok (.aload_n 3, 1) := zd zm_1054 (by decide +kernel)
theorem d_1054_13 {σ : Nat → Nat} {n0 : Nat} {bf : ab_B} : decode (ab_code (zx σ n0 bf).1 1054) 13 = .ok (.invokevirtual 358, 3) := zd zm_1054 (by decide +kernel)
theorem d_1054_16 {σ : Nat → Nat} {n0 : Nat} {bf : ab_B} : decode (ab_code (zx σ n0 bf).1 1054) 16 = .ok (.getfield 362, 3) := zd zm_1054 (by decide +kernel)
theorem d_1054_19 {σ : Nat → Nat} {n0 : Nat} {bf : ab_B} : decode (ab_code (zx σ n0 bf).1 1054) 19 = .ok (.invokevirtual 336, 3) := zd zm_1054 (by decide +kernel)
theorem d_1054_22 {σ : Nat → Nat} {n0 : Nat} {bf : ab_B} : decode (ab_code (zx σ n0 bf).1 1054) 22 = .ok (.goto 4, 3) := zd zm_1054 (by decide +kernel)
theorem d_1054_25 {σ : Nat → Nat} {n0 : Nat} {bf : ab_B} : decode (ab_code (zx σ n0 bf).1 1054) 25 = .ok (.iconst 0, 1) := zd zm_1054 (by decide +kernel)
theorem d_1054_26 {σ : Nat → Nat} {n0 : Nat} {bf : ab_B} : decode (ab_code (zx σ n0 bf).1 1054) 26 = .ok (.istore 4, 2) := zd zm_1054 (by decide +kernel)
theorem d_1054_28 {σ : Nat → Nat} {n0 : Nat} {bf : ab_B} : decode (ab_code (zx σ n0 bf).1 1054) 28 = .ok (.aload_n 0, 1) := zd zm_1054 (by decide +kernel)
theorem d_1054_29 {σ : Nat → Nat} {n0 : Nat} {bf : ab_B} : decode (ab_code (zx σ n0 bf).1 1054) 29 = .ok (.getfield 31, 3) := zd zm_1054 (by decide +kernel)
theorem d_1054_32 {σ : Nat → Nat} {n0 : Nat} {bf : ab_B} : decode (ab_code (zx σ n0 bf).1 1054) 32 = .ok (.getfield 295, 3) := zd zm_1054 (by decide +kernel)
theorem d_1054_35 {σ : Nat → Nat} {n0 : Nat} {bf : ab_B} : decode (ab_code (zx σ n0 bf).1 1054) 35 = .ok (.istore 5, 2) := zd zm_1054 (by decide +kernel)
theorem d_1054_37 {σ : Nat → Nat} {n0 : Nat} {bf : ab_B} : decode (ab_code (zx σ n0 bf).1 1054) 37 = .ok (.aload_n 3, 1) := zd zm_1054 (by decide +kernel)
theorem d_1054_38 {σ : Nat → Nat} {n0 : Nat} {bf : ab_B} : decode (ab_code (zx σ n0 bf).1 1054) 38 = .ok (.getfield 374, 3) := zd zm_1054 (by decide +kernel)
theorem d_1054_41 {σ : Nat → Nat} {n0 : Nat} {bf : ab_B} : decode (ab_code (zx σ n0 bf).1 1054) 41 = .ok (.bipush 10, 2) := zd zm_1054 (by decide +kernel)
theorem d_1054_43 {σ : Nat → Nat} {n0 : Nat} {bf : ab_B} : decode (ab_code (zx σ n0 bf).1 1054) 43 = .ok (.if_icmp .ne 55, 3) := zd zm_1054 (by decide +kernel)
theorem d_1054_46 {σ : Nat → Nat} {n0 : Nat} {bf : ab_B} : decode (ab_code (zx σ n0 bf).1 1054) 46 = .ok (.aload_n 0, 1) := zd zm_1054 (by decide +kernel)
theorem d_1054_47 {σ : Nat → Nat} {n0 : Nat} {bf : ab_B} : decode (ab_code (zx σ n0 bf).1 1054) 47 = .ok (.dup, 1) := zd zm_1054 (by decide +kernel)
theorem d_1054_48 {σ : Nat → Nat} {n0 : Nat} {bf : ab_B} : decode (ab_code (zx σ n0 bf).1 1054) 48 = .ok (.getfield 111, 3) := zd zm_1054 (by decide +kernel)
theorem d_1054_51 {σ : Nat → Nat} {n0 : Nat} {bf : ab_B} : decode (ab_code (zx σ n0 bf).1 1054) 51 = .ok (.iload 4, 2) := zd zm_1054 (by decide +kernel)
theorem d_1054_53 {σ : Nat → Nat} {n0 : Nat} {bf : ab_B} : decode (ab_code (zx σ n0 bf).1 1054) 53 = .ok (.isub, 1) := zd zm_1054 (by decide +kernel)
theorem d_1054_54 {σ : Nat → Nat} {n0 : Nat} {bf : ab_B} : decode (ab_code (zx σ n0 bf).1 1054) 54 = .ok (.putfield 111, 3) := zd zm_1054 (by decide +kernel)
theorem d_1054_57 {σ : Nat → Nat} {n0 : Nat} {bf : ab_B} : decode (ab_code (zx σ n0 bf).1 1054) 57 = .ok (.iconst 0, 1) := zd zm_1054 (by decide +kernel)
theorem d_1054_58 {σ : Nat → Nat} {n0 : Nat} {bf : ab_B} : decode (ab_code (zx σ n0 bf).1 1054) 58 = .ok (.istore 6, 2) := zd zm_1054 (by decide +kernel)
theorem d_1054_60 {σ : Nat → Nat} {n0 : Nat} {bf : ab_B} : decode (ab_code (zx σ n0 bf).1 1054) 60 = .ok (.iload 6, 2) := zd zm_1054 (by decide +kernel)
theorem d_1054_62 {σ : Nat → Nat} {n0 : Nat} {bf : ab_B} : decode (ab_code (zx σ n0 bf).1 1054) 62 = .ok (.iload 4, 2) := zd zm_1054 (by decide +kernel)
theorem d_1054_64 {σ : Nat → Nat} {n0 : Nat} {bf : ab_B} : decode (ab_code (zx σ n0 bf).1 1054) 64 = .ok (.if_icmp .ge 31, 3) := zd zm_1054 (by decide +kernel)
theorem d_1054_67 {σ : Nat → Nat} {n0 : Nat} {bf : ab_B} : decode (ab_code (zx σ n0 bf).1 1054) 67 = .ok (.aload_n 0, 1) := zd zm_1054 (by decide +kernel)
theorem d_1054_68 {σ : Nat → Nat} {n0 : Nat} {bf : ab_B} : decode (ab_code (zx σ n0 bf).1 1054) 68 = .ok (.getfield 10, 3) := zd zm_1054 (by decide +kernel)
theorem d_1054_71 {σ : Nat → Nat} {n0 : Nat} {bf : ab_B} : decode (ab_code (zx σ n0 bf).1 1054) 71 = .ok (.iload 5, 2) := zd zm_1054 (by decide +kernel)
theorem d_1054_73 {σ : Nat → Nat} {n0 : Nat} {bf : ab_B} : decode (ab_code (zx σ n0 bf).1 1054) 73 = .ok (.iload 6, 2) := zd zm_1054 (by decide +kernel)
theorem d_1054_75 {σ : Nat → Nat} {n0 : Nat} {bf : ab_B} : decode (ab_code (zx σ n0 bf).1 1054) 75 = .ok (.iadd, 1) := zd zm_1054 (by decide +kernel)
theorem d_1054_76 {σ : Nat → Nat} {n0 : Nat} {bf : ab_B} : decode (ab_code (zx σ n0 bf).1 1054) 76 = .ok (.aload_n 0, 1) := zd zm_1054 (by decide +kernel)
theorem d_1054_77 {σ : Nat → Nat} {n0 : Nat} {bf : ab_B} : decode (ab_code (zx σ n0 bf).1 1054) 77 = .ok (.getfield 36, 3) := zd zm_1054 (by decide +kernel)
theorem d_1054_80 {σ : Nat → Nat} {n0 : Nat} {bf : ab_B} : decode (ab_code (zx σ n0 bf).1 1054) 80 = .ok (.aload_n 0, 1) := zd zm_1054 (by decide +kernel)
theorem d_1054_81 {σ : Nat → Nat} {n0 : Nat} {bf : ab_B} : decode (ab_code (zx σ n0 bf).1 1054) 81 = .ok (.getfield 111, 3) := zd zm_1054 (by decide +kernel)
theorem d_1054_84 {σ : Nat → Nat} {n0 : Nat} {bf : ab_B} : decode (ab_code (zx σ n0 bf).1 1054) 84 = .ok (.iload 6, 2) := zd zm_1054 (by decide +kernel)
theorem d_1054_86 {σ : Nat → Nat} {n0 : Nat} {bf : ab_B} : decode (ab_code (zx σ n0 bf).1 1054) 86 = .ok (.iadd, 1) := zd zm_1054 (by decide +kernel)
theorem d_1054_87 {σ : Nat → Nat} {n0 : Nat} {bf : ab_B} : decode (ab_code (zx σ n0 bf).1 1054) 87 = .ok (.laload, 1) := zd zm_1054 (by decide +kernel)
theorem d_1054_88 {σ : Nat → Nat} {n0 : Nat} {bf : ab_B} : decode (ab_code (zx σ n0 bf).1 1054) 88 = .ok (.lastore, 1) := zd zm_1054 (by decide +kernel)
theorem d_1054_89 {σ : Nat → Nat} {n0 : Nat} {bf : ab_B} : decode (ab_code (zx σ n0 bf).1 1054) 89 = .ok (.iinc 6 1, 3) := zd zm_1054 (by decide +kernel)
theorem d_1054_92 {σ : Nat → Nat} {n0 : Nat} {bf : ab_B} : decode (ab_code (zx σ n0 bf).1 1054) 92 = .ok (.goto (-32), 3) := zd zm_1054 (by decide +kernel)
theorem d_1054_95 {σ : Nat → Nat} {n0 : Nat} {bf : ab_B} : decode (ab_code (zx σ n0 bf).1 1054) 95 = .ok (.goto 19, 3) := zd zm_1054 (by decide +kernel)
theorem d_1054_98 {σ : Nat → Nat} {n0 : Nat} {bf : ab_B} : decode (ab_code (zx σ n0 bf).1 1054) 98 = .ok (.iload 4, 2) := zd zm_1054 (by decide +kernel)
theorem d_1054_100 {σ : Nat → Nat} {n0 : Nat} {bf : ab_B} : decode (ab_code (zx σ n0 bf).1 1054) 100 = .ok (.ifCond .le 14, 3) := zd zm_1054 (by decide +kernel)
theorem d_1054_103 {σ : Nat → Nat} {n0 : Nat} {bf : ab_B} : decode (ab_code (zx σ n0 bf).1 1054) 103 = .ok (.aload_n 0, 1) := zd zm_1054 (by decide +kernel)
theorem d_1054_104 {σ : Nat → Nat} {n0 : Nat} {bf : ab_B} : decode (ab_code (zx σ n0 bf).1 1054) 104 = .ok (.getfield 31, 3) := zd zm_1054 (by decide +kernel)
theorem d_1054_107 {σ : Nat → Nat} {n0 : Nat} {bf : ab_B} : decode (ab_code (zx σ n0 bf).1 1054) 107 = .ok (.aload_n 3, 1) := zd zm_1054 (by decide +kernel)
theorem d_1054_108 {σ : Nat → Nat} {n0 : Nat} {bf : ab_B} : decode (ab_code (zx σ n0 bf).1 1054) 108 = .ok (.iconst (-1), 1) := zd zm_1054 (by decide +kernel)
theorem d_1054_109 {σ : Nat → Nat} {n0 : Nat} {bf : ab_B} : decode (ab_code (zx σ n0 bf).1 1054) 109 = .ok (.iload 5, 2) := zd zm_1054 (by decide +kernel)
theorem d_1054_111 {σ : Nat → Nat} {n0 : Nat} {bf : ab_B} : decode (ab_code (zx σ n0 bf).1 1054) 111 = .ok (.invokevirtual 296, 3) := zd zm_1054 (by decide +kernel)
theorem d_1054_114 {σ : Nat → Nat} {n0 : Nat} {bf : ab_B} : decode (ab_code (zx σ n0 bf).1 1054) 114 = .ok (.aload_n 0, 1) := zd zm_1054 (by decide +kernel)
theorem d_1054_115 {σ : Nat → Nat} {n0 : Nat} {bf : ab_B} : decode (ab_code (zx σ n0 bf).1 1054) 115 = .ok (.getfield 31, 3) := zd zm_1054 (by decide +kernel)
theorem d_1054_118 {σ : Nat → Nat} {n0 : Nat} {bf : ab_B} : decode (ab_code (zx σ n0 bf).1 1054) 118 = .ok (.dup, 1) := zd zm_1054 (by decide +kernel)
theorem d_1054_119 {σ : Nat → Nat} {n0 : Nat} {bf : ab_B} : decode (ab_code (zx σ n0 bf).1 1054) 119 = .ok (.getfield 295, 3) := zd zm_1054 (by decide +kernel)
theorem d_1054_122 {σ : Nat → Nat} {n0 : Nat} {bf : ab_B} : decode (ab_code (zx σ n0 bf).1 1054) 122 = .ok (.iconst 4, 1) := zd zm_1054 (by decide +kernel)
theorem d_1054_123 {σ : Nat → Nat} {n0 : Nat} {bf : ab_B} : decode (ab_code (zx σ n0 bf).1 1054) 123 = .ok (.iadd, 1) := zd zm_1054 (by decide +kernel)
theorem d_1054_124 {σ : Nat → Nat} {n0 : Nat} {bf : ab_B} : decode (ab_code (zx σ n0 bf).1 1054) 124 = .ok (.putfield 295, 3) := zd zm_1054 (by decide +kernel)
theorem d_1054_127 {σ : Nat → Nat} {n0 : Nat} {bf : ab_B} : decode (ab_code (zx σ n0 bf).1 1054) 127 = .ok (.iload 4, 2) := zd zm_1054 (by decide +kernel)
theorem d_1054_129 {σ : Nat → Nat} {n0 : Nat} {bf : ab_B} : decode (ab_code (zx σ n0 bf).1 1054) 129 = .ok (.ifCond .ne 19, 3) := zd zm_1054 (by decide +kernel)
theorem d_1054_132 {σ : Nat → Nat} {n0 : Nat} {bf : ab_B} : decode (ab_code (zx σ n0 bf).1 1054) 132 = .ok (.aload_n 0, 1) := zd zm_1054 (by decide +kernel)
theorem d_1054_133 {σ : Nat → Nat} {n0 : Nat} {bf : ab_B} : decode (ab_code (zx σ n0 bf).1 1054) 133 = .ok (.getfield 31, 3) := zd zm_1054 (by decide +kernel)
theorem d_1054_136 {σ : Nat → Nat} {n0 : Nat} {bf : ab_B} : decode (ab_code (zx σ n0 bf).1 1054) 136 = .ok (.aload_n 3, 1) := zd zm_1054 (by decide +kernel)
theorem d_1054_137 {σ : Nat → Nat} {n0 : Nat} {bf : ab_B} : decode (ab_code (zx σ n0 bf).1 1054) 137 = .ok (.invokevirtual 415, 3) := zd zm_1054 (by decide +kernel)
theorem d_1054_140 {σ : Nat → Nat} {n0 : Nat} {bf : ab_B} : decode (ab_code (zx σ n0 bf).1 1054) 140 = .ok (.iload 5, 2) := zd zm_1054 (by decide +kernel)
theorem d_1054_142 {σ : Nat → Nat} {n0 : Nat} {bf : ab_B} : decode (ab_code (zx σ n0 bf).1 1054) 142 = .ok (.invokevirtual 313, 3) := zd zm_1054 (by decide +kernel)
theorem d_1054_145 {σ : Nat → Nat} {n0 : Nat} {bf : ab_B} : decode (ab_code (zx σ n0 bf).1 1054) 145 = .ok (.goto 38, 3) := zd zm_1054 (by decide +kernel)
theorem d_1054_148 {σ : Nat → Nat} {n0 : Nat} {bf : ab_B} : decode (ab_code (zx σ n0 bf).1 1054) 148 = .ok (.aload_n 0, 1) := zd zm_1054 (by decide +kernel)
theorem d_1054_149 {σ : Nat → Nat} {n0 : Nat} {bf : ab_B} : decode (ab_code (zx σ n0 bf).1 1054) 149 = .ok (.getfield 31, 3) := zd zm_1054 (by decide +kernel)
theorem d_1054_152 {σ : Nat → Nat} {n0 : Nat} {bf : ab_B} : decode (ab_code (zx σ n0 bf).1 1054) 152 = .ok (.aload_n 3, 1) := zd zm_1054 (by decide +kernel)
theorem d_1054_153 {σ : Nat → Nat} {n0 : Nat} {bf : ab_B} : decode (ab_code (zx σ n0 bf).1 1054) 153 = .ok (.invokevirtual 358, 3) := zd zm_1054 (by decide +kernel)
theorem d_1054_156 {σ : Nat → Nat} {n0 : Nat} {bf : ab_B} : decode (ab_code (zx σ n0 bf).1 1054) 156 = .ok (.iload 5, 2) := zd zm_1054 (by decide +kernel)
theorem d_1054_158 {σ : Nat → Nat} {n0 : Nat} {bf : ab_B} : decode (ab_code (zx σ n0 bf).1 1054) 158 = .ok (.invokevirtual 545, 3) := zd zm_1054 (by decide +kernel)
theorem d_1054_161 {σ : Nat → Nat} {n0 : Nat} {bf : ab_B} : decode (ab_code (zx σ n0 bf).1 1054) 161 = .ok (.ifCond .eq 19, 3) := zd zm_1054 (by decide +kernel)
theorem d_1054_164 {σ : Nat → Nat} {n0 : Nat} {bf : ab_B} : decode (ab_code (zx σ n0 bf).1 1054) 164 = .ok (.aload_n 0, 1) := zd zm_1054 (by decide +kernel)
theorem d_1054_165 {σ : Nat → Nat} {n0 : Nat} {bf : ab_B} : decode (ab_code (zx σ n0 bf).1 1054) 165 = .ok (.getfield 31, 3) := zd zm_1054 (by decide +kernel)
theorem d_1054_168 {σ : Nat → Nat} {n0 : Nat} {bf : ab_B} : decode (ab_code (zx σ n0 bf).1 1054) 168 = .ok (.aload_n 3, 1) := zd zm_1054 (by decide +kernel)
theorem d_1054_169 {σ : Nat → Nat} {n0 : Nat} {bf : ab_B} : decode (ab_code (zx σ n0 bf).1 1054) 169 = .ok (.invokevirtual 415, 3) := zd zm_1054 (by decide +kernel)
theorem d_1054_172 {σ : Nat → Nat} {n0 : Nat} {bf : ab_B} : decode (ab_code (zx σ n0 bf).1 1054) 172 = .ok (.iload 5, 2) := zd zm_1054 (by decide +kernel)
theorem d_1054_174 {σ : Nat → Nat} {n0 : Nat} {bf : ab_B} : decode (ab_code (zx σ n0 bf).1 1054) 174 = .ok (.invokevirtual 548, 3) := zd zm_1054 (by decide +kernel)
theorem d_1054_177 {σ : Nat → Nat} {n0 : Nat} {bf : ab_B} : decode (ab_code (zx σ n0 bf).1 1054) 177 = .ok (.goto 6, 3) := zd zm_1054 (by decide +kernel)
theorem d_1054_180 {σ : Nat → Nat} {n0 : Nat} {bf : ab_B} : decode (ab_code (zx σ n0 bf).1 1054) 180 = .ok (.ldc2_w 437, 3) := zd zm_1054 (by decide +kernel)
theorem d_1054_183 {σ : Nat → Nat} {n0 : Nat} {bf : ab_B} : decode (ab_code (zx σ n0 bf).1 1054) 183 = .ok (.lstore 6, 2) := zd zm_1054 (by decide +kernel)
theorem d_1054_185 {σ : Nat → Nat} {n0 : Nat} {bf : ab_B} : decode (ab_code (zx σ n0 bf).1 1054) 185 = .ok (.aload_n 0, 1) := zd zm_1054 (by decide +kernel)
theorem d_1054_186 {σ : Nat → Nat} {n0 : Nat} {bf : ab_B} : decode (ab_code (zx σ n0 bf).1 1054) 186 = .ok (.getfield 31, 3) := zd zm_1054 (by decide +kernel)
theorem d_1054_189 {σ : Nat → Nat} {n0 : Nat} {bf : ab_B} : decode (ab_code (zx σ n0 bf).1 1054) 189 = .ok (.iload 5, 2) := zd zm_1054 (by decide +kernel)
theorem d_1054_191 {σ : Nat → Nat} {n0 : Nat} {bf : ab_B} : decode (ab_code (zx σ n0 bf).1 1054) 191 = .ok (.putfield 295, 3) := zd zm_1054 (by decide +kernel)
theorem d_1054_194 {σ : Nat → Nat} {n0 : Nat} {bf : ab_B} : decode (ab_code (zx σ n0 bf).1 1054) 194 = .ok (.aload_n 0, 1) := zd zm_1054 (by decide +kernel)
theorem d_1054_195 {σ : Nat → Nat} {n0 : Nat} {bf : ab_B} : decode (ab_code (zx σ n0 bf).1 1054) 195 = .ok (.dup, 1) := zd zm_1054 (by decide +kernel)
theorem d_1054_196 {σ : Nat → Nat} {n0 : Nat} {bf : ab_B} : decode (ab_code (zx σ n0 bf).1 1054) 196 = .ok (.getfield 111, 3) := zd zm_1054 (by decide +kernel)
theorem d_1054_199 {σ : Nat → Nat} {n0 : Nat} {bf : ab_B} : decode (ab_code (zx σ n0 bf).1 1054) 199 = .ok (.iconst 1, 1) := zd zm_1054 (by decide +kernel)
theorem d_1054_200 {σ : Nat → Nat} {n0 : Nat} {bf : ab_B} : decode (ab_code (zx σ n0 bf).1 1054) 200 = .ok (.isub, 1) := zd zm_1054 (by decide +kernel)
theorem d_1054_201 {σ : Nat → Nat} {n0 : Nat} {bf : ab_B} : decode (ab_code (zx σ n0 bf).1 1054) 201 = .ok (.putfield 111, 3) := zd zm_1054 (by decide +kernel)
theorem d_1054_204 {σ : Nat → Nat} {n0 : Nat} {bf : ab_B} : decode (ab_code (zx σ n0 bf).1 1054) 204 = .ok (.lload 6, 2) := zd zm_1054 (by decide +kernel)
theorem d_1054_206 {σ : Nat → Nat} {n0 : Nat} {bf : ab_B} : decode (ab_code (zx σ n0 bf).1 1054) 206 = .ok (.lconst 0, 1) := zd zm_1054 (by decide +kernel)
theorem d_1054_207 {σ : Nat → Nat} {n0 : Nat} {bf : ab_B} : decode (ab_code (zx σ n0 bf).1 1054) 207 = .ok (.lcmp, 1) := zd zm_1054 (by decide +kernel)
theorem d_1054_208 {σ : Nat → Nat} {n0 : Nat} {bf : ab_B} : decode (ab_code (zx σ n0 bf).1 1054) 208 = .ok (.ifCond .ge 11, 3) := zd zm_1054 (by decide +kernel)
theorem d_1054_211 {σ : Nat → Nat} {n0 : Nat} {bf : ab_B} : decode (ab_code (zx σ n0 bf).1 1054) 211 = .ok (.aload_n 0, 1) := zd zm_1054 (by decide +kernel)
theorem d_1054_212 {σ : Nat → Nat} {n0 : Nat} {bf : ab_B} : decode (ab_code (zx σ n0 bf).1 1054) 212 = .ok (.iconst 2, 1) := zd zm_1054 (by decide +kernel)
theorem d_1054_213 {σ : Nat → Nat} {n0 : Nat} {bf : ab_B} : decode (ab_code (zx σ n0 bf).1 1054) 213 = .ok (.iload_n 2, 1) := zd zm_1054 (by decide +kernel)
theorem d_1054_214 {σ : Nat → Nat} {n0 : Nat} {bf : ab_B} : decode (ab_code (zx σ n0 bf).1 1054) 214 = .ok (.invokevirtual 194, 3) := zd zm_1054 (by decide +kernel)
theorem d_1054_217 {σ : Nat → Nat} {n0 : Nat} {bf : ab_B} : decode (ab_code (zx σ n0 bf).1 1054) 217 = .ok (.pop, 1) := zd zm_1054 (by decide +kernel)
theorem d_1054_218 {σ : Nat → Nat} {n0 : Nat} {bf : ab_B} : decode (ab_code (zx σ n0 bf).1 1054) 218 = .ok (.return_, 1) := zd zm_1054 (by decide +kernel)
theorem d_1054_219 {σ : Nat → Nat} {n0 : Nat} {bf : ab_B} : decode (ab_code (zx σ n0 bf).1 1054) 219 = .ok (.aload_n 0, 1) := zd zm_1054 (by decide +kernel)
theorem d_1054_220 {σ : Nat → Nat} {n0 : Nat} {bf : ab_B} : decode (ab_code (zx σ n0 bf).1 1054) 220 = .ok (.getfield 138, 3) := zd zm_1054 (by decide +kernel)
theorem d_1054_223 {σ : Nat → Nat} {n0 : Nat} {bf : ab_B} : decode (ab_code (zx σ n0 bf).1 1054) 223 = .ok (.i2l, 1) := zd zm_1054 (by decide +kernel)
theorem d_1054_224 {σ : Nat → Nat} {n0 : Nat} {bf : ab_B} : decode (ab_code (zx σ n0 bf).1 1054) 224 = .ok (.lconst 1, 1) := zd zm_1054 (by decide +kernel)
theorem d_1054_225 {σ : Nat → Nat} {n0 : Nat} {bf : ab_B} : decode (ab_code (zx σ n0 bf).1 1054) 225 = .ok (.ladd, 1) := zd zm_1054 (by decide +kernel)
theorem d_1054_226 {σ : Nat → Nat} {n0 : Nat} {bf : ab_B} : decode (ab_code (zx σ n0 bf).1 1054) 226 = .ok (.iload 4, 2) := zd zm_1054 (by decide +kernel)
theorem d_1054_228 {σ : Nat → Nat} {n0 : Nat} {bf : ab_B} : decode (ab_code (zx σ n0 bf).1 1054) 228 = .ok (.i2l, 1) := zd zm_1054 (by decide +kernel)
theorem d_1054_229 {σ : Nat → Nat} {n0 : Nat} {bf : ab_B} : decode (ab_code (zx σ n0 bf).1 1054) 229 = .ok (.ladd, 1) := zd zm_1054 (by decide +kernel)
theorem d_1054_230 {σ : Nat → Nat} {n0 : Nat} {bf : ab_B} : decode (ab_code (zx σ n0 bf).1 1054) 230 = .ok (.lload 6, 2) := zd zm_1054 (by decide +kernel)
theorem d_1054_232 {σ : Nat → Nat} {n0 : Nat} {bf : ab_B} : decode (ab_code (zx σ n0 bf).1 1054) 232 = .ok (.ladd, 1) := zd zm_1054 (by decide +kernel)
theorem d_1054_233 {σ : Nat → Nat} {n0 : Nat} {bf : ab_B} : decode (ab_code (zx σ n0 bf).1 1054) 233 = .ok (.ldc2_w 192, 3) := zd zm_1054 (by decide +kernel)
theorem d_1054_236 {σ : Nat → Nat} {n0 : Nat} {bf : ab_B} : decode (ab_code (zx σ n0 bf).1 1054) 236 = .ok (.lcmp, 1) := zd zm_1054 (by decide +kernel)
theorem d_1054_237 {σ : Nat → Nat} {n0 : Nat} {bf : ab_B} : decode (ab_code (zx σ n0 bf).1 1054) 237 = .ok (.ifCond .le 12, 3) := zd zm_1054 (by decide +kernel)
theorem d_1054_240 {σ : Nat → Nat} {n0 : Nat} {bf : ab_B} : decode (ab_code (zx σ n0 bf).1 1054) 240 = .ok (.aload_n 0, 1) := zd zm_1054 (by decide +kernel)
theorem d_1054_241 {σ : Nat → Nat} {n0 : Nat} {bf : ab_B} : decode (ab_code (zx σ n0 bf).1 1054) 241 = .ok (.bipush 11, 2) := zd zm_1054 (by decide +kernel)
theorem d_1054_243 {σ : Nat → Nat} {n0 : Nat} {bf : ab_B} : decode (ab_code (zx σ n0 bf).1 1054) 243 = .ok (.iload_n 2, 1) := zd zm_1054 (by decide +kernel)
theorem d_1054_244 {σ : Nat → Nat} {n0 : Nat} {bf : ab_B} : decode (ab_code (zx σ n0 bf).1 1054) 244 = .ok (.invokevirtual 194, 3) := zd zm_1054 (by decide +kernel)
theorem d_1054_247 {σ : Nat → Nat} {n0 : Nat} {bf : ab_B} : decode (ab_code (zx σ n0 bf).1 1054) 247 = .ok (.pop, 1) := zd zm_1054 (by decide +kernel)
theorem d_1054_248 {σ : Nat → Nat} {n0 : Nat} {bf : ab_B} : decode (ab_code (zx σ n0 bf).1 1054) 248 = .ok (.return_, 1) := zd zm_1054 (by decide +kernel)
theorem d_1054_249 {σ : Nat → Nat} {n0 : Nat} {bf : ab_B} : decode (ab_code (zx σ n0 bf).1 1054) 249 = .ok (.aload_n 0, 1) := zd zm_1054 (by decide +kernel)
theorem d_1054_250 {σ : Nat → Nat} {n0 : Nat} {bf : ab_B} : decode (ab_code (zx σ n0 bf).1 1054) 250 = .ok (.dup, 1) := zd zm_1054 (by decide +kernel)
theorem d_1054_251 {σ : Nat → Nat} {n0 : Nat} {bf : ab_B} : decode (ab_code (zx σ n0 bf).1 1054) 251 = .ok (.getfield 132, 3) := zd zm_1054 (by decide +kernel)
theorem d_1054_254 {σ : Nat → Nat} {n0 : Nat} {bf : ab_B} : decode (ab_code (zx σ n0 bf).1 1054) 254 = .ok (.iconst 1, 1) := zd zm_1054 (by decide +kernel)
theorem d_1054_255 {σ : Nat → Nat} {n0 : Nat} {bf : ab_B} : decode (ab_code (zx σ n0 bf).1 1054) 255 = .ok (.iadd, 1) := zd zm_1054 (by decide +kernel)
theorem d_1054_256 {σ : Nat → Nat} {n0 : Nat} {bf : ab_B} : decode (ab_code (zx σ n0 bf).1 1054) 256 = .ok (.putfield 132, 3) := zd zm_1054 (by decide +kernel)
theorem d_1054_259 {σ : Nat → Nat} {n0 : Nat} {bf : ab_B} : decode (ab_code (zx σ n0 bf).1 1054) 259 = .ok (.aload_n 0, 1) := zd zm_1054 (by decide +kernel)
theorem d_1054_260 {σ : Nat → Nat} {n0 : Nat} {bf : ab_B} : decode (ab_code (zx σ n0 bf).1 1054) 260 = .ok (.dup, 1) := zd zm_1054 (by decide +kernel)
theorem d_1054_261 {σ : Nat → Nat} {n0 : Nat} {bf : ab_B} : decode (ab_code (zx σ n0 bf).1 1054) 261 = .ok (.getfield 135, 3) := zd zm_1054 (by decide +kernel)
theorem d_1054_264 {σ : Nat → Nat} {n0 : Nat} {bf : ab_B} : decode (ab_code (zx σ n0 bf).1 1054) 264 = .ok (.iconst 1, 1) := zd zm_1054 (by decide +kernel)
theorem d_1054_265 {σ : Nat → Nat} {n0 : Nat} {bf : ab_B} : decode (ab_code (zx σ n0 bf).1 1054) 265 = .ok (.iadd, 1) := zd zm_1054 (by decide +kernel)
theorem d_1054_266 {σ : Nat → Nat} {n0 : Nat} {bf : ab_B} : decode (ab_code (zx σ n0 bf).1 1054) 266 = .ok (.putfield 135, 3) := zd zm_1054 (by decide +kernel)
theorem d_1054_269 {σ : Nat → Nat} {n0 : Nat} {bf : ab_B} : decode (ab_code (zx σ n0 bf).1 1054) 269 = .ok (.iconst 0, 1) := zd zm_1054 (by decide +kernel)
theorem d_1054_270 {σ : Nat → Nat} {n0 : Nat} {bf : ab_B} : decode (ab_code (zx σ n0 bf).1 1054) 270 = .ok (.istore 8, 2) := zd zm_1054 (by decide +kernel)
theorem d_1054_272 {σ : Nat → Nat} {n0 : Nat} {bf : ab_B} : decode (ab_code (zx σ n0 bf).1 1054) 272 = .ok (.iload 8, 2) := zd zm_1054 (by decide +kernel)
theorem d_1054_274 {σ : Nat → Nat} {n0 : Nat} {bf : ab_B} : decode (ab_code (zx σ n0 bf).1 1054) 274 = .ok (.iload 4, 2) := zd zm_1054 (by decide +kernel)
theorem d_1054_276 {σ : Nat → Nat} {n0 : Nat} {bf : ab_B} : decode (ab_code (zx σ n0 bf).1 1054) 276 = .ok (.if_icmp .ge 35, 3) := zd zm_1054 (by decide +kernel)
theorem d_1054_279 {σ : Nat → Nat} {n0 : Nat} {bf : ab_B} : decode (ab_code (zx σ n0 bf).1 1054) 279 = .ok (.aload_n 0, 1) := zd zm_1054 (by decide +kernel)
theorem d_1054_280 {σ : Nat → Nat} {n0 : Nat} {bf : ab_B} : decode (ab_code (zx σ n0 bf).1 1054) 280 = .ok (.getfield 10, 3) := zd zm_1054 (by decide +kernel)
theorem d_1054_283 {σ : Nat → Nat} {n0 : Nat} {bf : ab_B} : decode (ab_code (zx σ n0 bf).1 1054) 283 = .ok (.sipush 20000, 3) := zd zm_1054 (by decide +kernel)
theorem d_1054_286 {σ : Nat → Nat} {n0 : Nat} {bf : ab_B} : decode (ab_code (zx σ n0 bf).1 1054) 286 = .ok (.aload_n 0, 1) := zd zm_1054 (by decide +kernel)
theorem d_1054_287 {σ : Nat → Nat} {n0 : Nat} {bf : ab_B} : decode (ab_code (zx σ n0 bf).1 1054) 287 = .ok (.getfield 138, 3) := zd zm_1054 (by decide +kernel)
theorem d_1054_290 {σ : Nat → Nat} {n0 : Nat} {bf : ab_B} : decode (ab_code (zx σ n0 bf).1 1054) 290 = .ok (.iadd, 1) := zd zm_1054 (by decide +kernel)
theorem d_1054_291 {σ : Nat → Nat} {n0 : Nat} {bf : ab_B} : decode (ab_code (zx σ n0 bf).1 1054) 291 = .ok (.iload 8, 2) := zd zm_1054 (by decide +kernel)
theorem d_1054_293 {σ : Nat → Nat} {n0 : Nat} {bf : ab_B} : decode (ab_code (zx σ n0 bf).1 1054) 293 = .ok (.iadd, 1) := zd zm_1054 (by decide +kernel)
theorem d_1054_294 {σ : Nat → Nat} {n0 : Nat} {bf : ab_B} : decode (ab_code (zx σ n0 bf).1 1054) 294 = .ok (.aload_n 0, 1) := zd zm_1054 (by decide +kernel)
theorem d_1054_295 {σ : Nat → Nat} {n0 : Nat} {bf : ab_B} : decode (ab_code (zx σ n0 bf).1 1054) 295 = .ok (.getfield 10, 3) := zd zm_1054 (by decide +kernel)
theorem d_1054_298 {σ : Nat → Nat} {n0 : Nat} {bf : ab_B} : decode (ab_code (zx σ n0 bf).1 1054) 298 = .ok (.iload 5, 2) := zd zm_1054 (by decide +kernel)
theorem d_1054_300 {σ : Nat → Nat} {n0 : Nat} {bf : ab_B} : decode (ab_code (zx σ n0 bf).1 1054) 300 = .ok (.iload 8, 2) := zd zm_1054 (by decide +kernel)
theorem d_1054_302 {σ : Nat → Nat} {n0 : Nat} {bf : ab_B} : decode (ab_code (zx σ n0 bf).1 1054) 302 = .ok (.iadd, 1) := zd zm_1054 (by decide +kernel)
theorem d_1054_303 {σ : Nat → Nat} {n0 : Nat} {bf : ab_B} : decode (ab_code (zx σ n0 bf).1 1054) 303 = .ok (.laload, 1) := zd zm_1054 (by decide +kernel)
theorem d_1054_304 {σ : Nat → Nat} {n0 : Nat} {bf : ab_B} : decode (ab_code (zx σ n0 bf).1 1054) 304 = .ok (.lastore, 1) := zd zm_1054 (by decide +kernel)
theorem d_1054_305 {σ : Nat → Nat} {n0 : Nat} {bf : ab_B} : decode (ab_code (zx σ n0 bf).1 1054) 305 = .ok (.iinc 8 1, 3) := zd zm_1054 (by decide +kernel)
theorem d_1054_308 {σ : Nat → Nat} {n0 : Nat} {bf : ab_B} : decode (ab_code (zx σ n0 bf).1 1054) 308 = .ok (.goto (-36), 3) := zd zm_1054 (by decide +kernel)
theorem d_1054_311 {σ : Nat → Nat} {n0 : Nat} {bf : ab_B} : decode (ab_code (zx σ n0 bf).1 1054) 311 = .ok (.aload_n 0, 1) := zd zm_1054 (by decide +kernel)
theorem d_1054_312 {σ : Nat → Nat} {n0 : Nat} {bf : ab_B} : decode (ab_code (zx σ n0 bf).1 1054) 312 = .ok (.getfield 82, 3) := zd zm_1054 (by decide +kernel)
theorem d_1054_315 {σ : Nat → Nat} {n0 : Nat} {bf : ab_B} : decode (ab_code (zx σ n0 bf).1 1054) 315 = .ok (.aload_n 0, 1) := zd zm_1054 (by decide +kernel)
theorem d_1054_316 {σ : Nat → Nat} {n0 : Nat} {bf : ab_B} : decode (ab_code (zx σ n0 bf).1 1054) 316 = .ok (.getfield 132, 3) := zd zm_1054 (by decide +kernel)
theorem d_1054_319 {σ : Nat → Nat} {n0 : Nat} {bf : ab_B} : decode (ab_code (zx σ n0 bf).1 1054) 319 = .ok (.sipush 20000, 3) := zd zm_1054 (by decide +kernel)
theorem d_1054_322 {σ : Nat → Nat} {n0 : Nat} {bf : ab_B} : decode (ab_code (zx σ n0 bf).1 1054) 322 = .ok (.aload_n 0, 1) := zd zm_1054 (by decide +kernel)
theorem d_1054_323 {σ : Nat → Nat} {n0 : Nat} {bf : ab_B} : decode (ab_code (zx σ n0 bf).1 1054) 323 = .ok (.getfield 138, 3) := zd zm_1054 (by decide +kernel)
theorem d_1054_326 {σ : Nat → Nat} {n0 : Nat} {bf : ab_B} : decode (ab_code (zx σ n0 bf).1 1054) 326 = .ok (.iadd, 1) := zd zm_1054 (by decide +kernel)
theorem d_1054_327 {σ : Nat → Nat} {n0 : Nat} {bf : ab_B} : decode (ab_code (zx σ n0 bf).1 1054) 327 = .ok (.iload 4, 2) := zd zm_1054 (by decide +kernel)
theorem d_1054_329 {σ : Nat → Nat} {n0 : Nat} {bf : ab_B} : decode (ab_code (zx σ n0 bf).1 1054) 329 = .ok (.iadd, 1) := zd zm_1054 (by decide +kernel)
theorem d_1054_330 {σ : Nat → Nat} {n0 : Nat} {bf : ab_B} : decode (ab_code (zx σ n0 bf).1 1054) 330 = .ok (.iastore, 1) := zd zm_1054 (by decide +kernel)
theorem d_1054_331 {σ : Nat → Nat} {n0 : Nat} {bf : ab_B} : decode (ab_code (zx σ n0 bf).1 1054) 331 = .ok (.aload_n 0, 1) := zd zm_1054 (by decide +kernel)
theorem d_1054_332 {σ : Nat → Nat} {n0 : Nat} {bf : ab_B} : decode (ab_code (zx σ n0 bf).1 1054) 332 = .ok (.getfield 85, 3) := zd zm_1054 (by decide +kernel)
theorem d_1054_335 {σ : Nat → Nat} {n0 : Nat} {bf : ab_B} : decode (ab_code (zx σ n0 bf).1 1054) 335 = .ok (.aload_n 0, 1) := zd zm_1054 (by decide +kernel)
theorem d_1054_336 {σ : Nat → Nat} {n0 : Nat} {bf : ab_B} : decode (ab_code (zx σ n0 bf).1 1054) 336 = .ok (.getfield 132, 3) := zd zm_1054 (by decide +kernel)
theorem d_1054_339 {σ : Nat → Nat} {n0 : Nat} {bf : ab_B} : decode (ab_code (zx σ n0 bf).1 1054) 339 = .ok (.lload 6, 2) := zd zm_1054 (by decide +kernel)
theorem d_1054_341 {σ : Nat → Nat} {n0 : Nat} {bf : ab_B} : decode (ab_code (zx σ n0 bf).1 1054) 341 = .ok (.l2i, 1) := zd zm_1054 (by decide +kernel)
theorem d_1054_342 {σ : Nat → Nat} {n0 : Nat} {bf : ab_B} : decode (ab_code (zx σ n0 bf).1 1054) 342 = .ok (.iastore, 1) := zd zm_1054 (by decide +kernel)
theorem d_1054_343 {σ : Nat → Nat} {n0 : Nat} {bf : ab_B} : decode (ab_code (zx σ n0 bf).1 1054) 343 = .ok (.aload_n 0, 1) := zd zm_1054 (by decide +kernel)
theorem d_1054_344 {σ : Nat → Nat} {n0 : Nat} {bf : ab_B} : decode (ab_code (zx σ n0 bf).1 1054) 344 = .ok (.getfield 88, 3) := zd zm_1054 (by decide +kernel)
theorem d_1054_347 {σ : Nat → Nat} {n0 : Nat} {bf : ab_B} : decode (ab_code (zx σ n0 bf).1 1054) 347 = .ok (.aload_n 0, 1) := zd zm_1054 (by decide +kernel)
theorem d_1054_348 {σ : Nat → Nat} {n0 : Nat} {bf : ab_B} : decode (ab_code (zx σ n0 bf).1 1054) 348 = .ok (.getfield 132, 3) := zd zm_1054 (by decide +kernel)
theorem d_1054_351 {σ : Nat → Nat} {n0 : Nat} {bf : ab_B} : decode (ab_code (zx σ n0 bf).1 1054) 351 = .ok (.iconst 1, 1) := zd zm_1054 (by decide +kernel)
theorem d_1054_352 {σ : Nat → Nat} {n0 : Nat} {bf : ab_B} : decode (ab_code (zx σ n0 bf).1 1054) 352 = .ok (.bastore, 1) := zd zm_1054 (by decide +kernel)
theorem d_1054_353 {σ : Nat → Nat} {n0 : Nat} {bf : ab_B} : decode (ab_code (zx σ n0 bf).1 1054) 353 = .ok (.aload_n 0, 1) := zd zm_1054 (by decide +kernel)
theorem d_1054_354 {σ : Nat → Nat} {n0 : Nat} {bf : ab_B} : decode (ab_code (zx σ n0 bf).1 1054) 354 = .ok (.getfield 93, 3) := zd zm_1054 (by decide +kernel)
theorem d_1054_357 {σ : Nat → Nat} {n0 : Nat} {bf : ab_B} : decode (ab_code (zx σ n0 bf).1 1054) 357 = .ok (.aload_n 0, 1) := zd zm_1054 (by decide +kernel)
theorem d_1054_358 {σ : Nat → Nat} {n0 : Nat} {bf : ab_B} : decode (ab_code (zx σ n0 bf).1 1054) 358 = .ok (.getfield 132, 3) := zd zm_1054 (by decide +kernel)
theorem d_1054_361 {σ : Nat → Nat} {n0 : Nat} {bf : ab_B} : decode (ab_code (zx σ n0 bf).1 1054) 361 = .ok (.aload_n 3, 1) := zd zm_1054 (by decide +kernel)
theorem d_1054_362 {σ : Nat → Nat} {n0 : Nat} {bf : ab_B} : decode (ab_code (zx σ n0 bf).1 1054) 362 = .ok (.aastore, 1) := zd zm_1054 (by decide +kernel)
theorem d_1054_363 {σ : Nat → Nat} {n0 : Nat} {bf : ab_B} : decode (ab_code (zx σ n0 bf).1 1054) 363 = .ok (.iconst 0, 1) := zd zm_1054 (by decide +kernel)
theorem d_1054_364 {σ : Nat → Nat} {n0 : Nat} {bf : ab_B} : decode (ab_code (zx σ n0 bf).1 1054) 364 = .ok (.istore 8, 2) := zd zm_1054 (by decide +kernel)
theorem d_1054_366 {σ : Nat → Nat} {n0 : Nat} {bf : ab_B} : decode (ab_code (zx σ n0 bf).1 1054) 366 = .ok (.iload 8, 2) := zd zm_1054 (by decide +kernel)
theorem d_1054_368 {σ : Nat → Nat} {n0 : Nat} {bf : ab_B} : decode (ab_code (zx σ n0 bf).1 1054) 368 = .ok (.i2l, 1) := zd zm_1054 (by decide +kernel)
theorem d_1054_369 {σ : Nat → Nat} {n0 : Nat} {bf : ab_B} : decode (ab_code (zx σ n0 bf).1 1054) 369 = .ok (.lload 6, 2) := zd zm_1054 (by decide +kernel)
theorem d_1054_371 {σ : Nat → Nat} {n0 : Nat} {bf : ab_B} : decode (ab_code (zx σ n0 bf).1 1054) 371 = .ok (.lcmp, 1) := zd zm_1054 (by decide +kernel)
theorem d_1054_372 {σ : Nat → Nat} {n0 : Nat} {bf : ab_B} : decode (ab_code (zx σ n0 bf).1 1054) 372 = .ok (.ifCond .ge 27, 3) := zd zm_1054 (by decide +kernel)
theorem d_1054_375 {σ : Nat → Nat} {n0 : Nat} {bf : ab_B} : decode (ab_code (zx σ n0 bf).1 1054) 375 = .ok (.aload_n 0, 1) := zd zm_1054 (by decide +kernel)
theorem d_1054_376 {σ : Nat → Nat} {n0 : Nat} {bf : ab_B} : decode (ab_code (zx σ n0 bf).1 1054) 376 = .ok (.getfield 17, 3) := zd zm_1054 (by decide +kernel)
theorem d_1054_379 {σ : Nat → Nat} {n0 : Nat} {bf : ab_B} : decode (ab_code (zx σ n0 bf).1 1054) 379 = .ok (.aload_n 0, 1) := zd zm_1054 (by decide +kernel)
theorem d_1054_380 {σ : Nat → Nat} {n0 : Nat} {bf : ab_B} : decode (ab_code (zx σ n0 bf).1 1054) 380 = .ok (.getfield 82, 3) := zd zm_1054 (by decide +kernel)
theorem d_1054_383 {σ : Nat → Nat} {n0 : Nat} {bf : ab_B} : decode (ab_code (zx σ n0 bf).1 1054) 383 = .ok (.aload_n 0, 1) := zd zm_1054 (by decide +kernel)
theorem d_1054_384 {σ : Nat → Nat} {n0 : Nat} {bf : ab_B} : decode (ab_code (zx σ n0 bf).1 1054) 384 = .ok (.getfield 132, 3) := zd zm_1054 (by decide +kernel)
theorem d_1054_387 {σ : Nat → Nat} {n0 : Nat} {bf : ab_B} : decode (ab_code (zx σ n0 bf).1 1054) 387 = .ok (.iaload, 1) := zd zm_1054 (by decide +kernel)
theorem d_1054_388 {σ : Nat → Nat} {n0 : Nat} {bf : ab_B} : decode (ab_code (zx σ n0 bf).1 1054) 388 = .ok (.iload 8, 2) := zd zm_1054 (by decide +kernel)
theorem d_1054_390 {σ : Nat → Nat} {n0 : Nat} {bf : ab_B} : decode (ab_code (zx σ n0 bf).1 1054) 390 = .ok (.iadd, 1) := zd zm_1054 (by decide +kernel)
theorem d_1054_391 {σ : Nat → Nat} {n0 : Nat} {bf : ab_B} : decode (ab_code (zx σ n0 bf).1 1054) 391 = .ok (.iconst 0, 1) := zd zm_1054 (by decide +kernel)
theorem d_1054_392 {σ : Nat → Nat} {n0 : Nat} {bf : ab_B} : decode (ab_code (zx σ n0 bf).1 1054) 392 = .ok (.bastore, 1) := zd zm_1054 (by decide +kernel)
theorem d_1054_393 {σ : Nat → Nat} {n0 : Nat} {bf : ab_B} : decode (ab_code (zx σ n0 bf).1 1054) 393 = .ok (.iinc 8 1, 3) := zd zm_1054 (by decide +kernel)
theorem d_1054_396 {σ : Nat → Nat} {n0 : Nat} {bf : ab_B} : decode (ab_code (zx σ n0 bf).1 1054) 396 = .ok (.goto (-30), 3) := zd zm_1054 (by decide +kernel)
theorem d_1054_399 {σ : Nat → Nat} {n0 : Nat} {bf : ab_B} : decode (ab_code (zx σ n0 bf).1 1054) 399 = .ok (.aload_n 0, 1) := zd zm_1054 (by decide +kernel)
theorem d_1054_400 {σ : Nat → Nat} {n0 : Nat} {bf : ab_B} : decode (ab_code (zx σ n0 bf).1 1054) 400 = .ok (.dup, 1) := zd zm_1054 (by decide +kernel)
theorem d_1054_401 {σ : Nat → Nat} {n0 : Nat} {bf : ab_B} : decode (ab_code (zx σ n0 bf).1 1054) 401 = .ok (.getfield 138, 3) := zd zm_1054 (by decide +kernel)
theorem d_1054_404 {σ : Nat → Nat} {n0 : Nat} {bf : ab_B} : decode (ab_code (zx σ n0 bf).1 1054) 404 = .ok (.iconst 1, 1) := zd zm_1054 (by decide +kernel)
theorem d_1054_405 {σ : Nat → Nat} {n0 : Nat} {bf : ab_B} : decode (ab_code (zx σ n0 bf).1 1054) 405 = .ok (.iload 4, 2) := zd zm_1054 (by decide +kernel)
theorem d_1054_407 {σ : Nat → Nat} {n0 : Nat} {bf : ab_B} : decode (ab_code (zx σ n0 bf).1 1054) 407 = .ok (.iadd, 1) := zd zm_1054 (by decide +kernel)
theorem d_1054_408 {σ : Nat → Nat} {n0 : Nat} {bf : ab_B} : decode (ab_code (zx σ n0 bf).1 1054) 408 = .ok (.lload 6, 2) := zd zm_1054 (by decide +kernel)
theorem d_1054_410 {σ : Nat → Nat} {n0 : Nat} {bf : ab_B} : decode (ab_code (zx σ n0 bf).1 1054) 410 = .ok (.l2i, 1) := zd zm_1054 (by decide +kernel)
theorem d_1054_411 {σ : Nat → Nat} {n0 : Nat} {bf : ab_B} : decode (ab_code (zx σ n0 bf).1 1054) 411 = .ok (.iadd, 1) := zd zm_1054 (by decide +kernel)
theorem d_1054_412 {σ : Nat → Nat} {n0 : Nat} {bf : ab_B} : decode (ab_code (zx σ n0 bf).1 1054) 412 = .ok (.iadd, 1) := zd zm_1054 (by decide +kernel)
theorem d_1054_413 {σ : Nat → Nat} {n0 : Nat} {bf : ab_B} : decode (ab_code (zx σ n0 bf).1 1054) 413 = .ok (.putfield 138, 3) := zd zm_1054 (by decide +kernel)
theorem d_1054_416 {σ : Nat → Nat} {n0 : Nat} {bf : ab_B} : decode (ab_code (zx σ n0 bf).1 1054) 416 = .ok (.aload_n 0, 1) := zd zm_1054 (by decide +kernel)
theorem d_1054_417 {σ : Nat → Nat} {n0 : Nat} {bf : ab_B} : decode (ab_code (zx σ n0 bf).1 1054) 417 = .ok (.aload_n 0, 1) := zd zm_1054 (by decide +kernel)
theorem d_1054_418 {σ : Nat → Nat} {n0 : Nat} {bf : ab_B} : decode (ab_code (zx σ n0 bf).1 1054) 418 = .ok (.getfield 36, 3) := zd zm_1054 (by decide +kernel)
theorem d_1054_421 {σ : Nat → Nat} {n0 : Nat} {bf : ab_B} : decode (ab_code (zx σ n0 bf).1 1054) 421 = .ok (.aload_n 0, 1) := zd zm_1054 (by decide +kernel)
theorem d_1054_422 {σ : Nat → Nat} {n0 : Nat} {bf : ab_B} : decode (ab_code (zx σ n0 bf).1 1054) 422 = .ok (.getfield 111, 3) := zd zm_1054 (by decide +kernel)
theorem d_1054_425 {σ : Nat → Nat} {n0 : Nat} {bf : ab_B} : decode (ab_code (zx σ n0 bf).1 1054) 425 = .ok (.laload, 1) := zd zm_1054 (by decide +kernel)
theorem d_1054_426 {σ : Nat → Nat} {n0 : Nat} {bf : ab_B} : decode (ab_code (zx σ n0 bf).1 1054) 426 = .ok (.l2i, 1) := zd zm_1054 (by decide +kernel)
theorem d_1054_427 {σ : Nat → Nat} {n0 : Nat} {bf : ab_B} : decode (ab_code (zx σ n0 bf).1 1054) 427 = .ok (.aload_n 0, 1) := zd zm_1054 (by decide +kernel)
theorem d_1054_428 {σ : Nat → Nat} {n0 : Nat} {bf : ab_B} : decode (ab_code (zx σ n0 bf).1 1054) 428 = .ok (.getfield 132, 3) := zd zm_1054 (by decide +kernel)
theorem d_1054_431 {σ : Nat → Nat} {n0 : Nat} {bf : ab_B} : decode (ab_code (zx σ n0 bf).1 1054) 431 = .ok (.i2l, 1) := zd zm_1054 (by decide +kernel)
theorem d_1054_432 {σ : Nat → Nat} {n0 : Nat} {bf : ab_B} : decode (ab_code (zx σ n0 bf).1 1054) 432 = .ok (.aload_n 1, 1) := zd zm_1054 (by decide +kernel)
theorem d_1054_433 {σ : Nat → Nat} {n0 : Nat} {bf : ab_B} : decode (ab_code (zx σ n0 bf).1 1054) 433 = .ok (.invokestatic 381, 3) := zd zm_1054 (by decide +kernel)
theorem d_1054_436 {σ : Nat → Nat} {n0 : Nat} {bf : ab_B} : decode (ab_code (zx σ n0 bf).1 1054) 436 = .ok (.invokevirtual 385, 3) := zd zm_1054 (by decide +kernel)
theorem d_1054_439 {σ : Nat → Nat} {n0 : Nat} {bf : ab_B} : decode (ab_code (zx σ n0 bf).1 1054) 439 = .ok (.return_, 1) := zd zm_1054 (by decide +kernel)
def w_X2_makeNew_249 (X : zs_X) (d : Nat) (p0 : Nat) (p1 : Option Nat) (p3 : Option Nat) (p4 : Int32) (p5 : Int32) (p6 : Int64) (S : zs_T) (Q : zs_Q) : Prop :=
  (zs_K S p0 = some (.inl 1) ∧ ab_n0 X.1 ≤ p0 ∧ ∀ S3, S3 = zs_sI S 1030 p0 ((zs_I S 1030 p0) + (1 : Int32)) → ∀ S6, S6 = zs_sI S3 1031 p0 ((zs_I S3 1031 p0) + (1 : Int32)) → zs_U X d 1054 272 [(0, .ref p0), (1, va_rf p1), (3, va_rf p3), (4, .int p4), (5, .int p5), (6, .long p6), (8, .int (0 : Int32))] [] S6 Q)
theorem u_X2_makeNew_249 {σ : Nat → Nat} {n0 : Nat} {bf : ab_B} {d : Nat} {p0 : Nat} {p1 : Option Nat} {p3 : Option Nat} {p4 : Int32} {p5 : Int32} {p6 : Int64} {S : zs_T} {Q : zs_Q} (hB : zt_B bf) (h : w_X2_makeNew_249 (zx σ n0 bf) d p0 p1 p3 p4 p5 p6 S Q) : zs_U (zx σ n0 bf) d 1054 249 [(0, .ref p0), (1, va_rf p1), (3, va_rf p3), (4, .int p4), (5, .int p5), (6, .long p6)] [] S Q := by
  unfold w_X2_makeNew_249 at h
  refine zu_aload_n d_1054_249 rfl (zs_ra _) ?_
  refine zu_dup d_1054_250 rfl ?_
  obtain ⟨k1, h⟩ := h
  refine zg_1_132 rfl d_1054_251 k1 ?_
  refine zu_iconst d_1054_254 zi_1 ?_
  refine zu_stk d_1054_255 rfl rfl ?_
  obtain ⟨k2, h⟩ := h
  refine zp_1_132 (v := ((zs_I S 1030 p0) + (1 : Int32))) rfl d_1054_256 k1 k2 ?_
  generalize e4 : zs_sI S 1030 p0 ((zs_I S 1030 p0) + (1 : Int32)) = S3
  have h := h S3 e4.symm
  have K5 : ∀ b, zs_K S3 b = zs_K S b := zs_Kt e4 (zs_KsI _ _ _ _) (fun _ => rfl)
  refine zu_aload_n d_1054_259 rfl (zs_ra _) ?_
  refine zu_dup d_1054_260 rfl ?_
  refine zg_1_135 rfl d_1054_261 ((K5 _).trans k1) ?_
  refine zu_iconst d_1054_264 zi_1 ?_
  refine zu_stk d_1054_265 rfl rfl ?_
  refine zp_1_135 (v := ((zs_I S3 1031 p0) + (1 : Int32))) rfl d_1054_266 ((K5 _).trans k1) k2 ?_
  generalize e7 : zs_sI S3 1031 p0 ((zs_I S3 1031 p0) + (1 : Int32)) = S6
  have h := h S6 e7.symm
  have K8 : ∀ b, zs_K S6 b = zs_K S b := zs_Kt e7 (zs_KsI _ _ _ _) K5
  refine zu_iconst d_1054_269 zi_0 ?_
  refine zu_istore d_1054_270 (zs_lt zq_1054 rfl) ?_
  exact h.weak ⟨rfl, rfl, rfl, rfl, rfl, rfl, rfl, trivial⟩
def w_X2_makeNew_240 (X : zs_X) (d : Nat) (p0 : Nat) (p2 : Int32) (S : zs_T) (Q : zs_Q) : Prop :=
  (zs_K S p0 = some (.inl 1) ∧ zs_C X d 1004 [.ref p0, .int (11 : Int32), .int p2] S (zs_kI (fun v3 S2 => (Q (.returned none) S2)) Q))
theorem u_X2_makeNew_240 {σ : Nat → Nat} {n0 : Nat} {bf : ab_B} {d : Nat} {p0 : Nat} {p2 : Int32} {S : zs_T} {Q : zs_Q} (hB : zt_B bf) (h : w_X2_makeNew_240 (zx σ n0 bf) d p0 p2 S Q) : zs_U (zx σ n0 bf) d 1054 240 [(0, .ref p0), (2, .int p2)] [] S Q := by
  unfold w_X2_makeNew_240 at h
  refine zu_aload_n d_1054_240 rfl (zs_ra _) ?_
  refine zu_bipush d_1054_241 zj_11 ?_
  refine zu_iload_n d_1054_243 rfl ?_
  obtain ⟨k1, h⟩ := h
  refine zc_1_194 (x0 := (11 : Int32)) (x1 := p2) hB rfl k1 d_1054_244 (Nat.le_of_ble_eq_true rfl) h (fun v3 S2 h => ?_)
  refine zu_pop d_1054_247 rfl ?_
  exact zu_vret d_1054_248 zr_1054 h
def w_X2_makeNew_218 (X : zs_X) (d : Nat)  (S : zs_T) (Q : zs_Q) : Prop :=
  (Q (.returned none) S)
theorem u_X2_makeNew_218 {σ : Nat → Nat} {n0 : Nat} {bf : ab_B} {d : Nat}  {S : zs_T} {Q : zs_Q} (hB : zt_B bf) (h : w_X2_makeNew_218 (zx σ n0 bf) d  S Q) : zs_U (zx σ n0 bf) d 1054 218 [] [] S Q := by
  unfold w_X2_makeNew_218 at h
  exact zu_vret d_1054_218 zr_1054 h
def w_X2_makeNew_183 (X : zs_X) (d : Nat) (p0 : Nat) (p1 : Option Nat) (p2 : Int32) (p3 : Option Nat) (p4 : Int32) (p5 : Int32) (q0 : Int64) (S : zs_T) (Q : zs_Q) : Prop :=
  (zs_K S p0 = some (.inl 1) ∧ ∃ b2, (zs_R S 1004 p0) = some b2 ∧ zs_K S b2 = some (.inl 2) ∧ ab_n0 X.1 ≤ b2 ∧ ∀ S6, S6 = zs_sI S 2001 b2 p5 → ab_n0 X.1 ≤ p0 ∧ ∀ S10, S10 = zs_sI S6 1007 p0 ((zs_I S6 1007 p0) - (1 : Int32)) → (((0 : Int64) ≤ q0 → (((((((((zs_I S10 1032 p0)).toInt64) + (1 : Int64)) + ((p4).toInt64)) + q0) ≤ (20000 : Int64) → w_X2_makeNew_249 X d p0 p1 p3 p4 p5 q0 S10 Q) ∧ (¬ (((((((zs_I S10 1032 p0)).toInt64) + (1 : Int64)) + ((p4).toInt64)) + q0) ≤ (20000 : Int64)) → w_X2_makeNew_240 X d p0 p2 S10 Q)))) ∧ (¬ ((0 : Int64) ≤ q0) → (zs_C X d 1004 [.ref p0, .int (2 : Int32), .int p2] S10 (zs_kI (fun v16 S15 => (w_X2_makeNew_218 X d  S15 Q)) Q)))))
theorem u_X2_makeNew_183 {σ : Nat → Nat} {n0 : Nat} {bf : ab_B} {d : Nat} {p0 : Nat} {p1 : Option Nat} {p2 : Int32} {p3 : Option Nat} {p4 : Int32} {p5 : Int32} {q0 : Int64} {S : zs_T} {Q : zs_Q} (hB : zt_B bf) (h : w_X2_makeNew_183 (zx σ n0 bf) d p0 p1 p2 p3 p4 p5 q0 S Q) : zs_U (zx σ n0 bf) d 1054 183 [(0, .ref p0), (1, va_rf p1), (2, .int p2), (3, va_rf p3), (4, .int p4), (5, .int p5)] [.long q0] S Q := by
  unfold w_X2_makeNew_183 at h
  refine zu_lstore d_1054_183 (zs_lt zq_1054 rfl) ?_
  refine zu_aload_n d_1054_185 rfl (zs_ra _) ?_
  obtain ⟨k1, h⟩ := h
  refine zg_1_31 rfl d_1054_186 k1 ?_
  refine zu_iload d_1054_189 rfl ?_
  obtain ⟨b2, e3, h⟩ := h
  refine zs_stk1 (zs_rfe e3) ?_
  obtain ⟨k4, h⟩ := h
  obtain ⟨k5, h⟩ := h
  refine zp_1_295 (v := p5) rfl d_1054_191 k4 k5 ?_
  generalize e7 : zs_sI S 2001 b2 p5 = S6
  have h := h S6 e7.symm
  have K8 : ∀ b, zs_K S6 b = zs_K S b := zs_Kt e7 (zs_KsI _ _ _ _) (fun _ => rfl)
  refine zu_aload_n d_1054_194 rfl (zs_ra _) ?_
  refine zu_dup d_1054_195 rfl ?_
  refine zg_1_111 rfl d_1054_196 ((K8 _).trans k1) ?_
  refine zu_iconst d_1054_199 zi_1 ?_
  refine zu_stk d_1054_200 rfl rfl ?_
  obtain ⟨k9, h⟩ := h
  refine zp_1_111 (v := ((zs_I S6 1007 p0) - (1 : Int32))) rfl d_1054_201 ((K8 _).trans k1) k9 ?_
  generalize e11 : zs_sI S6 1007 p0 ((zs_I S6 1007 p0) - (1 : Int32)) = S10
  have h := h S10 e11.symm
  have K12 : ∀ b, zs_K S10 b = zs_K S b := zs_Kt e11 (zs_KsI _ _ _ _) K8
  refine zu_lload d_1054_204 rfl ?_
  refine zu_lconst (v := 0) d_1054_206 rfl ?_
  refine zu_lge (t := 219) d_1054_207 d_1054_208 rfl (fun c13 => ?_) (fun c13 => ?_)
  · have h := h.1 c13
    refine zu_aload_n d_1054_219 rfl (zs_ra _) ?_
    refine zg_1_138 rfl d_1054_220 ((K12 _).trans k1) ?_
    refine zu_stk d_1054_223 rfl rfl ?_
    refine zu_lconst (v := 1) d_1054_224 rfl ?_
    refine zu_stk d_1054_225 rfl rfl ?_
    refine zu_iload d_1054_226 rfl ?_
    refine zu_stk d_1054_228 rfl rfl ?_
    refine zu_stk d_1054_229 rfl rfl ?_
    refine zu_lload d_1054_230 rfl ?_
    refine zu_stk d_1054_232 rfl rfl ?_
    refine zl2_1_192 rfl d_1054_233 ?_
    refine zu_lle (t := 249) d_1054_236 d_1054_237 rfl (fun c14 => ?_) (fun c14 => ?_)
    · have h := h.1 c14
      exact (u_X2_makeNew_249 hB h).weak ⟨rfl, rfl, rfl, rfl, rfl, rfl, trivial⟩
    · have h := h.2 c14
      exact (u_X2_makeNew_240 hB h).weak ⟨rfl, rfl, trivial⟩
  · have h := h.2 c13
    refine zu_aload_n d_1054_211 rfl (zs_ra _) ?_
    refine zu_iconst d_1054_212 zi_2 ?_
    refine zu_iload_n d_1054_213 rfl ?_
    refine zc_1_194 (x0 := (2 : Int32)) (x1 := p2) hB rfl ((K12 _).trans k1) d_1054_214 (Nat.le_of_ble_eq_true rfl) h (fun v16 S15 h => ?_)
    refine zu_pop d_1054_217 rfl ?_
    exact (u_X2_makeNew_218 hB h).weak trivial
def w_X2_makeNew_180 (X : zs_X) (d : Nat) (p0 : Nat) (p1 : Option Nat) (p2 : Int32) (p3 : Option Nat) (p4 : Int32) (p5 : Int32) (S : zs_T) (Q : zs_Q) : Prop :=
  (w_X2_makeNew_183 X d p0 p1 p2 p3 p4 p5 (-1 : Int64) S Q)
theorem u_X2_makeNew_180 {σ : Nat → Nat} {n0 : Nat} {bf : ab_B} {d : Nat} {p0 : Nat} {p1 : Option Nat} {p2 : Int32} {p3 : Option Nat} {p4 : Int32} {p5 : Int32} {S : zs_T} {Q : zs_Q} (hB : zt_B bf) (h : w_X2_makeNew_180 (zx σ n0 bf) d p0 p1 p2 p3 p4 p5 S Q) : zs_U (zx σ n0 bf) d 1054 180 [(0, .ref p0), (1, va_rf p1), (2, .int p2), (3, va_rf p3), (4, .int p4), (5, .int p5)] [] S Q := by
  unfold w_X2_makeNew_180 at h
  refine zl2_1_437 rfl d_1054_180 ?_
  exact (u_X2_makeNew_183 hB h).weak ⟨rfl, rfl, rfl, rfl, rfl, rfl, trivial⟩
def w_X2_makeNew_164 (X : zs_X) (d : Nat) (p0 : Nat) (p1 : Option Nat) (p2 : Int32) (p3 : Option Nat) (p4 : Int32) (p5 : Int32) (S : zs_T) (Q : zs_Q) : Prop :=
  (zs_K S p0 = some (.inl 1) ∧ ∃ b2, p3 = some b2 ∧ zs_K S b2 = some (.inl 6) ∧ zs_C X d 6003 [.ref b2] S (zs_kR (fun v6 S5 => (∃ b7, (zs_R S 1004 p0) = some b7 ∧ zs_K S5 b7 = some (.inl 2) ∧ zs_C X d 2007 [.ref b7, va_rf v6, .int p5] S5 (zs_kJ (fun v11 S10 => (w_X2_makeNew_183 X d p0 p1 p2 p3 p4 p5 v11 S10 Q)) Q))) Q))
theorem u_X2_makeNew_164 {σ : Nat → Nat} {n0 : Nat} {bf : ab_B} {d : Nat} {p0 : Nat} {p1 : Option Nat} {p2 : Int32} {p3 : Option Nat} {p4 : Int32} {p5 : Int32} {S : zs_T} {Q : zs_Q} (hB : zt_B bf) (h : w_X2_makeNew_164 (zx σ n0 bf) d p0 p1 p2 p3 p4 p5 S Q) : zs_U (zx σ n0 bf) d 1054 164 [(0, .ref p0), (1, va_rf p1), (2, .int p2), (3, va_rf p3), (4, .int p4), (5, .int p5)] [] S Q := by
  unfold w_X2_makeNew_164 at h
  refine zu_aload_n d_1054_164 rfl (zs_ra _) ?_
  obtain ⟨k1, h⟩ := h
  refine zg_1_31 rfl d_1054_165 k1 ?_
  refine zu_aload_n d_1054_168 rfl (zs_rr _) ?_
  obtain ⟨b2, e3, h⟩ := h
  refine zs_stk0 (zs_rfe e3) ?_
  obtain ⟨k4, h⟩ := h
  refine zc_1_415  hB rfl k4 d_1054_169 (by simp only [List.map_cons, List.map_nil, List.sum_cons, List.sum_nil, zs_cat, zs_cI, zs_cJ, zs_cA]; exact Nat.le_of_ble_eq_true rfl) h (fun v6 S5 h => ?_)
  refine zu_iload d_1054_172 rfl ?_
  obtain ⟨b7, e8, h⟩ := h
  refine zs_stk2 (zs_rfe e8) ?_
  obtain ⟨k9, h⟩ := h
  refine zc_1_548 (x0 := v6) (x1 := p5) hB rfl k9 d_1054_174 (Nat.le_of_ble_eq_true rfl) h (fun v11 S10 h => ?_)
  refine zu_goto (t := 183) d_1054_177 rfl ?_
  exact (u_X2_makeNew_183 hB h).weak ⟨rfl, rfl, rfl, rfl, rfl, rfl, trivial⟩
def w_X2_makeNew_114 (X : zs_X) (d : Nat) (p0 : Nat) (p1 : Option Nat) (p2 : Int32) (p3 : Option Nat) (p4 : Int32) (p5 : Int32) (S : zs_T) (Q : zs_Q) : Prop :=
  (zs_K S p0 = some (.inl 1) ∧ ∃ b2, (zs_R S 1004 p0) = some b2 ∧ zs_K S b2 = some (.inl 2) ∧ ab_n0 X.1 ≤ b2 ∧ ∀ S6, S6 = zs_sI S 2001 b2 ((zs_I S 2001 b2) + (4 : Int32)) → ((¬ p4 = 0 → (∃ b10, p3 = some b10 ∧ zs_K S b10 = some (.inl 6) ∧ zs_C X d 6005 [.ref b10] S6 (zs_kR (fun v14 S13 => (∃ b15, (zs_R S6 1004 p0) = some b15 ∧ zs_K S13 b15 = some (.inl 2) ∧ zs_C X d 2011 [.ref b15, va_rf v14, .int p5] S13 (zs_kI (fun v19 S18 => (((v19 = 0 → w_X2_makeNew_180 X d p0 p1 p2 p3 p4 p5 S18 Q) ∧ (¬ (v19 = 0) → w_X2_makeNew_164 X d p0 p1 p2 p3 p4 p5 S18 Q)))) Q))) Q))) ∧ (¬ (¬ p4 = 0) → (∃ b21, p3 = some b21 ∧ zs_K S b21 = some (.inl 6) ∧ zs_C X d 6003 [.ref b21] S6 (zs_kR (fun v25 S24 => (∃ b26, (zs_R S6 1004 p0) = some b26 ∧ zs_K S24 b26 = some (.inl 2) ∧ zs_C X d 2012 [.ref b26, va_rf v25, .int p5] S24 (zs_kJ (fun v30 S29 => (w_X2_makeNew_183 X d p0 p1 p2 p3 p4 p5 v30 S29 Q)) Q))) Q)))))
theorem u_X2_makeNew_114 {σ : Nat → Nat} {n0 : Nat} {bf : ab_B} {d : Nat} {p0 : Nat} {p1 : Option Nat} {p2 : Int32} {p3 : Option Nat} {p4 : Int32} {p5 : Int32} {S : zs_T} {Q : zs_Q} (hB : zt_B bf) (h : w_X2_makeNew_114 (zx σ n0 bf) d p0 p1 p2 p3 p4 p5 S Q) : zs_U (zx σ n0 bf) d 1054 114 [(0, .ref p0), (1, va_rf p1), (2, .int p2), (3, va_rf p3), (4, .int p4), (5, .int p5)] [] S Q := by
  unfold w_X2_makeNew_114 at h
  refine zu_aload_n d_1054_114 rfl (zs_ra _) ?_
  obtain ⟨k1, h⟩ := h
  refine zg_1_31 rfl d_1054_115 k1 ?_
  refine zu_dup d_1054_118 (zs_cat _) ?_
  obtain ⟨b2, e3, h⟩ := h
  refine zs_stk0 (zs_rfe e3) ?_
  obtain ⟨k4, h⟩ := h
  refine zg_1_295 rfl d_1054_119 k4 ?_
  refine zu_iconst d_1054_122 zi_4 ?_
  refine zu_stk d_1054_123 rfl rfl ?_
  refine zs_stk1 (zs_rfe e3) ?_
  obtain ⟨k5, h⟩ := h
  refine zp_1_295 (v := ((zs_I S 2001 b2) + (4 : Int32))) rfl d_1054_124 k4 k5 ?_
  generalize e7 : zs_sI S 2001 b2 ((zs_I S 2001 b2) + (4 : Int32)) = S6
  have h := h S6 e7.symm
  have K8 : ∀ b, zs_K S6 b = zs_K S b := zs_Kt e7 (zs_KsI _ _ _ _) (fun _ => rfl)
  refine zu_iload d_1054_127 rfl ?_
  refine zu_ifne (t := 148) d_1054_129 rfl (fun c9 => ?_) (fun c9 => ?_)
  · have h := h.1 c9
    refine zu_aload_n d_1054_148 rfl (zs_ra _) ?_
    refine zg_1_31 rfl d_1054_149 ((K8 _).trans k1) ?_
    refine zu_aload_n d_1054_152 rfl (zs_rr _) ?_
    obtain ⟨b10, e11, h⟩ := h
    refine zs_stk0 (zs_rfe e11) ?_
    obtain ⟨k12, h⟩ := h
    refine zc_1_358  hB rfl ((K8 _).trans k12) d_1054_153 (by simp only [List.map_cons, List.map_nil, List.sum_cons, List.sum_nil, zs_cat, zs_cI, zs_cJ, zs_cA]; exact Nat.le_of_ble_eq_true rfl) h (fun v14 S13 h => ?_)
    refine zu_iload d_1054_156 rfl ?_
    obtain ⟨b15, e16, h⟩ := h
    refine zs_stk2 (zs_rfe e16) ?_
    obtain ⟨k17, h⟩ := h
    refine zc_1_545 (x0 := v14) (x1 := p5) hB rfl k17 d_1054_158 (Nat.le_of_ble_eq_true rfl) h (fun v19 S18 h => ?_)
    refine zu_ifeq (t := 180) d_1054_161 rfl (fun c20 => ?_) (fun c20 => ?_)
    · have h := h.1 c20
      exact (u_X2_makeNew_180 hB h).weak ⟨rfl, rfl, rfl, rfl, rfl, rfl, trivial⟩
    · have h := h.2 c20
      exact (u_X2_makeNew_164 hB h).weak ⟨rfl, rfl, rfl, rfl, rfl, rfl, trivial⟩
  · have h := h.2 c9
    refine zu_aload_n d_1054_132 rfl (zs_ra _) ?_
    refine zg_1_31 rfl d_1054_133 ((K8 _).trans k1) ?_
    refine zu_aload_n d_1054_136 rfl (zs_rr _) ?_
    obtain ⟨b21, e22, h⟩ := h
    refine zs_stk0 (zs_rfe e22) ?_
    obtain ⟨k23, h⟩ := h
    refine zc_1_415  hB rfl ((K8 _).trans k23) d_1054_137 (by simp only [List.map_cons, List.map_nil, List.sum_cons, List.sum_nil, zs_cat, zs_cI, zs_cJ, zs_cA]; exact Nat.le_of_ble_eq_true rfl) h (fun v25 S24 h => ?_)
    refine zu_iload d_1054_140 rfl ?_
    obtain ⟨b26, e27, h⟩ := h
    refine zs_stk2 (zs_rfe e27) ?_
    obtain ⟨k28, h⟩ := h
    refine zc_1_313 (x0 := v25) (x1 := p5) hB rfl k28 d_1054_142 (Nat.le_of_ble_eq_true rfl) h (fun v30 S29 h => ?_)
    refine zu_goto (t := 183) d_1054_145 rfl ?_
    exact (u_X2_makeNew_183 hB h).weak ⟨rfl, rfl, rfl, rfl, rfl, rfl, trivial⟩
def w_X2_makeNew_26 (X : zs_X) (d : Nat) (p0 : Nat) (p1 : Option Nat) (p2 : Int32) (p3 : Option Nat) (q0 : Int32) (S : zs_T) (Q : zs_Q) : Prop :=
  (zs_K S p0 = some (.inl 1) ∧ ∃ b2, (zs_R S 1004 p0) = some b2 ∧ zs_K S b2 = some (.inl 2) ∧ ∃ b5, p3 = some b5 ∧ zs_K S b5 = some (.inl 6) ∧ ((¬ (zs_I S 6000 b5) = (10 : Int32) → (((q0 ≤ 0 → w_X2_makeNew_114 X d p0 p1 p2 p3 q0 (zs_I S 2001 b2) S Q) ∧ (¬ (q0 ≤ 0) → (zs_C X d 2010 [.ref b2, va_rf p3, .int (-1 : Int32), .int (zs_I S 2001 b2)] S (zs_kV (fun S10 => w_X2_makeNew_114 X d p0 p1 p2 p3 q0 (zs_I S 2001 b2) S10 Q) Q)))))) ∧ (¬ (¬ (zs_I S 6000 b5) = (10 : Int32)) → (ab_n0 X.1 ≤ p0 ∧ ∀ S13, S13 = zs_sI S 1007 p0 ((zs_I S 1007 p0) - q0) → zs_U X d 1054 60 [(0, .ref p0), (1, va_rf p1), (2, .int p2), (3, va_rf p3), (4, .int q0), (5, .int (zs_I S 2001 b2)), (6, .int (0 : Int32))] [] S13 Q))))
theorem u_X2_makeNew_26 {σ : Nat → Nat} {n0 : Nat} {bf : ab_B} {d : Nat} {p0 : Nat} {p1 : Option Nat} {p2 : Int32} {p3 : Option Nat} {q0 : Int32} {S : zs_T} {Q : zs_Q} (hB : zt_B bf) (h : w_X2_makeNew_26 (zx σ n0 bf) d p0 p1 p2 p3 q0 S Q) : zs_U (zx σ n0 bf) d 1054 26 [(0, .ref p0), (1, va_rf p1), (2, .int p2), (3, va_rf p3)] [.int q0] S Q := by
  unfold w_X2_makeNew_26 at h
  refine zu_istore d_1054_26 (zs_lt zq_1054 rfl) ?_
  refine zs_U.weak (L1 := [(4, .int q0), (0, .ref p0), (1, va_rf p1), (2, .int p2), (3, va_rf p3)]) ?_ ⟨rfl, zs_gp1 rfl (Or.inl rfl) rfl, zs_gp1 rfl (Or.inl (zs_cat _)) rfl, zs_gp1 rfl (Or.inl rfl) rfl, zs_gp1 rfl (Or.inl (zs_cat _)) rfl, trivial⟩
  refine zu_aload_n d_1054_28 rfl (zs_ra _) ?_
  obtain ⟨k1, h⟩ := h
  refine zg_1_31 rfl d_1054_29 k1 ?_
  obtain ⟨b2, e3, h⟩ := h
  refine zs_stk0 (zs_rfe e3) ?_
  obtain ⟨k4, h⟩ := h
  refine zg_1_295 rfl d_1054_32 k4 ?_
  refine zu_istore d_1054_35 (zs_lt zq_1054 rfl) ?_
  refine zu_aload_n d_1054_37 rfl (zs_rr _) ?_
  obtain ⟨b5, e6, h⟩ := h
  refine zs_stk0 (zs_rfe e6) ?_
  obtain ⟨k7, h⟩ := h
  refine zg_1_374 rfl d_1054_38 k7 ?_
  refine zu_bipush d_1054_41 zj_10 ?_
  refine zu_cmpne (t := 98) d_1054_43 rfl (fun c8 => ?_) (fun c8 => ?_)
  · have h := h.1 c8
    refine zu_iload d_1054_98 rfl ?_
    refine zu_ifle (t := 114) d_1054_100 rfl (fun c9 => ?_) (fun c9 => ?_)
    · have h := h.1 c9
      exact (u_X2_makeNew_114 hB h).weak ⟨rfl, rfl, rfl, rfl, rfl, rfl, trivial⟩
    · have h := h.2 c9
      refine zu_aload_n d_1054_103 rfl (zs_ra _) ?_
      refine zg_1_31 rfl d_1054_104 k1 ?_
      refine zu_aload_n d_1054_107 rfl (zs_rr _) ?_
      refine zu_iconst d_1054_108 zi_m1 ?_
      refine zu_iload d_1054_109 rfl ?_
      refine zs_stk3 (zs_rfe e3) ?_
      refine zc_1_296 (x0 := p3) (x1 := (-1 : Int32)) (x2 := (zs_I S 2001 b2)) hB rfl k4 d_1054_111 (Nat.le_of_ble_eq_true rfl) h (fun S10 h => ?_)
      exact (u_X2_makeNew_114 hB h).weak ⟨rfl, rfl, rfl, rfl, rfl, rfl, trivial⟩
  · have h := h.2 c8
    refine zu_aload_n d_1054_46 rfl (zs_ra _) ?_
    refine zu_dup d_1054_47 rfl ?_
    refine zg_1_111 rfl d_1054_48 k1 ?_
    refine zu_iload d_1054_51 rfl ?_
    refine zu_stk d_1054_53 rfl rfl ?_
    obtain ⟨k12, h⟩ := h
    refine zp_1_111 (v := ((zs_I S 1007 p0) - q0)) rfl d_1054_54 k1 k12 ?_
    generalize e14 : zs_sI S 1007 p0 ((zs_I S 1007 p0) - q0) = S13
    have h := h S13 e14.symm
    have K15 : ∀ b, zs_K S13 b = zs_K S b := zs_Kt e14 (zs_KsI _ _ _ _) (fun _ => rfl)
    refine zu_iconst d_1054_57 zi_0 ?_
    refine zu_istore d_1054_58 (zs_lt zq_1054 rfl) ?_
    exact h.weak ⟨rfl, rfl, rfl, rfl, rfl, rfl, rfl, trivial⟩
def w_X2_makeNew_89 (X : zs_X) (d : Nat) (p0 : Nat) (p1 : Option Nat) (p2 : Int32) (p3 : Option Nat) (p4 : Int32) (p5 : Int32) (p6 : Int32) (S : zs_T) (Q : zs_Q) : Prop :=
  (zs_U X d 1054 60 [(0, .ref p0), (1, va_rf p1), (2, .int p2), (3, va_rf p3), (4, .int p4), (5, .int p5), (6, .int (p6 + (1 : Int32)))] [] S Q)
theorem u_X2_makeNew_89 {σ : Nat → Nat} {n0 : Nat} {bf : ab_B} {d : Nat} {p0 : Nat} {p1 : Option Nat} {p2 : Int32} {p3 : Option Nat} {p4 : Int32} {p5 : Int32} {p6 : Int32} {S : zs_T} {Q : zs_Q} (hB : zt_B bf) (h : w_X2_makeNew_89 (zx σ n0 bf) d p0 p1 p2 p3 p4 p5 p6 S Q) : zs_U (zx σ n0 bf) d 1054 89 [(0, .ref p0), (1, va_rf p1), (2, .int p2), (3, va_rf p3), (4, .int p4), (5, .int p5), (6, .int p6)] [] S Q := by
  unfold w_X2_makeNew_89 at h
  refine zu_iinc d_1054_89 rfl zi_1 (zs_lt zq_1054 rfl) ?_
  refine zu_goto (t := 60) d_1054_92 rfl ?_
  exact h.weak ⟨rfl, rfl, rfl, rfl, rfl, rfl, rfl, trivial⟩
def w_X2_makeNew_60 (X : zs_X) (d : Nat) (p0 : Nat) (p1 : Option Nat) (p2 : Int32) (p3 : Option Nat) (p4 : Int32) (p5 : Int32) (p6 : Int32) (S : zs_T) (Q : zs_Q) : Prop :=
  (((p4 ≤ p6 → (w_X2_makeNew_114 X d p0 p1 p2 p3 p4 p5 S Q)) ∧ (¬ (p4 ≤ p6) → (zs_K S p0 = some (.inl 1) ∧ ∃ b3, (zs_R S 1005 p0) = some b3 ∧ zs_A S b3 3 ((zs_I S 1007 p0) + p6) ∧ ∃ b6, (zs_R S 1001 p0) = some b6 ∧ zs_A S b6 3 (p5 + p6) ∧ ab_n0 X.1 ≤ b6 ∧ ∀ S10, S10 = zs_sj S b6 (p5 + p6).toNatClampNeg (zs_j S b3 ((zs_I S 1007 p0) + p6).toNatClampNeg) → w_X2_makeNew_89 X d p0 p1 p2 p3 p4 p5 p6 S10 Q))))
theorem u_X2_makeNew_60 {σ : Nat → Nat} {n0 : Nat} {bf : ab_B} {d : Nat} {p0 : Nat} {p1 : Option Nat} {p2 : Int32} {p3 : Option Nat} {p4 : Int32} {p5 : Int32} {p6 : Int32} {S : zs_T} {Q : zs_Q} (hB : zt_B bf) (h : w_X2_makeNew_60 (zx σ n0 bf) d p0 p1 p2 p3 p4 p5 p6 S Q) : zs_U (zx σ n0 bf) d 1054 60 [(0, .ref p0), (1, va_rf p1), (2, .int p2), (3, va_rf p3), (4, .int p4), (5, .int p5), (6, .int p6)] [] S Q := by
  unfold w_X2_makeNew_60 at h
  refine zu_iload d_1054_60 rfl ?_
  refine zu_iload d_1054_62 rfl ?_
  refine zu_cmpge (t := 95) d_1054_64 rfl (fun c1 => ?_) (fun c1 => ?_)
  · have h := h.1 c1
    refine zu_goto (t := 114) d_1054_95 rfl ?_
    exact (u_X2_makeNew_114 hB h).weak ⟨rfl, rfl, rfl, rfl, rfl, rfl, trivial⟩
  · have h := h.2 c1
    refine zu_aload_n d_1054_67 rfl (zs_ra _) ?_
    obtain ⟨k2, h⟩ := h
    refine zg_1_10 rfl d_1054_68 k2 ?_
    refine zu_iload d_1054_71 rfl ?_
    refine zu_iload d_1054_73 rfl ?_
    refine zu_stk d_1054_75 rfl rfl ?_
    refine zu_aload_n d_1054_76 rfl (zs_ra _) ?_
    refine zg_1_36 rfl d_1054_77 k2 ?_
    refine zu_aload_n d_1054_80 rfl (zs_ra _) ?_
    refine zg_1_111 rfl d_1054_81 k2 ?_
    refine zu_iload d_1054_84 rfl ?_
    refine zu_stk d_1054_86 rfl rfl ?_
    obtain ⟨b3, e4, h⟩ := h
    refine zs_stk1 (zs_rfe e4) ?_
    obtain ⟨k5, h⟩ := h
    refine zu_lald (k := 3) d_1054_87 rfl rfl k5 ?_
    obtain ⟨b6, e7, h⟩ := h
    refine zs_stk2 (zs_rfe e7) ?_
    obtain ⟨k8, h⟩ := h
    obtain ⟨k9, h⟩ := h
    refine zu_last (k := 3) d_1054_88 rfl rfl k9 k8 ?_
    generalize e11 : zs_sj S b6 (p5 + p6).toNatClampNeg (zs_j S b3 ((zs_I S 1007 p0) + p6).toNatClampNeg) = S10
    have h := h S10 e11.symm
    have K12 : ∀ b, zs_K S10 b = zs_K S b := zs_Kt e11 (zs_Ksj _ _ _ _) (fun _ => rfl)
    exact (u_X2_makeNew_89 hB h).weak ⟨rfl, rfl, rfl, rfl, rfl, rfl, rfl, trivial⟩
def w_X2_makeNew_343 (X : zs_X) (d : Nat) (p0 : Nat) (p1 : Option Nat) (p3 : Option Nat) (p4 : Int32) (p6 : Int64) (S : zs_T) (Q : zs_Q) : Prop :=
  (zs_K S p0 = some (.inl 1) ∧ ∃ b2, (zs_R S 1028 p0) = some b2 ∧ zs_A S b2 2 (zs_I S 1030 p0) ∧ ab_n0 X.1 ≤ b2 ∧ ∀ S6, S6 = zs_si S b2 (zs_I S 1030 p0).toNatClampNeg (vp_nar .boolean (1 : Int32)) → ∃ b9, (zs_R S6 1029 p0) = some b9 ∧ zs_A S b9 4 (zs_I S6 1030 p0) ∧ ab_n0 X.1 ≤ b9 ∧ ∃ b13, p3 = some b13 ∧ zs_K S b13 = some (.inl 6) ∧ ∀ S16, S16 = zs_sr S6 b9 (zs_I S6 1030 p0).toNatClampNeg (some b13) → zs_U X d 1054 366 [(0, .ref p0), (1, va_rf p1), (4, .int p4), (6, .long p6), (8, .int (0 : Int32))] [] S16 Q)
theorem u_X2_makeNew_343 {σ : Nat → Nat} {n0 : Nat} {bf : ab_B} {d : Nat} {p0 : Nat} {p1 : Option Nat} {p3 : Option Nat} {p4 : Int32} {p6 : Int64} {S : zs_T} {Q : zs_Q} (hB : zt_B bf) (h : w_X2_makeNew_343 (zx σ n0 bf) d p0 p1 p3 p4 p6 S Q) : zs_U (zx σ n0 bf) d 1054 343 [(0, .ref p0), (1, va_rf p1), (3, va_rf p3), (4, .int p4), (6, .long p6)] [] S Q := by
  unfold w_X2_makeNew_343 at h
  refine zu_aload_n d_1054_343 rfl (zs_ra _) ?_
  obtain ⟨k1, h⟩ := h
  refine zg_1_88 rfl d_1054_344 k1 ?_
  refine zu_aload_n d_1054_347 rfl (zs_ra _) ?_
  refine zg_1_132 rfl d_1054_348 k1 ?_
  refine zu_iconst d_1054_351 zi_1 ?_
  obtain ⟨b2, e3, h⟩ := h
  refine zs_stk2 (zs_rfe e3) ?_
  obtain ⟨k4, h⟩ := h
  obtain ⟨k5, h⟩ := h
  refine zu_bast_bool (k := 2) d_1054_352 rfl rfl k5 k4 ?_
  generalize e7 : zs_si S b2 (zs_I S 1030 p0).toNatClampNeg (vp_nar .boolean (1 : Int32)) = S6
  have h := h S6 e7.symm
  have K8 : ∀ b, zs_K S6 b = zs_K S b := zs_Kt e7 (zs_Ksi _ _ _ _) (fun _ => rfl)
  refine zu_aload_n d_1054_353 rfl (zs_ra _) ?_
  refine zg_1_93 rfl d_1054_354 ((K8 _).trans k1) ?_
  refine zu_aload_n d_1054_357 rfl (zs_ra _) ?_
  refine zg_1_132 rfl d_1054_358 ((K8 _).trans k1) ?_
  refine zu_aload_n d_1054_361 rfl (zs_rr _) ?_
  obtain ⟨b9, e10, h⟩ := h
  refine zs_stk2 (zs_rfe e10) ?_
  obtain ⟨k11, h⟩ := h
  obtain ⟨k12, h⟩ := h
  obtain ⟨b13, e14, h⟩ := h
  refine zs_stk0 (zs_rfe e14) ?_
  obtain ⟨k15, h⟩ := h
  refine zu_aast (k := 4) (C := "") d_1054_362 rfl (by show zt_cs 4 6 = true; decide +kernel) ((K8 _).trans k15) k12 (zs_Ak K8 k11) ?_
  generalize e17 : zs_sr S6 b9 (zs_I S6 1030 p0).toNatClampNeg (some b13) = S16
  have h := h S16 e17.symm
  have K18 : ∀ b, zs_K S16 b = zs_K S b := zs_Kt e17 (zs_Ksr _ _ _ _) K8
  refine zu_iconst d_1054_363 zi_0 ?_
  refine zu_istore d_1054_364 (zs_lt zq_1054 rfl) ?_
  exact h.weak ⟨rfl, rfl, rfl, rfl, rfl, trivial⟩
def w_X2_makeNew_305 (X : zs_X) (d : Nat) (p0 : Nat) (p1 : Option Nat) (p3 : Option Nat) (p4 : Int32) (p5 : Int32) (p6 : Int64) (p8 : Int32) (S : zs_T) (Q : zs_Q) : Prop :=
  (zs_U X d 1054 272 [(0, .ref p0), (1, va_rf p1), (3, va_rf p3), (4, .int p4), (5, .int p5), (6, .long p6), (8, .int (p8 + (1 : Int32)))] [] S Q)
theorem u_X2_makeNew_305 {σ : Nat → Nat} {n0 : Nat} {bf : ab_B} {d : Nat} {p0 : Nat} {p1 : Option Nat} {p3 : Option Nat} {p4 : Int32} {p5 : Int32} {p6 : Int64} {p8 : Int32} {S : zs_T} {Q : zs_Q} (hB : zt_B bf) (h : w_X2_makeNew_305 (zx σ n0 bf) d p0 p1 p3 p4 p5 p6 p8 S Q) : zs_U (zx σ n0 bf) d 1054 305 [(0, .ref p0), (1, va_rf p1), (3, va_rf p3), (4, .int p4), (5, .int p5), (6, .long p6), (8, .int p8)] [] S Q := by
  unfold w_X2_makeNew_305 at h
  refine zu_iinc d_1054_305 rfl zi_1 (zs_lt zq_1054 rfl) ?_
  refine zu_goto (t := 272) d_1054_308 rfl ?_
  exact h.weak ⟨rfl, rfl, rfl, rfl, rfl, rfl, rfl, trivial⟩
def w_X2_makeNew_272 (X : zs_X) (d : Nat) (p0 : Nat) (p1 : Option Nat) (p3 : Option Nat) (p4 : Int32) (p5 : Int32) (p6 : Int64) (p8 : Int32) (S : zs_T) (Q : zs_Q) : Prop :=
  (((p4 ≤ p8 → (zs_K S p0 = some (.inl 1) ∧ ∃ b3, (zs_R S 1026 p0) = some b3 ∧ zs_A S b3 0 (zs_I S 1030 p0) ∧ ab_n0 X.1 ≤ b3 ∧ ∀ S7, S7 = zs_si S b3 (zs_I S 1030 p0).toNatClampNeg (((20000 : Int32) + (zs_I S 1032 p0)) + p4) → ∃ b10, (zs_R S7 1027 p0) = some b10 ∧ zs_A S b10 0 (zs_I S7 1030 p0) ∧ ab_n0 X.1 ≤ b10 ∧ ∀ S14, S14 = zs_si S7 b10 (zs_I S7 1030 p0).toNatClampNeg ((p6).toInt32) → w_X2_makeNew_343 X d p0 p1 p3 p4 p6 S14 Q)) ∧ (¬ (p4 ≤ p8) → (zs_K S p0 = some (.inl 1) ∧ ∃ b18, (zs_R S 1001 p0) = some b18 ∧ zs_A S b18 3 (p5 + p8) ∧ zs_A S b18 3 (((20000 : Int32) + (zs_I S 1032 p0)) + p8) ∧ ab_n0 X.1 ≤ b18 ∧ ∀ S23, S23 = zs_sj S b18 (((20000 : Int32) + (zs_I S 1032 p0)) + p8).toNatClampNeg (zs_j S b18 (p5 + p8).toNatClampNeg) → w_X2_makeNew_305 X d p0 p1 p3 p4 p5 p6 p8 S23 Q))))
theorem u_X2_makeNew_272 {σ : Nat → Nat} {n0 : Nat} {bf : ab_B} {d : Nat} {p0 : Nat} {p1 : Option Nat} {p3 : Option Nat} {p4 : Int32} {p5 : Int32} {p6 : Int64} {p8 : Int32} {S : zs_T} {Q : zs_Q} (hB : zt_B bf) (h : w_X2_makeNew_272 (zx σ n0 bf) d p0 p1 p3 p4 p5 p6 p8 S Q) : zs_U (zx σ n0 bf) d 1054 272 [(0, .ref p0), (1, va_rf p1), (3, va_rf p3), (4, .int p4), (5, .int p5), (6, .long p6), (8, .int p8)] [] S Q := by
  unfold w_X2_makeNew_272 at h
  refine zu_iload d_1054_272 rfl ?_
  refine zu_iload d_1054_274 rfl ?_
  refine zu_cmpge (t := 311) d_1054_276 rfl (fun c1 => ?_) (fun c1 => ?_)
  · have h := h.1 c1
    refine zu_aload_n d_1054_311 rfl (zs_ra _) ?_
    obtain ⟨k2, h⟩ := h
    refine zg_1_82 rfl d_1054_312 k2 ?_
    refine zu_aload_n d_1054_315 rfl (zs_ra _) ?_
    refine zg_1_132 rfl d_1054_316 k2 ?_
    refine zu_sipush d_1054_319 zh_20000 ?_
    refine zu_aload_n d_1054_322 rfl (zs_ra _) ?_
    refine zg_1_138 rfl d_1054_323 k2 ?_
    refine zu_stk d_1054_326 rfl rfl ?_
    refine zu_iload d_1054_327 rfl ?_
    refine zu_stk d_1054_329 rfl rfl ?_
    obtain ⟨b3, e4, h⟩ := h
    refine zs_stk2 (zs_rfe e4) ?_
    obtain ⟨k5, h⟩ := h
    obtain ⟨k6, h⟩ := h
    refine zu_iast (k := 0) d_1054_330 rfl rfl k6 k5 ?_
    generalize e8 : zs_si S b3 (zs_I S 1030 p0).toNatClampNeg (((20000 : Int32) + (zs_I S 1032 p0)) + p4) = S7
    have h := h S7 e8.symm
    have K9 : ∀ b, zs_K S7 b = zs_K S b := zs_Kt e8 (zs_Ksi _ _ _ _) (fun _ => rfl)
    refine zu_aload_n d_1054_331 rfl (zs_ra _) ?_
    refine zg_1_85 rfl d_1054_332 ((K9 _).trans k2) ?_
    refine zu_aload_n d_1054_335 rfl (zs_ra _) ?_
    refine zg_1_132 rfl d_1054_336 ((K9 _).trans k2) ?_
    refine zu_lload d_1054_339 rfl ?_
    refine zu_stk d_1054_341 rfl rfl ?_
    obtain ⟨b10, e11, h⟩ := h
    refine zs_stk2 (zs_rfe e11) ?_
    obtain ⟨k12, h⟩ := h
    obtain ⟨k13, h⟩ := h
    refine zu_iast (k := 0) d_1054_342 rfl rfl k13 (zs_Ak K9 k12) ?_
    generalize e15 : zs_si S7 b10 (zs_I S7 1030 p0).toNatClampNeg ((p6).toInt32) = S14
    have h := h S14 e15.symm
    have K16 : ∀ b, zs_K S14 b = zs_K S b := zs_Kt e15 (zs_Ksi _ _ _ _) K9
    exact (u_X2_makeNew_343 hB h).weak ⟨rfl, rfl, rfl, rfl, rfl, trivial⟩
  · have h := h.2 c1
    refine zu_aload_n d_1054_279 rfl (zs_ra _) ?_
    obtain ⟨k17, h⟩ := h
    refine zg_1_10 rfl d_1054_280 k17 ?_
    refine zu_sipush d_1054_283 zh_20000 ?_
    refine zu_aload_n d_1054_286 rfl (zs_ra _) ?_
    refine zg_1_138 rfl d_1054_287 k17 ?_
    refine zu_stk d_1054_290 rfl rfl ?_
    refine zu_iload d_1054_291 rfl ?_
    refine zu_stk d_1054_293 rfl rfl ?_
    refine zu_aload_n d_1054_294 rfl (zs_ra _) ?_
    refine zg_1_10 rfl d_1054_295 k17 ?_
    refine zu_iload d_1054_298 rfl ?_
    refine zu_iload d_1054_300 rfl ?_
    refine zu_stk d_1054_302 rfl rfl ?_
    obtain ⟨b18, e19, h⟩ := h
    refine zs_stk1 (zs_rfe e19) ?_
    obtain ⟨k20, h⟩ := h
    refine zu_lald (k := 3) d_1054_303 rfl rfl k20 ?_
    refine zs_stk2 (zs_rfe e19) ?_
    obtain ⟨k21, h⟩ := h
    obtain ⟨k22, h⟩ := h
    refine zu_last (k := 3) d_1054_304 rfl rfl k22 k21 ?_
    generalize e24 : zs_sj S b18 (((20000 : Int32) + (zs_I S 1032 p0)) + p8).toNatClampNeg (zs_j S b18 (p5 + p8).toNatClampNeg) = S23
    have h := h S23 e24.symm
    have K25 : ∀ b, zs_K S23 b = zs_K S b := zs_Kt e24 (zs_Ksj _ _ _ _) (fun _ => rfl)
    exact (u_X2_makeNew_305 hB h).weak ⟨rfl, rfl, rfl, rfl, rfl, rfl, rfl, trivial⟩
def w_X2_makeNew_416 (X : zs_X) (d : Nat) (p0 : Nat) (p1 : Option Nat) (S : zs_T) (Q : zs_Q) : Prop :=
  (zs_K S p0 = some (.inl 1) ∧ ∃ b2, (zs_R S 1005 p0) = some b2 ∧ zs_A S b2 3 (zs_I S 1007 p0) ∧ zs_C X d 1017 [va_rf p1] S (zs_kI (fun v6 S5 => (zs_K S5 p0 = some (.inl 1) ∧ zs_C X d 1023 [.ref p0, .int (((zs_j S b2 (zs_I S 1007 p0).toNatClampNeg)).toInt32), .long (((zs_I S 1030 p0)).toInt64), .int v6] S5 (zs_kV (fun S8 => (Q (.returned none) S8)) Q))) Q))
theorem u_X2_makeNew_416 {σ : Nat → Nat} {n0 : Nat} {bf : ab_B} {d : Nat} {p0 : Nat} {p1 : Option Nat} {S : zs_T} {Q : zs_Q} (hB : zt_B bf) (h : w_X2_makeNew_416 (zx σ n0 bf) d p0 p1 S Q) : zs_U (zx σ n0 bf) d 1054 416 [(0, .ref p0), (1, va_rf p1)] [] S Q := by
  unfold w_X2_makeNew_416 at h
  refine zu_aload_n d_1054_416 rfl (zs_ra _) ?_
  refine zu_aload_n d_1054_417 rfl (zs_ra _) ?_
  obtain ⟨k1, h⟩ := h
  refine zg_1_36 rfl d_1054_418 k1 ?_
  refine zu_aload_n d_1054_421 rfl (zs_ra _) ?_
  refine zg_1_111 rfl d_1054_422 k1 ?_
  obtain ⟨b2, e3, h⟩ := h
  refine zs_stk1 (zs_rfe e3) ?_
  obtain ⟨k4, h⟩ := h
  refine zu_lald (k := 3) d_1054_425 rfl rfl k4 ?_
  refine zu_stk d_1054_426 rfl rfl ?_
  refine zu_aload_n d_1054_427 rfl (zs_ra _) ?_
  refine zg_1_132 rfl d_1054_428 k1 ?_
  refine zu_stk d_1054_431 rfl rfl ?_
  refine zu_aload_n d_1054_432 rfl (zs_rr _) ?_
  refine zc_1_381 (x0 := p1) hB rfl d_1054_433 (Nat.le_of_ble_eq_true rfl) h (fun v6 S5 h => ?_)
  obtain ⟨k7, h⟩ := h
  refine zc_1_385 (x0 := (((zs_j S b2 (zs_I S 1007 p0).toNatClampNeg)).toInt32)) (x1 := (((zs_I S 1030 p0)).toInt64)) (x2 := v6) hB rfl k7 d_1054_436 (Nat.le_of_ble_eq_true rfl) h (fun S8 h => ?_)
  exact zu_vret d_1054_439 zr_1054 h
def w_X2_makeNew_393 (X : zs_X) (d : Nat) (p0 : Nat) (p1 : Option Nat) (p4 : Int32) (p6 : Int64) (p8 : Int32) (S : zs_T) (Q : zs_Q) : Prop :=
  (zs_U X d 1054 366 [(0, .ref p0), (1, va_rf p1), (4, .int p4), (6, .long p6), (8, .int (p8 + (1 : Int32)))] [] S Q)
theorem u_X2_makeNew_393 {σ : Nat → Nat} {n0 : Nat} {bf : ab_B} {d : Nat} {p0 : Nat} {p1 : Option Nat} {p4 : Int32} {p6 : Int64} {p8 : Int32} {S : zs_T} {Q : zs_Q} (hB : zt_B bf) (h : w_X2_makeNew_393 (zx σ n0 bf) d p0 p1 p4 p6 p8 S Q) : zs_U (zx σ n0 bf) d 1054 393 [(0, .ref p0), (1, va_rf p1), (4, .int p4), (6, .long p6), (8, .int p8)] [] S Q := by
  unfold w_X2_makeNew_393 at h
  refine zu_iinc d_1054_393 rfl zi_1 (zs_lt zq_1054 rfl) ?_
  refine zu_goto (t := 366) d_1054_396 rfl ?_
  exact h.weak ⟨rfl, rfl, rfl, rfl, rfl, trivial⟩
def w_X2_makeNew_366 (X : zs_X) (d : Nat) (p0 : Nat) (p1 : Option Nat) (p4 : Int32) (p6 : Int64) (p8 : Int32) (S : zs_T) (Q : zs_Q) : Prop :=
  (((p6 ≤ ((p8).toInt64) → (zs_K S p0 = some (.inl 1) ∧ ab_n0 X.1 ≤ p0 ∧ ∀ S4, S4 = zs_sI S 1032 p0 ((zs_I S 1032 p0) + (((1 : Int32) + p4) + ((p6).toInt32))) → w_X2_makeNew_416 X d p0 p1 S4 Q)) ∧ (¬ (p6 ≤ ((p8).toInt64)) → (zs_K S p0 = some (.inl 1) ∧ ∃ b8, (zs_R S 1026 p0) = some b8 ∧ zs_A S b8 0 (zs_I S 1030 p0) ∧ ∃ b11, (zs_R S 1002 p0) = some b11 ∧ zs_A S b11 2 ((zs_i S b8 (zs_I S 1030 p0).toNatClampNeg) + p8) ∧ ab_n0 X.1 ≤ b11 ∧ ∀ S15, S15 = zs_si S b11 ((zs_i S b8 (zs_I S 1030 p0).toNatClampNeg) + p8).toNatClampNeg (vp_nar .boolean (0 : Int32)) → w_X2_makeNew_393 X d p0 p1 p4 p6 p8 S15 Q))))
theorem u_X2_makeNew_366 {σ : Nat → Nat} {n0 : Nat} {bf : ab_B} {d : Nat} {p0 : Nat} {p1 : Option Nat} {p4 : Int32} {p6 : Int64} {p8 : Int32} {S : zs_T} {Q : zs_Q} (hB : zt_B bf) (h : w_X2_makeNew_366 (zx σ n0 bf) d p0 p1 p4 p6 p8 S Q) : zs_U (zx σ n0 bf) d 1054 366 [(0, .ref p0), (1, va_rf p1), (4, .int p4), (6, .long p6), (8, .int p8)] [] S Q := by
  unfold w_X2_makeNew_366 at h
  refine zu_iload d_1054_366 rfl ?_
  refine zu_stk d_1054_368 rfl rfl ?_
  refine zu_lload d_1054_369 rfl ?_
  refine zu_lge (t := 399) d_1054_371 d_1054_372 rfl (fun c1 => ?_) (fun c1 => ?_)
  · have h := h.1 c1
    refine zu_aload_n d_1054_399 rfl (zs_ra _) ?_
    refine zu_dup d_1054_400 rfl ?_
    obtain ⟨k2, h⟩ := h
    refine zg_1_138 rfl d_1054_401 k2 ?_
    refine zu_iconst d_1054_404 zi_1 ?_
    refine zu_iload d_1054_405 rfl ?_
    refine zu_stk d_1054_407 rfl rfl ?_
    refine zu_lload d_1054_408 rfl ?_
    refine zu_stk d_1054_410 rfl rfl ?_
    refine zu_stk d_1054_411 rfl rfl ?_
    refine zu_stk d_1054_412 rfl rfl ?_
    obtain ⟨k3, h⟩ := h
    refine zp_1_138 (v := ((zs_I S 1032 p0) + (((1 : Int32) + p4) + ((p6).toInt32)))) rfl d_1054_413 k2 k3 ?_
    generalize e5 : zs_sI S 1032 p0 ((zs_I S 1032 p0) + (((1 : Int32) + p4) + ((p6).toInt32))) = S4
    have h := h S4 e5.symm
    have K6 : ∀ b, zs_K S4 b = zs_K S b := zs_Kt e5 (zs_KsI _ _ _ _) (fun _ => rfl)
    exact (u_X2_makeNew_416 hB h).weak ⟨rfl, rfl, trivial⟩
  · have h := h.2 c1
    refine zu_aload_n d_1054_375 rfl (zs_ra _) ?_
    obtain ⟨k7, h⟩ := h
    refine zg_1_17 rfl d_1054_376 k7 ?_
    refine zu_aload_n d_1054_379 rfl (zs_ra _) ?_
    refine zg_1_82 rfl d_1054_380 k7 ?_
    refine zu_aload_n d_1054_383 rfl (zs_ra _) ?_
    refine zg_1_132 rfl d_1054_384 k7 ?_
    obtain ⟨b8, e9, h⟩ := h
    refine zs_stk1 (zs_rfe e9) ?_
    obtain ⟨k10, h⟩ := h
    refine zu_iald (k := 0) d_1054_387 rfl rfl k10 ?_
    refine zu_iload d_1054_388 rfl ?_
    refine zu_stk d_1054_390 rfl rfl ?_
    refine zu_iconst d_1054_391 zi_0 ?_
    obtain ⟨b11, e12, h⟩ := h
    refine zs_stk2 (zs_rfe e12) ?_
    obtain ⟨k13, h⟩ := h
    obtain ⟨k14, h⟩ := h
    refine zu_bast_bool (k := 2) d_1054_392 rfl rfl k14 k13 ?_
    generalize e16 : zs_si S b11 ((zs_i S b8 (zs_I S 1030 p0).toNatClampNeg) + p8).toNatClampNeg (vp_nar .boolean (0 : Int32)) = S15
    have h := h S15 e16.symm
    have K17 : ∀ b, zs_K S15 b = zs_K S b := zs_Kt e16 (zs_Ksi _ _ _ _) (fun _ => rfl)
    exact (u_X2_makeNew_393 hB h).weak ⟨rfl, rfl, rfl, rfl, rfl, trivial⟩
def w_X2_makeNew (X : zs_X) (d : Nat) (p0 : Nat) (p1 : Option Nat) (p2 : Int32) (S : zs_T) (Q : zs_Q) : Prop :=
  (∃ b1, p1 = some b1 ∧ zs_K S b1 = some (.inl 6) ∧ ∃ b4, (zs_R S 6002 b1) = some b4 ∧ zs_K S b4 = some (.inl 6) ∧ zs_C X d 6004 [.ref b4] S (zs_kI (fun v8 S7 => (((v8 = 0 → (w_X2_makeNew_26 X d p0 p1 p2 (zs_R S 6002 b1) (0 : Int32) S7 Q)) ∧ (¬ (v8 = 0) → (zs_K S7 b4 = some (.inl 6) ∧ zs_C X d 6005 [.ref b4] S7 (zs_kR (fun v12 S11 => (∃ b13, v12 = some b13 ∧ zs_K S11 b13 = some (.inl 6) ∧ ∃ b16, (zs_R S11 6007 b13) = some b16 ∧ zs_K S11 b16 = some (.inl 16) ∧ zs_C X d 16001 [.ref b16] S11 (zs_kI (fun v20 S19 => (w_X2_makeNew_26 X d p0 p1 p2 (zs_R S 6002 b1) v20 S19 Q)) Q))) Q)))))) Q))
theorem u_X2_makeNew {σ : Nat → Nat} {n0 : Nat} {bf : ab_B} {d : Nat} {p0 : Nat} {p1 : Option Nat} {p2 : Int32} {S : zs_T} {Q : zs_Q} (hB : zt_B bf) (hd : 1 ≤ d) (h : w_X2_makeNew (zx σ n0 bf) (d - 1) p0 p1 p2 S Q) : zs_C (zx σ n0 bf) d 1054 [.ref p0, va_rf p1, .int p2] S Q := by
  have hL : lv_args 0 [.ref p0, va_rf p1, .int p2] = [(0, .ref p0), (1, va_rf p1), (2, .int p2)] := by simp [lv_args, zs_cat, zs_cI, zs_cJ, zs_cA]
  refine zs_C.of1 (hB.2 1054 (by decide) (by decide)) hd (by rw [hL]; exact zs_sub_self _ (by exact ⟨rfl, rfl, rfl, trivial⟩)) ?_
  rw [hL]
  clear hL
  unfold w_X2_makeNew at h
  refine zu_aload_n d_1054_0 rfl (zs_rr _) ?_
  obtain ⟨b1, e2, h⟩ := h
  refine zs_stk0 (zs_rfe e2) ?_
  obtain ⟨k3, h⟩ := h
  refine zg_1_310 rfl d_1054_1 k3 ?_
  refine zu_astore_n d_1054_4 (zs_rr _) (zs_lt zq_1054 rfl) ?_
  refine zu_aload_n d_1054_5 rfl (zs_rr _) ?_
  obtain ⟨b4, e5, h⟩ := h
  refine zs_stk0 (zs_rfe e5) ?_
  obtain ⟨k6, h⟩ := h
  refine zc_1_354  hB rfl k6 d_1054_6 (Nat.le_of_ble_eq_true rfl) h (fun v8 S7 h => ?_)
  refine zu_ifeq (t := 25) d_1054_9 rfl (fun c9 => ?_) (fun c9 => ?_)
  · have h := h.1 c9
    refine zu_iconst d_1054_25 zi_0 ?_
    exact (u_X2_makeNew_26 hB h).weak ⟨rfl, rfl, rfl, rfl, trivial⟩
  · have h := h.2 c9
    refine zu_aload_n d_1054_12 rfl (zs_rr _) ?_
    refine zs_stk0 (zs_rfe e5) ?_
    obtain ⟨k10, h⟩ := h
    refine zc_1_358  hB rfl k10 d_1054_13 (Nat.le_of_ble_eq_true rfl) h (fun v12 S11 h => ?_)
    obtain ⟨b13, e14, h⟩ := h
    refine zs_stk0 (zs_rfe e14) ?_
    obtain ⟨k15, h⟩ := h
    refine zg_1_362 rfl d_1054_16 k15 ?_
    obtain ⟨b16, e17, h⟩ := h
    refine zs_stk0 (zs_rfe e17) ?_
    obtain ⟨k18, h⟩ := h
    refine zc_1_336  hB rfl k18 d_1054_19 (Nat.le_of_ble_eq_true rfl) h (fun v20 S19 h => ?_)
    refine zu_goto (t := 26) d_1054_22 rfl ?_
    exact (u_X2_makeNew_26 hB h).weak ⟨rfl, rfl, rfl, rfl, trivial⟩
/-! SchemaPascal$Machine.letGo(I)V -/
theorem zm_1055 {σ : Nat → Nat} {n0 : Nat} {bf : ab_B} : ab_code (zx σ n0 bf).1 1055 = prog_5_method_57_code := rfl
theorem zq_1055 {σ : Nat → Nat} {n0 : Nat} {bf : ab_B} : ab_maxL (zx σ n0 bf).1 1055 = 4 := rfl
theorem zr_1055 {σ : Nat → Nat} {n0 : Nat} {bf : ab_B} : ab_ret (zx σ n0 bf).1 1055 = (Option.none : Option Jvm.ClassFile.FieldType) := rfl
theorem d_1055_0 {σ : Nat → Nat} {n0 : Nat} {bf : ab_B} : decode (ab_code (zx σ n0 bf).1 1055) 0 = .ok (.aload_n 0, 1) := zd zm_1055 (by decide +kernel)
theorem d_1055_1 {σ : Nat → Nat} {n0 : Nat} {bf : ab_B} : decode (ab_code (zx σ n0 bf).1 1055) 1 = .ok (.getfield 36, 3) := zd zm_1055 (by decide +kernel)
theorem d_1055_4 {σ : Nat → Nat} {n0 : Nat} {bf : ab_B} : decode (ab_code (zx σ n0 bf).1 1055) 4 = .ok (.aload_n 0, 1) := zd zm_1055 (by decide +kernel)
theorem d_1055_5 {σ : Nat → Nat} {n0 : Nat} {bf : ab_B} : decode (ab_code (zx σ n0 bf).1 1055) 5 = .ok (.dup, 1) := zd zm_1055 (by decide +kernel)
theorem d_1055_6 {σ : Nat → Nat} {n0 : Nat} {bf : ab_B} : decode (ab_code (zx σ n0 bf).1 1055) 6 = .ok (.getfield 111, 3) := zd zm_1055 (by decide +kernel)
theorem d_1055_9 {σ : Nat → Nat} {n0 : Nat} {bf : ab_B} : decode (ab_code (zx σ n0 bf).1 1055) 9 = .ok (.iconst 1, 1) := zd zm_1055 (by decide +kernel)
theorem d_1055_10 {σ : Nat → Nat} {n0 : Nat} {bf : ab_B} : decode (ab_code (zx σ n0 bf).1 1055) 10 = .ok (.isub, 1) := zd zm_1055 (by decide +kernel)
theorem d_1055_11 {σ : Nat → Nat} {n0 : Nat} {bf : ab_B} : decode (ab_code (zx σ n0 bf).1 1055) 11 = .ok (.dup_x1, 1) := zd zm_1055 (by decide +kernel)
theorem d_1055_12 {σ : Nat → Nat} {n0 : Nat} {bf : ab_B} : decode (ab_code (zx σ n0 bf).1 1055) 12 = .ok (.putfield 111, 3) := zd zm_1055 (by decide +kernel)
theorem d_1055_15 {σ : Nat → Nat} {n0 : Nat} {bf : ab_B} : decode (ab_code (zx σ n0 bf).1 1055) 15 = .ok (.laload, 1) := zd zm_1055 (by decide +kernel)
theorem d_1055_16 {σ : Nat → Nat} {n0 : Nat} {bf : ab_B} : decode (ab_code (zx σ n0 bf).1 1055) 16 = .ok (.l2i, 1) := zd zm_1055 (by decide +kernel)
theorem d_1055_17 {σ : Nat → Nat} {n0 : Nat} {bf : ab_B} : decode (ab_code (zx σ n0 bf).1 1055) 17 = .ok (.istore_n 2, 1) := zd zm_1055 (by decide +kernel)
theorem d_1055_18 {σ : Nat → Nat} {n0 : Nat} {bf : ab_B} : decode (ab_code (zx σ n0 bf).1 1055) 18 = .ok (.iload_n 2, 1) := zd zm_1055 (by decide +kernel)
theorem d_1055_19 {σ : Nat → Nat} {n0 : Nat} {bf : ab_B} : decode (ab_code (zx σ n0 bf).1 1055) 19 = .ok (.ifCond .eq 12, 3) := zd zm_1055 (by decide +kernel)
theorem d_1055_22 {σ : Nat → Nat} {n0 : Nat} {bf : ab_B} : decode (ab_code (zx σ n0 bf).1 1055) 22 = .ok (.aload_n 0, 1) := zd zm_1055 (by decide +kernel)
theorem d_1055_23 {σ : Nat → Nat} {n0 : Nat} {bf : ab_B} : decode (ab_code (zx σ n0 bf).1 1055) 23 = .ok (.getfield 88, 3) := zd zm_1055 (by decide +kernel)
theorem d_1055_26 {σ : Nat → Nat} {n0 : Nat} {bf : ab_B} : decode (ab_code (zx σ n0 bf).1 1055) 26 = .ok (.iload_n 2, 1) := zd zm_1055 (by decide +kernel)
theorem d_1055_27 {σ : Nat → Nat} {n0 : Nat} {bf : ab_B} : decode (ab_code (zx σ n0 bf).1 1055) 27 = .ok (.baload, 1) := zd zm_1055 (by decide +kernel)
theorem d_1055_28 {σ : Nat → Nat} {n0 : Nat} {bf : ab_B} : decode (ab_code (zx σ n0 bf).1 1055) 28 = .ok (.ifCond .ne 19, 3) := zd zm_1055 (by decide +kernel)
theorem d_1055_31 {σ : Nat → Nat} {n0 : Nat} {bf : ab_B} : decode (ab_code (zx σ n0 bf).1 1055) 31 = .ok (.aload_n 0, 1) := zd zm_1055 (by decide +kernel)
theorem d_1055_32 {σ : Nat → Nat} {n0 : Nat} {bf : ab_B} : decode (ab_code (zx σ n0 bf).1 1055) 32 = .ok (.iload_n 2, 1) := zd zm_1055 (by decide +kernel)
theorem d_1055_33 {σ : Nat → Nat} {n0 : Nat} {bf : ab_B} : decode (ab_code (zx σ n0 bf).1 1055) 33 = .ok (.ifCond .ne 7, 3) := zd zm_1055 (by decide +kernel)
theorem d_1055_36 {σ : Nat → Nat} {n0 : Nat} {bf : ab_B} : decode (ab_code (zx σ n0 bf).1 1055) 36 = .ok (.iconst 4, 1) := zd zm_1055 (by decide +kernel)
theorem d_1055_37 {σ : Nat → Nat} {n0 : Nat} {bf : ab_B} : decode (ab_code (zx σ n0 bf).1 1055) 37 = .ok (.goto 4, 3) := zd zm_1055 (by decide +kernel)
theorem d_1055_40 {σ : Nat → Nat} {n0 : Nat} {bf : ab_B} : decode (ab_code (zx σ n0 bf).1 1055) 40 = .ok (.iconst 5, 1) := zd zm_1055 (by decide +kernel)
theorem d_1055_41 {σ : Nat → Nat} {n0 : Nat} {bf : ab_B} : decode (ab_code (zx σ n0 bf).1 1055) 41 = .ok (.iload_n 1, 1) := zd zm_1055 (by decide +kernel)
theorem d_1055_42 {σ : Nat → Nat} {n0 : Nat} {bf : ab_B} : decode (ab_code (zx σ n0 bf).1 1055) 42 = .ok (.invokevirtual 194, 3) := zd zm_1055 (by decide +kernel)
theorem d_1055_45 {σ : Nat → Nat} {n0 : Nat} {bf : ab_B} : decode (ab_code (zx σ n0 bf).1 1055) 45 = .ok (.pop, 1) := zd zm_1055 (by decide +kernel)
theorem d_1055_46 {σ : Nat → Nat} {n0 : Nat} {bf : ab_B} : decode (ab_code (zx σ n0 bf).1 1055) 46 = .ok (.return_, 1) := zd zm_1055 (by decide +kernel)
theorem d_1055_47 {σ : Nat → Nat} {n0 : Nat} {bf : ab_B} : decode (ab_code (zx σ n0 bf).1 1055) 47 = .ok (.aload_n 0, 1) := zd zm_1055 (by decide +kernel)
theorem d_1055_48 {σ : Nat → Nat} {n0 : Nat} {bf : ab_B} : decode (ab_code (zx σ n0 bf).1 1055) 48 = .ok (.getfield 88, 3) := zd zm_1055 (by decide +kernel)
theorem d_1055_51 {σ : Nat → Nat} {n0 : Nat} {bf : ab_B} : decode (ab_code (zx σ n0 bf).1 1055) 51 = .ok (.iload_n 2, 1) := zd zm_1055 (by decide +kernel)
theorem d_1055_52 {σ : Nat → Nat} {n0 : Nat} {bf : ab_B} : decode (ab_code (zx σ n0 bf).1 1055) 52 = .ok (.iconst 0, 1) := zd zm_1055 (by decide +kernel)
theorem d_1055_53 {σ : Nat → Nat} {n0 : Nat} {bf : ab_B} : decode (ab_code (zx σ n0 bf).1 1055) 53 = .ok (.bastore, 1) := zd zm_1055 (by decide +kernel)
theorem d_1055_54 {σ : Nat → Nat} {n0 : Nat} {bf : ab_B} : decode (ab_code (zx σ n0 bf).1 1055) 54 = .ok (.aload_n 0, 1) := zd zm_1055 (by decide +kernel)
theorem d_1055_55 {σ : Nat → Nat} {n0 : Nat} {bf : ab_B} : decode (ab_code (zx σ n0 bf).1 1055) 55 = .ok (.dup, 1) := zd zm_1055 (by decide +kernel)
theorem d_1055_56 {σ : Nat → Nat} {n0 : Nat} {bf : ab_B} : decode (ab_code (zx σ n0 bf).1 1055) 56 = .ok (.getfield 135, 3) := zd zm_1055 (by decide +kernel)
theorem d_1055_59 {σ : Nat → Nat} {n0 : Nat} {bf : ab_B} : decode (ab_code (zx σ n0 bf).1 1055) 59 = .ok (.iconst 1, 1) := zd zm_1055 (by decide +kernel)
theorem d_1055_60 {σ : Nat → Nat} {n0 : Nat} {bf : ab_B} : decode (ab_code (zx σ n0 bf).1 1055) 60 = .ok (.isub, 1) := zd zm_1055 (by decide +kernel)
theorem d_1055_61 {σ : Nat → Nat} {n0 : Nat} {bf : ab_B} : decode (ab_code (zx σ n0 bf).1 1055) 61 = .ok (.putfield 135, 3) := zd zm_1055 (by decide +kernel)
theorem d_1055_64 {σ : Nat → Nat} {n0 : Nat} {bf : ab_B} : decode (ab_code (zx σ n0 bf).1 1055) 64 = .ok (.iconst 0, 1) := zd zm_1055 (by decide +kernel)
theorem d_1055_65 {σ : Nat → Nat} {n0 : Nat} {bf : ab_B} : decode (ab_code (zx σ n0 bf).1 1055) 65 = .ok (.istore_n 3, 1) := zd zm_1055 (by decide +kernel)
theorem d_1055_66 {σ : Nat → Nat} {n0 : Nat} {bf : ab_B} : decode (ab_code (zx σ n0 bf).1 1055) 66 = .ok (.iload_n 3, 1) := zd zm_1055 (by decide +kernel)
theorem d_1055_67 {σ : Nat → Nat} {n0 : Nat} {bf : ab_B} : decode (ab_code (zx σ n0 bf).1 1055) 67 = .ok (.aload_n 0, 1) := zd zm_1055 (by decide +kernel)
theorem d_1055_68 {σ : Nat → Nat} {n0 : Nat} {bf : ab_B} : decode (ab_code (zx σ n0 bf).1 1055) 68 = .ok (.getfield 85, 3) := zd zm_1055 (by decide +kernel)
theorem d_1055_71 {σ : Nat → Nat} {n0 : Nat} {bf : ab_B} : decode (ab_code (zx σ n0 bf).1 1055) 71 = .ok (.iload_n 2, 1) := zd zm_1055 (by decide +kernel)
theorem d_1055_72 {σ : Nat → Nat} {n0 : Nat} {bf : ab_B} : decode (ab_code (zx σ n0 bf).1 1055) 72 = .ok (.iaload, 1) := zd zm_1055 (by decide +kernel)
theorem d_1055_73 {σ : Nat → Nat} {n0 : Nat} {bf : ab_B} : decode (ab_code (zx σ n0 bf).1 1055) 73 = .ok (.if_icmp .ge 23, 3) := zd zm_1055 (by decide +kernel)
theorem d_1055_76 {σ : Nat → Nat} {n0 : Nat} {bf : ab_B} : decode (ab_code (zx σ n0 bf).1 1055) 76 = .ok (.aload_n 0, 1) := zd zm_1055 (by decide +kernel)
theorem d_1055_77 {σ : Nat → Nat} {n0 : Nat} {bf : ab_B} : decode (ab_code (zx σ n0 bf).1 1055) 77 = .ok (.getfield 17, 3) := zd zm_1055 (by decide +kernel)
theorem d_1055_80 {σ : Nat → Nat} {n0 : Nat} {bf : ab_B} : decode (ab_code (zx σ n0 bf).1 1055) 80 = .ok (.aload_n 0, 1) := zd zm_1055 (by decide +kernel)
theorem d_1055_81 {σ : Nat → Nat} {n0 : Nat} {bf : ab_B} : decode (ab_code (zx σ n0 bf).1 1055) 81 = .ok (.getfield 82, 3) := zd zm_1055 (by decide +kernel)
theorem d_1055_84 {σ : Nat → Nat} {n0 : Nat} {bf : ab_B} : decode (ab_code (zx σ n0 bf).1 1055) 84 = .ok (.iload_n 2, 1) := zd zm_1055 (by decide +kernel)
theorem d_1055_85 {σ : Nat → Nat} {n0 : Nat} {bf : ab_B} : decode (ab_code (zx σ n0 bf).1 1055) 85 = .ok (.iaload, 1) := zd zm_1055 (by decide +kernel)
theorem d_1055_86 {σ : Nat → Nat} {n0 : Nat} {bf : ab_B} : decode (ab_code (zx σ n0 bf).1 1055) 86 = .ok (.iload_n 3, 1) := zd zm_1055 (by decide +kernel)
theorem d_1055_87 {σ : Nat → Nat} {n0 : Nat} {bf : ab_B} : decode (ab_code (zx σ n0 bf).1 1055) 87 = .ok (.iadd, 1) := zd zm_1055 (by decide +kernel)
theorem d_1055_88 {σ : Nat → Nat} {n0 : Nat} {bf : ab_B} : decode (ab_code (zx σ n0 bf).1 1055) 88 = .ok (.iconst 0, 1) := zd zm_1055 (by decide +kernel)
theorem d_1055_89 {σ : Nat → Nat} {n0 : Nat} {bf : ab_B} : decode (ab_code (zx σ n0 bf).1 1055) 89 = .ok (.bastore, 1) := zd zm_1055 (by decide +kernel)
theorem d_1055_90 {σ : Nat → Nat} {n0 : Nat} {bf : ab_B} : decode (ab_code (zx σ n0 bf).1 1055) 90 = .ok (.iinc 3 1, 3) := zd zm_1055 (by decide +kernel)
theorem d_1055_93 {σ : Nat → Nat} {n0 : Nat} {bf : ab_B} : decode (ab_code (zx σ n0 bf).1 1055) 93 = .ok (.goto (-27), 3) := zd zm_1055 (by decide +kernel)
theorem d_1055_96 {σ : Nat → Nat} {n0 : Nat} {bf : ab_B} : decode (ab_code (zx σ n0 bf).1 1055) 96 = .ok (.return_, 1) := zd zm_1055 (by decide +kernel)
def w_X2_letGo_41 (X : zs_X) (d : Nat) (p1 : Int32) (q0 : Option Nat) (q1 : Int32) (S : zs_T) (Q : zs_Q) : Prop :=
  (∃ b1, q0 = some b1 ∧ zs_K S b1 = some (.inl 1) ∧ zs_C X d 1004 [.ref b1, .int q1, .int p1] S (zs_kI (fun v5 S4 => (Q (.returned none) S4)) Q))
theorem u_X2_letGo_41 {σ : Nat → Nat} {n0 : Nat} {bf : ab_B} {d : Nat} {p1 : Int32} {q0 : Option Nat} {q1 : Int32} {S : zs_T} {Q : zs_Q} (hB : zt_B bf) (h : w_X2_letGo_41 (zx σ n0 bf) d p1 q0 q1 S Q) : zs_U (zx σ n0 bf) d 1055 41 [(1, .int p1)] [.int q1, va_rf q0] S Q := by
  unfold w_X2_letGo_41 at h
  refine zu_iload_n d_1055_41 rfl ?_
  obtain ⟨b1, e2, h⟩ := h
  refine zs_stk2 (zs_rfe e2) ?_
  obtain ⟨k3, h⟩ := h
  refine zc_1_194 (x0 := q1) (x1 := p1) hB rfl k3 d_1055_42 (Nat.le_of_ble_eq_true rfl) h (fun v5 S4 h => ?_)
  refine zu_pop d_1055_45 rfl ?_
  exact zu_vret d_1055_46 zr_1055 h
def w_X2_letGo_31 (X : zs_X) (d : Nat) (p0 : Nat) (p1 : Int32) (p2 : Int32) (S : zs_T) (Q : zs_Q) : Prop :=
  (((¬ p2 = 0 → (w_X2_letGo_41 X d p1 (some p0) (5 : Int32) S Q)) ∧ (¬ (¬ p2 = 0) → (w_X2_letGo_41 X d p1 (some p0) (4 : Int32) S Q))))
theorem u_X2_letGo_31 {σ : Nat → Nat} {n0 : Nat} {bf : ab_B} {d : Nat} {p0 : Nat} {p1 : Int32} {p2 : Int32} {S : zs_T} {Q : zs_Q} (hB : zt_B bf) (h : w_X2_letGo_31 (zx σ n0 bf) d p0 p1 p2 S Q) : zs_U (zx σ n0 bf) d 1055 31 [(0, .ref p0), (1, .int p1), (2, .int p2)] [] S Q := by
  unfold w_X2_letGo_31 at h
  refine zu_aload_n d_1055_31 rfl (zs_ra _) ?_
  refine zu_iload_n d_1055_32 rfl ?_
  refine zu_ifne (t := 40) d_1055_33 rfl (fun c1 => ?_) (fun c1 => ?_)
  · have h := h.1 c1
    refine zu_iconst d_1055_40 zi_5 ?_
    exact (u_X2_letGo_41 hB h).weak ⟨rfl, trivial⟩
  · have h := h.2 c1
    refine zu_iconst d_1055_36 zi_4 ?_
    refine zu_goto (t := 41) d_1055_37 rfl ?_
    exact (u_X2_letGo_41 hB h).weak ⟨rfl, trivial⟩
def w_X2_letGo_47 (X : zs_X) (d : Nat) (p0 : Nat) (p2 : Int32) (S : zs_T) (Q : zs_Q) : Prop :=
  (zs_K S p0 = some (.inl 1) ∧ ∃ b2, (zs_R S 1028 p0) = some b2 ∧ zs_A S b2 2 p2 ∧ ab_n0 X.1 ≤ b2 ∧ ∀ S6, S6 = zs_si S b2 p2.toNatClampNeg (vp_nar .boolean (0 : Int32)) → ab_n0 X.1 ≤ p0 ∧ ∀ S10, S10 = zs_sI S6 1031 p0 ((zs_I S6 1031 p0) - (1 : Int32)) → zs_U X d 1055 66 [(0, .ref p0), (2, .int p2), (3, .int (0 : Int32))] [] S10 Q)
theorem u_X2_letGo_47 {σ : Nat → Nat} {n0 : Nat} {bf : ab_B} {d : Nat} {p0 : Nat} {p2 : Int32} {S : zs_T} {Q : zs_Q} (hB : zt_B bf) (h : w_X2_letGo_47 (zx σ n0 bf) d p0 p2 S Q) : zs_U (zx σ n0 bf) d 1055 47 [(0, .ref p0), (2, .int p2)] [] S Q := by
  unfold w_X2_letGo_47 at h
  refine zu_aload_n d_1055_47 rfl (zs_ra _) ?_
  obtain ⟨k1, h⟩ := h
  refine zg_1_88 rfl d_1055_48 k1 ?_
  refine zu_iload_n d_1055_51 rfl ?_
  refine zu_iconst d_1055_52 zi_0 ?_
  obtain ⟨b2, e3, h⟩ := h
  refine zs_stk2 (zs_rfe e3) ?_
  obtain ⟨k4, h⟩ := h
  obtain ⟨k5, h⟩ := h
  refine zu_bast_bool (k := 2) d_1055_53 rfl rfl k5 k4 ?_
  generalize e7 : zs_si S b2 p2.toNatClampNeg (vp_nar .boolean (0 : Int32)) = S6
  have h := h S6 e7.symm
  have K8 : ∀ b, zs_K S6 b = zs_K S b := zs_Kt e7 (zs_Ksi _ _ _ _) (fun _ => rfl)
  refine zu_aload_n d_1055_54 rfl (zs_ra _) ?_
  refine zu_dup d_1055_55 rfl ?_
  refine zg_1_135 rfl d_1055_56 ((K8 _).trans k1) ?_
  refine zu_iconst d_1055_59 zi_1 ?_
  refine zu_stk d_1055_60 rfl rfl ?_
  obtain ⟨k9, h⟩ := h
  refine zp_1_135 (v := ((zs_I S6 1031 p0) - (1 : Int32))) rfl d_1055_61 ((K8 _).trans k1) k9 ?_
  generalize e11 : zs_sI S6 1031 p0 ((zs_I S6 1031 p0) - (1 : Int32)) = S10
  have h := h S10 e11.symm
  have K12 : ∀ b, zs_K S10 b = zs_K S b := zs_Kt e11 (zs_KsI _ _ _ _) K8
  refine zu_iconst d_1055_64 zi_0 ?_
  refine zu_istore_n d_1055_65 (zs_lt zq_1055 rfl) ?_
  exact h.weak ⟨rfl, rfl, rfl, trivial⟩
def w_X2_letGo_90 (X : zs_X) (d : Nat) (p0 : Nat) (p2 : Int32) (p3 : Int32) (S : zs_T) (Q : zs_Q) : Prop :=
  (zs_U X d 1055 66 [(0, .ref p0), (2, .int p2), (3, .int (p3 + (1 : Int32)))] [] S Q)
theorem u_X2_letGo_90 {σ : Nat → Nat} {n0 : Nat} {bf : ab_B} {d : Nat} {p0 : Nat} {p2 : Int32} {p3 : Int32} {S : zs_T} {Q : zs_Q} (hB : zt_B bf) (h : w_X2_letGo_90 (zx σ n0 bf) d p0 p2 p3 S Q) : zs_U (zx σ n0 bf) d 1055 90 [(0, .ref p0), (2, .int p2), (3, .int p3)] [] S Q := by
  unfold w_X2_letGo_90 at h
  refine zu_iinc d_1055_90 rfl zi_1 (zs_lt zq_1055 rfl) ?_
  refine zu_goto (t := 66) d_1055_93 rfl ?_
  exact h.weak ⟨rfl, rfl, rfl, trivial⟩
def w_X2_letGo_66 (X : zs_X) (d : Nat) (p0 : Nat) (p2 : Int32) (p3 : Int32) (S : zs_T) (Q : zs_Q) : Prop :=
  (zs_K S p0 = some (.inl 1) ∧ ∃ b2, (zs_R S 1027 p0) = some b2 ∧ zs_A S b2 0 p2 ∧ (((zs_i S b2 p2.toNatClampNeg) ≤ p3 → (Q (.returned none) S)) ∧ (¬ ((zs_i S b2 p2.toNatClampNeg) ≤ p3) → (∃ b6, (zs_R S 1026 p0) = some b6 ∧ zs_A S b6 0 p2 ∧ ∃ b9, (zs_R S 1002 p0) = some b9 ∧ zs_A S b9 2 ((zs_i S b6 p2.toNatClampNeg) + p3) ∧ ab_n0 X.1 ≤ b9 ∧ ∀ S13, S13 = zs_si S b9 ((zs_i S b6 p2.toNatClampNeg) + p3).toNatClampNeg (vp_nar .boolean (0 : Int32)) → w_X2_letGo_90 X d p0 p2 p3 S13 Q))))
theorem u_X2_letGo_66 {σ : Nat → Nat} {n0 : Nat} {bf : ab_B} {d : Nat} {p0 : Nat} {p2 : Int32} {p3 : Int32} {S : zs_T} {Q : zs_Q} (hB : zt_B bf) (h : w_X2_letGo_66 (zx σ n0 bf) d p0 p2 p3 S Q) : zs_U (zx σ n0 bf) d 1055 66 [(0, .ref p0), (2, .int p2), (3, .int p3)] [] S Q := by
  unfold w_X2_letGo_66 at h
  refine zu_iload_n d_1055_66 rfl ?_
  refine zu_aload_n d_1055_67 rfl (zs_ra _) ?_
  obtain ⟨k1, h⟩ := h
  refine zg_1_85 rfl d_1055_68 k1 ?_
  refine zu_iload_n d_1055_71 rfl ?_
  obtain ⟨b2, e3, h⟩ := h
  refine zs_stk1 (zs_rfe e3) ?_
  obtain ⟨k4, h⟩ := h
  refine zu_iald (k := 0) d_1055_72 rfl rfl k4 ?_
  refine zu_cmpge (t := 96) d_1055_73 rfl (fun c5 => ?_) (fun c5 => ?_)
  · have h := h.1 c5
    exact zu_vret d_1055_96 zr_1055 h
  · have h := h.2 c5
    refine zu_aload_n d_1055_76 rfl (zs_ra _) ?_
    refine zg_1_17 rfl d_1055_77 k1 ?_
    refine zu_aload_n d_1055_80 rfl (zs_ra _) ?_
    refine zg_1_82 rfl d_1055_81 k1 ?_
    refine zu_iload_n d_1055_84 rfl ?_
    obtain ⟨b6, e7, h⟩ := h
    refine zs_stk1 (zs_rfe e7) ?_
    obtain ⟨k8, h⟩ := h
    refine zu_iald (k := 0) d_1055_85 rfl rfl k8 ?_
    refine zu_iload_n d_1055_86 rfl ?_
    refine zu_stk d_1055_87 rfl rfl ?_
    refine zu_iconst d_1055_88 zi_0 ?_
    obtain ⟨b9, e10, h⟩ := h
    refine zs_stk2 (zs_rfe e10) ?_
    obtain ⟨k11, h⟩ := h
    obtain ⟨k12, h⟩ := h
    refine zu_bast_bool (k := 2) d_1055_89 rfl rfl k12 k11 ?_
    generalize e14 : zs_si S b9 ((zs_i S b6 p2.toNatClampNeg) + p3).toNatClampNeg (vp_nar .boolean (0 : Int32)) = S13
    have h := h S13 e14.symm
    have K15 : ∀ b, zs_K S13 b = zs_K S b := zs_Kt e14 (zs_Ksi _ _ _ _) (fun _ => rfl)
    exact (u_X2_letGo_90 hB h).weak ⟨rfl, rfl, rfl, trivial⟩
def w_X2_letGo (X : zs_X) (d : Nat) (p0 : Nat) (p1 : Int32) (S : zs_T) (Q : zs_Q) : Prop :=
  (zs_K S p0 = some (.inl 1) ∧ ab_n0 X.1 ≤ p0 ∧ ∀ S3, S3 = zs_sI S 1007 p0 ((zs_I S 1007 p0) - (1 : Int32)) → ∃ b6, (zs_R S 1005 p0) = some b6 ∧ zs_A S b6 3 ((zs_I S 1007 p0) - (1 : Int32)) ∧ (((((zs_j S3 b6 ((zs_I S 1007 p0) - (1 : Int32)).toNatClampNeg)).toInt32) = 0 → w_X2_letGo_31 X d p0 p1 (((zs_j S3 b6 ((zs_I S 1007 p0) - (1 : Int32)).toNatClampNeg)).toInt32) S3 Q) ∧ (¬ ((((zs_j S3 b6 ((zs_I S 1007 p0) - (1 : Int32)).toNatClampNeg)).toInt32) = 0) → (∃ b10, (zs_R S3 1028 p0) = some b10 ∧ zs_A S b10 2 (((zs_j S3 b6 ((zs_I S 1007 p0) - (1 : Int32)).toNatClampNeg)).toInt32) ∧ ((¬ (zs_i S3 b10 (((zs_j S3 b6 ((zs_I S 1007 p0) - (1 : Int32)).toNatClampNeg)).toInt32).toNatClampNeg) = 0 → w_X2_letGo_47 X d p0 (((zs_j S3 b6 ((zs_I S 1007 p0) - (1 : Int32)).toNatClampNeg)).toInt32) S3 Q) ∧ (¬ (¬ (zs_i S3 b10 (((zs_j S3 b6 ((zs_I S 1007 p0) - (1 : Int32)).toNatClampNeg)).toInt32).toNatClampNeg) = 0) → w_X2_letGo_31 X d p0 p1 (((zs_j S3 b6 ((zs_I S 1007 p0) - (1 : Int32)).toNatClampNeg)).toInt32) S3 Q))))))
theorem u_X2_letGo {σ : Nat → Nat} {n0 : Nat} {bf : ab_B} {d : Nat} {p0 : Nat} {p1 : Int32} {S : zs_T} {Q : zs_Q} (hB : zt_B bf) (hd : 1 ≤ d) (h : w_X2_letGo (zx σ n0 bf) (d - 1) p0 p1 S Q) : zs_C (zx σ n0 bf) d 1055 [.ref p0, .int p1] S Q := by
  have hL : lv_args 0 [.ref p0, .int p1] = [(0, .ref p0), (1, .int p1)] := rfl
  refine zs_C.of1 (hB.2 1055 (by decide) (by decide)) hd (by rw [hL]; exact zs_sub_self _ (by exact ⟨rfl, rfl, trivial⟩)) ?_
  rw [hL]
  clear hL
  unfold w_X2_letGo at h
  refine zu_aload_n d_1055_0 rfl (zs_ra _) ?_
  obtain ⟨k1, h⟩ := h
  refine zg_1_36 rfl d_1055_1 k1 ?_
  refine zu_aload_n d_1055_4 rfl (zs_ra _) ?_
  refine zu_dup d_1055_5 rfl ?_
  refine zg_1_111 rfl d_1055_6 k1 ?_
  refine zu_iconst d_1055_9 zi_1 ?_
  refine zu_stk d_1055_10 rfl rfl ?_
  refine zu_dup_x1 d_1055_11 rfl rfl ?_
  obtain ⟨k2, h⟩ := h
  refine zp_1_111 (v := ((zs_I S 1007 p0) - (1 : Int32))) rfl d_1055_12 k1 k2 ?_
  generalize e4 : zs_sI S 1007 p0 ((zs_I S 1007 p0) - (1 : Int32)) = S3
  have h := h S3 e4.symm
  have K5 : ∀ b, zs_K S3 b = zs_K S b := zs_Kt e4 (zs_KsI _ _ _ _) (fun _ => rfl)
  obtain ⟨b6, e7, h⟩ := h
  refine zs_stk1 (zs_rfe e7) ?_
  obtain ⟨k8, h⟩ := h
  refine zu_lald (k := 3) d_1055_15 rfl rfl (zs_Ak K5 k8) ?_
  refine zu_stk d_1055_16 rfl rfl ?_
  refine zu_istore_n d_1055_17 (zs_lt zq_1055 rfl) ?_
  refine zu_iload_n d_1055_18 rfl ?_
  refine zu_ifeq (t := 31) d_1055_19 rfl (fun c9 => ?_) (fun c9 => ?_)
  · have h := h.1 c9
    exact (u_X2_letGo_31 hB h).weak ⟨rfl, rfl, rfl, trivial⟩
  · have h := h.2 c9
    refine zu_aload_n d_1055_22 rfl (zs_ra _) ?_
    refine zg_1_88 rfl d_1055_23 ((K5 _).trans k1) ?_
    refine zu_iload_n d_1055_26 rfl ?_
    obtain ⟨b10, e11, h⟩ := h
    refine zs_stk1 (zs_rfe e11) ?_
    obtain ⟨k12, h⟩ := h
    refine zu_bald (k := 2) d_1055_27 rfl (Or.inr rfl) (zs_Ak K5 k12) ?_
    refine zu_ifne (t := 47) d_1055_28 rfl (fun c13 => ?_) (fun c13 => ?_)
    · have h := h.1 c13
      exact (u_X2_letGo_47 hB h).weak ⟨rfl, rfl, trivial⟩
    · have h := h.2 c13
      exact (u_X2_letGo_31 hB h).weak ⟨rfl, rfl, rfl, trivial⟩
/-! SchemaPascal$Machine.read(LSchemaPascal$Type;I)V -/
theorem zm_1056 {σ : Nat → Nat} {n0 : Nat} {bf : ab_B} : ab_code (zx σ n0 bf).1 1056 = prog_5_method_58_code := rfl
theorem zq_1056 {σ : Nat → Nat} {n0 : Nat} {bf : ab_B} : ab_maxL (zx σ n0 bf).1 1056 = 3 := rfl
theorem zr_1056 {σ : Nat → Nat} {n0 : Nat} {bf : ab_B} : ab_ret (zx σ n0 bf).1 1056 = (Option.none : Option Jvm.ClassFile.FieldType) := rfl
theorem d_1056_0 {σ : Nat → Nat} {n0 : Nat} {bf : ab_B} : decode (ab_code (zx σ n0 bf).1 1056) 0 = .ok (.aload_n 0, 1) := zd zm_1056 (by decide +kernel)
theorem d_1056_1 {σ : Nat → Nat} {n0 : Nat} {bf : ab_B} : decode (ab_code (zx σ n0 bf).1 1056) 1 = .ok (.dup, 1) := zd zm_1056 (by decide +kernel)
theorem d_1056_2 {σ : Nat → Nat} {n0 : Nat} {bf : ab_B} : decode (ab_code (zx σ n0 bf).1 1056) 2 = .ok (.getfield 111, 3) := zd zm_1056 (by decide +kernel)
theorem d_1056_5 {σ : Nat → Nat} {n0 : Nat} {bf : ab_B} : decode (ab_code (zx σ n0 bf).1 1056) 5 = .ok (.iconst 1, 1) := zd zm_1056 (by decide +kernel)
theorem d_1056_6 {σ : Nat → Nat} {n0 : Nat} {bf : ab_B} : decode (ab_code (zx σ n0 bf).1 1056) 6 = .ok (.isub, 1) := zd zm_1056 (by decide +kernel)
theorem d_1056_7 {σ : Nat → Nat} {n0 : Nat} {bf : ab_B} : decode (ab_code (zx σ n0 bf).1 1056) 7 = .ok (.putfield 111, 3) := zd zm_1056 (by decide +kernel)
theorem d_1056_10 {σ : Nat → Nat} {n0 : Nat} {bf : ab_B} : decode (ab_code (zx σ n0 bf).1 1056) 10 = .ok (.aload_n 0, 1) := zd zm_1056 (by decide +kernel)
theorem d_1056_11 {σ : Nat → Nat} {n0 : Nat} {bf : ab_B} : decode (ab_code (zx σ n0 bf).1 1056) 11 = .ok (.getfield 463, 3) := zd zm_1056 (by decide +kernel)
theorem d_1056_14 {σ : Nat → Nat} {n0 : Nat} {bf : ab_B} : decode (ab_code (zx σ n0 bf).1 1056) 14 = .ok (.ifCond .ne 12, 3) := zd zm_1056 (by decide +kernel)
theorem d_1056_17 {σ : Nat → Nat} {n0 : Nat} {bf : ab_B} : decode (ab_code (zx σ n0 bf).1 1056) 17 = .ok (.aload_n 0, 1) := zd zm_1056 (by decide +kernel)
theorem d_1056_18 {σ : Nat → Nat} {n0 : Nat} {bf : ab_B} : decode (ab_code (zx σ n0 bf).1 1056) 18 = .ok (.bipush 12, 2) := zd zm_1056 (by decide +kernel)
theorem d_1056_20 {σ : Nat → Nat} {n0 : Nat} {bf : ab_B} : decode (ab_code (zx σ n0 bf).1 1056) 20 = .ok (.iload_n 2, 1) := zd zm_1056 (by decide +kernel)
theorem d_1056_21 {σ : Nat → Nat} {n0 : Nat} {bf : ab_B} : decode (ab_code (zx σ n0 bf).1 1056) 21 = .ok (.invokevirtual 194, 3) := zd zm_1056 (by decide +kernel)
theorem d_1056_24 {σ : Nat → Nat} {n0 : Nat} {bf : ab_B} : decode (ab_code (zx σ n0 bf).1 1056) 24 = .ok (.pop, 1) := zd zm_1056 (by decide +kernel)
theorem d_1056_25 {σ : Nat → Nat} {n0 : Nat} {bf : ab_B} : decode (ab_code (zx σ n0 bf).1 1056) 25 = .ok (.return_, 1) := zd zm_1056 (by decide +kernel)
theorem d_1056_26 {σ : Nat → Nat} {n0 : Nat} {bf : ab_B} : decode (ab_code (zx σ n0 bf).1 1056) 26 = .ok (.aload_n 0, 1) := zd zm_1056 (by decide +kernel)
theorem d_1056_27 {σ : Nat → Nat} {n0 : Nat} {bf : ab_B} : decode (ab_code (zx σ n0 bf).1 1056) 27 = .ok (.aload_n 0, 1) := zd zm_1056 (by decide +kernel)
theorem d_1056_28 {σ : Nat → Nat} {n0 : Nat} {bf : ab_B} : decode (ab_code (zx σ n0 bf).1 1056) 28 = .ok (.getfield 36, 3) := zd zm_1056 (by decide +kernel)
theorem d_1056_31 {σ : Nat → Nat} {n0 : Nat} {bf : ab_B} : decode (ab_code (zx σ n0 bf).1 1056) 31 = .ok (.aload_n 0, 1) := zd zm_1056 (by decide +kernel)
theorem d_1056_32 {σ : Nat → Nat} {n0 : Nat} {bf : ab_B} : decode (ab_code (zx σ n0 bf).1 1056) 32 = .ok (.getfield 111, 3) := zd zm_1056 (by decide +kernel)
theorem d_1056_35 {σ : Nat → Nat} {n0 : Nat} {bf : ab_B} : decode (ab_code (zx σ n0 bf).1 1056) 35 = .ok (.laload, 1) := zd zm_1056 (by decide +kernel)
theorem d_1056_36 {σ : Nat → Nat} {n0 : Nat} {bf : ab_B} : decode (ab_code (zx σ n0 bf).1 1056) 36 = .ok (.l2i, 1) := zd zm_1056 (by decide +kernel)
theorem d_1056_37 {σ : Nat → Nat} {n0 : Nat} {bf : ab_B} : decode (ab_code (zx σ n0 bf).1 1056) 37 = .ok (.aload_n 0, 1) := zd zm_1056 (by decide +kernel)
theorem d_1056_38 {σ : Nat → Nat} {n0 : Nat} {bf : ab_B} : decode (ab_code (zx σ n0 bf).1 1056) 38 = .ok (.getfield 39, 3) := zd zm_1056 (by decide +kernel)
theorem d_1056_41 {σ : Nat → Nat} {n0 : Nat} {bf : ab_B} : decode (ab_code (zx σ n0 bf).1 1056) 41 = .ok (.aload_n 0, 1) := zd zm_1056 (by decide +kernel)
theorem d_1056_42 {σ : Nat → Nat} {n0 : Nat} {bf : ab_B} : decode (ab_code (zx σ n0 bf).1 1056) 42 = .ok (.getfield 111, 3) := zd zm_1056 (by decide +kernel)
theorem d_1056_45 {σ : Nat → Nat} {n0 : Nat} {bf : ab_B} : decode (ab_code (zx σ n0 bf).1 1056) 45 = .ok (.iaload, 1) := zd zm_1056 (by decide +kernel)
theorem d_1056_46 {σ : Nat → Nat} {n0 : Nat} {bf : ab_B} : decode (ab_code (zx σ n0 bf).1 1056) 46 = .ok (.aload_n 1, 1) := zd zm_1056 (by decide +kernel)
theorem d_1056_47 {σ : Nat → Nat} {n0 : Nat} {bf : ab_B} : decode (ab_code (zx σ n0 bf).1 1056) 47 = .ok (.aload_n 0, 1) := zd zm_1056 (by decide +kernel)
theorem d_1056_48 {σ : Nat → Nat} {n0 : Nat} {bf : ab_B} : decode (ab_code (zx σ n0 bf).1 1056) 48 = .ok (.getfield 104, 3) := zd zm_1056 (by decide +kernel)
theorem d_1056_51 {σ : Nat → Nat} {n0 : Nat} {bf : ab_B} : decode (ab_code (zx σ n0 bf).1 1056) 51 = .ok (.aload_n 0, 1) := zd zm_1056 (by decide +kernel)
theorem d_1056_52 {σ : Nat → Nat} {n0 : Nat} {bf : ab_B} : decode (ab_code (zx σ n0 bf).1 1056) 52 = .ok (.getfield 553, 3) := zd zm_1056 (by decide +kernel)
theorem d_1056_55 {σ : Nat → Nat} {n0 : Nat} {bf : ab_B} : decode (ab_code (zx σ n0 bf).1 1056) 55 = .ok (.laload, 1) := zd zm_1056 (by decide +kernel)
theorem d_1056_56 {σ : Nat → Nat} {n0 : Nat} {bf : ab_B} : decode (ab_code (zx σ n0 bf).1 1056) 56 = .ok (.iload_n 2, 1) := zd zm_1056 (by decide +kernel)
theorem d_1056_57 {σ : Nat → Nat} {n0 : Nat} {bf : ab_B} : decode (ab_code (zx σ n0 bf).1 1056) 57 = .ok (.invokevirtual 273, 3) := zd zm_1056 (by decide +kernel)
theorem d_1056_60 {σ : Nat → Nat} {n0 : Nat} {bf : ab_B} : decode (ab_code (zx σ n0 bf).1 1056) 60 = .ok (.ifCond .ne 4, 3) := zd zm_1056 (by decide +kernel)
theorem d_1056_63 {σ : Nat → Nat} {n0 : Nat} {bf : ab_B} : decode (ab_code (zx σ n0 bf).1 1056) 63 = .ok (.return_, 1) := zd zm_1056 (by decide +kernel)
theorem d_1056_64 {σ : Nat → Nat} {n0 : Nat} {bf : ab_B} : decode (ab_code (zx σ n0 bf).1 1056) 64 = .ok (.aload_n 0, 1) := zd zm_1056 (by decide +kernel)
theorem d_1056_65 {σ : Nat → Nat} {n0 : Nat} {bf : ab_B} : decode (ab_code (zx σ n0 bf).1 1056) 65 = .ok (.aload_n 0, 1) := zd zm_1056 (by decide +kernel)
theorem d_1056_66 {σ : Nat → Nat} {n0 : Nat} {bf : ab_B} : decode (ab_code (zx σ n0 bf).1 1056) 66 = .ok (.getfield 553, 3) := zd zm_1056 (by decide +kernel)
theorem d_1056_69 {σ : Nat → Nat} {n0 : Nat} {bf : ab_B} : decode (ab_code (zx σ n0 bf).1 1056) 69 = .ok (.iconst 1, 1) := zd zm_1056 (by decide +kernel)
theorem d_1056_70 {σ : Nat → Nat} {n0 : Nat} {bf : ab_B} : decode (ab_code (zx σ n0 bf).1 1056) 70 = .ok (.iadd, 1) := zd zm_1056 (by decide +kernel)
theorem d_1056_71 {σ : Nat → Nat} {n0 : Nat} {bf : ab_B} : decode (ab_code (zx σ n0 bf).1 1056) 71 = .ok (.sipush 1000, 3) := zd zm_1056 (by decide +kernel)
theorem d_1056_74 {σ : Nat → Nat} {n0 : Nat} {bf : ab_B} : decode (ab_code (zx σ n0 bf).1 1056) 74 = .ok (.irem, 1) := zd zm_1056 (by decide +kernel)
theorem d_1056_75 {σ : Nat → Nat} {n0 : Nat} {bf : ab_B} : decode (ab_code (zx σ n0 bf).1 1056) 75 = .ok (.putfield 553, 3) := zd zm_1056 (by decide +kernel)
theorem d_1056_78 {σ : Nat → Nat} {n0 : Nat} {bf : ab_B} : decode (ab_code (zx σ n0 bf).1 1056) 78 = .ok (.aload_n 0, 1) := zd zm_1056 (by decide +kernel)
theorem d_1056_79 {σ : Nat → Nat} {n0 : Nat} {bf : ab_B} : decode (ab_code (zx σ n0 bf).1 1056) 79 = .ok (.dup, 1) := zd zm_1056 (by decide +kernel)
theorem d_1056_80 {σ : Nat → Nat} {n0 : Nat} {bf : ab_B} : decode (ab_code (zx σ n0 bf).1 1056) 80 = .ok (.getfield 463, 3) := zd zm_1056 (by decide +kernel)
theorem d_1056_83 {σ : Nat → Nat} {n0 : Nat} {bf : ab_B} : decode (ab_code (zx σ n0 bf).1 1056) 83 = .ok (.iconst 1, 1) := zd zm_1056 (by decide +kernel)
theorem d_1056_84 {σ : Nat → Nat} {n0 : Nat} {bf : ab_B} : decode (ab_code (zx σ n0 bf).1 1056) 84 = .ok (.isub, 1) := zd zm_1056 (by decide +kernel)
theorem d_1056_85 {σ : Nat → Nat} {n0 : Nat} {bf : ab_B} : decode (ab_code (zx σ n0 bf).1 1056) 85 = .ok (.putfield 463, 3) := zd zm_1056 (by decide +kernel)
theorem d_1056_88 {σ : Nat → Nat} {n0 : Nat} {bf : ab_B} : decode (ab_code (zx σ n0 bf).1 1056) 88 = .ok (.return_, 1) := zd zm_1056 (by decide +kernel)
def w_X2_read_63 (X : zs_X) (d : Nat)  (S : zs_T) (Q : zs_Q) : Prop :=
  (Q (.returned none) S)
theorem u_X2_read_63 {σ : Nat → Nat} {n0 : Nat} {bf : ab_B} {d : Nat}  {S : zs_T} {Q : zs_Q} (hB : zt_B bf) (h : w_X2_read_63 (zx σ n0 bf) d  S Q) : zs_U (zx σ n0 bf) d 1056 63 [] [] S Q := by
  unfold w_X2_read_63 at h
  exact zu_vret d_1056_63 zr_1056 h
def w_X2_read_64 (X : zs_X) (d : Nat) (p0 : Nat) (S : zs_T) (Q : zs_Q) : Prop :=
  (zs_K S p0 = some (.inl 1) ∧ ab_n0 X.1 ≤ p0 ∧ ∀ S3, S3 = zs_sI S 1043 p0 (((zs_I S 1043 p0) + (1 : Int32)) - ((zs_I S 1043 p0) + (1 : Int32)) / (1000 : Int32) * (1000 : Int32)) → ∀ S6, S6 = zs_sI S3 1044 p0 ((zs_I S3 1044 p0) - (1 : Int32)) → Q (.returned none) S6)
theorem u_X2_read_64 {σ : Nat → Nat} {n0 : Nat} {bf : ab_B} {d : Nat} {p0 : Nat} {S : zs_T} {Q : zs_Q} (hB : zt_B bf) (h : w_X2_read_64 (zx σ n0 bf) d p0 S Q) : zs_U (zx σ n0 bf) d 1056 64 [(0, .ref p0)] [] S Q := by
  unfold w_X2_read_64 at h
  refine zu_aload_n d_1056_64 rfl (zs_ra _) ?_
  refine zu_aload_n d_1056_65 rfl (zs_ra _) ?_
  obtain ⟨k1, h⟩ := h
  refine zg_1_553 rfl d_1056_66 k1 ?_
  refine zu_iconst d_1056_69 zi_1 ?_
  refine zu_stk d_1056_70 rfl rfl ?_
  refine zu_sipush d_1056_71 zh_1000 ?_
  refine zu_irem d_1056_74 (by decide) ?_
  obtain ⟨k2, h⟩ := h
  refine zp_1_553 (v := (((zs_I S 1043 p0) + (1 : Int32)) - ((zs_I S 1043 p0) + (1 : Int32)) / (1000 : Int32) * (1000 : Int32))) rfl d_1056_75 k1 k2 ?_
  generalize e4 : zs_sI S 1043 p0 (((zs_I S 1043 p0) + (1 : Int32)) - ((zs_I S 1043 p0) + (1 : Int32)) / (1000 : Int32) * (1000 : Int32)) = S3
  have h := h S3 e4.symm
  have K5 : ∀ b, zs_K S3 b = zs_K S b := zs_Kt e4 (zs_KsI _ _ _ _) (fun _ => rfl)
  refine zu_aload_n d_1056_78 rfl (zs_ra _) ?_
  refine zu_dup d_1056_79 rfl ?_
  refine zg_1_463 rfl d_1056_80 ((K5 _).trans k1) ?_
  refine zu_iconst d_1056_83 zi_1 ?_
  refine zu_stk d_1056_84 rfl rfl ?_
  refine zp_1_463 (v := ((zs_I S3 1044 p0) - (1 : Int32))) rfl d_1056_85 ((K5 _).trans k1) k2 ?_
  generalize e7 : zs_sI S3 1044 p0 ((zs_I S3 1044 p0) - (1 : Int32)) = S6
  have h := h S6 e7.symm
  have K8 : ∀ b, zs_K S6 b = zs_K S b := zs_Kt e7 (zs_KsI _ _ _ _) K5
  exact zu_vret d_1056_88 zr_1056 h
def w_X2_read (X : zs_X) (d : Nat) (p0 : Nat) (p1 : Option Nat) (p2 : Int32) (S : zs_T) (Q : zs_Q) : Prop :=
  (zs_K S p0 = some (.inl 1) ∧ ab_n0 X.1 ≤ p0 ∧ ∀ S3, S3 = zs_sI S 1007 p0 ((zs_I S 1007 p0) - (1 : Int32)) → ((¬ (zs_I S3 1044 p0) = 0 → (∃ b7, (zs_R S3 1005 p0) = some b7 ∧ zs_A S b7 3 (zs_I S3 1007 p0) ∧ ∃ b10, (zs_R S3 1006 p0) = some b10 ∧ zs_A S b10 0 (zs_I S3 1007 p0) ∧ ∃ b13, (zs_R S3 1042 p0) = some b13 ∧ zs_A S b13 3 (zs_I S3 1043 p0) ∧ zs_C X d 1022 [.ref p0, .int (((zs_j S3 b7 (zs_I S3 1007 p0).toNatClampNeg)).toInt32), .int (zs_i S3 b10 (zs_I S3 1007 p0).toNatClampNeg), va_rf p1, .long (zs_j S3 b13 (zs_I S3 1043 p0).toNatClampNeg), .int p2] S3 (zs_kI (fun v17 S16 => (((¬ v17 = 0 → w_X2_read_64 X d p0 S16 Q) ∧ (¬ (¬ v17 = 0) → w_X2_read_63 X d  S16 Q)))) Q))) ∧ (¬ (¬ (zs_I S3 1044 p0) = 0) → (zs_C X d 1004 [.ref p0, .int (12 : Int32), .int p2] S3 (zs_kI (fun v20 S19 => (Q (.returned none) S19)) Q)))))
theorem u_X2_read {σ : Nat → Nat} {n0 : Nat} {bf : ab_B} {d : Nat} {p0 : Nat} {p1 : Option Nat} {p2 : Int32} {S : zs_T} {Q : zs_Q} (hB : zt_B bf) (hd : 1 ≤ d) (h : w_X2_read (zx σ n0 bf) (d - 1) p0 p1 p2 S Q) : zs_C (zx σ n0 bf) d 1056 [.ref p0, va_rf p1, .int p2] S Q := by
  have hL : lv_args 0 [.ref p0, va_rf p1, .int p2] = [(0, .ref p0), (1, va_rf p1), (2, .int p2)] := by simp [lv_args, zs_cat, zs_cI, zs_cJ, zs_cA]
  refine zs_C.of1 (hB.2 1056 (by decide) (by decide)) hd (by rw [hL]; exact zs_sub_self _ (by exact ⟨rfl, rfl, rfl, trivial⟩)) ?_
  rw [hL]
  clear hL
  unfold w_X2_read at h
  refine zu_aload_n d_1056_0 rfl (zs_ra _) ?_
  refine zu_dup d_1056_1 rfl ?_
  obtain ⟨k1, h⟩ := h
  refine zg_1_111 rfl d_1056_2 k1 ?_
  refine zu_iconst d_1056_5 zi_1 ?_
  refine zu_stk d_1056_6 rfl rfl ?_
  obtain ⟨k2, h⟩ := h
  refine zp_1_111 (v := ((zs_I S 1007 p0) - (1 : Int32))) rfl d_1056_7 k1 k2 ?_
  generalize e4 : zs_sI S 1007 p0 ((zs_I S 1007 p0) - (1 : Int32)) = S3
  have h := h S3 e4.symm
  have K5 : ∀ b, zs_K S3 b = zs_K S b := zs_Kt e4 (zs_KsI _ _ _ _) (fun _ => rfl)
  refine zu_aload_n d_1056_10 rfl (zs_ra _) ?_
  refine zg_1_463 rfl d_1056_11 ((K5 _).trans k1) ?_
  refine zu_ifne (t := 26) d_1056_14 rfl (fun c6 => ?_) (fun c6 => ?_)
  · have h := h.1 c6
    refine zu_aload_n d_1056_26 rfl (zs_ra _) ?_
    refine zu_aload_n d_1056_27 rfl (zs_ra _) ?_
    refine zg_1_36 rfl d_1056_28 ((K5 _).trans k1) ?_
    refine zu_aload_n d_1056_31 rfl (zs_ra _) ?_
    refine zg_1_111 rfl d_1056_32 ((K5 _).trans k1) ?_
    obtain ⟨b7, e8, h⟩ := h
    refine zs_stk1 (zs_rfe e8) ?_
    obtain ⟨k9, h⟩ := h
    refine zu_lald (k := 3) d_1056_35 rfl rfl (zs_Ak K5 k9) ?_
    refine zu_stk d_1056_36 rfl rfl ?_
    refine zu_aload_n d_1056_37 rfl (zs_ra _) ?_
    refine zg_1_39 rfl d_1056_38 ((K5 _).trans k1) ?_
    refine zu_aload_n d_1056_41 rfl (zs_ra _) ?_
    refine zg_1_111 rfl d_1056_42 ((K5 _).trans k1) ?_
    obtain ⟨b10, e11, h⟩ := h
    refine zs_stk1 (zs_rfe e11) ?_
    obtain ⟨k12, h⟩ := h
    refine zu_iald (k := 0) d_1056_45 rfl rfl (zs_Ak K5 k12) ?_
    refine zu_aload_n d_1056_46 rfl (zs_rr _) ?_
    refine zu_aload_n d_1056_47 rfl (zs_ra _) ?_
    refine zg_1_104 rfl d_1056_48 ((K5 _).trans k1) ?_
    refine zu_aload_n d_1056_51 rfl (zs_ra _) ?_
    refine zg_1_553 rfl d_1056_52 ((K5 _).trans k1) ?_
    obtain ⟨b13, e14, h⟩ := h
    refine zs_stk1 (zs_rfe e14) ?_
    obtain ⟨k15, h⟩ := h
    refine zu_lald (k := 3) d_1056_55 rfl rfl (zs_Ak K5 k15) ?_
    refine zu_iload_n d_1056_56 rfl ?_
    refine zc_1_273 (x0 := (((zs_j S3 b7 (zs_I S3 1007 p0).toNatClampNeg)).toInt32)) (x1 := (zs_i S3 b10 (zs_I S3 1007 p0).toNatClampNeg)) (x2 := p1) (x3 := (zs_j S3 b13 (zs_I S3 1043 p0).toNatClampNeg)) (x4 := p2) hB rfl ((K5 _).trans k1) d_1056_57 (Nat.le_of_ble_eq_true rfl) h (fun v17 S16 h => ?_)
    refine zu_ifne (t := 64) d_1056_60 rfl (fun c18 => ?_) (fun c18 => ?_)
    · have h := h.1 c18
      exact (u_X2_read_64 hB h).weak ⟨rfl, trivial⟩
    · have h := h.2 c18
      exact (u_X2_read_63 hB h).weak trivial
  · have h := h.2 c6
    refine zu_aload_n d_1056_17 rfl (zs_ra _) ?_
    refine zu_bipush d_1056_18 zj_12 ?_
    refine zu_iload_n d_1056_20 rfl ?_
    refine zc_1_194 (x0 := (12 : Int32)) (x1 := p2) hB rfl ((K5 _).trans k1) d_1056_21 (Nat.le_of_ble_eq_true rfl) h (fun v20 S19 h => ?_)
    refine zu_pop d_1056_24 rfl ?_
    exact zu_vret d_1056_25 zr_1056 h
/-! SchemaPascal$Machine.out(I)V -/
theorem zm_1058 {σ : Nat → Nat} {n0 : Nat} {bf : ab_B} : ab_code (zx σ n0 bf).1 1058 = prog_5_method_59_code := rfl
theorem zq_1058 {σ : Nat → Nat} {n0 : Nat} {bf : ab_B} : ab_maxL (zx σ n0 bf).1 1058 = 2 := rfl
theorem zr_1058 {σ : Nat → Nat} {n0 : Nat} {bf : ab_B} : ab_ret (zx σ n0 bf).1 1058 = (Option.none : Option Jvm.ClassFile.FieldType) := rfl
theorem d_1058_0 {σ : Nat → Nat} {n0 : Nat} {bf : ab_B} : decode (ab_code (zx σ n0 bf).1 1058) 0 = .ok (.aload_n 0, 1) := zd zm_1058 (by decide +kernel)
theorem d_1058_1 {σ : Nat → Nat} {n0 : Nat} {bf : ab_B} : decode (ab_code (zx σ n0 bf).1 1058) 1 = .ok (.getfield 154, 3) := zd zm_1058 (by decide +kernel)
theorem d_1058_4 {σ : Nat → Nat} {n0 : Nat} {bf : ab_B} : decode (ab_code (zx σ n0 bf).1 1058) 4 = .ok (.sipush 20000, 3) := zd zm_1058 (by decide +kernel)
theorem d_1058_7 {σ : Nat → Nat} {n0 : Nat} {bf : ab_B} : decode (ab_code (zx σ n0 bf).1 1058) 7 = .ok (.if_icmp .ge 14, 3) := zd zm_1058 (by decide +kernel)
theorem d_1058_10 {σ : Nat → Nat} {n0 : Nat} {bf : ab_B} : decode (ab_code (zx σ n0 bf).1 1058) 10 = .ok (.aload_n 0, 1) := zd zm_1058 (by decide +kernel)
theorem d_1058_11 {σ : Nat → Nat} {n0 : Nat} {bf : ab_B} : decode (ab_code (zx σ n0 bf).1 1058) 11 = .ok (.getfield 101, 3) := zd zm_1058 (by decide +kernel)
theorem d_1058_14 {σ : Nat → Nat} {n0 : Nat} {bf : ab_B} : decode (ab_code (zx σ n0 bf).1 1058) 14 = .ok (.aload_n 0, 1) := zd zm_1058 (by decide +kernel)
theorem d_1058_15 {σ : Nat → Nat} {n0 : Nat} {bf : ab_B} : decode (ab_code (zx σ n0 bf).1 1058) 15 = .ok (.getfield 154, 3) := zd zm_1058 (by decide +kernel)
theorem d_1058_18 {σ : Nat → Nat} {n0 : Nat} {bf : ab_B} : decode (ab_code (zx σ n0 bf).1 1058) 18 = .ok (.iload_n 1, 1) := zd zm_1058 (by decide +kernel)
theorem d_1058_19 {σ : Nat → Nat} {n0 : Nat} {bf : ab_B} : decode (ab_code (zx σ n0 bf).1 1058) 19 = .ok (.i2b, 1) := zd zm_1058 (by decide +kernel)
theorem d_1058_20 {σ : Nat → Nat} {n0 : Nat} {bf : ab_B} : decode (ab_code (zx σ n0 bf).1 1058) 20 = .ok (.bastore, 1) := zd zm_1058 (by decide +kernel)
theorem d_1058_21 {σ : Nat → Nat} {n0 : Nat} {bf : ab_B} : decode (ab_code (zx σ n0 bf).1 1058) 21 = .ok (.aload_n 0, 1) := zd zm_1058 (by decide +kernel)
theorem d_1058_22 {σ : Nat → Nat} {n0 : Nat} {bf : ab_B} : decode (ab_code (zx σ n0 bf).1 1058) 22 = .ok (.getfield 154, 3) := zd zm_1058 (by decide +kernel)
theorem d_1058_25 {σ : Nat → Nat} {n0 : Nat} {bf : ab_B} : decode (ab_code (zx σ n0 bf).1 1058) 25 = .ok (.ldc_w 558, 3) := zd zm_1058 (by decide +kernel)
theorem d_1058_28 {σ : Nat → Nat} {n0 : Nat} {bf : ab_B} : decode (ab_code (zx σ n0 bf).1 1058) 28 = .ok (.if_icmp .ge 13, 3) := zd zm_1058 (by decide +kernel)
theorem d_1058_31 {σ : Nat → Nat} {n0 : Nat} {bf : ab_B} : decode (ab_code (zx σ n0 bf).1 1058) 31 = .ok (.aload_n 0, 1) := zd zm_1058 (by decide +kernel)
theorem d_1058_32 {σ : Nat → Nat} {n0 : Nat} {bf : ab_B} : decode (ab_code (zx σ n0 bf).1 1058) 32 = .ok (.dup, 1) := zd zm_1058 (by decide +kernel)
theorem d_1058_33 {σ : Nat → Nat} {n0 : Nat} {bf : ab_B} : decode (ab_code (zx σ n0 bf).1 1058) 33 = .ok (.getfield 154, 3) := zd zm_1058 (by decide +kernel)
theorem d_1058_36 {σ : Nat → Nat} {n0 : Nat} {bf : ab_B} : decode (ab_code (zx σ n0 bf).1 1058) 36 = .ok (.iconst 1, 1) := zd zm_1058 (by decide +kernel)
theorem d_1058_37 {σ : Nat → Nat} {n0 : Nat} {bf : ab_B} : decode (ab_code (zx σ n0 bf).1 1058) 37 = .ok (.iadd, 1) := zd zm_1058 (by decide +kernel)
theorem d_1058_38 {σ : Nat → Nat} {n0 : Nat} {bf : ab_B} : decode (ab_code (zx σ n0 bf).1 1058) 38 = .ok (.putfield 154, 3) := zd zm_1058 (by decide +kernel)
theorem d_1058_41 {σ : Nat → Nat} {n0 : Nat} {bf : ab_B} : decode (ab_code (zx σ n0 bf).1 1058) 41 = .ok (.return_, 1) := zd zm_1058 (by decide +kernel)
def w_X2_out_21 (X : zs_X) (d : Nat) (p0 : Nat) (S : zs_T) (Q : zs_Q) : Prop :=
  (zs_K S p0 = some (.inl 1) ∧ (((2147483647 : Int32) ≤ (zs_I S 1041 p0) → (Q (.returned none) S)) ∧ (¬ ((2147483647 : Int32) ≤ (zs_I S 1041 p0)) → (ab_n0 X.1 ≤ p0 ∧ ∀ S4, S4 = zs_sI S 1041 p0 ((zs_I S 1041 p0) + (1 : Int32)) → Q (.returned none) S4))))
theorem u_X2_out_21 {σ : Nat → Nat} {n0 : Nat} {bf : ab_B} {d : Nat} {p0 : Nat} {S : zs_T} {Q : zs_Q} (hB : zt_B bf) (h : w_X2_out_21 (zx σ n0 bf) d p0 S Q) : zs_U (zx σ n0 bf) d 1058 21 [(0, .ref p0)] [] S Q := by
  unfold w_X2_out_21 at h
  refine zu_aload_n d_1058_21 rfl (zs_ra _) ?_
  obtain ⟨k1, h⟩ := h
  refine zg_1_154 rfl d_1058_22 k1 ?_
  refine zlw_1_558 rfl d_1058_25 ?_
  refine zu_cmpge (t := 41) d_1058_28 rfl (fun c2 => ?_) (fun c2 => ?_)
  · have h := h.1 c2
    exact zu_vret d_1058_41 zr_1058 h
  · have h := h.2 c2
    refine zu_aload_n d_1058_31 rfl (zs_ra _) ?_
    refine zu_dup d_1058_32 rfl ?_
    refine zg_1_154 rfl d_1058_33 k1 ?_
    refine zu_iconst d_1058_36 zi_1 ?_
    refine zu_stk d_1058_37 rfl rfl ?_
    obtain ⟨k3, h⟩ := h
    refine zp_1_154 (v := ((zs_I S 1041 p0) + (1 : Int32))) rfl d_1058_38 k1 k3 ?_
    generalize e5 : zs_sI S 1041 p0 ((zs_I S 1041 p0) + (1 : Int32)) = S4
    have h := h S4 e5.symm
    have K6 : ∀ b, zs_K S4 b = zs_K S b := zs_Kt e5 (zs_KsI _ _ _ _) (fun _ => rfl)
    exact zu_vret d_1058_41 zr_1058 h
def w_X2_out (X : zs_X) (d : Nat) (p0 : Nat) (p1 : Int32) (S : zs_T) (Q : zs_Q) : Prop :=
  (zs_K S p0 = some (.inl 1) ∧ (((20000 : Int32) ≤ (zs_I S 1041 p0) → w_X2_out_21 X d p0 S Q) ∧ (¬ ((20000 : Int32) ≤ (zs_I S 1041 p0)) → (∃ b3, (zs_R S 1040 p0) = some b3 ∧ zs_A S b3 1 (zs_I S 1041 p0) ∧ ab_n0 X.1 ≤ b3 ∧ ∀ S7, S7 = zs_si S b3 (zs_I S 1041 p0).toNatClampNeg (vp_nar .byte ((p1).toInt8.toInt32)) → w_X2_out_21 X d p0 S7 Q))))
theorem u_X2_out {σ : Nat → Nat} {n0 : Nat} {bf : ab_B} {d : Nat} {p0 : Nat} {p1 : Int32} {S : zs_T} {Q : zs_Q} (hB : zt_B bf) (hd : 1 ≤ d) (h : w_X2_out (zx σ n0 bf) (d - 1) p0 p1 S Q) : zs_C (zx σ n0 bf) d 1058 [.ref p0, .int p1] S Q := by
  have hL : lv_args 0 [.ref p0, .int p1] = [(0, .ref p0), (1, .int p1)] := rfl
  refine zs_C.of1 (hB.2 1058 (by decide) (by decide)) hd (by rw [hL]; exact zs_sub_self _ (by exact ⟨rfl, rfl, trivial⟩)) ?_
  rw [hL]
  clear hL
  unfold w_X2_out at h
  refine zu_aload_n d_1058_0 rfl (zs_ra _) ?_
  obtain ⟨k1, h⟩ := h
  refine zg_1_154 rfl d_1058_1 k1 ?_
  refine zu_sipush d_1058_4 zh_20000 ?_
  refine zu_cmpge (t := 21) d_1058_7 rfl (fun c2 => ?_) (fun c2 => ?_)
  · have h := h.1 c2
    exact (u_X2_out_21 hB h).weak ⟨rfl, trivial⟩
  · have h := h.2 c2
    refine zu_aload_n d_1058_10 rfl (zs_ra _) ?_
    refine zg_1_101 rfl d_1058_11 k1 ?_
    refine zu_aload_n d_1058_14 rfl (zs_ra _) ?_
    refine zg_1_154 rfl d_1058_15 k1 ?_
    refine zu_iload_n d_1058_18 rfl ?_
    refine zu_stk d_1058_19 rfl rfl ?_
    obtain ⟨b3, e4, h⟩ := h
    refine zs_stk2 (zs_rfe e4) ?_
    obtain ⟨k5, h⟩ := h
    obtain ⟨k6, h⟩ := h
    refine zu_bast_byte (k := 1) d_1058_20 rfl rfl k6 k5 ?_
    generalize e8 : zs_si S b3 (zs_I S 1041 p0).toNatClampNeg (vp_nar .byte ((p1).toInt8.toInt32)) = S7
    have h := h S7 e8.symm
    have K9 : ∀ b, zs_K S7 b = zs_K S b := zs_Kt e8 (zs_Ksi _ _ _ _) (fun _ => rfl)
    exact (u_X2_out_21 hB h).weak ⟨rfl, trivial⟩
/-! SchemaPascal$Machine.word(Ljava/lang/String;)V -/
theorem zm_1059 {σ : Nat → Nat} {n0 : Nat} {bf : ab_B} : ab_code (zx σ n0 bf).1 1059 = prog_5_method_60_code := rfl
theorem zq_1059 {σ : Nat → Nat} {n0 : Nat} {bf : ab_B} : ab_maxL (zx σ n0 bf).1 1059 = 3 := rfl
theorem zr_1059 {σ : Nat → Nat} {n0 : Nat} {bf : ab_B} : ab_ret (zx σ n0 bf).1 1059 = (Option.none : Option Jvm.ClassFile.FieldType) := rfl
theorem d_1059_0 {σ : Nat → Nat} {n0 : Nat} {bf : ab_B} : decode (ab_code (zx σ n0 bf).1 1059) 0 = .ok (.iconst 0, 1) := zd zm_1059 (by decide +kernel)
theorem d_1059_1 {σ : Nat → Nat} {n0 : Nat} {bf : ab_B} : decode (ab_code (zx σ n0 bf).1 1059) 1 = .ok (.istore_n 2, 1) := zd zm_1059 (by decide +kernel)
theorem d_1059_2 {σ : Nat → Nat} {n0 : Nat} {bf : ab_B} : decode (ab_code (zx σ n0 bf).1 1059) 2 = .ok (.iload_n 2, 1) := zd zm_1059 (by decide +kernel)
theorem d_1059_3 {σ : Nat → Nat} {n0 : Nat} {bf : ab_B} : decode (ab_code (zx σ n0 bf).1 1059) 3 = .ok (.aload_n 1, 1) := zd zm_1059 (by decide +kernel)
theorem d_1059_4 {σ : Nat → Nat} {n0 : Nat} {bf : ab_B} : decode (ab_code (zx σ n0 bf).1 1059) 4 = .ok (.invokevirtual 559, 3) := zd zm_1059 (by decide +kernel)
theorem d_1059_7 {σ : Nat → Nat} {n0 : Nat} {bf : ab_B} : decode (ab_code (zx σ n0 bf).1 1059) 7 = .ok (.if_icmp .ge 18, 3) := zd zm_1059 (by decide +kernel)
theorem d_1059_10 {σ : Nat → Nat} {n0 : Nat} {bf : ab_B} : decode (ab_code (zx σ n0 bf).1 1059) 10 = .ok (.aload_n 0, 1) := zd zm_1059 (by decide +kernel)
theorem d_1059_11 {σ : Nat → Nat} {n0 : Nat} {bf : ab_B} : decode (ab_code (zx σ n0 bf).1 1059) 11 = .ok (.aload_n 1, 1) := zd zm_1059 (by decide +kernel)
theorem d_1059_12 {σ : Nat → Nat} {n0 : Nat} {bf : ab_B} : decode (ab_code (zx σ n0 bf).1 1059) 12 = .ok (.iload_n 2, 1) := zd zm_1059 (by decide +kernel)
theorem d_1059_13 {σ : Nat → Nat} {n0 : Nat} {bf : ab_B} : decode (ab_code (zx σ n0 bf).1 1059) 13 = .ok (.invokevirtual 564, 3) := zd zm_1059 (by decide +kernel)
theorem d_1059_16 {σ : Nat → Nat} {n0 : Nat} {bf : ab_B} : decode (ab_code (zx σ n0 bf).1 1059) 16 = .ok (.invokevirtual 502, 3) := zd zm_1059 (by decide +kernel)
theorem d_1059_19 {σ : Nat → Nat} {n0 : Nat} {bf : ab_B} : decode (ab_code (zx σ n0 bf).1 1059) 19 = .ok (.iinc 2 1, 3) := zd zm_1059 (by decide +kernel)
theorem d_1059_22 {σ : Nat → Nat} {n0 : Nat} {bf : ab_B} : decode (ab_code (zx σ n0 bf).1 1059) 22 = .ok (.goto (-20), 3) := zd zm_1059 (by decide +kernel)
theorem d_1059_25 {σ : Nat → Nat} {n0 : Nat} {bf : ab_B} : decode (ab_code (zx σ n0 bf).1 1059) 25 = .ok (.return_, 1) := zd zm_1059 (by decide +kernel)
def w_X2_word_2 (X : zs_X) (d : Nat) (p0 : Nat) (p1 : Option Nat) (p2 : Int32) (S : zs_T) (Q : zs_Q) : Prop :=
  (∃ b1, p1 = some b1 ∧ zs_K S b1 = some (.inl 20) ∧ zs_C X d 20000 [.ref b1] S (zs_kI (fun v5 S4 => (((v5 ≤ p2 → (Q (.returned none) S4)) ∧ (¬ (v5 ≤ p2) → (zs_K S4 b1 = some (.inl 20) ∧ zs_C X d 20002 [.ref b1, .int p2] S4 (zs_kI (fun v9 S8 => (zs_K S8 p0 = some (.inl 1) ∧ zs_C X d 1058 [.ref p0, .int v9] S8 (zs_kV (fun S11 => (zs_U X d 1059 2 [(0, .ref p0), (1, va_rf p1), (2, .int (p2 + (1 : Int32)))] [] S11 Q)) Q))) Q)))))) Q))
theorem u_X2_word_2 {σ : Nat → Nat} {n0 : Nat} {bf : ab_B} {d : Nat} {p0 : Nat} {p1 : Option Nat} {p2 : Int32} {S : zs_T} {Q : zs_Q} (hB : zt_B bf) (h : w_X2_word_2 (zx σ n0 bf) d p0 p1 p2 S Q) : zs_U (zx σ n0 bf) d 1059 2 [(0, .ref p0), (1, va_rf p1), (2, .int p2)] [] S Q := by
  unfold w_X2_word_2 at h
  refine zu_iload_n d_1059_2 rfl ?_
  refine zu_aload_n d_1059_3 rfl (zs_rr _) ?_
  obtain ⟨b1, e2, h⟩ := h
  refine zs_stk0 (zs_rfe e2) ?_
  obtain ⟨k3, h⟩ := h
  refine zc_1_559  hB rfl k3 d_1059_4 (Nat.le_of_ble_eq_true rfl) h (fun v5 S4 h => ?_)
  refine zu_cmpge (t := 25) d_1059_7 rfl (fun c6 => ?_) (fun c6 => ?_)
  · have h := h.1 c6
    exact zu_vret d_1059_25 zr_1059 h
  · have h := h.2 c6
    refine zu_aload_n d_1059_10 rfl (zs_ra _) ?_
    refine zu_aload_n d_1059_11 rfl (zs_rr _) ?_
    refine zu_iload_n d_1059_12 rfl ?_
    refine zs_stk1 (zs_rfe e2) ?_
    obtain ⟨k7, h⟩ := h
    refine zc_1_564 (x0 := p2) hB rfl k7 d_1059_13 (Nat.le_of_ble_eq_true rfl) h (fun v9 S8 h => ?_)
    obtain ⟨k10, h⟩ := h
    refine zc_1_502 (x0 := v9) hB rfl k10 d_1059_16 (Nat.le_of_ble_eq_true rfl) h (fun S11 h => ?_)
    refine zu_iinc d_1059_19 rfl zi_1 (zs_lt zq_1059 rfl) ?_
    refine zs_U.weak (L1 := [(2, .int (p2 + (1 : Int32))), (0, .ref p0), (1, va_rf p1)]) ?_ ⟨rfl, zs_gp1 rfl (Or.inl rfl) rfl, zs_gp1 rfl (Or.inl (zs_cat _)) rfl, trivial⟩
    refine zu_goto (t := 2) d_1059_22 rfl ?_
    exact h.weak ⟨rfl, rfl, rfl, trivial⟩
def w_X2_word (X : zs_X) (d : Nat) (p0 : Nat) (p1 : Option Nat) (S : zs_T) (Q : zs_Q) : Prop :=
  (zs_U X d 1059 2 [(0, .ref p0), (1, va_rf p1), (2, .int (0 : Int32))] [] S Q)
theorem u_X2_word {σ : Nat → Nat} {n0 : Nat} {bf : ab_B} {d : Nat} {p0 : Nat} {p1 : Option Nat} {S : zs_T} {Q : zs_Q} (hB : zt_B bf) (hd : 1 ≤ d) (h : w_X2_word (zx σ n0 bf) (d - 1) p0 p1 S Q) : zs_C (zx σ n0 bf) d 1059 [.ref p0, va_rf p1] S Q := by
  have hL : lv_args 0 [.ref p0, va_rf p1] = [(0, .ref p0), (1, va_rf p1)] := by simp [lv_args, zs_cat, zs_cI, zs_cJ, zs_cA]
  refine zs_C.of1 (hB.2 1059 (by decide) (by decide)) hd (by rw [hL]; exact zs_sub_self _ (by exact ⟨rfl, rfl, trivial⟩)) ?_
  rw [hL]
  clear hL
  unfold w_X2_word at h
  refine zu_iconst d_1059_0 zi_0 ?_
  refine zu_istore_n d_1059_1 (zs_lt zq_1059 rfl) ?_
  refine zs_U.weak (L1 := [(2, .int (0 : Int32)), (0, .ref p0), (1, va_rf p1)]) ?_ ⟨rfl, zs_gp1 rfl (Or.inl rfl) rfl, zs_gp1 rfl (Or.inl (zs_cat _)) rfl, trivial⟩
  exact h.weak ⟨rfl, rfl, rfl, trivial⟩
/-! SchemaPascal$Machine.decimal(J)V -/
theorem zm_1060 {σ : Nat → Nat} {n0 : Nat} {bf : ab_B} : ab_code (zx σ n0 bf).1 1060 = prog_5_method_62_code := rfl
theorem zq_1060 {σ : Nat → Nat} {n0 : Nat} {bf : ab_B} : ab_maxL (zx σ n0 bf).1 1060 = 7 := rfl
theorem zr_1060 {σ : Nat → Nat} {n0 : Nat} {bf : ab_B} : ab_ret (zx σ n0 bf).1 1060 = (Option.none : Option Jvm.ClassFile.FieldType) := rfl
theorem d_1060_0 {σ : Nat → Nat} {n0 : Nat} {bf : ab_B} : decode (ab_code (zx σ n0 bf).1 1060) 0 = .ok (.lload_n 1, 1) := zd zm_1060 (by decide +kernel)
theorem d_1060_1 {σ : Nat → Nat} {n0 : Nat} {bf : ab_B} : decode (ab_code (zx σ n0 bf).1 1060) 1 = .ok (.lconst 0, 1) := zd zm_1060 (by decide +kernel)
theorem d_1060_2 {σ : Nat → Nat} {n0 : Nat} {bf : ab_B} : decode (ab_code (zx σ n0 bf).1 1060) 2 = .ok (.lcmp, 1) := zd zm_1060 (by decide +kernel)
theorem d_1060_3 {σ : Nat → Nat} {n0 : Nat} {bf : ab_B} : decode (ab_code (zx σ n0 bf).1 1060) 3 = .ok (.ifCond .ge 9, 3) := zd zm_1060 (by decide +kernel)
theorem d_1060_6 {σ : Nat → Nat} {n0 : Nat} {bf : ab_B} : decode (ab_code (zx σ n0 bf).1 1060) 6 = .ok (.aload_n 0, 1) := zd zm_1060 (by decide +kernel)
theorem d_1060_7 {σ : Nat → Nat} {n0 : Nat} {bf : ab_B} : decode (ab_code (zx σ n0 bf).1 1060) 7 = .ok (.bipush 45, 2) := zd zm_1060 (by decide +kernel)
theorem d_1060_9 {σ : Nat → Nat} {n0 : Nat} {bf : ab_B} : decode (ab_code (zx σ n0 bf).1 1060) 9 = .ok (.invokevirtual 502, 3) := zd zm_1060 (by decide +kernel)
theorem d_1060_12 {σ : Nat → Nat} {n0 : Nat} {bf : ab_B} : decode (ab_code (zx σ n0 bf).1 1060) 12 = .ok (.lload_n 1, 1) := zd zm_1060 (by decide +kernel)
theorem d_1060_13 {σ : Nat → Nat} {n0 : Nat} {bf : ab_B} : decode (ab_code (zx σ n0 bf).1 1060) 13 = .ok (.invokestatic 446, 3) := zd zm_1060 (by decide +kernel)
theorem d_1060_16 {σ : Nat → Nat} {n0 : Nat} {bf : ab_B} : decode (ab_code (zx σ n0 bf).1 1060) 16 = .ok (.lstore_n 3, 1) := zd zm_1060 (by decide +kernel)
theorem d_1060_17 {σ : Nat → Nat} {n0 : Nat} {bf : ab_B} : decode (ab_code (zx σ n0 bf).1 1060) 17 = .ok (.lconst 1, 1) := zd zm_1060 (by decide +kernel)
theorem d_1060_18 {σ : Nat → Nat} {n0 : Nat} {bf : ab_B} : decode (ab_code (zx σ n0 bf).1 1060) 18 = .ok (.lstore 5, 2) := zd zm_1060 (by decide +kernel)
theorem d_1060_20 {σ : Nat → Nat} {n0 : Nat} {bf : ab_B} : decode (ab_code (zx σ n0 bf).1 1060) 20 = .ok (.lload_n 3, 1) := zd zm_1060 (by decide +kernel)
theorem d_1060_21 {σ : Nat → Nat} {n0 : Nat} {bf : ab_B} : decode (ab_code (zx σ n0 bf).1 1060) 21 = .ok (.lload 5, 2) := zd zm_1060 (by decide +kernel)
theorem d_1060_23 {σ : Nat → Nat} {n0 : Nat} {bf : ab_B} : decode (ab_code (zx σ n0 bf).1 1060) 23 = .ok (.ldiv, 1) := zd zm_1060 (by decide +kernel)
theorem d_1060_24 {σ : Nat → Nat} {n0 : Nat} {bf : ab_B} : decode (ab_code (zx σ n0 bf).1 1060) 24 = .ok (.ldc2_w 579, 3) := zd zm_1060 (by decide +kernel)
theorem d_1060_27 {σ : Nat → Nat} {n0 : Nat} {bf : ab_B} : decode (ab_code (zx σ n0 bf).1 1060) 27 = .ok (.lcmp, 1) := zd zm_1060 (by decide +kernel)
theorem d_1060_28 {σ : Nat → Nat} {n0 : Nat} {bf : ab_B} : decode (ab_code (zx σ n0 bf).1 1060) 28 = .ok (.ifCond .le 14, 3) := zd zm_1060 (by decide +kernel)
theorem d_1060_31 {σ : Nat → Nat} {n0 : Nat} {bf : ab_B} : decode (ab_code (zx σ n0 bf).1 1060) 31 = .ok (.lload 5, 2) := zd zm_1060 (by decide +kernel)
theorem d_1060_33 {σ : Nat → Nat} {n0 : Nat} {bf : ab_B} : decode (ab_code (zx σ n0 bf).1 1060) 33 = .ok (.ldc2_w 581, 3) := zd zm_1060 (by decide +kernel)
theorem d_1060_36 {σ : Nat → Nat} {n0 : Nat} {bf : ab_B} : decode (ab_code (zx σ n0 bf).1 1060) 36 = .ok (.lmul, 1) := zd zm_1060 (by decide +kernel)
theorem d_1060_37 {σ : Nat → Nat} {n0 : Nat} {bf : ab_B} : decode (ab_code (zx σ n0 bf).1 1060) 37 = .ok (.lstore 5, 2) := zd zm_1060 (by decide +kernel)
theorem d_1060_39 {σ : Nat → Nat} {n0 : Nat} {bf : ab_B} : decode (ab_code (zx σ n0 bf).1 1060) 39 = .ok (.goto (-19), 3) := zd zm_1060 (by decide +kernel)
theorem d_1060_42 {σ : Nat → Nat} {n0 : Nat} {bf : ab_B} : decode (ab_code (zx σ n0 bf).1 1060) 42 = .ok (.lload 5, 2) := zd zm_1060 (by decide +kernel)
theorem d_1060_44 {σ : Nat → Nat} {n0 : Nat} {bf : ab_B} : decode (ab_code (zx σ n0 bf).1 1060) 44 = .ok (.lconst 0, 1) := zd zm_1060 (by decide +kernel)
theorem d_1060_45 {σ : Nat → Nat} {n0 : Nat} {bf : ab_B} : decode (ab_code (zx σ n0 bf).1 1060) 45 = .ok (.lcmp, 1) := zd zm_1060 (by decide +kernel)
theorem d_1060_46 {σ : Nat → Nat} {n0 : Nat} {bf : ab_B} : decode (ab_code (zx σ n0 bf).1 1060) 46 = .ok (.ifCond .le 31, 3) := zd zm_1060 (by decide +kernel)
theorem d_1060_49 {σ : Nat → Nat} {n0 : Nat} {bf : ab_B} : decode (ab_code (zx σ n0 bf).1 1060) 49 = .ok (.aload_n 0, 1) := zd zm_1060 (by decide +kernel)
theorem d_1060_50 {σ : Nat → Nat} {n0 : Nat} {bf : ab_B} : decode (ab_code (zx σ n0 bf).1 1060) 50 = .ok (.ldc2_w 583, 3) := zd zm_1060 (by decide +kernel)
theorem d_1060_53 {σ : Nat → Nat} {n0 : Nat} {bf : ab_B} : decode (ab_code (zx σ n0 bf).1 1060) 53 = .ok (.lload_n 3, 1) := zd zm_1060 (by decide +kernel)
theorem d_1060_54 {σ : Nat → Nat} {n0 : Nat} {bf : ab_B} : decode (ab_code (zx σ n0 bf).1 1060) 54 = .ok (.lload 5, 2) := zd zm_1060 (by decide +kernel)
theorem d_1060_56 {σ : Nat → Nat} {n0 : Nat} {bf : ab_B} : decode (ab_code (zx σ n0 bf).1 1060) 56 = .ok (.ldiv, 1) := zd zm_1060 (by decide +kernel)
theorem d_1060_57 {σ : Nat → Nat} {n0 : Nat} {bf : ab_B} : decode (ab_code (zx σ n0 bf).1 1060) 57 = .ok (.ldc2_w 581, 3) := zd zm_1060 (by decide +kernel)
theorem d_1060_60 {σ : Nat → Nat} {n0 : Nat} {bf : ab_B} : decode (ab_code (zx σ n0 bf).1 1060) 60 = .ok (.lrem, 1) := zd zm_1060 (by decide +kernel)
theorem d_1060_61 {σ : Nat → Nat} {n0 : Nat} {bf : ab_B} : decode (ab_code (zx σ n0 bf).1 1060) 61 = .ok (.ladd, 1) := zd zm_1060 (by decide +kernel)
theorem d_1060_62 {σ : Nat → Nat} {n0 : Nat} {bf : ab_B} : decode (ab_code (zx σ n0 bf).1 1060) 62 = .ok (.l2i, 1) := zd zm_1060 (by decide +kernel)
theorem d_1060_63 {σ : Nat → Nat} {n0 : Nat} {bf : ab_B} : decode (ab_code (zx σ n0 bf).1 1060) 63 = .ok (.invokevirtual 502, 3) := zd zm_1060 (by decide +kernel)
theorem d_1060_66 {σ : Nat → Nat} {n0 : Nat} {bf : ab_B} : decode (ab_code (zx σ n0 bf).1 1060) 66 = .ok (.lload 5, 2) := zd zm_1060 (by decide +kernel)
theorem d_1060_68 {σ : Nat → Nat} {n0 : Nat} {bf : ab_B} : decode (ab_code (zx σ n0 bf).1 1060) 68 = .ok (.ldc2_w 581, 3) := zd zm_1060 (by decide +kernel)
theorem d_1060_71 {σ : Nat → Nat} {n0 : Nat} {bf : ab_B} : decode (ab_code (zx σ n0 bf).1 1060) 71 = .ok (.ldiv, 1) := zd zm_1060 (by decide +kernel)
theorem d_1060_72 {σ : Nat → Nat} {n0 : Nat} {bf : ab_B} : decode (ab_code (zx σ n0 bf).1 1060) 72 = .ok (.lstore 5, 2) := zd zm_1060 (by decide +kernel)
theorem d_1060_74 {σ : Nat → Nat} {n0 : Nat} {bf : ab_B} : decode (ab_code (zx σ n0 bf).1 1060) 74 = .ok (.goto (-32), 3) := zd zm_1060 (by decide +kernel)
theorem d_1060_77 {σ : Nat → Nat} {n0 : Nat} {bf : ab_B} : decode (ab_code (zx σ n0 bf).1 1060) 77 = .ok (.return_, 1) := zd zm_1060 (by decide +kernel)
def w_X2_decimal_12 (X : zs_X) (d : Nat) (p0 : Nat) (p1 : Int64) (S : zs_T) (Q : zs_Q) : Prop :=
  (zs_C X d 30004 [.long p1] S (zs_kJ (fun v2 S1 => (zs_U X d 1060 20 [(0, .ref p0), (3, .long v2), (5, .long (1 : Int64))] [] S1 Q)) Q))
theorem u_X2_decimal_12 {σ : Nat → Nat} {n0 : Nat} {bf : ab_B} {d : Nat} {p0 : Nat} {p1 : Int64} {S : zs_T} {Q : zs_Q} (hB : zt_B bf) (h : w_X2_decimal_12 (zx σ n0 bf) d p0 p1 S Q) : zs_U (zx σ n0 bf) d 1060 12 [(0, .ref p0), (1, .long p1)] [] S Q := by
  unfold w_X2_decimal_12 at h
  refine zu_lload_n d_1060_12 rfl ?_
  refine zc_1_446 (x0 := p1) hB rfl d_1060_13 (Nat.le_of_ble_eq_true rfl) h (fun v2 S1 h => ?_)
  refine zu_lstore_n d_1060_16 (zs_lt zq_1060 rfl) ?_
  refine zu_lconst (v := 1) d_1060_17 rfl ?_
  refine zu_lstore d_1060_18 (zs_lt zq_1060 rfl) ?_
  exact h.weak ⟨rfl, rfl, rfl, trivial⟩
def w_X2_decimal_20 (X : zs_X) (d : Nat) (p0 : Nat) (p3 : Int64) (p5 : Int64) (S : zs_T) (Q : zs_Q) : Prop :=
  (¬ p5 = 0 ∧ (((p3 / p5) ≤ (9 : Int64) → zs_U X d 1060 42 [(0, .ref p0), (3, .long p3), (5, .long p5)] [] S Q) ∧ (¬ ((p3 / p5) ≤ (9 : Int64)) → (zs_U X d 1060 20 [(0, .ref p0), (3, .long p3), (5, .long (p5 * (10 : Int64)))] [] S Q))))
theorem u_X2_decimal_20 {σ : Nat → Nat} {n0 : Nat} {bf : ab_B} {d : Nat} {p0 : Nat} {p3 : Int64} {p5 : Int64} {S : zs_T} {Q : zs_Q} (hB : zt_B bf) (h : w_X2_decimal_20 (zx σ n0 bf) d p0 p3 p5 S Q) : zs_U (zx σ n0 bf) d 1060 20 [(0, .ref p0), (3, .long p3), (5, .long p5)] [] S Q := by
  unfold w_X2_decimal_20 at h
  refine zu_lload_n d_1060_20 rfl ?_
  refine zu_lload d_1060_21 rfl ?_
  obtain ⟨k1, h⟩ := h
  refine zu_ldiv d_1060_23 k1 ?_
  refine zl2_1_579 rfl d_1060_24 ?_
  refine zu_lle (t := 42) d_1060_27 d_1060_28 rfl (fun c2 => ?_) (fun c2 => ?_)
  · have h := h.1 c2
    exact h.weak ⟨rfl, rfl, rfl, trivial⟩
  · have h := h.2 c2
    refine zu_lload d_1060_31 rfl ?_
    refine zl2_1_581 rfl d_1060_33 ?_
    refine zu_stk d_1060_36 rfl rfl ?_
    refine zu_lstore d_1060_37 (zs_lt zq_1060 rfl) ?_
    refine zu_goto (t := 20) d_1060_39 rfl ?_
    exact h.weak ⟨rfl, rfl, rfl, trivial⟩
def w_X2_decimal_74 (X : zs_X) (d : Nat) (p0 : Nat) (p3 : Int64) (p5 : Int64) (S : zs_T) (Q : zs_Q) : Prop :=
  (zs_U X d 1060 42 [(0, .ref p0), (3, .long p3), (5, .long p5)] [] S Q)
theorem u_X2_decimal_74 {σ : Nat → Nat} {n0 : Nat} {bf : ab_B} {d : Nat} {p0 : Nat} {p3 : Int64} {p5 : Int64} {S : zs_T} {Q : zs_Q} (hB : zt_B bf) (h : w_X2_decimal_74 (zx σ n0 bf) d p0 p3 p5 S Q) : zs_U (zx σ n0 bf) d 1060 74 [(0, .ref p0), (3, .long p3), (5, .long p5)] [] S Q := by
  unfold w_X2_decimal_74 at h
  refine zu_goto (t := 42) d_1060_74 rfl ?_
  exact h.weak ⟨rfl, rfl, rfl, trivial⟩
def w_X2_decimal_42 (X : zs_X) (d : Nat) (p0 : Nat) (p3 : Int64) (p5 : Int64) (S : zs_T) (Q : zs_Q) : Prop :=
  (((p5 ≤ (0 : Int64) → (Q (.returned none) S)) ∧ (¬ (p5 ≤ (0 : Int64)) → (¬ p5 = 0 ∧ zs_K S p0 = some (.inl 1) ∧ zs_C X d 1058 [.ref p0, .int ((((48 : Int64) + ((p3 / p5) - (p3 / p5) / (10 : Int64) * (10 : Int64)))).toInt32)] S (zs_kV (fun S4 => (w_X2_decimal_74 X d p0 p3 (p5 / (10 : Int64)) S4 Q)) Q)))))
theorem u_X2_decimal_42 {σ : Nat → Nat} {n0 : Nat} {bf : ab_B} {d : Nat} {p0 : Nat} {p3 : Int64} {p5 : Int64} {S : zs_T} {Q : zs_Q} (hB : zt_B bf) (h : w_X2_decimal_42 (zx σ n0 bf) d p0 p3 p5 S Q) : zs_U (zx σ n0 bf) d 1060 42 [(0, .ref p0), (3, .long p3), (5, .long p5)] [] S Q := by
  unfold w_X2_decimal_42 at h
  refine zu_lload d_1060_42 rfl ?_
  refine zu_lconst (v := 0) d_1060_44 rfl ?_
  refine zu_lle (t := 77) d_1060_45 d_1060_46 rfl (fun c1 => ?_) (fun c1 => ?_)
  · have h := h.1 c1
    exact zu_vret d_1060_77 zr_1060 h
  · have h := h.2 c1
    refine zu_aload_n d_1060_49 rfl (zs_ra _) ?_
    refine zl2_1_583 rfl d_1060_50 ?_
    refine zu_lload_n d_1060_53 rfl ?_
    refine zu_lload d_1060_54 rfl ?_
    obtain ⟨k2, h⟩ := h
    refine zu_ldiv d_1060_56 k2 ?_
    refine zl2_1_581 rfl d_1060_57 ?_
    refine zu_lrem d_1060_60 (by decide) ?_
    refine zu_stk d_1060_61 rfl rfl ?_
    refine zu_stk d_1060_62 rfl rfl ?_
    obtain ⟨k3, h⟩ := h
    refine zc_1_502 (x0 := ((((48 : Int64) + ((p3 / p5) - (p3 / p5) / (10 : Int64) * (10 : Int64)))).toInt32)) hB rfl k3 d_1060_63 (Nat.le_of_ble_eq_true rfl) h (fun S4 h => ?_)
    refine zu_lload d_1060_66 rfl ?_
    refine zl2_1_581 rfl d_1060_68 ?_
    refine zu_ldiv d_1060_71 (by decide) ?_
    refine zu_lstore d_1060_72 (zs_lt zq_1060 rfl) ?_
    exact (u_X2_decimal_74 hB h).weak ⟨rfl, rfl, rfl, trivial⟩
def w_X2_decimal (X : zs_X) (d : Nat) (p0 : Nat) (p1 : Int64) (S : zs_T) (Q : zs_Q) : Prop :=
  ((((0 : Int64) ≤ p1 → w_X2_decimal_12 X d p0 p1 S Q) ∧ (¬ ((0 : Int64) ≤ p1) → (zs_K S p0 = some (.inl 1) ∧ zs_C X d 1058 [.ref p0, .int (45 : Int32)] S (zs_kV (fun S3 => w_X2_decimal_12 X d p0 p1 S3 Q) Q)))))
theorem u_X2_decimal {σ : Nat → Nat} {n0 : Nat} {bf : ab_B} {d : Nat} {p0 : Nat} {p1 : Int64} {S : zs_T} {Q : zs_Q} (hB : zt_B bf) (hd : 1 ≤ d) (h : w_X2_decimal (zx σ n0 bf) (d - 1) p0 p1 S Q) : zs_C (zx σ n0 bf) d 1060 [.ref p0, .long p1] S Q := by
  have hL : lv_args 0 [.ref p0, .long p1] = [(0, .ref p0), (1, .long p1)] := rfl
  refine zs_C.of1 (hB.2 1060 (by decide) (by decide)) hd (by rw [hL]; exact zs_sub_self _ (by exact ⟨rfl, rfl, trivial⟩)) ?_
  rw [hL]
  clear hL
  unfold w_X2_decimal at h
  refine zu_lload_n d_1060_0 rfl ?_
  refine zu_lconst (v := 0) d_1060_1 rfl ?_
  refine zu_lge (t := 12) d_1060_2 d_1060_3 rfl (fun c1 => ?_) (fun c1 => ?_)
  · have h := h.1 c1
    exact (u_X2_decimal_12 hB h).weak ⟨rfl, rfl, trivial⟩
  · have h := h.2 c1
    refine zu_aload_n d_1060_6 rfl (zs_ra _) ?_
    refine zu_bipush d_1060_7 zj_45 ?_
    obtain ⟨k2, h⟩ := h
    refine zc_1_502 (x0 := (45 : Int32)) hB rfl k2 d_1060_9 (Nat.le_of_ble_eq_true rfl) h (fun S3 h => ?_)
    exact (u_X2_decimal_12 hB h).weak ⟨rfl, rfl, trivial⟩
