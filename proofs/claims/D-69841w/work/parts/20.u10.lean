/-! printed by gen_all.py: what the methods compute -/
set_option maxRecDepth 100000
/-! SchemaPascal$Reader.routineOf(LSchemaPascal$Routine;)V -/
theorem zm_4090 {σ : Nat → Nat} {n0 : Nat} {bf : ab_B} : ab_code (zx σ n0 bf).1 4090 = prog_9_method_121_code := rfl
theorem zq_4090 {σ : Nat → Nat} {n0 : Nat} {bf : ab_B} : ab_maxL (zx σ n0 bf).1 4090 = 8 := rfl
theorem zr_4090 {σ : Nat → Nat} {n0 : Nat} {bf : ab_B} : ab_ret (zx σ n0 bf).1 4090 = (Option.none : Option Jvm.ClassFile.FieldType) := rfl
theorem d_4090_0 {σ : Nat → Nat} {n0 : Nat} {bf : ab_B} : decode (ab_code (zx σ n0 bf).1 4090) 0 = .ok (.aload_n 0, 1) := zd zm_4090 (by decide +kernel)
theorem d_4090_1 {σ : Nat → Nat} {n0 : Nat} {bf : ab_B} : decode (ab_code (zx σ n0 bf).1 4090) 1 = .ok (.invokevirtual 357, 3) := zd zm_4090 (by decide +kernel)
theorem d_4090_4 {σ : Nat → Nat} {n0 : Nat} {bf : ab_B} : decode (ab_code (zx σ n0 bf).1 4090) 4 = .ok (.aload_n 0, 1) := zd zm_4090 (by decide +kernel)
theorem d_4090_5 {σ : Nat → Nat} {n0 : Nat} {bf : ab_B} : decode (ab_code (zx σ n0 bf).1 4090) 5 = .ok (.getfield 5, 3) := zd zm_4090 (by decide +kernel)
theorem d_4090_8 {σ : Nat → Nat} {n0 : Nat} {bf : ab_B} : decode (ab_code (zx σ n0 bf).1 4090) 8 = .ok (.iconst 5, 1) := zd zm_4090 (by decide +kernel)
theorem d_4090_9 {σ : Nat → Nat} {n0 : Nat} {bf : ab_B} : decode (ab_code (zx σ n0 bf).1 4090) 9 = .ok (.invokevirtual 33, 3) := zd zm_4090 (by decide +kernel)
theorem d_4090_12 {σ : Nat → Nat} {n0 : Nat} {bf : ab_B} : decode (ab_code (zx σ n0 bf).1 4090) 12 = .ok (.istore_n 2, 1) := zd zm_4090 (by decide +kernel)
theorem d_4090_13 {σ : Nat → Nat} {n0 : Nat} {bf : ab_B} : decode (ab_code (zx σ n0 bf).1 4090) 13 = .ok (.aload_n 0, 1) := zd zm_4090 (by decide +kernel)
theorem d_4090_14 {σ : Nat → Nat} {n0 : Nat} {bf : ab_B} : decode (ab_code (zx σ n0 bf).1 4090) 14 = .ok (.getfield 5, 3) := zd zm_4090 (by decide +kernel)
theorem d_4090_17 {σ : Nat → Nat} {n0 : Nat} {bf : ab_B} : decode (ab_code (zx σ n0 bf).1 4090) 17 = .ok (.invokevirtual 29, 3) := zd zm_4090 (by decide +kernel)
theorem d_4090_20 {σ : Nat → Nat} {n0 : Nat} {bf : ab_B} : decode (ab_code (zx σ n0 bf).1 4090) 20 = .ok (.aload_n 0, 1) := zd zm_4090 (by decide +kernel)
theorem d_4090_21 {σ : Nat → Nat} {n0 : Nat} {bf : ab_B} : decode (ab_code (zx σ n0 bf).1 4090) 21 = .ok (.getfield 5, 3) := zd zm_4090 (by decide +kernel)
theorem d_4090_24 {σ : Nat → Nat} {n0 : Nat} {bf : ab_B} : decode (ab_code (zx σ n0 bf).1 4090) 24 = .ok (.invokevirtual 36, 3) := zd zm_4090 (by decide +kernel)
theorem d_4090_27 {σ : Nat → Nat} {n0 : Nat} {bf : ab_B} : decode (ab_code (zx σ n0 bf).1 4090) 27 = .ok (.ifCond .ne 9, 3) := zd zm_4090 (by decide +kernel)
theorem d_4090_30 {σ : Nat → Nat} {n0 : Nat} {bf : ab_B} : decode (ab_code (zx σ n0 bf).1 4090) 30 = .ok (.aload_n 0, 1) := zd zm_4090 (by decide +kernel)
theorem d_4090_31 {σ : Nat → Nat} {n0 : Nat} {bf : ab_B} : decode (ab_code (zx σ n0 bf).1 4090) 31 = .ok (.iconst 2, 1) := zd zm_4090 (by decide +kernel)
theorem d_4090_32 {σ : Nat → Nat} {n0 : Nat} {bf : ab_B} : decode (ab_code (zx σ n0 bf).1 4090) 32 = .ok (.invokevirtual 25, 3) := zd zm_4090 (by decide +kernel)
theorem d_4090_35 {σ : Nat → Nat} {n0 : Nat} {bf : ab_B} : decode (ab_code (zx σ n0 bf).1 4090) 35 = .ok (.athrow, 1) := zd zm_4090 (by decide +kernel)
theorem d_4090_36 {σ : Nat → Nat} {n0 : Nat} {bf : ab_B} : decode (ab_code (zx σ n0 bf).1 4090) 36 = .ok (.aload_n 0, 1) := zd zm_4090 (by decide +kernel)
theorem d_4090_37 {σ : Nat → Nat} {n0 : Nat} {bf : ab_B} : decode (ab_code (zx σ n0 bf).1 4090) 37 = .ok (.aload_n 0, 1) := zd zm_4090 (by decide +kernel)
theorem d_4090_38 {σ : Nat → Nat} {n0 : Nat} {bf : ab_B} : decode (ab_code (zx σ n0 bf).1 4090) 38 = .ok (.getfield 5, 3) := zd zm_4090 (by decide +kernel)
theorem d_4090_41 {σ : Nat → Nat} {n0 : Nat} {bf : ab_B} : decode (ab_code (zx σ n0 bf).1 4090) 41 = .ok (.getfield 40, 3) := zd zm_4090 (by decide +kernel)
theorem d_4090_44 {σ : Nat → Nat} {n0 : Nat} {bf : ab_B} : decode (ab_code (zx σ n0 bf).1 4090) 44 = .ok (.invokevirtual 118, 3) := zd zm_4090 (by decide +kernel)
theorem d_4090_47 {σ : Nat → Nat} {n0 : Nat} {bf : ab_B} : decode (ab_code (zx σ n0 bf).1 4090) 47 = .ok (.astore_n 3, 1) := zd zm_4090 (by decide +kernel)
theorem d_4090_48 {σ : Nat → Nat} {n0 : Nat} {bf : ab_B} : decode (ab_code (zx σ n0 bf).1 4090) 48 = .ok (.aload_n 3, 1) := zd zm_4090 (by decide +kernel)
theorem d_4090_49 {σ : Nat → Nat} {n0 : Nat} {bf : ab_B} : decode (ab_code (zx σ n0 bf).1 4090) 49 = .ok (.ifnull 44, 3) := zd zm_4090 (by decide +kernel)
theorem d_4090_52 {σ : Nat → Nat} {n0 : Nat} {bf : ab_B} : decode (ab_code (zx σ n0 bf).1 4090) 52 = .ok (.aload_n 3, 1) := zd zm_4090 (by decide +kernel)
theorem d_4090_53 {σ : Nat → Nat} {n0 : Nat} {bf : ab_B} : decode (ab_code (zx σ n0 bf).1 4090) 53 = .ok (.getfield 62, 3) := zd zm_4090 (by decide +kernel)
theorem d_4090_56 {σ : Nat → Nat} {n0 : Nat} {bf : ab_B} : decode (ab_code (zx σ n0 bf).1 4090) 56 = .ok (.iconst 3, 1) := zd zm_4090 (by decide +kernel)
theorem d_4090_57 {σ : Nat → Nat} {n0 : Nat} {bf : ab_B} : decode (ab_code (zx σ n0 bf).1 4090) 57 = .ok (.if_icmp .ne 36, 3) := zd zm_4090 (by decide +kernel)
theorem d_4090_60 {σ : Nat → Nat} {n0 : Nat} {bf : ab_B} : decode (ab_code (zx σ n0 bf).1 4090) 60 = .ok (.aload_n 3, 1) := zd zm_4090 (by decide +kernel)
theorem d_4090_61 {σ : Nat → Nat} {n0 : Nat} {bf : ab_B} : decode (ab_code (zx σ n0 bf).1 4090) 61 = .ok (.getfield 243, 3) := zd zm_4090 (by decide +kernel)
theorem d_4090_64 {σ : Nat → Nat} {n0 : Nat} {bf : ab_B} : decode (ab_code (zx σ n0 bf).1 4090) 64 = .ok (.getfield 244, 3) := zd zm_4090 (by decide +kernel)
theorem d_4090_67 {σ : Nat → Nat} {n0 : Nat} {bf : ab_B} : decode (ab_code (zx σ n0 bf).1 4090) 67 = .ok (.ifCond .eq 26, 3) := zd zm_4090 (by decide +kernel)
theorem d_4090_70 {σ : Nat → Nat} {n0 : Nat} {bf : ab_B} : decode (ab_code (zx σ n0 bf).1 4090) 70 = .ok (.aload_n 3, 1) := zd zm_4090 (by decide +kernel)
theorem d_4090_71 {σ : Nat → Nat} {n0 : Nat} {bf : ab_B} : decode (ab_code (zx σ n0 bf).1 4090) 71 = .ok (.getfield 243, 3) := zd zm_4090 (by decide +kernel)
theorem d_4090_74 {σ : Nat → Nat} {n0 : Nat} {bf : ab_B} : decode (ab_code (zx σ n0 bf).1 4090) 74 = .ok (.getfield 255, 3) := zd zm_4090 (by decide +kernel)
theorem d_4090_77 {σ : Nat → Nat} {n0 : Nat} {bf : ab_B} : decode (ab_code (zx σ n0 bf).1 4090) 77 = .ok (.ifnull 7, 3) := zd zm_4090 (by decide +kernel)
theorem d_4090_80 {σ : Nat → Nat} {n0 : Nat} {bf : ab_B} : decode (ab_code (zx σ n0 bf).1 4090) 80 = .ok (.iconst 1, 1) := zd zm_4090 (by decide +kernel)
theorem d_4090_81 {σ : Nat → Nat} {n0 : Nat} {bf : ab_B} : decode (ab_code (zx σ n0 bf).1 4090) 81 = .ok (.goto 4, 3) := zd zm_4090 (by decide +kernel)
theorem d_4090_84 {σ : Nat → Nat} {n0 : Nat} {bf : ab_B} : decode (ab_code (zx σ n0 bf).1 4090) 84 = .ok (.iconst 0, 1) := zd zm_4090 (by decide +kernel)
theorem d_4090_85 {σ : Nat → Nat} {n0 : Nat} {bf : ab_B} : decode (ab_code (zx σ n0 bf).1 4090) 85 = .ok (.iload_n 2, 1) := zd zm_4090 (by decide +kernel)
theorem d_4090_86 {σ : Nat → Nat} {n0 : Nat} {bf : ab_B} : decode (ab_code (zx σ n0 bf).1 4090) 86 = .ok (.if_icmp .ne 7, 3) := zd zm_4090 (by decide +kernel)
theorem d_4090_89 {σ : Nat → Nat} {n0 : Nat} {bf : ab_B} : decode (ab_code (zx σ n0 bf).1 4090) 89 = .ok (.iconst 1, 1) := zd zm_4090 (by decide +kernel)
theorem d_4090_90 {σ : Nat → Nat} {n0 : Nat} {bf : ab_B} : decode (ab_code (zx σ n0 bf).1 4090) 90 = .ok (.goto 4, 3) := zd zm_4090 (by decide +kernel)
theorem d_4090_93 {σ : Nat → Nat} {n0 : Nat} {bf : ab_B} : decode (ab_code (zx σ n0 bf).1 4090) 93 = .ok (.iconst 0, 1) := zd zm_4090 (by decide +kernel)
theorem d_4090_94 {σ : Nat → Nat} {n0 : Nat} {bf : ab_B} : decode (ab_code (zx σ n0 bf).1 4090) 94 = .ok (.istore 4, 2) := zd zm_4090 (by decide +kernel)
theorem d_4090_96 {σ : Nat → Nat} {n0 : Nat} {bf : ab_B} : decode (ab_code (zx σ n0 bf).1 4090) 96 = .ok (.aload_n 3, 1) := zd zm_4090 (by decide +kernel)
theorem d_4090_97 {σ : Nat → Nat} {n0 : Nat} {bf : ab_B} : decode (ab_code (zx σ n0 bf).1 4090) 97 = .ok (.ifnull 14, 3) := zd zm_4090 (by decide +kernel)
theorem d_4090_100 {σ : Nat → Nat} {n0 : Nat} {bf : ab_B} : decode (ab_code (zx σ n0 bf).1 4090) 100 = .ok (.iload 4, 2) := zd zm_4090 (by decide +kernel)
theorem d_4090_102 {σ : Nat → Nat} {n0 : Nat} {bf : ab_B} : decode (ab_code (zx σ n0 bf).1 4090) 102 = .ok (.ifCond .ne 9, 3) := zd zm_4090 (by decide +kernel)
theorem d_4090_105 {σ : Nat → Nat} {n0 : Nat} {bf : ab_B} : decode (ab_code (zx σ n0 bf).1 4090) 105 = .ok (.aload_n 0, 1) := zd zm_4090 (by decide +kernel)
theorem d_4090_106 {σ : Nat → Nat} {n0 : Nat} {bf : ab_B} : decode (ab_code (zx σ n0 bf).1 4090) 106 = .ok (.iconst 4, 1) := zd zm_4090 (by decide +kernel)
theorem d_4090_107 {σ : Nat → Nat} {n0 : Nat} {bf : ab_B} : decode (ab_code (zx σ n0 bf).1 4090) 107 = .ok (.invokevirtual 25, 3) := zd zm_4090 (by decide +kernel)
theorem d_4090_110 {σ : Nat → Nat} {n0 : Nat} {bf : ab_B} : decode (ab_code (zx σ n0 bf).1 4090) 110 = .ok (.athrow, 1) := zd zm_4090 (by decide +kernel)
theorem d_4090_111 {σ : Nat → Nat} {n0 : Nat} {bf : ab_B} : decode (ab_code (zx σ n0 bf).1 4090) 111 = .ok (.aload_n 0, 1) := zd zm_4090 (by decide +kernel)
theorem d_4090_112 {σ : Nat → Nat} {n0 : Nat} {bf : ab_B} : decode (ab_code (zx σ n0 bf).1 4090) 112 = .ok (.getfield 5, 3) := zd zm_4090 (by decide +kernel)
theorem d_4090_115 {σ : Nat → Nat} {n0 : Nat} {bf : ab_B} : decode (ab_code (zx σ n0 bf).1 4090) 115 = .ok (.getfield 11, 3) := zd zm_4090 (by decide +kernel)
theorem d_4090_118 {σ : Nat → Nat} {n0 : Nat} {bf : ab_B} : decode (ab_code (zx σ n0 bf).1 4090) 118 = .ok (.istore 5, 2) := zd zm_4090 (by decide +kernel)
theorem d_4090_120 {σ : Nat → Nat} {n0 : Nat} {bf : ab_B} : decode (ab_code (zx σ n0 bf).1 4090) 120 = .ok (.aload_n 0, 1) := zd zm_4090 (by decide +kernel)
theorem d_4090_121 {σ : Nat → Nat} {n0 : Nat} {bf : ab_B} : decode (ab_code (zx σ n0 bf).1 4090) 121 = .ok (.getfield 5, 3) := zd zm_4090 (by decide +kernel)
theorem d_4090_124 {σ : Nat → Nat} {n0 : Nat} {bf : ab_B} : decode (ab_code (zx σ n0 bf).1 4090) 124 = .ok (.getfield 40, 3) := zd zm_4090 (by decide +kernel)
theorem d_4090_127 {σ : Nat → Nat} {n0 : Nat} {bf : ab_B} : decode (ab_code (zx σ n0 bf).1 4090) 127 = .ok (.istore 6, 2) := zd zm_4090 (by decide +kernel)
theorem d_4090_129 {σ : Nat → Nat} {n0 : Nat} {bf : ab_B} : decode (ab_code (zx σ n0 bf).1 4090) 129 = .ok (.aload_n 0, 1) := zd zm_4090 (by decide +kernel)
theorem d_4090_130 {σ : Nat → Nat} {n0 : Nat} {bf : ab_B} : decode (ab_code (zx σ n0 bf).1 4090) 130 = .ok (.getfield 5, 3) := zd zm_4090 (by decide +kernel)
theorem d_4090_133 {σ : Nat → Nat} {n0 : Nat} {bf : ab_B} : decode (ab_code (zx σ n0 bf).1 4090) 133 = .ok (.invokevirtual 29, 3) := zd zm_4090 (by decide +kernel)
theorem d_4090_136 {σ : Nat → Nat} {n0 : Nat} {bf : ab_B} : decode (ab_code (zx σ n0 bf).1 4090) 136 = .ok (.iload 4, 2) := zd zm_4090 (by decide +kernel)
theorem d_4090_138 {σ : Nat → Nat} {n0 : Nat} {bf : ab_B} : decode (ab_code (zx σ n0 bf).1 4090) 138 = .ok (.ifCond .eq 10, 3) := zd zm_4090 (by decide +kernel)
theorem d_4090_141 {σ : Nat → Nat} {n0 : Nat} {bf : ab_B} : decode (ab_code (zx σ n0 bf).1 4090) 141 = .ok (.aload_n 3, 1) := zd zm_4090 (by decide +kernel)
theorem d_4090_142 {σ : Nat → Nat} {n0 : Nat} {bf : ab_B} : decode (ab_code (zx σ n0 bf).1 4090) 142 = .ok (.getfield 243, 3) := zd zm_4090 (by decide +kernel)
theorem d_4090_145 {σ : Nat → Nat} {n0 : Nat} {bf : ab_B} : decode (ab_code (zx σ n0 bf).1 4090) 145 = .ok (.goto 13, 3) := zd zm_4090 (by decide +kernel)
theorem d_4090_148 {σ : Nat → Nat} {n0 : Nat} {bf : ab_B} : decode (ab_code (zx σ n0 bf).1 4090) 148 = .ok (.aload_n 0, 1) := zd zm_4090 (by decide +kernel)
theorem d_4090_149 {σ : Nat → Nat} {n0 : Nat} {bf : ab_B} : decode (ab_code (zx σ n0 bf).1 4090) 149 = .ok (.iload 6, 2) := zd zm_4090 (by decide +kernel)
theorem d_4090_151 {σ : Nat → Nat} {n0 : Nat} {bf : ab_B} : decode (ab_code (zx σ n0 bf).1 4090) 151 = .ok (.iload 5, 2) := zd zm_4090 (by decide +kernel)
theorem d_4090_153 {σ : Nat → Nat} {n0 : Nat} {bf : ab_B} : decode (ab_code (zx σ n0 bf).1 4090) 153 = .ok (.iload_n 2, 1) := zd zm_4090 (by decide +kernel)
theorem d_4090_154 {σ : Nat → Nat} {n0 : Nat} {bf : ab_B} : decode (ab_code (zx σ n0 bf).1 4090) 154 = .ok (.aload_n 1, 1) := zd zm_4090 (by decide +kernel)
theorem d_4090_155 {σ : Nat → Nat} {n0 : Nat} {bf : ab_B} : decode (ab_code (zx σ n0 bf).1 4090) 155 = .ok (.invokevirtual 810, 3) := zd zm_4090 (by decide +kernel)
theorem d_4090_158 {σ : Nat → Nat} {n0 : Nat} {bf : ab_B} : decode (ab_code (zx σ n0 bf).1 4090) 158 = .ok (.astore 7, 2) := zd zm_4090 (by decide +kernel)
theorem d_4090_160 {σ : Nat → Nat} {n0 : Nat} {bf : ab_B} : decode (ab_code (zx σ n0 bf).1 4090) 160 = .ok (.aload_n 0, 1) := zd zm_4090 (by decide +kernel)
theorem d_4090_161 {σ : Nat → Nat} {n0 : Nat} {bf : ab_B} : decode (ab_code (zx σ n0 bf).1 4090) 161 = .ok (.bipush 59, 2) := zd zm_4090 (by decide +kernel)
theorem d_4090_163 {σ : Nat → Nat} {n0 : Nat} {bf : ab_B} : decode (ab_code (zx σ n0 bf).1 4090) 163 = .ok (.invokevirtual 224, 3) := zd zm_4090 (by decide +kernel)
theorem d_4090_166 {σ : Nat → Nat} {n0 : Nat} {bf : ab_B} : decode (ab_code (zx σ n0 bf).1 4090) 166 = .ok (.iload 4, 2) := zd zm_4090 (by decide +kernel)
theorem d_4090_168 {σ : Nat → Nat} {n0 : Nat} {bf : ab_B} : decode (ab_code (zx σ n0 bf).1 4090) 168 = .ok (.ifCond .ne 31, 3) := zd zm_4090 (by decide +kernel)
theorem d_4090_171 {σ : Nat → Nat} {n0 : Nat} {bf : ab_B} : decode (ab_code (zx σ n0 bf).1 4090) 171 = .ok (.aload_n 0, 1) := zd zm_4090 (by decide +kernel)
theorem d_4090_172 {σ : Nat → Nat} {n0 : Nat} {bf : ab_B} : decode (ab_code (zx σ n0 bf).1 4090) 172 = .ok (.getfield 5, 3) := zd zm_4090 (by decide +kernel)
theorem d_4090_175 {σ : Nat → Nat} {n0 : Nat} {bf : ab_B} : decode (ab_code (zx σ n0 bf).1 4090) 175 = .ok (.bipush 6, 2) := zd zm_4090 (by decide +kernel)
theorem d_4090_177 {σ : Nat → Nat} {n0 : Nat} {bf : ab_B} : decode (ab_code (zx σ n0 bf).1 4090) 177 = .ok (.invokevirtual 33, 3) := zd zm_4090 (by decide +kernel)
theorem d_4090_180 {σ : Nat → Nat} {n0 : Nat} {bf : ab_B} : decode (ab_code (zx σ n0 bf).1 4090) 180 = .ok (.ifCond .eq 19, 3) := zd zm_4090 (by decide +kernel)
theorem d_4090_183 {σ : Nat → Nat} {n0 : Nat} {bf : ab_B} : decode (ab_code (zx σ n0 bf).1 4090) 183 = .ok (.aload_n 0, 1) := zd zm_4090 (by decide +kernel)
theorem d_4090_184 {σ : Nat → Nat} {n0 : Nat} {bf : ab_B} : decode (ab_code (zx σ n0 bf).1 4090) 184 = .ok (.getfield 5, 3) := zd zm_4090 (by decide +kernel)
theorem d_4090_187 {σ : Nat → Nat} {n0 : Nat} {bf : ab_B} : decode (ab_code (zx σ n0 bf).1 4090) 187 = .ok (.invokevirtual 29, 3) := zd zm_4090 (by decide +kernel)
theorem d_4090_190 {σ : Nat → Nat} {n0 : Nat} {bf : ab_B} : decode (ab_code (zx σ n0 bf).1 4090) 190 = .ok (.aload 7, 2) := zd zm_4090 (by decide +kernel)
theorem d_4090_192 {σ : Nat → Nat} {n0 : Nat} {bf : ab_B} : decode (ab_code (zx σ n0 bf).1 4090) 192 = .ok (.iconst 1, 1) := zd zm_4090 (by decide +kernel)
theorem d_4090_193 {σ : Nat → Nat} {n0 : Nat} {bf : ab_B} : decode (ab_code (zx σ n0 bf).1 4090) 193 = .ok (.putfield 244, 3) := zd zm_4090 (by decide +kernel)
theorem d_4090_196 {σ : Nat → Nat} {n0 : Nat} {bf : ab_B} : decode (ab_code (zx σ n0 bf).1 4090) 196 = .ok (.goto 15, 3) := zd zm_4090 (by decide +kernel)
theorem d_4090_199 {σ : Nat → Nat} {n0 : Nat} {bf : ab_B} : decode (ab_code (zx σ n0 bf).1 4090) 199 = .ok (.aload 7, 2) := zd zm_4090 (by decide +kernel)
theorem d_4090_201 {σ : Nat → Nat} {n0 : Nat} {bf : ab_B} : decode (ab_code (zx σ n0 bf).1 4090) 201 = .ok (.iconst 0, 1) := zd zm_4090 (by decide +kernel)
theorem d_4090_202 {σ : Nat → Nat} {n0 : Nat} {bf : ab_B} : decode (ab_code (zx σ n0 bf).1 4090) 202 = .ok (.putfield 244, 3) := zd zm_4090 (by decide +kernel)
theorem d_4090_205 {σ : Nat → Nat} {n0 : Nat} {bf : ab_B} : decode (ab_code (zx σ n0 bf).1 4090) 205 = .ok (.aload_n 0, 1) := zd zm_4090 (by decide +kernel)
theorem d_4090_206 {σ : Nat → Nat} {n0 : Nat} {bf : ab_B} : decode (ab_code (zx σ n0 bf).1 4090) 206 = .ok (.aload 7, 2) := zd zm_4090 (by decide +kernel)
theorem d_4090_208 {σ : Nat → Nat} {n0 : Nat} {bf : ab_B} : decode (ab_code (zx σ n0 bf).1 4090) 208 = .ok (.invokevirtual 814, 3) := zd zm_4090 (by decide +kernel)
theorem d_4090_211 {σ : Nat → Nat} {n0 : Nat} {bf : ab_B} : decode (ab_code (zx σ n0 bf).1 4090) 211 = .ok (.aload_n 0, 1) := zd zm_4090 (by decide +kernel)
theorem d_4090_212 {σ : Nat → Nat} {n0 : Nat} {bf : ab_B} : decode (ab_code (zx σ n0 bf).1 4090) 212 = .ok (.bipush 59, 2) := zd zm_4090 (by decide +kernel)
theorem d_4090_214 {σ : Nat → Nat} {n0 : Nat} {bf : ab_B} : decode (ab_code (zx σ n0 bf).1 4090) 214 = .ok (.invokevirtual 224, 3) := zd zm_4090 (by decide +kernel)
theorem d_4090_217 {σ : Nat → Nat} {n0 : Nat} {bf : ab_B} : decode (ab_code (zx σ n0 bf).1 4090) 217 = .ok (.aload_n 0, 1) := zd zm_4090 (by decide +kernel)
theorem d_4090_218 {σ : Nat → Nat} {n0 : Nat} {bf : ab_B} : decode (ab_code (zx σ n0 bf).1 4090) 218 = .ok (.dup, 1) := zd zm_4090 (by decide +kernel)
theorem d_4090_219 {σ : Nat → Nat} {n0 : Nat} {bf : ab_B} : decode (ab_code (zx σ n0 bf).1 4090) 219 = .ok (.getfield 43, 3) := zd zm_4090 (by decide +kernel)
theorem d_4090_222 {σ : Nat → Nat} {n0 : Nat} {bf : ab_B} : decode (ab_code (zx σ n0 bf).1 4090) 222 = .ok (.iconst 1, 1) := zd zm_4090 (by decide +kernel)
theorem d_4090_223 {σ : Nat → Nat} {n0 : Nat} {bf : ab_B} : decode (ab_code (zx σ n0 bf).1 4090) 223 = .ok (.isub, 1) := zd zm_4090 (by decide +kernel)
theorem d_4090_224 {σ : Nat → Nat} {n0 : Nat} {bf : ab_B} : decode (ab_code (zx σ n0 bf).1 4090) 224 = .ok (.putfield 43, 3) := zd zm_4090 (by decide +kernel)
theorem d_4090_227 {σ : Nat → Nat} {n0 : Nat} {bf : ab_B} : decode (ab_code (zx σ n0 bf).1 4090) 227 = .ok (.return_, 1) := zd zm_4090 (by decide +kernel)
def w_X5_routineOf_211 (X : zs_X) (d : Nat) (p0 : Nat) (S : zs_T) (Q : zs_Q) : Prop :=
  (zs_K S p0 = some (.inl 4) ∧ zs_C X d 4008 [.ref p0, .int (59 : Int32)] S (zs_kV (fun S2 => (zs_K S2 p0 = some (.inl 4) ∧ ab_n0 X.1 ≤ p0 ∧ ∀ S6, S6 = zs_sI S2 4011 p0 ((zs_I S2 4011 p0) - (1 : Int32)) → Q (.returned none) S6)) Q))
theorem u_X5_routineOf_211 {σ : Nat → Nat} {n0 : Nat} {bf : ab_B} {d : Nat} {p0 : Nat} {S : zs_T} {Q : zs_Q} (hB : zt_B bf) (h : w_X5_routineOf_211 (zx σ n0 bf) d p0 S Q) : zs_U (zx σ n0 bf) d 4090 211 [(0, .ref p0)] [] S Q := by
  unfold w_X5_routineOf_211 at h
  refine zu_aload_n d_4090_211 rfl (zs_ra _) ?_
  refine zu_bipush d_4090_212 zj_59 ?_
  obtain ⟨k1, h⟩ := h
  refine zc_4_224 (x0 := (59 : Int32)) hB rfl k1 d_4090_214 (Nat.le_of_ble_eq_true rfl) h (fun S2 h => ?_)
  refine zu_aload_n d_4090_217 rfl (zs_ra _) ?_
  refine zu_dup d_4090_218 rfl ?_
  obtain ⟨k4, h⟩ := h
  refine zg_4_43 rfl d_4090_219 k4 ?_
  refine zu_iconst d_4090_222 zi_1 ?_
  refine zu_stk d_4090_223 rfl rfl ?_
  obtain ⟨k5, h⟩ := h
  refine zp_4_43 (v := ((zs_I S2 4011 p0) - (1 : Int32))) rfl d_4090_224 k4 k5 ?_
  generalize e7 : zs_sI S2 4011 p0 ((zs_I S2 4011 p0) - (1 : Int32)) = S6
  have h := h S6 e7.symm
  have K8 : ∀ b, zs_K S6 b = zs_K S2 b := zs_Kt e7 (zs_KsI _ _ _ _) (fun _ => rfl)
  exact zu_vret d_4090_227 zr_4090 h
def w_X5_routineOf_199 (X : zs_X) (d : Nat) (p0 : Nat) (p7 : Option Nat) (S : zs_T) (Q : zs_Q) : Prop :=
  (∃ b1, p7 = some b1 ∧ zs_K S b1 = some (.inl 10) ∧ ab_n0 X.1 ≤ b1 ∧ ∀ S5, S5 = zs_sI S 10011 b1 (0 : Int32) → zs_K S p0 = some (.inl 4) ∧ zs_C X d 4093 [.ref p0, va_rf p7] S5 (zs_kV (fun S9 => w_X5_routineOf_211 X d p0 S9 Q) Q))
theorem u_X5_routineOf_199 {σ : Nat → Nat} {n0 : Nat} {bf : ab_B} {d : Nat} {p0 : Nat} {p7 : Option Nat} {S : zs_T} {Q : zs_Q} (hB : zt_B bf) (h : w_X5_routineOf_199 (zx σ n0 bf) d p0 p7 S Q) : zs_U (zx σ n0 bf) d 4090 199 [(0, .ref p0), (7, va_rf p7)] [] S Q := by
  unfold w_X5_routineOf_199 at h
  refine zu_aload d_4090_199 rfl (zs_rr _) ?_
  refine zu_iconst d_4090_201 zi_0 ?_
  obtain ⟨b1, e2, h⟩ := h
  refine zs_stk1 (zs_rfe e2) ?_
  obtain ⟨k3, h⟩ := h
  obtain ⟨k4, h⟩ := h
  refine zp_4_244 (v := (0 : Int32)) rfl d_4090_202 k3 k4 (Or.inl rfl) ?_
  generalize e6 : zs_sI S 10011 b1 (0 : Int32) = S5
  have h := h S5 e6.symm
  have K7 : ∀ b, zs_K S5 b = zs_K S b := zs_Kt e6 (zs_KsI _ _ _ _) (fun _ => rfl)
  refine zu_aload_n d_4090_205 rfl (zs_ra _) ?_
  refine zu_aload d_4090_206 rfl (zs_rr _) ?_
  obtain ⟨k8, h⟩ := h
  refine zc_4_814 (x0 := p7) hB rfl ((K7 _).trans k8) d_4090_208 (Nat.le_of_ble_eq_true rfl) h (fun S9 h => ?_)
  exact (u_X5_routineOf_211 hB h).weak ⟨rfl, trivial⟩
def w_X5_routineOf_196 (X : zs_X) (d : Nat) (p0 : Nat) (S : zs_T) (Q : zs_Q) : Prop :=
  (w_X5_routineOf_211 X d p0 S Q)
theorem u_X5_routineOf_196 {σ : Nat → Nat} {n0 : Nat} {bf : ab_B} {d : Nat} {p0 : Nat} {S : zs_T} {Q : zs_Q} (hB : zt_B bf) (h : w_X5_routineOf_196 (zx σ n0 bf) d p0 S Q) : zs_U (zx σ n0 bf) d 4090 196 [(0, .ref p0)] [] S Q := by
  unfold w_X5_routineOf_196 at h
  refine zu_goto (t := 211) d_4090_196 rfl ?_
  exact (u_X5_routineOf_211 hB h).weak ⟨rfl, trivial⟩
def w_X5_routineOf_158 (X : zs_X) (d : Nat) (p0 : Nat) (p4 : Int32) (q0 : Option Nat) (S : zs_T) (Q : zs_Q) : Prop :=
  (zs_K S p0 = some (.inl 4) ∧ zs_C X d 4008 [.ref p0, .int (59 : Int32)] S (zs_kV (fun S2 => (((¬ p4 = 0 → w_X5_routineOf_199 X d p0 q0 S2 Q) ∧ (¬ (¬ p4 = 0) → (zs_K S2 p0 = some (.inl 4) ∧ ∃ b6, (zs_R S2 4000 p0) = some b6 ∧ zs_K S2 b6 = some (.inl 5) ∧ zs_C X d 5015 [.ref b6, .int (6 : Int32)] S2 (zs_kI (fun v10 S9 => (((v10 = 0 → w_X5_routineOf_199 X d p0 q0 S9 Q) ∧ (¬ (v10 = 0) → (zs_K S9 p0 = some (.inl 4) ∧ ∃ b13, (zs_R S9 4000 p0) = some b13 ∧ zs_K S9 b13 = some (.inl 5) ∧ zs_C X d 5004 [.ref b13] S9 (zs_kV (fun S16 => (∃ b18, q0 = some b18 ∧ zs_K S16 b18 = some (.inl 10) ∧ ab_n0 X.1 ≤ b18 ∧ ∀ S22, S22 = zs_sI S16 10011 b18 (1 : Int32) → w_X5_routineOf_196 X d p0 S22 Q)) Q)))))) Q)))))) Q))
theorem u_X5_routineOf_158 {σ : Nat → Nat} {n0 : Nat} {bf : ab_B} {d : Nat} {p0 : Nat} {p4 : Int32} {q0 : Option Nat} {S : zs_T} {Q : zs_Q} (hB : zt_B bf) (h : w_X5_routineOf_158 (zx σ n0 bf) d p0 p4 q0 S Q) : zs_U (zx σ n0 bf) d 4090 158 [(0, .ref p0), (4, .int p4)] [va_rf q0] S Q := by
  unfold w_X5_routineOf_158 at h
  refine zu_astore d_4090_158 (zs_rr _) (zs_lt zq_4090 rfl) ?_
  refine zu_aload_n d_4090_160 rfl (zs_ra _) ?_
  refine zu_bipush d_4090_161 zj_59 ?_
  obtain ⟨k1, h⟩ := h
  refine zc_4_224 (x0 := (59 : Int32)) hB rfl k1 d_4090_163 (Nat.le_of_ble_eq_true rfl) h (fun S2 h => ?_)
  refine zu_iload d_4090_166 rfl ?_
  refine zu_ifne (t := 199) d_4090_168 rfl (fun c4 => ?_) (fun c4 => ?_)
  · have h := h.1 c4
    exact (u_X5_routineOf_199 hB h).weak ⟨rfl, rfl, trivial⟩
  · have h := h.2 c4
    refine zu_aload_n d_4090_171 rfl (zs_ra _) ?_
    obtain ⟨k5, h⟩ := h
    refine zg_4_5 rfl d_4090_172 k5 ?_
    refine zu_bipush d_4090_175 zj_6 ?_
    obtain ⟨b6, e7, h⟩ := h
    refine zs_stk1 (zs_rfe e7) ?_
    obtain ⟨k8, h⟩ := h
    refine zc_4_33 (x0 := (6 : Int32)) hB rfl k8 d_4090_177 (Nat.le_of_ble_eq_true rfl) h (fun v10 S9 h => ?_)
    refine zu_ifeq (t := 199) d_4090_180 rfl (fun c11 => ?_) (fun c11 => ?_)
    · have h := h.1 c11
      exact (u_X5_routineOf_199 hB h).weak ⟨rfl, rfl, trivial⟩
    · have h := h.2 c11
      refine zu_aload_n d_4090_183 rfl (zs_ra _) ?_
      obtain ⟨k12, h⟩ := h
      refine zg_4_5 rfl d_4090_184 k12 ?_
      obtain ⟨b13, e14, h⟩ := h
      refine zs_stk0 (zs_rfe e14) ?_
      obtain ⟨k15, h⟩ := h
      refine zc_4_29  hB rfl k15 d_4090_187 (Nat.le_of_ble_eq_true rfl) h (fun S16 h => ?_)
      refine zu_aload d_4090_190 rfl (zs_rr _) ?_
      refine zu_iconst d_4090_192 zi_1 ?_
      obtain ⟨b18, e19, h⟩ := h
      refine zs_stk1 (zs_rfe e19) ?_
      obtain ⟨k20, h⟩ := h
      obtain ⟨k21, h⟩ := h
      refine zp_4_244 (v := (1 : Int32)) rfl d_4090_193 k20 k21 (Or.inr rfl) ?_
      generalize e23 : zs_sI S16 10011 b18 (1 : Int32) = S22
      have h := h S22 e23.symm
      have K24 : ∀ b, zs_K S22 b = zs_K S16 b := zs_Kt e23 (zs_KsI _ _ _ _) (fun _ => rfl)
      exact (u_X5_routineOf_196 hB h).weak ⟨rfl, trivial⟩
def w_X5_routineOf_111 (X : zs_X) (d : Nat) (p0 : Nat) (p1 : Option Nat) (p2 : Int32) (p3 : Option Nat) (p4 : Int32) (S : zs_T) (Q : zs_Q) : Prop :=
  (zs_K S p0 = some (.inl 4) ∧ ∃ b2, (zs_R S 4000 p0) = some b2 ∧ zs_K S b2 = some (.inl 5) ∧ zs_C X d 5004 [.ref b2] S (zs_kV (fun S5 => (((p4 = 0 → (zs_K S5 p0 = some (.inl 4) ∧ zs_C X d 4091 [.ref p0, .int (zs_I S 5004 b2), .int (zs_I S 5005 b2), .int p2, va_rf p1] S5 (zs_kR (fun v10 S9 => w_X5_routineOf_158 X d p0 p4 v10 S9 Q) Q))) ∧ (¬ (p4 = 0) → (∃ b11, p3 = some b11 ∧ zs_K S5 b11 = some (.inl 7) ∧ w_X5_routineOf_158 X d p0 p4 (zs_R S5 7006 b11) S5 Q))))) Q))
theorem u_X5_routineOf_111 {σ : Nat → Nat} {n0 : Nat} {bf : ab_B} {d : Nat} {p0 : Nat} {p1 : Option Nat} {p2 : Int32} {p3 : Option Nat} {p4 : Int32} {S : zs_T} {Q : zs_Q} (hB : zt_B bf) (h : w_X5_routineOf_111 (zx σ n0 bf) d p0 p1 p2 p3 p4 S Q) : zs_U (zx σ n0 bf) d 4090 111 [(0, .ref p0), (1, va_rf p1), (2, .int p2), (3, va_rf p3), (4, .int p4)] [] S Q := by
  unfold w_X5_routineOf_111 at h
  refine zu_aload_n d_4090_111 rfl (zs_ra _) ?_
  obtain ⟨k1, h⟩ := h
  refine zg_4_5 rfl d_4090_112 k1 ?_
  obtain ⟨b2, e3, h⟩ := h
  refine zs_stk0 (zs_rfe e3) ?_
  obtain ⟨k4, h⟩ := h
  refine zg_4_11 rfl d_4090_115 k4 ?_
  refine zu_istore d_4090_118 (zs_lt zq_4090 rfl) ?_
  refine zu_aload_n d_4090_120 rfl (zs_ra _) ?_
  refine zg_4_5 rfl d_4090_121 k1 ?_
  refine zs_stk0 (zs_rfe e3) ?_
  refine zg_4_40 rfl d_4090_124 k4 ?_
  refine zu_istore d_4090_127 (zs_lt zq_4090 rfl) ?_
  refine zu_aload_n d_4090_129 rfl (zs_ra _) ?_
  refine zg_4_5 rfl d_4090_130 k1 ?_
  refine zs_stk0 (zs_rfe e3) ?_
  refine zc_4_29  hB rfl k4 d_4090_133 (Nat.le_of_ble_eq_true rfl) h (fun S5 h => ?_)
  refine zu_iload d_4090_136 rfl ?_
  refine zu_ifeq (t := 148) d_4090_138 rfl (fun c7 => ?_) (fun c7 => ?_)
  · have h := h.1 c7
    refine zu_aload_n d_4090_148 rfl (zs_ra _) ?_
    refine zu_iload d_4090_149 rfl ?_
    refine zu_iload d_4090_151 rfl ?_
    refine zu_iload_n d_4090_153 rfl ?_
    refine zu_aload_n d_4090_154 rfl (zs_rr _) ?_
    obtain ⟨k8, h⟩ := h
    refine zc_4_810 (x0 := (zs_I S 5004 b2)) (x1 := (zs_I S 5005 b2)) (x2 := p2) (x3 := p1) hB rfl k8 d_4090_155 (Nat.le_of_ble_eq_true rfl) h (fun v10 S9 h => ?_)
    exact (u_X5_routineOf_158 hB h).weak ⟨rfl, rfl, trivial⟩
  · have h := h.2 c7
    refine zu_aload_n d_4090_141 rfl (zs_rr _) ?_
    obtain ⟨b11, e12, h⟩ := h
    refine zs_stk0 (zs_rfe e12) ?_
    obtain ⟨k13, h⟩ := h
    refine zg_4_243 rfl d_4090_142 k13 ?_
    refine zu_goto (t := 158) d_4090_145 rfl ?_
    exact (u_X5_routineOf_158 hB h).weak ⟨rfl, rfl, trivial⟩
def w_X5_routineOf_94 (X : zs_X) (d : Nat) (p0 : Nat) (p1 : Option Nat) (p2 : Int32) (p3 : Option Nat) (q0 : Int32) (S : zs_T) (Q : zs_Q) : Prop :=
  (((p3 = none → w_X5_routineOf_111 X d p0 p1 p2 p3 q0 S Q) ∧ (∀ b1, p3 = some b1 → (((¬ q0 = 0 → w_X5_routineOf_111 X d p0 p1 p2 p3 q0 S Q) ∧ (¬ (¬ q0 = 0) → (zs_K S p0 = some (.inl 4) ∧ zs_C X d 4006 [.ref p0, .int (4 : Int32)] S (zs_kR (fun v6 S5 => (∃ b7, v6 = some b7 ∧ Q (.threw b7) S5)) Q))))))))
theorem u_X5_routineOf_94 {σ : Nat → Nat} {n0 : Nat} {bf : ab_B} {d : Nat} {p0 : Nat} {p1 : Option Nat} {p2 : Int32} {p3 : Option Nat} {q0 : Int32} {S : zs_T} {Q : zs_Q} (hB : zt_B bf) (h : w_X5_routineOf_94 (zx σ n0 bf) d p0 p1 p2 p3 q0 S Q) : zs_U (zx σ n0 bf) d 4090 94 [(0, .ref p0), (1, va_rf p1), (2, .int p2), (3, va_rf p3)] [.int q0] S Q := by
  unfold w_X5_routineOf_94 at h
  refine zu_istore d_4090_94 (zs_lt zq_4090 rfl) ?_
  refine zs_U.weak (L1 := [(4, .int q0), (0, .ref p0), (1, va_rf p1), (2, .int p2), (3, va_rf p3)]) ?_ ⟨rfl, zs_gp1 rfl (Or.inl rfl) rfl, zs_gp1 rfl (Or.inl (zs_cat _)) rfl, zs_gp1 rfl (Or.inl rfl) rfl, zs_gp1 rfl (Or.inl (zs_cat _)) rfl, trivial⟩
  refine zu_aload_n d_4090_96 rfl (zs_rr _) ?_
  refine zu_ifnull (u := p3) (t := 111) d_4090_97 rfl rfl (fun e2 => ?_) (fun b1 e2 => ?_)
  · have h := h.1 e2
    exact (u_X5_routineOf_111 hB h).weak ⟨rfl, rfl, rfl, rfl, rfl, trivial⟩
  · have h := h.2 b1 e2
    refine zu_iload d_4090_100 rfl ?_
    refine zu_ifne (t := 111) d_4090_102 rfl (fun c3 => ?_) (fun c3 => ?_)
    · have h := h.1 c3
      exact (u_X5_routineOf_111 hB h).weak ⟨rfl, rfl, rfl, rfl, rfl, trivial⟩
    · have h := h.2 c3
      refine zu_aload_n d_4090_105 rfl (zs_ra _) ?_
      refine zu_iconst d_4090_106 zi_4 ?_
      obtain ⟨k4, h⟩ := h
      refine zc_4_25 (x0 := (4 : Int32)) hB rfl k4 d_4090_107 (Nat.le_of_ble_eq_true rfl) h (fun v6 S5 h => ?_)
      obtain ⟨b7, e8, h⟩ := h
      refine zs_stk0 (zs_rfe e8) ?_
      exact zu_throw d_4090_110 h
def w_X5_routineOf_93 (X : zs_X) (d : Nat) (p0 : Nat) (p1 : Option Nat) (p2 : Int32) (p3 : Option Nat) (S : zs_T) (Q : zs_Q) : Prop :=
  (w_X5_routineOf_94 X d p0 p1 p2 p3 (0 : Int32) S Q)
theorem u_X5_routineOf_93 {σ : Nat → Nat} {n0 : Nat} {bf : ab_B} {d : Nat} {p0 : Nat} {p1 : Option Nat} {p2 : Int32} {p3 : Option Nat} {S : zs_T} {Q : zs_Q} (hB : zt_B bf) (h : w_X5_routineOf_93 (zx σ n0 bf) d p0 p1 p2 p3 S Q) : zs_U (zx σ n0 bf) d 4090 93 [(0, .ref p0), (1, va_rf p1), (2, .int p2), (3, va_rf p3)] [] S Q := by
  unfold w_X5_routineOf_93 at h
  refine zu_iconst d_4090_93 zi_0 ?_
  exact (u_X5_routineOf_94 hB h).weak ⟨rfl, rfl, rfl, rfl, trivial⟩
def w_X5_routineOf_85 (X : zs_X) (d : Nat) (p0 : Nat) (p1 : Option Nat) (p2 : Int32) (p3 : Option Nat) (q0 : Int32) (S : zs_T) (Q : zs_Q) : Prop :=
  (((¬ q0 = p2 → w_X5_routineOf_93 X d p0 p1 p2 p3 S Q) ∧ (¬ (¬ q0 = p2) → (w_X5_routineOf_94 X d p0 p1 p2 p3 (1 : Int32) S Q))))
theorem u_X5_routineOf_85 {σ : Nat → Nat} {n0 : Nat} {bf : ab_B} {d : Nat} {p0 : Nat} {p1 : Option Nat} {p2 : Int32} {p3 : Option Nat} {q0 : Int32} {S : zs_T} {Q : zs_Q} (hB : zt_B bf) (h : w_X5_routineOf_85 (zx σ n0 bf) d p0 p1 p2 p3 q0 S Q) : zs_U (zx σ n0 bf) d 4090 85 [(0, .ref p0), (1, va_rf p1), (2, .int p2), (3, va_rf p3)] [.int q0] S Q := by
  unfold w_X5_routineOf_85 at h
  refine zu_iload_n d_4090_85 rfl ?_
  refine zu_cmpne (t := 93) d_4090_86 rfl (fun c1 => ?_) (fun c1 => ?_)
  · have h := h.1 c1
    exact (u_X5_routineOf_93 hB h).weak ⟨rfl, rfl, rfl, rfl, trivial⟩
  · have h := h.2 c1
    refine zu_iconst d_4090_89 zi_1 ?_
    refine zu_goto (t := 94) d_4090_90 rfl ?_
    exact (u_X5_routineOf_94 hB h).weak ⟨rfl, rfl, rfl, rfl, trivial⟩
def w_X5_routineOf_48 (X : zs_X) (d : Nat) (p0 : Nat) (p1 : Option Nat) (p2 : Int32) (p3 : Option Nat) (S : zs_T) (Q : zs_Q) : Prop :=
  (((p3 = none → w_X5_routineOf_93 X d p0 p1 p2 p3 S Q) ∧ (∀ b1, p3 = some b1 → (zs_K S b1 = some (.inl 7) ∧ ((¬ (zs_I S 7001 b1) = (3 : Int32) → w_X5_routineOf_93 X d p0 p1 p2 p3 S Q) ∧ (¬ (¬ (zs_I S 7001 b1) = (3 : Int32)) → (∃ b5, (zs_R S 7006 b1) = some b5 ∧ zs_K S b5 = some (.inl 10) ∧ (((zs_I S 10011 b5) = 0 → w_X5_routineOf_93 X d p0 p1 p2 p3 S Q) ∧ (¬ ((zs_I S 10011 b5) = 0) → ((((zs_R S 10006 b5) = none → (w_X5_routineOf_85 X d p0 p1 p2 p3 (0 : Int32) S Q)) ∧ (∀ b9, (zs_R S 10006 b5) = some b9 → (w_X5_routineOf_85 X d p0 p1 p2 p3 (1 : Int32) S Q)))))))))))))
theorem u_X5_routineOf_48 {σ : Nat → Nat} {n0 : Nat} {bf : ab_B} {d : Nat} {p0 : Nat} {p1 : Option Nat} {p2 : Int32} {p3 : Option Nat} {S : zs_T} {Q : zs_Q} (hB : zt_B bf) (h : w_X5_routineOf_48 (zx σ n0 bf) d p0 p1 p2 p3 S Q) : zs_U (zx σ n0 bf) d 4090 48 [(0, .ref p0), (1, va_rf p1), (2, .int p2), (3, va_rf p3)] [] S Q := by
  unfold w_X5_routineOf_48 at h
  refine zu_aload_n d_4090_48 rfl (zs_rr _) ?_
  refine zu_ifnull (u := p3) (t := 93) d_4090_49 rfl rfl (fun e2 => ?_) (fun b1 e2 => ?_)
  · have h := h.1 e2
    exact (u_X5_routineOf_93 hB h).weak ⟨rfl, rfl, rfl, rfl, trivial⟩
  · have h := h.2 b1 e2
    refine zu_aload_n d_4090_52 rfl (zs_rr _) ?_
    refine zs_stk0 (zs_rfe e2) ?_
    obtain ⟨k3, h⟩ := h
    refine zg_4_62 rfl d_4090_53 k3 ?_
    refine zu_iconst d_4090_56 zi_3 ?_
    refine zu_cmpne (t := 93) d_4090_57 rfl (fun c4 => ?_) (fun c4 => ?_)
    · have h := h.1 c4
      exact (u_X5_routineOf_93 hB h).weak ⟨rfl, rfl, rfl, rfl, trivial⟩
    · have h := h.2 c4
      refine zu_aload_n d_4090_60 rfl (zs_rr _) ?_
      refine zs_stk0 (zs_rfe e2) ?_
      refine zg_4_243 rfl d_4090_61 k3 ?_
      obtain ⟨b5, e6, h⟩ := h
      refine zs_stk0 (zs_rfe e6) ?_
      obtain ⟨k7, h⟩ := h
      refine zg_4_244 rfl d_4090_64 k7 ?_
      refine zu_ifeq (t := 93) d_4090_67 rfl (fun c8 => ?_) (fun c8 => ?_)
      · have h := h.1 c8
        exact (u_X5_routineOf_93 hB h).weak ⟨rfl, rfl, rfl, rfl, trivial⟩
      · have h := h.2 c8
        refine zu_aload_n d_4090_70 rfl (zs_rr _) ?_
        refine zs_stk0 (zs_rfe e2) ?_
        refine zg_4_243 rfl d_4090_71 k3 ?_
        refine zs_stk0 (zs_rfe e6) ?_
        refine zg_4_255 rfl d_4090_74 k7 ?_
        refine zu_ifnull (u := (zs_R S 10006 b5)) (t := 84) d_4090_77 rfl rfl (fun e10 => ?_) (fun b9 e10 => ?_)
        · have h := h.1 e10
          refine zu_iconst d_4090_84 zi_0 ?_
          exact (u_X5_routineOf_85 hB h).weak ⟨rfl, rfl, rfl, rfl, trivial⟩
        · have h := h.2 b9 e10
          refine zu_iconst d_4090_80 zi_1 ?_
          refine zu_goto (t := 85) d_4090_81 rfl ?_
          exact (u_X5_routineOf_85 hB h).weak ⟨rfl, rfl, rfl, rfl, trivial⟩
def w_X5_routineOf (X : zs_X) (d : Nat) (p0 : Nat) (p1 : Option Nat) (S : zs_T) (Q : zs_Q) : Prop :=
  (zs_K S p0 = some (.inl 4) ∧ zs_C X d 4021 [.ref p0] S (zs_kV (fun S2 => (zs_K S2 p0 = some (.inl 4) ∧ ∃ b5, (zs_R S2 4000 p0) = some b5 ∧ zs_K S2 b5 = some (.inl 5) ∧ zs_C X d 5015 [.ref b5, .int (5 : Int32)] S2 (zs_kI (fun v9 S8 => (zs_K S8 p0 = some (.inl 4) ∧ ∃ b11, (zs_R S8 4000 p0) = some b11 ∧ zs_K S8 b11 = some (.inl 5) ∧ zs_C X d 5004 [.ref b11] S8 (zs_kV (fun S14 => (zs_K S14 p0 = some (.inl 4) ∧ ∃ b17, (zs_R S14 4000 p0) = some b17 ∧ zs_K S14 b17 = some (.inl 5) ∧ zs_C X d 5016 [.ref b17] S14 (zs_kI (fun v21 S20 => (((¬ v21 = 0 → (zs_K S20 p0 = some (.inl 4) ∧ ∃ b24, (zs_R S20 4000 p0) = some b24 ∧ zs_K S20 b24 = some (.inl 5) ∧ zs_C X d 4012 [.ref p0, .int (zs_I S20 5004 b24)] S20 (zs_kR (fun v28 S27 => (w_X5_routineOf_48 X d p0 p1 v9 v28 S27 Q)) Q))) ∧ (¬ (¬ v21 = 0) → (zs_K S20 p0 = some (.inl 4) ∧ zs_C X d 4006 [.ref p0, .int (2 : Int32)] S20 (zs_kR (fun v31 S30 => (∃ b32, v31 = some b32 ∧ Q (.threw b32) S30)) Q)))))) Q))) Q))) Q))) Q))
theorem u_X5_routineOf {σ : Nat → Nat} {n0 : Nat} {bf : ab_B} {d : Nat} {p0 : Nat} {p1 : Option Nat} {S : zs_T} {Q : zs_Q} (hB : zt_B bf) (hd : 1 ≤ d) (h : w_X5_routineOf (zx σ n0 bf) (d - 1) p0 p1 S Q) : zs_C (zx σ n0 bf) d 4090 [.ref p0, va_rf p1] S Q := by
  have hL : lv_args 0 [.ref p0, va_rf p1] = [(0, .ref p0), (1, va_rf p1)] := by simp [lv_args, zs_cat, zs_cI, zs_cJ, zs_cA]
  refine zs_C.of1 (hB.2 4090 (by decide) (by decide)) hd (by rw [hL]; exact zs_sub_self _ (by exact ⟨rfl, rfl, trivial⟩)) ?_
  rw [hL]
  clear hL
  unfold w_X5_routineOf at h
  refine zu_aload_n d_4090_0 rfl (zs_ra _) ?_
  obtain ⟨k1, h⟩ := h
  refine zc_4_357  hB rfl k1 d_4090_1 (Nat.le_of_ble_eq_true rfl) h (fun S2 h => ?_)
  refine zu_aload_n d_4090_4 rfl (zs_ra _) ?_
  obtain ⟨k4, h⟩ := h
  refine zg_4_5 rfl d_4090_5 k4 ?_
  refine zu_iconst d_4090_8 zi_5 ?_
  obtain ⟨b5, e6, h⟩ := h
  refine zs_stk1 (zs_rfe e6) ?_
  obtain ⟨k7, h⟩ := h
  refine zc_4_33 (x0 := (5 : Int32)) hB rfl k7 d_4090_9 (Nat.le_of_ble_eq_true rfl) h (fun v9 S8 h => ?_)
  refine zu_istore_n d_4090_12 (zs_lt zq_4090 rfl) ?_
  refine zs_U.weak (L1 := [(2, .int v9), (0, .ref p0), (1, va_rf p1)]) ?_ ⟨rfl, zs_gp1 rfl (Or.inl rfl) rfl, zs_gp1 rfl (Or.inl (zs_cat _)) rfl, trivial⟩
  refine zu_aload_n d_4090_13 rfl (zs_ra _) ?_
  obtain ⟨k10, h⟩ := h
  refine zg_4_5 rfl d_4090_14 k10 ?_
  obtain ⟨b11, e12, h⟩ := h
  refine zs_stk0 (zs_rfe e12) ?_
  obtain ⟨k13, h⟩ := h
  refine zc_4_29  hB rfl k13 d_4090_17 (Nat.le_of_ble_eq_true rfl) h (fun S14 h => ?_)
  refine zu_aload_n d_4090_20 rfl (zs_ra _) ?_
  obtain ⟨k16, h⟩ := h
  refine zg_4_5 rfl d_4090_21 k16 ?_
  obtain ⟨b17, e18, h⟩ := h
  refine zs_stk0 (zs_rfe e18) ?_
  obtain ⟨k19, h⟩ := h
  refine zc_4_36  hB rfl k19 d_4090_24 (Nat.le_of_ble_eq_true rfl) h (fun v21 S20 h => ?_)
  refine zu_ifne (t := 36) d_4090_27 rfl (fun c22 => ?_) (fun c22 => ?_)
  · have h := h.1 c22
    refine zu_aload_n d_4090_36 rfl (zs_ra _) ?_
    refine zu_aload_n d_4090_37 rfl (zs_ra _) ?_
    obtain ⟨k23, h⟩ := h
    refine zg_4_5 rfl d_4090_38 k23 ?_
    obtain ⟨b24, e25, h⟩ := h
    refine zs_stk0 (zs_rfe e25) ?_
    obtain ⟨k26, h⟩ := h
    refine zg_4_40 rfl d_4090_41 k26 ?_
    refine zc_4_118 (x0 := (zs_I S20 5004 b24)) hB rfl k23 d_4090_44 (Nat.le_of_ble_eq_true rfl) h (fun v28 S27 h => ?_)
    refine zu_astore_n d_4090_47 (zs_rr _) (zs_lt zq_4090 rfl) ?_
    exact (u_X5_routineOf_48 hB h).weak ⟨rfl, rfl, rfl, rfl, trivial⟩
  · have h := h.2 c22
    refine zu_aload_n d_4090_30 rfl (zs_ra _) ?_
    refine zu_iconst d_4090_31 zi_2 ?_
    obtain ⟨k29, h⟩ := h
    refine zc_4_25 (x0 := (2 : Int32)) hB rfl k29 d_4090_32 (Nat.le_of_ble_eq_true rfl) h (fun v31 S30 h => ?_)
    obtain ⟨b32, e33, h⟩ := h
    refine zs_stk0 (zs_rfe e33) ?_
    exact zu_throw d_4090_35 h
/-! SchemaPascal$Reader.head(IIZLSchemaPascal$Routine;)LSchemaPascal$Routine; -/
theorem zm_4091 {σ : Nat → Nat} {n0 : Nat} {bf : ab_B} : ab_code (zx σ n0 bf).1 4091 = prog_9_method_122_code := rfl
theorem zq_4091 {σ : Nat → Nat} {n0 : Nat} {bf : ab_B} : ab_maxL (zx σ n0 bf).1 4091 = 9 := rfl
theorem zr_4091 {σ : Nat → Nat} {n0 : Nat} {bf : ab_B} : ab_ret (zx σ n0 bf).1 4091 = (Option.some (Jvm.ClassFile.FieldType.object "SchemaPascal$Routine")) := rfl
theorem d_4091_0 {σ : Nat → Nat} {n0 : Nat} {bf : ab_B} : decode (ab_code (zx σ n0 bf).1 4091) 0 = .ok (.new 210, 3) := zd zm_4091 (by decide +kernel)
theorem d_4091_3 {σ : Nat → Nat} {n0 : Nat} {bf : ab_B} : decode (ab_code (zx σ n0 bf).1 4091) 3 = .ok (.dup, 1) := zd zm_4091 (by decide +kernel)
theorem d_4091_4 {σ : Nat → Nat} {n0 : Nat} {bf : ab_B} : decode (ab_code (zx σ n0 bf).1 4091) 4 = .ok (.aload_n 0, 1) := zd zm_4091 (by decide +kernel)
theorem d_4091_5 {σ : Nat → Nat} {n0 : Nat} {bf : ab_B} : decode (ab_code (zx σ n0 bf).1 4091) 5 = .ok (.getfield 128, 3) := zd zm_4091 (by decide +kernel)
theorem d_4091_8 {σ : Nat → Nat} {n0 : Nat} {bf : ab_B} : decode (ab_code (zx σ n0 bf).1 4091) 8 = .ok (.getfield 215, 3) := zd zm_4091 (by decide +kernel)
theorem d_4091_11 {σ : Nat → Nat} {n0 : Nat} {bf : ab_B} : decode (ab_code (zx σ n0 bf).1 4091) 11 = .ok (.invokevirtual 50, 3) := zd zm_4091 (by decide +kernel)
theorem d_4091_14 {σ : Nat → Nat} {n0 : Nat} {bf : ab_B} : decode (ab_code (zx σ n0 bf).1 4091) 14 = .ok (.iload_n 2, 1) := zd zm_4091 (by decide +kernel)
theorem d_4091_15 {σ : Nat → Nat} {n0 : Nat} {bf : ab_B} : decode (ab_code (zx σ n0 bf).1 4091) 15 = .ok (.aload 4, 2) := zd zm_4091 (by decide +kernel)
theorem d_4091_17 {σ : Nat → Nat} {n0 : Nat} {bf : ab_B} : decode (ab_code (zx σ n0 bf).1 4091) 17 = .ok (.invokespecial 212, 3) := zd zm_4091 (by decide +kernel)
theorem d_4091_20 {σ : Nat → Nat} {n0 : Nat} {bf : ab_B} : decode (ab_code (zx σ n0 bf).1 4091) 20 = .ok (.astore 5, 2) := zd zm_4091 (by decide +kernel)
theorem d_4091_22 {σ : Nat → Nat} {n0 : Nat} {bf : ab_B} : decode (ab_code (zx σ n0 bf).1 4091) 22 = .ok (.aload_n 0, 1) := zd zm_4091 (by decide +kernel)
theorem d_4091_23 {σ : Nat → Nat} {n0 : Nat} {bf : ab_B} : decode (ab_code (zx σ n0 bf).1 4091) 23 = .ok (.getfield 128, 3) := zd zm_4091 (by decide +kernel)
theorem d_4091_26 {σ : Nat → Nat} {n0 : Nat} {bf : ab_B} : decode (ab_code (zx σ n0 bf).1 4091) 26 = .ok (.getfield 215, 3) := zd zm_4091 (by decide +kernel)
theorem d_4091_29 {σ : Nat → Nat} {n0 : Nat} {bf : ab_B} : decode (ab_code (zx σ n0 bf).1 4091) 29 = .ok (.aload 5, 2) := zd zm_4091 (by decide +kernel)
theorem d_4091_31 {σ : Nat → Nat} {n0 : Nat} {bf : ab_B} : decode (ab_code (zx σ n0 bf).1 4091) 31 = .ok (.invokevirtual 140, 3) := zd zm_4091 (by decide +kernel)
theorem d_4091_34 {σ : Nat → Nat} {n0 : Nat} {bf : ab_B} : decode (ab_code (zx σ n0 bf).1 4091) 34 = .ok (.pop, 1) := zd zm_4091 (by decide +kernel)
theorem d_4091_35 {σ : Nat → Nat} {n0 : Nat} {bf : ab_B} : decode (ab_code (zx σ n0 bf).1 4091) 35 = .ok (.aload_n 0, 1) := zd zm_4091 (by decide +kernel)
theorem d_4091_36 {σ : Nat → Nat} {n0 : Nat} {bf : ab_B} : decode (ab_code (zx σ n0 bf).1 4091) 36 = .ok (.iload_n 1, 1) := zd zm_4091 (by decide +kernel)
theorem d_4091_37 {σ : Nat → Nat} {n0 : Nat} {bf : ab_B} : decode (ab_code (zx σ n0 bf).1 4091) 37 = .ok (.iconst 3, 1) := zd zm_4091 (by decide +kernel)
theorem d_4091_38 {σ : Nat → Nat} {n0 : Nat} {bf : ab_B} : decode (ab_code (zx σ n0 bf).1 4091) 38 = .ok (.aconst_null, 1) := zd zm_4091 (by decide +kernel)
theorem d_4091_39 {σ : Nat → Nat} {n0 : Nat} {bf : ab_B} : decode (ab_code (zx σ n0 bf).1 4091) 39 = .ok (.invokevirtual 165, 3) := zd zm_4091 (by decide +kernel)
theorem d_4091_42 {σ : Nat → Nat} {n0 : Nat} {bf : ab_B} : decode (ab_code (zx σ n0 bf).1 4091) 42 = .ok (.astore 6, 2) := zd zm_4091 (by decide +kernel)
theorem d_4091_44 {σ : Nat → Nat} {n0 : Nat} {bf : ab_B} : decode (ab_code (zx σ n0 bf).1 4091) 44 = .ok (.aload 6, 2) := zd zm_4091 (by decide +kernel)
theorem d_4091_46 {σ : Nat → Nat} {n0 : Nat} {bf : ab_B} : decode (ab_code (zx σ n0 bf).1 4091) 46 = .ok (.aload 5, 2) := zd zm_4091 (by decide +kernel)
theorem d_4091_48 {σ : Nat → Nat} {n0 : Nat} {bf : ab_B} : decode (ab_code (zx σ n0 bf).1 4091) 48 = .ok (.putfield 243, 3) := zd zm_4091 (by decide +kernel)
theorem d_4091_51 {σ : Nat → Nat} {n0 : Nat} {bf : ab_B} : decode (ab_code (zx σ n0 bf).1 4091) 51 = .ok (.aload_n 0, 1) := zd zm_4091 (by decide +kernel)
theorem d_4091_52 {σ : Nat → Nat} {n0 : Nat} {bf : ab_B} : decode (ab_code (zx σ n0 bf).1 4091) 52 = .ok (.getfield 5, 3) := zd zm_4091 (by decide +kernel)
theorem d_4091_55 {σ : Nat → Nat} {n0 : Nat} {bf : ab_B} : decode (ab_code (zx σ n0 bf).1 4091) 55 = .ok (.bipush 40, 2) := zd zm_4091 (by decide +kernel)
theorem d_4091_57 {σ : Nat → Nat} {n0 : Nat} {bf : ab_B} : decode (ab_code (zx σ n0 bf).1 4091) 57 = .ok (.invokevirtual 21, 3) := zd zm_4091 (by decide +kernel)
theorem d_4091_60 {σ : Nat → Nat} {n0 : Nat} {bf : ab_B} : decode (ab_code (zx σ n0 bf).1 4091) 60 = .ok (.ifCond .eq 44, 3) := zd zm_4091 (by decide +kernel)
theorem d_4091_63 {σ : Nat → Nat} {n0 : Nat} {bf : ab_B} : decode (ab_code (zx σ n0 bf).1 4091) 63 = .ok (.iconst 1, 1) := zd zm_4091 (by decide +kernel)
theorem d_4091_64 {σ : Nat → Nat} {n0 : Nat} {bf : ab_B} : decode (ab_code (zx σ n0 bf).1 4091) 64 = .ok (.istore 7, 2) := zd zm_4091 (by decide +kernel)
theorem d_4091_66 {σ : Nat → Nat} {n0 : Nat} {bf : ab_B} : decode (ab_code (zx σ n0 bf).1 4091) 66 = .ok (.iload 7, 2) := zd zm_4091 (by decide +kernel)
theorem d_4091_68 {σ : Nat → Nat} {n0 : Nat} {bf : ab_B} : decode (ab_code (zx σ n0 bf).1 4091) 68 = .ok (.ifCond .eq 30, 3) := zd zm_4091 (by decide +kernel)
theorem d_4091_71 {σ : Nat → Nat} {n0 : Nat} {bf : ab_B} : decode (ab_code (zx σ n0 bf).1 4091) 71 = .ok (.aload_n 0, 1) := zd zm_4091 (by decide +kernel)
theorem d_4091_72 {σ : Nat → Nat} {n0 : Nat} {bf : ab_B} : decode (ab_code (zx σ n0 bf).1 4091) 72 = .ok (.getfield 5, 3) := zd zm_4091 (by decide +kernel)
theorem d_4091_75 {σ : Nat → Nat} {n0 : Nat} {bf : ab_B} : decode (ab_code (zx σ n0 bf).1 4091) 75 = .ok (.invokevirtual 29, 3) := zd zm_4091 (by decide +kernel)
theorem d_4091_78 {σ : Nat → Nat} {n0 : Nat} {bf : ab_B} : decode (ab_code (zx σ n0 bf).1 4091) 78 = .ok (.aload_n 0, 1) := zd zm_4091 (by decide +kernel)
theorem d_4091_79 {σ : Nat → Nat} {n0 : Nat} {bf : ab_B} : decode (ab_code (zx σ n0 bf).1 4091) 79 = .ok (.aload 5, 2) := zd zm_4091 (by decide +kernel)
theorem d_4091_81 {σ : Nat → Nat} {n0 : Nat} {bf : ab_B} : decode (ab_code (zx σ n0 bf).1 4091) 81 = .ok (.invokevirtual 816, 3) := zd zm_4091 (by decide +kernel)
theorem d_4091_84 {σ : Nat → Nat} {n0 : Nat} {bf : ab_B} : decode (ab_code (zx σ n0 bf).1 4091) 84 = .ok (.aload_n 0, 1) := zd zm_4091 (by decide +kernel)
theorem d_4091_85 {σ : Nat → Nat} {n0 : Nat} {bf : ab_B} : decode (ab_code (zx σ n0 bf).1 4091) 85 = .ok (.getfield 5, 3) := zd zm_4091 (by decide +kernel)
theorem d_4091_88 {σ : Nat → Nat} {n0 : Nat} {bf : ab_B} : decode (ab_code (zx σ n0 bf).1 4091) 88 = .ok (.bipush 59, 2) := zd zm_4091 (by decide +kernel)
theorem d_4091_90 {σ : Nat → Nat} {n0 : Nat} {bf : ab_B} : decode (ab_code (zx σ n0 bf).1 4091) 90 = .ok (.invokevirtual 21, 3) := zd zm_4091 (by decide +kernel)
theorem d_4091_93 {σ : Nat → Nat} {n0 : Nat} {bf : ab_B} : decode (ab_code (zx σ n0 bf).1 4091) 93 = .ok (.istore 7, 2) := zd zm_4091 (by decide +kernel)
theorem d_4091_95 {σ : Nat → Nat} {n0 : Nat} {bf : ab_B} : decode (ab_code (zx σ n0 bf).1 4091) 95 = .ok (.goto (-29), 3) := zd zm_4091 (by decide +kernel)
theorem d_4091_98 {σ : Nat → Nat} {n0 : Nat} {bf : ab_B} : decode (ab_code (zx σ n0 bf).1 4091) 98 = .ok (.aload_n 0, 1) := zd zm_4091 (by decide +kernel)
theorem d_4091_99 {σ : Nat → Nat} {n0 : Nat} {bf : ab_B} : decode (ab_code (zx σ n0 bf).1 4091) 99 = .ok (.bipush 41, 2) := zd zm_4091 (by decide +kernel)
theorem d_4091_101 {σ : Nat → Nat} {n0 : Nat} {bf : ab_B} : decode (ab_code (zx σ n0 bf).1 4091) 101 = .ok (.invokevirtual 224, 3) := zd zm_4091 (by decide +kernel)
theorem d_4091_104 {σ : Nat → Nat} {n0 : Nat} {bf : ab_B} : decode (ab_code (zx σ n0 bf).1 4091) 104 = .ok (.iload_n 3, 1) := zd zm_4091 (by decide +kernel)
theorem d_4091_105 {σ : Nat → Nat} {n0 : Nat} {bf : ab_B} : decode (ab_code (zx σ n0 bf).1 4091) 105 = .ok (.ifCond .ne 6, 3) := zd zm_4091 (by decide +kernel)
theorem d_4091_108 {σ : Nat → Nat} {n0 : Nat} {bf : ab_B} : decode (ab_code (zx σ n0 bf).1 4091) 108 = .ok (.aload 5, 2) := zd zm_4091 (by decide +kernel)
theorem d_4091_110 {σ : Nat → Nat} {n0 : Nat} {bf : ab_B} : decode (ab_code (zx σ n0 bf).1 4091) 110 = .ok (.areturn, 1) := zd zm_4091 (by decide +kernel)
theorem d_4091_111 {σ : Nat → Nat} {n0 : Nat} {bf : ab_B} : decode (ab_code (zx σ n0 bf).1 4091) 111 = .ok (.aload_n 0, 1) := zd zm_4091 (by decide +kernel)
theorem d_4091_112 {σ : Nat → Nat} {n0 : Nat} {bf : ab_B} : decode (ab_code (zx σ n0 bf).1 4091) 112 = .ok (.bipush 58, 2) := zd zm_4091 (by decide +kernel)
theorem d_4091_114 {σ : Nat → Nat} {n0 : Nat} {bf : ab_B} : decode (ab_code (zx σ n0 bf).1 4091) 114 = .ok (.invokevirtual 224, 3) := zd zm_4091 (by decide +kernel)
theorem d_4091_117 {σ : Nat → Nat} {n0 : Nat} {bf : ab_B} : decode (ab_code (zx σ n0 bf).1 4091) 117 = .ok (.aload 5, 2) := zd zm_4091 (by decide +kernel)
theorem d_4091_119 {σ : Nat → Nat} {n0 : Nat} {bf : ab_B} : decode (ab_code (zx σ n0 bf).1 4091) 119 = .ok (.aload_n 0, 1) := zd zm_4091 (by decide +kernel)
theorem d_4091_120 {σ : Nat → Nat} {n0 : Nat} {bf : ab_B} : decode (ab_code (zx σ n0 bf).1 4091) 120 = .ok (.invokevirtual 332, 3) := zd zm_4091 (by decide +kernel)
theorem d_4091_123 {σ : Nat → Nat} {n0 : Nat} {bf : ab_B} : decode (ab_code (zx σ n0 bf).1 4091) 123 = .ok (.putfield 255, 3) := zd zm_4091 (by decide +kernel)
theorem d_4091_126 {σ : Nat → Nat} {n0 : Nat} {bf : ab_B} : decode (ab_code (zx σ n0 bf).1 4091) 126 = .ok (.aload 5, 2) := zd zm_4091 (by decide +kernel)
theorem d_4091_128 {σ : Nat → Nat} {n0 : Nat} {bf : ab_B} : decode (ab_code (zx σ n0 bf).1 4091) 128 = .ok (.getfield 255, 3) := zd zm_4091 (by decide +kernel)
theorem d_4091_131 {σ : Nat → Nat} {n0 : Nat} {bf : ab_B} : decode (ab_code (zx σ n0 bf).1 4091) 131 = .ok (.astore 7, 2) := zd zm_4091 (by decide +kernel)
theorem d_4091_133 {σ : Nat → Nat} {n0 : Nat} {bf : ab_B} : decode (ab_code (zx σ n0 bf).1 4091) 133 = .ok (.aload 7, 2) := zd zm_4091 (by decide +kernel)
theorem d_4091_135 {σ : Nat → Nat} {n0 : Nat} {bf : ab_B} : decode (ab_code (zx σ n0 bf).1 4091) 135 = .ok (.invokevirtual 335, 3) := zd zm_4091 (by decide +kernel)
theorem d_4091_138 {σ : Nat → Nat} {n0 : Nat} {bf : ab_B} : decode (ab_code (zx σ n0 bf).1 4091) 138 = .ok (.ifCond .ne 38, 3) := zd zm_4091 (by decide +kernel)
theorem d_4091_141 {σ : Nat → Nat} {n0 : Nat} {bf : ab_B} : decode (ab_code (zx σ n0 bf).1 4091) 141 = .ok (.aload 7, 2) := zd zm_4091 (by decide +kernel)
theorem d_4091_143 {σ : Nat → Nat} {n0 : Nat} {bf : ab_B} : decode (ab_code (zx σ n0 bf).1 4091) 143 = .ok (.getfield 369, 3) := zd zm_4091 (by decide +kernel)
theorem d_4091_146 {σ : Nat → Nat} {n0 : Nat} {bf : ab_B} : decode (ab_code (zx σ n0 bf).1 4091) 146 = .ok (.iconst 5, 1) := zd zm_4091 (by decide +kernel)
theorem d_4091_147 {σ : Nat → Nat} {n0 : Nat} {bf : ab_B} : decode (ab_code (zx σ n0 bf).1 4091) 147 = .ok (.if_icmp .eq 29, 3) := zd zm_4091 (by decide +kernel)
theorem d_4091_150 {σ : Nat → Nat} {n0 : Nat} {bf : ab_B} : decode (ab_code (zx σ n0 bf).1 4091) 150 = .ok (.aload 7, 2) := zd zm_4091 (by decide +kernel)
theorem d_4091_152 {σ : Nat → Nat} {n0 : Nat} {bf : ab_B} : decode (ab_code (zx σ n0 bf).1 4091) 152 = .ok (.getfield 369, 3) := zd zm_4091 (by decide +kernel)
theorem d_4091_155 {σ : Nat → Nat} {n0 : Nat} {bf : ab_B} : decode (ab_code (zx σ n0 bf).1 4091) 155 = .ok (.bipush 9, 2) := zd zm_4091 (by decide +kernel)
theorem d_4091_157 {σ : Nat → Nat} {n0 : Nat} {bf : ab_B} : decode (ab_code (zx σ n0 bf).1 4091) 157 = .ok (.if_icmp .eq 19, 3) := zd zm_4091 (by decide +kernel)
theorem d_4091_160 {σ : Nat → Nat} {n0 : Nat} {bf : ab_B} : decode (ab_code (zx σ n0 bf).1 4091) 160 = .ok (.aload 7, 2) := zd zm_4091 (by decide +kernel)
theorem d_4091_162 {σ : Nat → Nat} {n0 : Nat} {bf : ab_B} : decode (ab_code (zx σ n0 bf).1 4091) 162 = .ok (.getfield 369, 3) := zd zm_4091 (by decide +kernel)
theorem d_4091_165 {σ : Nat → Nat} {n0 : Nat} {bf : ab_B} : decode (ab_code (zx σ n0 bf).1 4091) 165 = .ok (.bipush 6, 2) := zd zm_4091 (by decide +kernel)
theorem d_4091_167 {σ : Nat → Nat} {n0 : Nat} {bf : ab_B} : decode (ab_code (zx σ n0 bf).1 4091) 167 = .ok (.if_icmp .eq 9, 3) := zd zm_4091 (by decide +kernel)
theorem d_4091_170 {σ : Nat → Nat} {n0 : Nat} {bf : ab_B} : decode (ab_code (zx σ n0 bf).1 4091) 170 = .ok (.aload_n 0, 1) := zd zm_4091 (by decide +kernel)
theorem d_4091_171 {σ : Nat → Nat} {n0 : Nat} {bf : ab_B} : decode (ab_code (zx σ n0 bf).1 4091) 171 = .ok (.iconst 5, 1) := zd zm_4091 (by decide +kernel)
theorem d_4091_172 {σ : Nat → Nat} {n0 : Nat} {bf : ab_B} : decode (ab_code (zx σ n0 bf).1 4091) 172 = .ok (.invokevirtual 25, 3) := zd zm_4091 (by decide +kernel)
theorem d_4091_175 {σ : Nat → Nat} {n0 : Nat} {bf : ab_B} : decode (ab_code (zx σ n0 bf).1 4091) 175 = .ok (.athrow, 1) := zd zm_4091 (by decide +kernel)
theorem d_4091_176 {σ : Nat → Nat} {n0 : Nat} {bf : ab_B} : decode (ab_code (zx σ n0 bf).1 4091) 176 = .ok (.new 60, 3) := zd zm_4091 (by decide +kernel)
theorem d_4091_179 {σ : Nat → Nat} {n0 : Nat} {bf : ab_B} : decode (ab_code (zx σ n0 bf).1 4091) 179 = .ok (.dup, 1) := zd zm_4091 (by decide +kernel)
theorem d_4091_180 {σ : Nat → Nat} {n0 : Nat} {bf : ab_B} : decode (ab_code (zx σ n0 bf).1 4091) 180 = .ok (.iload_n 1, 1) := zd zm_4091 (by decide +kernel)
theorem d_4091_181 {σ : Nat → Nat} {n0 : Nat} {bf : ab_B} : decode (ab_code (zx σ n0 bf).1 4091) 181 = .ok (.iconst 2, 1) := zd zm_4091 (by decide +kernel)
theorem d_4091_182 {σ : Nat → Nat} {n0 : Nat} {bf : ab_B} : decode (ab_code (zx σ n0 bf).1 4091) 182 = .ok (.invokespecial 95, 3) := zd zm_4091 (by decide +kernel)
theorem d_4091_185 {σ : Nat → Nat} {n0 : Nat} {bf : ab_B} : decode (ab_code (zx σ n0 bf).1 4091) 185 = .ok (.astore 8, 2) := zd zm_4091 (by decide +kernel)
theorem d_4091_187 {σ : Nat → Nat} {n0 : Nat} {bf : ab_B} : decode (ab_code (zx σ n0 bf).1 4091) 187 = .ok (.aload 8, 2) := zd zm_4091 (by decide +kernel)
theorem d_4091_189 {σ : Nat → Nat} {n0 : Nat} {bf : ab_B} : decode (ab_code (zx σ n0 bf).1 4091) 189 = .ok (.aload 7, 2) := zd zm_4091 (by decide +kernel)
theorem d_4091_191 {σ : Nat → Nat} {n0 : Nat} {bf : ab_B} : decode (ab_code (zx σ n0 bf).1 4091) 191 = .ok (.putfield 65, 3) := zd zm_4091 (by decide +kernel)
theorem d_4091_194 {σ : Nat → Nat} {n0 : Nat} {bf : ab_B} : decode (ab_code (zx σ n0 bf).1 4091) 194 = .ok (.aload 8, 2) := zd zm_4091 (by decide +kernel)
theorem d_4091_196 {σ : Nat → Nat} {n0 : Nat} {bf : ab_B} : decode (ab_code (zx σ n0 bf).1 4091) 196 = .ok (.aload 5, 2) := zd zm_4091 (by decide +kernel)
theorem d_4091_198 {σ : Nat → Nat} {n0 : Nat} {bf : ab_B} : decode (ab_code (zx σ n0 bf).1 4091) 198 = .ok (.putfield 107, 3) := zd zm_4091 (by decide +kernel)
theorem d_4091_201 {σ : Nat → Nat} {n0 : Nat} {bf : ab_B} : decode (ab_code (zx σ n0 bf).1 4091) 201 = .ok (.aload 5, 2) := zd zm_4091 (by decide +kernel)
theorem d_4091_203 {σ : Nat → Nat} {n0 : Nat} {bf : ab_B} : decode (ab_code (zx σ n0 bf).1 4091) 203 = .ok (.aload 8, 2) := zd zm_4091 (by decide +kernel)
theorem d_4091_205 {σ : Nat → Nat} {n0 : Nat} {bf : ab_B} : decode (ab_code (zx σ n0 bf).1 4091) 205 = .ok (.putfield 258, 3) := zd zm_4091 (by decide +kernel)
theorem d_4091_208 {σ : Nat → Nat} {n0 : Nat} {bf : ab_B} : decode (ab_code (zx σ n0 bf).1 4091) 208 = .ok (.aload 5, 2) := zd zm_4091 (by decide +kernel)
theorem d_4091_210 {σ : Nat → Nat} {n0 : Nat} {bf : ab_B} : decode (ab_code (zx σ n0 bf).1 4091) 210 = .ok (.areturn, 1) := zd zm_4091 (by decide +kernel)
def w_X5_head_176 (X : zs_X) (d : Nat) (p1 : Int32) (p5 : Option Nat) (p7 : Option Nat) (S : zs_T) (Q : zs_Q) : Prop :=
  (∀ a1 S2, a1 = zs_N S → S2 = zs_nw S (.inl 7) 14 → zs_C X d 7000 [.ref a1, .int p1, .int (2 : Int32)] S2 (zs_kV (fun S6 => (zs_K S6 a1 = some (.inl 7) ∧ ab_n0 X.1 ≤ a1 ∧ ∀ S10, S10 = zs_sR S6 7002 a1 p7 → ∀ S13, S13 = zs_sR S10 7007 a1 p5 → ∃ b16, p5 = some b16 ∧ zs_K S6 b16 = some (.inl 10) ∧ ab_n0 X.1 ≤ b16 ∧ ∀ S20, S20 = zs_sR S13 10007 b16 (some a1) → Q (.returned (some (va_rf p5))) S20)) Q))
theorem u_X5_head_176 {σ : Nat → Nat} {n0 : Nat} {bf : ab_B} {d : Nat} {p1 : Int32} {p5 : Option Nat} {p7 : Option Nat} {S : zs_T} {Q : zs_Q} (hB : zt_B bf) (h : w_X5_head_176 (zx σ n0 bf) d p1 p5 p7 S Q) : zs_U (zx σ n0 bf) d 4091 176 [(1, .int p1), (5, va_rf p5), (7, va_rf p7)] [] S Q := by
  unfold w_X5_head_176 at h
  refine zn_4_60 rfl d_4091_176 ?_
  generalize e4 : zs_nw S (.inl 7) 14 = S2
  generalize e3 : zs_N S = a1
  have h := h a1 S2 e3.symm e4.symm
  have k5 := zs_kn e3 e4
  refine zu_dup d_4091_179 rfl ?_
  refine zu_iload_n d_4091_180 rfl ?_
  refine zu_iconst d_4091_181 zi_2 ?_
  refine zc_4_95 (x0 := p1) (x1 := (2 : Int32)) hB rfl d_4091_182 (Nat.le_of_ble_eq_true rfl) h (fun S6 h => ?_)
  refine zu_astore d_4091_185 (zs_ra _) (zs_lt zq_4091 rfl) ?_
  refine zs_U.weak (L1 := [(8, .ref a1), (1, .int p1), (5, va_rf p5), (7, va_rf p7)]) ?_ ⟨rfl, zs_gp1 rfl (Or.inl rfl) rfl, zs_gp1 rfl (Or.inl (zs_cat _)) rfl, zs_gp1 rfl (Or.inl (zs_cat _)) rfl, trivial⟩
  refine zu_aload d_4091_187 rfl (zs_ra _) ?_
  refine zu_aload d_4091_189 rfl (zs_rr _) ?_
  obtain ⟨k8, h⟩ := h
  obtain ⟨k9, h⟩ := h
  refine zp_4_65 (v := p7) rfl d_4091_191 k8 k9 ?_
  generalize e11 : zs_sR S6 7002 a1 p7 = S10
  have h := h S10 e11.symm
  have K12 : ∀ b, zs_K S10 b = zs_K S6 b := zs_Kt e11 (zs_KsR _ _ _ _) (fun _ => rfl)
  refine zu_aload d_4091_194 rfl (zs_ra _) ?_
  refine zu_aload d_4091_196 rfl (zs_rr _) ?_
  refine zp_4_107 (v := p5) rfl d_4091_198 ((K12 _).trans k8) k9 ?_
  generalize e14 : zs_sR S10 7007 a1 p5 = S13
  have h := h S13 e14.symm
  have K15 : ∀ b, zs_K S13 b = zs_K S6 b := zs_Kt e14 (zs_KsR _ _ _ _) K12
  refine zu_aload d_4091_201 rfl (zs_rr _) ?_
  refine zu_aload d_4091_203 rfl (zs_ra _) ?_
  obtain ⟨b16, e17, h⟩ := h
  refine zs_stk1 (zs_rfe e17) ?_
  obtain ⟨k18, h⟩ := h
  obtain ⟨k19, h⟩ := h
  refine zp_4_258 (v := (some a1)) rfl d_4091_205 ((K15 _).trans k18) k19 ?_
  generalize e21 : zs_sR S13 10007 b16 (some a1) = S20
  have h := h S20 e21.symm
  have K22 : ∀ b, zs_K S20 b = zs_K S6 b := zs_Kt e21 (zs_KsR _ _ _ _) K15
  refine zu_aload d_4091_208 rfl (zs_rr _) ?_
  exact zu_aret d_4091_210 zr_4091 (zs_rr _) h
def w_X5_head_150 (X : zs_X) (d : Nat) (p0 : Nat) (p1 : Int32) (p5 : Option Nat) (p7 : Option Nat) (S : zs_T) (Q : zs_Q) : Prop :=
  (∃ b1, p7 = some b1 ∧ zs_K S b1 = some (.inl 6) ∧ (((zs_I S 6000 b1) = (9 : Int32) → w_X5_head_176 X d p1 p5 p7 S Q) ∧ (¬ ((zs_I S 6000 b1) = (9 : Int32)) → ((((zs_I S 6000 b1) = (6 : Int32) → w_X5_head_176 X d p1 p5 p7 S Q) ∧ (¬ ((zs_I S 6000 b1) = (6 : Int32)) → (zs_K S p0 = some (.inl 4) ∧ zs_C X d 4006 [.ref p0, .int (5 : Int32)] S (zs_kR (fun v8 S7 => (∃ b9, v8 = some b9 ∧ Q (.threw b9) S7)) Q))))))))
theorem u_X5_head_150 {σ : Nat → Nat} {n0 : Nat} {bf : ab_B} {d : Nat} {p0 : Nat} {p1 : Int32} {p5 : Option Nat} {p7 : Option Nat} {S : zs_T} {Q : zs_Q} (hB : zt_B bf) (h : w_X5_head_150 (zx σ n0 bf) d p0 p1 p5 p7 S Q) : zs_U (zx σ n0 bf) d 4091 150 [(0, .ref p0), (1, .int p1), (5, va_rf p5), (7, va_rf p7)] [] S Q := by
  unfold w_X5_head_150 at h
  refine zu_aload d_4091_150 rfl (zs_rr _) ?_
  obtain ⟨b1, e2, h⟩ := h
  refine zs_stk0 (zs_rfe e2) ?_
  obtain ⟨k3, h⟩ := h
  refine zg_4_369 rfl d_4091_152 k3 ?_
  refine zu_bipush d_4091_155 zj_9 ?_
  refine zu_cmpeq (t := 176) d_4091_157 rfl (fun c4 => ?_) (fun c4 => ?_)
  · have h := h.1 c4
    exact (u_X5_head_176 hB h).weak ⟨rfl, rfl, rfl, trivial⟩
  · have h := h.2 c4
    refine zu_aload d_4091_160 rfl (zs_rr _) ?_
    refine zs_stk0 (zs_rfe e2) ?_
    refine zg_4_369 rfl d_4091_162 k3 ?_
    refine zu_bipush d_4091_165 zj_6 ?_
    refine zu_cmpeq (t := 176) d_4091_167 rfl (fun c5 => ?_) (fun c5 => ?_)
    · have h := h.1 c5
      exact (u_X5_head_176 hB h).weak ⟨rfl, rfl, rfl, trivial⟩
    · have h := h.2 c5
      refine zu_aload_n d_4091_170 rfl (zs_ra _) ?_
      refine zu_iconst d_4091_171 zi_5 ?_
      obtain ⟨k6, h⟩ := h
      refine zc_4_25 (x0 := (5 : Int32)) hB rfl k6 d_4091_172 (Nat.le_of_ble_eq_true rfl) h (fun v8 S7 h => ?_)
      obtain ⟨b9, e10, h⟩ := h
      refine zs_stk0 (zs_rfe e10) ?_
      exact zu_throw d_4091_175 h
def w_X5_head_104 (X : zs_X) (d : Nat) (p0 : Nat) (p1 : Int32) (p3 : Int32) (p5 : Option Nat) (S : zs_T) (Q : zs_Q) : Prop :=
  (((¬ p3 = 0 → (zs_K S p0 = some (.inl 4) ∧ zs_C X d 4008 [.ref p0, .int (58 : Int32)] S (zs_kV (fun S3 => (zs_K S3 p0 = some (.inl 4) ∧ zs_C X d 4061 [.ref p0] S3 (zs_kR (fun v7 S6 => (∃ b8, p5 = some b8 ∧ zs_K S6 b8 = some (.inl 10) ∧ ab_n0 X.1 ≤ b8 ∧ ∀ S12, S12 = zs_sR S6 10006 b8 v7 → ∃ b15, (zs_R S12 10006 b8) = some b15 ∧ zs_K S6 b15 = some (.inl 6) ∧ zs_C X d 6002 [.ref b15] S12 (zs_kI (fun v19 S18 => (((¬ v19 = 0 → w_X5_head_176 X d p1 p5 (zs_R S12 10006 b8) S18 Q) ∧ (¬ (¬ v19 = 0) → (zs_K S18 b15 = some (.inl 6) ∧ (((zs_I S18 6000 b15) = (5 : Int32) → w_X5_head_176 X d p1 p5 (zs_R S12 10006 b8) S18 Q) ∧ (¬ ((zs_I S18 6000 b15) = (5 : Int32)) → w_X5_head_150 X d p0 p1 p5 (zs_R S12 10006 b8) S18 Q))))))) Q))) Q))) Q))) ∧ (¬ (¬ p3 = 0) → (Q (.returned (some (va_rf p5))) S))))
theorem u_X5_head_104 {σ : Nat → Nat} {n0 : Nat} {bf : ab_B} {d : Nat} {p0 : Nat} {p1 : Int32} {p3 : Int32} {p5 : Option Nat} {S : zs_T} {Q : zs_Q} (hB : zt_B bf) (h : w_X5_head_104 (zx σ n0 bf) d p0 p1 p3 p5 S Q) : zs_U (zx σ n0 bf) d 4091 104 [(0, .ref p0), (1, .int p1), (3, .int p3), (5, va_rf p5)] [] S Q := by
  unfold w_X5_head_104 at h
  refine zu_iload_n d_4091_104 rfl ?_
  refine zu_ifne (t := 111) d_4091_105 rfl (fun c1 => ?_) (fun c1 => ?_)
  · have h := h.1 c1
    refine zu_aload_n d_4091_111 rfl (zs_ra _) ?_
    refine zu_bipush d_4091_112 zj_58 ?_
    obtain ⟨k2, h⟩ := h
    refine zc_4_224 (x0 := (58 : Int32)) hB rfl k2 d_4091_114 (Nat.le_of_ble_eq_true rfl) h (fun S3 h => ?_)
    refine zu_aload d_4091_117 rfl (zs_rr _) ?_
    refine zu_aload_n d_4091_119 rfl (zs_ra _) ?_
    obtain ⟨k5, h⟩ := h
    refine zc_4_332  hB rfl k5 d_4091_120 (by simp only [List.map_cons, List.map_nil, List.sum_cons, List.sum_nil, zs_cat, zs_cI, zs_cJ, zs_cA]; exact Nat.le_of_ble_eq_true rfl) h (fun v7 S6 h => ?_)
    obtain ⟨b8, e9, h⟩ := h
    refine zs_stk1 (zs_rfe e9) ?_
    obtain ⟨k10, h⟩ := h
    obtain ⟨k11, h⟩ := h
    refine zp_4_255 (v := v7) rfl d_4091_123 k10 k11 ?_
    generalize e13 : zs_sR S6 10006 b8 v7 = S12
    have h := h S12 e13.symm
    have K14 : ∀ b, zs_K S12 b = zs_K S6 b := zs_Kt e13 (zs_KsR _ _ _ _) (fun _ => rfl)
    refine zu_aload d_4091_126 rfl (zs_rr _) ?_
    refine zs_stk0 (zs_rfe e9) ?_
    refine zg_4_255 rfl d_4091_128 ((K14 _).trans k10) ?_
    refine zu_astore d_4091_131 (zs_rr _) (zs_lt zq_4091 rfl) ?_
    refine zu_aload d_4091_133 rfl (zs_rr _) ?_
    obtain ⟨b15, e16, h⟩ := h
    refine zs_stk0 (zs_rfe e16) ?_
    obtain ⟨k17, h⟩ := h
    refine zc_4_335  hB rfl ((K14 _).trans k17) d_4091_135 (Nat.le_of_ble_eq_true rfl) h (fun v19 S18 h => ?_)
    refine zu_ifne (t := 176) d_4091_138 rfl (fun c20 => ?_) (fun c20 => ?_)
    · have h := h.1 c20
      exact (u_X5_head_176 hB h).weak ⟨rfl, rfl, rfl, trivial⟩
    · have h := h.2 c20
      refine zu_aload d_4091_141 rfl (zs_rr _) ?_
      refine zs_stk0 (zs_rfe e16) ?_
      obtain ⟨k21, h⟩ := h
      refine zg_4_369 rfl d_4091_143 k21 ?_
      refine zu_iconst d_4091_146 zi_5 ?_
      refine zu_cmpeq (t := 176) d_4091_147 rfl (fun c22 => ?_) (fun c22 => ?_)
      · have h := h.1 c22
        exact (u_X5_head_176 hB h).weak ⟨rfl, rfl, rfl, trivial⟩
      · have h := h.2 c22
        exact (u_X5_head_150 hB h).weak ⟨rfl, rfl, rfl, rfl, trivial⟩
  · have h := h.2 c1
    refine zu_aload d_4091_108 rfl (zs_rr _) ?_
    exact zu_aret d_4091_110 zr_4091 (zs_rr _) h
def w_X5_head_35 (X : zs_X) (d : Nat) (p0 : Nat) (p1 : Int32) (p3 : Int32) (p5 : Option Nat) (S : zs_T) (Q : zs_Q) : Prop :=
  (zs_K S p0 = some (.inl 4) ∧ zs_C X d 4003 [.ref p0, .int p1, .int (3 : Int32), va_rf none] S (zs_kR (fun v3 S2 => (∃ b4, v3 = some b4 ∧ zs_K S2 b4 = some (.inl 7) ∧ ab_n0 X.1 ≤ b4 ∧ ∀ S8, S8 = zs_sR S2 7006 b4 p5 → zs_K S2 p0 = some (.inl 4) ∧ ∃ b12, (zs_R S8 4000 p0) = some b12 ∧ zs_K S2 b12 = some (.inl 5) ∧ zs_C X d 5017 [.ref b12, .int (40 : Int32)] S8 (zs_kI (fun v16 S15 => (((v16 = 0 → w_X5_head_104 X d p0 p1 p3 p5 S15 Q) ∧ (¬ (v16 = 0) → (zs_U X d 4091 66 [(0, .ref p0), (1, .int p1), (3, .int p3), (5, va_rf p5), (7, .int (1 : Int32))] [] S15 Q))))) Q))) Q))
theorem u_X5_head_35 {σ : Nat → Nat} {n0 : Nat} {bf : ab_B} {d : Nat} {p0 : Nat} {p1 : Int32} {p3 : Int32} {p5 : Option Nat} {S : zs_T} {Q : zs_Q} (hB : zt_B bf) (h : w_X5_head_35 (zx σ n0 bf) d p0 p1 p3 p5 S Q) : zs_U (zx σ n0 bf) d 4091 35 [(0, .ref p0), (1, .int p1), (3, .int p3), (5, va_rf p5)] [] S Q := by
  unfold w_X5_head_35 at h
  refine zu_aload_n d_4091_35 rfl (zs_ra _) ?_
  refine zu_iload_n d_4091_36 rfl ?_
  refine zu_iconst d_4091_37 zi_3 ?_
  refine zu_stk d_4091_38 rfl rfl ?_
  obtain ⟨k1, h⟩ := h
  refine zc_4_165 (x0 := p1) (x1 := (3 : Int32)) (x2 := none) hB rfl k1 d_4091_39 (Nat.le_of_ble_eq_true rfl) h (fun v3 S2 h => ?_)
  refine zu_astore d_4091_42 (zs_rr _) (zs_lt zq_4091 rfl) ?_
  refine zs_U.weak (L1 := [(6, va_rf v3), (0, .ref p0), (1, .int p1), (3, .int p3), (5, va_rf p5)]) ?_ ⟨rfl, zs_gp1 rfl (Or.inl rfl) rfl, zs_gp1 rfl (Or.inl rfl) rfl, zs_gp1 rfl (Or.inl rfl) rfl, zs_gp1 rfl (Or.inl (zs_cat _)) rfl, trivial⟩
  refine zu_aload d_4091_44 rfl (zs_rr _) ?_
  refine zu_aload d_4091_46 rfl (zs_rr _) ?_
  obtain ⟨b4, e5, h⟩ := h
  refine zs_stk1 (zs_rfe e5) ?_
  obtain ⟨k6, h⟩ := h
  obtain ⟨k7, h⟩ := h
  refine zp_4_243 (v := p5) rfl d_4091_48 k6 k7 ?_
  generalize e9 : zs_sR S2 7006 b4 p5 = S8
  have h := h S8 e9.symm
  have K10 : ∀ b, zs_K S8 b = zs_K S2 b := zs_Kt e9 (zs_KsR _ _ _ _) (fun _ => rfl)
  refine zu_aload_n d_4091_51 rfl (zs_ra _) ?_
  obtain ⟨k11, h⟩ := h
  refine zg_4_5 rfl d_4091_52 ((K10 _).trans k11) ?_
  refine zu_bipush d_4091_55 zj_40 ?_
  obtain ⟨b12, e13, h⟩ := h
  refine zs_stk1 (zs_rfe e13) ?_
  obtain ⟨k14, h⟩ := h
  refine zc_4_21 (x0 := (40 : Int32)) hB rfl ((K10 _).trans k14) d_4091_57 (Nat.le_of_ble_eq_true rfl) h (fun v16 S15 h => ?_)
  refine zu_ifeq (t := 104) d_4091_60 rfl (fun c17 => ?_) (fun c17 => ?_)
  · have h := h.1 c17
    exact (u_X5_head_104 hB h).weak ⟨rfl, rfl, rfl, rfl, trivial⟩
  · have h := h.2 c17
    refine zu_iconst d_4091_63 zi_1 ?_
    refine zu_istore d_4091_64 (zs_lt zq_4091 rfl) ?_
    refine zs_U.weak (L1 := [(7, .int (1 : Int32)), (0, .ref p0), (1, .int p1), (3, .int p3), (5, va_rf p5), (6, va_rf v3)]) ?_ ⟨rfl, zs_gp1 rfl (Or.inl rfl) rfl, zs_gp1 rfl (Or.inl rfl) rfl, zs_gp1 rfl (Or.inl rfl) rfl, zs_gp1 rfl (Or.inl (zs_cat _)) rfl, zs_gp1 rfl (Or.inl (zs_cat _)) rfl, trivial⟩
    exact h.weak ⟨rfl, rfl, rfl, rfl, rfl, trivial⟩
def w_X5_head_66 (X : zs_X) (d : Nat) (p0 : Nat) (p1 : Int32) (p3 : Int32) (p5 : Option Nat) (p7 : Int32) (S : zs_T) (Q : zs_Q) : Prop :=
  (((p7 = 0 → (zs_K S p0 = some (.inl 4) ∧ zs_C X d 4008 [.ref p0, .int (41 : Int32)] S (zs_kV (fun S3 => w_X5_head_104 X d p0 p1 p3 p5 S3 Q) Q))) ∧ (¬ (p7 = 0) → (zs_K S p0 = some (.inl 4) ∧ ∃ b6, (zs_R S 4000 p0) = some b6 ∧ zs_K S b6 = some (.inl 5) ∧ zs_C X d 5004 [.ref b6] S (zs_kV (fun S9 => (zs_K S9 p0 = some (.inl 4) ∧ zs_C X d 4092 [.ref p0, va_rf p5] S9 (zs_kV (fun S12 => (zs_K S12 p0 = some (.inl 4) ∧ ∃ b15, (zs_R S12 4000 p0) = some b15 ∧ zs_K S12 b15 = some (.inl 5) ∧ zs_C X d 5017 [.ref b15, .int (59 : Int32)] S12 (zs_kI (fun v19 S18 => (zs_U X d 4091 66 [(0, .ref p0), (1, .int p1), (3, .int p3), (5, va_rf p5), (7, .int v19)] [] S18 Q)) Q))) Q))) Q)))))
theorem u_X5_head_66 {σ : Nat → Nat} {n0 : Nat} {bf : ab_B} {d : Nat} {p0 : Nat} {p1 : Int32} {p3 : Int32} {p5 : Option Nat} {p7 : Int32} {S : zs_T} {Q : zs_Q} (hB : zt_B bf) (h : w_X5_head_66 (zx σ n0 bf) d p0 p1 p3 p5 p7 S Q) : zs_U (zx σ n0 bf) d 4091 66 [(0, .ref p0), (1, .int p1), (3, .int p3), (5, va_rf p5), (7, .int p7)] [] S Q := by
  unfold w_X5_head_66 at h
  refine zu_iload d_4091_66 rfl ?_
  refine zu_ifeq (t := 98) d_4091_68 rfl (fun c1 => ?_) (fun c1 => ?_)
  · have h := h.1 c1
    refine zu_aload_n d_4091_98 rfl (zs_ra _) ?_
    refine zu_bipush d_4091_99 zj_41 ?_
    obtain ⟨k2, h⟩ := h
    refine zc_4_224 (x0 := (41 : Int32)) hB rfl k2 d_4091_101 (Nat.le_of_ble_eq_true rfl) h (fun S3 h => ?_)
    exact (u_X5_head_104 hB h).weak ⟨rfl, rfl, rfl, rfl, trivial⟩
  · have h := h.2 c1
    refine zu_aload_n d_4091_71 rfl (zs_ra _) ?_
    obtain ⟨k5, h⟩ := h
    refine zg_4_5 rfl d_4091_72 k5 ?_
    obtain ⟨b6, e7, h⟩ := h
    refine zs_stk0 (zs_rfe e7) ?_
    obtain ⟨k8, h⟩ := h
    refine zc_4_29  hB rfl k8 d_4091_75 (Nat.le_of_ble_eq_true rfl) h (fun S9 h => ?_)
    refine zu_aload_n d_4091_78 rfl (zs_ra _) ?_
    refine zu_aload d_4091_79 rfl (zs_rr _) ?_
    obtain ⟨k11, h⟩ := h
    refine zc_4_816 (x0 := p5) hB rfl k11 d_4091_81 (Nat.le_of_ble_eq_true rfl) h (fun S12 h => ?_)
    refine zu_aload_n d_4091_84 rfl (zs_ra _) ?_
    obtain ⟨k14, h⟩ := h
    refine zg_4_5 rfl d_4091_85 k14 ?_
    refine zu_bipush d_4091_88 zj_59 ?_
    obtain ⟨b15, e16, h⟩ := h
    refine zs_stk1 (zs_rfe e16) ?_
    obtain ⟨k17, h⟩ := h
    refine zc_4_21 (x0 := (59 : Int32)) hB rfl k17 d_4091_90 (Nat.le_of_ble_eq_true rfl) h (fun v19 S18 h => ?_)
    refine zu_istore d_4091_93 (zs_lt zq_4091 rfl) ?_
    refine zu_goto (t := 66) d_4091_95 rfl ?_
    exact h.weak ⟨rfl, rfl, rfl, rfl, rfl, trivial⟩
def w_X5_head (X : zs_X) (d : Nat) (p0 : Nat) (p1 : Int32) (p2 : Int32) (p3 : Int32) (p4 : Option Nat) (S : zs_T) (Q : zs_Q) : Prop :=
  (∀ a1 S2, a1 = zs_N S → S2 = zs_nw S (.inl 10) 12 → zs_K S2 p0 = some (.inl 4) ∧ ∃ b7, (zs_R S2 4001 p0) = some b7 ∧ zs_K S2 b7 = some (.inl 3) ∧ ∃ b10, (zs_R S2 3004 b7) = some b10 ∧ zs_K S2 b10 = some (.inl 16) ∧ zs_C X d 16001 [.ref b10] S2 (zs_kI (fun v14 S13 => (zs_C X d 10000 [.ref a1, .int v14, .int p2, va_rf p4] S13 (zs_kV (fun S15 => (zs_K S15 p0 = some (.inl 4) ∧ ∃ b18, (zs_R S15 4001 p0) = some b18 ∧ zs_K S15 b18 = some (.inl 3) ∧ ∃ b21, (zs_R S15 3004 b18) = some b21 ∧ zs_K S15 b21 = some (.inl 16) ∧ zs_C X d 16002 [.ref b21, va_rf (some a1)] S15 (zs_kI (fun v25 S24 => (w_X5_head_35 X d p0 p1 p3 (some a1) S24 Q)) Q))) Q))) Q))
theorem u_X5_head {σ : Nat → Nat} {n0 : Nat} {bf : ab_B} {d : Nat} {p0 : Nat} {p1 : Int32} {p2 : Int32} {p3 : Int32} {p4 : Option Nat} {S : zs_T} {Q : zs_Q} (hB : zt_B bf) (hd : 1 ≤ d) (h : w_X5_head (zx σ n0 bf) (d - 1) p0 p1 p2 p3 p4 S Q) : zs_C (zx σ n0 bf) d 4091 [.ref p0, .int p1, .int p2, .int p3, va_rf p4] S Q := by
  have hL : lv_args 0 [.ref p0, .int p1, .int p2, .int p3, va_rf p4] = [(0, .ref p0), (1, .int p1), (2, .int p2), (3, .int p3), (4, va_rf p4)] := by simp [lv_args, zs_cat, zs_cI, zs_cJ, zs_cA]
  refine zs_C.of1 (hB.2 4091 (by decide) (by decide)) hd (by rw [hL]; exact zs_sub_self _ (by exact ⟨rfl, rfl, rfl, rfl, rfl, trivial⟩)) ?_
  rw [hL]
  clear hL
  unfold w_X5_head at h
  refine zn_4_210 rfl d_4091_0 ?_
  generalize e4 : zs_nw S (.inl 10) 12 = S2
  generalize e3 : zs_N S = a1
  have h := h a1 S2 e3.symm e4.symm
  have k5 := zs_kn e3 e4
  refine zu_dup d_4091_3 rfl ?_
  refine zu_aload_n d_4091_4 rfl (zs_ra _) ?_
  obtain ⟨k6, h⟩ := h
  refine zg_4_128 rfl d_4091_5 k6 ?_
  obtain ⟨b7, e8, h⟩ := h
  refine zs_stk0 (zs_rfe e8) ?_
  obtain ⟨k9, h⟩ := h
  refine zg_4_215 rfl d_4091_8 k9 ?_
  obtain ⟨b10, e11, h⟩ := h
  refine zs_stk0 (zs_rfe e11) ?_
  obtain ⟨k12, h⟩ := h
  refine zc_4_50  hB rfl k12 d_4091_11 (Nat.le_of_ble_eq_true rfl) h (fun v14 S13 h => ?_)
  refine zu_iload_n d_4091_14 rfl ?_
  refine zu_aload d_4091_15 rfl (zs_rr _) ?_
  refine zc_4_212 (x0 := v14) (x1 := p2) (x2 := p4) hB rfl d_4091_17 (Nat.le_of_ble_eq_true rfl) h (fun S15 h => ?_)
  refine zu_astore d_4091_20 (zs_ra _) (zs_lt zq_4091 rfl) ?_
  refine zs_U.weak (L1 := [(5, .ref a1), (0, .ref p0), (1, .int p1), (2, .int p2), (3, .int p3), (4, va_rf p4)]) ?_ ⟨rfl, zs_gp1 rfl (Or.inl rfl) rfl, zs_gp1 rfl (Or.inl rfl) rfl, zs_gp1 rfl (Or.inl rfl) rfl, zs_gp1 rfl (Or.inl rfl) rfl, zs_gp1 rfl (Or.inl (zs_cat _)) rfl, trivial⟩
  refine zu_aload_n d_4091_22 rfl (zs_ra _) ?_
  obtain ⟨k17, h⟩ := h
  refine zg_4_128 rfl d_4091_23 k17 ?_
  obtain ⟨b18, e19, h⟩ := h
  refine zs_stk0 (zs_rfe e19) ?_
  obtain ⟨k20, h⟩ := h
  refine zg_4_215 rfl d_4091_26 k20 ?_
  refine zu_aload d_4091_29 rfl (zs_ra _) ?_
  obtain ⟨b21, e22, h⟩ := h
  refine zs_stk1 (zs_rfe e22) ?_
  obtain ⟨k23, h⟩ := h
  refine zc_4_140 (x0 := (some a1)) hB rfl k23 d_4091_31 (Nat.le_of_ble_eq_true rfl) h (fun v25 S24 h => ?_)
  refine zu_pop d_4091_34 rfl ?_
  exact (u_X5_head_35 hB h).weak ⟨rfl, rfl, rfl, rfl, trivial⟩
/-! SchemaPascal$Reader.param(LSchemaPascal$Routine;)V -/
theorem zm_4092 {σ : Nat → Nat} {n0 : Nat} {bf : ab_B} : ab_code (zx σ n0 bf).1 4092 = prog_9_method_123_code := rfl
theorem zq_4092 {σ : Nat → Nat} {n0 : Nat} {bf : ab_B} : ab_maxL (zx σ n0 bf).1 4092 = 8 := rfl
theorem zr_4092 {σ : Nat → Nat} {n0 : Nat} {bf : ab_B} : ab_ret (zx σ n0 bf).1 4092 = (Option.none : Option Jvm.ClassFile.FieldType) := rfl
theorem d_4092_0 {σ : Nat → Nat} {n0 : Nat} {bf : ab_B} : decode (ab_code (zx σ n0 bf).1 4092) 0 = .ok (.aload_n 0, 1) := zd zm_4092 (by decide +kernel)
theorem d_4092_1 {σ : Nat → Nat} {n0 : Nat} {bf : ab_B} : decode (ab_code (zx σ n0 bf).1 4092) 1 = .ok (.getfield 5, 3) := zd zm_4092 (by decide +kernel)
theorem d_4092_4 {σ : Nat → Nat} {n0 : Nat} {bf : ab_B} : decode (ab_code (zx σ n0 bf).1 4092) 4 = .ok (.iconst 3, 1) := zd zm_4092 (by decide +kernel)
theorem d_4092_5 {σ : Nat → Nat} {n0 : Nat} {bf : ab_B} : decode (ab_code (zx σ n0 bf).1 4092) 5 = .ok (.invokevirtual 33, 3) := zd zm_4092 (by decide +kernel)
theorem d_4092_8 {σ : Nat → Nat} {n0 : Nat} {bf : ab_B} : decode (ab_code (zx σ n0 bf).1 4092) 8 = .ok (.ifCond .ne 15, 3) := zd zm_4092 (by decide +kernel)
theorem d_4092_11 {σ : Nat → Nat} {n0 : Nat} {bf : ab_B} : decode (ab_code (zx σ n0 bf).1 4092) 11 = .ok (.aload_n 0, 1) := zd zm_4092 (by decide +kernel)
theorem d_4092_12 {σ : Nat → Nat} {n0 : Nat} {bf : ab_B} : decode (ab_code (zx σ n0 bf).1 4092) 12 = .ok (.getfield 5, 3) := zd zm_4092 (by decide +kernel)
theorem d_4092_15 {σ : Nat → Nat} {n0 : Nat} {bf : ab_B} : decode (ab_code (zx σ n0 bf).1 4092) 15 = .ok (.bipush 34, 2) := zd zm_4092 (by decide +kernel)
theorem d_4092_17 {σ : Nat → Nat} {n0 : Nat} {bf : ab_B} : decode (ab_code (zx σ n0 bf).1 4092) 17 = .ok (.invokevirtual 33, 3) := zd zm_4092 (by decide +kernel)
theorem d_4092_20 {σ : Nat → Nat} {n0 : Nat} {bf : ab_B} : decode (ab_code (zx σ n0 bf).1 4092) 20 = .ok (.ifCond .eq 7, 3) := zd zm_4092 (by decide +kernel)
theorem d_4092_23 {σ : Nat → Nat} {n0 : Nat} {bf : ab_B} : decode (ab_code (zx σ n0 bf).1 4092) 23 = .ok (.iconst 1, 1) := zd zm_4092 (by decide +kernel)
theorem d_4092_24 {σ : Nat → Nat} {n0 : Nat} {bf : ab_B} : decode (ab_code (zx σ n0 bf).1 4092) 24 = .ok (.goto 4, 3) := zd zm_4092 (by decide +kernel)
theorem d_4092_27 {σ : Nat → Nat} {n0 : Nat} {bf : ab_B} : decode (ab_code (zx σ n0 bf).1 4092) 27 = .ok (.iconst 0, 1) := zd zm_4092 (by decide +kernel)
theorem d_4092_28 {σ : Nat → Nat} {n0 : Nat} {bf : ab_B} : decode (ab_code (zx σ n0 bf).1 4092) 28 = .ok (.istore_n 2, 1) := zd zm_4092 (by decide +kernel)
theorem d_4092_29 {σ : Nat → Nat} {n0 : Nat} {bf : ab_B} : decode (ab_code (zx σ n0 bf).1 4092) 29 = .ok (.aload_n 0, 1) := zd zm_4092 (by decide +kernel)
theorem d_4092_30 {σ : Nat → Nat} {n0 : Nat} {bf : ab_B} : decode (ab_code (zx σ n0 bf).1 4092) 30 = .ok (.getfield 5, 3) := zd zm_4092 (by decide +kernel)
theorem d_4092_33 {σ : Nat → Nat} {n0 : Nat} {bf : ab_B} : decode (ab_code (zx σ n0 bf).1 4092) 33 = .ok (.bipush 34, 2) := zd zm_4092 (by decide +kernel)
theorem d_4092_35 {σ : Nat → Nat} {n0 : Nat} {bf : ab_B} : decode (ab_code (zx σ n0 bf).1 4092) 35 = .ok (.invokevirtual 33, 3) := zd zm_4092 (by decide +kernel)
theorem d_4092_38 {σ : Nat → Nat} {n0 : Nat} {bf : ab_B} : decode (ab_code (zx σ n0 bf).1 4092) 38 = .ok (.istore_n 3, 1) := zd zm_4092 (by decide +kernel)
theorem d_4092_39 {σ : Nat → Nat} {n0 : Nat} {bf : ab_B} : decode (ab_code (zx σ n0 bf).1 4092) 39 = .ok (.iload_n 2, 1) := zd zm_4092 (by decide +kernel)
theorem d_4092_40 {σ : Nat → Nat} {n0 : Nat} {bf : ab_B} : decode (ab_code (zx σ n0 bf).1 4092) 40 = .ok (.ifCond .eq 10, 3) := zd zm_4092 (by decide +kernel)
theorem d_4092_43 {σ : Nat → Nat} {n0 : Nat} {bf : ab_B} : decode (ab_code (zx σ n0 bf).1 4092) 43 = .ok (.aload_n 0, 1) := zd zm_4092 (by decide +kernel)
theorem d_4092_44 {σ : Nat → Nat} {n0 : Nat} {bf : ab_B} : decode (ab_code (zx σ n0 bf).1 4092) 44 = .ok (.getfield 5, 3) := zd zm_4092 (by decide +kernel)
theorem d_4092_47 {σ : Nat → Nat} {n0 : Nat} {bf : ab_B} : decode (ab_code (zx σ n0 bf).1 4092) 47 = .ok (.invokevirtual 29, 3) := zd zm_4092 (by decide +kernel)
theorem d_4092_50 {σ : Nat → Nat} {n0 : Nat} {bf : ab_B} : decode (ab_code (zx σ n0 bf).1 4092) 50 = .ok (.aload_n 1, 1) := zd zm_4092 (by decide +kernel)
theorem d_4092_51 {σ : Nat → Nat} {n0 : Nat} {bf : ab_B} : decode (ab_code (zx σ n0 bf).1 4092) 51 = .ok (.getfield 247, 3) := zd zm_4092 (by decide +kernel)
theorem d_4092_54 {σ : Nat → Nat} {n0 : Nat} {bf : ab_B} : decode (ab_code (zx σ n0 bf).1 4092) 54 = .ok (.invokevirtual 50, 3) := zd zm_4092 (by decide +kernel)
theorem d_4092_57 {σ : Nat → Nat} {n0 : Nat} {bf : ab_B} : decode (ab_code (zx σ n0 bf).1 4092) 57 = .ok (.istore 4, 2) := zd zm_4092 (by decide +kernel)
theorem d_4092_59 {σ : Nat → Nat} {n0 : Nat} {bf : ab_B} : decode (ab_code (zx σ n0 bf).1 4092) 59 = .ok (.iconst 1, 1) := zd zm_4092 (by decide +kernel)
theorem d_4092_60 {σ : Nat → Nat} {n0 : Nat} {bf : ab_B} : decode (ab_code (zx σ n0 bf).1 4092) 60 = .ok (.istore 5, 2) := zd zm_4092 (by decide +kernel)
theorem d_4092_62 {σ : Nat → Nat} {n0 : Nat} {bf : ab_B} : decode (ab_code (zx σ n0 bf).1 4092) 62 = .ok (.iload 5, 2) := zd zm_4092 (by decide +kernel)
theorem d_4092_64 {σ : Nat → Nat} {n0 : Nat} {bf : ab_B} : decode (ab_code (zx σ n0 bf).1 4092) 64 = .ok (.ifCond .eq 180, 3) := zd zm_4092 (by decide +kernel)
theorem d_4092_67 {σ : Nat → Nat} {n0 : Nat} {bf : ab_B} : decode (ab_code (zx σ n0 bf).1 4092) 67 = .ok (.aload_n 0, 1) := zd zm_4092 (by decide +kernel)
theorem d_4092_68 {σ : Nat → Nat} {n0 : Nat} {bf : ab_B} : decode (ab_code (zx σ n0 bf).1 4092) 68 = .ok (.getfield 5, 3) := zd zm_4092 (by decide +kernel)
theorem d_4092_71 {σ : Nat → Nat} {n0 : Nat} {bf : ab_B} : decode (ab_code (zx σ n0 bf).1 4092) 71 = .ok (.invokevirtual 36, 3) := zd zm_4092 (by decide +kernel)
theorem d_4092_74 {σ : Nat → Nat} {n0 : Nat} {bf : ab_B} : decode (ab_code (zx σ n0 bf).1 4092) 74 = .ok (.ifCond .ne 9, 3) := zd zm_4092 (by decide +kernel)
theorem d_4092_77 {σ : Nat → Nat} {n0 : Nat} {bf : ab_B} : decode (ab_code (zx σ n0 bf).1 4092) 77 = .ok (.aload_n 0, 1) := zd zm_4092 (by decide +kernel)
theorem d_4092_78 {σ : Nat → Nat} {n0 : Nat} {bf : ab_B} : decode (ab_code (zx σ n0 bf).1 4092) 78 = .ok (.iconst 2, 1) := zd zm_4092 (by decide +kernel)
theorem d_4092_79 {σ : Nat → Nat} {n0 : Nat} {bf : ab_B} : decode (ab_code (zx σ n0 bf).1 4092) 79 = .ok (.invokevirtual 25, 3) := zd zm_4092 (by decide +kernel)
theorem d_4092_82 {σ : Nat → Nat} {n0 : Nat} {bf : ab_B} : decode (ab_code (zx σ n0 bf).1 4092) 82 = .ok (.athrow, 1) := zd zm_4092 (by decide +kernel)
theorem d_4092_83 {σ : Nat → Nat} {n0 : Nat} {bf : ab_B} : decode (ab_code (zx σ n0 bf).1 4092) 83 = .ok (.aload_n 1, 1) := zd zm_4092 (by decide +kernel)
theorem d_4092_84 {σ : Nat → Nat} {n0 : Nat} {bf : ab_B} : decode (ab_code (zx σ n0 bf).1 4092) 84 = .ok (.getfield 247, 3) := zd zm_4092 (by decide +kernel)
theorem d_4092_87 {σ : Nat → Nat} {n0 : Nat} {bf : ab_B} : decode (ab_code (zx σ n0 bf).1 4092) 87 = .ok (.invokevirtual 50, 3) := zd zm_4092 (by decide +kernel)
theorem d_4092_90 {σ : Nat → Nat} {n0 : Nat} {bf : ab_B} : decode (ab_code (zx σ n0 bf).1 4092) 90 = .ok (.bipush 10, 2) := zd zm_4092 (by decide +kernel)
theorem d_4092_92 {σ : Nat → Nat} {n0 : Nat} {bf : ab_B} : decode (ab_code (zx σ n0 bf).1 4092) 92 = .ok (.if_icmp .ne 10, 3) := zd zm_4092 (by decide +kernel)
theorem d_4092_95 {σ : Nat → Nat} {n0 : Nat} {bf : ab_B} : decode (ab_code (zx σ n0 bf).1 4092) 95 = .ok (.aload_n 0, 1) := zd zm_4092 (by decide +kernel)
theorem d_4092_96 {σ : Nat → Nat} {n0 : Nat} {bf : ab_B} : decode (ab_code (zx σ n0 bf).1 4092) 96 = .ok (.bipush 8, 2) := zd zm_4092 (by decide +kernel)
theorem d_4092_98 {σ : Nat → Nat} {n0 : Nat} {bf : ab_B} : decode (ab_code (zx σ n0 bf).1 4092) 98 = .ok (.invokevirtual 25, 3) := zd zm_4092 (by decide +kernel)
theorem d_4092_101 {σ : Nat → Nat} {n0 : Nat} {bf : ab_B} : decode (ab_code (zx σ n0 bf).1 4092) 101 = .ok (.athrow, 1) := zd zm_4092 (by decide +kernel)
theorem d_4092_102 {σ : Nat → Nat} {n0 : Nat} {bf : ab_B} : decode (ab_code (zx σ n0 bf).1 4092) 102 = .ok (.iconst 0, 1) := zd zm_4092 (by decide +kernel)
theorem d_4092_103 {σ : Nat → Nat} {n0 : Nat} {bf : ab_B} : decode (ab_code (zx σ n0 bf).1 4092) 103 = .ok (.istore 6, 2) := zd zm_4092 (by decide +kernel)
theorem d_4092_105 {σ : Nat → Nat} {n0 : Nat} {bf : ab_B} : decode (ab_code (zx σ n0 bf).1 4092) 105 = .ok (.iload 6, 2) := zd zm_4092 (by decide +kernel)
theorem d_4092_107 {σ : Nat → Nat} {n0 : Nat} {bf : ab_B} : decode (ab_code (zx σ n0 bf).1 4092) 107 = .ok (.aload_n 1, 1) := zd zm_4092 (by decide +kernel)
theorem d_4092_108 {σ : Nat → Nat} {n0 : Nat} {bf : ab_B} : decode (ab_code (zx σ n0 bf).1 4092) 108 = .ok (.getfield 247, 3) := zd zm_4092 (by decide +kernel)
theorem d_4092_111 {σ : Nat → Nat} {n0 : Nat} {bf : ab_B} : decode (ab_code (zx σ n0 bf).1 4092) 111 = .ok (.invokevirtual 50, 3) := zd zm_4092 (by decide +kernel)
theorem d_4092_114 {σ : Nat → Nat} {n0 : Nat} {bf : ab_B} : decode (ab_code (zx σ n0 bf).1 4092) 114 = .ok (.if_icmp .ge 40, 3) := zd zm_4092 (by decide +kernel)
theorem d_4092_117 {σ : Nat → Nat} {n0 : Nat} {bf : ab_B} : decode (ab_code (zx σ n0 bf).1 4092) 117 = .ok (.aload_n 1, 1) := zd zm_4092 (by decide +kernel)
theorem d_4092_118 {σ : Nat → Nat} {n0 : Nat} {bf : ab_B} : decode (ab_code (zx σ n0 bf).1 4092) 118 = .ok (.getfield 247, 3) := zd zm_4092 (by decide +kernel)
theorem d_4092_121 {σ : Nat → Nat} {n0 : Nat} {bf : ab_B} : decode (ab_code (zx σ n0 bf).1 4092) 121 = .ok (.iload 6, 2) := zd zm_4092 (by decide +kernel)
theorem d_4092_123 {σ : Nat → Nat} {n0 : Nat} {bf : ab_B} : decode (ab_code (zx σ n0 bf).1 4092) 123 = .ok (.invokevirtual 56, 3) := zd zm_4092 (by decide +kernel)
theorem d_4092_126 {σ : Nat → Nat} {n0 : Nat} {bf : ab_B} : decode (ab_code (zx σ n0 bf).1 4092) 126 = .ok (.checkcast 60, 3) := zd zm_4092 (by decide +kernel)
theorem d_4092_129 {σ : Nat → Nat} {n0 : Nat} {bf : ab_B} : decode (ab_code (zx σ n0 bf).1 4092) 129 = .ok (.getfield 89, 3) := zd zm_4092 (by decide +kernel)
theorem d_4092_132 {σ : Nat → Nat} {n0 : Nat} {bf : ab_B} : decode (ab_code (zx σ n0 bf).1 4092) 132 = .ok (.aload_n 0, 1) := zd zm_4092 (by decide +kernel)
theorem d_4092_133 {σ : Nat → Nat} {n0 : Nat} {bf : ab_B} : decode (ab_code (zx σ n0 bf).1 4092) 133 = .ok (.getfield 5, 3) := zd zm_4092 (by decide +kernel)
theorem d_4092_136 {σ : Nat → Nat} {n0 : Nat} {bf : ab_B} : decode (ab_code (zx σ n0 bf).1 4092) 136 = .ok (.getfield 40, 3) := zd zm_4092 (by decide +kernel)
theorem d_4092_139 {σ : Nat → Nat} {n0 : Nat} {bf : ab_B} : decode (ab_code (zx σ n0 bf).1 4092) 139 = .ok (.if_icmp .ne 9, 3) := zd zm_4092 (by decide +kernel)
theorem d_4092_142 {σ : Nat → Nat} {n0 : Nat} {bf : ab_B} : decode (ab_code (zx σ n0 bf).1 4092) 142 = .ok (.aload_n 0, 1) := zd zm_4092 (by decide +kernel)
theorem d_4092_143 {σ : Nat → Nat} {n0 : Nat} {bf : ab_B} : decode (ab_code (zx σ n0 bf).1 4092) 143 = .ok (.iconst 4, 1) := zd zm_4092 (by decide +kernel)
theorem d_4092_144 {σ : Nat → Nat} {n0 : Nat} {bf : ab_B} : decode (ab_code (zx σ n0 bf).1 4092) 144 = .ok (.invokevirtual 25, 3) := zd zm_4092 (by decide +kernel)
theorem d_4092_147 {σ : Nat → Nat} {n0 : Nat} {bf : ab_B} : decode (ab_code (zx σ n0 bf).1 4092) 147 = .ok (.athrow, 1) := zd zm_4092 (by decide +kernel)
theorem d_4092_148 {σ : Nat → Nat} {n0 : Nat} {bf : ab_B} : decode (ab_code (zx σ n0 bf).1 4092) 148 = .ok (.iinc 6 1, 3) := zd zm_4092 (by decide +kernel)
theorem d_4092_151 {σ : Nat → Nat} {n0 : Nat} {bf : ab_B} : decode (ab_code (zx σ n0 bf).1 4092) 151 = .ok (.goto (-46), 3) := zd zm_4092 (by decide +kernel)
theorem d_4092_154 {σ : Nat → Nat} {n0 : Nat} {bf : ab_B} : decode (ab_code (zx σ n0 bf).1 4092) 154 = .ok (.new 60, 3) := zd zm_4092 (by decide +kernel)
theorem d_4092_157 {σ : Nat → Nat} {n0 : Nat} {bf : ab_B} : decode (ab_code (zx σ n0 bf).1 4092) 157 = .ok (.dup, 1) := zd zm_4092 (by decide +kernel)
theorem d_4092_158 {σ : Nat → Nat} {n0 : Nat} {bf : ab_B} : decode (ab_code (zx σ n0 bf).1 4092) 158 = .ok (.aload_n 0, 1) := zd zm_4092 (by decide +kernel)
theorem d_4092_159 {σ : Nat → Nat} {n0 : Nat} {bf : ab_B} : decode (ab_code (zx σ n0 bf).1 4092) 159 = .ok (.getfield 5, 3) := zd zm_4092 (by decide +kernel)
theorem d_4092_162 {σ : Nat → Nat} {n0 : Nat} {bf : ab_B} : decode (ab_code (zx σ n0 bf).1 4092) 162 = .ok (.getfield 40, 3) := zd zm_4092 (by decide +kernel)
theorem d_4092_165 {σ : Nat → Nat} {n0 : Nat} {bf : ab_B} : decode (ab_code (zx σ n0 bf).1 4092) 165 = .ok (.iconst 2, 1) := zd zm_4092 (by decide +kernel)
theorem d_4092_166 {σ : Nat → Nat} {n0 : Nat} {bf : ab_B} : decode (ab_code (zx σ n0 bf).1 4092) 166 = .ok (.invokespecial 95, 3) := zd zm_4092 (by decide +kernel)
theorem d_4092_169 {σ : Nat → Nat} {n0 : Nat} {bf : ab_B} : decode (ab_code (zx σ n0 bf).1 4092) 169 = .ok (.astore 6, 2) := zd zm_4092 (by decide +kernel)
theorem d_4092_171 {σ : Nat → Nat} {n0 : Nat} {bf : ab_B} : decode (ab_code (zx σ n0 bf).1 4092) 171 = .ok (.aload 6, 2) := zd zm_4092 (by decide +kernel)
theorem d_4092_173 {σ : Nat → Nat} {n0 : Nat} {bf : ab_B} : decode (ab_code (zx σ n0 bf).1 4092) 173 = .ok (.aload_n 1, 1) := zd zm_4092 (by decide +kernel)
theorem d_4092_174 {σ : Nat → Nat} {n0 : Nat} {bf : ab_B} : decode (ab_code (zx σ n0 bf).1 4092) 174 = .ok (.getfield 247, 3) := zd zm_4092 (by decide +kernel)
theorem d_4092_177 {σ : Nat → Nat} {n0 : Nat} {bf : ab_B} : decode (ab_code (zx σ n0 bf).1 4092) 177 = .ok (.invokevirtual 50, 3) := zd zm_4092 (by decide +kernel)
theorem d_4092_180 {σ : Nat → Nat} {n0 : Nat} {bf : ab_B} : decode (ab_code (zx σ n0 bf).1 4092) 180 = .ok (.putfield 104, 3) := zd zm_4092 (by decide +kernel)
theorem d_4092_183 {σ : Nat → Nat} {n0 : Nat} {bf : ab_B} : decode (ab_code (zx σ n0 bf).1 4092) 183 = .ok (.aload 6, 2) := zd zm_4092 (by decide +kernel)
theorem d_4092_185 {σ : Nat → Nat} {n0 : Nat} {bf : ab_B} : decode (ab_code (zx σ n0 bf).1 4092) 185 = .ok (.aload_n 1, 1) := zd zm_4092 (by decide +kernel)
theorem d_4092_186 {σ : Nat → Nat} {n0 : Nat} {bf : ab_B} : decode (ab_code (zx σ n0 bf).1 4092) 186 = .ok (.putfield 107, 3) := zd zm_4092 (by decide +kernel)
theorem d_4092_189 {σ : Nat → Nat} {n0 : Nat} {bf : ab_B} : decode (ab_code (zx σ n0 bf).1 4092) 189 = .ok (.aload 6, 2) := zd zm_4092 (by decide +kernel)
theorem d_4092_191 {σ : Nat → Nat} {n0 : Nat} {bf : ab_B} : decode (ab_code (zx σ n0 bf).1 4092) 191 = .ok (.iload_n 2, 1) := zd zm_4092 (by decide +kernel)
theorem d_4092_192 {σ : Nat → Nat} {n0 : Nat} {bf : ab_B} : decode (ab_code (zx σ n0 bf).1 4092) 192 = .ok (.putfield 690, 3) := zd zm_4092 (by decide +kernel)
theorem d_4092_195 {σ : Nat → Nat} {n0 : Nat} {bf : ab_B} : decode (ab_code (zx σ n0 bf).1 4092) 195 = .ok (.aload 6, 2) := zd zm_4092 (by decide +kernel)
theorem d_4092_197 {σ : Nat → Nat} {n0 : Nat} {bf : ab_B} : decode (ab_code (zx σ n0 bf).1 4092) 197 = .ok (.iload_n 3, 1) := zd zm_4092 (by decide +kernel)
theorem d_4092_198 {σ : Nat → Nat} {n0 : Nat} {bf : ab_B} : decode (ab_code (zx σ n0 bf).1 4092) 198 = .ok (.putfield 111, 3) := zd zm_4092 (by decide +kernel)
theorem d_4092_201 {σ : Nat → Nat} {n0 : Nat} {bf : ab_B} : decode (ab_code (zx σ n0 bf).1 4092) 201 = .ok (.aload_n 1, 1) := zd zm_4092 (by decide +kernel)
theorem d_4092_202 {σ : Nat → Nat} {n0 : Nat} {bf : ab_B} : decode (ab_code (zx σ n0 bf).1 4092) 202 = .ok (.getfield 247, 3) := zd zm_4092 (by decide +kernel)
theorem d_4092_205 {σ : Nat → Nat} {n0 : Nat} {bf : ab_B} : decode (ab_code (zx σ n0 bf).1 4092) 205 = .ok (.aload 6, 2) := zd zm_4092 (by decide +kernel)
theorem d_4092_207 {σ : Nat → Nat} {n0 : Nat} {bf : ab_B} : decode (ab_code (zx σ n0 bf).1 4092) 207 = .ok (.invokevirtual 140, 3) := zd zm_4092 (by decide +kernel)
theorem d_4092_210 {σ : Nat → Nat} {n0 : Nat} {bf : ab_B} : decode (ab_code (zx σ n0 bf).1 4092) 210 = .ok (.pop, 1) := zd zm_4092 (by decide +kernel)
theorem d_4092_211 {σ : Nat → Nat} {n0 : Nat} {bf : ab_B} : decode (ab_code (zx σ n0 bf).1 4092) 211 = .ok (.aload_n 0, 1) := zd zm_4092 (by decide +kernel)
theorem d_4092_212 {σ : Nat → Nat} {n0 : Nat} {bf : ab_B} : decode (ab_code (zx σ n0 bf).1 4092) 212 = .ok (.getfield 5, 3) := zd zm_4092 (by decide +kernel)
theorem d_4092_215 {σ : Nat → Nat} {n0 : Nat} {bf : ab_B} : decode (ab_code (zx σ n0 bf).1 4092) 215 = .ok (.invokevirtual 29, 3) := zd zm_4092 (by decide +kernel)
theorem d_4092_218 {σ : Nat → Nat} {n0 : Nat} {bf : ab_B} : decode (ab_code (zx σ n0 bf).1 4092) 218 = .ok (.aload_n 0, 1) := zd zm_4092 (by decide +kernel)
theorem d_4092_219 {σ : Nat → Nat} {n0 : Nat} {bf : ab_B} : decode (ab_code (zx σ n0 bf).1 4092) 219 = .ok (.getfield 5, 3) := zd zm_4092 (by decide +kernel)
theorem d_4092_222 {σ : Nat → Nat} {n0 : Nat} {bf : ab_B} : decode (ab_code (zx σ n0 bf).1 4092) 222 = .ok (.bipush 44, 2) := zd zm_4092 (by decide +kernel)
theorem d_4092_224 {σ : Nat → Nat} {n0 : Nat} {bf : ab_B} : decode (ab_code (zx σ n0 bf).1 4092) 224 = .ok (.invokevirtual 21, 3) := zd zm_4092 (by decide +kernel)
theorem d_4092_227 {σ : Nat → Nat} {n0 : Nat} {bf : ab_B} : decode (ab_code (zx σ n0 bf).1 4092) 227 = .ok (.istore 5, 2) := zd zm_4092 (by decide +kernel)
theorem d_4092_229 {σ : Nat → Nat} {n0 : Nat} {bf : ab_B} : decode (ab_code (zx σ n0 bf).1 4092) 229 = .ok (.iload 5, 2) := zd zm_4092 (by decide +kernel)
theorem d_4092_231 {σ : Nat → Nat} {n0 : Nat} {bf : ab_B} : decode (ab_code (zx σ n0 bf).1 4092) 231 = .ok (.ifCond .eq 10, 3) := zd zm_4092 (by decide +kernel)
theorem d_4092_234 {σ : Nat → Nat} {n0 : Nat} {bf : ab_B} : decode (ab_code (zx σ n0 bf).1 4092) 234 = .ok (.aload_n 0, 1) := zd zm_4092 (by decide +kernel)
theorem d_4092_235 {σ : Nat → Nat} {n0 : Nat} {bf : ab_B} : decode (ab_code (zx σ n0 bf).1 4092) 235 = .ok (.getfield 5, 3) := zd zm_4092 (by decide +kernel)
theorem d_4092_238 {σ : Nat → Nat} {n0 : Nat} {bf : ab_B} : decode (ab_code (zx σ n0 bf).1 4092) 238 = .ok (.invokevirtual 29, 3) := zd zm_4092 (by decide +kernel)
theorem d_4092_241 {σ : Nat → Nat} {n0 : Nat} {bf : ab_B} : decode (ab_code (zx σ n0 bf).1 4092) 241 = .ok (.goto (-179), 3) := zd zm_4092 (by decide +kernel)
theorem d_4092_244 {σ : Nat → Nat} {n0 : Nat} {bf : ab_B} : decode (ab_code (zx σ n0 bf).1 4092) 244 = .ok (.aload_n 0, 1) := zd zm_4092 (by decide +kernel)
theorem d_4092_245 {σ : Nat → Nat} {n0 : Nat} {bf : ab_B} : decode (ab_code (zx σ n0 bf).1 4092) 245 = .ok (.bipush 58, 2) := zd zm_4092 (by decide +kernel)
theorem d_4092_247 {σ : Nat → Nat} {n0 : Nat} {bf : ab_B} : decode (ab_code (zx σ n0 bf).1 4092) 247 = .ok (.invokevirtual 224, 3) := zd zm_4092 (by decide +kernel)
theorem d_4092_250 {σ : Nat → Nat} {n0 : Nat} {bf : ab_B} : decode (ab_code (zx σ n0 bf).1 4092) 250 = .ok (.aload_n 0, 1) := zd zm_4092 (by decide +kernel)
theorem d_4092_251 {σ : Nat → Nat} {n0 : Nat} {bf : ab_B} : decode (ab_code (zx σ n0 bf).1 4092) 251 = .ok (.invokevirtual 332, 3) := zd zm_4092 (by decide +kernel)
theorem d_4092_254 {σ : Nat → Nat} {n0 : Nat} {bf : ab_B} : decode (ab_code (zx σ n0 bf).1 4092) 254 = .ok (.astore 6, 2) := zd zm_4092 (by decide +kernel)
theorem d_4092_256 {σ : Nat → Nat} {n0 : Nat} {bf : ab_B} : decode (ab_code (zx σ n0 bf).1 4092) 256 = .ok (.iload 4, 2) := zd zm_4092 (by decide +kernel)
theorem d_4092_258 {σ : Nat → Nat} {n0 : Nat} {bf : ab_B} : decode (ab_code (zx σ n0 bf).1 4092) 258 = .ok (.istore 7, 2) := zd zm_4092 (by decide +kernel)
theorem d_4092_260 {σ : Nat → Nat} {n0 : Nat} {bf : ab_B} : decode (ab_code (zx σ n0 bf).1 4092) 260 = .ok (.iload 7, 2) := zd zm_4092 (by decide +kernel)
theorem d_4092_262 {σ : Nat → Nat} {n0 : Nat} {bf : ab_B} : decode (ab_code (zx σ n0 bf).1 4092) 262 = .ok (.aload_n 1, 1) := zd zm_4092 (by decide +kernel)
theorem d_4092_263 {σ : Nat → Nat} {n0 : Nat} {bf : ab_B} : decode (ab_code (zx σ n0 bf).1 4092) 263 = .ok (.getfield 247, 3) := zd zm_4092 (by decide +kernel)
theorem d_4092_266 {σ : Nat → Nat} {n0 : Nat} {bf : ab_B} : decode (ab_code (zx σ n0 bf).1 4092) 266 = .ok (.invokevirtual 50, 3) := zd zm_4092 (by decide +kernel)
theorem d_4092_269 {σ : Nat → Nat} {n0 : Nat} {bf : ab_B} : decode (ab_code (zx σ n0 bf).1 4092) 269 = .ok (.if_icmp .ge 26, 3) := zd zm_4092 (by decide +kernel)
theorem d_4092_272 {σ : Nat → Nat} {n0 : Nat} {bf : ab_B} : decode (ab_code (zx σ n0 bf).1 4092) 272 = .ok (.aload_n 1, 1) := zd zm_4092 (by decide +kernel)
theorem d_4092_273 {σ : Nat → Nat} {n0 : Nat} {bf : ab_B} : decode (ab_code (zx σ n0 bf).1 4092) 273 = .ok (.getfield 247, 3) := zd zm_4092 (by decide +kernel)
theorem d_4092_276 {σ : Nat → Nat} {n0 : Nat} {bf : ab_B} : decode (ab_code (zx σ n0 bf).1 4092) 276 = .ok (.iload 7, 2) := zd zm_4092 (by decide +kernel)
theorem d_4092_278 {σ : Nat → Nat} {n0 : Nat} {bf : ab_B} : decode (ab_code (zx σ n0 bf).1 4092) 278 = .ok (.invokevirtual 56, 3) := zd zm_4092 (by decide +kernel)
theorem d_4092_281 {σ : Nat → Nat} {n0 : Nat} {bf : ab_B} : decode (ab_code (zx σ n0 bf).1 4092) 281 = .ok (.checkcast 60, 3) := zd zm_4092 (by decide +kernel)
theorem d_4092_284 {σ : Nat → Nat} {n0 : Nat} {bf : ab_B} : decode (ab_code (zx σ n0 bf).1 4092) 284 = .ok (.aload 6, 2) := zd zm_4092 (by decide +kernel)
theorem d_4092_286 {σ : Nat → Nat} {n0 : Nat} {bf : ab_B} : decode (ab_code (zx σ n0 bf).1 4092) 286 = .ok (.putfield 65, 3) := zd zm_4092 (by decide +kernel)
theorem d_4092_289 {σ : Nat → Nat} {n0 : Nat} {bf : ab_B} : decode (ab_code (zx σ n0 bf).1 4092) 289 = .ok (.iinc 7 1, 3) := zd zm_4092 (by decide +kernel)
theorem d_4092_292 {σ : Nat → Nat} {n0 : Nat} {bf : ab_B} : decode (ab_code (zx σ n0 bf).1 4092) 292 = .ok (.goto (-32), 3) := zd zm_4092 (by decide +kernel)
theorem d_4092_295 {σ : Nat → Nat} {n0 : Nat} {bf : ab_B} : decode (ab_code (zx σ n0 bf).1 4092) 295 = .ok (.return_, 1) := zd zm_4092 (by decide +kernel)
def w_X5_param_50 (X : zs_X) (d : Nat) (p0 : Nat) (p1 : Option Nat) (p2 : Int32) (p3 : Int32) (S : zs_T) (Q : zs_Q) : Prop :=
  (∃ b1, p1 = some b1 ∧ zs_K S b1 = some (.inl 10) ∧ ∃ b4, (zs_R S 10004 b1) = some b4 ∧ zs_K S b4 = some (.inl 16) ∧ zs_C X d 16001 [.ref b4] S (zs_kI (fun v8 S7 => (zs_U X d 4092 62 [(0, .ref p0), (1, va_rf p1), (2, .int p2), (3, .int p3), (4, .int v8), (5, .int (1 : Int32))] [] S7 Q)) Q))
theorem u_X5_param_50 {σ : Nat → Nat} {n0 : Nat} {bf : ab_B} {d : Nat} {p0 : Nat} {p1 : Option Nat} {p2 : Int32} {p3 : Int32} {S : zs_T} {Q : zs_Q} (hB : zt_B bf) (h : w_X5_param_50 (zx σ n0 bf) d p0 p1 p2 p3 S Q) : zs_U (zx σ n0 bf) d 4092 50 [(0, .ref p0), (1, va_rf p1), (2, .int p2), (3, .int p3)] [] S Q := by
  unfold w_X5_param_50 at h
  refine zu_aload_n d_4092_50 rfl (zs_rr _) ?_
  obtain ⟨b1, e2, h⟩ := h
  refine zs_stk0 (zs_rfe e2) ?_
  obtain ⟨k3, h⟩ := h
  refine zg_4_247 rfl d_4092_51 k3 ?_
  obtain ⟨b4, e5, h⟩ := h
  refine zs_stk0 (zs_rfe e5) ?_
  obtain ⟨k6, h⟩ := h
  refine zc_4_50  hB rfl k6 d_4092_54 (Nat.le_of_ble_eq_true rfl) h (fun v8 S7 h => ?_)
  refine zu_istore d_4092_57 (zs_lt zq_4092 rfl) ?_
  refine zu_iconst d_4092_59 zi_1 ?_
  refine zu_istore d_4092_60 (zs_lt zq_4092 rfl) ?_
  exact h.weak ⟨rfl, rfl, rfl, rfl, rfl, rfl, trivial⟩
def w_X5_param_28 (X : zs_X) (d : Nat) (p0 : Nat) (p1 : Option Nat) (q0 : Int32) (S : zs_T) (Q : zs_Q) : Prop :=
  (zs_K S p0 = some (.inl 4) ∧ ∃ b2, (zs_R S 4000 p0) = some b2 ∧ zs_K S b2 = some (.inl 5) ∧ zs_C X d 5015 [.ref b2, .int (34 : Int32)] S (zs_kI (fun v6 S5 => (((q0 = 0 → w_X5_param_50 X d p0 p1 q0 v6 S5 Q) ∧ (¬ (q0 = 0) → (zs_K S5 p0 = some (.inl 4) ∧ ∃ b9, (zs_R S5 4000 p0) = some b9 ∧ zs_K S5 b9 = some (.inl 5) ∧ zs_C X d 5004 [.ref b9] S5 (zs_kV (fun S12 => w_X5_param_50 X d p0 p1 q0 v6 S12 Q) Q)))))) Q))
theorem u_X5_param_28 {σ : Nat → Nat} {n0 : Nat} {bf : ab_B} {d : Nat} {p0 : Nat} {p1 : Option Nat} {q0 : Int32} {S : zs_T} {Q : zs_Q} (hB : zt_B bf) (h : w_X5_param_28 (zx σ n0 bf) d p0 p1 q0 S Q) : zs_U (zx σ n0 bf) d 4092 28 [(0, .ref p0), (1, va_rf p1)] [.int q0] S Q := by
  unfold w_X5_param_28 at h
  refine zu_istore_n d_4092_28 (zs_lt zq_4092 rfl) ?_
  refine zs_U.weak (L1 := [(2, .int q0), (0, .ref p0), (1, va_rf p1)]) ?_ ⟨rfl, zs_gp1 rfl (Or.inl rfl) rfl, zs_gp1 rfl (Or.inl (zs_cat _)) rfl, trivial⟩
  refine zu_aload_n d_4092_29 rfl (zs_ra _) ?_
  obtain ⟨k1, h⟩ := h
  refine zg_4_5 rfl d_4092_30 k1 ?_
  refine zu_bipush d_4092_33 zj_34 ?_
  obtain ⟨b2, e3, h⟩ := h
  refine zs_stk1 (zs_rfe e3) ?_
  obtain ⟨k4, h⟩ := h
  refine zc_4_33 (x0 := (34 : Int32)) hB rfl k4 d_4092_35 (Nat.le_of_ble_eq_true rfl) h (fun v6 S5 h => ?_)
  refine zu_istore_n d_4092_38 (zs_lt zq_4092 rfl) ?_
  refine zu_iload_n d_4092_39 rfl ?_
  refine zu_ifeq (t := 50) d_4092_40 rfl (fun c7 => ?_) (fun c7 => ?_)
  · have h := h.1 c7
    exact (u_X5_param_50 hB h).weak ⟨rfl, rfl, rfl, rfl, trivial⟩
  · have h := h.2 c7
    refine zu_aload_n d_4092_43 rfl (zs_ra _) ?_
    obtain ⟨k8, h⟩ := h
    refine zg_4_5 rfl d_4092_44 k8 ?_
    obtain ⟨b9, e10, h⟩ := h
    refine zs_stk0 (zs_rfe e10) ?_
    obtain ⟨k11, h⟩ := h
    refine zc_4_29  hB rfl k11 d_4092_47 (Nat.le_of_ble_eq_true rfl) h (fun S12 h => ?_)
    exact (u_X5_param_50 hB h).weak ⟨rfl, rfl, rfl, rfl, trivial⟩
def w_X5_param_23 (X : zs_X) (d : Nat) (p0 : Nat) (p1 : Option Nat) (S : zs_T) (Q : zs_Q) : Prop :=
  (w_X5_param_28 X d p0 p1 (1 : Int32) S Q)
theorem u_X5_param_23 {σ : Nat → Nat} {n0 : Nat} {bf : ab_B} {d : Nat} {p0 : Nat} {p1 : Option Nat} {S : zs_T} {Q : zs_Q} (hB : zt_B bf) (h : w_X5_param_23 (zx σ n0 bf) d p0 p1 S Q) : zs_U (zx σ n0 bf) d 4092 23 [(0, .ref p0), (1, va_rf p1)] [] S Q := by
  unfold w_X5_param_23 at h
  refine zu_iconst d_4092_23 zi_1 ?_
  refine zu_goto (t := 28) d_4092_24 rfl ?_
  exact (u_X5_param_28 hB h).weak ⟨rfl, rfl, trivial⟩
def w_X5_param_62 (X : zs_X) (d : Nat) (p0 : Nat) (p1 : Option Nat) (p2 : Int32) (p3 : Int32) (p4 : Int32) (p5 : Int32) (S : zs_T) (Q : zs_Q) : Prop :=
  (((p5 = 0 → (zs_K S p0 = some (.inl 4) ∧ zs_C X d 4008 [.ref p0, .int (58 : Int32)] S (zs_kV (fun S3 => (zs_K S3 p0 = some (.inl 4) ∧ zs_C X d 4061 [.ref p0] S3 (zs_kR (fun v7 S6 => (zs_U X d 4092 260 [(1, va_rf p1), (6, va_rf v7), (7, .int p4)] [] S6 Q)) Q))) Q))) ∧ (¬ (p5 = 0) → (zs_K S p0 = some (.inl 4) ∧ ∃ b9, (zs_R S 4000 p0) = some b9 ∧ zs_K S b9 = some (.inl 5) ∧ zs_C X d 5016 [.ref b9] S (zs_kI (fun v13 S12 => (((¬ v13 = 0 → (∃ b15, p1 = some b15 ∧ zs_K S12 b15 = some (.inl 10) ∧ ∃ b18, (zs_R S12 10004 b15) = some b18 ∧ zs_K S12 b18 = some (.inl 16) ∧ zs_C X d 16001 [.ref b18] S12 (zs_kI (fun v22 S21 => (((¬ v22 = (10 : Int32) → (zs_U X d 4092 105 [(0, .ref p0), (1, va_rf p1), (2, .int p2), (3, .int p3), (4, .int p4), (6, .int (0 : Int32))] [] S21 Q)) ∧ (¬ (¬ v22 = (10 : Int32)) → (zs_K S21 p0 = some (.inl 4) ∧ zs_C X d 4006 [.ref p0, .int (8 : Int32)] S21 (zs_kR (fun v26 S25 => (∃ b27, v26 = some b27 ∧ Q (.threw b27) S25)) Q)))))) Q))) ∧ (¬ (¬ v13 = 0) → (zs_K S12 p0 = some (.inl 4) ∧ zs_C X d 4006 [.ref p0, .int (2 : Int32)] S12 (zs_kR (fun v31 S30 => (∃ b32, v31 = some b32 ∧ Q (.threw b32) S30)) Q)))))) Q)))))
theorem u_X5_param_62 {σ : Nat → Nat} {n0 : Nat} {bf : ab_B} {d : Nat} {p0 : Nat} {p1 : Option Nat} {p2 : Int32} {p3 : Int32} {p4 : Int32} {p5 : Int32} {S : zs_T} {Q : zs_Q} (hB : zt_B bf) (h : w_X5_param_62 (zx σ n0 bf) d p0 p1 p2 p3 p4 p5 S Q) : zs_U (zx σ n0 bf) d 4092 62 [(0, .ref p0), (1, va_rf p1), (2, .int p2), (3, .int p3), (4, .int p4), (5, .int p5)] [] S Q := by
  unfold w_X5_param_62 at h
  refine zu_iload d_4092_62 rfl ?_
  refine zu_ifeq (t := 244) d_4092_64 rfl (fun c1 => ?_) (fun c1 => ?_)
  · have h := h.1 c1
    refine zu_aload_n d_4092_244 rfl (zs_ra _) ?_
    refine zu_bipush d_4092_245 zj_58 ?_
    obtain ⟨k2, h⟩ := h
    refine zc_4_224 (x0 := (58 : Int32)) hB rfl k2 d_4092_247 (Nat.le_of_ble_eq_true rfl) h (fun S3 h => ?_)
    refine zu_aload_n d_4092_250 rfl (zs_ra _) ?_
    obtain ⟨k5, h⟩ := h
    refine zc_4_332  hB rfl k5 d_4092_251 (Nat.le_of_ble_eq_true rfl) h (fun v7 S6 h => ?_)
    refine zu_astore d_4092_254 (zs_rr _) (zs_lt zq_4092 rfl) ?_
    refine zu_iload d_4092_256 rfl ?_
    refine zu_istore d_4092_258 (zs_lt zq_4092 rfl) ?_
    refine zs_U.weak (L1 := [(7, .int p4), (0, .ref p0), (1, va_rf p1), (2, .int p2), (3, .int p3), (4, .int p4), (5, .int p5), (6, va_rf v7)]) ?_ ⟨rfl, zs_gp1 rfl (Or.inl rfl) rfl, zs_gp1 rfl (Or.inl (zs_cat _)) rfl, zs_gp1 rfl (Or.inl rfl) rfl, zs_gp1 rfl (Or.inl rfl) rfl, zs_gp1 rfl (Or.inl rfl) rfl, zs_gp1 rfl (Or.inl rfl) rfl, zs_gp1 rfl (Or.inl (zs_cat _)) rfl, trivial⟩
    exact h.weak ⟨rfl, rfl, rfl, trivial⟩
  · have h := h.2 c1
    refine zu_aload_n d_4092_67 rfl (zs_ra _) ?_
    obtain ⟨k8, h⟩ := h
    refine zg_4_5 rfl d_4092_68 k8 ?_
    obtain ⟨b9, e10, h⟩ := h
    refine zs_stk0 (zs_rfe e10) ?_
    obtain ⟨k11, h⟩ := h
    refine zc_4_36  hB rfl k11 d_4092_71 (Nat.le_of_ble_eq_true rfl) h (fun v13 S12 h => ?_)
    refine zu_ifne (t := 83) d_4092_74 rfl (fun c14 => ?_) (fun c14 => ?_)
    · have h := h.1 c14
      refine zu_aload_n d_4092_83 rfl (zs_rr _) ?_
      obtain ⟨b15, e16, h⟩ := h
      refine zs_stk0 (zs_rfe e16) ?_
      obtain ⟨k17, h⟩ := h
      refine zg_4_247 rfl d_4092_84 k17 ?_
      obtain ⟨b18, e19, h⟩ := h
      refine zs_stk0 (zs_rfe e19) ?_
      obtain ⟨k20, h⟩ := h
      refine zc_4_50  hB rfl k20 d_4092_87 (Nat.le_of_ble_eq_true rfl) h (fun v22 S21 h => ?_)
      refine zu_bipush d_4092_90 zj_10 ?_
      refine zu_cmpne (t := 102) d_4092_92 rfl (fun c23 => ?_) (fun c23 => ?_)
      · have h := h.1 c23
        refine zu_iconst d_4092_102 zi_0 ?_
        refine zu_istore d_4092_103 (zs_lt zq_4092 rfl) ?_
        exact h.weak ⟨rfl, rfl, rfl, rfl, rfl, rfl, trivial⟩
      · have h := h.2 c23
        refine zu_aload_n d_4092_95 rfl (zs_ra _) ?_
        refine zu_bipush d_4092_96 zj_8 ?_
        obtain ⟨k24, h⟩ := h
        refine zc_4_25 (x0 := (8 : Int32)) hB rfl k24 d_4092_98 (Nat.le_of_ble_eq_true rfl) h (fun v26 S25 h => ?_)
        obtain ⟨b27, e28, h⟩ := h
        refine zs_stk0 (zs_rfe e28) ?_
        exact zu_throw d_4092_101 h
    · have h := h.2 c14
      refine zu_aload_n d_4092_77 rfl (zs_ra _) ?_
      refine zu_iconst d_4092_78 zi_2 ?_
      obtain ⟨k29, h⟩ := h
      refine zc_4_25 (x0 := (2 : Int32)) hB rfl k29 d_4092_79 (Nat.le_of_ble_eq_true rfl) h (fun v31 S30 h => ?_)
      obtain ⟨b32, e33, h⟩ := h
      refine zs_stk0 (zs_rfe e33) ?_
      exact zu_throw d_4092_82 h
def w_X5_param_218 (X : zs_X) (d : Nat) (p0 : Nat) (p1 : Option Nat) (p2 : Int32) (p3 : Int32) (p4 : Int32) (S : zs_T) (Q : zs_Q) : Prop :=
  (zs_K S p0 = some (.inl 4) ∧ ∃ b2, (zs_R S 4000 p0) = some b2 ∧ zs_K S b2 = some (.inl 5) ∧ zs_C X d 5017 [.ref b2, .int (44 : Int32)] S (zs_kI (fun v6 S5 => (((v6 = 0 → (zs_U X d 4092 62 [(0, .ref p0), (1, va_rf p1), (2, .int p2), (3, .int p3), (4, .int p4), (5, .int v6)] [] S5 Q)) ∧ (¬ (v6 = 0) → (zs_K S5 p0 = some (.inl 4) ∧ ∃ b9, (zs_R S5 4000 p0) = some b9 ∧ zs_K S5 b9 = some (.inl 5) ∧ zs_C X d 5004 [.ref b9] S5 (zs_kV (fun S12 => (zs_U X d 4092 62 [(0, .ref p0), (1, va_rf p1), (2, .int p2), (3, .int p3), (4, .int p4), (5, .int v6)] [] S12 Q)) Q)))))) Q))
theorem u_X5_param_218 {σ : Nat → Nat} {n0 : Nat} {bf : ab_B} {d : Nat} {p0 : Nat} {p1 : Option Nat} {p2 : Int32} {p3 : Int32} {p4 : Int32} {S : zs_T} {Q : zs_Q} (hB : zt_B bf) (h : w_X5_param_218 (zx σ n0 bf) d p0 p1 p2 p3 p4 S Q) : zs_U (zx σ n0 bf) d 4092 218 [(0, .ref p0), (1, va_rf p1), (2, .int p2), (3, .int p3), (4, .int p4)] [] S Q := by
  unfold w_X5_param_218 at h
  refine zu_aload_n d_4092_218 rfl (zs_ra _) ?_
  obtain ⟨k1, h⟩ := h
  refine zg_4_5 rfl d_4092_219 k1 ?_
  refine zu_bipush d_4092_222 zj_44 ?_
  obtain ⟨b2, e3, h⟩ := h
  refine zs_stk1 (zs_rfe e3) ?_
  obtain ⟨k4, h⟩ := h
  refine zc_4_21 (x0 := (44 : Int32)) hB rfl k4 d_4092_224 (Nat.le_of_ble_eq_true rfl) h (fun v6 S5 h => ?_)
  refine zu_istore d_4092_227 (zs_lt zq_4092 rfl) ?_
  refine zu_iload d_4092_229 rfl ?_
  refine zu_ifeq (t := 241) d_4092_231 rfl (fun c7 => ?_) (fun c7 => ?_)
  · have h := h.1 c7
    refine zu_goto (t := 62) d_4092_241 rfl ?_
    exact h.weak ⟨rfl, rfl, rfl, rfl, rfl, rfl, trivial⟩
  · have h := h.2 c7
    refine zu_aload_n d_4092_234 rfl (zs_ra _) ?_
    obtain ⟨k8, h⟩ := h
    refine zg_4_5 rfl d_4092_235 k8 ?_
    obtain ⟨b9, e10, h⟩ := h
    refine zs_stk0 (zs_rfe e10) ?_
    obtain ⟨k11, h⟩ := h
    refine zc_4_29  hB rfl k11 d_4092_238 (Nat.le_of_ble_eq_true rfl) h (fun S12 h => ?_)
    refine zu_goto (t := 62) d_4092_241 rfl ?_
    exact h.weak ⟨rfl, rfl, rfl, rfl, rfl, rfl, trivial⟩
def w_X5_param_183 (X : zs_X) (d : Nat) (p0 : Nat) (p1 : Option Nat) (p2 : Int32) (p3 : Int32) (p4 : Int32) (p6 : Option Nat) (S : zs_T) (Q : zs_Q) : Prop :=
  (∃ b1, p6 = some b1 ∧ zs_K S b1 = some (.inl 7) ∧ ab_n0 X.1 ≤ b1 ∧ ∀ S5, S5 = zs_sR S 7007 b1 p1 → zs_b p2 ∧ ∀ S9, S9 = zs_sI S5 7010 b1 p2 → zs_b p3 ∧ ∀ S13, S13 = zs_sI S9 7009 b1 p3 → ∃ b16, p1 = some b16 ∧ zs_K S b16 = some (.inl 10) ∧ ∃ b19, (zs_R S13 10004 b16) = some b19 ∧ zs_K S b19 = some (.inl 16) ∧ zs_C X d 16002 [.ref b19, va_rf p6] S13 (zs_kI (fun v23 S22 => (zs_K S22 p0 = some (.inl 4) ∧ ∃ b25, (zs_R S22 4000 p0) = some b25 ∧ zs_K S22 b25 = some (.inl 5) ∧ zs_C X d 5004 [.ref b25] S22 (zs_kV (fun S28 => w_X5_param_218 X d p0 p1 p2 p3 p4 S28 Q) Q))) Q))
theorem u_X5_param_183 {σ : Nat → Nat} {n0 : Nat} {bf : ab_B} {d : Nat} {p0 : Nat} {p1 : Option Nat} {p2 : Int32} {p3 : Int32} {p4 : Int32} {p6 : Option Nat} {S : zs_T} {Q : zs_Q} (hB : zt_B bf) (h : w_X5_param_183 (zx σ n0 bf) d p0 p1 p2 p3 p4 p6 S Q) : zs_U (zx σ n0 bf) d 4092 183 [(0, .ref p0), (1, va_rf p1), (2, .int p2), (3, .int p3), (4, .int p4), (6, va_rf p6)] [] S Q := by
  unfold w_X5_param_183 at h
  refine zu_aload d_4092_183 rfl (zs_rr _) ?_
  refine zu_aload_n d_4092_185 rfl (zs_rr _) ?_
  obtain ⟨b1, e2, h⟩ := h
  refine zs_stk1 (zs_rfe e2) ?_
  obtain ⟨k3, h⟩ := h
  obtain ⟨k4, h⟩ := h
  refine zp_4_107 (v := p1) rfl d_4092_186 k3 k4 ?_
  generalize e6 : zs_sR S 7007 b1 p1 = S5
  have h := h S5 e6.symm
  have K7 : ∀ b, zs_K S5 b = zs_K S b := zs_Kt e6 (zs_KsR _ _ _ _) (fun _ => rfl)
  refine zu_aload d_4092_189 rfl (zs_rr _) ?_
  refine zu_iload_n d_4092_191 rfl ?_
  refine zs_stk1 (zs_rfe e2) ?_
  obtain ⟨k8, h⟩ := h
  refine zp_4_690 (v := p2) rfl d_4092_192 ((K7 _).trans k3) k4 k8 ?_
  generalize e10 : zs_sI S5 7010 b1 p2 = S9
  have h := h S9 e10.symm
  have K11 : ∀ b, zs_K S9 b = zs_K S b := zs_Kt e10 (zs_KsI _ _ _ _) K7
  refine zu_aload d_4092_195 rfl (zs_rr _) ?_
  refine zu_iload_n d_4092_197 rfl ?_
  refine zs_stk1 (zs_rfe e2) ?_
  obtain ⟨k12, h⟩ := h
  refine zp_4_111 (v := p3) rfl d_4092_198 ((K11 _).trans k3) k4 k12 ?_
  generalize e14 : zs_sI S9 7009 b1 p3 = S13
  have h := h S13 e14.symm
  have K15 : ∀ b, zs_K S13 b = zs_K S b := zs_Kt e14 (zs_KsI _ _ _ _) K11
  refine zu_aload_n d_4092_201 rfl (zs_rr _) ?_
  obtain ⟨b16, e17, h⟩ := h
  refine zs_stk0 (zs_rfe e17) ?_
  obtain ⟨k18, h⟩ := h
  refine zg_4_247 rfl d_4092_202 ((K15 _).trans k18) ?_
  refine zu_aload d_4092_205 rfl (zs_rr _) ?_
  obtain ⟨b19, e20, h⟩ := h
  refine zs_stk1 (zs_rfe e20) ?_
  obtain ⟨k21, h⟩ := h
  refine zc_4_140 (x0 := p6) hB rfl ((K15 _).trans k21) d_4092_207 (Nat.le_of_ble_eq_true rfl) h (fun v23 S22 h => ?_)
  refine zu_pop d_4092_210 rfl ?_
  refine zu_aload_n d_4092_211 rfl (zs_ra _) ?_
  obtain ⟨k24, h⟩ := h
  refine zg_4_5 rfl d_4092_212 k24 ?_
  obtain ⟨b25, e26, h⟩ := h
  refine zs_stk0 (zs_rfe e26) ?_
  obtain ⟨k27, h⟩ := h
  refine zc_4_29  hB rfl k27 d_4092_215 (Nat.le_of_ble_eq_true rfl) h (fun S28 h => ?_)
  exact (u_X5_param_218 hB h).weak ⟨rfl, rfl, rfl, rfl, rfl, trivial⟩
def w_X5_param_151 (X : zs_X) (d : Nat) (p0 : Nat) (p1 : Option Nat) (p2 : Int32) (p3 : Int32) (p4 : Int32) (p6 : Int32) (S : zs_T) (Q : zs_Q) : Prop :=
  (zs_U X d 4092 105 [(0, .ref p0), (1, va_rf p1), (2, .int p2), (3, .int p3), (4, .int p4), (6, .int p6)] [] S Q)
theorem u_X5_param_151 {σ : Nat → Nat} {n0 : Nat} {bf : ab_B} {d : Nat} {p0 : Nat} {p1 : Option Nat} {p2 : Int32} {p3 : Int32} {p4 : Int32} {p6 : Int32} {S : zs_T} {Q : zs_Q} (hB : zt_B bf) (h : w_X5_param_151 (zx σ n0 bf) d p0 p1 p2 p3 p4 p6 S Q) : zs_U (zx σ n0 bf) d 4092 151 [(0, .ref p0), (1, va_rf p1), (2, .int p2), (3, .int p3), (4, .int p4), (6, .int p6)] [] S Q := by
  unfold w_X5_param_151 at h
  refine zu_goto (t := 105) d_4092_151 rfl ?_
  exact h.weak ⟨rfl, rfl, rfl, rfl, rfl, rfl, trivial⟩
def w_X5_param_105 (X : zs_X) (d : Nat) (p0 : Nat) (p1 : Option Nat) (p2 : Int32) (p3 : Int32) (p4 : Int32) (p6 : Int32) (S : zs_T) (Q : zs_Q) : Prop :=
  (∃ b1, p1 = some b1 ∧ zs_K S b1 = some (.inl 10) ∧ ∃ b4, (zs_R S 10004 b1) = some b4 ∧ zs_K S b4 = some (.inl 16) ∧ zs_C X d 16001 [.ref b4] S (zs_kI (fun v8 S7 => (((v8 ≤ p6 → (∀ a10 S11, a10 = zs_N S7 → S11 = zs_nw S7 (.inl 7) 14 → zs_K S11 p0 = some (.inl 4) ∧ ∃ b16, (zs_R S11 4000 p0) = some b16 ∧ zs_K S11 b16 = some (.inl 5) ∧ zs_C X d 7000 [.ref a10, .int (zs_I S11 5004 b16), .int (2 : Int32)] S11 (zs_kV (fun S19 => (zs_K S19 b1 = some (.inl 10) ∧ ∃ b22, (zs_R S19 10004 b1) = some b22 ∧ zs_K S19 b22 = some (.inl 16) ∧ zs_C X d 16001 [.ref b22] S19 (zs_kI (fun v26 S25 => (zs_K S25 a10 = some (.inl 7) ∧ ab_n0 X.1 ≤ a10 ∧ ∀ S29, S29 = zs_sI S25 7008 a10 v26 → w_X5_param_183 X d p0 p1 p2 p3 p4 (some a10) S29 Q)) Q))) Q))) ∧ (¬ (v8 ≤ p6) → (zs_K S7 b1 = some (.inl 10) ∧ ∃ b33, (zs_R S7 10004 b1) = some b33 ∧ zs_K S7 b33 = some (.inl 16) ∧ zs_C X d 16009 [.ref b33, .int p6] S7 (zs_kR (fun v37 S36 => ((∀ a, v37 = some a → zs_K S36 a = some (.inl 7)) ∧ ∃ b39, v37 = some b39 ∧ zs_K S36 b39 = some (.inl 7) ∧ zs_K S36 p0 = some (.inl 4) ∧ ∃ b43, (zs_R S36 4000 p0) = some b43 ∧ zs_K S36 b43 = some (.inl 5) ∧ ((¬ (zs_I S36 7000 b39) = (zs_I S36 5004 b43) → (w_X5_param_151 X d p0 p1 p2 p3 p4 (p6 + (1 : Int32)) S36 Q)) ∧ (¬ (¬ (zs_I S36 7000 b39) = (zs_I S36 5004 b43)) → (zs_C X d 4006 [.ref p0, .int (4 : Int32)] S36 (zs_kR (fun v48 S47 => (∃ b49, v48 = some b49 ∧ Q (.threw b49) S47)) Q)))))) Q)))))) Q))
theorem u_X5_param_105 {σ : Nat → Nat} {n0 : Nat} {bf : ab_B} {d : Nat} {p0 : Nat} {p1 : Option Nat} {p2 : Int32} {p3 : Int32} {p4 : Int32} {p6 : Int32} {S : zs_T} {Q : zs_Q} (hB : zt_B bf) (h : w_X5_param_105 (zx σ n0 bf) d p0 p1 p2 p3 p4 p6 S Q) : zs_U (zx σ n0 bf) d 4092 105 [(0, .ref p0), (1, va_rf p1), (2, .int p2), (3, .int p3), (4, .int p4), (6, .int p6)] [] S Q := by
  unfold w_X5_param_105 at h
  refine zu_iload d_4092_105 rfl ?_
  refine zu_aload_n d_4092_107 rfl (zs_rr _) ?_
  obtain ⟨b1, e2, h⟩ := h
  refine zs_stk0 (zs_rfe e2) ?_
  obtain ⟨k3, h⟩ := h
  refine zg_4_247 rfl d_4092_108 k3 ?_
  obtain ⟨b4, e5, h⟩ := h
  refine zs_stk0 (zs_rfe e5) ?_
  obtain ⟨k6, h⟩ := h
  refine zc_4_50  hB rfl k6 d_4092_111 (Nat.le_of_ble_eq_true rfl) h (fun v8 S7 h => ?_)
  refine zu_cmpge (t := 154) d_4092_114 rfl (fun c9 => ?_) (fun c9 => ?_)
  · have h := h.1 c9
    refine zn_4_60 rfl d_4092_154 ?_
    generalize e13 : zs_nw S7 (.inl 7) 14 = S11
    generalize e12 : zs_N S7 = a10
    have h := h a10 S11 e12.symm e13.symm
    have k14 := zs_kn e12 e13
    refine zu_dup d_4092_157 rfl ?_
    refine zu_aload_n d_4092_158 rfl (zs_ra _) ?_
    obtain ⟨k15, h⟩ := h
    refine zg_4_5 rfl d_4092_159 k15 ?_
    obtain ⟨b16, e17, h⟩ := h
    refine zs_stk0 (zs_rfe e17) ?_
    obtain ⟨k18, h⟩ := h
    refine zg_4_40 rfl d_4092_162 k18 ?_
    refine zu_iconst d_4092_165 zi_2 ?_
    refine zc_4_95 (x0 := (zs_I S11 5004 b16)) (x1 := (2 : Int32)) hB rfl d_4092_166 (Nat.le_of_ble_eq_true rfl) h (fun S19 h => ?_)
    refine zu_astore d_4092_169 (zs_ra _) (zs_lt zq_4092 rfl) ?_
    refine zu_aload d_4092_171 rfl (zs_ra _) ?_
    refine zu_aload_n d_4092_173 rfl (zs_rr _) ?_
    refine zs_stk0 (zs_rfe e2) ?_
    obtain ⟨k21, h⟩ := h
    refine zg_4_247 rfl d_4092_174 k21 ?_
    obtain ⟨b22, e23, h⟩ := h
    refine zs_stk0 (zs_rfe e23) ?_
    obtain ⟨k24, h⟩ := h
    refine zc_4_50  hB rfl k24 d_4092_177 (Nat.le_of_ble_eq_true rfl) h (fun v26 S25 h => ?_)
    obtain ⟨k27, h⟩ := h
    obtain ⟨k28, h⟩ := h
    refine zp_4_104 (v := v26) rfl d_4092_180 k27 k28 ?_
    generalize e30 : zs_sI S25 7008 a10 v26 = S29
    have h := h S29 e30.symm
    have K31 : ∀ b, zs_K S29 b = zs_K S25 b := zs_Kt e30 (zs_KsI _ _ _ _) (fun _ => rfl)
    exact (u_X5_param_183 hB h).weak ⟨rfl, rfl, rfl, rfl, rfl, rfl, trivial⟩
  · have h := h.2 c9
    refine zu_aload_n d_4092_117 rfl (zs_rr _) ?_
    refine zs_stk0 (zs_rfe e2) ?_
    obtain ⟨k32, h⟩ := h
    refine zg_4_247 rfl d_4092_118 k32 ?_
    refine zu_iload d_4092_121 rfl ?_
    obtain ⟨b33, e34, h⟩ := h
    refine zs_stk1 (zs_rfe e34) ?_
    obtain ⟨k35, h⟩ := h
    refine zc_4_56 (x0 := p6) hB rfl k35 d_4092_123 (Nat.le_of_ble_eq_true rfl) h (fun v37 S36 h => ?_)
    obtain ⟨k38, h⟩ := h
    refine zk_4_60 (o := v37) rfl d_4092_126 k38 ?_
    obtain ⟨b39, e40, h⟩ := h
    refine zs_stk0 (zs_rfe e40) ?_
    obtain ⟨k41, h⟩ := h
    refine zg_4_89 rfl d_4092_129 k41 ?_
    refine zu_aload_n d_4092_132 rfl (zs_ra _) ?_
    obtain ⟨k42, h⟩ := h
    refine zg_4_5 rfl d_4092_133 k42 ?_
    obtain ⟨b43, e44, h⟩ := h
    refine zs_stk0 (zs_rfe e44) ?_
    obtain ⟨k45, h⟩ := h
    refine zg_4_40 rfl d_4092_136 k45 ?_
    refine zu_cmpne (t := 148) d_4092_139 rfl (fun c46 => ?_) (fun c46 => ?_)
    · have h := h.1 c46
      refine zu_iinc d_4092_148 rfl zi_1 (zs_lt zq_4092 rfl) ?_
      exact (u_X5_param_151 hB h).weak ⟨rfl, rfl, rfl, rfl, rfl, rfl, trivial⟩
    · have h := h.2 c46
      refine zu_aload_n d_4092_142 rfl (zs_ra _) ?_
      refine zu_iconst d_4092_143 zi_4 ?_
      refine zc_4_25 (x0 := (4 : Int32)) hB rfl k42 d_4092_144 (Nat.le_of_ble_eq_true rfl) h (fun v48 S47 h => ?_)
      obtain ⟨b49, e50, h⟩ := h
      refine zs_stk0 (zs_rfe e50) ?_
      exact zu_throw d_4092_147 h
def w_X5_param_260 (X : zs_X) (d : Nat) (p1 : Option Nat) (p6 : Option Nat) (p7 : Int32) (S : zs_T) (Q : zs_Q) : Prop :=
  (∃ b1, p1 = some b1 ∧ zs_K S b1 = some (.inl 10) ∧ ∃ b4, (zs_R S 10004 b1) = some b4 ∧ zs_K S b4 = some (.inl 16) ∧ zs_C X d 16001 [.ref b4] S (zs_kI (fun v8 S7 => (((v8 ≤ p7 → (Q (.returned none) S7)) ∧ (¬ (v8 ≤ p7) → (zs_K S7 b1 = some (.inl 10) ∧ ∃ b11, (zs_R S7 10004 b1) = some b11 ∧ zs_K S7 b11 = some (.inl 16) ∧ zs_C X d 16009 [.ref b11, .int p7] S7 (zs_kR (fun v15 S14 => ((∀ a, v15 = some a → zs_K S14 a = some (.inl 7)) ∧ ∃ b17, v15 = some b17 ∧ zs_K S14 b17 = some (.inl 7) ∧ ab_n0 X.1 ≤ b17 ∧ ∀ S21, S21 = zs_sR S14 7002 b17 p6 → zs_U X d 4092 260 [(1, va_rf p1), (6, va_rf p6), (7, .int (p7 + (1 : Int32)))] [] S21 Q)) Q)))))) Q))
theorem u_X5_param_260 {σ : Nat → Nat} {n0 : Nat} {bf : ab_B} {d : Nat} {p1 : Option Nat} {p6 : Option Nat} {p7 : Int32} {S : zs_T} {Q : zs_Q} (hB : zt_B bf) (h : w_X5_param_260 (zx σ n0 bf) d p1 p6 p7 S Q) : zs_U (zx σ n0 bf) d 4092 260 [(1, va_rf p1), (6, va_rf p6), (7, .int p7)] [] S Q := by
  unfold w_X5_param_260 at h
  refine zu_iload d_4092_260 rfl ?_
  refine zu_aload_n d_4092_262 rfl (zs_rr _) ?_
  obtain ⟨b1, e2, h⟩ := h
  refine zs_stk0 (zs_rfe e2) ?_
  obtain ⟨k3, h⟩ := h
  refine zg_4_247 rfl d_4092_263 k3 ?_
  obtain ⟨b4, e5, h⟩ := h
  refine zs_stk0 (zs_rfe e5) ?_
  obtain ⟨k6, h⟩ := h
  refine zc_4_50  hB rfl k6 d_4092_266 (Nat.le_of_ble_eq_true rfl) h (fun v8 S7 h => ?_)
  refine zu_cmpge (t := 295) d_4092_269 rfl (fun c9 => ?_) (fun c9 => ?_)
  · have h := h.1 c9
    exact zu_vret d_4092_295 zr_4092 h
  · have h := h.2 c9
    refine zu_aload_n d_4092_272 rfl (zs_rr _) ?_
    refine zs_stk0 (zs_rfe e2) ?_
    obtain ⟨k10, h⟩ := h
    refine zg_4_247 rfl d_4092_273 k10 ?_
    refine zu_iload d_4092_276 rfl ?_
    obtain ⟨b11, e12, h⟩ := h
    refine zs_stk1 (zs_rfe e12) ?_
    obtain ⟨k13, h⟩ := h
    refine zc_4_56 (x0 := p7) hB rfl k13 d_4092_278 (Nat.le_of_ble_eq_true rfl) h (fun v15 S14 h => ?_)
    obtain ⟨k16, h⟩ := h
    refine zk_4_60 (o := v15) rfl d_4092_281 k16 ?_
    refine zu_aload d_4092_284 rfl (zs_rr _) ?_
    obtain ⟨b17, e18, h⟩ := h
    refine zs_stk1 (zs_rfe e18) ?_
    obtain ⟨k19, h⟩ := h
    obtain ⟨k20, h⟩ := h
    refine zp_4_65 (v := p6) rfl d_4092_286 k19 k20 ?_
    generalize e22 : zs_sR S14 7002 b17 p6 = S21
    have h := h S21 e22.symm
    have K23 : ∀ b, zs_K S21 b = zs_K S14 b := zs_Kt e22 (zs_KsR _ _ _ _) (fun _ => rfl)
    refine zu_iinc d_4092_289 rfl zi_1 (zs_lt zq_4092 rfl) ?_
    refine zs_U.weak (L1 := [(7, .int (p7 + (1 : Int32))), (1, va_rf p1), (6, va_rf p6)]) ?_ ⟨rfl, zs_gp1 rfl (Or.inl (zs_cat _)) rfl, zs_gp1 rfl (Or.inl (zs_cat _)) rfl, trivial⟩
    refine zu_goto (t := 260) d_4092_292 rfl ?_
    exact h.weak ⟨rfl, rfl, rfl, trivial⟩
def w_X5_param (X : zs_X) (d : Nat) (p0 : Nat) (p1 : Option Nat) (S : zs_T) (Q : zs_Q) : Prop :=
  (zs_K S p0 = some (.inl 4) ∧ ∃ b2, (zs_R S 4000 p0) = some b2 ∧ zs_K S b2 = some (.inl 5) ∧ zs_C X d 5015 [.ref b2, .int (3 : Int32)] S (zs_kI (fun v6 S5 => (((¬ v6 = 0 → w_X5_param_23 X d p0 p1 S5 Q) ∧ (¬ (¬ v6 = 0) → (zs_K S5 p0 = some (.inl 4) ∧ ∃ b9, (zs_R S5 4000 p0) = some b9 ∧ zs_K S5 b9 = some (.inl 5) ∧ zs_C X d 5015 [.ref b9, .int (34 : Int32)] S5 (zs_kI (fun v13 S12 => (((v13 = 0 → (w_X5_param_28 X d p0 p1 (0 : Int32) S12 Q)) ∧ (¬ (v13 = 0) → w_X5_param_23 X d p0 p1 S12 Q)))) Q)))))) Q))
theorem u_X5_param {σ : Nat → Nat} {n0 : Nat} {bf : ab_B} {d : Nat} {p0 : Nat} {p1 : Option Nat} {S : zs_T} {Q : zs_Q} (hB : zt_B bf) (hd : 1 ≤ d) (h : w_X5_param (zx σ n0 bf) (d - 1) p0 p1 S Q) : zs_C (zx σ n0 bf) d 4092 [.ref p0, va_rf p1] S Q := by
  have hL : lv_args 0 [.ref p0, va_rf p1] = [(0, .ref p0), (1, va_rf p1)] := by simp [lv_args, zs_cat, zs_cI, zs_cJ, zs_cA]
  refine zs_C.of1 (hB.2 4092 (by decide) (by decide)) hd (by rw [hL]; exact zs_sub_self _ (by exact ⟨rfl, rfl, trivial⟩)) ?_
  rw [hL]
  clear hL
  unfold w_X5_param at h
  refine zu_aload_n d_4092_0 rfl (zs_ra _) ?_
  obtain ⟨k1, h⟩ := h
  refine zg_4_5 rfl d_4092_1 k1 ?_
  refine zu_iconst d_4092_4 zi_3 ?_
  obtain ⟨b2, e3, h⟩ := h
  refine zs_stk1 (zs_rfe e3) ?_
  obtain ⟨k4, h⟩ := h
  refine zc_4_33 (x0 := (3 : Int32)) hB rfl k4 d_4092_5 (Nat.le_of_ble_eq_true rfl) h (fun v6 S5 h => ?_)
  refine zu_ifne (t := 23) d_4092_8 rfl (fun c7 => ?_) (fun c7 => ?_)
  · have h := h.1 c7
    exact (u_X5_param_23 hB h).weak ⟨rfl, rfl, trivial⟩
  · have h := h.2 c7
    refine zu_aload_n d_4092_11 rfl (zs_ra _) ?_
    obtain ⟨k8, h⟩ := h
    refine zg_4_5 rfl d_4092_12 k8 ?_
    refine zu_bipush d_4092_15 zj_34 ?_
    obtain ⟨b9, e10, h⟩ := h
    refine zs_stk1 (zs_rfe e10) ?_
    obtain ⟨k11, h⟩ := h
    refine zc_4_33 (x0 := (34 : Int32)) hB rfl k11 d_4092_17 (Nat.le_of_ble_eq_true rfl) h (fun v13 S12 h => ?_)
    refine zu_ifeq (t := 27) d_4092_20 rfl (fun c14 => ?_) (fun c14 => ?_)
    · have h := h.1 c14
      refine zu_iconst d_4092_27 zi_0 ?_
      exact (u_X5_param_28 hB h).weak ⟨rfl, rfl, trivial⟩
    · have h := h.2 c14
      exact (u_X5_param_23 hB h).weak ⟨rfl, rfl, trivial⟩
/-! SchemaPascal$Reader.body(LSchemaPascal$Routine;)V -/
theorem zm_4093 {σ : Nat → Nat} {n0 : Nat} {bf : ab_B} : ab_code (zx σ n0 bf).1 4093 = prog_9_method_124_code := rfl
theorem zq_4093 {σ : Nat → Nat} {n0 : Nat} {bf : ab_B} : ab_maxL (zx σ n0 bf).1 4093 = 6 := rfl
theorem zr_4093 {σ : Nat → Nat} {n0 : Nat} {bf : ab_B} : ab_ret (zx σ n0 bf).1 4093 = (Option.none : Option Jvm.ClassFile.FieldType) := rfl
theorem d_4093_0 {σ : Nat → Nat} {n0 : Nat} {bf : ab_B} : decode (ab_code (zx σ n0 bf).1 4093) 0 = .ok (.aload_n 0, 1) := zd zm_4093 (by decide +kernel)
theorem d_4093_1 {σ : Nat → Nat} {n0 : Nat} {bf : ab_B} : decode (ab_code (zx σ n0 bf).1 4093) 1 = .ok (.getfield 218, 3) := zd zm_4093 (by decide +kernel)
theorem d_4093_4 {σ : Nat → Nat} {n0 : Nat} {bf : ab_B} : decode (ab_code (zx σ n0 bf).1 4093) 4 = .ok (.astore_n 2, 1) := zd zm_4093 (by decide +kernel)
theorem d_4093_5 {σ : Nat → Nat} {n0 : Nat} {bf : ab_B} : decode (ab_code (zx σ n0 bf).1 4093) 5 = .ok (.aload_n 0, 1) := zd zm_4093 (by decide +kernel)
theorem d_4093_6 {σ : Nat → Nat} {n0 : Nat} {bf : ab_B} : decode (ab_code (zx σ n0 bf).1 4093) 6 = .ok (.getfield 46, 3) := zd zm_4093 (by decide +kernel)
theorem d_4093_9 {σ : Nat → Nat} {n0 : Nat} {bf : ab_B} : decode (ab_code (zx σ n0 bf).1 4093) 9 = .ok (.invokevirtual 50, 3) := zd zm_4093 (by decide +kernel)
theorem d_4093_12 {σ : Nat → Nat} {n0 : Nat} {bf : ab_B} : decode (ab_code (zx σ n0 bf).1 4093) 12 = .ok (.istore_n 3, 1) := zd zm_4093 (by decide +kernel)
theorem d_4093_13 {σ : Nat → Nat} {n0 : Nat} {bf : ab_B} : decode (ab_code (zx σ n0 bf).1 4093) 13 = .ok (.aload_n 0, 1) := zd zm_4093 (by decide +kernel)
theorem d_4093_14 {σ : Nat → Nat} {n0 : Nat} {bf : ab_B} : decode (ab_code (zx σ n0 bf).1 4093) 14 = .ok (.getfield 115, 3) := zd zm_4093 (by decide +kernel)
theorem d_4093_17 {σ : Nat → Nat} {n0 : Nat} {bf : ab_B} : decode (ab_code (zx σ n0 bf).1 4093) 17 = .ok (.istore 4, 2) := zd zm_4093 (by decide +kernel)
theorem d_4093_19 {σ : Nat → Nat} {n0 : Nat} {bf : ab_B} : decode (ab_code (zx σ n0 bf).1 4093) 19 = .ok (.aload_n 0, 1) := zd zm_4093 (by decide +kernel)
theorem d_4093_20 {σ : Nat → Nat} {n0 : Nat} {bf : ab_B} : decode (ab_code (zx σ n0 bf).1 4093) 20 = .ok (.aload_n 1, 1) := zd zm_4093 (by decide +kernel)
theorem d_4093_21 {σ : Nat → Nat} {n0 : Nat} {bf : ab_B} : decode (ab_code (zx σ n0 bf).1 4093) 21 = .ok (.putfield 218, 3) := zd zm_4093 (by decide +kernel)
theorem d_4093_24 {σ : Nat → Nat} {n0 : Nat} {bf : ab_B} : decode (ab_code (zx σ n0 bf).1 4093) 24 = .ok (.aload_n 0, 1) := zd zm_4093 (by decide +kernel)
theorem d_4093_25 {σ : Nat → Nat} {n0 : Nat} {bf : ab_B} : decode (ab_code (zx σ n0 bf).1 4093) 25 = .ok (.iload_n 3, 1) := zd zm_4093 (by decide +kernel)
theorem d_4093_26 {σ : Nat → Nat} {n0 : Nat} {bf : ab_B} : decode (ab_code (zx σ n0 bf).1 4093) 26 = .ok (.putfield 115, 3) := zd zm_4093 (by decide +kernel)
theorem d_4093_29 {σ : Nat → Nat} {n0 : Nat} {bf : ab_B} : decode (ab_code (zx σ n0 bf).1 4093) 29 = .ok (.iconst 0, 1) := zd zm_4093 (by decide +kernel)
theorem d_4093_30 {σ : Nat → Nat} {n0 : Nat} {bf : ab_B} : decode (ab_code (zx σ n0 bf).1 4093) 30 = .ok (.istore 5, 2) := zd zm_4093 (by decide +kernel)
theorem d_4093_32 {σ : Nat → Nat} {n0 : Nat} {bf : ab_B} : decode (ab_code (zx σ n0 bf).1 4093) 32 = .ok (.iload 5, 2) := zd zm_4093 (by decide +kernel)
theorem d_4093_34 {σ : Nat → Nat} {n0 : Nat} {bf : ab_B} : decode (ab_code (zx σ n0 bf).1 4093) 34 = .ok (.aload_n 1, 1) := zd zm_4093 (by decide +kernel)
theorem d_4093_35 {σ : Nat → Nat} {n0 : Nat} {bf : ab_B} : decode (ab_code (zx σ n0 bf).1 4093) 35 = .ok (.getfield 247, 3) := zd zm_4093 (by decide +kernel)
theorem d_4093_38 {σ : Nat → Nat} {n0 : Nat} {bf : ab_B} : decode (ab_code (zx σ n0 bf).1 4093) 38 = .ok (.invokevirtual 50, 3) := zd zm_4093 (by decide +kernel)
theorem d_4093_41 {σ : Nat → Nat} {n0 : Nat} {bf : ab_B} : decode (ab_code (zx σ n0 bf).1 4093) 41 = .ok (.if_icmp .ge 29, 3) := zd zm_4093 (by decide +kernel)
theorem d_4093_44 {σ : Nat → Nat} {n0 : Nat} {bf : ab_B} : decode (ab_code (zx σ n0 bf).1 4093) 44 = .ok (.aload_n 0, 1) := zd zm_4093 (by decide +kernel)
theorem d_4093_45 {σ : Nat → Nat} {n0 : Nat} {bf : ab_B} : decode (ab_code (zx σ n0 bf).1 4093) 45 = .ok (.getfield 46, 3) := zd zm_4093 (by decide +kernel)
theorem d_4093_48 {σ : Nat → Nat} {n0 : Nat} {bf : ab_B} : decode (ab_code (zx σ n0 bf).1 4093) 48 = .ok (.aload_n 1, 1) := zd zm_4093 (by decide +kernel)
theorem d_4093_49 {σ : Nat → Nat} {n0 : Nat} {bf : ab_B} : decode (ab_code (zx σ n0 bf).1 4093) 49 = .ok (.getfield 247, 3) := zd zm_4093 (by decide +kernel)
theorem d_4093_52 {σ : Nat → Nat} {n0 : Nat} {bf : ab_B} : decode (ab_code (zx σ n0 bf).1 4093) 52 = .ok (.iload 5, 2) := zd zm_4093 (by decide +kernel)
theorem d_4093_54 {σ : Nat → Nat} {n0 : Nat} {bf : ab_B} : decode (ab_code (zx σ n0 bf).1 4093) 54 = .ok (.invokevirtual 56, 3) := zd zm_4093 (by decide +kernel)
theorem d_4093_57 {σ : Nat → Nat} {n0 : Nat} {bf : ab_B} : decode (ab_code (zx σ n0 bf).1 4093) 57 = .ok (.checkcast 60, 3) := zd zm_4093 (by decide +kernel)
theorem d_4093_60 {σ : Nat → Nat} {n0 : Nat} {bf : ab_B} : decode (ab_code (zx σ n0 bf).1 4093) 60 = .ok (.invokevirtual 140, 3) := zd zm_4093 (by decide +kernel)
theorem d_4093_63 {σ : Nat → Nat} {n0 : Nat} {bf : ab_B} : decode (ab_code (zx σ n0 bf).1 4093) 63 = .ok (.pop, 1) := zd zm_4093 (by decide +kernel)
theorem d_4093_64 {σ : Nat → Nat} {n0 : Nat} {bf : ab_B} : decode (ab_code (zx σ n0 bf).1 4093) 64 = .ok (.iinc 5 1, 3) := zd zm_4093 (by decide +kernel)
theorem d_4093_67 {σ : Nat → Nat} {n0 : Nat} {bf : ab_B} : decode (ab_code (zx σ n0 bf).1 4093) 67 = .ok (.goto (-35), 3) := zd zm_4093 (by decide +kernel)
theorem d_4093_70 {σ : Nat → Nat} {n0 : Nat} {bf : ab_B} : decode (ab_code (zx σ n0 bf).1 4093) 70 = .ok (.aload_n 0, 1) := zd zm_4093 (by decide +kernel)
theorem d_4093_71 {σ : Nat → Nat} {n0 : Nat} {bf : ab_B} : decode (ab_code (zx σ n0 bf).1 4093) 71 = .ok (.aload_n 1, 1) := zd zm_4093 (by decide +kernel)
theorem d_4093_72 {σ : Nat → Nat} {n0 : Nat} {bf : ab_B} : decode (ab_code (zx σ n0 bf).1 4093) 72 = .ok (.invokevirtual 227, 3) := zd zm_4093 (by decide +kernel)
theorem d_4093_75 {σ : Nat → Nat} {n0 : Nat} {bf : ab_B} : decode (ab_code (zx σ n0 bf).1 4093) 75 = .ok (.aload_n 0, 1) := zd zm_4093 (by decide +kernel)
theorem d_4093_76 {σ : Nat → Nat} {n0 : Nat} {bf : ab_B} : decode (ab_code (zx σ n0 bf).1 4093) 76 = .ok (.getfield 46, 3) := zd zm_4093 (by decide +kernel)
theorem d_4093_79 {σ : Nat → Nat} {n0 : Nat} {bf : ab_B} : decode (ab_code (zx σ n0 bf).1 4093) 79 = .ok (.invokevirtual 50, 3) := zd zm_4093 (by decide +kernel)
theorem d_4093_82 {σ : Nat → Nat} {n0 : Nat} {bf : ab_B} : decode (ab_code (zx σ n0 bf).1 4093) 82 = .ok (.iload_n 3, 1) := zd zm_4093 (by decide +kernel)
theorem d_4093_83 {σ : Nat → Nat} {n0 : Nat} {bf : ab_B} : decode (ab_code (zx σ n0 bf).1 4093) 83 = .ok (.if_icmp .le 23, 3) := zd zm_4093 (by decide +kernel)
theorem d_4093_86 {σ : Nat → Nat} {n0 : Nat} {bf : ab_B} : decode (ab_code (zx σ n0 bf).1 4093) 86 = .ok (.aload_n 0, 1) := zd zm_4093 (by decide +kernel)
theorem d_4093_87 {σ : Nat → Nat} {n0 : Nat} {bf : ab_B} : decode (ab_code (zx σ n0 bf).1 4093) 87 = .ok (.getfield 46, 3) := zd zm_4093 (by decide +kernel)
theorem d_4093_90 {σ : Nat → Nat} {n0 : Nat} {bf : ab_B} : decode (ab_code (zx σ n0 bf).1 4093) 90 = .ok (.aload_n 0, 1) := zd zm_4093 (by decide +kernel)
theorem d_4093_91 {σ : Nat → Nat} {n0 : Nat} {bf : ab_B} : decode (ab_code (zx σ n0 bf).1 4093) 91 = .ok (.getfield 46, 3) := zd zm_4093 (by decide +kernel)
theorem d_4093_94 {σ : Nat → Nat} {n0 : Nat} {bf : ab_B} : decode (ab_code (zx σ n0 bf).1 4093) 94 = .ok (.invokevirtual 50, 3) := zd zm_4093 (by decide +kernel)
theorem d_4093_97 {σ : Nat → Nat} {n0 : Nat} {bf : ab_B} : decode (ab_code (zx σ n0 bf).1 4093) 97 = .ok (.iconst 1, 1) := zd zm_4093 (by decide +kernel)
theorem d_4093_98 {σ : Nat → Nat} {n0 : Nat} {bf : ab_B} : decode (ab_code (zx σ n0 bf).1 4093) 98 = .ok (.isub, 1) := zd zm_4093 (by decide +kernel)
theorem d_4093_99 {σ : Nat → Nat} {n0 : Nat} {bf : ab_B} : decode (ab_code (zx σ n0 bf).1 4093) 99 = .ok (.invokevirtual 183, 3) := zd zm_4093 (by decide +kernel)
theorem d_4093_102 {σ : Nat → Nat} {n0 : Nat} {bf : ab_B} : decode (ab_code (zx σ n0 bf).1 4093) 102 = .ok (.pop, 1) := zd zm_4093 (by decide +kernel)
theorem d_4093_103 {σ : Nat → Nat} {n0 : Nat} {bf : ab_B} : decode (ab_code (zx σ n0 bf).1 4093) 103 = .ok (.goto (-28), 3) := zd zm_4093 (by decide +kernel)
theorem d_4093_106 {σ : Nat → Nat} {n0 : Nat} {bf : ab_B} : decode (ab_code (zx σ n0 bf).1 4093) 106 = .ok (.aload_n 0, 1) := zd zm_4093 (by decide +kernel)
theorem d_4093_107 {σ : Nat → Nat} {n0 : Nat} {bf : ab_B} : decode (ab_code (zx σ n0 bf).1 4093) 107 = .ok (.iload 4, 2) := zd zm_4093 (by decide +kernel)
theorem d_4093_109 {σ : Nat → Nat} {n0 : Nat} {bf : ab_B} : decode (ab_code (zx σ n0 bf).1 4093) 109 = .ok (.putfield 115, 3) := zd zm_4093 (by decide +kernel)
theorem d_4093_112 {σ : Nat → Nat} {n0 : Nat} {bf : ab_B} : decode (ab_code (zx σ n0 bf).1 4093) 112 = .ok (.aload_n 0, 1) := zd zm_4093 (by decide +kernel)
theorem d_4093_113 {σ : Nat → Nat} {n0 : Nat} {bf : ab_B} : decode (ab_code (zx σ n0 bf).1 4093) 113 = .ok (.aload_n 2, 1) := zd zm_4093 (by decide +kernel)
theorem d_4093_114 {σ : Nat → Nat} {n0 : Nat} {bf : ab_B} : decode (ab_code (zx σ n0 bf).1 4093) 114 = .ok (.putfield 218, 3) := zd zm_4093 (by decide +kernel)
theorem d_4093_117 {σ : Nat → Nat} {n0 : Nat} {bf : ab_B} : decode (ab_code (zx σ n0 bf).1 4093) 117 = .ok (.return_, 1) := zd zm_4093 (by decide +kernel)
def w_X5_body_29 (X : zs_X) (d : Nat) (p0 : Nat) (p1 : Option Nat) (p2 : Option Nat) (p3 : Int32) (p4 : Int32) (S : zs_T) (Q : zs_Q) : Prop :=
  (zs_U X d 4093 32 [(0, .ref p0), (1, va_rf p1), (2, va_rf p2), (3, .int p3), (4, .int p4), (5, .int (0 : Int32))] [] S Q)
theorem u_X5_body_29 {σ : Nat → Nat} {n0 : Nat} {bf : ab_B} {d : Nat} {p0 : Nat} {p1 : Option Nat} {p2 : Option Nat} {p3 : Int32} {p4 : Int32} {S : zs_T} {Q : zs_Q} (hB : zt_B bf) (h : w_X5_body_29 (zx σ n0 bf) d p0 p1 p2 p3 p4 S Q) : zs_U (zx σ n0 bf) d 4093 29 [(0, .ref p0), (1, va_rf p1), (2, va_rf p2), (3, .int p3), (4, .int p4)] [] S Q := by
  unfold w_X5_body_29 at h
  refine zu_iconst d_4093_29 zi_0 ?_
  refine zu_istore d_4093_30 (zs_lt zq_4093 rfl) ?_
  exact h.weak ⟨rfl, rfl, rfl, rfl, rfl, rfl, trivial⟩
def w_X5_body_32 (X : zs_X) (d : Nat) (p0 : Nat) (p1 : Option Nat) (p2 : Option Nat) (p3 : Int32) (p4 : Int32) (p5 : Int32) (S : zs_T) (Q : zs_Q) : Prop :=
  (∃ b1, p1 = some b1 ∧ zs_K S b1 = some (.inl 10) ∧ ∃ b4, (zs_R S 10004 b1) = some b4 ∧ zs_K S b4 = some (.inl 16) ∧ zs_C X d 16001 [.ref b4] S (zs_kI (fun v8 S7 => (((v8 ≤ p5 → (zs_K S7 p0 = some (.inl 4) ∧ zs_C X d 4009 [.ref p0, va_rf p1] S7 (zs_kV (fun S11 => zs_U X d 4093 75 [(0, .ref p0), (2, va_rf p2), (3, .int p3), (4, .int p4)] [] S11 Q) Q))) ∧ (¬ (v8 ≤ p5) → (zs_K S7 p0 = some (.inl 4) ∧ zs_K S7 b1 = some (.inl 10) ∧ ∃ b15, (zs_R S7 10004 b1) = some b15 ∧ zs_K S7 b15 = some (.inl 16) ∧ zs_C X d 16009 [.ref b15, .int p5] S7 (zs_kR (fun v19 S18 => ((∀ a, v19 = some a → zs_K S18 a = some (.inl 7)) ∧ ∃ b21, (zs_R S7 4008 p0) = some b21 ∧ zs_K S18 b21 = some (.inl 16) ∧ zs_C X d 16002 [.ref b21, va_rf v19] S18 (zs_kI (fun v25 S24 => (zs_U X d 4093 32 [(0, .ref p0), (1, va_rf p1), (2, va_rf p2), (3, .int p3), (4, .int p4), (5, .int (p5 + (1 : Int32)))] [] S24 Q)) Q))) Q)))))) Q))
theorem u_X5_body_32 {σ : Nat → Nat} {n0 : Nat} {bf : ab_B} {d : Nat} {p0 : Nat} {p1 : Option Nat} {p2 : Option Nat} {p3 : Int32} {p4 : Int32} {p5 : Int32} {S : zs_T} {Q : zs_Q} (hB : zt_B bf) (h : w_X5_body_32 (zx σ n0 bf) d p0 p1 p2 p3 p4 p5 S Q) : zs_U (zx σ n0 bf) d 4093 32 [(0, .ref p0), (1, va_rf p1), (2, va_rf p2), (3, .int p3), (4, .int p4), (5, .int p5)] [] S Q := by
  unfold w_X5_body_32 at h
  refine zu_iload d_4093_32 rfl ?_
  refine zu_aload_n d_4093_34 rfl (zs_rr _) ?_
  obtain ⟨b1, e2, h⟩ := h
  refine zs_stk0 (zs_rfe e2) ?_
  obtain ⟨k3, h⟩ := h
  refine zg_4_247 rfl d_4093_35 k3 ?_
  obtain ⟨b4, e5, h⟩ := h
  refine zs_stk0 (zs_rfe e5) ?_
  obtain ⟨k6, h⟩ := h
  refine zc_4_50  hB rfl k6 d_4093_38 (Nat.le_of_ble_eq_true rfl) h (fun v8 S7 h => ?_)
  refine zu_cmpge (t := 70) d_4093_41 rfl (fun c9 => ?_) (fun c9 => ?_)
  · have h := h.1 c9
    refine zu_aload_n d_4093_70 rfl (zs_ra _) ?_
    refine zu_aload_n d_4093_71 rfl (zs_rr _) ?_
    obtain ⟨k10, h⟩ := h
    refine zc_4_227 (x0 := p1) hB rfl k10 d_4093_72 (Nat.le_of_ble_eq_true rfl) h (fun S11 h => ?_)
    exact h.weak ⟨rfl, rfl, rfl, rfl, trivial⟩
  · have h := h.2 c9
    refine zu_aload_n d_4093_44 rfl (zs_ra _) ?_
    obtain ⟨k13, h⟩ := h
    refine zg_4_46 rfl d_4093_45 k13 ?_
    refine zu_aload_n d_4093_48 rfl (zs_rr _) ?_
    refine zs_stk0 (zs_rfe e2) ?_
    obtain ⟨k14, h⟩ := h
    refine zg_4_247 rfl d_4093_49 k14 ?_
    refine zu_iload d_4093_52 rfl ?_
    obtain ⟨b15, e16, h⟩ := h
    refine zs_stk1 (zs_rfe e16) ?_
    obtain ⟨k17, h⟩ := h
    refine zc_4_56 (x0 := p5) hB rfl k17 d_4093_54 (by simp only [List.map_cons, List.map_nil, List.sum_cons, List.sum_nil, zs_cat, zs_cI, zs_cJ, zs_cA]; exact Nat.le_of_ble_eq_true rfl) h (fun v19 S18 h => ?_)
    obtain ⟨k20, h⟩ := h
    refine zk_4_60 (o := v19) rfl d_4093_57 k20 ?_
    obtain ⟨b21, e22, h⟩ := h
    refine zs_stk1 (zs_rfe e22) ?_
    obtain ⟨k23, h⟩ := h
    refine zc_4_140 (x0 := v19) hB rfl k23 d_4093_60 (Nat.le_of_ble_eq_true rfl) h (fun v25 S24 h => ?_)
    refine zu_pop d_4093_63 rfl ?_
    refine zu_iinc d_4093_64 rfl zi_1 (zs_lt zq_4093 rfl) ?_
    refine zu_goto (t := 32) d_4093_67 rfl ?_
    exact h.weak ⟨rfl, rfl, rfl, rfl, rfl, rfl, trivial⟩
def w_X5_body_75 (X : zs_X) (d : Nat) (p0 : Nat) (p2 : Option Nat) (p3 : Int32) (p4 : Int32) (S : zs_T) (Q : zs_Q) : Prop :=
  (zs_K S p0 = some (.inl 4) ∧ ∃ b2, (zs_R S 4008 p0) = some b2 ∧ zs_K S b2 = some (.inl 16) ∧ zs_C X d 16001 [.ref b2] S (zs_kI (fun v6 S5 => (((v6 ≤ p3 → (zs_K S5 p0 = some (.inl 4) ∧ ab_n0 X.1 ≤ p0 ∧ ∀ S10, S10 = zs_sI S5 4009 p0 p4 → ∀ S13, S13 = zs_sR S10 4010 p0 p2 → Q (.returned none) S13)) ∧ (¬ (v6 ≤ p3) → (zs_K S5 p0 = some (.inl 4) ∧ ∃ b17, (zs_R S5 4008 p0) = some b17 ∧ zs_K S5 b17 = some (.inl 16) ∧ zs_C X d 16001 [.ref b17] S5 (zs_kI (fun v21 S20 => (zs_K S20 b17 = some (.inl 16) ∧ zs_C X d 16007 [.ref b17, .int (v21 - (1 : Int32))] S20 (zs_kR (fun v24 S23 => (zs_U X d 4093 75 [(0, .ref p0), (2, va_rf p2), (3, .int p3), (4, .int p4)] [] S23 Q)) Q))) Q)))))) Q))
theorem u_X5_body_75 {σ : Nat → Nat} {n0 : Nat} {bf : ab_B} {d : Nat} {p0 : Nat} {p2 : Option Nat} {p3 : Int32} {p4 : Int32} {S : zs_T} {Q : zs_Q} (hB : zt_B bf) (h : w_X5_body_75 (zx σ n0 bf) d p0 p2 p3 p4 S Q) : zs_U (zx σ n0 bf) d 4093 75 [(0, .ref p0), (2, va_rf p2), (3, .int p3), (4, .int p4)] [] S Q := by
  unfold w_X5_body_75 at h
  refine zu_aload_n d_4093_75 rfl (zs_ra _) ?_
  obtain ⟨k1, h⟩ := h
  refine zg_4_46 rfl d_4093_76 k1 ?_
  obtain ⟨b2, e3, h⟩ := h
  refine zs_stk0 (zs_rfe e3) ?_
  obtain ⟨k4, h⟩ := h
  refine zc_4_50  hB rfl k4 d_4093_79 (Nat.le_of_ble_eq_true rfl) h (fun v6 S5 h => ?_)
  refine zu_iload_n d_4093_82 rfl ?_
  refine zu_cmple (t := 106) d_4093_83 rfl (fun c7 => ?_) (fun c7 => ?_)
  · have h := h.1 c7
    refine zu_aload_n d_4093_106 rfl (zs_ra _) ?_
    refine zu_iload d_4093_107 rfl ?_
    obtain ⟨k8, h⟩ := h
    obtain ⟨k9, h⟩ := h
    refine zp_4_115 (v := p4) rfl d_4093_109 k8 k9 ?_
    generalize e11 : zs_sI S5 4009 p0 p4 = S10
    have h := h S10 e11.symm
    have K12 : ∀ b, zs_K S10 b = zs_K S5 b := zs_Kt e11 (zs_KsI _ _ _ _) (fun _ => rfl)
    refine zu_aload_n d_4093_112 rfl (zs_ra _) ?_
    refine zu_aload_n d_4093_113 rfl (zs_rr _) ?_
    refine zp_4_218 (v := p2) rfl d_4093_114 ((K12 _).trans k8) k9 ?_
    generalize e14 : zs_sR S10 4010 p0 p2 = S13
    have h := h S13 e14.symm
    have K15 : ∀ b, zs_K S13 b = zs_K S5 b := zs_Kt e14 (zs_KsR _ _ _ _) K12
    exact zu_vret d_4093_117 zr_4093 h
  · have h := h.2 c7
    refine zu_aload_n d_4093_86 rfl (zs_ra _) ?_
    obtain ⟨k16, h⟩ := h
    refine zg_4_46 rfl d_4093_87 k16 ?_
    refine zu_aload_n d_4093_90 rfl (zs_ra _) ?_
    refine zg_4_46 rfl d_4093_91 k16 ?_
    obtain ⟨b17, e18, h⟩ := h
    refine zs_stk0 (zs_rfe e18) ?_
    obtain ⟨k19, h⟩ := h
    refine zc_4_50  hB rfl k19 d_4093_94 (by simp only [List.map_cons, List.map_nil, List.sum_cons, List.sum_nil, zs_cat, zs_cI, zs_cJ, zs_cA]; exact Nat.le_of_ble_eq_true rfl) h (fun v21 S20 h => ?_)
    refine zu_iconst d_4093_97 zi_1 ?_
    refine zu_stk d_4093_98 rfl rfl ?_
    refine zs_stk1 (zs_rfe e18) ?_
    obtain ⟨k22, h⟩ := h
    refine zc_4_183 (x0 := (v21 - (1 : Int32))) hB rfl k22 d_4093_99 (Nat.le_of_ble_eq_true rfl) h (fun v24 S23 h => ?_)
    refine zu_pop d_4093_102 (zs_cat _) ?_
    refine zu_goto (t := 75) d_4093_103 rfl ?_
    exact h.weak ⟨rfl, rfl, rfl, rfl, trivial⟩
def w_X5_body (X : zs_X) (d : Nat) (p0 : Nat) (p1 : Option Nat) (S : zs_T) (Q : zs_Q) : Prop :=
  (zs_K S p0 = some (.inl 4) ∧ ∃ b2, (zs_R S 4008 p0) = some b2 ∧ zs_K S b2 = some (.inl 16) ∧ zs_C X d 16001 [.ref b2] S (zs_kI (fun v6 S5 => (zs_K S5 p0 = some (.inl 4) ∧ ab_n0 X.1 ≤ p0 ∧ ∀ S9, S9 = zs_sR S5 4010 p0 p1 → ∀ S12, S12 = zs_sI S9 4009 p0 v6 → w_X5_body_29 X d p0 p1 (zs_R S 4010 p0) v6 (zs_I S5 4009 p0) S12 Q)) Q))
theorem u_X5_body {σ : Nat → Nat} {n0 : Nat} {bf : ab_B} {d : Nat} {p0 : Nat} {p1 : Option Nat} {S : zs_T} {Q : zs_Q} (hB : zt_B bf) (hd : 1 ≤ d) (h : w_X5_body (zx σ n0 bf) (d - 1) p0 p1 S Q) : zs_C (zx σ n0 bf) d 4093 [.ref p0, va_rf p1] S Q := by
  have hL : lv_args 0 [.ref p0, va_rf p1] = [(0, .ref p0), (1, va_rf p1)] := by simp [lv_args, zs_cat, zs_cI, zs_cJ, zs_cA]
  refine zs_C.of1 (hB.2 4093 (by decide) (by decide)) hd (by rw [hL]; exact zs_sub_self _ (by exact ⟨rfl, rfl, trivial⟩)) ?_
  rw [hL]
  clear hL
  unfold w_X5_body at h
  refine zu_aload_n d_4093_0 rfl (zs_ra _) ?_
  obtain ⟨k1, h⟩ := h
  refine zg_4_218 rfl d_4093_1 k1 ?_
  refine zu_astore_n d_4093_4 (zs_rr _) (zs_lt zq_4093 rfl) ?_
  refine zs_U.weak (L1 := [(2, va_rf (zs_R S 4010 p0)), (0, .ref p0), (1, va_rf p1)]) ?_ ⟨rfl, zs_gp1 rfl (Or.inl rfl) rfl, zs_gp1 rfl (Or.inl (zs_cat _)) rfl, trivial⟩
  refine zu_aload_n d_4093_5 rfl (zs_ra _) ?_
  refine zg_4_46 rfl d_4093_6 k1 ?_
  obtain ⟨b2, e3, h⟩ := h
  refine zs_stk0 (zs_rfe e3) ?_
  obtain ⟨k4, h⟩ := h
  refine zc_4_50  hB rfl k4 d_4093_9 (Nat.le_of_ble_eq_true rfl) h (fun v6 S5 h => ?_)
  refine zu_istore_n d_4093_12 (zs_lt zq_4093 rfl) ?_
  refine zs_U.weak (L1 := [(3, .int v6), (0, .ref p0), (1, va_rf p1), (2, va_rf (zs_R S 4010 p0))]) ?_ ⟨rfl, zs_gp1 rfl (Or.inl rfl) rfl, zs_gp1 rfl (Or.inl (zs_cat _)) rfl, zs_gp1 rfl (Or.inl (zs_cat _)) rfl, trivial⟩
  refine zu_aload_n d_4093_13 rfl (zs_ra _) ?_
  obtain ⟨k7, h⟩ := h
  refine zg_4_115 rfl d_4093_14 k7 ?_
  refine zu_istore d_4093_17 (zs_lt zq_4093 rfl) ?_
  refine zu_aload_n d_4093_19 rfl (zs_ra _) ?_
  refine zu_aload_n d_4093_20 rfl (zs_rr _) ?_
  obtain ⟨k8, h⟩ := h
  refine zp_4_218 (v := p1) rfl d_4093_21 k7 k8 ?_
  generalize e10 : zs_sR S5 4010 p0 p1 = S9
  have h := h S9 e10.symm
  have K11 : ∀ b, zs_K S9 b = zs_K S5 b := zs_Kt e10 (zs_KsR _ _ _ _) (fun _ => rfl)
  refine zu_aload_n d_4093_24 rfl (zs_ra _) ?_
  refine zu_iload_n d_4093_25 rfl ?_
  refine zp_4_115 (v := v6) rfl d_4093_26 ((K11 _).trans k7) k8 ?_
  generalize e13 : zs_sI S9 4009 p0 v6 = S12
  have h := h S12 e13.symm
  have K14 : ∀ b, zs_K S12 b = zs_K S5 b := zs_Kt e13 (zs_KsI _ _ _ _) K11
  exact (u_X5_body_29 hB h).weak ⟨rfl, rfl, rfl, rfl, rfl, trivial⟩
/-! SchemaPascal$Reader.emit(II)I -/
theorem zm_4094 {σ : Nat → Nat} {n0 : Nat} {bf : ab_B} : ab_code (zx σ n0 bf).1 4094 = prog_9_method_88_code := rfl
theorem zq_4094 {σ : Nat → Nat} {n0 : Nat} {bf : ab_B} : ab_maxL (zx σ n0 bf).1 4094 = 3 := rfl
theorem zr_4094 {σ : Nat → Nat} {n0 : Nat} {bf : ab_B} : ab_ret (zx σ n0 bf).1 4094 = (Option.some Jvm.ClassFile.FieldType.int) := rfl
theorem d_4094_0 {σ : Nat → Nat} {n0 : Nat} {bf : ab_B} : decode (ab_code (zx σ n0 bf).1 4094) 0 = .ok (.aload_n 0, 1) := zd zm_4094 (by decide +kernel)
theorem d_4094_1 {σ : Nat → Nat} {n0 : Nat} {bf : ab_B} : decode (ab_code (zx σ n0 bf).1 4094) 1 = .ok (.getfield 128, 3) := zd zm_4094 (by decide +kernel)
theorem d_4094_4 {σ : Nat → Nat} {n0 : Nat} {bf : ab_B} : decode (ab_code (zx σ n0 bf).1 4094) 4 = .ok (.iload_n 1, 1) := zd zm_4094 (by decide +kernel)
theorem d_4094_5 {σ : Nat → Nat} {n0 : Nat} {bf : ab_B} : decode (ab_code (zx σ n0 bf).1 4094) 5 = .ok (.invokevirtual 709, 3) := zd zm_4094 (by decide +kernel)
theorem d_4094_8 {σ : Nat → Nat} {n0 : Nat} {bf : ab_B} : decode (ab_code (zx σ n0 bf).1 4094) 8 = .ok (.pop, 1) := zd zm_4094 (by decide +kernel)
theorem d_4094_9 {σ : Nat → Nat} {n0 : Nat} {bf : ab_B} : decode (ab_code (zx σ n0 bf).1 4094) 9 = .ok (.aload_n 0, 1) := zd zm_4094 (by decide +kernel)
theorem d_4094_10 {σ : Nat → Nat} {n0 : Nat} {bf : ab_B} : decode (ab_code (zx σ n0 bf).1 4094) 10 = .ok (.getfield 128, 3) := zd zm_4094 (by decide +kernel)
theorem d_4094_13 {σ : Nat → Nat} {n0 : Nat} {bf : ab_B} : decode (ab_code (zx σ n0 bf).1 4094) 13 = .ok (.iload_n 2, 1) := zd zm_4094 (by decide +kernel)
theorem d_4094_14 {σ : Nat → Nat} {n0 : Nat} {bf : ab_B} : decode (ab_code (zx σ n0 bf).1 4094) 14 = .ok (.invokevirtual 709, 3) := zd zm_4094 (by decide +kernel)
theorem d_4094_17 {σ : Nat → Nat} {n0 : Nat} {bf : ab_B} : decode (ab_code (zx σ n0 bf).1 4094) 17 = .ok (.ireturn, 1) := zd zm_4094 (by decide +kernel)
def w_X5_emit (X : zs_X) (d : Nat) (p0 : Nat) (p1 : Int32) (p2 : Int32) (S : zs_T) (Q : zs_Q) : Prop :=
  (zs_K S p0 = some (.inl 4) ∧ ∃ b2, (zs_R S 4001 p0) = some b2 ∧ zs_K S b2 = some (.inl 3) ∧ zs_C X d 3002 [.ref b2, .int p1] S (zs_kI (fun v6 S5 => (zs_K S5 p0 = some (.inl 4) ∧ ∃ b8, (zs_R S5 4001 p0) = some b8 ∧ zs_K S5 b8 = some (.inl 3) ∧ zs_C X d 3002 [.ref b8, .int p2] S5 (zs_kI (fun v12 S11 => (Q (.returned (some (.int v12))) S11)) Q))) Q))
theorem u_X5_emit {σ : Nat → Nat} {n0 : Nat} {bf : ab_B} {d : Nat} {p0 : Nat} {p1 : Int32} {p2 : Int32} {S : zs_T} {Q : zs_Q} (hB : zt_B bf) (hd : 1 ≤ d) (h : w_X5_emit (zx σ n0 bf) (d - 1) p0 p1 p2 S Q) : zs_C (zx σ n0 bf) d 4094 [.ref p0, .int p1, .int p2] S Q := by
  have hL : lv_args 0 [.ref p0, .int p1, .int p2] = [(0, .ref p0), (1, .int p1), (2, .int p2)] := rfl
  refine zs_C.of1 (hB.2 4094 (by decide) (by decide)) hd (by rw [hL]; exact zs_sub_self _ (by exact ⟨rfl, rfl, rfl, trivial⟩)) ?_
  rw [hL]
  clear hL
  unfold w_X5_emit at h
  refine zu_aload_n d_4094_0 rfl (zs_ra _) ?_
  obtain ⟨k1, h⟩ := h
  refine zg_4_128 rfl d_4094_1 k1 ?_
  refine zu_iload_n d_4094_4 rfl ?_
  obtain ⟨b2, e3, h⟩ := h
  refine zs_stk1 (zs_rfe e3) ?_
  obtain ⟨k4, h⟩ := h
  refine zc_4_709 (x0 := p1) hB rfl k4 d_4094_5 (Nat.le_of_ble_eq_true rfl) h (fun v6 S5 h => ?_)
  refine zu_pop d_4094_8 rfl ?_
  refine zu_aload_n d_4094_9 rfl (zs_ra _) ?_
  obtain ⟨k7, h⟩ := h
  refine zg_4_128 rfl d_4094_10 k7 ?_
  refine zu_iload_n d_4094_13 rfl ?_
  obtain ⟨b8, e9, h⟩ := h
  refine zs_stk1 (zs_rfe e9) ?_
  obtain ⟨k10, h⟩ := h
  refine zc_4_709 (x0 := p2) hB rfl k10 d_4094_14 (Nat.le_of_ble_eq_true rfl) h (fun v12 S11 h => ?_)
  exact zu_iret d_4094_17 zr_4094 rfl h
/-! SchemaPascal$Reader.make(LSchemaPascal$Symbol;)V -/
theorem zm_4095 {σ : Nat → Nat} {n0 : Nat} {bf : ab_B} : ab_code (zx σ n0 bf).1 4095 = prog_9_method_119_code := rfl
theorem zq_4095 {σ : Nat → Nat} {n0 : Nat} {bf : ab_B} : ab_maxL (zx σ n0 bf).1 4095 = 5 := rfl
theorem zr_4095 {σ : Nat → Nat} {n0 : Nat} {bf : ab_B} : ab_ret (zx σ n0 bf).1 4095 = (Option.none : Option Jvm.ClassFile.FieldType) := rfl
theorem d_4095_0 {σ : Nat → Nat} {n0 : Nat} {bf : ab_B} : decode (ab_code (zx σ n0 bf).1 4095) 0 = .ok (.aload_n 1, 1) := zd zm_4095 (by decide +kernel)
theorem d_4095_1 {σ : Nat → Nat} {n0 : Nat} {bf : ab_B} : decode (ab_code (zx σ n0 bf).1 4095) 1 = .ok (.getfield 65, 3) := zd zm_4095 (by decide +kernel)
theorem d_4095_4 {σ : Nat → Nat} {n0 : Nat} {bf : ab_B} : decode (ab_code (zx σ n0 bf).1 4095) 4 = .ok (.astore_n 2, 1) := zd zm_4095 (by decide +kernel)
theorem d_4095_5 {σ : Nat → Nat} {n0 : Nat} {bf : ab_B} : decode (ab_code (zx σ n0 bf).1 4095) 5 = .ok (.iconst 0, 1) := zd zm_4095 (by decide +kernel)
theorem d_4095_6 {σ : Nat → Nat} {n0 : Nat} {bf : ab_B} : decode (ab_code (zx σ n0 bf).1 4095) 6 = .ok (.istore_n 3, 1) := zd zm_4095 (by decide +kernel)
theorem d_4095_7 {σ : Nat → Nat} {n0 : Nat} {bf : ab_B} : decode (ab_code (zx σ n0 bf).1 4095) 7 = .ok (.aload_n 2, 1) := zd zm_4095 (by decide +kernel)
theorem d_4095_8 {σ : Nat → Nat} {n0 : Nat} {bf : ab_B} : decode (ab_code (zx σ n0 bf).1 4095) 8 = .ok (.getfield 369, 3) := zd zm_4095 (by decide +kernel)
theorem d_4095_11 {σ : Nat → Nat} {n0 : Nat} {bf : ab_B} : decode (ab_code (zx σ n0 bf).1 4095) 11 = .ok (.bipush 11, 2) := zd zm_4095 (by decide +kernel)
theorem d_4095_13 {σ : Nat → Nat} {n0 : Nat} {bf : ab_B} : decode (ab_code (zx σ n0 bf).1 4095) 13 = .ok (.if_icmp .ne 33, 3) := zd zm_4095 (by decide +kernel)
theorem d_4095_16 {σ : Nat → Nat} {n0 : Nat} {bf : ab_B} : decode (ab_code (zx σ n0 bf).1 4095) 16 = .ok (.aload_n 2, 1) := zd zm_4095 (by decide +kernel)
theorem d_4095_17 {σ : Nat → Nat} {n0 : Nat} {bf : ab_B} : decode (ab_code (zx σ n0 bf).1 4095) 17 = .ok (.getfield 484, 3) := zd zm_4095 (by decide +kernel)
theorem d_4095_20 {σ : Nat → Nat} {n0 : Nat} {bf : ab_B} : decode (ab_code (zx σ n0 bf).1 4095) 20 = .ok (.astore 4, 2) := zd zm_4095 (by decide +kernel)
theorem d_4095_22 {σ : Nat → Nat} {n0 : Nat} {bf : ab_B} : decode (ab_code (zx σ n0 bf).1 4095) 22 = .ok (.aload 4, 2) := zd zm_4095 (by decide +kernel)
theorem d_4095_24 {σ : Nat → Nat} {n0 : Nat} {bf : ab_B} : decode (ab_code (zx σ n0 bf).1 4095) 24 = .ok (.ifnull 22, 3) := zd zm_4095 (by decide +kernel)
theorem d_4095_27 {σ : Nat → Nat} {n0 : Nat} {bf : ab_B} : decode (ab_code (zx σ n0 bf).1 4095) 27 = .ok (.aload_n 0, 1) := zd zm_4095 (by decide +kernel)
theorem d_4095_28 {σ : Nat → Nat} {n0 : Nat} {bf : ab_B} : decode (ab_code (zx σ n0 bf).1 4095) 28 = .ok (.aload 4, 2) := zd zm_4095 (by decide +kernel)
theorem d_4095_30 {σ : Nat → Nat} {n0 : Nat} {bf : ab_B} : decode (ab_code (zx σ n0 bf).1 4095) 30 = .ok (.invokevirtual 721, 3) := zd zm_4095 (by decide +kernel)
theorem d_4095_33 {σ : Nat → Nat} {n0 : Nat} {bf : ab_B} : decode (ab_code (zx σ n0 bf).1 4095) 33 = .ok (.iinc 3 1, 3) := zd zm_4095 (by decide +kernel)
theorem d_4095_36 {σ : Nat → Nat} {n0 : Nat} {bf : ab_B} : decode (ab_code (zx σ n0 bf).1 4095) 36 = .ok (.aload 4, 2) := zd zm_4095 (by decide +kernel)
theorem d_4095_38 {σ : Nat → Nat} {n0 : Nat} {bf : ab_B} : decode (ab_code (zx σ n0 bf).1 4095) 38 = .ok (.getfield 487, 3) := zd zm_4095 (by decide +kernel)
theorem d_4095_41 {σ : Nat → Nat} {n0 : Nat} {bf : ab_B} : decode (ab_code (zx σ n0 bf).1 4095) 41 = .ok (.astore 4, 2) := zd zm_4095 (by decide +kernel)
theorem d_4095_43 {σ : Nat → Nat} {n0 : Nat} {bf : ab_B} : decode (ab_code (zx σ n0 bf).1 4095) 43 = .ok (.goto (-21), 3) := zd zm_4095 (by decide +kernel)
theorem d_4095_46 {σ : Nat → Nat} {n0 : Nat} {bf : ab_B} : decode (ab_code (zx σ n0 bf).1 4095) 46 = .ok (.aload_n 0, 1) := zd zm_4095 (by decide +kernel)
theorem d_4095_47 {σ : Nat → Nat} {n0 : Nat} {bf : ab_B} : decode (ab_code (zx σ n0 bf).1 4095) 47 = .ok (.bipush 54, 2) := zd zm_4095 (by decide +kernel)
theorem d_4095_49 {σ : Nat → Nat} {n0 : Nat} {bf : ab_B} : decode (ab_code (zx σ n0 bf).1 4095) 49 = .ok (.aload_n 0, 1) := zd zm_4095 (by decide +kernel)
theorem d_4095_50 {σ : Nat → Nat} {n0 : Nat} {bf : ab_B} : decode (ab_code (zx σ n0 bf).1 4095) 50 = .ok (.getfield 218, 3) := zd zm_4095 (by decide +kernel)
theorem d_4095_53 {σ : Nat → Nat} {n0 : Nat} {bf : ab_B} : decode (ab_code (zx σ n0 bf).1 4095) 53 = .ok (.getfield 270, 3) := zd zm_4095 (by decide +kernel)
theorem d_4095_56 {σ : Nat → Nat} {n0 : Nat} {bf : ab_B} : decode (ab_code (zx σ n0 bf).1 4095) 56 = .ok (.aload_n 1, 1) := zd zm_4095 (by decide +kernel)
theorem d_4095_57 {σ : Nat → Nat} {n0 : Nat} {bf : ab_B} : decode (ab_code (zx σ n0 bf).1 4095) 57 = .ok (.getfield 104, 3) := zd zm_4095 (by decide +kernel)
theorem d_4095_60 {σ : Nat → Nat} {n0 : Nat} {bf : ab_B} : decode (ab_code (zx σ n0 bf).1 4095) 60 = .ok (.invokevirtual 712, 3) := zd zm_4095 (by decide +kernel)
theorem d_4095_63 {σ : Nat → Nat} {n0 : Nat} {bf : ab_B} : decode (ab_code (zx σ n0 bf).1 4095) 63 = .ok (.aload_n 0, 1) := zd zm_4095 (by decide +kernel)
theorem d_4095_64 {σ : Nat → Nat} {n0 : Nat} {bf : ab_B} : decode (ab_code (zx σ n0 bf).1 4095) 64 = .ok (.getfield 128, 3) := zd zm_4095 (by decide +kernel)
theorem d_4095_67 {σ : Nat → Nat} {n0 : Nat} {bf : ab_B} : decode (ab_code (zx σ n0 bf).1 4095) 67 = .ok (.aload_n 2, 1) := zd zm_4095 (by decide +kernel)
theorem d_4095_68 {σ : Nat → Nat} {n0 : Nat} {bf : ab_B} : decode (ab_code (zx σ n0 bf).1 4095) 68 = .ok (.getfield 137, 3) := zd zm_4095 (by decide +kernel)
theorem d_4095_71 {σ : Nat → Nat} {n0 : Nat} {bf : ab_B} : decode (ab_code (zx σ n0 bf).1 4095) 71 = .ok (.invokevirtual 709, 3) := zd zm_4095 (by decide +kernel)
theorem d_4095_74 {σ : Nat → Nat} {n0 : Nat} {bf : ab_B} : decode (ab_code (zx σ n0 bf).1 4095) 74 = .ok (.pop, 1) := zd zm_4095 (by decide +kernel)
theorem d_4095_75 {σ : Nat → Nat} {n0 : Nat} {bf : ab_B} : decode (ab_code (zx σ n0 bf).1 4095) 75 = .ok (.return_, 1) := zd zm_4095 (by decide +kernel)
def w_X5_make_46 (X : zs_X) (d : Nat) (p0 : Nat) (p1 : Option Nat) (p2 : Option Nat) (S : zs_T) (Q : zs_Q) : Prop :=
  (zs_K S p0 = some (.inl 4) ∧ ∃ b2, (zs_R S 4010 p0) = some b2 ∧ zs_K S b2 = some (.inl 10) ∧ ∃ b5, p1 = some b5 ∧ zs_K S b5 = some (.inl 7) ∧ zs_C X d 4097 [.ref p0, .int (54 : Int32), .int (zs_I S 10001 b2), .int (zs_I S 7008 b5)] S (zs_kV (fun S8 => (zs_K S8 p0 = some (.inl 4) ∧ ∃ b11, p2 = some b11 ∧ zs_K S8 b11 = some (.inl 6) ∧ ∃ b14, (zs_R S8 4001 p0) = some b14 ∧ zs_K S8 b14 = some (.inl 3) ∧ zs_C X d 3002 [.ref b14, .int (zs_I S8 6001 b11)] S8 (zs_kI (fun v18 S17 => (Q (.returned none) S17)) Q))) Q))
theorem u_X5_make_46 {σ : Nat → Nat} {n0 : Nat} {bf : ab_B} {d : Nat} {p0 : Nat} {p1 : Option Nat} {p2 : Option Nat} {S : zs_T} {Q : zs_Q} (hB : zt_B bf) (h : w_X5_make_46 (zx σ n0 bf) d p0 p1 p2 S Q) : zs_U (zx σ n0 bf) d 4095 46 [(0, .ref p0), (1, va_rf p1), (2, va_rf p2)] [] S Q := by
  unfold w_X5_make_46 at h
  refine zu_aload_n d_4095_46 rfl (zs_ra _) ?_
  refine zu_bipush d_4095_47 zj_54 ?_
  refine zu_aload_n d_4095_49 rfl (zs_ra _) ?_
  obtain ⟨k1, h⟩ := h
  refine zg_4_218 rfl d_4095_50 k1 ?_
  obtain ⟨b2, e3, h⟩ := h
  refine zs_stk0 (zs_rfe e3) ?_
  obtain ⟨k4, h⟩ := h
  refine zg_4_270 rfl d_4095_53 k4 ?_
  refine zu_aload_n d_4095_56 rfl (zs_rr _) ?_
  obtain ⟨b5, e6, h⟩ := h
  refine zs_stk0 (zs_rfe e6) ?_
  obtain ⟨k7, h⟩ := h
  refine zg_4_104 rfl d_4095_57 k7 ?_
  refine zc_4_712 (x0 := (54 : Int32)) (x1 := (zs_I S 10001 b2)) (x2 := (zs_I S 7008 b5)) hB rfl k1 d_4095_60 (Nat.le_of_ble_eq_true rfl) h (fun S8 h => ?_)
  refine zu_aload_n d_4095_63 rfl (zs_ra _) ?_
  obtain ⟨k10, h⟩ := h
  refine zg_4_128 rfl d_4095_64 k10 ?_
  refine zu_aload_n d_4095_67 rfl (zs_rr _) ?_
  obtain ⟨b11, e12, h⟩ := h
  refine zs_stk0 (zs_rfe e12) ?_
  obtain ⟨k13, h⟩ := h
  refine zg_4_137 rfl d_4095_68 k13 ?_
  obtain ⟨b14, e15, h⟩ := h
  refine zs_stk1 (zs_rfe e15) ?_
  obtain ⟨k16, h⟩ := h
  refine zc_4_709 (x0 := (zs_I S8 6001 b11)) hB rfl k16 d_4095_71 (Nat.le_of_ble_eq_true rfl) h (fun v18 S17 h => ?_)
  refine zu_pop d_4095_74 rfl ?_
  exact zu_vret d_4095_75 zr_4095 h
def w_X5_make_22 (X : zs_X) (d : Nat) (p0 : Nat) (p1 : Option Nat) (p2 : Option Nat) (p3 : Int32) (p4 : Option Nat) (S : zs_T) (Q : zs_Q) : Prop :=
  (((p4 = none → w_X5_make_46 X d p0 p1 p2 S Q) ∧ (∀ b1, p4 = some b1 → (zs_K S p0 = some (.inl 4) ∧ zs_C X d 4096 [.ref p0, va_rf p4] S (zs_kV (fun S4 => (zs_K S4 b1 = some (.inl 11) ∧ zs_U X d 4095 22 [(0, .ref p0), (1, va_rf p1), (2, va_rf p2), (3, .int (p3 + (1 : Int32))), (4, va_rf (zs_R S4 11007 b1))] [] S4 Q)) Q)))))
theorem u_X5_make_22 {σ : Nat → Nat} {n0 : Nat} {bf : ab_B} {d : Nat} {p0 : Nat} {p1 : Option Nat} {p2 : Option Nat} {p3 : Int32} {p4 : Option Nat} {S : zs_T} {Q : zs_Q} (hB : zt_B bf) (h : w_X5_make_22 (zx σ n0 bf) d p0 p1 p2 p3 p4 S Q) : zs_U (zx σ n0 bf) d 4095 22 [(0, .ref p0), (1, va_rf p1), (2, va_rf p2), (3, .int p3), (4, va_rf p4)] [] S Q := by
  unfold w_X5_make_22 at h
  refine zu_aload d_4095_22 rfl (zs_rr _) ?_
  refine zu_ifnull (u := p4) (t := 46) d_4095_24 rfl rfl (fun e2 => ?_) (fun b1 e2 => ?_)
  · have h := h.1 e2
    exact (u_X5_make_46 hB h).weak ⟨rfl, rfl, rfl, trivial⟩
  · have h := h.2 b1 e2
    refine zu_aload_n d_4095_27 rfl (zs_ra _) ?_
    refine zu_aload d_4095_28 rfl (zs_rr _) ?_
    obtain ⟨k3, h⟩ := h
    refine zc_4_721 (x0 := p4) hB rfl k3 d_4095_30 (Nat.le_of_ble_eq_true rfl) h (fun S4 h => ?_)
    refine zu_iinc d_4095_33 rfl zi_1 (zs_lt zq_4095 rfl) ?_
    refine zs_U.weak (L1 := [(3, .int (p3 + (1 : Int32))), (0, .ref p0), (1, va_rf p1), (2, va_rf p2), (4, va_rf p4)]) ?_ ⟨rfl, zs_gp1 rfl (Or.inl rfl) rfl, zs_gp1 rfl (Or.inl (zs_cat _)) rfl, zs_gp1 rfl (Or.inl (zs_cat _)) rfl, zs_gp1 rfl (Or.inl (zs_cat _)) rfl, trivial⟩
    refine zu_aload d_4095_36 rfl (zs_rr _) ?_
    refine zs_stk0 (zs_rfe e2) ?_
    obtain ⟨k6, h⟩ := h
    refine zg_4_487 rfl d_4095_38 k6 ?_
    refine zu_astore d_4095_41 (zs_rr _) (zs_lt zq_4095 rfl) ?_
    refine zu_goto (t := 22) d_4095_43 rfl ?_
    exact h.weak ⟨rfl, rfl, rfl, rfl, rfl, trivial⟩
def w_X5_make (X : zs_X) (d : Nat) (p0 : Nat) (p1 : Option Nat) (S : zs_T) (Q : zs_Q) : Prop :=
  (∃ b1, p1 = some b1 ∧ zs_K S b1 = some (.inl 7) ∧ ∃ b4, (zs_R S 7002 b1) = some b4 ∧ zs_K S b4 = some (.inl 6) ∧ ((¬ (zs_I S 6000 b4) = (11 : Int32) → w_X5_make_46 X d p0 p1 (zs_R S 7002 b1) S Q) ∧ (¬ (¬ (zs_I S 6000 b4) = (11 : Int32)) → (zs_U X d 4095 22 [(0, .ref p0), (1, va_rf p1), (2, va_rf (zs_R S 7002 b1)), (3, .int (0 : Int32)), (4, va_rf (zs_R S 6008 b4))] [] S Q))))
theorem u_X5_make {σ : Nat → Nat} {n0 : Nat} {bf : ab_B} {d : Nat} {p0 : Nat} {p1 : Option Nat} {S : zs_T} {Q : zs_Q} (hB : zt_B bf) (hd : 1 ≤ d) (h : w_X5_make (zx σ n0 bf) (d - 1) p0 p1 S Q) : zs_C (zx σ n0 bf) d 4095 [.ref p0, va_rf p1] S Q := by
  have hL : lv_args 0 [.ref p0, va_rf p1] = [(0, .ref p0), (1, va_rf p1)] := by simp [lv_args, zs_cat, zs_cI, zs_cJ, zs_cA]
  refine zs_C.of1 (hB.2 4095 (by decide) (by decide)) hd (by rw [hL]; exact zs_sub_self _ (by exact ⟨rfl, rfl, trivial⟩)) ?_
  rw [hL]
  clear hL
  unfold w_X5_make at h
  refine zu_aload_n d_4095_0 rfl (zs_rr _) ?_
  obtain ⟨b1, e2, h⟩ := h
  refine zs_stk0 (zs_rfe e2) ?_
  obtain ⟨k3, h⟩ := h
  refine zg_4_65 rfl d_4095_1 k3 ?_
  refine zu_astore_n d_4095_4 (zs_rr _) (zs_lt zq_4095 rfl) ?_
  refine zs_U.weak (L1 := [(2, va_rf (zs_R S 7002 b1)), (0, .ref p0), (1, va_rf p1)]) ?_ ⟨rfl, zs_gp1 rfl (Or.inl rfl) rfl, zs_gp1 rfl (Or.inl (zs_cat _)) rfl, trivial⟩
  refine zu_iconst d_4095_5 zi_0 ?_
  refine zu_istore_n d_4095_6 (zs_lt zq_4095 rfl) ?_
  refine zs_U.weak (L1 := [(3, .int (0 : Int32)), (0, .ref p0), (1, va_rf p1), (2, va_rf (zs_R S 7002 b1))]) ?_ ⟨rfl, zs_gp1 rfl (Or.inl rfl) rfl, zs_gp1 rfl (Or.inl (zs_cat _)) rfl, zs_gp1 rfl (Or.inl (zs_cat _)) rfl, trivial⟩
  refine zu_aload_n d_4095_7 rfl (zs_rr _) ?_
  obtain ⟨b4, e5, h⟩ := h
  refine zs_stk0 (zs_rfe e5) ?_
  obtain ⟨k6, h⟩ := h
  refine zg_4_369 rfl d_4095_8 k6 ?_
  refine zu_bipush d_4095_11 zj_11 ?_
  refine zu_cmpne (t := 46) d_4095_13 rfl (fun c7 => ?_) (fun c7 => ?_)
  · have h := h.1 c7
    exact (u_X5_make_46 hB h).weak ⟨rfl, rfl, rfl, trivial⟩
  · have h := h.2 c7
    refine zu_aload_n d_4095_16 rfl (zs_rr _) ?_
    refine zs_stk0 (zs_rfe e5) ?_
    refine zg_4_484 rfl d_4095_17 k6 ?_
    refine zu_astore d_4095_20 (zs_rr _) (zs_lt zq_4095 rfl) ?_
    exact h.weak ⟨rfl, rfl, rfl, rfl, rfl, trivial⟩
/-! SchemaPascal$Reader.load(LSchemaPascal$Node;)V -/
theorem zm_4096 {σ : Nat → Nat} {n0 : Nat} {bf : ab_B} : ab_code (zx σ n0 bf).1 4096 = prog_9_method_90_code := rfl
theorem zq_4096 {σ : Nat → Nat} {n0 : Nat} {bf : ab_B} : ab_maxL (zx σ n0 bf).1 4096 = 3 := rfl
theorem zr_4096 {σ : Nat → Nat} {n0 : Nat} {bf : ab_B} : ab_ret (zx σ n0 bf).1 4096 = (Option.none : Option Jvm.ClassFile.FieldType) := rfl
theorem d_4096_0 {σ : Nat → Nat} {n0 : Nat} {bf : ab_B} : decode (ab_code (zx σ n0 bf).1 4096) 0 = .ok (.aload_n 1, 1) := zd zm_4096 (by decide +kernel)
theorem d_4096_1 {σ : Nat → Nat} {n0 : Nat} {bf : ab_B} : decode (ab_code (zx σ n0 bf).1 4096) 1 = .ok (.getfield 512, 3) := zd zm_4096 (by decide +kernel)
theorem d_4096_4 {σ : Nat → Nat} {n0 : Nat} {bf : ab_B} : decode (ab_code (zx σ n0 bf).1 4096) 4 = .ok (.tableswitch 410 0 13 #[72, 102, 410, 410, 410, 410, 156, 274, 326, 334, 410, 130, 89, 164], 72) := zd zm_4096 (by decide +kernel)
theorem d_4096_76 {σ : Nat → Nat} {n0 : Nat} {bf : ab_B} : decode (ab_code (zx σ n0 bf).1 4096) 76 = .ok (.aload_n 0, 1) := zd zm_4096 (by decide +kernel)
theorem d_4096_77 {σ : Nat → Nat} {n0 : Nat} {bf : ab_B} : decode (ab_code (zx σ n0 bf).1 4096) 77 = .ok (.iconst 1, 1) := zd zm_4096 (by decide +kernel)
theorem d_4096_78 {σ : Nat → Nat} {n0 : Nat} {bf : ab_B} : decode (ab_code (zx σ n0 bf).1 4096) 78 = .ok (.aload_n 1, 1) := zd zm_4096 (by decide +kernel)
theorem d_4096_79 {σ : Nat → Nat} {n0 : Nat} {bf : ab_B} : decode (ab_code (zx σ n0 bf).1 4096) 79 = .ok (.getfield 469, 3) := zd zm_4096 (by decide +kernel)
theorem d_4096_82 {σ : Nat → Nat} {n0 : Nat} {bf : ab_B} : decode (ab_code (zx σ n0 bf).1 4096) 82 = .ok (.aload_n 1, 1) := zd zm_4096 (by decide +kernel)
theorem d_4096_83 {σ : Nat → Nat} {n0 : Nat} {bf : ab_B} : decode (ab_code (zx σ n0 bf).1 4096) 83 = .ok (.getfield 300, 3) := zd zm_4096 (by decide +kernel)
theorem d_4096_86 {σ : Nat → Nat} {n0 : Nat} {bf : ab_B} : decode (ab_code (zx σ n0 bf).1 4096) 86 = .ok (.l2i, 1) := zd zm_4096 (by decide +kernel)
theorem d_4096_87 {σ : Nat → Nat} {n0 : Nat} {bf : ab_B} : decode (ab_code (zx σ n0 bf).1 4096) 87 = .ok (.invokevirtual 712, 3) := zd zm_4096 (by decide +kernel)
theorem d_4096_90 {σ : Nat → Nat} {n0 : Nat} {bf : ab_B} : decode (ab_code (zx σ n0 bf).1 4096) 90 = .ok (.goto 363, 3) := zd zm_4096 (by decide +kernel)
theorem d_4096_93 {σ : Nat → Nat} {n0 : Nat} {bf : ab_B} : decode (ab_code (zx σ n0 bf).1 4096) 93 = .ok (.aload_n 0, 1) := zd zm_4096 (by decide +kernel)
theorem d_4096_94 {σ : Nat → Nat} {n0 : Nat} {bf : ab_B} : decode (ab_code (zx σ n0 bf).1 4096) 94 = .ok (.iconst 1, 1) := zd zm_4096 (by decide +kernel)
theorem d_4096_95 {σ : Nat → Nat} {n0 : Nat} {bf : ab_B} : decode (ab_code (zx σ n0 bf).1 4096) 95 = .ok (.aload_n 1, 1) := zd zm_4096 (by decide +kernel)
theorem d_4096_96 {σ : Nat → Nat} {n0 : Nat} {bf : ab_B} : decode (ab_code (zx σ n0 bf).1 4096) 96 = .ok (.getfield 469, 3) := zd zm_4096 (by decide +kernel)
theorem d_4096_99 {σ : Nat → Nat} {n0 : Nat} {bf : ab_B} : decode (ab_code (zx σ n0 bf).1 4096) 99 = .ok (.iconst 0, 1) := zd zm_4096 (by decide +kernel)
theorem d_4096_100 {σ : Nat → Nat} {n0 : Nat} {bf : ab_B} : decode (ab_code (zx σ n0 bf).1 4096) 100 = .ok (.invokevirtual 712, 3) := zd zm_4096 (by decide +kernel)
theorem d_4096_103 {σ : Nat → Nat} {n0 : Nat} {bf : ab_B} : decode (ab_code (zx σ n0 bf).1 4096) 103 = .ok (.goto 350, 3) := zd zm_4096 (by decide +kernel)
theorem d_4096_106 {σ : Nat → Nat} {n0 : Nat} {bf : ab_B} : decode (ab_code (zx σ n0 bf).1 4096) 106 = .ok (.aload_n 0, 1) := zd zm_4096 (by decide +kernel)
theorem d_4096_107 {σ : Nat → Nat} {n0 : Nat} {bf : ab_B} : decode (ab_code (zx σ n0 bf).1 4096) 107 = .ok (.iconst 2, 1) := zd zm_4096 (by decide +kernel)
theorem d_4096_108 {σ : Nat → Nat} {n0 : Nat} {bf : ab_B} : decode (ab_code (zx σ n0 bf).1 4096) 108 = .ok (.aload_n 1, 1) := zd zm_4096 (by decide +kernel)
theorem d_4096_109 {σ : Nat → Nat} {n0 : Nat} {bf : ab_B} : decode (ab_code (zx σ n0 bf).1 4096) 109 = .ok (.getfield 469, 3) := zd zm_4096 (by decide +kernel)
theorem d_4096_112 {σ : Nat → Nat} {n0 : Nat} {bf : ab_B} : decode (ab_code (zx σ n0 bf).1 4096) 112 = .ok (.aload_n 1, 1) := zd zm_4096 (by decide +kernel)
theorem d_4096_113 {σ : Nat → Nat} {n0 : Nat} {bf : ab_B} : decode (ab_code (zx σ n0 bf).1 4096) 113 = .ok (.getfield 301, 3) := zd zm_4096 (by decide +kernel)
theorem d_4096_116 {σ : Nat → Nat} {n0 : Nat} {bf : ab_B} : decode (ab_code (zx σ n0 bf).1 4096) 116 = .ok (.invokevirtual 712, 3) := zd zm_4096 (by decide +kernel)
theorem d_4096_119 {σ : Nat → Nat} {n0 : Nat} {bf : ab_B} : decode (ab_code (zx σ n0 bf).1 4096) 119 = .ok (.aload_n 0, 1) := zd zm_4096 (by decide +kernel)
theorem d_4096_120 {σ : Nat → Nat} {n0 : Nat} {bf : ab_B} : decode (ab_code (zx σ n0 bf).1 4096) 120 = .ok (.getfield 128, 3) := zd zm_4096 (by decide +kernel)
theorem d_4096_123 {σ : Nat → Nat} {n0 : Nat} {bf : ab_B} : decode (ab_code (zx σ n0 bf).1 4096) 123 = .ok (.aload_n 1, 1) := zd zm_4096 (by decide +kernel)
theorem d_4096_124 {σ : Nat → Nat} {n0 : Nat} {bf : ab_B} : decode (ab_code (zx σ n0 bf).1 4096) 124 = .ok (.getfield 303, 3) := zd zm_4096 (by decide +kernel)
theorem d_4096_127 {σ : Nat → Nat} {n0 : Nat} {bf : ab_B} : decode (ab_code (zx σ n0 bf).1 4096) 127 = .ok (.invokevirtual 709, 3) := zd zm_4096 (by decide +kernel)
theorem d_4096_130 {σ : Nat → Nat} {n0 : Nat} {bf : ab_B} : decode (ab_code (zx σ n0 bf).1 4096) 130 = .ok (.pop, 1) := zd zm_4096 (by decide +kernel)
theorem d_4096_131 {σ : Nat → Nat} {n0 : Nat} {bf : ab_B} : decode (ab_code (zx σ n0 bf).1 4096) 131 = .ok (.goto 322, 3) := zd zm_4096 (by decide +kernel)
theorem d_4096_134 {σ : Nat → Nat} {n0 : Nat} {bf : ab_B} : decode (ab_code (zx σ n0 bf).1 4096) 134 = .ok (.aload_n 0, 1) := zd zm_4096 (by decide +kernel)
theorem d_4096_135 {σ : Nat → Nat} {n0 : Nat} {bf : ab_B} : decode (ab_code (zx σ n0 bf).1 4096) 135 = .ok (.aload_n 1, 1) := zd zm_4096 (by decide +kernel)
theorem d_4096_136 {σ : Nat → Nat} {n0 : Nat} {bf : ab_B} : decode (ab_code (zx σ n0 bf).1 4096) 136 = .ok (.getfield 539, 3) := zd zm_4096 (by decide +kernel)
theorem d_4096_139 {σ : Nat → Nat} {n0 : Nat} {bf : ab_B} : decode (ab_code (zx σ n0 bf).1 4096) 139 = .ok (.invokevirtual 715, 3) := zd zm_4096 (by decide +kernel)
theorem d_4096_142 {σ : Nat → Nat} {n0 : Nat} {bf : ab_B} : decode (ab_code (zx σ n0 bf).1 4096) 142 = .ok (.aload_n 0, 1) := zd zm_4096 (by decide +kernel)
theorem d_4096_143 {σ : Nat → Nat} {n0 : Nat} {bf : ab_B} : decode (ab_code (zx σ n0 bf).1 4096) 143 = .ok (.bipush 10, 2) := zd zm_4096 (by decide +kernel)
theorem d_4096_145 {σ : Nat → Nat} {n0 : Nat} {bf : ab_B} : decode (ab_code (zx σ n0 bf).1 4096) 145 = .ok (.aload_n 1, 1) := zd zm_4096 (by decide +kernel)
theorem d_4096_146 {σ : Nat → Nat} {n0 : Nat} {bf : ab_B} : decode (ab_code (zx σ n0 bf).1 4096) 146 = .ok (.getfield 469, 3) := zd zm_4096 (by decide +kernel)
theorem d_4096_149 {σ : Nat → Nat} {n0 : Nat} {bf : ab_B} : decode (ab_code (zx σ n0 bf).1 4096) 149 = .ok (.aload_n 1, 1) := zd zm_4096 (by decide +kernel)
theorem d_4096_150 {σ : Nat → Nat} {n0 : Nat} {bf : ab_B} : decode (ab_code (zx σ n0 bf).1 4096) 150 = .ok (.getfield 300, 3) := zd zm_4096 (by decide +kernel)
theorem d_4096_153 {σ : Nat → Nat} {n0 : Nat} {bf : ab_B} : decode (ab_code (zx σ n0 bf).1 4096) 153 = .ok (.l2i, 1) := zd zm_4096 (by decide +kernel)
theorem d_4096_154 {σ : Nat → Nat} {n0 : Nat} {bf : ab_B} : decode (ab_code (zx σ n0 bf).1 4096) 154 = .ok (.invokevirtual 712, 3) := zd zm_4096 (by decide +kernel)
theorem d_4096_157 {σ : Nat → Nat} {n0 : Nat} {bf : ab_B} : decode (ab_code (zx σ n0 bf).1 4096) 157 = .ok (.goto 296, 3) := zd zm_4096 (by decide +kernel)
theorem d_4096_160 {σ : Nat → Nat} {n0 : Nat} {bf : ab_B} : decode (ab_code (zx σ n0 bf).1 4096) 160 = .ok (.aload_n 0, 1) := zd zm_4096 (by decide +kernel)
theorem d_4096_161 {σ : Nat → Nat} {n0 : Nat} {bf : ab_B} : decode (ab_code (zx σ n0 bf).1 4096) 161 = .ok (.aload_n 1, 1) := zd zm_4096 (by decide +kernel)
theorem d_4096_162 {σ : Nat → Nat} {n0 : Nat} {bf : ab_B} : decode (ab_code (zx σ n0 bf).1 4096) 162 = .ok (.invokevirtual 719, 3) := zd zm_4096 (by decide +kernel)
theorem d_4096_165 {σ : Nat → Nat} {n0 : Nat} {bf : ab_B} : decode (ab_code (zx σ n0 bf).1 4096) 165 = .ok (.goto 288, 3) := zd zm_4096 (by decide +kernel)
theorem d_4096_168 {σ : Nat → Nat} {n0 : Nat} {bf : ab_B} : decode (ab_code (zx σ n0 bf).1 4096) 168 = .ok (.aload_n 1, 1) := zd zm_4096 (by decide +kernel)
theorem d_4096_169 {σ : Nat → Nat} {n0 : Nat} {bf : ab_B} : decode (ab_code (zx σ n0 bf).1 4096) 169 = .ok (.getfield 539, 3) := zd zm_4096 (by decide +kernel)
theorem d_4096_172 {σ : Nat → Nat} {n0 : Nat} {bf : ab_B} : decode (ab_code (zx σ n0 bf).1 4096) 172 = .ok (.astore_n 2, 1) := zd zm_4096 (by decide +kernel)
theorem d_4096_173 {σ : Nat → Nat} {n0 : Nat} {bf : ab_B} : decode (ab_code (zx σ n0 bf).1 4096) 173 = .ok (.aload_n 2, 1) := zd zm_4096 (by decide +kernel)
theorem d_4096_174 {σ : Nat → Nat} {n0 : Nat} {bf : ab_B} : decode (ab_code (zx σ n0 bf).1 4096) 174 = .ok (.ifnull 58, 3) := zd zm_4096 (by decide +kernel)
theorem d_4096_177 {σ : Nat → Nat} {n0 : Nat} {bf : ab_B} : decode (ab_code (zx σ n0 bf).1 4096) 177 = .ok (.aload_n 0, 1) := zd zm_4096 (by decide +kernel)
theorem d_4096_178 {σ : Nat → Nat} {n0 : Nat} {bf : ab_B} : decode (ab_code (zx σ n0 bf).1 4096) 178 = .ok (.aload_n 2, 1) := zd zm_4096 (by decide +kernel)
theorem d_4096_179 {σ : Nat → Nat} {n0 : Nat} {bf : ab_B} : decode (ab_code (zx σ n0 bf).1 4096) 179 = .ok (.invokevirtual 721, 3) := zd zm_4096 (by decide +kernel)
theorem d_4096_182 {σ : Nat → Nat} {n0 : Nat} {bf : ab_B} : decode (ab_code (zx σ n0 bf).1 4096) 182 = .ok (.aload_n 2, 1) := zd zm_4096 (by decide +kernel)
theorem d_4096_183 {σ : Nat → Nat} {n0 : Nat} {bf : ab_B} : decode (ab_code (zx σ n0 bf).1 4096) 183 = .ok (.getfield 297, 3) := zd zm_4096 (by decide +kernel)
theorem d_4096_186 {σ : Nat → Nat} {n0 : Nat} {bf : ab_B} : decode (ab_code (zx σ n0 bf).1 4096) 186 = .ok (.invokestatic 587, 3) := zd zm_4096 (by decide +kernel)
theorem d_4096_189 {σ : Nat → Nat} {n0 : Nat} {bf : ab_B} : decode (ab_code (zx σ n0 bf).1 4096) 189 = .ok (.ifCond .eq 35, 3) := zd zm_4096 (by decide +kernel)
theorem d_4096_192 {σ : Nat → Nat} {n0 : Nat} {bf : ab_B} : decode (ab_code (zx σ n0 bf).1 4096) 192 = .ok (.aload_n 1, 1) := zd zm_4096 (by decide +kernel)
theorem d_4096_193 {σ : Nat → Nat} {n0 : Nat} {bf : ab_B} : decode (ab_code (zx σ n0 bf).1 4096) 193 = .ok (.getfield 542, 3) := zd zm_4096 (by decide +kernel)
theorem d_4096_196 {σ : Nat → Nat} {n0 : Nat} {bf : ab_B} : decode (ab_code (zx σ n0 bf).1 4096) 196 = .ok (.bipush 13, 2) := zd zm_4096 (by decide +kernel)
theorem d_4096_198 {σ : Nat → Nat} {n0 : Nat} {bf : ab_B} : decode (ab_code (zx σ n0 bf).1 4096) 198 = .ok (.if_icmp .eq 21, 3) := zd zm_4096 (by decide +kernel)
theorem d_4096_201 {σ : Nat → Nat} {n0 : Nat} {bf : ab_B} : decode (ab_code (zx σ n0 bf).1 4096) 201 = .ok (.aload_n 1, 1) := zd zm_4096 (by decide +kernel)
theorem d_4096_202 {σ : Nat → Nat} {n0 : Nat} {bf : ab_B} : decode (ab_code (zx σ n0 bf).1 4096) 202 = .ok (.getfield 542, 3) := zd zm_4096 (by decide +kernel)
theorem d_4096_205 {σ : Nat → Nat} {n0 : Nat} {bf : ab_B} : decode (ab_code (zx σ n0 bf).1 4096) 205 = .ok (.bipush 15, 2) := zd zm_4096 (by decide +kernel)
theorem d_4096_207 {σ : Nat → Nat} {n0 : Nat} {bf : ab_B} : decode (ab_code (zx σ n0 bf).1 4096) 207 = .ok (.if_icmp .eq 12, 3) := zd zm_4096 (by decide +kernel)
theorem d_4096_210 {σ : Nat → Nat} {n0 : Nat} {bf : ab_B} : decode (ab_code (zx σ n0 bf).1 4096) 210 = .ok (.aload_n 1, 1) := zd zm_4096 (by decide +kernel)
theorem d_4096_211 {σ : Nat → Nat} {n0 : Nat} {bf : ab_B} : decode (ab_code (zx σ n0 bf).1 4096) 211 = .ok (.getfield 542, 3) := zd zm_4096 (by decide +kernel)
theorem d_4096_214 {σ : Nat → Nat} {n0 : Nat} {bf : ab_B} : decode (ab_code (zx σ n0 bf).1 4096) 214 = .ok (.bipush 16, 2) := zd zm_4096 (by decide +kernel)
theorem d_4096_216 {σ : Nat → Nat} {n0 : Nat} {bf : ab_B} : decode (ab_code (zx σ n0 bf).1 4096) 216 = .ok (.if_icmp .ne 8, 3) := zd zm_4096 (by decide +kernel)
theorem d_4096_219 {σ : Nat → Nat} {n0 : Nat} {bf : ab_B} : decode (ab_code (zx σ n0 bf).1 4096) 219 = .ok (.aload_n 0, 1) := zd zm_4096 (by decide +kernel)
theorem d_4096_220 {σ : Nat → Nat} {n0 : Nat} {bf : ab_B} : decode (ab_code (zx σ n0 bf).1 4096) 220 = .ok (.aload_n 2, 1) := zd zm_4096 (by decide +kernel)
theorem d_4096_221 {σ : Nat → Nat} {n0 : Nat} {bf : ab_B} : decode (ab_code (zx σ n0 bf).1 4096) 221 = .ok (.invokevirtual 724, 3) := zd zm_4096 (by decide +kernel)
theorem d_4096_224 {σ : Nat → Nat} {n0 : Nat} {bf : ab_B} : decode (ab_code (zx σ n0 bf).1 4096) 224 = .ok (.aload_n 2, 1) := zd zm_4096 (by decide +kernel)
theorem d_4096_225 {σ : Nat → Nat} {n0 : Nat} {bf : ab_B} : decode (ab_code (zx σ n0 bf).1 4096) 225 = .ok (.getfield 487, 3) := zd zm_4096 (by decide +kernel)
theorem d_4096_228 {σ : Nat → Nat} {n0 : Nat} {bf : ab_B} : decode (ab_code (zx σ n0 bf).1 4096) 228 = .ok (.astore_n 2, 1) := zd zm_4096 (by decide +kernel)
theorem d_4096_229 {σ : Nat → Nat} {n0 : Nat} {bf : ab_B} : decode (ab_code (zx σ n0 bf).1 4096) 229 = .ok (.goto (-56), 3) := zd zm_4096 (by decide +kernel)
theorem d_4096_232 {σ : Nat → Nat} {n0 : Nat} {bf : ab_B} : decode (ab_code (zx σ n0 bf).1 4096) 232 = .ok (.aload_n 0, 1) := zd zm_4096 (by decide +kernel)
theorem d_4096_233 {σ : Nat → Nat} {n0 : Nat} {bf : ab_B} : decode (ab_code (zx σ n0 bf).1 4096) 233 = .ok (.bipush 36, 2) := zd zm_4096 (by decide +kernel)
theorem d_4096_235 {σ : Nat → Nat} {n0 : Nat} {bf : ab_B} : decode (ab_code (zx σ n0 bf).1 4096) 235 = .ok (.aload_n 1, 1) := zd zm_4096 (by decide +kernel)
theorem d_4096_236 {σ : Nat → Nat} {n0 : Nat} {bf : ab_B} : decode (ab_code (zx σ n0 bf).1 4096) 236 = .ok (.getfield 469, 3) := zd zm_4096 (by decide +kernel)
theorem d_4096_239 {σ : Nat → Nat} {n0 : Nat} {bf : ab_B} : decode (ab_code (zx σ n0 bf).1 4096) 239 = .ok (.aload_n 1, 1) := zd zm_4096 (by decide +kernel)
theorem d_4096_240 {σ : Nat → Nat} {n0 : Nat} {bf : ab_B} : decode (ab_code (zx σ n0 bf).1 4096) 240 = .ok (.getfield 542, 3) := zd zm_4096 (by decide +kernel)
theorem d_4096_243 {σ : Nat → Nat} {n0 : Nat} {bf : ab_B} : decode (ab_code (zx σ n0 bf).1 4096) 243 = .ok (.invokevirtual 712, 3) := zd zm_4096 (by decide +kernel)
theorem d_4096_246 {σ : Nat → Nat} {n0 : Nat} {bf : ab_B} : decode (ab_code (zx σ n0 bf).1 4096) 246 = .ok (.aload_n 0, 1) := zd zm_4096 (by decide +kernel)
theorem d_4096_247 {σ : Nat → Nat} {n0 : Nat} {bf : ab_B} : decode (ab_code (zx σ n0 bf).1 4096) 247 = .ok (.getfield 128, 3) := zd zm_4096 (by decide +kernel)
theorem d_4096_250 {σ : Nat → Nat} {n0 : Nat} {bf : ab_B} : decode (ab_code (zx σ n0 bf).1 4096) 250 = .ok (.aload_n 1, 1) := zd zm_4096 (by decide +kernel)
theorem d_4096_251 {σ : Nat → Nat} {n0 : Nat} {bf : ab_B} : decode (ab_code (zx σ n0 bf).1 4096) 251 = .ok (.getfield 539, 3) := zd zm_4096 (by decide +kernel)
theorem d_4096_254 {σ : Nat → Nat} {n0 : Nat} {bf : ab_B} : decode (ab_code (zx σ n0 bf).1 4096) 254 = .ok (.ifnonnull 7, 3) := zd zm_4096 (by decide +kernel)
theorem d_4096_257 {σ : Nat → Nat} {n0 : Nat} {bf : ab_B} : decode (ab_code (zx σ n0 bf).1 4096) 257 = .ok (.iconst (-1), 1) := zd zm_4096 (by decide +kernel)
theorem d_4096_258 {σ : Nat → Nat} {n0 : Nat} {bf : ab_B} : decode (ab_code (zx σ n0 bf).1 4096) 258 = .ok (.goto 13, 3) := zd zm_4096 (by decide +kernel)
theorem d_4096_261 {σ : Nat → Nat} {n0 : Nat} {bf : ab_B} : decode (ab_code (zx σ n0 bf).1 4096) 261 = .ok (.aload_n 1, 1) := zd zm_4096 (by decide +kernel)
theorem d_4096_262 {σ : Nat → Nat} {n0 : Nat} {bf : ab_B} : decode (ab_code (zx σ n0 bf).1 4096) 262 = .ok (.getfield 539, 3) := zd zm_4096 (by decide +kernel)
theorem d_4096_265 {σ : Nat → Nat} {n0 : Nat} {bf : ab_B} : decode (ab_code (zx σ n0 bf).1 4096) 265 = .ok (.getfield 297, 3) := zd zm_4096 (by decide +kernel)
theorem d_4096_268 {σ : Nat → Nat} {n0 : Nat} {bf : ab_B} : decode (ab_code (zx σ n0 bf).1 4096) 268 = .ok (.getfield 137, 3) := zd zm_4096 (by decide +kernel)
theorem d_4096_271 {σ : Nat → Nat} {n0 : Nat} {bf : ab_B} : decode (ab_code (zx σ n0 bf).1 4096) 271 = .ok (.invokevirtual 709, 3) := zd zm_4096 (by decide +kernel)
theorem d_4096_274 {σ : Nat → Nat} {n0 : Nat} {bf : ab_B} : decode (ab_code (zx σ n0 bf).1 4096) 274 = .ok (.pop, 1) := zd zm_4096 (by decide +kernel)
theorem d_4096_275 {σ : Nat → Nat} {n0 : Nat} {bf : ab_B} : decode (ab_code (zx σ n0 bf).1 4096) 275 = .ok (.goto 178, 3) := zd zm_4096 (by decide +kernel)
theorem d_4096_278 {σ : Nat → Nat} {n0 : Nat} {bf : ab_B} : decode (ab_code (zx σ n0 bf).1 4096) 278 = .ok (.aload_n 0, 1) := zd zm_4096 (by decide +kernel)
theorem d_4096_279 {σ : Nat → Nat} {n0 : Nat} {bf : ab_B} : decode (ab_code (zx σ n0 bf).1 4096) 279 = .ok (.aload_n 1, 1) := zd zm_4096 (by decide +kernel)
theorem d_4096_280 {σ : Nat → Nat} {n0 : Nat} {bf : ab_B} : decode (ab_code (zx σ n0 bf).1 4096) 280 = .ok (.getfield 539, 3) := zd zm_4096 (by decide +kernel)
theorem d_4096_283 {σ : Nat → Nat} {n0 : Nat} {bf : ab_B} : decode (ab_code (zx σ n0 bf).1 4096) 283 = .ok (.invokevirtual 721, 3) := zd zm_4096 (by decide +kernel)
theorem d_4096_286 {σ : Nat → Nat} {n0 : Nat} {bf : ab_B} : decode (ab_code (zx σ n0 bf).1 4096) 286 = .ok (.aload_n 1, 1) := zd zm_4096 (by decide +kernel)
theorem d_4096_287 {σ : Nat → Nat} {n0 : Nat} {bf : ab_B} : decode (ab_code (zx σ n0 bf).1 4096) 287 = .ok (.getfield 542, 3) := zd zm_4096 (by decide +kernel)
theorem d_4096_290 {σ : Nat → Nat} {n0 : Nat} {bf : ab_B} : decode (ab_code (zx σ n0 bf).1 4096) 290 = .ok (.bipush 45, 2) := zd zm_4096 (by decide +kernel)
theorem d_4096_292 {σ : Nat → Nat} {n0 : Nat} {bf : ab_B} : decode (ab_code (zx σ n0 bf).1 4096) 292 = .ok (.if_icmp .ne 14, 3) := zd zm_4096 (by decide +kernel)
theorem d_4096_295 {σ : Nat → Nat} {n0 : Nat} {bf : ab_B} : decode (ab_code (zx σ n0 bf).1 4096) 295 = .ok (.aload_n 0, 1) := zd zm_4096 (by decide +kernel)
theorem d_4096_296 {σ : Nat → Nat} {n0 : Nat} {bf : ab_B} : decode (ab_code (zx σ n0 bf).1 4096) 296 = .ok (.bipush 21, 2) := zd zm_4096 (by decide +kernel)
theorem d_4096_298 {σ : Nat → Nat} {n0 : Nat} {bf : ab_B} : decode (ab_code (zx σ n0 bf).1 4096) 298 = .ok (.aload_n 1, 1) := zd zm_4096 (by decide +kernel)
theorem d_4096_299 {σ : Nat → Nat} {n0 : Nat} {bf : ab_B} : decode (ab_code (zx σ n0 bf).1 4096) 299 = .ok (.getfield 469, 3) := zd zm_4096 (by decide +kernel)
theorem d_4096_302 {σ : Nat → Nat} {n0 : Nat} {bf : ab_B} : decode (ab_code (zx σ n0 bf).1 4096) 302 = .ok (.invokevirtual 273, 3) := zd zm_4096 (by decide +kernel)
theorem d_4096_305 {σ : Nat → Nat} {n0 : Nat} {bf : ab_B} : decode (ab_code (zx σ n0 bf).1 4096) 305 = .ok (.pop, 1) := zd zm_4096 (by decide +kernel)
theorem d_4096_306 {σ : Nat → Nat} {n0 : Nat} {bf : ab_B} : decode (ab_code (zx σ n0 bf).1 4096) 306 = .ok (.aload_n 1, 1) := zd zm_4096 (by decide +kernel)
theorem d_4096_307 {σ : Nat → Nat} {n0 : Nat} {bf : ab_B} : decode (ab_code (zx σ n0 bf).1 4096) 307 = .ok (.getfield 542, 3) := zd zm_4096 (by decide +kernel)
theorem d_4096_310 {σ : Nat → Nat} {n0 : Nat} {bf : ab_B} : decode (ab_code (zx σ n0 bf).1 4096) 310 = .ok (.sipush 1032, 3) := zd zm_4096 (by decide +kernel)
theorem d_4096_313 {σ : Nat → Nat} {n0 : Nat} {bf : ab_B} : decode (ab_code (zx σ n0 bf).1 4096) 313 = .ok (.if_icmp .ne 140, 3) := zd zm_4096 (by decide +kernel)
theorem d_4096_316 {σ : Nat → Nat} {n0 : Nat} {bf : ab_B} : decode (ab_code (zx σ n0 bf).1 4096) 316 = .ok (.aload_n 0, 1) := zd zm_4096 (by decide +kernel)
theorem d_4096_317 {σ : Nat → Nat} {n0 : Nat} {bf : ab_B} : decode (ab_code (zx σ n0 bf).1 4096) 317 = .ok (.bipush 24, 2) := zd zm_4096 (by decide +kernel)
theorem d_4096_319 {σ : Nat → Nat} {n0 : Nat} {bf : ab_B} : decode (ab_code (zx σ n0 bf).1 4096) 319 = .ok (.aload_n 1, 1) := zd zm_4096 (by decide +kernel)
theorem d_4096_320 {σ : Nat → Nat} {n0 : Nat} {bf : ab_B} : decode (ab_code (zx σ n0 bf).1 4096) 320 = .ok (.getfield 469, 3) := zd zm_4096 (by decide +kernel)
theorem d_4096_323 {σ : Nat → Nat} {n0 : Nat} {bf : ab_B} : decode (ab_code (zx σ n0 bf).1 4096) 323 = .ok (.invokevirtual 273, 3) := zd zm_4096 (by decide +kernel)
theorem d_4096_326 {σ : Nat → Nat} {n0 : Nat} {bf : ab_B} : decode (ab_code (zx σ n0 bf).1 4096) 326 = .ok (.pop, 1) := zd zm_4096 (by decide +kernel)
theorem d_4096_327 {σ : Nat → Nat} {n0 : Nat} {bf : ab_B} : decode (ab_code (zx σ n0 bf).1 4096) 327 = .ok (.goto 126, 3) := zd zm_4096 (by decide +kernel)
theorem d_4096_330 {σ : Nat → Nat} {n0 : Nat} {bf : ab_B} : decode (ab_code (zx σ n0 bf).1 4096) 330 = .ok (.aload_n 0, 1) := zd zm_4096 (by decide +kernel)
theorem d_4096_331 {σ : Nat → Nat} {n0 : Nat} {bf : ab_B} : decode (ab_code (zx σ n0 bf).1 4096) 331 = .ok (.aload_n 1, 1) := zd zm_4096 (by decide +kernel)
theorem d_4096_332 {σ : Nat → Nat} {n0 : Nat} {bf : ab_B} : decode (ab_code (zx σ n0 bf).1 4096) 332 = .ok (.invokevirtual 727, 3) := zd zm_4096 (by decide +kernel)
theorem d_4096_335 {σ : Nat → Nat} {n0 : Nat} {bf : ab_B} : decode (ab_code (zx σ n0 bf).1 4096) 335 = .ok (.goto 118, 3) := zd zm_4096 (by decide +kernel)
theorem d_4096_338 {σ : Nat → Nat} {n0 : Nat} {bf : ab_B} : decode (ab_code (zx σ n0 bf).1 4096) 338 = .ok (.aload_n 0, 1) := zd zm_4096 (by decide +kernel)
theorem d_4096_339 {σ : Nat → Nat} {n0 : Nat} {bf : ab_B} : decode (ab_code (zx σ n0 bf).1 4096) 339 = .ok (.iconst 1, 1) := zd zm_4096 (by decide +kernel)
theorem d_4096_340 {σ : Nat → Nat} {n0 : Nat} {bf : ab_B} : decode (ab_code (zx σ n0 bf).1 4096) 340 = .ok (.aload_n 1, 1) := zd zm_4096 (by decide +kernel)
theorem d_4096_341 {σ : Nat → Nat} {n0 : Nat} {bf : ab_B} : decode (ab_code (zx σ n0 bf).1 4096) 341 = .ok (.getfield 469, 3) := zd zm_4096 (by decide +kernel)
theorem d_4096_344 {σ : Nat → Nat} {n0 : Nat} {bf : ab_B} : decode (ab_code (zx σ n0 bf).1 4096) 344 = .ok (.iconst 0, 1) := zd zm_4096 (by decide +kernel)
theorem d_4096_345 {σ : Nat → Nat} {n0 : Nat} {bf : ab_B} : decode (ab_code (zx σ n0 bf).1 4096) 345 = .ok (.invokevirtual 712, 3) := zd zm_4096 (by decide +kernel)
theorem d_4096_348 {σ : Nat → Nat} {n0 : Nat} {bf : ab_B} : decode (ab_code (zx σ n0 bf).1 4096) 348 = .ok (.aload_n 1, 1) := zd zm_4096 (by decide +kernel)
theorem d_4096_349 {σ : Nat → Nat} {n0 : Nat} {bf : ab_B} : decode (ab_code (zx σ n0 bf).1 4096) 349 = .ok (.getfield 539, 3) := zd zm_4096 (by decide +kernel)
theorem d_4096_352 {σ : Nat → Nat} {n0 : Nat} {bf : ab_B} : decode (ab_code (zx σ n0 bf).1 4096) 352 = .ok (.astore_n 2, 1) := zd zm_4096 (by decide +kernel)
theorem d_4096_353 {σ : Nat → Nat} {n0 : Nat} {bf : ab_B} : decode (ab_code (zx σ n0 bf).1 4096) 353 = .ok (.aload_n 2, 1) := zd zm_4096 (by decide +kernel)
theorem d_4096_354 {σ : Nat → Nat} {n0 : Nat} {bf : ab_B} : decode (ab_code (zx σ n0 bf).1 4096) 354 = .ok (.ifnull 57, 3) := zd zm_4096 (by decide +kernel)
theorem d_4096_357 {σ : Nat → Nat} {n0 : Nat} {bf : ab_B} : decode (ab_code (zx σ n0 bf).1 4096) 357 = .ok (.aload_n 0, 1) := zd zm_4096 (by decide +kernel)
theorem d_4096_358 {σ : Nat → Nat} {n0 : Nat} {bf : ab_B} : decode (ab_code (zx σ n0 bf).1 4096) 358 = .ok (.aload_n 2, 1) := zd zm_4096 (by decide +kernel)
theorem d_4096_359 {σ : Nat → Nat} {n0 : Nat} {bf : ab_B} : decode (ab_code (zx σ n0 bf).1 4096) 359 = .ok (.getfield 539, 3) := zd zm_4096 (by decide +kernel)
theorem d_4096_362 {σ : Nat → Nat} {n0 : Nat} {bf : ab_B} : decode (ab_code (zx σ n0 bf).1 4096) 362 = .ok (.invokevirtual 721, 3) := zd zm_4096 (by decide +kernel)
theorem d_4096_365 {σ : Nat → Nat} {n0 : Nat} {bf : ab_B} : decode (ab_code (zx σ n0 bf).1 4096) 365 = .ok (.aload_n 2, 1) := zd zm_4096 (by decide +kernel)
theorem d_4096_366 {σ : Nat → Nat} {n0 : Nat} {bf : ab_B} : decode (ab_code (zx σ n0 bf).1 4096) 366 = .ok (.getfield 536, 3) := zd zm_4096 (by decide +kernel)
theorem d_4096_369 {σ : Nat → Nat} {n0 : Nat} {bf : ab_B} : decode (ab_code (zx σ n0 bf).1 4096) 369 = .ok (.ifnull 11, 3) := zd zm_4096 (by decide +kernel)
theorem d_4096_372 {σ : Nat → Nat} {n0 : Nat} {bf : ab_B} : decode (ab_code (zx σ n0 bf).1 4096) 372 = .ok (.aload_n 0, 1) := zd zm_4096 (by decide +kernel)
theorem d_4096_373 {σ : Nat → Nat} {n0 : Nat} {bf : ab_B} : decode (ab_code (zx σ n0 bf).1 4096) 373 = .ok (.aload_n 2, 1) := zd zm_4096 (by decide +kernel)
theorem d_4096_374 {σ : Nat → Nat} {n0 : Nat} {bf : ab_B} : decode (ab_code (zx σ n0 bf).1 4096) 374 = .ok (.getfield 536, 3) := zd zm_4096 (by decide +kernel)
theorem d_4096_377 {σ : Nat → Nat} {n0 : Nat} {bf : ab_B} : decode (ab_code (zx σ n0 bf).1 4096) 377 = .ok (.invokevirtual 721, 3) := zd zm_4096 (by decide +kernel)
theorem d_4096_380 {σ : Nat → Nat} {n0 : Nat} {bf : ab_B} : decode (ab_code (zx σ n0 bf).1 4096) 380 = .ok (.aload_n 0, 1) := zd zm_4096 (by decide +kernel)
theorem d_4096_381 {σ : Nat → Nat} {n0 : Nat} {bf : ab_B} : decode (ab_code (zx σ n0 bf).1 4096) 381 = .ok (.aload_n 2, 1) := zd zm_4096 (by decide +kernel)
theorem d_4096_382 {σ : Nat → Nat} {n0 : Nat} {bf : ab_B} : decode (ab_code (zx σ n0 bf).1 4096) 382 = .ok (.getfield 536, 3) := zd zm_4096 (by decide +kernel)
theorem d_4096_385 {σ : Nat → Nat} {n0 : Nat} {bf : ab_B} : decode (ab_code (zx σ n0 bf).1 4096) 385 = .ok (.ifnonnull 8, 3) := zd zm_4096 (by decide +kernel)
theorem d_4096_388 {σ : Nat → Nat} {n0 : Nat} {bf : ab_B} : decode (ab_code (zx σ n0 bf).1 4096) 388 = .ok (.bipush 31, 2) := zd zm_4096 (by decide +kernel)
theorem d_4096_390 {σ : Nat → Nat} {n0 : Nat} {bf : ab_B} : decode (ab_code (zx σ n0 bf).1 4096) 390 = .ok (.goto 5, 3) := zd zm_4096 (by decide +kernel)
theorem d_4096_393 {σ : Nat → Nat} {n0 : Nat} {bf : ab_B} : decode (ab_code (zx σ n0 bf).1 4096) 393 = .ok (.bipush 32, 2) := zd zm_4096 (by decide +kernel)
theorem d_4096_395 {σ : Nat → Nat} {n0 : Nat} {bf : ab_B} : decode (ab_code (zx σ n0 bf).1 4096) 395 = .ok (.aload_n 2, 1) := zd zm_4096 (by decide +kernel)
theorem d_4096_396 {σ : Nat → Nat} {n0 : Nat} {bf : ab_B} : decode (ab_code (zx σ n0 bf).1 4096) 396 = .ok (.getfield 469, 3) := zd zm_4096 (by decide +kernel)
theorem d_4096_399 {σ : Nat → Nat} {n0 : Nat} {bf : ab_B} : decode (ab_code (zx σ n0 bf).1 4096) 399 = .ok (.invokevirtual 273, 3) := zd zm_4096 (by decide +kernel)
theorem d_4096_402 {σ : Nat → Nat} {n0 : Nat} {bf : ab_B} : decode (ab_code (zx σ n0 bf).1 4096) 402 = .ok (.pop, 1) := zd zm_4096 (by decide +kernel)
theorem d_4096_403 {σ : Nat → Nat} {n0 : Nat} {bf : ab_B} : decode (ab_code (zx σ n0 bf).1 4096) 403 = .ok (.aload_n 2, 1) := zd zm_4096 (by decide +kernel)
theorem d_4096_404 {σ : Nat → Nat} {n0 : Nat} {bf : ab_B} : decode (ab_code (zx σ n0 bf).1 4096) 404 = .ok (.getfield 487, 3) := zd zm_4096 (by decide +kernel)
theorem d_4096_407 {σ : Nat → Nat} {n0 : Nat} {bf : ab_B} : decode (ab_code (zx σ n0 bf).1 4096) 407 = .ok (.astore_n 2, 1) := zd zm_4096 (by decide +kernel)
theorem d_4096_408 {σ : Nat → Nat} {n0 : Nat} {bf : ab_B} : decode (ab_code (zx σ n0 bf).1 4096) 408 = .ok (.goto (-55), 3) := zd zm_4096 (by decide +kernel)
theorem d_4096_411 {σ : Nat → Nat} {n0 : Nat} {bf : ab_B} : decode (ab_code (zx σ n0 bf).1 4096) 411 = .ok (.goto 42, 3) := zd zm_4096 (by decide +kernel)
theorem d_4096_414 {σ : Nat → Nat} {n0 : Nat} {bf : ab_B} : decode (ab_code (zx σ n0 bf).1 4096) 414 = .ok (.aload_n 0, 1) := zd zm_4096 (by decide +kernel)
theorem d_4096_415 {σ : Nat → Nat} {n0 : Nat} {bf : ab_B} : decode (ab_code (zx σ n0 bf).1 4096) 415 = .ok (.aload_n 1, 1) := zd zm_4096 (by decide +kernel)
theorem d_4096_416 {σ : Nat → Nat} {n0 : Nat} {bf : ab_B} : decode (ab_code (zx σ n0 bf).1 4096) 416 = .ok (.invokevirtual 715, 3) := zd zm_4096 (by decide +kernel)
theorem d_4096_419 {σ : Nat → Nat} {n0 : Nat} {bf : ab_B} : decode (ab_code (zx σ n0 bf).1 4096) 419 = .ok (.aload_n 0, 1) := zd zm_4096 (by decide +kernel)
theorem d_4096_420 {σ : Nat → Nat} {n0 : Nat} {bf : ab_B} : decode (ab_code (zx σ n0 bf).1 4096) 420 = .ok (.aload_n 1, 1) := zd zm_4096 (by decide +kernel)
theorem d_4096_421 {σ : Nat → Nat} {n0 : Nat} {bf : ab_B} : decode (ab_code (zx σ n0 bf).1 4096) 421 = .ok (.getfield 297, 3) := zd zm_4096 (by decide +kernel)
theorem d_4096_424 {σ : Nat → Nat} {n0 : Nat} {bf : ab_B} : decode (ab_code (zx σ n0 bf).1 4096) 424 = .ok (.getfield 369, 3) := zd zm_4096 (by decide +kernel)
theorem d_4096_427 {σ : Nat → Nat} {n0 : Nat} {bf : ab_B} : decode (ab_code (zx σ n0 bf).1 4096) 427 = .ok (.bipush 6, 2) := zd zm_4096 (by decide +kernel)
theorem d_4096_429 {σ : Nat → Nat} {n0 : Nat} {bf : ab_B} : decode (ab_code (zx σ n0 bf).1 4096) 429 = .ok (.if_icmp .ne 8, 3) := zd zm_4096 (by decide +kernel)
theorem d_4096_432 {σ : Nat → Nat} {n0 : Nat} {bf : ab_B} : decode (ab_code (zx σ n0 bf).1 4096) 432 = .ok (.bipush 9, 2) := zd zm_4096 (by decide +kernel)
theorem d_4096_434 {σ : Nat → Nat} {n0 : Nat} {bf : ab_B} : decode (ab_code (zx σ n0 bf).1 4096) 434 = .ok (.goto 5, 3) := zd zm_4096 (by decide +kernel)
theorem d_4096_437 {σ : Nat → Nat} {n0 : Nat} {bf : ab_B} : decode (ab_code (zx σ n0 bf).1 4096) 437 = .ok (.bipush 8, 2) := zd zm_4096 (by decide +kernel)
theorem d_4096_439 {σ : Nat → Nat} {n0 : Nat} {bf : ab_B} : decode (ab_code (zx σ n0 bf).1 4096) 439 = .ok (.aload_n 1, 1) := zd zm_4096 (by decide +kernel)
theorem d_4096_440 {σ : Nat → Nat} {n0 : Nat} {bf : ab_B} : decode (ab_code (zx σ n0 bf).1 4096) 440 = .ok (.getfield 469, 3) := zd zm_4096 (by decide +kernel)
theorem d_4096_443 {σ : Nat → Nat} {n0 : Nat} {bf : ab_B} : decode (ab_code (zx σ n0 bf).1 4096) 443 = .ok (.aload_n 1, 1) := zd zm_4096 (by decide +kernel)
theorem d_4096_444 {σ : Nat → Nat} {n0 : Nat} {bf : ab_B} : decode (ab_code (zx σ n0 bf).1 4096) 444 = .ok (.getfield 297, 3) := zd zm_4096 (by decide +kernel)
theorem d_4096_447 {σ : Nat → Nat} {n0 : Nat} {bf : ab_B} : decode (ab_code (zx σ n0 bf).1 4096) 447 = .ok (.getfield 137, 3) := zd zm_4096 (by decide +kernel)
theorem d_4096_450 {σ : Nat → Nat} {n0 : Nat} {bf : ab_B} : decode (ab_code (zx σ n0 bf).1 4096) 450 = .ok (.invokevirtual 712, 3) := zd zm_4096 (by decide +kernel)
theorem d_4096_453 {σ : Nat → Nat} {n0 : Nat} {bf : ab_B} : decode (ab_code (zx σ n0 bf).1 4096) 453 = .ok (.return_, 1) := zd zm_4096 (by decide +kernel)
def w_X5_load_453 (X : zs_X) (d : Nat)  (S : zs_T) (Q : zs_Q) : Prop :=
  (Q (.returned none) S)
theorem u_X5_load_453 {σ : Nat → Nat} {n0 : Nat} {bf : ab_B} {d : Nat}  {S : zs_T} {Q : zs_Q} (hB : zt_B bf) (h : w_X5_load_453 (zx σ n0 bf) d  S Q) : zs_U (zx σ n0 bf) d 4096 453 [] [] S Q := by
  unfold w_X5_load_453 at h
  exact zu_vret d_4096_453 zr_4096 h
def w_X5_load_131 (X : zs_X) (d : Nat)  (S : zs_T) (Q : zs_Q) : Prop :=
  (w_X5_load_453 X d  S Q)
theorem u_X5_load_131 {σ : Nat → Nat} {n0 : Nat} {bf : ab_B} {d : Nat}  {S : zs_T} {Q : zs_Q} (hB : zt_B bf) (h : w_X5_load_131 (zx σ n0 bf) d  S Q) : zs_U (zx σ n0 bf) d 4096 131 [] [] S Q := by
  unfold w_X5_load_131 at h
  refine zu_goto (t := 453) d_4096_131 rfl ?_
  exact (u_X5_load_453 hB h).weak trivial
def w_X5_load_271 (X : zs_X) (d : Nat) (q0 : Option Nat) (q1 : Int32) (S : zs_T) (Q : zs_Q) : Prop :=
  (∃ b1, q0 = some b1 ∧ zs_K S b1 = some (.inl 3) ∧ zs_C X d 3002 [.ref b1, .int q1] S (zs_kI (fun v5 S4 => (w_X5_load_453 X d  S4 Q)) Q))
theorem u_X5_load_271 {σ : Nat → Nat} {n0 : Nat} {bf : ab_B} {d : Nat} {q0 : Option Nat} {q1 : Int32} {S : zs_T} {Q : zs_Q} (hB : zt_B bf) (h : w_X5_load_271 (zx σ n0 bf) d q0 q1 S Q) : zs_U (zx σ n0 bf) d 4096 271 [] [.int q1, va_rf q0] S Q := by
  unfold w_X5_load_271 at h
  obtain ⟨b1, e2, h⟩ := h
  refine zs_stk1 (zs_rfe e2) ?_
  obtain ⟨k3, h⟩ := h
  refine zc_4_709 (x0 := q1) hB rfl k3 d_4096_271 (Nat.le_of_ble_eq_true rfl) h (fun v5 S4 h => ?_)
  refine zu_pop d_4096_274 rfl ?_
  refine zu_goto (t := 453) d_4096_275 rfl ?_
  exact (u_X5_load_453 hB h).weak trivial
def w_X5_load_224 (X : zs_X) (d : Nat) (p0 : Nat) (p1 : Option Nat) (p2 : Option Nat) (S : zs_T) (Q : zs_Q) : Prop :=
  (∃ b1, p2 = some b1 ∧ zs_K S b1 = some (.inl 11) ∧ zs_U X d 4096 173 [(0, .ref p0), (1, va_rf p1), (2, va_rf (zs_R S 11007 b1))] [] S Q)
theorem u_X5_load_224 {σ : Nat → Nat} {n0 : Nat} {bf : ab_B} {d : Nat} {p0 : Nat} {p1 : Option Nat} {p2 : Option Nat} {S : zs_T} {Q : zs_Q} (hB : zt_B bf) (h : w_X5_load_224 (zx σ n0 bf) d p0 p1 p2 S Q) : zs_U (zx σ n0 bf) d 4096 224 [(0, .ref p0), (1, va_rf p1), (2, va_rf p2)] [] S Q := by
  unfold w_X5_load_224 at h
  refine zu_aload_n d_4096_224 rfl (zs_rr _) ?_
  obtain ⟨b1, e2, h⟩ := h
  refine zs_stk0 (zs_rfe e2) ?_
  obtain ⟨k3, h⟩ := h
  refine zg_4_487 rfl d_4096_225 k3 ?_
  refine zu_astore_n d_4096_228 (zs_rr _) (zs_lt zq_4096 rfl) ?_
  refine zs_U.weak (L1 := [(2, va_rf (zs_R S 11007 b1)), (0, .ref p0), (1, va_rf p1)]) ?_ ⟨rfl, zs_gp1 rfl (Or.inl rfl) rfl, zs_gp1 rfl (Or.inl (zs_cat _)) rfl, trivial⟩
  refine zu_goto (t := 173) d_4096_229 rfl ?_
  exact h.weak ⟨rfl, rfl, rfl, trivial⟩
def w_X5_load_219 (X : zs_X) (d : Nat) (p0 : Nat) (p1 : Option Nat) (p2 : Option Nat) (S : zs_T) (Q : zs_Q) : Prop :=
  (zs_K S p0 = some (.inl 4) ∧ zs_C X d 4101 [.ref p0, va_rf p2] S (zs_kV (fun S2 => w_X5_load_224 X d p0 p1 p2 S2 Q) Q))
theorem u_X5_load_219 {σ : Nat → Nat} {n0 : Nat} {bf : ab_B} {d : Nat} {p0 : Nat} {p1 : Option Nat} {p2 : Option Nat} {S : zs_T} {Q : zs_Q} (hB : zt_B bf) (h : w_X5_load_219 (zx σ n0 bf) d p0 p1 p2 S Q) : zs_U (zx σ n0 bf) d 4096 219 [(0, .ref p0), (1, va_rf p1), (2, va_rf p2)] [] S Q := by
  unfold w_X5_load_219 at h
  refine zu_aload_n d_4096_219 rfl (zs_ra _) ?_
  refine zu_aload_n d_4096_220 rfl (zs_rr _) ?_
  obtain ⟨k1, h⟩ := h
  refine zc_4_724 (x0 := p2) hB rfl k1 d_4096_221 (Nat.le_of_ble_eq_true rfl) h (fun S2 h => ?_)
  exact (u_X5_load_224 hB h).weak ⟨rfl, rfl, rfl, trivial⟩
def w_X5_load_210 (X : zs_X) (d : Nat) (p0 : Nat) (p1 : Option Nat) (p2 : Option Nat) (S : zs_T) (Q : zs_Q) : Prop :=
  (∃ b1, p1 = some b1 ∧ zs_K S b1 = some (.inl 11) ∧ ((¬ (zs_I S 11003 b1) = (16 : Int32) → w_X5_load_224 X d p0 p1 p2 S Q) ∧ (¬ (¬ (zs_I S 11003 b1) = (16 : Int32)) → w_X5_load_219 X d p0 p1 p2 S Q)))
theorem u_X5_load_210 {σ : Nat → Nat} {n0 : Nat} {bf : ab_B} {d : Nat} {p0 : Nat} {p1 : Option Nat} {p2 : Option Nat} {S : zs_T} {Q : zs_Q} (hB : zt_B bf) (h : w_X5_load_210 (zx σ n0 bf) d p0 p1 p2 S Q) : zs_U (zx σ n0 bf) d 4096 210 [(0, .ref p0), (1, va_rf p1), (2, va_rf p2)] [] S Q := by
  unfold w_X5_load_210 at h
  refine zu_aload_n d_4096_210 rfl (zs_rr _) ?_
  obtain ⟨b1, e2, h⟩ := h
  refine zs_stk0 (zs_rfe e2) ?_
  obtain ⟨k3, h⟩ := h
  refine zg_4_542 rfl d_4096_211 k3 ?_
  refine zu_bipush d_4096_214 zj_16 ?_
  refine zu_cmpne (t := 224) d_4096_216 rfl (fun c4 => ?_) (fun c4 => ?_)
  · have h := h.1 c4
    exact (u_X5_load_224 hB h).weak ⟨rfl, rfl, rfl, trivial⟩
  · have h := h.2 c4
    exact (u_X5_load_219 hB h).weak ⟨rfl, rfl, rfl, trivial⟩
def w_X5_load_173 (X : zs_X) (d : Nat) (p0 : Nat) (p1 : Option Nat) (p2 : Option Nat) (S : zs_T) (Q : zs_Q) : Prop :=
  (((p2 = none → (∃ b3, p1 = some b3 ∧ zs_K S b3 = some (.inl 11) ∧ zs_K S p0 = some (.inl 4) ∧ zs_C X d 4097 [.ref p0, .int (36 : Int32), .int (zs_I S 11001 b3), .int (zs_I S 11003 b3)] S (zs_kV (fun S7 => (zs_K S7 p0 = some (.inl 4) ∧ zs_K S7 b3 = some (.inl 11) ∧ (((zs_R S7 11005 b3) = none → (w_X5_load_271 X d (zs_R S7 4001 p0) (-1 : Int32) S7 Q)) ∧ (∀ b11, (zs_R S7 11005 b3) = some b11 → (zs_K S7 b11 = some (.inl 11) ∧ ∃ b14, (zs_R S7 11002 b11) = some b14 ∧ zs_K S7 b14 = some (.inl 6) ∧ w_X5_load_271 X d (zs_R S7 4001 p0) (zs_I S7 6001 b14) S7 Q))))) Q))) ∧ (∀ b1, p2 = some b1 → (zs_K S p0 = some (.inl 4) ∧ zs_C X d 4096 [.ref p0, va_rf p2] S (zs_kV (fun S18 => (zs_K S18 b1 = some (.inl 11) ∧ zs_C X d 4036 [va_rf (zs_R S18 11002 b1)] S18 (zs_kI (fun v22 S21 => (((v22 = 0 → w_X5_load_224 X d p0 p1 p2 S21 Q) ∧ (¬ (v22 = 0) → (∃ b24, p1 = some b24 ∧ zs_K S21 b24 = some (.inl 11) ∧ (((zs_I S21 11003 b24) = (13 : Int32) → w_X5_load_219 X d p0 p1 p2 S21 Q) ∧ (¬ ((zs_I S21 11003 b24) = (13 : Int32)) → ((((zs_I S21 11003 b24) = (15 : Int32) → w_X5_load_219 X d p0 p1 p2 S21 Q) ∧ (¬ ((zs_I S21 11003 b24) = (15 : Int32)) → w_X5_load_210 X d p0 p1 p2 S21 Q)))))))))) Q))) Q)))))
theorem u_X5_load_173 {σ : Nat → Nat} {n0 : Nat} {bf : ab_B} {d : Nat} {p0 : Nat} {p1 : Option Nat} {p2 : Option Nat} {S : zs_T} {Q : zs_Q} (hB : zt_B bf) (h : w_X5_load_173 (zx σ n0 bf) d p0 p1 p2 S Q) : zs_U (zx σ n0 bf) d 4096 173 [(0, .ref p0), (1, va_rf p1), (2, va_rf p2)] [] S Q := by
  unfold w_X5_load_173 at h
  refine zu_aload_n d_4096_173 rfl (zs_rr _) ?_
  refine zu_ifnull (u := p2) (t := 232) d_4096_174 rfl rfl (fun e2 => ?_) (fun b1 e2 => ?_)
  · have h := h.1 e2
    refine zu_aload_n d_4096_232 rfl (zs_ra _) ?_
    refine zu_bipush d_4096_233 zj_36 ?_
    refine zu_aload_n d_4096_235 rfl (zs_rr _) ?_
    obtain ⟨b3, e4, h⟩ := h
    refine zs_stk0 (zs_rfe e4) ?_
    obtain ⟨k5, h⟩ := h
    refine zg_4_469 rfl d_4096_236 k5 ?_
    refine zu_aload_n d_4096_239 rfl (zs_rr _) ?_
    refine zs_stk0 (zs_rfe e4) ?_
    refine zg_4_542 rfl d_4096_240 k5 ?_
    obtain ⟨k6, h⟩ := h
    refine zc_4_712 (x0 := (36 : Int32)) (x1 := (zs_I S 11001 b3)) (x2 := (zs_I S 11003 b3)) hB rfl k6 d_4096_243 (Nat.le_of_ble_eq_true rfl) h (fun S7 h => ?_)
    refine zu_aload_n d_4096_246 rfl (zs_ra _) ?_
    obtain ⟨k9, h⟩ := h
    refine zg_4_128 rfl d_4096_247 k9 ?_
    refine zu_aload_n d_4096_250 rfl (zs_rr _) ?_
    refine zs_stk0 (zs_rfe e4) ?_
    obtain ⟨k10, h⟩ := h
    refine zg_4_539 rfl d_4096_251 k10 ?_
    refine zu_ifnonnull (u := (zs_R S7 11005 b3)) (t := 261) d_4096_254 rfl rfl (fun b11 e12 => ?_) (fun e12 => ?_)
    · have h := h.2 b11 e12
      refine zu_aload_n d_4096_261 rfl (zs_rr _) ?_
      refine zs_stk0 (zs_rfe e4) ?_
      refine zg_4_539 rfl d_4096_262 k10 ?_
      refine zs_stk0 (zs_rfe e12) ?_
      obtain ⟨k13, h⟩ := h
      refine zg_4_297 rfl d_4096_265 k13 ?_
      obtain ⟨b14, e15, h⟩ := h
      refine zs_stk0 (zs_rfe e15) ?_
      obtain ⟨k16, h⟩ := h
      refine zg_4_137 rfl d_4096_268 k16 ?_
      exact (u_X5_load_271 hB h).weak trivial
    · have h := h.1 e12
      refine zu_iconst d_4096_257 zi_m1 ?_
      refine zu_goto (t := 271) d_4096_258 rfl ?_
      exact (u_X5_load_271 hB h).weak trivial
  · have h := h.2 b1 e2
    refine zu_aload_n d_4096_177 rfl (zs_ra _) ?_
    refine zu_aload_n d_4096_178 rfl (zs_rr _) ?_
    obtain ⟨k17, h⟩ := h
    refine zc_4_721 (x0 := p2) hB rfl k17 d_4096_179 (Nat.le_of_ble_eq_true rfl) h (fun S18 h => ?_)
    refine zu_aload_n d_4096_182 rfl (zs_rr _) ?_
    refine zs_stk0 (zs_rfe e2) ?_
    obtain ⟨k20, h⟩ := h
    refine zg_4_297 rfl d_4096_183 k20 ?_
    refine zc_4_587 (x0 := (zs_R S18 11002 b1)) hB rfl d_4096_186 (Nat.le_of_ble_eq_true rfl) h (fun v22 S21 h => ?_)
    refine zu_ifeq (t := 224) d_4096_189 rfl (fun c23 => ?_) (fun c23 => ?_)
    · have h := h.1 c23
      exact (u_X5_load_224 hB h).weak ⟨rfl, rfl, rfl, trivial⟩
    · have h := h.2 c23
      refine zu_aload_n d_4096_192 rfl (zs_rr _) ?_
      obtain ⟨b24, e25, h⟩ := h
      refine zs_stk0 (zs_rfe e25) ?_
      obtain ⟨k26, h⟩ := h
      refine zg_4_542 rfl d_4096_193 k26 ?_
      refine zu_bipush d_4096_196 zj_13 ?_
      refine zu_cmpeq (t := 219) d_4096_198 rfl (fun c27 => ?_) (fun c27 => ?_)
      · have h := h.1 c27
        exact (u_X5_load_219 hB h).weak ⟨rfl, rfl, rfl, trivial⟩
      · have h := h.2 c27
        refine zu_aload_n d_4096_201 rfl (zs_rr _) ?_
        refine zs_stk0 (zs_rfe e25) ?_
        refine zg_4_542 rfl d_4096_202 k26 ?_
        refine zu_bipush d_4096_205 zj_15 ?_
        refine zu_cmpeq (t := 219) d_4096_207 rfl (fun c28 => ?_) (fun c28 => ?_)
        · have h := h.1 c28
          exact (u_X5_load_219 hB h).weak ⟨rfl, rfl, rfl, trivial⟩
        · have h := h.2 c28
          exact (u_X5_load_210 hB h).weak ⟨rfl, rfl, rfl, trivial⟩
def w_X5_load_306 (X : zs_X) (d : Nat) (p0 : Nat) (p1 : Option Nat) (S : zs_T) (Q : zs_Q) : Prop :=
  (∃ b1, p1 = some b1 ∧ zs_K S b1 = some (.inl 11) ∧ ((¬ (zs_I S 11003 b1) = (1032 : Int32) → w_X5_load_453 X d  S Q) ∧ (¬ (¬ (zs_I S 11003 b1) = (1032 : Int32)) → (zs_K S p0 = some (.inl 4) ∧ zs_C X d 4094 [.ref p0, .int (24 : Int32), .int (zs_I S 11001 b1)] S (zs_kI (fun v7 S6 => (w_X5_load_453 X d  S6 Q)) Q)))))
theorem u_X5_load_306 {σ : Nat → Nat} {n0 : Nat} {bf : ab_B} {d : Nat} {p0 : Nat} {p1 : Option Nat} {S : zs_T} {Q : zs_Q} (hB : zt_B bf) (h : w_X5_load_306 (zx σ n0 bf) d p0 p1 S Q) : zs_U (zx σ n0 bf) d 4096 306 [(0, .ref p0), (1, va_rf p1)] [] S Q := by
  unfold w_X5_load_306 at h
  refine zu_aload_n d_4096_306 rfl (zs_rr _) ?_
  obtain ⟨b1, e2, h⟩ := h
  refine zs_stk0 (zs_rfe e2) ?_
  obtain ⟨k3, h⟩ := h
  refine zg_4_542 rfl d_4096_307 k3 ?_
  refine zu_sipush d_4096_310 zh_1032 ?_
  refine zu_cmpne (t := 453) d_4096_313 rfl (fun c4 => ?_) (fun c4 => ?_)
  · have h := h.1 c4
    exact (u_X5_load_453 hB h).weak trivial
  · have h := h.2 c4
    refine zu_aload_n d_4096_316 rfl (zs_ra _) ?_
    refine zu_bipush d_4096_317 zj_24 ?_
    refine zu_aload_n d_4096_319 rfl (zs_rr _) ?_
    refine zs_stk0 (zs_rfe e2) ?_
    refine zg_4_469 rfl d_4096_320 k3 ?_
    obtain ⟨k5, h⟩ := h
    refine zc_4_273 (x0 := (24 : Int32)) (x1 := (zs_I S 11001 b1)) hB rfl k5 d_4096_323 (Nat.le_of_ble_eq_true rfl) h (fun v7 S6 h => ?_)
    refine zu_pop d_4096_326 rfl ?_
    refine zu_goto (t := 453) d_4096_327 rfl ?_
    exact (u_X5_load_453 hB h).weak trivial
def w_X5_load_395 (X : zs_X) (d : Nat) (p0 : Nat) (p2 : Option Nat) (q0 : Option Nat) (q1 : Int32) (S : zs_T) (Q : zs_Q) : Prop :=
  (∃ b1, p2 = some b1 ∧ zs_K S b1 = some (.inl 11) ∧ ∃ b4, q0 = some b4 ∧ zs_K S b4 = some (.inl 4) ∧ zs_C X d 4094 [.ref b4, .int q1, .int (zs_I S 11001 b1)] S (zs_kI (fun v8 S7 => (zs_K S7 b1 = some (.inl 11) ∧ zs_U X d 4096 353 [(0, .ref p0), (2, va_rf (zs_R S7 11007 b1))] [] S7 Q)) Q))
theorem u_X5_load_395 {σ : Nat → Nat} {n0 : Nat} {bf : ab_B} {d : Nat} {p0 : Nat} {p2 : Option Nat} {q0 : Option Nat} {q1 : Int32} {S : zs_T} {Q : zs_Q} (hB : zt_B bf) (h : w_X5_load_395 (zx σ n0 bf) d p0 p2 q0 q1 S Q) : zs_U (zx σ n0 bf) d 4096 395 [(0, .ref p0), (2, va_rf p2)] [.int q1, va_rf q0] S Q := by
  unfold w_X5_load_395 at h
  refine zu_aload_n d_4096_395 rfl (zs_rr _) ?_
  obtain ⟨b1, e2, h⟩ := h
  refine zs_stk0 (zs_rfe e2) ?_
  obtain ⟨k3, h⟩ := h
  refine zg_4_469 rfl d_4096_396 k3 ?_
  obtain ⟨b4, e5, h⟩ := h
  refine zs_stk2 (zs_rfe e5) ?_
  obtain ⟨k6, h⟩ := h
  refine zc_4_273 (x0 := q1) (x1 := (zs_I S 11001 b1)) hB rfl k6 d_4096_399 (Nat.le_of_ble_eq_true rfl) h (fun v8 S7 h => ?_)
  refine zu_pop d_4096_402 rfl ?_
  refine zu_aload_n d_4096_403 rfl (zs_rr _) ?_
  refine zs_stk0 (zs_rfe e2) ?_
  obtain ⟨k9, h⟩ := h
  refine zg_4_487 rfl d_4096_404 k9 ?_
  refine zu_astore_n d_4096_407 (zs_rr _) (zs_lt zq_4096 rfl) ?_
  refine zu_goto (t := 353) d_4096_408 rfl ?_
  exact h.weak ⟨rfl, rfl, trivial⟩
def w_X5_load_380 (X : zs_X) (d : Nat) (p0 : Nat) (p2 : Option Nat) (S : zs_T) (Q : zs_Q) : Prop :=
  (∃ b1, p2 = some b1 ∧ zs_K S b1 = some (.inl 11) ∧ (((zs_R S 11006 b1) = none → (w_X5_load_395 X d p0 p2 (some p0) (31 : Int32) S Q)) ∧ (∀ b4, (zs_R S 11006 b1) = some b4 → (w_X5_load_395 X d p0 p2 (some p0) (32 : Int32) S Q))))
theorem u_X5_load_380 {σ : Nat → Nat} {n0 : Nat} {bf : ab_B} {d : Nat} {p0 : Nat} {p2 : Option Nat} {S : zs_T} {Q : zs_Q} (hB : zt_B bf) (h : w_X5_load_380 (zx σ n0 bf) d p0 p2 S Q) : zs_U (zx σ n0 bf) d 4096 380 [(0, .ref p0), (2, va_rf p2)] [] S Q := by
  unfold w_X5_load_380 at h
  refine zu_aload_n d_4096_380 rfl (zs_ra _) ?_
  refine zu_aload_n d_4096_381 rfl (zs_rr _) ?_
  obtain ⟨b1, e2, h⟩ := h
  refine zs_stk0 (zs_rfe e2) ?_
  obtain ⟨k3, h⟩ := h
  refine zg_4_536 rfl d_4096_382 k3 ?_
  refine zu_ifnonnull (u := (zs_R S 11006 b1)) (t := 393) d_4096_385 rfl rfl (fun b4 e5 => ?_) (fun e5 => ?_)
  · have h := h.2 b4 e5
    refine zu_bipush d_4096_393 zj_32 ?_
    exact (u_X5_load_395 hB h).weak ⟨rfl, rfl, trivial⟩
  · have h := h.1 e5
    refine zu_bipush d_4096_388 zj_31 ?_
    refine zu_goto (t := 395) d_4096_390 rfl ?_
    exact (u_X5_load_395 hB h).weak ⟨rfl, rfl, trivial⟩
def w_X5_load_353 (X : zs_X) (d : Nat) (p0 : Nat) (p2 : Option Nat) (S : zs_T) (Q : zs_Q) : Prop :=
  (((p2 = none → (w_X5_load_453 X d  S Q)) ∧ (∀ b1, p2 = some b1 → (zs_K S b1 = some (.inl 11) ∧ zs_K S p0 = some (.inl 4) ∧ zs_C X d 4096 [.ref p0, va_rf (zs_R S 11005 b1)] S (zs_kV (fun S5 => (zs_K S5 b1 = some (.inl 11) ∧ (((zs_R S5 11006 b1) = none → w_X5_load_380 X d p0 p2 S5 Q) ∧ (∀ b8, (zs_R S5 11006 b1) = some b8 → (zs_K S5 p0 = some (.inl 4) ∧ zs_C X d 4096 [.ref p0, va_rf (zs_R S5 11006 b1)] S5 (zs_kV (fun S11 => w_X5_load_380 X d p0 p2 S11 Q) Q)))))) Q)))))
theorem u_X5_load_353 {σ : Nat → Nat} {n0 : Nat} {bf : ab_B} {d : Nat} {p0 : Nat} {p2 : Option Nat} {S : zs_T} {Q : zs_Q} (hB : zt_B bf) (h : w_X5_load_353 (zx σ n0 bf) d p0 p2 S Q) : zs_U (zx σ n0 bf) d 4096 353 [(0, .ref p0), (2, va_rf p2)] [] S Q := by
  unfold w_X5_load_353 at h
  refine zu_aload_n d_4096_353 rfl (zs_rr _) ?_
  refine zu_ifnull (u := p2) (t := 411) d_4096_354 rfl rfl (fun e2 => ?_) (fun b1 e2 => ?_)
  · have h := h.1 e2
    refine zu_goto (t := 453) d_4096_411 rfl ?_
    exact (u_X5_load_453 hB h).weak trivial
  · have h := h.2 b1 e2
    refine zu_aload_n d_4096_357 rfl (zs_ra _) ?_
    refine zu_aload_n d_4096_358 rfl (zs_rr _) ?_
    refine zs_stk0 (zs_rfe e2) ?_
    obtain ⟨k3, h⟩ := h
    refine zg_4_539 rfl d_4096_359 k3 ?_
    obtain ⟨k4, h⟩ := h
    refine zc_4_721 (x0 := (zs_R S 11005 b1)) hB rfl k4 d_4096_362 (Nat.le_of_ble_eq_true rfl) h (fun S5 h => ?_)
    refine zu_aload_n d_4096_365 rfl (zs_rr _) ?_
    refine zs_stk0 (zs_rfe e2) ?_
    obtain ⟨k7, h⟩ := h
    refine zg_4_536 rfl d_4096_366 k7 ?_
    refine zu_ifnull (u := (zs_R S5 11006 b1)) (t := 380) d_4096_369 rfl rfl (fun e9 => ?_) (fun b8 e9 => ?_)
    · have h := h.1 e9
      exact (u_X5_load_380 hB h).weak ⟨rfl, rfl, trivial⟩
    · have h := h.2 b8 e9
      refine zu_aload_n d_4096_372 rfl (zs_ra _) ?_
      refine zu_aload_n d_4096_373 rfl (zs_rr _) ?_
      refine zs_stk0 (zs_rfe e2) ?_
      refine zg_4_536 rfl d_4096_374 k7 ?_
      obtain ⟨k10, h⟩ := h
      refine zc_4_721 (x0 := (zs_R S5 11006 b1)) hB rfl k10 d_4096_377 (Nat.le_of_ble_eq_true rfl) h (fun S11 h => ?_)
      exact (u_X5_load_380 hB h).weak ⟨rfl, rfl, trivial⟩
def w_X5_load_439 (X : zs_X) (d : Nat) (p1 : Option Nat) (q0 : Option Nat) (q1 : Int32) (S : zs_T) (Q : zs_Q) : Prop :=
  (∃ b1, p1 = some b1 ∧ zs_K S b1 = some (.inl 11) ∧ ∃ b4, (zs_R S 11002 b1) = some b4 ∧ zs_K S b4 = some (.inl 6) ∧ ∃ b7, q0 = some b7 ∧ zs_K S b7 = some (.inl 4) ∧ zs_C X d 4097 [.ref b7, .int q1, .int (zs_I S 11001 b1), .int (zs_I S 6001 b4)] S (zs_kV (fun S10 => w_X5_load_453 X d  S10 Q) Q))
theorem u_X5_load_439 {σ : Nat → Nat} {n0 : Nat} {bf : ab_B} {d : Nat} {p1 : Option Nat} {q0 : Option Nat} {q1 : Int32} {S : zs_T} {Q : zs_Q} (hB : zt_B bf) (h : w_X5_load_439 (zx σ n0 bf) d p1 q0 q1 S Q) : zs_U (zx σ n0 bf) d 4096 439 [(1, va_rf p1)] [.int q1, va_rf q0] S Q := by
  unfold w_X5_load_439 at h
  refine zu_aload_n d_4096_439 rfl (zs_rr _) ?_
  obtain ⟨b1, e2, h⟩ := h
  refine zs_stk0 (zs_rfe e2) ?_
  obtain ⟨k3, h⟩ := h
  refine zg_4_469 rfl d_4096_440 k3 ?_
  refine zu_aload_n d_4096_443 rfl (zs_rr _) ?_
  refine zs_stk0 (zs_rfe e2) ?_
  refine zg_4_297 rfl d_4096_444 k3 ?_
  obtain ⟨b4, e5, h⟩ := h
  refine zs_stk0 (zs_rfe e5) ?_
  obtain ⟨k6, h⟩ := h
  refine zg_4_137 rfl d_4096_447 k6 ?_
  obtain ⟨b7, e8, h⟩ := h
  refine zs_stk3 (zs_rfe e8) ?_
  obtain ⟨k9, h⟩ := h
  refine zc_4_712 (x0 := q1) (x1 := (zs_I S 11001 b1)) (x2 := (zs_I S 6001 b4)) hB rfl k9 d_4096_450 (Nat.le_of_ble_eq_true rfl) h (fun S10 h => ?_)
  exact (u_X5_load_453 hB h).weak trivial
def w_X5_load_414 (X : zs_X) (d : Nat) (p0 : Nat) (p1 : Option Nat) (S : zs_T) (Q : zs_Q) : Prop :=
  (zs_K S p0 = some (.inl 4) ∧ zs_C X d 4098 [.ref p0, va_rf p1] S (zs_kV (fun S2 => (∃ b4, p1 = some b4 ∧ zs_K S2 b4 = some (.inl 11) ∧ ∃ b7, (zs_R S2 11002 b4) = some b7 ∧ zs_K S2 b7 = some (.inl 6) ∧ ((¬ (zs_I S2 6000 b7) = (6 : Int32) → (w_X5_load_439 X d p1 (some p0) (8 : Int32) S2 Q)) ∧ (¬ (¬ (zs_I S2 6000 b7) = (6 : Int32)) → (w_X5_load_439 X d p1 (some p0) (9 : Int32) S2 Q))))) Q))
theorem u_X5_load_414 {σ : Nat → Nat} {n0 : Nat} {bf : ab_B} {d : Nat} {p0 : Nat} {p1 : Option Nat} {S : zs_T} {Q : zs_Q} (hB : zt_B bf) (h : w_X5_load_414 (zx σ n0 bf) d p0 p1 S Q) : zs_U (zx σ n0 bf) d 4096 414 [(0, .ref p0), (1, va_rf p1)] [] S Q := by
  unfold w_X5_load_414 at h
  refine zu_aload_n d_4096_414 rfl (zs_ra _) ?_
  refine zu_aload_n d_4096_415 rfl (zs_rr _) ?_
  obtain ⟨k1, h⟩ := h
  refine zc_4_715 (x0 := p1) hB rfl k1 d_4096_416 (Nat.le_of_ble_eq_true rfl) h (fun S2 h => ?_)
  refine zu_aload_n d_4096_419 rfl (zs_ra _) ?_
  refine zu_aload_n d_4096_420 rfl (zs_rr _) ?_
  obtain ⟨b4, e5, h⟩ := h
  refine zs_stk0 (zs_rfe e5) ?_
  obtain ⟨k6, h⟩ := h
  refine zg_4_297 rfl d_4096_421 k6 ?_
  obtain ⟨b7, e8, h⟩ := h
  refine zs_stk0 (zs_rfe e8) ?_
  obtain ⟨k9, h⟩ := h
  refine zg_4_369 rfl d_4096_424 k9 ?_
  refine zu_bipush d_4096_427 zj_6 ?_
  refine zu_cmpne (t := 437) d_4096_429 rfl (fun c10 => ?_) (fun c10 => ?_)
  · have h := h.1 c10
    refine zu_bipush d_4096_437 zj_8 ?_
    exact (u_X5_load_439 hB h).weak ⟨rfl, trivial⟩
  · have h := h.2 c10
    refine zu_bipush d_4096_432 zj_9 ?_
    refine zu_goto (t := 439) d_4096_434 rfl ?_
    exact (u_X5_load_439 hB h).weak ⟨rfl, trivial⟩
def w_X5_load (X : zs_X) (d : Nat) (p0 : Nat) (p1 : Option Nat) (S : zs_T) (Q : zs_Q) : Prop :=
  (∃ b1, p1 = some b1 ∧ zs_K S b1 = some (.inl 11) ∧ (((zs_I S 11000 b1).toInt < 0 ∨ 13 < (zs_I S 11000 b1).toInt → w_X5_load_414 X d p0 p1 S Q) ∧ ((zs_I S 11000 b1).toInt = 0 → (zs_K S p0 = some (.inl 4) ∧ zs_C X d 4097 [.ref p0, .int (1 : Int32), .int (zs_I S 11001 b1), .int (((zs_J S 11004 b1)).toInt32)] S (zs_kV (fun S6 => (w_X5_load_453 X d  S6 Q)) Q))) ∧ ((zs_I S 11000 b1).toInt = 1 → (zs_K S p0 = some (.inl 4) ∧ zs_C X d 4097 [.ref p0, .int (2 : Int32), .int (zs_I S 11001 b1), .int (zs_I S 11011 b1)] S (zs_kV (fun S9 => (zs_K S9 p0 = some (.inl 4) ∧ zs_K S9 b1 = some (.inl 11) ∧ ∃ b13, (zs_R S9 4001 p0) = some b13 ∧ zs_K S9 b13 = some (.inl 3) ∧ zs_C X d 3002 [.ref b13, .int (zs_I S9 11012 b1)] S9 (zs_kI (fun v17 S16 => (w_X5_load_131 X d  S16 Q)) Q))) Q))) ∧ ((zs_I S 11000 b1).toInt = 2 → w_X5_load_414 X d p0 p1 S Q) ∧ ((zs_I S 11000 b1).toInt = 3 → w_X5_load_414 X d p0 p1 S Q) ∧ ((zs_I S 11000 b1).toInt = 4 → w_X5_load_414 X d p0 p1 S Q) ∧ ((zs_I S 11000 b1).toInt = 5 → w_X5_load_414 X d p0 p1 S Q) ∧ ((zs_I S 11000 b1).toInt = 6 → (zs_K S p0 = some (.inl 4) ∧ zs_C X d 4100 [.ref p0, va_rf p1] S (zs_kV (fun S19 => (w_X5_load_453 X d  S19 Q)) Q))) ∧ ((zs_I S 11000 b1).toInt = 7 → (zs_K S p0 = some (.inl 4) ∧ zs_C X d 4096 [.ref p0, va_rf (zs_R S 11005 b1)] S (zs_kV (fun S22 => (zs_K S22 b1 = some (.inl 11) ∧ ((¬ (zs_I S22 11003 b1) = (45 : Int32) → w_X5_load_306 X d p0 p1 S22 Q) ∧ (¬ (¬ (zs_I S22 11003 b1) = (45 : Int32)) → (zs_K S22 p0 = some (.inl 4) ∧ zs_C X d 4094 [.ref p0, .int (21 : Int32), .int (zs_I S22 11001 b1)] S22 (zs_kI (fun v28 S27 => (w_X5_load_306 X d p0 p1 S27 Q)) Q)))))) Q))) ∧ ((zs_I S 11000 b1).toInt = 8 → (zs_K S p0 = some (.inl 4) ∧ zs_C X d 4102 [.ref p0, va_rf p1] S (zs_kV (fun S30 => (w_X5_load_453 X d  S30 Q)) Q))) ∧ ((zs_I S 11000 b1).toInt = 9 → (zs_K S p0 = some (.inl 4) ∧ zs_C X d 4097 [.ref p0, .int (1 : Int32), .int (zs_I S 11001 b1), .int (0 : Int32)] S (zs_kV (fun S33 => (zs_K S33 b1 = some (.inl 11) ∧ zs_U X d 4096 353 [(0, .ref p0), (2, va_rf (zs_R S33 11005 b1))] [] S33 Q)) Q))) ∧ ((zs_I S 11000 b1).toInt = 10 → w_X5_load_414 X d p0 p1 S Q) ∧ ((zs_I S 11000 b1).toInt = 11 → (zs_K S p0 = some (.inl 4) ∧ zs_C X d 4098 [.ref p0, va_rf (zs_R S 11005 b1)] S (zs_kV (fun S37 => (zs_K S37 b1 = some (.inl 11) ∧ zs_K S37 p0 = some (.inl 4) ∧ zs_C X d 4097 [.ref p0, .int (10 : Int32), .int (zs_I S37 11001 b1), .int (((zs_J S37 11004 b1)).toInt32)] S37 (zs_kV (fun S41 => (w_X5_load_453 X d  S41 Q)) Q))) Q))) ∧ ((zs_I S 11000 b1).toInt = 12 → (zs_K S p0 = some (.inl 4) ∧ zs_C X d 4097 [.ref p0, .int (1 : Int32), .int (zs_I S 11001 b1), .int (0 : Int32)] S (zs_kV (fun S44 => (w_X5_load_453 X d  S44 Q)) Q))) ∧ ((zs_I S 11000 b1).toInt = 13 → (zs_U X d 4096 173 [(0, .ref p0), (1, va_rf p1), (2, va_rf (zs_R S 11005 b1))] [] S Q))))
theorem u_X5_load {σ : Nat → Nat} {n0 : Nat} {bf : ab_B} {d : Nat} {p0 : Nat} {p1 : Option Nat} {S : zs_T} {Q : zs_Q} (hB : zt_B bf) (hd : 1 ≤ d) (h : w_X5_load (zx σ n0 bf) (d - 1) p0 p1 S Q) : zs_C (zx σ n0 bf) d 4096 [.ref p0, va_rf p1] S Q := by
  have hL : lv_args 0 [.ref p0, va_rf p1] = [(0, .ref p0), (1, va_rf p1)] := by simp [lv_args, zs_cat, zs_cI, zs_cJ, zs_cA]
  refine zs_C.of1 (hB.2 4096 (by decide) (by decide)) hd (by rw [hL]; exact zs_sub_self _ (by exact ⟨rfl, rfl, trivial⟩)) ?_
  rw [hL]
  clear hL
  unfold w_X5_load at h
  refine zu_aload_n d_4096_0 rfl (zs_rr _) ?_
  obtain ⟨b1, e2, h⟩ := h
  refine zs_stk0 (zs_rfe e2) ?_
  obtain ⟨k3, h⟩ := h
  refine zg_4_512 rfl d_4096_1 k3 ?_
  refine zu_tsw (td := 414) d_4096_4 (by decide) rfl (fun c4 => ?_) ⟨fun c4 => ⟨by decide, ?_⟩, fun c4 => ⟨by decide, ?_⟩, fun c4 => ⟨by decide, ?_⟩, fun c4 => ⟨by decide, ?_⟩, fun c4 => ⟨by decide, ?_⟩, fun c4 => ⟨by decide, ?_⟩, fun c4 => ⟨by decide, ?_⟩, fun c4 => ⟨by decide, ?_⟩, fun c4 => ⟨by decide, ?_⟩, fun c4 => ⟨by decide, ?_⟩, fun c4 => ⟨by decide, ?_⟩, fun c4 => ⟨by decide, ?_⟩, fun c4 => ⟨by decide, ?_⟩, fun c4 => ⟨by decide, ?_⟩, trivial⟩
  · have h := h.1 c4
    exact (u_X5_load_414 hB h).weak ⟨rfl, rfl, trivial⟩
  · have h := h.2.1 c4
    show zs_U _ _ _ 76 _ _ _ _
    refine zu_aload_n d_4096_76 rfl (zs_ra _) ?_
    refine zu_iconst d_4096_77 zi_1 ?_
    refine zu_aload_n d_4096_78 rfl (zs_rr _) ?_
    refine zs_stk0 (zs_rfe e2) ?_
    refine zg_4_469 rfl d_4096_79 k3 ?_
    refine zu_aload_n d_4096_82 rfl (zs_rr _) ?_
    refine zs_stk0 (zs_rfe e2) ?_
    refine zg_4_300 rfl d_4096_83 k3 ?_
    refine zu_stk d_4096_86 rfl rfl ?_
    obtain ⟨k5, h⟩ := h
    refine zc_4_712 (x0 := (1 : Int32)) (x1 := (zs_I S 11001 b1)) (x2 := (((zs_J S 11004 b1)).toInt32)) hB rfl k5 d_4096_87 (Nat.le_of_ble_eq_true rfl) h (fun S6 h => ?_)
    refine zu_goto (t := 453) d_4096_90 rfl ?_
    exact (u_X5_load_453 hB h).weak trivial
  · have h := h.2.2.1 c4
    show zs_U _ _ _ 106 _ _ _ _
    refine zu_aload_n d_4096_106 rfl (zs_ra _) ?_
    refine zu_iconst d_4096_107 zi_2 ?_
    refine zu_aload_n d_4096_108 rfl (zs_rr _) ?_
    refine zs_stk0 (zs_rfe e2) ?_
    refine zg_4_469 rfl d_4096_109 k3 ?_
    refine zu_aload_n d_4096_112 rfl (zs_rr _) ?_
    refine zs_stk0 (zs_rfe e2) ?_
    refine zg_4_301 rfl d_4096_113 k3 ?_
    obtain ⟨k8, h⟩ := h
    refine zc_4_712 (x0 := (2 : Int32)) (x1 := (zs_I S 11001 b1)) (x2 := (zs_I S 11011 b1)) hB rfl k8 d_4096_116 (Nat.le_of_ble_eq_true rfl) h (fun S9 h => ?_)
    refine zu_aload_n d_4096_119 rfl (zs_ra _) ?_
    obtain ⟨k11, h⟩ := h
    refine zg_4_128 rfl d_4096_120 k11 ?_
    refine zu_aload_n d_4096_123 rfl (zs_rr _) ?_
    refine zs_stk0 (zs_rfe e2) ?_
    obtain ⟨k12, h⟩ := h
    refine zg_4_303 rfl d_4096_124 k12 ?_
    obtain ⟨b13, e14, h⟩ := h
    refine zs_stk1 (zs_rfe e14) ?_
    obtain ⟨k15, h⟩ := h
    refine zc_4_709 (x0 := (zs_I S9 11012 b1)) hB rfl k15 d_4096_127 (Nat.le_of_ble_eq_true rfl) h (fun v17 S16 h => ?_)
    refine zu_pop d_4096_130 rfl ?_
    exact (u_X5_load_131 hB h).weak trivial
  · have h := h.2.2.2.1 c4
    show zs_U _ _ _ 414 _ _ _ _
    exact (u_X5_load_414 hB h).weak ⟨rfl, rfl, trivial⟩
  · have h := h.2.2.2.2.1 c4
    show zs_U _ _ _ 414 _ _ _ _
    exact (u_X5_load_414 hB h).weak ⟨rfl, rfl, trivial⟩
  · have h := h.2.2.2.2.2.1 c4
    show zs_U _ _ _ 414 _ _ _ _
    exact (u_X5_load_414 hB h).weak ⟨rfl, rfl, trivial⟩
  · have h := h.2.2.2.2.2.2.1 c4
    show zs_U _ _ _ 414 _ _ _ _
    exact (u_X5_load_414 hB h).weak ⟨rfl, rfl, trivial⟩
  · have h := h.2.2.2.2.2.2.2.1 c4
    show zs_U _ _ _ 160 _ _ _ _
    refine zu_aload_n d_4096_160 rfl (zs_ra _) ?_
    refine zu_aload_n d_4096_161 rfl (zs_rr _) ?_
    obtain ⟨k18, h⟩ := h
    refine zc_4_719 (x0 := p1) hB rfl k18 d_4096_162 (Nat.le_of_ble_eq_true rfl) h (fun S19 h => ?_)
    refine zu_goto (t := 453) d_4096_165 rfl ?_
    exact (u_X5_load_453 hB h).weak trivial
  · have h := h.2.2.2.2.2.2.2.2.1 c4
    show zs_U _ _ _ 278 _ _ _ _
    refine zu_aload_n d_4096_278 rfl (zs_ra _) ?_
    refine zu_aload_n d_4096_279 rfl (zs_rr _) ?_
    refine zs_stk0 (zs_rfe e2) ?_
    refine zg_4_539 rfl d_4096_280 k3 ?_
    obtain ⟨k21, h⟩ := h
    refine zc_4_721 (x0 := (zs_R S 11005 b1)) hB rfl k21 d_4096_283 (Nat.le_of_ble_eq_true rfl) h (fun S22 h => ?_)
    refine zu_aload_n d_4096_286 rfl (zs_rr _) ?_
    refine zs_stk0 (zs_rfe e2) ?_
    obtain ⟨k24, h⟩ := h
    refine zg_4_542 rfl d_4096_287 k24 ?_
    refine zu_bipush d_4096_290 zj_45 ?_
    refine zu_cmpne (t := 306) d_4096_292 rfl (fun c25 => ?_) (fun c25 => ?_)
    · have h := h.1 c25
      exact (u_X5_load_306 hB h).weak ⟨rfl, rfl, trivial⟩
    · have h := h.2 c25
      refine zu_aload_n d_4096_295 rfl (zs_ra _) ?_
      refine zu_bipush d_4096_296 zj_21 ?_
      refine zu_aload_n d_4096_298 rfl (zs_rr _) ?_
      refine zs_stk0 (zs_rfe e2) ?_
      refine zg_4_469 rfl d_4096_299 k24 ?_
      obtain ⟨k26, h⟩ := h
      refine zc_4_273 (x0 := (21 : Int32)) (x1 := (zs_I S22 11001 b1)) hB rfl k26 d_4096_302 (Nat.le_of_ble_eq_true rfl) h (fun v28 S27 h => ?_)
      refine zu_pop d_4096_305 rfl ?_
      exact (u_X5_load_306 hB h).weak ⟨rfl, rfl, trivial⟩
  · have h := h.2.2.2.2.2.2.2.2.2.1 c4
    show zs_U _ _ _ 330 _ _ _ _
    refine zu_aload_n d_4096_330 rfl (zs_ra _) ?_
    refine zu_aload_n d_4096_331 rfl (zs_rr _) ?_
    obtain ⟨k29, h⟩ := h
    refine zc_4_727 (x0 := p1) hB rfl k29 d_4096_332 (Nat.le_of_ble_eq_true rfl) h (fun S30 h => ?_)
    refine zu_goto (t := 453) d_4096_335 rfl ?_
    exact (u_X5_load_453 hB h).weak trivial
  · have h := h.2.2.2.2.2.2.2.2.2.2.1 c4
    show zs_U _ _ _ 338 _ _ _ _
    refine zu_aload_n d_4096_338 rfl (zs_ra _) ?_
    refine zu_iconst d_4096_339 zi_1 ?_
    refine zu_aload_n d_4096_340 rfl (zs_rr _) ?_
    refine zs_stk0 (zs_rfe e2) ?_
    refine zg_4_469 rfl d_4096_341 k3 ?_
    refine zu_iconst d_4096_344 zi_0 ?_
    obtain ⟨k32, h⟩ := h
    refine zc_4_712 (x0 := (1 : Int32)) (x1 := (zs_I S 11001 b1)) (x2 := (0 : Int32)) hB rfl k32 d_4096_345 (Nat.le_of_ble_eq_true rfl) h (fun S33 h => ?_)
    refine zu_aload_n d_4096_348 rfl (zs_rr _) ?_
    refine zs_stk0 (zs_rfe e2) ?_
    obtain ⟨k35, h⟩ := h
    refine zg_4_539 rfl d_4096_349 k35 ?_
    refine zu_astore_n d_4096_352 (zs_rr _) (zs_lt zq_4096 rfl) ?_
    refine zs_U.weak (L1 := [(2, va_rf (zs_R S33 11005 b1)), (0, .ref p0), (1, va_rf p1)]) ?_ ⟨rfl, zs_gp1 rfl (Or.inl rfl) rfl, zs_gp1 rfl (Or.inl (zs_cat _)) rfl, trivial⟩
    exact h.weak ⟨rfl, rfl, trivial⟩
  · have h := h.2.2.2.2.2.2.2.2.2.2.2.1 c4
    show zs_U _ _ _ 414 _ _ _ _
    exact (u_X5_load_414 hB h).weak ⟨rfl, rfl, trivial⟩
  · have h := h.2.2.2.2.2.2.2.2.2.2.2.2.1 c4
    show zs_U _ _ _ 134 _ _ _ _
    refine zu_aload_n d_4096_134 rfl (zs_ra _) ?_
    refine zu_aload_n d_4096_135 rfl (zs_rr _) ?_
    refine zs_stk0 (zs_rfe e2) ?_
    refine zg_4_539 rfl d_4096_136 k3 ?_
    obtain ⟨k36, h⟩ := h
    refine zc_4_715 (x0 := (zs_R S 11005 b1)) hB rfl k36 d_4096_139 (Nat.le_of_ble_eq_true rfl) h (fun S37 h => ?_)
    refine zu_aload_n d_4096_142 rfl (zs_ra _) ?_
    refine zu_bipush d_4096_143 zj_10 ?_
    refine zu_aload_n d_4096_145 rfl (zs_rr _) ?_
    refine zs_stk0 (zs_rfe e2) ?_
    obtain ⟨k39, h⟩ := h
    refine zg_4_469 rfl d_4096_146 k39 ?_
    refine zu_aload_n d_4096_149 rfl (zs_rr _) ?_
    refine zs_stk0 (zs_rfe e2) ?_
    refine zg_4_300 rfl d_4096_150 k39 ?_
    refine zu_stk d_4096_153 rfl rfl ?_
    obtain ⟨k40, h⟩ := h
    refine zc_4_712 (x0 := (10 : Int32)) (x1 := (zs_I S37 11001 b1)) (x2 := (((zs_J S37 11004 b1)).toInt32)) hB rfl k40 d_4096_154 (Nat.le_of_ble_eq_true rfl) h (fun S41 h => ?_)
    refine zu_goto (t := 453) d_4096_157 rfl ?_
    exact (u_X5_load_453 hB h).weak trivial
  · have h := h.2.2.2.2.2.2.2.2.2.2.2.2.2.1 c4
    show zs_U _ _ _ 93 _ _ _ _
    refine zu_aload_n d_4096_93 rfl (zs_ra _) ?_
    refine zu_iconst d_4096_94 zi_1 ?_
    refine zu_aload_n d_4096_95 rfl (zs_rr _) ?_
    refine zs_stk0 (zs_rfe e2) ?_
    refine zg_4_469 rfl d_4096_96 k3 ?_
    refine zu_iconst d_4096_99 zi_0 ?_
    obtain ⟨k43, h⟩ := h
    refine zc_4_712 (x0 := (1 : Int32)) (x1 := (zs_I S 11001 b1)) (x2 := (0 : Int32)) hB rfl k43 d_4096_100 (Nat.le_of_ble_eq_true rfl) h (fun S44 h => ?_)
    refine zu_goto (t := 453) d_4096_103 rfl ?_
    exact (u_X5_load_453 hB h).weak trivial
  · have h := h.2.2.2.2.2.2.2.2.2.2.2.2.2.2 c4
    show zs_U _ _ _ 168 _ _ _ _
    refine zu_aload_n d_4096_168 rfl (zs_rr _) ?_
    refine zs_stk0 (zs_rfe e2) ?_
    refine zg_4_539 rfl d_4096_169 k3 ?_
    refine zu_astore_n d_4096_172 (zs_rr _) (zs_lt zq_4096 rfl) ?_
    refine zs_U.weak (L1 := [(2, va_rf (zs_R S 11005 b1)), (0, .ref p0), (1, va_rf p1)]) ?_ ⟨rfl, zs_gp1 rfl (Or.inl rfl) rfl, zs_gp1 rfl (Or.inl (zs_cat _)) rfl, trivial⟩
    exact h.weak ⟨rfl, rfl, rfl, trivial⟩
/-! SchemaPascal$Reader.emit(III)V -/
theorem zm_4097 {σ : Nat → Nat} {n0 : Nat} {bf : ab_B} : ab_code (zx σ n0 bf).1 4097 = prog_9_method_89_code := rfl
theorem zq_4097 {σ : Nat → Nat} {n0 : Nat} {bf : ab_B} : ab_maxL (zx σ n0 bf).1 4097 = 4 := rfl
theorem zr_4097 {σ : Nat → Nat} {n0 : Nat} {bf : ab_B} : ab_ret (zx σ n0 bf).1 4097 = (Option.none : Option Jvm.ClassFile.FieldType) := rfl
theorem d_4097_0 {σ : Nat → Nat} {n0 : Nat} {bf : ab_B} : decode (ab_code (zx σ n0 bf).1 4097) 0 = .ok (.aload_n 0, 1) := zd zm_4097 (by decide +kernel)
theorem d_4097_1 {σ : Nat → Nat} {n0 : Nat} {bf : ab_B} : decode (ab_code (zx σ n0 bf).1 4097) 1 = .ok (.iload_n 1, 1) := zd zm_4097 (by decide +kernel)
theorem d_4097_2 {σ : Nat → Nat} {n0 : Nat} {bf : ab_B} : decode (ab_code (zx σ n0 bf).1 4097) 2 = .ok (.iload_n 2, 1) := zd zm_4097 (by decide +kernel)
theorem d_4097_3 {σ : Nat → Nat} {n0 : Nat} {bf : ab_B} : decode (ab_code (zx σ n0 bf).1 4097) 3 = .ok (.invokevirtual 273, 3) := zd zm_4097 (by decide +kernel)
theorem d_4097_6 {σ : Nat → Nat} {n0 : Nat} {bf : ab_B} : decode (ab_code (zx σ n0 bf).1 4097) 6 = .ok (.pop, 1) := zd zm_4097 (by decide +kernel)
theorem d_4097_7 {σ : Nat → Nat} {n0 : Nat} {bf : ab_B} : decode (ab_code (zx σ n0 bf).1 4097) 7 = .ok (.aload_n 0, 1) := zd zm_4097 (by decide +kernel)
theorem d_4097_8 {σ : Nat → Nat} {n0 : Nat} {bf : ab_B} : decode (ab_code (zx σ n0 bf).1 4097) 8 = .ok (.getfield 128, 3) := zd zm_4097 (by decide +kernel)
theorem d_4097_11 {σ : Nat → Nat} {n0 : Nat} {bf : ab_B} : decode (ab_code (zx σ n0 bf).1 4097) 11 = .ok (.iload_n 3, 1) := zd zm_4097 (by decide +kernel)
theorem d_4097_12 {σ : Nat → Nat} {n0 : Nat} {bf : ab_B} : decode (ab_code (zx σ n0 bf).1 4097) 12 = .ok (.invokevirtual 709, 3) := zd zm_4097 (by decide +kernel)
theorem d_4097_15 {σ : Nat → Nat} {n0 : Nat} {bf : ab_B} : decode (ab_code (zx σ n0 bf).1 4097) 15 = .ok (.pop, 1) := zd zm_4097 (by decide +kernel)
theorem d_4097_16 {σ : Nat → Nat} {n0 : Nat} {bf : ab_B} : decode (ab_code (zx σ n0 bf).1 4097) 16 = .ok (.return_, 1) := zd zm_4097 (by decide +kernel)
def w_X5_emit_2 (X : zs_X) (d : Nat) (p0 : Nat) (p1 : Int32) (p2 : Int32) (p3 : Int32) (S : zs_T) (Q : zs_Q) : Prop :=
  (zs_K S p0 = some (.inl 4) ∧ zs_C X d 4094 [.ref p0, .int p1, .int p2] S (zs_kI (fun v3 S2 => (zs_K S2 p0 = some (.inl 4) ∧ ∃ b5, (zs_R S2 4001 p0) = some b5 ∧ zs_K S2 b5 = some (.inl 3) ∧ zs_C X d 3002 [.ref b5, .int p3] S2 (zs_kI (fun v9 S8 => (Q (.returned none) S8)) Q))) Q))
theorem u_X5_emit_2 {σ : Nat → Nat} {n0 : Nat} {bf : ab_B} {d : Nat} {p0 : Nat} {p1 : Int32} {p2 : Int32} {p3 : Int32} {S : zs_T} {Q : zs_Q} (hB : zt_B bf) (hd : 1 ≤ d) (h : w_X5_emit_2 (zx σ n0 bf) (d - 1) p0 p1 p2 p3 S Q) : zs_C (zx σ n0 bf) d 4097 [.ref p0, .int p1, .int p2, .int p3] S Q := by
  have hL : lv_args 0 [.ref p0, .int p1, .int p2, .int p3] = [(0, .ref p0), (1, .int p1), (2, .int p2), (3, .int p3)] := rfl
  refine zs_C.of1 (hB.2 4097 (by decide) (by decide)) hd (by rw [hL]; exact zs_sub_self _ (by exact ⟨rfl, rfl, rfl, rfl, trivial⟩)) ?_
  rw [hL]
  clear hL
  unfold w_X5_emit_2 at h
  refine zu_aload_n d_4097_0 rfl (zs_ra _) ?_
  refine zu_iload_n d_4097_1 rfl ?_
  refine zu_iload_n d_4097_2 rfl ?_
  obtain ⟨k1, h⟩ := h
  refine zc_4_273 (x0 := p1) (x1 := p2) hB rfl k1 d_4097_3 (Nat.le_of_ble_eq_true rfl) h (fun v3 S2 h => ?_)
  refine zu_pop d_4097_6 rfl ?_
  refine zu_aload_n d_4097_7 rfl (zs_ra _) ?_
  obtain ⟨k4, h⟩ := h
  refine zg_4_128 rfl d_4097_8 k4 ?_
  refine zu_iload_n d_4097_11 rfl ?_
  obtain ⟨b5, e6, h⟩ := h
  refine zs_stk1 (zs_rfe e6) ?_
  obtain ⟨k7, h⟩ := h
  refine zc_4_709 (x0 := p3) hB rfl k7 d_4097_12 (Nat.le_of_ble_eq_true rfl) h (fun v9 S8 h => ?_)
  refine zu_pop d_4097_15 rfl ?_
  exact zu_vret d_4097_16 zr_4097 h
/-! SchemaPascal$Reader.address(LSchemaPascal$Node;)V -/
theorem zm_4098 {σ : Nat → Nat} {n0 : Nat} {bf : ab_B} : ab_code (zx σ n0 bf).1 4098 = prog_9_method_94_code := rfl
theorem zq_4098 {σ : Nat → Nat} {n0 : Nat} {bf : ab_B} : ab_maxL (zx σ n0 bf).1 4098 = 3 := rfl
theorem zr_4098 {σ : Nat → Nat} {n0 : Nat} {bf : ab_B} : ab_ret (zx σ n0 bf).1 4098 = (Option.none : Option Jvm.ClassFile.FieldType) := rfl
theorem d_4098_0 {σ : Nat → Nat} {n0 : Nat} {bf : ab_B} : decode (ab_code (zx σ n0 bf).1 4098) 0 = .ok (.aload_n 1, 1) := zd zm_4098 (by decide +kernel)
theorem d_4098_1 {σ : Nat → Nat} {n0 : Nat} {bf : ab_B} : decode (ab_code (zx σ n0 bf).1 4098) 1 = .ok (.astore_n 2, 1) := zd zm_4098 (by decide +kernel)
theorem d_4098_2 {σ : Nat → Nat} {n0 : Nat} {bf : ab_B} : decode (ab_code (zx σ n0 bf).1 4098) 2 = .ok (.aload_n 2, 1) := zd zm_4098 (by decide +kernel)
theorem d_4098_3 {σ : Nat → Nat} {n0 : Nat} {bf : ab_B} : decode (ab_code (zx σ n0 bf).1 4098) 3 = .ok (.getfield 512, 3) := zd zm_4098 (by decide +kernel)
theorem d_4098_6 {σ : Nat → Nat} {n0 : Nat} {bf : ab_B} : decode (ab_code (zx σ n0 bf).1 4098) 6 = .ok (.iconst 3, 1) := zd zm_4098 (by decide +kernel)
theorem d_4098_7 {σ : Nat → Nat} {n0 : Nat} {bf : ab_B} : decode (ab_code (zx σ n0 bf).1 4098) 7 = .ok (.if_icmp .eq 19, 3) := zd zm_4098 (by decide +kernel)
theorem d_4098_10 {σ : Nat → Nat} {n0 : Nat} {bf : ab_B} : decode (ab_code (zx σ n0 bf).1 4098) 10 = .ok (.aload_n 2, 1) := zd zm_4098 (by decide +kernel)
theorem d_4098_11 {σ : Nat → Nat} {n0 : Nat} {bf : ab_B} : decode (ab_code (zx σ n0 bf).1 4098) 11 = .ok (.getfield 512, 3) := zd zm_4098 (by decide +kernel)
theorem d_4098_14 {σ : Nat → Nat} {n0 : Nat} {bf : ab_B} : decode (ab_code (zx σ n0 bf).1 4098) 14 = .ok (.iconst 4, 1) := zd zm_4098 (by decide +kernel)
theorem d_4098_15 {σ : Nat → Nat} {n0 : Nat} {bf : ab_B} : decode (ab_code (zx σ n0 bf).1 4098) 15 = .ok (.if_icmp .eq 11, 3) := zd zm_4098 (by decide +kernel)
theorem d_4098_18 {σ : Nat → Nat} {n0 : Nat} {bf : ab_B} : decode (ab_code (zx σ n0 bf).1 4098) 18 = .ok (.aload_n 2, 1) := zd zm_4098 (by decide +kernel)
theorem d_4098_19 {σ : Nat → Nat} {n0 : Nat} {bf : ab_B} : decode (ab_code (zx σ n0 bf).1 4098) 19 = .ok (.getfield 512, 3) := zd zm_4098 (by decide +kernel)
theorem d_4098_22 {σ : Nat → Nat} {n0 : Nat} {bf : ab_B} : decode (ab_code (zx σ n0 bf).1 4098) 22 = .ok (.iconst 5, 1) := zd zm_4098 (by decide +kernel)
theorem d_4098_23 {σ : Nat → Nat} {n0 : Nat} {bf : ab_B} : decode (ab_code (zx σ n0 bf).1 4098) 23 = .ok (.if_icmp .ne 19, 3) := zd zm_4098 (by decide +kernel)
theorem d_4098_26 {σ : Nat → Nat} {n0 : Nat} {bf : ab_B} : decode (ab_code (zx σ n0 bf).1 4098) 26 = .ok (.aload_n 2, 1) := zd zm_4098 (by decide +kernel)
theorem d_4098_27 {σ : Nat → Nat} {n0 : Nat} {bf : ab_B} : decode (ab_code (zx σ n0 bf).1 4098) 27 = .ok (.getfield 539, 3) := zd zm_4098 (by decide +kernel)
theorem d_4098_30 {σ : Nat → Nat} {n0 : Nat} {bf : ab_B} : decode (ab_code (zx σ n0 bf).1 4098) 30 = .ok (.aload_n 2, 1) := zd zm_4098 (by decide +kernel)
theorem d_4098_31 {σ : Nat → Nat} {n0 : Nat} {bf : ab_B} : decode (ab_code (zx σ n0 bf).1 4098) 31 = .ok (.putfield 730, 3) := zd zm_4098 (by decide +kernel)
theorem d_4098_34 {σ : Nat → Nat} {n0 : Nat} {bf : ab_B} : decode (ab_code (zx σ n0 bf).1 4098) 34 = .ok (.aload_n 2, 1) := zd zm_4098 (by decide +kernel)
theorem d_4098_35 {σ : Nat → Nat} {n0 : Nat} {bf : ab_B} : decode (ab_code (zx σ n0 bf).1 4098) 35 = .ok (.getfield 539, 3) := zd zm_4098 (by decide +kernel)
theorem d_4098_38 {σ : Nat → Nat} {n0 : Nat} {bf : ab_B} : decode (ab_code (zx σ n0 bf).1 4098) 38 = .ok (.astore_n 2, 1) := zd zm_4098 (by decide +kernel)
theorem d_4098_39 {σ : Nat → Nat} {n0 : Nat} {bf : ab_B} : decode (ab_code (zx σ n0 bf).1 4098) 39 = .ok (.goto (-37), 3) := zd zm_4098 (by decide +kernel)
theorem d_4098_42 {σ : Nat → Nat} {n0 : Nat} {bf : ab_B} : decode (ab_code (zx σ n0 bf).1 4098) 42 = .ok (.aload_n 0, 1) := zd zm_4098 (by decide +kernel)
theorem d_4098_43 {σ : Nat → Nat} {n0 : Nat} {bf : ab_B} : decode (ab_code (zx σ n0 bf).1 4098) 43 = .ok (.aload_n 2, 1) := zd zm_4098 (by decide +kernel)
theorem d_4098_44 {σ : Nat → Nat} {n0 : Nat} {bf : ab_B} : decode (ab_code (zx σ n0 bf).1 4098) 44 = .ok (.invokevirtual 736, 3) := zd zm_4098 (by decide +kernel)
theorem d_4098_47 {σ : Nat → Nat} {n0 : Nat} {bf : ab_B} : decode (ab_code (zx σ n0 bf).1 4098) 47 = .ok (.aload_n 2, 1) := zd zm_4098 (by decide +kernel)
theorem d_4098_48 {σ : Nat → Nat} {n0 : Nat} {bf : ab_B} : decode (ab_code (zx σ n0 bf).1 4098) 48 = .ok (.aload_n 1, 1) := zd zm_4098 (by decide +kernel)
theorem d_4098_49 {σ : Nat → Nat} {n0 : Nat} {bf : ab_B} : decode (ab_code (zx σ n0 bf).1 4098) 49 = .ok (.if_acmp .eq 16, 3) := zd zm_4098 (by decide +kernel)
theorem d_4098_52 {σ : Nat → Nat} {n0 : Nat} {bf : ab_B} : decode (ab_code (zx σ n0 bf).1 4098) 52 = .ok (.aload_n 2, 1) := zd zm_4098 (by decide +kernel)
theorem d_4098_53 {σ : Nat → Nat} {n0 : Nat} {bf : ab_B} : decode (ab_code (zx σ n0 bf).1 4098) 53 = .ok (.getfield 730, 3) := zd zm_4098 (by decide +kernel)
theorem d_4098_56 {σ : Nat → Nat} {n0 : Nat} {bf : ab_B} : decode (ab_code (zx σ n0 bf).1 4098) 56 = .ok (.astore_n 2, 1) := zd zm_4098 (by decide +kernel)
theorem d_4098_57 {σ : Nat → Nat} {n0 : Nat} {bf : ab_B} : decode (ab_code (zx σ n0 bf).1 4098) 57 = .ok (.aload_n 0, 1) := zd zm_4098 (by decide +kernel)
theorem d_4098_58 {σ : Nat → Nat} {n0 : Nat} {bf : ab_B} : decode (ab_code (zx σ n0 bf).1 4098) 58 = .ok (.aload_n 2, 1) := zd zm_4098 (by decide +kernel)
theorem d_4098_59 {σ : Nat → Nat} {n0 : Nat} {bf : ab_B} : decode (ab_code (zx σ n0 bf).1 4098) 59 = .ok (.invokevirtual 736, 3) := zd zm_4098 (by decide +kernel)
theorem d_4098_62 {σ : Nat → Nat} {n0 : Nat} {bf : ab_B} : decode (ab_code (zx σ n0 bf).1 4098) 62 = .ok (.goto (-15), 3) := zd zm_4098 (by decide +kernel)
theorem d_4098_65 {σ : Nat → Nat} {n0 : Nat} {bf : ab_B} : decode (ab_code (zx σ n0 bf).1 4098) 65 = .ok (.return_, 1) := zd zm_4098 (by decide +kernel)
def w_X5_address_26 (X : zs_X) (d : Nat) (p0 : Nat) (p1 : Option Nat) (p2 : Option Nat) (S : zs_T) (Q : zs_Q) : Prop :=
  (∃ b1, p2 = some b1 ∧ zs_K S b1 = some (.inl 11) ∧ ∃ b4, (zs_R S 11005 b1) = some b4 ∧ zs_K S b4 = some (.inl 11) ∧ ab_n0 X.1 ≤ b4 ∧ ∀ S8, S8 = zs_sR S 11008 b4 p2 → zs_U X d 4098 2 [(0, .ref p0), (1, va_rf p1), (2, va_rf (zs_R S8 11005 b1))] [] S8 Q)
theorem u_X5_address_26 {σ : Nat → Nat} {n0 : Nat} {bf : ab_B} {d : Nat} {p0 : Nat} {p1 : Option Nat} {p2 : Option Nat} {S : zs_T} {Q : zs_Q} (hB : zt_B bf) (h : w_X5_address_26 (zx σ n0 bf) d p0 p1 p2 S Q) : zs_U (zx σ n0 bf) d 4098 26 [(0, .ref p0), (1, va_rf p1), (2, va_rf p2)] [] S Q := by
  unfold w_X5_address_26 at h
  refine zu_aload_n d_4098_26 rfl (zs_rr _) ?_
  obtain ⟨b1, e2, h⟩ := h
  refine zs_stk0 (zs_rfe e2) ?_
  obtain ⟨k3, h⟩ := h
  refine zg_4_539 rfl d_4098_27 k3 ?_
  refine zu_aload_n d_4098_30 rfl (zs_rr _) ?_
  obtain ⟨b4, e5, h⟩ := h
  refine zs_stk1 (zs_rfe e5) ?_
  obtain ⟨k6, h⟩ := h
  obtain ⟨k7, h⟩ := h
  refine zp_4_730 (v := p2) rfl d_4098_31 k6 k7 ?_
  generalize e9 : zs_sR S 11008 b4 p2 = S8
  have h := h S8 e9.symm
  have K10 : ∀ b, zs_K S8 b = zs_K S b := zs_Kt e9 (zs_KsR _ _ _ _) (fun _ => rfl)
  refine zu_aload_n d_4098_34 rfl (zs_rr _) ?_
  refine zs_stk0 (zs_rfe e2) ?_
  refine zg_4_539 rfl d_4098_35 ((K10 _).trans k3) ?_
  refine zu_astore_n d_4098_38 (zs_rr _) (zs_lt zq_4098 rfl) ?_
  refine zs_U.weak (L1 := [(2, va_rf (zs_R S8 11005 b1)), (0, .ref p0), (1, va_rf p1)]) ?_ ⟨rfl, zs_gp1 rfl (Or.inl rfl) rfl, zs_gp1 rfl (Or.inl (zs_cat _)) rfl, trivial⟩
  refine zu_goto (t := 2) d_4098_39 rfl ?_
  exact h.weak ⟨rfl, rfl, rfl, trivial⟩
def w_X5_address_2 (X : zs_X) (d : Nat) (p0 : Nat) (p1 : Option Nat) (p2 : Option Nat) (S : zs_T) (Q : zs_Q) : Prop :=
  (∃ b1, p2 = some b1 ∧ zs_K S b1 = some (.inl 11) ∧ (((zs_I S 11000 b1) = (3 : Int32) → w_X5_address_26 X d p0 p1 p2 S Q) ∧ (¬ ((zs_I S 11000 b1) = (3 : Int32)) → ((((zs_I S 11000 b1) = (4 : Int32) → w_X5_address_26 X d p0 p1 p2 S Q) ∧ (¬ ((zs_I S 11000 b1) = (4 : Int32)) → (((¬ (zs_I S 11000 b1) = (5 : Int32) → (zs_K S p0 = some (.inl 4) ∧ zs_C X d 4099 [.ref p0, va_rf p2] S (zs_kV (fun S8 => zs_U X d 4098 47 [(0, .ref p0), (1, va_rf p1), (2, va_rf p2)] [] S8 Q) Q))) ∧ (¬ (¬ (zs_I S 11000 b1) = (5 : Int32)) → w_X5_address_26 X d p0 p1 p2 S Q)))))))))
theorem u_X5_address_2 {σ : Nat → Nat} {n0 : Nat} {bf : ab_B} {d : Nat} {p0 : Nat} {p1 : Option Nat} {p2 : Option Nat} {S : zs_T} {Q : zs_Q} (hB : zt_B bf) (h : w_X5_address_2 (zx σ n0 bf) d p0 p1 p2 S Q) : zs_U (zx σ n0 bf) d 4098 2 [(0, .ref p0), (1, va_rf p1), (2, va_rf p2)] [] S Q := by
  unfold w_X5_address_2 at h
  refine zu_aload_n d_4098_2 rfl (zs_rr _) ?_
  obtain ⟨b1, e2, h⟩ := h
  refine zs_stk0 (zs_rfe e2) ?_
  obtain ⟨k3, h⟩ := h
  refine zg_4_512 rfl d_4098_3 k3 ?_
  refine zu_iconst d_4098_6 zi_3 ?_
  refine zu_cmpeq (t := 26) d_4098_7 rfl (fun c4 => ?_) (fun c4 => ?_)
  · have h := h.1 c4
    exact (u_X5_address_26 hB h).weak ⟨rfl, rfl, rfl, trivial⟩
  · have h := h.2 c4
    refine zu_aload_n d_4098_10 rfl (zs_rr _) ?_
    refine zs_stk0 (zs_rfe e2) ?_
    refine zg_4_512 rfl d_4098_11 k3 ?_
    refine zu_iconst d_4098_14 zi_4 ?_
    refine zu_cmpeq (t := 26) d_4098_15 rfl (fun c5 => ?_) (fun c5 => ?_)
    · have h := h.1 c5
      exact (u_X5_address_26 hB h).weak ⟨rfl, rfl, rfl, trivial⟩
    · have h := h.2 c5
      refine zu_aload_n d_4098_18 rfl (zs_rr _) ?_
      refine zs_stk0 (zs_rfe e2) ?_
      refine zg_4_512 rfl d_4098_19 k3 ?_
      refine zu_iconst d_4098_22 zi_5 ?_
      refine zu_cmpne (t := 42) d_4098_23 rfl (fun c6 => ?_) (fun c6 => ?_)
      · have h := h.1 c6
        refine zu_aload_n d_4098_42 rfl (zs_ra _) ?_
        refine zu_aload_n d_4098_43 rfl (zs_rr _) ?_
        obtain ⟨k7, h⟩ := h
        refine zc_4_736 (x0 := p2) hB rfl k7 d_4098_44 (Nat.le_of_ble_eq_true rfl) h (fun S8 h => ?_)
        exact h.weak ⟨rfl, rfl, rfl, trivial⟩
      · have h := h.2 c6
        exact (u_X5_address_26 hB h).weak ⟨rfl, rfl, rfl, trivial⟩
def w_X5_address_47 (X : zs_X) (d : Nat) (p0 : Nat) (p1 : Option Nat) (p2 : Option Nat) (S : zs_T) (Q : zs_Q) : Prop :=
  (((p2 = p1 → (Q (.returned none) S)) ∧ (¬ (p2 = p1) → (∃ b2, p2 = some b2 ∧ zs_K S b2 = some (.inl 11) ∧ zs_K S p0 = some (.inl 4) ∧ zs_C X d 4099 [.ref p0, va_rf (zs_R S 11008 b2)] S (zs_kV (fun S6 => (zs_U X d 4098 47 [(0, .ref p0), (1, va_rf p1), (2, va_rf (zs_R S 11008 b2))] [] S6 Q)) Q)))))
theorem u_X5_address_47 {σ : Nat → Nat} {n0 : Nat} {bf : ab_B} {d : Nat} {p0 : Nat} {p1 : Option Nat} {p2 : Option Nat} {S : zs_T} {Q : zs_Q} (hB : zt_B bf) (h : w_X5_address_47 (zx σ n0 bf) d p0 p1 p2 S Q) : zs_U (zx σ n0 bf) d 4098 47 [(0, .ref p0), (1, va_rf p1), (2, va_rf p2)] [] S Q := by
  unfold w_X5_address_47 at h
  refine zu_aload_n d_4098_47 rfl (zs_rr _) ?_
  refine zu_aload_n d_4098_48 rfl (zs_rr _) ?_
  refine zu_acmpeq (u := p2) (w := p1) (t := 65) d_4098_49 rfl rfl rfl (fun c1 => ?_) (fun c1 => ?_)
  · have h := h.1 c1
    exact zu_vret d_4098_65 zr_4098 h
  · have h := h.2 c1
    refine zu_aload_n d_4098_52 rfl (zs_rr _) ?_
    obtain ⟨b2, e3, h⟩ := h
    refine zs_stk0 (zs_rfe e3) ?_
    obtain ⟨k4, h⟩ := h
    refine zg_4_730 rfl d_4098_53 k4 ?_
    refine zu_astore_n d_4098_56 (zs_rr _) (zs_lt zq_4098 rfl) ?_
    refine zs_U.weak (L1 := [(2, va_rf (zs_R S 11008 b2)), (0, .ref p0), (1, va_rf p1)]) ?_ ⟨rfl, zs_gp1 rfl (Or.inl rfl) rfl, zs_gp1 rfl (Or.inl (zs_cat _)) rfl, trivial⟩
    refine zu_aload_n d_4098_57 rfl (zs_ra _) ?_
    refine zu_aload_n d_4098_58 rfl (zs_rr _) ?_
    obtain ⟨k5, h⟩ := h
    refine zc_4_736 (x0 := (zs_R S 11008 b2)) hB rfl k5 d_4098_59 (Nat.le_of_ble_eq_true rfl) h (fun S6 h => ?_)
    refine zu_goto (t := 47) d_4098_62 rfl ?_
    exact h.weak ⟨rfl, rfl, rfl, trivial⟩
def w_X5_address (X : zs_X) (d : Nat) (p0 : Nat) (p1 : Option Nat) (S : zs_T) (Q : zs_Q) : Prop :=
  (zs_U X d 4098 2 [(0, .ref p0), (1, va_rf p1), (2, va_rf p1)] [] S Q)
theorem u_X5_address {σ : Nat → Nat} {n0 : Nat} {bf : ab_B} {d : Nat} {p0 : Nat} {p1 : Option Nat} {S : zs_T} {Q : zs_Q} (hB : zt_B bf) (hd : 1 ≤ d) (h : w_X5_address (zx σ n0 bf) (d - 1) p0 p1 S Q) : zs_C (zx σ n0 bf) d 4098 [.ref p0, va_rf p1] S Q := by
  have hL : lv_args 0 [.ref p0, va_rf p1] = [(0, .ref p0), (1, va_rf p1)] := by simp [lv_args, zs_cat, zs_cI, zs_cJ, zs_cA]
  refine zs_C.of1 (hB.2 4098 (by decide) (by decide)) hd (by rw [hL]; exact zs_sub_self _ (by exact ⟨rfl, rfl, trivial⟩)) ?_
  rw [hL]
  clear hL
  unfold w_X5_address at h
  refine zu_aload_n d_4098_0 rfl (zs_rr _) ?_
  refine zu_astore_n d_4098_1 (zs_rr _) (zs_lt zq_4098 rfl) ?_
  refine zs_U.weak (L1 := [(2, va_rf p1), (0, .ref p0), (1, va_rf p1)]) ?_ ⟨rfl, zs_gp1 rfl (Or.inl rfl) rfl, zs_gp1 rfl (Or.inl (zs_cat _)) rfl, trivial⟩
  exact h.weak ⟨rfl, rfl, rfl, trivial⟩
/-! SchemaPascal$Reader.part(LSchemaPascal$Node;)V -/
theorem zm_4099 {σ : Nat → Nat} {n0 : Nat} {bf : ab_B} : ab_code (zx σ n0 bf).1 4099 = prog_9_method_95_code := rfl
theorem zq_4099 {σ : Nat → Nat} {n0 : Nat} {bf : ab_B} : ab_maxL (zx σ n0 bf).1 4099 = 2 := rfl
theorem zr_4099 {σ : Nat → Nat} {n0 : Nat} {bf : ab_B} : ab_ret (zx σ n0 bf).1 4099 = (Option.none : Option Jvm.ClassFile.FieldType) := rfl
theorem d_4099_0 {σ : Nat → Nat} {n0 : Nat} {bf : ab_B} : decode (ab_code (zx σ n0 bf).1 4099) 0 = .ok (.aload_n 1, 1) := zd zm_4099 (by decide +kernel)
theorem d_4099_1 {σ : Nat → Nat} {n0 : Nat} {bf : ab_B} : decode (ab_code (zx σ n0 bf).1 4099) 1 = .ok (.getfield 512, 3) := zd zm_4099 (by decide +kernel)
theorem d_4099_4 {σ : Nat → Nat} {n0 : Nat} {bf : ab_B} : decode (ab_code (zx σ n0 bf).1 4099) 4 = .ok (.tableswitch 164 2 4 #[28, 73, 106], 28) := zd zm_4099 (by decide +kernel)
theorem d_4099_32 {σ : Nat → Nat} {n0 : Nat} {bf : ab_B} : decode (ab_code (zx σ n0 bf).1 4099) 32 = .ok (.aload_n 0, 1) := zd zm_4099 (by decide +kernel)
theorem d_4099_33 {σ : Nat → Nat} {n0 : Nat} {bf : ab_B} : decode (ab_code (zx σ n0 bf).1 4099) 33 = .ok (.iconst 3, 1) := zd zm_4099 (by decide +kernel)
theorem d_4099_34 {σ : Nat → Nat} {n0 : Nat} {bf : ab_B} : decode (ab_code (zx σ n0 bf).1 4099) 34 = .ok (.aload_n 1, 1) := zd zm_4099 (by decide +kernel)
theorem d_4099_35 {σ : Nat → Nat} {n0 : Nat} {bf : ab_B} : decode (ab_code (zx σ n0 bf).1 4099) 35 = .ok (.getfield 469, 3) := zd zm_4099 (by decide +kernel)
theorem d_4099_38 {σ : Nat → Nat} {n0 : Nat} {bf : ab_B} : decode (ab_code (zx σ n0 bf).1 4099) 38 = .ok (.aload_n 0, 1) := zd zm_4099 (by decide +kernel)
theorem d_4099_39 {σ : Nat → Nat} {n0 : Nat} {bf : ab_B} : decode (ab_code (zx σ n0 bf).1 4099) 39 = .ok (.getfield 218, 3) := zd zm_4099 (by decide +kernel)
theorem d_4099_42 {σ : Nat → Nat} {n0 : Nat} {bf : ab_B} : decode (ab_code (zx σ n0 bf).1 4099) 42 = .ok (.getfield 738, 3) := zd zm_4099 (by decide +kernel)
theorem d_4099_45 {σ : Nat → Nat} {n0 : Nat} {bf : ab_B} : decode (ab_code (zx σ n0 bf).1 4099) 45 = .ok (.aload_n 1, 1) := zd zm_4099 (by decide +kernel)
theorem d_4099_46 {σ : Nat → Nat} {n0 : Nat} {bf : ab_B} : decode (ab_code (zx σ n0 bf).1 4099) 46 = .ok (.getfield 664, 3) := zd zm_4099 (by decide +kernel)
theorem d_4099_49 {σ : Nat → Nat} {n0 : Nat} {bf : ab_B} : decode (ab_code (zx σ n0 bf).1 4099) 49 = .ok (.getfield 107, 3) := zd zm_4099 (by decide +kernel)
theorem d_4099_52 {σ : Nat → Nat} {n0 : Nat} {bf : ab_B} : decode (ab_code (zx σ n0 bf).1 4099) 52 = .ok (.getfield 738, 3) := zd zm_4099 (by decide +kernel)
theorem d_4099_55 {σ : Nat → Nat} {n0 : Nat} {bf : ab_B} : decode (ab_code (zx σ n0 bf).1 4099) 55 = .ok (.isub, 1) := zd zm_4099 (by decide +kernel)
theorem d_4099_56 {σ : Nat → Nat} {n0 : Nat} {bf : ab_B} : decode (ab_code (zx σ n0 bf).1 4099) 56 = .ok (.invokevirtual 712, 3) := zd zm_4099 (by decide +kernel)
theorem d_4099_59 {σ : Nat → Nat} {n0 : Nat} {bf : ab_B} : decode (ab_code (zx σ n0 bf).1 4099) 59 = .ok (.aload_n 0, 1) := zd zm_4099 (by decide +kernel)
theorem d_4099_60 {σ : Nat → Nat} {n0 : Nat} {bf : ab_B} : decode (ab_code (zx σ n0 bf).1 4099) 60 = .ok (.getfield 128, 3) := zd zm_4099 (by decide +kernel)
theorem d_4099_63 {σ : Nat → Nat} {n0 : Nat} {bf : ab_B} : decode (ab_code (zx σ n0 bf).1 4099) 63 = .ok (.aload_n 1, 1) := zd zm_4099 (by decide +kernel)
theorem d_4099_64 {σ : Nat → Nat} {n0 : Nat} {bf : ab_B} : decode (ab_code (zx σ n0 bf).1 4099) 64 = .ok (.getfield 664, 3) := zd zm_4099 (by decide +kernel)
theorem d_4099_67 {σ : Nat → Nat} {n0 : Nat} {bf : ab_B} : decode (ab_code (zx σ n0 bf).1 4099) 67 = .ok (.getfield 104, 3) := zd zm_4099 (by decide +kernel)
theorem d_4099_70 {σ : Nat → Nat} {n0 : Nat} {bf : ab_B} : decode (ab_code (zx σ n0 bf).1 4099) 70 = .ok (.invokevirtual 709, 3) := zd zm_4099 (by decide +kernel)
theorem d_4099_73 {σ : Nat → Nat} {n0 : Nat} {bf : ab_B} : decode (ab_code (zx σ n0 bf).1 4099) 73 = .ok (.pop, 1) := zd zm_4099 (by decide +kernel)
theorem d_4099_74 {σ : Nat → Nat} {n0 : Nat} {bf : ab_B} : decode (ab_code (zx σ n0 bf).1 4099) 74 = .ok (.goto 131, 3) := zd zm_4099 (by decide +kernel)
theorem d_4099_77 {σ : Nat → Nat} {n0 : Nat} {bf : ab_B} : decode (ab_code (zx σ n0 bf).1 4099) 77 = .ok (.aload_n 0, 1) := zd zm_4099 (by decide +kernel)
theorem d_4099_78 {σ : Nat → Nat} {n0 : Nat} {bf : ab_B} : decode (ab_code (zx σ n0 bf).1 4099) 78 = .ok (.aload_n 1, 1) := zd zm_4099 (by decide +kernel)
theorem d_4099_79 {σ : Nat → Nat} {n0 : Nat} {bf : ab_B} : decode (ab_code (zx σ n0 bf).1 4099) 79 = .ok (.getfield 536, 3) := zd zm_4099 (by decide +kernel)
theorem d_4099_82 {σ : Nat → Nat} {n0 : Nat} {bf : ab_B} : decode (ab_code (zx σ n0 bf).1 4099) 82 = .ok (.invokevirtual 721, 3) := zd zm_4099 (by decide +kernel)
theorem d_4099_85 {σ : Nat → Nat} {n0 : Nat} {bf : ab_B} : decode (ab_code (zx σ n0 bf).1 4099) 85 = .ok (.aload_n 0, 1) := zd zm_4099 (by decide +kernel)
theorem d_4099_86 {σ : Nat → Nat} {n0 : Nat} {bf : ab_B} : decode (ab_code (zx σ n0 bf).1 4099) 86 = .ok (.iconst 4, 1) := zd zm_4099 (by decide +kernel)
theorem d_4099_87 {σ : Nat → Nat} {n0 : Nat} {bf : ab_B} : decode (ab_code (zx σ n0 bf).1 4099) 87 = .ok (.aload_n 1, 1) := zd zm_4099 (by decide +kernel)
theorem d_4099_88 {σ : Nat → Nat} {n0 : Nat} {bf : ab_B} : decode (ab_code (zx σ n0 bf).1 4099) 88 = .ok (.getfield 469, 3) := zd zm_4099 (by decide +kernel)
theorem d_4099_91 {σ : Nat → Nat} {n0 : Nat} {bf : ab_B} : decode (ab_code (zx σ n0 bf).1 4099) 91 = .ok (.aload_n 1, 1) := zd zm_4099 (by decide +kernel)
theorem d_4099_92 {σ : Nat → Nat} {n0 : Nat} {bf : ab_B} : decode (ab_code (zx σ n0 bf).1 4099) 92 = .ok (.getfield 539, 3) := zd zm_4099 (by decide +kernel)
theorem d_4099_95 {σ : Nat → Nat} {n0 : Nat} {bf : ab_B} : decode (ab_code (zx σ n0 bf).1 4099) 95 = .ok (.getfield 297, 3) := zd zm_4099 (by decide +kernel)
theorem d_4099_98 {σ : Nat → Nat} {n0 : Nat} {bf : ab_B} : decode (ab_code (zx σ n0 bf).1 4099) 98 = .ok (.invokevirtual 69, 3) := zd zm_4099 (by decide +kernel)
theorem d_4099_101 {σ : Nat → Nat} {n0 : Nat} {bf : ab_B} : decode (ab_code (zx σ n0 bf).1 4099) 101 = .ok (.getfield 137, 3) := zd zm_4099 (by decide +kernel)
theorem d_4099_104 {σ : Nat → Nat} {n0 : Nat} {bf : ab_B} : decode (ab_code (zx σ n0 bf).1 4099) 104 = .ok (.invokevirtual 712, 3) := zd zm_4099 (by decide +kernel)
theorem d_4099_107 {σ : Nat → Nat} {n0 : Nat} {bf : ab_B} : decode (ab_code (zx σ n0 bf).1 4099) 107 = .ok (.goto 98, 3) := zd zm_4099 (by decide +kernel)
theorem d_4099_110 {σ : Nat → Nat} {n0 : Nat} {bf : ab_B} : decode (ab_code (zx σ n0 bf).1 4099) 110 = .ok (.aload_n 0, 1) := zd zm_4099 (by decide +kernel)
theorem d_4099_111 {σ : Nat → Nat} {n0 : Nat} {bf : ab_B} : decode (ab_code (zx σ n0 bf).1 4099) 111 = .ok (.iconst 5, 1) := zd zm_4099 (by decide +kernel)
theorem d_4099_112 {σ : Nat → Nat} {n0 : Nat} {bf : ab_B} : decode (ab_code (zx σ n0 bf).1 4099) 112 = .ok (.aload_n 1, 1) := zd zm_4099 (by decide +kernel)
theorem d_4099_113 {σ : Nat → Nat} {n0 : Nat} {bf : ab_B} : decode (ab_code (zx σ n0 bf).1 4099) 113 = .ok (.getfield 469, 3) := zd zm_4099 (by decide +kernel)
theorem d_4099_116 {σ : Nat → Nat} {n0 : Nat} {bf : ab_B} : decode (ab_code (zx σ n0 bf).1 4099) 116 = .ok (.aload_n 1, 1) := zd zm_4099 (by decide +kernel)
theorem d_4099_117 {σ : Nat → Nat} {n0 : Nat} {bf : ab_B} : decode (ab_code (zx σ n0 bf).1 4099) 117 = .ok (.getfield 539, 3) := zd zm_4099 (by decide +kernel)
theorem d_4099_120 {σ : Nat → Nat} {n0 : Nat} {bf : ab_B} : decode (ab_code (zx σ n0 bf).1 4099) 120 = .ok (.getfield 297, 3) := zd zm_4099 (by decide +kernel)
theorem d_4099_123 {σ : Nat → Nat} {n0 : Nat} {bf : ab_B} : decode (ab_code (zx σ n0 bf).1 4099) 123 = .ok (.invokevirtual 69, 3) := zd zm_4099 (by decide +kernel)
theorem d_4099_126 {σ : Nat → Nat} {n0 : Nat} {bf : ab_B} : decode (ab_code (zx σ n0 bf).1 4099) 126 = .ok (.getfield 137, 3) := zd zm_4099 (by decide +kernel)
theorem d_4099_129 {σ : Nat → Nat} {n0 : Nat} {bf : ab_B} : decode (ab_code (zx σ n0 bf).1 4099) 129 = .ok (.invokevirtual 712, 3) := zd zm_4099 (by decide +kernel)
theorem d_4099_132 {σ : Nat → Nat} {n0 : Nat} {bf : ab_B} : decode (ab_code (zx σ n0 bf).1 4099) 132 = .ok (.aload_n 0, 1) := zd zm_4099 (by decide +kernel)
theorem d_4099_133 {σ : Nat → Nat} {n0 : Nat} {bf : ab_B} : decode (ab_code (zx σ n0 bf).1 4099) 133 = .ok (.getfield 128, 3) := zd zm_4099 (by decide +kernel)
theorem d_4099_136 {σ : Nat → Nat} {n0 : Nat} {bf : ab_B} : decode (ab_code (zx σ n0 bf).1 4099) 136 = .ok (.aload_n 0, 1) := zd zm_4099 (by decide +kernel)
theorem d_4099_137 {σ : Nat → Nat} {n0 : Nat} {bf : ab_B} : decode (ab_code (zx σ n0 bf).1 4099) 137 = .ok (.getfield 128, 3) := zd zm_4099 (by decide +kernel)
theorem d_4099_140 {σ : Nat → Nat} {n0 : Nat} {bf : ab_B} : decode (ab_code (zx σ n0 bf).1 4099) 140 = .ok (.getfield 741, 3) := zd zm_4099 (by decide +kernel)
theorem d_4099_143 {σ : Nat → Nat} {n0 : Nat} {bf : ab_B} : decode (ab_code (zx σ n0 bf).1 4099) 143 = .ok (.invokevirtual 50, 3) := zd zm_4099 (by decide +kernel)
theorem d_4099_146 {σ : Nat → Nat} {n0 : Nat} {bf : ab_B} : decode (ab_code (zx σ n0 bf).1 4099) 146 = .ok (.invokevirtual 709, 3) := zd zm_4099 (by decide +kernel)
theorem d_4099_149 {σ : Nat → Nat} {n0 : Nat} {bf : ab_B} : decode (ab_code (zx σ n0 bf).1 4099) 149 = .ok (.pop, 1) := zd zm_4099 (by decide +kernel)
theorem d_4099_150 {σ : Nat → Nat} {n0 : Nat} {bf : ab_B} : decode (ab_code (zx σ n0 bf).1 4099) 150 = .ok (.aload_n 0, 1) := zd zm_4099 (by decide +kernel)
theorem d_4099_151 {σ : Nat → Nat} {n0 : Nat} {bf : ab_B} : decode (ab_code (zx σ n0 bf).1 4099) 151 = .ok (.getfield 128, 3) := zd zm_4099 (by decide +kernel)
theorem d_4099_154 {σ : Nat → Nat} {n0 : Nat} {bf : ab_B} : decode (ab_code (zx σ n0 bf).1 4099) 154 = .ok (.getfield 741, 3) := zd zm_4099 (by decide +kernel)
theorem d_4099_157 {σ : Nat → Nat} {n0 : Nat} {bf : ab_B} : decode (ab_code (zx σ n0 bf).1 4099) 157 = .ok (.aload_n 1, 1) := zd zm_4099 (by decide +kernel)
theorem d_4099_158 {σ : Nat → Nat} {n0 : Nat} {bf : ab_B} : decode (ab_code (zx σ n0 bf).1 4099) 158 = .ok (.getfield 670, 3) := zd zm_4099 (by decide +kernel)
theorem d_4099_161 {σ : Nat → Nat} {n0 : Nat} {bf : ab_B} : decode (ab_code (zx σ n0 bf).1 4099) 161 = .ok (.invokevirtual 140, 3) := zd zm_4099 (by decide +kernel)
theorem d_4099_164 {σ : Nat → Nat} {n0 : Nat} {bf : ab_B} : decode (ab_code (zx σ n0 bf).1 4099) 164 = .ok (.pop, 1) := zd zm_4099 (by decide +kernel)
theorem d_4099_165 {σ : Nat → Nat} {n0 : Nat} {bf : ab_B} : decode (ab_code (zx σ n0 bf).1 4099) 165 = .ok (.goto 40, 3) := zd zm_4099 (by decide +kernel)
theorem d_4099_168 {σ : Nat → Nat} {n0 : Nat} {bf : ab_B} : decode (ab_code (zx σ n0 bf).1 4099) 168 = .ok (.aload_n 0, 1) := zd zm_4099 (by decide +kernel)
theorem d_4099_169 {σ : Nat → Nat} {n0 : Nat} {bf : ab_B} : decode (ab_code (zx σ n0 bf).1 4099) 169 = .ok (.bipush 8, 2) := zd zm_4099 (by decide +kernel)
theorem d_4099_171 {σ : Nat → Nat} {n0 : Nat} {bf : ab_B} : decode (ab_code (zx σ n0 bf).1 4099) 171 = .ok (.aload_n 1, 1) := zd zm_4099 (by decide +kernel)
theorem d_4099_172 {σ : Nat → Nat} {n0 : Nat} {bf : ab_B} : decode (ab_code (zx σ n0 bf).1 4099) 172 = .ok (.getfield 469, 3) := zd zm_4099 (by decide +kernel)
theorem d_4099_175 {σ : Nat → Nat} {n0 : Nat} {bf : ab_B} : decode (ab_code (zx σ n0 bf).1 4099) 175 = .ok (.aload_n 1, 1) := zd zm_4099 (by decide +kernel)
theorem d_4099_176 {σ : Nat → Nat} {n0 : Nat} {bf : ab_B} : decode (ab_code (zx σ n0 bf).1 4099) 176 = .ok (.getfield 539, 3) := zd zm_4099 (by decide +kernel)
theorem d_4099_179 {σ : Nat → Nat} {n0 : Nat} {bf : ab_B} : decode (ab_code (zx σ n0 bf).1 4099) 179 = .ok (.getfield 297, 3) := zd zm_4099 (by decide +kernel)
theorem d_4099_182 {σ : Nat → Nat} {n0 : Nat} {bf : ab_B} : decode (ab_code (zx σ n0 bf).1 4099) 182 = .ok (.getfield 137, 3) := zd zm_4099 (by decide +kernel)
theorem d_4099_185 {σ : Nat → Nat} {n0 : Nat} {bf : ab_B} : decode (ab_code (zx σ n0 bf).1 4099) 185 = .ok (.invokevirtual 712, 3) := zd zm_4099 (by decide +kernel)
theorem d_4099_188 {σ : Nat → Nat} {n0 : Nat} {bf : ab_B} : decode (ab_code (zx σ n0 bf).1 4099) 188 = .ok (.aload_n 0, 1) := zd zm_4099 (by decide +kernel)
theorem d_4099_189 {σ : Nat → Nat} {n0 : Nat} {bf : ab_B} : decode (ab_code (zx σ n0 bf).1 4099) 189 = .ok (.bipush 7, 2) := zd zm_4099 (by decide +kernel)
theorem d_4099_191 {σ : Nat → Nat} {n0 : Nat} {bf : ab_B} : decode (ab_code (zx σ n0 bf).1 4099) 191 = .ok (.aload_n 1, 1) := zd zm_4099 (by decide +kernel)
theorem d_4099_192 {σ : Nat → Nat} {n0 : Nat} {bf : ab_B} : decode (ab_code (zx σ n0 bf).1 4099) 192 = .ok (.getfield 469, 3) := zd zm_4099 (by decide +kernel)
theorem d_4099_195 {σ : Nat → Nat} {n0 : Nat} {bf : ab_B} : decode (ab_code (zx σ n0 bf).1 4099) 195 = .ok (.aload_n 1, 1) := zd zm_4099 (by decide +kernel)
theorem d_4099_196 {σ : Nat → Nat} {n0 : Nat} {bf : ab_B} : decode (ab_code (zx σ n0 bf).1 4099) 196 = .ok (.getfield 297, 3) := zd zm_4099 (by decide +kernel)
theorem d_4099_199 {σ : Nat → Nat} {n0 : Nat} {bf : ab_B} : decode (ab_code (zx σ n0 bf).1 4099) 199 = .ok (.getfield 137, 3) := zd zm_4099 (by decide +kernel)
theorem d_4099_202 {σ : Nat → Nat} {n0 : Nat} {bf : ab_B} : decode (ab_code (zx σ n0 bf).1 4099) 202 = .ok (.invokevirtual 712, 3) := zd zm_4099 (by decide +kernel)
theorem d_4099_205 {σ : Nat → Nat} {n0 : Nat} {bf : ab_B} : decode (ab_code (zx σ n0 bf).1 4099) 205 = .ok (.aload_n 1, 1) := zd zm_4099 (by decide +kernel)
theorem d_4099_206 {σ : Nat → Nat} {n0 : Nat} {bf : ab_B} : decode (ab_code (zx σ n0 bf).1 4099) 206 = .ok (.getfield 512, 3) := zd zm_4099 (by decide +kernel)
theorem d_4099_209 {σ : Nat → Nat} {n0 : Nat} {bf : ab_B} : decode (ab_code (zx σ n0 bf).1 4099) 209 = .ok (.iconst 3, 1) := zd zm_4099 (by decide +kernel)
theorem d_4099_210 {σ : Nat → Nat} {n0 : Nat} {bf : ab_B} : decode (ab_code (zx σ n0 bf).1 4099) 210 = .ok (.if_icmp .eq 11, 3) := zd zm_4099 (by decide +kernel)
theorem d_4099_213 {σ : Nat → Nat} {n0 : Nat} {bf : ab_B} : decode (ab_code (zx σ n0 bf).1 4099) 213 = .ok (.aload_n 1, 1) := zd zm_4099 (by decide +kernel)
theorem d_4099_214 {σ : Nat → Nat} {n0 : Nat} {bf : ab_B} : decode (ab_code (zx σ n0 bf).1 4099) 214 = .ok (.getfield 512, 3) := zd zm_4099 (by decide +kernel)
theorem d_4099_217 {σ : Nat → Nat} {n0 : Nat} {bf : ab_B} : decode (ab_code (zx σ n0 bf).1 4099) 217 = .ok (.iconst 4, 1) := zd zm_4099 (by decide +kernel)
theorem d_4099_218 {σ : Nat → Nat} {n0 : Nat} {bf : ab_B} : decode (ab_code (zx σ n0 bf).1 4099) 218 = .ok (.if_icmp .ne 32, 3) := zd zm_4099 (by decide +kernel)
theorem d_4099_221 {σ : Nat → Nat} {n0 : Nat} {bf : ab_B} : decode (ab_code (zx σ n0 bf).1 4099) 221 = .ok (.aload_n 1, 1) := zd zm_4099 (by decide +kernel)
theorem d_4099_222 {σ : Nat → Nat} {n0 : Nat} {bf : ab_B} : decode (ab_code (zx σ n0 bf).1 4099) 222 = .ok (.getfield 297, 3) := zd zm_4099 (by decide +kernel)
theorem d_4099_225 {σ : Nat → Nat} {n0 : Nat} {bf : ab_B} : decode (ab_code (zx σ n0 bf).1 4099) 225 = .ok (.getfield 369, 3) := zd zm_4099 (by decide +kernel)
theorem d_4099_228 {σ : Nat → Nat} {n0 : Nat} {bf : ab_B} : decode (ab_code (zx σ n0 bf).1 4099) 228 = .ok (.bipush 11, 2) := zd zm_4099 (by decide +kernel)
theorem d_4099_230 {σ : Nat → Nat} {n0 : Nat} {bf : ab_B} : decode (ab_code (zx σ n0 bf).1 4099) 230 = .ok (.if_icmp .ne 20, 3) := zd zm_4099 (by decide +kernel)
theorem d_4099_233 {σ : Nat → Nat} {n0 : Nat} {bf : ab_B} : decode (ab_code (zx σ n0 bf).1 4099) 233 = .ok (.aload_n 0, 1) := zd zm_4099 (by decide +kernel)
theorem d_4099_234 {σ : Nat → Nat} {n0 : Nat} {bf : ab_B} : decode (ab_code (zx σ n0 bf).1 4099) 234 = .ok (.bipush 6, 2) := zd zm_4099 (by decide +kernel)
theorem d_4099_236 {σ : Nat → Nat} {n0 : Nat} {bf : ab_B} : decode (ab_code (zx σ n0 bf).1 4099) 236 = .ok (.aload_n 1, 1) := zd zm_4099 (by decide +kernel)
theorem d_4099_237 {σ : Nat → Nat} {n0 : Nat} {bf : ab_B} : decode (ab_code (zx σ n0 bf).1 4099) 237 = .ok (.getfield 469, 3) := zd zm_4099 (by decide +kernel)
theorem d_4099_240 {σ : Nat → Nat} {n0 : Nat} {bf : ab_B} : decode (ab_code (zx σ n0 bf).1 4099) 240 = .ok (.aload_n 1, 1) := zd zm_4099 (by decide +kernel)
theorem d_4099_241 {σ : Nat → Nat} {n0 : Nat} {bf : ab_B} : decode (ab_code (zx σ n0 bf).1 4099) 241 = .ok (.getfield 297, 3) := zd zm_4099 (by decide +kernel)
theorem d_4099_244 {σ : Nat → Nat} {n0 : Nat} {bf : ab_B} : decode (ab_code (zx σ n0 bf).1 4099) 244 = .ok (.getfield 137, 3) := zd zm_4099 (by decide +kernel)
theorem d_4099_247 {σ : Nat → Nat} {n0 : Nat} {bf : ab_B} : decode (ab_code (zx σ n0 bf).1 4099) 247 = .ok (.invokevirtual 712, 3) := zd zm_4099 (by decide +kernel)
theorem d_4099_250 {σ : Nat → Nat} {n0 : Nat} {bf : ab_B} : decode (ab_code (zx σ n0 bf).1 4099) 250 = .ok (.return_, 1) := zd zm_4099 (by decide +kernel)
def w_X5_part_2_221 (X : zs_X) (d : Nat) (p0 : Nat) (p1 : Option Nat) (S : zs_T) (Q : zs_Q) : Prop :=
  (∃ b1, p1 = some b1 ∧ zs_K S b1 = some (.inl 11) ∧ ∃ b4, (zs_R S 11002 b1) = some b4 ∧ zs_K S b4 = some (.inl 6) ∧ ((¬ (zs_I S 6000 b4) = (11 : Int32) → (Q (.returned none) S)) ∧ (¬ (¬ (zs_I S 6000 b4) = (11 : Int32)) → (zs_K S p0 = some (.inl 4) ∧ zs_C X d 4097 [.ref p0, .int (6 : Int32), .int (zs_I S 11001 b1), .int (zs_I S 6001 b4)] S (zs_kV (fun S9 => (Q (.returned none) S9)) Q)))))
theorem u_X5_part_2_221 {σ : Nat → Nat} {n0 : Nat} {bf : ab_B} {d : Nat} {p0 : Nat} {p1 : Option Nat} {S : zs_T} {Q : zs_Q} (hB : zt_B bf) (h : w_X5_part_2_221 (zx σ n0 bf) d p0 p1 S Q) : zs_U (zx σ n0 bf) d 4099 221 [(0, .ref p0), (1, va_rf p1)] [] S Q := by
  unfold w_X5_part_2_221 at h
  refine zu_aload_n d_4099_221 rfl (zs_rr _) ?_
  obtain ⟨b1, e2, h⟩ := h
  refine zs_stk0 (zs_rfe e2) ?_
  obtain ⟨k3, h⟩ := h
  refine zg_4_297 rfl d_4099_222 k3 ?_
  obtain ⟨b4, e5, h⟩ := h
  refine zs_stk0 (zs_rfe e5) ?_
  obtain ⟨k6, h⟩ := h
  refine zg_4_369 rfl d_4099_225 k6 ?_
  refine zu_bipush d_4099_228 zj_11 ?_
  refine zu_cmpne (t := 250) d_4099_230 rfl (fun c7 => ?_) (fun c7 => ?_)
  · have h := h.1 c7
    exact zu_vret d_4099_250 zr_4099 h
  · have h := h.2 c7
    refine zu_aload_n d_4099_233 rfl (zs_ra _) ?_
    refine zu_bipush d_4099_234 zj_6 ?_
    refine zu_aload_n d_4099_236 rfl (zs_rr _) ?_
    refine zs_stk0 (zs_rfe e2) ?_
    refine zg_4_469 rfl d_4099_237 k3 ?_
    refine zu_aload_n d_4099_240 rfl (zs_rr _) ?_
    refine zs_stk0 (zs_rfe e2) ?_
    refine zg_4_297 rfl d_4099_241 k3 ?_
    refine zs_stk0 (zs_rfe e5) ?_
    refine zg_4_137 rfl d_4099_244 k6 ?_
    obtain ⟨k8, h⟩ := h
    refine zc_4_712 (x0 := (6 : Int32)) (x1 := (zs_I S 11001 b1)) (x2 := (zs_I S 6001 b4)) hB rfl k8 d_4099_247 (Nat.le_of_ble_eq_true rfl) h (fun S9 h => ?_)
    exact zu_vret d_4099_250 zr_4099 h
def w_X5_part_2_205 (X : zs_X) (d : Nat) (p0 : Nat) (p1 : Option Nat) (S : zs_T) (Q : zs_Q) : Prop :=
  (∃ b1, p1 = some b1 ∧ zs_K S b1 = some (.inl 11) ∧ (((zs_I S 11000 b1) = (3 : Int32) → w_X5_part_2_221 X d p0 p1 S Q) ∧ (¬ ((zs_I S 11000 b1) = (3 : Int32)) → (((¬ (zs_I S 11000 b1) = (4 : Int32) → (Q (.returned none) S)) ∧ (¬ (¬ (zs_I S 11000 b1) = (4 : Int32)) → w_X5_part_2_221 X d p0 p1 S Q))))))
theorem u_X5_part_2_205 {σ : Nat → Nat} {n0 : Nat} {bf : ab_B} {d : Nat} {p0 : Nat} {p1 : Option Nat} {S : zs_T} {Q : zs_Q} (hB : zt_B bf) (h : w_X5_part_2_205 (zx σ n0 bf) d p0 p1 S Q) : zs_U (zx σ n0 bf) d 4099 205 [(0, .ref p0), (1, va_rf p1)] [] S Q := by
  unfold w_X5_part_2_205 at h
  refine zu_aload_n d_4099_205 rfl (zs_rr _) ?_
  obtain ⟨b1, e2, h⟩ := h
  refine zs_stk0 (zs_rfe e2) ?_
  obtain ⟨k3, h⟩ := h
  refine zg_4_512 rfl d_4099_206 k3 ?_
  refine zu_iconst d_4099_209 zi_3 ?_
  refine zu_cmpeq (t := 221) d_4099_210 rfl (fun c4 => ?_) (fun c4 => ?_)
  · have h := h.1 c4
    exact (u_X5_part_2_221 hB h).weak ⟨rfl, rfl, trivial⟩
  · have h := h.2 c4
    refine zu_aload_n d_4099_213 rfl (zs_rr _) ?_
    refine zs_stk0 (zs_rfe e2) ?_
    refine zg_4_512 rfl d_4099_214 k3 ?_
    refine zu_iconst d_4099_217 zi_4 ?_
    refine zu_cmpne (t := 250) d_4099_218 rfl (fun c5 => ?_) (fun c5 => ?_)
    · have h := h.1 c5
      exact zu_vret d_4099_250 zr_4099 h
    · have h := h.2 c5
      exact (u_X5_part_2_221 hB h).weak ⟨rfl, rfl, trivial⟩
def w_X5_part_2_59 (X : zs_X) (d : Nat) (p0 : Nat) (p1 : Option Nat) (S : zs_T) (Q : zs_Q) : Prop :=
  (zs_K S p0 = some (.inl 4) ∧ ∃ b2, p1 = some b2 ∧ zs_K S b2 = some (.inl 11) ∧ ∃ b5, (zs_R S 11009 b2) = some b5 ∧ zs_K S b5 = some (.inl 7) ∧ ∃ b8, (zs_R S 4001 p0) = some b8 ∧ zs_K S b8 = some (.inl 3) ∧ zs_C X d 3002 [.ref b8, .int (zs_I S 7008 b5)] S (zs_kI (fun v12 S11 => (w_X5_part_2_205 X d p0 p1 S11 Q)) Q))
theorem u_X5_part_2_59 {σ : Nat → Nat} {n0 : Nat} {bf : ab_B} {d : Nat} {p0 : Nat} {p1 : Option Nat} {S : zs_T} {Q : zs_Q} (hB : zt_B bf) (h : w_X5_part_2_59 (zx σ n0 bf) d p0 p1 S Q) : zs_U (zx σ n0 bf) d 4099 59 [(0, .ref p0), (1, va_rf p1)] [] S Q := by
  unfold w_X5_part_2_59 at h
  refine zu_aload_n d_4099_59 rfl (zs_ra _) ?_
  obtain ⟨k1, h⟩ := h
  refine zg_4_128 rfl d_4099_60 k1 ?_
  refine zu_aload_n d_4099_63 rfl (zs_rr _) ?_
  obtain ⟨b2, e3, h⟩ := h
  refine zs_stk0 (zs_rfe e3) ?_
  obtain ⟨k4, h⟩ := h
  refine zg_4_664 rfl d_4099_64 k4 ?_
  obtain ⟨b5, e6, h⟩ := h
  refine zs_stk0 (zs_rfe e6) ?_
  obtain ⟨k7, h⟩ := h
  refine zg_4_104 rfl d_4099_67 k7 ?_
  obtain ⟨b8, e9, h⟩ := h
  refine zs_stk1 (zs_rfe e9) ?_
  obtain ⟨k10, h⟩ := h
  refine zc_4_709 (x0 := (zs_I S 7008 b5)) hB rfl k10 d_4099_70 (Nat.le_of_ble_eq_true rfl) h (fun v12 S11 h => ?_)
  refine zu_pop d_4099_73 rfl ?_
  refine zu_goto (t := 205) d_4099_74 rfl ?_
  exact (u_X5_part_2_205 hB h).weak ⟨rfl, rfl, trivial⟩
def w_X5_part_2_107 (X : zs_X) (d : Nat) (p0 : Nat) (p1 : Option Nat) (S : zs_T) (Q : zs_Q) : Prop :=
  (w_X5_part_2_205 X d p0 p1 S Q)
theorem u_X5_part_2_107 {σ : Nat → Nat} {n0 : Nat} {bf : ab_B} {d : Nat} {p0 : Nat} {p1 : Option Nat} {S : zs_T} {Q : zs_Q} (hB : zt_B bf) (h : w_X5_part_2_107 (zx σ n0 bf) d p0 p1 S Q) : zs_U (zx σ n0 bf) d 4099 107 [(0, .ref p0), (1, va_rf p1)] [] S Q := by
  unfold w_X5_part_2_107 at h
  refine zu_goto (t := 205) d_4099_107 rfl ?_
  exact (u_X5_part_2_205 hB h).weak ⟨rfl, rfl, trivial⟩
def w_X5_part_2_150 (X : zs_X) (d : Nat) (p0 : Nat) (p1 : Option Nat) (S : zs_T) (Q : zs_Q) : Prop :=
  (zs_K S p0 = some (.inl 4) ∧ ∃ b2, (zs_R S 4001 p0) = some b2 ∧ zs_K S b2 = some (.inl 3) ∧ ∃ b5, p1 = some b5 ∧ zs_K S b5 = some (.inl 11) ∧ ∃ b8, (zs_R S 3003 b2) = some b8 ∧ zs_K S b8 = some (.inl 16) ∧ zs_C X d 16002 [.ref b8, va_rf (zs_R S 11010 b5)] S (zs_kI (fun v12 S11 => (w_X5_part_2_205 X d p0 p1 S11 Q)) Q))
theorem u_X5_part_2_150 {σ : Nat → Nat} {n0 : Nat} {bf : ab_B} {d : Nat} {p0 : Nat} {p1 : Option Nat} {S : zs_T} {Q : zs_Q} (hB : zt_B bf) (h : w_X5_part_2_150 (zx σ n0 bf) d p0 p1 S Q) : zs_U (zx σ n0 bf) d 4099 150 [(0, .ref p0), (1, va_rf p1)] [] S Q := by
  unfold w_X5_part_2_150 at h
  refine zu_aload_n d_4099_150 rfl (zs_ra _) ?_
  obtain ⟨k1, h⟩ := h
  refine zg_4_128 rfl d_4099_151 k1 ?_
  obtain ⟨b2, e3, h⟩ := h
  refine zs_stk0 (zs_rfe e3) ?_
  obtain ⟨k4, h⟩ := h
  refine zg_4_741 rfl d_4099_154 k4 ?_
  refine zu_aload_n d_4099_157 rfl (zs_rr _) ?_
  obtain ⟨b5, e6, h⟩ := h
  refine zs_stk0 (zs_rfe e6) ?_
  obtain ⟨k7, h⟩ := h
  refine zg_4_670 rfl d_4099_158 k7 ?_
  obtain ⟨b8, e9, h⟩ := h
  refine zs_stk1 (zs_rfe e9) ?_
  obtain ⟨k10, h⟩ := h
  refine zc_4_140 (x0 := (zs_R S 11010 b5)) hB rfl k10 d_4099_161 (Nat.le_of_ble_eq_true rfl) h (fun v12 S11 h => ?_)
  refine zu_pop d_4099_164 rfl ?_
  refine zu_goto (t := 205) d_4099_165 rfl ?_
  exact (u_X5_part_2_205 hB h).weak ⟨rfl, rfl, trivial⟩
def w_X5_part_2 (X : zs_X) (d : Nat) (p0 : Nat) (p1 : Option Nat) (S : zs_T) (Q : zs_Q) : Prop :=
  (∃ b1, p1 = some b1 ∧ zs_K S b1 = some (.inl 11) ∧ (((zs_I S 11000 b1).toInt < 2 ∨ 4 < (zs_I S 11000 b1).toInt → (∃ b5, (zs_R S 11005 b1) = some b5 ∧ zs_K S b5 = some (.inl 11) ∧ ∃ b8, (zs_R S 11002 b5) = some b8 ∧ zs_K S b8 = some (.inl 6) ∧ zs_K S p0 = some (.inl 4) ∧ zs_C X d 4097 [.ref p0, .int (8 : Int32), .int (zs_I S 11001 b1), .int (zs_I S 6001 b8)] S (zs_kV (fun S12 => (zs_K S12 b1 = some (.inl 11) ∧ ∃ b15, (zs_R S12 11002 b1) = some b15 ∧ zs_K S12 b15 = some (.inl 6) ∧ zs_K S12 p0 = some (.inl 4) ∧ zs_C X d 4097 [.ref p0, .int (7 : Int32), .int (zs_I S12 11001 b1), .int (zs_I S12 6001 b15)] S12 (zs_kV (fun S19 => w_X5_part_2_205 X d p0 p1 S19 Q) Q))) Q))) ∧ ((zs_I S 11000 b1).toInt = 2 → (zs_K S p0 = some (.inl 4) ∧ ∃ b22, (zs_R S 4010 p0) = some b22 ∧ zs_K S b22 = some (.inl 10) ∧ ∃ b25, (zs_R S 11009 b1) = some b25 ∧ zs_K S b25 = some (.inl 7) ∧ ∃ b28, (zs_R S 7007 b25) = some b28 ∧ zs_K S b28 = some (.inl 10) ∧ zs_C X d 4097 [.ref p0, .int (3 : Int32), .int (zs_I S 11001 b1), .int ((zs_I S 10003 b22) - (zs_I S 10003 b28))] S (zs_kV (fun S31 => w_X5_part_2_59 X d p0 p1 S31 Q) Q))) ∧ ((zs_I S 11000 b1).toInt = 3 → (zs_K S p0 = some (.inl 4) ∧ zs_C X d 4096 [.ref p0, va_rf (zs_R S 11006 b1)] S (zs_kV (fun S34 => (zs_K S34 b1 = some (.inl 11) ∧ ∃ b37, (zs_R S34 11005 b1) = some b37 ∧ zs_K S34 b37 = some (.inl 11) ∧ ∃ b40, (zs_R S34 11002 b37) = some b40 ∧ zs_K S34 b40 = some (.inl 6) ∧ zs_C X d 6003 [.ref b40] S34 (zs_kR (fun v44 S43 => (∃ b45, v44 = some b45 ∧ zs_K S43 b45 = some (.inl 6) ∧ zs_K S43 p0 = some (.inl 4) ∧ zs_C X d 4097 [.ref p0, .int (4 : Int32), .int (zs_I S34 11001 b1), .int (zs_I S43 6001 b45)] S43 (zs_kV (fun S49 => w_X5_part_2_107 X d p0 p1 S49 Q) Q))) Q))) Q))) ∧ ((zs_I S 11000 b1).toInt = 4 → (∃ b51, (zs_R S 11005 b1) = some b51 ∧ zs_K S b51 = some (.inl 11) ∧ ∃ b54, (zs_R S 11002 b51) = some b54 ∧ zs_K S b54 = some (.inl 6) ∧ zs_C X d 6003 [.ref b54] S (zs_kR (fun v58 S57 => (∃ b59, v58 = some b59 ∧ zs_K S57 b59 = some (.inl 6) ∧ zs_K S57 p0 = some (.inl 4) ∧ zs_C X d 4097 [.ref p0, .int (5 : Int32), .int (zs_I S 11001 b1), .int (zs_I S57 6001 b59)] S57 (zs_kV (fun S63 => (zs_K S63 p0 = some (.inl 4) ∧ ∃ b66, (zs_R S63 4001 p0) = some b66 ∧ zs_K S63 b66 = some (.inl 3) ∧ ∃ b69, (zs_R S63 3003 b66) = some b69 ∧ zs_K S63 b69 = some (.inl 16) ∧ zs_C X d 16001 [.ref b69] S63 (zs_kI (fun v73 S72 => (zs_K S72 b66 = some (.inl 3) ∧ zs_C X d 3002 [.ref b66, .int v73] S72 (zs_kI (fun v76 S75 => (w_X5_part_2_150 X d p0 p1 S75 Q)) Q))) Q))) Q))) Q)))))
theorem u_X5_part_2 {σ : Nat → Nat} {n0 : Nat} {bf : ab_B} {d : Nat} {p0 : Nat} {p1 : Option Nat} {S : zs_T} {Q : zs_Q} (hB : zt_B bf) (hd : 1 ≤ d) (h : w_X5_part_2 (zx σ n0 bf) (d - 1) p0 p1 S Q) : zs_C (zx σ n0 bf) d 4099 [.ref p0, va_rf p1] S Q := by
  have hL : lv_args 0 [.ref p0, va_rf p1] = [(0, .ref p0), (1, va_rf p1)] := by simp [lv_args, zs_cat, zs_cI, zs_cJ, zs_cA]
  refine zs_C.of1 (hB.2 4099 (by decide) (by decide)) hd (by rw [hL]; exact zs_sub_self _ (by exact ⟨rfl, rfl, trivial⟩)) ?_
  rw [hL]
  clear hL
  unfold w_X5_part_2 at h
  refine zu_aload_n d_4099_0 rfl (zs_rr _) ?_
  obtain ⟨b1, e2, h⟩ := h
  refine zs_stk0 (zs_rfe e2) ?_
  obtain ⟨k3, h⟩ := h
  refine zg_4_512 rfl d_4099_1 k3 ?_
  refine zu_tsw (td := 168) d_4099_4 (by decide) rfl (fun c4 => ?_) ⟨fun c4 => ⟨by decide, ?_⟩, fun c4 => ⟨by decide, ?_⟩, fun c4 => ⟨by decide, ?_⟩, trivial⟩
  · have h := h.1 c4
    refine zu_aload_n d_4099_168 rfl (zs_ra _) ?_
    refine zu_bipush d_4099_169 zj_8 ?_
    refine zu_aload_n d_4099_171 rfl (zs_rr _) ?_
    refine zs_stk0 (zs_rfe e2) ?_
    refine zg_4_469 rfl d_4099_172 k3 ?_
    refine zu_aload_n d_4099_175 rfl (zs_rr _) ?_
    refine zs_stk0 (zs_rfe e2) ?_
    refine zg_4_539 rfl d_4099_176 k3 ?_
    obtain ⟨b5, e6, h⟩ := h
    refine zs_stk0 (zs_rfe e6) ?_
    obtain ⟨k7, h⟩ := h
    refine zg_4_297 rfl d_4099_179 k7 ?_
    obtain ⟨b8, e9, h⟩ := h
    refine zs_stk0 (zs_rfe e9) ?_
    obtain ⟨k10, h⟩ := h
    refine zg_4_137 rfl d_4099_182 k10 ?_
    obtain ⟨k11, h⟩ := h
    refine zc_4_712 (x0 := (8 : Int32)) (x1 := (zs_I S 11001 b1)) (x2 := (zs_I S 6001 b8)) hB rfl k11 d_4099_185 (Nat.le_of_ble_eq_true rfl) h (fun S12 h => ?_)
    refine zu_aload_n d_4099_188 rfl (zs_ra _) ?_
    refine zu_bipush d_4099_189 zj_7 ?_
    refine zu_aload_n d_4099_191 rfl (zs_rr _) ?_
    refine zs_stk0 (zs_rfe e2) ?_
    obtain ⟨k14, h⟩ := h
    refine zg_4_469 rfl d_4099_192 k14 ?_
    refine zu_aload_n d_4099_195 rfl (zs_rr _) ?_
    refine zs_stk0 (zs_rfe e2) ?_
    refine zg_4_297 rfl d_4099_196 k14 ?_
    obtain ⟨b15, e16, h⟩ := h
    refine zs_stk0 (zs_rfe e16) ?_
    obtain ⟨k17, h⟩ := h
    refine zg_4_137 rfl d_4099_199 k17 ?_
    obtain ⟨k18, h⟩ := h
    refine zc_4_712 (x0 := (7 : Int32)) (x1 := (zs_I S12 11001 b1)) (x2 := (zs_I S12 6001 b15)) hB rfl k18 d_4099_202 (Nat.le_of_ble_eq_true rfl) h (fun S19 h => ?_)
    exact (u_X5_part_2_205 hB h).weak ⟨rfl, rfl, trivial⟩
  · have h := h.2.1 c4
    show zs_U _ _ _ 32 _ _ _ _
    refine zu_aload_n d_4099_32 rfl (zs_ra _) ?_
    refine zu_iconst d_4099_33 zi_3 ?_
    refine zu_aload_n d_4099_34 rfl (zs_rr _) ?_
    refine zs_stk0 (zs_rfe e2) ?_
    refine zg_4_469 rfl d_4099_35 k3 ?_
    refine zu_aload_n d_4099_38 rfl (zs_ra _) ?_
    obtain ⟨k21, h⟩ := h
    refine zg_4_218 rfl d_4099_39 k21 ?_
    obtain ⟨b22, e23, h⟩ := h
    refine zs_stk0 (zs_rfe e23) ?_
    obtain ⟨k24, h⟩ := h
    refine zg_4_738 rfl d_4099_42 k24 ?_
    refine zu_aload_n d_4099_45 rfl (zs_rr _) ?_
    refine zs_stk0 (zs_rfe e2) ?_
    refine zg_4_664 rfl d_4099_46 k3 ?_
    obtain ⟨b25, e26, h⟩ := h
    refine zs_stk0 (zs_rfe e26) ?_
    obtain ⟨k27, h⟩ := h
    refine zg_4_107 rfl d_4099_49 k27 ?_
    obtain ⟨b28, e29, h⟩ := h
    refine zs_stk0 (zs_rfe e29) ?_
    obtain ⟨k30, h⟩ := h
    refine zg_4_738 rfl d_4099_52 k30 ?_
    refine zu_stk d_4099_55 rfl rfl ?_
    refine zc_4_712 (x0 := (3 : Int32)) (x1 := (zs_I S 11001 b1)) (x2 := ((zs_I S 10003 b22) - (zs_I S 10003 b28))) hB rfl k21 d_4099_56 (Nat.le_of_ble_eq_true rfl) h (fun S31 h => ?_)
    exact (u_X5_part_2_59 hB h).weak ⟨rfl, rfl, trivial⟩
  · have h := h.2.2.1 c4
    show zs_U _ _ _ 77 _ _ _ _
    refine zu_aload_n d_4099_77 rfl (zs_ra _) ?_
    refine zu_aload_n d_4099_78 rfl (zs_rr _) ?_
    refine zs_stk0 (zs_rfe e2) ?_
    refine zg_4_536 rfl d_4099_79 k3 ?_
    obtain ⟨k33, h⟩ := h
    refine zc_4_721 (x0 := (zs_R S 11006 b1)) hB rfl k33 d_4099_82 (Nat.le_of_ble_eq_true rfl) h (fun S34 h => ?_)
    refine zu_aload_n d_4099_85 rfl (zs_ra _) ?_
    refine zu_iconst d_4099_86 zi_4 ?_
    refine zu_aload_n d_4099_87 rfl (zs_rr _) ?_
    refine zs_stk0 (zs_rfe e2) ?_
    obtain ⟨k36, h⟩ := h
    refine zg_4_469 rfl d_4099_88 k36 ?_
    refine zu_aload_n d_4099_91 rfl (zs_rr _) ?_
    refine zs_stk0 (zs_rfe e2) ?_
    refine zg_4_539 rfl d_4099_92 k36 ?_
    obtain ⟨b37, e38, h⟩ := h
    refine zs_stk0 (zs_rfe e38) ?_
    obtain ⟨k39, h⟩ := h
    refine zg_4_297 rfl d_4099_95 k39 ?_
    obtain ⟨b40, e41, h⟩ := h
    refine zs_stk0 (zs_rfe e41) ?_
    obtain ⟨k42, h⟩ := h
    refine zc_4_69  hB rfl k42 d_4099_98 (Nat.le_of_ble_eq_true rfl) h (fun v44 S43 h => ?_)
    obtain ⟨b45, e46, h⟩ := h
    refine zs_stk0 (zs_rfe e46) ?_
    obtain ⟨k47, h⟩ := h
    refine zg_4_137 rfl d_4099_101 k47 ?_
    obtain ⟨k48, h⟩ := h
    refine zc_4_712 (x0 := (4 : Int32)) (x1 := (zs_I S34 11001 b1)) (x2 := (zs_I S43 6001 b45)) hB rfl k48 d_4099_104 (Nat.le_of_ble_eq_true rfl) h (fun S49 h => ?_)
    exact (u_X5_part_2_107 hB h).weak ⟨rfl, rfl, trivial⟩
  · have h := h.2.2.2 c4
    show zs_U _ _ _ 110 _ _ _ _
    refine zu_aload_n d_4099_110 rfl (zs_ra _) ?_
    refine zu_iconst d_4099_111 zi_5 ?_
    refine zu_aload_n d_4099_112 rfl (zs_rr _) ?_
    refine zs_stk0 (zs_rfe e2) ?_
    refine zg_4_469 rfl d_4099_113 k3 ?_
    refine zu_aload_n d_4099_116 rfl (zs_rr _) ?_
    refine zs_stk0 (zs_rfe e2) ?_
    refine zg_4_539 rfl d_4099_117 k3 ?_
    obtain ⟨b51, e52, h⟩ := h
    refine zs_stk0 (zs_rfe e52) ?_
    obtain ⟨k53, h⟩ := h
    refine zg_4_297 rfl d_4099_120 k53 ?_
    obtain ⟨b54, e55, h⟩ := h
    refine zs_stk0 (zs_rfe e55) ?_
    obtain ⟨k56, h⟩ := h
    refine zc_4_69  hB rfl k56 d_4099_123 (Nat.le_of_ble_eq_true rfl) h (fun v58 S57 h => ?_)
    obtain ⟨b59, e60, h⟩ := h
    refine zs_stk0 (zs_rfe e60) ?_
    obtain ⟨k61, h⟩ := h
    refine zg_4_137 rfl d_4099_126 k61 ?_
    obtain ⟨k62, h⟩ := h
    refine zc_4_712 (x0 := (5 : Int32)) (x1 := (zs_I S 11001 b1)) (x2 := (zs_I S57 6001 b59)) hB rfl k62 d_4099_129 (Nat.le_of_ble_eq_true rfl) h (fun S63 h => ?_)
    refine zu_aload_n d_4099_132 rfl (zs_ra _) ?_
    obtain ⟨k65, h⟩ := h
    refine zg_4_128 rfl d_4099_133 k65 ?_
    refine zu_aload_n d_4099_136 rfl (zs_ra _) ?_
    refine zg_4_128 rfl d_4099_137 k65 ?_
    obtain ⟨b66, e67, h⟩ := h
    refine zs_stk0 (zs_rfe e67) ?_
    obtain ⟨k68, h⟩ := h
    refine zg_4_741 rfl d_4099_140 k68 ?_
    obtain ⟨b69, e70, h⟩ := h
    refine zs_stk0 (zs_rfe e70) ?_
    obtain ⟨k71, h⟩ := h
    refine zc_4_50  hB rfl k71 d_4099_143 (by simp only [List.map_cons, List.map_nil, List.sum_cons, List.sum_nil, zs_cat, zs_cI, zs_cJ, zs_cA]; exact Nat.le_of_ble_eq_true rfl) h (fun v73 S72 h => ?_)
    refine zs_stk1 (zs_rfe e67) ?_
    obtain ⟨k74, h⟩ := h
    refine zc_4_709 (x0 := v73) hB rfl k74 d_4099_146 (Nat.le_of_ble_eq_true rfl) h (fun v76 S75 h => ?_)
    refine zu_pop d_4099_149 rfl ?_
    exact (u_X5_part_2_150 hB h).weak ⟨rfl, rfl, trivial⟩
/-! SchemaPascal$Reader.params(LSchemaPascal$Node;)V -/
theorem zm_4100 {σ : Nat → Nat} {n0 : Nat} {bf : ab_B} : ab_code (zx σ n0 bf).1 4100 = prog_9_method_96_code := rfl
theorem zq_4100 {σ : Nat → Nat} {n0 : Nat} {bf : ab_B} : ab_maxL (zx σ n0 bf).1 4100 = 7 := rfl
theorem zr_4100 {σ : Nat → Nat} {n0 : Nat} {bf : ab_B} : ab_ret (zx σ n0 bf).1 4100 = (Option.none : Option Jvm.ClassFile.FieldType) := rfl
theorem d_4100_0 {σ : Nat → Nat} {n0 : Nat} {bf : ab_B} : decode (ab_code (zx σ n0 bf).1 4100) 0 = .ok (.aload_n 1, 1) := zd zm_4100 (by decide +kernel)
theorem d_4100_1 {σ : Nat → Nat} {n0 : Nat} {bf : ab_B} : decode (ab_code (zx σ n0 bf).1 4100) 1 = .ok (.getfield 664, 3) := zd zm_4100 (by decide +kernel)
theorem d_4100_4 {σ : Nat → Nat} {n0 : Nat} {bf : ab_B} : decode (ab_code (zx σ n0 bf).1 4100) 4 = .ok (.getfield 243, 3) := zd zm_4100 (by decide +kernel)
theorem d_4100_7 {σ : Nat → Nat} {n0 : Nat} {bf : ab_B} : decode (ab_code (zx σ n0 bf).1 4100) 7 = .ok (.astore_n 2, 1) := zd zm_4100 (by decide +kernel)
theorem d_4100_8 {σ : Nat → Nat} {n0 : Nat} {bf : ab_B} : decode (ab_code (zx σ n0 bf).1 4100) 8 = .ok (.iconst 0, 1) := zd zm_4100 (by decide +kernel)
theorem d_4100_9 {σ : Nat → Nat} {n0 : Nat} {bf : ab_B} : decode (ab_code (zx σ n0 bf).1 4100) 9 = .ok (.istore_n 3, 1) := zd zm_4100 (by decide +kernel)
theorem d_4100_10 {σ : Nat → Nat} {n0 : Nat} {bf : ab_B} : decode (ab_code (zx σ n0 bf).1 4100) 10 = .ok (.aload_n 1, 1) := zd zm_4100 (by decide +kernel)
theorem d_4100_11 {σ : Nat → Nat} {n0 : Nat} {bf : ab_B} : decode (ab_code (zx σ n0 bf).1 4100) 11 = .ok (.getfield 539, 3) := zd zm_4100 (by decide +kernel)
theorem d_4100_14 {σ : Nat → Nat} {n0 : Nat} {bf : ab_B} : decode (ab_code (zx σ n0 bf).1 4100) 14 = .ok (.astore 4, 2) := zd zm_4100 (by decide +kernel)
theorem d_4100_16 {σ : Nat → Nat} {n0 : Nat} {bf : ab_B} : decode (ab_code (zx σ n0 bf).1 4100) 16 = .ok (.aload 4, 2) := zd zm_4100 (by decide +kernel)
theorem d_4100_18 {σ : Nat → Nat} {n0 : Nat} {bf : ab_B} : decode (ab_code (zx σ n0 bf).1 4100) 18 = .ok (.ifnull 132, 3) := zd zm_4100 (by decide +kernel)
theorem d_4100_21 {σ : Nat → Nat} {n0 : Nat} {bf : ab_B} : decode (ab_code (zx σ n0 bf).1 4100) 21 = .ok (.aload_n 2, 1) := zd zm_4100 (by decide +kernel)
theorem d_4100_22 {σ : Nat → Nat} {n0 : Nat} {bf : ab_B} : decode (ab_code (zx σ n0 bf).1 4100) 22 = .ok (.getfield 247, 3) := zd zm_4100 (by decide +kernel)
theorem d_4100_25 {σ : Nat → Nat} {n0 : Nat} {bf : ab_B} : decode (ab_code (zx σ n0 bf).1 4100) 25 = .ok (.iload_n 3, 1) := zd zm_4100 (by decide +kernel)
theorem d_4100_26 {σ : Nat → Nat} {n0 : Nat} {bf : ab_B} : decode (ab_code (zx σ n0 bf).1 4100) 26 = .ok (.iinc 3 1, 3) := zd zm_4100 (by decide +kernel)
theorem d_4100_29 {σ : Nat → Nat} {n0 : Nat} {bf : ab_B} : decode (ab_code (zx σ n0 bf).1 4100) 29 = .ok (.invokevirtual 56, 3) := zd zm_4100 (by decide +kernel)
theorem d_4100_32 {σ : Nat → Nat} {n0 : Nat} {bf : ab_B} : decode (ab_code (zx σ n0 bf).1 4100) 32 = .ok (.checkcast 60, 3) := zd zm_4100 (by decide +kernel)
theorem d_4100_35 {σ : Nat → Nat} {n0 : Nat} {bf : ab_B} : decode (ab_code (zx σ n0 bf).1 4100) 35 = .ok (.astore 5, 2) := zd zm_4100 (by decide +kernel)
theorem d_4100_37 {σ : Nat → Nat} {n0 : Nat} {bf : ab_B} : decode (ab_code (zx σ n0 bf).1 4100) 37 = .ok (.aload 5, 2) := zd zm_4100 (by decide +kernel)
theorem d_4100_39 {σ : Nat → Nat} {n0 : Nat} {bf : ab_B} : decode (ab_code (zx σ n0 bf).1 4100) 39 = .ok (.getfield 65, 3) := zd zm_4100 (by decide +kernel)
theorem d_4100_42 {σ : Nat → Nat} {n0 : Nat} {bf : ab_B} : decode (ab_code (zx σ n0 bf).1 4100) 42 = .ok (.invokevirtual 335, 3) := zd zm_4100 (by decide +kernel)
theorem d_4100_45 {σ : Nat → Nat} {n0 : Nat} {bf : ab_B} : decode (ab_code (zx σ n0 bf).1 4100) 45 = .ok (.ifCond .ne 41, 3) := zd zm_4100 (by decide +kernel)
theorem d_4100_48 {σ : Nat → Nat} {n0 : Nat} {bf : ab_B} : decode (ab_code (zx σ n0 bf).1 4100) 48 = .ok (.aload 5, 2) := zd zm_4100 (by decide +kernel)
theorem d_4100_50 {σ : Nat → Nat} {n0 : Nat} {bf : ab_B} : decode (ab_code (zx σ n0 bf).1 4100) 50 = .ok (.getfield 65, 3) := zd zm_4100 (by decide +kernel)
theorem d_4100_53 {σ : Nat → Nat} {n0 : Nat} {bf : ab_B} : decode (ab_code (zx σ n0 bf).1 4100) 53 = .ok (.getfield 369, 3) := zd zm_4100 (by decide +kernel)
theorem d_4100_56 {σ : Nat → Nat} {n0 : Nat} {bf : ab_B} : decode (ab_code (zx σ n0 bf).1 4100) 56 = .ok (.iconst 5, 1) := zd zm_4100 (by decide +kernel)
theorem d_4100_57 {σ : Nat → Nat} {n0 : Nat} {bf : ab_B} : decode (ab_code (zx σ n0 bf).1 4100) 57 = .ok (.if_icmp .eq 29, 3) := zd zm_4100 (by decide +kernel)
theorem d_4100_60 {σ : Nat → Nat} {n0 : Nat} {bf : ab_B} : decode (ab_code (zx σ n0 bf).1 4100) 60 = .ok (.aload 5, 2) := zd zm_4100 (by decide +kernel)
theorem d_4100_62 {σ : Nat → Nat} {n0 : Nat} {bf : ab_B} : decode (ab_code (zx σ n0 bf).1 4100) 62 = .ok (.getfield 65, 3) := zd zm_4100 (by decide +kernel)
theorem d_4100_65 {σ : Nat → Nat} {n0 : Nat} {bf : ab_B} : decode (ab_code (zx σ n0 bf).1 4100) 65 = .ok (.getfield 369, 3) := zd zm_4100 (by decide +kernel)
theorem d_4100_68 {σ : Nat → Nat} {n0 : Nat} {bf : ab_B} : decode (ab_code (zx σ n0 bf).1 4100) 68 = .ok (.bipush 9, 2) := zd zm_4100 (by decide +kernel)
theorem d_4100_70 {σ : Nat → Nat} {n0 : Nat} {bf : ab_B} : decode (ab_code (zx σ n0 bf).1 4100) 70 = .ok (.if_icmp .eq 16, 3) := zd zm_4100 (by decide +kernel)
theorem d_4100_73 {σ : Nat → Nat} {n0 : Nat} {bf : ab_B} : decode (ab_code (zx σ n0 bf).1 4100) 73 = .ok (.aload 5, 2) := zd zm_4100 (by decide +kernel)
theorem d_4100_75 {σ : Nat → Nat} {n0 : Nat} {bf : ab_B} : decode (ab_code (zx σ n0 bf).1 4100) 75 = .ok (.getfield 65, 3) := zd zm_4100 (by decide +kernel)
theorem d_4100_78 {σ : Nat → Nat} {n0 : Nat} {bf : ab_B} : decode (ab_code (zx σ n0 bf).1 4100) 78 = .ok (.getfield 369, 3) := zd zm_4100 (by decide +kernel)
theorem d_4100_81 {σ : Nat → Nat} {n0 : Nat} {bf : ab_B} : decode (ab_code (zx σ n0 bf).1 4100) 81 = .ok (.bipush 6, 2) := zd zm_4100 (by decide +kernel)
theorem d_4100_83 {σ : Nat → Nat} {n0 : Nat} {bf : ab_B} : decode (ab_code (zx σ n0 bf).1 4100) 83 = .ok (.if_icmp .ne 7, 3) := zd zm_4100 (by decide +kernel)
theorem d_4100_86 {σ : Nat → Nat} {n0 : Nat} {bf : ab_B} : decode (ab_code (zx σ n0 bf).1 4100) 86 = .ok (.iconst 1, 1) := zd zm_4100 (by decide +kernel)
theorem d_4100_87 {σ : Nat → Nat} {n0 : Nat} {bf : ab_B} : decode (ab_code (zx σ n0 bf).1 4100) 87 = .ok (.goto 4, 3) := zd zm_4100 (by decide +kernel)
theorem d_4100_90 {σ : Nat → Nat} {n0 : Nat} {bf : ab_B} : decode (ab_code (zx σ n0 bf).1 4100) 90 = .ok (.iconst 0, 1) := zd zm_4100 (by decide +kernel)
theorem d_4100_91 {σ : Nat → Nat} {n0 : Nat} {bf : ab_B} : decode (ab_code (zx σ n0 bf).1 4100) 91 = .ok (.istore 6, 2) := zd zm_4100 (by decide +kernel)
theorem d_4100_93 {σ : Nat → Nat} {n0 : Nat} {bf : ab_B} : decode (ab_code (zx σ n0 bf).1 4100) 93 = .ok (.aload 5, 2) := zd zm_4100 (by decide +kernel)
theorem d_4100_95 {σ : Nat → Nat} {n0 : Nat} {bf : ab_B} : decode (ab_code (zx σ n0 bf).1 4100) 95 = .ok (.getfield 690, 3) := zd zm_4100 (by decide +kernel)
theorem d_4100_98 {σ : Nat → Nat} {n0 : Nat} {bf : ab_B} : decode (ab_code (zx σ n0 bf).1 4100) 98 = .ok (.ifCond .ne 8, 3) := zd zm_4100 (by decide +kernel)
theorem d_4100_101 {σ : Nat → Nat} {n0 : Nat} {bf : ab_B} : decode (ab_code (zx σ n0 bf).1 4100) 101 = .ok (.iload 6, 2) := zd zm_4100 (by decide +kernel)
theorem d_4100_103 {σ : Nat → Nat} {n0 : Nat} {bf : ab_B} : decode (ab_code (zx σ n0 bf).1 4100) 103 = .ok (.ifCond .ne 12, 3) := zd zm_4100 (by decide +kernel)
theorem d_4100_106 {σ : Nat → Nat} {n0 : Nat} {bf : ab_B} : decode (ab_code (zx σ n0 bf).1 4100) 106 = .ok (.aload_n 0, 1) := zd zm_4100 (by decide +kernel)
theorem d_4100_107 {σ : Nat → Nat} {n0 : Nat} {bf : ab_B} : decode (ab_code (zx σ n0 bf).1 4100) 107 = .ok (.aload 4, 2) := zd zm_4100 (by decide +kernel)
theorem d_4100_109 {σ : Nat → Nat} {n0 : Nat} {bf : ab_B} : decode (ab_code (zx σ n0 bf).1 4100) 109 = .ok (.invokevirtual 715, 3) := zd zm_4100 (by decide +kernel)
theorem d_4100_112 {σ : Nat → Nat} {n0 : Nat} {bf : ab_B} : decode (ab_code (zx σ n0 bf).1 4100) 112 = .ok (.goto 28, 3) := zd zm_4100 (by decide +kernel)
theorem d_4100_115 {σ : Nat → Nat} {n0 : Nat} {bf : ab_B} : decode (ab_code (zx σ n0 bf).1 4100) 115 = .ok (.aload_n 0, 1) := zd zm_4100 (by decide +kernel)
theorem d_4100_116 {σ : Nat → Nat} {n0 : Nat} {bf : ab_B} : decode (ab_code (zx σ n0 bf).1 4100) 116 = .ok (.aload 4, 2) := zd zm_4100 (by decide +kernel)
theorem d_4100_118 {σ : Nat → Nat} {n0 : Nat} {bf : ab_B} : decode (ab_code (zx σ n0 bf).1 4100) 118 = .ok (.invokevirtual 721, 3) := zd zm_4100 (by decide +kernel)
theorem d_4100_121 {σ : Nat → Nat} {n0 : Nat} {bf : ab_B} : decode (ab_code (zx σ n0 bf).1 4100) 121 = .ok (.aload 5, 2) := zd zm_4100 (by decide +kernel)
theorem d_4100_123 {σ : Nat → Nat} {n0 : Nat} {bf : ab_B} : decode (ab_code (zx σ n0 bf).1 4100) 123 = .ok (.getfield 65, 3) := zd zm_4100 (by decide +kernel)
theorem d_4100_126 {σ : Nat → Nat} {n0 : Nat} {bf : ab_B} : decode (ab_code (zx σ n0 bf).1 4100) 126 = .ok (.getfield 369, 3) := zd zm_4100 (by decide +kernel)
theorem d_4100_129 {σ : Nat → Nat} {n0 : Nat} {bf : ab_B} : decode (ab_code (zx σ n0 bf).1 4100) 129 = .ok (.bipush 6, 2) := zd zm_4100 (by decide +kernel)
theorem d_4100_131 {σ : Nat → Nat} {n0 : Nat} {bf : ab_B} : decode (ab_code (zx σ n0 bf).1 4100) 131 = .ok (.if_icmp .ne 9, 3) := zd zm_4100 (by decide +kernel)
theorem d_4100_134 {σ : Nat → Nat} {n0 : Nat} {bf : ab_B} : decode (ab_code (zx σ n0 bf).1 4100) 134 = .ok (.aload_n 0, 1) := zd zm_4100 (by decide +kernel)
theorem d_4100_135 {σ : Nat → Nat} {n0 : Nat} {bf : ab_B} : decode (ab_code (zx σ n0 bf).1 4100) 135 = .ok (.aload 4, 2) := zd zm_4100 (by decide +kernel)
theorem d_4100_137 {σ : Nat → Nat} {n0 : Nat} {bf : ab_B} : decode (ab_code (zx σ n0 bf).1 4100) 137 = .ok (.invokevirtual 724, 3) := zd zm_4100 (by decide +kernel)
theorem d_4100_140 {σ : Nat → Nat} {n0 : Nat} {bf : ab_B} : decode (ab_code (zx σ n0 bf).1 4100) 140 = .ok (.aload 4, 2) := zd zm_4100 (by decide +kernel)
theorem d_4100_142 {σ : Nat → Nat} {n0 : Nat} {bf : ab_B} : decode (ab_code (zx σ n0 bf).1 4100) 142 = .ok (.getfield 487, 3) := zd zm_4100 (by decide +kernel)
theorem d_4100_145 {σ : Nat → Nat} {n0 : Nat} {bf : ab_B} : decode (ab_code (zx σ n0 bf).1 4100) 145 = .ok (.astore 4, 2) := zd zm_4100 (by decide +kernel)
theorem d_4100_147 {σ : Nat → Nat} {n0 : Nat} {bf : ab_B} : decode (ab_code (zx σ n0 bf).1 4100) 147 = .ok (.goto (-131), 3) := zd zm_4100 (by decide +kernel)
theorem d_4100_150 {σ : Nat → Nat} {n0 : Nat} {bf : ab_B} : decode (ab_code (zx σ n0 bf).1 4100) 150 = .ok (.aload_n 0, 1) := zd zm_4100 (by decide +kernel)
theorem d_4100_151 {σ : Nat → Nat} {n0 : Nat} {bf : ab_B} : decode (ab_code (zx σ n0 bf).1 4100) 151 = .ok (.bipush 43, 2) := zd zm_4100 (by decide +kernel)
theorem d_4100_153 {σ : Nat → Nat} {n0 : Nat} {bf : ab_B} : decode (ab_code (zx σ n0 bf).1 4100) 153 = .ok (.aload_n 1, 1) := zd zm_4100 (by decide +kernel)
theorem d_4100_154 {σ : Nat → Nat} {n0 : Nat} {bf : ab_B} : decode (ab_code (zx σ n0 bf).1 4100) 154 = .ok (.getfield 469, 3) := zd zm_4100 (by decide +kernel)
theorem d_4100_157 {σ : Nat → Nat} {n0 : Nat} {bf : ab_B} : decode (ab_code (zx σ n0 bf).1 4100) 157 = .ok (.aload_n 2, 1) := zd zm_4100 (by decide +kernel)
theorem d_4100_158 {σ : Nat → Nat} {n0 : Nat} {bf : ab_B} : decode (ab_code (zx σ n0 bf).1 4100) 158 = .ok (.getfield 743, 3) := zd zm_4100 (by decide +kernel)
theorem d_4100_161 {σ : Nat → Nat} {n0 : Nat} {bf : ab_B} : decode (ab_code (zx σ n0 bf).1 4100) 161 = .ok (.invokevirtual 712, 3) := zd zm_4100 (by decide +kernel)
theorem d_4100_164 {σ : Nat → Nat} {n0 : Nat} {bf : ab_B} : decode (ab_code (zx σ n0 bf).1 4100) 164 = .ok (.aload_n 0, 1) := zd zm_4100 (by decide +kernel)
theorem d_4100_165 {σ : Nat → Nat} {n0 : Nat} {bf : ab_B} : decode (ab_code (zx σ n0 bf).1 4100) 165 = .ok (.getfield 128, 3) := zd zm_4100 (by decide +kernel)
theorem d_4100_168 {σ : Nat → Nat} {n0 : Nat} {bf : ab_B} : decode (ab_code (zx σ n0 bf).1 4100) 168 = .ok (.aload_n 0, 1) := zd zm_4100 (by decide +kernel)
theorem d_4100_169 {σ : Nat → Nat} {n0 : Nat} {bf : ab_B} : decode (ab_code (zx σ n0 bf).1 4100) 169 = .ok (.getfield 218, 3) := zd zm_4100 (by decide +kernel)
theorem d_4100_172 {σ : Nat → Nat} {n0 : Nat} {bf : ab_B} : decode (ab_code (zx σ n0 bf).1 4100) 172 = .ok (.getfield 738, 3) := zd zm_4100 (by decide +kernel)
theorem d_4100_175 {σ : Nat → Nat} {n0 : Nat} {bf : ab_B} : decode (ab_code (zx σ n0 bf).1 4100) 175 = .ok (.invokevirtual 709, 3) := zd zm_4100 (by decide +kernel)
theorem d_4100_178 {σ : Nat → Nat} {n0 : Nat} {bf : ab_B} : decode (ab_code (zx σ n0 bf).1 4100) 178 = .ok (.pop, 1) := zd zm_4100 (by decide +kernel)
theorem d_4100_179 {σ : Nat → Nat} {n0 : Nat} {bf : ab_B} : decode (ab_code (zx σ n0 bf).1 4100) 179 = .ok (.return_, 1) := zd zm_4100 (by decide +kernel)
def w_X5_params_2_179 (X : zs_X) (d : Nat)  (S : zs_T) (Q : zs_Q) : Prop :=
  (Q (.returned none) S)
theorem u_X5_params_2_179 {σ : Nat → Nat} {n0 : Nat} {bf : ab_B} {d : Nat}  {S : zs_T} {Q : zs_Q} (hB : zt_B bf) (h : w_X5_params_2_179 (zx σ n0 bf) d  S Q) : zs_U (zx σ n0 bf) d 4100 179 [] [] S Q := by
  unfold w_X5_params_2_179 at h
  exact zu_vret d_4100_179 zr_4100 h
def w_X5_params_2_140 (X : zs_X) (d : Nat) (p0 : Nat) (p1 : Option Nat) (p2 : Option Nat) (p3 : Int32) (p4 : Option Nat) (S : zs_T) (Q : zs_Q) : Prop :=
  (∃ b1, p4 = some b1 ∧ zs_K S b1 = some (.inl 11) ∧ zs_U X d 4100 16 [(0, .ref p0), (1, va_rf p1), (2, va_rf p2), (3, .int p3), (4, va_rf (zs_R S 11007 b1))] [] S Q)
theorem u_X5_params_2_140 {σ : Nat → Nat} {n0 : Nat} {bf : ab_B} {d : Nat} {p0 : Nat} {p1 : Option Nat} {p2 : Option Nat} {p3 : Int32} {p4 : Option Nat} {S : zs_T} {Q : zs_Q} (hB : zt_B bf) (h : w_X5_params_2_140 (zx σ n0 bf) d p0 p1 p2 p3 p4 S Q) : zs_U (zx σ n0 bf) d 4100 140 [(0, .ref p0), (1, va_rf p1), (2, va_rf p2), (3, .int p3), (4, va_rf p4)] [] S Q := by
  unfold w_X5_params_2_140 at h
  refine zu_aload d_4100_140 rfl (zs_rr _) ?_
  obtain ⟨b1, e2, h⟩ := h
  refine zs_stk0 (zs_rfe e2) ?_
  obtain ⟨k3, h⟩ := h
  refine zg_4_487 rfl d_4100_142 k3 ?_
  refine zu_astore d_4100_145 (zs_rr _) (zs_lt zq_4100 rfl) ?_
  refine zu_goto (t := 16) d_4100_147 rfl ?_
  exact h.weak ⟨rfl, rfl, rfl, rfl, rfl, trivial⟩
def w_X5_params_2_106 (X : zs_X) (d : Nat) (p0 : Nat) (p1 : Option Nat) (p2 : Option Nat) (p3 : Int32) (p4 : Option Nat) (S : zs_T) (Q : zs_Q) : Prop :=
  (zs_K S p0 = some (.inl 4) ∧ zs_C X d 4098 [.ref p0, va_rf p4] S (zs_kV (fun S2 => (w_X5_params_2_140 X d p0 p1 p2 p3 p4 S2 Q)) Q))
theorem u_X5_params_2_106 {σ : Nat → Nat} {n0 : Nat} {bf : ab_B} {d : Nat} {p0 : Nat} {p1 : Option Nat} {p2 : Option Nat} {p3 : Int32} {p4 : Option Nat} {S : zs_T} {Q : zs_Q} (hB : zt_B bf) (h : w_X5_params_2_106 (zx σ n0 bf) d p0 p1 p2 p3 p4 S Q) : zs_U (zx σ n0 bf) d 4100 106 [(0, .ref p0), (1, va_rf p1), (2, va_rf p2), (3, .int p3), (4, va_rf p4)] [] S Q := by
  unfold w_X5_params_2_106 at h
  refine zu_aload_n d_4100_106 rfl (zs_ra _) ?_
  refine zu_aload d_4100_107 rfl (zs_rr _) ?_
  obtain ⟨k1, h⟩ := h
  refine zc_4_715 (x0 := p4) hB rfl k1 d_4100_109 (Nat.le_of_ble_eq_true rfl) h (fun S2 h => ?_)
  refine zu_goto (t := 140) d_4100_112 rfl ?_
  exact (u_X5_params_2_140 hB h).weak ⟨rfl, rfl, rfl, rfl, rfl, trivial⟩
def w_X5_params_2_91 (X : zs_X) (d : Nat) (p0 : Nat) (p1 : Option Nat) (p2 : Option Nat) (p3 : Int32) (p4 : Option Nat) (p5 : Option Nat) (q0 : Int32) (S : zs_T) (Q : zs_Q) : Prop :=
  (∃ b1, p5 = some b1 ∧ zs_K S b1 = some (.inl 7) ∧ ((¬ (zs_I S 7010 b1) = 0 → w_X5_params_2_106 X d p0 p1 p2 p3 p4 S Q) ∧ (¬ (¬ (zs_I S 7010 b1) = 0) → (((¬ q0 = 0 → (zs_K S p0 = some (.inl 4) ∧ zs_C X d 4096 [.ref p0, va_rf p4] S (zs_kV (fun S7 => (zs_K S7 b1 = some (.inl 7) ∧ ∃ b10, (zs_R S7 7002 b1) = some b10 ∧ zs_K S7 b10 = some (.inl 6) ∧ ((¬ (zs_I S7 6000 b10) = (6 : Int32) → w_X5_params_2_140 X d p0 p1 p2 p3 p4 S7 Q) ∧ (¬ (¬ (zs_I S7 6000 b10) = (6 : Int32)) → (zs_K S7 p0 = some (.inl 4) ∧ zs_C X d 4101 [.ref p0, va_rf p4] S7 (zs_kV (fun S15 => w_X5_params_2_140 X d p0 p1 p2 p3 p4 S15 Q) Q)))))) Q))) ∧ (¬ (¬ q0 = 0) → w_X5_params_2_106 X d p0 p1 p2 p3 p4 S Q))))))
theorem u_X5_params_2_91 {σ : Nat → Nat} {n0 : Nat} {bf : ab_B} {d : Nat} {p0 : Nat} {p1 : Option Nat} {p2 : Option Nat} {p3 : Int32} {p4 : Option Nat} {p5 : Option Nat} {q0 : Int32} {S : zs_T} {Q : zs_Q} (hB : zt_B bf) (h : w_X5_params_2_91 (zx σ n0 bf) d p0 p1 p2 p3 p4 p5 q0 S Q) : zs_U (zx σ n0 bf) d 4100 91 [(0, .ref p0), (1, va_rf p1), (2, va_rf p2), (3, .int p3), (4, va_rf p4), (5, va_rf p5)] [.int q0] S Q := by
  unfold w_X5_params_2_91 at h
  refine zu_istore d_4100_91 (zs_lt zq_4100 rfl) ?_
  refine zs_U.weak (L1 := [(6, .int q0), (0, .ref p0), (1, va_rf p1), (2, va_rf p2), (3, .int p3), (4, va_rf p4), (5, va_rf p5)]) ?_ ⟨rfl, zs_gp1 rfl (Or.inl rfl) rfl, zs_gp1 rfl (Or.inl (zs_cat _)) rfl, zs_gp1 rfl (Or.inl (zs_cat _)) rfl, zs_gp1 rfl (Or.inl rfl) rfl, zs_gp1 rfl (Or.inl (zs_cat _)) rfl, zs_gp1 rfl (Or.inl (zs_cat _)) rfl, trivial⟩
  refine zu_aload d_4100_93 rfl (zs_rr _) ?_
  obtain ⟨b1, e2, h⟩ := h
  refine zs_stk0 (zs_rfe e2) ?_
  obtain ⟨k3, h⟩ := h
  refine zg_4_690 rfl d_4100_95 k3 ?_
  refine zu_ifne (t := 106) d_4100_98 rfl (fun c4 => ?_) (fun c4 => ?_)
  · have h := h.1 c4
    exact (u_X5_params_2_106 hB h).weak ⟨rfl, rfl, rfl, rfl, rfl, trivial⟩
  · have h := h.2 c4
    refine zu_iload d_4100_101 rfl ?_
    refine zu_ifne (t := 115) d_4100_103 rfl (fun c5 => ?_) (fun c5 => ?_)
    · have h := h.1 c5
      refine zu_aload_n d_4100_115 rfl (zs_ra _) ?_
      refine zu_aload d_4100_116 rfl (zs_rr _) ?_
      obtain ⟨k6, h⟩ := h
      refine zc_4_721 (x0 := p4) hB rfl k6 d_4100_118 (Nat.le_of_ble_eq_true rfl) h (fun S7 h => ?_)
      refine zu_aload d_4100_121 rfl (zs_rr _) ?_
      refine zs_stk0 (zs_rfe e2) ?_
      obtain ⟨k9, h⟩ := h
      refine zg_4_65 rfl d_4100_123 k9 ?_
      obtain ⟨b10, e11, h⟩ := h
      refine zs_stk0 (zs_rfe e11) ?_
      obtain ⟨k12, h⟩ := h
      refine zg_4_369 rfl d_4100_126 k12 ?_
      refine zu_bipush d_4100_129 zj_6 ?_
      refine zu_cmpne (t := 140) d_4100_131 rfl (fun c13 => ?_) (fun c13 => ?_)
      · have h := h.1 c13
        exact (u_X5_params_2_140 hB h).weak ⟨rfl, rfl, rfl, rfl, rfl, trivial⟩
      · have h := h.2 c13
        refine zu_aload_n d_4100_134 rfl (zs_ra _) ?_
        refine zu_aload d_4100_135 rfl (zs_rr _) ?_
        obtain ⟨k14, h⟩ := h
        refine zc_4_724 (x0 := p4) hB rfl k14 d_4100_137 (Nat.le_of_ble_eq_true rfl) h (fun S15 h => ?_)
        exact (u_X5_params_2_140 hB h).weak ⟨rfl, rfl, rfl, rfl, rfl, trivial⟩
    · have h := h.2 c5
      exact (u_X5_params_2_106 hB h).weak ⟨rfl, rfl, rfl, rfl, rfl, trivial⟩
def w_X5_params_2_86 (X : zs_X) (d : Nat) (p0 : Nat) (p1 : Option Nat) (p2 : Option Nat) (p3 : Int32) (p4 : Option Nat) (p5 : Option Nat) (S : zs_T) (Q : zs_Q) : Prop :=
  (w_X5_params_2_91 X d p0 p1 p2 p3 p4 p5 (1 : Int32) S Q)
theorem u_X5_params_2_86 {σ : Nat → Nat} {n0 : Nat} {bf : ab_B} {d : Nat} {p0 : Nat} {p1 : Option Nat} {p2 : Option Nat} {p3 : Int32} {p4 : Option Nat} {p5 : Option Nat} {S : zs_T} {Q : zs_Q} (hB : zt_B bf) (h : w_X5_params_2_86 (zx σ n0 bf) d p0 p1 p2 p3 p4 p5 S Q) : zs_U (zx σ n0 bf) d 4100 86 [(0, .ref p0), (1, va_rf p1), (2, va_rf p2), (3, .int p3), (4, va_rf p4), (5, va_rf p5)] [] S Q := by
  unfold w_X5_params_2_86 at h
  refine zu_iconst d_4100_86 zi_1 ?_
  refine zu_goto (t := 91) d_4100_87 rfl ?_
  exact (u_X5_params_2_91 hB h).weak ⟨rfl, rfl, rfl, rfl, rfl, rfl, trivial⟩
def w_X5_params_2_60 (X : zs_X) (d : Nat) (p0 : Nat) (p1 : Option Nat) (p2 : Option Nat) (p3 : Int32) (p4 : Option Nat) (p5 : Option Nat) (S : zs_T) (Q : zs_Q) : Prop :=
  (∃ b1, p5 = some b1 ∧ zs_K S b1 = some (.inl 7) ∧ ∃ b4, (zs_R S 7002 b1) = some b4 ∧ zs_K S b4 = some (.inl 6) ∧ (((zs_I S 6000 b4) = (9 : Int32) → w_X5_params_2_86 X d p0 p1 p2 p3 p4 p5 S Q) ∧ (¬ ((zs_I S 6000 b4) = (9 : Int32)) → (((¬ (zs_I S 6000 b4) = (6 : Int32) → (w_X5_params_2_91 X d p0 p1 p2 p3 p4 p5 (0 : Int32) S Q)) ∧ (¬ (¬ (zs_I S 6000 b4) = (6 : Int32)) → w_X5_params_2_86 X d p0 p1 p2 p3 p4 p5 S Q))))))
theorem u_X5_params_2_60 {σ : Nat → Nat} {n0 : Nat} {bf : ab_B} {d : Nat} {p0 : Nat} {p1 : Option Nat} {p2 : Option Nat} {p3 : Int32} {p4 : Option Nat} {p5 : Option Nat} {S : zs_T} {Q : zs_Q} (hB : zt_B bf) (h : w_X5_params_2_60 (zx σ n0 bf) d p0 p1 p2 p3 p4 p5 S Q) : zs_U (zx σ n0 bf) d 4100 60 [(0, .ref p0), (1, va_rf p1), (2, va_rf p2), (3, .int p3), (4, va_rf p4), (5, va_rf p5)] [] S Q := by
  unfold w_X5_params_2_60 at h
  refine zu_aload d_4100_60 rfl (zs_rr _) ?_
  obtain ⟨b1, e2, h⟩ := h
  refine zs_stk0 (zs_rfe e2) ?_
  obtain ⟨k3, h⟩ := h
  refine zg_4_65 rfl d_4100_62 k3 ?_
  obtain ⟨b4, e5, h⟩ := h
  refine zs_stk0 (zs_rfe e5) ?_
  obtain ⟨k6, h⟩ := h
  refine zg_4_369 rfl d_4100_65 k6 ?_
  refine zu_bipush d_4100_68 zj_9 ?_
  refine zu_cmpeq (t := 86) d_4100_70 rfl (fun c7 => ?_) (fun c7 => ?_)
  · have h := h.1 c7
    exact (u_X5_params_2_86 hB h).weak ⟨rfl, rfl, rfl, rfl, rfl, rfl, trivial⟩
  · have h := h.2 c7
    refine zu_aload d_4100_73 rfl (zs_rr _) ?_
    refine zs_stk0 (zs_rfe e2) ?_
    refine zg_4_65 rfl d_4100_75 k3 ?_
    refine zs_stk0 (zs_rfe e5) ?_
    refine zg_4_369 rfl d_4100_78 k6 ?_
    refine zu_bipush d_4100_81 zj_6 ?_
    refine zu_cmpne (t := 90) d_4100_83 rfl (fun c8 => ?_) (fun c8 => ?_)
    · have h := h.1 c8
      refine zu_iconst d_4100_90 zi_0 ?_
      exact (u_X5_params_2_91 hB h).weak ⟨rfl, rfl, rfl, rfl, rfl, rfl, trivial⟩
    · have h := h.2 c8
      exact (u_X5_params_2_86 hB h).weak ⟨rfl, rfl, rfl, rfl, rfl, rfl, trivial⟩
def w_X5_params_2_16 (X : zs_X) (d : Nat) (p0 : Nat) (p1 : Option Nat) (p2 : Option Nat) (p3 : Int32) (p4 : Option Nat) (S : zs_T) (Q : zs_Q) : Prop :=
  (((p4 = none → (∃ b3, p1 = some b3 ∧ zs_K S b3 = some (.inl 11) ∧ ∃ b6, p2 = some b6 ∧ zs_K S b6 = some (.inl 10) ∧ zs_K S p0 = some (.inl 4) ∧ zs_C X d 4097 [.ref p0, .int (43 : Int32), .int (zs_I S 11001 b3), .int (zs_I S 10000 b6)] S (zs_kV (fun S10 => (zs_K S10 p0 = some (.inl 4) ∧ ∃ b13, (zs_R S10 4010 p0) = some b13 ∧ zs_K S10 b13 = some (.inl 10) ∧ ∃ b16, (zs_R S10 4001 p0) = some b16 ∧ zs_K S10 b16 = some (.inl 3) ∧ zs_C X d 3002 [.ref b16, .int (zs_I S10 10003 b13)] S10 (zs_kI (fun v20 S19 => (w_X5_params_2_179 X d  S19 Q)) Q))) Q))) ∧ (∀ b1, p4 = some b1 → (∃ b21, p2 = some b21 ∧ zs_K S b21 = some (.inl 10) ∧ ∃ b24, (zs_R S 10004 b21) = some b24 ∧ zs_K S b24 = some (.inl 16) ∧ zs_C X d 16009 [.ref b24, .int p3] S (zs_kR (fun v28 S27 => ((∀ a, v28 = some a → zs_K S27 a = some (.inl 7)) ∧ ∃ b30, v28 = some b30 ∧ zs_K S27 b30 = some (.inl 7) ∧ ∃ b33, (zs_R S27 7002 b30) = some b33 ∧ zs_K S27 b33 = some (.inl 6) ∧ zs_C X d 6002 [.ref b33] S27 (zs_kI (fun v37 S36 => (((¬ v37 = 0 → w_X5_params_2_86 X d p0 p1 p2 (p3 + (1 : Int32)) p4 v28 S36 Q) ∧ (¬ (¬ v37 = 0) → (zs_K S36 b30 = some (.inl 7) ∧ ∃ b40, (zs_R S36 7002 b30) = some b40 ∧ zs_K S36 b40 = some (.inl 6) ∧ (((zs_I S36 6000 b40) = (5 : Int32) → w_X5_params_2_86 X d p0 p1 p2 (p3 + (1 : Int32)) p4 v28 S36 Q) ∧ (¬ ((zs_I S36 6000 b40) = (5 : Int32)) → w_X5_params_2_60 X d p0 p1 p2 (p3 + (1 : Int32)) p4 v28 S36 Q))))))) Q))) Q)))))
theorem u_X5_params_2_16 {σ : Nat → Nat} {n0 : Nat} {bf : ab_B} {d : Nat} {p0 : Nat} {p1 : Option Nat} {p2 : Option Nat} {p3 : Int32} {p4 : Option Nat} {S : zs_T} {Q : zs_Q} (hB : zt_B bf) (h : w_X5_params_2_16 (zx σ n0 bf) d p0 p1 p2 p3 p4 S Q) : zs_U (zx σ n0 bf) d 4100 16 [(0, .ref p0), (1, va_rf p1), (2, va_rf p2), (3, .int p3), (4, va_rf p4)] [] S Q := by
  unfold w_X5_params_2_16 at h
  refine zu_aload d_4100_16 rfl (zs_rr _) ?_
  refine zu_ifnull (u := p4) (t := 150) d_4100_18 rfl rfl (fun e2 => ?_) (fun b1 e2 => ?_)
  · have h := h.1 e2
    refine zu_aload_n d_4100_150 rfl (zs_ra _) ?_
    refine zu_bipush d_4100_151 zj_43 ?_
    refine zu_aload_n d_4100_153 rfl (zs_rr _) ?_
    obtain ⟨b3, e4, h⟩ := h
    refine zs_stk0 (zs_rfe e4) ?_
    obtain ⟨k5, h⟩ := h
    refine zg_4_469 rfl d_4100_154 k5 ?_
    refine zu_aload_n d_4100_157 rfl (zs_rr _) ?_
    obtain ⟨b6, e7, h⟩ := h
    refine zs_stk0 (zs_rfe e7) ?_
    obtain ⟨k8, h⟩ := h
    refine zg_4_743 rfl d_4100_158 k8 ?_
    obtain ⟨k9, h⟩ := h
    refine zc_4_712 (x0 := (43 : Int32)) (x1 := (zs_I S 11001 b3)) (x2 := (zs_I S 10000 b6)) hB rfl k9 d_4100_161 (Nat.le_of_ble_eq_true rfl) h (fun S10 h => ?_)
    refine zu_aload_n d_4100_164 rfl (zs_ra _) ?_
    obtain ⟨k12, h⟩ := h
    refine zg_4_128 rfl d_4100_165 k12 ?_
    refine zu_aload_n d_4100_168 rfl (zs_ra _) ?_
    refine zg_4_218 rfl d_4100_169 k12 ?_
    obtain ⟨b13, e14, h⟩ := h
    refine zs_stk0 (zs_rfe e14) ?_
    obtain ⟨k15, h⟩ := h
    refine zg_4_738 rfl d_4100_172 k15 ?_
    obtain ⟨b16, e17, h⟩ := h
    refine zs_stk1 (zs_rfe e17) ?_
    obtain ⟨k18, h⟩ := h
    refine zc_4_709 (x0 := (zs_I S10 10003 b13)) hB rfl k18 d_4100_175 (Nat.le_of_ble_eq_true rfl) h (fun v20 S19 h => ?_)
    refine zu_pop d_4100_178 rfl ?_
    exact (u_X5_params_2_179 hB h).weak trivial
  · have h := h.2 b1 e2
    refine zu_aload_n d_4100_21 rfl (zs_rr _) ?_
    obtain ⟨b21, e22, h⟩ := h
    refine zs_stk0 (zs_rfe e22) ?_
    obtain ⟨k23, h⟩ := h
    refine zg_4_247 rfl d_4100_22 k23 ?_
    refine zu_iload_n d_4100_25 rfl ?_
    refine zu_iinc d_4100_26 rfl zi_1 (zs_lt zq_4100 rfl) ?_
    refine zs_U.weak (L1 := [(3, .int (p3 + (1 : Int32))), (0, .ref p0), (1, va_rf p1), (2, va_rf p2), (4, va_rf p4)]) ?_ ⟨rfl, zs_gp1 rfl (Or.inl rfl) rfl, zs_gp1 rfl (Or.inl (zs_cat _)) rfl, zs_gp1 rfl (Or.inl (zs_cat _)) rfl, zs_gp1 rfl (Or.inl (zs_cat _)) rfl, trivial⟩
    obtain ⟨b24, e25, h⟩ := h
    refine zs_stk1 (zs_rfe e25) ?_
    obtain ⟨k26, h⟩ := h
    refine zc_4_56 (x0 := p3) hB rfl k26 d_4100_29 (Nat.le_of_ble_eq_true rfl) h (fun v28 S27 h => ?_)
    obtain ⟨k29, h⟩ := h
    refine zk_4_60 (o := v28) rfl d_4100_32 k29 ?_
    refine zu_astore d_4100_35 (zs_rr _) (zs_lt zq_4100 rfl) ?_
    refine zs_U.weak (L1 := [(5, va_rf v28), (0, .ref p0), (1, va_rf p1), (2, va_rf p2), (3, .int (p3 + (1 : Int32))), (4, va_rf p4)]) ?_ ⟨rfl, zs_gp1 rfl (Or.inl rfl) rfl, zs_gp1 rfl (Or.inl (zs_cat _)) rfl, zs_gp1 rfl (Or.inl (zs_cat _)) rfl, zs_gp1 rfl (Or.inl rfl) rfl, zs_gp1 rfl (Or.inl (zs_cat _)) rfl, trivial⟩
    refine zu_aload d_4100_37 rfl (zs_rr _) ?_
    obtain ⟨b30, e31, h⟩ := h
    refine zs_stk0 (zs_rfe e31) ?_
    obtain ⟨k32, h⟩ := h
    refine zg_4_65 rfl d_4100_39 k32 ?_
    obtain ⟨b33, e34, h⟩ := h
    refine zs_stk0 (zs_rfe e34) ?_
    obtain ⟨k35, h⟩ := h
    refine zc_4_335  hB rfl k35 d_4100_42 (Nat.le_of_ble_eq_true rfl) h (fun v37 S36 h => ?_)
    refine zu_ifne (t := 86) d_4100_45 rfl (fun c38 => ?_) (fun c38 => ?_)
    · have h := h.1 c38
      exact (u_X5_params_2_86 hB h).weak ⟨rfl, rfl, rfl, rfl, rfl, rfl, trivial⟩
    · have h := h.2 c38
      refine zu_aload d_4100_48 rfl (zs_rr _) ?_
      refine zs_stk0 (zs_rfe e31) ?_
      obtain ⟨k39, h⟩ := h
      refine zg_4_65 rfl d_4100_50 k39 ?_
      obtain ⟨b40, e41, h⟩ := h
      refine zs_stk0 (zs_rfe e41) ?_
      obtain ⟨k42, h⟩ := h
      refine zg_4_369 rfl d_4100_53 k42 ?_
      refine zu_iconst d_4100_56 zi_5 ?_
      refine zu_cmpeq (t := 86) d_4100_57 rfl (fun c43 => ?_) (fun c43 => ?_)
      · have h := h.1 c43
        exact (u_X5_params_2_86 hB h).weak ⟨rfl, rfl, rfl, rfl, rfl, rfl, trivial⟩
      · have h := h.2 c43
        exact (u_X5_params_2_60 hB h).weak ⟨rfl, rfl, rfl, rfl, rfl, rfl, trivial⟩
def w_X5_params_2 (X : zs_X) (d : Nat) (p0 : Nat) (p1 : Option Nat) (S : zs_T) (Q : zs_Q) : Prop :=
  (∃ b1, p1 = some b1 ∧ zs_K S b1 = some (.inl 11) ∧ ∃ b4, (zs_R S 11009 b1) = some b4 ∧ zs_K S b4 = some (.inl 7) ∧ zs_U X d 4100 16 [(0, .ref p0), (1, va_rf p1), (2, va_rf (zs_R S 7006 b4)), (3, .int (0 : Int32)), (4, va_rf (zs_R S 11005 b1))] [] S Q)
theorem u_X5_params_2 {σ : Nat → Nat} {n0 : Nat} {bf : ab_B} {d : Nat} {p0 : Nat} {p1 : Option Nat} {S : zs_T} {Q : zs_Q} (hB : zt_B bf) (hd : 1 ≤ d) (h : w_X5_params_2 (zx σ n0 bf) (d - 1) p0 p1 S Q) : zs_C (zx σ n0 bf) d 4100 [.ref p0, va_rf p1] S Q := by
  have hL : lv_args 0 [.ref p0, va_rf p1] = [(0, .ref p0), (1, va_rf p1)] := by simp [lv_args, zs_cat, zs_cI, zs_cJ, zs_cA]
  refine zs_C.of1 (hB.2 4100 (by decide) (by decide)) hd (by rw [hL]; exact zs_sub_self _ (by exact ⟨rfl, rfl, trivial⟩)) ?_
  rw [hL]
  clear hL
  unfold w_X5_params_2 at h
  refine zu_aload_n d_4100_0 rfl (zs_rr _) ?_
  obtain ⟨b1, e2, h⟩ := h
  refine zs_stk0 (zs_rfe e2) ?_
  obtain ⟨k3, h⟩ := h
  refine zg_4_664 rfl d_4100_1 k3 ?_
  obtain ⟨b4, e5, h⟩ := h
  refine zs_stk0 (zs_rfe e5) ?_
  obtain ⟨k6, h⟩ := h
  refine zg_4_243 rfl d_4100_4 k6 ?_
  refine zu_astore_n d_4100_7 (zs_rr _) (zs_lt zq_4100 rfl) ?_
  refine zs_U.weak (L1 := [(2, va_rf (zs_R S 7006 b4)), (0, .ref p0), (1, va_rf p1)]) ?_ ⟨rfl, zs_gp1 rfl (Or.inl rfl) rfl, zs_gp1 rfl (Or.inl (zs_cat _)) rfl, trivial⟩
  refine zu_iconst d_4100_8 zi_0 ?_
  refine zu_istore_n d_4100_9 (zs_lt zq_4100 rfl) ?_
  refine zs_U.weak (L1 := [(3, .int (0 : Int32)), (0, .ref p0), (1, va_rf p1), (2, va_rf (zs_R S 7006 b4))]) ?_ ⟨rfl, zs_gp1 rfl (Or.inl rfl) rfl, zs_gp1 rfl (Or.inl (zs_cat _)) rfl, zs_gp1 rfl (Or.inl (zs_cat _)) rfl, trivial⟩
  refine zu_aload_n d_4100_10 rfl (zs_rr _) ?_
  refine zs_stk0 (zs_rfe e2) ?_
  refine zg_4_539 rfl d_4100_11 k3 ?_
  refine zu_astore d_4100_14 (zs_rr _) (zs_lt zq_4100 rfl) ?_
  exact h.weak ⟨rfl, rfl, rfl, rfl, rfl, trivial⟩
/-! SchemaPascal$Reader.asText(LSchemaPascal$Node;)V -/
theorem zm_4101 {σ : Nat → Nat} {n0 : Nat} {bf : ab_B} : ab_code (zx σ n0 bf).1 4101 = prog_9_method_91_code := rfl
theorem zq_4101 {σ : Nat → Nat} {n0 : Nat} {bf : ab_B} : ab_maxL (zx σ n0 bf).1 4101 = 2 := rfl
theorem zr_4101 {σ : Nat → Nat} {n0 : Nat} {bf : ab_B} : ab_ret (zx σ n0 bf).1 4101 = (Option.none : Option Jvm.ClassFile.FieldType) := rfl
theorem d_4101_0 {σ : Nat → Nat} {n0 : Nat} {bf : ab_B} : decode (ab_code (zx σ n0 bf).1 4101) 0 = .ok (.aload_n 1, 1) := zd zm_4101 (by decide +kernel)
theorem d_4101_1 {σ : Nat → Nat} {n0 : Nat} {bf : ab_B} : decode (ab_code (zx σ n0 bf).1 4101) 1 = .ok (.getfield 297, 3) := zd zm_4101 (by decide +kernel)
theorem d_4101_4 {σ : Nat → Nat} {n0 : Nat} {bf : ab_B} : decode (ab_code (zx σ n0 bf).1 4101) 4 = .ok (.invokevirtual 335, 3) := zd zm_4101 (by decide +kernel)
theorem d_4101_7 {σ : Nat → Nat} {n0 : Nat} {bf : ab_B} : decode (ab_code (zx σ n0 bf).1 4101) 7 = .ok (.ifCond .eq 14, 3) := zd zm_4101 (by decide +kernel)
theorem d_4101_10 {σ : Nat → Nat} {n0 : Nat} {bf : ab_B} : decode (ab_code (zx σ n0 bf).1 4101) 10 = .ok (.aload_n 0, 1) := zd zm_4101 (by decide +kernel)
theorem d_4101_11 {σ : Nat → Nat} {n0 : Nat} {bf : ab_B} : decode (ab_code (zx σ n0 bf).1 4101) 11 = .ok (.bipush 35, 2) := zd zm_4101 (by decide +kernel)
theorem d_4101_13 {σ : Nat → Nat} {n0 : Nat} {bf : ab_B} : decode (ab_code (zx σ n0 bf).1 4101) 13 = .ok (.aload_n 1, 1) := zd zm_4101 (by decide +kernel)
theorem d_4101_14 {σ : Nat → Nat} {n0 : Nat} {bf : ab_B} : decode (ab_code (zx σ n0 bf).1 4101) 14 = .ok (.getfield 469, 3) := zd zm_4101 (by decide +kernel)
theorem d_4101_17 {σ : Nat → Nat} {n0 : Nat} {bf : ab_B} : decode (ab_code (zx σ n0 bf).1 4101) 17 = .ok (.invokevirtual 273, 3) := zd zm_4101 (by decide +kernel)
theorem d_4101_20 {σ : Nat → Nat} {n0 : Nat} {bf : ab_B} : decode (ab_code (zx σ n0 bf).1 4101) 20 = .ok (.pop, 1) := zd zm_4101 (by decide +kernel)
theorem d_4101_21 {σ : Nat → Nat} {n0 : Nat} {bf : ab_B} : decode (ab_code (zx σ n0 bf).1 4101) 21 = .ok (.return_, 1) := zd zm_4101 (by decide +kernel)
def w_X5_asText (X : zs_X) (d : Nat) (p0 : Nat) (p1 : Option Nat) (S : zs_T) (Q : zs_Q) : Prop :=
  (∃ b1, p1 = some b1 ∧ zs_K S b1 = some (.inl 11) ∧ ∃ b4, (zs_R S 11002 b1) = some b4 ∧ zs_K S b4 = some (.inl 6) ∧ zs_C X d 6002 [.ref b4] S (zs_kI (fun v8 S7 => (((v8 = 0 → (Q (.returned none) S7)) ∧ (¬ (v8 = 0) → (zs_K S7 b1 = some (.inl 11) ∧ zs_K S7 p0 = some (.inl 4) ∧ zs_C X d 4094 [.ref p0, .int (35 : Int32), .int (zs_I S7 11001 b1)] S7 (zs_kI (fun v13 S12 => (Q (.returned none) S12)) Q)))))) Q))
theorem u_X5_asText {σ : Nat → Nat} {n0 : Nat} {bf : ab_B} {d : Nat} {p0 : Nat} {p1 : Option Nat} {S : zs_T} {Q : zs_Q} (hB : zt_B bf) (hd : 1 ≤ d) (h : w_X5_asText (zx σ n0 bf) (d - 1) p0 p1 S Q) : zs_C (zx σ n0 bf) d 4101 [.ref p0, va_rf p1] S Q := by
  have hL : lv_args 0 [.ref p0, va_rf p1] = [(0, .ref p0), (1, va_rf p1)] := by simp [lv_args, zs_cat, zs_cI, zs_cJ, zs_cA]
  refine zs_C.of1 (hB.2 4101 (by decide) (by decide)) hd (by rw [hL]; exact zs_sub_self _ (by exact ⟨rfl, rfl, trivial⟩)) ?_
  rw [hL]
  clear hL
  unfold w_X5_asText at h
  refine zu_aload_n d_4101_0 rfl (zs_rr _) ?_
  obtain ⟨b1, e2, h⟩ := h
  refine zs_stk0 (zs_rfe e2) ?_
  obtain ⟨k3, h⟩ := h
  refine zg_4_297 rfl d_4101_1 k3 ?_
  obtain ⟨b4, e5, h⟩ := h
  refine zs_stk0 (zs_rfe e5) ?_
  obtain ⟨k6, h⟩ := h
  refine zc_4_335  hB rfl k6 d_4101_4 (Nat.le_of_ble_eq_true rfl) h (fun v8 S7 h => ?_)
  refine zu_ifeq (t := 21) d_4101_7 rfl (fun c9 => ?_) (fun c9 => ?_)
  · have h := h.1 c9
    exact zu_vret d_4101_21 zr_4101 h
  · have h := h.2 c9
    refine zu_aload_n d_4101_10 rfl (zs_ra _) ?_
    refine zu_bipush d_4101_11 zj_35 ?_
    refine zu_aload_n d_4101_13 rfl (zs_rr _) ?_
    refine zs_stk0 (zs_rfe e2) ?_
    obtain ⟨k10, h⟩ := h
    refine zg_4_469 rfl d_4101_14 k10 ?_
    obtain ⟨k11, h⟩ := h
    refine zc_4_273 (x0 := (35 : Int32)) (x1 := (zs_I S7 11001 b1)) hB rfl k11 d_4101_17 (Nat.le_of_ble_eq_true rfl) h (fun v13 S12 h => ?_)
    refine zu_pop d_4101_20 rfl ?_
    exact zu_vret d_4101_21 zr_4101 h
/-! SchemaPascal$Reader.operators(LSchemaPascal$Node;)V -/
theorem zm_4102 {σ : Nat → Nat} {n0 : Nat} {bf : ab_B} : ab_code (zx σ n0 bf).1 4102 = prog_9_method_92_code := rfl
theorem zq_4102 {σ : Nat → Nat} {n0 : Nat} {bf : ab_B} : ab_maxL (zx σ n0 bf).1 4102 = 3 := rfl
theorem zr_4102 {σ : Nat → Nat} {n0 : Nat} {bf : ab_B} : ab_ret (zx σ n0 bf).1 4102 = (Option.none : Option Jvm.ClassFile.FieldType) := rfl
theorem d_4102_0 {σ : Nat → Nat} {n0 : Nat} {bf : ab_B} : decode (ab_code (zx σ n0 bf).1 4102) 0 = .ok (.aload_n 1, 1) := zd zm_4102 (by decide +kernel)
theorem d_4102_1 {σ : Nat → Nat} {n0 : Nat} {bf : ab_B} : decode (ab_code (zx σ n0 bf).1 4102) 1 = .ok (.astore_n 2, 1) := zd zm_4102 (by decide +kernel)
theorem d_4102_2 {σ : Nat → Nat} {n0 : Nat} {bf : ab_B} : decode (ab_code (zx σ n0 bf).1 4102) 2 = .ok (.aload_n 2, 1) := zd zm_4102 (by decide +kernel)
theorem d_4102_3 {σ : Nat → Nat} {n0 : Nat} {bf : ab_B} : decode (ab_code (zx σ n0 bf).1 4102) 3 = .ok (.getfield 512, 3) := zd zm_4102 (by decide +kernel)
theorem d_4102_6 {σ : Nat → Nat} {n0 : Nat} {bf : ab_B} : decode (ab_code (zx σ n0 bf).1 4102) 6 = .ok (.bipush 8, 2) := zd zm_4102 (by decide +kernel)
theorem d_4102_8 {σ : Nat → Nat} {n0 : Nat} {bf : ab_B} : decode (ab_code (zx σ n0 bf).1 4102) 8 = .ok (.if_icmp .ne 19, 3) := zd zm_4102 (by decide +kernel)
theorem d_4102_11 {σ : Nat → Nat} {n0 : Nat} {bf : ab_B} : decode (ab_code (zx σ n0 bf).1 4102) 11 = .ok (.aload_n 2, 1) := zd zm_4102 (by decide +kernel)
theorem d_4102_12 {σ : Nat → Nat} {n0 : Nat} {bf : ab_B} : decode (ab_code (zx σ n0 bf).1 4102) 12 = .ok (.getfield 539, 3) := zd zm_4102 (by decide +kernel)
theorem d_4102_15 {σ : Nat → Nat} {n0 : Nat} {bf : ab_B} : decode (ab_code (zx σ n0 bf).1 4102) 15 = .ok (.aload_n 2, 1) := zd zm_4102 (by decide +kernel)
theorem d_4102_16 {σ : Nat → Nat} {n0 : Nat} {bf : ab_B} : decode (ab_code (zx σ n0 bf).1 4102) 16 = .ok (.putfield 730, 3) := zd zm_4102 (by decide +kernel)
theorem d_4102_19 {σ : Nat → Nat} {n0 : Nat} {bf : ab_B} : decode (ab_code (zx σ n0 bf).1 4102) 19 = .ok (.aload_n 2, 1) := zd zm_4102 (by decide +kernel)
theorem d_4102_20 {σ : Nat → Nat} {n0 : Nat} {bf : ab_B} : decode (ab_code (zx σ n0 bf).1 4102) 20 = .ok (.getfield 539, 3) := zd zm_4102 (by decide +kernel)
theorem d_4102_23 {σ : Nat → Nat} {n0 : Nat} {bf : ab_B} : decode (ab_code (zx σ n0 bf).1 4102) 23 = .ok (.astore_n 2, 1) := zd zm_4102 (by decide +kernel)
theorem d_4102_24 {σ : Nat → Nat} {n0 : Nat} {bf : ab_B} : decode (ab_code (zx σ n0 bf).1 4102) 24 = .ok (.goto (-22), 3) := zd zm_4102 (by decide +kernel)
theorem d_4102_27 {σ : Nat → Nat} {n0 : Nat} {bf : ab_B} : decode (ab_code (zx σ n0 bf).1 4102) 27 = .ok (.aload_n 0, 1) := zd zm_4102 (by decide +kernel)
theorem d_4102_28 {σ : Nat → Nat} {n0 : Nat} {bf : ab_B} : decode (ab_code (zx σ n0 bf).1 4102) 28 = .ok (.aload_n 2, 1) := zd zm_4102 (by decide +kernel)
theorem d_4102_29 {σ : Nat → Nat} {n0 : Nat} {bf : ab_B} : decode (ab_code (zx σ n0 bf).1 4102) 29 = .ok (.invokevirtual 721, 3) := zd zm_4102 (by decide +kernel)
theorem d_4102_32 {σ : Nat → Nat} {n0 : Nat} {bf : ab_B} : decode (ab_code (zx σ n0 bf).1 4102) 32 = .ok (.aload_n 2, 1) := zd zm_4102 (by decide +kernel)
theorem d_4102_33 {σ : Nat → Nat} {n0 : Nat} {bf : ab_B} : decode (ab_code (zx σ n0 bf).1 4102) 33 = .ok (.aload_n 1, 1) := zd zm_4102 (by decide +kernel)
theorem d_4102_34 {σ : Nat → Nat} {n0 : Nat} {bf : ab_B} : decode (ab_code (zx σ n0 bf).1 4102) 34 = .ok (.if_acmp .eq 16, 3) := zd zm_4102 (by decide +kernel)
theorem d_4102_37 {σ : Nat → Nat} {n0 : Nat} {bf : ab_B} : decode (ab_code (zx σ n0 bf).1 4102) 37 = .ok (.aload_n 2, 1) := zd zm_4102 (by decide +kernel)
theorem d_4102_38 {σ : Nat → Nat} {n0 : Nat} {bf : ab_B} : decode (ab_code (zx σ n0 bf).1 4102) 38 = .ok (.getfield 730, 3) := zd zm_4102 (by decide +kernel)
theorem d_4102_41 {σ : Nat → Nat} {n0 : Nat} {bf : ab_B} : decode (ab_code (zx σ n0 bf).1 4102) 41 = .ok (.astore_n 2, 1) := zd zm_4102 (by decide +kernel)
theorem d_4102_42 {σ : Nat → Nat} {n0 : Nat} {bf : ab_B} : decode (ab_code (zx σ n0 bf).1 4102) 42 = .ok (.aload_n 0, 1) := zd zm_4102 (by decide +kernel)
theorem d_4102_43 {σ : Nat → Nat} {n0 : Nat} {bf : ab_B} : decode (ab_code (zx σ n0 bf).1 4102) 43 = .ok (.aload_n 2, 1) := zd zm_4102 (by decide +kernel)
theorem d_4102_44 {σ : Nat → Nat} {n0 : Nat} {bf : ab_B} : decode (ab_code (zx σ n0 bf).1 4102) 44 = .ok (.invokevirtual 733, 3) := zd zm_4102 (by decide +kernel)
theorem d_4102_47 {σ : Nat → Nat} {n0 : Nat} {bf : ab_B} : decode (ab_code (zx σ n0 bf).1 4102) 47 = .ok (.goto (-15), 3) := zd zm_4102 (by decide +kernel)
theorem d_4102_50 {σ : Nat → Nat} {n0 : Nat} {bf : ab_B} : decode (ab_code (zx σ n0 bf).1 4102) 50 = .ok (.return_, 1) := zd zm_4102 (by decide +kernel)
def w_X5_operators_2 (X : zs_X) (d : Nat) (p0 : Nat) (p1 : Option Nat) (p2 : Option Nat) (S : zs_T) (Q : zs_Q) : Prop :=
  (∃ b1, p2 = some b1 ∧ zs_K S b1 = some (.inl 11) ∧ ((¬ (zs_I S 11000 b1) = (8 : Int32) → (zs_K S p0 = some (.inl 4) ∧ zs_C X d 4096 [.ref p0, va_rf p2] S (zs_kV (fun S6 => zs_U X d 4102 32 [(0, .ref p0), (1, va_rf p1), (2, va_rf p2)] [] S6 Q) Q))) ∧ (¬ (¬ (zs_I S 11000 b1) = (8 : Int32)) → (∃ b8, (zs_R S 11005 b1) = some b8 ∧ zs_K S b8 = some (.inl 11) ∧ ab_n0 X.1 ≤ b8 ∧ ∀ S12, S12 = zs_sR S 11008 b8 p2 → zs_U X d 4102 2 [(0, .ref p0), (1, va_rf p1), (2, va_rf (zs_R S12 11005 b1))] [] S12 Q))))
theorem u_X5_operators_2 {σ : Nat → Nat} {n0 : Nat} {bf : ab_B} {d : Nat} {p0 : Nat} {p1 : Option Nat} {p2 : Option Nat} {S : zs_T} {Q : zs_Q} (hB : zt_B bf) (h : w_X5_operators_2 (zx σ n0 bf) d p0 p1 p2 S Q) : zs_U (zx σ n0 bf) d 4102 2 [(0, .ref p0), (1, va_rf p1), (2, va_rf p2)] [] S Q := by
  unfold w_X5_operators_2 at h
  refine zu_aload_n d_4102_2 rfl (zs_rr _) ?_
  obtain ⟨b1, e2, h⟩ := h
  refine zs_stk0 (zs_rfe e2) ?_
  obtain ⟨k3, h⟩ := h
  refine zg_4_512 rfl d_4102_3 k3 ?_
  refine zu_bipush d_4102_6 zj_8 ?_
  refine zu_cmpne (t := 27) d_4102_8 rfl (fun c4 => ?_) (fun c4 => ?_)
  · have h := h.1 c4
    refine zu_aload_n d_4102_27 rfl (zs_ra _) ?_
    refine zu_aload_n d_4102_28 rfl (zs_rr _) ?_
    obtain ⟨k5, h⟩ := h
    refine zc_4_721 (x0 := p2) hB rfl k5 d_4102_29 (Nat.le_of_ble_eq_true rfl) h (fun S6 h => ?_)
    exact h.weak ⟨rfl, rfl, rfl, trivial⟩
  · have h := h.2 c4
    refine zu_aload_n d_4102_11 rfl (zs_rr _) ?_
    refine zs_stk0 (zs_rfe e2) ?_
    refine zg_4_539 rfl d_4102_12 k3 ?_
    refine zu_aload_n d_4102_15 rfl (zs_rr _) ?_
    obtain ⟨b8, e9, h⟩ := h
    refine zs_stk1 (zs_rfe e9) ?_
    obtain ⟨k10, h⟩ := h
    obtain ⟨k11, h⟩ := h
    refine zp_4_730 (v := p2) rfl d_4102_16 k10 k11 ?_
    generalize e13 : zs_sR S 11008 b8 p2 = S12
    have h := h S12 e13.symm
    have K14 : ∀ b, zs_K S12 b = zs_K S b := zs_Kt e13 (zs_KsR _ _ _ _) (fun _ => rfl)
    refine zu_aload_n d_4102_19 rfl (zs_rr _) ?_
    refine zs_stk0 (zs_rfe e2) ?_
    refine zg_4_539 rfl d_4102_20 ((K14 _).trans k3) ?_
    refine zu_astore_n d_4102_23 (zs_rr _) (zs_lt zq_4102 rfl) ?_
    refine zs_U.weak (L1 := [(2, va_rf (zs_R S12 11005 b1)), (0, .ref p0), (1, va_rf p1)]) ?_ ⟨rfl, zs_gp1 rfl (Or.inl rfl) rfl, zs_gp1 rfl (Or.inl (zs_cat _)) rfl, trivial⟩
    refine zu_goto (t := 2) d_4102_24 rfl ?_
    exact h.weak ⟨rfl, rfl, rfl, trivial⟩
def w_X5_operators_32 (X : zs_X) (d : Nat) (p0 : Nat) (p1 : Option Nat) (p2 : Option Nat) (S : zs_T) (Q : zs_Q) : Prop :=
  (((p2 = p1 → (Q (.returned none) S)) ∧ (¬ (p2 = p1) → (∃ b2, p2 = some b2 ∧ zs_K S b2 = some (.inl 11) ∧ zs_K S p0 = some (.inl 4) ∧ zs_C X d 4103 [.ref p0, va_rf (zs_R S 11008 b2)] S (zs_kV (fun S6 => (zs_U X d 4102 32 [(0, .ref p0), (1, va_rf p1), (2, va_rf (zs_R S 11008 b2))] [] S6 Q)) Q)))))
theorem u_X5_operators_32 {σ : Nat → Nat} {n0 : Nat} {bf : ab_B} {d : Nat} {p0 : Nat} {p1 : Option Nat} {p2 : Option Nat} {S : zs_T} {Q : zs_Q} (hB : zt_B bf) (h : w_X5_operators_32 (zx σ n0 bf) d p0 p1 p2 S Q) : zs_U (zx σ n0 bf) d 4102 32 [(0, .ref p0), (1, va_rf p1), (2, va_rf p2)] [] S Q := by
  unfold w_X5_operators_32 at h
  refine zu_aload_n d_4102_32 rfl (zs_rr _) ?_
  refine zu_aload_n d_4102_33 rfl (zs_rr _) ?_
  refine zu_acmpeq (u := p2) (w := p1) (t := 50) d_4102_34 rfl rfl rfl (fun c1 => ?_) (fun c1 => ?_)
  · have h := h.1 c1
    exact zu_vret d_4102_50 zr_4102 h
  · have h := h.2 c1
    refine zu_aload_n d_4102_37 rfl (zs_rr _) ?_
    obtain ⟨b2, e3, h⟩ := h
    refine zs_stk0 (zs_rfe e3) ?_
    obtain ⟨k4, h⟩ := h
    refine zg_4_730 rfl d_4102_38 k4 ?_
    refine zu_astore_n d_4102_41 (zs_rr _) (zs_lt zq_4102 rfl) ?_
    refine zs_U.weak (L1 := [(2, va_rf (zs_R S 11008 b2)), (0, .ref p0), (1, va_rf p1)]) ?_ ⟨rfl, zs_gp1 rfl (Or.inl rfl) rfl, zs_gp1 rfl (Or.inl (zs_cat _)) rfl, trivial⟩
    refine zu_aload_n d_4102_42 rfl (zs_ra _) ?_
    refine zu_aload_n d_4102_43 rfl (zs_rr _) ?_
    obtain ⟨k5, h⟩ := h
    refine zc_4_733 (x0 := (zs_R S 11008 b2)) hB rfl k5 d_4102_44 (Nat.le_of_ble_eq_true rfl) h (fun S6 h => ?_)
    refine zu_goto (t := 32) d_4102_47 rfl ?_
    exact h.weak ⟨rfl, rfl, rfl, trivial⟩
def w_X5_operators (X : zs_X) (d : Nat) (p0 : Nat) (p1 : Option Nat) (S : zs_T) (Q : zs_Q) : Prop :=
  (zs_U X d 4102 2 [(0, .ref p0), (1, va_rf p1), (2, va_rf p1)] [] S Q)
theorem u_X5_operators {σ : Nat → Nat} {n0 : Nat} {bf : ab_B} {d : Nat} {p0 : Nat} {p1 : Option Nat} {S : zs_T} {Q : zs_Q} (hB : zt_B bf) (hd : 1 ≤ d) (h : w_X5_operators (zx σ n0 bf) (d - 1) p0 p1 S Q) : zs_C (zx σ n0 bf) d 4102 [.ref p0, va_rf p1] S Q := by
  have hL : lv_args 0 [.ref p0, va_rf p1] = [(0, .ref p0), (1, va_rf p1)] := by simp [lv_args, zs_cat, zs_cI, zs_cJ, zs_cA]
  refine zs_C.of1 (hB.2 4102 (by decide) (by decide)) hd (by rw [hL]; exact zs_sub_self _ (by exact ⟨rfl, rfl, trivial⟩)) ?_
  rw [hL]
  clear hL
  unfold w_X5_operators at h
  refine zu_aload_n d_4102_0 rfl (zs_rr _) ?_
  refine zu_astore_n d_4102_1 (zs_rr _) (zs_lt zq_4102 rfl) ?_
  refine zs_U.weak (L1 := [(2, va_rf p1), (0, .ref p0), (1, va_rf p1)]) ?_ ⟨rfl, zs_gp1 rfl (Or.inl rfl) rfl, zs_gp1 rfl (Or.inl (zs_cat _)) rfl, trivial⟩
  exact h.weak ⟨rfl, rfl, rfl, trivial⟩
/-! SchemaPascal$Reader.binary(LSchemaPascal$Node;)V -/
theorem zm_4103 {σ : Nat → Nat} {n0 : Nat} {bf : ab_B} : ab_code (zx σ n0 bf).1 4103 = prog_9_method_93_code := rfl
theorem zq_4103 {σ : Nat → Nat} {n0 : Nat} {bf : ab_B} : ab_maxL (zx σ n0 bf).1 4103 = 4 := rfl
theorem zr_4103 {σ : Nat → Nat} {n0 : Nat} {bf : ab_B} : ab_ret (zx σ n0 bf).1 4103 = (Option.none : Option Jvm.ClassFile.FieldType) := rfl
theorem d_4103_0 {σ : Nat → Nat} {n0 : Nat} {bf : ab_B} : decode (ab_code (zx σ n0 bf).1 4103) 0 = .ok (.aload_n 1, 1) := zd zm_4103 (by decide +kernel)
theorem d_4103_1 {σ : Nat → Nat} {n0 : Nat} {bf : ab_B} : decode (ab_code (zx σ n0 bf).1 4103) 1 = .ok (.getfield 539, 3) := zd zm_4103 (by decide +kernel)
theorem d_4103_4 {σ : Nat → Nat} {n0 : Nat} {bf : ab_B} : decode (ab_code (zx σ n0 bf).1 4103) 4 = .ok (.getfield 297, 3) := zd zm_4103 (by decide +kernel)
theorem d_4103_7 {σ : Nat → Nat} {n0 : Nat} {bf : ab_B} : decode (ab_code (zx σ n0 bf).1 4103) 7 = .ok (.invokestatic 587, 3) := zd zm_4103 (by decide +kernel)
theorem d_4103_10 {σ : Nat → Nat} {n0 : Nat} {bf : ab_B} : decode (ab_code (zx σ n0 bf).1 4103) 10 = .ok (.ifCond .eq 55, 3) := zd zm_4103 (by decide +kernel)
theorem d_4103_13 {σ : Nat → Nat} {n0 : Nat} {bf : ab_B} : decode (ab_code (zx σ n0 bf).1 4103) 13 = .ok (.aload_n 1, 1) := zd zm_4103 (by decide +kernel)
theorem d_4103_14 {σ : Nat → Nat} {n0 : Nat} {bf : ab_B} : decode (ab_code (zx σ n0 bf).1 4103) 14 = .ok (.getfield 536, 3) := zd zm_4103 (by decide +kernel)
theorem d_4103_17 {σ : Nat → Nat} {n0 : Nat} {bf : ab_B} : decode (ab_code (zx σ n0 bf).1 4103) 17 = .ok (.getfield 297, 3) := zd zm_4103 (by decide +kernel)
theorem d_4103_20 {σ : Nat → Nat} {n0 : Nat} {bf : ab_B} : decode (ab_code (zx σ n0 bf).1 4103) 20 = .ok (.invokestatic 587, 3) := zd zm_4103 (by decide +kernel)
theorem d_4103_23 {σ : Nat → Nat} {n0 : Nat} {bf : ab_B} : decode (ab_code (zx σ n0 bf).1 4103) 23 = .ok (.ifCond .eq 42, 3) := zd zm_4103 (by decide +kernel)
theorem d_4103_26 {σ : Nat → Nat} {n0 : Nat} {bf : ab_B} : decode (ab_code (zx σ n0 bf).1 4103) 26 = .ok (.aload_n 1, 1) := zd zm_4103 (by decide +kernel)
theorem d_4103_27 {σ : Nat → Nat} {n0 : Nat} {bf : ab_B} : decode (ab_code (zx σ n0 bf).1 4103) 27 = .ok (.getfield 539, 3) := zd zm_4103 (by decide +kernel)
theorem d_4103_30 {σ : Nat → Nat} {n0 : Nat} {bf : ab_B} : decode (ab_code (zx σ n0 bf).1 4103) 30 = .ok (.getfield 297, 3) := zd zm_4103 (by decide +kernel)
theorem d_4103_33 {σ : Nat → Nat} {n0 : Nat} {bf : ab_B} : decode (ab_code (zx σ n0 bf).1 4103) 33 = .ok (.invokevirtual 335, 3) := zd zm_4103 (by decide +kernel)
theorem d_4103_36 {σ : Nat → Nat} {n0 : Nat} {bf : ab_B} : decode (ab_code (zx σ n0 bf).1 4103) 36 = .ok (.ifCond .eq 25, 3) := zd zm_4103 (by decide +kernel)
theorem d_4103_39 {σ : Nat → Nat} {n0 : Nat} {bf : ab_B} : decode (ab_code (zx σ n0 bf).1 4103) 39 = .ok (.aload_n 1, 1) := zd zm_4103 (by decide +kernel)
theorem d_4103_40 {σ : Nat → Nat} {n0 : Nat} {bf : ab_B} : decode (ab_code (zx σ n0 bf).1 4103) 40 = .ok (.getfield 536, 3) := zd zm_4103 (by decide +kernel)
theorem d_4103_43 {σ : Nat → Nat} {n0 : Nat} {bf : ab_B} : decode (ab_code (zx σ n0 bf).1 4103) 43 = .ok (.getfield 297, 3) := zd zm_4103 (by decide +kernel)
theorem d_4103_46 {σ : Nat → Nat} {n0 : Nat} {bf : ab_B} : decode (ab_code (zx σ n0 bf).1 4103) 46 = .ok (.invokevirtual 335, 3) := zd zm_4103 (by decide +kernel)
theorem d_4103_49 {σ : Nat → Nat} {n0 : Nat} {bf : ab_B} : decode (ab_code (zx σ n0 bf).1 4103) 49 = .ok (.ifCond .eq 12, 3) := zd zm_4103 (by decide +kernel)
theorem d_4103_52 {σ : Nat → Nat} {n0 : Nat} {bf : ab_B} : decode (ab_code (zx σ n0 bf).1 4103) 52 = .ok (.aload_n 1, 1) := zd zm_4103 (by decide +kernel)
theorem d_4103_53 {σ : Nat → Nat} {n0 : Nat} {bf : ab_B} : decode (ab_code (zx σ n0 bf).1 4103) 53 = .ok (.getfield 542, 3) := zd zm_4103 (by decide +kernel)
theorem d_4103_56 {σ : Nat → Nat} {n0 : Nat} {bf : ab_B} : decode (ab_code (zx σ n0 bf).1 4103) 56 = .ok (.bipush 43, 2) := zd zm_4103 (by decide +kernel)
theorem d_4103_58 {σ : Nat → Nat} {n0 : Nat} {bf : ab_B} : decode (ab_code (zx σ n0 bf).1 4103) 58 = .ok (.if_icmp .ne 7, 3) := zd zm_4103 (by decide +kernel)
theorem d_4103_61 {σ : Nat → Nat} {n0 : Nat} {bf : ab_B} : decode (ab_code (zx σ n0 bf).1 4103) 61 = .ok (.iconst 1, 1) := zd zm_4103 (by decide +kernel)
theorem d_4103_62 {σ : Nat → Nat} {n0 : Nat} {bf : ab_B} : decode (ab_code (zx σ n0 bf).1 4103) 62 = .ok (.goto 4, 3) := zd zm_4103 (by decide +kernel)
theorem d_4103_65 {σ : Nat → Nat} {n0 : Nat} {bf : ab_B} : decode (ab_code (zx σ n0 bf).1 4103) 65 = .ok (.iconst 0, 1) := zd zm_4103 (by decide +kernel)
theorem d_4103_66 {σ : Nat → Nat} {n0 : Nat} {bf : ab_B} : decode (ab_code (zx σ n0 bf).1 4103) 66 = .ok (.istore_n 2, 1) := zd zm_4103 (by decide +kernel)
theorem d_4103_67 {σ : Nat → Nat} {n0 : Nat} {bf : ab_B} : decode (ab_code (zx σ n0 bf).1 4103) 67 = .ok (.iload_n 2, 1) := zd zm_4103 (by decide +kernel)
theorem d_4103_68 {σ : Nat → Nat} {n0 : Nat} {bf : ab_B} : decode (ab_code (zx σ n0 bf).1 4103) 68 = .ok (.ifCond .eq 11, 3) := zd zm_4103 (by decide +kernel)
theorem d_4103_71 {σ : Nat → Nat} {n0 : Nat} {bf : ab_B} : decode (ab_code (zx σ n0 bf).1 4103) 71 = .ok (.aload_n 0, 1) := zd zm_4103 (by decide +kernel)
theorem d_4103_72 {σ : Nat → Nat} {n0 : Nat} {bf : ab_B} : decode (ab_code (zx σ n0 bf).1 4103) 72 = .ok (.aload_n 1, 1) := zd zm_4103 (by decide +kernel)
theorem d_4103_73 {σ : Nat → Nat} {n0 : Nat} {bf : ab_B} : decode (ab_code (zx σ n0 bf).1 4103) 73 = .ok (.getfield 539, 3) := zd zm_4103 (by decide +kernel)
theorem d_4103_76 {σ : Nat → Nat} {n0 : Nat} {bf : ab_B} : decode (ab_code (zx σ n0 bf).1 4103) 76 = .ok (.invokevirtual 724, 3) := zd zm_4103 (by decide +kernel)
theorem d_4103_79 {σ : Nat → Nat} {n0 : Nat} {bf : ab_B} : decode (ab_code (zx σ n0 bf).1 4103) 79 = .ok (.aload_n 0, 1) := zd zm_4103 (by decide +kernel)
theorem d_4103_80 {σ : Nat → Nat} {n0 : Nat} {bf : ab_B} : decode (ab_code (zx σ n0 bf).1 4103) 80 = .ok (.aload_n 1, 1) := zd zm_4103 (by decide +kernel)
theorem d_4103_81 {σ : Nat → Nat} {n0 : Nat} {bf : ab_B} : decode (ab_code (zx σ n0 bf).1 4103) 81 = .ok (.getfield 536, 3) := zd zm_4103 (by decide +kernel)
theorem d_4103_84 {σ : Nat → Nat} {n0 : Nat} {bf : ab_B} : decode (ab_code (zx σ n0 bf).1 4103) 84 = .ok (.invokevirtual 721, 3) := zd zm_4103 (by decide +kernel)
theorem d_4103_87 {σ : Nat → Nat} {n0 : Nat} {bf : ab_B} : decode (ab_code (zx σ n0 bf).1 4103) 87 = .ok (.iload_n 2, 1) := zd zm_4103 (by decide +kernel)
theorem d_4103_88 {σ : Nat → Nat} {n0 : Nat} {bf : ab_B} : decode (ab_code (zx σ n0 bf).1 4103) 88 = .ok (.ifCond .eq 11, 3) := zd zm_4103 (by decide +kernel)
theorem d_4103_91 {σ : Nat → Nat} {n0 : Nat} {bf : ab_B} : decode (ab_code (zx σ n0 bf).1 4103) 91 = .ok (.aload_n 0, 1) := zd zm_4103 (by decide +kernel)
theorem d_4103_92 {σ : Nat → Nat} {n0 : Nat} {bf : ab_B} : decode (ab_code (zx σ n0 bf).1 4103) 92 = .ok (.aload_n 1, 1) := zd zm_4103 (by decide +kernel)
theorem d_4103_93 {σ : Nat → Nat} {n0 : Nat} {bf : ab_B} : decode (ab_code (zx σ n0 bf).1 4103) 93 = .ok (.getfield 536, 3) := zd zm_4103 (by decide +kernel)
theorem d_4103_96 {σ : Nat → Nat} {n0 : Nat} {bf : ab_B} : decode (ab_code (zx σ n0 bf).1 4103) 96 = .ok (.invokevirtual 724, 3) := zd zm_4103 (by decide +kernel)
theorem d_4103_99 {σ : Nat → Nat} {n0 : Nat} {bf : ab_B} : decode (ab_code (zx σ n0 bf).1 4103) 99 = .ok (.aload_n 1, 1) := zd zm_4103 (by decide +kernel)
theorem d_4103_100 {σ : Nat → Nat} {n0 : Nat} {bf : ab_B} : decode (ab_code (zx σ n0 bf).1 4103) 100 = .ok (.getfield 297, 3) := zd zm_4103 (by decide +kernel)
theorem d_4103_103 {σ : Nat → Nat} {n0 : Nat} {bf : ab_B} : decode (ab_code (zx σ n0 bf).1 4103) 103 = .ok (.aload_n 0, 1) := zd zm_4103 (by decide +kernel)
theorem d_4103_104 {σ : Nat → Nat} {n0 : Nat} {bf : ab_B} : decode (ab_code (zx σ n0 bf).1 4103) 104 = .ok (.getfield 150, 3) := zd zm_4103 (by decide +kernel)
theorem d_4103_107 {σ : Nat → Nat} {n0 : Nat} {bf : ab_B} : decode (ab_code (zx σ n0 bf).1 4103) 107 = .ok (.if_acmp .ne 55, 3) := zd zm_4103 (by decide +kernel)
theorem d_4103_110 {σ : Nat → Nat} {n0 : Nat} {bf : ab_B} : decode (ab_code (zx σ n0 bf).1 4103) 110 = .ok (.aload_n 1, 1) := zd zm_4103 (by decide +kernel)
theorem d_4103_111 {σ : Nat → Nat} {n0 : Nat} {bf : ab_B} : decode (ab_code (zx σ n0 bf).1 4103) 111 = .ok (.getfield 542, 3) := zd zm_4103 (by decide +kernel)
theorem d_4103_114 {σ : Nat → Nat} {n0 : Nat} {bf : ab_B} : decode (ab_code (zx σ n0 bf).1 4103) 114 = .ok (.sipush 1000, 3) := zd zm_4103 (by decide +kernel)
theorem d_4103_117 {σ : Nat → Nat} {n0 : Nat} {bf : ab_B} : decode (ab_code (zx σ n0 bf).1 4103) 117 = .ok (.if_icmp .ge 45, 3) := zd zm_4103 (by decide +kernel)
theorem d_4103_120 {σ : Nat → Nat} {n0 : Nat} {bf : ab_B} : decode (ab_code (zx σ n0 bf).1 4103) 120 = .ok (.aload_n 0, 1) := zd zm_4103 (by decide +kernel)
theorem d_4103_121 {σ : Nat → Nat} {n0 : Nat} {bf : ab_B} : decode (ab_code (zx σ n0 bf).1 4103) 121 = .ok (.iload_n 2, 1) := zd zm_4103 (by decide +kernel)
theorem d_4103_122 {σ : Nat → Nat} {n0 : Nat} {bf : ab_B} : decode (ab_code (zx σ n0 bf).1 4103) 122 = .ok (.ifCond .eq 8, 3) := zd zm_4103 (by decide +kernel)
theorem d_4103_125 {σ : Nat → Nat} {n0 : Nat} {bf : ab_B} : decode (ab_code (zx σ n0 bf).1 4103) 125 = .ok (.bipush 26, 2) := zd zm_4103 (by decide +kernel)
theorem d_4103_127 {σ : Nat → Nat} {n0 : Nat} {bf : ab_B} : decode (ab_code (zx σ n0 bf).1 4103) 127 = .ok (.goto 23, 3) := zd zm_4103 (by decide +kernel)
theorem d_4103_130 {σ : Nat → Nat} {n0 : Nat} {bf : ab_B} : decode (ab_code (zx σ n0 bf).1 4103) 130 = .ok (.aload_n 1, 1) := zd zm_4103 (by decide +kernel)
theorem d_4103_131 {σ : Nat → Nat} {n0 : Nat} {bf : ab_B} : decode (ab_code (zx σ n0 bf).1 4103) 131 = .ok (.getfield 539, 3) := zd zm_4103 (by decide +kernel)
theorem d_4103_134 {σ : Nat → Nat} {n0 : Nat} {bf : ab_B} : decode (ab_code (zx σ n0 bf).1 4103) 134 = .ok (.getfield 297, 3) := zd zm_4103 (by decide +kernel)
theorem d_4103_137 {σ : Nat → Nat} {n0 : Nat} {bf : ab_B} : decode (ab_code (zx σ n0 bf).1 4103) 137 = .ok (.invokestatic 584, 3) := zd zm_4103 (by decide +kernel)
theorem d_4103_140 {σ : Nat → Nat} {n0 : Nat} {bf : ab_B} : decode (ab_code (zx σ n0 bf).1 4103) 140 = .ok (.ifCond .eq 8, 3) := zd zm_4103 (by decide +kernel)
theorem d_4103_143 {σ : Nat → Nat} {n0 : Nat} {bf : ab_B} : decode (ab_code (zx σ n0 bf).1 4103) 143 = .ok (.bipush 27, 2) := zd zm_4103 (by decide +kernel)
theorem d_4103_145 {σ : Nat → Nat} {n0 : Nat} {bf : ab_B} : decode (ab_code (zx σ n0 bf).1 4103) 145 = .ok (.goto 5, 3) := zd zm_4103 (by decide +kernel)
theorem d_4103_148 {σ : Nat → Nat} {n0 : Nat} {bf : ab_B} : decode (ab_code (zx σ n0 bf).1 4103) 148 = .ok (.bipush 25, 2) := zd zm_4103 (by decide +kernel)
theorem d_4103_150 {σ : Nat → Nat} {n0 : Nat} {bf : ab_B} : decode (ab_code (zx σ n0 bf).1 4103) 150 = .ok (.aload_n 1, 1) := zd zm_4103 (by decide +kernel)
theorem d_4103_151 {σ : Nat → Nat} {n0 : Nat} {bf : ab_B} : decode (ab_code (zx σ n0 bf).1 4103) 151 = .ok (.getfield 469, 3) := zd zm_4103 (by decide +kernel)
theorem d_4103_154 {σ : Nat → Nat} {n0 : Nat} {bf : ab_B} : decode (ab_code (zx σ n0 bf).1 4103) 154 = .ok (.aload_n 1, 1) := zd zm_4103 (by decide +kernel)
theorem d_4103_155 {σ : Nat → Nat} {n0 : Nat} {bf : ab_B} : decode (ab_code (zx σ n0 bf).1 4103) 155 = .ok (.getfield 542, 3) := zd zm_4103 (by decide +kernel)
theorem d_4103_158 {σ : Nat → Nat} {n0 : Nat} {bf : ab_B} : decode (ab_code (zx σ n0 bf).1 4103) 158 = .ok (.invokevirtual 712, 3) := zd zm_4103 (by decide +kernel)
theorem d_4103_161 {σ : Nat → Nat} {n0 : Nat} {bf : ab_B} : decode (ab_code (zx σ n0 bf).1 4103) 161 = .ok (.return_, 1) := zd zm_4103 (by decide +kernel)
theorem d_4103_162 {σ : Nat → Nat} {n0 : Nat} {bf : ab_B} : decode (ab_code (zx σ n0 bf).1 4103) 162 = .ok (.aload_n 1, 1) := zd zm_4103 (by decide +kernel)
theorem d_4103_163 {σ : Nat → Nat} {n0 : Nat} {bf : ab_B} : decode (ab_code (zx σ n0 bf).1 4103) 163 = .ok (.getfield 539, 3) := zd zm_4103 (by decide +kernel)
theorem d_4103_166 {σ : Nat → Nat} {n0 : Nat} {bf : ab_B} : decode (ab_code (zx σ n0 bf).1 4103) 166 = .ok (.getfield 297, 3) := zd zm_4103 (by decide +kernel)
theorem d_4103_169 {σ : Nat → Nat} {n0 : Nat} {bf : ab_B} : decode (ab_code (zx σ n0 bf).1 4103) 169 = .ok (.invokestatic 584, 3) := zd zm_4103 (by decide +kernel)
theorem d_4103_172 {σ : Nat → Nat} {n0 : Nat} {bf : ab_B} : decode (ab_code (zx σ n0 bf).1 4103) 172 = .ok (.istore_n 3, 1) := zd zm_4103 (by decide +kernel)
theorem d_4103_173 {σ : Nat → Nat} {n0 : Nat} {bf : ab_B} : decode (ab_code (zx σ n0 bf).1 4103) 173 = .ok (.aload_n 1, 1) := zd zm_4103 (by decide +kernel)
theorem d_4103_174 {σ : Nat → Nat} {n0 : Nat} {bf : ab_B} : decode (ab_code (zx σ n0 bf).1 4103) 174 = .ok (.getfield 542, 3) := zd zm_4103 (by decide +kernel)
theorem d_4103_177 {σ : Nat → Nat} {n0 : Nat} {bf : ab_B} : decode (ab_code (zx σ n0 bf).1 4103) 177 = .ok (.lookupswitch 201 #[(42, 122), (43, 67), (45, 99), (1028, 145), (1029, 159), (1030, 173), (1031, 187)], 67) := zd zm_4103 (by decide +kernel)
theorem d_4103_244 {σ : Nat → Nat} {n0 : Nat} {bf : ab_B} : decode (ab_code (zx σ n0 bf).1 4103) 244 = .ok (.aload_n 0, 1) := zd zm_4103 (by decide +kernel)
theorem d_4103_245 {σ : Nat → Nat} {n0 : Nat} {bf : ab_B} : decode (ab_code (zx σ n0 bf).1 4103) 245 = .ok (.iload_n 2, 1) := zd zm_4103 (by decide +kernel)
theorem d_4103_246 {σ : Nat → Nat} {n0 : Nat} {bf : ab_B} : decode (ab_code (zx σ n0 bf).1 4103) 246 = .ok (.ifCond .eq 8, 3) := zd zm_4103 (by decide +kernel)
theorem d_4103_249 {σ : Nat → Nat} {n0 : Nat} {bf : ab_B} : decode (ab_code (zx σ n0 bf).1 4103) 249 = .ok (.bipush 34, 2) := zd zm_4103 (by decide +kernel)
theorem d_4103_251 {σ : Nat → Nat} {n0 : Nat} {bf : ab_B} : decode (ab_code (zx σ n0 bf).1 4103) 251 = .ok (.goto 14, 3) := zd zm_4103 (by decide +kernel)
theorem d_4103_254 {σ : Nat → Nat} {n0 : Nat} {bf : ab_B} : decode (ab_code (zx σ n0 bf).1 4103) 254 = .ok (.iload_n 3, 1) := zd zm_4103 (by decide +kernel)
theorem d_4103_255 {σ : Nat → Nat} {n0 : Nat} {bf : ab_B} : decode (ab_code (zx σ n0 bf).1 4103) 255 = .ok (.ifCond .eq 8, 3) := zd zm_4103 (by decide +kernel)
theorem d_4103_258 {σ : Nat → Nat} {n0 : Nat} {bf : ab_B} : decode (ab_code (zx σ n0 bf).1 4103) 258 = .ok (.bipush 28, 2) := zd zm_4103 (by decide +kernel)
theorem d_4103_260 {σ : Nat → Nat} {n0 : Nat} {bf : ab_B} : decode (ab_code (zx σ n0 bf).1 4103) 260 = .ok (.goto 5, 3) := zd zm_4103 (by decide +kernel)
theorem d_4103_263 {σ : Nat → Nat} {n0 : Nat} {bf : ab_B} : decode (ab_code (zx σ n0 bf).1 4103) 263 = .ok (.bipush 16, 2) := zd zm_4103 (by decide +kernel)
theorem d_4103_265 {σ : Nat → Nat} {n0 : Nat} {bf : ab_B} : decode (ab_code (zx σ n0 bf).1 4103) 265 = .ok (.aload_n 1, 1) := zd zm_4103 (by decide +kernel)
theorem d_4103_266 {σ : Nat → Nat} {n0 : Nat} {bf : ab_B} : decode (ab_code (zx σ n0 bf).1 4103) 266 = .ok (.getfield 469, 3) := zd zm_4103 (by decide +kernel)
theorem d_4103_269 {σ : Nat → Nat} {n0 : Nat} {bf : ab_B} : decode (ab_code (zx σ n0 bf).1 4103) 269 = .ok (.invokevirtual 273, 3) := zd zm_4103 (by decide +kernel)
theorem d_4103_272 {σ : Nat → Nat} {n0 : Nat} {bf : ab_B} : decode (ab_code (zx σ n0 bf).1 4103) 272 = .ok (.pop, 1) := zd zm_4103 (by decide +kernel)
theorem d_4103_273 {σ : Nat → Nat} {n0 : Nat} {bf : ab_B} : decode (ab_code (zx σ n0 bf).1 4103) 273 = .ok (.goto 116, 3) := zd zm_4103 (by decide +kernel)
theorem d_4103_276 {σ : Nat → Nat} {n0 : Nat} {bf : ab_B} : decode (ab_code (zx σ n0 bf).1 4103) 276 = .ok (.aload_n 0, 1) := zd zm_4103 (by decide +kernel)
theorem d_4103_277 {σ : Nat → Nat} {n0 : Nat} {bf : ab_B} : decode (ab_code (zx σ n0 bf).1 4103) 277 = .ok (.iload_n 3, 1) := zd zm_4103 (by decide +kernel)
theorem d_4103_278 {σ : Nat → Nat} {n0 : Nat} {bf : ab_B} : decode (ab_code (zx σ n0 bf).1 4103) 278 = .ok (.ifCond .eq 8, 3) := zd zm_4103 (by decide +kernel)
theorem d_4103_281 {σ : Nat → Nat} {n0 : Nat} {bf : ab_B} : decode (ab_code (zx σ n0 bf).1 4103) 281 = .ok (.bipush 29, 2) := zd zm_4103 (by decide +kernel)
theorem d_4103_283 {σ : Nat → Nat} {n0 : Nat} {bf : ab_B} : decode (ab_code (zx σ n0 bf).1 4103) 283 = .ok (.goto 5, 3) := zd zm_4103 (by decide +kernel)
theorem d_4103_286 {σ : Nat → Nat} {n0 : Nat} {bf : ab_B} : decode (ab_code (zx σ n0 bf).1 4103) 286 = .ok (.bipush 17, 2) := zd zm_4103 (by decide +kernel)
theorem d_4103_288 {σ : Nat → Nat} {n0 : Nat} {bf : ab_B} : decode (ab_code (zx σ n0 bf).1 4103) 288 = .ok (.aload_n 1, 1) := zd zm_4103 (by decide +kernel)
theorem d_4103_289 {σ : Nat → Nat} {n0 : Nat} {bf : ab_B} : decode (ab_code (zx σ n0 bf).1 4103) 289 = .ok (.getfield 469, 3) := zd zm_4103 (by decide +kernel)
theorem d_4103_292 {σ : Nat → Nat} {n0 : Nat} {bf : ab_B} : decode (ab_code (zx σ n0 bf).1 4103) 292 = .ok (.invokevirtual 273, 3) := zd zm_4103 (by decide +kernel)
theorem d_4103_295 {σ : Nat → Nat} {n0 : Nat} {bf : ab_B} : decode (ab_code (zx σ n0 bf).1 4103) 295 = .ok (.pop, 1) := zd zm_4103 (by decide +kernel)
theorem d_4103_296 {σ : Nat → Nat} {n0 : Nat} {bf : ab_B} : decode (ab_code (zx σ n0 bf).1 4103) 296 = .ok (.goto 93, 3) := zd zm_4103 (by decide +kernel)
theorem d_4103_299 {σ : Nat → Nat} {n0 : Nat} {bf : ab_B} : decode (ab_code (zx σ n0 bf).1 4103) 299 = .ok (.aload_n 0, 1) := zd zm_4103 (by decide +kernel)
theorem d_4103_300 {σ : Nat → Nat} {n0 : Nat} {bf : ab_B} : decode (ab_code (zx σ n0 bf).1 4103) 300 = .ok (.iload_n 3, 1) := zd zm_4103 (by decide +kernel)
theorem d_4103_301 {σ : Nat → Nat} {n0 : Nat} {bf : ab_B} : decode (ab_code (zx σ n0 bf).1 4103) 301 = .ok (.ifCond .eq 8, 3) := zd zm_4103 (by decide +kernel)
theorem d_4103_304 {σ : Nat → Nat} {n0 : Nat} {bf : ab_B} : decode (ab_code (zx σ n0 bf).1 4103) 304 = .ok (.bipush 30, 2) := zd zm_4103 (by decide +kernel)
theorem d_4103_306 {σ : Nat → Nat} {n0 : Nat} {bf : ab_B} : decode (ab_code (zx σ n0 bf).1 4103) 306 = .ok (.goto 5, 3) := zd zm_4103 (by decide +kernel)
theorem d_4103_309 {σ : Nat → Nat} {n0 : Nat} {bf : ab_B} : decode (ab_code (zx σ n0 bf).1 4103) 309 = .ok (.bipush 18, 2) := zd zm_4103 (by decide +kernel)
theorem d_4103_311 {σ : Nat → Nat} {n0 : Nat} {bf : ab_B} : decode (ab_code (zx σ n0 bf).1 4103) 311 = .ok (.aload_n 1, 1) := zd zm_4103 (by decide +kernel)
theorem d_4103_312 {σ : Nat → Nat} {n0 : Nat} {bf : ab_B} : decode (ab_code (zx σ n0 bf).1 4103) 312 = .ok (.getfield 469, 3) := zd zm_4103 (by decide +kernel)
theorem d_4103_315 {σ : Nat → Nat} {n0 : Nat} {bf : ab_B} : decode (ab_code (zx σ n0 bf).1 4103) 315 = .ok (.invokevirtual 273, 3) := zd zm_4103 (by decide +kernel)
theorem d_4103_318 {σ : Nat → Nat} {n0 : Nat} {bf : ab_B} : decode (ab_code (zx σ n0 bf).1 4103) 318 = .ok (.pop, 1) := zd zm_4103 (by decide +kernel)
theorem d_4103_319 {σ : Nat → Nat} {n0 : Nat} {bf : ab_B} : decode (ab_code (zx σ n0 bf).1 4103) 319 = .ok (.goto 70, 3) := zd zm_4103 (by decide +kernel)
theorem d_4103_322 {σ : Nat → Nat} {n0 : Nat} {bf : ab_B} : decode (ab_code (zx σ n0 bf).1 4103) 322 = .ok (.aload_n 0, 1) := zd zm_4103 (by decide +kernel)
theorem d_4103_323 {σ : Nat → Nat} {n0 : Nat} {bf : ab_B} : decode (ab_code (zx σ n0 bf).1 4103) 323 = .ok (.bipush 19, 2) := zd zm_4103 (by decide +kernel)
theorem d_4103_325 {σ : Nat → Nat} {n0 : Nat} {bf : ab_B} : decode (ab_code (zx σ n0 bf).1 4103) 325 = .ok (.aload_n 1, 1) := zd zm_4103 (by decide +kernel)
theorem d_4103_326 {σ : Nat → Nat} {n0 : Nat} {bf : ab_B} : decode (ab_code (zx σ n0 bf).1 4103) 326 = .ok (.getfield 469, 3) := zd zm_4103 (by decide +kernel)
theorem d_4103_329 {σ : Nat → Nat} {n0 : Nat} {bf : ab_B} : decode (ab_code (zx σ n0 bf).1 4103) 329 = .ok (.invokevirtual 273, 3) := zd zm_4103 (by decide +kernel)
theorem d_4103_332 {σ : Nat → Nat} {n0 : Nat} {bf : ab_B} : decode (ab_code (zx σ n0 bf).1 4103) 332 = .ok (.pop, 1) := zd zm_4103 (by decide +kernel)
theorem d_4103_333 {σ : Nat → Nat} {n0 : Nat} {bf : ab_B} : decode (ab_code (zx σ n0 bf).1 4103) 333 = .ok (.goto 56, 3) := zd zm_4103 (by decide +kernel)
theorem d_4103_336 {σ : Nat → Nat} {n0 : Nat} {bf : ab_B} : decode (ab_code (zx σ n0 bf).1 4103) 336 = .ok (.aload_n 0, 1) := zd zm_4103 (by decide +kernel)
theorem d_4103_337 {σ : Nat → Nat} {n0 : Nat} {bf : ab_B} : decode (ab_code (zx σ n0 bf).1 4103) 337 = .ok (.bipush 20, 2) := zd zm_4103 (by decide +kernel)
theorem d_4103_339 {σ : Nat → Nat} {n0 : Nat} {bf : ab_B} : decode (ab_code (zx σ n0 bf).1 4103) 339 = .ok (.aload_n 1, 1) := zd zm_4103 (by decide +kernel)
theorem d_4103_340 {σ : Nat → Nat} {n0 : Nat} {bf : ab_B} : decode (ab_code (zx σ n0 bf).1 4103) 340 = .ok (.getfield 469, 3) := zd zm_4103 (by decide +kernel)
theorem d_4103_343 {σ : Nat → Nat} {n0 : Nat} {bf : ab_B} : decode (ab_code (zx σ n0 bf).1 4103) 343 = .ok (.invokevirtual 273, 3) := zd zm_4103 (by decide +kernel)
theorem d_4103_346 {σ : Nat → Nat} {n0 : Nat} {bf : ab_B} : decode (ab_code (zx σ n0 bf).1 4103) 346 = .ok (.pop, 1) := zd zm_4103 (by decide +kernel)
theorem d_4103_347 {σ : Nat → Nat} {n0 : Nat} {bf : ab_B} : decode (ab_code (zx σ n0 bf).1 4103) 347 = .ok (.goto 42, 3) := zd zm_4103 (by decide +kernel)
theorem d_4103_350 {σ : Nat → Nat} {n0 : Nat} {bf : ab_B} : decode (ab_code (zx σ n0 bf).1 4103) 350 = .ok (.aload_n 0, 1) := zd zm_4103 (by decide +kernel)
theorem d_4103_351 {σ : Nat → Nat} {n0 : Nat} {bf : ab_B} : decode (ab_code (zx σ n0 bf).1 4103) 351 = .ok (.bipush 22, 2) := zd zm_4103 (by decide +kernel)
theorem d_4103_353 {σ : Nat → Nat} {n0 : Nat} {bf : ab_B} : decode (ab_code (zx σ n0 bf).1 4103) 353 = .ok (.aload_n 1, 1) := zd zm_4103 (by decide +kernel)
theorem d_4103_354 {σ : Nat → Nat} {n0 : Nat} {bf : ab_B} : decode (ab_code (zx σ n0 bf).1 4103) 354 = .ok (.getfield 469, 3) := zd zm_4103 (by decide +kernel)
theorem d_4103_357 {σ : Nat → Nat} {n0 : Nat} {bf : ab_B} : decode (ab_code (zx σ n0 bf).1 4103) 357 = .ok (.invokevirtual 273, 3) := zd zm_4103 (by decide +kernel)
theorem d_4103_360 {σ : Nat → Nat} {n0 : Nat} {bf : ab_B} : decode (ab_code (zx σ n0 bf).1 4103) 360 = .ok (.pop, 1) := zd zm_4103 (by decide +kernel)
theorem d_4103_361 {σ : Nat → Nat} {n0 : Nat} {bf : ab_B} : decode (ab_code (zx σ n0 bf).1 4103) 361 = .ok (.goto 28, 3) := zd zm_4103 (by decide +kernel)
theorem d_4103_364 {σ : Nat → Nat} {n0 : Nat} {bf : ab_B} : decode (ab_code (zx σ n0 bf).1 4103) 364 = .ok (.aload_n 0, 1) := zd zm_4103 (by decide +kernel)
theorem d_4103_365 {σ : Nat → Nat} {n0 : Nat} {bf : ab_B} : decode (ab_code (zx σ n0 bf).1 4103) 365 = .ok (.bipush 23, 2) := zd zm_4103 (by decide +kernel)
theorem d_4103_367 {σ : Nat → Nat} {n0 : Nat} {bf : ab_B} : decode (ab_code (zx σ n0 bf).1 4103) 367 = .ok (.aload_n 1, 1) := zd zm_4103 (by decide +kernel)
theorem d_4103_368 {σ : Nat → Nat} {n0 : Nat} {bf : ab_B} : decode (ab_code (zx σ n0 bf).1 4103) 368 = .ok (.getfield 469, 3) := zd zm_4103 (by decide +kernel)
theorem d_4103_371 {σ : Nat → Nat} {n0 : Nat} {bf : ab_B} : decode (ab_code (zx σ n0 bf).1 4103) 371 = .ok (.invokevirtual 273, 3) := zd zm_4103 (by decide +kernel)
theorem d_4103_374 {σ : Nat → Nat} {n0 : Nat} {bf : ab_B} : decode (ab_code (zx σ n0 bf).1 4103) 374 = .ok (.pop, 1) := zd zm_4103 (by decide +kernel)
theorem d_4103_375 {σ : Nat → Nat} {n0 : Nat} {bf : ab_B} : decode (ab_code (zx σ n0 bf).1 4103) 375 = .ok (.goto 14, 3) := zd zm_4103 (by decide +kernel)
theorem d_4103_378 {σ : Nat → Nat} {n0 : Nat} {bf : ab_B} : decode (ab_code (zx σ n0 bf).1 4103) 378 = .ok (.aload_n 0, 1) := zd zm_4103 (by decide +kernel)
theorem d_4103_379 {σ : Nat → Nat} {n0 : Nat} {bf : ab_B} : decode (ab_code (zx σ n0 bf).1 4103) 379 = .ok (.bipush 33, 2) := zd zm_4103 (by decide +kernel)
theorem d_4103_381 {σ : Nat → Nat} {n0 : Nat} {bf : ab_B} : decode (ab_code (zx σ n0 bf).1 4103) 381 = .ok (.aload_n 1, 1) := zd zm_4103 (by decide +kernel)
theorem d_4103_382 {σ : Nat → Nat} {n0 : Nat} {bf : ab_B} : decode (ab_code (zx σ n0 bf).1 4103) 382 = .ok (.getfield 469, 3) := zd zm_4103 (by decide +kernel)
theorem d_4103_385 {σ : Nat → Nat} {n0 : Nat} {bf : ab_B} : decode (ab_code (zx σ n0 bf).1 4103) 385 = .ok (.invokevirtual 273, 3) := zd zm_4103 (by decide +kernel)
theorem d_4103_388 {σ : Nat → Nat} {n0 : Nat} {bf : ab_B} : decode (ab_code (zx σ n0 bf).1 4103) 388 = .ok (.pop, 1) := zd zm_4103 (by decide +kernel)
theorem d_4103_389 {σ : Nat → Nat} {n0 : Nat} {bf : ab_B} : decode (ab_code (zx σ n0 bf).1 4103) 389 = .ok (.return_, 1) := zd zm_4103 (by decide +kernel)
def w_X5_binary_311 (X : zs_X) (d : Nat) (p1 : Option Nat) (q0 : Option Nat) (q1 : Int32) (S : zs_T) (Q : zs_Q) : Prop :=
  (∃ b1, p1 = some b1 ∧ zs_K S b1 = some (.inl 11) ∧ ∃ b4, q0 = some b4 ∧ zs_K S b4 = some (.inl 4) ∧ zs_C X d 4094 [.ref b4, .int q1, .int (zs_I S 11001 b1)] S (zs_kI (fun v8 S7 => (Q (.returned none) S7)) Q))
theorem u_X5_binary_311 {σ : Nat → Nat} {n0 : Nat} {bf : ab_B} {d : Nat} {p1 : Option Nat} {q0 : Option Nat} {q1 : Int32} {S : zs_T} {Q : zs_Q} (hB : zt_B bf) (h : w_X5_binary_311 (zx σ n0 bf) d p1 q0 q1 S Q) : zs_U (zx σ n0 bf) d 4103 311 [(1, va_rf p1)] [.int q1, va_rf q0] S Q := by
  unfold w_X5_binary_311 at h
  refine zu_aload_n d_4103_311 rfl (zs_rr _) ?_
  obtain ⟨b1, e2, h⟩ := h
  refine zs_stk0 (zs_rfe e2) ?_
  obtain ⟨k3, h⟩ := h
  refine zg_4_469 rfl d_4103_312 k3 ?_
  obtain ⟨b4, e5, h⟩ := h
  refine zs_stk2 (zs_rfe e5) ?_
  obtain ⟨k6, h⟩ := h
  refine zc_4_273 (x0 := q1) (x1 := (zs_I S 11001 b1)) hB rfl k6 d_4103_315 (Nat.le_of_ble_eq_true rfl) h (fun v8 S7 h => ?_)
  refine zu_pop d_4103_318 rfl ?_
  refine zu_goto (t := 389) d_4103_319 rfl ?_
  exact zu_vret d_4103_389 zr_4103 h
def w_X5_binary_265 (X : zs_X) (d : Nat) (p1 : Option Nat) (q0 : Option Nat) (q1 : Int32) (S : zs_T) (Q : zs_Q) : Prop :=
  (∃ b1, p1 = some b1 ∧ zs_K S b1 = some (.inl 11) ∧ ∃ b4, q0 = some b4 ∧ zs_K S b4 = some (.inl 4) ∧ zs_C X d 4094 [.ref b4, .int q1, .int (zs_I S 11001 b1)] S (zs_kI (fun v8 S7 => (Q (.returned none) S7)) Q))
theorem u_X5_binary_265 {σ : Nat → Nat} {n0 : Nat} {bf : ab_B} {d : Nat} {p1 : Option Nat} {q0 : Option Nat} {q1 : Int32} {S : zs_T} {Q : zs_Q} (hB : zt_B bf) (h : w_X5_binary_265 (zx σ n0 bf) d p1 q0 q1 S Q) : zs_U (zx σ n0 bf) d 4103 265 [(1, va_rf p1)] [.int q1, va_rf q0] S Q := by
  unfold w_X5_binary_265 at h
  refine zu_aload_n d_4103_265 rfl (zs_rr _) ?_
  obtain ⟨b1, e2, h⟩ := h
  refine zs_stk0 (zs_rfe e2) ?_
  obtain ⟨k3, h⟩ := h
  refine zg_4_469 rfl d_4103_266 k3 ?_
  obtain ⟨b4, e5, h⟩ := h
  refine zs_stk2 (zs_rfe e5) ?_
  obtain ⟨k6, h⟩ := h
  refine zc_4_273 (x0 := q1) (x1 := (zs_I S 11001 b1)) hB rfl k6 d_4103_269 (Nat.le_of_ble_eq_true rfl) h (fun v8 S7 h => ?_)
  refine zu_pop d_4103_272 rfl ?_
  refine zu_goto (t := 389) d_4103_273 rfl ?_
  exact zu_vret d_4103_389 zr_4103 h
def w_X5_binary_288 (X : zs_X) (d : Nat) (p1 : Option Nat) (q0 : Option Nat) (q1 : Int32) (S : zs_T) (Q : zs_Q) : Prop :=
  (∃ b1, p1 = some b1 ∧ zs_K S b1 = some (.inl 11) ∧ ∃ b4, q0 = some b4 ∧ zs_K S b4 = some (.inl 4) ∧ zs_C X d 4094 [.ref b4, .int q1, .int (zs_I S 11001 b1)] S (zs_kI (fun v8 S7 => (Q (.returned none) S7)) Q))
theorem u_X5_binary_288 {σ : Nat → Nat} {n0 : Nat} {bf : ab_B} {d : Nat} {p1 : Option Nat} {q0 : Option Nat} {q1 : Int32} {S : zs_T} {Q : zs_Q} (hB : zt_B bf) (h : w_X5_binary_288 (zx σ n0 bf) d p1 q0 q1 S Q) : zs_U (zx σ n0 bf) d 4103 288 [(1, va_rf p1)] [.int q1, va_rf q0] S Q := by
  unfold w_X5_binary_288 at h
  refine zu_aload_n d_4103_288 rfl (zs_rr _) ?_
  obtain ⟨b1, e2, h⟩ := h
  refine zs_stk0 (zs_rfe e2) ?_
  obtain ⟨k3, h⟩ := h
  refine zg_4_469 rfl d_4103_289 k3 ?_
  obtain ⟨b4, e5, h⟩ := h
  refine zs_stk2 (zs_rfe e5) ?_
  obtain ⟨k6, h⟩ := h
  refine zc_4_273 (x0 := q1) (x1 := (zs_I S 11001 b1)) hB rfl k6 d_4103_292 (Nat.le_of_ble_eq_true rfl) h (fun v8 S7 h => ?_)
  refine zu_pop d_4103_295 rfl ?_
  refine zu_goto (t := 389) d_4103_296 rfl ?_
  exact zu_vret d_4103_389 zr_4103 h
def w_X5_binary_162 (X : zs_X) (d : Nat) (p0 : Nat) (p1 : Option Nat) (p2 : Int32) (S : zs_T) (Q : zs_Q) : Prop :=
  (∃ b1, p1 = some b1 ∧ zs_K S b1 = some (.inl 11) ∧ ∃ b4, (zs_R S 11005 b1) = some b4 ∧ zs_K S b4 = some (.inl 11) ∧ zs_C X d 4035 [va_rf (zs_R S 11002 b4)] S (zs_kI (fun v8 S7 => (zs_K S7 b1 = some (.inl 11) ∧ ((¬ (zs_I S7 11003 b1).toInt = 42 → ¬ (zs_I S7 11003 b1).toInt = 43 → ¬ (zs_I S7 11003 b1).toInt = 45 → ¬ (zs_I S7 11003 b1).toInt = 1028 → ¬ (zs_I S7 11003 b1).toInt = 1029 → ¬ (zs_I S7 11003 b1).toInt = 1030 → ¬ (zs_I S7 11003 b1).toInt = 1031 → (zs_K S7 p0 = some (.inl 4) ∧ zs_C X d 4094 [.ref p0, .int (33 : Int32), .int (zs_I S7 11001 b1)] S7 (zs_kI (fun v19 S18 => (Q (.returned none) S18)) Q))) ∧ ((zs_I S7 11003 b1).toInt = 42 → (((v8 = 0 → (w_X5_binary_311 X d p1 (some p0) (18 : Int32) S7 Q)) ∧ (¬ (v8 = 0) → (w_X5_binary_311 X d p1 (some p0) (30 : Int32) S7 Q))))) ∧ ((zs_I S7 11003 b1).toInt = 43 → (((p2 = 0 → (((v8 = 0 → (w_X5_binary_265 X d p1 (some p0) (16 : Int32) S7 Q)) ∧ (¬ (v8 = 0) → (w_X5_binary_265 X d p1 (some p0) (28 : Int32) S7 Q))))) ∧ (¬ (p2 = 0) → (w_X5_binary_265 X d p1 (some p0) (34 : Int32) S7 Q))))) ∧ ((zs_I S7 11003 b1).toInt = 45 → (((v8 = 0 → (w_X5_binary_288 X d p1 (some p0) (17 : Int32) S7 Q)) ∧ (¬ (v8 = 0) → (w_X5_binary_288 X d p1 (some p0) (29 : Int32) S7 Q))))) ∧ ((zs_I S7 11003 b1).toInt = 1028 → (zs_K S7 p0 = some (.inl 4) ∧ zs_C X d 4094 [.ref p0, .int (19 : Int32), .int (zs_I S7 11001 b1)] S7 (zs_kI (fun v26 S25 => (Q (.returned none) S25)) Q))) ∧ ((zs_I S7 11003 b1).toInt = 1029 → (zs_K S7 p0 = some (.inl 4) ∧ zs_C X d 4094 [.ref p0, .int (20 : Int32), .int (zs_I S7 11001 b1)] S7 (zs_kI (fun v29 S28 => (Q (.returned none) S28)) Q))) ∧ ((zs_I S7 11003 b1).toInt = 1030 → (zs_K S7 p0 = some (.inl 4) ∧ zs_C X d 4094 [.ref p0, .int (22 : Int32), .int (zs_I S7 11001 b1)] S7 (zs_kI (fun v32 S31 => (Q (.returned none) S31)) Q))) ∧ ((zs_I S7 11003 b1).toInt = 1031 → (zs_K S7 p0 = some (.inl 4) ∧ zs_C X d 4094 [.ref p0, .int (23 : Int32), .int (zs_I S7 11001 b1)] S7 (zs_kI (fun v35 S34 => (Q (.returned none) S34)) Q)))))) Q))
theorem u_X5_binary_162 {σ : Nat → Nat} {n0 : Nat} {bf : ab_B} {d : Nat} {p0 : Nat} {p1 : Option Nat} {p2 : Int32} {S : zs_T} {Q : zs_Q} (hB : zt_B bf) (h : w_X5_binary_162 (zx σ n0 bf) d p0 p1 p2 S Q) : zs_U (zx σ n0 bf) d 4103 162 [(0, .ref p0), (1, va_rf p1), (2, .int p2)] [] S Q := by
  unfold w_X5_binary_162 at h
  refine zu_aload_n d_4103_162 rfl (zs_rr _) ?_
  obtain ⟨b1, e2, h⟩ := h
  refine zs_stk0 (zs_rfe e2) ?_
  obtain ⟨k3, h⟩ := h
  refine zg_4_539 rfl d_4103_163 k3 ?_
  obtain ⟨b4, e5, h⟩ := h
  refine zs_stk0 (zs_rfe e5) ?_
  obtain ⟨k6, h⟩ := h
  refine zg_4_297 rfl d_4103_166 k6 ?_
  refine zc_4_584 (x0 := (zs_R S 11002 b4)) hB rfl d_4103_169 (Nat.le_of_ble_eq_true rfl) h (fun v8 S7 h => ?_)
  refine zu_istore_n d_4103_172 (zs_lt zq_4103 rfl) ?_
  refine zu_aload_n d_4103_173 rfl (zs_rr _) ?_
  refine zs_stk0 (zs_rfe e2) ?_
  obtain ⟨k9, h⟩ := h
  refine zg_4_542 rfl d_4103_174 k9 ?_
  refine zu_lsw d_4103_177 (by decide) ?_
  by_cases c10 : (zs_I S7 11003 b1).toInt = 42
  · have h := h.2.1 c10
    have hof : Op.lookupswitch.offset #[(42, 122), (43, 67), (45, 99), (1028, 145), (1029, 159), (1030, 173), (1031, 187)].toList 201 (zs_I S7 11003 b1).toInt = 122 := by rw [c10]; decide
    rw [hof]
    refine ⟨by decide, ?_⟩
    show zs_U _ _ _ 299 _ _ _ _
    refine zu_aload_n d_4103_299 rfl (zs_ra _) ?_
    refine zu_iload_n d_4103_300 rfl ?_
    refine zu_ifeq (t := 309) d_4103_301 rfl (fun c20 => ?_) (fun c20 => ?_)
    · have h := h.1 c20
      refine zu_bipush d_4103_309 zj_18 ?_
      exact (u_X5_binary_311 hB h).weak ⟨rfl, trivial⟩
    · have h := h.2 c20
      refine zu_bipush d_4103_304 zj_30 ?_
      refine zu_goto (t := 311) d_4103_306 rfl ?_
      exact (u_X5_binary_311 hB h).weak ⟨rfl, trivial⟩
  by_cases c11 : (zs_I S7 11003 b1).toInt = 43
  · have h := h.2.2.1 c11
    have hof : Op.lookupswitch.offset #[(42, 122), (43, 67), (45, 99), (1028, 145), (1029, 159), (1030, 173), (1031, 187)].toList 201 (zs_I S7 11003 b1).toInt = 67 := by rw [c11]; decide
    rw [hof]
    refine ⟨by decide, ?_⟩
    show zs_U _ _ _ 244 _ _ _ _
    refine zu_aload_n d_4103_244 rfl (zs_ra _) ?_
    refine zu_iload_n d_4103_245 rfl ?_
    refine zu_ifeq (t := 254) d_4103_246 rfl (fun c21 => ?_) (fun c21 => ?_)
    · have h := h.1 c21
      refine zu_iload_n d_4103_254 rfl ?_
      refine zu_ifeq (t := 263) d_4103_255 rfl (fun c22 => ?_) (fun c22 => ?_)
      · have h := h.1 c22
        refine zu_bipush d_4103_263 zj_16 ?_
        exact (u_X5_binary_265 hB h).weak ⟨rfl, trivial⟩
      · have h := h.2 c22
        refine zu_bipush d_4103_258 zj_28 ?_
        refine zu_goto (t := 265) d_4103_260 rfl ?_
        exact (u_X5_binary_265 hB h).weak ⟨rfl, trivial⟩
    · have h := h.2 c21
      refine zu_bipush d_4103_249 zj_34 ?_
      refine zu_goto (t := 265) d_4103_251 rfl ?_
      exact (u_X5_binary_265 hB h).weak ⟨rfl, trivial⟩
  by_cases c12 : (zs_I S7 11003 b1).toInt = 45
  · have h := h.2.2.2.1 c12
    have hof : Op.lookupswitch.offset #[(42, 122), (43, 67), (45, 99), (1028, 145), (1029, 159), (1030, 173), (1031, 187)].toList 201 (zs_I S7 11003 b1).toInt = 99 := by rw [c12]; decide
    rw [hof]
    refine ⟨by decide, ?_⟩
    show zs_U _ _ _ 276 _ _ _ _
    refine zu_aload_n d_4103_276 rfl (zs_ra _) ?_
    refine zu_iload_n d_4103_277 rfl ?_
    refine zu_ifeq (t := 286) d_4103_278 rfl (fun c23 => ?_) (fun c23 => ?_)
    · have h := h.1 c23
      refine zu_bipush d_4103_286 zj_17 ?_
      exact (u_X5_binary_288 hB h).weak ⟨rfl, trivial⟩
    · have h := h.2 c23
      refine zu_bipush d_4103_281 zj_29 ?_
      refine zu_goto (t := 288) d_4103_283 rfl ?_
      exact (u_X5_binary_288 hB h).weak ⟨rfl, trivial⟩
  by_cases c13 : (zs_I S7 11003 b1).toInt = 1028
  · have h := h.2.2.2.2.1 c13
    have hof : Op.lookupswitch.offset #[(42, 122), (43, 67), (45, 99), (1028, 145), (1029, 159), (1030, 173), (1031, 187)].toList 201 (zs_I S7 11003 b1).toInt = 145 := by rw [c13]; decide
    rw [hof]
    refine ⟨by decide, ?_⟩
    show zs_U _ _ _ 322 _ _ _ _
    refine zu_aload_n d_4103_322 rfl (zs_ra _) ?_
    refine zu_bipush d_4103_323 zj_19 ?_
    refine zu_aload_n d_4103_325 rfl (zs_rr _) ?_
    refine zs_stk0 (zs_rfe e2) ?_
    refine zg_4_469 rfl d_4103_326 k9 ?_
    obtain ⟨k24, h⟩ := h
    refine zc_4_273 (x0 := (19 : Int32)) (x1 := (zs_I S7 11001 b1)) hB rfl k24 d_4103_329 (Nat.le_of_ble_eq_true rfl) h (fun v26 S25 h => ?_)
    refine zu_pop d_4103_332 rfl ?_
    refine zu_goto (t := 389) d_4103_333 rfl ?_
    exact zu_vret d_4103_389 zr_4103 h
  by_cases c14 : (zs_I S7 11003 b1).toInt = 1029
  · have h := h.2.2.2.2.2.1 c14
    have hof : Op.lookupswitch.offset #[(42, 122), (43, 67), (45, 99), (1028, 145), (1029, 159), (1030, 173), (1031, 187)].toList 201 (zs_I S7 11003 b1).toInt = 159 := by rw [c14]; decide
    rw [hof]
    refine ⟨by decide, ?_⟩
    show zs_U _ _ _ 336 _ _ _ _
    refine zu_aload_n d_4103_336 rfl (zs_ra _) ?_
    refine zu_bipush d_4103_337 zj_20 ?_
    refine zu_aload_n d_4103_339 rfl (zs_rr _) ?_
    refine zs_stk0 (zs_rfe e2) ?_
    refine zg_4_469 rfl d_4103_340 k9 ?_
    obtain ⟨k27, h⟩ := h
    refine zc_4_273 (x0 := (20 : Int32)) (x1 := (zs_I S7 11001 b1)) hB rfl k27 d_4103_343 (Nat.le_of_ble_eq_true rfl) h (fun v29 S28 h => ?_)
    refine zu_pop d_4103_346 rfl ?_
    refine zu_goto (t := 389) d_4103_347 rfl ?_
    exact zu_vret d_4103_389 zr_4103 h
  by_cases c15 : (zs_I S7 11003 b1).toInt = 1030
  · have h := h.2.2.2.2.2.2.1 c15
    have hof : Op.lookupswitch.offset #[(42, 122), (43, 67), (45, 99), (1028, 145), (1029, 159), (1030, 173), (1031, 187)].toList 201 (zs_I S7 11003 b1).toInt = 173 := by rw [c15]; decide
    rw [hof]
    refine ⟨by decide, ?_⟩
    show zs_U _ _ _ 350 _ _ _ _
    refine zu_aload_n d_4103_350 rfl (zs_ra _) ?_
    refine zu_bipush d_4103_351 zj_22 ?_
    refine zu_aload_n d_4103_353 rfl (zs_rr _) ?_
    refine zs_stk0 (zs_rfe e2) ?_
    refine zg_4_469 rfl d_4103_354 k9 ?_
    obtain ⟨k30, h⟩ := h
    refine zc_4_273 (x0 := (22 : Int32)) (x1 := (zs_I S7 11001 b1)) hB rfl k30 d_4103_357 (Nat.le_of_ble_eq_true rfl) h (fun v32 S31 h => ?_)
    refine zu_pop d_4103_360 rfl ?_
    refine zu_goto (t := 389) d_4103_361 rfl ?_
    exact zu_vret d_4103_389 zr_4103 h
  by_cases c16 : (zs_I S7 11003 b1).toInt = 1031
  · have h := h.2.2.2.2.2.2.2 c16
    have hof : Op.lookupswitch.offset #[(42, 122), (43, 67), (45, 99), (1028, 145), (1029, 159), (1030, 173), (1031, 187)].toList 201 (zs_I S7 11003 b1).toInt = 187 := by rw [c16]; decide
    rw [hof]
    refine ⟨by decide, ?_⟩
    show zs_U _ _ _ 364 _ _ _ _
    refine zu_aload_n d_4103_364 rfl (zs_ra _) ?_
    refine zu_bipush d_4103_365 zj_23 ?_
    refine zu_aload_n d_4103_367 rfl (zs_rr _) ?_
    refine zs_stk0 (zs_rfe e2) ?_
    refine zg_4_469 rfl d_4103_368 k9 ?_
    obtain ⟨k33, h⟩ := h
    refine zc_4_273 (x0 := (23 : Int32)) (x1 := (zs_I S7 11001 b1)) hB rfl k33 d_4103_371 (Nat.le_of_ble_eq_true rfl) h (fun v35 S34 h => ?_)
    refine zu_pop d_4103_374 rfl ?_
    refine zu_goto (t := 389) d_4103_375 rfl ?_
    exact zu_vret d_4103_389 zr_4103 h
  have h := h.1 c10 c11 c12 c13 c14 c15 c16
  have hof : Op.lookupswitch.offset #[(42, 122), (43, 67), (45, 99), (1028, 145), (1029, 159), (1030, 173), (1031, 187)].toList 201 (zs_I S7 11003 b1).toInt = 201 := by simp [Op.lookupswitch.offset, c10, c11, c12, c13, c14, c15, c16, Ne.symm c10, Ne.symm c11, Ne.symm c12, Ne.symm c13, Ne.symm c14, Ne.symm c15, Ne.symm c16]
  rw [hof]
  refine ⟨by decide, ?_⟩
  show zs_U _ _ _ 378 _ _ _ _
  refine zu_aload_n d_4103_378 rfl (zs_ra _) ?_
  refine zu_bipush d_4103_379 zj_33 ?_
  refine zu_aload_n d_4103_381 rfl (zs_rr _) ?_
  refine zs_stk0 (zs_rfe e2) ?_
  refine zg_4_469 rfl d_4103_382 k9 ?_
  obtain ⟨k17, h⟩ := h
  refine zc_4_273 (x0 := (33 : Int32)) (x1 := (zs_I S7 11001 b1)) hB rfl k17 d_4103_385 (Nat.le_of_ble_eq_true rfl) h (fun v19 S18 h => ?_)
  refine zu_pop d_4103_388 rfl ?_
  exact zu_vret d_4103_389 zr_4103 h
def w_X5_binary_150 (X : zs_X) (d : Nat) (p1 : Option Nat) (q0 : Option Nat) (q1 : Int32) (S : zs_T) (Q : zs_Q) : Prop :=
  (∃ b1, p1 = some b1 ∧ zs_K S b1 = some (.inl 11) ∧ ∃ b4, q0 = some b4 ∧ zs_K S b4 = some (.inl 4) ∧ zs_C X d 4097 [.ref b4, .int q1, .int (zs_I S 11001 b1), .int (zs_I S 11003 b1)] S (zs_kV (fun S7 => (Q (.returned none) S7)) Q))
theorem u_X5_binary_150 {σ : Nat → Nat} {n0 : Nat} {bf : ab_B} {d : Nat} {p1 : Option Nat} {q0 : Option Nat} {q1 : Int32} {S : zs_T} {Q : zs_Q} (hB : zt_B bf) (h : w_X5_binary_150 (zx σ n0 bf) d p1 q0 q1 S Q) : zs_U (zx σ n0 bf) d 4103 150 [(1, va_rf p1)] [.int q1, va_rf q0] S Q := by
  unfold w_X5_binary_150 at h
  refine zu_aload_n d_4103_150 rfl (zs_rr _) ?_
  obtain ⟨b1, e2, h⟩ := h
  refine zs_stk0 (zs_rfe e2) ?_
  obtain ⟨k3, h⟩ := h
  refine zg_4_469 rfl d_4103_151 k3 ?_
  refine zu_aload_n d_4103_154 rfl (zs_rr _) ?_
  refine zs_stk0 (zs_rfe e2) ?_
  refine zg_4_542 rfl d_4103_155 k3 ?_
  obtain ⟨b4, e5, h⟩ := h
  refine zs_stk3 (zs_rfe e5) ?_
  obtain ⟨k6, h⟩ := h
  refine zc_4_712 (x0 := q1) (x1 := (zs_I S 11001 b1)) (x2 := (zs_I S 11003 b1)) hB rfl k6 d_4103_158 (Nat.le_of_ble_eq_true rfl) h (fun S7 h => ?_)
  exact zu_vret d_4103_161 zr_4103 h
def w_X5_binary_99 (X : zs_X) (d : Nat) (p0 : Nat) (p1 : Option Nat) (p2 : Int32) (S : zs_T) (Q : zs_Q) : Prop :=
  (∃ b1, p1 = some b1 ∧ zs_K S b1 = some (.inl 11) ∧ zs_K S p0 = some (.inl 4) ∧ ((¬ (zs_R S 11002 b1) = (zs_R S 4003 p0) → w_X5_binary_162 X d p0 p1 p2 S Q) ∧ (¬ (¬ (zs_R S 11002 b1) = (zs_R S 4003 p0)) → ((((1000 : Int32) ≤ (zs_I S 11003 b1) → w_X5_binary_162 X d p0 p1 p2 S Q) ∧ (¬ ((1000 : Int32) ≤ (zs_I S 11003 b1)) → (((p2 = 0 → (∃ b8, (zs_R S 11005 b1) = some b8 ∧ zs_K S b8 = some (.inl 11) ∧ zs_C X d 4035 [va_rf (zs_R S 11002 b8)] S (zs_kI (fun v12 S11 => (((v12 = 0 → (w_X5_binary_150 X d p1 (some p0) (25 : Int32) S11 Q)) ∧ (¬ (v12 = 0) → (w_X5_binary_150 X d p1 (some p0) (27 : Int32) S11 Q))))) Q))) ∧ (¬ (p2 = 0) → (w_X5_binary_150 X d p1 (some p0) (26 : Int32) S Q))))))))))
theorem u_X5_binary_99 {σ : Nat → Nat} {n0 : Nat} {bf : ab_B} {d : Nat} {p0 : Nat} {p1 : Option Nat} {p2 : Int32} {S : zs_T} {Q : zs_Q} (hB : zt_B bf) (h : w_X5_binary_99 (zx σ n0 bf) d p0 p1 p2 S Q) : zs_U (zx σ n0 bf) d 4103 99 [(0, .ref p0), (1, va_rf p1), (2, .int p2)] [] S Q := by
  unfold w_X5_binary_99 at h
  refine zu_aload_n d_4103_99 rfl (zs_rr _) ?_
  obtain ⟨b1, e2, h⟩ := h
  refine zs_stk0 (zs_rfe e2) ?_
  obtain ⟨k3, h⟩ := h
  refine zg_4_297 rfl d_4103_100 k3 ?_
  refine zu_aload_n d_4103_103 rfl (zs_ra _) ?_
  obtain ⟨k4, h⟩ := h
  refine zg_4_150 rfl d_4103_104 k4 ?_
  refine zu_acmpne (u := (zs_R S 11002 b1)) (w := (zs_R S 4003 p0)) (t := 162) d_4103_107 rfl rfl rfl (fun c5 => ?_) (fun c5 => ?_)
  · have h := h.1 c5
    exact (u_X5_binary_162 hB h).weak ⟨rfl, rfl, rfl, trivial⟩
  · have h := h.2 c5
    refine zu_aload_n d_4103_110 rfl (zs_rr _) ?_
    refine zs_stk0 (zs_rfe e2) ?_
    refine zg_4_542 rfl d_4103_111 k3 ?_
    refine zu_sipush d_4103_114 zh_1000 ?_
    refine zu_cmpge (t := 162) d_4103_117 rfl (fun c6 => ?_) (fun c6 => ?_)
    · have h := h.1 c6
      exact (u_X5_binary_162 hB h).weak ⟨rfl, rfl, rfl, trivial⟩
    · have h := h.2 c6
      refine zu_aload_n d_4103_120 rfl (zs_ra _) ?_
      refine zu_iload_n d_4103_121 rfl ?_
      refine zu_ifeq (t := 130) d_4103_122 rfl (fun c7 => ?_) (fun c7 => ?_)
      · have h := h.1 c7
        refine zu_aload_n d_4103_130 rfl (zs_rr _) ?_
        refine zs_stk0 (zs_rfe e2) ?_
        refine zg_4_539 rfl d_4103_131 k3 ?_
        obtain ⟨b8, e9, h⟩ := h
        refine zs_stk0 (zs_rfe e9) ?_
        obtain ⟨k10, h⟩ := h
        refine zg_4_297 rfl d_4103_134 k10 ?_
        refine zc_4_584 (x0 := (zs_R S 11002 b8)) hB rfl d_4103_137 (Nat.le_of_ble_eq_true rfl) h (fun v12 S11 h => ?_)
        refine zu_ifeq (t := 148) d_4103_140 rfl (fun c13 => ?_) (fun c13 => ?_)
        · have h := h.1 c13
          refine zu_bipush d_4103_148 zj_25 ?_
          exact (u_X5_binary_150 hB h).weak ⟨rfl, trivial⟩
        · have h := h.2 c13
          refine zu_bipush d_4103_143 zj_27 ?_
          refine zu_goto (t := 150) d_4103_145 rfl ?_
          exact (u_X5_binary_150 hB h).weak ⟨rfl, trivial⟩
      · have h := h.2 c7
        refine zu_bipush d_4103_125 zj_26 ?_
        refine zu_goto (t := 150) d_4103_127 rfl ?_
        exact (u_X5_binary_150 hB h).weak ⟨rfl, trivial⟩
def w_X5_binary_79 (X : zs_X) (d : Nat) (p0 : Nat) (p1 : Option Nat) (p2 : Int32) (S : zs_T) (Q : zs_Q) : Prop :=
  (∃ b1, p1 = some b1 ∧ zs_K S b1 = some (.inl 11) ∧ zs_K S p0 = some (.inl 4) ∧ zs_C X d 4096 [.ref p0, va_rf (zs_R S 11006 b1)] S (zs_kV (fun S5 => (((p2 = 0 → w_X5_binary_99 X d p0 p1 p2 S5 Q) ∧ (¬ (p2 = 0) → (zs_K S5 b1 = some (.inl 11) ∧ zs_K S5 p0 = some (.inl 4) ∧ zs_C X d 4101 [.ref p0, va_rf (zs_R S5 11006 b1)] S5 (zs_kV (fun S10 => w_X5_binary_99 X d p0 p1 p2 S10 Q) Q)))))) Q))
theorem u_X5_binary_79 {σ : Nat → Nat} {n0 : Nat} {bf : ab_B} {d : Nat} {p0 : Nat} {p1 : Option Nat} {p2 : Int32} {S : zs_T} {Q : zs_Q} (hB : zt_B bf) (h : w_X5_binary_79 (zx σ n0 bf) d p0 p1 p2 S Q) : zs_U (zx σ n0 bf) d 4103 79 [(0, .ref p0), (1, va_rf p1), (2, .int p2)] [] S Q := by
  unfold w_X5_binary_79 at h
  refine zu_aload_n d_4103_79 rfl (zs_ra _) ?_
  refine zu_aload_n d_4103_80 rfl (zs_rr _) ?_
  obtain ⟨b1, e2, h⟩ := h
  refine zs_stk0 (zs_rfe e2) ?_
  obtain ⟨k3, h⟩ := h
  refine zg_4_536 rfl d_4103_81 k3 ?_
  obtain ⟨k4, h⟩ := h
  refine zc_4_721 (x0 := (zs_R S 11006 b1)) hB rfl k4 d_4103_84 (Nat.le_of_ble_eq_true rfl) h (fun S5 h => ?_)
  refine zu_iload_n d_4103_87 rfl ?_
  refine zu_ifeq (t := 99) d_4103_88 rfl (fun c7 => ?_) (fun c7 => ?_)
  · have h := h.1 c7
    exact (u_X5_binary_99 hB h).weak ⟨rfl, rfl, rfl, trivial⟩
  · have h := h.2 c7
    refine zu_aload_n d_4103_91 rfl (zs_ra _) ?_
    refine zu_aload_n d_4103_92 rfl (zs_rr _) ?_
    refine zs_stk0 (zs_rfe e2) ?_
    obtain ⟨k8, h⟩ := h
    refine zg_4_536 rfl d_4103_93 k8 ?_
    obtain ⟨k9, h⟩ := h
    refine zc_4_724 (x0 := (zs_R S5 11006 b1)) hB rfl k9 d_4103_96 (Nat.le_of_ble_eq_true rfl) h (fun S10 h => ?_)
    exact (u_X5_binary_99 hB h).weak ⟨rfl, rfl, rfl, trivial⟩
def w_X5_binary_66 (X : zs_X) (d : Nat) (p0 : Nat) (p1 : Option Nat) (q0 : Int32) (S : zs_T) (Q : zs_Q) : Prop :=
  (((q0 = 0 → w_X5_binary_79 X d p0 p1 q0 S Q) ∧ (¬ (q0 = 0) → (∃ b2, p1 = some b2 ∧ zs_K S b2 = some (.inl 11) ∧ zs_K S p0 = some (.inl 4) ∧ zs_C X d 4101 [.ref p0, va_rf (zs_R S 11005 b2)] S (zs_kV (fun S6 => w_X5_binary_79 X d p0 p1 q0 S6 Q) Q)))))
theorem u_X5_binary_66 {σ : Nat → Nat} {n0 : Nat} {bf : ab_B} {d : Nat} {p0 : Nat} {p1 : Option Nat} {q0 : Int32} {S : zs_T} {Q : zs_Q} (hB : zt_B bf) (h : w_X5_binary_66 (zx σ n0 bf) d p0 p1 q0 S Q) : zs_U (zx σ n0 bf) d 4103 66 [(0, .ref p0), (1, va_rf p1)] [.int q0] S Q := by
  unfold w_X5_binary_66 at h
  refine zu_istore_n d_4103_66 (zs_lt zq_4103 rfl) ?_
  refine zs_U.weak (L1 := [(2, .int q0), (0, .ref p0), (1, va_rf p1)]) ?_ ⟨rfl, zs_gp1 rfl (Or.inl rfl) rfl, zs_gp1 rfl (Or.inl (zs_cat _)) rfl, trivial⟩
  refine zu_iload_n d_4103_67 rfl ?_
  refine zu_ifeq (t := 79) d_4103_68 rfl (fun c1 => ?_) (fun c1 => ?_)
  · have h := h.1 c1
    exact (u_X5_binary_79 hB h).weak ⟨rfl, rfl, rfl, trivial⟩
  · have h := h.2 c1
    refine zu_aload_n d_4103_71 rfl (zs_ra _) ?_
    refine zu_aload_n d_4103_72 rfl (zs_rr _) ?_
    obtain ⟨b2, e3, h⟩ := h
    refine zs_stk0 (zs_rfe e3) ?_
    obtain ⟨k4, h⟩ := h
    refine zg_4_539 rfl d_4103_73 k4 ?_
    obtain ⟨k5, h⟩ := h
    refine zc_4_724 (x0 := (zs_R S 11005 b2)) hB rfl k5 d_4103_76 (Nat.le_of_ble_eq_true rfl) h (fun S6 h => ?_)
    exact (u_X5_binary_79 hB h).weak ⟨rfl, rfl, rfl, trivial⟩
def w_X5_binary_65 (X : zs_X) (d : Nat) (p0 : Nat) (p1 : Option Nat) (S : zs_T) (Q : zs_Q) : Prop :=
  (w_X5_binary_66 X d p0 p1 (0 : Int32) S Q)
theorem u_X5_binary_65 {σ : Nat → Nat} {n0 : Nat} {bf : ab_B} {d : Nat} {p0 : Nat} {p1 : Option Nat} {S : zs_T} {Q : zs_Q} (hB : zt_B bf) (h : w_X5_binary_65 (zx σ n0 bf) d p0 p1 S Q) : zs_U (zx σ n0 bf) d 4103 65 [(0, .ref p0), (1, va_rf p1)] [] S Q := by
  unfold w_X5_binary_65 at h
  refine zu_iconst d_4103_65 zi_0 ?_
  exact (u_X5_binary_66 hB h).weak ⟨rfl, rfl, trivial⟩
def w_X5_binary_61 (X : zs_X) (d : Nat) (p0 : Nat) (p1 : Option Nat) (S : zs_T) (Q : zs_Q) : Prop :=
  (w_X5_binary_66 X d p0 p1 (1 : Int32) S Q)
theorem u_X5_binary_61 {σ : Nat → Nat} {n0 : Nat} {bf : ab_B} {d : Nat} {p0 : Nat} {p1 : Option Nat} {S : zs_T} {Q : zs_Q} (hB : zt_B bf) (h : w_X5_binary_61 (zx σ n0 bf) d p0 p1 S Q) : zs_U (zx σ n0 bf) d 4103 61 [(0, .ref p0), (1, va_rf p1)] [] S Q := by
  unfold w_X5_binary_61 at h
  refine zu_iconst d_4103_61 zi_1 ?_
  refine zu_goto (t := 66) d_4103_62 rfl ?_
  exact (u_X5_binary_66 hB h).weak ⟨rfl, rfl, trivial⟩
def w_X5_binary_52 (X : zs_X) (d : Nat) (p0 : Nat) (p1 : Option Nat) (S : zs_T) (Q : zs_Q) : Prop :=
  (∃ b1, p1 = some b1 ∧ zs_K S b1 = some (.inl 11) ∧ ((¬ (zs_I S 11003 b1) = (43 : Int32) → w_X5_binary_65 X d p0 p1 S Q) ∧ (¬ (¬ (zs_I S 11003 b1) = (43 : Int32)) → w_X5_binary_61 X d p0 p1 S Q)))
theorem u_X5_binary_52 {σ : Nat → Nat} {n0 : Nat} {bf : ab_B} {d : Nat} {p0 : Nat} {p1 : Option Nat} {S : zs_T} {Q : zs_Q} (hB : zt_B bf) (h : w_X5_binary_52 (zx σ n0 bf) d p0 p1 S Q) : zs_U (zx σ n0 bf) d 4103 52 [(0, .ref p0), (1, va_rf p1)] [] S Q := by
  unfold w_X5_binary_52 at h
  refine zu_aload_n d_4103_52 rfl (zs_rr _) ?_
  obtain ⟨b1, e2, h⟩ := h
  refine zs_stk0 (zs_rfe e2) ?_
  obtain ⟨k3, h⟩ := h
  refine zg_4_542 rfl d_4103_53 k3 ?_
  refine zu_bipush d_4103_56 zj_43 ?_
  refine zu_cmpne (t := 65) d_4103_58 rfl (fun c4 => ?_) (fun c4 => ?_)
  · have h := h.1 c4
    exact (u_X5_binary_65 hB h).weak ⟨rfl, rfl, trivial⟩
  · have h := h.2 c4
    exact (u_X5_binary_61 hB h).weak ⟨rfl, rfl, trivial⟩
def w_X5_binary (X : zs_X) (d : Nat) (p0 : Nat) (p1 : Option Nat) (S : zs_T) (Q : zs_Q) : Prop :=
  (∃ b1, p1 = some b1 ∧ zs_K S b1 = some (.inl 11) ∧ ∃ b4, (zs_R S 11005 b1) = some b4 ∧ zs_K S b4 = some (.inl 11) ∧ zs_C X d 4036 [va_rf (zs_R S 11002 b4)] S (zs_kI (fun v8 S7 => (((v8 = 0 → w_X5_binary_65 X d p0 p1 S7 Q) ∧ (¬ (v8 = 0) → (zs_K S7 b1 = some (.inl 11) ∧ ∃ b11, (zs_R S7 11006 b1) = some b11 ∧ zs_K S7 b11 = some (.inl 11) ∧ zs_C X d 4036 [va_rf (zs_R S7 11002 b11)] S7 (zs_kI (fun v15 S14 => (((v15 = 0 → w_X5_binary_65 X d p0 p1 S14 Q) ∧ (¬ (v15 = 0) → (zs_K S14 b1 = some (.inl 11) ∧ ∃ b18, (zs_R S14 11005 b1) = some b18 ∧ zs_K S14 b18 = some (.inl 11) ∧ ∃ b21, (zs_R S14 11002 b18) = some b21 ∧ zs_K S14 b21 = some (.inl 6) ∧ zs_C X d 6002 [.ref b21] S14 (zs_kI (fun v25 S24 => (((v25 = 0 → w_X5_binary_61 X d p0 p1 S24 Q) ∧ (¬ (v25 = 0) → (zs_K S24 b1 = some (.inl 11) ∧ ∃ b28, (zs_R S24 11006 b1) = some b28 ∧ zs_K S24 b28 = some (.inl 11) ∧ ∃ b31, (zs_R S24 11002 b28) = some b31 ∧ zs_K S24 b31 = some (.inl 6) ∧ zs_C X d 6002 [.ref b31] S24 (zs_kI (fun v35 S34 => (((v35 = 0 → w_X5_binary_61 X d p0 p1 S34 Q) ∧ (¬ (v35 = 0) → w_X5_binary_52 X d p0 p1 S34 Q)))) Q)))))) Q)))))) Q)))))) Q))
theorem u_X5_binary {σ : Nat → Nat} {n0 : Nat} {bf : ab_B} {d : Nat} {p0 : Nat} {p1 : Option Nat} {S : zs_T} {Q : zs_Q} (hB : zt_B bf) (hd : 1 ≤ d) (h : w_X5_binary (zx σ n0 bf) (d - 1) p0 p1 S Q) : zs_C (zx σ n0 bf) d 4103 [.ref p0, va_rf p1] S Q := by
  have hL : lv_args 0 [.ref p0, va_rf p1] = [(0, .ref p0), (1, va_rf p1)] := by simp [lv_args, zs_cat, zs_cI, zs_cJ, zs_cA]
  refine zs_C.of1 (hB.2 4103 (by decide) (by decide)) hd (by rw [hL]; exact zs_sub_self _ (by exact ⟨rfl, rfl, trivial⟩)) ?_
  rw [hL]
  clear hL
  unfold w_X5_binary at h
  refine zu_aload_n d_4103_0 rfl (zs_rr _) ?_
  obtain ⟨b1, e2, h⟩ := h
  refine zs_stk0 (zs_rfe e2) ?_
  obtain ⟨k3, h⟩ := h
  refine zg_4_539 rfl d_4103_1 k3 ?_
  obtain ⟨b4, e5, h⟩ := h
  refine zs_stk0 (zs_rfe e5) ?_
  obtain ⟨k6, h⟩ := h
  refine zg_4_297 rfl d_4103_4 k6 ?_
  refine zc_4_587 (x0 := (zs_R S 11002 b4)) hB rfl d_4103_7 (Nat.le_of_ble_eq_true rfl) h (fun v8 S7 h => ?_)
  refine zu_ifeq (t := 65) d_4103_10 rfl (fun c9 => ?_) (fun c9 => ?_)
  · have h := h.1 c9
    exact (u_X5_binary_65 hB h).weak ⟨rfl, rfl, trivial⟩
  · have h := h.2 c9
    refine zu_aload_n d_4103_13 rfl (zs_rr _) ?_
    refine zs_stk0 (zs_rfe e2) ?_
    obtain ⟨k10, h⟩ := h
    refine zg_4_536 rfl d_4103_14 k10 ?_
    obtain ⟨b11, e12, h⟩ := h
    refine zs_stk0 (zs_rfe e12) ?_
    obtain ⟨k13, h⟩ := h
    refine zg_4_297 rfl d_4103_17 k13 ?_
    refine zc_4_587 (x0 := (zs_R S7 11002 b11)) hB rfl d_4103_20 (Nat.le_of_ble_eq_true rfl) h (fun v15 S14 h => ?_)
    refine zu_ifeq (t := 65) d_4103_23 rfl (fun c16 => ?_) (fun c16 => ?_)
    · have h := h.1 c16
      exact (u_X5_binary_65 hB h).weak ⟨rfl, rfl, trivial⟩
    · have h := h.2 c16
      refine zu_aload_n d_4103_26 rfl (zs_rr _) ?_
      refine zs_stk0 (zs_rfe e2) ?_
      obtain ⟨k17, h⟩ := h
      refine zg_4_539 rfl d_4103_27 k17 ?_
      obtain ⟨b18, e19, h⟩ := h
      refine zs_stk0 (zs_rfe e19) ?_
      obtain ⟨k20, h⟩ := h
      refine zg_4_297 rfl d_4103_30 k20 ?_
      obtain ⟨b21, e22, h⟩ := h
      refine zs_stk0 (zs_rfe e22) ?_
      obtain ⟨k23, h⟩ := h
      refine zc_4_335  hB rfl k23 d_4103_33 (Nat.le_of_ble_eq_true rfl) h (fun v25 S24 h => ?_)
      refine zu_ifeq (t := 61) d_4103_36 rfl (fun c26 => ?_) (fun c26 => ?_)
      · have h := h.1 c26
        exact (u_X5_binary_61 hB h).weak ⟨rfl, rfl, trivial⟩
      · have h := h.2 c26
        refine zu_aload_n d_4103_39 rfl (zs_rr _) ?_
        refine zs_stk0 (zs_rfe e2) ?_
        obtain ⟨k27, h⟩ := h
        refine zg_4_536 rfl d_4103_40 k27 ?_
        obtain ⟨b28, e29, h⟩ := h
        refine zs_stk0 (zs_rfe e29) ?_
        obtain ⟨k30, h⟩ := h
        refine zg_4_297 rfl d_4103_43 k30 ?_
        obtain ⟨b31, e32, h⟩ := h
        refine zs_stk0 (zs_rfe e32) ?_
        obtain ⟨k33, h⟩ := h
        refine zc_4_335  hB rfl k33 d_4103_46 (Nat.le_of_ble_eq_true rfl) h (fun v35 S34 h => ?_)
        refine zu_ifeq (t := 61) d_4103_49 rfl (fun c36 => ?_) (fun c36 => ?_)
        · have h := h.1 c36
          exact (u_X5_binary_61 hB h).weak ⟨rfl, rfl, trivial⟩
        · have h := h.2 c36
          exact (u_X5_binary_52 hB h).weak ⟨rfl, rfl, trivial⟩
/-! SchemaPascal$Reader.initial(LSchemaPascal$Symbol;)V -/
theorem zm_4104 {σ : Nat → Nat} {n0 : Nat} {bf : ab_B} : ab_code (zx σ n0 bf).1 4104 = prog_9_method_120_code := rfl
theorem zq_4104 {σ : Nat → Nat} {n0 : Nat} {bf : ab_B} : ab_maxL (zx σ n0 bf).1 4104 = 4 := rfl
theorem zr_4104 {σ : Nat → Nat} {n0 : Nat} {bf : ab_B} : ab_ret (zx σ n0 bf).1 4104 = (Option.none : Option Jvm.ClassFile.FieldType) := rfl
theorem d_4104_0 {σ : Nat → Nat} {n0 : Nat} {bf : ab_B} : decode (ab_code (zx σ n0 bf).1 4104) 0 = .ok (.aload_n 0, 1) := zd zm_4104 (by decide +kernel)
theorem d_4104_1 {σ : Nat → Nat} {n0 : Nat} {bf : ab_B} : decode (ab_code (zx σ n0 bf).1 4104) 1 = .ok (.iconst 2, 1) := zd zm_4104 (by decide +kernel)
theorem d_4104_2 {σ : Nat → Nat} {n0 : Nat} {bf : ab_B} : decode (ab_code (zx σ n0 bf).1 4104) 2 = .ok (.aload_n 0, 1) := zd zm_4104 (by decide +kernel)
theorem d_4104_3 {σ : Nat → Nat} {n0 : Nat} {bf : ab_B} : decode (ab_code (zx σ n0 bf).1 4104) 3 = .ok (.getfield 218, 3) := zd zm_4104 (by decide +kernel)
theorem d_4104_6 {σ : Nat → Nat} {n0 : Nat} {bf : ab_B} : decode (ab_code (zx σ n0 bf).1 4104) 6 = .ok (.getfield 270, 3) := zd zm_4104 (by decide +kernel)
theorem d_4104_9 {σ : Nat → Nat} {n0 : Nat} {bf : ab_B} : decode (ab_code (zx σ n0 bf).1 4104) 9 = .ok (.aload_n 1, 1) := zd zm_4104 (by decide +kernel)
theorem d_4104_10 {σ : Nat → Nat} {n0 : Nat} {bf : ab_B} : decode (ab_code (zx σ n0 bf).1 4104) 10 = .ok (.getfield 65, 3) := zd zm_4104 (by decide +kernel)
theorem d_4104_13 {σ : Nat → Nat} {n0 : Nat} {bf : ab_B} : decode (ab_code (zx σ n0 bf).1 4104) 13 = .ok (.invokevirtual 572, 3) := zd zm_4104 (by decide +kernel)
theorem d_4104_16 {σ : Nat → Nat} {n0 : Nat} {bf : ab_B} : decode (ab_code (zx σ n0 bf).1 4104) 16 = .ok (.astore_n 2, 1) := zd zm_4104 (by decide +kernel)
theorem d_4104_17 {σ : Nat → Nat} {n0 : Nat} {bf : ab_B} : decode (ab_code (zx σ n0 bf).1 4104) 17 = .ok (.aload_n 2, 1) := zd zm_4104 (by decide +kernel)
theorem d_4104_18 {σ : Nat → Nat} {n0 : Nat} {bf : ab_B} : decode (ab_code (zx σ n0 bf).1 4104) 18 = .ok (.aload_n 1, 1) := zd zm_4104 (by decide +kernel)
theorem d_4104_19 {σ : Nat → Nat} {n0 : Nat} {bf : ab_B} : decode (ab_code (zx σ n0 bf).1 4104) 19 = .ok (.putfield 664, 3) := zd zm_4104 (by decide +kernel)
theorem d_4104_22 {σ : Nat → Nat} {n0 : Nat} {bf : ab_B} : decode (ab_code (zx σ n0 bf).1 4104) 22 = .ok (.aload_n 0, 1) := zd zm_4104 (by decide +kernel)
theorem d_4104_23 {σ : Nat → Nat} {n0 : Nat} {bf : ab_B} : decode (ab_code (zx σ n0 bf).1 4104) 23 = .ok (.aload_n 2, 1) := zd zm_4104 (by decide +kernel)
theorem d_4104_24 {σ : Nat → Nat} {n0 : Nat} {bf : ab_B} : decode (ab_code (zx σ n0 bf).1 4104) 24 = .ok (.invokevirtual 715, 3) := zd zm_4104 (by decide +kernel)
theorem d_4104_27 {σ : Nat → Nat} {n0 : Nat} {bf : ab_B} : decode (ab_code (zx σ n0 bf).1 4104) 27 = .ok (.aload_n 1, 1) := zd zm_4104 (by decide +kernel)
theorem d_4104_28 {σ : Nat → Nat} {n0 : Nat} {bf : ab_B} : decode (ab_code (zx σ n0 bf).1 4104) 28 = .ok (.getfield 65, 3) := zd zm_4104 (by decide +kernel)
theorem d_4104_31 {σ : Nat → Nat} {n0 : Nat} {bf : ab_B} : decode (ab_code (zx σ n0 bf).1 4104) 31 = .ok (.getfield 369, 3) := zd zm_4104 (by decide +kernel)
theorem d_4104_34 {σ : Nat → Nat} {n0 : Nat} {bf : ab_B} : decode (ab_code (zx σ n0 bf).1 4104) 34 = .ok (.bipush 6, 2) := zd zm_4104 (by decide +kernel)
theorem d_4104_36 {σ : Nat → Nat} {n0 : Nat} {bf : ab_B} : decode (ab_code (zx σ n0 bf).1 4104) 36 = .ok (.if_icmp .ne 89, 3) := zd zm_4104 (by decide +kernel)
theorem d_4104_39 {σ : Nat → Nat} {n0 : Nat} {bf : ab_B} : decode (ab_code (zx σ n0 bf).1 4104) 39 = .ok (.aload_n 1, 1) := zd zm_4104 (by decide +kernel)
theorem d_4104_40 {σ : Nat → Nat} {n0 : Nat} {bf : ab_B} : decode (ab_code (zx σ n0 bf).1 4104) 40 = .ok (.getfield 101, 3) := zd zm_4104 (by decide +kernel)
theorem d_4104_43 {σ : Nat → Nat} {n0 : Nat} {bf : ab_B} : decode (ab_code (zx σ n0 bf).1 4104) 43 = .ok (.aload_n 0, 1) := zd zm_4104 (by decide +kernel)
theorem d_4104_44 {σ : Nat → Nat} {n0 : Nat} {bf : ab_B} : decode (ab_code (zx σ n0 bf).1 4104) 44 = .ok (.getfield 156, 3) := zd zm_4104 (by decide +kernel)
theorem d_4104_47 {σ : Nat → Nat} {n0 : Nat} {bf : ab_B} : decode (ab_code (zx σ n0 bf).1 4104) 47 = .ok (.if_acmp .ne 7, 3) := zd zm_4104 (by decide +kernel)
theorem d_4104_50 {σ : Nat → Nat} {n0 : Nat} {bf : ab_B} : decode (ab_code (zx σ n0 bf).1 4104) 50 = .ok (.iconst 1, 1) := zd zm_4104 (by decide +kernel)
theorem d_4104_51 {σ : Nat → Nat} {n0 : Nat} {bf : ab_B} : decode (ab_code (zx σ n0 bf).1 4104) 51 = .ok (.goto 4, 3) := zd zm_4104 (by decide +kernel)
theorem d_4104_54 {σ : Nat → Nat} {n0 : Nat} {bf : ab_B} : decode (ab_code (zx σ n0 bf).1 4104) 54 = .ok (.iconst 0, 1) := zd zm_4104 (by decide +kernel)
theorem d_4104_55 {σ : Nat → Nat} {n0 : Nat} {bf : ab_B} : decode (ab_code (zx σ n0 bf).1 4104) 55 = .ok (.istore_n 3, 1) := zd zm_4104 (by decide +kernel)
theorem d_4104_56 {σ : Nat → Nat} {n0 : Nat} {bf : ab_B} : decode (ab_code (zx σ n0 bf).1 4104) 56 = .ok (.aload_n 0, 1) := zd zm_4104 (by decide +kernel)
theorem d_4104_57 {σ : Nat → Nat} {n0 : Nat} {bf : ab_B} : decode (ab_code (zx σ n0 bf).1 4104) 57 = .ok (.bipush 56, 2) := zd zm_4104 (by decide +kernel)
theorem d_4104_59 {σ : Nat → Nat} {n0 : Nat} {bf : ab_B} : decode (ab_code (zx σ n0 bf).1 4104) 59 = .ok (.aload_n 0, 1) := zd zm_4104 (by decide +kernel)
theorem d_4104_60 {σ : Nat → Nat} {n0 : Nat} {bf : ab_B} : decode (ab_code (zx σ n0 bf).1 4104) 60 = .ok (.getfield 218, 3) := zd zm_4104 (by decide +kernel)
theorem d_4104_63 {σ : Nat → Nat} {n0 : Nat} {bf : ab_B} : decode (ab_code (zx σ n0 bf).1 4104) 63 = .ok (.getfield 270, 3) := zd zm_4104 (by decide +kernel)
theorem d_4104_66 {σ : Nat → Nat} {n0 : Nat} {bf : ab_B} : decode (ab_code (zx σ n0 bf).1 4104) 66 = .ok (.aload_n 1, 1) := zd zm_4104 (by decide +kernel)
theorem d_4104_67 {σ : Nat → Nat} {n0 : Nat} {bf : ab_B} : decode (ab_code (zx σ n0 bf).1 4104) 67 = .ok (.getfield 65, 3) := zd zm_4104 (by decide +kernel)
theorem d_4104_70 {σ : Nat → Nat} {n0 : Nat} {bf : ab_B} : decode (ab_code (zx σ n0 bf).1 4104) 70 = .ok (.getfield 137, 3) := zd zm_4104 (by decide +kernel)
theorem d_4104_73 {σ : Nat → Nat} {n0 : Nat} {bf : ab_B} : decode (ab_code (zx σ n0 bf).1 4104) 73 = .ok (.invokevirtual 712, 3) := zd zm_4104 (by decide +kernel)
theorem d_4104_76 {σ : Nat → Nat} {n0 : Nat} {bf : ab_B} : decode (ab_code (zx σ n0 bf).1 4104) 76 = .ok (.aload_n 0, 1) := zd zm_4104 (by decide +kernel)
theorem d_4104_77 {σ : Nat → Nat} {n0 : Nat} {bf : ab_B} : decode (ab_code (zx σ n0 bf).1 4104) 77 = .ok (.getfield 128, 3) := zd zm_4104 (by decide +kernel)
theorem d_4104_80 {σ : Nat → Nat} {n0 : Nat} {bf : ab_B} : decode (ab_code (zx σ n0 bf).1 4104) 80 = .ok (.iload_n 3, 1) := zd zm_4104 (by decide +kernel)
theorem d_4104_81 {σ : Nat → Nat} {n0 : Nat} {bf : ab_B} : decode (ab_code (zx σ n0 bf).1 4104) 81 = .ok (.ifCond .eq 10, 3) := zd zm_4104 (by decide +kernel)
theorem d_4104_84 {σ : Nat → Nat} {n0 : Nat} {bf : ab_B} : decode (ab_code (zx σ n0 bf).1 4104) 84 = .ok (.aload_n 1, 1) := zd zm_4104 (by decide +kernel)
theorem d_4104_85 {σ : Nat → Nat} {n0 : Nat} {bf : ab_B} : decode (ab_code (zx σ n0 bf).1 4104) 85 = .ok (.getfield 302, 3) := zd zm_4104 (by decide +kernel)
theorem d_4104_88 {σ : Nat → Nat} {n0 : Nat} {bf : ab_B} : decode (ab_code (zx σ n0 bf).1 4104) 88 = .ok (.goto 10, 3) := zd zm_4104 (by decide +kernel)
theorem d_4104_91 {σ : Nat → Nat} {n0 : Nat} {bf : ab_B} : decode (ab_code (zx σ n0 bf).1 4104) 91 = .ok (.iconst (-1), 1) := zd zm_4104 (by decide +kernel)
theorem d_4104_92 {σ : Nat → Nat} {n0 : Nat} {bf : ab_B} : decode (ab_code (zx σ n0 bf).1 4104) 92 = .ok (.aload_n 1, 1) := zd zm_4104 (by decide +kernel)
theorem d_4104_93 {σ : Nat → Nat} {n0 : Nat} {bf : ab_B} : decode (ab_code (zx σ n0 bf).1 4104) 93 = .ok (.getfield 168, 3) := zd zm_4104 (by decide +kernel)
theorem d_4104_96 {σ : Nat → Nat} {n0 : Nat} {bf : ab_B} : decode (ab_code (zx σ n0 bf).1 4104) 96 = .ok (.l2i, 1) := zd zm_4104 (by decide +kernel)
theorem d_4104_97 {σ : Nat → Nat} {n0 : Nat} {bf : ab_B} : decode (ab_code (zx σ n0 bf).1 4104) 97 = .ok (.isub, 1) := zd zm_4104 (by decide +kernel)
theorem d_4104_98 {σ : Nat → Nat} {n0 : Nat} {bf : ab_B} : decode (ab_code (zx σ n0 bf).1 4104) 98 = .ok (.invokevirtual 709, 3) := zd zm_4104 (by decide +kernel)
theorem d_4104_101 {σ : Nat → Nat} {n0 : Nat} {bf : ab_B} : decode (ab_code (zx σ n0 bf).1 4104) 101 = .ok (.pop, 1) := zd zm_4104 (by decide +kernel)
theorem d_4104_102 {σ : Nat → Nat} {n0 : Nat} {bf : ab_B} : decode (ab_code (zx σ n0 bf).1 4104) 102 = .ok (.aload_n 0, 1) := zd zm_4104 (by decide +kernel)
theorem d_4104_103 {σ : Nat → Nat} {n0 : Nat} {bf : ab_B} : decode (ab_code (zx σ n0 bf).1 4104) 103 = .ok (.getfield 128, 3) := zd zm_4104 (by decide +kernel)
theorem d_4104_106 {σ : Nat → Nat} {n0 : Nat} {bf : ab_B} : decode (ab_code (zx σ n0 bf).1 4104) 106 = .ok (.iload_n 3, 1) := zd zm_4104 (by decide +kernel)
theorem d_4104_107 {σ : Nat → Nat} {n0 : Nat} {bf : ab_B} : decode (ab_code (zx σ n0 bf).1 4104) 107 = .ok (.ifCond .eq 10, 3) := zd zm_4104 (by decide +kernel)
theorem d_4104_110 {σ : Nat → Nat} {n0 : Nat} {bf : ab_B} : decode (ab_code (zx σ n0 bf).1 4104) 110 = .ok (.aload_n 1, 1) := zd zm_4104 (by decide +kernel)
theorem d_4104_111 {σ : Nat → Nat} {n0 : Nat} {bf : ab_B} : decode (ab_code (zx σ n0 bf).1 4104) 111 = .ok (.getfield 306, 3) := zd zm_4104 (by decide +kernel)
theorem d_4104_114 {σ : Nat → Nat} {n0 : Nat} {bf : ab_B} : decode (ab_code (zx σ n0 bf).1 4104) 114 = .ok (.goto 4, 3) := zd zm_4104 (by decide +kernel)
theorem d_4104_117 {σ : Nat → Nat} {n0 : Nat} {bf : ab_B} : decode (ab_code (zx σ n0 bf).1 4104) 117 = .ok (.iconst 0, 1) := zd zm_4104 (by decide +kernel)
theorem d_4104_118 {σ : Nat → Nat} {n0 : Nat} {bf : ab_B} : decode (ab_code (zx σ n0 bf).1 4104) 118 = .ok (.invokevirtual 709, 3) := zd zm_4104 (by decide +kernel)
theorem d_4104_121 {σ : Nat → Nat} {n0 : Nat} {bf : ab_B} : decode (ab_code (zx σ n0 bf).1 4104) 121 = .ok (.pop, 1) := zd zm_4104 (by decide +kernel)
theorem d_4104_122 {σ : Nat → Nat} {n0 : Nat} {bf : ab_B} : decode (ab_code (zx σ n0 bf).1 4104) 122 = .ok (.goto 40, 3) := zd zm_4104 (by decide +kernel)
theorem d_4104_125 {σ : Nat → Nat} {n0 : Nat} {bf : ab_B} : decode (ab_code (zx σ n0 bf).1 4104) 125 = .ok (.aload_n 0, 1) := zd zm_4104 (by decide +kernel)
theorem d_4104_126 {σ : Nat → Nat} {n0 : Nat} {bf : ab_B} : decode (ab_code (zx σ n0 bf).1 4104) 126 = .ok (.iconst 1, 1) := zd zm_4104 (by decide +kernel)
theorem d_4104_127 {σ : Nat → Nat} {n0 : Nat} {bf : ab_B} : decode (ab_code (zx σ n0 bf).1 4104) 127 = .ok (.aload_n 0, 1) := zd zm_4104 (by decide +kernel)
theorem d_4104_128 {σ : Nat → Nat} {n0 : Nat} {bf : ab_B} : decode (ab_code (zx σ n0 bf).1 4104) 128 = .ok (.getfield 218, 3) := zd zm_4104 (by decide +kernel)
theorem d_4104_131 {σ : Nat → Nat} {n0 : Nat} {bf : ab_B} : decode (ab_code (zx σ n0 bf).1 4104) 131 = .ok (.getfield 270, 3) := zd zm_4104 (by decide +kernel)
theorem d_4104_134 {σ : Nat → Nat} {n0 : Nat} {bf : ab_B} : decode (ab_code (zx σ n0 bf).1 4104) 134 = .ok (.aload_n 1, 1) := zd zm_4104 (by decide +kernel)
theorem d_4104_135 {σ : Nat → Nat} {n0 : Nat} {bf : ab_B} : decode (ab_code (zx σ n0 bf).1 4104) 135 = .ok (.getfield 168, 3) := zd zm_4104 (by decide +kernel)
theorem d_4104_138 {σ : Nat → Nat} {n0 : Nat} {bf : ab_B} : decode (ab_code (zx σ n0 bf).1 4104) 138 = .ok (.l2i, 1) := zd zm_4104 (by decide +kernel)
theorem d_4104_139 {σ : Nat → Nat} {n0 : Nat} {bf : ab_B} : decode (ab_code (zx σ n0 bf).1 4104) 139 = .ok (.invokevirtual 712, 3) := zd zm_4104 (by decide +kernel)
theorem d_4104_142 {σ : Nat → Nat} {n0 : Nat} {bf : ab_B} : decode (ab_code (zx σ n0 bf).1 4104) 142 = .ok (.aload_n 0, 1) := zd zm_4104 (by decide +kernel)
theorem d_4104_143 {σ : Nat → Nat} {n0 : Nat} {bf : ab_B} : decode (ab_code (zx σ n0 bf).1 4104) 143 = .ok (.bipush 11, 2) := zd zm_4104 (by decide +kernel)
theorem d_4104_145 {σ : Nat → Nat} {n0 : Nat} {bf : ab_B} : decode (ab_code (zx σ n0 bf).1 4104) 145 = .ok (.aload_n 0, 1) := zd zm_4104 (by decide +kernel)
theorem d_4104_146 {σ : Nat → Nat} {n0 : Nat} {bf : ab_B} : decode (ab_code (zx σ n0 bf).1 4104) 146 = .ok (.getfield 218, 3) := zd zm_4104 (by decide +kernel)
theorem d_4104_149 {σ : Nat → Nat} {n0 : Nat} {bf : ab_B} : decode (ab_code (zx σ n0 bf).1 4104) 149 = .ok (.getfield 270, 3) := zd zm_4104 (by decide +kernel)
theorem d_4104_152 {σ : Nat → Nat} {n0 : Nat} {bf : ab_B} : decode (ab_code (zx σ n0 bf).1 4104) 152 = .ok (.aload_n 1, 1) := zd zm_4104 (by decide +kernel)
theorem d_4104_153 {σ : Nat → Nat} {n0 : Nat} {bf : ab_B} : decode (ab_code (zx σ n0 bf).1 4104) 153 = .ok (.getfield 65, 3) := zd zm_4104 (by decide +kernel)
theorem d_4104_156 {σ : Nat → Nat} {n0 : Nat} {bf : ab_B} : decode (ab_code (zx σ n0 bf).1 4104) 156 = .ok (.getfield 137, 3) := zd zm_4104 (by decide +kernel)
theorem d_4104_159 {σ : Nat → Nat} {n0 : Nat} {bf : ab_B} : decode (ab_code (zx σ n0 bf).1 4104) 159 = .ok (.invokevirtual 712, 3) := zd zm_4104 (by decide +kernel)
theorem d_4104_162 {σ : Nat → Nat} {n0 : Nat} {bf : ab_B} : decode (ab_code (zx σ n0 bf).1 4104) 162 = .ok (.return_, 1) := zd zm_4104 (by decide +kernel)
def w_X5_initial_162 (X : zs_X) (d : Nat)  (S : zs_T) (Q : zs_Q) : Prop :=
  (Q (.returned none) S)
theorem u_X5_initial_162 {σ : Nat → Nat} {n0 : Nat} {bf : ab_B} {d : Nat}  {S : zs_T} {Q : zs_Q} (hB : zt_B bf) (h : w_X5_initial_162 (zx σ n0 bf) d  S Q) : zs_U (zx σ n0 bf) d 4104 162 [] [] S Q := by
  unfold w_X5_initial_162 at h
  exact zu_vret d_4104_162 zr_4104 h
def w_X5_initial_118 (X : zs_X) (d : Nat) (q0 : Option Nat) (q1 : Int32) (S : zs_T) (Q : zs_Q) : Prop :=
  (∃ b1, q0 = some b1 ∧ zs_K S b1 = some (.inl 3) ∧ zs_C X d 3002 [.ref b1, .int q1] S (zs_kI (fun v5 S4 => (w_X5_initial_162 X d  S4 Q)) Q))
theorem u_X5_initial_118 {σ : Nat → Nat} {n0 : Nat} {bf : ab_B} {d : Nat} {q0 : Option Nat} {q1 : Int32} {S : zs_T} {Q : zs_Q} (hB : zt_B bf) (h : w_X5_initial_118 (zx σ n0 bf) d q0 q1 S Q) : zs_U (zx σ n0 bf) d 4104 118 [] [.int q1, va_rf q0] S Q := by
  unfold w_X5_initial_118 at h
  obtain ⟨b1, e2, h⟩ := h
  refine zs_stk1 (zs_rfe e2) ?_
  obtain ⟨k3, h⟩ := h
  refine zc_4_709 (x0 := q1) hB rfl k3 d_4104_118 (Nat.le_of_ble_eq_true rfl) h (fun v5 S4 h => ?_)
  refine zu_pop d_4104_121 rfl ?_
  refine zu_goto (t := 162) d_4104_122 rfl ?_
  exact (u_X5_initial_162 hB h).weak trivial
def w_X5_initial_98 (X : zs_X) (d : Nat) (p0 : Nat) (p1 : Option Nat) (p3 : Int32) (q0 : Option Nat) (q1 : Int32) (S : zs_T) (Q : zs_Q) : Prop :=
  (∃ b1, q0 = some b1 ∧ zs_K S b1 = some (.inl 3) ∧ zs_C X d 3002 [.ref b1, .int q1] S (zs_kI (fun v5 S4 => (zs_K S4 p0 = some (.inl 4) ∧ ((p3 = 0 → (w_X5_initial_118 X d (zs_R S4 4001 p0) (0 : Int32) S4 Q)) ∧ (¬ (p3 = 0) → (∃ b8, p1 = some b8 ∧ zs_K S4 b8 = some (.inl 7) ∧ w_X5_initial_118 X d (zs_R S4 4001 p0) (zs_I S4 7005 b8) S4 Q))))) Q))
theorem u_X5_initial_98 {σ : Nat → Nat} {n0 : Nat} {bf : ab_B} {d : Nat} {p0 : Nat} {p1 : Option Nat} {p3 : Int32} {q0 : Option Nat} {q1 : Int32} {S : zs_T} {Q : zs_Q} (hB : zt_B bf) (h : w_X5_initial_98 (zx σ n0 bf) d p0 p1 p3 q0 q1 S Q) : zs_U (zx σ n0 bf) d 4104 98 [(0, .ref p0), (1, va_rf p1), (3, .int p3)] [.int q1, va_rf q0] S Q := by
  unfold w_X5_initial_98 at h
  obtain ⟨b1, e2, h⟩ := h
  refine zs_stk1 (zs_rfe e2) ?_
  obtain ⟨k3, h⟩ := h
  refine zc_4_709 (x0 := q1) hB rfl k3 d_4104_98 (Nat.le_of_ble_eq_true rfl) h (fun v5 S4 h => ?_)
  refine zu_pop d_4104_101 rfl ?_
  refine zu_aload_n d_4104_102 rfl (zs_ra _) ?_
  obtain ⟨k6, h⟩ := h
  refine zg_4_128 rfl d_4104_103 k6 ?_
  refine zu_iload_n d_4104_106 rfl ?_
  refine zu_ifeq (t := 117) d_4104_107 rfl (fun c7 => ?_) (fun c7 => ?_)
  · have h := h.1 c7
    refine zu_iconst d_4104_117 zi_0 ?_
    exact (u_X5_initial_118 hB h).weak trivial
  · have h := h.2 c7
    refine zu_aload_n d_4104_110 rfl (zs_rr _) ?_
    obtain ⟨b8, e9, h⟩ := h
    refine zs_stk0 (zs_rfe e9) ?_
    obtain ⟨k10, h⟩ := h
    refine zg_4_306 rfl d_4104_111 k10 ?_
    refine zu_goto (t := 118) d_4104_114 rfl ?_
    exact (u_X5_initial_118 hB h).weak trivial
def w_X5_initial_55 (X : zs_X) (d : Nat) (p0 : Nat) (p1 : Option Nat) (q0 : Int32) (S : zs_T) (Q : zs_Q) : Prop :=
  (zs_K S p0 = some (.inl 4) ∧ ∃ b2, (zs_R S 4010 p0) = some b2 ∧ zs_K S b2 = some (.inl 10) ∧ ∃ b5, p1 = some b5 ∧ zs_K S b5 = some (.inl 7) ∧ ∃ b8, (zs_R S 7002 b5) = some b8 ∧ zs_K S b8 = some (.inl 6) ∧ zs_C X d 4097 [.ref p0, .int (56 : Int32), .int (zs_I S 10001 b2), .int (zs_I S 6001 b8)] S (zs_kV (fun S11 => (zs_K S11 p0 = some (.inl 4) ∧ ((q0 = 0 → (zs_K S11 b5 = some (.inl 7) ∧ w_X5_initial_98 X d p0 p1 q0 (zs_R S11 4001 p0) ((-1 : Int32) - (((zs_J S11 7003 b5)).toInt32)) S11 Q)) ∧ (¬ (q0 = 0) → (zs_K S11 b5 = some (.inl 7) ∧ w_X5_initial_98 X d p0 p1 q0 (zs_R S11 4001 p0) (zs_I S11 7004 b5) S11 Q))))) Q))
theorem u_X5_initial_55 {σ : Nat → Nat} {n0 : Nat} {bf : ab_B} {d : Nat} {p0 : Nat} {p1 : Option Nat} {q0 : Int32} {S : zs_T} {Q : zs_Q} (hB : zt_B bf) (h : w_X5_initial_55 (zx σ n0 bf) d p0 p1 q0 S Q) : zs_U (zx σ n0 bf) d 4104 55 [(0, .ref p0), (1, va_rf p1)] [.int q0] S Q := by
  unfold w_X5_initial_55 at h
  refine zu_istore_n d_4104_55 (zs_lt zq_4104 rfl) ?_
  refine zu_aload_n d_4104_56 rfl (zs_ra _) ?_
  refine zu_bipush d_4104_57 zj_56 ?_
  refine zu_aload_n d_4104_59 rfl (zs_ra _) ?_
  obtain ⟨k1, h⟩ := h
  refine zg_4_218 rfl d_4104_60 k1 ?_
  obtain ⟨b2, e3, h⟩ := h
  refine zs_stk0 (zs_rfe e3) ?_
  obtain ⟨k4, h⟩ := h
  refine zg_4_270 rfl d_4104_63 k4 ?_
  refine zu_aload_n d_4104_66 rfl (zs_rr _) ?_
  obtain ⟨b5, e6, h⟩ := h
  refine zs_stk0 (zs_rfe e6) ?_
  obtain ⟨k7, h⟩ := h
  refine zg_4_65 rfl d_4104_67 k7 ?_
  obtain ⟨b8, e9, h⟩ := h
  refine zs_stk0 (zs_rfe e9) ?_
  obtain ⟨k10, h⟩ := h
  refine zg_4_137 rfl d_4104_70 k10 ?_
  refine zc_4_712 (x0 := (56 : Int32)) (x1 := (zs_I S 10001 b2)) (x2 := (zs_I S 6001 b8)) hB rfl k1 d_4104_73 (Nat.le_of_ble_eq_true rfl) h (fun S11 h => ?_)
  refine zu_aload_n d_4104_76 rfl (zs_ra _) ?_
  obtain ⟨k13, h⟩ := h
  refine zg_4_128 rfl d_4104_77 k13 ?_
  refine zu_iload_n d_4104_80 rfl ?_
  refine zu_ifeq (t := 91) d_4104_81 rfl (fun c14 => ?_) (fun c14 => ?_)
  · have h := h.1 c14
    refine zu_iconst d_4104_91 zi_m1 ?_
    refine zu_aload_n d_4104_92 rfl (zs_rr _) ?_
    refine zs_stk0 (zs_rfe e6) ?_
    obtain ⟨k15, h⟩ := h
    refine zg_4_168 rfl d_4104_93 k15 ?_
    refine zu_stk d_4104_96 rfl rfl ?_
    refine zu_stk d_4104_97 rfl rfl ?_
    exact (u_X5_initial_98 hB h).weak ⟨rfl, rfl, rfl, trivial⟩
  · have h := h.2 c14
    refine zu_aload_n d_4104_84 rfl (zs_rr _) ?_
    refine zs_stk0 (zs_rfe e6) ?_
    obtain ⟨k16, h⟩ := h
    refine zg_4_302 rfl d_4104_85 k16 ?_
    refine zu_goto (t := 98) d_4104_88 rfl ?_
    exact (u_X5_initial_98 hB h).weak ⟨rfl, rfl, rfl, trivial⟩
def w_X5_initial_39 (X : zs_X) (d : Nat) (p0 : Nat) (p1 : Option Nat) (S : zs_T) (Q : zs_Q) : Prop :=
  (∃ b1, p1 = some b1 ∧ zs_K S b1 = some (.inl 7) ∧ zs_K S p0 = some (.inl 4) ∧ ((¬ (zs_R S 7013 b1) = (zs_R S 4005 p0) → (w_X5_initial_55 X d p0 p1 (0 : Int32) S Q)) ∧ (¬ (¬ (zs_R S 7013 b1) = (zs_R S 4005 p0)) → (w_X5_initial_55 X d p0 p1 (1 : Int32) S Q))))
theorem u_X5_initial_39 {σ : Nat → Nat} {n0 : Nat} {bf : ab_B} {d : Nat} {p0 : Nat} {p1 : Option Nat} {S : zs_T} {Q : zs_Q} (hB : zt_B bf) (h : w_X5_initial_39 (zx σ n0 bf) d p0 p1 S Q) : zs_U (zx σ n0 bf) d 4104 39 [(0, .ref p0), (1, va_rf p1)] [] S Q := by
  unfold w_X5_initial_39 at h
  refine zu_aload_n d_4104_39 rfl (zs_rr _) ?_
  obtain ⟨b1, e2, h⟩ := h
  refine zs_stk0 (zs_rfe e2) ?_
  obtain ⟨k3, h⟩ := h
  refine zg_4_101 rfl d_4104_40 k3 ?_
  refine zu_aload_n d_4104_43 rfl (zs_ra _) ?_
  obtain ⟨k4, h⟩ := h
  refine zg_4_156 rfl d_4104_44 k4 ?_
  refine zu_acmpne (u := (zs_R S 7013 b1)) (w := (zs_R S 4005 p0)) (t := 54) d_4104_47 rfl rfl rfl (fun c5 => ?_) (fun c5 => ?_)
  · have h := h.1 c5
    refine zu_iconst d_4104_54 zi_0 ?_
    exact (u_X5_initial_55 hB h).weak ⟨rfl, rfl, trivial⟩
  · have h := h.2 c5
    refine zu_iconst d_4104_50 zi_1 ?_
    refine zu_goto (t := 55) d_4104_51 rfl ?_
    exact (u_X5_initial_55 hB h).weak ⟨rfl, rfl, trivial⟩
def w_X5_initial_125 (X : zs_X) (d : Nat) (p0 : Nat) (p1 : Option Nat) (S : zs_T) (Q : zs_Q) : Prop :=
  (zs_K S p0 = some (.inl 4) ∧ ∃ b2, (zs_R S 4010 p0) = some b2 ∧ zs_K S b2 = some (.inl 10) ∧ ∃ b5, p1 = some b5 ∧ zs_K S b5 = some (.inl 7) ∧ zs_C X d 4097 [.ref p0, .int (1 : Int32), .int (zs_I S 10001 b2), .int (((zs_J S 7003 b5)).toInt32)] S (zs_kV (fun S8 => (zs_K S8 p0 = some (.inl 4) ∧ ∃ b11, (zs_R S8 4010 p0) = some b11 ∧ zs_K S8 b11 = some (.inl 10) ∧ zs_K S8 b5 = some (.inl 7) ∧ ∃ b15, (zs_R S8 7002 b5) = some b15 ∧ zs_K S8 b15 = some (.inl 6) ∧ zs_C X d 4097 [.ref p0, .int (11 : Int32), .int (zs_I S8 10001 b11), .int (zs_I S8 6001 b15)] S8 (zs_kV (fun S18 => w_X5_initial_162 X d  S18 Q) Q))) Q))
theorem u_X5_initial_125 {σ : Nat → Nat} {n0 : Nat} {bf : ab_B} {d : Nat} {p0 : Nat} {p1 : Option Nat} {S : zs_T} {Q : zs_Q} (hB : zt_B bf) (h : w_X5_initial_125 (zx σ n0 bf) d p0 p1 S Q) : zs_U (zx σ n0 bf) d 4104 125 [(0, .ref p0), (1, va_rf p1)] [] S Q := by
  unfold w_X5_initial_125 at h
  refine zu_aload_n d_4104_125 rfl (zs_ra _) ?_
  refine zu_iconst d_4104_126 zi_1 ?_
  refine zu_aload_n d_4104_127 rfl (zs_ra _) ?_
  obtain ⟨k1, h⟩ := h
  refine zg_4_218 rfl d_4104_128 k1 ?_
  obtain ⟨b2, e3, h⟩ := h
  refine zs_stk0 (zs_rfe e3) ?_
  obtain ⟨k4, h⟩ := h
  refine zg_4_270 rfl d_4104_131 k4 ?_
  refine zu_aload_n d_4104_134 rfl (zs_rr _) ?_
  obtain ⟨b5, e6, h⟩ := h
  refine zs_stk0 (zs_rfe e6) ?_
  obtain ⟨k7, h⟩ := h
  refine zg_4_168 rfl d_4104_135 k7 ?_
  refine zu_stk d_4104_138 rfl rfl ?_
  refine zc_4_712 (x0 := (1 : Int32)) (x1 := (zs_I S 10001 b2)) (x2 := (((zs_J S 7003 b5)).toInt32)) hB rfl k1 d_4104_139 (Nat.le_of_ble_eq_true rfl) h (fun S8 h => ?_)
  refine zu_aload_n d_4104_142 rfl (zs_ra _) ?_
  refine zu_bipush d_4104_143 zj_11 ?_
  refine zu_aload_n d_4104_145 rfl (zs_ra _) ?_
  obtain ⟨k10, h⟩ := h
  refine zg_4_218 rfl d_4104_146 k10 ?_
  obtain ⟨b11, e12, h⟩ := h
  refine zs_stk0 (zs_rfe e12) ?_
  obtain ⟨k13, h⟩ := h
  refine zg_4_270 rfl d_4104_149 k13 ?_
  refine zu_aload_n d_4104_152 rfl (zs_rr _) ?_
  refine zs_stk0 (zs_rfe e6) ?_
  obtain ⟨k14, h⟩ := h
  refine zg_4_65 rfl d_4104_153 k14 ?_
  obtain ⟨b15, e16, h⟩ := h
  refine zs_stk0 (zs_rfe e16) ?_
  obtain ⟨k17, h⟩ := h
  refine zg_4_137 rfl d_4104_156 k17 ?_
  refine zc_4_712 (x0 := (11 : Int32)) (x1 := (zs_I S8 10001 b11)) (x2 := (zs_I S8 6001 b15)) hB rfl k10 d_4104_159 (Nat.le_of_ble_eq_true rfl) h (fun S18 h => ?_)
  exact (u_X5_initial_162 hB h).weak trivial
def w_X5_initial (X : zs_X) (d : Nat) (p0 : Nat) (p1 : Option Nat) (S : zs_T) (Q : zs_Q) : Prop :=
  (zs_K S p0 = some (.inl 4) ∧ ∃ b2, (zs_R S 4010 p0) = some b2 ∧ zs_K S b2 = some (.inl 10) ∧ ∃ b5, p1 = some b5 ∧ zs_K S b5 = some (.inl 7) ∧ zs_C X d 4016 [.ref p0, .int (2 : Int32), .int (zs_I S 10001 b2), va_rf (zs_R S 7002 b5)] S (zs_kR (fun v9 S8 => (∃ b10, v9 = some b10 ∧ zs_K S8 b10 = some (.inl 11) ∧ ab_n0 X.1 ≤ b10 ∧ ∀ S14, S14 = zs_sR S8 11009 b10 p1 → zs_K S8 p0 = some (.inl 4) ∧ zs_C X d 4098 [.ref p0, va_rf v9] S14 (zs_kV (fun S18 => (zs_K S18 b5 = some (.inl 7) ∧ ∃ b21, (zs_R S18 7002 b5) = some b21 ∧ zs_K S18 b21 = some (.inl 6) ∧ ((¬ (zs_I S18 6000 b21) = (6 : Int32) → w_X5_initial_125 X d p0 p1 S18 Q) ∧ (¬ (¬ (zs_I S18 6000 b21) = (6 : Int32)) → w_X5_initial_39 X d p0 p1 S18 Q)))) Q))) Q))
theorem u_X5_initial {σ : Nat → Nat} {n0 : Nat} {bf : ab_B} {d : Nat} {p0 : Nat} {p1 : Option Nat} {S : zs_T} {Q : zs_Q} (hB : zt_B bf) (hd : 1 ≤ d) (h : w_X5_initial (zx σ n0 bf) (d - 1) p0 p1 S Q) : zs_C (zx σ n0 bf) d 4104 [.ref p0, va_rf p1] S Q := by
  have hL : lv_args 0 [.ref p0, va_rf p1] = [(0, .ref p0), (1, va_rf p1)] := by simp [lv_args, zs_cat, zs_cI, zs_cJ, zs_cA]
  refine zs_C.of1 (hB.2 4104 (by decide) (by decide)) hd (by rw [hL]; exact zs_sub_self _ (by exact ⟨rfl, rfl, trivial⟩)) ?_
  rw [hL]
  clear hL
  unfold w_X5_initial at h
  refine zu_aload_n d_4104_0 rfl (zs_ra _) ?_
  refine zu_iconst d_4104_1 zi_2 ?_
  refine zu_aload_n d_4104_2 rfl (zs_ra _) ?_
  obtain ⟨k1, h⟩ := h
  refine zg_4_218 rfl d_4104_3 k1 ?_
  obtain ⟨b2, e3, h⟩ := h
  refine zs_stk0 (zs_rfe e3) ?_
  obtain ⟨k4, h⟩ := h
  refine zg_4_270 rfl d_4104_6 k4 ?_
  refine zu_aload_n d_4104_9 rfl (zs_rr _) ?_
  obtain ⟨b5, e6, h⟩ := h
  refine zs_stk0 (zs_rfe e6) ?_
  obtain ⟨k7, h⟩ := h
  refine zg_4_65 rfl d_4104_10 k7 ?_
  refine zc_4_572 (x0 := (2 : Int32)) (x1 := (zs_I S 10001 b2)) (x2 := (zs_R S 7002 b5)) hB rfl k1 d_4104_13 (Nat.le_of_ble_eq_true rfl) h (fun v9 S8 h => ?_)
  refine zu_astore_n d_4104_16 (zs_rr _) (zs_lt zq_4104 rfl) ?_
  refine zs_U.weak (L1 := [(2, va_rf v9), (0, .ref p0), (1, va_rf p1)]) ?_ ⟨rfl, zs_gp1 rfl (Or.inl rfl) rfl, zs_gp1 rfl (Or.inl (zs_cat _)) rfl, trivial⟩
  refine zu_aload_n d_4104_17 rfl (zs_rr _) ?_
  refine zu_aload_n d_4104_18 rfl (zs_rr _) ?_
  obtain ⟨b10, e11, h⟩ := h
  refine zs_stk1 (zs_rfe e11) ?_
  obtain ⟨k12, h⟩ := h
  obtain ⟨k13, h⟩ := h
  refine zp_4_664 (v := p1) rfl d_4104_19 k12 k13 ?_
  generalize e15 : zs_sR S8 11009 b10 p1 = S14
  have h := h S14 e15.symm
  have K16 : ∀ b, zs_K S14 b = zs_K S8 b := zs_Kt e15 (zs_KsR _ _ _ _) (fun _ => rfl)
  refine zu_aload_n d_4104_22 rfl (zs_ra _) ?_
  refine zu_aload_n d_4104_23 rfl (zs_rr _) ?_
  obtain ⟨k17, h⟩ := h
  refine zc_4_715 (x0 := v9) hB rfl ((K16 _).trans k17) d_4104_24 (Nat.le_of_ble_eq_true rfl) h (fun S18 h => ?_)
  refine zu_aload_n d_4104_27 rfl (zs_rr _) ?_
  refine zs_stk0 (zs_rfe e6) ?_
  obtain ⟨k20, h⟩ := h
  refine zg_4_65 rfl d_4104_28 k20 ?_
  obtain ⟨b21, e22, h⟩ := h
  refine zs_stk0 (zs_rfe e22) ?_
  obtain ⟨k23, h⟩ := h
  refine zg_4_369 rfl d_4104_31 k23 ?_
  refine zu_bipush d_4104_34 zj_6 ?_
  refine zu_cmpne (t := 125) d_4104_36 rfl (fun c24 => ?_) (fun c24 => ?_)
  · have h := h.1 c24
    exact (u_X5_initial_125 hB h).weak ⟨rfl, rfl, trivial⟩
  · have h := h.2 c24
    exact (u_X5_initial_39 hB h).weak ⟨rfl, rfl, trivial⟩
/-! SchemaPascal$Reader.statements(I)V -/
theorem zm_4105 {σ : Nat → Nat} {n0 : Nat} {bf : ab_B} : ab_code (zx σ n0 bf).1 4105 = prog_9_method_97_code := rfl
theorem zq_4105 {σ : Nat → Nat} {n0 : Nat} {bf : ab_B} : ab_maxL (zx σ n0 bf).1 4105 = 2 := rfl
theorem zr_4105 {σ : Nat → Nat} {n0 : Nat} {bf : ab_B} : ab_ret (zx σ n0 bf).1 4105 = (Option.none : Option Jvm.ClassFile.FieldType) := rfl
theorem d_4105_0 {σ : Nat → Nat} {n0 : Nat} {bf : ab_B} : decode (ab_code (zx σ n0 bf).1 4105) 0 = .ok (.aload_n 0, 1) := zd zm_4105 (by decide +kernel)
theorem d_4105_1 {σ : Nat → Nat} {n0 : Nat} {bf : ab_B} : decode (ab_code (zx σ n0 bf).1 4105) 1 = .ok (.invokevirtual 744, 3) := zd zm_4105 (by decide +kernel)
theorem d_4105_4 {σ : Nat → Nat} {n0 : Nat} {bf : ab_B} : decode (ab_code (zx σ n0 bf).1 4105) 4 = .ok (.aload_n 0, 1) := zd zm_4105 (by decide +kernel)
theorem d_4105_5 {σ : Nat → Nat} {n0 : Nat} {bf : ab_B} : decode (ab_code (zx σ n0 bf).1 4105) 5 = .ok (.getfield 5, 3) := zd zm_4105 (by decide +kernel)
theorem d_4105_8 {σ : Nat → Nat} {n0 : Nat} {bf : ab_B} : decode (ab_code (zx σ n0 bf).1 4105) 8 = .ok (.bipush 59, 2) := zd zm_4105 (by decide +kernel)
theorem d_4105_10 {σ : Nat → Nat} {n0 : Nat} {bf : ab_B} : decode (ab_code (zx σ n0 bf).1 4105) 10 = .ok (.invokevirtual 21, 3) := zd zm_4105 (by decide +kernel)
theorem d_4105_13 {σ : Nat → Nat} {n0 : Nat} {bf : ab_B} : decode (ab_code (zx σ n0 bf).1 4105) 13 = .ok (.ifCond .eq 17, 3) := zd zm_4105 (by decide +kernel)
theorem d_4105_16 {σ : Nat → Nat} {n0 : Nat} {bf : ab_B} : decode (ab_code (zx σ n0 bf).1 4105) 16 = .ok (.aload_n 0, 1) := zd zm_4105 (by decide +kernel)
theorem d_4105_17 {σ : Nat → Nat} {n0 : Nat} {bf : ab_B} : decode (ab_code (zx σ n0 bf).1 4105) 17 = .ok (.getfield 5, 3) := zd zm_4105 (by decide +kernel)
theorem d_4105_20 {σ : Nat → Nat} {n0 : Nat} {bf : ab_B} : decode (ab_code (zx σ n0 bf).1 4105) 20 = .ok (.invokevirtual 29, 3) := zd zm_4105 (by decide +kernel)
theorem d_4105_23 {σ : Nat → Nat} {n0 : Nat} {bf : ab_B} : decode (ab_code (zx σ n0 bf).1 4105) 23 = .ok (.aload_n 0, 1) := zd zm_4105 (by decide +kernel)
theorem d_4105_24 {σ : Nat → Nat} {n0 : Nat} {bf : ab_B} : decode (ab_code (zx σ n0 bf).1 4105) 24 = .ok (.invokevirtual 744, 3) := zd zm_4105 (by decide +kernel)
theorem d_4105_27 {σ : Nat → Nat} {n0 : Nat} {bf : ab_B} : decode (ab_code (zx σ n0 bf).1 4105) 27 = .ok (.goto (-23), 3) := zd zm_4105 (by decide +kernel)
theorem d_4105_30 {σ : Nat → Nat} {n0 : Nat} {bf : ab_B} : decode (ab_code (zx σ n0 bf).1 4105) 30 = .ok (.aload_n 0, 1) := zd zm_4105 (by decide +kernel)
theorem d_4105_31 {σ : Nat → Nat} {n0 : Nat} {bf : ab_B} : decode (ab_code (zx σ n0 bf).1 4105) 31 = .ok (.getfield 5, 3) := zd zm_4105 (by decide +kernel)
theorem d_4105_34 {σ : Nat → Nat} {n0 : Nat} {bf : ab_B} : decode (ab_code (zx σ n0 bf).1 4105) 34 = .ok (.iload_n 1, 1) := zd zm_4105 (by decide +kernel)
theorem d_4105_35 {σ : Nat → Nat} {n0 : Nat} {bf : ab_B} : decode (ab_code (zx σ n0 bf).1 4105) 35 = .ok (.invokevirtual 33, 3) := zd zm_4105 (by decide +kernel)
theorem d_4105_38 {σ : Nat → Nat} {n0 : Nat} {bf : ab_B} : decode (ab_code (zx σ n0 bf).1 4105) 38 = .ok (.ifCond .ne 9, 3) := zd zm_4105 (by decide +kernel)
theorem d_4105_41 {σ : Nat → Nat} {n0 : Nat} {bf : ab_B} : decode (ab_code (zx σ n0 bf).1 4105) 41 = .ok (.aload_n 0, 1) := zd zm_4105 (by decide +kernel)
theorem d_4105_42 {σ : Nat → Nat} {n0 : Nat} {bf : ab_B} : decode (ab_code (zx σ n0 bf).1 4105) 42 = .ok (.iconst 2, 1) := zd zm_4105 (by decide +kernel)
theorem d_4105_43 {σ : Nat → Nat} {n0 : Nat} {bf : ab_B} : decode (ab_code (zx σ n0 bf).1 4105) 43 = .ok (.invokevirtual 25, 3) := zd zm_4105 (by decide +kernel)
theorem d_4105_46 {σ : Nat → Nat} {n0 : Nat} {bf : ab_B} : decode (ab_code (zx σ n0 bf).1 4105) 46 = .ok (.athrow, 1) := zd zm_4105 (by decide +kernel)
theorem d_4105_47 {σ : Nat → Nat} {n0 : Nat} {bf : ab_B} : decode (ab_code (zx σ n0 bf).1 4105) 47 = .ok (.return_, 1) := zd zm_4105 (by decide +kernel)
def w_X5_statements_4 (X : zs_X) (d : Nat) (p0 : Nat) (p1 : Int32) (S : zs_T) (Q : zs_Q) : Prop :=
  (zs_K S p0 = some (.inl 4) ∧ ∃ b2, (zs_R S 4000 p0) = some b2 ∧ zs_K S b2 = some (.inl 5) ∧ zs_C X d 5017 [.ref b2, .int (59 : Int32)] S (zs_kI (fun v6 S5 => (((v6 = 0 → (zs_K S5 p0 = some (.inl 4) ∧ ∃ b9, (zs_R S5 4000 p0) = some b9 ∧ zs_K S5 b9 = some (.inl 5) ∧ zs_C X d 5015 [.ref b9, .int p1] S5 (zs_kI (fun v13 S12 => (((¬ v13 = 0 → (Q (.returned none) S12)) ∧ (¬ (¬ v13 = 0) → (zs_K S12 p0 = some (.inl 4) ∧ zs_C X d 4006 [.ref p0, .int (2 : Int32)] S12 (zs_kR (fun v17 S16 => (∃ b18, v17 = some b18 ∧ Q (.threw b18) S16)) Q)))))) Q))) ∧ (¬ (v6 = 0) → (zs_K S5 p0 = some (.inl 4) ∧ ∃ b21, (zs_R S5 4000 p0) = some b21 ∧ zs_K S5 b21 = some (.inl 5) ∧ zs_C X d 5004 [.ref b21] S5 (zs_kV (fun S24 => (zs_K S24 p0 = some (.inl 4) ∧ zs_C X d 4106 [.ref p0] S24 (zs_kV (fun S27 => (zs_U X d 4105 4 [(0, .ref p0), (1, .int p1)] [] S27 Q)) Q))) Q)))))) Q))
theorem u_X5_statements_4 {σ : Nat → Nat} {n0 : Nat} {bf : ab_B} {d : Nat} {p0 : Nat} {p1 : Int32} {S : zs_T} {Q : zs_Q} (hB : zt_B bf) (h : w_X5_statements_4 (zx σ n0 bf) d p0 p1 S Q) : zs_U (zx σ n0 bf) d 4105 4 [(0, .ref p0), (1, .int p1)] [] S Q := by
  unfold w_X5_statements_4 at h
  refine zu_aload_n d_4105_4 rfl (zs_ra _) ?_
  obtain ⟨k1, h⟩ := h
  refine zg_4_5 rfl d_4105_5 k1 ?_
  refine zu_bipush d_4105_8 zj_59 ?_
  obtain ⟨b2, e3, h⟩ := h
  refine zs_stk1 (zs_rfe e3) ?_
  obtain ⟨k4, h⟩ := h
  refine zc_4_21 (x0 := (59 : Int32)) hB rfl k4 d_4105_10 (Nat.le_of_ble_eq_true rfl) h (fun v6 S5 h => ?_)
  refine zu_ifeq (t := 30) d_4105_13 rfl (fun c7 => ?_) (fun c7 => ?_)
  · have h := h.1 c7
    refine zu_aload_n d_4105_30 rfl (zs_ra _) ?_
    obtain ⟨k8, h⟩ := h
    refine zg_4_5 rfl d_4105_31 k8 ?_
    refine zu_iload_n d_4105_34 rfl ?_
    obtain ⟨b9, e10, h⟩ := h
    refine zs_stk1 (zs_rfe e10) ?_
    obtain ⟨k11, h⟩ := h
    refine zc_4_33 (x0 := p1) hB rfl k11 d_4105_35 (Nat.le_of_ble_eq_true rfl) h (fun v13 S12 h => ?_)
    refine zu_ifne (t := 47) d_4105_38 rfl (fun c14 => ?_) (fun c14 => ?_)
    · have h := h.1 c14
      exact zu_vret d_4105_47 zr_4105 h
    · have h := h.2 c14
      refine zu_aload_n d_4105_41 rfl (zs_ra _) ?_
      refine zu_iconst d_4105_42 zi_2 ?_
      obtain ⟨k15, h⟩ := h
      refine zc_4_25 (x0 := (2 : Int32)) hB rfl k15 d_4105_43 (Nat.le_of_ble_eq_true rfl) h (fun v17 S16 h => ?_)
      obtain ⟨b18, e19, h⟩ := h
      refine zs_stk0 (zs_rfe e19) ?_
      exact zu_throw d_4105_46 h
  · have h := h.2 c7
    refine zu_aload_n d_4105_16 rfl (zs_ra _) ?_
    obtain ⟨k20, h⟩ := h
    refine zg_4_5 rfl d_4105_17 k20 ?_
    obtain ⟨b21, e22, h⟩ := h
    refine zs_stk0 (zs_rfe e22) ?_
    obtain ⟨k23, h⟩ := h
    refine zc_4_29  hB rfl k23 d_4105_20 (Nat.le_of_ble_eq_true rfl) h (fun S24 h => ?_)
    refine zu_aload_n d_4105_23 rfl (zs_ra _) ?_
    obtain ⟨k26, h⟩ := h
    refine zc_4_744  hB rfl k26 d_4105_24 (Nat.le_of_ble_eq_true rfl) h (fun S27 h => ?_)
    refine zu_goto (t := 4) d_4105_27 rfl ?_
    exact h.weak ⟨rfl, rfl, trivial⟩
def w_X5_statements (X : zs_X) (d : Nat) (p0 : Nat) (p1 : Int32) (S : zs_T) (Q : zs_Q) : Prop :=
  (zs_K S p0 = some (.inl 4) ∧ zs_C X d 4106 [.ref p0] S (zs_kV (fun S2 => zs_U X d 4105 4 [(0, .ref p0), (1, .int p1)] [] S2 Q) Q))
theorem u_X5_statements {σ : Nat → Nat} {n0 : Nat} {bf : ab_B} {d : Nat} {p0 : Nat} {p1 : Int32} {S : zs_T} {Q : zs_Q} (hB : zt_B bf) (hd : 1 ≤ d) (h : w_X5_statements (zx σ n0 bf) (d - 1) p0 p1 S Q) : zs_C (zx σ n0 bf) d 4105 [.ref p0, .int p1] S Q := by
  have hL : lv_args 0 [.ref p0, .int p1] = [(0, .ref p0), (1, .int p1)] := rfl
  refine zs_C.of1 (hB.2 4105 (by decide) (by decide)) hd (by rw [hL]; exact zs_sub_self _ (by exact ⟨rfl, rfl, trivial⟩)) ?_
  rw [hL]
  clear hL
  unfold w_X5_statements at h
  refine zu_aload_n d_4105_0 rfl (zs_ra _) ?_
  obtain ⟨k1, h⟩ := h
  refine zc_4_744  hB rfl k1 d_4105_1 (Nat.le_of_ble_eq_true rfl) h (fun S2 h => ?_)
  exact h.weak ⟨rfl, rfl, trivial⟩
/-! SchemaPascal$Reader.statement()V -/
theorem zm_4106 {σ : Nat → Nat} {n0 : Nat} {bf : ab_B} : ab_code (zx σ n0 bf).1 4106 = prog_9_method_98_code := rfl
theorem zq_4106 {σ : Nat → Nat} {n0 : Nat} {bf : ab_B} : ab_maxL (zx σ n0 bf).1 4106 = 1 := rfl
theorem zr_4106 {σ : Nat → Nat} {n0 : Nat} {bf : ab_B} : ab_ret (zx σ n0 bf).1 4106 = (Option.none : Option Jvm.ClassFile.FieldType) := rfl
theorem d_4106_0 {σ : Nat → Nat} {n0 : Nat} {bf : ab_B} : decode (ab_code (zx σ n0 bf).1 4106) 0 = .ok (.aload_n 0, 1) := zd zm_4106 (by decide +kernel)
theorem d_4106_1 {σ : Nat → Nat} {n0 : Nat} {bf : ab_B} : decode (ab_code (zx σ n0 bf).1 4106) 1 = .ok (.invokevirtual 357, 3) := zd zm_4106 (by decide +kernel)
theorem d_4106_4 {σ : Nat → Nat} {n0 : Nat} {bf : ab_B} : decode (ab_code (zx σ n0 bf).1 4106) 4 = .ok (.aload_n 0, 1) := zd zm_4106 (by decide +kernel)
theorem d_4106_5 {σ : Nat → Nat} {n0 : Nat} {bf : ab_B} : decode (ab_code (zx σ n0 bf).1 4106) 5 = .ok (.getfield 5, 3) := zd zm_4106 (by decide +kernel)
theorem d_4106_8 {σ : Nat → Nat} {n0 : Nat} {bf : ab_B} : decode (ab_code (zx σ n0 bf).1 4106) 8 = .ok (.bipush 7, 2) := zd zm_4106 (by decide +kernel)
theorem d_4106_10 {σ : Nat → Nat} {n0 : Nat} {bf : ab_B} : decode (ab_code (zx σ n0 bf).1 4106) 10 = .ok (.invokevirtual 33, 3) := zd zm_4106 (by decide +kernel)
theorem d_4106_13 {σ : Nat → Nat} {n0 : Nat} {bf : ab_B} : decode (ab_code (zx σ n0 bf).1 4106) 13 = .ok (.ifCond .eq 26, 3) := zd zm_4106 (by decide +kernel)
theorem d_4106_16 {σ : Nat → Nat} {n0 : Nat} {bf : ab_B} : decode (ab_code (zx σ n0 bf).1 4106) 16 = .ok (.aload_n 0, 1) := zd zm_4106 (by decide +kernel)
theorem d_4106_17 {σ : Nat → Nat} {n0 : Nat} {bf : ab_B} : decode (ab_code (zx σ n0 bf).1 4106) 17 = .ok (.getfield 5, 3) := zd zm_4106 (by decide +kernel)
theorem d_4106_20 {σ : Nat → Nat} {n0 : Nat} {bf : ab_B} : decode (ab_code (zx σ n0 bf).1 4106) 20 = .ok (.invokevirtual 29, 3) := zd zm_4106 (by decide +kernel)
theorem d_4106_23 {σ : Nat → Nat} {n0 : Nat} {bf : ab_B} : decode (ab_code (zx σ n0 bf).1 4106) 23 = .ok (.aload_n 0, 1) := zd zm_4106 (by decide +kernel)
theorem d_4106_24 {σ : Nat → Nat} {n0 : Nat} {bf : ab_B} : decode (ab_code (zx σ n0 bf).1 4106) 24 = .ok (.bipush 8, 2) := zd zm_4106 (by decide +kernel)
theorem d_4106_26 {σ : Nat → Nat} {n0 : Nat} {bf : ab_B} : decode (ab_code (zx σ n0 bf).1 4106) 26 = .ok (.invokevirtual 287, 3) := zd zm_4106 (by decide +kernel)
theorem d_4106_29 {σ : Nat → Nat} {n0 : Nat} {bf : ab_B} : decode (ab_code (zx σ n0 bf).1 4106) 29 = .ok (.aload_n 0, 1) := zd zm_4106 (by decide +kernel)
theorem d_4106_30 {σ : Nat → Nat} {n0 : Nat} {bf : ab_B} : decode (ab_code (zx σ n0 bf).1 4106) 30 = .ok (.getfield 5, 3) := zd zm_4106 (by decide +kernel)
theorem d_4106_33 {σ : Nat → Nat} {n0 : Nat} {bf : ab_B} : decode (ab_code (zx σ n0 bf).1 4106) 33 = .ok (.invokevirtual 29, 3) := zd zm_4106 (by decide +kernel)
theorem d_4106_36 {σ : Nat → Nat} {n0 : Nat} {bf : ab_B} : decode (ab_code (zx σ n0 bf).1 4106) 36 = .ok (.goto 131, 3) := zd zm_4106 (by decide +kernel)
theorem d_4106_39 {σ : Nat → Nat} {n0 : Nat} {bf : ab_B} : decode (ab_code (zx σ n0 bf).1 4106) 39 = .ok (.aload_n 0, 1) := zd zm_4106 (by decide +kernel)
theorem d_4106_40 {σ : Nat → Nat} {n0 : Nat} {bf : ab_B} : decode (ab_code (zx σ n0 bf).1 4106) 40 = .ok (.getfield 5, 3) := zd zm_4106 (by decide +kernel)
theorem d_4106_43 {σ : Nat → Nat} {n0 : Nat} {bf : ab_B} : decode (ab_code (zx σ n0 bf).1 4106) 43 = .ok (.bipush 9, 2) := zd zm_4106 (by decide +kernel)
theorem d_4106_45 {σ : Nat → Nat} {n0 : Nat} {bf : ab_B} : decode (ab_code (zx σ n0 bf).1 4106) 45 = .ok (.invokevirtual 33, 3) := zd zm_4106 (by decide +kernel)
theorem d_4106_48 {σ : Nat → Nat} {n0 : Nat} {bf : ab_B} : decode (ab_code (zx σ n0 bf).1 4106) 48 = .ok (.ifCond .eq 10, 3) := zd zm_4106 (by decide +kernel)
theorem d_4106_51 {σ : Nat → Nat} {n0 : Nat} {bf : ab_B} : decode (ab_code (zx σ n0 bf).1 4106) 51 = .ok (.aload_n 0, 1) := zd zm_4106 (by decide +kernel)
theorem d_4106_52 {σ : Nat → Nat} {n0 : Nat} {bf : ab_B} : decode (ab_code (zx σ n0 bf).1 4106) 52 = .ok (.invokevirtual 747, 3) := zd zm_4106 (by decide +kernel)
theorem d_4106_55 {σ : Nat → Nat} {n0 : Nat} {bf : ab_B} : decode (ab_code (zx σ n0 bf).1 4106) 55 = .ok (.goto 112, 3) := zd zm_4106 (by decide +kernel)
theorem d_4106_58 {σ : Nat → Nat} {n0 : Nat} {bf : ab_B} : decode (ab_code (zx σ n0 bf).1 4106) 58 = .ok (.aload_n 0, 1) := zd zm_4106 (by decide +kernel)
theorem d_4106_59 {σ : Nat → Nat} {n0 : Nat} {bf : ab_B} : decode (ab_code (zx σ n0 bf).1 4106) 59 = .ok (.getfield 5, 3) := zd zm_4106 (by decide +kernel)
theorem d_4106_62 {σ : Nat → Nat} {n0 : Nat} {bf : ab_B} : decode (ab_code (zx σ n0 bf).1 4106) 62 = .ok (.bipush 12, 2) := zd zm_4106 (by decide +kernel)
theorem d_4106_64 {σ : Nat → Nat} {n0 : Nat} {bf : ab_B} : decode (ab_code (zx σ n0 bf).1 4106) 64 = .ok (.invokevirtual 33, 3) := zd zm_4106 (by decide +kernel)
theorem d_4106_67 {σ : Nat → Nat} {n0 : Nat} {bf : ab_B} : decode (ab_code (zx σ n0 bf).1 4106) 67 = .ok (.ifCond .eq 10, 3) := zd zm_4106 (by decide +kernel)
theorem d_4106_70 {σ : Nat → Nat} {n0 : Nat} {bf : ab_B} : decode (ab_code (zx σ n0 bf).1 4106) 70 = .ok (.aload_n 0, 1) := zd zm_4106 (by decide +kernel)
theorem d_4106_71 {σ : Nat → Nat} {n0 : Nat} {bf : ab_B} : decode (ab_code (zx σ n0 bf).1 4106) 71 = .ok (.invokevirtual 750, 3) := zd zm_4106 (by decide +kernel)
theorem d_4106_74 {σ : Nat → Nat} {n0 : Nat} {bf : ab_B} : decode (ab_code (zx σ n0 bf).1 4106) 74 = .ok (.goto 93, 3) := zd zm_4106 (by decide +kernel)
theorem d_4106_77 {σ : Nat → Nat} {n0 : Nat} {bf : ab_B} : decode (ab_code (zx σ n0 bf).1 4106) 77 = .ok (.aload_n 0, 1) := zd zm_4106 (by decide +kernel)
theorem d_4106_78 {σ : Nat → Nat} {n0 : Nat} {bf : ab_B} : decode (ab_code (zx σ n0 bf).1 4106) 78 = .ok (.getfield 5, 3) := zd zm_4106 (by decide +kernel)
theorem d_4106_81 {σ : Nat → Nat} {n0 : Nat} {bf : ab_B} : decode (ab_code (zx σ n0 bf).1 4106) 81 = .ok (.bipush 14, 2) := zd zm_4106 (by decide +kernel)
theorem d_4106_83 {σ : Nat → Nat} {n0 : Nat} {bf : ab_B} : decode (ab_code (zx σ n0 bf).1 4106) 83 = .ok (.invokevirtual 33, 3) := zd zm_4106 (by decide +kernel)
theorem d_4106_86 {σ : Nat → Nat} {n0 : Nat} {bf : ab_B} : decode (ab_code (zx σ n0 bf).1 4106) 86 = .ok (.ifCond .eq 10, 3) := zd zm_4106 (by decide +kernel)
theorem d_4106_89 {σ : Nat → Nat} {n0 : Nat} {bf : ab_B} : decode (ab_code (zx σ n0 bf).1 4106) 89 = .ok (.aload_n 0, 1) := zd zm_4106 (by decide +kernel)
theorem d_4106_90 {σ : Nat → Nat} {n0 : Nat} {bf : ab_B} : decode (ab_code (zx σ n0 bf).1 4106) 90 = .ok (.invokevirtual 753, 3) := zd zm_4106 (by decide +kernel)
theorem d_4106_93 {σ : Nat → Nat} {n0 : Nat} {bf : ab_B} : decode (ab_code (zx σ n0 bf).1 4106) 93 = .ok (.goto 74, 3) := zd zm_4106 (by decide +kernel)
theorem d_4106_96 {σ : Nat → Nat} {n0 : Nat} {bf : ab_B} : decode (ab_code (zx σ n0 bf).1 4106) 96 = .ok (.aload_n 0, 1) := zd zm_4106 (by decide +kernel)
theorem d_4106_97 {σ : Nat → Nat} {n0 : Nat} {bf : ab_B} : decode (ab_code (zx σ n0 bf).1 4106) 97 = .ok (.getfield 5, 3) := zd zm_4106 (by decide +kernel)
theorem d_4106_100 {σ : Nat → Nat} {n0 : Nat} {bf : ab_B} : decode (ab_code (zx σ n0 bf).1 4106) 100 = .ok (.bipush 16, 2) := zd zm_4106 (by decide +kernel)
theorem d_4106_102 {σ : Nat → Nat} {n0 : Nat} {bf : ab_B} : decode (ab_code (zx σ n0 bf).1 4106) 102 = .ok (.invokevirtual 33, 3) := zd zm_4106 (by decide +kernel)
theorem d_4106_105 {σ : Nat → Nat} {n0 : Nat} {bf : ab_B} : decode (ab_code (zx σ n0 bf).1 4106) 105 = .ok (.ifCond .eq 10, 3) := zd zm_4106 (by decide +kernel)
theorem d_4106_108 {σ : Nat → Nat} {n0 : Nat} {bf : ab_B} : decode (ab_code (zx σ n0 bf).1 4106) 108 = .ok (.aload_n 0, 1) := zd zm_4106 (by decide +kernel)
theorem d_4106_109 {σ : Nat → Nat} {n0 : Nat} {bf : ab_B} : decode (ab_code (zx σ n0 bf).1 4106) 109 = .ok (.invokevirtual 756, 3) := zd zm_4106 (by decide +kernel)
theorem d_4106_112 {σ : Nat → Nat} {n0 : Nat} {bf : ab_B} : decode (ab_code (zx σ n0 bf).1 4106) 112 = .ok (.goto 55, 3) := zd zm_4106 (by decide +kernel)
theorem d_4106_115 {σ : Nat → Nat} {n0 : Nat} {bf : ab_B} : decode (ab_code (zx σ n0 bf).1 4106) 115 = .ok (.aload_n 0, 1) := zd zm_4106 (by decide +kernel)
theorem d_4106_116 {σ : Nat → Nat} {n0 : Nat} {bf : ab_B} : decode (ab_code (zx σ n0 bf).1 4106) 116 = .ok (.getfield 5, 3) := zd zm_4106 (by decide +kernel)
theorem d_4106_119 {σ : Nat → Nat} {n0 : Nat} {bf : ab_B} : decode (ab_code (zx σ n0 bf).1 4106) 119 = .ok (.bipush 19, 2) := zd zm_4106 (by decide +kernel)
theorem d_4106_121 {σ : Nat → Nat} {n0 : Nat} {bf : ab_B} : decode (ab_code (zx σ n0 bf).1 4106) 121 = .ok (.invokevirtual 33, 3) := zd zm_4106 (by decide +kernel)
theorem d_4106_124 {σ : Nat → Nat} {n0 : Nat} {bf : ab_B} : decode (ab_code (zx σ n0 bf).1 4106) 124 = .ok (.ifCond .eq 10, 3) := zd zm_4106 (by decide +kernel)
theorem d_4106_127 {σ : Nat → Nat} {n0 : Nat} {bf : ab_B} : decode (ab_code (zx σ n0 bf).1 4106) 127 = .ok (.aload_n 0, 1) := zd zm_4106 (by decide +kernel)
theorem d_4106_128 {σ : Nat → Nat} {n0 : Nat} {bf : ab_B} : decode (ab_code (zx σ n0 bf).1 4106) 128 = .ok (.invokevirtual 759, 3) := zd zm_4106 (by decide +kernel)
theorem d_4106_131 {σ : Nat → Nat} {n0 : Nat} {bf : ab_B} : decode (ab_code (zx σ n0 bf).1 4106) 131 = .ok (.goto 36, 3) := zd zm_4106 (by decide +kernel)
theorem d_4106_134 {σ : Nat → Nat} {n0 : Nat} {bf : ab_B} : decode (ab_code (zx σ n0 bf).1 4106) 134 = .ok (.aload_n 0, 1) := zd zm_4106 (by decide +kernel)
theorem d_4106_135 {σ : Nat → Nat} {n0 : Nat} {bf : ab_B} : decode (ab_code (zx σ n0 bf).1 4106) 135 = .ok (.getfield 5, 3) := zd zm_4106 (by decide +kernel)
theorem d_4106_138 {σ : Nat → Nat} {n0 : Nat} {bf : ab_B} : decode (ab_code (zx σ n0 bf).1 4106) 138 = .ok (.bipush 22, 2) := zd zm_4106 (by decide +kernel)
theorem d_4106_140 {σ : Nat → Nat} {n0 : Nat} {bf : ab_B} : decode (ab_code (zx σ n0 bf).1 4106) 140 = .ok (.invokevirtual 33, 3) := zd zm_4106 (by decide +kernel)
theorem d_4106_143 {σ : Nat → Nat} {n0 : Nat} {bf : ab_B} : decode (ab_code (zx σ n0 bf).1 4106) 143 = .ok (.ifCond .eq 10, 3) := zd zm_4106 (by decide +kernel)
theorem d_4106_146 {σ : Nat → Nat} {n0 : Nat} {bf : ab_B} : decode (ab_code (zx σ n0 bf).1 4106) 146 = .ok (.aload_n 0, 1) := zd zm_4106 (by decide +kernel)
theorem d_4106_147 {σ : Nat → Nat} {n0 : Nat} {bf : ab_B} : decode (ab_code (zx σ n0 bf).1 4106) 147 = .ok (.invokevirtual 762, 3) := zd zm_4106 (by decide +kernel)
theorem d_4106_150 {σ : Nat → Nat} {n0 : Nat} {bf : ab_B} : decode (ab_code (zx σ n0 bf).1 4106) 150 = .ok (.goto 17, 3) := zd zm_4106 (by decide +kernel)
theorem d_4106_153 {σ : Nat → Nat} {n0 : Nat} {bf : ab_B} : decode (ab_code (zx σ n0 bf).1 4106) 153 = .ok (.aload_n 0, 1) := zd zm_4106 (by decide +kernel)
theorem d_4106_154 {σ : Nat → Nat} {n0 : Nat} {bf : ab_B} : decode (ab_code (zx σ n0 bf).1 4106) 154 = .ok (.getfield 5, 3) := zd zm_4106 (by decide +kernel)
theorem d_4106_157 {σ : Nat → Nat} {n0 : Nat} {bf : ab_B} : decode (ab_code (zx σ n0 bf).1 4106) 157 = .ok (.invokevirtual 36, 3) := zd zm_4106 (by decide +kernel)
theorem d_4106_160 {σ : Nat → Nat} {n0 : Nat} {bf : ab_B} : decode (ab_code (zx σ n0 bf).1 4106) 160 = .ok (.ifCond .eq 7, 3) := zd zm_4106 (by decide +kernel)
theorem d_4106_163 {σ : Nat → Nat} {n0 : Nat} {bf : ab_B} : decode (ab_code (zx σ n0 bf).1 4106) 163 = .ok (.aload_n 0, 1) := zd zm_4106 (by decide +kernel)
theorem d_4106_164 {σ : Nat → Nat} {n0 : Nat} {bf : ab_B} : decode (ab_code (zx σ n0 bf).1 4106) 164 = .ok (.invokevirtual 765, 3) := zd zm_4106 (by decide +kernel)
theorem d_4106_167 {σ : Nat → Nat} {n0 : Nat} {bf : ab_B} : decode (ab_code (zx σ n0 bf).1 4106) 167 = .ok (.aload_n 0, 1) := zd zm_4106 (by decide +kernel)
theorem d_4106_168 {σ : Nat → Nat} {n0 : Nat} {bf : ab_B} : decode (ab_code (zx σ n0 bf).1 4106) 168 = .ok (.dup, 1) := zd zm_4106 (by decide +kernel)
theorem d_4106_169 {σ : Nat → Nat} {n0 : Nat} {bf : ab_B} : decode (ab_code (zx σ n0 bf).1 4106) 169 = .ok (.getfield 43, 3) := zd zm_4106 (by decide +kernel)
theorem d_4106_172 {σ : Nat → Nat} {n0 : Nat} {bf : ab_B} : decode (ab_code (zx σ n0 bf).1 4106) 172 = .ok (.iconst 1, 1) := zd zm_4106 (by decide +kernel)
theorem d_4106_173 {σ : Nat → Nat} {n0 : Nat} {bf : ab_B} : decode (ab_code (zx σ n0 bf).1 4106) 173 = .ok (.isub, 1) := zd zm_4106 (by decide +kernel)
theorem d_4106_174 {σ : Nat → Nat} {n0 : Nat} {bf : ab_B} : decode (ab_code (zx σ n0 bf).1 4106) 174 = .ok (.putfield 43, 3) := zd zm_4106 (by decide +kernel)
theorem d_4106_177 {σ : Nat → Nat} {n0 : Nat} {bf : ab_B} : decode (ab_code (zx σ n0 bf).1 4106) 177 = .ok (.return_, 1) := zd zm_4106 (by decide +kernel)
def w_X5_statement_167 (X : zs_X) (d : Nat) (p0 : Nat) (S : zs_T) (Q : zs_Q) : Prop :=
  (zs_K S p0 = some (.inl 4) ∧ ab_n0 X.1 ≤ p0 ∧ ∀ S3, S3 = zs_sI S 4011 p0 ((zs_I S 4011 p0) - (1 : Int32)) → Q (.returned none) S3)
theorem u_X5_statement_167 {σ : Nat → Nat} {n0 : Nat} {bf : ab_B} {d : Nat} {p0 : Nat} {S : zs_T} {Q : zs_Q} (hB : zt_B bf) (h : w_X5_statement_167 (zx σ n0 bf) d p0 S Q) : zs_U (zx σ n0 bf) d 4106 167 [(0, .ref p0)] [] S Q := by
  unfold w_X5_statement_167 at h
  refine zu_aload_n d_4106_167 rfl (zs_ra _) ?_
  refine zu_dup d_4106_168 rfl ?_
  obtain ⟨k1, h⟩ := h
  refine zg_4_43 rfl d_4106_169 k1 ?_
  refine zu_iconst d_4106_172 zi_1 ?_
  refine zu_stk d_4106_173 rfl rfl ?_
  obtain ⟨k2, h⟩ := h
  refine zp_4_43 (v := ((zs_I S 4011 p0) - (1 : Int32))) rfl d_4106_174 k1 k2 ?_
  generalize e4 : zs_sI S 4011 p0 ((zs_I S 4011 p0) - (1 : Int32)) = S3
  have h := h S3 e4.symm
  have K5 : ∀ b, zs_K S3 b = zs_K S b := zs_Kt e4 (zs_KsI _ _ _ _) (fun _ => rfl)
  exact zu_vret d_4106_177 zr_4106 h
def w_X5_statement_36 (X : zs_X) (d : Nat) (p0 : Nat) (S : zs_T) (Q : zs_Q) : Prop :=
  (w_X5_statement_167 X d p0 S Q)
theorem u_X5_statement_36 {σ : Nat → Nat} {n0 : Nat} {bf : ab_B} {d : Nat} {p0 : Nat} {S : zs_T} {Q : zs_Q} (hB : zt_B bf) (h : w_X5_statement_36 (zx σ n0 bf) d p0 S Q) : zs_U (zx σ n0 bf) d 4106 36 [(0, .ref p0)] [] S Q := by
  unfold w_X5_statement_36 at h
  refine zu_goto (t := 167) d_4106_36 rfl ?_
  exact (u_X5_statement_167 hB h).weak ⟨rfl, trivial⟩
def w_X5_statement_70 (X : zs_X) (d : Nat) (p0 : Nat) (S : zs_T) (Q : zs_Q) : Prop :=
  (zs_K S p0 = some (.inl 4) ∧ zs_C X d 4111 [.ref p0] S (zs_kV (fun S2 => (w_X5_statement_167 X d p0 S2 Q)) Q))
theorem u_X5_statement_70 {σ : Nat → Nat} {n0 : Nat} {bf : ab_B} {d : Nat} {p0 : Nat} {S : zs_T} {Q : zs_Q} (hB : zt_B bf) (h : w_X5_statement_70 (zx σ n0 bf) d p0 S Q) : zs_U (zx σ n0 bf) d 4106 70 [(0, .ref p0)] [] S Q := by
  unfold w_X5_statement_70 at h
  refine zu_aload_n d_4106_70 rfl (zs_ra _) ?_
  obtain ⟨k1, h⟩ := h
  refine zc_4_750  hB rfl k1 d_4106_71 (Nat.le_of_ble_eq_true rfl) h (fun S2 h => ?_)
  refine zu_goto (t := 167) d_4106_74 rfl ?_
  exact (u_X5_statement_167 hB h).weak ⟨rfl, trivial⟩
def w_X5_statement_153 (X : zs_X) (d : Nat) (p0 : Nat) (S : zs_T) (Q : zs_Q) : Prop :=
  (zs_K S p0 = some (.inl 4) ∧ ∃ b2, (zs_R S 4000 p0) = some b2 ∧ zs_K S b2 = some (.inl 5) ∧ zs_C X d 5016 [.ref b2] S (zs_kI (fun v6 S5 => (((v6 = 0 → w_X5_statement_167 X d p0 S5 Q) ∧ (¬ (v6 = 0) → (zs_K S5 p0 = some (.inl 4) ∧ zs_C X d 4119 [.ref p0] S5 (zs_kV (fun S9 => w_X5_statement_167 X d p0 S9 Q) Q)))))) Q))
theorem u_X5_statement_153 {σ : Nat → Nat} {n0 : Nat} {bf : ab_B} {d : Nat} {p0 : Nat} {S : zs_T} {Q : zs_Q} (hB : zt_B bf) (h : w_X5_statement_153 (zx σ n0 bf) d p0 S Q) : zs_U (zx σ n0 bf) d 4106 153 [(0, .ref p0)] [] S Q := by
  unfold w_X5_statement_153 at h
  refine zu_aload_n d_4106_153 rfl (zs_ra _) ?_
  obtain ⟨k1, h⟩ := h
  refine zg_4_5 rfl d_4106_154 k1 ?_
  obtain ⟨b2, e3, h⟩ := h
  refine zs_stk0 (zs_rfe e3) ?_
  obtain ⟨k4, h⟩ := h
  refine zc_4_36  hB rfl k4 d_4106_157 (Nat.le_of_ble_eq_true rfl) h (fun v6 S5 h => ?_)
  refine zu_ifeq (t := 167) d_4106_160 rfl (fun c7 => ?_) (fun c7 => ?_)
  · have h := h.1 c7
    exact (u_X5_statement_167 hB h).weak ⟨rfl, trivial⟩
  · have h := h.2 c7
    refine zu_aload_n d_4106_163 rfl (zs_ra _) ?_
    obtain ⟨k8, h⟩ := h
    refine zc_4_765  hB rfl k8 d_4106_164 (Nat.le_of_ble_eq_true rfl) h (fun S9 h => ?_)
    exact (u_X5_statement_167 hB h).weak ⟨rfl, trivial⟩
def w_X5_statement_146 (X : zs_X) (d : Nat) (p0 : Nat) (S : zs_T) (Q : zs_Q) : Prop :=
  (zs_K S p0 = some (.inl 4) ∧ zs_C X d 4116 [.ref p0] S (zs_kV (fun S2 => (w_X5_statement_167 X d p0 S2 Q)) Q))
theorem u_X5_statement_146 {σ : Nat → Nat} {n0 : Nat} {bf : ab_B} {d : Nat} {p0 : Nat} {S : zs_T} {Q : zs_Q} (hB : zt_B bf) (h : w_X5_statement_146 (zx σ n0 bf) d p0 S Q) : zs_U (zx σ n0 bf) d 4106 146 [(0, .ref p0)] [] S Q := by
  unfold w_X5_statement_146 at h
  refine zu_aload_n d_4106_146 rfl (zs_ra _) ?_
  obtain ⟨k1, h⟩ := h
  refine zc_4_762  hB rfl k1 d_4106_147 (Nat.le_of_ble_eq_true rfl) h (fun S2 h => ?_)
  refine zu_goto (t := 167) d_4106_150 rfl ?_
  exact (u_X5_statement_167 hB h).weak ⟨rfl, trivial⟩
def w_X5_statement_131 (X : zs_X) (d : Nat) (p0 : Nat) (S : zs_T) (Q : zs_Q) : Prop :=
  (w_X5_statement_167 X d p0 S Q)
theorem u_X5_statement_131 {σ : Nat → Nat} {n0 : Nat} {bf : ab_B} {d : Nat} {p0 : Nat} {S : zs_T} {Q : zs_Q} (hB : zt_B bf) (h : w_X5_statement_131 (zx σ n0 bf) d p0 S Q) : zs_U (zx σ n0 bf) d 4106 131 [(0, .ref p0)] [] S Q := by
  unfold w_X5_statement_131 at h
  refine zu_goto (t := 167) d_4106_131 rfl ?_
  exact (u_X5_statement_167 hB h).weak ⟨rfl, trivial⟩
def w_X5_statement_77 (X : zs_X) (d : Nat) (p0 : Nat) (S : zs_T) (Q : zs_Q) : Prop :=
  (zs_K S p0 = some (.inl 4) ∧ ∃ b2, (zs_R S 4000 p0) = some b2 ∧ zs_K S b2 = some (.inl 5) ∧ zs_C X d 5015 [.ref b2, .int (14 : Int32)] S (zs_kI (fun v6 S5 => (((v6 = 0 → (zs_K S5 p0 = some (.inl 4) ∧ ∃ b9, (zs_R S5 4000 p0) = some b9 ∧ zs_K S5 b9 = some (.inl 5) ∧ zs_C X d 5015 [.ref b9, .int (16 : Int32)] S5 (zs_kI (fun v13 S12 => (((v13 = 0 → (zs_K S12 p0 = some (.inl 4) ∧ ∃ b16, (zs_R S12 4000 p0) = some b16 ∧ zs_K S12 b16 = some (.inl 5) ∧ zs_C X d 5015 [.ref b16, .int (19 : Int32)] S12 (zs_kI (fun v20 S19 => (((v20 = 0 → (zs_K S19 p0 = some (.inl 4) ∧ ∃ b23, (zs_R S19 4000 p0) = some b23 ∧ zs_K S19 b23 = some (.inl 5) ∧ zs_C X d 5015 [.ref b23, .int (22 : Int32)] S19 (zs_kI (fun v27 S26 => (((v27 = 0 → w_X5_statement_153 X d p0 S26 Q) ∧ (¬ (v27 = 0) → w_X5_statement_146 X d p0 S26 Q)))) Q))) ∧ (¬ (v20 = 0) → (zs_K S19 p0 = some (.inl 4) ∧ zs_C X d 4115 [.ref p0] S19 (zs_kV (fun S30 => w_X5_statement_131 X d p0 S30 Q) Q)))))) Q))) ∧ (¬ (v13 = 0) → (zs_K S12 p0 = some (.inl 4) ∧ zs_C X d 4113 [.ref p0] S12 (zs_kV (fun S33 => (w_X5_statement_167 X d p0 S33 Q)) Q)))))) Q))) ∧ (¬ (v6 = 0) → (zs_K S5 p0 = some (.inl 4) ∧ zs_C X d 4112 [.ref p0] S5 (zs_kV (fun S36 => (w_X5_statement_167 X d p0 S36 Q)) Q)))))) Q))
theorem u_X5_statement_77 {σ : Nat → Nat} {n0 : Nat} {bf : ab_B} {d : Nat} {p0 : Nat} {S : zs_T} {Q : zs_Q} (hB : zt_B bf) (h : w_X5_statement_77 (zx σ n0 bf) d p0 S Q) : zs_U (zx σ n0 bf) d 4106 77 [(0, .ref p0)] [] S Q := by
  unfold w_X5_statement_77 at h
  refine zu_aload_n d_4106_77 rfl (zs_ra _) ?_
  obtain ⟨k1, h⟩ := h
  refine zg_4_5 rfl d_4106_78 k1 ?_
  refine zu_bipush d_4106_81 zj_14 ?_
  obtain ⟨b2, e3, h⟩ := h
  refine zs_stk1 (zs_rfe e3) ?_
  obtain ⟨k4, h⟩ := h
  refine zc_4_33 (x0 := (14 : Int32)) hB rfl k4 d_4106_83 (Nat.le_of_ble_eq_true rfl) h (fun v6 S5 h => ?_)
  refine zu_ifeq (t := 96) d_4106_86 rfl (fun c7 => ?_) (fun c7 => ?_)
  · have h := h.1 c7
    refine zu_aload_n d_4106_96 rfl (zs_ra _) ?_
    obtain ⟨k8, h⟩ := h
    refine zg_4_5 rfl d_4106_97 k8 ?_
    refine zu_bipush d_4106_100 zj_16 ?_
    obtain ⟨b9, e10, h⟩ := h
    refine zs_stk1 (zs_rfe e10) ?_
    obtain ⟨k11, h⟩ := h
    refine zc_4_33 (x0 := (16 : Int32)) hB rfl k11 d_4106_102 (Nat.le_of_ble_eq_true rfl) h (fun v13 S12 h => ?_)
    refine zu_ifeq (t := 115) d_4106_105 rfl (fun c14 => ?_) (fun c14 => ?_)
    · have h := h.1 c14
      refine zu_aload_n d_4106_115 rfl (zs_ra _) ?_
      obtain ⟨k15, h⟩ := h
      refine zg_4_5 rfl d_4106_116 k15 ?_
      refine zu_bipush d_4106_119 zj_19 ?_
      obtain ⟨b16, e17, h⟩ := h
      refine zs_stk1 (zs_rfe e17) ?_
      obtain ⟨k18, h⟩ := h
      refine zc_4_33 (x0 := (19 : Int32)) hB rfl k18 d_4106_121 (Nat.le_of_ble_eq_true rfl) h (fun v20 S19 h => ?_)
      refine zu_ifeq (t := 134) d_4106_124 rfl (fun c21 => ?_) (fun c21 => ?_)
      · have h := h.1 c21
        refine zu_aload_n d_4106_134 rfl (zs_ra _) ?_
        obtain ⟨k22, h⟩ := h
        refine zg_4_5 rfl d_4106_135 k22 ?_
        refine zu_bipush d_4106_138 zj_22 ?_
        obtain ⟨b23, e24, h⟩ := h
        refine zs_stk1 (zs_rfe e24) ?_
        obtain ⟨k25, h⟩ := h
        refine zc_4_33 (x0 := (22 : Int32)) hB rfl k25 d_4106_140 (Nat.le_of_ble_eq_true rfl) h (fun v27 S26 h => ?_)
        refine zu_ifeq (t := 153) d_4106_143 rfl (fun c28 => ?_) (fun c28 => ?_)
        · have h := h.1 c28
          exact (u_X5_statement_153 hB h).weak ⟨rfl, trivial⟩
        · have h := h.2 c28
          exact (u_X5_statement_146 hB h).weak ⟨rfl, trivial⟩
      · have h := h.2 c21
        refine zu_aload_n d_4106_127 rfl (zs_ra _) ?_
        obtain ⟨k29, h⟩ := h
        refine zc_4_759  hB rfl k29 d_4106_128 (Nat.le_of_ble_eq_true rfl) h (fun S30 h => ?_)
        exact (u_X5_statement_131 hB h).weak ⟨rfl, trivial⟩
    · have h := h.2 c14
      refine zu_aload_n d_4106_108 rfl (zs_ra _) ?_
      obtain ⟨k32, h⟩ := h
      refine zc_4_756  hB rfl k32 d_4106_109 (Nat.le_of_ble_eq_true rfl) h (fun S33 h => ?_)
      refine zu_goto (t := 167) d_4106_112 rfl ?_
      exact (u_X5_statement_167 hB h).weak ⟨rfl, trivial⟩
  · have h := h.2 c7
    refine zu_aload_n d_4106_89 rfl (zs_ra _) ?_
    obtain ⟨k35, h⟩ := h
    refine zc_4_753  hB rfl k35 d_4106_90 (Nat.le_of_ble_eq_true rfl) h (fun S36 h => ?_)
    refine zu_goto (t := 167) d_4106_93 rfl ?_
    exact (u_X5_statement_167 hB h).weak ⟨rfl, trivial⟩
def w_X5_statement (X : zs_X) (d : Nat) (p0 : Nat) (S : zs_T) (Q : zs_Q) : Prop :=
  (zs_K S p0 = some (.inl 4) ∧ zs_C X d 4021 [.ref p0] S (zs_kV (fun S2 => (zs_K S2 p0 = some (.inl 4) ∧ ∃ b5, (zs_R S2 4000 p0) = some b5 ∧ zs_K S2 b5 = some (.inl 5) ∧ zs_C X d 5015 [.ref b5, .int (7 : Int32)] S2 (zs_kI (fun v9 S8 => (((v9 = 0 → (zs_K S8 p0 = some (.inl 4) ∧ ∃ b12, (zs_R S8 4000 p0) = some b12 ∧ zs_K S8 b12 = some (.inl 5) ∧ zs_C X d 5015 [.ref b12, .int (9 : Int32)] S8 (zs_kI (fun v16 S15 => (((v16 = 0 → (zs_K S15 p0 = some (.inl 4) ∧ ∃ b19, (zs_R S15 4000 p0) = some b19 ∧ zs_K S15 b19 = some (.inl 5) ∧ zs_C X d 5015 [.ref b19, .int (12 : Int32)] S15 (zs_kI (fun v23 S22 => (((v23 = 0 → w_X5_statement_77 X d p0 S22 Q) ∧ (¬ (v23 = 0) → w_X5_statement_70 X d p0 S22 Q)))) Q))) ∧ (¬ (v16 = 0) → (zs_K S15 p0 = some (.inl 4) ∧ zs_C X d 4107 [.ref p0] S15 (zs_kV (fun S26 => (w_X5_statement_167 X d p0 S26 Q)) Q)))))) Q))) ∧ (¬ (v9 = 0) → (zs_K S8 p0 = some (.inl 4) ∧ ∃ b29, (zs_R S8 4000 p0) = some b29 ∧ zs_K S8 b29 = some (.inl 5) ∧ zs_C X d 5004 [.ref b29] S8 (zs_kV (fun S32 => (zs_K S32 p0 = some (.inl 4) ∧ zs_C X d 4105 [.ref p0, .int (8 : Int32)] S32 (zs_kV (fun S35 => (zs_K S35 p0 = some (.inl 4) ∧ ∃ b38, (zs_R S35 4000 p0) = some b38 ∧ zs_K S35 b38 = some (.inl 5) ∧ zs_C X d 5004 [.ref b38] S35 (zs_kV (fun S41 => w_X5_statement_36 X d p0 S41 Q) Q))) Q))) Q)))))) Q))) Q))
theorem u_X5_statement {σ : Nat → Nat} {n0 : Nat} {bf : ab_B} {d : Nat} {p0 : Nat} {S : zs_T} {Q : zs_Q} (hB : zt_B bf) (hd : 1 ≤ d) (h : w_X5_statement (zx σ n0 bf) (d - 1) p0 S Q) : zs_C (zx σ n0 bf) d 4106 [.ref p0] S Q := by
  have hL : lv_args 0 [.ref p0] = [(0, .ref p0)] := rfl
  refine zs_C.of1 (hB.2 4106 (by decide) (by decide)) hd (by rw [hL]; exact zs_sub_self _ (by exact ⟨rfl, trivial⟩)) ?_
  rw [hL]
  clear hL
  unfold w_X5_statement at h
  refine zu_aload_n d_4106_0 rfl (zs_ra _) ?_
  obtain ⟨k1, h⟩ := h
  refine zc_4_357  hB rfl k1 d_4106_1 (Nat.le_of_ble_eq_true rfl) h (fun S2 h => ?_)
  refine zu_aload_n d_4106_4 rfl (zs_ra _) ?_
  obtain ⟨k4, h⟩ := h
  refine zg_4_5 rfl d_4106_5 k4 ?_
  refine zu_bipush d_4106_8 zj_7 ?_
  obtain ⟨b5, e6, h⟩ := h
  refine zs_stk1 (zs_rfe e6) ?_
  obtain ⟨k7, h⟩ := h
  refine zc_4_33 (x0 := (7 : Int32)) hB rfl k7 d_4106_10 (Nat.le_of_ble_eq_true rfl) h (fun v9 S8 h => ?_)
  refine zu_ifeq (t := 39) d_4106_13 rfl (fun c10 => ?_) (fun c10 => ?_)
  · have h := h.1 c10
    refine zu_aload_n d_4106_39 rfl (zs_ra _) ?_
    obtain ⟨k11, h⟩ := h
    refine zg_4_5 rfl d_4106_40 k11 ?_
    refine zu_bipush d_4106_43 zj_9 ?_
    obtain ⟨b12, e13, h⟩ := h
    refine zs_stk1 (zs_rfe e13) ?_
    obtain ⟨k14, h⟩ := h
    refine zc_4_33 (x0 := (9 : Int32)) hB rfl k14 d_4106_45 (Nat.le_of_ble_eq_true rfl) h (fun v16 S15 h => ?_)
    refine zu_ifeq (t := 58) d_4106_48 rfl (fun c17 => ?_) (fun c17 => ?_)
    · have h := h.1 c17
      refine zu_aload_n d_4106_58 rfl (zs_ra _) ?_
      obtain ⟨k18, h⟩ := h
      refine zg_4_5 rfl d_4106_59 k18 ?_
      refine zu_bipush d_4106_62 zj_12 ?_
      obtain ⟨b19, e20, h⟩ := h
      refine zs_stk1 (zs_rfe e20) ?_
      obtain ⟨k21, h⟩ := h
      refine zc_4_33 (x0 := (12 : Int32)) hB rfl k21 d_4106_64 (Nat.le_of_ble_eq_true rfl) h (fun v23 S22 h => ?_)
      refine zu_ifeq (t := 77) d_4106_67 rfl (fun c24 => ?_) (fun c24 => ?_)
      · have h := h.1 c24
        exact (u_X5_statement_77 hB h).weak ⟨rfl, trivial⟩
      · have h := h.2 c24
        exact (u_X5_statement_70 hB h).weak ⟨rfl, trivial⟩
    · have h := h.2 c17
      refine zu_aload_n d_4106_51 rfl (zs_ra _) ?_
      obtain ⟨k25, h⟩ := h
      refine zc_4_747  hB rfl k25 d_4106_52 (Nat.le_of_ble_eq_true rfl) h (fun S26 h => ?_)
      refine zu_goto (t := 167) d_4106_55 rfl ?_
      exact (u_X5_statement_167 hB h).weak ⟨rfl, trivial⟩
  · have h := h.2 c10
    refine zu_aload_n d_4106_16 rfl (zs_ra _) ?_
    obtain ⟨k28, h⟩ := h
    refine zg_4_5 rfl d_4106_17 k28 ?_
    obtain ⟨b29, e30, h⟩ := h
    refine zs_stk0 (zs_rfe e30) ?_
    obtain ⟨k31, h⟩ := h
    refine zc_4_29  hB rfl k31 d_4106_20 (Nat.le_of_ble_eq_true rfl) h (fun S32 h => ?_)
    refine zu_aload_n d_4106_23 rfl (zs_ra _) ?_
    refine zu_bipush d_4106_24 zj_8 ?_
    obtain ⟨k34, h⟩ := h
    refine zc_4_287 (x0 := (8 : Int32)) hB rfl k34 d_4106_26 (Nat.le_of_ble_eq_true rfl) h (fun S35 h => ?_)
    refine zu_aload_n d_4106_29 rfl (zs_ra _) ?_
    obtain ⟨k37, h⟩ := h
    refine zg_4_5 rfl d_4106_30 k37 ?_
    obtain ⟨b38, e39, h⟩ := h
    refine zs_stk0 (zs_rfe e39) ?_
    obtain ⟨k40, h⟩ := h
    refine zc_4_29  hB rfl k40 d_4106_33 (Nat.le_of_ble_eq_true rfl) h (fun S41 h => ?_)
    exact (u_X5_statement_36 hB h).weak ⟨rfl, trivial⟩
/-! SchemaPascal$Reader.conditional()V -/
theorem zm_4107 {σ : Nat → Nat} {n0 : Nat} {bf : ab_B} : ab_code (zx σ n0 bf).1 4107 = prog_9_method_102_code := rfl
theorem zq_4107 {σ : Nat → Nat} {n0 : Nat} {bf : ab_B} : ab_maxL (zx σ n0 bf).1 4107 = 4 := rfl
theorem zr_4107 {σ : Nat → Nat} {n0 : Nat} {bf : ab_B} : ab_ret (zx σ n0 bf).1 4107 = (Option.none : Option Jvm.ClassFile.FieldType) := rfl
theorem d_4107_0 {σ : Nat → Nat} {n0 : Nat} {bf : ab_B} : decode (ab_code (zx σ n0 bf).1 4107) 0 = .ok (.aload_n 0, 1) := zd zm_4107 (by decide +kernel)
theorem d_4107_1 {σ : Nat → Nat} {n0 : Nat} {bf : ab_B} : decode (ab_code (zx σ n0 bf).1 4107) 1 = .ok (.getfield 5, 3) := zd zm_4107 (by decide +kernel)
theorem d_4107_4 {σ : Nat → Nat} {n0 : Nat} {bf : ab_B} : decode (ab_code (zx σ n0 bf).1 4107) 4 = .ok (.getfield 11, 3) := zd zm_4107 (by decide +kernel)
theorem d_4107_7 {σ : Nat → Nat} {n0 : Nat} {bf : ab_B} : decode (ab_code (zx σ n0 bf).1 4107) 7 = .ok (.istore_n 1, 1) := zd zm_4107 (by decide +kernel)
theorem d_4107_8 {σ : Nat → Nat} {n0 : Nat} {bf : ab_B} : decode (ab_code (zx σ n0 bf).1 4107) 8 = .ok (.aload_n 0, 1) := zd zm_4107 (by decide +kernel)
theorem d_4107_9 {σ : Nat → Nat} {n0 : Nat} {bf : ab_B} : decode (ab_code (zx σ n0 bf).1 4107) 9 = .ok (.iconst 0, 1) := zd zm_4107 (by decide +kernel)
theorem d_4107_10 {σ : Nat → Nat} {n0 : Nat} {bf : ab_B} : decode (ab_code (zx σ n0 bf).1 4107) 10 = .ok (.iload_n 1, 1) := zd zm_4107 (by decide +kernel)
theorem d_4107_11 {σ : Nat → Nat} {n0 : Nat} {bf : ab_B} : decode (ab_code (zx σ n0 bf).1 4107) 11 = .ok (.invokevirtual 273, 3) := zd zm_4107 (by decide +kernel)
theorem d_4107_14 {σ : Nat → Nat} {n0 : Nat} {bf : ab_B} : decode (ab_code (zx σ n0 bf).1 4107) 14 = .ok (.pop, 1) := zd zm_4107 (by decide +kernel)
theorem d_4107_15 {σ : Nat → Nat} {n0 : Nat} {bf : ab_B} : decode (ab_code (zx σ n0 bf).1 4107) 15 = .ok (.aload_n 0, 1) := zd zm_4107 (by decide +kernel)
theorem d_4107_16 {σ : Nat → Nat} {n0 : Nat} {bf : ab_B} : decode (ab_code (zx σ n0 bf).1 4107) 16 = .ok (.getfield 5, 3) := zd zm_4107 (by decide +kernel)
theorem d_4107_19 {σ : Nat → Nat} {n0 : Nat} {bf : ab_B} : decode (ab_code (zx σ n0 bf).1 4107) 19 = .ok (.invokevirtual 29, 3) := zd zm_4107 (by decide +kernel)
theorem d_4107_22 {σ : Nat → Nat} {n0 : Nat} {bf : ab_B} : decode (ab_code (zx σ n0 bf).1 4107) 22 = .ok (.aload_n 0, 1) := zd zm_4107 (by decide +kernel)
theorem d_4107_23 {σ : Nat → Nat} {n0 : Nat} {bf : ab_B} : decode (ab_code (zx σ n0 bf).1 4107) 23 = .ok (.aload_n 0, 1) := zd zm_4107 (by decide +kernel)
theorem d_4107_24 {σ : Nat → Nat} {n0 : Nat} {bf : ab_B} : decode (ab_code (zx σ n0 bf).1 4107) 24 = .ok (.invokevirtual 772, 3) := zd zm_4107 (by decide +kernel)
theorem d_4107_27 {σ : Nat → Nat} {n0 : Nat} {bf : ab_B} : decode (ab_code (zx σ n0 bf).1 4107) 27 = .ok (.invokevirtual 721, 3) := zd zm_4107 (by decide +kernel)
theorem d_4107_30 {σ : Nat → Nat} {n0 : Nat} {bf : ab_B} : decode (ab_code (zx σ n0 bf).1 4107) 30 = .ok (.aload_n 0, 1) := zd zm_4107 (by decide +kernel)
theorem d_4107_31 {σ : Nat → Nat} {n0 : Nat} {bf : ab_B} : decode (ab_code (zx σ n0 bf).1 4107) 31 = .ok (.bipush 10, 2) := zd zm_4107 (by decide +kernel)
theorem d_4107_33 {σ : Nat → Nat} {n0 : Nat} {bf : ab_B} : decode (ab_code (zx σ n0 bf).1 4107) 33 = .ok (.invokevirtual 221, 3) := zd zm_4107 (by decide +kernel)
theorem d_4107_36 {σ : Nat → Nat} {n0 : Nat} {bf : ab_B} : decode (ab_code (zx σ n0 bf).1 4107) 36 = .ok (.aload_n 0, 1) := zd zm_4107 (by decide +kernel)
theorem d_4107_37 {σ : Nat → Nat} {n0 : Nat} {bf : ab_B} : decode (ab_code (zx σ n0 bf).1 4107) 37 = .ok (.bipush 38, 2) := zd zm_4107 (by decide +kernel)
theorem d_4107_39 {σ : Nat → Nat} {n0 : Nat} {bf : ab_B} : decode (ab_code (zx σ n0 bf).1 4107) 39 = .ok (.iload_n 1, 1) := zd zm_4107 (by decide +kernel)
theorem d_4107_40 {σ : Nat → Nat} {n0 : Nat} {bf : ab_B} : decode (ab_code (zx σ n0 bf).1 4107) 40 = .ok (.invokevirtual 775, 3) := zd zm_4107 (by decide +kernel)
theorem d_4107_43 {σ : Nat → Nat} {n0 : Nat} {bf : ab_B} : decode (ab_code (zx σ n0 bf).1 4107) 43 = .ok (.istore_n 2, 1) := zd zm_4107 (by decide +kernel)
theorem d_4107_44 {σ : Nat → Nat} {n0 : Nat} {bf : ab_B} : decode (ab_code (zx σ n0 bf).1 4107) 44 = .ok (.aload_n 0, 1) := zd zm_4107 (by decide +kernel)
theorem d_4107_45 {σ : Nat → Nat} {n0 : Nat} {bf : ab_B} : decode (ab_code (zx σ n0 bf).1 4107) 45 = .ok (.invokevirtual 744, 3) := zd zm_4107 (by decide +kernel)
theorem d_4107_48 {σ : Nat → Nat} {n0 : Nat} {bf : ab_B} : decode (ab_code (zx σ n0 bf).1 4107) 48 = .ok (.aload_n 0, 1) := zd zm_4107 (by decide +kernel)
theorem d_4107_49 {σ : Nat → Nat} {n0 : Nat} {bf : ab_B} : decode (ab_code (zx σ n0 bf).1 4107) 49 = .ok (.getfield 5, 3) := zd zm_4107 (by decide +kernel)
theorem d_4107_52 {σ : Nat → Nat} {n0 : Nat} {bf : ab_B} : decode (ab_code (zx σ n0 bf).1 4107) 52 = .ok (.bipush 11, 2) := zd zm_4107 (by decide +kernel)
theorem d_4107_54 {σ : Nat → Nat} {n0 : Nat} {bf : ab_B} : decode (ab_code (zx σ n0 bf).1 4107) 54 = .ok (.invokevirtual 33, 3) := zd zm_4107 (by decide +kernel)
theorem d_4107_57 {σ : Nat → Nat} {n0 : Nat} {bf : ab_B} : decode (ab_code (zx σ n0 bf).1 4107) 57 = .ok (.ifCond .eq 37, 3) := zd zm_4107 (by decide +kernel)
theorem d_4107_60 {σ : Nat → Nat} {n0 : Nat} {bf : ab_B} : decode (ab_code (zx σ n0 bf).1 4107) 60 = .ok (.aload_n 0, 1) := zd zm_4107 (by decide +kernel)
theorem d_4107_61 {σ : Nat → Nat} {n0 : Nat} {bf : ab_B} : decode (ab_code (zx σ n0 bf).1 4107) 61 = .ok (.getfield 5, 3) := zd zm_4107 (by decide +kernel)
theorem d_4107_64 {σ : Nat → Nat} {n0 : Nat} {bf : ab_B} : decode (ab_code (zx σ n0 bf).1 4107) 64 = .ok (.invokevirtual 29, 3) := zd zm_4107 (by decide +kernel)
theorem d_4107_67 {σ : Nat → Nat} {n0 : Nat} {bf : ab_B} : decode (ab_code (zx σ n0 bf).1 4107) 67 = .ok (.aload_n 0, 1) := zd zm_4107 (by decide +kernel)
theorem d_4107_68 {σ : Nat → Nat} {n0 : Nat} {bf : ab_B} : decode (ab_code (zx σ n0 bf).1 4107) 68 = .ok (.bipush 37, 2) := zd zm_4107 (by decide +kernel)
theorem d_4107_70 {σ : Nat → Nat} {n0 : Nat} {bf : ab_B} : decode (ab_code (zx σ n0 bf).1 4107) 70 = .ok (.iload_n 1, 1) := zd zm_4107 (by decide +kernel)
theorem d_4107_71 {σ : Nat → Nat} {n0 : Nat} {bf : ab_B} : decode (ab_code (zx σ n0 bf).1 4107) 71 = .ok (.invokevirtual 775, 3) := zd zm_4107 (by decide +kernel)
theorem d_4107_74 {σ : Nat → Nat} {n0 : Nat} {bf : ab_B} : decode (ab_code (zx σ n0 bf).1 4107) 74 = .ok (.istore_n 3, 1) := zd zm_4107 (by decide +kernel)
theorem d_4107_75 {σ : Nat → Nat} {n0 : Nat} {bf : ab_B} : decode (ab_code (zx σ n0 bf).1 4107) 75 = .ok (.aload_n 0, 1) := zd zm_4107 (by decide +kernel)
theorem d_4107_76 {σ : Nat → Nat} {n0 : Nat} {bf : ab_B} : decode (ab_code (zx σ n0 bf).1 4107) 76 = .ok (.iload_n 2, 1) := zd zm_4107 (by decide +kernel)
theorem d_4107_77 {σ : Nat → Nat} {n0 : Nat} {bf : ab_B} : decode (ab_code (zx σ n0 bf).1 4107) 77 = .ok (.iconst 1, 1) := zd zm_4107 (by decide +kernel)
theorem d_4107_78 {σ : Nat → Nat} {n0 : Nat} {bf : ab_B} : decode (ab_code (zx σ n0 bf).1 4107) 78 = .ok (.invokevirtual 778, 3) := zd zm_4107 (by decide +kernel)
theorem d_4107_81 {σ : Nat → Nat} {n0 : Nat} {bf : ab_B} : decode (ab_code (zx σ n0 bf).1 4107) 81 = .ok (.aload_n 0, 1) := zd zm_4107 (by decide +kernel)
theorem d_4107_82 {σ : Nat → Nat} {n0 : Nat} {bf : ab_B} : decode (ab_code (zx σ n0 bf).1 4107) 82 = .ok (.invokevirtual 744, 3) := zd zm_4107 (by decide +kernel)
theorem d_4107_85 {σ : Nat → Nat} {n0 : Nat} {bf : ab_B} : decode (ab_code (zx σ n0 bf).1 4107) 85 = .ok (.aload_n 0, 1) := zd zm_4107 (by decide +kernel)
theorem d_4107_86 {σ : Nat → Nat} {n0 : Nat} {bf : ab_B} : decode (ab_code (zx σ n0 bf).1 4107) 86 = .ok (.iload_n 3, 1) := zd zm_4107 (by decide +kernel)
theorem d_4107_87 {σ : Nat → Nat} {n0 : Nat} {bf : ab_B} : decode (ab_code (zx σ n0 bf).1 4107) 87 = .ok (.iconst 1, 1) := zd zm_4107 (by decide +kernel)
theorem d_4107_88 {σ : Nat → Nat} {n0 : Nat} {bf : ab_B} : decode (ab_code (zx σ n0 bf).1 4107) 88 = .ok (.invokevirtual 778, 3) := zd zm_4107 (by decide +kernel)
theorem d_4107_91 {σ : Nat → Nat} {n0 : Nat} {bf : ab_B} : decode (ab_code (zx σ n0 bf).1 4107) 91 = .ok (.goto 9, 3) := zd zm_4107 (by decide +kernel)
theorem d_4107_94 {σ : Nat → Nat} {n0 : Nat} {bf : ab_B} : decode (ab_code (zx σ n0 bf).1 4107) 94 = .ok (.aload_n 0, 1) := zd zm_4107 (by decide +kernel)
theorem d_4107_95 {σ : Nat → Nat} {n0 : Nat} {bf : ab_B} : decode (ab_code (zx σ n0 bf).1 4107) 95 = .ok (.iload_n 2, 1) := zd zm_4107 (by decide +kernel)
theorem d_4107_96 {σ : Nat → Nat} {n0 : Nat} {bf : ab_B} : decode (ab_code (zx σ n0 bf).1 4107) 96 = .ok (.iconst 1, 1) := zd zm_4107 (by decide +kernel)
theorem d_4107_97 {σ : Nat → Nat} {n0 : Nat} {bf : ab_B} : decode (ab_code (zx σ n0 bf).1 4107) 97 = .ok (.invokevirtual 778, 3) := zd zm_4107 (by decide +kernel)
theorem d_4107_100 {σ : Nat → Nat} {n0 : Nat} {bf : ab_B} : decode (ab_code (zx σ n0 bf).1 4107) 100 = .ok (.return_, 1) := zd zm_4107 (by decide +kernel)
def w_X5_conditional_100 (X : zs_X) (d : Nat)  (S : zs_T) (Q : zs_Q) : Prop :=
  (Q (.returned none) S)
theorem u_X5_conditional_100 {σ : Nat → Nat} {n0 : Nat} {bf : ab_B} {d : Nat}  {S : zs_T} {Q : zs_Q} (hB : zt_B bf) (h : w_X5_conditional_100 (zx σ n0 bf) d  S Q) : zs_U (zx σ n0 bf) d 4107 100 [] [] S Q := by
  unfold w_X5_conditional_100 at h
  exact zu_vret d_4107_100 zr_4107 h
def w_X5_conditional_67 (X : zs_X) (d : Nat) (p0 : Nat) (p1 : Int32) (p2 : Int32) (S : zs_T) (Q : zs_Q) : Prop :=
  (zs_K S p0 = some (.inl 4) ∧ zs_C X d 4109 [.ref p0, .int (37 : Int32), .int p1] S (zs_kI (fun v3 S2 => (zs_K S2 p0 = some (.inl 4) ∧ zs_C X d 4110 [.ref p0, .int p2, .int (1 : Int32)] S2 (zs_kV (fun S5 => (zs_K S5 p0 = some (.inl 4) ∧ zs_C X d 4106 [.ref p0] S5 (zs_kV (fun S8 => (zs_K S8 p0 = some (.inl 4) ∧ zs_C X d 4110 [.ref p0, .int v3, .int (1 : Int32)] S8 (zs_kV (fun S11 => (w_X5_conditional_100 X d  S11 Q)) Q))) Q))) Q))) Q))
theorem u_X5_conditional_67 {σ : Nat → Nat} {n0 : Nat} {bf : ab_B} {d : Nat} {p0 : Nat} {p1 : Int32} {p2 : Int32} {S : zs_T} {Q : zs_Q} (hB : zt_B bf) (h : w_X5_conditional_67 (zx σ n0 bf) d p0 p1 p2 S Q) : zs_U (zx σ n0 bf) d 4107 67 [(0, .ref p0), (1, .int p1), (2, .int p2)] [] S Q := by
  unfold w_X5_conditional_67 at h
  refine zu_aload_n d_4107_67 rfl (zs_ra _) ?_
  refine zu_bipush d_4107_68 zj_37 ?_
  refine zu_iload_n d_4107_70 rfl ?_
  obtain ⟨k1, h⟩ := h
  refine zc_4_775 (x0 := (37 : Int32)) (x1 := p1) hB rfl k1 d_4107_71 (Nat.le_of_ble_eq_true rfl) h (fun v3 S2 h => ?_)
  refine zu_istore_n d_4107_74 (zs_lt zq_4107 rfl) ?_
  refine zu_aload_n d_4107_75 rfl (zs_ra _) ?_
  refine zu_iload_n d_4107_76 rfl ?_
  refine zu_iconst d_4107_77 zi_1 ?_
  obtain ⟨k4, h⟩ := h
  refine zc_4_778 (x0 := p2) (x1 := (1 : Int32)) hB rfl k4 d_4107_78 (Nat.le_of_ble_eq_true rfl) h (fun S5 h => ?_)
  refine zu_aload_n d_4107_81 rfl (zs_ra _) ?_
  obtain ⟨k7, h⟩ := h
  refine zc_4_744  hB rfl k7 d_4107_82 (Nat.le_of_ble_eq_true rfl) h (fun S8 h => ?_)
  refine zu_aload_n d_4107_85 rfl (zs_ra _) ?_
  refine zu_iload_n d_4107_86 rfl ?_
  refine zu_iconst d_4107_87 zi_1 ?_
  obtain ⟨k10, h⟩ := h
  refine zc_4_778 (x0 := v3) (x1 := (1 : Int32)) hB rfl k10 d_4107_88 (Nat.le_of_ble_eq_true rfl) h (fun S11 h => ?_)
  refine zu_goto (t := 100) d_4107_91 rfl ?_
  exact (u_X5_conditional_100 hB h).weak trivial
def w_X5_conditional_30 (X : zs_X) (d : Nat) (p0 : Nat) (p1 : Int32) (S : zs_T) (Q : zs_Q) : Prop :=
  (zs_K S p0 = some (.inl 4) ∧ zs_C X d 4005 [.ref p0, .int (10 : Int32)] S (zs_kV (fun S2 => (zs_K S2 p0 = some (.inl 4) ∧ zs_C X d 4109 [.ref p0, .int (38 : Int32), .int p1] S2 (zs_kI (fun v6 S5 => (zs_K S5 p0 = some (.inl 4) ∧ zs_C X d 4106 [.ref p0] S5 (zs_kV (fun S8 => (zs_K S8 p0 = some (.inl 4) ∧ ∃ b11, (zs_R S8 4000 p0) = some b11 ∧ zs_K S8 b11 = some (.inl 5) ∧ zs_C X d 5015 [.ref b11, .int (11 : Int32)] S8 (zs_kI (fun v15 S14 => (((v15 = 0 → (zs_K S14 p0 = some (.inl 4) ∧ zs_C X d 4110 [.ref p0, .int v6, .int (1 : Int32)] S14 (zs_kV (fun S18 => w_X5_conditional_100 X d  S18 Q) Q))) ∧ (¬ (v15 = 0) → (zs_K S14 p0 = some (.inl 4) ∧ ∃ b21, (zs_R S14 4000 p0) = some b21 ∧ zs_K S14 b21 = some (.inl 5) ∧ zs_C X d 5004 [.ref b21] S14 (zs_kV (fun S24 => w_X5_conditional_67 X d p0 p1 v6 S24 Q) Q)))))) Q))) Q))) Q))) Q))
theorem u_X5_conditional_30 {σ : Nat → Nat} {n0 : Nat} {bf : ab_B} {d : Nat} {p0 : Nat} {p1 : Int32} {S : zs_T} {Q : zs_Q} (hB : zt_B bf) (h : w_X5_conditional_30 (zx σ n0 bf) d p0 p1 S Q) : zs_U (zx σ n0 bf) d 4107 30 [(0, .ref p0), (1, .int p1)] [] S Q := by
  unfold w_X5_conditional_30 at h
  refine zu_aload_n d_4107_30 rfl (zs_ra _) ?_
  refine zu_bipush d_4107_31 zj_10 ?_
  obtain ⟨k1, h⟩ := h
  refine zc_4_221 (x0 := (10 : Int32)) hB rfl k1 d_4107_33 (Nat.le_of_ble_eq_true rfl) h (fun S2 h => ?_)
  refine zu_aload_n d_4107_36 rfl (zs_ra _) ?_
  refine zu_bipush d_4107_37 zj_38 ?_
  refine zu_iload_n d_4107_39 rfl ?_
  obtain ⟨k4, h⟩ := h
  refine zc_4_775 (x0 := (38 : Int32)) (x1 := p1) hB rfl k4 d_4107_40 (Nat.le_of_ble_eq_true rfl) h (fun v6 S5 h => ?_)
  refine zu_istore_n d_4107_43 (zs_lt zq_4107 rfl) ?_
  refine zu_aload_n d_4107_44 rfl (zs_ra _) ?_
  obtain ⟨k7, h⟩ := h
  refine zc_4_744  hB rfl k7 d_4107_45 (Nat.le_of_ble_eq_true rfl) h (fun S8 h => ?_)
  refine zu_aload_n d_4107_48 rfl (zs_ra _) ?_
  obtain ⟨k10, h⟩ := h
  refine zg_4_5 rfl d_4107_49 k10 ?_
  refine zu_bipush d_4107_52 zj_11 ?_
  obtain ⟨b11, e12, h⟩ := h
  refine zs_stk1 (zs_rfe e12) ?_
  obtain ⟨k13, h⟩ := h
  refine zc_4_33 (x0 := (11 : Int32)) hB rfl k13 d_4107_54 (Nat.le_of_ble_eq_true rfl) h (fun v15 S14 h => ?_)
  refine zu_ifeq (t := 94) d_4107_57 rfl (fun c16 => ?_) (fun c16 => ?_)
  · have h := h.1 c16
    refine zu_aload_n d_4107_94 rfl (zs_ra _) ?_
    refine zu_iload_n d_4107_95 rfl ?_
    refine zu_iconst d_4107_96 zi_1 ?_
    obtain ⟨k17, h⟩ := h
    refine zc_4_778 (x0 := v6) (x1 := (1 : Int32)) hB rfl k17 d_4107_97 (Nat.le_of_ble_eq_true rfl) h (fun S18 h => ?_)
    exact (u_X5_conditional_100 hB h).weak trivial
  · have h := h.2 c16
    refine zu_aload_n d_4107_60 rfl (zs_ra _) ?_
    obtain ⟨k20, h⟩ := h
    refine zg_4_5 rfl d_4107_61 k20 ?_
    obtain ⟨b21, e22, h⟩ := h
    refine zs_stk0 (zs_rfe e22) ?_
    obtain ⟨k23, h⟩ := h
    refine zc_4_29  hB rfl k23 d_4107_64 (Nat.le_of_ble_eq_true rfl) h (fun S24 h => ?_)
    exact (u_X5_conditional_67 hB h).weak ⟨rfl, rfl, rfl, trivial⟩
def w_X5_conditional (X : zs_X) (d : Nat) (p0 : Nat) (S : zs_T) (Q : zs_Q) : Prop :=
  (zs_K S p0 = some (.inl 4) ∧ ∃ b2, (zs_R S 4000 p0) = some b2 ∧ zs_K S b2 = some (.inl 5) ∧ zs_C X d 4094 [.ref p0, .int (0 : Int32), .int (zs_I S 5005 b2)] S (zs_kI (fun v6 S5 => (zs_K S5 p0 = some (.inl 4) ∧ ∃ b8, (zs_R S5 4000 p0) = some b8 ∧ zs_K S5 b8 = some (.inl 5) ∧ zs_C X d 5004 [.ref b8] S5 (zs_kV (fun S11 => (zs_K S11 p0 = some (.inl 4) ∧ zs_C X d 4108 [.ref p0] S11 (zs_kR (fun v15 S14 => (zs_K S14 p0 = some (.inl 4) ∧ zs_C X d 4096 [.ref p0, va_rf v15] S14 (zs_kV (fun S17 => w_X5_conditional_30 X d p0 (zs_I S 5005 b2) S17 Q) Q))) Q))) Q))) Q))
theorem u_X5_conditional {σ : Nat → Nat} {n0 : Nat} {bf : ab_B} {d : Nat} {p0 : Nat} {S : zs_T} {Q : zs_Q} (hB : zt_B bf) (hd : 1 ≤ d) (h : w_X5_conditional (zx σ n0 bf) (d - 1) p0 S Q) : zs_C (zx σ n0 bf) d 4107 [.ref p0] S Q := by
  have hL : lv_args 0 [.ref p0] = [(0, .ref p0)] := rfl
  refine zs_C.of1 (hB.2 4107 (by decide) (by decide)) hd (by rw [hL]; exact zs_sub_self _ (by exact ⟨rfl, trivial⟩)) ?_
  rw [hL]
  clear hL
  unfold w_X5_conditional at h
  refine zu_aload_n d_4107_0 rfl (zs_ra _) ?_
  obtain ⟨k1, h⟩ := h
  refine zg_4_5 rfl d_4107_1 k1 ?_
  obtain ⟨b2, e3, h⟩ := h
  refine zs_stk0 (zs_rfe e3) ?_
  obtain ⟨k4, h⟩ := h
  refine zg_4_11 rfl d_4107_4 k4 ?_
  refine zu_istore_n d_4107_7 (zs_lt zq_4107 rfl) ?_
  refine zu_aload_n d_4107_8 rfl (zs_ra _) ?_
  refine zu_iconst d_4107_9 zi_0 ?_
  refine zu_iload_n d_4107_10 rfl ?_
  refine zc_4_273 (x0 := (0 : Int32)) (x1 := (zs_I S 5005 b2)) hB rfl k1 d_4107_11 (Nat.le_of_ble_eq_true rfl) h (fun v6 S5 h => ?_)
  refine zu_pop d_4107_14 rfl ?_
  refine zu_aload_n d_4107_15 rfl (zs_ra _) ?_
  obtain ⟨k7, h⟩ := h
  refine zg_4_5 rfl d_4107_16 k7 ?_
  obtain ⟨b8, e9, h⟩ := h
  refine zs_stk0 (zs_rfe e9) ?_
  obtain ⟨k10, h⟩ := h
  refine zc_4_29  hB rfl k10 d_4107_19 (Nat.le_of_ble_eq_true rfl) h (fun S11 h => ?_)
  refine zu_aload_n d_4107_22 rfl (zs_ra _) ?_
  refine zu_aload_n d_4107_23 rfl (zs_ra _) ?_
  obtain ⟨k13, h⟩ := h
  refine zc_4_772  hB rfl k13 d_4107_24 (Nat.le_of_ble_eq_true rfl) h (fun v15 S14 h => ?_)
  obtain ⟨k16, h⟩ := h
  refine zc_4_721 (x0 := v15) hB rfl k16 d_4107_27 (Nat.le_of_ble_eq_true rfl) h (fun S17 h => ?_)
  exact (u_X5_conditional_30 hB h).weak ⟨rfl, rfl, trivial⟩
