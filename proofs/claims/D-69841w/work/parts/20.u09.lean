/-! printed by gen_all.py: what the methods compute -/
set_option maxRecDepth 100000
/-! SchemaPascal$Reader.listed()LSchemaPascal$Type; -/
theorem zm_4069 {σ : Nat → Nat} {n0 : Nat} {bf : ab_B} : ab_code (zx σ n0 bf).1 4069 = prog_9_method_29_code := rfl
theorem zq_4069 {σ : Nat → Nat} {n0 : Nat} {bf : ab_B} : ab_maxL (zx σ n0 bf).1 4069 = 6 := rfl
theorem zr_4069 {σ : Nat → Nat} {n0 : Nat} {bf : ab_B} : ab_ret (zx σ n0 bf).1 4069 = (Option.some (Jvm.ClassFile.FieldType.object "SchemaPascal$Type")) := rfl
theorem d_4069_0 {σ : Nat → Nat} {n0 : Nat} {bf : ab_B} : decode (ab_code (zx σ n0 bf).1 4069) 0 = .ok (.aload_n 0, 1) := zd zm_4069 (by decide +kernel)
theorem d_4069_1 {σ : Nat → Nat} {n0 : Nat} {bf : ab_B} : decode (ab_code (zx σ n0 bf).1 4069) 1 = .ok (.getfield 5, 3) := zd zm_4069 (by decide +kernel)
theorem d_4069_4 {σ : Nat → Nat} {n0 : Nat} {bf : ab_B} : decode (ab_code (zx σ n0 bf).1 4069) 4 = .ok (.invokevirtual 29, 3) := zd zm_4069 (by decide +kernel)
theorem d_4069_7 {σ : Nat → Nat} {n0 : Nat} {bf : ab_B} : decode (ab_code (zx σ n0 bf).1 4069) 7 = .ok (.aload_n 0, 1) := zd zm_4069 (by decide +kernel)
theorem d_4069_8 {σ : Nat → Nat} {n0 : Nat} {bf : ab_B} : decode (ab_code (zx σ n0 bf).1 4069) 8 = .ok (.iconst 3, 1) := zd zm_4069 (by decide +kernel)
theorem d_4069_9 {σ : Nat → Nat} {n0 : Nat} {bf : ab_B} : decode (ab_code (zx σ n0 bf).1 4069) 9 = .ok (.invokevirtual 144, 3) := zd zm_4069 (by decide +kernel)
theorem d_4069_12 {σ : Nat → Nat} {n0 : Nat} {bf : ab_B} : decode (ab_code (zx σ n0 bf).1 4069) 12 = .ok (.astore_n 1, 1) := zd zm_4069 (by decide +kernel)
theorem d_4069_13 {σ : Nat → Nat} {n0 : Nat} {bf : ab_B} : decode (ab_code (zx σ n0 bf).1 4069) 13 = .ok (.new 51, 3) := zd zm_4069 (by decide +kernel)
theorem d_4069_16 {σ : Nat → Nat} {n0 : Nat} {bf : ab_B} : decode (ab_code (zx σ n0 bf).1 4069) 16 = .ok (.dup, 1) := zd zm_4069 (by decide +kernel)
theorem d_4069_17 {σ : Nat → Nat} {n0 : Nat} {bf : ab_B} : decode (ab_code (zx σ n0 bf).1 4069) 17 = .ok (.invokespecial 326, 3) := zd zm_4069 (by decide +kernel)
theorem d_4069_20 {σ : Nat → Nat} {n0 : Nat} {bf : ab_B} : decode (ab_code (zx σ n0 bf).1 4069) 20 = .ok (.astore_n 2, 1) := zd zm_4069 (by decide +kernel)
theorem d_4069_21 {σ : Nat → Nat} {n0 : Nat} {bf : ab_B} : decode (ab_code (zx σ n0 bf).1 4069) 21 = .ok (.iconst 1, 1) := zd zm_4069 (by decide +kernel)
theorem d_4069_22 {σ : Nat → Nat} {n0 : Nat} {bf : ab_B} : decode (ab_code (zx σ n0 bf).1 4069) 22 = .ok (.istore_n 3, 1) := zd zm_4069 (by decide +kernel)
theorem d_4069_23 {σ : Nat → Nat} {n0 : Nat} {bf : ab_B} : decode (ab_code (zx σ n0 bf).1 4069) 23 = .ok (.iload_n 3, 1) := zd zm_4069 (by decide +kernel)
theorem d_4069_24 {σ : Nat → Nat} {n0 : Nat} {bf : ab_B} : decode (ab_code (zx σ n0 bf).1 4069) 24 = .ok (.ifCond .eq 147, 3) := zd zm_4069 (by decide +kernel)
theorem d_4069_27 {σ : Nat → Nat} {n0 : Nat} {bf : ab_B} : decode (ab_code (zx σ n0 bf).1 4069) 27 = .ok (.aload_n 0, 1) := zd zm_4069 (by decide +kernel)
theorem d_4069_28 {σ : Nat → Nat} {n0 : Nat} {bf : ab_B} : decode (ab_code (zx σ n0 bf).1 4069) 28 = .ok (.getfield 5, 3) := zd zm_4069 (by decide +kernel)
theorem d_4069_31 {σ : Nat → Nat} {n0 : Nat} {bf : ab_B} : decode (ab_code (zx σ n0 bf).1 4069) 31 = .ok (.invokevirtual 36, 3) := zd zm_4069 (by decide +kernel)
theorem d_4069_34 {σ : Nat → Nat} {n0 : Nat} {bf : ab_B} : decode (ab_code (zx σ n0 bf).1 4069) 34 = .ok (.ifCond .ne 9, 3) := zd zm_4069 (by decide +kernel)
theorem d_4069_37 {σ : Nat → Nat} {n0 : Nat} {bf : ab_B} : decode (ab_code (zx σ n0 bf).1 4069) 37 = .ok (.aload_n 0, 1) := zd zm_4069 (by decide +kernel)
theorem d_4069_38 {σ : Nat → Nat} {n0 : Nat} {bf : ab_B} : decode (ab_code (zx σ n0 bf).1 4069) 38 = .ok (.iconst 2, 1) := zd zm_4069 (by decide +kernel)
theorem d_4069_39 {σ : Nat → Nat} {n0 : Nat} {bf : ab_B} : decode (ab_code (zx σ n0 bf).1 4069) 39 = .ok (.invokevirtual 25, 3) := zd zm_4069 (by decide +kernel)
theorem d_4069_42 {σ : Nat → Nat} {n0 : Nat} {bf : ab_B} : decode (ab_code (zx σ n0 bf).1 4069) 42 = .ok (.athrow, 1) := zd zm_4069 (by decide +kernel)
theorem d_4069_43 {σ : Nat → Nat} {n0 : Nat} {bf : ab_B} : decode (ab_code (zx σ n0 bf).1 4069) 43 = .ok (.aload_n 0, 1) := zd zm_4069 (by decide +kernel)
theorem d_4069_44 {σ : Nat → Nat} {n0 : Nat} {bf : ab_B} : decode (ab_code (zx σ n0 bf).1 4069) 44 = .ok (.aload_n 0, 1) := zd zm_4069 (by decide +kernel)
theorem d_4069_45 {σ : Nat → Nat} {n0 : Nat} {bf : ab_B} : decode (ab_code (zx σ n0 bf).1 4069) 45 = .ok (.getfield 5, 3) := zd zm_4069 (by decide +kernel)
theorem d_4069_48 {σ : Nat → Nat} {n0 : Nat} {bf : ab_B} : decode (ab_code (zx σ n0 bf).1 4069) 48 = .ok (.getfield 40, 3) := zd zm_4069 (by decide +kernel)
theorem d_4069_51 {σ : Nat → Nat} {n0 : Nat} {bf : ab_B} : decode (ab_code (zx σ n0 bf).1 4069) 51 = .ok (.invokevirtual 118, 3) := zd zm_4069 (by decide +kernel)
theorem d_4069_54 {σ : Nat → Nat} {n0 : Nat} {bf : ab_B} : decode (ab_code (zx σ n0 bf).1 4069) 54 = .ok (.ifnull 7, 3) := zd zm_4069 (by decide +kernel)
theorem d_4069_57 {σ : Nat → Nat} {n0 : Nat} {bf : ab_B} : decode (ab_code (zx σ n0 bf).1 4069) 57 = .ok (.iconst 1, 1) := zd zm_4069 (by decide +kernel)
theorem d_4069_58 {σ : Nat → Nat} {n0 : Nat} {bf : ab_B} : decode (ab_code (zx σ n0 bf).1 4069) 58 = .ok (.goto 4, 3) := zd zm_4069 (by decide +kernel)
theorem d_4069_61 {σ : Nat → Nat} {n0 : Nat} {bf : ab_B} : decode (ab_code (zx σ n0 bf).1 4069) 61 = .ok (.iconst 0, 1) := zd zm_4069 (by decide +kernel)
theorem d_4069_62 {σ : Nat → Nat} {n0 : Nat} {bf : ab_B} : decode (ab_code (zx σ n0 bf).1 4069) 62 = .ok (.istore 4, 2) := zd zm_4069 (by decide +kernel)
theorem d_4069_64 {σ : Nat → Nat} {n0 : Nat} {bf : ab_B} : decode (ab_code (zx σ n0 bf).1 4069) 64 = .ok (.iconst 0, 1) := zd zm_4069 (by decide +kernel)
theorem d_4069_65 {σ : Nat → Nat} {n0 : Nat} {bf : ab_B} : decode (ab_code (zx σ n0 bf).1 4069) 65 = .ok (.istore 5, 2) := zd zm_4069 (by decide +kernel)
theorem d_4069_67 {σ : Nat → Nat} {n0 : Nat} {bf : ab_B} : decode (ab_code (zx σ n0 bf).1 4069) 67 = .ok (.iload 5, 2) := zd zm_4069 (by decide +kernel)
theorem d_4069_69 {σ : Nat → Nat} {n0 : Nat} {bf : ab_B} : decode (ab_code (zx σ n0 bf).1 4069) 69 = .ok (.aload_n 2, 1) := zd zm_4069 (by decide +kernel)
theorem d_4069_70 {σ : Nat → Nat} {n0 : Nat} {bf : ab_B} : decode (ab_code (zx σ n0 bf).1 4069) 70 = .ok (.invokevirtual 50, 3) := zd zm_4069 (by decide +kernel)
theorem d_4069_73 {σ : Nat → Nat} {n0 : Nat} {bf : ab_B} : decode (ab_code (zx σ n0 bf).1 4069) 73 = .ok (.if_icmp .ge 41, 3) := zd zm_4069 (by decide +kernel)
theorem d_4069_76 {σ : Nat → Nat} {n0 : Nat} {bf : ab_B} : decode (ab_code (zx σ n0 bf).1 4069) 76 = .ok (.iload 4, 2) := zd zm_4069 (by decide +kernel)
theorem d_4069_78 {σ : Nat → Nat} {n0 : Nat} {bf : ab_B} : decode (ab_code (zx σ n0 bf).1 4069) 78 = .ok (.aload_n 2, 1) := zd zm_4069 (by decide +kernel)
theorem d_4069_79 {σ : Nat → Nat} {n0 : Nat} {bf : ab_B} : decode (ab_code (zx σ n0 bf).1 4069) 79 = .ok (.iload 5, 2) := zd zm_4069 (by decide +kernel)
theorem d_4069_81 {σ : Nat → Nat} {n0 : Nat} {bf : ab_B} : decode (ab_code (zx σ n0 bf).1 4069) 81 = .ok (.invokevirtual 56, 3) := zd zm_4069 (by decide +kernel)
theorem d_4069_84 {σ : Nat → Nat} {n0 : Nat} {bf : ab_B} : decode (ab_code (zx σ n0 bf).1 4069) 84 = .ok (.checkcast 313, 3) := zd zm_4069 (by decide +kernel)
theorem d_4069_87 {σ : Nat → Nat} {n0 : Nat} {bf : ab_B} : decode (ab_code (zx σ n0 bf).1 4069) 87 = .ok (.invokevirtual 315, 3) := zd zm_4069 (by decide +kernel)
theorem d_4069_90 {σ : Nat → Nat} {n0 : Nat} {bf : ab_B} : decode (ab_code (zx σ n0 bf).1 4069) 90 = .ok (.aload_n 0, 1) := zd zm_4069 (by decide +kernel)
theorem d_4069_91 {σ : Nat → Nat} {n0 : Nat} {bf : ab_B} : decode (ab_code (zx σ n0 bf).1 4069) 91 = .ok (.getfield 5, 3) := zd zm_4069 (by decide +kernel)
theorem d_4069_94 {σ : Nat → Nat} {n0 : Nat} {bf : ab_B} : decode (ab_code (zx σ n0 bf).1 4069) 94 = .ok (.getfield 40, 3) := zd zm_4069 (by decide +kernel)
theorem d_4069_97 {σ : Nat → Nat} {n0 : Nat} {bf : ab_B} : decode (ab_code (zx σ n0 bf).1 4069) 97 = .ok (.if_icmp .ne 7, 3) := zd zm_4069 (by decide +kernel)
theorem d_4069_100 {σ : Nat → Nat} {n0 : Nat} {bf : ab_B} : decode (ab_code (zx σ n0 bf).1 4069) 100 = .ok (.iconst 1, 1) := zd zm_4069 (by decide +kernel)
theorem d_4069_101 {σ : Nat → Nat} {n0 : Nat} {bf : ab_B} : decode (ab_code (zx σ n0 bf).1 4069) 101 = .ok (.goto 4, 3) := zd zm_4069 (by decide +kernel)
theorem d_4069_104 {σ : Nat → Nat} {n0 : Nat} {bf : ab_B} : decode (ab_code (zx σ n0 bf).1 4069) 104 = .ok (.iconst 0, 1) := zd zm_4069 (by decide +kernel)
theorem d_4069_105 {σ : Nat → Nat} {n0 : Nat} {bf : ab_B} : decode (ab_code (zx σ n0 bf).1 4069) 105 = .ok (.ior, 1) := zd zm_4069 (by decide +kernel)
theorem d_4069_106 {σ : Nat → Nat} {n0 : Nat} {bf : ab_B} : decode (ab_code (zx σ n0 bf).1 4069) 106 = .ok (.istore 4, 2) := zd zm_4069 (by decide +kernel)
theorem d_4069_108 {σ : Nat → Nat} {n0 : Nat} {bf : ab_B} : decode (ab_code (zx σ n0 bf).1 4069) 108 = .ok (.iinc 5 1, 3) := zd zm_4069 (by decide +kernel)
theorem d_4069_111 {σ : Nat → Nat} {n0 : Nat} {bf : ab_B} : decode (ab_code (zx σ n0 bf).1 4069) 111 = .ok (.goto (-44), 3) := zd zm_4069 (by decide +kernel)
theorem d_4069_114 {σ : Nat → Nat} {n0 : Nat} {bf : ab_B} : decode (ab_code (zx σ n0 bf).1 4069) 114 = .ok (.iload 4, 2) := zd zm_4069 (by decide +kernel)
theorem d_4069_116 {σ : Nat → Nat} {n0 : Nat} {bf : ab_B} : decode (ab_code (zx σ n0 bf).1 4069) 116 = .ok (.ifCond .eq 9, 3) := zd zm_4069 (by decide +kernel)
theorem d_4069_119 {σ : Nat → Nat} {n0 : Nat} {bf : ab_B} : decode (ab_code (zx σ n0 bf).1 4069) 119 = .ok (.aload_n 0, 1) := zd zm_4069 (by decide +kernel)
theorem d_4069_120 {σ : Nat → Nat} {n0 : Nat} {bf : ab_B} : decode (ab_code (zx σ n0 bf).1 4069) 120 = .ok (.iconst 4, 1) := zd zm_4069 (by decide +kernel)
theorem d_4069_121 {σ : Nat → Nat} {n0 : Nat} {bf : ab_B} : decode (ab_code (zx σ n0 bf).1 4069) 121 = .ok (.invokevirtual 25, 3) := zd zm_4069 (by decide +kernel)
theorem d_4069_124 {σ : Nat → Nat} {n0 : Nat} {bf : ab_B} : decode (ab_code (zx σ n0 bf).1 4069) 124 = .ok (.athrow, 1) := zd zm_4069 (by decide +kernel)
theorem d_4069_125 {σ : Nat → Nat} {n0 : Nat} {bf : ab_B} : decode (ab_code (zx σ n0 bf).1 4069) 125 = .ok (.aload_n 2, 1) := zd zm_4069 (by decide +kernel)
theorem d_4069_126 {σ : Nat → Nat} {n0 : Nat} {bf : ab_B} : decode (ab_code (zx σ n0 bf).1 4069) 126 = .ok (.aload_n 0, 1) := zd zm_4069 (by decide +kernel)
theorem d_4069_127 {σ : Nat → Nat} {n0 : Nat} {bf : ab_B} : decode (ab_code (zx σ n0 bf).1 4069) 127 = .ok (.getfield 5, 3) := zd zm_4069 (by decide +kernel)
theorem d_4069_130 {σ : Nat → Nat} {n0 : Nat} {bf : ab_B} : decode (ab_code (zx σ n0 bf).1 4069) 130 = .ok (.getfield 40, 3) := zd zm_4069 (by decide +kernel)
theorem d_4069_133 {σ : Nat → Nat} {n0 : Nat} {bf : ab_B} : decode (ab_code (zx σ n0 bf).1 4069) 133 = .ok (.invokestatic 350, 3) := zd zm_4069 (by decide +kernel)
theorem d_4069_136 {σ : Nat → Nat} {n0 : Nat} {bf : ab_B} : decode (ab_code (zx σ n0 bf).1 4069) 136 = .ok (.invokevirtual 140, 3) := zd zm_4069 (by decide +kernel)
theorem d_4069_139 {σ : Nat → Nat} {n0 : Nat} {bf : ab_B} : decode (ab_code (zx σ n0 bf).1 4069) 139 = .ok (.pop, 1) := zd zm_4069 (by decide +kernel)
theorem d_4069_140 {σ : Nat → Nat} {n0 : Nat} {bf : ab_B} : decode (ab_code (zx σ n0 bf).1 4069) 140 = .ok (.aload_n 0, 1) := zd zm_4069 (by decide +kernel)
theorem d_4069_141 {σ : Nat → Nat} {n0 : Nat} {bf : ab_B} : decode (ab_code (zx σ n0 bf).1 4069) 141 = .ok (.getfield 5, 3) := zd zm_4069 (by decide +kernel)
theorem d_4069_144 {σ : Nat → Nat} {n0 : Nat} {bf : ab_B} : decode (ab_code (zx σ n0 bf).1 4069) 144 = .ok (.invokevirtual 29, 3) := zd zm_4069 (by decide +kernel)
theorem d_4069_147 {σ : Nat → Nat} {n0 : Nat} {bf : ab_B} : decode (ab_code (zx σ n0 bf).1 4069) 147 = .ok (.aload_n 0, 1) := zd zm_4069 (by decide +kernel)
theorem d_4069_148 {σ : Nat → Nat} {n0 : Nat} {bf : ab_B} : decode (ab_code (zx σ n0 bf).1 4069) 148 = .ok (.getfield 5, 3) := zd zm_4069 (by decide +kernel)
theorem d_4069_151 {σ : Nat → Nat} {n0 : Nat} {bf : ab_B} : decode (ab_code (zx σ n0 bf).1 4069) 151 = .ok (.bipush 44, 2) := zd zm_4069 (by decide +kernel)
theorem d_4069_153 {σ : Nat → Nat} {n0 : Nat} {bf : ab_B} : decode (ab_code (zx σ n0 bf).1 4069) 153 = .ok (.invokevirtual 21, 3) := zd zm_4069 (by decide +kernel)
theorem d_4069_156 {σ : Nat → Nat} {n0 : Nat} {bf : ab_B} : decode (ab_code (zx σ n0 bf).1 4069) 156 = .ok (.istore_n 3, 1) := zd zm_4069 (by decide +kernel)
theorem d_4069_157 {σ : Nat → Nat} {n0 : Nat} {bf : ab_B} : decode (ab_code (zx σ n0 bf).1 4069) 157 = .ok (.iload_n 3, 1) := zd zm_4069 (by decide +kernel)
theorem d_4069_158 {σ : Nat → Nat} {n0 : Nat} {bf : ab_B} : decode (ab_code (zx σ n0 bf).1 4069) 158 = .ok (.ifCond .eq 10, 3) := zd zm_4069 (by decide +kernel)
theorem d_4069_161 {σ : Nat → Nat} {n0 : Nat} {bf : ab_B} : decode (ab_code (zx σ n0 bf).1 4069) 161 = .ok (.aload_n 0, 1) := zd zm_4069 (by decide +kernel)
theorem d_4069_162 {σ : Nat → Nat} {n0 : Nat} {bf : ab_B} : decode (ab_code (zx σ n0 bf).1 4069) 162 = .ok (.getfield 5, 3) := zd zm_4069 (by decide +kernel)
theorem d_4069_165 {σ : Nat → Nat} {n0 : Nat} {bf : ab_B} : decode (ab_code (zx σ n0 bf).1 4069) 165 = .ok (.invokevirtual 29, 3) := zd zm_4069 (by decide +kernel)
theorem d_4069_168 {σ : Nat → Nat} {n0 : Nat} {bf : ab_B} : decode (ab_code (zx σ n0 bf).1 4069) 168 = .ok (.goto (-145), 3) := zd zm_4069 (by decide +kernel)
theorem d_4069_171 {σ : Nat → Nat} {n0 : Nat} {bf : ab_B} : decode (ab_code (zx σ n0 bf).1 4069) 171 = .ok (.aload_n 0, 1) := zd zm_4069 (by decide +kernel)
theorem d_4069_172 {σ : Nat → Nat} {n0 : Nat} {bf : ab_B} : decode (ab_code (zx σ n0 bf).1 4069) 172 = .ok (.bipush 41, 2) := zd zm_4069 (by decide +kernel)
theorem d_4069_174 {σ : Nat → Nat} {n0 : Nat} {bf : ab_B} : decode (ab_code (zx σ n0 bf).1 4069) 174 = .ok (.invokevirtual 224, 3) := zd zm_4069 (by decide +kernel)
theorem d_4069_177 {σ : Nat → Nat} {n0 : Nat} {bf : ab_B} : decode (ab_code (zx σ n0 bf).1 4069) 177 = .ok (.iconst 0, 1) := zd zm_4069 (by decide +kernel)
theorem d_4069_178 {σ : Nat → Nat} {n0 : Nat} {bf : ab_B} : decode (ab_code (zx σ n0 bf).1 4069) 178 = .ok (.istore 4, 2) := zd zm_4069 (by decide +kernel)
theorem d_4069_180 {σ : Nat → Nat} {n0 : Nat} {bf : ab_B} : decode (ab_code (zx σ n0 bf).1 4069) 180 = .ok (.iload 4, 2) := zd zm_4069 (by decide +kernel)
theorem d_4069_182 {σ : Nat → Nat} {n0 : Nat} {bf : ab_B} : decode (ab_code (zx σ n0 bf).1 4069) 182 = .ok (.aload_n 2, 1) := zd zm_4069 (by decide +kernel)
theorem d_4069_183 {σ : Nat → Nat} {n0 : Nat} {bf : ab_B} : decode (ab_code (zx σ n0 bf).1 4069) 183 = .ok (.invokevirtual 50, 3) := zd zm_4069 (by decide +kernel)
theorem d_4069_186 {σ : Nat → Nat} {n0 : Nat} {bf : ab_B} : decode (ab_code (zx σ n0 bf).1 4069) 186 = .ok (.if_icmp .ge 33, 3) := zd zm_4069 (by decide +kernel)
theorem d_4069_189 {σ : Nat → Nat} {n0 : Nat} {bf : ab_B} : decode (ab_code (zx σ n0 bf).1 4069) 189 = .ok (.aload_n 0, 1) := zd zm_4069 (by decide +kernel)
theorem d_4069_190 {σ : Nat → Nat} {n0 : Nat} {bf : ab_B} : decode (ab_code (zx σ n0 bf).1 4069) 190 = .ok (.aload_n 2, 1) := zd zm_4069 (by decide +kernel)
theorem d_4069_191 {σ : Nat → Nat} {n0 : Nat} {bf : ab_B} : decode (ab_code (zx σ n0 bf).1 4069) 191 = .ok (.iload 4, 2) := zd zm_4069 (by decide +kernel)
theorem d_4069_193 {σ : Nat → Nat} {n0 : Nat} {bf : ab_B} : decode (ab_code (zx σ n0 bf).1 4069) 193 = .ok (.invokevirtual 56, 3) := zd zm_4069 (by decide +kernel)
theorem d_4069_196 {σ : Nat → Nat} {n0 : Nat} {bf : ab_B} : decode (ab_code (zx σ n0 bf).1 4069) 196 = .ok (.checkcast 313, 3) := zd zm_4069 (by decide +kernel)
theorem d_4069_199 {σ : Nat → Nat} {n0 : Nat} {bf : ab_B} : decode (ab_code (zx σ n0 bf).1 4069) 199 = .ok (.invokevirtual 315, 3) := zd zm_4069 (by decide +kernel)
theorem d_4069_202 {σ : Nat → Nat} {n0 : Nat} {bf : ab_B} : decode (ab_code (zx σ n0 bf).1 4069) 202 = .ok (.iconst 0, 1) := zd zm_4069 (by decide +kernel)
theorem d_4069_203 {σ : Nat → Nat} {n0 : Nat} {bf : ab_B} : decode (ab_code (zx σ n0 bf).1 4069) 203 = .ok (.aload_n 1, 1) := zd zm_4069 (by decide +kernel)
theorem d_4069_204 {σ : Nat → Nat} {n0 : Nat} {bf : ab_B} : decode (ab_code (zx σ n0 bf).1 4069) 204 = .ok (.invokevirtual 165, 3) := zd zm_4069 (by decide +kernel)
theorem d_4069_207 {σ : Nat → Nat} {n0 : Nat} {bf : ab_B} : decode (ab_code (zx σ n0 bf).1 4069) 207 = .ok (.iload 4, 2) := zd zm_4069 (by decide +kernel)
theorem d_4069_209 {σ : Nat → Nat} {n0 : Nat} {bf : ab_B} : decode (ab_code (zx σ n0 bf).1 4069) 209 = .ok (.i2l, 1) := zd zm_4069 (by decide +kernel)
theorem d_4069_210 {σ : Nat → Nat} {n0 : Nat} {bf : ab_B} : decode (ab_code (zx σ n0 bf).1 4069) 210 = .ok (.putfield 168, 3) := zd zm_4069 (by decide +kernel)
theorem d_4069_213 {σ : Nat → Nat} {n0 : Nat} {bf : ab_B} : decode (ab_code (zx σ n0 bf).1 4069) 213 = .ok (.iinc 4 1, 3) := zd zm_4069 (by decide +kernel)
theorem d_4069_216 {σ : Nat → Nat} {n0 : Nat} {bf : ab_B} : decode (ab_code (zx σ n0 bf).1 4069) 216 = .ok (.goto (-36), 3) := zd zm_4069 (by decide +kernel)
theorem d_4069_219 {σ : Nat → Nat} {n0 : Nat} {bf : ab_B} : decode (ab_code (zx σ n0 bf).1 4069) 219 = .ok (.aload_n 1, 1) := zd zm_4069 (by decide +kernel)
theorem d_4069_220 {σ : Nat → Nat} {n0 : Nat} {bf : ab_B} : decode (ab_code (zx σ n0 bf).1 4069) 220 = .ok (.lconst 0, 1) := zd zm_4069 (by decide +kernel)
theorem d_4069_221 {σ : Nat → Nat} {n0 : Nat} {bf : ab_B} : decode (ab_code (zx σ n0 bf).1 4069) 221 = .ok (.aload_n 1, 1) := zd zm_4069 (by decide +kernel)
theorem d_4069_222 {σ : Nat → Nat} {n0 : Nat} {bf : ab_B} : decode (ab_code (zx σ n0 bf).1 4069) 222 = .ok (.iconst 0, 1) := zd zm_4069 (by decide +kernel)
theorem d_4069_223 {σ : Nat → Nat} {n0 : Nat} {bf : ab_B} : decode (ab_code (zx σ n0 bf).1 4069) 223 = .ok (.invokestatic 470, 3) := zd zm_4069 (by decide +kernel)
theorem d_4069_226 {σ : Nat → Nat} {n0 : Nat} {bf : ab_B} : decode (ab_code (zx σ n0 bf).1 4069) 226 = .ok (.putfield 446, 3) := zd zm_4069 (by decide +kernel)
theorem d_4069_229 {σ : Nat → Nat} {n0 : Nat} {bf : ab_B} : decode (ab_code (zx σ n0 bf).1 4069) 229 = .ok (.aload_n 1, 1) := zd zm_4069 (by decide +kernel)
theorem d_4069_230 {σ : Nat → Nat} {n0 : Nat} {bf : ab_B} : decode (ab_code (zx σ n0 bf).1 4069) 230 = .ok (.aload_n 2, 1) := zd zm_4069 (by decide +kernel)
theorem d_4069_231 {σ : Nat → Nat} {n0 : Nat} {bf : ab_B} : decode (ab_code (zx σ n0 bf).1 4069) 231 = .ok (.invokevirtual 50, 3) := zd zm_4069 (by decide +kernel)
theorem d_4069_234 {σ : Nat → Nat} {n0 : Nat} {bf : ab_B} : decode (ab_code (zx σ n0 bf).1 4069) 234 = .ok (.iconst 1, 1) := zd zm_4069 (by decide +kernel)
theorem d_4069_235 {σ : Nat → Nat} {n0 : Nat} {bf : ab_B} : decode (ab_code (zx σ n0 bf).1 4069) 235 = .ok (.isub, 1) := zd zm_4069 (by decide +kernel)
theorem d_4069_236 {σ : Nat → Nat} {n0 : Nat} {bf : ab_B} : decode (ab_code (zx σ n0 bf).1 4069) 236 = .ok (.i2l, 1) := zd zm_4069 (by decide +kernel)
theorem d_4069_237 {σ : Nat → Nat} {n0 : Nat} {bf : ab_B} : decode (ab_code (zx σ n0 bf).1 4069) 237 = .ok (.aload_n 1, 1) := zd zm_4069 (by decide +kernel)
theorem d_4069_238 {σ : Nat → Nat} {n0 : Nat} {bf : ab_B} : decode (ab_code (zx σ n0 bf).1 4069) 238 = .ok (.iconst 0, 1) := zd zm_4069 (by decide +kernel)
theorem d_4069_239 {σ : Nat → Nat} {n0 : Nat} {bf : ab_B} : decode (ab_code (zx σ n0 bf).1 4069) 239 = .ok (.invokestatic 470, 3) := zd zm_4069 (by decide +kernel)
theorem d_4069_242 {σ : Nat → Nat} {n0 : Nat} {bf : ab_B} : decode (ab_code (zx σ n0 bf).1 4069) 242 = .ok (.putfield 453, 3) := zd zm_4069 (by decide +kernel)
theorem d_4069_245 {σ : Nat → Nat} {n0 : Nat} {bf : ab_B} : decode (ab_code (zx σ n0 bf).1 4069) 245 = .ok (.aload_n 1, 1) := zd zm_4069 (by decide +kernel)
theorem d_4069_246 {σ : Nat → Nat} {n0 : Nat} {bf : ab_B} : decode (ab_code (zx σ n0 bf).1 4069) 246 = .ok (.areturn, 1) := zd zm_4069 (by decide +kernel)
def w_X5_listed_23 (X : zs_X) (d : Nat) (p0 : Nat) (p1 : Option Nat) (p2 : Option Nat) (p3 : Int32) (S : zs_T) (Q : zs_Q) : Prop :=
  (((p3 = 0 → (zs_K S p0 = some (.inl 4) ∧ zs_C X d 4008 [.ref p0, .int (41 : Int32)] S (zs_kV (fun S3 => (zs_U X d 4069 180 [(0, .ref p0), (1, va_rf p1), (2, va_rf p2), (4, .int (0 : Int32))] [] S3 Q)) Q))) ∧ (¬ (p3 = 0) → (zs_K S p0 = some (.inl 4) ∧ ∃ b6, (zs_R S 4000 p0) = some b6 ∧ zs_K S b6 = some (.inl 5) ∧ zs_C X d 5016 [.ref b6] S (zs_kI (fun v10 S9 => (((¬ v10 = 0 → (zs_K S9 p0 = some (.inl 4) ∧ ∃ b13, (zs_R S9 4000 p0) = some b13 ∧ zs_K S9 b13 = some (.inl 5) ∧ zs_C X d 4012 [.ref p0, .int (zs_I S9 5004 b13)] S9 (zs_kR (fun v17 S16 => (((v17 = none → (zs_U X d 4069 67 [(0, .ref p0), (1, va_rf p1), (2, va_rf p2), (4, .int (0 : Int32)), (5, .int (0 : Int32))] [] S16 Q)) ∧ (∀ b18, v17 = some b18 → (zs_U X d 4069 67 [(0, .ref p0), (1, va_rf p1), (2, va_rf p2), (4, .int (1 : Int32)), (5, .int (0 : Int32))] [] S16 Q))))) Q))) ∧ (¬ (¬ v10 = 0) → (zs_K S9 p0 = some (.inl 4) ∧ zs_C X d 4006 [.ref p0, .int (2 : Int32)] S9 (zs_kR (fun v22 S21 => (∃ b23, v22 = some b23 ∧ Q (.threw b23) S21)) Q)))))) Q)))))
theorem u_X5_listed_23 {σ : Nat → Nat} {n0 : Nat} {bf : ab_B} {d : Nat} {p0 : Nat} {p1 : Option Nat} {p2 : Option Nat} {p3 : Int32} {S : zs_T} {Q : zs_Q} (hB : zt_B bf) (h : w_X5_listed_23 (zx σ n0 bf) d p0 p1 p2 p3 S Q) : zs_U (zx σ n0 bf) d 4069 23 [(0, .ref p0), (1, va_rf p1), (2, va_rf p2), (3, .int p3)] [] S Q := by
  unfold w_X5_listed_23 at h
  refine zu_iload_n d_4069_23 rfl ?_
  refine zu_ifeq (t := 171) d_4069_24 rfl (fun c1 => ?_) (fun c1 => ?_)
  · have h := h.1 c1
    refine zu_aload_n d_4069_171 rfl (zs_ra _) ?_
    refine zu_bipush d_4069_172 zj_41 ?_
    obtain ⟨k2, h⟩ := h
    refine zc_4_224 (x0 := (41 : Int32)) hB rfl k2 d_4069_174 (Nat.le_of_ble_eq_true rfl) h (fun S3 h => ?_)
    refine zu_iconst d_4069_177 zi_0 ?_
    refine zu_istore d_4069_178 (zs_lt zq_4069 rfl) ?_
    exact h.weak ⟨rfl, rfl, rfl, rfl, trivial⟩
  · have h := h.2 c1
    refine zu_aload_n d_4069_27 rfl (zs_ra _) ?_
    obtain ⟨k5, h⟩ := h
    refine zg_4_5 rfl d_4069_28 k5 ?_
    obtain ⟨b6, e7, h⟩ := h
    refine zs_stk0 (zs_rfe e7) ?_
    obtain ⟨k8, h⟩ := h
    refine zc_4_36  hB rfl k8 d_4069_31 (Nat.le_of_ble_eq_true rfl) h (fun v10 S9 h => ?_)
    refine zu_ifne (t := 43) d_4069_34 rfl (fun c11 => ?_) (fun c11 => ?_)
    · have h := h.1 c11
      refine zu_aload_n d_4069_43 rfl (zs_ra _) ?_
      refine zu_aload_n d_4069_44 rfl (zs_ra _) ?_
      obtain ⟨k12, h⟩ := h
      refine zg_4_5 rfl d_4069_45 k12 ?_
      obtain ⟨b13, e14, h⟩ := h
      refine zs_stk0 (zs_rfe e14) ?_
      obtain ⟨k15, h⟩ := h
      refine zg_4_40 rfl d_4069_48 k15 ?_
      refine zc_4_118 (x0 := (zs_I S9 5004 b13)) hB rfl k12 d_4069_51 (Nat.le_of_ble_eq_true rfl) h (fun v17 S16 h => ?_)
      refine zu_ifnull (u := v17) (t := 61) d_4069_54 rfl rfl (fun e19 => ?_) (fun b18 e19 => ?_)
      · have h := h.1 e19
        refine zu_iconst d_4069_61 zi_0 ?_
        refine zu_istore d_4069_62 (zs_lt zq_4069 rfl) ?_
        refine zu_iconst d_4069_64 zi_0 ?_
        refine zu_istore d_4069_65 (zs_lt zq_4069 rfl) ?_
        exact h.weak ⟨rfl, rfl, rfl, rfl, rfl, trivial⟩
      · have h := h.2 b18 e19
        refine zu_iconst d_4069_57 zi_1 ?_
        refine zu_goto (t := 62) d_4069_58 rfl ?_
        refine zu_istore d_4069_62 (zs_lt zq_4069 rfl) ?_
        refine zu_iconst d_4069_64 zi_0 ?_
        refine zu_istore d_4069_65 (zs_lt zq_4069 rfl) ?_
        exact h.weak ⟨rfl, rfl, rfl, rfl, rfl, trivial⟩
    · have h := h.2 c11
      refine zu_aload_n d_4069_37 rfl (zs_ra _) ?_
      refine zu_iconst d_4069_38 zi_2 ?_
      obtain ⟨k20, h⟩ := h
      refine zc_4_25 (x0 := (2 : Int32)) hB rfl k20 d_4069_39 (Nat.le_of_ble_eq_true rfl) h (fun v22 S21 h => ?_)
      obtain ⟨b23, e24, h⟩ := h
      refine zs_stk0 (zs_rfe e24) ?_
      exact zu_throw d_4069_42 h
def w_X5_listed_147 (X : zs_X) (d : Nat) (p0 : Nat) (p1 : Option Nat) (p2 : Option Nat) (S : zs_T) (Q : zs_Q) : Prop :=
  (zs_K S p0 = some (.inl 4) ∧ ∃ b2, (zs_R S 4000 p0) = some b2 ∧ zs_K S b2 = some (.inl 5) ∧ zs_C X d 5017 [.ref b2, .int (44 : Int32)] S (zs_kI (fun v6 S5 => (((v6 = 0 → (zs_U X d 4069 23 [(0, .ref p0), (1, va_rf p1), (2, va_rf p2), (3, .int v6)] [] S5 Q)) ∧ (¬ (v6 = 0) → (zs_K S5 p0 = some (.inl 4) ∧ ∃ b9, (zs_R S5 4000 p0) = some b9 ∧ zs_K S5 b9 = some (.inl 5) ∧ zs_C X d 5004 [.ref b9] S5 (zs_kV (fun S12 => (zs_U X d 4069 23 [(0, .ref p0), (1, va_rf p1), (2, va_rf p2), (3, .int v6)] [] S12 Q)) Q)))))) Q))
theorem u_X5_listed_147 {σ : Nat → Nat} {n0 : Nat} {bf : ab_B} {d : Nat} {p0 : Nat} {p1 : Option Nat} {p2 : Option Nat} {S : zs_T} {Q : zs_Q} (hB : zt_B bf) (h : w_X5_listed_147 (zx σ n0 bf) d p0 p1 p2 S Q) : zs_U (zx σ n0 bf) d 4069 147 [(0, .ref p0), (1, va_rf p1), (2, va_rf p2)] [] S Q := by
  unfold w_X5_listed_147 at h
  refine zu_aload_n d_4069_147 rfl (zs_ra _) ?_
  obtain ⟨k1, h⟩ := h
  refine zg_4_5 rfl d_4069_148 k1 ?_
  refine zu_bipush d_4069_151 zj_44 ?_
  obtain ⟨b2, e3, h⟩ := h
  refine zs_stk1 (zs_rfe e3) ?_
  obtain ⟨k4, h⟩ := h
  refine zc_4_21 (x0 := (44 : Int32)) hB rfl k4 d_4069_153 (Nat.le_of_ble_eq_true rfl) h (fun v6 S5 h => ?_)
  refine zu_istore_n d_4069_156 (zs_lt zq_4069 rfl) ?_
  refine zs_U.weak (L1 := [(3, .int v6), (0, .ref p0), (1, va_rf p1), (2, va_rf p2)]) ?_ ⟨rfl, zs_gp1 rfl (Or.inl rfl) rfl, zs_gp1 rfl (Or.inl (zs_cat _)) rfl, zs_gp1 rfl (Or.inl (zs_cat _)) rfl, trivial⟩
  refine zu_iload_n d_4069_157 rfl ?_
  refine zu_ifeq (t := 168) d_4069_158 rfl (fun c7 => ?_) (fun c7 => ?_)
  · have h := h.1 c7
    refine zu_goto (t := 23) d_4069_168 rfl ?_
    exact h.weak ⟨rfl, rfl, rfl, rfl, trivial⟩
  · have h := h.2 c7
    refine zu_aload_n d_4069_161 rfl (zs_ra _) ?_
    obtain ⟨k8, h⟩ := h
    refine zg_4_5 rfl d_4069_162 k8 ?_
    obtain ⟨b9, e10, h⟩ := h
    refine zs_stk0 (zs_rfe e10) ?_
    obtain ⟨k11, h⟩ := h
    refine zc_4_29  hB rfl k11 d_4069_165 (Nat.le_of_ble_eq_true rfl) h (fun S12 h => ?_)
    refine zu_goto (t := 23) d_4069_168 rfl ?_
    exact h.weak ⟨rfl, rfl, rfl, rfl, trivial⟩
def w_X5_listed_105 (X : zs_X) (d : Nat) (p0 : Nat) (p1 : Option Nat) (p2 : Option Nat) (p5 : Int32) (q0 : Int32) (q1 : Int32) (S : zs_T) (Q : zs_Q) : Prop :=
  (zs_U X d 4069 67 [(0, .ref p0), (1, va_rf p1), (2, va_rf p2), (4, .int (q0 ||| q1)), (5, .int (p5 + (1 : Int32)))] [] S Q)
theorem u_X5_listed_105 {σ : Nat → Nat} {n0 : Nat} {bf : ab_B} {d : Nat} {p0 : Nat} {p1 : Option Nat} {p2 : Option Nat} {p5 : Int32} {q0 : Int32} {q1 : Int32} {S : zs_T} {Q : zs_Q} (hB : zt_B bf) (h : w_X5_listed_105 (zx σ n0 bf) d p0 p1 p2 p5 q0 q1 S Q) : zs_U (zx σ n0 bf) d 4069 105 [(0, .ref p0), (1, va_rf p1), (2, va_rf p2), (5, .int p5)] [.int q1, .int q0] S Q := by
  unfold w_X5_listed_105 at h
  refine zu_stk d_4069_105 rfl rfl ?_
  refine zu_istore d_4069_106 (zs_lt zq_4069 rfl) ?_
  refine zu_iinc d_4069_108 rfl zi_1 (zs_lt zq_4069 rfl) ?_
  refine zu_goto (t := 67) d_4069_111 rfl ?_
  exact h.weak ⟨rfl, rfl, rfl, rfl, rfl, trivial⟩
def w_X5_listed_67 (X : zs_X) (d : Nat) (p0 : Nat) (p1 : Option Nat) (p2 : Option Nat) (p4 : Int32) (p5 : Int32) (S : zs_T) (Q : zs_Q) : Prop :=
  (∃ b1, p2 = some b1 ∧ zs_K S b1 = some (.inl 16) ∧ zs_C X d 16001 [.ref b1] S (zs_kI (fun v5 S4 => (((v5 ≤ p5 → (((p4 = 0 → (zs_K S4 p0 = some (.inl 4) ∧ ∃ b9, (zs_R S4 4000 p0) = some b9 ∧ zs_K S4 b9 = some (.inl 5) ∧ zs_C X d 21001 [.int (zs_I S4 5004 b9)] S4 (zs_kR (fun v13 S12 => (zs_K S12 b1 = some (.inl 16) ∧ zs_C X d 16002 [.ref b1, va_rf v13] S12 (zs_kI (fun v16 S15 => (zs_K S15 p0 = some (.inl 4) ∧ ∃ b18, (zs_R S15 4000 p0) = some b18 ∧ zs_K S15 b18 = some (.inl 5) ∧ zs_C X d 5004 [.ref b18] S15 (zs_kV (fun S21 => w_X5_listed_147 X d p0 p1 p2 S21 Q) Q))) Q))) Q))) ∧ (¬ (p4 = 0) → (zs_K S4 p0 = some (.inl 4) ∧ zs_C X d 4006 [.ref p0, .int (4 : Int32)] S4 (zs_kR (fun v25 S24 => (∃ b26, v25 = some b26 ∧ Q (.threw b26) S24)) Q)))))) ∧ (¬ (v5 ≤ p5) → (zs_K S4 b1 = some (.inl 16) ∧ zs_C X d 16009 [.ref b1, .int p5] S4 (zs_kR (fun v30 S29 => ((∀ a, v30 = some a → zs_K S29 a = some (.inl 21)) ∧ ∃ b32, v30 = some b32 ∧ zs_K S29 b32 = some (.inl 21) ∧ zs_C X d 21000 [.ref b32] S29 (zs_kI (fun v36 S35 => (zs_K S35 p0 = some (.inl 4) ∧ ∃ b38, (zs_R S35 4000 p0) = some b38 ∧ zs_K S35 b38 = some (.inl 5) ∧ ((¬ v36 = (zs_I S35 5004 b38) → (w_X5_listed_105 X d p0 p1 p2 p5 p4 (0 : Int32) S35 Q)) ∧ (¬ (¬ v36 = (zs_I S35 5004 b38)) → (w_X5_listed_105 X d p0 p1 p2 p5 p4 (1 : Int32) S35 Q))))) Q))) Q)))))) Q))
theorem u_X5_listed_67 {σ : Nat → Nat} {n0 : Nat} {bf : ab_B} {d : Nat} {p0 : Nat} {p1 : Option Nat} {p2 : Option Nat} {p4 : Int32} {p5 : Int32} {S : zs_T} {Q : zs_Q} (hB : zt_B bf) (h : w_X5_listed_67 (zx σ n0 bf) d p0 p1 p2 p4 p5 S Q) : zs_U (zx σ n0 bf) d 4069 67 [(0, .ref p0), (1, va_rf p1), (2, va_rf p2), (4, .int p4), (5, .int p5)] [] S Q := by
  unfold w_X5_listed_67 at h
  refine zu_iload d_4069_67 rfl ?_
  refine zu_aload_n d_4069_69 rfl (zs_rr _) ?_
  obtain ⟨b1, e2, h⟩ := h
  refine zs_stk0 (zs_rfe e2) ?_
  obtain ⟨k3, h⟩ := h
  refine zc_4_50  hB rfl k3 d_4069_70 (Nat.le_of_ble_eq_true rfl) h (fun v5 S4 h => ?_)
  refine zu_cmpge (t := 114) d_4069_73 rfl (fun c6 => ?_) (fun c6 => ?_)
  · have h := h.1 c6
    refine zu_iload d_4069_114 rfl ?_
    refine zu_ifeq (t := 125) d_4069_116 rfl (fun c7 => ?_) (fun c7 => ?_)
    · have h := h.1 c7
      refine zu_aload_n d_4069_125 rfl (zs_rr _) ?_
      refine zu_aload_n d_4069_126 rfl (zs_ra _) ?_
      obtain ⟨k8, h⟩ := h
      refine zg_4_5 rfl d_4069_127 k8 ?_
      obtain ⟨b9, e10, h⟩ := h
      refine zs_stk0 (zs_rfe e10) ?_
      obtain ⟨k11, h⟩ := h
      refine zg_4_40 rfl d_4069_130 k11 ?_
      refine zc_4_350 (x0 := (zs_I S4 5004 b9)) hB rfl d_4069_133 (by simp only [List.map_cons, List.map_nil, List.sum_cons, List.sum_nil, zs_cat, zs_cI, zs_cJ, zs_cA]; exact Nat.le_of_ble_eq_true rfl) h (fun v13 S12 h => ?_)
      refine zs_stk1 (zs_rfe e2) ?_
      obtain ⟨k14, h⟩ := h
      refine zc_4_140 (x0 := v13) hB rfl k14 d_4069_136 (Nat.le_of_ble_eq_true rfl) h (fun v16 S15 h => ?_)
      refine zu_pop d_4069_139 rfl ?_
      refine zu_aload_n d_4069_140 rfl (zs_ra _) ?_
      obtain ⟨k17, h⟩ := h
      refine zg_4_5 rfl d_4069_141 k17 ?_
      obtain ⟨b18, e19, h⟩ := h
      refine zs_stk0 (zs_rfe e19) ?_
      obtain ⟨k20, h⟩ := h
      refine zc_4_29  hB rfl k20 d_4069_144 (Nat.le_of_ble_eq_true rfl) h (fun S21 h => ?_)
      exact (u_X5_listed_147 hB h).weak ⟨rfl, rfl, rfl, trivial⟩
    · have h := h.2 c7
      refine zu_aload_n d_4069_119 rfl (zs_ra _) ?_
      refine zu_iconst d_4069_120 zi_4 ?_
      obtain ⟨k23, h⟩ := h
      refine zc_4_25 (x0 := (4 : Int32)) hB rfl k23 d_4069_121 (Nat.le_of_ble_eq_true rfl) h (fun v25 S24 h => ?_)
      obtain ⟨b26, e27, h⟩ := h
      refine zs_stk0 (zs_rfe e27) ?_
      exact zu_throw d_4069_124 h
  · have h := h.2 c6
    refine zu_iload d_4069_76 rfl ?_
    refine zu_aload_n d_4069_78 rfl (zs_rr _) ?_
    refine zu_iload d_4069_79 rfl ?_
    refine zs_stk1 (zs_rfe e2) ?_
    obtain ⟨k28, h⟩ := h
    refine zc_4_56 (x0 := p5) hB rfl k28 d_4069_81 (Nat.le_of_ble_eq_true rfl) h (fun v30 S29 h => ?_)
    obtain ⟨k31, h⟩ := h
    refine zk_4_313 (o := v30) rfl d_4069_84 k31 ?_
    obtain ⟨b32, e33, h⟩ := h
    refine zs_stk0 (zs_rfe e33) ?_
    obtain ⟨k34, h⟩ := h
    refine zc_4_315  hB rfl k34 d_4069_87 (Nat.le_of_ble_eq_true rfl) h (fun v36 S35 h => ?_)
    refine zu_aload_n d_4069_90 rfl (zs_ra _) ?_
    obtain ⟨k37, h⟩ := h
    refine zg_4_5 rfl d_4069_91 k37 ?_
    obtain ⟨b38, e39, h⟩ := h
    refine zs_stk0 (zs_rfe e39) ?_
    obtain ⟨k40, h⟩ := h
    refine zg_4_40 rfl d_4069_94 k40 ?_
    refine zu_cmpne (t := 104) d_4069_97 rfl (fun c41 => ?_) (fun c41 => ?_)
    · have h := h.1 c41
      refine zu_iconst d_4069_104 zi_0 ?_
      exact (u_X5_listed_105 hB h).weak ⟨rfl, rfl, rfl, rfl, trivial⟩
    · have h := h.2 c41
      refine zu_iconst d_4069_100 zi_1 ?_
      refine zu_goto (t := 105) d_4069_101 rfl ?_
      exact (u_X5_listed_105 hB h).weak ⟨rfl, rfl, rfl, rfl, trivial⟩
def w_X5_listed_245 (X : zs_X) (d : Nat) (p1 : Option Nat) (S : zs_T) (Q : zs_Q) : Prop :=
  (Q (.returned (some (va_rf p1))) S)
theorem u_X5_listed_245 {σ : Nat → Nat} {n0 : Nat} {bf : ab_B} {d : Nat} {p1 : Option Nat} {S : zs_T} {Q : zs_Q} (hB : zt_B bf) (h : w_X5_listed_245 (zx σ n0 bf) d p1 S Q) : zs_U (zx σ n0 bf) d 4069 245 [(1, va_rf p1)] [] S Q := by
  unfold w_X5_listed_245 at h
  refine zu_aload_n d_4069_245 rfl (zs_rr _) ?_
  exact zu_aret d_4069_246 zr_4069 (zs_rr _) h
def w_X5_listed_213 (X : zs_X) (d : Nat) (p0 : Nat) (p1 : Option Nat) (p2 : Option Nat) (p4 : Int32) (S : zs_T) (Q : zs_Q) : Prop :=
  (zs_U X d 4069 180 [(0, .ref p0), (1, va_rf p1), (2, va_rf p2), (4, .int (p4 + (1 : Int32)))] [] S Q)
theorem u_X5_listed_213 {σ : Nat → Nat} {n0 : Nat} {bf : ab_B} {d : Nat} {p0 : Nat} {p1 : Option Nat} {p2 : Option Nat} {p4 : Int32} {S : zs_T} {Q : zs_Q} (hB : zt_B bf) (h : w_X5_listed_213 (zx σ n0 bf) d p0 p1 p2 p4 S Q) : zs_U (zx σ n0 bf) d 4069 213 [(0, .ref p0), (1, va_rf p1), (2, va_rf p2), (4, .int p4)] [] S Q := by
  unfold w_X5_listed_213 at h
  refine zu_iinc d_4069_213 rfl zi_1 (zs_lt zq_4069 rfl) ?_
  refine zu_goto (t := 180) d_4069_216 rfl ?_
  exact h.weak ⟨rfl, rfl, rfl, rfl, trivial⟩
def w_X5_listed_180 (X : zs_X) (d : Nat) (p0 : Nat) (p1 : Option Nat) (p2 : Option Nat) (p4 : Int32) (S : zs_T) (Q : zs_Q) : Prop :=
  (∃ b1, p2 = some b1 ∧ zs_K S b1 = some (.inl 16) ∧ zs_C X d 16001 [.ref b1] S (zs_kI (fun v5 S4 => (((v5 ≤ p4 → (zs_C X d 4019 [.long (0 : Int64), va_rf p1, .int (0 : Int32)] S4 (zs_kR (fun v8 S7 => (∃ b9, p1 = some b9 ∧ zs_K S7 b9 = some (.inl 6) ∧ ab_n0 X.1 ≤ b9 ∧ ∀ S13, S13 = zs_sR S7 6004 b9 v8 → zs_K S7 b1 = some (.inl 16) ∧ zs_C X d 16001 [.ref b1] S13 (zs_kI (fun v18 S17 => (zs_C X d 4019 [.long (((v18 - (1 : Int32))).toInt64), va_rf p1, .int (0 : Int32)] S17 (zs_kR (fun v20 S19 => (zs_K S19 b9 = some (.inl 6) ∧ ∀ S22, S22 = zs_sR S19 6005 b9 v20 → w_X5_listed_245 X d p1 S22 Q)) Q))) Q))) Q))) ∧ (¬ (v5 ≤ p4) → (zs_K S4 b1 = some (.inl 16) ∧ zs_C X d 16009 [.ref b1, .int p4] S4 (zs_kR (fun v27 S26 => ((∀ a, v27 = some a → zs_K S26 a = some (.inl 21)) ∧ ∃ b29, v27 = some b29 ∧ zs_K S26 b29 = some (.inl 21) ∧ zs_C X d 21000 [.ref b29] S26 (zs_kI (fun v33 S32 => (zs_K S32 p0 = some (.inl 4) ∧ zs_C X d 4003 [.ref p0, .int v33, .int (0 : Int32), va_rf p1] S32 (zs_kR (fun v36 S35 => (∃ b37, v36 = some b37 ∧ zs_K S35 b37 = some (.inl 7) ∧ ab_n0 X.1 ≤ b37 ∧ ∀ S41, S41 = zs_sJ S35 7003 b37 ((p4).toInt64) → w_X5_listed_213 X d p0 p1 p2 p4 S41 Q)) Q))) Q))) Q)))))) Q))
theorem u_X5_listed_180 {σ : Nat → Nat} {n0 : Nat} {bf : ab_B} {d : Nat} {p0 : Nat} {p1 : Option Nat} {p2 : Option Nat} {p4 : Int32} {S : zs_T} {Q : zs_Q} (hB : zt_B bf) (h : w_X5_listed_180 (zx σ n0 bf) d p0 p1 p2 p4 S Q) : zs_U (zx σ n0 bf) d 4069 180 [(0, .ref p0), (1, va_rf p1), (2, va_rf p2), (4, .int p4)] [] S Q := by
  unfold w_X5_listed_180 at h
  refine zu_iload d_4069_180 rfl ?_
  refine zu_aload_n d_4069_182 rfl (zs_rr _) ?_
  obtain ⟨b1, e2, h⟩ := h
  refine zs_stk0 (zs_rfe e2) ?_
  obtain ⟨k3, h⟩ := h
  refine zc_4_50  hB rfl k3 d_4069_183 (Nat.le_of_ble_eq_true rfl) h (fun v5 S4 h => ?_)
  refine zu_cmpge (t := 219) d_4069_186 rfl (fun c6 => ?_) (fun c6 => ?_)
  · have h := h.1 c6
    refine zu_aload_n d_4069_219 rfl (zs_rr _) ?_
    refine zu_lconst (v := 0) d_4069_220 rfl ?_
    refine zu_aload_n d_4069_221 rfl (zs_rr _) ?_
    refine zu_iconst d_4069_222 zi_0 ?_
    refine zc_4_470 (x0 := (0 : Int64)) (x1 := p1) (x2 := (0 : Int32)) hB rfl d_4069_223 (by simp only [List.map_cons, List.map_nil, List.sum_cons, List.sum_nil, zs_cat, zs_cI, zs_cJ, zs_cA]; exact Nat.le_of_ble_eq_true rfl) h (fun v8 S7 h => ?_)
    obtain ⟨b9, e10, h⟩ := h
    refine zs_stk1 (zs_rfe e10) ?_
    obtain ⟨k11, h⟩ := h
    obtain ⟨k12, h⟩ := h
    refine zp_4_446 (v := v8) rfl d_4069_226 k11 k12 ?_
    generalize e14 : zs_sR S7 6004 b9 v8 = S13
    have h := h S13 e14.symm
    have K15 : ∀ b, zs_K S13 b = zs_K S7 b := zs_Kt e14 (zs_KsR _ _ _ _) (fun _ => rfl)
    refine zu_aload_n d_4069_229 rfl (zs_rr _) ?_
    refine zu_aload_n d_4069_230 rfl (zs_rr _) ?_
    refine zs_stk0 (zs_rfe e2) ?_
    obtain ⟨k16, h⟩ := h
    refine zc_4_50  hB rfl ((K15 _).trans k16) d_4069_231 (by simp only [List.map_cons, List.map_nil, List.sum_cons, List.sum_nil, zs_cat, zs_cI, zs_cJ, zs_cA]; exact Nat.le_of_ble_eq_true rfl) h (fun v18 S17 h => ?_)
    refine zu_iconst d_4069_234 zi_1 ?_
    refine zu_stk d_4069_235 rfl rfl ?_
    refine zu_stk d_4069_236 rfl rfl ?_
    refine zu_aload_n d_4069_237 rfl (zs_rr _) ?_
    refine zu_iconst d_4069_238 zi_0 ?_
    refine zc_4_470 (x0 := (((v18 - (1 : Int32))).toInt64)) (x1 := p1) (x2 := (0 : Int32)) hB rfl d_4069_239 (by simp only [List.map_cons, List.map_nil, List.sum_cons, List.sum_nil, zs_cat, zs_cI, zs_cJ, zs_cA]; exact Nat.le_of_ble_eq_true rfl) h (fun v20 S19 h => ?_)
    refine zs_stk1 (zs_rfe e10) ?_
    obtain ⟨k21, h⟩ := h
    refine zp_4_453 (v := v20) rfl d_4069_242 k21 k12 ?_
    generalize e23 : zs_sR S19 6005 b9 v20 = S22
    have h := h S22 e23.symm
    have K24 : ∀ b, zs_K S22 b = zs_K S19 b := zs_Kt e23 (zs_KsR _ _ _ _) (fun _ => rfl)
    exact (u_X5_listed_245 hB h).weak ⟨rfl, trivial⟩
  · have h := h.2 c6
    refine zu_aload_n d_4069_189 rfl (zs_ra _) ?_
    refine zu_aload_n d_4069_190 rfl (zs_rr _) ?_
    refine zu_iload d_4069_191 rfl ?_
    refine zs_stk1 (zs_rfe e2) ?_
    obtain ⟨k25, h⟩ := h
    refine zc_4_56 (x0 := p4) hB rfl k25 d_4069_193 (Nat.le_of_ble_eq_true rfl) h (fun v27 S26 h => ?_)
    obtain ⟨k28, h⟩ := h
    refine zk_4_313 (o := v27) rfl d_4069_196 k28 ?_
    obtain ⟨b29, e30, h⟩ := h
    refine zs_stk0 (zs_rfe e30) ?_
    obtain ⟨k31, h⟩ := h
    refine zc_4_315  hB rfl k31 d_4069_199 (Nat.le_of_ble_eq_true rfl) h (fun v33 S32 h => ?_)
    refine zu_iconst d_4069_202 zi_0 ?_
    refine zu_aload_n d_4069_203 rfl (zs_rr _) ?_
    obtain ⟨k34, h⟩ := h
    refine zc_4_165 (x0 := v33) (x1 := (0 : Int32)) (x2 := p1) hB rfl k34 d_4069_204 (Nat.le_of_ble_eq_true rfl) h (fun v36 S35 h => ?_)
    refine zu_iload d_4069_207 rfl ?_
    refine zu_stk d_4069_209 rfl rfl ?_
    obtain ⟨b37, e38, h⟩ := h
    refine zs_stk1 (zs_rfe e38) ?_
    obtain ⟨k39, h⟩ := h
    obtain ⟨k40, h⟩ := h
    refine zp_4_168 (v := ((p4).toInt64)) rfl d_4069_210 k39 k40 ?_
    generalize e42 : zs_sJ S35 7003 b37 ((p4).toInt64) = S41
    have h := h S41 e42.symm
    have K43 : ∀ b, zs_K S41 b = zs_K S35 b := zs_Kt e42 (zs_KsJ _ _ _ _) (fun _ => rfl)
    exact (u_X5_listed_213 hB h).weak ⟨rfl, rfl, rfl, rfl, trivial⟩
def w_X5_listed (X : zs_X) (d : Nat) (p0 : Nat) (S : zs_T) (Q : zs_Q) : Prop :=
  (zs_K S p0 = some (.inl 4) ∧ ∃ b2, (zs_R S 4000 p0) = some b2 ∧ zs_K S b2 = some (.inl 5) ∧ zs_C X d 5004 [.ref b2] S (zs_kV (fun S5 => (zs_K S5 p0 = some (.inl 4) ∧ zs_C X d 4002 [.ref p0, .int (3 : Int32)] S5 (zs_kR (fun v9 S8 => (∀ a10 S11, a10 = zs_N S8 → S11 = zs_nw S8 (.inl 16) 3 → zs_C X d 16000 [.ref a10] S11 (zs_kV (fun S15 => (zs_U X d 4069 23 [(0, .ref p0), (1, va_rf v9), (2, va_rf (some a10)), (3, .int (1 : Int32))] [] S15 Q)) Q))) Q))) Q))
theorem u_X5_listed {σ : Nat → Nat} {n0 : Nat} {bf : ab_B} {d : Nat} {p0 : Nat} {S : zs_T} {Q : zs_Q} (hB : zt_B bf) (hd : 1 ≤ d) (h : w_X5_listed (zx σ n0 bf) (d - 1) p0 S Q) : zs_C (zx σ n0 bf) d 4069 [.ref p0] S Q := by
  have hL : lv_args 0 [.ref p0] = [(0, .ref p0)] := rfl
  refine zs_C.of1 (hB.2 4069 (by decide) (by decide)) hd (by rw [hL]; exact zs_sub_self _ (by exact ⟨rfl, trivial⟩)) ?_
  rw [hL]
  clear hL
  unfold w_X5_listed at h
  refine zu_aload_n d_4069_0 rfl (zs_ra _) ?_
  obtain ⟨k1, h⟩ := h
  refine zg_4_5 rfl d_4069_1 k1 ?_
  obtain ⟨b2, e3, h⟩ := h
  refine zs_stk0 (zs_rfe e3) ?_
  obtain ⟨k4, h⟩ := h
  refine zc_4_29  hB rfl k4 d_4069_4 (Nat.le_of_ble_eq_true rfl) h (fun S5 h => ?_)
  refine zu_aload_n d_4069_7 rfl (zs_ra _) ?_
  refine zu_iconst d_4069_8 zi_3 ?_
  obtain ⟨k7, h⟩ := h
  refine zc_4_144 (x0 := (3 : Int32)) hB rfl k7 d_4069_9 (Nat.le_of_ble_eq_true rfl) h (fun v9 S8 h => ?_)
  refine zu_astore_n d_4069_12 (zs_rr _) (zs_lt zq_4069 rfl) ?_
  refine zn_4_51 rfl d_4069_13 ?_
  generalize e13 : zs_nw S8 (.inl 16) 3 = S11
  generalize e12 : zs_N S8 = a10
  have h := h a10 S11 e12.symm e13.symm
  have k14 := zs_kn e12 e13
  refine zu_dup d_4069_16 rfl ?_
  refine zc_4_326  hB rfl d_4069_17 (Nat.le_of_ble_eq_true rfl) h (fun S15 h => ?_)
  refine zu_astore_n d_4069_20 (zs_ra _) (zs_lt zq_4069 rfl) ?_
  refine zs_U.weak (L1 := [(2, .ref a10), (0, .ref p0), (1, va_rf v9)]) ?_ ⟨rfl, zs_gp1 rfl (Or.inl rfl) rfl, zs_gp1 rfl (Or.inl (zs_cat _)) rfl, trivial⟩
  refine zu_iconst d_4069_21 zi_1 ?_
  refine zu_istore_n d_4069_22 (zs_lt zq_4069 rfl) ?_
  exact h.weak ⟨rfl, rfl, rfl, rfl, trivial⟩
/-! SchemaPascal$Reader.array()LSchemaPascal$Type; -/
theorem zm_4070 {σ : Nat → Nat} {n0 : Nat} {bf : ab_B} : ab_code (zx σ n0 bf).1 4070 = prog_9_method_30_code := rfl
theorem zq_4070 {σ : Nat → Nat} {n0 : Nat} {bf : ab_B} : ab_maxL (zx σ n0 bf).1 4070 = 2 := rfl
theorem zr_4070 {σ : Nat → Nat} {n0 : Nat} {bf : ab_B} : ab_ret (zx σ n0 bf).1 4070 = (Option.some (Jvm.ClassFile.FieldType.object "SchemaPascal$Type")) := rfl
theorem d_4070_0 {σ : Nat → Nat} {n0 : Nat} {bf : ab_B} : decode (ab_code (zx σ n0 bf).1 4070) 0 = .ok (.aload_n 0, 1) := zd zm_4070 (by decide +kernel)
theorem d_4070_1 {σ : Nat → Nat} {n0 : Nat} {bf : ab_B} : decode (ab_code (zx σ n0 bf).1 4070) 1 = .ok (.bipush 7, 2) := zd zm_4070 (by decide +kernel)
theorem d_4070_3 {σ : Nat → Nat} {n0 : Nat} {bf : ab_B} : decode (ab_code (zx σ n0 bf).1 4070) 3 = .ok (.invokevirtual 144, 3) := zd zm_4070 (by decide +kernel)
theorem d_4070_6 {σ : Nat → Nat} {n0 : Nat} {bf : ab_B} : decode (ab_code (zx σ n0 bf).1 4070) 6 = .ok (.astore_n 1, 1) := zd zm_4070 (by decide +kernel)
theorem d_4070_7 {σ : Nat → Nat} {n0 : Nat} {bf : ab_B} : decode (ab_code (zx σ n0 bf).1 4070) 7 = .ok (.aload_n 1, 1) := zd zm_4070 (by decide +kernel)
theorem d_4070_8 {σ : Nat → Nat} {n0 : Nat} {bf : ab_B} : decode (ab_code (zx σ n0 bf).1 4070) 8 = .ok (.aload_n 0, 1) := zd zm_4070 (by decide +kernel)
theorem d_4070_9 {σ : Nat → Nat} {n0 : Nat} {bf : ab_B} : decode (ab_code (zx σ n0 bf).1 4070) 9 = .ok (.iconst 0, 1) := zd zm_4070 (by decide +kernel)
theorem d_4070_10 {σ : Nat → Nat} {n0 : Nat} {bf : ab_B} : decode (ab_code (zx σ n0 bf).1 4070) 10 = .ok (.iconst 1, 1) := zd zm_4070 (by decide +kernel)
theorem d_4070_11 {σ : Nat → Nat} {n0 : Nat} {bf : ab_B} : decode (ab_code (zx σ n0 bf).1 4070) 11 = .ok (.invokevirtual 341, 3) := zd zm_4070 (by decide +kernel)
theorem d_4070_14 {σ : Nat → Nat} {n0 : Nat} {bf : ab_B} : decode (ab_code (zx σ n0 bf).1 4070) 14 = .ok (.putfield 399, 3) := zd zm_4070 (by decide +kernel)
theorem d_4070_17 {σ : Nat → Nat} {n0 : Nat} {bf : ab_B} : decode (ab_code (zx σ n0 bf).1 4070) 17 = .ok (.aload_n 1, 1) := zd zm_4070 (by decide +kernel)
theorem d_4070_18 {σ : Nat → Nat} {n0 : Nat} {bf : ab_B} : decode (ab_code (zx σ n0 bf).1 4070) 18 = .ok (.getfield 399, 3) := zd zm_4070 (by decide +kernel)
theorem d_4070_21 {σ : Nat → Nat} {n0 : Nat} {bf : ab_B} : decode (ab_code (zx σ n0 bf).1 4070) 21 = .ok (.invokestatic 377, 3) := zd zm_4070 (by decide +kernel)
theorem d_4070_24 {σ : Nat → Nat} {n0 : Nat} {bf : ab_B} : decode (ab_code (zx σ n0 bf).1 4070) 24 = .ok (.ifCond .eq 34, 3) := zd zm_4070 (by decide +kernel)
theorem d_4070_27 {σ : Nat → Nat} {n0 : Nat} {bf : ab_B} : decode (ab_code (zx σ n0 bf).1 4070) 27 = .ok (.aload_n 0, 1) := zd zm_4070 (by decide +kernel)
theorem d_4070_28 {σ : Nat → Nat} {n0 : Nat} {bf : ab_B} : decode (ab_code (zx σ n0 bf).1 4070) 28 = .ok (.aload_n 1, 1) := zd zm_4070 (by decide +kernel)
theorem d_4070_29 {σ : Nat → Nat} {n0 : Nat} {bf : ab_B} : decode (ab_code (zx σ n0 bf).1 4070) 29 = .ok (.getfield 399, 3) := zd zm_4070 (by decide +kernel)
theorem d_4070_32 {σ : Nat → Nat} {n0 : Nat} {bf : ab_B} : decode (ab_code (zx σ n0 bf).1 4070) 32 = .ok (.invokevirtual 473, 3) := zd zm_4070 (by decide +kernel)
theorem d_4070_35 {σ : Nat → Nat} {n0 : Nat} {bf : ab_B} : decode (ab_code (zx σ n0 bf).1 4070) 35 = .ok (.aload_n 0, 1) := zd zm_4070 (by decide +kernel)
theorem d_4070_36 {σ : Nat → Nat} {n0 : Nat} {bf : ab_B} : decode (ab_code (zx σ n0 bf).1 4070) 36 = .ok (.aload_n 1, 1) := zd zm_4070 (by decide +kernel)
theorem d_4070_37 {σ : Nat → Nat} {n0 : Nat} {bf : ab_B} : decode (ab_code (zx σ n0 bf).1 4070) 37 = .ok (.getfield 399, 3) := zd zm_4070 (by decide +kernel)
theorem d_4070_40 {σ : Nat → Nat} {n0 : Nat} {bf : ab_B} : decode (ab_code (zx σ n0 bf).1 4070) 40 = .ok (.invokevirtual 476, 3) := zd zm_4070 (by decide +kernel)
theorem d_4070_43 {σ : Nat → Nat} {n0 : Nat} {bf : ab_B} : decode (ab_code (zx σ n0 bf).1 4070) 43 = .ok (.lsub, 1) := zd zm_4070 (by decide +kernel)
theorem d_4070_44 {σ : Nat → Nat} {n0 : Nat} {bf : ab_B} : decode (ab_code (zx σ n0 bf).1 4070) 44 = .ok (.ldc2_w 478, 3) := zd zm_4070 (by decide +kernel)
theorem d_4070_47 {σ : Nat → Nat} {n0 : Nat} {bf : ab_B} : decode (ab_code (zx σ n0 bf).1 4070) 47 = .ok (.lcmp, 1) := zd zm_4070 (by decide +kernel)
theorem d_4070_48 {σ : Nat → Nat} {n0 : Nat} {bf : ab_B} : decode (ab_code (zx σ n0 bf).1 4070) 48 = .ok (.ifCond .lt 10, 3) := zd zm_4070 (by decide +kernel)
theorem d_4070_51 {σ : Nat → Nat} {n0 : Nat} {bf : ab_B} : decode (ab_code (zx σ n0 bf).1 4070) 51 = .ok (.aload_n 0, 1) := zd zm_4070 (by decide +kernel)
theorem d_4070_52 {σ : Nat → Nat} {n0 : Nat} {bf : ab_B} : decode (ab_code (zx σ n0 bf).1 4070) 52 = .ok (.bipush 7, 2) := zd zm_4070 (by decide +kernel)
theorem d_4070_54 {σ : Nat → Nat} {n0 : Nat} {bf : ab_B} : decode (ab_code (zx σ n0 bf).1 4070) 54 = .ok (.invokevirtual 25, 3) := zd zm_4070 (by decide +kernel)
theorem d_4070_57 {σ : Nat → Nat} {n0 : Nat} {bf : ab_B} : decode (ab_code (zx σ n0 bf).1 4070) 57 = .ok (.athrow, 1) := zd zm_4070 (by decide +kernel)
theorem d_4070_58 {σ : Nat → Nat} {n0 : Nat} {bf : ab_B} : decode (ab_code (zx σ n0 bf).1 4070) 58 = .ok (.aload_n 0, 1) := zd zm_4070 (by decide +kernel)
theorem d_4070_59 {σ : Nat → Nat} {n0 : Nat} {bf : ab_B} : decode (ab_code (zx σ n0 bf).1 4070) 59 = .ok (.getfield 5, 3) := zd zm_4070 (by decide +kernel)
theorem d_4070_62 {σ : Nat → Nat} {n0 : Nat} {bf : ab_B} : decode (ab_code (zx σ n0 bf).1 4070) 62 = .ok (.bipush 44, 2) := zd zm_4070 (by decide +kernel)
theorem d_4070_64 {σ : Nat → Nat} {n0 : Nat} {bf : ab_B} : decode (ab_code (zx σ n0 bf).1 4070) 64 = .ok (.invokevirtual 21, 3) := zd zm_4070 (by decide +kernel)
theorem d_4070_67 {σ : Nat → Nat} {n0 : Nat} {bf : ab_B} : decode (ab_code (zx σ n0 bf).1 4070) 67 = .ok (.ifCond .eq 62, 3) := zd zm_4070 (by decide +kernel)
theorem d_4070_70 {σ : Nat → Nat} {n0 : Nat} {bf : ab_B} : decode (ab_code (zx σ n0 bf).1 4070) 70 = .ok (.aload_n 0, 1) := zd zm_4070 (by decide +kernel)
theorem d_4070_71 {σ : Nat → Nat} {n0 : Nat} {bf : ab_B} : decode (ab_code (zx σ n0 bf).1 4070) 71 = .ok (.getfield 5, 3) := zd zm_4070 (by decide +kernel)
theorem d_4070_74 {σ : Nat → Nat} {n0 : Nat} {bf : ab_B} : decode (ab_code (zx σ n0 bf).1 4070) 74 = .ok (.invokevirtual 29, 3) := zd zm_4070 (by decide +kernel)
theorem d_4070_77 {σ : Nat → Nat} {n0 : Nat} {bf : ab_B} : decode (ab_code (zx σ n0 bf).1 4070) 77 = .ok (.aload_n 0, 1) := zd zm_4070 (by decide +kernel)
theorem d_4070_78 {σ : Nat → Nat} {n0 : Nat} {bf : ab_B} : decode (ab_code (zx σ n0 bf).1 4070) 78 = .ok (.invokevirtual 357, 3) := zd zm_4070 (by decide +kernel)
theorem d_4070_81 {σ : Nat → Nat} {n0 : Nat} {bf : ab_B} : decode (ab_code (zx σ n0 bf).1 4070) 81 = .ok (.aload_n 1, 1) := zd zm_4070 (by decide +kernel)
theorem d_4070_82 {σ : Nat → Nat} {n0 : Nat} {bf : ab_B} : decode (ab_code (zx σ n0 bf).1 4070) 82 = .ok (.aload_n 0, 1) := zd zm_4070 (by decide +kernel)
theorem d_4070_83 {σ : Nat → Nat} {n0 : Nat} {bf : ab_B} : decode (ab_code (zx σ n0 bf).1 4070) 83 = .ok (.invokevirtual 434, 3) := zd zm_4070 (by decide +kernel)
theorem d_4070_86 {σ : Nat → Nat} {n0 : Nat} {bf : ab_B} : decode (ab_code (zx σ n0 bf).1 4070) 86 = .ok (.putfield 320, 3) := zd zm_4070 (by decide +kernel)
theorem d_4070_89 {σ : Nat → Nat} {n0 : Nat} {bf : ab_B} : decode (ab_code (zx σ n0 bf).1 4070) 89 = .ok (.aload_n 0, 1) := zd zm_4070 (by decide +kernel)
theorem d_4070_90 {σ : Nat → Nat} {n0 : Nat} {bf : ab_B} : decode (ab_code (zx σ n0 bf).1 4070) 90 = .ok (.dup, 1) := zd zm_4070 (by decide +kernel)
theorem d_4070_91 {σ : Nat → Nat} {n0 : Nat} {bf : ab_B} : decode (ab_code (zx σ n0 bf).1 4070) 91 = .ok (.getfield 43, 3) := zd zm_4070 (by decide +kernel)
theorem d_4070_94 {σ : Nat → Nat} {n0 : Nat} {bf : ab_B} : decode (ab_code (zx σ n0 bf).1 4070) 94 = .ok (.iconst 1, 1) := zd zm_4070 (by decide +kernel)
theorem d_4070_95 {σ : Nat → Nat} {n0 : Nat} {bf : ab_B} : decode (ab_code (zx σ n0 bf).1 4070) 95 = .ok (.isub, 1) := zd zm_4070 (by decide +kernel)
theorem d_4070_96 {σ : Nat → Nat} {n0 : Nat} {bf : ab_B} : decode (ab_code (zx σ n0 bf).1 4070) 96 = .ok (.putfield 43, 3) := zd zm_4070 (by decide +kernel)
theorem d_4070_99 {σ : Nat → Nat} {n0 : Nat} {bf : ab_B} : decode (ab_code (zx σ n0 bf).1 4070) 99 = .ok (.aload_n 1, 1) := zd zm_4070 (by decide +kernel)
theorem d_4070_100 {σ : Nat → Nat} {n0 : Nat} {bf : ab_B} : decode (ab_code (zx σ n0 bf).1 4070) 100 = .ok (.getfield 320, 3) := zd zm_4070 (by decide +kernel)
theorem d_4070_103 {σ : Nat → Nat} {n0 : Nat} {bf : ab_B} : decode (ab_code (zx σ n0 bf).1 4070) 103 = .ok (.aload_n 1, 1) := zd zm_4070 (by decide +kernel)
theorem d_4070_104 {σ : Nat → Nat} {n0 : Nat} {bf : ab_B} : decode (ab_code (zx σ n0 bf).1 4070) 104 = .ok (.getfield 320, 3) := zd zm_4070 (by decide +kernel)
theorem d_4070_107 {σ : Nat → Nat} {n0 : Nat} {bf : ab_B} : decode (ab_code (zx σ n0 bf).1 4070) 107 = .ok (.invokestatic 363, 3) := zd zm_4070 (by decide +kernel)
theorem d_4070_110 {σ : Nat → Nat} {n0 : Nat} {bf : ab_B} : decode (ab_code (zx σ n0 bf).1 4070) 110 = .ok (.putfield 344, 3) := zd zm_4070 (by decide +kernel)
theorem d_4070_113 {σ : Nat → Nat} {n0 : Nat} {bf : ab_B} : decode (ab_code (zx σ n0 bf).1 4070) 113 = .ok (.aload_n 1, 1) := zd zm_4070 (by decide +kernel)
theorem d_4070_114 {σ : Nat → Nat} {n0 : Nat} {bf : ab_B} : decode (ab_code (zx σ n0 bf).1 4070) 114 = .ok (.getfield 320, 3) := zd zm_4070 (by decide +kernel)
theorem d_4070_117 {σ : Nat → Nat} {n0 : Nat} {bf : ab_B} : decode (ab_code (zx σ n0 bf).1 4070) 117 = .ok (.aload_n 1, 1) := zd zm_4070 (by decide +kernel)
theorem d_4070_118 {σ : Nat → Nat} {n0 : Nat} {bf : ab_B} : decode (ab_code (zx σ n0 bf).1 4070) 118 = .ok (.getfield 320, 3) := zd zm_4070 (by decide +kernel)
theorem d_4070_121 {σ : Nat → Nat} {n0 : Nat} {bf : ab_B} : decode (ab_code (zx σ n0 bf).1 4070) 121 = .ok (.invokestatic 367, 3) := zd zm_4070 (by decide +kernel)
theorem d_4070_124 {σ : Nat → Nat} {n0 : Nat} {bf : ab_B} : decode (ab_code (zx σ n0 bf).1 4070) 124 = .ok (.putfield 347, 3) := zd zm_4070 (by decide +kernel)
theorem d_4070_127 {σ : Nat → Nat} {n0 : Nat} {bf : ab_B} : decode (ab_code (zx σ n0 bf).1 4070) 127 = .ok (.aload_n 1, 1) := zd zm_4070 (by decide +kernel)
theorem d_4070_128 {σ : Nat → Nat} {n0 : Nat} {bf : ab_B} : decode (ab_code (zx σ n0 bf).1 4070) 128 = .ok (.areturn, 1) := zd zm_4070 (by decide +kernel)
theorem d_4070_129 {σ : Nat → Nat} {n0 : Nat} {bf : ab_B} : decode (ab_code (zx σ n0 bf).1 4070) 129 = .ok (.aload_n 0, 1) := zd zm_4070 (by decide +kernel)
theorem d_4070_130 {σ : Nat → Nat} {n0 : Nat} {bf : ab_B} : decode (ab_code (zx σ n0 bf).1 4070) 130 = .ok (.bipush 93, 2) := zd zm_4070 (by decide +kernel)
theorem d_4070_132 {σ : Nat → Nat} {n0 : Nat} {bf : ab_B} : decode (ab_code (zx σ n0 bf).1 4070) 132 = .ok (.invokevirtual 224, 3) := zd zm_4070 (by decide +kernel)
theorem d_4070_135 {σ : Nat → Nat} {n0 : Nat} {bf : ab_B} : decode (ab_code (zx σ n0 bf).1 4070) 135 = .ok (.aload_n 0, 1) := zd zm_4070 (by decide +kernel)
theorem d_4070_136 {σ : Nat → Nat} {n0 : Nat} {bf : ab_B} : decode (ab_code (zx σ n0 bf).1 4070) 136 = .ok (.bipush 20, 2) := zd zm_4070 (by decide +kernel)
theorem d_4070_138 {σ : Nat → Nat} {n0 : Nat} {bf : ab_B} : decode (ab_code (zx σ n0 bf).1 4070) 138 = .ok (.invokevirtual 221, 3) := zd zm_4070 (by decide +kernel)
theorem d_4070_141 {σ : Nat → Nat} {n0 : Nat} {bf : ab_B} : decode (ab_code (zx σ n0 bf).1 4070) 141 = .ok (.aload_n 1, 1) := zd zm_4070 (by decide +kernel)
theorem d_4070_142 {σ : Nat → Nat} {n0 : Nat} {bf : ab_B} : decode (ab_code (zx σ n0 bf).1 4070) 142 = .ok (.aload_n 0, 1) := zd zm_4070 (by decide +kernel)
theorem d_4070_143 {σ : Nat → Nat} {n0 : Nat} {bf : ab_B} : decode (ab_code (zx σ n0 bf).1 4070) 143 = .ok (.iconst 0, 1) := zd zm_4070 (by decide +kernel)
theorem d_4070_144 {σ : Nat → Nat} {n0 : Nat} {bf : ab_B} : decode (ab_code (zx σ n0 bf).1 4070) 144 = .ok (.invokevirtual 309, 3) := zd zm_4070 (by decide +kernel)
theorem d_4070_147 {σ : Nat → Nat} {n0 : Nat} {bf : ab_B} : decode (ab_code (zx σ n0 bf).1 4070) 147 = .ok (.putfield 320, 3) := zd zm_4070 (by decide +kernel)
theorem d_4070_150 {σ : Nat → Nat} {n0 : Nat} {bf : ab_B} : decode (ab_code (zx σ n0 bf).1 4070) 150 = .ok (.aload_n 1, 1) := zd zm_4070 (by decide +kernel)
theorem d_4070_151 {σ : Nat → Nat} {n0 : Nat} {bf : ab_B} : decode (ab_code (zx σ n0 bf).1 4070) 151 = .ok (.areturn, 1) := zd zm_4070 (by decide +kernel)
def w_X5_array_51 (X : zs_X) (d : Nat) (p0 : Nat) (S : zs_T) (Q : zs_Q) : Prop :=
  (zs_K S p0 = some (.inl 4) ∧ zs_C X d 4006 [.ref p0, .int (7 : Int32)] S (zs_kR (fun v3 S2 => (∃ b4, v3 = some b4 ∧ Q (.threw b4) S2)) Q))
theorem u_X5_array_51 {σ : Nat → Nat} {n0 : Nat} {bf : ab_B} {d : Nat} {p0 : Nat} {S : zs_T} {Q : zs_Q} (hB : zt_B bf) (h : w_X5_array_51 (zx σ n0 bf) d p0 S Q) : zs_U (zx σ n0 bf) d 4070 51 [(0, .ref p0)] [] S Q := by
  unfold w_X5_array_51 at h
  refine zu_aload_n d_4070_51 rfl (zs_ra _) ?_
  refine zu_bipush d_4070_52 zj_7 ?_
  obtain ⟨k1, h⟩ := h
  refine zc_4_25 (x0 := (7 : Int32)) hB rfl k1 d_4070_54 (Nat.le_of_ble_eq_true rfl) h (fun v3 S2 h => ?_)
  obtain ⟨b4, e5, h⟩ := h
  refine zs_stk0 (zs_rfe e5) ?_
  exact zu_throw d_4070_57 h
def w_X5_array_150 (X : zs_X) (d : Nat) (p1 : Option Nat) (S : zs_T) (Q : zs_Q) : Prop :=
  (Q (.returned (some (va_rf p1))) S)
theorem u_X5_array_150 {σ : Nat → Nat} {n0 : Nat} {bf : ab_B} {d : Nat} {p1 : Option Nat} {S : zs_T} {Q : zs_Q} (hB : zt_B bf) (h : w_X5_array_150 (zx σ n0 bf) d p1 S Q) : zs_U (zx σ n0 bf) d 4070 150 [(1, va_rf p1)] [] S Q := by
  unfold w_X5_array_150 at h
  refine zu_aload_n d_4070_150 rfl (zs_rr _) ?_
  exact zu_aret d_4070_151 zr_4070 (zs_rr _) h
def w_X5_array_99 (X : zs_X) (d : Nat) (p1 : Option Nat) (S : zs_T) (Q : zs_Q) : Prop :=
  (∃ b1, p1 = some b1 ∧ zs_K S b1 = some (.inl 6) ∧ zs_C X d 4073 [va_rf (zs_R S 6002 b1)] S (zs_kI (fun v5 S4 => (∃ b6, (zs_R S 6002 b1) = some b6 ∧ zs_K S4 b6 = some (.inl 6) ∧ ab_n0 X.1 ≤ b6 ∧ ∀ S10, S10 = zs_sI S4 6009 b6 v5 → zs_K S4 b1 = some (.inl 6) ∧ zs_C X d 4075 [va_rf (zs_R S10 6002 b1)] S10 (zs_kI (fun v15 S14 => (∃ b16, (zs_R S10 6002 b1) = some b16 ∧ zs_K S14 b16 = some (.inl 6) ∧ ab_n0 X.1 ≤ b16 ∧ ∀ S20, S20 = zs_sI S14 6010 b16 v15 → Q (.returned (some (va_rf p1))) S20)) Q))) Q))
theorem u_X5_array_99 {σ : Nat → Nat} {n0 : Nat} {bf : ab_B} {d : Nat} {p1 : Option Nat} {S : zs_T} {Q : zs_Q} (hB : zt_B bf) (h : w_X5_array_99 (zx σ n0 bf) d p1 S Q) : zs_U (zx σ n0 bf) d 4070 99 [(1, va_rf p1)] [] S Q := by
  unfold w_X5_array_99 at h
  refine zu_aload_n d_4070_99 rfl (zs_rr _) ?_
  obtain ⟨b1, e2, h⟩ := h
  refine zs_stk0 (zs_rfe e2) ?_
  obtain ⟨k3, h⟩ := h
  refine zg_4_320 rfl d_4070_100 k3 ?_
  refine zu_aload_n d_4070_103 rfl (zs_rr _) ?_
  refine zs_stk0 (zs_rfe e2) ?_
  refine zg_4_320 rfl d_4070_104 k3 ?_
  refine zc_4_363 (x0 := (zs_R S 6002 b1)) hB rfl d_4070_107 (by simp only [List.map_cons, List.map_nil, List.sum_cons, List.sum_nil, zs_cat, zs_cI, zs_cJ, zs_cA]; exact Nat.le_of_ble_eq_true rfl) h (fun v5 S4 h => ?_)
  obtain ⟨b6, e7, h⟩ := h
  refine zs_stk1 (zs_rfe e7) ?_
  obtain ⟨k8, h⟩ := h
  obtain ⟨k9, h⟩ := h
  refine zp_4_344 (v := v5) rfl d_4070_110 k8 k9 ?_
  generalize e11 : zs_sI S4 6009 b6 v5 = S10
  have h := h S10 e11.symm
  have K12 : ∀ b, zs_K S10 b = zs_K S4 b := zs_Kt e11 (zs_KsI _ _ _ _) (fun _ => rfl)
  refine zu_aload_n d_4070_113 rfl (zs_rr _) ?_
  refine zs_stk0 (zs_rfe e2) ?_
  obtain ⟨k13, h⟩ := h
  refine zg_4_320 rfl d_4070_114 ((K12 _).trans k13) ?_
  refine zu_aload_n d_4070_117 rfl (zs_rr _) ?_
  refine zs_stk0 (zs_rfe e2) ?_
  refine zg_4_320 rfl d_4070_118 ((K12 _).trans k13) ?_
  refine zc_4_367 (x0 := (zs_R S10 6002 b1)) hB rfl d_4070_121 (by simp only [List.map_cons, List.map_nil, List.sum_cons, List.sum_nil, zs_cat, zs_cI, zs_cJ, zs_cA]; exact Nat.le_of_ble_eq_true rfl) h (fun v15 S14 h => ?_)
  obtain ⟨b16, e17, h⟩ := h
  refine zs_stk1 (zs_rfe e17) ?_
  obtain ⟨k18, h⟩ := h
  obtain ⟨k19, h⟩ := h
  refine zp_4_347 (v := v15) rfl d_4070_124 k18 k19 ?_
  generalize e21 : zs_sI S14 6010 b16 v15 = S20
  have h := h S20 e21.symm
  have K22 : ∀ b, zs_K S20 b = zs_K S14 b := zs_Kt e21 (zs_KsI _ _ _ _) (fun _ => rfl)
  refine zu_aload_n d_4070_127 rfl (zs_rr _) ?_
  exact zu_aret d_4070_128 zr_4070 (zs_rr _) h
def w_X5_array_58 (X : zs_X) (d : Nat) (p0 : Nat) (p1 : Option Nat) (S : zs_T) (Q : zs_Q) : Prop :=
  (zs_K S p0 = some (.inl 4) ∧ ∃ b2, (zs_R S 4000 p0) = some b2 ∧ zs_K S b2 = some (.inl 5) ∧ zs_C X d 5017 [.ref b2, .int (44 : Int32)] S (zs_kI (fun v6 S5 => (((v6 = 0 → (zs_K S5 p0 = some (.inl 4) ∧ zs_C X d 4008 [.ref p0, .int (93 : Int32)] S5 (zs_kV (fun S9 => (zs_K S9 p0 = some (.inl 4) ∧ zs_C X d 4005 [.ref p0, .int (20 : Int32)] S9 (zs_kV (fun S12 => (zs_K S12 p0 = some (.inl 4) ∧ zs_C X d 4077 [.ref p0, .int (0 : Int32)] S12 (zs_kR (fun v16 S15 => (∃ b17, p1 = some b17 ∧ zs_K S15 b17 = some (.inl 6) ∧ ab_n0 X.1 ≤ b17 ∧ ∀ S21, S21 = zs_sR S15 6002 b17 v16 → w_X5_array_150 X d p1 S21 Q)) Q))) Q))) Q))) ∧ (¬ (v6 = 0) → (zs_K S5 p0 = some (.inl 4) ∧ ∃ b25, (zs_R S5 4000 p0) = some b25 ∧ zs_K S5 b25 = some (.inl 5) ∧ zs_C X d 5004 [.ref b25] S5 (zs_kV (fun S28 => (zs_K S28 p0 = some (.inl 4) ∧ zs_C X d 4021 [.ref p0] S28 (zs_kV (fun S31 => (zs_K S31 p0 = some (.inl 4) ∧ zs_C X d 4070 [.ref p0] S31 (zs_kR (fun v35 S34 => (∃ b36, p1 = some b36 ∧ zs_K S34 b36 = some (.inl 6) ∧ ab_n0 X.1 ≤ b36 ∧ ∀ S40, S40 = zs_sR S34 6002 b36 v35 → zs_K S34 p0 = some (.inl 4) ∧ ab_n0 X.1 ≤ p0 ∧ ∀ S45, S45 = zs_sI S40 4011 p0 ((zs_I S40 4011 p0) - (1 : Int32)) → w_X5_array_99 X d p1 S45 Q)) Q))) Q))) Q)))))) Q))
theorem u_X5_array_58 {σ : Nat → Nat} {n0 : Nat} {bf : ab_B} {d : Nat} {p0 : Nat} {p1 : Option Nat} {S : zs_T} {Q : zs_Q} (hB : zt_B bf) (h : w_X5_array_58 (zx σ n0 bf) d p0 p1 S Q) : zs_U (zx σ n0 bf) d 4070 58 [(0, .ref p0), (1, va_rf p1)] [] S Q := by
  unfold w_X5_array_58 at h
  refine zu_aload_n d_4070_58 rfl (zs_ra _) ?_
  obtain ⟨k1, h⟩ := h
  refine zg_4_5 rfl d_4070_59 k1 ?_
  refine zu_bipush d_4070_62 zj_44 ?_
  obtain ⟨b2, e3, h⟩ := h
  refine zs_stk1 (zs_rfe e3) ?_
  obtain ⟨k4, h⟩ := h
  refine zc_4_21 (x0 := (44 : Int32)) hB rfl k4 d_4070_64 (Nat.le_of_ble_eq_true rfl) h (fun v6 S5 h => ?_)
  refine zu_ifeq (t := 129) d_4070_67 rfl (fun c7 => ?_) (fun c7 => ?_)
  · have h := h.1 c7
    refine zu_aload_n d_4070_129 rfl (zs_ra _) ?_
    refine zu_bipush d_4070_130 zj_93 ?_
    obtain ⟨k8, h⟩ := h
    refine zc_4_224 (x0 := (93 : Int32)) hB rfl k8 d_4070_132 (Nat.le_of_ble_eq_true rfl) h (fun S9 h => ?_)
    refine zu_aload_n d_4070_135 rfl (zs_ra _) ?_
    refine zu_bipush d_4070_136 zj_20 ?_
    obtain ⟨k11, h⟩ := h
    refine zc_4_221 (x0 := (20 : Int32)) hB rfl k11 d_4070_138 (Nat.le_of_ble_eq_true rfl) h (fun S12 h => ?_)
    refine zu_aload_n d_4070_141 rfl (zs_rr _) ?_
    refine zu_aload_n d_4070_142 rfl (zs_ra _) ?_
    refine zu_iconst d_4070_143 zi_0 ?_
    obtain ⟨k14, h⟩ := h
    refine zc_4_309 (x0 := (0 : Int32)) hB rfl k14 d_4070_144 (by simp only [List.map_cons, List.map_nil, List.sum_cons, List.sum_nil, zs_cat, zs_cI, zs_cJ, zs_cA]; exact Nat.le_of_ble_eq_true rfl) h (fun v16 S15 h => ?_)
    obtain ⟨b17, e18, h⟩ := h
    refine zs_stk1 (zs_rfe e18) ?_
    obtain ⟨k19, h⟩ := h
    obtain ⟨k20, h⟩ := h
    refine zp_4_320 (v := v16) rfl d_4070_147 k19 k20 ?_
    generalize e22 : zs_sR S15 6002 b17 v16 = S21
    have h := h S21 e22.symm
    have K23 : ∀ b, zs_K S21 b = zs_K S15 b := zs_Kt e22 (zs_KsR _ _ _ _) (fun _ => rfl)
    exact (u_X5_array_150 hB h).weak ⟨rfl, trivial⟩
  · have h := h.2 c7
    refine zu_aload_n d_4070_70 rfl (zs_ra _) ?_
    obtain ⟨k24, h⟩ := h
    refine zg_4_5 rfl d_4070_71 k24 ?_
    obtain ⟨b25, e26, h⟩ := h
    refine zs_stk0 (zs_rfe e26) ?_
    obtain ⟨k27, h⟩ := h
    refine zc_4_29  hB rfl k27 d_4070_74 (Nat.le_of_ble_eq_true rfl) h (fun S28 h => ?_)
    refine zu_aload_n d_4070_77 rfl (zs_ra _) ?_
    obtain ⟨k30, h⟩ := h
    refine zc_4_357  hB rfl k30 d_4070_78 (Nat.le_of_ble_eq_true rfl) h (fun S31 h => ?_)
    refine zu_aload_n d_4070_81 rfl (zs_rr _) ?_
    refine zu_aload_n d_4070_82 rfl (zs_ra _) ?_
    obtain ⟨k33, h⟩ := h
    refine zc_4_434  hB rfl k33 d_4070_83 (by simp only [List.map_cons, List.map_nil, List.sum_cons, List.sum_nil, zs_cat, zs_cI, zs_cJ, zs_cA]; exact Nat.le_of_ble_eq_true rfl) h (fun v35 S34 h => ?_)
    obtain ⟨b36, e37, h⟩ := h
    refine zs_stk1 (zs_rfe e37) ?_
    obtain ⟨k38, h⟩ := h
    obtain ⟨k39, h⟩ := h
    refine zp_4_320 (v := v35) rfl d_4070_86 k38 k39 ?_
    generalize e41 : zs_sR S34 6002 b36 v35 = S40
    have h := h S40 e41.symm
    have K42 : ∀ b, zs_K S40 b = zs_K S34 b := zs_Kt e41 (zs_KsR _ _ _ _) (fun _ => rfl)
    refine zu_aload_n d_4070_89 rfl (zs_ra _) ?_
    refine zu_dup d_4070_90 rfl ?_
    obtain ⟨k43, h⟩ := h
    refine zg_4_43 rfl d_4070_91 ((K42 _).trans k43) ?_
    refine zu_iconst d_4070_94 zi_1 ?_
    refine zu_stk d_4070_95 rfl rfl ?_
    obtain ⟨k44, h⟩ := h
    refine zp_4_43 (v := ((zs_I S40 4011 p0) - (1 : Int32))) rfl d_4070_96 ((K42 _).trans k43) k44 ?_
    generalize e46 : zs_sI S40 4011 p0 ((zs_I S40 4011 p0) - (1 : Int32)) = S45
    have h := h S45 e46.symm
    have K47 : ∀ b, zs_K S45 b = zs_K S34 b := zs_Kt e46 (zs_KsI _ _ _ _) K42
    exact (u_X5_array_99 hB h).weak ⟨rfl, trivial⟩
def w_X5_array (X : zs_X) (d : Nat) (p0 : Nat) (S : zs_T) (Q : zs_Q) : Prop :=
  (zs_K S p0 = some (.inl 4) ∧ zs_C X d 4002 [.ref p0, .int (7 : Int32)] S (zs_kR (fun v3 S2 => (zs_K S2 p0 = some (.inl 4) ∧ zs_C X d 4063 [.ref p0, .int (0 : Int32), .int (1 : Int32)] S2 (zs_kR (fun v6 S5 => (∃ b7, v3 = some b7 ∧ zs_K S5 b7 = some (.inl 6) ∧ ab_n0 X.1 ≤ b7 ∧ ∀ S11, S11 = zs_sR S5 6003 b7 v6 → zs_C X d 4038 [va_rf (zs_R S11 6003 b7)] S11 (zs_kI (fun v15 S14 => (((v15 = 0 → w_X5_array_58 X d p0 v3 S14 Q) ∧ (¬ (v15 = 0) → (zs_K S14 b7 = some (.inl 6) ∧ zs_K S14 p0 = some (.inl 4) ∧ zs_C X d 4071 [.ref p0, va_rf (zs_R S14 6003 b7)] S14 (zs_kJ (fun v20 S19 => (zs_K S19 b7 = some (.inl 6) ∧ zs_K S19 p0 = some (.inl 4) ∧ zs_C X d 4072 [.ref p0, va_rf (zs_R S19 6003 b7)] S19 (zs_kJ (fun v24 S23 => ((((v20 - v24) < (4000 : Int64) → w_X5_array_58 X d p0 v3 S23 Q) ∧ (¬ ((v20 - v24) < (4000 : Int64)) → w_X5_array_51 X d p0 S23 Q)))) Q))) Q)))))) Q))) Q))) Q))
theorem u_X5_array {σ : Nat → Nat} {n0 : Nat} {bf : ab_B} {d : Nat} {p0 : Nat} {S : zs_T} {Q : zs_Q} (hB : zt_B bf) (hd : 1 ≤ d) (h : w_X5_array (zx σ n0 bf) (d - 1) p0 S Q) : zs_C (zx σ n0 bf) d 4070 [.ref p0] S Q := by
  have hL : lv_args 0 [.ref p0] = [(0, .ref p0)] := rfl
  refine zs_C.of1 (hB.2 4070 (by decide) (by decide)) hd (by rw [hL]; exact zs_sub_self _ (by exact ⟨rfl, trivial⟩)) ?_
  rw [hL]
  clear hL
  unfold w_X5_array at h
  refine zu_aload_n d_4070_0 rfl (zs_ra _) ?_
  refine zu_bipush d_4070_1 zj_7 ?_
  obtain ⟨k1, h⟩ := h
  refine zc_4_144 (x0 := (7 : Int32)) hB rfl k1 d_4070_3 (Nat.le_of_ble_eq_true rfl) h (fun v3 S2 h => ?_)
  refine zu_astore_n d_4070_6 (zs_rr _) (zs_lt zq_4070 rfl) ?_
  refine zu_aload_n d_4070_7 rfl (zs_rr _) ?_
  refine zu_aload_n d_4070_8 rfl (zs_ra _) ?_
  refine zu_iconst d_4070_9 zi_0 ?_
  refine zu_iconst d_4070_10 zi_1 ?_
  obtain ⟨k4, h⟩ := h
  refine zc_4_341 (x0 := (0 : Int32)) (x1 := (1 : Int32)) hB rfl k4 d_4070_11 (by simp only [List.map_cons, List.map_nil, List.sum_cons, List.sum_nil, zs_cat, zs_cI, zs_cJ, zs_cA]; exact Nat.le_of_ble_eq_true rfl) h (fun v6 S5 h => ?_)
  obtain ⟨b7, e8, h⟩ := h
  refine zs_stk1 (zs_rfe e8) ?_
  obtain ⟨k9, h⟩ := h
  obtain ⟨k10, h⟩ := h
  refine zp_4_399 (v := v6) rfl d_4070_14 k9 k10 ?_
  generalize e12 : zs_sR S5 6003 b7 v6 = S11
  have h := h S11 e12.symm
  have K13 : ∀ b, zs_K S11 b = zs_K S5 b := zs_Kt e12 (zs_KsR _ _ _ _) (fun _ => rfl)
  refine zu_aload_n d_4070_17 rfl (zs_rr _) ?_
  refine zs_stk0 (zs_rfe e8) ?_
  refine zg_4_399 rfl d_4070_18 ((K13 _).trans k9) ?_
  refine zc_4_377 (x0 := (zs_R S11 6003 b7)) hB rfl d_4070_21 (Nat.le_of_ble_eq_true rfl) h (fun v15 S14 h => ?_)
  refine zu_ifeq (t := 58) d_4070_24 rfl (fun c16 => ?_) (fun c16 => ?_)
  · have h := h.1 c16
    exact (u_X5_array_58 hB h).weak ⟨rfl, rfl, trivial⟩
  · have h := h.2 c16
    refine zu_aload_n d_4070_27 rfl (zs_ra _) ?_
    refine zu_aload_n d_4070_28 rfl (zs_rr _) ?_
    refine zs_stk0 (zs_rfe e8) ?_
    obtain ⟨k17, h⟩ := h
    refine zg_4_399 rfl d_4070_29 k17 ?_
    obtain ⟨k18, h⟩ := h
    refine zc_4_473 (x0 := (zs_R S14 6003 b7)) hB rfl k18 d_4070_32 (Nat.le_of_ble_eq_true rfl) h (fun v20 S19 h => ?_)
    refine zu_aload_n d_4070_35 rfl (zs_ra _) ?_
    refine zu_aload_n d_4070_36 rfl (zs_rr _) ?_
    refine zs_stk0 (zs_rfe e8) ?_
    obtain ⟨k21, h⟩ := h
    refine zg_4_399 rfl d_4070_37 k21 ?_
    obtain ⟨k22, h⟩ := h
    refine zc_4_476 (x0 := (zs_R S19 6003 b7)) hB rfl k22 d_4070_40 (Nat.le_of_ble_eq_true rfl) h (fun v24 S23 h => ?_)
    refine zu_stk d_4070_43 rfl rfl ?_
    refine zl2_4_478 rfl d_4070_44 ?_
    refine zu_llt (t := 58) d_4070_47 d_4070_48 rfl (fun c25 => ?_) (fun c25 => ?_)
    · have h := h.1 c25
      exact (u_X5_array_58 hB h).weak ⟨rfl, rfl, trivial⟩
    · have h := h.2 c25
      exact (u_X5_array_51 hB h).weak ⟨rfl, trivial⟩
/-! SchemaPascal$Reader.high(LSchemaPascal$Type;)J -/
theorem zm_4071 {σ : Nat → Nat} {n0 : Nat} {bf : ab_B} : ab_code (zx σ n0 bf).1 4071 = prog_9_method_49_code := rfl
theorem zq_4071 {σ : Nat → Nat} {n0 : Nat} {bf : ab_B} : ab_maxL (zx σ n0 bf).1 4071 = 2 := rfl
theorem zr_4071 {σ : Nat → Nat} {n0 : Nat} {bf : ab_B} : ab_ret (zx σ n0 bf).1 4071 = (Option.some Jvm.ClassFile.FieldType.long) := rfl
theorem d_4071_0 {σ : Nat → Nat} {n0 : Nat} {bf : ab_B} : decode (ab_code (zx σ n0 bf).1 4071) 0 = .ok (.aload_n 0, 1) := zd zm_4071 (by decide +kernel)
theorem d_4071_1 {σ : Nat → Nat} {n0 : Nat} {bf : ab_B} : decode (ab_code (zx σ n0 bf).1 4071) 1 = .ok (.getfield 384, 3) := zd zm_4071 (by decide +kernel)
theorem d_4071_4 {σ : Nat → Nat} {n0 : Nat} {bf : ab_B} : decode (ab_code (zx σ n0 bf).1 4071) 4 = .ok (.aload_n 1, 1) := zd zm_4071 (by decide +kernel)
theorem d_4071_5 {σ : Nat → Nat} {n0 : Nat} {bf : ab_B} : decode (ab_code (zx σ n0 bf).1 4071) 5 = .ok (.iconst (-1), 1) := zd zm_4071 (by decide +kernel)
theorem d_4071_6 {σ : Nat → Nat} {n0 : Nat} {bf : ab_B} : decode (ab_code (zx σ n0 bf).1 4071) 6 = .ok (.invokevirtual 561, 3) := zd zm_4071 (by decide +kernel)
theorem d_4071_9 {σ : Nat → Nat} {n0 : Nat} {bf : ab_B} : decode (ab_code (zx σ n0 bf).1 4071) 9 = .ok (.lreturn, 1) := zd zm_4071 (by decide +kernel)
def w_X5_high (X : zs_X) (d : Nat) (p0 : Nat) (p1 : Option Nat) (S : zs_T) (Q : zs_Q) : Prop :=
  (zs_K S p0 = some (.inl 4) ∧ ∃ b2, (zs_R S 4018 p0) = some b2 ∧ zs_K S b2 = some (.inl 2) ∧ zs_C X d 2004 [.ref b2, va_rf p1, .int (-1 : Int32)] S (zs_kJ (fun v6 S5 => (Q (.returned (some (.long v6))) S5)) Q))
theorem u_X5_high {σ : Nat → Nat} {n0 : Nat} {bf : ab_B} {d : Nat} {p0 : Nat} {p1 : Option Nat} {S : zs_T} {Q : zs_Q} (hB : zt_B bf) (hd : 1 ≤ d) (h : w_X5_high (zx σ n0 bf) (d - 1) p0 p1 S Q) : zs_C (zx σ n0 bf) d 4071 [.ref p0, va_rf p1] S Q := by
  have hL : lv_args 0 [.ref p0, va_rf p1] = [(0, .ref p0), (1, va_rf p1)] := by simp [lv_args, zs_cat, zs_cI, zs_cJ, zs_cA]
  refine zs_C.of1 (hB.2 4071 (by decide) (by decide)) hd (by rw [hL]; exact zs_sub_self _ (by exact ⟨rfl, rfl, trivial⟩)) ?_
  rw [hL]
  clear hL
  unfold w_X5_high at h
  refine zu_aload_n d_4071_0 rfl (zs_ra _) ?_
  obtain ⟨k1, h⟩ := h
  refine zg_4_384 rfl d_4071_1 k1 ?_
  refine zu_aload_n d_4071_4 rfl (zs_rr _) ?_
  refine zu_iconst d_4071_5 zi_m1 ?_
  obtain ⟨b2, e3, h⟩ := h
  refine zs_stk2 (zs_rfe e3) ?_
  obtain ⟨k4, h⟩ := h
  refine zc_4_561 (x0 := p1) (x1 := (-1 : Int32)) hB rfl k4 d_4071_6 (Nat.le_of_ble_eq_true rfl) h (fun v6 S5 h => ?_)
  exact zu_lret d_4071_9 zr_4071 h
/-! SchemaPascal$Reader.low(LSchemaPascal$Type;)J -/
theorem zm_4072 {σ : Nat → Nat} {n0 : Nat} {bf : ab_B} : ab_code (zx σ n0 bf).1 4072 = prog_9_method_48_code := rfl
theorem zq_4072 {σ : Nat → Nat} {n0 : Nat} {bf : ab_B} : ab_maxL (zx σ n0 bf).1 4072 = 2 := rfl
theorem zr_4072 {σ : Nat → Nat} {n0 : Nat} {bf : ab_B} : ab_ret (zx σ n0 bf).1 4072 = (Option.some Jvm.ClassFile.FieldType.long) := rfl
theorem d_4072_0 {σ : Nat → Nat} {n0 : Nat} {bf : ab_B} : decode (ab_code (zx σ n0 bf).1 4072) 0 = .ok (.aload_n 0, 1) := zd zm_4072 (by decide +kernel)
theorem d_4072_1 {σ : Nat → Nat} {n0 : Nat} {bf : ab_B} : decode (ab_code (zx σ n0 bf).1 4072) 1 = .ok (.getfield 384, 3) := zd zm_4072 (by decide +kernel)
theorem d_4072_4 {σ : Nat → Nat} {n0 : Nat} {bf : ab_B} : decode (ab_code (zx σ n0 bf).1 4072) 4 = .ok (.aload_n 1, 1) := zd zm_4072 (by decide +kernel)
theorem d_4072_5 {σ : Nat → Nat} {n0 : Nat} {bf : ab_B} : decode (ab_code (zx σ n0 bf).1 4072) 5 = .ok (.iconst (-1), 1) := zd zm_4072 (by decide +kernel)
theorem d_4072_6 {σ : Nat → Nat} {n0 : Nat} {bf : ab_B} : decode (ab_code (zx σ n0 bf).1 4072) 6 = .ok (.invokevirtual 559, 3) := zd zm_4072 (by decide +kernel)
theorem d_4072_9 {σ : Nat → Nat} {n0 : Nat} {bf : ab_B} : decode (ab_code (zx σ n0 bf).1 4072) 9 = .ok (.lreturn, 1) := zd zm_4072 (by decide +kernel)
def w_X5_low (X : zs_X) (d : Nat) (p0 : Nat) (p1 : Option Nat) (S : zs_T) (Q : zs_Q) : Prop :=
  (zs_K S p0 = some (.inl 4) ∧ ∃ b2, (zs_R S 4018 p0) = some b2 ∧ zs_K S b2 = some (.inl 2) ∧ zs_C X d 2003 [.ref b2, va_rf p1, .int (-1 : Int32)] S (zs_kJ (fun v6 S5 => (Q (.returned (some (.long v6))) S5)) Q))
theorem u_X5_low {σ : Nat → Nat} {n0 : Nat} {bf : ab_B} {d : Nat} {p0 : Nat} {p1 : Option Nat} {S : zs_T} {Q : zs_Q} (hB : zt_B bf) (hd : 1 ≤ d) (h : w_X5_low (zx σ n0 bf) (d - 1) p0 p1 S Q) : zs_C (zx σ n0 bf) d 4072 [.ref p0, va_rf p1] S Q := by
  have hL : lv_args 0 [.ref p0, va_rf p1] = [(0, .ref p0), (1, va_rf p1)] := by simp [lv_args, zs_cat, zs_cI, zs_cJ, zs_cA]
  refine zs_C.of1 (hB.2 4072 (by decide) (by decide)) hd (by rw [hL]; exact zs_sub_self _ (by exact ⟨rfl, rfl, trivial⟩)) ?_
  rw [hL]
  clear hL
  unfold w_X5_low at h
  refine zu_aload_n d_4072_0 rfl (zs_ra _) ?_
  obtain ⟨k1, h⟩ := h
  refine zg_4_384 rfl d_4072_1 k1 ?_
  refine zu_aload_n d_4072_4 rfl (zs_rr _) ?_
  refine zu_iconst d_4072_5 zi_m1 ?_
  obtain ⟨b2, e3, h⟩ := h
  refine zs_stk2 (zs_rfe e3) ?_
  obtain ⟨k4, h⟩ := h
  refine zc_4_559 (x0 := p1) (x1 := (-1 : Int32)) hB rfl k4 d_4072_6 (Nat.le_of_ble_eq_true rfl) h (fun v6 S5 h => ?_)
  exact zu_lret d_4072_9 zr_4072 h
/-! SchemaPascal$Reader.height(LSchemaPascal$Type;)I -/
theorem zm_4073 {σ : Nat → Nat} {n0 : Nat} {bf : ab_B} : ab_code (zx σ n0 bf).1 4073 = prog_9_method_23_code := rfl
theorem zq_4073 {σ : Nat → Nat} {n0 : Nat} {bf : ab_B} : ab_maxL (zx σ n0 bf).1 4073 = 1 := rfl
theorem zr_4073 {σ : Nat → Nat} {n0 : Nat} {bf : ab_B} : ab_ret (zx σ n0 bf).1 4073 = (Option.some Jvm.ClassFile.FieldType.int) := rfl
theorem d_4073_0 {σ : Nat → Nat} {n0 : Nat} {bf : ab_B} : decode (ab_code (zx σ n0 bf).1 4073) 0 = .ok (.aload_n 0, 1) := zd zm_4073 (by decide +kernel)
theorem d_4073_1 {σ : Nat → Nat} {n0 : Nat} {bf : ab_B} : decode (ab_code (zx σ n0 bf).1 4073) 1 = .ok (.getfield 369, 3) := zd zm_4073 (by decide +kernel)
theorem d_4073_4 {σ : Nat → Nat} {n0 : Nat} {bf : ab_B} : decode (ab_code (zx σ n0 bf).1 4073) 4 = .ok (.tableswitch 94 5 11 #[44, 94, 54, 84, 94, 94, 74], 44) := zd zm_4073 (by decide +kernel)
theorem d_4073_48 {σ : Nat → Nat} {n0 : Nat} {bf : ab_B} : decode (ab_code (zx σ n0 bf).1 4073) 48 = .ok (.iconst 1, 1) := zd zm_4073 (by decide +kernel)
theorem d_4073_49 {σ : Nat → Nat} {n0 : Nat} {bf : ab_B} : decode (ab_code (zx σ n0 bf).1 4073) 49 = .ok (.aload_n 0, 1) := zd zm_4073 (by decide +kernel)
theorem d_4073_50 {σ : Nat → Nat} {n0 : Nat} {bf : ab_B} : decode (ab_code (zx σ n0 bf).1 4073) 50 = .ok (.getfield 320, 3) := zd zm_4073 (by decide +kernel)
theorem d_4073_53 {σ : Nat → Nat} {n0 : Nat} {bf : ab_B} : decode (ab_code (zx σ n0 bf).1 4073) 53 = .ok (.getfield 344, 3) := zd zm_4073 (by decide +kernel)
theorem d_4073_56 {σ : Nat → Nat} {n0 : Nat} {bf : ab_B} : decode (ab_code (zx σ n0 bf).1 4073) 56 = .ok (.iadd, 1) := zd zm_4073 (by decide +kernel)
theorem d_4073_57 {σ : Nat → Nat} {n0 : Nat} {bf : ab_B} : decode (ab_code (zx σ n0 bf).1 4073) 57 = .ok (.ireturn, 1) := zd zm_4073 (by decide +kernel)
theorem d_4073_58 {σ : Nat → Nat} {n0 : Nat} {bf : ab_B} : decode (ab_code (zx σ n0 bf).1 4073) 58 = .ok (.iconst 1, 1) := zd zm_4073 (by decide +kernel)
theorem d_4073_59 {σ : Nat → Nat} {n0 : Nat} {bf : ab_B} : decode (ab_code (zx σ n0 bf).1 4073) 59 = .ok (.aload_n 0, 1) := zd zm_4073 (by decide +kernel)
theorem d_4073_60 {σ : Nat → Nat} {n0 : Nat} {bf : ab_B} : decode (ab_code (zx σ n0 bf).1 4073) 60 = .ok (.getfield 399, 3) := zd zm_4073 (by decide +kernel)
theorem d_4073_63 {σ : Nat → Nat} {n0 : Nat} {bf : ab_B} : decode (ab_code (zx σ n0 bf).1 4073) 63 = .ok (.getfield 344, 3) := zd zm_4073 (by decide +kernel)
theorem d_4073_66 {σ : Nat → Nat} {n0 : Nat} {bf : ab_B} : decode (ab_code (zx σ n0 bf).1 4073) 66 = .ok (.aload_n 0, 1) := zd zm_4073 (by decide +kernel)
theorem d_4073_67 {σ : Nat → Nat} {n0 : Nat} {bf : ab_B} : decode (ab_code (zx σ n0 bf).1 4073) 67 = .ok (.getfield 320, 3) := zd zm_4073 (by decide +kernel)
theorem d_4073_70 {σ : Nat → Nat} {n0 : Nat} {bf : ab_B} : decode (ab_code (zx σ n0 bf).1 4073) 70 = .ok (.getfield 344, 3) := zd zm_4073 (by decide +kernel)
theorem d_4073_73 {σ : Nat → Nat} {n0 : Nat} {bf : ab_B} : decode (ab_code (zx σ n0 bf).1 4073) 73 = .ok (.invokestatic 402, 3) := zd zm_4073 (by decide +kernel)
theorem d_4073_76 {σ : Nat → Nat} {n0 : Nat} {bf : ab_B} : decode (ab_code (zx σ n0 bf).1 4073) 76 = .ok (.iadd, 1) := zd zm_4073 (by decide +kernel)
theorem d_4073_77 {σ : Nat → Nat} {n0 : Nat} {bf : ab_B} : decode (ab_code (zx σ n0 bf).1 4073) 77 = .ok (.ireturn, 1) := zd zm_4073 (by decide +kernel)
theorem d_4073_78 {σ : Nat → Nat} {n0 : Nat} {bf : ab_B} : decode (ab_code (zx σ n0 bf).1 4073) 78 = .ok (.iconst 1, 1) := zd zm_4073 (by decide +kernel)
theorem d_4073_79 {σ : Nat → Nat} {n0 : Nat} {bf : ab_B} : decode (ab_code (zx σ n0 bf).1 4073) 79 = .ok (.aload_n 0, 1) := zd zm_4073 (by decide +kernel)
theorem d_4073_80 {σ : Nat → Nat} {n0 : Nat} {bf : ab_B} : decode (ab_code (zx σ n0 bf).1 4073) 80 = .ok (.getfield 320, 3) := zd zm_4073 (by decide +kernel)
theorem d_4073_83 {σ : Nat → Nat} {n0 : Nat} {bf : ab_B} : decode (ab_code (zx σ n0 bf).1 4073) 83 = .ok (.getfield 344, 3) := zd zm_4073 (by decide +kernel)
theorem d_4073_86 {σ : Nat → Nat} {n0 : Nat} {bf : ab_B} : decode (ab_code (zx σ n0 bf).1 4073) 86 = .ok (.iadd, 1) := zd zm_4073 (by decide +kernel)
theorem d_4073_87 {σ : Nat → Nat} {n0 : Nat} {bf : ab_B} : decode (ab_code (zx σ n0 bf).1 4073) 87 = .ok (.ireturn, 1) := zd zm_4073 (by decide +kernel)
theorem d_4073_88 {σ : Nat → Nat} {n0 : Nat} {bf : ab_B} : decode (ab_code (zx σ n0 bf).1 4073) 88 = .ok (.iconst 1, 1) := zd zm_4073 (by decide +kernel)
theorem d_4073_89 {σ : Nat → Nat} {n0 : Nat} {bf : ab_B} : decode (ab_code (zx σ n0 bf).1 4073) 89 = .ok (.aload_n 0, 1) := zd zm_4073 (by decide +kernel)
theorem d_4073_90 {σ : Nat → Nat} {n0 : Nat} {bf : ab_B} : decode (ab_code (zx σ n0 bf).1 4073) 90 = .ok (.getfield 75, 3) := zd zm_4073 (by decide +kernel)
theorem d_4073_93 {σ : Nat → Nat} {n0 : Nat} {bf : ab_B} : decode (ab_code (zx σ n0 bf).1 4073) 93 = .ok (.invokestatic 407, 3) := zd zm_4073 (by decide +kernel)
theorem d_4073_96 {σ : Nat → Nat} {n0 : Nat} {bf : ab_B} : decode (ab_code (zx σ n0 bf).1 4073) 96 = .ok (.iadd, 1) := zd zm_4073 (by decide +kernel)
theorem d_4073_97 {σ : Nat → Nat} {n0 : Nat} {bf : ab_B} : decode (ab_code (zx σ n0 bf).1 4073) 97 = .ok (.ireturn, 1) := zd zm_4073 (by decide +kernel)
theorem d_4073_98 {σ : Nat → Nat} {n0 : Nat} {bf : ab_B} : decode (ab_code (zx σ n0 bf).1 4073) 98 = .ok (.iconst 1, 1) := zd zm_4073 (by decide +kernel)
theorem d_4073_99 {σ : Nat → Nat} {n0 : Nat} {bf : ab_B} : decode (ab_code (zx σ n0 bf).1 4073) 99 = .ok (.ireturn, 1) := zd zm_4073 (by decide +kernel)
def w_X5_height (X : zs_X) (d : Nat) (p0 : Option Nat) (S : zs_T) (Q : zs_Q) : Prop :=
  (∃ b1, p0 = some b1 ∧ zs_K S b1 = some (.inl 6) ∧ (((zs_I S 6000 b1).toInt < 5 ∨ 11 < (zs_I S 6000 b1).toInt → (Q (.returned (some (.int (1 : Int32)))) S)) ∧ ((zs_I S 6000 b1).toInt = 5 → (∃ b5, (zs_R S 6002 b1) = some b5 ∧ zs_K S b5 = some (.inl 6) ∧ Q (.returned (some (.int ((1 : Int32) + (zs_I S 6009 b5))))) S)) ∧ ((zs_I S 6000 b1).toInt = 6 → (Q (.returned (some (.int (1 : Int32)))) S)) ∧ ((zs_I S 6000 b1).toInt = 7 → (∃ b8, (zs_R S 6003 b1) = some b8 ∧ zs_K S b8 = some (.inl 6) ∧ ∃ b11, (zs_R S 6002 b1) = some b11 ∧ zs_K S b11 = some (.inl 6) ∧ zs_C X d 30000 [.int (zs_I S 6009 b8), .int (zs_I S 6009 b11)] S (zs_kI (fun v15 S14 => (Q (.returned (some (.int ((1 : Int32) + v15)))) S14)) Q))) ∧ ((zs_I S 6000 b1).toInt = 8 → (zs_C X d 4074 [va_rf (zs_R S 6006 b1)] S (zs_kI (fun v17 S16 => (Q (.returned (some (.int ((1 : Int32) + v17)))) S16)) Q))) ∧ ((zs_I S 6000 b1).toInt = 9 → (Q (.returned (some (.int (1 : Int32)))) S)) ∧ ((zs_I S 6000 b1).toInt = 10 → (Q (.returned (some (.int (1 : Int32)))) S)) ∧ ((zs_I S 6000 b1).toInt = 11 → (∃ b18, (zs_R S 6002 b1) = some b18 ∧ zs_K S b18 = some (.inl 6) ∧ Q (.returned (some (.int ((1 : Int32) + (zs_I S 6009 b18))))) S))))
theorem u_X5_height {σ : Nat → Nat} {n0 : Nat} {bf : ab_B} {d : Nat} {p0 : Option Nat} {S : zs_T} {Q : zs_Q} (hB : zt_B bf) (hd : 1 ≤ d) (h : w_X5_height (zx σ n0 bf) (d - 1) p0 S Q) : zs_C (zx σ n0 bf) d 4073 [va_rf p0] S Q := by
  have hL : lv_args 0 [va_rf p0] = [(0, va_rf p0)] := by simp [lv_args, zs_cat, zs_cI, zs_cJ, zs_cA]
  refine zs_C.of1 (hB.2 4073 (by decide) (by decide)) hd (by rw [hL]; exact zs_sub_self _ (by exact ⟨rfl, trivial⟩)) ?_
  rw [hL]
  clear hL
  unfold w_X5_height at h
  refine zu_aload_n d_4073_0 rfl (zs_rr _) ?_
  obtain ⟨b1, e2, h⟩ := h
  refine zs_stk0 (zs_rfe e2) ?_
  obtain ⟨k3, h⟩ := h
  refine zg_4_369 rfl d_4073_1 k3 ?_
  refine zu_tsw (td := 98) d_4073_4 (by decide) rfl (fun c4 => ?_) ⟨fun c4 => ⟨by decide, ?_⟩, fun c4 => ⟨by decide, ?_⟩, fun c4 => ⟨by decide, ?_⟩, fun c4 => ⟨by decide, ?_⟩, fun c4 => ⟨by decide, ?_⟩, fun c4 => ⟨by decide, ?_⟩, fun c4 => ⟨by decide, ?_⟩, trivial⟩
  · have h := h.1 c4
    refine zu_iconst d_4073_98 zi_1 ?_
    exact zu_iret d_4073_99 zr_4073 rfl h
  · have h := h.2.1 c4
    show zs_U _ _ _ 48 _ _ _ _
    refine zu_iconst d_4073_48 zi_1 ?_
    refine zu_aload_n d_4073_49 rfl (zs_rr _) ?_
    refine zs_stk0 (zs_rfe e2) ?_
    refine zg_4_320 rfl d_4073_50 k3 ?_
    obtain ⟨b5, e6, h⟩ := h
    refine zs_stk0 (zs_rfe e6) ?_
    obtain ⟨k7, h⟩ := h
    refine zg_4_344 rfl d_4073_53 k7 ?_
    refine zu_stk d_4073_56 rfl rfl ?_
    exact zu_iret d_4073_57 zr_4073 rfl h
  · have h := h.2.2.1 c4
    show zs_U _ _ _ 98 _ _ _ _
    refine zu_iconst d_4073_98 zi_1 ?_
    exact zu_iret d_4073_99 zr_4073 rfl h
  · have h := h.2.2.2.1 c4
    show zs_U _ _ _ 58 _ _ _ _
    refine zu_iconst d_4073_58 zi_1 ?_
    refine zu_aload_n d_4073_59 rfl (zs_rr _) ?_
    refine zs_stk0 (zs_rfe e2) ?_
    refine zg_4_399 rfl d_4073_60 k3 ?_
    obtain ⟨b8, e9, h⟩ := h
    refine zs_stk0 (zs_rfe e9) ?_
    obtain ⟨k10, h⟩ := h
    refine zg_4_344 rfl d_4073_63 k10 ?_
    refine zu_aload_n d_4073_66 rfl (zs_rr _) ?_
    refine zs_stk0 (zs_rfe e2) ?_
    refine zg_4_320 rfl d_4073_67 k3 ?_
    obtain ⟨b11, e12, h⟩ := h
    refine zs_stk0 (zs_rfe e12) ?_
    obtain ⟨k13, h⟩ := h
    refine zg_4_344 rfl d_4073_70 k13 ?_
    refine zc_4_402 (x0 := (zs_I S 6009 b8)) (x1 := (zs_I S 6009 b11)) hB rfl d_4073_73 (Nat.le_of_ble_eq_true rfl) h (fun v15 S14 h => ?_)
    refine zu_stk d_4073_76 rfl rfl ?_
    exact zu_iret d_4073_77 zr_4073 rfl h
  · have h := h.2.2.2.2.1 c4
    show zs_U _ _ _ 88 _ _ _ _
    refine zu_iconst d_4073_88 zi_1 ?_
    refine zu_aload_n d_4073_89 rfl (zs_rr _) ?_
    refine zs_stk0 (zs_rfe e2) ?_
    refine zg_4_75 rfl d_4073_90 k3 ?_
    refine zc_4_407 (x0 := (zs_R S 6006 b1)) hB rfl d_4073_93 (Nat.le_of_ble_eq_true rfl) h (fun v17 S16 h => ?_)
    refine zu_stk d_4073_96 rfl rfl ?_
    exact zu_iret d_4073_97 zr_4073 rfl h
  · have h := h.2.2.2.2.2.1 c4
    show zs_U _ _ _ 98 _ _ _ _
    refine zu_iconst d_4073_98 zi_1 ?_
    exact zu_iret d_4073_99 zr_4073 rfl h
  · have h := h.2.2.2.2.2.2.1 c4
    show zs_U _ _ _ 98 _ _ _ _
    refine zu_iconst d_4073_98 zi_1 ?_
    exact zu_iret d_4073_99 zr_4073 rfl h
  · have h := h.2.2.2.2.2.2.2 c4
    show zs_U _ _ _ 78 _ _ _ _
    refine zu_iconst d_4073_78 zi_1 ?_
    refine zu_aload_n d_4073_79 rfl (zs_rr _) ?_
    refine zs_stk0 (zs_rfe e2) ?_
    refine zg_4_320 rfl d_4073_80 k3 ?_
    obtain ⟨b18, e19, h⟩ := h
    refine zs_stk0 (zs_rfe e19) ?_
    obtain ⟨k20, h⟩ := h
    refine zg_4_344 rfl d_4073_83 k20 ?_
    refine zu_stk d_4073_86 rfl rfl ?_
    exact zu_iret d_4073_87 zr_4073 rfl h
/-! SchemaPascal$Reader.height(LSchemaPascal$Fields;)I -/
theorem zm_4074 {σ : Nat → Nat} {n0 : Nat} {bf : ab_B} : ab_code (zx σ n0 bf).1 4074 = prog_9_method_26_code := rfl
theorem zq_4074 {σ : Nat → Nat} {n0 : Nat} {bf : ab_B} : ab_maxL (zx σ n0 bf).1 4074 = 3 := rfl
theorem zr_4074 {σ : Nat → Nat} {n0 : Nat} {bf : ab_B} : ab_ret (zx σ n0 bf).1 4074 = (Option.some Jvm.ClassFile.FieldType.int) := rfl
theorem d_4074_0 {σ : Nat → Nat} {n0 : Nat} {bf : ab_B} : decode (ab_code (zx σ n0 bf).1 4074) 0 = .ok (.iconst 0, 1) := zd zm_4074 (by decide +kernel)
theorem d_4074_1 {σ : Nat → Nat} {n0 : Nat} {bf : ab_B} : decode (ab_code (zx σ n0 bf).1 4074) 1 = .ok (.istore_n 1, 1) := zd zm_4074 (by decide +kernel)
theorem d_4074_2 {σ : Nat → Nat} {n0 : Nat} {bf : ab_B} : decode (ab_code (zx σ n0 bf).1 4074) 2 = .ok (.iconst 0, 1) := zd zm_4074 (by decide +kernel)
theorem d_4074_3 {σ : Nat → Nat} {n0 : Nat} {bf : ab_B} : decode (ab_code (zx σ n0 bf).1 4074) 3 = .ok (.istore_n 2, 1) := zd zm_4074 (by decide +kernel)
theorem d_4074_4 {σ : Nat → Nat} {n0 : Nat} {bf : ab_B} : decode (ab_code (zx σ n0 bf).1 4074) 4 = .ok (.iload_n 2, 1) := zd zm_4074 (by decide +kernel)
theorem d_4074_5 {σ : Nat → Nat} {n0 : Nat} {bf : ab_B} : decode (ab_code (zx σ n0 bf).1 4074) 5 = .ok (.aload_n 0, 1) := zd zm_4074 (by decide +kernel)
theorem d_4074_6 {σ : Nat → Nat} {n0 : Nat} {bf : ab_B} : decode (ab_code (zx σ n0 bf).1 4074) 6 = .ok (.getfield 412, 3) := zd zm_4074 (by decide +kernel)
theorem d_4074_9 {σ : Nat → Nat} {n0 : Nat} {bf : ab_B} : decode (ab_code (zx σ n0 bf).1 4074) 9 = .ok (.invokevirtual 50, 3) := zd zm_4074 (by decide +kernel)
theorem d_4074_12 {σ : Nat → Nat} {n0 : Nat} {bf : ab_B} : decode (ab_code (zx σ n0 bf).1 4074) 12 = .ok (.if_icmp .ge 31, 3) := zd zm_4074 (by decide +kernel)
theorem d_4074_15 {σ : Nat → Nat} {n0 : Nat} {bf : ab_B} : decode (ab_code (zx σ n0 bf).1 4074) 15 = .ok (.iload_n 1, 1) := zd zm_4074 (by decide +kernel)
theorem d_4074_16 {σ : Nat → Nat} {n0 : Nat} {bf : ab_B} : decode (ab_code (zx σ n0 bf).1 4074) 16 = .ok (.aload_n 0, 1) := zd zm_4074 (by decide +kernel)
theorem d_4074_17 {σ : Nat → Nat} {n0 : Nat} {bf : ab_B} : decode (ab_code (zx σ n0 bf).1 4074) 17 = .ok (.getfield 412, 3) := zd zm_4074 (by decide +kernel)
theorem d_4074_20 {σ : Nat → Nat} {n0 : Nat} {bf : ab_B} : decode (ab_code (zx σ n0 bf).1 4074) 20 = .ok (.iload_n 2, 1) := zd zm_4074 (by decide +kernel)
theorem d_4074_21 {σ : Nat → Nat} {n0 : Nat} {bf : ab_B} : decode (ab_code (zx σ n0 bf).1 4074) 21 = .ok (.invokevirtual 56, 3) := zd zm_4074 (by decide +kernel)
theorem d_4074_24 {σ : Nat → Nat} {n0 : Nat} {bf : ab_B} : decode (ab_code (zx σ n0 bf).1 4074) 24 = .ok (.checkcast 93, 3) := zd zm_4074 (by decide +kernel)
theorem d_4074_27 {σ : Nat → Nat} {n0 : Nat} {bf : ab_B} : decode (ab_code (zx σ n0 bf).1 4074) 27 = .ok (.getfield 96, 3) := zd zm_4074 (by decide +kernel)
theorem d_4074_30 {σ : Nat → Nat} {n0 : Nat} {bf : ab_B} : decode (ab_code (zx σ n0 bf).1 4074) 30 = .ok (.getfield 344, 3) := zd zm_4074 (by decide +kernel)
theorem d_4074_33 {σ : Nat → Nat} {n0 : Nat} {bf : ab_B} : decode (ab_code (zx σ n0 bf).1 4074) 33 = .ok (.invokestatic 402, 3) := zd zm_4074 (by decide +kernel)
theorem d_4074_36 {σ : Nat → Nat} {n0 : Nat} {bf : ab_B} : decode (ab_code (zx σ n0 bf).1 4074) 36 = .ok (.istore_n 1, 1) := zd zm_4074 (by decide +kernel)
theorem d_4074_37 {σ : Nat → Nat} {n0 : Nat} {bf : ab_B} : decode (ab_code (zx σ n0 bf).1 4074) 37 = .ok (.iinc 2 1, 3) := zd zm_4074 (by decide +kernel)
theorem d_4074_40 {σ : Nat → Nat} {n0 : Nat} {bf : ab_B} : decode (ab_code (zx σ n0 bf).1 4074) 40 = .ok (.goto (-36), 3) := zd zm_4074 (by decide +kernel)
theorem d_4074_43 {σ : Nat → Nat} {n0 : Nat} {bf : ab_B} : decode (ab_code (zx σ n0 bf).1 4074) 43 = .ok (.iconst 0, 1) := zd zm_4074 (by decide +kernel)
theorem d_4074_44 {σ : Nat → Nat} {n0 : Nat} {bf : ab_B} : decode (ab_code (zx σ n0 bf).1 4074) 44 = .ok (.istore_n 2, 1) := zd zm_4074 (by decide +kernel)
theorem d_4074_45 {σ : Nat → Nat} {n0 : Nat} {bf : ab_B} : decode (ab_code (zx σ n0 bf).1 4074) 45 = .ok (.aload_n 0, 1) := zd zm_4074 (by decide +kernel)
theorem d_4074_46 {σ : Nat → Nat} {n0 : Nat} {bf : ab_B} : decode (ab_code (zx σ n0 bf).1 4074) 46 = .ok (.getfield 415, 3) := zd zm_4074 (by decide +kernel)
theorem d_4074_49 {σ : Nat → Nat} {n0 : Nat} {bf : ab_B} : decode (ab_code (zx σ n0 bf).1 4074) 49 = .ok (.ifnull 48, 3) := zd zm_4074 (by decide +kernel)
theorem d_4074_52 {σ : Nat → Nat} {n0 : Nat} {bf : ab_B} : decode (ab_code (zx σ n0 bf).1 4074) 52 = .ok (.iload_n 2, 1) := zd zm_4074 (by decide +kernel)
theorem d_4074_53 {σ : Nat → Nat} {n0 : Nat} {bf : ab_B} : decode (ab_code (zx σ n0 bf).1 4074) 53 = .ok (.aload_n 0, 1) := zd zm_4074 (by decide +kernel)
theorem d_4074_54 {σ : Nat → Nat} {n0 : Nat} {bf : ab_B} : decode (ab_code (zx σ n0 bf).1 4074) 54 = .ok (.getfield 415, 3) := zd zm_4074 (by decide +kernel)
theorem d_4074_57 {σ : Nat → Nat} {n0 : Nat} {bf : ab_B} : decode (ab_code (zx σ n0 bf).1 4074) 57 = .ok (.getfield 419, 3) := zd zm_4074 (by decide +kernel)
theorem d_4074_60 {σ : Nat → Nat} {n0 : Nat} {bf : ab_B} : decode (ab_code (zx σ n0 bf).1 4074) 60 = .ok (.invokevirtual 50, 3) := zd zm_4074 (by decide +kernel)
theorem d_4074_63 {σ : Nat → Nat} {n0 : Nat} {bf : ab_B} : decode (ab_code (zx σ n0 bf).1 4074) 63 = .ok (.if_icmp .ge 34, 3) := zd zm_4074 (by decide +kernel)
theorem d_4074_66 {σ : Nat → Nat} {n0 : Nat} {bf : ab_B} : decode (ab_code (zx σ n0 bf).1 4074) 66 = .ok (.iload_n 1, 1) := zd zm_4074 (by decide +kernel)
theorem d_4074_67 {σ : Nat → Nat} {n0 : Nat} {bf : ab_B} : decode (ab_code (zx σ n0 bf).1 4074) 67 = .ok (.aload_n 0, 1) := zd zm_4074 (by decide +kernel)
theorem d_4074_68 {σ : Nat → Nat} {n0 : Nat} {bf : ab_B} : decode (ab_code (zx σ n0 bf).1 4074) 68 = .ok (.getfield 415, 3) := zd zm_4074 (by decide +kernel)
theorem d_4074_71 {σ : Nat → Nat} {n0 : Nat} {bf : ab_B} : decode (ab_code (zx σ n0 bf).1 4074) 71 = .ok (.getfield 419, 3) := zd zm_4074 (by decide +kernel)
theorem d_4074_74 {σ : Nat → Nat} {n0 : Nat} {bf : ab_B} : decode (ab_code (zx σ n0 bf).1 4074) 74 = .ok (.iload_n 2, 1) := zd zm_4074 (by decide +kernel)
theorem d_4074_75 {σ : Nat → Nat} {n0 : Nat} {bf : ab_B} : decode (ab_code (zx σ n0 bf).1 4074) 75 = .ok (.invokevirtual 56, 3) := zd zm_4074 (by decide +kernel)
theorem d_4074_78 {σ : Nat → Nat} {n0 : Nat} {bf : ab_B} : decode (ab_code (zx σ n0 bf).1 4074) 78 = .ok (.checkcast 424, 3) := zd zm_4074 (by decide +kernel)
theorem d_4074_81 {σ : Nat → Nat} {n0 : Nat} {bf : ab_B} : decode (ab_code (zx σ n0 bf).1 4074) 81 = .ok (.getfield 426, 3) := zd zm_4074 (by decide +kernel)
theorem d_4074_84 {σ : Nat → Nat} {n0 : Nat} {bf : ab_B} : decode (ab_code (zx σ n0 bf).1 4074) 84 = .ok (.invokestatic 407, 3) := zd zm_4074 (by decide +kernel)
theorem d_4074_87 {σ : Nat → Nat} {n0 : Nat} {bf : ab_B} : decode (ab_code (zx σ n0 bf).1 4074) 87 = .ok (.invokestatic 402, 3) := zd zm_4074 (by decide +kernel)
theorem d_4074_90 {σ : Nat → Nat} {n0 : Nat} {bf : ab_B} : decode (ab_code (zx σ n0 bf).1 4074) 90 = .ok (.istore_n 1, 1) := zd zm_4074 (by decide +kernel)
theorem d_4074_91 {σ : Nat → Nat} {n0 : Nat} {bf : ab_B} : decode (ab_code (zx σ n0 bf).1 4074) 91 = .ok (.iinc 2 1, 3) := zd zm_4074 (by decide +kernel)
theorem d_4074_94 {σ : Nat → Nat} {n0 : Nat} {bf : ab_B} : decode (ab_code (zx σ n0 bf).1 4074) 94 = .ok (.goto (-49), 3) := zd zm_4074 (by decide +kernel)
theorem d_4074_97 {σ : Nat → Nat} {n0 : Nat} {bf : ab_B} : decode (ab_code (zx σ n0 bf).1 4074) 97 = .ok (.iload_n 1, 1) := zd zm_4074 (by decide +kernel)
theorem d_4074_98 {σ : Nat → Nat} {n0 : Nat} {bf : ab_B} : decode (ab_code (zx σ n0 bf).1 4074) 98 = .ok (.ireturn, 1) := zd zm_4074 (by decide +kernel)
def w_X5_height_2_40 (X : zs_X) (d : Nat) (p0 : Option Nat) (p1 : Int32) (p2 : Int32) (S : zs_T) (Q : zs_Q) : Prop :=
  (zs_U X d 4074 4 [(0, va_rf p0), (1, .int p1), (2, .int p2)] [] S Q)
theorem u_X5_height_2_40 {σ : Nat → Nat} {n0 : Nat} {bf : ab_B} {d : Nat} {p0 : Option Nat} {p1 : Int32} {p2 : Int32} {S : zs_T} {Q : zs_Q} (hB : zt_B bf) (h : w_X5_height_2_40 (zx σ n0 bf) d p0 p1 p2 S Q) : zs_U (zx σ n0 bf) d 4074 40 [(0, va_rf p0), (1, .int p1), (2, .int p2)] [] S Q := by
  unfold w_X5_height_2_40 at h
  refine zu_goto (t := 4) d_4074_40 rfl ?_
  exact h.weak ⟨rfl, rfl, rfl, trivial⟩
def w_X5_height_2_4 (X : zs_X) (d : Nat) (p0 : Option Nat) (p1 : Int32) (p2 : Int32) (S : zs_T) (Q : zs_Q) : Prop :=
  (∃ b1, p0 = some b1 ∧ zs_K S b1 = some (.inl 13) ∧ ∃ b4, (zs_R S 13000 b1) = some b4 ∧ zs_K S b4 = some (.inl 16) ∧ zs_C X d 16001 [.ref b4] S (zs_kI (fun v8 S7 => (((v8 ≤ p2 → (zs_U X d 4074 45 [(0, va_rf p0), (1, .int p1), (2, .int (0 : Int32))] [] S7 Q)) ∧ (¬ (v8 ≤ p2) → (zs_K S7 b1 = some (.inl 13) ∧ ∃ b11, (zs_R S7 13000 b1) = some b11 ∧ zs_K S7 b11 = some (.inl 16) ∧ zs_C X d 16009 [.ref b11, .int p2] S7 (zs_kR (fun v15 S14 => ((∀ a, v15 = some a → zs_K S14 a = some (.inl 12)) ∧ ∃ b17, v15 = some b17 ∧ zs_K S14 b17 = some (.inl 12) ∧ ∃ b20, (zs_R S14 12001 b17) = some b20 ∧ zs_K S14 b20 = some (.inl 6) ∧ zs_C X d 30000 [.int p1, .int (zs_I S14 6009 b20)] S14 (zs_kI (fun v24 S23 => (w_X5_height_2_40 X d p0 v24 (p2 + (1 : Int32)) S23 Q)) Q))) Q)))))) Q))
theorem u_X5_height_2_4 {σ : Nat → Nat} {n0 : Nat} {bf : ab_B} {d : Nat} {p0 : Option Nat} {p1 : Int32} {p2 : Int32} {S : zs_T} {Q : zs_Q} (hB : zt_B bf) (h : w_X5_height_2_4 (zx σ n0 bf) d p0 p1 p2 S Q) : zs_U (zx σ n0 bf) d 4074 4 [(0, va_rf p0), (1, .int p1), (2, .int p2)] [] S Q := by
  unfold w_X5_height_2_4 at h
  refine zu_iload_n d_4074_4 rfl ?_
  refine zu_aload_n d_4074_5 rfl (zs_rr _) ?_
  obtain ⟨b1, e2, h⟩ := h
  refine zs_stk0 (zs_rfe e2) ?_
  obtain ⟨k3, h⟩ := h
  refine zg_4_412 rfl d_4074_6 k3 ?_
  obtain ⟨b4, e5, h⟩ := h
  refine zs_stk0 (zs_rfe e5) ?_
  obtain ⟨k6, h⟩ := h
  refine zc_4_50  hB rfl k6 d_4074_9 (Nat.le_of_ble_eq_true rfl) h (fun v8 S7 h => ?_)
  refine zu_cmpge (t := 43) d_4074_12 rfl (fun c9 => ?_) (fun c9 => ?_)
  · have h := h.1 c9
    refine zu_iconst d_4074_43 zi_0 ?_
    refine zu_istore_n d_4074_44 (zs_lt zq_4074 rfl) ?_
    exact h.weak ⟨rfl, rfl, rfl, trivial⟩
  · have h := h.2 c9
    refine zu_iload_n d_4074_15 rfl ?_
    refine zu_aload_n d_4074_16 rfl (zs_rr _) ?_
    refine zs_stk0 (zs_rfe e2) ?_
    obtain ⟨k10, h⟩ := h
    refine zg_4_412 rfl d_4074_17 k10 ?_
    refine zu_iload_n d_4074_20 rfl ?_
    obtain ⟨b11, e12, h⟩ := h
    refine zs_stk1 (zs_rfe e12) ?_
    obtain ⟨k13, h⟩ := h
    refine zc_4_56 (x0 := p2) hB rfl k13 d_4074_21 (Nat.le_of_ble_eq_true rfl) h (fun v15 S14 h => ?_)
    obtain ⟨k16, h⟩ := h
    refine zk_4_93 (o := v15) rfl d_4074_24 k16 ?_
    obtain ⟨b17, e18, h⟩ := h
    refine zs_stk0 (zs_rfe e18) ?_
    obtain ⟨k19, h⟩ := h
    refine zg_4_96 rfl d_4074_27 k19 ?_
    obtain ⟨b20, e21, h⟩ := h
    refine zs_stk0 (zs_rfe e21) ?_
    obtain ⟨k22, h⟩ := h
    refine zg_4_344 rfl d_4074_30 k22 ?_
    refine zc_4_402 (x0 := p1) (x1 := (zs_I S14 6009 b20)) hB rfl d_4074_33 (Nat.le_of_ble_eq_true rfl) h (fun v24 S23 h => ?_)
    refine zu_istore_n d_4074_36 (zs_lt zq_4074 rfl) ?_
    refine zs_U.weak (L1 := [(1, .int v24), (0, va_rf p0), (2, .int p2)]) ?_ ⟨rfl, zs_gp1 rfl (Or.inl (zs_cat _)) rfl, zs_gp1 rfl (Or.inl rfl) rfl, trivial⟩
    refine zu_iinc d_4074_37 rfl zi_1 (zs_lt zq_4074 rfl) ?_
    exact (u_X5_height_2_40 hB h).weak ⟨rfl, rfl, rfl, trivial⟩
def w_X5_height_2_91 (X : zs_X) (d : Nat) (p0 : Option Nat) (p1 : Int32) (p2 : Int32) (S : zs_T) (Q : zs_Q) : Prop :=
  (zs_U X d 4074 45 [(0, va_rf p0), (1, .int p1), (2, .int (p2 + (1 : Int32)))] [] S Q)
theorem u_X5_height_2_91 {σ : Nat → Nat} {n0 : Nat} {bf : ab_B} {d : Nat} {p0 : Option Nat} {p1 : Int32} {p2 : Int32} {S : zs_T} {Q : zs_Q} (hB : zt_B bf) (h : w_X5_height_2_91 (zx σ n0 bf) d p0 p1 p2 S Q) : zs_U (zx σ n0 bf) d 4074 91 [(0, va_rf p0), (1, .int p1), (2, .int p2)] [] S Q := by
  unfold w_X5_height_2_91 at h
  refine zu_iinc d_4074_91 rfl zi_1 (zs_lt zq_4074 rfl) ?_
  refine zu_goto (t := 45) d_4074_94 rfl ?_
  exact h.weak ⟨rfl, rfl, rfl, trivial⟩
def w_X5_height_2_45 (X : zs_X) (d : Nat) (p0 : Option Nat) (p1 : Int32) (p2 : Int32) (S : zs_T) (Q : zs_Q) : Prop :=
  (∃ b1, p0 = some b1 ∧ zs_K S b1 = some (.inl 13) ∧ (((zs_R S 13001 b1) = none → (Q (.returned (some (.int p1))) S)) ∧ (∀ b4, (zs_R S 13001 b1) = some b4 → (zs_K S b4 = some (.inl 14) ∧ ∃ b7, (zs_R S 14001 b4) = some b7 ∧ zs_K S b7 = some (.inl 16) ∧ zs_C X d 16001 [.ref b7] S (zs_kI (fun v11 S10 => (((v11 ≤ p2 → (Q (.returned (some (.int p1))) S10)) ∧ (¬ (v11 ≤ p2) → (zs_K S10 b1 = some (.inl 13) ∧ ∃ b14, (zs_R S10 13001 b1) = some b14 ∧ zs_K S10 b14 = some (.inl 14) ∧ ∃ b17, (zs_R S10 14001 b14) = some b17 ∧ zs_K S10 b17 = some (.inl 16) ∧ zs_C X d 16009 [.ref b17, .int p2] S10 (zs_kR (fun v21 S20 => ((∀ a, v21 = some a → zs_K S20 a = some (.inl 15)) ∧ ∃ b23, v21 = some b23 ∧ zs_K S20 b23 = some (.inl 15) ∧ zs_C X d 4074 [va_rf (zs_R S20 15002 b23)] S20 (zs_kI (fun v27 S26 => (zs_C X d 30000 [.int p1, .int v27] S26 (zs_kI (fun v29 S28 => (w_X5_height_2_91 X d p0 v29 p2 S28 Q)) Q))) Q))) Q)))))) Q)))))
theorem u_X5_height_2_45 {σ : Nat → Nat} {n0 : Nat} {bf : ab_B} {d : Nat} {p0 : Option Nat} {p1 : Int32} {p2 : Int32} {S : zs_T} {Q : zs_Q} (hB : zt_B bf) (h : w_X5_height_2_45 (zx σ n0 bf) d p0 p1 p2 S Q) : zs_U (zx σ n0 bf) d 4074 45 [(0, va_rf p0), (1, .int p1), (2, .int p2)] [] S Q := by
  unfold w_X5_height_2_45 at h
  refine zu_aload_n d_4074_45 rfl (zs_rr _) ?_
  obtain ⟨b1, e2, h⟩ := h
  refine zs_stk0 (zs_rfe e2) ?_
  obtain ⟨k3, h⟩ := h
  refine zg_4_415 rfl d_4074_46 k3 ?_
  refine zu_ifnull (u := (zs_R S 13001 b1)) (t := 97) d_4074_49 rfl rfl (fun e5 => ?_) (fun b4 e5 => ?_)
  · have h := h.1 e5
    refine zu_iload_n d_4074_97 rfl ?_
    exact zu_iret d_4074_98 zr_4074 rfl h
  · have h := h.2 b4 e5
    refine zu_iload_n d_4074_52 rfl ?_
    refine zu_aload_n d_4074_53 rfl (zs_rr _) ?_
    refine zs_stk0 (zs_rfe e2) ?_
    refine zg_4_415 rfl d_4074_54 k3 ?_
    refine zs_stk0 (zs_rfe e5) ?_
    obtain ⟨k6, h⟩ := h
    refine zg_4_419 rfl d_4074_57 k6 ?_
    obtain ⟨b7, e8, h⟩ := h
    refine zs_stk0 (zs_rfe e8) ?_
    obtain ⟨k9, h⟩ := h
    refine zc_4_50  hB rfl k9 d_4074_60 (Nat.le_of_ble_eq_true rfl) h (fun v11 S10 h => ?_)
    refine zu_cmpge (t := 97) d_4074_63 rfl (fun c12 => ?_) (fun c12 => ?_)
    · have h := h.1 c12
      refine zu_iload_n d_4074_97 rfl ?_
      exact zu_iret d_4074_98 zr_4074 rfl h
    · have h := h.2 c12
      refine zu_iload_n d_4074_66 rfl ?_
      refine zu_aload_n d_4074_67 rfl (zs_rr _) ?_
      refine zs_stk0 (zs_rfe e2) ?_
      obtain ⟨k13, h⟩ := h
      refine zg_4_415 rfl d_4074_68 k13 ?_
      obtain ⟨b14, e15, h⟩ := h
      refine zs_stk0 (zs_rfe e15) ?_
      obtain ⟨k16, h⟩ := h
      refine zg_4_419 rfl d_4074_71 k16 ?_
      refine zu_iload_n d_4074_74 rfl ?_
      obtain ⟨b17, e18, h⟩ := h
      refine zs_stk1 (zs_rfe e18) ?_
      obtain ⟨k19, h⟩ := h
      refine zc_4_56 (x0 := p2) hB rfl k19 d_4074_75 (Nat.le_of_ble_eq_true rfl) h (fun v21 S20 h => ?_)
      obtain ⟨k22, h⟩ := h
      refine zk_4_424 (o := v21) rfl d_4074_78 k22 ?_
      obtain ⟨b23, e24, h⟩ := h
      refine zs_stk0 (zs_rfe e24) ?_
      obtain ⟨k25, h⟩ := h
      refine zg_4_426 rfl d_4074_81 k25 ?_
      refine zc_4_407 (x0 := (zs_R S20 15002 b23)) hB rfl d_4074_84 (Nat.le_of_ble_eq_true rfl) h (fun v27 S26 h => ?_)
      refine zc_4_402 (x0 := p1) (x1 := v27) hB rfl d_4074_87 (Nat.le_of_ble_eq_true rfl) h (fun v29 S28 h => ?_)
      refine zu_istore_n d_4074_90 (zs_lt zq_4074 rfl) ?_
      refine zs_U.weak (L1 := [(1, .int v29), (0, va_rf p0), (2, .int p2)]) ?_ ⟨rfl, zs_gp1 rfl (Or.inl (zs_cat _)) rfl, zs_gp1 rfl (Or.inl rfl) rfl, trivial⟩
      exact (u_X5_height_2_91 hB h).weak ⟨rfl, rfl, rfl, trivial⟩
def w_X5_height_2 (X : zs_X) (d : Nat) (p0 : Option Nat) (S : zs_T) (Q : zs_Q) : Prop :=
  (zs_U X d 4074 4 [(0, va_rf p0), (1, .int (0 : Int32)), (2, .int (0 : Int32))] [] S Q)
theorem u_X5_height_2 {σ : Nat → Nat} {n0 : Nat} {bf : ab_B} {d : Nat} {p0 : Option Nat} {S : zs_T} {Q : zs_Q} (hB : zt_B bf) (hd : 1 ≤ d) (h : w_X5_height_2 (zx σ n0 bf) (d - 1) p0 S Q) : zs_C (zx σ n0 bf) d 4074 [va_rf p0] S Q := by
  have hL : lv_args 0 [va_rf p0] = [(0, va_rf p0)] := by simp [lv_args, zs_cat, zs_cI, zs_cJ, zs_cA]
  refine zs_C.of1 (hB.2 4074 (by decide) (by decide)) hd (by rw [hL]; exact zs_sub_self _ (by exact ⟨rfl, trivial⟩)) ?_
  rw [hL]
  clear hL
  unfold w_X5_height_2 at h
  refine zu_iconst d_4074_0 zi_0 ?_
  refine zu_istore_n d_4074_1 (zs_lt zq_4074 rfl) ?_
  refine zs_U.weak (L1 := [(1, .int (0 : Int32)), (0, va_rf p0)]) ?_ ⟨rfl, zs_gp1 rfl (Or.inl (zs_cat _)) rfl, trivial⟩
  refine zu_iconst d_4074_2 zi_0 ?_
  refine zu_istore_n d_4074_3 (zs_lt zq_4074 rfl) ?_
  exact h.weak ⟨rfl, rfl, rfl, trivial⟩
/-! SchemaPascal$Reader.pieces(LSchemaPascal$Type;)I -/
theorem zm_4075 {σ : Nat → Nat} {n0 : Nat} {bf : ab_B} : ab_code (zx σ n0 bf).1 4075 = prog_9_method_24_code := rfl
theorem zq_4075 {σ : Nat → Nat} {n0 : Nat} {bf : ab_B} : ab_maxL (zx σ n0 bf).1 4075 = 1 := rfl
theorem zr_4075 {σ : Nat → Nat} {n0 : Nat} {bf : ab_B} : ab_ret (zx σ n0 bf).1 4075 = (Option.some Jvm.ClassFile.FieldType.int) := rfl
theorem d_4075_0 {σ : Nat → Nat} {n0 : Nat} {bf : ab_B} : decode (ab_code (zx σ n0 bf).1 4075) 0 = .ok (.aload_n 0, 1) := zd zm_4075 (by decide +kernel)
theorem d_4075_1 {σ : Nat → Nat} {n0 : Nat} {bf : ab_B} : decode (ab_code (zx σ n0 bf).1 4075) 1 = .ok (.getfield 369, 3) := zd zm_4075 (by decide +kernel)
theorem d_4075_4 {σ : Nat → Nat} {n0 : Nat} {bf : ab_B} : decode (ab_code (zx σ n0 bf).1 4075) 4 = .ok (.tableswitch 60 7 11 #[36, 50, 60, 60, 36], 36) := zd zm_4075 (by decide +kernel)
theorem d_4075_40 {σ : Nat → Nat} {n0 : Nat} {bf : ab_B} : decode (ab_code (zx σ n0 bf).1 4075) 40 = .ok (.iconst 1, 1) := zd zm_4075 (by decide +kernel)
theorem d_4075_41 {σ : Nat → Nat} {n0 : Nat} {bf : ab_B} : decode (ab_code (zx σ n0 bf).1 4075) 41 = .ok (.iconst 1, 1) := zd zm_4075 (by decide +kernel)
theorem d_4075_42 {σ : Nat → Nat} {n0 : Nat} {bf : ab_B} : decode (ab_code (zx σ n0 bf).1 4075) 42 = .ok (.aload_n 0, 1) := zd zm_4075 (by decide +kernel)
theorem d_4075_43 {σ : Nat → Nat} {n0 : Nat} {bf : ab_B} : decode (ab_code (zx σ n0 bf).1 4075) 43 = .ok (.getfield 320, 3) := zd zm_4075 (by decide +kernel)
theorem d_4075_46 {σ : Nat → Nat} {n0 : Nat} {bf : ab_B} : decode (ab_code (zx σ n0 bf).1 4075) 46 = .ok (.getfield 347, 3) := zd zm_4075 (by decide +kernel)
theorem d_4075_49 {σ : Nat → Nat} {n0 : Nat} {bf : ab_B} : decode (ab_code (zx σ n0 bf).1 4075) 49 = .ok (.invokestatic 402, 3) := zd zm_4075 (by decide +kernel)
theorem d_4075_52 {σ : Nat → Nat} {n0 : Nat} {bf : ab_B} : decode (ab_code (zx σ n0 bf).1 4075) 52 = .ok (.iadd, 1) := zd zm_4075 (by decide +kernel)
theorem d_4075_53 {σ : Nat → Nat} {n0 : Nat} {bf : ab_B} : decode (ab_code (zx σ n0 bf).1 4075) 53 = .ok (.ireturn, 1) := zd zm_4075 (by decide +kernel)
theorem d_4075_54 {σ : Nat → Nat} {n0 : Nat} {bf : ab_B} : decode (ab_code (zx σ n0 bf).1 4075) 54 = .ok (.iconst 1, 1) := zd zm_4075 (by decide +kernel)
theorem d_4075_55 {σ : Nat → Nat} {n0 : Nat} {bf : ab_B} : decode (ab_code (zx σ n0 bf).1 4075) 55 = .ok (.aload_n 0, 1) := zd zm_4075 (by decide +kernel)
theorem d_4075_56 {σ : Nat → Nat} {n0 : Nat} {bf : ab_B} : decode (ab_code (zx σ n0 bf).1 4075) 56 = .ok (.getfield 75, 3) := zd zm_4075 (by decide +kernel)
theorem d_4075_59 {σ : Nat → Nat} {n0 : Nat} {bf : ab_B} : decode (ab_code (zx σ n0 bf).1 4075) 59 = .ok (.invokestatic 410, 3) := zd zm_4075 (by decide +kernel)
theorem d_4075_62 {σ : Nat → Nat} {n0 : Nat} {bf : ab_B} : decode (ab_code (zx σ n0 bf).1 4075) 62 = .ok (.iadd, 1) := zd zm_4075 (by decide +kernel)
theorem d_4075_63 {σ : Nat → Nat} {n0 : Nat} {bf : ab_B} : decode (ab_code (zx σ n0 bf).1 4075) 63 = .ok (.ireturn, 1) := zd zm_4075 (by decide +kernel)
theorem d_4075_64 {σ : Nat → Nat} {n0 : Nat} {bf : ab_B} : decode (ab_code (zx σ n0 bf).1 4075) 64 = .ok (.iconst 1, 1) := zd zm_4075 (by decide +kernel)
theorem d_4075_65 {σ : Nat → Nat} {n0 : Nat} {bf : ab_B} : decode (ab_code (zx σ n0 bf).1 4075) 65 = .ok (.ireturn, 1) := zd zm_4075 (by decide +kernel)
def w_X5_pieces_40 (X : zs_X) (d : Nat) (p0 : Option Nat) (S : zs_T) (Q : zs_Q) : Prop :=
  (∃ b1, p0 = some b1 ∧ zs_K S b1 = some (.inl 6) ∧ ∃ b4, (zs_R S 6002 b1) = some b4 ∧ zs_K S b4 = some (.inl 6) ∧ zs_C X d 30000 [.int (1 : Int32), .int (zs_I S 6010 b4)] S (zs_kI (fun v8 S7 => (Q (.returned (some (.int ((1 : Int32) + v8)))) S7)) Q))
theorem u_X5_pieces_40 {σ : Nat → Nat} {n0 : Nat} {bf : ab_B} {d : Nat} {p0 : Option Nat} {S : zs_T} {Q : zs_Q} (hB : zt_B bf) (h : w_X5_pieces_40 (zx σ n0 bf) d p0 S Q) : zs_U (zx σ n0 bf) d 4075 40 [(0, va_rf p0)] [] S Q := by
  unfold w_X5_pieces_40 at h
  refine zu_iconst d_4075_40 zi_1 ?_
  refine zu_iconst d_4075_41 zi_1 ?_
  refine zu_aload_n d_4075_42 rfl (zs_rr _) ?_
  obtain ⟨b1, e2, h⟩ := h
  refine zs_stk0 (zs_rfe e2) ?_
  obtain ⟨k3, h⟩ := h
  refine zg_4_320 rfl d_4075_43 k3 ?_
  obtain ⟨b4, e5, h⟩ := h
  refine zs_stk0 (zs_rfe e5) ?_
  obtain ⟨k6, h⟩ := h
  refine zg_4_347 rfl d_4075_46 k6 ?_
  refine zc_4_402 (x0 := (1 : Int32)) (x1 := (zs_I S 6010 b4)) hB rfl d_4075_49 (Nat.le_of_ble_eq_true rfl) h (fun v8 S7 h => ?_)
  refine zu_stk d_4075_52 rfl rfl ?_
  exact zu_iret d_4075_53 zr_4075 rfl h
def w_X5_pieces (X : zs_X) (d : Nat) (p0 : Option Nat) (S : zs_T) (Q : zs_Q) : Prop :=
  (∃ b1, p0 = some b1 ∧ zs_K S b1 = some (.inl 6) ∧ (((zs_I S 6000 b1).toInt < 7 ∨ 11 < (zs_I S 6000 b1).toInt → (Q (.returned (some (.int (1 : Int32)))) S)) ∧ ((zs_I S 6000 b1).toInt = 7 → w_X5_pieces_40 X d p0 S Q) ∧ ((zs_I S 6000 b1).toInt = 8 → (zs_C X d 4076 [va_rf (zs_R S 6006 b1)] S (zs_kI (fun v6 S5 => (Q (.returned (some (.int ((1 : Int32) + v6)))) S5)) Q))) ∧ ((zs_I S 6000 b1).toInt = 9 → (Q (.returned (some (.int (1 : Int32)))) S)) ∧ ((zs_I S 6000 b1).toInt = 10 → (Q (.returned (some (.int (1 : Int32)))) S)) ∧ ((zs_I S 6000 b1).toInt = 11 → w_X5_pieces_40 X d p0 S Q)))
theorem u_X5_pieces {σ : Nat → Nat} {n0 : Nat} {bf : ab_B} {d : Nat} {p0 : Option Nat} {S : zs_T} {Q : zs_Q} (hB : zt_B bf) (hd : 1 ≤ d) (h : w_X5_pieces (zx σ n0 bf) (d - 1) p0 S Q) : zs_C (zx σ n0 bf) d 4075 [va_rf p0] S Q := by
  have hL : lv_args 0 [va_rf p0] = [(0, va_rf p0)] := by simp [lv_args, zs_cat, zs_cI, zs_cJ, zs_cA]
  refine zs_C.of1 (hB.2 4075 (by decide) (by decide)) hd (by rw [hL]; exact zs_sub_self _ (by exact ⟨rfl, trivial⟩)) ?_
  rw [hL]
  clear hL
  unfold w_X5_pieces at h
  refine zu_aload_n d_4075_0 rfl (zs_rr _) ?_
  obtain ⟨b1, e2, h⟩ := h
  refine zs_stk0 (zs_rfe e2) ?_
  obtain ⟨k3, h⟩ := h
  refine zg_4_369 rfl d_4075_1 k3 ?_
  refine zu_tsw (td := 64) d_4075_4 (by decide) rfl (fun c4 => ?_) ⟨fun c4 => ⟨by decide, ?_⟩, fun c4 => ⟨by decide, ?_⟩, fun c4 => ⟨by decide, ?_⟩, fun c4 => ⟨by decide, ?_⟩, fun c4 => ⟨by decide, ?_⟩, trivial⟩
  · have h := h.1 c4
    refine zu_iconst d_4075_64 zi_1 ?_
    exact zu_iret d_4075_65 zr_4075 rfl h
  · have h := h.2.1 c4
    show zs_U _ _ _ 40 _ _ _ _
    exact (u_X5_pieces_40 hB h).weak ⟨rfl, trivial⟩
  · have h := h.2.2.1 c4
    show zs_U _ _ _ 54 _ _ _ _
    refine zu_iconst d_4075_54 zi_1 ?_
    refine zu_aload_n d_4075_55 rfl (zs_rr _) ?_
    refine zs_stk0 (zs_rfe e2) ?_
    refine zg_4_75 rfl d_4075_56 k3 ?_
    refine zc_4_410 (x0 := (zs_R S 6006 b1)) hB rfl d_4075_59 (Nat.le_of_ble_eq_true rfl) h (fun v6 S5 h => ?_)
    refine zu_stk d_4075_62 rfl rfl ?_
    exact zu_iret d_4075_63 zr_4075 rfl h
  · have h := h.2.2.2.1 c4
    show zs_U _ _ _ 64 _ _ _ _
    refine zu_iconst d_4075_64 zi_1 ?_
    exact zu_iret d_4075_65 zr_4075 rfl h
  · have h := h.2.2.2.2.1 c4
    show zs_U _ _ _ 64 _ _ _ _
    refine zu_iconst d_4075_64 zi_1 ?_
    exact zu_iret d_4075_65 zr_4075 rfl h
  · have h := h.2.2.2.2.2 c4
    show zs_U _ _ _ 40 _ _ _ _
    exact (u_X5_pieces_40 hB h).weak ⟨rfl, trivial⟩
/-! SchemaPascal$Reader.pieces(LSchemaPascal$Fields;)I -/
theorem zm_4076 {σ : Nat → Nat} {n0 : Nat} {bf : ab_B} : ab_code (zx σ n0 bf).1 4076 = prog_9_method_25_code := rfl
theorem zq_4076 {σ : Nat → Nat} {n0 : Nat} {bf : ab_B} : ab_maxL (zx σ n0 bf).1 4076 = 3 := rfl
theorem zr_4076 {σ : Nat → Nat} {n0 : Nat} {bf : ab_B} : ab_ret (zx σ n0 bf).1 4076 = (Option.some Jvm.ClassFile.FieldType.int) := rfl
theorem d_4076_0 {σ : Nat → Nat} {n0 : Nat} {bf : ab_B} : decode (ab_code (zx σ n0 bf).1 4076) 0 = .ok (.iconst 0, 1) := zd zm_4076 (by decide +kernel)
theorem d_4076_1 {σ : Nat → Nat} {n0 : Nat} {bf : ab_B} : decode (ab_code (zx σ n0 bf).1 4076) 1 = .ok (.istore_n 1, 1) := zd zm_4076 (by decide +kernel)
theorem d_4076_2 {σ : Nat → Nat} {n0 : Nat} {bf : ab_B} : decode (ab_code (zx σ n0 bf).1 4076) 2 = .ok (.iconst 0, 1) := zd zm_4076 (by decide +kernel)
theorem d_4076_3 {σ : Nat → Nat} {n0 : Nat} {bf : ab_B} : decode (ab_code (zx σ n0 bf).1 4076) 3 = .ok (.istore_n 2, 1) := zd zm_4076 (by decide +kernel)
theorem d_4076_4 {σ : Nat → Nat} {n0 : Nat} {bf : ab_B} : decode (ab_code (zx σ n0 bf).1 4076) 4 = .ok (.iload_n 2, 1) := zd zm_4076 (by decide +kernel)
theorem d_4076_5 {σ : Nat → Nat} {n0 : Nat} {bf : ab_B} : decode (ab_code (zx σ n0 bf).1 4076) 5 = .ok (.aload_n 0, 1) := zd zm_4076 (by decide +kernel)
theorem d_4076_6 {σ : Nat → Nat} {n0 : Nat} {bf : ab_B} : decode (ab_code (zx σ n0 bf).1 4076) 6 = .ok (.getfield 412, 3) := zd zm_4076 (by decide +kernel)
theorem d_4076_9 {σ : Nat → Nat} {n0 : Nat} {bf : ab_B} : decode (ab_code (zx σ n0 bf).1 4076) 9 = .ok (.invokevirtual 50, 3) := zd zm_4076 (by decide +kernel)
theorem d_4076_12 {σ : Nat → Nat} {n0 : Nat} {bf : ab_B} : decode (ab_code (zx σ n0 bf).1 4076) 12 = .ok (.if_icmp .ge 33, 3) := zd zm_4076 (by decide +kernel)
theorem d_4076_15 {σ : Nat → Nat} {n0 : Nat} {bf : ab_B} : decode (ab_code (zx σ n0 bf).1 4076) 15 = .ok (.iload_n 1, 1) := zd zm_4076 (by decide +kernel)
theorem d_4076_16 {σ : Nat → Nat} {n0 : Nat} {bf : ab_B} : decode (ab_code (zx σ n0 bf).1 4076) 16 = .ok (.iconst 1, 1) := zd zm_4076 (by decide +kernel)
theorem d_4076_17 {σ : Nat → Nat} {n0 : Nat} {bf : ab_B} : decode (ab_code (zx σ n0 bf).1 4076) 17 = .ok (.aload_n 0, 1) := zd zm_4076 (by decide +kernel)
theorem d_4076_18 {σ : Nat → Nat} {n0 : Nat} {bf : ab_B} : decode (ab_code (zx σ n0 bf).1 4076) 18 = .ok (.getfield 412, 3) := zd zm_4076 (by decide +kernel)
theorem d_4076_21 {σ : Nat → Nat} {n0 : Nat} {bf : ab_B} : decode (ab_code (zx σ n0 bf).1 4076) 21 = .ok (.iload_n 2, 1) := zd zm_4076 (by decide +kernel)
theorem d_4076_22 {σ : Nat → Nat} {n0 : Nat} {bf : ab_B} : decode (ab_code (zx σ n0 bf).1 4076) 22 = .ok (.invokevirtual 56, 3) := zd zm_4076 (by decide +kernel)
theorem d_4076_25 {σ : Nat → Nat} {n0 : Nat} {bf : ab_B} : decode (ab_code (zx σ n0 bf).1 4076) 25 = .ok (.checkcast 93, 3) := zd zm_4076 (by decide +kernel)
theorem d_4076_28 {σ : Nat → Nat} {n0 : Nat} {bf : ab_B} : decode (ab_code (zx σ n0 bf).1 4076) 28 = .ok (.getfield 96, 3) := zd zm_4076 (by decide +kernel)
theorem d_4076_31 {σ : Nat → Nat} {n0 : Nat} {bf : ab_B} : decode (ab_code (zx σ n0 bf).1 4076) 31 = .ok (.getfield 347, 3) := zd zm_4076 (by decide +kernel)
theorem d_4076_34 {σ : Nat → Nat} {n0 : Nat} {bf : ab_B} : decode (ab_code (zx σ n0 bf).1 4076) 34 = .ok (.invokestatic 402, 3) := zd zm_4076 (by decide +kernel)
theorem d_4076_37 {σ : Nat → Nat} {n0 : Nat} {bf : ab_B} : decode (ab_code (zx σ n0 bf).1 4076) 37 = .ok (.iadd, 1) := zd zm_4076 (by decide +kernel)
theorem d_4076_38 {σ : Nat → Nat} {n0 : Nat} {bf : ab_B} : decode (ab_code (zx σ n0 bf).1 4076) 38 = .ok (.istore_n 1, 1) := zd zm_4076 (by decide +kernel)
theorem d_4076_39 {σ : Nat → Nat} {n0 : Nat} {bf : ab_B} : decode (ab_code (zx σ n0 bf).1 4076) 39 = .ok (.iinc 2 1, 3) := zd zm_4076 (by decide +kernel)
theorem d_4076_42 {σ : Nat → Nat} {n0 : Nat} {bf : ab_B} : decode (ab_code (zx σ n0 bf).1 4076) 42 = .ok (.goto (-38), 3) := zd zm_4076 (by decide +kernel)
theorem d_4076_45 {σ : Nat → Nat} {n0 : Nat} {bf : ab_B} : decode (ab_code (zx σ n0 bf).1 4076) 45 = .ok (.iconst 0, 1) := zd zm_4076 (by decide +kernel)
theorem d_4076_46 {σ : Nat → Nat} {n0 : Nat} {bf : ab_B} : decode (ab_code (zx σ n0 bf).1 4076) 46 = .ok (.istore_n 2, 1) := zd zm_4076 (by decide +kernel)
theorem d_4076_47 {σ : Nat → Nat} {n0 : Nat} {bf : ab_B} : decode (ab_code (zx σ n0 bf).1 4076) 47 = .ok (.aload_n 0, 1) := zd zm_4076 (by decide +kernel)
theorem d_4076_48 {σ : Nat → Nat} {n0 : Nat} {bf : ab_B} : decode (ab_code (zx σ n0 bf).1 4076) 48 = .ok (.getfield 415, 3) := zd zm_4076 (by decide +kernel)
theorem d_4076_51 {σ : Nat → Nat} {n0 : Nat} {bf : ab_B} : decode (ab_code (zx σ n0 bf).1 4076) 51 = .ok (.ifnull 46, 3) := zd zm_4076 (by decide +kernel)
theorem d_4076_54 {σ : Nat → Nat} {n0 : Nat} {bf : ab_B} : decode (ab_code (zx σ n0 bf).1 4076) 54 = .ok (.iload_n 2, 1) := zd zm_4076 (by decide +kernel)
theorem d_4076_55 {σ : Nat → Nat} {n0 : Nat} {bf : ab_B} : decode (ab_code (zx σ n0 bf).1 4076) 55 = .ok (.aload_n 0, 1) := zd zm_4076 (by decide +kernel)
theorem d_4076_56 {σ : Nat → Nat} {n0 : Nat} {bf : ab_B} : decode (ab_code (zx σ n0 bf).1 4076) 56 = .ok (.getfield 415, 3) := zd zm_4076 (by decide +kernel)
theorem d_4076_59 {σ : Nat → Nat} {n0 : Nat} {bf : ab_B} : decode (ab_code (zx σ n0 bf).1 4076) 59 = .ok (.getfield 419, 3) := zd zm_4076 (by decide +kernel)
theorem d_4076_62 {σ : Nat → Nat} {n0 : Nat} {bf : ab_B} : decode (ab_code (zx σ n0 bf).1 4076) 62 = .ok (.invokevirtual 50, 3) := zd zm_4076 (by decide +kernel)
theorem d_4076_65 {σ : Nat → Nat} {n0 : Nat} {bf : ab_B} : decode (ab_code (zx σ n0 bf).1 4076) 65 = .ok (.if_icmp .ge 32, 3) := zd zm_4076 (by decide +kernel)
theorem d_4076_68 {σ : Nat → Nat} {n0 : Nat} {bf : ab_B} : decode (ab_code (zx σ n0 bf).1 4076) 68 = .ok (.iload_n 1, 1) := zd zm_4076 (by decide +kernel)
theorem d_4076_69 {σ : Nat → Nat} {n0 : Nat} {bf : ab_B} : decode (ab_code (zx σ n0 bf).1 4076) 69 = .ok (.aload_n 0, 1) := zd zm_4076 (by decide +kernel)
theorem d_4076_70 {σ : Nat → Nat} {n0 : Nat} {bf : ab_B} : decode (ab_code (zx σ n0 bf).1 4076) 70 = .ok (.getfield 415, 3) := zd zm_4076 (by decide +kernel)
theorem d_4076_73 {σ : Nat → Nat} {n0 : Nat} {bf : ab_B} : decode (ab_code (zx σ n0 bf).1 4076) 73 = .ok (.getfield 419, 3) := zd zm_4076 (by decide +kernel)
theorem d_4076_76 {σ : Nat → Nat} {n0 : Nat} {bf : ab_B} : decode (ab_code (zx σ n0 bf).1 4076) 76 = .ok (.iload_n 2, 1) := zd zm_4076 (by decide +kernel)
theorem d_4076_77 {σ : Nat → Nat} {n0 : Nat} {bf : ab_B} : decode (ab_code (zx σ n0 bf).1 4076) 77 = .ok (.invokevirtual 56, 3) := zd zm_4076 (by decide +kernel)
theorem d_4076_80 {σ : Nat → Nat} {n0 : Nat} {bf : ab_B} : decode (ab_code (zx σ n0 bf).1 4076) 80 = .ok (.checkcast 424, 3) := zd zm_4076 (by decide +kernel)
theorem d_4076_83 {σ : Nat → Nat} {n0 : Nat} {bf : ab_B} : decode (ab_code (zx σ n0 bf).1 4076) 83 = .ok (.getfield 426, 3) := zd zm_4076 (by decide +kernel)
theorem d_4076_86 {σ : Nat → Nat} {n0 : Nat} {bf : ab_B} : decode (ab_code (zx σ n0 bf).1 4076) 86 = .ok (.invokestatic 410, 3) := zd zm_4076 (by decide +kernel)
theorem d_4076_89 {σ : Nat → Nat} {n0 : Nat} {bf : ab_B} : decode (ab_code (zx σ n0 bf).1 4076) 89 = .ok (.iadd, 1) := zd zm_4076 (by decide +kernel)
theorem d_4076_90 {σ : Nat → Nat} {n0 : Nat} {bf : ab_B} : decode (ab_code (zx σ n0 bf).1 4076) 90 = .ok (.istore_n 1, 1) := zd zm_4076 (by decide +kernel)
theorem d_4076_91 {σ : Nat → Nat} {n0 : Nat} {bf : ab_B} : decode (ab_code (zx σ n0 bf).1 4076) 91 = .ok (.iinc 2 1, 3) := zd zm_4076 (by decide +kernel)
theorem d_4076_94 {σ : Nat → Nat} {n0 : Nat} {bf : ab_B} : decode (ab_code (zx σ n0 bf).1 4076) 94 = .ok (.goto (-47), 3) := zd zm_4076 (by decide +kernel)
theorem d_4076_97 {σ : Nat → Nat} {n0 : Nat} {bf : ab_B} : decode (ab_code (zx σ n0 bf).1 4076) 97 = .ok (.iload_n 1, 1) := zd zm_4076 (by decide +kernel)
theorem d_4076_98 {σ : Nat → Nat} {n0 : Nat} {bf : ab_B} : decode (ab_code (zx σ n0 bf).1 4076) 98 = .ok (.ireturn, 1) := zd zm_4076 (by decide +kernel)
def w_X5_pieces_2_39 (X : zs_X) (d : Nat) (p0 : Option Nat) (p1 : Int32) (p2 : Int32) (S : zs_T) (Q : zs_Q) : Prop :=
  (zs_U X d 4076 4 [(0, va_rf p0), (1, .int p1), (2, .int (p2 + (1 : Int32)))] [] S Q)
theorem u_X5_pieces_2_39 {σ : Nat → Nat} {n0 : Nat} {bf : ab_B} {d : Nat} {p0 : Option Nat} {p1 : Int32} {p2 : Int32} {S : zs_T} {Q : zs_Q} (hB : zt_B bf) (h : w_X5_pieces_2_39 (zx σ n0 bf) d p0 p1 p2 S Q) : zs_U (zx σ n0 bf) d 4076 39 [(0, va_rf p0), (1, .int p1), (2, .int p2)] [] S Q := by
  unfold w_X5_pieces_2_39 at h
  refine zu_iinc d_4076_39 rfl zi_1 (zs_lt zq_4076 rfl) ?_
  refine zu_goto (t := 4) d_4076_42 rfl ?_
  exact h.weak ⟨rfl, rfl, rfl, trivial⟩
def w_X5_pieces_2_4 (X : zs_X) (d : Nat) (p0 : Option Nat) (p1 : Int32) (p2 : Int32) (S : zs_T) (Q : zs_Q) : Prop :=
  (∃ b1, p0 = some b1 ∧ zs_K S b1 = some (.inl 13) ∧ ∃ b4, (zs_R S 13000 b1) = some b4 ∧ zs_K S b4 = some (.inl 16) ∧ zs_C X d 16001 [.ref b4] S (zs_kI (fun v8 S7 => (((v8 ≤ p2 → (zs_U X d 4076 47 [(0, va_rf p0), (1, .int p1), (2, .int (0 : Int32))] [] S7 Q)) ∧ (¬ (v8 ≤ p2) → (zs_K S7 b1 = some (.inl 13) ∧ ∃ b11, (zs_R S7 13000 b1) = some b11 ∧ zs_K S7 b11 = some (.inl 16) ∧ zs_C X d 16009 [.ref b11, .int p2] S7 (zs_kR (fun v15 S14 => ((∀ a, v15 = some a → zs_K S14 a = some (.inl 12)) ∧ ∃ b17, v15 = some b17 ∧ zs_K S14 b17 = some (.inl 12) ∧ ∃ b20, (zs_R S14 12001 b17) = some b20 ∧ zs_K S14 b20 = some (.inl 6) ∧ zs_C X d 30000 [.int (1 : Int32), .int (zs_I S14 6010 b20)] S14 (zs_kI (fun v24 S23 => (w_X5_pieces_2_39 X d p0 (p1 + v24) p2 S23 Q)) Q))) Q)))))) Q))
theorem u_X5_pieces_2_4 {σ : Nat → Nat} {n0 : Nat} {bf : ab_B} {d : Nat} {p0 : Option Nat} {p1 : Int32} {p2 : Int32} {S : zs_T} {Q : zs_Q} (hB : zt_B bf) (h : w_X5_pieces_2_4 (zx σ n0 bf) d p0 p1 p2 S Q) : zs_U (zx σ n0 bf) d 4076 4 [(0, va_rf p0), (1, .int p1), (2, .int p2)] [] S Q := by
  unfold w_X5_pieces_2_4 at h
  refine zu_iload_n d_4076_4 rfl ?_
  refine zu_aload_n d_4076_5 rfl (zs_rr _) ?_
  obtain ⟨b1, e2, h⟩ := h
  refine zs_stk0 (zs_rfe e2) ?_
  obtain ⟨k3, h⟩ := h
  refine zg_4_412 rfl d_4076_6 k3 ?_
  obtain ⟨b4, e5, h⟩ := h
  refine zs_stk0 (zs_rfe e5) ?_
  obtain ⟨k6, h⟩ := h
  refine zc_4_50  hB rfl k6 d_4076_9 (Nat.le_of_ble_eq_true rfl) h (fun v8 S7 h => ?_)
  refine zu_cmpge (t := 45) d_4076_12 rfl (fun c9 => ?_) (fun c9 => ?_)
  · have h := h.1 c9
    refine zu_iconst d_4076_45 zi_0 ?_
    refine zu_istore_n d_4076_46 (zs_lt zq_4076 rfl) ?_
    exact h.weak ⟨rfl, rfl, rfl, trivial⟩
  · have h := h.2 c9
    refine zu_iload_n d_4076_15 rfl ?_
    refine zu_iconst d_4076_16 zi_1 ?_
    refine zu_aload_n d_4076_17 rfl (zs_rr _) ?_
    refine zs_stk0 (zs_rfe e2) ?_
    obtain ⟨k10, h⟩ := h
    refine zg_4_412 rfl d_4076_18 k10 ?_
    refine zu_iload_n d_4076_21 rfl ?_
    obtain ⟨b11, e12, h⟩ := h
    refine zs_stk1 (zs_rfe e12) ?_
    obtain ⟨k13, h⟩ := h
    refine zc_4_56 (x0 := p2) hB rfl k13 d_4076_22 (Nat.le_of_ble_eq_true rfl) h (fun v15 S14 h => ?_)
    obtain ⟨k16, h⟩ := h
    refine zk_4_93 (o := v15) rfl d_4076_25 k16 ?_
    obtain ⟨b17, e18, h⟩ := h
    refine zs_stk0 (zs_rfe e18) ?_
    obtain ⟨k19, h⟩ := h
    refine zg_4_96 rfl d_4076_28 k19 ?_
    obtain ⟨b20, e21, h⟩ := h
    refine zs_stk0 (zs_rfe e21) ?_
    obtain ⟨k22, h⟩ := h
    refine zg_4_347 rfl d_4076_31 k22 ?_
    refine zc_4_402 (x0 := (1 : Int32)) (x1 := (zs_I S14 6010 b20)) hB rfl d_4076_34 (Nat.le_of_ble_eq_true rfl) h (fun v24 S23 h => ?_)
    refine zu_stk d_4076_37 rfl rfl ?_
    refine zu_istore_n d_4076_38 (zs_lt zq_4076 rfl) ?_
    refine zs_U.weak (L1 := [(1, .int (p1 + v24)), (0, va_rf p0), (2, .int p2)]) ?_ ⟨rfl, zs_gp1 rfl (Or.inl (zs_cat _)) rfl, zs_gp1 rfl (Or.inl rfl) rfl, trivial⟩
    exact (u_X5_pieces_2_39 hB h).weak ⟨rfl, rfl, rfl, trivial⟩
def w_X5_pieces_2_91 (X : zs_X) (d : Nat) (p0 : Option Nat) (p1 : Int32) (p2 : Int32) (S : zs_T) (Q : zs_Q) : Prop :=
  (zs_U X d 4076 47 [(0, va_rf p0), (1, .int p1), (2, .int (p2 + (1 : Int32)))] [] S Q)
theorem u_X5_pieces_2_91 {σ : Nat → Nat} {n0 : Nat} {bf : ab_B} {d : Nat} {p0 : Option Nat} {p1 : Int32} {p2 : Int32} {S : zs_T} {Q : zs_Q} (hB : zt_B bf) (h : w_X5_pieces_2_91 (zx σ n0 bf) d p0 p1 p2 S Q) : zs_U (zx σ n0 bf) d 4076 91 [(0, va_rf p0), (1, .int p1), (2, .int p2)] [] S Q := by
  unfold w_X5_pieces_2_91 at h
  refine zu_iinc d_4076_91 rfl zi_1 (zs_lt zq_4076 rfl) ?_
  refine zu_goto (t := 47) d_4076_94 rfl ?_
  exact h.weak ⟨rfl, rfl, rfl, trivial⟩
def w_X5_pieces_2_47 (X : zs_X) (d : Nat) (p0 : Option Nat) (p1 : Int32) (p2 : Int32) (S : zs_T) (Q : zs_Q) : Prop :=
  (∃ b1, p0 = some b1 ∧ zs_K S b1 = some (.inl 13) ∧ (((zs_R S 13001 b1) = none → (Q (.returned (some (.int p1))) S)) ∧ (∀ b4, (zs_R S 13001 b1) = some b4 → (zs_K S b4 = some (.inl 14) ∧ ∃ b7, (zs_R S 14001 b4) = some b7 ∧ zs_K S b7 = some (.inl 16) ∧ zs_C X d 16001 [.ref b7] S (zs_kI (fun v11 S10 => (((v11 ≤ p2 → (Q (.returned (some (.int p1))) S10)) ∧ (¬ (v11 ≤ p2) → (zs_K S10 b1 = some (.inl 13) ∧ ∃ b14, (zs_R S10 13001 b1) = some b14 ∧ zs_K S10 b14 = some (.inl 14) ∧ ∃ b17, (zs_R S10 14001 b14) = some b17 ∧ zs_K S10 b17 = some (.inl 16) ∧ zs_C X d 16009 [.ref b17, .int p2] S10 (zs_kR (fun v21 S20 => ((∀ a, v21 = some a → zs_K S20 a = some (.inl 15)) ∧ ∃ b23, v21 = some b23 ∧ zs_K S20 b23 = some (.inl 15) ∧ zs_C X d 4076 [va_rf (zs_R S20 15002 b23)] S20 (zs_kI (fun v27 S26 => (w_X5_pieces_2_91 X d p0 (p1 + v27) p2 S26 Q)) Q))) Q)))))) Q)))))
theorem u_X5_pieces_2_47 {σ : Nat → Nat} {n0 : Nat} {bf : ab_B} {d : Nat} {p0 : Option Nat} {p1 : Int32} {p2 : Int32} {S : zs_T} {Q : zs_Q} (hB : zt_B bf) (h : w_X5_pieces_2_47 (zx σ n0 bf) d p0 p1 p2 S Q) : zs_U (zx σ n0 bf) d 4076 47 [(0, va_rf p0), (1, .int p1), (2, .int p2)] [] S Q := by
  unfold w_X5_pieces_2_47 at h
  refine zu_aload_n d_4076_47 rfl (zs_rr _) ?_
  obtain ⟨b1, e2, h⟩ := h
  refine zs_stk0 (zs_rfe e2) ?_
  obtain ⟨k3, h⟩ := h
  refine zg_4_415 rfl d_4076_48 k3 ?_
  refine zu_ifnull (u := (zs_R S 13001 b1)) (t := 97) d_4076_51 rfl rfl (fun e5 => ?_) (fun b4 e5 => ?_)
  · have h := h.1 e5
    refine zu_iload_n d_4076_97 rfl ?_
    exact zu_iret d_4076_98 zr_4076 rfl h
  · have h := h.2 b4 e5
    refine zu_iload_n d_4076_54 rfl ?_
    refine zu_aload_n d_4076_55 rfl (zs_rr _) ?_
    refine zs_stk0 (zs_rfe e2) ?_
    refine zg_4_415 rfl d_4076_56 k3 ?_
    refine zs_stk0 (zs_rfe e5) ?_
    obtain ⟨k6, h⟩ := h
    refine zg_4_419 rfl d_4076_59 k6 ?_
    obtain ⟨b7, e8, h⟩ := h
    refine zs_stk0 (zs_rfe e8) ?_
    obtain ⟨k9, h⟩ := h
    refine zc_4_50  hB rfl k9 d_4076_62 (Nat.le_of_ble_eq_true rfl) h (fun v11 S10 h => ?_)
    refine zu_cmpge (t := 97) d_4076_65 rfl (fun c12 => ?_) (fun c12 => ?_)
    · have h := h.1 c12
      refine zu_iload_n d_4076_97 rfl ?_
      exact zu_iret d_4076_98 zr_4076 rfl h
    · have h := h.2 c12
      refine zu_iload_n d_4076_68 rfl ?_
      refine zu_aload_n d_4076_69 rfl (zs_rr _) ?_
      refine zs_stk0 (zs_rfe e2) ?_
      obtain ⟨k13, h⟩ := h
      refine zg_4_415 rfl d_4076_70 k13 ?_
      obtain ⟨b14, e15, h⟩ := h
      refine zs_stk0 (zs_rfe e15) ?_
      obtain ⟨k16, h⟩ := h
      refine zg_4_419 rfl d_4076_73 k16 ?_
      refine zu_iload_n d_4076_76 rfl ?_
      obtain ⟨b17, e18, h⟩ := h
      refine zs_stk1 (zs_rfe e18) ?_
      obtain ⟨k19, h⟩ := h
      refine zc_4_56 (x0 := p2) hB rfl k19 d_4076_77 (Nat.le_of_ble_eq_true rfl) h (fun v21 S20 h => ?_)
      obtain ⟨k22, h⟩ := h
      refine zk_4_424 (o := v21) rfl d_4076_80 k22 ?_
      obtain ⟨b23, e24, h⟩ := h
      refine zs_stk0 (zs_rfe e24) ?_
      obtain ⟨k25, h⟩ := h
      refine zg_4_426 rfl d_4076_83 k25 ?_
      refine zc_4_410 (x0 := (zs_R S20 15002 b23)) hB rfl d_4076_86 (Nat.le_of_ble_eq_true rfl) h (fun v27 S26 h => ?_)
      refine zu_stk d_4076_89 rfl rfl ?_
      refine zu_istore_n d_4076_90 (zs_lt zq_4076 rfl) ?_
      refine zs_U.weak (L1 := [(1, .int (p1 + v27)), (0, va_rf p0), (2, .int p2)]) ?_ ⟨rfl, zs_gp1 rfl (Or.inl (zs_cat _)) rfl, zs_gp1 rfl (Or.inl rfl) rfl, trivial⟩
      exact (u_X5_pieces_2_91 hB h).weak ⟨rfl, rfl, rfl, trivial⟩
def w_X5_pieces_2 (X : zs_X) (d : Nat) (p0 : Option Nat) (S : zs_T) (Q : zs_Q) : Prop :=
  (zs_U X d 4076 4 [(0, va_rf p0), (1, .int (0 : Int32)), (2, .int (0 : Int32))] [] S Q)
theorem u_X5_pieces_2 {σ : Nat → Nat} {n0 : Nat} {bf : ab_B} {d : Nat} {p0 : Option Nat} {S : zs_T} {Q : zs_Q} (hB : zt_B bf) (hd : 1 ≤ d) (h : w_X5_pieces_2 (zx σ n0 bf) (d - 1) p0 S Q) : zs_C (zx σ n0 bf) d 4076 [va_rf p0] S Q := by
  have hL : lv_args 0 [va_rf p0] = [(0, va_rf p0)] := by simp [lv_args, zs_cat, zs_cI, zs_cJ, zs_cA]
  refine zs_C.of1 (hB.2 4076 (by decide) (by decide)) hd (by rw [hL]; exact zs_sub_self _ (by exact ⟨rfl, trivial⟩)) ?_
  rw [hL]
  clear hL
  unfold w_X5_pieces_2 at h
  refine zu_iconst d_4076_0 zi_0 ?_
  refine zu_istore_n d_4076_1 (zs_lt zq_4076 rfl) ?_
  refine zs_U.weak (L1 := [(1, .int (0 : Int32)), (0, va_rf p0)]) ?_ ⟨rfl, zs_gp1 rfl (Or.inl (zs_cat _)) rfl, trivial⟩
  refine zu_iconst d_4076_2 zi_0 ?_
  refine zu_istore_n d_4076_3 (zs_lt zq_4076 rfl) ?_
  exact h.weak ⟨rfl, rfl, rfl, trivial⟩
/-! SchemaPascal$Reader.typeOf(Z)LSchemaPascal$Type; -/
theorem zm_4077 {σ : Nat → Nat} {n0 : Nat} {bf : ab_B} : ab_code (zx σ n0 bf).1 4077 = prog_9_method_20_code := rfl
theorem zq_4077 {σ : Nat → Nat} {n0 : Nat} {bf : ab_B} : ab_maxL (zx σ n0 bf).1 4077 = 2 := rfl
theorem zr_4077 {σ : Nat → Nat} {n0 : Nat} {bf : ab_B} : ab_ret (zx σ n0 bf).1 4077 = (Option.some (Jvm.ClassFile.FieldType.object "SchemaPascal$Type")) := rfl
theorem d_4077_0 {σ : Nat → Nat} {n0 : Nat} {bf : ab_B} : decode (ab_code (zx σ n0 bf).1 4077) 0 = .ok (.aload_n 0, 1) := zd zm_4077 (by decide +kernel)
theorem d_4077_1 {σ : Nat → Nat} {n0 : Nat} {bf : ab_B} : decode (ab_code (zx σ n0 bf).1 4077) 1 = .ok (.iload_n 1, 1) := zd zm_4077 (by decide +kernel)
theorem d_4077_2 {σ : Nat → Nat} {n0 : Nat} {bf : ab_B} : decode (ab_code (zx σ n0 bf).1 4077) 2 = .ok (.iconst 0, 1) := zd zm_4077 (by decide +kernel)
theorem d_4077_3 {σ : Nat → Nat} {n0 : Nat} {bf : ab_B} : decode (ab_code (zx σ n0 bf).1 4077) 3 = .ok (.invokevirtual 341, 3) := zd zm_4077 (by decide +kernel)
theorem d_4077_6 {σ : Nat → Nat} {n0 : Nat} {bf : ab_B} : decode (ab_code (zx σ n0 bf).1 4077) 6 = .ok (.areturn, 1) := zd zm_4077 (by decide +kernel)
def w_X5_typeOf_2 (X : zs_X) (d : Nat) (p0 : Nat) (p1 : Int32) (S : zs_T) (Q : zs_Q) : Prop :=
  (zs_K S p0 = some (.inl 4) ∧ zs_C X d 4063 [.ref p0, .int p1, .int (0 : Int32)] S (zs_kR (fun v3 S2 => (Q (.returned (some (va_rf v3))) S2)) Q))
theorem u_X5_typeOf_2 {σ : Nat → Nat} {n0 : Nat} {bf : ab_B} {d : Nat} {p0 : Nat} {p1 : Int32} {S : zs_T} {Q : zs_Q} (hB : zt_B bf) (hd : 1 ≤ d) (h : w_X5_typeOf_2 (zx σ n0 bf) (d - 1) p0 p1 S Q) : zs_C (zx σ n0 bf) d 4077 [.ref p0, .int p1] S Q := by
  have hL : lv_args 0 [.ref p0, .int p1] = [(0, .ref p0), (1, .int p1)] := rfl
  refine zs_C.of1 (hB.2 4077 (by decide) (by decide)) hd (by rw [hL]; exact zs_sub_self _ (by exact ⟨rfl, rfl, trivial⟩)) ?_
  rw [hL]
  clear hL
  unfold w_X5_typeOf_2 at h
  refine zu_aload_n d_4077_0 rfl (zs_ra _) ?_
  refine zu_iload_n d_4077_1 rfl ?_
  refine zu_iconst d_4077_2 zi_0 ?_
  obtain ⟨k1, h⟩ := h
  refine zc_4_341 (x0 := p1) (x1 := (0 : Int32)) hB rfl k1 d_4077_3 (Nat.le_of_ble_eq_true rfl) h (fun v3 S2 h => ?_)
  exact zu_aret d_4077_6 zr_4077 (zs_rr _) h
/-! SchemaPascal$Reader.record()LSchemaPascal$Type; -/
theorem zm_4078 {σ : Nat → Nat} {n0 : Nat} {bf : ab_B} : ab_code (zx σ n0 bf).1 4078 = prog_9_method_34_code := rfl
theorem zq_4078 {σ : Nat → Nat} {n0 : Nat} {bf : ab_B} : ab_maxL (zx σ n0 bf).1 4078 = 2 := rfl
theorem zr_4078 {σ : Nat → Nat} {n0 : Nat} {bf : ab_B} : ab_ret (zx σ n0 bf).1 4078 = (Option.some (Jvm.ClassFile.FieldType.object "SchemaPascal$Type")) := rfl
theorem d_4078_0 {σ : Nat → Nat} {n0 : Nat} {bf : ab_B} : decode (ab_code (zx σ n0 bf).1 4078) 0 = .ok (.aload_n 0, 1) := zd zm_4078 (by decide +kernel)
theorem d_4078_1 {σ : Nat → Nat} {n0 : Nat} {bf : ab_B} : decode (ab_code (zx σ n0 bf).1 4078) 1 = .ok (.getfield 5, 3) := zd zm_4078 (by decide +kernel)
theorem d_4078_4 {σ : Nat → Nat} {n0 : Nat} {bf : ab_B} : decode (ab_code (zx σ n0 bf).1 4078) 4 = .ok (.invokevirtual 29, 3) := zd zm_4078 (by decide +kernel)
theorem d_4078_7 {σ : Nat → Nat} {n0 : Nat} {bf : ab_B} : decode (ab_code (zx σ n0 bf).1 4078) 7 = .ok (.aload_n 0, 1) := zd zm_4078 (by decide +kernel)
theorem d_4078_8 {σ : Nat → Nat} {n0 : Nat} {bf : ab_B} : decode (ab_code (zx σ n0 bf).1 4078) 8 = .ok (.bipush 8, 2) := zd zm_4078 (by decide +kernel)
theorem d_4078_10 {σ : Nat → Nat} {n0 : Nat} {bf : ab_B} : decode (ab_code (zx σ n0 bf).1 4078) 10 = .ok (.invokevirtual 144, 3) := zd zm_4078 (by decide +kernel)
theorem d_4078_13 {σ : Nat → Nat} {n0 : Nat} {bf : ab_B} : decode (ab_code (zx σ n0 bf).1 4078) 13 = .ok (.astore_n 1, 1) := zd zm_4078 (by decide +kernel)
theorem d_4078_14 {σ : Nat → Nat} {n0 : Nat} {bf : ab_B} : decode (ab_code (zx σ n0 bf).1 4078) 14 = .ok (.aload_n 1, 1) := zd zm_4078 (by decide +kernel)
theorem d_4078_15 {σ : Nat → Nat} {n0 : Nat} {bf : ab_B} : decode (ab_code (zx σ n0 bf).1 4078) 15 = .ok (.new 80, 3) := zd zm_4078 (by decide +kernel)
theorem d_4078_18 {σ : Nat → Nat} {n0 : Nat} {bf : ab_B} : decode (ab_code (zx σ n0 bf).1 4078) 18 = .ok (.dup, 1) := zd zm_4078 (by decide +kernel)
theorem d_4078_19 {σ : Nat → Nat} {n0 : Nat} {bf : ab_B} : decode (ab_code (zx σ n0 bf).1 4078) 19 = .ok (.invokespecial 489, 3) := zd zm_4078 (by decide +kernel)
theorem d_4078_22 {σ : Nat → Nat} {n0 : Nat} {bf : ab_B} : decode (ab_code (zx σ n0 bf).1 4078) 22 = .ok (.putfield 75, 3) := zd zm_4078 (by decide +kernel)
theorem d_4078_25 {σ : Nat → Nat} {n0 : Nat} {bf : ab_B} : decode (ab_code (zx σ n0 bf).1 4078) 25 = .ok (.aload_n 0, 1) := zd zm_4078 (by decide +kernel)
theorem d_4078_26 {σ : Nat → Nat} {n0 : Nat} {bf : ab_B} : decode (ab_code (zx σ n0 bf).1 4078) 26 = .ok (.aload_n 1, 1) := zd zm_4078 (by decide +kernel)
theorem d_4078_27 {σ : Nat → Nat} {n0 : Nat} {bf : ab_B} : decode (ab_code (zx σ n0 bf).1 4078) 27 = .ok (.aload_n 1, 1) := zd zm_4078 (by decide +kernel)
theorem d_4078_28 {σ : Nat → Nat} {n0 : Nat} {bf : ab_B} : decode (ab_code (zx σ n0 bf).1 4078) 28 = .ok (.getfield 75, 3) := zd zm_4078 (by decide +kernel)
theorem d_4078_31 {σ : Nat → Nat} {n0 : Nat} {bf : ab_B} : decode (ab_code (zx σ n0 bf).1 4078) 31 = .ok (.aconst_null, 1) := zd zm_4078 (by decide +kernel)
theorem d_4078_32 {σ : Nat → Nat} {n0 : Nat} {bf : ab_B} : decode (ab_code (zx σ n0 bf).1 4078) 32 = .ok (.bipush 8, 2) := zd zm_4078 (by decide +kernel)
theorem d_4078_34 {σ : Nat → Nat} {n0 : Nat} {bf : ab_B} : decode (ab_code (zx σ n0 bf).1 4078) 34 = .ok (.invokevirtual 490, 3) := zd zm_4078 (by decide +kernel)
theorem d_4078_37 {σ : Nat → Nat} {n0 : Nat} {bf : ab_B} : decode (ab_code (zx σ n0 bf).1 4078) 37 = .ok (.aload_n 0, 1) := zd zm_4078 (by decide +kernel)
theorem d_4078_38 {σ : Nat → Nat} {n0 : Nat} {bf : ab_B} : decode (ab_code (zx σ n0 bf).1 4078) 38 = .ok (.bipush 8, 2) := zd zm_4078 (by decide +kernel)
theorem d_4078_40 {σ : Nat → Nat} {n0 : Nat} {bf : ab_B} : decode (ab_code (zx σ n0 bf).1 4078) 40 = .ok (.invokevirtual 221, 3) := zd zm_4078 (by decide +kernel)
theorem d_4078_43 {σ : Nat → Nat} {n0 : Nat} {bf : ab_B} : decode (ab_code (zx σ n0 bf).1 4078) 43 = .ok (.aload_n 1, 1) := zd zm_4078 (by decide +kernel)
theorem d_4078_44 {σ : Nat → Nat} {n0 : Nat} {bf : ab_B} : decode (ab_code (zx σ n0 bf).1 4078) 44 = .ok (.areturn, 1) := zd zm_4078 (by decide +kernel)
def w_X5_record_37 (X : zs_X) (d : Nat) (p0 : Nat) (p1 : Option Nat) (S : zs_T) (Q : zs_Q) : Prop :=
  (zs_K S p0 = some (.inl 4) ∧ zs_C X d 4005 [.ref p0, .int (8 : Int32)] S (zs_kV (fun S2 => (Q (.returned (some (va_rf p1))) S2)) Q))
theorem u_X5_record_37 {σ : Nat → Nat} {n0 : Nat} {bf : ab_B} {d : Nat} {p0 : Nat} {p1 : Option Nat} {S : zs_T} {Q : zs_Q} (hB : zt_B bf) (h : w_X5_record_37 (zx σ n0 bf) d p0 p1 S Q) : zs_U (zx σ n0 bf) d 4078 37 [(0, .ref p0), (1, va_rf p1)] [] S Q := by
  unfold w_X5_record_37 at h
  refine zu_aload_n d_4078_37 rfl (zs_ra _) ?_
  refine zu_bipush d_4078_38 zj_8 ?_
  obtain ⟨k1, h⟩ := h
  refine zc_4_221 (x0 := (8 : Int32)) hB rfl k1 d_4078_40 (Nat.le_of_ble_eq_true rfl) h (fun S2 h => ?_)
  refine zu_aload_n d_4078_43 rfl (zs_rr _) ?_
  exact zu_aret d_4078_44 zr_4078 (zs_rr _) h
def w_X5_record (X : zs_X) (d : Nat) (p0 : Nat) (S : zs_T) (Q : zs_Q) : Prop :=
  (zs_K S p0 = some (.inl 4) ∧ ∃ b2, (zs_R S 4000 p0) = some b2 ∧ zs_K S b2 = some (.inl 5) ∧ zs_C X d 5004 [.ref b2] S (zs_kV (fun S5 => (zs_K S5 p0 = some (.inl 4) ∧ zs_C X d 4002 [.ref p0, .int (8 : Int32)] S5 (zs_kR (fun v9 S8 => (∀ a10 S11, a10 = zs_N S8 → S11 = zs_nw S8 (.inl 13) 2 → zs_C X d 13001 [.ref a10] S11 (zs_kV (fun S15 => (∃ b17, v9 = some b17 ∧ zs_K S15 b17 = some (.inl 6) ∧ ab_n0 X.1 ≤ b17 ∧ ∀ S21, S21 = zs_sR S15 6006 b17 (some a10) → zs_K S15 p0 = some (.inl 4) ∧ zs_C X d 4079 [.ref p0, va_rf v9, va_rf (zs_R S21 6006 b17), va_rf none, .int (8 : Int32)] S21 (zs_kV (fun S25 => w_X5_record_37 X d p0 v9 S25 Q) Q))) Q))) Q))) Q))
theorem u_X5_record {σ : Nat → Nat} {n0 : Nat} {bf : ab_B} {d : Nat} {p0 : Nat} {S : zs_T} {Q : zs_Q} (hB : zt_B bf) (hd : 1 ≤ d) (h : w_X5_record (zx σ n0 bf) (d - 1) p0 S Q) : zs_C (zx σ n0 bf) d 4078 [.ref p0] S Q := by
  have hL : lv_args 0 [.ref p0] = [(0, .ref p0)] := rfl
  refine zs_C.of1 (hB.2 4078 (by decide) (by decide)) hd (by rw [hL]; exact zs_sub_self _ (by exact ⟨rfl, trivial⟩)) ?_
  rw [hL]
  clear hL
  unfold w_X5_record at h
  refine zu_aload_n d_4078_0 rfl (zs_ra _) ?_
  obtain ⟨k1, h⟩ := h
  refine zg_4_5 rfl d_4078_1 k1 ?_
  obtain ⟨b2, e3, h⟩ := h
  refine zs_stk0 (zs_rfe e3) ?_
  obtain ⟨k4, h⟩ := h
  refine zc_4_29  hB rfl k4 d_4078_4 (Nat.le_of_ble_eq_true rfl) h (fun S5 h => ?_)
  refine zu_aload_n d_4078_7 rfl (zs_ra _) ?_
  refine zu_bipush d_4078_8 zj_8 ?_
  obtain ⟨k7, h⟩ := h
  refine zc_4_144 (x0 := (8 : Int32)) hB rfl k7 d_4078_10 (Nat.le_of_ble_eq_true rfl) h (fun v9 S8 h => ?_)
  refine zu_astore_n d_4078_13 (zs_rr _) (zs_lt zq_4078 rfl) ?_
  refine zu_aload_n d_4078_14 rfl (zs_rr _) ?_
  refine zn_4_80 rfl d_4078_15 ?_
  generalize e13 : zs_nw S8 (.inl 13) 2 = S11
  generalize e12 : zs_N S8 = a10
  have h := h a10 S11 e12.symm e13.symm
  have k14 := zs_kn e12 e13
  refine zu_dup d_4078_18 rfl ?_
  refine zc_4_489  hB rfl d_4078_19 (by simp only [List.map_cons, List.map_nil, List.sum_cons, List.sum_nil, zs_cat, zs_cI, zs_cJ, zs_cA]; exact Nat.le_of_ble_eq_true rfl) h (fun S15 h => ?_)
  obtain ⟨b17, e18, h⟩ := h
  refine zs_stk1 (zs_rfe e18) ?_
  obtain ⟨k19, h⟩ := h
  obtain ⟨k20, h⟩ := h
  refine zp_4_75 (v := (some a10)) rfl d_4078_22 k19 k20 ?_
  generalize e22 : zs_sR S15 6006 b17 (some a10) = S21
  have h := h S21 e22.symm
  have K23 : ∀ b, zs_K S21 b = zs_K S15 b := zs_Kt e22 (zs_KsR _ _ _ _) (fun _ => rfl)
  refine zu_aload_n d_4078_25 rfl (zs_ra _) ?_
  refine zu_aload_n d_4078_26 rfl (zs_rr _) ?_
  refine zu_aload_n d_4078_27 rfl (zs_rr _) ?_
  refine zs_stk0 (zs_rfe e18) ?_
  refine zg_4_75 rfl d_4078_28 ((K23 _).trans k19) ?_
  refine zu_stk d_4078_31 rfl rfl ?_
  refine zu_bipush d_4078_32 zj_8 ?_
  obtain ⟨k24, h⟩ := h
  refine zc_4_490 (x0 := v9) (x1 := (zs_R S21 6006 b17)) (x2 := none) (x3 := (8 : Int32)) hB rfl ((K23 _).trans k24) d_4078_34 (Nat.le_of_ble_eq_true rfl) h (fun S25 h => ?_)
  exact (u_X5_record_37 hB h).weak ⟨rfl, rfl, trivial⟩
/-! SchemaPascal$Reader.fields(LSchemaPascal$Type;LSchemaPascal$Fields;LSchemaPascal$Variant;I)V -/
theorem zm_4079 {σ : Nat → Nat} {n0 : Nat} {bf : ab_B} : ab_code (zx σ n0 bf).1 4079 = prog_9_method_35_code := rfl
theorem zq_4079 {σ : Nat → Nat} {n0 : Nat} {bf : ab_B} : ab_maxL (zx σ n0 bf).1 4079 = 10 := rfl
theorem zr_4079 {σ : Nat → Nat} {n0 : Nat} {bf : ab_B} : ab_ret (zx σ n0 bf).1 4079 = (Option.none : Option Jvm.ClassFile.FieldType) := rfl
theorem d_4079_0 {σ : Nat → Nat} {n0 : Nat} {bf : ab_B} : decode (ab_code (zx σ n0 bf).1 4079) 0 = .ok (.aload_n 0, 1) := zd zm_4079 (by decide +kernel)
theorem d_4079_1 {σ : Nat → Nat} {n0 : Nat} {bf : ab_B} : decode (ab_code (zx σ n0 bf).1 4079) 1 = .ok (.getfield 5, 3) := zd zm_4079 (by decide +kernel)
theorem d_4079_4 {σ : Nat → Nat} {n0 : Nat} {bf : ab_B} : decode (ab_code (zx σ n0 bf).1 4079) 4 = .ok (.invokevirtual 36, 3) := zd zm_4079 (by decide +kernel)
theorem d_4079_7 {σ : Nat → Nat} {n0 : Nat} {bf : ab_B} : decode (ab_code (zx σ n0 bf).1 4079) 7 = .ok (.ifCond .eq 157, 3) := zd zm_4079 (by decide +kernel)
theorem d_4079_10 {σ : Nat → Nat} {n0 : Nat} {bf : ab_B} : decode (ab_code (zx σ n0 bf).1 4079) 10 = .ok (.aload_n 2, 1) := zd zm_4079 (by decide +kernel)
theorem d_4079_11 {σ : Nat → Nat} {n0 : Nat} {bf : ab_B} : decode (ab_code (zx σ n0 bf).1 4079) 11 = .ok (.getfield 412, 3) := zd zm_4079 (by decide +kernel)
theorem d_4079_14 {σ : Nat → Nat} {n0 : Nat} {bf : ab_B} : decode (ab_code (zx σ n0 bf).1 4079) 14 = .ok (.invokevirtual 50, 3) := zd zm_4079 (by decide +kernel)
theorem d_4079_17 {σ : Nat → Nat} {n0 : Nat} {bf : ab_B} : decode (ab_code (zx σ n0 bf).1 4079) 17 = .ok (.istore 5, 2) := zd zm_4079 (by decide +kernel)
theorem d_4079_19 {σ : Nat → Nat} {n0 : Nat} {bf : ab_B} : decode (ab_code (zx σ n0 bf).1 4079) 19 = .ok (.new 51, 3) := zd zm_4079 (by decide +kernel)
theorem d_4079_22 {σ : Nat → Nat} {n0 : Nat} {bf : ab_B} : decode (ab_code (zx σ n0 bf).1 4079) 22 = .ok (.dup, 1) := zd zm_4079 (by decide +kernel)
theorem d_4079_23 {σ : Nat → Nat} {n0 : Nat} {bf : ab_B} : decode (ab_code (zx σ n0 bf).1 4079) 23 = .ok (.invokespecial 326, 3) := zd zm_4079 (by decide +kernel)
theorem d_4079_26 {σ : Nat → Nat} {n0 : Nat} {bf : ab_B} : decode (ab_code (zx σ n0 bf).1 4079) 26 = .ok (.astore 6, 2) := zd zm_4079 (by decide +kernel)
theorem d_4079_28 {σ : Nat → Nat} {n0 : Nat} {bf : ab_B} : decode (ab_code (zx σ n0 bf).1 4079) 28 = .ok (.iconst 1, 1) := zd zm_4079 (by decide +kernel)
theorem d_4079_29 {σ : Nat → Nat} {n0 : Nat} {bf : ab_B} : decode (ab_code (zx σ n0 bf).1 4079) 29 = .ok (.istore 7, 2) := zd zm_4079 (by decide +kernel)
theorem d_4079_31 {σ : Nat → Nat} {n0 : Nat} {bf : ab_B} : decode (ab_code (zx σ n0 bf).1 4079) 31 = .ok (.iload 7, 2) := zd zm_4079 (by decide +kernel)
theorem d_4079_33 {σ : Nat → Nat} {n0 : Nat} {bf : ab_B} : decode (ab_code (zx σ n0 bf).1 4079) 33 = .ok (.ifCond .eq 45, 3) := zd zm_4079 (by decide +kernel)
theorem d_4079_36 {σ : Nat → Nat} {n0 : Nat} {bf : ab_B} : decode (ab_code (zx σ n0 bf).1 4079) 36 = .ok (.aload 6, 2) := zd zm_4079 (by decide +kernel)
theorem d_4079_38 {σ : Nat → Nat} {n0 : Nat} {bf : ab_B} : decode (ab_code (zx σ n0 bf).1 4079) 38 = .ok (.aload_n 0, 1) := zd zm_4079 (by decide +kernel)
theorem d_4079_39 {σ : Nat → Nat} {n0 : Nat} {bf : ab_B} : decode (ab_code (zx σ n0 bf).1 4079) 39 = .ok (.aload_n 1, 1) := zd zm_4079 (by decide +kernel)
theorem d_4079_40 {σ : Nat → Nat} {n0 : Nat} {bf : ab_B} : decode (ab_code (zx σ n0 bf).1 4079) 40 = .ok (.aload 6, 2) := zd zm_4079 (by decide +kernel)
theorem d_4079_42 {σ : Nat → Nat} {n0 : Nat} {bf : ab_B} : decode (ab_code (zx σ n0 bf).1 4079) 42 = .ok (.invokevirtual 493, 3) := zd zm_4079 (by decide +kernel)
theorem d_4079_45 {σ : Nat → Nat} {n0 : Nat} {bf : ab_B} : decode (ab_code (zx σ n0 bf).1 4079) 45 = .ok (.invokestatic 350, 3) := zd zm_4079 (by decide +kernel)
theorem d_4079_48 {σ : Nat → Nat} {n0 : Nat} {bf : ab_B} : decode (ab_code (zx σ n0 bf).1 4079) 48 = .ok (.invokevirtual 140, 3) := zd zm_4079 (by decide +kernel)
theorem d_4079_51 {σ : Nat → Nat} {n0 : Nat} {bf : ab_B} : decode (ab_code (zx σ n0 bf).1 4079) 51 = .ok (.pop, 1) := zd zm_4079 (by decide +kernel)
theorem d_4079_52 {σ : Nat → Nat} {n0 : Nat} {bf : ab_B} : decode (ab_code (zx σ n0 bf).1 4079) 52 = .ok (.aload_n 0, 1) := zd zm_4079 (by decide +kernel)
theorem d_4079_53 {σ : Nat → Nat} {n0 : Nat} {bf : ab_B} : decode (ab_code (zx σ n0 bf).1 4079) 53 = .ok (.getfield 5, 3) := zd zm_4079 (by decide +kernel)
theorem d_4079_56 {σ : Nat → Nat} {n0 : Nat} {bf : ab_B} : decode (ab_code (zx σ n0 bf).1 4079) 56 = .ok (.bipush 44, 2) := zd zm_4079 (by decide +kernel)
theorem d_4079_58 {σ : Nat → Nat} {n0 : Nat} {bf : ab_B} : decode (ab_code (zx σ n0 bf).1 4079) 58 = .ok (.invokevirtual 21, 3) := zd zm_4079 (by decide +kernel)
theorem d_4079_61 {σ : Nat → Nat} {n0 : Nat} {bf : ab_B} : decode (ab_code (zx σ n0 bf).1 4079) 61 = .ok (.istore 7, 2) := zd zm_4079 (by decide +kernel)
theorem d_4079_63 {σ : Nat → Nat} {n0 : Nat} {bf : ab_B} : decode (ab_code (zx σ n0 bf).1 4079) 63 = .ok (.iload 7, 2) := zd zm_4079 (by decide +kernel)
theorem d_4079_65 {σ : Nat → Nat} {n0 : Nat} {bf : ab_B} : decode (ab_code (zx σ n0 bf).1 4079) 65 = .ok (.ifCond .eq (-34), 3) := zd zm_4079 (by decide +kernel)
theorem d_4079_68 {σ : Nat → Nat} {n0 : Nat} {bf : ab_B} : decode (ab_code (zx σ n0 bf).1 4079) 68 = .ok (.aload_n 0, 1) := zd zm_4079 (by decide +kernel)
theorem d_4079_69 {σ : Nat → Nat} {n0 : Nat} {bf : ab_B} : decode (ab_code (zx σ n0 bf).1 4079) 69 = .ok (.getfield 5, 3) := zd zm_4079 (by decide +kernel)
theorem d_4079_72 {σ : Nat → Nat} {n0 : Nat} {bf : ab_B} : decode (ab_code (zx σ n0 bf).1 4079) 72 = .ok (.invokevirtual 29, 3) := zd zm_4079 (by decide +kernel)
theorem d_4079_75 {σ : Nat → Nat} {n0 : Nat} {bf : ab_B} : decode (ab_code (zx σ n0 bf).1 4079) 75 = .ok (.goto (-44), 3) := zd zm_4079 (by decide +kernel)
theorem d_4079_78 {σ : Nat → Nat} {n0 : Nat} {bf : ab_B} : decode (ab_code (zx σ n0 bf).1 4079) 78 = .ok (.aload_n 0, 1) := zd zm_4079 (by decide +kernel)
theorem d_4079_79 {σ : Nat → Nat} {n0 : Nat} {bf : ab_B} : decode (ab_code (zx σ n0 bf).1 4079) 79 = .ok (.bipush 58, 2) := zd zm_4079 (by decide +kernel)
theorem d_4079_81 {σ : Nat → Nat} {n0 : Nat} {bf : ab_B} : decode (ab_code (zx σ n0 bf).1 4079) 81 = .ok (.invokevirtual 224, 3) := zd zm_4079 (by decide +kernel)
theorem d_4079_84 {σ : Nat → Nat} {n0 : Nat} {bf : ab_B} : decode (ab_code (zx σ n0 bf).1 4079) 84 = .ok (.aload_n 0, 1) := zd zm_4079 (by decide +kernel)
theorem d_4079_85 {σ : Nat → Nat} {n0 : Nat} {bf : ab_B} : decode (ab_code (zx σ n0 bf).1 4079) 85 = .ok (.iconst 0, 1) := zd zm_4079 (by decide +kernel)
theorem d_4079_86 {σ : Nat → Nat} {n0 : Nat} {bf : ab_B} : decode (ab_code (zx σ n0 bf).1 4079) 86 = .ok (.invokevirtual 309, 3) := zd zm_4079 (by decide +kernel)
theorem d_4079_89 {σ : Nat → Nat} {n0 : Nat} {bf : ab_B} : decode (ab_code (zx σ n0 bf).1 4079) 89 = .ok (.astore 8, 2) := zd zm_4079 (by decide +kernel)
theorem d_4079_91 {σ : Nat → Nat} {n0 : Nat} {bf : ab_B} : decode (ab_code (zx σ n0 bf).1 4079) 91 = .ok (.iconst 0, 1) := zd zm_4079 (by decide +kernel)
theorem d_4079_92 {σ : Nat → Nat} {n0 : Nat} {bf : ab_B} : decode (ab_code (zx σ n0 bf).1 4079) 92 = .ok (.istore 9, 2) := zd zm_4079 (by decide +kernel)
theorem d_4079_94 {σ : Nat → Nat} {n0 : Nat} {bf : ab_B} : decode (ab_code (zx σ n0 bf).1 4079) 94 = .ok (.iload 9, 2) := zd zm_4079 (by decide +kernel)
theorem d_4079_96 {σ : Nat → Nat} {n0 : Nat} {bf : ab_B} : decode (ab_code (zx σ n0 bf).1 4079) 96 = .ok (.aload 6, 2) := zd zm_4079 (by decide +kernel)
theorem d_4079_98 {σ : Nat → Nat} {n0 : Nat} {bf : ab_B} : decode (ab_code (zx σ n0 bf).1 4079) 98 = .ok (.invokevirtual 50, 3) := zd zm_4079 (by decide +kernel)
theorem d_4079_101 {σ : Nat → Nat} {n0 : Nat} {bf : ab_B} : decode (ab_code (zx σ n0 bf).1 4079) 101 = .ok (.if_icmp .ge 40, 3) := zd zm_4079 (by decide +kernel)
theorem d_4079_104 {σ : Nat → Nat} {n0 : Nat} {bf : ab_B} : decode (ab_code (zx σ n0 bf).1 4079) 104 = .ok (.aload_n 2, 1) := zd zm_4079 (by decide +kernel)
theorem d_4079_105 {σ : Nat → Nat} {n0 : Nat} {bf : ab_B} : decode (ab_code (zx σ n0 bf).1 4079) 105 = .ok (.getfield 412, 3) := zd zm_4079 (by decide +kernel)
theorem d_4079_108 {σ : Nat → Nat} {n0 : Nat} {bf : ab_B} : decode (ab_code (zx σ n0 bf).1 4079) 108 = .ok (.new 93, 3) := zd zm_4079 (by decide +kernel)
theorem d_4079_111 {σ : Nat → Nat} {n0 : Nat} {bf : ab_B} : decode (ab_code (zx σ n0 bf).1 4079) 111 = .ok (.dup, 1) := zd zm_4079 (by decide +kernel)
theorem d_4079_112 {σ : Nat → Nat} {n0 : Nat} {bf : ab_B} : decode (ab_code (zx σ n0 bf).1 4079) 112 = .ok (.aload 6, 2) := zd zm_4079 (by decide +kernel)
theorem d_4079_114 {σ : Nat → Nat} {n0 : Nat} {bf : ab_B} : decode (ab_code (zx σ n0 bf).1 4079) 114 = .ok (.iload 9, 2) := zd zm_4079 (by decide +kernel)
theorem d_4079_116 {σ : Nat → Nat} {n0 : Nat} {bf : ab_B} : decode (ab_code (zx σ n0 bf).1 4079) 116 = .ok (.invokevirtual 56, 3) := zd zm_4079 (by decide +kernel)
theorem d_4079_119 {σ : Nat → Nat} {n0 : Nat} {bf : ab_B} : decode (ab_code (zx σ n0 bf).1 4079) 119 = .ok (.checkcast 313, 3) := zd zm_4079 (by decide +kernel)
theorem d_4079_122 {σ : Nat → Nat} {n0 : Nat} {bf : ab_B} : decode (ab_code (zx σ n0 bf).1 4079) 122 = .ok (.invokevirtual 315, 3) := zd zm_4079 (by decide +kernel)
theorem d_4079_125 {σ : Nat → Nat} {n0 : Nat} {bf : ab_B} : decode (ab_code (zx σ n0 bf).1 4079) 125 = .ok (.aload 8, 2) := zd zm_4079 (by decide +kernel)
theorem d_4079_127 {σ : Nat → Nat} {n0 : Nat} {bf : ab_B} : decode (ab_code (zx σ n0 bf).1 4079) 127 = .ok (.aload_n 3, 1) := zd zm_4079 (by decide +kernel)
theorem d_4079_128 {σ : Nat → Nat} {n0 : Nat} {bf : ab_B} : decode (ab_code (zx σ n0 bf).1 4079) 128 = .ok (.invokespecial 338, 3) := zd zm_4079 (by decide +kernel)
theorem d_4079_131 {σ : Nat → Nat} {n0 : Nat} {bf : ab_B} : decode (ab_code (zx σ n0 bf).1 4079) 131 = .ok (.invokevirtual 140, 3) := zd zm_4079 (by decide +kernel)
theorem d_4079_134 {σ : Nat → Nat} {n0 : Nat} {bf : ab_B} : decode (ab_code (zx σ n0 bf).1 4079) 134 = .ok (.pop, 1) := zd zm_4079 (by decide +kernel)
theorem d_4079_135 {σ : Nat → Nat} {n0 : Nat} {bf : ab_B} : decode (ab_code (zx σ n0 bf).1 4079) 135 = .ok (.iinc 9 1, 3) := zd zm_4079 (by decide +kernel)
theorem d_4079_138 {σ : Nat → Nat} {n0 : Nat} {bf : ab_B} : decode (ab_code (zx σ n0 bf).1 4079) 138 = .ok (.goto (-44), 3) := zd zm_4079 (by decide +kernel)
theorem d_4079_141 {σ : Nat → Nat} {n0 : Nat} {bf : ab_B} : decode (ab_code (zx σ n0 bf).1 4079) 141 = .ok (.aload_n 0, 1) := zd zm_4079 (by decide +kernel)
theorem d_4079_142 {σ : Nat → Nat} {n0 : Nat} {bf : ab_B} : decode (ab_code (zx σ n0 bf).1 4079) 142 = .ok (.getfield 5, 3) := zd zm_4079 (by decide +kernel)
theorem d_4079_145 {σ : Nat → Nat} {n0 : Nat} {bf : ab_B} : decode (ab_code (zx σ n0 bf).1 4079) 145 = .ok (.bipush 59, 2) := zd zm_4079 (by decide +kernel)
theorem d_4079_147 {σ : Nat → Nat} {n0 : Nat} {bf : ab_B} : decode (ab_code (zx σ n0 bf).1 4079) 147 = .ok (.invokevirtual 21, 3) := zd zm_4079 (by decide +kernel)
theorem d_4079_150 {σ : Nat → Nat} {n0 : Nat} {bf : ab_B} : decode (ab_code (zx σ n0 bf).1 4079) 150 = .ok (.ifCond .ne 4, 3) := zd zm_4079 (by decide +kernel)
theorem d_4079_153 {σ : Nat → Nat} {n0 : Nat} {bf : ab_B} : decode (ab_code (zx σ n0 bf).1 4079) 153 = .ok (.return_, 1) := zd zm_4079 (by decide +kernel)
theorem d_4079_154 {σ : Nat → Nat} {n0 : Nat} {bf : ab_B} : decode (ab_code (zx σ n0 bf).1 4079) 154 = .ok (.aload_n 0, 1) := zd zm_4079 (by decide +kernel)
theorem d_4079_155 {σ : Nat → Nat} {n0 : Nat} {bf : ab_B} : decode (ab_code (zx σ n0 bf).1 4079) 155 = .ok (.getfield 5, 3) := zd zm_4079 (by decide +kernel)
theorem d_4079_158 {σ : Nat → Nat} {n0 : Nat} {bf : ab_B} : decode (ab_code (zx σ n0 bf).1 4079) 158 = .ok (.invokevirtual 29, 3) := zd zm_4079 (by decide +kernel)
theorem d_4079_161 {σ : Nat → Nat} {n0 : Nat} {bf : ab_B} : decode (ab_code (zx σ n0 bf).1 4079) 161 = .ok (.goto (-161), 3) := zd zm_4079 (by decide +kernel)
theorem d_4079_164 {σ : Nat → Nat} {n0 : Nat} {bf : ab_B} : decode (ab_code (zx σ n0 bf).1 4079) 164 = .ok (.aload_n 0, 1) := zd zm_4079 (by decide +kernel)
theorem d_4079_165 {σ : Nat → Nat} {n0 : Nat} {bf : ab_B} : decode (ab_code (zx σ n0 bf).1 4079) 165 = .ok (.getfield 5, 3) := zd zm_4079 (by decide +kernel)
theorem d_4079_168 {σ : Nat → Nat} {n0 : Nat} {bf : ab_B} : decode (ab_code (zx σ n0 bf).1 4079) 168 = .ok (.bipush 19, 2) := zd zm_4079 (by decide +kernel)
theorem d_4079_170 {σ : Nat → Nat} {n0 : Nat} {bf : ab_B} : decode (ab_code (zx σ n0 bf).1 4079) 170 = .ok (.invokevirtual 33, 3) := zd zm_4079 (by decide +kernel)
theorem d_4079_173 {σ : Nat → Nat} {n0 : Nat} {bf : ab_B} : decode (ab_code (zx σ n0 bf).1 4079) 173 = .ok (.ifCond .ne 4, 3) := zd zm_4079 (by decide +kernel)
theorem d_4079_176 {σ : Nat → Nat} {n0 : Nat} {bf : ab_B} : decode (ab_code (zx σ n0 bf).1 4079) 176 = .ok (.return_, 1) := zd zm_4079 (by decide +kernel)
theorem d_4079_177 {σ : Nat → Nat} {n0 : Nat} {bf : ab_B} : decode (ab_code (zx σ n0 bf).1 4079) 177 = .ok (.aload_n 0, 1) := zd zm_4079 (by decide +kernel)
theorem d_4079_178 {σ : Nat → Nat} {n0 : Nat} {bf : ab_B} : decode (ab_code (zx σ n0 bf).1 4079) 178 = .ok (.getfield 5, 3) := zd zm_4079 (by decide +kernel)
theorem d_4079_181 {σ : Nat → Nat} {n0 : Nat} {bf : ab_B} : decode (ab_code (zx σ n0 bf).1 4079) 181 = .ok (.invokevirtual 29, 3) := zd zm_4079 (by decide +kernel)
theorem d_4079_184 {σ : Nat → Nat} {n0 : Nat} {bf : ab_B} : decode (ab_code (zx σ n0 bf).1 4079) 184 = .ok (.aload_n 0, 1) := zd zm_4079 (by decide +kernel)
theorem d_4079_185 {σ : Nat → Nat} {n0 : Nat} {bf : ab_B} : decode (ab_code (zx σ n0 bf).1 4079) 185 = .ok (.aload_n 1, 1) := zd zm_4079 (by decide +kernel)
theorem d_4079_186 {σ : Nat → Nat} {n0 : Nat} {bf : ab_B} : decode (ab_code (zx σ n0 bf).1 4079) 186 = .ok (.aload_n 2, 1) := zd zm_4079 (by decide +kernel)
theorem d_4079_187 {σ : Nat → Nat} {n0 : Nat} {bf : ab_B} : decode (ab_code (zx σ n0 bf).1 4079) 187 = .ok (.aload_n 3, 1) := zd zm_4079 (by decide +kernel)
theorem d_4079_188 {σ : Nat → Nat} {n0 : Nat} {bf : ab_B} : decode (ab_code (zx σ n0 bf).1 4079) 188 = .ok (.invokevirtual 497, 3) := zd zm_4079 (by decide +kernel)
theorem d_4079_191 {σ : Nat → Nat} {n0 : Nat} {bf : ab_B} : decode (ab_code (zx σ n0 bf).1 4079) 191 = .ok (.return_, 1) := zd zm_4079 (by decide +kernel)
def w_X5_fields_191 (X : zs_X) (d : Nat)  (S : zs_T) (Q : zs_Q) : Prop :=
  (Q (.returned none) S)
theorem u_X5_fields_191 {σ : Nat → Nat} {n0 : Nat} {bf : ab_B} {d : Nat}  {S : zs_T} {Q : zs_Q} (hB : zt_B bf) (h : w_X5_fields_191 (zx σ n0 bf) d  S Q) : zs_U (zx σ n0 bf) d 4079 191 [] [] S Q := by
  unfold w_X5_fields_191 at h
  exact zu_vret d_4079_191 zr_4079 h
def w_X5_fields_0 (X : zs_X) (d : Nat) (p0 : Nat) (p1 : Option Nat) (p2 : Option Nat) (p3 : Option Nat) (S : zs_T) (Q : zs_Q) : Prop :=
  (zs_K S p0 = some (.inl 4) ∧ ∃ b2, (zs_R S 4000 p0) = some b2 ∧ zs_K S b2 = some (.inl 5) ∧ zs_C X d 5016 [.ref b2] S (zs_kI (fun v6 S5 => (((v6 = 0 → (zs_K S5 p0 = some (.inl 4) ∧ ∃ b9, (zs_R S5 4000 p0) = some b9 ∧ zs_K S5 b9 = some (.inl 5) ∧ zs_C X d 5015 [.ref b9, .int (19 : Int32)] S5 (zs_kI (fun v13 S12 => (((¬ v13 = 0 → (zs_K S12 p0 = some (.inl 4) ∧ ∃ b16, (zs_R S12 4000 p0) = some b16 ∧ zs_K S12 b16 = some (.inl 5) ∧ zs_C X d 5004 [.ref b16] S12 (zs_kV (fun S19 => (zs_K S19 p0 = some (.inl 4) ∧ zs_C X d 4081 [.ref p0, va_rf p1, va_rf p2, va_rf p3] S19 (zs_kV (fun S22 => w_X5_fields_191 X d  S22 Q) Q))) Q))) ∧ (¬ (¬ v13 = 0) → (Q (.returned none) S12))))) Q))) ∧ (¬ (v6 = 0) → (∃ b24, p2 = some b24 ∧ zs_K S5 b24 = some (.inl 13) ∧ ∃ b27, (zs_R S5 13000 b24) = some b27 ∧ zs_K S5 b27 = some (.inl 16) ∧ zs_C X d 16001 [.ref b27] S5 (zs_kI (fun v31 S30 => (∀ a32 S33, a32 = zs_N S30 → S33 = zs_nw S30 (.inl 16) 3 → zs_C X d 16000 [.ref a32] S33 (zs_kV (fun S37 => (zs_U X d 4079 31 [(0, .ref p0), (1, va_rf p1), (2, va_rf p2), (3, va_rf p3), (6, va_rf (some a32)), (7, .int (1 : Int32))] [] S37 Q)) Q))) Q)))))) Q))
theorem u_X5_fields_0 {σ : Nat → Nat} {n0 : Nat} {bf : ab_B} {d : Nat} {p0 : Nat} {p1 : Option Nat} {p2 : Option Nat} {p3 : Option Nat} {S : zs_T} {Q : zs_Q} (hB : zt_B bf) (h : w_X5_fields_0 (zx σ n0 bf) d p0 p1 p2 p3 S Q) : zs_U (zx σ n0 bf) d 4079 0 [(0, .ref p0), (1, va_rf p1), (2, va_rf p2), (3, va_rf p3)] [] S Q := by
  unfold w_X5_fields_0 at h
  refine zu_aload_n d_4079_0 rfl (zs_ra _) ?_
  obtain ⟨k1, h⟩ := h
  refine zg_4_5 rfl d_4079_1 k1 ?_
  obtain ⟨b2, e3, h⟩ := h
  refine zs_stk0 (zs_rfe e3) ?_
  obtain ⟨k4, h⟩ := h
  refine zc_4_36  hB rfl k4 d_4079_4 (Nat.le_of_ble_eq_true rfl) h (fun v6 S5 h => ?_)
  refine zu_ifeq (t := 164) d_4079_7 rfl (fun c7 => ?_) (fun c7 => ?_)
  · have h := h.1 c7
    refine zu_aload_n d_4079_164 rfl (zs_ra _) ?_
    obtain ⟨k8, h⟩ := h
    refine zg_4_5 rfl d_4079_165 k8 ?_
    refine zu_bipush d_4079_168 zj_19 ?_
    obtain ⟨b9, e10, h⟩ := h
    refine zs_stk1 (zs_rfe e10) ?_
    obtain ⟨k11, h⟩ := h
    refine zc_4_33 (x0 := (19 : Int32)) hB rfl k11 d_4079_170 (Nat.le_of_ble_eq_true rfl) h (fun v13 S12 h => ?_)
    refine zu_ifne (t := 177) d_4079_173 rfl (fun c14 => ?_) (fun c14 => ?_)
    · have h := h.1 c14
      refine zu_aload_n d_4079_177 rfl (zs_ra _) ?_
      obtain ⟨k15, h⟩ := h
      refine zg_4_5 rfl d_4079_178 k15 ?_
      obtain ⟨b16, e17, h⟩ := h
      refine zs_stk0 (zs_rfe e17) ?_
      obtain ⟨k18, h⟩ := h
      refine zc_4_29  hB rfl k18 d_4079_181 (Nat.le_of_ble_eq_true rfl) h (fun S19 h => ?_)
      refine zu_aload_n d_4079_184 rfl (zs_ra _) ?_
      refine zu_aload_n d_4079_185 rfl (zs_rr _) ?_
      refine zu_aload_n d_4079_186 rfl (zs_rr _) ?_
      refine zu_aload_n d_4079_187 rfl (zs_rr _) ?_
      obtain ⟨k21, h⟩ := h
      refine zc_4_497 (x0 := p1) (x1 := p2) (x2 := p3) hB rfl k21 d_4079_188 (Nat.le_of_ble_eq_true rfl) h (fun S22 h => ?_)
      exact (u_X5_fields_191 hB h).weak trivial
    · have h := h.2 c14
      exact zu_vret d_4079_176 zr_4079 h
  · have h := h.2 c7
    refine zu_aload_n d_4079_10 rfl (zs_rr _) ?_
    obtain ⟨b24, e25, h⟩ := h
    refine zs_stk0 (zs_rfe e25) ?_
    obtain ⟨k26, h⟩ := h
    refine zg_4_412 rfl d_4079_11 k26 ?_
    obtain ⟨b27, e28, h⟩ := h
    refine zs_stk0 (zs_rfe e28) ?_
    obtain ⟨k29, h⟩ := h
    refine zc_4_50  hB rfl k29 d_4079_14 (Nat.le_of_ble_eq_true rfl) h (fun v31 S30 h => ?_)
    refine zu_istore d_4079_17 (zs_lt zq_4079 rfl) ?_
    refine zn_4_51 rfl d_4079_19 ?_
    generalize e35 : zs_nw S30 (.inl 16) 3 = S33
    generalize e34 : zs_N S30 = a32
    have h := h a32 S33 e34.symm e35.symm
    have k36 := zs_kn e34 e35
    refine zu_dup d_4079_22 rfl ?_
    refine zc_4_326  hB rfl d_4079_23 (Nat.le_of_ble_eq_true rfl) h (fun S37 h => ?_)
    refine zu_astore d_4079_26 (zs_ra _) (zs_lt zq_4079 rfl) ?_
    refine zu_iconst d_4079_28 zi_1 ?_
    refine zu_istore d_4079_29 (zs_lt zq_4079 rfl) ?_
    exact h.weak ⟨rfl, rfl, rfl, rfl, rfl, rfl, trivial⟩
def w_X5_fields_68 (X : zs_X) (d : Nat) (p0 : Nat) (p1 : Option Nat) (p2 : Option Nat) (p3 : Option Nat) (p6 : Option Nat) (p7 : Int32) (S : zs_T) (Q : zs_Q) : Prop :=
  (zs_K S p0 = some (.inl 4) ∧ ∃ b2, (zs_R S 4000 p0) = some b2 ∧ zs_K S b2 = some (.inl 5) ∧ zs_C X d 5004 [.ref b2] S (zs_kV (fun S5 => (zs_U X d 4079 31 [(0, .ref p0), (1, va_rf p1), (2, va_rf p2), (3, va_rf p3), (6, va_rf p6), (7, .int p7)] [] S5 Q)) Q))
theorem u_X5_fields_68 {σ : Nat → Nat} {n0 : Nat} {bf : ab_B} {d : Nat} {p0 : Nat} {p1 : Option Nat} {p2 : Option Nat} {p3 : Option Nat} {p6 : Option Nat} {p7 : Int32} {S : zs_T} {Q : zs_Q} (hB : zt_B bf) (h : w_X5_fields_68 (zx σ n0 bf) d p0 p1 p2 p3 p6 p7 S Q) : zs_U (zx σ n0 bf) d 4079 68 [(0, .ref p0), (1, va_rf p1), (2, va_rf p2), (3, va_rf p3), (6, va_rf p6), (7, .int p7)] [] S Q := by
  unfold w_X5_fields_68 at h
  refine zu_aload_n d_4079_68 rfl (zs_ra _) ?_
  obtain ⟨k1, h⟩ := h
  refine zg_4_5 rfl d_4079_69 k1 ?_
  obtain ⟨b2, e3, h⟩ := h
  refine zs_stk0 (zs_rfe e3) ?_
  obtain ⟨k4, h⟩ := h
  refine zc_4_29  hB rfl k4 d_4079_72 (Nat.le_of_ble_eq_true rfl) h (fun S5 h => ?_)
  refine zu_goto (t := 31) d_4079_75 rfl ?_
  exact h.weak ⟨rfl, rfl, rfl, rfl, rfl, rfl, trivial⟩
def w_X5_fields_31 (X : zs_X) (d : Nat) (p0 : Nat) (p1 : Option Nat) (p2 : Option Nat) (p3 : Option Nat) (p6 : Option Nat) (p7 : Int32) (S : zs_T) (Q : zs_Q) : Prop :=
  (((p7 = 0 → (zs_K S p0 = some (.inl 4) ∧ zs_C X d 4008 [.ref p0, .int (58 : Int32)] S (zs_kV (fun S3 => (zs_K S3 p0 = some (.inl 4) ∧ zs_C X d 4077 [.ref p0, .int (0 : Int32)] S3 (zs_kR (fun v7 S6 => (zs_U X d 4079 94 [(0, .ref p0), (1, va_rf p1), (2, va_rf p2), (3, va_rf p3), (6, va_rf p6), (8, va_rf v7), (9, .int (0 : Int32))] [] S6 Q)) Q))) Q))) ∧ (¬ (p7 = 0) → (zs_K S p0 = some (.inl 4) ∧ zs_C X d 4080 [.ref p0, va_rf p1, va_rf p6] S (zs_kI (fun v10 S9 => (zs_C X d 21001 [.int v10] S9 (zs_kR (fun v12 S11 => (∃ b13, p6 = some b13 ∧ zs_K S11 b13 = some (.inl 16) ∧ zs_C X d 16002 [.ref b13, va_rf v12] S11 (zs_kI (fun v17 S16 => (zs_K S16 p0 = some (.inl 4) ∧ ∃ b19, (zs_R S16 4000 p0) = some b19 ∧ zs_K S16 b19 = some (.inl 5) ∧ zs_C X d 5017 [.ref b19, .int (44 : Int32)] S16 (zs_kI (fun v23 S22 => (((v23 = 0 → zs_U X d 4079 31 [(0, .ref p0), (1, va_rf p1), (2, va_rf p2), (3, va_rf p3), (6, va_rf p6), (7, .int v23)] [] S22 Q) ∧ (¬ (v23 = 0) → w_X5_fields_68 X d p0 p1 p2 p3 p6 v23 S22 Q)))) Q))) Q))) Q))) Q)))))
theorem u_X5_fields_31 {σ : Nat → Nat} {n0 : Nat} {bf : ab_B} {d : Nat} {p0 : Nat} {p1 : Option Nat} {p2 : Option Nat} {p3 : Option Nat} {p6 : Option Nat} {p7 : Int32} {S : zs_T} {Q : zs_Q} (hB : zt_B bf) (h : w_X5_fields_31 (zx σ n0 bf) d p0 p1 p2 p3 p6 p7 S Q) : zs_U (zx σ n0 bf) d 4079 31 [(0, .ref p0), (1, va_rf p1), (2, va_rf p2), (3, va_rf p3), (6, va_rf p6), (7, .int p7)] [] S Q := by
  unfold w_X5_fields_31 at h
  refine zu_iload d_4079_31 rfl ?_
  refine zu_ifeq (t := 78) d_4079_33 rfl (fun c1 => ?_) (fun c1 => ?_)
  · have h := h.1 c1
    refine zu_aload_n d_4079_78 rfl (zs_ra _) ?_
    refine zu_bipush d_4079_79 zj_58 ?_
    obtain ⟨k2, h⟩ := h
    refine zc_4_224 (x0 := (58 : Int32)) hB rfl k2 d_4079_81 (Nat.le_of_ble_eq_true rfl) h (fun S3 h => ?_)
    refine zu_aload_n d_4079_84 rfl (zs_ra _) ?_
    refine zu_iconst d_4079_85 zi_0 ?_
    obtain ⟨k5, h⟩ := h
    refine zc_4_309 (x0 := (0 : Int32)) hB rfl k5 d_4079_86 (Nat.le_of_ble_eq_true rfl) h (fun v7 S6 h => ?_)
    refine zu_astore d_4079_89 (zs_rr _) (zs_lt zq_4079 rfl) ?_
    refine zu_iconst d_4079_91 zi_0 ?_
    refine zu_istore d_4079_92 (zs_lt zq_4079 rfl) ?_
    refine zs_U.weak (L1 := [(9, .int (0 : Int32)), (0, .ref p0), (1, va_rf p1), (2, va_rf p2), (3, va_rf p3), (6, va_rf p6), (7, .int p7), (8, va_rf v7)]) ?_ ⟨rfl, zs_gp1 rfl (Or.inl rfl) rfl, zs_gp1 rfl (Or.inl (zs_cat _)) rfl, zs_gp1 rfl (Or.inl (zs_cat _)) rfl, zs_gp1 rfl (Or.inl (zs_cat _)) rfl, zs_gp1 rfl (Or.inl (zs_cat _)) rfl, zs_gp1 rfl (Or.inl rfl) rfl, zs_gp1 rfl (Or.inl (zs_cat _)) rfl, trivial⟩
    exact h.weak ⟨rfl, rfl, rfl, rfl, rfl, rfl, rfl, trivial⟩
  · have h := h.2 c1
    refine zu_aload d_4079_36 rfl (zs_rr _) ?_
    refine zu_aload_n d_4079_38 rfl (zs_ra _) ?_
    refine zu_aload_n d_4079_39 rfl (zs_rr _) ?_
    refine zu_aload d_4079_40 rfl (zs_rr _) ?_
    obtain ⟨k8, h⟩ := h
    refine zc_4_493 (x0 := p1) (x1 := p6) hB rfl k8 d_4079_42 (by simp only [List.map_cons, List.map_nil, List.sum_cons, List.sum_nil, zs_cat, zs_cI, zs_cJ, zs_cA]; exact Nat.le_of_ble_eq_true rfl) h (fun v10 S9 h => ?_)
    refine zc_4_350 (x0 := v10) hB rfl d_4079_45 (by simp only [List.map_cons, List.map_nil, List.sum_cons, List.sum_nil, zs_cat, zs_cI, zs_cJ, zs_cA]; exact Nat.le_of_ble_eq_true rfl) h (fun v12 S11 h => ?_)
    obtain ⟨b13, e14, h⟩ := h
    refine zs_stk1 (zs_rfe e14) ?_
    obtain ⟨k15, h⟩ := h
    refine zc_4_140 (x0 := v12) hB rfl k15 d_4079_48 (Nat.le_of_ble_eq_true rfl) h (fun v17 S16 h => ?_)
    refine zu_pop d_4079_51 rfl ?_
    refine zu_aload_n d_4079_52 rfl (zs_ra _) ?_
    obtain ⟨k18, h⟩ := h
    refine zg_4_5 rfl d_4079_53 k18 ?_
    refine zu_bipush d_4079_56 zj_44 ?_
    obtain ⟨b19, e20, h⟩ := h
    refine zs_stk1 (zs_rfe e20) ?_
    obtain ⟨k21, h⟩ := h
    refine zc_4_21 (x0 := (44 : Int32)) hB rfl k21 d_4079_58 (Nat.le_of_ble_eq_true rfl) h (fun v23 S22 h => ?_)
    refine zu_istore d_4079_61 (zs_lt zq_4079 rfl) ?_
    refine zs_U.weak (L1 := [(7, .int v23), (0, .ref p0), (1, va_rf p1), (2, va_rf p2), (3, va_rf p3), (6, va_rf p6)]) ?_ ⟨rfl, zs_gp1 rfl (Or.inl rfl) rfl, zs_gp1 rfl (Or.inl (zs_cat _)) rfl, zs_gp1 rfl (Or.inl (zs_cat _)) rfl, zs_gp1 rfl (Or.inl (zs_cat _)) rfl, zs_gp1 rfl (Or.inl (zs_cat _)) rfl, trivial⟩
    refine zu_iload d_4079_63 rfl ?_
    refine zu_ifeq (t := 31) d_4079_65 rfl (fun c24 => ?_) (fun c24 => ?_)
    · have h := h.1 c24
      exact h.weak ⟨rfl, rfl, rfl, rfl, rfl, rfl, trivial⟩
    · have h := h.2 c24
      exact (u_X5_fields_68 hB h).weak ⟨rfl, rfl, rfl, rfl, rfl, rfl, trivial⟩
def w_X5_fields_135 (X : zs_X) (d : Nat) (p0 : Nat) (p1 : Option Nat) (p2 : Option Nat) (p3 : Option Nat) (p6 : Option Nat) (p8 : Option Nat) (p9 : Int32) (S : zs_T) (Q : zs_Q) : Prop :=
  (zs_U X d 4079 94 [(0, .ref p0), (1, va_rf p1), (2, va_rf p2), (3, va_rf p3), (6, va_rf p6), (8, va_rf p8), (9, .int (p9 + (1 : Int32)))] [] S Q)
theorem u_X5_fields_135 {σ : Nat → Nat} {n0 : Nat} {bf : ab_B} {d : Nat} {p0 : Nat} {p1 : Option Nat} {p2 : Option Nat} {p3 : Option Nat} {p6 : Option Nat} {p8 : Option Nat} {p9 : Int32} {S : zs_T} {Q : zs_Q} (hB : zt_B bf) (h : w_X5_fields_135 (zx σ n0 bf) d p0 p1 p2 p3 p6 p8 p9 S Q) : zs_U (zx σ n0 bf) d 4079 135 [(0, .ref p0), (1, va_rf p1), (2, va_rf p2), (3, va_rf p3), (6, va_rf p6), (8, va_rf p8), (9, .int p9)] [] S Q := by
  unfold w_X5_fields_135 at h
  refine zu_iinc d_4079_135 rfl zi_1 (zs_lt zq_4079 rfl) ?_
  refine zs_U.weak (L1 := [(9, .int (p9 + (1 : Int32))), (0, .ref p0), (1, va_rf p1), (2, va_rf p2), (3, va_rf p3), (6, va_rf p6), (8, va_rf p8)]) ?_ ⟨rfl, zs_gp1 rfl (Or.inl rfl) rfl, zs_gp1 rfl (Or.inl (zs_cat _)) rfl, zs_gp1 rfl (Or.inl (zs_cat _)) rfl, zs_gp1 rfl (Or.inl (zs_cat _)) rfl, zs_gp1 rfl (Or.inl (zs_cat _)) rfl, zs_gp1 rfl (Or.inl (zs_cat _)) rfl, trivial⟩
  refine zu_goto (t := 94) d_4079_138 rfl ?_
  exact h.weak ⟨rfl, rfl, rfl, rfl, rfl, rfl, rfl, trivial⟩
def w_X5_fields_94 (X : zs_X) (d : Nat) (p0 : Nat) (p1 : Option Nat) (p2 : Option Nat) (p3 : Option Nat) (p6 : Option Nat) (p8 : Option Nat) (p9 : Int32) (S : zs_T) (Q : zs_Q) : Prop :=
  (∃ b1, p6 = some b1 ∧ zs_K S b1 = some (.inl 16) ∧ zs_C X d 16001 [.ref b1] S (zs_kI (fun v5 S4 => (((v5 ≤ p9 → (zs_K S4 p0 = some (.inl 4) ∧ ∃ b8, (zs_R S4 4000 p0) = some b8 ∧ zs_K S4 b8 = some (.inl 5) ∧ zs_C X d 5017 [.ref b8, .int (59 : Int32)] S4 (zs_kI (fun v12 S11 => (((¬ v12 = 0 → (zs_K S11 p0 = some (.inl 4) ∧ ∃ b15, (zs_R S11 4000 p0) = some b15 ∧ zs_K S11 b15 = some (.inl 5) ∧ zs_C X d 5004 [.ref b15] S11 (zs_kV (fun S18 => (zs_U X d 4079 0 [(0, .ref p0), (1, va_rf p1), (2, va_rf p2), (3, va_rf p3)] [] S18 Q)) Q))) ∧ (¬ (¬ v12 = 0) → (Q (.returned none) S11))))) Q))) ∧ (¬ (v5 ≤ p9) → (∃ b20, p2 = some b20 ∧ zs_K S4 b20 = some (.inl 13) ∧ ∀ a23 S24, a23 = zs_N S4 → S24 = zs_nw S4 (.inl 12) 4 → zs_K S24 b1 = some (.inl 16) ∧ zs_C X d 16009 [.ref b1, .int p9] S24 (zs_kR (fun v30 S29 => ((∀ a, v30 = some a → zs_K S29 a = some (.inl 21)) ∧ ∃ b32, v30 = some b32 ∧ zs_K S29 b32 = some (.inl 21) ∧ zs_C X d 21000 [.ref b32] S29 (zs_kI (fun v36 S35 => (zs_C X d 12000 [.ref a23, .int v36, va_rf p8, va_rf p3] S35 (zs_kV (fun S37 => (∃ b39, (zs_R S4 13000 b20) = some b39 ∧ zs_K S37 b39 = some (.inl 16) ∧ zs_C X d 16002 [.ref b39, va_rf (some a23)] S37 (zs_kI (fun v43 S42 => (w_X5_fields_135 X d p0 p1 p2 p3 p6 p8 p9 S42 Q)) Q))) Q))) Q))) Q)))))) Q))
theorem u_X5_fields_94 {σ : Nat → Nat} {n0 : Nat} {bf : ab_B} {d : Nat} {p0 : Nat} {p1 : Option Nat} {p2 : Option Nat} {p3 : Option Nat} {p6 : Option Nat} {p8 : Option Nat} {p9 : Int32} {S : zs_T} {Q : zs_Q} (hB : zt_B bf) (h : w_X5_fields_94 (zx σ n0 bf) d p0 p1 p2 p3 p6 p8 p9 S Q) : zs_U (zx σ n0 bf) d 4079 94 [(0, .ref p0), (1, va_rf p1), (2, va_rf p2), (3, va_rf p3), (6, va_rf p6), (8, va_rf p8), (9, .int p9)] [] S Q := by
  unfold w_X5_fields_94 at h
  refine zu_iload d_4079_94 rfl ?_
  refine zu_aload d_4079_96 rfl (zs_rr _) ?_
  obtain ⟨b1, e2, h⟩ := h
  refine zs_stk0 (zs_rfe e2) ?_
  obtain ⟨k3, h⟩ := h
  refine zc_4_50  hB rfl k3 d_4079_98 (Nat.le_of_ble_eq_true rfl) h (fun v5 S4 h => ?_)
  refine zu_cmpge (t := 141) d_4079_101 rfl (fun c6 => ?_) (fun c6 => ?_)
  · have h := h.1 c6
    refine zu_aload_n d_4079_141 rfl (zs_ra _) ?_
    obtain ⟨k7, h⟩ := h
    refine zg_4_5 rfl d_4079_142 k7 ?_
    refine zu_bipush d_4079_145 zj_59 ?_
    obtain ⟨b8, e9, h⟩ := h
    refine zs_stk1 (zs_rfe e9) ?_
    obtain ⟨k10, h⟩ := h
    refine zc_4_21 (x0 := (59 : Int32)) hB rfl k10 d_4079_147 (Nat.le_of_ble_eq_true rfl) h (fun v12 S11 h => ?_)
    refine zu_ifne (t := 154) d_4079_150 rfl (fun c13 => ?_) (fun c13 => ?_)
    · have h := h.1 c13
      refine zu_aload_n d_4079_154 rfl (zs_ra _) ?_
      obtain ⟨k14, h⟩ := h
      refine zg_4_5 rfl d_4079_155 k14 ?_
      obtain ⟨b15, e16, h⟩ := h
      refine zs_stk0 (zs_rfe e16) ?_
      obtain ⟨k17, h⟩ := h
      refine zc_4_29  hB rfl k17 d_4079_158 (Nat.le_of_ble_eq_true rfl) h (fun S18 h => ?_)
      refine zu_goto (t := 0) d_4079_161 rfl ?_
      exact h.weak ⟨rfl, rfl, rfl, rfl, trivial⟩
    · have h := h.2 c13
      exact zu_vret d_4079_153 zr_4079 h
  · have h := h.2 c6
    refine zu_aload_n d_4079_104 rfl (zs_rr _) ?_
    obtain ⟨b20, e21, h⟩ := h
    refine zs_stk0 (zs_rfe e21) ?_
    obtain ⟨k22, h⟩ := h
    refine zg_4_412 rfl d_4079_105 k22 ?_
    refine zn_4_93 rfl d_4079_108 ?_
    generalize e26 : zs_nw S4 (.inl 12) 4 = S24
    generalize e25 : zs_N S4 = a23
    have h := h a23 S24 e25.symm e26.symm
    have k27 := zs_kn e25 e26
    refine zu_dup d_4079_111 rfl ?_
    refine zu_aload d_4079_112 rfl (zs_rr _) ?_
    refine zu_iload d_4079_114 rfl ?_
    refine zs_stk1 (zs_rfe e2) ?_
    obtain ⟨k28, h⟩ := h
    refine zc_4_56 (x0 := p9) hB rfl k28 d_4079_116 (by simp only [List.map_cons, List.map_nil, List.sum_cons, List.sum_nil, zs_cat, zs_cI, zs_cJ, zs_cA]; exact Nat.le_of_ble_eq_true rfl) h (fun v30 S29 h => ?_)
    obtain ⟨k31, h⟩ := h
    refine zk_4_313 (o := v30) rfl d_4079_119 k31 ?_
    obtain ⟨b32, e33, h⟩ := h
    refine zs_stk0 (zs_rfe e33) ?_
    obtain ⟨k34, h⟩ := h
    refine zc_4_315  hB rfl k34 d_4079_122 (by simp only [List.map_cons, List.map_nil, List.sum_cons, List.sum_nil, zs_cat, zs_cI, zs_cJ, zs_cA]; exact Nat.le_of_ble_eq_true rfl) h (fun v36 S35 h => ?_)
    refine zu_aload d_4079_125 rfl (zs_rr _) ?_
    refine zu_aload_n d_4079_127 rfl (zs_rr _) ?_
    refine zc_4_338 (x0 := v36) (x1 := p8) (x2 := p3) hB rfl d_4079_128 (by simp only [List.map_cons, List.map_nil, List.sum_cons, List.sum_nil, zs_cat, zs_cI, zs_cJ, zs_cA]; exact Nat.le_of_ble_eq_true rfl) h (fun S37 h => ?_)
    obtain ⟨b39, e40, h⟩ := h
    refine zs_stk1 (zs_rfe e40) ?_
    obtain ⟨k41, h⟩ := h
    refine zc_4_140 (x0 := (some a23)) hB rfl k41 d_4079_131 (Nat.le_of_ble_eq_true rfl) h (fun v43 S42 h => ?_)
    refine zu_pop d_4079_134 rfl ?_
    exact (u_X5_fields_135 hB h).weak ⟨rfl, rfl, rfl, rfl, rfl, rfl, rfl, trivial⟩
def w_X5_fields (X : zs_X) (d : Nat) (p0 : Nat) (p1 : Option Nat) (p2 : Option Nat) (p3 : Option Nat) (p4 : Int32) (S : zs_T) (Q : zs_Q) : Prop :=
  zs_U X d 4079 0 [(0, .ref p0), (1, va_rf p1), (2, va_rf p2), (3, va_rf p3)] [] S Q
theorem u_X5_fields {σ : Nat → Nat} {n0 : Nat} {bf : ab_B} {d : Nat} {p0 : Nat} {p1 : Option Nat} {p2 : Option Nat} {p3 : Option Nat} {p4 : Int32} {S : zs_T} {Q : zs_Q} (hB : zt_B bf) (hd : 1 ≤ d) (h : w_X5_fields (zx σ n0 bf) (d - 1) p0 p1 p2 p3 p4 S Q) : zs_C (zx σ n0 bf) d 4079 [.ref p0, va_rf p1, va_rf p2, va_rf p3, .int p4] S Q := by
  have hL : lv_args 0 [.ref p0, va_rf p1, va_rf p2, va_rf p3, .int p4] = [(0, .ref p0), (1, va_rf p1), (2, va_rf p2), (3, va_rf p3), (4, .int p4)] := by simp [lv_args, zs_cat, zs_cI, zs_cJ, zs_cA]
  refine zs_C.of1 (hB.2 4079 (by decide) (by decide)) hd (by rw [hL]; exact zs_sub_self _ (by exact ⟨rfl, rfl, rfl, rfl, rfl, trivial⟩)) ?_
  rw [hL]
  clear hL
  unfold w_X5_fields at h
  exact h.weak ⟨rfl, rfl, rfl, rfl, trivial⟩
/-! SchemaPascal$Reader.fieldName(LSchemaPascal$Type;Ljava/util/ArrayList;)I -/
theorem zm_4080 {σ : Nat → Nat} {n0 : Nat} {bf : ab_B} : ab_code (zx σ n0 bf).1 4080 = prog_9_method_36_code := rfl
theorem zq_4080 {σ : Nat → Nat} {n0 : Nat} {bf : ab_B} : ab_maxL (zx σ n0 bf).1 4080 = 5 := rfl
theorem zr_4080 {σ : Nat → Nat} {n0 : Nat} {bf : ab_B} : ab_ret (zx σ n0 bf).1 4080 = (Option.some Jvm.ClassFile.FieldType.int) := rfl
theorem d_4080_0 {σ : Nat → Nat} {n0 : Nat} {bf : ab_B} : decode (ab_code (zx σ n0 bf).1 4080) 0 = .ok (.aload_n 0, 1) := zd zm_4080 (by decide +kernel)
theorem d_4080_1 {σ : Nat → Nat} {n0 : Nat} {bf : ab_B} : decode (ab_code (zx σ n0 bf).1 4080) 1 = .ok (.getfield 5, 3) := zd zm_4080 (by decide +kernel)
theorem d_4080_4 {σ : Nat → Nat} {n0 : Nat} {bf : ab_B} : decode (ab_code (zx σ n0 bf).1 4080) 4 = .ok (.invokevirtual 36, 3) := zd zm_4080 (by decide +kernel)
theorem d_4080_7 {σ : Nat → Nat} {n0 : Nat} {bf : ab_B} : decode (ab_code (zx σ n0 bf).1 4080) 7 = .ok (.ifCond .ne 9, 3) := zd zm_4080 (by decide +kernel)
theorem d_4080_10 {σ : Nat → Nat} {n0 : Nat} {bf : ab_B} : decode (ab_code (zx σ n0 bf).1 4080) 10 = .ok (.aload_n 0, 1) := zd zm_4080 (by decide +kernel)
theorem d_4080_11 {σ : Nat → Nat} {n0 : Nat} {bf : ab_B} : decode (ab_code (zx σ n0 bf).1 4080) 11 = .ok (.iconst 2, 1) := zd zm_4080 (by decide +kernel)
theorem d_4080_12 {σ : Nat → Nat} {n0 : Nat} {bf : ab_B} : decode (ab_code (zx σ n0 bf).1 4080) 12 = .ok (.invokevirtual 25, 3) := zd zm_4080 (by decide +kernel)
theorem d_4080_15 {σ : Nat → Nat} {n0 : Nat} {bf : ab_B} : decode (ab_code (zx σ n0 bf).1 4080) 15 = .ok (.athrow, 1) := zd zm_4080 (by decide +kernel)
theorem d_4080_16 {σ : Nat → Nat} {n0 : Nat} {bf : ab_B} : decode (ab_code (zx σ n0 bf).1 4080) 16 = .ok (.aload_n 1, 1) := zd zm_4080 (by decide +kernel)
theorem d_4080_17 {σ : Nat → Nat} {n0 : Nat} {bf : ab_B} : decode (ab_code (zx σ n0 bf).1 4080) 17 = .ok (.getfield 75, 3) := zd zm_4080 (by decide +kernel)
theorem d_4080_20 {σ : Nat → Nat} {n0 : Nat} {bf : ab_B} : decode (ab_code (zx σ n0 bf).1 4080) 20 = .ok (.aload_n 0, 1) := zd zm_4080 (by decide +kernel)
theorem d_4080_21 {σ : Nat → Nat} {n0 : Nat} {bf : ab_B} : decode (ab_code (zx σ n0 bf).1 4080) 21 = .ok (.getfield 5, 3) := zd zm_4080 (by decide +kernel)
theorem d_4080_24 {σ : Nat → Nat} {n0 : Nat} {bf : ab_B} : decode (ab_code (zx σ n0 bf).1 4080) 24 = .ok (.getfield 40, 3) := zd zm_4080 (by decide +kernel)
theorem d_4080_27 {σ : Nat → Nat} {n0 : Nat} {bf : ab_B} : decode (ab_code (zx σ n0 bf).1 4080) 27 = .ok (.invokevirtual 79, 3) := zd zm_4080 (by decide +kernel)
theorem d_4080_30 {σ : Nat → Nat} {n0 : Nat} {bf : ab_B} : decode (ab_code (zx σ n0 bf).1 4080) 30 = .ok (.ifnull 7, 3) := zd zm_4080 (by decide +kernel)
theorem d_4080_33 {σ : Nat → Nat} {n0 : Nat} {bf : ab_B} : decode (ab_code (zx σ n0 bf).1 4080) 33 = .ok (.iconst 1, 1) := zd zm_4080 (by decide +kernel)
theorem d_4080_34 {σ : Nat → Nat} {n0 : Nat} {bf : ab_B} : decode (ab_code (zx σ n0 bf).1 4080) 34 = .ok (.goto 4, 3) := zd zm_4080 (by decide +kernel)
theorem d_4080_37 {σ : Nat → Nat} {n0 : Nat} {bf : ab_B} : decode (ab_code (zx σ n0 bf).1 4080) 37 = .ok (.iconst 0, 1) := zd zm_4080 (by decide +kernel)
theorem d_4080_38 {σ : Nat → Nat} {n0 : Nat} {bf : ab_B} : decode (ab_code (zx σ n0 bf).1 4080) 38 = .ok (.istore_n 3, 1) := zd zm_4080 (by decide +kernel)
theorem d_4080_39 {σ : Nat → Nat} {n0 : Nat} {bf : ab_B} : decode (ab_code (zx σ n0 bf).1 4080) 39 = .ok (.iconst 0, 1) := zd zm_4080 (by decide +kernel)
theorem d_4080_40 {σ : Nat → Nat} {n0 : Nat} {bf : ab_B} : decode (ab_code (zx σ n0 bf).1 4080) 40 = .ok (.istore 4, 2) := zd zm_4080 (by decide +kernel)
theorem d_4080_42 {σ : Nat → Nat} {n0 : Nat} {bf : ab_B} : decode (ab_code (zx σ n0 bf).1 4080) 42 = .ok (.iload 4, 2) := zd zm_4080 (by decide +kernel)
theorem d_4080_44 {σ : Nat → Nat} {n0 : Nat} {bf : ab_B} : decode (ab_code (zx σ n0 bf).1 4080) 44 = .ok (.aload_n 2, 1) := zd zm_4080 (by decide +kernel)
theorem d_4080_45 {σ : Nat → Nat} {n0 : Nat} {bf : ab_B} : decode (ab_code (zx σ n0 bf).1 4080) 45 = .ok (.invokevirtual 50, 3) := zd zm_4080 (by decide +kernel)
theorem d_4080_48 {σ : Nat → Nat} {n0 : Nat} {bf : ab_B} : decode (ab_code (zx σ n0 bf).1 4080) 48 = .ok (.if_icmp .ge 39, 3) := zd zm_4080 (by decide +kernel)
theorem d_4080_51 {σ : Nat → Nat} {n0 : Nat} {bf : ab_B} : decode (ab_code (zx σ n0 bf).1 4080) 51 = .ok (.iload_n 3, 1) := zd zm_4080 (by decide +kernel)
theorem d_4080_52 {σ : Nat → Nat} {n0 : Nat} {bf : ab_B} : decode (ab_code (zx σ n0 bf).1 4080) 52 = .ok (.aload_n 2, 1) := zd zm_4080 (by decide +kernel)
theorem d_4080_53 {σ : Nat → Nat} {n0 : Nat} {bf : ab_B} : decode (ab_code (zx σ n0 bf).1 4080) 53 = .ok (.iload 4, 2) := zd zm_4080 (by decide +kernel)
theorem d_4080_55 {σ : Nat → Nat} {n0 : Nat} {bf : ab_B} : decode (ab_code (zx σ n0 bf).1 4080) 55 = .ok (.invokevirtual 56, 3) := zd zm_4080 (by decide +kernel)
theorem d_4080_58 {σ : Nat → Nat} {n0 : Nat} {bf : ab_B} : decode (ab_code (zx σ n0 bf).1 4080) 58 = .ok (.checkcast 313, 3) := zd zm_4080 (by decide +kernel)
theorem d_4080_61 {σ : Nat → Nat} {n0 : Nat} {bf : ab_B} : decode (ab_code (zx σ n0 bf).1 4080) 61 = .ok (.invokevirtual 315, 3) := zd zm_4080 (by decide +kernel)
theorem d_4080_64 {σ : Nat → Nat} {n0 : Nat} {bf : ab_B} : decode (ab_code (zx σ n0 bf).1 4080) 64 = .ok (.aload_n 0, 1) := zd zm_4080 (by decide +kernel)
theorem d_4080_65 {σ : Nat → Nat} {n0 : Nat} {bf : ab_B} : decode (ab_code (zx σ n0 bf).1 4080) 65 = .ok (.getfield 5, 3) := zd zm_4080 (by decide +kernel)
theorem d_4080_68 {σ : Nat → Nat} {n0 : Nat} {bf : ab_B} : decode (ab_code (zx σ n0 bf).1 4080) 68 = .ok (.getfield 40, 3) := zd zm_4080 (by decide +kernel)
theorem d_4080_71 {σ : Nat → Nat} {n0 : Nat} {bf : ab_B} : decode (ab_code (zx σ n0 bf).1 4080) 71 = .ok (.if_icmp .ne 7, 3) := zd zm_4080 (by decide +kernel)
theorem d_4080_74 {σ : Nat → Nat} {n0 : Nat} {bf : ab_B} : decode (ab_code (zx σ n0 bf).1 4080) 74 = .ok (.iconst 1, 1) := zd zm_4080 (by decide +kernel)
theorem d_4080_75 {σ : Nat → Nat} {n0 : Nat} {bf : ab_B} : decode (ab_code (zx σ n0 bf).1 4080) 75 = .ok (.goto 4, 3) := zd zm_4080 (by decide +kernel)
theorem d_4080_78 {σ : Nat → Nat} {n0 : Nat} {bf : ab_B} : decode (ab_code (zx σ n0 bf).1 4080) 78 = .ok (.iconst 0, 1) := zd zm_4080 (by decide +kernel)
theorem d_4080_79 {σ : Nat → Nat} {n0 : Nat} {bf : ab_B} : decode (ab_code (zx σ n0 bf).1 4080) 79 = .ok (.ior, 1) := zd zm_4080 (by decide +kernel)
theorem d_4080_80 {σ : Nat → Nat} {n0 : Nat} {bf : ab_B} : decode (ab_code (zx σ n0 bf).1 4080) 80 = .ok (.istore_n 3, 1) := zd zm_4080 (by decide +kernel)
theorem d_4080_81 {σ : Nat → Nat} {n0 : Nat} {bf : ab_B} : decode (ab_code (zx σ n0 bf).1 4080) 81 = .ok (.iinc 4 1, 3) := zd zm_4080 (by decide +kernel)
theorem d_4080_84 {σ : Nat → Nat} {n0 : Nat} {bf : ab_B} : decode (ab_code (zx σ n0 bf).1 4080) 84 = .ok (.goto (-42), 3) := zd zm_4080 (by decide +kernel)
theorem d_4080_87 {σ : Nat → Nat} {n0 : Nat} {bf : ab_B} : decode (ab_code (zx σ n0 bf).1 4080) 87 = .ok (.iload_n 3, 1) := zd zm_4080 (by decide +kernel)
theorem d_4080_88 {σ : Nat → Nat} {n0 : Nat} {bf : ab_B} : decode (ab_code (zx σ n0 bf).1 4080) 88 = .ok (.ifCond .eq 9, 3) := zd zm_4080 (by decide +kernel)
theorem d_4080_91 {σ : Nat → Nat} {n0 : Nat} {bf : ab_B} : decode (ab_code (zx σ n0 bf).1 4080) 91 = .ok (.aload_n 0, 1) := zd zm_4080 (by decide +kernel)
theorem d_4080_92 {σ : Nat → Nat} {n0 : Nat} {bf : ab_B} : decode (ab_code (zx σ n0 bf).1 4080) 92 = .ok (.iconst 4, 1) := zd zm_4080 (by decide +kernel)
theorem d_4080_93 {σ : Nat → Nat} {n0 : Nat} {bf : ab_B} : decode (ab_code (zx σ n0 bf).1 4080) 93 = .ok (.invokevirtual 25, 3) := zd zm_4080 (by decide +kernel)
theorem d_4080_96 {σ : Nat → Nat} {n0 : Nat} {bf : ab_B} : decode (ab_code (zx σ n0 bf).1 4080) 96 = .ok (.athrow, 1) := zd zm_4080 (by decide +kernel)
theorem d_4080_97 {σ : Nat → Nat} {n0 : Nat} {bf : ab_B} : decode (ab_code (zx σ n0 bf).1 4080) 97 = .ok (.aload_n 0, 1) := zd zm_4080 (by decide +kernel)
theorem d_4080_98 {σ : Nat → Nat} {n0 : Nat} {bf : ab_B} : decode (ab_code (zx σ n0 bf).1 4080) 98 = .ok (.invokevirtual 122, 3) := zd zm_4080 (by decide +kernel)
theorem d_4080_101 {σ : Nat → Nat} {n0 : Nat} {bf : ab_B} : decode (ab_code (zx σ n0 bf).1 4080) 101 = .ok (.ireturn, 1) := zd zm_4080 (by decide +kernel)
def w_X5_fieldName_79 (X : zs_X) (d : Nat) (p0 : Nat) (p2 : Option Nat) (p4 : Int32) (q0 : Int32) (q1 : Int32) (S : zs_T) (Q : zs_Q) : Prop :=
  (zs_U X d 4080 42 [(0, .ref p0), (2, va_rf p2), (3, .int (q0 ||| q1)), (4, .int (p4 + (1 : Int32)))] [] S Q)
theorem u_X5_fieldName_79 {σ : Nat → Nat} {n0 : Nat} {bf : ab_B} {d : Nat} {p0 : Nat} {p2 : Option Nat} {p4 : Int32} {q0 : Int32} {q1 : Int32} {S : zs_T} {Q : zs_Q} (hB : zt_B bf) (h : w_X5_fieldName_79 (zx σ n0 bf) d p0 p2 p4 q0 q1 S Q) : zs_U (zx σ n0 bf) d 4080 79 [(0, .ref p0), (2, va_rf p2), (4, .int p4)] [.int q1, .int q0] S Q := by
  unfold w_X5_fieldName_79 at h
  refine zu_stk d_4080_79 rfl rfl ?_
  refine zu_istore_n d_4080_80 (zs_lt zq_4080 rfl) ?_
  refine zs_U.weak (L1 := [(3, .int (q0 ||| q1)), (0, .ref p0), (2, va_rf p2), (4, .int p4)]) ?_ ⟨rfl, zs_gp1 rfl (Or.inl rfl) rfl, zs_gp1 rfl (Or.inl (zs_cat _)) rfl, zs_gp1 rfl (Or.inl rfl) rfl, trivial⟩
  refine zu_iinc d_4080_81 rfl zi_1 (zs_lt zq_4080 rfl) ?_
  refine zu_goto (t := 42) d_4080_84 rfl ?_
  exact h.weak ⟨rfl, rfl, rfl, rfl, trivial⟩
def w_X5_fieldName_42 (X : zs_X) (d : Nat) (p0 : Nat) (p2 : Option Nat) (p3 : Int32) (p4 : Int32) (S : zs_T) (Q : zs_Q) : Prop :=
  (∃ b1, p2 = some b1 ∧ zs_K S b1 = some (.inl 16) ∧ zs_C X d 16001 [.ref b1] S (zs_kI (fun v5 S4 => (((v5 ≤ p4 → (((p3 = 0 → (zs_K S4 p0 = some (.inl 4) ∧ zs_C X d 4007 [.ref p0] S4 (zs_kI (fun v10 S9 => (Q (.returned (some (.int v10))) S9)) Q))) ∧ (¬ (p3 = 0) → (zs_K S4 p0 = some (.inl 4) ∧ zs_C X d 4006 [.ref p0, .int (4 : Int32)] S4 (zs_kR (fun v13 S12 => (∃ b14, v13 = some b14 ∧ Q (.threw b14) S12)) Q)))))) ∧ (¬ (v5 ≤ p4) → (zs_K S4 b1 = some (.inl 16) ∧ zs_C X d 16009 [.ref b1, .int p4] S4 (zs_kR (fun v18 S17 => ((∀ a, v18 = some a → zs_K S17 a = some (.inl 21)) ∧ ∃ b20, v18 = some b20 ∧ zs_K S17 b20 = some (.inl 21) ∧ zs_C X d 21000 [.ref b20] S17 (zs_kI (fun v24 S23 => (zs_K S23 p0 = some (.inl 4) ∧ ∃ b26, (zs_R S23 4000 p0) = some b26 ∧ zs_K S23 b26 = some (.inl 5) ∧ ((¬ v24 = (zs_I S23 5004 b26) → (w_X5_fieldName_79 X d p0 p2 p4 p3 (0 : Int32) S23 Q)) ∧ (¬ (¬ v24 = (zs_I S23 5004 b26)) → (w_X5_fieldName_79 X d p0 p2 p4 p3 (1 : Int32) S23 Q))))) Q))) Q)))))) Q))
theorem u_X5_fieldName_42 {σ : Nat → Nat} {n0 : Nat} {bf : ab_B} {d : Nat} {p0 : Nat} {p2 : Option Nat} {p3 : Int32} {p4 : Int32} {S : zs_T} {Q : zs_Q} (hB : zt_B bf) (h : w_X5_fieldName_42 (zx σ n0 bf) d p0 p2 p3 p4 S Q) : zs_U (zx σ n0 bf) d 4080 42 [(0, .ref p0), (2, va_rf p2), (3, .int p3), (4, .int p4)] [] S Q := by
  unfold w_X5_fieldName_42 at h
  refine zu_iload d_4080_42 rfl ?_
  refine zu_aload_n d_4080_44 rfl (zs_rr _) ?_
  obtain ⟨b1, e2, h⟩ := h
  refine zs_stk0 (zs_rfe e2) ?_
  obtain ⟨k3, h⟩ := h
  refine zc_4_50  hB rfl k3 d_4080_45 (Nat.le_of_ble_eq_true rfl) h (fun v5 S4 h => ?_)
  refine zu_cmpge (t := 87) d_4080_48 rfl (fun c6 => ?_) (fun c6 => ?_)
  · have h := h.1 c6
    refine zu_iload_n d_4080_87 rfl ?_
    refine zu_ifeq (t := 97) d_4080_88 rfl (fun c7 => ?_) (fun c7 => ?_)
    · have h := h.1 c7
      refine zu_aload_n d_4080_97 rfl (zs_ra _) ?_
      obtain ⟨k8, h⟩ := h
      refine zc_4_122  hB rfl k8 d_4080_98 (Nat.le_of_ble_eq_true rfl) h (fun v10 S9 h => ?_)
      exact zu_iret d_4080_101 zr_4080 rfl h
    · have h := h.2 c7
      refine zu_aload_n d_4080_91 rfl (zs_ra _) ?_
      refine zu_iconst d_4080_92 zi_4 ?_
      obtain ⟨k11, h⟩ := h
      refine zc_4_25 (x0 := (4 : Int32)) hB rfl k11 d_4080_93 (Nat.le_of_ble_eq_true rfl) h (fun v13 S12 h => ?_)
      obtain ⟨b14, e15, h⟩ := h
      refine zs_stk0 (zs_rfe e15) ?_
      exact zu_throw d_4080_96 h
  · have h := h.2 c6
    refine zu_iload_n d_4080_51 rfl ?_
    refine zu_aload_n d_4080_52 rfl (zs_rr _) ?_
    refine zu_iload d_4080_53 rfl ?_
    refine zs_stk1 (zs_rfe e2) ?_
    obtain ⟨k16, h⟩ := h
    refine zc_4_56 (x0 := p4) hB rfl k16 d_4080_55 (Nat.le_of_ble_eq_true rfl) h (fun v18 S17 h => ?_)
    obtain ⟨k19, h⟩ := h
    refine zk_4_313 (o := v18) rfl d_4080_58 k19 ?_
    obtain ⟨b20, e21, h⟩ := h
    refine zs_stk0 (zs_rfe e21) ?_
    obtain ⟨k22, h⟩ := h
    refine zc_4_315  hB rfl k22 d_4080_61 (Nat.le_of_ble_eq_true rfl) h (fun v24 S23 h => ?_)
    refine zu_aload_n d_4080_64 rfl (zs_ra _) ?_
    obtain ⟨k25, h⟩ := h
    refine zg_4_5 rfl d_4080_65 k25 ?_
    obtain ⟨b26, e27, h⟩ := h
    refine zs_stk0 (zs_rfe e27) ?_
    obtain ⟨k28, h⟩ := h
    refine zg_4_40 rfl d_4080_68 k28 ?_
    refine zu_cmpne (t := 78) d_4080_71 rfl (fun c29 => ?_) (fun c29 => ?_)
    · have h := h.1 c29
      refine zu_iconst d_4080_78 zi_0 ?_
      exact (u_X5_fieldName_79 hB h).weak ⟨rfl, rfl, rfl, trivial⟩
    · have h := h.2 c29
      refine zu_iconst d_4080_74 zi_1 ?_
      refine zu_goto (t := 79) d_4080_75 rfl ?_
      exact (u_X5_fieldName_79 hB h).weak ⟨rfl, rfl, rfl, trivial⟩
def w_X5_fieldName (X : zs_X) (d : Nat) (p0 : Nat) (p1 : Option Nat) (p2 : Option Nat) (S : zs_T) (Q : zs_Q) : Prop :=
  (zs_K S p0 = some (.inl 4) ∧ ∃ b2, (zs_R S 4000 p0) = some b2 ∧ zs_K S b2 = some (.inl 5) ∧ zs_C X d 5016 [.ref b2] S (zs_kI (fun v6 S5 => (((¬ v6 = 0 → (∃ b8, p1 = some b8 ∧ zs_K S5 b8 = some (.inl 6) ∧ zs_K S5 p0 = some (.inl 4) ∧ ∃ b12, (zs_R S5 4000 p0) = some b12 ∧ zs_K S5 b12 = some (.inl 5) ∧ ∃ b15, (zs_R S5 6006 b8) = some b15 ∧ zs_K S5 b15 = some (.inl 13) ∧ zs_C X d 13000 [.ref b15, .int (zs_I S5 5004 b12)] S5 (zs_kR (fun v19 S18 => (((v19 = none → (zs_U X d 4080 42 [(0, .ref p0), (2, va_rf p2), (3, .int (0 : Int32)), (4, .int (0 : Int32))] [] S18 Q)) ∧ (∀ b20, v19 = some b20 → (zs_U X d 4080 42 [(0, .ref p0), (2, va_rf p2), (3, .int (1 : Int32)), (4, .int (0 : Int32))] [] S18 Q))))) Q))) ∧ (¬ (¬ v6 = 0) → (zs_K S5 p0 = some (.inl 4) ∧ zs_C X d 4006 [.ref p0, .int (2 : Int32)] S5 (zs_kR (fun v24 S23 => (∃ b25, v24 = some b25 ∧ Q (.threw b25) S23)) Q)))))) Q))
theorem u_X5_fieldName {σ : Nat → Nat} {n0 : Nat} {bf : ab_B} {d : Nat} {p0 : Nat} {p1 : Option Nat} {p2 : Option Nat} {S : zs_T} {Q : zs_Q} (hB : zt_B bf) (hd : 1 ≤ d) (h : w_X5_fieldName (zx σ n0 bf) (d - 1) p0 p1 p2 S Q) : zs_C (zx σ n0 bf) d 4080 [.ref p0, va_rf p1, va_rf p2] S Q := by
  have hL : lv_args 0 [.ref p0, va_rf p1, va_rf p2] = [(0, .ref p0), (1, va_rf p1), (2, va_rf p2)] := by simp [lv_args, zs_cat, zs_cI, zs_cJ, zs_cA]
  refine zs_C.of1 (hB.2 4080 (by decide) (by decide)) hd (by rw [hL]; exact zs_sub_self _ (by exact ⟨rfl, rfl, rfl, trivial⟩)) ?_
  rw [hL]
  clear hL
  unfold w_X5_fieldName at h
  refine zu_aload_n d_4080_0 rfl (zs_ra _) ?_
  obtain ⟨k1, h⟩ := h
  refine zg_4_5 rfl d_4080_1 k1 ?_
  obtain ⟨b2, e3, h⟩ := h
  refine zs_stk0 (zs_rfe e3) ?_
  obtain ⟨k4, h⟩ := h
  refine zc_4_36  hB rfl k4 d_4080_4 (Nat.le_of_ble_eq_true rfl) h (fun v6 S5 h => ?_)
  refine zu_ifne (t := 16) d_4080_7 rfl (fun c7 => ?_) (fun c7 => ?_)
  · have h := h.1 c7
    refine zu_aload_n d_4080_16 rfl (zs_rr _) ?_
    obtain ⟨b8, e9, h⟩ := h
    refine zs_stk0 (zs_rfe e9) ?_
    obtain ⟨k10, h⟩ := h
    refine zg_4_75 rfl d_4080_17 k10 ?_
    refine zu_aload_n d_4080_20 rfl (zs_ra _) ?_
    obtain ⟨k11, h⟩ := h
    refine zg_4_5 rfl d_4080_21 k11 ?_
    obtain ⟨b12, e13, h⟩ := h
    refine zs_stk0 (zs_rfe e13) ?_
    obtain ⟨k14, h⟩ := h
    refine zg_4_40 rfl d_4080_24 k14 ?_
    obtain ⟨b15, e16, h⟩ := h
    refine zs_stk1 (zs_rfe e16) ?_
    obtain ⟨k17, h⟩ := h
    refine zc_4_79 (x0 := (zs_I S5 5004 b12)) hB rfl k17 d_4080_27 (Nat.le_of_ble_eq_true rfl) h (fun v19 S18 h => ?_)
    refine zu_ifnull (u := v19) (t := 37) d_4080_30 rfl rfl (fun e21 => ?_) (fun b20 e21 => ?_)
    · have h := h.1 e21
      refine zu_iconst d_4080_37 zi_0 ?_
      refine zu_istore_n d_4080_38 (zs_lt zq_4080 rfl) ?_
      refine zs_U.weak (L1 := [(3, .int (0 : Int32)), (0, .ref p0), (1, va_rf p1), (2, va_rf p2)]) ?_ ⟨rfl, zs_gp1 rfl (Or.inl rfl) rfl, zs_gp1 rfl (Or.inl (zs_cat _)) rfl, zs_gp1 rfl (Or.inl (zs_cat _)) rfl, trivial⟩
      refine zu_iconst d_4080_39 zi_0 ?_
      refine zu_istore d_4080_40 (zs_lt zq_4080 rfl) ?_
      exact h.weak ⟨rfl, rfl, rfl, rfl, trivial⟩
    · have h := h.2 b20 e21
      refine zu_iconst d_4080_33 zi_1 ?_
      refine zu_goto (t := 38) d_4080_34 rfl ?_
      refine zu_istore_n d_4080_38 (zs_lt zq_4080 rfl) ?_
      refine zs_U.weak (L1 := [(3, .int (1 : Int32)), (0, .ref p0), (1, va_rf p1), (2, va_rf p2)]) ?_ ⟨rfl, zs_gp1 rfl (Or.inl rfl) rfl, zs_gp1 rfl (Or.inl (zs_cat _)) rfl, zs_gp1 rfl (Or.inl (zs_cat _)) rfl, trivial⟩
      refine zu_iconst d_4080_39 zi_0 ?_
      refine zu_istore d_4080_40 (zs_lt zq_4080 rfl) ?_
      exact h.weak ⟨rfl, rfl, rfl, rfl, trivial⟩
  · have h := h.2 c7
    refine zu_aload_n d_4080_10 rfl (zs_ra _) ?_
    refine zu_iconst d_4080_11 zi_2 ?_
    obtain ⟨k22, h⟩ := h
    refine zc_4_25 (x0 := (2 : Int32)) hB rfl k22 d_4080_12 (Nat.le_of_ble_eq_true rfl) h (fun v24 S23 h => ?_)
    obtain ⟨b25, e26, h⟩ := h
    refine zs_stk0 (zs_rfe e26) ?_
    exact zu_throw d_4080_15 h
/-! SchemaPascal$Reader.part(LSchemaPascal$Type;LSchemaPascal$Fields;LSchemaPascal$Variant;)V -/
theorem zm_4081 {σ : Nat → Nat} {n0 : Nat} {bf : ab_B} : ab_code (zx σ n0 bf).1 4081 = prog_9_method_37_code := rfl
theorem zq_4081 {σ : Nat → Nat} {n0 : Nat} {bf : ab_B} : ab_maxL (zx σ n0 bf).1 4081 = 9 := rfl
theorem zr_4081 {σ : Nat → Nat} {n0 : Nat} {bf : ab_B} : ab_ret (zx σ n0 bf).1 4081 = (Option.none : Option Jvm.ClassFile.FieldType) := rfl
theorem d_4081_0 {σ : Nat → Nat} {n0 : Nat} {bf : ab_B} : decode (ab_code (zx σ n0 bf).1 4081) 0 = .ok (.aload_n 0, 1) := zd zm_4081 (by decide +kernel)
theorem d_4081_1 {σ : Nat → Nat} {n0 : Nat} {bf : ab_B} : decode (ab_code (zx σ n0 bf).1 4081) 1 = .ok (.aload_n 1, 1) := zd zm_4081 (by decide +kernel)
theorem d_4081_2 {σ : Nat → Nat} {n0 : Nat} {bf : ab_B} : decode (ab_code (zx σ n0 bf).1 4081) 2 = .ok (.new 51, 3) := zd zm_4081 (by decide +kernel)
theorem d_4081_5 {σ : Nat → Nat} {n0 : Nat} {bf : ab_B} : decode (ab_code (zx σ n0 bf).1 4081) 5 = .ok (.dup, 1) := zd zm_4081 (by decide +kernel)
theorem d_4081_6 {σ : Nat → Nat} {n0 : Nat} {bf : ab_B} : decode (ab_code (zx σ n0 bf).1 4081) 6 = .ok (.invokespecial 326, 3) := zd zm_4081 (by decide +kernel)
theorem d_4081_9 {σ : Nat → Nat} {n0 : Nat} {bf : ab_B} : decode (ab_code (zx σ n0 bf).1 4081) 9 = .ok (.invokevirtual 493, 3) := zd zm_4081 (by decide +kernel)
theorem d_4081_12 {σ : Nat → Nat} {n0 : Nat} {bf : ab_B} : decode (ab_code (zx σ n0 bf).1 4081) 12 = .ok (.istore 4, 2) := zd zm_4081 (by decide +kernel)
theorem d_4081_14 {σ : Nat → Nat} {n0 : Nat} {bf : ab_B} : decode (ab_code (zx σ n0 bf).1 4081) 14 = .ok (.aload_n 0, 1) := zd zm_4081 (by decide +kernel)
theorem d_4081_15 {σ : Nat → Nat} {n0 : Nat} {bf : ab_B} : decode (ab_code (zx σ n0 bf).1 4081) 15 = .ok (.bipush 58, 2) := zd zm_4081 (by decide +kernel)
theorem d_4081_17 {σ : Nat → Nat} {n0 : Nat} {bf : ab_B} : decode (ab_code (zx σ n0 bf).1 4081) 17 = .ok (.invokevirtual 224, 3) := zd zm_4081 (by decide +kernel)
theorem d_4081_20 {σ : Nat → Nat} {n0 : Nat} {bf : ab_B} : decode (ab_code (zx σ n0 bf).1 4081) 20 = .ok (.aload_n 0, 1) := zd zm_4081 (by decide +kernel)
theorem d_4081_21 {σ : Nat → Nat} {n0 : Nat} {bf : ab_B} : decode (ab_code (zx σ n0 bf).1 4081) 21 = .ok (.invokevirtual 332, 3) := zd zm_4081 (by decide +kernel)
theorem d_4081_24 {σ : Nat → Nat} {n0 : Nat} {bf : ab_B} : decode (ab_code (zx σ n0 bf).1 4081) 24 = .ok (.astore 5, 2) := zd zm_4081 (by decide +kernel)
theorem d_4081_26 {σ : Nat → Nat} {n0 : Nat} {bf : ab_B} : decode (ab_code (zx σ n0 bf).1 4081) 26 = .ok (.aload 5, 2) := zd zm_4081 (by decide +kernel)
theorem d_4081_28 {σ : Nat → Nat} {n0 : Nat} {bf : ab_B} : decode (ab_code (zx σ n0 bf).1 4081) 28 = .ok (.invokevirtual 335, 3) := zd zm_4081 (by decide +kernel)
theorem d_4081_31 {σ : Nat → Nat} {n0 : Nat} {bf : ab_B} : decode (ab_code (zx σ n0 bf).1 4081) 31 = .ok (.ifCond .ne 9, 3) := zd zm_4081 (by decide +kernel)
theorem d_4081_34 {σ : Nat → Nat} {n0 : Nat} {bf : ab_B} : decode (ab_code (zx σ n0 bf).1 4081) 34 = .ok (.aload_n 0, 1) := zd zm_4081 (by decide +kernel)
theorem d_4081_35 {σ : Nat → Nat} {n0 : Nat} {bf : ab_B} : decode (ab_code (zx σ n0 bf).1 4081) 35 = .ok (.iconst 5, 1) := zd zm_4081 (by decide +kernel)
theorem d_4081_36 {σ : Nat → Nat} {n0 : Nat} {bf : ab_B} : decode (ab_code (zx σ n0 bf).1 4081) 36 = .ok (.invokevirtual 25, 3) := zd zm_4081 (by decide +kernel)
theorem d_4081_39 {σ : Nat → Nat} {n0 : Nat} {bf : ab_B} : decode (ab_code (zx σ n0 bf).1 4081) 39 = .ok (.athrow, 1) := zd zm_4081 (by decide +kernel)
theorem d_4081_40 {σ : Nat → Nat} {n0 : Nat} {bf : ab_B} : decode (ab_code (zx σ n0 bf).1 4081) 40 = .ok (.aload_n 0, 1) := zd zm_4081 (by decide +kernel)
theorem d_4081_41 {σ : Nat → Nat} {n0 : Nat} {bf : ab_B} : decode (ab_code (zx σ n0 bf).1 4081) 41 = .ok (.bipush 20, 2) := zd zm_4081 (by decide +kernel)
theorem d_4081_43 {σ : Nat → Nat} {n0 : Nat} {bf : ab_B} : decode (ab_code (zx σ n0 bf).1 4081) 43 = .ok (.invokevirtual 221, 3) := zd zm_4081 (by decide +kernel)
theorem d_4081_46 {σ : Nat → Nat} {n0 : Nat} {bf : ab_B} : decode (ab_code (zx σ n0 bf).1 4081) 46 = .ok (.new 420, 3) := zd zm_4081 (by decide +kernel)
theorem d_4081_49 {σ : Nat → Nat} {n0 : Nat} {bf : ab_B} : decode (ab_code (zx σ n0 bf).1 4081) 49 = .ok (.dup, 1) := zd zm_4081 (by decide +kernel)
theorem d_4081_50 {σ : Nat → Nat} {n0 : Nat} {bf : ab_B} : decode (ab_code (zx σ n0 bf).1 4081) 50 = .ok (.invokespecial 500, 3) := zd zm_4081 (by decide +kernel)
theorem d_4081_53 {σ : Nat → Nat} {n0 : Nat} {bf : ab_B} : decode (ab_code (zx σ n0 bf).1 4081) 53 = .ok (.astore 6, 2) := zd zm_4081 (by decide +kernel)
theorem d_4081_55 {σ : Nat → Nat} {n0 : Nat} {bf : ab_B} : decode (ab_code (zx σ n0 bf).1 4081) 55 = .ok (.aload 6, 2) := zd zm_4081 (by decide +kernel)
theorem d_4081_57 {σ : Nat → Nat} {n0 : Nat} {bf : ab_B} : decode (ab_code (zx σ n0 bf).1 4081) 57 = .ok (.new 93, 3) := zd zm_4081 (by decide +kernel)
theorem d_4081_60 {σ : Nat → Nat} {n0 : Nat} {bf : ab_B} : decode (ab_code (zx σ n0 bf).1 4081) 60 = .ok (.dup, 1) := zd zm_4081 (by decide +kernel)
theorem d_4081_61 {σ : Nat → Nat} {n0 : Nat} {bf : ab_B} : decode (ab_code (zx σ n0 bf).1 4081) 61 = .ok (.iload 4, 2) := zd zm_4081 (by decide +kernel)
theorem d_4081_63 {σ : Nat → Nat} {n0 : Nat} {bf : ab_B} : decode (ab_code (zx σ n0 bf).1 4081) 63 = .ok (.aload 5, 2) := zd zm_4081 (by decide +kernel)
theorem d_4081_65 {σ : Nat → Nat} {n0 : Nat} {bf : ab_B} : decode (ab_code (zx σ n0 bf).1 4081) 65 = .ok (.aload_n 3, 1) := zd zm_4081 (by decide +kernel)
theorem d_4081_66 {σ : Nat → Nat} {n0 : Nat} {bf : ab_B} : decode (ab_code (zx σ n0 bf).1 4081) 66 = .ok (.invokespecial 338, 3) := zd zm_4081 (by decide +kernel)
theorem d_4081_69 {σ : Nat → Nat} {n0 : Nat} {bf : ab_B} : decode (ab_code (zx σ n0 bf).1 4081) 69 = .ok (.putfield 501, 3) := zd zm_4081 (by decide +kernel)
theorem d_4081_72 {σ : Nat → Nat} {n0 : Nat} {bf : ab_B} : decode (ab_code (zx σ n0 bf).1 4081) 72 = .ok (.aload 6, 2) := zd zm_4081 (by decide +kernel)
theorem d_4081_74 {σ : Nat → Nat} {n0 : Nat} {bf : ab_B} : decode (ab_code (zx σ n0 bf).1 4081) 74 = .ok (.getfield 501, 3) := zd zm_4081 (by decide +kernel)
theorem d_4081_77 {σ : Nat → Nat} {n0 : Nat} {bf : ab_B} : decode (ab_code (zx σ n0 bf).1 4081) 77 = .ok (.aload 6, 2) := zd zm_4081 (by decide +kernel)
theorem d_4081_79 {σ : Nat → Nat} {n0 : Nat} {bf : ab_B} : decode (ab_code (zx σ n0 bf).1 4081) 79 = .ok (.putfield 504, 3) := zd zm_4081 (by decide +kernel)
theorem d_4081_82 {σ : Nat → Nat} {n0 : Nat} {bf : ab_B} : decode (ab_code (zx σ n0 bf).1 4081) 82 = .ok (.aload_n 2, 1) := zd zm_4081 (by decide +kernel)
theorem d_4081_83 {σ : Nat → Nat} {n0 : Nat} {bf : ab_B} : decode (ab_code (zx σ n0 bf).1 4081) 83 = .ok (.getfield 412, 3) := zd zm_4081 (by decide +kernel)
theorem d_4081_86 {σ : Nat → Nat} {n0 : Nat} {bf : ab_B} : decode (ab_code (zx σ n0 bf).1 4081) 86 = .ok (.aload 6, 2) := zd zm_4081 (by decide +kernel)
theorem d_4081_88 {σ : Nat → Nat} {n0 : Nat} {bf : ab_B} : decode (ab_code (zx σ n0 bf).1 4081) 88 = .ok (.getfield 501, 3) := zd zm_4081 (by decide +kernel)
theorem d_4081_91 {σ : Nat → Nat} {n0 : Nat} {bf : ab_B} : decode (ab_code (zx σ n0 bf).1 4081) 91 = .ok (.invokevirtual 140, 3) := zd zm_4081 (by decide +kernel)
theorem d_4081_94 {σ : Nat → Nat} {n0 : Nat} {bf : ab_B} : decode (ab_code (zx σ n0 bf).1 4081) 94 = .ok (.pop, 1) := zd zm_4081 (by decide +kernel)
theorem d_4081_95 {σ : Nat → Nat} {n0 : Nat} {bf : ab_B} : decode (ab_code (zx σ n0 bf).1 4081) 95 = .ok (.aload_n 2, 1) := zd zm_4081 (by decide +kernel)
theorem d_4081_96 {σ : Nat → Nat} {n0 : Nat} {bf : ab_B} : decode (ab_code (zx σ n0 bf).1 4081) 96 = .ok (.aload 6, 2) := zd zm_4081 (by decide +kernel)
theorem d_4081_98 {σ : Nat → Nat} {n0 : Nat} {bf : ab_B} : decode (ab_code (zx σ n0 bf).1 4081) 98 = .ok (.putfield 415, 3) := zd zm_4081 (by decide +kernel)
theorem d_4081_101 {σ : Nat → Nat} {n0 : Nat} {bf : ab_B} : decode (ab_code (zx σ n0 bf).1 4081) 101 = .ok (.aload_n 0, 1) := zd zm_4081 (by decide +kernel)
theorem d_4081_102 {σ : Nat → Nat} {n0 : Nat} {bf : ab_B} : decode (ab_code (zx σ n0 bf).1 4081) 102 = .ok (.invokevirtual 357, 3) := zd zm_4081 (by decide +kernel)
theorem d_4081_105 {σ : Nat → Nat} {n0 : Nat} {bf : ab_B} : decode (ab_code (zx σ n0 bf).1 4081) 105 = .ok (.iconst 1, 1) := zd zm_4081 (by decide +kernel)
theorem d_4081_106 {σ : Nat → Nat} {n0 : Nat} {bf : ab_B} : decode (ab_code (zx σ n0 bf).1 4081) 106 = .ok (.istore 7, 2) := zd zm_4081 (by decide +kernel)
theorem d_4081_108 {σ : Nat → Nat} {n0 : Nat} {bf : ab_B} : decode (ab_code (zx σ n0 bf).1 4081) 108 = .ok (.iload 7, 2) := zd zm_4081 (by decide +kernel)
theorem d_4081_110 {σ : Nat → Nat} {n0 : Nat} {bf : ab_B} : decode (ab_code (zx σ n0 bf).1 4081) 110 = .ok (.ifCond .eq 129, 3) := zd zm_4081 (by decide +kernel)
theorem d_4081_113 {σ : Nat → Nat} {n0 : Nat} {bf : ab_B} : decode (ab_code (zx σ n0 bf).1 4081) 113 = .ok (.new 424, 3) := zd zm_4081 (by decide +kernel)
theorem d_4081_116 {σ : Nat → Nat} {n0 : Nat} {bf : ab_B} : decode (ab_code (zx σ n0 bf).1 4081) 116 = .ok (.dup, 1) := zd zm_4081 (by decide +kernel)
theorem d_4081_117 {σ : Nat → Nat} {n0 : Nat} {bf : ab_B} : decode (ab_code (zx σ n0 bf).1 4081) 117 = .ok (.aload 6, 2) := zd zm_4081 (by decide +kernel)
theorem d_4081_119 {σ : Nat → Nat} {n0 : Nat} {bf : ab_B} : decode (ab_code (zx σ n0 bf).1 4081) 119 = .ok (.invokespecial 505, 3) := zd zm_4081 (by decide +kernel)
theorem d_4081_122 {σ : Nat → Nat} {n0 : Nat} {bf : ab_B} : decode (ab_code (zx σ n0 bf).1 4081) 122 = .ok (.astore 8, 2) := zd zm_4081 (by decide +kernel)
theorem d_4081_124 {σ : Nat → Nat} {n0 : Nat} {bf : ab_B} : decode (ab_code (zx σ n0 bf).1 4081) 124 = .ok (.aload_n 0, 1) := zd zm_4081 (by decide +kernel)
theorem d_4081_125 {σ : Nat → Nat} {n0 : Nat} {bf : ab_B} : decode (ab_code (zx σ n0 bf).1 4081) 125 = .ok (.aload 5, 2) := zd zm_4081 (by decide +kernel)
theorem d_4081_127 {σ : Nat → Nat} {n0 : Nat} {bf : ab_B} : decode (ab_code (zx σ n0 bf).1 4081) 127 = .ok (.aload 6, 2) := zd zm_4081 (by decide +kernel)
theorem d_4081_129 {σ : Nat → Nat} {n0 : Nat} {bf : ab_B} : decode (ab_code (zx σ n0 bf).1 4081) 129 = .ok (.aload 8, 2) := zd zm_4081 (by decide +kernel)
theorem d_4081_131 {σ : Nat → Nat} {n0 : Nat} {bf : ab_B} : decode (ab_code (zx σ n0 bf).1 4081) 131 = .ok (.invokevirtual 508, 3) := zd zm_4081 (by decide +kernel)
theorem d_4081_134 {σ : Nat → Nat} {n0 : Nat} {bf : ab_B} : decode (ab_code (zx σ n0 bf).1 4081) 134 = .ok (.aload_n 0, 1) := zd zm_4081 (by decide +kernel)
theorem d_4081_135 {σ : Nat → Nat} {n0 : Nat} {bf : ab_B} : decode (ab_code (zx σ n0 bf).1 4081) 135 = .ok (.bipush 58, 2) := zd zm_4081 (by decide +kernel)
theorem d_4081_137 {σ : Nat → Nat} {n0 : Nat} {bf : ab_B} : decode (ab_code (zx σ n0 bf).1 4081) 137 = .ok (.invokevirtual 224, 3) := zd zm_4081 (by decide +kernel)
theorem d_4081_140 {σ : Nat → Nat} {n0 : Nat} {bf : ab_B} : decode (ab_code (zx σ n0 bf).1 4081) 140 = .ok (.aload_n 0, 1) := zd zm_4081 (by decide +kernel)
theorem d_4081_141 {σ : Nat → Nat} {n0 : Nat} {bf : ab_B} : decode (ab_code (zx σ n0 bf).1 4081) 141 = .ok (.bipush 40, 2) := zd zm_4081 (by decide +kernel)
theorem d_4081_143 {σ : Nat → Nat} {n0 : Nat} {bf : ab_B} : decode (ab_code (zx σ n0 bf).1 4081) 143 = .ok (.invokevirtual 224, 3) := zd zm_4081 (by decide +kernel)
theorem d_4081_146 {σ : Nat → Nat} {n0 : Nat} {bf : ab_B} : decode (ab_code (zx σ n0 bf).1 4081) 146 = .ok (.aload 6, 2) := zd zm_4081 (by decide +kernel)
theorem d_4081_148 {σ : Nat → Nat} {n0 : Nat} {bf : ab_B} : decode (ab_code (zx σ n0 bf).1 4081) 148 = .ok (.getfield 419, 3) := zd zm_4081 (by decide +kernel)
theorem d_4081_151 {σ : Nat → Nat} {n0 : Nat} {bf : ab_B} : decode (ab_code (zx σ n0 bf).1 4081) 151 = .ok (.aload 8, 2) := zd zm_4081 (by decide +kernel)
theorem d_4081_153 {σ : Nat → Nat} {n0 : Nat} {bf : ab_B} : decode (ab_code (zx σ n0 bf).1 4081) 153 = .ok (.invokevirtual 140, 3) := zd zm_4081 (by decide +kernel)
theorem d_4081_156 {σ : Nat → Nat} {n0 : Nat} {bf : ab_B} : decode (ab_code (zx σ n0 bf).1 4081) 156 = .ok (.pop, 1) := zd zm_4081 (by decide +kernel)
theorem d_4081_157 {σ : Nat → Nat} {n0 : Nat} {bf : ab_B} : decode (ab_code (zx σ n0 bf).1 4081) 157 = .ok (.aload_n 0, 1) := zd zm_4081 (by decide +kernel)
theorem d_4081_158 {σ : Nat → Nat} {n0 : Nat} {bf : ab_B} : decode (ab_code (zx σ n0 bf).1 4081) 158 = .ok (.aload_n 1, 1) := zd zm_4081 (by decide +kernel)
theorem d_4081_159 {σ : Nat → Nat} {n0 : Nat} {bf : ab_B} : decode (ab_code (zx σ n0 bf).1 4081) 159 = .ok (.aload 8, 2) := zd zm_4081 (by decide +kernel)
theorem d_4081_161 {σ : Nat → Nat} {n0 : Nat} {bf : ab_B} : decode (ab_code (zx σ n0 bf).1 4081) 161 = .ok (.getfield 426, 3) := zd zm_4081 (by decide +kernel)
theorem d_4081_164 {σ : Nat → Nat} {n0 : Nat} {bf : ab_B} : decode (ab_code (zx σ n0 bf).1 4081) 164 = .ok (.aload 8, 2) := zd zm_4081 (by decide +kernel)
theorem d_4081_166 {σ : Nat → Nat} {n0 : Nat} {bf : ab_B} : decode (ab_code (zx σ n0 bf).1 4081) 166 = .ok (.bipush 41, 2) := zd zm_4081 (by decide +kernel)
theorem d_4081_168 {σ : Nat → Nat} {n0 : Nat} {bf : ab_B} : decode (ab_code (zx σ n0 bf).1 4081) 168 = .ok (.invokevirtual 490, 3) := zd zm_4081 (by decide +kernel)
theorem d_4081_171 {σ : Nat → Nat} {n0 : Nat} {bf : ab_B} : decode (ab_code (zx σ n0 bf).1 4081) 171 = .ok (.aload_n 0, 1) := zd zm_4081 (by decide +kernel)
theorem d_4081_172 {σ : Nat → Nat} {n0 : Nat} {bf : ab_B} : decode (ab_code (zx σ n0 bf).1 4081) 172 = .ok (.bipush 41, 2) := zd zm_4081 (by decide +kernel)
theorem d_4081_174 {σ : Nat → Nat} {n0 : Nat} {bf : ab_B} : decode (ab_code (zx σ n0 bf).1 4081) 174 = .ok (.invokevirtual 224, 3) := zd zm_4081 (by decide +kernel)
theorem d_4081_177 {σ : Nat → Nat} {n0 : Nat} {bf : ab_B} : decode (ab_code (zx σ n0 bf).1 4081) 177 = .ok (.aload_n 0, 1) := zd zm_4081 (by decide +kernel)
theorem d_4081_178 {σ : Nat → Nat} {n0 : Nat} {bf : ab_B} : decode (ab_code (zx σ n0 bf).1 4081) 178 = .ok (.getfield 5, 3) := zd zm_4081 (by decide +kernel)
theorem d_4081_181 {σ : Nat → Nat} {n0 : Nat} {bf : ab_B} : decode (ab_code (zx σ n0 bf).1 4081) 181 = .ok (.bipush 59, 2) := zd zm_4081 (by decide +kernel)
theorem d_4081_183 {σ : Nat → Nat} {n0 : Nat} {bf : ab_B} : decode (ab_code (zx σ n0 bf).1 4081) 183 = .ok (.invokevirtual 21, 3) := zd zm_4081 (by decide +kernel)
theorem d_4081_186 {σ : Nat → Nat} {n0 : Nat} {bf : ab_B} : decode (ab_code (zx σ n0 bf).1 4081) 186 = .ok (.istore 7, 2) := zd zm_4081 (by decide +kernel)
theorem d_4081_188 {σ : Nat → Nat} {n0 : Nat} {bf : ab_B} : decode (ab_code (zx σ n0 bf).1 4081) 188 = .ok (.iload 7, 2) := zd zm_4081 (by decide +kernel)
theorem d_4081_190 {σ : Nat → Nat} {n0 : Nat} {bf : ab_B} : decode (ab_code (zx σ n0 bf).1 4081) 190 = .ok (.ifCond .eq 10, 3) := zd zm_4081 (by decide +kernel)
theorem d_4081_193 {σ : Nat → Nat} {n0 : Nat} {bf : ab_B} : decode (ab_code (zx σ n0 bf).1 4081) 193 = .ok (.aload_n 0, 1) := zd zm_4081 (by decide +kernel)
theorem d_4081_194 {σ : Nat → Nat} {n0 : Nat} {bf : ab_B} : decode (ab_code (zx σ n0 bf).1 4081) 194 = .ok (.getfield 5, 3) := zd zm_4081 (by decide +kernel)
theorem d_4081_197 {σ : Nat → Nat} {n0 : Nat} {bf : ab_B} : decode (ab_code (zx σ n0 bf).1 4081) 197 = .ok (.invokevirtual 29, 3) := zd zm_4081 (by decide +kernel)
theorem d_4081_200 {σ : Nat → Nat} {n0 : Nat} {bf : ab_B} : decode (ab_code (zx σ n0 bf).1 4081) 200 = .ok (.iload 7, 2) := zd zm_4081 (by decide +kernel)
theorem d_4081_202 {σ : Nat → Nat} {n0 : Nat} {bf : ab_B} : decode (ab_code (zx σ n0 bf).1 4081) 202 = .ok (.ifCond .eq 31, 3) := zd zm_4081 (by decide +kernel)
theorem d_4081_205 {σ : Nat → Nat} {n0 : Nat} {bf : ab_B} : decode (ab_code (zx σ n0 bf).1 4081) 205 = .ok (.aload_n 0, 1) := zd zm_4081 (by decide +kernel)
theorem d_4081_206 {σ : Nat → Nat} {n0 : Nat} {bf : ab_B} : decode (ab_code (zx σ n0 bf).1 4081) 206 = .ok (.getfield 5, 3) := zd zm_4081 (by decide +kernel)
theorem d_4081_209 {σ : Nat → Nat} {n0 : Nat} {bf : ab_B} : decode (ab_code (zx σ n0 bf).1 4081) 209 = .ok (.bipush 8, 2) := zd zm_4081 (by decide +kernel)
theorem d_4081_211 {σ : Nat → Nat} {n0 : Nat} {bf : ab_B} : decode (ab_code (zx σ n0 bf).1 4081) 211 = .ok (.invokevirtual 33, 3) := zd zm_4081 (by decide +kernel)
theorem d_4081_214 {σ : Nat → Nat} {n0 : Nat} {bf : ab_B} : decode (ab_code (zx σ n0 bf).1 4081) 214 = .ok (.ifCond .ne 19, 3) := zd zm_4081 (by decide +kernel)
theorem d_4081_217 {σ : Nat → Nat} {n0 : Nat} {bf : ab_B} : decode (ab_code (zx σ n0 bf).1 4081) 217 = .ok (.aload_n 0, 1) := zd zm_4081 (by decide +kernel)
theorem d_4081_218 {σ : Nat → Nat} {n0 : Nat} {bf : ab_B} : decode (ab_code (zx σ n0 bf).1 4081) 218 = .ok (.getfield 5, 3) := zd zm_4081 (by decide +kernel)
theorem d_4081_221 {σ : Nat → Nat} {n0 : Nat} {bf : ab_B} : decode (ab_code (zx σ n0 bf).1 4081) 221 = .ok (.bipush 41, 2) := zd zm_4081 (by decide +kernel)
theorem d_4081_223 {σ : Nat → Nat} {n0 : Nat} {bf : ab_B} : decode (ab_code (zx σ n0 bf).1 4081) 223 = .ok (.invokevirtual 21, 3) := zd zm_4081 (by decide +kernel)
theorem d_4081_226 {σ : Nat → Nat} {n0 : Nat} {bf : ab_B} : decode (ab_code (zx σ n0 bf).1 4081) 226 = .ok (.ifCond .ne 7, 3) := zd zm_4081 (by decide +kernel)
theorem d_4081_229 {σ : Nat → Nat} {n0 : Nat} {bf : ab_B} : decode (ab_code (zx σ n0 bf).1 4081) 229 = .ok (.iconst 1, 1) := zd zm_4081 (by decide +kernel)
theorem d_4081_230 {σ : Nat → Nat} {n0 : Nat} {bf : ab_B} : decode (ab_code (zx σ n0 bf).1 4081) 230 = .ok (.goto 4, 3) := zd zm_4081 (by decide +kernel)
theorem d_4081_233 {σ : Nat → Nat} {n0 : Nat} {bf : ab_B} : decode (ab_code (zx σ n0 bf).1 4081) 233 = .ok (.iconst 0, 1) := zd zm_4081 (by decide +kernel)
theorem d_4081_234 {σ : Nat → Nat} {n0 : Nat} {bf : ab_B} : decode (ab_code (zx σ n0 bf).1 4081) 234 = .ok (.istore 7, 2) := zd zm_4081 (by decide +kernel)
theorem d_4081_236 {σ : Nat → Nat} {n0 : Nat} {bf : ab_B} : decode (ab_code (zx σ n0 bf).1 4081) 236 = .ok (.goto (-128), 3) := zd zm_4081 (by decide +kernel)
theorem d_4081_239 {σ : Nat → Nat} {n0 : Nat} {bf : ab_B} : decode (ab_code (zx σ n0 bf).1 4081) 239 = .ok (.aload_n 0, 1) := zd zm_4081 (by decide +kernel)
theorem d_4081_240 {σ : Nat → Nat} {n0 : Nat} {bf : ab_B} : decode (ab_code (zx σ n0 bf).1 4081) 240 = .ok (.dup, 1) := zd zm_4081 (by decide +kernel)
theorem d_4081_241 {σ : Nat → Nat} {n0 : Nat} {bf : ab_B} : decode (ab_code (zx σ n0 bf).1 4081) 241 = .ok (.getfield 43, 3) := zd zm_4081 (by decide +kernel)
theorem d_4081_244 {σ : Nat → Nat} {n0 : Nat} {bf : ab_B} : decode (ab_code (zx σ n0 bf).1 4081) 244 = .ok (.iconst 1, 1) := zd zm_4081 (by decide +kernel)
theorem d_4081_245 {σ : Nat → Nat} {n0 : Nat} {bf : ab_B} : decode (ab_code (zx σ n0 bf).1 4081) 245 = .ok (.isub, 1) := zd zm_4081 (by decide +kernel)
theorem d_4081_246 {σ : Nat → Nat} {n0 : Nat} {bf : ab_B} : decode (ab_code (zx σ n0 bf).1 4081) 246 = .ok (.putfield 43, 3) := zd zm_4081 (by decide +kernel)
theorem d_4081_249 {σ : Nat → Nat} {n0 : Nat} {bf : ab_B} : decode (ab_code (zx σ n0 bf).1 4081) 249 = .ok (.return_, 1) := zd zm_4081 (by decide +kernel)
def w_X5_part_34 (X : zs_X) (d : Nat) (p0 : Nat) (S : zs_T) (Q : zs_Q) : Prop :=
  (zs_K S p0 = some (.inl 4) ∧ zs_C X d 4006 [.ref p0, .int (5 : Int32)] S (zs_kR (fun v3 S2 => (∃ b4, v3 = some b4 ∧ Q (.threw b4) S2)) Q))
theorem u_X5_part_34 {σ : Nat → Nat} {n0 : Nat} {bf : ab_B} {d : Nat} {p0 : Nat} {S : zs_T} {Q : zs_Q} (hB : zt_B bf) (h : w_X5_part_34 (zx σ n0 bf) d p0 S Q) : zs_U (zx σ n0 bf) d 4081 34 [(0, .ref p0)] [] S Q := by
  unfold w_X5_part_34 at h
  refine zu_aload_n d_4081_34 rfl (zs_ra _) ?_
  refine zu_iconst d_4081_35 zi_5 ?_
  obtain ⟨k1, h⟩ := h
  refine zc_4_25 (x0 := (5 : Int32)) hB rfl k1 d_4081_36 (Nat.le_of_ble_eq_true rfl) h (fun v3 S2 h => ?_)
  obtain ⟨b4, e5, h⟩ := h
  refine zs_stk0 (zs_rfe e5) ?_
  exact zu_throw d_4081_39 h
def w_X5_part_82 (X : zs_X) (d : Nat) (p0 : Nat) (p1 : Option Nat) (p2 : Option Nat) (p5 : Option Nat) (p6 : Option Nat) (S : zs_T) (Q : zs_Q) : Prop :=
  (∃ b1, p2 = some b1 ∧ zs_K S b1 = some (.inl 13) ∧ ∃ b4, p6 = some b4 ∧ zs_K S b4 = some (.inl 14) ∧ ∃ b7, (zs_R S 13000 b1) = some b7 ∧ zs_K S b7 = some (.inl 16) ∧ zs_C X d 16002 [.ref b7, va_rf (zs_R S 14000 b4)] S (zs_kI (fun v11 S10 => (zs_K S10 b1 = some (.inl 13) ∧ ab_n0 X.1 ≤ b1 ∧ ∀ S14, S14 = zs_sR S10 13001 b1 p6 → zs_K S10 p0 = some (.inl 4) ∧ zs_C X d 4021 [.ref p0] S14 (zs_kV (fun S18 => (zs_U X d 4081 108 [(0, .ref p0), (1, va_rf p1), (5, va_rf p5), (6, va_rf p6), (7, .int (1 : Int32))] [] S18 Q)) Q))) Q))
theorem u_X5_part_82 {σ : Nat → Nat} {n0 : Nat} {bf : ab_B} {d : Nat} {p0 : Nat} {p1 : Option Nat} {p2 : Option Nat} {p5 : Option Nat} {p6 : Option Nat} {S : zs_T} {Q : zs_Q} (hB : zt_B bf) (h : w_X5_part_82 (zx σ n0 bf) d p0 p1 p2 p5 p6 S Q) : zs_U (zx σ n0 bf) d 4081 82 [(0, .ref p0), (1, va_rf p1), (2, va_rf p2), (5, va_rf p5), (6, va_rf p6)] [] S Q := by
  unfold w_X5_part_82 at h
  refine zu_aload_n d_4081_82 rfl (zs_rr _) ?_
  obtain ⟨b1, e2, h⟩ := h
  refine zs_stk0 (zs_rfe e2) ?_
  obtain ⟨k3, h⟩ := h
  refine zg_4_412 rfl d_4081_83 k3 ?_
  refine zu_aload d_4081_86 rfl (zs_rr _) ?_
  obtain ⟨b4, e5, h⟩ := h
  refine zs_stk0 (zs_rfe e5) ?_
  obtain ⟨k6, h⟩ := h
  refine zg_4_501 rfl d_4081_88 k6 ?_
  obtain ⟨b7, e8, h⟩ := h
  refine zs_stk1 (zs_rfe e8) ?_
  obtain ⟨k9, h⟩ := h
  refine zc_4_140 (x0 := (zs_R S 14000 b4)) hB rfl k9 d_4081_91 (Nat.le_of_ble_eq_true rfl) h (fun v11 S10 h => ?_)
  refine zu_pop d_4081_94 rfl ?_
  refine zu_aload_n d_4081_95 rfl (zs_rr _) ?_
  refine zu_aload d_4081_96 rfl (zs_rr _) ?_
  refine zs_stk1 (zs_rfe e2) ?_
  obtain ⟨k12, h⟩ := h
  obtain ⟨k13, h⟩ := h
  refine zp_4_415 (v := p6) rfl d_4081_98 k12 k13 ?_
  generalize e15 : zs_sR S10 13001 b1 p6 = S14
  have h := h S14 e15.symm
  have K16 : ∀ b, zs_K S14 b = zs_K S10 b := zs_Kt e15 (zs_KsR _ _ _ _) (fun _ => rfl)
  refine zu_aload_n d_4081_101 rfl (zs_ra _) ?_
  obtain ⟨k17, h⟩ := h
  refine zc_4_357  hB rfl ((K16 _).trans k17) d_4081_102 (Nat.le_of_ble_eq_true rfl) h (fun S18 h => ?_)
  refine zu_iconst d_4081_105 zi_1 ?_
  refine zu_istore d_4081_106 (zs_lt zq_4081 rfl) ?_
  refine zs_U.weak (L1 := [(7, .int (1 : Int32)), (0, .ref p0), (1, va_rf p1), (2, va_rf p2), (5, va_rf p5), (6, va_rf p6)]) ?_ ⟨rfl, zs_gp1 rfl (Or.inl rfl) rfl, zs_gp1 rfl (Or.inl (zs_cat _)) rfl, zs_gp1 rfl (Or.inl (zs_cat _)) rfl, zs_gp1 rfl (Or.inl (zs_cat _)) rfl, zs_gp1 rfl (Or.inl (zs_cat _)) rfl, trivial⟩
  exact h.weak ⟨rfl, rfl, rfl, rfl, rfl, trivial⟩
def w_X5_part_40 (X : zs_X) (d : Nat) (p0 : Nat) (p1 : Option Nat) (p2 : Option Nat) (p3 : Option Nat) (p4 : Int32) (p5 : Option Nat) (S : zs_T) (Q : zs_Q) : Prop :=
  (zs_K S p0 = some (.inl 4) ∧ zs_C X d 4005 [.ref p0, .int (20 : Int32)] S (zs_kV (fun S2 => (∀ a4 S5, a4 = zs_N S2 → S5 = zs_nw S2 (.inl 14) 2 → zs_C X d 14000 [.ref a4] S5 (zs_kV (fun S9 => (∀ a11 S12, a11 = zs_N S9 → S12 = zs_nw S9 (.inl 12) 4 → zs_C X d 12000 [.ref a11, .int p4, va_rf p5, va_rf p3] S12 (zs_kV (fun S16 => (zs_K S16 a4 = some (.inl 14) ∧ ab_n0 X.1 ≤ a4 ∧ ∀ S20, S20 = zs_sR S16 14000 a4 (some a11) → ∃ b23, (zs_R S20 14000 a4) = some b23 ∧ zs_K S16 b23 = some (.inl 12) ∧ ab_n0 X.1 ≤ b23 ∧ ∀ S27, S27 = zs_sR S20 12003 b23 (some a4) → w_X5_part_82 X d p0 p1 p2 p5 (some a4) S27 Q)) Q))) Q))) Q))
theorem u_X5_part_40 {σ : Nat → Nat} {n0 : Nat} {bf : ab_B} {d : Nat} {p0 : Nat} {p1 : Option Nat} {p2 : Option Nat} {p3 : Option Nat} {p4 : Int32} {p5 : Option Nat} {S : zs_T} {Q : zs_Q} (hB : zt_B bf) (h : w_X5_part_40 (zx σ n0 bf) d p0 p1 p2 p3 p4 p5 S Q) : zs_U (zx σ n0 bf) d 4081 40 [(0, .ref p0), (1, va_rf p1), (2, va_rf p2), (3, va_rf p3), (4, .int p4), (5, va_rf p5)] [] S Q := by
  unfold w_X5_part_40 at h
  refine zu_aload_n d_4081_40 rfl (zs_ra _) ?_
  refine zu_bipush d_4081_41 zj_20 ?_
  obtain ⟨k1, h⟩ := h
  refine zc_4_221 (x0 := (20 : Int32)) hB rfl k1 d_4081_43 (Nat.le_of_ble_eq_true rfl) h (fun S2 h => ?_)
  refine zn_4_420 rfl d_4081_46 ?_
  generalize e7 : zs_nw S2 (.inl 14) 2 = S5
  generalize e6 : zs_N S2 = a4
  have h := h a4 S5 e6.symm e7.symm
  have k8 := zs_kn e6 e7
  refine zu_dup d_4081_49 rfl ?_
  refine zc_4_500  hB rfl d_4081_50 (Nat.le_of_ble_eq_true rfl) h (fun S9 h => ?_)
  refine zu_astore d_4081_53 (zs_ra _) (zs_lt zq_4081 rfl) ?_
  refine zs_U.weak (L1 := [(6, .ref a4), (0, .ref p0), (1, va_rf p1), (2, va_rf p2), (3, va_rf p3), (4, .int p4), (5, va_rf p5)]) ?_ ⟨rfl, zs_gp1 rfl (Or.inl rfl) rfl, zs_gp1 rfl (Or.inl (zs_cat _)) rfl, zs_gp1 rfl (Or.inl (zs_cat _)) rfl, zs_gp1 rfl (Or.inl (zs_cat _)) rfl, zs_gp1 rfl (Or.inl rfl) rfl, zs_gp1 rfl (Or.inl (zs_cat _)) rfl, trivial⟩
  refine zu_aload d_4081_55 rfl (zs_ra _) ?_
  refine zn_4_93 rfl d_4081_57 ?_
  generalize e14 : zs_nw S9 (.inl 12) 4 = S12
  generalize e13 : zs_N S9 = a11
  have h := h a11 S12 e13.symm e14.symm
  have k15 := zs_kn e13 e14
  refine zu_dup d_4081_60 rfl ?_
  refine zu_iload d_4081_61 rfl ?_
  refine zu_aload d_4081_63 rfl (zs_rr _) ?_
  refine zu_aload_n d_4081_65 rfl (zs_rr _) ?_
  refine zc_4_338 (x0 := p4) (x1 := p5) (x2 := p3) hB rfl d_4081_66 (Nat.le_of_ble_eq_true rfl) h (fun S16 h => ?_)
  obtain ⟨k18, h⟩ := h
  obtain ⟨k19, h⟩ := h
  refine zp_4_501 (v := (some a11)) rfl d_4081_69 k18 k19 ?_
  generalize e21 : zs_sR S16 14000 a4 (some a11) = S20
  have h := h S20 e21.symm
  have K22 : ∀ b, zs_K S20 b = zs_K S16 b := zs_Kt e21 (zs_KsR _ _ _ _) (fun _ => rfl)
  refine zu_aload d_4081_72 rfl (zs_ra _) ?_
  refine zg_4_501 rfl d_4081_74 ((K22 _).trans k18) ?_
  refine zu_aload d_4081_77 rfl (zs_ra _) ?_
  obtain ⟨b23, e24, h⟩ := h
  refine zs_stk1 (zs_rfe e24) ?_
  obtain ⟨k25, h⟩ := h
  obtain ⟨k26, h⟩ := h
  refine zp_4_504 (v := (some a4)) rfl d_4081_79 ((K22 _).trans k25) k26 ?_
  generalize e28 : zs_sR S20 12003 b23 (some a4) = S27
  have h := h S27 e28.symm
  have K29 : ∀ b, zs_K S27 b = zs_K S16 b := zs_Kt e28 (zs_KsR _ _ _ _) K22
  exact (u_X5_part_82 hB h).weak ⟨rfl, rfl, rfl, rfl, rfl, trivial⟩
def w_X5_part_200 (X : zs_X) (d : Nat) (p0 : Nat) (p1 : Option Nat) (p5 : Option Nat) (p6 : Option Nat) (p7 : Int32) (S : zs_T) (Q : zs_Q) : Prop :=
  (((p7 = 0 → (zs_U X d 4081 108 [(0, .ref p0), (1, va_rf p1), (5, va_rf p5), (6, va_rf p6), (7, .int (0 : Int32))] [] S Q)) ∧ (¬ (p7 = 0) → (zs_K S p0 = some (.inl 4) ∧ ∃ b3, (zs_R S 4000 p0) = some b3 ∧ zs_K S b3 = some (.inl 5) ∧ zs_C X d 5015 [.ref b3, .int (8 : Int32)] S (zs_kI (fun v7 S6 => (((¬ v7 = 0 → (zs_U X d 4081 108 [(0, .ref p0), (1, va_rf p1), (5, va_rf p5), (6, va_rf p6), (7, .int (0 : Int32))] [] S6 Q)) ∧ (¬ (¬ v7 = 0) → (zs_K S6 p0 = some (.inl 4) ∧ ∃ b10, (zs_R S6 4000 p0) = some b10 ∧ zs_K S6 b10 = some (.inl 5) ∧ zs_C X d 5017 [.ref b10, .int (41 : Int32)] S6 (zs_kI (fun v14 S13 => (((¬ v14 = 0 → (zs_U X d 4081 108 [(0, .ref p0), (1, va_rf p1), (5, va_rf p5), (6, va_rf p6), (7, .int (0 : Int32))] [] S13 Q)) ∧ (¬ (¬ v14 = 0) → (zs_U X d 4081 108 [(0, .ref p0), (1, va_rf p1), (5, va_rf p5), (6, va_rf p6), (7, .int (1 : Int32))] [] S13 Q))))) Q)))))) Q)))))
theorem u_X5_part_200 {σ : Nat → Nat} {n0 : Nat} {bf : ab_B} {d : Nat} {p0 : Nat} {p1 : Option Nat} {p5 : Option Nat} {p6 : Option Nat} {p7 : Int32} {S : zs_T} {Q : zs_Q} (hB : zt_B bf) (h : w_X5_part_200 (zx σ n0 bf) d p0 p1 p5 p6 p7 S Q) : zs_U (zx σ n0 bf) d 4081 200 [(0, .ref p0), (1, va_rf p1), (5, va_rf p5), (6, va_rf p6), (7, .int p7)] [] S Q := by
  unfold w_X5_part_200 at h
  refine zu_iload d_4081_200 rfl ?_
  refine zu_ifeq (t := 233) d_4081_202 rfl (fun c1 => ?_) (fun c1 => ?_)
  · have h := h.1 c1
    refine zu_iconst d_4081_233 zi_0 ?_
    refine zu_istore d_4081_234 (zs_lt zq_4081 rfl) ?_
    refine zs_U.weak (L1 := [(7, .int (0 : Int32)), (0, .ref p0), (1, va_rf p1), (5, va_rf p5), (6, va_rf p6)]) ?_ ⟨rfl, zs_gp1 rfl (Or.inl rfl) rfl, zs_gp1 rfl (Or.inl (zs_cat _)) rfl, zs_gp1 rfl (Or.inl (zs_cat _)) rfl, zs_gp1 rfl (Or.inl (zs_cat _)) rfl, trivial⟩
    refine zu_goto (t := 108) d_4081_236 rfl ?_
    exact h.weak ⟨rfl, rfl, rfl, rfl, rfl, trivial⟩
  · have h := h.2 c1
    refine zu_aload_n d_4081_205 rfl (zs_ra _) ?_
    obtain ⟨k2, h⟩ := h
    refine zg_4_5 rfl d_4081_206 k2 ?_
    refine zu_bipush d_4081_209 zj_8 ?_
    obtain ⟨b3, e4, h⟩ := h
    refine zs_stk1 (zs_rfe e4) ?_
    obtain ⟨k5, h⟩ := h
    refine zc_4_33 (x0 := (8 : Int32)) hB rfl k5 d_4081_211 (Nat.le_of_ble_eq_true rfl) h (fun v7 S6 h => ?_)
    refine zu_ifne (t := 233) d_4081_214 rfl (fun c8 => ?_) (fun c8 => ?_)
    · have h := h.1 c8
      refine zu_iconst d_4081_233 zi_0 ?_
      refine zu_istore d_4081_234 (zs_lt zq_4081 rfl) ?_
      refine zs_U.weak (L1 := [(7, .int (0 : Int32)), (0, .ref p0), (1, va_rf p1), (5, va_rf p5), (6, va_rf p6)]) ?_ ⟨rfl, zs_gp1 rfl (Or.inl rfl) rfl, zs_gp1 rfl (Or.inl (zs_cat _)) rfl, zs_gp1 rfl (Or.inl (zs_cat _)) rfl, zs_gp1 rfl (Or.inl (zs_cat _)) rfl, trivial⟩
      refine zu_goto (t := 108) d_4081_236 rfl ?_
      exact h.weak ⟨rfl, rfl, rfl, rfl, rfl, trivial⟩
    · have h := h.2 c8
      refine zu_aload_n d_4081_217 rfl (zs_ra _) ?_
      obtain ⟨k9, h⟩ := h
      refine zg_4_5 rfl d_4081_218 k9 ?_
      refine zu_bipush d_4081_221 zj_41 ?_
      obtain ⟨b10, e11, h⟩ := h
      refine zs_stk1 (zs_rfe e11) ?_
      obtain ⟨k12, h⟩ := h
      refine zc_4_21 (x0 := (41 : Int32)) hB rfl k12 d_4081_223 (Nat.le_of_ble_eq_true rfl) h (fun v14 S13 h => ?_)
      refine zu_ifne (t := 233) d_4081_226 rfl (fun c15 => ?_) (fun c15 => ?_)
      · have h := h.1 c15
        refine zu_iconst d_4081_233 zi_0 ?_
        refine zu_istore d_4081_234 (zs_lt zq_4081 rfl) ?_
        refine zs_U.weak (L1 := [(7, .int (0 : Int32)), (0, .ref p0), (1, va_rf p1), (5, va_rf p5), (6, va_rf p6)]) ?_ ⟨rfl, zs_gp1 rfl (Or.inl rfl) rfl, zs_gp1 rfl (Or.inl (zs_cat _)) rfl, zs_gp1 rfl (Or.inl (zs_cat _)) rfl, zs_gp1 rfl (Or.inl (zs_cat _)) rfl, trivial⟩
        refine zu_goto (t := 108) d_4081_236 rfl ?_
        exact h.weak ⟨rfl, rfl, rfl, rfl, rfl, trivial⟩
      · have h := h.2 c15
        refine zu_iconst d_4081_229 zi_1 ?_
        refine zu_goto (t := 234) d_4081_230 rfl ?_
        refine zu_istore d_4081_234 (zs_lt zq_4081 rfl) ?_
        refine zs_U.weak (L1 := [(7, .int (1 : Int32)), (0, .ref p0), (1, va_rf p1), (5, va_rf p5), (6, va_rf p6)]) ?_ ⟨rfl, zs_gp1 rfl (Or.inl rfl) rfl, zs_gp1 rfl (Or.inl (zs_cat _)) rfl, zs_gp1 rfl (Or.inl (zs_cat _)) rfl, zs_gp1 rfl (Or.inl (zs_cat _)) rfl, trivial⟩
        refine zu_goto (t := 108) d_4081_236 rfl ?_
        exact h.weak ⟨rfl, rfl, rfl, rfl, rfl, trivial⟩
def w_X5_part_188 (X : zs_X) (d : Nat) (p0 : Nat) (p1 : Option Nat) (p5 : Option Nat) (p6 : Option Nat) (p7 : Int32) (S : zs_T) (Q : zs_Q) : Prop :=
  (((p7 = 0 → w_X5_part_200 X d p0 p1 p5 p6 p7 S Q) ∧ (¬ (p7 = 0) → (zs_K S p0 = some (.inl 4) ∧ ∃ b3, (zs_R S 4000 p0) = some b3 ∧ zs_K S b3 = some (.inl 5) ∧ zs_C X d 5004 [.ref b3] S (zs_kV (fun S6 => w_X5_part_200 X d p0 p1 p5 p6 p7 S6 Q) Q)))))
theorem u_X5_part_188 {σ : Nat → Nat} {n0 : Nat} {bf : ab_B} {d : Nat} {p0 : Nat} {p1 : Option Nat} {p5 : Option Nat} {p6 : Option Nat} {p7 : Int32} {S : zs_T} {Q : zs_Q} (hB : zt_B bf) (h : w_X5_part_188 (zx σ n0 bf) d p0 p1 p5 p6 p7 S Q) : zs_U (zx σ n0 bf) d 4081 188 [(0, .ref p0), (1, va_rf p1), (5, va_rf p5), (6, va_rf p6), (7, .int p7)] [] S Q := by
  unfold w_X5_part_188 at h
  refine zu_iload d_4081_188 rfl ?_
  refine zu_ifeq (t := 200) d_4081_190 rfl (fun c1 => ?_) (fun c1 => ?_)
  · have h := h.1 c1
    exact (u_X5_part_200 hB h).weak ⟨rfl, rfl, rfl, rfl, rfl, trivial⟩
  · have h := h.2 c1
    refine zu_aload_n d_4081_193 rfl (zs_ra _) ?_
    obtain ⟨k2, h⟩ := h
    refine zg_4_5 rfl d_4081_194 k2 ?_
    obtain ⟨b3, e4, h⟩ := h
    refine zs_stk0 (zs_rfe e4) ?_
    obtain ⟨k5, h⟩ := h
    refine zc_4_29  hB rfl k5 d_4081_197 (Nat.le_of_ble_eq_true rfl) h (fun S6 h => ?_)
    exact (u_X5_part_200 hB h).weak ⟨rfl, rfl, rfl, rfl, rfl, trivial⟩
def w_X5_part_146 (X : zs_X) (d : Nat) (p0 : Nat) (p1 : Option Nat) (p5 : Option Nat) (p6 : Option Nat) (p8 : Option Nat) (S : zs_T) (Q : zs_Q) : Prop :=
  (∃ b1, p6 = some b1 ∧ zs_K S b1 = some (.inl 14) ∧ ∃ b4, (zs_R S 14001 b1) = some b4 ∧ zs_K S b4 = some (.inl 16) ∧ zs_C X d 16002 [.ref b4, va_rf p8] S (zs_kI (fun v8 S7 => (∃ b9, p8 = some b9 ∧ zs_K S7 b9 = some (.inl 15) ∧ zs_K S7 p0 = some (.inl 4) ∧ zs_C X d 4079 [.ref p0, va_rf p1, va_rf (zs_R S7 15002 b9), va_rf p8, .int (41 : Int32)] S7 (zs_kV (fun S13 => (zs_K S13 p0 = some (.inl 4) ∧ zs_C X d 4008 [.ref p0, .int (41 : Int32)] S13 (zs_kV (fun S16 => (zs_K S16 p0 = some (.inl 4) ∧ ∃ b19, (zs_R S16 4000 p0) = some b19 ∧ zs_K S16 b19 = some (.inl 5) ∧ zs_C X d 5017 [.ref b19, .int (59 : Int32)] S16 (zs_kI (fun v23 S22 => (w_X5_part_188 X d p0 p1 p5 p6 v23 S22 Q)) Q))) Q))) Q))) Q))
theorem u_X5_part_146 {σ : Nat → Nat} {n0 : Nat} {bf : ab_B} {d : Nat} {p0 : Nat} {p1 : Option Nat} {p5 : Option Nat} {p6 : Option Nat} {p8 : Option Nat} {S : zs_T} {Q : zs_Q} (hB : zt_B bf) (h : w_X5_part_146 (zx σ n0 bf) d p0 p1 p5 p6 p8 S Q) : zs_U (zx σ n0 bf) d 4081 146 [(0, .ref p0), (1, va_rf p1), (5, va_rf p5), (6, va_rf p6), (8, va_rf p8)] [] S Q := by
  unfold w_X5_part_146 at h
  refine zu_aload d_4081_146 rfl (zs_rr _) ?_
  obtain ⟨b1, e2, h⟩ := h
  refine zs_stk0 (zs_rfe e2) ?_
  obtain ⟨k3, h⟩ := h
  refine zg_4_419 rfl d_4081_148 k3 ?_
  refine zu_aload d_4081_151 rfl (zs_rr _) ?_
  obtain ⟨b4, e5, h⟩ := h
  refine zs_stk1 (zs_rfe e5) ?_
  obtain ⟨k6, h⟩ := h
  refine zc_4_140 (x0 := p8) hB rfl k6 d_4081_153 (Nat.le_of_ble_eq_true rfl) h (fun v8 S7 h => ?_)
  refine zu_pop d_4081_156 rfl ?_
  refine zu_aload_n d_4081_157 rfl (zs_ra _) ?_
  refine zu_aload_n d_4081_158 rfl (zs_rr _) ?_
  refine zu_aload d_4081_159 rfl (zs_rr _) ?_
  obtain ⟨b9, e10, h⟩ := h
  refine zs_stk0 (zs_rfe e10) ?_
  obtain ⟨k11, h⟩ := h
  refine zg_4_426 rfl d_4081_161 k11 ?_
  refine zu_aload d_4081_164 rfl (zs_rr _) ?_
  refine zu_bipush d_4081_166 zj_41 ?_
  obtain ⟨k12, h⟩ := h
  refine zc_4_490 (x0 := p1) (x1 := (zs_R S7 15002 b9)) (x2 := p8) (x3 := (41 : Int32)) hB rfl k12 d_4081_168 (Nat.le_of_ble_eq_true rfl) h (fun S13 h => ?_)
  refine zu_aload_n d_4081_171 rfl (zs_ra _) ?_
  refine zu_bipush d_4081_172 zj_41 ?_
  obtain ⟨k15, h⟩ := h
  refine zc_4_224 (x0 := (41 : Int32)) hB rfl k15 d_4081_174 (Nat.le_of_ble_eq_true rfl) h (fun S16 h => ?_)
  refine zu_aload_n d_4081_177 rfl (zs_ra _) ?_
  obtain ⟨k18, h⟩ := h
  refine zg_4_5 rfl d_4081_178 k18 ?_
  refine zu_bipush d_4081_181 zj_59 ?_
  obtain ⟨b19, e20, h⟩ := h
  refine zs_stk1 (zs_rfe e20) ?_
  obtain ⟨k21, h⟩ := h
  refine zc_4_21 (x0 := (59 : Int32)) hB rfl k21 d_4081_183 (Nat.le_of_ble_eq_true rfl) h (fun v23 S22 h => ?_)
  refine zu_istore d_4081_186 (zs_lt zq_4081 rfl) ?_
  refine zs_U.weak (L1 := [(7, .int v23), (0, .ref p0), (1, va_rf p1), (5, va_rf p5), (6, va_rf p6), (8, va_rf p8)]) ?_ ⟨rfl, zs_gp1 rfl (Or.inl rfl) rfl, zs_gp1 rfl (Or.inl (zs_cat _)) rfl, zs_gp1 rfl (Or.inl (zs_cat _)) rfl, zs_gp1 rfl (Or.inl (zs_cat _)) rfl, zs_gp1 rfl (Or.inl (zs_cat _)) rfl, trivial⟩
  exact (u_X5_part_188 hB h).weak ⟨rfl, rfl, rfl, rfl, rfl, trivial⟩
def w_X5_part_108 (X : zs_X) (d : Nat) (p0 : Nat) (p1 : Option Nat) (p5 : Option Nat) (p6 : Option Nat) (p7 : Int32) (S : zs_T) (Q : zs_Q) : Prop :=
  (((p7 = 0 → (zs_K S p0 = some (.inl 4) ∧ ab_n0 X.1 ≤ p0 ∧ ∀ S4, S4 = zs_sI S 4011 p0 ((zs_I S 4011 p0) - (1 : Int32)) → Q (.returned none) S4)) ∧ (¬ (p7 = 0) → (∀ a7 S8, a7 = zs_N S → S8 = zs_nw S (.inl 15) 3 → zs_C X d 15000 [.ref a7, va_rf p6] S8 (zs_kV (fun S12 => (zs_K S12 p0 = some (.inl 4) ∧ zs_C X d 4082 [.ref p0, va_rf p5, va_rf p6, va_rf (some a7)] S12 (zs_kV (fun S15 => (zs_K S15 p0 = some (.inl 4) ∧ zs_C X d 4008 [.ref p0, .int (58 : Int32)] S15 (zs_kV (fun S18 => (zs_K S18 p0 = some (.inl 4) ∧ zs_C X d 4008 [.ref p0, .int (40 : Int32)] S18 (zs_kV (fun S21 => w_X5_part_146 X d p0 p1 p5 p6 (some a7) S21 Q) Q))) Q))) Q))) Q)))))
theorem u_X5_part_108 {σ : Nat → Nat} {n0 : Nat} {bf : ab_B} {d : Nat} {p0 : Nat} {p1 : Option Nat} {p5 : Option Nat} {p6 : Option Nat} {p7 : Int32} {S : zs_T} {Q : zs_Q} (hB : zt_B bf) (h : w_X5_part_108 (zx σ n0 bf) d p0 p1 p5 p6 p7 S Q) : zs_U (zx σ n0 bf) d 4081 108 [(0, .ref p0), (1, va_rf p1), (5, va_rf p5), (6, va_rf p6), (7, .int p7)] [] S Q := by
  unfold w_X5_part_108 at h
  refine zu_iload d_4081_108 rfl ?_
  refine zu_ifeq (t := 239) d_4081_110 rfl (fun c1 => ?_) (fun c1 => ?_)
  · have h := h.1 c1
    refine zu_aload_n d_4081_239 rfl (zs_ra _) ?_
    refine zu_dup d_4081_240 rfl ?_
    obtain ⟨k2, h⟩ := h
    refine zg_4_43 rfl d_4081_241 k2 ?_
    refine zu_iconst d_4081_244 zi_1 ?_
    refine zu_stk d_4081_245 rfl rfl ?_
    obtain ⟨k3, h⟩ := h
    refine zp_4_43 (v := ((zs_I S 4011 p0) - (1 : Int32))) rfl d_4081_246 k2 k3 ?_
    generalize e5 : zs_sI S 4011 p0 ((zs_I S 4011 p0) - (1 : Int32)) = S4
    have h := h S4 e5.symm
    have K6 : ∀ b, zs_K S4 b = zs_K S b := zs_Kt e5 (zs_KsI _ _ _ _) (fun _ => rfl)
    exact zu_vret d_4081_249 zr_4081 h
  · have h := h.2 c1
    refine zn_4_424 rfl d_4081_113 ?_
    generalize e10 : zs_nw S (.inl 15) 3 = S8
    generalize e9 : zs_N S = a7
    have h := h a7 S8 e9.symm e10.symm
    have k11 := zs_kn e9 e10
    refine zu_dup d_4081_116 rfl ?_
    refine zu_aload d_4081_117 rfl (zs_rr _) ?_
    refine zc_4_505 (x0 := p6) hB rfl d_4081_119 (Nat.le_of_ble_eq_true rfl) h (fun S12 h => ?_)
    refine zu_astore d_4081_122 (zs_ra _) (zs_lt zq_4081 rfl) ?_
    refine zu_aload_n d_4081_124 rfl (zs_ra _) ?_
    refine zu_aload d_4081_125 rfl (zs_rr _) ?_
    refine zu_aload d_4081_127 rfl (zs_rr _) ?_
    refine zu_aload d_4081_129 rfl (zs_ra _) ?_
    obtain ⟨k14, h⟩ := h
    refine zc_4_508 (x0 := p5) (x1 := p6) (x2 := (some a7)) hB rfl k14 d_4081_131 (Nat.le_of_ble_eq_true rfl) h (fun S15 h => ?_)
    refine zu_aload_n d_4081_134 rfl (zs_ra _) ?_
    refine zu_bipush d_4081_135 zj_58 ?_
    obtain ⟨k17, h⟩ := h
    refine zc_4_224 (x0 := (58 : Int32)) hB rfl k17 d_4081_137 (Nat.le_of_ble_eq_true rfl) h (fun S18 h => ?_)
    refine zu_aload_n d_4081_140 rfl (zs_ra _) ?_
    refine zu_bipush d_4081_141 zj_40 ?_
    obtain ⟨k20, h⟩ := h
    refine zc_4_224 (x0 := (40 : Int32)) hB rfl k20 d_4081_143 (Nat.le_of_ble_eq_true rfl) h (fun S21 h => ?_)
    exact (u_X5_part_146 hB h).weak ⟨rfl, rfl, rfl, rfl, rfl, trivial⟩
def w_X5_part (X : zs_X) (d : Nat) (p0 : Nat) (p1 : Option Nat) (p2 : Option Nat) (p3 : Option Nat) (S : zs_T) (Q : zs_Q) : Prop :=
  (∀ a1 S2, a1 = zs_N S → S2 = zs_nw S (.inl 16) 3 → zs_C X d 16000 [.ref a1] S2 (zs_kV (fun S6 => (zs_K S6 p0 = some (.inl 4) ∧ zs_C X d 4080 [.ref p0, va_rf p1, va_rf (some a1)] S6 (zs_kI (fun v10 S9 => (zs_K S9 p0 = some (.inl 4) ∧ zs_C X d 4008 [.ref p0, .int (58 : Int32)] S9 (zs_kV (fun S12 => (zs_K S12 p0 = some (.inl 4) ∧ zs_C X d 4061 [.ref p0] S12 (zs_kR (fun v16 S15 => (∃ b17, v16 = some b17 ∧ zs_K S15 b17 = some (.inl 6) ∧ zs_C X d 6002 [.ref b17] S15 (zs_kI (fun v21 S20 => (((¬ v21 = 0 → w_X5_part_40 X d p0 p1 p2 p3 v10 v16 S20 Q) ∧ (¬ (¬ v21 = 0) → w_X5_part_34 X d p0 S20 Q)))) Q))) Q))) Q))) Q))) Q))
theorem u_X5_part {σ : Nat → Nat} {n0 : Nat} {bf : ab_B} {d : Nat} {p0 : Nat} {p1 : Option Nat} {p2 : Option Nat} {p3 : Option Nat} {S : zs_T} {Q : zs_Q} (hB : zt_B bf) (hd : 1 ≤ d) (h : w_X5_part (zx σ n0 bf) (d - 1) p0 p1 p2 p3 S Q) : zs_C (zx σ n0 bf) d 4081 [.ref p0, va_rf p1, va_rf p2, va_rf p3] S Q := by
  have hL : lv_args 0 [.ref p0, va_rf p1, va_rf p2, va_rf p3] = [(0, .ref p0), (1, va_rf p1), (2, va_rf p2), (3, va_rf p3)] := by simp [lv_args, zs_cat, zs_cI, zs_cJ, zs_cA]
  refine zs_C.of1 (hB.2 4081 (by decide) (by decide)) hd (by rw [hL]; exact zs_sub_self _ (by exact ⟨rfl, rfl, rfl, rfl, trivial⟩)) ?_
  rw [hL]
  clear hL
  unfold w_X5_part at h
  refine zu_aload_n d_4081_0 rfl (zs_ra _) ?_
  refine zu_aload_n d_4081_1 rfl (zs_rr _) ?_
  refine zn_4_51 rfl d_4081_2 ?_
  generalize e4 : zs_nw S (.inl 16) 3 = S2
  generalize e3 : zs_N S = a1
  have h := h a1 S2 e3.symm e4.symm
  have k5 := zs_kn e3 e4
  refine zu_dup d_4081_5 rfl ?_
  refine zc_4_326  hB rfl d_4081_6 (by simp only [List.map_cons, List.map_nil, List.sum_cons, List.sum_nil, zs_cat, zs_cI, zs_cJ, zs_cA]; exact Nat.le_of_ble_eq_true rfl) h (fun S6 h => ?_)
  obtain ⟨k8, h⟩ := h
  refine zc_4_493 (x0 := p1) (x1 := (some a1)) hB rfl k8 d_4081_9 (Nat.le_of_ble_eq_true rfl) h (fun v10 S9 h => ?_)
  refine zu_istore d_4081_12 (zs_lt zq_4081 rfl) ?_
  refine zs_U.weak (L1 := [(4, .int v10), (0, .ref p0), (1, va_rf p1), (2, va_rf p2), (3, va_rf p3)]) ?_ ⟨rfl, zs_gp1 rfl (Or.inl rfl) rfl, zs_gp1 rfl (Or.inl (zs_cat _)) rfl, zs_gp1 rfl (Or.inl (zs_cat _)) rfl, zs_gp1 rfl (Or.inl (zs_cat _)) rfl, trivial⟩
  refine zu_aload_n d_4081_14 rfl (zs_ra _) ?_
  refine zu_bipush d_4081_15 zj_58 ?_
  obtain ⟨k11, h⟩ := h
  refine zc_4_224 (x0 := (58 : Int32)) hB rfl k11 d_4081_17 (Nat.le_of_ble_eq_true rfl) h (fun S12 h => ?_)
  refine zu_aload_n d_4081_20 rfl (zs_ra _) ?_
  obtain ⟨k14, h⟩ := h
  refine zc_4_332  hB rfl k14 d_4081_21 (Nat.le_of_ble_eq_true rfl) h (fun v16 S15 h => ?_)
  refine zu_astore d_4081_24 (zs_rr _) (zs_lt zq_4081 rfl) ?_
  refine zu_aload d_4081_26 rfl (zs_rr _) ?_
  obtain ⟨b17, e18, h⟩ := h
  refine zs_stk0 (zs_rfe e18) ?_
  obtain ⟨k19, h⟩ := h
  refine zc_4_335  hB rfl k19 d_4081_28 (Nat.le_of_ble_eq_true rfl) h (fun v21 S20 h => ?_)
  refine zu_ifne (t := 40) d_4081_31 rfl (fun c22 => ?_) (fun c22 => ?_)
  · have h := h.1 c22
    exact (u_X5_part_40 hB h).weak ⟨rfl, rfl, rfl, rfl, rfl, rfl, trivial⟩
  · have h := h.2 c22
    exact (u_X5_part_34 hB h).weak ⟨rfl, trivial⟩
/-! SchemaPascal$Reader.caseConstants(LSchemaPascal$Type;LSchemaPascal$Part;LSchemaPascal$Variant;)V -/
theorem zm_4082 {σ : Nat → Nat} {n0 : Nat} {bf : ab_B} : ab_code (zx σ n0 bf).1 4082 = prog_9_method_38_code := rfl
theorem zq_4082 {σ : Nat → Nat} {n0 : Nat} {bf : ab_B} : ab_maxL (zx σ n0 bf).1 4082 = 9 := rfl
theorem zr_4082 {σ : Nat → Nat} {n0 : Nat} {bf : ab_B} : ab_ret (zx σ n0 bf).1 4082 = (Option.none : Option Jvm.ClassFile.FieldType) := rfl
theorem d_4082_0 {σ : Nat → Nat} {n0 : Nat} {bf : ab_B} : decode (ab_code (zx σ n0 bf).1 4082) 0 = .ok (.iconst 1, 1) := zd zm_4082 (by decide +kernel)
theorem d_4082_1 {σ : Nat → Nat} {n0 : Nat} {bf : ab_B} : decode (ab_code (zx σ n0 bf).1 4082) 1 = .ok (.istore 4, 2) := zd zm_4082 (by decide +kernel)
theorem d_4082_3 {σ : Nat → Nat} {n0 : Nat} {bf : ab_B} : decode (ab_code (zx σ n0 bf).1 4082) 3 = .ok (.iload 4, 2) := zd zm_4082 (by decide +kernel)
theorem d_4082_5 {σ : Nat → Nat} {n0 : Nat} {bf : ab_B} : decode (ab_code (zx σ n0 bf).1 4082) 5 = .ok (.ifCond .eq 285, 3) := zd zm_4082 (by decide +kernel)
theorem d_4082_8 {σ : Nat → Nat} {n0 : Nat} {bf : ab_B} : decode (ab_code (zx σ n0 bf).1 4082) 8 = .ok (.aload_n 0, 1) := zd zm_4082 (by decide +kernel)
theorem d_4082_9 {σ : Nat → Nat} {n0 : Nat} {bf : ab_B} : decode (ab_code (zx σ n0 bf).1 4082) 9 = .ok (.invokevirtual 293, 3) := zd zm_4082 (by decide +kernel)
theorem d_4082_12 {σ : Nat → Nat} {n0 : Nat} {bf : ab_B} : decode (ab_code (zx σ n0 bf).1 4082) 12 = .ok (.astore 5, 2) := zd zm_4082 (by decide +kernel)
theorem d_4082_14 {σ : Nat → Nat} {n0 : Nat} {bf : ab_B} : decode (ab_code (zx σ n0 bf).1 4082) 14 = .ok (.aload 5, 2) := zd zm_4082 (by decide +kernel)
theorem d_4082_16 {σ : Nat → Nat} {n0 : Nat} {bf : ab_B} : decode (ab_code (zx σ n0 bf).1 4082) 16 = .ok (.astore 6, 2) := zd zm_4082 (by decide +kernel)
theorem d_4082_18 {σ : Nat → Nat} {n0 : Nat} {bf : ab_B} : decode (ab_code (zx σ n0 bf).1 4082) 18 = .ok (.aload_n 0, 1) := zd zm_4082 (by decide +kernel)
theorem d_4082_19 {σ : Nat → Nat} {n0 : Nat} {bf : ab_B} : decode (ab_code (zx σ n0 bf).1 4082) 19 = .ok (.getfield 5, 3) := zd zm_4082 (by decide +kernel)
theorem d_4082_22 {σ : Nat → Nat} {n0 : Nat} {bf : ab_B} : decode (ab_code (zx σ n0 bf).1 4082) 22 = .ok (.sipush 260, 3) := zd zm_4082 (by decide +kernel)
theorem d_4082_25 {σ : Nat → Nat} {n0 : Nat} {bf : ab_B} : decode (ab_code (zx σ n0 bf).1 4082) 25 = .ok (.invokevirtual 21, 3) := zd zm_4082 (by decide +kernel)
theorem d_4082_28 {σ : Nat → Nat} {n0 : Nat} {bf : ab_B} : decode (ab_code (zx σ n0 bf).1 4082) 28 = .ok (.ifCond .eq 16, 3) := zd zm_4082 (by decide +kernel)
theorem d_4082_31 {σ : Nat → Nat} {n0 : Nat} {bf : ab_B} : decode (ab_code (zx σ n0 bf).1 4082) 31 = .ok (.aload_n 0, 1) := zd zm_4082 (by decide +kernel)
theorem d_4082_32 {σ : Nat → Nat} {n0 : Nat} {bf : ab_B} : decode (ab_code (zx σ n0 bf).1 4082) 32 = .ok (.getfield 5, 3) := zd zm_4082 (by decide +kernel)
theorem d_4082_35 {σ : Nat → Nat} {n0 : Nat} {bf : ab_B} : decode (ab_code (zx σ n0 bf).1 4082) 35 = .ok (.invokevirtual 29, 3) := zd zm_4082 (by decide +kernel)
theorem d_4082_38 {σ : Nat → Nat} {n0 : Nat} {bf : ab_B} : decode (ab_code (zx σ n0 bf).1 4082) 38 = .ok (.aload_n 0, 1) := zd zm_4082 (by decide +kernel)
theorem d_4082_39 {σ : Nat → Nat} {n0 : Nat} {bf : ab_B} : decode (ab_code (zx σ n0 bf).1 4082) 39 = .ok (.invokevirtual 293, 3) := zd zm_4082 (by decide +kernel)
theorem d_4082_42 {σ : Nat → Nat} {n0 : Nat} {bf : ab_B} : decode (ab_code (zx σ n0 bf).1 4082) 42 = .ok (.astore 6, 2) := zd zm_4082 (by decide +kernel)
theorem d_4082_44 {σ : Nat → Nat} {n0 : Nat} {bf : ab_B} : decode (ab_code (zx σ n0 bf).1 4082) 44 = .ok (.aload 5, 2) := zd zm_4082 (by decide +kernel)
theorem d_4082_46 {σ : Nat → Nat} {n0 : Nat} {bf : ab_B} : decode (ab_code (zx σ n0 bf).1 4082) 46 = .ok (.getfield 512, 3) := zd zm_4082 (by decide +kernel)
theorem d_4082_49 {σ : Nat → Nat} {n0 : Nat} {bf : ab_B} : decode (ab_code (zx σ n0 bf).1 4082) 49 = .ok (.ifCond .ne 94, 3) := zd zm_4082 (by decide +kernel)
theorem d_4082_52 {σ : Nat → Nat} {n0 : Nat} {bf : ab_B} : decode (ab_code (zx σ n0 bf).1 4082) 52 = .ok (.aload 6, 2) := zd zm_4082 (by decide +kernel)
theorem d_4082_54 {σ : Nat → Nat} {n0 : Nat} {bf : ab_B} : decode (ab_code (zx σ n0 bf).1 4082) 54 = .ok (.getfield 512, 3) := zd zm_4082 (by decide +kernel)
theorem d_4082_57 {σ : Nat → Nat} {n0 : Nat} {bf : ab_B} : decode (ab_code (zx σ n0 bf).1 4082) 57 = .ok (.ifCond .ne 86, 3) := zd zm_4082 (by decide +kernel)
theorem d_4082_60 {σ : Nat → Nat} {n0 : Nat} {bf : ab_B} : decode (ab_code (zx σ n0 bf).1 4082) 60 = .ok (.aload 5, 2) := zd zm_4082 (by decide +kernel)
theorem d_4082_62 {σ : Nat → Nat} {n0 : Nat} {bf : ab_B} : decode (ab_code (zx σ n0 bf).1 4082) 62 = .ok (.getfield 297, 3) := zd zm_4082 (by decide +kernel)
theorem d_4082_65 {σ : Nat → Nat} {n0 : Nat} {bf : ab_B} : decode (ab_code (zx σ n0 bf).1 4082) 65 = .ok (.invokevirtual 450, 3) := zd zm_4082 (by decide +kernel)
theorem d_4082_68 {σ : Nat → Nat} {n0 : Nat} {bf : ab_B} : decode (ab_code (zx σ n0 bf).1 4082) 68 = .ok (.aload_n 1, 1) := zd zm_4082 (by decide +kernel)
theorem d_4082_69 {σ : Nat → Nat} {n0 : Nat} {bf : ab_B} : decode (ab_code (zx σ n0 bf).1 4082) 69 = .ok (.invokevirtual 450, 3) := zd zm_4082 (by decide +kernel)
theorem d_4082_72 {σ : Nat → Nat} {n0 : Nat} {bf : ab_B} : decode (ab_code (zx σ n0 bf).1 4082) 72 = .ok (.if_acmp .ne 71, 3) := zd zm_4082 (by decide +kernel)
theorem d_4082_75 {σ : Nat → Nat} {n0 : Nat} {bf : ab_B} : decode (ab_code (zx σ n0 bf).1 4082) 75 = .ok (.aload 6, 2) := zd zm_4082 (by decide +kernel)
theorem d_4082_77 {σ : Nat → Nat} {n0 : Nat} {bf : ab_B} : decode (ab_code (zx σ n0 bf).1 4082) 77 = .ok (.getfield 297, 3) := zd zm_4082 (by decide +kernel)
theorem d_4082_80 {σ : Nat → Nat} {n0 : Nat} {bf : ab_B} : decode (ab_code (zx σ n0 bf).1 4082) 80 = .ok (.invokevirtual 450, 3) := zd zm_4082 (by decide +kernel)
theorem d_4082_83 {σ : Nat → Nat} {n0 : Nat} {bf : ab_B} : decode (ab_code (zx σ n0 bf).1 4082) 83 = .ok (.aload_n 1, 1) := zd zm_4082 (by decide +kernel)
theorem d_4082_84 {σ : Nat → Nat} {n0 : Nat} {bf : ab_B} : decode (ab_code (zx σ n0 bf).1 4082) 84 = .ok (.invokevirtual 450, 3) := zd zm_4082 (by decide +kernel)
theorem d_4082_87 {σ : Nat → Nat} {n0 : Nat} {bf : ab_B} : decode (ab_code (zx σ n0 bf).1 4082) 87 = .ok (.if_acmp .ne 56, 3) := zd zm_4082 (by decide +kernel)
theorem d_4082_90 {σ : Nat → Nat} {n0 : Nat} {bf : ab_B} : decode (ab_code (zx σ n0 bf).1 4082) 90 = .ok (.aload 5, 2) := zd zm_4082 (by decide +kernel)
theorem d_4082_92 {σ : Nat → Nat} {n0 : Nat} {bf : ab_B} : decode (ab_code (zx σ n0 bf).1 4082) 92 = .ok (.getfield 300, 3) := zd zm_4082 (by decide +kernel)
theorem d_4082_95 {σ : Nat → Nat} {n0 : Nat} {bf : ab_B} : decode (ab_code (zx σ n0 bf).1 4082) 95 = .ok (.aload 6, 2) := zd zm_4082 (by decide +kernel)
theorem d_4082_97 {σ : Nat → Nat} {n0 : Nat} {bf : ab_B} : decode (ab_code (zx σ n0 bf).1 4082) 97 = .ok (.getfield 300, 3) := zd zm_4082 (by decide +kernel)
theorem d_4082_100 {σ : Nat → Nat} {n0 : Nat} {bf : ab_B} : decode (ab_code (zx σ n0 bf).1 4082) 100 = .ok (.lcmp, 1) := zd zm_4082 (by decide +kernel)
theorem d_4082_101 {σ : Nat → Nat} {n0 : Nat} {bf : ab_B} : decode (ab_code (zx σ n0 bf).1 4082) 101 = .ok (.ifCond .gt 42, 3) := zd zm_4082 (by decide +kernel)
theorem d_4082_104 {σ : Nat → Nat} {n0 : Nat} {bf : ab_B} : decode (ab_code (zx σ n0 bf).1 4082) 104 = .ok (.aload_n 1, 1) := zd zm_4082 (by decide +kernel)
theorem d_4082_105 {σ : Nat → Nat} {n0 : Nat} {bf : ab_B} : decode (ab_code (zx σ n0 bf).1 4082) 105 = .ok (.invokestatic 377, 3) := zd zm_4082 (by decide +kernel)
theorem d_4082_108 {σ : Nat → Nat} {n0 : Nat} {bf : ab_B} : decode (ab_code (zx σ n0 bf).1 4082) 108 = .ok (.ifCond .eq 31, 3) := zd zm_4082 (by decide +kernel)
theorem d_4082_111 {σ : Nat → Nat} {n0 : Nat} {bf : ab_B} : decode (ab_code (zx σ n0 bf).1 4082) 111 = .ok (.aload 5, 2) := zd zm_4082 (by decide +kernel)
theorem d_4082_113 {σ : Nat → Nat} {n0 : Nat} {bf : ab_B} : decode (ab_code (zx σ n0 bf).1 4082) 113 = .ok (.getfield 300, 3) := zd zm_4082 (by decide +kernel)
theorem d_4082_116 {σ : Nat → Nat} {n0 : Nat} {bf : ab_B} : decode (ab_code (zx σ n0 bf).1 4082) 116 = .ok (.aload_n 0, 1) := zd zm_4082 (by decide +kernel)
theorem d_4082_117 {σ : Nat → Nat} {n0 : Nat} {bf : ab_B} : decode (ab_code (zx σ n0 bf).1 4082) 117 = .ok (.aload_n 1, 1) := zd zm_4082 (by decide +kernel)
theorem d_4082_118 {σ : Nat → Nat} {n0 : Nat} {bf : ab_B} : decode (ab_code (zx σ n0 bf).1 4082) 118 = .ok (.invokevirtual 476, 3) := zd zm_4082 (by decide +kernel)
theorem d_4082_121 {σ : Nat → Nat} {n0 : Nat} {bf : ab_B} : decode (ab_code (zx σ n0 bf).1 4082) 121 = .ok (.lcmp, 1) := zd zm_4082 (by decide +kernel)
theorem d_4082_122 {σ : Nat → Nat} {n0 : Nat} {bf : ab_B} : decode (ab_code (zx σ n0 bf).1 4082) 122 = .ok (.ifCond .lt 21, 3) := zd zm_4082 (by decide +kernel)
theorem d_4082_125 {σ : Nat → Nat} {n0 : Nat} {bf : ab_B} : decode (ab_code (zx σ n0 bf).1 4082) 125 = .ok (.aload 6, 2) := zd zm_4082 (by decide +kernel)
theorem d_4082_127 {σ : Nat → Nat} {n0 : Nat} {bf : ab_B} : decode (ab_code (zx σ n0 bf).1 4082) 127 = .ok (.getfield 300, 3) := zd zm_4082 (by decide +kernel)
theorem d_4082_130 {σ : Nat → Nat} {n0 : Nat} {bf : ab_B} : decode (ab_code (zx σ n0 bf).1 4082) 130 = .ok (.aload_n 0, 1) := zd zm_4082 (by decide +kernel)
theorem d_4082_131 {σ : Nat → Nat} {n0 : Nat} {bf : ab_B} : decode (ab_code (zx σ n0 bf).1 4082) 131 = .ok (.aload_n 1, 1) := zd zm_4082 (by decide +kernel)
theorem d_4082_132 {σ : Nat → Nat} {n0 : Nat} {bf : ab_B} : decode (ab_code (zx σ n0 bf).1 4082) 132 = .ok (.invokevirtual 473, 3) := zd zm_4082 (by decide +kernel)
theorem d_4082_135 {σ : Nat → Nat} {n0 : Nat} {bf : ab_B} : decode (ab_code (zx σ n0 bf).1 4082) 135 = .ok (.lcmp, 1) := zd zm_4082 (by decide +kernel)
theorem d_4082_136 {σ : Nat → Nat} {n0 : Nat} {bf : ab_B} : decode (ab_code (zx σ n0 bf).1 4082) 136 = .ok (.ifCond .gt 7, 3) := zd zm_4082 (by decide +kernel)
theorem d_4082_139 {σ : Nat → Nat} {n0 : Nat} {bf : ab_B} : decode (ab_code (zx σ n0 bf).1 4082) 139 = .ok (.iconst 1, 1) := zd zm_4082 (by decide +kernel)
theorem d_4082_140 {σ : Nat → Nat} {n0 : Nat} {bf : ab_B} : decode (ab_code (zx σ n0 bf).1 4082) 140 = .ok (.goto 4, 3) := zd zm_4082 (by decide +kernel)
theorem d_4082_143 {σ : Nat → Nat} {n0 : Nat} {bf : ab_B} : decode (ab_code (zx σ n0 bf).1 4082) 143 = .ok (.iconst 0, 1) := zd zm_4082 (by decide +kernel)
theorem d_4082_144 {σ : Nat → Nat} {n0 : Nat} {bf : ab_B} : decode (ab_code (zx σ n0 bf).1 4082) 144 = .ok (.istore 7, 2) := zd zm_4082 (by decide +kernel)
theorem d_4082_146 {σ : Nat → Nat} {n0 : Nat} {bf : ab_B} : decode (ab_code (zx σ n0 bf).1 4082) 146 = .ok (.iconst 0, 1) := zd zm_4082 (by decide +kernel)
theorem d_4082_147 {σ : Nat → Nat} {n0 : Nat} {bf : ab_B} : decode (ab_code (zx σ n0 bf).1 4082) 147 = .ok (.istore 8, 2) := zd zm_4082 (by decide +kernel)
theorem d_4082_149 {σ : Nat → Nat} {n0 : Nat} {bf : ab_B} : decode (ab_code (zx σ n0 bf).1 4082) 149 = .ok (.iload 7, 2) := zd zm_4082 (by decide +kernel)
theorem d_4082_151 {σ : Nat → Nat} {n0 : Nat} {bf : ab_B} : decode (ab_code (zx σ n0 bf).1 4082) 151 = .ok (.ifCond .eq 52, 3) := zd zm_4082 (by decide +kernel)
theorem d_4082_154 {σ : Nat → Nat} {n0 : Nat} {bf : ab_B} : decode (ab_code (zx σ n0 bf).1 4082) 154 = .ok (.aload_n 2, 1) := zd zm_4082 (by decide +kernel)
theorem d_4082_155 {σ : Nat → Nat} {n0 : Nat} {bf : ab_B} : decode (ab_code (zx σ n0 bf).1 4082) 155 = .ok (.ifnull 48, 3) := zd zm_4082 (by decide +kernel)
theorem d_4082_158 {σ : Nat → Nat} {n0 : Nat} {bf : ab_B} : decode (ab_code (zx σ n0 bf).1 4082) 158 = .ok (.iload 8, 2) := zd zm_4082 (by decide +kernel)
theorem d_4082_160 {σ : Nat → Nat} {n0 : Nat} {bf : ab_B} : decode (ab_code (zx σ n0 bf).1 4082) 160 = .ok (.aload_n 2, 1) := zd zm_4082 (by decide +kernel)
theorem d_4082_161 {σ : Nat → Nat} {n0 : Nat} {bf : ab_B} : decode (ab_code (zx σ n0 bf).1 4082) 161 = .ok (.getfield 419, 3) := zd zm_4082 (by decide +kernel)
theorem d_4082_164 {σ : Nat → Nat} {n0 : Nat} {bf : ab_B} : decode (ab_code (zx σ n0 bf).1 4082) 164 = .ok (.invokevirtual 50, 3) := zd zm_4082 (by decide +kernel)
theorem d_4082_167 {σ : Nat → Nat} {n0 : Nat} {bf : ab_B} : decode (ab_code (zx σ n0 bf).1 4082) 167 = .ok (.if_icmp .ge 36, 3) := zd zm_4082 (by decide +kernel)
theorem d_4082_170 {σ : Nat → Nat} {n0 : Nat} {bf : ab_B} : decode (ab_code (zx σ n0 bf).1 4082) 170 = .ok (.aload_n 2, 1) := zd zm_4082 (by decide +kernel)
theorem d_4082_171 {σ : Nat → Nat} {n0 : Nat} {bf : ab_B} : decode (ab_code (zx σ n0 bf).1 4082) 171 = .ok (.getfield 419, 3) := zd zm_4082 (by decide +kernel)
theorem d_4082_174 {σ : Nat → Nat} {n0 : Nat} {bf : ab_B} : decode (ab_code (zx σ n0 bf).1 4082) 174 = .ok (.iload 8, 2) := zd zm_4082 (by decide +kernel)
theorem d_4082_176 {σ : Nat → Nat} {n0 : Nat} {bf : ab_B} : decode (ab_code (zx σ n0 bf).1 4082) 176 = .ok (.invokevirtual 56, 3) := zd zm_4082 (by decide +kernel)
theorem d_4082_179 {σ : Nat → Nat} {n0 : Nat} {bf : ab_B} : decode (ab_code (zx σ n0 bf).1 4082) 179 = .ok (.checkcast 424, 3) := zd zm_4082 (by decide +kernel)
theorem d_4082_182 {σ : Nat → Nat} {n0 : Nat} {bf : ab_B} : decode (ab_code (zx σ n0 bf).1 4082) 182 = .ok (.aload 5, 2) := zd zm_4082 (by decide +kernel)
theorem d_4082_184 {σ : Nat → Nat} {n0 : Nat} {bf : ab_B} : decode (ab_code (zx σ n0 bf).1 4082) 184 = .ok (.getfield 300, 3) := zd zm_4082 (by decide +kernel)
theorem d_4082_187 {σ : Nat → Nat} {n0 : Nat} {bf : ab_B} : decode (ab_code (zx σ n0 bf).1 4082) 187 = .ok (.aload 6, 2) := zd zm_4082 (by decide +kernel)
theorem d_4082_189 {σ : Nat → Nat} {n0 : Nat} {bf : ab_B} : decode (ab_code (zx σ n0 bf).1 4082) 189 = .ok (.getfield 300, 3) := zd zm_4082 (by decide +kernel)
theorem d_4082_192 {σ : Nat → Nat} {n0 : Nat} {bf : ab_B} : decode (ab_code (zx σ n0 bf).1 4082) 192 = .ok (.invokestatic 513, 3) := zd zm_4082 (by decide +kernel)
theorem d_4082_195 {σ : Nat → Nat} {n0 : Nat} {bf : ab_B} : decode (ab_code (zx σ n0 bf).1 4082) 195 = .ok (.istore 7, 2) := zd zm_4082 (by decide +kernel)
theorem d_4082_197 {σ : Nat → Nat} {n0 : Nat} {bf : ab_B} : decode (ab_code (zx σ n0 bf).1 4082) 197 = .ok (.iinc 8 1, 3) := zd zm_4082 (by decide +kernel)
theorem d_4082_200 {σ : Nat → Nat} {n0 : Nat} {bf : ab_B} : decode (ab_code (zx σ n0 bf).1 4082) 200 = .ok (.goto (-51), 3) := zd zm_4082 (by decide +kernel)
theorem d_4082_203 {σ : Nat → Nat} {n0 : Nat} {bf : ab_B} : decode (ab_code (zx σ n0 bf).1 4082) 203 = .ok (.iload 7, 2) := zd zm_4082 (by decide +kernel)
theorem d_4082_205 {σ : Nat → Nat} {n0 : Nat} {bf : ab_B} : decode (ab_code (zx σ n0 bf).1 4082) 205 = .ok (.ifCond .eq 20, 3) := zd zm_4082 (by decide +kernel)
theorem d_4082_208 {σ : Nat → Nat} {n0 : Nat} {bf : ab_B} : decode (ab_code (zx σ n0 bf).1 4082) 208 = .ok (.aload_n 3, 1) := zd zm_4082 (by decide +kernel)
theorem d_4082_209 {σ : Nat → Nat} {n0 : Nat} {bf : ab_B} : decode (ab_code (zx σ n0 bf).1 4082) 209 = .ok (.aload 5, 2) := zd zm_4082 (by decide +kernel)
theorem d_4082_211 {σ : Nat → Nat} {n0 : Nat} {bf : ab_B} : decode (ab_code (zx σ n0 bf).1 4082) 211 = .ok (.getfield 300, 3) := zd zm_4082 (by decide +kernel)
theorem d_4082_214 {σ : Nat → Nat} {n0 : Nat} {bf : ab_B} : decode (ab_code (zx σ n0 bf).1 4082) 214 = .ok (.aload 6, 2) := zd zm_4082 (by decide +kernel)
theorem d_4082_216 {σ : Nat → Nat} {n0 : Nat} {bf : ab_B} : decode (ab_code (zx σ n0 bf).1 4082) 216 = .ok (.getfield 300, 3) := zd zm_4082 (by decide +kernel)
theorem d_4082_219 {σ : Nat → Nat} {n0 : Nat} {bf : ab_B} : decode (ab_code (zx σ n0 bf).1 4082) 219 = .ok (.invokestatic 513, 3) := zd zm_4082 (by decide +kernel)
theorem d_4082_222 {σ : Nat → Nat} {n0 : Nat} {bf : ab_B} : decode (ab_code (zx σ n0 bf).1 4082) 222 = .ok (.ifCond .ne 10, 3) := zd zm_4082 (by decide +kernel)
theorem d_4082_225 {σ : Nat → Nat} {n0 : Nat} {bf : ab_B} : decode (ab_code (zx σ n0 bf).1 4082) 225 = .ok (.aload_n 0, 1) := zd zm_4082 (by decide +kernel)
theorem d_4082_226 {σ : Nat → Nat} {n0 : Nat} {bf : ab_B} : decode (ab_code (zx σ n0 bf).1 4082) 226 = .ok (.bipush 9, 2) := zd zm_4082 (by decide +kernel)
theorem d_4082_228 {σ : Nat → Nat} {n0 : Nat} {bf : ab_B} : decode (ab_code (zx σ n0 bf).1 4082) 228 = .ok (.invokevirtual 25, 3) := zd zm_4082 (by decide +kernel)
theorem d_4082_231 {σ : Nat → Nat} {n0 : Nat} {bf : ab_B} : decode (ab_code (zx σ n0 bf).1 4082) 231 = .ok (.athrow, 1) := zd zm_4082 (by decide +kernel)
theorem d_4082_232 {σ : Nat → Nat} {n0 : Nat} {bf : ab_B} : decode (ab_code (zx σ n0 bf).1 4082) 232 = .ok (.aload_n 3, 1) := zd zm_4082 (by decide +kernel)
theorem d_4082_233 {σ : Nat → Nat} {n0 : Nat} {bf : ab_B} : decode (ab_code (zx σ n0 bf).1 4082) 233 = .ok (.getfield 517, 3) := zd zm_4082 (by decide +kernel)
theorem d_4082_236 {σ : Nat → Nat} {n0 : Nat} {bf : ab_B} : decode (ab_code (zx σ n0 bf).1 4082) 236 = .ok (.aload 5, 2) := zd zm_4082 (by decide +kernel)
theorem d_4082_238 {σ : Nat → Nat} {n0 : Nat} {bf : ab_B} : decode (ab_code (zx σ n0 bf).1 4082) 238 = .ok (.getfield 300, 3) := zd zm_4082 (by decide +kernel)
theorem d_4082_241 {σ : Nat → Nat} {n0 : Nat} {bf : ab_B} : decode (ab_code (zx σ n0 bf).1 4082) 241 = .ok (.invokestatic 520, 3) := zd zm_4082 (by decide +kernel)
theorem d_4082_244 {σ : Nat → Nat} {n0 : Nat} {bf : ab_B} : decode (ab_code (zx σ n0 bf).1 4082) 244 = .ok (.invokevirtual 140, 3) := zd zm_4082 (by decide +kernel)
theorem d_4082_247 {σ : Nat → Nat} {n0 : Nat} {bf : ab_B} : decode (ab_code (zx σ n0 bf).1 4082) 247 = .ok (.pop, 1) := zd zm_4082 (by decide +kernel)
theorem d_4082_248 {σ : Nat → Nat} {n0 : Nat} {bf : ab_B} : decode (ab_code (zx σ n0 bf).1 4082) 248 = .ok (.aload_n 3, 1) := zd zm_4082 (by decide +kernel)
theorem d_4082_249 {σ : Nat → Nat} {n0 : Nat} {bf : ab_B} : decode (ab_code (zx σ n0 bf).1 4082) 249 = .ok (.getfield 517, 3) := zd zm_4082 (by decide +kernel)
theorem d_4082_252 {σ : Nat → Nat} {n0 : Nat} {bf : ab_B} : decode (ab_code (zx σ n0 bf).1 4082) 252 = .ok (.aload 6, 2) := zd zm_4082 (by decide +kernel)
theorem d_4082_254 {σ : Nat → Nat} {n0 : Nat} {bf : ab_B} : decode (ab_code (zx σ n0 bf).1 4082) 254 = .ok (.getfield 300, 3) := zd zm_4082 (by decide +kernel)
theorem d_4082_257 {σ : Nat → Nat} {n0 : Nat} {bf : ab_B} : decode (ab_code (zx σ n0 bf).1 4082) 257 = .ok (.invokestatic 520, 3) := zd zm_4082 (by decide +kernel)
theorem d_4082_260 {σ : Nat → Nat} {n0 : Nat} {bf : ab_B} : decode (ab_code (zx σ n0 bf).1 4082) 260 = .ok (.invokevirtual 140, 3) := zd zm_4082 (by decide +kernel)
theorem d_4082_263 {σ : Nat → Nat} {n0 : Nat} {bf : ab_B} : decode (ab_code (zx σ n0 bf).1 4082) 263 = .ok (.pop, 1) := zd zm_4082 (by decide +kernel)
theorem d_4082_264 {σ : Nat → Nat} {n0 : Nat} {bf : ab_B} : decode (ab_code (zx σ n0 bf).1 4082) 264 = .ok (.aload_n 0, 1) := zd zm_4082 (by decide +kernel)
theorem d_4082_265 {σ : Nat → Nat} {n0 : Nat} {bf : ab_B} : decode (ab_code (zx σ n0 bf).1 4082) 265 = .ok (.getfield 5, 3) := zd zm_4082 (by decide +kernel)
theorem d_4082_268 {σ : Nat → Nat} {n0 : Nat} {bf : ab_B} : decode (ab_code (zx σ n0 bf).1 4082) 268 = .ok (.bipush 44, 2) := zd zm_4082 (by decide +kernel)
theorem d_4082_270 {σ : Nat → Nat} {n0 : Nat} {bf : ab_B} : decode (ab_code (zx σ n0 bf).1 4082) 270 = .ok (.invokevirtual 21, 3) := zd zm_4082 (by decide +kernel)
theorem d_4082_273 {σ : Nat → Nat} {n0 : Nat} {bf : ab_B} : decode (ab_code (zx σ n0 bf).1 4082) 273 = .ok (.istore 4, 2) := zd zm_4082 (by decide +kernel)
theorem d_4082_275 {σ : Nat → Nat} {n0 : Nat} {bf : ab_B} : decode (ab_code (zx σ n0 bf).1 4082) 275 = .ok (.iload 4, 2) := zd zm_4082 (by decide +kernel)
theorem d_4082_277 {σ : Nat → Nat} {n0 : Nat} {bf : ab_B} : decode (ab_code (zx σ n0 bf).1 4082) 277 = .ok (.ifCond .eq 10, 3) := zd zm_4082 (by decide +kernel)
theorem d_4082_280 {σ : Nat → Nat} {n0 : Nat} {bf : ab_B} : decode (ab_code (zx σ n0 bf).1 4082) 280 = .ok (.aload_n 0, 1) := zd zm_4082 (by decide +kernel)
theorem d_4082_281 {σ : Nat → Nat} {n0 : Nat} {bf : ab_B} : decode (ab_code (zx σ n0 bf).1 4082) 281 = .ok (.getfield 5, 3) := zd zm_4082 (by decide +kernel)
theorem d_4082_284 {σ : Nat → Nat} {n0 : Nat} {bf : ab_B} : decode (ab_code (zx σ n0 bf).1 4082) 284 = .ok (.invokevirtual 29, 3) := zd zm_4082 (by decide +kernel)
theorem d_4082_287 {σ : Nat → Nat} {n0 : Nat} {bf : ab_B} : decode (ab_code (zx σ n0 bf).1 4082) 287 = .ok (.goto (-284), 3) := zd zm_4082 (by decide +kernel)
theorem d_4082_290 {σ : Nat → Nat} {n0 : Nat} {bf : ab_B} : decode (ab_code (zx σ n0 bf).1 4082) 290 = .ok (.return_, 1) := zd zm_4082 (by decide +kernel)
def w_X5_caseConstants_143 (X : zs_X) (d : Nat) (p0 : Nat) (p1 : Option Nat) (p2 : Option Nat) (p3 : Option Nat) (p5 : Option Nat) (p6 : Option Nat) (S : zs_T) (Q : zs_Q) : Prop :=
  (zs_U X d 4082 149 [(0, .ref p0), (1, va_rf p1), (2, va_rf p2), (3, va_rf p3), (5, va_rf p5), (6, va_rf p6), (7, .int (0 : Int32)), (8, .int (0 : Int32))] [] S Q)
theorem u_X5_caseConstants_143 {σ : Nat → Nat} {n0 : Nat} {bf : ab_B} {d : Nat} {p0 : Nat} {p1 : Option Nat} {p2 : Option Nat} {p3 : Option Nat} {p5 : Option Nat} {p6 : Option Nat} {S : zs_T} {Q : zs_Q} (hB : zt_B bf) (h : w_X5_caseConstants_143 (zx σ n0 bf) d p0 p1 p2 p3 p5 p6 S Q) : zs_U (zx σ n0 bf) d 4082 143 [(0, .ref p0), (1, va_rf p1), (2, va_rf p2), (3, va_rf p3), (5, va_rf p5), (6, va_rf p6)] [] S Q := by
  unfold w_X5_caseConstants_143 at h
  refine zu_iconst d_4082_143 zi_0 ?_
  refine zu_istore d_4082_144 (zs_lt zq_4082 rfl) ?_
  refine zs_U.weak (L1 := [(7, .int (0 : Int32)), (0, .ref p0), (1, va_rf p1), (2, va_rf p2), (3, va_rf p3), (5, va_rf p5), (6, va_rf p6)]) ?_ ⟨rfl, zs_gp1 rfl (Or.inl rfl) rfl, zs_gp1 rfl (Or.inl (zs_cat _)) rfl, zs_gp1 rfl (Or.inl (zs_cat _)) rfl, zs_gp1 rfl (Or.inl (zs_cat _)) rfl, zs_gp1 rfl (Or.inl (zs_cat _)) rfl, zs_gp1 rfl (Or.inl (zs_cat _)) rfl, trivial⟩
  refine zu_iconst d_4082_146 zi_0 ?_
  refine zu_istore d_4082_147 (zs_lt zq_4082 rfl) ?_
  exact h.weak ⟨rfl, rfl, rfl, rfl, rfl, rfl, rfl, rfl, trivial⟩
def w_X5_caseConstants_139 (X : zs_X) (d : Nat) (p0 : Nat) (p1 : Option Nat) (p2 : Option Nat) (p3 : Option Nat) (p5 : Option Nat) (p6 : Option Nat) (S : zs_T) (Q : zs_Q) : Prop :=
  (zs_U X d 4082 149 [(0, .ref p0), (1, va_rf p1), (2, va_rf p2), (3, va_rf p3), (5, va_rf p5), (6, va_rf p6), (7, .int (1 : Int32)), (8, .int (0 : Int32))] [] S Q)
theorem u_X5_caseConstants_139 {σ : Nat → Nat} {n0 : Nat} {bf : ab_B} {d : Nat} {p0 : Nat} {p1 : Option Nat} {p2 : Option Nat} {p3 : Option Nat} {p5 : Option Nat} {p6 : Option Nat} {S : zs_T} {Q : zs_Q} (hB : zt_B bf) (h : w_X5_caseConstants_139 (zx σ n0 bf) d p0 p1 p2 p3 p5 p6 S Q) : zs_U (zx σ n0 bf) d 4082 139 [(0, .ref p0), (1, va_rf p1), (2, va_rf p2), (3, va_rf p3), (5, va_rf p5), (6, va_rf p6)] [] S Q := by
  unfold w_X5_caseConstants_139 at h
  refine zu_iconst d_4082_139 zi_1 ?_
  refine zu_goto (t := 144) d_4082_140 rfl ?_
  refine zu_istore d_4082_144 (zs_lt zq_4082 rfl) ?_
  refine zs_U.weak (L1 := [(7, .int (1 : Int32)), (0, .ref p0), (1, va_rf p1), (2, va_rf p2), (3, va_rf p3), (5, va_rf p5), (6, va_rf p6)]) ?_ ⟨rfl, zs_gp1 rfl (Or.inl rfl) rfl, zs_gp1 rfl (Or.inl (zs_cat _)) rfl, zs_gp1 rfl (Or.inl (zs_cat _)) rfl, zs_gp1 rfl (Or.inl (zs_cat _)) rfl, zs_gp1 rfl (Or.inl (zs_cat _)) rfl, zs_gp1 rfl (Or.inl (zs_cat _)) rfl, trivial⟩
  refine zu_iconst d_4082_146 zi_0 ?_
  refine zu_istore d_4082_147 (zs_lt zq_4082 rfl) ?_
  exact h.weak ⟨rfl, rfl, rfl, rfl, rfl, rfl, rfl, rfl, trivial⟩
def w_X5_caseConstants_125 (X : zs_X) (d : Nat) (p0 : Nat) (p1 : Option Nat) (p2 : Option Nat) (p3 : Option Nat) (p5 : Option Nat) (p6 : Option Nat) (S : zs_T) (Q : zs_Q) : Prop :=
  (∃ b1, p6 = some b1 ∧ zs_K S b1 = some (.inl 11) ∧ zs_K S p0 = some (.inl 4) ∧ zs_C X d 4071 [.ref p0, va_rf p1] S (zs_kJ (fun v6 S5 => (((v6 < (zs_J S 11004 b1) → w_X5_caseConstants_143 X d p0 p1 p2 p3 p5 p6 S5 Q) ∧ (¬ (v6 < (zs_J S 11004 b1)) → w_X5_caseConstants_139 X d p0 p1 p2 p3 p5 p6 S5 Q)))) Q))
theorem u_X5_caseConstants_125 {σ : Nat → Nat} {n0 : Nat} {bf : ab_B} {d : Nat} {p0 : Nat} {p1 : Option Nat} {p2 : Option Nat} {p3 : Option Nat} {p5 : Option Nat} {p6 : Option Nat} {S : zs_T} {Q : zs_Q} (hB : zt_B bf) (h : w_X5_caseConstants_125 (zx σ n0 bf) d p0 p1 p2 p3 p5 p6 S Q) : zs_U (zx σ n0 bf) d 4082 125 [(0, .ref p0), (1, va_rf p1), (2, va_rf p2), (3, va_rf p3), (5, va_rf p5), (6, va_rf p6)] [] S Q := by
  unfold w_X5_caseConstants_125 at h
  refine zu_aload d_4082_125 rfl (zs_rr _) ?_
  obtain ⟨b1, e2, h⟩ := h
  refine zs_stk0 (zs_rfe e2) ?_
  obtain ⟨k3, h⟩ := h
  refine zg_4_300 rfl d_4082_127 k3 ?_
  refine zu_aload_n d_4082_130 rfl (zs_ra _) ?_
  refine zu_aload_n d_4082_131 rfl (zs_rr _) ?_
  obtain ⟨k4, h⟩ := h
  refine zc_4_473 (x0 := p1) hB rfl k4 d_4082_132 (Nat.le_of_ble_eq_true rfl) h (fun v6 S5 h => ?_)
  refine zu_lgt (t := 143) d_4082_135 d_4082_136 rfl (fun c7 => ?_) (fun c7 => ?_)
  · have h := h.1 c7
    exact (u_X5_caseConstants_143 hB h).weak ⟨rfl, rfl, rfl, rfl, rfl, rfl, trivial⟩
  · have h := h.2 c7
    exact (u_X5_caseConstants_139 hB h).weak ⟨rfl, rfl, rfl, rfl, rfl, rfl, trivial⟩
def w_X5_caseConstants_90 (X : zs_X) (d : Nat) (p0 : Nat) (p1 : Option Nat) (p2 : Option Nat) (p3 : Option Nat) (p5 : Option Nat) (p6 : Option Nat) (S : zs_T) (Q : zs_Q) : Prop :=
  (∃ b1, p5 = some b1 ∧ zs_K S b1 = some (.inl 11) ∧ ∃ b4, p6 = some b4 ∧ zs_K S b4 = some (.inl 11) ∧ (((zs_J S 11004 b4) < (zs_J S 11004 b1) → w_X5_caseConstants_143 X d p0 p1 p2 p3 p5 p6 S Q) ∧ (¬ ((zs_J S 11004 b4) < (zs_J S 11004 b1)) → (zs_C X d 4038 [va_rf p1] S (zs_kI (fun v9 S8 => (((v9 = 0 → w_X5_caseConstants_139 X d p0 p1 p2 p3 p5 p6 S8 Q) ∧ (¬ (v9 = 0) → (zs_K S8 b1 = some (.inl 11) ∧ zs_K S8 p0 = some (.inl 4) ∧ zs_C X d 4072 [.ref p0, va_rf p1] S8 (zs_kJ (fun v14 S13 => ((((zs_J S8 11004 b1) < v14 → w_X5_caseConstants_143 X d p0 p1 p2 p3 p5 p6 S13 Q) ∧ (¬ ((zs_J S8 11004 b1) < v14) → w_X5_caseConstants_125 X d p0 p1 p2 p3 p5 p6 S13 Q)))) Q)))))) Q)))))
theorem u_X5_caseConstants_90 {σ : Nat → Nat} {n0 : Nat} {bf : ab_B} {d : Nat} {p0 : Nat} {p1 : Option Nat} {p2 : Option Nat} {p3 : Option Nat} {p5 : Option Nat} {p6 : Option Nat} {S : zs_T} {Q : zs_Q} (hB : zt_B bf) (h : w_X5_caseConstants_90 (zx σ n0 bf) d p0 p1 p2 p3 p5 p6 S Q) : zs_U (zx σ n0 bf) d 4082 90 [(0, .ref p0), (1, va_rf p1), (2, va_rf p2), (3, va_rf p3), (5, va_rf p5), (6, va_rf p6)] [] S Q := by
  unfold w_X5_caseConstants_90 at h
  refine zu_aload d_4082_90 rfl (zs_rr _) ?_
  obtain ⟨b1, e2, h⟩ := h
  refine zs_stk0 (zs_rfe e2) ?_
  obtain ⟨k3, h⟩ := h
  refine zg_4_300 rfl d_4082_92 k3 ?_
  refine zu_aload d_4082_95 rfl (zs_rr _) ?_
  obtain ⟨b4, e5, h⟩ := h
  refine zs_stk0 (zs_rfe e5) ?_
  obtain ⟨k6, h⟩ := h
  refine zg_4_300 rfl d_4082_97 k6 ?_
  refine zu_lgt (t := 143) d_4082_100 d_4082_101 rfl (fun c7 => ?_) (fun c7 => ?_)
  · have h := h.1 c7
    exact (u_X5_caseConstants_143 hB h).weak ⟨rfl, rfl, rfl, rfl, rfl, rfl, trivial⟩
  · have h := h.2 c7
    refine zu_aload_n d_4082_104 rfl (zs_rr _) ?_
    refine zc_4_377 (x0 := p1) hB rfl d_4082_105 (Nat.le_of_ble_eq_true rfl) h (fun v9 S8 h => ?_)
    refine zu_ifeq (t := 139) d_4082_108 rfl (fun c10 => ?_) (fun c10 => ?_)
    · have h := h.1 c10
      exact (u_X5_caseConstants_139 hB h).weak ⟨rfl, rfl, rfl, rfl, rfl, rfl, trivial⟩
    · have h := h.2 c10
      refine zu_aload d_4082_111 rfl (zs_rr _) ?_
      refine zs_stk0 (zs_rfe e2) ?_
      obtain ⟨k11, h⟩ := h
      refine zg_4_300 rfl d_4082_113 k11 ?_
      refine zu_aload_n d_4082_116 rfl (zs_ra _) ?_
      refine zu_aload_n d_4082_117 rfl (zs_rr _) ?_
      obtain ⟨k12, h⟩ := h
      refine zc_4_476 (x0 := p1) hB rfl k12 d_4082_118 (Nat.le_of_ble_eq_true rfl) h (fun v14 S13 h => ?_)
      refine zu_llt (t := 143) d_4082_121 d_4082_122 rfl (fun c15 => ?_) (fun c15 => ?_)
      · have h := h.1 c15
        exact (u_X5_caseConstants_143 hB h).weak ⟨rfl, rfl, rfl, rfl, rfl, rfl, trivial⟩
      · have h := h.2 c15
        exact (u_X5_caseConstants_125 hB h).weak ⟨rfl, rfl, rfl, rfl, rfl, rfl, trivial⟩
def w_X5_caseConstants_44 (X : zs_X) (d : Nat) (p0 : Nat) (p1 : Option Nat) (p2 : Option Nat) (p3 : Option Nat) (p5 : Option Nat) (p6 : Option Nat) (S : zs_T) (Q : zs_Q) : Prop :=
  (∃ b1, p5 = some b1 ∧ zs_K S b1 = some (.inl 11) ∧ ((¬ (zs_I S 11000 b1) = 0 → w_X5_caseConstants_143 X d p0 p1 p2 p3 p5 p6 S Q) ∧ (¬ (¬ (zs_I S 11000 b1) = 0) → (∃ b5, p6 = some b5 ∧ zs_K S b5 = some (.inl 11) ∧ ((¬ (zs_I S 11000 b5) = 0 → w_X5_caseConstants_143 X d p0 p1 p2 p3 p5 p6 S Q) ∧ (¬ (¬ (zs_I S 11000 b5) = 0) → (∃ b9, (zs_R S 11002 b1) = some b9 ∧ zs_K S b9 = some (.inl 6) ∧ zs_C X d 6001 [.ref b9] S (zs_kR (fun v13 S12 => (∃ b14, p1 = some b14 ∧ zs_K S12 b14 = some (.inl 6) ∧ zs_C X d 6001 [.ref b14] S12 (zs_kR (fun v18 S17 => (((¬ v13 = v18 → w_X5_caseConstants_143 X d p0 p1 p2 p3 p5 p6 S17 Q) ∧ (¬ (¬ v13 = v18) → (zs_K S17 b5 = some (.inl 11) ∧ ∃ b21, (zs_R S17 11002 b5) = some b21 ∧ zs_K S17 b21 = some (.inl 6) ∧ zs_C X d 6001 [.ref b21] S17 (zs_kR (fun v25 S24 => (zs_K S24 b14 = some (.inl 6) ∧ zs_C X d 6001 [.ref b14] S24 (zs_kR (fun v28 S27 => (((¬ v25 = v28 → w_X5_caseConstants_143 X d p0 p1 p2 p3 p5 p6 S27 Q) ∧ (¬ (¬ v25 = v28) → w_X5_caseConstants_90 X d p0 p1 p2 p3 p5 p6 S27 Q)))) Q))) Q)))))) Q))) Q))))))))
theorem u_X5_caseConstants_44 {σ : Nat → Nat} {n0 : Nat} {bf : ab_B} {d : Nat} {p0 : Nat} {p1 : Option Nat} {p2 : Option Nat} {p3 : Option Nat} {p5 : Option Nat} {p6 : Option Nat} {S : zs_T} {Q : zs_Q} (hB : zt_B bf) (h : w_X5_caseConstants_44 (zx σ n0 bf) d p0 p1 p2 p3 p5 p6 S Q) : zs_U (zx σ n0 bf) d 4082 44 [(0, .ref p0), (1, va_rf p1), (2, va_rf p2), (3, va_rf p3), (5, va_rf p5), (6, va_rf p6)] [] S Q := by
  unfold w_X5_caseConstants_44 at h
  refine zu_aload d_4082_44 rfl (zs_rr _) ?_
  obtain ⟨b1, e2, h⟩ := h
  refine zs_stk0 (zs_rfe e2) ?_
  obtain ⟨k3, h⟩ := h
  refine zg_4_512 rfl d_4082_46 k3 ?_
  refine zu_ifne (t := 143) d_4082_49 rfl (fun c4 => ?_) (fun c4 => ?_)
  · have h := h.1 c4
    exact (u_X5_caseConstants_143 hB h).weak ⟨rfl, rfl, rfl, rfl, rfl, rfl, trivial⟩
  · have h := h.2 c4
    refine zu_aload d_4082_52 rfl (zs_rr _) ?_
    obtain ⟨b5, e6, h⟩ := h
    refine zs_stk0 (zs_rfe e6) ?_
    obtain ⟨k7, h⟩ := h
    refine zg_4_512 rfl d_4082_54 k7 ?_
    refine zu_ifne (t := 143) d_4082_57 rfl (fun c8 => ?_) (fun c8 => ?_)
    · have h := h.1 c8
      exact (u_X5_caseConstants_143 hB h).weak ⟨rfl, rfl, rfl, rfl, rfl, rfl, trivial⟩
    · have h := h.2 c8
      refine zu_aload d_4082_60 rfl (zs_rr _) ?_
      refine zs_stk0 (zs_rfe e2) ?_
      refine zg_4_297 rfl d_4082_62 k3 ?_
      obtain ⟨b9, e10, h⟩ := h
      refine zs_stk0 (zs_rfe e10) ?_
      obtain ⟨k11, h⟩ := h
      refine zc_4_450  hB rfl k11 d_4082_65 (Nat.le_of_ble_eq_true rfl) h (fun v13 S12 h => ?_)
      refine zu_aload_n d_4082_68 rfl (zs_rr _) ?_
      obtain ⟨b14, e15, h⟩ := h
      refine zs_stk0 (zs_rfe e15) ?_
      obtain ⟨k16, h⟩ := h
      refine zc_4_450  hB rfl k16 d_4082_69 (by simp only [List.map_cons, List.map_nil, List.sum_cons, List.sum_nil, zs_cat, zs_cI, zs_cJ, zs_cA]; exact Nat.le_of_ble_eq_true rfl) h (fun v18 S17 h => ?_)
      refine zu_acmpne (u := v13) (w := v18) (t := 143) d_4082_72 rfl rfl rfl (fun c19 => ?_) (fun c19 => ?_)
      · have h := h.1 c19
        exact (u_X5_caseConstants_143 hB h).weak ⟨rfl, rfl, rfl, rfl, rfl, rfl, trivial⟩
      · have h := h.2 c19
        refine zu_aload d_4082_75 rfl (zs_rr _) ?_
        refine zs_stk0 (zs_rfe e6) ?_
        obtain ⟨k20, h⟩ := h
        refine zg_4_297 rfl d_4082_77 k20 ?_
        obtain ⟨b21, e22, h⟩ := h
        refine zs_stk0 (zs_rfe e22) ?_
        obtain ⟨k23, h⟩ := h
        refine zc_4_450  hB rfl k23 d_4082_80 (Nat.le_of_ble_eq_true rfl) h (fun v25 S24 h => ?_)
        refine zu_aload_n d_4082_83 rfl (zs_rr _) ?_
        refine zs_stk0 (zs_rfe e15) ?_
        obtain ⟨k26, h⟩ := h
        refine zc_4_450  hB rfl k26 d_4082_84 (by simp only [List.map_cons, List.map_nil, List.sum_cons, List.sum_nil, zs_cat, zs_cI, zs_cJ, zs_cA]; exact Nat.le_of_ble_eq_true rfl) h (fun v28 S27 h => ?_)
        refine zu_acmpne (u := v25) (w := v28) (t := 143) d_4082_87 rfl rfl rfl (fun c29 => ?_) (fun c29 => ?_)
        · have h := h.1 c29
          exact (u_X5_caseConstants_143 hB h).weak ⟨rfl, rfl, rfl, rfl, rfl, rfl, trivial⟩
        · have h := h.2 c29
          exact (u_X5_caseConstants_90 hB h).weak ⟨rfl, rfl, rfl, rfl, rfl, rfl, trivial⟩
def w_X5_caseConstants_3 (X : zs_X) (d : Nat) (p0 : Nat) (p1 : Option Nat) (p2 : Option Nat) (p3 : Option Nat) (p4 : Int32) (S : zs_T) (Q : zs_Q) : Prop :=
  (((p4 = 0 → (Q (.returned none) S)) ∧ (¬ (p4 = 0) → (zs_K S p0 = some (.inl 4) ∧ zs_C X d 4013 [.ref p0] S (zs_kR (fun v4 S3 => (zs_K S3 p0 = some (.inl 4) ∧ ∃ b6, (zs_R S3 4000 p0) = some b6 ∧ zs_K S3 b6 = some (.inl 5) ∧ zs_C X d 5017 [.ref b6, .int (260 : Int32)] S3 (zs_kI (fun v10 S9 => (((v10 = 0 → w_X5_caseConstants_44 X d p0 p1 p2 p3 v4 v4 S9 Q) ∧ (¬ (v10 = 0) → (zs_K S9 p0 = some (.inl 4) ∧ ∃ b13, (zs_R S9 4000 p0) = some b13 ∧ zs_K S9 b13 = some (.inl 5) ∧ zs_C X d 5004 [.ref b13] S9 (zs_kV (fun S16 => (zs_K S16 p0 = some (.inl 4) ∧ zs_C X d 4013 [.ref p0] S16 (zs_kR (fun v20 S19 => (w_X5_caseConstants_44 X d p0 p1 p2 p3 v4 v20 S19 Q)) Q))) Q)))))) Q))) Q)))))
theorem u_X5_caseConstants_3 {σ : Nat → Nat} {n0 : Nat} {bf : ab_B} {d : Nat} {p0 : Nat} {p1 : Option Nat} {p2 : Option Nat} {p3 : Option Nat} {p4 : Int32} {S : zs_T} {Q : zs_Q} (hB : zt_B bf) (h : w_X5_caseConstants_3 (zx σ n0 bf) d p0 p1 p2 p3 p4 S Q) : zs_U (zx σ n0 bf) d 4082 3 [(0, .ref p0), (1, va_rf p1), (2, va_rf p2), (3, va_rf p3), (4, .int p4)] [] S Q := by
  unfold w_X5_caseConstants_3 at h
  refine zu_iload d_4082_3 rfl ?_
  refine zu_ifeq (t := 290) d_4082_5 rfl (fun c1 => ?_) (fun c1 => ?_)
  · have h := h.1 c1
    exact zu_vret d_4082_290 zr_4082 h
  · have h := h.2 c1
    refine zu_aload_n d_4082_8 rfl (zs_ra _) ?_
    obtain ⟨k2, h⟩ := h
    refine zc_4_293  hB rfl k2 d_4082_9 (Nat.le_of_ble_eq_true rfl) h (fun v4 S3 h => ?_)
    refine zu_astore d_4082_12 (zs_rr _) (zs_lt zq_4082 rfl) ?_
    refine zu_aload d_4082_14 rfl (zs_rr _) ?_
    refine zu_astore d_4082_16 (zs_rr _) (zs_lt zq_4082 rfl) ?_
    refine zs_U.weak (L1 := [(6, va_rf v4), (0, .ref p0), (1, va_rf p1), (2, va_rf p2), (3, va_rf p3), (4, .int p4), (5, va_rf v4)]) ?_ ⟨rfl, zs_gp1 rfl (Or.inl rfl) rfl, zs_gp1 rfl (Or.inl (zs_cat _)) rfl, zs_gp1 rfl (Or.inl (zs_cat _)) rfl, zs_gp1 rfl (Or.inl (zs_cat _)) rfl, zs_gp1 rfl (Or.inl rfl) rfl, zs_gp1 rfl (Or.inl (zs_cat _)) rfl, trivial⟩
    refine zu_aload_n d_4082_18 rfl (zs_ra _) ?_
    obtain ⟨k5, h⟩ := h
    refine zg_4_5 rfl d_4082_19 k5 ?_
    refine zu_sipush d_4082_22 zh_260 ?_
    obtain ⟨b6, e7, h⟩ := h
    refine zs_stk1 (zs_rfe e7) ?_
    obtain ⟨k8, h⟩ := h
    refine zc_4_21 (x0 := (260 : Int32)) hB rfl k8 d_4082_25 (Nat.le_of_ble_eq_true rfl) h (fun v10 S9 h => ?_)
    refine zu_ifeq (t := 44) d_4082_28 rfl (fun c11 => ?_) (fun c11 => ?_)
    · have h := h.1 c11
      exact (u_X5_caseConstants_44 hB h).weak ⟨rfl, rfl, rfl, rfl, rfl, rfl, trivial⟩
    · have h := h.2 c11
      refine zu_aload_n d_4082_31 rfl (zs_ra _) ?_
      obtain ⟨k12, h⟩ := h
      refine zg_4_5 rfl d_4082_32 k12 ?_
      obtain ⟨b13, e14, h⟩ := h
      refine zs_stk0 (zs_rfe e14) ?_
      obtain ⟨k15, h⟩ := h
      refine zc_4_29  hB rfl k15 d_4082_35 (Nat.le_of_ble_eq_true rfl) h (fun S16 h => ?_)
      refine zu_aload_n d_4082_38 rfl (zs_ra _) ?_
      obtain ⟨k18, h⟩ := h
      refine zc_4_293  hB rfl k18 d_4082_39 (Nat.le_of_ble_eq_true rfl) h (fun v20 S19 h => ?_)
      refine zu_astore d_4082_42 (zs_rr _) (zs_lt zq_4082 rfl) ?_
      refine zs_U.weak (L1 := [(6, va_rf v20), (0, .ref p0), (1, va_rf p1), (2, va_rf p2), (3, va_rf p3), (4, .int p4), (5, va_rf v4)]) ?_ ⟨rfl, zs_gp1 rfl (Or.inl rfl) rfl, zs_gp1 rfl (Or.inl (zs_cat _)) rfl, zs_gp1 rfl (Or.inl (zs_cat _)) rfl, zs_gp1 rfl (Or.inl (zs_cat _)) rfl, zs_gp1 rfl (Or.inl rfl) rfl, zs_gp1 rfl (Or.inl (zs_cat _)) rfl, trivial⟩
      exact (u_X5_caseConstants_44 hB h).weak ⟨rfl, rfl, rfl, rfl, rfl, rfl, trivial⟩
def w_X5_caseConstants_225 (X : zs_X) (d : Nat) (p0 : Nat) (S : zs_T) (Q : zs_Q) : Prop :=
  (zs_K S p0 = some (.inl 4) ∧ zs_C X d 4006 [.ref p0, .int (9 : Int32)] S (zs_kR (fun v3 S2 => (∃ b4, v3 = some b4 ∧ Q (.threw b4) S2)) Q))
theorem u_X5_caseConstants_225 {σ : Nat → Nat} {n0 : Nat} {bf : ab_B} {d : Nat} {p0 : Nat} {S : zs_T} {Q : zs_Q} (hB : zt_B bf) (h : w_X5_caseConstants_225 (zx σ n0 bf) d p0 S Q) : zs_U (zx σ n0 bf) d 4082 225 [(0, .ref p0)] [] S Q := by
  unfold w_X5_caseConstants_225 at h
  refine zu_aload_n d_4082_225 rfl (zs_ra _) ?_
  refine zu_bipush d_4082_226 zj_9 ?_
  obtain ⟨k1, h⟩ := h
  refine zc_4_25 (x0 := (9 : Int32)) hB rfl k1 d_4082_228 (Nat.le_of_ble_eq_true rfl) h (fun v3 S2 h => ?_)
  obtain ⟨b4, e5, h⟩ := h
  refine zs_stk0 (zs_rfe e5) ?_
  exact zu_throw d_4082_231 h
def w_X5_caseConstants_287 (X : zs_X) (d : Nat) (p0 : Nat) (p1 : Option Nat) (p2 : Option Nat) (p3 : Option Nat) (p4 : Int32) (S : zs_T) (Q : zs_Q) : Prop :=
  (zs_U X d 4082 3 [(0, .ref p0), (1, va_rf p1), (2, va_rf p2), (3, va_rf p3), (4, .int p4)] [] S Q)
theorem u_X5_caseConstants_287 {σ : Nat → Nat} {n0 : Nat} {bf : ab_B} {d : Nat} {p0 : Nat} {p1 : Option Nat} {p2 : Option Nat} {p3 : Option Nat} {p4 : Int32} {S : zs_T} {Q : zs_Q} (hB : zt_B bf) (h : w_X5_caseConstants_287 (zx σ n0 bf) d p0 p1 p2 p3 p4 S Q) : zs_U (zx σ n0 bf) d 4082 287 [(0, .ref p0), (1, va_rf p1), (2, va_rf p2), (3, va_rf p3), (4, .int p4)] [] S Q := by
  unfold w_X5_caseConstants_287 at h
  refine zu_goto (t := 3) d_4082_287 rfl ?_
  exact h.weak ⟨rfl, rfl, rfl, rfl, rfl, trivial⟩
def w_X5_caseConstants_248 (X : zs_X) (d : Nat) (p0 : Nat) (p1 : Option Nat) (p2 : Option Nat) (p3 : Option Nat) (p6 : Option Nat) (S : zs_T) (Q : zs_Q) : Prop :=
  (∃ b1, p3 = some b1 ∧ zs_K S b1 = some (.inl 15) ∧ ∃ b4, p6 = some b4 ∧ zs_K S b4 = some (.inl 11) ∧ zs_C X d 22001 [.long (zs_J S 11004 b4)] S (zs_kR (fun v8 S7 => (∃ b9, (zs_R S 15001 b1) = some b9 ∧ zs_K S7 b9 = some (.inl 16) ∧ zs_C X d 16002 [.ref b9, va_rf v8] S7 (zs_kI (fun v13 S12 => (zs_K S12 p0 = some (.inl 4) ∧ ∃ b15, (zs_R S12 4000 p0) = some b15 ∧ zs_K S12 b15 = some (.inl 5) ∧ zs_C X d 5017 [.ref b15, .int (44 : Int32)] S12 (zs_kI (fun v19 S18 => (((v19 = 0 → w_X5_caseConstants_287 X d p0 p1 p2 p3 v19 S18 Q) ∧ (¬ (v19 = 0) → (zs_K S18 p0 = some (.inl 4) ∧ ∃ b22, (zs_R S18 4000 p0) = some b22 ∧ zs_K S18 b22 = some (.inl 5) ∧ zs_C X d 5004 [.ref b22] S18 (zs_kV (fun S25 => w_X5_caseConstants_287 X d p0 p1 p2 p3 v19 S25 Q) Q)))))) Q))) Q))) Q))
theorem u_X5_caseConstants_248 {σ : Nat → Nat} {n0 : Nat} {bf : ab_B} {d : Nat} {p0 : Nat} {p1 : Option Nat} {p2 : Option Nat} {p3 : Option Nat} {p6 : Option Nat} {S : zs_T} {Q : zs_Q} (hB : zt_B bf) (h : w_X5_caseConstants_248 (zx σ n0 bf) d p0 p1 p2 p3 p6 S Q) : zs_U (zx σ n0 bf) d 4082 248 [(0, .ref p0), (1, va_rf p1), (2, va_rf p2), (3, va_rf p3), (6, va_rf p6)] [] S Q := by
  unfold w_X5_caseConstants_248 at h
  refine zu_aload_n d_4082_248 rfl (zs_rr _) ?_
  obtain ⟨b1, e2, h⟩ := h
  refine zs_stk0 (zs_rfe e2) ?_
  obtain ⟨k3, h⟩ := h
  refine zg_4_517 rfl d_4082_249 k3 ?_
  refine zu_aload d_4082_252 rfl (zs_rr _) ?_
  obtain ⟨b4, e5, h⟩ := h
  refine zs_stk0 (zs_rfe e5) ?_
  obtain ⟨k6, h⟩ := h
  refine zg_4_300 rfl d_4082_254 k6 ?_
  refine zc_4_520 (x0 := (zs_J S 11004 b4)) hB rfl d_4082_257 (by simp only [List.map_cons, List.map_nil, List.sum_cons, List.sum_nil, zs_cat, zs_cI, zs_cJ, zs_cA]; exact Nat.le_of_ble_eq_true rfl) h (fun v8 S7 h => ?_)
  obtain ⟨b9, e10, h⟩ := h
  refine zs_stk1 (zs_rfe e10) ?_
  obtain ⟨k11, h⟩ := h
  refine zc_4_140 (x0 := v8) hB rfl k11 d_4082_260 (Nat.le_of_ble_eq_true rfl) h (fun v13 S12 h => ?_)
  refine zu_pop d_4082_263 rfl ?_
  refine zu_aload_n d_4082_264 rfl (zs_ra _) ?_
  obtain ⟨k14, h⟩ := h
  refine zg_4_5 rfl d_4082_265 k14 ?_
  refine zu_bipush d_4082_268 zj_44 ?_
  obtain ⟨b15, e16, h⟩ := h
  refine zs_stk1 (zs_rfe e16) ?_
  obtain ⟨k17, h⟩ := h
  refine zc_4_21 (x0 := (44 : Int32)) hB rfl k17 d_4082_270 (Nat.le_of_ble_eq_true rfl) h (fun v19 S18 h => ?_)
  refine zu_istore d_4082_273 (zs_lt zq_4082 rfl) ?_
  refine zs_U.weak (L1 := [(4, .int v19), (0, .ref p0), (1, va_rf p1), (2, va_rf p2), (3, va_rf p3), (6, va_rf p6)]) ?_ ⟨rfl, zs_gp1 rfl (Or.inl rfl) rfl, zs_gp1 rfl (Or.inl (zs_cat _)) rfl, zs_gp1 rfl (Or.inl (zs_cat _)) rfl, zs_gp1 rfl (Or.inl (zs_cat _)) rfl, zs_gp1 rfl (Or.inl (zs_cat _)) rfl, trivial⟩
  refine zu_iload d_4082_275 rfl ?_
  refine zu_ifeq (t := 287) d_4082_277 rfl (fun c20 => ?_) (fun c20 => ?_)
  · have h := h.1 c20
    exact (u_X5_caseConstants_287 hB h).weak ⟨rfl, rfl, rfl, rfl, rfl, trivial⟩
  · have h := h.2 c20
    refine zu_aload_n d_4082_280 rfl (zs_ra _) ?_
    obtain ⟨k21, h⟩ := h
    refine zg_4_5 rfl d_4082_281 k21 ?_
    obtain ⟨b22, e23, h⟩ := h
    refine zs_stk0 (zs_rfe e23) ?_
    obtain ⟨k24, h⟩ := h
    refine zc_4_29  hB rfl k24 d_4082_284 (Nat.le_of_ble_eq_true rfl) h (fun S25 h => ?_)
    exact (u_X5_caseConstants_287 hB h).weak ⟨rfl, rfl, rfl, rfl, rfl, trivial⟩
def w_X5_caseConstants_203 (X : zs_X) (d : Nat) (p0 : Nat) (p1 : Option Nat) (p2 : Option Nat) (p3 : Option Nat) (p5 : Option Nat) (p6 : Option Nat) (p7 : Int32) (S : zs_T) (Q : zs_Q) : Prop :=
  (((p7 = 0 → w_X5_caseConstants_225 X d p0 S Q) ∧ (¬ (p7 = 0) → (∃ b2, p5 = some b2 ∧ zs_K S b2 = some (.inl 11) ∧ ∃ b5, p6 = some b5 ∧ zs_K S b5 = some (.inl 11) ∧ zs_C X d 4083 [va_rf p3, .long (zs_J S 11004 b2), .long (zs_J S 11004 b5)] S (zs_kI (fun v9 S8 => (((¬ v9 = 0 → (∃ b11, p3 = some b11 ∧ zs_K S8 b11 = some (.inl 15) ∧ zs_K S8 b2 = some (.inl 11) ∧ zs_C X d 22001 [.long (zs_J S8 11004 b2)] S8 (zs_kR (fun v16 S15 => (∃ b17, (zs_R S8 15001 b11) = some b17 ∧ zs_K S15 b17 = some (.inl 16) ∧ zs_C X d 16002 [.ref b17, va_rf v16] S15 (zs_kI (fun v21 S20 => (w_X5_caseConstants_248 X d p0 p1 p2 p3 p6 S20 Q)) Q))) Q))) ∧ (¬ (¬ v9 = 0) → w_X5_caseConstants_225 X d p0 S8 Q)))) Q)))))
theorem u_X5_caseConstants_203 {σ : Nat → Nat} {n0 : Nat} {bf : ab_B} {d : Nat} {p0 : Nat} {p1 : Option Nat} {p2 : Option Nat} {p3 : Option Nat} {p5 : Option Nat} {p6 : Option Nat} {p7 : Int32} {S : zs_T} {Q : zs_Q} (hB : zt_B bf) (h : w_X5_caseConstants_203 (zx σ n0 bf) d p0 p1 p2 p3 p5 p6 p7 S Q) : zs_U (zx σ n0 bf) d 4082 203 [(0, .ref p0), (1, va_rf p1), (2, va_rf p2), (3, va_rf p3), (5, va_rf p5), (6, va_rf p6), (7, .int p7)] [] S Q := by
  unfold w_X5_caseConstants_203 at h
  refine zu_iload d_4082_203 rfl ?_
  refine zu_ifeq (t := 225) d_4082_205 rfl (fun c1 => ?_) (fun c1 => ?_)
  · have h := h.1 c1
    exact (u_X5_caseConstants_225 hB h).weak ⟨rfl, trivial⟩
  · have h := h.2 c1
    refine zu_aload_n d_4082_208 rfl (zs_rr _) ?_
    refine zu_aload d_4082_209 rfl (zs_rr _) ?_
    obtain ⟨b2, e3, h⟩ := h
    refine zs_stk0 (zs_rfe e3) ?_
    obtain ⟨k4, h⟩ := h
    refine zg_4_300 rfl d_4082_211 k4 ?_
    refine zu_aload d_4082_214 rfl (zs_rr _) ?_
    obtain ⟨b5, e6, h⟩ := h
    refine zs_stk0 (zs_rfe e6) ?_
    obtain ⟨k7, h⟩ := h
    refine zg_4_300 rfl d_4082_216 k7 ?_
    refine zc_4_513 (x0 := p3) (x1 := (zs_J S 11004 b2)) (x2 := (zs_J S 11004 b5)) hB rfl d_4082_219 (Nat.le_of_ble_eq_true rfl) h (fun v9 S8 h => ?_)
    refine zu_ifne (t := 232) d_4082_222 rfl (fun c10 => ?_) (fun c10 => ?_)
    · have h := h.1 c10
      refine zu_aload_n d_4082_232 rfl (zs_rr _) ?_
      obtain ⟨b11, e12, h⟩ := h
      refine zs_stk0 (zs_rfe e12) ?_
      obtain ⟨k13, h⟩ := h
      refine zg_4_517 rfl d_4082_233 k13 ?_
      refine zu_aload d_4082_236 rfl (zs_rr _) ?_
      refine zs_stk0 (zs_rfe e3) ?_
      obtain ⟨k14, h⟩ := h
      refine zg_4_300 rfl d_4082_238 k14 ?_
      refine zc_4_520 (x0 := (zs_J S8 11004 b2)) hB rfl d_4082_241 (by simp only [List.map_cons, List.map_nil, List.sum_cons, List.sum_nil, zs_cat, zs_cI, zs_cJ, zs_cA]; exact Nat.le_of_ble_eq_true rfl) h (fun v16 S15 h => ?_)
      obtain ⟨b17, e18, h⟩ := h
      refine zs_stk1 (zs_rfe e18) ?_
      obtain ⟨k19, h⟩ := h
      refine zc_4_140 (x0 := v16) hB rfl k19 d_4082_244 (Nat.le_of_ble_eq_true rfl) h (fun v21 S20 h => ?_)
      refine zu_pop d_4082_247 rfl ?_
      exact (u_X5_caseConstants_248 hB h).weak ⟨rfl, rfl, rfl, rfl, rfl, trivial⟩
    · have h := h.2 c10
      exact (u_X5_caseConstants_225 hB h).weak ⟨rfl, trivial⟩
def w_X5_caseConstants_197 (X : zs_X) (d : Nat) (p0 : Nat) (p1 : Option Nat) (p2 : Option Nat) (p3 : Option Nat) (p5 : Option Nat) (p6 : Option Nat) (p7 : Int32) (p8 : Int32) (S : zs_T) (Q : zs_Q) : Prop :=
  (zs_U X d 4082 149 [(0, .ref p0), (1, va_rf p1), (2, va_rf p2), (3, va_rf p3), (5, va_rf p5), (6, va_rf p6), (7, .int p7), (8, .int (p8 + (1 : Int32)))] [] S Q)
theorem u_X5_caseConstants_197 {σ : Nat → Nat} {n0 : Nat} {bf : ab_B} {d : Nat} {p0 : Nat} {p1 : Option Nat} {p2 : Option Nat} {p3 : Option Nat} {p5 : Option Nat} {p6 : Option Nat} {p7 : Int32} {p8 : Int32} {S : zs_T} {Q : zs_Q} (hB : zt_B bf) (h : w_X5_caseConstants_197 (zx σ n0 bf) d p0 p1 p2 p3 p5 p6 p7 p8 S Q) : zs_U (zx σ n0 bf) d 4082 197 [(0, .ref p0), (1, va_rf p1), (2, va_rf p2), (3, va_rf p3), (5, va_rf p5), (6, va_rf p6), (7, .int p7), (8, .int p8)] [] S Q := by
  unfold w_X5_caseConstants_197 at h
  refine zu_iinc d_4082_197 rfl zi_1 (zs_lt zq_4082 rfl) ?_
  refine zu_goto (t := 149) d_4082_200 rfl ?_
  exact h.weak ⟨rfl, rfl, rfl, rfl, rfl, rfl, rfl, rfl, trivial⟩
def w_X5_caseConstants_149 (X : zs_X) (d : Nat) (p0 : Nat) (p1 : Option Nat) (p2 : Option Nat) (p3 : Option Nat) (p5 : Option Nat) (p6 : Option Nat) (p7 : Int32) (p8 : Int32) (S : zs_T) (Q : zs_Q) : Prop :=
  (((p7 = 0 → w_X5_caseConstants_203 X d p0 p1 p2 p3 p5 p6 p7 S Q) ∧ (¬ (p7 = 0) → (((p2 = none → w_X5_caseConstants_203 X d p0 p1 p2 p3 p5 p6 p7 S Q) ∧ (∀ b2, p2 = some b2 → (zs_K S b2 = some (.inl 14) ∧ ∃ b5, (zs_R S 14001 b2) = some b5 ∧ zs_K S b5 = some (.inl 16) ∧ zs_C X d 16001 [.ref b5] S (zs_kI (fun v9 S8 => (((v9 ≤ p8 → w_X5_caseConstants_203 X d p0 p1 p2 p3 p5 p6 p7 S8 Q) ∧ (¬ (v9 ≤ p8) → (zs_K S8 b2 = some (.inl 14) ∧ ∃ b12, (zs_R S8 14001 b2) = some b12 ∧ zs_K S8 b12 = some (.inl 16) ∧ zs_C X d 16009 [.ref b12, .int p8] S8 (zs_kR (fun v16 S15 => ((∀ a, v16 = some a → zs_K S15 a = some (.inl 15)) ∧ ∃ b18, p5 = some b18 ∧ zs_K S15 b18 = some (.inl 11) ∧ ∃ b21, p6 = some b21 ∧ zs_K S15 b21 = some (.inl 11) ∧ zs_C X d 4083 [va_rf v16, .long (zs_J S15 11004 b18), .long (zs_J S15 11004 b21)] S15 (zs_kI (fun v25 S24 => (w_X5_caseConstants_197 X d p0 p1 p2 p3 p5 p6 v25 p8 S24 Q)) Q))) Q)))))) Q))))))))
theorem u_X5_caseConstants_149 {σ : Nat → Nat} {n0 : Nat} {bf : ab_B} {d : Nat} {p0 : Nat} {p1 : Option Nat} {p2 : Option Nat} {p3 : Option Nat} {p5 : Option Nat} {p6 : Option Nat} {p7 : Int32} {p8 : Int32} {S : zs_T} {Q : zs_Q} (hB : zt_B bf) (h : w_X5_caseConstants_149 (zx σ n0 bf) d p0 p1 p2 p3 p5 p6 p7 p8 S Q) : zs_U (zx σ n0 bf) d 4082 149 [(0, .ref p0), (1, va_rf p1), (2, va_rf p2), (3, va_rf p3), (5, va_rf p5), (6, va_rf p6), (7, .int p7), (8, .int p8)] [] S Q := by
  unfold w_X5_caseConstants_149 at h
  refine zu_iload d_4082_149 rfl ?_
  refine zu_ifeq (t := 203) d_4082_151 rfl (fun c1 => ?_) (fun c1 => ?_)
  · have h := h.1 c1
    exact (u_X5_caseConstants_203 hB h).weak ⟨rfl, rfl, rfl, rfl, rfl, rfl, rfl, trivial⟩
  · have h := h.2 c1
    refine zu_aload_n d_4082_154 rfl (zs_rr _) ?_
    refine zu_ifnull (u := p2) (t := 203) d_4082_155 rfl rfl (fun e3 => ?_) (fun b2 e3 => ?_)
    · have h := h.1 e3
      exact (u_X5_caseConstants_203 hB h).weak ⟨rfl, rfl, rfl, rfl, rfl, rfl, rfl, trivial⟩
    · have h := h.2 b2 e3
      refine zu_iload d_4082_158 rfl ?_
      refine zu_aload_n d_4082_160 rfl (zs_rr _) ?_
      refine zs_stk0 (zs_rfe e3) ?_
      obtain ⟨k4, h⟩ := h
      refine zg_4_419 rfl d_4082_161 k4 ?_
      obtain ⟨b5, e6, h⟩ := h
      refine zs_stk0 (zs_rfe e6) ?_
      obtain ⟨k7, h⟩ := h
      refine zc_4_50  hB rfl k7 d_4082_164 (Nat.le_of_ble_eq_true rfl) h (fun v9 S8 h => ?_)
      refine zu_cmpge (t := 203) d_4082_167 rfl (fun c10 => ?_) (fun c10 => ?_)
      · have h := h.1 c10
        exact (u_X5_caseConstants_203 hB h).weak ⟨rfl, rfl, rfl, rfl, rfl, rfl, rfl, trivial⟩
      · have h := h.2 c10
        refine zu_aload_n d_4082_170 rfl (zs_rr _) ?_
        refine zs_stk0 (zs_rfe e3) ?_
        obtain ⟨k11, h⟩ := h
        refine zg_4_419 rfl d_4082_171 k11 ?_
        refine zu_iload d_4082_174 rfl ?_
        obtain ⟨b12, e13, h⟩ := h
        refine zs_stk1 (zs_rfe e13) ?_
        obtain ⟨k14, h⟩ := h
        refine zc_4_56 (x0 := p8) hB rfl k14 d_4082_176 (Nat.le_of_ble_eq_true rfl) h (fun v16 S15 h => ?_)
        obtain ⟨k17, h⟩ := h
        refine zk_4_424 (o := v16) rfl d_4082_179 k17 ?_
        refine zu_aload d_4082_182 rfl (zs_rr _) ?_
        obtain ⟨b18, e19, h⟩ := h
        refine zs_stk0 (zs_rfe e19) ?_
        obtain ⟨k20, h⟩ := h
        refine zg_4_300 rfl d_4082_184 k20 ?_
        refine zu_aload d_4082_187 rfl (zs_rr _) ?_
        obtain ⟨b21, e22, h⟩ := h
        refine zs_stk0 (zs_rfe e22) ?_
        obtain ⟨k23, h⟩ := h
        refine zg_4_300 rfl d_4082_189 k23 ?_
        refine zc_4_513 (x0 := v16) (x1 := (zs_J S15 11004 b18)) (x2 := (zs_J S15 11004 b21)) hB rfl d_4082_192 (Nat.le_of_ble_eq_true rfl) h (fun v25 S24 h => ?_)
        refine zu_istore d_4082_195 (zs_lt zq_4082 rfl) ?_
        refine zs_U.weak (L1 := [(7, .int v25), (0, .ref p0), (1, va_rf p1), (2, va_rf p2), (3, va_rf p3), (5, va_rf p5), (6, va_rf p6), (8, .int p8)]) ?_ ⟨rfl, zs_gp1 rfl (Or.inl rfl) rfl, zs_gp1 rfl (Or.inl (zs_cat _)) rfl, zs_gp1 rfl (Or.inl (zs_cat _)) rfl, zs_gp1 rfl (Or.inl (zs_cat _)) rfl, zs_gp1 rfl (Or.inl (zs_cat _)) rfl, zs_gp1 rfl (Or.inl (zs_cat _)) rfl, zs_gp1 rfl (Or.inl rfl) rfl, trivial⟩
        exact (u_X5_caseConstants_197 hB h).weak ⟨rfl, rfl, rfl, rfl, rfl, rfl, rfl, rfl, trivial⟩
def w_X5_caseConstants (X : zs_X) (d : Nat) (p0 : Nat) (p1 : Option Nat) (p2 : Option Nat) (p3 : Option Nat) (S : zs_T) (Q : zs_Q) : Prop :=
  (zs_U X d 4082 3 [(0, .ref p0), (1, va_rf p1), (2, va_rf p2), (3, va_rf p3), (4, .int (1 : Int32))] [] S Q)
theorem u_X5_caseConstants {σ : Nat → Nat} {n0 : Nat} {bf : ab_B} {d : Nat} {p0 : Nat} {p1 : Option Nat} {p2 : Option Nat} {p3 : Option Nat} {S : zs_T} {Q : zs_Q} (hB : zt_B bf) (hd : 1 ≤ d) (h : w_X5_caseConstants (zx σ n0 bf) (d - 1) p0 p1 p2 p3 S Q) : zs_C (zx σ n0 bf) d 4082 [.ref p0, va_rf p1, va_rf p2, va_rf p3] S Q := by
  have hL : lv_args 0 [.ref p0, va_rf p1, va_rf p2, va_rf p3] = [(0, .ref p0), (1, va_rf p1), (2, va_rf p2), (3, va_rf p3)] := by simp [lv_args, zs_cat, zs_cI, zs_cJ, zs_cA]
  refine zs_C.of1 (hB.2 4082 (by decide) (by decide)) hd (by rw [hL]; exact zs_sub_self _ (by exact ⟨rfl, rfl, rfl, rfl, trivial⟩)) ?_
  rw [hL]
  clear hL
  unfold w_X5_caseConstants at h
  refine zu_iconst d_4082_0 zi_1 ?_
  refine zu_istore d_4082_1 (zs_lt zq_4082 rfl) ?_
  refine zs_U.weak (L1 := [(4, .int (1 : Int32)), (0, .ref p0), (1, va_rf p1), (2, va_rf p2), (3, va_rf p3)]) ?_ ⟨rfl, zs_gp1 rfl (Or.inl rfl) rfl, zs_gp1 rfl (Or.inl (zs_cat _)) rfl, zs_gp1 rfl (Or.inl (zs_cat _)) rfl, zs_gp1 rfl (Or.inl (zs_cat _)) rfl, trivial⟩
  exact h.weak ⟨rfl, rfl, rfl, rfl, rfl, trivial⟩
/-! SchemaPascal$Reader.apart(LSchemaPascal$Variant;JJ)Z -/
theorem zm_4083 {σ : Nat → Nat} {n0 : Nat} {bf : ab_B} : ab_code (zx σ n0 bf).1 4083 = prog_9_method_39_code := rfl
theorem zq_4083 {σ : Nat → Nat} {n0 : Nat} {bf : ab_B} : ab_maxL (zx σ n0 bf).1 4083 = 6 := rfl
theorem zr_4083 {σ : Nat → Nat} {n0 : Nat} {bf : ab_B} : ab_ret (zx σ n0 bf).1 4083 = (Option.some Jvm.ClassFile.FieldType.boolean) := rfl
theorem d_4083_0 {σ : Nat → Nat} {n0 : Nat} {bf : ab_B} : decode (ab_code (zx σ n0 bf).1 4083) 0 = .ok (.iconst 0, 1) := zd zm_4083 (by decide +kernel)
theorem d_4083_1 {σ : Nat → Nat} {n0 : Nat} {bf : ab_B} : decode (ab_code (zx σ n0 bf).1 4083) 1 = .ok (.istore 5, 2) := zd zm_4083 (by decide +kernel)
theorem d_4083_3 {σ : Nat → Nat} {n0 : Nat} {bf : ab_B} : decode (ab_code (zx σ n0 bf).1 4083) 3 = .ok (.iload 5, 2) := zd zm_4083 (by decide +kernel)
theorem d_4083_5 {σ : Nat → Nat} {n0 : Nat} {bf : ab_B} : decode (ab_code (zx σ n0 bf).1 4083) 5 = .ok (.aload_n 0, 1) := zd zm_4083 (by decide +kernel)
theorem d_4083_6 {σ : Nat → Nat} {n0 : Nat} {bf : ab_B} : decode (ab_code (zx σ n0 bf).1 4083) 6 = .ok (.getfield 517, 3) := zd zm_4083 (by decide +kernel)
theorem d_4083_9 {σ : Nat → Nat} {n0 : Nat} {bf : ab_B} : decode (ab_code (zx σ n0 bf).1 4083) 9 = .ok (.invokevirtual 50, 3) := zd zm_4083 (by decide +kernel)
theorem d_4083_12 {σ : Nat → Nat} {n0 : Nat} {bf : ab_B} : decode (ab_code (zx σ n0 bf).1 4083) 12 = .ok (.if_icmp .ge 53, 3) := zd zm_4083 (by decide +kernel)
theorem d_4083_15 {σ : Nat → Nat} {n0 : Nat} {bf : ab_B} : decode (ab_code (zx σ n0 bf).1 4083) 15 = .ok (.lload_n 1, 1) := zd zm_4083 (by decide +kernel)
theorem d_4083_16 {σ : Nat → Nat} {n0 : Nat} {bf : ab_B} : decode (ab_code (zx σ n0 bf).1 4083) 16 = .ok (.aload_n 0, 1) := zd zm_4083 (by decide +kernel)
theorem d_4083_17 {σ : Nat → Nat} {n0 : Nat} {bf : ab_B} : decode (ab_code (zx σ n0 bf).1 4083) 17 = .ok (.getfield 517, 3) := zd zm_4083 (by decide +kernel)
theorem d_4083_20 {σ : Nat → Nat} {n0 : Nat} {bf : ab_B} : decode (ab_code (zx σ n0 bf).1 4083) 20 = .ok (.iload 5, 2) := zd zm_4083 (by decide +kernel)
theorem d_4083_22 {σ : Nat → Nat} {n0 : Nat} {bf : ab_B} : decode (ab_code (zx σ n0 bf).1 4083) 22 = .ok (.iconst 1, 1) := zd zm_4083 (by decide +kernel)
theorem d_4083_23 {σ : Nat → Nat} {n0 : Nat} {bf : ab_B} : decode (ab_code (zx σ n0 bf).1 4083) 23 = .ok (.iadd, 1) := zd zm_4083 (by decide +kernel)
theorem d_4083_24 {σ : Nat → Nat} {n0 : Nat} {bf : ab_B} : decode (ab_code (zx σ n0 bf).1 4083) 24 = .ok (.invokevirtual 56, 3) := zd zm_4083 (by decide +kernel)
theorem d_4083_27 {σ : Nat → Nat} {n0 : Nat} {bf : ab_B} : decode (ab_code (zx σ n0 bf).1 4083) 27 = .ok (.checkcast 521, 3) := zd zm_4083 (by decide +kernel)
theorem d_4083_30 {σ : Nat → Nat} {n0 : Nat} {bf : ab_B} : decode (ab_code (zx σ n0 bf).1 4083) 30 = .ok (.invokevirtual 525, 3) := zd zm_4083 (by decide +kernel)
theorem d_4083_33 {σ : Nat → Nat} {n0 : Nat} {bf : ab_B} : decode (ab_code (zx σ n0 bf).1 4083) 33 = .ok (.lcmp, 1) := zd zm_4083 (by decide +kernel)
theorem d_4083_34 {σ : Nat → Nat} {n0 : Nat} {bf : ab_B} : decode (ab_code (zx σ n0 bf).1 4083) 34 = .ok (.ifCond .gt 25, 3) := zd zm_4083 (by decide +kernel)
theorem d_4083_37 {σ : Nat → Nat} {n0 : Nat} {bf : ab_B} : decode (ab_code (zx σ n0 bf).1 4083) 37 = .ok (.lload_n 3, 1) := zd zm_4083 (by decide +kernel)
theorem d_4083_38 {σ : Nat → Nat} {n0 : Nat} {bf : ab_B} : decode (ab_code (zx σ n0 bf).1 4083) 38 = .ok (.aload_n 0, 1) := zd zm_4083 (by decide +kernel)
theorem d_4083_39 {σ : Nat → Nat} {n0 : Nat} {bf : ab_B} : decode (ab_code (zx σ n0 bf).1 4083) 39 = .ok (.getfield 517, 3) := zd zm_4083 (by decide +kernel)
theorem d_4083_42 {σ : Nat → Nat} {n0 : Nat} {bf : ab_B} : decode (ab_code (zx σ n0 bf).1 4083) 42 = .ok (.iload 5, 2) := zd zm_4083 (by decide +kernel)
theorem d_4083_44 {σ : Nat → Nat} {n0 : Nat} {bf : ab_B} : decode (ab_code (zx σ n0 bf).1 4083) 44 = .ok (.invokevirtual 56, 3) := zd zm_4083 (by decide +kernel)
theorem d_4083_47 {σ : Nat → Nat} {n0 : Nat} {bf : ab_B} : decode (ab_code (zx σ n0 bf).1 4083) 47 = .ok (.checkcast 521, 3) := zd zm_4083 (by decide +kernel)
theorem d_4083_50 {σ : Nat → Nat} {n0 : Nat} {bf : ab_B} : decode (ab_code (zx σ n0 bf).1 4083) 50 = .ok (.invokevirtual 525, 3) := zd zm_4083 (by decide +kernel)
theorem d_4083_53 {σ : Nat → Nat} {n0 : Nat} {bf : ab_B} : decode (ab_code (zx σ n0 bf).1 4083) 53 = .ok (.lcmp, 1) := zd zm_4083 (by decide +kernel)
theorem d_4083_54 {σ : Nat → Nat} {n0 : Nat} {bf : ab_B} : decode (ab_code (zx σ n0 bf).1 4083) 54 = .ok (.ifCond .lt 5, 3) := zd zm_4083 (by decide +kernel)
theorem d_4083_57 {σ : Nat → Nat} {n0 : Nat} {bf : ab_B} : decode (ab_code (zx σ n0 bf).1 4083) 57 = .ok (.iconst 0, 1) := zd zm_4083 (by decide +kernel)
theorem d_4083_58 {σ : Nat → Nat} {n0 : Nat} {bf : ab_B} : decode (ab_code (zx σ n0 bf).1 4083) 58 = .ok (.ireturn, 1) := zd zm_4083 (by decide +kernel)
theorem d_4083_59 {σ : Nat → Nat} {n0 : Nat} {bf : ab_B} : decode (ab_code (zx σ n0 bf).1 4083) 59 = .ok (.iinc 5 2, 3) := zd zm_4083 (by decide +kernel)
theorem d_4083_62 {σ : Nat → Nat} {n0 : Nat} {bf : ab_B} : decode (ab_code (zx σ n0 bf).1 4083) 62 = .ok (.goto (-59), 3) := zd zm_4083 (by decide +kernel)
theorem d_4083_65 {σ : Nat → Nat} {n0 : Nat} {bf : ab_B} : decode (ab_code (zx σ n0 bf).1 4083) 65 = .ok (.iconst 1, 1) := zd zm_4083 (by decide +kernel)
theorem d_4083_66 {σ : Nat → Nat} {n0 : Nat} {bf : ab_B} : decode (ab_code (zx σ n0 bf).1 4083) 66 = .ok (.ireturn, 1) := zd zm_4083 (by decide +kernel)
def w_X5_apart_59 (X : zs_X) (d : Nat) (p0 : Option Nat) (p1 : Int64) (p3 : Int64) (p5 : Int32) (S : zs_T) (Q : zs_Q) : Prop :=
  (zs_U X d 4083 3 [(0, va_rf p0), (1, .long p1), (3, .long p3), (5, .int (p5 + (2 : Int32)))] [] S Q)
theorem u_X5_apart_59 {σ : Nat → Nat} {n0 : Nat} {bf : ab_B} {d : Nat} {p0 : Option Nat} {p1 : Int64} {p3 : Int64} {p5 : Int32} {S : zs_T} {Q : zs_Q} (hB : zt_B bf) (h : w_X5_apart_59 (zx σ n0 bf) d p0 p1 p3 p5 S Q) : zs_U (zx σ n0 bf) d 4083 59 [(0, va_rf p0), (1, .long p1), (3, .long p3), (5, .int p5)] [] S Q := by
  unfold w_X5_apart_59 at h
  refine zu_iinc d_4083_59 rfl zi_2 (zs_lt zq_4083 rfl) ?_
  refine zu_goto (t := 3) d_4083_62 rfl ?_
  exact h.weak ⟨rfl, rfl, rfl, rfl, trivial⟩
def w_X5_apart_37 (X : zs_X) (d : Nat) (p0 : Option Nat) (p1 : Int64) (p3 : Int64) (p5 : Int32) (S : zs_T) (Q : zs_Q) : Prop :=
  (∃ b1, p0 = some b1 ∧ zs_K S b1 = some (.inl 15) ∧ ∃ b4, (zs_R S 15001 b1) = some b4 ∧ zs_K S b4 = some (.inl 16) ∧ zs_C X d 16009 [.ref b4, .int p5] S (zs_kR (fun v8 S7 => ((∀ a, v8 = some a → zs_K S7 a = some (.inl 22)) ∧ ∃ b10, v8 = some b10 ∧ zs_K S7 b10 = some (.inl 22) ∧ zs_C X d 22000 [.ref b10] S7 (zs_kJ (fun v14 S13 => (((p3 < v14 → w_X5_apart_59 X d p0 p1 p3 p5 S13 Q) ∧ (¬ (p3 < v14) → (Q (.returned (some (.int (0 : Int32)))) S13))))) Q))) Q))
theorem u_X5_apart_37 {σ : Nat → Nat} {n0 : Nat} {bf : ab_B} {d : Nat} {p0 : Option Nat} {p1 : Int64} {p3 : Int64} {p5 : Int32} {S : zs_T} {Q : zs_Q} (hB : zt_B bf) (h : w_X5_apart_37 (zx σ n0 bf) d p0 p1 p3 p5 S Q) : zs_U (zx σ n0 bf) d 4083 37 [(0, va_rf p0), (1, .long p1), (3, .long p3), (5, .int p5)] [] S Q := by
  unfold w_X5_apart_37 at h
  refine zu_lload_n d_4083_37 rfl ?_
  refine zu_aload_n d_4083_38 rfl (zs_rr _) ?_
  obtain ⟨b1, e2, h⟩ := h
  refine zs_stk0 (zs_rfe e2) ?_
  obtain ⟨k3, h⟩ := h
  refine zg_4_517 rfl d_4083_39 k3 ?_
  refine zu_iload d_4083_42 rfl ?_
  obtain ⟨b4, e5, h⟩ := h
  refine zs_stk1 (zs_rfe e5) ?_
  obtain ⟨k6, h⟩ := h
  refine zc_4_56 (x0 := p5) hB rfl k6 d_4083_44 (Nat.le_of_ble_eq_true rfl) h (fun v8 S7 h => ?_)
  obtain ⟨k9, h⟩ := h
  refine zk_4_521 (o := v8) rfl d_4083_47 k9 ?_
  obtain ⟨b10, e11, h⟩ := h
  refine zs_stk0 (zs_rfe e11) ?_
  obtain ⟨k12, h⟩ := h
  refine zc_4_525  hB rfl k12 d_4083_50 (Nat.le_of_ble_eq_true rfl) h (fun v14 S13 h => ?_)
  refine zu_llt (t := 59) d_4083_53 d_4083_54 rfl (fun c15 => ?_) (fun c15 => ?_)
  · have h := h.1 c15
    exact (u_X5_apart_59 hB h).weak ⟨rfl, rfl, rfl, rfl, trivial⟩
  · have h := h.2 c15
    refine zu_iconst d_4083_57 zi_0 ?_
    exact zu_iret d_4083_58 zr_4083 (zs_b_n (Or.inl rfl)) h
def w_X5_apart_3 (X : zs_X) (d : Nat) (p0 : Option Nat) (p1 : Int64) (p3 : Int64) (p5 : Int32) (S : zs_T) (Q : zs_Q) : Prop :=
  (∃ b1, p0 = some b1 ∧ zs_K S b1 = some (.inl 15) ∧ ∃ b4, (zs_R S 15001 b1) = some b4 ∧ zs_K S b4 = some (.inl 16) ∧ zs_C X d 16001 [.ref b4] S (zs_kI (fun v8 S7 => (((v8 ≤ p5 → (Q (.returned (some (.int (1 : Int32)))) S7)) ∧ (¬ (v8 ≤ p5) → (zs_K S7 b1 = some (.inl 15) ∧ ∃ b11, (zs_R S7 15001 b1) = some b11 ∧ zs_K S7 b11 = some (.inl 16) ∧ zs_C X d 16009 [.ref b11, .int (p5 + (1 : Int32))] S7 (zs_kR (fun v15 S14 => ((∀ a, v15 = some a → zs_K S14 a = some (.inl 22)) ∧ ∃ b17, v15 = some b17 ∧ zs_K S14 b17 = some (.inl 22) ∧ zs_C X d 22000 [.ref b17] S14 (zs_kJ (fun v21 S20 => (((v21 < p1 → w_X5_apart_59 X d p0 p1 p3 p5 S20 Q) ∧ (¬ (v21 < p1) → w_X5_apart_37 X d p0 p1 p3 p5 S20 Q)))) Q))) Q)))))) Q))
theorem u_X5_apart_3 {σ : Nat → Nat} {n0 : Nat} {bf : ab_B} {d : Nat} {p0 : Option Nat} {p1 : Int64} {p3 : Int64} {p5 : Int32} {S : zs_T} {Q : zs_Q} (hB : zt_B bf) (h : w_X5_apart_3 (zx σ n0 bf) d p0 p1 p3 p5 S Q) : zs_U (zx σ n0 bf) d 4083 3 [(0, va_rf p0), (1, .long p1), (3, .long p3), (5, .int p5)] [] S Q := by
  unfold w_X5_apart_3 at h
  refine zu_iload d_4083_3 rfl ?_
  refine zu_aload_n d_4083_5 rfl (zs_rr _) ?_
  obtain ⟨b1, e2, h⟩ := h
  refine zs_stk0 (zs_rfe e2) ?_
  obtain ⟨k3, h⟩ := h
  refine zg_4_517 rfl d_4083_6 k3 ?_
  obtain ⟨b4, e5, h⟩ := h
  refine zs_stk0 (zs_rfe e5) ?_
  obtain ⟨k6, h⟩ := h
  refine zc_4_50  hB rfl k6 d_4083_9 (Nat.le_of_ble_eq_true rfl) h (fun v8 S7 h => ?_)
  refine zu_cmpge (t := 65) d_4083_12 rfl (fun c9 => ?_) (fun c9 => ?_)
  · have h := h.1 c9
    refine zu_iconst d_4083_65 zi_1 ?_
    exact zu_iret d_4083_66 zr_4083 (zs_b_n (Or.inr rfl)) h
  · have h := h.2 c9
    refine zu_lload_n d_4083_15 rfl ?_
    refine zu_aload_n d_4083_16 rfl (zs_rr _) ?_
    refine zs_stk0 (zs_rfe e2) ?_
    obtain ⟨k10, h⟩ := h
    refine zg_4_517 rfl d_4083_17 k10 ?_
    refine zu_iload d_4083_20 rfl ?_
    refine zu_iconst d_4083_22 zi_1 ?_
    refine zu_stk d_4083_23 rfl rfl ?_
    obtain ⟨b11, e12, h⟩ := h
    refine zs_stk1 (zs_rfe e12) ?_
    obtain ⟨k13, h⟩ := h
    refine zc_4_56 (x0 := (p5 + (1 : Int32))) hB rfl k13 d_4083_24 (Nat.le_of_ble_eq_true rfl) h (fun v15 S14 h => ?_)
    obtain ⟨k16, h⟩ := h
    refine zk_4_521 (o := v15) rfl d_4083_27 k16 ?_
    obtain ⟨b17, e18, h⟩ := h
    refine zs_stk0 (zs_rfe e18) ?_
    obtain ⟨k19, h⟩ := h
    refine zc_4_525  hB rfl k19 d_4083_30 (Nat.le_of_ble_eq_true rfl) h (fun v21 S20 h => ?_)
    refine zu_lgt (t := 59) d_4083_33 d_4083_34 rfl (fun c22 => ?_) (fun c22 => ?_)
    · have h := h.1 c22
      exact (u_X5_apart_59 hB h).weak ⟨rfl, rfl, rfl, rfl, trivial⟩
    · have h := h.2 c22
      exact (u_X5_apart_37 hB h).weak ⟨rfl, rfl, rfl, rfl, trivial⟩
def w_X5_apart (X : zs_X) (d : Nat) (p0 : Option Nat) (p1 : Int64) (p3 : Int64) (S : zs_T) (Q : zs_Q) : Prop :=
  (zs_U X d 4083 3 [(0, va_rf p0), (1, .long p1), (3, .long p3), (5, .int (0 : Int32))] [] S Q)
theorem u_X5_apart {σ : Nat → Nat} {n0 : Nat} {bf : ab_B} {d : Nat} {p0 : Option Nat} {p1 : Int64} {p3 : Int64} {S : zs_T} {Q : zs_Q} (hB : zt_B bf) (hd : 1 ≤ d) (h : w_X5_apart (zx σ n0 bf) (d - 1) p0 p1 p3 S Q) : zs_C (zx σ n0 bf) d 4083 [va_rf p0, .long p1, .long p3] S Q := by
  have hL : lv_args 0 [va_rf p0, .long p1, .long p3] = [(0, va_rf p0), (1, .long p1), (3, .long p3)] := by simp [lv_args, zs_cat, zs_cI, zs_cJ, zs_cA]
  refine zs_C.of1 (hB.2 4083 (by decide) (by decide)) hd (by rw [hL]; exact zs_sub_self _ (by exact ⟨rfl, rfl, rfl, trivial⟩)) ?_
  rw [hL]
  clear hL
  unfold w_X5_apart at h
  refine zu_iconst d_4083_0 zi_0 ?_
  refine zu_istore d_4083_1 (zs_lt zq_4083 rfl) ?_
  exact h.weak ⟨rfl, rfl, rfl, rfl, trivial⟩
/-! SchemaPascal$Reader.pointer()LSchemaPascal$Type; -/
theorem zm_4084 {σ : Nat → Nat} {n0 : Nat} {bf : ab_B} : ab_code (zx σ n0 bf).1 4084 = prog_9_method_31_code := rfl
theorem zq_4084 {σ : Nat → Nat} {n0 : Nat} {bf : ab_B} : ab_maxL (zx σ n0 bf).1 4084 = 3 := rfl
theorem zr_4084 {σ : Nat → Nat} {n0 : Nat} {bf : ab_B} : ab_ret (zx σ n0 bf).1 4084 = (Option.some (Jvm.ClassFile.FieldType.object "SchemaPascal$Type")) := rfl
theorem d_4084_0 {σ : Nat → Nat} {n0 : Nat} {bf : ab_B} : decode (ab_code (zx σ n0 bf).1 4084) 0 = .ok (.aload_n 0, 1) := zd zm_4084 (by decide +kernel)
theorem d_4084_1 {σ : Nat → Nat} {n0 : Nat} {bf : ab_B} : decode (ab_code (zx σ n0 bf).1 4084) 1 = .ok (.getfield 5, 3) := zd zm_4084 (by decide +kernel)
theorem d_4084_4 {σ : Nat → Nat} {n0 : Nat} {bf : ab_B} : decode (ab_code (zx σ n0 bf).1 4084) 4 = .ok (.invokevirtual 29, 3) := zd zm_4084 (by decide +kernel)
theorem d_4084_7 {σ : Nat → Nat} {n0 : Nat} {bf : ab_B} : decode (ab_code (zx σ n0 bf).1 4084) 7 = .ok (.aload_n 0, 1) := zd zm_4084 (by decide +kernel)
theorem d_4084_8 {σ : Nat → Nat} {n0 : Nat} {bf : ab_B} : decode (ab_code (zx σ n0 bf).1 4084) 8 = .ok (.bipush 9, 2) := zd zm_4084 (by decide +kernel)
theorem d_4084_10 {σ : Nat → Nat} {n0 : Nat} {bf : ab_B} : decode (ab_code (zx σ n0 bf).1 4084) 10 = .ok (.invokevirtual 144, 3) := zd zm_4084 (by decide +kernel)
theorem d_4084_13 {σ : Nat → Nat} {n0 : Nat} {bf : ab_B} : decode (ab_code (zx σ n0 bf).1 4084) 13 = .ok (.astore_n 1, 1) := zd zm_4084 (by decide +kernel)
theorem d_4084_14 {σ : Nat → Nat} {n0 : Nat} {bf : ab_B} : decode (ab_code (zx σ n0 bf).1 4084) 14 = .ok (.aload_n 0, 1) := zd zm_4084 (by decide +kernel)
theorem d_4084_15 {σ : Nat → Nat} {n0 : Nat} {bf : ab_B} : decode (ab_code (zx σ n0 bf).1 4084) 15 = .ok (.getfield 5, 3) := zd zm_4084 (by decide +kernel)
theorem d_4084_18 {σ : Nat → Nat} {n0 : Nat} {bf : ab_B} : decode (ab_code (zx σ n0 bf).1 4084) 18 = .ok (.invokevirtual 36, 3) := zd zm_4084 (by decide +kernel)
theorem d_4084_21 {σ : Nat → Nat} {n0 : Nat} {bf : ab_B} : decode (ab_code (zx σ n0 bf).1 4084) 21 = .ok (.ifCond .ne 9, 3) := zd zm_4084 (by decide +kernel)
theorem d_4084_24 {σ : Nat → Nat} {n0 : Nat} {bf : ab_B} : decode (ab_code (zx σ n0 bf).1 4084) 24 = .ok (.aload_n 0, 1) := zd zm_4084 (by decide +kernel)
theorem d_4084_25 {σ : Nat → Nat} {n0 : Nat} {bf : ab_B} : decode (ab_code (zx σ n0 bf).1 4084) 25 = .ok (.iconst 2, 1) := zd zm_4084 (by decide +kernel)
theorem d_4084_26 {σ : Nat → Nat} {n0 : Nat} {bf : ab_B} : decode (ab_code (zx σ n0 bf).1 4084) 26 = .ok (.invokevirtual 25, 3) := zd zm_4084 (by decide +kernel)
theorem d_4084_29 {σ : Nat → Nat} {n0 : Nat} {bf : ab_B} : decode (ab_code (zx σ n0 bf).1 4084) 29 = .ok (.athrow, 1) := zd zm_4084 (by decide +kernel)
theorem d_4084_30 {σ : Nat → Nat} {n0 : Nat} {bf : ab_B} : decode (ab_code (zx σ n0 bf).1 4084) 30 = .ok (.aload_n 0, 1) := zd zm_4084 (by decide +kernel)
theorem d_4084_31 {σ : Nat → Nat} {n0 : Nat} {bf : ab_B} : decode (ab_code (zx σ n0 bf).1 4084) 31 = .ok (.invokevirtual 354, 3) := zd zm_4084 (by decide +kernel)
theorem d_4084_34 {σ : Nat → Nat} {n0 : Nat} {bf : ab_B} : decode (ab_code (zx σ n0 bf).1 4084) 34 = .ok (.ifCond .eq 9, 3) := zd zm_4084 (by decide +kernel)
theorem d_4084_37 {σ : Nat → Nat} {n0 : Nat} {bf : ab_B} : decode (ab_code (zx σ n0 bf).1 4084) 37 = .ok (.aload_n 0, 1) := zd zm_4084 (by decide +kernel)
theorem d_4084_38 {σ : Nat → Nat} {n0 : Nat} {bf : ab_B} : decode (ab_code (zx σ n0 bf).1 4084) 38 = .ok (.iconst 3, 1) := zd zm_4084 (by decide +kernel)
theorem d_4084_39 {σ : Nat → Nat} {n0 : Nat} {bf : ab_B} : decode (ab_code (zx σ n0 bf).1 4084) 39 = .ok (.invokevirtual 25, 3) := zd zm_4084 (by decide +kernel)
theorem d_4084_42 {σ : Nat → Nat} {n0 : Nat} {bf : ab_B} : decode (ab_code (zx σ n0 bf).1 4084) 42 = .ok (.athrow, 1) := zd zm_4084 (by decide +kernel)
theorem d_4084_43 {σ : Nat → Nat} {n0 : Nat} {bf : ab_B} : decode (ab_code (zx σ n0 bf).1 4084) 43 = .ok (.aload_n 0, 1) := zd zm_4084 (by decide +kernel)
theorem d_4084_44 {σ : Nat → Nat} {n0 : Nat} {bf : ab_B} : decode (ab_code (zx σ n0 bf).1 4084) 44 = .ok (.aload_n 0, 1) := zd zm_4084 (by decide +kernel)
theorem d_4084_45 {σ : Nat → Nat} {n0 : Nat} {bf : ab_B} : decode (ab_code (zx σ n0 bf).1 4084) 45 = .ok (.getfield 5, 3) := zd zm_4084 (by decide +kernel)
theorem d_4084_48 {σ : Nat → Nat} {n0 : Nat} {bf : ab_B} : decode (ab_code (zx σ n0 bf).1 4084) 48 = .ok (.getfield 40, 3) := zd zm_4084 (by decide +kernel)
theorem d_4084_51 {σ : Nat → Nat} {n0 : Nat} {bf : ab_B} : decode (ab_code (zx σ n0 bf).1 4084) 51 = .ok (.invokevirtual 318, 3) := zd zm_4084 (by decide +kernel)
theorem d_4084_54 {σ : Nat → Nat} {n0 : Nat} {bf : ab_B} : decode (ab_code (zx σ n0 bf).1 4084) 54 = .ok (.astore_n 2, 1) := zd zm_4084 (by decide +kernel)
theorem d_4084_55 {σ : Nat → Nat} {n0 : Nat} {bf : ab_B} : decode (ab_code (zx σ n0 bf).1 4084) 55 = .ok (.aload_n 2, 1) := zd zm_4084 (by decide +kernel)
theorem d_4084_56 {σ : Nat → Nat} {n0 : Nat} {bf : ab_B} : decode (ab_code (zx σ n0 bf).1 4084) 56 = .ok (.ifnull 17, 3) := zd zm_4084 (by decide +kernel)
theorem d_4084_59 {σ : Nat → Nat} {n0 : Nat} {bf : ab_B} : decode (ab_code (zx σ n0 bf).1 4084) 59 = .ok (.aload_n 2, 1) := zd zm_4084 (by decide +kernel)
theorem d_4084_60 {σ : Nat → Nat} {n0 : Nat} {bf : ab_B} : decode (ab_code (zx σ n0 bf).1 4084) 60 = .ok (.getfield 62, 3) := zd zm_4084 (by decide +kernel)
theorem d_4084_63 {σ : Nat → Nat} {n0 : Nat} {bf : ab_B} : decode (ab_code (zx σ n0 bf).1 4084) 63 = .ok (.iconst 1, 1) := zd zm_4084 (by decide +kernel)
theorem d_4084_64 {σ : Nat → Nat} {n0 : Nat} {bf : ab_B} : decode (ab_code (zx σ n0 bf).1 4084) 64 = .ok (.if_icmp .eq 9, 3) := zd zm_4084 (by decide +kernel)
theorem d_4084_67 {σ : Nat → Nat} {n0 : Nat} {bf : ab_B} : decode (ab_code (zx σ n0 bf).1 4084) 67 = .ok (.aload_n 0, 1) := zd zm_4084 (by decide +kernel)
theorem d_4084_68 {σ : Nat → Nat} {n0 : Nat} {bf : ab_B} : decode (ab_code (zx σ n0 bf).1 4084) 68 = .ok (.iconst 3, 1) := zd zm_4084 (by decide +kernel)
theorem d_4084_69 {σ : Nat → Nat} {n0 : Nat} {bf : ab_B} : decode (ab_code (zx σ n0 bf).1 4084) 69 = .ok (.invokevirtual 25, 3) := zd zm_4084 (by decide +kernel)
theorem d_4084_72 {σ : Nat → Nat} {n0 : Nat} {bf : ab_B} : decode (ab_code (zx σ n0 bf).1 4084) 72 = .ok (.athrow, 1) := zd zm_4084 (by decide +kernel)
theorem d_4084_73 {σ : Nat → Nat} {n0 : Nat} {bf : ab_B} : decode (ab_code (zx σ n0 bf).1 4084) 73 = .ok (.aload_n 2, 1) := zd zm_4084 (by decide +kernel)
theorem d_4084_74 {σ : Nat → Nat} {n0 : Nat} {bf : ab_B} : decode (ab_code (zx σ n0 bf).1 4084) 74 = .ok (.ifnull 14, 3) := zd zm_4084 (by decide +kernel)
theorem d_4084_77 {σ : Nat → Nat} {n0 : Nat} {bf : ab_B} : decode (ab_code (zx σ n0 bf).1 4084) 77 = .ok (.aload_n 1, 1) := zd zm_4084 (by decide +kernel)
theorem d_4084_78 {σ : Nat → Nat} {n0 : Nat} {bf : ab_B} : decode (ab_code (zx σ n0 bf).1 4084) 78 = .ok (.aload_n 2, 1) := zd zm_4084 (by decide +kernel)
theorem d_4084_79 {σ : Nat → Nat} {n0 : Nat} {bf : ab_B} : decode (ab_code (zx σ n0 bf).1 4084) 79 = .ok (.getfield 65, 3) := zd zm_4084 (by decide +kernel)
theorem d_4084_82 {σ : Nat → Nat} {n0 : Nat} {bf : ab_B} : decode (ab_code (zx σ n0 bf).1 4084) 82 = .ok (.putfield 320, 3) := zd zm_4084 (by decide +kernel)
theorem d_4084_85 {σ : Nat → Nat} {n0 : Nat} {bf : ab_B} : decode (ab_code (zx σ n0 bf).1 4084) 85 = .ok (.goto 61, 3) := zd zm_4084 (by decide +kernel)
theorem d_4084_88 {σ : Nat → Nat} {n0 : Nat} {bf : ab_B} : decode (ab_code (zx σ n0 bf).1 4084) 88 = .ok (.aload_n 0, 1) := zd zm_4084 (by decide +kernel)
theorem d_4084_89 {σ : Nat → Nat} {n0 : Nat} {bf : ab_B} : decode (ab_code (zx σ n0 bf).1 4084) 89 = .ok (.getfield 203, 3) := zd zm_4084 (by decide +kernel)
theorem d_4084_92 {σ : Nat → Nat} {n0 : Nat} {bf : ab_B} : decode (ab_code (zx σ n0 bf).1 4084) 92 = .ok (.ifCond .ne 9, 3) := zd zm_4084 (by decide +kernel)
theorem d_4084_95 {σ : Nat → Nat} {n0 : Nat} {bf : ab_B} : decode (ab_code (zx σ n0 bf).1 4084) 95 = .ok (.aload_n 0, 1) := zd zm_4084 (by decide +kernel)
theorem d_4084_96 {σ : Nat → Nat} {n0 : Nat} {bf : ab_B} : decode (ab_code (zx σ n0 bf).1 4084) 96 = .ok (.iconst 3, 1) := zd zm_4084 (by decide +kernel)
theorem d_4084_97 {σ : Nat → Nat} {n0 : Nat} {bf : ab_B} : decode (ab_code (zx σ n0 bf).1 4084) 97 = .ok (.invokevirtual 25, 3) := zd zm_4084 (by decide +kernel)
theorem d_4084_100 {σ : Nat → Nat} {n0 : Nat} {bf : ab_B} : decode (ab_code (zx σ n0 bf).1 4084) 100 = .ok (.athrow, 1) := zd zm_4084 (by decide +kernel)
theorem d_4084_101 {σ : Nat → Nat} {n0 : Nat} {bf : ab_B} : decode (ab_code (zx σ n0 bf).1 4084) 101 = .ok (.aload_n 0, 1) := zd zm_4084 (by decide +kernel)
theorem d_4084_102 {σ : Nat → Nat} {n0 : Nat} {bf : ab_B} : decode (ab_code (zx σ n0 bf).1 4084) 102 = .ok (.getfield 186, 3) := zd zm_4084 (by decide +kernel)
theorem d_4084_105 {σ : Nat → Nat} {n0 : Nat} {bf : ab_B} : decode (ab_code (zx σ n0 bf).1 4084) 105 = .ok (.aload_n 1, 1) := zd zm_4084 (by decide +kernel)
theorem d_4084_106 {σ : Nat → Nat} {n0 : Nat} {bf : ab_B} : decode (ab_code (zx σ n0 bf).1 4084) 106 = .ok (.invokevirtual 140, 3) := zd zm_4084 (by decide +kernel)
theorem d_4084_109 {σ : Nat → Nat} {n0 : Nat} {bf : ab_B} : decode (ab_code (zx σ n0 bf).1 4084) 109 = .ok (.pop, 1) := zd zm_4084 (by decide +kernel)
theorem d_4084_110 {σ : Nat → Nat} {n0 : Nat} {bf : ab_B} : decode (ab_code (zx σ n0 bf).1 4084) 110 = .ok (.aload_n 0, 1) := zd zm_4084 (by decide +kernel)
theorem d_4084_111 {σ : Nat → Nat} {n0 : Nat} {bf : ab_B} : decode (ab_code (zx σ n0 bf).1 4084) 111 = .ok (.getfield 191, 3) := zd zm_4084 (by decide +kernel)
theorem d_4084_114 {σ : Nat → Nat} {n0 : Nat} {bf : ab_B} : decode (ab_code (zx σ n0 bf).1 4084) 114 = .ok (.aload_n 0, 1) := zd zm_4084 (by decide +kernel)
theorem d_4084_115 {σ : Nat → Nat} {n0 : Nat} {bf : ab_B} : decode (ab_code (zx σ n0 bf).1 4084) 115 = .ok (.getfield 5, 3) := zd zm_4084 (by decide +kernel)
theorem d_4084_118 {σ : Nat → Nat} {n0 : Nat} {bf : ab_B} : decode (ab_code (zx σ n0 bf).1 4084) 118 = .ok (.getfield 40, 3) := zd zm_4084 (by decide +kernel)
theorem d_4084_121 {σ : Nat → Nat} {n0 : Nat} {bf : ab_B} : decode (ab_code (zx σ n0 bf).1 4084) 121 = .ok (.invokestatic 350, 3) := zd zm_4084 (by decide +kernel)
theorem d_4084_124 {σ : Nat → Nat} {n0 : Nat} {bf : ab_B} : decode (ab_code (zx σ n0 bf).1 4084) 124 = .ok (.invokevirtual 140, 3) := zd zm_4084 (by decide +kernel)
theorem d_4084_127 {σ : Nat → Nat} {n0 : Nat} {bf : ab_B} : decode (ab_code (zx σ n0 bf).1 4084) 127 = .ok (.pop, 1) := zd zm_4084 (by decide +kernel)
theorem d_4084_128 {σ : Nat → Nat} {n0 : Nat} {bf : ab_B} : decode (ab_code (zx σ n0 bf).1 4084) 128 = .ok (.aload_n 0, 1) := zd zm_4084 (by decide +kernel)
theorem d_4084_129 {σ : Nat → Nat} {n0 : Nat} {bf : ab_B} : decode (ab_code (zx σ n0 bf).1 4084) 129 = .ok (.getfield 194, 3) := zd zm_4084 (by decide +kernel)
theorem d_4084_132 {σ : Nat → Nat} {n0 : Nat} {bf : ab_B} : decode (ab_code (zx σ n0 bf).1 4084) 132 = .ok (.aload_n 0, 1) := zd zm_4084 (by decide +kernel)
theorem d_4084_133 {σ : Nat → Nat} {n0 : Nat} {bf : ab_B} : decode (ab_code (zx σ n0 bf).1 4084) 133 = .ok (.getfield 5, 3) := zd zm_4084 (by decide +kernel)
theorem d_4084_136 {σ : Nat → Nat} {n0 : Nat} {bf : ab_B} : decode (ab_code (zx σ n0 bf).1 4084) 136 = .ok (.getfield 11, 3) := zd zm_4084 (by decide +kernel)
theorem d_4084_139 {σ : Nat → Nat} {n0 : Nat} {bf : ab_B} : decode (ab_code (zx σ n0 bf).1 4084) 139 = .ok (.invokestatic 350, 3) := zd zm_4084 (by decide +kernel)
theorem d_4084_142 {σ : Nat → Nat} {n0 : Nat} {bf : ab_B} : decode (ab_code (zx σ n0 bf).1 4084) 142 = .ok (.invokevirtual 140, 3) := zd zm_4084 (by decide +kernel)
theorem d_4084_145 {σ : Nat → Nat} {n0 : Nat} {bf : ab_B} : decode (ab_code (zx σ n0 bf).1 4084) 145 = .ok (.pop, 1) := zd zm_4084 (by decide +kernel)
theorem d_4084_146 {σ : Nat → Nat} {n0 : Nat} {bf : ab_B} : decode (ab_code (zx σ n0 bf).1 4084) 146 = .ok (.aload_n 0, 1) := zd zm_4084 (by decide +kernel)
theorem d_4084_147 {σ : Nat → Nat} {n0 : Nat} {bf : ab_B} : decode (ab_code (zx σ n0 bf).1 4084) 147 = .ok (.getfield 5, 3) := zd zm_4084 (by decide +kernel)
theorem d_4084_150 {σ : Nat → Nat} {n0 : Nat} {bf : ab_B} : decode (ab_code (zx σ n0 bf).1 4084) 150 = .ok (.invokevirtual 29, 3) := zd zm_4084 (by decide +kernel)
theorem d_4084_153 {σ : Nat → Nat} {n0 : Nat} {bf : ab_B} : decode (ab_code (zx σ n0 bf).1 4084) 153 = .ok (.aload_n 1, 1) := zd zm_4084 (by decide +kernel)
theorem d_4084_154 {σ : Nat → Nat} {n0 : Nat} {bf : ab_B} : decode (ab_code (zx σ n0 bf).1 4084) 154 = .ok (.areturn, 1) := zd zm_4084 (by decide +kernel)
def w_X5_pointer_146 (X : zs_X) (d : Nat) (p0 : Nat) (p1 : Option Nat) (S : zs_T) (Q : zs_Q) : Prop :=
  (zs_K S p0 = some (.inl 4) ∧ ∃ b2, (zs_R S 4000 p0) = some b2 ∧ zs_K S b2 = some (.inl 5) ∧ zs_C X d 5004 [.ref b2] S (zs_kV (fun S5 => (Q (.returned (some (va_rf p1))) S5)) Q))
theorem u_X5_pointer_146 {σ : Nat → Nat} {n0 : Nat} {bf : ab_B} {d : Nat} {p0 : Nat} {p1 : Option Nat} {S : zs_T} {Q : zs_Q} (hB : zt_B bf) (h : w_X5_pointer_146 (zx σ n0 bf) d p0 p1 S Q) : zs_U (zx σ n0 bf) d 4084 146 [(0, .ref p0), (1, va_rf p1)] [] S Q := by
  unfold w_X5_pointer_146 at h
  refine zu_aload_n d_4084_146 rfl (zs_ra _) ?_
  obtain ⟨k1, h⟩ := h
  refine zg_4_5 rfl d_4084_147 k1 ?_
  obtain ⟨b2, e3, h⟩ := h
  refine zs_stk0 (zs_rfe e3) ?_
  obtain ⟨k4, h⟩ := h
  refine zc_4_29  hB rfl k4 d_4084_150 (Nat.le_of_ble_eq_true rfl) h (fun S5 h => ?_)
  refine zu_aload_n d_4084_153 rfl (zs_rr _) ?_
  exact zu_aret d_4084_154 zr_4084 (zs_rr _) h
def w_X5_pointer_128 (X : zs_X) (d : Nat) (p0 : Nat) (p1 : Option Nat) (S : zs_T) (Q : zs_Q) : Prop :=
  (zs_K S p0 = some (.inl 4) ∧ ∃ b2, (zs_R S 4000 p0) = some b2 ∧ zs_K S b2 = some (.inl 5) ∧ zs_C X d 21001 [.int (zs_I S 5005 b2)] S (zs_kR (fun v6 S5 => (∃ b7, (zs_R S 4015 p0) = some b7 ∧ zs_K S5 b7 = some (.inl 16) ∧ zs_C X d 16002 [.ref b7, va_rf v6] S5 (zs_kI (fun v11 S10 => (w_X5_pointer_146 X d p0 p1 S10 Q)) Q))) Q))
theorem u_X5_pointer_128 {σ : Nat → Nat} {n0 : Nat} {bf : ab_B} {d : Nat} {p0 : Nat} {p1 : Option Nat} {S : zs_T} {Q : zs_Q} (hB : zt_B bf) (h : w_X5_pointer_128 (zx σ n0 bf) d p0 p1 S Q) : zs_U (zx σ n0 bf) d 4084 128 [(0, .ref p0), (1, va_rf p1)] [] S Q := by
  unfold w_X5_pointer_128 at h
  refine zu_aload_n d_4084_128 rfl (zs_ra _) ?_
  obtain ⟨k1, h⟩ := h
  refine zg_4_194 rfl d_4084_129 k1 ?_
  refine zu_aload_n d_4084_132 rfl (zs_ra _) ?_
  refine zg_4_5 rfl d_4084_133 k1 ?_
  obtain ⟨b2, e3, h⟩ := h
  refine zs_stk0 (zs_rfe e3) ?_
  obtain ⟨k4, h⟩ := h
  refine zg_4_11 rfl d_4084_136 k4 ?_
  refine zc_4_350 (x0 := (zs_I S 5005 b2)) hB rfl d_4084_139 (by simp only [List.map_cons, List.map_nil, List.sum_cons, List.sum_nil, zs_cat, zs_cI, zs_cJ, zs_cA]; exact Nat.le_of_ble_eq_true rfl) h (fun v6 S5 h => ?_)
  obtain ⟨b7, e8, h⟩ := h
  refine zs_stk1 (zs_rfe e8) ?_
  obtain ⟨k9, h⟩ := h
  refine zc_4_140 (x0 := v6) hB rfl k9 d_4084_142 (Nat.le_of_ble_eq_true rfl) h (fun v11 S10 h => ?_)
  refine zu_pop d_4084_145 rfl ?_
  exact (u_X5_pointer_146 hB h).weak ⟨rfl, rfl, trivial⟩
def w_X5_pointer_73 (X : zs_X) (d : Nat) (p0 : Nat) (p1 : Option Nat) (p2 : Option Nat) (S : zs_T) (Q : zs_Q) : Prop :=
  (((p2 = none → (zs_K S p0 = some (.inl 4) ∧ ((¬ (zs_I S 4017 p0) = 0 → (∃ b5, (zs_R S 4013 p0) = some b5 ∧ zs_K S b5 = some (.inl 16) ∧ zs_C X d 16002 [.ref b5, va_rf p1] S (zs_kI (fun v9 S8 => (zs_K S8 p0 = some (.inl 4) ∧ ∃ b11, (zs_R S8 4000 p0) = some b11 ∧ zs_K S8 b11 = some (.inl 5) ∧ zs_C X d 21001 [.int (zs_I S8 5004 b11)] S8 (zs_kR (fun v15 S14 => (∃ b16, (zs_R S8 4014 p0) = some b16 ∧ zs_K S14 b16 = some (.inl 16) ∧ zs_C X d 16002 [.ref b16, va_rf v15] S14 (zs_kI (fun v20 S19 => (w_X5_pointer_128 X d p0 p1 S19 Q)) Q))) Q))) Q))) ∧ (¬ (¬ (zs_I S 4017 p0) = 0) → (zs_C X d 4006 [.ref p0, .int (3 : Int32)] S (zs_kR (fun v22 S21 => (∃ b23, v22 = some b23 ∧ Q (.threw b23) S21)) Q)))))) ∧ (∀ b1, p2 = some b1 → (zs_K S b1 = some (.inl 7) ∧ ∃ b26, p1 = some b26 ∧ zs_K S b26 = some (.inl 6) ∧ ab_n0 X.1 ≤ b26 ∧ ∀ S30, S30 = zs_sR S 6002 b26 (zs_R S 7002 b1) → w_X5_pointer_146 X d p0 p1 S30 Q))))
theorem u_X5_pointer_73 {σ : Nat → Nat} {n0 : Nat} {bf : ab_B} {d : Nat} {p0 : Nat} {p1 : Option Nat} {p2 : Option Nat} {S : zs_T} {Q : zs_Q} (hB : zt_B bf) (h : w_X5_pointer_73 (zx σ n0 bf) d p0 p1 p2 S Q) : zs_U (zx σ n0 bf) d 4084 73 [(0, .ref p0), (1, va_rf p1), (2, va_rf p2)] [] S Q := by
  unfold w_X5_pointer_73 at h
  refine zu_aload_n d_4084_73 rfl (zs_rr _) ?_
  refine zu_ifnull (u := p2) (t := 88) d_4084_74 rfl rfl (fun e2 => ?_) (fun b1 e2 => ?_)
  · have h := h.1 e2
    refine zu_aload_n d_4084_88 rfl (zs_ra _) ?_
    obtain ⟨k3, h⟩ := h
    refine zg_4_203 rfl d_4084_89 k3 ?_
    refine zu_ifne (t := 101) d_4084_92 rfl (fun c4 => ?_) (fun c4 => ?_)
    · have h := h.1 c4
      refine zu_aload_n d_4084_101 rfl (zs_ra _) ?_
      refine zg_4_186 rfl d_4084_102 k3 ?_
      refine zu_aload_n d_4084_105 rfl (zs_rr _) ?_
      obtain ⟨b5, e6, h⟩ := h
      refine zs_stk1 (zs_rfe e6) ?_
      obtain ⟨k7, h⟩ := h
      refine zc_4_140 (x0 := p1) hB rfl k7 d_4084_106 (Nat.le_of_ble_eq_true rfl) h (fun v9 S8 h => ?_)
      refine zu_pop d_4084_109 rfl ?_
      refine zu_aload_n d_4084_110 rfl (zs_ra _) ?_
      obtain ⟨k10, h⟩ := h
      refine zg_4_191 rfl d_4084_111 k10 ?_
      refine zu_aload_n d_4084_114 rfl (zs_ra _) ?_
      refine zg_4_5 rfl d_4084_115 k10 ?_
      obtain ⟨b11, e12, h⟩ := h
      refine zs_stk0 (zs_rfe e12) ?_
      obtain ⟨k13, h⟩ := h
      refine zg_4_40 rfl d_4084_118 k13 ?_
      refine zc_4_350 (x0 := (zs_I S8 5004 b11)) hB rfl d_4084_121 (by simp only [List.map_cons, List.map_nil, List.sum_cons, List.sum_nil, zs_cat, zs_cI, zs_cJ, zs_cA]; exact Nat.le_of_ble_eq_true rfl) h (fun v15 S14 h => ?_)
      obtain ⟨b16, e17, h⟩ := h
      refine zs_stk1 (zs_rfe e17) ?_
      obtain ⟨k18, h⟩ := h
      refine zc_4_140 (x0 := v15) hB rfl k18 d_4084_124 (Nat.le_of_ble_eq_true rfl) h (fun v20 S19 h => ?_)
      refine zu_pop d_4084_127 rfl ?_
      exact (u_X5_pointer_128 hB h).weak ⟨rfl, rfl, trivial⟩
    · have h := h.2 c4
      refine zu_aload_n d_4084_95 rfl (zs_ra _) ?_
      refine zu_iconst d_4084_96 zi_3 ?_
      refine zc_4_25 (x0 := (3 : Int32)) hB rfl k3 d_4084_97 (Nat.le_of_ble_eq_true rfl) h (fun v22 S21 h => ?_)
      obtain ⟨b23, e24, h⟩ := h
      refine zs_stk0 (zs_rfe e24) ?_
      exact zu_throw d_4084_100 h
  · have h := h.2 b1 e2
    refine zu_aload_n d_4084_77 rfl (zs_rr _) ?_
    refine zu_aload_n d_4084_78 rfl (zs_rr _) ?_
    refine zs_stk0 (zs_rfe e2) ?_
    obtain ⟨k25, h⟩ := h
    refine zg_4_65 rfl d_4084_79 k25 ?_
    obtain ⟨b26, e27, h⟩ := h
    refine zs_stk1 (zs_rfe e27) ?_
    obtain ⟨k28, h⟩ := h
    obtain ⟨k29, h⟩ := h
    refine zp_4_320 (v := (zs_R S 7002 b1)) rfl d_4084_82 k28 k29 ?_
    generalize e31 : zs_sR S 6002 b26 (zs_R S 7002 b1) = S30
    have h := h S30 e31.symm
    have K32 : ∀ b, zs_K S30 b = zs_K S b := zs_Kt e31 (zs_KsR _ _ _ _) (fun _ => rfl)
    refine zu_goto (t := 146) d_4084_85 rfl ?_
    exact (u_X5_pointer_146 hB h).weak ⟨rfl, rfl, trivial⟩
def w_X5_pointer_55 (X : zs_X) (d : Nat) (p0 : Nat) (p1 : Option Nat) (p2 : Option Nat) (S : zs_T) (Q : zs_Q) : Prop :=
  (((p2 = none → w_X5_pointer_73 X d p0 p1 p2 S Q) ∧ (∀ b1, p2 = some b1 → (zs_K S b1 = some (.inl 7) ∧ (((zs_I S 7001 b1) = (1 : Int32) → w_X5_pointer_73 X d p0 p1 p2 S Q) ∧ (¬ ((zs_I S 7001 b1) = (1 : Int32)) → (zs_K S p0 = some (.inl 4) ∧ zs_C X d 4006 [.ref p0, .int (3 : Int32)] S (zs_kR (fun v7 S6 => (∃ b8, v7 = some b8 ∧ Q (.threw b8) S6)) Q))))))))
theorem u_X5_pointer_55 {σ : Nat → Nat} {n0 : Nat} {bf : ab_B} {d : Nat} {p0 : Nat} {p1 : Option Nat} {p2 : Option Nat} {S : zs_T} {Q : zs_Q} (hB : zt_B bf) (h : w_X5_pointer_55 (zx σ n0 bf) d p0 p1 p2 S Q) : zs_U (zx σ n0 bf) d 4084 55 [(0, .ref p0), (1, va_rf p1), (2, va_rf p2)] [] S Q := by
  unfold w_X5_pointer_55 at h
  refine zu_aload_n d_4084_55 rfl (zs_rr _) ?_
  refine zu_ifnull (u := p2) (t := 73) d_4084_56 rfl rfl (fun e2 => ?_) (fun b1 e2 => ?_)
  · have h := h.1 e2
    exact (u_X5_pointer_73 hB h).weak ⟨rfl, rfl, rfl, trivial⟩
  · have h := h.2 b1 e2
    refine zu_aload_n d_4084_59 rfl (zs_rr _) ?_
    refine zs_stk0 (zs_rfe e2) ?_
    obtain ⟨k3, h⟩ := h
    refine zg_4_62 rfl d_4084_60 k3 ?_
    refine zu_iconst d_4084_63 zi_1 ?_
    refine zu_cmpeq (t := 73) d_4084_64 rfl (fun c4 => ?_) (fun c4 => ?_)
    · have h := h.1 c4
      exact (u_X5_pointer_73 hB h).weak ⟨rfl, rfl, rfl, trivial⟩
    · have h := h.2 c4
      refine zu_aload_n d_4084_67 rfl (zs_ra _) ?_
      refine zu_iconst d_4084_68 zi_3 ?_
      obtain ⟨k5, h⟩ := h
      refine zc_4_25 (x0 := (3 : Int32)) hB rfl k5 d_4084_69 (Nat.le_of_ble_eq_true rfl) h (fun v7 S6 h => ?_)
      obtain ⟨b8, e9, h⟩ := h
      refine zs_stk0 (zs_rfe e9) ?_
      exact zu_throw d_4084_72 h
def w_X5_pointer (X : zs_X) (d : Nat) (p0 : Nat) (S : zs_T) (Q : zs_Q) : Prop :=
  (zs_K S p0 = some (.inl 4) ∧ ∃ b2, (zs_R S 4000 p0) = some b2 ∧ zs_K S b2 = some (.inl 5) ∧ zs_C X d 5004 [.ref b2] S (zs_kV (fun S5 => (zs_K S5 p0 = some (.inl 4) ∧ zs_C X d 4002 [.ref p0, .int (9 : Int32)] S5 (zs_kR (fun v9 S8 => (zs_K S8 p0 = some (.inl 4) ∧ ∃ b11, (zs_R S8 4000 p0) = some b11 ∧ zs_K S8 b11 = some (.inl 5) ∧ zs_C X d 5016 [.ref b11] S8 (zs_kI (fun v15 S14 => (((¬ v15 = 0 → (zs_K S14 p0 = some (.inl 4) ∧ zs_C X d 4062 [.ref p0] S14 (zs_kI (fun v19 S18 => (((v19 = 0 → (zs_K S18 p0 = some (.inl 4) ∧ ∃ b22, (zs_R S18 4000 p0) = some b22 ∧ zs_K S18 b22 = some (.inl 5) ∧ zs_C X d 4028 [.ref p0, .int (zs_I S18 5004 b22)] S18 (zs_kR (fun v26 S25 => (w_X5_pointer_55 X d p0 v9 v26 S25 Q)) Q))) ∧ (¬ (v19 = 0) → (zs_K S18 p0 = some (.inl 4) ∧ zs_C X d 4006 [.ref p0, .int (3 : Int32)] S18 (zs_kR (fun v29 S28 => (∃ b30, v29 = some b30 ∧ Q (.threw b30) S28)) Q)))))) Q))) ∧ (¬ (¬ v15 = 0) → (zs_K S14 p0 = some (.inl 4) ∧ zs_C X d 4006 [.ref p0, .int (2 : Int32)] S14 (zs_kR (fun v34 S33 => (∃ b35, v34 = some b35 ∧ Q (.threw b35) S33)) Q)))))) Q))) Q))) Q))
theorem u_X5_pointer {σ : Nat → Nat} {n0 : Nat} {bf : ab_B} {d : Nat} {p0 : Nat} {S : zs_T} {Q : zs_Q} (hB : zt_B bf) (hd : 1 ≤ d) (h : w_X5_pointer (zx σ n0 bf) (d - 1) p0 S Q) : zs_C (zx σ n0 bf) d 4084 [.ref p0] S Q := by
  have hL : lv_args 0 [.ref p0] = [(0, .ref p0)] := rfl
  refine zs_C.of1 (hB.2 4084 (by decide) (by decide)) hd (by rw [hL]; exact zs_sub_self _ (by exact ⟨rfl, trivial⟩)) ?_
  rw [hL]
  clear hL
  unfold w_X5_pointer at h
  refine zu_aload_n d_4084_0 rfl (zs_ra _) ?_
  obtain ⟨k1, h⟩ := h
  refine zg_4_5 rfl d_4084_1 k1 ?_
  obtain ⟨b2, e3, h⟩ := h
  refine zs_stk0 (zs_rfe e3) ?_
  obtain ⟨k4, h⟩ := h
  refine zc_4_29  hB rfl k4 d_4084_4 (Nat.le_of_ble_eq_true rfl) h (fun S5 h => ?_)
  refine zu_aload_n d_4084_7 rfl (zs_ra _) ?_
  refine zu_bipush d_4084_8 zj_9 ?_
  obtain ⟨k7, h⟩ := h
  refine zc_4_144 (x0 := (9 : Int32)) hB rfl k7 d_4084_10 (Nat.le_of_ble_eq_true rfl) h (fun v9 S8 h => ?_)
  refine zu_astore_n d_4084_13 (zs_rr _) (zs_lt zq_4084 rfl) ?_
  refine zu_aload_n d_4084_14 rfl (zs_ra _) ?_
  obtain ⟨k10, h⟩ := h
  refine zg_4_5 rfl d_4084_15 k10 ?_
  obtain ⟨b11, e12, h⟩ := h
  refine zs_stk0 (zs_rfe e12) ?_
  obtain ⟨k13, h⟩ := h
  refine zc_4_36  hB rfl k13 d_4084_18 (Nat.le_of_ble_eq_true rfl) h (fun v15 S14 h => ?_)
  refine zu_ifne (t := 30) d_4084_21 rfl (fun c16 => ?_) (fun c16 => ?_)
  · have h := h.1 c16
    refine zu_aload_n d_4084_30 rfl (zs_ra _) ?_
    obtain ⟨k17, h⟩ := h
    refine zc_4_354  hB rfl k17 d_4084_31 (Nat.le_of_ble_eq_true rfl) h (fun v19 S18 h => ?_)
    refine zu_ifeq (t := 43) d_4084_34 rfl (fun c20 => ?_) (fun c20 => ?_)
    · have h := h.1 c20
      refine zu_aload_n d_4084_43 rfl (zs_ra _) ?_
      refine zu_aload_n d_4084_44 rfl (zs_ra _) ?_
      obtain ⟨k21, h⟩ := h
      refine zg_4_5 rfl d_4084_45 k21 ?_
      obtain ⟨b22, e23, h⟩ := h
      refine zs_stk0 (zs_rfe e23) ?_
      obtain ⟨k24, h⟩ := h
      refine zg_4_40 rfl d_4084_48 k24 ?_
      refine zc_4_318 (x0 := (zs_I S18 5004 b22)) hB rfl k21 d_4084_51 (Nat.le_of_ble_eq_true rfl) h (fun v26 S25 h => ?_)
      refine zu_astore_n d_4084_54 (zs_rr _) (zs_lt zq_4084 rfl) ?_
      refine zs_U.weak (L1 := [(2, va_rf v26), (0, .ref p0), (1, va_rf v9)]) ?_ ⟨rfl, zs_gp1 rfl (Or.inl rfl) rfl, zs_gp1 rfl (Or.inl (zs_cat _)) rfl, trivial⟩
      exact (u_X5_pointer_55 hB h).weak ⟨rfl, rfl, rfl, trivial⟩
    · have h := h.2 c20
      refine zu_aload_n d_4084_37 rfl (zs_ra _) ?_
      refine zu_iconst d_4084_38 zi_3 ?_
      obtain ⟨k27, h⟩ := h
      refine zc_4_25 (x0 := (3 : Int32)) hB rfl k27 d_4084_39 (Nat.le_of_ble_eq_true rfl) h (fun v29 S28 h => ?_)
      obtain ⟨b30, e31, h⟩ := h
      refine zs_stk0 (zs_rfe e31) ?_
      exact zu_throw d_4084_42 h
  · have h := h.2 c16
    refine zu_aload_n d_4084_24 rfl (zs_ra _) ?_
    refine zu_iconst d_4084_25 zi_2 ?_
    obtain ⟨k32, h⟩ := h
    refine zc_4_25 (x0 := (2 : Int32)) hB rfl k32 d_4084_26 (Nat.le_of_ble_eq_true rfl) h (fun v34 S33 h => ?_)
    obtain ⟨b35, e36, h⟩ := h
    refine zs_stk0 (zs_rfe e36) ?_
    exact zu_throw d_4084_29 h
/-! SchemaPascal$Reader.whole(LSchemaPascal$Type;)V -/
theorem zm_4085 {σ : Nat → Nat} {n0 : Nat} {bf : ab_B} : ab_code (zx σ n0 bf).1 4085 = prog_9_method_22_code := rfl
theorem zq_4085 {σ : Nat → Nat} {n0 : Nat} {bf : ab_B} : ab_maxL (zx σ n0 bf).1 4085 = 4 := rfl
theorem zr_4085 {σ : Nat → Nat} {n0 : Nat} {bf : ab_B} : ab_ret (zx σ n0 bf).1 4085 = (Option.none : Option Jvm.ClassFile.FieldType) := rfl
theorem d_4085_0 {σ : Nat → Nat} {n0 : Nat} {bf : ab_B} : decode (ab_code (zx σ n0 bf).1 4085) 0 = .ok (.aload_n 1, 1) := zd zm_4085 (by decide +kernel)
theorem d_4085_1 {σ : Nat → Nat} {n0 : Nat} {bf : ab_B} : decode (ab_code (zx σ n0 bf).1 4085) 1 = .ok (.invokestatic 377, 3) := zd zm_4085 (by decide +kernel)
theorem d_4085_4 {σ : Nat → Nat} {n0 : Nat} {bf : ab_B} : decode (ab_code (zx σ n0 bf).1 4085) 4 = .ok (.istore_n 2, 1) := zd zm_4085 (by decide +kernel)
theorem d_4085_5 {σ : Nat → Nat} {n0 : Nat} {bf : ab_B} : decode (ab_code (zx σ n0 bf).1 4085) 5 = .ok (.iload_n 2, 1) := zd zm_4085 (by decide +kernel)
theorem d_4085_6 {σ : Nat → Nat} {n0 : Nat} {bf : ab_B} : decode (ab_code (zx σ n0 bf).1 4085) 6 = .ok (.ifCond .eq 18, 3) := zd zm_4085 (by decide +kernel)
theorem d_4085_9 {σ : Nat → Nat} {n0 : Nat} {bf : ab_B} : decode (ab_code (zx σ n0 bf).1 4085) 9 = .ok (.aload_n 0, 1) := zd zm_4085 (by decide +kernel)
theorem d_4085_10 {σ : Nat → Nat} {n0 : Nat} {bf : ab_B} : decode (ab_code (zx σ n0 bf).1 4085) 10 = .ok (.aload_n 1, 1) := zd zm_4085 (by decide +kernel)
theorem d_4085_11 {σ : Nat → Nat} {n0 : Nat} {bf : ab_B} : decode (ab_code (zx σ n0 bf).1 4085) 11 = .ok (.invokevirtual 381, 3) := zd zm_4085 (by decide +kernel)
theorem d_4085_14 {σ : Nat → Nat} {n0 : Nat} {bf : ab_B} : decode (ab_code (zx σ n0 bf).1 4085) 14 = .ok (.ifCond .ne 10, 3) := zd zm_4085 (by decide +kernel)
theorem d_4085_17 {σ : Nat → Nat} {n0 : Nat} {bf : ab_B} : decode (ab_code (zx σ n0 bf).1 4085) 17 = .ok (.aload_n 0, 1) := zd zm_4085 (by decide +kernel)
theorem d_4085_18 {σ : Nat → Nat} {n0 : Nat} {bf : ab_B} : decode (ab_code (zx σ n0 bf).1 4085) 18 = .ok (.bipush 7, 2) := zd zm_4085 (by decide +kernel)
theorem d_4085_20 {σ : Nat → Nat} {n0 : Nat} {bf : ab_B} : decode (ab_code (zx σ n0 bf).1 4085) 20 = .ok (.invokevirtual 25, 3) := zd zm_4085 (by decide +kernel)
theorem d_4085_23 {σ : Nat → Nat} {n0 : Nat} {bf : ab_B} : decode (ab_code (zx σ n0 bf).1 4085) 23 = .ok (.athrow, 1) := zd zm_4085 (by decide +kernel)
theorem d_4085_24 {σ : Nat → Nat} {n0 : Nat} {bf : ab_B} : decode (ab_code (zx σ n0 bf).1 4085) 24 = .ok (.aload_n 1, 1) := zd zm_4085 (by decide +kernel)
theorem d_4085_25 {σ : Nat → Nat} {n0 : Nat} {bf : ab_B} : decode (ab_code (zx σ n0 bf).1 4085) 25 = .ok (.getfield 320, 3) := zd zm_4085 (by decide +kernel)
theorem d_4085_28 {σ : Nat → Nat} {n0 : Nat} {bf : ab_B} : decode (ab_code (zx σ n0 bf).1 4085) 28 = .ok (.astore_n 3, 1) := zd zm_4085 (by decide +kernel)
theorem d_4085_29 {σ : Nat → Nat} {n0 : Nat} {bf : ab_B} : decode (ab_code (zx σ n0 bf).1 4085) 29 = .ok (.aload_n 1, 1) := zd zm_4085 (by decide +kernel)
theorem d_4085_30 {σ : Nat → Nat} {n0 : Nat} {bf : ab_B} : decode (ab_code (zx σ n0 bf).1 4085) 30 = .ok (.getfield 369, 3) := zd zm_4085 (by decide +kernel)
theorem d_4085_33 {σ : Nat → Nat} {n0 : Nat} {bf : ab_B} : decode (ab_code (zx σ n0 bf).1 4085) 33 = .ok (.bipush 7, 2) := zd zm_4085 (by decide +kernel)
theorem d_4085_35 {σ : Nat → Nat} {n0 : Nat} {bf : ab_B} : decode (ab_code (zx σ n0 bf).1 4085) 35 = .ok (.if_icmp .ne 50, 3) := zd zm_4085 (by decide +kernel)
theorem d_4085_38 {σ : Nat → Nat} {n0 : Nat} {bf : ab_B} : decode (ab_code (zx σ n0 bf).1 4085) 38 = .ok (.aload_n 3, 1) := zd zm_4085 (by decide +kernel)
theorem d_4085_39 {σ : Nat → Nat} {n0 : Nat} {bf : ab_B} : decode (ab_code (zx σ n0 bf).1 4085) 39 = .ok (.getfield 369, 3) := zd zm_4085 (by decide +kernel)
theorem d_4085_42 {σ : Nat → Nat} {n0 : Nat} {bf : ab_B} : decode (ab_code (zx σ n0 bf).1 4085) 42 = .ok (.bipush 7, 2) := zd zm_4085 (by decide +kernel)
theorem d_4085_44 {σ : Nat → Nat} {n0 : Nat} {bf : ab_B} : decode (ab_code (zx σ n0 bf).1 4085) 44 = .ok (.if_icmp .ne 41, 3) := zd zm_4085 (by decide +kernel)
theorem d_4085_47 {σ : Nat → Nat} {n0 : Nat} {bf : ab_B} : decode (ab_code (zx σ n0 bf).1 4085) 47 = .ok (.aload_n 3, 1) := zd zm_4085 (by decide +kernel)
theorem d_4085_48 {σ : Nat → Nat} {n0 : Nat} {bf : ab_B} : decode (ab_code (zx σ n0 bf).1 4085) 48 = .ok (.getfield 370, 3) := zd zm_4085 (by decide +kernel)
theorem d_4085_51 {σ : Nat → Nat} {n0 : Nat} {bf : ab_B} : decode (ab_code (zx σ n0 bf).1 4085) 51 = .ok (.iconst (-1), 1) := zd zm_4085 (by decide +kernel)
theorem d_4085_52 {σ : Nat → Nat} {n0 : Nat} {bf : ab_B} : decode (ab_code (zx σ n0 bf).1 4085) 52 = .ok (.if_icmp .ne 33, 3) := zd zm_4085 (by decide +kernel)
theorem d_4085_55 {σ : Nat → Nat} {n0 : Nat} {bf : ab_B} : decode (ab_code (zx σ n0 bf).1 4085) 55 = .ok (.aload_n 3, 1) := zd zm_4085 (by decide +kernel)
theorem d_4085_56 {σ : Nat → Nat} {n0 : Nat} {bf : ab_B} : decode (ab_code (zx σ n0 bf).1 4085) 56 = .ok (.invokestatic 377, 3) := zd zm_4085 (by decide +kernel)
theorem d_4085_59 {σ : Nat → Nat} {n0 : Nat} {bf : ab_B} : decode (ab_code (zx σ n0 bf).1 4085) 59 = .ok (.ifCond .eq 18, 3) := zd zm_4085 (by decide +kernel)
theorem d_4085_62 {σ : Nat → Nat} {n0 : Nat} {bf : ab_B} : decode (ab_code (zx σ n0 bf).1 4085) 62 = .ok (.aload_n 0, 1) := zd zm_4085 (by decide +kernel)
theorem d_4085_63 {σ : Nat → Nat} {n0 : Nat} {bf : ab_B} : decode (ab_code (zx σ n0 bf).1 4085) 63 = .ok (.aload_n 3, 1) := zd zm_4085 (by decide +kernel)
theorem d_4085_64 {σ : Nat → Nat} {n0 : Nat} {bf : ab_B} : decode (ab_code (zx σ n0 bf).1 4085) 64 = .ok (.invokevirtual 381, 3) := zd zm_4085 (by decide +kernel)
theorem d_4085_67 {σ : Nat → Nat} {n0 : Nat} {bf : ab_B} : decode (ab_code (zx σ n0 bf).1 4085) 67 = .ok (.ifCond .ne 10, 3) := zd zm_4085 (by decide +kernel)
theorem d_4085_70 {σ : Nat → Nat} {n0 : Nat} {bf : ab_B} : decode (ab_code (zx σ n0 bf).1 4085) 70 = .ok (.aload_n 0, 1) := zd zm_4085 (by decide +kernel)
theorem d_4085_71 {σ : Nat → Nat} {n0 : Nat} {bf : ab_B} : decode (ab_code (zx σ n0 bf).1 4085) 71 = .ok (.bipush 7, 2) := zd zm_4085 (by decide +kernel)
theorem d_4085_73 {σ : Nat → Nat} {n0 : Nat} {bf : ab_B} : decode (ab_code (zx σ n0 bf).1 4085) 73 = .ok (.invokevirtual 25, 3) := zd zm_4085 (by decide +kernel)
theorem d_4085_76 {σ : Nat → Nat} {n0 : Nat} {bf : ab_B} : decode (ab_code (zx σ n0 bf).1 4085) 76 = .ok (.athrow, 1) := zd zm_4085 (by decide +kernel)
theorem d_4085_77 {σ : Nat → Nat} {n0 : Nat} {bf : ab_B} : decode (ab_code (zx σ n0 bf).1 4085) 77 = .ok (.aload_n 3, 1) := zd zm_4085 (by decide +kernel)
theorem d_4085_78 {σ : Nat → Nat} {n0 : Nat} {bf : ab_B} : decode (ab_code (zx σ n0 bf).1 4085) 78 = .ok (.getfield 320, 3) := zd zm_4085 (by decide +kernel)
theorem d_4085_81 {σ : Nat → Nat} {n0 : Nat} {bf : ab_B} : decode (ab_code (zx σ n0 bf).1 4085) 81 = .ok (.astore_n 3, 1) := zd zm_4085 (by decide +kernel)
theorem d_4085_82 {σ : Nat → Nat} {n0 : Nat} {bf : ab_B} : decode (ab_code (zx σ n0 bf).1 4085) 82 = .ok (.goto (-53), 3) := zd zm_4085 (by decide +kernel)
theorem d_4085_85 {σ : Nat → Nat} {n0 : Nat} {bf : ab_B} : decode (ab_code (zx σ n0 bf).1 4085) 85 = .ok (.aload_n 1, 1) := zd zm_4085 (by decide +kernel)
theorem d_4085_86 {σ : Nat → Nat} {n0 : Nat} {bf : ab_B} : decode (ab_code (zx σ n0 bf).1 4085) 86 = .ok (.iload_n 2, 1) := zd zm_4085 (by decide +kernel)
theorem d_4085_87 {σ : Nat → Nat} {n0 : Nat} {bf : ab_B} : decode (ab_code (zx σ n0 bf).1 4085) 87 = .ok (.ifCond .eq 7, 3) := zd zm_4085 (by decide +kernel)
theorem d_4085_90 {σ : Nat → Nat} {n0 : Nat} {bf : ab_B} : decode (ab_code (zx σ n0 bf).1 4085) 90 = .ok (.iconst 1, 1) := zd zm_4085 (by decide +kernel)
theorem d_4085_91 {σ : Nat → Nat} {n0 : Nat} {bf : ab_B} : decode (ab_code (zx σ n0 bf).1 4085) 91 = .ok (.goto 4, 3) := zd zm_4085 (by decide +kernel)
theorem d_4085_94 {σ : Nat → Nat} {n0 : Nat} {bf : ab_B} : decode (ab_code (zx σ n0 bf).1 4085) 94 = .ok (.iconst 0, 1) := zd zm_4085 (by decide +kernel)
theorem d_4085_95 {σ : Nat → Nat} {n0 : Nat} {bf : ab_B} : decode (ab_code (zx σ n0 bf).1 4085) 95 = .ok (.putfield 370, 3) := zd zm_4085 (by decide +kernel)
theorem d_4085_98 {σ : Nat → Nat} {n0 : Nat} {bf : ab_B} : decode (ab_code (zx σ n0 bf).1 4085) 98 = .ok (.aload_n 1, 1) := zd zm_4085 (by decide +kernel)
theorem d_4085_99 {σ : Nat → Nat} {n0 : Nat} {bf : ab_B} : decode (ab_code (zx σ n0 bf).1 4085) 99 = .ok (.iload_n 2, 1) := zd zm_4085 (by decide +kernel)
theorem d_4085_100 {σ : Nat → Nat} {n0 : Nat} {bf : ab_B} : decode (ab_code (zx σ n0 bf).1 4085) 100 = .ok (.ifCond .eq 15, 3) := zd zm_4085 (by decide +kernel)
theorem d_4085_103 {σ : Nat → Nat} {n0 : Nat} {bf : ab_B} : decode (ab_code (zx σ n0 bf).1 4085) 103 = .ok (.aload_n 0, 1) := zd zm_4085 (by decide +kernel)
theorem d_4085_104 {σ : Nat → Nat} {n0 : Nat} {bf : ab_B} : decode (ab_code (zx σ n0 bf).1 4085) 104 = .ok (.getfield 384, 3) := zd zm_4085 (by decide +kernel)
theorem d_4085_107 {σ : Nat → Nat} {n0 : Nat} {bf : ab_B} : decode (ab_code (zx σ n0 bf).1 4085) 107 = .ok (.aload_n 1, 1) := zd zm_4085 (by decide +kernel)
theorem d_4085_108 {σ : Nat → Nat} {n0 : Nat} {bf : ab_B} : decode (ab_code (zx σ n0 bf).1 4085) 108 = .ok (.iconst (-1), 1) := zd zm_4085 (by decide +kernel)
theorem d_4085_109 {σ : Nat → Nat} {n0 : Nat} {bf : ab_B} : decode (ab_code (zx σ n0 bf).1 4085) 109 = .ok (.invokevirtual 388, 3) := zd zm_4085 (by decide +kernel)
theorem d_4085_112 {σ : Nat → Nat} {n0 : Nat} {bf : ab_B} : decode (ab_code (zx σ n0 bf).1 4085) 112 = .ok (.goto 6, 3) := zd zm_4085 (by decide +kernel)
theorem d_4085_115 {σ : Nat → Nat} {n0 : Nat} {bf : ab_B} : decode (ab_code (zx σ n0 bf).1 4085) 115 = .ok (.ldc2_w 394, 3) := zd zm_4085 (by decide +kernel)
theorem d_4085_118 {σ : Nat → Nat} {n0 : Nat} {bf : ab_B} : decode (ab_code (zx σ n0 bf).1 4085) 118 = .ok (.putfield 396, 3) := zd zm_4085 (by decide +kernel)
theorem d_4085_121 {σ : Nat → Nat} {n0 : Nat} {bf : ab_B} : decode (ab_code (zx σ n0 bf).1 4085) 121 = .ok (.return_, 1) := zd zm_4085 (by decide +kernel)
def w_X5_whole_95 (X : zs_X) (d : Nat) (p0 : Nat) (p1 : Option Nat) (p2 : Int32) (q0 : Option Nat) (q1 : Int32) (S : zs_T) (Q : zs_Q) : Prop :=
  (∃ b1, q0 = some b1 ∧ zs_K S b1 = some (.inl 6) ∧ ab_n0 X.1 ≤ b1 ∧ ∀ S5, S5 = zs_sI S 6011 b1 q1 → ((p2 = 0 → (∃ b9, p1 = some b9 ∧ zs_K S b9 = some (.inl 6) ∧ ab_n0 X.1 ≤ b9 ∧ ∀ S13, S13 = zs_sJ S5 6012 b9 (-1 : Int64) → Q (.returned none) S13)) ∧ (¬ (p2 = 0) → (zs_K S p0 = some (.inl 4) ∧ ∃ b17, (zs_R S5 4018 p0) = some b17 ∧ zs_K S b17 = some (.inl 2) ∧ zs_C X d 2007 [.ref b17, va_rf p1, .int (-1 : Int32)] S5 (zs_kJ (fun v21 S20 => (∃ b22, p1 = some b22 ∧ zs_K S20 b22 = some (.inl 6) ∧ ab_n0 X.1 ≤ b22 ∧ ∀ S26, S26 = zs_sJ S20 6012 b22 v21 → Q (.returned none) S26)) Q)))))
theorem u_X5_whole_95 {σ : Nat → Nat} {n0 : Nat} {bf : ab_B} {d : Nat} {p0 : Nat} {p1 : Option Nat} {p2 : Int32} {q0 : Option Nat} {q1 : Int32} {S : zs_T} {Q : zs_Q} (hB : zt_B bf) (h : w_X5_whole_95 (zx σ n0 bf) d p0 p1 p2 q0 q1 S Q) : zs_U (zx σ n0 bf) d 4085 95 [(0, .ref p0), (1, va_rf p1), (2, .int p2)] [.int q1, va_rf q0] S Q := by
  unfold w_X5_whole_95 at h
  obtain ⟨b1, e2, h⟩ := h
  refine zs_stk1 (zs_rfe e2) ?_
  obtain ⟨k3, h⟩ := h
  obtain ⟨k4, h⟩ := h
  refine zp_4_370 (v := q1) rfl d_4085_95 k3 k4 ?_
  generalize e6 : zs_sI S 6011 b1 q1 = S5
  have h := h S5 e6.symm
  have K7 : ∀ b, zs_K S5 b = zs_K S b := zs_Kt e6 (zs_KsI _ _ _ _) (fun _ => rfl)
  refine zu_aload_n d_4085_98 rfl (zs_rr _) ?_
  refine zu_iload_n d_4085_99 rfl ?_
  refine zu_ifeq (t := 115) d_4085_100 rfl (fun c8 => ?_) (fun c8 => ?_)
  · have h := h.1 c8
    refine zl2_4_394 rfl d_4085_115 ?_
    obtain ⟨b9, e10, h⟩ := h
    refine zs_stk1 (zs_rfe e10) ?_
    obtain ⟨k11, h⟩ := h
    obtain ⟨k12, h⟩ := h
    refine zp_4_396 (v := (-1 : Int64)) rfl d_4085_118 ((K7 _).trans k11) k12 ?_
    generalize e14 : zs_sJ S5 6012 b9 (-1 : Int64) = S13
    have h := h S13 e14.symm
    have K15 : ∀ b, zs_K S13 b = zs_K S b := zs_Kt e14 (zs_KsJ _ _ _ _) K7
    exact zu_vret d_4085_121 zr_4085 h
  · have h := h.2 c8
    refine zu_aload_n d_4085_103 rfl (zs_ra _) ?_
    obtain ⟨k16, h⟩ := h
    refine zg_4_384 rfl d_4085_104 ((K7 _).trans k16) ?_
    refine zu_aload_n d_4085_107 rfl (zs_rr _) ?_
    refine zu_iconst d_4085_108 zi_m1 ?_
    obtain ⟨b17, e18, h⟩ := h
    refine zs_stk2 (zs_rfe e18) ?_
    obtain ⟨k19, h⟩ := h
    refine zc_4_388 (x0 := p1) (x1 := (-1 : Int32)) hB rfl ((K7 _).trans k19) d_4085_109 (by simp only [List.map_cons, List.map_nil, List.sum_cons, List.sum_nil, zs_cat, zs_cI, zs_cJ, zs_cA]; exact Nat.le_of_ble_eq_true rfl) h (fun v21 S20 h => ?_)
    refine zu_goto (t := 118) d_4085_112 rfl ?_
    obtain ⟨b22, e23, h⟩ := h
    refine zs_stk1 (zs_rfe e23) ?_
    obtain ⟨k24, h⟩ := h
    obtain ⟨k25, h⟩ := h
    refine zp_4_396 (v := v21) rfl d_4085_118 k24 k25 ?_
    generalize e27 : zs_sJ S20 6012 b22 v21 = S26
    have h := h S26 e27.symm
    have K28 : ∀ b, zs_K S26 b = zs_K S20 b := zs_Kt e27 (zs_KsJ _ _ _ _) (fun _ => rfl)
    exact zu_vret d_4085_121 zr_4085 h
def w_X5_whole_85 (X : zs_X) (d : Nat) (p0 : Nat) (p1 : Option Nat) (p2 : Int32) (S : zs_T) (Q : zs_Q) : Prop :=
  (((p2 = 0 → (w_X5_whole_95 X d p0 p1 p2 p1 (0 : Int32) S Q)) ∧ (¬ (p2 = 0) → (w_X5_whole_95 X d p0 p1 p2 p1 (1 : Int32) S Q))))
theorem u_X5_whole_85 {σ : Nat → Nat} {n0 : Nat} {bf : ab_B} {d : Nat} {p0 : Nat} {p1 : Option Nat} {p2 : Int32} {S : zs_T} {Q : zs_Q} (hB : zt_B bf) (h : w_X5_whole_85 (zx σ n0 bf) d p0 p1 p2 S Q) : zs_U (zx σ n0 bf) d 4085 85 [(0, .ref p0), (1, va_rf p1), (2, .int p2)] [] S Q := by
  unfold w_X5_whole_85 at h
  refine zu_aload_n d_4085_85 rfl (zs_rr _) ?_
  refine zu_iload_n d_4085_86 rfl ?_
  refine zu_ifeq (t := 94) d_4085_87 rfl (fun c1 => ?_) (fun c1 => ?_)
  · have h := h.1 c1
    refine zu_iconst d_4085_94 zi_0 ?_
    exact (u_X5_whole_95 hB h).weak ⟨rfl, rfl, rfl, trivial⟩
  · have h := h.2 c1
    refine zu_iconst d_4085_90 zi_1 ?_
    refine zu_goto (t := 95) d_4085_91 rfl ?_
    exact (u_X5_whole_95 hB h).weak ⟨rfl, rfl, rfl, trivial⟩
def w_X5_whole_77 (X : zs_X) (d : Nat) (p0 : Nat) (p1 : Option Nat) (p2 : Int32) (p3 : Option Nat) (S : zs_T) (Q : zs_Q) : Prop :=
  (∃ b1, p3 = some b1 ∧ zs_K S b1 = some (.inl 6) ∧ zs_U X d 4085 29 [(0, .ref p0), (1, va_rf p1), (2, .int p2), (3, va_rf (zs_R S 6002 b1))] [] S Q)
theorem u_X5_whole_77 {σ : Nat → Nat} {n0 : Nat} {bf : ab_B} {d : Nat} {p0 : Nat} {p1 : Option Nat} {p2 : Int32} {p3 : Option Nat} {S : zs_T} {Q : zs_Q} (hB : zt_B bf) (h : w_X5_whole_77 (zx σ n0 bf) d p0 p1 p2 p3 S Q) : zs_U (zx σ n0 bf) d 4085 77 [(0, .ref p0), (1, va_rf p1), (2, .int p2), (3, va_rf p3)] [] S Q := by
  unfold w_X5_whole_77 at h
  refine zu_aload_n d_4085_77 rfl (zs_rr _) ?_
  obtain ⟨b1, e2, h⟩ := h
  refine zs_stk0 (zs_rfe e2) ?_
  obtain ⟨k3, h⟩ := h
  refine zg_4_320 rfl d_4085_78 k3 ?_
  refine zu_astore_n d_4085_81 (zs_rr _) (zs_lt zq_4085 rfl) ?_
  refine zu_goto (t := 29) d_4085_82 rfl ?_
  exact h.weak ⟨rfl, rfl, rfl, rfl, trivial⟩
def w_X5_whole_70 (X : zs_X) (d : Nat) (p0 : Nat) (S : zs_T) (Q : zs_Q) : Prop :=
  (zs_K S p0 = some (.inl 4) ∧ zs_C X d 4006 [.ref p0, .int (7 : Int32)] S (zs_kR (fun v3 S2 => (∃ b4, v3 = some b4 ∧ Q (.threw b4) S2)) Q))
theorem u_X5_whole_70 {σ : Nat → Nat} {n0 : Nat} {bf : ab_B} {d : Nat} {p0 : Nat} {S : zs_T} {Q : zs_Q} (hB : zt_B bf) (h : w_X5_whole_70 (zx σ n0 bf) d p0 S Q) : zs_U (zx σ n0 bf) d 4085 70 [(0, .ref p0)] [] S Q := by
  unfold w_X5_whole_70 at h
  refine zu_aload_n d_4085_70 rfl (zs_ra _) ?_
  refine zu_bipush d_4085_71 zj_7 ?_
  obtain ⟨k1, h⟩ := h
  refine zc_4_25 (x0 := (7 : Int32)) hB rfl k1 d_4085_73 (Nat.le_of_ble_eq_true rfl) h (fun v3 S2 h => ?_)
  obtain ⟨b4, e5, h⟩ := h
  refine zs_stk0 (zs_rfe e5) ?_
  exact zu_throw d_4085_76 h
def w_X5_whole_29 (X : zs_X) (d : Nat) (p0 : Nat) (p1 : Option Nat) (p2 : Int32) (p3 : Option Nat) (S : zs_T) (Q : zs_Q) : Prop :=
  (∃ b1, p1 = some b1 ∧ zs_K S b1 = some (.inl 6) ∧ ((¬ (zs_I S 6000 b1) = (7 : Int32) → w_X5_whole_85 X d p0 p1 p2 S Q) ∧ (¬ (¬ (zs_I S 6000 b1) = (7 : Int32)) → (∃ b5, p3 = some b5 ∧ zs_K S b5 = some (.inl 6) ∧ ((¬ (zs_I S 6000 b5) = (7 : Int32) → w_X5_whole_85 X d p0 p1 p2 S Q) ∧ (¬ (¬ (zs_I S 6000 b5) = (7 : Int32)) → (((¬ (zs_I S 6011 b5) = (-1 : Int32) → w_X5_whole_85 X d p0 p1 p2 S Q) ∧ (¬ (¬ (zs_I S 6011 b5) = (-1 : Int32)) → (zs_C X d 4038 [va_rf p3] S (zs_kI (fun v11 S10 => (((v11 = 0 → w_X5_whole_77 X d p0 p1 p2 p3 S10 Q) ∧ (¬ (v11 = 0) → (zs_K S10 p0 = some (.inl 4) ∧ zs_C X d 4086 [.ref p0, va_rf p3] S10 (zs_kI (fun v15 S14 => (((¬ v15 = 0 → w_X5_whole_77 X d p0 p1 p2 p3 S14 Q) ∧ (¬ (¬ v15 = 0) → w_X5_whole_70 X d p0 S14 Q)))) Q)))))) Q)))))))))))
theorem u_X5_whole_29 {σ : Nat → Nat} {n0 : Nat} {bf : ab_B} {d : Nat} {p0 : Nat} {p1 : Option Nat} {p2 : Int32} {p3 : Option Nat} {S : zs_T} {Q : zs_Q} (hB : zt_B bf) (h : w_X5_whole_29 (zx σ n0 bf) d p0 p1 p2 p3 S Q) : zs_U (zx σ n0 bf) d 4085 29 [(0, .ref p0), (1, va_rf p1), (2, .int p2), (3, va_rf p3)] [] S Q := by
  unfold w_X5_whole_29 at h
  refine zu_aload_n d_4085_29 rfl (zs_rr _) ?_
  obtain ⟨b1, e2, h⟩ := h
  refine zs_stk0 (zs_rfe e2) ?_
  obtain ⟨k3, h⟩ := h
  refine zg_4_369 rfl d_4085_30 k3 ?_
  refine zu_bipush d_4085_33 zj_7 ?_
  refine zu_cmpne (t := 85) d_4085_35 rfl (fun c4 => ?_) (fun c4 => ?_)
  · have h := h.1 c4
    exact (u_X5_whole_85 hB h).weak ⟨rfl, rfl, rfl, trivial⟩
  · have h := h.2 c4
    refine zu_aload_n d_4085_38 rfl (zs_rr _) ?_
    obtain ⟨b5, e6, h⟩ := h
    refine zs_stk0 (zs_rfe e6) ?_
    obtain ⟨k7, h⟩ := h
    refine zg_4_369 rfl d_4085_39 k7 ?_
    refine zu_bipush d_4085_42 zj_7 ?_
    refine zu_cmpne (t := 85) d_4085_44 rfl (fun c8 => ?_) (fun c8 => ?_)
    · have h := h.1 c8
      exact (u_X5_whole_85 hB h).weak ⟨rfl, rfl, rfl, trivial⟩
    · have h := h.2 c8
      refine zu_aload_n d_4085_47 rfl (zs_rr _) ?_
      refine zs_stk0 (zs_rfe e6) ?_
      refine zg_4_370 rfl d_4085_48 k7 ?_
      refine zu_iconst d_4085_51 zi_m1 ?_
      refine zu_cmpne (t := 85) d_4085_52 rfl (fun c9 => ?_) (fun c9 => ?_)
      · have h := h.1 c9
        exact (u_X5_whole_85 hB h).weak ⟨rfl, rfl, rfl, trivial⟩
      · have h := h.2 c9
        refine zu_aload_n d_4085_55 rfl (zs_rr _) ?_
        refine zc_4_377 (x0 := p3) hB rfl d_4085_56 (Nat.le_of_ble_eq_true rfl) h (fun v11 S10 h => ?_)
        refine zu_ifeq (t := 77) d_4085_59 rfl (fun c12 => ?_) (fun c12 => ?_)
        · have h := h.1 c12
          exact (u_X5_whole_77 hB h).weak ⟨rfl, rfl, rfl, rfl, trivial⟩
        · have h := h.2 c12
          refine zu_aload_n d_4085_62 rfl (zs_ra _) ?_
          refine zu_aload_n d_4085_63 rfl (zs_rr _) ?_
          obtain ⟨k13, h⟩ := h
          refine zc_4_381 (x0 := p3) hB rfl k13 d_4085_64 (Nat.le_of_ble_eq_true rfl) h (fun v15 S14 h => ?_)
          refine zu_ifne (t := 77) d_4085_67 rfl (fun c16 => ?_) (fun c16 => ?_)
          · have h := h.1 c16
            exact (u_X5_whole_77 hB h).weak ⟨rfl, rfl, rfl, rfl, trivial⟩
          · have h := h.2 c16
            exact (u_X5_whole_70 hB h).weak ⟨rfl, trivial⟩
def w_X5_whole (X : zs_X) (d : Nat) (p0 : Nat) (p1 : Option Nat) (S : zs_T) (Q : zs_Q) : Prop :=
  (zs_C X d 4038 [va_rf p1] S (zs_kI (fun v2 S1 => (((v2 = 0 → (∃ b4, p1 = some b4 ∧ zs_K S1 b4 = some (.inl 6) ∧ zs_U X d 4085 29 [(0, .ref p0), (1, va_rf p1), (2, .int v2), (3, va_rf (zs_R S1 6002 b4))] [] S1 Q)) ∧ (¬ (v2 = 0) → (zs_K S1 p0 = some (.inl 4) ∧ zs_C X d 4086 [.ref p0, va_rf p1] S1 (zs_kI (fun v9 S8 => (((¬ v9 = 0 → (∃ b11, p1 = some b11 ∧ zs_K S8 b11 = some (.inl 6) ∧ zs_U X d 4085 29 [(0, .ref p0), (1, va_rf p1), (2, .int v2), (3, va_rf (zs_R S8 6002 b11))] [] S8 Q)) ∧ (¬ (¬ v9 = 0) → (zs_K S8 p0 = some (.inl 4) ∧ zs_C X d 4006 [.ref p0, .int (7 : Int32)] S8 (zs_kR (fun v16 S15 => (∃ b17, v16 = some b17 ∧ Q (.threw b17) S15)) Q)))))) Q)))))) Q))
theorem u_X5_whole {σ : Nat → Nat} {n0 : Nat} {bf : ab_B} {d : Nat} {p0 : Nat} {p1 : Option Nat} {S : zs_T} {Q : zs_Q} (hB : zt_B bf) (hd : 1 ≤ d) (h : w_X5_whole (zx σ n0 bf) (d - 1) p0 p1 S Q) : zs_C (zx σ n0 bf) d 4085 [.ref p0, va_rf p1] S Q := by
  have hL : lv_args 0 [.ref p0, va_rf p1] = [(0, .ref p0), (1, va_rf p1)] := by simp [lv_args, zs_cat, zs_cI, zs_cJ, zs_cA]
  refine zs_C.of1 (hB.2 4085 (by decide) (by decide)) hd (by rw [hL]; exact zs_sub_self _ (by exact ⟨rfl, rfl, trivial⟩)) ?_
  rw [hL]
  clear hL
  unfold w_X5_whole at h
  refine zu_aload_n d_4085_0 rfl (zs_rr _) ?_
  refine zc_4_377 (x0 := p1) hB rfl d_4085_1 (Nat.le_of_ble_eq_true rfl) h (fun v2 S1 h => ?_)
  refine zu_istore_n d_4085_4 (zs_lt zq_4085 rfl) ?_
  refine zs_U.weak (L1 := [(2, .int v2), (0, .ref p0), (1, va_rf p1)]) ?_ ⟨rfl, zs_gp1 rfl (Or.inl rfl) rfl, zs_gp1 rfl (Or.inl (zs_cat _)) rfl, trivial⟩
  refine zu_iload_n d_4085_5 rfl ?_
  refine zu_ifeq (t := 24) d_4085_6 rfl (fun c3 => ?_) (fun c3 => ?_)
  · have h := h.1 c3
    refine zu_aload_n d_4085_24 rfl (zs_rr _) ?_
    obtain ⟨b4, e5, h⟩ := h
    refine zs_stk0 (zs_rfe e5) ?_
    obtain ⟨k6, h⟩ := h
    refine zg_4_320 rfl d_4085_25 k6 ?_
    refine zu_astore_n d_4085_28 (zs_rr _) (zs_lt zq_4085 rfl) ?_
    exact h.weak ⟨rfl, rfl, rfl, rfl, trivial⟩
  · have h := h.2 c3
    refine zu_aload_n d_4085_9 rfl (zs_ra _) ?_
    refine zu_aload_n d_4085_10 rfl (zs_rr _) ?_
    obtain ⟨k7, h⟩ := h
    refine zc_4_381 (x0 := p1) hB rfl k7 d_4085_11 (Nat.le_of_ble_eq_true rfl) h (fun v9 S8 h => ?_)
    refine zu_ifne (t := 24) d_4085_14 rfl (fun c10 => ?_) (fun c10 => ?_)
    · have h := h.1 c10
      refine zu_aload_n d_4085_24 rfl (zs_rr _) ?_
      obtain ⟨b11, e12, h⟩ := h
      refine zs_stk0 (zs_rfe e12) ?_
      obtain ⟨k13, h⟩ := h
      refine zg_4_320 rfl d_4085_25 k13 ?_
      refine zu_astore_n d_4085_28 (zs_rr _) (zs_lt zq_4085 rfl) ?_
      exact h.weak ⟨rfl, rfl, rfl, rfl, trivial⟩
    · have h := h.2 c10
      refine zu_aload_n d_4085_17 rfl (zs_ra _) ?_
      refine zu_bipush d_4085_18 zj_7 ?_
      obtain ⟨k14, h⟩ := h
      refine zc_4_25 (x0 := (7 : Int32)) hB rfl k14 d_4085_20 (Nat.le_of_ble_eq_true rfl) h (fun v16 S15 h => ?_)
      obtain ⟨b17, e18, h⟩ := h
      refine zs_stk0 (zs_rfe e18) ?_
      exact zu_throw d_4085_23 h
/-! SchemaPascal$Reader.fits(LSchemaPascal$Type;)Z -/
theorem zm_4086 {σ : Nat → Nat} {n0 : Nat} {bf : ab_B} : ab_code (zx σ n0 bf).1 4086 = prog_9_method_47_code := rfl
theorem zq_4086 {σ : Nat → Nat} {n0 : Nat} {bf : ab_B} : ab_maxL (zx σ n0 bf).1 4086 = 2 := rfl
theorem zr_4086 {σ : Nat → Nat} {n0 : Nat} {bf : ab_B} : ab_ret (zx σ n0 bf).1 4086 = (Option.some Jvm.ClassFile.FieldType.boolean) := rfl
theorem d_4086_0 {σ : Nat → Nat} {n0 : Nat} {bf : ab_B} : decode (ab_code (zx σ n0 bf).1 4086) 0 = .ok (.aload_n 0, 1) := zd zm_4086 (by decide +kernel)
theorem d_4086_1 {σ : Nat → Nat} {n0 : Nat} {bf : ab_B} : decode (ab_code (zx σ n0 bf).1 4086) 1 = .ok (.getfield 384, 3) := zd zm_4086 (by decide +kernel)
theorem d_4086_4 {σ : Nat → Nat} {n0 : Nat} {bf : ab_B} : decode (ab_code (zx σ n0 bf).1 4086) 4 = .ok (.aload_n 1, 1) := zd zm_4086 (by decide +kernel)
theorem d_4086_5 {σ : Nat → Nat} {n0 : Nat} {bf : ab_B} : decode (ab_code (zx σ n0 bf).1 4086) 5 = .ok (.iconst (-1), 1) := zd zm_4086 (by decide +kernel)
theorem d_4086_6 {σ : Nat → Nat} {n0 : Nat} {bf : ab_B} : decode (ab_code (zx σ n0 bf).1 4086) 6 = .ok (.invokevirtual 555, 3) := zd zm_4086 (by decide +kernel)
theorem d_4086_9 {σ : Nat → Nat} {n0 : Nat} {bf : ab_B} : decode (ab_code (zx σ n0 bf).1 4086) 9 = .ok (.ireturn, 1) := zd zm_4086 (by decide +kernel)
def w_X5_fits (X : zs_X) (d : Nat) (p0 : Nat) (p1 : Option Nat) (S : zs_T) (Q : zs_Q) : Prop :=
  (zs_K S p0 = some (.inl 4) ∧ ∃ b2, (zs_R S 4018 p0) = some b2 ∧ zs_K S b2 = some (.inl 2) ∧ zs_C X d 2006 [.ref b2, va_rf p1, .int (-1 : Int32)] S (zs_kI (fun v6 S5 => (zs_b v6 ∧ Q (.returned (some (.int v6))) S5)) Q))
theorem u_X5_fits {σ : Nat → Nat} {n0 : Nat} {bf : ab_B} {d : Nat} {p0 : Nat} {p1 : Option Nat} {S : zs_T} {Q : zs_Q} (hB : zt_B bf) (hd : 1 ≤ d) (h : w_X5_fits (zx σ n0 bf) (d - 1) p0 p1 S Q) : zs_C (zx σ n0 bf) d 4086 [.ref p0, va_rf p1] S Q := by
  have hL : lv_args 0 [.ref p0, va_rf p1] = [(0, .ref p0), (1, va_rf p1)] := by simp [lv_args, zs_cat, zs_cI, zs_cJ, zs_cA]
  refine zs_C.of1 (hB.2 4086 (by decide) (by decide)) hd (by rw [hL]; exact zs_sub_self _ (by exact ⟨rfl, rfl, trivial⟩)) ?_
  rw [hL]
  clear hL
  unfold w_X5_fits at h
  refine zu_aload_n d_4086_0 rfl (zs_ra _) ?_
  obtain ⟨k1, h⟩ := h
  refine zg_4_384 rfl d_4086_1 k1 ?_
  refine zu_aload_n d_4086_4 rfl (zs_rr _) ?_
  refine zu_iconst d_4086_5 zi_m1 ?_
  obtain ⟨b2, e3, h⟩ := h
  refine zs_stk2 (zs_rfe e3) ?_
  obtain ⟨k4, h⟩ := h
  refine zc_4_555 (x0 := p1) (x1 := (-1 : Int32)) hB rfl k4 d_4086_6 (Nat.le_of_ble_eq_true rfl) h (fun v6 S5 h => ?_)
  obtain ⟨k7, h⟩ := h
  exact zu_iret d_4086_9 zr_4086 (zs_b_n k7) h
/-! SchemaPascal$Reader.variables(LSchemaPascal$Routine;)V -/
theorem zm_4087 {σ : Nat → Nat} {n0 : Nat} {bf : ab_B} : ab_code (zx σ n0 bf).1 4087 = prog_9_method_116_code := rfl
theorem zq_4087 {σ : Nat → Nat} {n0 : Nat} {bf : ab_B} : ab_maxL (zx σ n0 bf).1 4087 = 8 := rfl
theorem zr_4087 {σ : Nat → Nat} {n0 : Nat} {bf : ab_B} : ab_ret (zx σ n0 bf).1 4087 = (Option.none : Option Jvm.ClassFile.FieldType) := rfl
theorem d_4087_0 {σ : Nat → Nat} {n0 : Nat} {bf : ab_B} : decode (ab_code (zx σ n0 bf).1 4087) 0 = .ok (.aload_n 0, 1) := zd zm_4087 (by decide +kernel)
theorem d_4087_1 {σ : Nat → Nat} {n0 : Nat} {bf : ab_B} : decode (ab_code (zx σ n0 bf).1 4087) 1 = .ok (.getfield 5, 3) := zd zm_4087 (by decide +kernel)
theorem d_4087_4 {σ : Nat → Nat} {n0 : Nat} {bf : ab_B} : decode (ab_code (zx σ n0 bf).1 4087) 4 = .ok (.invokevirtual 29, 3) := zd zm_4087 (by decide +kernel)
theorem d_4087_7 {σ : Nat → Nat} {n0 : Nat} {bf : ab_B} : decode (ab_code (zx σ n0 bf).1 4087) 7 = .ok (.new 51, 3) := zd zm_4087 (by decide +kernel)
theorem d_4087_10 {σ : Nat → Nat} {n0 : Nat} {bf : ab_B} : decode (ab_code (zx σ n0 bf).1 4087) 10 = .ok (.dup, 1) := zd zm_4087 (by decide +kernel)
theorem d_4087_11 {σ : Nat → Nat} {n0 : Nat} {bf : ab_B} : decode (ab_code (zx σ n0 bf).1 4087) 11 = .ok (.invokespecial 326, 3) := zd zm_4087 (by decide +kernel)
theorem d_4087_14 {σ : Nat → Nat} {n0 : Nat} {bf : ab_B} : decode (ab_code (zx σ n0 bf).1 4087) 14 = .ok (.astore_n 2, 1) := zd zm_4087 (by decide +kernel)
theorem d_4087_15 {σ : Nat → Nat} {n0 : Nat} {bf : ab_B} : decode (ab_code (zx σ n0 bf).1 4087) 15 = .ok (.iconst 1, 1) := zd zm_4087 (by decide +kernel)
theorem d_4087_16 {σ : Nat → Nat} {n0 : Nat} {bf : ab_B} : decode (ab_code (zx σ n0 bf).1 4087) 16 = .ok (.istore_n 3, 1) := zd zm_4087 (by decide +kernel)
theorem d_4087_17 {σ : Nat → Nat} {n0 : Nat} {bf : ab_B} : decode (ab_code (zx σ n0 bf).1 4087) 17 = .ok (.iload_n 3, 1) := zd zm_4087 (by decide +kernel)
theorem d_4087_18 {σ : Nat → Nat} {n0 : Nat} {bf : ab_B} : decode (ab_code (zx σ n0 bf).1 4087) 18 = .ok (.ifCond .eq 147, 3) := zd zm_4087 (by decide +kernel)
theorem d_4087_21 {σ : Nat → Nat} {n0 : Nat} {bf : ab_B} : decode (ab_code (zx σ n0 bf).1 4087) 21 = .ok (.aload_n 0, 1) := zd zm_4087 (by decide +kernel)
theorem d_4087_22 {σ : Nat → Nat} {n0 : Nat} {bf : ab_B} : decode (ab_code (zx σ n0 bf).1 4087) 22 = .ok (.getfield 5, 3) := zd zm_4087 (by decide +kernel)
theorem d_4087_25 {σ : Nat → Nat} {n0 : Nat} {bf : ab_B} : decode (ab_code (zx σ n0 bf).1 4087) 25 = .ok (.invokevirtual 36, 3) := zd zm_4087 (by decide +kernel)
theorem d_4087_28 {σ : Nat → Nat} {n0 : Nat} {bf : ab_B} : decode (ab_code (zx σ n0 bf).1 4087) 28 = .ok (.ifCond .ne 9, 3) := zd zm_4087 (by decide +kernel)
theorem d_4087_31 {σ : Nat → Nat} {n0 : Nat} {bf : ab_B} : decode (ab_code (zx σ n0 bf).1 4087) 31 = .ok (.aload_n 0, 1) := zd zm_4087 (by decide +kernel)
theorem d_4087_32 {σ : Nat → Nat} {n0 : Nat} {bf : ab_B} : decode (ab_code (zx σ n0 bf).1 4087) 32 = .ok (.iconst 2, 1) := zd zm_4087 (by decide +kernel)
theorem d_4087_33 {σ : Nat → Nat} {n0 : Nat} {bf : ab_B} : decode (ab_code (zx σ n0 bf).1 4087) 33 = .ok (.invokevirtual 25, 3) := zd zm_4087 (by decide +kernel)
theorem d_4087_36 {σ : Nat → Nat} {n0 : Nat} {bf : ab_B} : decode (ab_code (zx σ n0 bf).1 4087) 36 = .ok (.athrow, 1) := zd zm_4087 (by decide +kernel)
theorem d_4087_37 {σ : Nat → Nat} {n0 : Nat} {bf : ab_B} : decode (ab_code (zx σ n0 bf).1 4087) 37 = .ok (.aload_n 0, 1) := zd zm_4087 (by decide +kernel)
theorem d_4087_38 {σ : Nat → Nat} {n0 : Nat} {bf : ab_B} : decode (ab_code (zx σ n0 bf).1 4087) 38 = .ok (.aload_n 0, 1) := zd zm_4087 (by decide +kernel)
theorem d_4087_39 {σ : Nat → Nat} {n0 : Nat} {bf : ab_B} : decode (ab_code (zx σ n0 bf).1 4087) 39 = .ok (.getfield 5, 3) := zd zm_4087 (by decide +kernel)
theorem d_4087_42 {σ : Nat → Nat} {n0 : Nat} {bf : ab_B} : decode (ab_code (zx σ n0 bf).1 4087) 42 = .ok (.getfield 40, 3) := zd zm_4087 (by decide +kernel)
theorem d_4087_45 {σ : Nat → Nat} {n0 : Nat} {bf : ab_B} : decode (ab_code (zx σ n0 bf).1 4087) 45 = .ok (.invokevirtual 118, 3) := zd zm_4087 (by decide +kernel)
theorem d_4087_48 {σ : Nat → Nat} {n0 : Nat} {bf : ab_B} : decode (ab_code (zx σ n0 bf).1 4087) 48 = .ok (.ifnull 7, 3) := zd zm_4087 (by decide +kernel)
theorem d_4087_51 {σ : Nat → Nat} {n0 : Nat} {bf : ab_B} : decode (ab_code (zx σ n0 bf).1 4087) 51 = .ok (.iconst 1, 1) := zd zm_4087 (by decide +kernel)
theorem d_4087_52 {σ : Nat → Nat} {n0 : Nat} {bf : ab_B} : decode (ab_code (zx σ n0 bf).1 4087) 52 = .ok (.goto 4, 3) := zd zm_4087 (by decide +kernel)
theorem d_4087_55 {σ : Nat → Nat} {n0 : Nat} {bf : ab_B} : decode (ab_code (zx σ n0 bf).1 4087) 55 = .ok (.iconst 0, 1) := zd zm_4087 (by decide +kernel)
theorem d_4087_56 {σ : Nat → Nat} {n0 : Nat} {bf : ab_B} : decode (ab_code (zx σ n0 bf).1 4087) 56 = .ok (.istore 4, 2) := zd zm_4087 (by decide +kernel)
theorem d_4087_58 {σ : Nat → Nat} {n0 : Nat} {bf : ab_B} : decode (ab_code (zx σ n0 bf).1 4087) 58 = .ok (.iconst 0, 1) := zd zm_4087 (by decide +kernel)
theorem d_4087_59 {σ : Nat → Nat} {n0 : Nat} {bf : ab_B} : decode (ab_code (zx σ n0 bf).1 4087) 59 = .ok (.istore 5, 2) := zd zm_4087 (by decide +kernel)
theorem d_4087_61 {σ : Nat → Nat} {n0 : Nat} {bf : ab_B} : decode (ab_code (zx σ n0 bf).1 4087) 61 = .ok (.iload 5, 2) := zd zm_4087 (by decide +kernel)
theorem d_4087_63 {σ : Nat → Nat} {n0 : Nat} {bf : ab_B} : decode (ab_code (zx σ n0 bf).1 4087) 63 = .ok (.aload_n 2, 1) := zd zm_4087 (by decide +kernel)
theorem d_4087_64 {σ : Nat → Nat} {n0 : Nat} {bf : ab_B} : decode (ab_code (zx σ n0 bf).1 4087) 64 = .ok (.invokevirtual 50, 3) := zd zm_4087 (by decide +kernel)
theorem d_4087_67 {σ : Nat → Nat} {n0 : Nat} {bf : ab_B} : decode (ab_code (zx σ n0 bf).1 4087) 67 = .ok (.if_icmp .ge 41, 3) := zd zm_4087 (by decide +kernel)
theorem d_4087_70 {σ : Nat → Nat} {n0 : Nat} {bf : ab_B} : decode (ab_code (zx σ n0 bf).1 4087) 70 = .ok (.iload 4, 2) := zd zm_4087 (by decide +kernel)
theorem d_4087_72 {σ : Nat → Nat} {n0 : Nat} {bf : ab_B} : decode (ab_code (zx σ n0 bf).1 4087) 72 = .ok (.aload_n 2, 1) := zd zm_4087 (by decide +kernel)
theorem d_4087_73 {σ : Nat → Nat} {n0 : Nat} {bf : ab_B} : decode (ab_code (zx σ n0 bf).1 4087) 73 = .ok (.iload 5, 2) := zd zm_4087 (by decide +kernel)
theorem d_4087_75 {σ : Nat → Nat} {n0 : Nat} {bf : ab_B} : decode (ab_code (zx σ n0 bf).1 4087) 75 = .ok (.invokevirtual 56, 3) := zd zm_4087 (by decide +kernel)
theorem d_4087_78 {σ : Nat → Nat} {n0 : Nat} {bf : ab_B} : decode (ab_code (zx σ n0 bf).1 4087) 78 = .ok (.checkcast 313, 3) := zd zm_4087 (by decide +kernel)
theorem d_4087_81 {σ : Nat → Nat} {n0 : Nat} {bf : ab_B} : decode (ab_code (zx σ n0 bf).1 4087) 81 = .ok (.invokevirtual 315, 3) := zd zm_4087 (by decide +kernel)
theorem d_4087_84 {σ : Nat → Nat} {n0 : Nat} {bf : ab_B} : decode (ab_code (zx σ n0 bf).1 4087) 84 = .ok (.aload_n 0, 1) := zd zm_4087 (by decide +kernel)
theorem d_4087_85 {σ : Nat → Nat} {n0 : Nat} {bf : ab_B} : decode (ab_code (zx σ n0 bf).1 4087) 85 = .ok (.getfield 5, 3) := zd zm_4087 (by decide +kernel)
theorem d_4087_88 {σ : Nat → Nat} {n0 : Nat} {bf : ab_B} : decode (ab_code (zx σ n0 bf).1 4087) 88 = .ok (.getfield 40, 3) := zd zm_4087 (by decide +kernel)
theorem d_4087_91 {σ : Nat → Nat} {n0 : Nat} {bf : ab_B} : decode (ab_code (zx σ n0 bf).1 4087) 91 = .ok (.if_icmp .ne 7, 3) := zd zm_4087 (by decide +kernel)
theorem d_4087_94 {σ : Nat → Nat} {n0 : Nat} {bf : ab_B} : decode (ab_code (zx σ n0 bf).1 4087) 94 = .ok (.iconst 1, 1) := zd zm_4087 (by decide +kernel)
theorem d_4087_95 {σ : Nat → Nat} {n0 : Nat} {bf : ab_B} : decode (ab_code (zx σ n0 bf).1 4087) 95 = .ok (.goto 4, 3) := zd zm_4087 (by decide +kernel)
theorem d_4087_98 {σ : Nat → Nat} {n0 : Nat} {bf : ab_B} : decode (ab_code (zx σ n0 bf).1 4087) 98 = .ok (.iconst 0, 1) := zd zm_4087 (by decide +kernel)
theorem d_4087_99 {σ : Nat → Nat} {n0 : Nat} {bf : ab_B} : decode (ab_code (zx σ n0 bf).1 4087) 99 = .ok (.ior, 1) := zd zm_4087 (by decide +kernel)
theorem d_4087_100 {σ : Nat → Nat} {n0 : Nat} {bf : ab_B} : decode (ab_code (zx σ n0 bf).1 4087) 100 = .ok (.istore 4, 2) := zd zm_4087 (by decide +kernel)
theorem d_4087_102 {σ : Nat → Nat} {n0 : Nat} {bf : ab_B} : decode (ab_code (zx σ n0 bf).1 4087) 102 = .ok (.iinc 5 1, 3) := zd zm_4087 (by decide +kernel)
theorem d_4087_105 {σ : Nat → Nat} {n0 : Nat} {bf : ab_B} : decode (ab_code (zx σ n0 bf).1 4087) 105 = .ok (.goto (-44), 3) := zd zm_4087 (by decide +kernel)
theorem d_4087_108 {σ : Nat → Nat} {n0 : Nat} {bf : ab_B} : decode (ab_code (zx σ n0 bf).1 4087) 108 = .ok (.iload 4, 2) := zd zm_4087 (by decide +kernel)
theorem d_4087_110 {σ : Nat → Nat} {n0 : Nat} {bf : ab_B} : decode (ab_code (zx σ n0 bf).1 4087) 110 = .ok (.ifCond .eq 9, 3) := zd zm_4087 (by decide +kernel)
theorem d_4087_113 {σ : Nat → Nat} {n0 : Nat} {bf : ab_B} : decode (ab_code (zx σ n0 bf).1 4087) 113 = .ok (.aload_n 0, 1) := zd zm_4087 (by decide +kernel)
theorem d_4087_114 {σ : Nat → Nat} {n0 : Nat} {bf : ab_B} : decode (ab_code (zx σ n0 bf).1 4087) 114 = .ok (.iconst 4, 1) := zd zm_4087 (by decide +kernel)
theorem d_4087_115 {σ : Nat → Nat} {n0 : Nat} {bf : ab_B} : decode (ab_code (zx σ n0 bf).1 4087) 115 = .ok (.invokevirtual 25, 3) := zd zm_4087 (by decide +kernel)
theorem d_4087_118 {σ : Nat → Nat} {n0 : Nat} {bf : ab_B} : decode (ab_code (zx σ n0 bf).1 4087) 118 = .ok (.athrow, 1) := zd zm_4087 (by decide +kernel)
theorem d_4087_119 {σ : Nat → Nat} {n0 : Nat} {bf : ab_B} : decode (ab_code (zx σ n0 bf).1 4087) 119 = .ok (.aload_n 2, 1) := zd zm_4087 (by decide +kernel)
theorem d_4087_120 {σ : Nat → Nat} {n0 : Nat} {bf : ab_B} : decode (ab_code (zx σ n0 bf).1 4087) 120 = .ok (.aload_n 0, 1) := zd zm_4087 (by decide +kernel)
theorem d_4087_121 {σ : Nat → Nat} {n0 : Nat} {bf : ab_B} : decode (ab_code (zx σ n0 bf).1 4087) 121 = .ok (.getfield 5, 3) := zd zm_4087 (by decide +kernel)
theorem d_4087_124 {σ : Nat → Nat} {n0 : Nat} {bf : ab_B} : decode (ab_code (zx σ n0 bf).1 4087) 124 = .ok (.getfield 40, 3) := zd zm_4087 (by decide +kernel)
theorem d_4087_127 {σ : Nat → Nat} {n0 : Nat} {bf : ab_B} : decode (ab_code (zx σ n0 bf).1 4087) 127 = .ok (.invokestatic 350, 3) := zd zm_4087 (by decide +kernel)
theorem d_4087_130 {σ : Nat → Nat} {n0 : Nat} {bf : ab_B} : decode (ab_code (zx σ n0 bf).1 4087) 130 = .ok (.invokevirtual 140, 3) := zd zm_4087 (by decide +kernel)
theorem d_4087_133 {σ : Nat → Nat} {n0 : Nat} {bf : ab_B} : decode (ab_code (zx σ n0 bf).1 4087) 133 = .ok (.pop, 1) := zd zm_4087 (by decide +kernel)
theorem d_4087_134 {σ : Nat → Nat} {n0 : Nat} {bf : ab_B} : decode (ab_code (zx σ n0 bf).1 4087) 134 = .ok (.aload_n 0, 1) := zd zm_4087 (by decide +kernel)
theorem d_4087_135 {σ : Nat → Nat} {n0 : Nat} {bf : ab_B} : decode (ab_code (zx σ n0 bf).1 4087) 135 = .ok (.getfield 5, 3) := zd zm_4087 (by decide +kernel)
theorem d_4087_138 {σ : Nat → Nat} {n0 : Nat} {bf : ab_B} : decode (ab_code (zx σ n0 bf).1 4087) 138 = .ok (.invokevirtual 29, 3) := zd zm_4087 (by decide +kernel)
theorem d_4087_141 {σ : Nat → Nat} {n0 : Nat} {bf : ab_B} : decode (ab_code (zx σ n0 bf).1 4087) 141 = .ok (.aload_n 0, 1) := zd zm_4087 (by decide +kernel)
theorem d_4087_142 {σ : Nat → Nat} {n0 : Nat} {bf : ab_B} : decode (ab_code (zx σ n0 bf).1 4087) 142 = .ok (.getfield 5, 3) := zd zm_4087 (by decide +kernel)
theorem d_4087_145 {σ : Nat → Nat} {n0 : Nat} {bf : ab_B} : decode (ab_code (zx σ n0 bf).1 4087) 145 = .ok (.bipush 44, 2) := zd zm_4087 (by decide +kernel)
theorem d_4087_147 {σ : Nat → Nat} {n0 : Nat} {bf : ab_B} : decode (ab_code (zx σ n0 bf).1 4087) 147 = .ok (.invokevirtual 21, 3) := zd zm_4087 (by decide +kernel)
theorem d_4087_150 {σ : Nat → Nat} {n0 : Nat} {bf : ab_B} : decode (ab_code (zx σ n0 bf).1 4087) 150 = .ok (.istore_n 3, 1) := zd zm_4087 (by decide +kernel)
theorem d_4087_151 {σ : Nat → Nat} {n0 : Nat} {bf : ab_B} : decode (ab_code (zx σ n0 bf).1 4087) 151 = .ok (.iload_n 3, 1) := zd zm_4087 (by decide +kernel)
theorem d_4087_152 {σ : Nat → Nat} {n0 : Nat} {bf : ab_B} : decode (ab_code (zx σ n0 bf).1 4087) 152 = .ok (.ifCond .eq 10, 3) := zd zm_4087 (by decide +kernel)
theorem d_4087_155 {σ : Nat → Nat} {n0 : Nat} {bf : ab_B} : decode (ab_code (zx σ n0 bf).1 4087) 155 = .ok (.aload_n 0, 1) := zd zm_4087 (by decide +kernel)
theorem d_4087_156 {σ : Nat → Nat} {n0 : Nat} {bf : ab_B} : decode (ab_code (zx σ n0 bf).1 4087) 156 = .ok (.getfield 5, 3) := zd zm_4087 (by decide +kernel)
theorem d_4087_159 {σ : Nat → Nat} {n0 : Nat} {bf : ab_B} : decode (ab_code (zx σ n0 bf).1 4087) 159 = .ok (.invokevirtual 29, 3) := zd zm_4087 (by decide +kernel)
theorem d_4087_162 {σ : Nat → Nat} {n0 : Nat} {bf : ab_B} : decode (ab_code (zx σ n0 bf).1 4087) 162 = .ok (.goto (-145), 3) := zd zm_4087 (by decide +kernel)
theorem d_4087_165 {σ : Nat → Nat} {n0 : Nat} {bf : ab_B} : decode (ab_code (zx σ n0 bf).1 4087) 165 = .ok (.aload_n 0, 1) := zd zm_4087 (by decide +kernel)
theorem d_4087_166 {σ : Nat → Nat} {n0 : Nat} {bf : ab_B} : decode (ab_code (zx σ n0 bf).1 4087) 166 = .ok (.bipush 58, 2) := zd zm_4087 (by decide +kernel)
theorem d_4087_168 {σ : Nat → Nat} {n0 : Nat} {bf : ab_B} : decode (ab_code (zx σ n0 bf).1 4087) 168 = .ok (.invokevirtual 224, 3) := zd zm_4087 (by decide +kernel)
theorem d_4087_171 {σ : Nat → Nat} {n0 : Nat} {bf : ab_B} : decode (ab_code (zx σ n0 bf).1 4087) 171 = .ok (.aload_n 0, 1) := zd zm_4087 (by decide +kernel)
theorem d_4087_172 {σ : Nat → Nat} {n0 : Nat} {bf : ab_B} : decode (ab_code (zx σ n0 bf).1 4087) 172 = .ok (.iconst 1, 1) := zd zm_4087 (by decide +kernel)
theorem d_4087_173 {σ : Nat → Nat} {n0 : Nat} {bf : ab_B} : decode (ab_code (zx σ n0 bf).1 4087) 173 = .ok (.invokevirtual 309, 3) := zd zm_4087 (by decide +kernel)
theorem d_4087_176 {σ : Nat → Nat} {n0 : Nat} {bf : ab_B} : decode (ab_code (zx σ n0 bf).1 4087) 176 = .ok (.astore 4, 2) := zd zm_4087 (by decide +kernel)
theorem d_4087_178 {σ : Nat → Nat} {n0 : Nat} {bf : ab_B} : decode (ab_code (zx σ n0 bf).1 4087) 178 = .ok (.aload 4, 2) := zd zm_4087 (by decide +kernel)
theorem d_4087_180 {σ : Nat → Nat} {n0 : Nat} {bf : ab_B} : decode (ab_code (zx σ n0 bf).1 4087) 180 = .ok (.getfield 369, 3) := zd zm_4087 (by decide +kernel)
theorem d_4087_183 {σ : Nat → Nat} {n0 : Nat} {bf : ab_B} : decode (ab_code (zx σ n0 bf).1 4087) 183 = .ok (.bipush 11, 2) := zd zm_4087 (by decide +kernel)
theorem d_4087_185 {σ : Nat → Nat} {n0 : Nat} {bf : ab_B} : decode (ab_code (zx σ n0 bf).1 4087) 185 = .ok (.if_icmp .ne 18, 3) := zd zm_4087 (by decide +kernel)
theorem d_4087_188 {σ : Nat → Nat} {n0 : Nat} {bf : ab_B} : decode (ab_code (zx σ n0 bf).1 4087) 188 = .ok (.aload_n 2, 1) := zd zm_4087 (by decide +kernel)
theorem d_4087_189 {σ : Nat → Nat} {n0 : Nat} {bf : ab_B} : decode (ab_code (zx σ n0 bf).1 4087) 189 = .ok (.invokevirtual 50, 3) := zd zm_4087 (by decide +kernel)
theorem d_4087_192 {σ : Nat → Nat} {n0 : Nat} {bf : ab_B} : decode (ab_code (zx σ n0 bf).1 4087) 192 = .ok (.iconst 2, 1) := zd zm_4087 (by decide +kernel)
theorem d_4087_193 {σ : Nat → Nat} {n0 : Nat} {bf : ab_B} : decode (ab_code (zx σ n0 bf).1 4087) 193 = .ok (.if_icmp .le 10, 3) := zd zm_4087 (by decide +kernel)
theorem d_4087_196 {σ : Nat → Nat} {n0 : Nat} {bf : ab_B} : decode (ab_code (zx σ n0 bf).1 4087) 196 = .ok (.aload_n 0, 1) := zd zm_4087 (by decide +kernel)
theorem d_4087_197 {σ : Nat → Nat} {n0 : Nat} {bf : ab_B} : decode (ab_code (zx σ n0 bf).1 4087) 197 = .ok (.bipush 8, 2) := zd zm_4087 (by decide +kernel)
theorem d_4087_199 {σ : Nat → Nat} {n0 : Nat} {bf : ab_B} : decode (ab_code (zx σ n0 bf).1 4087) 199 = .ok (.invokevirtual 25, 3) := zd zm_4087 (by decide +kernel)
theorem d_4087_202 {σ : Nat → Nat} {n0 : Nat} {bf : ab_B} : decode (ab_code (zx σ n0 bf).1 4087) 202 = .ok (.athrow, 1) := zd zm_4087 (by decide +kernel)
theorem d_4087_203 {σ : Nat → Nat} {n0 : Nat} {bf : ab_B} : decode (ab_code (zx σ n0 bf).1 4087) 203 = .ok (.iconst 0, 1) := zd zm_4087 (by decide +kernel)
theorem d_4087_204 {σ : Nat → Nat} {n0 : Nat} {bf : ab_B} : decode (ab_code (zx σ n0 bf).1 4087) 204 = .ok (.istore 5, 2) := zd zm_4087 (by decide +kernel)
theorem d_4087_206 {σ : Nat → Nat} {n0 : Nat} {bf : ab_B} : decode (ab_code (zx σ n0 bf).1 4087) 206 = .ok (.iload 5, 2) := zd zm_4087 (by decide +kernel)
theorem d_4087_208 {σ : Nat → Nat} {n0 : Nat} {bf : ab_B} : decode (ab_code (zx σ n0 bf).1 4087) 208 = .ok (.aload_n 2, 1) := zd zm_4087 (by decide +kernel)
theorem d_4087_209 {σ : Nat → Nat} {n0 : Nat} {bf : ab_B} : decode (ab_code (zx σ n0 bf).1 4087) 209 = .ok (.invokevirtual 50, 3) := zd zm_4087 (by decide +kernel)
theorem d_4087_212 {σ : Nat → Nat} {n0 : Nat} {bf : ab_B} : decode (ab_code (zx σ n0 bf).1 4087) 212 = .ok (.if_icmp .ge 34, 3) := zd zm_4087 (by decide +kernel)
theorem d_4087_215 {σ : Nat → Nat} {n0 : Nat} {bf : ab_B} : decode (ab_code (zx σ n0 bf).1 4087) 215 = .ok (.aload_n 0, 1) := zd zm_4087 (by decide +kernel)
theorem d_4087_216 {σ : Nat → Nat} {n0 : Nat} {bf : ab_B} : decode (ab_code (zx σ n0 bf).1 4087) 216 = .ok (.aload_n 2, 1) := zd zm_4087 (by decide +kernel)
theorem d_4087_217 {σ : Nat → Nat} {n0 : Nat} {bf : ab_B} : decode (ab_code (zx σ n0 bf).1 4087) 217 = .ok (.iload 5, 2) := zd zm_4087 (by decide +kernel)
theorem d_4087_219 {σ : Nat → Nat} {n0 : Nat} {bf : ab_B} : decode (ab_code (zx σ n0 bf).1 4087) 219 = .ok (.invokevirtual 56, 3) := zd zm_4087 (by decide +kernel)
theorem d_4087_222 {σ : Nat → Nat} {n0 : Nat} {bf : ab_B} : decode (ab_code (zx σ n0 bf).1 4087) 222 = .ok (.checkcast 313, 3) := zd zm_4087 (by decide +kernel)
theorem d_4087_225 {σ : Nat → Nat} {n0 : Nat} {bf : ab_B} : decode (ab_code (zx σ n0 bf).1 4087) 225 = .ok (.invokevirtual 315, 3) := zd zm_4087 (by decide +kernel)
theorem d_4087_228 {σ : Nat → Nat} {n0 : Nat} {bf : ab_B} : decode (ab_code (zx σ n0 bf).1 4087) 228 = .ok (.invokevirtual 118, 3) := zd zm_4087 (by decide +kernel)
theorem d_4087_231 {σ : Nat → Nat} {n0 : Nat} {bf : ab_B} : decode (ab_code (zx σ n0 bf).1 4087) 231 = .ok (.ifnull 9, 3) := zd zm_4087 (by decide +kernel)
theorem d_4087_234 {σ : Nat → Nat} {n0 : Nat} {bf : ab_B} : decode (ab_code (zx σ n0 bf).1 4087) 234 = .ok (.aload_n 0, 1) := zd zm_4087 (by decide +kernel)
theorem d_4087_235 {σ : Nat → Nat} {n0 : Nat} {bf : ab_B} : decode (ab_code (zx σ n0 bf).1 4087) 235 = .ok (.iconst 4, 1) := zd zm_4087 (by decide +kernel)
theorem d_4087_236 {σ : Nat → Nat} {n0 : Nat} {bf : ab_B} : decode (ab_code (zx σ n0 bf).1 4087) 236 = .ok (.invokevirtual 25, 3) := zd zm_4087 (by decide +kernel)
theorem d_4087_239 {σ : Nat → Nat} {n0 : Nat} {bf : ab_B} : decode (ab_code (zx σ n0 bf).1 4087) 239 = .ok (.athrow, 1) := zd zm_4087 (by decide +kernel)
theorem d_4087_240 {σ : Nat → Nat} {n0 : Nat} {bf : ab_B} : decode (ab_code (zx σ n0 bf).1 4087) 240 = .ok (.iinc 5 1, 3) := zd zm_4087 (by decide +kernel)
theorem d_4087_243 {σ : Nat → Nat} {n0 : Nat} {bf : ab_B} : decode (ab_code (zx σ n0 bf).1 4087) 243 = .ok (.goto (-37), 3) := zd zm_4087 (by decide +kernel)
theorem d_4087_246 {σ : Nat → Nat} {n0 : Nat} {bf : ab_B} : decode (ab_code (zx σ n0 bf).1 4087) 246 = .ok (.aload_n 0, 1) := zd zm_4087 (by decide +kernel)
theorem d_4087_247 {σ : Nat → Nat} {n0 : Nat} {bf : ab_B} : decode (ab_code (zx σ n0 bf).1 4087) 247 = .ok (.getfield 5, 3) := zd zm_4087 (by decide +kernel)
theorem d_4087_250 {σ : Nat → Nat} {n0 : Nat} {bf : ab_B} : decode (ab_code (zx σ n0 bf).1 4087) 250 = .ok (.bipush 35, 2) := zd zm_4087 (by decide +kernel)
theorem d_4087_252 {σ : Nat → Nat} {n0 : Nat} {bf : ab_B} : decode (ab_code (zx σ n0 bf).1 4087) 252 = .ok (.invokevirtual 33, 3) := zd zm_4087 (by decide +kernel)
theorem d_4087_255 {σ : Nat → Nat} {n0 : Nat} {bf : ab_B} : decode (ab_code (zx σ n0 bf).1 4087) 255 = .ok (.ifCond .eq 12, 3) := zd zm_4087 (by decide +kernel)
theorem d_4087_258 {σ : Nat → Nat} {n0 : Nat} {bf : ab_B} : decode (ab_code (zx σ n0 bf).1 4087) 258 = .ok (.aload_n 0, 1) := zd zm_4087 (by decide +kernel)
theorem d_4087_259 {σ : Nat → Nat} {n0 : Nat} {bf : ab_B} : decode (ab_code (zx σ n0 bf).1 4087) 259 = .ok (.aload 4, 2) := zd zm_4087 (by decide +kernel)
theorem d_4087_261 {σ : Nat → Nat} {n0 : Nat} {bf : ab_B} : decode (ab_code (zx σ n0 bf).1 4087) 261 = .ok (.invokevirtual 804, 3) := zd zm_4087 (by decide +kernel)
theorem d_4087_264 {σ : Nat → Nat} {n0 : Nat} {bf : ab_B} : decode (ab_code (zx σ n0 bf).1 4087) 264 = .ok (.goto 4, 3) := zd zm_4087 (by decide +kernel)
theorem d_4087_267 {σ : Nat → Nat} {n0 : Nat} {bf : ab_B} : decode (ab_code (zx σ n0 bf).1 4087) 267 = .ok (.aconst_null, 1) := zd zm_4087 (by decide +kernel)
theorem d_4087_268 {σ : Nat → Nat} {n0 : Nat} {bf : ab_B} : decode (ab_code (zx σ n0 bf).1 4087) 268 = .ok (.astore 5, 2) := zd zm_4087 (by decide +kernel)
theorem d_4087_270 {σ : Nat → Nat} {n0 : Nat} {bf : ab_B} : decode (ab_code (zx σ n0 bf).1 4087) 270 = .ok (.iconst 0, 1) := zd zm_4087 (by decide +kernel)
theorem d_4087_271 {σ : Nat → Nat} {n0 : Nat} {bf : ab_B} : decode (ab_code (zx σ n0 bf).1 4087) 271 = .ok (.istore 6, 2) := zd zm_4087 (by decide +kernel)
theorem d_4087_273 {σ : Nat → Nat} {n0 : Nat} {bf : ab_B} : decode (ab_code (zx σ n0 bf).1 4087) 273 = .ok (.iload 6, 2) := zd zm_4087 (by decide +kernel)
theorem d_4087_275 {σ : Nat → Nat} {n0 : Nat} {bf : ab_B} : decode (ab_code (zx σ n0 bf).1 4087) 275 = .ok (.aload_n 2, 1) := zd zm_4087 (by decide +kernel)
theorem d_4087_276 {σ : Nat → Nat} {n0 : Nat} {bf : ab_B} : decode (ab_code (zx σ n0 bf).1 4087) 276 = .ok (.invokevirtual 50, 3) := zd zm_4087 (by decide +kernel)
theorem d_4087_279 {σ : Nat → Nat} {n0 : Nat} {bf : ab_B} : decode (ab_code (zx σ n0 bf).1 4087) 279 = .ok (.if_icmp .ge 126, 3) := zd zm_4087 (by decide +kernel)
theorem d_4087_282 {σ : Nat → Nat} {n0 : Nat} {bf : ab_B} : decode (ab_code (zx σ n0 bf).1 4087) 282 = .ok (.aload_n 0, 1) := zd zm_4087 (by decide +kernel)
theorem d_4087_283 {σ : Nat → Nat} {n0 : Nat} {bf : ab_B} : decode (ab_code (zx σ n0 bf).1 4087) 283 = .ok (.aload_n 2, 1) := zd zm_4087 (by decide +kernel)
theorem d_4087_284 {σ : Nat → Nat} {n0 : Nat} {bf : ab_B} : decode (ab_code (zx σ n0 bf).1 4087) 284 = .ok (.iload 6, 2) := zd zm_4087 (by decide +kernel)
theorem d_4087_286 {σ : Nat → Nat} {n0 : Nat} {bf : ab_B} : decode (ab_code (zx σ n0 bf).1 4087) 286 = .ok (.invokevirtual 56, 3) := zd zm_4087 (by decide +kernel)
theorem d_4087_289 {σ : Nat → Nat} {n0 : Nat} {bf : ab_B} : decode (ab_code (zx σ n0 bf).1 4087) 289 = .ok (.checkcast 313, 3) := zd zm_4087 (by decide +kernel)
theorem d_4087_292 {σ : Nat → Nat} {n0 : Nat} {bf : ab_B} : decode (ab_code (zx σ n0 bf).1 4087) 292 = .ok (.invokevirtual 315, 3) := zd zm_4087 (by decide +kernel)
theorem d_4087_295 {σ : Nat → Nat} {n0 : Nat} {bf : ab_B} : decode (ab_code (zx σ n0 bf).1 4087) 295 = .ok (.iconst 2, 1) := zd zm_4087 (by decide +kernel)
theorem d_4087_296 {σ : Nat → Nat} {n0 : Nat} {bf : ab_B} : decode (ab_code (zx σ n0 bf).1 4087) 296 = .ok (.aload 4, 2) := zd zm_4087 (by decide +kernel)
theorem d_4087_298 {σ : Nat → Nat} {n0 : Nat} {bf : ab_B} : decode (ab_code (zx σ n0 bf).1 4087) 298 = .ok (.invokevirtual 165, 3) := zd zm_4087 (by decide +kernel)
theorem d_4087_301 {σ : Nat → Nat} {n0 : Nat} {bf : ab_B} : decode (ab_code (zx σ n0 bf).1 4087) 301 = .ok (.astore 7, 2) := zd zm_4087 (by decide +kernel)
theorem d_4087_303 {σ : Nat → Nat} {n0 : Nat} {bf : ab_B} : decode (ab_code (zx σ n0 bf).1 4087) 303 = .ok (.aload 7, 2) := zd zm_4087 (by decide +kernel)
theorem d_4087_305 {σ : Nat → Nat} {n0 : Nat} {bf : ab_B} : decode (ab_code (zx σ n0 bf).1 4087) 305 = .ok (.aload_n 1, 1) := zd zm_4087 (by decide +kernel)
theorem d_4087_306 {σ : Nat → Nat} {n0 : Nat} {bf : ab_B} : decode (ab_code (zx σ n0 bf).1 4087) 306 = .ok (.putfield 107, 3) := zd zm_4087 (by decide +kernel)
theorem d_4087_309 {σ : Nat → Nat} {n0 : Nat} {bf : ab_B} : decode (ab_code (zx σ n0 bf).1 4087) 309 = .ok (.aload 7, 2) := zd zm_4087 (by decide +kernel)
theorem d_4087_311 {σ : Nat → Nat} {n0 : Nat} {bf : ab_B} : decode (ab_code (zx σ n0 bf).1 4087) 311 = .ok (.aload_n 1, 1) := zd zm_4087 (by decide +kernel)
theorem d_4087_312 {σ : Nat → Nat} {n0 : Nat} {bf : ab_B} : decode (ab_code (zx σ n0 bf).1 4087) 312 = .ok (.getfield 247, 3) := zd zm_4087 (by decide +kernel)
theorem d_4087_315 {σ : Nat → Nat} {n0 : Nat} {bf : ab_B} : decode (ab_code (zx σ n0 bf).1 4087) 315 = .ok (.invokevirtual 50, 3) := zd zm_4087 (by decide +kernel)
theorem d_4087_318 {σ : Nat → Nat} {n0 : Nat} {bf : ab_B} : decode (ab_code (zx σ n0 bf).1 4087) 318 = .ok (.aload_n 1, 1) := zd zm_4087 (by decide +kernel)
theorem d_4087_319 {σ : Nat → Nat} {n0 : Nat} {bf : ab_B} : decode (ab_code (zx σ n0 bf).1 4087) 319 = .ok (.getfield 250, 3) := zd zm_4087 (by decide +kernel)
theorem d_4087_322 {σ : Nat → Nat} {n0 : Nat} {bf : ab_B} : decode (ab_code (zx σ n0 bf).1 4087) 322 = .ok (.invokevirtual 50, 3) := zd zm_4087 (by decide +kernel)
theorem d_4087_325 {σ : Nat → Nat} {n0 : Nat} {bf : ab_B} : decode (ab_code (zx σ n0 bf).1 4087) 325 = .ok (.iadd, 1) := zd zm_4087 (by decide +kernel)
theorem d_4087_326 {σ : Nat → Nat} {n0 : Nat} {bf : ab_B} : decode (ab_code (zx σ n0 bf).1 4087) 326 = .ok (.putfield 104, 3) := zd zm_4087 (by decide +kernel)
theorem d_4087_329 {σ : Nat → Nat} {n0 : Nat} {bf : ab_B} : decode (ab_code (zx σ n0 bf).1 4087) 329 = .ok (.aload_n 1, 1) := zd zm_4087 (by decide +kernel)
theorem d_4087_330 {σ : Nat → Nat} {n0 : Nat} {bf : ab_B} : decode (ab_code (zx σ n0 bf).1 4087) 330 = .ok (.getfield 250, 3) := zd zm_4087 (by decide +kernel)
theorem d_4087_333 {σ : Nat → Nat} {n0 : Nat} {bf : ab_B} : decode (ab_code (zx σ n0 bf).1 4087) 333 = .ok (.aload 7, 2) := zd zm_4087 (by decide +kernel)
theorem d_4087_335 {σ : Nat → Nat} {n0 : Nat} {bf : ab_B} : decode (ab_code (zx σ n0 bf).1 4087) 335 = .ok (.invokevirtual 140, 3) := zd zm_4087 (by decide +kernel)
theorem d_4087_338 {σ : Nat → Nat} {n0 : Nat} {bf : ab_B} : decode (ab_code (zx σ n0 bf).1 4087) 338 = .ok (.pop, 1) := zd zm_4087 (by decide +kernel)
theorem d_4087_339 {σ : Nat → Nat} {n0 : Nat} {bf : ab_B} : decode (ab_code (zx σ n0 bf).1 4087) 339 = .ok (.aload 7, 2) := zd zm_4087 (by decide +kernel)
theorem d_4087_341 {σ : Nat → Nat} {n0 : Nat} {bf : ab_B} : decode (ab_code (zx σ n0 bf).1 4087) 341 = .ok (.aload 5, 2) := zd zm_4087 (by decide +kernel)
theorem d_4087_343 {σ : Nat → Nat} {n0 : Nat} {bf : ab_B} : decode (ab_code (zx σ n0 bf).1 4087) 343 = .ok (.ifnull 7, 3) := zd zm_4087 (by decide +kernel)
theorem d_4087_346 {σ : Nat → Nat} {n0 : Nat} {bf : ab_B} : decode (ab_code (zx σ n0 bf).1 4087) 346 = .ok (.iconst 1, 1) := zd zm_4087 (by decide +kernel)
theorem d_4087_347 {σ : Nat → Nat} {n0 : Nat} {bf : ab_B} : decode (ab_code (zx σ n0 bf).1 4087) 347 = .ok (.goto 4, 3) := zd zm_4087 (by decide +kernel)
theorem d_4087_350 {σ : Nat → Nat} {n0 : Nat} {bf : ab_B} : decode (ab_code (zx σ n0 bf).1 4087) 350 = .ok (.iconst 0, 1) := zd zm_4087 (by decide +kernel)
theorem d_4087_351 {σ : Nat → Nat} {n0 : Nat} {bf : ab_B} : decode (ab_code (zx σ n0 bf).1 4087) 351 = .ok (.putfield 281, 3) := zd zm_4087 (by decide +kernel)
theorem d_4087_354 {σ : Nat → Nat} {n0 : Nat} {bf : ab_B} : decode (ab_code (zx σ n0 bf).1 4087) 354 = .ok (.aload 5, 2) := zd zm_4087 (by decide +kernel)
theorem d_4087_356 {σ : Nat → Nat} {n0 : Nat} {bf : ab_B} : decode (ab_code (zx σ n0 bf).1 4087) 356 = .ok (.ifnull 43, 3) := zd zm_4087 (by decide +kernel)
theorem d_4087_359 {σ : Nat → Nat} {n0 : Nat} {bf : ab_B} : decode (ab_code (zx σ n0 bf).1 4087) 359 = .ok (.aload 7, 2) := zd zm_4087 (by decide +kernel)
theorem d_4087_361 {σ : Nat → Nat} {n0 : Nat} {bf : ab_B} : decode (ab_code (zx σ n0 bf).1 4087) 361 = .ok (.aload 5, 2) := zd zm_4087 (by decide +kernel)
theorem d_4087_363 {σ : Nat → Nat} {n0 : Nat} {bf : ab_B} : decode (ab_code (zx σ n0 bf).1 4087) 363 = .ok (.getfield 300, 3) := zd zm_4087 (by decide +kernel)
theorem d_4087_366 {σ : Nat → Nat} {n0 : Nat} {bf : ab_B} : decode (ab_code (zx σ n0 bf).1 4087) 366 = .ok (.putfield 168, 3) := zd zm_4087 (by decide +kernel)
theorem d_4087_369 {σ : Nat → Nat} {n0 : Nat} {bf : ab_B} : decode (ab_code (zx σ n0 bf).1 4087) 369 = .ok (.aload 7, 2) := zd zm_4087 (by decide +kernel)
theorem d_4087_371 {σ : Nat → Nat} {n0 : Nat} {bf : ab_B} : decode (ab_code (zx σ n0 bf).1 4087) 371 = .ok (.aload 5, 2) := zd zm_4087 (by decide +kernel)
theorem d_4087_373 {σ : Nat → Nat} {n0 : Nat} {bf : ab_B} : decode (ab_code (zx σ n0 bf).1 4087) 373 = .ok (.getfield 301, 3) := zd zm_4087 (by decide +kernel)
theorem d_4087_376 {σ : Nat → Nat} {n0 : Nat} {bf : ab_B} : decode (ab_code (zx σ n0 bf).1 4087) 376 = .ok (.putfield 302, 3) := zd zm_4087 (by decide +kernel)
theorem d_4087_379 {σ : Nat → Nat} {n0 : Nat} {bf : ab_B} : decode (ab_code (zx σ n0 bf).1 4087) 379 = .ok (.aload 7, 2) := zd zm_4087 (by decide +kernel)
theorem d_4087_381 {σ : Nat → Nat} {n0 : Nat} {bf : ab_B} : decode (ab_code (zx σ n0 bf).1 4087) 381 = .ok (.aload 5, 2) := zd zm_4087 (by decide +kernel)
theorem d_4087_383 {σ : Nat → Nat} {n0 : Nat} {bf : ab_B} : decode (ab_code (zx σ n0 bf).1 4087) 383 = .ok (.getfield 303, 3) := zd zm_4087 (by decide +kernel)
theorem d_4087_386 {σ : Nat → Nat} {n0 : Nat} {bf : ab_B} : decode (ab_code (zx σ n0 bf).1 4087) 386 = .ok (.putfield 306, 3) := zd zm_4087 (by decide +kernel)
theorem d_4087_389 {σ : Nat → Nat} {n0 : Nat} {bf : ab_B} : decode (ab_code (zx σ n0 bf).1 4087) 389 = .ok (.aload 7, 2) := zd zm_4087 (by decide +kernel)
theorem d_4087_391 {σ : Nat → Nat} {n0 : Nat} {bf : ab_B} : decode (ab_code (zx σ n0 bf).1 4087) 391 = .ok (.aload 5, 2) := zd zm_4087 (by decide +kernel)
theorem d_4087_393 {σ : Nat → Nat} {n0 : Nat} {bf : ab_B} : decode (ab_code (zx σ n0 bf).1 4087) 393 = .ok (.getfield 297, 3) := zd zm_4087 (by decide +kernel)
theorem d_4087_396 {σ : Nat → Nat} {n0 : Nat} {bf : ab_B} : decode (ab_code (zx σ n0 bf).1 4087) 396 = .ok (.putfield 101, 3) := zd zm_4087 (by decide +kernel)
theorem d_4087_399 {σ : Nat → Nat} {n0 : Nat} {bf : ab_B} : decode (ab_code (zx σ n0 bf).1 4087) 399 = .ok (.iinc 6 1, 3) := zd zm_4087 (by decide +kernel)
theorem d_4087_402 {σ : Nat → Nat} {n0 : Nat} {bf : ab_B} : decode (ab_code (zx σ n0 bf).1 4087) 402 = .ok (.goto (-129), 3) := zd zm_4087 (by decide +kernel)
theorem d_4087_405 {σ : Nat → Nat} {n0 : Nat} {bf : ab_B} : decode (ab_code (zx σ n0 bf).1 4087) 405 = .ok (.aload_n 0, 1) := zd zm_4087 (by decide +kernel)
theorem d_4087_406 {σ : Nat → Nat} {n0 : Nat} {bf : ab_B} : decode (ab_code (zx σ n0 bf).1 4087) 406 = .ok (.bipush 59, 2) := zd zm_4087 (by decide +kernel)
theorem d_4087_408 {σ : Nat → Nat} {n0 : Nat} {bf : ab_B} : decode (ab_code (zx σ n0 bf).1 4087) 408 = .ok (.invokevirtual 224, 3) := zd zm_4087 (by decide +kernel)
theorem d_4087_411 {σ : Nat → Nat} {n0 : Nat} {bf : ab_B} : decode (ab_code (zx σ n0 bf).1 4087) 411 = .ok (.aload_n 0, 1) := zd zm_4087 (by decide +kernel)
theorem d_4087_412 {σ : Nat → Nat} {n0 : Nat} {bf : ab_B} : decode (ab_code (zx σ n0 bf).1 4087) 412 = .ok (.getfield 5, 3) := zd zm_4087 (by decide +kernel)
theorem d_4087_415 {σ : Nat → Nat} {n0 : Nat} {bf : ab_B} : decode (ab_code (zx σ n0 bf).1 4087) 415 = .ok (.invokevirtual 36, 3) := zd zm_4087 (by decide +kernel)
theorem d_4087_418 {σ : Nat → Nat} {n0 : Nat} {bf : ab_B} : decode (ab_code (zx σ n0 bf).1 4087) 418 = .ok (.ifCond .ne (-411), 3) := zd zm_4087 (by decide +kernel)
theorem d_4087_421 {σ : Nat → Nat} {n0 : Nat} {bf : ab_B} : decode (ab_code (zx σ n0 bf).1 4087) 421 = .ok (.return_, 1) := zd zm_4087 (by decide +kernel)
def w_X5_variables_7 (X : zs_X) (d : Nat) (p0 : Nat) (p1 : Option Nat) (S : zs_T) (Q : zs_Q) : Prop :=
  (∀ a1 S2, a1 = zs_N S → S2 = zs_nw S (.inl 16) 3 → zs_C X d 16000 [.ref a1] S2 (zs_kV (fun S6 => (zs_U X d 4087 17 [(0, .ref p0), (1, va_rf p1), (2, va_rf (some a1)), (3, .int (1 : Int32))] [] S6 Q)) Q))
theorem u_X5_variables_7 {σ : Nat → Nat} {n0 : Nat} {bf : ab_B} {d : Nat} {p0 : Nat} {p1 : Option Nat} {S : zs_T} {Q : zs_Q} (hB : zt_B bf) (h : w_X5_variables_7 (zx σ n0 bf) d p0 p1 S Q) : zs_U (zx σ n0 bf) d 4087 7 [(0, .ref p0), (1, va_rf p1)] [] S Q := by
  unfold w_X5_variables_7 at h
  refine zn_4_51 rfl d_4087_7 ?_
  generalize e4 : zs_nw S (.inl 16) 3 = S2
  generalize e3 : zs_N S = a1
  have h := h a1 S2 e3.symm e4.symm
  have k5 := zs_kn e3 e4
  refine zu_dup d_4087_10 rfl ?_
  refine zc_4_326  hB rfl d_4087_11 (Nat.le_of_ble_eq_true rfl) h (fun S6 h => ?_)
  refine zu_astore_n d_4087_14 (zs_ra _) (zs_lt zq_4087 rfl) ?_
  refine zs_U.weak (L1 := [(2, .ref a1), (0, .ref p0), (1, va_rf p1)]) ?_ ⟨rfl, zs_gp1 rfl (Or.inl rfl) rfl, zs_gp1 rfl (Or.inl (zs_cat _)) rfl, trivial⟩
  refine zu_iconst d_4087_15 zi_1 ?_
  refine zu_istore_n d_4087_16 (zs_lt zq_4087 rfl) ?_
  exact h.weak ⟨rfl, rfl, rfl, rfl, trivial⟩
def w_X5_variables_203 (X : zs_X) (d : Nat) (p0 : Nat) (p1 : Option Nat) (p2 : Option Nat) (p4 : Option Nat) (S : zs_T) (Q : zs_Q) : Prop :=
  (zs_U X d 4087 206 [(0, .ref p0), (1, va_rf p1), (2, va_rf p2), (4, va_rf p4), (5, .int (0 : Int32))] [] S Q)
theorem u_X5_variables_203 {σ : Nat → Nat} {n0 : Nat} {bf : ab_B} {d : Nat} {p0 : Nat} {p1 : Option Nat} {p2 : Option Nat} {p4 : Option Nat} {S : zs_T} {Q : zs_Q} (hB : zt_B bf) (h : w_X5_variables_203 (zx σ n0 bf) d p0 p1 p2 p4 S Q) : zs_U (zx σ n0 bf) d 4087 203 [(0, .ref p0), (1, va_rf p1), (2, va_rf p2), (4, va_rf p4)] [] S Q := by
  unfold w_X5_variables_203 at h
  refine zu_iconst d_4087_203 zi_0 ?_
  refine zu_istore d_4087_204 (zs_lt zq_4087 rfl) ?_
  refine zs_U.weak (L1 := [(5, .int (0 : Int32)), (0, .ref p0), (1, va_rf p1), (2, va_rf p2), (4, va_rf p4)]) ?_ ⟨rfl, zs_gp1 rfl (Or.inl rfl) rfl, zs_gp1 rfl (Or.inl (zs_cat _)) rfl, zs_gp1 rfl (Or.inl (zs_cat _)) rfl, zs_gp1 rfl (Or.inl (zs_cat _)) rfl, trivial⟩
  exact h.weak ⟨rfl, rfl, rfl, rfl, rfl, trivial⟩
def w_X5_variables_196 (X : zs_X) (d : Nat) (p0 : Nat) (S : zs_T) (Q : zs_Q) : Prop :=
  (zs_K S p0 = some (.inl 4) ∧ zs_C X d 4006 [.ref p0, .int (8 : Int32)] S (zs_kR (fun v3 S2 => (∃ b4, v3 = some b4 ∧ Q (.threw b4) S2)) Q))
theorem u_X5_variables_196 {σ : Nat → Nat} {n0 : Nat} {bf : ab_B} {d : Nat} {p0 : Nat} {S : zs_T} {Q : zs_Q} (hB : zt_B bf) (h : w_X5_variables_196 (zx σ n0 bf) d p0 S Q) : zs_U (zx σ n0 bf) d 4087 196 [(0, .ref p0)] [] S Q := by
  unfold w_X5_variables_196 at h
  refine zu_aload_n d_4087_196 rfl (zs_ra _) ?_
  refine zu_bipush d_4087_197 zj_8 ?_
  obtain ⟨k1, h⟩ := h
  refine zc_4_25 (x0 := (8 : Int32)) hB rfl k1 d_4087_199 (Nat.le_of_ble_eq_true rfl) h (fun v3 S2 h => ?_)
  obtain ⟨b4, e5, h⟩ := h
  refine zs_stk0 (zs_rfe e5) ?_
  exact zu_throw d_4087_202 h
def w_X5_variables_17 (X : zs_X) (d : Nat) (p0 : Nat) (p1 : Option Nat) (p2 : Option Nat) (p3 : Int32) (S : zs_T) (Q : zs_Q) : Prop :=
  (((p3 = 0 → (zs_K S p0 = some (.inl 4) ∧ zs_C X d 4008 [.ref p0, .int (58 : Int32)] S (zs_kV (fun S3 => (zs_K S3 p0 = some (.inl 4) ∧ zs_C X d 4077 [.ref p0, .int (1 : Int32)] S3 (zs_kR (fun v7 S6 => (∃ b8, v7 = some b8 ∧ zs_K S6 b8 = some (.inl 6) ∧ ((¬ (zs_I S6 6000 b8) = (11 : Int32) → w_X5_variables_203 X d p0 p1 p2 v7 S6 Q) ∧ (¬ (¬ (zs_I S6 6000 b8) = (11 : Int32)) → (∃ b12, p2 = some b12 ∧ zs_K S6 b12 = some (.inl 16) ∧ zs_C X d 16001 [.ref b12] S6 (zs_kI (fun v16 S15 => (((v16 ≤ (2 : Int32) → w_X5_variables_203 X d p0 p1 p2 v7 S15 Q) ∧ (¬ (v16 ≤ (2 : Int32)) → w_X5_variables_196 X d p0 S15 Q)))) Q)))))) Q))) Q))) ∧ (¬ (p3 = 0) → (zs_K S p0 = some (.inl 4) ∧ ∃ b19, (zs_R S 4000 p0) = some b19 ∧ zs_K S b19 = some (.inl 5) ∧ zs_C X d 5016 [.ref b19] S (zs_kI (fun v23 S22 => (((¬ v23 = 0 → (zs_K S22 p0 = some (.inl 4) ∧ ∃ b26, (zs_R S22 4000 p0) = some b26 ∧ zs_K S22 b26 = some (.inl 5) ∧ zs_C X d 4012 [.ref p0, .int (zs_I S22 5004 b26)] S22 (zs_kR (fun v30 S29 => (((v30 = none → (zs_U X d 4087 61 [(0, .ref p0), (1, va_rf p1), (2, va_rf p2), (4, .int (0 : Int32)), (5, .int (0 : Int32))] [] S29 Q)) ∧ (∀ b31, v30 = some b31 → (zs_U X d 4087 61 [(0, .ref p0), (1, va_rf p1), (2, va_rf p2), (4, .int (1 : Int32)), (5, .int (0 : Int32))] [] S29 Q))))) Q))) ∧ (¬ (¬ v23 = 0) → (zs_K S22 p0 = some (.inl 4) ∧ zs_C X d 4006 [.ref p0, .int (2 : Int32)] S22 (zs_kR (fun v35 S34 => (∃ b36, v35 = some b36 ∧ Q (.threw b36) S34)) Q)))))) Q)))))
theorem u_X5_variables_17 {σ : Nat → Nat} {n0 : Nat} {bf : ab_B} {d : Nat} {p0 : Nat} {p1 : Option Nat} {p2 : Option Nat} {p3 : Int32} {S : zs_T} {Q : zs_Q} (hB : zt_B bf) (h : w_X5_variables_17 (zx σ n0 bf) d p0 p1 p2 p3 S Q) : zs_U (zx σ n0 bf) d 4087 17 [(0, .ref p0), (1, va_rf p1), (2, va_rf p2), (3, .int p3)] [] S Q := by
  unfold w_X5_variables_17 at h
  refine zu_iload_n d_4087_17 rfl ?_
  refine zu_ifeq (t := 165) d_4087_18 rfl (fun c1 => ?_) (fun c1 => ?_)
  · have h := h.1 c1
    refine zu_aload_n d_4087_165 rfl (zs_ra _) ?_
    refine zu_bipush d_4087_166 zj_58 ?_
    obtain ⟨k2, h⟩ := h
    refine zc_4_224 (x0 := (58 : Int32)) hB rfl k2 d_4087_168 (Nat.le_of_ble_eq_true rfl) h (fun S3 h => ?_)
    refine zu_aload_n d_4087_171 rfl (zs_ra _) ?_
    refine zu_iconst d_4087_172 zi_1 ?_
    obtain ⟨k5, h⟩ := h
    refine zc_4_309 (x0 := (1 : Int32)) hB rfl k5 d_4087_173 (Nat.le_of_ble_eq_true rfl) h (fun v7 S6 h => ?_)
    refine zu_astore d_4087_176 (zs_rr _) (zs_lt zq_4087 rfl) ?_
    refine zu_aload d_4087_178 rfl (zs_rr _) ?_
    obtain ⟨b8, e9, h⟩ := h
    refine zs_stk0 (zs_rfe e9) ?_
    obtain ⟨k10, h⟩ := h
    refine zg_4_369 rfl d_4087_180 k10 ?_
    refine zu_bipush d_4087_183 zj_11 ?_
    refine zu_cmpne (t := 203) d_4087_185 rfl (fun c11 => ?_) (fun c11 => ?_)
    · have h := h.1 c11
      exact (u_X5_variables_203 hB h).weak ⟨rfl, rfl, rfl, rfl, trivial⟩
    · have h := h.2 c11
      refine zu_aload_n d_4087_188 rfl (zs_rr _) ?_
      obtain ⟨b12, e13, h⟩ := h
      refine zs_stk0 (zs_rfe e13) ?_
      obtain ⟨k14, h⟩ := h
      refine zc_4_50  hB rfl k14 d_4087_189 (Nat.le_of_ble_eq_true rfl) h (fun v16 S15 h => ?_)
      refine zu_iconst d_4087_192 zi_2 ?_
      refine zu_cmple (t := 203) d_4087_193 rfl (fun c17 => ?_) (fun c17 => ?_)
      · have h := h.1 c17
        exact (u_X5_variables_203 hB h).weak ⟨rfl, rfl, rfl, rfl, trivial⟩
      · have h := h.2 c17
        exact (u_X5_variables_196 hB h).weak ⟨rfl, trivial⟩
  · have h := h.2 c1
    refine zu_aload_n d_4087_21 rfl (zs_ra _) ?_
    obtain ⟨k18, h⟩ := h
    refine zg_4_5 rfl d_4087_22 k18 ?_
    obtain ⟨b19, e20, h⟩ := h
    refine zs_stk0 (zs_rfe e20) ?_
    obtain ⟨k21, h⟩ := h
    refine zc_4_36  hB rfl k21 d_4087_25 (Nat.le_of_ble_eq_true rfl) h (fun v23 S22 h => ?_)
    refine zu_ifne (t := 37) d_4087_28 rfl (fun c24 => ?_) (fun c24 => ?_)
    · have h := h.1 c24
      refine zu_aload_n d_4087_37 rfl (zs_ra _) ?_
      refine zu_aload_n d_4087_38 rfl (zs_ra _) ?_
      obtain ⟨k25, h⟩ := h
      refine zg_4_5 rfl d_4087_39 k25 ?_
      obtain ⟨b26, e27, h⟩ := h
      refine zs_stk0 (zs_rfe e27) ?_
      obtain ⟨k28, h⟩ := h
      refine zg_4_40 rfl d_4087_42 k28 ?_
      refine zc_4_118 (x0 := (zs_I S22 5004 b26)) hB rfl k25 d_4087_45 (Nat.le_of_ble_eq_true rfl) h (fun v30 S29 h => ?_)
      refine zu_ifnull (u := v30) (t := 55) d_4087_48 rfl rfl (fun e32 => ?_) (fun b31 e32 => ?_)
      · have h := h.1 e32
        refine zu_iconst d_4087_55 zi_0 ?_
        refine zu_istore d_4087_56 (zs_lt zq_4087 rfl) ?_
        refine zu_iconst d_4087_58 zi_0 ?_
        refine zu_istore d_4087_59 (zs_lt zq_4087 rfl) ?_
        exact h.weak ⟨rfl, rfl, rfl, rfl, rfl, trivial⟩
      · have h := h.2 b31 e32
        refine zu_iconst d_4087_51 zi_1 ?_
        refine zu_goto (t := 56) d_4087_52 rfl ?_
        refine zu_istore d_4087_56 (zs_lt zq_4087 rfl) ?_
        refine zu_iconst d_4087_58 zi_0 ?_
        refine zu_istore d_4087_59 (zs_lt zq_4087 rfl) ?_
        exact h.weak ⟨rfl, rfl, rfl, rfl, rfl, trivial⟩
    · have h := h.2 c24
      refine zu_aload_n d_4087_31 rfl (zs_ra _) ?_
      refine zu_iconst d_4087_32 zi_2 ?_
      obtain ⟨k33, h⟩ := h
      refine zc_4_25 (x0 := (2 : Int32)) hB rfl k33 d_4087_33 (Nat.le_of_ble_eq_true rfl) h (fun v35 S34 h => ?_)
      obtain ⟨b36, e37, h⟩ := h
      refine zs_stk0 (zs_rfe e37) ?_
      exact zu_throw d_4087_36 h
def w_X5_variables_141 (X : zs_X) (d : Nat) (p0 : Nat) (p1 : Option Nat) (p2 : Option Nat) (S : zs_T) (Q : zs_Q) : Prop :=
  (zs_K S p0 = some (.inl 4) ∧ ∃ b2, (zs_R S 4000 p0) = some b2 ∧ zs_K S b2 = some (.inl 5) ∧ zs_C X d 5017 [.ref b2, .int (44 : Int32)] S (zs_kI (fun v6 S5 => (((v6 = 0 → (zs_U X d 4087 17 [(0, .ref p0), (1, va_rf p1), (2, va_rf p2), (3, .int v6)] [] S5 Q)) ∧ (¬ (v6 = 0) → (zs_K S5 p0 = some (.inl 4) ∧ ∃ b9, (zs_R S5 4000 p0) = some b9 ∧ zs_K S5 b9 = some (.inl 5) ∧ zs_C X d 5004 [.ref b9] S5 (zs_kV (fun S12 => (zs_U X d 4087 17 [(0, .ref p0), (1, va_rf p1), (2, va_rf p2), (3, .int v6)] [] S12 Q)) Q)))))) Q))
theorem u_X5_variables_141 {σ : Nat → Nat} {n0 : Nat} {bf : ab_B} {d : Nat} {p0 : Nat} {p1 : Option Nat} {p2 : Option Nat} {S : zs_T} {Q : zs_Q} (hB : zt_B bf) (h : w_X5_variables_141 (zx σ n0 bf) d p0 p1 p2 S Q) : zs_U (zx σ n0 bf) d 4087 141 [(0, .ref p0), (1, va_rf p1), (2, va_rf p2)] [] S Q := by
  unfold w_X5_variables_141 at h
  refine zu_aload_n d_4087_141 rfl (zs_ra _) ?_
  obtain ⟨k1, h⟩ := h
  refine zg_4_5 rfl d_4087_142 k1 ?_
  refine zu_bipush d_4087_145 zj_44 ?_
  obtain ⟨b2, e3, h⟩ := h
  refine zs_stk1 (zs_rfe e3) ?_
  obtain ⟨k4, h⟩ := h
  refine zc_4_21 (x0 := (44 : Int32)) hB rfl k4 d_4087_147 (Nat.le_of_ble_eq_true rfl) h (fun v6 S5 h => ?_)
  refine zu_istore_n d_4087_150 (zs_lt zq_4087 rfl) ?_
  refine zs_U.weak (L1 := [(3, .int v6), (0, .ref p0), (1, va_rf p1), (2, va_rf p2)]) ?_ ⟨rfl, zs_gp1 rfl (Or.inl rfl) rfl, zs_gp1 rfl (Or.inl (zs_cat _)) rfl, zs_gp1 rfl (Or.inl (zs_cat _)) rfl, trivial⟩
  refine zu_iload_n d_4087_151 rfl ?_
  refine zu_ifeq (t := 162) d_4087_152 rfl (fun c7 => ?_) (fun c7 => ?_)
  · have h := h.1 c7
    refine zu_goto (t := 17) d_4087_162 rfl ?_
    exact h.weak ⟨rfl, rfl, rfl, rfl, trivial⟩
  · have h := h.2 c7
    refine zu_aload_n d_4087_155 rfl (zs_ra _) ?_
    obtain ⟨k8, h⟩ := h
    refine zg_4_5 rfl d_4087_156 k8 ?_
    obtain ⟨b9, e10, h⟩ := h
    refine zs_stk0 (zs_rfe e10) ?_
    obtain ⟨k11, h⟩ := h
    refine zc_4_29  hB rfl k11 d_4087_159 (Nat.le_of_ble_eq_true rfl) h (fun S12 h => ?_)
    refine zu_goto (t := 17) d_4087_162 rfl ?_
    exact h.weak ⟨rfl, rfl, rfl, rfl, trivial⟩
def w_X5_variables_99 (X : zs_X) (d : Nat) (p0 : Nat) (p1 : Option Nat) (p2 : Option Nat) (p5 : Int32) (q0 : Int32) (q1 : Int32) (S : zs_T) (Q : zs_Q) : Prop :=
  (zs_U X d 4087 61 [(0, .ref p0), (1, va_rf p1), (2, va_rf p2), (4, .int (q0 ||| q1)), (5, .int (p5 + (1 : Int32)))] [] S Q)
theorem u_X5_variables_99 {σ : Nat → Nat} {n0 : Nat} {bf : ab_B} {d : Nat} {p0 : Nat} {p1 : Option Nat} {p2 : Option Nat} {p5 : Int32} {q0 : Int32} {q1 : Int32} {S : zs_T} {Q : zs_Q} (hB : zt_B bf) (h : w_X5_variables_99 (zx σ n0 bf) d p0 p1 p2 p5 q0 q1 S Q) : zs_U (zx σ n0 bf) d 4087 99 [(0, .ref p0), (1, va_rf p1), (2, va_rf p2), (5, .int p5)] [.int q1, .int q0] S Q := by
  unfold w_X5_variables_99 at h
  refine zu_stk d_4087_99 rfl rfl ?_
  refine zu_istore d_4087_100 (zs_lt zq_4087 rfl) ?_
  refine zu_iinc d_4087_102 rfl zi_1 (zs_lt zq_4087 rfl) ?_
  refine zu_goto (t := 61) d_4087_105 rfl ?_
  exact h.weak ⟨rfl, rfl, rfl, rfl, rfl, trivial⟩
def w_X5_variables_61 (X : zs_X) (d : Nat) (p0 : Nat) (p1 : Option Nat) (p2 : Option Nat) (p4 : Int32) (p5 : Int32) (S : zs_T) (Q : zs_Q) : Prop :=
  (∃ b1, p2 = some b1 ∧ zs_K S b1 = some (.inl 16) ∧ zs_C X d 16001 [.ref b1] S (zs_kI (fun v5 S4 => (((v5 ≤ p5 → (((p4 = 0 → (zs_K S4 p0 = some (.inl 4) ∧ ∃ b9, (zs_R S4 4000 p0) = some b9 ∧ zs_K S4 b9 = some (.inl 5) ∧ zs_C X d 21001 [.int (zs_I S4 5004 b9)] S4 (zs_kR (fun v13 S12 => (zs_K S12 b1 = some (.inl 16) ∧ zs_C X d 16002 [.ref b1, va_rf v13] S12 (zs_kI (fun v16 S15 => (zs_K S15 p0 = some (.inl 4) ∧ ∃ b18, (zs_R S15 4000 p0) = some b18 ∧ zs_K S15 b18 = some (.inl 5) ∧ zs_C X d 5004 [.ref b18] S15 (zs_kV (fun S21 => w_X5_variables_141 X d p0 p1 p2 S21 Q) Q))) Q))) Q))) ∧ (¬ (p4 = 0) → (zs_K S4 p0 = some (.inl 4) ∧ zs_C X d 4006 [.ref p0, .int (4 : Int32)] S4 (zs_kR (fun v25 S24 => (∃ b26, v25 = some b26 ∧ Q (.threw b26) S24)) Q)))))) ∧ (¬ (v5 ≤ p5) → (zs_K S4 b1 = some (.inl 16) ∧ zs_C X d 16009 [.ref b1, .int p5] S4 (zs_kR (fun v30 S29 => ((∀ a, v30 = some a → zs_K S29 a = some (.inl 21)) ∧ ∃ b32, v30 = some b32 ∧ zs_K S29 b32 = some (.inl 21) ∧ zs_C X d 21000 [.ref b32] S29 (zs_kI (fun v36 S35 => (zs_K S35 p0 = some (.inl 4) ∧ ∃ b38, (zs_R S35 4000 p0) = some b38 ∧ zs_K S35 b38 = some (.inl 5) ∧ ((¬ v36 = (zs_I S35 5004 b38) → (w_X5_variables_99 X d p0 p1 p2 p5 p4 (0 : Int32) S35 Q)) ∧ (¬ (¬ v36 = (zs_I S35 5004 b38)) → (w_X5_variables_99 X d p0 p1 p2 p5 p4 (1 : Int32) S35 Q))))) Q))) Q)))))) Q))
theorem u_X5_variables_61 {σ : Nat → Nat} {n0 : Nat} {bf : ab_B} {d : Nat} {p0 : Nat} {p1 : Option Nat} {p2 : Option Nat} {p4 : Int32} {p5 : Int32} {S : zs_T} {Q : zs_Q} (hB : zt_B bf) (h : w_X5_variables_61 (zx σ n0 bf) d p0 p1 p2 p4 p5 S Q) : zs_U (zx σ n0 bf) d 4087 61 [(0, .ref p0), (1, va_rf p1), (2, va_rf p2), (4, .int p4), (5, .int p5)] [] S Q := by
  unfold w_X5_variables_61 at h
  refine zu_iload d_4087_61 rfl ?_
  refine zu_aload_n d_4087_63 rfl (zs_rr _) ?_
  obtain ⟨b1, e2, h⟩ := h
  refine zs_stk0 (zs_rfe e2) ?_
  obtain ⟨k3, h⟩ := h
  refine zc_4_50  hB rfl k3 d_4087_64 (Nat.le_of_ble_eq_true rfl) h (fun v5 S4 h => ?_)
  refine zu_cmpge (t := 108) d_4087_67 rfl (fun c6 => ?_) (fun c6 => ?_)
  · have h := h.1 c6
    refine zu_iload d_4087_108 rfl ?_
    refine zu_ifeq (t := 119) d_4087_110 rfl (fun c7 => ?_) (fun c7 => ?_)
    · have h := h.1 c7
      refine zu_aload_n d_4087_119 rfl (zs_rr _) ?_
      refine zu_aload_n d_4087_120 rfl (zs_ra _) ?_
      obtain ⟨k8, h⟩ := h
      refine zg_4_5 rfl d_4087_121 k8 ?_
      obtain ⟨b9, e10, h⟩ := h
      refine zs_stk0 (zs_rfe e10) ?_
      obtain ⟨k11, h⟩ := h
      refine zg_4_40 rfl d_4087_124 k11 ?_
      refine zc_4_350 (x0 := (zs_I S4 5004 b9)) hB rfl d_4087_127 (by simp only [List.map_cons, List.map_nil, List.sum_cons, List.sum_nil, zs_cat, zs_cI, zs_cJ, zs_cA]; exact Nat.le_of_ble_eq_true rfl) h (fun v13 S12 h => ?_)
      refine zs_stk1 (zs_rfe e2) ?_
      obtain ⟨k14, h⟩ := h
      refine zc_4_140 (x0 := v13) hB rfl k14 d_4087_130 (Nat.le_of_ble_eq_true rfl) h (fun v16 S15 h => ?_)
      refine zu_pop d_4087_133 rfl ?_
      refine zu_aload_n d_4087_134 rfl (zs_ra _) ?_
      obtain ⟨k17, h⟩ := h
      refine zg_4_5 rfl d_4087_135 k17 ?_
      obtain ⟨b18, e19, h⟩ := h
      refine zs_stk0 (zs_rfe e19) ?_
      obtain ⟨k20, h⟩ := h
      refine zc_4_29  hB rfl k20 d_4087_138 (Nat.le_of_ble_eq_true rfl) h (fun S21 h => ?_)
      exact (u_X5_variables_141 hB h).weak ⟨rfl, rfl, rfl, trivial⟩
    · have h := h.2 c7
      refine zu_aload_n d_4087_113 rfl (zs_ra _) ?_
      refine zu_iconst d_4087_114 zi_4 ?_
      obtain ⟨k23, h⟩ := h
      refine zc_4_25 (x0 := (4 : Int32)) hB rfl k23 d_4087_115 (Nat.le_of_ble_eq_true rfl) h (fun v25 S24 h => ?_)
      obtain ⟨b26, e27, h⟩ := h
      refine zs_stk0 (zs_rfe e27) ?_
      exact zu_throw d_4087_118 h
  · have h := h.2 c6
    refine zu_iload d_4087_70 rfl ?_
    refine zu_aload_n d_4087_72 rfl (zs_rr _) ?_
    refine zu_iload d_4087_73 rfl ?_
    refine zs_stk1 (zs_rfe e2) ?_
    obtain ⟨k28, h⟩ := h
    refine zc_4_56 (x0 := p5) hB rfl k28 d_4087_75 (Nat.le_of_ble_eq_true rfl) h (fun v30 S29 h => ?_)
    obtain ⟨k31, h⟩ := h
    refine zk_4_313 (o := v30) rfl d_4087_78 k31 ?_
    obtain ⟨b32, e33, h⟩ := h
    refine zs_stk0 (zs_rfe e33) ?_
    obtain ⟨k34, h⟩ := h
    refine zc_4_315  hB rfl k34 d_4087_81 (Nat.le_of_ble_eq_true rfl) h (fun v36 S35 h => ?_)
    refine zu_aload_n d_4087_84 rfl (zs_ra _) ?_
    obtain ⟨k37, h⟩ := h
    refine zg_4_5 rfl d_4087_85 k37 ?_
    obtain ⟨b38, e39, h⟩ := h
    refine zs_stk0 (zs_rfe e39) ?_
    obtain ⟨k40, h⟩ := h
    refine zg_4_40 rfl d_4087_88 k40 ?_
    refine zu_cmpne (t := 98) d_4087_91 rfl (fun c41 => ?_) (fun c41 => ?_)
    · have h := h.1 c41
      refine zu_iconst d_4087_98 zi_0 ?_
      exact (u_X5_variables_99 hB h).weak ⟨rfl, rfl, rfl, rfl, trivial⟩
    · have h := h.2 c41
      refine zu_iconst d_4087_94 zi_1 ?_
      refine zu_goto (t := 99) d_4087_95 rfl ?_
      exact (u_X5_variables_99 hB h).weak ⟨rfl, rfl, rfl, rfl, trivial⟩
def w_X5_variables_206 (X : zs_X) (d : Nat) (p0 : Nat) (p1 : Option Nat) (p2 : Option Nat) (p4 : Option Nat) (p5 : Int32) (S : zs_T) (Q : zs_Q) : Prop :=
  (∃ b1, p2 = some b1 ∧ zs_K S b1 = some (.inl 16) ∧ zs_C X d 16001 [.ref b1] S (zs_kI (fun v5 S4 => (((v5 ≤ p5 → (zs_K S4 p0 = some (.inl 4) ∧ ∃ b8, (zs_R S4 4000 p0) = some b8 ∧ zs_K S4 b8 = some (.inl 5) ∧ zs_C X d 5015 [.ref b8, .int (35 : Int32)] S4 (zs_kI (fun v12 S11 => (((v12 = 0 → (zs_U X d 4087 273 [(0, .ref p0), (1, va_rf p1), (2, va_rf p2), (4, va_rf p4), (5, va_rf none), (6, .int (0 : Int32))] [] S11 Q)) ∧ (¬ (v12 = 0) → (zs_K S11 p0 = some (.inl 4) ∧ zs_C X d 4088 [.ref p0, va_rf p4] S11 (zs_kR (fun v16 S15 => (zs_U X d 4087 273 [(0, .ref p0), (1, va_rf p1), (2, va_rf p2), (4, va_rf p4), (5, va_rf v16), (6, .int (0 : Int32))] [] S15 Q)) Q)))))) Q))) ∧ (¬ (v5 ≤ p5) → (zs_K S4 b1 = some (.inl 16) ∧ zs_C X d 16009 [.ref b1, .int p5] S4 (zs_kR (fun v19 S18 => ((∀ a, v19 = some a → zs_K S18 a = some (.inl 21)) ∧ ∃ b21, v19 = some b21 ∧ zs_K S18 b21 = some (.inl 21) ∧ zs_C X d 21000 [.ref b21] S18 (zs_kI (fun v25 S24 => (zs_K S24 p0 = some (.inl 4) ∧ zs_C X d 4012 [.ref p0, .int v25] S24 (zs_kR (fun v28 S27 => (((v28 = none → (zs_U X d 4087 206 [(0, .ref p0), (1, va_rf p1), (2, va_rf p2), (4, va_rf p4), (5, .int (p5 + (1 : Int32)))] [] S27 Q)) ∧ (∀ b29, v28 = some b29 → (zs_K S27 p0 = some (.inl 4) ∧ zs_C X d 4006 [.ref p0, .int (4 : Int32)] S27 (zs_kR (fun v33 S32 => (∃ b34, v33 = some b34 ∧ Q (.threw b34) S32)) Q)))))) Q))) Q))) Q)))))) Q))
theorem u_X5_variables_206 {σ : Nat → Nat} {n0 : Nat} {bf : ab_B} {d : Nat} {p0 : Nat} {p1 : Option Nat} {p2 : Option Nat} {p4 : Option Nat} {p5 : Int32} {S : zs_T} {Q : zs_Q} (hB : zt_B bf) (h : w_X5_variables_206 (zx σ n0 bf) d p0 p1 p2 p4 p5 S Q) : zs_U (zx σ n0 bf) d 4087 206 [(0, .ref p0), (1, va_rf p1), (2, va_rf p2), (4, va_rf p4), (5, .int p5)] [] S Q := by
  unfold w_X5_variables_206 at h
  refine zu_iload d_4087_206 rfl ?_
  refine zu_aload_n d_4087_208 rfl (zs_rr _) ?_
  obtain ⟨b1, e2, h⟩ := h
  refine zs_stk0 (zs_rfe e2) ?_
  obtain ⟨k3, h⟩ := h
  refine zc_4_50  hB rfl k3 d_4087_209 (Nat.le_of_ble_eq_true rfl) h (fun v5 S4 h => ?_)
  refine zu_cmpge (t := 246) d_4087_212 rfl (fun c6 => ?_) (fun c6 => ?_)
  · have h := h.1 c6
    refine zu_aload_n d_4087_246 rfl (zs_ra _) ?_
    obtain ⟨k7, h⟩ := h
    refine zg_4_5 rfl d_4087_247 k7 ?_
    refine zu_bipush d_4087_250 zj_35 ?_
    obtain ⟨b8, e9, h⟩ := h
    refine zs_stk1 (zs_rfe e9) ?_
    obtain ⟨k10, h⟩ := h
    refine zc_4_33 (x0 := (35 : Int32)) hB rfl k10 d_4087_252 (Nat.le_of_ble_eq_true rfl) h (fun v12 S11 h => ?_)
    refine zu_ifeq (t := 267) d_4087_255 rfl (fun c13 => ?_) (fun c13 => ?_)
    · have h := h.1 c13
      refine zu_stk d_4087_267 rfl rfl ?_
      refine zu_astore d_4087_268 zs_r0 (zs_lt zq_4087 rfl) ?_
      refine zs_U.weak (L1 := [(5, .null), (0, .ref p0), (1, va_rf p1), (2, va_rf p2), (4, va_rf p4)]) ?_ ⟨rfl, zs_gp1 rfl (Or.inl rfl) rfl, zs_gp1 rfl (Or.inl (zs_cat _)) rfl, zs_gp1 rfl (Or.inl (zs_cat _)) rfl, zs_gp1 rfl (Or.inl (zs_cat _)) rfl, trivial⟩
      refine zu_iconst d_4087_270 zi_0 ?_
      refine zu_istore d_4087_271 (zs_lt zq_4087 rfl) ?_
      exact h.weak ⟨rfl, rfl, rfl, rfl, rfl, rfl, trivial⟩
    · have h := h.2 c13
      refine zu_aload_n d_4087_258 rfl (zs_ra _) ?_
      refine zu_aload d_4087_259 rfl (zs_rr _) ?_
      obtain ⟨k14, h⟩ := h
      refine zc_4_804 (x0 := p4) hB rfl k14 d_4087_261 (Nat.le_of_ble_eq_true rfl) h (fun v16 S15 h => ?_)
      refine zu_goto (t := 268) d_4087_264 rfl ?_
      refine zu_astore d_4087_268 (zs_rr _) (zs_lt zq_4087 rfl) ?_
      refine zs_U.weak (L1 := [(5, va_rf v16), (0, .ref p0), (1, va_rf p1), (2, va_rf p2), (4, va_rf p4)]) ?_ ⟨rfl, zs_gp1 rfl (Or.inl rfl) rfl, zs_gp1 rfl (Or.inl (zs_cat _)) rfl, zs_gp1 rfl (Or.inl (zs_cat _)) rfl, zs_gp1 rfl (Or.inl (zs_cat _)) rfl, trivial⟩
      refine zu_iconst d_4087_270 zi_0 ?_
      refine zu_istore d_4087_271 (zs_lt zq_4087 rfl) ?_
      refine zs_U.weak (L1 := [(6, .int (0 : Int32)), (0, .ref p0), (1, va_rf p1), (2, va_rf p2), (4, va_rf p4), (5, va_rf v16)]) ?_ ⟨rfl, zs_gp1 rfl (Or.inl rfl) rfl, zs_gp1 rfl (Or.inl (zs_cat _)) rfl, zs_gp1 rfl (Or.inl (zs_cat _)) rfl, zs_gp1 rfl (Or.inl (zs_cat _)) rfl, zs_gp1 rfl (Or.inl (zs_cat _)) rfl, trivial⟩
      exact h.weak ⟨rfl, rfl, rfl, rfl, rfl, rfl, trivial⟩
  · have h := h.2 c6
    refine zu_aload_n d_4087_215 rfl (zs_ra _) ?_
    refine zu_aload_n d_4087_216 rfl (zs_rr _) ?_
    refine zu_iload d_4087_217 rfl ?_
    refine zs_stk1 (zs_rfe e2) ?_
    obtain ⟨k17, h⟩ := h
    refine zc_4_56 (x0 := p5) hB rfl k17 d_4087_219 (Nat.le_of_ble_eq_true rfl) h (fun v19 S18 h => ?_)
    obtain ⟨k20, h⟩ := h
    refine zk_4_313 (o := v19) rfl d_4087_222 k20 ?_
    obtain ⟨b21, e22, h⟩ := h
    refine zs_stk0 (zs_rfe e22) ?_
    obtain ⟨k23, h⟩ := h
    refine zc_4_315  hB rfl k23 d_4087_225 (Nat.le_of_ble_eq_true rfl) h (fun v25 S24 h => ?_)
    obtain ⟨k26, h⟩ := h
    refine zc_4_118 (x0 := v25) hB rfl k26 d_4087_228 (Nat.le_of_ble_eq_true rfl) h (fun v28 S27 h => ?_)
    refine zu_ifnull (u := v28) (t := 240) d_4087_231 rfl rfl (fun e30 => ?_) (fun b29 e30 => ?_)
    · have h := h.1 e30
      refine zu_iinc d_4087_240 rfl zi_1 (zs_lt zq_4087 rfl) ?_
      refine zs_U.weak (L1 := [(5, .int (p5 + (1 : Int32))), (0, .ref p0), (1, va_rf p1), (2, va_rf p2), (4, va_rf p4)]) ?_ ⟨rfl, zs_gp1 rfl (Or.inl rfl) rfl, zs_gp1 rfl (Or.inl (zs_cat _)) rfl, zs_gp1 rfl (Or.inl (zs_cat _)) rfl, zs_gp1 rfl (Or.inl (zs_cat _)) rfl, trivial⟩
      refine zu_goto (t := 206) d_4087_243 rfl ?_
      exact h.weak ⟨rfl, rfl, rfl, rfl, rfl, trivial⟩
    · have h := h.2 b29 e30
      refine zu_aload_n d_4087_234 rfl (zs_ra _) ?_
      refine zu_iconst d_4087_235 zi_4 ?_
      obtain ⟨k31, h⟩ := h
      refine zc_4_25 (x0 := (4 : Int32)) hB rfl k31 d_4087_236 (Nat.le_of_ble_eq_true rfl) h (fun v33 S32 h => ?_)
      obtain ⟨b34, e35, h⟩ := h
      refine zs_stk0 (zs_rfe e35) ?_
      exact zu_throw d_4087_239 h
def w_X5_variables_399 (X : zs_X) (d : Nat) (p0 : Nat) (p1 : Option Nat) (p2 : Option Nat) (p4 : Option Nat) (p5 : Option Nat) (p6 : Int32) (S : zs_T) (Q : zs_Q) : Prop :=
  (zs_U X d 4087 273 [(0, .ref p0), (1, va_rf p1), (2, va_rf p2), (4, va_rf p4), (5, va_rf p5), (6, .int (p6 + (1 : Int32)))] [] S Q)
theorem u_X5_variables_399 {σ : Nat → Nat} {n0 : Nat} {bf : ab_B} {d : Nat} {p0 : Nat} {p1 : Option Nat} {p2 : Option Nat} {p4 : Option Nat} {p5 : Option Nat} {p6 : Int32} {S : zs_T} {Q : zs_Q} (hB : zt_B bf) (h : w_X5_variables_399 (zx σ n0 bf) d p0 p1 p2 p4 p5 p6 S Q) : zs_U (zx σ n0 bf) d 4087 399 [(0, .ref p0), (1, va_rf p1), (2, va_rf p2), (4, va_rf p4), (5, va_rf p5), (6, .int p6)] [] S Q := by
  unfold w_X5_variables_399 at h
  refine zu_iinc d_4087_399 rfl zi_1 (zs_lt zq_4087 rfl) ?_
  refine zs_U.weak (L1 := [(6, .int (p6 + (1 : Int32))), (0, .ref p0), (1, va_rf p1), (2, va_rf p2), (4, va_rf p4), (5, va_rf p5)]) ?_ ⟨rfl, zs_gp1 rfl (Or.inl rfl) rfl, zs_gp1 rfl (Or.inl (zs_cat _)) rfl, zs_gp1 rfl (Or.inl (zs_cat _)) rfl, zs_gp1 rfl (Or.inl (zs_cat _)) rfl, zs_gp1 rfl (Or.inl (zs_cat _)) rfl, trivial⟩
  refine zu_goto (t := 273) d_4087_402 rfl ?_
  exact h.weak ⟨rfl, rfl, rfl, rfl, rfl, rfl, trivial⟩
def w_X5_variables_351 (X : zs_X) (d : Nat) (p0 : Nat) (p1 : Option Nat) (p2 : Option Nat) (p4 : Option Nat) (p5 : Option Nat) (p6 : Int32) (p7 : Option Nat) (q0 : Option Nat) (q1 : Int32) (S : zs_T) (Q : zs_Q) : Prop :=
  (∃ b1, q0 = some b1 ∧ zs_K S b1 = some (.inl 7) ∧ ab_n0 X.1 ≤ b1 ∧ zs_b q1 ∧ ∀ S6, S6 = zs_sI S 7011 b1 q1 → ((p5 = none → w_X5_variables_399 X d p0 p1 p2 p4 p5 p6 S6 Q) ∧ (∀ b9, p5 = some b9 → (zs_K S b9 = some (.inl 11) ∧ ∃ b12, p7 = some b12 ∧ zs_K S b12 = some (.inl 7) ∧ ab_n0 X.1 ≤ b12 ∧ ∀ S16, S16 = zs_sJ S6 7003 b12 (zs_J S6 11004 b9) → ∀ S19, S19 = zs_sI S16 7004 b12 (zs_I S16 11011 b9) → ∀ S22, S22 = zs_sI S19 7005 b12 (zs_I S19 11012 b9) → ∀ S25, S25 = zs_sR S22 7013 b12 (zs_R S22 11002 b9) → w_X5_variables_399 X d p0 p1 p2 p4 p5 p6 S25 Q))))
theorem u_X5_variables_351 {σ : Nat → Nat} {n0 : Nat} {bf : ab_B} {d : Nat} {p0 : Nat} {p1 : Option Nat} {p2 : Option Nat} {p4 : Option Nat} {p5 : Option Nat} {p6 : Int32} {p7 : Option Nat} {q0 : Option Nat} {q1 : Int32} {S : zs_T} {Q : zs_Q} (hB : zt_B bf) (h : w_X5_variables_351 (zx σ n0 bf) d p0 p1 p2 p4 p5 p6 p7 q0 q1 S Q) : zs_U (zx σ n0 bf) d 4087 351 [(0, .ref p0), (1, va_rf p1), (2, va_rf p2), (4, va_rf p4), (5, va_rf p5), (6, .int p6), (7, va_rf p7)] [.int q1, va_rf q0] S Q := by
  unfold w_X5_variables_351 at h
  obtain ⟨b1, e2, h⟩ := h
  refine zs_stk1 (zs_rfe e2) ?_
  obtain ⟨k3, h⟩ := h
  obtain ⟨k4, h⟩ := h
  obtain ⟨k5, h⟩ := h
  refine zp_4_281 (v := q1) rfl d_4087_351 k3 k4 k5 ?_
  generalize e7 : zs_sI S 7011 b1 q1 = S6
  have h := h S6 e7.symm
  have K8 : ∀ b, zs_K S6 b = zs_K S b := zs_Kt e7 (zs_KsI _ _ _ _) (fun _ => rfl)
  refine zu_aload d_4087_354 rfl (zs_rr _) ?_
  refine zu_ifnull (u := p5) (t := 399) d_4087_356 rfl rfl (fun e10 => ?_) (fun b9 e10 => ?_)
  · have h := h.1 e10
    exact (u_X5_variables_399 hB h).weak ⟨rfl, rfl, rfl, rfl, rfl, rfl, trivial⟩
  · have h := h.2 b9 e10
    refine zu_aload d_4087_359 rfl (zs_rr _) ?_
    refine zu_aload d_4087_361 rfl (zs_rr _) ?_
    refine zs_stk0 (zs_rfe e10) ?_
    obtain ⟨k11, h⟩ := h
    refine zg_4_300 rfl d_4087_363 ((K8 _).trans k11) ?_
    obtain ⟨b12, e13, h⟩ := h
    refine zs_stk1 (zs_rfe e13) ?_
    obtain ⟨k14, h⟩ := h
    obtain ⟨k15, h⟩ := h
    refine zp_4_168 (v := (zs_J S6 11004 b9)) rfl d_4087_366 ((K8 _).trans k14) k15 ?_
    generalize e17 : zs_sJ S6 7003 b12 (zs_J S6 11004 b9) = S16
    have h := h S16 e17.symm
    have K18 : ∀ b, zs_K S16 b = zs_K S b := zs_Kt e17 (zs_KsJ _ _ _ _) K8
    refine zu_aload d_4087_369 rfl (zs_rr _) ?_
    refine zu_aload d_4087_371 rfl (zs_rr _) ?_
    refine zs_stk0 (zs_rfe e10) ?_
    refine zg_4_301 rfl d_4087_373 ((K18 _).trans k11) ?_
    refine zs_stk1 (zs_rfe e13) ?_
    refine zp_4_302 (v := (zs_I S16 11011 b9)) rfl d_4087_376 ((K18 _).trans k14) k15 ?_
    generalize e20 : zs_sI S16 7004 b12 (zs_I S16 11011 b9) = S19
    have h := h S19 e20.symm
    have K21 : ∀ b, zs_K S19 b = zs_K S b := zs_Kt e20 (zs_KsI _ _ _ _) K18
    refine zu_aload d_4087_379 rfl (zs_rr _) ?_
    refine zu_aload d_4087_381 rfl (zs_rr _) ?_
    refine zs_stk0 (zs_rfe e10) ?_
    refine zg_4_303 rfl d_4087_383 ((K21 _).trans k11) ?_
    refine zs_stk1 (zs_rfe e13) ?_
    refine zp_4_306 (v := (zs_I S19 11012 b9)) rfl d_4087_386 ((K21 _).trans k14) k15 ?_
    generalize e23 : zs_sI S19 7005 b12 (zs_I S19 11012 b9) = S22
    have h := h S22 e23.symm
    have K24 : ∀ b, zs_K S22 b = zs_K S b := zs_Kt e23 (zs_KsI _ _ _ _) K21
    refine zu_aload d_4087_389 rfl (zs_rr _) ?_
    refine zu_aload d_4087_391 rfl (zs_rr _) ?_
    refine zs_stk0 (zs_rfe e10) ?_
    refine zg_4_297 rfl d_4087_393 ((K24 _).trans k11) ?_
    refine zs_stk1 (zs_rfe e13) ?_
    refine zp_4_101 (v := (zs_R S22 11002 b9)) rfl d_4087_396 ((K24 _).trans k14) k15 ?_
    generalize e26 : zs_sR S22 7013 b12 (zs_R S22 11002 b9) = S25
    have h := h S25 e26.symm
    have K27 : ∀ b, zs_K S25 b = zs_K S b := zs_Kt e26 (zs_KsR _ _ _ _) K24
    exact (u_X5_variables_399 hB h).weak ⟨rfl, rfl, rfl, rfl, rfl, rfl, trivial⟩
def w_X5_variables_309 (X : zs_X) (d : Nat) (p0 : Nat) (p1 : Option Nat) (p2 : Option Nat) (p4 : Option Nat) (p5 : Option Nat) (p6 : Int32) (p7 : Option Nat) (S : zs_T) (Q : zs_Q) : Prop :=
  (∃ b1, p1 = some b1 ∧ zs_K S b1 = some (.inl 10) ∧ ∃ b4, (zs_R S 10004 b1) = some b4 ∧ zs_K S b4 = some (.inl 16) ∧ zs_C X d 16001 [.ref b4] S (zs_kI (fun v8 S7 => (zs_K S7 b1 = some (.inl 10) ∧ ∃ b10, (zs_R S7 10005 b1) = some b10 ∧ zs_K S7 b10 = some (.inl 16) ∧ zs_C X d 16001 [.ref b10] S7 (zs_kI (fun v14 S13 => (∃ b15, p7 = some b15 ∧ zs_K S13 b15 = some (.inl 7) ∧ ab_n0 X.1 ≤ b15 ∧ ∀ S19, S19 = zs_sI S13 7008 b15 (v8 + v14) → zs_K S13 b1 = some (.inl 10) ∧ ∃ b23, (zs_R S19 10005 b1) = some b23 ∧ zs_K S13 b23 = some (.inl 16) ∧ zs_C X d 16002 [.ref b23, va_rf p7] S19 (zs_kI (fun v27 S26 => (((p5 = none → (w_X5_variables_351 X d p0 p1 p2 p4 p5 p6 p7 p7 (0 : Int32) S26 Q)) ∧ (∀ b28, p5 = some b28 → (w_X5_variables_351 X d p0 p1 p2 p4 p5 p6 p7 p7 (1 : Int32) S26 Q))))) Q))) Q))) Q))
theorem u_X5_variables_309 {σ : Nat → Nat} {n0 : Nat} {bf : ab_B} {d : Nat} {p0 : Nat} {p1 : Option Nat} {p2 : Option Nat} {p4 : Option Nat} {p5 : Option Nat} {p6 : Int32} {p7 : Option Nat} {S : zs_T} {Q : zs_Q} (hB : zt_B bf) (h : w_X5_variables_309 (zx σ n0 bf) d p0 p1 p2 p4 p5 p6 p7 S Q) : zs_U (zx σ n0 bf) d 4087 309 [(0, .ref p0), (1, va_rf p1), (2, va_rf p2), (4, va_rf p4), (5, va_rf p5), (6, .int p6), (7, va_rf p7)] [] S Q := by
  unfold w_X5_variables_309 at h
  refine zu_aload d_4087_309 rfl (zs_rr _) ?_
  refine zu_aload_n d_4087_311 rfl (zs_rr _) ?_
  obtain ⟨b1, e2, h⟩ := h
  refine zs_stk0 (zs_rfe e2) ?_
  obtain ⟨k3, h⟩ := h
  refine zg_4_247 rfl d_4087_312 k3 ?_
  obtain ⟨b4, e5, h⟩ := h
  refine zs_stk0 (zs_rfe e5) ?_
  obtain ⟨k6, h⟩ := h
  refine zc_4_50  hB rfl k6 d_4087_315 (by simp only [List.map_cons, List.map_nil, List.sum_cons, List.sum_nil, zs_cat, zs_cI, zs_cJ, zs_cA]; exact Nat.le_of_ble_eq_true rfl) h (fun v8 S7 h => ?_)
  refine zu_aload_n d_4087_318 rfl (zs_rr _) ?_
  refine zs_stk0 (zs_rfe e2) ?_
  obtain ⟨k9, h⟩ := h
  refine zg_4_250 rfl d_4087_319 k9 ?_
  obtain ⟨b10, e11, h⟩ := h
  refine zs_stk0 (zs_rfe e11) ?_
  obtain ⟨k12, h⟩ := h
  refine zc_4_50  hB rfl k12 d_4087_322 (by simp only [List.map_cons, List.map_nil, List.sum_cons, List.sum_nil, zs_cat, zs_cI, zs_cJ, zs_cA]; exact Nat.le_of_ble_eq_true rfl) h (fun v14 S13 h => ?_)
  refine zu_stk d_4087_325 rfl rfl ?_
  obtain ⟨b15, e16, h⟩ := h
  refine zs_stk1 (zs_rfe e16) ?_
  obtain ⟨k17, h⟩ := h
  obtain ⟨k18, h⟩ := h
  refine zp_4_104 (v := (v8 + v14)) rfl d_4087_326 k17 k18 ?_
  generalize e20 : zs_sI S13 7008 b15 (v8 + v14) = S19
  have h := h S19 e20.symm
  have K21 : ∀ b, zs_K S19 b = zs_K S13 b := zs_Kt e20 (zs_KsI _ _ _ _) (fun _ => rfl)
  refine zu_aload_n d_4087_329 rfl (zs_rr _) ?_
  refine zs_stk0 (zs_rfe e2) ?_
  obtain ⟨k22, h⟩ := h
  refine zg_4_250 rfl d_4087_330 ((K21 _).trans k22) ?_
  refine zu_aload d_4087_333 rfl (zs_rr _) ?_
  obtain ⟨b23, e24, h⟩ := h
  refine zs_stk1 (zs_rfe e24) ?_
  obtain ⟨k25, h⟩ := h
  refine zc_4_140 (x0 := p7) hB rfl ((K21 _).trans k25) d_4087_335 (Nat.le_of_ble_eq_true rfl) h (fun v27 S26 h => ?_)
  refine zu_pop d_4087_338 rfl ?_
  refine zu_aload d_4087_339 rfl (zs_rr _) ?_
  refine zu_aload d_4087_341 rfl (zs_rr _) ?_
  refine zu_ifnull (u := p5) (t := 350) d_4087_343 rfl rfl (fun e29 => ?_) (fun b28 e29 => ?_)
  · have h := h.1 e29
    refine zu_iconst d_4087_350 zi_0 ?_
    exact (u_X5_variables_351 hB h).weak ⟨rfl, rfl, rfl, rfl, rfl, rfl, rfl, trivial⟩
  · have h := h.2 b28 e29
    refine zu_iconst d_4087_346 zi_1 ?_
    refine zu_goto (t := 351) d_4087_347 rfl ?_
    exact (u_X5_variables_351 hB h).weak ⟨rfl, rfl, rfl, rfl, rfl, rfl, rfl, trivial⟩
def w_X5_variables_273 (X : zs_X) (d : Nat) (p0 : Nat) (p1 : Option Nat) (p2 : Option Nat) (p4 : Option Nat) (p5 : Option Nat) (p6 : Int32) (S : zs_T) (Q : zs_Q) : Prop :=
  (∃ b1, p2 = some b1 ∧ zs_K S b1 = some (.inl 16) ∧ zs_C X d 16001 [.ref b1] S (zs_kI (fun v5 S4 => (((v5 ≤ p6 → (zs_K S4 p0 = some (.inl 4) ∧ zs_C X d 4008 [.ref p0, .int (59 : Int32)] S4 (zs_kV (fun S8 => (zs_K S8 p0 = some (.inl 4) ∧ ∃ b11, (zs_R S8 4000 p0) = some b11 ∧ zs_K S8 b11 = some (.inl 5) ∧ zs_C X d 5016 [.ref b11] S8 (zs_kI (fun v15 S14 => (((¬ v15 = 0 → zs_U X d 4087 7 [(0, .ref p0), (1, va_rf p1)] [] S14 Q) ∧ (¬ (¬ v15 = 0) → (Q (.returned none) S14))))) Q))) Q))) ∧ (¬ (v5 ≤ p6) → (zs_K S4 b1 = some (.inl 16) ∧ zs_C X d 16009 [.ref b1, .int p6] S4 (zs_kR (fun v19 S18 => ((∀ a, v19 = some a → zs_K S18 a = some (.inl 21)) ∧ ∃ b21, v19 = some b21 ∧ zs_K S18 b21 = some (.inl 21) ∧ zs_C X d 21000 [.ref b21] S18 (zs_kI (fun v25 S24 => (zs_K S24 p0 = some (.inl 4) ∧ zs_C X d 4003 [.ref p0, .int v25, .int (2 : Int32), va_rf p4] S24 (zs_kR (fun v28 S27 => (∃ b29, v28 = some b29 ∧ zs_K S27 b29 = some (.inl 7) ∧ ab_n0 X.1 ≤ b29 ∧ ∀ S33, S33 = zs_sR S27 7007 b29 p1 → w_X5_variables_309 X d p0 p1 p2 p4 p5 p6 v28 S33 Q)) Q))) Q))) Q)))))) Q))
theorem u_X5_variables_273 {σ : Nat → Nat} {n0 : Nat} {bf : ab_B} {d : Nat} {p0 : Nat} {p1 : Option Nat} {p2 : Option Nat} {p4 : Option Nat} {p5 : Option Nat} {p6 : Int32} {S : zs_T} {Q : zs_Q} (hB : zt_B bf) (h : w_X5_variables_273 (zx σ n0 bf) d p0 p1 p2 p4 p5 p6 S Q) : zs_U (zx σ n0 bf) d 4087 273 [(0, .ref p0), (1, va_rf p1), (2, va_rf p2), (4, va_rf p4), (5, va_rf p5), (6, .int p6)] [] S Q := by
  unfold w_X5_variables_273 at h
  refine zu_iload d_4087_273 rfl ?_
  refine zu_aload_n d_4087_275 rfl (zs_rr _) ?_
  obtain ⟨b1, e2, h⟩ := h
  refine zs_stk0 (zs_rfe e2) ?_
  obtain ⟨k3, h⟩ := h
  refine zc_4_50  hB rfl k3 d_4087_276 (Nat.le_of_ble_eq_true rfl) h (fun v5 S4 h => ?_)
  refine zu_cmpge (t := 405) d_4087_279 rfl (fun c6 => ?_) (fun c6 => ?_)
  · have h := h.1 c6
    refine zu_aload_n d_4087_405 rfl (zs_ra _) ?_
    refine zu_bipush d_4087_406 zj_59 ?_
    obtain ⟨k7, h⟩ := h
    refine zc_4_224 (x0 := (59 : Int32)) hB rfl k7 d_4087_408 (Nat.le_of_ble_eq_true rfl) h (fun S8 h => ?_)
    refine zu_aload_n d_4087_411 rfl (zs_ra _) ?_
    obtain ⟨k10, h⟩ := h
    refine zg_4_5 rfl d_4087_412 k10 ?_
    obtain ⟨b11, e12, h⟩ := h
    refine zs_stk0 (zs_rfe e12) ?_
    obtain ⟨k13, h⟩ := h
    refine zc_4_36  hB rfl k13 d_4087_415 (Nat.le_of_ble_eq_true rfl) h (fun v15 S14 h => ?_)
    refine zu_ifne (t := 7) d_4087_418 rfl (fun c16 => ?_) (fun c16 => ?_)
    · have h := h.1 c16
      exact h.weak ⟨rfl, rfl, trivial⟩
    · have h := h.2 c16
      exact zu_vret d_4087_421 zr_4087 h
  · have h := h.2 c6
    refine zu_aload_n d_4087_282 rfl (zs_ra _) ?_
    refine zu_aload_n d_4087_283 rfl (zs_rr _) ?_
    refine zu_iload d_4087_284 rfl ?_
    refine zs_stk1 (zs_rfe e2) ?_
    obtain ⟨k17, h⟩ := h
    refine zc_4_56 (x0 := p6) hB rfl k17 d_4087_286 (Nat.le_of_ble_eq_true rfl) h (fun v19 S18 h => ?_)
    obtain ⟨k20, h⟩ := h
    refine zk_4_313 (o := v19) rfl d_4087_289 k20 ?_
    obtain ⟨b21, e22, h⟩ := h
    refine zs_stk0 (zs_rfe e22) ?_
    obtain ⟨k23, h⟩ := h
    refine zc_4_315  hB rfl k23 d_4087_292 (Nat.le_of_ble_eq_true rfl) h (fun v25 S24 h => ?_)
    refine zu_iconst d_4087_295 zi_2 ?_
    refine zu_aload d_4087_296 rfl (zs_rr _) ?_
    obtain ⟨k26, h⟩ := h
    refine zc_4_165 (x0 := v25) (x1 := (2 : Int32)) (x2 := p4) hB rfl k26 d_4087_298 (Nat.le_of_ble_eq_true rfl) h (fun v28 S27 h => ?_)
    refine zu_astore d_4087_301 (zs_rr _) (zs_lt zq_4087 rfl) ?_
    refine zu_aload d_4087_303 rfl (zs_rr _) ?_
    refine zu_aload_n d_4087_305 rfl (zs_rr _) ?_
    obtain ⟨b29, e30, h⟩ := h
    refine zs_stk1 (zs_rfe e30) ?_
    obtain ⟨k31, h⟩ := h
    obtain ⟨k32, h⟩ := h
    refine zp_4_107 (v := p1) rfl d_4087_306 k31 k32 ?_
    generalize e34 : zs_sR S27 7007 b29 p1 = S33
    have h := h S33 e34.symm
    have K35 : ∀ b, zs_K S33 b = zs_K S27 b := zs_Kt e34 (zs_KsR _ _ _ _) (fun _ => rfl)
    exact (u_X5_variables_309 hB h).weak ⟨rfl, rfl, rfl, rfl, rfl, rfl, rfl, trivial⟩
def w_X5_variables (X : zs_X) (d : Nat) (p0 : Nat) (p1 : Option Nat) (S : zs_T) (Q : zs_Q) : Prop :=
  (zs_K S p0 = some (.inl 4) ∧ ∃ b2, (zs_R S 4000 p0) = some b2 ∧ zs_K S b2 = some (.inl 5) ∧ zs_C X d 5004 [.ref b2] S (zs_kV (fun S5 => zs_U X d 4087 7 [(0, .ref p0), (1, va_rf p1)] [] S5 Q) Q))
theorem u_X5_variables {σ : Nat → Nat} {n0 : Nat} {bf : ab_B} {d : Nat} {p0 : Nat} {p1 : Option Nat} {S : zs_T} {Q : zs_Q} (hB : zt_B bf) (hd : 1 ≤ d) (h : w_X5_variables (zx σ n0 bf) (d - 1) p0 p1 S Q) : zs_C (zx σ n0 bf) d 4087 [.ref p0, va_rf p1] S Q := by
  have hL : lv_args 0 [.ref p0, va_rf p1] = [(0, .ref p0), (1, va_rf p1)] := by simp [lv_args, zs_cat, zs_cI, zs_cJ, zs_cA]
  refine zs_C.of1 (hB.2 4087 (by decide) (by decide)) hd (by rw [hL]; exact zs_sub_self _ (by exact ⟨rfl, rfl, trivial⟩)) ?_
  rw [hL]
  clear hL
  unfold w_X5_variables at h
  refine zu_aload_n d_4087_0 rfl (zs_ra _) ?_
  obtain ⟨k1, h⟩ := h
  refine zg_4_5 rfl d_4087_1 k1 ?_
  obtain ⟨b2, e3, h⟩ := h
  refine zs_stk0 (zs_rfe e3) ?_
  obtain ⟨k4, h⟩ := h
  refine zc_4_29  hB rfl k4 d_4087_4 (Nat.le_of_ble_eq_true rfl) h (fun S5 h => ?_)
  exact h.weak ⟨rfl, rfl, trivial⟩
/-! SchemaPascal$Reader.initialOf(LSchemaPascal$Type;)LSchemaPascal$Node; -/
theorem zm_4088 {σ : Nat → Nat} {n0 : Nat} {bf : ab_B} : ab_code (zx σ n0 bf).1 4088 = prog_9_method_117_code := rfl
theorem zq_4088 {σ : Nat → Nat} {n0 : Nat} {bf : ab_B} : ab_maxL (zx σ n0 bf).1 4088 = 3 := rfl
theorem zr_4088 {σ : Nat → Nat} {n0 : Nat} {bf : ab_B} : ab_ret (zx σ n0 bf).1 4088 = (Option.some (Jvm.ClassFile.FieldType.object "SchemaPascal$Node")) := rfl
theorem d_4088_0 {σ : Nat → Nat} {n0 : Nat} {bf : ab_B} : decode (ab_code (zx σ n0 bf).1 4088) 0 = .ok (.aload_n 0, 1) := zd zm_4088 (by decide +kernel)
theorem d_4088_1 {σ : Nat → Nat} {n0 : Nat} {bf : ab_B} : decode (ab_code (zx σ n0 bf).1 4088) 1 = .ok (.getfield 5, 3) := zd zm_4088 (by decide +kernel)
theorem d_4088_4 {σ : Nat → Nat} {n0 : Nat} {bf : ab_B} : decode (ab_code (zx σ n0 bf).1 4088) 4 = .ok (.invokevirtual 29, 3) := zd zm_4088 (by decide +kernel)
theorem d_4088_7 {σ : Nat → Nat} {n0 : Nat} {bf : ab_B} : decode (ab_code (zx σ n0 bf).1 4088) 7 = .ok (.aload_n 0, 1) := zd zm_4088 (by decide +kernel)
theorem d_4088_8 {σ : Nat → Nat} {n0 : Nat} {bf : ab_B} : decode (ab_code (zx σ n0 bf).1 4088) 8 = .ok (.invokevirtual 293, 3) := zd zm_4088 (by decide +kernel)
theorem d_4088_11 {σ : Nat → Nat} {n0 : Nat} {bf : ab_B} : decode (ab_code (zx σ n0 bf).1 4088) 11 = .ok (.astore_n 2, 1) := zd zm_4088 (by decide +kernel)
theorem d_4088_12 {σ : Nat → Nat} {n0 : Nat} {bf : ab_B} : decode (ab_code (zx σ n0 bf).1 4088) 12 = .ok (.aload_n 1, 1) := zd zm_4088 (by decide +kernel)
theorem d_4088_13 {σ : Nat → Nat} {n0 : Nat} {bf : ab_B} : decode (ab_code (zx σ n0 bf).1 4088) 13 = .ok (.invokevirtual 335, 3) := zd zm_4088 (by decide +kernel)
theorem d_4088_16 {σ : Nat → Nat} {n0 : Nat} {bf : ab_B} : decode (ab_code (zx σ n0 bf).1 4088) 16 = .ok (.ifCond .ne 12, 3) := zd zm_4088 (by decide +kernel)
theorem d_4088_19 {σ : Nat → Nat} {n0 : Nat} {bf : ab_B} : decode (ab_code (zx σ n0 bf).1 4088) 19 = .ok (.aload_n 1, 1) := zd zm_4088 (by decide +kernel)
theorem d_4088_20 {σ : Nat → Nat} {n0 : Nat} {bf : ab_B} : decode (ab_code (zx σ n0 bf).1 4088) 20 = .ok (.getfield 369, 3) := zd zm_4088 (by decide +kernel)
theorem d_4088_23 {σ : Nat → Nat} {n0 : Nat} {bf : ab_B} : decode (ab_code (zx σ n0 bf).1 4088) 23 = .ok (.bipush 6, 2) := zd zm_4088 (by decide +kernel)
theorem d_4088_25 {σ : Nat → Nat} {n0 : Nat} {bf : ab_B} : decode (ab_code (zx σ n0 bf).1 4088) 25 = .ok (.if_icmp .ne 12, 3) := zd zm_4088 (by decide +kernel)
theorem d_4088_28 {σ : Nat → Nat} {n0 : Nat} {bf : ab_B} : decode (ab_code (zx σ n0 bf).1 4088) 28 = .ok (.aload_n 0, 1) := zd zm_4088 (by decide +kernel)
theorem d_4088_29 {σ : Nat → Nat} {n0 : Nat} {bf : ab_B} : decode (ab_code (zx σ n0 bf).1 4088) 29 = .ok (.aload_n 1, 1) := zd zm_4088 (by decide +kernel)
theorem d_4088_30 {σ : Nat → Nat} {n0 : Nat} {bf : ab_B} : decode (ab_code (zx σ n0 bf).1 4088) 30 = .ok (.aload_n 2, 1) := zd zm_4088 (by decide +kernel)
theorem d_4088_31 {σ : Nat → Nat} {n0 : Nat} {bf : ab_B} : decode (ab_code (zx σ n0 bf).1 4088) 31 = .ok (.invokevirtual 696, 3) := zd zm_4088 (by decide +kernel)
theorem d_4088_34 {σ : Nat → Nat} {n0 : Nat} {bf : ab_B} : decode (ab_code (zx σ n0 bf).1 4088) 34 = .ok (.ifCond .ne 9, 3) := zd zm_4088 (by decide +kernel)
theorem d_4088_37 {σ : Nat → Nat} {n0 : Nat} {bf : ab_B} : decode (ab_code (zx σ n0 bf).1 4088) 37 = .ok (.aload_n 0, 1) := zd zm_4088 (by decide +kernel)
theorem d_4088_38 {σ : Nat → Nat} {n0 : Nat} {bf : ab_B} : decode (ab_code (zx σ n0 bf).1 4088) 38 = .ok (.iconst 5, 1) := zd zm_4088 (by decide +kernel)
theorem d_4088_39 {σ : Nat → Nat} {n0 : Nat} {bf : ab_B} : decode (ab_code (zx σ n0 bf).1 4088) 39 = .ok (.invokevirtual 25, 3) := zd zm_4088 (by decide +kernel)
theorem d_4088_42 {σ : Nat → Nat} {n0 : Nat} {bf : ab_B} : decode (ab_code (zx σ n0 bf).1 4088) 42 = .ok (.athrow, 1) := zd zm_4088 (by decide +kernel)
theorem d_4088_43 {σ : Nat → Nat} {n0 : Nat} {bf : ab_B} : decode (ab_code (zx σ n0 bf).1 4088) 43 = .ok (.aload_n 0, 1) := zd zm_4088 (by decide +kernel)
theorem d_4088_44 {σ : Nat → Nat} {n0 : Nat} {bf : ab_B} : decode (ab_code (zx σ n0 bf).1 4088) 44 = .ok (.aload_n 1, 1) := zd zm_4088 (by decide +kernel)
theorem d_4088_45 {σ : Nat → Nat} {n0 : Nat} {bf : ab_B} : decode (ab_code (zx σ n0 bf).1 4088) 45 = .ok (.aload_n 2, 1) := zd zm_4088 (by decide +kernel)
theorem d_4088_46 {σ : Nat → Nat} {n0 : Nat} {bf : ab_B} : decode (ab_code (zx σ n0 bf).1 4088) 46 = .ok (.invokevirtual 807, 3) := zd zm_4088 (by decide +kernel)
theorem d_4088_49 {σ : Nat → Nat} {n0 : Nat} {bf : ab_B} : decode (ab_code (zx σ n0 bf).1 4088) 49 = .ok (.ifCond .ne 10, 3) := zd zm_4088 (by decide +kernel)
theorem d_4088_52 {σ : Nat → Nat} {n0 : Nat} {bf : ab_B} : decode (ab_code (zx σ n0 bf).1 4088) 52 = .ok (.aload_n 0, 1) := zd zm_4088 (by decide +kernel)
theorem d_4088_53 {σ : Nat → Nat} {n0 : Nat} {bf : ab_B} : decode (ab_code (zx σ n0 bf).1 4088) 53 = .ok (.bipush 7, 2) := zd zm_4088 (by decide +kernel)
theorem d_4088_55 {σ : Nat → Nat} {n0 : Nat} {bf : ab_B} : decode (ab_code (zx σ n0 bf).1 4088) 55 = .ok (.invokevirtual 25, 3) := zd zm_4088 (by decide +kernel)
theorem d_4088_58 {σ : Nat → Nat} {n0 : Nat} {bf : ab_B} : decode (ab_code (zx σ n0 bf).1 4088) 58 = .ok (.athrow, 1) := zd zm_4088 (by decide +kernel)
theorem d_4088_59 {σ : Nat → Nat} {n0 : Nat} {bf : ab_B} : decode (ab_code (zx σ n0 bf).1 4088) 59 = .ok (.aload_n 2, 1) := zd zm_4088 (by decide +kernel)
theorem d_4088_60 {σ : Nat → Nat} {n0 : Nat} {bf : ab_B} : decode (ab_code (zx σ n0 bf).1 4088) 60 = .ok (.areturn, 1) := zd zm_4088 (by decide +kernel)
def w_X5_initialOf_37 (X : zs_X) (d : Nat) (p0 : Nat) (S : zs_T) (Q : zs_Q) : Prop :=
  (zs_K S p0 = some (.inl 4) ∧ zs_C X d 4006 [.ref p0, .int (5 : Int32)] S (zs_kR (fun v3 S2 => (∃ b4, v3 = some b4 ∧ Q (.threw b4) S2)) Q))
theorem u_X5_initialOf_37 {σ : Nat → Nat} {n0 : Nat} {bf : ab_B} {d : Nat} {p0 : Nat} {S : zs_T} {Q : zs_Q} (hB : zt_B bf) (h : w_X5_initialOf_37 (zx σ n0 bf) d p0 S Q) : zs_U (zx σ n0 bf) d 4088 37 [(0, .ref p0)] [] S Q := by
  unfold w_X5_initialOf_37 at h
  refine zu_aload_n d_4088_37 rfl (zs_ra _) ?_
  refine zu_iconst d_4088_38 zi_5 ?_
  obtain ⟨k1, h⟩ := h
  refine zc_4_25 (x0 := (5 : Int32)) hB rfl k1 d_4088_39 (Nat.le_of_ble_eq_true rfl) h (fun v3 S2 h => ?_)
  obtain ⟨b4, e5, h⟩ := h
  refine zs_stk0 (zs_rfe e5) ?_
  exact zu_throw d_4088_42 h
def w_X5_initialOf_28 (X : zs_X) (d : Nat) (p0 : Nat) (p1 : Option Nat) (p2 : Option Nat) (S : zs_T) (Q : zs_Q) : Prop :=
  (zs_K S p0 = some (.inl 4) ∧ zs_C X d 4033 [.ref p0, va_rf p1, va_rf p2] S (zs_kI (fun v3 S2 => (((¬ v3 = 0 → (zs_K S2 p0 = some (.inl 4) ∧ zs_C X d 4089 [.ref p0, va_rf p1, va_rf p2] S2 (zs_kI (fun v7 S6 => (((¬ v7 = 0 → (Q (.returned (some (va_rf p2))) S6)) ∧ (¬ (¬ v7 = 0) → (zs_K S6 p0 = some (.inl 4) ∧ zs_C X d 4006 [.ref p0, .int (7 : Int32)] S6 (zs_kR (fun v11 S10 => (∃ b12, v11 = some b12 ∧ Q (.threw b12) S10)) Q)))))) Q))) ∧ (¬ (¬ v3 = 0) → w_X5_initialOf_37 X d p0 S2 Q)))) Q))
theorem u_X5_initialOf_28 {σ : Nat → Nat} {n0 : Nat} {bf : ab_B} {d : Nat} {p0 : Nat} {p1 : Option Nat} {p2 : Option Nat} {S : zs_T} {Q : zs_Q} (hB : zt_B bf) (h : w_X5_initialOf_28 (zx σ n0 bf) d p0 p1 p2 S Q) : zs_U (zx σ n0 bf) d 4088 28 [(0, .ref p0), (1, va_rf p1), (2, va_rf p2)] [] S Q := by
  unfold w_X5_initialOf_28 at h
  refine zu_aload_n d_4088_28 rfl (zs_ra _) ?_
  refine zu_aload_n d_4088_29 rfl (zs_rr _) ?_
  refine zu_aload_n d_4088_30 rfl (zs_rr _) ?_
  obtain ⟨k1, h⟩ := h
  refine zc_4_696 (x0 := p1) (x1 := p2) hB rfl k1 d_4088_31 (Nat.le_of_ble_eq_true rfl) h (fun v3 S2 h => ?_)
  refine zu_ifne (t := 43) d_4088_34 rfl (fun c4 => ?_) (fun c4 => ?_)
  · have h := h.1 c4
    refine zu_aload_n d_4088_43 rfl (zs_ra _) ?_
    refine zu_aload_n d_4088_44 rfl (zs_rr _) ?_
    refine zu_aload_n d_4088_45 rfl (zs_rr _) ?_
    obtain ⟨k5, h⟩ := h
    refine zc_4_807 (x0 := p1) (x1 := p2) hB rfl k5 d_4088_46 (Nat.le_of_ble_eq_true rfl) h (fun v7 S6 h => ?_)
    refine zu_ifne (t := 59) d_4088_49 rfl (fun c8 => ?_) (fun c8 => ?_)
    · have h := h.1 c8
      refine zu_aload_n d_4088_59 rfl (zs_rr _) ?_
      exact zu_aret d_4088_60 zr_4088 (zs_rr _) h
    · have h := h.2 c8
      refine zu_aload_n d_4088_52 rfl (zs_ra _) ?_
      refine zu_bipush d_4088_53 zj_7 ?_
      obtain ⟨k9, h⟩ := h
      refine zc_4_25 (x0 := (7 : Int32)) hB rfl k9 d_4088_55 (Nat.le_of_ble_eq_true rfl) h (fun v11 S10 h => ?_)
      obtain ⟨b12, e13, h⟩ := h
      refine zs_stk0 (zs_rfe e13) ?_
      exact zu_throw d_4088_58 h
  · have h := h.2 c4
    exact (u_X5_initialOf_37 hB h).weak ⟨rfl, trivial⟩
def w_X5_initialOf (X : zs_X) (d : Nat) (p0 : Nat) (p1 : Option Nat) (S : zs_T) (Q : zs_Q) : Prop :=
  (zs_K S p0 = some (.inl 4) ∧ ∃ b2, (zs_R S 4000 p0) = some b2 ∧ zs_K S b2 = some (.inl 5) ∧ zs_C X d 5004 [.ref b2] S (zs_kV (fun S5 => (zs_K S5 p0 = some (.inl 4) ∧ zs_C X d 4013 [.ref p0] S5 (zs_kR (fun v9 S8 => (∃ b10, p1 = some b10 ∧ zs_K S8 b10 = some (.inl 6) ∧ zs_C X d 6002 [.ref b10] S8 (zs_kI (fun v14 S13 => (((¬ v14 = 0 → w_X5_initialOf_28 X d p0 p1 v9 S13 Q) ∧ (¬ (¬ v14 = 0) → (zs_K S13 b10 = some (.inl 6) ∧ ((¬ (zs_I S13 6000 b10) = (6 : Int32) → w_X5_initialOf_37 X d p0 S13 Q) ∧ (¬ (¬ (zs_I S13 6000 b10) = (6 : Int32)) → w_X5_initialOf_28 X d p0 p1 v9 S13 Q))))))) Q))) Q))) Q))
theorem u_X5_initialOf {σ : Nat → Nat} {n0 : Nat} {bf : ab_B} {d : Nat} {p0 : Nat} {p1 : Option Nat} {S : zs_T} {Q : zs_Q} (hB : zt_B bf) (hd : 1 ≤ d) (h : w_X5_initialOf (zx σ n0 bf) (d - 1) p0 p1 S Q) : zs_C (zx σ n0 bf) d 4088 [.ref p0, va_rf p1] S Q := by
  have hL : lv_args 0 [.ref p0, va_rf p1] = [(0, .ref p0), (1, va_rf p1)] := by simp [lv_args, zs_cat, zs_cI, zs_cJ, zs_cA]
  refine zs_C.of1 (hB.2 4088 (by decide) (by decide)) hd (by rw [hL]; exact zs_sub_self _ (by exact ⟨rfl, rfl, trivial⟩)) ?_
  rw [hL]
  clear hL
  unfold w_X5_initialOf at h
  refine zu_aload_n d_4088_0 rfl (zs_ra _) ?_
  obtain ⟨k1, h⟩ := h
  refine zg_4_5 rfl d_4088_1 k1 ?_
  obtain ⟨b2, e3, h⟩ := h
  refine zs_stk0 (zs_rfe e3) ?_
  obtain ⟨k4, h⟩ := h
  refine zc_4_29  hB rfl k4 d_4088_4 (Nat.le_of_ble_eq_true rfl) h (fun S5 h => ?_)
  refine zu_aload_n d_4088_7 rfl (zs_ra _) ?_
  obtain ⟨k7, h⟩ := h
  refine zc_4_293  hB rfl k7 d_4088_8 (Nat.le_of_ble_eq_true rfl) h (fun v9 S8 h => ?_)
  refine zu_astore_n d_4088_11 (zs_rr _) (zs_lt zq_4088 rfl) ?_
  refine zs_U.weak (L1 := [(2, va_rf v9), (0, .ref p0), (1, va_rf p1)]) ?_ ⟨rfl, zs_gp1 rfl (Or.inl rfl) rfl, zs_gp1 rfl (Or.inl (zs_cat _)) rfl, trivial⟩
  refine zu_aload_n d_4088_12 rfl (zs_rr _) ?_
  obtain ⟨b10, e11, h⟩ := h
  refine zs_stk0 (zs_rfe e11) ?_
  obtain ⟨k12, h⟩ := h
  refine zc_4_335  hB rfl k12 d_4088_13 (Nat.le_of_ble_eq_true rfl) h (fun v14 S13 h => ?_)
  refine zu_ifne (t := 28) d_4088_16 rfl (fun c15 => ?_) (fun c15 => ?_)
  · have h := h.1 c15
    exact (u_X5_initialOf_28 hB h).weak ⟨rfl, rfl, rfl, trivial⟩
  · have h := h.2 c15
    refine zu_aload_n d_4088_19 rfl (zs_rr _) ?_
    refine zs_stk0 (zs_rfe e11) ?_
    obtain ⟨k16, h⟩ := h
    refine zg_4_369 rfl d_4088_20 k16 ?_
    refine zu_bipush d_4088_23 zj_6 ?_
    refine zu_cmpne (t := 37) d_4088_25 rfl (fun c17 => ?_) (fun c17 => ?_)
    · have h := h.1 c17
      exact (u_X5_initialOf_37 hB h).weak ⟨rfl, trivial⟩
    · have h := h.2 c17
      exact (u_X5_initialOf_28 hB h).weak ⟨rfl, rfl, rfl, trivial⟩
/-! SchemaPascal$Reader.inside(LSchemaPascal$Type;LSchemaPascal$Node;)Z -/
theorem zm_4089 {σ : Nat → Nat} {n0 : Nat} {bf : ab_B} : ab_code (zx σ n0 bf).1 4089 = prog_9_method_118_code := rfl
theorem zq_4089 {σ : Nat → Nat} {n0 : Nat} {bf : ab_B} : ab_maxL (zx σ n0 bf).1 4089 = 3 := rfl
theorem zr_4089 {σ : Nat → Nat} {n0 : Nat} {bf : ab_B} : ab_ret (zx σ n0 bf).1 4089 = (Option.some Jvm.ClassFile.FieldType.boolean) := rfl
theorem d_4089_0 {σ : Nat → Nat} {n0 : Nat} {bf : ab_B} : decode (ab_code (zx σ n0 bf).1 4089) 0 = .ok (.aload_n 1, 1) := zd zm_4089 (by decide +kernel)
theorem d_4089_1 {σ : Nat → Nat} {n0 : Nat} {bf : ab_B} : decode (ab_code (zx σ n0 bf).1 4089) 1 = .ok (.getfield 369, 3) := zd zm_4089 (by decide +kernel)
theorem d_4089_4 {σ : Nat → Nat} {n0 : Nat} {bf : ab_B} : decode (ab_code (zx σ n0 bf).1 4089) 4 = .ok (.bipush 6, 2) := zd zm_4089 (by decide +kernel)
theorem d_4089_6 {σ : Nat → Nat} {n0 : Nat} {bf : ab_B} : decode (ab_code (zx σ n0 bf).1 4089) 6 = .ok (.if_icmp .ne 43, 3) := zd zm_4089 (by decide +kernel)
theorem d_4089_9 {σ : Nat → Nat} {n0 : Nat} {bf : ab_B} : decode (ab_code (zx σ n0 bf).1 4089) 9 = .ok (.aload_n 2, 1) := zd zm_4089 (by decide +kernel)
theorem d_4089_10 {σ : Nat → Nat} {n0 : Nat} {bf : ab_B} : decode (ab_code (zx σ n0 bf).1 4089) 10 = .ok (.getfield 512, 3) := zd zm_4089 (by decide +kernel)
theorem d_4089_13 {σ : Nat → Nat} {n0 : Nat} {bf : ab_B} : decode (ab_code (zx σ n0 bf).1 4089) 13 = .ok (.iconst 1, 1) := zd zm_4089 (by decide +kernel)
theorem d_4089_14 {σ : Nat → Nat} {n0 : Nat} {bf : ab_B} : decode (ab_code (zx σ n0 bf).1 4089) 14 = .ok (.if_icmp .ne 15, 3) := zd zm_4089 (by decide +kernel)
theorem d_4089_17 {σ : Nat → Nat} {n0 : Nat} {bf : ab_B} : decode (ab_code (zx σ n0 bf).1 4089) 17 = .ok (.aload_n 2, 1) := zd zm_4089 (by decide +kernel)
theorem d_4089_18 {σ : Nat → Nat} {n0 : Nat} {bf : ab_B} : decode (ab_code (zx σ n0 bf).1 4089) 18 = .ok (.getfield 303, 3) := zd zm_4089 (by decide +kernel)
theorem d_4089_21 {σ : Nat → Nat} {n0 : Nat} {bf : ab_B} : decode (ab_code (zx σ n0 bf).1 4089) 21 = .ok (.aload_n 2, 1) := zd zm_4089 (by decide +kernel)
theorem d_4089_22 {σ : Nat → Nat} {n0 : Nat} {bf : ab_B} : decode (ab_code (zx σ n0 bf).1 4089) 22 = .ok (.getfield 301, 3) := zd zm_4089 (by decide +kernel)
theorem d_4089_25 {σ : Nat → Nat} {n0 : Nat} {bf : ab_B} : decode (ab_code (zx σ n0 bf).1 4089) 25 = .ok (.isub, 1) := zd zm_4089 (by decide +kernel)
theorem d_4089_26 {σ : Nat → Nat} {n0 : Nat} {bf : ab_B} : decode (ab_code (zx σ n0 bf).1 4089) 26 = .ok (.goto 4, 3) := zd zm_4089 (by decide +kernel)
theorem d_4089_29 {σ : Nat → Nat} {n0 : Nat} {bf : ab_B} : decode (ab_code (zx σ n0 bf).1 4089) 29 = .ok (.iconst 1, 1) := zd zm_4089 (by decide +kernel)
theorem d_4089_30 {σ : Nat → Nat} {n0 : Nat} {bf : ab_B} : decode (ab_code (zx σ n0 bf).1 4089) 30 = .ok (.i2l, 1) := zd zm_4089 (by decide +kernel)
theorem d_4089_31 {σ : Nat → Nat} {n0 : Nat} {bf : ab_B} : decode (ab_code (zx σ n0 bf).1 4089) 31 = .ok (.aload_n 0, 1) := zd zm_4089 (by decide +kernel)
theorem d_4089_32 {σ : Nat → Nat} {n0 : Nat} {bf : ab_B} : decode (ab_code (zx σ n0 bf).1 4089) 32 = .ok (.aload_n 1, 1) := zd zm_4089 (by decide +kernel)
theorem d_4089_33 {σ : Nat → Nat} {n0 : Nat} {bf : ab_B} : decode (ab_code (zx σ n0 bf).1 4089) 33 = .ok (.getfield 446, 3) := zd zm_4089 (by decide +kernel)
theorem d_4089_36 {σ : Nat → Nat} {n0 : Nat} {bf : ab_B} : decode (ab_code (zx σ n0 bf).1 4089) 36 = .ok (.invokevirtual 465, 3) := zd zm_4089 (by decide +kernel)
theorem d_4089_39 {σ : Nat → Nat} {n0 : Nat} {bf : ab_B} : decode (ab_code (zx σ n0 bf).1 4089) 39 = .ok (.lcmp, 1) := zd zm_4089 (by decide +kernel)
theorem d_4089_40 {σ : Nat → Nat} {n0 : Nat} {bf : ab_B} : decode (ab_code (zx σ n0 bf).1 4089) 40 = .ok (.ifCond .gt 7, 3) := zd zm_4089 (by decide +kernel)
theorem d_4089_43 {σ : Nat → Nat} {n0 : Nat} {bf : ab_B} : decode (ab_code (zx σ n0 bf).1 4089) 43 = .ok (.iconst 1, 1) := zd zm_4089 (by decide +kernel)
theorem d_4089_44 {σ : Nat → Nat} {n0 : Nat} {bf : ab_B} : decode (ab_code (zx σ n0 bf).1 4089) 44 = .ok (.goto 4, 3) := zd zm_4089 (by decide +kernel)
theorem d_4089_47 {σ : Nat → Nat} {n0 : Nat} {bf : ab_B} : decode (ab_code (zx σ n0 bf).1 4089) 47 = .ok (.iconst 0, 1) := zd zm_4089 (by decide +kernel)
theorem d_4089_48 {σ : Nat → Nat} {n0 : Nat} {bf : ab_B} : decode (ab_code (zx σ n0 bf).1 4089) 48 = .ok (.ireturn, 1) := zd zm_4089 (by decide +kernel)
theorem d_4089_49 {σ : Nat → Nat} {n0 : Nat} {bf : ab_B} : decode (ab_code (zx σ n0 bf).1 4089) 49 = .ok (.aload_n 2, 1) := zd zm_4089 (by decide +kernel)
theorem d_4089_50 {σ : Nat → Nat} {n0 : Nat} {bf : ab_B} : decode (ab_code (zx σ n0 bf).1 4089) 50 = .ok (.getfield 300, 3) := zd zm_4089 (by decide +kernel)
theorem d_4089_53 {σ : Nat → Nat} {n0 : Nat} {bf : ab_B} : decode (ab_code (zx σ n0 bf).1 4089) 53 = .ok (.aload_n 0, 1) := zd zm_4089 (by decide +kernel)
theorem d_4089_54 {σ : Nat → Nat} {n0 : Nat} {bf : ab_B} : decode (ab_code (zx σ n0 bf).1 4089) 54 = .ok (.aload_n 1, 1) := zd zm_4089 (by decide +kernel)
theorem d_4089_55 {σ : Nat → Nat} {n0 : Nat} {bf : ab_B} : decode (ab_code (zx σ n0 bf).1 4089) 55 = .ok (.invokevirtual 476, 3) := zd zm_4089 (by decide +kernel)
theorem d_4089_58 {σ : Nat → Nat} {n0 : Nat} {bf : ab_B} : decode (ab_code (zx σ n0 bf).1 4089) 58 = .ok (.lcmp, 1) := zd zm_4089 (by decide +kernel)
theorem d_4089_59 {σ : Nat → Nat} {n0 : Nat} {bf : ab_B} : decode (ab_code (zx σ n0 bf).1 4089) 59 = .ok (.ifCond .lt 20, 3) := zd zm_4089 (by decide +kernel)
theorem d_4089_62 {σ : Nat → Nat} {n0 : Nat} {bf : ab_B} : decode (ab_code (zx σ n0 bf).1 4089) 62 = .ok (.aload_n 2, 1) := zd zm_4089 (by decide +kernel)
theorem d_4089_63 {σ : Nat → Nat} {n0 : Nat} {bf : ab_B} : decode (ab_code (zx σ n0 bf).1 4089) 63 = .ok (.getfield 300, 3) := zd zm_4089 (by decide +kernel)
theorem d_4089_66 {σ : Nat → Nat} {n0 : Nat} {bf : ab_B} : decode (ab_code (zx σ n0 bf).1 4089) 66 = .ok (.aload_n 0, 1) := zd zm_4089 (by decide +kernel)
theorem d_4089_67 {σ : Nat → Nat} {n0 : Nat} {bf : ab_B} : decode (ab_code (zx σ n0 bf).1 4089) 67 = .ok (.aload_n 1, 1) := zd zm_4089 (by decide +kernel)
theorem d_4089_68 {σ : Nat → Nat} {n0 : Nat} {bf : ab_B} : decode (ab_code (zx σ n0 bf).1 4089) 68 = .ok (.invokevirtual 473, 3) := zd zm_4089 (by decide +kernel)
theorem d_4089_71 {σ : Nat → Nat} {n0 : Nat} {bf : ab_B} : decode (ab_code (zx σ n0 bf).1 4089) 71 = .ok (.lcmp, 1) := zd zm_4089 (by decide +kernel)
theorem d_4089_72 {σ : Nat → Nat} {n0 : Nat} {bf : ab_B} : decode (ab_code (zx σ n0 bf).1 4089) 72 = .ok (.ifCond .gt 7, 3) := zd zm_4089 (by decide +kernel)
theorem d_4089_75 {σ : Nat → Nat} {n0 : Nat} {bf : ab_B} : decode (ab_code (zx σ n0 bf).1 4089) 75 = .ok (.iconst 1, 1) := zd zm_4089 (by decide +kernel)
theorem d_4089_76 {σ : Nat → Nat} {n0 : Nat} {bf : ab_B} : decode (ab_code (zx σ n0 bf).1 4089) 76 = .ok (.goto 4, 3) := zd zm_4089 (by decide +kernel)
theorem d_4089_79 {σ : Nat → Nat} {n0 : Nat} {bf : ab_B} : decode (ab_code (zx σ n0 bf).1 4089) 79 = .ok (.iconst 0, 1) := zd zm_4089 (by decide +kernel)
theorem d_4089_80 {σ : Nat → Nat} {n0 : Nat} {bf : ab_B} : decode (ab_code (zx σ n0 bf).1 4089) 80 = .ok (.ireturn, 1) := zd zm_4089 (by decide +kernel)
def w_X5_inside_30 (X : zs_X) (d : Nat) (p0 : Nat) (p1 : Option Nat) (q0 : Int32) (S : zs_T) (Q : zs_Q) : Prop :=
  (∃ b1, p1 = some b1 ∧ zs_K S b1 = some (.inl 6) ∧ zs_K S p0 = some (.inl 4) ∧ zs_C X d 4057 [.ref p0, va_rf (zs_R S 6004 b1)] S (zs_kJ (fun v6 S5 => (((v6 < ((q0).toInt64) → (Q (.returned (some (.int (0 : Int32)))) S5)) ∧ (¬ (v6 < ((q0).toInt64)) → (Q (.returned (some (.int (1 : Int32)))) S5))))) Q))
theorem u_X5_inside_30 {σ : Nat → Nat} {n0 : Nat} {bf : ab_B} {d : Nat} {p0 : Nat} {p1 : Option Nat} {q0 : Int32} {S : zs_T} {Q : zs_Q} (hB : zt_B bf) (h : w_X5_inside_30 (zx σ n0 bf) d p0 p1 q0 S Q) : zs_U (zx σ n0 bf) d 4089 30 [(0, .ref p0), (1, va_rf p1)] [.int q0] S Q := by
  unfold w_X5_inside_30 at h
  refine zu_stk d_4089_30 rfl rfl ?_
  refine zu_aload_n d_4089_31 rfl (zs_ra _) ?_
  refine zu_aload_n d_4089_32 rfl (zs_rr _) ?_
  obtain ⟨b1, e2, h⟩ := h
  refine zs_stk0 (zs_rfe e2) ?_
  obtain ⟨k3, h⟩ := h
  refine zg_4_446 rfl d_4089_33 k3 ?_
  obtain ⟨k4, h⟩ := h
  refine zc_4_465 (x0 := (zs_R S 6004 b1)) hB rfl k4 d_4089_36 (Nat.le_of_ble_eq_true rfl) h (fun v6 S5 h => ?_)
  refine zu_lgt (t := 47) d_4089_39 d_4089_40 rfl (fun c7 => ?_) (fun c7 => ?_)
  · have h := h.1 c7
    refine zu_iconst d_4089_47 zi_0 ?_
    exact zu_iret d_4089_48 zr_4089 (zs_b_n (Or.inl rfl)) h
  · have h := h.2 c7
    refine zu_iconst d_4089_43 zi_1 ?_
    refine zu_goto (t := 48) d_4089_44 rfl ?_
    exact zu_iret d_4089_48 zr_4089 (zs_b_n (Or.inr rfl)) h
def w_X5_inside_75 (X : zs_X) (d : Nat)  (S : zs_T) (Q : zs_Q) : Prop :=
  (Q (.returned (some (.int (1 : Int32)))) S)
theorem u_X5_inside_75 {σ : Nat → Nat} {n0 : Nat} {bf : ab_B} {d : Nat}  {S : zs_T} {Q : zs_Q} (hB : zt_B bf) (h : w_X5_inside_75 (zx σ n0 bf) d  S Q) : zs_U (zx σ n0 bf) d 4089 75 [] [] S Q := by
  unfold w_X5_inside_75 at h
  refine zu_iconst d_4089_75 zi_1 ?_
  refine zu_goto (t := 80) d_4089_76 rfl ?_
  exact zu_iret d_4089_80 zr_4089 (zs_b_n (Or.inr rfl)) h
def w_X5_inside_79 (X : zs_X) (d : Nat)  (S : zs_T) (Q : zs_Q) : Prop :=
  (Q (.returned (some (.int (0 : Int32)))) S)
theorem u_X5_inside_79 {σ : Nat → Nat} {n0 : Nat} {bf : ab_B} {d : Nat}  {S : zs_T} {Q : zs_Q} (hB : zt_B bf) (h : w_X5_inside_79 (zx σ n0 bf) d  S Q) : zs_U (zx σ n0 bf) d 4089 79 [] [] S Q := by
  unfold w_X5_inside_79 at h
  refine zu_iconst d_4089_79 zi_0 ?_
  exact zu_iret d_4089_80 zr_4089 (zs_b_n (Or.inl rfl)) h
def w_X5_inside (X : zs_X) (d : Nat) (p0 : Nat) (p1 : Option Nat) (p2 : Option Nat) (S : zs_T) (Q : zs_Q) : Prop :=
  (∃ b1, p1 = some b1 ∧ zs_K S b1 = some (.inl 6) ∧ ((¬ (zs_I S 6000 b1) = (6 : Int32) → (∃ b5, p2 = some b5 ∧ zs_K S b5 = some (.inl 11) ∧ zs_K S p0 = some (.inl 4) ∧ zs_C X d 4072 [.ref p0, va_rf p1] S (zs_kJ (fun v10 S9 => ((((zs_J S 11004 b5) < v10 → w_X5_inside_79 X d  S9 Q) ∧ (¬ ((zs_J S 11004 b5) < v10) → (zs_K S9 b5 = some (.inl 11) ∧ zs_K S9 p0 = some (.inl 4) ∧ zs_C X d 4071 [.ref p0, va_rf p1] S9 (zs_kJ (fun v15 S14 => (((v15 < (zs_J S9 11004 b5) → w_X5_inside_79 X d  S14 Q) ∧ (¬ (v15 < (zs_J S9 11004 b5)) → w_X5_inside_75 X d  S14 Q)))) Q)))))) Q))) ∧ (¬ (¬ (zs_I S 6000 b1) = (6 : Int32)) → (∃ b17, p2 = some b17 ∧ zs_K S b17 = some (.inl 11) ∧ ((¬ (zs_I S 11000 b17) = (1 : Int32) → (w_X5_inside_30 X d p0 p1 (1 : Int32) S Q)) ∧ (¬ (¬ (zs_I S 11000 b17) = (1 : Int32)) → (w_X5_inside_30 X d p0 p1 ((zs_I S 11012 b17) - (zs_I S 11011 b17)) S Q)))))))
theorem u_X5_inside {σ : Nat → Nat} {n0 : Nat} {bf : ab_B} {d : Nat} {p0 : Nat} {p1 : Option Nat} {p2 : Option Nat} {S : zs_T} {Q : zs_Q} (hB : zt_B bf) (hd : 1 ≤ d) (h : w_X5_inside (zx σ n0 bf) (d - 1) p0 p1 p2 S Q) : zs_C (zx σ n0 bf) d 4089 [.ref p0, va_rf p1, va_rf p2] S Q := by
  have hL : lv_args 0 [.ref p0, va_rf p1, va_rf p2] = [(0, .ref p0), (1, va_rf p1), (2, va_rf p2)] := by simp [lv_args, zs_cat, zs_cI, zs_cJ, zs_cA]
  refine zs_C.of1 (hB.2 4089 (by decide) (by decide)) hd (by rw [hL]; exact zs_sub_self _ (by exact ⟨rfl, rfl, rfl, trivial⟩)) ?_
  rw [hL]
  clear hL
  unfold w_X5_inside at h
  refine zu_aload_n d_4089_0 rfl (zs_rr _) ?_
  obtain ⟨b1, e2, h⟩ := h
  refine zs_stk0 (zs_rfe e2) ?_
  obtain ⟨k3, h⟩ := h
  refine zg_4_369 rfl d_4089_1 k3 ?_
  refine zu_bipush d_4089_4 zj_6 ?_
  refine zu_cmpne (t := 49) d_4089_6 rfl (fun c4 => ?_) (fun c4 => ?_)
  · have h := h.1 c4
    refine zu_aload_n d_4089_49 rfl (zs_rr _) ?_
    obtain ⟨b5, e6, h⟩ := h
    refine zs_stk0 (zs_rfe e6) ?_
    obtain ⟨k7, h⟩ := h
    refine zg_4_300 rfl d_4089_50 k7 ?_
    refine zu_aload_n d_4089_53 rfl (zs_ra _) ?_
    refine zu_aload_n d_4089_54 rfl (zs_rr _) ?_
    obtain ⟨k8, h⟩ := h
    refine zc_4_476 (x0 := p1) hB rfl k8 d_4089_55 (Nat.le_of_ble_eq_true rfl) h (fun v10 S9 h => ?_)
    refine zu_llt (t := 79) d_4089_58 d_4089_59 rfl (fun c11 => ?_) (fun c11 => ?_)
    · have h := h.1 c11
      exact (u_X5_inside_79 hB h).weak trivial
    · have h := h.2 c11
      refine zu_aload_n d_4089_62 rfl (zs_rr _) ?_
      refine zs_stk0 (zs_rfe e6) ?_
      obtain ⟨k12, h⟩ := h
      refine zg_4_300 rfl d_4089_63 k12 ?_
      refine zu_aload_n d_4089_66 rfl (zs_ra _) ?_
      refine zu_aload_n d_4089_67 rfl (zs_rr _) ?_
      obtain ⟨k13, h⟩ := h
      refine zc_4_473 (x0 := p1) hB rfl k13 d_4089_68 (Nat.le_of_ble_eq_true rfl) h (fun v15 S14 h => ?_)
      refine zu_lgt (t := 79) d_4089_71 d_4089_72 rfl (fun c16 => ?_) (fun c16 => ?_)
      · have h := h.1 c16
        exact (u_X5_inside_79 hB h).weak trivial
      · have h := h.2 c16
        exact (u_X5_inside_75 hB h).weak trivial
  · have h := h.2 c4
    refine zu_aload_n d_4089_9 rfl (zs_rr _) ?_
    obtain ⟨b17, e18, h⟩ := h
    refine zs_stk0 (zs_rfe e18) ?_
    obtain ⟨k19, h⟩ := h
    refine zg_4_512 rfl d_4089_10 k19 ?_
    refine zu_iconst d_4089_13 zi_1 ?_
    refine zu_cmpne (t := 29) d_4089_14 rfl (fun c20 => ?_) (fun c20 => ?_)
    · have h := h.1 c20
      refine zu_iconst d_4089_29 zi_1 ?_
      exact (u_X5_inside_30 hB h).weak ⟨rfl, rfl, trivial⟩
    · have h := h.2 c20
      refine zu_aload_n d_4089_17 rfl (zs_rr _) ?_
      refine zs_stk0 (zs_rfe e18) ?_
      refine zg_4_303 rfl d_4089_18 k19 ?_
      refine zu_aload_n d_4089_21 rfl (zs_rr _) ?_
      refine zs_stk0 (zs_rfe e18) ?_
      refine zg_4_301 rfl d_4089_22 k19 ?_
      refine zu_stk d_4089_25 rfl rfl ?_
      refine zu_goto (t := 30) d_4089_26 rfl ?_
      exact (u_X5_inside_30 hB h).weak ⟨rfl, rfl, trivial⟩
