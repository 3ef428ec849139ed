/-! printed by gen_all.py: what the methods compute -/
set_option maxRecDepth 100000
/-! SchemaPascal$Reader.text()LSchemaPascal$Node; -/
theorem zm_4020 {σ : Nat → Nat} {n0 : Nat} {bf : ab_B} : ab_code (zx σ n0 bf).1 4020 = prog_9_method_67_code := rfl
theorem zq_4020 {σ : Nat → Nat} {n0 : Nat} {bf : ab_B} : ab_maxL (zx σ n0 bf).1 4020 = 4 := rfl
theorem zr_4020 {σ : Nat → Nat} {n0 : Nat} {bf : ab_B} : ab_ret (zx σ n0 bf).1 4020 = (Option.some (Jvm.ClassFile.FieldType.object "SchemaPascal$Node")) := rfl
theorem d_4020_0 {σ : Nat → Nat} {n0 : Nat} {bf : ab_B} : decode (ab_code (zx σ n0 bf).1 4020) 0 = .ok (.aload_n 0, 1) := zd zm_4020 (by decide +kernel)
theorem d_4020_1 {σ : Nat → Nat} {n0 : Nat} {bf : ab_B} : decode (ab_code (zx σ n0 bf).1 4020) 1 = .ok (.getfield 128, 3) := zd zm_4020 (by decide +kernel)
theorem d_4020_4 {σ : Nat → Nat} {n0 : Nat} {bf : ab_B} : decode (ab_code (zx σ n0 bf).1 4020) 4 = .ok (.getfield 628, 3) := zd zm_4020 (by decide +kernel)
theorem d_4020_7 {σ : Nat → Nat} {n0 : Nat} {bf : ab_B} : decode (ab_code (zx σ n0 bf).1 4020) 7 = .ok (.istore_n 1, 1) := zd zm_4020 (by decide +kernel)
theorem d_4020_8 {σ : Nat → Nat} {n0 : Nat} {bf : ab_B} : decode (ab_code (zx σ n0 bf).1 4020) 8 = .ok (.aload_n 0, 1) := zd zm_4020 (by decide +kernel)
theorem d_4020_9 {σ : Nat → Nat} {n0 : Nat} {bf : ab_B} : decode (ab_code (zx σ n0 bf).1 4020) 9 = .ok (.getfield 5, 3) := zd zm_4020 (by decide +kernel)
theorem d_4020_12 {σ : Nat → Nat} {n0 : Nat} {bf : ab_B} : decode (ab_code (zx σ n0 bf).1 4020) 12 = .ok (.getfield 11, 3) := zd zm_4020 (by decide +kernel)
theorem d_4020_15 {σ : Nat → Nat} {n0 : Nat} {bf : ab_B} : decode (ab_code (zx σ n0 bf).1 4020) 15 = .ok (.iconst 1, 1) := zd zm_4020 (by decide +kernel)
theorem d_4020_16 {σ : Nat → Nat} {n0 : Nat} {bf : ab_B} : decode (ab_code (zx σ n0 bf).1 4020) 16 = .ok (.iadd, 1) := zd zm_4020 (by decide +kernel)
theorem d_4020_17 {σ : Nat → Nat} {n0 : Nat} {bf : ab_B} : decode (ab_code (zx σ n0 bf).1 4020) 17 = .ok (.istore_n 2, 1) := zd zm_4020 (by decide +kernel)
theorem d_4020_18 {σ : Nat → Nat} {n0 : Nat} {bf : ab_B} : decode (ab_code (zx σ n0 bf).1 4020) 18 = .ok (.iload_n 2, 1) := zd zm_4020 (by decide +kernel)
theorem d_4020_19 {σ : Nat → Nat} {n0 : Nat} {bf : ab_B} : decode (ab_code (zx σ n0 bf).1 4020) 19 = .ok (.aload_n 0, 1) := zd zm_4020 (by decide +kernel)
theorem d_4020_20 {σ : Nat → Nat} {n0 : Nat} {bf : ab_B} : decode (ab_code (zx σ n0 bf).1 4020) 20 = .ok (.getfield 5, 3) := zd zm_4020 (by decide +kernel)
theorem d_4020_23 {σ : Nat → Nat} {n0 : Nat} {bf : ab_B} : decode (ab_code (zx σ n0 bf).1 4020) 23 = .ok (.getfield 631, 3) := zd zm_4020 (by decide +kernel)
theorem d_4020_26 {σ : Nat → Nat} {n0 : Nat} {bf : ab_B} : decode (ab_code (zx σ n0 bf).1 4020) 26 = .ok (.iconst 1, 1) := zd zm_4020 (by decide +kernel)
theorem d_4020_27 {σ : Nat → Nat} {n0 : Nat} {bf : ab_B} : decode (ab_code (zx σ n0 bf).1 4020) 27 = .ok (.isub, 1) := zd zm_4020 (by decide +kernel)
theorem d_4020_28 {σ : Nat → Nat} {n0 : Nat} {bf : ab_B} : decode (ab_code (zx σ n0 bf).1 4020) 28 = .ok (.if_icmp .ge 57, 3) := zd zm_4020 (by decide +kernel)
theorem d_4020_31 {σ : Nat → Nat} {n0 : Nat} {bf : ab_B} : decode (ab_code (zx σ n0 bf).1 4020) 31 = .ok (.aload_n 0, 1) := zd zm_4020 (by decide +kernel)
theorem d_4020_32 {σ : Nat → Nat} {n0 : Nat} {bf : ab_B} : decode (ab_code (zx σ n0 bf).1 4020) 32 = .ok (.getfield 128, 3) := zd zm_4020 (by decide +kernel)
theorem d_4020_35 {σ : Nat → Nat} {n0 : Nat} {bf : ab_B} : decode (ab_code (zx σ n0 bf).1 4020) 35 = .ok (.getfield 632, 3) := zd zm_4020 (by decide +kernel)
theorem d_4020_38 {σ : Nat → Nat} {n0 : Nat} {bf : ab_B} : decode (ab_code (zx σ n0 bf).1 4020) 38 = .ok (.aload_n 0, 1) := zd zm_4020 (by decide +kernel)
theorem d_4020_39 {σ : Nat → Nat} {n0 : Nat} {bf : ab_B} : decode (ab_code (zx σ n0 bf).1 4020) 39 = .ok (.getfield 128, 3) := zd zm_4020 (by decide +kernel)
theorem d_4020_42 {σ : Nat → Nat} {n0 : Nat} {bf : ab_B} : decode (ab_code (zx σ n0 bf).1 4020) 42 = .ok (.dup, 1) := zd zm_4020 (by decide +kernel)
theorem d_4020_43 {σ : Nat → Nat} {n0 : Nat} {bf : ab_B} : decode (ab_code (zx σ n0 bf).1 4020) 43 = .ok (.getfield 628, 3) := zd zm_4020 (by decide +kernel)
theorem d_4020_46 {σ : Nat → Nat} {n0 : Nat} {bf : ab_B} : decode (ab_code (zx σ n0 bf).1 4020) 46 = .ok (.dup_x1, 1) := zd zm_4020 (by decide +kernel)
theorem d_4020_47 {σ : Nat → Nat} {n0 : Nat} {bf : ab_B} : decode (ab_code (zx σ n0 bf).1 4020) 47 = .ok (.iconst 1, 1) := zd zm_4020 (by decide +kernel)
theorem d_4020_48 {σ : Nat → Nat} {n0 : Nat} {bf : ab_B} : decode (ab_code (zx σ n0 bf).1 4020) 48 = .ok (.iadd, 1) := zd zm_4020 (by decide +kernel)
theorem d_4020_49 {σ : Nat → Nat} {n0 : Nat} {bf : ab_B} : decode (ab_code (zx σ n0 bf).1 4020) 49 = .ok (.putfield 628, 3) := zd zm_4020 (by decide +kernel)
theorem d_4020_52 {σ : Nat → Nat} {n0 : Nat} {bf : ab_B} : decode (ab_code (zx σ n0 bf).1 4020) 52 = .ok (.aload_n 0, 1) := zd zm_4020 (by decide +kernel)
theorem d_4020_53 {σ : Nat → Nat} {n0 : Nat} {bf : ab_B} : decode (ab_code (zx σ n0 bf).1 4020) 53 = .ok (.getfield 5, 3) := zd zm_4020 (by decide +kernel)
theorem d_4020_56 {σ : Nat → Nat} {n0 : Nat} {bf : ab_B} : decode (ab_code (zx σ n0 bf).1 4020) 56 = .ok (.getfield 636, 3) := zd zm_4020 (by decide +kernel)
theorem d_4020_59 {σ : Nat → Nat} {n0 : Nat} {bf : ab_B} : decode (ab_code (zx σ n0 bf).1 4020) 59 = .ok (.iload_n 2, 1) := zd zm_4020 (by decide +kernel)
theorem d_4020_60 {σ : Nat → Nat} {n0 : Nat} {bf : ab_B} : decode (ab_code (zx σ n0 bf).1 4020) 60 = .ok (.baload, 1) := zd zm_4020 (by decide +kernel)
theorem d_4020_61 {σ : Nat → Nat} {n0 : Nat} {bf : ab_B} : decode (ab_code (zx σ n0 bf).1 4020) 61 = .ok (.bastore, 1) := zd zm_4020 (by decide +kernel)
theorem d_4020_62 {σ : Nat → Nat} {n0 : Nat} {bf : ab_B} : decode (ab_code (zx σ n0 bf).1 4020) 62 = .ok (.aload_n 0, 1) := zd zm_4020 (by decide +kernel)
theorem d_4020_63 {σ : Nat → Nat} {n0 : Nat} {bf : ab_B} : decode (ab_code (zx σ n0 bf).1 4020) 63 = .ok (.getfield 5, 3) := zd zm_4020 (by decide +kernel)
theorem d_4020_66 {σ : Nat → Nat} {n0 : Nat} {bf : ab_B} : decode (ab_code (zx σ n0 bf).1 4020) 66 = .ok (.getfield 636, 3) := zd zm_4020 (by decide +kernel)
theorem d_4020_69 {σ : Nat → Nat} {n0 : Nat} {bf : ab_B} : decode (ab_code (zx σ n0 bf).1 4020) 69 = .ok (.iload_n 2, 1) := zd zm_4020 (by decide +kernel)
theorem d_4020_70 {σ : Nat → Nat} {n0 : Nat} {bf : ab_B} : decode (ab_code (zx σ n0 bf).1 4020) 70 = .ok (.baload, 1) := zd zm_4020 (by decide +kernel)
theorem d_4020_71 {σ : Nat → Nat} {n0 : Nat} {bf : ab_B} : decode (ab_code (zx σ n0 bf).1 4020) 71 = .ok (.bipush 39, 2) := zd zm_4020 (by decide +kernel)
theorem d_4020_73 {σ : Nat → Nat} {n0 : Nat} {bf : ab_B} : decode (ab_code (zx σ n0 bf).1 4020) 73 = .ok (.if_icmp .ne 6, 3) := zd zm_4020 (by decide +kernel)
theorem d_4020_76 {σ : Nat → Nat} {n0 : Nat} {bf : ab_B} : decode (ab_code (zx σ n0 bf).1 4020) 76 = .ok (.iinc 2 1, 3) := zd zm_4020 (by decide +kernel)
theorem d_4020_79 {σ : Nat → Nat} {n0 : Nat} {bf : ab_B} : decode (ab_code (zx σ n0 bf).1 4020) 79 = .ok (.iinc 2 1, 3) := zd zm_4020 (by decide +kernel)
theorem d_4020_82 {σ : Nat → Nat} {n0 : Nat} {bf : ab_B} : decode (ab_code (zx σ n0 bf).1 4020) 82 = .ok (.goto (-64), 3) := zd zm_4020 (by decide +kernel)
theorem d_4020_85 {σ : Nat → Nat} {n0 : Nat} {bf : ab_B} : decode (ab_code (zx σ n0 bf).1 4020) 85 = .ok (.aload_n 0, 1) := zd zm_4020 (by decide +kernel)
theorem d_4020_86 {σ : Nat → Nat} {n0 : Nat} {bf : ab_B} : decode (ab_code (zx σ n0 bf).1 4020) 86 = .ok (.iconst 1, 1) := zd zm_4020 (by decide +kernel)
theorem d_4020_87 {σ : Nat → Nat} {n0 : Nat} {bf : ab_B} : decode (ab_code (zx σ n0 bf).1 4020) 87 = .ok (.aload_n 0, 1) := zd zm_4020 (by decide +kernel)
theorem d_4020_88 {σ : Nat → Nat} {n0 : Nat} {bf : ab_B} : decode (ab_code (zx σ n0 bf).1 4020) 88 = .ok (.getfield 5, 3) := zd zm_4020 (by decide +kernel)
theorem d_4020_91 {σ : Nat → Nat} {n0 : Nat} {bf : ab_B} : decode (ab_code (zx σ n0 bf).1 4020) 91 = .ok (.getfield 11, 3) := zd zm_4020 (by decide +kernel)
theorem d_4020_94 {σ : Nat → Nat} {n0 : Nat} {bf : ab_B} : decode (ab_code (zx σ n0 bf).1 4020) 94 = .ok (.aload_n 0, 1) := zd zm_4020 (by decide +kernel)
theorem d_4020_95 {σ : Nat → Nat} {n0 : Nat} {bf : ab_B} : decode (ab_code (zx σ n0 bf).1 4020) 95 = .ok (.getfield 128, 3) := zd zm_4020 (by decide +kernel)
theorem d_4020_98 {σ : Nat → Nat} {n0 : Nat} {bf : ab_B} : decode (ab_code (zx σ n0 bf).1 4020) 98 = .ok (.getfield 628, 3) := zd zm_4020 (by decide +kernel)
theorem d_4020_101 {σ : Nat → Nat} {n0 : Nat} {bf : ab_B} : decode (ab_code (zx σ n0 bf).1 4020) 101 = .ok (.iload_n 1, 1) := zd zm_4020 (by decide +kernel)
theorem d_4020_102 {σ : Nat → Nat} {n0 : Nat} {bf : ab_B} : decode (ab_code (zx σ n0 bf).1 4020) 102 = .ok (.isub, 1) := zd zm_4020 (by decide +kernel)
theorem d_4020_103 {σ : Nat → Nat} {n0 : Nat} {bf : ab_B} : decode (ab_code (zx σ n0 bf).1 4020) 103 = .ok (.iconst 1, 1) := zd zm_4020 (by decide +kernel)
theorem d_4020_104 {σ : Nat → Nat} {n0 : Nat} {bf : ab_B} : decode (ab_code (zx σ n0 bf).1 4020) 104 = .ok (.if_icmp .ne 10, 3) := zd zm_4020 (by decide +kernel)
theorem d_4020_107 {σ : Nat → Nat} {n0 : Nat} {bf : ab_B} : decode (ab_code (zx σ n0 bf).1 4020) 107 = .ok (.aload_n 0, 1) := zd zm_4020 (by decide +kernel)
theorem d_4020_108 {σ : Nat → Nat} {n0 : Nat} {bf : ab_B} : decode (ab_code (zx σ n0 bf).1 4020) 108 = .ok (.getfield 153, 3) := zd zm_4020 (by decide +kernel)
theorem d_4020_111 {σ : Nat → Nat} {n0 : Nat} {bf : ab_B} : decode (ab_code (zx σ n0 bf).1 4020) 111 = .ok (.goto 7, 3) := zd zm_4020 (by decide +kernel)
theorem d_4020_114 {σ : Nat → Nat} {n0 : Nat} {bf : ab_B} : decode (ab_code (zx σ n0 bf).1 4020) 114 = .ok (.aload_n 0, 1) := zd zm_4020 (by decide +kernel)
theorem d_4020_115 {σ : Nat → Nat} {n0 : Nat} {bf : ab_B} : decode (ab_code (zx σ n0 bf).1 4020) 115 = .ok (.getfield 156, 3) := zd zm_4020 (by decide +kernel)
theorem d_4020_118 {σ : Nat → Nat} {n0 : Nat} {bf : ab_B} : decode (ab_code (zx σ n0 bf).1 4020) 118 = .ok (.invokevirtual 572, 3) := zd zm_4020 (by decide +kernel)
theorem d_4020_121 {σ : Nat → Nat} {n0 : Nat} {bf : ab_B} : decode (ab_code (zx σ n0 bf).1 4020) 121 = .ok (.astore_n 2, 1) := zd zm_4020 (by decide +kernel)
theorem d_4020_122 {σ : Nat → Nat} {n0 : Nat} {bf : ab_B} : decode (ab_code (zx σ n0 bf).1 4020) 122 = .ok (.aload_n 2, 1) := zd zm_4020 (by decide +kernel)
theorem d_4020_123 {σ : Nat → Nat} {n0 : Nat} {bf : ab_B} : decode (ab_code (zx σ n0 bf).1 4020) 123 = .ok (.iload_n 1, 1) := zd zm_4020 (by decide +kernel)
theorem d_4020_124 {σ : Nat → Nat} {n0 : Nat} {bf : ab_B} : decode (ab_code (zx σ n0 bf).1 4020) 124 = .ok (.putfield 301, 3) := zd zm_4020 (by decide +kernel)
theorem d_4020_127 {σ : Nat → Nat} {n0 : Nat} {bf : ab_B} : decode (ab_code (zx σ n0 bf).1 4020) 127 = .ok (.aload_n 2, 1) := zd zm_4020 (by decide +kernel)
theorem d_4020_128 {σ : Nat → Nat} {n0 : Nat} {bf : ab_B} : decode (ab_code (zx σ n0 bf).1 4020) 128 = .ok (.aload_n 0, 1) := zd zm_4020 (by decide +kernel)
theorem d_4020_129 {σ : Nat → Nat} {n0 : Nat} {bf : ab_B} : decode (ab_code (zx σ n0 bf).1 4020) 129 = .ok (.getfield 128, 3) := zd zm_4020 (by decide +kernel)
theorem d_4020_132 {σ : Nat → Nat} {n0 : Nat} {bf : ab_B} : decode (ab_code (zx σ n0 bf).1 4020) 132 = .ok (.getfield 628, 3) := zd zm_4020 (by decide +kernel)
theorem d_4020_135 {σ : Nat → Nat} {n0 : Nat} {bf : ab_B} : decode (ab_code (zx σ n0 bf).1 4020) 135 = .ok (.putfield 303, 3) := zd zm_4020 (by decide +kernel)
theorem d_4020_138 {σ : Nat → Nat} {n0 : Nat} {bf : ab_B} : decode (ab_code (zx σ n0 bf).1 4020) 138 = .ok (.aload_n 0, 1) := zd zm_4020 (by decide +kernel)
theorem d_4020_139 {σ : Nat → Nat} {n0 : Nat} {bf : ab_B} : decode (ab_code (zx σ n0 bf).1 4020) 139 = .ok (.getfield 5, 3) := zd zm_4020 (by decide +kernel)
theorem d_4020_142 {σ : Nat → Nat} {n0 : Nat} {bf : ab_B} : decode (ab_code (zx σ n0 bf).1 4020) 142 = .ok (.invokevirtual 29, 3) := zd zm_4020 (by decide +kernel)
theorem d_4020_145 {σ : Nat → Nat} {n0 : Nat} {bf : ab_B} : decode (ab_code (zx σ n0 bf).1 4020) 145 = .ok (.aload_n 2, 1) := zd zm_4020 (by decide +kernel)
theorem d_4020_146 {σ : Nat → Nat} {n0 : Nat} {bf : ab_B} : decode (ab_code (zx σ n0 bf).1 4020) 146 = .ok (.getfield 297, 3) := zd zm_4020 (by decide +kernel)
theorem d_4020_149 {σ : Nat → Nat} {n0 : Nat} {bf : ab_B} : decode (ab_code (zx σ n0 bf).1 4020) 149 = .ok (.aload_n 0, 1) := zd zm_4020 (by decide +kernel)
theorem d_4020_150 {σ : Nat → Nat} {n0 : Nat} {bf : ab_B} : decode (ab_code (zx σ n0 bf).1 4020) 150 = .ok (.getfield 156, 3) := zd zm_4020 (by decide +kernel)
theorem d_4020_153 {σ : Nat → Nat} {n0 : Nat} {bf : ab_B} : decode (ab_code (zx σ n0 bf).1 4020) 153 = .ok (.if_acmp .ne 5, 3) := zd zm_4020 (by decide +kernel)
theorem d_4020_156 {σ : Nat → Nat} {n0 : Nat} {bf : ab_B} : decode (ab_code (zx σ n0 bf).1 4020) 156 = .ok (.aload_n 2, 1) := zd zm_4020 (by decide +kernel)
theorem d_4020_157 {σ : Nat → Nat} {n0 : Nat} {bf : ab_B} : decode (ab_code (zx σ n0 bf).1 4020) 157 = .ok (.areturn, 1) := zd zm_4020 (by decide +kernel)
theorem d_4020_158 {σ : Nat → Nat} {n0 : Nat} {bf : ab_B} : decode (ab_code (zx σ n0 bf).1 4020) 158 = .ok (.aload_n 0, 1) := zd zm_4020 (by decide +kernel)
theorem d_4020_159 {σ : Nat → Nat} {n0 : Nat} {bf : ab_B} : decode (ab_code (zx σ n0 bf).1 4020) 159 = .ok (.getfield 128, 3) := zd zm_4020 (by decide +kernel)
theorem d_4020_162 {σ : Nat → Nat} {n0 : Nat} {bf : ab_B} : decode (ab_code (zx σ n0 bf).1 4020) 162 = .ok (.getfield 632, 3) := zd zm_4020 (by decide +kernel)
theorem d_4020_165 {σ : Nat → Nat} {n0 : Nat} {bf : ab_B} : decode (ab_code (zx σ n0 bf).1 4020) 165 = .ok (.iload_n 1, 1) := zd zm_4020 (by decide +kernel)
theorem d_4020_166 {σ : Nat → Nat} {n0 : Nat} {bf : ab_B} : decode (ab_code (zx σ n0 bf).1 4020) 166 = .ok (.baload, 1) := zd zm_4020 (by decide +kernel)
theorem d_4020_167 {σ : Nat → Nat} {n0 : Nat} {bf : ab_B} : decode (ab_code (zx σ n0 bf).1 4020) 167 = .ok (.sipush 255, 3) := zd zm_4020 (by decide +kernel)
theorem d_4020_170 {σ : Nat → Nat} {n0 : Nat} {bf : ab_B} : decode (ab_code (zx σ n0 bf).1 4020) 170 = .ok (.iand, 1) := zd zm_4020 (by decide +kernel)
theorem d_4020_171 {σ : Nat → Nat} {n0 : Nat} {bf : ab_B} : decode (ab_code (zx σ n0 bf).1 4020) 171 = .ok (.i2l, 1) := zd zm_4020 (by decide +kernel)
theorem d_4020_172 {σ : Nat → Nat} {n0 : Nat} {bf : ab_B} : decode (ab_code (zx σ n0 bf).1 4020) 172 = .ok (.aload_n 0, 1) := zd zm_4020 (by decide +kernel)
theorem d_4020_173 {σ : Nat → Nat} {n0 : Nat} {bf : ab_B} : decode (ab_code (zx σ n0 bf).1 4020) 173 = .ok (.getfield 153, 3) := zd zm_4020 (by decide +kernel)
theorem d_4020_176 {σ : Nat → Nat} {n0 : Nat} {bf : ab_B} : decode (ab_code (zx σ n0 bf).1 4020) 176 = .ok (.aload_n 2, 1) := zd zm_4020 (by decide +kernel)
theorem d_4020_177 {σ : Nat → Nat} {n0 : Nat} {bf : ab_B} : decode (ab_code (zx σ n0 bf).1 4020) 177 = .ok (.getfield 469, 3) := zd zm_4020 (by decide +kernel)
theorem d_4020_180 {σ : Nat → Nat} {n0 : Nat} {bf : ab_B} : decode (ab_code (zx σ n0 bf).1 4020) 180 = .ok (.invokestatic 470, 3) := zd zm_4020 (by decide +kernel)
theorem d_4020_183 {σ : Nat → Nat} {n0 : Nat} {bf : ab_B} : decode (ab_code (zx σ n0 bf).1 4020) 183 = .ok (.astore_n 3, 1) := zd zm_4020 (by decide +kernel)
theorem d_4020_184 {σ : Nat → Nat} {n0 : Nat} {bf : ab_B} : decode (ab_code (zx σ n0 bf).1 4020) 184 = .ok (.aload_n 3, 1) := zd zm_4020 (by decide +kernel)
theorem d_4020_185 {σ : Nat → Nat} {n0 : Nat} {bf : ab_B} : decode (ab_code (zx σ n0 bf).1 4020) 185 = .ok (.areturn, 1) := zd zm_4020 (by decide +kernel)
def w_X5_text_158 (X : zs_X) (d : Nat) (p0 : Nat) (p1 : Int32) (p2 : Option Nat) (S : zs_T) (Q : zs_Q) : Prop :=
  (zs_K S p0 = some (.inl 4) ∧ ∃ b2, (zs_R S 4001 p0) = some b2 ∧ zs_K S b2 = some (.inl 3) ∧ ∃ b5, (zs_R S 3005 b2) = some b5 ∧ zs_A S b5 1 p1 ∧ ∃ b8, p2 = some b8 ∧ zs_K S b8 = some (.inl 11) ∧ zs_C X d 4019 [.long ((((zs_i S b5 p1.toNatClampNeg) &&& (255 : Int32))).toInt64), va_rf (zs_R S 4004 p0), .int (zs_I S 11001 b8)] S (zs_kR (fun v12 S11 => (Q (.returned (some (va_rf v12))) S11)) Q))
theorem u_X5_text_158 {σ : Nat → Nat} {n0 : Nat} {bf : ab_B} {d : Nat} {p0 : Nat} {p1 : Int32} {p2 : Option Nat} {S : zs_T} {Q : zs_Q} (hB : zt_B bf) (h : w_X5_text_158 (zx σ n0 bf) d p0 p1 p2 S Q) : zs_U (zx σ n0 bf) d 4020 158 [(0, .ref p0), (1, .int p1), (2, va_rf p2)] [] S Q := by
  unfold w_X5_text_158 at h
  refine zu_aload_n d_4020_158 rfl (zs_ra _) ?_
  obtain ⟨k1, h⟩ := h
  refine zg_4_128 rfl d_4020_159 k1 ?_
  obtain ⟨b2, e3, h⟩ := h
  refine zs_stk0 (zs_rfe e3) ?_
  obtain ⟨k4, h⟩ := h
  refine zg_4_632 rfl d_4020_162 k4 ?_
  refine zu_iload_n d_4020_165 rfl ?_
  obtain ⟨b5, e6, h⟩ := h
  refine zs_stk1 (zs_rfe e6) ?_
  obtain ⟨k7, h⟩ := h
  refine zu_bald (k := 1) d_4020_166 rfl (Or.inl rfl) k7 ?_
  refine zu_sipush d_4020_167 zh_255 ?_
  refine zu_stk d_4020_170 rfl rfl ?_
  refine zu_stk d_4020_171 rfl rfl ?_
  refine zu_aload_n d_4020_172 rfl (zs_ra _) ?_
  refine zg_4_153 rfl d_4020_173 k1 ?_
  refine zu_aload_n d_4020_176 rfl (zs_rr _) ?_
  obtain ⟨b8, e9, h⟩ := h
  refine zs_stk0 (zs_rfe e9) ?_
  obtain ⟨k10, h⟩ := h
  refine zg_4_469 rfl d_4020_177 k10 ?_
  refine zc_4_470 (x0 := ((((zs_i S b5 p1.toNatClampNeg) &&& (255 : Int32))).toInt64)) (x1 := (zs_R S 4004 p0)) (x2 := (zs_I S 11001 b8)) hB rfl d_4020_180 (Nat.le_of_ble_eq_true rfl) h (fun v12 S11 h => ?_)
  refine zu_astore_n d_4020_183 (zs_rr _) (zs_lt zq_4020 rfl) ?_
  refine zs_U.weak (L1 := [(3, va_rf v12), (0, .ref p0), (1, .int p1), (2, va_rf p2)]) ?_ ⟨rfl, zs_gp1 rfl (Or.inl rfl) rfl, zs_gp1 rfl (Or.inl rfl) rfl, zs_gp1 rfl (Or.inl (zs_cat _)) rfl, trivial⟩
  refine zu_aload_n d_4020_184 rfl (zs_rr _) ?_
  exact zu_aret d_4020_185 zr_4020 (zs_rr _) h
def w_X5_text_156 (X : zs_X) (d : Nat) (p2 : Option Nat) (S : zs_T) (Q : zs_Q) : Prop :=
  (Q (.returned (some (va_rf p2))) S)
theorem u_X5_text_156 {σ : Nat → Nat} {n0 : Nat} {bf : ab_B} {d : Nat} {p2 : Option Nat} {S : zs_T} {Q : zs_Q} (hB : zt_B bf) (h : w_X5_text_156 (zx σ n0 bf) d p2 S Q) : zs_U (zx σ n0 bf) d 4020 156 [(2, va_rf p2)] [] S Q := by
  unfold w_X5_text_156 at h
  refine zu_aload_n d_4020_156 rfl (zs_rr _) ?_
  exact zu_aret d_4020_157 zr_4020 (zs_rr _) h
def w_X5_text_118 (X : zs_X) (d : Nat) (p0 : Nat) (p1 : Int32) (q0 : Option Nat) (q1 : Int32) (q2 : Int32) (q3 : Option Nat) (S : zs_T) (Q : zs_Q) : Prop :=
  (∃ b1, q0 = some b1 ∧ zs_K S b1 = some (.inl 4) ∧ zs_C X d 4016 [.ref b1, .int q1, .int q2, va_rf q3] S (zs_kR (fun v5 S4 => (∃ b6, v5 = some b6 ∧ zs_K S4 b6 = some (.inl 11) ∧ ab_n0 X.1 ≤ b6 ∧ ∀ S10, S10 = zs_sI S4 11011 b6 p1 → zs_K S4 p0 = some (.inl 4) ∧ ∃ b14, (zs_R S10 4001 p0) = some b14 ∧ zs_K S4 b14 = some (.inl 3) ∧ ∀ S17, S17 = zs_sI S10 11012 b6 (zs_I S10 3006 b14) → ∃ b20, (zs_R S17 4000 p0) = some b20 ∧ zs_K S4 b20 = some (.inl 5) ∧ zs_C X d 5004 [.ref b20] S17 (zs_kV (fun S23 => (zs_K S23 b6 = some (.inl 11) ∧ zs_K S23 p0 = some (.inl 4) ∧ ((¬ (zs_R S23 11002 b6) = (zs_R S23 4005 p0) → w_X5_text_158 X d p0 p1 v5 S23 Q) ∧ (¬ (¬ (zs_R S23 11002 b6) = (zs_R S23 4005 p0)) → w_X5_text_156 X d v5 S23 Q)))) Q))) Q))
theorem u_X5_text_118 {σ : Nat → Nat} {n0 : Nat} {bf : ab_B} {d : Nat} {p0 : Nat} {p1 : Int32} {q0 : Option Nat} {q1 : Int32} {q2 : Int32} {q3 : Option Nat} {S : zs_T} {Q : zs_Q} (hB : zt_B bf) (h : w_X5_text_118 (zx σ n0 bf) d p0 p1 q0 q1 q2 q3 S Q) : zs_U (zx σ n0 bf) d 4020 118 [(0, .ref p0), (1, .int p1)] [va_rf q3, .int q2, .int q1, va_rf q0] S Q := by
  unfold w_X5_text_118 at h
  obtain ⟨b1, e2, h⟩ := h
  refine zs_stk3 (zs_rfe e2) ?_
  obtain ⟨k3, h⟩ := h
  refine zc_4_572 (x0 := q1) (x1 := q2) (x2 := q3) hB rfl k3 d_4020_118 (Nat.le_of_ble_eq_true rfl) h (fun v5 S4 h => ?_)
  refine zu_astore_n d_4020_121 (zs_rr _) (zs_lt zq_4020 rfl) ?_
  refine zu_aload_n d_4020_122 rfl (zs_rr _) ?_
  refine zu_iload_n d_4020_123 rfl ?_
  obtain ⟨b6, e7, h⟩ := h
  refine zs_stk1 (zs_rfe e7) ?_
  obtain ⟨k8, h⟩ := h
  obtain ⟨k9, h⟩ := h
  refine zp_4_301 (v := p1) rfl d_4020_124 k8 k9 ?_
  generalize e11 : zs_sI S4 11011 b6 p1 = S10
  have h := h S10 e11.symm
  have K12 : ∀ b, zs_K S10 b = zs_K S4 b := zs_Kt e11 (zs_KsI _ _ _ _) (fun _ => rfl)
  refine zu_aload_n d_4020_127 rfl (zs_rr _) ?_
  refine zu_aload_n d_4020_128 rfl (zs_ra _) ?_
  obtain ⟨k13, h⟩ := h
  refine zg_4_128 rfl d_4020_129 ((K12 _).trans k13) ?_
  obtain ⟨b14, e15, h⟩ := h
  refine zs_stk0 (zs_rfe e15) ?_
  obtain ⟨k16, h⟩ := h
  refine zg_4_628 rfl d_4020_132 ((K12 _).trans k16) ?_
  refine zs_stk1 (zs_rfe e7) ?_
  refine zp_4_303 (v := (zs_I S10 3006 b14)) rfl d_4020_135 ((K12 _).trans k8) k9 ?_
  generalize e18 : zs_sI S10 11012 b6 (zs_I S10 3006 b14) = S17
  have h := h S17 e18.symm
  have K19 : ∀ b, zs_K S17 b = zs_K S4 b := zs_Kt e18 (zs_KsI _ _ _ _) K12
  refine zu_aload_n d_4020_138 rfl (zs_ra _) ?_
  refine zg_4_5 rfl d_4020_139 ((K19 _).trans k13) ?_
  obtain ⟨b20, e21, h⟩ := h
  refine zs_stk0 (zs_rfe e21) ?_
  obtain ⟨k22, h⟩ := h
  refine zc_4_29  hB rfl ((K19 _).trans k22) d_4020_142 (Nat.le_of_ble_eq_true rfl) h (fun S23 h => ?_)
  refine zu_aload_n d_4020_145 rfl (zs_rr _) ?_
  refine zs_stk0 (zs_rfe e7) ?_
  obtain ⟨k25, h⟩ := h
  refine zg_4_297 rfl d_4020_146 k25 ?_
  refine zu_aload_n d_4020_149 rfl (zs_ra _) ?_
  obtain ⟨k26, h⟩ := h
  refine zg_4_156 rfl d_4020_150 k26 ?_
  refine zu_acmpne (u := (zs_R S23 11002 b6)) (w := (zs_R S23 4005 p0)) (t := 158) d_4020_153 rfl rfl rfl (fun c27 => ?_) (fun c27 => ?_)
  · have h := h.1 c27
    exact (u_X5_text_158 hB h).weak ⟨rfl, rfl, rfl, trivial⟩
  · have h := h.2 c27
    exact (u_X5_text_156 hB h).weak ⟨rfl, trivial⟩
def w_X5_text_62 (X : zs_X) (d : Nat) (p0 : Nat) (p1 : Int32) (p2 : Int32) (S : zs_T) (Q : zs_Q) : Prop :=
  (zs_K S p0 = some (.inl 4) ∧ ∃ b2, (zs_R S 4000 p0) = some b2 ∧ zs_K S b2 = some (.inl 5) ∧ ∃ b5, (zs_R S 5000 b2) = some b5 ∧ zs_A S b5 1 p2 ∧ ((¬ (zs_i S b5 p2.toNatClampNeg) = (39 : Int32) → (zs_U X d 4020 18 [(0, .ref p0), (1, .int p1), (2, .int (p2 + (1 : Int32)))] [] S Q)) ∧ (¬ (¬ (zs_i S b5 p2.toNatClampNeg) = (39 : Int32)) → (zs_U X d 4020 18 [(0, .ref p0), (1, .int p1), (2, .int ((p2 + (1 : Int32)) + (1 : Int32)))] [] S Q))))
theorem u_X5_text_62 {σ : Nat → Nat} {n0 : Nat} {bf : ab_B} {d : Nat} {p0 : Nat} {p1 : Int32} {p2 : Int32} {S : zs_T} {Q : zs_Q} (hB : zt_B bf) (h : w_X5_text_62 (zx σ n0 bf) d p0 p1 p2 S Q) : zs_U (zx σ n0 bf) d 4020 62 [(0, .ref p0), (1, .int p1), (2, .int p2)] [] S Q := by
  unfold w_X5_text_62 at h
  refine zu_aload_n d_4020_62 rfl (zs_ra _) ?_
  obtain ⟨k1, h⟩ := h
  refine zg_4_5 rfl d_4020_63 k1 ?_
  obtain ⟨b2, e3, h⟩ := h
  refine zs_stk0 (zs_rfe e3) ?_
  obtain ⟨k4, h⟩ := h
  refine zg_4_636 rfl d_4020_66 k4 ?_
  refine zu_iload_n d_4020_69 rfl ?_
  obtain ⟨b5, e6, h⟩ := h
  refine zs_stk1 (zs_rfe e6) ?_
  obtain ⟨k7, h⟩ := h
  refine zu_bald (k := 1) d_4020_70 rfl (Or.inl rfl) k7 ?_
  refine zu_bipush d_4020_71 zj_39 ?_
  refine zu_cmpne (t := 79) d_4020_73 rfl (fun c8 => ?_) (fun c8 => ?_)
  · have h := h.1 c8
    refine zu_iinc d_4020_79 rfl zi_1 (zs_lt zq_4020 rfl) ?_
    refine zu_goto (t := 18) d_4020_82 rfl ?_
    exact h.weak ⟨rfl, rfl, rfl, trivial⟩
  · have h := h.2 c8
    refine zu_iinc d_4020_76 rfl zi_1 (zs_lt zq_4020 rfl) ?_
    refine zu_iinc d_4020_79 rfl zi_1 (zs_lt zq_4020 rfl) ?_
    refine zu_goto (t := 18) d_4020_82 rfl ?_
    exact h.weak ⟨rfl, rfl, rfl, trivial⟩
def w_X5_text_18 (X : zs_X) (d : Nat) (p0 : Nat) (p1 : Int32) (p2 : Int32) (S : zs_T) (Q : zs_Q) : Prop :=
  (zs_K S p0 = some (.inl 4) ∧ ∃ b2, (zs_R S 4000 p0) = some b2 ∧ zs_K S b2 = some (.inl 5) ∧ ((((zs_I S 5006 b2) - (1 : Int32)) ≤ p2 → (∃ b6, (zs_R S 4001 p0) = some b6 ∧ zs_K S b6 = some (.inl 3) ∧ ((¬ ((zs_I S 3006 b6) - p1) = (1 : Int32) → (w_X5_text_118 X d p0 p1 (some p0) (1 : Int32) (zs_I S 5005 b2) (zs_R S 4005 p0) S Q)) ∧ (¬ (¬ ((zs_I S 3006 b6) - p1) = (1 : Int32)) → (w_X5_text_118 X d p0 p1 (some p0) (1 : Int32) (zs_I S 5005 b2) (zs_R S 4004 p0) S Q))))) ∧ (¬ (((zs_I S 5006 b2) - (1 : Int32)) ≤ p2) → (∃ b10, (zs_R S 4001 p0) = some b10 ∧ zs_K S b10 = some (.inl 3) ∧ ab_n0 X.1 ≤ b10 ∧ ∀ S14, S14 = zs_sI S 3006 b10 ((zs_I S 3006 b10) + (1 : Int32)) → ∃ b17, (zs_R S14 4000 p0) = some b17 ∧ zs_K S b17 = some (.inl 5) ∧ ∃ b20, (zs_R S14 5000 b17) = some b20 ∧ zs_A S b20 1 p2 ∧ ∃ b23, (zs_R S 3005 b10) = some b23 ∧ zs_A S b23 1 (zs_I S 3006 b10) ∧ ab_n0 X.1 ≤ b23 ∧ ∀ S27, S27 = zs_si S14 b23 (zs_I S 3006 b10).toNatClampNeg (vp_nar .byte (zs_i S14 b20 p2.toNatClampNeg)) → w_X5_text_62 X d p0 p1 p2 S27 Q))))
theorem u_X5_text_18 {σ : Nat → Nat} {n0 : Nat} {bf : ab_B} {d : Nat} {p0 : Nat} {p1 : Int32} {p2 : Int32} {S : zs_T} {Q : zs_Q} (hB : zt_B bf) (h : w_X5_text_18 (zx σ n0 bf) d p0 p1 p2 S Q) : zs_U (zx σ n0 bf) d 4020 18 [(0, .ref p0), (1, .int p1), (2, .int p2)] [] S Q := by
  unfold w_X5_text_18 at h
  refine zu_iload_n d_4020_18 rfl ?_
  refine zu_aload_n d_4020_19 rfl (zs_ra _) ?_
  obtain ⟨k1, h⟩ := h
  refine zg_4_5 rfl d_4020_20 k1 ?_
  obtain ⟨b2, e3, h⟩ := h
  refine zs_stk0 (zs_rfe e3) ?_
  obtain ⟨k4, h⟩ := h
  refine zg_4_631 rfl d_4020_23 k4 ?_
  refine zu_iconst d_4020_26 zi_1 ?_
  refine zu_stk d_4020_27 rfl rfl ?_
  refine zu_cmpge (t := 85) d_4020_28 rfl (fun c5 => ?_) (fun c5 => ?_)
  · have h := h.1 c5
    refine zu_aload_n d_4020_85 rfl (zs_ra _) ?_
    refine zu_iconst d_4020_86 zi_1 ?_
    refine zu_aload_n d_4020_87 rfl (zs_ra _) ?_
    refine zg_4_5 rfl d_4020_88 k1 ?_
    refine zs_stk0 (zs_rfe e3) ?_
    refine zg_4_11 rfl d_4020_91 k4 ?_
    refine zu_aload_n d_4020_94 rfl (zs_ra _) ?_
    refine zg_4_128 rfl d_4020_95 k1 ?_
    obtain ⟨b6, e7, h⟩ := h
    refine zs_stk0 (zs_rfe e7) ?_
    obtain ⟨k8, h⟩ := h
    refine zg_4_628 rfl d_4020_98 k8 ?_
    refine zu_iload_n d_4020_101 rfl ?_
    refine zu_stk d_4020_102 rfl rfl ?_
    refine zu_iconst d_4020_103 zi_1 ?_
    refine zu_cmpne (t := 114) d_4020_104 rfl (fun c9 => ?_) (fun c9 => ?_)
    · have h := h.1 c9
      refine zu_aload_n d_4020_114 rfl (zs_ra _) ?_
      refine zg_4_156 rfl d_4020_115 k1 ?_
      exact (u_X5_text_118 hB h).weak ⟨rfl, rfl, trivial⟩
    · have h := h.2 c9
      refine zu_aload_n d_4020_107 rfl (zs_ra _) ?_
      refine zg_4_153 rfl d_4020_108 k1 ?_
      refine zu_goto (t := 118) d_4020_111 rfl ?_
      exact (u_X5_text_118 hB h).weak ⟨rfl, rfl, trivial⟩
  · have h := h.2 c5
    refine zu_aload_n d_4020_31 rfl (zs_ra _) ?_
    refine zg_4_128 rfl d_4020_32 k1 ?_
    obtain ⟨b10, e11, h⟩ := h
    refine zs_stk0 (zs_rfe e11) ?_
    obtain ⟨k12, h⟩ := h
    refine zg_4_632 rfl d_4020_35 k12 ?_
    refine zu_aload_n d_4020_38 rfl (zs_ra _) ?_
    refine zg_4_128 rfl d_4020_39 k1 ?_
    refine zu_dup d_4020_42 (zs_cat _) ?_
    refine zs_stk0 (zs_rfe e11) ?_
    refine zg_4_628 rfl d_4020_43 k12 ?_
    refine zu_dup_x1 d_4020_46 rfl (zs_cat _) ?_
    refine zu_iconst d_4020_47 zi_1 ?_
    refine zu_stk d_4020_48 rfl rfl ?_
    refine zs_stk1 (zs_rfe e11) ?_
    obtain ⟨k13, h⟩ := h
    refine zp_4_628 (v := ((zs_I S 3006 b10) + (1 : Int32))) rfl d_4020_49 k12 k13 ?_
    generalize e15 : zs_sI S 3006 b10 ((zs_I S 3006 b10) + (1 : Int32)) = S14
    have h := h S14 e15.symm
    have K16 : ∀ b, zs_K S14 b = zs_K S b := zs_Kt e15 (zs_KsI _ _ _ _) (fun _ => rfl)
    refine zu_aload_n d_4020_52 rfl (zs_ra _) ?_
    refine zg_4_5 rfl d_4020_53 ((K16 _).trans k1) ?_
    obtain ⟨b17, e18, h⟩ := h
    refine zs_stk0 (zs_rfe e18) ?_
    obtain ⟨k19, h⟩ := h
    refine zg_4_636 rfl d_4020_56 ((K16 _).trans k19) ?_
    refine zu_iload_n d_4020_59 rfl ?_
    obtain ⟨b20, e21, h⟩ := h
    refine zs_stk1 (zs_rfe e21) ?_
    obtain ⟨k22, h⟩ := h
    refine zu_bald (k := 1) d_4020_60 rfl (Or.inl rfl) (zs_Ak K16 k22) ?_
    obtain ⟨b23, e24, h⟩ := h
    refine zs_stk2 (zs_rfe e24) ?_
    obtain ⟨k25, h⟩ := h
    obtain ⟨k26, h⟩ := h
    refine zu_bast_byte (k := 1) d_4020_61 rfl rfl k26 (zs_Ak K16 k25) ?_
    generalize e28 : zs_si S14 b23 (zs_I S 3006 b10).toNatClampNeg (vp_nar .byte (zs_i S14 b20 p2.toNatClampNeg)) = S27
    have h := h S27 e28.symm
    have K29 : ∀ b, zs_K S27 b = zs_K S b := zs_Kt e28 (zs_Ksi _ _ _ _) K16
    exact (u_X5_text_62 hB h).weak ⟨rfl, rfl, rfl, trivial⟩
def w_X5_text (X : zs_X) (d : Nat) (p0 : Nat) (S : zs_T) (Q : zs_Q) : Prop :=
  (zs_K S p0 = some (.inl 4) ∧ ∃ b2, (zs_R S 4001 p0) = some b2 ∧ zs_K S b2 = some (.inl 3) ∧ ∃ b5, (zs_R S 4000 p0) = some b5 ∧ zs_K S b5 = some (.inl 5) ∧ zs_U X d 4020 18 [(0, .ref p0), (1, .int (zs_I S 3006 b2)), (2, .int ((zs_I S 5005 b5) + (1 : Int32)))] [] S Q)
theorem u_X5_text {σ : Nat → Nat} {n0 : Nat} {bf : ab_B} {d : Nat} {p0 : Nat} {S : zs_T} {Q : zs_Q} (hB : zt_B bf) (hd : 1 ≤ d) (h : w_X5_text (zx σ n0 bf) (d - 1) p0 S Q) : zs_C (zx σ n0 bf) d 4020 [.ref p0] S Q := by
  have hL : lv_args 0 [.ref p0] = [(0, .ref p0)] := rfl
  refine zs_C.of1 (hB.2 4020 (by decide) (by decide)) hd (by rw [hL]; exact zs_sub_self _ (by exact ⟨rfl, trivial⟩)) ?_
  rw [hL]
  clear hL
  unfold w_X5_text at h
  refine zu_aload_n d_4020_0 rfl (zs_ra _) ?_
  obtain ⟨k1, h⟩ := h
  refine zg_4_128 rfl d_4020_1 k1 ?_
  obtain ⟨b2, e3, h⟩ := h
  refine zs_stk0 (zs_rfe e3) ?_
  obtain ⟨k4, h⟩ := h
  refine zg_4_628 rfl d_4020_4 k4 ?_
  refine zu_istore_n d_4020_7 (zs_lt zq_4020 rfl) ?_
  refine zu_aload_n d_4020_8 rfl (zs_ra _) ?_
  refine zg_4_5 rfl d_4020_9 k1 ?_
  obtain ⟨b5, e6, h⟩ := h
  refine zs_stk0 (zs_rfe e6) ?_
  obtain ⟨k7, h⟩ := h
  refine zg_4_11 rfl d_4020_12 k7 ?_
  refine zu_iconst d_4020_15 zi_1 ?_
  refine zu_stk d_4020_16 rfl rfl ?_
  refine zu_istore_n d_4020_17 (zs_lt zq_4020 rfl) ?_
  exact h.weak ⟨rfl, rfl, rfl, trivial⟩
/-! SchemaPascal$Reader.deeper()V -/
theorem zm_4021 {σ : Nat → Nat} {n0 : Nat} {bf : ab_B} : ab_code (zx σ n0 bf).1 4021 = prog_9_method_5_code := rfl
theorem zq_4021 {σ : Nat → Nat} {n0 : Nat} {bf : ab_B} : ab_maxL (zx σ n0 bf).1 4021 = 1 := rfl
theorem zr_4021 {σ : Nat → Nat} {n0 : Nat} {bf : ab_B} : ab_ret (zx σ n0 bf).1 4021 = (Option.none : Option Jvm.ClassFile.FieldType) := rfl
theorem d_4021_0 {σ : Nat → Nat} {n0 : Nat} {bf : ab_B} : decode (ab_code (zx σ n0 bf).1 4021) 0 = .ok (.aload_n 0, 1) := zd zm_4021 (by decide +kernel)
theorem d_4021_1 {σ : Nat → Nat} {n0 : Nat} {bf : ab_B} : decode (ab_code (zx σ n0 bf).1 4021) 1 = .ok (.getfield 43, 3) := zd zm_4021 (by decide +kernel)
theorem d_4021_4 {σ : Nat → Nat} {n0 : Nat} {bf : ab_B} : decode (ab_code (zx σ n0 bf).1 4021) 4 = .ok (.bipush 40, 2) := zd zm_4021 (by decide +kernel)
theorem d_4021_6 {σ : Nat → Nat} {n0 : Nat} {bf : ab_B} : decode (ab_code (zx σ n0 bf).1 4021) 6 = .ok (.if_icmp .ne 10, 3) := zd zm_4021 (by decide +kernel)
theorem d_4021_9 {σ : Nat → Nat} {n0 : Nat} {bf : ab_B} : decode (ab_code (zx σ n0 bf).1 4021) 9 = .ok (.aload_n 0, 1) := zd zm_4021 (by decide +kernel)
theorem d_4021_10 {σ : Nat → Nat} {n0 : Nat} {bf : ab_B} : decode (ab_code (zx σ n0 bf).1 4021) 10 = .ok (.bipush 8, 2) := zd zm_4021 (by decide +kernel)
theorem d_4021_12 {σ : Nat → Nat} {n0 : Nat} {bf : ab_B} : decode (ab_code (zx σ n0 bf).1 4021) 12 = .ok (.invokevirtual 25, 3) := zd zm_4021 (by decide +kernel)
theorem d_4021_15 {σ : Nat → Nat} {n0 : Nat} {bf : ab_B} : decode (ab_code (zx σ n0 bf).1 4021) 15 = .ok (.athrow, 1) := zd zm_4021 (by decide +kernel)
theorem d_4021_16 {σ : Nat → Nat} {n0 : Nat} {bf : ab_B} : decode (ab_code (zx σ n0 bf).1 4021) 16 = .ok (.aload_n 0, 1) := zd zm_4021 (by decide +kernel)
theorem d_4021_17 {σ : Nat → Nat} {n0 : Nat} {bf : ab_B} : decode (ab_code (zx σ n0 bf).1 4021) 17 = .ok (.dup, 1) := zd zm_4021 (by decide +kernel)
theorem d_4021_18 {σ : Nat → Nat} {n0 : Nat} {bf : ab_B} : decode (ab_code (zx σ n0 bf).1 4021) 18 = .ok (.getfield 43, 3) := zd zm_4021 (by decide +kernel)
theorem d_4021_21 {σ : Nat → Nat} {n0 : Nat} {bf : ab_B} : decode (ab_code (zx σ n0 bf).1 4021) 21 = .ok (.iconst 1, 1) := zd zm_4021 (by decide +kernel)
theorem d_4021_22 {σ : Nat → Nat} {n0 : Nat} {bf : ab_B} : decode (ab_code (zx σ n0 bf).1 4021) 22 = .ok (.iadd, 1) := zd zm_4021 (by decide +kernel)
theorem d_4021_23 {σ : Nat → Nat} {n0 : Nat} {bf : ab_B} : decode (ab_code (zx σ n0 bf).1 4021) 23 = .ok (.putfield 43, 3) := zd zm_4021 (by decide +kernel)
theorem d_4021_26 {σ : Nat → Nat} {n0 : Nat} {bf : ab_B} : decode (ab_code (zx σ n0 bf).1 4021) 26 = .ok (.return_, 1) := zd zm_4021 (by decide +kernel)
def w_X5_deeper (X : zs_X) (d : Nat) (p0 : Nat) (S : zs_T) (Q : zs_Q) : Prop :=
  (zs_K S p0 = some (.inl 4) ∧ ((¬ (zs_I S 4011 p0) = (40 : Int32) → (ab_n0 X.1 ≤ p0 ∧ ∀ S4, S4 = zs_sI S 4011 p0 ((zs_I S 4011 p0) + (1 : Int32)) → Q (.returned none) S4)) ∧ (¬ (¬ (zs_I S 4011 p0) = (40 : Int32)) → (zs_C X d 4006 [.ref p0, .int (8 : Int32)] S (zs_kR (fun v8 S7 => (∃ b9, v8 = some b9 ∧ Q (.threw b9) S7)) Q)))))
theorem u_X5_deeper {σ : Nat → Nat} {n0 : Nat} {bf : ab_B} {d : Nat} {p0 : Nat} {S : zs_T} {Q : zs_Q} (hB : zt_B bf) (hd : 1 ≤ d) (h : w_X5_deeper (zx σ n0 bf) (d - 1) p0 S Q) : zs_C (zx σ n0 bf) d 4021 [.ref p0] S Q := by
  have hL : lv_args 0 [.ref p0] = [(0, .ref p0)] := rfl
  refine zs_C.of1 (hB.2 4021 (by decide) (by decide)) hd (by rw [hL]; exact zs_sub_self _ (by exact ⟨rfl, trivial⟩)) ?_
  rw [hL]
  clear hL
  unfold w_X5_deeper at h
  refine zu_aload_n d_4021_0 rfl (zs_ra _) ?_
  obtain ⟨k1, h⟩ := h
  refine zg_4_43 rfl d_4021_1 k1 ?_
  refine zu_bipush d_4021_4 zj_40 ?_
  refine zu_cmpne (t := 16) d_4021_6 rfl (fun c2 => ?_) (fun c2 => ?_)
  · have h := h.1 c2
    refine zu_aload_n d_4021_16 rfl (zs_ra _) ?_
    refine zu_dup d_4021_17 rfl ?_
    refine zg_4_43 rfl d_4021_18 k1 ?_
    refine zu_iconst d_4021_21 zi_1 ?_
    refine zu_stk d_4021_22 rfl rfl ?_
    obtain ⟨k3, h⟩ := h
    refine zp_4_43 (v := ((zs_I S 4011 p0) + (1 : Int32))) rfl d_4021_23 k1 k3 ?_
    generalize e5 : zs_sI S 4011 p0 ((zs_I S 4011 p0) + (1 : Int32)) = S4
    have h := h S4 e5.symm
    have K6 : ∀ b, zs_K S4 b = zs_K S b := zs_Kt e5 (zs_KsI _ _ _ _) (fun _ => rfl)
    exact zu_vret d_4021_26 zr_4021 h
  · have h := h.2 c2
    refine zu_aload_n d_4021_9 rfl (zs_ra _) ?_
    refine zu_bipush d_4021_10 zj_8 ?_
    refine zc_4_25 (x0 := (8 : Int32)) hB rfl k1 d_4021_12 (Nat.le_of_ble_eq_true rfl) h (fun v8 S7 h => ?_)
    obtain ⟨b9, e10, h⟩ := h
    refine zs_stk0 (zs_rfe e10) ?_
    exact zu_throw d_4021_15 h
/-! SchemaPascal$Reader.bracketed(LSchemaPascal$Node;)LSchemaPascal$Node; -/
theorem zm_4022 {σ : Nat → Nat} {n0 : Nat} {bf : ab_B} : ab_code (zx σ n0 bf).1 4022 = prog_9_method_66_code := rfl
theorem zq_4022 {σ : Nat → Nat} {n0 : Nat} {bf : ab_B} : ab_maxL (zx σ n0 bf).1 4022 = 3 := rfl
theorem zr_4022 {σ : Nat → Nat} {n0 : Nat} {bf : ab_B} : ab_ret (zx σ n0 bf).1 4022 = (Option.some (Jvm.ClassFile.FieldType.object "SchemaPascal$Node")) := rfl
theorem d_4022_0 {σ : Nat → Nat} {n0 : Nat} {bf : ab_B} : decode (ab_code (zx σ n0 bf).1 4022) 0 = .ok (.aload_n 1, 1) := zd zm_4022 (by decide +kernel)
theorem d_4022_1 {σ : Nat → Nat} {n0 : Nat} {bf : ab_B} : decode (ab_code (zx σ n0 bf).1 4022) 1 = .ok (.invokevirtual 625, 3) := zd zm_4022 (by decide +kernel)
theorem d_4022_4 {σ : Nat → Nat} {n0 : Nat} {bf : ab_B} : decode (ab_code (zx σ n0 bf).1 4022) 4 = .ok (.ifCond .ne 13, 3) := zd zm_4022 (by decide +kernel)
theorem d_4022_7 {σ : Nat → Nat} {n0 : Nat} {bf : ab_B} : decode (ab_code (zx σ n0 bf).1 4022) 7 = .ok (.aload_n 1, 1) := zd zm_4022 (by decide +kernel)
theorem d_4022_8 {σ : Nat → Nat} {n0 : Nat} {bf : ab_B} : decode (ab_code (zx σ n0 bf).1 4022) 8 = .ok (.getfield 512, 3) := zd zm_4022 (by decide +kernel)
theorem d_4022_11 {σ : Nat → Nat} {n0 : Nat} {bf : ab_B} : decode (ab_code (zx σ n0 bf).1 4022) 11 = .ok (.iconst 1, 1) := zd zm_4022 (by decide +kernel)
theorem d_4022_12 {σ : Nat → Nat} {n0 : Nat} {bf : ab_B} : decode (ab_code (zx σ n0 bf).1 4022) 12 = .ok (.if_icmp .eq 5, 3) := zd zm_4022 (by decide +kernel)
theorem d_4022_15 {σ : Nat → Nat} {n0 : Nat} {bf : ab_B} : decode (ab_code (zx σ n0 bf).1 4022) 15 = .ok (.aload_n 1, 1) := zd zm_4022 (by decide +kernel)
theorem d_4022_16 {σ : Nat → Nat} {n0 : Nat} {bf : ab_B} : decode (ab_code (zx σ n0 bf).1 4022) 16 = .ok (.areturn, 1) := zd zm_4022 (by decide +kernel)
theorem d_4022_17 {σ : Nat → Nat} {n0 : Nat} {bf : ab_B} : decode (ab_code (zx σ n0 bf).1 4022) 17 = .ok (.aload_n 0, 1) := zd zm_4022 (by decide +kernel)
theorem d_4022_18 {σ : Nat → Nat} {n0 : Nat} {bf : ab_B} : decode (ab_code (zx σ n0 bf).1 4022) 18 = .ok (.bipush 7, 2) := zd zm_4022 (by decide +kernel)
theorem d_4022_20 {σ : Nat → Nat} {n0 : Nat} {bf : ab_B} : decode (ab_code (zx σ n0 bf).1 4022) 20 = .ok (.aload_n 1, 1) := zd zm_4022 (by decide +kernel)
theorem d_4022_21 {σ : Nat → Nat} {n0 : Nat} {bf : ab_B} : decode (ab_code (zx σ n0 bf).1 4022) 21 = .ok (.getfield 469, 3) := zd zm_4022 (by decide +kernel)
theorem d_4022_24 {σ : Nat → Nat} {n0 : Nat} {bf : ab_B} : decode (ab_code (zx σ n0 bf).1 4022) 24 = .ok (.aload_n 1, 1) := zd zm_4022 (by decide +kernel)
theorem d_4022_25 {σ : Nat → Nat} {n0 : Nat} {bf : ab_B} : decode (ab_code (zx σ n0 bf).1 4022) 25 = .ok (.getfield 297, 3) := zd zm_4022 (by decide +kernel)
theorem d_4022_28 {σ : Nat → Nat} {n0 : Nat} {bf : ab_B} : decode (ab_code (zx σ n0 bf).1 4022) 28 = .ok (.invokevirtual 572, 3) := zd zm_4022 (by decide +kernel)
theorem d_4022_31 {σ : Nat → Nat} {n0 : Nat} {bf : ab_B} : decode (ab_code (zx σ n0 bf).1 4022) 31 = .ok (.astore_n 2, 1) := zd zm_4022 (by decide +kernel)
theorem d_4022_32 {σ : Nat → Nat} {n0 : Nat} {bf : ab_B} : decode (ab_code (zx σ n0 bf).1 4022) 32 = .ok (.aload_n 2, 1) := zd zm_4022 (by decide +kernel)
theorem d_4022_33 {σ : Nat → Nat} {n0 : Nat} {bf : ab_B} : decode (ab_code (zx σ n0 bf).1 4022) 33 = .ok (.bipush 40, 2) := zd zm_4022 (by decide +kernel)
theorem d_4022_35 {σ : Nat → Nat} {n0 : Nat} {bf : ab_B} : decode (ab_code (zx σ n0 bf).1 4022) 35 = .ok (.putfield 542, 3) := zd zm_4022 (by decide +kernel)
theorem d_4022_38 {σ : Nat → Nat} {n0 : Nat} {bf : ab_B} : decode (ab_code (zx σ n0 bf).1 4022) 38 = .ok (.aload_n 2, 1) := zd zm_4022 (by decide +kernel)
theorem d_4022_39 {σ : Nat → Nat} {n0 : Nat} {bf : ab_B} : decode (ab_code (zx σ n0 bf).1 4022) 39 = .ok (.aload_n 1, 1) := zd zm_4022 (by decide +kernel)
theorem d_4022_40 {σ : Nat → Nat} {n0 : Nat} {bf : ab_B} : decode (ab_code (zx σ n0 bf).1 4022) 40 = .ok (.putfield 539, 3) := zd zm_4022 (by decide +kernel)
theorem d_4022_43 {σ : Nat → Nat} {n0 : Nat} {bf : ab_B} : decode (ab_code (zx σ n0 bf).1 4022) 43 = .ok (.aload_n 2, 1) := zd zm_4022 (by decide +kernel)
theorem d_4022_44 {σ : Nat → Nat} {n0 : Nat} {bf : ab_B} : decode (ab_code (zx σ n0 bf).1 4022) 44 = .ok (.areturn, 1) := zd zm_4022 (by decide +kernel)
def w_X5_bracketed_17 (X : zs_X) (d : Nat) (p0 : Nat) (p1 : Option Nat) (S : zs_T) (Q : zs_Q) : Prop :=
  (∃ b1, p1 = some b1 ∧ zs_K S b1 = some (.inl 11) ∧ zs_K S p0 = some (.inl 4) ∧ zs_C X d 4016 [.ref p0, .int (7 : Int32), .int (zs_I S 11001 b1), va_rf (zs_R S 11002 b1)] S (zs_kR (fun v6 S5 => (∃ b7, v6 = some b7 ∧ zs_K S5 b7 = some (.inl 11) ∧ ab_n0 X.1 ≤ b7 ∧ ∀ S11, S11 = zs_sI S5 11003 b7 (40 : Int32) → ∀ S14, S14 = zs_sR S11 11005 b7 p1 → Q (.returned (some (va_rf v6))) S14)) Q))
theorem u_X5_bracketed_17 {σ : Nat → Nat} {n0 : Nat} {bf : ab_B} {d : Nat} {p0 : Nat} {p1 : Option Nat} {S : zs_T} {Q : zs_Q} (hB : zt_B bf) (h : w_X5_bracketed_17 (zx σ n0 bf) d p0 p1 S Q) : zs_U (zx σ n0 bf) d 4022 17 [(0, .ref p0), (1, va_rf p1)] [] S Q := by
  unfold w_X5_bracketed_17 at h
  refine zu_aload_n d_4022_17 rfl (zs_ra _) ?_
  refine zu_bipush d_4022_18 zj_7 ?_
  refine zu_aload_n d_4022_20 rfl (zs_rr _) ?_
  obtain ⟨b1, e2, h⟩ := h
  refine zs_stk0 (zs_rfe e2) ?_
  obtain ⟨k3, h⟩ := h
  refine zg_4_469 rfl d_4022_21 k3 ?_
  refine zu_aload_n d_4022_24 rfl (zs_rr _) ?_
  refine zs_stk0 (zs_rfe e2) ?_
  refine zg_4_297 rfl d_4022_25 k3 ?_
  obtain ⟨k4, h⟩ := h
  refine zc_4_572 (x0 := (7 : Int32)) (x1 := (zs_I S 11001 b1)) (x2 := (zs_R S 11002 b1)) hB rfl k4 d_4022_28 (Nat.le_of_ble_eq_true rfl) h (fun v6 S5 h => ?_)
  refine zu_astore_n d_4022_31 (zs_rr _) (zs_lt zq_4022 rfl) ?_
  refine zs_U.weak (L1 := [(2, va_rf v6), (0, .ref p0), (1, va_rf p1)]) ?_ ⟨rfl, zs_gp1 rfl (Or.inl rfl) rfl, zs_gp1 rfl (Or.inl (zs_cat _)) rfl, trivial⟩
  refine zu_aload_n d_4022_32 rfl (zs_rr _) ?_
  refine zu_bipush d_4022_33 zj_40 ?_
  obtain ⟨b7, e8, h⟩ := h
  refine zs_stk1 (zs_rfe e8) ?_
  obtain ⟨k9, h⟩ := h
  obtain ⟨k10, h⟩ := h
  refine zp_4_542 (v := (40 : Int32)) rfl d_4022_35 k9 k10 ?_
  generalize e12 : zs_sI S5 11003 b7 (40 : Int32) = S11
  have h := h S11 e12.symm
  have K13 : ∀ b, zs_K S11 b = zs_K S5 b := zs_Kt e12 (zs_KsI _ _ _ _) (fun _ => rfl)
  refine zu_aload_n d_4022_38 rfl (zs_rr _) ?_
  refine zu_aload_n d_4022_39 rfl (zs_rr _) ?_
  refine zs_stk1 (zs_rfe e8) ?_
  refine zp_4_539 (v := p1) rfl d_4022_40 ((K13 _).trans k9) k10 ?_
  generalize e15 : zs_sR S11 11005 b7 p1 = S14
  have h := h S14 e15.symm
  have K16 : ∀ b, zs_K S14 b = zs_K S5 b := zs_Kt e15 (zs_KsR _ _ _ _) K13
  refine zu_aload_n d_4022_43 rfl (zs_rr _) ?_
  exact zu_aret d_4022_44 zr_4022 (zs_rr _) h
def w_X5_bracketed (X : zs_X) (d : Nat) (p0 : Nat) (p1 : Option Nat) (S : zs_T) (Q : zs_Q) : Prop :=
  (∃ b1, p1 = some b1 ∧ zs_K S b1 = some (.inl 11) ∧ zs_C X d 11001 [.ref b1] S (zs_kI (fun v5 S4 => (((¬ v5 = 0 → w_X5_bracketed_17 X d p0 p1 S4 Q) ∧ (¬ (¬ v5 = 0) → (zs_K S4 b1 = some (.inl 11) ∧ (((zs_I S4 11000 b1) = (1 : Int32) → w_X5_bracketed_17 X d p0 p1 S4 Q) ∧ (¬ ((zs_I S4 11000 b1) = (1 : Int32)) → (Q (.returned (some (va_rf p1))) S4)))))))) Q))
theorem u_X5_bracketed {σ : Nat → Nat} {n0 : Nat} {bf : ab_B} {d : Nat} {p0 : Nat} {p1 : Option Nat} {S : zs_T} {Q : zs_Q} (hB : zt_B bf) (hd : 1 ≤ d) (h : w_X5_bracketed (zx σ n0 bf) (d - 1) p0 p1 S Q) : zs_C (zx σ n0 bf) d 4022 [.ref p0, va_rf p1] S Q := by
  have hL : lv_args 0 [.ref p0, va_rf p1] = [(0, .ref p0), (1, va_rf p1)] := by simp [lv_args, zs_cat, zs_cI, zs_cJ, zs_cA]
  refine zs_C.of1 (hB.2 4022 (by decide) (by decide)) hd (by rw [hL]; exact zs_sub_self _ (by exact ⟨rfl, rfl, trivial⟩)) ?_
  rw [hL]
  clear hL
  unfold w_X5_bracketed at h
  refine zu_aload_n d_4022_0 rfl (zs_rr _) ?_
  obtain ⟨b1, e2, h⟩ := h
  refine zs_stk0 (zs_rfe e2) ?_
  obtain ⟨k3, h⟩ := h
  refine zc_4_625  hB rfl k3 d_4022_1 (Nat.le_of_ble_eq_true rfl) h (fun v5 S4 h => ?_)
  refine zu_ifne (t := 17) d_4022_4 rfl (fun c6 => ?_) (fun c6 => ?_)
  · have h := h.1 c6
    exact (u_X5_bracketed_17 hB h).weak ⟨rfl, rfl, trivial⟩
  · have h := h.2 c6
    refine zu_aload_n d_4022_7 rfl (zs_rr _) ?_
    refine zs_stk0 (zs_rfe e2) ?_
    obtain ⟨k7, h⟩ := h
    refine zg_4_512 rfl d_4022_8 k7 ?_
    refine zu_iconst d_4022_11 zi_1 ?_
    refine zu_cmpeq (t := 17) d_4022_12 rfl (fun c8 => ?_) (fun c8 => ?_)
    · have h := h.1 c8
      exact (u_X5_bracketed_17 hB h).weak ⟨rfl, rfl, trivial⟩
    · have h := h.2 c8
      refine zu_aload_n d_4022_15 rfl (zs_rr _) ?_
      exact zu_aret d_4022_16 zr_4022 (zs_rr _) h
/-! SchemaPascal$Reader.members()LSchemaPascal$Node; -/
theorem zm_4023 {σ : Nat → Nat} {n0 : Nat} {bf : ab_B} : ab_code (zx σ n0 bf).1 4023 = prog_9_method_68_code := rfl
theorem zq_4023 {σ : Nat → Nat} {n0 : Nat} {bf : ab_B} : ab_maxL (zx σ n0 bf).1 4023 = 6 := rfl
theorem zr_4023 {σ : Nat → Nat} {n0 : Nat} {bf : ab_B} : ab_ret (zx σ n0 bf).1 4023 = (Option.some (Jvm.ClassFile.FieldType.object "SchemaPascal$Node")) := rfl
theorem d_4023_0 {σ : Nat → Nat} {n0 : Nat} {bf : ab_B} : decode (ab_code (zx σ n0 bf).1 4023) 0 = .ok (.aload_n 0, 1) := zd zm_4023 (by decide +kernel)
theorem d_4023_1 {σ : Nat → Nat} {n0 : Nat} {bf : ab_B} : decode (ab_code (zx σ n0 bf).1 4023) 1 = .ok (.invokevirtual 357, 3) := zd zm_4023 (by decide +kernel)
theorem d_4023_4 {σ : Nat → Nat} {n0 : Nat} {bf : ab_B} : decode (ab_code (zx σ n0 bf).1 4023) 4 = .ok (.aload_n 0, 1) := zd zm_4023 (by decide +kernel)
theorem d_4023_5 {σ : Nat → Nat} {n0 : Nat} {bf : ab_B} : decode (ab_code (zx σ n0 bf).1 4023) 5 = .ok (.bipush 9, 2) := zd zm_4023 (by decide +kernel)
theorem d_4023_7 {σ : Nat → Nat} {n0 : Nat} {bf : ab_B} : decode (ab_code (zx σ n0 bf).1 4023) 7 = .ok (.aload_n 0, 1) := zd zm_4023 (by decide +kernel)
theorem d_4023_8 {σ : Nat → Nat} {n0 : Nat} {bf : ab_B} : decode (ab_code (zx σ n0 bf).1 4023) 8 = .ok (.getfield 5, 3) := zd zm_4023 (by decide +kernel)
theorem d_4023_11 {σ : Nat → Nat} {n0 : Nat} {bf : ab_B} : decode (ab_code (zx σ n0 bf).1 4023) 11 = .ok (.getfield 11, 3) := zd zm_4023 (by decide +kernel)
theorem d_4023_14 {σ : Nat → Nat} {n0 : Nat} {bf : ab_B} : decode (ab_code (zx σ n0 bf).1 4023) 14 = .ok (.aload_n 0, 1) := zd zm_4023 (by decide +kernel)
theorem d_4023_15 {σ : Nat → Nat} {n0 : Nat} {bf : ab_B} : decode (ab_code (zx σ n0 bf).1 4023) 15 = .ok (.getfield 162, 3) := zd zm_4023 (by decide +kernel)
theorem d_4023_18 {σ : Nat → Nat} {n0 : Nat} {bf : ab_B} : decode (ab_code (zx σ n0 bf).1 4023) 18 = .ok (.invokevirtual 572, 3) := zd zm_4023 (by decide +kernel)
theorem d_4023_21 {σ : Nat → Nat} {n0 : Nat} {bf : ab_B} : decode (ab_code (zx σ n0 bf).1 4023) 21 = .ok (.astore_n 1, 1) := zd zm_4023 (by decide +kernel)
theorem d_4023_22 {σ : Nat → Nat} {n0 : Nat} {bf : ab_B} : decode (ab_code (zx σ n0 bf).1 4023) 22 = .ok (.aload_n 0, 1) := zd zm_4023 (by decide +kernel)
theorem d_4023_23 {σ : Nat → Nat} {n0 : Nat} {bf : ab_B} : decode (ab_code (zx σ n0 bf).1 4023) 23 = .ok (.getfield 5, 3) := zd zm_4023 (by decide +kernel)
theorem d_4023_26 {σ : Nat → Nat} {n0 : Nat} {bf : ab_B} : decode (ab_code (zx σ n0 bf).1 4023) 26 = .ok (.invokevirtual 29, 3) := zd zm_4023 (by decide +kernel)
theorem d_4023_29 {σ : Nat → Nat} {n0 : Nat} {bf : ab_B} : decode (ab_code (zx σ n0 bf).1 4023) 29 = .ok (.aconst_null, 1) := zd zm_4023 (by decide +kernel)
theorem d_4023_30 {σ : Nat → Nat} {n0 : Nat} {bf : ab_B} : decode (ab_code (zx σ n0 bf).1 4023) 30 = .ok (.astore_n 2, 1) := zd zm_4023 (by decide +kernel)
theorem d_4023_31 {σ : Nat → Nat} {n0 : Nat} {bf : ab_B} : decode (ab_code (zx σ n0 bf).1 4023) 31 = .ok (.aconst_null, 1) := zd zm_4023 (by decide +kernel)
theorem d_4023_32 {σ : Nat → Nat} {n0 : Nat} {bf : ab_B} : decode (ab_code (zx σ n0 bf).1 4023) 32 = .ok (.astore_n 3, 1) := zd zm_4023 (by decide +kernel)
theorem d_4023_33 {σ : Nat → Nat} {n0 : Nat} {bf : ab_B} : decode (ab_code (zx σ n0 bf).1 4023) 33 = .ok (.aload_n 0, 1) := zd zm_4023 (by decide +kernel)
theorem d_4023_34 {σ : Nat → Nat} {n0 : Nat} {bf : ab_B} : decode (ab_code (zx σ n0 bf).1 4023) 34 = .ok (.getfield 5, 3) := zd zm_4023 (by decide +kernel)
theorem d_4023_37 {σ : Nat → Nat} {n0 : Nat} {bf : ab_B} : decode (ab_code (zx σ n0 bf).1 4023) 37 = .ok (.bipush 93, 2) := zd zm_4023 (by decide +kernel)
theorem d_4023_39 {σ : Nat → Nat} {n0 : Nat} {bf : ab_B} : decode (ab_code (zx σ n0 bf).1 4023) 39 = .ok (.invokevirtual 21, 3) := zd zm_4023 (by decide +kernel)
theorem d_4023_42 {σ : Nat → Nat} {n0 : Nat} {bf : ab_B} : decode (ab_code (zx σ n0 bf).1 4023) 42 = .ok (.ifCond .ne 7, 3) := zd zm_4023 (by decide +kernel)
theorem d_4023_45 {σ : Nat → Nat} {n0 : Nat} {bf : ab_B} : decode (ab_code (zx σ n0 bf).1 4023) 45 = .ok (.iconst 1, 1) := zd zm_4023 (by decide +kernel)
theorem d_4023_46 {σ : Nat → Nat} {n0 : Nat} {bf : ab_B} : decode (ab_code (zx σ n0 bf).1 4023) 46 = .ok (.goto 4, 3) := zd zm_4023 (by decide +kernel)
theorem d_4023_49 {σ : Nat → Nat} {n0 : Nat} {bf : ab_B} : decode (ab_code (zx σ n0 bf).1 4023) 49 = .ok (.iconst 0, 1) := zd zm_4023 (by decide +kernel)
theorem d_4023_50 {σ : Nat → Nat} {n0 : Nat} {bf : ab_B} : decode (ab_code (zx σ n0 bf).1 4023) 50 = .ok (.istore 4, 2) := zd zm_4023 (by decide +kernel)
theorem d_4023_52 {σ : Nat → Nat} {n0 : Nat} {bf : ab_B} : decode (ab_code (zx σ n0 bf).1 4023) 52 = .ok (.iload 4, 2) := zd zm_4023 (by decide +kernel)
theorem d_4023_54 {σ : Nat → Nat} {n0 : Nat} {bf : ab_B} : decode (ab_code (zx σ n0 bf).1 4023) 54 = .ok (.ifCond .eq 70, 3) := zd zm_4023 (by decide +kernel)
theorem d_4023_57 {σ : Nat → Nat} {n0 : Nat} {bf : ab_B} : decode (ab_code (zx σ n0 bf).1 4023) 57 = .ok (.aload_n 0, 1) := zd zm_4023 (by decide +kernel)
theorem d_4023_58 {σ : Nat → Nat} {n0 : Nat} {bf : ab_B} : decode (ab_code (zx σ n0 bf).1 4023) 58 = .ok (.aload_n 3, 1) := zd zm_4023 (by decide +kernel)
theorem d_4023_59 {σ : Nat → Nat} {n0 : Nat} {bf : ab_B} : decode (ab_code (zx σ n0 bf).1 4023) 59 = .ok (.invokevirtual 639, 3) := zd zm_4023 (by decide +kernel)
theorem d_4023_62 {σ : Nat → Nat} {n0 : Nat} {bf : ab_B} : decode (ab_code (zx σ n0 bf).1 4023) 62 = .ok (.astore 5, 2) := zd zm_4023 (by decide +kernel)
theorem d_4023_64 {σ : Nat → Nat} {n0 : Nat} {bf : ab_B} : decode (ab_code (zx σ n0 bf).1 4023) 64 = .ok (.aload 5, 2) := zd zm_4023 (by decide +kernel)
theorem d_4023_66 {σ : Nat → Nat} {n0 : Nat} {bf : ab_B} : decode (ab_code (zx σ n0 bf).1 4023) 66 = .ok (.getfield 539, 3) := zd zm_4023 (by decide +kernel)
theorem d_4023_69 {σ : Nat → Nat} {n0 : Nat} {bf : ab_B} : decode (ab_code (zx σ n0 bf).1 4023) 69 = .ok (.getfield 297, 3) := zd zm_4023 (by decide +kernel)
theorem d_4023_72 {σ : Nat → Nat} {n0 : Nat} {bf : ab_B} : decode (ab_code (zx σ n0 bf).1 4023) 72 = .ok (.invokevirtual 450, 3) := zd zm_4023 (by decide +kernel)
theorem d_4023_75 {σ : Nat → Nat} {n0 : Nat} {bf : ab_B} : decode (ab_code (zx σ n0 bf).1 4023) 75 = .ok (.astore_n 3, 1) := zd zm_4023 (by decide +kernel)
theorem d_4023_76 {σ : Nat → Nat} {n0 : Nat} {bf : ab_B} : decode (ab_code (zx σ n0 bf).1 4023) 76 = .ok (.aload_n 2, 1) := zd zm_4023 (by decide +kernel)
theorem d_4023_77 {σ : Nat → Nat} {n0 : Nat} {bf : ab_B} : decode (ab_code (zx σ n0 bf).1 4023) 77 = .ok (.ifnonnull 12, 3) := zd zm_4023 (by decide +kernel)
theorem d_4023_80 {σ : Nat → Nat} {n0 : Nat} {bf : ab_B} : decode (ab_code (zx σ n0 bf).1 4023) 80 = .ok (.aload_n 1, 1) := zd zm_4023 (by decide +kernel)
theorem d_4023_81 {σ : Nat → Nat} {n0 : Nat} {bf : ab_B} : decode (ab_code (zx σ n0 bf).1 4023) 81 = .ok (.aload 5, 2) := zd zm_4023 (by decide +kernel)
theorem d_4023_83 {σ : Nat → Nat} {n0 : Nat} {bf : ab_B} : decode (ab_code (zx σ n0 bf).1 4023) 83 = .ok (.putfield 539, 3) := zd zm_4023 (by decide +kernel)
theorem d_4023_86 {σ : Nat → Nat} {n0 : Nat} {bf : ab_B} : decode (ab_code (zx σ n0 bf).1 4023) 86 = .ok (.goto 9, 3) := zd zm_4023 (by decide +kernel)
theorem d_4023_89 {σ : Nat → Nat} {n0 : Nat} {bf : ab_B} : decode (ab_code (zx σ n0 bf).1 4023) 89 = .ok (.aload_n 2, 1) := zd zm_4023 (by decide +kernel)
theorem d_4023_90 {σ : Nat → Nat} {n0 : Nat} {bf : ab_B} : decode (ab_code (zx σ n0 bf).1 4023) 90 = .ok (.aload 5, 2) := zd zm_4023 (by decide +kernel)
theorem d_4023_92 {σ : Nat → Nat} {n0 : Nat} {bf : ab_B} : decode (ab_code (zx σ n0 bf).1 4023) 92 = .ok (.putfield 487, 3) := zd zm_4023 (by decide +kernel)
theorem d_4023_95 {σ : Nat → Nat} {n0 : Nat} {bf : ab_B} : decode (ab_code (zx σ n0 bf).1 4023) 95 = .ok (.aload 5, 2) := zd zm_4023 (by decide +kernel)
theorem d_4023_97 {σ : Nat → Nat} {n0 : Nat} {bf : ab_B} : decode (ab_code (zx σ n0 bf).1 4023) 97 = .ok (.astore_n 2, 1) := zd zm_4023 (by decide +kernel)
theorem d_4023_98 {σ : Nat → Nat} {n0 : Nat} {bf : ab_B} : decode (ab_code (zx σ n0 bf).1 4023) 98 = .ok (.aload_n 0, 1) := zd zm_4023 (by decide +kernel)
theorem d_4023_99 {σ : Nat → Nat} {n0 : Nat} {bf : ab_B} : decode (ab_code (zx σ n0 bf).1 4023) 99 = .ok (.getfield 5, 3) := zd zm_4023 (by decide +kernel)
theorem d_4023_102 {σ : Nat → Nat} {n0 : Nat} {bf : ab_B} : decode (ab_code (zx σ n0 bf).1 4023) 102 = .ok (.bipush 44, 2) := zd zm_4023 (by decide +kernel)
theorem d_4023_104 {σ : Nat → Nat} {n0 : Nat} {bf : ab_B} : decode (ab_code (zx σ n0 bf).1 4023) 104 = .ok (.invokevirtual 21, 3) := zd zm_4023 (by decide +kernel)
theorem d_4023_107 {σ : Nat → Nat} {n0 : Nat} {bf : ab_B} : decode (ab_code (zx σ n0 bf).1 4023) 107 = .ok (.istore 4, 2) := zd zm_4023 (by decide +kernel)
theorem d_4023_109 {σ : Nat → Nat} {n0 : Nat} {bf : ab_B} : decode (ab_code (zx σ n0 bf).1 4023) 109 = .ok (.iload 4, 2) := zd zm_4023 (by decide +kernel)
theorem d_4023_111 {σ : Nat → Nat} {n0 : Nat} {bf : ab_B} : decode (ab_code (zx σ n0 bf).1 4023) 111 = .ok (.ifCond .eq 10, 3) := zd zm_4023 (by decide +kernel)
theorem d_4023_114 {σ : Nat → Nat} {n0 : Nat} {bf : ab_B} : decode (ab_code (zx σ n0 bf).1 4023) 114 = .ok (.aload_n 0, 1) := zd zm_4023 (by decide +kernel)
theorem d_4023_115 {σ : Nat → Nat} {n0 : Nat} {bf : ab_B} : decode (ab_code (zx σ n0 bf).1 4023) 115 = .ok (.getfield 5, 3) := zd zm_4023 (by decide +kernel)
theorem d_4023_118 {σ : Nat → Nat} {n0 : Nat} {bf : ab_B} : decode (ab_code (zx σ n0 bf).1 4023) 118 = .ok (.invokevirtual 29, 3) := zd zm_4023 (by decide +kernel)
theorem d_4023_121 {σ : Nat → Nat} {n0 : Nat} {bf : ab_B} : decode (ab_code (zx σ n0 bf).1 4023) 121 = .ok (.goto (-69), 3) := zd zm_4023 (by decide +kernel)
theorem d_4023_124 {σ : Nat → Nat} {n0 : Nat} {bf : ab_B} : decode (ab_code (zx σ n0 bf).1 4023) 124 = .ok (.aload_n 0, 1) := zd zm_4023 (by decide +kernel)
theorem d_4023_125 {σ : Nat → Nat} {n0 : Nat} {bf : ab_B} : decode (ab_code (zx σ n0 bf).1 4023) 125 = .ok (.bipush 93, 2) := zd zm_4023 (by decide +kernel)
theorem d_4023_127 {σ : Nat → Nat} {n0 : Nat} {bf : ab_B} : decode (ab_code (zx σ n0 bf).1 4023) 127 = .ok (.invokevirtual 224, 3) := zd zm_4023 (by decide +kernel)
theorem d_4023_130 {σ : Nat → Nat} {n0 : Nat} {bf : ab_B} : decode (ab_code (zx σ n0 bf).1 4023) 130 = .ok (.aload_n 0, 1) := zd zm_4023 (by decide +kernel)
theorem d_4023_131 {σ : Nat → Nat} {n0 : Nat} {bf : ab_B} : decode (ab_code (zx σ n0 bf).1 4023) 131 = .ok (.dup, 1) := zd zm_4023 (by decide +kernel)
theorem d_4023_132 {σ : Nat → Nat} {n0 : Nat} {bf : ab_B} : decode (ab_code (zx σ n0 bf).1 4023) 132 = .ok (.getfield 43, 3) := zd zm_4023 (by decide +kernel)
theorem d_4023_135 {σ : Nat → Nat} {n0 : Nat} {bf : ab_B} : decode (ab_code (zx σ n0 bf).1 4023) 135 = .ok (.iconst 1, 1) := zd zm_4023 (by decide +kernel)
theorem d_4023_136 {σ : Nat → Nat} {n0 : Nat} {bf : ab_B} : decode (ab_code (zx σ n0 bf).1 4023) 136 = .ok (.isub, 1) := zd zm_4023 (by decide +kernel)
theorem d_4023_137 {σ : Nat → Nat} {n0 : Nat} {bf : ab_B} : decode (ab_code (zx σ n0 bf).1 4023) 137 = .ok (.putfield 43, 3) := zd zm_4023 (by decide +kernel)
theorem d_4023_140 {σ : Nat → Nat} {n0 : Nat} {bf : ab_B} : decode (ab_code (zx σ n0 bf).1 4023) 140 = .ok (.aload_n 3, 1) := zd zm_4023 (by decide +kernel)
theorem d_4023_141 {σ : Nat → Nat} {n0 : Nat} {bf : ab_B} : decode (ab_code (zx σ n0 bf).1 4023) 141 = .ok (.ifnull 12, 3) := zd zm_4023 (by decide +kernel)
theorem d_4023_144 {σ : Nat → Nat} {n0 : Nat} {bf : ab_B} : decode (ab_code (zx σ n0 bf).1 4023) 144 = .ok (.aload_n 1, 1) := zd zm_4023 (by decide +kernel)
theorem d_4023_145 {σ : Nat → Nat} {n0 : Nat} {bf : ab_B} : decode (ab_code (zx σ n0 bf).1 4023) 145 = .ok (.aload_n 0, 1) := zd zm_4023 (by decide +kernel)
theorem d_4023_146 {σ : Nat → Nat} {n0 : Nat} {bf : ab_B} : decode (ab_code (zx σ n0 bf).1 4023) 146 = .ok (.aload_n 3, 1) := zd zm_4023 (by decide +kernel)
theorem d_4023_147 {σ : Nat → Nat} {n0 : Nat} {bf : ab_B} : decode (ab_code (zx σ n0 bf).1 4023) 147 = .ok (.invokevirtual 642, 3) := zd zm_4023 (by decide +kernel)
theorem d_4023_150 {σ : Nat → Nat} {n0 : Nat} {bf : ab_B} : decode (ab_code (zx σ n0 bf).1 4023) 150 = .ok (.putfield 297, 3) := zd zm_4023 (by decide +kernel)
theorem d_4023_153 {σ : Nat → Nat} {n0 : Nat} {bf : ab_B} : decode (ab_code (zx σ n0 bf).1 4023) 153 = .ok (.aload_n 1, 1) := zd zm_4023 (by decide +kernel)
theorem d_4023_154 {σ : Nat → Nat} {n0 : Nat} {bf : ab_B} : decode (ab_code (zx σ n0 bf).1 4023) 154 = .ok (.areturn, 1) := zd zm_4023 (by decide +kernel)
def w_X5_members_31 (X : zs_X) (d : Nat) (p0 : Nat) (p1 : Option Nat) (p2 : Option Nat) (S : zs_T) (Q : zs_Q) : Prop :=
  (zs_K S p0 = some (.inl 4) ∧ ∃ b2, (zs_R S 4000 p0) = some b2 ∧ zs_K S b2 = some (.inl 5) ∧ zs_C X d 5017 [.ref b2, .int (93 : Int32)] S (zs_kI (fun v6 S5 => (((¬ v6 = 0 → (zs_U X d 4023 52 [(0, .ref p0), (1, va_rf p1), (2, va_rf p2), (3, va_rf none), (4, .int (0 : Int32))] [] S5 Q)) ∧ (¬ (¬ v6 = 0) → (zs_U X d 4023 52 [(0, .ref p0), (1, va_rf p1), (2, va_rf p2), (3, va_rf none), (4, .int (1 : Int32))] [] S5 Q))))) Q))
theorem u_X5_members_31 {σ : Nat → Nat} {n0 : Nat} {bf : ab_B} {d : Nat} {p0 : Nat} {p1 : Option Nat} {p2 : Option Nat} {S : zs_T} {Q : zs_Q} (hB : zt_B bf) (h : w_X5_members_31 (zx σ n0 bf) d p0 p1 p2 S Q) : zs_U (zx σ n0 bf) d 4023 31 [(0, .ref p0), (1, va_rf p1), (2, va_rf p2)] [] S Q := by
  unfold w_X5_members_31 at h
  refine zu_stk d_4023_31 rfl rfl ?_
  refine zu_astore_n d_4023_32 zs_r0 (zs_lt zq_4023 rfl) ?_
  refine zs_U.weak (L1 := [(3, .null), (0, .ref p0), (1, va_rf p1), (2, va_rf p2)]) ?_ ⟨rfl, zs_gp1 rfl (Or.inl rfl) rfl, zs_gp1 rfl (Or.inl (zs_cat _)) rfl, zs_gp1 rfl (Or.inl (zs_cat _)) rfl, trivial⟩
  refine zu_aload_n d_4023_33 rfl (zs_ra _) ?_
  obtain ⟨k1, h⟩ := h
  refine zg_4_5 rfl d_4023_34 k1 ?_
  refine zu_bipush d_4023_37 zj_93 ?_
  obtain ⟨b2, e3, h⟩ := h
  refine zs_stk1 (zs_rfe e3) ?_
  obtain ⟨k4, h⟩ := h
  refine zc_4_21 (x0 := (93 : Int32)) hB rfl k4 d_4023_39 (Nat.le_of_ble_eq_true rfl) h (fun v6 S5 h => ?_)
  refine zu_ifne (t := 49) d_4023_42 rfl (fun c7 => ?_) (fun c7 => ?_)
  · have h := h.1 c7
    refine zu_iconst d_4023_49 zi_0 ?_
    refine zu_istore d_4023_50 (zs_lt zq_4023 rfl) ?_
    exact h.weak ⟨rfl, rfl, rfl, rfl, rfl, trivial⟩
  · have h := h.2 c7
    refine zu_iconst d_4023_45 zi_1 ?_
    refine zu_goto (t := 50) d_4023_46 rfl ?_
    refine zu_istore d_4023_50 (zs_lt zq_4023 rfl) ?_
    exact h.weak ⟨rfl, rfl, rfl, rfl, rfl, trivial⟩
def w_X5_members_153 (X : zs_X) (d : Nat) (p1 : Option Nat) (S : zs_T) (Q : zs_Q) : Prop :=
  (Q (.returned (some (va_rf p1))) S)
theorem u_X5_members_153 {σ : Nat → Nat} {n0 : Nat} {bf : ab_B} {d : Nat} {p1 : Option Nat} {S : zs_T} {Q : zs_Q} (hB : zt_B bf) (h : w_X5_members_153 (zx σ n0 bf) d p1 S Q) : zs_U (zx σ n0 bf) d 4023 153 [(1, va_rf p1)] [] S Q := by
  unfold w_X5_members_153 at h
  refine zu_aload_n d_4023_153 rfl (zs_rr _) ?_
  exact zu_aret d_4023_154 zr_4023 (zs_rr _) h
def w_X5_members_95 (X : zs_X) (d : Nat) (p0 : Nat) (p1 : Option Nat) (p3 : Option Nat) (p5 : Option Nat) (S : zs_T) (Q : zs_Q) : Prop :=
  (zs_K S p0 = some (.inl 4) ∧ ∃ b2, (zs_R S 4000 p0) = some b2 ∧ zs_K S b2 = some (.inl 5) ∧ zs_C X d 5017 [.ref b2, .int (44 : Int32)] S (zs_kI (fun v6 S5 => (((v6 = 0 → (zs_U X d 4023 52 [(0, .ref p0), (1, va_rf p1), (2, va_rf p5), (3, va_rf p3), (4, .int v6)] [] S5 Q)) ∧ (¬ (v6 = 0) → (zs_K S5 p0 = some (.inl 4) ∧ ∃ b9, (zs_R S5 4000 p0) = some b9 ∧ zs_K S5 b9 = some (.inl 5) ∧ zs_C X d 5004 [.ref b9] S5 (zs_kV (fun S12 => (zs_U X d 4023 52 [(0, .ref p0), (1, va_rf p1), (2, va_rf p5), (3, va_rf p3), (4, .int v6)] [] S12 Q)) Q)))))) Q))
theorem u_X5_members_95 {σ : Nat → Nat} {n0 : Nat} {bf : ab_B} {d : Nat} {p0 : Nat} {p1 : Option Nat} {p3 : Option Nat} {p5 : Option Nat} {S : zs_T} {Q : zs_Q} (hB : zt_B bf) (h : w_X5_members_95 (zx σ n0 bf) d p0 p1 p3 p5 S Q) : zs_U (zx σ n0 bf) d 4023 95 [(0, .ref p0), (1, va_rf p1), (3, va_rf p3), (5, va_rf p5)] [] S Q := by
  unfold w_X5_members_95 at h
  refine zu_aload d_4023_95 rfl (zs_rr _) ?_
  refine zu_astore_n d_4023_97 (zs_rr _) (zs_lt zq_4023 rfl) ?_
  refine zs_U.weak (L1 := [(2, va_rf p5), (0, .ref p0), (1, va_rf p1), (3, va_rf p3), (5, va_rf p5)]) ?_ ⟨rfl, zs_gp1 rfl (Or.inl rfl) rfl, zs_gp1 rfl (Or.inl (zs_cat _)) rfl, zs_gp1 rfl (Or.inl (zs_cat _)) rfl, zs_gp1 rfl (Or.inl (zs_cat _)) rfl, trivial⟩
  refine zu_aload_n d_4023_98 rfl (zs_ra _) ?_
  obtain ⟨k1, h⟩ := h
  refine zg_4_5 rfl d_4023_99 k1 ?_
  refine zu_bipush d_4023_102 zj_44 ?_
  obtain ⟨b2, e3, h⟩ := h
  refine zs_stk1 (zs_rfe e3) ?_
  obtain ⟨k4, h⟩ := h
  refine zc_4_21 (x0 := (44 : Int32)) hB rfl k4 d_4023_104 (Nat.le_of_ble_eq_true rfl) h (fun v6 S5 h => ?_)
  refine zu_istore d_4023_107 (zs_lt zq_4023 rfl) ?_
  refine zs_U.weak (L1 := [(4, .int v6), (0, .ref p0), (1, va_rf p1), (3, va_rf p3), (5, va_rf p5), (2, va_rf p5)]) ?_ ⟨rfl, zs_gp1 rfl (Or.inl rfl) rfl, zs_gp1 rfl (Or.inl (zs_cat _)) rfl, zs_gp1 rfl (Or.inl (zs_cat _)) rfl, zs_gp1 rfl (Or.inl (zs_cat _)) rfl, zs_gp1 rfl (Or.inl (zs_cat _)) rfl, trivial⟩
  refine zu_iload d_4023_109 rfl ?_
  refine zu_ifeq (t := 121) d_4023_111 rfl (fun c7 => ?_) (fun c7 => ?_)
  · have h := h.1 c7
    refine zu_goto (t := 52) d_4023_121 rfl ?_
    exact h.weak ⟨rfl, rfl, rfl, rfl, rfl, trivial⟩
  · have h := h.2 c7
    refine zu_aload_n d_4023_114 rfl (zs_ra _) ?_
    obtain ⟨k8, h⟩ := h
    refine zg_4_5 rfl d_4023_115 k8 ?_
    obtain ⟨b9, e10, h⟩ := h
    refine zs_stk0 (zs_rfe e10) ?_
    obtain ⟨k11, h⟩ := h
    refine zc_4_29  hB rfl k11 d_4023_118 (Nat.le_of_ble_eq_true rfl) h (fun S12 h => ?_)
    refine zu_goto (t := 52) d_4023_121 rfl ?_
    exact h.weak ⟨rfl, rfl, rfl, rfl, rfl, trivial⟩
def w_X5_members_86 (X : zs_X) (d : Nat) (p0 : Nat) (p1 : Option Nat) (p3 : Option Nat) (p5 : Option Nat) (S : zs_T) (Q : zs_Q) : Prop :=
  (w_X5_members_95 X d p0 p1 p3 p5 S Q)
theorem u_X5_members_86 {σ : Nat → Nat} {n0 : Nat} {bf : ab_B} {d : Nat} {p0 : Nat} {p1 : Option Nat} {p3 : Option Nat} {p5 : Option Nat} {S : zs_T} {Q : zs_Q} (hB : zt_B bf) (h : w_X5_members_86 (zx σ n0 bf) d p0 p1 p3 p5 S Q) : zs_U (zx σ n0 bf) d 4023 86 [(0, .ref p0), (1, va_rf p1), (3, va_rf p3), (5, va_rf p5)] [] S Q := by
  unfold w_X5_members_86 at h
  refine zu_goto (t := 95) d_4023_86 rfl ?_
  exact (u_X5_members_95 hB h).weak ⟨rfl, rfl, rfl, rfl, trivial⟩
def w_X5_members_52 (X : zs_X) (d : Nat) (p0 : Nat) (p1 : Option Nat) (p2 : Option Nat) (p3 : Option Nat) (p4 : Int32) (S : zs_T) (Q : zs_Q) : Prop :=
  (((p4 = 0 → (zs_K S p0 = some (.inl 4) ∧ zs_C X d 4008 [.ref p0, .int (93 : Int32)] S (zs_kV (fun S3 => (zs_K S3 p0 = some (.inl 4) ∧ ab_n0 X.1 ≤ p0 ∧ ∀ S7, S7 = zs_sI S3 4011 p0 ((zs_I S3 4011 p0) - (1 : Int32)) → ((p3 = none → w_X5_members_153 X d p1 S7 Q) ∧ (∀ b10, p3 = some b10 → (zs_C X d 4025 [.ref p0, va_rf p3] S7 (zs_kR (fun v13 S12 => (∃ b14, p1 = some b14 ∧ zs_K S12 b14 = some (.inl 11) ∧ ab_n0 X.1 ≤ b14 ∧ ∀ S18, S18 = zs_sR S12 11002 b14 v13 → w_X5_members_153 X d p1 S18 Q)) Q)))))) Q))) ∧ (¬ (p4 = 0) → (zs_K S p0 = some (.inl 4) ∧ zs_C X d 4024 [.ref p0, va_rf p3] S (zs_kR (fun v23 S22 => (∃ b24, v23 = some b24 ∧ zs_K S22 b24 = some (.inl 11) ∧ ∃ b27, (zs_R S22 11005 b24) = some b27 ∧ zs_K S22 b27 = some (.inl 11) ∧ ∃ b30, (zs_R S22 11002 b27) = some b30 ∧ zs_K S22 b30 = some (.inl 6) ∧ zs_C X d 6001 [.ref b30] S22 (zs_kR (fun v34 S33 => (((p2 = none → (∃ b37, p1 = some b37 ∧ zs_K S33 b37 = some (.inl 11) ∧ ab_n0 X.1 ≤ b37 ∧ ∀ S41, S41 = zs_sR S33 11005 b37 v23 → w_X5_members_86 X d p0 p1 v34 v23 S41 Q)) ∧ (∀ b35, p2 = some b35 → (zs_K S33 b35 = some (.inl 11) ∧ ab_n0 X.1 ≤ b35 ∧ ∀ S46, S46 = zs_sR S33 11007 b35 v23 → w_X5_members_95 X d p0 p1 v34 v23 S46 Q))))) Q))) Q)))))
theorem u_X5_members_52 {σ : Nat → Nat} {n0 : Nat} {bf : ab_B} {d : Nat} {p0 : Nat} {p1 : Option Nat} {p2 : Option Nat} {p3 : Option Nat} {p4 : Int32} {S : zs_T} {Q : zs_Q} (hB : zt_B bf) (h : w_X5_members_52 (zx σ n0 bf) d p0 p1 p2 p3 p4 S Q) : zs_U (zx σ n0 bf) d 4023 52 [(0, .ref p0), (1, va_rf p1), (2, va_rf p2), (3, va_rf p3), (4, .int p4)] [] S Q := by
  unfold w_X5_members_52 at h
  refine zu_iload d_4023_52 rfl ?_
  refine zu_ifeq (t := 124) d_4023_54 rfl (fun c1 => ?_) (fun c1 => ?_)
  · have h := h.1 c1
    refine zu_aload_n d_4023_124 rfl (zs_ra _) ?_
    refine zu_bipush d_4023_125 zj_93 ?_
    obtain ⟨k2, h⟩ := h
    refine zc_4_224 (x0 := (93 : Int32)) hB rfl k2 d_4023_127 (Nat.le_of_ble_eq_true rfl) h (fun S3 h => ?_)
    refine zu_aload_n d_4023_130 rfl (zs_ra _) ?_
    refine zu_dup d_4023_131 rfl ?_
    obtain ⟨k5, h⟩ := h
    refine zg_4_43 rfl d_4023_132 k5 ?_
    refine zu_iconst d_4023_135 zi_1 ?_
    refine zu_stk d_4023_136 rfl rfl ?_
    obtain ⟨k6, h⟩ := h
    refine zp_4_43 (v := ((zs_I S3 4011 p0) - (1 : Int32))) rfl d_4023_137 k5 k6 ?_
    generalize e8 : zs_sI S3 4011 p0 ((zs_I S3 4011 p0) - (1 : Int32)) = S7
    have h := h S7 e8.symm
    have K9 : ∀ b, zs_K S7 b = zs_K S3 b := zs_Kt e8 (zs_KsI _ _ _ _) (fun _ => rfl)
    refine zu_aload_n d_4023_140 rfl (zs_rr _) ?_
    refine zu_ifnull (u := p3) (t := 153) d_4023_141 rfl rfl (fun e11 => ?_) (fun b10 e11 => ?_)
    · have h := h.1 e11
      exact (u_X5_members_153 hB h).weak ⟨rfl, trivial⟩
    · have h := h.2 b10 e11
      refine zu_aload_n d_4023_144 rfl (zs_rr _) ?_
      refine zu_aload_n d_4023_145 rfl (zs_ra _) ?_
      refine zu_aload_n d_4023_146 rfl (zs_rr _) ?_
      refine zc_4_642 (x0 := p3) hB rfl ((K9 _).trans k5) d_4023_147 (by simp only [List.map_cons, List.map_nil, List.sum_cons, List.sum_nil, zs_cat, zs_cI, zs_cJ, zs_cA]; exact Nat.le_of_ble_eq_true rfl) h (fun v13 S12 h => ?_)
      obtain ⟨b14, e15, h⟩ := h
      refine zs_stk1 (zs_rfe e15) ?_
      obtain ⟨k16, h⟩ := h
      obtain ⟨k17, h⟩ := h
      refine zp_4_297 (v := v13) rfl d_4023_150 k16 k17 ?_
      generalize e19 : zs_sR S12 11002 b14 v13 = S18
      have h := h S18 e19.symm
      have K20 : ∀ b, zs_K S18 b = zs_K S12 b := zs_Kt e19 (zs_KsR _ _ _ _) (fun _ => rfl)
      exact (u_X5_members_153 hB h).weak ⟨rfl, trivial⟩
  · have h := h.2 c1
    refine zu_aload_n d_4023_57 rfl (zs_ra _) ?_
    refine zu_aload_n d_4023_58 rfl (zs_rr _) ?_
    obtain ⟨k21, h⟩ := h
    refine zc_4_639 (x0 := p3) hB rfl k21 d_4023_59 (Nat.le_of_ble_eq_true rfl) h (fun v23 S22 h => ?_)
    refine zu_astore d_4023_62 (zs_rr _) (zs_lt zq_4023 rfl) ?_
    refine zu_aload d_4023_64 rfl (zs_rr _) ?_
    obtain ⟨b24, e25, h⟩ := h
    refine zs_stk0 (zs_rfe e25) ?_
    obtain ⟨k26, h⟩ := h
    refine zg_4_539 rfl d_4023_66 k26 ?_
    obtain ⟨b27, e28, h⟩ := h
    refine zs_stk0 (zs_rfe e28) ?_
    obtain ⟨k29, h⟩ := h
    refine zg_4_297 rfl d_4023_69 k29 ?_
    obtain ⟨b30, e31, h⟩ := h
    refine zs_stk0 (zs_rfe e31) ?_
    obtain ⟨k32, h⟩ := h
    refine zc_4_450  hB rfl k32 d_4023_72 (Nat.le_of_ble_eq_true rfl) h (fun v34 S33 h => ?_)
    refine zu_astore_n d_4023_75 (zs_rr _) (zs_lt zq_4023 rfl) ?_
    refine zs_U.weak (L1 := [(3, va_rf v34), (0, .ref p0), (1, va_rf p1), (2, va_rf p2), (4, .int p4), (5, va_rf v23)]) ?_ ⟨rfl, zs_gp1 rfl (Or.inl rfl) rfl, zs_gp1 rfl (Or.inl (zs_cat _)) rfl, zs_gp1 rfl (Or.inl (zs_cat _)) rfl, zs_gp1 rfl (Or.inl rfl) rfl, zs_gp1 rfl (Or.inl (zs_cat _)) rfl, trivial⟩
    refine zu_aload_n d_4023_76 rfl (zs_rr _) ?_
    refine zu_ifnonnull (u := p2) (t := 89) d_4023_77 rfl rfl (fun b35 e36 => ?_) (fun e36 => ?_)
    · have h := h.2 b35 e36
      refine zu_aload_n d_4023_89 rfl (zs_rr _) ?_
      refine zu_aload d_4023_90 rfl (zs_rr _) ?_
      refine zs_stk1 (zs_rfe e36) ?_
      obtain ⟨k44, h⟩ := h
      obtain ⟨k45, h⟩ := h
      refine zp_4_487 (v := v23) rfl d_4023_92 k44 k45 ?_
      generalize e47 : zs_sR S33 11007 b35 v23 = S46
      have h := h S46 e47.symm
      have K48 : ∀ b, zs_K S46 b = zs_K S33 b := zs_Kt e47 (zs_KsR _ _ _ _) (fun _ => rfl)
      exact (u_X5_members_95 hB h).weak ⟨rfl, rfl, rfl, rfl, trivial⟩
    · have h := h.1 e36
      refine zu_aload_n d_4023_80 rfl (zs_rr _) ?_
      refine zu_aload d_4023_81 rfl (zs_rr _) ?_
      obtain ⟨b37, e38, h⟩ := h
      refine zs_stk1 (zs_rfe e38) ?_
      obtain ⟨k39, h⟩ := h
      obtain ⟨k40, h⟩ := h
      refine zp_4_539 (v := v23) rfl d_4023_83 k39 k40 ?_
      generalize e42 : zs_sR S33 11005 b37 v23 = S41
      have h := h S41 e42.symm
      have K43 : ∀ b, zs_K S41 b = zs_K S33 b := zs_Kt e42 (zs_KsR _ _ _ _) (fun _ => rfl)
      exact (u_X5_members_86 hB h).weak ⟨rfl, rfl, rfl, rfl, trivial⟩
def w_X5_members (X : zs_X) (d : Nat) (p0 : Nat) (S : zs_T) (Q : zs_Q) : Prop :=
  (zs_K S p0 = some (.inl 4) ∧ zs_C X d 4021 [.ref p0] S (zs_kV (fun S2 => (zs_K S2 p0 = some (.inl 4) ∧ ∃ b5, (zs_R S2 4000 p0) = some b5 ∧ zs_K S2 b5 = some (.inl 5) ∧ zs_C X d 4016 [.ref p0, .int (9 : Int32), .int (zs_I S2 5005 b5), va_rf (zs_R S2 4007 p0)] S2 (zs_kR (fun v9 S8 => (zs_K S8 p0 = some (.inl 4) ∧ ∃ b11, (zs_R S8 4000 p0) = some b11 ∧ zs_K S8 b11 = some (.inl 5) ∧ zs_C X d 5004 [.ref b11] S8 (zs_kV (fun S14 => (w_X5_members_31 X d p0 v9 none S14 Q)) Q))) Q))) Q))
theorem u_X5_members {σ : Nat → Nat} {n0 : Nat} {bf : ab_B} {d : Nat} {p0 : Nat} {S : zs_T} {Q : zs_Q} (hB : zt_B bf) (hd : 1 ≤ d) (h : w_X5_members (zx σ n0 bf) (d - 1) p0 S Q) : zs_C (zx σ n0 bf) d 4023 [.ref p0] S Q := by
  have hL : lv_args 0 [.ref p0] = [(0, .ref p0)] := rfl
  refine zs_C.of1 (hB.2 4023 (by decide) (by decide)) hd (by rw [hL]; exact zs_sub_self _ (by exact ⟨rfl, trivial⟩)) ?_
  rw [hL]
  clear hL
  unfold w_X5_members at h
  refine zu_aload_n d_4023_0 rfl (zs_ra _) ?_
  obtain ⟨k1, h⟩ := h
  refine zc_4_357  hB rfl k1 d_4023_1 (Nat.le_of_ble_eq_true rfl) h (fun S2 h => ?_)
  refine zu_aload_n d_4023_4 rfl (zs_ra _) ?_
  refine zu_bipush d_4023_5 zj_9 ?_
  refine zu_aload_n d_4023_7 rfl (zs_ra _) ?_
  obtain ⟨k4, h⟩ := h
  refine zg_4_5 rfl d_4023_8 k4 ?_
  obtain ⟨b5, e6, h⟩ := h
  refine zs_stk0 (zs_rfe e6) ?_
  obtain ⟨k7, h⟩ := h
  refine zg_4_11 rfl d_4023_11 k7 ?_
  refine zu_aload_n d_4023_14 rfl (zs_ra _) ?_
  refine zg_4_162 rfl d_4023_15 k4 ?_
  refine zc_4_572 (x0 := (9 : Int32)) (x1 := (zs_I S2 5005 b5)) (x2 := (zs_R S2 4007 p0)) hB rfl k4 d_4023_18 (Nat.le_of_ble_eq_true rfl) h (fun v9 S8 h => ?_)
  refine zu_astore_n d_4023_21 (zs_rr _) (zs_lt zq_4023 rfl) ?_
  refine zu_aload_n d_4023_22 rfl (zs_ra _) ?_
  obtain ⟨k10, h⟩ := h
  refine zg_4_5 rfl d_4023_23 k10 ?_
  obtain ⟨b11, e12, h⟩ := h
  refine zs_stk0 (zs_rfe e12) ?_
  obtain ⟨k13, h⟩ := h
  refine zc_4_29  hB rfl k13 d_4023_26 (Nat.le_of_ble_eq_true rfl) h (fun S14 h => ?_)
  refine zu_stk d_4023_29 rfl rfl ?_
  refine zu_astore_n d_4023_30 zs_r0 (zs_lt zq_4023 rfl) ?_
  refine zs_U.weak (L1 := [(2, .null), (0, .ref p0), (1, va_rf v9)]) ?_ ⟨rfl, zs_gp1 rfl (Or.inl rfl) rfl, zs_gp1 rfl (Or.inl (zs_cat _)) rfl, trivial⟩
  exact (u_X5_members_31 hB h).weak ⟨rfl, rfl, rfl, trivial⟩
/-! SchemaPascal$Reader.member(LSchemaPascal$Type;)LSchemaPascal$Node; -/
theorem zm_4024 {σ : Nat → Nat} {n0 : Nat} {bf : ab_B} : ab_code (zx σ n0 bf).1 4024 = prog_9_method_69_code := rfl
theorem zq_4024 {σ : Nat → Nat} {n0 : Nat} {bf : ab_B} : ab_maxL (zx σ n0 bf).1 4024 = 3 := rfl
theorem zr_4024 {σ : Nat → Nat} {n0 : Nat} {bf : ab_B} : ab_ret (zx σ n0 bf).1 4024 = (Option.some (Jvm.ClassFile.FieldType.object "SchemaPascal$Node")) := rfl
theorem d_4024_0 {σ : Nat → Nat} {n0 : Nat} {bf : ab_B} : decode (ab_code (zx σ n0 bf).1 4024) 0 = .ok (.aload_n 0, 1) := zd zm_4024 (by decide +kernel)
theorem d_4024_1 {σ : Nat → Nat} {n0 : Nat} {bf : ab_B} : decode (ab_code (zx σ n0 bf).1 4024) 1 = .ok (.bipush 9, 2) := zd zm_4024 (by decide +kernel)
theorem d_4024_3 {σ : Nat → Nat} {n0 : Nat} {bf : ab_B} : decode (ab_code (zx σ n0 bf).1 4024) 3 = .ok (.aload_n 0, 1) := zd zm_4024 (by decide +kernel)
theorem d_4024_4 {σ : Nat → Nat} {n0 : Nat} {bf : ab_B} : decode (ab_code (zx σ n0 bf).1 4024) 4 = .ok (.getfield 5, 3) := zd zm_4024 (by decide +kernel)
theorem d_4024_7 {σ : Nat → Nat} {n0 : Nat} {bf : ab_B} : decode (ab_code (zx σ n0 bf).1 4024) 7 = .ok (.getfield 11, 3) := zd zm_4024 (by decide +kernel)
theorem d_4024_10 {σ : Nat → Nat} {n0 : Nat} {bf : ab_B} : decode (ab_code (zx σ n0 bf).1 4024) 10 = .ok (.aconst_null, 1) := zd zm_4024 (by decide +kernel)
theorem d_4024_11 {σ : Nat → Nat} {n0 : Nat} {bf : ab_B} : decode (ab_code (zx σ n0 bf).1 4024) 11 = .ok (.invokevirtual 572, 3) := zd zm_4024 (by decide +kernel)
theorem d_4024_14 {σ : Nat → Nat} {n0 : Nat} {bf : ab_B} : decode (ab_code (zx σ n0 bf).1 4024) 14 = .ok (.astore_n 2, 1) := zd zm_4024 (by decide +kernel)
theorem d_4024_15 {σ : Nat → Nat} {n0 : Nat} {bf : ab_B} : decode (ab_code (zx σ n0 bf).1 4024) 15 = .ok (.aload_n 2, 1) := zd zm_4024 (by decide +kernel)
theorem d_4024_16 {σ : Nat → Nat} {n0 : Nat} {bf : ab_B} : decode (ab_code (zx σ n0 bf).1 4024) 16 = .ok (.aload_n 0, 1) := zd zm_4024 (by decide +kernel)
theorem d_4024_17 {σ : Nat → Nat} {n0 : Nat} {bf : ab_B} : decode (ab_code (zx σ n0 bf).1 4024) 17 = .ok (.invokevirtual 569, 3) := zd zm_4024 (by decide +kernel)
theorem d_4024_20 {σ : Nat → Nat} {n0 : Nat} {bf : ab_B} : decode (ab_code (zx σ n0 bf).1 4024) 20 = .ok (.putfield 539, 3) := zd zm_4024 (by decide +kernel)
theorem d_4024_23 {σ : Nat → Nat} {n0 : Nat} {bf : ab_B} : decode (ab_code (zx σ n0 bf).1 4024) 23 = .ok (.aload_n 2, 1) := zd zm_4024 (by decide +kernel)
theorem d_4024_24 {σ : Nat → Nat} {n0 : Nat} {bf : ab_B} : decode (ab_code (zx σ n0 bf).1 4024) 24 = .ok (.getfield 539, 3) := zd zm_4024 (by decide +kernel)
theorem d_4024_27 {σ : Nat → Nat} {n0 : Nat} {bf : ab_B} : decode (ab_code (zx σ n0 bf).1 4024) 27 = .ok (.getfield 297, 3) := zd zm_4024 (by decide +kernel)
theorem d_4024_30 {σ : Nat → Nat} {n0 : Nat} {bf : ab_B} : decode (ab_code (zx σ n0 bf).1 4024) 30 = .ok (.invokevirtual 335, 3) := zd zm_4024 (by decide +kernel)
theorem d_4024_33 {σ : Nat → Nat} {n0 : Nat} {bf : ab_B} : decode (ab_code (zx σ n0 bf).1 4024) 33 = .ok (.ifCond .eq 21, 3) := zd zm_4024 (by decide +kernel)
theorem d_4024_36 {σ : Nat → Nat} {n0 : Nat} {bf : ab_B} : decode (ab_code (zx σ n0 bf).1 4024) 36 = .ok (.aload_n 1, 1) := zd zm_4024 (by decide +kernel)
theorem d_4024_37 {σ : Nat → Nat} {n0 : Nat} {bf : ab_B} : decode (ab_code (zx σ n0 bf).1 4024) 37 = .ok (.ifnull 23, 3) := zd zm_4024 (by decide +kernel)
theorem d_4024_40 {σ : Nat → Nat} {n0 : Nat} {bf : ab_B} : decode (ab_code (zx σ n0 bf).1 4024) 40 = .ok (.aload_n 2, 1) := zd zm_4024 (by decide +kernel)
theorem d_4024_41 {σ : Nat → Nat} {n0 : Nat} {bf : ab_B} : decode (ab_code (zx σ n0 bf).1 4024) 41 = .ok (.getfield 539, 3) := zd zm_4024 (by decide +kernel)
theorem d_4024_44 {σ : Nat → Nat} {n0 : Nat} {bf : ab_B} : decode (ab_code (zx σ n0 bf).1 4024) 44 = .ok (.getfield 297, 3) := zd zm_4024 (by decide +kernel)
theorem d_4024_47 {σ : Nat → Nat} {n0 : Nat} {bf : ab_B} : decode (ab_code (zx σ n0 bf).1 4024) 47 = .ok (.invokevirtual 450, 3) := zd zm_4024 (by decide +kernel)
theorem d_4024_50 {σ : Nat → Nat} {n0 : Nat} {bf : ab_B} : decode (ab_code (zx σ n0 bf).1 4024) 50 = .ok (.aload_n 1, 1) := zd zm_4024 (by decide +kernel)
theorem d_4024_51 {σ : Nat → Nat} {n0 : Nat} {bf : ab_B} : decode (ab_code (zx σ n0 bf).1 4024) 51 = .ok (.if_acmp .eq 9, 3) := zd zm_4024 (by decide +kernel)
theorem d_4024_54 {σ : Nat → Nat} {n0 : Nat} {bf : ab_B} : decode (ab_code (zx σ n0 bf).1 4024) 54 = .ok (.aload_n 0, 1) := zd zm_4024 (by decide +kernel)
theorem d_4024_55 {σ : Nat → Nat} {n0 : Nat} {bf : ab_B} : decode (ab_code (zx σ n0 bf).1 4024) 55 = .ok (.iconst 5, 1) := zd zm_4024 (by decide +kernel)
theorem d_4024_56 {σ : Nat → Nat} {n0 : Nat} {bf : ab_B} : decode (ab_code (zx σ n0 bf).1 4024) 56 = .ok (.invokevirtual 25, 3) := zd zm_4024 (by decide +kernel)
theorem d_4024_59 {σ : Nat → Nat} {n0 : Nat} {bf : ab_B} : decode (ab_code (zx σ n0 bf).1 4024) 59 = .ok (.athrow, 1) := zd zm_4024 (by decide +kernel)
theorem d_4024_60 {σ : Nat → Nat} {n0 : Nat} {bf : ab_B} : decode (ab_code (zx σ n0 bf).1 4024) 60 = .ok (.aload_n 0, 1) := zd zm_4024 (by decide +kernel)
theorem d_4024_61 {σ : Nat → Nat} {n0 : Nat} {bf : ab_B} : decode (ab_code (zx σ n0 bf).1 4024) 61 = .ok (.getfield 5, 3) := zd zm_4024 (by decide +kernel)
theorem d_4024_64 {σ : Nat → Nat} {n0 : Nat} {bf : ab_B} : decode (ab_code (zx σ n0 bf).1 4024) 64 = .ok (.sipush 260, 3) := zd zm_4024 (by decide +kernel)
theorem d_4024_67 {σ : Nat → Nat} {n0 : Nat} {bf : ab_B} : decode (ab_code (zx σ n0 bf).1 4024) 67 = .ok (.invokevirtual 21, 3) := zd zm_4024 (by decide +kernel)
theorem d_4024_70 {σ : Nat → Nat} {n0 : Nat} {bf : ab_B} : decode (ab_code (zx σ n0 bf).1 4024) 70 = .ok (.ifCond .ne 5, 3) := zd zm_4024 (by decide +kernel)
theorem d_4024_73 {σ : Nat → Nat} {n0 : Nat} {bf : ab_B} : decode (ab_code (zx σ n0 bf).1 4024) 73 = .ok (.aload_n 2, 1) := zd zm_4024 (by decide +kernel)
theorem d_4024_74 {σ : Nat → Nat} {n0 : Nat} {bf : ab_B} : decode (ab_code (zx σ n0 bf).1 4024) 74 = .ok (.areturn, 1) := zd zm_4024 (by decide +kernel)
theorem d_4024_75 {σ : Nat → Nat} {n0 : Nat} {bf : ab_B} : decode (ab_code (zx σ n0 bf).1 4024) 75 = .ok (.aload_n 0, 1) := zd zm_4024 (by decide +kernel)
theorem d_4024_76 {σ : Nat → Nat} {n0 : Nat} {bf : ab_B} : decode (ab_code (zx σ n0 bf).1 4024) 76 = .ok (.getfield 5, 3) := zd zm_4024 (by decide +kernel)
theorem d_4024_79 {σ : Nat → Nat} {n0 : Nat} {bf : ab_B} : decode (ab_code (zx σ n0 bf).1 4024) 79 = .ok (.invokevirtual 29, 3) := zd zm_4024 (by decide +kernel)
theorem d_4024_82 {σ : Nat → Nat} {n0 : Nat} {bf : ab_B} : decode (ab_code (zx σ n0 bf).1 4024) 82 = .ok (.aload_n 2, 1) := zd zm_4024 (by decide +kernel)
theorem d_4024_83 {σ : Nat → Nat} {n0 : Nat} {bf : ab_B} : decode (ab_code (zx σ n0 bf).1 4024) 83 = .ok (.aload_n 0, 1) := zd zm_4024 (by decide +kernel)
theorem d_4024_84 {σ : Nat → Nat} {n0 : Nat} {bf : ab_B} : decode (ab_code (zx σ n0 bf).1 4024) 84 = .ok (.invokevirtual 569, 3) := zd zm_4024 (by decide +kernel)
theorem d_4024_87 {σ : Nat → Nat} {n0 : Nat} {bf : ab_B} : decode (ab_code (zx σ n0 bf).1 4024) 87 = .ok (.putfield 536, 3) := zd zm_4024 (by decide +kernel)
theorem d_4024_90 {σ : Nat → Nat} {n0 : Nat} {bf : ab_B} : decode (ab_code (zx σ n0 bf).1 4024) 90 = .ok (.aload_n 2, 1) := zd zm_4024 (by decide +kernel)
theorem d_4024_91 {σ : Nat → Nat} {n0 : Nat} {bf : ab_B} : decode (ab_code (zx σ n0 bf).1 4024) 91 = .ok (.getfield 536, 3) := zd zm_4024 (by decide +kernel)
theorem d_4024_94 {σ : Nat → Nat} {n0 : Nat} {bf : ab_B} : decode (ab_code (zx σ n0 bf).1 4024) 94 = .ok (.getfield 297, 3) := zd zm_4024 (by decide +kernel)
theorem d_4024_97 {σ : Nat → Nat} {n0 : Nat} {bf : ab_B} : decode (ab_code (zx σ n0 bf).1 4024) 97 = .ok (.invokevirtual 450, 3) := zd zm_4024 (by decide +kernel)
theorem d_4024_100 {σ : Nat → Nat} {n0 : Nat} {bf : ab_B} : decode (ab_code (zx σ n0 bf).1 4024) 100 = .ok (.aload_n 2, 1) := zd zm_4024 (by decide +kernel)
theorem d_4024_101 {σ : Nat → Nat} {n0 : Nat} {bf : ab_B} : decode (ab_code (zx σ n0 bf).1 4024) 101 = .ok (.getfield 539, 3) := zd zm_4024 (by decide +kernel)
theorem d_4024_104 {σ : Nat → Nat} {n0 : Nat} {bf : ab_B} : decode (ab_code (zx σ n0 bf).1 4024) 104 = .ok (.getfield 297, 3) := zd zm_4024 (by decide +kernel)
theorem d_4024_107 {σ : Nat → Nat} {n0 : Nat} {bf : ab_B} : decode (ab_code (zx σ n0 bf).1 4024) 107 = .ok (.invokevirtual 450, 3) := zd zm_4024 (by decide +kernel)
theorem d_4024_110 {σ : Nat → Nat} {n0 : Nat} {bf : ab_B} : decode (ab_code (zx σ n0 bf).1 4024) 110 = .ok (.if_acmp .eq 9, 3) := zd zm_4024 (by decide +kernel)
theorem d_4024_113 {σ : Nat → Nat} {n0 : Nat} {bf : ab_B} : decode (ab_code (zx σ n0 bf).1 4024) 113 = .ok (.aload_n 0, 1) := zd zm_4024 (by decide +kernel)
theorem d_4024_114 {σ : Nat → Nat} {n0 : Nat} {bf : ab_B} : decode (ab_code (zx σ n0 bf).1 4024) 114 = .ok (.iconst 5, 1) := zd zm_4024 (by decide +kernel)
theorem d_4024_115 {σ : Nat → Nat} {n0 : Nat} {bf : ab_B} : decode (ab_code (zx σ n0 bf).1 4024) 115 = .ok (.invokevirtual 25, 3) := zd zm_4024 (by decide +kernel)
theorem d_4024_118 {σ : Nat → Nat} {n0 : Nat} {bf : ab_B} : decode (ab_code (zx σ n0 bf).1 4024) 118 = .ok (.athrow, 1) := zd zm_4024 (by decide +kernel)
theorem d_4024_119 {σ : Nat → Nat} {n0 : Nat} {bf : ab_B} : decode (ab_code (zx σ n0 bf).1 4024) 119 = .ok (.aload_n 2, 1) := zd zm_4024 (by decide +kernel)
theorem d_4024_120 {σ : Nat → Nat} {n0 : Nat} {bf : ab_B} : decode (ab_code (zx σ n0 bf).1 4024) 120 = .ok (.areturn, 1) := zd zm_4024 (by decide +kernel)
def w_X5_member_119 (X : zs_X) (d : Nat) (p2 : Option Nat) (S : zs_T) (Q : zs_Q) : Prop :=
  (Q (.returned (some (va_rf p2))) S)
theorem u_X5_member_119 {σ : Nat → Nat} {n0 : Nat} {bf : ab_B} {d : Nat} {p2 : Option Nat} {S : zs_T} {Q : zs_Q} (hB : zt_B bf) (h : w_X5_member_119 (zx σ n0 bf) d p2 S Q) : zs_U (zx σ n0 bf) d 4024 119 [(2, va_rf p2)] [] S Q := by
  unfold w_X5_member_119 at h
  refine zu_aload_n d_4024_119 rfl (zs_rr _) ?_
  exact zu_aret d_4024_120 zr_4024 (zs_rr _) h
def w_X5_member_113 (X : zs_X) (d : Nat) (p0 : Nat) (S : zs_T) (Q : zs_Q) : Prop :=
  (zs_K S p0 = some (.inl 4) ∧ zs_C X d 4006 [.ref p0, .int (5 : Int32)] S (zs_kR (fun v3 S2 => (∃ b4, v3 = some b4 ∧ Q (.threw b4) S2)) Q))
theorem u_X5_member_113 {σ : Nat → Nat} {n0 : Nat} {bf : ab_B} {d : Nat} {p0 : Nat} {S : zs_T} {Q : zs_Q} (hB : zt_B bf) (h : w_X5_member_113 (zx σ n0 bf) d p0 S Q) : zs_U (zx σ n0 bf) d 4024 113 [(0, .ref p0)] [] S Q := by
  unfold w_X5_member_113 at h
  refine zu_aload_n d_4024_113 rfl (zs_ra _) ?_
  refine zu_iconst d_4024_114 zi_5 ?_
  obtain ⟨k1, h⟩ := h
  refine zc_4_25 (x0 := (5 : Int32)) hB rfl k1 d_4024_115 (Nat.le_of_ble_eq_true rfl) h (fun v3 S2 h => ?_)
  obtain ⟨b4, e5, h⟩ := h
  refine zs_stk0 (zs_rfe e5) ?_
  exact zu_throw d_4024_118 h
def w_X5_member_60 (X : zs_X) (d : Nat) (p0 : Nat) (p2 : Option Nat) (S : zs_T) (Q : zs_Q) : Prop :=
  (zs_K S p0 = some (.inl 4) ∧ ∃ b2, (zs_R S 4000 p0) = some b2 ∧ zs_K S b2 = some (.inl 5) ∧ zs_C X d 5017 [.ref b2, .int (260 : Int32)] S (zs_kI (fun v6 S5 => (((¬ v6 = 0 → (zs_K S5 p0 = some (.inl 4) ∧ ∃ b9, (zs_R S5 4000 p0) = some b9 ∧ zs_K S5 b9 = some (.inl 5) ∧ zs_C X d 5004 [.ref b9] S5 (zs_kV (fun S12 => (zs_K S12 p0 = some (.inl 4) ∧ zs_C X d 4014 [.ref p0] S12 (zs_kR (fun v16 S15 => (∃ b17, p2 = some b17 ∧ zs_K S15 b17 = some (.inl 11) ∧ ab_n0 X.1 ≤ b17 ∧ ∀ S21, S21 = zs_sR S15 11006 b17 v16 → ∃ b24, (zs_R S21 11006 b17) = some b24 ∧ zs_K S15 b24 = some (.inl 11) ∧ ∃ b27, (zs_R S21 11002 b24) = some b27 ∧ zs_K S15 b27 = some (.inl 6) ∧ zs_C X d 6001 [.ref b27] S21 (zs_kR (fun v31 S30 => (zs_K S30 b17 = some (.inl 11) ∧ ∃ b33, (zs_R S30 11005 b17) = some b33 ∧ zs_K S30 b33 = some (.inl 11) ∧ ∃ b36, (zs_R S30 11002 b33) = some b36 ∧ zs_K S30 b36 = some (.inl 6) ∧ zs_C X d 6001 [.ref b36] S30 (zs_kR (fun v40 S39 => (((v31 = v40 → w_X5_member_119 X d p2 S39 Q) ∧ (¬ (v31 = v40) → w_X5_member_113 X d p0 S39 Q)))) Q))) Q))) Q))) Q))) ∧ (¬ (¬ v6 = 0) → (Q (.returned (some (va_rf p2))) S5))))) Q))
theorem u_X5_member_60 {σ : Nat → Nat} {n0 : Nat} {bf : ab_B} {d : Nat} {p0 : Nat} {p2 : Option Nat} {S : zs_T} {Q : zs_Q} (hB : zt_B bf) (h : w_X5_member_60 (zx σ n0 bf) d p0 p2 S Q) : zs_U (zx σ n0 bf) d 4024 60 [(0, .ref p0), (2, va_rf p2)] [] S Q := by
  unfold w_X5_member_60 at h
  refine zu_aload_n d_4024_60 rfl (zs_ra _) ?_
  obtain ⟨k1, h⟩ := h
  refine zg_4_5 rfl d_4024_61 k1 ?_
  refine zu_sipush d_4024_64 zh_260 ?_
  obtain ⟨b2, e3, h⟩ := h
  refine zs_stk1 (zs_rfe e3) ?_
  obtain ⟨k4, h⟩ := h
  refine zc_4_21 (x0 := (260 : Int32)) hB rfl k4 d_4024_67 (Nat.le_of_ble_eq_true rfl) h (fun v6 S5 h => ?_)
  refine zu_ifne (t := 75) d_4024_70 rfl (fun c7 => ?_) (fun c7 => ?_)
  · have h := h.1 c7
    refine zu_aload_n d_4024_75 rfl (zs_ra _) ?_
    obtain ⟨k8, h⟩ := h
    refine zg_4_5 rfl d_4024_76 k8 ?_
    obtain ⟨b9, e10, h⟩ := h
    refine zs_stk0 (zs_rfe e10) ?_
    obtain ⟨k11, h⟩ := h
    refine zc_4_29  hB rfl k11 d_4024_79 (Nat.le_of_ble_eq_true rfl) h (fun S12 h => ?_)
    refine zu_aload_n d_4024_82 rfl (zs_rr _) ?_
    refine zu_aload_n d_4024_83 rfl (zs_ra _) ?_
    obtain ⟨k14, h⟩ := h
    refine zc_4_569  hB rfl k14 d_4024_84 (by simp only [List.map_cons, List.map_nil, List.sum_cons, List.sum_nil, zs_cat, zs_cI, zs_cJ, zs_cA]; exact Nat.le_of_ble_eq_true rfl) h (fun v16 S15 h => ?_)
    obtain ⟨b17, e18, h⟩ := h
    refine zs_stk1 (zs_rfe e18) ?_
    obtain ⟨k19, h⟩ := h
    obtain ⟨k20, h⟩ := h
    refine zp_4_536 (v := v16) rfl d_4024_87 k19 k20 ?_
    generalize e22 : zs_sR S15 11006 b17 v16 = S21
    have h := h S21 e22.symm
    have K23 : ∀ b, zs_K S21 b = zs_K S15 b := zs_Kt e22 (zs_KsR _ _ _ _) (fun _ => rfl)
    refine zu_aload_n d_4024_90 rfl (zs_rr _) ?_
    refine zs_stk0 (zs_rfe e18) ?_
    refine zg_4_536 rfl d_4024_91 ((K23 _).trans k19) ?_
    obtain ⟨b24, e25, h⟩ := h
    refine zs_stk0 (zs_rfe e25) ?_
    obtain ⟨k26, h⟩ := h
    refine zg_4_297 rfl d_4024_94 ((K23 _).trans k26) ?_
    obtain ⟨b27, e28, h⟩ := h
    refine zs_stk0 (zs_rfe e28) ?_
    obtain ⟨k29, h⟩ := h
    refine zc_4_450  hB rfl ((K23 _).trans k29) d_4024_97 (Nat.le_of_ble_eq_true rfl) h (fun v31 S30 h => ?_)
    refine zu_aload_n d_4024_100 rfl (zs_rr _) ?_
    refine zs_stk0 (zs_rfe e18) ?_
    obtain ⟨k32, h⟩ := h
    refine zg_4_539 rfl d_4024_101 k32 ?_
    obtain ⟨b33, e34, h⟩ := h
    refine zs_stk0 (zs_rfe e34) ?_
    obtain ⟨k35, h⟩ := h
    refine zg_4_297 rfl d_4024_104 k35 ?_
    obtain ⟨b36, e37, h⟩ := h
    refine zs_stk0 (zs_rfe e37) ?_
    obtain ⟨k38, h⟩ := h
    refine zc_4_450  hB rfl k38 d_4024_107 (by simp only [List.map_cons, List.map_nil, List.sum_cons, List.sum_nil, zs_cat, zs_cI, zs_cJ, zs_cA]; exact Nat.le_of_ble_eq_true rfl) h (fun v40 S39 h => ?_)
    refine zu_acmpeq (u := v31) (w := v40) (t := 119) d_4024_110 rfl rfl rfl (fun c41 => ?_) (fun c41 => ?_)
    · have h := h.1 c41
      exact (u_X5_member_119 hB h).weak ⟨rfl, trivial⟩
    · have h := h.2 c41
      exact (u_X5_member_113 hB h).weak ⟨rfl, trivial⟩
  · have h := h.2 c7
    refine zu_aload_n d_4024_73 rfl (zs_rr _) ?_
    exact zu_aret d_4024_74 zr_4024 (zs_rr _) h
def w_X5_member_54 (X : zs_X) (d : Nat) (p0 : Nat) (S : zs_T) (Q : zs_Q) : Prop :=
  (zs_K S p0 = some (.inl 4) ∧ zs_C X d 4006 [.ref p0, .int (5 : Int32)] S (zs_kR (fun v3 S2 => (∃ b4, v3 = some b4 ∧ Q (.threw b4) S2)) Q))
theorem u_X5_member_54 {σ : Nat → Nat} {n0 : Nat} {bf : ab_B} {d : Nat} {p0 : Nat} {S : zs_T} {Q : zs_Q} (hB : zt_B bf) (h : w_X5_member_54 (zx σ n0 bf) d p0 S Q) : zs_U (zx σ n0 bf) d 4024 54 [(0, .ref p0)] [] S Q := by
  unfold w_X5_member_54 at h
  refine zu_aload_n d_4024_54 rfl (zs_ra _) ?_
  refine zu_iconst d_4024_55 zi_5 ?_
  obtain ⟨k1, h⟩ := h
  refine zc_4_25 (x0 := (5 : Int32)) hB rfl k1 d_4024_56 (Nat.le_of_ble_eq_true rfl) h (fun v3 S2 h => ?_)
  obtain ⟨b4, e5, h⟩ := h
  refine zs_stk0 (zs_rfe e5) ?_
  exact zu_throw d_4024_59 h
def w_X5_member_36 (X : zs_X) (d : Nat) (p0 : Nat) (p1 : Option Nat) (p2 : Option Nat) (S : zs_T) (Q : zs_Q) : Prop :=
  (((p1 = none → w_X5_member_60 X d p0 p2 S Q) ∧ (∀ b1, p1 = some b1 → (∃ b3, p2 = some b3 ∧ zs_K S b3 = some (.inl 11) ∧ ∃ b6, (zs_R S 11005 b3) = some b6 ∧ zs_K S b6 = some (.inl 11) ∧ ∃ b9, (zs_R S 11002 b6) = some b9 ∧ zs_K S b9 = some (.inl 6) ∧ zs_C X d 6001 [.ref b9] S (zs_kR (fun v13 S12 => (((v13 = p1 → w_X5_member_60 X d p0 p2 S12 Q) ∧ (¬ (v13 = p1) → w_X5_member_54 X d p0 S12 Q)))) Q)))))
theorem u_X5_member_36 {σ : Nat → Nat} {n0 : Nat} {bf : ab_B} {d : Nat} {p0 : Nat} {p1 : Option Nat} {p2 : Option Nat} {S : zs_T} {Q : zs_Q} (hB : zt_B bf) (h : w_X5_member_36 (zx σ n0 bf) d p0 p1 p2 S Q) : zs_U (zx σ n0 bf) d 4024 36 [(0, .ref p0), (1, va_rf p1), (2, va_rf p2)] [] S Q := by
  unfold w_X5_member_36 at h
  refine zu_aload_n d_4024_36 rfl (zs_rr _) ?_
  refine zu_ifnull (u := p1) (t := 60) d_4024_37 rfl rfl (fun e2 => ?_) (fun b1 e2 => ?_)
  · have h := h.1 e2
    exact (u_X5_member_60 hB h).weak ⟨rfl, rfl, trivial⟩
  · have h := h.2 b1 e2
    refine zu_aload_n d_4024_40 rfl (zs_rr _) ?_
    obtain ⟨b3, e4, h⟩ := h
    refine zs_stk0 (zs_rfe e4) ?_
    obtain ⟨k5, h⟩ := h
    refine zg_4_539 rfl d_4024_41 k5 ?_
    obtain ⟨b6, e7, h⟩ := h
    refine zs_stk0 (zs_rfe e7) ?_
    obtain ⟨k8, h⟩ := h
    refine zg_4_297 rfl d_4024_44 k8 ?_
    obtain ⟨b9, e10, h⟩ := h
    refine zs_stk0 (zs_rfe e10) ?_
    obtain ⟨k11, h⟩ := h
    refine zc_4_450  hB rfl k11 d_4024_47 (Nat.le_of_ble_eq_true rfl) h (fun v13 S12 h => ?_)
    refine zu_aload_n d_4024_50 rfl (zs_rr _) ?_
    refine zu_acmpeq (u := v13) (w := p1) (t := 60) d_4024_51 rfl rfl rfl (fun c14 => ?_) (fun c14 => ?_)
    · have h := h.1 c14
      exact (u_X5_member_60 hB h).weak ⟨rfl, rfl, trivial⟩
    · have h := h.2 c14
      exact (u_X5_member_54 hB h).weak ⟨rfl, trivial⟩
def w_X5_member (X : zs_X) (d : Nat) (p0 : Nat) (p1 : Option Nat) (S : zs_T) (Q : zs_Q) : Prop :=
  (zs_K S p0 = some (.inl 4) ∧ ∃ b2, (zs_R S 4000 p0) = some b2 ∧ zs_K S b2 = some (.inl 5) ∧ zs_C X d 4016 [.ref p0, .int (9 : Int32), .int (zs_I S 5005 b2), va_rf none] S (zs_kR (fun v6 S5 => (zs_K S5 p0 = some (.inl 4) ∧ zs_C X d 4014 [.ref p0] S5 (zs_kR (fun v9 S8 => (∃ b10, v6 = some b10 ∧ zs_K S8 b10 = some (.inl 11) ∧ ab_n0 X.1 ≤ b10 ∧ ∀ S14, S14 = zs_sR S8 11005 b10 v9 → ∃ b17, (zs_R S14 11005 b10) = some b17 ∧ zs_K S8 b17 = some (.inl 11) ∧ ∃ b20, (zs_R S14 11002 b17) = some b20 ∧ zs_K S8 b20 = some (.inl 6) ∧ zs_C X d 6002 [.ref b20] S14 (zs_kI (fun v24 S23 => (((v24 = 0 → w_X5_member_54 X d p0 S23 Q) ∧ (¬ (v24 = 0) → w_X5_member_36 X d p0 p1 v6 S23 Q)))) Q))) Q))) Q))
theorem u_X5_member {σ : Nat → Nat} {n0 : Nat} {bf : ab_B} {d : Nat} {p0 : Nat} {p1 : Option Nat} {S : zs_T} {Q : zs_Q} (hB : zt_B bf) (hd : 1 ≤ d) (h : w_X5_member (zx σ n0 bf) (d - 1) p0 p1 S Q) : zs_C (zx σ n0 bf) d 4024 [.ref p0, va_rf p1] S Q := by
  have hL : lv_args 0 [.ref p0, va_rf p1] = [(0, .ref p0), (1, va_rf p1)] := by simp [lv_args, zs_cat, zs_cI, zs_cJ, zs_cA]
  refine zs_C.of1 (hB.2 4024 (by decide) (by decide)) hd (by rw [hL]; exact zs_sub_self _ (by exact ⟨rfl, rfl, trivial⟩)) ?_
  rw [hL]
  clear hL
  unfold w_X5_member at h
  refine zu_aload_n d_4024_0 rfl (zs_ra _) ?_
  refine zu_bipush d_4024_1 zj_9 ?_
  refine zu_aload_n d_4024_3 rfl (zs_ra _) ?_
  obtain ⟨k1, h⟩ := h
  refine zg_4_5 rfl d_4024_4 k1 ?_
  obtain ⟨b2, e3, h⟩ := h
  refine zs_stk0 (zs_rfe e3) ?_
  obtain ⟨k4, h⟩ := h
  refine zg_4_11 rfl d_4024_7 k4 ?_
  refine zu_stk d_4024_10 rfl rfl ?_
  refine zc_4_572 (x0 := (9 : Int32)) (x1 := (zs_I S 5005 b2)) (x2 := none) hB rfl k1 d_4024_11 (Nat.le_of_ble_eq_true rfl) h (fun v6 S5 h => ?_)
  refine zu_astore_n d_4024_14 (zs_rr _) (zs_lt zq_4024 rfl) ?_
  refine zs_U.weak (L1 := [(2, va_rf v6), (0, .ref p0), (1, va_rf p1)]) ?_ ⟨rfl, zs_gp1 rfl (Or.inl rfl) rfl, zs_gp1 rfl (Or.inl (zs_cat _)) rfl, trivial⟩
  refine zu_aload_n d_4024_15 rfl (zs_rr _) ?_
  refine zu_aload_n d_4024_16 rfl (zs_ra _) ?_
  obtain ⟨k7, h⟩ := h
  refine zc_4_569  hB rfl k7 d_4024_17 (by simp only [List.map_cons, List.map_nil, List.sum_cons, List.sum_nil, zs_cat, zs_cI, zs_cJ, zs_cA]; exact Nat.le_of_ble_eq_true rfl) h (fun v9 S8 h => ?_)
  obtain ⟨b10, e11, h⟩ := h
  refine zs_stk1 (zs_rfe e11) ?_
  obtain ⟨k12, h⟩ := h
  obtain ⟨k13, h⟩ := h
  refine zp_4_539 (v := v9) rfl d_4024_20 k12 k13 ?_
  generalize e15 : zs_sR S8 11005 b10 v9 = S14
  have h := h S14 e15.symm
  have K16 : ∀ b, zs_K S14 b = zs_K S8 b := zs_Kt e15 (zs_KsR _ _ _ _) (fun _ => rfl)
  refine zu_aload_n d_4024_23 rfl (zs_rr _) ?_
  refine zs_stk0 (zs_rfe e11) ?_
  refine zg_4_539 rfl d_4024_24 ((K16 _).trans k12) ?_
  obtain ⟨b17, e18, h⟩ := h
  refine zs_stk0 (zs_rfe e18) ?_
  obtain ⟨k19, h⟩ := h
  refine zg_4_297 rfl d_4024_27 ((K16 _).trans k19) ?_
  obtain ⟨b20, e21, h⟩ := h
  refine zs_stk0 (zs_rfe e21) ?_
  obtain ⟨k22, h⟩ := h
  refine zc_4_335  hB rfl ((K16 _).trans k22) d_4024_30 (Nat.le_of_ble_eq_true rfl) h (fun v24 S23 h => ?_)
  refine zu_ifeq (t := 54) d_4024_33 rfl (fun c25 => ?_) (fun c25 => ?_)
  · have h := h.1 c25
    exact (u_X5_member_54 hB h).weak ⟨rfl, trivial⟩
  · have h := h.2 c25
    exact (u_X5_member_36 hB h).weak ⟨rfl, rfl, rfl, trivial⟩
/-! SchemaPascal$Reader.setOf(LSchemaPascal$Type;)LSchemaPascal$Type; -/
theorem zm_4025 {σ : Nat → Nat} {n0 : Nat} {bf : ab_B} : ab_code (zx σ n0 bf).1 4025 = prog_9_method_70_code := rfl
theorem zq_4025 {σ : Nat → Nat} {n0 : Nat} {bf : ab_B} : ab_maxL (zx σ n0 bf).1 4025 = 3 := rfl
theorem zr_4025 {σ : Nat → Nat} {n0 : Nat} {bf : ab_B} : ab_ret (zx σ n0 bf).1 4025 = (Option.some (Jvm.ClassFile.FieldType.object "SchemaPascal$Type")) := rfl
theorem d_4025_0 {σ : Nat → Nat} {n0 : Nat} {bf : ab_B} : decode (ab_code (zx σ n0 bf).1 4025) 0 = .ok (.aload_n 0, 1) := zd zm_4025 (by decide +kernel)
theorem d_4025_1 {σ : Nat → Nat} {n0 : Nat} {bf : ab_B} : decode (ab_code (zx σ n0 bf).1 4025) 1 = .ok (.iconst 5, 1) := zd zm_4025 (by decide +kernel)
theorem d_4025_2 {σ : Nat → Nat} {n0 : Nat} {bf : ab_B} : decode (ab_code (zx σ n0 bf).1 4025) 2 = .ok (.invokevirtual 144, 3) := zd zm_4025 (by decide +kernel)
theorem d_4025_5 {σ : Nat → Nat} {n0 : Nat} {bf : ab_B} : decode (ab_code (zx σ n0 bf).1 4025) 5 = .ok (.astore_n 2, 1) := zd zm_4025 (by decide +kernel)
theorem d_4025_6 {σ : Nat → Nat} {n0 : Nat} {bf : ab_B} : decode (ab_code (zx σ n0 bf).1 4025) 6 = .ok (.aload_n 2, 1) := zd zm_4025 (by decide +kernel)
theorem d_4025_7 {σ : Nat → Nat} {n0 : Nat} {bf : ab_B} : decode (ab_code (zx σ n0 bf).1 4025) 7 = .ok (.aload_n 1, 1) := zd zm_4025 (by decide +kernel)
theorem d_4025_8 {σ : Nat → Nat} {n0 : Nat} {bf : ab_B} : decode (ab_code (zx σ n0 bf).1 4025) 8 = .ok (.putfield 320, 3) := zd zm_4025 (by decide +kernel)
theorem d_4025_11 {σ : Nat → Nat} {n0 : Nat} {bf : ab_B} : decode (ab_code (zx σ n0 bf).1 4025) 11 = .ok (.aload_n 2, 1) := zd zm_4025 (by decide +kernel)
theorem d_4025_12 {σ : Nat → Nat} {n0 : Nat} {bf : ab_B} : decode (ab_code (zx σ n0 bf).1 4025) 12 = .ok (.areturn, 1) := zd zm_4025 (by decide +kernel)
def w_X5_setOf (X : zs_X) (d : Nat) (p0 : Nat) (p1 : Option Nat) (S : zs_T) (Q : zs_Q) : Prop :=
  (zs_K S p0 = some (.inl 4) ∧ zs_C X d 4002 [.ref p0, .int (5 : Int32)] S (zs_kR (fun v3 S2 => (∃ b4, v3 = some b4 ∧ zs_K S2 b4 = some (.inl 6) ∧ ab_n0 X.1 ≤ b4 ∧ ∀ S8, S8 = zs_sR S2 6002 b4 p1 → Q (.returned (some (va_rf v3))) S8)) Q))
theorem u_X5_setOf {σ : Nat → Nat} {n0 : Nat} {bf : ab_B} {d : Nat} {p0 : Nat} {p1 : Option Nat} {S : zs_T} {Q : zs_Q} (hB : zt_B bf) (hd : 1 ≤ d) (h : w_X5_setOf (zx σ n0 bf) (d - 1) p0 p1 S Q) : zs_C (zx σ n0 bf) d 4025 [.ref p0, va_rf p1] S Q := by
  have hL : lv_args 0 [.ref p0, va_rf p1] = [(0, .ref p0), (1, va_rf p1)] := by simp [lv_args, zs_cat, zs_cI, zs_cJ, zs_cA]
  refine zs_C.of1 (hB.2 4025 (by decide) (by decide)) hd (by rw [hL]; exact zs_sub_self _ (by exact ⟨rfl, rfl, trivial⟩)) ?_
  rw [hL]
  clear hL
  unfold w_X5_setOf at h
  refine zu_aload_n d_4025_0 rfl (zs_ra _) ?_
  refine zu_iconst d_4025_1 zi_5 ?_
  obtain ⟨k1, h⟩ := h
  refine zc_4_144 (x0 := (5 : Int32)) hB rfl k1 d_4025_2 (Nat.le_of_ble_eq_true rfl) h (fun v3 S2 h => ?_)
  refine zu_astore_n d_4025_5 (zs_rr _) (zs_lt zq_4025 rfl) ?_
  refine zs_U.weak (L1 := [(2, va_rf v3), (0, .ref p0), (1, va_rf p1)]) ?_ ⟨rfl, zs_gp1 rfl (Or.inl rfl) rfl, zs_gp1 rfl (Or.inl (zs_cat _)) rfl, trivial⟩
  refine zu_aload_n d_4025_6 rfl (zs_rr _) ?_
  refine zu_aload_n d_4025_7 rfl (zs_rr _) ?_
  obtain ⟨b4, e5, h⟩ := h
  refine zs_stk1 (zs_rfe e5) ?_
  obtain ⟨k6, h⟩ := h
  obtain ⟨k7, h⟩ := h
  refine zp_4_320 (v := p1) rfl d_4025_8 k6 k7 ?_
  generalize e9 : zs_sR S2 6002 b4 p1 = S8
  have h := h S8 e9.symm
  have K10 : ∀ b, zs_K S8 b = zs_K S2 b := zs_Kt e9 (zs_KsR _ _ _ _) (fun _ => rfl)
  refine zu_aload_n d_4025_11 rfl (zs_rr _) ?_
  exact zu_aret d_4025_12 zr_4025 (zs_rr _) h
/-! SchemaPascal$Reader.named()LSchemaPascal$Node; -/
theorem zm_4026 {σ : Nat → Nat} {n0 : Nat} {bf : ab_B} : ab_code (zx σ n0 bf).1 4026 = prog_9_method_71_code := rfl
theorem zq_4026 {σ : Nat → Nat} {n0 : Nat} {bf : ab_B} : ab_maxL (zx σ n0 bf).1 4026 = 5 := rfl
theorem zr_4026 {σ : Nat → Nat} {n0 : Nat} {bf : ab_B} : ab_ret (zx σ n0 bf).1 4026 = (Option.some (Jvm.ClassFile.FieldType.object "SchemaPascal$Node")) := rfl
theorem d_4026_0 {σ : Nat → Nat} {n0 : Nat} {bf : ab_B} : decode (ab_code (zx σ n0 bf).1 4026) 0 = .ok (.aload_n 0, 1) := zd zm_4026 (by decide +kernel)
theorem d_4026_1 {σ : Nat → Nat} {n0 : Nat} {bf : ab_B} : decode (ab_code (zx σ n0 bf).1 4026) 1 = .ok (.invokevirtual 646, 3) := zd zm_4026 (by decide +kernel)
theorem d_4026_4 {σ : Nat → Nat} {n0 : Nat} {bf : ab_B} : decode (ab_code (zx σ n0 bf).1 4026) 4 = .ok (.astore_n 1, 1) := zd zm_4026 (by decide +kernel)
theorem d_4026_5 {σ : Nat → Nat} {n0 : Nat} {bf : ab_B} : decode (ab_code (zx σ n0 bf).1 4026) 5 = .ok (.aload_n 1, 1) := zd zm_4026 (by decide +kernel)
theorem d_4026_6 {σ : Nat → Nat} {n0 : Nat} {bf : ab_B} : decode (ab_code (zx σ n0 bf).1 4026) 6 = .ok (.ifnull 5, 3) := zd zm_4026 (by decide +kernel)
theorem d_4026_9 {σ : Nat → Nat} {n0 : Nat} {bf : ab_B} : decode (ab_code (zx σ n0 bf).1 4026) 9 = .ok (.aload_n 1, 1) := zd zm_4026 (by decide +kernel)
theorem d_4026_10 {σ : Nat → Nat} {n0 : Nat} {bf : ab_B} : decode (ab_code (zx σ n0 bf).1 4026) 10 = .ok (.areturn, 1) := zd zm_4026 (by decide +kernel)
theorem d_4026_11 {σ : Nat → Nat} {n0 : Nat} {bf : ab_B} : decode (ab_code (zx σ n0 bf).1 4026) 11 = .ok (.aload_n 0, 1) := zd zm_4026 (by decide +kernel)
theorem d_4026_12 {σ : Nat → Nat} {n0 : Nat} {bf : ab_B} : decode (ab_code (zx σ n0 bf).1 4026) 12 = .ok (.aload_n 0, 1) := zd zm_4026 (by decide +kernel)
theorem d_4026_13 {σ : Nat → Nat} {n0 : Nat} {bf : ab_B} : decode (ab_code (zx σ n0 bf).1 4026) 13 = .ok (.getfield 5, 3) := zd zm_4026 (by decide +kernel)
theorem d_4026_16 {σ : Nat → Nat} {n0 : Nat} {bf : ab_B} : decode (ab_code (zx σ n0 bf).1 4026) 16 = .ok (.getfield 40, 3) := zd zm_4026 (by decide +kernel)
theorem d_4026_19 {σ : Nat → Nat} {n0 : Nat} {bf : ab_B} : decode (ab_code (zx σ n0 bf).1 4026) 19 = .ok (.invokevirtual 318, 3) := zd zm_4026 (by decide +kernel)
theorem d_4026_22 {σ : Nat → Nat} {n0 : Nat} {bf : ab_B} : decode (ab_code (zx σ n0 bf).1 4026) 22 = .ok (.astore_n 2, 1) := zd zm_4026 (by decide +kernel)
theorem d_4026_23 {σ : Nat → Nat} {n0 : Nat} {bf : ab_B} : decode (ab_code (zx σ n0 bf).1 4026) 23 = .ok (.aload_n 2, 1) := zd zm_4026 (by decide +kernel)
theorem d_4026_24 {σ : Nat → Nat} {n0 : Nat} {bf : ab_B} : decode (ab_code (zx σ n0 bf).1 4026) 24 = .ok (.ifnull 48, 3) := zd zm_4026 (by decide +kernel)
theorem d_4026_27 {σ : Nat → Nat} {n0 : Nat} {bf : ab_B} : decode (ab_code (zx σ n0 bf).1 4026) 27 = .ok (.aload_n 2, 1) := zd zm_4026 (by decide +kernel)
theorem d_4026_28 {σ : Nat → Nat} {n0 : Nat} {bf : ab_B} : decode (ab_code (zx σ n0 bf).1 4026) 28 = .ok (.getfield 62, 3) := zd zm_4026 (by decide +kernel)
theorem d_4026_31 {σ : Nat → Nat} {n0 : Nat} {bf : ab_B} : decode (ab_code (zx σ n0 bf).1 4026) 31 = .ok (.iconst 1, 1) := zd zm_4026 (by decide +kernel)
theorem d_4026_32 {σ : Nat → Nat} {n0 : Nat} {bf : ab_B} : decode (ab_code (zx σ n0 bf).1 4026) 32 = .ok (.if_icmp .eq 40, 3) := zd zm_4026 (by decide +kernel)
theorem d_4026_35 {σ : Nat → Nat} {n0 : Nat} {bf : ab_B} : decode (ab_code (zx σ n0 bf).1 4026) 35 = .ok (.aload_n 2, 1) := zd zm_4026 (by decide +kernel)
theorem d_4026_36 {σ : Nat → Nat} {n0 : Nat} {bf : ab_B} : decode (ab_code (zx σ n0 bf).1 4026) 36 = .ok (.getfield 62, 3) := zd zm_4026 (by decide +kernel)
theorem d_4026_39 {σ : Nat → Nat} {n0 : Nat} {bf : ab_B} : decode (ab_code (zx σ n0 bf).1 4026) 39 = .ok (.iconst 3, 1) := zd zm_4026 (by decide +kernel)
theorem d_4026_40 {σ : Nat → Nat} {n0 : Nat} {bf : ab_B} : decode (ab_code (zx σ n0 bf).1 4026) 40 = .ok (.if_icmp .ne 13, 3) := zd zm_4026 (by decide +kernel)
theorem d_4026_43 {σ : Nat → Nat} {n0 : Nat} {bf : ab_B} : decode (ab_code (zx σ n0 bf).1 4026) 43 = .ok (.aload_n 2, 1) := zd zm_4026 (by decide +kernel)
theorem d_4026_44 {σ : Nat → Nat} {n0 : Nat} {bf : ab_B} : decode (ab_code (zx σ n0 bf).1 4026) 44 = .ok (.getfield 243, 3) := zd zm_4026 (by decide +kernel)
theorem d_4026_47 {σ : Nat → Nat} {n0 : Nat} {bf : ab_B} : decode (ab_code (zx σ n0 bf).1 4026) 47 = .ok (.getfield 255, 3) := zd zm_4026 (by decide +kernel)
theorem d_4026_50 {σ : Nat → Nat} {n0 : Nat} {bf : ab_B} : decode (ab_code (zx σ n0 bf).1 4026) 50 = .ok (.ifnull 22, 3) := zd zm_4026 (by decide +kernel)
theorem d_4026_53 {σ : Nat → Nat} {n0 : Nat} {bf : ab_B} : decode (ab_code (zx σ n0 bf).1 4026) 53 = .ok (.aload_n 2, 1) := zd zm_4026 (by decide +kernel)
theorem d_4026_54 {σ : Nat → Nat} {n0 : Nat} {bf : ab_B} : decode (ab_code (zx σ n0 bf).1 4026) 54 = .ok (.getfield 62, 3) := zd zm_4026 (by decide +kernel)
theorem d_4026_57 {σ : Nat → Nat} {n0 : Nat} {bf : ab_B} : decode (ab_code (zx σ n0 bf).1 4026) 57 = .ok (.iconst 4, 1) := zd zm_4026 (by decide +kernel)
theorem d_4026_58 {σ : Nat → Nat} {n0 : Nat} {bf : ab_B} : decode (ab_code (zx σ n0 bf).1 4026) 58 = .ok (.if_icmp .ne 20, 3) := zd zm_4026 (by decide +kernel)
theorem d_4026_61 {σ : Nat → Nat} {n0 : Nat} {bf : ab_B} : decode (ab_code (zx σ n0 bf).1 4026) 61 = .ok (.aload_n 2, 1) := zd zm_4026 (by decide +kernel)
theorem d_4026_62 {σ : Nat → Nat} {n0 : Nat} {bf : ab_B} : decode (ab_code (zx σ n0 bf).1 4026) 62 = .ok (.getfield 168, 3) := zd zm_4026 (by decide +kernel)
theorem d_4026_65 {σ : Nat → Nat} {n0 : Nat} {bf : ab_B} : decode (ab_code (zx σ n0 bf).1 4026) 65 = .ok (.ldc2_w 649, 3) := zd zm_4026 (by decide +kernel)
theorem d_4026_68 {σ : Nat → Nat} {n0 : Nat} {bf : ab_B} : decode (ab_code (zx σ n0 bf).1 4026) 68 = .ok (.lcmp, 1) := zd zm_4026 (by decide +kernel)
theorem d_4026_69 {σ : Nat → Nat} {n0 : Nat} {bf : ab_B} : decode (ab_code (zx σ n0 bf).1 4026) 69 = .ok (.ifCond .le 9, 3) := zd zm_4026 (by decide +kernel)
theorem d_4026_72 {σ : Nat → Nat} {n0 : Nat} {bf : ab_B} : decode (ab_code (zx σ n0 bf).1 4026) 72 = .ok (.aload_n 0, 1) := zd zm_4026 (by decide +kernel)
theorem d_4026_73 {σ : Nat → Nat} {n0 : Nat} {bf : ab_B} : decode (ab_code (zx σ n0 bf).1 4026) 73 = .ok (.iconst 3, 1) := zd zm_4026 (by decide +kernel)
theorem d_4026_74 {σ : Nat → Nat} {n0 : Nat} {bf : ab_B} : decode (ab_code (zx σ n0 bf).1 4026) 74 = .ok (.invokevirtual 25, 3) := zd zm_4026 (by decide +kernel)
theorem d_4026_77 {σ : Nat → Nat} {n0 : Nat} {bf : ab_B} : decode (ab_code (zx σ n0 bf).1 4026) 77 = .ok (.athrow, 1) := zd zm_4026 (by decide +kernel)
theorem d_4026_78 {σ : Nat → Nat} {n0 : Nat} {bf : ab_B} : decode (ab_code (zx σ n0 bf).1 4026) 78 = .ok (.aload_n 0, 1) := zd zm_4026 (by decide +kernel)
theorem d_4026_79 {σ : Nat → Nat} {n0 : Nat} {bf : ab_B} : decode (ab_code (zx σ n0 bf).1 4026) 79 = .ok (.getfield 5, 3) := zd zm_4026 (by decide +kernel)
theorem d_4026_82 {σ : Nat → Nat} {n0 : Nat} {bf : ab_B} : decode (ab_code (zx σ n0 bf).1 4026) 82 = .ok (.getfield 11, 3) := zd zm_4026 (by decide +kernel)
theorem d_4026_85 {σ : Nat → Nat} {n0 : Nat} {bf : ab_B} : decode (ab_code (zx σ n0 bf).1 4026) 85 = .ok (.istore_n 3, 1) := zd zm_4026 (by decide +kernel)
theorem d_4026_86 {σ : Nat → Nat} {n0 : Nat} {bf : ab_B} : decode (ab_code (zx σ n0 bf).1 4026) 86 = .ok (.aload_n 0, 1) := zd zm_4026 (by decide +kernel)
theorem d_4026_87 {σ : Nat → Nat} {n0 : Nat} {bf : ab_B} : decode (ab_code (zx σ n0 bf).1 4026) 87 = .ok (.getfield 5, 3) := zd zm_4026 (by decide +kernel)
theorem d_4026_90 {σ : Nat → Nat} {n0 : Nat} {bf : ab_B} : decode (ab_code (zx σ n0 bf).1 4026) 90 = .ok (.invokevirtual 29, 3) := zd zm_4026 (by decide +kernel)
theorem d_4026_93 {σ : Nat → Nat} {n0 : Nat} {bf : ab_B} : decode (ab_code (zx σ n0 bf).1 4026) 93 = .ok (.aload_n 2, 1) := zd zm_4026 (by decide +kernel)
theorem d_4026_94 {σ : Nat → Nat} {n0 : Nat} {bf : ab_B} : decode (ab_code (zx σ n0 bf).1 4026) 94 = .ok (.getfield 62, 3) := zd zm_4026 (by decide +kernel)
theorem d_4026_97 {σ : Nat → Nat} {n0 : Nat} {bf : ab_B} : decode (ab_code (zx σ n0 bf).1 4026) 97 = .ok (.tableswitch 110 0 4 #[35, 110, 110, 92, 99], 35) := zd zm_4026 (by decide +kernel)
theorem d_4026_132 {σ : Nat → Nat} {n0 : Nat} {bf : ab_B} : decode (ab_code (zx σ n0 bf).1 4026) 132 = .ok (.aload_n 2, 1) := zd zm_4026 (by decide +kernel)
theorem d_4026_133 {σ : Nat → Nat} {n0 : Nat} {bf : ab_B} : decode (ab_code (zx σ n0 bf).1 4026) 133 = .ok (.getfield 65, 3) := zd zm_4026 (by decide +kernel)
theorem d_4026_136 {σ : Nat → Nat} {n0 : Nat} {bf : ab_B} : decode (ab_code (zx σ n0 bf).1 4026) 136 = .ok (.aload_n 0, 1) := zd zm_4026 (by decide +kernel)
theorem d_4026_137 {σ : Nat → Nat} {n0 : Nat} {bf : ab_B} : decode (ab_code (zx σ n0 bf).1 4026) 137 = .ok (.getfield 156, 3) := zd zm_4026 (by decide +kernel)
theorem d_4026_140 {σ : Nat → Nat} {n0 : Nat} {bf : ab_B} : decode (ab_code (zx σ n0 bf).1 4026) 140 = .ok (.if_acmp .eq 16, 3) := zd zm_4026 (by decide +kernel)
theorem d_4026_143 {σ : Nat → Nat} {n0 : Nat} {bf : ab_B} : decode (ab_code (zx σ n0 bf).1 4026) 143 = .ok (.aload_n 2, 1) := zd zm_4026 (by decide +kernel)
theorem d_4026_144 {σ : Nat → Nat} {n0 : Nat} {bf : ab_B} : decode (ab_code (zx σ n0 bf).1 4026) 144 = .ok (.getfield 168, 3) := zd zm_4026 (by decide +kernel)
theorem d_4026_147 {σ : Nat → Nat} {n0 : Nat} {bf : ab_B} : decode (ab_code (zx σ n0 bf).1 4026) 147 = .ok (.aload_n 2, 1) := zd zm_4026 (by decide +kernel)
theorem d_4026_148 {σ : Nat → Nat} {n0 : Nat} {bf : ab_B} : decode (ab_code (zx σ n0 bf).1 4026) 148 = .ok (.getfield 65, 3) := zd zm_4026 (by decide +kernel)
theorem d_4026_151 {σ : Nat → Nat} {n0 : Nat} {bf : ab_B} : decode (ab_code (zx σ n0 bf).1 4026) 151 = .ok (.iload_n 3, 1) := zd zm_4026 (by decide +kernel)
theorem d_4026_152 {σ : Nat → Nat} {n0 : Nat} {bf : ab_B} : decode (ab_code (zx σ n0 bf).1 4026) 152 = .ok (.invokestatic 470, 3) := zd zm_4026 (by decide +kernel)
theorem d_4026_155 {σ : Nat → Nat} {n0 : Nat} {bf : ab_B} : decode (ab_code (zx σ n0 bf).1 4026) 155 = .ok (.areturn, 1) := zd zm_4026 (by decide +kernel)
theorem d_4026_156 {σ : Nat → Nat} {n0 : Nat} {bf : ab_B} : decode (ab_code (zx σ n0 bf).1 4026) 156 = .ok (.aload_n 0, 1) := zd zm_4026 (by decide +kernel)
theorem d_4026_157 {σ : Nat → Nat} {n0 : Nat} {bf : ab_B} : decode (ab_code (zx σ n0 bf).1 4026) 157 = .ok (.iconst 1, 1) := zd zm_4026 (by decide +kernel)
theorem d_4026_158 {σ : Nat → Nat} {n0 : Nat} {bf : ab_B} : decode (ab_code (zx σ n0 bf).1 4026) 158 = .ok (.iload_n 3, 1) := zd zm_4026 (by decide +kernel)
theorem d_4026_159 {σ : Nat → Nat} {n0 : Nat} {bf : ab_B} : decode (ab_code (zx σ n0 bf).1 4026) 159 = .ok (.aload_n 0, 1) := zd zm_4026 (by decide +kernel)
theorem d_4026_160 {σ : Nat → Nat} {n0 : Nat} {bf : ab_B} : decode (ab_code (zx σ n0 bf).1 4026) 160 = .ok (.getfield 156, 3) := zd zm_4026 (by decide +kernel)
theorem d_4026_163 {σ : Nat → Nat} {n0 : Nat} {bf : ab_B} : decode (ab_code (zx σ n0 bf).1 4026) 163 = .ok (.invokevirtual 572, 3) := zd zm_4026 (by decide +kernel)
theorem d_4026_166 {σ : Nat → Nat} {n0 : Nat} {bf : ab_B} : decode (ab_code (zx σ n0 bf).1 4026) 166 = .ok (.astore 4, 2) := zd zm_4026 (by decide +kernel)
theorem d_4026_168 {σ : Nat → Nat} {n0 : Nat} {bf : ab_B} : decode (ab_code (zx σ n0 bf).1 4026) 168 = .ok (.aload 4, 2) := zd zm_4026 (by decide +kernel)
theorem d_4026_170 {σ : Nat → Nat} {n0 : Nat} {bf : ab_B} : decode (ab_code (zx σ n0 bf).1 4026) 170 = .ok (.aload_n 2, 1) := zd zm_4026 (by decide +kernel)
theorem d_4026_171 {σ : Nat → Nat} {n0 : Nat} {bf : ab_B} : decode (ab_code (zx σ n0 bf).1 4026) 171 = .ok (.getfield 302, 3) := zd zm_4026 (by decide +kernel)
theorem d_4026_174 {σ : Nat → Nat} {n0 : Nat} {bf : ab_B} : decode (ab_code (zx σ n0 bf).1 4026) 174 = .ok (.putfield 301, 3) := zd zm_4026 (by decide +kernel)
theorem d_4026_177 {σ : Nat → Nat} {n0 : Nat} {bf : ab_B} : decode (ab_code (zx σ n0 bf).1 4026) 177 = .ok (.aload 4, 2) := zd zm_4026 (by decide +kernel)
theorem d_4026_179 {σ : Nat → Nat} {n0 : Nat} {bf : ab_B} : decode (ab_code (zx σ n0 bf).1 4026) 179 = .ok (.aload_n 2, 1) := zd zm_4026 (by decide +kernel)
theorem d_4026_180 {σ : Nat → Nat} {n0 : Nat} {bf : ab_B} : decode (ab_code (zx σ n0 bf).1 4026) 180 = .ok (.getfield 306, 3) := zd zm_4026 (by decide +kernel)
theorem d_4026_183 {σ : Nat → Nat} {n0 : Nat} {bf : ab_B} : decode (ab_code (zx σ n0 bf).1 4026) 183 = .ok (.putfield 303, 3) := zd zm_4026 (by decide +kernel)
theorem d_4026_186 {σ : Nat → Nat} {n0 : Nat} {bf : ab_B} : decode (ab_code (zx σ n0 bf).1 4026) 186 = .ok (.aload 4, 2) := zd zm_4026 (by decide +kernel)
theorem d_4026_188 {σ : Nat → Nat} {n0 : Nat} {bf : ab_B} : decode (ab_code (zx σ n0 bf).1 4026) 188 = .ok (.areturn, 1) := zd zm_4026 (by decide +kernel)
theorem d_4026_189 {σ : Nat → Nat} {n0 : Nat} {bf : ab_B} : decode (ab_code (zx σ n0 bf).1 4026) 189 = .ok (.aload_n 0, 1) := zd zm_4026 (by decide +kernel)
theorem d_4026_190 {σ : Nat → Nat} {n0 : Nat} {bf : ab_B} : decode (ab_code (zx σ n0 bf).1 4026) 190 = .ok (.aload_n 2, 1) := zd zm_4026 (by decide +kernel)
theorem d_4026_191 {σ : Nat → Nat} {n0 : Nat} {bf : ab_B} : decode (ab_code (zx σ n0 bf).1 4026) 191 = .ok (.iload_n 3, 1) := zd zm_4026 (by decide +kernel)
theorem d_4026_192 {σ : Nat → Nat} {n0 : Nat} {bf : ab_B} : decode (ab_code (zx σ n0 bf).1 4026) 192 = .ok (.invokevirtual 651, 3) := zd zm_4026 (by decide +kernel)
theorem d_4026_195 {σ : Nat → Nat} {n0 : Nat} {bf : ab_B} : decode (ab_code (zx σ n0 bf).1 4026) 195 = .ok (.areturn, 1) := zd zm_4026 (by decide +kernel)
theorem d_4026_196 {σ : Nat → Nat} {n0 : Nat} {bf : ab_B} : decode (ab_code (zx σ n0 bf).1 4026) 196 = .ok (.aload_n 0, 1) := zd zm_4026 (by decide +kernel)
theorem d_4026_197 {σ : Nat → Nat} {n0 : Nat} {bf : ab_B} : decode (ab_code (zx σ n0 bf).1 4026) 197 = .ok (.aload_n 2, 1) := zd zm_4026 (by decide +kernel)
theorem d_4026_198 {σ : Nat → Nat} {n0 : Nat} {bf : ab_B} : decode (ab_code (zx σ n0 bf).1 4026) 198 = .ok (.getfield 168, 3) := zd zm_4026 (by decide +kernel)
theorem d_4026_201 {σ : Nat → Nat} {n0 : Nat} {bf : ab_B} : decode (ab_code (zx σ n0 bf).1 4026) 201 = .ok (.l2i, 1) := zd zm_4026 (by decide +kernel)
theorem d_4026_202 {σ : Nat → Nat} {n0 : Nat} {bf : ab_B} : decode (ab_code (zx σ n0 bf).1 4026) 202 = .ok (.iload_n 3, 1) := zd zm_4026 (by decide +kernel)
theorem d_4026_203 {σ : Nat → Nat} {n0 : Nat} {bf : ab_B} : decode (ab_code (zx σ n0 bf).1 4026) 203 = .ok (.invokevirtual 655, 3) := zd zm_4026 (by decide +kernel)
theorem d_4026_206 {σ : Nat → Nat} {n0 : Nat} {bf : ab_B} : decode (ab_code (zx σ n0 bf).1 4026) 206 = .ok (.areturn, 1) := zd zm_4026 (by decide +kernel)
theorem d_4026_207 {σ : Nat → Nat} {n0 : Nat} {bf : ab_B} : decode (ab_code (zx σ n0 bf).1 4026) 207 = .ok (.aload_n 0, 1) := zd zm_4026 (by decide +kernel)
theorem d_4026_208 {σ : Nat → Nat} {n0 : Nat} {bf : ab_B} : decode (ab_code (zx σ n0 bf).1 4026) 208 = .ok (.aload_n 0, 1) := zd zm_4026 (by decide +kernel)
theorem d_4026_209 {σ : Nat → Nat} {n0 : Nat} {bf : ab_B} : decode (ab_code (zx σ n0 bf).1 4026) 209 = .ok (.aload_n 2, 1) := zd zm_4026 (by decide +kernel)
theorem d_4026_210 {σ : Nat → Nat} {n0 : Nat} {bf : ab_B} : decode (ab_code (zx σ n0 bf).1 4026) 210 = .ok (.iload_n 3, 1) := zd zm_4026 (by decide +kernel)
theorem d_4026_211 {σ : Nat → Nat} {n0 : Nat} {bf : ab_B} : decode (ab_code (zx σ n0 bf).1 4026) 211 = .ok (.invokevirtual 658, 3) := zd zm_4026 (by decide +kernel)
theorem d_4026_214 {σ : Nat → Nat} {n0 : Nat} {bf : ab_B} : decode (ab_code (zx σ n0 bf).1 4026) 214 = .ok (.invokevirtual 661, 3) := zd zm_4026 (by decide +kernel)
theorem d_4026_217 {σ : Nat → Nat} {n0 : Nat} {bf : ab_B} : decode (ab_code (zx σ n0 bf).1 4026) 217 = .ok (.areturn, 1) := zd zm_4026 (by decide +kernel)
def w_X5_named_207 (X : zs_X) (d : Nat) (p0 : Nat) (p2 : Option Nat) (p3 : Int32) (S : zs_T) (Q : zs_Q) : Prop :=
  (zs_K S p0 = some (.inl 4) ∧ zs_C X d 4047 [.ref p0, va_rf p2, .int p3] S (zs_kR (fun v3 S2 => (zs_K S2 p0 = some (.inl 4) ∧ zs_C X d 4049 [.ref p0, va_rf v3] S2 (zs_kR (fun v6 S5 => (Q (.returned (some (va_rf v6))) S5)) Q))) Q))
theorem u_X5_named_207 {σ : Nat → Nat} {n0 : Nat} {bf : ab_B} {d : Nat} {p0 : Nat} {p2 : Option Nat} {p3 : Int32} {S : zs_T} {Q : zs_Q} (hB : zt_B bf) (h : w_X5_named_207 (zx σ n0 bf) d p0 p2 p3 S Q) : zs_U (zx σ n0 bf) d 4026 207 [(0, .ref p0), (2, va_rf p2), (3, .int p3)] [] S Q := by
  unfold w_X5_named_207 at h
  refine zu_aload_n d_4026_207 rfl (zs_ra _) ?_
  refine zu_aload_n d_4026_208 rfl (zs_ra _) ?_
  refine zu_aload_n d_4026_209 rfl (zs_rr _) ?_
  refine zu_iload_n d_4026_210 rfl ?_
  obtain ⟨k1, h⟩ := h
  refine zc_4_658 (x0 := p2) (x1 := p3) hB rfl k1 d_4026_211 (Nat.le_of_ble_eq_true rfl) h (fun v3 S2 h => ?_)
  obtain ⟨k4, h⟩ := h
  refine zc_4_661 (x0 := v3) hB rfl k4 d_4026_214 (Nat.le_of_ble_eq_true rfl) h (fun v6 S5 h => ?_)
  exact zu_aret d_4026_217 zr_4026 (zs_rr _) h
def w_X5_named_168 (X : zs_X) (d : Nat) (p2 : Option Nat) (p4 : Option Nat) (S : zs_T) (Q : zs_Q) : Prop :=
  (∃ b1, p2 = some b1 ∧ zs_K S b1 = some (.inl 7) ∧ ∃ b4, p4 = some b4 ∧ zs_K S b4 = some (.inl 11) ∧ ab_n0 X.1 ≤ b4 ∧ ∀ S8, S8 = zs_sI S 11011 b4 (zs_I S 7004 b1) → ∀ S11, S11 = zs_sI S8 11012 b4 (zs_I S8 7005 b1) → Q (.returned (some (va_rf p4))) S11)
theorem u_X5_named_168 {σ : Nat → Nat} {n0 : Nat} {bf : ab_B} {d : Nat} {p2 : Option Nat} {p4 : Option Nat} {S : zs_T} {Q : zs_Q} (hB : zt_B bf) (h : w_X5_named_168 (zx σ n0 bf) d p2 p4 S Q) : zs_U (zx σ n0 bf) d 4026 168 [(2, va_rf p2), (4, va_rf p4)] [] S Q := by
  unfold w_X5_named_168 at h
  refine zu_aload d_4026_168 rfl (zs_rr _) ?_
  refine zu_aload_n d_4026_170 rfl (zs_rr _) ?_
  obtain ⟨b1, e2, h⟩ := h
  refine zs_stk0 (zs_rfe e2) ?_
  obtain ⟨k3, h⟩ := h
  refine zg_4_302 rfl d_4026_171 k3 ?_
  obtain ⟨b4, e5, h⟩ := h
  refine zs_stk1 (zs_rfe e5) ?_
  obtain ⟨k6, h⟩ := h
  obtain ⟨k7, h⟩ := h
  refine zp_4_301 (v := (zs_I S 7004 b1)) rfl d_4026_174 k6 k7 ?_
  generalize e9 : zs_sI S 11011 b4 (zs_I S 7004 b1) = S8
  have h := h S8 e9.symm
  have K10 : ∀ b, zs_K S8 b = zs_K S b := zs_Kt e9 (zs_KsI _ _ _ _) (fun _ => rfl)
  refine zu_aload d_4026_177 rfl (zs_rr _) ?_
  refine zu_aload_n d_4026_179 rfl (zs_rr _) ?_
  refine zs_stk0 (zs_rfe e2) ?_
  refine zg_4_306 rfl d_4026_180 ((K10 _).trans k3) ?_
  refine zs_stk1 (zs_rfe e5) ?_
  refine zp_4_303 (v := (zs_I S8 7005 b1)) rfl d_4026_183 ((K10 _).trans k6) k7 ?_
  generalize e12 : zs_sI S8 11012 b4 (zs_I S8 7005 b1) = S11
  have h := h S11 e12.symm
  have K13 : ∀ b, zs_K S11 b = zs_K S b := zs_Kt e12 (zs_KsI _ _ _ _) K10
  refine zu_aload d_4026_186 rfl (zs_rr _) ?_
  exact zu_aret d_4026_188 zr_4026 (zs_rr _) h
def w_X5_named_78 (X : zs_X) (d : Nat) (p0 : Nat) (p2 : Option Nat) (S : zs_T) (Q : zs_Q) : Prop :=
  (zs_K S p0 = some (.inl 4) ∧ ∃ b2, (zs_R S 4000 p0) = some b2 ∧ zs_K S b2 = some (.inl 5) ∧ zs_C X d 5004 [.ref b2] S (zs_kV (fun S5 => (∃ b7, p2 = some b7 ∧ zs_K S5 b7 = some (.inl 7) ∧ (((zs_I S5 7001 b7).toInt < 0 ∨ 4 < (zs_I S5 7001 b7).toInt → w_X5_named_207 X d p0 p2 (zs_I S 5005 b2) S5 Q) ∧ ((zs_I S5 7001 b7).toInt = 0 → (zs_K S5 p0 = some (.inl 4) ∧ (((zs_R S5 7002 b7) = (zs_R S5 4005 p0) → (zs_C X d 4016 [.ref p0, .int (1 : Int32), .int (zs_I S 5005 b2), va_rf (zs_R S5 4005 p0)] S5 (zs_kR (fun v14 S13 => (w_X5_named_168 X d p2 v14 S13 Q)) Q))) ∧ (¬ ((zs_R S5 7002 b7) = (zs_R S5 4005 p0)) → (zs_C X d 4019 [.long (zs_J S5 7003 b7), va_rf (zs_R S5 7002 b7), .int (zs_I S 5005 b2)] S5 (zs_kR (fun v16 S15 => (Q (.returned (some (va_rf v16))) S15)) Q)))))) ∧ ((zs_I S5 7001 b7).toInt = 1 → w_X5_named_207 X d p0 p2 (zs_I S 5005 b2) S5 Q) ∧ ((zs_I S5 7001 b7).toInt = 2 → w_X5_named_207 X d p0 p2 (zs_I S 5005 b2) S5 Q) ∧ ((zs_I S5 7001 b7).toInt = 3 → (zs_K S5 p0 = some (.inl 4) ∧ zs_C X d 4030 [.ref p0, va_rf p2, .int (zs_I S 5005 b2)] S5 (zs_kR (fun v19 S18 => (Q (.returned (some (va_rf v19))) S18)) Q))) ∧ ((zs_I S5 7001 b7).toInt = 4 → (zs_K S5 p0 = some (.inl 4) ∧ zs_C X d 4045 [.ref p0, .int (((zs_J S5 7003 b7)).toInt32), .int (zs_I S 5005 b2)] S5 (zs_kR (fun v22 S21 => (Q (.returned (some (va_rf v22))) S21)) Q)))))) Q))
theorem u_X5_named_78 {σ : Nat → Nat} {n0 : Nat} {bf : ab_B} {d : Nat} {p0 : Nat} {p2 : Option Nat} {S : zs_T} {Q : zs_Q} (hB : zt_B bf) (h : w_X5_named_78 (zx σ n0 bf) d p0 p2 S Q) : zs_U (zx σ n0 bf) d 4026 78 [(0, .ref p0), (2, va_rf p2)] [] S Q := by
  unfold w_X5_named_78 at h
  refine zu_aload_n d_4026_78 rfl (zs_ra _) ?_
  obtain ⟨k1, h⟩ := h
  refine zg_4_5 rfl d_4026_79 k1 ?_
  obtain ⟨b2, e3, h⟩ := h
  refine zs_stk0 (zs_rfe e3) ?_
  obtain ⟨k4, h⟩ := h
  refine zg_4_11 rfl d_4026_82 k4 ?_
  refine zu_istore_n d_4026_85 (zs_lt zq_4026 rfl) ?_
  refine zs_U.weak (L1 := [(3, .int (zs_I S 5005 b2)), (0, .ref p0), (2, va_rf p2)]) ?_ ⟨rfl, zs_gp1 rfl (Or.inl rfl) rfl, zs_gp1 rfl (Or.inl (zs_cat _)) rfl, trivial⟩
  refine zu_aload_n d_4026_86 rfl (zs_ra _) ?_
  refine zg_4_5 rfl d_4026_87 k1 ?_
  refine zs_stk0 (zs_rfe e3) ?_
  refine zc_4_29  hB rfl k4 d_4026_90 (Nat.le_of_ble_eq_true rfl) h (fun S5 h => ?_)
  refine zu_aload_n d_4026_93 rfl (zs_rr _) ?_
  obtain ⟨b7, e8, h⟩ := h
  refine zs_stk0 (zs_rfe e8) ?_
  obtain ⟨k9, h⟩ := h
  refine zg_4_62 rfl d_4026_94 k9 ?_
  refine zu_tsw (td := 207) d_4026_97 (by decide) rfl (fun c10 => ?_) ⟨fun c10 => ⟨by decide, ?_⟩, fun c10 => ⟨by decide, ?_⟩, fun c10 => ⟨by decide, ?_⟩, fun c10 => ⟨by decide, ?_⟩, fun c10 => ⟨by decide, ?_⟩, trivial⟩
  · have h := h.1 c10
    exact (u_X5_named_207 hB h).weak ⟨rfl, rfl, rfl, trivial⟩
  · have h := h.2.1 c10
    show zs_U _ _ _ 132 _ _ _ _
    refine zu_aload_n d_4026_132 rfl (zs_rr _) ?_
    refine zs_stk0 (zs_rfe e8) ?_
    refine zg_4_65 rfl d_4026_133 k9 ?_
    refine zu_aload_n d_4026_136 rfl (zs_ra _) ?_
    obtain ⟨k11, h⟩ := h
    refine zg_4_156 rfl d_4026_137 k11 ?_
    refine zu_acmpeq (u := (zs_R S5 7002 b7)) (w := (zs_R S5 4005 p0)) (t := 156) d_4026_140 rfl rfl rfl (fun c12 => ?_) (fun c12 => ?_)
    · have h := h.1 c12
      refine zu_aload_n d_4026_156 rfl (zs_ra _) ?_
      refine zu_iconst d_4026_157 zi_1 ?_
      refine zu_iload_n d_4026_158 rfl ?_
      refine zu_aload_n d_4026_159 rfl (zs_ra _) ?_
      refine zg_4_156 rfl d_4026_160 k11 ?_
      refine zc_4_572 (x0 := (1 : Int32)) (x1 := (zs_I S 5005 b2)) (x2 := (zs_R S5 4005 p0)) hB rfl k11 d_4026_163 (Nat.le_of_ble_eq_true rfl) h (fun v14 S13 h => ?_)
      refine zu_astore d_4026_166 (zs_rr _) (zs_lt zq_4026 rfl) ?_
      exact (u_X5_named_168 hB h).weak ⟨rfl, rfl, trivial⟩
    · have h := h.2 c12
      refine zu_aload_n d_4026_143 rfl (zs_rr _) ?_
      refine zs_stk0 (zs_rfe e8) ?_
      refine zg_4_168 rfl d_4026_144 k9 ?_
      refine zu_aload_n d_4026_147 rfl (zs_rr _) ?_
      refine zs_stk0 (zs_rfe e8) ?_
      refine zg_4_65 rfl d_4026_148 k9 ?_
      refine zu_iload_n d_4026_151 rfl ?_
      refine zc_4_470 (x0 := (zs_J S5 7003 b7)) (x1 := (zs_R S5 7002 b7)) (x2 := (zs_I S 5005 b2)) hB rfl d_4026_152 (Nat.le_of_ble_eq_true rfl) h (fun v16 S15 h => ?_)
      exact zu_aret d_4026_155 zr_4026 (zs_rr _) h
  · have h := h.2.2.1 c10
    show zs_U _ _ _ 207 _ _ _ _
    exact (u_X5_named_207 hB h).weak ⟨rfl, rfl, rfl, trivial⟩
  · have h := h.2.2.2.1 c10
    show zs_U _ _ _ 207 _ _ _ _
    exact (u_X5_named_207 hB h).weak ⟨rfl, rfl, rfl, trivial⟩
  · have h := h.2.2.2.2.1 c10
    show zs_U _ _ _ 189 _ _ _ _
    refine zu_aload_n d_4026_189 rfl (zs_ra _) ?_
    refine zu_aload_n d_4026_190 rfl (zs_rr _) ?_
    refine zu_iload_n d_4026_191 rfl ?_
    obtain ⟨k17, h⟩ := h
    refine zc_4_651 (x0 := p2) (x1 := (zs_I S 5005 b2)) hB rfl k17 d_4026_192 (Nat.le_of_ble_eq_true rfl) h (fun v19 S18 h => ?_)
    exact zu_aret d_4026_195 zr_4026 (zs_rr _) h
  · have h := h.2.2.2.2.2 c10
    show zs_U _ _ _ 196 _ _ _ _
    refine zu_aload_n d_4026_196 rfl (zs_ra _) ?_
    refine zu_aload_n d_4026_197 rfl (zs_rr _) ?_
    refine zs_stk0 (zs_rfe e8) ?_
    refine zg_4_168 rfl d_4026_198 k9 ?_
    refine zu_stk d_4026_201 rfl rfl ?_
    refine zu_iload_n d_4026_202 rfl ?_
    obtain ⟨k20, h⟩ := h
    refine zc_4_655 (x0 := (((zs_J S5 7003 b7)).toInt32)) (x1 := (zs_I S 5005 b2)) hB rfl k20 d_4026_203 (Nat.le_of_ble_eq_true rfl) h (fun v22 S21 h => ?_)
    exact zu_aret d_4026_206 zr_4026 (zs_rr _) h
def w_X5_named_72 (X : zs_X) (d : Nat) (p0 : Nat) (S : zs_T) (Q : zs_Q) : Prop :=
  (zs_K S p0 = some (.inl 4) ∧ zs_C X d 4006 [.ref p0, .int (3 : Int32)] S (zs_kR (fun v3 S2 => (∃ b4, v3 = some b4 ∧ Q (.threw b4) S2)) Q))
theorem u_X5_named_72 {σ : Nat → Nat} {n0 : Nat} {bf : ab_B} {d : Nat} {p0 : Nat} {S : zs_T} {Q : zs_Q} (hB : zt_B bf) (h : w_X5_named_72 (zx σ n0 bf) d p0 S Q) : zs_U (zx σ n0 bf) d 4026 72 [(0, .ref p0)] [] S Q := by
  unfold w_X5_named_72 at h
  refine zu_aload_n d_4026_72 rfl (zs_ra _) ?_
  refine zu_iconst d_4026_73 zi_3 ?_
  obtain ⟨k1, h⟩ := h
  refine zc_4_25 (x0 := (3 : Int32)) hB rfl k1 d_4026_74 (Nat.le_of_ble_eq_true rfl) h (fun v3 S2 h => ?_)
  obtain ⟨b4, e5, h⟩ := h
  refine zs_stk0 (zs_rfe e5) ?_
  exact zu_throw d_4026_77 h
def w_X5_named_53 (X : zs_X) (d : Nat) (p0 : Nat) (p2 : Option Nat) (S : zs_T) (Q : zs_Q) : Prop :=
  (∃ b1, p2 = some b1 ∧ zs_K S b1 = some (.inl 7) ∧ ((¬ (zs_I S 7001 b1) = (4 : Int32) → w_X5_named_78 X d p0 p2 S Q) ∧ (¬ (¬ (zs_I S 7001 b1) = (4 : Int32)) → ((((zs_J S 7003 b1) ≤ (17 : Int64) → w_X5_named_78 X d p0 p2 S Q) ∧ (¬ ((zs_J S 7003 b1) ≤ (17 : Int64)) → w_X5_named_72 X d p0 S Q))))))
theorem u_X5_named_53 {σ : Nat → Nat} {n0 : Nat} {bf : ab_B} {d : Nat} {p0 : Nat} {p2 : Option Nat} {S : zs_T} {Q : zs_Q} (hB : zt_B bf) (h : w_X5_named_53 (zx σ n0 bf) d p0 p2 S Q) : zs_U (zx σ n0 bf) d 4026 53 [(0, .ref p0), (2, va_rf p2)] [] S Q := by
  unfold w_X5_named_53 at h
  refine zu_aload_n d_4026_53 rfl (zs_rr _) ?_
  obtain ⟨b1, e2, h⟩ := h
  refine zs_stk0 (zs_rfe e2) ?_
  obtain ⟨k3, h⟩ := h
  refine zg_4_62 rfl d_4026_54 k3 ?_
  refine zu_iconst d_4026_57 zi_4 ?_
  refine zu_cmpne (t := 78) d_4026_58 rfl (fun c4 => ?_) (fun c4 => ?_)
  · have h := h.1 c4
    exact (u_X5_named_78 hB h).weak ⟨rfl, rfl, trivial⟩
  · have h := h.2 c4
    refine zu_aload_n d_4026_61 rfl (zs_rr _) ?_
    refine zs_stk0 (zs_rfe e2) ?_
    refine zg_4_168 rfl d_4026_62 k3 ?_
    refine zl2_4_649 rfl d_4026_65 ?_
    refine zu_lle (t := 78) d_4026_68 d_4026_69 rfl (fun c5 => ?_) (fun c5 => ?_)
    · have h := h.1 c5
      exact (u_X5_named_78 hB h).weak ⟨rfl, rfl, trivial⟩
    · have h := h.2 c5
      exact (u_X5_named_72 hB h).weak ⟨rfl, trivial⟩
def w_X5_named_35 (X : zs_X) (d : Nat) (p0 : Nat) (p2 : Option Nat) (S : zs_T) (Q : zs_Q) : Prop :=
  (∃ b1, p2 = some b1 ∧ zs_K S b1 = some (.inl 7) ∧ ((¬ (zs_I S 7001 b1) = (3 : Int32) → w_X5_named_53 X d p0 p2 S Q) ∧ (¬ (¬ (zs_I S 7001 b1) = (3 : Int32)) → (∃ b5, (zs_R S 7006 b1) = some b5 ∧ zs_K S b5 = some (.inl 10) ∧ (((zs_R S 10006 b5) = none → w_X5_named_72 X d p0 S Q) ∧ (∀ b8, (zs_R S 10006 b5) = some b8 → w_X5_named_53 X d p0 p2 S Q))))))
theorem u_X5_named_35 {σ : Nat → Nat} {n0 : Nat} {bf : ab_B} {d : Nat} {p0 : Nat} {p2 : Option Nat} {S : zs_T} {Q : zs_Q} (hB : zt_B bf) (h : w_X5_named_35 (zx σ n0 bf) d p0 p2 S Q) : zs_U (zx σ n0 bf) d 4026 35 [(0, .ref p0), (2, va_rf p2)] [] S Q := by
  unfold w_X5_named_35 at h
  refine zu_aload_n d_4026_35 rfl (zs_rr _) ?_
  obtain ⟨b1, e2, h⟩ := h
  refine zs_stk0 (zs_rfe e2) ?_
  obtain ⟨k3, h⟩ := h
  refine zg_4_62 rfl d_4026_36 k3 ?_
  refine zu_iconst d_4026_39 zi_3 ?_
  refine zu_cmpne (t := 53) d_4026_40 rfl (fun c4 => ?_) (fun c4 => ?_)
  · have h := h.1 c4
    exact (u_X5_named_53 hB h).weak ⟨rfl, rfl, trivial⟩
  · have h := h.2 c4
    refine zu_aload_n d_4026_43 rfl (zs_rr _) ?_
    refine zs_stk0 (zs_rfe e2) ?_
    refine zg_4_243 rfl d_4026_44 k3 ?_
    obtain ⟨b5, e6, h⟩ := h
    refine zs_stk0 (zs_rfe e6) ?_
    obtain ⟨k7, h⟩ := h
    refine zg_4_255 rfl d_4026_47 k7 ?_
    refine zu_ifnull (u := (zs_R S 10006 b5)) (t := 72) d_4026_50 rfl rfl (fun e9 => ?_) (fun b8 e9 => ?_)
    · have h := h.1 e9
      exact (u_X5_named_72 hB h).weak ⟨rfl, trivial⟩
    · have h := h.2 b8 e9
      exact (u_X5_named_53 hB h).weak ⟨rfl, rfl, trivial⟩
def w_X5_named (X : zs_X) (d : Nat) (p0 : Nat) (S : zs_T) (Q : zs_Q) : Prop :=
  (zs_K S p0 = some (.inl 4) ∧ zs_C X d 4027 [.ref p0] S (zs_kR (fun v3 S2 => (((v3 = none → (zs_K S2 p0 = some (.inl 4) ∧ ∃ b7, (zs_R S2 4000 p0) = some b7 ∧ zs_K S2 b7 = some (.inl 5) ∧ zs_C X d 4028 [.ref p0, .int (zs_I S2 5004 b7)] S2 (zs_kR (fun v11 S10 => (((v11 = none → w_X5_named_72 X d p0 S10 Q) ∧ (∀ b12, v11 = some b12 → (zs_K S10 b12 = some (.inl 7) ∧ (((zs_I S10 7001 b12) = (1 : Int32) → w_X5_named_72 X d p0 S10 Q) ∧ (¬ ((zs_I S10 7001 b12) = (1 : Int32)) → w_X5_named_35 X d p0 v11 S10 Q))))))) Q))) ∧ (∀ b4, v3 = some b4 → (Q (.returned (some (va_rf v3))) S2))))) Q))
theorem u_X5_named {σ : Nat → Nat} {n0 : Nat} {bf : ab_B} {d : Nat} {p0 : Nat} {S : zs_T} {Q : zs_Q} (hB : zt_B bf) (hd : 1 ≤ d) (h : w_X5_named (zx σ n0 bf) (d - 1) p0 S Q) : zs_C (zx σ n0 bf) d 4026 [.ref p0] S Q := by
  have hL : lv_args 0 [.ref p0] = [(0, .ref p0)] := rfl
  refine zs_C.of1 (hB.2 4026 (by decide) (by decide)) hd (by rw [hL]; exact zs_sub_self _ (by exact ⟨rfl, trivial⟩)) ?_
  rw [hL]
  clear hL
  unfold w_X5_named at h
  refine zu_aload_n d_4026_0 rfl (zs_ra _) ?_
  obtain ⟨k1, h⟩ := h
  refine zc_4_646  hB rfl k1 d_4026_1 (Nat.le_of_ble_eq_true rfl) h (fun v3 S2 h => ?_)
  refine zu_astore_n d_4026_4 (zs_rr _) (zs_lt zq_4026 rfl) ?_
  refine zu_aload_n d_4026_5 rfl (zs_rr _) ?_
  refine zu_ifnull (u := v3) (t := 11) d_4026_6 rfl rfl (fun e5 => ?_) (fun b4 e5 => ?_)
  · have h := h.1 e5
    refine zu_aload_n d_4026_11 rfl (zs_ra _) ?_
    refine zu_aload_n d_4026_12 rfl (zs_ra _) ?_
    obtain ⟨k6, h⟩ := h
    refine zg_4_5 rfl d_4026_13 k6 ?_
    obtain ⟨b7, e8, h⟩ := h
    refine zs_stk0 (zs_rfe e8) ?_
    obtain ⟨k9, h⟩ := h
    refine zg_4_40 rfl d_4026_16 k9 ?_
    refine zc_4_318 (x0 := (zs_I S2 5004 b7)) hB rfl k6 d_4026_19 (Nat.le_of_ble_eq_true rfl) h (fun v11 S10 h => ?_)
    refine zu_astore_n d_4026_22 (zs_rr _) (zs_lt zq_4026 rfl) ?_
    refine zs_U.weak (L1 := [(2, va_rf v11), (0, .ref p0), (1, va_rf v3)]) ?_ ⟨rfl, zs_gp1 rfl (Or.inl rfl) rfl, zs_gp1 rfl (Or.inl (zs_cat _)) rfl, trivial⟩
    refine zu_aload_n d_4026_23 rfl (zs_rr _) ?_
    refine zu_ifnull (u := v11) (t := 72) d_4026_24 rfl rfl (fun e13 => ?_) (fun b12 e13 => ?_)
    · have h := h.1 e13
      exact (u_X5_named_72 hB h).weak ⟨rfl, trivial⟩
    · have h := h.2 b12 e13
      refine zu_aload_n d_4026_27 rfl (zs_rr _) ?_
      refine zs_stk0 (zs_rfe e13) ?_
      obtain ⟨k14, h⟩ := h
      refine zg_4_62 rfl d_4026_28 k14 ?_
      refine zu_iconst d_4026_31 zi_1 ?_
      refine zu_cmpeq (t := 72) d_4026_32 rfl (fun c15 => ?_) (fun c15 => ?_)
      · have h := h.1 c15
        exact (u_X5_named_72 hB h).weak ⟨rfl, trivial⟩
      · have h := h.2 c15
        exact (u_X5_named_35 hB h).weak ⟨rfl, rfl, trivial⟩
  · have h := h.2 b4 e5
    refine zu_aload_n d_4026_9 rfl (zs_rr _) ?_
    exact zu_aret d_4026_10 zr_4026 (zs_rr _) h
/-! SchemaPascal$Reader.discriminant()LSchemaPascal$Node; -/
theorem zm_4027 {σ : Nat → Nat} {n0 : Nat} {bf : ab_B} : ab_code (zx σ n0 bf).1 4027 = prog_9_method_73_code := rfl
theorem zq_4027 {σ : Nat → Nat} {n0 : Nat} {bf : ab_B} : ab_maxL (zx σ n0 bf).1 4027 = 3 := rfl
theorem zr_4027 {σ : Nat → Nat} {n0 : Nat} {bf : ab_B} : ab_ret (zx σ n0 bf).1 4027 = (Option.some (Jvm.ClassFile.FieldType.object "SchemaPascal$Node")) := rfl
theorem d_4027_0 {σ : Nat → Nat} {n0 : Nat} {bf : ab_B} : decode (ab_code (zx σ n0 bf).1 4027) 0 = .ok (.iconst 0, 1) := zd zm_4027 (by decide +kernel)
theorem d_4027_1 {σ : Nat → Nat} {n0 : Nat} {bf : ab_B} : decode (ab_code (zx σ n0 bf).1 4027) 1 = .ok (.istore_n 1, 1) := zd zm_4027 (by decide +kernel)
theorem d_4027_2 {σ : Nat → Nat} {n0 : Nat} {bf : ab_B} : decode (ab_code (zx σ n0 bf).1 4027) 2 = .ok (.aload_n 0, 1) := zd zm_4027 (by decide +kernel)
theorem d_4027_3 {σ : Nat → Nat} {n0 : Nat} {bf : ab_B} : decode (ab_code (zx σ n0 bf).1 4027) 3 = .ok (.getfield 200, 3) := zd zm_4027 (by decide +kernel)
theorem d_4027_6 {σ : Nat → Nat} {n0 : Nat} {bf : ab_B} : decode (ab_code (zx σ n0 bf).1 4027) 6 = .ok (.ifnull 99, 3) := zd zm_4027 (by decide +kernel)
theorem d_4027_9 {σ : Nat → Nat} {n0 : Nat} {bf : ab_B} : decode (ab_code (zx σ n0 bf).1 4027) 9 = .ok (.iload_n 1, 1) := zd zm_4027 (by decide +kernel)
theorem d_4027_10 {σ : Nat → Nat} {n0 : Nat} {bf : ab_B} : decode (ab_code (zx σ n0 bf).1 4027) 10 = .ok (.aload_n 0, 1) := zd zm_4027 (by decide +kernel)
theorem d_4027_11 {σ : Nat → Nat} {n0 : Nat} {bf : ab_B} : decode (ab_code (zx σ n0 bf).1 4027) 11 = .ok (.getfield 200, 3) := zd zm_4027 (by decide +kernel)
theorem d_4027_14 {σ : Nat → Nat} {n0 : Nat} {bf : ab_B} : decode (ab_code (zx σ n0 bf).1 4027) 14 = .ok (.getfield 323, 3) := zd zm_4027 (by decide +kernel)
theorem d_4027_17 {σ : Nat → Nat} {n0 : Nat} {bf : ab_B} : decode (ab_code (zx σ n0 bf).1 4027) 17 = .ok (.invokevirtual 50, 3) := zd zm_4027 (by decide +kernel)
theorem d_4027_20 {σ : Nat → Nat} {n0 : Nat} {bf : ab_B} : decode (ab_code (zx σ n0 bf).1 4027) 20 = .ok (.if_icmp .ge 85, 3) := zd zm_4027 (by decide +kernel)
theorem d_4027_23 {σ : Nat → Nat} {n0 : Nat} {bf : ab_B} : decode (ab_code (zx σ n0 bf).1 4027) 23 = .ok (.aload_n 0, 1) := zd zm_4027 (by decide +kernel)
theorem d_4027_24 {σ : Nat → Nat} {n0 : Nat} {bf : ab_B} : decode (ab_code (zx σ n0 bf).1 4027) 24 = .ok (.getfield 200, 3) := zd zm_4027 (by decide +kernel)
theorem d_4027_27 {σ : Nat → Nat} {n0 : Nat} {bf : ab_B} : decode (ab_code (zx σ n0 bf).1 4027) 27 = .ok (.getfield 323, 3) := zd zm_4027 (by decide +kernel)
theorem d_4027_30 {σ : Nat → Nat} {n0 : Nat} {bf : ab_B} : decode (ab_code (zx σ n0 bf).1 4027) 30 = .ok (.iload_n 1, 1) := zd zm_4027 (by decide +kernel)
theorem d_4027_31 {σ : Nat → Nat} {n0 : Nat} {bf : ab_B} : decode (ab_code (zx σ n0 bf).1 4027) 31 = .ok (.invokevirtual 56, 3) := zd zm_4027 (by decide +kernel)
theorem d_4027_34 {σ : Nat → Nat} {n0 : Nat} {bf : ab_B} : decode (ab_code (zx σ n0 bf).1 4027) 34 = .ok (.checkcast 93, 3) := zd zm_4027 (by decide +kernel)
theorem d_4027_37 {σ : Nat → Nat} {n0 : Nat} {bf : ab_B} : decode (ab_code (zx σ n0 bf).1 4027) 37 = .ok (.getfield 92, 3) := zd zm_4027 (by decide +kernel)
theorem d_4027_40 {σ : Nat → Nat} {n0 : Nat} {bf : ab_B} : decode (ab_code (zx σ n0 bf).1 4027) 40 = .ok (.aload_n 0, 1) := zd zm_4027 (by decide +kernel)
theorem d_4027_41 {σ : Nat → Nat} {n0 : Nat} {bf : ab_B} : decode (ab_code (zx σ n0 bf).1 4027) 41 = .ok (.getfield 5, 3) := zd zm_4027 (by decide +kernel)
theorem d_4027_44 {σ : Nat → Nat} {n0 : Nat} {bf : ab_B} : decode (ab_code (zx σ n0 bf).1 4027) 44 = .ok (.getfield 40, 3) := zd zm_4027 (by decide +kernel)
theorem d_4027_47 {σ : Nat → Nat} {n0 : Nat} {bf : ab_B} : decode (ab_code (zx σ n0 bf).1 4027) 47 = .ok (.if_icmp .eq 6, 3) := zd zm_4027 (by decide +kernel)
theorem d_4027_50 {σ : Nat → Nat} {n0 : Nat} {bf : ab_B} : decode (ab_code (zx σ n0 bf).1 4027) 50 = .ok (.goto 49, 3) := zd zm_4027 (by decide +kernel)
theorem d_4027_53 {σ : Nat → Nat} {n0 : Nat} {bf : ab_B} : decode (ab_code (zx σ n0 bf).1 4027) 53 = .ok (.aload_n 0, 1) := zd zm_4027 (by decide +kernel)
theorem d_4027_54 {σ : Nat → Nat} {n0 : Nat} {bf : ab_B} : decode (ab_code (zx σ n0 bf).1 4027) 54 = .ok (.bipush 10, 2) := zd zm_4027 (by decide +kernel)
theorem d_4027_56 {σ : Nat → Nat} {n0 : Nat} {bf : ab_B} : decode (ab_code (zx σ n0 bf).1 4027) 56 = .ok (.aload_n 0, 1) := zd zm_4027 (by decide +kernel)
theorem d_4027_57 {σ : Nat → Nat} {n0 : Nat} {bf : ab_B} : decode (ab_code (zx σ n0 bf).1 4027) 57 = .ok (.getfield 5, 3) := zd zm_4027 (by decide +kernel)
theorem d_4027_60 {σ : Nat → Nat} {n0 : Nat} {bf : ab_B} : decode (ab_code (zx σ n0 bf).1 4027) 60 = .ok (.getfield 11, 3) := zd zm_4027 (by decide +kernel)
theorem d_4027_63 {σ : Nat → Nat} {n0 : Nat} {bf : ab_B} : decode (ab_code (zx σ n0 bf).1 4027) 63 = .ok (.aload_n 0, 1) := zd zm_4027 (by decide +kernel)
theorem d_4027_64 {σ : Nat → Nat} {n0 : Nat} {bf : ab_B} : decode (ab_code (zx σ n0 bf).1 4027) 64 = .ok (.getfield 200, 3) := zd zm_4027 (by decide +kernel)
theorem d_4027_67 {σ : Nat → Nat} {n0 : Nat} {bf : ab_B} : decode (ab_code (zx σ n0 bf).1 4027) 67 = .ok (.getfield 323, 3) := zd zm_4027 (by decide +kernel)
theorem d_4027_70 {σ : Nat → Nat} {n0 : Nat} {bf : ab_B} : decode (ab_code (zx σ n0 bf).1 4027) 70 = .ok (.iload_n 1, 1) := zd zm_4027 (by decide +kernel)
theorem d_4027_71 {σ : Nat → Nat} {n0 : Nat} {bf : ab_B} : decode (ab_code (zx σ n0 bf).1 4027) 71 = .ok (.invokevirtual 56, 3) := zd zm_4027 (by decide +kernel)
theorem d_4027_74 {σ : Nat → Nat} {n0 : Nat} {bf : ab_B} : decode (ab_code (zx σ n0 bf).1 4027) 74 = .ok (.checkcast 93, 3) := zd zm_4027 (by decide +kernel)
theorem d_4027_77 {σ : Nat → Nat} {n0 : Nat} {bf : ab_B} : decode (ab_code (zx σ n0 bf).1 4027) 77 = .ok (.getfield 96, 3) := zd zm_4027 (by decide +kernel)
theorem d_4027_80 {σ : Nat → Nat} {n0 : Nat} {bf : ab_B} : decode (ab_code (zx σ n0 bf).1 4027) 80 = .ok (.invokevirtual 572, 3) := zd zm_4027 (by decide +kernel)
theorem d_4027_83 {σ : Nat → Nat} {n0 : Nat} {bf : ab_B} : decode (ab_code (zx σ n0 bf).1 4027) 83 = .ok (.astore_n 2, 1) := zd zm_4027 (by decide +kernel)
theorem d_4027_84 {σ : Nat → Nat} {n0 : Nat} {bf : ab_B} : decode (ab_code (zx σ n0 bf).1 4027) 84 = .ok (.aload_n 2, 1) := zd zm_4027 (by decide +kernel)
theorem d_4027_85 {σ : Nat → Nat} {n0 : Nat} {bf : ab_B} : decode (ab_code (zx σ n0 bf).1 4027) 85 = .ok (.iload_n 1, 1) := zd zm_4027 (by decide +kernel)
theorem d_4027_86 {σ : Nat → Nat} {n0 : Nat} {bf : ab_B} : decode (ab_code (zx σ n0 bf).1 4027) 86 = .ok (.i2l, 1) := zd zm_4027 (by decide +kernel)
theorem d_4027_87 {σ : Nat → Nat} {n0 : Nat} {bf : ab_B} : decode (ab_code (zx σ n0 bf).1 4027) 87 = .ok (.putfield 300, 3) := zd zm_4027 (by decide +kernel)
theorem d_4027_90 {σ : Nat → Nat} {n0 : Nat} {bf : ab_B} : decode (ab_code (zx σ n0 bf).1 4027) 90 = .ok (.aload_n 0, 1) := zd zm_4027 (by decide +kernel)
theorem d_4027_91 {σ : Nat → Nat} {n0 : Nat} {bf : ab_B} : decode (ab_code (zx σ n0 bf).1 4027) 91 = .ok (.getfield 5, 3) := zd zm_4027 (by decide +kernel)
theorem d_4027_94 {σ : Nat → Nat} {n0 : Nat} {bf : ab_B} : decode (ab_code (zx σ n0 bf).1 4027) 94 = .ok (.invokevirtual 29, 3) := zd zm_4027 (by decide +kernel)
theorem d_4027_97 {σ : Nat → Nat} {n0 : Nat} {bf : ab_B} : decode (ab_code (zx σ n0 bf).1 4027) 97 = .ok (.aload_n 2, 1) := zd zm_4027 (by decide +kernel)
theorem d_4027_98 {σ : Nat → Nat} {n0 : Nat} {bf : ab_B} : decode (ab_code (zx σ n0 bf).1 4027) 98 = .ok (.areturn, 1) := zd zm_4027 (by decide +kernel)
theorem d_4027_99 {σ : Nat → Nat} {n0 : Nat} {bf : ab_B} : decode (ab_code (zx σ n0 bf).1 4027) 99 = .ok (.iinc 1 1, 3) := zd zm_4027 (by decide +kernel)
theorem d_4027_102 {σ : Nat → Nat} {n0 : Nat} {bf : ab_B} : decode (ab_code (zx σ n0 bf).1 4027) 102 = .ok (.goto (-100), 3) := zd zm_4027 (by decide +kernel)
theorem d_4027_105 {σ : Nat → Nat} {n0 : Nat} {bf : ab_B} : decode (ab_code (zx σ n0 bf).1 4027) 105 = .ok (.aconst_null, 1) := zd zm_4027 (by decide +kernel)
theorem d_4027_106 {σ : Nat → Nat} {n0 : Nat} {bf : ab_B} : decode (ab_code (zx σ n0 bf).1 4027) 106 = .ok (.areturn, 1) := zd zm_4027 (by decide +kernel)
def w_X5_discriminant_90 (X : zs_X) (d : Nat) (p0 : Nat) (p2 : Option Nat) (S : zs_T) (Q : zs_Q) : Prop :=
  (zs_K S p0 = some (.inl 4) ∧ ∃ b2, (zs_R S 4000 p0) = some b2 ∧ zs_K S b2 = some (.inl 5) ∧ zs_C X d 5004 [.ref b2] S (zs_kV (fun S5 => (Q (.returned (some (va_rf p2))) S5)) Q))
theorem u_X5_discriminant_90 {σ : Nat → Nat} {n0 : Nat} {bf : ab_B} {d : Nat} {p0 : Nat} {p2 : Option Nat} {S : zs_T} {Q : zs_Q} (hB : zt_B bf) (h : w_X5_discriminant_90 (zx σ n0 bf) d p0 p2 S Q) : zs_U (zx σ n0 bf) d 4027 90 [(0, .ref p0), (2, va_rf p2)] [] S Q := by
  unfold w_X5_discriminant_90 at h
  refine zu_aload_n d_4027_90 rfl (zs_ra _) ?_
  obtain ⟨k1, h⟩ := h
  refine zg_4_5 rfl d_4027_91 k1 ?_
  obtain ⟨b2, e3, h⟩ := h
  refine zs_stk0 (zs_rfe e3) ?_
  obtain ⟨k4, h⟩ := h
  refine zc_4_29  hB rfl k4 d_4027_94 (Nat.le_of_ble_eq_true rfl) h (fun S5 h => ?_)
  refine zu_aload_n d_4027_97 rfl (zs_rr _) ?_
  exact zu_aret d_4027_98 zr_4027 (zs_rr _) h
def w_X5_discriminant_53 (X : zs_X) (d : Nat) (p0 : Nat) (p1 : Int32) (S : zs_T) (Q : zs_Q) : Prop :=
  (zs_K S p0 = some (.inl 4) ∧ ∃ b2, (zs_R S 4000 p0) = some b2 ∧ zs_K S b2 = some (.inl 5) ∧ ∃ b5, (zs_R S 4016 p0) = some b5 ∧ zs_K S b5 = some (.inl 6) ∧ ∃ b8, (zs_R S 6007 b5) = some b8 ∧ zs_K S b8 = some (.inl 16) ∧ zs_C X d 16009 [.ref b8, .int p1] S (zs_kR (fun v12 S11 => ((∀ a, v12 = some a → zs_K S11 a = some (.inl 12)) ∧ ∃ b14, v12 = some b14 ∧ zs_K S11 b14 = some (.inl 12) ∧ zs_K S11 p0 = some (.inl 4) ∧ zs_C X d 4016 [.ref p0, .int (10 : Int32), .int (zs_I S 5005 b2), va_rf (zs_R S11 12001 b14)] S11 (zs_kR (fun v19 S18 => (∃ b20, v19 = some b20 ∧ zs_K S18 b20 = some (.inl 11) ∧ ab_n0 X.1 ≤ b20 ∧ ∀ S24, S24 = zs_sJ S18 11004 b20 ((p1).toInt64) → w_X5_discriminant_90 X d p0 v19 S24 Q)) Q))) Q))
theorem u_X5_discriminant_53 {σ : Nat → Nat} {n0 : Nat} {bf : ab_B} {d : Nat} {p0 : Nat} {p1 : Int32} {S : zs_T} {Q : zs_Q} (hB : zt_B bf) (h : w_X5_discriminant_53 (zx σ n0 bf) d p0 p1 S Q) : zs_U (zx σ n0 bf) d 4027 53 [(0, .ref p0), (1, .int p1)] [] S Q := by
  unfold w_X5_discriminant_53 at h
  refine zu_aload_n d_4027_53 rfl (zs_ra _) ?_
  refine zu_bipush d_4027_54 zj_10 ?_
  refine zu_aload_n d_4027_56 rfl (zs_ra _) ?_
  obtain ⟨k1, h⟩ := h
  refine zg_4_5 rfl d_4027_57 k1 ?_
  obtain ⟨b2, e3, h⟩ := h
  refine zs_stk0 (zs_rfe e3) ?_
  obtain ⟨k4, h⟩ := h
  refine zg_4_11 rfl d_4027_60 k4 ?_
  refine zu_aload_n d_4027_63 rfl (zs_ra _) ?_
  refine zg_4_200 rfl d_4027_64 k1 ?_
  obtain ⟨b5, e6, h⟩ := h
  refine zs_stk0 (zs_rfe e6) ?_
  obtain ⟨k7, h⟩ := h
  refine zg_4_323 rfl d_4027_67 k7 ?_
  refine zu_iload_n d_4027_70 rfl ?_
  obtain ⟨b8, e9, h⟩ := h
  refine zs_stk1 (zs_rfe e9) ?_
  obtain ⟨k10, h⟩ := h
  refine zc_4_56 (x0 := p1) hB rfl k10 d_4027_71 (Nat.le_of_ble_eq_true rfl) h (fun v12 S11 h => ?_)
  obtain ⟨k13, h⟩ := h
  refine zk_4_93 (o := v12) rfl d_4027_74 k13 ?_
  obtain ⟨b14, e15, h⟩ := h
  refine zs_stk0 (zs_rfe e15) ?_
  obtain ⟨k16, h⟩ := h
  refine zg_4_96 rfl d_4027_77 k16 ?_
  obtain ⟨k17, h⟩ := h
  refine zc_4_572 (x0 := (10 : Int32)) (x1 := (zs_I S 5005 b2)) (x2 := (zs_R S11 12001 b14)) hB rfl k17 d_4027_80 (Nat.le_of_ble_eq_true rfl) h (fun v19 S18 h => ?_)
  refine zu_astore_n d_4027_83 (zs_rr _) (zs_lt zq_4027 rfl) ?_
  refine zu_aload_n d_4027_84 rfl (zs_rr _) ?_
  refine zu_iload_n d_4027_85 rfl ?_
  refine zu_stk d_4027_86 rfl rfl ?_
  obtain ⟨b20, e21, h⟩ := h
  refine zs_stk1 (zs_rfe e21) ?_
  obtain ⟨k22, h⟩ := h
  obtain ⟨k23, h⟩ := h
  refine zp_4_300 (v := ((p1).toInt64)) rfl d_4027_87 k22 k23 ?_
  generalize e25 : zs_sJ S18 11004 b20 ((p1).toInt64) = S24
  have h := h S24 e25.symm
  have K26 : ∀ b, zs_K S24 b = zs_K S18 b := zs_Kt e25 (zs_KsJ _ _ _ _) (fun _ => rfl)
  exact (u_X5_discriminant_90 hB h).weak ⟨rfl, rfl, trivial⟩
def w_X5_discriminant_50 (X : zs_X) (d : Nat) (p0 : Nat) (p1 : Int32) (S : zs_T) (Q : zs_Q) : Prop :=
  (zs_U X d 4027 2 [(0, .ref p0), (1, .int (p1 + (1 : Int32)))] [] S Q)
theorem u_X5_discriminant_50 {σ : Nat → Nat} {n0 : Nat} {bf : ab_B} {d : Nat} {p0 : Nat} {p1 : Int32} {S : zs_T} {Q : zs_Q} (hB : zt_B bf) (h : w_X5_discriminant_50 (zx σ n0 bf) d p0 p1 S Q) : zs_U (zx σ n0 bf) d 4027 50 [(0, .ref p0), (1, .int p1)] [] S Q := by
  unfold w_X5_discriminant_50 at h
  refine zu_goto (t := 99) d_4027_50 rfl ?_
  refine zu_iinc d_4027_99 rfl zi_1 (zs_lt zq_4027 rfl) ?_
  refine zu_goto (t := 2) d_4027_102 rfl ?_
  exact h.weak ⟨rfl, rfl, trivial⟩
def w_X5_discriminant_2 (X : zs_X) (d : Nat) (p0 : Nat) (p1 : Int32) (S : zs_T) (Q : zs_Q) : Prop :=
  (zs_K S p0 = some (.inl 4) ∧ (((zs_R S 4016 p0) = none → (Q (.returned (some (.null))) S)) ∧ (∀ b2, (zs_R S 4016 p0) = some b2 → (zs_K S b2 = some (.inl 6) ∧ ∃ b5, (zs_R S 6007 b2) = some b5 ∧ zs_K S b5 = some (.inl 16) ∧ zs_C X d 16001 [.ref b5] S (zs_kI (fun v9 S8 => (((v9 ≤ p1 → (Q (.returned (some (.null))) S8)) ∧ (¬ (v9 ≤ p1) → (zs_K S8 p0 = some (.inl 4) ∧ ∃ b12, (zs_R S8 4016 p0) = some b12 ∧ zs_K S8 b12 = some (.inl 6) ∧ ∃ b15, (zs_R S8 6007 b12) = some b15 ∧ zs_K S8 b15 = some (.inl 16) ∧ zs_C X d 16009 [.ref b15, .int p1] S8 (zs_kR (fun v19 S18 => ((∀ a, v19 = some a → zs_K S18 a = some (.inl 12)) ∧ ∃ b21, v19 = some b21 ∧ zs_K S18 b21 = some (.inl 12) ∧ zs_K S18 p0 = some (.inl 4) ∧ ∃ b25, (zs_R S18 4000 p0) = some b25 ∧ zs_K S18 b25 = some (.inl 5) ∧ (((zs_I S18 12000 b21) = (zs_I S18 5004 b25) → w_X5_discriminant_53 X d p0 p1 S18 Q) ∧ (¬ ((zs_I S18 12000 b21) = (zs_I S18 5004 b25)) → w_X5_discriminant_50 X d p0 p1 S18 Q)))) Q)))))) Q)))))
theorem u_X5_discriminant_2 {σ : Nat → Nat} {n0 : Nat} {bf : ab_B} {d : Nat} {p0 : Nat} {p1 : Int32} {S : zs_T} {Q : zs_Q} (hB : zt_B bf) (h : w_X5_discriminant_2 (zx σ n0 bf) d p0 p1 S Q) : zs_U (zx σ n0 bf) d 4027 2 [(0, .ref p0), (1, .int p1)] [] S Q := by
  unfold w_X5_discriminant_2 at h
  refine zu_aload_n d_4027_2 rfl (zs_ra _) ?_
  obtain ⟨k1, h⟩ := h
  refine zg_4_200 rfl d_4027_3 k1 ?_
  refine zu_ifnull (u := (zs_R S 4016 p0)) (t := 105) d_4027_6 rfl rfl (fun e3 => ?_) (fun b2 e3 => ?_)
  · have h := h.1 e3
    refine zu_stk d_4027_105 rfl rfl ?_
    exact zu_aret d_4027_106 zr_4027 zs_r0 h
  · have h := h.2 b2 e3
    refine zu_iload_n d_4027_9 rfl ?_
    refine zu_aload_n d_4027_10 rfl (zs_ra _) ?_
    refine zg_4_200 rfl d_4027_11 k1 ?_
    refine zs_stk0 (zs_rfe e3) ?_
    obtain ⟨k4, h⟩ := h
    refine zg_4_323 rfl d_4027_14 k4 ?_
    obtain ⟨b5, e6, h⟩ := h
    refine zs_stk0 (zs_rfe e6) ?_
    obtain ⟨k7, h⟩ := h
    refine zc_4_50  hB rfl k7 d_4027_17 (Nat.le_of_ble_eq_true rfl) h (fun v9 S8 h => ?_)
    refine zu_cmpge (t := 105) d_4027_20 rfl (fun c10 => ?_) (fun c10 => ?_)
    · have h := h.1 c10
      refine zu_stk d_4027_105 rfl rfl ?_
      exact zu_aret d_4027_106 zr_4027 zs_r0 h
    · have h := h.2 c10
      refine zu_aload_n d_4027_23 rfl (zs_ra _) ?_
      obtain ⟨k11, h⟩ := h
      refine zg_4_200 rfl d_4027_24 k11 ?_
      obtain ⟨b12, e13, h⟩ := h
      refine zs_stk0 (zs_rfe e13) ?_
      obtain ⟨k14, h⟩ := h
      refine zg_4_323 rfl d_4027_27 k14 ?_
      refine zu_iload_n d_4027_30 rfl ?_
      obtain ⟨b15, e16, h⟩ := h
      refine zs_stk1 (zs_rfe e16) ?_
      obtain ⟨k17, h⟩ := h
      refine zc_4_56 (x0 := p1) hB rfl k17 d_4027_31 (Nat.le_of_ble_eq_true rfl) h (fun v19 S18 h => ?_)
      obtain ⟨k20, h⟩ := h
      refine zk_4_93 (o := v19) rfl d_4027_34 k20 ?_
      obtain ⟨b21, e22, h⟩ := h
      refine zs_stk0 (zs_rfe e22) ?_
      obtain ⟨k23, h⟩ := h
      refine zg_4_92 rfl d_4027_37 k23 ?_
      refine zu_aload_n d_4027_40 rfl (zs_ra _) ?_
      obtain ⟨k24, h⟩ := h
      refine zg_4_5 rfl d_4027_41 k24 ?_
      obtain ⟨b25, e26, h⟩ := h
      refine zs_stk0 (zs_rfe e26) ?_
      obtain ⟨k27, h⟩ := h
      refine zg_4_40 rfl d_4027_44 k27 ?_
      refine zu_cmpeq (t := 53) d_4027_47 rfl (fun c28 => ?_) (fun c28 => ?_)
      · have h := h.1 c28
        exact (u_X5_discriminant_53 hB h).weak ⟨rfl, rfl, trivial⟩
      · have h := h.2 c28
        exact (u_X5_discriminant_50 hB h).weak ⟨rfl, rfl, trivial⟩
def w_X5_discriminant (X : zs_X) (d : Nat) (p0 : Nat) (S : zs_T) (Q : zs_Q) : Prop :=
  (zs_U X d 4027 2 [(0, .ref p0), (1, .int (0 : Int32))] [] S Q)
theorem u_X5_discriminant {σ : Nat → Nat} {n0 : Nat} {bf : ab_B} {d : Nat} {p0 : Nat} {S : zs_T} {Q : zs_Q} (hB : zt_B bf) (hd : 1 ≤ d) (h : w_X5_discriminant (zx σ n0 bf) (d - 1) p0 S Q) : zs_C (zx σ n0 bf) d 4027 [.ref p0] S Q := by
  have hL : lv_args 0 [.ref p0] = [(0, .ref p0)] := rfl
  refine zs_C.of1 (hB.2 4027 (by decide) (by decide)) hd (by rw [hL]; exact zs_sub_self _ (by exact ⟨rfl, trivial⟩)) ?_
  rw [hL]
  clear hL
  unfold w_X5_discriminant at h
  refine zu_iconst d_4027_0 zi_0 ?_
  refine zu_istore_n d_4027_1 (zs_lt zq_4027 rfl) ?_
  exact h.weak ⟨rfl, rfl, trivial⟩
/-! SchemaPascal$Reader.find(I)LSchemaPascal$Symbol; -/
theorem zm_4028 {σ : Nat → Nat} {n0 : Nat} {bf : ab_B} : ab_code (zx σ n0 bf).1 4028 = prog_9_method_6_code := rfl
theorem zq_4028 {σ : Nat → Nat} {n0 : Nat} {bf : ab_B} : ab_maxL (zx σ n0 bf).1 4028 = 5 := rfl
theorem zr_4028 {σ : Nat → Nat} {n0 : Nat} {bf : ab_B} : ab_ret (zx σ n0 bf).1 4028 = (Option.some (Jvm.ClassFile.FieldType.object "SchemaPascal$Symbol")) := rfl
theorem d_4028_0 {σ : Nat → Nat} {n0 : Nat} {bf : ab_B} : decode (ab_code (zx σ n0 bf).1 4028) 0 = .ok (.aload_n 0, 1) := zd zm_4028 (by decide +kernel)
theorem d_4028_1 {σ : Nat → Nat} {n0 : Nat} {bf : ab_B} : decode (ab_code (zx σ n0 bf).1 4028) 1 = .ok (.getfield 46, 3) := zd zm_4028 (by decide +kernel)
theorem d_4028_4 {σ : Nat → Nat} {n0 : Nat} {bf : ab_B} : decode (ab_code (zx σ n0 bf).1 4028) 4 = .ok (.invokevirtual 50, 3) := zd zm_4028 (by decide +kernel)
theorem d_4028_7 {σ : Nat → Nat} {n0 : Nat} {bf : ab_B} : decode (ab_code (zx σ n0 bf).1 4028) 7 = .ok (.iconst 1, 1) := zd zm_4028 (by decide +kernel)
theorem d_4028_8 {σ : Nat → Nat} {n0 : Nat} {bf : ab_B} : decode (ab_code (zx σ n0 bf).1 4028) 8 = .ok (.isub, 1) := zd zm_4028 (by decide +kernel)
theorem d_4028_9 {σ : Nat → Nat} {n0 : Nat} {bf : ab_B} : decode (ab_code (zx σ n0 bf).1 4028) 9 = .ok (.istore_n 2, 1) := zd zm_4028 (by decide +kernel)
theorem d_4028_10 {σ : Nat → Nat} {n0 : Nat} {bf : ab_B} : decode (ab_code (zx σ n0 bf).1 4028) 10 = .ok (.iload_n 2, 1) := zd zm_4028 (by decide +kernel)
theorem d_4028_11 {σ : Nat → Nat} {n0 : Nat} {bf : ab_B} : decode (ab_code (zx σ n0 bf).1 4028) 11 = .ok (.ifCond .lt 72, 3) := zd zm_4028 (by decide +kernel)
theorem d_4028_14 {σ : Nat → Nat} {n0 : Nat} {bf : ab_B} : decode (ab_code (zx σ n0 bf).1 4028) 14 = .ok (.aload_n 0, 1) := zd zm_4028 (by decide +kernel)
theorem d_4028_15 {σ : Nat → Nat} {n0 : Nat} {bf : ab_B} : decode (ab_code (zx σ n0 bf).1 4028) 15 = .ok (.getfield 46, 3) := zd zm_4028 (by decide +kernel)
theorem d_4028_18 {σ : Nat → Nat} {n0 : Nat} {bf : ab_B} : decode (ab_code (zx σ n0 bf).1 4028) 18 = .ok (.iload_n 2, 1) := zd zm_4028 (by decide +kernel)
theorem d_4028_19 {σ : Nat → Nat} {n0 : Nat} {bf : ab_B} : decode (ab_code (zx σ n0 bf).1 4028) 19 = .ok (.invokevirtual 56, 3) := zd zm_4028 (by decide +kernel)
theorem d_4028_22 {σ : Nat → Nat} {n0 : Nat} {bf : ab_B} : decode (ab_code (zx σ n0 bf).1 4028) 22 = .ok (.checkcast 60, 3) := zd zm_4028 (by decide +kernel)
theorem d_4028_25 {σ : Nat → Nat} {n0 : Nat} {bf : ab_B} : decode (ab_code (zx σ n0 bf).1 4028) 25 = .ok (.astore_n 3, 1) := zd zm_4028 (by decide +kernel)
theorem d_4028_26 {σ : Nat → Nat} {n0 : Nat} {bf : ab_B} : decode (ab_code (zx σ n0 bf).1 4028) 26 = .ok (.aload_n 3, 1) := zd zm_4028 (by decide +kernel)
theorem d_4028_27 {σ : Nat → Nat} {n0 : Nat} {bf : ab_B} : decode (ab_code (zx σ n0 bf).1 4028) 27 = .ok (.getfield 62, 3) := zd zm_4028 (by decide +kernel)
theorem d_4028_30 {σ : Nat → Nat} {n0 : Nat} {bf : ab_B} : decode (ab_code (zx σ n0 bf).1 4028) 30 = .ok (.bipush 6, 2) := zd zm_4028 (by decide +kernel)
theorem d_4028_32 {σ : Nat → Nat} {n0 : Nat} {bf : ab_B} : decode (ab_code (zx σ n0 bf).1 4028) 32 = .ok (.if_icmp .ne 20, 3) := zd zm_4028 (by decide +kernel)
theorem d_4028_35 {σ : Nat → Nat} {n0 : Nat} {bf : ab_B} : decode (ab_code (zx σ n0 bf).1 4028) 35 = .ok (.aload_n 3, 1) := zd zm_4028 (by decide +kernel)
theorem d_4028_36 {σ : Nat → Nat} {n0 : Nat} {bf : ab_B} : decode (ab_code (zx σ n0 bf).1 4028) 36 = .ok (.getfield 65, 3) := zd zm_4028 (by decide +kernel)
theorem d_4028_39 {σ : Nat → Nat} {n0 : Nat} {bf : ab_B} : decode (ab_code (zx σ n0 bf).1 4028) 39 = .ok (.invokevirtual 69, 3) := zd zm_4028 (by decide +kernel)
theorem d_4028_42 {σ : Nat → Nat} {n0 : Nat} {bf : ab_B} : decode (ab_code (zx σ n0 bf).1 4028) 42 = .ok (.getfield 75, 3) := zd zm_4028 (by decide +kernel)
theorem d_4028_45 {σ : Nat → Nat} {n0 : Nat} {bf : ab_B} : decode (ab_code (zx σ n0 bf).1 4028) 45 = .ok (.iload_n 1, 1) := zd zm_4028 (by decide +kernel)
theorem d_4028_46 {σ : Nat → Nat} {n0 : Nat} {bf : ab_B} : decode (ab_code (zx σ n0 bf).1 4028) 46 = .ok (.invokevirtual 79, 3) := zd zm_4028 (by decide +kernel)
theorem d_4028_49 {σ : Nat → Nat} {n0 : Nat} {bf : ab_B} : decode (ab_code (zx σ n0 bf).1 4028) 49 = .ok (.goto 4, 3) := zd zm_4028 (by decide +kernel)
theorem d_4028_52 {σ : Nat → Nat} {n0 : Nat} {bf : ab_B} : decode (ab_code (zx σ n0 bf).1 4028) 52 = .ok (.aconst_null, 1) := zd zm_4028 (by decide +kernel)
theorem d_4028_53 {σ : Nat → Nat} {n0 : Nat} {bf : ab_B} : decode (ab_code (zx σ n0 bf).1 4028) 53 = .ok (.astore 4, 2) := zd zm_4028 (by decide +kernel)
theorem d_4028_55 {σ : Nat → Nat} {n0 : Nat} {bf : ab_B} : decode (ab_code (zx σ n0 bf).1 4028) 55 = .ok (.aload 4, 2) := zd zm_4028 (by decide +kernel)
theorem d_4028_57 {σ : Nat → Nat} {n0 : Nat} {bf : ab_B} : decode (ab_code (zx σ n0 bf).1 4028) 57 = .ok (.ifnull 10, 3) := zd zm_4028 (by decide +kernel)
theorem d_4028_60 {σ : Nat → Nat} {n0 : Nat} {bf : ab_B} : decode (ab_code (zx σ n0 bf).1 4028) 60 = .ok (.aload_n 3, 1) := zd zm_4028 (by decide +kernel)
theorem d_4028_61 {σ : Nat → Nat} {n0 : Nat} {bf : ab_B} : decode (ab_code (zx σ n0 bf).1 4028) 61 = .ok (.aload 4, 2) := zd zm_4028 (by decide +kernel)
theorem d_4028_63 {σ : Nat → Nat} {n0 : Nat} {bf : ab_B} : decode (ab_code (zx σ n0 bf).1 4028) 63 = .ok (.invokestatic 85, 3) := zd zm_4028 (by decide +kernel)
theorem d_4028_66 {σ : Nat → Nat} {n0 : Nat} {bf : ab_B} : decode (ab_code (zx σ n0 bf).1 4028) 66 = .ok (.areturn, 1) := zd zm_4028 (by decide +kernel)
theorem d_4028_67 {σ : Nat → Nat} {n0 : Nat} {bf : ab_B} : decode (ab_code (zx σ n0 bf).1 4028) 67 = .ok (.aload_n 3, 1) := zd zm_4028 (by decide +kernel)
theorem d_4028_68 {σ : Nat → Nat} {n0 : Nat} {bf : ab_B} : decode (ab_code (zx σ n0 bf).1 4028) 68 = .ok (.getfield 89, 3) := zd zm_4028 (by decide +kernel)
theorem d_4028_71 {σ : Nat → Nat} {n0 : Nat} {bf : ab_B} : decode (ab_code (zx σ n0 bf).1 4028) 71 = .ok (.iload_n 1, 1) := zd zm_4028 (by decide +kernel)
theorem d_4028_72 {σ : Nat → Nat} {n0 : Nat} {bf : ab_B} : decode (ab_code (zx σ n0 bf).1 4028) 72 = .ok (.if_icmp .ne 5, 3) := zd zm_4028 (by decide +kernel)
theorem d_4028_75 {σ : Nat → Nat} {n0 : Nat} {bf : ab_B} : decode (ab_code (zx σ n0 bf).1 4028) 75 = .ok (.aload_n 3, 1) := zd zm_4028 (by decide +kernel)
theorem d_4028_76 {σ : Nat → Nat} {n0 : Nat} {bf : ab_B} : decode (ab_code (zx σ n0 bf).1 4028) 76 = .ok (.areturn, 1) := zd zm_4028 (by decide +kernel)
theorem d_4028_77 {σ : Nat → Nat} {n0 : Nat} {bf : ab_B} : decode (ab_code (zx σ n0 bf).1 4028) 77 = .ok (.iinc 2 (-1), 3) := zd zm_4028 (by decide +kernel)
theorem d_4028_80 {σ : Nat → Nat} {n0 : Nat} {bf : ab_B} : decode (ab_code (zx σ n0 bf).1 4028) 80 = .ok (.goto (-70), 3) := zd zm_4028 (by decide +kernel)
theorem d_4028_83 {σ : Nat → Nat} {n0 : Nat} {bf : ab_B} : decode (ab_code (zx σ n0 bf).1 4028) 83 = .ok (.aconst_null, 1) := zd zm_4028 (by decide +kernel)
theorem d_4028_84 {σ : Nat → Nat} {n0 : Nat} {bf : ab_B} : decode (ab_code (zx σ n0 bf).1 4028) 84 = .ok (.areturn, 1) := zd zm_4028 (by decide +kernel)
def w_X5_find_53 (X : zs_X) (d : Nat) (p0 : Nat) (p1 : Int32) (p2 : Int32) (p3 : Option Nat) (q0 : Option Nat) (S : zs_T) (Q : zs_Q) : Prop :=
  (((q0 = none → (∃ b3, p3 = some b3 ∧ zs_K S b3 = some (.inl 7) ∧ ((¬ (zs_I S 7000 b3) = p1 → (zs_U X d 4028 10 [(0, .ref p0), (1, .int p1), (2, .int (p2 + (-1 : Int32)))] [] S Q)) ∧ (¬ (¬ (zs_I S 7000 b3) = p1) → (Q (.returned (some (va_rf p3))) S))))) ∧ (∀ b1, q0 = some b1 → (zs_C X d 4029 [va_rf p3, va_rf q0] S (zs_kR (fun v8 S7 => (Q (.returned (some (va_rf v8))) S7)) Q)))))
theorem u_X5_find_53 {σ : Nat → Nat} {n0 : Nat} {bf : ab_B} {d : Nat} {p0 : Nat} {p1 : Int32} {p2 : Int32} {p3 : Option Nat} {q0 : Option Nat} {S : zs_T} {Q : zs_Q} (hB : zt_B bf) (h : w_X5_find_53 (zx σ n0 bf) d p0 p1 p2 p3 q0 S Q) : zs_U (zx σ n0 bf) d 4028 53 [(0, .ref p0), (1, .int p1), (2, .int p2), (3, va_rf p3)] [va_rf q0] S Q := by
  unfold w_X5_find_53 at h
  refine zu_astore d_4028_53 (zs_rr _) (zs_lt zq_4028 rfl) ?_
  refine zs_U.weak (L1 := [(4, va_rf q0), (0, .ref p0), (1, .int p1), (2, .int p2), (3, va_rf p3)]) ?_ ⟨rfl, zs_gp1 rfl (Or.inl rfl) rfl, zs_gp1 rfl (Or.inl rfl) rfl, zs_gp1 rfl (Or.inl rfl) rfl, zs_gp1 rfl (Or.inl (zs_cat _)) rfl, trivial⟩
  refine zu_aload d_4028_55 rfl (zs_rr _) ?_
  refine zu_ifnull (u := q0) (t := 67) d_4028_57 rfl rfl (fun e2 => ?_) (fun b1 e2 => ?_)
  · have h := h.1 e2
    refine zu_aload_n d_4028_67 rfl (zs_rr _) ?_
    obtain ⟨b3, e4, h⟩ := h
    refine zs_stk0 (zs_rfe e4) ?_
    obtain ⟨k5, h⟩ := h
    refine zg_4_89 rfl d_4028_68 k5 ?_
    refine zu_iload_n d_4028_71 rfl ?_
    refine zu_cmpne (t := 77) d_4028_72 rfl (fun c6 => ?_) (fun c6 => ?_)
    · have h := h.1 c6
      refine zu_iinc d_4028_77 rfl zi_m1 (zs_lt zq_4028 rfl) ?_
      refine zu_goto (t := 10) d_4028_80 rfl ?_
      exact h.weak ⟨rfl, rfl, rfl, trivial⟩
    · have h := h.2 c6
      refine zu_aload_n d_4028_75 rfl (zs_rr _) ?_
      exact zu_aret d_4028_76 zr_4028 (zs_rr _) h
  · have h := h.2 b1 e2
    refine zu_aload_n d_4028_60 rfl (zs_rr _) ?_
    refine zu_aload d_4028_61 rfl (zs_rr _) ?_
    refine zc_4_85 (x0 := p3) (x1 := q0) hB rfl d_4028_63 (Nat.le_of_ble_eq_true rfl) h (fun v8 S7 h => ?_)
    exact zu_aret d_4028_66 zr_4028 (zs_rr _) h
def w_X5_find_10 (X : zs_X) (d : Nat) (p0 : Nat) (p1 : Int32) (p2 : Int32) (S : zs_T) (Q : zs_Q) : Prop :=
  (((p2 < 0 → (Q (.returned (some (.null))) S)) ∧ (¬ (p2 < 0) → (zs_K S p0 = some (.inl 4) ∧ ∃ b3, (zs_R S 4008 p0) = some b3 ∧ zs_K S b3 = some (.inl 16) ∧ zs_C X d 16009 [.ref b3, .int p2] S (zs_kR (fun v7 S6 => ((∀ a, v7 = some a → zs_K S6 a = some (.inl 7)) ∧ ∃ b9, v7 = some b9 ∧ zs_K S6 b9 = some (.inl 7) ∧ ((¬ (zs_I S6 7001 b9) = (6 : Int32) → (w_X5_find_53 X d p0 p1 p2 v7 none S6 Q)) ∧ (¬ (¬ (zs_I S6 7001 b9) = (6 : Int32)) → (∃ b13, (zs_R S6 7002 b9) = some b13 ∧ zs_K S6 b13 = some (.inl 6) ∧ zs_C X d 6003 [.ref b13] S6 (zs_kR (fun v17 S16 => (∃ b18, v17 = some b18 ∧ zs_K S16 b18 = some (.inl 6) ∧ ∃ b21, (zs_R S16 6006 b18) = some b21 ∧ zs_K S16 b21 = some (.inl 13) ∧ zs_C X d 13000 [.ref b21, .int p1] S16 (zs_kR (fun v25 S24 => (w_X5_find_53 X d p0 p1 p2 v7 v25 S24 Q)) Q))) Q)))))) Q)))))
theorem u_X5_find_10 {σ : Nat → Nat} {n0 : Nat} {bf : ab_B} {d : Nat} {p0 : Nat} {p1 : Int32} {p2 : Int32} {S : zs_T} {Q : zs_Q} (hB : zt_B bf) (h : w_X5_find_10 (zx σ n0 bf) d p0 p1 p2 S Q) : zs_U (zx σ n0 bf) d 4028 10 [(0, .ref p0), (1, .int p1), (2, .int p2)] [] S Q := by
  unfold w_X5_find_10 at h
  refine zu_iload_n d_4028_10 rfl ?_
  refine zu_iflt (t := 83) d_4028_11 rfl (fun c1 => ?_) (fun c1 => ?_)
  · have h := h.1 c1
    refine zu_stk d_4028_83 rfl rfl ?_
    exact zu_aret d_4028_84 zr_4028 zs_r0 h
  · have h := h.2 c1
    refine zu_aload_n d_4028_14 rfl (zs_ra _) ?_
    obtain ⟨k2, h⟩ := h
    refine zg_4_46 rfl d_4028_15 k2 ?_
    refine zu_iload_n d_4028_18 rfl ?_
    obtain ⟨b3, e4, h⟩ := h
    refine zs_stk1 (zs_rfe e4) ?_
    obtain ⟨k5, h⟩ := h
    refine zc_4_56 (x0 := p2) hB rfl k5 d_4028_19 (Nat.le_of_ble_eq_true rfl) h (fun v7 S6 h => ?_)
    obtain ⟨k8, h⟩ := h
    refine zk_4_60 (o := v7) rfl d_4028_22 k8 ?_
    refine zu_astore_n d_4028_25 (zs_rr _) (zs_lt zq_4028 rfl) ?_
    refine zu_aload_n d_4028_26 rfl (zs_rr _) ?_
    obtain ⟨b9, e10, h⟩ := h
    refine zs_stk0 (zs_rfe e10) ?_
    obtain ⟨k11, h⟩ := h
    refine zg_4_62 rfl d_4028_27 k11 ?_
    refine zu_bipush d_4028_30 zj_6 ?_
    refine zu_cmpne (t := 52) d_4028_32 rfl (fun c12 => ?_) (fun c12 => ?_)
    · have h := h.1 c12
      refine zu_stk d_4028_52 rfl rfl ?_
      exact (u_X5_find_53 hB h).weak ⟨rfl, rfl, rfl, rfl, trivial⟩
    · have h := h.2 c12
      refine zu_aload_n d_4028_35 rfl (zs_rr _) ?_
      refine zs_stk0 (zs_rfe e10) ?_
      refine zg_4_65 rfl d_4028_36 k11 ?_
      obtain ⟨b13, e14, h⟩ := h
      refine zs_stk0 (zs_rfe e14) ?_
      obtain ⟨k15, h⟩ := h
      refine zc_4_69  hB rfl k15 d_4028_39 (Nat.le_of_ble_eq_true rfl) h (fun v17 S16 h => ?_)
      obtain ⟨b18, e19, h⟩ := h
      refine zs_stk0 (zs_rfe e19) ?_
      obtain ⟨k20, h⟩ := h
      refine zg_4_75 rfl d_4028_42 k20 ?_
      refine zu_iload_n d_4028_45 rfl ?_
      obtain ⟨b21, e22, h⟩ := h
      refine zs_stk1 (zs_rfe e22) ?_
      obtain ⟨k23, h⟩ := h
      refine zc_4_79 (x0 := p1) hB rfl k23 d_4028_46 (Nat.le_of_ble_eq_true rfl) h (fun v25 S24 h => ?_)
      refine zu_goto (t := 53) d_4028_49 rfl ?_
      exact (u_X5_find_53 hB h).weak ⟨rfl, rfl, rfl, rfl, trivial⟩
def w_X5_find (X : zs_X) (d : Nat) (p0 : Nat) (p1 : Int32) (S : zs_T) (Q : zs_Q) : Prop :=
  (zs_K S p0 = some (.inl 4) ∧ ∃ b2, (zs_R S 4008 p0) = some b2 ∧ zs_K S b2 = some (.inl 16) ∧ zs_C X d 16001 [.ref b2] S (zs_kI (fun v6 S5 => (zs_U X d 4028 10 [(0, .ref p0), (1, .int p1), (2, .int (v6 - (1 : Int32)))] [] S5 Q)) Q))
theorem u_X5_find {σ : Nat → Nat} {n0 : Nat} {bf : ab_B} {d : Nat} {p0 : Nat} {p1 : Int32} {S : zs_T} {Q : zs_Q} (hB : zt_B bf) (hd : 1 ≤ d) (h : w_X5_find (zx σ n0 bf) (d - 1) p0 p1 S Q) : zs_C (zx σ n0 bf) d 4028 [.ref p0, .int p1] S Q := by
  have hL : lv_args 0 [.ref p0, .int p1] = [(0, .ref p0), (1, .int p1)] := rfl
  refine zs_C.of1 (hB.2 4028 (by decide) (by decide)) hd (by rw [hL]; exact zs_sub_self _ (by exact ⟨rfl, rfl, trivial⟩)) ?_
  rw [hL]
  clear hL
  unfold w_X5_find at h
  refine zu_aload_n d_4028_0 rfl (zs_ra _) ?_
  obtain ⟨k1, h⟩ := h
  refine zg_4_46 rfl d_4028_1 k1 ?_
  obtain ⟨b2, e3, h⟩ := h
  refine zs_stk0 (zs_rfe e3) ?_
  obtain ⟨k4, h⟩ := h
  refine zc_4_50  hB rfl k4 d_4028_4 (Nat.le_of_ble_eq_true rfl) h (fun v6 S5 h => ?_)
  refine zu_iconst d_4028_7 zi_1 ?_
  refine zu_stk d_4028_8 rfl rfl ?_
  refine zu_istore_n d_4028_9 (zs_lt zq_4028 rfl) ?_
  exact h.weak ⟨rfl, rfl, rfl, trivial⟩
/-! SchemaPascal$Reader.fieldOf(LSchemaPascal$Symbol;LSchemaPascal$Field;)LSchemaPascal$Symbol; -/
theorem zm_4029 {σ : Nat → Nat} {n0 : Nat} {bf : ab_B} : ab_code (zx σ n0 bf).1 4029 = prog_9_method_7_code := rfl
theorem zq_4029 {σ : Nat → Nat} {n0 : Nat} {bf : ab_B} : ab_maxL (zx σ n0 bf).1 4029 = 3 := rfl
theorem zr_4029 {σ : Nat → Nat} {n0 : Nat} {bf : ab_B} : ab_ret (zx σ n0 bf).1 4029 = (Option.some (Jvm.ClassFile.FieldType.object "SchemaPascal$Symbol")) := rfl
theorem d_4029_0 {σ : Nat → Nat} {n0 : Nat} {bf : ab_B} : decode (ab_code (zx σ n0 bf).1 4029) 0 = .ok (.new 60, 3) := zd zm_4029 (by decide +kernel)
theorem d_4029_3 {σ : Nat → Nat} {n0 : Nat} {bf : ab_B} : decode (ab_code (zx σ n0 bf).1 4029) 3 = .ok (.dup, 1) := zd zm_4029 (by decide +kernel)
theorem d_4029_4 {σ : Nat → Nat} {n0 : Nat} {bf : ab_B} : decode (ab_code (zx σ n0 bf).1 4029) 4 = .ok (.aload_n 1, 1) := zd zm_4029 (by decide +kernel)
theorem d_4029_5 {σ : Nat → Nat} {n0 : Nat} {bf : ab_B} : decode (ab_code (zx σ n0 bf).1 4029) 5 = .ok (.getfield 92, 3) := zd zm_4029 (by decide +kernel)
theorem d_4029_8 {σ : Nat → Nat} {n0 : Nat} {bf : ab_B} : decode (ab_code (zx σ n0 bf).1 4029) 8 = .ok (.iconst 5, 1) := zd zm_4029 (by decide +kernel)
theorem d_4029_9 {σ : Nat → Nat} {n0 : Nat} {bf : ab_B} : decode (ab_code (zx σ n0 bf).1 4029) 9 = .ok (.invokespecial 95, 3) := zd zm_4029 (by decide +kernel)
theorem d_4029_12 {σ : Nat → Nat} {n0 : Nat} {bf : ab_B} : decode (ab_code (zx σ n0 bf).1 4029) 12 = .ok (.astore_n 2, 1) := zd zm_4029 (by decide +kernel)
theorem d_4029_13 {σ : Nat → Nat} {n0 : Nat} {bf : ab_B} : decode (ab_code (zx σ n0 bf).1 4029) 13 = .ok (.aload_n 2, 1) := zd zm_4029 (by decide +kernel)
theorem d_4029_14 {σ : Nat → Nat} {n0 : Nat} {bf : ab_B} : decode (ab_code (zx σ n0 bf).1 4029) 14 = .ok (.aload_n 1, 1) := zd zm_4029 (by decide +kernel)
theorem d_4029_15 {σ : Nat → Nat} {n0 : Nat} {bf : ab_B} : decode (ab_code (zx σ n0 bf).1 4029) 15 = .ok (.getfield 96, 3) := zd zm_4029 (by decide +kernel)
theorem d_4029_18 {σ : Nat → Nat} {n0 : Nat} {bf : ab_B} : decode (ab_code (zx σ n0 bf).1 4029) 18 = .ok (.putfield 65, 3) := zd zm_4029 (by decide +kernel)
theorem d_4029_21 {σ : Nat → Nat} {n0 : Nat} {bf : ab_B} : decode (ab_code (zx σ n0 bf).1 4029) 21 = .ok (.aload_n 2, 1) := zd zm_4029 (by decide +kernel)
theorem d_4029_22 {σ : Nat → Nat} {n0 : Nat} {bf : ab_B} : decode (ab_code (zx σ n0 bf).1 4029) 22 = .ok (.aload_n 1, 1) := zd zm_4029 (by decide +kernel)
theorem d_4029_23 {σ : Nat → Nat} {n0 : Nat} {bf : ab_B} : decode (ab_code (zx σ n0 bf).1 4029) 23 = .ok (.putfield 97, 3) := zd zm_4029 (by decide +kernel)
theorem d_4029_26 {σ : Nat → Nat} {n0 : Nat} {bf : ab_B} : decode (ab_code (zx σ n0 bf).1 4029) 26 = .ok (.aload_n 2, 1) := zd zm_4029 (by decide +kernel)
theorem d_4029_27 {σ : Nat → Nat} {n0 : Nat} {bf : ab_B} : decode (ab_code (zx σ n0 bf).1 4029) 27 = .ok (.aload_n 0, 1) := zd zm_4029 (by decide +kernel)
theorem d_4029_28 {σ : Nat → Nat} {n0 : Nat} {bf : ab_B} : decode (ab_code (zx σ n0 bf).1 4029) 28 = .ok (.getfield 65, 3) := zd zm_4029 (by decide +kernel)
theorem d_4029_31 {σ : Nat → Nat} {n0 : Nat} {bf : ab_B} : decode (ab_code (zx σ n0 bf).1 4029) 31 = .ok (.putfield 101, 3) := zd zm_4029 (by decide +kernel)
theorem d_4029_34 {σ : Nat → Nat} {n0 : Nat} {bf : ab_B} : decode (ab_code (zx σ n0 bf).1 4029) 34 = .ok (.aload_n 2, 1) := zd zm_4029 (by decide +kernel)
theorem d_4029_35 {σ : Nat → Nat} {n0 : Nat} {bf : ab_B} : decode (ab_code (zx σ n0 bf).1 4029) 35 = .ok (.aload_n 0, 1) := zd zm_4029 (by decide +kernel)
theorem d_4029_36 {σ : Nat → Nat} {n0 : Nat} {bf : ab_B} : decode (ab_code (zx σ n0 bf).1 4029) 36 = .ok (.getfield 104, 3) := zd zm_4029 (by decide +kernel)
theorem d_4029_39 {σ : Nat → Nat} {n0 : Nat} {bf : ab_B} : decode (ab_code (zx σ n0 bf).1 4029) 39 = .ok (.putfield 104, 3) := zd zm_4029 (by decide +kernel)
theorem d_4029_42 {σ : Nat → Nat} {n0 : Nat} {bf : ab_B} : decode (ab_code (zx σ n0 bf).1 4029) 42 = .ok (.aload_n 2, 1) := zd zm_4029 (by decide +kernel)
theorem d_4029_43 {σ : Nat → Nat} {n0 : Nat} {bf : ab_B} : decode (ab_code (zx σ n0 bf).1 4029) 43 = .ok (.aload_n 0, 1) := zd zm_4029 (by decide +kernel)
theorem d_4029_44 {σ : Nat → Nat} {n0 : Nat} {bf : ab_B} : decode (ab_code (zx σ n0 bf).1 4029) 44 = .ok (.getfield 107, 3) := zd zm_4029 (by decide +kernel)
theorem d_4029_47 {σ : Nat → Nat} {n0 : Nat} {bf : ab_B} : decode (ab_code (zx σ n0 bf).1 4029) 47 = .ok (.putfield 107, 3) := zd zm_4029 (by decide +kernel)
theorem d_4029_50 {σ : Nat → Nat} {n0 : Nat} {bf : ab_B} : decode (ab_code (zx σ n0 bf).1 4029) 50 = .ok (.aload_n 2, 1) := zd zm_4029 (by decide +kernel)
theorem d_4029_51 {σ : Nat → Nat} {n0 : Nat} {bf : ab_B} : decode (ab_code (zx σ n0 bf).1 4029) 51 = .ok (.aload_n 0, 1) := zd zm_4029 (by decide +kernel)
theorem d_4029_52 {σ : Nat → Nat} {n0 : Nat} {bf : ab_B} : decode (ab_code (zx σ n0 bf).1 4029) 52 = .ok (.getfield 111, 3) := zd zm_4029 (by decide +kernel)
theorem d_4029_55 {σ : Nat → Nat} {n0 : Nat} {bf : ab_B} : decode (ab_code (zx σ n0 bf).1 4029) 55 = .ok (.putfield 111, 3) := zd zm_4029 (by decide +kernel)
theorem d_4029_58 {σ : Nat → Nat} {n0 : Nat} {bf : ab_B} : decode (ab_code (zx σ n0 bf).1 4029) 58 = .ok (.aload_n 2, 1) := zd zm_4029 (by decide +kernel)
theorem d_4029_59 {σ : Nat → Nat} {n0 : Nat} {bf : ab_B} : decode (ab_code (zx σ n0 bf).1 4029) 59 = .ok (.areturn, 1) := zd zm_4029 (by decide +kernel)
def w_X5_fieldOf_34 (X : zs_X) (d : Nat) (p0 : Option Nat) (p2 : Option Nat) (S : zs_T) (Q : zs_Q) : Prop :=
  (∃ b1, p0 = some b1 ∧ zs_K S b1 = some (.inl 7) ∧ ∃ b4, p2 = some b4 ∧ zs_K S b4 = some (.inl 7) ∧ ab_n0 X.1 ≤ b4 ∧ ∀ S8, S8 = zs_sI S 7008 b4 (zs_I S 7008 b1) → ∀ S11, S11 = zs_sR S8 7007 b4 (zs_R S8 7007 b1) → zs_b (zs_I S11 7009 b1) ∧ ∀ S15, S15 = zs_sI S11 7009 b4 (zs_I S11 7009 b1) → Q (.returned (some (va_rf p2))) S15)
theorem u_X5_fieldOf_34 {σ : Nat → Nat} {n0 : Nat} {bf : ab_B} {d : Nat} {p0 : Option Nat} {p2 : Option Nat} {S : zs_T} {Q : zs_Q} (hB : zt_B bf) (h : w_X5_fieldOf_34 (zx σ n0 bf) d p0 p2 S Q) : zs_U (zx σ n0 bf) d 4029 34 [(0, va_rf p0), (2, va_rf p2)] [] S Q := by
  unfold w_X5_fieldOf_34 at h
  refine zu_aload_n d_4029_34 rfl (zs_rr _) ?_
  refine zu_aload_n d_4029_35 rfl (zs_rr _) ?_
  obtain ⟨b1, e2, h⟩ := h
  refine zs_stk0 (zs_rfe e2) ?_
  obtain ⟨k3, h⟩ := h
  refine zg_4_104 rfl d_4029_36 k3 ?_
  obtain ⟨b4, e5, h⟩ := h
  refine zs_stk1 (zs_rfe e5) ?_
  obtain ⟨k6, h⟩ := h
  obtain ⟨k7, h⟩ := h
  refine zp_4_104 (v := (zs_I S 7008 b1)) rfl d_4029_39 k6 k7 ?_
  generalize e9 : zs_sI S 7008 b4 (zs_I S 7008 b1) = S8
  have h := h S8 e9.symm
  have K10 : ∀ b, zs_K S8 b = zs_K S b := zs_Kt e9 (zs_KsI _ _ _ _) (fun _ => rfl)
  refine zu_aload_n d_4029_42 rfl (zs_rr _) ?_
  refine zu_aload_n d_4029_43 rfl (zs_rr _) ?_
  refine zs_stk0 (zs_rfe e2) ?_
  refine zg_4_107 rfl d_4029_44 ((K10 _).trans k3) ?_
  refine zs_stk1 (zs_rfe e5) ?_
  refine zp_4_107 (v := (zs_R S8 7007 b1)) rfl d_4029_47 ((K10 _).trans k6) k7 ?_
  generalize e12 : zs_sR S8 7007 b4 (zs_R S8 7007 b1) = S11
  have h := h S11 e12.symm
  have K13 : ∀ b, zs_K S11 b = zs_K S b := zs_Kt e12 (zs_KsR _ _ _ _) K10
  refine zu_aload_n d_4029_50 rfl (zs_rr _) ?_
  refine zu_aload_n d_4029_51 rfl (zs_rr _) ?_
  refine zs_stk0 (zs_rfe e2) ?_
  refine zg_4_111 rfl d_4029_52 ((K13 _).trans k3) ?_
  refine zs_stk1 (zs_rfe e5) ?_
  obtain ⟨k14, h⟩ := h
  refine zp_4_111 (v := (zs_I S11 7009 b1)) rfl d_4029_55 ((K13 _).trans k6) k7 k14 ?_
  generalize e16 : zs_sI S11 7009 b4 (zs_I S11 7009 b1) = S15
  have h := h S15 e16.symm
  have K17 : ∀ b, zs_K S15 b = zs_K S b := zs_Kt e16 (zs_KsI _ _ _ _) K13
  refine zu_aload_n d_4029_58 rfl (zs_rr _) ?_
  exact zu_aret d_4029_59 zr_4029 (zs_rr _) h
def w_X5_fieldOf (X : zs_X) (d : Nat) (p0 : Option Nat) (p1 : Option Nat) (S : zs_T) (Q : zs_Q) : Prop :=
  (∀ a1 S2, a1 = zs_N S → S2 = zs_nw S (.inl 7) 14 → ∃ b6, p1 = some b6 ∧ zs_K S2 b6 = some (.inl 12) ∧ zs_C X d 7000 [.ref a1, .int (zs_I S2 12000 b6), .int (5 : Int32)] S2 (zs_kV (fun S9 => (zs_K S9 b6 = some (.inl 12) ∧ zs_K S9 a1 = some (.inl 7) ∧ ab_n0 X.1 ≤ a1 ∧ ∀ S14, S14 = zs_sR S9 7002 a1 (zs_R S9 12001 b6) → ∀ S17, S17 = zs_sR S14 7012 a1 p1 → ∃ b20, p0 = some b20 ∧ zs_K S9 b20 = some (.inl 7) ∧ ∀ S23, S23 = zs_sR S17 7013 a1 (zs_R S17 7002 b20) → w_X5_fieldOf_34 X d p0 (some a1) S23 Q)) Q))
theorem u_X5_fieldOf {σ : Nat → Nat} {n0 : Nat} {bf : ab_B} {d : Nat} {p0 : Option Nat} {p1 : Option Nat} {S : zs_T} {Q : zs_Q} (hB : zt_B bf) (hd : 1 ≤ d) (h : w_X5_fieldOf (zx σ n0 bf) (d - 1) p0 p1 S Q) : zs_C (zx σ n0 bf) d 4029 [va_rf p0, va_rf p1] S Q := by
  have hL : lv_args 0 [va_rf p0, va_rf p1] = [(0, va_rf p0), (1, va_rf p1)] := by simp [lv_args, zs_cat, zs_cI, zs_cJ, zs_cA]
  refine zs_C.of1 (hB.2 4029 (by decide) (by decide)) hd (by rw [hL]; exact zs_sub_self _ (by exact ⟨rfl, rfl, trivial⟩)) ?_
  rw [hL]
  clear hL
  unfold w_X5_fieldOf at h
  refine zn_4_60 rfl d_4029_0 ?_
  generalize e4 : zs_nw S (.inl 7) 14 = S2
  generalize e3 : zs_N S = a1
  have h := h a1 S2 e3.symm e4.symm
  have k5 := zs_kn e3 e4
  refine zu_dup d_4029_3 rfl ?_
  refine zu_aload_n d_4029_4 rfl (zs_rr _) ?_
  obtain ⟨b6, e7, h⟩ := h
  refine zs_stk0 (zs_rfe e7) ?_
  obtain ⟨k8, h⟩ := h
  refine zg_4_92 rfl d_4029_5 k8 ?_
  refine zu_iconst d_4029_8 zi_5 ?_
  refine zc_4_95 (x0 := (zs_I S2 12000 b6)) (x1 := (5 : Int32)) hB rfl d_4029_9 (Nat.le_of_ble_eq_true rfl) h (fun S9 h => ?_)
  refine zu_astore_n d_4029_12 (zs_ra _) (zs_lt zq_4029 rfl) ?_
  refine zs_U.weak (L1 := [(2, .ref a1), (0, va_rf p0), (1, va_rf p1)]) ?_ ⟨rfl, zs_gp1 rfl (Or.inl (zs_cat _)) rfl, zs_gp1 rfl (Or.inl (zs_cat _)) rfl, trivial⟩
  refine zu_aload_n d_4029_13 rfl (zs_ra _) ?_
  refine zu_aload_n d_4029_14 rfl (zs_rr _) ?_
  refine zs_stk0 (zs_rfe e7) ?_
  obtain ⟨k11, h⟩ := h
  refine zg_4_96 rfl d_4029_15 k11 ?_
  obtain ⟨k12, h⟩ := h
  obtain ⟨k13, h⟩ := h
  refine zp_4_65 (v := (zs_R S9 12001 b6)) rfl d_4029_18 k12 k13 ?_
  generalize e15 : zs_sR S9 7002 a1 (zs_R S9 12001 b6) = S14
  have h := h S14 e15.symm
  have K16 : ∀ b, zs_K S14 b = zs_K S9 b := zs_Kt e15 (zs_KsR _ _ _ _) (fun _ => rfl)
  refine zu_aload_n d_4029_21 rfl (zs_ra _) ?_
  refine zu_aload_n d_4029_22 rfl (zs_rr _) ?_
  refine zp_4_97 (v := p1) rfl d_4029_23 ((K16 _).trans k12) k13 ?_
  generalize e18 : zs_sR S14 7012 a1 p1 = S17
  have h := h S17 e18.symm
  have K19 : ∀ b, zs_K S17 b = zs_K S9 b := zs_Kt e18 (zs_KsR _ _ _ _) K16
  refine zu_aload_n d_4029_26 rfl (zs_ra _) ?_
  refine zu_aload_n d_4029_27 rfl (zs_rr _) ?_
  obtain ⟨b20, e21, h⟩ := h
  refine zs_stk0 (zs_rfe e21) ?_
  obtain ⟨k22, h⟩ := h
  refine zg_4_65 rfl d_4029_28 ((K19 _).trans k22) ?_
  refine zp_4_101 (v := (zs_R S17 7002 b20)) rfl d_4029_31 ((K19 _).trans k12) k13 ?_
  generalize e24 : zs_sR S17 7013 a1 (zs_R S17 7002 b20) = S23
  have h := h S23 e24.symm
  have K25 : ∀ b, zs_K S23 b = zs_K S9 b := zs_Kt e24 (zs_KsR _ _ _ _) K19
  exact (u_X5_fieldOf_34 hB h).weak ⟨rfl, rfl, trivial⟩
/-! SchemaPascal$Reader.call(LSchemaPascal$Symbol;I)LSchemaPascal$Node; -/
theorem zm_4030 {σ : Nat → Nat} {n0 : Nat} {bf : ab_B} : ab_code (zx σ n0 bf).1 4030 = prog_9_method_79_code := rfl
theorem zq_4030 {σ : Nat → Nat} {n0 : Nat} {bf : ab_B} : ab_maxL (zx σ n0 bf).1 4030 = 4 := rfl
theorem zr_4030 {σ : Nat → Nat} {n0 : Nat} {bf : ab_B} : ab_ret (zx σ n0 bf).1 4030 = (Option.some (Jvm.ClassFile.FieldType.object "SchemaPascal$Node")) := rfl
theorem d_4030_0 {σ : Nat → Nat} {n0 : Nat} {bf : ab_B} : decode (ab_code (zx σ n0 bf).1 4030) 0 = .ok (.aload_n 0, 1) := zd zm_4030 (by decide +kernel)
theorem d_4030_1 {σ : Nat → Nat} {n0 : Nat} {bf : ab_B} : decode (ab_code (zx σ n0 bf).1 4030) 1 = .ok (.bipush 6, 2) := zd zm_4030 (by decide +kernel)
theorem d_4030_3 {σ : Nat → Nat} {n0 : Nat} {bf : ab_B} : decode (ab_code (zx σ n0 bf).1 4030) 3 = .ok (.iload_n 2, 1) := zd zm_4030 (by decide +kernel)
theorem d_4030_4 {σ : Nat → Nat} {n0 : Nat} {bf : ab_B} : decode (ab_code (zx σ n0 bf).1 4030) 4 = .ok (.aload_n 1, 1) := zd zm_4030 (by decide +kernel)
theorem d_4030_5 {σ : Nat → Nat} {n0 : Nat} {bf : ab_B} : decode (ab_code (zx σ n0 bf).1 4030) 5 = .ok (.getfield 243, 3) := zd zm_4030 (by decide +kernel)
theorem d_4030_8 {σ : Nat → Nat} {n0 : Nat} {bf : ab_B} : decode (ab_code (zx σ n0 bf).1 4030) 8 = .ok (.getfield 255, 3) := zd zm_4030 (by decide +kernel)
theorem d_4030_11 {σ : Nat → Nat} {n0 : Nat} {bf : ab_B} : decode (ab_code (zx σ n0 bf).1 4030) 11 = .ok (.invokevirtual 572, 3) := zd zm_4030 (by decide +kernel)
theorem d_4030_14 {σ : Nat → Nat} {n0 : Nat} {bf : ab_B} : decode (ab_code (zx σ n0 bf).1 4030) 14 = .ok (.astore_n 3, 1) := zd zm_4030 (by decide +kernel)
theorem d_4030_15 {σ : Nat → Nat} {n0 : Nat} {bf : ab_B} : decode (ab_code (zx σ n0 bf).1 4030) 15 = .ok (.aload_n 3, 1) := zd zm_4030 (by decide +kernel)
theorem d_4030_16 {σ : Nat → Nat} {n0 : Nat} {bf : ab_B} : decode (ab_code (zx σ n0 bf).1 4030) 16 = .ok (.aload_n 1, 1) := zd zm_4030 (by decide +kernel)
theorem d_4030_17 {σ : Nat → Nat} {n0 : Nat} {bf : ab_B} : decode (ab_code (zx σ n0 bf).1 4030) 17 = .ok (.putfield 664, 3) := zd zm_4030 (by decide +kernel)
theorem d_4030_20 {σ : Nat → Nat} {n0 : Nat} {bf : ab_B} : decode (ab_code (zx σ n0 bf).1 4030) 20 = .ok (.aload_n 3, 1) := zd zm_4030 (by decide +kernel)
theorem d_4030_21 {σ : Nat → Nat} {n0 : Nat} {bf : ab_B} : decode (ab_code (zx σ n0 bf).1 4030) 21 = .ok (.aload_n 0, 1) := zd zm_4030 (by decide +kernel)
theorem d_4030_22 {σ : Nat → Nat} {n0 : Nat} {bf : ab_B} : decode (ab_code (zx σ n0 bf).1 4030) 22 = .ok (.aload_n 1, 1) := zd zm_4030 (by decide +kernel)
theorem d_4030_23 {σ : Nat → Nat} {n0 : Nat} {bf : ab_B} : decode (ab_code (zx σ n0 bf).1 4030) 23 = .ok (.getfield 243, 3) := zd zm_4030 (by decide +kernel)
theorem d_4030_26 {σ : Nat → Nat} {n0 : Nat} {bf : ab_B} : decode (ab_code (zx σ n0 bf).1 4030) 26 = .ok (.invokevirtual 683, 3) := zd zm_4030 (by decide +kernel)
theorem d_4030_29 {σ : Nat → Nat} {n0 : Nat} {bf : ab_B} : decode (ab_code (zx σ n0 bf).1 4030) 29 = .ok (.putfield 539, 3) := zd zm_4030 (by decide +kernel)
theorem d_4030_32 {σ : Nat → Nat} {n0 : Nat} {bf : ab_B} : decode (ab_code (zx σ n0 bf).1 4030) 32 = .ok (.aload_n 3, 1) := zd zm_4030 (by decide +kernel)
theorem d_4030_33 {σ : Nat → Nat} {n0 : Nat} {bf : ab_B} : decode (ab_code (zx σ n0 bf).1 4030) 33 = .ok (.areturn, 1) := zd zm_4030 (by decide +kernel)
def w_X5_call_32 (X : zs_X) (d : Nat) (p3 : Option Nat) (S : zs_T) (Q : zs_Q) : Prop :=
  (Q (.returned (some (va_rf p3))) S)
theorem u_X5_call_32 {σ : Nat → Nat} {n0 : Nat} {bf : ab_B} {d : Nat} {p3 : Option Nat} {S : zs_T} {Q : zs_Q} (hB : zt_B bf) (h : w_X5_call_32 (zx σ n0 bf) d p3 S Q) : zs_U (zx σ n0 bf) d 4030 32 [(3, va_rf p3)] [] S Q := by
  unfold w_X5_call_32 at h
  refine zu_aload_n d_4030_32 rfl (zs_rr _) ?_
  exact zu_aret d_4030_33 zr_4030 (zs_rr _) h
def w_X5_call (X : zs_X) (d : Nat) (p0 : Nat) (p1 : Option Nat) (p2 : Int32) (S : zs_T) (Q : zs_Q) : Prop :=
  (∃ b1, p1 = some b1 ∧ zs_K S b1 = some (.inl 7) ∧ ∃ b4, (zs_R S 7006 b1) = some b4 ∧ zs_K S b4 = some (.inl 10) ∧ zs_K S p0 = some (.inl 4) ∧ zs_C X d 4016 [.ref p0, .int (6 : Int32), .int p2, va_rf (zs_R S 10006 b4)] S (zs_kR (fun v9 S8 => (∃ b10, v9 = some b10 ∧ zs_K S8 b10 = some (.inl 11) ∧ ab_n0 X.1 ≤ b10 ∧ ∀ S14, S14 = zs_sR S8 11009 b10 p1 → zs_K S8 b1 = some (.inl 7) ∧ zs_K S8 p0 = some (.inl 4) ∧ zs_C X d 4031 [.ref p0, va_rf (zs_R S14 7006 b1)] S14 (zs_kR (fun v20 S19 => (zs_K S19 b10 = some (.inl 11) ∧ ∀ S22, S22 = zs_sR S19 11005 b10 v20 → w_X5_call_32 X d v9 S22 Q)) Q))) Q))
theorem u_X5_call {σ : Nat → Nat} {n0 : Nat} {bf : ab_B} {d : Nat} {p0 : Nat} {p1 : Option Nat} {p2 : Int32} {S : zs_T} {Q : zs_Q} (hB : zt_B bf) (hd : 1 ≤ d) (h : w_X5_call (zx σ n0 bf) (d - 1) p0 p1 p2 S Q) : zs_C (zx σ n0 bf) d 4030 [.ref p0, va_rf p1, .int p2] S Q := by
  have hL : lv_args 0 [.ref p0, va_rf p1, .int p2] = [(0, .ref p0), (1, va_rf p1), (2, .int p2)] := by simp [lv_args, zs_cat, zs_cI, zs_cJ, zs_cA]
  refine zs_C.of1 (hB.2 4030 (by decide) (by decide)) hd (by rw [hL]; exact zs_sub_self _ (by exact ⟨rfl, rfl, rfl, trivial⟩)) ?_
  rw [hL]
  clear hL
  unfold w_X5_call at h
  refine zu_aload_n d_4030_0 rfl (zs_ra _) ?_
  refine zu_bipush d_4030_1 zj_6 ?_
  refine zu_iload_n d_4030_3 rfl ?_
  refine zu_aload_n d_4030_4 rfl (zs_rr _) ?_
  obtain ⟨b1, e2, h⟩ := h
  refine zs_stk0 (zs_rfe e2) ?_
  obtain ⟨k3, h⟩ := h
  refine zg_4_243 rfl d_4030_5 k3 ?_
  obtain ⟨b4, e5, h⟩ := h
  refine zs_stk0 (zs_rfe e5) ?_
  obtain ⟨k6, h⟩ := h
  refine zg_4_255 rfl d_4030_8 k6 ?_
  obtain ⟨k7, h⟩ := h
  refine zc_4_572 (x0 := (6 : Int32)) (x1 := p2) (x2 := (zs_R S 10006 b4)) hB rfl k7 d_4030_11 (Nat.le_of_ble_eq_true rfl) h (fun v9 S8 h => ?_)
  refine zu_astore_n d_4030_14 (zs_rr _) (zs_lt zq_4030 rfl) ?_
  refine zu_aload_n d_4030_15 rfl (zs_rr _) ?_
  refine zu_aload_n d_4030_16 rfl (zs_rr _) ?_
  obtain ⟨b10, e11, h⟩ := h
  refine zs_stk1 (zs_rfe e11) ?_
  obtain ⟨k12, h⟩ := h
  obtain ⟨k13, h⟩ := h
  refine zp_4_664 (v := p1) rfl d_4030_17 k12 k13 ?_
  generalize e15 : zs_sR S8 11009 b10 p1 = S14
  have h := h S14 e15.symm
  have K16 : ∀ b, zs_K S14 b = zs_K S8 b := zs_Kt e15 (zs_KsR _ _ _ _) (fun _ => rfl)
  refine zu_aload_n d_4030_20 rfl (zs_rr _) ?_
  refine zu_aload_n d_4030_21 rfl (zs_ra _) ?_
  refine zu_aload_n d_4030_22 rfl (zs_rr _) ?_
  refine zs_stk0 (zs_rfe e2) ?_
  obtain ⟨k17, h⟩ := h
  refine zg_4_243 rfl d_4030_23 ((K16 _).trans k17) ?_
  obtain ⟨k18, h⟩ := h
  refine zc_4_683 (x0 := (zs_R S14 7006 b1)) hB rfl ((K16 _).trans k18) d_4030_26 (by simp only [List.map_cons, List.map_nil, List.sum_cons, List.sum_nil, zs_cat, zs_cI, zs_cJ, zs_cA]; exact Nat.le_of_ble_eq_true rfl) h (fun v20 S19 h => ?_)
  refine zs_stk1 (zs_rfe e11) ?_
  obtain ⟨k21, h⟩ := h
  refine zp_4_539 (v := v20) rfl d_4030_29 k21 k13 ?_
  generalize e23 : zs_sR S19 11005 b10 v20 = S22
  have h := h S22 e23.symm
  have K24 : ∀ b, zs_K S22 b = zs_K S19 b := zs_Kt e23 (zs_KsR _ _ _ _) (fun _ => rfl)
  exact (u_X5_call_32 hB h).weak ⟨rfl, trivial⟩
/-! SchemaPascal$Reader.params(LSchemaPascal$Routine;)LSchemaPascal$Node; -/
theorem zm_4031 {σ : Nat → Nat} {n0 : Nat} {bf : ab_B} : ab_code (zx σ n0 bf).1 4031 = prog_9_method_80_code := rfl
theorem zq_4031 {σ : Nat → Nat} {n0 : Nat} {bf : ab_B} : ab_maxL (zx σ n0 bf).1 4031 = 6 := rfl
theorem zr_4031 {σ : Nat → Nat} {n0 : Nat} {bf : ab_B} : ab_ret (zx σ n0 bf).1 4031 = (Option.some (Jvm.ClassFile.FieldType.object "SchemaPascal$Node")) := rfl
theorem d_4031_0 {σ : Nat → Nat} {n0 : Nat} {bf : ab_B} : decode (ab_code (zx σ n0 bf).1 4031) 0 = .ok (.aload_n 1, 1) := zd zm_4031 (by decide +kernel)
theorem d_4031_1 {σ : Nat → Nat} {n0 : Nat} {bf : ab_B} : decode (ab_code (zx σ n0 bf).1 4031) 1 = .ok (.getfield 247, 3) := zd zm_4031 (by decide +kernel)
theorem d_4031_4 {σ : Nat → Nat} {n0 : Nat} {bf : ab_B} : decode (ab_code (zx σ n0 bf).1 4031) 4 = .ok (.invokevirtual 50, 3) := zd zm_4031 (by decide +kernel)
theorem d_4031_7 {σ : Nat → Nat} {n0 : Nat} {bf : ab_B} : decode (ab_code (zx σ n0 bf).1 4031) 7 = .ok (.ifCond .ne 5, 3) := zd zm_4031 (by decide +kernel)
theorem d_4031_10 {σ : Nat → Nat} {n0 : Nat} {bf : ab_B} : decode (ab_code (zx σ n0 bf).1 4031) 10 = .ok (.aconst_null, 1) := zd zm_4031 (by decide +kernel)
theorem d_4031_11 {σ : Nat → Nat} {n0 : Nat} {bf : ab_B} : decode (ab_code (zx σ n0 bf).1 4031) 11 = .ok (.areturn, 1) := zd zm_4031 (by decide +kernel)
theorem d_4031_12 {σ : Nat → Nat} {n0 : Nat} {bf : ab_B} : decode (ab_code (zx σ n0 bf).1 4031) 12 = .ok (.aload_n 0, 1) := zd zm_4031 (by decide +kernel)
theorem d_4031_13 {σ : Nat → Nat} {n0 : Nat} {bf : ab_B} : decode (ab_code (zx σ n0 bf).1 4031) 13 = .ok (.getfield 5, 3) := zd zm_4031 (by decide +kernel)
theorem d_4031_16 {σ : Nat → Nat} {n0 : Nat} {bf : ab_B} : decode (ab_code (zx σ n0 bf).1 4031) 16 = .ok (.bipush 40, 2) := zd zm_4031 (by decide +kernel)
theorem d_4031_18 {σ : Nat → Nat} {n0 : Nat} {bf : ab_B} : decode (ab_code (zx σ n0 bf).1 4031) 18 = .ok (.invokevirtual 21, 3) := zd zm_4031 (by decide +kernel)
theorem d_4031_21 {σ : Nat → Nat} {n0 : Nat} {bf : ab_B} : decode (ab_code (zx σ n0 bf).1 4031) 21 = .ok (.ifCond .ne 9, 3) := zd zm_4031 (by decide +kernel)
theorem d_4031_24 {σ : Nat → Nat} {n0 : Nat} {bf : ab_B} : decode (ab_code (zx σ n0 bf).1 4031) 24 = .ok (.aload_n 0, 1) := zd zm_4031 (by decide +kernel)
theorem d_4031_25 {σ : Nat → Nat} {n0 : Nat} {bf : ab_B} : decode (ab_code (zx σ n0 bf).1 4031) 25 = .ok (.iconst 5, 1) := zd zm_4031 (by decide +kernel)
theorem d_4031_26 {σ : Nat → Nat} {n0 : Nat} {bf : ab_B} : decode (ab_code (zx σ n0 bf).1 4031) 26 = .ok (.invokevirtual 25, 3) := zd zm_4031 (by decide +kernel)
theorem d_4031_29 {σ : Nat → Nat} {n0 : Nat} {bf : ab_B} : decode (ab_code (zx σ n0 bf).1 4031) 29 = .ok (.athrow, 1) := zd zm_4031 (by decide +kernel)
theorem d_4031_30 {σ : Nat → Nat} {n0 : Nat} {bf : ab_B} : decode (ab_code (zx σ n0 bf).1 4031) 30 = .ok (.aload_n 0, 1) := zd zm_4031 (by decide +kernel)
theorem d_4031_31 {σ : Nat → Nat} {n0 : Nat} {bf : ab_B} : decode (ab_code (zx σ n0 bf).1 4031) 31 = .ok (.invokevirtual 357, 3) := zd zm_4031 (by decide +kernel)
theorem d_4031_34 {σ : Nat → Nat} {n0 : Nat} {bf : ab_B} : decode (ab_code (zx σ n0 bf).1 4031) 34 = .ok (.aconst_null, 1) := zd zm_4031 (by decide +kernel)
theorem d_4031_35 {σ : Nat → Nat} {n0 : Nat} {bf : ab_B} : decode (ab_code (zx σ n0 bf).1 4031) 35 = .ok (.astore_n 2, 1) := zd zm_4031 (by decide +kernel)
theorem d_4031_36 {σ : Nat → Nat} {n0 : Nat} {bf : ab_B} : decode (ab_code (zx σ n0 bf).1 4031) 36 = .ok (.aconst_null, 1) := zd zm_4031 (by decide +kernel)
theorem d_4031_37 {σ : Nat → Nat} {n0 : Nat} {bf : ab_B} : decode (ab_code (zx σ n0 bf).1 4031) 37 = .ok (.astore_n 3, 1) := zd zm_4031 (by decide +kernel)
theorem d_4031_38 {σ : Nat → Nat} {n0 : Nat} {bf : ab_B} : decode (ab_code (zx σ n0 bf).1 4031) 38 = .ok (.iconst 0, 1) := zd zm_4031 (by decide +kernel)
theorem d_4031_39 {σ : Nat → Nat} {n0 : Nat} {bf : ab_B} : decode (ab_code (zx σ n0 bf).1 4031) 39 = .ok (.istore 4, 2) := zd zm_4031 (by decide +kernel)
theorem d_4031_41 {σ : Nat → Nat} {n0 : Nat} {bf : ab_B} : decode (ab_code (zx σ n0 bf).1 4031) 41 = .ok (.iload 4, 2) := zd zm_4031 (by decide +kernel)
theorem d_4031_43 {σ : Nat → Nat} {n0 : Nat} {bf : ab_B} : decode (ab_code (zx σ n0 bf).1 4031) 43 = .ok (.aload_n 1, 1) := zd zm_4031 (by decide +kernel)
theorem d_4031_44 {σ : Nat → Nat} {n0 : Nat} {bf : ab_B} : decode (ab_code (zx σ n0 bf).1 4031) 44 = .ok (.getfield 247, 3) := zd zm_4031 (by decide +kernel)
theorem d_4031_47 {σ : Nat → Nat} {n0 : Nat} {bf : ab_B} : decode (ab_code (zx σ n0 bf).1 4031) 47 = .ok (.invokevirtual 50, 3) := zd zm_4031 (by decide +kernel)
theorem d_4031_50 {σ : Nat → Nat} {n0 : Nat} {bf : ab_B} : decode (ab_code (zx σ n0 bf).1 4031) 50 = .ok (.if_icmp .ge 185, 3) := zd zm_4031 (by decide +kernel)
theorem d_4031_53 {σ : Nat → Nat} {n0 : Nat} {bf : ab_B} : decode (ab_code (zx σ n0 bf).1 4031) 53 = .ok (.aload_n 0, 1) := zd zm_4031 (by decide +kernel)
theorem d_4031_54 {σ : Nat → Nat} {n0 : Nat} {bf : ab_B} : decode (ab_code (zx σ n0 bf).1 4031) 54 = .ok (.getfield 5, 3) := zd zm_4031 (by decide +kernel)
theorem d_4031_57 {σ : Nat → Nat} {n0 : Nat} {bf : ab_B} : decode (ab_code (zx σ n0 bf).1 4031) 57 = .ok (.invokevirtual 29, 3) := zd zm_4031 (by decide +kernel)
theorem d_4031_60 {σ : Nat → Nat} {n0 : Nat} {bf : ab_B} : decode (ab_code (zx σ n0 bf).1 4031) 60 = .ok (.aload_n 0, 1) := zd zm_4031 (by decide +kernel)
theorem d_4031_61 {σ : Nat → Nat} {n0 : Nat} {bf : ab_B} : decode (ab_code (zx σ n0 bf).1 4031) 61 = .ok (.invokevirtual 569, 3) := zd zm_4031 (by decide +kernel)
theorem d_4031_64 {σ : Nat → Nat} {n0 : Nat} {bf : ab_B} : decode (ab_code (zx σ n0 bf).1 4031) 64 = .ok (.astore 5, 2) := zd zm_4031 (by decide +kernel)
theorem d_4031_66 {σ : Nat → Nat} {n0 : Nat} {bf : ab_B} : decode (ab_code (zx σ n0 bf).1 4031) 66 = .ok (.aload_n 0, 1) := zd zm_4031 (by decide +kernel)
theorem d_4031_67 {σ : Nat → Nat} {n0 : Nat} {bf : ab_B} : decode (ab_code (zx σ n0 bf).1 4031) 67 = .ok (.aload_n 1, 1) := zd zm_4031 (by decide +kernel)
theorem d_4031_68 {σ : Nat → Nat} {n0 : Nat} {bf : ab_B} : decode (ab_code (zx σ n0 bf).1 4031) 68 = .ok (.getfield 247, 3) := zd zm_4031 (by decide +kernel)
theorem d_4031_71 {σ : Nat → Nat} {n0 : Nat} {bf : ab_B} : decode (ab_code (zx σ n0 bf).1 4031) 71 = .ok (.iload 4, 2) := zd zm_4031 (by decide +kernel)
theorem d_4031_73 {σ : Nat → Nat} {n0 : Nat} {bf : ab_B} : decode (ab_code (zx σ n0 bf).1 4031) 73 = .ok (.invokevirtual 56, 3) := zd zm_4031 (by decide +kernel)
theorem d_4031_76 {σ : Nat → Nat} {n0 : Nat} {bf : ab_B} : decode (ab_code (zx σ n0 bf).1 4031) 76 = .ok (.checkcast 60, 3) := zd zm_4031 (by decide +kernel)
theorem d_4031_79 {σ : Nat → Nat} {n0 : Nat} {bf : ab_B} : decode (ab_code (zx σ n0 bf).1 4031) 79 = .ok (.aload 5, 2) := zd zm_4031 (by decide +kernel)
theorem d_4031_81 {σ : Nat → Nat} {n0 : Nat} {bf : ab_B} : decode (ab_code (zx σ n0 bf).1 4031) 81 = .ok (.invokevirtual 686, 3) := zd zm_4031 (by decide +kernel)
theorem d_4031_84 {σ : Nat → Nat} {n0 : Nat} {bf : ab_B} : decode (ab_code (zx σ n0 bf).1 4031) 84 = .ok (.ifCond .ne 9, 3) := zd zm_4031 (by decide +kernel)
theorem d_4031_87 {σ : Nat → Nat} {n0 : Nat} {bf : ab_B} : decode (ab_code (zx σ n0 bf).1 4031) 87 = .ok (.aload_n 0, 1) := zd zm_4031 (by decide +kernel)
theorem d_4031_88 {σ : Nat → Nat} {n0 : Nat} {bf : ab_B} : decode (ab_code (zx σ n0 bf).1 4031) 88 = .ok (.iconst 5, 1) := zd zm_4031 (by decide +kernel)
theorem d_4031_89 {σ : Nat → Nat} {n0 : Nat} {bf : ab_B} : decode (ab_code (zx σ n0 bf).1 4031) 89 = .ok (.invokevirtual 25, 3) := zd zm_4031 (by decide +kernel)
theorem d_4031_92 {σ : Nat → Nat} {n0 : Nat} {bf : ab_B} : decode (ab_code (zx σ n0 bf).1 4031) 92 = .ok (.athrow, 1) := zd zm_4031 (by decide +kernel)
theorem d_4031_93 {σ : Nat → Nat} {n0 : Nat} {bf : ab_B} : decode (ab_code (zx σ n0 bf).1 4031) 93 = .ok (.aload_n 1, 1) := zd zm_4031 (by decide +kernel)
theorem d_4031_94 {σ : Nat → Nat} {n0 : Nat} {bf : ab_B} : decode (ab_code (zx σ n0 bf).1 4031) 94 = .ok (.getfield 247, 3) := zd zm_4031 (by decide +kernel)
theorem d_4031_97 {σ : Nat → Nat} {n0 : Nat} {bf : ab_B} : decode (ab_code (zx σ n0 bf).1 4031) 97 = .ok (.iload 4, 2) := zd zm_4031 (by decide +kernel)
theorem d_4031_99 {σ : Nat → Nat} {n0 : Nat} {bf : ab_B} : decode (ab_code (zx σ n0 bf).1 4031) 99 = .ok (.invokevirtual 56, 3) := zd zm_4031 (by decide +kernel)
theorem d_4031_102 {σ : Nat → Nat} {n0 : Nat} {bf : ab_B} : decode (ab_code (zx σ n0 bf).1 4031) 102 = .ok (.checkcast 60, 3) := zd zm_4031 (by decide +kernel)
theorem d_4031_105 {σ : Nat → Nat} {n0 : Nat} {bf : ab_B} : decode (ab_code (zx σ n0 bf).1 4031) 105 = .ok (.getfield 690, 3) := zd zm_4031 (by decide +kernel)
theorem d_4031_108 {σ : Nat → Nat} {n0 : Nat} {bf : ab_B} : decode (ab_code (zx σ n0 bf).1 4031) 108 = .ok (.ifCond .eq 36, 3) := zd zm_4031 (by decide +kernel)
theorem d_4031_111 {σ : Nat → Nat} {n0 : Nat} {bf : ab_B} : decode (ab_code (zx σ n0 bf).1 4031) 111 = .ok (.aload_n 1, 1) := zd zm_4031 (by decide +kernel)
theorem d_4031_112 {σ : Nat → Nat} {n0 : Nat} {bf : ab_B} : decode (ab_code (zx σ n0 bf).1 4031) 112 = .ok (.getfield 247, 3) := zd zm_4031 (by decide +kernel)
theorem d_4031_115 {σ : Nat → Nat} {n0 : Nat} {bf : ab_B} : decode (ab_code (zx σ n0 bf).1 4031) 115 = .ok (.iload 4, 2) := zd zm_4031 (by decide +kernel)
theorem d_4031_117 {σ : Nat → Nat} {n0 : Nat} {bf : ab_B} : decode (ab_code (zx σ n0 bf).1 4031) 117 = .ok (.invokevirtual 56, 3) := zd zm_4031 (by decide +kernel)
theorem d_4031_120 {σ : Nat → Nat} {n0 : Nat} {bf : ab_B} : decode (ab_code (zx σ n0 bf).1 4031) 120 = .ok (.checkcast 60, 3) := zd zm_4031 (by decide +kernel)
theorem d_4031_123 {σ : Nat → Nat} {n0 : Nat} {bf : ab_B} : decode (ab_code (zx σ n0 bf).1 4031) 123 = .ok (.getfield 111, 3) := zd zm_4031 (by decide +kernel)
theorem d_4031_126 {σ : Nat → Nat} {n0 : Nat} {bf : ab_B} : decode (ab_code (zx σ n0 bf).1 4031) 126 = .ok (.ifCond .ne 18, 3) := zd zm_4031 (by decide +kernel)
theorem d_4031_129 {σ : Nat → Nat} {n0 : Nat} {bf : ab_B} : decode (ab_code (zx σ n0 bf).1 4031) 129 = .ok (.aload 5, 2) := zd zm_4031 (by decide +kernel)
theorem d_4031_131 {σ : Nat → Nat} {n0 : Nat} {bf : ab_B} : decode (ab_code (zx σ n0 bf).1 4031) 131 = .ok (.invokestatic 693, 3) := zd zm_4031 (by decide +kernel)
theorem d_4031_134 {σ : Nat → Nat} {n0 : Nat} {bf : ab_B} : decode (ab_code (zx σ n0 bf).1 4031) 134 = .ok (.ifCond .ne 10, 3) := zd zm_4031 (by decide +kernel)
theorem d_4031_137 {σ : Nat → Nat} {n0 : Nat} {bf : ab_B} : decode (ab_code (zx σ n0 bf).1 4031) 137 = .ok (.aload_n 0, 1) := zd zm_4031 (by decide +kernel)
theorem d_4031_138 {σ : Nat → Nat} {n0 : Nat} {bf : ab_B} : decode (ab_code (zx σ n0 bf).1 4031) 138 = .ok (.bipush 6, 2) := zd zm_4031 (by decide +kernel)
theorem d_4031_140 {σ : Nat → Nat} {n0 : Nat} {bf : ab_B} : decode (ab_code (zx σ n0 bf).1 4031) 140 = .ok (.invokevirtual 25, 3) := zd zm_4031 (by decide +kernel)
theorem d_4031_143 {σ : Nat → Nat} {n0 : Nat} {bf : ab_B} : decode (ab_code (zx σ n0 bf).1 4031) 143 = .ok (.athrow, 1) := zd zm_4031 (by decide +kernel)
theorem d_4031_144 {σ : Nat → Nat} {n0 : Nat} {bf : ab_B} : decode (ab_code (zx σ n0 bf).1 4031) 144 = .ok (.iload 4, 2) := zd zm_4031 (by decide +kernel)
theorem d_4031_146 {σ : Nat → Nat} {n0 : Nat} {bf : ab_B} : decode (ab_code (zx σ n0 bf).1 4031) 146 = .ok (.ifCond .ne 9, 3) := zd zm_4031 (by decide +kernel)
theorem d_4031_149 {σ : Nat → Nat} {n0 : Nat} {bf : ab_B} : decode (ab_code (zx σ n0 bf).1 4031) 149 = .ok (.aload 5, 2) := zd zm_4031 (by decide +kernel)
theorem d_4031_151 {σ : Nat → Nat} {n0 : Nat} {bf : ab_B} : decode (ab_code (zx σ n0 bf).1 4031) 151 = .ok (.astore_n 2, 1) := zd zm_4031 (by decide +kernel)
theorem d_4031_152 {σ : Nat → Nat} {n0 : Nat} {bf : ab_B} : decode (ab_code (zx σ n0 bf).1 4031) 152 = .ok (.goto 9, 3) := zd zm_4031 (by decide +kernel)
theorem d_4031_155 {σ : Nat → Nat} {n0 : Nat} {bf : ab_B} : decode (ab_code (zx σ n0 bf).1 4031) 155 = .ok (.aload_n 3, 1) := zd zm_4031 (by decide +kernel)
theorem d_4031_156 {σ : Nat → Nat} {n0 : Nat} {bf : ab_B} : decode (ab_code (zx σ n0 bf).1 4031) 156 = .ok (.aload 5, 2) := zd zm_4031 (by decide +kernel)
theorem d_4031_158 {σ : Nat → Nat} {n0 : Nat} {bf : ab_B} : decode (ab_code (zx σ n0 bf).1 4031) 158 = .ok (.putfield 487, 3) := zd zm_4031 (by decide +kernel)
theorem d_4031_161 {σ : Nat → Nat} {n0 : Nat} {bf : ab_B} : decode (ab_code (zx σ n0 bf).1 4031) 161 = .ok (.aload 5, 2) := zd zm_4031 (by decide +kernel)
theorem d_4031_163 {σ : Nat → Nat} {n0 : Nat} {bf : ab_B} : decode (ab_code (zx σ n0 bf).1 4031) 163 = .ok (.astore_n 3, 1) := zd zm_4031 (by decide +kernel)
theorem d_4031_164 {σ : Nat → Nat} {n0 : Nat} {bf : ab_B} : decode (ab_code (zx σ n0 bf).1 4031) 164 = .ok (.aload_n 0, 1) := zd zm_4031 (by decide +kernel)
theorem d_4031_165 {σ : Nat → Nat} {n0 : Nat} {bf : ab_B} : decode (ab_code (zx σ n0 bf).1 4031) 165 = .ok (.getfield 5, 3) := zd zm_4031 (by decide +kernel)
theorem d_4031_168 {σ : Nat → Nat} {n0 : Nat} {bf : ab_B} : decode (ab_code (zx σ n0 bf).1 4031) 168 = .ok (.iload 4, 2) := zd zm_4031 (by decide +kernel)
theorem d_4031_170 {σ : Nat → Nat} {n0 : Nat} {bf : ab_B} : decode (ab_code (zx σ n0 bf).1 4031) 170 = .ok (.iconst 1, 1) := zd zm_4031 (by decide +kernel)
theorem d_4031_171 {σ : Nat → Nat} {n0 : Nat} {bf : ab_B} : decode (ab_code (zx σ n0 bf).1 4031) 171 = .ok (.iadd, 1) := zd zm_4031 (by decide +kernel)
theorem d_4031_172 {σ : Nat → Nat} {n0 : Nat} {bf : ab_B} : decode (ab_code (zx σ n0 bf).1 4031) 172 = .ok (.aload_n 1, 1) := zd zm_4031 (by decide +kernel)
theorem d_4031_173 {σ : Nat → Nat} {n0 : Nat} {bf : ab_B} : decode (ab_code (zx σ n0 bf).1 4031) 173 = .ok (.getfield 247, 3) := zd zm_4031 (by decide +kernel)
theorem d_4031_176 {σ : Nat → Nat} {n0 : Nat} {bf : ab_B} : decode (ab_code (zx σ n0 bf).1 4031) 176 = .ok (.invokevirtual 50, 3) := zd zm_4031 (by decide +kernel)
theorem d_4031_179 {σ : Nat → Nat} {n0 : Nat} {bf : ab_B} : decode (ab_code (zx σ n0 bf).1 4031) 179 = .ok (.if_icmp .ne 8, 3) := zd zm_4031 (by decide +kernel)
theorem d_4031_182 {σ : Nat → Nat} {n0 : Nat} {bf : ab_B} : decode (ab_code (zx σ n0 bf).1 4031) 182 = .ok (.bipush 41, 2) := zd zm_4031 (by decide +kernel)
theorem d_4031_184 {σ : Nat → Nat} {n0 : Nat} {bf : ab_B} : decode (ab_code (zx σ n0 bf).1 4031) 184 = .ok (.goto 5, 3) := zd zm_4031 (by decide +kernel)
theorem d_4031_187 {σ : Nat → Nat} {n0 : Nat} {bf : ab_B} : decode (ab_code (zx σ n0 bf).1 4031) 187 = .ok (.bipush 44, 2) := zd zm_4031 (by decide +kernel)
theorem d_4031_189 {σ : Nat → Nat} {n0 : Nat} {bf : ab_B} : decode (ab_code (zx σ n0 bf).1 4031) 189 = .ok (.invokevirtual 21, 3) := zd zm_4031 (by decide +kernel)
theorem d_4031_192 {σ : Nat → Nat} {n0 : Nat} {bf : ab_B} : decode (ab_code (zx σ n0 bf).1 4031) 192 = .ok (.ifCond .ne 37, 3) := zd zm_4031 (by decide +kernel)
theorem d_4031_195 {σ : Nat → Nat} {n0 : Nat} {bf : ab_B} : decode (ab_code (zx σ n0 bf).1 4031) 195 = .ok (.aload_n 0, 1) := zd zm_4031 (by decide +kernel)
theorem d_4031_196 {σ : Nat → Nat} {n0 : Nat} {bf : ab_B} : decode (ab_code (zx σ n0 bf).1 4031) 196 = .ok (.aload_n 0, 1) := zd zm_4031 (by decide +kernel)
theorem d_4031_197 {σ : Nat → Nat} {n0 : Nat} {bf : ab_B} : decode (ab_code (zx σ n0 bf).1 4031) 197 = .ok (.getfield 5, 3) := zd zm_4031 (by decide +kernel)
theorem d_4031_200 {σ : Nat → Nat} {n0 : Nat} {bf : ab_B} : decode (ab_code (zx σ n0 bf).1 4031) 200 = .ok (.bipush 44, 2) := zd zm_4031 (by decide +kernel)
theorem d_4031_202 {σ : Nat → Nat} {n0 : Nat} {bf : ab_B} : decode (ab_code (zx σ n0 bf).1 4031) 202 = .ok (.invokevirtual 21, 3) := zd zm_4031 (by decide +kernel)
theorem d_4031_205 {σ : Nat → Nat} {n0 : Nat} {bf : ab_B} : decode (ab_code (zx σ n0 bf).1 4031) 205 = .ok (.ifCond .ne 15, 3) := zd zm_4031 (by decide +kernel)
theorem d_4031_208 {σ : Nat → Nat} {n0 : Nat} {bf : ab_B} : decode (ab_code (zx σ n0 bf).1 4031) 208 = .ok (.aload_n 0, 1) := zd zm_4031 (by decide +kernel)
theorem d_4031_209 {σ : Nat → Nat} {n0 : Nat} {bf : ab_B} : decode (ab_code (zx σ n0 bf).1 4031) 209 = .ok (.getfield 5, 3) := zd zm_4031 (by decide +kernel)
theorem d_4031_212 {σ : Nat → Nat} {n0 : Nat} {bf : ab_B} : decode (ab_code (zx σ n0 bf).1 4031) 212 = .ok (.bipush 41, 2) := zd zm_4031 (by decide +kernel)
theorem d_4031_214 {σ : Nat → Nat} {n0 : Nat} {bf : ab_B} : decode (ab_code (zx σ n0 bf).1 4031) 214 = .ok (.invokevirtual 21, 3) := zd zm_4031 (by decide +kernel)
theorem d_4031_217 {σ : Nat → Nat} {n0 : Nat} {bf : ab_B} : decode (ab_code (zx σ n0 bf).1 4031) 217 = .ok (.ifCond .eq 7, 3) := zd zm_4031 (by decide +kernel)
theorem d_4031_220 {σ : Nat → Nat} {n0 : Nat} {bf : ab_B} : decode (ab_code (zx σ n0 bf).1 4031) 220 = .ok (.iconst 5, 1) := zd zm_4031 (by decide +kernel)
theorem d_4031_221 {σ : Nat → Nat} {n0 : Nat} {bf : ab_B} : decode (ab_code (zx σ n0 bf).1 4031) 221 = .ok (.goto 4, 3) := zd zm_4031 (by decide +kernel)
theorem d_4031_224 {σ : Nat → Nat} {n0 : Nat} {bf : ab_B} : decode (ab_code (zx σ n0 bf).1 4031) 224 = .ok (.iconst 2, 1) := zd zm_4031 (by decide +kernel)
theorem d_4031_225 {σ : Nat → Nat} {n0 : Nat} {bf : ab_B} : decode (ab_code (zx σ n0 bf).1 4031) 225 = .ok (.invokevirtual 25, 3) := zd zm_4031 (by decide +kernel)
theorem d_4031_228 {σ : Nat → Nat} {n0 : Nat} {bf : ab_B} : decode (ab_code (zx σ n0 bf).1 4031) 228 = .ok (.athrow, 1) := zd zm_4031 (by decide +kernel)
theorem d_4031_229 {σ : Nat → Nat} {n0 : Nat} {bf : ab_B} : decode (ab_code (zx σ n0 bf).1 4031) 229 = .ok (.iinc 4 1, 3) := zd zm_4031 (by decide +kernel)
theorem d_4031_232 {σ : Nat → Nat} {n0 : Nat} {bf : ab_B} : decode (ab_code (zx σ n0 bf).1 4031) 232 = .ok (.goto (-191), 3) := zd zm_4031 (by decide +kernel)
theorem d_4031_235 {σ : Nat → Nat} {n0 : Nat} {bf : ab_B} : decode (ab_code (zx σ n0 bf).1 4031) 235 = .ok (.aload_n 0, 1) := zd zm_4031 (by decide +kernel)
theorem d_4031_236 {σ : Nat → Nat} {n0 : Nat} {bf : ab_B} : decode (ab_code (zx σ n0 bf).1 4031) 236 = .ok (.getfield 5, 3) := zd zm_4031 (by decide +kernel)
theorem d_4031_239 {σ : Nat → Nat} {n0 : Nat} {bf : ab_B} : decode (ab_code (zx σ n0 bf).1 4031) 239 = .ok (.invokevirtual 29, 3) := zd zm_4031 (by decide +kernel)
theorem d_4031_242 {σ : Nat → Nat} {n0 : Nat} {bf : ab_B} : decode (ab_code (zx σ n0 bf).1 4031) 242 = .ok (.aload_n 0, 1) := zd zm_4031 (by decide +kernel)
theorem d_4031_243 {σ : Nat → Nat} {n0 : Nat} {bf : ab_B} : decode (ab_code (zx σ n0 bf).1 4031) 243 = .ok (.dup, 1) := zd zm_4031 (by decide +kernel)
theorem d_4031_244 {σ : Nat → Nat} {n0 : Nat} {bf : ab_B} : decode (ab_code (zx σ n0 bf).1 4031) 244 = .ok (.getfield 43, 3) := zd zm_4031 (by decide +kernel)
theorem d_4031_247 {σ : Nat → Nat} {n0 : Nat} {bf : ab_B} : decode (ab_code (zx σ n0 bf).1 4031) 247 = .ok (.iconst 1, 1) := zd zm_4031 (by decide +kernel)
theorem d_4031_248 {σ : Nat → Nat} {n0 : Nat} {bf : ab_B} : decode (ab_code (zx σ n0 bf).1 4031) 248 = .ok (.isub, 1) := zd zm_4031 (by decide +kernel)
theorem d_4031_249 {σ : Nat → Nat} {n0 : Nat} {bf : ab_B} : decode (ab_code (zx σ n0 bf).1 4031) 249 = .ok (.putfield 43, 3) := zd zm_4031 (by decide +kernel)
theorem d_4031_252 {σ : Nat → Nat} {n0 : Nat} {bf : ab_B} : decode (ab_code (zx σ n0 bf).1 4031) 252 = .ok (.aload_n 2, 1) := zd zm_4031 (by decide +kernel)
theorem d_4031_253 {σ : Nat → Nat} {n0 : Nat} {bf : ab_B} : decode (ab_code (zx σ n0 bf).1 4031) 253 = .ok (.areturn, 1) := zd zm_4031 (by decide +kernel)
def w_X5_params_225 (X : zs_X) (d : Nat) (q0 : Option Nat) (q1 : Int32) (S : zs_T) (Q : zs_Q) : Prop :=
  (∃ b1, q0 = some b1 ∧ zs_K S b1 = some (.inl 4) ∧ zs_C X d 4006 [.ref b1, .int q1] S (zs_kR (fun v5 S4 => (∃ b6, v5 = some b6 ∧ Q (.threw b6) S4)) Q))
theorem u_X5_params_225 {σ : Nat → Nat} {n0 : Nat} {bf : ab_B} {d : Nat} {q0 : Option Nat} {q1 : Int32} {S : zs_T} {Q : zs_Q} (hB : zt_B bf) (h : w_X5_params_225 (zx σ n0 bf) d q0 q1 S Q) : zs_U (zx σ n0 bf) d 4031 225 [] [.int q1, va_rf q0] S Q := by
  unfold w_X5_params_225 at h
  obtain ⟨b1, e2, h⟩ := h
  refine zs_stk1 (zs_rfe e2) ?_
  obtain ⟨k3, h⟩ := h
  refine zc_4_25 (x0 := q1) hB rfl k3 d_4031_225 (Nat.le_of_ble_eq_true rfl) h (fun v5 S4 h => ?_)
  obtain ⟨b6, e7, h⟩ := h
  refine zs_stk0 (zs_rfe e7) ?_
  exact zu_throw d_4031_228 h
def w_X5_params_220 (X : zs_X) (d : Nat) (q0 : Option Nat) (S : zs_T) (Q : zs_Q) : Prop :=
  (w_X5_params_225 X d q0 (5 : Int32) S Q)
theorem u_X5_params_220 {σ : Nat → Nat} {n0 : Nat} {bf : ab_B} {d : Nat} {q0 : Option Nat} {S : zs_T} {Q : zs_Q} (hB : zt_B bf) (h : w_X5_params_220 (zx σ n0 bf) d q0 S Q) : zs_U (zx σ n0 bf) d 4031 220 [] [va_rf q0] S Q := by
  unfold w_X5_params_220 at h
  refine zu_iconst d_4031_220 zi_5 ?_
  refine zu_goto (t := 225) d_4031_221 rfl ?_
  exact (u_X5_params_225 hB h).weak trivial
def w_X5_params_189 (X : zs_X) (d : Nat) (p0 : Nat) (p1 : Option Nat) (p2 : Option Nat) (p3 : Option Nat) (p4 : Int32) (q0 : Option Nat) (q1 : Int32) (S : zs_T) (Q : zs_Q) : Prop :=
  (∃ b1, q0 = some b1 ∧ zs_K S b1 = some (.inl 5) ∧ zs_C X d 5017 [.ref b1, .int q1] S (zs_kI (fun v5 S4 => (((¬ v5 = 0 → (zs_U X d 4031 41 [(0, .ref p0), (1, va_rf p1), (2, va_rf p2), (3, va_rf p3), (4, .int (p4 + (1 : Int32)))] [] S4 Q)) ∧ (¬ (¬ v5 = 0) → (zs_K S4 p0 = some (.inl 4) ∧ ∃ b8, (zs_R S4 4000 p0) = some b8 ∧ zs_K S4 b8 = some (.inl 5) ∧ zs_C X d 5017 [.ref b8, .int (44 : Int32)] S4 (zs_kI (fun v12 S11 => (((¬ v12 = 0 → w_X5_params_220 X d (some p0) S11 Q) ∧ (¬ (¬ v12 = 0) → (zs_K S11 p0 = some (.inl 4) ∧ ∃ b15, (zs_R S11 4000 p0) = some b15 ∧ zs_K S11 b15 = some (.inl 5) ∧ zs_C X d 5017 [.ref b15, .int (41 : Int32)] S11 (zs_kI (fun v19 S18 => (((v19 = 0 → (w_X5_params_225 X d (some p0) (2 : Int32) S18 Q)) ∧ (¬ (v19 = 0) → w_X5_params_220 X d (some p0) S18 Q)))) Q)))))) Q)))))) Q))
theorem u_X5_params_189 {σ : Nat → Nat} {n0 : Nat} {bf : ab_B} {d : Nat} {p0 : Nat} {p1 : Option Nat} {p2 : Option Nat} {p3 : Option Nat} {p4 : Int32} {q0 : Option Nat} {q1 : Int32} {S : zs_T} {Q : zs_Q} (hB : zt_B bf) (h : w_X5_params_189 (zx σ n0 bf) d p0 p1 p2 p3 p4 q0 q1 S Q) : zs_U (zx σ n0 bf) d 4031 189 [(0, .ref p0), (1, va_rf p1), (2, va_rf p2), (3, va_rf p3), (4, .int p4)] [.int q1, va_rf q0] S Q := by
  unfold w_X5_params_189 at h
  obtain ⟨b1, e2, h⟩ := h
  refine zs_stk1 (zs_rfe e2) ?_
  obtain ⟨k3, h⟩ := h
  refine zc_4_21 (x0 := q1) hB rfl k3 d_4031_189 (Nat.le_of_ble_eq_true rfl) h (fun v5 S4 h => ?_)
  refine zu_ifne (t := 229) d_4031_192 rfl (fun c6 => ?_) (fun c6 => ?_)
  · have h := h.1 c6
    refine zu_iinc d_4031_229 rfl zi_1 (zs_lt zq_4031 rfl) ?_
    refine zs_U.weak (L1 := [(4, .int (p4 + (1 : Int32))), (0, .ref p0), (1, va_rf p1), (2, va_rf p2), (3, va_rf p3)]) ?_ ⟨rfl, zs_gp1 rfl (Or.inl rfl) rfl, zs_gp1 rfl (Or.inl (zs_cat _)) rfl, zs_gp1 rfl (Or.inl (zs_cat _)) rfl, zs_gp1 rfl (Or.inl (zs_cat _)) rfl, trivial⟩
    refine zu_goto (t := 41) d_4031_232 rfl ?_
    exact h.weak ⟨rfl, rfl, rfl, rfl, rfl, trivial⟩
  · have h := h.2 c6
    refine zu_aload_n d_4031_195 rfl (zs_ra _) ?_
    refine zu_aload_n d_4031_196 rfl (zs_ra _) ?_
    obtain ⟨k7, h⟩ := h
    refine zg_4_5 rfl d_4031_197 k7 ?_
    refine zu_bipush d_4031_200 zj_44 ?_
    obtain ⟨b8, e9, h⟩ := h
    refine zs_stk1 (zs_rfe e9) ?_
    obtain ⟨k10, h⟩ := h
    refine zc_4_21 (x0 := (44 : Int32)) hB rfl k10 d_4031_202 (Nat.le_of_ble_eq_true rfl) h (fun v12 S11 h => ?_)
    refine zu_ifne (t := 220) d_4031_205 rfl (fun c13 => ?_) (fun c13 => ?_)
    · have h := h.1 c13
      exact (u_X5_params_220 hB h).weak trivial
    · have h := h.2 c13
      refine zu_aload_n d_4031_208 rfl (zs_ra _) ?_
      obtain ⟨k14, h⟩ := h
      refine zg_4_5 rfl d_4031_209 k14 ?_
      refine zu_bipush d_4031_212 zj_41 ?_
      obtain ⟨b15, e16, h⟩ := h
      refine zs_stk1 (zs_rfe e16) ?_
      obtain ⟨k17, h⟩ := h
      refine zc_4_21 (x0 := (41 : Int32)) hB rfl k17 d_4031_214 (Nat.le_of_ble_eq_true rfl) h (fun v19 S18 h => ?_)
      refine zu_ifeq (t := 224) d_4031_217 rfl (fun c20 => ?_) (fun c20 => ?_)
      · have h := h.1 c20
        refine zu_iconst d_4031_224 zi_2 ?_
        exact (u_X5_params_225 hB h).weak trivial
      · have h := h.2 c20
        exact (u_X5_params_220 hB h).weak trivial
def w_X5_params_161 (X : zs_X) (d : Nat) (p0 : Nat) (p1 : Option Nat) (p2 : Option Nat) (p4 : Int32) (p5 : Option Nat) (S : zs_T) (Q : zs_Q) : Prop :=
  (zs_K S p0 = some (.inl 4) ∧ ∃ b2, p1 = some b2 ∧ zs_K S b2 = some (.inl 10) ∧ ∃ b5, (zs_R S 10004 b2) = some b5 ∧ zs_K S b5 = some (.inl 16) ∧ zs_C X d 16001 [.ref b5] S (zs_kI (fun v9 S8 => (((¬ (p4 + (1 : Int32)) = v9 → (w_X5_params_189 X d p0 p1 p2 p5 p4 (zs_R S 4000 p0) (44 : Int32) S8 Q)) ∧ (¬ (¬ (p4 + (1 : Int32)) = v9) → (w_X5_params_189 X d p0 p1 p2 p5 p4 (zs_R S 4000 p0) (41 : Int32) S8 Q))))) Q))
theorem u_X5_params_161 {σ : Nat → Nat} {n0 : Nat} {bf : ab_B} {d : Nat} {p0 : Nat} {p1 : Option Nat} {p2 : Option Nat} {p4 : Int32} {p5 : Option Nat} {S : zs_T} {Q : zs_Q} (hB : zt_B bf) (h : w_X5_params_161 (zx σ n0 bf) d p0 p1 p2 p4 p5 S Q) : zs_U (zx σ n0 bf) d 4031 161 [(0, .ref p0), (1, va_rf p1), (2, va_rf p2), (4, .int p4), (5, va_rf p5)] [] S Q := by
  unfold w_X5_params_161 at h
  refine zu_aload d_4031_161 rfl (zs_rr _) ?_
  refine zu_astore_n d_4031_163 (zs_rr _) (zs_lt zq_4031 rfl) ?_
  refine zs_U.weak (L1 := [(3, va_rf p5), (0, .ref p0), (1, va_rf p1), (2, va_rf p2), (4, .int p4), (5, va_rf p5)]) ?_ ⟨rfl, zs_gp1 rfl (Or.inl rfl) rfl, zs_gp1 rfl (Or.inl (zs_cat _)) rfl, zs_gp1 rfl (Or.inl (zs_cat _)) rfl, zs_gp1 rfl (Or.inl rfl) rfl, zs_gp1 rfl (Or.inl (zs_cat _)) rfl, trivial⟩
  refine zu_aload_n d_4031_164 rfl (zs_ra _) ?_
  obtain ⟨k1, h⟩ := h
  refine zg_4_5 rfl d_4031_165 k1 ?_
  refine zu_iload d_4031_168 rfl ?_
  refine zu_iconst d_4031_170 zi_1 ?_
  refine zu_stk d_4031_171 rfl rfl ?_
  refine zu_aload_n d_4031_172 rfl (zs_rr _) ?_
  obtain ⟨b2, e3, h⟩ := h
  refine zs_stk0 (zs_rfe e3) ?_
  obtain ⟨k4, h⟩ := h
  refine zg_4_247 rfl d_4031_173 k4 ?_
  obtain ⟨b5, e6, h⟩ := h
  refine zs_stk0 (zs_rfe e6) ?_
  obtain ⟨k7, h⟩ := h
  refine zc_4_50  hB rfl k7 d_4031_176 (by simp only [List.map_cons, List.map_nil, List.sum_cons, List.sum_nil, zs_cat, zs_cI, zs_cJ, zs_cA]; exact Nat.le_of_ble_eq_true rfl) h (fun v9 S8 h => ?_)
  refine zu_cmpne (t := 187) d_4031_179 rfl (fun c10 => ?_) (fun c10 => ?_)
  · have h := h.1 c10
    refine zu_bipush d_4031_187 zj_44 ?_
    exact (u_X5_params_189 hB h).weak ⟨rfl, rfl, rfl, rfl, rfl, trivial⟩
  · have h := h.2 c10
    refine zu_bipush d_4031_182 zj_41 ?_
    refine zu_goto (t := 189) d_4031_184 rfl ?_
    exact (u_X5_params_189 hB h).weak ⟨rfl, rfl, rfl, rfl, rfl, trivial⟩
def w_X5_params_144 (X : zs_X) (d : Nat) (p0 : Nat) (p1 : Option Nat) (p2 : Option Nat) (p3 : Option Nat) (p4 : Int32) (p5 : Option Nat) (S : zs_T) (Q : zs_Q) : Prop :=
  (((¬ p4 = 0 → (∃ b2, p3 = some b2 ∧ zs_K S b2 = some (.inl 11) ∧ ab_n0 X.1 ≤ b2 ∧ ∀ S6, S6 = zs_sR S 11007 b2 p5 → w_X5_params_161 X d p0 p1 p2 p4 p5 S6 Q)) ∧ (¬ (¬ p4 = 0) → (w_X5_params_161 X d p0 p1 p5 p4 p5 S Q))))
theorem u_X5_params_144 {σ : Nat → Nat} {n0 : Nat} {bf : ab_B} {d : Nat} {p0 : Nat} {p1 : Option Nat} {p2 : Option Nat} {p3 : Option Nat} {p4 : Int32} {p5 : Option Nat} {S : zs_T} {Q : zs_Q} (hB : zt_B bf) (h : w_X5_params_144 (zx σ n0 bf) d p0 p1 p2 p3 p4 p5 S Q) : zs_U (zx σ n0 bf) d 4031 144 [(0, .ref p0), (1, va_rf p1), (2, va_rf p2), (3, va_rf p3), (4, .int p4), (5, va_rf p5)] [] S Q := by
  unfold w_X5_params_144 at h
  refine zu_iload d_4031_144 rfl ?_
  refine zu_ifne (t := 155) d_4031_146 rfl (fun c1 => ?_) (fun c1 => ?_)
  · have h := h.1 c1
    refine zu_aload_n d_4031_155 rfl (zs_rr _) ?_
    refine zu_aload d_4031_156 rfl (zs_rr _) ?_
    obtain ⟨b2, e3, h⟩ := h
    refine zs_stk1 (zs_rfe e3) ?_
    obtain ⟨k4, h⟩ := h
    obtain ⟨k5, h⟩ := h
    refine zp_4_487 (v := p5) rfl d_4031_158 k4 k5 ?_
    generalize e7 : zs_sR S 11007 b2 p5 = S6
    have h := h S6 e7.symm
    have K8 : ∀ b, zs_K S6 b = zs_K S b := zs_Kt e7 (zs_KsR _ _ _ _) (fun _ => rfl)
    exact (u_X5_params_161 hB h).weak ⟨rfl, rfl, rfl, rfl, rfl, trivial⟩
  · have h := h.2 c1
    refine zu_aload d_4031_149 rfl (zs_rr _) ?_
    refine zu_astore_n d_4031_151 (zs_rr _) (zs_lt zq_4031 rfl) ?_
    refine zs_U.weak (L1 := [(2, va_rf p5), (0, .ref p0), (1, va_rf p1), (3, va_rf p3), (4, .int p4), (5, va_rf p5)]) ?_ ⟨rfl, zs_gp1 rfl (Or.inl rfl) rfl, zs_gp1 rfl (Or.inl (zs_cat _)) rfl, zs_gp1 rfl (Or.inl (zs_cat _)) rfl, zs_gp1 rfl (Or.inl rfl) rfl, zs_gp1 rfl (Or.inl (zs_cat _)) rfl, trivial⟩
    refine zu_goto (t := 161) d_4031_152 rfl ?_
    exact (u_X5_params_161 hB h).weak ⟨rfl, rfl, rfl, rfl, rfl, trivial⟩
def w_X5_params_137 (X : zs_X) (d : Nat) (p0 : Nat) (S : zs_T) (Q : zs_Q) : Prop :=
  (zs_K S p0 = some (.inl 4) ∧ zs_C X d 4006 [.ref p0, .int (6 : Int32)] S (zs_kR (fun v3 S2 => (∃ b4, v3 = some b4 ∧ Q (.threw b4) S2)) Q))
theorem u_X5_params_137 {σ : Nat → Nat} {n0 : Nat} {bf : ab_B} {d : Nat} {p0 : Nat} {S : zs_T} {Q : zs_Q} (hB : zt_B bf) (h : w_X5_params_137 (zx σ n0 bf) d p0 S Q) : zs_U (zx σ n0 bf) d 4031 137 [(0, .ref p0)] [] S Q := by
  unfold w_X5_params_137 at h
  refine zu_aload_n d_4031_137 rfl (zs_ra _) ?_
  refine zu_bipush d_4031_138 zj_6 ?_
  obtain ⟨k1, h⟩ := h
  refine zc_4_25 (x0 := (6 : Int32)) hB rfl k1 d_4031_140 (Nat.le_of_ble_eq_true rfl) h (fun v3 S2 h => ?_)
  obtain ⟨b4, e5, h⟩ := h
  refine zs_stk0 (zs_rfe e5) ?_
  exact zu_throw d_4031_143 h
def w_X5_params_93 (X : zs_X) (d : Nat) (p0 : Nat) (p1 : Option Nat) (p2 : Option Nat) (p3 : Option Nat) (p4 : Int32) (p5 : Option Nat) (S : zs_T) (Q : zs_Q) : Prop :=
  (∃ b1, p1 = some b1 ∧ zs_K S b1 = some (.inl 10) ∧ ∃ b4, (zs_R S 10004 b1) = some b4 ∧ zs_K S b4 = some (.inl 16) ∧ zs_C X d 16009 [.ref b4, .int p4] S (zs_kR (fun v8 S7 => ((∀ a, v8 = some a → zs_K S7 a = some (.inl 7)) ∧ ∃ b10, v8 = some b10 ∧ zs_K S7 b10 = some (.inl 7) ∧ (((zs_I S7 7010 b10) = 0 → w_X5_params_144 X d p0 p1 p2 p3 p4 p5 S7 Q) ∧ (¬ ((zs_I S7 7010 b10) = 0) → (zs_K S7 b1 = some (.inl 10) ∧ ∃ b15, (zs_R S7 10004 b1) = some b15 ∧ zs_K S7 b15 = some (.inl 16) ∧ zs_C X d 16009 [.ref b15, .int p4] S7 (zs_kR (fun v19 S18 => ((∀ a, v19 = some a → zs_K S18 a = some (.inl 7)) ∧ ∃ b21, v19 = some b21 ∧ zs_K S18 b21 = some (.inl 7) ∧ ((¬ (zs_I S18 7009 b21) = 0 → w_X5_params_144 X d p0 p1 p2 p3 p4 p5 S18 Q) ∧ (¬ (¬ (zs_I S18 7009 b21) = 0) → (zs_C X d 4043 [va_rf p5] S18 (zs_kI (fun v26 S25 => (((¬ v26 = 0 → w_X5_params_144 X d p0 p1 p2 p3 p4 p5 S25 Q) ∧ (¬ (¬ v26 = 0) → w_X5_params_137 X d p0 S25 Q)))) Q)))))) Q)))))) Q))
theorem u_X5_params_93 {σ : Nat → Nat} {n0 : Nat} {bf : ab_B} {d : Nat} {p0 : Nat} {p1 : Option Nat} {p2 : Option Nat} {p3 : Option Nat} {p4 : Int32} {p5 : Option Nat} {S : zs_T} {Q : zs_Q} (hB : zt_B bf) (h : w_X5_params_93 (zx σ n0 bf) d p0 p1 p2 p3 p4 p5 S Q) : zs_U (zx σ n0 bf) d 4031 93 [(0, .ref p0), (1, va_rf p1), (2, va_rf p2), (3, va_rf p3), (4, .int p4), (5, va_rf p5)] [] S Q := by
  unfold w_X5_params_93 at h
  refine zu_aload_n d_4031_93 rfl (zs_rr _) ?_
  obtain ⟨b1, e2, h⟩ := h
  refine zs_stk0 (zs_rfe e2) ?_
  obtain ⟨k3, h⟩ := h
  refine zg_4_247 rfl d_4031_94 k3 ?_
  refine zu_iload d_4031_97 rfl ?_
  obtain ⟨b4, e5, h⟩ := h
  refine zs_stk1 (zs_rfe e5) ?_
  obtain ⟨k6, h⟩ := h
  refine zc_4_56 (x0 := p4) hB rfl k6 d_4031_99 (Nat.le_of_ble_eq_true rfl) h (fun v8 S7 h => ?_)
  obtain ⟨k9, h⟩ := h
  refine zk_4_60 (o := v8) rfl d_4031_102 k9 ?_
  obtain ⟨b10, e11, h⟩ := h
  refine zs_stk0 (zs_rfe e11) ?_
  obtain ⟨k12, h⟩ := h
  refine zg_4_690 rfl d_4031_105 k12 ?_
  refine zu_ifeq (t := 144) d_4031_108 rfl (fun c13 => ?_) (fun c13 => ?_)
  · have h := h.1 c13
    exact (u_X5_params_144 hB h).weak ⟨rfl, rfl, rfl, rfl, rfl, rfl, trivial⟩
  · have h := h.2 c13
    refine zu_aload_n d_4031_111 rfl (zs_rr _) ?_
    refine zs_stk0 (zs_rfe e2) ?_
    obtain ⟨k14, h⟩ := h
    refine zg_4_247 rfl d_4031_112 k14 ?_
    refine zu_iload d_4031_115 rfl ?_
    obtain ⟨b15, e16, h⟩ := h
    refine zs_stk1 (zs_rfe e16) ?_
    obtain ⟨k17, h⟩ := h
    refine zc_4_56 (x0 := p4) hB rfl k17 d_4031_117 (Nat.le_of_ble_eq_true rfl) h (fun v19 S18 h => ?_)
    obtain ⟨k20, h⟩ := h
    refine zk_4_60 (o := v19) rfl d_4031_120 k20 ?_
    obtain ⟨b21, e22, h⟩ := h
    refine zs_stk0 (zs_rfe e22) ?_
    obtain ⟨k23, h⟩ := h
    refine zg_4_111 rfl d_4031_123 k23 ?_
    refine zu_ifne (t := 144) d_4031_126 rfl (fun c24 => ?_) (fun c24 => ?_)
    · have h := h.1 c24
      exact (u_X5_params_144 hB h).weak ⟨rfl, rfl, rfl, rfl, rfl, rfl, trivial⟩
    · have h := h.2 c24
      refine zu_aload d_4031_129 rfl (zs_rr _) ?_
      refine zc_4_693 (x0 := p5) hB rfl d_4031_131 (Nat.le_of_ble_eq_true rfl) h (fun v26 S25 h => ?_)
      refine zu_ifne (t := 144) d_4031_134 rfl (fun c27 => ?_) (fun c27 => ?_)
      · have h := h.1 c27
        exact (u_X5_params_144 hB h).weak ⟨rfl, rfl, rfl, rfl, rfl, rfl, trivial⟩
      · have h := h.2 c27
        exact (u_X5_params_137 hB h).weak ⟨rfl, trivial⟩
def w_X5_params_87 (X : zs_X) (d : Nat) (p0 : Nat) (S : zs_T) (Q : zs_Q) : Prop :=
  (zs_K S p0 = some (.inl 4) ∧ zs_C X d 4006 [.ref p0, .int (5 : Int32)] S (zs_kR (fun v3 S2 => (∃ b4, v3 = some b4 ∧ Q (.threw b4) S2)) Q))
theorem u_X5_params_87 {σ : Nat → Nat} {n0 : Nat} {bf : ab_B} {d : Nat} {p0 : Nat} {S : zs_T} {Q : zs_Q} (hB : zt_B bf) (h : w_X5_params_87 (zx σ n0 bf) d p0 S Q) : zs_U (zx σ n0 bf) d 4031 87 [(0, .ref p0)] [] S Q := by
  unfold w_X5_params_87 at h
  refine zu_aload_n d_4031_87 rfl (zs_ra _) ?_
  refine zu_iconst d_4031_88 zi_5 ?_
  obtain ⟨k1, h⟩ := h
  refine zc_4_25 (x0 := (5 : Int32)) hB rfl k1 d_4031_89 (Nat.le_of_ble_eq_true rfl) h (fun v3 S2 h => ?_)
  obtain ⟨b4, e5, h⟩ := h
  refine zs_stk0 (zs_rfe e5) ?_
  exact zu_throw d_4031_92 h
def w_X5_params_41 (X : zs_X) (d : Nat) (p0 : Nat) (p1 : Option Nat) (p2 : Option Nat) (p3 : Option Nat) (p4 : Int32) (S : zs_T) (Q : zs_Q) : Prop :=
  (∃ b1, p1 = some b1 ∧ zs_K S b1 = some (.inl 10) ∧ ∃ b4, (zs_R S 10004 b1) = some b4 ∧ zs_K S b4 = some (.inl 16) ∧ zs_C X d 16001 [.ref b4] S (zs_kI (fun v8 S7 => (((v8 ≤ p4 → (zs_K S7 p0 = some (.inl 4) ∧ ∃ b11, (zs_R S7 4000 p0) = some b11 ∧ zs_K S7 b11 = some (.inl 5) ∧ zs_C X d 5004 [.ref b11] S7 (zs_kV (fun S14 => (zs_K S14 p0 = some (.inl 4) ∧ ab_n0 X.1 ≤ p0 ∧ ∀ S18, S18 = zs_sI S14 4011 p0 ((zs_I S14 4011 p0) - (1 : Int32)) → Q (.returned (some (va_rf p2))) S18)) Q))) ∧ (¬ (v8 ≤ p4) → (zs_K S7 p0 = some (.inl 4) ∧ ∃ b22, (zs_R S7 4000 p0) = some b22 ∧ zs_K S7 b22 = some (.inl 5) ∧ zs_C X d 5004 [.ref b22] S7 (zs_kV (fun S25 => (zs_K S25 p0 = some (.inl 4) ∧ zs_C X d 4014 [.ref p0] S25 (zs_kR (fun v29 S28 => (zs_K S28 b1 = some (.inl 10) ∧ ∃ b31, (zs_R S28 10004 b1) = some b31 ∧ zs_K S28 b31 = some (.inl 16) ∧ zs_C X d 16009 [.ref b31, .int p4] S28 (zs_kR (fun v35 S34 => ((∀ a, v35 = some a → zs_K S34 a = some (.inl 7)) ∧ zs_K S34 p0 = some (.inl 4) ∧ zs_C X d 4032 [.ref p0, va_rf v35, va_rf v29] S34 (zs_kI (fun v39 S38 => (((¬ v39 = 0 → w_X5_params_93 X d p0 p1 p2 p3 p4 v29 S38 Q) ∧ (¬ (¬ v39 = 0) → w_X5_params_87 X d p0 S38 Q)))) Q))) Q))) Q))) Q)))))) Q))
theorem u_X5_params_41 {σ : Nat → Nat} {n0 : Nat} {bf : ab_B} {d : Nat} {p0 : Nat} {p1 : Option Nat} {p2 : Option Nat} {p3 : Option Nat} {p4 : Int32} {S : zs_T} {Q : zs_Q} (hB : zt_B bf) (h : w_X5_params_41 (zx σ n0 bf) d p0 p1 p2 p3 p4 S Q) : zs_U (zx σ n0 bf) d 4031 41 [(0, .ref p0), (1, va_rf p1), (2, va_rf p2), (3, va_rf p3), (4, .int p4)] [] S Q := by
  unfold w_X5_params_41 at h
  refine zu_iload d_4031_41 rfl ?_
  refine zu_aload_n d_4031_43 rfl (zs_rr _) ?_
  obtain ⟨b1, e2, h⟩ := h
  refine zs_stk0 (zs_rfe e2) ?_
  obtain ⟨k3, h⟩ := h
  refine zg_4_247 rfl d_4031_44 k3 ?_
  obtain ⟨b4, e5, h⟩ := h
  refine zs_stk0 (zs_rfe e5) ?_
  obtain ⟨k6, h⟩ := h
  refine zc_4_50  hB rfl k6 d_4031_47 (Nat.le_of_ble_eq_true rfl) h (fun v8 S7 h => ?_)
  refine zu_cmpge (t := 235) d_4031_50 rfl (fun c9 => ?_) (fun c9 => ?_)
  · have h := h.1 c9
    refine zu_aload_n d_4031_235 rfl (zs_ra _) ?_
    obtain ⟨k10, h⟩ := h
    refine zg_4_5 rfl d_4031_236 k10 ?_
    obtain ⟨b11, e12, h⟩ := h
    refine zs_stk0 (zs_rfe e12) ?_
    obtain ⟨k13, h⟩ := h
    refine zc_4_29  hB rfl k13 d_4031_239 (Nat.le_of_ble_eq_true rfl) h (fun S14 h => ?_)
    refine zu_aload_n d_4031_242 rfl (zs_ra _) ?_
    refine zu_dup d_4031_243 rfl ?_
    obtain ⟨k16, h⟩ := h
    refine zg_4_43 rfl d_4031_244 k16 ?_
    refine zu_iconst d_4031_247 zi_1 ?_
    refine zu_stk d_4031_248 rfl rfl ?_
    obtain ⟨k17, h⟩ := h
    refine zp_4_43 (v := ((zs_I S14 4011 p0) - (1 : Int32))) rfl d_4031_249 k16 k17 ?_
    generalize e19 : zs_sI S14 4011 p0 ((zs_I S14 4011 p0) - (1 : Int32)) = S18
    have h := h S18 e19.symm
    have K20 : ∀ b, zs_K S18 b = zs_K S14 b := zs_Kt e19 (zs_KsI _ _ _ _) (fun _ => rfl)
    refine zu_aload_n d_4031_252 rfl (zs_rr _) ?_
    exact zu_aret d_4031_253 zr_4031 (zs_rr _) h
  · have h := h.2 c9
    refine zu_aload_n d_4031_53 rfl (zs_ra _) ?_
    obtain ⟨k21, h⟩ := h
    refine zg_4_5 rfl d_4031_54 k21 ?_
    obtain ⟨b22, e23, h⟩ := h
    refine zs_stk0 (zs_rfe e23) ?_
    obtain ⟨k24, h⟩ := h
    refine zc_4_29  hB rfl k24 d_4031_57 (Nat.le_of_ble_eq_true rfl) h (fun S25 h => ?_)
    refine zu_aload_n d_4031_60 rfl (zs_ra _) ?_
    obtain ⟨k27, h⟩ := h
    refine zc_4_569  hB rfl k27 d_4031_61 (Nat.le_of_ble_eq_true rfl) h (fun v29 S28 h => ?_)
    refine zu_astore d_4031_64 (zs_rr _) (zs_lt zq_4031 rfl) ?_
    refine zu_aload_n d_4031_66 rfl (zs_ra _) ?_
    refine zu_aload_n d_4031_67 rfl (zs_rr _) ?_
    refine zs_stk0 (zs_rfe e2) ?_
    obtain ⟨k30, h⟩ := h
    refine zg_4_247 rfl d_4031_68 k30 ?_
    refine zu_iload d_4031_71 rfl ?_
    obtain ⟨b31, e32, h⟩ := h
    refine zs_stk1 (zs_rfe e32) ?_
    obtain ⟨k33, h⟩ := h
    refine zc_4_56 (x0 := p4) hB rfl k33 d_4031_73 (Nat.le_of_ble_eq_true rfl) h (fun v35 S34 h => ?_)
    obtain ⟨k36, h⟩ := h
    refine zk_4_60 (o := v35) rfl d_4031_76 k36 ?_
    refine zu_aload d_4031_79 rfl (zs_rr _) ?_
    obtain ⟨k37, h⟩ := h
    refine zc_4_686 (x0 := v35) (x1 := v29) hB rfl k37 d_4031_81 (Nat.le_of_ble_eq_true rfl) h (fun v39 S38 h => ?_)
    refine zu_ifne (t := 93) d_4031_84 rfl (fun c40 => ?_) (fun c40 => ?_)
    · have h := h.1 c40
      exact (u_X5_params_93 hB h).weak ⟨rfl, rfl, rfl, rfl, rfl, rfl, trivial⟩
    · have h := h.2 c40
      exact (u_X5_params_87 hB h).weak ⟨rfl, trivial⟩
def w_X5_params (X : zs_X) (d : Nat) (p0 : Nat) (p1 : Option Nat) (S : zs_T) (Q : zs_Q) : Prop :=
  (∃ b1, p1 = some b1 ∧ zs_K S b1 = some (.inl 10) ∧ ∃ b4, (zs_R S 10004 b1) = some b4 ∧ zs_K S b4 = some (.inl 16) ∧ zs_C X d 16001 [.ref b4] S (zs_kI (fun v8 S7 => (((¬ v8 = 0 → (zs_K S7 p0 = some (.inl 4) ∧ ∃ b11, (zs_R S7 4000 p0) = some b11 ∧ zs_K S7 b11 = some (.inl 5) ∧ zs_C X d 5017 [.ref b11, .int (40 : Int32)] S7 (zs_kI (fun v15 S14 => (((¬ v15 = 0 → (zs_K S14 p0 = some (.inl 4) ∧ zs_C X d 4021 [.ref p0] S14 (zs_kV (fun S18 => (zs_U X d 4031 41 [(0, .ref p0), (1, va_rf p1), (2, va_rf none), (3, va_rf none), (4, .int (0 : Int32))] [] S18 Q)) Q))) ∧ (¬ (¬ v15 = 0) → (zs_K S14 p0 = some (.inl 4) ∧ zs_C X d 4006 [.ref p0, .int (5 : Int32)] S14 (zs_kR (fun v22 S21 => (∃ b23, v22 = some b23 ∧ Q (.threw b23) S21)) Q)))))) Q))) ∧ (¬ (¬ v8 = 0) → (Q (.returned (some (.null))) S7))))) Q))
theorem u_X5_params {σ : Nat → Nat} {n0 : Nat} {bf : ab_B} {d : Nat} {p0 : Nat} {p1 : Option Nat} {S : zs_T} {Q : zs_Q} (hB : zt_B bf) (hd : 1 ≤ d) (h : w_X5_params (zx σ n0 bf) (d - 1) p0 p1 S Q) : zs_C (zx σ n0 bf) d 4031 [.ref p0, va_rf p1] S Q := by
  have hL : lv_args 0 [.ref p0, va_rf p1] = [(0, .ref p0), (1, va_rf p1)] := by simp [lv_args, zs_cat, zs_cI, zs_cJ, zs_cA]
  refine zs_C.of1 (hB.2 4031 (by decide) (by decide)) hd (by rw [hL]; exact zs_sub_self _ (by exact ⟨rfl, rfl, trivial⟩)) ?_
  rw [hL]
  clear hL
  unfold w_X5_params at h
  refine zu_aload_n d_4031_0 rfl (zs_rr _) ?_
  obtain ⟨b1, e2, h⟩ := h
  refine zs_stk0 (zs_rfe e2) ?_
  obtain ⟨k3, h⟩ := h
  refine zg_4_247 rfl d_4031_1 k3 ?_
  obtain ⟨b4, e5, h⟩ := h
  refine zs_stk0 (zs_rfe e5) ?_
  obtain ⟨k6, h⟩ := h
  refine zc_4_50  hB rfl k6 d_4031_4 (Nat.le_of_ble_eq_true rfl) h (fun v8 S7 h => ?_)
  refine zu_ifne (t := 12) d_4031_7 rfl (fun c9 => ?_) (fun c9 => ?_)
  · have h := h.1 c9
    refine zu_aload_n d_4031_12 rfl (zs_ra _) ?_
    obtain ⟨k10, h⟩ := h
    refine zg_4_5 rfl d_4031_13 k10 ?_
    refine zu_bipush d_4031_16 zj_40 ?_
    obtain ⟨b11, e12, h⟩ := h
    refine zs_stk1 (zs_rfe e12) ?_
    obtain ⟨k13, h⟩ := h
    refine zc_4_21 (x0 := (40 : Int32)) hB rfl k13 d_4031_18 (Nat.le_of_ble_eq_true rfl) h (fun v15 S14 h => ?_)
    refine zu_ifne (t := 30) d_4031_21 rfl (fun c16 => ?_) (fun c16 => ?_)
    · have h := h.1 c16
      refine zu_aload_n d_4031_30 rfl (zs_ra _) ?_
      obtain ⟨k17, h⟩ := h
      refine zc_4_357  hB rfl k17 d_4031_31 (Nat.le_of_ble_eq_true rfl) h (fun S18 h => ?_)
      refine zu_stk d_4031_34 rfl rfl ?_
      refine zu_astore_n d_4031_35 zs_r0 (zs_lt zq_4031 rfl) ?_
      refine zs_U.weak (L1 := [(2, .null), (0, .ref p0), (1, va_rf p1)]) ?_ ⟨rfl, zs_gp1 rfl (Or.inl rfl) rfl, zs_gp1 rfl (Or.inl (zs_cat _)) rfl, trivial⟩
      refine zu_stk d_4031_36 rfl rfl ?_
      refine zu_astore_n d_4031_37 zs_r0 (zs_lt zq_4031 rfl) ?_
      refine zu_iconst d_4031_38 zi_0 ?_
      refine zu_istore d_4031_39 (zs_lt zq_4031 rfl) ?_
      exact h.weak ⟨rfl, rfl, rfl, rfl, rfl, trivial⟩
    · have h := h.2 c16
      refine zu_aload_n d_4031_24 rfl (zs_ra _) ?_
      refine zu_iconst d_4031_25 zi_5 ?_
      obtain ⟨k20, h⟩ := h
      refine zc_4_25 (x0 := (5 : Int32)) hB rfl k20 d_4031_26 (Nat.le_of_ble_eq_true rfl) h (fun v22 S21 h => ?_)
      obtain ⟨b23, e24, h⟩ := h
      refine zs_stk0 (zs_rfe e24) ?_
      exact zu_throw d_4031_29 h
  · have h := h.2 c9
    refine zu_stk d_4031_10 rfl rfl ?_
    exact zu_aret d_4031_11 zr_4031 zs_r0 h
/-! SchemaPascal$Reader.passes(LSchemaPascal$Symbol;LSchemaPascal$Node;)Z -/
theorem zm_4032 {σ : Nat → Nat} {n0 : Nat} {bf : ab_B} : ab_code (zx σ n0 bf).1 4032 = prog_9_method_81_code := rfl
theorem zq_4032 {σ : Nat → Nat} {n0 : Nat} {bf : ab_B} : ab_maxL (zx σ n0 bf).1 4032 = 3 := rfl
theorem zr_4032 {σ : Nat → Nat} {n0 : Nat} {bf : ab_B} : ab_ret (zx σ n0 bf).1 4032 = (Option.some Jvm.ClassFile.FieldType.boolean) := rfl
theorem d_4032_0 {σ : Nat → Nat} {n0 : Nat} {bf : ab_B} : decode (ab_code (zx σ n0 bf).1 4032) 0 = .ok (.aload_n 1, 1) := zd zm_4032 (by decide +kernel)
theorem d_4032_1 {σ : Nat → Nat} {n0 : Nat} {bf : ab_B} : decode (ab_code (zx σ n0 bf).1 4032) 1 = .ok (.getfield 690, 3) := zd zm_4032 (by decide +kernel)
theorem d_4032_4 {σ : Nat → Nat} {n0 : Nat} {bf : ab_B} : decode (ab_code (zx σ n0 bf).1 4032) 4 = .ok (.ifCond .ne 13, 3) := zd zm_4032 (by decide +kernel)
theorem d_4032_7 {σ : Nat → Nat} {n0 : Nat} {bf : ab_B} : decode (ab_code (zx σ n0 bf).1 4032) 7 = .ok (.aload_n 0, 1) := zd zm_4032 (by decide +kernel)
theorem d_4032_8 {σ : Nat → Nat} {n0 : Nat} {bf : ab_B} : decode (ab_code (zx σ n0 bf).1 4032) 8 = .ok (.aload_n 1, 1) := zd zm_4032 (by decide +kernel)
theorem d_4032_9 {σ : Nat → Nat} {n0 : Nat} {bf : ab_B} : decode (ab_code (zx σ n0 bf).1 4032) 9 = .ok (.getfield 65, 3) := zd zm_4032 (by decide +kernel)
theorem d_4032_12 {σ : Nat → Nat} {n0 : Nat} {bf : ab_B} : decode (ab_code (zx σ n0 bf).1 4032) 12 = .ok (.aload_n 2, 1) := zd zm_4032 (by decide +kernel)
theorem d_4032_13 {σ : Nat → Nat} {n0 : Nat} {bf : ab_B} : decode (ab_code (zx σ n0 bf).1 4032) 13 = .ok (.invokevirtual 696, 3) := zd zm_4032 (by decide +kernel)
theorem d_4032_16 {σ : Nat → Nat} {n0 : Nat} {bf : ab_B} : decode (ab_code (zx σ n0 bf).1 4032) 16 = .ok (.ireturn, 1) := zd zm_4032 (by decide +kernel)
theorem d_4032_17 {σ : Nat → Nat} {n0 : Nat} {bf : ab_B} : decode (ab_code (zx σ n0 bf).1 4032) 17 = .ok (.aload_n 2, 1) := zd zm_4032 (by decide +kernel)
theorem d_4032_18 {σ : Nat → Nat} {n0 : Nat} {bf : ab_B} : decode (ab_code (zx σ n0 bf).1 4032) 18 = .ok (.invokevirtual 625, 3) := zd zm_4032 (by decide +kernel)
theorem d_4032_21 {σ : Nat → Nat} {n0 : Nat} {bf : ab_B} : decode (ab_code (zx σ n0 bf).1 4032) 21 = .ok (.ifCond .ne 5, 3) := zd zm_4032 (by decide +kernel)
theorem d_4032_24 {σ : Nat → Nat} {n0 : Nat} {bf : ab_B} : decode (ab_code (zx σ n0 bf).1 4032) 24 = .ok (.iconst 0, 1) := zd zm_4032 (by decide +kernel)
theorem d_4032_25 {σ : Nat → Nat} {n0 : Nat} {bf : ab_B} : decode (ab_code (zx σ n0 bf).1 4032) 25 = .ok (.ireturn, 1) := zd zm_4032 (by decide +kernel)
theorem d_4032_26 {σ : Nat → Nat} {n0 : Nat} {bf : ab_B} : decode (ab_code (zx σ n0 bf).1 4032) 26 = .ok (.aload_n 1, 1) := zd zm_4032 (by decide +kernel)
theorem d_4032_27 {σ : Nat → Nat} {n0 : Nat} {bf : ab_B} : decode (ab_code (zx σ n0 bf).1 4032) 27 = .ok (.getfield 65, 3) := zd zm_4032 (by decide +kernel)
theorem d_4032_30 {σ : Nat → Nat} {n0 : Nat} {bf : ab_B} : decode (ab_code (zx σ n0 bf).1 4032) 30 = .ok (.aload_n 2, 1) := zd zm_4032 (by decide +kernel)
theorem d_4032_31 {σ : Nat → Nat} {n0 : Nat} {bf : ab_B} : decode (ab_code (zx σ n0 bf).1 4032) 31 = .ok (.getfield 297, 3) := zd zm_4032 (by decide +kernel)
theorem d_4032_34 {σ : Nat → Nat} {n0 : Nat} {bf : ab_B} : decode (ab_code (zx σ n0 bf).1 4032) 34 = .ok (.invokestatic 700, 3) := zd zm_4032 (by decide +kernel)
theorem d_4032_37 {σ : Nat → Nat} {n0 : Nat} {bf : ab_B} : decode (ab_code (zx σ n0 bf).1 4032) 37 = .ok (.ireturn, 1) := zd zm_4032 (by decide +kernel)
def w_X5_passes (X : zs_X) (d : Nat) (p0 : Nat) (p1 : Option Nat) (p2 : Option Nat) (S : zs_T) (Q : zs_Q) : Prop :=
  (∃ b1, p1 = some b1 ∧ zs_K S b1 = some (.inl 7) ∧ ((¬ (zs_I S 7010 b1) = 0 → (∃ b5, p2 = some b5 ∧ zs_K S b5 = some (.inl 11) ∧ zs_C X d 11001 [.ref b5] S (zs_kI (fun v9 S8 => (((¬ v9 = 0 → (zs_K S8 b1 = some (.inl 7) ∧ zs_K S8 b5 = some (.inl 11) ∧ zs_C X d 4037 [va_rf (zs_R S8 7002 b1), va_rf (zs_R S8 11002 b5)] S8 (zs_kI (fun v14 S13 => (zs_b v14 ∧ Q (.returned (some (.int v14))) S13)) Q))) ∧ (¬ (¬ v9 = 0) → (Q (.returned (some (.int (0 : Int32)))) S8))))) Q))) ∧ (¬ (¬ (zs_I S 7010 b1) = 0) → (zs_K S p0 = some (.inl 4) ∧ zs_C X d 4033 [.ref p0, va_rf (zs_R S 7002 b1), va_rf p2] S (zs_kI (fun v18 S17 => (zs_b v18 ∧ Q (.returned (some (.int v18))) S17)) Q)))))
theorem u_X5_passes {σ : Nat → Nat} {n0 : Nat} {bf : ab_B} {d : Nat} {p0 : Nat} {p1 : Option Nat} {p2 : Option Nat} {S : zs_T} {Q : zs_Q} (hB : zt_B bf) (hd : 1 ≤ d) (h : w_X5_passes (zx σ n0 bf) (d - 1) p0 p1 p2 S Q) : zs_C (zx σ n0 bf) d 4032 [.ref p0, va_rf p1, va_rf p2] S Q := by
  have hL : lv_args 0 [.ref p0, va_rf p1, va_rf p2] = [(0, .ref p0), (1, va_rf p1), (2, va_rf p2)] := by simp [lv_args, zs_cat, zs_cI, zs_cJ, zs_cA]
  refine zs_C.of1 (hB.2 4032 (by decide) (by decide)) hd (by rw [hL]; exact zs_sub_self _ (by exact ⟨rfl, rfl, rfl, trivial⟩)) ?_
  rw [hL]
  clear hL
  unfold w_X5_passes at h
  refine zu_aload_n d_4032_0 rfl (zs_rr _) ?_
  obtain ⟨b1, e2, h⟩ := h
  refine zs_stk0 (zs_rfe e2) ?_
  obtain ⟨k3, h⟩ := h
  refine zg_4_690 rfl d_4032_1 k3 ?_
  refine zu_ifne (t := 17) d_4032_4 rfl (fun c4 => ?_) (fun c4 => ?_)
  · have h := h.1 c4
    refine zu_aload_n d_4032_17 rfl (zs_rr _) ?_
    obtain ⟨b5, e6, h⟩ := h
    refine zs_stk0 (zs_rfe e6) ?_
    obtain ⟨k7, h⟩ := h
    refine zc_4_625  hB rfl k7 d_4032_18 (Nat.le_of_ble_eq_true rfl) h (fun v9 S8 h => ?_)
    refine zu_ifne (t := 26) d_4032_21 rfl (fun c10 => ?_) (fun c10 => ?_)
    · have h := h.1 c10
      refine zu_aload_n d_4032_26 rfl (zs_rr _) ?_
      refine zs_stk0 (zs_rfe e2) ?_
      obtain ⟨k11, h⟩ := h
      refine zg_4_65 rfl d_4032_27 k11 ?_
      refine zu_aload_n d_4032_30 rfl (zs_rr _) ?_
      refine zs_stk0 (zs_rfe e6) ?_
      obtain ⟨k12, h⟩ := h
      refine zg_4_297 rfl d_4032_31 k12 ?_
      refine zc_4_700 (x0 := (zs_R S8 7002 b1)) (x1 := (zs_R S8 11002 b5)) hB rfl d_4032_34 (Nat.le_of_ble_eq_true rfl) h (fun v14 S13 h => ?_)
      obtain ⟨k15, h⟩ := h
      exact zu_iret d_4032_37 zr_4032 (zs_b_n k15) h
    · have h := h.2 c10
      refine zu_iconst d_4032_24 zi_0 ?_
      exact zu_iret d_4032_25 zr_4032 (zs_b_n (Or.inl rfl)) h
  · have h := h.2 c4
    refine zu_aload_n d_4032_7 rfl (zs_ra _) ?_
    refine zu_aload_n d_4032_8 rfl (zs_rr _) ?_
    refine zs_stk0 (zs_rfe e2) ?_
    refine zg_4_65 rfl d_4032_9 k3 ?_
    refine zu_aload_n d_4032_12 rfl (zs_rr _) ?_
    obtain ⟨k16, h⟩ := h
    refine zc_4_696 (x0 := (zs_R S 7002 b1)) (x1 := p2) hB rfl k16 d_4032_13 (Nat.le_of_ble_eq_true rfl) h (fun v18 S17 h => ?_)
    obtain ⟨k19, h⟩ := h
    exact zu_iret d_4032_16 zr_4032 (zs_b_n k19) h
/-! SchemaPascal$Reader.goes(LSchemaPascal$Type;LSchemaPascal$Node;)Z -/
theorem zm_4033 {σ : Nat → Nat} {n0 : Nat} {bf : ab_B} : ab_code (zx σ n0 bf).1 4033 = prog_9_method_85_code := rfl
theorem zq_4033 {σ : Nat → Nat} {n0 : Nat} {bf : ab_B} : ab_maxL (zx σ n0 bf).1 4033 = 4 := rfl
theorem zr_4033 {σ : Nat → Nat} {n0 : Nat} {bf : ab_B} : ab_ret (zx σ n0 bf).1 4033 = (Option.some Jvm.ClassFile.FieldType.boolean) := rfl
theorem d_4033_0 {σ : Nat → Nat} {n0 : Nat} {bf : ab_B} : decode (ab_code (zx σ n0 bf).1 4033) 0 = .ok (.aload_n 2, 1) := zd zm_4033 (by decide +kernel)
theorem d_4033_1 {σ : Nat → Nat} {n0 : Nat} {bf : ab_B} : decode (ab_code (zx σ n0 bf).1 4033) 1 = .ok (.getfield 297, 3) := zd zm_4033 (by decide +kernel)
theorem d_4033_4 {σ : Nat → Nat} {n0 : Nat} {bf : ab_B} : decode (ab_code (zx σ n0 bf).1 4033) 4 = .ok (.astore_n 3, 1) := zd zm_4033 (by decide +kernel)
theorem d_4033_5 {σ : Nat → Nat} {n0 : Nat} {bf : ab_B} : decode (ab_code (zx σ n0 bf).1 4033) 5 = .ok (.aload_n 1, 1) := zd zm_4033 (by decide +kernel)
theorem d_4033_6 {σ : Nat → Nat} {n0 : Nat} {bf : ab_B} : decode (ab_code (zx σ n0 bf).1 4033) 6 = .ok (.invokevirtual 335, 3) := zd zm_4033 (by decide +kernel)
theorem d_4033_9 {σ : Nat → Nat} {n0 : Nat} {bf : ab_B} : decode (ab_code (zx σ n0 bf).1 4033) 9 = .ok (.ifCond .eq 27, 3) := zd zm_4033 (by decide +kernel)
theorem d_4033_12 {σ : Nat → Nat} {n0 : Nat} {bf : ab_B} : decode (ab_code (zx σ n0 bf).1 4033) 12 = .ok (.aload_n 3, 1) := zd zm_4033 (by decide +kernel)
theorem d_4033_13 {σ : Nat → Nat} {n0 : Nat} {bf : ab_B} : decode (ab_code (zx σ n0 bf).1 4033) 13 = .ok (.invokevirtual 335, 3) := zd zm_4033 (by decide +kernel)
theorem d_4033_16 {σ : Nat → Nat} {n0 : Nat} {bf : ab_B} : decode (ab_code (zx σ n0 bf).1 4033) 16 = .ok (.ifCond .eq 18, 3) := zd zm_4033 (by decide +kernel)
theorem d_4033_19 {σ : Nat → Nat} {n0 : Nat} {bf : ab_B} : decode (ab_code (zx σ n0 bf).1 4033) 19 = .ok (.aload_n 1, 1) := zd zm_4033 (by decide +kernel)
theorem d_4033_20 {σ : Nat → Nat} {n0 : Nat} {bf : ab_B} : decode (ab_code (zx σ n0 bf).1 4033) 20 = .ok (.invokevirtual 450, 3) := zd zm_4033 (by decide +kernel)
theorem d_4033_23 {σ : Nat → Nat} {n0 : Nat} {bf : ab_B} : decode (ab_code (zx σ n0 bf).1 4033) 23 = .ok (.aload_n 3, 1) := zd zm_4033 (by decide +kernel)
theorem d_4033_24 {σ : Nat → Nat} {n0 : Nat} {bf : ab_B} : decode (ab_code (zx σ n0 bf).1 4033) 24 = .ok (.invokevirtual 450, 3) := zd zm_4033 (by decide +kernel)
theorem d_4033_27 {σ : Nat → Nat} {n0 : Nat} {bf : ab_B} : decode (ab_code (zx σ n0 bf).1 4033) 27 = .ok (.if_acmp .ne 7, 3) := zd zm_4033 (by decide +kernel)
theorem d_4033_30 {σ : Nat → Nat} {n0 : Nat} {bf : ab_B} : decode (ab_code (zx σ n0 bf).1 4033) 30 = .ok (.iconst 1, 1) := zd zm_4033 (by decide +kernel)
theorem d_4033_31 {σ : Nat → Nat} {n0 : Nat} {bf : ab_B} : decode (ab_code (zx σ n0 bf).1 4033) 31 = .ok (.goto 4, 3) := zd zm_4033 (by decide +kernel)
theorem d_4033_34 {σ : Nat → Nat} {n0 : Nat} {bf : ab_B} : decode (ab_code (zx σ n0 bf).1 4033) 34 = .ok (.iconst 0, 1) := zd zm_4033 (by decide +kernel)
theorem d_4033_35 {σ : Nat → Nat} {n0 : Nat} {bf : ab_B} : decode (ab_code (zx σ n0 bf).1 4033) 35 = .ok (.ireturn, 1) := zd zm_4033 (by decide +kernel)
theorem d_4033_36 {σ : Nat → Nat} {n0 : Nat} {bf : ab_B} : decode (ab_code (zx σ n0 bf).1 4033) 36 = .ok (.aload_n 1, 1) := zd zm_4033 (by decide +kernel)
theorem d_4033_37 {σ : Nat → Nat} {n0 : Nat} {bf : ab_B} : decode (ab_code (zx σ n0 bf).1 4033) 37 = .ok (.getfield 369, 3) := zd zm_4033 (by decide +kernel)
theorem d_4033_40 {σ : Nat → Nat} {n0 : Nat} {bf : ab_B} : decode (ab_code (zx σ n0 bf).1 4033) 40 = .ok (.tableswitch 67 5 9 #[36, 42, 67, 67, 47], 36) := zd zm_4033 (by decide +kernel)
theorem d_4033_76 {σ : Nat → Nat} {n0 : Nat} {bf : ab_B} : decode (ab_code (zx σ n0 bf).1 4033) 76 = .ok (.aload_n 1, 1) := zd zm_4033 (by decide +kernel)
theorem d_4033_77 {σ : Nat → Nat} {n0 : Nat} {bf : ab_B} : decode (ab_code (zx σ n0 bf).1 4033) 77 = .ok (.aload_n 3, 1) := zd zm_4033 (by decide +kernel)
theorem d_4033_78 {σ : Nat → Nat} {n0 : Nat} {bf : ab_B} : decode (ab_code (zx σ n0 bf).1 4033) 78 = .ok (.invokestatic 590, 3) := zd zm_4033 (by decide +kernel)
theorem d_4033_81 {σ : Nat → Nat} {n0 : Nat} {bf : ab_B} : decode (ab_code (zx σ n0 bf).1 4033) 81 = .ok (.ireturn, 1) := zd zm_4033 (by decide +kernel)
theorem d_4033_82 {σ : Nat → Nat} {n0 : Nat} {bf : ab_B} : decode (ab_code (zx σ n0 bf).1 4033) 82 = .ok (.aload_n 3, 1) := zd zm_4033 (by decide +kernel)
theorem d_4033_83 {σ : Nat → Nat} {n0 : Nat} {bf : ab_B} : decode (ab_code (zx σ n0 bf).1 4033) 83 = .ok (.invokestatic 587, 3) := zd zm_4033 (by decide +kernel)
theorem d_4033_86 {σ : Nat → Nat} {n0 : Nat} {bf : ab_B} : decode (ab_code (zx σ n0 bf).1 4033) 86 = .ok (.ireturn, 1) := zd zm_4033 (by decide +kernel)
theorem d_4033_87 {σ : Nat → Nat} {n0 : Nat} {bf : ab_B} : decode (ab_code (zx σ n0 bf).1 4033) 87 = .ok (.aload_n 3, 1) := zd zm_4033 (by decide +kernel)
theorem d_4033_88 {σ : Nat → Nat} {n0 : Nat} {bf : ab_B} : decode (ab_code (zx σ n0 bf).1 4033) 88 = .ok (.getfield 369, 3) := zd zm_4033 (by decide +kernel)
theorem d_4033_91 {σ : Nat → Nat} {n0 : Nat} {bf : ab_B} : decode (ab_code (zx σ n0 bf).1 4033) 91 = .ok (.bipush 12, 2) := zd zm_4033 (by decide +kernel)
theorem d_4033_93 {σ : Nat → Nat} {n0 : Nat} {bf : ab_B} : decode (ab_code (zx σ n0 bf).1 4033) 93 = .ok (.if_icmp .eq 8, 3) := zd zm_4033 (by decide +kernel)
theorem d_4033_96 {σ : Nat → Nat} {n0 : Nat} {bf : ab_B} : decode (ab_code (zx σ n0 bf).1 4033) 96 = .ok (.aload_n 3, 1) := zd zm_4033 (by decide +kernel)
theorem d_4033_97 {σ : Nat → Nat} {n0 : Nat} {bf : ab_B} : decode (ab_code (zx σ n0 bf).1 4033) 97 = .ok (.aload_n 1, 1) := zd zm_4033 (by decide +kernel)
theorem d_4033_98 {σ : Nat → Nat} {n0 : Nat} {bf : ab_B} : decode (ab_code (zx σ n0 bf).1 4033) 98 = .ok (.if_acmp .ne 7, 3) := zd zm_4033 (by decide +kernel)
theorem d_4033_101 {σ : Nat → Nat} {n0 : Nat} {bf : ab_B} : decode (ab_code (zx σ n0 bf).1 4033) 101 = .ok (.iconst 1, 1) := zd zm_4033 (by decide +kernel)
theorem d_4033_102 {σ : Nat → Nat} {n0 : Nat} {bf : ab_B} : decode (ab_code (zx σ n0 bf).1 4033) 102 = .ok (.goto 4, 3) := zd zm_4033 (by decide +kernel)
theorem d_4033_105 {σ : Nat → Nat} {n0 : Nat} {bf : ab_B} : decode (ab_code (zx σ n0 bf).1 4033) 105 = .ok (.iconst 0, 1) := zd zm_4033 (by decide +kernel)
theorem d_4033_106 {σ : Nat → Nat} {n0 : Nat} {bf : ab_B} : decode (ab_code (zx σ n0 bf).1 4033) 106 = .ok (.ireturn, 1) := zd zm_4033 (by decide +kernel)
theorem d_4033_107 {σ : Nat → Nat} {n0 : Nat} {bf : ab_B} : decode (ab_code (zx σ n0 bf).1 4033) 107 = .ok (.aload_n 2, 1) := zd zm_4033 (by decide +kernel)
theorem d_4033_108 {σ : Nat → Nat} {n0 : Nat} {bf : ab_B} : decode (ab_code (zx σ n0 bf).1 4033) 108 = .ok (.invokevirtual 625, 3) := zd zm_4033 (by decide +kernel)
theorem d_4033_111 {σ : Nat → Nat} {n0 : Nat} {bf : ab_B} : decode (ab_code (zx σ n0 bf).1 4033) 111 = .ok (.ifCond .eq 29, 3) := zd zm_4033 (by decide +kernel)
theorem d_4033_114 {σ : Nat → Nat} {n0 : Nat} {bf : ab_B} : decode (ab_code (zx σ n0 bf).1 4033) 114 = .ok (.aload_n 1, 1) := zd zm_4033 (by decide +kernel)
theorem d_4033_115 {σ : Nat → Nat} {n0 : Nat} {bf : ab_B} : decode (ab_code (zx σ n0 bf).1 4033) 115 = .ok (.aload_n 3, 1) := zd zm_4033 (by decide +kernel)
theorem d_4033_116 {σ : Nat → Nat} {n0 : Nat} {bf : ab_B} : decode (ab_code (zx σ n0 bf).1 4033) 116 = .ok (.invokestatic 700, 3) := zd zm_4033 (by decide +kernel)
theorem d_4033_119 {σ : Nat → Nat} {n0 : Nat} {bf : ab_B} : decode (ab_code (zx σ n0 bf).1 4033) 119 = .ok (.ifCond .eq 21, 3) := zd zm_4033 (by decide +kernel)
theorem d_4033_122 {σ : Nat → Nat} {n0 : Nat} {bf : ab_B} : decode (ab_code (zx σ n0 bf).1 4033) 122 = .ok (.aload_n 3, 1) := zd zm_4033 (by decide +kernel)
theorem d_4033_123 {σ : Nat → Nat} {n0 : Nat} {bf : ab_B} : decode (ab_code (zx σ n0 bf).1 4033) 123 = .ok (.invokevirtual 671, 3) := zd zm_4033 (by decide +kernel)
theorem d_4033_126 {σ : Nat → Nat} {n0 : Nat} {bf : ab_B} : decode (ab_code (zx σ n0 bf).1 4033) 126 = .ok (.ifCond .ne 10, 3) := zd zm_4033 (by decide +kernel)
theorem d_4033_129 {σ : Nat → Nat} {n0 : Nat} {bf : ab_B} : decode (ab_code (zx σ n0 bf).1 4033) 129 = .ok (.aload_n 3, 1) := zd zm_4033 (by decide +kernel)
theorem d_4033_130 {σ : Nat → Nat} {n0 : Nat} {bf : ab_B} : decode (ab_code (zx σ n0 bf).1 4033) 130 = .ok (.invokestatic 377, 3) := zd zm_4033 (by decide +kernel)
theorem d_4033_133 {σ : Nat → Nat} {n0 : Nat} {bf : ab_B} : decode (ab_code (zx σ n0 bf).1 4033) 133 = .ok (.ifCond .eq 7, 3) := zd zm_4033 (by decide +kernel)
theorem d_4033_136 {σ : Nat → Nat} {n0 : Nat} {bf : ab_B} : decode (ab_code (zx σ n0 bf).1 4033) 136 = .ok (.iconst 1, 1) := zd zm_4033 (by decide +kernel)
theorem d_4033_137 {σ : Nat → Nat} {n0 : Nat} {bf : ab_B} : decode (ab_code (zx σ n0 bf).1 4033) 137 = .ok (.goto 4, 3) := zd zm_4033 (by decide +kernel)
theorem d_4033_140 {σ : Nat → Nat} {n0 : Nat} {bf : ab_B} : decode (ab_code (zx σ n0 bf).1 4033) 140 = .ok (.iconst 0, 1) := zd zm_4033 (by decide +kernel)
theorem d_4033_141 {σ : Nat → Nat} {n0 : Nat} {bf : ab_B} : decode (ab_code (zx σ n0 bf).1 4033) 141 = .ok (.ireturn, 1) := zd zm_4033 (by decide +kernel)
def w_X5_goes_101 (X : zs_X) (d : Nat)  (S : zs_T) (Q : zs_Q) : Prop :=
  (Q (.returned (some (.int (1 : Int32)))) S)
theorem u_X5_goes_101 {σ : Nat → Nat} {n0 : Nat} {bf : ab_B} {d : Nat}  {S : zs_T} {Q : zs_Q} (hB : zt_B bf) (h : w_X5_goes_101 (zx σ n0 bf) d  S Q) : zs_U (zx σ n0 bf) d 4033 101 [] [] S Q := by
  unfold w_X5_goes_101 at h
  refine zu_iconst d_4033_101 zi_1 ?_
  refine zu_goto (t := 106) d_4033_102 rfl ?_
  exact zu_iret d_4033_106 zr_4033 (zs_b_n (Or.inr rfl)) h
def w_X5_goes_105 (X : zs_X) (d : Nat)  (S : zs_T) (Q : zs_Q) : Prop :=
  (Q (.returned (some (.int (0 : Int32)))) S)
theorem u_X5_goes_105 {σ : Nat → Nat} {n0 : Nat} {bf : ab_B} {d : Nat}  {S : zs_T} {Q : zs_Q} (hB : zt_B bf) (h : w_X5_goes_105 (zx σ n0 bf) d  S Q) : zs_U (zx σ n0 bf) d 4033 105 [] [] S Q := by
  unfold w_X5_goes_105 at h
  refine zu_iconst d_4033_105 zi_0 ?_
  exact zu_iret d_4033_106 zr_4033 (zs_b_n (Or.inl rfl)) h
def w_X5_goes_107 (X : zs_X) (d : Nat) (p1 : Option Nat) (p2 : Option Nat) (p3 : Option Nat) (S : zs_T) (Q : zs_Q) : Prop :=
  (∃ b1, p2 = some b1 ∧ zs_K S b1 = some (.inl 11) ∧ zs_C X d 11001 [.ref b1] S (zs_kI (fun v5 S4 => (((v5 = 0 → (Q (.returned (some (.int (0 : Int32)))) S4)) ∧ (¬ (v5 = 0) → (zs_C X d 4037 [va_rf p1, va_rf p3] S4 (zs_kI (fun v8 S7 => (((v8 = 0 → (Q (.returned (some (.int (0 : Int32)))) S7)) ∧ (¬ (v8 = 0) → (∃ b10, p3 = some b10 ∧ zs_K S7 b10 = some (.inl 6) ∧ zs_C X d 6004 [.ref b10] S7 (zs_kI (fun v14 S13 => (((¬ v14 = 0 → (Q (.returned (some (.int (1 : Int32)))) S13)) ∧ (¬ (¬ v14 = 0) → (zs_C X d 4038 [va_rf p3] S13 (zs_kI (fun v17 S16 => (((v17 = 0 → (Q (.returned (some (.int (0 : Int32)))) S16)) ∧ (¬ (v17 = 0) → (Q (.returned (some (.int (1 : Int32)))) S16))))) Q)))))) Q)))))) Q)))))) Q))
theorem u_X5_goes_107 {σ : Nat → Nat} {n0 : Nat} {bf : ab_B} {d : Nat} {p1 : Option Nat} {p2 : Option Nat} {p3 : Option Nat} {S : zs_T} {Q : zs_Q} (hB : zt_B bf) (h : w_X5_goes_107 (zx σ n0 bf) d p1 p2 p3 S Q) : zs_U (zx σ n0 bf) d 4033 107 [(1, va_rf p1), (2, va_rf p2), (3, va_rf p3)] [] S Q := by
  unfold w_X5_goes_107 at h
  refine zu_aload_n d_4033_107 rfl (zs_rr _) ?_
  obtain ⟨b1, e2, h⟩ := h
  refine zs_stk0 (zs_rfe e2) ?_
  obtain ⟨k3, h⟩ := h
  refine zc_4_625  hB rfl k3 d_4033_108 (Nat.le_of_ble_eq_true rfl) h (fun v5 S4 h => ?_)
  refine zu_ifeq (t := 140) d_4033_111 rfl (fun c6 => ?_) (fun c6 => ?_)
  · have h := h.1 c6
    refine zu_iconst d_4033_140 zi_0 ?_
    exact zu_iret d_4033_141 zr_4033 (zs_b_n (Or.inl rfl)) h
  · have h := h.2 c6
    refine zu_aload_n d_4033_114 rfl (zs_rr _) ?_
    refine zu_aload_n d_4033_115 rfl (zs_rr _) ?_
    refine zc_4_700 (x0 := p1) (x1 := p3) hB rfl d_4033_116 (Nat.le_of_ble_eq_true rfl) h (fun v8 S7 h => ?_)
    refine zu_ifeq (t := 140) d_4033_119 rfl (fun c9 => ?_) (fun c9 => ?_)
    · have h := h.1 c9
      refine zu_iconst d_4033_140 zi_0 ?_
      exact zu_iret d_4033_141 zr_4033 (zs_b_n (Or.inl rfl)) h
    · have h := h.2 c9
      refine zu_aload_n d_4033_122 rfl (zs_rr _) ?_
      obtain ⟨b10, e11, h⟩ := h
      refine zs_stk0 (zs_rfe e11) ?_
      obtain ⟨k12, h⟩ := h
      refine zc_4_671  hB rfl k12 d_4033_123 (Nat.le_of_ble_eq_true rfl) h (fun v14 S13 h => ?_)
      refine zu_ifne (t := 136) d_4033_126 rfl (fun c15 => ?_) (fun c15 => ?_)
      · have h := h.1 c15
        refine zu_iconst d_4033_136 zi_1 ?_
        refine zu_goto (t := 141) d_4033_137 rfl ?_
        exact zu_iret d_4033_141 zr_4033 (zs_b_n (Or.inr rfl)) h
      · have h := h.2 c15
        refine zu_aload_n d_4033_129 rfl (zs_rr _) ?_
        refine zc_4_377 (x0 := p3) hB rfl d_4033_130 (Nat.le_of_ble_eq_true rfl) h (fun v17 S16 h => ?_)
        refine zu_ifeq (t := 140) d_4033_133 rfl (fun c18 => ?_) (fun c18 => ?_)
        · have h := h.1 c18
          refine zu_iconst d_4033_140 zi_0 ?_
          exact zu_iret d_4033_141 zr_4033 (zs_b_n (Or.inl rfl)) h
        · have h := h.2 c18
          refine zu_iconst d_4033_136 zi_1 ?_
          refine zu_goto (t := 141) d_4033_137 rfl ?_
          exact zu_iret d_4033_141 zr_4033 (zs_b_n (Or.inr rfl)) h
def w_X5_goes (X : zs_X) (d : Nat) (p0 : Nat) (p1 : Option Nat) (p2 : Option Nat) (S : zs_T) (Q : zs_Q) : Prop :=
  (∃ b1, p2 = some b1 ∧ zs_K S b1 = some (.inl 11) ∧ ∃ b4, p1 = some b4 ∧ zs_K S b4 = some (.inl 6) ∧ zs_C X d 6002 [.ref b4] S (zs_kI (fun v8 S7 => (((v8 = 0 → (zs_K S7 b4 = some (.inl 6) ∧ (((zs_I S7 6000 b4).toInt < 5 ∨ 9 < (zs_I S7 6000 b4).toInt → w_X5_goes_107 X d p1 p2 (zs_R S 11002 b1) S7 Q) ∧ ((zs_I S7 6000 b4).toInt = 5 → (zs_C X d 4034 [va_rf p1, va_rf (zs_R S 11002 b1)] S7 (zs_kI (fun v13 S12 => (zs_b v13 ∧ Q (.returned (some (.int v13))) S12)) Q))) ∧ ((zs_I S7 6000 b4).toInt = 6 → (zs_C X d 4036 [va_rf (zs_R S 11002 b1)] S7 (zs_kI (fun v16 S15 => (zs_b v16 ∧ Q (.returned (some (.int v16))) S15)) Q))) ∧ ((zs_I S7 6000 b4).toInt = 7 → w_X5_goes_107 X d p1 p2 (zs_R S 11002 b1) S7 Q) ∧ ((zs_I S7 6000 b4).toInt = 8 → w_X5_goes_107 X d p1 p2 (zs_R S 11002 b1) S7 Q) ∧ ((zs_I S7 6000 b4).toInt = 9 → (∃ b18, (zs_R S 11002 b1) = some b18 ∧ zs_K S7 b18 = some (.inl 6) ∧ (((zs_I S7 6000 b18) = (12 : Int32) → w_X5_goes_101 X d  S7 Q) ∧ (¬ ((zs_I S7 6000 b18) = (12 : Int32)) → (((¬ (zs_R S 11002 b1) = p1 → w_X5_goes_105 X d  S7 Q) ∧ (¬ (¬ (zs_R S 11002 b1) = p1) → w_X5_goes_101 X d  S7 Q)))))))))) ∧ (¬ (v8 = 0) → (∃ b23, (zs_R S 11002 b1) = some b23 ∧ zs_K S7 b23 = some (.inl 6) ∧ zs_C X d 6002 [.ref b23] S7 (zs_kI (fun v27 S26 => (((v27 = 0 → (Q (.returned (some (.int (0 : Int32)))) S26)) ∧ (¬ (v27 = 0) → (zs_K S26 b4 = some (.inl 6) ∧ zs_C X d 6001 [.ref b4] S26 (zs_kR (fun v31 S30 => (zs_K S30 b23 = some (.inl 6) ∧ zs_C X d 6001 [.ref b23] S30 (zs_kR (fun v34 S33 => (((¬ v31 = v34 → (Q (.returned (some (.int (0 : Int32)))) S33)) ∧ (¬ (¬ v31 = v34) → (Q (.returned (some (.int (1 : Int32)))) S33))))) Q))) Q)))))) Q)))))) Q))
theorem u_X5_goes {σ : Nat → Nat} {n0 : Nat} {bf : ab_B} {d : Nat} {p0 : Nat} {p1 : Option Nat} {p2 : Option Nat} {S : zs_T} {Q : zs_Q} (hB : zt_B bf) (hd : 1 ≤ d) (h : w_X5_goes (zx σ n0 bf) (d - 1) p0 p1 p2 S Q) : zs_C (zx σ n0 bf) d 4033 [.ref p0, va_rf p1, va_rf p2] S Q := by
  have hL : lv_args 0 [.ref p0, va_rf p1, va_rf p2] = [(0, .ref p0), (1, va_rf p1), (2, va_rf p2)] := by simp [lv_args, zs_cat, zs_cI, zs_cJ, zs_cA]
  refine zs_C.of1 (hB.2 4033 (by decide) (by decide)) hd (by rw [hL]; exact zs_sub_self _ (by exact ⟨rfl, rfl, rfl, trivial⟩)) ?_
  rw [hL]
  clear hL
  unfold w_X5_goes at h
  refine zu_aload_n d_4033_0 rfl (zs_rr _) ?_
  obtain ⟨b1, e2, h⟩ := h
  refine zs_stk0 (zs_rfe e2) ?_
  obtain ⟨k3, h⟩ := h
  refine zg_4_297 rfl d_4033_1 k3 ?_
  refine zu_astore_n d_4033_4 (zs_rr _) (zs_lt zq_4033 rfl) ?_
  refine zs_U.weak (L1 := [(3, va_rf (zs_R S 11002 b1)), (0, .ref p0), (1, va_rf p1), (2, va_rf p2)]) ?_ ⟨rfl, zs_gp1 rfl (Or.inl rfl) rfl, zs_gp1 rfl (Or.inl (zs_cat _)) rfl, zs_gp1 rfl (Or.inl (zs_cat _)) rfl, trivial⟩
  refine zu_aload_n d_4033_5 rfl (zs_rr _) ?_
  obtain ⟨b4, e5, h⟩ := h
  refine zs_stk0 (zs_rfe e5) ?_
  obtain ⟨k6, h⟩ := h
  refine zc_4_335  hB rfl k6 d_4033_6 (Nat.le_of_ble_eq_true rfl) h (fun v8 S7 h => ?_)
  refine zu_ifeq (t := 36) d_4033_9 rfl (fun c9 => ?_) (fun c9 => ?_)
  · have h := h.1 c9
    refine zu_aload_n d_4033_36 rfl (zs_rr _) ?_
    refine zs_stk0 (zs_rfe e5) ?_
    obtain ⟨k10, h⟩ := h
    refine zg_4_369 rfl d_4033_37 k10 ?_
    refine zu_tsw (td := 107) d_4033_40 (by decide) rfl (fun c11 => ?_) ⟨fun c11 => ⟨by decide, ?_⟩, fun c11 => ⟨by decide, ?_⟩, fun c11 => ⟨by decide, ?_⟩, fun c11 => ⟨by decide, ?_⟩, fun c11 => ⟨by decide, ?_⟩, trivial⟩
    · have h := h.1 c11
      exact (u_X5_goes_107 hB h).weak ⟨rfl, rfl, rfl, trivial⟩
    · have h := h.2.1 c11
      show zs_U _ _ _ 76 _ _ _ _
      refine zu_aload_n d_4033_76 rfl (zs_rr _) ?_
      refine zu_aload_n d_4033_77 rfl (zs_rr _) ?_
      refine zc_4_590 (x0 := p1) (x1 := (zs_R S 11002 b1)) hB rfl d_4033_78 (Nat.le_of_ble_eq_true rfl) h (fun v13 S12 h => ?_)
      obtain ⟨k14, h⟩ := h
      exact zu_iret d_4033_81 zr_4033 (zs_b_n k14) h
    · have h := h.2.2.1 c11
      show zs_U _ _ _ 82 _ _ _ _
      refine zu_aload_n d_4033_82 rfl (zs_rr _) ?_
      refine zc_4_587 (x0 := (zs_R S 11002 b1)) hB rfl d_4033_83 (Nat.le_of_ble_eq_true rfl) h (fun v16 S15 h => ?_)
      obtain ⟨k17, h⟩ := h
      exact zu_iret d_4033_86 zr_4033 (zs_b_n k17) h
    · have h := h.2.2.2.1 c11
      show zs_U _ _ _ 107 _ _ _ _
      exact (u_X5_goes_107 hB h).weak ⟨rfl, rfl, rfl, trivial⟩
    · have h := h.2.2.2.2.1 c11
      show zs_U _ _ _ 107 _ _ _ _
      exact (u_X5_goes_107 hB h).weak ⟨rfl, rfl, rfl, trivial⟩
    · have h := h.2.2.2.2.2 c11
      show zs_U _ _ _ 87 _ _ _ _
      refine zu_aload_n d_4033_87 rfl (zs_rr _) ?_
      obtain ⟨b18, e19, h⟩ := h
      refine zs_stk0 (zs_rfe e19) ?_
      obtain ⟨k20, h⟩ := h
      refine zg_4_369 rfl d_4033_88 k20 ?_
      refine zu_bipush d_4033_91 zj_12 ?_
      refine zu_cmpeq (t := 101) d_4033_93 rfl (fun c21 => ?_) (fun c21 => ?_)
      · have h := h.1 c21
        exact (u_X5_goes_101 hB h).weak trivial
      · have h := h.2 c21
        refine zu_aload_n d_4033_96 rfl (zs_rr _) ?_
        refine zu_aload_n d_4033_97 rfl (zs_rr _) ?_
        refine zu_acmpne (u := (zs_R S 11002 b1)) (w := p1) (t := 105) d_4033_98 rfl rfl rfl (fun c22 => ?_) (fun c22 => ?_)
        · have h := h.1 c22
          exact (u_X5_goes_105 hB h).weak trivial
        · have h := h.2 c22
          exact (u_X5_goes_101 hB h).weak trivial
  · have h := h.2 c9
    refine zu_aload_n d_4033_12 rfl (zs_rr _) ?_
    obtain ⟨b23, e24, h⟩ := h
    refine zs_stk0 (zs_rfe e24) ?_
    obtain ⟨k25, h⟩ := h
    refine zc_4_335  hB rfl k25 d_4033_13 (Nat.le_of_ble_eq_true rfl) h (fun v27 S26 h => ?_)
    refine zu_ifeq (t := 34) d_4033_16 rfl (fun c28 => ?_) (fun c28 => ?_)
    · have h := h.1 c28
      refine zu_iconst d_4033_34 zi_0 ?_
      exact zu_iret d_4033_35 zr_4033 (zs_b_n (Or.inl rfl)) h
    · have h := h.2 c28
      refine zu_aload_n d_4033_19 rfl (zs_rr _) ?_
      refine zs_stk0 (zs_rfe e5) ?_
      obtain ⟨k29, h⟩ := h
      refine zc_4_450  hB rfl k29 d_4033_20 (Nat.le_of_ble_eq_true rfl) h (fun v31 S30 h => ?_)
      refine zu_aload_n d_4033_23 rfl (zs_rr _) ?_
      refine zs_stk0 (zs_rfe e24) ?_
      obtain ⟨k32, h⟩ := h
      refine zc_4_450  hB rfl k32 d_4033_24 (by simp only [List.map_cons, List.map_nil, List.sum_cons, List.sum_nil, zs_cat, zs_cI, zs_cJ, zs_cA]; exact Nat.le_of_ble_eq_true rfl) h (fun v34 S33 h => ?_)
      refine zu_acmpne (u := v31) (w := v34) (t := 34) d_4033_27 rfl rfl rfl (fun c35 => ?_) (fun c35 => ?_)
      · have h := h.1 c35
        refine zu_iconst d_4033_34 zi_0 ?_
        exact zu_iret d_4033_35 zr_4033 (zs_b_n (Or.inl rfl)) h
      · have h := h.2 c35
        refine zu_iconst d_4033_30 zi_1 ?_
        refine zu_goto (t := 35) d_4033_31 rfl ?_
        exact zu_iret d_4033_35 zr_4033 (zs_b_n (Or.inr rfl)) h
/-! SchemaPascal$Reader.sameSets(LSchemaPascal$Type;LSchemaPascal$Type;)Z -/
theorem zm_4034 {σ : Nat → Nat} {n0 : Nat} {bf : ab_B} : ab_code (zx σ n0 bf).1 4034 = prog_9_method_58_code := rfl
theorem zq_4034 {σ : Nat → Nat} {n0 : Nat} {bf : ab_B} : ab_maxL (zx σ n0 bf).1 4034 = 2 := rfl
theorem zr_4034 {σ : Nat → Nat} {n0 : Nat} {bf : ab_B} : ab_ret (zx σ n0 bf).1 4034 = (Option.some Jvm.ClassFile.FieldType.boolean) := rfl
theorem d_4034_0 {σ : Nat → Nat} {n0 : Nat} {bf : ab_B} : decode (ab_code (zx σ n0 bf).1 4034) 0 = .ok (.aload_n 0, 1) := zd zm_4034 (by decide +kernel)
theorem d_4034_1 {σ : Nat → Nat} {n0 : Nat} {bf : ab_B} : decode (ab_code (zx σ n0 bf).1 4034) 1 = .ok (.invokestatic 584, 3) := zd zm_4034 (by decide +kernel)
theorem d_4034_4 {σ : Nat → Nat} {n0 : Nat} {bf : ab_B} : decode (ab_code (zx σ n0 bf).1 4034) 4 = .ok (.ifCond .eq 49, 3) := zd zm_4034 (by decide +kernel)
theorem d_4034_7 {σ : Nat → Nat} {n0 : Nat} {bf : ab_B} : decode (ab_code (zx σ n0 bf).1 4034) 7 = .ok (.aload_n 1, 1) := zd zm_4034 (by decide +kernel)
theorem d_4034_8 {σ : Nat → Nat} {n0 : Nat} {bf : ab_B} : decode (ab_code (zx σ n0 bf).1 4034) 8 = .ok (.invokestatic 584, 3) := zd zm_4034 (by decide +kernel)
theorem d_4034_11 {σ : Nat → Nat} {n0 : Nat} {bf : ab_B} : decode (ab_code (zx σ n0 bf).1 4034) 11 = .ok (.ifCond .eq 42, 3) := zd zm_4034 (by decide +kernel)
theorem d_4034_14 {σ : Nat → Nat} {n0 : Nat} {bf : ab_B} : decode (ab_code (zx σ n0 bf).1 4034) 14 = .ok (.aload_n 0, 1) := zd zm_4034 (by decide +kernel)
theorem d_4034_15 {σ : Nat → Nat} {n0 : Nat} {bf : ab_B} : decode (ab_code (zx σ n0 bf).1 4034) 15 = .ok (.getfield 369, 3) := zd zm_4034 (by decide +kernel)
theorem d_4034_18 {σ : Nat → Nat} {n0 : Nat} {bf : ab_B} : decode (ab_code (zx σ n0 bf).1 4034) 18 = .ok (.bipush 13, 2) := zd zm_4034 (by decide +kernel)
theorem d_4034_20 {σ : Nat → Nat} {n0 : Nat} {bf : ab_B} : decode (ab_code (zx σ n0 bf).1 4034) 20 = .ok (.if_icmp .eq 29, 3) := zd zm_4034 (by decide +kernel)
theorem d_4034_23 {σ : Nat → Nat} {n0 : Nat} {bf : ab_B} : decode (ab_code (zx σ n0 bf).1 4034) 23 = .ok (.aload_n 1, 1) := zd zm_4034 (by decide +kernel)
theorem d_4034_24 {σ : Nat → Nat} {n0 : Nat} {bf : ab_B} : decode (ab_code (zx σ n0 bf).1 4034) 24 = .ok (.getfield 369, 3) := zd zm_4034 (by decide +kernel)
theorem d_4034_27 {σ : Nat → Nat} {n0 : Nat} {bf : ab_B} : decode (ab_code (zx σ n0 bf).1 4034) 27 = .ok (.bipush 13, 2) := zd zm_4034 (by decide +kernel)
theorem d_4034_29 {σ : Nat → Nat} {n0 : Nat} {bf : ab_B} : decode (ab_code (zx σ n0 bf).1 4034) 29 = .ok (.if_icmp .eq 20, 3) := zd zm_4034 (by decide +kernel)
theorem d_4034_32 {σ : Nat → Nat} {n0 : Nat} {bf : ab_B} : decode (ab_code (zx σ n0 bf).1 4034) 32 = .ok (.aload_n 0, 1) := zd zm_4034 (by decide +kernel)
theorem d_4034_33 {σ : Nat → Nat} {n0 : Nat} {bf : ab_B} : decode (ab_code (zx σ n0 bf).1 4034) 33 = .ok (.getfield 320, 3) := zd zm_4034 (by decide +kernel)
theorem d_4034_36 {σ : Nat → Nat} {n0 : Nat} {bf : ab_B} : decode (ab_code (zx σ n0 bf).1 4034) 36 = .ok (.invokevirtual 450, 3) := zd zm_4034 (by decide +kernel)
theorem d_4034_39 {σ : Nat → Nat} {n0 : Nat} {bf : ab_B} : decode (ab_code (zx σ n0 bf).1 4034) 39 = .ok (.aload_n 1, 1) := zd zm_4034 (by decide +kernel)
theorem d_4034_40 {σ : Nat → Nat} {n0 : Nat} {bf : ab_B} : decode (ab_code (zx σ n0 bf).1 4034) 40 = .ok (.getfield 320, 3) := zd zm_4034 (by decide +kernel)
theorem d_4034_43 {σ : Nat → Nat} {n0 : Nat} {bf : ab_B} : decode (ab_code (zx σ n0 bf).1 4034) 43 = .ok (.invokevirtual 450, 3) := zd zm_4034 (by decide +kernel)
theorem d_4034_46 {σ : Nat → Nat} {n0 : Nat} {bf : ab_B} : decode (ab_code (zx σ n0 bf).1 4034) 46 = .ok (.if_acmp .ne 7, 3) := zd zm_4034 (by decide +kernel)
theorem d_4034_49 {σ : Nat → Nat} {n0 : Nat} {bf : ab_B} : decode (ab_code (zx σ n0 bf).1 4034) 49 = .ok (.iconst 1, 1) := zd zm_4034 (by decide +kernel)
theorem d_4034_50 {σ : Nat → Nat} {n0 : Nat} {bf : ab_B} : decode (ab_code (zx σ n0 bf).1 4034) 50 = .ok (.goto 4, 3) := zd zm_4034 (by decide +kernel)
theorem d_4034_53 {σ : Nat → Nat} {n0 : Nat} {bf : ab_B} : decode (ab_code (zx σ n0 bf).1 4034) 53 = .ok (.iconst 0, 1) := zd zm_4034 (by decide +kernel)
theorem d_4034_54 {σ : Nat → Nat} {n0 : Nat} {bf : ab_B} : decode (ab_code (zx σ n0 bf).1 4034) 54 = .ok (.ireturn, 1) := zd zm_4034 (by decide +kernel)
def w_X5_sameSets_49 (X : zs_X) (d : Nat)  (S : zs_T) (Q : zs_Q) : Prop :=
  (Q (.returned (some (.int (1 : Int32)))) S)
theorem u_X5_sameSets_49 {σ : Nat → Nat} {n0 : Nat} {bf : ab_B} {d : Nat}  {S : zs_T} {Q : zs_Q} (hB : zt_B bf) (h : w_X5_sameSets_49 (zx σ n0 bf) d  S Q) : zs_U (zx σ n0 bf) d 4034 49 [] [] S Q := by
  unfold w_X5_sameSets_49 at h
  refine zu_iconst d_4034_49 zi_1 ?_
  refine zu_goto (t := 54) d_4034_50 rfl ?_
  exact zu_iret d_4034_54 zr_4034 (zs_b_n (Or.inr rfl)) h
def w_X5_sameSets_53 (X : zs_X) (d : Nat)  (S : zs_T) (Q : zs_Q) : Prop :=
  (Q (.returned (some (.int (0 : Int32)))) S)
theorem u_X5_sameSets_53 {σ : Nat → Nat} {n0 : Nat} {bf : ab_B} {d : Nat}  {S : zs_T} {Q : zs_Q} (hB : zt_B bf) (h : w_X5_sameSets_53 (zx σ n0 bf) d  S Q) : zs_U (zx σ n0 bf) d 4034 53 [] [] S Q := by
  unfold w_X5_sameSets_53 at h
  refine zu_iconst d_4034_53 zi_0 ?_
  exact zu_iret d_4034_54 zr_4034 (zs_b_n (Or.inl rfl)) h
def w_X5_sameSets (X : zs_X) (d : Nat) (p0 : Option Nat) (p1 : Option Nat) (S : zs_T) (Q : zs_Q) : Prop :=
  (zs_C X d 4035 [va_rf p0] S (zs_kI (fun v2 S1 => (((v2 = 0 → w_X5_sameSets_53 X d  S1 Q) ∧ (¬ (v2 = 0) → (zs_C X d 4035 [va_rf p1] S1 (zs_kI (fun v5 S4 => (((v5 = 0 → w_X5_sameSets_53 X d  S4 Q) ∧ (¬ (v5 = 0) → (∃ b7, p0 = some b7 ∧ zs_K S4 b7 = some (.inl 6) ∧ (((zs_I S4 6000 b7) = (13 : Int32) → w_X5_sameSets_49 X d  S4 Q) ∧ (¬ ((zs_I S4 6000 b7) = (13 : Int32)) → (∃ b11, p1 = some b11 ∧ zs_K S4 b11 = some (.inl 6) ∧ (((zs_I S4 6000 b11) = (13 : Int32) → w_X5_sameSets_49 X d  S4 Q) ∧ (¬ ((zs_I S4 6000 b11) = (13 : Int32)) → (∃ b15, (zs_R S4 6002 b7) = some b15 ∧ zs_K S4 b15 = some (.inl 6) ∧ zs_C X d 6001 [.ref b15] S4 (zs_kR (fun v19 S18 => (zs_K S18 b11 = some (.inl 6) ∧ ∃ b21, (zs_R S18 6002 b11) = some b21 ∧ zs_K S18 b21 = some (.inl 6) ∧ zs_C X d 6001 [.ref b21] S18 (zs_kR (fun v25 S24 => (((¬ v19 = v25 → w_X5_sameSets_53 X d  S24 Q) ∧ (¬ (¬ v19 = v25) → w_X5_sameSets_49 X d  S24 Q)))) Q))) Q)))))))))))) Q)))))) Q))
theorem u_X5_sameSets {σ : Nat → Nat} {n0 : Nat} {bf : ab_B} {d : Nat} {p0 : Option Nat} {p1 : Option Nat} {S : zs_T} {Q : zs_Q} (hB : zt_B bf) (hd : 1 ≤ d) (h : w_X5_sameSets (zx σ n0 bf) (d - 1) p0 p1 S Q) : zs_C (zx σ n0 bf) d 4034 [va_rf p0, va_rf p1] S Q := by
  have hL : lv_args 0 [va_rf p0, va_rf p1] = [(0, va_rf p0), (1, va_rf p1)] := by simp [lv_args, zs_cat, zs_cI, zs_cJ, zs_cA]
  refine zs_C.of1 (hB.2 4034 (by decide) (by decide)) hd (by rw [hL]; exact zs_sub_self _ (by exact ⟨rfl, rfl, trivial⟩)) ?_
  rw [hL]
  clear hL
  unfold w_X5_sameSets at h
  refine zu_aload_n d_4034_0 rfl (zs_rr _) ?_
  refine zc_4_584 (x0 := p0) hB rfl d_4034_1 (Nat.le_of_ble_eq_true rfl) h (fun v2 S1 h => ?_)
  refine zu_ifeq (t := 53) d_4034_4 rfl (fun c3 => ?_) (fun c3 => ?_)
  · have h := h.1 c3
    exact (u_X5_sameSets_53 hB h).weak trivial
  · have h := h.2 c3
    refine zu_aload_n d_4034_7 rfl (zs_rr _) ?_
    refine zc_4_584 (x0 := p1) hB rfl d_4034_8 (Nat.le_of_ble_eq_true rfl) h (fun v5 S4 h => ?_)
    refine zu_ifeq (t := 53) d_4034_11 rfl (fun c6 => ?_) (fun c6 => ?_)
    · have h := h.1 c6
      exact (u_X5_sameSets_53 hB h).weak trivial
    · have h := h.2 c6
      refine zu_aload_n d_4034_14 rfl (zs_rr _) ?_
      obtain ⟨b7, e8, h⟩ := h
      refine zs_stk0 (zs_rfe e8) ?_
      obtain ⟨k9, h⟩ := h
      refine zg_4_369 rfl d_4034_15 k9 ?_
      refine zu_bipush d_4034_18 zj_13 ?_
      refine zu_cmpeq (t := 49) d_4034_20 rfl (fun c10 => ?_) (fun c10 => ?_)
      · have h := h.1 c10
        exact (u_X5_sameSets_49 hB h).weak trivial
      · have h := h.2 c10
        refine zu_aload_n d_4034_23 rfl (zs_rr _) ?_
        obtain ⟨b11, e12, h⟩ := h
        refine zs_stk0 (zs_rfe e12) ?_
        obtain ⟨k13, h⟩ := h
        refine zg_4_369 rfl d_4034_24 k13 ?_
        refine zu_bipush d_4034_27 zj_13 ?_
        refine zu_cmpeq (t := 49) d_4034_29 rfl (fun c14 => ?_) (fun c14 => ?_)
        · have h := h.1 c14
          exact (u_X5_sameSets_49 hB h).weak trivial
        · have h := h.2 c14
          refine zu_aload_n d_4034_32 rfl (zs_rr _) ?_
          refine zs_stk0 (zs_rfe e8) ?_
          refine zg_4_320 rfl d_4034_33 k9 ?_
          obtain ⟨b15, e16, h⟩ := h
          refine zs_stk0 (zs_rfe e16) ?_
          obtain ⟨k17, h⟩ := h
          refine zc_4_450  hB rfl k17 d_4034_36 (Nat.le_of_ble_eq_true rfl) h (fun v19 S18 h => ?_)
          refine zu_aload_n d_4034_39 rfl (zs_rr _) ?_
          refine zs_stk0 (zs_rfe e12) ?_
          obtain ⟨k20, h⟩ := h
          refine zg_4_320 rfl d_4034_40 k20 ?_
          obtain ⟨b21, e22, h⟩ := h
          refine zs_stk0 (zs_rfe e22) ?_
          obtain ⟨k23, h⟩ := h
          refine zc_4_450  hB rfl k23 d_4034_43 (by simp only [List.map_cons, List.map_nil, List.sum_cons, List.sum_nil, zs_cat, zs_cI, zs_cJ, zs_cA]; exact Nat.le_of_ble_eq_true rfl) h (fun v25 S24 h => ?_)
          refine zu_acmpne (u := v19) (w := v25) (t := 53) d_4034_46 rfl rfl rfl (fun c26 => ?_) (fun c26 => ?_)
          · have h := h.1 c26
            exact (u_X5_sameSets_53 hB h).weak trivial
          · have h := h.2 c26
            exact (u_X5_sameSets_49 hB h).weak trivial
/-! SchemaPascal$Reader.isSet(LSchemaPascal$Type;)Z -/
theorem zm_4035 {σ : Nat → Nat} {n0 : Nat} {bf : ab_B} : ab_code (zx σ n0 bf).1 4035 = prog_9_method_55_code := rfl
theorem zq_4035 {σ : Nat → Nat} {n0 : Nat} {bf : ab_B} : ab_maxL (zx σ n0 bf).1 4035 = 1 := rfl
theorem zr_4035 {σ : Nat → Nat} {n0 : Nat} {bf : ab_B} : ab_ret (zx σ n0 bf).1 4035 = (Option.some Jvm.ClassFile.FieldType.boolean) := rfl
theorem d_4035_0 {σ : Nat → Nat} {n0 : Nat} {bf : ab_B} : decode (ab_code (zx σ n0 bf).1 4035) 0 = .ok (.aload_n 0, 1) := zd zm_4035 (by decide +kernel)
theorem d_4035_1 {σ : Nat → Nat} {n0 : Nat} {bf : ab_B} : decode (ab_code (zx σ n0 bf).1 4035) 1 = .ok (.getfield 369, 3) := zd zm_4035 (by decide +kernel)
theorem d_4035_4 {σ : Nat → Nat} {n0 : Nat} {bf : ab_B} : decode (ab_code (zx σ n0 bf).1 4035) 4 = .ok (.iconst 5, 1) := zd zm_4035 (by decide +kernel)
theorem d_4035_5 {σ : Nat → Nat} {n0 : Nat} {bf : ab_B} : decode (ab_code (zx σ n0 bf).1 4035) 5 = .ok (.if_icmp .eq 12, 3) := zd zm_4035 (by decide +kernel)
theorem d_4035_8 {σ : Nat → Nat} {n0 : Nat} {bf : ab_B} : decode (ab_code (zx σ n0 bf).1 4035) 8 = .ok (.aload_n 0, 1) := zd zm_4035 (by decide +kernel)
theorem d_4035_9 {σ : Nat → Nat} {n0 : Nat} {bf : ab_B} : decode (ab_code (zx σ n0 bf).1 4035) 9 = .ok (.getfield 369, 3) := zd zm_4035 (by decide +kernel)
theorem d_4035_12 {σ : Nat → Nat} {n0 : Nat} {bf : ab_B} : decode (ab_code (zx σ n0 bf).1 4035) 12 = .ok (.bipush 13, 2) := zd zm_4035 (by decide +kernel)
theorem d_4035_14 {σ : Nat → Nat} {n0 : Nat} {bf : ab_B} : decode (ab_code (zx σ n0 bf).1 4035) 14 = .ok (.if_icmp .ne 7, 3) := zd zm_4035 (by decide +kernel)
theorem d_4035_17 {σ : Nat → Nat} {n0 : Nat} {bf : ab_B} : decode (ab_code (zx σ n0 bf).1 4035) 17 = .ok (.iconst 1, 1) := zd zm_4035 (by decide +kernel)
theorem d_4035_18 {σ : Nat → Nat} {n0 : Nat} {bf : ab_B} : decode (ab_code (zx σ n0 bf).1 4035) 18 = .ok (.goto 4, 3) := zd zm_4035 (by decide +kernel)
theorem d_4035_21 {σ : Nat → Nat} {n0 : Nat} {bf : ab_B} : decode (ab_code (zx σ n0 bf).1 4035) 21 = .ok (.iconst 0, 1) := zd zm_4035 (by decide +kernel)
theorem d_4035_22 {σ : Nat → Nat} {n0 : Nat} {bf : ab_B} : decode (ab_code (zx σ n0 bf).1 4035) 22 = .ok (.ireturn, 1) := zd zm_4035 (by decide +kernel)
def w_X5_isSet (X : zs_X) (d : Nat) (p0 : Option Nat) (S : zs_T) (Q : zs_Q) : Prop :=
  (∃ b1, p0 = some b1 ∧ zs_K S b1 = some (.inl 6) ∧ (((zs_I S 6000 b1) = (5 : Int32) → (Q (.returned (some (.int (1 : Int32)))) S)) ∧ (¬ ((zs_I S 6000 b1) = (5 : Int32)) → (((¬ (zs_I S 6000 b1) = (13 : Int32) → (Q (.returned (some (.int (0 : Int32)))) S)) ∧ (¬ (¬ (zs_I S 6000 b1) = (13 : Int32)) → (Q (.returned (some (.int (1 : Int32)))) S)))))))
theorem u_X5_isSet {σ : Nat → Nat} {n0 : Nat} {bf : ab_B} {d : Nat} {p0 : Option Nat} {S : zs_T} {Q : zs_Q} (hB : zt_B bf) (hd : 1 ≤ d) (h : w_X5_isSet (zx σ n0 bf) (d - 1) p0 S Q) : zs_C (zx σ n0 bf) d 4035 [va_rf p0] S Q := by
  have hL : lv_args 0 [va_rf p0] = [(0, va_rf p0)] := by simp [lv_args, zs_cat, zs_cI, zs_cJ, zs_cA]
  refine zs_C.of1 (hB.2 4035 (by decide) (by decide)) hd (by rw [hL]; exact zs_sub_self _ (by exact ⟨rfl, trivial⟩)) ?_
  rw [hL]
  clear hL
  unfold w_X5_isSet at h
  refine zu_aload_n d_4035_0 rfl (zs_rr _) ?_
  obtain ⟨b1, e2, h⟩ := h
  refine zs_stk0 (zs_rfe e2) ?_
  obtain ⟨k3, h⟩ := h
  refine zg_4_369 rfl d_4035_1 k3 ?_
  refine zu_iconst d_4035_4 zi_5 ?_
  refine zu_cmpeq (t := 17) d_4035_5 rfl (fun c4 => ?_) (fun c4 => ?_)
  · have h := h.1 c4
    refine zu_iconst d_4035_17 zi_1 ?_
    refine zu_goto (t := 22) d_4035_18 rfl ?_
    exact zu_iret d_4035_22 zr_4035 (zs_b_n (Or.inr rfl)) h
  · have h := h.2 c4
    refine zu_aload_n d_4035_8 rfl (zs_rr _) ?_
    refine zs_stk0 (zs_rfe e2) ?_
    refine zg_4_369 rfl d_4035_9 k3 ?_
    refine zu_bipush d_4035_12 zj_13 ?_
    refine zu_cmpne (t := 21) d_4035_14 rfl (fun c5 => ?_) (fun c5 => ?_)
    · have h := h.1 c5
      refine zu_iconst d_4035_21 zi_0 ?_
      exact zu_iret d_4035_22 zr_4035 (zs_b_n (Or.inl rfl)) h
    · have h := h.2 c5
      refine zu_iconst d_4035_17 zi_1 ?_
      refine zu_goto (t := 22) d_4035_18 rfl ?_
      exact zu_iret d_4035_22 zr_4035 (zs_b_n (Or.inr rfl)) h
/-! SchemaPascal$Reader.isText(LSchemaPascal$Type;)Z -/
theorem zm_4036 {σ : Nat → Nat} {n0 : Nat} {bf : ab_B} : ab_code (zx σ n0 bf).1 4036 = prog_9_method_56_code := rfl
theorem zq_4036 {σ : Nat → Nat} {n0 : Nat} {bf : ab_B} : ab_maxL (zx σ n0 bf).1 4036 = 1 := rfl
theorem zr_4036 {σ : Nat → Nat} {n0 : Nat} {bf : ab_B} : ab_ret (zx σ n0 bf).1 4036 = (Option.some Jvm.ClassFile.FieldType.boolean) := rfl
theorem d_4036_0 {σ : Nat → Nat} {n0 : Nat} {bf : ab_B} : decode (ab_code (zx σ n0 bf).1 4036) 0 = .ok (.aload_n 0, 1) := zd zm_4036 (by decide +kernel)
theorem d_4036_1 {σ : Nat → Nat} {n0 : Nat} {bf : ab_B} : decode (ab_code (zx σ n0 bf).1 4036) 1 = .ok (.getfield 369, 3) := zd zm_4036 (by decide +kernel)
theorem d_4036_4 {σ : Nat → Nat} {n0 : Nat} {bf : ab_B} : decode (ab_code (zx σ n0 bf).1 4036) 4 = .ok (.bipush 6, 2) := zd zm_4036 (by decide +kernel)
theorem d_4036_6 {σ : Nat → Nat} {n0 : Nat} {bf : ab_B} : decode (ab_code (zx σ n0 bf).1 4036) 6 = .ok (.if_icmp .eq 14, 3) := zd zm_4036 (by decide +kernel)
theorem d_4036_9 {σ : Nat → Nat} {n0 : Nat} {bf : ab_B} : decode (ab_code (zx σ n0 bf).1 4036) 9 = .ok (.aload_n 0, 1) := zd zm_4036 (by decide +kernel)
theorem d_4036_10 {σ : Nat → Nat} {n0 : Nat} {bf : ab_B} : decode (ab_code (zx σ n0 bf).1 4036) 10 = .ok (.invokevirtual 450, 3) := zd zm_4036 (by decide +kernel)
theorem d_4036_13 {σ : Nat → Nat} {n0 : Nat} {bf : ab_B} : decode (ab_code (zx σ n0 bf).1 4036) 13 = .ok (.getfield 369, 3) := zd zm_4036 (by decide +kernel)
theorem d_4036_16 {σ : Nat → Nat} {n0 : Nat} {bf : ab_B} : decode (ab_code (zx σ n0 bf).1 4036) 16 = .ok (.iconst 2, 1) := zd zm_4036 (by decide +kernel)
theorem d_4036_17 {σ : Nat → Nat} {n0 : Nat} {bf : ab_B} : decode (ab_code (zx σ n0 bf).1 4036) 17 = .ok (.if_icmp .ne 7, 3) := zd zm_4036 (by decide +kernel)
theorem d_4036_20 {σ : Nat → Nat} {n0 : Nat} {bf : ab_B} : decode (ab_code (zx σ n0 bf).1 4036) 20 = .ok (.iconst 1, 1) := zd zm_4036 (by decide +kernel)
theorem d_4036_21 {σ : Nat → Nat} {n0 : Nat} {bf : ab_B} : decode (ab_code (zx σ n0 bf).1 4036) 21 = .ok (.goto 4, 3) := zd zm_4036 (by decide +kernel)
theorem d_4036_24 {σ : Nat → Nat} {n0 : Nat} {bf : ab_B} : decode (ab_code (zx σ n0 bf).1 4036) 24 = .ok (.iconst 0, 1) := zd zm_4036 (by decide +kernel)
theorem d_4036_25 {σ : Nat → Nat} {n0 : Nat} {bf : ab_B} : decode (ab_code (zx σ n0 bf).1 4036) 25 = .ok (.ireturn, 1) := zd zm_4036 (by decide +kernel)
def w_X5_isText (X : zs_X) (d : Nat) (p0 : Option Nat) (S : zs_T) (Q : zs_Q) : Prop :=
  (∃ b1, p0 = some b1 ∧ zs_K S b1 = some (.inl 6) ∧ (((zs_I S 6000 b1) = (6 : Int32) → (Q (.returned (some (.int (1 : Int32)))) S)) ∧ (¬ ((zs_I S 6000 b1) = (6 : Int32)) → (zs_C X d 6001 [.ref b1] S (zs_kR (fun v6 S5 => (∃ b7, v6 = some b7 ∧ zs_K S5 b7 = some (.inl 6) ∧ ((¬ (zs_I S5 6000 b7) = (2 : Int32) → (Q (.returned (some (.int (0 : Int32)))) S5)) ∧ (¬ (¬ (zs_I S5 6000 b7) = (2 : Int32)) → (Q (.returned (some (.int (1 : Int32)))) S5))))) Q)))))
theorem u_X5_isText {σ : Nat → Nat} {n0 : Nat} {bf : ab_B} {d : Nat} {p0 : Option Nat} {S : zs_T} {Q : zs_Q} (hB : zt_B bf) (hd : 1 ≤ d) (h : w_X5_isText (zx σ n0 bf) (d - 1) p0 S Q) : zs_C (zx σ n0 bf) d 4036 [va_rf p0] S Q := by
  have hL : lv_args 0 [va_rf p0] = [(0, va_rf p0)] := by simp [lv_args, zs_cat, zs_cI, zs_cJ, zs_cA]
  refine zs_C.of1 (hB.2 4036 (by decide) (by decide)) hd (by rw [hL]; exact zs_sub_self _ (by exact ⟨rfl, trivial⟩)) ?_
  rw [hL]
  clear hL
  unfold w_X5_isText at h
  refine zu_aload_n d_4036_0 rfl (zs_rr _) ?_
  obtain ⟨b1, e2, h⟩ := h
  refine zs_stk0 (zs_rfe e2) ?_
  obtain ⟨k3, h⟩ := h
  refine zg_4_369 rfl d_4036_1 k3 ?_
  refine zu_bipush d_4036_4 zj_6 ?_
  refine zu_cmpeq (t := 20) d_4036_6 rfl (fun c4 => ?_) (fun c4 => ?_)
  · have h := h.1 c4
    refine zu_iconst d_4036_20 zi_1 ?_
    refine zu_goto (t := 25) d_4036_21 rfl ?_
    exact zu_iret d_4036_25 zr_4036 (zs_b_n (Or.inr rfl)) h
  · have h := h.2 c4
    refine zu_aload_n d_4036_9 rfl (zs_rr _) ?_
    refine zs_stk0 (zs_rfe e2) ?_
    refine zc_4_450  hB rfl k3 d_4036_10 (Nat.le_of_ble_eq_true rfl) h (fun v6 S5 h => ?_)
    obtain ⟨b7, e8, h⟩ := h
    refine zs_stk0 (zs_rfe e8) ?_
    obtain ⟨k9, h⟩ := h
    refine zg_4_369 rfl d_4036_13 k9 ?_
    refine zu_iconst d_4036_16 zi_2 ?_
    refine zu_cmpne (t := 24) d_4036_17 rfl (fun c10 => ?_) (fun c10 => ?_)
    · have h := h.1 c10
      refine zu_iconst d_4036_24 zi_0 ?_
      exact zu_iret d_4036_25 zr_4036 (zs_b_n (Or.inl rfl)) h
    · have h := h.2 c10
      refine zu_iconst d_4036_20 zi_1 ?_
      refine zu_goto (t := 25) d_4036_21 rfl ?_
      exact zu_iret d_4036_25 zr_4036 (zs_b_n (Or.inr rfl)) h
/-! SchemaPascal$Reader.same(LSchemaPascal$Type;LSchemaPascal$Type;)Z -/
theorem zm_4037 {σ : Nat → Nat} {n0 : Nat} {bf : ab_B} : ab_code (zx σ n0 bf).1 4037 = prog_9_method_82_code := rfl
theorem zq_4037 {σ : Nat → Nat} {n0 : Nat} {bf : ab_B} : ab_maxL (zx σ n0 bf).1 4037 = 2 := rfl
theorem zr_4037 {σ : Nat → Nat} {n0 : Nat} {bf : ab_B} : ab_ret (zx σ n0 bf).1 4037 = (Option.some Jvm.ClassFile.FieldType.boolean) := rfl
theorem d_4037_0 {σ : Nat → Nat} {n0 : Nat} {bf : ab_B} : decode (ab_code (zx σ n0 bf).1 4037) 0 = .ok (.aload_n 0, 1) := zd zm_4037 (by decide +kernel)
theorem d_4037_1 {σ : Nat → Nat} {n0 : Nat} {bf : ab_B} : decode (ab_code (zx σ n0 bf).1 4037) 1 = .ok (.aload_n 1, 1) := zd zm_4037 (by decide +kernel)
theorem d_4037_2 {σ : Nat → Nat} {n0 : Nat} {bf : ab_B} : decode (ab_code (zx σ n0 bf).1 4037) 2 = .ok (.if_acmp .eq 28, 3) := zd zm_4037 (by decide +kernel)
theorem d_4037_5 {σ : Nat → Nat} {n0 : Nat} {bf : ab_B} : decode (ab_code (zx σ n0 bf).1 4037) 5 = .ok (.aload_n 0, 1) := zd zm_4037 (by decide +kernel)
theorem d_4037_6 {σ : Nat → Nat} {n0 : Nat} {bf : ab_B} : decode (ab_code (zx σ n0 bf).1 4037) 6 = .ok (.invokevirtual 671, 3) := zd zm_4037 (by decide +kernel)
theorem d_4037_9 {σ : Nat → Nat} {n0 : Nat} {bf : ab_B} : decode (ab_code (zx σ n0 bf).1 4037) 9 = .ok (.ifCond .eq 25, 3) := zd zm_4037 (by decide +kernel)
theorem d_4037_12 {σ : Nat → Nat} {n0 : Nat} {bf : ab_B} : decode (ab_code (zx σ n0 bf).1 4037) 12 = .ok (.aload_n 1, 1) := zd zm_4037 (by decide +kernel)
theorem d_4037_13 {σ : Nat → Nat} {n0 : Nat} {bf : ab_B} : decode (ab_code (zx σ n0 bf).1 4037) 13 = .ok (.invokevirtual 671, 3) := zd zm_4037 (by decide +kernel)
theorem d_4037_16 {σ : Nat → Nat} {n0 : Nat} {bf : ab_B} : decode (ab_code (zx σ n0 bf).1 4037) 16 = .ok (.ifCond .eq 18, 3) := zd zm_4037 (by decide +kernel)
theorem d_4037_19 {σ : Nat → Nat} {n0 : Nat} {bf : ab_B} : decode (ab_code (zx σ n0 bf).1 4037) 19 = .ok (.aload_n 0, 1) := zd zm_4037 (by decide +kernel)
theorem d_4037_20 {σ : Nat → Nat} {n0 : Nat} {bf : ab_B} : decode (ab_code (zx σ n0 bf).1 4037) 20 = .ok (.invokevirtual 681, 3) := zd zm_4037 (by decide +kernel)
theorem d_4037_23 {σ : Nat → Nat} {n0 : Nat} {bf : ab_B} : decode (ab_code (zx σ n0 bf).1 4037) 23 = .ok (.aload_n 1, 1) := zd zm_4037 (by decide +kernel)
theorem d_4037_24 {σ : Nat → Nat} {n0 : Nat} {bf : ab_B} : decode (ab_code (zx σ n0 bf).1 4037) 24 = .ok (.invokevirtual 681, 3) := zd zm_4037 (by decide +kernel)
theorem d_4037_27 {σ : Nat → Nat} {n0 : Nat} {bf : ab_B} : decode (ab_code (zx σ n0 bf).1 4037) 27 = .ok (.if_acmp .ne 7, 3) := zd zm_4037 (by decide +kernel)
theorem d_4037_30 {σ : Nat → Nat} {n0 : Nat} {bf : ab_B} : decode (ab_code (zx σ n0 bf).1 4037) 30 = .ok (.iconst 1, 1) := zd zm_4037 (by decide +kernel)
theorem d_4037_31 {σ : Nat → Nat} {n0 : Nat} {bf : ab_B} : decode (ab_code (zx σ n0 bf).1 4037) 31 = .ok (.goto 4, 3) := zd zm_4037 (by decide +kernel)
theorem d_4037_34 {σ : Nat → Nat} {n0 : Nat} {bf : ab_B} : decode (ab_code (zx σ n0 bf).1 4037) 34 = .ok (.iconst 0, 1) := zd zm_4037 (by decide +kernel)
theorem d_4037_35 {σ : Nat → Nat} {n0 : Nat} {bf : ab_B} : decode (ab_code (zx σ n0 bf).1 4037) 35 = .ok (.ireturn, 1) := zd zm_4037 (by decide +kernel)
def w_X5_same (X : zs_X) (d : Nat) (p0 : Option Nat) (p1 : Option Nat) (S : zs_T) (Q : zs_Q) : Prop :=
  (((p0 = p1 → (Q (.returned (some (.int (1 : Int32)))) S)) ∧ (¬ (p0 = p1) → (∃ b2, p0 = some b2 ∧ zs_K S b2 = some (.inl 6) ∧ zs_C X d 6004 [.ref b2] S (zs_kI (fun v6 S5 => (((v6 = 0 → (Q (.returned (some (.int (0 : Int32)))) S5)) ∧ (¬ (v6 = 0) → (∃ b8, p1 = some b8 ∧ zs_K S5 b8 = some (.inl 6) ∧ zs_C X d 6004 [.ref b8] S5 (zs_kI (fun v12 S11 => (((v12 = 0 → (Q (.returned (some (.int (0 : Int32)))) S11)) ∧ (¬ (v12 = 0) → (zs_K S11 b2 = some (.inl 6) ∧ zs_C X d 6005 [.ref b2] S11 (zs_kR (fun v16 S15 => (zs_K S15 b8 = some (.inl 6) ∧ zs_C X d 6005 [.ref b8] S15 (zs_kR (fun v19 S18 => (((¬ v16 = v19 → (Q (.returned (some (.int (0 : Int32)))) S18)) ∧ (¬ (¬ v16 = v19) → (Q (.returned (some (.int (1 : Int32)))) S18))))) Q))) Q)))))) Q)))))) Q)))))
theorem u_X5_same {σ : Nat → Nat} {n0 : Nat} {bf : ab_B} {d : Nat} {p0 : Option Nat} {p1 : Option Nat} {S : zs_T} {Q : zs_Q} (hB : zt_B bf) (hd : 1 ≤ d) (h : w_X5_same (zx σ n0 bf) (d - 1) p0 p1 S Q) : zs_C (zx σ n0 bf) d 4037 [va_rf p0, va_rf p1] S Q := by
  have hL : lv_args 0 [va_rf p0, va_rf p1] = [(0, va_rf p0), (1, va_rf p1)] := by simp [lv_args, zs_cat, zs_cI, zs_cJ, zs_cA]
  refine zs_C.of1 (hB.2 4037 (by decide) (by decide)) hd (by rw [hL]; exact zs_sub_self _ (by exact ⟨rfl, rfl, trivial⟩)) ?_
  rw [hL]
  clear hL
  unfold w_X5_same at h
  refine zu_aload_n d_4037_0 rfl (zs_rr _) ?_
  refine zu_aload_n d_4037_1 rfl (zs_rr _) ?_
  refine zu_acmpeq (u := p0) (w := p1) (t := 30) d_4037_2 rfl rfl rfl (fun c1 => ?_) (fun c1 => ?_)
  · have h := h.1 c1
    refine zu_iconst d_4037_30 zi_1 ?_
    refine zu_goto (t := 35) d_4037_31 rfl ?_
    exact zu_iret d_4037_35 zr_4037 (zs_b_n (Or.inr rfl)) h
  · have h := h.2 c1
    refine zu_aload_n d_4037_5 rfl (zs_rr _) ?_
    obtain ⟨b2, e3, h⟩ := h
    refine zs_stk0 (zs_rfe e3) ?_
    obtain ⟨k4, h⟩ := h
    refine zc_4_671  hB rfl k4 d_4037_6 (Nat.le_of_ble_eq_true rfl) h (fun v6 S5 h => ?_)
    refine zu_ifeq (t := 34) d_4037_9 rfl (fun c7 => ?_) (fun c7 => ?_)
    · have h := h.1 c7
      refine zu_iconst d_4037_34 zi_0 ?_
      exact zu_iret d_4037_35 zr_4037 (zs_b_n (Or.inl rfl)) h
    · have h := h.2 c7
      refine zu_aload_n d_4037_12 rfl (zs_rr _) ?_
      obtain ⟨b8, e9, h⟩ := h
      refine zs_stk0 (zs_rfe e9) ?_
      obtain ⟨k10, h⟩ := h
      refine zc_4_671  hB rfl k10 d_4037_13 (Nat.le_of_ble_eq_true rfl) h (fun v12 S11 h => ?_)
      refine zu_ifeq (t := 34) d_4037_16 rfl (fun c13 => ?_) (fun c13 => ?_)
      · have h := h.1 c13
        refine zu_iconst d_4037_34 zi_0 ?_
        exact zu_iret d_4037_35 zr_4037 (zs_b_n (Or.inl rfl)) h
      · have h := h.2 c13
        refine zu_aload_n d_4037_19 rfl (zs_rr _) ?_
        refine zs_stk0 (zs_rfe e3) ?_
        obtain ⟨k14, h⟩ := h
        refine zc_4_681  hB rfl k14 d_4037_20 (Nat.le_of_ble_eq_true rfl) h (fun v16 S15 h => ?_)
        refine zu_aload_n d_4037_23 rfl (zs_rr _) ?_
        refine zs_stk0 (zs_rfe e9) ?_
        obtain ⟨k17, h⟩ := h
        refine zc_4_681  hB rfl k17 d_4037_24 (by simp only [List.map_cons, List.map_nil, List.sum_cons, List.sum_nil, zs_cat, zs_cI, zs_cJ, zs_cA]; exact Nat.le_of_ble_eq_true rfl) h (fun v19 S18 h => ?_)
        refine zu_acmpne (u := v16) (w := v19) (t := 34) d_4037_27 rfl rfl rfl (fun c20 => ?_) (fun c20 => ?_)
        · have h := h.1 c20
          refine zu_iconst d_4037_34 zi_0 ?_
          exact zu_iret d_4037_35 zr_4037 (zs_b_n (Or.inl rfl)) h
        · have h := h.2 c20
          refine zu_iconst d_4037_30 zi_1 ?_
          refine zu_goto (t := 35) d_4037_31 rfl ?_
          exact zu_iret d_4037_35 zr_4037 (zs_b_n (Or.inr rfl)) h
/-! SchemaPascal$Reader.isKnown(LSchemaPascal$Type;)Z -/
theorem zm_4038 {σ : Nat → Nat} {n0 : Nat} {bf : ab_B} : ab_code (zx σ n0 bf).1 4038 = prog_9_method_40_code := rfl
theorem zq_4038 {σ : Nat → Nat} {n0 : Nat} {bf : ab_B} : ab_maxL (zx σ n0 bf).1 4038 = 3 := rfl
theorem zr_4038 {σ : Nat → Nat} {n0 : Nat} {bf : ab_B} : ab_ret (zx σ n0 bf).1 4038 = (Option.some Jvm.ClassFile.FieldType.boolean) := rfl
theorem d_4038_0 {σ : Nat → Nat} {n0 : Nat} {bf : ab_B} : decode (ab_code (zx σ n0 bf).1 4038) 0 = .ok (.aload_n 0, 1) := zd zm_4038 (by decide +kernel)
theorem d_4038_1 {σ : Nat → Nat} {n0 : Nat} {bf : ab_B} : decode (ab_code (zx σ n0 bf).1 4038) 1 = .ok (.getfield 370, 3) := zd zm_4038 (by decide +kernel)
theorem d_4038_4 {σ : Nat → Nat} {n0 : Nat} {bf : ab_B} : decode (ab_code (zx σ n0 bf).1 4038) 4 = .ok (.iconst (-1), 1) := zd zm_4038 (by decide +kernel)
theorem d_4038_5 {σ : Nat → Nat} {n0 : Nat} {bf : ab_B} : decode (ab_code (zx σ n0 bf).1 4038) 5 = .ok (.if_icmp .eq 17, 3) := zd zm_4038 (by decide +kernel)
theorem d_4038_8 {σ : Nat → Nat} {n0 : Nat} {bf : ab_B} : decode (ab_code (zx σ n0 bf).1 4038) 8 = .ok (.aload_n 0, 1) := zd zm_4038 (by decide +kernel)
theorem d_4038_9 {σ : Nat → Nat} {n0 : Nat} {bf : ab_B} : decode (ab_code (zx σ n0 bf).1 4038) 9 = .ok (.getfield 370, 3) := zd zm_4038 (by decide +kernel)
theorem d_4038_12 {σ : Nat → Nat} {n0 : Nat} {bf : ab_B} : decode (ab_code (zx σ n0 bf).1 4038) 12 = .ok (.iconst 1, 1) := zd zm_4038 (by decide +kernel)
theorem d_4038_13 {σ : Nat → Nat} {n0 : Nat} {bf : ab_B} : decode (ab_code (zx σ n0 bf).1 4038) 13 = .ok (.if_icmp .ne 7, 3) := zd zm_4038 (by decide +kernel)
theorem d_4038_16 {σ : Nat → Nat} {n0 : Nat} {bf : ab_B} : decode (ab_code (zx σ n0 bf).1 4038) 16 = .ok (.iconst 1, 1) := zd zm_4038 (by decide +kernel)
theorem d_4038_17 {σ : Nat → Nat} {n0 : Nat} {bf : ab_B} : decode (ab_code (zx σ n0 bf).1 4038) 17 = .ok (.goto 4, 3) := zd zm_4038 (by decide +kernel)
theorem d_4038_20 {σ : Nat → Nat} {n0 : Nat} {bf : ab_B} : decode (ab_code (zx σ n0 bf).1 4038) 20 = .ok (.iconst 0, 1) := zd zm_4038 (by decide +kernel)
theorem d_4038_21 {σ : Nat → Nat} {n0 : Nat} {bf : ab_B} : decode (ab_code (zx σ n0 bf).1 4038) 21 = .ok (.ireturn, 1) := zd zm_4038 (by decide +kernel)
theorem d_4038_22 {σ : Nat → Nat} {n0 : Nat} {bf : ab_B} : decode (ab_code (zx σ n0 bf).1 4038) 22 = .ok (.aload_n 0, 1) := zd zm_4038 (by decide +kernel)
theorem d_4038_23 {σ : Nat → Nat} {n0 : Nat} {bf : ab_B} : decode (ab_code (zx σ n0 bf).1 4038) 23 = .ok (.getfield 369, 3) := zd zm_4038 (by decide +kernel)
theorem d_4038_26 {σ : Nat → Nat} {n0 : Nat} {bf : ab_B} : decode (ab_code (zx σ n0 bf).1 4038) 26 = .ok (.tableswitch 167 4 11 #[46, 72, 80, 103, 129, 167, 137, 139], 46) := zd zm_4038 (by decide +kernel)
theorem d_4038_72 {σ : Nat → Nat} {n0 : Nat} {bf : ab_B} : decode (ab_code (zx σ n0 bf).1 4038) 72 = .ok (.aload_n 0, 1) := zd zm_4038 (by decide +kernel)
theorem d_4038_73 {σ : Nat → Nat} {n0 : Nat} {bf : ab_B} : decode (ab_code (zx σ n0 bf).1 4038) 73 = .ok (.getfield 446, 3) := zd zm_4038 (by decide +kernel)
theorem d_4038_76 {σ : Nat → Nat} {n0 : Nat} {bf : ab_B} : decode (ab_code (zx σ n0 bf).1 4038) 76 = .ok (.invokestatic 459, 3) := zd zm_4038 (by decide +kernel)
theorem d_4038_79 {σ : Nat → Nat} {n0 : Nat} {bf : ab_B} : decode (ab_code (zx σ n0 bf).1 4038) 79 = .ok (.ifCond .eq 17, 3) := zd zm_4038 (by decide +kernel)
theorem d_4038_82 {σ : Nat → Nat} {n0 : Nat} {bf : ab_B} : decode (ab_code (zx σ n0 bf).1 4038) 82 = .ok (.aload_n 0, 1) := zd zm_4038 (by decide +kernel)
theorem d_4038_83 {σ : Nat → Nat} {n0 : Nat} {bf : ab_B} : decode (ab_code (zx σ n0 bf).1 4038) 83 = .ok (.getfield 453, 3) := zd zm_4038 (by decide +kernel)
theorem d_4038_86 {σ : Nat → Nat} {n0 : Nat} {bf : ab_B} : decode (ab_code (zx σ n0 bf).1 4038) 86 = .ok (.invokestatic 459, 3) := zd zm_4038 (by decide +kernel)
theorem d_4038_89 {σ : Nat → Nat} {n0 : Nat} {bf : ab_B} : decode (ab_code (zx σ n0 bf).1 4038) 89 = .ok (.ifCond .eq 7, 3) := zd zm_4038 (by decide +kernel)
theorem d_4038_92 {σ : Nat → Nat} {n0 : Nat} {bf : ab_B} : decode (ab_code (zx σ n0 bf).1 4038) 92 = .ok (.iconst 1, 1) := zd zm_4038 (by decide +kernel)
theorem d_4038_93 {σ : Nat → Nat} {n0 : Nat} {bf : ab_B} : decode (ab_code (zx σ n0 bf).1 4038) 93 = .ok (.goto 4, 3) := zd zm_4038 (by decide +kernel)
theorem d_4038_96 {σ : Nat → Nat} {n0 : Nat} {bf : ab_B} : decode (ab_code (zx σ n0 bf).1 4038) 96 = .ok (.iconst 0, 1) := zd zm_4038 (by decide +kernel)
theorem d_4038_97 {σ : Nat → Nat} {n0 : Nat} {bf : ab_B} : decode (ab_code (zx σ n0 bf).1 4038) 97 = .ok (.ireturn, 1) := zd zm_4038 (by decide +kernel)
theorem d_4038_98 {σ : Nat → Nat} {n0 : Nat} {bf : ab_B} : decode (ab_code (zx σ n0 bf).1 4038) 98 = .ok (.aload_n 0, 1) := zd zm_4038 (by decide +kernel)
theorem d_4038_99 {σ : Nat → Nat} {n0 : Nat} {bf : ab_B} : decode (ab_code (zx σ n0 bf).1 4038) 99 = .ok (.getfield 320, 3) := zd zm_4038 (by decide +kernel)
theorem d_4038_102 {σ : Nat → Nat} {n0 : Nat} {bf : ab_B} : decode (ab_code (zx σ n0 bf).1 4038) 102 = .ok (.invokestatic 377, 3) := zd zm_4038 (by decide +kernel)
theorem d_4038_105 {σ : Nat → Nat} {n0 : Nat} {bf : ab_B} : decode (ab_code (zx σ n0 bf).1 4038) 105 = .ok (.ireturn, 1) := zd zm_4038 (by decide +kernel)
theorem d_4038_106 {σ : Nat → Nat} {n0 : Nat} {bf : ab_B} : decode (ab_code (zx σ n0 bf).1 4038) 106 = .ok (.aload_n 0, 1) := zd zm_4038 (by decide +kernel)
theorem d_4038_107 {σ : Nat → Nat} {n0 : Nat} {bf : ab_B} : decode (ab_code (zx σ n0 bf).1 4038) 107 = .ok (.getfield 446, 3) := zd zm_4038 (by decide +kernel)
theorem d_4038_110 {σ : Nat → Nat} {n0 : Nat} {bf : ab_B} : decode (ab_code (zx σ n0 bf).1 4038) 110 = .ok (.ifnull 17, 3) := zd zm_4038 (by decide +kernel)
theorem d_4038_113 {σ : Nat → Nat} {n0 : Nat} {bf : ab_B} : decode (ab_code (zx σ n0 bf).1 4038) 113 = .ok (.aload_n 0, 1) := zd zm_4038 (by decide +kernel)
theorem d_4038_114 {σ : Nat → Nat} {n0 : Nat} {bf : ab_B} : decode (ab_code (zx σ n0 bf).1 4038) 114 = .ok (.getfield 446, 3) := zd zm_4038 (by decide +kernel)
theorem d_4038_117 {σ : Nat → Nat} {n0 : Nat} {bf : ab_B} : decode (ab_code (zx σ n0 bf).1 4038) 117 = .ok (.invokestatic 459, 3) := zd zm_4038 (by decide +kernel)
theorem d_4038_120 {σ : Nat → Nat} {n0 : Nat} {bf : ab_B} : decode (ab_code (zx σ n0 bf).1 4038) 120 = .ok (.ifCond .eq 7, 3) := zd zm_4038 (by decide +kernel)
theorem d_4038_123 {σ : Nat → Nat} {n0 : Nat} {bf : ab_B} : decode (ab_code (zx σ n0 bf).1 4038) 123 = .ok (.iconst 1, 1) := zd zm_4038 (by decide +kernel)
theorem d_4038_124 {σ : Nat → Nat} {n0 : Nat} {bf : ab_B} : decode (ab_code (zx σ n0 bf).1 4038) 124 = .ok (.goto 4, 3) := zd zm_4038 (by decide +kernel)
theorem d_4038_127 {σ : Nat → Nat} {n0 : Nat} {bf : ab_B} : decode (ab_code (zx σ n0 bf).1 4038) 127 = .ok (.iconst 0, 1) := zd zm_4038 (by decide +kernel)
theorem d_4038_128 {σ : Nat → Nat} {n0 : Nat} {bf : ab_B} : decode (ab_code (zx σ n0 bf).1 4038) 128 = .ok (.ireturn, 1) := zd zm_4038 (by decide +kernel)
theorem d_4038_129 {σ : Nat → Nat} {n0 : Nat} {bf : ab_B} : decode (ab_code (zx σ n0 bf).1 4038) 129 = .ok (.aload_n 0, 1) := zd zm_4038 (by decide +kernel)
theorem d_4038_130 {σ : Nat → Nat} {n0 : Nat} {bf : ab_B} : decode (ab_code (zx σ n0 bf).1 4038) 130 = .ok (.getfield 399, 3) := zd zm_4038 (by decide +kernel)
theorem d_4038_133 {σ : Nat → Nat} {n0 : Nat} {bf : ab_B} : decode (ab_code (zx σ n0 bf).1 4038) 133 = .ok (.invokestatic 377, 3) := zd zm_4038 (by decide +kernel)
theorem d_4038_136 {σ : Nat → Nat} {n0 : Nat} {bf : ab_B} : decode (ab_code (zx σ n0 bf).1 4038) 136 = .ok (.ifCond .eq 17, 3) := zd zm_4038 (by decide +kernel)
theorem d_4038_139 {σ : Nat → Nat} {n0 : Nat} {bf : ab_B} : decode (ab_code (zx σ n0 bf).1 4038) 139 = .ok (.aload_n 0, 1) := zd zm_4038 (by decide +kernel)
theorem d_4038_140 {σ : Nat → Nat} {n0 : Nat} {bf : ab_B} : decode (ab_code (zx σ n0 bf).1 4038) 140 = .ok (.getfield 320, 3) := zd zm_4038 (by decide +kernel)
theorem d_4038_143 {σ : Nat → Nat} {n0 : Nat} {bf : ab_B} : decode (ab_code (zx σ n0 bf).1 4038) 143 = .ok (.invokestatic 377, 3) := zd zm_4038 (by decide +kernel)
theorem d_4038_146 {σ : Nat → Nat} {n0 : Nat} {bf : ab_B} : decode (ab_code (zx σ n0 bf).1 4038) 146 = .ok (.ifCond .eq 7, 3) := zd zm_4038 (by decide +kernel)
theorem d_4038_149 {σ : Nat → Nat} {n0 : Nat} {bf : ab_B} : decode (ab_code (zx σ n0 bf).1 4038) 149 = .ok (.iconst 1, 1) := zd zm_4038 (by decide +kernel)
theorem d_4038_150 {σ : Nat → Nat} {n0 : Nat} {bf : ab_B} : decode (ab_code (zx σ n0 bf).1 4038) 150 = .ok (.goto 4, 3) := zd zm_4038 (by decide +kernel)
theorem d_4038_153 {σ : Nat → Nat} {n0 : Nat} {bf : ab_B} : decode (ab_code (zx σ n0 bf).1 4038) 153 = .ok (.iconst 0, 1) := zd zm_4038 (by decide +kernel)
theorem d_4038_154 {σ : Nat → Nat} {n0 : Nat} {bf : ab_B} : decode (ab_code (zx σ n0 bf).1 4038) 154 = .ok (.ireturn, 1) := zd zm_4038 (by decide +kernel)
theorem d_4038_155 {σ : Nat → Nat} {n0 : Nat} {bf : ab_B} : decode (ab_code (zx σ n0 bf).1 4038) 155 = .ok (.aload_n 0, 1) := zd zm_4038 (by decide +kernel)
theorem d_4038_156 {σ : Nat → Nat} {n0 : Nat} {bf : ab_B} : decode (ab_code (zx σ n0 bf).1 4038) 156 = .ok (.getfield 75, 3) := zd zm_4038 (by decide +kernel)
theorem d_4038_159 {σ : Nat → Nat} {n0 : Nat} {bf : ab_B} : decode (ab_code (zx σ n0 bf).1 4038) 159 = .ok (.invokestatic 529, 3) := zd zm_4038 (by decide +kernel)
theorem d_4038_162 {σ : Nat → Nat} {n0 : Nat} {bf : ab_B} : decode (ab_code (zx σ n0 bf).1 4038) 162 = .ok (.ireturn, 1) := zd zm_4038 (by decide +kernel)
theorem d_4038_163 {σ : Nat → Nat} {n0 : Nat} {bf : ab_B} : decode (ab_code (zx σ n0 bf).1 4038) 163 = .ok (.iconst 0, 1) := zd zm_4038 (by decide +kernel)
theorem d_4038_164 {σ : Nat → Nat} {n0 : Nat} {bf : ab_B} : decode (ab_code (zx σ n0 bf).1 4038) 164 = .ok (.ireturn, 1) := zd zm_4038 (by decide +kernel)
theorem d_4038_165 {σ : Nat → Nat} {n0 : Nat} {bf : ab_B} : decode (ab_code (zx σ n0 bf).1 4038) 165 = .ok (.iconst 1, 1) := zd zm_4038 (by decide +kernel)
theorem d_4038_166 {σ : Nat → Nat} {n0 : Nat} {bf : ab_B} : decode (ab_code (zx σ n0 bf).1 4038) 166 = .ok (.istore_n 1, 1) := zd zm_4038 (by decide +kernel)
theorem d_4038_167 {σ : Nat → Nat} {n0 : Nat} {bf : ab_B} : decode (ab_code (zx σ n0 bf).1 4038) 167 = .ok (.aload_n 0, 1) := zd zm_4038 (by decide +kernel)
theorem d_4038_168 {σ : Nat → Nat} {n0 : Nat} {bf : ab_B} : decode (ab_code (zx σ n0 bf).1 4038) 168 = .ok (.getfield 484, 3) := zd zm_4038 (by decide +kernel)
theorem d_4038_171 {σ : Nat → Nat} {n0 : Nat} {bf : ab_B} : decode (ab_code (zx σ n0 bf).1 4038) 171 = .ok (.astore_n 2, 1) := zd zm_4038 (by decide +kernel)
theorem d_4038_172 {σ : Nat → Nat} {n0 : Nat} {bf : ab_B} : decode (ab_code (zx σ n0 bf).1 4038) 172 = .ok (.aload_n 2, 1) := zd zm_4038 (by decide +kernel)
theorem d_4038_173 {σ : Nat → Nat} {n0 : Nat} {bf : ab_B} : decode (ab_code (zx σ n0 bf).1 4038) 173 = .ok (.ifnull 18, 3) := zd zm_4038 (by decide +kernel)
theorem d_4038_176 {σ : Nat → Nat} {n0 : Nat} {bf : ab_B} : decode (ab_code (zx σ n0 bf).1 4038) 176 = .ok (.iload_n 1, 1) := zd zm_4038 (by decide +kernel)
theorem d_4038_177 {σ : Nat → Nat} {n0 : Nat} {bf : ab_B} : decode (ab_code (zx σ n0 bf).1 4038) 177 = .ok (.aload_n 2, 1) := zd zm_4038 (by decide +kernel)
theorem d_4038_178 {σ : Nat → Nat} {n0 : Nat} {bf : ab_B} : decode (ab_code (zx σ n0 bf).1 4038) 178 = .ok (.invokestatic 459, 3) := zd zm_4038 (by decide +kernel)
theorem d_4038_181 {σ : Nat → Nat} {n0 : Nat} {bf : ab_B} : decode (ab_code (zx σ n0 bf).1 4038) 181 = .ok (.iand, 1) := zd zm_4038 (by decide +kernel)
theorem d_4038_182 {σ : Nat → Nat} {n0 : Nat} {bf : ab_B} : decode (ab_code (zx σ n0 bf).1 4038) 182 = .ok (.istore_n 1, 1) := zd zm_4038 (by decide +kernel)
theorem d_4038_183 {σ : Nat → Nat} {n0 : Nat} {bf : ab_B} : decode (ab_code (zx σ n0 bf).1 4038) 183 = .ok (.aload_n 2, 1) := zd zm_4038 (by decide +kernel)
theorem d_4038_184 {σ : Nat → Nat} {n0 : Nat} {bf : ab_B} : decode (ab_code (zx σ n0 bf).1 4038) 184 = .ok (.getfield 487, 3) := zd zm_4038 (by decide +kernel)
theorem d_4038_187 {σ : Nat → Nat} {n0 : Nat} {bf : ab_B} : decode (ab_code (zx σ n0 bf).1 4038) 187 = .ok (.astore_n 2, 1) := zd zm_4038 (by decide +kernel)
theorem d_4038_188 {σ : Nat → Nat} {n0 : Nat} {bf : ab_B} : decode (ab_code (zx σ n0 bf).1 4038) 188 = .ok (.goto (-16), 3) := zd zm_4038 (by decide +kernel)
theorem d_4038_191 {σ : Nat → Nat} {n0 : Nat} {bf : ab_B} : decode (ab_code (zx σ n0 bf).1 4038) 191 = .ok (.iload_n 1, 1) := zd zm_4038 (by decide +kernel)
theorem d_4038_192 {σ : Nat → Nat} {n0 : Nat} {bf : ab_B} : decode (ab_code (zx σ n0 bf).1 4038) 192 = .ok (.ireturn, 1) := zd zm_4038 (by decide +kernel)
theorem d_4038_193 {σ : Nat → Nat} {n0 : Nat} {bf : ab_B} : decode (ab_code (zx σ n0 bf).1 4038) 193 = .ok (.iconst 1, 1) := zd zm_4038 (by decide +kernel)
theorem d_4038_194 {σ : Nat → Nat} {n0 : Nat} {bf : ab_B} : decode (ab_code (zx σ n0 bf).1 4038) 194 = .ok (.ireturn, 1) := zd zm_4038 (by decide +kernel)
def w_X5_isKnown_172 (X : zs_X) (d : Nat) (p1 : Int32) (p2 : Option Nat) (S : zs_T) (Q : zs_Q) : Prop :=
  (((p2 = none → (zs_b p1 ∧ Q (.returned (some (.int p1))) S)) ∧ (∀ b1, p2 = some b1 → (zs_C X d 4039 [va_rf p2] S (zs_kI (fun v5 S4 => (zs_K S4 b1 = some (.inl 11) ∧ zs_U X d 4038 172 [(1, .int (p1 &&& v5)), (2, va_rf (zs_R S4 11007 b1))] [] S4 Q)) Q)))))
theorem u_X5_isKnown_172 {σ : Nat → Nat} {n0 : Nat} {bf : ab_B} {d : Nat} {p1 : Int32} {p2 : Option Nat} {S : zs_T} {Q : zs_Q} (hB : zt_B bf) (h : w_X5_isKnown_172 (zx σ n0 bf) d p1 p2 S Q) : zs_U (zx σ n0 bf) d 4038 172 [(1, .int p1), (2, va_rf p2)] [] S Q := by
  unfold w_X5_isKnown_172 at h
  refine zu_aload_n d_4038_172 rfl (zs_rr _) ?_
  refine zu_ifnull (u := p2) (t := 191) d_4038_173 rfl rfl (fun e2 => ?_) (fun b1 e2 => ?_)
  · have h := h.1 e2
    refine zu_iload_n d_4038_191 rfl ?_
    obtain ⟨k3, h⟩ := h
    exact zu_iret d_4038_192 zr_4038 (zs_b_n k3) h
  · have h := h.2 b1 e2
    refine zu_iload_n d_4038_176 rfl ?_
    refine zu_aload_n d_4038_177 rfl (zs_rr _) ?_
    refine zc_4_459 (x0 := p2) hB rfl d_4038_178 (Nat.le_of_ble_eq_true rfl) h (fun v5 S4 h => ?_)
    refine zu_stk d_4038_181 rfl rfl ?_
    refine zu_istore_n d_4038_182 (zs_lt zq_4038 rfl) ?_
    refine zu_aload_n d_4038_183 rfl (zs_rr _) ?_
    refine zs_stk0 (zs_rfe e2) ?_
    obtain ⟨k6, h⟩ := h
    refine zg_4_487 rfl d_4038_184 k6 ?_
    refine zu_astore_n d_4038_187 (zs_rr _) (zs_lt zq_4038 rfl) ?_
    refine zu_goto (t := 172) d_4038_188 rfl ?_
    exact h.weak ⟨rfl, rfl, trivial⟩
def w_X5_isKnown (X : zs_X) (d : Nat) (p0 : Option Nat) (S : zs_T) (Q : zs_Q) : Prop :=
  (∃ b1, p0 = some b1 ∧ zs_K S b1 = some (.inl 6) ∧ (((zs_I S 6011 b1) = (-1 : Int32) → ((((zs_I S 6000 b1).toInt < 4 ∨ 11 < (zs_I S 6000 b1).toInt → (Q (.returned (some (.int (1 : Int32)))) S)) ∧ ((zs_I S 6000 b1).toInt = 4 → (zs_C X d 4039 [va_rf (zs_R S 6004 b1)] S (zs_kI (fun v7 S6 => (((v7 = 0 → (Q (.returned (some (.int (0 : Int32)))) S6)) ∧ (¬ (v7 = 0) → (zs_K S6 b1 = some (.inl 6) ∧ zs_C X d 4039 [va_rf (zs_R S6 6005 b1)] S6 (zs_kI (fun v11 S10 => (((v11 = 0 → (Q (.returned (some (.int (0 : Int32)))) S10)) ∧ (¬ (v11 = 0) → (Q (.returned (some (.int (1 : Int32)))) S10))))) Q)))))) Q))) ∧ ((zs_I S 6000 b1).toInt = 5 → (zs_C X d 4038 [va_rf (zs_R S 6002 b1)] S (zs_kI (fun v14 S13 => (zs_b v14 ∧ Q (.returned (some (.int v14))) S13)) Q))) ∧ ((zs_I S 6000 b1).toInt = 6 → ((((zs_R S 6004 b1) = none → (Q (.returned (some (.int (0 : Int32)))) S)) ∧ (∀ b16, (zs_R S 6004 b1) = some b16 → (zs_C X d 4039 [va_rf (zs_R S 6004 b1)] S (zs_kI (fun v19 S18 => (((v19 = 0 → (Q (.returned (some (.int (0 : Int32)))) S18)) ∧ (¬ (v19 = 0) → (Q (.returned (some (.int (1 : Int32)))) S18))))) Q)))))) ∧ ((zs_I S 6000 b1).toInt = 7 → (zs_C X d 4038 [va_rf (zs_R S 6003 b1)] S (zs_kI (fun v22 S21 => (((v22 = 0 → (Q (.returned (some (.int (0 : Int32)))) S21)) ∧ (¬ (v22 = 0) → (zs_K S21 b1 = some (.inl 6) ∧ zs_C X d 4038 [va_rf (zs_R S21 6002 b1)] S21 (zs_kI (fun v26 S25 => (((v26 = 0 → (Q (.returned (some (.int (0 : Int32)))) S25)) ∧ (¬ (v26 = 0) → (Q (.returned (some (.int (1 : Int32)))) S25))))) Q)))))) Q))) ∧ ((zs_I S 6000 b1).toInt = 8 → (zs_C X d 4042 [va_rf (zs_R S 6006 b1)] S (zs_kI (fun v29 S28 => (zs_b v29 ∧ Q (.returned (some (.int v29))) S28)) Q))) ∧ ((zs_I S 6000 b1).toInt = 9 → (Q (.returned (some (.int (1 : Int32)))) S)) ∧ ((zs_I S 6000 b1).toInt = 10 → (Q (.returned (some (.int (0 : Int32)))) S)) ∧ ((zs_I S 6000 b1).toInt = 11 → (zs_U X d 4038 172 [(1, .int (1 : Int32)), (2, va_rf (zs_R S 6008 b1))] [] S Q))))) ∧ (¬ ((zs_I S 6011 b1) = (-1 : Int32)) → (((¬ (zs_I S 6011 b1) = (1 : Int32) → (Q (.returned (some (.int (0 : Int32)))) S)) ∧ (¬ (¬ (zs_I S 6011 b1) = (1 : Int32)) → (Q (.returned (some (.int (1 : Int32)))) S)))))))
theorem u_X5_isKnown {σ : Nat → Nat} {n0 : Nat} {bf : ab_B} {d : Nat} {p0 : Option Nat} {S : zs_T} {Q : zs_Q} (hB : zt_B bf) (hd : 1 ≤ d) (h : w_X5_isKnown (zx σ n0 bf) (d - 1) p0 S Q) : zs_C (zx σ n0 bf) d 4038 [va_rf p0] S Q := by
  have hL : lv_args 0 [va_rf p0] = [(0, va_rf p0)] := by simp [lv_args, zs_cat, zs_cI, zs_cJ, zs_cA]
  refine zs_C.of1 (hB.2 4038 (by decide) (by decide)) hd (by rw [hL]; exact zs_sub_self _ (by exact ⟨rfl, trivial⟩)) ?_
  rw [hL]
  clear hL
  unfold w_X5_isKnown at h
  refine zu_aload_n d_4038_0 rfl (zs_rr _) ?_
  obtain ⟨b1, e2, h⟩ := h
  refine zs_stk0 (zs_rfe e2) ?_
  obtain ⟨k3, h⟩ := h
  refine zg_4_370 rfl d_4038_1 k3 ?_
  refine zu_iconst d_4038_4 zi_m1 ?_
  refine zu_cmpeq (t := 22) d_4038_5 rfl (fun c4 => ?_) (fun c4 => ?_)
  · have h := h.1 c4
    refine zu_aload_n d_4038_22 rfl (zs_rr _) ?_
    refine zs_stk0 (zs_rfe e2) ?_
    refine zg_4_369 rfl d_4038_23 k3 ?_
    refine zu_tsw (td := 193) d_4038_26 (by decide) rfl (fun c5 => ?_) ⟨fun c5 => ⟨by decide, ?_⟩, fun c5 => ⟨by decide, ?_⟩, fun c5 => ⟨by decide, ?_⟩, fun c5 => ⟨by decide, ?_⟩, fun c5 => ⟨by decide, ?_⟩, fun c5 => ⟨by decide, ?_⟩, fun c5 => ⟨by decide, ?_⟩, fun c5 => ⟨by decide, ?_⟩, trivial⟩
    · have h := h.1 c5
      refine zu_iconst d_4038_193 zi_1 ?_
      exact zu_iret d_4038_194 zr_4038 (zs_b_n (Or.inr rfl)) h
    · have h := h.2.1 c5
      show zs_U _ _ _ 72 _ _ _ _
      refine zu_aload_n d_4038_72 rfl (zs_rr _) ?_
      refine zs_stk0 (zs_rfe e2) ?_
      refine zg_4_446 rfl d_4038_73 k3 ?_
      refine zc_4_459 (x0 := (zs_R S 6004 b1)) hB rfl d_4038_76 (Nat.le_of_ble_eq_true rfl) h (fun v7 S6 h => ?_)
      refine zu_ifeq (t := 96) d_4038_79 rfl (fun c8 => ?_) (fun c8 => ?_)
      · have h := h.1 c8
        refine zu_iconst d_4038_96 zi_0 ?_
        exact zu_iret d_4038_97 zr_4038 (zs_b_n (Or.inl rfl)) h
      · have h := h.2 c8
        refine zu_aload_n d_4038_82 rfl (zs_rr _) ?_
        refine zs_stk0 (zs_rfe e2) ?_
        obtain ⟨k9, h⟩ := h
        refine zg_4_453 rfl d_4038_83 k9 ?_
        refine zc_4_459 (x0 := (zs_R S6 6005 b1)) hB rfl d_4038_86 (Nat.le_of_ble_eq_true rfl) h (fun v11 S10 h => ?_)
        refine zu_ifeq (t := 96) d_4038_89 rfl (fun c12 => ?_) (fun c12 => ?_)
        · have h := h.1 c12
          refine zu_iconst d_4038_96 zi_0 ?_
          exact zu_iret d_4038_97 zr_4038 (zs_b_n (Or.inl rfl)) h
        · have h := h.2 c12
          refine zu_iconst d_4038_92 zi_1 ?_
          refine zu_goto (t := 97) d_4038_93 rfl ?_
          exact zu_iret d_4038_97 zr_4038 (zs_b_n (Or.inr rfl)) h
    · have h := h.2.2.1 c5
      show zs_U _ _ _ 98 _ _ _ _
      refine zu_aload_n d_4038_98 rfl (zs_rr _) ?_
      refine zs_stk0 (zs_rfe e2) ?_
      refine zg_4_320 rfl d_4038_99 k3 ?_
      refine zc_4_377 (x0 := (zs_R S 6002 b1)) hB rfl d_4038_102 (Nat.le_of_ble_eq_true rfl) h (fun v14 S13 h => ?_)
      obtain ⟨k15, h⟩ := h
      exact zu_iret d_4038_105 zr_4038 (zs_b_n k15) h
    · have h := h.2.2.2.1 c5
      show zs_U _ _ _ 106 _ _ _ _
      refine zu_aload_n d_4038_106 rfl (zs_rr _) ?_
      refine zs_stk0 (zs_rfe e2) ?_
      refine zg_4_446 rfl d_4038_107 k3 ?_
      refine zu_ifnull (u := (zs_R S 6004 b1)) (t := 127) d_4038_110 rfl rfl (fun e17 => ?_) (fun b16 e17 => ?_)
      · have h := h.1 e17
        refine zu_iconst d_4038_127 zi_0 ?_
        exact zu_iret d_4038_128 zr_4038 (zs_b_n (Or.inl rfl)) h
      · have h := h.2 b16 e17
        refine zu_aload_n d_4038_113 rfl (zs_rr _) ?_
        refine zs_stk0 (zs_rfe e2) ?_
        refine zg_4_446 rfl d_4038_114 k3 ?_
        refine zc_4_459 (x0 := (zs_R S 6004 b1)) hB rfl d_4038_117 (Nat.le_of_ble_eq_true rfl) h (fun v19 S18 h => ?_)
        refine zu_ifeq (t := 127) d_4038_120 rfl (fun c20 => ?_) (fun c20 => ?_)
        · have h := h.1 c20
          refine zu_iconst d_4038_127 zi_0 ?_
          exact zu_iret d_4038_128 zr_4038 (zs_b_n (Or.inl rfl)) h
        · have h := h.2 c20
          refine zu_iconst d_4038_123 zi_1 ?_
          refine zu_goto (t := 128) d_4038_124 rfl ?_
          exact zu_iret d_4038_128 zr_4038 (zs_b_n (Or.inr rfl)) h
    · have h := h.2.2.2.2.1 c5
      show zs_U _ _ _ 129 _ _ _ _
      refine zu_aload_n d_4038_129 rfl (zs_rr _) ?_
      refine zs_stk0 (zs_rfe e2) ?_
      refine zg_4_399 rfl d_4038_130 k3 ?_
      refine zc_4_377 (x0 := (zs_R S 6003 b1)) hB rfl d_4038_133 (Nat.le_of_ble_eq_true rfl) h (fun v22 S21 h => ?_)
      refine zu_ifeq (t := 153) d_4038_136 rfl (fun c23 => ?_) (fun c23 => ?_)
      · have h := h.1 c23
        refine zu_iconst d_4038_153 zi_0 ?_
        exact zu_iret d_4038_154 zr_4038 (zs_b_n (Or.inl rfl)) h
      · have h := h.2 c23
        refine zu_aload_n d_4038_139 rfl (zs_rr _) ?_
        refine zs_stk0 (zs_rfe e2) ?_
        obtain ⟨k24, h⟩ := h
        refine zg_4_320 rfl d_4038_140 k24 ?_
        refine zc_4_377 (x0 := (zs_R S21 6002 b1)) hB rfl d_4038_143 (Nat.le_of_ble_eq_true rfl) h (fun v26 S25 h => ?_)
        refine zu_ifeq (t := 153) d_4038_146 rfl (fun c27 => ?_) (fun c27 => ?_)
        · have h := h.1 c27
          refine zu_iconst d_4038_153 zi_0 ?_
          exact zu_iret d_4038_154 zr_4038 (zs_b_n (Or.inl rfl)) h
        · have h := h.2 c27
          refine zu_iconst d_4038_149 zi_1 ?_
          refine zu_goto (t := 154) d_4038_150 rfl ?_
          exact zu_iret d_4038_154 zr_4038 (zs_b_n (Or.inr rfl)) h
    · have h := h.2.2.2.2.2.1 c5
      show zs_U _ _ _ 155 _ _ _ _
      refine zu_aload_n d_4038_155 rfl (zs_rr _) ?_
      refine zs_stk0 (zs_rfe e2) ?_
      refine zg_4_75 rfl d_4038_156 k3 ?_
      refine zc_4_529 (x0 := (zs_R S 6006 b1)) hB rfl d_4038_159 (Nat.le_of_ble_eq_true rfl) h (fun v29 S28 h => ?_)
      obtain ⟨k30, h⟩ := h
      exact zu_iret d_4038_162 zr_4038 (zs_b_n k30) h
    · have h := h.2.2.2.2.2.2.1 c5
      show zs_U _ _ _ 193 _ _ _ _
      refine zu_iconst d_4038_193 zi_1 ?_
      exact zu_iret d_4038_194 zr_4038 (zs_b_n (Or.inr rfl)) h
    · have h := h.2.2.2.2.2.2.2.1 c5
      show zs_U _ _ _ 163 _ _ _ _
      refine zu_iconst d_4038_163 zi_0 ?_
      exact zu_iret d_4038_164 zr_4038 (zs_b_n (Or.inl rfl)) h
    · have h := h.2.2.2.2.2.2.2.2 c5
      show zs_U _ _ _ 165 _ _ _ _
      refine zu_iconst d_4038_165 zi_1 ?_
      refine zu_istore_n d_4038_166 (zs_lt zq_4038 rfl) ?_
      refine zs_U.weak (L1 := [(1, .int (1 : Int32)), (0, va_rf p0)]) ?_ ⟨rfl, zs_gp1 rfl (Or.inl (zs_cat _)) rfl, trivial⟩
      refine zu_aload_n d_4038_167 rfl (zs_rr _) ?_
      refine zs_stk0 (zs_rfe e2) ?_
      refine zg_4_484 rfl d_4038_168 k3 ?_
      refine zu_astore_n d_4038_171 (zs_rr _) (zs_lt zq_4038 rfl) ?_
      exact h.weak ⟨rfl, rfl, trivial⟩
  · have h := h.2 c4
    refine zu_aload_n d_4038_8 rfl (zs_rr _) ?_
    refine zs_stk0 (zs_rfe e2) ?_
    refine zg_4_370 rfl d_4038_9 k3 ?_
    refine zu_iconst d_4038_12 zi_1 ?_
    refine zu_cmpne (t := 20) d_4038_13 rfl (fun c31 => ?_) (fun c31 => ?_)
    · have h := h.1 c31
      refine zu_iconst d_4038_20 zi_0 ?_
      exact zu_iret d_4038_21 zr_4038 (zs_b_n (Or.inl rfl)) h
    · have h := h.2 c31
      refine zu_iconst d_4038_16 zi_1 ?_
      refine zu_goto (t := 21) d_4038_17 rfl ?_
      exact zu_iret d_4038_21 zr_4038 (zs_b_n (Or.inr rfl)) h
/-! SchemaPascal$Reader.isKnown(LSchemaPascal$Node;)Z -/
theorem zm_4039 {σ : Nat → Nat} {n0 : Nat} {bf : ab_B} : ab_code (zx σ n0 bf).1 4039 = prog_9_method_42_code := rfl
theorem zq_4039 {σ : Nat → Nat} {n0 : Nat} {bf : ab_B} : ab_maxL (zx σ n0 bf).1 4039 = 1 := rfl
theorem zr_4039 {σ : Nat → Nat} {n0 : Nat} {bf : ab_B} : ab_ret (zx σ n0 bf).1 4039 = (Option.some Jvm.ClassFile.FieldType.boolean) := rfl
theorem d_4039_0 {σ : Nat → Nat} {n0 : Nat} {bf : ab_B} : decode (ab_code (zx σ n0 bf).1 4039) 0 = .ok (.aload_n 0, 1) := zd zm_4039 (by decide +kernel)
theorem d_4039_1 {σ : Nat → Nat} {n0 : Nat} {bf : ab_B} : decode (ab_code (zx σ n0 bf).1 4039) 1 = .ok (.iconst 0, 1) := zd zm_4039 (by decide +kernel)
theorem d_4039_2 {σ : Nat → Nat} {n0 : Nat} {bf : ab_B} : decode (ab_code (zx σ n0 bf).1 4039) 2 = .ok (.invokestatic 532, 3) := zd zm_4039 (by decide +kernel)
theorem d_4039_5 {σ : Nat → Nat} {n0 : Nat} {bf : ab_B} : decode (ab_code (zx σ n0 bf).1 4039) 5 = .ok (.ireturn, 1) := zd zm_4039 (by decide +kernel)
def w_X5_isKnown_2 (X : zs_X) (d : Nat) (p0 : Option Nat) (S : zs_T) (Q : zs_Q) : Prop :=
  (zs_C X d 4040 [va_rf p0, .int (0 : Int32)] S (zs_kI (fun v2 S1 => (zs_b v2 ∧ Q (.returned (some (.int v2))) S1)) Q))
theorem u_X5_isKnown_2 {σ : Nat → Nat} {n0 : Nat} {bf : ab_B} {d : Nat} {p0 : Option Nat} {S : zs_T} {Q : zs_Q} (hB : zt_B bf) (hd : 1 ≤ d) (h : w_X5_isKnown_2 (zx σ n0 bf) (d - 1) p0 S Q) : zs_C (zx σ n0 bf) d 4039 [va_rf p0] S Q := by
  have hL : lv_args 0 [va_rf p0] = [(0, va_rf p0)] := by simp [lv_args, zs_cat, zs_cI, zs_cJ, zs_cA]
  refine zs_C.of1 (hB.2 4039 (by decide) (by decide)) hd (by rw [hL]; exact zs_sub_self _ (by exact ⟨rfl, trivial⟩)) ?_
  rw [hL]
  clear hL
  unfold w_X5_isKnown_2 at h
  refine zu_aload_n d_4039_0 rfl (zs_rr _) ?_
  refine zu_iconst d_4039_1 zi_0 ?_
  refine zc_4_532 (x0 := p0) (x1 := (0 : Int32)) hB rfl d_4039_2 (Nat.le_of_ble_eq_true rfl) h (fun v2 S1 h => ?_)
  obtain ⟨k3, h⟩ := h
  exact zu_iret d_4039_5 zr_4039 (zs_b_n k3) h
/-! SchemaPascal$Reader.isOf(LSchemaPascal$Node;Z)Z -/
theorem zm_4040 {σ : Nat → Nat} {n0 : Nat} {bf : ab_B} : ab_code (zx σ n0 bf).1 4040 = prog_9_method_45_code := rfl
theorem zq_4040 {σ : Nat → Nat} {n0 : Nat} {bf : ab_B} : ab_maxL (zx σ n0 bf).1 4040 = 3 := rfl
theorem zr_4040 {σ : Nat → Nat} {n0 : Nat} {bf : ab_B} : ab_ret (zx σ n0 bf).1 4040 = (Option.some Jvm.ClassFile.FieldType.boolean) := rfl
theorem d_4040_0 {σ : Nat → Nat} {n0 : Nat} {bf : ab_B} : decode (ab_code (zx σ n0 bf).1 4040) 0 = .ok (.aload_n 0, 1) := zd zm_4040 (by decide +kernel)
theorem d_4040_1 {σ : Nat → Nat} {n0 : Nat} {bf : ab_B} : decode (ab_code (zx σ n0 bf).1 4040) 1 = .ok (.astore_n 2, 1) := zd zm_4040 (by decide +kernel)
theorem d_4040_2 {σ : Nat → Nat} {n0 : Nat} {bf : ab_B} : decode (ab_code (zx σ n0 bf).1 4040) 2 = .ok (.aload_n 2, 1) := zd zm_4040 (by decide +kernel)
theorem d_4040_3 {σ : Nat → Nat} {n0 : Nat} {bf : ab_B} : decode (ab_code (zx σ n0 bf).1 4040) 3 = .ok (.getfield 512, 3) := zd zm_4040 (by decide +kernel)
theorem d_4040_6 {σ : Nat → Nat} {n0 : Nat} {bf : ab_B} : decode (ab_code (zx σ n0 bf).1 4040) 6 = .ok (.bipush 8, 2) := zd zm_4040 (by decide +kernel)
theorem d_4040_8 {σ : Nat → Nat} {n0 : Nat} {bf : ab_B} : decode (ab_code (zx σ n0 bf).1 4040) 8 = .ok (.if_icmp .ne 36, 3) := zd zm_4040 (by decide +kernel)
theorem d_4040_11 {σ : Nat → Nat} {n0 : Nat} {bf : ab_B} : decode (ab_code (zx σ n0 bf).1 4040) 11 = .ok (.aload_n 2, 1) := zd zm_4040 (by decide +kernel)
theorem d_4040_12 {σ : Nat → Nat} {n0 : Nat} {bf : ab_B} : decode (ab_code (zx σ n0 bf).1 4040) 12 = .ok (.getfield 297, 3) := zd zm_4040 (by decide +kernel)
theorem d_4040_15 {σ : Nat → Nat} {n0 : Nat} {bf : ab_B} : decode (ab_code (zx σ n0 bf).1 4040) 15 = .ok (.getfield 369, 3) := zd zm_4040 (by decide +kernel)
theorem d_4040_18 {σ : Nat → Nat} {n0 : Nat} {bf : ab_B} : decode (ab_code (zx σ n0 bf).1 4040) 18 = .ok (.bipush 6, 2) := zd zm_4040 (by decide +kernel)
theorem d_4040_20 {σ : Nat → Nat} {n0 : Nat} {bf : ab_B} : decode (ab_code (zx σ n0 bf).1 4040) 20 = .ok (.if_icmp .eq 14, 3) := zd zm_4040 (by decide +kernel)
theorem d_4040_23 {σ : Nat → Nat} {n0 : Nat} {bf : ab_B} : decode (ab_code (zx σ n0 bf).1 4040) 23 = .ok (.aload_n 2, 1) := zd zm_4040 (by decide +kernel)
theorem d_4040_24 {σ : Nat → Nat} {n0 : Nat} {bf : ab_B} : decode (ab_code (zx σ n0 bf).1 4040) 24 = .ok (.getfield 536, 3) := zd zm_4040 (by decide +kernel)
theorem d_4040_27 {σ : Nat → Nat} {n0 : Nat} {bf : ab_B} : decode (ab_code (zx σ n0 bf).1 4040) 27 = .ok (.iload_n 1, 1) := zd zm_4040 (by decide +kernel)
theorem d_4040_28 {σ : Nat → Nat} {n0 : Nat} {bf : ab_B} : decode (ab_code (zx σ n0 bf).1 4040) 28 = .ok (.invokestatic 532, 3) := zd zm_4040 (by decide +kernel)
theorem d_4040_31 {σ : Nat → Nat} {n0 : Nat} {bf : ab_B} : decode (ab_code (zx σ n0 bf).1 4040) 31 = .ok (.ifCond .ne 5, 3) := zd zm_4040 (by decide +kernel)
theorem d_4040_34 {σ : Nat → Nat} {n0 : Nat} {bf : ab_B} : decode (ab_code (zx σ n0 bf).1 4040) 34 = .ok (.iconst 0, 1) := zd zm_4040 (by decide +kernel)
theorem d_4040_35 {σ : Nat → Nat} {n0 : Nat} {bf : ab_B} : decode (ab_code (zx σ n0 bf).1 4040) 35 = .ok (.ireturn, 1) := zd zm_4040 (by decide +kernel)
theorem d_4040_36 {σ : Nat → Nat} {n0 : Nat} {bf : ab_B} : decode (ab_code (zx σ n0 bf).1 4040) 36 = .ok (.aload_n 2, 1) := zd zm_4040 (by decide +kernel)
theorem d_4040_37 {σ : Nat → Nat} {n0 : Nat} {bf : ab_B} : decode (ab_code (zx σ n0 bf).1 4040) 37 = .ok (.getfield 539, 3) := zd zm_4040 (by decide +kernel)
theorem d_4040_40 {σ : Nat → Nat} {n0 : Nat} {bf : ab_B} : decode (ab_code (zx σ n0 bf).1 4040) 40 = .ok (.astore_n 2, 1) := zd zm_4040 (by decide +kernel)
theorem d_4040_41 {σ : Nat → Nat} {n0 : Nat} {bf : ab_B} : decode (ab_code (zx σ n0 bf).1 4040) 41 = .ok (.goto (-39), 3) := zd zm_4040 (by decide +kernel)
theorem d_4040_44 {σ : Nat → Nat} {n0 : Nat} {bf : ab_B} : decode (ab_code (zx σ n0 bf).1 4040) 44 = .ok (.aload_n 2, 1) := zd zm_4040 (by decide +kernel)
theorem d_4040_45 {σ : Nat → Nat} {n0 : Nat} {bf : ab_B} : decode (ab_code (zx σ n0 bf).1 4040) 45 = .ok (.getfield 512, 3) := zd zm_4040 (by decide +kernel)
theorem d_4040_48 {σ : Nat → Nat} {n0 : Nat} {bf : ab_B} : decode (ab_code (zx σ n0 bf).1 4040) 48 = .ok (.ifCond .eq 16, 3) := zd zm_4040 (by decide +kernel)
theorem d_4040_51 {σ : Nat → Nat} {n0 : Nat} {bf : ab_B} : decode (ab_code (zx σ n0 bf).1 4040) 51 = .ok (.iload_n 1, 1) := zd zm_4040 (by decide +kernel)
theorem d_4040_52 {σ : Nat → Nat} {n0 : Nat} {bf : ab_B} : decode (ab_code (zx σ n0 bf).1 4040) 52 = .ok (.ifCond .eq 14, 3) := zd zm_4040 (by decide +kernel)
theorem d_4040_55 {σ : Nat → Nat} {n0 : Nat} {bf : ab_B} : decode (ab_code (zx σ n0 bf).1 4040) 55 = .ok (.aload_n 2, 1) := zd zm_4040 (by decide +kernel)
theorem d_4040_56 {σ : Nat → Nat} {n0 : Nat} {bf : ab_B} : decode (ab_code (zx σ n0 bf).1 4040) 56 = .ok (.getfield 512, 3) := zd zm_4040 (by decide +kernel)
theorem d_4040_59 {σ : Nat → Nat} {n0 : Nat} {bf : ab_B} : decode (ab_code (zx σ n0 bf).1 4040) 59 = .ok (.bipush 10, 2) := zd zm_4040 (by decide +kernel)
theorem d_4040_61 {σ : Nat → Nat} {n0 : Nat} {bf : ab_B} : decode (ab_code (zx σ n0 bf).1 4040) 61 = .ok (.if_icmp .ne 5, 3) := zd zm_4040 (by decide +kernel)
theorem d_4040_64 {σ : Nat → Nat} {n0 : Nat} {bf : ab_B} : decode (ab_code (zx σ n0 bf).1 4040) 64 = .ok (.iconst 1, 1) := zd zm_4040 (by decide +kernel)
theorem d_4040_65 {σ : Nat → Nat} {n0 : Nat} {bf : ab_B} : decode (ab_code (zx σ n0 bf).1 4040) 65 = .ok (.ireturn, 1) := zd zm_4040 (by decide +kernel)
theorem d_4040_66 {σ : Nat → Nat} {n0 : Nat} {bf : ab_B} : decode (ab_code (zx σ n0 bf).1 4040) 66 = .ok (.aload_n 2, 1) := zd zm_4040 (by decide +kernel)
theorem d_4040_67 {σ : Nat → Nat} {n0 : Nat} {bf : ab_B} : decode (ab_code (zx σ n0 bf).1 4040) 67 = .ok (.getfield 512, 3) := zd zm_4040 (by decide +kernel)
theorem d_4040_70 {σ : Nat → Nat} {n0 : Nat} {bf : ab_B} : decode (ab_code (zx σ n0 bf).1 4040) 70 = .ok (.bipush 7, 2) := zd zm_4040 (by decide +kernel)
theorem d_4040_72 {σ : Nat → Nat} {n0 : Nat} {bf : ab_B} : decode (ab_code (zx σ n0 bf).1 4040) 72 = .ok (.if_icmp .eq 22, 3) := zd zm_4040 (by decide +kernel)
theorem d_4040_75 {σ : Nat → Nat} {n0 : Nat} {bf : ab_B} : decode (ab_code (zx σ n0 bf).1 4040) 75 = .ok (.aload_n 2, 1) := zd zm_4040 (by decide +kernel)
theorem d_4040_76 {σ : Nat → Nat} {n0 : Nat} {bf : ab_B} : decode (ab_code (zx σ n0 bf).1 4040) 76 = .ok (.getfield 512, 3) := zd zm_4040 (by decide +kernel)
theorem d_4040_79 {σ : Nat → Nat} {n0 : Nat} {bf : ab_B} : decode (ab_code (zx σ n0 bf).1 4040) 79 = .ok (.bipush 13, 2) := zd zm_4040 (by decide +kernel)
theorem d_4040_81 {σ : Nat → Nat} {n0 : Nat} {bf : ab_B} : decode (ab_code (zx σ n0 bf).1 4040) 81 = .ok (.if_icmp .ne 28, 3) := zd zm_4040 (by decide +kernel)
theorem d_4040_84 {σ : Nat → Nat} {n0 : Nat} {bf : ab_B} : decode (ab_code (zx σ n0 bf).1 4040) 84 = .ok (.aload_n 2, 1) := zd zm_4040 (by decide +kernel)
theorem d_4040_85 {σ : Nat → Nat} {n0 : Nat} {bf : ab_B} : decode (ab_code (zx σ n0 bf).1 4040) 85 = .ok (.getfield 542, 3) := zd zm_4040 (by decide +kernel)
theorem d_4040_88 {σ : Nat → Nat} {n0 : Nat} {bf : ab_B} : decode (ab_code (zx σ n0 bf).1 4040) 88 = .ok (.invokestatic 545, 3) := zd zm_4040 (by decide +kernel)
theorem d_4040_91 {σ : Nat → Nat} {n0 : Nat} {bf : ab_B} : decode (ab_code (zx σ n0 bf).1 4040) 91 = .ok (.ifCond .eq 18, 3) := zd zm_4040 (by decide +kernel)
theorem d_4040_94 {σ : Nat → Nat} {n0 : Nat} {bf : ab_B} : decode (ab_code (zx σ n0 bf).1 4040) 94 = .ok (.aload_n 2, 1) := zd zm_4040 (by decide +kernel)
theorem d_4040_95 {σ : Nat → Nat} {n0 : Nat} {bf : ab_B} : decode (ab_code (zx σ n0 bf).1 4040) 95 = .ok (.getfield 539, 3) := zd zm_4040 (by decide +kernel)
theorem d_4040_98 {σ : Nat → Nat} {n0 : Nat} {bf : ab_B} : decode (ab_code (zx σ n0 bf).1 4040) 98 = .ok (.iload_n 1, 1) := zd zm_4040 (by decide +kernel)
theorem d_4040_99 {σ : Nat → Nat} {n0 : Nat} {bf : ab_B} : decode (ab_code (zx σ n0 bf).1 4040) 99 = .ok (.invokestatic 532, 3) := zd zm_4040 (by decide +kernel)
theorem d_4040_102 {σ : Nat → Nat} {n0 : Nat} {bf : ab_B} : decode (ab_code (zx σ n0 bf).1 4040) 102 = .ok (.ifCond .eq 7, 3) := zd zm_4040 (by decide +kernel)
theorem d_4040_105 {σ : Nat → Nat} {n0 : Nat} {bf : ab_B} : decode (ab_code (zx σ n0 bf).1 4040) 105 = .ok (.iconst 1, 1) := zd zm_4040 (by decide +kernel)
theorem d_4040_106 {σ : Nat → Nat} {n0 : Nat} {bf : ab_B} : decode (ab_code (zx σ n0 bf).1 4040) 106 = .ok (.goto 4, 3) := zd zm_4040 (by decide +kernel)
theorem d_4040_109 {σ : Nat → Nat} {n0 : Nat} {bf : ab_B} : decode (ab_code (zx σ n0 bf).1 4040) 109 = .ok (.iconst 0, 1) := zd zm_4040 (by decide +kernel)
theorem d_4040_110 {σ : Nat → Nat} {n0 : Nat} {bf : ab_B} : decode (ab_code (zx σ n0 bf).1 4040) 110 = .ok (.ireturn, 1) := zd zm_4040 (by decide +kernel)
def w_X5_isOf_94 (X : zs_X) (d : Nat) (p1 : Int32) (p2 : Option Nat) (S : zs_T) (Q : zs_Q) : Prop :=
  (∃ b1, p2 = some b1 ∧ zs_K S b1 = some (.inl 11) ∧ zs_C X d 4040 [va_rf (zs_R S 11005 b1), .int p1] S (zs_kI (fun v5 S4 => (((v5 = 0 → (Q (.returned (some (.int (0 : Int32)))) S4)) ∧ (¬ (v5 = 0) → (Q (.returned (some (.int (1 : Int32)))) S4))))) Q))
theorem u_X5_isOf_94 {σ : Nat → Nat} {n0 : Nat} {bf : ab_B} {d : Nat} {p1 : Int32} {p2 : Option Nat} {S : zs_T} {Q : zs_Q} (hB : zt_B bf) (h : w_X5_isOf_94 (zx σ n0 bf) d p1 p2 S Q) : zs_U (zx σ n0 bf) d 4040 94 [(1, .int p1), (2, va_rf p2)] [] S Q := by
  unfold w_X5_isOf_94 at h
  refine zu_aload_n d_4040_94 rfl (zs_rr _) ?_
  obtain ⟨b1, e2, h⟩ := h
  refine zs_stk0 (zs_rfe e2) ?_
  obtain ⟨k3, h⟩ := h
  refine zg_4_539 rfl d_4040_95 k3 ?_
  refine zu_iload_n d_4040_98 rfl ?_
  refine zc_4_532 (x0 := (zs_R S 11005 b1)) (x1 := p1) hB rfl d_4040_99 (Nat.le_of_ble_eq_true rfl) h (fun v5 S4 h => ?_)
  refine zu_ifeq (t := 109) d_4040_102 rfl (fun c6 => ?_) (fun c6 => ?_)
  · have h := h.1 c6
    refine zu_iconst d_4040_109 zi_0 ?_
    exact zu_iret d_4040_110 zr_4040 (zs_b_n (Or.inl rfl)) h
  · have h := h.2 c6
    refine zu_iconst d_4040_105 zi_1 ?_
    refine zu_goto (t := 110) d_4040_106 rfl ?_
    exact zu_iret d_4040_110 zr_4040 (zs_b_n (Or.inr rfl)) h
def w_X5_isOf_66 (X : zs_X) (d : Nat) (p1 : Int32) (p2 : Option Nat) (S : zs_T) (Q : zs_Q) : Prop :=
  (∃ b1, p2 = some b1 ∧ zs_K S b1 = some (.inl 11) ∧ (((zs_I S 11000 b1) = (7 : Int32) → w_X5_isOf_94 X d p1 p2 S Q) ∧ (¬ ((zs_I S 11000 b1) = (7 : Int32)) → (((¬ (zs_I S 11000 b1) = (13 : Int32) → (Q (.returned (some (.int (0 : Int32)))) S)) ∧ (¬ (¬ (zs_I S 11000 b1) = (13 : Int32)) → (zs_C X d 4041 [.int (zs_I S 11003 b1)] S (zs_kI (fun v7 S6 => (((v7 = 0 → (Q (.returned (some (.int (0 : Int32)))) S6)) ∧ (¬ (v7 = 0) → w_X5_isOf_94 X d p1 p2 S6 Q)))) Q))))))))
theorem u_X5_isOf_66 {σ : Nat → Nat} {n0 : Nat} {bf : ab_B} {d : Nat} {p1 : Int32} {p2 : Option Nat} {S : zs_T} {Q : zs_Q} (hB : zt_B bf) (h : w_X5_isOf_66 (zx σ n0 bf) d p1 p2 S Q) : zs_U (zx σ n0 bf) d 4040 66 [(1, .int p1), (2, va_rf p2)] [] S Q := by
  unfold w_X5_isOf_66 at h
  refine zu_aload_n d_4040_66 rfl (zs_rr _) ?_
  obtain ⟨b1, e2, h⟩ := h
  refine zs_stk0 (zs_rfe e2) ?_
  obtain ⟨k3, h⟩ := h
  refine zg_4_512 rfl d_4040_67 k3 ?_
  refine zu_bipush d_4040_70 zj_7 ?_
  refine zu_cmpeq (t := 94) d_4040_72 rfl (fun c4 => ?_) (fun c4 => ?_)
  · have h := h.1 c4
    exact (u_X5_isOf_94 hB h).weak ⟨rfl, rfl, trivial⟩
  · have h := h.2 c4
    refine zu_aload_n d_4040_75 rfl (zs_rr _) ?_
    refine zs_stk0 (zs_rfe e2) ?_
    refine zg_4_512 rfl d_4040_76 k3 ?_
    refine zu_bipush d_4040_79 zj_13 ?_
    refine zu_cmpne (t := 109) d_4040_81 rfl (fun c5 => ?_) (fun c5 => ?_)
    · have h := h.1 c5
      refine zu_iconst d_4040_109 zi_0 ?_
      exact zu_iret d_4040_110 zr_4040 (zs_b_n (Or.inl rfl)) h
    · have h := h.2 c5
      refine zu_aload_n d_4040_84 rfl (zs_rr _) ?_
      refine zs_stk0 (zs_rfe e2) ?_
      refine zg_4_542 rfl d_4040_85 k3 ?_
      refine zc_4_545 (x0 := (zs_I S 11003 b1)) hB rfl d_4040_88 (Nat.le_of_ble_eq_true rfl) h (fun v7 S6 h => ?_)
      refine zu_ifeq (t := 109) d_4040_91 rfl (fun c8 => ?_) (fun c8 => ?_)
      · have h := h.1 c8
        refine zu_iconst d_4040_109 zi_0 ?_
        exact zu_iret d_4040_110 zr_4040 (zs_b_n (Or.inl rfl)) h
      · have h := h.2 c8
        exact (u_X5_isOf_94 hB h).weak ⟨rfl, rfl, trivial⟩
def w_X5_isOf_41 (X : zs_X) (d : Nat) (p1 : Int32) (p2 : Option Nat) (S : zs_T) (Q : zs_Q) : Prop :=
  (zs_U X d 4040 2 [(1, .int p1), (2, va_rf p2)] [] S Q)
theorem u_X5_isOf_41 {σ : Nat → Nat} {n0 : Nat} {bf : ab_B} {d : Nat} {p1 : Int32} {p2 : Option Nat} {S : zs_T} {Q : zs_Q} (hB : zt_B bf) (h : w_X5_isOf_41 (zx σ n0 bf) d p1 p2 S Q) : zs_U (zx σ n0 bf) d 4040 41 [(1, .int p1), (2, va_rf p2)] [] S Q := by
  unfold w_X5_isOf_41 at h
  refine zu_goto (t := 2) d_4040_41 rfl ?_
  exact h.weak ⟨rfl, rfl, trivial⟩
def w_X5_isOf_2 (X : zs_X) (d : Nat) (p1 : Int32) (p2 : Option Nat) (S : zs_T) (Q : zs_Q) : Prop :=
  (∃ b1, p2 = some b1 ∧ zs_K S b1 = some (.inl 11) ∧ ((¬ (zs_I S 11000 b1) = (8 : Int32) → ((((zs_I S 11000 b1) = 0 → (Q (.returned (some (.int (1 : Int32)))) S)) ∧ (¬ ((zs_I S 11000 b1) = 0) → (((p1 = 0 → w_X5_isOf_66 X d p1 p2 S Q) ∧ (¬ (p1 = 0) → (((¬ (zs_I S 11000 b1) = (10 : Int32) → w_X5_isOf_66 X d p1 p2 S Q) ∧ (¬ (¬ (zs_I S 11000 b1) = (10 : Int32)) → (Q (.returned (some (.int (1 : Int32)))) S))))))))))) ∧ (¬ (¬ (zs_I S 11000 b1) = (8 : Int32)) → (∃ b8, (zs_R S 11002 b1) = some b8 ∧ zs_K S b8 = some (.inl 6) ∧ (((zs_I S 6000 b8) = (6 : Int32) → (Q (.returned (some (.int (0 : Int32)))) S)) ∧ (¬ ((zs_I S 6000 b8) = (6 : Int32)) → (zs_C X d 4040 [va_rf (zs_R S 11006 b1), .int p1] S (zs_kI (fun v13 S12 => (((¬ v13 = 0 → (zs_K S12 b1 = some (.inl 11) ∧ w_X5_isOf_41 X d p1 (zs_R S12 11005 b1) S12 Q)) ∧ (¬ (¬ v13 = 0) → (Q (.returned (some (.int (0 : Int32)))) S12))))) Q))))))))
theorem u_X5_isOf_2 {σ : Nat → Nat} {n0 : Nat} {bf : ab_B} {d : Nat} {p1 : Int32} {p2 : Option Nat} {S : zs_T} {Q : zs_Q} (hB : zt_B bf) (h : w_X5_isOf_2 (zx σ n0 bf) d p1 p2 S Q) : zs_U (zx σ n0 bf) d 4040 2 [(1, .int p1), (2, va_rf p2)] [] S Q := by
  unfold w_X5_isOf_2 at h
  refine zu_aload_n d_4040_2 rfl (zs_rr _) ?_
  obtain ⟨b1, e2, h⟩ := h
  refine zs_stk0 (zs_rfe e2) ?_
  obtain ⟨k3, h⟩ := h
  refine zg_4_512 rfl d_4040_3 k3 ?_
  refine zu_bipush d_4040_6 zj_8 ?_
  refine zu_cmpne (t := 44) d_4040_8 rfl (fun c4 => ?_) (fun c4 => ?_)
  · have h := h.1 c4
    refine zu_aload_n d_4040_44 rfl (zs_rr _) ?_
    refine zs_stk0 (zs_rfe e2) ?_
    refine zg_4_512 rfl d_4040_45 k3 ?_
    refine zu_ifeq (t := 64) d_4040_48 rfl (fun c5 => ?_) (fun c5 => ?_)
    · have h := h.1 c5
      refine zu_iconst d_4040_64 zi_1 ?_
      exact zu_iret d_4040_65 zr_4040 (zs_b_n (Or.inr rfl)) h
    · have h := h.2 c5
      refine zu_iload_n d_4040_51 rfl ?_
      refine zu_ifeq (t := 66) d_4040_52 rfl (fun c6 => ?_) (fun c6 => ?_)
      · have h := h.1 c6
        exact (u_X5_isOf_66 hB h).weak ⟨rfl, rfl, trivial⟩
      · have h := h.2 c6
        refine zu_aload_n d_4040_55 rfl (zs_rr _) ?_
        refine zs_stk0 (zs_rfe e2) ?_
        refine zg_4_512 rfl d_4040_56 k3 ?_
        refine zu_bipush d_4040_59 zj_10 ?_
        refine zu_cmpne (t := 66) d_4040_61 rfl (fun c7 => ?_) (fun c7 => ?_)
        · have h := h.1 c7
          exact (u_X5_isOf_66 hB h).weak ⟨rfl, rfl, trivial⟩
        · have h := h.2 c7
          refine zu_iconst d_4040_64 zi_1 ?_
          exact zu_iret d_4040_65 zr_4040 (zs_b_n (Or.inr rfl)) h
  · have h := h.2 c4
    refine zu_aload_n d_4040_11 rfl (zs_rr _) ?_
    refine zs_stk0 (zs_rfe e2) ?_
    refine zg_4_297 rfl d_4040_12 k3 ?_
    obtain ⟨b8, e9, h⟩ := h
    refine zs_stk0 (zs_rfe e9) ?_
    obtain ⟨k10, h⟩ := h
    refine zg_4_369 rfl d_4040_15 k10 ?_
    refine zu_bipush d_4040_18 zj_6 ?_
    refine zu_cmpeq (t := 34) d_4040_20 rfl (fun c11 => ?_) (fun c11 => ?_)
    · have h := h.1 c11
      refine zu_iconst d_4040_34 zi_0 ?_
      exact zu_iret d_4040_35 zr_4040 (zs_b_n (Or.inl rfl)) h
    · have h := h.2 c11
      refine zu_aload_n d_4040_23 rfl (zs_rr _) ?_
      refine zs_stk0 (zs_rfe e2) ?_
      refine zg_4_536 rfl d_4040_24 k3 ?_
      refine zu_iload_n d_4040_27 rfl ?_
      refine zc_4_532 (x0 := (zs_R S 11006 b1)) (x1 := p1) hB rfl d_4040_28 (Nat.le_of_ble_eq_true rfl) h (fun v13 S12 h => ?_)
      refine zu_ifne (t := 36) d_4040_31 rfl (fun c14 => ?_) (fun c14 => ?_)
      · have h := h.1 c14
        refine zu_aload_n d_4040_36 rfl (zs_rr _) ?_
        refine zs_stk0 (zs_rfe e2) ?_
        obtain ⟨k15, h⟩ := h
        refine zg_4_539 rfl d_4040_37 k15 ?_
        refine zu_astore_n d_4040_40 (zs_rr _) (zs_lt zq_4040 rfl) ?_
        exact (u_X5_isOf_41 hB h).weak ⟨rfl, rfl, trivial⟩
      · have h := h.2 c14
        refine zu_iconst d_4040_34 zi_0 ?_
        exact zu_iret d_4040_35 zr_4040 (zs_b_n (Or.inl rfl)) h
def w_X5_isOf (X : zs_X) (d : Nat) (p0 : Option Nat) (p1 : Int32) (S : zs_T) (Q : zs_Q) : Prop :=
  (zs_U X d 4040 2 [(1, .int p1), (2, va_rf p0)] [] S Q)
theorem u_X5_isOf {σ : Nat → Nat} {n0 : Nat} {bf : ab_B} {d : Nat} {p0 : Option Nat} {p1 : Int32} {S : zs_T} {Q : zs_Q} (hB : zt_B bf) (hd : 1 ≤ d) (h : w_X5_isOf (zx σ n0 bf) (d - 1) p0 p1 S Q) : zs_C (zx σ n0 bf) d 4040 [va_rf p0, .int p1] S Q := by
  have hL : lv_args 0 [va_rf p0, .int p1] = [(0, va_rf p0), (1, .int p1)] := by simp [lv_args, zs_cat, zs_cI, zs_cJ, zs_cA]
  refine zs_C.of1 (hB.2 4040 (by decide) (by decide)) hd (by rw [hL]; exact zs_sub_self _ (by exact ⟨rfl, rfl, trivial⟩)) ?_
  rw [hL]
  clear hL
  unfold w_X5_isOf at h
  refine zu_aload_n d_4040_0 rfl (zs_rr _) ?_
  refine zu_astore_n d_4040_1 (zs_rr _) (zs_lt zq_4040 rfl) ?_
  exact h.weak ⟨rfl, rfl, trivial⟩
/-! SchemaPascal$Reader.isFolded(I)Z -/
theorem zm_4041 {σ : Nat → Nat} {n0 : Nat} {bf : ab_B} : ab_code (zx σ n0 bf).1 4041 = prog_9_method_43_code := rfl
theorem zq_4041 {σ : Nat → Nat} {n0 : Nat} {bf : ab_B} : ab_maxL (zx σ n0 bf).1 4041 = 1 := rfl
theorem zr_4041 {σ : Nat → Nat} {n0 : Nat} {bf : ab_B} : ab_ret (zx σ n0 bf).1 4041 = (Option.some Jvm.ClassFile.FieldType.boolean) := rfl
theorem d_4041_0 {σ : Nat → Nat} {n0 : Nat} {bf : ab_B} : decode (ab_code (zx σ n0 bf).1 4041) 0 = .ok (.iload_n 0, 1) := zd zm_4041 (by decide +kernel)
theorem d_4041_1 {σ : Nat → Nat} {n0 : Nat} {bf : ab_B} : decode (ab_code (zx σ n0 bf).1 4041) 1 = .ok (.bipush 9, 2) := zd zm_4041 (by decide +kernel)
theorem d_4041_3 {σ : Nat → Nat} {n0 : Nat} {bf : ab_B} : decode (ab_code (zx σ n0 bf).1 4041) 3 = .ok (.if_icmp .lt 13, 3) := zd zm_4041 (by decide +kernel)
theorem d_4041_6 {σ : Nat → Nat} {n0 : Nat} {bf : ab_B} : decode (ab_code (zx σ n0 bf).1 4041) 6 = .ok (.iload_n 0, 1) := zd zm_4041 (by decide +kernel)
theorem d_4041_7 {σ : Nat → Nat} {n0 : Nat} {bf : ab_B} : decode (ab_code (zx σ n0 bf).1 4041) 7 = .ok (.bipush 12, 2) := zd zm_4041 (by decide +kernel)
theorem d_4041_9 {σ : Nat → Nat} {n0 : Nat} {bf : ab_B} : decode (ab_code (zx σ n0 bf).1 4041) 9 = .ok (.if_icmp .gt 7, 3) := zd zm_4041 (by decide +kernel)
theorem d_4041_12 {σ : Nat → Nat} {n0 : Nat} {bf : ab_B} : decode (ab_code (zx σ n0 bf).1 4041) 12 = .ok (.iconst 1, 1) := zd zm_4041 (by decide +kernel)
theorem d_4041_13 {σ : Nat → Nat} {n0 : Nat} {bf : ab_B} : decode (ab_code (zx σ n0 bf).1 4041) 13 = .ok (.goto 4, 3) := zd zm_4041 (by decide +kernel)
theorem d_4041_16 {σ : Nat → Nat} {n0 : Nat} {bf : ab_B} : decode (ab_code (zx σ n0 bf).1 4041) 16 = .ok (.iconst 0, 1) := zd zm_4041 (by decide +kernel)
theorem d_4041_17 {σ : Nat → Nat} {n0 : Nat} {bf : ab_B} : decode (ab_code (zx σ n0 bf).1 4041) 17 = .ok (.ireturn, 1) := zd zm_4041 (by decide +kernel)
def w_X5_isFolded (X : zs_X) (d : Nat) (p0 : Int32) (S : zs_T) (Q : zs_Q) : Prop :=
  (((p0 < (9 : Int32) → (Q (.returned (some (.int (0 : Int32)))) S)) ∧ (¬ (p0 < (9 : Int32)) → ((((12 : Int32) < p0 → (Q (.returned (some (.int (0 : Int32)))) S)) ∧ (¬ ((12 : Int32) < p0) → (Q (.returned (some (.int (1 : Int32)))) S)))))))
theorem u_X5_isFolded {σ : Nat → Nat} {n0 : Nat} {bf : ab_B} {d : Nat} {p0 : Int32} {S : zs_T} {Q : zs_Q} (hB : zt_B bf) (hd : 1 ≤ d) (h : w_X5_isFolded (zx σ n0 bf) (d - 1) p0 S Q) : zs_C (zx σ n0 bf) d 4041 [.int p0] S Q := by
  have hL : lv_args 0 [.int p0] = [(0, .int p0)] := rfl
  refine zs_C.of1 (hB.2 4041 (by decide) (by decide)) hd (by rw [hL]; exact zs_sub_self _ (by exact ⟨rfl, trivial⟩)) ?_
  rw [hL]
  clear hL
  unfold w_X5_isFolded at h
  refine zu_iload_n d_4041_0 rfl ?_
  refine zu_bipush d_4041_1 zj_9 ?_
  refine zu_cmplt (t := 16) d_4041_3 rfl (fun c1 => ?_) (fun c1 => ?_)
  · have h := h.1 c1
    refine zu_iconst d_4041_16 zi_0 ?_
    exact zu_iret d_4041_17 zr_4041 (zs_b_n (Or.inl rfl)) h
  · have h := h.2 c1
    refine zu_iload_n d_4041_6 rfl ?_
    refine zu_bipush d_4041_7 zj_12 ?_
    refine zu_cmpgt (t := 16) d_4041_9 rfl (fun c2 => ?_) (fun c2 => ?_)
    · have h := h.1 c2
      refine zu_iconst d_4041_16 zi_0 ?_
      exact zu_iret d_4041_17 zr_4041 (zs_b_n (Or.inl rfl)) h
    · have h := h.2 c2
      refine zu_iconst d_4041_12 zi_1 ?_
      refine zu_goto (t := 17) d_4041_13 rfl ?_
      exact zu_iret d_4041_17 zr_4041 (zs_b_n (Or.inr rfl)) h
/-! SchemaPascal$Reader.isKnown(LSchemaPascal$Fields;)Z -/
theorem zm_4042 {σ : Nat → Nat} {n0 : Nat} {bf : ab_B} : ab_code (zx σ n0 bf).1 4042 = prog_9_method_41_code := rfl
theorem zq_4042 {σ : Nat → Nat} {n0 : Nat} {bf : ab_B} : ab_maxL (zx σ n0 bf).1 4042 = 3 := rfl
theorem zr_4042 {σ : Nat → Nat} {n0 : Nat} {bf : ab_B} : ab_ret (zx σ n0 bf).1 4042 = (Option.some Jvm.ClassFile.FieldType.boolean) := rfl
theorem d_4042_0 {σ : Nat → Nat} {n0 : Nat} {bf : ab_B} : decode (ab_code (zx σ n0 bf).1 4042) 0 = .ok (.iconst 1, 1) := zd zm_4042 (by decide +kernel)
theorem d_4042_1 {σ : Nat → Nat} {n0 : Nat} {bf : ab_B} : decode (ab_code (zx σ n0 bf).1 4042) 1 = .ok (.istore_n 1, 1) := zd zm_4042 (by decide +kernel)
theorem d_4042_2 {σ : Nat → Nat} {n0 : Nat} {bf : ab_B} : decode (ab_code (zx σ n0 bf).1 4042) 2 = .ok (.iconst 0, 1) := zd zm_4042 (by decide +kernel)
theorem d_4042_3 {σ : Nat → Nat} {n0 : Nat} {bf : ab_B} : decode (ab_code (zx σ n0 bf).1 4042) 3 = .ok (.istore_n 2, 1) := zd zm_4042 (by decide +kernel)
theorem d_4042_4 {σ : Nat → Nat} {n0 : Nat} {bf : ab_B} : decode (ab_code (zx σ n0 bf).1 4042) 4 = .ok (.iload_n 2, 1) := zd zm_4042 (by decide +kernel)
theorem d_4042_5 {σ : Nat → Nat} {n0 : Nat} {bf : ab_B} : decode (ab_code (zx σ n0 bf).1 4042) 5 = .ok (.aload_n 0, 1) := zd zm_4042 (by decide +kernel)
theorem d_4042_6 {σ : Nat → Nat} {n0 : Nat} {bf : ab_B} : decode (ab_code (zx σ n0 bf).1 4042) 6 = .ok (.getfield 412, 3) := zd zm_4042 (by decide +kernel)
theorem d_4042_9 {σ : Nat → Nat} {n0 : Nat} {bf : ab_B} : decode (ab_code (zx σ n0 bf).1 4042) 9 = .ok (.invokevirtual 50, 3) := zd zm_4042 (by decide +kernel)
theorem d_4042_12 {σ : Nat → Nat} {n0 : Nat} {bf : ab_B} : decode (ab_code (zx σ n0 bf).1 4042) 12 = .ok (.if_icmp .ge 29, 3) := zd zm_4042 (by decide +kernel)
theorem d_4042_15 {σ : Nat → Nat} {n0 : Nat} {bf : ab_B} : decode (ab_code (zx σ n0 bf).1 4042) 15 = .ok (.iload_n 1, 1) := zd zm_4042 (by decide +kernel)
theorem d_4042_16 {σ : Nat → Nat} {n0 : Nat} {bf : ab_B} : decode (ab_code (zx σ n0 bf).1 4042) 16 = .ok (.aload_n 0, 1) := zd zm_4042 (by decide +kernel)
theorem d_4042_17 {σ : Nat → Nat} {n0 : Nat} {bf : ab_B} : decode (ab_code (zx σ n0 bf).1 4042) 17 = .ok (.getfield 412, 3) := zd zm_4042 (by decide +kernel)
theorem d_4042_20 {σ : Nat → Nat} {n0 : Nat} {bf : ab_B} : decode (ab_code (zx σ n0 bf).1 4042) 20 = .ok (.iload_n 2, 1) := zd zm_4042 (by decide +kernel)
theorem d_4042_21 {σ : Nat → Nat} {n0 : Nat} {bf : ab_B} : decode (ab_code (zx σ n0 bf).1 4042) 21 = .ok (.invokevirtual 56, 3) := zd zm_4042 (by decide +kernel)
theorem d_4042_24 {σ : Nat → Nat} {n0 : Nat} {bf : ab_B} : decode (ab_code (zx σ n0 bf).1 4042) 24 = .ok (.checkcast 93, 3) := zd zm_4042 (by decide +kernel)
theorem d_4042_27 {σ : Nat → Nat} {n0 : Nat} {bf : ab_B} : decode (ab_code (zx σ n0 bf).1 4042) 27 = .ok (.getfield 96, 3) := zd zm_4042 (by decide +kernel)
theorem d_4042_30 {σ : Nat → Nat} {n0 : Nat} {bf : ab_B} : decode (ab_code (zx σ n0 bf).1 4042) 30 = .ok (.invokestatic 377, 3) := zd zm_4042 (by decide +kernel)
theorem d_4042_33 {σ : Nat → Nat} {n0 : Nat} {bf : ab_B} : decode (ab_code (zx σ n0 bf).1 4042) 33 = .ok (.iand, 1) := zd zm_4042 (by decide +kernel)
theorem d_4042_34 {σ : Nat → Nat} {n0 : Nat} {bf : ab_B} : decode (ab_code (zx σ n0 bf).1 4042) 34 = .ok (.istore_n 1, 1) := zd zm_4042 (by decide +kernel)
theorem d_4042_35 {σ : Nat → Nat} {n0 : Nat} {bf : ab_B} : decode (ab_code (zx σ n0 bf).1 4042) 35 = .ok (.iinc 2 1, 3) := zd zm_4042 (by decide +kernel)
theorem d_4042_38 {σ : Nat → Nat} {n0 : Nat} {bf : ab_B} : decode (ab_code (zx σ n0 bf).1 4042) 38 = .ok (.goto (-34), 3) := zd zm_4042 (by decide +kernel)
theorem d_4042_41 {σ : Nat → Nat} {n0 : Nat} {bf : ab_B} : decode (ab_code (zx σ n0 bf).1 4042) 41 = .ok (.iconst 0, 1) := zd zm_4042 (by decide +kernel)
theorem d_4042_42 {σ : Nat → Nat} {n0 : Nat} {bf : ab_B} : decode (ab_code (zx σ n0 bf).1 4042) 42 = .ok (.istore_n 2, 1) := zd zm_4042 (by decide +kernel)
theorem d_4042_43 {σ : Nat → Nat} {n0 : Nat} {bf : ab_B} : decode (ab_code (zx σ n0 bf).1 4042) 43 = .ok (.aload_n 0, 1) := zd zm_4042 (by decide +kernel)
theorem d_4042_44 {σ : Nat → Nat} {n0 : Nat} {bf : ab_B} : decode (ab_code (zx σ n0 bf).1 4042) 44 = .ok (.getfield 415, 3) := zd zm_4042 (by decide +kernel)
theorem d_4042_47 {σ : Nat → Nat} {n0 : Nat} {bf : ab_B} : decode (ab_code (zx σ n0 bf).1 4042) 47 = .ok (.ifnull 46, 3) := zd zm_4042 (by decide +kernel)
theorem d_4042_50 {σ : Nat → Nat} {n0 : Nat} {bf : ab_B} : decode (ab_code (zx σ n0 bf).1 4042) 50 = .ok (.iload_n 2, 1) := zd zm_4042 (by decide +kernel)
theorem d_4042_51 {σ : Nat → Nat} {n0 : Nat} {bf : ab_B} : decode (ab_code (zx σ n0 bf).1 4042) 51 = .ok (.aload_n 0, 1) := zd zm_4042 (by decide +kernel)
theorem d_4042_52 {σ : Nat → Nat} {n0 : Nat} {bf : ab_B} : decode (ab_code (zx σ n0 bf).1 4042) 52 = .ok (.getfield 415, 3) := zd zm_4042 (by decide +kernel)
theorem d_4042_55 {σ : Nat → Nat} {n0 : Nat} {bf : ab_B} : decode (ab_code (zx σ n0 bf).1 4042) 55 = .ok (.getfield 419, 3) := zd zm_4042 (by decide +kernel)
theorem d_4042_58 {σ : Nat → Nat} {n0 : Nat} {bf : ab_B} : decode (ab_code (zx σ n0 bf).1 4042) 58 = .ok (.invokevirtual 50, 3) := zd zm_4042 (by decide +kernel)
theorem d_4042_61 {σ : Nat → Nat} {n0 : Nat} {bf : ab_B} : decode (ab_code (zx σ n0 bf).1 4042) 61 = .ok (.if_icmp .ge 32, 3) := zd zm_4042 (by decide +kernel)
theorem d_4042_64 {σ : Nat → Nat} {n0 : Nat} {bf : ab_B} : decode (ab_code (zx σ n0 bf).1 4042) 64 = .ok (.iload_n 1, 1) := zd zm_4042 (by decide +kernel)
theorem d_4042_65 {σ : Nat → Nat} {n0 : Nat} {bf : ab_B} : decode (ab_code (zx σ n0 bf).1 4042) 65 = .ok (.aload_n 0, 1) := zd zm_4042 (by decide +kernel)
theorem d_4042_66 {σ : Nat → Nat} {n0 : Nat} {bf : ab_B} : decode (ab_code (zx σ n0 bf).1 4042) 66 = .ok (.getfield 415, 3) := zd zm_4042 (by decide +kernel)
theorem d_4042_69 {σ : Nat → Nat} {n0 : Nat} {bf : ab_B} : decode (ab_code (zx σ n0 bf).1 4042) 69 = .ok (.getfield 419, 3) := zd zm_4042 (by decide +kernel)
theorem d_4042_72 {σ : Nat → Nat} {n0 : Nat} {bf : ab_B} : decode (ab_code (zx σ n0 bf).1 4042) 72 = .ok (.iload_n 2, 1) := zd zm_4042 (by decide +kernel)
theorem d_4042_73 {σ : Nat → Nat} {n0 : Nat} {bf : ab_B} : decode (ab_code (zx σ n0 bf).1 4042) 73 = .ok (.invokevirtual 56, 3) := zd zm_4042 (by decide +kernel)
theorem d_4042_76 {σ : Nat → Nat} {n0 : Nat} {bf : ab_B} : decode (ab_code (zx σ n0 bf).1 4042) 76 = .ok (.checkcast 424, 3) := zd zm_4042 (by decide +kernel)
theorem d_4042_79 {σ : Nat → Nat} {n0 : Nat} {bf : ab_B} : decode (ab_code (zx σ n0 bf).1 4042) 79 = .ok (.getfield 426, 3) := zd zm_4042 (by decide +kernel)
theorem d_4042_82 {σ : Nat → Nat} {n0 : Nat} {bf : ab_B} : decode (ab_code (zx σ n0 bf).1 4042) 82 = .ok (.invokestatic 529, 3) := zd zm_4042 (by decide +kernel)
theorem d_4042_85 {σ : Nat → Nat} {n0 : Nat} {bf : ab_B} : decode (ab_code (zx σ n0 bf).1 4042) 85 = .ok (.iand, 1) := zd zm_4042 (by decide +kernel)
theorem d_4042_86 {σ : Nat → Nat} {n0 : Nat} {bf : ab_B} : decode (ab_code (zx σ n0 bf).1 4042) 86 = .ok (.istore_n 1, 1) := zd zm_4042 (by decide +kernel)
theorem d_4042_87 {σ : Nat → Nat} {n0 : Nat} {bf : ab_B} : decode (ab_code (zx σ n0 bf).1 4042) 87 = .ok (.iinc 2 1, 3) := zd zm_4042 (by decide +kernel)
theorem d_4042_90 {σ : Nat → Nat} {n0 : Nat} {bf : ab_B} : decode (ab_code (zx σ n0 bf).1 4042) 90 = .ok (.goto (-47), 3) := zd zm_4042 (by decide +kernel)
theorem d_4042_93 {σ : Nat → Nat} {n0 : Nat} {bf : ab_B} : decode (ab_code (zx σ n0 bf).1 4042) 93 = .ok (.iload_n 1, 1) := zd zm_4042 (by decide +kernel)
theorem d_4042_94 {σ : Nat → Nat} {n0 : Nat} {bf : ab_B} : decode (ab_code (zx σ n0 bf).1 4042) 94 = .ok (.ireturn, 1) := zd zm_4042 (by decide +kernel)
def w_X5_isKnown_3_38 (X : zs_X) (d : Nat) (p0 : Option Nat) (p1 : Int32) (p2 : Int32) (S : zs_T) (Q : zs_Q) : Prop :=
  (zs_U X d 4042 4 [(0, va_rf p0), (1, .int p1), (2, .int p2)] [] S Q)
theorem u_X5_isKnown_3_38 {σ : Nat → Nat} {n0 : Nat} {bf : ab_B} {d : Nat} {p0 : Option Nat} {p1 : Int32} {p2 : Int32} {S : zs_T} {Q : zs_Q} (hB : zt_B bf) (h : w_X5_isKnown_3_38 (zx σ n0 bf) d p0 p1 p2 S Q) : zs_U (zx σ n0 bf) d 4042 38 [(0, va_rf p0), (1, .int p1), (2, .int p2)] [] S Q := by
  unfold w_X5_isKnown_3_38 at h
  refine zu_goto (t := 4) d_4042_38 rfl ?_
  exact h.weak ⟨rfl, rfl, rfl, trivial⟩
def w_X5_isKnown_3_4 (X : zs_X) (d : Nat) (p0 : Option Nat) (p1 : Int32) (p2 : Int32) (S : zs_T) (Q : zs_Q) : Prop :=
  (∃ b1, p0 = some b1 ∧ zs_K S b1 = some (.inl 13) ∧ ∃ b4, (zs_R S 13000 b1) = some b4 ∧ zs_K S b4 = some (.inl 16) ∧ zs_C X d 16001 [.ref b4] S (zs_kI (fun v8 S7 => (((v8 ≤ p2 → (zs_U X d 4042 43 [(0, va_rf p0), (1, .int p1), (2, .int (0 : Int32))] [] S7 Q)) ∧ (¬ (v8 ≤ p2) → (zs_K S7 b1 = some (.inl 13) ∧ ∃ b11, (zs_R S7 13000 b1) = some b11 ∧ zs_K S7 b11 = some (.inl 16) ∧ zs_C X d 16009 [.ref b11, .int p2] S7 (zs_kR (fun v15 S14 => ((∀ a, v15 = some a → zs_K S14 a = some (.inl 12)) ∧ ∃ b17, v15 = some b17 ∧ zs_K S14 b17 = some (.inl 12) ∧ zs_C X d 4038 [va_rf (zs_R S14 12001 b17)] S14 (zs_kI (fun v21 S20 => (w_X5_isKnown_3_38 X d p0 (p1 &&& v21) (p2 + (1 : Int32)) S20 Q)) Q))) Q)))))) Q))
theorem u_X5_isKnown_3_4 {σ : Nat → Nat} {n0 : Nat} {bf : ab_B} {d : Nat} {p0 : Option Nat} {p1 : Int32} {p2 : Int32} {S : zs_T} {Q : zs_Q} (hB : zt_B bf) (h : w_X5_isKnown_3_4 (zx σ n0 bf) d p0 p1 p2 S Q) : zs_U (zx σ n0 bf) d 4042 4 [(0, va_rf p0), (1, .int p1), (2, .int p2)] [] S Q := by
  unfold w_X5_isKnown_3_4 at h
  refine zu_iload_n d_4042_4 rfl ?_
  refine zu_aload_n d_4042_5 rfl (zs_rr _) ?_
  obtain ⟨b1, e2, h⟩ := h
  refine zs_stk0 (zs_rfe e2) ?_
  obtain ⟨k3, h⟩ := h
  refine zg_4_412 rfl d_4042_6 k3 ?_
  obtain ⟨b4, e5, h⟩ := h
  refine zs_stk0 (zs_rfe e5) ?_
  obtain ⟨k6, h⟩ := h
  refine zc_4_50  hB rfl k6 d_4042_9 (Nat.le_of_ble_eq_true rfl) h (fun v8 S7 h => ?_)
  refine zu_cmpge (t := 41) d_4042_12 rfl (fun c9 => ?_) (fun c9 => ?_)
  · have h := h.1 c9
    refine zu_iconst d_4042_41 zi_0 ?_
    refine zu_istore_n d_4042_42 (zs_lt zq_4042 rfl) ?_
    exact h.weak ⟨rfl, rfl, rfl, trivial⟩
  · have h := h.2 c9
    refine zu_iload_n d_4042_15 rfl ?_
    refine zu_aload_n d_4042_16 rfl (zs_rr _) ?_
    refine zs_stk0 (zs_rfe e2) ?_
    obtain ⟨k10, h⟩ := h
    refine zg_4_412 rfl d_4042_17 k10 ?_
    refine zu_iload_n d_4042_20 rfl ?_
    obtain ⟨b11, e12, h⟩ := h
    refine zs_stk1 (zs_rfe e12) ?_
    obtain ⟨k13, h⟩ := h
    refine zc_4_56 (x0 := p2) hB rfl k13 d_4042_21 (Nat.le_of_ble_eq_true rfl) h (fun v15 S14 h => ?_)
    obtain ⟨k16, h⟩ := h
    refine zk_4_93 (o := v15) rfl d_4042_24 k16 ?_
    obtain ⟨b17, e18, h⟩ := h
    refine zs_stk0 (zs_rfe e18) ?_
    obtain ⟨k19, h⟩ := h
    refine zg_4_96 rfl d_4042_27 k19 ?_
    refine zc_4_377 (x0 := (zs_R S14 12001 b17)) hB rfl d_4042_30 (Nat.le_of_ble_eq_true rfl) h (fun v21 S20 h => ?_)
    refine zu_stk d_4042_33 rfl rfl ?_
    refine zu_istore_n d_4042_34 (zs_lt zq_4042 rfl) ?_
    refine zs_U.weak (L1 := [(1, .int (p1 &&& v21)), (0, va_rf p0), (2, .int p2)]) ?_ ⟨rfl, zs_gp1 rfl (Or.inl (zs_cat _)) rfl, zs_gp1 rfl (Or.inl rfl) rfl, trivial⟩
    refine zu_iinc d_4042_35 rfl zi_1 (zs_lt zq_4042 rfl) ?_
    exact (u_X5_isKnown_3_38 hB h).weak ⟨rfl, rfl, rfl, trivial⟩
def w_X5_isKnown_3_87 (X : zs_X) (d : Nat) (p0 : Option Nat) (p1 : Int32) (p2 : Int32) (S : zs_T) (Q : zs_Q) : Prop :=
  (zs_U X d 4042 43 [(0, va_rf p0), (1, .int p1), (2, .int (p2 + (1 : Int32)))] [] S Q)
theorem u_X5_isKnown_3_87 {σ : Nat → Nat} {n0 : Nat} {bf : ab_B} {d : Nat} {p0 : Option Nat} {p1 : Int32} {p2 : Int32} {S : zs_T} {Q : zs_Q} (hB : zt_B bf) (h : w_X5_isKnown_3_87 (zx σ n0 bf) d p0 p1 p2 S Q) : zs_U (zx σ n0 bf) d 4042 87 [(0, va_rf p0), (1, .int p1), (2, .int p2)] [] S Q := by
  unfold w_X5_isKnown_3_87 at h
  refine zu_iinc d_4042_87 rfl zi_1 (zs_lt zq_4042 rfl) ?_
  refine zu_goto (t := 43) d_4042_90 rfl ?_
  exact h.weak ⟨rfl, rfl, rfl, trivial⟩
def w_X5_isKnown_3_43 (X : zs_X) (d : Nat) (p0 : Option Nat) (p1 : Int32) (p2 : Int32) (S : zs_T) (Q : zs_Q) : Prop :=
  (∃ b1, p0 = some b1 ∧ zs_K S b1 = some (.inl 13) ∧ (((zs_R S 13001 b1) = none → (zs_b p1 ∧ Q (.returned (some (.int p1))) S)) ∧ (∀ b4, (zs_R S 13001 b1) = some b4 → (zs_K S b4 = some (.inl 14) ∧ ∃ b8, (zs_R S 14001 b4) = some b8 ∧ zs_K S b8 = some (.inl 16) ∧ zs_C X d 16001 [.ref b8] S (zs_kI (fun v12 S11 => (((v12 ≤ p2 → (zs_b p1 ∧ Q (.returned (some (.int p1))) S11)) ∧ (¬ (v12 ≤ p2) → (zs_K S11 b1 = some (.inl 13) ∧ ∃ b16, (zs_R S11 13001 b1) = some b16 ∧ zs_K S11 b16 = some (.inl 14) ∧ ∃ b19, (zs_R S11 14001 b16) = some b19 ∧ zs_K S11 b19 = some (.inl 16) ∧ zs_C X d 16009 [.ref b19, .int p2] S11 (zs_kR (fun v23 S22 => ((∀ a, v23 = some a → zs_K S22 a = some (.inl 15)) ∧ ∃ b25, v23 = some b25 ∧ zs_K S22 b25 = some (.inl 15) ∧ zs_C X d 4042 [va_rf (zs_R S22 15002 b25)] S22 (zs_kI (fun v29 S28 => (w_X5_isKnown_3_87 X d p0 (p1 &&& v29) p2 S28 Q)) Q))) Q)))))) Q)))))
theorem u_X5_isKnown_3_43 {σ : Nat → Nat} {n0 : Nat} {bf : ab_B} {d : Nat} {p0 : Option Nat} {p1 : Int32} {p2 : Int32} {S : zs_T} {Q : zs_Q} (hB : zt_B bf) (h : w_X5_isKnown_3_43 (zx σ n0 bf) d p0 p1 p2 S Q) : zs_U (zx σ n0 bf) d 4042 43 [(0, va_rf p0), (1, .int p1), (2, .int p2)] [] S Q := by
  unfold w_X5_isKnown_3_43 at h
  refine zu_aload_n d_4042_43 rfl (zs_rr _) ?_
  obtain ⟨b1, e2, h⟩ := h
  refine zs_stk0 (zs_rfe e2) ?_
  obtain ⟨k3, h⟩ := h
  refine zg_4_415 rfl d_4042_44 k3 ?_
  refine zu_ifnull (u := (zs_R S 13001 b1)) (t := 93) d_4042_47 rfl rfl (fun e5 => ?_) (fun b4 e5 => ?_)
  · have h := h.1 e5
    refine zu_iload_n d_4042_93 rfl ?_
    obtain ⟨k6, h⟩ := h
    exact zu_iret d_4042_94 zr_4042 (zs_b_n k6) h
  · have h := h.2 b4 e5
    refine zu_iload_n d_4042_50 rfl ?_
    refine zu_aload_n d_4042_51 rfl (zs_rr _) ?_
    refine zs_stk0 (zs_rfe e2) ?_
    refine zg_4_415 rfl d_4042_52 k3 ?_
    refine zs_stk0 (zs_rfe e5) ?_
    obtain ⟨k7, h⟩ := h
    refine zg_4_419 rfl d_4042_55 k7 ?_
    obtain ⟨b8, e9, h⟩ := h
    refine zs_stk0 (zs_rfe e9) ?_
    obtain ⟨k10, h⟩ := h
    refine zc_4_50  hB rfl k10 d_4042_58 (Nat.le_of_ble_eq_true rfl) h (fun v12 S11 h => ?_)
    refine zu_cmpge (t := 93) d_4042_61 rfl (fun c13 => ?_) (fun c13 => ?_)
    · have h := h.1 c13
      refine zu_iload_n d_4042_93 rfl ?_
      obtain ⟨k14, h⟩ := h
      exact zu_iret d_4042_94 zr_4042 (zs_b_n k14) h
    · have h := h.2 c13
      refine zu_iload_n d_4042_64 rfl ?_
      refine zu_aload_n d_4042_65 rfl (zs_rr _) ?_
      refine zs_stk0 (zs_rfe e2) ?_
      obtain ⟨k15, h⟩ := h
      refine zg_4_415 rfl d_4042_66 k15 ?_
      obtain ⟨b16, e17, h⟩ := h
      refine zs_stk0 (zs_rfe e17) ?_
      obtain ⟨k18, h⟩ := h
      refine zg_4_419 rfl d_4042_69 k18 ?_
      refine zu_iload_n d_4042_72 rfl ?_
      obtain ⟨b19, e20, h⟩ := h
      refine zs_stk1 (zs_rfe e20) ?_
      obtain ⟨k21, h⟩ := h
      refine zc_4_56 (x0 := p2) hB rfl k21 d_4042_73 (Nat.le_of_ble_eq_true rfl) h (fun v23 S22 h => ?_)
      obtain ⟨k24, h⟩ := h
      refine zk_4_424 (o := v23) rfl d_4042_76 k24 ?_
      obtain ⟨b25, e26, h⟩ := h
      refine zs_stk0 (zs_rfe e26) ?_
      obtain ⟨k27, h⟩ := h
      refine zg_4_426 rfl d_4042_79 k27 ?_
      refine zc_4_529 (x0 := (zs_R S22 15002 b25)) hB rfl d_4042_82 (Nat.le_of_ble_eq_true rfl) h (fun v29 S28 h => ?_)
      refine zu_stk d_4042_85 rfl rfl ?_
      refine zu_istore_n d_4042_86 (zs_lt zq_4042 rfl) ?_
      refine zs_U.weak (L1 := [(1, .int (p1 &&& v29)), (0, va_rf p0), (2, .int p2)]) ?_ ⟨rfl, zs_gp1 rfl (Or.inl (zs_cat _)) rfl, zs_gp1 rfl (Or.inl rfl) rfl, trivial⟩
      exact (u_X5_isKnown_3_87 hB h).weak ⟨rfl, rfl, rfl, trivial⟩
def w_X5_isKnown_3 (X : zs_X) (d : Nat) (p0 : Option Nat) (S : zs_T) (Q : zs_Q) : Prop :=
  (zs_U X d 4042 4 [(0, va_rf p0), (1, .int (1 : Int32)), (2, .int (0 : Int32))] [] S Q)
theorem u_X5_isKnown_3 {σ : Nat → Nat} {n0 : Nat} {bf : ab_B} {d : Nat} {p0 : Option Nat} {S : zs_T} {Q : zs_Q} (hB : zt_B bf) (hd : 1 ≤ d) (h : w_X5_isKnown_3 (zx σ n0 bf) (d - 1) p0 S Q) : zs_C (zx σ n0 bf) d 4042 [va_rf p0] S Q := by
  have hL : lv_args 0 [va_rf p0] = [(0, va_rf p0)] := by simp [lv_args, zs_cat, zs_cI, zs_cJ, zs_cA]
  refine zs_C.of1 (hB.2 4042 (by decide) (by decide)) hd (by rw [hL]; exact zs_sub_self _ (by exact ⟨rfl, trivial⟩)) ?_
  rw [hL]
  clear hL
  unfold w_X5_isKnown_3 at h
  refine zu_iconst d_4042_0 zi_1 ?_
  refine zu_istore_n d_4042_1 (zs_lt zq_4042 rfl) ?_
  refine zs_U.weak (L1 := [(1, .int (1 : Int32)), (0, va_rf p0)]) ?_ ⟨rfl, zs_gp1 rfl (Or.inl (zs_cat _)) rfl, trivial⟩
  refine zu_iconst d_4042_2 zi_0 ?_
  refine zu_istore_n d_4042_3 (zs_lt zq_4042 rfl) ?_
  exact h.weak ⟨rfl, rfl, rfl, trivial⟩
/-! SchemaPascal$Reader.changes(LSchemaPascal$Node;)Z -/
theorem zm_4043 {σ : Nat → Nat} {n0 : Nat} {bf : ab_B} : ab_code (zx σ n0 bf).1 4043 = prog_9_method_83_code := rfl
theorem zq_4043 {σ : Nat → Nat} {n0 : Nat} {bf : ab_B} : ab_maxL (zx σ n0 bf).1 4043 = 1 := rfl
theorem zr_4043 {σ : Nat → Nat} {n0 : Nat} {bf : ab_B} : ab_ret (zx σ n0 bf).1 4043 = (Option.some Jvm.ClassFile.FieldType.boolean) := rfl
theorem d_4043_0 {σ : Nat → Nat} {n0 : Nat} {bf : ab_B} : decode (ab_code (zx σ n0 bf).1 4043) 0 = .ok (.aload_n 0, 1) := zd zm_4043 (by decide +kernel)
theorem d_4043_1 {σ : Nat → Nat} {n0 : Nat} {bf : ab_B} : decode (ab_code (zx σ n0 bf).1 4043) 1 = .ok (.invokestatic 703, 3) := zd zm_4043 (by decide +kernel)
theorem d_4043_4 {σ : Nat → Nat} {n0 : Nat} {bf : ab_B} : decode (ab_code (zx σ n0 bf).1 4043) 4 = .ok (.ifCond .ne 25, 3) := zd zm_4043 (by decide +kernel)
theorem d_4043_7 {σ : Nat → Nat} {n0 : Nat} {bf : ab_B} : decode (ab_code (zx σ n0 bf).1 4043) 7 = .ok (.aload_n 0, 1) := zd zm_4043 (by decide +kernel)
theorem d_4043_8 {σ : Nat → Nat} {n0 : Nat} {bf : ab_B} : decode (ab_code (zx σ n0 bf).1 4043) 8 = .ok (.getfield 512, 3) := zd zm_4043 (by decide +kernel)
theorem d_4043_11 {σ : Nat → Nat} {n0 : Nat} {bf : ab_B} : decode (ab_code (zx σ n0 bf).1 4043) 11 = .ok (.iconst 4, 1) := zd zm_4043 (by decide +kernel)
theorem d_4043_12 {σ : Nat → Nat} {n0 : Nat} {bf : ab_B} : decode (ab_code (zx σ n0 bf).1 4043) 12 = .ok (.if_icmp .ne 13, 3) := zd zm_4043 (by decide +kernel)
theorem d_4043_15 {σ : Nat → Nat} {n0 : Nat} {bf : ab_B} : decode (ab_code (zx σ n0 bf).1 4043) 15 = .ok (.aload_n 0, 1) := zd zm_4043 (by decide +kernel)
theorem d_4043_16 {σ : Nat → Nat} {n0 : Nat} {bf : ab_B} : decode (ab_code (zx σ n0 bf).1 4043) 16 = .ok (.getfield 670, 3) := zd zm_4043 (by decide +kernel)
theorem d_4043_19 {σ : Nat → Nat} {n0 : Nat} {bf : ab_B} : decode (ab_code (zx σ n0 bf).1 4043) 19 = .ok (.getfield 504, 3) := zd zm_4043 (by decide +kernel)
theorem d_4043_22 {σ : Nat → Nat} {n0 : Nat} {bf : ab_B} : decode (ab_code (zx σ n0 bf).1 4043) 22 = .ok (.ifnonnull 7, 3) := zd zm_4043 (by decide +kernel)
theorem d_4043_25 {σ : Nat → Nat} {n0 : Nat} {bf : ab_B} : decode (ab_code (zx σ n0 bf).1 4043) 25 = .ok (.iconst 1, 1) := zd zm_4043 (by decide +kernel)
theorem d_4043_26 {σ : Nat → Nat} {n0 : Nat} {bf : ab_B} : decode (ab_code (zx σ n0 bf).1 4043) 26 = .ok (.goto 4, 3) := zd zm_4043 (by decide +kernel)
theorem d_4043_29 {σ : Nat → Nat} {n0 : Nat} {bf : ab_B} : decode (ab_code (zx σ n0 bf).1 4043) 29 = .ok (.iconst 0, 1) := zd zm_4043 (by decide +kernel)
theorem d_4043_30 {σ : Nat → Nat} {n0 : Nat} {bf : ab_B} : decode (ab_code (zx σ n0 bf).1 4043) 30 = .ok (.ireturn, 1) := zd zm_4043 (by decide +kernel)
def w_X5_changes (X : zs_X) (d : Nat) (p0 : Option Nat) (S : zs_T) (Q : zs_Q) : Prop :=
  (zs_C X d 4044 [va_rf p0] S (zs_kI (fun v2 S1 => (((¬ v2 = 0 → (Q (.returned (some (.int (0 : Int32)))) S1)) ∧ (¬ (¬ v2 = 0) → (∃ b4, p0 = some b4 ∧ zs_K S1 b4 = some (.inl 11) ∧ ((¬ (zs_I S1 11000 b4) = (4 : Int32) → (Q (.returned (some (.int (1 : Int32)))) S1)) ∧ (¬ (¬ (zs_I S1 11000 b4) = (4 : Int32)) → (∃ b8, (zs_R S1 11010 b4) = some b8 ∧ zs_K S1 b8 = some (.inl 12) ∧ (((zs_R S1 12003 b8) = none → (Q (.returned (some (.int (1 : Int32)))) S1)) ∧ (∀ b11, (zs_R S1 12003 b8) = some b11 → (Q (.returned (some (.int (0 : Int32)))) S1))))))))))) Q))
theorem u_X5_changes {σ : Nat → Nat} {n0 : Nat} {bf : ab_B} {d : Nat} {p0 : Option Nat} {S : zs_T} {Q : zs_Q} (hB : zt_B bf) (hd : 1 ≤ d) (h : w_X5_changes (zx σ n0 bf) (d - 1) p0 S Q) : zs_C (zx σ n0 bf) d 4043 [va_rf p0] S Q := by
  have hL : lv_args 0 [va_rf p0] = [(0, va_rf p0)] := by simp [lv_args, zs_cat, zs_cI, zs_cJ, zs_cA]
  refine zs_C.of1 (hB.2 4043 (by decide) (by decide)) hd (by rw [hL]; exact zs_sub_self _ (by exact ⟨rfl, trivial⟩)) ?_
  rw [hL]
  clear hL
  unfold w_X5_changes at h
  refine zu_aload_n d_4043_0 rfl (zs_rr _) ?_
  refine zc_4_703 (x0 := p0) hB rfl d_4043_1 (Nat.le_of_ble_eq_true rfl) h (fun v2 S1 h => ?_)
  refine zu_ifne (t := 29) d_4043_4 rfl (fun c3 => ?_) (fun c3 => ?_)
  · have h := h.1 c3
    refine zu_iconst d_4043_29 zi_0 ?_
    exact zu_iret d_4043_30 zr_4043 (zs_b_n (Or.inl rfl)) h
  · have h := h.2 c3
    refine zu_aload_n d_4043_7 rfl (zs_rr _) ?_
    obtain ⟨b4, e5, h⟩ := h
    refine zs_stk0 (zs_rfe e5) ?_
    obtain ⟨k6, h⟩ := h
    refine zg_4_512 rfl d_4043_8 k6 ?_
    refine zu_iconst d_4043_11 zi_4 ?_
    refine zu_cmpne (t := 25) d_4043_12 rfl (fun c7 => ?_) (fun c7 => ?_)
    · have h := h.1 c7
      refine zu_iconst d_4043_25 zi_1 ?_
      refine zu_goto (t := 30) d_4043_26 rfl ?_
      exact zu_iret d_4043_30 zr_4043 (zs_b_n (Or.inr rfl)) h
    · have h := h.2 c7
      refine zu_aload_n d_4043_15 rfl (zs_rr _) ?_
      refine zs_stk0 (zs_rfe e5) ?_
      refine zg_4_670 rfl d_4043_16 k6 ?_
      obtain ⟨b8, e9, h⟩ := h
      refine zs_stk0 (zs_rfe e9) ?_
      obtain ⟨k10, h⟩ := h
      refine zg_4_504 rfl d_4043_19 k10 ?_
      refine zu_ifnonnull (u := (zs_R S1 12003 b8)) (t := 29) d_4043_22 rfl rfl (fun b11 e12 => ?_) (fun e12 => ?_)
      · have h := h.2 b11 e12
        refine zu_iconst d_4043_29 zi_0 ?_
        exact zu_iret d_4043_30 zr_4043 (zs_b_n (Or.inl rfl)) h
      · have h := h.1 e12
        refine zu_iconst d_4043_25 zi_1 ?_
        refine zu_goto (t := 30) d_4043_26 rfl ?_
        exact zu_iret d_4043_30 zr_4043 (zs_b_n (Or.inr rfl)) h
/-! SchemaPascal$Reader.isProtected(LSchemaPascal$Node;)Z -/
theorem zm_4044 {σ : Nat → Nat} {n0 : Nat} {bf : ab_B} : ab_code (zx σ n0 bf).1 4044 = prog_9_method_84_code := rfl
theorem zq_4044 {σ : Nat → Nat} {n0 : Nat} {bf : ab_B} : ab_maxL (zx σ n0 bf).1 4044 = 2 := rfl
theorem zr_4044 {σ : Nat → Nat} {n0 : Nat} {bf : ab_B} : ab_ret (zx σ n0 bf).1 4044 = (Option.some Jvm.ClassFile.FieldType.boolean) := rfl
theorem d_4044_0 {σ : Nat → Nat} {n0 : Nat} {bf : ab_B} : decode (ab_code (zx σ n0 bf).1 4044) 0 = .ok (.aload_n 0, 1) := zd zm_4044 (by decide +kernel)
theorem d_4044_1 {σ : Nat → Nat} {n0 : Nat} {bf : ab_B} : decode (ab_code (zx σ n0 bf).1 4044) 1 = .ok (.astore_n 1, 1) := zd zm_4044 (by decide +kernel)
theorem d_4044_2 {σ : Nat → Nat} {n0 : Nat} {bf : ab_B} : decode (ab_code (zx σ n0 bf).1 4044) 2 = .ok (.aload_n 1, 1) := zd zm_4044 (by decide +kernel)
theorem d_4044_3 {σ : Nat → Nat} {n0 : Nat} {bf : ab_B} : decode (ab_code (zx σ n0 bf).1 4044) 3 = .ok (.getfield 512, 3) := zd zm_4044 (by decide +kernel)
theorem d_4044_6 {σ : Nat → Nat} {n0 : Nat} {bf : ab_B} : decode (ab_code (zx σ n0 bf).1 4044) 6 = .ok (.iconst 3, 1) := zd zm_4044 (by decide +kernel)
theorem d_4044_7 {σ : Nat → Nat} {n0 : Nat} {bf : ab_B} : decode (ab_code (zx σ n0 bf).1 4044) 7 = .ok (.if_icmp .eq 11, 3) := zd zm_4044 (by decide +kernel)
theorem d_4044_10 {σ : Nat → Nat} {n0 : Nat} {bf : ab_B} : decode (ab_code (zx σ n0 bf).1 4044) 10 = .ok (.aload_n 1, 1) := zd zm_4044 (by decide +kernel)
theorem d_4044_11 {σ : Nat → Nat} {n0 : Nat} {bf : ab_B} : decode (ab_code (zx σ n0 bf).1 4044) 11 = .ok (.getfield 512, 3) := zd zm_4044 (by decide +kernel)
theorem d_4044_14 {σ : Nat → Nat} {n0 : Nat} {bf : ab_B} : decode (ab_code (zx σ n0 bf).1 4044) 14 = .ok (.iconst 4, 1) := zd zm_4044 (by decide +kernel)
theorem d_4044_15 {σ : Nat → Nat} {n0 : Nat} {bf : ab_B} : decode (ab_code (zx σ n0 bf).1 4044) 15 = .ok (.if_icmp .ne 11, 3) := zd zm_4044 (by decide +kernel)
theorem d_4044_18 {σ : Nat → Nat} {n0 : Nat} {bf : ab_B} : decode (ab_code (zx σ n0 bf).1 4044) 18 = .ok (.aload_n 1, 1) := zd zm_4044 (by decide +kernel)
theorem d_4044_19 {σ : Nat → Nat} {n0 : Nat} {bf : ab_B} : decode (ab_code (zx σ n0 bf).1 4044) 19 = .ok (.getfield 539, 3) := zd zm_4044 (by decide +kernel)
theorem d_4044_22 {σ : Nat → Nat} {n0 : Nat} {bf : ab_B} : decode (ab_code (zx σ n0 bf).1 4044) 22 = .ok (.astore_n 1, 1) := zd zm_4044 (by decide +kernel)
theorem d_4044_23 {σ : Nat → Nat} {n0 : Nat} {bf : ab_B} : decode (ab_code (zx σ n0 bf).1 4044) 23 = .ok (.goto (-21), 3) := zd zm_4044 (by decide +kernel)
theorem d_4044_26 {σ : Nat → Nat} {n0 : Nat} {bf : ab_B} : decode (ab_code (zx σ n0 bf).1 4044) 26 = .ok (.aload_n 1, 1) := zd zm_4044 (by decide +kernel)
theorem d_4044_27 {σ : Nat → Nat} {n0 : Nat} {bf : ab_B} : decode (ab_code (zx σ n0 bf).1 4044) 27 = .ok (.getfield 512, 3) := zd zm_4044 (by decide +kernel)
theorem d_4044_30 {σ : Nat → Nat} {n0 : Nat} {bf : ab_B} : decode (ab_code (zx σ n0 bf).1 4044) 30 = .ok (.iconst 2, 1) := zd zm_4044 (by decide +kernel)
theorem d_4044_31 {σ : Nat → Nat} {n0 : Nat} {bf : ab_B} : decode (ab_code (zx σ n0 bf).1 4044) 31 = .ok (.if_icmp .ne 17, 3) := zd zm_4044 (by decide +kernel)
theorem d_4044_34 {σ : Nat → Nat} {n0 : Nat} {bf : ab_B} : decode (ab_code (zx σ n0 bf).1 4044) 34 = .ok (.aload_n 1, 1) := zd zm_4044 (by decide +kernel)
theorem d_4044_35 {σ : Nat → Nat} {n0 : Nat} {bf : ab_B} : decode (ab_code (zx σ n0 bf).1 4044) 35 = .ok (.getfield 664, 3) := zd zm_4044 (by decide +kernel)
theorem d_4044_38 {σ : Nat → Nat} {n0 : Nat} {bf : ab_B} : decode (ab_code (zx σ n0 bf).1 4044) 38 = .ok (.getfield 111, 3) := zd zm_4044 (by decide +kernel)
theorem d_4044_41 {σ : Nat → Nat} {n0 : Nat} {bf : ab_B} : decode (ab_code (zx σ n0 bf).1 4044) 41 = .ok (.ifCond .eq 7, 3) := zd zm_4044 (by decide +kernel)
theorem d_4044_44 {σ : Nat → Nat} {n0 : Nat} {bf : ab_B} : decode (ab_code (zx σ n0 bf).1 4044) 44 = .ok (.iconst 1, 1) := zd zm_4044 (by decide +kernel)
theorem d_4044_45 {σ : Nat → Nat} {n0 : Nat} {bf : ab_B} : decode (ab_code (zx σ n0 bf).1 4044) 45 = .ok (.goto 4, 3) := zd zm_4044 (by decide +kernel)
theorem d_4044_48 {σ : Nat → Nat} {n0 : Nat} {bf : ab_B} : decode (ab_code (zx σ n0 bf).1 4044) 48 = .ok (.iconst 0, 1) := zd zm_4044 (by decide +kernel)
theorem d_4044_49 {σ : Nat → Nat} {n0 : Nat} {bf : ab_B} : decode (ab_code (zx σ n0 bf).1 4044) 49 = .ok (.ireturn, 1) := zd zm_4044 (by decide +kernel)
def w_X5_isProtected_18 (X : zs_X) (d : Nat) (p1 : Option Nat) (S : zs_T) (Q : zs_Q) : Prop :=
  (∃ b1, p1 = some b1 ∧ zs_K S b1 = some (.inl 11) ∧ zs_U X d 4044 2 [(1, va_rf (zs_R S 11005 b1))] [] S Q)
theorem u_X5_isProtected_18 {σ : Nat → Nat} {n0 : Nat} {bf : ab_B} {d : Nat} {p1 : Option Nat} {S : zs_T} {Q : zs_Q} (hB : zt_B bf) (h : w_X5_isProtected_18 (zx σ n0 bf) d p1 S Q) : zs_U (zx σ n0 bf) d 4044 18 [(1, va_rf p1)] [] S Q := by
  unfold w_X5_isProtected_18 at h
  refine zu_aload_n d_4044_18 rfl (zs_rr _) ?_
  obtain ⟨b1, e2, h⟩ := h
  refine zs_stk0 (zs_rfe e2) ?_
  obtain ⟨k3, h⟩ := h
  refine zg_4_539 rfl d_4044_19 k3 ?_
  refine zu_astore_n d_4044_22 (zs_rr _) (zs_lt zq_4044 rfl) ?_
  refine zu_goto (t := 2) d_4044_23 rfl ?_
  exact h.weak ⟨rfl, trivial⟩
def w_X5_isProtected_48 (X : zs_X) (d : Nat)  (S : zs_T) (Q : zs_Q) : Prop :=
  (Q (.returned (some (.int (0 : Int32)))) S)
theorem u_X5_isProtected_48 {σ : Nat → Nat} {n0 : Nat} {bf : ab_B} {d : Nat}  {S : zs_T} {Q : zs_Q} (hB : zt_B bf) (h : w_X5_isProtected_48 (zx σ n0 bf) d  S Q) : zs_U (zx σ n0 bf) d 4044 48 [] [] S Q := by
  unfold w_X5_isProtected_48 at h
  refine zu_iconst d_4044_48 zi_0 ?_
  exact zu_iret d_4044_49 zr_4044 (zs_b_n (Or.inl rfl)) h
def w_X5_isProtected_44 (X : zs_X) (d : Nat)  (S : zs_T) (Q : zs_Q) : Prop :=
  (Q (.returned (some (.int (1 : Int32)))) S)
theorem u_X5_isProtected_44 {σ : Nat → Nat} {n0 : Nat} {bf : ab_B} {d : Nat}  {S : zs_T} {Q : zs_Q} (hB : zt_B bf) (h : w_X5_isProtected_44 (zx σ n0 bf) d  S Q) : zs_U (zx σ n0 bf) d 4044 44 [] [] S Q := by
  unfold w_X5_isProtected_44 at h
  refine zu_iconst d_4044_44 zi_1 ?_
  refine zu_goto (t := 49) d_4044_45 rfl ?_
  exact zu_iret d_4044_49 zr_4044 (zs_b_n (Or.inr rfl)) h
def w_X5_isProtected_2 (X : zs_X) (d : Nat) (p1 : Option Nat) (S : zs_T) (Q : zs_Q) : Prop :=
  (∃ b1, p1 = some b1 ∧ zs_K S b1 = some (.inl 11) ∧ (((zs_I S 11000 b1) = (3 : Int32) → w_X5_isProtected_18 X d p1 S Q) ∧ (¬ ((zs_I S 11000 b1) = (3 : Int32)) → (((¬ (zs_I S 11000 b1) = (4 : Int32) → (((¬ (zs_I S 11000 b1) = (2 : Int32) → w_X5_isProtected_48 X d  S Q) ∧ (¬ (¬ (zs_I S 11000 b1) = (2 : Int32)) → (∃ b7, (zs_R S 11009 b1) = some b7 ∧ zs_K S b7 = some (.inl 7) ∧ (((zs_I S 7009 b7) = 0 → w_X5_isProtected_48 X d  S Q) ∧ (¬ ((zs_I S 7009 b7) = 0) → w_X5_isProtected_44 X d  S Q))))))) ∧ (¬ (¬ (zs_I S 11000 b1) = (4 : Int32)) → w_X5_isProtected_18 X d p1 S Q))))))
theorem u_X5_isProtected_2 {σ : Nat → Nat} {n0 : Nat} {bf : ab_B} {d : Nat} {p1 : Option Nat} {S : zs_T} {Q : zs_Q} (hB : zt_B bf) (h : w_X5_isProtected_2 (zx σ n0 bf) d p1 S Q) : zs_U (zx σ n0 bf) d 4044 2 [(1, va_rf p1)] [] S Q := by
  unfold w_X5_isProtected_2 at h
  refine zu_aload_n d_4044_2 rfl (zs_rr _) ?_
  obtain ⟨b1, e2, h⟩ := h
  refine zs_stk0 (zs_rfe e2) ?_
  obtain ⟨k3, h⟩ := h
  refine zg_4_512 rfl d_4044_3 k3 ?_
  refine zu_iconst d_4044_6 zi_3 ?_
  refine zu_cmpeq (t := 18) d_4044_7 rfl (fun c4 => ?_) (fun c4 => ?_)
  · have h := h.1 c4
    exact (u_X5_isProtected_18 hB h).weak ⟨rfl, trivial⟩
  · have h := h.2 c4
    refine zu_aload_n d_4044_10 rfl (zs_rr _) ?_
    refine zs_stk0 (zs_rfe e2) ?_
    refine zg_4_512 rfl d_4044_11 k3 ?_
    refine zu_iconst d_4044_14 zi_4 ?_
    refine zu_cmpne (t := 26) d_4044_15 rfl (fun c5 => ?_) (fun c5 => ?_)
    · have h := h.1 c5
      refine zu_aload_n d_4044_26 rfl (zs_rr _) ?_
      refine zs_stk0 (zs_rfe e2) ?_
      refine zg_4_512 rfl d_4044_27 k3 ?_
      refine zu_iconst d_4044_30 zi_2 ?_
      refine zu_cmpne (t := 48) d_4044_31 rfl (fun c6 => ?_) (fun c6 => ?_)
      · have h := h.1 c6
        exact (u_X5_isProtected_48 hB h).weak trivial
      · have h := h.2 c6
        refine zu_aload_n d_4044_34 rfl (zs_rr _) ?_
        refine zs_stk0 (zs_rfe e2) ?_
        refine zg_4_664 rfl d_4044_35 k3 ?_
        obtain ⟨b7, e8, h⟩ := h
        refine zs_stk0 (zs_rfe e8) ?_
        obtain ⟨k9, h⟩ := h
        refine zg_4_111 rfl d_4044_38 k9 ?_
        refine zu_ifeq (t := 48) d_4044_41 rfl (fun c10 => ?_) (fun c10 => ?_)
        · have h := h.1 c10
          exact (u_X5_isProtected_48 hB h).weak trivial
        · have h := h.2 c10
          exact (u_X5_isProtected_44 hB h).weak trivial
    · have h := h.2 c5
      exact (u_X5_isProtected_18 hB h).weak ⟨rfl, trivial⟩
def w_X5_isProtected (X : zs_X) (d : Nat) (p0 : Option Nat) (S : zs_T) (Q : zs_Q) : Prop :=
  (zs_U X d 4044 2 [(1, va_rf p0)] [] S Q)
theorem u_X5_isProtected {σ : Nat → Nat} {n0 : Nat} {bf : ab_B} {d : Nat} {p0 : Option Nat} {S : zs_T} {Q : zs_Q} (hB : zt_B bf) (hd : 1 ≤ d) (h : w_X5_isProtected (zx σ n0 bf) (d - 1) p0 S Q) : zs_C (zx σ n0 bf) d 4044 [va_rf p0] S Q := by
  have hL : lv_args 0 [va_rf p0] = [(0, va_rf p0)] := by simp [lv_args, zs_cat, zs_cI, zs_cJ, zs_cA]
  refine zs_C.of1 (hB.2 4044 (by decide) (by decide)) hd (by rw [hL]; exact zs_sub_self _ (by exact ⟨rfl, trivial⟩)) ?_
  rw [hL]
  clear hL
  unfold w_X5_isProtected at h
  refine zu_aload_n d_4044_0 rfl (zs_rr _) ?_
  refine zu_astore_n d_4044_1 (zs_rr _) (zs_lt zq_4044 rfl) ?_
  refine zs_U.weak (L1 := [(1, va_rf p0), (0, va_rf p0)]) ?_ ⟨rfl, zs_gp1 rfl (Or.inl (zs_cat _)) rfl, trivial⟩
  exact h.weak ⟨rfl, trivial⟩
/-! SchemaPascal$Reader.known(II)LSchemaPascal$Node; -/
theorem zm_4045 {σ : Nat → Nat} {n0 : Nat} {bf : ab_B} : ab_code (zx σ n0 bf).1 4045 = prog_9_method_86_code := rfl
theorem zq_4045 {σ : Nat → Nat} {n0 : Nat} {bf : ab_B} : ab_maxL (zx σ n0 bf).1 4045 = 8 := rfl
theorem zr_4045 {σ : Nat → Nat} {n0 : Nat} {bf : ab_B} : ab_ret (zx σ n0 bf).1 4045 = (Option.some (Jvm.ClassFile.FieldType.object "SchemaPascal$Node")) := rfl
theorem d_4045_0 {σ : Nat → Nat} {n0 : Nat} {bf : ab_B} : decode (ab_code (zx σ n0 bf).1 4045) 0 = .ok (.aload_n 0, 1) := zd zm_4045 (by decide +kernel)
theorem d_4045_1 {σ : Nat → Nat} {n0 : Nat} {bf : ab_B} : decode (ab_code (zx σ n0 bf).1 4045) 1 = .ok (.bipush 13, 2) := zd zm_4045 (by decide +kernel)
theorem d_4045_3 {σ : Nat → Nat} {n0 : Nat} {bf : ab_B} : decode (ab_code (zx σ n0 bf).1 4045) 3 = .ok (.iload_n 2, 1) := zd zm_4045 (by decide +kernel)
theorem d_4045_4 {σ : Nat → Nat} {n0 : Nat} {bf : ab_B} : decode (ab_code (zx σ n0 bf).1 4045) 4 = .ok (.aload_n 0, 1) := zd zm_4045 (by decide +kernel)
theorem d_4045_5 {σ : Nat → Nat} {n0 : Nat} {bf : ab_B} : decode (ab_code (zx σ n0 bf).1 4045) 5 = .ok (.getfield 147, 3) := zd zm_4045 (by decide +kernel)
theorem d_4045_8 {σ : Nat → Nat} {n0 : Nat} {bf : ab_B} : decode (ab_code (zx σ n0 bf).1 4045) 8 = .ok (.invokevirtual 572, 3) := zd zm_4045 (by decide +kernel)
theorem d_4045_11 {σ : Nat → Nat} {n0 : Nat} {bf : ab_B} : decode (ab_code (zx σ n0 bf).1 4045) 11 = .ok (.astore_n 3, 1) := zd zm_4045 (by decide +kernel)
theorem d_4045_12 {σ : Nat → Nat} {n0 : Nat} {bf : ab_B} : decode (ab_code (zx σ n0 bf).1 4045) 12 = .ok (.aload_n 3, 1) := zd zm_4045 (by decide +kernel)
theorem d_4045_13 {σ : Nat → Nat} {n0 : Nat} {bf : ab_B} : decode (ab_code (zx σ n0 bf).1 4045) 13 = .ok (.iload_n 1, 1) := zd zm_4045 (by decide +kernel)
theorem d_4045_14 {σ : Nat → Nat} {n0 : Nat} {bf : ab_B} : decode (ab_code (zx σ n0 bf).1 4045) 14 = .ok (.putfield 542, 3) := zd zm_4045 (by decide +kernel)
theorem d_4045_17 {σ : Nat → Nat} {n0 : Nat} {bf : ab_B} : decode (ab_code (zx σ n0 bf).1 4045) 17 = .ok (.iload_n 1, 1) := zd zm_4045 (by decide +kernel)
theorem d_4045_18 {σ : Nat → Nat} {n0 : Nat} {bf : ab_B} : decode (ab_code (zx σ n0 bf).1 4045) 18 = .ok (.bipush 17, 2) := zd zm_4045 (by decide +kernel)
theorem d_4045_20 {σ : Nat → Nat} {n0 : Nat} {bf : ab_B} : decode (ab_code (zx σ n0 bf).1 4045) 20 = .ok (.if_icmp .ne 13, 3) := zd zm_4045 (by decide +kernel)
theorem d_4045_23 {σ : Nat → Nat} {n0 : Nat} {bf : ab_B} : decode (ab_code (zx σ n0 bf).1 4045) 23 = .ok (.aload_n 3, 1) := zd zm_4045 (by decide +kernel)
theorem d_4045_24 {σ : Nat → Nat} {n0 : Nat} {bf : ab_B} : decode (ab_code (zx σ n0 bf).1 4045) 24 = .ok (.aload_n 0, 1) := zd zm_4045 (by decide +kernel)
theorem d_4045_25 {σ : Nat → Nat} {n0 : Nat} {bf : ab_B} : decode (ab_code (zx σ n0 bf).1 4045) 25 = .ok (.getfield 150, 3) := zd zm_4045 (by decide +kernel)
theorem d_4045_28 {σ : Nat → Nat} {n0 : Nat} {bf : ab_B} : decode (ab_code (zx σ n0 bf).1 4045) 28 = .ok (.putfield 297, 3) := zd zm_4045 (by decide +kernel)
theorem d_4045_31 {σ : Nat → Nat} {n0 : Nat} {bf : ab_B} : decode (ab_code (zx σ n0 bf).1 4045) 31 = .ok (.aload_n 3, 1) := zd zm_4045 (by decide +kernel)
theorem d_4045_32 {σ : Nat → Nat} {n0 : Nat} {bf : ab_B} : decode (ab_code (zx σ n0 bf).1 4045) 32 = .ok (.areturn, 1) := zd zm_4045 (by decide +kernel)
theorem d_4045_33 {σ : Nat → Nat} {n0 : Nat} {bf : ab_B} : decode (ab_code (zx σ n0 bf).1 4045) 33 = .ok (.iload_n 1, 1) := zd zm_4045 (by decide +kernel)
theorem d_4045_34 {σ : Nat → Nat} {n0 : Nat} {bf : ab_B} : decode (ab_code (zx σ n0 bf).1 4045) 34 = .ok (.bipush 15, 2) := zd zm_4045 (by decide +kernel)
theorem d_4045_36 {σ : Nat → Nat} {n0 : Nat} {bf : ab_B} : decode (ab_code (zx σ n0 bf).1 4045) 36 = .ok (.if_icmp .ne 7, 3) := zd zm_4045 (by decide +kernel)
theorem d_4045_39 {σ : Nat → Nat} {n0 : Nat} {bf : ab_B} : decode (ab_code (zx σ n0 bf).1 4045) 39 = .ok (.iconst 2, 1) := zd zm_4045 (by decide +kernel)
theorem d_4045_40 {σ : Nat → Nat} {n0 : Nat} {bf : ab_B} : decode (ab_code (zx σ n0 bf).1 4045) 40 = .ok (.goto 14, 3) := zd zm_4045 (by decide +kernel)
theorem d_4045_43 {σ : Nat → Nat} {n0 : Nat} {bf : ab_B} : decode (ab_code (zx σ n0 bf).1 4045) 43 = .ok (.iload_n 1, 1) := zd zm_4045 (by decide +kernel)
theorem d_4045_44 {σ : Nat → Nat} {n0 : Nat} {bf : ab_B} : decode (ab_code (zx σ n0 bf).1 4045) 44 = .ok (.bipush 16, 2) := zd zm_4045 (by decide +kernel)
theorem d_4045_46 {σ : Nat → Nat} {n0 : Nat} {bf : ab_B} : decode (ab_code (zx σ n0 bf).1 4045) 46 = .ok (.if_icmp .ne 7, 3) := zd zm_4045 (by decide +kernel)
theorem d_4045_49 {σ : Nat → Nat} {n0 : Nat} {bf : ab_B} : decode (ab_code (zx σ n0 bf).1 4045) 49 = .ok (.iconst 3, 1) := zd zm_4045 (by decide +kernel)
theorem d_4045_50 {σ : Nat → Nat} {n0 : Nat} {bf : ab_B} : decode (ab_code (zx σ n0 bf).1 4045) 50 = .ok (.goto 4, 3) := zd zm_4045 (by decide +kernel)
theorem d_4045_53 {σ : Nat → Nat} {n0 : Nat} {bf : ab_B} : decode (ab_code (zx σ n0 bf).1 4045) 53 = .ok (.iconst 1, 1) := zd zm_4045 (by decide +kernel)
theorem d_4045_54 {σ : Nat → Nat} {n0 : Nat} {bf : ab_B} : decode (ab_code (zx σ n0 bf).1 4045) 54 = .ok (.istore 4, 2) := zd zm_4045 (by decide +kernel)
theorem d_4045_56 {σ : Nat → Nat} {n0 : Nat} {bf : ab_B} : decode (ab_code (zx σ n0 bf).1 4045) 56 = .ok (.aload_n 0, 1) := zd zm_4045 (by decide +kernel)
theorem d_4045_57 {σ : Nat → Nat} {n0 : Nat} {bf : ab_B} : decode (ab_code (zx σ n0 bf).1 4045) 57 = .ok (.getfield 5, 3) := zd zm_4045 (by decide +kernel)
theorem d_4045_60 {σ : Nat → Nat} {n0 : Nat} {bf : ab_B} : decode (ab_code (zx σ n0 bf).1 4045) 60 = .ok (.bipush 40, 2) := zd zm_4045 (by decide +kernel)
theorem d_4045_62 {σ : Nat → Nat} {n0 : Nat} {bf : ab_B} : decode (ab_code (zx σ n0 bf).1 4045) 62 = .ok (.invokevirtual 21, 3) := zd zm_4045 (by decide +kernel)
theorem d_4045_65 {σ : Nat → Nat} {n0 : Nat} {bf : ab_B} : decode (ab_code (zx σ n0 bf).1 4045) 65 = .ok (.ifCond .ne 9, 3) := zd zm_4045 (by decide +kernel)
theorem d_4045_68 {σ : Nat → Nat} {n0 : Nat} {bf : ab_B} : decode (ab_code (zx σ n0 bf).1 4045) 68 = .ok (.aload_n 0, 1) := zd zm_4045 (by decide +kernel)
theorem d_4045_69 {σ : Nat → Nat} {n0 : Nat} {bf : ab_B} : decode (ab_code (zx σ n0 bf).1 4045) 69 = .ok (.iconst 5, 1) := zd zm_4045 (by decide +kernel)
theorem d_4045_70 {σ : Nat → Nat} {n0 : Nat} {bf : ab_B} : decode (ab_code (zx σ n0 bf).1 4045) 70 = .ok (.invokevirtual 25, 3) := zd zm_4045 (by decide +kernel)
theorem d_4045_73 {σ : Nat → Nat} {n0 : Nat} {bf : ab_B} : decode (ab_code (zx σ n0 bf).1 4045) 73 = .ok (.athrow, 1) := zd zm_4045 (by decide +kernel)
theorem d_4045_74 {σ : Nat → Nat} {n0 : Nat} {bf : ab_B} : decode (ab_code (zx σ n0 bf).1 4045) 74 = .ok (.aload_n 0, 1) := zd zm_4045 (by decide +kernel)
theorem d_4045_75 {σ : Nat → Nat} {n0 : Nat} {bf : ab_B} : decode (ab_code (zx σ n0 bf).1 4045) 75 = .ok (.invokevirtual 357, 3) := zd zm_4045 (by decide +kernel)
theorem d_4045_78 {σ : Nat → Nat} {n0 : Nat} {bf : ab_B} : decode (ab_code (zx σ n0 bf).1 4045) 78 = .ok (.aconst_null, 1) := zd zm_4045 (by decide +kernel)
theorem d_4045_79 {σ : Nat → Nat} {n0 : Nat} {bf : ab_B} : decode (ab_code (zx σ n0 bf).1 4045) 79 = .ok (.astore 5, 2) := zd zm_4045 (by decide +kernel)
theorem d_4045_81 {σ : Nat → Nat} {n0 : Nat} {bf : ab_B} : decode (ab_code (zx σ n0 bf).1 4045) 81 = .ok (.iconst 0, 1) := zd zm_4045 (by decide +kernel)
theorem d_4045_82 {σ : Nat → Nat} {n0 : Nat} {bf : ab_B} : decode (ab_code (zx σ n0 bf).1 4045) 82 = .ok (.istore 6, 2) := zd zm_4045 (by decide +kernel)
theorem d_4045_84 {σ : Nat → Nat} {n0 : Nat} {bf : ab_B} : decode (ab_code (zx σ n0 bf).1 4045) 84 = .ok (.iload 6, 2) := zd zm_4045 (by decide +kernel)
theorem d_4045_86 {σ : Nat → Nat} {n0 : Nat} {bf : ab_B} : decode (ab_code (zx σ n0 bf).1 4045) 86 = .ok (.iload 4, 2) := zd zm_4045 (by decide +kernel)
theorem d_4045_88 {σ : Nat → Nat} {n0 : Nat} {bf : ab_B} : decode (ab_code (zx σ n0 bf).1 4045) 88 = .ok (.if_icmp .ge 128, 3) := zd zm_4045 (by decide +kernel)
theorem d_4045_91 {σ : Nat → Nat} {n0 : Nat} {bf : ab_B} : decode (ab_code (zx σ n0 bf).1 4045) 91 = .ok (.aload_n 0, 1) := zd zm_4045 (by decide +kernel)
theorem d_4045_92 {σ : Nat → Nat} {n0 : Nat} {bf : ab_B} : decode (ab_code (zx σ n0 bf).1 4045) 92 = .ok (.getfield 5, 3) := zd zm_4045 (by decide +kernel)
theorem d_4045_95 {σ : Nat → Nat} {n0 : Nat} {bf : ab_B} : decode (ab_code (zx σ n0 bf).1 4045) 95 = .ok (.invokevirtual 29, 3) := zd zm_4045 (by decide +kernel)
theorem d_4045_98 {σ : Nat → Nat} {n0 : Nat} {bf : ab_B} : decode (ab_code (zx σ n0 bf).1 4045) 98 = .ok (.aload_n 0, 1) := zd zm_4045 (by decide +kernel)
theorem d_4045_99 {σ : Nat → Nat} {n0 : Nat} {bf : ab_B} : decode (ab_code (zx σ n0 bf).1 4045) 99 = .ok (.invokevirtual 569, 3) := zd zm_4045 (by decide +kernel)
theorem d_4045_102 {σ : Nat → Nat} {n0 : Nat} {bf : ab_B} : decode (ab_code (zx σ n0 bf).1 4045) 102 = .ok (.astore 7, 2) := zd zm_4045 (by decide +kernel)
theorem d_4045_104 {σ : Nat → Nat} {n0 : Nat} {bf : ab_B} : decode (ab_code (zx σ n0 bf).1 4045) 104 = .ok (.aload_n 0, 1) := zd zm_4045 (by decide +kernel)
theorem d_4045_105 {σ : Nat → Nat} {n0 : Nat} {bf : ab_B} : decode (ab_code (zx σ n0 bf).1 4045) 105 = .ok (.iload_n 1, 1) := zd zm_4045 (by decide +kernel)
theorem d_4045_106 {σ : Nat → Nat} {n0 : Nat} {bf : ab_B} : decode (ab_code (zx σ n0 bf).1 4045) 106 = .ok (.iload 6, 2) := zd zm_4045 (by decide +kernel)
theorem d_4045_108 {σ : Nat → Nat} {n0 : Nat} {bf : ab_B} : decode (ab_code (zx σ n0 bf).1 4045) 108 = .ok (.aload 7, 2) := zd zm_4045 (by decide +kernel)
theorem d_4045_110 {σ : Nat → Nat} {n0 : Nat} {bf : ab_B} : decode (ab_code (zx σ n0 bf).1 4045) 110 = .ok (.getfield 297, 3) := zd zm_4045 (by decide +kernel)
theorem d_4045_113 {σ : Nat → Nat} {n0 : Nat} {bf : ab_B} : decode (ab_code (zx σ n0 bf).1 4045) 113 = .ok (.invokevirtual 705, 3) := zd zm_4045 (by decide +kernel)
theorem d_4045_116 {σ : Nat → Nat} {n0 : Nat} {bf : ab_B} : decode (ab_code (zx σ n0 bf).1 4045) 116 = .ok (.ifCond .ne 9, 3) := zd zm_4045 (by decide +kernel)
theorem d_4045_119 {σ : Nat → Nat} {n0 : Nat} {bf : ab_B} : decode (ab_code (zx σ n0 bf).1 4045) 119 = .ok (.aload_n 0, 1) := zd zm_4045 (by decide +kernel)
theorem d_4045_120 {σ : Nat → Nat} {n0 : Nat} {bf : ab_B} : decode (ab_code (zx σ n0 bf).1 4045) 120 = .ok (.iconst 5, 1) := zd zm_4045 (by decide +kernel)
theorem d_4045_121 {σ : Nat → Nat} {n0 : Nat} {bf : ab_B} : decode (ab_code (zx σ n0 bf).1 4045) 121 = .ok (.invokevirtual 25, 3) := zd zm_4045 (by decide +kernel)
theorem d_4045_124 {σ : Nat → Nat} {n0 : Nat} {bf : ab_B} : decode (ab_code (zx σ n0 bf).1 4045) 124 = .ok (.athrow, 1) := zd zm_4045 (by decide +kernel)
theorem d_4045_125 {σ : Nat → Nat} {n0 : Nat} {bf : ab_B} : decode (ab_code (zx σ n0 bf).1 4045) 125 = .ok (.iload 6, 2) := zd zm_4045 (by decide +kernel)
theorem d_4045_127 {σ : Nat → Nat} {n0 : Nat} {bf : ab_B} : decode (ab_code (zx σ n0 bf).1 4045) 127 = .ok (.ifCond .ne 12, 3) := zd zm_4045 (by decide +kernel)
theorem d_4045_130 {σ : Nat → Nat} {n0 : Nat} {bf : ab_B} : decode (ab_code (zx σ n0 bf).1 4045) 130 = .ok (.aload_n 3, 1) := zd zm_4045 (by decide +kernel)
theorem d_4045_131 {σ : Nat → Nat} {n0 : Nat} {bf : ab_B} : decode (ab_code (zx σ n0 bf).1 4045) 131 = .ok (.aload 7, 2) := zd zm_4045 (by decide +kernel)
theorem d_4045_133 {σ : Nat → Nat} {n0 : Nat} {bf : ab_B} : decode (ab_code (zx σ n0 bf).1 4045) 133 = .ok (.putfield 539, 3) := zd zm_4045 (by decide +kernel)
theorem d_4045_136 {σ : Nat → Nat} {n0 : Nat} {bf : ab_B} : decode (ab_code (zx σ n0 bf).1 4045) 136 = .ok (.goto 10, 3) := zd zm_4045 (by decide +kernel)
theorem d_4045_139 {σ : Nat → Nat} {n0 : Nat} {bf : ab_B} : decode (ab_code (zx σ n0 bf).1 4045) 139 = .ok (.aload 5, 2) := zd zm_4045 (by decide +kernel)
theorem d_4045_141 {σ : Nat → Nat} {n0 : Nat} {bf : ab_B} : decode (ab_code (zx σ n0 bf).1 4045) 141 = .ok (.aload 7, 2) := zd zm_4045 (by decide +kernel)
theorem d_4045_143 {σ : Nat → Nat} {n0 : Nat} {bf : ab_B} : decode (ab_code (zx σ n0 bf).1 4045) 143 = .ok (.putfield 487, 3) := zd zm_4045 (by decide +kernel)
theorem d_4045_146 {σ : Nat → Nat} {n0 : Nat} {bf : ab_B} : decode (ab_code (zx σ n0 bf).1 4045) 146 = .ok (.aload 7, 2) := zd zm_4045 (by decide +kernel)
theorem d_4045_148 {σ : Nat → Nat} {n0 : Nat} {bf : ab_B} : decode (ab_code (zx σ n0 bf).1 4045) 148 = .ok (.astore 5, 2) := zd zm_4045 (by decide +kernel)
theorem d_4045_150 {σ : Nat → Nat} {n0 : Nat} {bf : ab_B} : decode (ab_code (zx σ n0 bf).1 4045) 150 = .ok (.aload_n 0, 1) := zd zm_4045 (by decide +kernel)
theorem d_4045_151 {σ : Nat → Nat} {n0 : Nat} {bf : ab_B} : decode (ab_code (zx σ n0 bf).1 4045) 151 = .ok (.getfield 5, 3) := zd zm_4045 (by decide +kernel)
theorem d_4045_154 {σ : Nat → Nat} {n0 : Nat} {bf : ab_B} : decode (ab_code (zx σ n0 bf).1 4045) 154 = .ok (.iload 6, 2) := zd zm_4045 (by decide +kernel)
theorem d_4045_156 {σ : Nat → Nat} {n0 : Nat} {bf : ab_B} : decode (ab_code (zx σ n0 bf).1 4045) 156 = .ok (.iconst 1, 1) := zd zm_4045 (by decide +kernel)
theorem d_4045_157 {σ : Nat → Nat} {n0 : Nat} {bf : ab_B} : decode (ab_code (zx σ n0 bf).1 4045) 157 = .ok (.iadd, 1) := zd zm_4045 (by decide +kernel)
theorem d_4045_158 {σ : Nat → Nat} {n0 : Nat} {bf : ab_B} : decode (ab_code (zx σ n0 bf).1 4045) 158 = .ok (.iload 4, 2) := zd zm_4045 (by decide +kernel)
theorem d_4045_160 {σ : Nat → Nat} {n0 : Nat} {bf : ab_B} : decode (ab_code (zx σ n0 bf).1 4045) 160 = .ok (.if_icmp .ne 8, 3) := zd zm_4045 (by decide +kernel)
theorem d_4045_163 {σ : Nat → Nat} {n0 : Nat} {bf : ab_B} : decode (ab_code (zx σ n0 bf).1 4045) 163 = .ok (.bipush 41, 2) := zd zm_4045 (by decide +kernel)
theorem d_4045_165 {σ : Nat → Nat} {n0 : Nat} {bf : ab_B} : decode (ab_code (zx σ n0 bf).1 4045) 165 = .ok (.goto 5, 3) := zd zm_4045 (by decide +kernel)
theorem d_4045_168 {σ : Nat → Nat} {n0 : Nat} {bf : ab_B} : decode (ab_code (zx σ n0 bf).1 4045) 168 = .ok (.bipush 44, 2) := zd zm_4045 (by decide +kernel)
theorem d_4045_170 {σ : Nat → Nat} {n0 : Nat} {bf : ab_B} : decode (ab_code (zx σ n0 bf).1 4045) 170 = .ok (.invokevirtual 21, 3) := zd zm_4045 (by decide +kernel)
theorem d_4045_173 {σ : Nat → Nat} {n0 : Nat} {bf : ab_B} : decode (ab_code (zx σ n0 bf).1 4045) 173 = .ok (.ifCond .ne 37, 3) := zd zm_4045 (by decide +kernel)
theorem d_4045_176 {σ : Nat → Nat} {n0 : Nat} {bf : ab_B} : decode (ab_code (zx σ n0 bf).1 4045) 176 = .ok (.aload_n 0, 1) := zd zm_4045 (by decide +kernel)
theorem d_4045_177 {σ : Nat → Nat} {n0 : Nat} {bf : ab_B} : decode (ab_code (zx σ n0 bf).1 4045) 177 = .ok (.aload_n 0, 1) := zd zm_4045 (by decide +kernel)
theorem d_4045_178 {σ : Nat → Nat} {n0 : Nat} {bf : ab_B} : decode (ab_code (zx σ n0 bf).1 4045) 178 = .ok (.getfield 5, 3) := zd zm_4045 (by decide +kernel)
theorem d_4045_181 {σ : Nat → Nat} {n0 : Nat} {bf : ab_B} : decode (ab_code (zx σ n0 bf).1 4045) 181 = .ok (.bipush 44, 2) := zd zm_4045 (by decide +kernel)
theorem d_4045_183 {σ : Nat → Nat} {n0 : Nat} {bf : ab_B} : decode (ab_code (zx σ n0 bf).1 4045) 183 = .ok (.invokevirtual 21, 3) := zd zm_4045 (by decide +kernel)
theorem d_4045_186 {σ : Nat → Nat} {n0 : Nat} {bf : ab_B} : decode (ab_code (zx σ n0 bf).1 4045) 186 = .ok (.ifCond .ne 15, 3) := zd zm_4045 (by decide +kernel)
theorem d_4045_189 {σ : Nat → Nat} {n0 : Nat} {bf : ab_B} : decode (ab_code (zx σ n0 bf).1 4045) 189 = .ok (.aload_n 0, 1) := zd zm_4045 (by decide +kernel)
theorem d_4045_190 {σ : Nat → Nat} {n0 : Nat} {bf : ab_B} : decode (ab_code (zx σ n0 bf).1 4045) 190 = .ok (.getfield 5, 3) := zd zm_4045 (by decide +kernel)
theorem d_4045_193 {σ : Nat → Nat} {n0 : Nat} {bf : ab_B} : decode (ab_code (zx σ n0 bf).1 4045) 193 = .ok (.bipush 41, 2) := zd zm_4045 (by decide +kernel)
theorem d_4045_195 {σ : Nat → Nat} {n0 : Nat} {bf : ab_B} : decode (ab_code (zx σ n0 bf).1 4045) 195 = .ok (.invokevirtual 21, 3) := zd zm_4045 (by decide +kernel)
theorem d_4045_198 {σ : Nat → Nat} {n0 : Nat} {bf : ab_B} : decode (ab_code (zx σ n0 bf).1 4045) 198 = .ok (.ifCond .eq 7, 3) := zd zm_4045 (by decide +kernel)
theorem d_4045_201 {σ : Nat → Nat} {n0 : Nat} {bf : ab_B} : decode (ab_code (zx σ n0 bf).1 4045) 201 = .ok (.iconst 5, 1) := zd zm_4045 (by decide +kernel)
theorem d_4045_202 {σ : Nat → Nat} {n0 : Nat} {bf : ab_B} : decode (ab_code (zx σ n0 bf).1 4045) 202 = .ok (.goto 4, 3) := zd zm_4045 (by decide +kernel)
theorem d_4045_205 {σ : Nat → Nat} {n0 : Nat} {bf : ab_B} : decode (ab_code (zx σ n0 bf).1 4045) 205 = .ok (.iconst 2, 1) := zd zm_4045 (by decide +kernel)
theorem d_4045_206 {σ : Nat → Nat} {n0 : Nat} {bf : ab_B} : decode (ab_code (zx σ n0 bf).1 4045) 206 = .ok (.invokevirtual 25, 3) := zd zm_4045 (by decide +kernel)
theorem d_4045_209 {σ : Nat → Nat} {n0 : Nat} {bf : ab_B} : decode (ab_code (zx σ n0 bf).1 4045) 209 = .ok (.athrow, 1) := zd zm_4045 (by decide +kernel)
theorem d_4045_210 {σ : Nat → Nat} {n0 : Nat} {bf : ab_B} : decode (ab_code (zx σ n0 bf).1 4045) 210 = .ok (.iinc 6 1, 3) := zd zm_4045 (by decide +kernel)
theorem d_4045_213 {σ : Nat → Nat} {n0 : Nat} {bf : ab_B} : decode (ab_code (zx σ n0 bf).1 4045) 213 = .ok (.goto (-129), 3) := zd zm_4045 (by decide +kernel)
theorem d_4045_216 {σ : Nat → Nat} {n0 : Nat} {bf : ab_B} : decode (ab_code (zx σ n0 bf).1 4045) 216 = .ok (.aload_n 0, 1) := zd zm_4045 (by decide +kernel)
theorem d_4045_217 {σ : Nat → Nat} {n0 : Nat} {bf : ab_B} : decode (ab_code (zx σ n0 bf).1 4045) 217 = .ok (.getfield 5, 3) := zd zm_4045 (by decide +kernel)
theorem d_4045_220 {σ : Nat → Nat} {n0 : Nat} {bf : ab_B} : decode (ab_code (zx σ n0 bf).1 4045) 220 = .ok (.invokevirtual 29, 3) := zd zm_4045 (by decide +kernel)
theorem d_4045_223 {σ : Nat → Nat} {n0 : Nat} {bf : ab_B} : decode (ab_code (zx σ n0 bf).1 4045) 223 = .ok (.aload_n 0, 1) := zd zm_4045 (by decide +kernel)
theorem d_4045_224 {σ : Nat → Nat} {n0 : Nat} {bf : ab_B} : decode (ab_code (zx σ n0 bf).1 4045) 224 = .ok (.dup, 1) := zd zm_4045 (by decide +kernel)
theorem d_4045_225 {σ : Nat → Nat} {n0 : Nat} {bf : ab_B} : decode (ab_code (zx σ n0 bf).1 4045) 225 = .ok (.getfield 43, 3) := zd zm_4045 (by decide +kernel)
theorem d_4045_228 {σ : Nat → Nat} {n0 : Nat} {bf : ab_B} : decode (ab_code (zx σ n0 bf).1 4045) 228 = .ok (.iconst 1, 1) := zd zm_4045 (by decide +kernel)
theorem d_4045_229 {σ : Nat → Nat} {n0 : Nat} {bf : ab_B} : decode (ab_code (zx σ n0 bf).1 4045) 229 = .ok (.isub, 1) := zd zm_4045 (by decide +kernel)
theorem d_4045_230 {σ : Nat → Nat} {n0 : Nat} {bf : ab_B} : decode (ab_code (zx σ n0 bf).1 4045) 230 = .ok (.putfield 43, 3) := zd zm_4045 (by decide +kernel)
theorem d_4045_233 {σ : Nat → Nat} {n0 : Nat} {bf : ab_B} : decode (ab_code (zx σ n0 bf).1 4045) 233 = .ok (.aload_n 3, 1) := zd zm_4045 (by decide +kernel)
theorem d_4045_234 {σ : Nat → Nat} {n0 : Nat} {bf : ab_B} : decode (ab_code (zx σ n0 bf).1 4045) 234 = .ok (.iload_n 1, 1) := zd zm_4045 (by decide +kernel)
theorem d_4045_235 {σ : Nat → Nat} {n0 : Nat} {bf : ab_B} : decode (ab_code (zx σ n0 bf).1 4045) 235 = .ok (.bipush 8, 2) := zd zm_4045 (by decide +kernel)
theorem d_4045_237 {σ : Nat → Nat} {n0 : Nat} {bf : ab_B} : decode (ab_code (zx σ n0 bf).1 4045) 237 = .ok (.if_icmp .ne 10, 3) := zd zm_4045 (by decide +kernel)
theorem d_4045_240 {σ : Nat → Nat} {n0 : Nat} {bf : ab_B} : decode (ab_code (zx σ n0 bf).1 4045) 240 = .ok (.aload_n 0, 1) := zd zm_4045 (by decide +kernel)
theorem d_4045_241 {σ : Nat → Nat} {n0 : Nat} {bf : ab_B} : decode (ab_code (zx σ n0 bf).1 4045) 241 = .ok (.getfield 150, 3) := zd zm_4045 (by decide +kernel)
theorem d_4045_244 {σ : Nat → Nat} {n0 : Nat} {bf : ab_B} : decode (ab_code (zx σ n0 bf).1 4045) 244 = .ok (.goto 58, 3) := zd zm_4045 (by decide +kernel)
theorem d_4045_247 {σ : Nat → Nat} {n0 : Nat} {bf : ab_B} : decode (ab_code (zx σ n0 bf).1 4045) 247 = .ok (.iload_n 1, 1) := zd zm_4045 (by decide +kernel)
theorem d_4045_248 {σ : Nat → Nat} {n0 : Nat} {bf : ab_B} : decode (ab_code (zx σ n0 bf).1 4045) 248 = .ok (.bipush 10, 2) := zd zm_4045 (by decide +kernel)
theorem d_4045_250 {σ : Nat → Nat} {n0 : Nat} {bf : ab_B} : decode (ab_code (zx σ n0 bf).1 4045) 250 = .ok (.if_icmp .ne 10, 3) := zd zm_4045 (by decide +kernel)
theorem d_4045_253 {σ : Nat → Nat} {n0 : Nat} {bf : ab_B} : decode (ab_code (zx σ n0 bf).1 4045) 253 = .ok (.aload_n 0, 1) := zd zm_4045 (by decide +kernel)
theorem d_4045_254 {σ : Nat → Nat} {n0 : Nat} {bf : ab_B} : decode (ab_code (zx σ n0 bf).1 4045) 254 = .ok (.getfield 153, 3) := zd zm_4045 (by decide +kernel)
theorem d_4045_257 {σ : Nat → Nat} {n0 : Nat} {bf : ab_B} : decode (ab_code (zx σ n0 bf).1 4045) 257 = .ok (.goto 45, 3) := zd zm_4045 (by decide +kernel)
theorem d_4045_260 {σ : Nat → Nat} {n0 : Nat} {bf : ab_B} : decode (ab_code (zx σ n0 bf).1 4045) 260 = .ok (.iload_n 1, 1) := zd zm_4045 (by decide +kernel)
theorem d_4045_261 {σ : Nat → Nat} {n0 : Nat} {bf : ab_B} : decode (ab_code (zx σ n0 bf).1 4045) 261 = .ok (.bipush 11, 2) := zd zm_4045 (by decide +kernel)
theorem d_4045_263 {σ : Nat → Nat} {n0 : Nat} {bf : ab_B} : decode (ab_code (zx σ n0 bf).1 4045) 263 = .ok (.if_icmp .eq 9, 3) := zd zm_4045 (by decide +kernel)
theorem d_4045_266 {σ : Nat → Nat} {n0 : Nat} {bf : ab_B} : decode (ab_code (zx σ n0 bf).1 4045) 266 = .ok (.iload_n 1, 1) := zd zm_4045 (by decide +kernel)
theorem d_4045_267 {σ : Nat → Nat} {n0 : Nat} {bf : ab_B} : decode (ab_code (zx σ n0 bf).1 4045) 267 = .ok (.bipush 12, 2) := zd zm_4045 (by decide +kernel)
theorem d_4045_269 {σ : Nat → Nat} {n0 : Nat} {bf : ab_B} : decode (ab_code (zx σ n0 bf).1 4045) 269 = .ok (.if_icmp .ne 16, 3) := zd zm_4045 (by decide +kernel)
theorem d_4045_272 {σ : Nat → Nat} {n0 : Nat} {bf : ab_B} : decode (ab_code (zx σ n0 bf).1 4045) 272 = .ok (.aload_n 3, 1) := zd zm_4045 (by decide +kernel)
theorem d_4045_273 {σ : Nat → Nat} {n0 : Nat} {bf : ab_B} : decode (ab_code (zx σ n0 bf).1 4045) 273 = .ok (.getfield 539, 3) := zd zm_4045 (by decide +kernel)
theorem d_4045_276 {σ : Nat → Nat} {n0 : Nat} {bf : ab_B} : decode (ab_code (zx σ n0 bf).1 4045) 276 = .ok (.getfield 297, 3) := zd zm_4045 (by decide +kernel)
theorem d_4045_279 {σ : Nat → Nat} {n0 : Nat} {bf : ab_B} : decode (ab_code (zx σ n0 bf).1 4045) 279 = .ok (.invokevirtual 450, 3) := zd zm_4045 (by decide +kernel)
theorem d_4045_282 {σ : Nat → Nat} {n0 : Nat} {bf : ab_B} : decode (ab_code (zx σ n0 bf).1 4045) 282 = .ok (.goto 20, 3) := zd zm_4045 (by decide +kernel)
theorem d_4045_285 {σ : Nat → Nat} {n0 : Nat} {bf : ab_B} : decode (ab_code (zx σ n0 bf).1 4045) 285 = .ok (.iload_n 1, 1) := zd zm_4045 (by decide +kernel)
theorem d_4045_286 {σ : Nat → Nat} {n0 : Nat} {bf : ab_B} : decode (ab_code (zx σ n0 bf).1 4045) 286 = .ok (.bipush 16, 2) := zd zm_4045 (by decide +kernel)
theorem d_4045_288 {σ : Nat → Nat} {n0 : Nat} {bf : ab_B} : decode (ab_code (zx σ n0 bf).1 4045) 288 = .ok (.if_icmp .ne 10, 3) := zd zm_4045 (by decide +kernel)
theorem d_4045_291 {σ : Nat → Nat} {n0 : Nat} {bf : ab_B} : decode (ab_code (zx σ n0 bf).1 4045) 291 = .ok (.aload_n 0, 1) := zd zm_4045 (by decide +kernel)
theorem d_4045_292 {σ : Nat → Nat} {n0 : Nat} {bf : ab_B} : decode (ab_code (zx σ n0 bf).1 4045) 292 = .ok (.getfield 156, 3) := zd zm_4045 (by decide +kernel)
theorem d_4045_295 {σ : Nat → Nat} {n0 : Nat} {bf : ab_B} : decode (ab_code (zx σ n0 bf).1 4045) 295 = .ok (.goto 7, 3) := zd zm_4045 (by decide +kernel)
theorem d_4045_298 {σ : Nat → Nat} {n0 : Nat} {bf : ab_B} : decode (ab_code (zx σ n0 bf).1 4045) 298 = .ok (.aload_n 0, 1) := zd zm_4045 (by decide +kernel)
theorem d_4045_299 {σ : Nat → Nat} {n0 : Nat} {bf : ab_B} : decode (ab_code (zx σ n0 bf).1 4045) 299 = .ok (.getfield 147, 3) := zd zm_4045 (by decide +kernel)
theorem d_4045_302 {σ : Nat → Nat} {n0 : Nat} {bf : ab_B} : decode (ab_code (zx σ n0 bf).1 4045) 302 = .ok (.putfield 297, 3) := zd zm_4045 (by decide +kernel)
theorem d_4045_305 {σ : Nat → Nat} {n0 : Nat} {bf : ab_B} : decode (ab_code (zx σ n0 bf).1 4045) 305 = .ok (.aload_n 3, 1) := zd zm_4045 (by decide +kernel)
theorem d_4045_306 {σ : Nat → Nat} {n0 : Nat} {bf : ab_B} : decode (ab_code (zx σ n0 bf).1 4045) 306 = .ok (.areturn, 1) := zd zm_4045 (by decide +kernel)
def w_X5_known_31 (X : zs_X) (d : Nat) (p3 : Option Nat) (S : zs_T) (Q : zs_Q) : Prop :=
  (Q (.returned (some (va_rf p3))) S)
theorem u_X5_known_31 {σ : Nat → Nat} {n0 : Nat} {bf : ab_B} {d : Nat} {p3 : Option Nat} {S : zs_T} {Q : zs_Q} (hB : zt_B bf) (h : w_X5_known_31 (zx σ n0 bf) d p3 S Q) : zs_U (zx σ n0 bf) d 4045 31 [(3, va_rf p3)] [] S Q := by
  unfold w_X5_known_31 at h
  refine zu_aload_n d_4045_31 rfl (zs_rr _) ?_
  exact zu_aret d_4045_32 zr_4045 (zs_rr _) h
def w_X5_known_54 (X : zs_X) (d : Nat) (p0 : Nat) (p1 : Int32) (p3 : Option Nat) (q0 : Int32) (S : zs_T) (Q : zs_Q) : Prop :=
  (zs_K S p0 = some (.inl 4) ∧ ∃ b2, (zs_R S 4000 p0) = some b2 ∧ zs_K S b2 = some (.inl 5) ∧ zs_C X d 5017 [.ref b2, .int (40 : Int32)] S (zs_kI (fun v6 S5 => (((¬ v6 = 0 → (zs_K S5 p0 = some (.inl 4) ∧ zs_C X d 4021 [.ref p0] S5 (zs_kV (fun S9 => (zs_U X d 4045 84 [(0, .ref p0), (1, .int p1), (3, va_rf p3), (4, .int q0), (5, va_rf none), (6, .int (0 : Int32))] [] S9 Q)) Q))) ∧ (¬ (¬ v6 = 0) → (zs_K S5 p0 = some (.inl 4) ∧ zs_C X d 4006 [.ref p0, .int (5 : Int32)] S5 (zs_kR (fun v13 S12 => (∃ b14, v13 = some b14 ∧ Q (.threw b14) S12)) Q)))))) Q))
theorem u_X5_known_54 {σ : Nat → Nat} {n0 : Nat} {bf : ab_B} {d : Nat} {p0 : Nat} {p1 : Int32} {p3 : Option Nat} {q0 : Int32} {S : zs_T} {Q : zs_Q} (hB : zt_B bf) (h : w_X5_known_54 (zx σ n0 bf) d p0 p1 p3 q0 S Q) : zs_U (zx σ n0 bf) d 4045 54 [(0, .ref p0), (1, .int p1), (3, va_rf p3)] [.int q0] S Q := by
  unfold w_X5_known_54 at h
  refine zu_istore d_4045_54 (zs_lt zq_4045 rfl) ?_
  refine zs_U.weak (L1 := [(4, .int q0), (0, .ref p0), (1, .int p1), (3, va_rf p3)]) ?_ ⟨rfl, zs_gp1 rfl (Or.inl rfl) rfl, zs_gp1 rfl (Or.inl rfl) rfl, zs_gp1 rfl (Or.inl (zs_cat _)) rfl, trivial⟩
  refine zu_aload_n d_4045_56 rfl (zs_ra _) ?_
  obtain ⟨k1, h⟩ := h
  refine zg_4_5 rfl d_4045_57 k1 ?_
  refine zu_bipush d_4045_60 zj_40 ?_
  obtain ⟨b2, e3, h⟩ := h
  refine zs_stk1 (zs_rfe e3) ?_
  obtain ⟨k4, h⟩ := h
  refine zc_4_21 (x0 := (40 : Int32)) hB rfl k4 d_4045_62 (Nat.le_of_ble_eq_true rfl) h (fun v6 S5 h => ?_)
  refine zu_ifne (t := 74) d_4045_65 rfl (fun c7 => ?_) (fun c7 => ?_)
  · have h := h.1 c7
    refine zu_aload_n d_4045_74 rfl (zs_ra _) ?_
    obtain ⟨k8, h⟩ := h
    refine zc_4_357  hB rfl k8 d_4045_75 (Nat.le_of_ble_eq_true rfl) h (fun S9 h => ?_)
    refine zu_stk d_4045_78 rfl rfl ?_
    refine zu_astore d_4045_79 zs_r0 (zs_lt zq_4045 rfl) ?_
    refine zu_iconst d_4045_81 zi_0 ?_
    refine zu_istore d_4045_82 (zs_lt zq_4045 rfl) ?_
    exact h.weak ⟨rfl, rfl, rfl, rfl, rfl, rfl, trivial⟩
  · have h := h.2 c7
    refine zu_aload_n d_4045_68 rfl (zs_ra _) ?_
    refine zu_iconst d_4045_69 zi_5 ?_
    obtain ⟨k11, h⟩ := h
    refine zc_4_25 (x0 := (5 : Int32)) hB rfl k11 d_4045_70 (Nat.le_of_ble_eq_true rfl) h (fun v13 S12 h => ?_)
    obtain ⟨b14, e15, h⟩ := h
    refine zs_stk0 (zs_rfe e15) ?_
    exact zu_throw d_4045_73 h
def w_X5_known_39 (X : zs_X) (d : Nat) (p0 : Nat) (p1 : Int32) (p3 : Option Nat) (S : zs_T) (Q : zs_Q) : Prop :=
  (w_X5_known_54 X d p0 p1 p3 (2 : Int32) S Q)
theorem u_X5_known_39 {σ : Nat → Nat} {n0 : Nat} {bf : ab_B} {d : Nat} {p0 : Nat} {p1 : Int32} {p3 : Option Nat} {S : zs_T} {Q : zs_Q} (hB : zt_B bf) (h : w_X5_known_39 (zx σ n0 bf) d p0 p1 p3 S Q) : zs_U (zx σ n0 bf) d 4045 39 [(0, .ref p0), (1, .int p1), (3, va_rf p3)] [] S Q := by
  unfold w_X5_known_39 at h
  refine zu_iconst d_4045_39 zi_2 ?_
  refine zu_goto (t := 54) d_4045_40 rfl ?_
  exact (u_X5_known_54 hB h).weak ⟨rfl, rfl, rfl, trivial⟩
def w_X5_known_43 (X : zs_X) (d : Nat) (p0 : Nat) (p1 : Int32) (p3 : Option Nat) (S : zs_T) (Q : zs_Q) : Prop :=
  (((¬ p1 = (16 : Int32) → (w_X5_known_54 X d p0 p1 p3 (1 : Int32) S Q)) ∧ (¬ (¬ p1 = (16 : Int32)) → (w_X5_known_54 X d p0 p1 p3 (3 : Int32) S Q))))
theorem u_X5_known_43 {σ : Nat → Nat} {n0 : Nat} {bf : ab_B} {d : Nat} {p0 : Nat} {p1 : Int32} {p3 : Option Nat} {S : zs_T} {Q : zs_Q} (hB : zt_B bf) (h : w_X5_known_43 (zx σ n0 bf) d p0 p1 p3 S Q) : zs_U (zx σ n0 bf) d 4045 43 [(0, .ref p0), (1, .int p1), (3, va_rf p3)] [] S Q := by
  unfold w_X5_known_43 at h
  refine zu_iload_n d_4045_43 rfl ?_
  refine zu_bipush d_4045_44 zj_16 ?_
  refine zu_cmpne (t := 53) d_4045_46 rfl (fun c1 => ?_) (fun c1 => ?_)
  · have h := h.1 c1
    refine zu_iconst d_4045_53 zi_1 ?_
    exact (u_X5_known_54 hB h).weak ⟨rfl, rfl, rfl, trivial⟩
  · have h := h.2 c1
    refine zu_iconst d_4045_49 zi_3 ?_
    refine zu_goto (t := 54) d_4045_50 rfl ?_
    exact (u_X5_known_54 hB h).weak ⟨rfl, rfl, rfl, trivial⟩
def w_X5_known_305 (X : zs_X) (d : Nat) (p3 : Option Nat) (S : zs_T) (Q : zs_Q) : Prop :=
  (Q (.returned (some (va_rf p3))) S)
theorem u_X5_known_305 {σ : Nat → Nat} {n0 : Nat} {bf : ab_B} {d : Nat} {p3 : Option Nat} {S : zs_T} {Q : zs_Q} (hB : zt_B bf) (h : w_X5_known_305 (zx σ n0 bf) d p3 S Q) : zs_U (zx σ n0 bf) d 4045 305 [(3, va_rf p3)] [] S Q := by
  unfold w_X5_known_305 at h
  refine zu_aload_n d_4045_305 rfl (zs_rr _) ?_
  exact zu_aret d_4045_306 zr_4045 (zs_rr _) h
def w_X5_known_272 (X : zs_X) (d : Nat) (p3 : Option Nat) (q0 : Option Nat) (S : zs_T) (Q : zs_Q) : Prop :=
  (∃ b1, p3 = some b1 ∧ zs_K S b1 = some (.inl 11) ∧ ∃ b4, (zs_R S 11005 b1) = some b4 ∧ zs_K S b4 = some (.inl 11) ∧ ∃ b7, (zs_R S 11002 b4) = some b7 ∧ zs_K S b7 = some (.inl 6) ∧ zs_C X d 6001 [.ref b7] S (zs_kR (fun v11 S10 => (∃ b12, q0 = some b12 ∧ zs_K S10 b12 = some (.inl 11) ∧ ab_n0 X.1 ≤ b12 ∧ ∀ S16, S16 = zs_sR S10 11002 b12 v11 → w_X5_known_305 X d p3 S16 Q)) Q))
theorem u_X5_known_272 {σ : Nat → Nat} {n0 : Nat} {bf : ab_B} {d : Nat} {p3 : Option Nat} {q0 : Option Nat} {S : zs_T} {Q : zs_Q} (hB : zt_B bf) (h : w_X5_known_272 (zx σ n0 bf) d p3 q0 S Q) : zs_U (zx σ n0 bf) d 4045 272 [(3, va_rf p3)] [va_rf q0] S Q := by
  unfold w_X5_known_272 at h
  refine zu_aload_n d_4045_272 rfl (zs_rr _) ?_
  obtain ⟨b1, e2, h⟩ := h
  refine zs_stk0 (zs_rfe e2) ?_
  obtain ⟨k3, h⟩ := h
  refine zg_4_539 rfl d_4045_273 k3 ?_
  obtain ⟨b4, e5, h⟩ := h
  refine zs_stk0 (zs_rfe e5) ?_
  obtain ⟨k6, h⟩ := h
  refine zg_4_297 rfl d_4045_276 k6 ?_
  obtain ⟨b7, e8, h⟩ := h
  refine zs_stk0 (zs_rfe e8) ?_
  obtain ⟨k9, h⟩ := h
  refine zc_4_450  hB rfl k9 d_4045_279 (by simp only [List.map_cons, List.map_nil, List.sum_cons, List.sum_nil, zs_cat, zs_cI, zs_cJ, zs_cA]; exact Nat.le_of_ble_eq_true rfl) h (fun v11 S10 h => ?_)
  refine zu_goto (t := 302) d_4045_282 rfl ?_
  obtain ⟨b12, e13, h⟩ := h
  refine zs_stk1 (zs_rfe e13) ?_
  obtain ⟨k14, h⟩ := h
  obtain ⟨k15, h⟩ := h
  refine zp_4_297 (v := v11) rfl d_4045_302 k14 k15 ?_
  generalize e17 : zs_sR S10 11002 b12 v11 = S16
  have h := h S16 e17.symm
  have K18 : ∀ b, zs_K S16 b = zs_K S10 b := zs_Kt e17 (zs_KsR _ _ _ _) (fun _ => rfl)
  exact (u_X5_known_305 hB h).weak ⟨rfl, trivial⟩
def w_X5_known_206 (X : zs_X) (d : Nat) (q0 : Option Nat) (q1 : Int32) (S : zs_T) (Q : zs_Q) : Prop :=
  (∃ b1, q0 = some b1 ∧ zs_K S b1 = some (.inl 4) ∧ zs_C X d 4006 [.ref b1, .int q1] S (zs_kR (fun v5 S4 => (∃ b6, v5 = some b6 ∧ Q (.threw b6) S4)) Q))
theorem u_X5_known_206 {σ : Nat → Nat} {n0 : Nat} {bf : ab_B} {d : Nat} {q0 : Option Nat} {q1 : Int32} {S : zs_T} {Q : zs_Q} (hB : zt_B bf) (h : w_X5_known_206 (zx σ n0 bf) d q0 q1 S Q) : zs_U (zx σ n0 bf) d 4045 206 [] [.int q1, va_rf q0] S Q := by
  unfold w_X5_known_206 at h
  obtain ⟨b1, e2, h⟩ := h
  refine zs_stk1 (zs_rfe e2) ?_
  obtain ⟨k3, h⟩ := h
  refine zc_4_25 (x0 := q1) hB rfl k3 d_4045_206 (Nat.le_of_ble_eq_true rfl) h (fun v5 S4 h => ?_)
  obtain ⟨b6, e7, h⟩ := h
  refine zs_stk0 (zs_rfe e7) ?_
  exact zu_throw d_4045_209 h
def w_X5_known_201 (X : zs_X) (d : Nat) (q0 : Option Nat) (S : zs_T) (Q : zs_Q) : Prop :=
  (w_X5_known_206 X d q0 (5 : Int32) S Q)
theorem u_X5_known_201 {σ : Nat → Nat} {n0 : Nat} {bf : ab_B} {d : Nat} {q0 : Option Nat} {S : zs_T} {Q : zs_Q} (hB : zt_B bf) (h : w_X5_known_201 (zx σ n0 bf) d q0 S Q) : zs_U (zx σ n0 bf) d 4045 201 [] [va_rf q0] S Q := by
  unfold w_X5_known_201 at h
  refine zu_iconst d_4045_201 zi_5 ?_
  refine zu_goto (t := 206) d_4045_202 rfl ?_
  exact (u_X5_known_206 hB h).weak trivial
def w_X5_known_170 (X : zs_X) (d : Nat) (p0 : Nat) (p1 : Int32) (p3 : Option Nat) (p4 : Int32) (p5 : Option Nat) (p6 : Int32) (q0 : Option Nat) (q1 : Int32) (S : zs_T) (Q : zs_Q) : Prop :=
  (∃ b1, q0 = some b1 ∧ zs_K S b1 = some (.inl 5) ∧ zs_C X d 5017 [.ref b1, .int q1] S (zs_kI (fun v5 S4 => (((¬ v5 = 0 → (zs_U X d 4045 84 [(0, .ref p0), (1, .int p1), (3, va_rf p3), (4, .int p4), (5, va_rf p5), (6, .int (p6 + (1 : Int32)))] [] S4 Q)) ∧ (¬ (¬ v5 = 0) → (zs_K S4 p0 = some (.inl 4) ∧ ∃ b8, (zs_R S4 4000 p0) = some b8 ∧ zs_K S4 b8 = some (.inl 5) ∧ zs_C X d 5017 [.ref b8, .int (44 : Int32)] S4 (zs_kI (fun v12 S11 => (((¬ v12 = 0 → w_X5_known_201 X d (some p0) S11 Q) ∧ (¬ (¬ v12 = 0) → (zs_K S11 p0 = some (.inl 4) ∧ ∃ b15, (zs_R S11 4000 p0) = some b15 ∧ zs_K S11 b15 = some (.inl 5) ∧ zs_C X d 5017 [.ref b15, .int (41 : Int32)] S11 (zs_kI (fun v19 S18 => (((v19 = 0 → (w_X5_known_206 X d (some p0) (2 : Int32) S18 Q)) ∧ (¬ (v19 = 0) → w_X5_known_201 X d (some p0) S18 Q)))) Q)))))) Q)))))) Q))
theorem u_X5_known_170 {σ : Nat → Nat} {n0 : Nat} {bf : ab_B} {d : Nat} {p0 : Nat} {p1 : Int32} {p3 : Option Nat} {p4 : Int32} {p5 : Option Nat} {p6 : Int32} {q0 : Option Nat} {q1 : Int32} {S : zs_T} {Q : zs_Q} (hB : zt_B bf) (h : w_X5_known_170 (zx σ n0 bf) d p0 p1 p3 p4 p5 p6 q0 q1 S Q) : zs_U (zx σ n0 bf) d 4045 170 [(0, .ref p0), (1, .int p1), (3, va_rf p3), (4, .int p4), (5, va_rf p5), (6, .int p6)] [.int q1, va_rf q0] S Q := by
  unfold w_X5_known_170 at h
  obtain ⟨b1, e2, h⟩ := h
  refine zs_stk1 (zs_rfe e2) ?_
  obtain ⟨k3, h⟩ := h
  refine zc_4_21 (x0 := q1) hB rfl k3 d_4045_170 (Nat.le_of_ble_eq_true rfl) h (fun v5 S4 h => ?_)
  refine zu_ifne (t := 210) d_4045_173 rfl (fun c6 => ?_) (fun c6 => ?_)
  · have h := h.1 c6
    refine zu_iinc d_4045_210 rfl zi_1 (zs_lt zq_4045 rfl) ?_
    refine zs_U.weak (L1 := [(6, .int (p6 + (1 : Int32))), (0, .ref p0), (1, .int p1), (3, va_rf p3), (4, .int p4), (5, va_rf p5)]) ?_ ⟨rfl, zs_gp1 rfl (Or.inl rfl) rfl, zs_gp1 rfl (Or.inl rfl) rfl, zs_gp1 rfl (Or.inl (zs_cat _)) rfl, zs_gp1 rfl (Or.inl rfl) rfl, zs_gp1 rfl (Or.inl (zs_cat _)) rfl, trivial⟩
    refine zu_goto (t := 84) d_4045_213 rfl ?_
    exact h.weak ⟨rfl, rfl, rfl, rfl, rfl, rfl, trivial⟩
  · have h := h.2 c6
    refine zu_aload_n d_4045_176 rfl (zs_ra _) ?_
    refine zu_aload_n d_4045_177 rfl (zs_ra _) ?_
    obtain ⟨k7, h⟩ := h
    refine zg_4_5 rfl d_4045_178 k7 ?_
    refine zu_bipush d_4045_181 zj_44 ?_
    obtain ⟨b8, e9, h⟩ := h
    refine zs_stk1 (zs_rfe e9) ?_
    obtain ⟨k10, h⟩ := h
    refine zc_4_21 (x0 := (44 : Int32)) hB rfl k10 d_4045_183 (Nat.le_of_ble_eq_true rfl) h (fun v12 S11 h => ?_)
    refine zu_ifne (t := 201) d_4045_186 rfl (fun c13 => ?_) (fun c13 => ?_)
    · have h := h.1 c13
      exact (u_X5_known_201 hB h).weak trivial
    · have h := h.2 c13
      refine zu_aload_n d_4045_189 rfl (zs_ra _) ?_
      obtain ⟨k14, h⟩ := h
      refine zg_4_5 rfl d_4045_190 k14 ?_
      refine zu_bipush d_4045_193 zj_41 ?_
      obtain ⟨b15, e16, h⟩ := h
      refine zs_stk1 (zs_rfe e16) ?_
      obtain ⟨k17, h⟩ := h
      refine zc_4_21 (x0 := (41 : Int32)) hB rfl k17 d_4045_195 (Nat.le_of_ble_eq_true rfl) h (fun v19 S18 h => ?_)
      refine zu_ifeq (t := 205) d_4045_198 rfl (fun c20 => ?_) (fun c20 => ?_)
      · have h := h.1 c20
        refine zu_iconst d_4045_205 zi_2 ?_
        exact (u_X5_known_206 hB h).weak trivial
      · have h := h.2 c20
        exact (u_X5_known_201 hB h).weak trivial
def w_X5_known_146 (X : zs_X) (d : Nat) (p0 : Nat) (p1 : Int32) (p3 : Option Nat) (p4 : Int32) (p6 : Int32) (p7 : Option Nat) (S : zs_T) (Q : zs_Q) : Prop :=
  (zs_K S p0 = some (.inl 4) ∧ ((¬ (p6 + (1 : Int32)) = p4 → (w_X5_known_170 X d p0 p1 p3 p4 p7 p6 (zs_R S 4000 p0) (44 : Int32) S Q)) ∧ (¬ (¬ (p6 + (1 : Int32)) = p4) → (w_X5_known_170 X d p0 p1 p3 p4 p7 p6 (zs_R S 4000 p0) (41 : Int32) S Q))))
theorem u_X5_known_146 {σ : Nat → Nat} {n0 : Nat} {bf : ab_B} {d : Nat} {p0 : Nat} {p1 : Int32} {p3 : Option Nat} {p4 : Int32} {p6 : Int32} {p7 : Option Nat} {S : zs_T} {Q : zs_Q} (hB : zt_B bf) (h : w_X5_known_146 (zx σ n0 bf) d p0 p1 p3 p4 p6 p7 S Q) : zs_U (zx σ n0 bf) d 4045 146 [(0, .ref p0), (1, .int p1), (3, va_rf p3), (4, .int p4), (6, .int p6), (7, va_rf p7)] [] S Q := by
  unfold w_X5_known_146 at h
  refine zu_aload d_4045_146 rfl (zs_rr _) ?_
  refine zu_astore d_4045_148 (zs_rr _) (zs_lt zq_4045 rfl) ?_
  refine zu_aload_n d_4045_150 rfl (zs_ra _) ?_
  obtain ⟨k1, h⟩ := h
  refine zg_4_5 rfl d_4045_151 k1 ?_
  refine zu_iload d_4045_154 rfl ?_
  refine zu_iconst d_4045_156 zi_1 ?_
  refine zu_stk d_4045_157 rfl rfl ?_
  refine zu_iload d_4045_158 rfl ?_
  refine zu_cmpne (t := 168) d_4045_160 rfl (fun c2 => ?_) (fun c2 => ?_)
  · have h := h.1 c2
    refine zu_bipush d_4045_168 zj_44 ?_
    exact (u_X5_known_170 hB h).weak ⟨rfl, rfl, rfl, rfl, rfl, rfl, trivial⟩
  · have h := h.2 c2
    refine zu_bipush d_4045_163 zj_41 ?_
    refine zu_goto (t := 170) d_4045_165 rfl ?_
    exact (u_X5_known_170 hB h).weak ⟨rfl, rfl, rfl, rfl, rfl, rfl, trivial⟩
def w_X5_known_125 (X : zs_X) (d : Nat) (p0 : Nat) (p1 : Int32) (p3 : Option Nat) (p4 : Int32) (p5 : Option Nat) (p6 : Int32) (p7 : Option Nat) (S : zs_T) (Q : zs_Q) : Prop :=
  (((¬ p6 = 0 → (∃ b2, p5 = some b2 ∧ zs_K S b2 = some (.inl 11) ∧ ab_n0 X.1 ≤ b2 ∧ ∀ S6, S6 = zs_sR S 11007 b2 p7 → w_X5_known_146 X d p0 p1 p3 p4 p6 p7 S6 Q)) ∧ (¬ (¬ p6 = 0) → (∃ b9, p3 = some b9 ∧ zs_K S b9 = some (.inl 11) ∧ ab_n0 X.1 ≤ b9 ∧ ∀ S13, S13 = zs_sR S 11005 b9 p7 → w_X5_known_146 X d p0 p1 p3 p4 p6 p7 S13 Q))))
theorem u_X5_known_125 {σ : Nat → Nat} {n0 : Nat} {bf : ab_B} {d : Nat} {p0 : Nat} {p1 : Int32} {p3 : Option Nat} {p4 : Int32} {p5 : Option Nat} {p6 : Int32} {p7 : Option Nat} {S : zs_T} {Q : zs_Q} (hB : zt_B bf) (h : w_X5_known_125 (zx σ n0 bf) d p0 p1 p3 p4 p5 p6 p7 S Q) : zs_U (zx σ n0 bf) d 4045 125 [(0, .ref p0), (1, .int p1), (3, va_rf p3), (4, .int p4), (5, va_rf p5), (6, .int p6), (7, va_rf p7)] [] S Q := by
  unfold w_X5_known_125 at h
  refine zu_iload d_4045_125 rfl ?_
  refine zu_ifne (t := 139) d_4045_127 rfl (fun c1 => ?_) (fun c1 => ?_)
  · have h := h.1 c1
    refine zu_aload d_4045_139 rfl (zs_rr _) ?_
    refine zu_aload d_4045_141 rfl (zs_rr _) ?_
    obtain ⟨b2, e3, h⟩ := h
    refine zs_stk1 (zs_rfe e3) ?_
    obtain ⟨k4, h⟩ := h
    obtain ⟨k5, h⟩ := h
    refine zp_4_487 (v := p7) rfl d_4045_143 k4 k5 ?_
    generalize e7 : zs_sR S 11007 b2 p7 = S6
    have h := h S6 e7.symm
    have K8 : ∀ b, zs_K S6 b = zs_K S b := zs_Kt e7 (zs_KsR _ _ _ _) (fun _ => rfl)
    exact (u_X5_known_146 hB h).weak ⟨rfl, rfl, rfl, rfl, rfl, rfl, trivial⟩
  · have h := h.2 c1
    refine zu_aload_n d_4045_130 rfl (zs_rr _) ?_
    refine zu_aload d_4045_131 rfl (zs_rr _) ?_
    obtain ⟨b9, e10, h⟩ := h
    refine zs_stk1 (zs_rfe e10) ?_
    obtain ⟨k11, h⟩ := h
    obtain ⟨k12, h⟩ := h
    refine zp_4_539 (v := p7) rfl d_4045_133 k11 k12 ?_
    generalize e14 : zs_sR S 11005 b9 p7 = S13
    have h := h S13 e14.symm
    have K15 : ∀ b, zs_K S13 b = zs_K S b := zs_Kt e14 (zs_KsR _ _ _ _) (fun _ => rfl)
    refine zu_goto (t := 146) d_4045_136 rfl ?_
    exact (u_X5_known_146 hB h).weak ⟨rfl, rfl, rfl, rfl, rfl, rfl, trivial⟩
def w_X5_known_119 (X : zs_X) (d : Nat) (p0 : Nat) (S : zs_T) (Q : zs_Q) : Prop :=
  (zs_K S p0 = some (.inl 4) ∧ zs_C X d 4006 [.ref p0, .int (5 : Int32)] S (zs_kR (fun v3 S2 => (∃ b4, v3 = some b4 ∧ Q (.threw b4) S2)) Q))
theorem u_X5_known_119 {σ : Nat → Nat} {n0 : Nat} {bf : ab_B} {d : Nat} {p0 : Nat} {S : zs_T} {Q : zs_Q} (hB : zt_B bf) (h : w_X5_known_119 (zx σ n0 bf) d p0 S Q) : zs_U (zx σ n0 bf) d 4045 119 [(0, .ref p0)] [] S Q := by
  unfold w_X5_known_119 at h
  refine zu_aload_n d_4045_119 rfl (zs_ra _) ?_
  refine zu_iconst d_4045_120 zi_5 ?_
  obtain ⟨k1, h⟩ := h
  refine zc_4_25 (x0 := (5 : Int32)) hB rfl k1 d_4045_121 (Nat.le_of_ble_eq_true rfl) h (fun v3 S2 h => ?_)
  obtain ⟨b4, e5, h⟩ := h
  refine zs_stk0 (zs_rfe e5) ?_
  exact zu_throw d_4045_124 h
def w_X5_known_84 (X : zs_X) (d : Nat) (p0 : Nat) (p1 : Int32) (p3 : Option Nat) (p4 : Int32) (p5 : Option Nat) (p6 : Int32) (S : zs_T) (Q : zs_Q) : Prop :=
  (((p4 ≤ p6 → (zs_K S p0 = some (.inl 4) ∧ ∃ b3, (zs_R S 4000 p0) = some b3 ∧ zs_K S b3 = some (.inl 5) ∧ zs_C X d 5004 [.ref b3] S (zs_kV (fun S6 => (zs_K S6 p0 = some (.inl 4) ∧ ab_n0 X.1 ≤ p0 ∧ ∀ S10, S10 = zs_sI S6 4011 p0 ((zs_I S6 4011 p0) - (1 : Int32)) → ((¬ p1 = (8 : Int32) → (((¬ p1 = (10 : Int32) → (((p1 = (11 : Int32) → w_X5_known_272 X d p3 p3 S10 Q) ∧ (¬ (p1 = (11 : Int32)) → (((¬ p1 = (12 : Int32) → (((¬ p1 = (16 : Int32) → (∃ b18, p3 = some b18 ∧ zs_K S6 b18 = some (.inl 11) ∧ ab_n0 X.1 ≤ b18 ∧ ∀ S22, S22 = zs_sR S10 11002 b18 (zs_R S10 4002 p0) → w_X5_known_305 X d p3 S22 Q)) ∧ (¬ (¬ p1 = (16 : Int32)) → (∃ b25, p3 = some b25 ∧ zs_K S6 b25 = some (.inl 11) ∧ ab_n0 X.1 ≤ b25 ∧ ∀ S29, S29 = zs_sR S10 11002 b25 (zs_R S10 4005 p0) → w_X5_known_305 X d p3 S29 Q))))) ∧ (¬ (¬ p1 = (12 : Int32)) → w_X5_known_272 X d p3 p3 S10 Q))))))) ∧ (¬ (¬ p1 = (10 : Int32)) → (∃ b32, p3 = some b32 ∧ zs_K S6 b32 = some (.inl 11) ∧ ab_n0 X.1 ≤ b32 ∧ ∀ S36, S36 = zs_sR S10 11002 b32 (zs_R S10 4004 p0) → w_X5_known_305 X d p3 S36 Q))))) ∧ (¬ (¬ p1 = (8 : Int32)) → (∃ b39, p3 = some b39 ∧ zs_K S6 b39 = some (.inl 11) ∧ ab_n0 X.1 ≤ b39 ∧ ∀ S43, S43 = zs_sR S10 11002 b39 (zs_R S10 4003 p0) → w_X5_known_305 X d p3 S43 Q))))) Q))) ∧ (¬ (p4 ≤ p6) → (zs_K S p0 = some (.inl 4) ∧ ∃ b47, (zs_R S 4000 p0) = some b47 ∧ zs_K S b47 = some (.inl 5) ∧ zs_C X d 5004 [.ref b47] S (zs_kV (fun S50 => (zs_K S50 p0 = some (.inl 4) ∧ zs_C X d 4014 [.ref p0] S50 (zs_kR (fun v54 S53 => (∃ b55, v54 = some b55 ∧ zs_K S53 b55 = some (.inl 11) ∧ zs_K S53 p0 = some (.inl 4) ∧ zs_C X d 4046 [.ref p0, .int p1, .int p6, va_rf (zs_R S53 11002 b55)] S53 (zs_kI (fun v60 S59 => (((¬ v60 = 0 → w_X5_known_125 X d p0 p1 p3 p4 p5 p6 v54 S59 Q) ∧ (¬ (¬ v60 = 0) → w_X5_known_119 X d p0 S59 Q)))) Q))) Q))) Q)))))
theorem u_X5_known_84 {σ : Nat → Nat} {n0 : Nat} {bf : ab_B} {d : Nat} {p0 : Nat} {p1 : Int32} {p3 : Option Nat} {p4 : Int32} {p5 : Option Nat} {p6 : Int32} {S : zs_T} {Q : zs_Q} (hB : zt_B bf) (h : w_X5_known_84 (zx σ n0 bf) d p0 p1 p3 p4 p5 p6 S Q) : zs_U (zx σ n0 bf) d 4045 84 [(0, .ref p0), (1, .int p1), (3, va_rf p3), (4, .int p4), (5, va_rf p5), (6, .int p6)] [] S Q := by
  unfold w_X5_known_84 at h
  refine zu_iload d_4045_84 rfl ?_
  refine zu_iload d_4045_86 rfl ?_
  refine zu_cmpge (t := 216) d_4045_88 rfl (fun c1 => ?_) (fun c1 => ?_)
  · have h := h.1 c1
    refine zu_aload_n d_4045_216 rfl (zs_ra _) ?_
    obtain ⟨k2, h⟩ := h
    refine zg_4_5 rfl d_4045_217 k2 ?_
    obtain ⟨b3, e4, h⟩ := h
    refine zs_stk0 (zs_rfe e4) ?_
    obtain ⟨k5, h⟩ := h
    refine zc_4_29  hB rfl k5 d_4045_220 (Nat.le_of_ble_eq_true rfl) h (fun S6 h => ?_)
    refine zu_aload_n d_4045_223 rfl (zs_ra _) ?_
    refine zu_dup d_4045_224 rfl ?_
    obtain ⟨k8, h⟩ := h
    refine zg_4_43 rfl d_4045_225 k8 ?_
    refine zu_iconst d_4045_228 zi_1 ?_
    refine zu_stk d_4045_229 rfl rfl ?_
    obtain ⟨k9, h⟩ := h
    refine zp_4_43 (v := ((zs_I S6 4011 p0) - (1 : Int32))) rfl d_4045_230 k8 k9 ?_
    generalize e11 : zs_sI S6 4011 p0 ((zs_I S6 4011 p0) - (1 : Int32)) = S10
    have h := h S10 e11.symm
    have K12 : ∀ b, zs_K S10 b = zs_K S6 b := zs_Kt e11 (zs_KsI _ _ _ _) (fun _ => rfl)
    refine zu_aload_n d_4045_233 rfl (zs_rr _) ?_
    refine zu_iload_n d_4045_234 rfl ?_
    refine zu_bipush d_4045_235 zj_8 ?_
    refine zu_cmpne (t := 247) d_4045_237 rfl (fun c13 => ?_) (fun c13 => ?_)
    · have h := h.1 c13
      refine zu_iload_n d_4045_247 rfl ?_
      refine zu_bipush d_4045_248 zj_10 ?_
      refine zu_cmpne (t := 260) d_4045_250 rfl (fun c14 => ?_) (fun c14 => ?_)
      · have h := h.1 c14
        refine zu_iload_n d_4045_260 rfl ?_
        refine zu_bipush d_4045_261 zj_11 ?_
        refine zu_cmpeq (t := 272) d_4045_263 rfl (fun c15 => ?_) (fun c15 => ?_)
        · have h := h.1 c15
          exact (u_X5_known_272 hB h).weak ⟨rfl, trivial⟩
        · have h := h.2 c15
          refine zu_iload_n d_4045_266 rfl ?_
          refine zu_bipush d_4045_267 zj_12 ?_
          refine zu_cmpne (t := 285) d_4045_269 rfl (fun c16 => ?_) (fun c16 => ?_)
          · have h := h.1 c16
            refine zu_iload_n d_4045_285 rfl ?_
            refine zu_bipush d_4045_286 zj_16 ?_
            refine zu_cmpne (t := 298) d_4045_288 rfl (fun c17 => ?_) (fun c17 => ?_)
            · have h := h.1 c17
              refine zu_aload_n d_4045_298 rfl (zs_ra _) ?_
              refine zg_4_147 rfl d_4045_299 ((K12 _).trans k8) ?_
              obtain ⟨b18, e19, h⟩ := h
              refine zs_stk1 (zs_rfe e19) ?_
              obtain ⟨k20, h⟩ := h
              obtain ⟨k21, h⟩ := h
              refine zp_4_297 (v := (zs_R S10 4002 p0)) rfl d_4045_302 ((K12 _).trans k20) k21 ?_
              generalize e23 : zs_sR S10 11002 b18 (zs_R S10 4002 p0) = S22
              have h := h S22 e23.symm
              have K24 : ∀ b, zs_K S22 b = zs_K S6 b := zs_Kt e23 (zs_KsR _ _ _ _) K12
              exact (u_X5_known_305 hB h).weak ⟨rfl, trivial⟩
            · have h := h.2 c17
              refine zu_aload_n d_4045_291 rfl (zs_ra _) ?_
              refine zg_4_156 rfl d_4045_292 ((K12 _).trans k8) ?_
              refine zu_goto (t := 302) d_4045_295 rfl ?_
              obtain ⟨b25, e26, h⟩ := h
              refine zs_stk1 (zs_rfe e26) ?_
              obtain ⟨k27, h⟩ := h
              obtain ⟨k28, h⟩ := h
              refine zp_4_297 (v := (zs_R S10 4005 p0)) rfl d_4045_302 ((K12 _).trans k27) k28 ?_
              generalize e30 : zs_sR S10 11002 b25 (zs_R S10 4005 p0) = S29
              have h := h S29 e30.symm
              have K31 : ∀ b, zs_K S29 b = zs_K S6 b := zs_Kt e30 (zs_KsR _ _ _ _) K12
              exact (u_X5_known_305 hB h).weak ⟨rfl, trivial⟩
          · have h := h.2 c16
            exact (u_X5_known_272 hB h).weak ⟨rfl, trivial⟩
      · have h := h.2 c14
        refine zu_aload_n d_4045_253 rfl (zs_ra _) ?_
        refine zg_4_153 rfl d_4045_254 ((K12 _).trans k8) ?_
        refine zu_goto (t := 302) d_4045_257 rfl ?_
        obtain ⟨b32, e33, h⟩ := h
        refine zs_stk1 (zs_rfe e33) ?_
        obtain ⟨k34, h⟩ := h
        obtain ⟨k35, h⟩ := h
        refine zp_4_297 (v := (zs_R S10 4004 p0)) rfl d_4045_302 ((K12 _).trans k34) k35 ?_
        generalize e37 : zs_sR S10 11002 b32 (zs_R S10 4004 p0) = S36
        have h := h S36 e37.symm
        have K38 : ∀ b, zs_K S36 b = zs_K S6 b := zs_Kt e37 (zs_KsR _ _ _ _) K12
        exact (u_X5_known_305 hB h).weak ⟨rfl, trivial⟩
    · have h := h.2 c13
      refine zu_aload_n d_4045_240 rfl (zs_ra _) ?_
      refine zg_4_150 rfl d_4045_241 ((K12 _).trans k8) ?_
      refine zu_goto (t := 302) d_4045_244 rfl ?_
      obtain ⟨b39, e40, h⟩ := h
      refine zs_stk1 (zs_rfe e40) ?_
      obtain ⟨k41, h⟩ := h
      obtain ⟨k42, h⟩ := h
      refine zp_4_297 (v := (zs_R S10 4003 p0)) rfl d_4045_302 ((K12 _).trans k41) k42 ?_
      generalize e44 : zs_sR S10 11002 b39 (zs_R S10 4003 p0) = S43
      have h := h S43 e44.symm
      have K45 : ∀ b, zs_K S43 b = zs_K S6 b := zs_Kt e44 (zs_KsR _ _ _ _) K12
      exact (u_X5_known_305 hB h).weak ⟨rfl, trivial⟩
  · have h := h.2 c1
    refine zu_aload_n d_4045_91 rfl (zs_ra _) ?_
    obtain ⟨k46, h⟩ := h
    refine zg_4_5 rfl d_4045_92 k46 ?_
    obtain ⟨b47, e48, h⟩ := h
    refine zs_stk0 (zs_rfe e48) ?_
    obtain ⟨k49, h⟩ := h
    refine zc_4_29  hB rfl k49 d_4045_95 (Nat.le_of_ble_eq_true rfl) h (fun S50 h => ?_)
    refine zu_aload_n d_4045_98 rfl (zs_ra _) ?_
    obtain ⟨k52, h⟩ := h
    refine zc_4_569  hB rfl k52 d_4045_99 (Nat.le_of_ble_eq_true rfl) h (fun v54 S53 h => ?_)
    refine zu_astore d_4045_102 (zs_rr _) (zs_lt zq_4045 rfl) ?_
    refine zu_aload_n d_4045_104 rfl (zs_ra _) ?_
    refine zu_iload_n d_4045_105 rfl ?_
    refine zu_iload d_4045_106 rfl ?_
    refine zu_aload d_4045_108 rfl (zs_rr _) ?_
    obtain ⟨b55, e56, h⟩ := h
    refine zs_stk0 (zs_rfe e56) ?_
    obtain ⟨k57, h⟩ := h
    refine zg_4_297 rfl d_4045_110 k57 ?_
    obtain ⟨k58, h⟩ := h
    refine zc_4_705 (x0 := p1) (x1 := p6) (x2 := (zs_R S53 11002 b55)) hB rfl k58 d_4045_113 (Nat.le_of_ble_eq_true rfl) h (fun v60 S59 h => ?_)
    refine zu_ifne (t := 125) d_4045_116 rfl (fun c61 => ?_) (fun c61 => ?_)
    · have h := h.1 c61
      exact (u_X5_known_125 hB h).weak ⟨rfl, rfl, rfl, rfl, rfl, rfl, rfl, trivial⟩
    · have h := h.2 c61
      exact (u_X5_known_119 hB h).weak ⟨rfl, trivial⟩
def w_X5_known (X : zs_X) (d : Nat) (p0 : Nat) (p1 : Int32) (p2 : Int32) (S : zs_T) (Q : zs_Q) : Prop :=
  (zs_K S p0 = some (.inl 4) ∧ zs_C X d 4016 [.ref p0, .int (13 : Int32), .int p2, va_rf (zs_R S 4002 p0)] S (zs_kR (fun v3 S2 => (∃ b4, v3 = some b4 ∧ zs_K S2 b4 = some (.inl 11) ∧ ab_n0 X.1 ≤ b4 ∧ ∀ S8, S8 = zs_sI S2 11003 b4 p1 → ((¬ p1 = (17 : Int32) → (((¬ p1 = (15 : Int32) → w_X5_known_43 X d p0 p1 v3 S8 Q) ∧ (¬ (¬ p1 = (15 : Int32)) → w_X5_known_39 X d p0 p1 v3 S8 Q)))) ∧ (¬ (¬ p1 = (17 : Int32)) → (zs_K S2 p0 = some (.inl 4) ∧ ∀ S14, S14 = zs_sR S8 11002 b4 (zs_R S8 4003 p0) → w_X5_known_31 X d v3 S14 Q))))) Q))
theorem u_X5_known {σ : Nat → Nat} {n0 : Nat} {bf : ab_B} {d : Nat} {p0 : Nat} {p1 : Int32} {p2 : Int32} {S : zs_T} {Q : zs_Q} (hB : zt_B bf) (hd : 1 ≤ d) (h : w_X5_known (zx σ n0 bf) (d - 1) p0 p1 p2 S Q) : zs_C (zx σ n0 bf) d 4045 [.ref p0, .int p1, .int p2] S Q := by
  have hL : lv_args 0 [.ref p0, .int p1, .int p2] = [(0, .ref p0), (1, .int p1), (2, .int p2)] := rfl
  refine zs_C.of1 (hB.2 4045 (by decide) (by decide)) hd (by rw [hL]; exact zs_sub_self _ (by exact ⟨rfl, rfl, rfl, trivial⟩)) ?_
  rw [hL]
  clear hL
  unfold w_X5_known at h
  refine zu_aload_n d_4045_0 rfl (zs_ra _) ?_
  refine zu_bipush d_4045_1 zj_13 ?_
  refine zu_iload_n d_4045_3 rfl ?_
  refine zu_aload_n d_4045_4 rfl (zs_ra _) ?_
  obtain ⟨k1, h⟩ := h
  refine zg_4_147 rfl d_4045_5 k1 ?_
  refine zc_4_572 (x0 := (13 : Int32)) (x1 := p2) (x2 := (zs_R S 4002 p0)) hB rfl k1 d_4045_8 (Nat.le_of_ble_eq_true rfl) h (fun v3 S2 h => ?_)
  refine zu_astore_n d_4045_11 (zs_rr _) (zs_lt zq_4045 rfl) ?_
  refine zu_aload_n d_4045_12 rfl (zs_rr _) ?_
  refine zu_iload_n d_4045_13 rfl ?_
  obtain ⟨b4, e5, h⟩ := h
  refine zs_stk1 (zs_rfe e5) ?_
  obtain ⟨k6, h⟩ := h
  obtain ⟨k7, h⟩ := h
  refine zp_4_542 (v := p1) rfl d_4045_14 k6 k7 ?_
  generalize e9 : zs_sI S2 11003 b4 p1 = S8
  have h := h S8 e9.symm
  have K10 : ∀ b, zs_K S8 b = zs_K S2 b := zs_Kt e9 (zs_KsI _ _ _ _) (fun _ => rfl)
  refine zu_iload_n d_4045_17 rfl ?_
  refine zu_bipush d_4045_18 zj_17 ?_
  refine zu_cmpne (t := 33) d_4045_20 rfl (fun c11 => ?_) (fun c11 => ?_)
  · have h := h.1 c11
    refine zu_iload_n d_4045_33 rfl ?_
    refine zu_bipush d_4045_34 zj_15 ?_
    refine zu_cmpne (t := 43) d_4045_36 rfl (fun c12 => ?_) (fun c12 => ?_)
    · have h := h.1 c12
      exact (u_X5_known_43 hB h).weak ⟨rfl, rfl, rfl, trivial⟩
    · have h := h.2 c12
      exact (u_X5_known_39 hB h).weak ⟨rfl, rfl, rfl, trivial⟩
  · have h := h.2 c11
    refine zu_aload_n d_4045_23 rfl (zs_rr _) ?_
    refine zu_aload_n d_4045_24 rfl (zs_ra _) ?_
    obtain ⟨k13, h⟩ := h
    refine zg_4_150 rfl d_4045_25 ((K10 _).trans k13) ?_
    refine zs_stk1 (zs_rfe e5) ?_
    refine zp_4_297 (v := (zs_R S8 4003 p0)) rfl d_4045_28 ((K10 _).trans k6) k7 ?_
    generalize e15 : zs_sR S8 11002 b4 (zs_R S8 4003 p0) = S14
    have h := h S14 e15.symm
    have K16 : ∀ b, zs_K S14 b = zs_K S2 b := zs_Kt e15 (zs_KsR _ _ _ _) K10
    exact (u_X5_known_31 hB h).weak ⟨rfl, trivial⟩
/-! SchemaPascal$Reader.takes(IILSchemaPascal$Type;)Z -/
theorem zm_4046 {σ : Nat → Nat} {n0 : Nat} {bf : ab_B} : ab_code (zx σ n0 bf).1 4046 = prog_9_method_87_code := rfl
theorem zq_4046 {σ : Nat → Nat} {n0 : Nat} {bf : ab_B} : ab_maxL (zx σ n0 bf).1 4046 = 4 := rfl
theorem zr_4046 {σ : Nat → Nat} {n0 : Nat} {bf : ab_B} : ab_ret (zx σ n0 bf).1 4046 = (Option.some Jvm.ClassFile.FieldType.boolean) := rfl
theorem d_4046_0 {σ : Nat → Nat} {n0 : Nat} {bf : ab_B} : decode (ab_code (zx σ n0 bf).1 4046) 0 = .ok (.iload_n 1, 1) := zd zm_4046 (by decide +kernel)
theorem d_4046_1 {σ : Nat → Nat} {n0 : Nat} {bf : ab_B} : decode (ab_code (zx σ n0 bf).1 4046) 1 = .ok (.bipush 9, 2) := zd zm_4046 (by decide +kernel)
theorem d_4046_3 {σ : Nat → Nat} {n0 : Nat} {bf : ab_B} : decode (ab_code (zx σ n0 bf).1 4046) 3 = .ok (.if_icmp .eq 15, 3) := zd zm_4046 (by decide +kernel)
theorem d_4046_6 {σ : Nat → Nat} {n0 : Nat} {bf : ab_B} : decode (ab_code (zx σ n0 bf).1 4046) 6 = .ok (.iload_n 1, 1) := zd zm_4046 (by decide +kernel)
theorem d_4046_7 {σ : Nat → Nat} {n0 : Nat} {bf : ab_B} : decode (ab_code (zx σ n0 bf).1 4046) 7 = .ok (.bipush 11, 2) := zd zm_4046 (by decide +kernel)
theorem d_4046_9 {σ : Nat → Nat} {n0 : Nat} {bf : ab_B} : decode (ab_code (zx σ n0 bf).1 4046) 9 = .ok (.if_icmp .eq 9, 3) := zd zm_4046 (by decide +kernel)
theorem d_4046_12 {σ : Nat → Nat} {n0 : Nat} {bf : ab_B} : decode (ab_code (zx σ n0 bf).1 4046) 12 = .ok (.iload_n 1, 1) := zd zm_4046 (by decide +kernel)
theorem d_4046_13 {σ : Nat → Nat} {n0 : Nat} {bf : ab_B} : decode (ab_code (zx σ n0 bf).1 4046) 13 = .ok (.bipush 12, 2) := zd zm_4046 (by decide +kernel)
theorem d_4046_15 {σ : Nat → Nat} {n0 : Nat} {bf : ab_B} : decode (ab_code (zx σ n0 bf).1 4046) 15 = .ok (.if_icmp .ne 8, 3) := zd zm_4046 (by decide +kernel)
theorem d_4046_18 {σ : Nat → Nat} {n0 : Nat} {bf : ab_B} : decode (ab_code (zx σ n0 bf).1 4046) 18 = .ok (.aload_n 3, 1) := zd zm_4046 (by decide +kernel)
theorem d_4046_19 {σ : Nat → Nat} {n0 : Nat} {bf : ab_B} : decode (ab_code (zx σ n0 bf).1 4046) 19 = .ok (.invokevirtual 335, 3) := zd zm_4046 (by decide +kernel)
theorem d_4046_22 {σ : Nat → Nat} {n0 : Nat} {bf : ab_B} : decode (ab_code (zx σ n0 bf).1 4046) 22 = .ok (.ireturn, 1) := zd zm_4046 (by decide +kernel)
theorem d_4046_23 {σ : Nat → Nat} {n0 : Nat} {bf : ab_B} : decode (ab_code (zx σ n0 bf).1 4046) 23 = .ok (.iload_n 1, 1) := zd zm_4046 (by decide +kernel)
theorem d_4046_24 {σ : Nat → Nat} {n0 : Nat} {bf : ab_B} : decode (ab_code (zx σ n0 bf).1 4046) 24 = .ok (.bipush 14, 2) := zd zm_4046 (by decide +kernel)
theorem d_4046_26 {σ : Nat → Nat} {n0 : Nat} {bf : ab_B} : decode (ab_code (zx σ n0 bf).1 4046) 26 = .ok (.if_icmp .ne 8, 3) := zd zm_4046 (by decide +kernel)
theorem d_4046_29 {σ : Nat → Nat} {n0 : Nat} {bf : ab_B} : decode (ab_code (zx σ n0 bf).1 4046) 29 = .ok (.aload_n 3, 1) := zd zm_4046 (by decide +kernel)
theorem d_4046_30 {σ : Nat → Nat} {n0 : Nat} {bf : ab_B} : decode (ab_code (zx σ n0 bf).1 4046) 30 = .ok (.invokestatic 584, 3) := zd zm_4046 (by decide +kernel)
theorem d_4046_33 {σ : Nat → Nat} {n0 : Nat} {bf : ab_B} : decode (ab_code (zx σ n0 bf).1 4046) 33 = .ok (.ireturn, 1) := zd zm_4046 (by decide +kernel)
theorem d_4046_34 {σ : Nat → Nat} {n0 : Nat} {bf : ab_B} : decode (ab_code (zx σ n0 bf).1 4046) 34 = .ok (.iload_n 1, 1) := zd zm_4046 (by decide +kernel)
theorem d_4046_35 {σ : Nat → Nat} {n0 : Nat} {bf : ab_B} : decode (ab_code (zx σ n0 bf).1 4046) 35 = .ok (.bipush 13, 2) := zd zm_4046 (by decide +kernel)
theorem d_4046_37 {σ : Nat → Nat} {n0 : Nat} {bf : ab_B} : decode (ab_code (zx σ n0 bf).1 4046) 37 = .ok (.if_icmp .eq 19, 3) := zd zm_4046 (by decide +kernel)
theorem d_4046_40 {σ : Nat → Nat} {n0 : Nat} {bf : ab_B} : decode (ab_code (zx σ n0 bf).1 4046) 40 = .ok (.iload_n 1, 1) := zd zm_4046 (by decide +kernel)
theorem d_4046_41 {σ : Nat → Nat} {n0 : Nat} {bf : ab_B} : decode (ab_code (zx σ n0 bf).1 4046) 41 = .ok (.bipush 15, 2) := zd zm_4046 (by decide +kernel)
theorem d_4046_43 {σ : Nat → Nat} {n0 : Nat} {bf : ab_B} : decode (ab_code (zx σ n0 bf).1 4046) 43 = .ok (.if_icmp .eq 13, 3) := zd zm_4046 (by decide +kernel)
theorem d_4046_46 {σ : Nat → Nat} {n0 : Nat} {bf : ab_B} : decode (ab_code (zx σ n0 bf).1 4046) 46 = .ok (.iload_n 1, 1) := zd zm_4046 (by decide +kernel)
theorem d_4046_47 {σ : Nat → Nat} {n0 : Nat} {bf : ab_B} : decode (ab_code (zx σ n0 bf).1 4046) 47 = .ok (.bipush 16, 2) := zd zm_4046 (by decide +kernel)
theorem d_4046_49 {σ : Nat → Nat} {n0 : Nat} {bf : ab_B} : decode (ab_code (zx σ n0 bf).1 4046) 49 = .ok (.if_icmp .ne 12, 3) := zd zm_4046 (by decide +kernel)
theorem d_4046_52 {σ : Nat → Nat} {n0 : Nat} {bf : ab_B} : decode (ab_code (zx σ n0 bf).1 4046) 52 = .ok (.iload_n 2, 1) := zd zm_4046 (by decide +kernel)
theorem d_4046_53 {σ : Nat → Nat} {n0 : Nat} {bf : ab_B} : decode (ab_code (zx σ n0 bf).1 4046) 53 = .ok (.ifCond .ne 8, 3) := zd zm_4046 (by decide +kernel)
theorem d_4046_56 {σ : Nat → Nat} {n0 : Nat} {bf : ab_B} : decode (ab_code (zx σ n0 bf).1 4046) 56 = .ok (.aload_n 3, 1) := zd zm_4046 (by decide +kernel)
theorem d_4046_57 {σ : Nat → Nat} {n0 : Nat} {bf : ab_B} : decode (ab_code (zx σ n0 bf).1 4046) 57 = .ok (.invokestatic 587, 3) := zd zm_4046 (by decide +kernel)
theorem d_4046_60 {σ : Nat → Nat} {n0 : Nat} {bf : ab_B} : decode (ab_code (zx σ n0 bf).1 4046) 60 = .ok (.ireturn, 1) := zd zm_4046 (by decide +kernel)
theorem d_4046_61 {σ : Nat → Nat} {n0 : Nat} {bf : ab_B} : decode (ab_code (zx σ n0 bf).1 4046) 61 = .ok (.aload_n 3, 1) := zd zm_4046 (by decide +kernel)
theorem d_4046_62 {σ : Nat → Nat} {n0 : Nat} {bf : ab_B} : decode (ab_code (zx σ n0 bf).1 4046) 62 = .ok (.invokevirtual 450, 3) := zd zm_4046 (by decide +kernel)
theorem d_4046_65 {σ : Nat → Nat} {n0 : Nat} {bf : ab_B} : decode (ab_code (zx σ n0 bf).1 4046) 65 = .ok (.aload_n 0, 1) := zd zm_4046 (by decide +kernel)
theorem d_4046_66 {σ : Nat → Nat} {n0 : Nat} {bf : ab_B} : decode (ab_code (zx σ n0 bf).1 4046) 66 = .ok (.getfield 147, 3) := zd zm_4046 (by decide +kernel)
theorem d_4046_69 {σ : Nat → Nat} {n0 : Nat} {bf : ab_B} : decode (ab_code (zx σ n0 bf).1 4046) 69 = .ok (.if_acmp .ne 7, 3) := zd zm_4046 (by decide +kernel)
theorem d_4046_72 {σ : Nat → Nat} {n0 : Nat} {bf : ab_B} : decode (ab_code (zx σ n0 bf).1 4046) 72 = .ok (.iconst 1, 1) := zd zm_4046 (by decide +kernel)
theorem d_4046_73 {σ : Nat → Nat} {n0 : Nat} {bf : ab_B} : decode (ab_code (zx σ n0 bf).1 4046) 73 = .ok (.goto 4, 3) := zd zm_4046 (by decide +kernel)
theorem d_4046_76 {σ : Nat → Nat} {n0 : Nat} {bf : ab_B} : decode (ab_code (zx σ n0 bf).1 4046) 76 = .ok (.iconst 0, 1) := zd zm_4046 (by decide +kernel)
theorem d_4046_77 {σ : Nat → Nat} {n0 : Nat} {bf : ab_B} : decode (ab_code (zx σ n0 bf).1 4046) 77 = .ok (.ireturn, 1) := zd zm_4046 (by decide +kernel)
def w_X5_takes_18 (X : zs_X) (d : Nat) (p3 : Option Nat) (S : zs_T) (Q : zs_Q) : Prop :=
  (∃ b1, p3 = some b1 ∧ zs_K S b1 = some (.inl 6) ∧ zs_C X d 6002 [.ref b1] S (zs_kI (fun v5 S4 => (zs_b v5 ∧ Q (.returned (some (.int v5))) S4)) Q))
theorem u_X5_takes_18 {σ : Nat → Nat} {n0 : Nat} {bf : ab_B} {d : Nat} {p3 : Option Nat} {S : zs_T} {Q : zs_Q} (hB : zt_B bf) (h : w_X5_takes_18 (zx σ n0 bf) d p3 S Q) : zs_U (zx σ n0 bf) d 4046 18 [(3, va_rf p3)] [] S Q := by
  unfold w_X5_takes_18 at h
  refine zu_aload_n d_4046_18 rfl (zs_rr _) ?_
  obtain ⟨b1, e2, h⟩ := h
  refine zs_stk0 (zs_rfe e2) ?_
  obtain ⟨k3, h⟩ := h
  refine zc_4_335  hB rfl k3 d_4046_19 (Nat.le_of_ble_eq_true rfl) h (fun v5 S4 h => ?_)
  obtain ⟨k6, h⟩ := h
  exact zu_iret d_4046_22 zr_4046 (zs_b_n k6) h
def w_X5_takes_61 (X : zs_X) (d : Nat) (p0 : Nat) (p3 : Option Nat) (S : zs_T) (Q : zs_Q) : Prop :=
  (∃ b1, p3 = some b1 ∧ zs_K S b1 = some (.inl 6) ∧ zs_C X d 6001 [.ref b1] S (zs_kR (fun v5 S4 => (zs_K S4 p0 = some (.inl 4) ∧ ((¬ v5 = (zs_R S4 4002 p0) → (Q (.returned (some (.int (0 : Int32)))) S4)) ∧ (¬ (¬ v5 = (zs_R S4 4002 p0)) → (Q (.returned (some (.int (1 : Int32)))) S4))))) Q))
theorem u_X5_takes_61 {σ : Nat → Nat} {n0 : Nat} {bf : ab_B} {d : Nat} {p0 : Nat} {p3 : Option Nat} {S : zs_T} {Q : zs_Q} (hB : zt_B bf) (h : w_X5_takes_61 (zx σ n0 bf) d p0 p3 S Q) : zs_U (zx σ n0 bf) d 4046 61 [(0, .ref p0), (3, va_rf p3)] [] S Q := by
  unfold w_X5_takes_61 at h
  refine zu_aload_n d_4046_61 rfl (zs_rr _) ?_
  obtain ⟨b1, e2, h⟩ := h
  refine zs_stk0 (zs_rfe e2) ?_
  obtain ⟨k3, h⟩ := h
  refine zc_4_450  hB rfl k3 d_4046_62 (Nat.le_of_ble_eq_true rfl) h (fun v5 S4 h => ?_)
  refine zu_aload_n d_4046_65 rfl (zs_ra _) ?_
  obtain ⟨k6, h⟩ := h
  refine zg_4_147 rfl d_4046_66 k6 ?_
  refine zu_acmpne (u := v5) (w := (zs_R S4 4002 p0)) (t := 76) d_4046_69 rfl rfl rfl (fun c7 => ?_) (fun c7 => ?_)
  · have h := h.1 c7
    refine zu_iconst d_4046_76 zi_0 ?_
    exact zu_iret d_4046_77 zr_4046 (zs_b_n (Or.inl rfl)) h
  · have h := h.2 c7
    refine zu_iconst d_4046_72 zi_1 ?_
    refine zu_goto (t := 77) d_4046_73 rfl ?_
    exact zu_iret d_4046_77 zr_4046 (zs_b_n (Or.inr rfl)) h
def w_X5_takes_56 (X : zs_X) (d : Nat) (p3 : Option Nat) (S : zs_T) (Q : zs_Q) : Prop :=
  (zs_C X d 4036 [va_rf p3] S (zs_kI (fun v2 S1 => (zs_b v2 ∧ Q (.returned (some (.int v2))) S1)) Q))
theorem u_X5_takes_56 {σ : Nat → Nat} {n0 : Nat} {bf : ab_B} {d : Nat} {p3 : Option Nat} {S : zs_T} {Q : zs_Q} (hB : zt_B bf) (h : w_X5_takes_56 (zx σ n0 bf) d p3 S Q) : zs_U (zx σ n0 bf) d 4046 56 [(3, va_rf p3)] [] S Q := by
  unfold w_X5_takes_56 at h
  refine zu_aload_n d_4046_56 rfl (zs_rr _) ?_
  refine zc_4_587 (x0 := p3) hB rfl d_4046_57 (Nat.le_of_ble_eq_true rfl) h (fun v2 S1 h => ?_)
  obtain ⟨k3, h⟩ := h
  exact zu_iret d_4046_60 zr_4046 (zs_b_n k3) h
def w_X5_takes_46 (X : zs_X) (d : Nat) (p0 : Nat) (p1 : Int32) (p2 : Int32) (p3 : Option Nat) (S : zs_T) (Q : zs_Q) : Prop :=
  (((¬ p1 = (16 : Int32) → w_X5_takes_61 X d p0 p3 S Q) ∧ (¬ (¬ p1 = (16 : Int32)) → (((¬ p2 = 0 → w_X5_takes_61 X d p0 p3 S Q) ∧ (¬ (¬ p2 = 0) → w_X5_takes_56 X d p3 S Q))))))
theorem u_X5_takes_46 {σ : Nat → Nat} {n0 : Nat} {bf : ab_B} {d : Nat} {p0 : Nat} {p1 : Int32} {p2 : Int32} {p3 : Option Nat} {S : zs_T} {Q : zs_Q} (hB : zt_B bf) (h : w_X5_takes_46 (zx σ n0 bf) d p0 p1 p2 p3 S Q) : zs_U (zx σ n0 bf) d 4046 46 [(0, .ref p0), (1, .int p1), (2, .int p2), (3, va_rf p3)] [] S Q := by
  unfold w_X5_takes_46 at h
  refine zu_iload_n d_4046_46 rfl ?_
  refine zu_bipush d_4046_47 zj_16 ?_
  refine zu_cmpne (t := 61) d_4046_49 rfl (fun c1 => ?_) (fun c1 => ?_)
  · have h := h.1 c1
    exact (u_X5_takes_61 hB h).weak ⟨rfl, rfl, trivial⟩
  · have h := h.2 c1
    refine zu_iload_n d_4046_52 rfl ?_
    refine zu_ifne (t := 61) d_4046_53 rfl (fun c2 => ?_) (fun c2 => ?_)
    · have h := h.1 c2
      exact (u_X5_takes_61 hB h).weak ⟨rfl, rfl, trivial⟩
    · have h := h.2 c2
      exact (u_X5_takes_56 hB h).weak ⟨rfl, trivial⟩
def w_X5_takes (X : zs_X) (d : Nat) (p0 : Nat) (p1 : Int32) (p2 : Int32) (p3 : Option Nat) (S : zs_T) (Q : zs_Q) : Prop :=
  (((p1 = (9 : Int32) → w_X5_takes_18 X d p3 S Q) ∧ (¬ (p1 = (9 : Int32)) → (((p1 = (11 : Int32) → w_X5_takes_18 X d p3 S Q) ∧ (¬ (p1 = (11 : Int32)) → (((¬ p1 = (12 : Int32) → (((¬ p1 = (14 : Int32) → (((p1 = (13 : Int32) → w_X5_takes_56 X d p3 S Q) ∧ (¬ (p1 = (13 : Int32)) → (((p1 = (15 : Int32) → w_X5_takes_56 X d p3 S Q) ∧ (¬ (p1 = (15 : Int32)) → w_X5_takes_46 X d p0 p1 p2 p3 S Q))))))) ∧ (¬ (¬ p1 = (14 : Int32)) → (zs_C X d 4035 [va_rf p3] S (zs_kI (fun v8 S7 => (zs_b v8 ∧ Q (.returned (some (.int v8))) S7)) Q)))))) ∧ (¬ (¬ p1 = (12 : Int32)) → w_X5_takes_18 X d p3 S Q)))))))))
theorem u_X5_takes {σ : Nat → Nat} {n0 : Nat} {bf : ab_B} {d : Nat} {p0 : Nat} {p1 : Int32} {p2 : Int32} {p3 : Option Nat} {S : zs_T} {Q : zs_Q} (hB : zt_B bf) (hd : 1 ≤ d) (h : w_X5_takes (zx σ n0 bf) (d - 1) p0 p1 p2 p3 S Q) : zs_C (zx σ n0 bf) d 4046 [.ref p0, .int p1, .int p2, va_rf p3] S Q := by
  have hL : lv_args 0 [.ref p0, .int p1, .int p2, va_rf p3] = [(0, .ref p0), (1, .int p1), (2, .int p2), (3, va_rf p3)] := by simp [lv_args, zs_cat, zs_cI, zs_cJ, zs_cA]
  refine zs_C.of1 (hB.2 4046 (by decide) (by decide)) hd (by rw [hL]; exact zs_sub_self _ (by exact ⟨rfl, rfl, rfl, rfl, trivial⟩)) ?_
  rw [hL]
  clear hL
  unfold w_X5_takes at h
  refine zu_iload_n d_4046_0 rfl ?_
  refine zu_bipush d_4046_1 zj_9 ?_
  refine zu_cmpeq (t := 18) d_4046_3 rfl (fun c1 => ?_) (fun c1 => ?_)
  · have h := h.1 c1
    exact (u_X5_takes_18 hB h).weak ⟨rfl, trivial⟩
  · have h := h.2 c1
    refine zu_iload_n d_4046_6 rfl ?_
    refine zu_bipush d_4046_7 zj_11 ?_
    refine zu_cmpeq (t := 18) d_4046_9 rfl (fun c2 => ?_) (fun c2 => ?_)
    · have h := h.1 c2
      exact (u_X5_takes_18 hB h).weak ⟨rfl, trivial⟩
    · have h := h.2 c2
      refine zu_iload_n d_4046_12 rfl ?_
      refine zu_bipush d_4046_13 zj_12 ?_
      refine zu_cmpne (t := 23) d_4046_15 rfl (fun c3 => ?_) (fun c3 => ?_)
      · have h := h.1 c3
        refine zu_iload_n d_4046_23 rfl ?_
        refine zu_bipush d_4046_24 zj_14 ?_
        refine zu_cmpne (t := 34) d_4046_26 rfl (fun c4 => ?_) (fun c4 => ?_)
        · have h := h.1 c4
          refine zu_iload_n d_4046_34 rfl ?_
          refine zu_bipush d_4046_35 zj_13 ?_
          refine zu_cmpeq (t := 56) d_4046_37 rfl (fun c5 => ?_) (fun c5 => ?_)
          · have h := h.1 c5
            exact (u_X5_takes_56 hB h).weak ⟨rfl, trivial⟩
          · have h := h.2 c5
            refine zu_iload_n d_4046_40 rfl ?_
            refine zu_bipush d_4046_41 zj_15 ?_
            refine zu_cmpeq (t := 56) d_4046_43 rfl (fun c6 => ?_) (fun c6 => ?_)
            · have h := h.1 c6
              exact (u_X5_takes_56 hB h).weak ⟨rfl, trivial⟩
            · have h := h.2 c6
              exact (u_X5_takes_46 hB h).weak ⟨rfl, rfl, rfl, rfl, trivial⟩
        · have h := h.2 c4
          refine zu_aload_n d_4046_29 rfl (zs_rr _) ?_
          refine zc_4_584 (x0 := p3) hB rfl d_4046_30 (Nat.le_of_ble_eq_true rfl) h (fun v8 S7 h => ?_)
          obtain ⟨k9, h⟩ := h
          exact zu_iret d_4046_33 zr_4046 (zs_b_n k9) h
      · have h := h.2 c3
        exact (u_X5_takes_18 hB h).weak ⟨rfl, trivial⟩
/-! SchemaPascal$Reader.variable(LSchemaPascal$Symbol;I)LSchemaPascal$Node; -/
theorem zm_4047 {σ : Nat → Nat} {n0 : Nat} {bf : ab_B} : ab_code (zx σ n0 bf).1 4047 = prog_9_method_74_code := rfl
theorem zq_4047 {σ : Nat → Nat} {n0 : Nat} {bf : ab_B} : ab_maxL (zx σ n0 bf).1 4047 = 4 := rfl
theorem zr_4047 {σ : Nat → Nat} {n0 : Nat} {bf : ab_B} : ab_ret (zx σ n0 bf).1 4047 = (Option.some (Jvm.ClassFile.FieldType.object "SchemaPascal$Node")) := rfl
theorem d_4047_0 {σ : Nat → Nat} {n0 : Nat} {bf : ab_B} : decode (ab_code (zx σ n0 bf).1 4047) 0 = .ok (.aload_n 1, 1) := zd zm_4047 (by decide +kernel)
theorem d_4047_1 {σ : Nat → Nat} {n0 : Nat} {bf : ab_B} : decode (ab_code (zx σ n0 bf).1 4047) 1 = .ok (.getfield 62, 3) := zd zm_4047 (by decide +kernel)
theorem d_4047_4 {σ : Nat → Nat} {n0 : Nat} {bf : ab_B} : decode (ab_code (zx σ n0 bf).1 4047) 4 = .ok (.iconst 5, 1) := zd zm_4047 (by decide +kernel)
theorem d_4047_5 {σ : Nat → Nat} {n0 : Nat} {bf : ab_B} : decode (ab_code (zx σ n0 bf).1 4047) 5 = .ok (.if_icmp .ne 30, 3) := zd zm_4047 (by decide +kernel)
theorem d_4047_8 {σ : Nat → Nat} {n0 : Nat} {bf : ab_B} : decode (ab_code (zx σ n0 bf).1 4047) 8 = .ok (.aload_n 0, 1) := zd zm_4047 (by decide +kernel)
theorem d_4047_9 {σ : Nat → Nat} {n0 : Nat} {bf : ab_B} : decode (ab_code (zx σ n0 bf).1 4047) 9 = .ok (.iconst 2, 1) := zd zm_4047 (by decide +kernel)
theorem d_4047_10 {σ : Nat → Nat} {n0 : Nat} {bf : ab_B} : decode (ab_code (zx σ n0 bf).1 4047) 10 = .ok (.iload_n 2, 1) := zd zm_4047 (by decide +kernel)
theorem d_4047_11 {σ : Nat → Nat} {n0 : Nat} {bf : ab_B} : decode (ab_code (zx σ n0 bf).1 4047) 11 = .ok (.aload_n 1, 1) := zd zm_4047 (by decide +kernel)
theorem d_4047_12 {σ : Nat → Nat} {n0 : Nat} {bf : ab_B} : decode (ab_code (zx σ n0 bf).1 4047) 12 = .ok (.getfield 101, 3) := zd zm_4047 (by decide +kernel)
theorem d_4047_15 {σ : Nat → Nat} {n0 : Nat} {bf : ab_B} : decode (ab_code (zx σ n0 bf).1 4047) 15 = .ok (.invokevirtual 572, 3) := zd zm_4047 (by decide +kernel)
theorem d_4047_18 {σ : Nat → Nat} {n0 : Nat} {bf : ab_B} : decode (ab_code (zx σ n0 bf).1 4047) 18 = .ok (.astore_n 3, 1) := zd zm_4047 (by decide +kernel)
theorem d_4047_19 {σ : Nat → Nat} {n0 : Nat} {bf : ab_B} : decode (ab_code (zx σ n0 bf).1 4047) 19 = .ok (.aload_n 3, 1) := zd zm_4047 (by decide +kernel)
theorem d_4047_20 {σ : Nat → Nat} {n0 : Nat} {bf : ab_B} : decode (ab_code (zx σ n0 bf).1 4047) 20 = .ok (.aload_n 1, 1) := zd zm_4047 (by decide +kernel)
theorem d_4047_21 {σ : Nat → Nat} {n0 : Nat} {bf : ab_B} : decode (ab_code (zx σ n0 bf).1 4047) 21 = .ok (.putfield 664, 3) := zd zm_4047 (by decide +kernel)
theorem d_4047_24 {σ : Nat → Nat} {n0 : Nat} {bf : ab_B} : decode (ab_code (zx σ n0 bf).1 4047) 24 = .ok (.aload_n 0, 1) := zd zm_4047 (by decide +kernel)
theorem d_4047_25 {σ : Nat → Nat} {n0 : Nat} {bf : ab_B} : decode (ab_code (zx σ n0 bf).1 4047) 25 = .ok (.aload_n 3, 1) := zd zm_4047 (by decide +kernel)
theorem d_4047_26 {σ : Nat → Nat} {n0 : Nat} {bf : ab_B} : decode (ab_code (zx σ n0 bf).1 4047) 26 = .ok (.aload_n 1, 1) := zd zm_4047 (by decide +kernel)
theorem d_4047_27 {σ : Nat → Nat} {n0 : Nat} {bf : ab_B} : decode (ab_code (zx σ n0 bf).1 4047) 27 = .ok (.getfield 97, 3) := zd zm_4047 (by decide +kernel)
theorem d_4047_30 {σ : Nat → Nat} {n0 : Nat} {bf : ab_B} : decode (ab_code (zx σ n0 bf).1 4047) 30 = .ok (.iload_n 2, 1) := zd zm_4047 (by decide +kernel)
theorem d_4047_31 {σ : Nat → Nat} {n0 : Nat} {bf : ab_B} : decode (ab_code (zx σ n0 bf).1 4047) 31 = .ok (.invokevirtual 667, 3) := zd zm_4047 (by decide +kernel)
theorem d_4047_34 {σ : Nat → Nat} {n0 : Nat} {bf : ab_B} : decode (ab_code (zx σ n0 bf).1 4047) 34 = .ok (.areturn, 1) := zd zm_4047 (by decide +kernel)
theorem d_4047_35 {σ : Nat → Nat} {n0 : Nat} {bf : ab_B} : decode (ab_code (zx σ n0 bf).1 4047) 35 = .ok (.aload_n 0, 1) := zd zm_4047 (by decide +kernel)
theorem d_4047_36 {σ : Nat → Nat} {n0 : Nat} {bf : ab_B} : decode (ab_code (zx σ n0 bf).1 4047) 36 = .ok (.iconst 2, 1) := zd zm_4047 (by decide +kernel)
theorem d_4047_37 {σ : Nat → Nat} {n0 : Nat} {bf : ab_B} : decode (ab_code (zx σ n0 bf).1 4047) 37 = .ok (.iload_n 2, 1) := zd zm_4047 (by decide +kernel)
theorem d_4047_38 {σ : Nat → Nat} {n0 : Nat} {bf : ab_B} : decode (ab_code (zx σ n0 bf).1 4047) 38 = .ok (.aload_n 1, 1) := zd zm_4047 (by decide +kernel)
theorem d_4047_39 {σ : Nat → Nat} {n0 : Nat} {bf : ab_B} : decode (ab_code (zx σ n0 bf).1 4047) 39 = .ok (.getfield 65, 3) := zd zm_4047 (by decide +kernel)
theorem d_4047_42 {σ : Nat → Nat} {n0 : Nat} {bf : ab_B} : decode (ab_code (zx σ n0 bf).1 4047) 42 = .ok (.invokevirtual 572, 3) := zd zm_4047 (by decide +kernel)
theorem d_4047_45 {σ : Nat → Nat} {n0 : Nat} {bf : ab_B} : decode (ab_code (zx σ n0 bf).1 4047) 45 = .ok (.astore_n 3, 1) := zd zm_4047 (by decide +kernel)
theorem d_4047_46 {σ : Nat → Nat} {n0 : Nat} {bf : ab_B} : decode (ab_code (zx σ n0 bf).1 4047) 46 = .ok (.aload_n 3, 1) := zd zm_4047 (by decide +kernel)
theorem d_4047_47 {σ : Nat → Nat} {n0 : Nat} {bf : ab_B} : decode (ab_code (zx σ n0 bf).1 4047) 47 = .ok (.aload_n 1, 1) := zd zm_4047 (by decide +kernel)
theorem d_4047_48 {σ : Nat → Nat} {n0 : Nat} {bf : ab_B} : decode (ab_code (zx σ n0 bf).1 4047) 48 = .ok (.putfield 664, 3) := zd zm_4047 (by decide +kernel)
theorem d_4047_51 {σ : Nat → Nat} {n0 : Nat} {bf : ab_B} : decode (ab_code (zx σ n0 bf).1 4047) 51 = .ok (.aload_n 3, 1) := zd zm_4047 (by decide +kernel)
theorem d_4047_52 {σ : Nat → Nat} {n0 : Nat} {bf : ab_B} : decode (ab_code (zx σ n0 bf).1 4047) 52 = .ok (.areturn, 1) := zd zm_4047 (by decide +kernel)
def w_X5_variable (X : zs_X) (d : Nat) (p0 : Nat) (p1 : Option Nat) (p2 : Int32) (S : zs_T) (Q : zs_Q) : Prop :=
  (∃ b1, p1 = some b1 ∧ zs_K S b1 = some (.inl 7) ∧ ((¬ (zs_I S 7001 b1) = (5 : Int32) → (zs_K S p0 = some (.inl 4) ∧ zs_C X d 4016 [.ref p0, .int (2 : Int32), .int p2, va_rf (zs_R S 7002 b1)] S (zs_kR (fun v7 S6 => (∃ b8, v7 = some b8 ∧ zs_K S6 b8 = some (.inl 11) ∧ ab_n0 X.1 ≤ b8 ∧ ∀ S12, S12 = zs_sR S6 11009 b8 p1 → Q (.returned (some (va_rf v7))) S12)) Q))) ∧ (¬ (¬ (zs_I S 7001 b1) = (5 : Int32)) → (zs_K S p0 = some (.inl 4) ∧ zs_C X d 4016 [.ref p0, .int (2 : Int32), .int p2, va_rf (zs_R S 7013 b1)] S (zs_kR (fun v17 S16 => (∃ b18, v17 = some b18 ∧ zs_K S16 b18 = some (.inl 11) ∧ ab_n0 X.1 ≤ b18 ∧ ∀ S22, S22 = zs_sR S16 11009 b18 p1 → zs_K S16 b1 = some (.inl 7) ∧ zs_K S16 p0 = some (.inl 4) ∧ zs_C X d 4048 [.ref p0, va_rf v17, va_rf (zs_R S22 7012 b1), .int p2] S22 (zs_kR (fun v28 S27 => (Q (.returned (some (va_rf v28))) S27)) Q))) Q)))))
theorem u_X5_variable {σ : Nat → Nat} {n0 : Nat} {bf : ab_B} {d : Nat} {p0 : Nat} {p1 : Option Nat} {p2 : Int32} {S : zs_T} {Q : zs_Q} (hB : zt_B bf) (hd : 1 ≤ d) (h : w_X5_variable (zx σ n0 bf) (d - 1) p0 p1 p2 S Q) : zs_C (zx σ n0 bf) d 4047 [.ref p0, va_rf p1, .int p2] S Q := by
  have hL : lv_args 0 [.ref p0, va_rf p1, .int p2] = [(0, .ref p0), (1, va_rf p1), (2, .int p2)] := by simp [lv_args, zs_cat, zs_cI, zs_cJ, zs_cA]
  refine zs_C.of1 (hB.2 4047 (by decide) (by decide)) hd (by rw [hL]; exact zs_sub_self _ (by exact ⟨rfl, rfl, rfl, trivial⟩)) ?_
  rw [hL]
  clear hL
  unfold w_X5_variable at h
  refine zu_aload_n d_4047_0 rfl (zs_rr _) ?_
  obtain ⟨b1, e2, h⟩ := h
  refine zs_stk0 (zs_rfe e2) ?_
  obtain ⟨k3, h⟩ := h
  refine zg_4_62 rfl d_4047_1 k3 ?_
  refine zu_iconst d_4047_4 zi_5 ?_
  refine zu_cmpne (t := 35) d_4047_5 rfl (fun c4 => ?_) (fun c4 => ?_)
  · have h := h.1 c4
    refine zu_aload_n d_4047_35 rfl (zs_ra _) ?_
    refine zu_iconst d_4047_36 zi_2 ?_
    refine zu_iload_n d_4047_37 rfl ?_
    refine zu_aload_n d_4047_38 rfl (zs_rr _) ?_
    refine zs_stk0 (zs_rfe e2) ?_
    refine zg_4_65 rfl d_4047_39 k3 ?_
    obtain ⟨k5, h⟩ := h
    refine zc_4_572 (x0 := (2 : Int32)) (x1 := p2) (x2 := (zs_R S 7002 b1)) hB rfl k5 d_4047_42 (Nat.le_of_ble_eq_true rfl) h (fun v7 S6 h => ?_)
    refine zu_astore_n d_4047_45 (zs_rr _) (zs_lt zq_4047 rfl) ?_
    refine zu_aload_n d_4047_46 rfl (zs_rr _) ?_
    refine zu_aload_n d_4047_47 rfl (zs_rr _) ?_
    obtain ⟨b8, e9, h⟩ := h
    refine zs_stk1 (zs_rfe e9) ?_
    obtain ⟨k10, h⟩ := h
    obtain ⟨k11, h⟩ := h
    refine zp_4_664 (v := p1) rfl d_4047_48 k10 k11 ?_
    generalize e13 : zs_sR S6 11009 b8 p1 = S12
    have h := h S12 e13.symm
    have K14 : ∀ b, zs_K S12 b = zs_K S6 b := zs_Kt e13 (zs_KsR _ _ _ _) (fun _ => rfl)
    refine zu_aload_n d_4047_51 rfl (zs_rr _) ?_
    exact zu_aret d_4047_52 zr_4047 (zs_rr _) h
  · have h := h.2 c4
    refine zu_aload_n d_4047_8 rfl (zs_ra _) ?_
    refine zu_iconst d_4047_9 zi_2 ?_
    refine zu_iload_n d_4047_10 rfl ?_
    refine zu_aload_n d_4047_11 rfl (zs_rr _) ?_
    refine zs_stk0 (zs_rfe e2) ?_
    refine zg_4_101 rfl d_4047_12 k3 ?_
    obtain ⟨k15, h⟩ := h
    refine zc_4_572 (x0 := (2 : Int32)) (x1 := p2) (x2 := (zs_R S 7013 b1)) hB rfl k15 d_4047_15 (Nat.le_of_ble_eq_true rfl) h (fun v17 S16 h => ?_)
    refine zu_astore_n d_4047_18 (zs_rr _) (zs_lt zq_4047 rfl) ?_
    refine zu_aload_n d_4047_19 rfl (zs_rr _) ?_
    refine zu_aload_n d_4047_20 rfl (zs_rr _) ?_
    obtain ⟨b18, e19, h⟩ := h
    refine zs_stk1 (zs_rfe e19) ?_
    obtain ⟨k20, h⟩ := h
    obtain ⟨k21, h⟩ := h
    refine zp_4_664 (v := p1) rfl d_4047_21 k20 k21 ?_
    generalize e23 : zs_sR S16 11009 b18 p1 = S22
    have h := h S22 e23.symm
    have K24 : ∀ b, zs_K S22 b = zs_K S16 b := zs_Kt e23 (zs_KsR _ _ _ _) (fun _ => rfl)
    refine zu_aload_n d_4047_24 rfl (zs_ra _) ?_
    refine zu_aload_n d_4047_25 rfl (zs_rr _) ?_
    refine zu_aload_n d_4047_26 rfl (zs_rr _) ?_
    refine zs_stk0 (zs_rfe e2) ?_
    obtain ⟨k25, h⟩ := h
    refine zg_4_97 rfl d_4047_27 ((K24 _).trans k25) ?_
    refine zu_iload_n d_4047_30 rfl ?_
    obtain ⟨k26, h⟩ := h
    refine zc_4_667 (x0 := v17) (x1 := (zs_R S22 7012 b1)) (x2 := p2) hB rfl ((K24 _).trans k26) d_4047_31 (Nat.le_of_ble_eq_true rfl) h (fun v28 S27 h => ?_)
    exact zu_aret d_4047_34 zr_4047 (zs_rr _) h
/-! SchemaPascal$Reader.fieldOf(LSchemaPascal$Node;LSchemaPascal$Field;I)LSchemaPascal$Node; -/
theorem zm_4048 {σ : Nat → Nat} {n0 : Nat} {bf : ab_B} : ab_code (zx σ n0 bf).1 4048 = prog_9_method_75_code := rfl
theorem zq_4048 {σ : Nat → Nat} {n0 : Nat} {bf : ab_B} : ab_maxL (zx σ n0 bf).1 4048 = 5 := rfl
theorem zr_4048 {σ : Nat → Nat} {n0 : Nat} {bf : ab_B} : ab_ret (zx σ n0 bf).1 4048 = (Option.some (Jvm.ClassFile.FieldType.object "SchemaPascal$Node")) := rfl
theorem d_4048_0 {σ : Nat → Nat} {n0 : Nat} {bf : ab_B} : decode (ab_code (zx σ n0 bf).1 4048) 0 = .ok (.aload_n 0, 1) := zd zm_4048 (by decide +kernel)
theorem d_4048_1 {σ : Nat → Nat} {n0 : Nat} {bf : ab_B} : decode (ab_code (zx σ n0 bf).1 4048) 1 = .ok (.iconst 4, 1) := zd zm_4048 (by decide +kernel)
theorem d_4048_2 {σ : Nat → Nat} {n0 : Nat} {bf : ab_B} : decode (ab_code (zx σ n0 bf).1 4048) 2 = .ok (.iload_n 3, 1) := zd zm_4048 (by decide +kernel)
theorem d_4048_3 {σ : Nat → Nat} {n0 : Nat} {bf : ab_B} : decode (ab_code (zx σ n0 bf).1 4048) 3 = .ok (.aload_n 2, 1) := zd zm_4048 (by decide +kernel)
theorem d_4048_4 {σ : Nat → Nat} {n0 : Nat} {bf : ab_B} : decode (ab_code (zx σ n0 bf).1 4048) 4 = .ok (.getfield 96, 3) := zd zm_4048 (by decide +kernel)
theorem d_4048_7 {σ : Nat → Nat} {n0 : Nat} {bf : ab_B} : decode (ab_code (zx σ n0 bf).1 4048) 7 = .ok (.invokevirtual 572, 3) := zd zm_4048 (by decide +kernel)
theorem d_4048_10 {σ : Nat → Nat} {n0 : Nat} {bf : ab_B} : decode (ab_code (zx σ n0 bf).1 4048) 10 = .ok (.astore 4, 2) := zd zm_4048 (by decide +kernel)
theorem d_4048_12 {σ : Nat → Nat} {n0 : Nat} {bf : ab_B} : decode (ab_code (zx σ n0 bf).1 4048) 12 = .ok (.aload 4, 2) := zd zm_4048 (by decide +kernel)
theorem d_4048_14 {σ : Nat → Nat} {n0 : Nat} {bf : ab_B} : decode (ab_code (zx σ n0 bf).1 4048) 14 = .ok (.aload_n 1, 1) := zd zm_4048 (by decide +kernel)
theorem d_4048_15 {σ : Nat → Nat} {n0 : Nat} {bf : ab_B} : decode (ab_code (zx σ n0 bf).1 4048) 15 = .ok (.putfield 539, 3) := zd zm_4048 (by decide +kernel)
theorem d_4048_18 {σ : Nat → Nat} {n0 : Nat} {bf : ab_B} : decode (ab_code (zx σ n0 bf).1 4048) 18 = .ok (.aload 4, 2) := zd zm_4048 (by decide +kernel)
theorem d_4048_20 {σ : Nat → Nat} {n0 : Nat} {bf : ab_B} : decode (ab_code (zx σ n0 bf).1 4048) 20 = .ok (.aload_n 2, 1) := zd zm_4048 (by decide +kernel)
theorem d_4048_21 {σ : Nat → Nat} {n0 : Nat} {bf : ab_B} : decode (ab_code (zx σ n0 bf).1 4048) 21 = .ok (.putfield 670, 3) := zd zm_4048 (by decide +kernel)
theorem d_4048_24 {σ : Nat → Nat} {n0 : Nat} {bf : ab_B} : decode (ab_code (zx σ n0 bf).1 4048) 24 = .ok (.aload 4, 2) := zd zm_4048 (by decide +kernel)
theorem d_4048_26 {σ : Nat → Nat} {n0 : Nat} {bf : ab_B} : decode (ab_code (zx σ n0 bf).1 4048) 26 = .ok (.areturn, 1) := zd zm_4048 (by decide +kernel)
def w_X5_fieldOf_2 (X : zs_X) (d : Nat) (p0 : Nat) (p1 : Option Nat) (p2 : Option Nat) (p3 : Int32) (S : zs_T) (Q : zs_Q) : Prop :=
  (∃ b1, p2 = some b1 ∧ zs_K S b1 = some (.inl 12) ∧ zs_K S p0 = some (.inl 4) ∧ zs_C X d 4016 [.ref p0, .int (4 : Int32), .int p3, va_rf (zs_R S 12001 b1)] S (zs_kR (fun v6 S5 => (∃ b7, v6 = some b7 ∧ zs_K S5 b7 = some (.inl 11) ∧ ab_n0 X.1 ≤ b7 ∧ ∀ S11, S11 = zs_sR S5 11005 b7 p1 → ∀ S14, S14 = zs_sR S11 11010 b7 p2 → Q (.returned (some (va_rf v6))) S14)) Q))
theorem u_X5_fieldOf_2 {σ : Nat → Nat} {n0 : Nat} {bf : ab_B} {d : Nat} {p0 : Nat} {p1 : Option Nat} {p2 : Option Nat} {p3 : Int32} {S : zs_T} {Q : zs_Q} (hB : zt_B bf) (hd : 1 ≤ d) (h : w_X5_fieldOf_2 (zx σ n0 bf) (d - 1) p0 p1 p2 p3 S Q) : zs_C (zx σ n0 bf) d 4048 [.ref p0, va_rf p1, va_rf p2, .int p3] S Q := by
  have hL : lv_args 0 [.ref p0, va_rf p1, va_rf p2, .int p3] = [(0, .ref p0), (1, va_rf p1), (2, va_rf p2), (3, .int p3)] := by simp [lv_args, zs_cat, zs_cI, zs_cJ, zs_cA]
  refine zs_C.of1 (hB.2 4048 (by decide) (by decide)) hd (by rw [hL]; exact zs_sub_self _ (by exact ⟨rfl, rfl, rfl, rfl, trivial⟩)) ?_
  rw [hL]
  clear hL
  unfold w_X5_fieldOf_2 at h
  refine zu_aload_n d_4048_0 rfl (zs_ra _) ?_
  refine zu_iconst d_4048_1 zi_4 ?_
  refine zu_iload_n d_4048_2 rfl ?_
  refine zu_aload_n d_4048_3 rfl (zs_rr _) ?_
  obtain ⟨b1, e2, h⟩ := h
  refine zs_stk0 (zs_rfe e2) ?_
  obtain ⟨k3, h⟩ := h
  refine zg_4_96 rfl d_4048_4 k3 ?_
  obtain ⟨k4, h⟩ := h
  refine zc_4_572 (x0 := (4 : Int32)) (x1 := p3) (x2 := (zs_R S 12001 b1)) hB rfl k4 d_4048_7 (Nat.le_of_ble_eq_true rfl) h (fun v6 S5 h => ?_)
  refine zu_astore d_4048_10 (zs_rr _) (zs_lt zq_4048 rfl) ?_
  refine zu_aload d_4048_12 rfl (zs_rr _) ?_
  refine zu_aload_n d_4048_14 rfl (zs_rr _) ?_
  obtain ⟨b7, e8, h⟩ := h
  refine zs_stk1 (zs_rfe e8) ?_
  obtain ⟨k9, h⟩ := h
  obtain ⟨k10, h⟩ := h
  refine zp_4_539 (v := p1) rfl d_4048_15 k9 k10 ?_
  generalize e12 : zs_sR S5 11005 b7 p1 = S11
  have h := h S11 e12.symm
  have K13 : ∀ b, zs_K S11 b = zs_K S5 b := zs_Kt e12 (zs_KsR _ _ _ _) (fun _ => rfl)
  refine zu_aload d_4048_18 rfl (zs_rr _) ?_
  refine zu_aload_n d_4048_20 rfl (zs_rr _) ?_
  refine zs_stk1 (zs_rfe e8) ?_
  refine zp_4_670 (v := p2) rfl d_4048_21 ((K13 _).trans k9) k10 ?_
  generalize e15 : zs_sR S11 11010 b7 p2 = S14
  have h := h S14 e15.symm
  have K16 : ∀ b, zs_K S14 b = zs_K S5 b := zs_Kt e15 (zs_KsR _ _ _ _) K13
  refine zu_aload d_4048_24 rfl (zs_rr _) ?_
  exact zu_aret d_4048_26 zr_4048 (zs_rr _) h
