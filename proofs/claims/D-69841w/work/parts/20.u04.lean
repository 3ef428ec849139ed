/-! printed by gen_all.py: what the methods compute -/
set_option maxRecDepth 100000
/-! SchemaPascal$Machine.text(III)V -/
theorem zm_1032 {σ : Nat → Nat} {n0 : Nat} {bf : ab_B} : ab_code (zx σ n0 bf).1 1032 = prog_5_method_38_code := rfl
theorem zq_1032 {σ : Nat → Nat} {n0 : Nat} {bf : ab_B} : ab_maxL (zx σ n0 bf).1 1032 = 8 := rfl
theorem zr_1032 {σ : Nat → Nat} {n0 : Nat} {bf : ab_B} : ab_ret (zx σ n0 bf).1 1032 = (Option.none : Option Jvm.ClassFile.FieldType) := rfl
theorem d_1032_0 {σ : Nat → Nat} {n0 : Nat} {bf : ab_B} : decode (ab_code (zx σ n0 bf).1 1032) 0 = .ok (.iload_n 1, 1) := zd zm_1032 (by decide +kernel)
theorem d_1032_1 {σ : Nat → Nat} {n0 : Nat} {bf : ab_B} : decode (ab_code (zx σ n0 bf).1 1032) 1 = .ok (.bipush 35, 2) := zd zm_1032 (by decide +kernel)
theorem d_1032_3 {σ : Nat → Nat} {n0 : Nat} {bf : ab_B} : decode (ab_code (zx σ n0 bf).1 1032) 3 = .ok (.if_icmp .ne 47, 3) := zd zm_1032 (by decide +kernel)
theorem d_1032_6 {σ : Nat → Nat} {n0 : Nat} {bf : ab_B} : decode (ab_code (zx σ n0 bf).1 1032) 6 = .ok (.aload_n 0, 1) := zd zm_1032 (by decide +kernel)
theorem d_1032_7 {σ : Nat → Nat} {n0 : Nat} {bf : ab_B} : decode (ab_code (zx σ n0 bf).1 1032) 7 = .ok (.iconst 1, 1) := zd zm_1032 (by decide +kernel)
theorem d_1032_8 {σ : Nat → Nat} {n0 : Nat} {bf : ab_B} : decode (ab_code (zx σ n0 bf).1 1032) 8 = .ok (.iload_n 2, 1) := zd zm_1032 (by decide +kernel)
theorem d_1032_9 {σ : Nat → Nat} {n0 : Nat} {bf : ab_B} : decode (ab_code (zx σ n0 bf).1 1032) 9 = .ok (.invokevirtual 227, 3) := zd zm_1032 (by decide +kernel)
theorem d_1032_12 {σ : Nat → Nat} {n0 : Nat} {bf : ab_B} : decode (ab_code (zx σ n0 bf).1 1032) 12 = .ok (.ifCond .eq 37, 3) := zd zm_1032 (by decide +kernel)
theorem d_1032_15 {σ : Nat → Nat} {n0 : Nat} {bf : ab_B} : decode (ab_code (zx σ n0 bf).1 1032) 15 = .ok (.aload_n 0, 1) := zd zm_1032 (by decide +kernel)
theorem d_1032_16 {σ : Nat → Nat} {n0 : Nat} {bf : ab_B} : decode (ab_code (zx σ n0 bf).1 1032) 16 = .ok (.getfield 42, 3) := zd zm_1032 (by decide +kernel)
theorem d_1032_19 {σ : Nat → Nat} {n0 : Nat} {bf : ab_B} : decode (ab_code (zx σ n0 bf).1 1032) 19 = .ok (.aload_n 0, 1) := zd zm_1032 (by decide +kernel)
theorem d_1032_20 {σ : Nat → Nat} {n0 : Nat} {bf : ab_B} : decode (ab_code (zx σ n0 bf).1 1032) 20 = .ok (.dup, 1) := zd zm_1032 (by decide +kernel)
theorem d_1032_21 {σ : Nat → Nat} {n0 : Nat} {bf : ab_B} : decode (ab_code (zx σ n0 bf).1 1032) 21 = .ok (.getfield 117, 3) := zd zm_1032 (by decide +kernel)
theorem d_1032_24 {σ : Nat → Nat} {n0 : Nat} {bf : ab_B} : decode (ab_code (zx σ n0 bf).1 1032) 24 = .ok (.dup_x1, 1) := zd zm_1032 (by decide +kernel)
theorem d_1032_25 {σ : Nat → Nat} {n0 : Nat} {bf : ab_B} : decode (ab_code (zx σ n0 bf).1 1032) 25 = .ok (.iconst 1, 1) := zd zm_1032 (by decide +kernel)
theorem d_1032_26 {σ : Nat → Nat} {n0 : Nat} {bf : ab_B} : decode (ab_code (zx σ n0 bf).1 1032) 26 = .ok (.iadd, 1) := zd zm_1032 (by decide +kernel)
theorem d_1032_27 {σ : Nat → Nat} {n0 : Nat} {bf : ab_B} : decode (ab_code (zx σ n0 bf).1 1032) 27 = .ok (.putfield 117, 3) := zd zm_1032 (by decide +kernel)
theorem d_1032_30 {σ : Nat → Nat} {n0 : Nat} {bf : ab_B} : decode (ab_code (zx σ n0 bf).1 1032) 30 = .ok (.aload_n 0, 1) := zd zm_1032 (by decide +kernel)
theorem d_1032_31 {σ : Nat → Nat} {n0 : Nat} {bf : ab_B} : decode (ab_code (zx σ n0 bf).1 1032) 31 = .ok (.getfield 36, 3) := zd zm_1032 (by decide +kernel)
theorem d_1032_34 {σ : Nat → Nat} {n0 : Nat} {bf : ab_B} : decode (ab_code (zx σ n0 bf).1 1032) 34 = .ok (.aload_n 0, 1) := zd zm_1032 (by decide +kernel)
theorem d_1032_35 {σ : Nat → Nat} {n0 : Nat} {bf : ab_B} : decode (ab_code (zx σ n0 bf).1 1032) 35 = .ok (.dup, 1) := zd zm_1032 (by decide +kernel)
theorem d_1032_36 {σ : Nat → Nat} {n0 : Nat} {bf : ab_B} : decode (ab_code (zx σ n0 bf).1 1032) 36 = .ok (.getfield 111, 3) := zd zm_1032 (by decide +kernel)
theorem d_1032_39 {σ : Nat → Nat} {n0 : Nat} {bf : ab_B} : decode (ab_code (zx σ n0 bf).1 1032) 39 = .ok (.iconst 1, 1) := zd zm_1032 (by decide +kernel)
theorem d_1032_40 {σ : Nat → Nat} {n0 : Nat} {bf : ab_B} : decode (ab_code (zx σ n0 bf).1 1032) 40 = .ok (.isub, 1) := zd zm_1032 (by decide +kernel)
theorem d_1032_41 {σ : Nat → Nat} {n0 : Nat} {bf : ab_B} : decode (ab_code (zx σ n0 bf).1 1032) 41 = .ok (.dup_x1, 1) := zd zm_1032 (by decide +kernel)
theorem d_1032_42 {σ : Nat → Nat} {n0 : Nat} {bf : ab_B} : decode (ab_code (zx σ n0 bf).1 1032) 42 = .ok (.putfield 111, 3) := zd zm_1032 (by decide +kernel)
theorem d_1032_45 {σ : Nat → Nat} {n0 : Nat} {bf : ab_B} : decode (ab_code (zx σ n0 bf).1 1032) 45 = .ok (.laload, 1) := zd zm_1032 (by decide +kernel)
theorem d_1032_46 {σ : Nat → Nat} {n0 : Nat} {bf : ab_B} : decode (ab_code (zx σ n0 bf).1 1032) 46 = .ok (.l2i, 1) := zd zm_1032 (by decide +kernel)
theorem d_1032_47 {σ : Nat → Nat} {n0 : Nat} {bf : ab_B} : decode (ab_code (zx σ n0 bf).1 1032) 47 = .ok (.i2b, 1) := zd zm_1032 (by decide +kernel)
theorem d_1032_48 {σ : Nat → Nat} {n0 : Nat} {bf : ab_B} : decode (ab_code (zx σ n0 bf).1 1032) 48 = .ok (.bastore, 1) := zd zm_1032 (by decide +kernel)
theorem d_1032_49 {σ : Nat → Nat} {n0 : Nat} {bf : ab_B} : decode (ab_code (zx σ n0 bf).1 1032) 49 = .ok (.return_, 1) := zd zm_1032 (by decide +kernel)
theorem d_1032_50 {σ : Nat → Nat} {n0 : Nat} {bf : ab_B} : decode (ab_code (zx σ n0 bf).1 1032) 50 = .ok (.aload_n 0, 1) := zd zm_1032 (by decide +kernel)
theorem d_1032_51 {σ : Nat → Nat} {n0 : Nat} {bf : ab_B} : decode (ab_code (zx σ n0 bf).1 1032) 51 = .ok (.aload_n 0, 1) := zd zm_1032 (by decide +kernel)
theorem d_1032_52 {σ : Nat → Nat} {n0 : Nat} {bf : ab_B} : decode (ab_code (zx σ n0 bf).1 1032) 52 = .ok (.getfield 114, 3) := zd zm_1032 (by decide +kernel)
theorem d_1032_55 {σ : Nat → Nat} {n0 : Nat} {bf : ab_B} : decode (ab_code (zx σ n0 bf).1 1032) 55 = .ok (.iconst 2, 1) := zd zm_1032 (by decide +kernel)
theorem d_1032_56 {σ : Nat → Nat} {n0 : Nat} {bf : ab_B} : decode (ab_code (zx σ n0 bf).1 1032) 56 = .ok (.isub, 1) := zd zm_1032 (by decide +kernel)
theorem d_1032_57 {σ : Nat → Nat} {n0 : Nat} {bf : ab_B} : decode (ab_code (zx σ n0 bf).1 1032) 57 = .ok (.invokevirtual 443, 3) := zd zm_1032 (by decide +kernel)
theorem d_1032_60 {σ : Nat → Nat} {n0 : Nat} {bf : ab_B} : decode (ab_code (zx σ n0 bf).1 1032) 60 = .ok (.istore 4, 2) := zd zm_1032 (by decide +kernel)
theorem d_1032_62 {σ : Nat → Nat} {n0 : Nat} {bf : ab_B} : decode (ab_code (zx σ n0 bf).1 1032) 62 = .ok (.aload_n 0, 1) := zd zm_1032 (by decide +kernel)
theorem d_1032_63 {σ : Nat → Nat} {n0 : Nat} {bf : ab_B} : decode (ab_code (zx σ n0 bf).1 1032) 63 = .ok (.aload_n 0, 1) := zd zm_1032 (by decide +kernel)
theorem d_1032_64 {σ : Nat → Nat} {n0 : Nat} {bf : ab_B} : decode (ab_code (zx σ n0 bf).1 1032) 64 = .ok (.getfield 114, 3) := zd zm_1032 (by decide +kernel)
theorem d_1032_67 {σ : Nat → Nat} {n0 : Nat} {bf : ab_B} : decode (ab_code (zx σ n0 bf).1 1032) 67 = .ok (.iconst 1, 1) := zd zm_1032 (by decide +kernel)
theorem d_1032_68 {σ : Nat → Nat} {n0 : Nat} {bf : ab_B} : decode (ab_code (zx σ n0 bf).1 1032) 68 = .ok (.isub, 1) := zd zm_1032 (by decide +kernel)
theorem d_1032_69 {σ : Nat → Nat} {n0 : Nat} {bf : ab_B} : decode (ab_code (zx σ n0 bf).1 1032) 69 = .ok (.invokevirtual 443, 3) := zd zm_1032 (by decide +kernel)
theorem d_1032_72 {σ : Nat → Nat} {n0 : Nat} {bf : ab_B} : decode (ab_code (zx σ n0 bf).1 1032) 72 = .ok (.istore 5, 2) := zd zm_1032 (by decide +kernel)
theorem d_1032_74 {σ : Nat → Nat} {n0 : Nat} {bf : ab_B} : decode (ab_code (zx σ n0 bf).1 1032) 74 = .ok (.iload_n 1, 1) := zd zm_1032 (by decide +kernel)
theorem d_1032_75 {σ : Nat → Nat} {n0 : Nat} {bf : ab_B} : decode (ab_code (zx σ n0 bf).1 1032) 75 = .ok (.bipush 34, 2) := zd zm_1032 (by decide +kernel)
theorem d_1032_77 {σ : Nat → Nat} {n0 : Nat} {bf : ab_B} : decode (ab_code (zx σ n0 bf).1 1032) 77 = .ok (.if_icmp .ne 31, 3) := zd zm_1032 (by decide +kernel)
theorem d_1032_80 {σ : Nat → Nat} {n0 : Nat} {bf : ab_B} : decode (ab_code (zx σ n0 bf).1 1032) 80 = .ok (.aload_n 0, 1) := zd zm_1032 (by decide +kernel)
theorem d_1032_81 {σ : Nat → Nat} {n0 : Nat} {bf : ab_B} : decode (ab_code (zx σ n0 bf).1 1032) 81 = .ok (.dup, 1) := zd zm_1032 (by decide +kernel)
theorem d_1032_82 {σ : Nat → Nat} {n0 : Nat} {bf : ab_B} : decode (ab_code (zx σ n0 bf).1 1032) 82 = .ok (.getfield 114, 3) := zd zm_1032 (by decide +kernel)
theorem d_1032_85 {σ : Nat → Nat} {n0 : Nat} {bf : ab_B} : decode (ab_code (zx σ n0 bf).1 1032) 85 = .ok (.iconst 1, 1) := zd zm_1032 (by decide +kernel)
theorem d_1032_86 {σ : Nat → Nat} {n0 : Nat} {bf : ab_B} : decode (ab_code (zx σ n0 bf).1 1032) 86 = .ok (.isub, 1) := zd zm_1032 (by decide +kernel)
theorem d_1032_87 {σ : Nat → Nat} {n0 : Nat} {bf : ab_B} : decode (ab_code (zx σ n0 bf).1 1032) 87 = .ok (.putfield 114, 3) := zd zm_1032 (by decide +kernel)
theorem d_1032_90 {σ : Nat → Nat} {n0 : Nat} {bf : ab_B} : decode (ab_code (zx σ n0 bf).1 1032) 90 = .ok (.iload 4, 2) := zd zm_1032 (by decide +kernel)
theorem d_1032_92 {σ : Nat → Nat} {n0 : Nat} {bf : ab_B} : decode (ab_code (zx σ n0 bf).1 1032) 92 = .ok (.iload 5, 2) := zd zm_1032 (by decide +kernel)
theorem d_1032_94 {σ : Nat → Nat} {n0 : Nat} {bf : ab_B} : decode (ab_code (zx σ n0 bf).1 1032) 94 = .ok (.iadd, 1) := zd zm_1032 (by decide +kernel)
theorem d_1032_95 {σ : Nat → Nat} {n0 : Nat} {bf : ab_B} : decode (ab_code (zx σ n0 bf).1 1032) 95 = .ok (.bipush 80, 2) := zd zm_1032 (by decide +kernel)
theorem d_1032_97 {σ : Nat → Nat} {n0 : Nat} {bf : ab_B} : decode (ab_code (zx σ n0 bf).1 1032) 97 = .ok (.if_icmp .le 10, 3) := zd zm_1032 (by decide +kernel)
theorem d_1032_100 {σ : Nat → Nat} {n0 : Nat} {bf : ab_B} : decode (ab_code (zx σ n0 bf).1 1032) 100 = .ok (.aload_n 0, 1) := zd zm_1032 (by decide +kernel)
theorem d_1032_101 {σ : Nat → Nat} {n0 : Nat} {bf : ab_B} : decode (ab_code (zx σ n0 bf).1 1032) 101 = .ok (.iconst 2, 1) := zd zm_1032 (by decide +kernel)
theorem d_1032_102 {σ : Nat → Nat} {n0 : Nat} {bf : ab_B} : decode (ab_code (zx σ n0 bf).1 1032) 102 = .ok (.iload_n 2, 1) := zd zm_1032 (by decide +kernel)
theorem d_1032_103 {σ : Nat → Nat} {n0 : Nat} {bf : ab_B} : decode (ab_code (zx σ n0 bf).1 1032) 103 = .ok (.invokevirtual 194, 3) := zd zm_1032 (by decide +kernel)
theorem d_1032_106 {σ : Nat → Nat} {n0 : Nat} {bf : ab_B} : decode (ab_code (zx σ n0 bf).1 1032) 106 = .ok (.pop, 1) := zd zm_1032 (by decide +kernel)
theorem d_1032_107 {σ : Nat → Nat} {n0 : Nat} {bf : ab_B} : decode (ab_code (zx σ n0 bf).1 1032) 107 = .ok (.return_, 1) := zd zm_1032 (by decide +kernel)
theorem d_1032_108 {σ : Nat → Nat} {n0 : Nat} {bf : ab_B} : decode (ab_code (zx σ n0 bf).1 1032) 108 = .ok (.iconst 0, 1) := zd zm_1032 (by decide +kernel)
theorem d_1032_109 {σ : Nat → Nat} {n0 : Nat} {bf : ab_B} : decode (ab_code (zx σ n0 bf).1 1032) 109 = .ok (.istore 6, 2) := zd zm_1032 (by decide +kernel)
theorem d_1032_111 {σ : Nat → Nat} {n0 : Nat} {bf : ab_B} : decode (ab_code (zx σ n0 bf).1 1032) 111 = .ok (.iconst 0, 1) := zd zm_1032 (by decide +kernel)
theorem d_1032_112 {σ : Nat → Nat} {n0 : Nat} {bf : ab_B} : decode (ab_code (zx σ n0 bf).1 1032) 112 = .ok (.istore 7, 2) := zd zm_1032 (by decide +kernel)
theorem d_1032_114 {σ : Nat → Nat} {n0 : Nat} {bf : ab_B} : decode (ab_code (zx σ n0 bf).1 1032) 114 = .ok (.iload 7, 2) := zd zm_1032 (by decide +kernel)
theorem d_1032_116 {σ : Nat → Nat} {n0 : Nat} {bf : ab_B} : decode (ab_code (zx σ n0 bf).1 1032) 116 = .ok (.iload 4, 2) := zd zm_1032 (by decide +kernel)
theorem d_1032_118 {σ : Nat → Nat} {n0 : Nat} {bf : ab_B} : decode (ab_code (zx σ n0 bf).1 1032) 118 = .ok (.if_icmp .ge 70, 3) := zd zm_1032 (by decide +kernel)
theorem d_1032_121 {σ : Nat → Nat} {n0 : Nat} {bf : ab_B} : decode (ab_code (zx σ n0 bf).1 1032) 121 = .ok (.iload 7, 2) := zd zm_1032 (by decide +kernel)
theorem d_1032_123 {σ : Nat → Nat} {n0 : Nat} {bf : ab_B} : decode (ab_code (zx σ n0 bf).1 1032) 123 = .ok (.iload 5, 2) := zd zm_1032 (by decide +kernel)
theorem d_1032_125 {σ : Nat → Nat} {n0 : Nat} {bf : ab_B} : decode (ab_code (zx σ n0 bf).1 1032) 125 = .ok (.if_icmp .ge 63, 3) := zd zm_1032 (by decide +kernel)
theorem d_1032_128 {σ : Nat → Nat} {n0 : Nat} {bf : ab_B} : decode (ab_code (zx σ n0 bf).1 1032) 128 = .ok (.iload 6, 2) := zd zm_1032 (by decide +kernel)
theorem d_1032_130 {σ : Nat → Nat} {n0 : Nat} {bf : ab_B} : decode (ab_code (zx σ n0 bf).1 1032) 130 = .ok (.ifCond .ne 58, 3) := zd zm_1032 (by decide +kernel)
theorem d_1032_133 {σ : Nat → Nat} {n0 : Nat} {bf : ab_B} : decode (ab_code (zx σ n0 bf).1 1032) 133 = .ok (.aload_n 0, 1) := zd zm_1032 (by decide +kernel)
theorem d_1032_134 {σ : Nat → Nat} {n0 : Nat} {bf : ab_B} : decode (ab_code (zx σ n0 bf).1 1032) 134 = .ok (.getfield 42, 3) := zd zm_1032 (by decide +kernel)
theorem d_1032_137 {σ : Nat → Nat} {n0 : Nat} {bf : ab_B} : decode (ab_code (zx σ n0 bf).1 1032) 137 = .ok (.aload_n 0, 1) := zd zm_1032 (by decide +kernel)
theorem d_1032_138 {σ : Nat → Nat} {n0 : Nat} {bf : ab_B} : decode (ab_code (zx σ n0 bf).1 1032) 138 = .ok (.getfield 46, 3) := zd zm_1032 (by decide +kernel)
theorem d_1032_141 {σ : Nat → Nat} {n0 : Nat} {bf : ab_B} : decode (ab_code (zx σ n0 bf).1 1032) 141 = .ok (.aload_n 0, 1) := zd zm_1032 (by decide +kernel)
theorem d_1032_142 {σ : Nat → Nat} {n0 : Nat} {bf : ab_B} : decode (ab_code (zx σ n0 bf).1 1032) 142 = .ok (.getfield 114, 3) := zd zm_1032 (by decide +kernel)
theorem d_1032_145 {σ : Nat → Nat} {n0 : Nat} {bf : ab_B} : decode (ab_code (zx σ n0 bf).1 1032) 145 = .ok (.iconst 2, 1) := zd zm_1032 (by decide +kernel)
theorem d_1032_146 {σ : Nat → Nat} {n0 : Nat} {bf : ab_B} : decode (ab_code (zx σ n0 bf).1 1032) 146 = .ok (.isub, 1) := zd zm_1032 (by decide +kernel)
theorem d_1032_147 {σ : Nat → Nat} {n0 : Nat} {bf : ab_B} : decode (ab_code (zx σ n0 bf).1 1032) 147 = .ok (.iaload, 1) := zd zm_1032 (by decide +kernel)
theorem d_1032_148 {σ : Nat → Nat} {n0 : Nat} {bf : ab_B} : decode (ab_code (zx σ n0 bf).1 1032) 148 = .ok (.iload 7, 2) := zd zm_1032 (by decide +kernel)
theorem d_1032_150 {σ : Nat → Nat} {n0 : Nat} {bf : ab_B} : decode (ab_code (zx σ n0 bf).1 1032) 150 = .ok (.iadd, 1) := zd zm_1032 (by decide +kernel)
theorem d_1032_151 {σ : Nat → Nat} {n0 : Nat} {bf : ab_B} : decode (ab_code (zx σ n0 bf).1 1032) 151 = .ok (.baload, 1) := zd zm_1032 (by decide +kernel)
theorem d_1032_152 {σ : Nat → Nat} {n0 : Nat} {bf : ab_B} : decode (ab_code (zx σ n0 bf).1 1032) 152 = .ok (.sipush 255, 3) := zd zm_1032 (by decide +kernel)
theorem d_1032_155 {σ : Nat → Nat} {n0 : Nat} {bf : ab_B} : decode (ab_code (zx σ n0 bf).1 1032) 155 = .ok (.iand, 1) := zd zm_1032 (by decide +kernel)
theorem d_1032_156 {σ : Nat → Nat} {n0 : Nat} {bf : ab_B} : decode (ab_code (zx σ n0 bf).1 1032) 156 = .ok (.aload_n 0, 1) := zd zm_1032 (by decide +kernel)
theorem d_1032_157 {σ : Nat → Nat} {n0 : Nat} {bf : ab_B} : decode (ab_code (zx σ n0 bf).1 1032) 157 = .ok (.getfield 42, 3) := zd zm_1032 (by decide +kernel)
theorem d_1032_160 {σ : Nat → Nat} {n0 : Nat} {bf : ab_B} : decode (ab_code (zx σ n0 bf).1 1032) 160 = .ok (.aload_n 0, 1) := zd zm_1032 (by decide +kernel)
theorem d_1032_161 {σ : Nat → Nat} {n0 : Nat} {bf : ab_B} : decode (ab_code (zx σ n0 bf).1 1032) 161 = .ok (.getfield 46, 3) := zd zm_1032 (by decide +kernel)
theorem d_1032_164 {σ : Nat → Nat} {n0 : Nat} {bf : ab_B} : decode (ab_code (zx σ n0 bf).1 1032) 164 = .ok (.aload_n 0, 1) := zd zm_1032 (by decide +kernel)
theorem d_1032_165 {σ : Nat → Nat} {n0 : Nat} {bf : ab_B} : decode (ab_code (zx σ n0 bf).1 1032) 165 = .ok (.getfield 114, 3) := zd zm_1032 (by decide +kernel)
theorem d_1032_168 {σ : Nat → Nat} {n0 : Nat} {bf : ab_B} : decode (ab_code (zx σ n0 bf).1 1032) 168 = .ok (.iconst 1, 1) := zd zm_1032 (by decide +kernel)
theorem d_1032_169 {σ : Nat → Nat} {n0 : Nat} {bf : ab_B} : decode (ab_code (zx σ n0 bf).1 1032) 169 = .ok (.isub, 1) := zd zm_1032 (by decide +kernel)
theorem d_1032_170 {σ : Nat → Nat} {n0 : Nat} {bf : ab_B} : decode (ab_code (zx σ n0 bf).1 1032) 170 = .ok (.iaload, 1) := zd zm_1032 (by decide +kernel)
theorem d_1032_171 {σ : Nat → Nat} {n0 : Nat} {bf : ab_B} : decode (ab_code (zx σ n0 bf).1 1032) 171 = .ok (.iload 7, 2) := zd zm_1032 (by decide +kernel)
theorem d_1032_173 {σ : Nat → Nat} {n0 : Nat} {bf : ab_B} : decode (ab_code (zx σ n0 bf).1 1032) 173 = .ok (.iadd, 1) := zd zm_1032 (by decide +kernel)
theorem d_1032_174 {σ : Nat → Nat} {n0 : Nat} {bf : ab_B} : decode (ab_code (zx σ n0 bf).1 1032) 174 = .ok (.baload, 1) := zd zm_1032 (by decide +kernel)
theorem d_1032_175 {σ : Nat → Nat} {n0 : Nat} {bf : ab_B} : decode (ab_code (zx σ n0 bf).1 1032) 175 = .ok (.sipush 255, 3) := zd zm_1032 (by decide +kernel)
theorem d_1032_178 {σ : Nat → Nat} {n0 : Nat} {bf : ab_B} : decode (ab_code (zx σ n0 bf).1 1032) 178 = .ok (.iand, 1) := zd zm_1032 (by decide +kernel)
theorem d_1032_179 {σ : Nat → Nat} {n0 : Nat} {bf : ab_B} : decode (ab_code (zx σ n0 bf).1 1032) 179 = .ok (.isub, 1) := zd zm_1032 (by decide +kernel)
theorem d_1032_180 {σ : Nat → Nat} {n0 : Nat} {bf : ab_B} : decode (ab_code (zx σ n0 bf).1 1032) 180 = .ok (.istore 6, 2) := zd zm_1032 (by decide +kernel)
theorem d_1032_182 {σ : Nat → Nat} {n0 : Nat} {bf : ab_B} : decode (ab_code (zx σ n0 bf).1 1032) 182 = .ok (.iinc 7 1, 3) := zd zm_1032 (by decide +kernel)
theorem d_1032_185 {σ : Nat → Nat} {n0 : Nat} {bf : ab_B} : decode (ab_code (zx σ n0 bf).1 1032) 185 = .ok (.goto (-71), 3) := zd zm_1032 (by decide +kernel)
theorem d_1032_188 {σ : Nat → Nat} {n0 : Nat} {bf : ab_B} : decode (ab_code (zx σ n0 bf).1 1032) 188 = .ok (.iload 6, 2) := zd zm_1032 (by decide +kernel)
theorem d_1032_190 {σ : Nat → Nat} {n0 : Nat} {bf : ab_B} : decode (ab_code (zx σ n0 bf).1 1032) 190 = .ok (.ifCond .eq 8, 3) := zd zm_1032 (by decide +kernel)
theorem d_1032_193 {σ : Nat → Nat} {n0 : Nat} {bf : ab_B} : decode (ab_code (zx σ n0 bf).1 1032) 193 = .ok (.iload 6, 2) := zd zm_1032 (by decide +kernel)
theorem d_1032_195 {σ : Nat → Nat} {n0 : Nat} {bf : ab_B} : decode (ab_code (zx σ n0 bf).1 1032) 195 = .ok (.goto 8, 3) := zd zm_1032 (by decide +kernel)
theorem d_1032_198 {σ : Nat → Nat} {n0 : Nat} {bf : ab_B} : decode (ab_code (zx σ n0 bf).1 1032) 198 = .ok (.iload 4, 2) := zd zm_1032 (by decide +kernel)
theorem d_1032_200 {σ : Nat → Nat} {n0 : Nat} {bf : ab_B} : decode (ab_code (zx σ n0 bf).1 1032) 200 = .ok (.iload 5, 2) := zd zm_1032 (by decide +kernel)
theorem d_1032_202 {σ : Nat → Nat} {n0 : Nat} {bf : ab_B} : decode (ab_code (zx σ n0 bf).1 1032) 202 = .ok (.isub, 1) := zd zm_1032 (by decide +kernel)
theorem d_1032_203 {σ : Nat → Nat} {n0 : Nat} {bf : ab_B} : decode (ab_code (zx σ n0 bf).1 1032) 203 = .ok (.istore 6, 2) := zd zm_1032 (by decide +kernel)
theorem d_1032_205 {σ : Nat → Nat} {n0 : Nat} {bf : ab_B} : decode (ab_code (zx σ n0 bf).1 1032) 205 = .ok (.aload_n 0, 1) := zd zm_1032 (by decide +kernel)
theorem d_1032_206 {σ : Nat → Nat} {n0 : Nat} {bf : ab_B} : decode (ab_code (zx σ n0 bf).1 1032) 206 = .ok (.dup, 1) := zd zm_1032 (by decide +kernel)
theorem d_1032_207 {σ : Nat → Nat} {n0 : Nat} {bf : ab_B} : decode (ab_code (zx σ n0 bf).1 1032) 207 = .ok (.getfield 114, 3) := zd zm_1032 (by decide +kernel)
theorem d_1032_210 {σ : Nat → Nat} {n0 : Nat} {bf : ab_B} : decode (ab_code (zx σ n0 bf).1 1032) 210 = .ok (.iconst 2, 1) := zd zm_1032 (by decide +kernel)
theorem d_1032_211 {σ : Nat → Nat} {n0 : Nat} {bf : ab_B} : decode (ab_code (zx σ n0 bf).1 1032) 211 = .ok (.isub, 1) := zd zm_1032 (by decide +kernel)
theorem d_1032_212 {σ : Nat → Nat} {n0 : Nat} {bf : ab_B} : decode (ab_code (zx σ n0 bf).1 1032) 212 = .ok (.putfield 114, 3) := zd zm_1032 (by decide +kernel)
theorem d_1032_215 {σ : Nat → Nat} {n0 : Nat} {bf : ab_B} : decode (ab_code (zx σ n0 bf).1 1032) 215 = .ok (.aload_n 0, 1) := zd zm_1032 (by decide +kernel)
theorem d_1032_216 {σ : Nat → Nat} {n0 : Nat} {bf : ab_B} : decode (ab_code (zx σ n0 bf).1 1032) 216 = .ok (.aload_n 0, 1) := zd zm_1032 (by decide +kernel)
theorem d_1032_217 {σ : Nat → Nat} {n0 : Nat} {bf : ab_B} : decode (ab_code (zx σ n0 bf).1 1032) 217 = .ok (.getfield 46, 3) := zd zm_1032 (by decide +kernel)
theorem d_1032_220 {σ : Nat → Nat} {n0 : Nat} {bf : ab_B} : decode (ab_code (zx σ n0 bf).1 1032) 220 = .ok (.aload_n 0, 1) := zd zm_1032 (by decide +kernel)
theorem d_1032_221 {σ : Nat → Nat} {n0 : Nat} {bf : ab_B} : decode (ab_code (zx σ n0 bf).1 1032) 221 = .ok (.getfield 114, 3) := zd zm_1032 (by decide +kernel)
theorem d_1032_224 {σ : Nat → Nat} {n0 : Nat} {bf : ab_B} : decode (ab_code (zx σ n0 bf).1 1032) 224 = .ok (.iaload, 1) := zd zm_1032 (by decide +kernel)
theorem d_1032_225 {σ : Nat → Nat} {n0 : Nat} {bf : ab_B} : decode (ab_code (zx σ n0 bf).1 1032) 225 = .ok (.putfield 117, 3) := zd zm_1032 (by decide +kernel)
theorem d_1032_228 {σ : Nat → Nat} {n0 : Nat} {bf : ab_B} : decode (ab_code (zx σ n0 bf).1 1032) 228 = .ok (.aload_n 0, 1) := zd zm_1032 (by decide +kernel)
theorem d_1032_229 {σ : Nat → Nat} {n0 : Nat} {bf : ab_B} : decode (ab_code (zx σ n0 bf).1 1032) 229 = .ok (.aload_n 0, 1) := zd zm_1032 (by decide +kernel)
theorem d_1032_230 {σ : Nat → Nat} {n0 : Nat} {bf : ab_B} : decode (ab_code (zx σ n0 bf).1 1032) 230 = .ok (.getfield 107, 3) := zd zm_1032 (by decide +kernel)
theorem d_1032_233 {σ : Nat → Nat} {n0 : Nat} {bf : ab_B} : decode (ab_code (zx σ n0 bf).1 1032) 233 = .ok (.getfield 201, 3) := zd zm_1032 (by decide +kernel)
theorem d_1032_236 {σ : Nat → Nat} {n0 : Nat} {bf : ab_B} : decode (ab_code (zx σ n0 bf).1 1032) 236 = .ok (.iload_n 3, 1) := zd zm_1032 (by decide +kernel)
theorem d_1032_237 {σ : Nat → Nat} {n0 : Nat} {bf : ab_B} : decode (ab_code (zx σ n0 bf).1 1032) 237 = .ok (.iconst 2, 1) := zd zm_1032 (by decide +kernel)
theorem d_1032_238 {σ : Nat → Nat} {n0 : Nat} {bf : ab_B} : decode (ab_code (zx σ n0 bf).1 1032) 238 = .ok (.iadd, 1) := zd zm_1032 (by decide +kernel)
theorem d_1032_239 {σ : Nat → Nat} {n0 : Nat} {bf : ab_B} : decode (ab_code (zx σ n0 bf).1 1032) 239 = .ok (.iaload, 1) := zd zm_1032 (by decide +kernel)
theorem d_1032_240 {σ : Nat → Nat} {n0 : Nat} {bf : ab_B} : decode (ab_code (zx σ n0 bf).1 1032) 240 = .ok (.iload 6, 2) := zd zm_1032 (by decide +kernel)
theorem d_1032_242 {σ : Nat → Nat} {n0 : Nat} {bf : ab_B} : decode (ab_code (zx σ n0 bf).1 1032) 242 = .ok (.i2l, 1) := zd zm_1032 (by decide +kernel)
theorem d_1032_243 {σ : Nat → Nat} {n0 : Nat} {bf : ab_B} : decode (ab_code (zx σ n0 bf).1 1032) 243 = .ok (.lconst 0, 1) := zd zm_1032 (by decide +kernel)
theorem d_1032_244 {σ : Nat → Nat} {n0 : Nat} {bf : ab_B} : decode (ab_code (zx σ n0 bf).1 1032) 244 = .ok (.invokestatic 430, 3) := zd zm_1032 (by decide +kernel)
theorem d_1032_247 {σ : Nat → Nat} {n0 : Nat} {bf : ab_B} : decode (ab_code (zx σ n0 bf).1 1032) 247 = .ok (.ifCond .eq 7, 3) := zd zm_1032 (by decide +kernel)
theorem d_1032_250 {σ : Nat → Nat} {n0 : Nat} {bf : ab_B} : decode (ab_code (zx σ n0 bf).1 1032) 250 = .ok (.lconst 1, 1) := zd zm_1032 (by decide +kernel)
theorem d_1032_251 {σ : Nat → Nat} {n0 : Nat} {bf : ab_B} : decode (ab_code (zx σ n0 bf).1 1032) 251 = .ok (.goto 4, 3) := zd zm_1032 (by decide +kernel)
theorem d_1032_254 {σ : Nat → Nat} {n0 : Nat} {bf : ab_B} : decode (ab_code (zx σ n0 bf).1 1032) 254 = .ok (.lconst 0, 1) := zd zm_1032 (by decide +kernel)
theorem d_1032_255 {σ : Nat → Nat} {n0 : Nat} {bf : ab_B} : decode (ab_code (zx σ n0 bf).1 1032) 255 = .ok (.invokevirtual 223, 3) := zd zm_1032 (by decide +kernel)
theorem d_1032_258 {σ : Nat → Nat} {n0 : Nat} {bf : ab_B} : decode (ab_code (zx σ n0 bf).1 1032) 258 = .ok (.return_, 1) := zd zm_1032 (by decide +kernel)
def w_X2_text_49 (X : zs_X) (d : Nat)  (S : zs_T) (Q : zs_Q) : Prop :=
  (Q (.returned none) S)
theorem u_X2_text_49 {σ : Nat → Nat} {n0 : Nat} {bf : ab_B} {d : Nat}  {S : zs_T} {Q : zs_Q} (hB : zt_B bf) (h : w_X2_text_49 (zx σ n0 bf) d  S Q) : zs_U (zx σ n0 bf) d 1032 49 [] [] S Q := by
  unfold w_X2_text_49 at h
  exact zu_vret d_1032_49 zr_1032 h
def w_X2_text_107 (X : zs_X) (d : Nat)  (S : zs_T) (Q : zs_Q) : Prop :=
  (Q (.returned none) S)
theorem u_X2_text_107 {σ : Nat → Nat} {n0 : Nat} {bf : ab_B} {d : Nat}  {S : zs_T} {Q : zs_Q} (hB : zt_B bf) (h : w_X2_text_107 (zx σ n0 bf) d  S Q) : zs_U (zx σ n0 bf) d 1032 107 [] [] S Q := by
  unfold w_X2_text_107 at h
  exact zu_vret d_1032_107 zr_1032 h
def w_X2_text_74 (X : zs_X) (d : Nat) (p0 : Nat) (p1 : Int32) (p2 : Int32) (p3 : Int32) (p4 : Int32) (p5 : Int32) (S : zs_T) (Q : zs_Q) : Prop :=
  (((¬ p1 = (34 : Int32) → (zs_U X d 1032 114 [(0, .ref p0), (3, .int p3), (4, .int p4), (5, .int p5), (6, .int (0 : Int32)), (7, .int (0 : Int32))] [] S Q)) ∧ (¬ (¬ p1 = (34 : Int32)) → (zs_K S p0 = some (.inl 1) ∧ ab_n0 X.1 ≤ p0 ∧ ∀ S4, S4 = zs_sI S 1010 p0 ((zs_I S 1010 p0) - (1 : Int32)) → (((p4 + p5) ≤ (80 : Int32) → w_X2_text_107 X d  S4 Q) ∧ (¬ ((p4 + p5) ≤ (80 : Int32)) → (zs_C X d 1004 [.ref p0, .int (2 : Int32), .int p2] S4 (zs_kI (fun v9 S8 => (w_X2_text_107 X d  S8 Q)) Q))))))))
theorem u_X2_text_74 {σ : Nat → Nat} {n0 : Nat} {bf : ab_B} {d : Nat} {p0 : Nat} {p1 : Int32} {p2 : Int32} {p3 : Int32} {p4 : Int32} {p5 : Int32} {S : zs_T} {Q : zs_Q} (hB : zt_B bf) (h : w_X2_text_74 (zx σ n0 bf) d p0 p1 p2 p3 p4 p5 S Q) : zs_U (zx σ n0 bf) d 1032 74 [(0, .ref p0), (1, .int p1), (2, .int p2), (3, .int p3), (4, .int p4), (5, .int p5)] [] S Q := by
  unfold w_X2_text_74 at h
  refine zu_iload_n d_1032_74 rfl ?_
  refine zu_bipush d_1032_75 zj_34 ?_
  refine zu_cmpne (t := 108) d_1032_77 rfl (fun c1 => ?_) (fun c1 => ?_)
  · have h := h.1 c1
    refine zu_iconst d_1032_108 zi_0 ?_
    refine zu_istore d_1032_109 (zs_lt zq_1032 rfl) ?_
    refine zu_iconst d_1032_111 zi_0 ?_
    refine zu_istore d_1032_112 (zs_lt zq_1032 rfl) ?_
    exact h.weak ⟨rfl, rfl, rfl, rfl, rfl, rfl, trivial⟩
  · have h := h.2 c1
    refine zu_aload_n d_1032_80 rfl (zs_ra _) ?_
    refine zu_dup d_1032_81 rfl ?_
    obtain ⟨k2, h⟩ := h
    refine zg_1_114 rfl d_1032_82 k2 ?_
    refine zu_iconst d_1032_85 zi_1 ?_
    refine zu_stk d_1032_86 rfl rfl ?_
    obtain ⟨k3, h⟩ := h
    refine zp_1_114 (v := ((zs_I S 1010 p0) - (1 : Int32))) rfl d_1032_87 k2 k3 ?_
    generalize e5 : zs_sI S 1010 p0 ((zs_I S 1010 p0) - (1 : Int32)) = S4
    have h := h S4 e5.symm
    have K6 : ∀ b, zs_K S4 b = zs_K S b := zs_Kt e5 (zs_KsI _ _ _ _) (fun _ => rfl)
    refine zu_iload d_1032_90 rfl ?_
    refine zu_iload d_1032_92 rfl ?_
    refine zu_stk d_1032_94 rfl rfl ?_
    refine zu_bipush d_1032_95 zj_80 ?_
    refine zu_cmple (t := 107) d_1032_97 rfl (fun c7 => ?_) (fun c7 => ?_)
    · have h := h.1 c7
      exact (u_X2_text_107 hB h).weak trivial
    · have h := h.2 c7
      refine zu_aload_n d_1032_100 rfl (zs_ra _) ?_
      refine zu_iconst d_1032_101 zi_2 ?_
      refine zu_iload_n d_1032_102 rfl ?_
      refine zc_1_194 (x0 := (2 : Int32)) (x1 := p2) hB rfl ((K6 _).trans k2) d_1032_103 (Nat.le_of_ble_eq_true rfl) h (fun v9 S8 h => ?_)
      refine zu_pop d_1032_106 rfl ?_
      exact (u_X2_text_107 hB h).weak trivial
def w_X2_text_255 (X : zs_X) (d : Nat) (q0 : Option Nat) (q1 : Int64) (S : zs_T) (Q : zs_Q) : Prop :=
  (∃ b1, q0 = some b1 ∧ zs_K S b1 = some (.inl 1) ∧ zs_C X d 1009 [.ref b1, .long q1] S (zs_kV (fun S4 => (Q (.returned none) S4)) Q))
theorem u_X2_text_255 {σ : Nat → Nat} {n0 : Nat} {bf : ab_B} {d : Nat} {q0 : Option Nat} {q1 : Int64} {S : zs_T} {Q : zs_Q} (hB : zt_B bf) (h : w_X2_text_255 (zx σ n0 bf) d q0 q1 S Q) : zs_U (zx σ n0 bf) d 1032 255 [] [.long q1, va_rf q0] S Q := by
  unfold w_X2_text_255 at h
  obtain ⟨b1, e2, h⟩ := h
  refine zs_stk1 (zs_rfe e2) ?_
  obtain ⟨k3, h⟩ := h
  refine zc_1_223 (x0 := q1) hB rfl k3 d_1032_255 (Nat.le_of_ble_eq_true rfl) h (fun S4 h => ?_)
  exact zu_vret d_1032_258 zr_1032 h
def w_X2_text_203 (X : zs_X) (d : Nat) (p0 : Nat) (p3 : Int32) (q0 : Int32) (S : zs_T) (Q : zs_Q) : Prop :=
  (zs_K S p0 = some (.inl 1) ∧ ab_n0 X.1 ≤ p0 ∧ ∀ S3, S3 = zs_sI S 1010 p0 ((zs_I S 1010 p0) - (2 : Int32)) → ∃ b6, (zs_R S3 1009 p0) = some b6 ∧ zs_A S b6 0 (zs_I S3 1010 p0) ∧ ∀ S9, S9 = zs_sI S3 1011 p0 (zs_i S3 b6 (zs_I S3 1010 p0).toNatClampNeg) → ∃ b12, (zs_R S9 1000 p0) = some b12 ∧ zs_K S b12 = some (.inl 3) ∧ ∃ b15, (zs_R S9 3000 b12) = some b15 ∧ zs_A S b15 0 (p3 + (2 : Int32)) ∧ zs_C X d 2 [.int (zs_i S9 b15 (p3 + (2 : Int32)).toNatClampNeg), .long ((q0).toInt64), .long (0 : Int64)] S9 (zs_kI (fun v19 S18 => (((v19 = 0 → (w_X2_text_255 X d (some p0) (0 : Int64) S18 Q)) ∧ (¬ (v19 = 0) → (w_X2_text_255 X d (some p0) (1 : Int64) S18 Q))))) Q))
theorem u_X2_text_203 {σ : Nat → Nat} {n0 : Nat} {bf : ab_B} {d : Nat} {p0 : Nat} {p3 : Int32} {q0 : Int32} {S : zs_T} {Q : zs_Q} (hB : zt_B bf) (h : w_X2_text_203 (zx σ n0 bf) d p0 p3 q0 S Q) : zs_U (zx σ n0 bf) d 1032 203 [(0, .ref p0), (3, .int p3)] [.int q0] S Q := by
  unfold w_X2_text_203 at h
  refine zu_istore d_1032_203 (zs_lt zq_1032 rfl) ?_
  refine zu_aload_n d_1032_205 rfl (zs_ra _) ?_
  refine zu_dup d_1032_206 rfl ?_
  obtain ⟨k1, h⟩ := h
  refine zg_1_114 rfl d_1032_207 k1 ?_
  refine zu_iconst d_1032_210 zi_2 ?_
  refine zu_stk d_1032_211 rfl rfl ?_
  obtain ⟨k2, h⟩ := h
  refine zp_1_114 (v := ((zs_I S 1010 p0) - (2 : Int32))) rfl d_1032_212 k1 k2 ?_
  generalize e4 : zs_sI S 1010 p0 ((zs_I S 1010 p0) - (2 : Int32)) = S3
  have h := h S3 e4.symm
  have K5 : ∀ b, zs_K S3 b = zs_K S b := zs_Kt e4 (zs_KsI _ _ _ _) (fun _ => rfl)
  refine zu_aload_n d_1032_215 rfl (zs_ra _) ?_
  refine zu_aload_n d_1032_216 rfl (zs_ra _) ?_
  refine zg_1_46 rfl d_1032_217 ((K5 _).trans k1) ?_
  refine zu_aload_n d_1032_220 rfl (zs_ra _) ?_
  refine zg_1_114 rfl d_1032_221 ((K5 _).trans k1) ?_
  obtain ⟨b6, e7, h⟩ := h
  refine zs_stk1 (zs_rfe e7) ?_
  obtain ⟨k8, h⟩ := h
  refine zu_iald (k := 0) d_1032_224 rfl rfl (zs_Ak K5 k8) ?_
  refine zp_1_117 (v := (zs_i S3 b6 (zs_I S3 1010 p0).toNatClampNeg)) rfl d_1032_225 ((K5 _).trans k1) k2 ?_
  generalize e10 : zs_sI S3 1011 p0 (zs_i S3 b6 (zs_I S3 1010 p0).toNatClampNeg) = S9
  have h := h S9 e10.symm
  have K11 : ∀ b, zs_K S9 b = zs_K S b := zs_Kt e10 (zs_KsI _ _ _ _) K5
  refine zu_aload_n d_1032_228 rfl (zs_ra _) ?_
  refine zu_aload_n d_1032_229 rfl (zs_ra _) ?_
  refine zg_1_107 rfl d_1032_230 ((K11 _).trans k1) ?_
  obtain ⟨b12, e13, h⟩ := h
  refine zs_stk0 (zs_rfe e13) ?_
  obtain ⟨k14, h⟩ := h
  refine zg_1_201 rfl d_1032_233 ((K11 _).trans k14) ?_
  refine zu_iload_n d_1032_236 rfl ?_
  refine zu_iconst d_1032_237 zi_2 ?_
  refine zu_stk d_1032_238 rfl rfl ?_
  obtain ⟨b15, e16, h⟩ := h
  refine zs_stk1 (zs_rfe e16) ?_
  obtain ⟨k17, h⟩ := h
  refine zu_iald (k := 0) d_1032_239 rfl rfl (zs_Ak K11 k17) ?_
  refine zu_iload d_1032_240 rfl ?_
  refine zu_stk d_1032_242 rfl rfl ?_
  refine zu_lconst (v := 0) d_1032_243 rfl ?_
  refine zc_1_430 (x0 := (zs_i S9 b15 (p3 + (2 : Int32)).toNatClampNeg)) (x1 := ((q0).toInt64)) (x2 := (0 : Int64)) hB rfl d_1032_244 (Nat.le_of_ble_eq_true rfl) h (fun v19 S18 h => ?_)
  refine zu_ifeq (t := 254) d_1032_247 rfl (fun c20 => ?_) (fun c20 => ?_)
  · have h := h.1 c20
    refine zu_lconst (v := 0) d_1032_254 rfl ?_
    exact (u_X2_text_255 hB h).weak trivial
  · have h := h.2 c20
    refine zu_lconst (v := 1) d_1032_250 rfl ?_
    refine zu_goto (t := 255) d_1032_251 rfl ?_
    exact (u_X2_text_255 hB h).weak trivial
def w_X2_text_188 (X : zs_X) (d : Nat) (p0 : Nat) (p3 : Int32) (p4 : Int32) (p5 : Int32) (p6 : Int32) (S : zs_T) (Q : zs_Q) : Prop :=
  (((p6 = 0 → (w_X2_text_203 X d p0 p3 (p4 - p5) S Q)) ∧ (¬ (p6 = 0) → (w_X2_text_203 X d p0 p3 p6 S Q))))
theorem u_X2_text_188 {σ : Nat → Nat} {n0 : Nat} {bf : ab_B} {d : Nat} {p0 : Nat} {p3 : Int32} {p4 : Int32} {p5 : Int32} {p6 : Int32} {S : zs_T} {Q : zs_Q} (hB : zt_B bf) (h : w_X2_text_188 (zx σ n0 bf) d p0 p3 p4 p5 p6 S Q) : zs_U (zx σ n0 bf) d 1032 188 [(0, .ref p0), (3, .int p3), (4, .int p4), (5, .int p5), (6, .int p6)] [] S Q := by
  unfold w_X2_text_188 at h
  refine zu_iload d_1032_188 rfl ?_
  refine zu_ifeq (t := 198) d_1032_190 rfl (fun c1 => ?_) (fun c1 => ?_)
  · have h := h.1 c1
    refine zu_iload d_1032_198 rfl ?_
    refine zu_iload d_1032_200 rfl ?_
    refine zu_stk d_1032_202 rfl rfl ?_
    exact (u_X2_text_203 hB h).weak ⟨rfl, rfl, trivial⟩
  · have h := h.2 c1
    refine zu_iload d_1032_193 rfl ?_
    refine zu_goto (t := 203) d_1032_195 rfl ?_
    exact (u_X2_text_203 hB h).weak ⟨rfl, rfl, trivial⟩
def w_X2_text_180 (X : zs_X) (d : Nat) (p0 : Nat) (p3 : Int32) (p4 : Int32) (p5 : Int32) (p7 : Int32) (q0 : Int32) (S : zs_T) (Q : zs_Q) : Prop :=
  (zs_U X d 1032 114 [(0, .ref p0), (3, .int p3), (4, .int p4), (5, .int p5), (6, .int q0), (7, .int (p7 + (1 : Int32)))] [] S Q)
theorem u_X2_text_180 {σ : Nat → Nat} {n0 : Nat} {bf : ab_B} {d : Nat} {p0 : Nat} {p3 : Int32} {p4 : Int32} {p5 : Int32} {p7 : Int32} {q0 : Int32} {S : zs_T} {Q : zs_Q} (hB : zt_B bf) (h : w_X2_text_180 (zx σ n0 bf) d p0 p3 p4 p5 p7 q0 S Q) : zs_U (zx σ n0 bf) d 1032 180 [(0, .ref p0), (3, .int p3), (4, .int p4), (5, .int p5), (7, .int p7)] [.int q0] S Q := by
  unfold w_X2_text_180 at h
  refine zu_istore d_1032_180 (zs_lt zq_1032 rfl) ?_
  refine zu_iinc d_1032_182 rfl zi_1 (zs_lt zq_1032 rfl) ?_
  refine zu_goto (t := 114) d_1032_185 rfl ?_
  exact h.weak ⟨rfl, rfl, rfl, rfl, rfl, rfl, trivial⟩
def w_X2_text_114 (X : zs_X) (d : Nat) (p0 : Nat) (p3 : Int32) (p4 : Int32) (p5 : Int32) (p6 : Int32) (p7 : Int32) (S : zs_T) (Q : zs_Q) : Prop :=
  (((p4 ≤ p7 → w_X2_text_188 X d p0 p3 p4 p5 p6 S Q) ∧ (¬ (p4 ≤ p7) → (((p5 ≤ p7 → w_X2_text_188 X d p0 p3 p4 p5 p6 S Q) ∧ (¬ (p5 ≤ p7) → (((¬ p6 = 0 → w_X2_text_188 X d p0 p3 p4 p5 p6 S Q) ∧ (¬ (¬ p6 = 0) → (zs_K S p0 = some (.inl 1) ∧ ∃ b5, (zs_R S 1009 p0) = some b5 ∧ zs_A S b5 0 ((zs_I S 1010 p0) - (2 : Int32)) ∧ ∃ b8, (zs_R S 1008 p0) = some b8 ∧ zs_A S b8 1 ((zs_i S b5 ((zs_I S 1010 p0) - (2 : Int32)).toNatClampNeg) + p7) ∧ zs_A S b5 0 ((zs_I S 1010 p0) - (1 : Int32)) ∧ zs_A S b8 1 ((zs_i S b5 ((zs_I S 1010 p0) - (1 : Int32)).toNatClampNeg) + p7) ∧ w_X2_text_180 X d p0 p3 p4 p5 p7 (((zs_i S b8 ((zs_i S b5 ((zs_I S 1010 p0) - (2 : Int32)).toNatClampNeg) + p7).toNatClampNeg) &&& (255 : Int32)) - ((zs_i S b8 ((zs_i S b5 ((zs_I S 1010 p0) - (1 : Int32)).toNatClampNeg) + p7).toNatClampNeg) &&& (255 : Int32))) S Q))))))))))
theorem u_X2_text_114 {σ : Nat → Nat} {n0 : Nat} {bf : ab_B} {d : Nat} {p0 : Nat} {p3 : Int32} {p4 : Int32} {p5 : Int32} {p6 : Int32} {p7 : Int32} {S : zs_T} {Q : zs_Q} (hB : zt_B bf) (h : w_X2_text_114 (zx σ n0 bf) d p0 p3 p4 p5 p6 p7 S Q) : zs_U (zx σ n0 bf) d 1032 114 [(0, .ref p0), (3, .int p3), (4, .int p4), (5, .int p5), (6, .int p6), (7, .int p7)] [] S Q := by
  unfold w_X2_text_114 at h
  refine zu_iload d_1032_114 rfl ?_
  refine zu_iload d_1032_116 rfl ?_
  refine zu_cmpge (t := 188) d_1032_118 rfl (fun c1 => ?_) (fun c1 => ?_)
  · have h := h.1 c1
    exact (u_X2_text_188 hB h).weak ⟨rfl, rfl, rfl, rfl, rfl, trivial⟩
  · have h := h.2 c1
    refine zu_iload d_1032_121 rfl ?_
    refine zu_iload d_1032_123 rfl ?_
    refine zu_cmpge (t := 188) d_1032_125 rfl (fun c2 => ?_) (fun c2 => ?_)
    · have h := h.1 c2
      exact (u_X2_text_188 hB h).weak ⟨rfl, rfl, rfl, rfl, rfl, trivial⟩
    · have h := h.2 c2
      refine zu_iload d_1032_128 rfl ?_
      refine zu_ifne (t := 188) d_1032_130 rfl (fun c3 => ?_) (fun c3 => ?_)
      · have h := h.1 c3
        exact (u_X2_text_188 hB h).weak ⟨rfl, rfl, rfl, rfl, rfl, trivial⟩
      · have h := h.2 c3
        refine zu_aload_n d_1032_133 rfl (zs_ra _) ?_
        obtain ⟨k4, h⟩ := h
        refine zg_1_42 rfl d_1032_134 k4 ?_
        refine zu_aload_n d_1032_137 rfl (zs_ra _) ?_
        refine zg_1_46 rfl d_1032_138 k4 ?_
        refine zu_aload_n d_1032_141 rfl (zs_ra _) ?_
        refine zg_1_114 rfl d_1032_142 k4 ?_
        refine zu_iconst d_1032_145 zi_2 ?_
        refine zu_stk d_1032_146 rfl rfl ?_
        obtain ⟨b5, e6, h⟩ := h
        refine zs_stk1 (zs_rfe e6) ?_
        obtain ⟨k7, h⟩ := h
        refine zu_iald (k := 0) d_1032_147 rfl rfl k7 ?_
        refine zu_iload d_1032_148 rfl ?_
        refine zu_stk d_1032_150 rfl rfl ?_
        obtain ⟨b8, e9, h⟩ := h
        refine zs_stk1 (zs_rfe e9) ?_
        obtain ⟨k10, h⟩ := h
        refine zu_bald (k := 1) d_1032_151 rfl (Or.inl rfl) k10 ?_
        refine zu_sipush d_1032_152 zh_255 ?_
        refine zu_stk d_1032_155 rfl rfl ?_
        refine zu_aload_n d_1032_156 rfl (zs_ra _) ?_
        refine zg_1_42 rfl d_1032_157 k4 ?_
        refine zu_aload_n d_1032_160 rfl (zs_ra _) ?_
        refine zg_1_46 rfl d_1032_161 k4 ?_
        refine zu_aload_n d_1032_164 rfl (zs_ra _) ?_
        refine zg_1_114 rfl d_1032_165 k4 ?_
        refine zu_iconst d_1032_168 zi_1 ?_
        refine zu_stk d_1032_169 rfl rfl ?_
        refine zs_stk1 (zs_rfe e6) ?_
        obtain ⟨k11, h⟩ := h
        refine zu_iald (k := 0) d_1032_170 rfl rfl k11 ?_
        refine zu_iload d_1032_171 rfl ?_
        refine zu_stk d_1032_173 rfl rfl ?_
        refine zs_stk1 (zs_rfe e9) ?_
        obtain ⟨k12, h⟩ := h
        refine zu_bald (k := 1) d_1032_174 rfl (Or.inl rfl) k12 ?_
        refine zu_sipush d_1032_175 zh_255 ?_
        refine zu_stk d_1032_178 rfl rfl ?_
        refine zu_stk d_1032_179 rfl rfl ?_
        exact (u_X2_text_180 hB h).weak ⟨rfl, rfl, rfl, rfl, rfl, trivial⟩
def w_X2_text (X : zs_X) (d : Nat) (p0 : Nat) (p1 : Int32) (p2 : Int32) (p3 : Int32) (S : zs_T) (Q : zs_Q) : Prop :=
  (((¬ p1 = (35 : Int32) → (zs_K S p0 = some (.inl 1) ∧ zs_C X d 1033 [.ref p0, .int ((zs_I S 1010 p0) - (2 : Int32))] S (zs_kI (fun v4 S3 => (zs_K S3 p0 = some (.inl 1) ∧ zs_C X d 1033 [.ref p0, .int ((zs_I S3 1010 p0) - (1 : Int32))] S3 (zs_kI (fun v7 S6 => (w_X2_text_74 X d p0 p1 p2 p3 v4 v7 S6 Q)) Q))) Q))) ∧ (¬ (¬ p1 = (35 : Int32)) → (zs_K S p0 = some (.inl 1) ∧ zs_C X d 1010 [.ref p0, .int (1 : Int32), .int p2] S (zs_kI (fun v10 S9 => (((v10 = 0 → w_X2_text_49 X d  S9 Q) ∧ (¬ (v10 = 0) → (zs_K S9 p0 = some (.inl 1) ∧ ab_n0 X.1 ≤ p0 ∧ ∀ S14, S14 = zs_sI S9 1011 p0 ((zs_I S9 1011 p0) + (1 : Int32)) → ∀ S17, S17 = zs_sI S14 1007 p0 ((zs_I S14 1007 p0) - (1 : Int32)) → ∃ b20, (zs_R S14 1005 p0) = some b20 ∧ zs_A S9 b20 3 ((zs_I S14 1007 p0) - (1 : Int32)) ∧ ∃ b23, (zs_R S9 1008 p0) = some b23 ∧ zs_A S9 b23 1 (zs_I S9 1011 p0) ∧ ab_n0 X.1 ≤ b23 ∧ ∀ S27, S27 = zs_si S17 b23 (zs_I S9 1011 p0).toNatClampNeg (vp_nar .byte (((((zs_j S17 b20 ((zs_I S14 1007 p0) - (1 : Int32)).toNatClampNeg)).toInt32)).toInt8.toInt32)) → w_X2_text_49 X d  S27 Q))))) Q)))))
theorem u_X2_text {σ : Nat → Nat} {n0 : Nat} {bf : ab_B} {d : Nat} {p0 : Nat} {p1 : Int32} {p2 : Int32} {p3 : Int32} {S : zs_T} {Q : zs_Q} (hB : zt_B bf) (hd : 1 ≤ d) (h : w_X2_text (zx σ n0 bf) (d - 1) p0 p1 p2 p3 S Q) : zs_C (zx σ n0 bf) d 1032 [.ref p0, .int p1, .int p2, .int p3] S Q := by
  have hL : lv_args 0 [.ref p0, .int p1, .int p2, .int p3] = [(0, .ref p0), (1, .int p1), (2, .int p2), (3, .int p3)] := rfl
  refine zs_C.of1 (hB.2 1032 (by decide) (by decide)) hd (by rw [hL]; exact zs_sub_self _ (by exact ⟨rfl, rfl, rfl, rfl, trivial⟩)) ?_
  rw [hL]
  clear hL
  unfold w_X2_text at h
  refine zu_iload_n d_1032_0 rfl ?_
  refine zu_bipush d_1032_1 zj_35 ?_
  refine zu_cmpne (t := 50) d_1032_3 rfl (fun c1 => ?_) (fun c1 => ?_)
  · have h := h.1 c1
    refine zu_aload_n d_1032_50 rfl (zs_ra _) ?_
    refine zu_aload_n d_1032_51 rfl (zs_ra _) ?_
    obtain ⟨k2, h⟩ := h
    refine zg_1_114 rfl d_1032_52 k2 ?_
    refine zu_iconst d_1032_55 zi_2 ?_
    refine zu_stk d_1032_56 rfl rfl ?_
    refine zc_1_443 (x0 := ((zs_I S 1010 p0) - (2 : Int32))) hB rfl k2 d_1032_57 (Nat.le_of_ble_eq_true rfl) h (fun v4 S3 h => ?_)
    refine zu_istore d_1032_60 (zs_lt zq_1032 rfl) ?_
    refine zu_aload_n d_1032_62 rfl (zs_ra _) ?_
    refine zu_aload_n d_1032_63 rfl (zs_ra _) ?_
    obtain ⟨k5, h⟩ := h
    refine zg_1_114 rfl d_1032_64 k5 ?_
    refine zu_iconst d_1032_67 zi_1 ?_
    refine zu_stk d_1032_68 rfl rfl ?_
    refine zc_1_443 (x0 := ((zs_I S3 1010 p0) - (1 : Int32))) hB rfl k5 d_1032_69 (Nat.le_of_ble_eq_true rfl) h (fun v7 S6 h => ?_)
    refine zu_istore d_1032_72 (zs_lt zq_1032 rfl) ?_
    exact (u_X2_text_74 hB h).weak ⟨rfl, rfl, rfl, rfl, rfl, rfl, trivial⟩
  · have h := h.2 c1
    refine zu_aload_n d_1032_6 rfl (zs_ra _) ?_
    refine zu_iconst d_1032_7 zi_1 ?_
    refine zu_iload_n d_1032_8 rfl ?_
    obtain ⟨k8, h⟩ := h
    refine zc_1_227 (x0 := (1 : Int32)) (x1 := p2) hB rfl k8 d_1032_9 (Nat.le_of_ble_eq_true rfl) h (fun v10 S9 h => ?_)
    refine zu_ifeq (t := 49) d_1032_12 rfl (fun c11 => ?_) (fun c11 => ?_)
    · have h := h.1 c11
      exact (u_X2_text_49 hB h).weak trivial
    · have h := h.2 c11
      refine zu_aload_n d_1032_15 rfl (zs_ra _) ?_
      obtain ⟨k12, h⟩ := h
      refine zg_1_42 rfl d_1032_16 k12 ?_
      refine zu_aload_n d_1032_19 rfl (zs_ra _) ?_
      refine zu_dup d_1032_20 rfl ?_
      refine zg_1_117 rfl d_1032_21 k12 ?_
      refine zu_dup_x1 d_1032_24 rfl rfl ?_
      refine zu_iconst d_1032_25 zi_1 ?_
      refine zu_stk d_1032_26 rfl rfl ?_
      obtain ⟨k13, h⟩ := h
      refine zp_1_117 (v := ((zs_I S9 1011 p0) + (1 : Int32))) rfl d_1032_27 k12 k13 ?_
      generalize e15 : zs_sI S9 1011 p0 ((zs_I S9 1011 p0) + (1 : Int32)) = S14
      have h := h S14 e15.symm
      have K16 : ∀ b, zs_K S14 b = zs_K S9 b := zs_Kt e15 (zs_KsI _ _ _ _) (fun _ => rfl)
      refine zu_aload_n d_1032_30 rfl (zs_ra _) ?_
      refine zg_1_36 rfl d_1032_31 ((K16 _).trans k12) ?_
      refine zu_aload_n d_1032_34 rfl (zs_ra _) ?_
      refine zu_dup d_1032_35 rfl ?_
      refine zg_1_111 rfl d_1032_36 ((K16 _).trans k12) ?_
      refine zu_iconst d_1032_39 zi_1 ?_
      refine zu_stk d_1032_40 rfl rfl ?_
      refine zu_dup_x1 d_1032_41 rfl rfl ?_
      refine zp_1_111 (v := ((zs_I S14 1007 p0) - (1 : Int32))) rfl d_1032_42 ((K16 _).trans k12) k13 ?_
      generalize e18 : zs_sI S14 1007 p0 ((zs_I S14 1007 p0) - (1 : Int32)) = S17
      have h := h S17 e18.symm
      have K19 : ∀ b, zs_K S17 b = zs_K S9 b := zs_Kt e18 (zs_KsI _ _ _ _) K16
      obtain ⟨b20, e21, h⟩ := h
      refine zs_stk1 (zs_rfe e21) ?_
      obtain ⟨k22, h⟩ := h
      refine zu_lald (k := 3) d_1032_45 rfl rfl (zs_Ak K19 k22) ?_
      refine zu_stk d_1032_46 rfl rfl ?_
      refine zu_stk d_1032_47 rfl rfl ?_
      obtain ⟨b23, e24, h⟩ := h
      refine zs_stk2 (zs_rfe e24) ?_
      obtain ⟨k25, h⟩ := h
      obtain ⟨k26, h⟩ := h
      refine zu_bast_byte (k := 1) d_1032_48 rfl rfl k26 (zs_Ak K19 k25) ?_
      generalize e28 : zs_si S17 b23 (zs_I S9 1011 p0).toNatClampNeg (vp_nar .byte (((((zs_j S17 b20 ((zs_I S14 1007 p0) - (1 : Int32)).toNatClampNeg)).toInt32)).toInt8.toInt32)) = S27
      have h := h S27 e28.symm
      have K29 : ∀ b, zs_K S27 b = zs_K S9 b := zs_Kt e28 (zs_Ksi _ _ _ _) K19
      exact (u_X2_text_49 hB h).weak trivial
/-! SchemaPascal$Machine.textSize(I)I -/
theorem zm_1033 {σ : Nat → Nat} {n0 : Nat} {bf : ab_B} : ab_code (zx σ n0 bf).1 1033 = prog_5_method_37_code := rfl
theorem zq_1033 {σ : Nat → Nat} {n0 : Nat} {bf : ab_B} : ab_maxL (zx σ n0 bf).1 1033 = 2 := rfl
theorem zr_1033 {σ : Nat → Nat} {n0 : Nat} {bf : ab_B} : ab_ret (zx σ n0 bf).1 1033 = (Option.some Jvm.ClassFile.FieldType.int) := rfl
theorem d_1033_0 {σ : Nat → Nat} {n0 : Nat} {bf : ab_B} : decode (ab_code (zx σ n0 bf).1 1033) 0 = .ok (.iload_n 1, 1) := zd zm_1033 (by decide +kernel)
theorem d_1033_1 {σ : Nat → Nat} {n0 : Nat} {bf : ab_B} : decode (ab_code (zx σ n0 bf).1 1033) 1 = .ok (.iconst 1, 1) := zd zm_1033 (by decide +kernel)
theorem d_1033_2 {σ : Nat → Nat} {n0 : Nat} {bf : ab_B} : decode (ab_code (zx σ n0 bf).1 1033) 2 = .ok (.iadd, 1) := zd zm_1033 (by decide +kernel)
theorem d_1033_3 {σ : Nat → Nat} {n0 : Nat} {bf : ab_B} : decode (ab_code (zx σ n0 bf).1 1033) 3 = .ok (.aload_n 0, 1) := zd zm_1033 (by decide +kernel)
theorem d_1033_4 {σ : Nat → Nat} {n0 : Nat} {bf : ab_B} : decode (ab_code (zx σ n0 bf).1 1033) 4 = .ok (.getfield 114, 3) := zd zm_1033 (by decide +kernel)
theorem d_1033_7 {σ : Nat → Nat} {n0 : Nat} {bf : ab_B} : decode (ab_code (zx σ n0 bf).1 1033) 7 = .ok (.if_icmp .ge 14, 3) := zd zm_1033 (by decide +kernel)
theorem d_1033_10 {σ : Nat → Nat} {n0 : Nat} {bf : ab_B} : decode (ab_code (zx σ n0 bf).1 1033) 10 = .ok (.aload_n 0, 1) := zd zm_1033 (by decide +kernel)
theorem d_1033_11 {σ : Nat → Nat} {n0 : Nat} {bf : ab_B} : decode (ab_code (zx σ n0 bf).1 1033) 11 = .ok (.getfield 46, 3) := zd zm_1033 (by decide +kernel)
theorem d_1033_14 {σ : Nat → Nat} {n0 : Nat} {bf : ab_B} : decode (ab_code (zx σ n0 bf).1 1033) 14 = .ok (.iload_n 1, 1) := zd zm_1033 (by decide +kernel)
theorem d_1033_15 {σ : Nat → Nat} {n0 : Nat} {bf : ab_B} : decode (ab_code (zx σ n0 bf).1 1033) 15 = .ok (.iconst 1, 1) := zd zm_1033 (by decide +kernel)
theorem d_1033_16 {σ : Nat → Nat} {n0 : Nat} {bf : ab_B} : decode (ab_code (zx σ n0 bf).1 1033) 16 = .ok (.iadd, 1) := zd zm_1033 (by decide +kernel)
theorem d_1033_17 {σ : Nat → Nat} {n0 : Nat} {bf : ab_B} : decode (ab_code (zx σ n0 bf).1 1033) 17 = .ok (.iaload, 1) := zd zm_1033 (by decide +kernel)
theorem d_1033_18 {σ : Nat → Nat} {n0 : Nat} {bf : ab_B} : decode (ab_code (zx σ n0 bf).1 1033) 18 = .ok (.goto 7, 3) := zd zm_1033 (by decide +kernel)
theorem d_1033_21 {σ : Nat → Nat} {n0 : Nat} {bf : ab_B} : decode (ab_code (zx σ n0 bf).1 1033) 21 = .ok (.aload_n 0, 1) := zd zm_1033 (by decide +kernel)
theorem d_1033_22 {σ : Nat → Nat} {n0 : Nat} {bf : ab_B} : decode (ab_code (zx σ n0 bf).1 1033) 22 = .ok (.getfield 117, 3) := zd zm_1033 (by decide +kernel)
theorem d_1033_25 {σ : Nat → Nat} {n0 : Nat} {bf : ab_B} : decode (ab_code (zx σ n0 bf).1 1033) 25 = .ok (.aload_n 0, 1) := zd zm_1033 (by decide +kernel)
theorem d_1033_26 {σ : Nat → Nat} {n0 : Nat} {bf : ab_B} : decode (ab_code (zx σ n0 bf).1 1033) 26 = .ok (.getfield 46, 3) := zd zm_1033 (by decide +kernel)
theorem d_1033_29 {σ : Nat → Nat} {n0 : Nat} {bf : ab_B} : decode (ab_code (zx σ n0 bf).1 1033) 29 = .ok (.iload_n 1, 1) := zd zm_1033 (by decide +kernel)
theorem d_1033_30 {σ : Nat → Nat} {n0 : Nat} {bf : ab_B} : decode (ab_code (zx σ n0 bf).1 1033) 30 = .ok (.iaload, 1) := zd zm_1033 (by decide +kernel)
theorem d_1033_31 {σ : Nat → Nat} {n0 : Nat} {bf : ab_B} : decode (ab_code (zx σ n0 bf).1 1033) 31 = .ok (.isub, 1) := zd zm_1033 (by decide +kernel)
theorem d_1033_32 {σ : Nat → Nat} {n0 : Nat} {bf : ab_B} : decode (ab_code (zx σ n0 bf).1 1033) 32 = .ok (.ireturn, 1) := zd zm_1033 (by decide +kernel)
def w_X2_textSize_25 (X : zs_X) (d : Nat) (p0 : Nat) (p1 : Int32) (q0 : Int32) (S : zs_T) (Q : zs_Q) : Prop :=
  (zs_K S p0 = some (.inl 1) ∧ ∃ b2, (zs_R S 1009 p0) = some b2 ∧ zs_A S b2 0 p1 ∧ Q (.returned (some (.int (q0 - (zs_i S b2 p1.toNatClampNeg))))) S)
theorem u_X2_textSize_25 {σ : Nat → Nat} {n0 : Nat} {bf : ab_B} {d : Nat} {p0 : Nat} {p1 : Int32} {q0 : Int32} {S : zs_T} {Q : zs_Q} (hB : zt_B bf) (h : w_X2_textSize_25 (zx σ n0 bf) d p0 p1 q0 S Q) : zs_U (zx σ n0 bf) d 1033 25 [(0, .ref p0), (1, .int p1)] [.int q0] S Q := by
  unfold w_X2_textSize_25 at h
  refine zu_aload_n d_1033_25 rfl (zs_ra _) ?_
  obtain ⟨k1, h⟩ := h
  refine zg_1_46 rfl d_1033_26 k1 ?_
  refine zu_iload_n d_1033_29 rfl ?_
  obtain ⟨b2, e3, h⟩ := h
  refine zs_stk1 (zs_rfe e3) ?_
  obtain ⟨k4, h⟩ := h
  refine zu_iald (k := 0) d_1033_30 rfl rfl k4 ?_
  refine zu_stk d_1033_31 rfl rfl ?_
  exact zu_iret d_1033_32 zr_1033 rfl h
def w_X2_textSize (X : zs_X) (d : Nat) (p0 : Nat) (p1 : Int32) (S : zs_T) (Q : zs_Q) : Prop :=
  (zs_K S p0 = some (.inl 1) ∧ (((zs_I S 1010 p0) ≤ (p1 + (1 : Int32)) → (w_X2_textSize_25 X d p0 p1 (zs_I S 1011 p0) S Q)) ∧ (¬ ((zs_I S 1010 p0) ≤ (p1 + (1 : Int32))) → (∃ b3, (zs_R S 1009 p0) = some b3 ∧ zs_A S b3 0 (p1 + (1 : Int32)) ∧ w_X2_textSize_25 X d p0 p1 (zs_i S b3 (p1 + (1 : Int32)).toNatClampNeg) S Q))))
theorem u_X2_textSize {σ : Nat → Nat} {n0 : Nat} {bf : ab_B} {d : Nat} {p0 : Nat} {p1 : Int32} {S : zs_T} {Q : zs_Q} (hB : zt_B bf) (hd : 1 ≤ d) (h : w_X2_textSize (zx σ n0 bf) (d - 1) p0 p1 S Q) : zs_C (zx σ n0 bf) d 1033 [.ref p0, .int p1] S Q := by
  have hL : lv_args 0 [.ref p0, .int p1] = [(0, .ref p0), (1, .int p1)] := rfl
  refine zs_C.of1 (hB.2 1033 (by decide) (by decide)) hd (by rw [hL]; exact zs_sub_self _ (by exact ⟨rfl, rfl, trivial⟩)) ?_
  rw [hL]
  clear hL
  unfold w_X2_textSize at h
  refine zu_iload_n d_1033_0 rfl ?_
  refine zu_iconst d_1033_1 zi_1 ?_
  refine zu_stk d_1033_2 rfl rfl ?_
  refine zu_aload_n d_1033_3 rfl (zs_ra _) ?_
  obtain ⟨k1, h⟩ := h
  refine zg_1_114 rfl d_1033_4 k1 ?_
  refine zu_cmpge (t := 21) d_1033_7 rfl (fun c2 => ?_) (fun c2 => ?_)
  · have h := h.1 c2
    refine zu_aload_n d_1033_21 rfl (zs_ra _) ?_
    refine zg_1_117 rfl d_1033_22 k1 ?_
    exact (u_X2_textSize_25 hB h).weak ⟨rfl, rfl, trivial⟩
  · have h := h.2 c2
    refine zu_aload_n d_1033_10 rfl (zs_ra _) ?_
    refine zg_1_46 rfl d_1033_11 k1 ?_
    refine zu_iload_n d_1033_14 rfl ?_
    refine zu_iconst d_1033_15 zi_1 ?_
    refine zu_stk d_1033_16 rfl rfl ?_
    obtain ⟨b3, e4, h⟩ := h
    refine zs_stk1 (zs_rfe e4) ?_
    obtain ⟨k5, h⟩ := h
    refine zu_iald (k := 0) d_1033_17 rfl rfl k5 ?_
    refine zu_goto (t := 25) d_1033_18 rfl ?_
    exact (u_X2_textSize_25 hB h).weak ⟨rfl, rfl, trivial⟩
/-! SchemaPascal$Machine.whole(JI)V -/
theorem zm_1034 {σ : Nat → Nat} {n0 : Nat} {bf : ab_B} : ab_code (zx σ n0 bf).1 1034 = prog_5_method_33_code := rfl
theorem zq_1034 {σ : Nat → Nat} {n0 : Nat} {bf : ab_B} : ab_maxL (zx σ n0 bf).1 1034 = 4 := rfl
theorem zr_1034 {σ : Nat → Nat} {n0 : Nat} {bf : ab_B} : ab_ret (zx σ n0 bf).1 1034 = (Option.none : Option Jvm.ClassFile.FieldType) := rfl
theorem d_1034_0 {σ : Nat → Nat} {n0 : Nat} {bf : ab_B} : decode (ab_code (zx σ n0 bf).1 1034) 0 = .ok (.lload_n 1, 1) := zd zm_1034 (by decide +kernel)
theorem d_1034_1 {σ : Nat → Nat} {n0 : Nat} {bf : ab_B} : decode (ab_code (zx σ n0 bf).1 1034) 1 = .ok (.ldc2_w 418, 3) := zd zm_1034 (by decide +kernel)
theorem d_1034_4 {σ : Nat → Nat} {n0 : Nat} {bf : ab_B} : decode (ab_code (zx σ n0 bf).1 1034) 4 = .ok (.lcmp, 1) := zd zm_1034 (by decide +kernel)
theorem d_1034_5 {σ : Nat → Nat} {n0 : Nat} {bf : ab_B} : decode (ab_code (zx σ n0 bf).1 1034) 5 = .ok (.ifCond .gt 11, 3) := zd zm_1034 (by decide +kernel)
theorem d_1034_8 {σ : Nat → Nat} {n0 : Nat} {bf : ab_B} : decode (ab_code (zx σ n0 bf).1 1034) 8 = .ok (.lload_n 1, 1) := zd zm_1034 (by decide +kernel)
theorem d_1034_9 {σ : Nat → Nat} {n0 : Nat} {bf : ab_B} : decode (ab_code (zx σ n0 bf).1 1034) 9 = .ok (.ldc2_w 420, 3) := zd zm_1034 (by decide +kernel)
theorem d_1034_12 {σ : Nat → Nat} {n0 : Nat} {bf : ab_B} : decode (ab_code (zx σ n0 bf).1 1034) 12 = .ok (.lcmp, 1) := zd zm_1034 (by decide +kernel)
theorem d_1034_13 {σ : Nat → Nat} {n0 : Nat} {bf : ab_B} : decode (ab_code (zx σ n0 bf).1 1034) 13 = .ok (.ifCond .ge 14, 3) := zd zm_1034 (by decide +kernel)
theorem d_1034_16 {σ : Nat → Nat} {n0 : Nat} {bf : ab_B} : decode (ab_code (zx σ n0 bf).1 1034) 16 = .ok (.aload_n 0, 1) := zd zm_1034 (by decide +kernel)
theorem d_1034_17 {σ : Nat → Nat} {n0 : Nat} {bf : ab_B} : decode (ab_code (zx σ n0 bf).1 1034) 17 = .ok (.bipush 6, 2) := zd zm_1034 (by decide +kernel)
theorem d_1034_19 {σ : Nat → Nat} {n0 : Nat} {bf : ab_B} : decode (ab_code (zx σ n0 bf).1 1034) 19 = .ok (.iload_n 3, 1) := zd zm_1034 (by decide +kernel)
theorem d_1034_20 {σ : Nat → Nat} {n0 : Nat} {bf : ab_B} : decode (ab_code (zx σ n0 bf).1 1034) 20 = .ok (.invokevirtual 194, 3) := zd zm_1034 (by decide +kernel)
theorem d_1034_23 {σ : Nat → Nat} {n0 : Nat} {bf : ab_B} : decode (ab_code (zx σ n0 bf).1 1034) 23 = .ok (.pop, 1) := zd zm_1034 (by decide +kernel)
theorem d_1034_24 {σ : Nat → Nat} {n0 : Nat} {bf : ab_B} : decode (ab_code (zx σ n0 bf).1 1034) 24 = .ok (.goto 8, 3) := zd zm_1034 (by decide +kernel)
theorem d_1034_27 {σ : Nat → Nat} {n0 : Nat} {bf : ab_B} : decode (ab_code (zx σ n0 bf).1 1034) 27 = .ok (.aload_n 0, 1) := zd zm_1034 (by decide +kernel)
theorem d_1034_28 {σ : Nat → Nat} {n0 : Nat} {bf : ab_B} : decode (ab_code (zx σ n0 bf).1 1034) 28 = .ok (.lload_n 1, 1) := zd zm_1034 (by decide +kernel)
theorem d_1034_29 {σ : Nat → Nat} {n0 : Nat} {bf : ab_B} : decode (ab_code (zx σ n0 bf).1 1034) 29 = .ok (.invokevirtual 223, 3) := zd zm_1034 (by decide +kernel)
theorem d_1034_32 {σ : Nat → Nat} {n0 : Nat} {bf : ab_B} : decode (ab_code (zx σ n0 bf).1 1034) 32 = .ok (.return_, 1) := zd zm_1034 (by decide +kernel)
def w_X2_whole_16 (X : zs_X) (d : Nat) (p0 : Nat) (p3 : Int32) (S : zs_T) (Q : zs_Q) : Prop :=
  (zs_K S p0 = some (.inl 1) ∧ zs_C X d 1004 [.ref p0, .int (6 : Int32), .int p3] S (zs_kI (fun v3 S2 => (Q (.returned none) S2)) Q))
theorem u_X2_whole_16 {σ : Nat → Nat} {n0 : Nat} {bf : ab_B} {d : Nat} {p0 : Nat} {p3 : Int32} {S : zs_T} {Q : zs_Q} (hB : zt_B bf) (h : w_X2_whole_16 (zx σ n0 bf) d p0 p3 S Q) : zs_U (zx σ n0 bf) d 1034 16 [(0, .ref p0), (3, .int p3)] [] S Q := by
  unfold w_X2_whole_16 at h
  refine zu_aload_n d_1034_16 rfl (zs_ra _) ?_
  refine zu_bipush d_1034_17 zj_6 ?_
  refine zu_iload_n d_1034_19 rfl ?_
  obtain ⟨k1, h⟩ := h
  refine zc_1_194 (x0 := (6 : Int32)) (x1 := p3) hB rfl k1 d_1034_20 (Nat.le_of_ble_eq_true rfl) h (fun v3 S2 h => ?_)
  refine zu_pop d_1034_23 rfl ?_
  refine zu_goto (t := 32) d_1034_24 rfl ?_
  exact zu_vret d_1034_32 zr_1034 h
def w_X2_whole (X : zs_X) (d : Nat) (p0 : Nat) (p1 : Int64) (p3 : Int32) (S : zs_T) (Q : zs_Q) : Prop :=
  ((((2147483647 : Int64) < p1 → w_X2_whole_16 X d p0 p3 S Q) ∧ (¬ ((2147483647 : Int64) < p1) → ((((-2147483647 : Int64) ≤ p1 → (zs_K S p0 = some (.inl 1) ∧ zs_C X d 1009 [.ref p0, .long p1] S (zs_kV (fun S4 => (Q (.returned none) S4)) Q))) ∧ (¬ ((-2147483647 : Int64) ≤ p1) → w_X2_whole_16 X d p0 p3 S Q))))))
theorem u_X2_whole {σ : Nat → Nat} {n0 : Nat} {bf : ab_B} {d : Nat} {p0 : Nat} {p1 : Int64} {p3 : Int32} {S : zs_T} {Q : zs_Q} (hB : zt_B bf) (hd : 1 ≤ d) (h : w_X2_whole (zx σ n0 bf) (d - 1) p0 p1 p3 S Q) : zs_C (zx σ n0 bf) d 1034 [.ref p0, .long p1, .int p3] S Q := by
  have hL : lv_args 0 [.ref p0, .long p1, .int p3] = [(0, .ref p0), (1, .long p1), (3, .int p3)] := rfl
  refine zs_C.of1 (hB.2 1034 (by decide) (by decide)) hd (by rw [hL]; exact zs_sub_self _ (by exact ⟨rfl, rfl, rfl, trivial⟩)) ?_
  rw [hL]
  clear hL
  unfold w_X2_whole at h
  refine zu_lload_n d_1034_0 rfl ?_
  refine zl2_1_418 rfl d_1034_1 ?_
  refine zu_lgt (t := 16) d_1034_4 d_1034_5 rfl (fun c1 => ?_) (fun c1 => ?_)
  · have h := h.1 c1
    exact (u_X2_whole_16 hB h).weak ⟨rfl, rfl, trivial⟩
  · have h := h.2 c1
    refine zu_lload_n d_1034_8 rfl ?_
    refine zl2_1_420 rfl d_1034_9 ?_
    refine zu_lge (t := 27) d_1034_12 d_1034_13 rfl (fun c2 => ?_) (fun c2 => ?_)
    · have h := h.1 c2
      refine zu_aload_n d_1034_27 rfl (zs_ra _) ?_
      refine zu_lload_n d_1034_28 rfl ?_
      obtain ⟨k3, h⟩ := h
      refine zc_1_223 (x0 := p1) hB rfl k3 d_1034_29 (Nat.le_of_ble_eq_true rfl) h (fun S4 h => ?_)
      exact zu_vret d_1034_32 zr_1034 h
    · have h := h.2 c2
      exact (u_X2_whole_16 hB h).weak ⟨rfl, rfl, trivial⟩
/-! SchemaPascal$Machine.sets(IJJ)Z -/
theorem zm_1035 {σ : Nat → Nat} {n0 : Nat} {bf : ab_B} : ab_code (zx σ n0 bf).1 1035 = prog_5_method_36_code := rfl
theorem zq_1035 {σ : Nat → Nat} {n0 : Nat} {bf : ab_B} : ab_maxL (zx σ n0 bf).1 1035 = 5 := rfl
theorem zr_1035 {σ : Nat → Nat} {n0 : Nat} {bf : ab_B} : ab_ret (zx σ n0 bf).1 1035 = (Option.some Jvm.ClassFile.FieldType.boolean) := rfl
theorem d_1035_0 {σ : Nat → Nat} {n0 : Nat} {bf : ab_B} : decode (ab_code (zx σ n0 bf).1 1035) 0 = .ok (.iload_n 0, 1) := zd zm_1035 (by decide +kernel)
theorem d_1035_1 {σ : Nat → Nat} {n0 : Nat} {bf : ab_B} : decode (ab_code (zx σ n0 bf).1 1035) 1 = .ok (.lookupswitch 77 #[(61, 35), (256, 47), (257, 59)], 35) := zd zm_1035 (by decide +kernel)
theorem d_1035_36 {σ : Nat → Nat} {n0 : Nat} {bf : ab_B} : decode (ab_code (zx σ n0 bf).1 1035) 36 = .ok (.lload_n 1, 1) := zd zm_1035 (by decide +kernel)
theorem d_1035_37 {σ : Nat → Nat} {n0 : Nat} {bf : ab_B} : decode (ab_code (zx σ n0 bf).1 1035) 37 = .ok (.lload_n 3, 1) := zd zm_1035 (by decide +kernel)
theorem d_1035_38 {σ : Nat → Nat} {n0 : Nat} {bf : ab_B} : decode (ab_code (zx σ n0 bf).1 1035) 38 = .ok (.lcmp, 1) := zd zm_1035 (by decide +kernel)
theorem d_1035_39 {σ : Nat → Nat} {n0 : Nat} {bf : ab_B} : decode (ab_code (zx σ n0 bf).1 1035) 39 = .ok (.ifCond .ne 7, 3) := zd zm_1035 (by decide +kernel)
theorem d_1035_42 {σ : Nat → Nat} {n0 : Nat} {bf : ab_B} : decode (ab_code (zx σ n0 bf).1 1035) 42 = .ok (.iconst 1, 1) := zd zm_1035 (by decide +kernel)
theorem d_1035_43 {σ : Nat → Nat} {n0 : Nat} {bf : ab_B} : decode (ab_code (zx σ n0 bf).1 1035) 43 = .ok (.goto 4, 3) := zd zm_1035 (by decide +kernel)
theorem d_1035_46 {σ : Nat → Nat} {n0 : Nat} {bf : ab_B} : decode (ab_code (zx σ n0 bf).1 1035) 46 = .ok (.iconst 0, 1) := zd zm_1035 (by decide +kernel)
theorem d_1035_47 {σ : Nat → Nat} {n0 : Nat} {bf : ab_B} : decode (ab_code (zx σ n0 bf).1 1035) 47 = .ok (.ireturn, 1) := zd zm_1035 (by decide +kernel)
theorem d_1035_48 {σ : Nat → Nat} {n0 : Nat} {bf : ab_B} : decode (ab_code (zx σ n0 bf).1 1035) 48 = .ok (.lload_n 1, 1) := zd zm_1035 (by decide +kernel)
theorem d_1035_49 {σ : Nat → Nat} {n0 : Nat} {bf : ab_B} : decode (ab_code (zx σ n0 bf).1 1035) 49 = .ok (.lload_n 3, 1) := zd zm_1035 (by decide +kernel)
theorem d_1035_50 {σ : Nat → Nat} {n0 : Nat} {bf : ab_B} : decode (ab_code (zx σ n0 bf).1 1035) 50 = .ok (.lcmp, 1) := zd zm_1035 (by decide +kernel)
theorem d_1035_51 {σ : Nat → Nat} {n0 : Nat} {bf : ab_B} : decode (ab_code (zx σ n0 bf).1 1035) 51 = .ok (.ifCond .eq 7, 3) := zd zm_1035 (by decide +kernel)
theorem d_1035_54 {σ : Nat → Nat} {n0 : Nat} {bf : ab_B} : decode (ab_code (zx σ n0 bf).1 1035) 54 = .ok (.iconst 1, 1) := zd zm_1035 (by decide +kernel)
theorem d_1035_55 {σ : Nat → Nat} {n0 : Nat} {bf : ab_B} : decode (ab_code (zx σ n0 bf).1 1035) 55 = .ok (.goto 4, 3) := zd zm_1035 (by decide +kernel)
theorem d_1035_58 {σ : Nat → Nat} {n0 : Nat} {bf : ab_B} : decode (ab_code (zx σ n0 bf).1 1035) 58 = .ok (.iconst 0, 1) := zd zm_1035 (by decide +kernel)
theorem d_1035_59 {σ : Nat → Nat} {n0 : Nat} {bf : ab_B} : decode (ab_code (zx σ n0 bf).1 1035) 59 = .ok (.ireturn, 1) := zd zm_1035 (by decide +kernel)
theorem d_1035_60 {σ : Nat → Nat} {n0 : Nat} {bf : ab_B} : decode (ab_code (zx σ n0 bf).1 1035) 60 = .ok (.lload_n 1, 1) := zd zm_1035 (by decide +kernel)
theorem d_1035_61 {σ : Nat → Nat} {n0 : Nat} {bf : ab_B} : decode (ab_code (zx σ n0 bf).1 1035) 61 = .ok (.lload_n 3, 1) := zd zm_1035 (by decide +kernel)
theorem d_1035_62 {σ : Nat → Nat} {n0 : Nat} {bf : ab_B} : decode (ab_code (zx σ n0 bf).1 1035) 62 = .ok (.ldc2_w 437, 3) := zd zm_1035 (by decide +kernel)
theorem d_1035_65 {σ : Nat → Nat} {n0 : Nat} {bf : ab_B} : decode (ab_code (zx σ n0 bf).1 1035) 65 = .ok (.lxor, 1) := zd zm_1035 (by decide +kernel)
theorem d_1035_66 {σ : Nat → Nat} {n0 : Nat} {bf : ab_B} : decode (ab_code (zx σ n0 bf).1 1035) 66 = .ok (.land, 1) := zd zm_1035 (by decide +kernel)
theorem d_1035_67 {σ : Nat → Nat} {n0 : Nat} {bf : ab_B} : decode (ab_code (zx σ n0 bf).1 1035) 67 = .ok (.lconst 0, 1) := zd zm_1035 (by decide +kernel)
theorem d_1035_68 {σ : Nat → Nat} {n0 : Nat} {bf : ab_B} : decode (ab_code (zx σ n0 bf).1 1035) 68 = .ok (.lcmp, 1) := zd zm_1035 (by decide +kernel)
theorem d_1035_69 {σ : Nat → Nat} {n0 : Nat} {bf : ab_B} : decode (ab_code (zx σ n0 bf).1 1035) 69 = .ok (.ifCond .ne 7, 3) := zd zm_1035 (by decide +kernel)
theorem d_1035_72 {σ : Nat → Nat} {n0 : Nat} {bf : ab_B} : decode (ab_code (zx σ n0 bf).1 1035) 72 = .ok (.iconst 1, 1) := zd zm_1035 (by decide +kernel)
theorem d_1035_73 {σ : Nat → Nat} {n0 : Nat} {bf : ab_B} : decode (ab_code (zx σ n0 bf).1 1035) 73 = .ok (.goto 4, 3) := zd zm_1035 (by decide +kernel)
theorem d_1035_76 {σ : Nat → Nat} {n0 : Nat} {bf : ab_B} : decode (ab_code (zx σ n0 bf).1 1035) 76 = .ok (.iconst 0, 1) := zd zm_1035 (by decide +kernel)
theorem d_1035_77 {σ : Nat → Nat} {n0 : Nat} {bf : ab_B} : decode (ab_code (zx σ n0 bf).1 1035) 77 = .ok (.ireturn, 1) := zd zm_1035 (by decide +kernel)
theorem d_1035_78 {σ : Nat → Nat} {n0 : Nat} {bf : ab_B} : decode (ab_code (zx σ n0 bf).1 1035) 78 = .ok (.lload_n 3, 1) := zd zm_1035 (by decide +kernel)
theorem d_1035_79 {σ : Nat → Nat} {n0 : Nat} {bf : ab_B} : decode (ab_code (zx σ n0 bf).1 1035) 79 = .ok (.lload_n 1, 1) := zd zm_1035 (by decide +kernel)
theorem d_1035_80 {σ : Nat → Nat} {n0 : Nat} {bf : ab_B} : decode (ab_code (zx σ n0 bf).1 1035) 80 = .ok (.ldc2_w 437, 3) := zd zm_1035 (by decide +kernel)
theorem d_1035_83 {σ : Nat → Nat} {n0 : Nat} {bf : ab_B} : decode (ab_code (zx σ n0 bf).1 1035) 83 = .ok (.lxor, 1) := zd zm_1035 (by decide +kernel)
theorem d_1035_84 {σ : Nat → Nat} {n0 : Nat} {bf : ab_B} : decode (ab_code (zx σ n0 bf).1 1035) 84 = .ok (.land, 1) := zd zm_1035 (by decide +kernel)
theorem d_1035_85 {σ : Nat → Nat} {n0 : Nat} {bf : ab_B} : decode (ab_code (zx σ n0 bf).1 1035) 85 = .ok (.lconst 0, 1) := zd zm_1035 (by decide +kernel)
theorem d_1035_86 {σ : Nat → Nat} {n0 : Nat} {bf : ab_B} : decode (ab_code (zx σ n0 bf).1 1035) 86 = .ok (.lcmp, 1) := zd zm_1035 (by decide +kernel)
theorem d_1035_87 {σ : Nat → Nat} {n0 : Nat} {bf : ab_B} : decode (ab_code (zx σ n0 bf).1 1035) 87 = .ok (.ifCond .ne 7, 3) := zd zm_1035 (by decide +kernel)
theorem d_1035_90 {σ : Nat → Nat} {n0 : Nat} {bf : ab_B} : decode (ab_code (zx σ n0 bf).1 1035) 90 = .ok (.iconst 1, 1) := zd zm_1035 (by decide +kernel)
theorem d_1035_91 {σ : Nat → Nat} {n0 : Nat} {bf : ab_B} : decode (ab_code (zx σ n0 bf).1 1035) 91 = .ok (.goto 4, 3) := zd zm_1035 (by decide +kernel)
theorem d_1035_94 {σ : Nat → Nat} {n0 : Nat} {bf : ab_B} : decode (ab_code (zx σ n0 bf).1 1035) 94 = .ok (.iconst 0, 1) := zd zm_1035 (by decide +kernel)
theorem d_1035_95 {σ : Nat → Nat} {n0 : Nat} {bf : ab_B} : decode (ab_code (zx σ n0 bf).1 1035) 95 = .ok (.ireturn, 1) := zd zm_1035 (by decide +kernel)
def w_X2_sets (X : zs_X) (d : Nat) (p0 : Int32) (p1 : Int64) (p3 : Int64) (S : zs_T) (Q : zs_Q) : Prop :=
  (((¬ p0.toInt = 61 → ¬ p0.toInt = 256 → ¬ p0.toInt = 257 → (((¬ (p3 &&& (p1 ^^^ (-1 : Int64))) = (0 : Int64) → (Q (.returned (some (.int (0 : Int32)))) S)) ∧ (¬ (¬ (p3 &&& (p1 ^^^ (-1 : Int64))) = (0 : Int64)) → (Q (.returned (some (.int (1 : Int32)))) S))))) ∧ (p0.toInt = 61 → (((¬ p1 = p3 → (Q (.returned (some (.int (0 : Int32)))) S)) ∧ (¬ (¬ p1 = p3) → (Q (.returned (some (.int (1 : Int32)))) S))))) ∧ (p0.toInt = 256 → (((p1 = p3 → (Q (.returned (some (.int (0 : Int32)))) S)) ∧ (¬ (p1 = p3) → (Q (.returned (some (.int (1 : Int32)))) S))))) ∧ (p0.toInt = 257 → (((¬ (p1 &&& (p3 ^^^ (-1 : Int64))) = (0 : Int64) → (Q (.returned (some (.int (0 : Int32)))) S)) ∧ (¬ (¬ (p1 &&& (p3 ^^^ (-1 : Int64))) = (0 : Int64)) → (Q (.returned (some (.int (1 : Int32)))) S)))))))
theorem u_X2_sets {σ : Nat → Nat} {n0 : Nat} {bf : ab_B} {d : Nat} {p0 : Int32} {p1 : Int64} {p3 : Int64} {S : zs_T} {Q : zs_Q} (hB : zt_B bf) (hd : 1 ≤ d) (h : w_X2_sets (zx σ n0 bf) (d - 1) p0 p1 p3 S Q) : zs_C (zx σ n0 bf) d 1035 [.int p0, .long p1, .long p3] S Q := by
  have hL : lv_args 0 [.int p0, .long p1, .long p3] = [(0, .int p0), (1, .long p1), (3, .long p3)] := rfl
  refine zs_C.of1 (hB.2 1035 (by decide) (by decide)) hd (by rw [hL]; exact zs_sub_self _ (by exact ⟨rfl, rfl, rfl, trivial⟩)) ?_
  rw [hL]
  clear hL
  unfold w_X2_sets at h
  refine zu_iload_n d_1035_0 rfl ?_
  refine zu_lsw d_1035_1 (by decide) ?_
  by_cases c1 : p0.toInt = 61
  · have h := h.2.1 c1
    have hof : Op.lookupswitch.offset #[(61, 35), (256, 47), (257, 59)].toList 77 p0.toInt = 35 := by rw [c1]; decide
    rw [hof]
    refine ⟨by decide, ?_⟩
    show zs_U _ _ _ 36 _ _ _ _
    refine zu_lload_n d_1035_36 rfl ?_
    refine zu_lload_n d_1035_37 rfl ?_
    refine zu_lne (t := 46) d_1035_38 d_1035_39 rfl (fun c5 => ?_) (fun c5 => ?_)
    · have h := h.1 c5
      refine zu_iconst d_1035_46 zi_0 ?_
      exact zu_iret d_1035_47 zr_1035 (zs_b_n (Or.inl rfl)) h
    · have h := h.2 c5
      refine zu_iconst d_1035_42 zi_1 ?_
      refine zu_goto (t := 47) d_1035_43 rfl ?_
      exact zu_iret d_1035_47 zr_1035 (zs_b_n (Or.inr rfl)) h
  by_cases c2 : p0.toInt = 256
  · have h := h.2.2.1 c2
    have hof : Op.lookupswitch.offset #[(61, 35), (256, 47), (257, 59)].toList 77 p0.toInt = 47 := by rw [c2]; decide
    rw [hof]
    refine ⟨by decide, ?_⟩
    show zs_U _ _ _ 48 _ _ _ _
    refine zu_lload_n d_1035_48 rfl ?_
    refine zu_lload_n d_1035_49 rfl ?_
    refine zu_leq (t := 58) d_1035_50 d_1035_51 rfl (fun c6 => ?_) (fun c6 => ?_)
    · have h := h.1 c6
      refine zu_iconst d_1035_58 zi_0 ?_
      exact zu_iret d_1035_59 zr_1035 (zs_b_n (Or.inl rfl)) h
    · have h := h.2 c6
      refine zu_iconst d_1035_54 zi_1 ?_
      refine zu_goto (t := 59) d_1035_55 rfl ?_
      exact zu_iret d_1035_59 zr_1035 (zs_b_n (Or.inr rfl)) h
  by_cases c3 : p0.toInt = 257
  · have h := h.2.2.2 c3
    have hof : Op.lookupswitch.offset #[(61, 35), (256, 47), (257, 59)].toList 77 p0.toInt = 59 := by rw [c3]; decide
    rw [hof]
    refine ⟨by decide, ?_⟩
    show zs_U _ _ _ 60 _ _ _ _
    refine zu_lload_n d_1035_60 rfl ?_
    refine zu_lload_n d_1035_61 rfl ?_
    refine zl2_1_437 rfl d_1035_62 ?_
    refine zu_stk d_1035_65 rfl rfl ?_
    refine zu_stk d_1035_66 rfl rfl ?_
    refine zu_lconst (v := 0) d_1035_67 rfl ?_
    refine zu_lne (t := 76) d_1035_68 d_1035_69 rfl (fun c7 => ?_) (fun c7 => ?_)
    · have h := h.1 c7
      refine zu_iconst d_1035_76 zi_0 ?_
      exact zu_iret d_1035_77 zr_1035 (zs_b_n (Or.inl rfl)) h
    · have h := h.2 c7
      refine zu_iconst d_1035_72 zi_1 ?_
      refine zu_goto (t := 77) d_1035_73 rfl ?_
      exact zu_iret d_1035_77 zr_1035 (zs_b_n (Or.inr rfl)) h
  have h := h.1 c1 c2 c3
  have hof : Op.lookupswitch.offset #[(61, 35), (256, 47), (257, 59)].toList 77 p0.toInt = 77 := by simp [Op.lookupswitch.offset, c1, c2, c3, Ne.symm c1, Ne.symm c2, Ne.symm c3]
  rw [hof]
  refine ⟨by decide, ?_⟩
  show zs_U _ _ _ 78 _ _ _ _
  refine zu_lload_n d_1035_78 rfl ?_
  refine zu_lload_n d_1035_79 rfl ?_
  refine zl2_1_437 rfl d_1035_80 ?_
  refine zu_stk d_1035_83 rfl rfl ?_
  refine zu_stk d_1035_84 rfl rfl ?_
  refine zu_lconst (v := 0) d_1035_85 rfl ?_
  refine zu_lne (t := 94) d_1035_86 d_1035_87 rfl (fun c4 => ?_) (fun c4 => ?_)
  · have h := h.1 c4
    refine zu_iconst d_1035_94 zi_0 ?_
    exact zu_iret d_1035_95 zr_1035 (zs_b_n (Or.inl rfl)) h
  · have h := h.2 c4
    refine zu_iconst d_1035_90 zi_1 ?_
    refine zu_goto (t := 95) d_1035_91 rfl ?_
    exact zu_iret d_1035_95 zr_1035 (zs_b_n (Or.inr rfl)) h
/-! SchemaPascal$Machine.spread(JJI)V -/
theorem zm_1036 {σ : Nat → Nat} {n0 : Nat} {bf : ab_B} : ab_code (zx σ n0 bf).1 1036 = prog_5_method_35_code := rfl
theorem zq_1036 {σ : Nat → Nat} {n0 : Nat} {bf : ab_B} : ab_maxL (zx σ n0 bf).1 1036 = 8 := rfl
theorem zr_1036 {σ : Nat → Nat} {n0 : Nat} {bf : ab_B} : ab_ret (zx σ n0 bf).1 1036 = (Option.none : Option Jvm.ClassFile.FieldType) := rfl
theorem d_1036_0 {σ : Nat → Nat} {n0 : Nat} {bf : ab_B} : decode (ab_code (zx σ n0 bf).1 1036) 0 = .ok (.lload_n 1, 1) := zd zm_1036 (by decide +kernel)
theorem d_1036_1 {σ : Nat → Nat} {n0 : Nat} {bf : ab_B} : decode (ab_code (zx σ n0 bf).1 1036) 1 = .ok (.lload_n 3, 1) := zd zm_1036 (by decide +kernel)
theorem d_1036_2 {σ : Nat → Nat} {n0 : Nat} {bf : ab_B} : decode (ab_code (zx σ n0 bf).1 1036) 2 = .ok (.lcmp, 1) := zd zm_1036 (by decide +kernel)
theorem d_1036_3 {σ : Nat → Nat} {n0 : Nat} {bf : ab_B} : decode (ab_code (zx σ n0 bf).1 1036) 3 = .ok (.ifCond .le 4, 3) := zd zm_1036 (by decide +kernel)
theorem d_1036_6 {σ : Nat → Nat} {n0 : Nat} {bf : ab_B} : decode (ab_code (zx σ n0 bf).1 1036) 6 = .ok (.return_, 1) := zd zm_1036 (by decide +kernel)
theorem d_1036_7 {σ : Nat → Nat} {n0 : Nat} {bf : ab_B} : decode (ab_code (zx σ n0 bf).1 1036) 7 = .ok (.lload_n 1, 1) := zd zm_1036 (by decide +kernel)
theorem d_1036_8 {σ : Nat → Nat} {n0 : Nat} {bf : ab_B} : decode (ab_code (zx σ n0 bf).1 1036) 8 = .ok (.lconst 0, 1) := zd zm_1036 (by decide +kernel)
theorem d_1036_9 {σ : Nat → Nat} {n0 : Nat} {bf : ab_B} : decode (ab_code (zx σ n0 bf).1 1036) 9 = .ok (.lcmp, 1) := zd zm_1036 (by decide +kernel)
theorem d_1036_10 {σ : Nat → Nat} {n0 : Nat} {bf : ab_B} : decode (ab_code (zx σ n0 bf).1 1036) 10 = .ok (.ifCond .lt 11, 3) := zd zm_1036 (by decide +kernel)
theorem d_1036_13 {σ : Nat → Nat} {n0 : Nat} {bf : ab_B} : decode (ab_code (zx σ n0 bf).1 1036) 13 = .ok (.lload_n 3, 1) := zd zm_1036 (by decide +kernel)
theorem d_1036_14 {σ : Nat → Nat} {n0 : Nat} {bf : ab_B} : decode (ab_code (zx σ n0 bf).1 1036) 14 = .ok (.ldc2_w 425, 3) := zd zm_1036 (by decide +kernel)
theorem d_1036_17 {σ : Nat → Nat} {n0 : Nat} {bf : ab_B} : decode (ab_code (zx σ n0 bf).1 1036) 17 = .ok (.lcmp, 1) := zd zm_1036 (by decide +kernel)
theorem d_1036_18 {σ : Nat → Nat} {n0 : Nat} {bf : ab_B} : decode (ab_code (zx σ n0 bf).1 1036) 18 = .ok (.ifCond .le 12, 3) := zd zm_1036 (by decide +kernel)
theorem d_1036_21 {σ : Nat → Nat} {n0 : Nat} {bf : ab_B} : decode (ab_code (zx σ n0 bf).1 1036) 21 = .ok (.aload_n 0, 1) := zd zm_1036 (by decide +kernel)
theorem d_1036_22 {σ : Nat → Nat} {n0 : Nat} {bf : ab_B} : decode (ab_code (zx σ n0 bf).1 1036) 22 = .ok (.iconst 2, 1) := zd zm_1036 (by decide +kernel)
theorem d_1036_23 {σ : Nat → Nat} {n0 : Nat} {bf : ab_B} : decode (ab_code (zx σ n0 bf).1 1036) 23 = .ok (.iload 5, 2) := zd zm_1036 (by decide +kernel)
theorem d_1036_25 {σ : Nat → Nat} {n0 : Nat} {bf : ab_B} : decode (ab_code (zx σ n0 bf).1 1036) 25 = .ok (.invokevirtual 194, 3) := zd zm_1036 (by decide +kernel)
theorem d_1036_28 {σ : Nat → Nat} {n0 : Nat} {bf : ab_B} : decode (ab_code (zx σ n0 bf).1 1036) 28 = .ok (.pop, 1) := zd zm_1036 (by decide +kernel)
theorem d_1036_29 {σ : Nat → Nat} {n0 : Nat} {bf : ab_B} : decode (ab_code (zx σ n0 bf).1 1036) 29 = .ok (.return_, 1) := zd zm_1036 (by decide +kernel)
theorem d_1036_30 {σ : Nat → Nat} {n0 : Nat} {bf : ab_B} : decode (ab_code (zx σ n0 bf).1 1036) 30 = .ok (.lload_n 1, 1) := zd zm_1036 (by decide +kernel)
theorem d_1036_31 {σ : Nat → Nat} {n0 : Nat} {bf : ab_B} : decode (ab_code (zx σ n0 bf).1 1036) 31 = .ok (.lstore 6, 2) := zd zm_1036 (by decide +kernel)
theorem d_1036_33 {σ : Nat → Nat} {n0 : Nat} {bf : ab_B} : decode (ab_code (zx σ n0 bf).1 1036) 33 = .ok (.lload 6, 2) := zd zm_1036 (by decide +kernel)
theorem d_1036_35 {σ : Nat → Nat} {n0 : Nat} {bf : ab_B} : decode (ab_code (zx σ n0 bf).1 1036) 35 = .ok (.lload_n 3, 1) := zd zm_1036 (by decide +kernel)
theorem d_1036_36 {σ : Nat → Nat} {n0 : Nat} {bf : ab_B} : decode (ab_code (zx σ n0 bf).1 1036) 36 = .ok (.lcmp, 1) := zd zm_1036 (by decide +kernel)
theorem d_1036_37 {σ : Nat → Nat} {n0 : Nat} {bf : ab_B} : decode (ab_code (zx σ n0 bf).1 1036) 37 = .ok (.ifCond .gt 31, 3) := zd zm_1036 (by decide +kernel)
theorem d_1036_40 {σ : Nat → Nat} {n0 : Nat} {bf : ab_B} : decode (ab_code (zx σ n0 bf).1 1036) 40 = .ok (.aload_n 0, 1) := zd zm_1036 (by decide +kernel)
theorem d_1036_41 {σ : Nat → Nat} {n0 : Nat} {bf : ab_B} : decode (ab_code (zx σ n0 bf).1 1036) 41 = .ok (.getfield 36, 3) := zd zm_1036 (by decide +kernel)
theorem d_1036_44 {σ : Nat → Nat} {n0 : Nat} {bf : ab_B} : decode (ab_code (zx σ n0 bf).1 1036) 44 = .ok (.aload_n 0, 1) := zd zm_1036 (by decide +kernel)
theorem d_1036_45 {σ : Nat → Nat} {n0 : Nat} {bf : ab_B} : decode (ab_code (zx σ n0 bf).1 1036) 45 = .ok (.getfield 111, 3) := zd zm_1036 (by decide +kernel)
theorem d_1036_48 {σ : Nat → Nat} {n0 : Nat} {bf : ab_B} : decode (ab_code (zx σ n0 bf).1 1036) 48 = .ok (.iconst 1, 1) := zd zm_1036 (by decide +kernel)
theorem d_1036_49 {σ : Nat → Nat} {n0 : Nat} {bf : ab_B} : decode (ab_code (zx σ n0 bf).1 1036) 49 = .ok (.isub, 1) := zd zm_1036 (by decide +kernel)
theorem d_1036_50 {σ : Nat → Nat} {n0 : Nat} {bf : ab_B} : decode (ab_code (zx σ n0 bf).1 1036) 50 = .ok (.dup2, 1) := zd zm_1036 (by decide +kernel)
theorem d_1036_51 {σ : Nat → Nat} {n0 : Nat} {bf : ab_B} : decode (ab_code (zx σ n0 bf).1 1036) 51 = .ok (.laload, 1) := zd zm_1036 (by decide +kernel)
theorem d_1036_52 {σ : Nat → Nat} {n0 : Nat} {bf : ab_B} : decode (ab_code (zx σ n0 bf).1 1036) 52 = .ok (.lconst 1, 1) := zd zm_1036 (by decide +kernel)
theorem d_1036_53 {σ : Nat → Nat} {n0 : Nat} {bf : ab_B} : decode (ab_code (zx σ n0 bf).1 1036) 53 = .ok (.lload 6, 2) := zd zm_1036 (by decide +kernel)
theorem d_1036_55 {σ : Nat → Nat} {n0 : Nat} {bf : ab_B} : decode (ab_code (zx σ n0 bf).1 1036) 55 = .ok (.l2i, 1) := zd zm_1036 (by decide +kernel)
theorem d_1036_56 {σ : Nat → Nat} {n0 : Nat} {bf : ab_B} : decode (ab_code (zx σ n0 bf).1 1036) 56 = .ok (.lshl, 1) := zd zm_1036 (by decide +kernel)
theorem d_1036_57 {σ : Nat → Nat} {n0 : Nat} {bf : ab_B} : decode (ab_code (zx σ n0 bf).1 1036) 57 = .ok (.lor, 1) := zd zm_1036 (by decide +kernel)
theorem d_1036_58 {σ : Nat → Nat} {n0 : Nat} {bf : ab_B} : decode (ab_code (zx σ n0 bf).1 1036) 58 = .ok (.lastore, 1) := zd zm_1036 (by decide +kernel)
theorem d_1036_59 {σ : Nat → Nat} {n0 : Nat} {bf : ab_B} : decode (ab_code (zx σ n0 bf).1 1036) 59 = .ok (.lload 6, 2) := zd zm_1036 (by decide +kernel)
theorem d_1036_61 {σ : Nat → Nat} {n0 : Nat} {bf : ab_B} : decode (ab_code (zx σ n0 bf).1 1036) 61 = .ok (.lconst 1, 1) := zd zm_1036 (by decide +kernel)
theorem d_1036_62 {σ : Nat → Nat} {n0 : Nat} {bf : ab_B} : decode (ab_code (zx σ n0 bf).1 1036) 62 = .ok (.ladd, 1) := zd zm_1036 (by decide +kernel)
theorem d_1036_63 {σ : Nat → Nat} {n0 : Nat} {bf : ab_B} : decode (ab_code (zx σ n0 bf).1 1036) 63 = .ok (.lstore 6, 2) := zd zm_1036 (by decide +kernel)
theorem d_1036_65 {σ : Nat → Nat} {n0 : Nat} {bf : ab_B} : decode (ab_code (zx σ n0 bf).1 1036) 65 = .ok (.goto (-32), 3) := zd zm_1036 (by decide +kernel)
theorem d_1036_68 {σ : Nat → Nat} {n0 : Nat} {bf : ab_B} : decode (ab_code (zx σ n0 bf).1 1036) 68 = .ok (.return_, 1) := zd zm_1036 (by decide +kernel)
def w_X2_spread_21 (X : zs_X) (d : Nat) (p0 : Nat) (p5 : Int32) (S : zs_T) (Q : zs_Q) : Prop :=
  (zs_K S p0 = some (.inl 1) ∧ zs_C X d 1004 [.ref p0, .int (2 : Int32), .int p5] S (zs_kI (fun v3 S2 => (Q (.returned none) S2)) Q))
theorem u_X2_spread_21 {σ : Nat → Nat} {n0 : Nat} {bf : ab_B} {d : Nat} {p0 : Nat} {p5 : Int32} {S : zs_T} {Q : zs_Q} (hB : zt_B bf) (h : w_X2_spread_21 (zx σ n0 bf) d p0 p5 S Q) : zs_U (zx σ n0 bf) d 1036 21 [(0, .ref p0), (5, .int p5)] [] S Q := by
  unfold w_X2_spread_21 at h
  refine zu_aload_n d_1036_21 rfl (zs_ra _) ?_
  refine zu_iconst d_1036_22 zi_2 ?_
  refine zu_iload d_1036_23 rfl ?_
  obtain ⟨k1, h⟩ := h
  refine zc_1_194 (x0 := (2 : Int32)) (x1 := p5) hB rfl k1 d_1036_25 (Nat.le_of_ble_eq_true rfl) h (fun v3 S2 h => ?_)
  refine zu_pop d_1036_28 rfl ?_
  exact zu_vret d_1036_29 zr_1036 h
def w_X2_spread_59 (X : zs_X) (d : Nat) (p0 : Nat) (p3 : Int64) (p6 : Int64) (S : zs_T) (Q : zs_Q) : Prop :=
  (zs_U X d 1036 33 [(0, .ref p0), (3, .long p3), (6, .long (p6 + (1 : Int64)))] [] S Q)
theorem u_X2_spread_59 {σ : Nat → Nat} {n0 : Nat} {bf : ab_B} {d : Nat} {p0 : Nat} {p3 : Int64} {p6 : Int64} {S : zs_T} {Q : zs_Q} (hB : zt_B bf) (h : w_X2_spread_59 (zx σ n0 bf) d p0 p3 p6 S Q) : zs_U (zx σ n0 bf) d 1036 59 [(0, .ref p0), (3, .long p3), (6, .long p6)] [] S Q := by
  unfold w_X2_spread_59 at h
  refine zu_lload d_1036_59 rfl ?_
  refine zu_lconst (v := 1) d_1036_61 rfl ?_
  refine zu_stk d_1036_62 rfl rfl ?_
  refine zu_lstore d_1036_63 (zs_lt zq_1036 rfl) ?_
  refine zu_goto (t := 33) d_1036_65 rfl ?_
  exact h.weak ⟨rfl, rfl, rfl, trivial⟩
def w_X2_spread_33 (X : zs_X) (d : Nat) (p0 : Nat) (p3 : Int64) (p6 : Int64) (S : zs_T) (Q : zs_Q) : Prop :=
  (((p3 < p6 → (Q (.returned none) S)) ∧ (¬ (p3 < p6) → (zs_K S p0 = some (.inl 1) ∧ ∃ b3, (zs_R S 1005 p0) = some b3 ∧ zs_A S b3 3 ((zs_I S 1007 p0) - (1 : Int32)) ∧ ab_n0 X.1 ≤ b3 ∧ ∀ S7, S7 = zs_sj S b3 ((zs_I S 1007 p0) - (1 : Int32)).toNatClampNeg ((zs_j S b3 ((zs_I S 1007 p0) - (1 : Int32)).toNatClampNeg) ||| ((1 : Int64) <<< ((((p6).toInt32)).toInt64 &&& 63))) → w_X2_spread_59 X d p0 p3 p6 S7 Q))))
theorem u_X2_spread_33 {σ : Nat → Nat} {n0 : Nat} {bf : ab_B} {d : Nat} {p0 : Nat} {p3 : Int64} {p6 : Int64} {S : zs_T} {Q : zs_Q} (hB : zt_B bf) (h : w_X2_spread_33 (zx σ n0 bf) d p0 p3 p6 S Q) : zs_U (zx σ n0 bf) d 1036 33 [(0, .ref p0), (3, .long p3), (6, .long p6)] [] S Q := by
  unfold w_X2_spread_33 at h
  refine zu_lload d_1036_33 rfl ?_
  refine zu_lload_n d_1036_35 rfl ?_
  refine zu_lgt (t := 68) d_1036_36 d_1036_37 rfl (fun c1 => ?_) (fun c1 => ?_)
  · have h := h.1 c1
    exact zu_vret d_1036_68 zr_1036 h
  · have h := h.2 c1
    refine zu_aload_n d_1036_40 rfl (zs_ra _) ?_
    obtain ⟨k2, h⟩ := h
    refine zg_1_36 rfl d_1036_41 k2 ?_
    refine zu_aload_n d_1036_44 rfl (zs_ra _) ?_
    refine zg_1_111 rfl d_1036_45 k2 ?_
    refine zu_iconst d_1036_48 zi_1 ?_
    refine zu_stk d_1036_49 rfl rfl ?_
    refine zu_dup2 d_1036_50 rfl (zs_cat _) ?_
    obtain ⟨b3, e4, h⟩ := h
    refine zs_stk1 (zs_rfe e4) ?_
    obtain ⟨k5, h⟩ := h
    refine zu_lald (k := 3) d_1036_51 rfl rfl k5 ?_
    refine zu_lconst (v := 1) d_1036_52 rfl ?_
    refine zu_lload d_1036_53 rfl ?_
    refine zu_stk d_1036_55 rfl rfl ?_
    refine zu_stk d_1036_56 rfl rfl ?_
    refine zu_stk d_1036_57 rfl rfl ?_
    refine zs_stk2 (zs_rfe e4) ?_
    obtain ⟨k6, h⟩ := h
    refine zu_last (k := 3) d_1036_58 rfl rfl k6 k5 ?_
    generalize e8 : zs_sj S b3 ((zs_I S 1007 p0) - (1 : Int32)).toNatClampNeg ((zs_j S b3 ((zs_I S 1007 p0) - (1 : Int32)).toNatClampNeg) ||| ((1 : Int64) <<< ((((p6).toInt32)).toInt64 &&& 63))) = S7
    have h := h S7 e8.symm
    have K9 : ∀ b, zs_K S7 b = zs_K S b := zs_Kt e8 (zs_Ksj _ _ _ _) (fun _ => rfl)
    exact (u_X2_spread_59 hB h).weak ⟨rfl, rfl, rfl, trivial⟩
def w_X2_spread (X : zs_X) (d : Nat) (p0 : Nat) (p1 : Int64) (p3 : Int64) (p5 : Int32) (S : zs_T) (Q : zs_Q) : Prop :=
  (((p1 ≤ p3 → (((p1 < (0 : Int64) → w_X2_spread_21 X d p0 p5 S Q) ∧ (¬ (p1 < (0 : Int64)) → (((p3 ≤ (63 : Int64) → (zs_U X d 1036 33 [(0, .ref p0), (3, .long p3), (6, .long p1)] [] S Q)) ∧ (¬ (p3 ≤ (63 : Int64)) → w_X2_spread_21 X d p0 p5 S Q))))))) ∧ (¬ (p1 ≤ p3) → (Q (.returned none) S))))
theorem u_X2_spread {σ : Nat → Nat} {n0 : Nat} {bf : ab_B} {d : Nat} {p0 : Nat} {p1 : Int64} {p3 : Int64} {p5 : Int32} {S : zs_T} {Q : zs_Q} (hB : zt_B bf) (hd : 1 ≤ d) (h : w_X2_spread (zx σ n0 bf) (d - 1) p0 p1 p3 p5 S Q) : zs_C (zx σ n0 bf) d 1036 [.ref p0, .long p1, .long p3, .int p5] S Q := by
  have hL : lv_args 0 [.ref p0, .long p1, .long p3, .int p5] = [(0, .ref p0), (1, .long p1), (3, .long p3), (5, .int p5)] := rfl
  refine zs_C.of1 (hB.2 1036 (by decide) (by decide)) hd (by rw [hL]; exact zs_sub_self _ (by exact ⟨rfl, rfl, rfl, rfl, trivial⟩)) ?_
  rw [hL]
  clear hL
  unfold w_X2_spread at h
  refine zu_lload_n d_1036_0 rfl ?_
  refine zu_lload_n d_1036_1 rfl ?_
  refine zu_lle (t := 7) d_1036_2 d_1036_3 rfl (fun c1 => ?_) (fun c1 => ?_)
  · have h := h.1 c1
    refine zu_lload_n d_1036_7 rfl ?_
    refine zu_lconst (v := 0) d_1036_8 rfl ?_
    refine zu_llt (t := 21) d_1036_9 d_1036_10 rfl (fun c2 => ?_) (fun c2 => ?_)
    · have h := h.1 c2
      exact (u_X2_spread_21 hB h).weak ⟨rfl, rfl, trivial⟩
    · have h := h.2 c2
      refine zu_lload_n d_1036_13 rfl ?_
      refine zl2_1_425 rfl d_1036_14 ?_
      refine zu_lle (t := 30) d_1036_17 d_1036_18 rfl (fun c3 => ?_) (fun c3 => ?_)
      · have h := h.1 c3
        refine zu_lload_n d_1036_30 rfl ?_
        refine zu_lstore d_1036_31 (zs_lt zq_1036 rfl) ?_
        exact h.weak ⟨rfl, rfl, rfl, trivial⟩
      · have h := h.2 c3
        exact (u_X2_spread_21 hB h).weak ⟨rfl, rfl, trivial⟩
  · have h := h.2 c1
    exact zu_vret d_1036_6 zr_1036 h
/-! SchemaPascal$Machine.known(III)V -/
theorem zm_1037 {σ : Nat → Nat} {n0 : Nat} {bf : ab_B} : ab_code (zx σ n0 bf).1 1037 = prog_5_method_39_code := rfl
theorem zq_1037 {σ : Nat → Nat} {n0 : Nat} {bf : ab_B} : ab_maxL (zx σ n0 bf).1 1037 = 5 := rfl
theorem zr_1037 {σ : Nat → Nat} {n0 : Nat} {bf : ab_B} : ab_ret (zx σ n0 bf).1 1037 = (Option.none : Option Jvm.ClassFile.FieldType) := rfl
theorem d_1037_0 {σ : Nat → Nat} {n0 : Nat} {bf : ab_B} : decode (ab_code (zx σ n0 bf).1 1037) 0 = .ok (.iload_n 1, 1) := zd zm_1037 (by decide +kernel)
theorem d_1037_1 {σ : Nat → Nat} {n0 : Nat} {bf : ab_B} : decode (ab_code (zx σ n0 bf).1 1037) 1 = .ok (.tableswitch 403 6 17 #[63, 91, 128, 403, 146, 190, 190, 296, 341, 369, 376, 384], 63) := zd zm_1037 (by decide +kernel)
theorem d_1037_64 {σ : Nat → Nat} {n0 : Nat} {bf : ab_B} : decode (ab_code (zx σ n0 bf).1 1037) 64 = .ok (.aload_n 0, 1) := zd zm_1037 (by decide +kernel)
theorem d_1037_65 {σ : Nat → Nat} {n0 : Nat} {bf : ab_B} : decode (ab_code (zx σ n0 bf).1 1037) 65 = .ok (.getfield 36, 3) := zd zm_1037 (by decide +kernel)
theorem d_1037_68 {σ : Nat → Nat} {n0 : Nat} {bf : ab_B} : decode (ab_code (zx σ n0 bf).1 1037) 68 = .ok (.aload_n 0, 1) := zd zm_1037 (by decide +kernel)
theorem d_1037_69 {σ : Nat → Nat} {n0 : Nat} {bf : ab_B} : decode (ab_code (zx σ n0 bf).1 1037) 69 = .ok (.getfield 111, 3) := zd zm_1037 (by decide +kernel)
theorem d_1037_72 {σ : Nat → Nat} {n0 : Nat} {bf : ab_B} : decode (ab_code (zx σ n0 bf).1 1037) 72 = .ok (.iconst 1, 1) := zd zm_1037 (by decide +kernel)
theorem d_1037_73 {σ : Nat → Nat} {n0 : Nat} {bf : ab_B} : decode (ab_code (zx σ n0 bf).1 1037) 73 = .ok (.isub, 1) := zd zm_1037 (by decide +kernel)
theorem d_1037_74 {σ : Nat → Nat} {n0 : Nat} {bf : ab_B} : decode (ab_code (zx σ n0 bf).1 1037) 74 = .ok (.aload_n 0, 1) := zd zm_1037 (by decide +kernel)
theorem d_1037_75 {σ : Nat → Nat} {n0 : Nat} {bf : ab_B} : decode (ab_code (zx σ n0 bf).1 1037) 75 = .ok (.getfield 36, 3) := zd zm_1037 (by decide +kernel)
theorem d_1037_78 {σ : Nat → Nat} {n0 : Nat} {bf : ab_B} : decode (ab_code (zx σ n0 bf).1 1037) 78 = .ok (.aload_n 0, 1) := zd zm_1037 (by decide +kernel)
theorem d_1037_79 {σ : Nat → Nat} {n0 : Nat} {bf : ab_B} : decode (ab_code (zx σ n0 bf).1 1037) 79 = .ok (.getfield 111, 3) := zd zm_1037 (by decide +kernel)
theorem d_1037_82 {σ : Nat → Nat} {n0 : Nat} {bf : ab_B} : decode (ab_code (zx σ n0 bf).1 1037) 82 = .ok (.iconst 1, 1) := zd zm_1037 (by decide +kernel)
theorem d_1037_83 {σ : Nat → Nat} {n0 : Nat} {bf : ab_B} : decode (ab_code (zx σ n0 bf).1 1037) 83 = .ok (.isub, 1) := zd zm_1037 (by decide +kernel)
theorem d_1037_84 {σ : Nat → Nat} {n0 : Nat} {bf : ab_B} : decode (ab_code (zx σ n0 bf).1 1037) 84 = .ok (.laload, 1) := zd zm_1037 (by decide +kernel)
theorem d_1037_85 {σ : Nat → Nat} {n0 : Nat} {bf : ab_B} : decode (ab_code (zx σ n0 bf).1 1037) 85 = .ok (.invokestatic 446, 3) := zd zm_1037 (by decide +kernel)
theorem d_1037_88 {σ : Nat → Nat} {n0 : Nat} {bf : ab_B} : decode (ab_code (zx σ n0 bf).1 1037) 88 = .ok (.lastore, 1) := zd zm_1037 (by decide +kernel)
theorem d_1037_89 {σ : Nat → Nat} {n0 : Nat} {bf : ab_B} : decode (ab_code (zx σ n0 bf).1 1037) 89 = .ok (.goto 315, 3) := zd zm_1037 (by decide +kernel)
theorem d_1037_92 {σ : Nat → Nat} {n0 : Nat} {bf : ab_B} : decode (ab_code (zx σ n0 bf).1 1037) 92 = .ok (.aload_n 0, 1) := zd zm_1037 (by decide +kernel)
theorem d_1037_93 {σ : Nat → Nat} {n0 : Nat} {bf : ab_B} : decode (ab_code (zx σ n0 bf).1 1037) 93 = .ok (.dup, 1) := zd zm_1037 (by decide +kernel)
theorem d_1037_94 {σ : Nat → Nat} {n0 : Nat} {bf : ab_B} : decode (ab_code (zx σ n0 bf).1 1037) 94 = .ok (.getfield 111, 3) := zd zm_1037 (by decide +kernel)
theorem d_1037_97 {σ : Nat → Nat} {n0 : Nat} {bf : ab_B} : decode (ab_code (zx σ n0 bf).1 1037) 97 = .ok (.iconst 1, 1) := zd zm_1037 (by decide +kernel)
theorem d_1037_98 {σ : Nat → Nat} {n0 : Nat} {bf : ab_B} : decode (ab_code (zx σ n0 bf).1 1037) 98 = .ok (.isub, 1) := zd zm_1037 (by decide +kernel)
theorem d_1037_99 {σ : Nat → Nat} {n0 : Nat} {bf : ab_B} : decode (ab_code (zx σ n0 bf).1 1037) 99 = .ok (.putfield 111, 3) := zd zm_1037 (by decide +kernel)
theorem d_1037_102 {σ : Nat → Nat} {n0 : Nat} {bf : ab_B} : decode (ab_code (zx σ n0 bf).1 1037) 102 = .ok (.aload_n 0, 1) := zd zm_1037 (by decide +kernel)
theorem d_1037_103 {σ : Nat → Nat} {n0 : Nat} {bf : ab_B} : decode (ab_code (zx σ n0 bf).1 1037) 103 = .ok (.aload_n 0, 1) := zd zm_1037 (by decide +kernel)
theorem d_1037_104 {σ : Nat → Nat} {n0 : Nat} {bf : ab_B} : decode (ab_code (zx σ n0 bf).1 1037) 104 = .ok (.getfield 36, 3) := zd zm_1037 (by decide +kernel)
theorem d_1037_107 {σ : Nat → Nat} {n0 : Nat} {bf : ab_B} : decode (ab_code (zx σ n0 bf).1 1037) 107 = .ok (.aload_n 0, 1) := zd zm_1037 (by decide +kernel)
theorem d_1037_108 {σ : Nat → Nat} {n0 : Nat} {bf : ab_B} : decode (ab_code (zx σ n0 bf).1 1037) 108 = .ok (.getfield 111, 3) := zd zm_1037 (by decide +kernel)
theorem d_1037_111 {σ : Nat → Nat} {n0 : Nat} {bf : ab_B} : decode (ab_code (zx σ n0 bf).1 1037) 111 = .ok (.laload, 1) := zd zm_1037 (by decide +kernel)
theorem d_1037_112 {σ : Nat → Nat} {n0 : Nat} {bf : ab_B} : decode (ab_code (zx σ n0 bf).1 1037) 112 = .ok (.aload_n 0, 1) := zd zm_1037 (by decide +kernel)
theorem d_1037_113 {σ : Nat → Nat} {n0 : Nat} {bf : ab_B} : decode (ab_code (zx σ n0 bf).1 1037) 113 = .ok (.getfield 36, 3) := zd zm_1037 (by decide +kernel)
theorem d_1037_116 {σ : Nat → Nat} {n0 : Nat} {bf : ab_B} : decode (ab_code (zx σ n0 bf).1 1037) 116 = .ok (.aload_n 0, 1) := zd zm_1037 (by decide +kernel)
theorem d_1037_117 {σ : Nat → Nat} {n0 : Nat} {bf : ab_B} : decode (ab_code (zx σ n0 bf).1 1037) 117 = .ok (.getfield 111, 3) := zd zm_1037 (by decide +kernel)
theorem d_1037_120 {σ : Nat → Nat} {n0 : Nat} {bf : ab_B} : decode (ab_code (zx σ n0 bf).1 1037) 120 = .ok (.laload, 1) := zd zm_1037 (by decide +kernel)
theorem d_1037_121 {σ : Nat → Nat} {n0 : Nat} {bf : ab_B} : decode (ab_code (zx σ n0 bf).1 1037) 121 = .ok (.lmul, 1) := zd zm_1037 (by decide +kernel)
theorem d_1037_122 {σ : Nat → Nat} {n0 : Nat} {bf : ab_B} : decode (ab_code (zx σ n0 bf).1 1037) 122 = .ok (.iload_n 2, 1) := zd zm_1037 (by decide +kernel)
theorem d_1037_123 {σ : Nat → Nat} {n0 : Nat} {bf : ab_B} : decode (ab_code (zx σ n0 bf).1 1037) 123 = .ok (.invokevirtual 427, 3) := zd zm_1037 (by decide +kernel)
theorem d_1037_126 {σ : Nat → Nat} {n0 : Nat} {bf : ab_B} : decode (ab_code (zx σ n0 bf).1 1037) 126 = .ok (.goto 278, 3) := zd zm_1037 (by decide +kernel)
theorem d_1037_129 {σ : Nat → Nat} {n0 : Nat} {bf : ab_B} : decode (ab_code (zx σ n0 bf).1 1037) 129 = .ok (.aload_n 0, 1) := zd zm_1037 (by decide +kernel)
theorem d_1037_130 {σ : Nat → Nat} {n0 : Nat} {bf : ab_B} : decode (ab_code (zx σ n0 bf).1 1037) 130 = .ok (.getfield 36, 3) := zd zm_1037 (by decide +kernel)
theorem d_1037_133 {σ : Nat → Nat} {n0 : Nat} {bf : ab_B} : decode (ab_code (zx σ n0 bf).1 1037) 133 = .ok (.aload_n 0, 1) := zd zm_1037 (by decide +kernel)
theorem d_1037_134 {σ : Nat → Nat} {n0 : Nat} {bf : ab_B} : decode (ab_code (zx σ n0 bf).1 1037) 134 = .ok (.getfield 111, 3) := zd zm_1037 (by decide +kernel)
theorem d_1037_137 {σ : Nat → Nat} {n0 : Nat} {bf : ab_B} : decode (ab_code (zx σ n0 bf).1 1037) 137 = .ok (.iconst 1, 1) := zd zm_1037 (by decide +kernel)
theorem d_1037_138 {σ : Nat → Nat} {n0 : Nat} {bf : ab_B} : decode (ab_code (zx σ n0 bf).1 1037) 138 = .ok (.isub, 1) := zd zm_1037 (by decide +kernel)
theorem d_1037_139 {σ : Nat → Nat} {n0 : Nat} {bf : ab_B} : decode (ab_code (zx σ n0 bf).1 1037) 139 = .ok (.dup2, 1) := zd zm_1037 (by decide +kernel)
theorem d_1037_140 {σ : Nat → Nat} {n0 : Nat} {bf : ab_B} : decode (ab_code (zx σ n0 bf).1 1037) 140 = .ok (.laload, 1) := zd zm_1037 (by decide +kernel)
theorem d_1037_141 {σ : Nat → Nat} {n0 : Nat} {bf : ab_B} : decode (ab_code (zx σ n0 bf).1 1037) 141 = .ok (.lconst 1, 1) := zd zm_1037 (by decide +kernel)
theorem d_1037_142 {σ : Nat → Nat} {n0 : Nat} {bf : ab_B} : decode (ab_code (zx σ n0 bf).1 1037) 142 = .ok (.land, 1) := zd zm_1037 (by decide +kernel)
theorem d_1037_143 {σ : Nat → Nat} {n0 : Nat} {bf : ab_B} : decode (ab_code (zx σ n0 bf).1 1037) 143 = .ok (.lastore, 1) := zd zm_1037 (by decide +kernel)
theorem d_1037_144 {σ : Nat → Nat} {n0 : Nat} {bf : ab_B} : decode (ab_code (zx σ n0 bf).1 1037) 144 = .ok (.goto 260, 3) := zd zm_1037 (by decide +kernel)
theorem d_1037_147 {σ : Nat → Nat} {n0 : Nat} {bf : ab_B} : decode (ab_code (zx σ n0 bf).1 1037) 147 = .ok (.aload_n 0, 1) := zd zm_1037 (by decide +kernel)
theorem d_1037_148 {σ : Nat → Nat} {n0 : Nat} {bf : ab_B} : decode (ab_code (zx σ n0 bf).1 1037) 148 = .ok (.getfield 36, 3) := zd zm_1037 (by decide +kernel)
theorem d_1037_151 {σ : Nat → Nat} {n0 : Nat} {bf : ab_B} : decode (ab_code (zx σ n0 bf).1 1037) 151 = .ok (.aload_n 0, 1) := zd zm_1037 (by decide +kernel)
theorem d_1037_152 {σ : Nat → Nat} {n0 : Nat} {bf : ab_B} : decode (ab_code (zx σ n0 bf).1 1037) 152 = .ok (.getfield 111, 3) := zd zm_1037 (by decide +kernel)
theorem d_1037_155 {σ : Nat → Nat} {n0 : Nat} {bf : ab_B} : decode (ab_code (zx σ n0 bf).1 1037) 155 = .ok (.iconst 1, 1) := zd zm_1037 (by decide +kernel)
theorem d_1037_156 {σ : Nat → Nat} {n0 : Nat} {bf : ab_B} : decode (ab_code (zx σ n0 bf).1 1037) 156 = .ok (.isub, 1) := zd zm_1037 (by decide +kernel)
theorem d_1037_157 {σ : Nat → Nat} {n0 : Nat} {bf : ab_B} : decode (ab_code (zx σ n0 bf).1 1037) 157 = .ok (.laload, 1) := zd zm_1037 (by decide +kernel)
theorem d_1037_158 {σ : Nat → Nat} {n0 : Nat} {bf : ab_B} : decode (ab_code (zx σ n0 bf).1 1037) 158 = .ok (.lconst 0, 1) := zd zm_1037 (by decide +kernel)
theorem d_1037_159 {σ : Nat → Nat} {n0 : Nat} {bf : ab_B} : decode (ab_code (zx σ n0 bf).1 1037) 159 = .ok (.lcmp, 1) := zd zm_1037 (by decide +kernel)
theorem d_1037_160 {σ : Nat → Nat} {n0 : Nat} {bf : ab_B} : decode (ab_code (zx σ n0 bf).1 1037) 160 = .ok (.ifCond .lt 21, 3) := zd zm_1037 (by decide +kernel)
theorem d_1037_163 {σ : Nat → Nat} {n0 : Nat} {bf : ab_B} : decode (ab_code (zx σ n0 bf).1 1037) 163 = .ok (.aload_n 0, 1) := zd zm_1037 (by decide +kernel)
theorem d_1037_164 {σ : Nat → Nat} {n0 : Nat} {bf : ab_B} : decode (ab_code (zx σ n0 bf).1 1037) 164 = .ok (.getfield 36, 3) := zd zm_1037 (by decide +kernel)
theorem d_1037_167 {σ : Nat → Nat} {n0 : Nat} {bf : ab_B} : decode (ab_code (zx σ n0 bf).1 1037) 167 = .ok (.aload_n 0, 1) := zd zm_1037 (by decide +kernel)
theorem d_1037_168 {σ : Nat → Nat} {n0 : Nat} {bf : ab_B} : decode (ab_code (zx σ n0 bf).1 1037) 168 = .ok (.getfield 111, 3) := zd zm_1037 (by decide +kernel)
theorem d_1037_171 {σ : Nat → Nat} {n0 : Nat} {bf : ab_B} : decode (ab_code (zx σ n0 bf).1 1037) 171 = .ok (.iconst 1, 1) := zd zm_1037 (by decide +kernel)
theorem d_1037_172 {σ : Nat → Nat} {n0 : Nat} {bf : ab_B} : decode (ab_code (zx σ n0 bf).1 1037) 172 = .ok (.isub, 1) := zd zm_1037 (by decide +kernel)
theorem d_1037_173 {σ : Nat → Nat} {n0 : Nat} {bf : ab_B} : decode (ab_code (zx σ n0 bf).1 1037) 173 = .ok (.laload, 1) := zd zm_1037 (by decide +kernel)
theorem d_1037_174 {σ : Nat → Nat} {n0 : Nat} {bf : ab_B} : decode (ab_code (zx σ n0 bf).1 1037) 174 = .ok (.ldc2_w 452, 3) := zd zm_1037 (by decide +kernel)
theorem d_1037_177 {σ : Nat → Nat} {n0 : Nat} {bf : ab_B} : decode (ab_code (zx σ n0 bf).1 1037) 177 = .ok (.lcmp, 1) := zd zm_1037 (by decide +kernel)
theorem d_1037_178 {σ : Nat → Nat} {n0 : Nat} {bf : ab_B} : decode (ab_code (zx σ n0 bf).1 1037) 178 = .ok (.ifCond .le 226, 3) := zd zm_1037 (by decide +kernel)
theorem d_1037_181 {σ : Nat → Nat} {n0 : Nat} {bf : ab_B} : decode (ab_code (zx σ n0 bf).1 1037) 181 = .ok (.aload_n 0, 1) := zd zm_1037 (by decide +kernel)
theorem d_1037_182 {σ : Nat → Nat} {n0 : Nat} {bf : ab_B} : decode (ab_code (zx σ n0 bf).1 1037) 182 = .ok (.iconst 2, 1) := zd zm_1037 (by decide +kernel)
theorem d_1037_183 {σ : Nat → Nat} {n0 : Nat} {bf : ab_B} : decode (ab_code (zx σ n0 bf).1 1037) 183 = .ok (.iload_n 2, 1) := zd zm_1037 (by decide +kernel)
theorem d_1037_184 {σ : Nat → Nat} {n0 : Nat} {bf : ab_B} : decode (ab_code (zx σ n0 bf).1 1037) 184 = .ok (.invokevirtual 194, 3) := zd zm_1037 (by decide +kernel)
theorem d_1037_187 {σ : Nat → Nat} {n0 : Nat} {bf : ab_B} : decode (ab_code (zx σ n0 bf).1 1037) 187 = .ok (.pop, 1) := zd zm_1037 (by decide +kernel)
theorem d_1037_188 {σ : Nat → Nat} {n0 : Nat} {bf : ab_B} : decode (ab_code (zx σ n0 bf).1 1037) 188 = .ok (.goto 216, 3) := zd zm_1037 (by decide +kernel)
theorem d_1037_191 {σ : Nat → Nat} {n0 : Nat} {bf : ab_B} : decode (ab_code (zx σ n0 bf).1 1037) 191 = .ok (.aload_n 0, 1) := zd zm_1037 (by decide +kernel)
theorem d_1037_192 {σ : Nat → Nat} {n0 : Nat} {bf : ab_B} : decode (ab_code (zx σ n0 bf).1 1037) 192 = .ok (.getfield 107, 3) := zd zm_1037 (by decide +kernel)
theorem d_1037_195 {σ : Nat → Nat} {n0 : Nat} {bf : ab_B} : decode (ab_code (zx σ n0 bf).1 1037) 195 = .ok (.getfield 239, 3) := zd zm_1037 (by decide +kernel)
theorem d_1037_198 {σ : Nat → Nat} {n0 : Nat} {bf : ab_B} : decode (ab_code (zx σ n0 bf).1 1037) 198 = .ok (.iload_n 3, 1) := zd zm_1037 (by decide +kernel)
theorem d_1037_199 {σ : Nat → Nat} {n0 : Nat} {bf : ab_B} : decode (ab_code (zx σ n0 bf).1 1037) 199 = .ok (.invokevirtual 162, 3) := zd zm_1037 (by decide +kernel)
theorem d_1037_202 {σ : Nat → Nat} {n0 : Nat} {bf : ab_B} : decode (ab_code (zx σ n0 bf).1 1037) 202 = .ok (.checkcast 91, 3) := zd zm_1037 (by decide +kernel)
theorem d_1037_205 {σ : Nat → Nat} {n0 : Nat} {bf : ab_B} : decode (ab_code (zx σ n0 bf).1 1037) 205 = .ok (.invokevirtual 389, 3) := zd zm_1037 (by decide +kernel)
theorem d_1037_208 {σ : Nat → Nat} {n0 : Nat} {bf : ab_B} : decode (ab_code (zx σ n0 bf).1 1037) 208 = .ok (.astore 4, 2) := zd zm_1037 (by decide +kernel)
theorem d_1037_210 {σ : Nat → Nat} {n0 : Nat} {bf : ab_B} : decode (ab_code (zx σ n0 bf).1 1037) 210 = .ok (.aload_n 0, 1) := zd zm_1037 (by decide +kernel)
theorem d_1037_211 {σ : Nat → Nat} {n0 : Nat} {bf : ab_B} : decode (ab_code (zx σ n0 bf).1 1037) 211 = .ok (.getfield 36, 3) := zd zm_1037 (by decide +kernel)
theorem d_1037_214 {σ : Nat → Nat} {n0 : Nat} {bf : ab_B} : decode (ab_code (zx σ n0 bf).1 1037) 214 = .ok (.aload_n 0, 1) := zd zm_1037 (by decide +kernel)
theorem d_1037_215 {σ : Nat → Nat} {n0 : Nat} {bf : ab_B} : decode (ab_code (zx σ n0 bf).1 1037) 215 = .ok (.getfield 111, 3) := zd zm_1037 (by decide +kernel)
theorem d_1037_218 {σ : Nat → Nat} {n0 : Nat} {bf : ab_B} : decode (ab_code (zx σ n0 bf).1 1037) 218 = .ok (.iconst 1, 1) := zd zm_1037 (by decide +kernel)
theorem d_1037_219 {σ : Nat → Nat} {n0 : Nat} {bf : ab_B} : decode (ab_code (zx σ n0 bf).1 1037) 219 = .ok (.isub, 1) := zd zm_1037 (by decide +kernel)
theorem d_1037_220 {σ : Nat → Nat} {n0 : Nat} {bf : ab_B} : decode (ab_code (zx σ n0 bf).1 1037) 220 = .ok (.dup2, 1) := zd zm_1037 (by decide +kernel)
theorem d_1037_221 {σ : Nat → Nat} {n0 : Nat} {bf : ab_B} : decode (ab_code (zx σ n0 bf).1 1037) 221 = .ok (.laload, 1) := zd zm_1037 (by decide +kernel)
theorem d_1037_222 {σ : Nat → Nat} {n0 : Nat} {bf : ab_B} : decode (ab_code (zx σ n0 bf).1 1037) 222 = .ok (.iload_n 1, 1) := zd zm_1037 (by decide +kernel)
theorem d_1037_223 {σ : Nat → Nat} {n0 : Nat} {bf : ab_B} : decode (ab_code (zx σ n0 bf).1 1037) 223 = .ok (.bipush 11, 2) := zd zm_1037 (by decide +kernel)
theorem d_1037_225 {σ : Nat → Nat} {n0 : Nat} {bf : ab_B} : decode (ab_code (zx σ n0 bf).1 1037) 225 = .ok (.if_icmp .ne 7, 3) := zd zm_1037 (by decide +kernel)
theorem d_1037_228 {σ : Nat → Nat} {n0 : Nat} {bf : ab_B} : decode (ab_code (zx σ n0 bf).1 1037) 228 = .ok (.lconst 1, 1) := zd zm_1037 (by decide +kernel)
theorem d_1037_229 {σ : Nat → Nat} {n0 : Nat} {bf : ab_B} : decode (ab_code (zx σ n0 bf).1 1037) 229 = .ok (.goto 6, 3) := zd zm_1037 (by decide +kernel)
theorem d_1037_232 {σ : Nat → Nat} {n0 : Nat} {bf : ab_B} : decode (ab_code (zx σ n0 bf).1 1037) 232 = .ok (.ldc2_w 437, 3) := zd zm_1037 (by decide +kernel)
theorem d_1037_235 {σ : Nat → Nat} {n0 : Nat} {bf : ab_B} : decode (ab_code (zx σ n0 bf).1 1037) 235 = .ok (.ladd, 1) := zd zm_1037 (by decide +kernel)
theorem d_1037_236 {σ : Nat → Nat} {n0 : Nat} {bf : ab_B} : decode (ab_code (zx σ n0 bf).1 1037) 236 = .ok (.lastore, 1) := zd zm_1037 (by decide +kernel)
theorem d_1037_237 {σ : Nat → Nat} {n0 : Nat} {bf : ab_B} : decode (ab_code (zx σ n0 bf).1 1037) 237 = .ok (.aload_n 0, 1) := zd zm_1037 (by decide +kernel)
theorem d_1037_238 {σ : Nat → Nat} {n0 : Nat} {bf : ab_B} : decode (ab_code (zx σ n0 bf).1 1037) 238 = .ok (.getfield 36, 3) := zd zm_1037 (by decide +kernel)
theorem d_1037_241 {σ : Nat → Nat} {n0 : Nat} {bf : ab_B} : decode (ab_code (zx σ n0 bf).1 1037) 241 = .ok (.aload_n 0, 1) := zd zm_1037 (by decide +kernel)
theorem d_1037_242 {σ : Nat → Nat} {n0 : Nat} {bf : ab_B} : decode (ab_code (zx σ n0 bf).1 1037) 242 = .ok (.getfield 111, 3) := zd zm_1037 (by decide +kernel)
theorem d_1037_245 {σ : Nat → Nat} {n0 : Nat} {bf : ab_B} : decode (ab_code (zx σ n0 bf).1 1037) 245 = .ok (.iconst 1, 1) := zd zm_1037 (by decide +kernel)
theorem d_1037_246 {σ : Nat → Nat} {n0 : Nat} {bf : ab_B} : decode (ab_code (zx σ n0 bf).1 1037) 246 = .ok (.isub, 1) := zd zm_1037 (by decide +kernel)
theorem d_1037_247 {σ : Nat → Nat} {n0 : Nat} {bf : ab_B} : decode (ab_code (zx σ n0 bf).1 1037) 247 = .ok (.laload, 1) := zd zm_1037 (by decide +kernel)
theorem d_1037_248 {σ : Nat → Nat} {n0 : Nat} {bf : ab_B} : decode (ab_code (zx σ n0 bf).1 1037) 248 = .ok (.aload_n 0, 1) := zd zm_1037 (by decide +kernel)
theorem d_1037_249 {σ : Nat → Nat} {n0 : Nat} {bf : ab_B} : decode (ab_code (zx σ n0 bf).1 1037) 249 = .ok (.getfield 31, 3) := zd zm_1037 (by decide +kernel)
theorem d_1037_252 {σ : Nat → Nat} {n0 : Nat} {bf : ab_B} : decode (ab_code (zx σ n0 bf).1 1037) 252 = .ok (.aload 4, 2) := zd zm_1037 (by decide +kernel)
theorem d_1037_254 {σ : Nat → Nat} {n0 : Nat} {bf : ab_B} : decode (ab_code (zx σ n0 bf).1 1037) 254 = .ok (.iconst (-1), 1) := zd zm_1037 (by decide +kernel)
theorem d_1037_255 {σ : Nat → Nat} {n0 : Nat} {bf : ab_B} : decode (ab_code (zx σ n0 bf).1 1037) 255 = .ok (.invokevirtual 303, 3) := zd zm_1037 (by decide +kernel)
theorem d_1037_258 {σ : Nat → Nat} {n0 : Nat} {bf : ab_B} : decode (ab_code (zx σ n0 bf).1 1037) 258 = .ok (.lcmp, 1) := zd zm_1037 (by decide +kernel)
theorem d_1037_259 {σ : Nat → Nat} {n0 : Nat} {bf : ab_B} : decode (ab_code (zx σ n0 bf).1 1037) 259 = .ok (.ifCond .lt 28, 3) := zd zm_1037 (by decide +kernel)
theorem d_1037_262 {σ : Nat → Nat} {n0 : Nat} {bf : ab_B} : decode (ab_code (zx σ n0 bf).1 1037) 262 = .ok (.aload_n 0, 1) := zd zm_1037 (by decide +kernel)
theorem d_1037_263 {σ : Nat → Nat} {n0 : Nat} {bf : ab_B} : decode (ab_code (zx σ n0 bf).1 1037) 263 = .ok (.getfield 36, 3) := zd zm_1037 (by decide +kernel)
theorem d_1037_266 {σ : Nat → Nat} {n0 : Nat} {bf : ab_B} : decode (ab_code (zx σ n0 bf).1 1037) 266 = .ok (.aload_n 0, 1) := zd zm_1037 (by decide +kernel)
theorem d_1037_267 {σ : Nat → Nat} {n0 : Nat} {bf : ab_B} : decode (ab_code (zx σ n0 bf).1 1037) 267 = .ok (.getfield 111, 3) := zd zm_1037 (by decide +kernel)
theorem d_1037_270 {σ : Nat → Nat} {n0 : Nat} {bf : ab_B} : decode (ab_code (zx σ n0 bf).1 1037) 270 = .ok (.iconst 1, 1) := zd zm_1037 (by decide +kernel)
theorem d_1037_271 {σ : Nat → Nat} {n0 : Nat} {bf : ab_B} : decode (ab_code (zx σ n0 bf).1 1037) 271 = .ok (.isub, 1) := zd zm_1037 (by decide +kernel)
theorem d_1037_272 {σ : Nat → Nat} {n0 : Nat} {bf : ab_B} : decode (ab_code (zx σ n0 bf).1 1037) 272 = .ok (.laload, 1) := zd zm_1037 (by decide +kernel)
theorem d_1037_273 {σ : Nat → Nat} {n0 : Nat} {bf : ab_B} : decode (ab_code (zx σ n0 bf).1 1037) 273 = .ok (.aload_n 0, 1) := zd zm_1037 (by decide +kernel)
theorem d_1037_274 {σ : Nat → Nat} {n0 : Nat} {bf : ab_B} : decode (ab_code (zx σ n0 bf).1 1037) 274 = .ok (.getfield 31, 3) := zd zm_1037 (by decide +kernel)
theorem d_1037_277 {σ : Nat → Nat} {n0 : Nat} {bf : ab_B} : decode (ab_code (zx σ n0 bf).1 1037) 277 = .ok (.aload 4, 2) := zd zm_1037 (by decide +kernel)
theorem d_1037_279 {σ : Nat → Nat} {n0 : Nat} {bf : ab_B} : decode (ab_code (zx σ n0 bf).1 1037) 279 = .ok (.iconst (-1), 1) := zd zm_1037 (by decide +kernel)
theorem d_1037_280 {σ : Nat → Nat} {n0 : Nat} {bf : ab_B} : decode (ab_code (zx σ n0 bf).1 1037) 280 = .ok (.invokevirtual 307, 3) := zd zm_1037 (by decide +kernel)
theorem d_1037_283 {σ : Nat → Nat} {n0 : Nat} {bf : ab_B} : decode (ab_code (zx σ n0 bf).1 1037) 283 = .ok (.lcmp, 1) := zd zm_1037 (by decide +kernel)
theorem d_1037_284 {σ : Nat → Nat} {n0 : Nat} {bf : ab_B} : decode (ab_code (zx σ n0 bf).1 1037) 284 = .ok (.ifCond .le 120, 3) := zd zm_1037 (by decide +kernel)
theorem d_1037_287 {σ : Nat → Nat} {n0 : Nat} {bf : ab_B} : decode (ab_code (zx σ n0 bf).1 1037) 287 = .ok (.aload_n 0, 1) := zd zm_1037 (by decide +kernel)
theorem d_1037_288 {σ : Nat → Nat} {n0 : Nat} {bf : ab_B} : decode (ab_code (zx σ n0 bf).1 1037) 288 = .ok (.iconst 2, 1) := zd zm_1037 (by decide +kernel)
theorem d_1037_289 {σ : Nat → Nat} {n0 : Nat} {bf : ab_B} : decode (ab_code (zx σ n0 bf).1 1037) 289 = .ok (.iload_n 2, 1) := zd zm_1037 (by decide +kernel)
theorem d_1037_290 {σ : Nat → Nat} {n0 : Nat} {bf : ab_B} : decode (ab_code (zx σ n0 bf).1 1037) 290 = .ok (.invokevirtual 194, 3) := zd zm_1037 (by decide +kernel)
theorem d_1037_293 {σ : Nat → Nat} {n0 : Nat} {bf : ab_B} : decode (ab_code (zx σ n0 bf).1 1037) 293 = .ok (.pop, 1) := zd zm_1037 (by decide +kernel)
theorem d_1037_294 {σ : Nat → Nat} {n0 : Nat} {bf : ab_B} : decode (ab_code (zx σ n0 bf).1 1037) 294 = .ok (.goto 110, 3) := zd zm_1037 (by decide +kernel)
theorem d_1037_297 {σ : Nat → Nat} {n0 : Nat} {bf : ab_B} : decode (ab_code (zx σ n0 bf).1 1037) 297 = .ok (.aload_n 0, 1) := zd zm_1037 (by decide +kernel)
theorem d_1037_298 {σ : Nat → Nat} {n0 : Nat} {bf : ab_B} : decode (ab_code (zx σ n0 bf).1 1037) 298 = .ok (.dup, 1) := zd zm_1037 (by decide +kernel)
theorem d_1037_299 {σ : Nat → Nat} {n0 : Nat} {bf : ab_B} : decode (ab_code (zx σ n0 bf).1 1037) 299 = .ok (.getfield 114, 3) := zd zm_1037 (by decide +kernel)
theorem d_1037_302 {σ : Nat → Nat} {n0 : Nat} {bf : ab_B} : decode (ab_code (zx σ n0 bf).1 1037) 302 = .ok (.iconst 1, 1) := zd zm_1037 (by decide +kernel)
theorem d_1037_303 {σ : Nat → Nat} {n0 : Nat} {bf : ab_B} : decode (ab_code (zx σ n0 bf).1 1037) 303 = .ok (.isub, 1) := zd zm_1037 (by decide +kernel)
theorem d_1037_304 {σ : Nat → Nat} {n0 : Nat} {bf : ab_B} : decode (ab_code (zx σ n0 bf).1 1037) 304 = .ok (.putfield 114, 3) := zd zm_1037 (by decide +kernel)
theorem d_1037_307 {σ : Nat → Nat} {n0 : Nat} {bf : ab_B} : decode (ab_code (zx σ n0 bf).1 1037) 307 = .ok (.aload_n 0, 1) := zd zm_1037 (by decide +kernel)
theorem d_1037_308 {σ : Nat → Nat} {n0 : Nat} {bf : ab_B} : decode (ab_code (zx σ n0 bf).1 1037) 308 = .ok (.aload_n 0, 1) := zd zm_1037 (by decide +kernel)
theorem d_1037_309 {σ : Nat → Nat} {n0 : Nat} {bf : ab_B} : decode (ab_code (zx σ n0 bf).1 1037) 309 = .ok (.getfield 117, 3) := zd zm_1037 (by decide +kernel)
theorem d_1037_312 {σ : Nat → Nat} {n0 : Nat} {bf : ab_B} : decode (ab_code (zx σ n0 bf).1 1037) 312 = .ok (.aload_n 0, 1) := zd zm_1037 (by decide +kernel)
theorem d_1037_313 {σ : Nat → Nat} {n0 : Nat} {bf : ab_B} : decode (ab_code (zx σ n0 bf).1 1037) 313 = .ok (.getfield 46, 3) := zd zm_1037 (by decide +kernel)
theorem d_1037_316 {σ : Nat → Nat} {n0 : Nat} {bf : ab_B} : decode (ab_code (zx σ n0 bf).1 1037) 316 = .ok (.aload_n 0, 1) := zd zm_1037 (by decide +kernel)
theorem d_1037_317 {σ : Nat → Nat} {n0 : Nat} {bf : ab_B} : decode (ab_code (zx σ n0 bf).1 1037) 317 = .ok (.getfield 114, 3) := zd zm_1037 (by decide +kernel)
theorem d_1037_320 {σ : Nat → Nat} {n0 : Nat} {bf : ab_B} : decode (ab_code (zx σ n0 bf).1 1037) 320 = .ok (.iaload, 1) := zd zm_1037 (by decide +kernel)
theorem d_1037_321 {σ : Nat → Nat} {n0 : Nat} {bf : ab_B} : decode (ab_code (zx σ n0 bf).1 1037) 321 = .ok (.isub, 1) := zd zm_1037 (by decide +kernel)
theorem d_1037_322 {σ : Nat → Nat} {n0 : Nat} {bf : ab_B} : decode (ab_code (zx σ n0 bf).1 1037) 322 = .ok (.i2l, 1) := zd zm_1037 (by decide +kernel)
theorem d_1037_323 {σ : Nat → Nat} {n0 : Nat} {bf : ab_B} : decode (ab_code (zx σ n0 bf).1 1037) 323 = .ok (.invokevirtual 223, 3) := zd zm_1037 (by decide +kernel)
theorem d_1037_326 {σ : Nat → Nat} {n0 : Nat} {bf : ab_B} : decode (ab_code (zx σ n0 bf).1 1037) 326 = .ok (.aload_n 0, 1) := zd zm_1037 (by decide +kernel)
theorem d_1037_327 {σ : Nat → Nat} {n0 : Nat} {bf : ab_B} : decode (ab_code (zx σ n0 bf).1 1037) 327 = .ok (.aload_n 0, 1) := zd zm_1037 (by decide +kernel)
theorem d_1037_328 {σ : Nat → Nat} {n0 : Nat} {bf : ab_B} : decode (ab_code (zx σ n0 bf).1 1037) 328 = .ok (.getfield 46, 3) := zd zm_1037 (by decide +kernel)
theorem d_1037_331 {σ : Nat → Nat} {n0 : Nat} {bf : ab_B} : decode (ab_code (zx σ n0 bf).1 1037) 331 = .ok (.aload_n 0, 1) := zd zm_1037 (by decide +kernel)
theorem d_1037_332 {σ : Nat → Nat} {n0 : Nat} {bf : ab_B} : decode (ab_code (zx σ n0 bf).1 1037) 332 = .ok (.getfield 114, 3) := zd zm_1037 (by decide +kernel)
theorem d_1037_335 {σ : Nat → Nat} {n0 : Nat} {bf : ab_B} : decode (ab_code (zx σ n0 bf).1 1037) 335 = .ok (.iaload, 1) := zd zm_1037 (by decide +kernel)
theorem d_1037_336 {σ : Nat → Nat} {n0 : Nat} {bf : ab_B} : decode (ab_code (zx σ n0 bf).1 1037) 336 = .ok (.putfield 117, 3) := zd zm_1037 (by decide +kernel)
theorem d_1037_339 {σ : Nat → Nat} {n0 : Nat} {bf : ab_B} : decode (ab_code (zx σ n0 bf).1 1037) 339 = .ok (.goto 65, 3) := zd zm_1037 (by decide +kernel)
theorem d_1037_342 {σ : Nat → Nat} {n0 : Nat} {bf : ab_B} : decode (ab_code (zx σ n0 bf).1 1037) 342 = .ok (.aload_n 0, 1) := zd zm_1037 (by decide +kernel)
theorem d_1037_343 {σ : Nat → Nat} {n0 : Nat} {bf : ab_B} : decode (ab_code (zx σ n0 bf).1 1037) 343 = .ok (.getfield 36, 3) := zd zm_1037 (by decide +kernel)
theorem d_1037_346 {σ : Nat → Nat} {n0 : Nat} {bf : ab_B} : decode (ab_code (zx σ n0 bf).1 1037) 346 = .ok (.aload_n 0, 1) := zd zm_1037 (by decide +kernel)
theorem d_1037_347 {σ : Nat → Nat} {n0 : Nat} {bf : ab_B} : decode (ab_code (zx σ n0 bf).1 1037) 347 = .ok (.getfield 111, 3) := zd zm_1037 (by decide +kernel)
theorem d_1037_350 {σ : Nat → Nat} {n0 : Nat} {bf : ab_B} : decode (ab_code (zx σ n0 bf).1 1037) 350 = .ok (.iconst 1, 1) := zd zm_1037 (by decide +kernel)
theorem d_1037_351 {σ : Nat → Nat} {n0 : Nat} {bf : ab_B} : decode (ab_code (zx σ n0 bf).1 1037) 351 = .ok (.isub, 1) := zd zm_1037 (by decide +kernel)
theorem d_1037_352 {σ : Nat → Nat} {n0 : Nat} {bf : ab_B} : decode (ab_code (zx σ n0 bf).1 1037) 352 = .ok (.aload_n 0, 1) := zd zm_1037 (by decide +kernel)
theorem d_1037_353 {σ : Nat → Nat} {n0 : Nat} {bf : ab_B} : decode (ab_code (zx σ n0 bf).1 1037) 353 = .ok (.getfield 36, 3) := zd zm_1037 (by decide +kernel)
theorem d_1037_356 {σ : Nat → Nat} {n0 : Nat} {bf : ab_B} : decode (ab_code (zx σ n0 bf).1 1037) 356 = .ok (.aload_n 0, 1) := zd zm_1037 (by decide +kernel)
theorem d_1037_357 {σ : Nat → Nat} {n0 : Nat} {bf : ab_B} : decode (ab_code (zx σ n0 bf).1 1037) 357 = .ok (.getfield 111, 3) := zd zm_1037 (by decide +kernel)
theorem d_1037_360 {σ : Nat → Nat} {n0 : Nat} {bf : ab_B} : decode (ab_code (zx σ n0 bf).1 1037) 360 = .ok (.iconst 1, 1) := zd zm_1037 (by decide +kernel)
theorem d_1037_361 {σ : Nat → Nat} {n0 : Nat} {bf : ab_B} : decode (ab_code (zx σ n0 bf).1 1037) 361 = .ok (.isub, 1) := zd zm_1037 (by decide +kernel)
theorem d_1037_362 {σ : Nat → Nat} {n0 : Nat} {bf : ab_B} : decode (ab_code (zx σ n0 bf).1 1037) 362 = .ok (.laload, 1) := zd zm_1037 (by decide +kernel)
theorem d_1037_363 {σ : Nat → Nat} {n0 : Nat} {bf : ab_B} : decode (ab_code (zx σ n0 bf).1 1037) 363 = .ok (.invokestatic 454, 3) := zd zm_1037 (by decide +kernel)
theorem d_1037_366 {σ : Nat → Nat} {n0 : Nat} {bf : ab_B} : decode (ab_code (zx σ n0 bf).1 1037) 366 = .ok (.lastore, 1) := zd zm_1037 (by decide +kernel)
theorem d_1037_367 {σ : Nat → Nat} {n0 : Nat} {bf : ab_B} : decode (ab_code (zx σ n0 bf).1 1037) 367 = .ok (.goto 37, 3) := zd zm_1037 (by decide +kernel)
theorem d_1037_370 {σ : Nat → Nat} {n0 : Nat} {bf : ab_B} : decode (ab_code (zx σ n0 bf).1 1037) 370 = .ok (.aload_n 0, 1) := zd zm_1037 (by decide +kernel)
theorem d_1037_371 {σ : Nat → Nat} {n0 : Nat} {bf : ab_B} : decode (ab_code (zx σ n0 bf).1 1037) 371 = .ok (.invokevirtual 457, 3) := zd zm_1037 (by decide +kernel)
theorem d_1037_374 {σ : Nat → Nat} {n0 : Nat} {bf : ab_B} : decode (ab_code (zx σ n0 bf).1 1037) 374 = .ok (.goto 30, 3) := zd zm_1037 (by decide +kernel)
theorem d_1037_377 {σ : Nat → Nat} {n0 : Nat} {bf : ab_B} : decode (ab_code (zx σ n0 bf).1 1037) 377 = .ok (.aload_n 0, 1) := zd zm_1037 (by decide +kernel)
theorem d_1037_378 {σ : Nat → Nat} {n0 : Nat} {bf : ab_B} : decode (ab_code (zx σ n0 bf).1 1037) 378 = .ok (.iload_n 2, 1) := zd zm_1037 (by decide +kernel)
theorem d_1037_379 {σ : Nat → Nat} {n0 : Nat} {bf : ab_B} : decode (ab_code (zx σ n0 bf).1 1037) 379 = .ok (.invokevirtual 460, 3) := zd zm_1037 (by decide +kernel)
theorem d_1037_382 {σ : Nat → Nat} {n0 : Nat} {bf : ab_B} : decode (ab_code (zx σ n0 bf).1 1037) 382 = .ok (.goto 22, 3) := zd zm_1037 (by decide +kernel)
theorem d_1037_385 {σ : Nat → Nat} {n0 : Nat} {bf : ab_B} : decode (ab_code (zx σ n0 bf).1 1037) 385 = .ok (.aload_n 0, 1) := zd zm_1037 (by decide +kernel)
theorem d_1037_386 {σ : Nat → Nat} {n0 : Nat} {bf : ab_B} : decode (ab_code (zx σ n0 bf).1 1037) 386 = .ok (.aload_n 0, 1) := zd zm_1037 (by decide +kernel)
theorem d_1037_387 {σ : Nat → Nat} {n0 : Nat} {bf : ab_B} : decode (ab_code (zx σ n0 bf).1 1037) 387 = .ok (.getfield 463, 3) := zd zm_1037 (by decide +kernel)
theorem d_1037_390 {σ : Nat → Nat} {n0 : Nat} {bf : ab_B} : decode (ab_code (zx σ n0 bf).1 1037) 390 = .ok (.ifCond .ne 7, 3) := zd zm_1037 (by decide +kernel)
theorem d_1037_393 {σ : Nat → Nat} {n0 : Nat} {bf : ab_B} : decode (ab_code (zx σ n0 bf).1 1037) 393 = .ok (.lconst 1, 1) := zd zm_1037 (by decide +kernel)
theorem d_1037_394 {σ : Nat → Nat} {n0 : Nat} {bf : ab_B} : decode (ab_code (zx σ n0 bf).1 1037) 394 = .ok (.goto 4, 3) := zd zm_1037 (by decide +kernel)
theorem d_1037_397 {σ : Nat → Nat} {n0 : Nat} {bf : ab_B} : decode (ab_code (zx σ n0 bf).1 1037) 397 = .ok (.lconst 0, 1) := zd zm_1037 (by decide +kernel)
theorem d_1037_398 {σ : Nat → Nat} {n0 : Nat} {bf : ab_B} : decode (ab_code (zx σ n0 bf).1 1037) 398 = .ok (.invokevirtual 223, 3) := zd zm_1037 (by decide +kernel)
theorem d_1037_401 {σ : Nat → Nat} {n0 : Nat} {bf : ab_B} : decode (ab_code (zx σ n0 bf).1 1037) 401 = .ok (.goto 3, 3) := zd zm_1037 (by decide +kernel)
theorem d_1037_404 {σ : Nat → Nat} {n0 : Nat} {bf : ab_B} : decode (ab_code (zx σ n0 bf).1 1037) 404 = .ok (.return_, 1) := zd zm_1037 (by decide +kernel)
def w_X2_known_404 (X : zs_X) (d : Nat)  (S : zs_T) (Q : zs_Q) : Prop :=
  (Q (.returned none) S)
theorem u_X2_known_404 {σ : Nat → Nat} {n0 : Nat} {bf : ab_B} {d : Nat}  {S : zs_T} {Q : zs_Q} (hB : zt_B bf) (h : w_X2_known_404 (zx σ n0 bf) d  S Q) : zs_U (zx σ n0 bf) d 1037 404 [] [] S Q := by
  unfold w_X2_known_404 at h
  exact zu_vret d_1037_404 zr_1037 h
def w_X2_known_89 (X : zs_X) (d : Nat)  (S : zs_T) (Q : zs_Q) : Prop :=
  (w_X2_known_404 X d  S Q)
theorem u_X2_known_89 {σ : Nat → Nat} {n0 : Nat} {bf : ab_B} {d : Nat}  {S : zs_T} {Q : zs_Q} (hB : zt_B bf) (h : w_X2_known_89 (zx σ n0 bf) d  S Q) : zs_U (zx σ n0 bf) d 1037 89 [] [] S Q := by
  unfold w_X2_known_89 at h
  refine zu_goto (t := 404) d_1037_89 rfl ?_
  exact (u_X2_known_404 hB h).weak trivial
def w_X2_known_126 (X : zs_X) (d : Nat)  (S : zs_T) (Q : zs_Q) : Prop :=
  (w_X2_known_404 X d  S Q)
theorem u_X2_known_126 {σ : Nat → Nat} {n0 : Nat} {bf : ab_B} {d : Nat}  {S : zs_T} {Q : zs_Q} (hB : zt_B bf) (h : w_X2_known_126 (zx σ n0 bf) d  S Q) : zs_U (zx σ n0 bf) d 1037 126 [] [] S Q := by
  unfold w_X2_known_126 at h
  refine zu_goto (t := 404) d_1037_126 rfl ?_
  exact (u_X2_known_404 hB h).weak trivial
def w_X2_known_181 (X : zs_X) (d : Nat) (p0 : Nat) (p2 : Int32) (S : zs_T) (Q : zs_Q) : Prop :=
  (zs_K S p0 = some (.inl 1) ∧ zs_C X d 1004 [.ref p0, .int (2 : Int32), .int p2] S (zs_kI (fun v3 S2 => (w_X2_known_404 X d  S2 Q)) Q))
theorem u_X2_known_181 {σ : Nat → Nat} {n0 : Nat} {bf : ab_B} {d : Nat} {p0 : Nat} {p2 : Int32} {S : zs_T} {Q : zs_Q} (hB : zt_B bf) (h : w_X2_known_181 (zx σ n0 bf) d p0 p2 S Q) : zs_U (zx σ n0 bf) d 1037 181 [(0, .ref p0), (2, .int p2)] [] S Q := by
  unfold w_X2_known_181 at h
  refine zu_aload_n d_1037_181 rfl (zs_ra _) ?_
  refine zu_iconst d_1037_182 zi_2 ?_
  refine zu_iload_n d_1037_183 rfl ?_
  obtain ⟨k1, h⟩ := h
  refine zc_1_194 (x0 := (2 : Int32)) (x1 := p2) hB rfl k1 d_1037_184 (Nat.le_of_ble_eq_true rfl) h (fun v3 S2 h => ?_)
  refine zu_pop d_1037_187 rfl ?_
  refine zu_goto (t := 404) d_1037_188 rfl ?_
  exact (u_X2_known_404 hB h).weak trivial
def w_X2_known_287 (X : zs_X) (d : Nat) (p0 : Nat) (p2 : Int32) (S : zs_T) (Q : zs_Q) : Prop :=
  (zs_K S p0 = some (.inl 1) ∧ zs_C X d 1004 [.ref p0, .int (2 : Int32), .int p2] S (zs_kI (fun v3 S2 => (w_X2_known_404 X d  S2 Q)) Q))
theorem u_X2_known_287 {σ : Nat → Nat} {n0 : Nat} {bf : ab_B} {d : Nat} {p0 : Nat} {p2 : Int32} {S : zs_T} {Q : zs_Q} (hB : zt_B bf) (h : w_X2_known_287 (zx σ n0 bf) d p0 p2 S Q) : zs_U (zx σ n0 bf) d 1037 287 [(0, .ref p0), (2, .int p2)] [] S Q := by
  unfold w_X2_known_287 at h
  refine zu_aload_n d_1037_287 rfl (zs_ra _) ?_
  refine zu_iconst d_1037_288 zi_2 ?_
  refine zu_iload_n d_1037_289 rfl ?_
  obtain ⟨k1, h⟩ := h
  refine zc_1_194 (x0 := (2 : Int32)) (x1 := p2) hB rfl k1 d_1037_290 (Nat.le_of_ble_eq_true rfl) h (fun v3 S2 h => ?_)
  refine zu_pop d_1037_293 rfl ?_
  refine zu_goto (t := 404) d_1037_294 rfl ?_
  exact (u_X2_known_404 hB h).weak trivial
def w_X2_known_262 (X : zs_X) (d : Nat) (p0 : Nat) (p2 : Int32) (p4 : Option Nat) (S : zs_T) (Q : zs_Q) : Prop :=
  (zs_K S p0 = some (.inl 1) ∧ ∃ b2, (zs_R S 1005 p0) = some b2 ∧ zs_A S b2 3 ((zs_I S 1007 p0) - (1 : Int32)) ∧ ∃ b5, (zs_R S 1004 p0) = some b5 ∧ zs_K S b5 = some (.inl 2) ∧ zs_C X d 2004 [.ref b5, va_rf p4, .int (-1 : Int32)] S (zs_kJ (fun v9 S8 => ((((zs_j S b2 ((zs_I S 1007 p0) - (1 : Int32)).toNatClampNeg) ≤ v9 → w_X2_known_404 X d  S8 Q) ∧ (¬ ((zs_j S b2 ((zs_I S 1007 p0) - (1 : Int32)).toNatClampNeg) ≤ v9) → w_X2_known_287 X d p0 p2 S8 Q)))) Q))
theorem u_X2_known_262 {σ : Nat → Nat} {n0 : Nat} {bf : ab_B} {d : Nat} {p0 : Nat} {p2 : Int32} {p4 : Option Nat} {S : zs_T} {Q : zs_Q} (hB : zt_B bf) (h : w_X2_known_262 (zx σ n0 bf) d p0 p2 p4 S Q) : zs_U (zx σ n0 bf) d 1037 262 [(0, .ref p0), (2, .int p2), (4, va_rf p4)] [] S Q := by
  unfold w_X2_known_262 at h
  refine zu_aload_n d_1037_262 rfl (zs_ra _) ?_
  obtain ⟨k1, h⟩ := h
  refine zg_1_36 rfl d_1037_263 k1 ?_
  refine zu_aload_n d_1037_266 rfl (zs_ra _) ?_
  refine zg_1_111 rfl d_1037_267 k1 ?_
  refine zu_iconst d_1037_270 zi_1 ?_
  refine zu_stk d_1037_271 rfl rfl ?_
  obtain ⟨b2, e3, h⟩ := h
  refine zs_stk1 (zs_rfe e3) ?_
  obtain ⟨k4, h⟩ := h
  refine zu_lald (k := 3) d_1037_272 rfl rfl k4 ?_
  refine zu_aload_n d_1037_273 rfl (zs_ra _) ?_
  refine zg_1_31 rfl d_1037_274 k1 ?_
  refine zu_aload d_1037_277 rfl (zs_rr _) ?_
  refine zu_iconst d_1037_279 zi_m1 ?_
  obtain ⟨b5, e6, h⟩ := h
  refine zs_stk2 (zs_rfe e6) ?_
  obtain ⟨k7, h⟩ := h
  refine zc_1_307 (x0 := p4) (x1 := (-1 : Int32)) hB rfl k7 d_1037_280 (Nat.le_of_ble_eq_true rfl) h (fun v9 S8 h => ?_)
  refine zu_lle (t := 404) d_1037_283 d_1037_284 rfl (fun c10 => ?_) (fun c10 => ?_)
  · have h := h.1 c10
    exact (u_X2_known_404 hB h).weak trivial
  · have h := h.2 c10
    exact (u_X2_known_287 hB h).weak ⟨rfl, rfl, trivial⟩
def w_X2_known_235 (X : zs_X) (d : Nat) (p0 : Nat) (p2 : Int32) (p4 : Option Nat) (q0 : Option Nat) (q1 : Int32) (q2 : Int64) (q3 : Int64) (S : zs_T) (Q : zs_Q) : Prop :=
  (∃ b1, q0 = some b1 ∧ zs_A S b1 3 q1 ∧ ab_n0 X.1 ≤ b1 ∧ ∀ S5, S5 = zs_sj S b1 q1.toNatClampNeg (q2 + q3) → zs_K S p0 = some (.inl 1) ∧ ∃ b9, (zs_R S5 1005 p0) = some b9 ∧ zs_A S b9 3 ((zs_I S5 1007 p0) - (1 : Int32)) ∧ ∃ b12, (zs_R S5 1004 p0) = some b12 ∧ zs_K S b12 = some (.inl 2) ∧ zs_C X d 2003 [.ref b12, va_rf p4, .int (-1 : Int32)] S5 (zs_kJ (fun v16 S15 => ((((zs_j S5 b9 ((zs_I S5 1007 p0) - (1 : Int32)).toNatClampNeg) < v16 → w_X2_known_287 X d p0 p2 S15 Q) ∧ (¬ ((zs_j S5 b9 ((zs_I S5 1007 p0) - (1 : Int32)).toNatClampNeg) < v16) → w_X2_known_262 X d p0 p2 p4 S15 Q)))) Q))
theorem u_X2_known_235 {σ : Nat → Nat} {n0 : Nat} {bf : ab_B} {d : Nat} {p0 : Nat} {p2 : Int32} {p4 : Option Nat} {q0 : Option Nat} {q1 : Int32} {q2 : Int64} {q3 : Int64} {S : zs_T} {Q : zs_Q} (hB : zt_B bf) (h : w_X2_known_235 (zx σ n0 bf) d p0 p2 p4 q0 q1 q2 q3 S Q) : zs_U (zx σ n0 bf) d 1037 235 [(0, .ref p0), (2, .int p2), (4, va_rf p4)] [.long q3, .long q2, .int q1, va_rf q0] S Q := by
  unfold w_X2_known_235 at h
  refine zu_stk d_1037_235 rfl rfl ?_
  obtain ⟨b1, e2, h⟩ := h
  refine zs_stk2 (zs_rfe e2) ?_
  obtain ⟨k3, h⟩ := h
  obtain ⟨k4, h⟩ := h
  refine zu_last (k := 3) d_1037_236 rfl rfl k4 k3 ?_
  generalize e6 : zs_sj S b1 q1.toNatClampNeg (q2 + q3) = S5
  have h := h S5 e6.symm
  have K7 : ∀ b, zs_K S5 b = zs_K S b := zs_Kt e6 (zs_Ksj _ _ _ _) (fun _ => rfl)
  refine zu_aload_n d_1037_237 rfl (zs_ra _) ?_
  obtain ⟨k8, h⟩ := h
  refine zg_1_36 rfl d_1037_238 ((K7 _).trans k8) ?_
  refine zu_aload_n d_1037_241 rfl (zs_ra _) ?_
  refine zg_1_111 rfl d_1037_242 ((K7 _).trans k8) ?_
  refine zu_iconst d_1037_245 zi_1 ?_
  refine zu_stk d_1037_246 rfl rfl ?_
  obtain ⟨b9, e10, h⟩ := h
  refine zs_stk1 (zs_rfe e10) ?_
  obtain ⟨k11, h⟩ := h
  refine zu_lald (k := 3) d_1037_247 rfl rfl (zs_Ak K7 k11) ?_
  refine zu_aload_n d_1037_248 rfl (zs_ra _) ?_
  refine zg_1_31 rfl d_1037_249 ((K7 _).trans k8) ?_
  refine zu_aload d_1037_252 rfl (zs_rr _) ?_
  refine zu_iconst d_1037_254 zi_m1 ?_
  obtain ⟨b12, e13, h⟩ := h
  refine zs_stk2 (zs_rfe e13) ?_
  obtain ⟨k14, h⟩ := h
  refine zc_1_303 (x0 := p4) (x1 := (-1 : Int32)) hB rfl ((K7 _).trans k14) d_1037_255 (Nat.le_of_ble_eq_true rfl) h (fun v16 S15 h => ?_)
  refine zu_llt (t := 287) d_1037_258 d_1037_259 rfl (fun c17 => ?_) (fun c17 => ?_)
  · have h := h.1 c17
    exact (u_X2_known_287 hB h).weak ⟨rfl, rfl, trivial⟩
  · have h := h.2 c17
    exact (u_X2_known_262 hB h).weak ⟨rfl, rfl, rfl, trivial⟩
def w_X2_known_191 (X : zs_X) (d : Nat) (p0 : Nat) (p1 : Int32) (p2 : Int32) (p3 : Int32) (S : zs_T) (Q : zs_Q) : Prop :=
  (zs_K S p0 = some (.inl 1) ∧ ∃ b2, (zs_R S 1000 p0) = some b2 ∧ zs_K S b2 = some (.inl 3) ∧ ∃ b5, (zs_R S 3002 b2) = some b5 ∧ zs_K S b5 = some (.inl 16) ∧ zs_C X d 16009 [.ref b5, .int p3] S (zs_kR (fun v9 S8 => ((∀ a, v9 = some a → zs_K S8 a = some (.inl 6)) ∧ ∃ b11, v9 = some b11 ∧ zs_K S8 b11 = some (.inl 6) ∧ zs_C X d 6001 [.ref b11] S8 (zs_kR (fun v15 S14 => (zs_K S14 p0 = some (.inl 1) ∧ ∃ b17, (zs_R S14 1005 p0) = some b17 ∧ zs_A S14 b17 3 ((zs_I S14 1007 p0) - (1 : Int32)) ∧ ((¬ p1 = (11 : Int32) → (w_X2_known_235 X d p0 p2 v15 (zs_R S14 1005 p0) ((zs_I S14 1007 p0) - (1 : Int32)) (zs_j S14 b17 ((zs_I S14 1007 p0) - (1 : Int32)).toNatClampNeg) (-1 : Int64) S14 Q)) ∧ (¬ (¬ p1 = (11 : Int32)) → (w_X2_known_235 X d p0 p2 v15 (zs_R S14 1005 p0) ((zs_I S14 1007 p0) - (1 : Int32)) (zs_j S14 b17 ((zs_I S14 1007 p0) - (1 : Int32)).toNatClampNeg) (1 : Int64) S14 Q))))) Q))) Q))
theorem u_X2_known_191 {σ : Nat → Nat} {n0 : Nat} {bf : ab_B} {d : Nat} {p0 : Nat} {p1 : Int32} {p2 : Int32} {p3 : Int32} {S : zs_T} {Q : zs_Q} (hB : zt_B bf) (h : w_X2_known_191 (zx σ n0 bf) d p0 p1 p2 p3 S Q) : zs_U (zx σ n0 bf) d 1037 191 [(0, .ref p0), (1, .int p1), (2, .int p2), (3, .int p3)] [] S Q := by
  unfold w_X2_known_191 at h
  refine zu_aload_n d_1037_191 rfl (zs_ra _) ?_
  obtain ⟨k1, h⟩ := h
  refine zg_1_107 rfl d_1037_192 k1 ?_
  obtain ⟨b2, e3, h⟩ := h
  refine zs_stk0 (zs_rfe e3) ?_
  obtain ⟨k4, h⟩ := h
  refine zg_1_239 rfl d_1037_195 k4 ?_
  refine zu_iload_n d_1037_198 rfl ?_
  obtain ⟨b5, e6, h⟩ := h
  refine zs_stk1 (zs_rfe e6) ?_
  obtain ⟨k7, h⟩ := h
  refine zc_1_162 (x0 := p3) hB rfl k7 d_1037_199 (Nat.le_of_ble_eq_true rfl) h (fun v9 S8 h => ?_)
  obtain ⟨k10, h⟩ := h
  refine zk_1_91 (o := v9) rfl d_1037_202 k10 ?_
  obtain ⟨b11, e12, h⟩ := h
  refine zs_stk0 (zs_rfe e12) ?_
  obtain ⟨k13, h⟩ := h
  refine zc_1_389  hB rfl k13 d_1037_205 (Nat.le_of_ble_eq_true rfl) h (fun v15 S14 h => ?_)
  refine zu_astore d_1037_208 (zs_rr _) (zs_lt zq_1037 rfl) ?_
  refine zu_aload_n d_1037_210 rfl (zs_ra _) ?_
  obtain ⟨k16, h⟩ := h
  refine zg_1_36 rfl d_1037_211 k16 ?_
  refine zu_aload_n d_1037_214 rfl (zs_ra _) ?_
  refine zg_1_111 rfl d_1037_215 k16 ?_
  refine zu_iconst d_1037_218 zi_1 ?_
  refine zu_stk d_1037_219 rfl rfl ?_
  refine zu_dup2 d_1037_220 rfl (zs_cat _) ?_
  obtain ⟨b17, e18, h⟩ := h
  refine zs_stk1 (zs_rfe e18) ?_
  obtain ⟨k19, h⟩ := h
  refine zu_lald (k := 3) d_1037_221 rfl rfl k19 ?_
  refine zu_iload_n d_1037_222 rfl ?_
  refine zu_bipush d_1037_223 zj_11 ?_
  refine zu_cmpne (t := 232) d_1037_225 rfl (fun c20 => ?_) (fun c20 => ?_)
  · have h := h.1 c20
    refine zl2_1_437 rfl d_1037_232 ?_
    exact (u_X2_known_235 hB h).weak ⟨rfl, rfl, rfl, trivial⟩
  · have h := h.2 c20
    refine zu_lconst (v := 1) d_1037_228 rfl ?_
    refine zu_goto (t := 235) d_1037_229 rfl ?_
    exact (u_X2_known_235 hB h).weak ⟨rfl, rfl, rfl, trivial⟩
def w_X2_known_326 (X : zs_X) (d : Nat) (p0 : Nat) (S : zs_T) (Q : zs_Q) : Prop :=
  (zs_K S p0 = some (.inl 1) ∧ ∃ b2, (zs_R S 1009 p0) = some b2 ∧ zs_A S b2 0 (zs_I S 1010 p0) ∧ ab_n0 X.1 ≤ p0 ∧ ∀ S6, S6 = zs_sI S 1011 p0 (zs_i S b2 (zs_I S 1010 p0).toNatClampNeg) → w_X2_known_404 X d  S6 Q)
theorem u_X2_known_326 {σ : Nat → Nat} {n0 : Nat} {bf : ab_B} {d : Nat} {p0 : Nat} {S : zs_T} {Q : zs_Q} (hB : zt_B bf) (h : w_X2_known_326 (zx σ n0 bf) d p0 S Q) : zs_U (zx σ n0 bf) d 1037 326 [(0, .ref p0)] [] S Q := by
  unfold w_X2_known_326 at h
  refine zu_aload_n d_1037_326 rfl (zs_ra _) ?_
  refine zu_aload_n d_1037_327 rfl (zs_ra _) ?_
  obtain ⟨k1, h⟩ := h
  refine zg_1_46 rfl d_1037_328 k1 ?_
  refine zu_aload_n d_1037_331 rfl (zs_ra _) ?_
  refine zg_1_114 rfl d_1037_332 k1 ?_
  obtain ⟨b2, e3, h⟩ := h
  refine zs_stk1 (zs_rfe e3) ?_
  obtain ⟨k4, h⟩ := h
  refine zu_iald (k := 0) d_1037_335 rfl rfl k4 ?_
  obtain ⟨k5, h⟩ := h
  refine zp_1_117 (v := (zs_i S b2 (zs_I S 1010 p0).toNatClampNeg)) rfl d_1037_336 k1 k5 ?_
  generalize e7 : zs_sI S 1011 p0 (zs_i S b2 (zs_I S 1010 p0).toNatClampNeg) = S6
  have h := h S6 e7.symm
  have K8 : ∀ b, zs_K S6 b = zs_K S b := zs_Kt e7 (zs_KsI _ _ _ _) (fun _ => rfl)
  refine zu_goto (t := 404) d_1037_339 rfl ?_
  exact (u_X2_known_404 hB h).weak trivial
def w_X2_known_367 (X : zs_X) (d : Nat)  (S : zs_T) (Q : zs_Q) : Prop :=
  (w_X2_known_404 X d  S Q)
theorem u_X2_known_367 {σ : Nat → Nat} {n0 : Nat} {bf : ab_B} {d : Nat}  {S : zs_T} {Q : zs_Q} (hB : zt_B bf) (h : w_X2_known_367 (zx σ n0 bf) d  S Q) : zs_U (zx σ n0 bf) d 1037 367 [] [] S Q := by
  unfold w_X2_known_367 at h
  refine zu_goto (t := 404) d_1037_367 rfl ?_
  exact (u_X2_known_404 hB h).weak trivial
def w_X2_known_398 (X : zs_X) (d : Nat) (q0 : Option Nat) (q1 : Int64) (S : zs_T) (Q : zs_Q) : Prop :=
  (∃ b1, q0 = some b1 ∧ zs_K S b1 = some (.inl 1) ∧ zs_C X d 1009 [.ref b1, .long q1] S (zs_kV (fun S4 => (w_X2_known_404 X d  S4 Q)) Q))
theorem u_X2_known_398 {σ : Nat → Nat} {n0 : Nat} {bf : ab_B} {d : Nat} {q0 : Option Nat} {q1 : Int64} {S : zs_T} {Q : zs_Q} (hB : zt_B bf) (h : w_X2_known_398 (zx σ n0 bf) d q0 q1 S Q) : zs_U (zx σ n0 bf) d 1037 398 [] [.long q1, va_rf q0] S Q := by
  unfold w_X2_known_398 at h
  obtain ⟨b1, e2, h⟩ := h
  refine zs_stk1 (zs_rfe e2) ?_
  obtain ⟨k3, h⟩ := h
  refine zc_1_223 (x0 := q1) hB rfl k3 d_1037_398 (Nat.le_of_ble_eq_true rfl) h (fun S4 h => ?_)
  refine zu_goto (t := 404) d_1037_401 rfl ?_
  exact (u_X2_known_404 hB h).weak trivial
def w_X2_known (X : zs_X) (d : Nat) (p0 : Nat) (p1 : Int32) (p2 : Int32) (p3 : Int32) (S : zs_T) (Q : zs_Q) : Prop :=
  (((p1.toInt < 6 ∨ 17 < p1.toInt → w_X2_known_404 X d  S Q) ∧ (p1.toInt = 6 → (zs_K S p0 = some (.inl 1) ∧ ∃ b3, (zs_R S 1005 p0) = some b3 ∧ zs_A S b3 3 ((zs_I S 1007 p0) - (1 : Int32)) ∧ zs_C X d 30004 [.long (zs_j S b3 ((zs_I S 1007 p0) - (1 : Int32)).toNatClampNeg)] S (zs_kJ (fun v7 S6 => (zs_A S6 b3 3 ((zs_I S 1007 p0) - (1 : Int32)) ∧ ab_n0 X.1 ≤ b3 ∧ ∀ S10, S10 = zs_sj S6 b3 ((zs_I S 1007 p0) - (1 : Int32)).toNatClampNeg v7 → w_X2_known_89 X d  S10 Q)) Q))) ∧ (p1.toInt = 7 → (zs_K S p0 = some (.inl 1) ∧ ab_n0 X.1 ≤ p0 ∧ ∀ S15, S15 = zs_sI S 1007 p0 ((zs_I S 1007 p0) - (1 : Int32)) → ∃ b18, (zs_R S15 1005 p0) = some b18 ∧ zs_A S b18 3 (zs_I S15 1007 p0) ∧ zs_C X d 1034 [.ref p0, .long ((zs_j S15 b18 (zs_I S15 1007 p0).toNatClampNeg) * (zs_j S15 b18 (zs_I S15 1007 p0).toNatClampNeg)), .int p2] S15 (zs_kV (fun S21 => w_X2_known_126 X d  S21 Q) Q))) ∧ (p1.toInt = 8 → (zs_K S p0 = some (.inl 1) ∧ ∃ b24, (zs_R S 1005 p0) = some b24 ∧ zs_A S b24 3 ((zs_I S 1007 p0) - (1 : Int32)) ∧ ab_n0 X.1 ≤ b24 ∧ ∀ S28, S28 = zs_sj S b24 ((zs_I S 1007 p0) - (1 : Int32)).toNatClampNeg ((zs_j S b24 ((zs_I S 1007 p0) - (1 : Int32)).toNatClampNeg) &&& (1 : Int64)) → w_X2_known_404 X d  S28 Q)) ∧ (p1.toInt = 9 → w_X2_known_404 X d  S Q) ∧ (p1.toInt = 10 → (zs_K S p0 = some (.inl 1) ∧ ∃ b32, (zs_R S 1005 p0) = some b32 ∧ zs_A S b32 3 ((zs_I S 1007 p0) - (1 : Int32)) ∧ (((zs_j S b32 ((zs_I S 1007 p0) - (1 : Int32)).toNatClampNeg) < (0 : Int64) → w_X2_known_181 X d p0 p2 S Q) ∧ (¬ ((zs_j S b32 ((zs_I S 1007 p0) - (1 : Int32)).toNatClampNeg) < (0 : Int64)) → ((((zs_j S b32 ((zs_I S 1007 p0) - (1 : Int32)).toNatClampNeg) ≤ (255 : Int64) → w_X2_known_404 X d  S Q) ∧ (¬ ((zs_j S b32 ((zs_I S 1007 p0) - (1 : Int32)).toNatClampNeg) ≤ (255 : Int64)) → w_X2_known_181 X d p0 p2 S Q))))))) ∧ (p1.toInt = 11 → w_X2_known_191 X d p0 p1 p2 p3 S Q) ∧ (p1.toInt = 12 → w_X2_known_191 X d p0 p1 p2 p3 S Q) ∧ (p1.toInt = 13 → (zs_K S p0 = some (.inl 1) ∧ ab_n0 X.1 ≤ p0 ∧ ∀ S39, S39 = zs_sI S 1010 p0 ((zs_I S 1010 p0) - (1 : Int32)) → ∃ b42, (zs_R S39 1009 p0) = some b42 ∧ zs_A S b42 0 (zs_I S39 1010 p0) ∧ zs_C X d 1009 [.ref p0, .long ((((zs_I S39 1011 p0) - (zs_i S39 b42 (zs_I S39 1010 p0).toNatClampNeg))).toInt64)] S39 (zs_kV (fun S45 => w_X2_known_326 X d p0 S45 Q) Q))) ∧ (p1.toInt = 14 → (zs_K S p0 = some (.inl 1) ∧ ∃ b48, (zs_R S 1005 p0) = some b48 ∧ zs_A S b48 3 ((zs_I S 1007 p0) - (1 : Int32)) ∧ zs_C X d 1038 [.long (zs_j S b48 ((zs_I S 1007 p0) - (1 : Int32)).toNatClampNeg)] S (zs_kJ (fun v52 S51 => (zs_A S51 b48 3 ((zs_I S 1007 p0) - (1 : Int32)) ∧ ab_n0 X.1 ≤ b48 ∧ ∀ S55, S55 = zs_sj S51 b48 ((zs_I S 1007 p0) - (1 : Int32)).toNatClampNeg v52 → w_X2_known_367 X d  S55 Q)) Q))) ∧ (p1.toInt = 15 → (zs_K S p0 = some (.inl 1) ∧ zs_C X d 1039 [.ref p0] S (zs_kV (fun S59 => (w_X2_known_404 X d  S59 Q)) Q))) ∧ (p1.toInt = 16 → (zs_K S p0 = some (.inl 1) ∧ zs_C X d 1040 [.ref p0, .int p2] S (zs_kV (fun S62 => (w_X2_known_404 X d  S62 Q)) Q))) ∧ (p1.toInt = 17 → (zs_K S p0 = some (.inl 1) ∧ ((¬ (zs_I S 1044 p0) = 0 → (w_X2_known_398 X d (some p0) (0 : Int64) S Q)) ∧ (¬ (¬ (zs_I S 1044 p0) = 0) → (w_X2_known_398 X d (some p0) (1 : Int64) S Q)))))))
theorem u_X2_known {σ : Nat → Nat} {n0 : Nat} {bf : ab_B} {d : Nat} {p0 : Nat} {p1 : Int32} {p2 : Int32} {p3 : Int32} {S : zs_T} {Q : zs_Q} (hB : zt_B bf) (hd : 1 ≤ d) (h : w_X2_known (zx σ n0 bf) (d - 1) p0 p1 p2 p3 S Q) : zs_C (zx σ n0 bf) d 1037 [.ref p0, .int p1, .int p2, .int p3] S Q := by
  have hL : lv_args 0 [.ref p0, .int p1, .int p2, .int p3] = [(0, .ref p0), (1, .int p1), (2, .int p2), (3, .int p3)] := rfl
  refine zs_C.of1 (hB.2 1037 (by decide) (by decide)) hd (by rw [hL]; exact zs_sub_self _ (by exact ⟨rfl, rfl, rfl, rfl, trivial⟩)) ?_
  rw [hL]
  clear hL
  unfold w_X2_known at h
  refine zu_iload_n d_1037_0 rfl ?_
  refine zu_tsw (td := 404) d_1037_1 (by decide) rfl (fun c1 => ?_) ⟨fun c1 => ⟨by decide, ?_⟩, fun c1 => ⟨by decide, ?_⟩, fun c1 => ⟨by decide, ?_⟩, fun c1 => ⟨by decide, ?_⟩, fun c1 => ⟨by decide, ?_⟩, fun c1 => ⟨by decide, ?_⟩, fun c1 => ⟨by decide, ?_⟩, fun c1 => ⟨by decide, ?_⟩, fun c1 => ⟨by decide, ?_⟩, fun c1 => ⟨by decide, ?_⟩, fun c1 => ⟨by decide, ?_⟩, fun c1 => ⟨by decide, ?_⟩, trivial⟩
  · have h := h.1 c1
    exact (u_X2_known_404 hB h).weak trivial
  · have h := h.2.1 c1
    show zs_U _ _ _ 64 _ _ _ _
    refine zu_aload_n d_1037_64 rfl (zs_ra _) ?_
    obtain ⟨k2, h⟩ := h
    refine zg_1_36 rfl d_1037_65 k2 ?_
    refine zu_aload_n d_1037_68 rfl (zs_ra _) ?_
    refine zg_1_111 rfl d_1037_69 k2 ?_
    refine zu_iconst d_1037_72 zi_1 ?_
    refine zu_stk d_1037_73 rfl rfl ?_
    refine zu_aload_n d_1037_74 rfl (zs_ra _) ?_
    refine zg_1_36 rfl d_1037_75 k2 ?_
    refine zu_aload_n d_1037_78 rfl (zs_ra _) ?_
    refine zg_1_111 rfl d_1037_79 k2 ?_
    refine zu_iconst d_1037_82 zi_1 ?_
    refine zu_stk d_1037_83 rfl rfl ?_
    obtain ⟨b3, e4, h⟩ := h
    refine zs_stk1 (zs_rfe e4) ?_
    obtain ⟨k5, h⟩ := h
    refine zu_lald (k := 3) d_1037_84 rfl rfl k5 ?_
    refine zc_1_446 (x0 := (zs_j S b3 ((zs_I S 1007 p0) - (1 : Int32)).toNatClampNeg)) hB rfl d_1037_85 (by simp only [List.map_cons, List.map_nil, List.sum_cons, List.sum_nil, zs_cat, zs_cI, zs_cJ, zs_cA]; exact Nat.le_of_ble_eq_true rfl) h (fun v7 S6 h => ?_)
    refine zs_stk2 (zs_rfe e4) ?_
    obtain ⟨k8, h⟩ := h
    obtain ⟨k9, h⟩ := h
    refine zu_last (k := 3) d_1037_88 rfl rfl k9 k8 ?_
    generalize e11 : zs_sj S6 b3 ((zs_I S 1007 p0) - (1 : Int32)).toNatClampNeg v7 = S10
    have h := h S10 e11.symm
    have K12 : ∀ b, zs_K S10 b = zs_K S6 b := zs_Kt e11 (zs_Ksj _ _ _ _) (fun _ => rfl)
    exact (u_X2_known_89 hB h).weak trivial
  · have h := h.2.2.1 c1
    show zs_U _ _ _ 92 _ _ _ _
    refine zu_aload_n d_1037_92 rfl (zs_ra _) ?_
    refine zu_dup d_1037_93 rfl ?_
    obtain ⟨k13, h⟩ := h
    refine zg_1_111 rfl d_1037_94 k13 ?_
    refine zu_iconst d_1037_97 zi_1 ?_
    refine zu_stk d_1037_98 rfl rfl ?_
    obtain ⟨k14, h⟩ := h
    refine zp_1_111 (v := ((zs_I S 1007 p0) - (1 : Int32))) rfl d_1037_99 k13 k14 ?_
    generalize e16 : zs_sI S 1007 p0 ((zs_I S 1007 p0) - (1 : Int32)) = S15
    have h := h S15 e16.symm
    have K17 : ∀ b, zs_K S15 b = zs_K S b := zs_Kt e16 (zs_KsI _ _ _ _) (fun _ => rfl)
    refine zu_aload_n d_1037_102 rfl (zs_ra _) ?_
    refine zu_aload_n d_1037_103 rfl (zs_ra _) ?_
    refine zg_1_36 rfl d_1037_104 ((K17 _).trans k13) ?_
    refine zu_aload_n d_1037_107 rfl (zs_ra _) ?_
    refine zg_1_111 rfl d_1037_108 ((K17 _).trans k13) ?_
    obtain ⟨b18, e19, h⟩ := h
    refine zs_stk1 (zs_rfe e19) ?_
    obtain ⟨k20, h⟩ := h
    refine zu_lald (k := 3) d_1037_111 rfl rfl (zs_Ak K17 k20) ?_
    refine zu_aload_n d_1037_112 rfl (zs_ra _) ?_
    refine zg_1_36 rfl d_1037_113 ((K17 _).trans k13) ?_
    refine zu_aload_n d_1037_116 rfl (zs_ra _) ?_
    refine zg_1_111 rfl d_1037_117 ((K17 _).trans k13) ?_
    refine zs_stk1 (zs_rfe e19) ?_
    refine zu_lald (k := 3) d_1037_120 rfl rfl (zs_Ak K17 k20) ?_
    refine zu_stk d_1037_121 rfl rfl ?_
    refine zu_iload_n d_1037_122 rfl ?_
    refine zc_1_427 (x0 := ((zs_j S15 b18 (zs_I S15 1007 p0).toNatClampNeg) * (zs_j S15 b18 (zs_I S15 1007 p0).toNatClampNeg))) (x1 := p2) hB rfl ((K17 _).trans k13) d_1037_123 (Nat.le_of_ble_eq_true rfl) h (fun S21 h => ?_)
    exact (u_X2_known_126 hB h).weak trivial
  · have h := h.2.2.2.1 c1
    show zs_U _ _ _ 129 _ _ _ _
    refine zu_aload_n d_1037_129 rfl (zs_ra _) ?_
    obtain ⟨k23, h⟩ := h
    refine zg_1_36 rfl d_1037_130 k23 ?_
    refine zu_aload_n d_1037_133 rfl (zs_ra _) ?_
    refine zg_1_111 rfl d_1037_134 k23 ?_
    refine zu_iconst d_1037_137 zi_1 ?_
    refine zu_stk d_1037_138 rfl rfl ?_
    refine zu_dup2 d_1037_139 rfl (zs_cat _) ?_
    obtain ⟨b24, e25, h⟩ := h
    refine zs_stk1 (zs_rfe e25) ?_
    obtain ⟨k26, h⟩ := h
    refine zu_lald (k := 3) d_1037_140 rfl rfl k26 ?_
    refine zu_lconst (v := 1) d_1037_141 rfl ?_
    refine zu_stk d_1037_142 rfl rfl ?_
    refine zs_stk2 (zs_rfe e25) ?_
    obtain ⟨k27, h⟩ := h
    refine zu_last (k := 3) d_1037_143 rfl rfl k27 k26 ?_
    generalize e29 : zs_sj S b24 ((zs_I S 1007 p0) - (1 : Int32)).toNatClampNeg ((zs_j S b24 ((zs_I S 1007 p0) - (1 : Int32)).toNatClampNeg) &&& (1 : Int64)) = S28
    have h := h S28 e29.symm
    have K30 : ∀ b, zs_K S28 b = zs_K S b := zs_Kt e29 (zs_Ksj _ _ _ _) (fun _ => rfl)
    refine zu_goto (t := 404) d_1037_144 rfl ?_
    exact (u_X2_known_404 hB h).weak trivial
  · have h := h.2.2.2.2.1 c1
    show zs_U _ _ _ 404 _ _ _ _
    exact (u_X2_known_404 hB h).weak trivial
  · have h := h.2.2.2.2.2.1 c1
    show zs_U _ _ _ 147 _ _ _ _
    refine zu_aload_n d_1037_147 rfl (zs_ra _) ?_
    obtain ⟨k31, h⟩ := h
    refine zg_1_36 rfl d_1037_148 k31 ?_
    refine zu_aload_n d_1037_151 rfl (zs_ra _) ?_
    refine zg_1_111 rfl d_1037_152 k31 ?_
    refine zu_iconst d_1037_155 zi_1 ?_
    refine zu_stk d_1037_156 rfl rfl ?_
    obtain ⟨b32, e33, h⟩ := h
    refine zs_stk1 (zs_rfe e33) ?_
    obtain ⟨k34, h⟩ := h
    refine zu_lald (k := 3) d_1037_157 rfl rfl k34 ?_
    refine zu_lconst (v := 0) d_1037_158 rfl ?_
    refine zu_llt (t := 181) d_1037_159 d_1037_160 rfl (fun c35 => ?_) (fun c35 => ?_)
    · have h := h.1 c35
      exact (u_X2_known_181 hB h).weak ⟨rfl, rfl, trivial⟩
    · have h := h.2 c35
      refine zu_aload_n d_1037_163 rfl (zs_ra _) ?_
      refine zg_1_36 rfl d_1037_164 k31 ?_
      refine zu_aload_n d_1037_167 rfl (zs_ra _) ?_
      refine zg_1_111 rfl d_1037_168 k31 ?_
      refine zu_iconst d_1037_171 zi_1 ?_
      refine zu_stk d_1037_172 rfl rfl ?_
      refine zs_stk1 (zs_rfe e33) ?_
      refine zu_lald (k := 3) d_1037_173 rfl rfl k34 ?_
      refine zl2_1_452 rfl d_1037_174 ?_
      refine zu_lle (t := 404) d_1037_177 d_1037_178 rfl (fun c36 => ?_) (fun c36 => ?_)
      · have h := h.1 c36
        exact (u_X2_known_404 hB h).weak trivial
      · have h := h.2 c36
        exact (u_X2_known_181 hB h).weak ⟨rfl, rfl, trivial⟩
  · have h := h.2.2.2.2.2.2.1 c1
    show zs_U _ _ _ 191 _ _ _ _
    exact (u_X2_known_191 hB h).weak ⟨rfl, rfl, rfl, rfl, trivial⟩
  · have h := h.2.2.2.2.2.2.2.1 c1
    show zs_U _ _ _ 191 _ _ _ _
    exact (u_X2_known_191 hB h).weak ⟨rfl, rfl, rfl, rfl, trivial⟩
  · have h := h.2.2.2.2.2.2.2.2.1 c1
    show zs_U _ _ _ 297 _ _ _ _
    refine zu_aload_n d_1037_297 rfl (zs_ra _) ?_
    refine zu_dup d_1037_298 rfl ?_
    obtain ⟨k37, h⟩ := h
    refine zg_1_114 rfl d_1037_299 k37 ?_
    refine zu_iconst d_1037_302 zi_1 ?_
    refine zu_stk d_1037_303 rfl rfl ?_
    obtain ⟨k38, h⟩ := h
    refine zp_1_114 (v := ((zs_I S 1010 p0) - (1 : Int32))) rfl d_1037_304 k37 k38 ?_
    generalize e40 : zs_sI S 1010 p0 ((zs_I S 1010 p0) - (1 : Int32)) = S39
    have h := h S39 e40.symm
    have K41 : ∀ b, zs_K S39 b = zs_K S b := zs_Kt e40 (zs_KsI _ _ _ _) (fun _ => rfl)
    refine zu_aload_n d_1037_307 rfl (zs_ra _) ?_
    refine zu_aload_n d_1037_308 rfl (zs_ra _) ?_
    refine zg_1_117 rfl d_1037_309 ((K41 _).trans k37) ?_
    refine zu_aload_n d_1037_312 rfl (zs_ra _) ?_
    refine zg_1_46 rfl d_1037_313 ((K41 _).trans k37) ?_
    refine zu_aload_n d_1037_316 rfl (zs_ra _) ?_
    refine zg_1_114 rfl d_1037_317 ((K41 _).trans k37) ?_
    obtain ⟨b42, e43, h⟩ := h
    refine zs_stk1 (zs_rfe e43) ?_
    obtain ⟨k44, h⟩ := h
    refine zu_iald (k := 0) d_1037_320 rfl rfl (zs_Ak K41 k44) ?_
    refine zu_stk d_1037_321 rfl rfl ?_
    refine zu_stk d_1037_322 rfl rfl ?_
    refine zc_1_223 (x0 := ((((zs_I S39 1011 p0) - (zs_i S39 b42 (zs_I S39 1010 p0).toNatClampNeg))).toInt64)) hB rfl ((K41 _).trans k37) d_1037_323 (Nat.le_of_ble_eq_true rfl) h (fun S45 h => ?_)
    exact (u_X2_known_326 hB h).weak ⟨rfl, trivial⟩
  · have h := h.2.2.2.2.2.2.2.2.2.1 c1
    show zs_U _ _ _ 342 _ _ _ _
    refine zu_aload_n d_1037_342 rfl (zs_ra _) ?_
    obtain ⟨k47, h⟩ := h
    refine zg_1_36 rfl d_1037_343 k47 ?_
    refine zu_aload_n d_1037_346 rfl (zs_ra _) ?_
    refine zg_1_111 rfl d_1037_347 k47 ?_
    refine zu_iconst d_1037_350 zi_1 ?_
    refine zu_stk d_1037_351 rfl rfl ?_
    refine zu_aload_n d_1037_352 rfl (zs_ra _) ?_
    refine zg_1_36 rfl d_1037_353 k47 ?_
    refine zu_aload_n d_1037_356 rfl (zs_ra _) ?_
    refine zg_1_111 rfl d_1037_357 k47 ?_
    refine zu_iconst d_1037_360 zi_1 ?_
    refine zu_stk d_1037_361 rfl rfl ?_
    obtain ⟨b48, e49, h⟩ := h
    refine zs_stk1 (zs_rfe e49) ?_
    obtain ⟨k50, h⟩ := h
    refine zu_lald (k := 3) d_1037_362 rfl rfl k50 ?_
    refine zc_1_454 (x0 := (zs_j S b48 ((zs_I S 1007 p0) - (1 : Int32)).toNatClampNeg)) hB rfl d_1037_363 (by simp only [List.map_cons, List.map_nil, List.sum_cons, List.sum_nil, zs_cat, zs_cI, zs_cJ, zs_cA]; exact Nat.le_of_ble_eq_true rfl) h (fun v52 S51 h => ?_)
    refine zs_stk2 (zs_rfe e49) ?_
    obtain ⟨k53, h⟩ := h
    obtain ⟨k54, h⟩ := h
    refine zu_last (k := 3) d_1037_366 rfl rfl k54 k53 ?_
    generalize e56 : zs_sj S51 b48 ((zs_I S 1007 p0) - (1 : Int32)).toNatClampNeg v52 = S55
    have h := h S55 e56.symm
    have K57 : ∀ b, zs_K S55 b = zs_K S51 b := zs_Kt e56 (zs_Ksj _ _ _ _) (fun _ => rfl)
    exact (u_X2_known_367 hB h).weak trivial
  · have h := h.2.2.2.2.2.2.2.2.2.2.1 c1
    show zs_U _ _ _ 370 _ _ _ _
    refine zu_aload_n d_1037_370 rfl (zs_ra _) ?_
    obtain ⟨k58, h⟩ := h
    refine zc_1_457  hB rfl k58 d_1037_371 (Nat.le_of_ble_eq_true rfl) h (fun S59 h => ?_)
    refine zu_goto (t := 404) d_1037_374 rfl ?_
    exact (u_X2_known_404 hB h).weak trivial
  · have h := h.2.2.2.2.2.2.2.2.2.2.2.1 c1
    show zs_U _ _ _ 377 _ _ _ _
    refine zu_aload_n d_1037_377 rfl (zs_ra _) ?_
    refine zu_iload_n d_1037_378 rfl ?_
    obtain ⟨k61, h⟩ := h
    refine zc_1_460 (x0 := p2) hB rfl k61 d_1037_379 (Nat.le_of_ble_eq_true rfl) h (fun S62 h => ?_)
    refine zu_goto (t := 404) d_1037_382 rfl ?_
    exact (u_X2_known_404 hB h).weak trivial
  · have h := h.2.2.2.2.2.2.2.2.2.2.2.2 c1
    show zs_U _ _ _ 385 _ _ _ _
    refine zu_aload_n d_1037_385 rfl (zs_ra _) ?_
    refine zu_aload_n d_1037_386 rfl (zs_ra _) ?_
    obtain ⟨k64, h⟩ := h
    refine zg_1_463 rfl d_1037_387 k64 ?_
    refine zu_ifne (t := 397) d_1037_390 rfl (fun c65 => ?_) (fun c65 => ?_)
    · have h := h.1 c65
      refine zu_lconst (v := 0) d_1037_397 rfl ?_
      exact (u_X2_known_398 hB h).weak trivial
    · have h := h.2 c65
      refine zu_lconst (v := 1) d_1037_393 rfl ?_
      refine zu_goto (t := 398) d_1037_394 rfl ?_
      exact (u_X2_known_398 hB h).weak trivial
/-! SchemaPascal$Machine.ones(J)J -/
theorem zm_1038 {σ : Nat → Nat} {n0 : Nat} {bf : ab_B} : ab_code (zx σ n0 bf).1 1038 = prog_5_method_40_code := rfl
theorem zq_1038 {σ : Nat → Nat} {n0 : Nat} {bf : ab_B} : ab_maxL (zx σ n0 bf).1 1038 = 5 := rfl
theorem zr_1038 {σ : Nat → Nat} {n0 : Nat} {bf : ab_B} : ab_ret (zx σ n0 bf).1 1038 = (Option.some Jvm.ClassFile.FieldType.long) := rfl
theorem d_1038_0 {σ : Nat → Nat} {n0 : Nat} {bf : ab_B} : decode (ab_code (zx σ n0 bf).1 1038) 0 = .ok (.lconst 0, 1) := zd zm_1038 (by decide +kernel)
theorem d_1038_1 {σ : Nat → Nat} {n0 : Nat} {bf : ab_B} : decode (ab_code (zx σ n0 bf).1 1038) 1 = .ok (.lstore_n 2, 1) := zd zm_1038 (by decide +kernel)
theorem d_1038_2 {σ : Nat → Nat} {n0 : Nat} {bf : ab_B} : decode (ab_code (zx σ n0 bf).1 1038) 2 = .ok (.iconst 0, 1) := zd zm_1038 (by decide +kernel)
theorem d_1038_3 {σ : Nat → Nat} {n0 : Nat} {bf : ab_B} : decode (ab_code (zx σ n0 bf).1 1038) 3 = .ok (.istore 4, 2) := zd zm_1038 (by decide +kernel)
theorem d_1038_5 {σ : Nat → Nat} {n0 : Nat} {bf : ab_B} : decode (ab_code (zx σ n0 bf).1 1038) 5 = .ok (.iload 4, 2) := zd zm_1038 (by decide +kernel)
theorem d_1038_7 {σ : Nat → Nat} {n0 : Nat} {bf : ab_B} : decode (ab_code (zx σ n0 bf).1 1038) 7 = .ok (.bipush 64, 2) := zd zm_1038 (by decide +kernel)
theorem d_1038_9 {σ : Nat → Nat} {n0 : Nat} {bf : ab_B} : decode (ab_code (zx σ n0 bf).1 1038) 9 = .ok (.if_icmp .ge 18, 3) := zd zm_1038 (by decide +kernel)
theorem d_1038_12 {σ : Nat → Nat} {n0 : Nat} {bf : ab_B} : decode (ab_code (zx σ n0 bf).1 1038) 12 = .ok (.lload_n 2, 1) := zd zm_1038 (by decide +kernel)
theorem d_1038_13 {σ : Nat → Nat} {n0 : Nat} {bf : ab_B} : decode (ab_code (zx σ n0 bf).1 1038) 13 = .ok (.lload_n 0, 1) := zd zm_1038 (by decide +kernel)
theorem d_1038_14 {σ : Nat → Nat} {n0 : Nat} {bf : ab_B} : decode (ab_code (zx σ n0 bf).1 1038) 14 = .ok (.iload 4, 2) := zd zm_1038 (by decide +kernel)
theorem d_1038_16 {σ : Nat → Nat} {n0 : Nat} {bf : ab_B} : decode (ab_code (zx σ n0 bf).1 1038) 16 = .ok (.lushr, 1) := zd zm_1038 (by decide +kernel)
theorem d_1038_17 {σ : Nat → Nat} {n0 : Nat} {bf : ab_B} : decode (ab_code (zx σ n0 bf).1 1038) 17 = .ok (.lconst 1, 1) := zd zm_1038 (by decide +kernel)
theorem d_1038_18 {σ : Nat → Nat} {n0 : Nat} {bf : ab_B} : decode (ab_code (zx σ n0 bf).1 1038) 18 = .ok (.land, 1) := zd zm_1038 (by decide +kernel)
theorem d_1038_19 {σ : Nat → Nat} {n0 : Nat} {bf : ab_B} : decode (ab_code (zx σ n0 bf).1 1038) 19 = .ok (.ladd, 1) := zd zm_1038 (by decide +kernel)
theorem d_1038_20 {σ : Nat → Nat} {n0 : Nat} {bf : ab_B} : decode (ab_code (zx σ n0 bf).1 1038) 20 = .ok (.lstore_n 2, 1) := zd zm_1038 (by decide +kernel)
theorem d_1038_21 {σ : Nat → Nat} {n0 : Nat} {bf : ab_B} : decode (ab_code (zx σ n0 bf).1 1038) 21 = .ok (.iinc 4 1, 3) := zd zm_1038 (by decide +kernel)
theorem d_1038_24 {σ : Nat → Nat} {n0 : Nat} {bf : ab_B} : decode (ab_code (zx σ n0 bf).1 1038) 24 = .ok (.goto (-19), 3) := zd zm_1038 (by decide +kernel)
theorem d_1038_27 {σ : Nat → Nat} {n0 : Nat} {bf : ab_B} : decode (ab_code (zx σ n0 bf).1 1038) 27 = .ok (.lload_n 2, 1) := zd zm_1038 (by decide +kernel)
theorem d_1038_28 {σ : Nat → Nat} {n0 : Nat} {bf : ab_B} : decode (ab_code (zx σ n0 bf).1 1038) 28 = .ok (.lreturn, 1) := zd zm_1038 (by decide +kernel)
def w_X2_ones_5 (X : zs_X) (d : Nat) (p0 : Int64) (p2 : Int64) (p4 : Int32) (S : zs_T) (Q : zs_Q) : Prop :=
  ((((64 : Int32) ≤ p4 → (Q (.returned (some (.long p2))) S)) ∧ (¬ ((64 : Int32) ≤ p4) → (zs_U X d 1038 5 [(0, .long p0), (2, .long (p2 + ((((p0).toUInt64 >>> ((p4).toInt64.toUInt64 &&& Int64.toUInt64 63)).toInt64) &&& (1 : Int64)))), (4, .int (p4 + (1 : Int32)))] [] S Q))))
theorem u_X2_ones_5 {σ : Nat → Nat} {n0 : Nat} {bf : ab_B} {d : Nat} {p0 : Int64} {p2 : Int64} {p4 : Int32} {S : zs_T} {Q : zs_Q} (hB : zt_B bf) (h : w_X2_ones_5 (zx σ n0 bf) d p0 p2 p4 S Q) : zs_U (zx σ n0 bf) d 1038 5 [(0, .long p0), (2, .long p2), (4, .int p4)] [] S Q := by
  unfold w_X2_ones_5 at h
  refine zu_iload d_1038_5 rfl ?_
  refine zu_bipush d_1038_7 zj_64 ?_
  refine zu_cmpge (t := 27) d_1038_9 rfl (fun c1 => ?_) (fun c1 => ?_)
  · have h := h.1 c1
    refine zu_lload_n d_1038_27 rfl ?_
    exact zu_lret d_1038_28 zr_1038 h
  · have h := h.2 c1
    refine zu_lload_n d_1038_12 rfl ?_
    refine zu_lload_n d_1038_13 rfl ?_
    refine zu_iload d_1038_14 rfl ?_
    refine zu_stk d_1038_16 rfl rfl ?_
    refine zu_lconst (v := 1) d_1038_17 rfl ?_
    refine zu_stk d_1038_18 rfl rfl ?_
    refine zu_stk d_1038_19 rfl rfl ?_
    refine zu_lstore_n d_1038_20 (zs_lt zq_1038 rfl) ?_
    refine zu_iinc d_1038_21 rfl zi_1 (zs_lt zq_1038 rfl) ?_
    refine zu_goto (t := 5) d_1038_24 rfl ?_
    exact h.weak ⟨rfl, rfl, rfl, trivial⟩
def w_X2_ones (X : zs_X) (d : Nat) (p0 : Int64) (S : zs_T) (Q : zs_Q) : Prop :=
  (zs_U X d 1038 5 [(0, .long p0), (2, .long (0 : Int64)), (4, .int (0 : Int32))] [] S Q)
theorem u_X2_ones {σ : Nat → Nat} {n0 : Nat} {bf : ab_B} {d : Nat} {p0 : Int64} {S : zs_T} {Q : zs_Q} (hB : zt_B bf) (hd : 1 ≤ d) (h : w_X2_ones (zx σ n0 bf) (d - 1) p0 S Q) : zs_C (zx σ n0 bf) d 1038 [.long p0] S Q := by
  have hL : lv_args 0 [.long p0] = [(0, .long p0)] := rfl
  refine zs_C.of1 (hB.2 1038 (by decide) (by decide)) hd (by rw [hL]; exact zs_sub_self _ (by exact ⟨rfl, trivial⟩)) ?_
  rw [hL]
  clear hL
  unfold w_X2_ones at h
  refine zu_lconst (v := 0) d_1038_0 rfl ?_
  refine zu_lstore_n d_1038_1 (zs_lt zq_1038 rfl) ?_
  refine zu_iconst d_1038_2 zi_0 ?_
  refine zu_istore d_1038_3 (zs_lt zq_1038 rfl) ?_
  exact h.weak ⟨rfl, rfl, rfl, trivial⟩
/-! SchemaPascal$Machine.where()V -/
theorem zm_1039 {σ : Nat → Nat} {n0 : Nat} {bf : ab_B} : ab_code (zx σ n0 bf).1 1039 = prog_5_method_41_code := rfl
theorem zq_1039 {σ : Nat → Nat} {n0 : Nat} {bf : ab_B} : ab_maxL (zx σ n0 bf).1 1039 = 7 := rfl
theorem zr_1039 {σ : Nat → Nat} {n0 : Nat} {bf : ab_B} : ab_ret (zx σ n0 bf).1 1039 = (Option.none : Option Jvm.ClassFile.FieldType) := rfl
theorem d_1039_0 {σ : Nat → Nat} {n0 : Nat} {bf : ab_B} : decode (ab_code (zx σ n0 bf).1 1039) 0 = .ok (.aload_n 0, 1) := zd zm_1039 (by decide +kernel)
theorem d_1039_1 {σ : Nat → Nat} {n0 : Nat} {bf : ab_B} : decode (ab_code (zx σ n0 bf).1 1039) 1 = .ok (.aload_n 0, 1) := zd zm_1039 (by decide +kernel)
theorem d_1039_2 {σ : Nat → Nat} {n0 : Nat} {bf : ab_B} : decode (ab_code (zx σ n0 bf).1 1039) 2 = .ok (.getfield 114, 3) := zd zm_1039 (by decide +kernel)
theorem d_1039_5 {σ : Nat → Nat} {n0 : Nat} {bf : ab_B} : decode (ab_code (zx σ n0 bf).1 1039) 5 = .ok (.iconst 2, 1) := zd zm_1039 (by decide +kernel)
theorem d_1039_6 {σ : Nat → Nat} {n0 : Nat} {bf : ab_B} : decode (ab_code (zx σ n0 bf).1 1039) 6 = .ok (.isub, 1) := zd zm_1039 (by decide +kernel)
theorem d_1039_7 {σ : Nat → Nat} {n0 : Nat} {bf : ab_B} : decode (ab_code (zx σ n0 bf).1 1039) 7 = .ok (.invokevirtual 443, 3) := zd zm_1039 (by decide +kernel)
theorem d_1039_10 {σ : Nat → Nat} {n0 : Nat} {bf : ab_B} : decode (ab_code (zx σ n0 bf).1 1039) 10 = .ok (.istore_n 1, 1) := zd zm_1039 (by decide +kernel)
theorem d_1039_11 {σ : Nat → Nat} {n0 : Nat} {bf : ab_B} : decode (ab_code (zx σ n0 bf).1 1039) 11 = .ok (.aload_n 0, 1) := zd zm_1039 (by decide +kernel)
theorem d_1039_12 {σ : Nat → Nat} {n0 : Nat} {bf : ab_B} : decode (ab_code (zx σ n0 bf).1 1039) 12 = .ok (.aload_n 0, 1) := zd zm_1039 (by decide +kernel)
theorem d_1039_13 {σ : Nat → Nat} {n0 : Nat} {bf : ab_B} : decode (ab_code (zx σ n0 bf).1 1039) 13 = .ok (.getfield 114, 3) := zd zm_1039 (by decide +kernel)
theorem d_1039_16 {σ : Nat → Nat} {n0 : Nat} {bf : ab_B} : decode (ab_code (zx σ n0 bf).1 1039) 16 = .ok (.iconst 1, 1) := zd zm_1039 (by decide +kernel)
theorem d_1039_17 {σ : Nat → Nat} {n0 : Nat} {bf : ab_B} : decode (ab_code (zx σ n0 bf).1 1039) 17 = .ok (.isub, 1) := zd zm_1039 (by decide +kernel)
theorem d_1039_18 {σ : Nat → Nat} {n0 : Nat} {bf : ab_B} : decode (ab_code (zx σ n0 bf).1 1039) 18 = .ok (.invokevirtual 443, 3) := zd zm_1039 (by decide +kernel)
theorem d_1039_21 {σ : Nat → Nat} {n0 : Nat} {bf : ab_B} : decode (ab_code (zx σ n0 bf).1 1039) 21 = .ok (.istore_n 2, 1) := zd zm_1039 (by decide +kernel)
theorem d_1039_22 {σ : Nat → Nat} {n0 : Nat} {bf : ab_B} : decode (ab_code (zx σ n0 bf).1 1039) 22 = .ok (.iconst 0, 1) := zd zm_1039 (by decide +kernel)
theorem d_1039_23 {σ : Nat → Nat} {n0 : Nat} {bf : ab_B} : decode (ab_code (zx σ n0 bf).1 1039) 23 = .ok (.istore_n 3, 1) := zd zm_1039 (by decide +kernel)
theorem d_1039_24 {σ : Nat → Nat} {n0 : Nat} {bf : ab_B} : decode (ab_code (zx σ n0 bf).1 1039) 24 = .ok (.iconst 0, 1) := zd zm_1039 (by decide +kernel)
theorem d_1039_25 {σ : Nat → Nat} {n0 : Nat} {bf : ab_B} : decode (ab_code (zx σ n0 bf).1 1039) 25 = .ok (.istore 4, 2) := zd zm_1039 (by decide +kernel)
theorem d_1039_27 {σ : Nat → Nat} {n0 : Nat} {bf : ab_B} : decode (ab_code (zx σ n0 bf).1 1039) 27 = .ok (.iload 4, 2) := zd zm_1039 (by decide +kernel)
theorem d_1039_29 {σ : Nat → Nat} {n0 : Nat} {bf : ab_B} : decode (ab_code (zx σ n0 bf).1 1039) 29 = .ok (.iload_n 2, 1) := zd zm_1039 (by decide +kernel)
theorem d_1039_30 {σ : Nat → Nat} {n0 : Nat} {bf : ab_B} : decode (ab_code (zx σ n0 bf).1 1039) 30 = .ok (.iadd, 1) := zd zm_1039 (by decide +kernel)
theorem d_1039_31 {σ : Nat → Nat} {n0 : Nat} {bf : ab_B} : decode (ab_code (zx σ n0 bf).1 1039) 31 = .ok (.iload_n 1, 1) := zd zm_1039 (by decide +kernel)
theorem d_1039_32 {σ : Nat → Nat} {n0 : Nat} {bf : ab_B} : decode (ab_code (zx σ n0 bf).1 1039) 32 = .ok (.if_icmp .gt 101, 3) := zd zm_1039 (by decide +kernel)
theorem d_1039_35 {σ : Nat → Nat} {n0 : Nat} {bf : ab_B} : decode (ab_code (zx σ n0 bf).1 1039) 35 = .ok (.iload_n 3, 1) := zd zm_1039 (by decide +kernel)
theorem d_1039_36 {σ : Nat → Nat} {n0 : Nat} {bf : ab_B} : decode (ab_code (zx σ n0 bf).1 1039) 36 = .ok (.ifCond .ne 97, 3) := zd zm_1039 (by decide +kernel)
theorem d_1039_39 {σ : Nat → Nat} {n0 : Nat} {bf : ab_B} : decode (ab_code (zx σ n0 bf).1 1039) 39 = .ok (.iconst 1, 1) := zd zm_1039 (by decide +kernel)
theorem d_1039_40 {σ : Nat → Nat} {n0 : Nat} {bf : ab_B} : decode (ab_code (zx σ n0 bf).1 1039) 40 = .ok (.istore 5, 2) := zd zm_1039 (by decide +kernel)
theorem d_1039_42 {σ : Nat → Nat} {n0 : Nat} {bf : ab_B} : decode (ab_code (zx σ n0 bf).1 1039) 42 = .ok (.iconst 0, 1) := zd zm_1039 (by decide +kernel)
theorem d_1039_43 {σ : Nat → Nat} {n0 : Nat} {bf : ab_B} : decode (ab_code (zx σ n0 bf).1 1039) 43 = .ok (.istore 6, 2) := zd zm_1039 (by decide +kernel)
theorem d_1039_45 {σ : Nat → Nat} {n0 : Nat} {bf : ab_B} : decode (ab_code (zx σ n0 bf).1 1039) 45 = .ok (.iload 6, 2) := zd zm_1039 (by decide +kernel)
theorem d_1039_47 {σ : Nat → Nat} {n0 : Nat} {bf : ab_B} : decode (ab_code (zx σ n0 bf).1 1039) 47 = .ok (.iload_n 2, 1) := zd zm_1039 (by decide +kernel)
theorem d_1039_48 {σ : Nat → Nat} {n0 : Nat} {bf : ab_B} : decode (ab_code (zx σ n0 bf).1 1039) 48 = .ok (.if_icmp .ge 65, 3) := zd zm_1039 (by decide +kernel)
theorem d_1039_51 {σ : Nat → Nat} {n0 : Nat} {bf : ab_B} : decode (ab_code (zx σ n0 bf).1 1039) 51 = .ok (.iload 5, 2) := zd zm_1039 (by decide +kernel)
theorem d_1039_53 {σ : Nat → Nat} {n0 : Nat} {bf : ab_B} : decode (ab_code (zx σ n0 bf).1 1039) 53 = .ok (.ifCond .eq 60, 3) := zd zm_1039 (by decide +kernel)
theorem d_1039_56 {σ : Nat → Nat} {n0 : Nat} {bf : ab_B} : decode (ab_code (zx σ n0 bf).1 1039) 56 = .ok (.aload_n 0, 1) := zd zm_1039 (by decide +kernel)
theorem d_1039_57 {σ : Nat → Nat} {n0 : Nat} {bf : ab_B} : decode (ab_code (zx σ n0 bf).1 1039) 57 = .ok (.getfield 42, 3) := zd zm_1039 (by decide +kernel)
theorem d_1039_60 {σ : Nat → Nat} {n0 : Nat} {bf : ab_B} : decode (ab_code (zx σ n0 bf).1 1039) 60 = .ok (.aload_n 0, 1) := zd zm_1039 (by decide +kernel)
theorem d_1039_61 {σ : Nat → Nat} {n0 : Nat} {bf : ab_B} : decode (ab_code (zx σ n0 bf).1 1039) 61 = .ok (.getfield 46, 3) := zd zm_1039 (by decide +kernel)
theorem d_1039_64 {σ : Nat → Nat} {n0 : Nat} {bf : ab_B} : decode (ab_code (zx σ n0 bf).1 1039) 64 = .ok (.aload_n 0, 1) := zd zm_1039 (by decide +kernel)
theorem d_1039_65 {σ : Nat → Nat} {n0 : Nat} {bf : ab_B} : decode (ab_code (zx σ n0 bf).1 1039) 65 = .ok (.getfield 114, 3) := zd zm_1039 (by decide +kernel)
theorem d_1039_68 {σ : Nat → Nat} {n0 : Nat} {bf : ab_B} : decode (ab_code (zx σ n0 bf).1 1039) 68 = .ok (.iconst 2, 1) := zd zm_1039 (by decide +kernel)
theorem d_1039_69 {σ : Nat → Nat} {n0 : Nat} {bf : ab_B} : decode (ab_code (zx σ n0 bf).1 1039) 69 = .ok (.isub, 1) := zd zm_1039 (by decide +kernel)
theorem d_1039_70 {σ : Nat → Nat} {n0 : Nat} {bf : ab_B} : decode (ab_code (zx σ n0 bf).1 1039) 70 = .ok (.iaload, 1) := zd zm_1039 (by decide +kernel)
theorem d_1039_71 {σ : Nat → Nat} {n0 : Nat} {bf : ab_B} : decode (ab_code (zx σ n0 bf).1 1039) 71 = .ok (.iload 4, 2) := zd zm_1039 (by decide +kernel)
theorem d_1039_73 {σ : Nat → Nat} {n0 : Nat} {bf : ab_B} : decode (ab_code (zx σ n0 bf).1 1039) 73 = .ok (.iadd, 1) := zd zm_1039 (by decide +kernel)
theorem d_1039_74 {σ : Nat → Nat} {n0 : Nat} {bf : ab_B} : decode (ab_code (zx σ n0 bf).1 1039) 74 = .ok (.iload 6, 2) := zd zm_1039 (by decide +kernel)
theorem d_1039_76 {σ : Nat → Nat} {n0 : Nat} {bf : ab_B} : decode (ab_code (zx σ n0 bf).1 1039) 76 = .ok (.iadd, 1) := zd zm_1039 (by decide +kernel)
theorem d_1039_77 {σ : Nat → Nat} {n0 : Nat} {bf : ab_B} : decode (ab_code (zx σ n0 bf).1 1039) 77 = .ok (.baload, 1) := zd zm_1039 (by decide +kernel)
theorem d_1039_78 {σ : Nat → Nat} {n0 : Nat} {bf : ab_B} : decode (ab_code (zx σ n0 bf).1 1039) 78 = .ok (.aload_n 0, 1) := zd zm_1039 (by decide +kernel)
theorem d_1039_79 {σ : Nat → Nat} {n0 : Nat} {bf : ab_B} : decode (ab_code (zx σ n0 bf).1 1039) 79 = .ok (.getfield 42, 3) := zd zm_1039 (by decide +kernel)
theorem d_1039_82 {σ : Nat → Nat} {n0 : Nat} {bf : ab_B} : decode (ab_code (zx σ n0 bf).1 1039) 82 = .ok (.aload_n 0, 1) := zd zm_1039 (by decide +kernel)
theorem d_1039_83 {σ : Nat → Nat} {n0 : Nat} {bf : ab_B} : decode (ab_code (zx σ n0 bf).1 1039) 83 = .ok (.getfield 46, 3) := zd zm_1039 (by decide +kernel)
theorem d_1039_86 {σ : Nat → Nat} {n0 : Nat} {bf : ab_B} : decode (ab_code (zx σ n0 bf).1 1039) 86 = .ok (.aload_n 0, 1) := zd zm_1039 (by decide +kernel)
theorem d_1039_87 {σ : Nat → Nat} {n0 : Nat} {bf : ab_B} : decode (ab_code (zx σ n0 bf).1 1039) 87 = .ok (.getfield 114, 3) := zd zm_1039 (by decide +kernel)
theorem d_1039_90 {σ : Nat → Nat} {n0 : Nat} {bf : ab_B} : decode (ab_code (zx σ n0 bf).1 1039) 90 = .ok (.iconst 1, 1) := zd zm_1039 (by decide +kernel)
theorem d_1039_91 {σ : Nat → Nat} {n0 : Nat} {bf : ab_B} : decode (ab_code (zx σ n0 bf).1 1039) 91 = .ok (.isub, 1) := zd zm_1039 (by decide +kernel)
theorem d_1039_92 {σ : Nat → Nat} {n0 : Nat} {bf : ab_B} : decode (ab_code (zx σ n0 bf).1 1039) 92 = .ok (.iaload, 1) := zd zm_1039 (by decide +kernel)
theorem d_1039_93 {σ : Nat → Nat} {n0 : Nat} {bf : ab_B} : decode (ab_code (zx σ n0 bf).1 1039) 93 = .ok (.iload 6, 2) := zd zm_1039 (by decide +kernel)
theorem d_1039_95 {σ : Nat → Nat} {n0 : Nat} {bf : ab_B} : decode (ab_code (zx σ n0 bf).1 1039) 95 = .ok (.iadd, 1) := zd zm_1039 (by decide +kernel)
theorem d_1039_96 {σ : Nat → Nat} {n0 : Nat} {bf : ab_B} : decode (ab_code (zx σ n0 bf).1 1039) 96 = .ok (.baload, 1) := zd zm_1039 (by decide +kernel)
theorem d_1039_97 {σ : Nat → Nat} {n0 : Nat} {bf : ab_B} : decode (ab_code (zx σ n0 bf).1 1039) 97 = .ok (.if_icmp .ne 7, 3) := zd zm_1039 (by decide +kernel)
theorem d_1039_100 {σ : Nat → Nat} {n0 : Nat} {bf : ab_B} : decode (ab_code (zx σ n0 bf).1 1039) 100 = .ok (.iconst 1, 1) := zd zm_1039 (by decide +kernel)
theorem d_1039_101 {σ : Nat → Nat} {n0 : Nat} {bf : ab_B} : decode (ab_code (zx σ n0 bf).1 1039) 101 = .ok (.goto 4, 3) := zd zm_1039 (by decide +kernel)
theorem d_1039_104 {σ : Nat → Nat} {n0 : Nat} {bf : ab_B} : decode (ab_code (zx σ n0 bf).1 1039) 104 = .ok (.iconst 0, 1) := zd zm_1039 (by decide +kernel)
theorem d_1039_105 {σ : Nat → Nat} {n0 : Nat} {bf : ab_B} : decode (ab_code (zx σ n0 bf).1 1039) 105 = .ok (.istore 5, 2) := zd zm_1039 (by decide +kernel)
theorem d_1039_107 {σ : Nat → Nat} {n0 : Nat} {bf : ab_B} : decode (ab_code (zx σ n0 bf).1 1039) 107 = .ok (.iinc 6 1, 3) := zd zm_1039 (by decide +kernel)
theorem d_1039_110 {σ : Nat → Nat} {n0 : Nat} {bf : ab_B} : decode (ab_code (zx σ n0 bf).1 1039) 110 = .ok (.goto (-65), 3) := zd zm_1039 (by decide +kernel)
theorem d_1039_113 {σ : Nat → Nat} {n0 : Nat} {bf : ab_B} : decode (ab_code (zx σ n0 bf).1 1039) 113 = .ok (.iload 5, 2) := zd zm_1039 (by decide +kernel)
theorem d_1039_115 {σ : Nat → Nat} {n0 : Nat} {bf : ab_B} : decode (ab_code (zx σ n0 bf).1 1039) 115 = .ok (.ifCond .eq 10, 3) := zd zm_1039 (by decide +kernel)
theorem d_1039_118 {σ : Nat → Nat} {n0 : Nat} {bf : ab_B} : decode (ab_code (zx σ n0 bf).1 1039) 118 = .ok (.iload 4, 2) := zd zm_1039 (by decide +kernel)
theorem d_1039_120 {σ : Nat → Nat} {n0 : Nat} {bf : ab_B} : decode (ab_code (zx σ n0 bf).1 1039) 120 = .ok (.iconst 1, 1) := zd zm_1039 (by decide +kernel)
theorem d_1039_121 {σ : Nat → Nat} {n0 : Nat} {bf : ab_B} : decode (ab_code (zx σ n0 bf).1 1039) 121 = .ok (.iadd, 1) := zd zm_1039 (by decide +kernel)
theorem d_1039_122 {σ : Nat → Nat} {n0 : Nat} {bf : ab_B} : decode (ab_code (zx σ n0 bf).1 1039) 122 = .ok (.goto 4, 3) := zd zm_1039 (by decide +kernel)
theorem d_1039_125 {σ : Nat → Nat} {n0 : Nat} {bf : ab_B} : decode (ab_code (zx σ n0 bf).1 1039) 125 = .ok (.iconst 0, 1) := zd zm_1039 (by decide +kernel)
theorem d_1039_126 {σ : Nat → Nat} {n0 : Nat} {bf : ab_B} : decode (ab_code (zx σ n0 bf).1 1039) 126 = .ok (.istore_n 3, 1) := zd zm_1039 (by decide +kernel)
theorem d_1039_127 {σ : Nat → Nat} {n0 : Nat} {bf : ab_B} : decode (ab_code (zx σ n0 bf).1 1039) 127 = .ok (.iinc 4 1, 3) := zd zm_1039 (by decide +kernel)
theorem d_1039_130 {σ : Nat → Nat} {n0 : Nat} {bf : ab_B} : decode (ab_code (zx σ n0 bf).1 1039) 130 = .ok (.goto (-103), 3) := zd zm_1039 (by decide +kernel)
theorem d_1039_133 {σ : Nat → Nat} {n0 : Nat} {bf : ab_B} : decode (ab_code (zx σ n0 bf).1 1039) 133 = .ok (.aload_n 0, 1) := zd zm_1039 (by decide +kernel)
theorem d_1039_134 {σ : Nat → Nat} {n0 : Nat} {bf : ab_B} : decode (ab_code (zx σ n0 bf).1 1039) 134 = .ok (.dup, 1) := zd zm_1039 (by decide +kernel)
theorem d_1039_135 {σ : Nat → Nat} {n0 : Nat} {bf : ab_B} : decode (ab_code (zx σ n0 bf).1 1039) 135 = .ok (.getfield 114, 3) := zd zm_1039 (by decide +kernel)
theorem d_1039_138 {σ : Nat → Nat} {n0 : Nat} {bf : ab_B} : decode (ab_code (zx σ n0 bf).1 1039) 138 = .ok (.iconst 2, 1) := zd zm_1039 (by decide +kernel)
theorem d_1039_139 {σ : Nat → Nat} {n0 : Nat} {bf : ab_B} : decode (ab_code (zx σ n0 bf).1 1039) 139 = .ok (.isub, 1) := zd zm_1039 (by decide +kernel)
theorem d_1039_140 {σ : Nat → Nat} {n0 : Nat} {bf : ab_B} : decode (ab_code (zx σ n0 bf).1 1039) 140 = .ok (.putfield 114, 3) := zd zm_1039 (by decide +kernel)
theorem d_1039_143 {σ : Nat → Nat} {n0 : Nat} {bf : ab_B} : decode (ab_code (zx σ n0 bf).1 1039) 143 = .ok (.aload_n 0, 1) := zd zm_1039 (by decide +kernel)
theorem d_1039_144 {σ : Nat → Nat} {n0 : Nat} {bf : ab_B} : decode (ab_code (zx σ n0 bf).1 1039) 144 = .ok (.aload_n 0, 1) := zd zm_1039 (by decide +kernel)
theorem d_1039_145 {σ : Nat → Nat} {n0 : Nat} {bf : ab_B} : decode (ab_code (zx σ n0 bf).1 1039) 145 = .ok (.getfield 46, 3) := zd zm_1039 (by decide +kernel)
theorem d_1039_148 {σ : Nat → Nat} {n0 : Nat} {bf : ab_B} : decode (ab_code (zx σ n0 bf).1 1039) 148 = .ok (.aload_n 0, 1) := zd zm_1039 (by decide +kernel)
theorem d_1039_149 {σ : Nat → Nat} {n0 : Nat} {bf : ab_B} : decode (ab_code (zx σ n0 bf).1 1039) 149 = .ok (.getfield 114, 3) := zd zm_1039 (by decide +kernel)
theorem d_1039_152 {σ : Nat → Nat} {n0 : Nat} {bf : ab_B} : decode (ab_code (zx σ n0 bf).1 1039) 152 = .ok (.iaload, 1) := zd zm_1039 (by decide +kernel)
theorem d_1039_153 {σ : Nat → Nat} {n0 : Nat} {bf : ab_B} : decode (ab_code (zx σ n0 bf).1 1039) 153 = .ok (.putfield 117, 3) := zd zm_1039 (by decide +kernel)
theorem d_1039_156 {σ : Nat → Nat} {n0 : Nat} {bf : ab_B} : decode (ab_code (zx σ n0 bf).1 1039) 156 = .ok (.aload_n 0, 1) := zd zm_1039 (by decide +kernel)
theorem d_1039_157 {σ : Nat → Nat} {n0 : Nat} {bf : ab_B} : decode (ab_code (zx σ n0 bf).1 1039) 157 = .ok (.iload_n 3, 1) := zd zm_1039 (by decide +kernel)
theorem d_1039_158 {σ : Nat → Nat} {n0 : Nat} {bf : ab_B} : decode (ab_code (zx σ n0 bf).1 1039) 158 = .ok (.i2l, 1) := zd zm_1039 (by decide +kernel)
theorem d_1039_159 {σ : Nat → Nat} {n0 : Nat} {bf : ab_B} : decode (ab_code (zx σ n0 bf).1 1039) 159 = .ok (.invokevirtual 223, 3) := zd zm_1039 (by decide +kernel)
theorem d_1039_162 {σ : Nat → Nat} {n0 : Nat} {bf : ab_B} : decode (ab_code (zx σ n0 bf).1 1039) 162 = .ok (.return_, 1) := zd zm_1039 (by decide +kernel)
def w_X2_where_24 (X : zs_X) (d : Nat) (p0 : Nat) (p1 : Int32) (p2 : Int32) (p3 : Int32) (S : zs_T) (Q : zs_Q) : Prop :=
  (zs_U X d 1039 27 [(0, .ref p0), (1, .int p1), (2, .int p2), (3, .int p3), (4, .int (0 : Int32))] [] S Q)
theorem u_X2_where_24 {σ : Nat → Nat} {n0 : Nat} {bf : ab_B} {d : Nat} {p0 : Nat} {p1 : Int32} {p2 : Int32} {p3 : Int32} {S : zs_T} {Q : zs_Q} (hB : zt_B bf) (h : w_X2_where_24 (zx σ n0 bf) d p0 p1 p2 p3 S Q) : zs_U (zx σ n0 bf) d 1039 24 [(0, .ref p0), (1, .int p1), (2, .int p2), (3, .int p3)] [] S Q := by
  unfold w_X2_where_24 at h
  refine zu_iconst d_1039_24 zi_0 ?_
  refine zu_istore d_1039_25 (zs_lt zq_1039 rfl) ?_
  exact h.weak ⟨rfl, rfl, rfl, rfl, rfl, trivial⟩
def w_X2_where_162 (X : zs_X) (d : Nat)  (S : zs_T) (Q : zs_Q) : Prop :=
  (Q (.returned none) S)
theorem u_X2_where_162 {σ : Nat → Nat} {n0 : Nat} {bf : ab_B} {d : Nat}  {S : zs_T} {Q : zs_Q} (hB : zt_B bf) (h : w_X2_where_162 (zx σ n0 bf) d  S Q) : zs_U (zx σ n0 bf) d 1039 162 [] [] S Q := by
  unfold w_X2_where_162 at h
  exact zu_vret d_1039_162 zr_1039 h
def w_X2_where_133 (X : zs_X) (d : Nat) (p0 : Nat) (p3 : Int32) (S : zs_T) (Q : zs_Q) : Prop :=
  (zs_K S p0 = some (.inl 1) ∧ ab_n0 X.1 ≤ p0 ∧ ∀ S3, S3 = zs_sI S 1010 p0 ((zs_I S 1010 p0) - (2 : Int32)) → ∃ b6, (zs_R S3 1009 p0) = some b6 ∧ zs_A S b6 0 (zs_I S3 1010 p0) ∧ ∀ S9, S9 = zs_sI S3 1011 p0 (zs_i S3 b6 (zs_I S3 1010 p0).toNatClampNeg) → zs_C X d 1009 [.ref p0, .long ((p3).toInt64)] S9 (zs_kV (fun S12 => w_X2_where_162 X d  S12 Q) Q))
theorem u_X2_where_133 {σ : Nat → Nat} {n0 : Nat} {bf : ab_B} {d : Nat} {p0 : Nat} {p3 : Int32} {S : zs_T} {Q : zs_Q} (hB : zt_B bf) (h : w_X2_where_133 (zx σ n0 bf) d p0 p3 S Q) : zs_U (zx σ n0 bf) d 1039 133 [(0, .ref p0), (3, .int p3)] [] S Q := by
  unfold w_X2_where_133 at h
  refine zu_aload_n d_1039_133 rfl (zs_ra _) ?_
  refine zu_dup d_1039_134 rfl ?_
  obtain ⟨k1, h⟩ := h
  refine zg_1_114 rfl d_1039_135 k1 ?_
  refine zu_iconst d_1039_138 zi_2 ?_
  refine zu_stk d_1039_139 rfl rfl ?_
  obtain ⟨k2, h⟩ := h
  refine zp_1_114 (v := ((zs_I S 1010 p0) - (2 : Int32))) rfl d_1039_140 k1 k2 ?_
  generalize e4 : zs_sI S 1010 p0 ((zs_I S 1010 p0) - (2 : Int32)) = S3
  have h := h S3 e4.symm
  have K5 : ∀ b, zs_K S3 b = zs_K S b := zs_Kt e4 (zs_KsI _ _ _ _) (fun _ => rfl)
  refine zu_aload_n d_1039_143 rfl (zs_ra _) ?_
  refine zu_aload_n d_1039_144 rfl (zs_ra _) ?_
  refine zg_1_46 rfl d_1039_145 ((K5 _).trans k1) ?_
  refine zu_aload_n d_1039_148 rfl (zs_ra _) ?_
  refine zg_1_114 rfl d_1039_149 ((K5 _).trans k1) ?_
  obtain ⟨b6, e7, h⟩ := h
  refine zs_stk1 (zs_rfe e7) ?_
  obtain ⟨k8, h⟩ := h
  refine zu_iald (k := 0) d_1039_152 rfl rfl (zs_Ak K5 k8) ?_
  refine zp_1_117 (v := (zs_i S3 b6 (zs_I S3 1010 p0).toNatClampNeg)) rfl d_1039_153 ((K5 _).trans k1) k2 ?_
  generalize e10 : zs_sI S3 1011 p0 (zs_i S3 b6 (zs_I S3 1010 p0).toNatClampNeg) = S9
  have h := h S9 e10.symm
  have K11 : ∀ b, zs_K S9 b = zs_K S b := zs_Kt e10 (zs_KsI _ _ _ _) K5
  refine zu_aload_n d_1039_156 rfl (zs_ra _) ?_
  refine zu_iload_n d_1039_157 rfl ?_
  refine zu_stk d_1039_158 rfl rfl ?_
  refine zc_1_223 (x0 := ((p3).toInt64)) hB rfl ((K11 _).trans k1) d_1039_159 (Nat.le_of_ble_eq_true rfl) h (fun S12 h => ?_)
  exact (u_X2_where_162 hB h).weak trivial
def w_X2_where_27 (X : zs_X) (d : Nat) (p0 : Nat) (p1 : Int32) (p2 : Int32) (p3 : Int32) (p4 : Int32) (S : zs_T) (Q : zs_Q) : Prop :=
  (((p1 < (p4 + p2) → w_X2_where_133 X d p0 p3 S Q) ∧ (¬ (p1 < (p4 + p2)) → (((¬ p3 = 0 → w_X2_where_133 X d p0 p3 S Q) ∧ (¬ (¬ p3 = 0) → (zs_U X d 1039 45 [(0, .ref p0), (1, .int p1), (2, .int p2), (4, .int p4), (5, .int (1 : Int32)), (6, .int (0 : Int32))] [] S Q)))))))
theorem u_X2_where_27 {σ : Nat → Nat} {n0 : Nat} {bf : ab_B} {d : Nat} {p0 : Nat} {p1 : Int32} {p2 : Int32} {p3 : Int32} {p4 : Int32} {S : zs_T} {Q : zs_Q} (hB : zt_B bf) (h : w_X2_where_27 (zx σ n0 bf) d p0 p1 p2 p3 p4 S Q) : zs_U (zx σ n0 bf) d 1039 27 [(0, .ref p0), (1, .int p1), (2, .int p2), (3, .int p3), (4, .int p4)] [] S Q := by
  unfold w_X2_where_27 at h
  refine zu_iload d_1039_27 rfl ?_
  refine zu_iload_n d_1039_29 rfl ?_
  refine zu_stk d_1039_30 rfl rfl ?_
  refine zu_iload_n d_1039_31 rfl ?_
  refine zu_cmpgt (t := 133) d_1039_32 rfl (fun c1 => ?_) (fun c1 => ?_)
  · have h := h.1 c1
    exact (u_X2_where_133 hB h).weak ⟨rfl, rfl, trivial⟩
  · have h := h.2 c1
    refine zu_iload_n d_1039_35 rfl ?_
    refine zu_ifne (t := 133) d_1039_36 rfl (fun c2 => ?_) (fun c2 => ?_)
    · have h := h.1 c2
      exact (u_X2_where_133 hB h).weak ⟨rfl, rfl, trivial⟩
    · have h := h.2 c2
      refine zu_iconst d_1039_39 zi_1 ?_
      refine zu_istore d_1039_40 (zs_lt zq_1039 rfl) ?_
      refine zu_iconst d_1039_42 zi_0 ?_
      refine zu_istore d_1039_43 (zs_lt zq_1039 rfl) ?_
      exact h.weak ⟨rfl, rfl, rfl, rfl, rfl, rfl, trivial⟩
def w_X2_where_113 (X : zs_X) (d : Nat) (p0 : Nat) (p1 : Int32) (p2 : Int32) (p4 : Int32) (p5 : Int32) (S : zs_T) (Q : zs_Q) : Prop :=
  (((p5 = 0 → (zs_U X d 1039 27 [(0, .ref p0), (1, .int p1), (2, .int p2), (3, .int (0 : Int32)), (4, .int (p4 + (1 : Int32)))] [] S Q)) ∧ (¬ (p5 = 0) → (zs_U X d 1039 27 [(0, .ref p0), (1, .int p1), (2, .int p2), (3, .int (p4 + (1 : Int32))), (4, .int (p4 + (1 : Int32)))] [] S Q))))
theorem u_X2_where_113 {σ : Nat → Nat} {n0 : Nat} {bf : ab_B} {d : Nat} {p0 : Nat} {p1 : Int32} {p2 : Int32} {p4 : Int32} {p5 : Int32} {S : zs_T} {Q : zs_Q} (hB : zt_B bf) (h : w_X2_where_113 (zx σ n0 bf) d p0 p1 p2 p4 p5 S Q) : zs_U (zx σ n0 bf) d 1039 113 [(0, .ref p0), (1, .int p1), (2, .int p2), (4, .int p4), (5, .int p5)] [] S Q := by
  unfold w_X2_where_113 at h
  refine zu_iload d_1039_113 rfl ?_
  refine zu_ifeq (t := 125) d_1039_115 rfl (fun c1 => ?_) (fun c1 => ?_)
  · have h := h.1 c1
    refine zu_iconst d_1039_125 zi_0 ?_
    refine zu_istore_n d_1039_126 (zs_lt zq_1039 rfl) ?_
    refine zu_iinc d_1039_127 rfl zi_1 (zs_lt zq_1039 rfl) ?_
    refine zu_goto (t := 27) d_1039_130 rfl ?_
    exact h.weak ⟨rfl, rfl, rfl, rfl, rfl, trivial⟩
  · have h := h.2 c1
    refine zu_iload d_1039_118 rfl ?_
    refine zu_iconst d_1039_120 zi_1 ?_
    refine zu_stk d_1039_121 rfl rfl ?_
    refine zu_goto (t := 126) d_1039_122 rfl ?_
    refine zu_istore_n d_1039_126 (zs_lt zq_1039 rfl) ?_
    refine zu_iinc d_1039_127 rfl zi_1 (zs_lt zq_1039 rfl) ?_
    refine zu_goto (t := 27) d_1039_130 rfl ?_
    exact h.weak ⟨rfl, rfl, rfl, rfl, rfl, trivial⟩
def w_X2_where_104 (X : zs_X) (d : Nat) (p0 : Nat) (p1 : Int32) (p2 : Int32) (p4 : Int32) (p6 : Int32) (S : zs_T) (Q : zs_Q) : Prop :=
  (zs_U X d 1039 45 [(0, .ref p0), (1, .int p1), (2, .int p2), (4, .int p4), (5, .int (0 : Int32)), (6, .int (p6 + (1 : Int32)))] [] S Q)
theorem u_X2_where_104 {σ : Nat → Nat} {n0 : Nat} {bf : ab_B} {d : Nat} {p0 : Nat} {p1 : Int32} {p2 : Int32} {p4 : Int32} {p6 : Int32} {S : zs_T} {Q : zs_Q} (hB : zt_B bf) (h : w_X2_where_104 (zx σ n0 bf) d p0 p1 p2 p4 p6 S Q) : zs_U (zx σ n0 bf) d 1039 104 [(0, .ref p0), (1, .int p1), (2, .int p2), (4, .int p4), (6, .int p6)] [] S Q := by
  unfold w_X2_where_104 at h
  refine zu_iconst d_1039_104 zi_0 ?_
  refine zu_istore d_1039_105 (zs_lt zq_1039 rfl) ?_
  refine zu_iinc d_1039_107 rfl zi_1 (zs_lt zq_1039 rfl) ?_
  refine zu_goto (t := 45) d_1039_110 rfl ?_
  exact h.weak ⟨rfl, rfl, rfl, rfl, rfl, rfl, trivial⟩
def w_X2_where_100 (X : zs_X) (d : Nat) (p0 : Nat) (p1 : Int32) (p2 : Int32) (p4 : Int32) (p6 : Int32) (S : zs_T) (Q : zs_Q) : Prop :=
  (zs_U X d 1039 45 [(0, .ref p0), (1, .int p1), (2, .int p2), (4, .int p4), (5, .int (1 : Int32)), (6, .int (p6 + (1 : Int32)))] [] S Q)
theorem u_X2_where_100 {σ : Nat → Nat} {n0 : Nat} {bf : ab_B} {d : Nat} {p0 : Nat} {p1 : Int32} {p2 : Int32} {p4 : Int32} {p6 : Int32} {S : zs_T} {Q : zs_Q} (hB : zt_B bf) (h : w_X2_where_100 (zx σ n0 bf) d p0 p1 p2 p4 p6 S Q) : zs_U (zx σ n0 bf) d 1039 100 [(0, .ref p0), (1, .int p1), (2, .int p2), (4, .int p4), (6, .int p6)] [] S Q := by
  unfold w_X2_where_100 at h
  refine zu_iconst d_1039_100 zi_1 ?_
  refine zu_goto (t := 105) d_1039_101 rfl ?_
  refine zu_istore d_1039_105 (zs_lt zq_1039 rfl) ?_
  refine zu_iinc d_1039_107 rfl zi_1 (zs_lt zq_1039 rfl) ?_
  refine zu_goto (t := 45) d_1039_110 rfl ?_
  exact h.weak ⟨rfl, rfl, rfl, rfl, rfl, rfl, trivial⟩
def w_X2_where_45 (X : zs_X) (d : Nat) (p0 : Nat) (p1 : Int32) (p2 : Int32) (p4 : Int32) (p5 : Int32) (p6 : Int32) (S : zs_T) (Q : zs_Q) : Prop :=
  (((p2 ≤ p6 → w_X2_where_113 X d p0 p1 p2 p4 p5 S Q) ∧ (¬ (p2 ≤ p6) → (((p5 = 0 → w_X2_where_113 X d p0 p1 p2 p4 p5 S Q) ∧ (¬ (p5 = 0) → (zs_K S p0 = some (.inl 1) ∧ ∃ b4, (zs_R S 1009 p0) = some b4 ∧ zs_A S b4 0 ((zs_I S 1010 p0) - (2 : Int32)) ∧ ∃ b7, (zs_R S 1008 p0) = some b7 ∧ zs_A S b7 1 (((zs_i S b4 ((zs_I S 1010 p0) - (2 : Int32)).toNatClampNeg) + p4) + p6) ∧ zs_A S b4 0 ((zs_I S 1010 p0) - (1 : Int32)) ∧ zs_A S b7 1 ((zs_i S b4 ((zs_I S 1010 p0) - (1 : Int32)).toNatClampNeg) + p6) ∧ ((¬ (zs_i S b7 (((zs_i S b4 ((zs_I S 1010 p0) - (2 : Int32)).toNatClampNeg) + p4) + p6).toNatClampNeg) = (zs_i S b7 ((zs_i S b4 ((zs_I S 1010 p0) - (1 : Int32)).toNatClampNeg) + p6).toNatClampNeg) → w_X2_where_104 X d p0 p1 p2 p4 p6 S Q) ∧ (¬ (¬ (zs_i S b7 (((zs_i S b4 ((zs_I S 1010 p0) - (2 : Int32)).toNatClampNeg) + p4) + p6).toNatClampNeg) = (zs_i S b7 ((zs_i S b4 ((zs_I S 1010 p0) - (1 : Int32)).toNatClampNeg) + p6).toNatClampNeg)) → w_X2_where_100 X d p0 p1 p2 p4 p6 S Q)))))))))
theorem u_X2_where_45 {σ : Nat → Nat} {n0 : Nat} {bf : ab_B} {d : Nat} {p0 : Nat} {p1 : Int32} {p2 : Int32} {p4 : Int32} {p5 : Int32} {p6 : Int32} {S : zs_T} {Q : zs_Q} (hB : zt_B bf) (h : w_X2_where_45 (zx σ n0 bf) d p0 p1 p2 p4 p5 p6 S Q) : zs_U (zx σ n0 bf) d 1039 45 [(0, .ref p0), (1, .int p1), (2, .int p2), (4, .int p4), (5, .int p5), (6, .int p6)] [] S Q := by
  unfold w_X2_where_45 at h
  refine zu_iload d_1039_45 rfl ?_
  refine zu_iload_n d_1039_47 rfl ?_
  refine zu_cmpge (t := 113) d_1039_48 rfl (fun c1 => ?_) (fun c1 => ?_)
  · have h := h.1 c1
    exact (u_X2_where_113 hB h).weak ⟨rfl, rfl, rfl, rfl, rfl, trivial⟩
  · have h := h.2 c1
    refine zu_iload d_1039_51 rfl ?_
    refine zu_ifeq (t := 113) d_1039_53 rfl (fun c2 => ?_) (fun c2 => ?_)
    · have h := h.1 c2
      exact (u_X2_where_113 hB h).weak ⟨rfl, rfl, rfl, rfl, rfl, trivial⟩
    · have h := h.2 c2
      refine zu_aload_n d_1039_56 rfl (zs_ra _) ?_
      obtain ⟨k3, h⟩ := h
      refine zg_1_42 rfl d_1039_57 k3 ?_
      refine zu_aload_n d_1039_60 rfl (zs_ra _) ?_
      refine zg_1_46 rfl d_1039_61 k3 ?_
      refine zu_aload_n d_1039_64 rfl (zs_ra _) ?_
      refine zg_1_114 rfl d_1039_65 k3 ?_
      refine zu_iconst d_1039_68 zi_2 ?_
      refine zu_stk d_1039_69 rfl rfl ?_
      obtain ⟨b4, e5, h⟩ := h
      refine zs_stk1 (zs_rfe e5) ?_
      obtain ⟨k6, h⟩ := h
      refine zu_iald (k := 0) d_1039_70 rfl rfl k6 ?_
      refine zu_iload d_1039_71 rfl ?_
      refine zu_stk d_1039_73 rfl rfl ?_
      refine zu_iload d_1039_74 rfl ?_
      refine zu_stk d_1039_76 rfl rfl ?_
      obtain ⟨b7, e8, h⟩ := h
      refine zs_stk1 (zs_rfe e8) ?_
      obtain ⟨k9, h⟩ := h
      refine zu_bald (k := 1) d_1039_77 rfl (Or.inl rfl) k9 ?_
      refine zu_aload_n d_1039_78 rfl (zs_ra _) ?_
      refine zg_1_42 rfl d_1039_79 k3 ?_
      refine zu_aload_n d_1039_82 rfl (zs_ra _) ?_
      refine zg_1_46 rfl d_1039_83 k3 ?_
      refine zu_aload_n d_1039_86 rfl (zs_ra _) ?_
      refine zg_1_114 rfl d_1039_87 k3 ?_
      refine zu_iconst d_1039_90 zi_1 ?_
      refine zu_stk d_1039_91 rfl rfl ?_
      refine zs_stk1 (zs_rfe e5) ?_
      obtain ⟨k10, h⟩ := h
      refine zu_iald (k := 0) d_1039_92 rfl rfl k10 ?_
      refine zu_iload d_1039_93 rfl ?_
      refine zu_stk d_1039_95 rfl rfl ?_
      refine zs_stk1 (zs_rfe e8) ?_
      obtain ⟨k11, h⟩ := h
      refine zu_bald (k := 1) d_1039_96 rfl (Or.inl rfl) k11 ?_
      refine zu_cmpne (t := 104) d_1039_97 rfl (fun c12 => ?_) (fun c12 => ?_)
      · have h := h.1 c12
        exact (u_X2_where_104 hB h).weak ⟨rfl, rfl, rfl, rfl, rfl, trivial⟩
      · have h := h.2 c12
        exact (u_X2_where_100 hB h).weak ⟨rfl, rfl, rfl, rfl, rfl, trivial⟩
def w_X2_where (X : zs_X) (d : Nat) (p0 : Nat) (S : zs_T) (Q : zs_Q) : Prop :=
  (zs_K S p0 = some (.inl 1) ∧ zs_C X d 1033 [.ref p0, .int ((zs_I S 1010 p0) - (2 : Int32))] S (zs_kI (fun v3 S2 => (zs_K S2 p0 = some (.inl 1) ∧ zs_C X d 1033 [.ref p0, .int ((zs_I S2 1010 p0) - (1 : Int32))] S2 (zs_kI (fun v6 S5 => (w_X2_where_24 X d p0 v3 v6 (0 : Int32) S5 Q)) Q))) Q))
theorem u_X2_where {σ : Nat → Nat} {n0 : Nat} {bf : ab_B} {d : Nat} {p0 : Nat} {S : zs_T} {Q : zs_Q} (hB : zt_B bf) (hd : 1 ≤ d) (h : w_X2_where (zx σ n0 bf) (d - 1) p0 S Q) : zs_C (zx σ n0 bf) d 1039 [.ref p0] S Q := by
  have hL : lv_args 0 [.ref p0] = [(0, .ref p0)] := rfl
  refine zs_C.of1 (hB.2 1039 (by decide) (by decide)) hd (by rw [hL]; exact zs_sub_self _ (by exact ⟨rfl, trivial⟩)) ?_
  rw [hL]
  clear hL
  unfold w_X2_where at h
  refine zu_aload_n d_1039_0 rfl (zs_ra _) ?_
  refine zu_aload_n d_1039_1 rfl (zs_ra _) ?_
  obtain ⟨k1, h⟩ := h
  refine zg_1_114 rfl d_1039_2 k1 ?_
  refine zu_iconst d_1039_5 zi_2 ?_
  refine zu_stk d_1039_6 rfl rfl ?_
  refine zc_1_443 (x0 := ((zs_I S 1010 p0) - (2 : Int32))) hB rfl k1 d_1039_7 (Nat.le_of_ble_eq_true rfl) h (fun v3 S2 h => ?_)
  refine zu_istore_n d_1039_10 (zs_lt zq_1039 rfl) ?_
  refine zu_aload_n d_1039_11 rfl (zs_ra _) ?_
  refine zu_aload_n d_1039_12 rfl (zs_ra _) ?_
  obtain ⟨k4, h⟩ := h
  refine zg_1_114 rfl d_1039_13 k4 ?_
  refine zu_iconst d_1039_16 zi_1 ?_
  refine zu_stk d_1039_17 rfl rfl ?_
  refine zc_1_443 (x0 := ((zs_I S2 1010 p0) - (1 : Int32))) hB rfl k4 d_1039_18 (Nat.le_of_ble_eq_true rfl) h (fun v6 S5 h => ?_)
  refine zu_istore_n d_1039_21 (zs_lt zq_1039 rfl) ?_
  refine zu_iconst d_1039_22 zi_0 ?_
  refine zu_istore_n d_1039_23 (zs_lt zq_1039 rfl) ?_
  exact (u_X2_where_24 hB h).weak ⟨rfl, rfl, rfl, rfl, trivial⟩
/-! SchemaPascal$Machine.part(I)V -/
theorem zm_1040 {σ : Nat → Nat} {n0 : Nat} {bf : ab_B} : ab_code (zx σ n0 bf).1 1040 = prog_5_method_42_code := rfl
theorem zq_1040 {σ : Nat → Nat} {n0 : Nat} {bf : ab_B} : ab_maxL (zx σ n0 bf).1 1040 = 9 := rfl
theorem zr_1040 {σ : Nat → Nat} {n0 : Nat} {bf : ab_B} : ab_ret (zx σ n0 bf).1 1040 = (Option.none : Option Jvm.ClassFile.FieldType) := rfl
theorem d_1040_0 {σ : Nat → Nat} {n0 : Nat} {bf : ab_B} : decode (ab_code (zx σ n0 bf).1 1040) 0 = .ok (.aload_n 0, 1) := zd zm_1040 (by decide +kernel)
theorem d_1040_1 {σ : Nat → Nat} {n0 : Nat} {bf : ab_B} : decode (ab_code (zx σ n0 bf).1 1040) 1 = .ok (.getfield 36, 3) := zd zm_1040 (by decide +kernel)
theorem d_1040_4 {σ : Nat → Nat} {n0 : Nat} {bf : ab_B} : decode (ab_code (zx σ n0 bf).1 1040) 4 = .ok (.aload_n 0, 1) := zd zm_1040 (by decide +kernel)
theorem d_1040_5 {σ : Nat → Nat} {n0 : Nat} {bf : ab_B} : decode (ab_code (zx σ n0 bf).1 1040) 5 = .ok (.dup, 1) := zd zm_1040 (by decide +kernel)
theorem d_1040_6 {σ : Nat → Nat} {n0 : Nat} {bf : ab_B} : decode (ab_code (zx σ n0 bf).1 1040) 6 = .ok (.getfield 111, 3) := zd zm_1040 (by decide +kernel)
theorem d_1040_9 {σ : Nat → Nat} {n0 : Nat} {bf : ab_B} : decode (ab_code (zx σ n0 bf).1 1040) 9 = .ok (.iconst 1, 1) := zd zm_1040 (by decide +kernel)
theorem d_1040_10 {σ : Nat → Nat} {n0 : Nat} {bf : ab_B} : decode (ab_code (zx σ n0 bf).1 1040) 10 = .ok (.isub, 1) := zd zm_1040 (by decide +kernel)
theorem d_1040_11 {σ : Nat → Nat} {n0 : Nat} {bf : ab_B} : decode (ab_code (zx σ n0 bf).1 1040) 11 = .ok (.dup_x1, 1) := zd zm_1040 (by decide +kernel)
theorem d_1040_12 {σ : Nat → Nat} {n0 : Nat} {bf : ab_B} : decode (ab_code (zx σ n0 bf).1 1040) 12 = .ok (.putfield 111, 3) := zd zm_1040 (by decide +kernel)
theorem d_1040_15 {σ : Nat → Nat} {n0 : Nat} {bf : ab_B} : decode (ab_code (zx σ n0 bf).1 1040) 15 = .ok (.laload, 1) := zd zm_1040 (by decide +kernel)
theorem d_1040_16 {σ : Nat → Nat} {n0 : Nat} {bf : ab_B} : decode (ab_code (zx σ n0 bf).1 1040) 16 = .ok (.lstore_n 2, 1) := zd zm_1040 (by decide +kernel)
theorem d_1040_17 {σ : Nat → Nat} {n0 : Nat} {bf : ab_B} : decode (ab_code (zx σ n0 bf).1 1040) 17 = .ok (.aload_n 0, 1) := zd zm_1040 (by decide +kernel)
theorem d_1040_18 {σ : Nat → Nat} {n0 : Nat} {bf : ab_B} : decode (ab_code (zx σ n0 bf).1 1040) 18 = .ok (.getfield 36, 3) := zd zm_1040 (by decide +kernel)
theorem d_1040_21 {σ : Nat → Nat} {n0 : Nat} {bf : ab_B} : decode (ab_code (zx σ n0 bf).1 1040) 21 = .ok (.aload_n 0, 1) := zd zm_1040 (by decide +kernel)
theorem d_1040_22 {σ : Nat → Nat} {n0 : Nat} {bf : ab_B} : decode (ab_code (zx σ n0 bf).1 1040) 22 = .ok (.dup, 1) := zd zm_1040 (by decide +kernel)
theorem d_1040_23 {σ : Nat → Nat} {n0 : Nat} {bf : ab_B} : decode (ab_code (zx σ n0 bf).1 1040) 23 = .ok (.getfield 111, 3) := zd zm_1040 (by decide +kernel)
theorem d_1040_26 {σ : Nat → Nat} {n0 : Nat} {bf : ab_B} : decode (ab_code (zx σ n0 bf).1 1040) 26 = .ok (.iconst 1, 1) := zd zm_1040 (by decide +kernel)
theorem d_1040_27 {σ : Nat → Nat} {n0 : Nat} {bf : ab_B} : decode (ab_code (zx σ n0 bf).1 1040) 27 = .ok (.isub, 1) := zd zm_1040 (by decide +kernel)
theorem d_1040_28 {σ : Nat → Nat} {n0 : Nat} {bf : ab_B} : decode (ab_code (zx σ n0 bf).1 1040) 28 = .ok (.dup_x1, 1) := zd zm_1040 (by decide +kernel)
theorem d_1040_29 {σ : Nat → Nat} {n0 : Nat} {bf : ab_B} : decode (ab_code (zx σ n0 bf).1 1040) 29 = .ok (.putfield 111, 3) := zd zm_1040 (by decide +kernel)
theorem d_1040_32 {σ : Nat → Nat} {n0 : Nat} {bf : ab_B} : decode (ab_code (zx σ n0 bf).1 1040) 32 = .ok (.laload, 1) := zd zm_1040 (by decide +kernel)
theorem d_1040_33 {σ : Nat → Nat} {n0 : Nat} {bf : ab_B} : decode (ab_code (zx σ n0 bf).1 1040) 33 = .ok (.lstore 4, 2) := zd zm_1040 (by decide +kernel)
theorem d_1040_35 {σ : Nat → Nat} {n0 : Nat} {bf : ab_B} : decode (ab_code (zx σ n0 bf).1 1040) 35 = .ok (.aload_n 0, 1) := zd zm_1040 (by decide +kernel)
theorem d_1040_36 {σ : Nat → Nat} {n0 : Nat} {bf : ab_B} : decode (ab_code (zx σ n0 bf).1 1040) 36 = .ok (.aload_n 0, 1) := zd zm_1040 (by decide +kernel)
theorem d_1040_37 {σ : Nat → Nat} {n0 : Nat} {bf : ab_B} : decode (ab_code (zx σ n0 bf).1 1040) 37 = .ok (.getfield 114, 3) := zd zm_1040 (by decide +kernel)
theorem d_1040_40 {σ : Nat → Nat} {n0 : Nat} {bf : ab_B} : decode (ab_code (zx σ n0 bf).1 1040) 40 = .ok (.iconst 1, 1) := zd zm_1040 (by decide +kernel)
theorem d_1040_41 {σ : Nat → Nat} {n0 : Nat} {bf : ab_B} : decode (ab_code (zx σ n0 bf).1 1040) 41 = .ok (.isub, 1) := zd zm_1040 (by decide +kernel)
theorem d_1040_42 {σ : Nat → Nat} {n0 : Nat} {bf : ab_B} : decode (ab_code (zx σ n0 bf).1 1040) 42 = .ok (.invokevirtual 443, 3) := zd zm_1040 (by decide +kernel)
theorem d_1040_45 {σ : Nat → Nat} {n0 : Nat} {bf : ab_B} : decode (ab_code (zx σ n0 bf).1 1040) 45 = .ok (.istore 6, 2) := zd zm_1040 (by decide +kernel)
theorem d_1040_47 {σ : Nat → Nat} {n0 : Nat} {bf : ab_B} : decode (ab_code (zx σ n0 bf).1 1040) 47 = .ok (.lload 4, 2) := zd zm_1040 (by decide +kernel)
theorem d_1040_49 {σ : Nat → Nat} {n0 : Nat} {bf : ab_B} : decode (ab_code (zx σ n0 bf).1 1040) 49 = .ok (.lconst 1, 1) := zd zm_1040 (by decide +kernel)
theorem d_1040_50 {σ : Nat → Nat} {n0 : Nat} {bf : ab_B} : decode (ab_code (zx σ n0 bf).1 1040) 50 = .ok (.lcmp, 1) := zd zm_1040 (by decide +kernel)
theorem d_1040_51 {σ : Nat → Nat} {n0 : Nat} {bf : ab_B} : decode (ab_code (zx σ n0 bf).1 1040) 51 = .ok (.ifCond .lt 22, 3) := zd zm_1040 (by decide +kernel)
theorem d_1040_54 {σ : Nat → Nat} {n0 : Nat} {bf : ab_B} : decode (ab_code (zx σ n0 bf).1 1040) 54 = .ok (.lload_n 2, 1) := zd zm_1040 (by decide +kernel)
theorem d_1040_55 {σ : Nat → Nat} {n0 : Nat} {bf : ab_B} : decode (ab_code (zx σ n0 bf).1 1040) 55 = .ok (.lconst 0, 1) := zd zm_1040 (by decide +kernel)
theorem d_1040_56 {σ : Nat → Nat} {n0 : Nat} {bf : ab_B} : decode (ab_code (zx σ n0 bf).1 1040) 56 = .ok (.lcmp, 1) := zd zm_1040 (by decide +kernel)
theorem d_1040_57 {σ : Nat → Nat} {n0 : Nat} {bf : ab_B} : decode (ab_code (zx σ n0 bf).1 1040) 57 = .ok (.ifCond .lt 16, 3) := zd zm_1040 (by decide +kernel)
theorem d_1040_60 {σ : Nat → Nat} {n0 : Nat} {bf : ab_B} : decode (ab_code (zx σ n0 bf).1 1040) 60 = .ok (.lload 4, 2) := zd zm_1040 (by decide +kernel)
theorem d_1040_62 {σ : Nat → Nat} {n0 : Nat} {bf : ab_B} : decode (ab_code (zx σ n0 bf).1 1040) 62 = .ok (.lload_n 2, 1) := zd zm_1040 (by decide +kernel)
theorem d_1040_63 {σ : Nat → Nat} {n0 : Nat} {bf : ab_B} : decode (ab_code (zx σ n0 bf).1 1040) 63 = .ok (.ladd, 1) := zd zm_1040 (by decide +kernel)
theorem d_1040_64 {σ : Nat → Nat} {n0 : Nat} {bf : ab_B} : decode (ab_code (zx σ n0 bf).1 1040) 64 = .ok (.lconst 1, 1) := zd zm_1040 (by decide +kernel)
theorem d_1040_65 {σ : Nat → Nat} {n0 : Nat} {bf : ab_B} : decode (ab_code (zx σ n0 bf).1 1040) 65 = .ok (.lsub, 1) := zd zm_1040 (by decide +kernel)
theorem d_1040_66 {σ : Nat → Nat} {n0 : Nat} {bf : ab_B} : decode (ab_code (zx σ n0 bf).1 1040) 66 = .ok (.iload 6, 2) := zd zm_1040 (by decide +kernel)
theorem d_1040_68 {σ : Nat → Nat} {n0 : Nat} {bf : ab_B} : decode (ab_code (zx σ n0 bf).1 1040) 68 = .ok (.i2l, 1) := zd zm_1040 (by decide +kernel)
theorem d_1040_69 {σ : Nat → Nat} {n0 : Nat} {bf : ab_B} : decode (ab_code (zx σ n0 bf).1 1040) 69 = .ok (.lcmp, 1) := zd zm_1040 (by decide +kernel)
theorem d_1040_70 {σ : Nat → Nat} {n0 : Nat} {bf : ab_B} : decode (ab_code (zx σ n0 bf).1 1040) 70 = .ok (.ifCond .le 11, 3) := zd zm_1040 (by decide +kernel)
theorem d_1040_73 {σ : Nat → Nat} {n0 : Nat} {bf : ab_B} : decode (ab_code (zx σ n0 bf).1 1040) 73 = .ok (.aload_n 0, 1) := zd zm_1040 (by decide +kernel)
theorem d_1040_74 {σ : Nat → Nat} {n0 : Nat} {bf : ab_B} : decode (ab_code (zx σ n0 bf).1 1040) 74 = .ok (.iconst 2, 1) := zd zm_1040 (by decide +kernel)
theorem d_1040_75 {σ : Nat → Nat} {n0 : Nat} {bf : ab_B} : decode (ab_code (zx σ n0 bf).1 1040) 75 = .ok (.iload_n 1, 1) := zd zm_1040 (by decide +kernel)
theorem d_1040_76 {σ : Nat → Nat} {n0 : Nat} {bf : ab_B} : decode (ab_code (zx σ n0 bf).1 1040) 76 = .ok (.invokevirtual 194, 3) := zd zm_1040 (by decide +kernel)
theorem d_1040_79 {σ : Nat → Nat} {n0 : Nat} {bf : ab_B} : decode (ab_code (zx σ n0 bf).1 1040) 79 = .ok (.pop, 1) := zd zm_1040 (by decide +kernel)
theorem d_1040_80 {σ : Nat → Nat} {n0 : Nat} {bf : ab_B} : decode (ab_code (zx σ n0 bf).1 1040) 80 = .ok (.return_, 1) := zd zm_1040 (by decide +kernel)
theorem d_1040_81 {σ : Nat → Nat} {n0 : Nat} {bf : ab_B} : decode (ab_code (zx σ n0 bf).1 1040) 81 = .ok (.aload_n 0, 1) := zd zm_1040 (by decide +kernel)
theorem d_1040_82 {σ : Nat → Nat} {n0 : Nat} {bf : ab_B} : decode (ab_code (zx σ n0 bf).1 1040) 82 = .ok (.getfield 46, 3) := zd zm_1040 (by decide +kernel)
theorem d_1040_85 {σ : Nat → Nat} {n0 : Nat} {bf : ab_B} : decode (ab_code (zx σ n0 bf).1 1040) 85 = .ok (.aload_n 0, 1) := zd zm_1040 (by decide +kernel)
theorem d_1040_86 {σ : Nat → Nat} {n0 : Nat} {bf : ab_B} : decode (ab_code (zx σ n0 bf).1 1040) 86 = .ok (.getfield 114, 3) := zd zm_1040 (by decide +kernel)
theorem d_1040_89 {σ : Nat → Nat} {n0 : Nat} {bf : ab_B} : decode (ab_code (zx σ n0 bf).1 1040) 89 = .ok (.iconst 1, 1) := zd zm_1040 (by decide +kernel)
theorem d_1040_90 {σ : Nat → Nat} {n0 : Nat} {bf : ab_B} : decode (ab_code (zx σ n0 bf).1 1040) 90 = .ok (.isub, 1) := zd zm_1040 (by decide +kernel)
theorem d_1040_91 {σ : Nat → Nat} {n0 : Nat} {bf : ab_B} : decode (ab_code (zx σ n0 bf).1 1040) 91 = .ok (.iaload, 1) := zd zm_1040 (by decide +kernel)
theorem d_1040_92 {σ : Nat → Nat} {n0 : Nat} {bf : ab_B} : decode (ab_code (zx σ n0 bf).1 1040) 92 = .ok (.istore 7, 2) := zd zm_1040 (by decide +kernel)
theorem d_1040_94 {σ : Nat → Nat} {n0 : Nat} {bf : ab_B} : decode (ab_code (zx σ n0 bf).1 1040) 94 = .ok (.iconst 0, 1) := zd zm_1040 (by decide +kernel)
theorem d_1040_95 {σ : Nat → Nat} {n0 : Nat} {bf : ab_B} : decode (ab_code (zx σ n0 bf).1 1040) 95 = .ok (.istore 8, 2) := zd zm_1040 (by decide +kernel)
theorem d_1040_97 {σ : Nat → Nat} {n0 : Nat} {bf : ab_B} : decode (ab_code (zx σ n0 bf).1 1040) 97 = .ok (.iload 8, 2) := zd zm_1040 (by decide +kernel)
theorem d_1040_99 {σ : Nat → Nat} {n0 : Nat} {bf : ab_B} : decode (ab_code (zx σ n0 bf).1 1040) 99 = .ok (.i2l, 1) := zd zm_1040 (by decide +kernel)
theorem d_1040_100 {σ : Nat → Nat} {n0 : Nat} {bf : ab_B} : decode (ab_code (zx σ n0 bf).1 1040) 100 = .ok (.lload_n 2, 1) := zd zm_1040 (by decide +kernel)
theorem d_1040_101 {σ : Nat → Nat} {n0 : Nat} {bf : ab_B} : decode (ab_code (zx σ n0 bf).1 1040) 101 = .ok (.lcmp, 1) := zd zm_1040 (by decide +kernel)
theorem d_1040_102 {σ : Nat → Nat} {n0 : Nat} {bf : ab_B} : decode (ab_code (zx σ n0 bf).1 1040) 102 = .ok (.ifCond .ge 35, 3) := zd zm_1040 (by decide +kernel)
theorem d_1040_105 {σ : Nat → Nat} {n0 : Nat} {bf : ab_B} : decode (ab_code (zx σ n0 bf).1 1040) 105 = .ok (.aload_n 0, 1) := zd zm_1040 (by decide +kernel)
theorem d_1040_106 {σ : Nat → Nat} {n0 : Nat} {bf : ab_B} : decode (ab_code (zx σ n0 bf).1 1040) 106 = .ok (.getfield 42, 3) := zd zm_1040 (by decide +kernel)
theorem d_1040_109 {σ : Nat → Nat} {n0 : Nat} {bf : ab_B} : decode (ab_code (zx σ n0 bf).1 1040) 109 = .ok (.iload 7, 2) := zd zm_1040 (by decide +kernel)
theorem d_1040_111 {σ : Nat → Nat} {n0 : Nat} {bf : ab_B} : decode (ab_code (zx σ n0 bf).1 1040) 111 = .ok (.iload 8, 2) := zd zm_1040 (by decide +kernel)
theorem d_1040_113 {σ : Nat → Nat} {n0 : Nat} {bf : ab_B} : decode (ab_code (zx σ n0 bf).1 1040) 113 = .ok (.iadd, 1) := zd zm_1040 (by decide +kernel)
theorem d_1040_114 {σ : Nat → Nat} {n0 : Nat} {bf : ab_B} : decode (ab_code (zx σ n0 bf).1 1040) 114 = .ok (.aload_n 0, 1) := zd zm_1040 (by decide +kernel)
theorem d_1040_115 {σ : Nat → Nat} {n0 : Nat} {bf : ab_B} : decode (ab_code (zx σ n0 bf).1 1040) 115 = .ok (.getfield 42, 3) := zd zm_1040 (by decide +kernel)
theorem d_1040_118 {σ : Nat → Nat} {n0 : Nat} {bf : ab_B} : decode (ab_code (zx σ n0 bf).1 1040) 118 = .ok (.iload 7, 2) := zd zm_1040 (by decide +kernel)
theorem d_1040_120 {σ : Nat → Nat} {n0 : Nat} {bf : ab_B} : decode (ab_code (zx σ n0 bf).1 1040) 120 = .ok (.lload 4, 2) := zd zm_1040 (by decide +kernel)
theorem d_1040_122 {σ : Nat → Nat} {n0 : Nat} {bf : ab_B} : decode (ab_code (zx σ n0 bf).1 1040) 122 = .ok (.l2i, 1) := zd zm_1040 (by decide +kernel)
theorem d_1040_123 {σ : Nat → Nat} {n0 : Nat} {bf : ab_B} : decode (ab_code (zx σ n0 bf).1 1040) 123 = .ok (.iadd, 1) := zd zm_1040 (by decide +kernel)
theorem d_1040_124 {σ : Nat → Nat} {n0 : Nat} {bf : ab_B} : decode (ab_code (zx σ n0 bf).1 1040) 124 = .ok (.iconst 1, 1) := zd zm_1040 (by decide +kernel)
theorem d_1040_125 {σ : Nat → Nat} {n0 : Nat} {bf : ab_B} : decode (ab_code (zx σ n0 bf).1 1040) 125 = .ok (.isub, 1) := zd zm_1040 (by decide +kernel)
theorem d_1040_126 {σ : Nat → Nat} {n0 : Nat} {bf : ab_B} : decode (ab_code (zx σ n0 bf).1 1040) 126 = .ok (.iload 8, 2) := zd zm_1040 (by decide +kernel)
theorem d_1040_128 {σ : Nat → Nat} {n0 : Nat} {bf : ab_B} : decode (ab_code (zx σ n0 bf).1 1040) 128 = .ok (.iadd, 1) := zd zm_1040 (by decide +kernel)
theorem d_1040_129 {σ : Nat → Nat} {n0 : Nat} {bf : ab_B} : decode (ab_code (zx σ n0 bf).1 1040) 129 = .ok (.baload, 1) := zd zm_1040 (by decide +kernel)
theorem d_1040_130 {σ : Nat → Nat} {n0 : Nat} {bf : ab_B} : decode (ab_code (zx σ n0 bf).1 1040) 130 = .ok (.bastore, 1) := zd zm_1040 (by decide +kernel)
theorem d_1040_131 {σ : Nat → Nat} {n0 : Nat} {bf : ab_B} : decode (ab_code (zx σ n0 bf).1 1040) 131 = .ok (.iinc 8 1, 3) := zd zm_1040 (by decide +kernel)
theorem d_1040_134 {σ : Nat → Nat} {n0 : Nat} {bf : ab_B} : decode (ab_code (zx σ n0 bf).1 1040) 134 = .ok (.goto (-37), 3) := zd zm_1040 (by decide +kernel)
theorem d_1040_137 {σ : Nat → Nat} {n0 : Nat} {bf : ab_B} : decode (ab_code (zx σ n0 bf).1 1040) 137 = .ok (.aload_n 0, 1) := zd zm_1040 (by decide +kernel)
theorem d_1040_138 {σ : Nat → Nat} {n0 : Nat} {bf : ab_B} : decode (ab_code (zx σ n0 bf).1 1040) 138 = .ok (.iload 7, 2) := zd zm_1040 (by decide +kernel)
theorem d_1040_140 {σ : Nat → Nat} {n0 : Nat} {bf : ab_B} : decode (ab_code (zx σ n0 bf).1 1040) 140 = .ok (.lload_n 2, 1) := zd zm_1040 (by decide +kernel)
theorem d_1040_141 {σ : Nat → Nat} {n0 : Nat} {bf : ab_B} : decode (ab_code (zx σ n0 bf).1 1040) 141 = .ok (.l2i, 1) := zd zm_1040 (by decide +kernel)
theorem d_1040_142 {σ : Nat → Nat} {n0 : Nat} {bf : ab_B} : decode (ab_code (zx σ n0 bf).1 1040) 142 = .ok (.iadd, 1) := zd zm_1040 (by decide +kernel)
theorem d_1040_143 {σ : Nat → Nat} {n0 : Nat} {bf : ab_B} : decode (ab_code (zx σ n0 bf).1 1040) 143 = .ok (.putfield 117, 3) := zd zm_1040 (by decide +kernel)
theorem d_1040_146 {σ : Nat → Nat} {n0 : Nat} {bf : ab_B} : decode (ab_code (zx σ n0 bf).1 1040) 146 = .ok (.return_, 1) := zd zm_1040 (by decide +kernel)
def w_X2_part_73 (X : zs_X) (d : Nat) (p0 : Nat) (p1 : Int32) (S : zs_T) (Q : zs_Q) : Prop :=
  (zs_K S p0 = some (.inl 1) ∧ zs_C X d 1004 [.ref p0, .int (2 : Int32), .int p1] S (zs_kI (fun v3 S2 => (Q (.returned none) S2)) Q))
theorem u_X2_part_73 {σ : Nat → Nat} {n0 : Nat} {bf : ab_B} {d : Nat} {p0 : Nat} {p1 : Int32} {S : zs_T} {Q : zs_Q} (hB : zt_B bf) (h : w_X2_part_73 (zx σ n0 bf) d p0 p1 S Q) : zs_U (zx σ n0 bf) d 1040 73 [(0, .ref p0), (1, .int p1)] [] S Q := by
  unfold w_X2_part_73 at h
  refine zu_aload_n d_1040_73 rfl (zs_ra _) ?_
  refine zu_iconst d_1040_74 zi_2 ?_
  refine zu_iload_n d_1040_75 rfl ?_
  obtain ⟨k1, h⟩ := h
  refine zc_1_194 (x0 := (2 : Int32)) (x1 := p1) hB rfl k1 d_1040_76 (Nat.le_of_ble_eq_true rfl) h (fun v3 S2 h => ?_)
  refine zu_pop d_1040_79 rfl ?_
  exact zu_vret d_1040_80 zr_1040 h
def w_X2_part_81 (X : zs_X) (d : Nat) (p0 : Nat) (p2 : Int64) (p4 : Int64) (S : zs_T) (Q : zs_Q) : Prop :=
  (zs_K S p0 = some (.inl 1) ∧ ∃ b2, (zs_R S 1009 p0) = some b2 ∧ zs_A S b2 0 ((zs_I S 1010 p0) - (1 : Int32)) ∧ zs_U X d 1040 97 [(0, .ref p0), (2, .long p2), (4, .long p4), (7, .int (zs_i S b2 ((zs_I S 1010 p0) - (1 : Int32)).toNatClampNeg)), (8, .int (0 : Int32))] [] S Q)
theorem u_X2_part_81 {σ : Nat → Nat} {n0 : Nat} {bf : ab_B} {d : Nat} {p0 : Nat} {p2 : Int64} {p4 : Int64} {S : zs_T} {Q : zs_Q} (hB : zt_B bf) (h : w_X2_part_81 (zx σ n0 bf) d p0 p2 p4 S Q) : zs_U (zx σ n0 bf) d 1040 81 [(0, .ref p0), (2, .long p2), (4, .long p4)] [] S Q := by
  unfold w_X2_part_81 at h
  refine zu_aload_n d_1040_81 rfl (zs_ra _) ?_
  obtain ⟨k1, h⟩ := h
  refine zg_1_46 rfl d_1040_82 k1 ?_
  refine zu_aload_n d_1040_85 rfl (zs_ra _) ?_
  refine zg_1_114 rfl d_1040_86 k1 ?_
  refine zu_iconst d_1040_89 zi_1 ?_
  refine zu_stk d_1040_90 rfl rfl ?_
  obtain ⟨b2, e3, h⟩ := h
  refine zs_stk1 (zs_rfe e3) ?_
  obtain ⟨k4, h⟩ := h
  refine zu_iald (k := 0) d_1040_91 rfl rfl k4 ?_
  refine zu_istore d_1040_92 (zs_lt zq_1040 rfl) ?_
  refine zu_iconst d_1040_94 zi_0 ?_
  refine zu_istore d_1040_95 (zs_lt zq_1040 rfl) ?_
  exact h.weak ⟨rfl, rfl, rfl, rfl, rfl, trivial⟩
def w_X2_part_35 (X : zs_X) (d : Nat) (p0 : Nat) (p1 : Int32) (p2 : Int64) (p4 : Int64) (S : zs_T) (Q : zs_Q) : Prop :=
  (zs_K S p0 = some (.inl 1) ∧ zs_C X d 1033 [.ref p0, .int ((zs_I S 1010 p0) - (1 : Int32))] S (zs_kI (fun v3 S2 => (((p4 < (1 : Int64) → w_X2_part_73 X d p0 p1 S2 Q) ∧ (¬ (p4 < (1 : Int64)) → (((p2 < (0 : Int64) → w_X2_part_73 X d p0 p1 S2 Q) ∧ (¬ (p2 < (0 : Int64)) → (((((p4 + p2) - (1 : Int64)) ≤ ((v3).toInt64) → w_X2_part_81 X d p0 p2 p4 S2 Q) ∧ (¬ (((p4 + p2) - (1 : Int64)) ≤ ((v3).toInt64)) → w_X2_part_73 X d p0 p1 S2 Q)))))))))) Q))
theorem u_X2_part_35 {σ : Nat → Nat} {n0 : Nat} {bf : ab_B} {d : Nat} {p0 : Nat} {p1 : Int32} {p2 : Int64} {p4 : Int64} {S : zs_T} {Q : zs_Q} (hB : zt_B bf) (h : w_X2_part_35 (zx σ n0 bf) d p0 p1 p2 p4 S Q) : zs_U (zx σ n0 bf) d 1040 35 [(0, .ref p0), (1, .int p1), (2, .long p2), (4, .long p4)] [] S Q := by
  unfold w_X2_part_35 at h
  refine zu_aload_n d_1040_35 rfl (zs_ra _) ?_
  refine zu_aload_n d_1040_36 rfl (zs_ra _) ?_
  obtain ⟨k1, h⟩ := h
  refine zg_1_114 rfl d_1040_37 k1 ?_
  refine zu_iconst d_1040_40 zi_1 ?_
  refine zu_stk d_1040_41 rfl rfl ?_
  refine zc_1_443 (x0 := ((zs_I S 1010 p0) - (1 : Int32))) hB rfl k1 d_1040_42 (Nat.le_of_ble_eq_true rfl) h (fun v3 S2 h => ?_)
  refine zu_istore d_1040_45 (zs_lt zq_1040 rfl) ?_
  refine zu_lload d_1040_47 rfl ?_
  refine zu_lconst (v := 1) d_1040_49 rfl ?_
  refine zu_llt (t := 73) d_1040_50 d_1040_51 rfl (fun c4 => ?_) (fun c4 => ?_)
  · have h := h.1 c4
    exact (u_X2_part_73 hB h).weak ⟨rfl, rfl, trivial⟩
  · have h := h.2 c4
    refine zu_lload_n d_1040_54 rfl ?_
    refine zu_lconst (v := 0) d_1040_55 rfl ?_
    refine zu_llt (t := 73) d_1040_56 d_1040_57 rfl (fun c5 => ?_) (fun c5 => ?_)
    · have h := h.1 c5
      exact (u_X2_part_73 hB h).weak ⟨rfl, rfl, trivial⟩
    · have h := h.2 c5
      refine zu_lload d_1040_60 rfl ?_
      refine zu_lload_n d_1040_62 rfl ?_
      refine zu_stk d_1040_63 rfl rfl ?_
      refine zu_lconst (v := 1) d_1040_64 rfl ?_
      refine zu_stk d_1040_65 rfl rfl ?_
      refine zu_iload d_1040_66 rfl ?_
      refine zu_stk d_1040_68 rfl rfl ?_
      refine zu_lle (t := 81) d_1040_69 d_1040_70 rfl (fun c6 => ?_) (fun c6 => ?_)
      · have h := h.1 c6
        exact (u_X2_part_81 hB h).weak ⟨rfl, rfl, rfl, trivial⟩
      · have h := h.2 c6
        exact (u_X2_part_73 hB h).weak ⟨rfl, rfl, trivial⟩
def w_X2_part_131 (X : zs_X) (d : Nat) (p0 : Nat) (p2 : Int64) (p4 : Int64) (p7 : Int32) (p8 : Int32) (S : zs_T) (Q : zs_Q) : Prop :=
  (zs_U X d 1040 97 [(0, .ref p0), (2, .long p2), (4, .long p4), (7, .int p7), (8, .int (p8 + (1 : Int32)))] [] S Q)
theorem u_X2_part_131 {σ : Nat → Nat} {n0 : Nat} {bf : ab_B} {d : Nat} {p0 : Nat} {p2 : Int64} {p4 : Int64} {p7 : Int32} {p8 : Int32} {S : zs_T} {Q : zs_Q} (hB : zt_B bf) (h : w_X2_part_131 (zx σ n0 bf) d p0 p2 p4 p7 p8 S Q) : zs_U (zx σ n0 bf) d 1040 131 [(0, .ref p0), (2, .long p2), (4, .long p4), (7, .int p7), (8, .int p8)] [] S Q := by
  unfold w_X2_part_131 at h
  refine zu_iinc d_1040_131 rfl zi_1 (zs_lt zq_1040 rfl) ?_
  refine zu_goto (t := 97) d_1040_134 rfl ?_
  exact h.weak ⟨rfl, rfl, rfl, rfl, rfl, trivial⟩
def w_X2_part_97 (X : zs_X) (d : Nat) (p0 : Nat) (p2 : Int64) (p4 : Int64) (p7 : Int32) (p8 : Int32) (S : zs_T) (Q : zs_Q) : Prop :=
  (((p2 ≤ ((p8).toInt64) → (zs_K S p0 = some (.inl 1) ∧ ab_n0 X.1 ≤ p0 ∧ ∀ S4, S4 = zs_sI S 1011 p0 (p7 + ((p2).toInt32)) → Q (.returned none) S4)) ∧ (¬ (p2 ≤ ((p8).toInt64)) → (zs_K S p0 = some (.inl 1) ∧ ∃ b8, (zs_R S 1008 p0) = some b8 ∧ zs_A S b8 1 (((p7 + ((p4).toInt32)) - (1 : Int32)) + p8) ∧ zs_A S b8 1 (p7 + p8) ∧ ab_n0 X.1 ≤ b8 ∧ ∀ S13, S13 = zs_si S b8 (p7 + p8).toNatClampNeg (vp_nar .byte (zs_i S b8 (((p7 + ((p4).toInt32)) - (1 : Int32)) + p8).toNatClampNeg)) → w_X2_part_131 X d p0 p2 p4 p7 p8 S13 Q))))
theorem u_X2_part_97 {σ : Nat → Nat} {n0 : Nat} {bf : ab_B} {d : Nat} {p0 : Nat} {p2 : Int64} {p4 : Int64} {p7 : Int32} {p8 : Int32} {S : zs_T} {Q : zs_Q} (hB : zt_B bf) (h : w_X2_part_97 (zx σ n0 bf) d p0 p2 p4 p7 p8 S Q) : zs_U (zx σ n0 bf) d 1040 97 [(0, .ref p0), (2, .long p2), (4, .long p4), (7, .int p7), (8, .int p8)] [] S Q := by
  unfold w_X2_part_97 at h
  refine zu_iload d_1040_97 rfl ?_
  refine zu_stk d_1040_99 rfl rfl ?_
  refine zu_lload_n d_1040_100 rfl ?_
  refine zu_lge (t := 137) d_1040_101 d_1040_102 rfl (fun c1 => ?_) (fun c1 => ?_)
  · have h := h.1 c1
    refine zu_aload_n d_1040_137 rfl (zs_ra _) ?_
    refine zu_iload d_1040_138 rfl ?_
    refine zu_lload_n d_1040_140 rfl ?_
    refine zu_stk d_1040_141 rfl rfl ?_
    refine zu_stk d_1040_142 rfl rfl ?_
    obtain ⟨k2, h⟩ := h
    obtain ⟨k3, h⟩ := h
    refine zp_1_117 (v := (p7 + ((p2).toInt32))) rfl d_1040_143 k2 k3 ?_
    generalize e5 : zs_sI S 1011 p0 (p7 + ((p2).toInt32)) = S4
    have h := h S4 e5.symm
    have K6 : ∀ b, zs_K S4 b = zs_K S b := zs_Kt e5 (zs_KsI _ _ _ _) (fun _ => rfl)
    exact zu_vret d_1040_146 zr_1040 h
  · have h := h.2 c1
    refine zu_aload_n d_1040_105 rfl (zs_ra _) ?_
    obtain ⟨k7, h⟩ := h
    refine zg_1_42 rfl d_1040_106 k7 ?_
    refine zu_iload d_1040_109 rfl ?_
    refine zu_iload d_1040_111 rfl ?_
    refine zu_stk d_1040_113 rfl rfl ?_
    refine zu_aload_n d_1040_114 rfl (zs_ra _) ?_
    refine zg_1_42 rfl d_1040_115 k7 ?_
    refine zu_iload d_1040_118 rfl ?_
    refine zu_lload d_1040_120 rfl ?_
    refine zu_stk d_1040_122 rfl rfl ?_
    refine zu_stk d_1040_123 rfl rfl ?_
    refine zu_iconst d_1040_124 zi_1 ?_
    refine zu_stk d_1040_125 rfl rfl ?_
    refine zu_iload d_1040_126 rfl ?_
    refine zu_stk d_1040_128 rfl rfl ?_
    obtain ⟨b8, e9, h⟩ := h
    refine zs_stk1 (zs_rfe e9) ?_
    obtain ⟨k10, h⟩ := h
    refine zu_bald (k := 1) d_1040_129 rfl (Or.inl rfl) k10 ?_
    refine zs_stk2 (zs_rfe e9) ?_
    obtain ⟨k11, h⟩ := h
    obtain ⟨k12, h⟩ := h
    refine zu_bast_byte (k := 1) d_1040_130 rfl rfl k12 k11 ?_
    generalize e14 : zs_si S b8 (p7 + p8).toNatClampNeg (vp_nar .byte (zs_i S b8 (((p7 + ((p4).toInt32)) - (1 : Int32)) + p8).toNatClampNeg)) = S13
    have h := h S13 e14.symm
    have K15 : ∀ b, zs_K S13 b = zs_K S b := zs_Kt e14 (zs_Ksi _ _ _ _) (fun _ => rfl)
    exact (u_X2_part_131 hB h).weak ⟨rfl, rfl, rfl, rfl, rfl, trivial⟩
def w_X2_part (X : zs_X) (d : Nat) (p0 : Nat) (p1 : Int32) (S : zs_T) (Q : zs_Q) : Prop :=
  (zs_K S p0 = some (.inl 1) ∧ ab_n0 X.1 ≤ p0 ∧ ∀ S3, S3 = zs_sI S 1007 p0 ((zs_I S 1007 p0) - (1 : Int32)) → ∃ b6, (zs_R S 1005 p0) = some b6 ∧ zs_A S b6 3 ((zs_I S 1007 p0) - (1 : Int32)) ∧ ∀ S9, S9 = zs_sI S3 1007 p0 ((zs_I S3 1007 p0) - (1 : Int32)) → ∃ b12, (zs_R S3 1005 p0) = some b12 ∧ zs_A S b12 3 ((zs_I S3 1007 p0) - (1 : Int32)) ∧ w_X2_part_35 X d p0 p1 (zs_j S3 b6 ((zs_I S 1007 p0) - (1 : Int32)).toNatClampNeg) (zs_j S9 b12 ((zs_I S3 1007 p0) - (1 : Int32)).toNatClampNeg) S9 Q)
theorem u_X2_part {σ : Nat → Nat} {n0 : Nat} {bf : ab_B} {d : Nat} {p0 : Nat} {p1 : Int32} {S : zs_T} {Q : zs_Q} (hB : zt_B bf) (hd : 1 ≤ d) (h : w_X2_part (zx σ n0 bf) (d - 1) p0 p1 S Q) : zs_C (zx σ n0 bf) d 1040 [.ref p0, .int p1] S Q := by
  have hL : lv_args 0 [.ref p0, .int p1] = [(0, .ref p0), (1, .int p1)] := rfl
  refine zs_C.of1 (hB.2 1040 (by decide) (by decide)) hd (by rw [hL]; exact zs_sub_self _ (by exact ⟨rfl, rfl, trivial⟩)) ?_
  rw [hL]
  clear hL
  unfold w_X2_part at h
  refine zu_aload_n d_1040_0 rfl (zs_ra _) ?_
  obtain ⟨k1, h⟩ := h
  refine zg_1_36 rfl d_1040_1 k1 ?_
  refine zu_aload_n d_1040_4 rfl (zs_ra _) ?_
  refine zu_dup d_1040_5 rfl ?_
  refine zg_1_111 rfl d_1040_6 k1 ?_
  refine zu_iconst d_1040_9 zi_1 ?_
  refine zu_stk d_1040_10 rfl rfl ?_
  refine zu_dup_x1 d_1040_11 rfl rfl ?_
  obtain ⟨k2, h⟩ := h
  refine zp_1_111 (v := ((zs_I S 1007 p0) - (1 : Int32))) rfl d_1040_12 k1 k2 ?_
  generalize e4 : zs_sI S 1007 p0 ((zs_I S 1007 p0) - (1 : Int32)) = S3
  have h := h S3 e4.symm
  have K5 : ∀ b, zs_K S3 b = zs_K S b := zs_Kt e4 (zs_KsI _ _ _ _) (fun _ => rfl)
  obtain ⟨b6, e7, h⟩ := h
  refine zs_stk1 (zs_rfe e7) ?_
  obtain ⟨k8, h⟩ := h
  refine zu_lald (k := 3) d_1040_15 rfl rfl (zs_Ak K5 k8) ?_
  refine zu_lstore_n d_1040_16 (zs_lt zq_1040 rfl) ?_
  refine zu_aload_n d_1040_17 rfl (zs_ra _) ?_
  refine zg_1_36 rfl d_1040_18 ((K5 _).trans k1) ?_
  refine zu_aload_n d_1040_21 rfl (zs_ra _) ?_
  refine zu_dup d_1040_22 rfl ?_
  refine zg_1_111 rfl d_1040_23 ((K5 _).trans k1) ?_
  refine zu_iconst d_1040_26 zi_1 ?_
  refine zu_stk d_1040_27 rfl rfl ?_
  refine zu_dup_x1 d_1040_28 rfl rfl ?_
  refine zp_1_111 (v := ((zs_I S3 1007 p0) - (1 : Int32))) rfl d_1040_29 ((K5 _).trans k1) k2 ?_
  generalize e10 : zs_sI S3 1007 p0 ((zs_I S3 1007 p0) - (1 : Int32)) = S9
  have h := h S9 e10.symm
  have K11 : ∀ b, zs_K S9 b = zs_K S b := zs_Kt e10 (zs_KsI _ _ _ _) K5
  obtain ⟨b12, e13, h⟩ := h
  refine zs_stk1 (zs_rfe e13) ?_
  obtain ⟨k14, h⟩ := h
  refine zu_lald (k := 3) d_1040_32 rfl rfl (zs_Ak K11 k14) ?_
  refine zu_lstore d_1040_33 (zs_lt zq_1040 rfl) ?_
  exact (u_X2_part_35 hB h).weak ⟨rfl, rfl, rfl, rfl, trivial⟩
/-! SchemaPascal$Machine.act(III)V -/
theorem zm_1041 {σ : Nat → Nat} {n0 : Nat} {bf : ab_B} : ab_code (zx σ n0 bf).1 1041 = prog_5_method_43_code := rfl
theorem zq_1041 {σ : Nat → Nat} {n0 : Nat} {bf : ab_B} : ab_maxL (zx σ n0 bf).1 1041 = 5 := rfl
theorem zr_1041 {σ : Nat → Nat} {n0 : Nat} {bf : ab_B} : ab_ret (zx σ n0 bf).1 1041 = (Option.none : Option Jvm.ClassFile.FieldType) := rfl
theorem d_1041_0 {σ : Nat → Nat} {n0 : Nat} {bf : ab_B} : decode (ab_code (zx σ n0 bf).1 1041) 0 = .ok (.aload_n 0, 1) := zd zm_1041 (by decide +kernel)
theorem d_1041_1 {σ : Nat → Nat} {n0 : Nat} {bf : ab_B} : decode (ab_code (zx σ n0 bf).1 1041) 1 = .ok (.getfield 107, 3) := zd zm_1041 (by decide +kernel)
theorem d_1041_4 {σ : Nat → Nat} {n0 : Nat} {bf : ab_B} : decode (ab_code (zx σ n0 bf).1 1041) 4 = .ok (.getfield 201, 3) := zd zm_1041 (by decide +kernel)
theorem d_1041_7 {σ : Nat → Nat} {n0 : Nat} {bf : ab_B} : decode (ab_code (zx σ n0 bf).1 1041) 7 = .ok (.astore 4, 2) := zd zm_1041 (by decide +kernel)
theorem d_1041_9 {σ : Nat → Nat} {n0 : Nat} {bf : ab_B} : decode (ab_code (zx σ n0 bf).1 1041) 9 = .ok (.iload_n 1, 1) := zd zm_1041 (by decide +kernel)
theorem d_1041_10 {σ : Nat → Nat} {n0 : Nat} {bf : ab_B} : decode (ab_code (zx σ n0 bf).1 1041) 10 = .ok (.tableswitch 433 37 56 #[94, 107, 141, 150, 159, 167, 191, 224, 433, 275, 433, 283, 310, 318, 345, 358, 367, 232, 178, 375], 94) := zd zm_1041 (by decide +kernel)
theorem d_1041_104 {σ : Nat → Nat} {n0 : Nat} {bf : ab_B} : decode (ab_code (zx σ n0 bf).1 1041) 104 = .ok (.aload_n 0, 1) := zd zm_1041 (by decide +kernel)
theorem d_1041_105 {σ : Nat → Nat} {n0 : Nat} {bf : ab_B} : decode (ab_code (zx σ n0 bf).1 1041) 105 = .ok (.aload 4, 2) := zd zm_1041 (by decide +kernel)
theorem d_1041_107 {σ : Nat → Nat} {n0 : Nat} {bf : ab_B} : decode (ab_code (zx σ n0 bf).1 1041) 107 = .ok (.iload_n 3, 1) := zd zm_1041 (by decide +kernel)
theorem d_1041_108 {σ : Nat → Nat} {n0 : Nat} {bf : ab_B} : decode (ab_code (zx σ n0 bf).1 1041) 108 = .ok (.iconst 2, 1) := zd zm_1041 (by decide +kernel)
theorem d_1041_109 {σ : Nat → Nat} {n0 : Nat} {bf : ab_B} : decode (ab_code (zx σ n0 bf).1 1041) 109 = .ok (.iadd, 1) := zd zm_1041 (by decide +kernel)
theorem d_1041_110 {σ : Nat → Nat} {n0 : Nat} {bf : ab_B} : decode (ab_code (zx σ n0 bf).1 1041) 110 = .ok (.iaload, 1) := zd zm_1041 (by decide +kernel)
theorem d_1041_111 {σ : Nat → Nat} {n0 : Nat} {bf : ab_B} : decode (ab_code (zx σ n0 bf).1 1041) 111 = .ok (.putfield 175, 3) := zd zm_1041 (by decide +kernel)
theorem d_1041_114 {σ : Nat → Nat} {n0 : Nat} {bf : ab_B} : decode (ab_code (zx σ n0 bf).1 1041) 114 = .ok (.goto 329, 3) := zd zm_1041 (by decide +kernel)
theorem d_1041_117 {σ : Nat → Nat} {n0 : Nat} {bf : ab_B} : decode (ab_code (zx σ n0 bf).1 1041) 117 = .ok (.aload_n 0, 1) := zd zm_1041 (by decide +kernel)
theorem d_1041_118 {σ : Nat → Nat} {n0 : Nat} {bf : ab_B} : decode (ab_code (zx σ n0 bf).1 1041) 118 = .ok (.getfield 36, 3) := zd zm_1041 (by decide +kernel)
theorem d_1041_121 {σ : Nat → Nat} {n0 : Nat} {bf : ab_B} : decode (ab_code (zx σ n0 bf).1 1041) 121 = .ok (.aload_n 0, 1) := zd zm_1041 (by decide +kernel)
theorem d_1041_122 {σ : Nat → Nat} {n0 : Nat} {bf : ab_B} : decode (ab_code (zx σ n0 bf).1 1041) 122 = .ok (.dup, 1) := zd zm_1041 (by decide +kernel)
theorem d_1041_123 {σ : Nat → Nat} {n0 : Nat} {bf : ab_B} : decode (ab_code (zx σ n0 bf).1 1041) 123 = .ok (.getfield 111, 3) := zd zm_1041 (by decide +kernel)
theorem d_1041_126 {σ : Nat → Nat} {n0 : Nat} {bf : ab_B} : decode (ab_code (zx σ n0 bf).1 1041) 126 = .ok (.iconst 1, 1) := zd zm_1041 (by decide +kernel)
theorem d_1041_127 {σ : Nat → Nat} {n0 : Nat} {bf : ab_B} : decode (ab_code (zx σ n0 bf).1 1041) 127 = .ok (.isub, 1) := zd zm_1041 (by decide +kernel)
theorem d_1041_128 {σ : Nat → Nat} {n0 : Nat} {bf : ab_B} : decode (ab_code (zx σ n0 bf).1 1041) 128 = .ok (.dup_x1, 1) := zd zm_1041 (by decide +kernel)
theorem d_1041_129 {σ : Nat → Nat} {n0 : Nat} {bf : ab_B} : decode (ab_code (zx σ n0 bf).1 1041) 129 = .ok (.putfield 111, 3) := zd zm_1041 (by decide +kernel)
theorem d_1041_132 {σ : Nat → Nat} {n0 : Nat} {bf : ab_B} : decode (ab_code (zx σ n0 bf).1 1041) 132 = .ok (.laload, 1) := zd zm_1041 (by decide +kernel)
theorem d_1041_133 {σ : Nat → Nat} {n0 : Nat} {bf : ab_B} : decode (ab_code (zx σ n0 bf).1 1041) 133 = .ok (.lconst 0, 1) := zd zm_1041 (by decide +kernel)
theorem d_1041_134 {σ : Nat → Nat} {n0 : Nat} {bf : ab_B} : decode (ab_code (zx σ n0 bf).1 1041) 134 = .ok (.lcmp, 1) := zd zm_1041 (by decide +kernel)
theorem d_1041_135 {σ : Nat → Nat} {n0 : Nat} {bf : ab_B} : decode (ab_code (zx σ n0 bf).1 1041) 135 = .ok (.ifCond .ne 308, 3) := zd zm_1041 (by decide +kernel)
theorem d_1041_138 {σ : Nat → Nat} {n0 : Nat} {bf : ab_B} : decode (ab_code (zx σ n0 bf).1 1041) 138 = .ok (.aload_n 0, 1) := zd zm_1041 (by decide +kernel)
theorem d_1041_139 {σ : Nat → Nat} {n0 : Nat} {bf : ab_B} : decode (ab_code (zx σ n0 bf).1 1041) 139 = .ok (.aload 4, 2) := zd zm_1041 (by decide +kernel)
theorem d_1041_141 {σ : Nat → Nat} {n0 : Nat} {bf : ab_B} : decode (ab_code (zx σ n0 bf).1 1041) 141 = .ok (.iload_n 3, 1) := zd zm_1041 (by decide +kernel)
theorem d_1041_142 {σ : Nat → Nat} {n0 : Nat} {bf : ab_B} : decode (ab_code (zx σ n0 bf).1 1041) 142 = .ok (.iconst 2, 1) := zd zm_1041 (by decide +kernel)
theorem d_1041_143 {σ : Nat → Nat} {n0 : Nat} {bf : ab_B} : decode (ab_code (zx σ n0 bf).1 1041) 143 = .ok (.iadd, 1) := zd zm_1041 (by decide +kernel)
theorem d_1041_144 {σ : Nat → Nat} {n0 : Nat} {bf : ab_B} : decode (ab_code (zx σ n0 bf).1 1041) 144 = .ok (.iaload, 1) := zd zm_1041 (by decide +kernel)
theorem d_1041_145 {σ : Nat → Nat} {n0 : Nat} {bf : ab_B} : decode (ab_code (zx σ n0 bf).1 1041) 145 = .ok (.putfield 175, 3) := zd zm_1041 (by decide +kernel)
theorem d_1041_148 {σ : Nat → Nat} {n0 : Nat} {bf : ab_B} : decode (ab_code (zx σ n0 bf).1 1041) 148 = .ok (.goto 295, 3) := zd zm_1041 (by decide +kernel)
theorem d_1041_151 {σ : Nat → Nat} {n0 : Nat} {bf : ab_B} : decode (ab_code (zx σ n0 bf).1 1041) 151 = .ok (.aload_n 0, 1) := zd zm_1041 (by decide +kernel)
theorem d_1041_152 {σ : Nat → Nat} {n0 : Nat} {bf : ab_B} : decode (ab_code (zx σ n0 bf).1 1041) 152 = .ok (.iload_n 2, 1) := zd zm_1041 (by decide +kernel)
theorem d_1041_153 {σ : Nat → Nat} {n0 : Nat} {bf : ab_B} : decode (ab_code (zx σ n0 bf).1 1041) 153 = .ok (.iload_n 3, 1) := zd zm_1041 (by decide +kernel)
theorem d_1041_154 {σ : Nat → Nat} {n0 : Nat} {bf : ab_B} : decode (ab_code (zx σ n0 bf).1 1041) 154 = .ok (.invokevirtual 466, 3) := zd zm_1041 (by decide +kernel)
theorem d_1041_157 {σ : Nat → Nat} {n0 : Nat} {bf : ab_B} : decode (ab_code (zx σ n0 bf).1 1041) 157 = .ok (.goto 286, 3) := zd zm_1041 (by decide +kernel)
theorem d_1041_160 {σ : Nat → Nat} {n0 : Nat} {bf : ab_B} : decode (ab_code (zx σ n0 bf).1 1041) 160 = .ok (.aload_n 0, 1) := zd zm_1041 (by decide +kernel)
theorem d_1041_161 {σ : Nat → Nat} {n0 : Nat} {bf : ab_B} : decode (ab_code (zx σ n0 bf).1 1041) 161 = .ok (.iload_n 2, 1) := zd zm_1041 (by decide +kernel)
theorem d_1041_162 {σ : Nat → Nat} {n0 : Nat} {bf : ab_B} : decode (ab_code (zx σ n0 bf).1 1041) 162 = .ok (.iload_n 3, 1) := zd zm_1041 (by decide +kernel)
theorem d_1041_163 {σ : Nat → Nat} {n0 : Nat} {bf : ab_B} : decode (ab_code (zx σ n0 bf).1 1041) 163 = .ok (.invokevirtual 470, 3) := zd zm_1041 (by decide +kernel)
theorem d_1041_166 {σ : Nat → Nat} {n0 : Nat} {bf : ab_B} : decode (ab_code (zx σ n0 bf).1 1041) 166 = .ok (.goto 277, 3) := zd zm_1041 (by decide +kernel)
theorem d_1041_169 {σ : Nat → Nat} {n0 : Nat} {bf : ab_B} : decode (ab_code (zx σ n0 bf).1 1041) 169 = .ok (.aload_n 0, 1) := zd zm_1041 (by decide +kernel)
theorem d_1041_170 {σ : Nat → Nat} {n0 : Nat} {bf : ab_B} : decode (ab_code (zx σ n0 bf).1 1041) 170 = .ok (.iload_n 3, 1) := zd zm_1041 (by decide +kernel)
theorem d_1041_171 {σ : Nat → Nat} {n0 : Nat} {bf : ab_B} : decode (ab_code (zx σ n0 bf).1 1041) 171 = .ok (.invokevirtual 473, 3) := zd zm_1041 (by decide +kernel)
theorem d_1041_174 {σ : Nat → Nat} {n0 : Nat} {bf : ab_B} : decode (ab_code (zx σ n0 bf).1 1041) 174 = .ok (.goto 269, 3) := zd zm_1041 (by decide +kernel)
theorem d_1041_177 {σ : Nat → Nat} {n0 : Nat} {bf : ab_B} : decode (ab_code (zx σ n0 bf).1 1041) 177 = .ok (.aload_n 0, 1) := zd zm_1041 (by decide +kernel)
theorem d_1041_178 {σ : Nat → Nat} {n0 : Nat} {bf : ab_B} : decode (ab_code (zx σ n0 bf).1 1041) 178 = .ok (.bipush 8, 2) := zd zm_1041 (by decide +kernel)
theorem d_1041_180 {σ : Nat → Nat} {n0 : Nat} {bf : ab_B} : decode (ab_code (zx σ n0 bf).1 1041) 180 = .ok (.iload_n 2, 1) := zd zm_1041 (by decide +kernel)
theorem d_1041_181 {σ : Nat → Nat} {n0 : Nat} {bf : ab_B} : decode (ab_code (zx σ n0 bf).1 1041) 181 = .ok (.invokevirtual 194, 3) := zd zm_1041 (by decide +kernel)
theorem d_1041_184 {σ : Nat → Nat} {n0 : Nat} {bf : ab_B} : decode (ab_code (zx σ n0 bf).1 1041) 184 = .ok (.pop, 1) := zd zm_1041 (by decide +kernel)
theorem d_1041_185 {σ : Nat → Nat} {n0 : Nat} {bf : ab_B} : decode (ab_code (zx σ n0 bf).1 1041) 185 = .ok (.goto 258, 3) := zd zm_1041 (by decide +kernel)
theorem d_1041_188 {σ : Nat → Nat} {n0 : Nat} {bf : ab_B} : decode (ab_code (zx σ n0 bf).1 1041) 188 = .ok (.aload_n 0, 1) := zd zm_1041 (by decide +kernel)
theorem d_1041_189 {σ : Nat → Nat} {n0 : Nat} {bf : ab_B} : decode (ab_code (zx σ n0 bf).1 1041) 189 = .ok (.dup, 1) := zd zm_1041 (by decide +kernel)
theorem d_1041_190 {σ : Nat → Nat} {n0 : Nat} {bf : ab_B} : decode (ab_code (zx σ n0 bf).1 1041) 190 = .ok (.getfield 111, 3) := zd zm_1041 (by decide +kernel)
theorem d_1041_193 {σ : Nat → Nat} {n0 : Nat} {bf : ab_B} : decode (ab_code (zx σ n0 bf).1 1041) 193 = .ok (.iconst 1, 1) := zd zm_1041 (by decide +kernel)
theorem d_1041_194 {σ : Nat → Nat} {n0 : Nat} {bf : ab_B} : decode (ab_code (zx σ n0 bf).1 1041) 194 = .ok (.isub, 1) := zd zm_1041 (by decide +kernel)
theorem d_1041_195 {σ : Nat → Nat} {n0 : Nat} {bf : ab_B} : decode (ab_code (zx σ n0 bf).1 1041) 195 = .ok (.putfield 111, 3) := zd zm_1041 (by decide +kernel)
theorem d_1041_198 {σ : Nat → Nat} {n0 : Nat} {bf : ab_B} : decode (ab_code (zx σ n0 bf).1 1041) 198 = .ok (.goto 245, 3) := zd zm_1041 (by decide +kernel)
theorem d_1041_201 {σ : Nat → Nat} {n0 : Nat} {bf : ab_B} : decode (ab_code (zx σ n0 bf).1 1041) 201 = .ok (.aload_n 0, 1) := zd zm_1041 (by decide +kernel)
theorem d_1041_202 {σ : Nat → Nat} {n0 : Nat} {bf : ab_B} : decode (ab_code (zx σ n0 bf).1 1041) 202 = .ok (.aload_n 0, 1) := zd zm_1041 (by decide +kernel)
theorem d_1041_203 {σ : Nat → Nat} {n0 : Nat} {bf : ab_B} : decode (ab_code (zx σ n0 bf).1 1041) 203 = .ok (.getfield 107, 3) := zd zm_1041 (by decide +kernel)
theorem d_1041_206 {σ : Nat → Nat} {n0 : Nat} {bf : ab_B} : decode (ab_code (zx σ n0 bf).1 1041) 206 = .ok (.getfield 157, 3) := zd zm_1041 (by decide +kernel)
theorem d_1041_209 {σ : Nat → Nat} {n0 : Nat} {bf : ab_B} : decode (ab_code (zx σ n0 bf).1 1041) 209 = .ok (.aload 4, 2) := zd zm_1041 (by decide +kernel)
theorem d_1041_211 {σ : Nat → Nat} {n0 : Nat} {bf : ab_B} : decode (ab_code (zx σ n0 bf).1 1041) 211 = .ok (.iload_n 3, 1) := zd zm_1041 (by decide +kernel)
theorem d_1041_212 {σ : Nat → Nat} {n0 : Nat} {bf : ab_B} : decode (ab_code (zx σ n0 bf).1 1041) 212 = .ok (.iconst 2, 1) := zd zm_1041 (by decide +kernel)
theorem d_1041_213 {σ : Nat → Nat} {n0 : Nat} {bf : ab_B} : decode (ab_code (zx σ n0 bf).1 1041) 213 = .ok (.iadd, 1) := zd zm_1041 (by decide +kernel)
theorem d_1041_214 {σ : Nat → Nat} {n0 : Nat} {bf : ab_B} : decode (ab_code (zx σ n0 bf).1 1041) 214 = .ok (.iaload, 1) := zd zm_1041 (by decide +kernel)
theorem d_1041_215 {σ : Nat → Nat} {n0 : Nat} {bf : ab_B} : decode (ab_code (zx σ n0 bf).1 1041) 215 = .ok (.invokevirtual 162, 3) := zd zm_1041 (by decide +kernel)
theorem d_1041_218 {σ : Nat → Nat} {n0 : Nat} {bf : ab_B} : decode (ab_code (zx σ n0 bf).1 1041) 218 = .ok (.checkcast 55, 3) := zd zm_1041 (by decide +kernel)
theorem d_1041_221 {σ : Nat → Nat} {n0 : Nat} {bf : ab_B} : decode (ab_code (zx σ n0 bf).1 1041) 221 = .ok (.aload 4, 2) := zd zm_1041 (by decide +kernel)
theorem d_1041_223 {σ : Nat → Nat} {n0 : Nat} {bf : ab_B} : decode (ab_code (zx σ n0 bf).1 1041) 223 = .ok (.iload_n 3, 1) := zd zm_1041 (by decide +kernel)
theorem d_1041_224 {σ : Nat → Nat} {n0 : Nat} {bf : ab_B} : decode (ab_code (zx σ n0 bf).1 1041) 224 = .ok (.iconst 3, 1) := zd zm_1041 (by decide +kernel)
theorem d_1041_225 {σ : Nat → Nat} {n0 : Nat} {bf : ab_B} : decode (ab_code (zx σ n0 bf).1 1041) 225 = .ok (.iadd, 1) := zd zm_1041 (by decide +kernel)
theorem d_1041_226 {σ : Nat → Nat} {n0 : Nat} {bf : ab_B} : decode (ab_code (zx σ n0 bf).1 1041) 226 = .ok (.iaload, 1) := zd zm_1041 (by decide +kernel)
theorem d_1041_227 {σ : Nat → Nat} {n0 : Nat} {bf : ab_B} : decode (ab_code (zx σ n0 bf).1 1041) 227 = .ok (.iload_n 2, 1) := zd zm_1041 (by decide +kernel)
theorem d_1041_228 {σ : Nat → Nat} {n0 : Nat} {bf : ab_B} : decode (ab_code (zx σ n0 bf).1 1041) 228 = .ok (.invokevirtual 476, 3) := zd zm_1041 (by decide +kernel)
theorem d_1041_231 {σ : Nat → Nat} {n0 : Nat} {bf : ab_B} : decode (ab_code (zx σ n0 bf).1 1041) 231 = .ok (.goto 212, 3) := zd zm_1041 (by decide +kernel)
theorem d_1041_234 {σ : Nat → Nat} {n0 : Nat} {bf : ab_B} : decode (ab_code (zx σ n0 bf).1 1041) 234 = .ok (.aload_n 0, 1) := zd zm_1041 (by decide +kernel)
theorem d_1041_235 {σ : Nat → Nat} {n0 : Nat} {bf : ab_B} : decode (ab_code (zx σ n0 bf).1 1041) 235 = .ok (.iload_n 2, 1) := zd zm_1041 (by decide +kernel)
theorem d_1041_236 {σ : Nat → Nat} {n0 : Nat} {bf : ab_B} : decode (ab_code (zx σ n0 bf).1 1041) 236 = .ok (.invokevirtual 480, 3) := zd zm_1041 (by decide +kernel)
theorem d_1041_239 {σ : Nat → Nat} {n0 : Nat} {bf : ab_B} : decode (ab_code (zx σ n0 bf).1 1041) 239 = .ok (.goto 204, 3) := zd zm_1041 (by decide +kernel)
theorem d_1041_242 {σ : Nat → Nat} {n0 : Nat} {bf : ab_B} : decode (ab_code (zx σ n0 bf).1 1041) 242 = .ok (.aload_n 0, 1) := zd zm_1041 (by decide +kernel)
theorem d_1041_243 {σ : Nat → Nat} {n0 : Nat} {bf : ab_B} : decode (ab_code (zx σ n0 bf).1 1041) 243 = .ok (.aload_n 0, 1) := zd zm_1041 (by decide +kernel)
theorem d_1041_244 {σ : Nat → Nat} {n0 : Nat} {bf : ab_B} : decode (ab_code (zx σ n0 bf).1 1041) 244 = .ok (.getfield 70, 3) := zd zm_1041 (by decide +kernel)
theorem d_1041_247 {σ : Nat → Nat} {n0 : Nat} {bf : ab_B} : decode (ab_code (zx σ n0 bf).1 1041) 247 = .ok (.aload_n 0, 1) := zd zm_1041 (by decide +kernel)
theorem d_1041_248 {σ : Nat → Nat} {n0 : Nat} {bf : ab_B} : decode (ab_code (zx σ n0 bf).1 1041) 248 = .ok (.getfield 129, 3) := zd zm_1041 (by decide +kernel)
theorem d_1041_251 {σ : Nat → Nat} {n0 : Nat} {bf : ab_B} : decode (ab_code (zx σ n0 bf).1 1041) 251 = .ok (.iaload, 1) := zd zm_1041 (by decide +kernel)
theorem d_1041_252 {σ : Nat → Nat} {n0 : Nat} {bf : ab_B} : decode (ab_code (zx σ n0 bf).1 1041) 252 = .ok (.aload 4, 2) := zd zm_1041 (by decide +kernel)
theorem d_1041_254 {σ : Nat → Nat} {n0 : Nat} {bf : ab_B} : decode (ab_code (zx σ n0 bf).1 1041) 254 = .ok (.iload_n 3, 1) := zd zm_1041 (by decide +kernel)
theorem d_1041_255 {σ : Nat → Nat} {n0 : Nat} {bf : ab_B} : decode (ab_code (zx σ n0 bf).1 1041) 255 = .ok (.iconst 2, 1) := zd zm_1041 (by decide +kernel)
theorem d_1041_256 {σ : Nat → Nat} {n0 : Nat} {bf : ab_B} : decode (ab_code (zx σ n0 bf).1 1041) 256 = .ok (.iadd, 1) := zd zm_1041 (by decide +kernel)
theorem d_1041_257 {σ : Nat → Nat} {n0 : Nat} {bf : ab_B} : decode (ab_code (zx σ n0 bf).1 1041) 257 = .ok (.iaload, 1) := zd zm_1041 (by decide +kernel)
theorem d_1041_258 {σ : Nat → Nat} {n0 : Nat} {bf : ab_B} : decode (ab_code (zx σ n0 bf).1 1041) 258 = .ok (.iadd, 1) := zd zm_1041 (by decide +kernel)
theorem d_1041_259 {σ : Nat → Nat} {n0 : Nat} {bf : ab_B} : decode (ab_code (zx σ n0 bf).1 1041) 259 = .ok (.aload_n 0, 1) := zd zm_1041 (by decide +kernel)
theorem d_1041_260 {σ : Nat → Nat} {n0 : Nat} {bf : ab_B} : decode (ab_code (zx σ n0 bf).1 1041) 260 = .ok (.getfield 107, 3) := zd zm_1041 (by decide +kernel)
theorem d_1041_263 {σ : Nat → Nat} {n0 : Nat} {bf : ab_B} : decode (ab_code (zx σ n0 bf).1 1041) 263 = .ok (.getfield 239, 3) := zd zm_1041 (by decide +kernel)
theorem d_1041_266 {σ : Nat → Nat} {n0 : Nat} {bf : ab_B} : decode (ab_code (zx σ n0 bf).1 1041) 266 = .ok (.aload 4, 2) := zd zm_1041 (by decide +kernel)
theorem d_1041_268 {σ : Nat → Nat} {n0 : Nat} {bf : ab_B} : decode (ab_code (zx σ n0 bf).1 1041) 268 = .ok (.iload_n 3, 1) := zd zm_1041 (by decide +kernel)
theorem d_1041_269 {σ : Nat → Nat} {n0 : Nat} {bf : ab_B} : decode (ab_code (zx σ n0 bf).1 1041) 269 = .ok (.iconst 3, 1) := zd zm_1041 (by decide +kernel)
theorem d_1041_270 {σ : Nat → Nat} {n0 : Nat} {bf : ab_B} : decode (ab_code (zx σ n0 bf).1 1041) 270 = .ok (.iadd, 1) := zd zm_1041 (by decide +kernel)
theorem d_1041_271 {σ : Nat → Nat} {n0 : Nat} {bf : ab_B} : decode (ab_code (zx σ n0 bf).1 1041) 271 = .ok (.iaload, 1) := zd zm_1041 (by decide +kernel)
theorem d_1041_272 {σ : Nat → Nat} {n0 : Nat} {bf : ab_B} : decode (ab_code (zx σ n0 bf).1 1041) 272 = .ok (.invokevirtual 162, 3) := zd zm_1041 (by decide +kernel)
theorem d_1041_275 {σ : Nat → Nat} {n0 : Nat} {bf : ab_B} : decode (ab_code (zx σ n0 bf).1 1041) 275 = .ok (.checkcast 91, 3) := zd zm_1041 (by decide +kernel)
theorem d_1041_278 {σ : Nat → Nat} {n0 : Nat} {bf : ab_B} : decode (ab_code (zx σ n0 bf).1 1041) 278 = .ok (.iload_n 2, 1) := zd zm_1041 (by decide +kernel)
theorem d_1041_279 {σ : Nat → Nat} {n0 : Nat} {bf : ab_B} : decode (ab_code (zx σ n0 bf).1 1041) 279 = .ok (.invokevirtual 483, 3) := zd zm_1041 (by decide +kernel)
theorem d_1041_282 {σ : Nat → Nat} {n0 : Nat} {bf : ab_B} : decode (ab_code (zx σ n0 bf).1 1041) 282 = .ok (.goto 161, 3) := zd zm_1041 (by decide +kernel)
theorem d_1041_285 {σ : Nat → Nat} {n0 : Nat} {bf : ab_B} : decode (ab_code (zx σ n0 bf).1 1041) 285 = .ok (.aload_n 0, 1) := zd zm_1041 (by decide +kernel)
theorem d_1041_286 {σ : Nat → Nat} {n0 : Nat} {bf : ab_B} : decode (ab_code (zx σ n0 bf).1 1041) 286 = .ok (.iload_n 2, 1) := zd zm_1041 (by decide +kernel)
theorem d_1041_287 {σ : Nat → Nat} {n0 : Nat} {bf : ab_B} : decode (ab_code (zx σ n0 bf).1 1041) 287 = .ok (.invokevirtual 487, 3) := zd zm_1041 (by decide +kernel)
theorem d_1041_290 {σ : Nat → Nat} {n0 : Nat} {bf : ab_B} : decode (ab_code (zx σ n0 bf).1 1041) 290 = .ok (.goto 153, 3) := zd zm_1041 (by decide +kernel)
theorem d_1041_293 {σ : Nat → Nat} {n0 : Nat} {bf : ab_B} : decode (ab_code (zx σ n0 bf).1 1041) 293 = .ok (.aload_n 0, 1) := zd zm_1041 (by decide +kernel)
theorem d_1041_294 {σ : Nat → Nat} {n0 : Nat} {bf : ab_B} : decode (ab_code (zx σ n0 bf).1 1041) 294 = .ok (.aload_n 0, 1) := zd zm_1041 (by decide +kernel)
theorem d_1041_295 {σ : Nat → Nat} {n0 : Nat} {bf : ab_B} : decode (ab_code (zx σ n0 bf).1 1041) 295 = .ok (.getfield 107, 3) := zd zm_1041 (by decide +kernel)
theorem d_1041_298 {σ : Nat → Nat} {n0 : Nat} {bf : ab_B} : decode (ab_code (zx σ n0 bf).1 1041) 298 = .ok (.getfield 239, 3) := zd zm_1041 (by decide +kernel)
theorem d_1041_301 {σ : Nat → Nat} {n0 : Nat} {bf : ab_B} : decode (ab_code (zx σ n0 bf).1 1041) 301 = .ok (.aload 4, 2) := zd zm_1041 (by decide +kernel)
theorem d_1041_303 {σ : Nat → Nat} {n0 : Nat} {bf : ab_B} : decode (ab_code (zx σ n0 bf).1 1041) 303 = .ok (.iload_n 3, 1) := zd zm_1041 (by decide +kernel)
theorem d_1041_304 {σ : Nat → Nat} {n0 : Nat} {bf : ab_B} : decode (ab_code (zx σ n0 bf).1 1041) 304 = .ok (.iconst 2, 1) := zd zm_1041 (by decide +kernel)
theorem d_1041_305 {σ : Nat → Nat} {n0 : Nat} {bf : ab_B} : decode (ab_code (zx σ n0 bf).1 1041) 305 = .ok (.iadd, 1) := zd zm_1041 (by decide +kernel)
theorem d_1041_306 {σ : Nat → Nat} {n0 : Nat} {bf : ab_B} : decode (ab_code (zx σ n0 bf).1 1041) 306 = .ok (.iaload, 1) := zd zm_1041 (by decide +kernel)
theorem d_1041_307 {σ : Nat → Nat} {n0 : Nat} {bf : ab_B} : decode (ab_code (zx σ n0 bf).1 1041) 307 = .ok (.invokevirtual 162, 3) := zd zm_1041 (by decide +kernel)
theorem d_1041_310 {σ : Nat → Nat} {n0 : Nat} {bf : ab_B} : decode (ab_code (zx σ n0 bf).1 1041) 310 = .ok (.checkcast 91, 3) := zd zm_1041 (by decide +kernel)
theorem d_1041_313 {σ : Nat → Nat} {n0 : Nat} {bf : ab_B} : decode (ab_code (zx σ n0 bf).1 1041) 313 = .ok (.iload_n 2, 1) := zd zm_1041 (by decide +kernel)
theorem d_1041_314 {σ : Nat → Nat} {n0 : Nat} {bf : ab_B} : decode (ab_code (zx σ n0 bf).1 1041) 314 = .ok (.invokevirtual 490, 3) := zd zm_1041 (by decide +kernel)
theorem d_1041_317 {σ : Nat → Nat} {n0 : Nat} {bf : ab_B} : decode (ab_code (zx σ n0 bf).1 1041) 317 = .ok (.goto 126, 3) := zd zm_1041 (by decide +kernel)
theorem d_1041_320 {σ : Nat → Nat} {n0 : Nat} {bf : ab_B} : decode (ab_code (zx σ n0 bf).1 1041) 320 = .ok (.aload_n 0, 1) := zd zm_1041 (by decide +kernel)
theorem d_1041_321 {σ : Nat → Nat} {n0 : Nat} {bf : ab_B} : decode (ab_code (zx σ n0 bf).1 1041) 321 = .ok (.iload_n 2, 1) := zd zm_1041 (by decide +kernel)
theorem d_1041_322 {σ : Nat → Nat} {n0 : Nat} {bf : ab_B} : decode (ab_code (zx σ n0 bf).1 1041) 322 = .ok (.invokevirtual 493, 3) := zd zm_1041 (by decide +kernel)
theorem d_1041_325 {σ : Nat → Nat} {n0 : Nat} {bf : ab_B} : decode (ab_code (zx σ n0 bf).1 1041) 325 = .ok (.goto 118, 3) := zd zm_1041 (by decide +kernel)
theorem d_1041_328 {σ : Nat → Nat} {n0 : Nat} {bf : ab_B} : decode (ab_code (zx σ n0 bf).1 1041) 328 = .ok (.aload_n 0, 1) := zd zm_1041 (by decide +kernel)
theorem d_1041_329 {σ : Nat → Nat} {n0 : Nat} {bf : ab_B} : decode (ab_code (zx σ n0 bf).1 1041) 329 = .ok (.aload_n 0, 1) := zd zm_1041 (by decide +kernel)
theorem d_1041_330 {σ : Nat → Nat} {n0 : Nat} {bf : ab_B} : decode (ab_code (zx σ n0 bf).1 1041) 330 = .ok (.getfield 107, 3) := zd zm_1041 (by decide +kernel)
theorem d_1041_333 {σ : Nat → Nat} {n0 : Nat} {bf : ab_B} : decode (ab_code (zx σ n0 bf).1 1041) 333 = .ok (.getfield 239, 3) := zd zm_1041 (by decide +kernel)
theorem d_1041_336 {σ : Nat → Nat} {n0 : Nat} {bf : ab_B} : decode (ab_code (zx σ n0 bf).1 1041) 336 = .ok (.aload 4, 2) := zd zm_1041 (by decide +kernel)
theorem d_1041_338 {σ : Nat → Nat} {n0 : Nat} {bf : ab_B} : decode (ab_code (zx σ n0 bf).1 1041) 338 = .ok (.iload_n 3, 1) := zd zm_1041 (by decide +kernel)
theorem d_1041_339 {σ : Nat → Nat} {n0 : Nat} {bf : ab_B} : decode (ab_code (zx σ n0 bf).1 1041) 339 = .ok (.iconst 2, 1) := zd zm_1041 (by decide +kernel)
theorem d_1041_340 {σ : Nat → Nat} {n0 : Nat} {bf : ab_B} : decode (ab_code (zx σ n0 bf).1 1041) 340 = .ok (.iadd, 1) := zd zm_1041 (by decide +kernel)
theorem d_1041_341 {σ : Nat → Nat} {n0 : Nat} {bf : ab_B} : decode (ab_code (zx σ n0 bf).1 1041) 341 = .ok (.iaload, 1) := zd zm_1041 (by decide +kernel)
theorem d_1041_342 {σ : Nat → Nat} {n0 : Nat} {bf : ab_B} : decode (ab_code (zx σ n0 bf).1 1041) 342 = .ok (.invokevirtual 162, 3) := zd zm_1041 (by decide +kernel)
theorem d_1041_345 {σ : Nat → Nat} {n0 : Nat} {bf : ab_B} : decode (ab_code (zx σ n0 bf).1 1041) 345 = .ok (.checkcast 91, 3) := zd zm_1041 (by decide +kernel)
theorem d_1041_348 {σ : Nat → Nat} {n0 : Nat} {bf : ab_B} : decode (ab_code (zx σ n0 bf).1 1041) 348 = .ok (.iload_n 2, 1) := zd zm_1041 (by decide +kernel)
theorem d_1041_349 {σ : Nat → Nat} {n0 : Nat} {bf : ab_B} : decode (ab_code (zx σ n0 bf).1 1041) 349 = .ok (.invokevirtual 496, 3) := zd zm_1041 (by decide +kernel)
theorem d_1041_352 {σ : Nat → Nat} {n0 : Nat} {bf : ab_B} : decode (ab_code (zx σ n0 bf).1 1041) 352 = .ok (.goto 91, 3) := zd zm_1041 (by decide +kernel)
theorem d_1041_355 {σ : Nat → Nat} {n0 : Nat} {bf : ab_B} : decode (ab_code (zx σ n0 bf).1 1041) 355 = .ok (.aload_n 0, 1) := zd zm_1041 (by decide +kernel)
theorem d_1041_356 {σ : Nat → Nat} {n0 : Nat} {bf : ab_B} : decode (ab_code (zx σ n0 bf).1 1041) 356 = .ok (.aload 4, 2) := zd zm_1041 (by decide +kernel)
theorem d_1041_358 {σ : Nat → Nat} {n0 : Nat} {bf : ab_B} : decode (ab_code (zx σ n0 bf).1 1041) 358 = .ok (.iload_n 3, 1) := zd zm_1041 (by decide +kernel)
theorem d_1041_359 {σ : Nat → Nat} {n0 : Nat} {bf : ab_B} : decode (ab_code (zx σ n0 bf).1 1041) 359 = .ok (.iconst 2, 1) := zd zm_1041 (by decide +kernel)
theorem d_1041_360 {σ : Nat → Nat} {n0 : Nat} {bf : ab_B} : decode (ab_code (zx σ n0 bf).1 1041) 360 = .ok (.iadd, 1) := zd zm_1041 (by decide +kernel)
theorem d_1041_361 {σ : Nat → Nat} {n0 : Nat} {bf : ab_B} : decode (ab_code (zx σ n0 bf).1 1041) 361 = .ok (.iaload, 1) := zd zm_1041 (by decide +kernel)
theorem d_1041_362 {σ : Nat → Nat} {n0 : Nat} {bf : ab_B} : decode (ab_code (zx σ n0 bf).1 1041) 362 = .ok (.invokevirtual 499, 3) := zd zm_1041 (by decide +kernel)
theorem d_1041_365 {σ : Nat → Nat} {n0 : Nat} {bf : ab_B} : decode (ab_code (zx σ n0 bf).1 1041) 365 = .ok (.goto 78, 3) := zd zm_1041 (by decide +kernel)
theorem d_1041_368 {σ : Nat → Nat} {n0 : Nat} {bf : ab_B} : decode (ab_code (zx σ n0 bf).1 1041) 368 = .ok (.aload_n 0, 1) := zd zm_1041 (by decide +kernel)
theorem d_1041_369 {σ : Nat → Nat} {n0 : Nat} {bf : ab_B} : decode (ab_code (zx σ n0 bf).1 1041) 369 = .ok (.bipush 10, 2) := zd zm_1041 (by decide +kernel)
theorem d_1041_371 {σ : Nat → Nat} {n0 : Nat} {bf : ab_B} : decode (ab_code (zx σ n0 bf).1 1041) 371 = .ok (.invokevirtual 502, 3) := zd zm_1041 (by decide +kernel)
theorem d_1041_374 {σ : Nat → Nat} {n0 : Nat} {bf : ab_B} : decode (ab_code (zx σ n0 bf).1 1041) 374 = .ok (.goto 69, 3) := zd zm_1041 (by decide +kernel)
theorem d_1041_377 {σ : Nat → Nat} {n0 : Nat} {bf : ab_B} : decode (ab_code (zx σ n0 bf).1 1041) 377 = .ok (.aload_n 0, 1) := zd zm_1041 (by decide +kernel)
theorem d_1041_378 {σ : Nat → Nat} {n0 : Nat} {bf : ab_B} : decode (ab_code (zx σ n0 bf).1 1041) 378 = .ok (.iconst 1, 1) := zd zm_1041 (by decide +kernel)
theorem d_1041_379 {σ : Nat → Nat} {n0 : Nat} {bf : ab_B} : decode (ab_code (zx σ n0 bf).1 1041) 379 = .ok (.putfield 151, 3) := zd zm_1041 (by decide +kernel)
theorem d_1041_382 {σ : Nat → Nat} {n0 : Nat} {bf : ab_B} : decode (ab_code (zx σ n0 bf).1 1041) 382 = .ok (.goto 61, 3) := zd zm_1041 (by decide +kernel)
theorem d_1041_385 {σ : Nat → Nat} {n0 : Nat} {bf : ab_B} : decode (ab_code (zx σ n0 bf).1 1041) 385 = .ok (.aload_n 0, 1) := zd zm_1041 (by decide +kernel)
theorem d_1041_386 {σ : Nat → Nat} {n0 : Nat} {bf : ab_B} : decode (ab_code (zx σ n0 bf).1 1041) 386 = .ok (.dup, 1) := zd zm_1041 (by decide +kernel)
theorem d_1041_387 {σ : Nat → Nat} {n0 : Nat} {bf : ab_B} : decode (ab_code (zx σ n0 bf).1 1041) 387 = .ok (.getfield 111, 3) := zd zm_1041 (by decide +kernel)
theorem d_1041_390 {σ : Nat → Nat} {n0 : Nat} {bf : ab_B} : decode (ab_code (zx σ n0 bf).1 1041) 390 = .ok (.iconst 1, 1) := zd zm_1041 (by decide +kernel)
theorem d_1041_391 {σ : Nat → Nat} {n0 : Nat} {bf : ab_B} : decode (ab_code (zx σ n0 bf).1 1041) 391 = .ok (.isub, 1) := zd zm_1041 (by decide +kernel)
theorem d_1041_392 {σ : Nat → Nat} {n0 : Nat} {bf : ab_B} : decode (ab_code (zx σ n0 bf).1 1041) 392 = .ok (.putfield 111, 3) := zd zm_1041 (by decide +kernel)
theorem d_1041_395 {σ : Nat → Nat} {n0 : Nat} {bf : ab_B} : decode (ab_code (zx σ n0 bf).1 1041) 395 = .ok (.aload_n 0, 1) := zd zm_1041 (by decide +kernel)
theorem d_1041_396 {σ : Nat → Nat} {n0 : Nat} {bf : ab_B} : decode (ab_code (zx σ n0 bf).1 1041) 396 = .ok (.aload_n 0, 1) := zd zm_1041 (by decide +kernel)
theorem d_1041_397 {σ : Nat → Nat} {n0 : Nat} {bf : ab_B} : decode (ab_code (zx σ n0 bf).1 1041) 397 = .ok (.getfield 36, 3) := zd zm_1041 (by decide +kernel)
theorem d_1041_400 {σ : Nat → Nat} {n0 : Nat} {bf : ab_B} : decode (ab_code (zx σ n0 bf).1 1041) 400 = .ok (.aload_n 0, 1) := zd zm_1041 (by decide +kernel)
theorem d_1041_401 {σ : Nat → Nat} {n0 : Nat} {bf : ab_B} : decode (ab_code (zx σ n0 bf).1 1041) 401 = .ok (.getfield 111, 3) := zd zm_1041 (by decide +kernel)
theorem d_1041_404 {σ : Nat → Nat} {n0 : Nat} {bf : ab_B} : decode (ab_code (zx σ n0 bf).1 1041) 404 = .ok (.laload, 1) := zd zm_1041 (by decide +kernel)
theorem d_1041_405 {σ : Nat → Nat} {n0 : Nat} {bf : ab_B} : decode (ab_code (zx σ n0 bf).1 1041) 405 = .ok (.l2i, 1) := zd zm_1041 (by decide +kernel)
theorem d_1041_406 {σ : Nat → Nat} {n0 : Nat} {bf : ab_B} : decode (ab_code (zx σ n0 bf).1 1041) 406 = .ok (.aload_n 0, 1) := zd zm_1041 (by decide +kernel)
theorem d_1041_407 {σ : Nat → Nat} {n0 : Nat} {bf : ab_B} : decode (ab_code (zx σ n0 bf).1 1041) 407 = .ok (.getfield 107, 3) := zd zm_1041 (by decide +kernel)
theorem d_1041_410 {σ : Nat → Nat} {n0 : Nat} {bf : ab_B} : decode (ab_code (zx σ n0 bf).1 1041) 410 = .ok (.getfield 239, 3) := zd zm_1041 (by decide +kernel)
theorem d_1041_413 {σ : Nat → Nat} {n0 : Nat} {bf : ab_B} : decode (ab_code (zx σ n0 bf).1 1041) 413 = .ok (.aload 4, 2) := zd zm_1041 (by decide +kernel)
theorem d_1041_415 {σ : Nat → Nat} {n0 : Nat} {bf : ab_B} : decode (ab_code (zx σ n0 bf).1 1041) 415 = .ok (.iload_n 3, 1) := zd zm_1041 (by decide +kernel)
theorem d_1041_416 {σ : Nat → Nat} {n0 : Nat} {bf : ab_B} : decode (ab_code (zx σ n0 bf).1 1041) 416 = .ok (.iconst 2, 1) := zd zm_1041 (by decide +kernel)
theorem d_1041_417 {σ : Nat → Nat} {n0 : Nat} {bf : ab_B} : decode (ab_code (zx σ n0 bf).1 1041) 417 = .ok (.iadd, 1) := zd zm_1041 (by decide +kernel)
theorem d_1041_418 {σ : Nat → Nat} {n0 : Nat} {bf : ab_B} : decode (ab_code (zx σ n0 bf).1 1041) 418 = .ok (.iaload, 1) := zd zm_1041 (by decide +kernel)
theorem d_1041_419 {σ : Nat → Nat} {n0 : Nat} {bf : ab_B} : decode (ab_code (zx σ n0 bf).1 1041) 419 = .ok (.invokevirtual 162, 3) := zd zm_1041 (by decide +kernel)
theorem d_1041_422 {σ : Nat → Nat} {n0 : Nat} {bf : ab_B} : decode (ab_code (zx σ n0 bf).1 1041) 422 = .ok (.checkcast 91, 3) := zd zm_1041 (by decide +kernel)
theorem d_1041_425 {σ : Nat → Nat} {n0 : Nat} {bf : ab_B} : decode (ab_code (zx σ n0 bf).1 1041) 425 = .ok (.aload 4, 2) := zd zm_1041 (by decide +kernel)
theorem d_1041_427 {σ : Nat → Nat} {n0 : Nat} {bf : ab_B} : decode (ab_code (zx σ n0 bf).1 1041) 427 = .ok (.iload_n 3, 1) := zd zm_1041 (by decide +kernel)
theorem d_1041_428 {σ : Nat → Nat} {n0 : Nat} {bf : ab_B} : decode (ab_code (zx σ n0 bf).1 1041) 428 = .ok (.iconst 3, 1) := zd zm_1041 (by decide +kernel)
theorem d_1041_429 {σ : Nat → Nat} {n0 : Nat} {bf : ab_B} : decode (ab_code (zx σ n0 bf).1 1041) 429 = .ok (.iadd, 1) := zd zm_1041 (by decide +kernel)
theorem d_1041_430 {σ : Nat → Nat} {n0 : Nat} {bf : ab_B} : decode (ab_code (zx σ n0 bf).1 1041) 430 = .ok (.iaload, 1) := zd zm_1041 (by decide +kernel)
theorem d_1041_431 {σ : Nat → Nat} {n0 : Nat} {bf : ab_B} : decode (ab_code (zx σ n0 bf).1 1041) 431 = .ok (.aload 4, 2) := zd zm_1041 (by decide +kernel)
theorem d_1041_433 {σ : Nat → Nat} {n0 : Nat} {bf : ab_B} : decode (ab_code (zx σ n0 bf).1 1041) 433 = .ok (.iload_n 3, 1) := zd zm_1041 (by decide +kernel)
theorem d_1041_434 {σ : Nat → Nat} {n0 : Nat} {bf : ab_B} : decode (ab_code (zx σ n0 bf).1 1041) 434 = .ok (.iconst 4, 1) := zd zm_1041 (by decide +kernel)
theorem d_1041_435 {σ : Nat → Nat} {n0 : Nat} {bf : ab_B} : decode (ab_code (zx σ n0 bf).1 1041) 435 = .ok (.iadd, 1) := zd zm_1041 (by decide +kernel)
theorem d_1041_436 {σ : Nat → Nat} {n0 : Nat} {bf : ab_B} : decode (ab_code (zx σ n0 bf).1 1041) 436 = .ok (.iaload, 1) := zd zm_1041 (by decide +kernel)
theorem d_1041_437 {σ : Nat → Nat} {n0 : Nat} {bf : ab_B} : decode (ab_code (zx σ n0 bf).1 1041) 437 = .ok (.invokevirtual 504, 3) := zd zm_1041 (by decide +kernel)
theorem d_1041_440 {σ : Nat → Nat} {n0 : Nat} {bf : ab_B} : decode (ab_code (zx σ n0 bf).1 1041) 440 = .ok (.goto 3, 3) := zd zm_1041 (by decide +kernel)
theorem d_1041_443 {σ : Nat → Nat} {n0 : Nat} {bf : ab_B} : decode (ab_code (zx σ n0 bf).1 1041) 443 = .ok (.return_, 1) := zd zm_1041 (by decide +kernel)
def w_X2_act_443 (X : zs_X) (d : Nat)  (S : zs_T) (Q : zs_Q) : Prop :=
  (Q (.returned none) S)
theorem u_X2_act_443 {σ : Nat → Nat} {n0 : Nat} {bf : ab_B} {d : Nat}  {S : zs_T} {Q : zs_Q} (hB : zt_B bf) (h : w_X2_act_443 (zx σ n0 bf) d  S Q) : zs_U (zx σ n0 bf) d 1041 443 [] [] S Q := by
  unfold w_X2_act_443 at h
  exact zu_vret d_1041_443 zr_1041 h
def w_X2_act_138 (X : zs_X) (d : Nat) (p0 : Nat) (p3 : Int32) (p4 : Option Nat) (S : zs_T) (Q : zs_Q) : Prop :=
  (∃ b1, p4 = some b1 ∧ zs_A S b1 0 (p3 + (2 : Int32)) ∧ zs_K S p0 = some (.inl 1) ∧ ab_n0 X.1 ≤ p0 ∧ ∀ S6, S6 = zs_sI S 1033 p0 (zs_i S b1 (p3 + (2 : Int32)).toNatClampNeg) → w_X2_act_443 X d  S6 Q)
theorem u_X2_act_138 {σ : Nat → Nat} {n0 : Nat} {bf : ab_B} {d : Nat} {p0 : Nat} {p3 : Int32} {p4 : Option Nat} {S : zs_T} {Q : zs_Q} (hB : zt_B bf) (h : w_X2_act_138 (zx σ n0 bf) d p0 p3 p4 S Q) : zs_U (zx σ n0 bf) d 1041 138 [(0, .ref p0), (3, .int p3), (4, va_rf p4)] [] S Q := by
  unfold w_X2_act_138 at h
  refine zu_aload_n d_1041_138 rfl (zs_ra _) ?_
  refine zu_aload d_1041_139 rfl (zs_rr _) ?_
  refine zu_iload_n d_1041_141 rfl ?_
  refine zu_iconst d_1041_142 zi_2 ?_
  refine zu_stk d_1041_143 rfl rfl ?_
  obtain ⟨b1, e2, h⟩ := h
  refine zs_stk1 (zs_rfe e2) ?_
  obtain ⟨k3, h⟩ := h
  refine zu_iald (k := 0) d_1041_144 rfl rfl k3 ?_
  obtain ⟨k4, h⟩ := h
  obtain ⟨k5, h⟩ := h
  refine zp_1_175 (v := (zs_i S b1 (p3 + (2 : Int32)).toNatClampNeg)) rfl d_1041_145 k4 k5 ?_
  generalize e7 : zs_sI S 1033 p0 (zs_i S b1 (p3 + (2 : Int32)).toNatClampNeg) = S6
  have h := h S6 e7.symm
  have K8 : ∀ b, zs_K S6 b = zs_K S b := zs_Kt e7 (zs_KsI _ _ _ _) (fun _ => rfl)
  refine zu_goto (t := 443) d_1041_148 rfl ?_
  exact (u_X2_act_443 hB h).weak trivial
def w_X2_act_231 (X : zs_X) (d : Nat)  (S : zs_T) (Q : zs_Q) : Prop :=
  (w_X2_act_443 X d  S Q)
theorem u_X2_act_231 {σ : Nat → Nat} {n0 : Nat} {bf : ab_B} {d : Nat}  {S : zs_T} {Q : zs_Q} (hB : zt_B bf) (h : w_X2_act_231 (zx σ n0 bf) d  S Q) : zs_U (zx σ n0 bf) d 1041 231 [] [] S Q := by
  unfold w_X2_act_231 at h
  refine zu_goto (t := 443) d_1041_231 rfl ?_
  exact (u_X2_act_443 hB h).weak trivial
def w_X2_act_282 (X : zs_X) (d : Nat)  (S : zs_T) (Q : zs_Q) : Prop :=
  (w_X2_act_443 X d  S Q)
theorem u_X2_act_282 {σ : Nat → Nat} {n0 : Nat} {bf : ab_B} {d : Nat}  {S : zs_T} {Q : zs_Q} (hB : zt_B bf) (h : w_X2_act_282 (zx σ n0 bf) d  S Q) : zs_U (zx σ n0 bf) d 1041 282 [] [] S Q := by
  unfold w_X2_act_282 at h
  refine zu_goto (t := 443) d_1041_282 rfl ?_
  exact (u_X2_act_443 hB h).weak trivial
def w_X2_act_317 (X : zs_X) (d : Nat)  (S : zs_T) (Q : zs_Q) : Prop :=
  (w_X2_act_443 X d  S Q)
theorem u_X2_act_317 {σ : Nat → Nat} {n0 : Nat} {bf : ab_B} {d : Nat}  {S : zs_T} {Q : zs_Q} (hB : zt_B bf) (h : w_X2_act_317 (zx σ n0 bf) d  S Q) : zs_U (zx σ n0 bf) d 1041 317 [] [] S Q := by
  unfold w_X2_act_317 at h
  refine zu_goto (t := 443) d_1041_317 rfl ?_
  exact (u_X2_act_443 hB h).weak trivial
def w_X2_act_352 (X : zs_X) (d : Nat)  (S : zs_T) (Q : zs_Q) : Prop :=
  (w_X2_act_443 X d  S Q)
theorem u_X2_act_352 {σ : Nat → Nat} {n0 : Nat} {bf : ab_B} {d : Nat}  {S : zs_T} {Q : zs_Q} (hB : zt_B bf) (h : w_X2_act_352 (zx σ n0 bf) d  S Q) : zs_U (zx σ n0 bf) d 1041 352 [] [] S Q := by
  unfold w_X2_act_352 at h
  refine zu_goto (t := 443) d_1041_352 rfl ?_
  exact (u_X2_act_443 hB h).weak trivial
def w_X2_act_440 (X : zs_X) (d : Nat)  (S : zs_T) (Q : zs_Q) : Prop :=
  (w_X2_act_443 X d  S Q)
theorem u_X2_act_440 {σ : Nat → Nat} {n0 : Nat} {bf : ab_B} {d : Nat}  {S : zs_T} {Q : zs_Q} (hB : zt_B bf) (h : w_X2_act_440 (zx σ n0 bf) d  S Q) : zs_U (zx σ n0 bf) d 1041 440 [] [] S Q := by
  unfold w_X2_act_440 at h
  refine zu_goto (t := 443) d_1041_440 rfl ?_
  exact (u_X2_act_443 hB h).weak trivial
def w_X2_act (X : zs_X) (d : Nat) (p0 : Nat) (p1 : Int32) (p2 : Int32) (p3 : Int32) (S : zs_T) (Q : zs_Q) : Prop :=
  (zs_K S p0 = some (.inl 1) ∧ ∃ b2, (zs_R S 1000 p0) = some b2 ∧ zs_K S b2 = some (.inl 3) ∧ ((p1.toInt < 37 ∨ 56 < p1.toInt → w_X2_act_443 X d  S Q) ∧ (p1.toInt = 37 → (∃ b6, (zs_R S 3000 b2) = some b6 ∧ zs_A S b6 0 (p3 + (2 : Int32)) ∧ ab_n0 X.1 ≤ p0 ∧ ∀ S10, S10 = zs_sI S 1033 p0 (zs_i S b6 (p3 + (2 : Int32)).toNatClampNeg) → w_X2_act_443 X d  S10 Q)) ∧ (p1.toInt = 38 → (ab_n0 X.1 ≤ p0 ∧ ∀ S14, S14 = zs_sI S 1007 p0 ((zs_I S 1007 p0) - (1 : Int32)) → ∃ b17, (zs_R S 1005 p0) = some b17 ∧ zs_A S b17 3 ((zs_I S 1007 p0) - (1 : Int32)) ∧ ((¬ (zs_j S14 b17 ((zs_I S 1007 p0) - (1 : Int32)).toNatClampNeg) = (0 : Int64) → w_X2_act_443 X d  S14 Q) ∧ (¬ (¬ (zs_j S14 b17 ((zs_I S 1007 p0) - (1 : Int32)).toNatClampNeg) = (0 : Int64)) → w_X2_act_138 X d p0 p3 (zs_R S 3000 b2) S14 Q)))) ∧ (p1.toInt = 39 → (zs_C X d 1042 [.ref p0, .int p2, .int p3] S (zs_kV (fun S21 => (w_X2_act_443 X d  S21 Q)) Q))) ∧ (p1.toInt = 40 → (zs_C X d 1043 [.ref p0, .int p2, .int p3] S (zs_kV (fun S23 => (w_X2_act_443 X d  S23 Q)) Q))) ∧ (p1.toInt = 41 → (zs_C X d 1044 [.ref p0, .int p3] S (zs_kV (fun S25 => (w_X2_act_443 X d  S25 Q)) Q))) ∧ (p1.toInt = 42 → (zs_C X d 1004 [.ref p0, .int (8 : Int32), .int p2] S (zs_kI (fun v28 S27 => (w_X2_act_443 X d  S27 Q)) Q))) ∧ (p1.toInt = 43 → (∃ b29, (zs_R S 3000 b2) = some b29 ∧ zs_A S b29 0 (p3 + (2 : Int32)) ∧ ∃ b32, (zs_R S 3004 b2) = some b32 ∧ zs_K S b32 = some (.inl 16) ∧ zs_C X d 16009 [.ref b32, .int (zs_i S b29 (p3 + (2 : Int32)).toNatClampNeg)] S (zs_kR (fun v36 S35 => ((∀ a, v36 = some a → zs_K S35 a = some (.inl 10)) ∧ zs_A S35 b29 0 (p3 + (3 : Int32)) ∧ zs_K S35 p0 = some (.inl 1) ∧ zs_C X d 1045 [.ref p0, va_rf v36, .int (zs_i S35 b29 (p3 + (3 : Int32)).toNatClampNeg), .int p2] S35 (zs_kV (fun S40 => w_X2_act_231 X d  S40 Q) Q))) Q))) ∧ (p1.toInt = 44 → (zs_C X d 1050 [.ref p0, .int p2] S (zs_kV (fun S42 => (w_X2_act_443 X d  S42 Q)) Q))) ∧ (p1.toInt = 45 → w_X2_act_443 X d  S Q) ∧ (p1.toInt = 46 → (zs_C X d 1053 [.ref p0, .int p2] S (zs_kV (fun S44 => (w_X2_act_443 X d  S44 Q)) Q))) ∧ (p1.toInt = 47 → w_X2_act_443 X d  S Q) ∧ (p1.toInt = 48 → (∃ b46, (zs_R S 3000 b2) = some b46 ∧ zs_A S b46 0 (p3 + (2 : Int32)) ∧ ∃ b49, (zs_R S 3002 b2) = some b49 ∧ zs_K S b49 = some (.inl 16) ∧ zs_C X d 16009 [.ref b49, .int (zs_i S b46 (p3 + (2 : Int32)).toNatClampNeg)] S (zs_kR (fun v53 S52 => ((∀ a, v53 = some a → zs_K S52 a = some (.inl 6)) ∧ zs_K S52 p0 = some (.inl 1) ∧ zs_C X d 1054 [.ref p0, va_rf v53, .int p2] S52 (zs_kV (fun S56 => w_X2_act_317 X d  S56 Q) Q))) Q))) ∧ (p1.toInt = 49 → (zs_C X d 1055 [.ref p0, .int p2] S (zs_kV (fun S58 => (w_X2_act_443 X d  S58 Q)) Q))) ∧ (p1.toInt = 50 → (∃ b60, (zs_R S 3000 b2) = some b60 ∧ zs_A S b60 0 (p3 + (2 : Int32)) ∧ ∃ b63, (zs_R S 3002 b2) = some b63 ∧ zs_K S b63 = some (.inl 16) ∧ zs_C X d 16009 [.ref b63, .int (zs_i S b60 (p3 + (2 : Int32)).toNatClampNeg)] S (zs_kR (fun v67 S66 => ((∀ a, v67 = some a → zs_K S66 a = some (.inl 6)) ∧ zs_K S66 p0 = some (.inl 1) ∧ zs_C X d 1056 [.ref p0, va_rf v67, .int p2] S66 (zs_kV (fun S70 => w_X2_act_352 X d  S70 Q) Q))) Q))) ∧ (p1.toInt = 51 → (∃ b72, (zs_R S 3000 b2) = some b72 ∧ zs_A S b72 0 (p3 + (2 : Int32)) ∧ zs_C X d 1057 [.ref p0, .int (zs_i S b72 (p3 + (2 : Int32)).toNatClampNeg)] S (zs_kV (fun S75 => (w_X2_act_443 X d  S75 Q)) Q))) ∧ (p1.toInt = 52 → (zs_C X d 1058 [.ref p0, .int (10 : Int32)] S (zs_kV (fun S77 => (w_X2_act_443 X d  S77 Q)) Q))) ∧ (p1.toInt = 53 → (ab_n0 X.1 ≤ p0 ∧ ∀ S80, S80 = zs_sI S 1039 p0 (1 : Int32) → w_X2_act_443 X d  S80 Q)) ∧ (p1.toInt = 54 → (∃ b83, (zs_R S 1021 p0) = some b83 ∧ zs_A S b83 0 (zs_I S 1025 p0) ∧ ∃ b86, (zs_R S 3000 b2) = some b86 ∧ zs_A S b86 0 (p3 + (2 : Int32)) ∧ zs_A S b86 0 (p3 + (3 : Int32)) ∧ ∃ b90, (zs_R S 3002 b2) = some b90 ∧ zs_K S b90 = some (.inl 16) ∧ zs_C X d 16009 [.ref b90, .int (zs_i S b86 (p3 + (3 : Int32)).toNatClampNeg)] S (zs_kR (fun v94 S93 => ((∀ a, v94 = some a → zs_K S93 a = some (.inl 6)) ∧ zs_K S93 p0 = some (.inl 1) ∧ zs_C X d 1051 [.ref p0, .int ((zs_i S b83 (zs_I S 1025 p0).toNatClampNeg) + (zs_i S b86 (p3 + (2 : Int32)).toNatClampNeg)), va_rf v94, .int p2] S93 (zs_kV (fun S97 => w_X2_act_282 X d  S97 Q) Q))) Q))) ∧ (p1.toInt = 55 → (ab_n0 X.1 ≤ p0 ∧ ∀ S100, S100 = zs_sI S 1007 p0 ((zs_I S 1007 p0) - (1 : Int32)) → w_X2_act_443 X d  S100 Q)) ∧ (p1.toInt = 56 → (ab_n0 X.1 ≤ p0 ∧ ∀ S104, S104 = zs_sI S 1007 p0 ((zs_I S 1007 p0) - (1 : Int32)) → ∃ b107, (zs_R S104 1005 p0) = some b107 ∧ zs_A S b107 3 (zs_I S104 1007 p0) ∧ ∃ b110, (zs_R S104 1000 p0) = some b110 ∧ zs_K S b110 = some (.inl 3) ∧ ∃ b113, (zs_R S 3000 b2) = some b113 ∧ zs_A S b113 0 (p3 + (2 : Int32)) ∧ ∃ b116, (zs_R S104 3002 b110) = some b116 ∧ zs_K S b116 = some (.inl 16) ∧ zs_C X d 16009 [.ref b116, .int (zs_i S104 b113 (p3 + (2 : Int32)).toNatClampNeg)] S104 (zs_kR (fun v120 S119 => ((∀ a, v120 = some a → zs_K S119 a = some (.inl 6)) ∧ zs_A S119 b113 0 (p3 + (3 : Int32)) ∧ zs_A S119 b113 0 (p3 + (4 : Int32)) ∧ zs_K S119 p0 = some (.inl 1) ∧ zs_C X d 1061 [.ref p0, .int (((zs_j S104 b107 (zs_I S104 1007 p0).toNatClampNeg)).toInt32), va_rf v120, .int (zs_i S119 b113 (p3 + (3 : Int32)).toNatClampNeg), .int (zs_i S119 b113 (p3 + (4 : Int32)).toNatClampNeg)] S119 (zs_kV (fun S125 => w_X2_act_440 X d  S125 Q) Q))) Q)))))
theorem u_X2_act {σ : Nat → Nat} {n0 : Nat} {bf : ab_B} {d : Nat} {p0 : Nat} {p1 : Int32} {p2 : Int32} {p3 : Int32} {S : zs_T} {Q : zs_Q} (hB : zt_B bf) (hd : 1 ≤ d) (h : w_X2_act (zx σ n0 bf) (d - 1) p0 p1 p2 p3 S Q) : zs_C (zx σ n0 bf) d 1041 [.ref p0, .int p1, .int p2, .int p3] S Q := by
  have hL : lv_args 0 [.ref p0, .int p1, .int p2, .int p3] = [(0, .ref p0), (1, .int p1), (2, .int p2), (3, .int p3)] := rfl
  refine zs_C.of1 (hB.2 1041 (by decide) (by decide)) hd (by rw [hL]; exact zs_sub_self _ (by exact ⟨rfl, rfl, rfl, rfl, trivial⟩)) ?_
  rw [hL]
  clear hL
  unfold w_X2_act at h
  refine zu_aload_n d_1041_0 rfl (zs_ra _) ?_
  obtain ⟨k1, h⟩ := h
  refine zg_1_107 rfl d_1041_1 k1 ?_
  obtain ⟨b2, e3, h⟩ := h
  refine zs_stk0 (zs_rfe e3) ?_
  obtain ⟨k4, h⟩ := h
  refine zg_1_201 rfl d_1041_4 k4 ?_
  refine zu_astore d_1041_7 (zs_rr _) (zs_lt zq_1041 rfl) ?_
  refine zu_iload_n d_1041_9 rfl ?_
  refine zu_tsw (td := 443) d_1041_10 (by decide) rfl (fun c5 => ?_) ⟨fun c5 => ⟨by decide, ?_⟩, fun c5 => ⟨by decide, ?_⟩, fun c5 => ⟨by decide, ?_⟩, fun c5 => ⟨by decide, ?_⟩, fun c5 => ⟨by decide, ?_⟩, fun c5 => ⟨by decide, ?_⟩, fun c5 => ⟨by decide, ?_⟩, fun c5 => ⟨by decide, ?_⟩, fun c5 => ⟨by decide, ?_⟩, fun c5 => ⟨by decide, ?_⟩, fun c5 => ⟨by decide, ?_⟩, fun c5 => ⟨by decide, ?_⟩, fun c5 => ⟨by decide, ?_⟩, fun c5 => ⟨by decide, ?_⟩, fun c5 => ⟨by decide, ?_⟩, fun c5 => ⟨by decide, ?_⟩, fun c5 => ⟨by decide, ?_⟩, fun c5 => ⟨by decide, ?_⟩, fun c5 => ⟨by decide, ?_⟩, fun c5 => ⟨by decide, ?_⟩, trivial⟩
  · have h := h.1 c5
    exact (u_X2_act_443 hB h).weak trivial
  · have h := h.2.1 c5
    show zs_U _ _ _ 104 _ _ _ _
    refine zu_aload_n d_1041_104 rfl (zs_ra _) ?_
    refine zu_aload d_1041_105 rfl (zs_rr _) ?_
    refine zu_iload_n d_1041_107 rfl ?_
    refine zu_iconst d_1041_108 zi_2 ?_
    refine zu_stk d_1041_109 rfl rfl ?_
    obtain ⟨b6, e7, h⟩ := h
    refine zs_stk1 (zs_rfe e7) ?_
    obtain ⟨k8, h⟩ := h
    refine zu_iald (k := 0) d_1041_110 rfl rfl k8 ?_
    obtain ⟨k9, h⟩ := h
    refine zp_1_175 (v := (zs_i S b6 (p3 + (2 : Int32)).toNatClampNeg)) rfl d_1041_111 k1 k9 ?_
    generalize e11 : zs_sI S 1033 p0 (zs_i S b6 (p3 + (2 : Int32)).toNatClampNeg) = S10
    have h := h S10 e11.symm
    have K12 : ∀ b, zs_K S10 b = zs_K S b := zs_Kt e11 (zs_KsI _ _ _ _) (fun _ => rfl)
    refine zu_goto (t := 443) d_1041_114 rfl ?_
    exact (u_X2_act_443 hB h).weak trivial
  · have h := h.2.2.1 c5
    show zs_U _ _ _ 117 _ _ _ _
    refine zu_aload_n d_1041_117 rfl (zs_ra _) ?_
    refine zg_1_36 rfl d_1041_118 k1 ?_
    refine zu_aload_n d_1041_121 rfl (zs_ra _) ?_
    refine zu_dup d_1041_122 rfl ?_
    refine zg_1_111 rfl d_1041_123 k1 ?_
    refine zu_iconst d_1041_126 zi_1 ?_
    refine zu_stk d_1041_127 rfl rfl ?_
    refine zu_dup_x1 d_1041_128 rfl rfl ?_
    obtain ⟨k13, h⟩ := h
    refine zp_1_111 (v := ((zs_I S 1007 p0) - (1 : Int32))) rfl d_1041_129 k1 k13 ?_
    generalize e15 : zs_sI S 1007 p0 ((zs_I S 1007 p0) - (1 : Int32)) = S14
    have h := h S14 e15.symm
    have K16 : ∀ b, zs_K S14 b = zs_K S b := zs_Kt e15 (zs_KsI _ _ _ _) (fun _ => rfl)
    obtain ⟨b17, e18, h⟩ := h
    refine zs_stk1 (zs_rfe e18) ?_
    obtain ⟨k19, h⟩ := h
    refine zu_lald (k := 3) d_1041_132 rfl rfl (zs_Ak K16 k19) ?_
    refine zu_lconst (v := 0) d_1041_133 rfl ?_
    refine zu_lne (t := 443) d_1041_134 d_1041_135 rfl (fun c20 => ?_) (fun c20 => ?_)
    · have h := h.1 c20
      exact (u_X2_act_443 hB h).weak trivial
    · have h := h.2 c20
      exact (u_X2_act_138 hB h).weak ⟨rfl, rfl, rfl, trivial⟩
  · have h := h.2.2.2.1 c5
    show zs_U _ _ _ 151 _ _ _ _
    refine zu_aload_n d_1041_151 rfl (zs_ra _) ?_
    refine zu_iload_n d_1041_152 rfl ?_
    refine zu_iload_n d_1041_153 rfl ?_
    refine zc_1_466 (x0 := p2) (x1 := p3) hB rfl k1 d_1041_154 (Nat.le_of_ble_eq_true rfl) h (fun S21 h => ?_)
    refine zu_goto (t := 443) d_1041_157 rfl ?_
    exact (u_X2_act_443 hB h).weak trivial
  · have h := h.2.2.2.2.1 c5
    show zs_U _ _ _ 160 _ _ _ _
    refine zu_aload_n d_1041_160 rfl (zs_ra _) ?_
    refine zu_iload_n d_1041_161 rfl ?_
    refine zu_iload_n d_1041_162 rfl ?_
    refine zc_1_470 (x0 := p2) (x1 := p3) hB rfl k1 d_1041_163 (Nat.le_of_ble_eq_true rfl) h (fun S23 h => ?_)
    refine zu_goto (t := 443) d_1041_166 rfl ?_
    exact (u_X2_act_443 hB h).weak trivial
  · have h := h.2.2.2.2.2.1 c5
    show zs_U _ _ _ 169 _ _ _ _
    refine zu_aload_n d_1041_169 rfl (zs_ra _) ?_
    refine zu_iload_n d_1041_170 rfl ?_
    refine zc_1_473 (x0 := p3) hB rfl k1 d_1041_171 (Nat.le_of_ble_eq_true rfl) h (fun S25 h => ?_)
    refine zu_goto (t := 443) d_1041_174 rfl ?_
    exact (u_X2_act_443 hB h).weak trivial
  · have h := h.2.2.2.2.2.2.1 c5
    show zs_U _ _ _ 177 _ _ _ _
    refine zu_aload_n d_1041_177 rfl (zs_ra _) ?_
    refine zu_bipush d_1041_178 zj_8 ?_
    refine zu_iload_n d_1041_180 rfl ?_
    refine zc_1_194 (x0 := (8 : Int32)) (x1 := p2) hB rfl k1 d_1041_181 (Nat.le_of_ble_eq_true rfl) h (fun v28 S27 h => ?_)
    refine zu_pop d_1041_184 rfl ?_
    refine zu_goto (t := 443) d_1041_185 rfl ?_
    exact (u_X2_act_443 hB h).weak trivial
  · have h := h.2.2.2.2.2.2.2.1 c5
    show zs_U _ _ _ 201 _ _ _ _
    refine zu_aload_n d_1041_201 rfl (zs_ra _) ?_
    refine zu_aload_n d_1041_202 rfl (zs_ra _) ?_
    refine zg_1_107 rfl d_1041_203 k1 ?_
    refine zs_stk0 (zs_rfe e3) ?_
    refine zg_1_157 rfl d_1041_206 k4 ?_
    refine zu_aload d_1041_209 rfl (zs_rr _) ?_
    refine zu_iload_n d_1041_211 rfl ?_
    refine zu_iconst d_1041_212 zi_2 ?_
    refine zu_stk d_1041_213 rfl rfl ?_
    obtain ⟨b29, e30, h⟩ := h
    refine zs_stk1 (zs_rfe e30) ?_
    obtain ⟨k31, h⟩ := h
    refine zu_iald (k := 0) d_1041_214 rfl rfl k31 ?_
    obtain ⟨b32, e33, h⟩ := h
    refine zs_stk1 (zs_rfe e33) ?_
    obtain ⟨k34, h⟩ := h
    refine zc_1_162 (x0 := (zs_i S b29 (p3 + (2 : Int32)).toNatClampNeg)) hB rfl k34 d_1041_215 (Nat.le_of_ble_eq_true rfl) h (fun v36 S35 h => ?_)
    obtain ⟨k37, h⟩ := h
    refine zk_1_55 (o := v36) rfl d_1041_218 k37 ?_
    refine zu_aload d_1041_221 rfl (zs_rr _) ?_
    refine zu_iload_n d_1041_223 rfl ?_
    refine zu_iconst d_1041_224 zi_3 ?_
    refine zu_stk d_1041_225 rfl rfl ?_
    refine zs_stk1 (zs_rfe e30) ?_
    obtain ⟨k38, h⟩ := h
    refine zu_iald (k := 0) d_1041_226 rfl rfl k38 ?_
    refine zu_iload_n d_1041_227 rfl ?_
    obtain ⟨k39, h⟩ := h
    refine zc_1_476 (x0 := v36) (x1 := (zs_i S35 b29 (p3 + (3 : Int32)).toNatClampNeg)) (x2 := p2) hB rfl k39 d_1041_228 (Nat.le_of_ble_eq_true rfl) h (fun S40 h => ?_)
    exact (u_X2_act_231 hB h).weak trivial
  · have h := h.2.2.2.2.2.2.2.2.1 c5
    show zs_U _ _ _ 234 _ _ _ _
    refine zu_aload_n d_1041_234 rfl (zs_ra _) ?_
    refine zu_iload_n d_1041_235 rfl ?_
    refine zc_1_480 (x0 := p2) hB rfl k1 d_1041_236 (Nat.le_of_ble_eq_true rfl) h (fun S42 h => ?_)
    refine zu_goto (t := 443) d_1041_239 rfl ?_
    exact (u_X2_act_443 hB h).weak trivial
  · have h := h.2.2.2.2.2.2.2.2.2.1 c5
    show zs_U _ _ _ 443 _ _ _ _
    exact (u_X2_act_443 hB h).weak trivial
  · have h := h.2.2.2.2.2.2.2.2.2.2.1 c5
    show zs_U _ _ _ 285 _ _ _ _
    refine zu_aload_n d_1041_285 rfl (zs_ra _) ?_
    refine zu_iload_n d_1041_286 rfl ?_
    refine zc_1_487 (x0 := p2) hB rfl k1 d_1041_287 (Nat.le_of_ble_eq_true rfl) h (fun S44 h => ?_)
    refine zu_goto (t := 443) d_1041_290 rfl ?_
    exact (u_X2_act_443 hB h).weak trivial
  · have h := h.2.2.2.2.2.2.2.2.2.2.2.1 c5
    show zs_U _ _ _ 443 _ _ _ _
    exact (u_X2_act_443 hB h).weak trivial
  · have h := h.2.2.2.2.2.2.2.2.2.2.2.2.1 c5
    show zs_U _ _ _ 293 _ _ _ _
    refine zu_aload_n d_1041_293 rfl (zs_ra _) ?_
    refine zu_aload_n d_1041_294 rfl (zs_ra _) ?_
    refine zg_1_107 rfl d_1041_295 k1 ?_
    refine zs_stk0 (zs_rfe e3) ?_
    refine zg_1_239 rfl d_1041_298 k4 ?_
    refine zu_aload d_1041_301 rfl (zs_rr _) ?_
    refine zu_iload_n d_1041_303 rfl ?_
    refine zu_iconst d_1041_304 zi_2 ?_
    refine zu_stk d_1041_305 rfl rfl ?_
    obtain ⟨b46, e47, h⟩ := h
    refine zs_stk1 (zs_rfe e47) ?_
    obtain ⟨k48, h⟩ := h
    refine zu_iald (k := 0) d_1041_306 rfl rfl k48 ?_
    obtain ⟨b49, e50, h⟩ := h
    refine zs_stk1 (zs_rfe e50) ?_
    obtain ⟨k51, h⟩ := h
    refine zc_1_162 (x0 := (zs_i S b46 (p3 + (2 : Int32)).toNatClampNeg)) hB rfl k51 d_1041_307 (Nat.le_of_ble_eq_true rfl) h (fun v53 S52 h => ?_)
    obtain ⟨k54, h⟩ := h
    refine zk_1_91 (o := v53) rfl d_1041_310 k54 ?_
    refine zu_iload_n d_1041_313 rfl ?_
    obtain ⟨k55, h⟩ := h
    refine zc_1_490 (x0 := v53) (x1 := p2) hB rfl k55 d_1041_314 (Nat.le_of_ble_eq_true rfl) h (fun S56 h => ?_)
    exact (u_X2_act_317 hB h).weak trivial
  · have h := h.2.2.2.2.2.2.2.2.2.2.2.2.2.1 c5
    show zs_U _ _ _ 320 _ _ _ _
    refine zu_aload_n d_1041_320 rfl (zs_ra _) ?_
    refine zu_iload_n d_1041_321 rfl ?_
    refine zc_1_493 (x0 := p2) hB rfl k1 d_1041_322 (Nat.le_of_ble_eq_true rfl) h (fun S58 h => ?_)
    refine zu_goto (t := 443) d_1041_325 rfl ?_
    exact (u_X2_act_443 hB h).weak trivial
  · have h := h.2.2.2.2.2.2.2.2.2.2.2.2.2.2.1 c5
    show zs_U _ _ _ 328 _ _ _ _
    refine zu_aload_n d_1041_328 rfl (zs_ra _) ?_
    refine zu_aload_n d_1041_329 rfl (zs_ra _) ?_
    refine zg_1_107 rfl d_1041_330 k1 ?_
    refine zs_stk0 (zs_rfe e3) ?_
    refine zg_1_239 rfl d_1041_333 k4 ?_
    refine zu_aload d_1041_336 rfl (zs_rr _) ?_
    refine zu_iload_n d_1041_338 rfl ?_
    refine zu_iconst d_1041_339 zi_2 ?_
    refine zu_stk d_1041_340 rfl rfl ?_
    obtain ⟨b60, e61, h⟩ := h
    refine zs_stk1 (zs_rfe e61) ?_
    obtain ⟨k62, h⟩ := h
    refine zu_iald (k := 0) d_1041_341 rfl rfl k62 ?_
    obtain ⟨b63, e64, h⟩ := h
    refine zs_stk1 (zs_rfe e64) ?_
    obtain ⟨k65, h⟩ := h
    refine zc_1_162 (x0 := (zs_i S b60 (p3 + (2 : Int32)).toNatClampNeg)) hB rfl k65 d_1041_342 (Nat.le_of_ble_eq_true rfl) h (fun v67 S66 h => ?_)
    obtain ⟨k68, h⟩ := h
    refine zk_1_91 (o := v67) rfl d_1041_345 k68 ?_
    refine zu_iload_n d_1041_348 rfl ?_
    obtain ⟨k69, h⟩ := h
    refine zc_1_496 (x0 := v67) (x1 := p2) hB rfl k69 d_1041_349 (Nat.le_of_ble_eq_true rfl) h (fun S70 h => ?_)
    exact (u_X2_act_352 hB h).weak trivial
  · have h := h.2.2.2.2.2.2.2.2.2.2.2.2.2.2.2.1 c5
    show zs_U _ _ _ 355 _ _ _ _
    refine zu_aload_n d_1041_355 rfl (zs_ra _) ?_
    refine zu_aload d_1041_356 rfl (zs_rr _) ?_
    refine zu_iload_n d_1041_358 rfl ?_
    refine zu_iconst d_1041_359 zi_2 ?_
    refine zu_stk d_1041_360 rfl rfl ?_
    obtain ⟨b72, e73, h⟩ := h
    refine zs_stk1 (zs_rfe e73) ?_
    obtain ⟨k74, h⟩ := h
    refine zu_iald (k := 0) d_1041_361 rfl rfl k74 ?_
    refine zc_1_499 (x0 := (zs_i S b72 (p3 + (2 : Int32)).toNatClampNeg)) hB rfl k1 d_1041_362 (Nat.le_of_ble_eq_true rfl) h (fun S75 h => ?_)
    refine zu_goto (t := 443) d_1041_365 rfl ?_
    exact (u_X2_act_443 hB h).weak trivial
  · have h := h.2.2.2.2.2.2.2.2.2.2.2.2.2.2.2.2.1 c5
    show zs_U _ _ _ 368 _ _ _ _
    refine zu_aload_n d_1041_368 rfl (zs_ra _) ?_
    refine zu_bipush d_1041_369 zj_10 ?_
    refine zc_1_502 (x0 := (10 : Int32)) hB rfl k1 d_1041_371 (Nat.le_of_ble_eq_true rfl) h (fun S77 h => ?_)
    refine zu_goto (t := 443) d_1041_374 rfl ?_
    exact (u_X2_act_443 hB h).weak trivial
  · have h := h.2.2.2.2.2.2.2.2.2.2.2.2.2.2.2.2.2.1 c5
    show zs_U _ _ _ 377 _ _ _ _
    refine zu_aload_n d_1041_377 rfl (zs_ra _) ?_
    refine zu_iconst d_1041_378 zi_1 ?_
    obtain ⟨k79, h⟩ := h
    refine zp_1_151 (v := (1 : Int32)) rfl d_1041_379 k1 k79 (Or.inr rfl) ?_
    generalize e81 : zs_sI S 1039 p0 (1 : Int32) = S80
    have h := h S80 e81.symm
    have K82 : ∀ b, zs_K S80 b = zs_K S b := zs_Kt e81 (zs_KsI _ _ _ _) (fun _ => rfl)
    refine zu_goto (t := 443) d_1041_382 rfl ?_
    exact (u_X2_act_443 hB h).weak trivial
  · have h := h.2.2.2.2.2.2.2.2.2.2.2.2.2.2.2.2.2.2.1 c5
    show zs_U _ _ _ 242 _ _ _ _
    refine zu_aload_n d_1041_242 rfl (zs_ra _) ?_
    refine zu_aload_n d_1041_243 rfl (zs_ra _) ?_
    refine zg_1_70 rfl d_1041_244 k1 ?_
    refine zu_aload_n d_1041_247 rfl (zs_ra _) ?_
    refine zg_1_129 rfl d_1041_248 k1 ?_
    obtain ⟨b83, e84, h⟩ := h
    refine zs_stk1 (zs_rfe e84) ?_
    obtain ⟨k85, h⟩ := h
    refine zu_iald (k := 0) d_1041_251 rfl rfl k85 ?_
    refine zu_aload d_1041_252 rfl (zs_rr _) ?_
    refine zu_iload_n d_1041_254 rfl ?_
    refine zu_iconst d_1041_255 zi_2 ?_
    refine zu_stk d_1041_256 rfl rfl ?_
    obtain ⟨b86, e87, h⟩ := h
    refine zs_stk1 (zs_rfe e87) ?_
    obtain ⟨k88, h⟩ := h
    refine zu_iald (k := 0) d_1041_257 rfl rfl k88 ?_
    refine zu_stk d_1041_258 rfl rfl ?_
    refine zu_aload_n d_1041_259 rfl (zs_ra _) ?_
    refine zg_1_107 rfl d_1041_260 k1 ?_
    refine zs_stk0 (zs_rfe e3) ?_
    refine zg_1_239 rfl d_1041_263 k4 ?_
    refine zu_aload d_1041_266 rfl (zs_rr _) ?_
    refine zu_iload_n d_1041_268 rfl ?_
    refine zu_iconst d_1041_269 zi_3 ?_
    refine zu_stk d_1041_270 rfl rfl ?_
    refine zs_stk1 (zs_rfe e87) ?_
    obtain ⟨k89, h⟩ := h
    refine zu_iald (k := 0) d_1041_271 rfl rfl k89 ?_
    obtain ⟨b90, e91, h⟩ := h
    refine zs_stk1 (zs_rfe e91) ?_
    obtain ⟨k92, h⟩ := h
    refine zc_1_162 (x0 := (zs_i S b86 (p3 + (3 : Int32)).toNatClampNeg)) hB rfl k92 d_1041_272 (Nat.le_of_ble_eq_true rfl) h (fun v94 S93 h => ?_)
    obtain ⟨k95, h⟩ := h
    refine zk_1_91 (o := v94) rfl d_1041_275 k95 ?_
    refine zu_iload_n d_1041_278 rfl ?_
    obtain ⟨k96, h⟩ := h
    refine zc_1_483 (x0 := ((zs_i S b83 (zs_I S 1025 p0).toNatClampNeg) + (zs_i S b86 (p3 + (2 : Int32)).toNatClampNeg))) (x1 := v94) (x2 := p2) hB rfl k96 d_1041_279 (Nat.le_of_ble_eq_true rfl) h (fun S97 h => ?_)
    exact (u_X2_act_282 hB h).weak trivial
  · have h := h.2.2.2.2.2.2.2.2.2.2.2.2.2.2.2.2.2.2.2.1 c5
    show zs_U _ _ _ 188 _ _ _ _
    refine zu_aload_n d_1041_188 rfl (zs_ra _) ?_
    refine zu_dup d_1041_189 rfl ?_
    refine zg_1_111 rfl d_1041_190 k1 ?_
    refine zu_iconst d_1041_193 zi_1 ?_
    refine zu_stk d_1041_194 rfl rfl ?_
    obtain ⟨k99, h⟩ := h
    refine zp_1_111 (v := ((zs_I S 1007 p0) - (1 : Int32))) rfl d_1041_195 k1 k99 ?_
    generalize e101 : zs_sI S 1007 p0 ((zs_I S 1007 p0) - (1 : Int32)) = S100
    have h := h S100 e101.symm
    have K102 : ∀ b, zs_K S100 b = zs_K S b := zs_Kt e101 (zs_KsI _ _ _ _) (fun _ => rfl)
    refine zu_goto (t := 443) d_1041_198 rfl ?_
    exact (u_X2_act_443 hB h).weak trivial
  · have h := h.2.2.2.2.2.2.2.2.2.2.2.2.2.2.2.2.2.2.2.2 c5
    show zs_U _ _ _ 385 _ _ _ _
    refine zu_aload_n d_1041_385 rfl (zs_ra _) ?_
    refine zu_dup d_1041_386 rfl ?_
    refine zg_1_111 rfl d_1041_387 k1 ?_
    refine zu_iconst d_1041_390 zi_1 ?_
    refine zu_stk d_1041_391 rfl rfl ?_
    obtain ⟨k103, h⟩ := h
    refine zp_1_111 (v := ((zs_I S 1007 p0) - (1 : Int32))) rfl d_1041_392 k1 k103 ?_
    generalize e105 : zs_sI S 1007 p0 ((zs_I S 1007 p0) - (1 : Int32)) = S104
    have h := h S104 e105.symm
    have K106 : ∀ b, zs_K S104 b = zs_K S b := zs_Kt e105 (zs_KsI _ _ _ _) (fun _ => rfl)
    refine zu_aload_n d_1041_395 rfl (zs_ra _) ?_
    refine zu_aload_n d_1041_396 rfl (zs_ra _) ?_
    refine zg_1_36 rfl d_1041_397 ((K106 _).trans k1) ?_
    refine zu_aload_n d_1041_400 rfl (zs_ra _) ?_
    refine zg_1_111 rfl d_1041_401 ((K106 _).trans k1) ?_
    obtain ⟨b107, e108, h⟩ := h
    refine zs_stk1 (zs_rfe e108) ?_
    obtain ⟨k109, h⟩ := h
    refine zu_lald (k := 3) d_1041_404 rfl rfl (zs_Ak K106 k109) ?_
    refine zu_stk d_1041_405 rfl rfl ?_
    refine zu_aload_n d_1041_406 rfl (zs_ra _) ?_
    refine zg_1_107 rfl d_1041_407 ((K106 _).trans k1) ?_
    obtain ⟨b110, e111, h⟩ := h
    refine zs_stk0 (zs_rfe e111) ?_
    obtain ⟨k112, h⟩ := h
    refine zg_1_239 rfl d_1041_410 ((K106 _).trans k112) ?_
    refine zu_aload d_1041_413 rfl (zs_rr _) ?_
    refine zu_iload_n d_1041_415 rfl ?_
    refine zu_iconst d_1041_416 zi_2 ?_
    refine zu_stk d_1041_417 rfl rfl ?_
    obtain ⟨b113, e114, h⟩ := h
    refine zs_stk1 (zs_rfe e114) ?_
    obtain ⟨k115, h⟩ := h
    refine zu_iald (k := 0) d_1041_418 rfl rfl (zs_Ak K106 k115) ?_
    obtain ⟨b116, e117, h⟩ := h
    refine zs_stk1 (zs_rfe e117) ?_
    obtain ⟨k118, h⟩ := h
    refine zc_1_162 (x0 := (zs_i S104 b113 (p3 + (2 : Int32)).toNatClampNeg)) hB rfl ((K106 _).trans k118) d_1041_419 (Nat.le_of_ble_eq_true rfl) h (fun v120 S119 h => ?_)
    obtain ⟨k121, h⟩ := h
    refine zk_1_91 (o := v120) rfl d_1041_422 k121 ?_
    refine zu_aload d_1041_425 rfl (zs_rr _) ?_
    refine zu_iload_n d_1041_427 rfl ?_
    refine zu_iconst d_1041_428 zi_3 ?_
    refine zu_stk d_1041_429 rfl rfl ?_
    refine zs_stk1 (zs_rfe e114) ?_
    obtain ⟨k122, h⟩ := h
    refine zu_iald (k := 0) d_1041_430 rfl rfl k122 ?_
    refine zu_aload d_1041_431 rfl (zs_rr _) ?_
    refine zu_iload_n d_1041_433 rfl ?_
    refine zu_iconst d_1041_434 zi_4 ?_
    refine zu_stk d_1041_435 rfl rfl ?_
    refine zs_stk1 (zs_rfe e114) ?_
    obtain ⟨k123, h⟩ := h
    refine zu_iald (k := 0) d_1041_436 rfl rfl k123 ?_
    obtain ⟨k124, h⟩ := h
    refine zc_1_504 (x0 := (((zs_j S104 b107 (zs_I S104 1007 p0).toNatClampNeg)).toInt32)) (x1 := v120) (x2 := (zs_i S119 b113 (p3 + (3 : Int32)).toNatClampNeg)) (x3 := (zs_i S119 b113 (p3 + (4 : Int32)).toNatClampNeg)) hB rfl k124 d_1041_437 (Nat.le_of_ble_eq_true rfl) h (fun S125 h => ?_)
    exact (u_X2_act_440 hB h).weak trivial
/-! SchemaPascal$Machine.forBegin(II)V -/
theorem zm_1042 {σ : Nat → Nat} {n0 : Nat} {bf : ab_B} : ab_code (zx σ n0 bf).1 1042 = prog_5_method_44_code := rfl
theorem zq_1042 {σ : Nat → Nat} {n0 : Nat} {bf : ab_B} : ab_maxL (zx σ n0 bf).1 1042 = 9 := rfl
theorem zr_1042 {σ : Nat → Nat} {n0 : Nat} {bf : ab_B} : ab_ret (zx σ n0 bf).1 1042 = (Option.none : Option Jvm.ClassFile.FieldType) := rfl
theorem d_1042_0 {σ : Nat → Nat} {n0 : Nat} {bf : ab_B} : decode (ab_code (zx σ n0 bf).1 1042) 0 = .ok (.aload_n 0, 1) := zd zm_1042 (by decide +kernel)
theorem d_1042_1 {σ : Nat → Nat} {n0 : Nat} {bf : ab_B} : decode (ab_code (zx σ n0 bf).1 1042) 1 = .ok (.getfield 70, 3) := zd zm_1042 (by decide +kernel)
theorem d_1042_4 {σ : Nat → Nat} {n0 : Nat} {bf : ab_B} : decode (ab_code (zx σ n0 bf).1 1042) 4 = .ok (.aload_n 0, 1) := zd zm_1042 (by decide +kernel)
theorem d_1042_5 {σ : Nat → Nat} {n0 : Nat} {bf : ab_B} : decode (ab_code (zx σ n0 bf).1 1042) 5 = .ok (.getfield 129, 3) := zd zm_1042 (by decide +kernel)
theorem d_1042_8 {σ : Nat → Nat} {n0 : Nat} {bf : ab_B} : decode (ab_code (zx σ n0 bf).1 1042) 8 = .ok (.iaload, 1) := zd zm_1042 (by decide +kernel)
theorem d_1042_9 {σ : Nat → Nat} {n0 : Nat} {bf : ab_B} : decode (ab_code (zx σ n0 bf).1 1042) 9 = .ok (.aload_n 0, 1) := zd zm_1042 (by decide +kernel)
theorem d_1042_10 {σ : Nat → Nat} {n0 : Nat} {bf : ab_B} : decode (ab_code (zx σ n0 bf).1 1042) 10 = .ok (.getfield 107, 3) := zd zm_1042 (by decide +kernel)
theorem d_1042_13 {σ : Nat → Nat} {n0 : Nat} {bf : ab_B} : decode (ab_code (zx σ n0 bf).1 1042) 13 = .ok (.getfield 201, 3) := zd zm_1042 (by decide +kernel)
theorem d_1042_16 {σ : Nat → Nat} {n0 : Nat} {bf : ab_B} : decode (ab_code (zx σ n0 bf).1 1042) 16 = .ok (.iload_n 2, 1) := zd zm_1042 (by decide +kernel)
theorem d_1042_17 {σ : Nat → Nat} {n0 : Nat} {bf : ab_B} : decode (ab_code (zx σ n0 bf).1 1042) 17 = .ok (.iconst 2, 1) := zd zm_1042 (by decide +kernel)
theorem d_1042_18 {σ : Nat → Nat} {n0 : Nat} {bf : ab_B} : decode (ab_code (zx σ n0 bf).1 1042) 18 = .ok (.iadd, 1) := zd zm_1042 (by decide +kernel)
theorem d_1042_19 {σ : Nat → Nat} {n0 : Nat} {bf : ab_B} : decode (ab_code (zx σ n0 bf).1 1042) 19 = .ok (.iaload, 1) := zd zm_1042 (by decide +kernel)
theorem d_1042_20 {σ : Nat → Nat} {n0 : Nat} {bf : ab_B} : decode (ab_code (zx σ n0 bf).1 1042) 20 = .ok (.iadd, 1) := zd zm_1042 (by decide +kernel)
theorem d_1042_21 {σ : Nat → Nat} {n0 : Nat} {bf : ab_B} : decode (ab_code (zx σ n0 bf).1 1042) 21 = .ok (.istore_n 3, 1) := zd zm_1042 (by decide +kernel)
theorem d_1042_22 {σ : Nat → Nat} {n0 : Nat} {bf : ab_B} : decode (ab_code (zx σ n0 bf).1 1042) 22 = .ok (.aload_n 0, 1) := zd zm_1042 (by decide +kernel)
theorem d_1042_23 {σ : Nat → Nat} {n0 : Nat} {bf : ab_B} : decode (ab_code (zx σ n0 bf).1 1042) 23 = .ok (.getfield 107, 3) := zd zm_1042 (by decide +kernel)
theorem d_1042_26 {σ : Nat → Nat} {n0 : Nat} {bf : ab_B} : decode (ab_code (zx σ n0 bf).1 1042) 26 = .ok (.getfield 201, 3) := zd zm_1042 (by decide +kernel)
theorem d_1042_29 {σ : Nat → Nat} {n0 : Nat} {bf : ab_B} : decode (ab_code (zx σ n0 bf).1 1042) 29 = .ok (.iload_n 2, 1) := zd zm_1042 (by decide +kernel)
theorem d_1042_30 {σ : Nat → Nat} {n0 : Nat} {bf : ab_B} : decode (ab_code (zx σ n0 bf).1 1042) 30 = .ok (.iconst 3, 1) := zd zm_1042 (by decide +kernel)
theorem d_1042_31 {σ : Nat → Nat} {n0 : Nat} {bf : ab_B} : decode (ab_code (zx σ n0 bf).1 1042) 31 = .ok (.iadd, 1) := zd zm_1042 (by decide +kernel)
theorem d_1042_32 {σ : Nat → Nat} {n0 : Nat} {bf : ab_B} : decode (ab_code (zx σ n0 bf).1 1042) 32 = .ok (.iaload, 1) := zd zm_1042 (by decide +kernel)
theorem d_1042_33 {σ : Nat → Nat} {n0 : Nat} {bf : ab_B} : decode (ab_code (zx σ n0 bf).1 1042) 33 = .ok (.istore 4, 2) := zd zm_1042 (by decide +kernel)
theorem d_1042_35 {σ : Nat → Nat} {n0 : Nat} {bf : ab_B} : decode (ab_code (zx σ n0 bf).1 1042) 35 = .ok (.aload_n 0, 1) := zd zm_1042 (by decide +kernel)
theorem d_1042_36 {σ : Nat → Nat} {n0 : Nat} {bf : ab_B} : decode (ab_code (zx σ n0 bf).1 1042) 36 = .ok (.getfield 36, 3) := zd zm_1042 (by decide +kernel)
theorem d_1042_39 {σ : Nat → Nat} {n0 : Nat} {bf : ab_B} : decode (ab_code (zx σ n0 bf).1 1042) 39 = .ok (.aload_n 0, 1) := zd zm_1042 (by decide +kernel)
theorem d_1042_40 {σ : Nat → Nat} {n0 : Nat} {bf : ab_B} : decode (ab_code (zx σ n0 bf).1 1042) 40 = .ok (.getfield 111, 3) := zd zm_1042 (by decide +kernel)
theorem d_1042_43 {σ : Nat → Nat} {n0 : Nat} {bf : ab_B} : decode (ab_code (zx σ n0 bf).1 1042) 43 = .ok (.iconst 2, 1) := zd zm_1042 (by decide +kernel)
theorem d_1042_44 {σ : Nat → Nat} {n0 : Nat} {bf : ab_B} : decode (ab_code (zx σ n0 bf).1 1042) 44 = .ok (.isub, 1) := zd zm_1042 (by decide +kernel)
theorem d_1042_45 {σ : Nat → Nat} {n0 : Nat} {bf : ab_B} : decode (ab_code (zx σ n0 bf).1 1042) 45 = .ok (.laload, 1) := zd zm_1042 (by decide +kernel)
theorem d_1042_46 {σ : Nat → Nat} {n0 : Nat} {bf : ab_B} : decode (ab_code (zx σ n0 bf).1 1042) 46 = .ok (.lstore 5, 2) := zd zm_1042 (by decide +kernel)
theorem d_1042_48 {σ : Nat → Nat} {n0 : Nat} {bf : ab_B} : decode (ab_code (zx σ n0 bf).1 1042) 48 = .ok (.aload_n 0, 1) := zd zm_1042 (by decide +kernel)
theorem d_1042_49 {σ : Nat → Nat} {n0 : Nat} {bf : ab_B} : decode (ab_code (zx σ n0 bf).1 1042) 49 = .ok (.getfield 36, 3) := zd zm_1042 (by decide +kernel)
theorem d_1042_52 {σ : Nat → Nat} {n0 : Nat} {bf : ab_B} : decode (ab_code (zx σ n0 bf).1 1042) 52 = .ok (.aload_n 0, 1) := zd zm_1042 (by decide +kernel)
theorem d_1042_53 {σ : Nat → Nat} {n0 : Nat} {bf : ab_B} : decode (ab_code (zx σ n0 bf).1 1042) 53 = .ok (.getfield 111, 3) := zd zm_1042 (by decide +kernel)
theorem d_1042_56 {σ : Nat → Nat} {n0 : Nat} {bf : ab_B} : decode (ab_code (zx σ n0 bf).1 1042) 56 = .ok (.iconst 1, 1) := zd zm_1042 (by decide +kernel)
theorem d_1042_57 {σ : Nat → Nat} {n0 : Nat} {bf : ab_B} : decode (ab_code (zx σ n0 bf).1 1042) 57 = .ok (.isub, 1) := zd zm_1042 (by decide +kernel)
theorem d_1042_58 {σ : Nat → Nat} {n0 : Nat} {bf : ab_B} : decode (ab_code (zx σ n0 bf).1 1042) 58 = .ok (.laload, 1) := zd zm_1042 (by decide +kernel)
theorem d_1042_59 {σ : Nat → Nat} {n0 : Nat} {bf : ab_B} : decode (ab_code (zx σ n0 bf).1 1042) 59 = .ok (.lstore 7, 2) := zd zm_1042 (by decide +kernel)
theorem d_1042_61 {σ : Nat → Nat} {n0 : Nat} {bf : ab_B} : decode (ab_code (zx σ n0 bf).1 1042) 61 = .ok (.aload_n 0, 1) := zd zm_1042 (by decide +kernel)
theorem d_1042_62 {σ : Nat → Nat} {n0 : Nat} {bf : ab_B} : decode (ab_code (zx σ n0 bf).1 1042) 62 = .ok (.getfield 36, 3) := zd zm_1042 (by decide +kernel)
theorem d_1042_65 {σ : Nat → Nat} {n0 : Nat} {bf : ab_B} : decode (ab_code (zx σ n0 bf).1 1042) 65 = .ok (.aload_n 0, 1) := zd zm_1042 (by decide +kernel)
theorem d_1042_66 {σ : Nat → Nat} {n0 : Nat} {bf : ab_B} : decode (ab_code (zx σ n0 bf).1 1042) 66 = .ok (.getfield 111, 3) := zd zm_1042 (by decide +kernel)
theorem d_1042_69 {σ : Nat → Nat} {n0 : Nat} {bf : ab_B} : decode (ab_code (zx σ n0 bf).1 1042) 69 = .ok (.iconst 2, 1) := zd zm_1042 (by decide +kernel)
theorem d_1042_70 {σ : Nat → Nat} {n0 : Nat} {bf : ab_B} : decode (ab_code (zx σ n0 bf).1 1042) 70 = .ok (.isub, 1) := zd zm_1042 (by decide +kernel)
theorem d_1042_71 {σ : Nat → Nat} {n0 : Nat} {bf : ab_B} : decode (ab_code (zx σ n0 bf).1 1042) 71 = .ok (.lload 7, 2) := zd zm_1042 (by decide +kernel)
theorem d_1042_73 {σ : Nat → Nat} {n0 : Nat} {bf : ab_B} : decode (ab_code (zx σ n0 bf).1 1042) 73 = .ok (.lastore, 1) := zd zm_1042 (by decide +kernel)
theorem d_1042_74 {σ : Nat → Nat} {n0 : Nat} {bf : ab_B} : decode (ab_code (zx σ n0 bf).1 1042) 74 = .ok (.aload_n 0, 1) := zd zm_1042 (by decide +kernel)
theorem d_1042_75 {σ : Nat → Nat} {n0 : Nat} {bf : ab_B} : decode (ab_code (zx σ n0 bf).1 1042) 75 = .ok (.dup, 1) := zd zm_1042 (by decide +kernel)
theorem d_1042_76 {σ : Nat → Nat} {n0 : Nat} {bf : ab_B} : decode (ab_code (zx σ n0 bf).1 1042) 76 = .ok (.getfield 111, 3) := zd zm_1042 (by decide +kernel)
theorem d_1042_79 {σ : Nat → Nat} {n0 : Nat} {bf : ab_B} : decode (ab_code (zx σ n0 bf).1 1042) 79 = .ok (.iconst 1, 1) := zd zm_1042 (by decide +kernel)
theorem d_1042_80 {σ : Nat → Nat} {n0 : Nat} {bf : ab_B} : decode (ab_code (zx σ n0 bf).1 1042) 80 = .ok (.isub, 1) := zd zm_1042 (by decide +kernel)
theorem d_1042_81 {σ : Nat → Nat} {n0 : Nat} {bf : ab_B} : decode (ab_code (zx σ n0 bf).1 1042) 81 = .ok (.putfield 111, 3) := zd zm_1042 (by decide +kernel)
theorem d_1042_84 {σ : Nat → Nat} {n0 : Nat} {bf : ab_B} : decode (ab_code (zx σ n0 bf).1 1042) 84 = .ok (.iload 4, 2) := zd zm_1042 (by decide +kernel)
theorem d_1042_86 {σ : Nat → Nat} {n0 : Nat} {bf : ab_B} : decode (ab_code (zx σ n0 bf).1 1042) 86 = .ok (.i2l, 1) := zd zm_1042 (by decide +kernel)
theorem d_1042_87 {σ : Nat → Nat} {n0 : Nat} {bf : ab_B} : decode (ab_code (zx σ n0 bf).1 1042) 87 = .ok (.lload 5, 2) := zd zm_1042 (by decide +kernel)
theorem d_1042_89 {σ : Nat → Nat} {n0 : Nat} {bf : ab_B} : decode (ab_code (zx σ n0 bf).1 1042) 89 = .ok (.lmul, 1) := zd zm_1042 (by decide +kernel)
theorem d_1042_90 {σ : Nat → Nat} {n0 : Nat} {bf : ab_B} : decode (ab_code (zx σ n0 bf).1 1042) 90 = .ok (.iload 4, 2) := zd zm_1042 (by decide +kernel)
theorem d_1042_92 {σ : Nat → Nat} {n0 : Nat} {bf : ab_B} : decode (ab_code (zx σ n0 bf).1 1042) 92 = .ok (.i2l, 1) := zd zm_1042 (by decide +kernel)
theorem d_1042_93 {σ : Nat → Nat} {n0 : Nat} {bf : ab_B} : decode (ab_code (zx σ n0 bf).1 1042) 93 = .ok (.lload 7, 2) := zd zm_1042 (by decide +kernel)
theorem d_1042_95 {σ : Nat → Nat} {n0 : Nat} {bf : ab_B} : decode (ab_code (zx σ n0 bf).1 1042) 95 = .ok (.lmul, 1) := zd zm_1042 (by decide +kernel)
theorem d_1042_96 {σ : Nat → Nat} {n0 : Nat} {bf : ab_B} : decode (ab_code (zx σ n0 bf).1 1042) 96 = .ok (.lcmp, 1) := zd zm_1042 (by decide +kernel)
theorem d_1042_97 {σ : Nat → Nat} {n0 : Nat} {bf : ab_B} : decode (ab_code (zx σ n0 bf).1 1042) 97 = .ok (.ifCond .le 41, 3) := zd zm_1042 (by decide +kernel)
theorem d_1042_100 {σ : Nat → Nat} {n0 : Nat} {bf : ab_B} : decode (ab_code (zx σ n0 bf).1 1042) 100 = .ok (.aload_n 0, 1) := zd zm_1042 (by decide +kernel)
theorem d_1042_101 {σ : Nat → Nat} {n0 : Nat} {bf : ab_B} : decode (ab_code (zx σ n0 bf).1 1042) 101 = .ok (.dup, 1) := zd zm_1042 (by decide +kernel)
theorem d_1042_102 {σ : Nat → Nat} {n0 : Nat} {bf : ab_B} : decode (ab_code (zx σ n0 bf).1 1042) 102 = .ok (.getfield 111, 3) := zd zm_1042 (by decide +kernel)
theorem d_1042_105 {σ : Nat → Nat} {n0 : Nat} {bf : ab_B} : decode (ab_code (zx σ n0 bf).1 1042) 105 = .ok (.iconst 1, 1) := zd zm_1042 (by decide +kernel)
theorem d_1042_106 {σ : Nat → Nat} {n0 : Nat} {bf : ab_B} : decode (ab_code (zx σ n0 bf).1 1042) 106 = .ok (.isub, 1) := zd zm_1042 (by decide +kernel)
theorem d_1042_107 {σ : Nat → Nat} {n0 : Nat} {bf : ab_B} : decode (ab_code (zx σ n0 bf).1 1042) 107 = .ok (.putfield 111, 3) := zd zm_1042 (by decide +kernel)
theorem d_1042_110 {σ : Nat → Nat} {n0 : Nat} {bf : ab_B} : decode (ab_code (zx σ n0 bf).1 1042) 110 = .ok (.aload_n 0, 1) := zd zm_1042 (by decide +kernel)
theorem d_1042_111 {σ : Nat → Nat} {n0 : Nat} {bf : ab_B} : decode (ab_code (zx σ n0 bf).1 1042) 111 = .ok (.getfield 17, 3) := zd zm_1042 (by decide +kernel)
theorem d_1042_114 {σ : Nat → Nat} {n0 : Nat} {bf : ab_B} : decode (ab_code (zx σ n0 bf).1 1042) 114 = .ok (.aload_n 0, 1) := zd zm_1042 (by decide +kernel)
theorem d_1042_115 {σ : Nat → Nat} {n0 : Nat} {bf : ab_B} : decode (ab_code (zx σ n0 bf).1 1042) 115 = .ok (.getfield 49, 3) := zd zm_1042 (by decide +kernel)
theorem d_1042_118 {σ : Nat → Nat} {n0 : Nat} {bf : ab_B} : decode (ab_code (zx σ n0 bf).1 1042) 118 = .ok (.iload_n 3, 1) := zd zm_1042 (by decide +kernel)
theorem d_1042_119 {σ : Nat → Nat} {n0 : Nat} {bf : ab_B} : decode (ab_code (zx σ n0 bf).1 1042) 119 = .ok (.iaload, 1) := zd zm_1042 (by decide +kernel)
theorem d_1042_120 {σ : Nat → Nat} {n0 : Nat} {bf : ab_B} : decode (ab_code (zx σ n0 bf).1 1042) 120 = .ok (.iconst 0, 1) := zd zm_1042 (by decide +kernel)
theorem d_1042_121 {σ : Nat → Nat} {n0 : Nat} {bf : ab_B} : decode (ab_code (zx σ n0 bf).1 1042) 121 = .ok (.bastore, 1) := zd zm_1042 (by decide +kernel)
theorem d_1042_122 {σ : Nat → Nat} {n0 : Nat} {bf : ab_B} : decode (ab_code (zx σ n0 bf).1 1042) 122 = .ok (.aload_n 0, 1) := zd zm_1042 (by decide +kernel)
theorem d_1042_123 {σ : Nat → Nat} {n0 : Nat} {bf : ab_B} : decode (ab_code (zx σ n0 bf).1 1042) 123 = .ok (.aload_n 0, 1) := zd zm_1042 (by decide +kernel)
theorem d_1042_124 {σ : Nat → Nat} {n0 : Nat} {bf : ab_B} : decode (ab_code (zx σ n0 bf).1 1042) 124 = .ok (.getfield 107, 3) := zd zm_1042 (by decide +kernel)
theorem d_1042_127 {σ : Nat → Nat} {n0 : Nat} {bf : ab_B} : decode (ab_code (zx σ n0 bf).1 1042) 127 = .ok (.getfield 201, 3) := zd zm_1042 (by decide +kernel)
theorem d_1042_130 {σ : Nat → Nat} {n0 : Nat} {bf : ab_B} : decode (ab_code (zx σ n0 bf).1 1042) 130 = .ok (.iload_n 2, 1) := zd zm_1042 (by decide +kernel)
theorem d_1042_131 {σ : Nat → Nat} {n0 : Nat} {bf : ab_B} : decode (ab_code (zx σ n0 bf).1 1042) 131 = .ok (.iconst 5, 1) := zd zm_1042 (by decide +kernel)
theorem d_1042_132 {σ : Nat → Nat} {n0 : Nat} {bf : ab_B} : decode (ab_code (zx σ n0 bf).1 1042) 132 = .ok (.iadd, 1) := zd zm_1042 (by decide +kernel)
theorem d_1042_133 {σ : Nat → Nat} {n0 : Nat} {bf : ab_B} : decode (ab_code (zx σ n0 bf).1 1042) 133 = .ok (.iaload, 1) := zd zm_1042 (by decide +kernel)
theorem d_1042_134 {σ : Nat → Nat} {n0 : Nat} {bf : ab_B} : decode (ab_code (zx σ n0 bf).1 1042) 134 = .ok (.putfield 175, 3) := zd zm_1042 (by decide +kernel)
theorem d_1042_137 {σ : Nat → Nat} {n0 : Nat} {bf : ab_B} : decode (ab_code (zx σ n0 bf).1 1042) 137 = .ok (.return_, 1) := zd zm_1042 (by decide +kernel)
theorem d_1042_138 {σ : Nat → Nat} {n0 : Nat} {bf : ab_B} : decode (ab_code (zx σ n0 bf).1 1042) 138 = .ok (.aload_n 0, 1) := zd zm_1042 (by decide +kernel)
theorem d_1042_139 {σ : Nat → Nat} {n0 : Nat} {bf : ab_B} : decode (ab_code (zx σ n0 bf).1 1042) 139 = .ok (.aload_n 0, 1) := zd zm_1042 (by decide +kernel)
theorem d_1042_140 {σ : Nat → Nat} {n0 : Nat} {bf : ab_B} : decode (ab_code (zx σ n0 bf).1 1042) 140 = .ok (.getfield 49, 3) := zd zm_1042 (by decide +kernel)
theorem d_1042_143 {σ : Nat → Nat} {n0 : Nat} {bf : ab_B} : decode (ab_code (zx σ n0 bf).1 1042) 143 = .ok (.iload_n 3, 1) := zd zm_1042 (by decide +kernel)
theorem d_1042_144 {σ : Nat → Nat} {n0 : Nat} {bf : ab_B} : decode (ab_code (zx σ n0 bf).1 1042) 144 = .ok (.iaload, 1) := zd zm_1042 (by decide +kernel)
theorem d_1042_145 {σ : Nat → Nat} {n0 : Nat} {bf : ab_B} : decode (ab_code (zx σ n0 bf).1 1042) 145 = .ok (.iconst (-1), 1) := zd zm_1042 (by decide +kernel)
theorem d_1042_146 {σ : Nat → Nat} {n0 : Nat} {bf : ab_B} : decode (ab_code (zx σ n0 bf).1 1042) 146 = .ok (.aload_n 0, 1) := zd zm_1042 (by decide +kernel)
theorem d_1042_147 {σ : Nat → Nat} {n0 : Nat} {bf : ab_B} : decode (ab_code (zx σ n0 bf).1 1042) 147 = .ok (.getfield 107, 3) := zd zm_1042 (by decide +kernel)
theorem d_1042_150 {σ : Nat → Nat} {n0 : Nat} {bf : ab_B} : decode (ab_code (zx σ n0 bf).1 1042) 150 = .ok (.getfield 239, 3) := zd zm_1042 (by decide +kernel)
theorem d_1042_153 {σ : Nat → Nat} {n0 : Nat} {bf : ab_B} : decode (ab_code (zx σ n0 bf).1 1042) 153 = .ok (.aload_n 0, 1) := zd zm_1042 (by decide +kernel)
theorem d_1042_154 {σ : Nat → Nat} {n0 : Nat} {bf : ab_B} : decode (ab_code (zx σ n0 bf).1 1042) 154 = .ok (.getfield 107, 3) := zd zm_1042 (by decide +kernel)
theorem d_1042_157 {σ : Nat → Nat} {n0 : Nat} {bf : ab_B} : decode (ab_code (zx σ n0 bf).1 1042) 157 = .ok (.getfield 201, 3) := zd zm_1042 (by decide +kernel)
theorem d_1042_160 {σ : Nat → Nat} {n0 : Nat} {bf : ab_B} : decode (ab_code (zx σ n0 bf).1 1042) 160 = .ok (.iload_n 2, 1) := zd zm_1042 (by decide +kernel)
theorem d_1042_161 {σ : Nat → Nat} {n0 : Nat} {bf : ab_B} : decode (ab_code (zx σ n0 bf).1 1042) 161 = .ok (.iconst 4, 1) := zd zm_1042 (by decide +kernel)
theorem d_1042_162 {σ : Nat → Nat} {n0 : Nat} {bf : ab_B} : decode (ab_code (zx σ n0 bf).1 1042) 162 = .ok (.iadd, 1) := zd zm_1042 (by decide +kernel)
theorem d_1042_163 {σ : Nat → Nat} {n0 : Nat} {bf : ab_B} : decode (ab_code (zx σ n0 bf).1 1042) 163 = .ok (.iaload, 1) := zd zm_1042 (by decide +kernel)
theorem d_1042_164 {σ : Nat → Nat} {n0 : Nat} {bf : ab_B} : decode (ab_code (zx σ n0 bf).1 1042) 164 = .ok (.invokevirtual 162, 3) := zd zm_1042 (by decide +kernel)
theorem d_1042_167 {σ : Nat → Nat} {n0 : Nat} {bf : ab_B} : decode (ab_code (zx σ n0 bf).1 1042) 167 = .ok (.checkcast 91, 3) := zd zm_1042 (by decide +kernel)
theorem d_1042_170 {σ : Nat → Nat} {n0 : Nat} {bf : ab_B} : decode (ab_code (zx σ n0 bf).1 1042) 170 = .ok (.lload 5, 2) := zd zm_1042 (by decide +kernel)
theorem d_1042_172 {σ : Nat → Nat} {n0 : Nat} {bf : ab_B} : decode (ab_code (zx σ n0 bf).1 1042) 172 = .ok (.iload_n 1, 1) := zd zm_1042 (by decide +kernel)
theorem d_1042_173 {σ : Nat → Nat} {n0 : Nat} {bf : ab_B} : decode (ab_code (zx σ n0 bf).1 1042) 173 = .ok (.invokevirtual 273, 3) := zd zm_1042 (by decide +kernel)
theorem d_1042_176 {σ : Nat → Nat} {n0 : Nat} {bf : ab_B} : decode (ab_code (zx σ n0 bf).1 1042) 176 = .ok (.ifCond .ne 4, 3) := zd zm_1042 (by decide +kernel)
theorem d_1042_179 {σ : Nat → Nat} {n0 : Nat} {bf : ab_B} : decode (ab_code (zx σ n0 bf).1 1042) 179 = .ok (.return_, 1) := zd zm_1042 (by decide +kernel)
theorem d_1042_180 {σ : Nat → Nat} {n0 : Nat} {bf : ab_B} : decode (ab_code (zx σ n0 bf).1 1042) 180 = .ok (.return_, 1) := zd zm_1042 (by decide +kernel)
def w_X2_forBegin_180 (X : zs_X) (d : Nat)  (S : zs_T) (Q : zs_Q) : Prop :=
  (Q (.returned none) S)
theorem u_X2_forBegin_180 {σ : Nat → Nat} {n0 : Nat} {bf : ab_B} {d : Nat}  {S : zs_T} {Q : zs_Q} (hB : zt_B bf) (h : w_X2_forBegin_180 (zx σ n0 bf) d  S Q) : zs_U (zx σ n0 bf) d 1042 180 [] [] S Q := by
  unfold w_X2_forBegin_180 at h
  exact zu_vret d_1042_180 zr_1042 h
def w_X2_forBegin_179 (X : zs_X) (d : Nat)  (S : zs_T) (Q : zs_Q) : Prop :=
  (Q (.returned none) S)
theorem u_X2_forBegin_179 {σ : Nat → Nat} {n0 : Nat} {bf : ab_B} {d : Nat}  {S : zs_T} {Q : zs_Q} (hB : zt_B bf) (h : w_X2_forBegin_179 (zx σ n0 bf) d  S Q) : zs_U (zx σ n0 bf) d 1042 179 [] [] S Q := by
  unfold w_X2_forBegin_179 at h
  exact zu_vret d_1042_179 zr_1042 h
def w_X2_forBegin_138 (X : zs_X) (d : Nat) (p0 : Nat) (p1 : Int32) (p2 : Int32) (p3 : Int32) (p5 : Int64) (S : zs_T) (Q : zs_Q) : Prop :=
  (zs_K S p0 = some (.inl 1) ∧ ∃ b2, (zs_R S 1012 p0) = some b2 ∧ zs_A S b2 0 p3 ∧ ∃ b5, (zs_R S 1000 p0) = some b5 ∧ zs_K S b5 = some (.inl 3) ∧ ∃ b8, (zs_R S 3000 b5) = some b8 ∧ zs_A S b8 0 (p2 + (4 : Int32)) ∧ ∃ b11, (zs_R S 3002 b5) = some b11 ∧ zs_K S b11 = some (.inl 16) ∧ zs_C X d 16009 [.ref b11, .int (zs_i S b8 (p2 + (4 : Int32)).toNatClampNeg)] S (zs_kR (fun v15 S14 => ((∀ a, v15 = some a → zs_K S14 a = some (.inl 6)) ∧ zs_K S14 p0 = some (.inl 1) ∧ zs_C X d 1022 [.ref p0, .int (zs_i S b2 p3.toNatClampNeg), .int (-1 : Int32), va_rf v15, .long p5, .int p1] S14 (zs_kI (fun v19 S18 => (((¬ v19 = 0 → w_X2_forBegin_180 X d  S18 Q) ∧ (¬ (¬ v19 = 0) → w_X2_forBegin_179 X d  S18 Q)))) Q))) Q))
theorem u_X2_forBegin_138 {σ : Nat → Nat} {n0 : Nat} {bf : ab_B} {d : Nat} {p0 : Nat} {p1 : Int32} {p2 : Int32} {p3 : Int32} {p5 : Int64} {S : zs_T} {Q : zs_Q} (hB : zt_B bf) (h : w_X2_forBegin_138 (zx σ n0 bf) d p0 p1 p2 p3 p5 S Q) : zs_U (zx σ n0 bf) d 1042 138 [(0, .ref p0), (1, .int p1), (2, .int p2), (3, .int p3), (5, .long p5)] [] S Q := by
  unfold w_X2_forBegin_138 at h
  refine zu_aload_n d_1042_138 rfl (zs_ra _) ?_
  refine zu_aload_n d_1042_139 rfl (zs_ra _) ?_
  obtain ⟨k1, h⟩ := h
  refine zg_1_49 rfl d_1042_140 k1 ?_
  refine zu_iload_n d_1042_143 rfl ?_
  obtain ⟨b2, e3, h⟩ := h
  refine zs_stk1 (zs_rfe e3) ?_
  obtain ⟨k4, h⟩ := h
  refine zu_iald (k := 0) d_1042_144 rfl rfl k4 ?_
  refine zu_iconst d_1042_145 zi_m1 ?_
  refine zu_aload_n d_1042_146 rfl (zs_ra _) ?_
  refine zg_1_107 rfl d_1042_147 k1 ?_
  obtain ⟨b5, e6, h⟩ := h
  refine zs_stk0 (zs_rfe e6) ?_
  obtain ⟨k7, h⟩ := h
  refine zg_1_239 rfl d_1042_150 k7 ?_
  refine zu_aload_n d_1042_153 rfl (zs_ra _) ?_
  refine zg_1_107 rfl d_1042_154 k1 ?_
  refine zs_stk0 (zs_rfe e6) ?_
  refine zg_1_201 rfl d_1042_157 k7 ?_
  refine zu_iload_n d_1042_160 rfl ?_
  refine zu_iconst d_1042_161 zi_4 ?_
  refine zu_stk d_1042_162 rfl rfl ?_
  obtain ⟨b8, e9, h⟩ := h
  refine zs_stk1 (zs_rfe e9) ?_
  obtain ⟨k10, h⟩ := h
  refine zu_iald (k := 0) d_1042_163 rfl rfl k10 ?_
  obtain ⟨b11, e12, h⟩ := h
  refine zs_stk1 (zs_rfe e12) ?_
  obtain ⟨k13, h⟩ := h
  refine zc_1_162 (x0 := (zs_i S b8 (p2 + (4 : Int32)).toNatClampNeg)) hB rfl k13 d_1042_164 (Nat.le_of_ble_eq_true rfl) h (fun v15 S14 h => ?_)
  obtain ⟨k16, h⟩ := h
  refine zk_1_91 (o := v15) rfl d_1042_167 k16 ?_
  refine zu_lload d_1042_170 rfl ?_
  refine zu_iload_n d_1042_172 rfl ?_
  obtain ⟨k17, h⟩ := h
  refine zc_1_273 (x0 := (zs_i S b2 p3.toNatClampNeg)) (x1 := (-1 : Int32)) (x2 := v15) (x3 := p5) (x4 := p1) hB rfl k17 d_1042_173 (Nat.le_of_ble_eq_true rfl) h (fun v19 S18 h => ?_)
  refine zu_ifne (t := 180) d_1042_176 rfl (fun c20 => ?_) (fun c20 => ?_)
  · have h := h.1 c20
    exact (u_X2_forBegin_180 hB h).weak trivial
  · have h := h.2 c20
    exact (u_X2_forBegin_179 hB h).weak trivial
def w_X2_forBegin_137 (X : zs_X) (d : Nat)  (S : zs_T) (Q : zs_Q) : Prop :=
  (Q (.returned none) S)
theorem u_X2_forBegin_137 {σ : Nat → Nat} {n0 : Nat} {bf : ab_B} {d : Nat}  {S : zs_T} {Q : zs_Q} (hB : zt_B bf) (h : w_X2_forBegin_137 (zx σ n0 bf) d  S Q) : zs_U (zx σ n0 bf) d 1042 137 [] [] S Q := by
  unfold w_X2_forBegin_137 at h
  exact zu_vret d_1042_137 zr_1042 h
def w_X2_forBegin_100 (X : zs_X) (d : Nat) (p0 : Nat) (p2 : Int32) (p3 : Int32) (S : zs_T) (Q : zs_Q) : Prop :=
  (zs_K S p0 = some (.inl 1) ∧ ab_n0 X.1 ≤ p0 ∧ ∀ S3, S3 = zs_sI S 1007 p0 ((zs_I S 1007 p0) - (1 : Int32)) → ∃ b6, (zs_R S3 1012 p0) = some b6 ∧ zs_A S b6 0 p3 ∧ ∃ b9, (zs_R S3 1002 p0) = some b9 ∧ zs_A S b9 2 (zs_i S3 b6 p3.toNatClampNeg) ∧ ab_n0 X.1 ≤ b9 ∧ ∀ S13, S13 = zs_si S3 b9 (zs_i S3 b6 p3.toNatClampNeg).toNatClampNeg (vp_nar .boolean (0 : Int32)) → ∃ b16, (zs_R S13 1000 p0) = some b16 ∧ zs_K S b16 = some (.inl 3) ∧ ∃ b19, (zs_R S13 3000 b16) = some b19 ∧ zs_A S b19 0 (p2 + (5 : Int32)) ∧ ∀ S22, S22 = zs_sI S13 1033 p0 (zs_i S13 b19 (p2 + (5 : Int32)).toNatClampNeg) → w_X2_forBegin_137 X d  S22 Q)
theorem u_X2_forBegin_100 {σ : Nat → Nat} {n0 : Nat} {bf : ab_B} {d : Nat} {p0 : Nat} {p2 : Int32} {p3 : Int32} {S : zs_T} {Q : zs_Q} (hB : zt_B bf) (h : w_X2_forBegin_100 (zx σ n0 bf) d p0 p2 p3 S Q) : zs_U (zx σ n0 bf) d 1042 100 [(0, .ref p0), (2, .int p2), (3, .int p3)] [] S Q := by
  unfold w_X2_forBegin_100 at h
  refine zu_aload_n d_1042_100 rfl (zs_ra _) ?_
  refine zu_dup d_1042_101 rfl ?_
  obtain ⟨k1, h⟩ := h
  refine zg_1_111 rfl d_1042_102 k1 ?_
  refine zu_iconst d_1042_105 zi_1 ?_
  refine zu_stk d_1042_106 rfl rfl ?_
  obtain ⟨k2, h⟩ := h
  refine zp_1_111 (v := ((zs_I S 1007 p0) - (1 : Int32))) rfl d_1042_107 k1 k2 ?_
  generalize e4 : zs_sI S 1007 p0 ((zs_I S 1007 p0) - (1 : Int32)) = S3
  have h := h S3 e4.symm
  have K5 : ∀ b, zs_K S3 b = zs_K S b := zs_Kt e4 (zs_KsI _ _ _ _) (fun _ => rfl)
  refine zu_aload_n d_1042_110 rfl (zs_ra _) ?_
  refine zg_1_17 rfl d_1042_111 ((K5 _).trans k1) ?_
  refine zu_aload_n d_1042_114 rfl (zs_ra _) ?_
  refine zg_1_49 rfl d_1042_115 ((K5 _).trans k1) ?_
  refine zu_iload_n d_1042_118 rfl ?_
  obtain ⟨b6, e7, h⟩ := h
  refine zs_stk1 (zs_rfe e7) ?_
  obtain ⟨k8, h⟩ := h
  refine zu_iald (k := 0) d_1042_119 rfl rfl (zs_Ak K5 k8) ?_
  refine zu_iconst d_1042_120 zi_0 ?_
  obtain ⟨b9, e10, h⟩ := h
  refine zs_stk2 (zs_rfe e10) ?_
  obtain ⟨k11, h⟩ := h
  obtain ⟨k12, h⟩ := h
  refine zu_bast_bool (k := 2) d_1042_121 rfl rfl k12 (zs_Ak K5 k11) ?_
  generalize e14 : zs_si S3 b9 (zs_i S3 b6 p3.toNatClampNeg).toNatClampNeg (vp_nar .boolean (0 : Int32)) = S13
  have h := h S13 e14.symm
  have K15 : ∀ b, zs_K S13 b = zs_K S b := zs_Kt e14 (zs_Ksi _ _ _ _) K5
  refine zu_aload_n d_1042_122 rfl (zs_ra _) ?_
  refine zu_aload_n d_1042_123 rfl (zs_ra _) ?_
  refine zg_1_107 rfl d_1042_124 ((K15 _).trans k1) ?_
  obtain ⟨b16, e17, h⟩ := h
  refine zs_stk0 (zs_rfe e17) ?_
  obtain ⟨k18, h⟩ := h
  refine zg_1_201 rfl d_1042_127 ((K15 _).trans k18) ?_
  refine zu_iload_n d_1042_130 rfl ?_
  refine zu_iconst d_1042_131 zi_5 ?_
  refine zu_stk d_1042_132 rfl rfl ?_
  obtain ⟨b19, e20, h⟩ := h
  refine zs_stk1 (zs_rfe e20) ?_
  obtain ⟨k21, h⟩ := h
  refine zu_iald (k := 0) d_1042_133 rfl rfl (zs_Ak K15 k21) ?_
  refine zp_1_175 (v := (zs_i S13 b19 (p2 + (5 : Int32)).toNatClampNeg)) rfl d_1042_134 ((K15 _).trans k1) k2 ?_
  generalize e23 : zs_sI S13 1033 p0 (zs_i S13 b19 (p2 + (5 : Int32)).toNatClampNeg) = S22
  have h := h S22 e23.symm
  have K24 : ∀ b, zs_K S22 b = zs_K S b := zs_Kt e23 (zs_KsI _ _ _ _) K15
  exact (u_X2_forBegin_137 hB h).weak trivial
def w_X2_forBegin_61 (X : zs_X) (d : Nat) (p0 : Nat) (p1 : Int32) (p2 : Int32) (p3 : Int32) (p4 : Int32) (p5 : Int64) (p7 : Int64) (S : zs_T) (Q : zs_Q) : Prop :=
  (zs_K S p0 = some (.inl 1) ∧ ∃ b2, (zs_R S 1005 p0) = some b2 ∧ zs_A S b2 3 ((zs_I S 1007 p0) - (2 : Int32)) ∧ ab_n0 X.1 ≤ b2 ∧ ∀ S6, S6 = zs_sj S b2 ((zs_I S 1007 p0) - (2 : Int32)).toNatClampNeg p7 → ab_n0 X.1 ≤ p0 ∧ ∀ S10, S10 = zs_sI S6 1007 p0 ((zs_I S6 1007 p0) - (1 : Int32)) → (((((p4).toInt64) * p5) ≤ (((p4).toInt64) * p7) → w_X2_forBegin_138 X d p0 p1 p2 p3 p5 S10 Q) ∧ (¬ ((((p4).toInt64) * p5) ≤ (((p4).toInt64) * p7)) → w_X2_forBegin_100 X d p0 p2 p3 S10 Q)))
theorem u_X2_forBegin_61 {σ : Nat → Nat} {n0 : Nat} {bf : ab_B} {d : Nat} {p0 : Nat} {p1 : Int32} {p2 : Int32} {p3 : Int32} {p4 : Int32} {p5 : Int64} {p7 : Int64} {S : zs_T} {Q : zs_Q} (hB : zt_B bf) (h : w_X2_forBegin_61 (zx σ n0 bf) d p0 p1 p2 p3 p4 p5 p7 S Q) : zs_U (zx σ n0 bf) d 1042 61 [(0, .ref p0), (1, .int p1), (2, .int p2), (3, .int p3), (4, .int p4), (5, .long p5), (7, .long p7)] [] S Q := by
  unfold w_X2_forBegin_61 at h
  refine zu_aload_n d_1042_61 rfl (zs_ra _) ?_
  obtain ⟨k1, h⟩ := h
  refine zg_1_36 rfl d_1042_62 k1 ?_
  refine zu_aload_n d_1042_65 rfl (zs_ra _) ?_
  refine zg_1_111 rfl d_1042_66 k1 ?_
  refine zu_iconst d_1042_69 zi_2 ?_
  refine zu_stk d_1042_70 rfl rfl ?_
  refine zu_lload d_1042_71 rfl ?_
  obtain ⟨b2, e3, h⟩ := h
  refine zs_stk2 (zs_rfe e3) ?_
  obtain ⟨k4, h⟩ := h
  obtain ⟨k5, h⟩ := h
  refine zu_last (k := 3) d_1042_73 rfl rfl k5 k4 ?_
  generalize e7 : zs_sj S b2 ((zs_I S 1007 p0) - (2 : Int32)).toNatClampNeg p7 = S6
  have h := h S6 e7.symm
  have K8 : ∀ b, zs_K S6 b = zs_K S b := zs_Kt e7 (zs_Ksj _ _ _ _) (fun _ => rfl)
  refine zu_aload_n d_1042_74 rfl (zs_ra _) ?_
  refine zu_dup d_1042_75 rfl ?_
  refine zg_1_111 rfl d_1042_76 ((K8 _).trans k1) ?_
  refine zu_iconst d_1042_79 zi_1 ?_
  refine zu_stk d_1042_80 rfl rfl ?_
  obtain ⟨k9, h⟩ := h
  refine zp_1_111 (v := ((zs_I S6 1007 p0) - (1 : Int32))) rfl d_1042_81 ((K8 _).trans k1) k9 ?_
  generalize e11 : zs_sI S6 1007 p0 ((zs_I S6 1007 p0) - (1 : Int32)) = S10
  have h := h S10 e11.symm
  have K12 : ∀ b, zs_K S10 b = zs_K S b := zs_Kt e11 (zs_KsI _ _ _ _) K8
  refine zu_iload d_1042_84 rfl ?_
  refine zu_stk d_1042_86 rfl rfl ?_
  refine zu_lload d_1042_87 rfl ?_
  refine zu_stk d_1042_89 rfl rfl ?_
  refine zu_iload d_1042_90 rfl ?_
  refine zu_stk d_1042_92 rfl rfl ?_
  refine zu_lload d_1042_93 rfl ?_
  refine zu_stk d_1042_95 rfl rfl ?_
  refine zu_lle (t := 138) d_1042_96 d_1042_97 rfl (fun c13 => ?_) (fun c13 => ?_)
  · have h := h.1 c13
    exact (u_X2_forBegin_138 hB h).weak ⟨rfl, rfl, rfl, rfl, rfl, trivial⟩
  · have h := h.2 c13
    exact (u_X2_forBegin_100 hB h).weak ⟨rfl, rfl, rfl, trivial⟩
def w_X2_forBegin_35 (X : zs_X) (d : Nat) (p0 : Nat) (p1 : Int32) (p2 : Int32) (p3 : Int32) (p4 : Int32) (S : zs_T) (Q : zs_Q) : Prop :=
  (zs_K S p0 = some (.inl 1) ∧ ∃ b2, (zs_R S 1005 p0) = some b2 ∧ zs_A S b2 3 ((zs_I S 1007 p0) - (2 : Int32)) ∧ zs_A S b2 3 ((zs_I S 1007 p0) - (1 : Int32)) ∧ w_X2_forBegin_61 X d p0 p1 p2 p3 p4 (zs_j S b2 ((zs_I S 1007 p0) - (2 : Int32)).toNatClampNeg) (zs_j S b2 ((zs_I S 1007 p0) - (1 : Int32)).toNatClampNeg) S Q)
theorem u_X2_forBegin_35 {σ : Nat → Nat} {n0 : Nat} {bf : ab_B} {d : Nat} {p0 : Nat} {p1 : Int32} {p2 : Int32} {p3 : Int32} {p4 : Int32} {S : zs_T} {Q : zs_Q} (hB : zt_B bf) (h : w_X2_forBegin_35 (zx σ n0 bf) d p0 p1 p2 p3 p4 S Q) : zs_U (zx σ n0 bf) d 1042 35 [(0, .ref p0), (1, .int p1), (2, .int p2), (3, .int p3), (4, .int p4)] [] S Q := by
  unfold w_X2_forBegin_35 at h
  refine zu_aload_n d_1042_35 rfl (zs_ra _) ?_
  obtain ⟨k1, h⟩ := h
  refine zg_1_36 rfl d_1042_36 k1 ?_
  refine zu_aload_n d_1042_39 rfl (zs_ra _) ?_
  refine zg_1_111 rfl d_1042_40 k1 ?_
  refine zu_iconst d_1042_43 zi_2 ?_
  refine zu_stk d_1042_44 rfl rfl ?_
  obtain ⟨b2, e3, h⟩ := h
  refine zs_stk1 (zs_rfe e3) ?_
  obtain ⟨k4, h⟩ := h
  refine zu_lald (k := 3) d_1042_45 rfl rfl k4 ?_
  refine zu_lstore d_1042_46 (zs_lt zq_1042 rfl) ?_
  refine zu_aload_n d_1042_48 rfl (zs_ra _) ?_
  refine zg_1_36 rfl d_1042_49 k1 ?_
  refine zu_aload_n d_1042_52 rfl (zs_ra _) ?_
  refine zg_1_111 rfl d_1042_53 k1 ?_
  refine zu_iconst d_1042_56 zi_1 ?_
  refine zu_stk d_1042_57 rfl rfl ?_
  refine zs_stk1 (zs_rfe e3) ?_
  obtain ⟨k5, h⟩ := h
  refine zu_lald (k := 3) d_1042_58 rfl rfl k5 ?_
  refine zu_lstore d_1042_59 (zs_lt zq_1042 rfl) ?_
  exact (u_X2_forBegin_61 hB h).weak ⟨rfl, rfl, rfl, rfl, rfl, rfl, rfl, trivial⟩
def w_X2_forBegin (X : zs_X) (d : Nat) (p0 : Nat) (p1 : Int32) (p2 : Int32) (S : zs_T) (Q : zs_Q) : Prop :=
  (zs_K S p0 = some (.inl 1) ∧ ∃ b2, (zs_R S 1021 p0) = some b2 ∧ zs_A S b2 0 (zs_I S 1025 p0) ∧ ∃ b5, (zs_R S 1000 p0) = some b5 ∧ zs_K S b5 = some (.inl 3) ∧ ∃ b8, (zs_R S 3000 b5) = some b8 ∧ zs_A S b8 0 (p2 + (2 : Int32)) ∧ zs_A S b8 0 (p2 + (3 : Int32)) ∧ w_X2_forBegin_35 X d p0 p1 p2 ((zs_i S b2 (zs_I S 1025 p0).toNatClampNeg) + (zs_i S b8 (p2 + (2 : Int32)).toNatClampNeg)) (zs_i S b8 (p2 + (3 : Int32)).toNatClampNeg) S Q)
theorem u_X2_forBegin {σ : Nat → Nat} {n0 : Nat} {bf : ab_B} {d : Nat} {p0 : Nat} {p1 : Int32} {p2 : Int32} {S : zs_T} {Q : zs_Q} (hB : zt_B bf) (hd : 1 ≤ d) (h : w_X2_forBegin (zx σ n0 bf) (d - 1) p0 p1 p2 S Q) : zs_C (zx σ n0 bf) d 1042 [.ref p0, .int p1, .int p2] S Q := by
  have hL : lv_args 0 [.ref p0, .int p1, .int p2] = [(0, .ref p0), (1, .int p1), (2, .int p2)] := rfl
  refine zs_C.of1 (hB.2 1042 (by decide) (by decide)) hd (by rw [hL]; exact zs_sub_self _ (by exact ⟨rfl, rfl, rfl, trivial⟩)) ?_
  rw [hL]
  clear hL
  unfold w_X2_forBegin at h
  refine zu_aload_n d_1042_0 rfl (zs_ra _) ?_
  obtain ⟨k1, h⟩ := h
  refine zg_1_70 rfl d_1042_1 k1 ?_
  refine zu_aload_n d_1042_4 rfl (zs_ra _) ?_
  refine zg_1_129 rfl d_1042_5 k1 ?_
  obtain ⟨b2, e3, h⟩ := h
  refine zs_stk1 (zs_rfe e3) ?_
  obtain ⟨k4, h⟩ := h
  refine zu_iald (k := 0) d_1042_8 rfl rfl k4 ?_
  refine zu_aload_n d_1042_9 rfl (zs_ra _) ?_
  refine zg_1_107 rfl d_1042_10 k1 ?_
  obtain ⟨b5, e6, h⟩ := h
  refine zs_stk0 (zs_rfe e6) ?_
  obtain ⟨k7, h⟩ := h
  refine zg_1_201 rfl d_1042_13 k7 ?_
  refine zu_iload_n d_1042_16 rfl ?_
  refine zu_iconst d_1042_17 zi_2 ?_
  refine zu_stk d_1042_18 rfl rfl ?_
  obtain ⟨b8, e9, h⟩ := h
  refine zs_stk1 (zs_rfe e9) ?_
  obtain ⟨k10, h⟩ := h
  refine zu_iald (k := 0) d_1042_19 rfl rfl k10 ?_
  refine zu_stk d_1042_20 rfl rfl ?_
  refine zu_istore_n d_1042_21 (zs_lt zq_1042 rfl) ?_
  refine zu_aload_n d_1042_22 rfl (zs_ra _) ?_
  refine zg_1_107 rfl d_1042_23 k1 ?_
  refine zs_stk0 (zs_rfe e6) ?_
  refine zg_1_201 rfl d_1042_26 k7 ?_
  refine zu_iload_n d_1042_29 rfl ?_
  refine zu_iconst d_1042_30 zi_3 ?_
  refine zu_stk d_1042_31 rfl rfl ?_
  refine zs_stk1 (zs_rfe e9) ?_
  obtain ⟨k11, h⟩ := h
  refine zu_iald (k := 0) d_1042_32 rfl rfl k11 ?_
  refine zu_istore d_1042_33 (zs_lt zq_1042 rfl) ?_
  exact (u_X2_forBegin_35 hB h).weak ⟨rfl, rfl, rfl, rfl, rfl, trivial⟩
/-! SchemaPascal$Machine.forNext(II)V -/
theorem zm_1043 {σ : Nat → Nat} {n0 : Nat} {bf : ab_B} : ab_code (zx σ n0 bf).1 1043 = prog_5_method_45_code := rfl
theorem zq_1043 {σ : Nat → Nat} {n0 : Nat} {bf : ab_B} : ab_maxL (zx σ n0 bf).1 1043 = 6 := rfl
theorem zr_1043 {σ : Nat → Nat} {n0 : Nat} {bf : ab_B} : ab_ret (zx σ n0 bf).1 1043 = (Option.none : Option Jvm.ClassFile.FieldType) := rfl
theorem d_1043_0 {σ : Nat → Nat} {n0 : Nat} {bf : ab_B} : decode (ab_code (zx σ n0 bf).1 1043) 0 = .ok (.aload_n 0, 1) := zd zm_1043 (by decide +kernel)
theorem d_1043_1 {σ : Nat → Nat} {n0 : Nat} {bf : ab_B} : decode (ab_code (zx σ n0 bf).1 1043) 1 = .ok (.getfield 70, 3) := zd zm_1043 (by decide +kernel)
theorem d_1043_4 {σ : Nat → Nat} {n0 : Nat} {bf : ab_B} : decode (ab_code (zx σ n0 bf).1 1043) 4 = .ok (.aload_n 0, 1) := zd zm_1043 (by decide +kernel)
theorem d_1043_5 {σ : Nat → Nat} {n0 : Nat} {bf : ab_B} : decode (ab_code (zx σ n0 bf).1 1043) 5 = .ok (.getfield 129, 3) := zd zm_1043 (by decide +kernel)
theorem d_1043_8 {σ : Nat → Nat} {n0 : Nat} {bf : ab_B} : decode (ab_code (zx σ n0 bf).1 1043) 8 = .ok (.iaload, 1) := zd zm_1043 (by decide +kernel)
theorem d_1043_9 {σ : Nat → Nat} {n0 : Nat} {bf : ab_B} : decode (ab_code (zx σ n0 bf).1 1043) 9 = .ok (.aload_n 0, 1) := zd zm_1043 (by decide +kernel)
theorem d_1043_10 {σ : Nat → Nat} {n0 : Nat} {bf : ab_B} : decode (ab_code (zx σ n0 bf).1 1043) 10 = .ok (.getfield 107, 3) := zd zm_1043 (by decide +kernel)
theorem d_1043_13 {σ : Nat → Nat} {n0 : Nat} {bf : ab_B} : decode (ab_code (zx σ n0 bf).1 1043) 13 = .ok (.getfield 201, 3) := zd zm_1043 (by decide +kernel)
theorem d_1043_16 {σ : Nat → Nat} {n0 : Nat} {bf : ab_B} : decode (ab_code (zx σ n0 bf).1 1043) 16 = .ok (.iload_n 2, 1) := zd zm_1043 (by decide +kernel)
theorem d_1043_17 {σ : Nat → Nat} {n0 : Nat} {bf : ab_B} : decode (ab_code (zx σ n0 bf).1 1043) 17 = .ok (.iconst 2, 1) := zd zm_1043 (by decide +kernel)
theorem d_1043_18 {σ : Nat → Nat} {n0 : Nat} {bf : ab_B} : decode (ab_code (zx σ n0 bf).1 1043) 18 = .ok (.iadd, 1) := zd zm_1043 (by decide +kernel)
theorem d_1043_19 {σ : Nat → Nat} {n0 : Nat} {bf : ab_B} : decode (ab_code (zx σ n0 bf).1 1043) 19 = .ok (.iaload, 1) := zd zm_1043 (by decide +kernel)
theorem d_1043_20 {σ : Nat → Nat} {n0 : Nat} {bf : ab_B} : decode (ab_code (zx σ n0 bf).1 1043) 20 = .ok (.iadd, 1) := zd zm_1043 (by decide +kernel)
theorem d_1043_21 {σ : Nat → Nat} {n0 : Nat} {bf : ab_B} : decode (ab_code (zx σ n0 bf).1 1043) 21 = .ok (.istore_n 3, 1) := zd zm_1043 (by decide +kernel)
theorem d_1043_22 {σ : Nat → Nat} {n0 : Nat} {bf : ab_B} : decode (ab_code (zx σ n0 bf).1 1043) 22 = .ok (.aload_n 0, 1) := zd zm_1043 (by decide +kernel)
theorem d_1043_23 {σ : Nat → Nat} {n0 : Nat} {bf : ab_B} : decode (ab_code (zx σ n0 bf).1 1043) 23 = .ok (.getfield 107, 3) := zd zm_1043 (by decide +kernel)
theorem d_1043_26 {σ : Nat → Nat} {n0 : Nat} {bf : ab_B} : decode (ab_code (zx σ n0 bf).1 1043) 26 = .ok (.getfield 201, 3) := zd zm_1043 (by decide +kernel)
theorem d_1043_29 {σ : Nat → Nat} {n0 : Nat} {bf : ab_B} : decode (ab_code (zx σ n0 bf).1 1043) 29 = .ok (.iload_n 2, 1) := zd zm_1043 (by decide +kernel)
theorem d_1043_30 {σ : Nat → Nat} {n0 : Nat} {bf : ab_B} : decode (ab_code (zx σ n0 bf).1 1043) 30 = .ok (.iconst 3, 1) := zd zm_1043 (by decide +kernel)
theorem d_1043_31 {σ : Nat → Nat} {n0 : Nat} {bf : ab_B} : decode (ab_code (zx σ n0 bf).1 1043) 31 = .ok (.iadd, 1) := zd zm_1043 (by decide +kernel)
theorem d_1043_32 {σ : Nat → Nat} {n0 : Nat} {bf : ab_B} : decode (ab_code (zx σ n0 bf).1 1043) 32 = .ok (.iaload, 1) := zd zm_1043 (by decide +kernel)
theorem d_1043_33 {σ : Nat → Nat} {n0 : Nat} {bf : ab_B} : decode (ab_code (zx σ n0 bf).1 1043) 33 = .ok (.istore 4, 2) := zd zm_1043 (by decide +kernel)
theorem d_1043_35 {σ : Nat → Nat} {n0 : Nat} {bf : ab_B} : decode (ab_code (zx σ n0 bf).1 1043) 35 = .ok (.aload_n 0, 1) := zd zm_1043 (by decide +kernel)
theorem d_1043_36 {σ : Nat → Nat} {n0 : Nat} {bf : ab_B} : decode (ab_code (zx σ n0 bf).1 1043) 36 = .ok (.getfield 49, 3) := zd zm_1043 (by decide +kernel)
theorem d_1043_39 {σ : Nat → Nat} {n0 : Nat} {bf : ab_B} : decode (ab_code (zx σ n0 bf).1 1043) 39 = .ok (.iload_n 3, 1) := zd zm_1043 (by decide +kernel)
theorem d_1043_40 {σ : Nat → Nat} {n0 : Nat} {bf : ab_B} : decode (ab_code (zx σ n0 bf).1 1043) 40 = .ok (.iaload, 1) := zd zm_1043 (by decide +kernel)
theorem d_1043_41 {σ : Nat → Nat} {n0 : Nat} {bf : ab_B} : decode (ab_code (zx σ n0 bf).1 1043) 41 = .ok (.istore 5, 2) := zd zm_1043 (by decide +kernel)
theorem d_1043_43 {σ : Nat → Nat} {n0 : Nat} {bf : ab_B} : decode (ab_code (zx σ n0 bf).1 1043) 43 = .ok (.aload_n 0, 1) := zd zm_1043 (by decide +kernel)
theorem d_1043_44 {σ : Nat → Nat} {n0 : Nat} {bf : ab_B} : decode (ab_code (zx σ n0 bf).1 1043) 44 = .ok (.getfield 17, 3) := zd zm_1043 (by decide +kernel)
theorem d_1043_47 {σ : Nat → Nat} {n0 : Nat} {bf : ab_B} : decode (ab_code (zx σ n0 bf).1 1043) 47 = .ok (.iload 5, 2) := zd zm_1043 (by decide +kernel)
theorem d_1043_49 {σ : Nat → Nat} {n0 : Nat} {bf : ab_B} : decode (ab_code (zx σ n0 bf).1 1043) 49 = .ok (.baload, 1) := zd zm_1043 (by decide +kernel)
theorem d_1043_50 {σ : Nat → Nat} {n0 : Nat} {bf : ab_B} : decode (ab_code (zx σ n0 bf).1 1043) 50 = .ok (.ifCond .ne 11, 3) := zd zm_1043 (by decide +kernel)
theorem d_1043_53 {σ : Nat → Nat} {n0 : Nat} {bf : ab_B} : decode (ab_code (zx σ n0 bf).1 1043) 53 = .ok (.aload_n 0, 1) := zd zm_1043 (by decide +kernel)
theorem d_1043_54 {σ : Nat → Nat} {n0 : Nat} {bf : ab_B} : decode (ab_code (zx σ n0 bf).1 1043) 54 = .ok (.iconst 1, 1) := zd zm_1043 (by decide +kernel)
theorem d_1043_55 {σ : Nat → Nat} {n0 : Nat} {bf : ab_B} : decode (ab_code (zx σ n0 bf).1 1043) 55 = .ok (.iload_n 1, 1) := zd zm_1043 (by decide +kernel)
theorem d_1043_56 {σ : Nat → Nat} {n0 : Nat} {bf : ab_B} : decode (ab_code (zx σ n0 bf).1 1043) 56 = .ok (.invokevirtual 194, 3) := zd zm_1043 (by decide +kernel)
theorem d_1043_59 {σ : Nat → Nat} {n0 : Nat} {bf : ab_B} : decode (ab_code (zx σ n0 bf).1 1043) 59 = .ok (.pop, 1) := zd zm_1043 (by decide +kernel)
theorem d_1043_60 {σ : Nat → Nat} {n0 : Nat} {bf : ab_B} : decode (ab_code (zx σ n0 bf).1 1043) 60 = .ok (.return_, 1) := zd zm_1043 (by decide +kernel)
theorem d_1043_61 {σ : Nat → Nat} {n0 : Nat} {bf : ab_B} : decode (ab_code (zx σ n0 bf).1 1043) 61 = .ok (.iload 4, 2) := zd zm_1043 (by decide +kernel)
theorem d_1043_63 {σ : Nat → Nat} {n0 : Nat} {bf : ab_B} : decode (ab_code (zx σ n0 bf).1 1043) 63 = .ok (.i2l, 1) := zd zm_1043 (by decide +kernel)
theorem d_1043_64 {σ : Nat → Nat} {n0 : Nat} {bf : ab_B} : decode (ab_code (zx σ n0 bf).1 1043) 64 = .ok (.aload_n 0, 1) := zd zm_1043 (by decide +kernel)
theorem d_1043_65 {σ : Nat → Nat} {n0 : Nat} {bf : ab_B} : decode (ab_code (zx σ n0 bf).1 1043) 65 = .ok (.getfield 10, 3) := zd zm_1043 (by decide +kernel)
theorem d_1043_68 {σ : Nat → Nat} {n0 : Nat} {bf : ab_B} : decode (ab_code (zx σ n0 bf).1 1043) 68 = .ok (.iload 5, 2) := zd zm_1043 (by decide +kernel)
theorem d_1043_70 {σ : Nat → Nat} {n0 : Nat} {bf : ab_B} : decode (ab_code (zx σ n0 bf).1 1043) 70 = .ok (.laload, 1) := zd zm_1043 (by decide +kernel)
theorem d_1043_71 {σ : Nat → Nat} {n0 : Nat} {bf : ab_B} : decode (ab_code (zx σ n0 bf).1 1043) 71 = .ok (.lmul, 1) := zd zm_1043 (by decide +kernel)
theorem d_1043_72 {σ : Nat → Nat} {n0 : Nat} {bf : ab_B} : decode (ab_code (zx σ n0 bf).1 1043) 72 = .ok (.iload 4, 2) := zd zm_1043 (by decide +kernel)
theorem d_1043_74 {σ : Nat → Nat} {n0 : Nat} {bf : ab_B} : decode (ab_code (zx σ n0 bf).1 1043) 74 = .ok (.i2l, 1) := zd zm_1043 (by decide +kernel)
theorem d_1043_75 {σ : Nat → Nat} {n0 : Nat} {bf : ab_B} : decode (ab_code (zx σ n0 bf).1 1043) 75 = .ok (.aload_n 0, 1) := zd zm_1043 (by decide +kernel)
theorem d_1043_76 {σ : Nat → Nat} {n0 : Nat} {bf : ab_B} : decode (ab_code (zx σ n0 bf).1 1043) 76 = .ok (.getfield 36, 3) := zd zm_1043 (by decide +kernel)
theorem d_1043_79 {σ : Nat → Nat} {n0 : Nat} {bf : ab_B} : decode (ab_code (zx σ n0 bf).1 1043) 79 = .ok (.aload_n 0, 1) := zd zm_1043 (by decide +kernel)
theorem d_1043_80 {σ : Nat → Nat} {n0 : Nat} {bf : ab_B} : decode (ab_code (zx σ n0 bf).1 1043) 80 = .ok (.getfield 111, 3) := zd zm_1043 (by decide +kernel)
theorem d_1043_83 {σ : Nat → Nat} {n0 : Nat} {bf : ab_B} : decode (ab_code (zx σ n0 bf).1 1043) 83 = .ok (.iconst 1, 1) := zd zm_1043 (by decide +kernel)
theorem d_1043_84 {σ : Nat → Nat} {n0 : Nat} {bf : ab_B} : decode (ab_code (zx σ n0 bf).1 1043) 84 = .ok (.isub, 1) := zd zm_1043 (by decide +kernel)
theorem d_1043_85 {σ : Nat → Nat} {n0 : Nat} {bf : ab_B} : decode (ab_code (zx σ n0 bf).1 1043) 85 = .ok (.laload, 1) := zd zm_1043 (by decide +kernel)
theorem d_1043_86 {σ : Nat → Nat} {n0 : Nat} {bf : ab_B} : decode (ab_code (zx σ n0 bf).1 1043) 86 = .ok (.lmul, 1) := zd zm_1043 (by decide +kernel)
theorem d_1043_87 {σ : Nat → Nat} {n0 : Nat} {bf : ab_B} : decode (ab_code (zx σ n0 bf).1 1043) 87 = .ok (.lcmp, 1) := zd zm_1043 (by decide +kernel)
theorem d_1043_88 {σ : Nat → Nat} {n0 : Nat} {bf : ab_B} : decode (ab_code (zx σ n0 bf).1 1043) 88 = .ok (.ifCond .lt 22, 3) := zd zm_1043 (by decide +kernel)
theorem d_1043_91 {σ : Nat → Nat} {n0 : Nat} {bf : ab_B} : decode (ab_code (zx σ n0 bf).1 1043) 91 = .ok (.aload_n 0, 1) := zd zm_1043 (by decide +kernel)
theorem d_1043_92 {σ : Nat → Nat} {n0 : Nat} {bf : ab_B} : decode (ab_code (zx σ n0 bf).1 1043) 92 = .ok (.dup, 1) := zd zm_1043 (by decide +kernel)
theorem d_1043_93 {σ : Nat → Nat} {n0 : Nat} {bf : ab_B} : decode (ab_code (zx σ n0 bf).1 1043) 93 = .ok (.getfield 111, 3) := zd zm_1043 (by decide +kernel)
theorem d_1043_96 {σ : Nat → Nat} {n0 : Nat} {bf : ab_B} : decode (ab_code (zx σ n0 bf).1 1043) 96 = .ok (.iconst 1, 1) := zd zm_1043 (by decide +kernel)
theorem d_1043_97 {σ : Nat → Nat} {n0 : Nat} {bf : ab_B} : decode (ab_code (zx σ n0 bf).1 1043) 97 = .ok (.isub, 1) := zd zm_1043 (by decide +kernel)
theorem d_1043_98 {σ : Nat → Nat} {n0 : Nat} {bf : ab_B} : decode (ab_code (zx σ n0 bf).1 1043) 98 = .ok (.putfield 111, 3) := zd zm_1043 (by decide +kernel)
theorem d_1043_101 {σ : Nat → Nat} {n0 : Nat} {bf : ab_B} : decode (ab_code (zx σ n0 bf).1 1043) 101 = .ok (.aload_n 0, 1) := zd zm_1043 (by decide +kernel)
theorem d_1043_102 {σ : Nat → Nat} {n0 : Nat} {bf : ab_B} : decode (ab_code (zx σ n0 bf).1 1043) 102 = .ok (.getfield 17, 3) := zd zm_1043 (by decide +kernel)
theorem d_1043_105 {σ : Nat → Nat} {n0 : Nat} {bf : ab_B} : decode (ab_code (zx σ n0 bf).1 1043) 105 = .ok (.iload 5, 2) := zd zm_1043 (by decide +kernel)
theorem d_1043_107 {σ : Nat → Nat} {n0 : Nat} {bf : ab_B} : decode (ab_code (zx σ n0 bf).1 1043) 107 = .ok (.iconst 0, 1) := zd zm_1043 (by decide +kernel)
theorem d_1043_108 {σ : Nat → Nat} {n0 : Nat} {bf : ab_B} : decode (ab_code (zx σ n0 bf).1 1043) 108 = .ok (.bastore, 1) := zd zm_1043 (by decide +kernel)
theorem d_1043_109 {σ : Nat → Nat} {n0 : Nat} {bf : ab_B} : decode (ab_code (zx σ n0 bf).1 1043) 109 = .ok (.return_, 1) := zd zm_1043 (by decide +kernel)
theorem d_1043_110 {σ : Nat → Nat} {n0 : Nat} {bf : ab_B} : decode (ab_code (zx σ n0 bf).1 1043) 110 = .ok (.aload_n 0, 1) := zd zm_1043 (by decide +kernel)
theorem d_1043_111 {σ : Nat → Nat} {n0 : Nat} {bf : ab_B} : decode (ab_code (zx σ n0 bf).1 1043) 111 = .ok (.iload 5, 2) := zd zm_1043 (by decide +kernel)
theorem d_1043_113 {σ : Nat → Nat} {n0 : Nat} {bf : ab_B} : decode (ab_code (zx σ n0 bf).1 1043) 113 = .ok (.iconst (-1), 1) := zd zm_1043 (by decide +kernel)
theorem d_1043_114 {σ : Nat → Nat} {n0 : Nat} {bf : ab_B} : decode (ab_code (zx σ n0 bf).1 1043) 114 = .ok (.aload_n 0, 1) := zd zm_1043 (by decide +kernel)
theorem d_1043_115 {σ : Nat → Nat} {n0 : Nat} {bf : ab_B} : decode (ab_code (zx σ n0 bf).1 1043) 115 = .ok (.getfield 107, 3) := zd zm_1043 (by decide +kernel)
theorem d_1043_118 {σ : Nat → Nat} {n0 : Nat} {bf : ab_B} : decode (ab_code (zx σ n0 bf).1 1043) 118 = .ok (.getfield 239, 3) := zd zm_1043 (by decide +kernel)
theorem d_1043_121 {σ : Nat → Nat} {n0 : Nat} {bf : ab_B} : decode (ab_code (zx σ n0 bf).1 1043) 121 = .ok (.aload_n 0, 1) := zd zm_1043 (by decide +kernel)
theorem d_1043_122 {σ : Nat → Nat} {n0 : Nat} {bf : ab_B} : decode (ab_code (zx σ n0 bf).1 1043) 122 = .ok (.getfield 107, 3) := zd zm_1043 (by decide +kernel)
theorem d_1043_125 {σ : Nat → Nat} {n0 : Nat} {bf : ab_B} : decode (ab_code (zx σ n0 bf).1 1043) 125 = .ok (.getfield 201, 3) := zd zm_1043 (by decide +kernel)
theorem d_1043_128 {σ : Nat → Nat} {n0 : Nat} {bf : ab_B} : decode (ab_code (zx σ n0 bf).1 1043) 128 = .ok (.iload_n 2, 1) := zd zm_1043 (by decide +kernel)
theorem d_1043_129 {σ : Nat → Nat} {n0 : Nat} {bf : ab_B} : decode (ab_code (zx σ n0 bf).1 1043) 129 = .ok (.iconst 4, 1) := zd zm_1043 (by decide +kernel)
theorem d_1043_130 {σ : Nat → Nat} {n0 : Nat} {bf : ab_B} : decode (ab_code (zx σ n0 bf).1 1043) 130 = .ok (.iadd, 1) := zd zm_1043 (by decide +kernel)
theorem d_1043_131 {σ : Nat → Nat} {n0 : Nat} {bf : ab_B} : decode (ab_code (zx σ n0 bf).1 1043) 131 = .ok (.iaload, 1) := zd zm_1043 (by decide +kernel)
theorem d_1043_132 {σ : Nat → Nat} {n0 : Nat} {bf : ab_B} : decode (ab_code (zx σ n0 bf).1 1043) 132 = .ok (.invokevirtual 162, 3) := zd zm_1043 (by decide +kernel)
theorem d_1043_135 {σ : Nat → Nat} {n0 : Nat} {bf : ab_B} : decode (ab_code (zx σ n0 bf).1 1043) 135 = .ok (.checkcast 91, 3) := zd zm_1043 (by decide +kernel)
theorem d_1043_138 {σ : Nat → Nat} {n0 : Nat} {bf : ab_B} : decode (ab_code (zx σ n0 bf).1 1043) 138 = .ok (.aload_n 0, 1) := zd zm_1043 (by decide +kernel)
theorem d_1043_139 {σ : Nat → Nat} {n0 : Nat} {bf : ab_B} : decode (ab_code (zx σ n0 bf).1 1043) 139 = .ok (.getfield 10, 3) := zd zm_1043 (by decide +kernel)
theorem d_1043_142 {σ : Nat → Nat} {n0 : Nat} {bf : ab_B} : decode (ab_code (zx σ n0 bf).1 1043) 142 = .ok (.iload 5, 2) := zd zm_1043 (by decide +kernel)
theorem d_1043_144 {σ : Nat → Nat} {n0 : Nat} {bf : ab_B} : decode (ab_code (zx σ n0 bf).1 1043) 144 = .ok (.laload, 1) := zd zm_1043 (by decide +kernel)
theorem d_1043_145 {σ : Nat → Nat} {n0 : Nat} {bf : ab_B} : decode (ab_code (zx σ n0 bf).1 1043) 145 = .ok (.iload 4, 2) := zd zm_1043 (by decide +kernel)
theorem d_1043_147 {σ : Nat → Nat} {n0 : Nat} {bf : ab_B} : decode (ab_code (zx σ n0 bf).1 1043) 147 = .ok (.i2l, 1) := zd zm_1043 (by decide +kernel)
theorem d_1043_148 {σ : Nat → Nat} {n0 : Nat} {bf : ab_B} : decode (ab_code (zx σ n0 bf).1 1043) 148 = .ok (.ladd, 1) := zd zm_1043 (by decide +kernel)
theorem d_1043_149 {σ : Nat → Nat} {n0 : Nat} {bf : ab_B} : decode (ab_code (zx σ n0 bf).1 1043) 149 = .ok (.iload_n 1, 1) := zd zm_1043 (by decide +kernel)
theorem d_1043_150 {σ : Nat → Nat} {n0 : Nat} {bf : ab_B} : decode (ab_code (zx σ n0 bf).1 1043) 150 = .ok (.invokevirtual 273, 3) := zd zm_1043 (by decide +kernel)
theorem d_1043_153 {σ : Nat → Nat} {n0 : Nat} {bf : ab_B} : decode (ab_code (zx σ n0 bf).1 1043) 153 = .ok (.ifCond .eq 18, 3) := zd zm_1043 (by decide +kernel)
theorem d_1043_156 {σ : Nat → Nat} {n0 : Nat} {bf : ab_B} : decode (ab_code (zx σ n0 bf).1 1043) 156 = .ok (.aload_n 0, 1) := zd zm_1043 (by decide +kernel)
theorem d_1043_157 {σ : Nat → Nat} {n0 : Nat} {bf : ab_B} : decode (ab_code (zx σ n0 bf).1 1043) 157 = .ok (.aload_n 0, 1) := zd zm_1043 (by decide +kernel)
theorem d_1043_158 {σ : Nat → Nat} {n0 : Nat} {bf : ab_B} : decode (ab_code (zx σ n0 bf).1 1043) 158 = .ok (.getfield 107, 3) := zd zm_1043 (by decide +kernel)
theorem d_1043_161 {σ : Nat → Nat} {n0 : Nat} {bf : ab_B} : decode (ab_code (zx σ n0 bf).1 1043) 161 = .ok (.getfield 201, 3) := zd zm_1043 (by decide +kernel)
theorem d_1043_164 {σ : Nat → Nat} {n0 : Nat} {bf : ab_B} : decode (ab_code (zx σ n0 bf).1 1043) 164 = .ok (.iload_n 2, 1) := zd zm_1043 (by decide +kernel)
theorem d_1043_165 {σ : Nat → Nat} {n0 : Nat} {bf : ab_B} : decode (ab_code (zx σ n0 bf).1 1043) 165 = .ok (.iconst 5, 1) := zd zm_1043 (by decide +kernel)
theorem d_1043_166 {σ : Nat → Nat} {n0 : Nat} {bf : ab_B} : decode (ab_code (zx σ n0 bf).1 1043) 166 = .ok (.iadd, 1) := zd zm_1043 (by decide +kernel)
theorem d_1043_167 {σ : Nat → Nat} {n0 : Nat} {bf : ab_B} : decode (ab_code (zx σ n0 bf).1 1043) 167 = .ok (.iaload, 1) := zd zm_1043 (by decide +kernel)
theorem d_1043_168 {σ : Nat → Nat} {n0 : Nat} {bf : ab_B} : decode (ab_code (zx σ n0 bf).1 1043) 168 = .ok (.putfield 175, 3) := zd zm_1043 (by decide +kernel)
theorem d_1043_171 {σ : Nat → Nat} {n0 : Nat} {bf : ab_B} : decode (ab_code (zx σ n0 bf).1 1043) 171 = .ok (.return_, 1) := zd zm_1043 (by decide +kernel)
def w_X2_forNext_171 (X : zs_X) (d : Nat)  (S : zs_T) (Q : zs_Q) : Prop :=
  (Q (.returned none) S)
theorem u_X2_forNext_171 {σ : Nat → Nat} {n0 : Nat} {bf : ab_B} {d : Nat}  {S : zs_T} {Q : zs_Q} (hB : zt_B bf) (h : w_X2_forNext_171 (zx σ n0 bf) d  S Q) : zs_U (zx σ n0 bf) d 1043 171 [] [] S Q := by
  unfold w_X2_forNext_171 at h
  exact zu_vret d_1043_171 zr_1043 h
def w_X2_forNext_156 (X : zs_X) (d : Nat) (p0 : Nat) (p2 : Int32) (S : zs_T) (Q : zs_Q) : Prop :=
  (zs_K S p0 = some (.inl 1) ∧ ∃ b2, (zs_R S 1000 p0) = some b2 ∧ zs_K S b2 = some (.inl 3) ∧ ∃ b5, (zs_R S 3000 b2) = some b5 ∧ zs_A S b5 0 (p2 + (5 : Int32)) ∧ ab_n0 X.1 ≤ p0 ∧ ∀ S9, S9 = zs_sI S 1033 p0 (zs_i S b5 (p2 + (5 : Int32)).toNatClampNeg) → w_X2_forNext_171 X d  S9 Q)
theorem u_X2_forNext_156 {σ : Nat → Nat} {n0 : Nat} {bf : ab_B} {d : Nat} {p0 : Nat} {p2 : Int32} {S : zs_T} {Q : zs_Q} (hB : zt_B bf) (h : w_X2_forNext_156 (zx σ n0 bf) d p0 p2 S Q) : zs_U (zx σ n0 bf) d 1043 156 [(0, .ref p0), (2, .int p2)] [] S Q := by
  unfold w_X2_forNext_156 at h
  refine zu_aload_n d_1043_156 rfl (zs_ra _) ?_
  refine zu_aload_n d_1043_157 rfl (zs_ra _) ?_
  obtain ⟨k1, h⟩ := h
  refine zg_1_107 rfl d_1043_158 k1 ?_
  obtain ⟨b2, e3, h⟩ := h
  refine zs_stk0 (zs_rfe e3) ?_
  obtain ⟨k4, h⟩ := h
  refine zg_1_201 rfl d_1043_161 k4 ?_
  refine zu_iload_n d_1043_164 rfl ?_
  refine zu_iconst d_1043_165 zi_5 ?_
  refine zu_stk d_1043_166 rfl rfl ?_
  obtain ⟨b5, e6, h⟩ := h
  refine zs_stk1 (zs_rfe e6) ?_
  obtain ⟨k7, h⟩ := h
  refine zu_iald (k := 0) d_1043_167 rfl rfl k7 ?_
  obtain ⟨k8, h⟩ := h
  refine zp_1_175 (v := (zs_i S b5 (p2 + (5 : Int32)).toNatClampNeg)) rfl d_1043_168 k1 k8 ?_
  generalize e10 : zs_sI S 1033 p0 (zs_i S b5 (p2 + (5 : Int32)).toNatClampNeg) = S9
  have h := h S9 e10.symm
  have K11 : ∀ b, zs_K S9 b = zs_K S b := zs_Kt e10 (zs_KsI _ _ _ _) (fun _ => rfl)
  exact (u_X2_forNext_171 hB h).weak trivial
def w_X2_forNext_110 (X : zs_X) (d : Nat) (p0 : Nat) (p1 : Int32) (p2 : Int32) (p4 : Int32) (p5 : Int32) (S : zs_T) (Q : zs_Q) : Prop :=
  (zs_K S p0 = some (.inl 1) ∧ ∃ b2, (zs_R S 1000 p0) = some b2 ∧ zs_K S b2 = some (.inl 3) ∧ ∃ b5, (zs_R S 3000 b2) = some b5 ∧ zs_A S b5 0 (p2 + (4 : Int32)) ∧ ∃ b8, (zs_R S 3002 b2) = some b8 ∧ zs_K S b8 = some (.inl 16) ∧ zs_C X d 16009 [.ref b8, .int (zs_i S b5 (p2 + (4 : Int32)).toNatClampNeg)] S (zs_kR (fun v12 S11 => ((∀ a, v12 = some a → zs_K S11 a = some (.inl 6)) ∧ zs_K S11 p0 = some (.inl 1) ∧ ∃ b15, (zs_R S11 1001 p0) = some b15 ∧ zs_A S11 b15 3 p5 ∧ zs_C X d 1022 [.ref p0, .int p5, .int (-1 : Int32), va_rf v12, .long ((zs_j S11 b15 p5.toNatClampNeg) + ((p4).toInt64)), .int p1] S11 (zs_kI (fun v19 S18 => (((v19 = 0 → w_X2_forNext_171 X d  S18 Q) ∧ (¬ (v19 = 0) → w_X2_forNext_156 X d p0 p2 S18 Q)))) Q))) Q))
theorem u_X2_forNext_110 {σ : Nat → Nat} {n0 : Nat} {bf : ab_B} {d : Nat} {p0 : Nat} {p1 : Int32} {p2 : Int32} {p4 : Int32} {p5 : Int32} {S : zs_T} {Q : zs_Q} (hB : zt_B bf) (h : w_X2_forNext_110 (zx σ n0 bf) d p0 p1 p2 p4 p5 S Q) : zs_U (zx σ n0 bf) d 1043 110 [(0, .ref p0), (1, .int p1), (2, .int p2), (4, .int p4), (5, .int p5)] [] S Q := by
  unfold w_X2_forNext_110 at h
  refine zu_aload_n d_1043_110 rfl (zs_ra _) ?_
  refine zu_iload d_1043_111 rfl ?_
  refine zu_iconst d_1043_113 zi_m1 ?_
  refine zu_aload_n d_1043_114 rfl (zs_ra _) ?_
  obtain ⟨k1, h⟩ := h
  refine zg_1_107 rfl d_1043_115 k1 ?_
  obtain ⟨b2, e3, h⟩ := h
  refine zs_stk0 (zs_rfe e3) ?_
  obtain ⟨k4, h⟩ := h
  refine zg_1_239 rfl d_1043_118 k4 ?_
  refine zu_aload_n d_1043_121 rfl (zs_ra _) ?_
  refine zg_1_107 rfl d_1043_122 k1 ?_
  refine zs_stk0 (zs_rfe e3) ?_
  refine zg_1_201 rfl d_1043_125 k4 ?_
  refine zu_iload_n d_1043_128 rfl ?_
  refine zu_iconst d_1043_129 zi_4 ?_
  refine zu_stk d_1043_130 rfl rfl ?_
  obtain ⟨b5, e6, h⟩ := h
  refine zs_stk1 (zs_rfe e6) ?_
  obtain ⟨k7, h⟩ := h
  refine zu_iald (k := 0) d_1043_131 rfl rfl k7 ?_
  obtain ⟨b8, e9, h⟩ := h
  refine zs_stk1 (zs_rfe e9) ?_
  obtain ⟨k10, h⟩ := h
  refine zc_1_162 (x0 := (zs_i S b5 (p2 + (4 : Int32)).toNatClampNeg)) hB rfl k10 d_1043_132 (Nat.le_of_ble_eq_true rfl) h (fun v12 S11 h => ?_)
  obtain ⟨k13, h⟩ := h
  refine zk_1_91 (o := v12) rfl d_1043_135 k13 ?_
  refine zu_aload_n d_1043_138 rfl (zs_ra _) ?_
  obtain ⟨k14, h⟩ := h
  refine zg_1_10 rfl d_1043_139 k14 ?_
  refine zu_iload d_1043_142 rfl ?_
  obtain ⟨b15, e16, h⟩ := h
  refine zs_stk1 (zs_rfe e16) ?_
  obtain ⟨k17, h⟩ := h
  refine zu_lald (k := 3) d_1043_144 rfl rfl k17 ?_
  refine zu_iload d_1043_145 rfl ?_
  refine zu_stk d_1043_147 rfl rfl ?_
  refine zu_stk d_1043_148 rfl rfl ?_
  refine zu_iload_n d_1043_149 rfl ?_
  refine zc_1_273 (x0 := p5) (x1 := (-1 : Int32)) (x2 := v12) (x3 := ((zs_j S11 b15 p5.toNatClampNeg) + ((p4).toInt64))) (x4 := p1) hB rfl k14 d_1043_150 (Nat.le_of_ble_eq_true rfl) h (fun v19 S18 h => ?_)
  refine zu_ifeq (t := 171) d_1043_153 rfl (fun c20 => ?_) (fun c20 => ?_)
  · have h := h.1 c20
    exact (u_X2_forNext_171 hB h).weak trivial
  · have h := h.2 c20
    exact (u_X2_forNext_156 hB h).weak ⟨rfl, rfl, trivial⟩
def w_X2_forNext_91 (X : zs_X) (d : Nat) (p0 : Nat) (p5 : Int32) (S : zs_T) (Q : zs_Q) : Prop :=
  (zs_K S p0 = some (.inl 1) ∧ ab_n0 X.1 ≤ p0 ∧ ∀ S3, S3 = zs_sI S 1007 p0 ((zs_I S 1007 p0) - (1 : Int32)) → ∃ b6, (zs_R S3 1002 p0) = some b6 ∧ zs_A S b6 2 p5 ∧ ab_n0 X.1 ≤ b6 ∧ ∀ S10, S10 = zs_si S3 b6 p5.toNatClampNeg (vp_nar .boolean (0 : Int32)) → Q (.returned none) S10)
theorem u_X2_forNext_91 {σ : Nat → Nat} {n0 : Nat} {bf : ab_B} {d : Nat} {p0 : Nat} {p5 : Int32} {S : zs_T} {Q : zs_Q} (hB : zt_B bf) (h : w_X2_forNext_91 (zx σ n0 bf) d p0 p5 S Q) : zs_U (zx σ n0 bf) d 1043 91 [(0, .ref p0), (5, .int p5)] [] S Q := by
  unfold w_X2_forNext_91 at h
  refine zu_aload_n d_1043_91 rfl (zs_ra _) ?_
  refine zu_dup d_1043_92 rfl ?_
  obtain ⟨k1, h⟩ := h
  refine zg_1_111 rfl d_1043_93 k1 ?_
  refine zu_iconst d_1043_96 zi_1 ?_
  refine zu_stk d_1043_97 rfl rfl ?_
  obtain ⟨k2, h⟩ := h
  refine zp_1_111 (v := ((zs_I S 1007 p0) - (1 : Int32))) rfl d_1043_98 k1 k2 ?_
  generalize e4 : zs_sI S 1007 p0 ((zs_I S 1007 p0) - (1 : Int32)) = S3
  have h := h S3 e4.symm
  have K5 : ∀ b, zs_K S3 b = zs_K S b := zs_Kt e4 (zs_KsI _ _ _ _) (fun _ => rfl)
  refine zu_aload_n d_1043_101 rfl (zs_ra _) ?_
  refine zg_1_17 rfl d_1043_102 ((K5 _).trans k1) ?_
  refine zu_iload d_1043_105 rfl ?_
  refine zu_iconst d_1043_107 zi_0 ?_
  obtain ⟨b6, e7, h⟩ := h
  refine zs_stk2 (zs_rfe e7) ?_
  obtain ⟨k8, h⟩ := h
  obtain ⟨k9, h⟩ := h
  refine zu_bast_bool (k := 2) d_1043_108 rfl rfl k9 (zs_Ak K5 k8) ?_
  generalize e11 : zs_si S3 b6 p5.toNatClampNeg (vp_nar .boolean (0 : Int32)) = S10
  have h := h S10 e11.symm
  have K12 : ∀ b, zs_K S10 b = zs_K S b := zs_Kt e11 (zs_Ksi _ _ _ _) K5
  exact zu_vret d_1043_109 zr_1043 h
def w_X2_forNext_35 (X : zs_X) (d : Nat) (p0 : Nat) (p1 : Int32) (p2 : Int32) (p3 : Int32) (p4 : Int32) (S : zs_T) (Q : zs_Q) : Prop :=
  (zs_K S p0 = some (.inl 1) ∧ ∃ b2, (zs_R S 1012 p0) = some b2 ∧ zs_A S b2 0 p3 ∧ ∃ b5, (zs_R S 1002 p0) = some b5 ∧ zs_A S b5 2 (zs_i S b2 p3.toNatClampNeg) ∧ ((¬ (zs_i S b5 (zs_i S b2 p3.toNatClampNeg).toNatClampNeg) = 0 → (∃ b9, (zs_R S 1001 p0) = some b9 ∧ zs_A S b9 3 (zs_i S b2 p3.toNatClampNeg) ∧ ∃ b12, (zs_R S 1005 p0) = some b12 ∧ zs_A S b12 3 ((zs_I S 1007 p0) - (1 : Int32)) ∧ (((((p4).toInt64) * (zs_j S b9 (zs_i S b2 p3.toNatClampNeg).toNatClampNeg)) < (((p4).toInt64) * (zs_j S b12 ((zs_I S 1007 p0) - (1 : Int32)).toNatClampNeg)) → w_X2_forNext_110 X d p0 p1 p2 p4 (zs_i S b2 p3.toNatClampNeg) S Q) ∧ (¬ ((((p4).toInt64) * (zs_j S b9 (zs_i S b2 p3.toNatClampNeg).toNatClampNeg)) < (((p4).toInt64) * (zs_j S b12 ((zs_I S 1007 p0) - (1 : Int32)).toNatClampNeg))) → w_X2_forNext_91 X d p0 (zs_i S b2 p3.toNatClampNeg) S Q)))) ∧ (¬ (¬ (zs_i S b5 (zs_i S b2 p3.toNatClampNeg).toNatClampNeg) = 0) → (zs_C X d 1004 [.ref p0, .int (1 : Int32), .int p1] S (zs_kI (fun v17 S16 => (Q (.returned none) S16)) Q)))))
theorem u_X2_forNext_35 {σ : Nat → Nat} {n0 : Nat} {bf : ab_B} {d : Nat} {p0 : Nat} {p1 : Int32} {p2 : Int32} {p3 : Int32} {p4 : Int32} {S : zs_T} {Q : zs_Q} (hB : zt_B bf) (h : w_X2_forNext_35 (zx σ n0 bf) d p0 p1 p2 p3 p4 S Q) : zs_U (zx σ n0 bf) d 1043 35 [(0, .ref p0), (1, .int p1), (2, .int p2), (3, .int p3), (4, .int p4)] [] S Q := by
  unfold w_X2_forNext_35 at h
  refine zu_aload_n d_1043_35 rfl (zs_ra _) ?_
  obtain ⟨k1, h⟩ := h
  refine zg_1_49 rfl d_1043_36 k1 ?_
  refine zu_iload_n d_1043_39 rfl ?_
  obtain ⟨b2, e3, h⟩ := h
  refine zs_stk1 (zs_rfe e3) ?_
  obtain ⟨k4, h⟩ := h
  refine zu_iald (k := 0) d_1043_40 rfl rfl k4 ?_
  refine zu_istore d_1043_41 (zs_lt zq_1043 rfl) ?_
  refine zu_aload_n d_1043_43 rfl (zs_ra _) ?_
  refine zg_1_17 rfl d_1043_44 k1 ?_
  refine zu_iload d_1043_47 rfl ?_
  obtain ⟨b5, e6, h⟩ := h
  refine zs_stk1 (zs_rfe e6) ?_
  obtain ⟨k7, h⟩ := h
  refine zu_bald (k := 2) d_1043_49 rfl (Or.inr rfl) k7 ?_
  refine zu_ifne (t := 61) d_1043_50 rfl (fun c8 => ?_) (fun c8 => ?_)
  · have h := h.1 c8
    refine zu_iload d_1043_61 rfl ?_
    refine zu_stk d_1043_63 rfl rfl ?_
    refine zu_aload_n d_1043_64 rfl (zs_ra _) ?_
    refine zg_1_10 rfl d_1043_65 k1 ?_
    refine zu_iload d_1043_68 rfl ?_
    obtain ⟨b9, e10, h⟩ := h
    refine zs_stk1 (zs_rfe e10) ?_
    obtain ⟨k11, h⟩ := h
    refine zu_lald (k := 3) d_1043_70 rfl rfl k11 ?_
    refine zu_stk d_1043_71 rfl rfl ?_
    refine zu_iload d_1043_72 rfl ?_
    refine zu_stk d_1043_74 rfl rfl ?_
    refine zu_aload_n d_1043_75 rfl (zs_ra _) ?_
    refine zg_1_36 rfl d_1043_76 k1 ?_
    refine zu_aload_n d_1043_79 rfl (zs_ra _) ?_
    refine zg_1_111 rfl d_1043_80 k1 ?_
    refine zu_iconst d_1043_83 zi_1 ?_
    refine zu_stk d_1043_84 rfl rfl ?_
    obtain ⟨b12, e13, h⟩ := h
    refine zs_stk1 (zs_rfe e13) ?_
    obtain ⟨k14, h⟩ := h
    refine zu_lald (k := 3) d_1043_85 rfl rfl k14 ?_
    refine zu_stk d_1043_86 rfl rfl ?_
    refine zu_llt (t := 110) d_1043_87 d_1043_88 rfl (fun c15 => ?_) (fun c15 => ?_)
    · have h := h.1 c15
      exact (u_X2_forNext_110 hB h).weak ⟨rfl, rfl, rfl, rfl, rfl, trivial⟩
    · have h := h.2 c15
      exact (u_X2_forNext_91 hB h).weak ⟨rfl, rfl, trivial⟩
  · have h := h.2 c8
    refine zu_aload_n d_1043_53 rfl (zs_ra _) ?_
    refine zu_iconst d_1043_54 zi_1 ?_
    refine zu_iload_n d_1043_55 rfl ?_
    refine zc_1_194 (x0 := (1 : Int32)) (x1 := p1) hB rfl k1 d_1043_56 (Nat.le_of_ble_eq_true rfl) h (fun v17 S16 h => ?_)
    refine zu_pop d_1043_59 rfl ?_
    exact zu_vret d_1043_60 zr_1043 h
def w_X2_forNext (X : zs_X) (d : Nat) (p0 : Nat) (p1 : Int32) (p2 : Int32) (S : zs_T) (Q : zs_Q) : Prop :=
  (zs_K S p0 = some (.inl 1) ∧ ∃ b2, (zs_R S 1021 p0) = some b2 ∧ zs_A S b2 0 (zs_I S 1025 p0) ∧ ∃ b5, (zs_R S 1000 p0) = some b5 ∧ zs_K S b5 = some (.inl 3) ∧ ∃ b8, (zs_R S 3000 b5) = some b8 ∧ zs_A S b8 0 (p2 + (2 : Int32)) ∧ zs_A S b8 0 (p2 + (3 : Int32)) ∧ w_X2_forNext_35 X d p0 p1 p2 ((zs_i S b2 (zs_I S 1025 p0).toNatClampNeg) + (zs_i S b8 (p2 + (2 : Int32)).toNatClampNeg)) (zs_i S b8 (p2 + (3 : Int32)).toNatClampNeg) S Q)
theorem u_X2_forNext {σ : Nat → Nat} {n0 : Nat} {bf : ab_B} {d : Nat} {p0 : Nat} {p1 : Int32} {p2 : Int32} {S : zs_T} {Q : zs_Q} (hB : zt_B bf) (hd : 1 ≤ d) (h : w_X2_forNext (zx σ n0 bf) (d - 1) p0 p1 p2 S Q) : zs_C (zx σ n0 bf) d 1043 [.ref p0, .int p1, .int p2] S Q := by
  have hL : lv_args 0 [.ref p0, .int p1, .int p2] = [(0, .ref p0), (1, .int p1), (2, .int p2)] := rfl
  refine zs_C.of1 (hB.2 1043 (by decide) (by decide)) hd (by rw [hL]; exact zs_sub_self _ (by exact ⟨rfl, rfl, rfl, trivial⟩)) ?_
  rw [hL]
  clear hL
  unfold w_X2_forNext at h
  refine zu_aload_n d_1043_0 rfl (zs_ra _) ?_
  obtain ⟨k1, h⟩ := h
  refine zg_1_70 rfl d_1043_1 k1 ?_
  refine zu_aload_n d_1043_4 rfl (zs_ra _) ?_
  refine zg_1_129 rfl d_1043_5 k1 ?_
  obtain ⟨b2, e3, h⟩ := h
  refine zs_stk1 (zs_rfe e3) ?_
  obtain ⟨k4, h⟩ := h
  refine zu_iald (k := 0) d_1043_8 rfl rfl k4 ?_
  refine zu_aload_n d_1043_9 rfl (zs_ra _) ?_
  refine zg_1_107 rfl d_1043_10 k1 ?_
  obtain ⟨b5, e6, h⟩ := h
  refine zs_stk0 (zs_rfe e6) ?_
  obtain ⟨k7, h⟩ := h
  refine zg_1_201 rfl d_1043_13 k7 ?_
  refine zu_iload_n d_1043_16 rfl ?_
  refine zu_iconst d_1043_17 zi_2 ?_
  refine zu_stk d_1043_18 rfl rfl ?_
  obtain ⟨b8, e9, h⟩ := h
  refine zs_stk1 (zs_rfe e9) ?_
  obtain ⟨k10, h⟩ := h
  refine zu_iald (k := 0) d_1043_19 rfl rfl k10 ?_
  refine zu_stk d_1043_20 rfl rfl ?_
  refine zu_istore_n d_1043_21 (zs_lt zq_1043 rfl) ?_
  refine zu_aload_n d_1043_22 rfl (zs_ra _) ?_
  refine zg_1_107 rfl d_1043_23 k1 ?_
  refine zs_stk0 (zs_rfe e6) ?_
  refine zg_1_201 rfl d_1043_26 k7 ?_
  refine zu_iload_n d_1043_29 rfl ?_
  refine zu_iconst d_1043_30 zi_3 ?_
  refine zu_stk d_1043_31 rfl rfl ?_
  refine zs_stk1 (zs_rfe e9) ?_
  obtain ⟨k11, h⟩ := h
  refine zu_iald (k := 0) d_1043_32 rfl rfl k11 ?_
  refine zu_istore d_1043_33 (zs_lt zq_1043 rfl) ?_
  exact (u_X2_forNext_35 hB h).weak ⟨rfl, rfl, rfl, rfl, rfl, trivial⟩
/-! SchemaPascal$Machine.cases(I)V -/
theorem zm_1044 {σ : Nat → Nat} {n0 : Nat} {bf : ab_B} : ab_code (zx σ n0 bf).1 1044 = prog_5_method_46_code := rfl
theorem zq_1044 {σ : Nat → Nat} {n0 : Nat} {bf : ab_B} : ab_maxL (zx σ n0 bf).1 1044 = 7 := rfl
theorem zr_1044 {σ : Nat → Nat} {n0 : Nat} {bf : ab_B} : ab_ret (zx σ n0 bf).1 1044 = (Option.none : Option Jvm.ClassFile.FieldType) := rfl
theorem d_1044_0 {σ : Nat → Nat} {n0 : Nat} {bf : ab_B} : decode (ab_code (zx σ n0 bf).1 1044) 0 = .ok (.aload_n 0, 1) := zd zm_1044 (by decide +kernel)
theorem d_1044_1 {σ : Nat → Nat} {n0 : Nat} {bf : ab_B} : decode (ab_code (zx σ n0 bf).1 1044) 1 = .ok (.getfield 36, 3) := zd zm_1044 (by decide +kernel)
theorem d_1044_4 {σ : Nat → Nat} {n0 : Nat} {bf : ab_B} : decode (ab_code (zx σ n0 bf).1 1044) 4 = .ok (.aload_n 0, 1) := zd zm_1044 (by decide +kernel)
theorem d_1044_5 {σ : Nat → Nat} {n0 : Nat} {bf : ab_B} : decode (ab_code (zx σ n0 bf).1 1044) 5 = .ok (.getfield 111, 3) := zd zm_1044 (by decide +kernel)
theorem d_1044_8 {σ : Nat → Nat} {n0 : Nat} {bf : ab_B} : decode (ab_code (zx σ n0 bf).1 1044) 8 = .ok (.iconst 1, 1) := zd zm_1044 (by decide +kernel)
theorem d_1044_9 {σ : Nat → Nat} {n0 : Nat} {bf : ab_B} : decode (ab_code (zx σ n0 bf).1 1044) 9 = .ok (.isub, 1) := zd zm_1044 (by decide +kernel)
theorem d_1044_10 {σ : Nat → Nat} {n0 : Nat} {bf : ab_B} : decode (ab_code (zx σ n0 bf).1 1044) 10 = .ok (.laload, 1) := zd zm_1044 (by decide +kernel)
theorem d_1044_11 {σ : Nat → Nat} {n0 : Nat} {bf : ab_B} : decode (ab_code (zx σ n0 bf).1 1044) 11 = .ok (.lstore_n 2, 1) := zd zm_1044 (by decide +kernel)
theorem d_1044_12 {σ : Nat → Nat} {n0 : Nat} {bf : ab_B} : decode (ab_code (zx σ n0 bf).1 1044) 12 = .ok (.aload_n 0, 1) := zd zm_1044 (by decide +kernel)
theorem d_1044_13 {σ : Nat → Nat} {n0 : Nat} {bf : ab_B} : decode (ab_code (zx σ n0 bf).1 1044) 13 = .ok (.getfield 107, 3) := zd zm_1044 (by decide +kernel)
theorem d_1044_16 {σ : Nat → Nat} {n0 : Nat} {bf : ab_B} : decode (ab_code (zx σ n0 bf).1 1044) 16 = .ok (.getfield 201, 3) := zd zm_1044 (by decide +kernel)
theorem d_1044_19 {σ : Nat → Nat} {n0 : Nat} {bf : ab_B} : decode (ab_code (zx σ n0 bf).1 1044) 19 = .ok (.iload_n 1, 1) := zd zm_1044 (by decide +kernel)
theorem d_1044_20 {σ : Nat → Nat} {n0 : Nat} {bf : ab_B} : decode (ab_code (zx σ n0 bf).1 1044) 20 = .ok (.iconst 2, 1) := zd zm_1044 (by decide +kernel)
theorem d_1044_21 {σ : Nat → Nat} {n0 : Nat} {bf : ab_B} : decode (ab_code (zx σ n0 bf).1 1044) 21 = .ok (.iadd, 1) := zd zm_1044 (by decide +kernel)
theorem d_1044_22 {σ : Nat → Nat} {n0 : Nat} {bf : ab_B} : decode (ab_code (zx σ n0 bf).1 1044) 22 = .ok (.iaload, 1) := zd zm_1044 (by decide +kernel)
theorem d_1044_23 {σ : Nat → Nat} {n0 : Nat} {bf : ab_B} : decode (ab_code (zx σ n0 bf).1 1044) 23 = .ok (.istore 4, 2) := zd zm_1044 (by decide +kernel)
theorem d_1044_25 {σ : Nat → Nat} {n0 : Nat} {bf : ab_B} : decode (ab_code (zx σ n0 bf).1 1044) 25 = .ok (.iconst 0, 1) := zd zm_1044 (by decide +kernel)
theorem d_1044_26 {σ : Nat → Nat} {n0 : Nat} {bf : ab_B} : decode (ab_code (zx σ n0 bf).1 1044) 26 = .ok (.istore 5, 2) := zd zm_1044 (by decide +kernel)
theorem d_1044_28 {σ : Nat → Nat} {n0 : Nat} {bf : ab_B} : decode (ab_code (zx σ n0 bf).1 1044) 28 = .ok (.iconst 0, 1) := zd zm_1044 (by decide +kernel)
theorem d_1044_29 {σ : Nat → Nat} {n0 : Nat} {bf : ab_B} : decode (ab_code (zx σ n0 bf).1 1044) 29 = .ok (.istore 6, 2) := zd zm_1044 (by decide +kernel)
theorem d_1044_31 {σ : Nat → Nat} {n0 : Nat} {bf : ab_B} : decode (ab_code (zx σ n0 bf).1 1044) 31 = .ok (.iload 6, 2) := zd zm_1044 (by decide +kernel)
theorem d_1044_33 {σ : Nat → Nat} {n0 : Nat} {bf : ab_B} : decode (ab_code (zx σ n0 bf).1 1044) 33 = .ok (.iload 4, 2) := zd zm_1044 (by decide +kernel)
theorem d_1044_35 {σ : Nat → Nat} {n0 : Nat} {bf : ab_B} : decode (ab_code (zx σ n0 bf).1 1044) 35 = .ok (.if_icmp .ge 59, 3) := zd zm_1044 (by decide +kernel)
theorem d_1044_38 {σ : Nat → Nat} {n0 : Nat} {bf : ab_B} : decode (ab_code (zx σ n0 bf).1 1044) 38 = .ok (.iload 5, 2) := zd zm_1044 (by decide +kernel)
theorem d_1044_40 {σ : Nat → Nat} {n0 : Nat} {bf : ab_B} : decode (ab_code (zx σ n0 bf).1 1044) 40 = .ok (.lload_n 2, 1) := zd zm_1044 (by decide +kernel)
theorem d_1044_41 {σ : Nat → Nat} {n0 : Nat} {bf : ab_B} : decode (ab_code (zx σ n0 bf).1 1044) 41 = .ok (.aload_n 0, 1) := zd zm_1044 (by decide +kernel)
theorem d_1044_42 {σ : Nat → Nat} {n0 : Nat} {bf : ab_B} : decode (ab_code (zx σ n0 bf).1 1044) 42 = .ok (.getfield 107, 3) := zd zm_1044 (by decide +kernel)
theorem d_1044_45 {σ : Nat → Nat} {n0 : Nat} {bf : ab_B} : decode (ab_code (zx σ n0 bf).1 1044) 45 = .ok (.getfield 201, 3) := zd zm_1044 (by decide +kernel)
theorem d_1044_48 {σ : Nat → Nat} {n0 : Nat} {bf : ab_B} : decode (ab_code (zx σ n0 bf).1 1044) 48 = .ok (.iload_n 1, 1) := zd zm_1044 (by decide +kernel)
theorem d_1044_49 {σ : Nat → Nat} {n0 : Nat} {bf : ab_B} : decode (ab_code (zx σ n0 bf).1 1044) 49 = .ok (.iconst 3, 1) := zd zm_1044 (by decide +kernel)
theorem d_1044_50 {σ : Nat → Nat} {n0 : Nat} {bf : ab_B} : decode (ab_code (zx σ n0 bf).1 1044) 50 = .ok (.iadd, 1) := zd zm_1044 (by decide +kernel)
theorem d_1044_51 {σ : Nat → Nat} {n0 : Nat} {bf : ab_B} : decode (ab_code (zx σ n0 bf).1 1044) 51 = .ok (.iload 6, 2) := zd zm_1044 (by decide +kernel)
theorem d_1044_53 {σ : Nat → Nat} {n0 : Nat} {bf : ab_B} : decode (ab_code (zx σ n0 bf).1 1044) 53 = .ok (.iadd, 1) := zd zm_1044 (by decide +kernel)
theorem d_1044_54 {σ : Nat → Nat} {n0 : Nat} {bf : ab_B} : decode (ab_code (zx σ n0 bf).1 1044) 54 = .ok (.iaload, 1) := zd zm_1044 (by decide +kernel)
theorem d_1044_55 {σ : Nat → Nat} {n0 : Nat} {bf : ab_B} : decode (ab_code (zx σ n0 bf).1 1044) 55 = .ok (.i2l, 1) := zd zm_1044 (by decide +kernel)
theorem d_1044_56 {σ : Nat → Nat} {n0 : Nat} {bf : ab_B} : decode (ab_code (zx σ n0 bf).1 1044) 56 = .ok (.lcmp, 1) := zd zm_1044 (by decide +kernel)
theorem d_1044_57 {σ : Nat → Nat} {n0 : Nat} {bf : ab_B} : decode (ab_code (zx σ n0 bf).1 1044) 57 = .ok (.ifCond .lt 27, 3) := zd zm_1044 (by decide +kernel)
theorem d_1044_60 {σ : Nat → Nat} {n0 : Nat} {bf : ab_B} : decode (ab_code (zx σ n0 bf).1 1044) 60 = .ok (.lload_n 2, 1) := zd zm_1044 (by decide +kernel)
theorem d_1044_61 {σ : Nat → Nat} {n0 : Nat} {bf : ab_B} : decode (ab_code (zx σ n0 bf).1 1044) 61 = .ok (.aload_n 0, 1) := zd zm_1044 (by decide +kernel)
theorem d_1044_62 {σ : Nat → Nat} {n0 : Nat} {bf : ab_B} : decode (ab_code (zx σ n0 bf).1 1044) 62 = .ok (.getfield 107, 3) := zd zm_1044 (by decide +kernel)
theorem d_1044_65 {σ : Nat → Nat} {n0 : Nat} {bf : ab_B} : decode (ab_code (zx σ n0 bf).1 1044) 65 = .ok (.getfield 201, 3) := zd zm_1044 (by decide +kernel)
theorem d_1044_68 {σ : Nat → Nat} {n0 : Nat} {bf : ab_B} : decode (ab_code (zx σ n0 bf).1 1044) 68 = .ok (.iload_n 1, 1) := zd zm_1044 (by decide +kernel)
theorem d_1044_69 {σ : Nat → Nat} {n0 : Nat} {bf : ab_B} : decode (ab_code (zx σ n0 bf).1 1044) 69 = .ok (.iconst 4, 1) := zd zm_1044 (by decide +kernel)
theorem d_1044_70 {σ : Nat → Nat} {n0 : Nat} {bf : ab_B} : decode (ab_code (zx σ n0 bf).1 1044) 70 = .ok (.iadd, 1) := zd zm_1044 (by decide +kernel)
theorem d_1044_71 {σ : Nat → Nat} {n0 : Nat} {bf : ab_B} : decode (ab_code (zx σ n0 bf).1 1044) 71 = .ok (.iload 6, 2) := zd zm_1044 (by decide +kernel)
theorem d_1044_73 {σ : Nat → Nat} {n0 : Nat} {bf : ab_B} : decode (ab_code (zx σ n0 bf).1 1044) 73 = .ok (.iadd, 1) := zd zm_1044 (by decide +kernel)
theorem d_1044_74 {σ : Nat → Nat} {n0 : Nat} {bf : ab_B} : decode (ab_code (zx σ n0 bf).1 1044) 74 = .ok (.iaload, 1) := zd zm_1044 (by decide +kernel)
theorem d_1044_75 {σ : Nat → Nat} {n0 : Nat} {bf : ab_B} : decode (ab_code (zx σ n0 bf).1 1044) 75 = .ok (.i2l, 1) := zd zm_1044 (by decide +kernel)
theorem d_1044_76 {σ : Nat → Nat} {n0 : Nat} {bf : ab_B} : decode (ab_code (zx σ n0 bf).1 1044) 76 = .ok (.lcmp, 1) := zd zm_1044 (by decide +kernel)
theorem d_1044_77 {σ : Nat → Nat} {n0 : Nat} {bf : ab_B} : decode (ab_code (zx σ n0 bf).1 1044) 77 = .ok (.ifCond .gt 7, 3) := zd zm_1044 (by decide +kernel)
theorem d_1044_80 {σ : Nat → Nat} {n0 : Nat} {bf : ab_B} : decode (ab_code (zx σ n0 bf).1 1044) 80 = .ok (.iconst 1, 1) := zd zm_1044 (by decide +kernel)
theorem d_1044_81 {σ : Nat → Nat} {n0 : Nat} {bf : ab_B} : decode (ab_code (zx σ n0 bf).1 1044) 81 = .ok (.goto 4, 3) := zd zm_1044 (by decide +kernel)
theorem d_1044_84 {σ : Nat → Nat} {n0 : Nat} {bf : ab_B} : decode (ab_code (zx σ n0 bf).1 1044) 84 = .ok (.iconst 0, 1) := zd zm_1044 (by decide +kernel)
theorem d_1044_85 {σ : Nat → Nat} {n0 : Nat} {bf : ab_B} : decode (ab_code (zx σ n0 bf).1 1044) 85 = .ok (.ior, 1) := zd zm_1044 (by decide +kernel)
theorem d_1044_86 {σ : Nat → Nat} {n0 : Nat} {bf : ab_B} : decode (ab_code (zx σ n0 bf).1 1044) 86 = .ok (.istore 5, 2) := zd zm_1044 (by decide +kernel)
theorem d_1044_88 {σ : Nat → Nat} {n0 : Nat} {bf : ab_B} : decode (ab_code (zx σ n0 bf).1 1044) 88 = .ok (.iinc 6 2, 3) := zd zm_1044 (by decide +kernel)
theorem d_1044_91 {σ : Nat → Nat} {n0 : Nat} {bf : ab_B} : decode (ab_code (zx σ n0 bf).1 1044) 91 = .ok (.goto (-60), 3) := zd zm_1044 (by decide +kernel)
theorem d_1044_94 {σ : Nat → Nat} {n0 : Nat} {bf : ab_B} : decode (ab_code (zx σ n0 bf).1 1044) 94 = .ok (.iload 5, 2) := zd zm_1044 (by decide +kernel)
theorem d_1044_96 {σ : Nat → Nat} {n0 : Nat} {bf : ab_B} : decode (ab_code (zx σ n0 bf).1 1044) 96 = .ok (.ifCond .eq 16, 3) := zd zm_1044 (by decide +kernel)
theorem d_1044_99 {σ : Nat → Nat} {n0 : Nat} {bf : ab_B} : decode (ab_code (zx σ n0 bf).1 1044) 99 = .ok (.aload_n 0, 1) := zd zm_1044 (by decide +kernel)
theorem d_1044_100 {σ : Nat → Nat} {n0 : Nat} {bf : ab_B} : decode (ab_code (zx σ n0 bf).1 1044) 100 = .ok (.dup, 1) := zd zm_1044 (by decide +kernel)
theorem d_1044_101 {σ : Nat → Nat} {n0 : Nat} {bf : ab_B} : decode (ab_code (zx σ n0 bf).1 1044) 101 = .ok (.getfield 111, 3) := zd zm_1044 (by decide +kernel)
theorem d_1044_104 {σ : Nat → Nat} {n0 : Nat} {bf : ab_B} : decode (ab_code (zx σ n0 bf).1 1044) 104 = .ok (.iconst 1, 1) := zd zm_1044 (by decide +kernel)
theorem d_1044_105 {σ : Nat → Nat} {n0 : Nat} {bf : ab_B} : decode (ab_code (zx σ n0 bf).1 1044) 105 = .ok (.isub, 1) := zd zm_1044 (by decide +kernel)
theorem d_1044_106 {σ : Nat → Nat} {n0 : Nat} {bf : ab_B} : decode (ab_code (zx σ n0 bf).1 1044) 106 = .ok (.putfield 111, 3) := zd zm_1044 (by decide +kernel)
theorem d_1044_109 {σ : Nat → Nat} {n0 : Nat} {bf : ab_B} : decode (ab_code (zx σ n0 bf).1 1044) 109 = .ok (.goto 21, 3) := zd zm_1044 (by decide +kernel)
theorem d_1044_112 {σ : Nat → Nat} {n0 : Nat} {bf : ab_B} : decode (ab_code (zx σ n0 bf).1 1044) 112 = .ok (.aload_n 0, 1) := zd zm_1044 (by decide +kernel)
theorem d_1044_113 {σ : Nat → Nat} {n0 : Nat} {bf : ab_B} : decode (ab_code (zx σ n0 bf).1 1044) 113 = .ok (.aload_n 0, 1) := zd zm_1044 (by decide +kernel)
theorem d_1044_114 {σ : Nat → Nat} {n0 : Nat} {bf : ab_B} : decode (ab_code (zx σ n0 bf).1 1044) 114 = .ok (.getfield 107, 3) := zd zm_1044 (by decide +kernel)
theorem d_1044_117 {σ : Nat → Nat} {n0 : Nat} {bf : ab_B} : decode (ab_code (zx σ n0 bf).1 1044) 117 = .ok (.getfield 201, 3) := zd zm_1044 (by decide +kernel)
theorem d_1044_120 {σ : Nat → Nat} {n0 : Nat} {bf : ab_B} : decode (ab_code (zx σ n0 bf).1 1044) 120 = .ok (.iload_n 1, 1) := zd zm_1044 (by decide +kernel)
theorem d_1044_121 {σ : Nat → Nat} {n0 : Nat} {bf : ab_B} : decode (ab_code (zx σ n0 bf).1 1044) 121 = .ok (.iconst 3, 1) := zd zm_1044 (by decide +kernel)
theorem d_1044_122 {σ : Nat → Nat} {n0 : Nat} {bf : ab_B} : decode (ab_code (zx σ n0 bf).1 1044) 122 = .ok (.iadd, 1) := zd zm_1044 (by decide +kernel)
theorem d_1044_123 {σ : Nat → Nat} {n0 : Nat} {bf : ab_B} : decode (ab_code (zx σ n0 bf).1 1044) 123 = .ok (.iload 4, 2) := zd zm_1044 (by decide +kernel)
theorem d_1044_125 {σ : Nat → Nat} {n0 : Nat} {bf : ab_B} : decode (ab_code (zx σ n0 bf).1 1044) 125 = .ok (.iadd, 1) := zd zm_1044 (by decide +kernel)
theorem d_1044_126 {σ : Nat → Nat} {n0 : Nat} {bf : ab_B} : decode (ab_code (zx σ n0 bf).1 1044) 126 = .ok (.iaload, 1) := zd zm_1044 (by decide +kernel)
theorem d_1044_127 {σ : Nat → Nat} {n0 : Nat} {bf : ab_B} : decode (ab_code (zx σ n0 bf).1 1044) 127 = .ok (.putfield 175, 3) := zd zm_1044 (by decide +kernel)
theorem d_1044_130 {σ : Nat → Nat} {n0 : Nat} {bf : ab_B} : decode (ab_code (zx σ n0 bf).1 1044) 130 = .ok (.return_, 1) := zd zm_1044 (by decide +kernel)
def w_X2_cases_25 (X : zs_X) (d : Nat) (p0 : Nat) (p1 : Int32) (p2 : Int64) (p4 : Int32) (S : zs_T) (Q : zs_Q) : Prop :=
  (zs_U X d 1044 31 [(0, .ref p0), (1, .int p1), (2, .long p2), (4, .int p4), (5, .int (0 : Int32)), (6, .int (0 : Int32))] [] S Q)
theorem u_X2_cases_25 {σ : Nat → Nat} {n0 : Nat} {bf : ab_B} {d : Nat} {p0 : Nat} {p1 : Int32} {p2 : Int64} {p4 : Int32} {S : zs_T} {Q : zs_Q} (hB : zt_B bf) (h : w_X2_cases_25 (zx σ n0 bf) d p0 p1 p2 p4 S Q) : zs_U (zx σ n0 bf) d 1044 25 [(0, .ref p0), (1, .int p1), (2, .long p2), (4, .int p4)] [] S Q := by
  unfold w_X2_cases_25 at h
  refine zu_iconst d_1044_25 zi_0 ?_
  refine zu_istore d_1044_26 (zs_lt zq_1044 rfl) ?_
  refine zu_iconst d_1044_28 zi_0 ?_
  refine zu_istore d_1044_29 (zs_lt zq_1044 rfl) ?_
  exact h.weak ⟨rfl, rfl, rfl, rfl, rfl, rfl, trivial⟩
def w_X2_cases_130 (X : zs_X) (d : Nat)  (S : zs_T) (Q : zs_Q) : Prop :=
  (Q (.returned none) S)
theorem u_X2_cases_130 {σ : Nat → Nat} {n0 : Nat} {bf : ab_B} {d : Nat}  {S : zs_T} {Q : zs_Q} (hB : zt_B bf) (h : w_X2_cases_130 (zx σ n0 bf) d  S Q) : zs_U (zx σ n0 bf) d 1044 130 [] [] S Q := by
  unfold w_X2_cases_130 at h
  exact zu_vret d_1044_130 zr_1044 h
def w_X2_cases_85 (X : zs_X) (d : Nat) (p0 : Nat) (p1 : Int32) (p2 : Int64) (p4 : Int32) (p6 : Int32) (q0 : Int32) (q1 : Int32) (S : zs_T) (Q : zs_Q) : Prop :=
  (zs_U X d 1044 31 [(0, .ref p0), (1, .int p1), (2, .long p2), (4, .int p4), (5, .int (q0 ||| q1)), (6, .int (p6 + (2 : Int32)))] [] S Q)
theorem u_X2_cases_85 {σ : Nat → Nat} {n0 : Nat} {bf : ab_B} {d : Nat} {p0 : Nat} {p1 : Int32} {p2 : Int64} {p4 : Int32} {p6 : Int32} {q0 : Int32} {q1 : Int32} {S : zs_T} {Q : zs_Q} (hB : zt_B bf) (h : w_X2_cases_85 (zx σ n0 bf) d p0 p1 p2 p4 p6 q0 q1 S Q) : zs_U (zx σ n0 bf) d 1044 85 [(0, .ref p0), (1, .int p1), (2, .long p2), (4, .int p4), (6, .int p6)] [.int q1, .int q0] S Q := by
  unfold w_X2_cases_85 at h
  refine zu_stk d_1044_85 rfl rfl ?_
  refine zu_istore d_1044_86 (zs_lt zq_1044 rfl) ?_
  refine zu_iinc d_1044_88 rfl zi_2 (zs_lt zq_1044 rfl) ?_
  refine zu_goto (t := 31) d_1044_91 rfl ?_
  exact h.weak ⟨rfl, rfl, rfl, rfl, rfl, rfl, trivial⟩
def w_X2_cases_84 (X : zs_X) (d : Nat) (p0 : Nat) (p1 : Int32) (p2 : Int64) (p4 : Int32) (p6 : Int32) (q0 : Int32) (S : zs_T) (Q : zs_Q) : Prop :=
  (w_X2_cases_85 X d p0 p1 p2 p4 p6 q0 (0 : Int32) S Q)
theorem u_X2_cases_84 {σ : Nat → Nat} {n0 : Nat} {bf : ab_B} {d : Nat} {p0 : Nat} {p1 : Int32} {p2 : Int64} {p4 : Int32} {p6 : Int32} {q0 : Int32} {S : zs_T} {Q : zs_Q} (hB : zt_B bf) (h : w_X2_cases_84 (zx σ n0 bf) d p0 p1 p2 p4 p6 q0 S Q) : zs_U (zx σ n0 bf) d 1044 84 [(0, .ref p0), (1, .int p1), (2, .long p2), (4, .int p4), (6, .int p6)] [.int q0] S Q := by
  unfold w_X2_cases_84 at h
  refine zu_iconst d_1044_84 zi_0 ?_
  exact (u_X2_cases_85 hB h).weak ⟨rfl, rfl, rfl, rfl, rfl, trivial⟩
def w_X2_cases_80 (X : zs_X) (d : Nat) (p0 : Nat) (p1 : Int32) (p2 : Int64) (p4 : Int32) (p6 : Int32) (q0 : Int32) (S : zs_T) (Q : zs_Q) : Prop :=
  (w_X2_cases_85 X d p0 p1 p2 p4 p6 q0 (1 : Int32) S Q)
theorem u_X2_cases_80 {σ : Nat → Nat} {n0 : Nat} {bf : ab_B} {d : Nat} {p0 : Nat} {p1 : Int32} {p2 : Int64} {p4 : Int32} {p6 : Int32} {q0 : Int32} {S : zs_T} {Q : zs_Q} (hB : zt_B bf) (h : w_X2_cases_80 (zx σ n0 bf) d p0 p1 p2 p4 p6 q0 S Q) : zs_U (zx σ n0 bf) d 1044 80 [(0, .ref p0), (1, .int p1), (2, .long p2), (4, .int p4), (6, .int p6)] [.int q0] S Q := by
  unfold w_X2_cases_80 at h
  refine zu_iconst d_1044_80 zi_1 ?_
  refine zu_goto (t := 85) d_1044_81 rfl ?_
  exact (u_X2_cases_85 hB h).weak ⟨rfl, rfl, rfl, rfl, rfl, trivial⟩
def w_X2_cases_31 (X : zs_X) (d : Nat) (p0 : Nat) (p1 : Int32) (p2 : Int64) (p4 : Int32) (p5 : Int32) (p6 : Int32) (S : zs_T) (Q : zs_Q) : Prop :=
  (((p4 ≤ p6 → (((p5 = 0 → (zs_K S p0 = some (.inl 1) ∧ ∃ b4, (zs_R S 1000 p0) = some b4 ∧ zs_K S b4 = some (.inl 3) ∧ ∃ b7, (zs_R S 3000 b4) = some b7 ∧ zs_A S b7 0 ((p1 + (3 : Int32)) + p4) ∧ ab_n0 X.1 ≤ p0 ∧ ∀ S11, S11 = zs_sI S 1033 p0 (zs_i S b7 ((p1 + (3 : Int32)) + p4).toNatClampNeg) → w_X2_cases_130 X d  S11 Q)) ∧ (¬ (p5 = 0) → (zs_K S p0 = some (.inl 1) ∧ ab_n0 X.1 ≤ p0 ∧ ∀ S16, S16 = zs_sI S 1007 p0 ((zs_I S 1007 p0) - (1 : Int32)) → w_X2_cases_130 X d  S16 Q))))) ∧ (¬ (p4 ≤ p6) → (zs_K S p0 = some (.inl 1) ∧ ∃ b20, (zs_R S 1000 p0) = some b20 ∧ zs_K S b20 = some (.inl 3) ∧ ∃ b23, (zs_R S 3000 b20) = some b23 ∧ zs_A S b23 0 ((p1 + (3 : Int32)) + p6) ∧ ((p2 < (((zs_i S b23 ((p1 + (3 : Int32)) + p6).toNatClampNeg)).toInt64) → w_X2_cases_84 X d p0 p1 p2 p4 p6 p5 S Q) ∧ (¬ (p2 < (((zs_i S b23 ((p1 + (3 : Int32)) + p6).toNatClampNeg)).toInt64)) → (zs_A S b23 0 ((p1 + (4 : Int32)) + p6) ∧ (((((zs_i S b23 ((p1 + (4 : Int32)) + p6).toNatClampNeg)).toInt64) < p2 → w_X2_cases_84 X d p0 p1 p2 p4 p6 p5 S Q) ∧ (¬ ((((zs_i S b23 ((p1 + (4 : Int32)) + p6).toNatClampNeg)).toInt64) < p2) → w_X2_cases_80 X d p0 p1 p2 p4 p6 p5 S Q)))))))))
theorem u_X2_cases_31 {σ : Nat → Nat} {n0 : Nat} {bf : ab_B} {d : Nat} {p0 : Nat} {p1 : Int32} {p2 : Int64} {p4 : Int32} {p5 : Int32} {p6 : Int32} {S : zs_T} {Q : zs_Q} (hB : zt_B bf) (h : w_X2_cases_31 (zx σ n0 bf) d p0 p1 p2 p4 p5 p6 S Q) : zs_U (zx σ n0 bf) d 1044 31 [(0, .ref p0), (1, .int p1), (2, .long p2), (4, .int p4), (5, .int p5), (6, .int p6)] [] S Q := by
  unfold w_X2_cases_31 at h
  refine zu_iload d_1044_31 rfl ?_
  refine zu_iload d_1044_33 rfl ?_
  refine zu_cmpge (t := 94) d_1044_35 rfl (fun c1 => ?_) (fun c1 => ?_)
  · have h := h.1 c1
    refine zu_iload d_1044_94 rfl ?_
    refine zu_ifeq (t := 112) d_1044_96 rfl (fun c2 => ?_) (fun c2 => ?_)
    · have h := h.1 c2
      refine zu_aload_n d_1044_112 rfl (zs_ra _) ?_
      refine zu_aload_n d_1044_113 rfl (zs_ra _) ?_
      obtain ⟨k3, h⟩ := h
      refine zg_1_107 rfl d_1044_114 k3 ?_
      obtain ⟨b4, e5, h⟩ := h
      refine zs_stk0 (zs_rfe e5) ?_
      obtain ⟨k6, h⟩ := h
      refine zg_1_201 rfl d_1044_117 k6 ?_
      refine zu_iload_n d_1044_120 rfl ?_
      refine zu_iconst d_1044_121 zi_3 ?_
      refine zu_stk d_1044_122 rfl rfl ?_
      refine zu_iload d_1044_123 rfl ?_
      refine zu_stk d_1044_125 rfl rfl ?_
      obtain ⟨b7, e8, h⟩ := h
      refine zs_stk1 (zs_rfe e8) ?_
      obtain ⟨k9, h⟩ := h
      refine zu_iald (k := 0) d_1044_126 rfl rfl k9 ?_
      obtain ⟨k10, h⟩ := h
      refine zp_1_175 (v := (zs_i S b7 ((p1 + (3 : Int32)) + p4).toNatClampNeg)) rfl d_1044_127 k3 k10 ?_
      generalize e12 : zs_sI S 1033 p0 (zs_i S b7 ((p1 + (3 : Int32)) + p4).toNatClampNeg) = S11
      have h := h S11 e12.symm
      have K13 : ∀ b, zs_K S11 b = zs_K S b := zs_Kt e12 (zs_KsI _ _ _ _) (fun _ => rfl)
      exact (u_X2_cases_130 hB h).weak trivial
    · have h := h.2 c2
      refine zu_aload_n d_1044_99 rfl (zs_ra _) ?_
      refine zu_dup d_1044_100 rfl ?_
      obtain ⟨k14, h⟩ := h
      refine zg_1_111 rfl d_1044_101 k14 ?_
      refine zu_iconst d_1044_104 zi_1 ?_
      refine zu_stk d_1044_105 rfl rfl ?_
      obtain ⟨k15, h⟩ := h
      refine zp_1_111 (v := ((zs_I S 1007 p0) - (1 : Int32))) rfl d_1044_106 k14 k15 ?_
      generalize e17 : zs_sI S 1007 p0 ((zs_I S 1007 p0) - (1 : Int32)) = S16
      have h := h S16 e17.symm
      have K18 : ∀ b, zs_K S16 b = zs_K S b := zs_Kt e17 (zs_KsI _ _ _ _) (fun _ => rfl)
      refine zu_goto (t := 130) d_1044_109 rfl ?_
      exact (u_X2_cases_130 hB h).weak trivial
  · have h := h.2 c1
    refine zu_iload d_1044_38 rfl ?_
    refine zu_lload_n d_1044_40 rfl ?_
    refine zu_aload_n d_1044_41 rfl (zs_ra _) ?_
    obtain ⟨k19, h⟩ := h
    refine zg_1_107 rfl d_1044_42 k19 ?_
    obtain ⟨b20, e21, h⟩ := h
    refine zs_stk0 (zs_rfe e21) ?_
    obtain ⟨k22, h⟩ := h
    refine zg_1_201 rfl d_1044_45 k22 ?_
    refine zu_iload_n d_1044_48 rfl ?_
    refine zu_iconst d_1044_49 zi_3 ?_
    refine zu_stk d_1044_50 rfl rfl ?_
    refine zu_iload d_1044_51 rfl ?_
    refine zu_stk d_1044_53 rfl rfl ?_
    obtain ⟨b23, e24, h⟩ := h
    refine zs_stk1 (zs_rfe e24) ?_
    obtain ⟨k25, h⟩ := h
    refine zu_iald (k := 0) d_1044_54 rfl rfl k25 ?_
    refine zu_stk d_1044_55 rfl rfl ?_
    refine zu_llt (t := 84) d_1044_56 d_1044_57 rfl (fun c26 => ?_) (fun c26 => ?_)
    · have h := h.1 c26
      exact (u_X2_cases_84 hB h).weak ⟨rfl, rfl, rfl, rfl, rfl, trivial⟩
    · have h := h.2 c26
      refine zu_lload_n d_1044_60 rfl ?_
      refine zu_aload_n d_1044_61 rfl (zs_ra _) ?_
      refine zg_1_107 rfl d_1044_62 k19 ?_
      refine zs_stk0 (zs_rfe e21) ?_
      refine zg_1_201 rfl d_1044_65 k22 ?_
      refine zu_iload_n d_1044_68 rfl ?_
      refine zu_iconst d_1044_69 zi_4 ?_
      refine zu_stk d_1044_70 rfl rfl ?_
      refine zu_iload d_1044_71 rfl ?_
      refine zu_stk d_1044_73 rfl rfl ?_
      refine zs_stk1 (zs_rfe e24) ?_
      obtain ⟨k27, h⟩ := h
      refine zu_iald (k := 0) d_1044_74 rfl rfl k27 ?_
      refine zu_stk d_1044_75 rfl rfl ?_
      refine zu_lgt (t := 84) d_1044_76 d_1044_77 rfl (fun c28 => ?_) (fun c28 => ?_)
      · have h := h.1 c28
        exact (u_X2_cases_84 hB h).weak ⟨rfl, rfl, rfl, rfl, rfl, trivial⟩
      · have h := h.2 c28
        exact (u_X2_cases_80 hB h).weak ⟨rfl, rfl, rfl, rfl, rfl, trivial⟩
def w_X2_cases (X : zs_X) (d : Nat) (p0 : Nat) (p1 : Int32) (S : zs_T) (Q : zs_Q) : Prop :=
  (zs_K S p0 = some (.inl 1) ∧ ∃ b2, (zs_R S 1005 p0) = some b2 ∧ zs_A S b2 3 ((zs_I S 1007 p0) - (1 : Int32)) ∧ ∃ b5, (zs_R S 1000 p0) = some b5 ∧ zs_K S b5 = some (.inl 3) ∧ ∃ b8, (zs_R S 3000 b5) = some b8 ∧ zs_A S b8 0 (p1 + (2 : Int32)) ∧ w_X2_cases_25 X d p0 p1 (zs_j S b2 ((zs_I S 1007 p0) - (1 : Int32)).toNatClampNeg) (zs_i S b8 (p1 + (2 : Int32)).toNatClampNeg) S Q)
theorem u_X2_cases {σ : Nat → Nat} {n0 : Nat} {bf : ab_B} {d : Nat} {p0 : Nat} {p1 : Int32} {S : zs_T} {Q : zs_Q} (hB : zt_B bf) (hd : 1 ≤ d) (h : w_X2_cases (zx σ n0 bf) (d - 1) p0 p1 S Q) : zs_C (zx σ n0 bf) d 1044 [.ref p0, .int p1] S Q := by
  have hL : lv_args 0 [.ref p0, .int p1] = [(0, .ref p0), (1, .int p1)] := rfl
  refine zs_C.of1 (hB.2 1044 (by decide) (by decide)) hd (by rw [hL]; exact zs_sub_self _ (by exact ⟨rfl, rfl, trivial⟩)) ?_
  rw [hL]
  clear hL
  unfold w_X2_cases at h
  refine zu_aload_n d_1044_0 rfl (zs_ra _) ?_
  obtain ⟨k1, h⟩ := h
  refine zg_1_36 rfl d_1044_1 k1 ?_
  refine zu_aload_n d_1044_4 rfl (zs_ra _) ?_
  refine zg_1_111 rfl d_1044_5 k1 ?_
  refine zu_iconst d_1044_8 zi_1 ?_
  refine zu_stk d_1044_9 rfl rfl ?_
  obtain ⟨b2, e3, h⟩ := h
  refine zs_stk1 (zs_rfe e3) ?_
  obtain ⟨k4, h⟩ := h
  refine zu_lald (k := 3) d_1044_10 rfl rfl k4 ?_
  refine zu_lstore_n d_1044_11 (zs_lt zq_1044 rfl) ?_
  refine zu_aload_n d_1044_12 rfl (zs_ra _) ?_
  refine zg_1_107 rfl d_1044_13 k1 ?_
  obtain ⟨b5, e6, h⟩ := h
  refine zs_stk0 (zs_rfe e6) ?_
  obtain ⟨k7, h⟩ := h
  refine zg_1_201 rfl d_1044_16 k7 ?_
  refine zu_iload_n d_1044_19 rfl ?_
  refine zu_iconst d_1044_20 zi_2 ?_
  refine zu_stk d_1044_21 rfl rfl ?_
  obtain ⟨b8, e9, h⟩ := h
  refine zs_stk1 (zs_rfe e9) ?_
  obtain ⟨k10, h⟩ := h
  refine zu_iald (k := 0) d_1044_22 rfl rfl k10 ?_
  refine zu_istore d_1044_23 (zs_lt zq_1044 rfl) ?_
  exact (u_X2_cases_25 hB h).weak ⟨rfl, rfl, rfl, rfl, trivial⟩
