/-! printed by gen_all.py: what the methods compute -/
set_option maxRecDepth 100000
/-! SchemaPascalModel.knownArgument(II)V -/
theorem zm_8085 {σ : Nat → Nat} {n0 : Nat} {bf : ab_B} : ab_code (zx σ n0 bf).1 8085 = prog_17_method_91_code := rfl
theorem zq_8085 {σ : Nat → Nat} {n0 : Nat} {bf : ab_B} : ab_maxL (zx σ n0 bf).1 8085 = 7 := rfl
theorem zr_8085 {σ : Nat → Nat} {n0 : Nat} {bf : ab_B} : ab_ret (zx σ n0 bf).1 8085 = (Option.none : Option Jvm.ClassFile.FieldType) := rfl
theorem d_8085_0 {σ : Nat → Nat} {n0 : Nat} {bf : ab_B} : decode (ab_code (zx σ n0 bf).1 8085) 0 = .ok (.aload_n 0, 1) := zd zm_8085 (by decide +kernel)
theorem d_8085_1 {σ : Nat → Nat} {n0 : Nat} {bf : ab_B} : decode (ab_code (zx σ n0 bf).1 8085) 1 = .ok (.invokevirtual 660, 3) := zd zm_8085 (by decide +kernel)
theorem d_8085_4 {σ : Nat → Nat} {n0 : Nat} {bf : ab_B} : decode (ab_code (zx σ n0 bf).1 8085) 4 = .ok (.aload_n 0, 1) := zd zm_8085 (by decide +kernel)
theorem d_8085_5 {σ : Nat → Nat} {n0 : Nat} {bf : ab_B} : decode (ab_code (zx σ n0 bf).1 8085) 5 = .ok (.getfield 444, 3) := zd zm_8085 (by decide +kernel)
theorem d_8085_8 {σ : Nat → Nat} {n0 : Nat} {bf : ab_B} : decode (ab_code (zx σ n0 bf).1 8085) 8 = .ok (.ifCond .le 4, 3) := zd zm_8085 (by decide +kernel)
theorem d_8085_11 {σ : Nat → Nat} {n0 : Nat} {bf : ab_B} : decode (ab_code (zx σ n0 bf).1 8085) 11 = .ok (.return_, 1) := zd zm_8085 (by decide +kernel)
theorem d_8085_12 {σ : Nat → Nat} {n0 : Nat} {bf : ab_B} : decode (ab_code (zx σ n0 bf).1 8085) 12 = .ok (.aload_n 0, 1) := zd zm_8085 (by decide +kernel)
theorem d_8085_13 {σ : Nat → Nat} {n0 : Nat} {bf : ab_B} : decode (ab_code (zx σ n0 bf).1 8085) 13 = .ok (.getfield 191, 3) := zd zm_8085 (by decide +kernel)
theorem d_8085_16 {σ : Nat → Nat} {n0 : Nat} {bf : ab_B} : decode (ab_code (zx σ n0 bf).1 8085) 16 = .ok (.aload_n 0, 1) := zd zm_8085 (by decide +kernel)
theorem d_8085_17 {σ : Nat → Nat} {n0 : Nat} {bf : ab_B} : decode (ab_code (zx σ n0 bf).1 8085) 17 = .ok (.getfield 653, 3) := zd zm_8085 (by decide +kernel)
theorem d_8085_20 {σ : Nat → Nat} {n0 : Nat} {bf : ab_B} : decode (ab_code (zx σ n0 bf).1 8085) 20 = .ok (.iconst 1, 1) := zd zm_8085 (by decide +kernel)
theorem d_8085_21 {σ : Nat → Nat} {n0 : Nat} {bf : ab_B} : decode (ab_code (zx σ n0 bf).1 8085) 21 = .ok (.isub, 1) := zd zm_8085 (by decide +kernel)
theorem d_8085_22 {σ : Nat → Nat} {n0 : Nat} {bf : ab_B} : decode (ab_code (zx σ n0 bf).1 8085) 22 = .ok (.iaload, 1) := zd zm_8085 (by decide +kernel)
theorem d_8085_23 {σ : Nat → Nat} {n0 : Nat} {bf : ab_B} : decode (ab_code (zx σ n0 bf).1 8085) 23 = .ok (.istore_n 3, 1) := zd zm_8085 (by decide +kernel)
theorem d_8085_24 {σ : Nat → Nat} {n0 : Nat} {bf : ab_B} : decode (ab_code (zx σ n0 bf).1 8085) 24 = .ok (.iload_n 1, 1) := zd zm_8085 (by decide +kernel)
theorem d_8085_25 {σ : Nat → Nat} {n0 : Nat} {bf : ab_B} : decode (ab_code (zx σ n0 bf).1 8085) 25 = .ok (.bipush 14, 2) := zd zm_8085 (by decide +kernel)
theorem d_8085_27 {σ : Nat → Nat} {n0 : Nat} {bf : ab_B} : decode (ab_code (zx σ n0 bf).1 8085) 27 = .ok (.if_icmp .eq 19, 3) := zd zm_8085 (by decide +kernel)
theorem d_8085_30 {σ : Nat → Nat} {n0 : Nat} {bf : ab_B} : decode (ab_code (zx σ n0 bf).1 8085) 30 = .ok (.iload_n 1, 1) := zd zm_8085 (by decide +kernel)
theorem d_8085_31 {σ : Nat → Nat} {n0 : Nat} {bf : ab_B} : decode (ab_code (zx σ n0 bf).1 8085) 31 = .ok (.bipush 16, 2) := zd zm_8085 (by decide +kernel)
theorem d_8085_33 {σ : Nat → Nat} {n0 : Nat} {bf : ab_B} : decode (ab_code (zx σ n0 bf).1 8085) 33 = .ok (.if_icmp .eq 13, 3) := zd zm_8085 (by decide +kernel)
theorem d_8085_36 {σ : Nat → Nat} {n0 : Nat} {bf : ab_B} : decode (ab_code (zx σ n0 bf).1 8085) 36 = .ok (.iload_n 1, 1) := zd zm_8085 (by decide +kernel)
theorem d_8085_37 {σ : Nat → Nat} {n0 : Nat} {bf : ab_B} : decode (ab_code (zx σ n0 bf).1 8085) 37 = .ok (.bipush 17, 2) := zd zm_8085 (by decide +kernel)
theorem d_8085_39 {σ : Nat → Nat} {n0 : Nat} {bf : ab_B} : decode (ab_code (zx σ n0 bf).1 8085) 39 = .ok (.if_icmp .ne 11, 3) := zd zm_8085 (by decide +kernel)
theorem d_8085_42 {σ : Nat → Nat} {n0 : Nat} {bf : ab_B} : decode (ab_code (zx σ n0 bf).1 8085) 42 = .ok (.iload_n 2, 1) := zd zm_8085 (by decide +kernel)
theorem d_8085_43 {σ : Nat → Nat} {n0 : Nat} {bf : ab_B} : decode (ab_code (zx σ n0 bf).1 8085) 43 = .ok (.ifCond .ne 7, 3) := zd zm_8085 (by decide +kernel)
theorem d_8085_46 {σ : Nat → Nat} {n0 : Nat} {bf : ab_B} : decode (ab_code (zx σ n0 bf).1 8085) 46 = .ok (.iconst 1, 1) := zd zm_8085 (by decide +kernel)
theorem d_8085_47 {σ : Nat → Nat} {n0 : Nat} {bf : ab_B} : decode (ab_code (zx σ n0 bf).1 8085) 47 = .ok (.goto 4, 3) := zd zm_8085 (by decide +kernel)
theorem d_8085_50 {σ : Nat → Nat} {n0 : Nat} {bf : ab_B} : decode (ab_code (zx σ n0 bf).1 8085) 50 = .ok (.iconst 0, 1) := zd zm_8085 (by decide +kernel)
theorem d_8085_51 {σ : Nat → Nat} {n0 : Nat} {bf : ab_B} : decode (ab_code (zx σ n0 bf).1 8085) 51 = .ok (.istore 4, 2) := zd zm_8085 (by decide +kernel)
theorem d_8085_53 {σ : Nat → Nat} {n0 : Nat} {bf : ab_B} : decode (ab_code (zx σ n0 bf).1 8085) 53 = .ok (.iload 4, 2) := zd zm_8085 (by decide +kernel)
theorem d_8085_55 {σ : Nat → Nat} {n0 : Nat} {bf : ab_B} : decode (ab_code (zx σ n0 bf).1 8085) 55 = .ok (.ifCond .eq 11, 3) := zd zm_8085 (by decide +kernel)
theorem d_8085_58 {σ : Nat → Nat} {n0 : Nat} {bf : ab_B} : decode (ab_code (zx σ n0 bf).1 8085) 58 = .ok (.aload_n 0, 1) := zd zm_8085 (by decide +kernel)
theorem d_8085_59 {σ : Nat → Nat} {n0 : Nat} {bf : ab_B} : decode (ab_code (zx σ n0 bf).1 8085) 59 = .ok (.iload_n 3, 1) := zd zm_8085 (by decide +kernel)
theorem d_8085_60 {σ : Nat → Nat} {n0 : Nat} {bf : ab_B} : decode (ab_code (zx σ n0 bf).1 8085) 60 = .ok (.invokevirtual 673, 3) := zd zm_8085 (by decide +kernel)
theorem d_8085_63 {σ : Nat → Nat} {n0 : Nat} {bf : ab_B} : decode (ab_code (zx σ n0 bf).1 8085) 63 = .ok (.goto 48, 3) := zd zm_8085 (by decide +kernel)
theorem d_8085_66 {σ : Nat → Nat} {n0 : Nat} {bf : ab_B} : decode (ab_code (zx σ n0 bf).1 8085) 66 = .ok (.iload_n 1, 1) := zd zm_8085 (by decide +kernel)
theorem d_8085_67 {σ : Nat → Nat} {n0 : Nat} {bf : ab_B} : decode (ab_code (zx σ n0 bf).1 8085) 67 = .ok (.bipush 15, 2) := zd zm_8085 (by decide +kernel)
theorem d_8085_69 {σ : Nat → Nat} {n0 : Nat} {bf : ab_B} : decode (ab_code (zx σ n0 bf).1 8085) 69 = .ok (.if_icmp .ne 11, 3) := zd zm_8085 (by decide +kernel)
theorem d_8085_72 {σ : Nat → Nat} {n0 : Nat} {bf : ab_B} : decode (ab_code (zx σ n0 bf).1 8085) 72 = .ok (.aload_n 0, 1) := zd zm_8085 (by decide +kernel)
theorem d_8085_73 {σ : Nat → Nat} {n0 : Nat} {bf : ab_B} : decode (ab_code (zx σ n0 bf).1 8085) 73 = .ok (.iload_n 3, 1) := zd zm_8085 (by decide +kernel)
theorem d_8085_74 {σ : Nat → Nat} {n0 : Nat} {bf : ab_B} : decode (ab_code (zx σ n0 bf).1 8085) 74 = .ok (.invokevirtual 567, 3) := zd zm_8085 (by decide +kernel)
theorem d_8085_77 {σ : Nat → Nat} {n0 : Nat} {bf : ab_B} : decode (ab_code (zx σ n0 bf).1 8085) 77 = .ok (.goto 34, 3) := zd zm_8085 (by decide +kernel)
theorem d_8085_80 {σ : Nat → Nat} {n0 : Nat} {bf : ab_B} : decode (ab_code (zx σ n0 bf).1 8085) 80 = .ok (.iload_n 1, 1) := zd zm_8085 (by decide +kernel)
theorem d_8085_81 {σ : Nat → Nat} {n0 : Nat} {bf : ab_B} : decode (ab_code (zx σ n0 bf).1 8085) 81 = .ok (.bipush 10, 2) := zd zm_8085 (by decide +kernel)
theorem d_8085_83 {σ : Nat → Nat} {n0 : Nat} {bf : ab_B} : decode (ab_code (zx σ n0 bf).1 8085) 83 = .ok (.if_icmp .eq 15, 3) := zd zm_8085 (by decide +kernel)
theorem d_8085_86 {σ : Nat → Nat} {n0 : Nat} {bf : ab_B} : decode (ab_code (zx σ n0 bf).1 8085) 86 = .ok (.iload_n 1, 1) := zd zm_8085 (by decide +kernel)
theorem d_8085_87 {σ : Nat → Nat} {n0 : Nat} {bf : ab_B} : decode (ab_code (zx σ n0 bf).1 8085) 87 = .ok (.bipush 12, 2) := zd zm_8085 (by decide +kernel)
theorem d_8085_89 {σ : Nat → Nat} {n0 : Nat} {bf : ab_B} : decode (ab_code (zx σ n0 bf).1 8085) 89 = .ok (.if_icmp .eq 9, 3) := zd zm_8085 (by decide +kernel)
theorem d_8085_92 {σ : Nat → Nat} {n0 : Nat} {bf : ab_B} : decode (ab_code (zx σ n0 bf).1 8085) 92 = .ok (.iload_n 1, 1) := zd zm_8085 (by decide +kernel)
theorem d_8085_93 {σ : Nat → Nat} {n0 : Nat} {bf : ab_B} : decode (ab_code (zx σ n0 bf).1 8085) 93 = .ok (.bipush 13, 2) := zd zm_8085 (by decide +kernel)
theorem d_8085_95 {σ : Nat → Nat} {n0 : Nat} {bf : ab_B} : decode (ab_code (zx σ n0 bf).1 8085) 95 = .ok (.if_icmp .ne 11, 3) := zd zm_8085 (by decide +kernel)
theorem d_8085_98 {σ : Nat → Nat} {n0 : Nat} {bf : ab_B} : decode (ab_code (zx σ n0 bf).1 8085) 98 = .ok (.aload_n 0, 1) := zd zm_8085 (by decide +kernel)
theorem d_8085_99 {σ : Nat → Nat} {n0 : Nat} {bf : ab_B} : decode (ab_code (zx σ n0 bf).1 8085) 99 = .ok (.iload_n 3, 1) := zd zm_8085 (by decide +kernel)
theorem d_8085_100 {σ : Nat → Nat} {n0 : Nat} {bf : ab_B} : decode (ab_code (zx σ n0 bf).1 8085) 100 = .ok (.invokevirtual 564, 3) := zd zm_8085 (by decide +kernel)
theorem d_8085_103 {σ : Nat → Nat} {n0 : Nat} {bf : ab_B} : decode (ab_code (zx σ n0 bf).1 8085) 103 = .ok (.goto 8, 3) := zd zm_8085 (by decide +kernel)
theorem d_8085_106 {σ : Nat → Nat} {n0 : Nat} {bf : ab_B} : decode (ab_code (zx σ n0 bf).1 8085) 106 = .ok (.aload_n 0, 1) := zd zm_8085 (by decide +kernel)
theorem d_8085_107 {σ : Nat → Nat} {n0 : Nat} {bf : ab_B} : decode (ab_code (zx σ n0 bf).1 8085) 107 = .ok (.iload_n 3, 1) := zd zm_8085 (by decide +kernel)
theorem d_8085_108 {σ : Nat → Nat} {n0 : Nat} {bf : ab_B} : decode (ab_code (zx σ n0 bf).1 8085) 108 = .ok (.invokevirtual 693, 3) := zd zm_8085 (by decide +kernel)
theorem d_8085_111 {σ : Nat → Nat} {n0 : Nat} {bf : ab_B} : decode (ab_code (zx σ n0 bf).1 8085) 111 = .ok (.istore 5, 2) := zd zm_8085 (by decide +kernel)
theorem d_8085_113 {σ : Nat → Nat} {n0 : Nat} {bf : ab_B} : decode (ab_code (zx σ n0 bf).1 8085) 113 = .ok (.iload 5, 2) := zd zm_8085 (by decide +kernel)
theorem d_8085_115 {σ : Nat → Nat} {n0 : Nat} {bf : ab_B} : decode (ab_code (zx σ n0 bf).1 8085) 115 = .ok (.ifCond .ne 11, 3) := zd zm_8085 (by decide +kernel)
theorem d_8085_118 {σ : Nat → Nat} {n0 : Nat} {bf : ab_B} : decode (ab_code (zx σ n0 bf).1 8085) 118 = .ok (.aload_n 0, 1) := zd zm_8085 (by decide +kernel)
theorem d_8085_119 {σ : Nat → Nat} {n0 : Nat} {bf : ab_B} : decode (ab_code (zx σ n0 bf).1 8085) 119 = .ok (.iconst 5, 1) := zd zm_8085 (by decide +kernel)
theorem d_8085_120 {σ : Nat → Nat} {n0 : Nat} {bf : ab_B} : decode (ab_code (zx σ n0 bf).1 8085) 120 = .ok (.invokevirtual 541, 3) := zd zm_8085 (by decide +kernel)
theorem d_8085_123 {σ : Nat → Nat} {n0 : Nat} {bf : ab_B} : decode (ab_code (zx σ n0 bf).1 8085) 123 = .ok (.goto 37, 3) := zd zm_8085 (by decide +kernel)
theorem d_8085_126 {σ : Nat → Nat} {n0 : Nat} {bf : ab_B} : decode (ab_code (zx σ n0 bf).1 8085) 126 = .ok (.iload 4, 2) := zd zm_8085 (by decide +kernel)
theorem d_8085_128 {σ : Nat → Nat} {n0 : Nat} {bf : ab_B} : decode (ab_code (zx σ n0 bf).1 8085) 128 = .ok (.ifCond .eq 32, 3) := zd zm_8085 (by decide +kernel)
theorem d_8085_131 {σ : Nat → Nat} {n0 : Nat} {bf : ab_B} : decode (ab_code (zx σ n0 bf).1 8085) 131 = .ok (.aload_n 0, 1) := zd zm_8085 (by decide +kernel)
theorem d_8085_132 {σ : Nat → Nat} {n0 : Nat} {bf : ab_B} : decode (ab_code (zx σ n0 bf).1 8085) 132 = .ok (.iload_n 3, 1) := zd zm_8085 (by decide +kernel)
theorem d_8085_133 {σ : Nat → Nat} {n0 : Nat} {bf : ab_B} : decode (ab_code (zx σ n0 bf).1 8085) 133 = .ok (.invokevirtual 676, 3) := zd zm_8085 (by decide +kernel)
theorem d_8085_136 {σ : Nat → Nat} {n0 : Nat} {bf : ab_B} : decode (ab_code (zx σ n0 bf).1 8085) 136 = .ok (.ifCond .ne 24, 3) := zd zm_8085 (by decide +kernel)
theorem d_8085_139 {σ : Nat → Nat} {n0 : Nat} {bf : ab_B} : decode (ab_code (zx σ n0 bf).1 8085) 139 = .ok (.aload_n 0, 1) := zd zm_8085 (by decide +kernel)
theorem d_8085_140 {σ : Nat → Nat} {n0 : Nat} {bf : ab_B} : decode (ab_code (zx σ n0 bf).1 8085) 140 = .ok (.bipush 10, 2) := zd zm_8085 (by decide +kernel)
theorem d_8085_142 {σ : Nat → Nat} {n0 : Nat} {bf : ab_B} : decode (ab_code (zx σ n0 bf).1 8085) 142 = .ok (.iconst 0, 1) := zd zm_8085 (by decide +kernel)
theorem d_8085_143 {σ : Nat → Nat} {n0 : Nat} {bf : ab_B} : decode (ab_code (zx σ n0 bf).1 8085) 143 = .ok (.iconst 0, 1) := zd zm_8085 (by decide +kernel)
theorem d_8085_144 {σ : Nat → Nat} {n0 : Nat} {bf : ab_B} : decode (ab_code (zx σ n0 bf).1 8085) 144 = .ok (.aload_n 0, 1) := zd zm_8085 (by decide +kernel)
theorem d_8085_145 {σ : Nat → Nat} {n0 : Nat} {bf : ab_B} : decode (ab_code (zx σ n0 bf).1 8085) 145 = .ok (.getfield 206, 3) := zd zm_8085 (by decide +kernel)
theorem d_8085_148 {σ : Nat → Nat} {n0 : Nat} {bf : ab_B} : decode (ab_code (zx σ n0 bf).1 8085) 148 = .ok (.aload_n 0, 1) := zd zm_8085 (by decide +kernel)
theorem d_8085_149 {σ : Nat → Nat} {n0 : Nat} {bf : ab_B} : decode (ab_code (zx σ n0 bf).1 8085) 149 = .ok (.getfield 653, 3) := zd zm_8085 (by decide +kernel)
theorem d_8085_152 {σ : Nat → Nat} {n0 : Nat} {bf : ab_B} : decode (ab_code (zx σ n0 bf).1 8085) 152 = .ok (.iconst 1, 1) := zd zm_8085 (by decide +kernel)
theorem d_8085_153 {σ : Nat → Nat} {n0 : Nat} {bf : ab_B} : decode (ab_code (zx σ n0 bf).1 8085) 153 = .ok (.isub, 1) := zd zm_8085 (by decide +kernel)
theorem d_8085_154 {σ : Nat → Nat} {n0 : Nat} {bf : ab_B} : decode (ab_code (zx σ n0 bf).1 8085) 154 = .ok (.iaload, 1) := zd zm_8085 (by decide +kernel)
theorem d_8085_155 {σ : Nat → Nat} {n0 : Nat} {bf : ab_B} : decode (ab_code (zx σ n0 bf).1 8085) 155 = .ok (.invokevirtual 656, 3) := zd zm_8085 (by decide +kernel)
theorem d_8085_158 {σ : Nat → Nat} {n0 : Nat} {bf : ab_B} : decode (ab_code (zx σ n0 bf).1 8085) 158 = .ok (.istore 6, 2) := zd zm_8085 (by decide +kernel)
theorem d_8085_160 {σ : Nat → Nat} {n0 : Nat} {bf : ab_B} : decode (ab_code (zx σ n0 bf).1 8085) 160 = .ok (.iload_n 2, 1) := zd zm_8085 (by decide +kernel)
theorem d_8085_161 {σ : Nat → Nat} {n0 : Nat} {bf : ab_B} : decode (ab_code (zx σ n0 bf).1 8085) 161 = .ok (.iconst 1, 1) := zd zm_8085 (by decide +kernel)
theorem d_8085_162 {σ : Nat → Nat} {n0 : Nat} {bf : ab_B} : decode (ab_code (zx σ n0 bf).1 8085) 162 = .ok (.iadd, 1) := zd zm_8085 (by decide +kernel)
theorem d_8085_163 {σ : Nat → Nat} {n0 : Nat} {bf : ab_B} : decode (ab_code (zx σ n0 bf).1 8085) 163 = .ok (.aload_n 0, 1) := zd zm_8085 (by decide +kernel)
theorem d_8085_164 {σ : Nat → Nat} {n0 : Nat} {bf : ab_B} : decode (ab_code (zx σ n0 bf).1 8085) 164 = .ok (.iload_n 1, 1) := zd zm_8085 (by decide +kernel)
theorem d_8085_165 {σ : Nat → Nat} {n0 : Nat} {bf : ab_B} : decode (ab_code (zx σ n0 bf).1 8085) 165 = .ok (.invokevirtual 771, 3) := zd zm_8085 (by decide +kernel)
theorem d_8085_168 {σ : Nat → Nat} {n0 : Nat} {bf : ab_B} : decode (ab_code (zx σ n0 bf).1 8085) 168 = .ok (.if_icmp .ge 59, 3) := zd zm_8085 (by decide +kernel)
theorem d_8085_171 {σ : Nat → Nat} {n0 : Nat} {bf : ab_B} : decode (ab_code (zx σ n0 bf).1 8085) 171 = .ok (.aload_n 0, 1) := zd zm_8085 (by decide +kernel)
theorem d_8085_172 {σ : Nat → Nat} {n0 : Nat} {bf : ab_B} : decode (ab_code (zx σ n0 bf).1 8085) 172 = .ok (.bipush 12, 2) := zd zm_8085 (by decide +kernel)
theorem d_8085_174 {σ : Nat → Nat} {n0 : Nat} {bf : ab_B} : decode (ab_code (zx σ n0 bf).1 8085) 174 = .ok (.invokevirtual 535, 3) := zd zm_8085 (by decide +kernel)
theorem d_8085_177 {σ : Nat → Nat} {n0 : Nat} {bf : ab_B} : decode (ab_code (zx σ n0 bf).1 8085) 177 = .ok (.ifCond .eq 29, 3) := zd zm_8085 (by decide +kernel)
theorem d_8085_180 {σ : Nat → Nat} {n0 : Nat} {bf : ab_B} : decode (ab_code (zx σ n0 bf).1 8085) 180 = .ok (.aload_n 0, 1) := zd zm_8085 (by decide +kernel)
theorem d_8085_181 {σ : Nat → Nat} {n0 : Nat} {bf : ab_B} : decode (ab_code (zx σ n0 bf).1 8085) 181 = .ok (.bipush 22, 2) := zd zm_8085 (by decide +kernel)
theorem d_8085_183 {σ : Nat → Nat} {n0 : Nat} {bf : ab_B} : decode (ab_code (zx σ n0 bf).1 8085) 183 = .ok (.iload_n 1, 1) := zd zm_8085 (by decide +kernel)
theorem d_8085_184 {σ : Nat → Nat} {n0 : Nat} {bf : ab_B} : decode (ab_code (zx σ n0 bf).1 8085) 184 = .ok (.iload_n 2, 1) := zd zm_8085 (by decide +kernel)
theorem d_8085_185 {σ : Nat → Nat} {n0 : Nat} {bf : ab_B} : decode (ab_code (zx σ n0 bf).1 8085) 185 = .ok (.iconst 1, 1) := zd zm_8085 (by decide +kernel)
theorem d_8085_186 {σ : Nat → Nat} {n0 : Nat} {bf : ab_B} : decode (ab_code (zx σ n0 bf).1 8085) 186 = .ok (.iadd, 1) := zd zm_8085 (by decide +kernel)
theorem d_8085_187 {σ : Nat → Nat} {n0 : Nat} {bf : ab_B} : decode (ab_code (zx σ n0 bf).1 8085) 187 = .ok (.iconst 0, 1) := zd zm_8085 (by decide +kernel)
theorem d_8085_188 {σ : Nat → Nat} {n0 : Nat} {bf : ab_B} : decode (ab_code (zx σ n0 bf).1 8085) 188 = .ok (.invokevirtual 649, 3) := zd zm_8085 (by decide +kernel)
theorem d_8085_191 {σ : Nat → Nat} {n0 : Nat} {bf : ab_B} : decode (ab_code (zx σ n0 bf).1 8085) 191 = .ok (.aload_n 0, 1) := zd zm_8085 (by decide +kernel)
theorem d_8085_192 {σ : Nat → Nat} {n0 : Nat} {bf : ab_B} : decode (ab_code (zx σ n0 bf).1 8085) 192 = .ok (.iconst 2, 1) := zd zm_8085 (by decide +kernel)
theorem d_8085_193 {σ : Nat → Nat} {n0 : Nat} {bf : ab_B} : decode (ab_code (zx σ n0 bf).1 8085) 193 = .ok (.iconst 0, 1) := zd zm_8085 (by decide +kernel)
theorem d_8085_194 {σ : Nat → Nat} {n0 : Nat} {bf : ab_B} : decode (ab_code (zx σ n0 bf).1 8085) 194 = .ok (.iconst 0, 1) := zd zm_8085 (by decide +kernel)
theorem d_8085_195 {σ : Nat → Nat} {n0 : Nat} {bf : ab_B} : decode (ab_code (zx σ n0 bf).1 8085) 195 = .ok (.iconst 0, 1) := zd zm_8085 (by decide +kernel)
theorem d_8085_196 {σ : Nat → Nat} {n0 : Nat} {bf : ab_B} : decode (ab_code (zx σ n0 bf).1 8085) 196 = .ok (.invokevirtual 649, 3) := zd zm_8085 (by decide +kernel)
theorem d_8085_199 {σ : Nat → Nat} {n0 : Nat} {bf : ab_B} : decode (ab_code (zx σ n0 bf).1 8085) 199 = .ok (.aload_n 0, 1) := zd zm_8085 (by decide +kernel)
theorem d_8085_200 {σ : Nat → Nat} {n0 : Nat} {bf : ab_B} : decode (ab_code (zx σ n0 bf).1 8085) 200 = .ok (.invokevirtual 538, 3) := zd zm_8085 (by decide +kernel)
theorem d_8085_203 {σ : Nat → Nat} {n0 : Nat} {bf : ab_B} : decode (ab_code (zx σ n0 bf).1 8085) 203 = .ok (.goto 38, 3) := zd zm_8085 (by decide +kernel)
theorem d_8085_206 {σ : Nat → Nat} {n0 : Nat} {bf : ab_B} : decode (ab_code (zx σ n0 bf).1 8085) 206 = .ok (.aload_n 0, 1) := zd zm_8085 (by decide +kernel)
theorem d_8085_207 {σ : Nat → Nat} {n0 : Nat} {bf : ab_B} : decode (ab_code (zx σ n0 bf).1 8085) 207 = .ok (.aload_n 0, 1) := zd zm_8085 (by decide +kernel)
theorem d_8085_208 {σ : Nat → Nat} {n0 : Nat} {bf : ab_B} : decode (ab_code (zx σ n0 bf).1 8085) 208 = .ok (.bipush 9, 2) := zd zm_8085 (by decide +kernel)
theorem d_8085_210 {σ : Nat → Nat} {n0 : Nat} {bf : ab_B} : decode (ab_code (zx σ n0 bf).1 8085) 210 = .ok (.invokevirtual 535, 3) := zd zm_8085 (by decide +kernel)
theorem d_8085_213 {σ : Nat → Nat} {n0 : Nat} {bf : ab_B} : decode (ab_code (zx σ n0 bf).1 8085) 213 = .ok (.ifCond .eq 7, 3) := zd zm_8085 (by decide +kernel)
theorem d_8085_216 {σ : Nat → Nat} {n0 : Nat} {bf : ab_B} : decode (ab_code (zx σ n0 bf).1 8085) 216 = .ok (.iconst 5, 1) := zd zm_8085 (by decide +kernel)
theorem d_8085_217 {σ : Nat → Nat} {n0 : Nat} {bf : ab_B} : decode (ab_code (zx σ n0 bf).1 8085) 217 = .ok (.goto 4, 3) := zd zm_8085 (by decide +kernel)
theorem d_8085_220 {σ : Nat → Nat} {n0 : Nat} {bf : ab_B} : decode (ab_code (zx σ n0 bf).1 8085) 220 = .ok (.iconst 2, 1) := zd zm_8085 (by decide +kernel)
theorem d_8085_221 {σ : Nat → Nat} {n0 : Nat} {bf : ab_B} : decode (ab_code (zx σ n0 bf).1 8085) 221 = .ok (.invokevirtual 541, 3) := zd zm_8085 (by decide +kernel)
theorem d_8085_224 {σ : Nat → Nat} {n0 : Nat} {bf : ab_B} : decode (ab_code (zx σ n0 bf).1 8085) 224 = .ok (.goto 17, 3) := zd zm_8085 (by decide +kernel)
theorem d_8085_227 {σ : Nat → Nat} {n0 : Nat} {bf : ab_B} : decode (ab_code (zx σ n0 bf).1 8085) 227 = .ok (.aload_n 0, 1) := zd zm_8085 (by decide +kernel)
theorem d_8085_228 {σ : Nat → Nat} {n0 : Nat} {bf : ab_B} : decode (ab_code (zx σ n0 bf).1 8085) 228 = .ok (.bipush 12, 2) := zd zm_8085 (by decide +kernel)
theorem d_8085_230 {σ : Nat → Nat} {n0 : Nat} {bf : ab_B} : decode (ab_code (zx σ n0 bf).1 8085) 230 = .ok (.invokevirtual 535, 3) := zd zm_8085 (by decide +kernel)
theorem d_8085_233 {σ : Nat → Nat} {n0 : Nat} {bf : ab_B} : decode (ab_code (zx σ n0 bf).1 8085) 233 = .ok (.ifCond .eq 8, 3) := zd zm_8085 (by decide +kernel)
theorem d_8085_236 {σ : Nat → Nat} {n0 : Nat} {bf : ab_B} : decode (ab_code (zx σ n0 bf).1 8085) 236 = .ok (.aload_n 0, 1) := zd zm_8085 (by decide +kernel)
theorem d_8085_237 {σ : Nat → Nat} {n0 : Nat} {bf : ab_B} : decode (ab_code (zx σ n0 bf).1 8085) 237 = .ok (.iconst 5, 1) := zd zm_8085 (by decide +kernel)
theorem d_8085_238 {σ : Nat → Nat} {n0 : Nat} {bf : ab_B} : decode (ab_code (zx σ n0 bf).1 8085) 238 = .ok (.invokevirtual 541, 3) := zd zm_8085 (by decide +kernel)
theorem d_8085_241 {σ : Nat → Nat} {n0 : Nat} {bf : ab_B} : decode (ab_code (zx σ n0 bf).1 8085) 241 = .ok (.return_, 1) := zd zm_8085 (by decide +kernel)
def w_X9_knownArgument_221 (X : zs_X) (d : Nat) (q0 : Option Nat) (q1 : Int32) (S : zs_T) (Q : zs_Q) : Prop :=
  (∃ b1, q0 = some b1 ∧ zs_K S b1 = some (.inl 8) ∧ zs_C X d 8027 [.ref b1, .int q1] S (zs_kV (fun S4 => (Q (.returned none) S4)) Q))
theorem u_X9_knownArgument_221 {σ : Nat → Nat} {n0 : Nat} {bf : ab_B} {d : Nat} {q0 : Option Nat} {q1 : Int32} {S : zs_T} {Q : zs_Q} (hB : zt_B bf) (h : w_X9_knownArgument_221 (zx σ n0 bf) d q0 q1 S Q) : zs_U (zx σ n0 bf) d 8085 221 [] [.int q1, va_rf q0] S Q := by
  unfold w_X9_knownArgument_221 at h
  obtain ⟨b1, e2, h⟩ := h
  refine zs_stk1 (zs_rfe e2) ?_
  obtain ⟨k3, h⟩ := h
  refine zc_8_541 (x0 := q1) hB rfl k3 d_8085_221 (Nat.le_of_ble_eq_true rfl) h (fun S4 h => ?_)
  refine zu_goto (t := 241) d_8085_224 rfl ?_
  exact zu_vret d_8085_241 zr_8085 h
def w_X9_knownArgument_191 (X : zs_X) (d : Nat) (p0 : Nat) (S : zs_T) (Q : zs_Q) : Prop :=
  (zs_K S p0 = some (.inl 8) ∧ zs_C X d 8030 [.ref p0, .int (2 : Int32), .int (0 : Int32), .int (0 : Int32), .int (0 : Int32)] S (zs_kV (fun S2 => (zs_K S2 p0 = some (.inl 8) ∧ zs_C X d 8014 [.ref p0] S2 (zs_kV (fun S5 => (Q (.returned none) S5)) Q))) Q))
theorem u_X9_knownArgument_191 {σ : Nat → Nat} {n0 : Nat} {bf : ab_B} {d : Nat} {p0 : Nat} {S : zs_T} {Q : zs_Q} (hB : zt_B bf) (h : w_X9_knownArgument_191 (zx σ n0 bf) d p0 S Q) : zs_U (zx σ n0 bf) d 8085 191 [(0, .ref p0)] [] S Q := by
  unfold w_X9_knownArgument_191 at h
  refine zu_aload_n d_8085_191 rfl (zs_ra _) ?_
  refine zu_iconst d_8085_192 zi_2 ?_
  refine zu_iconst d_8085_193 zi_0 ?_
  refine zu_iconst d_8085_194 zi_0 ?_
  refine zu_iconst d_8085_195 zi_0 ?_
  obtain ⟨k1, h⟩ := h
  refine zc_8_649 (x0 := (2 : Int32)) (x1 := (0 : Int32)) (x2 := (0 : Int32)) (x3 := (0 : Int32)) hB rfl k1 d_8085_196 (Nat.le_of_ble_eq_true rfl) h (fun S2 h => ?_)
  refine zu_aload_n d_8085_199 rfl (zs_ra _) ?_
  obtain ⟨k4, h⟩ := h
  refine zc_8_538  hB rfl k4 d_8085_200 (Nat.le_of_ble_eq_true rfl) h (fun S5 h => ?_)
  refine zu_goto (t := 241) d_8085_203 rfl ?_
  exact zu_vret d_8085_241 zr_8085 h
def w_X9_knownArgument_160 (X : zs_X) (d : Nat) (p0 : Nat) (p1 : Int32) (p2 : Int32) (S : zs_T) (Q : zs_Q) : Prop :=
  (zs_K S p0 = some (.inl 8) ∧ zs_C X d 8086 [.ref p0, .int p1] S (zs_kI (fun v3 S2 => (((v3 ≤ (p2 + (1 : Int32)) → (zs_K S2 p0 = some (.inl 8) ∧ zs_C X d 8029 [.ref p0, .int (12 : Int32)] S2 (zs_kI (fun v7 S6 => (((v7 = 0 → (Q (.returned none) S6)) ∧ (¬ (v7 = 0) → (zs_K S6 p0 = some (.inl 8) ∧ zs_C X d 8027 [.ref p0, .int (5 : Int32)] S6 (zs_kV (fun S10 => (Q (.returned none) S10)) Q)))))) Q))) ∧ (¬ (v3 ≤ (p2 + (1 : Int32))) → (zs_K S2 p0 = some (.inl 8) ∧ zs_C X d 8029 [.ref p0, .int (12 : Int32)] S2 (zs_kI (fun v14 S13 => (((v14 = 0 → (zs_K S13 p0 = some (.inl 8) ∧ zs_C X d 8029 [.ref p0, .int (9 : Int32)] S13 (zs_kI (fun v18 S17 => (((v18 = 0 → (w_X9_knownArgument_221 X d (some p0) (2 : Int32) S17 Q)) ∧ (¬ (v18 = 0) → (w_X9_knownArgument_221 X d (some p0) (5 : Int32) S17 Q))))) Q))) ∧ (¬ (v14 = 0) → (zs_K S13 p0 = some (.inl 8) ∧ zs_C X d 8030 [.ref p0, .int (22 : Int32), .int p1, .int (p2 + (1 : Int32)), .int (0 : Int32)] S13 (zs_kV (fun S21 => w_X9_knownArgument_191 X d p0 S21 Q) Q)))))) Q)))))) Q))
theorem u_X9_knownArgument_160 {σ : Nat → Nat} {n0 : Nat} {bf : ab_B} {d : Nat} {p0 : Nat} {p1 : Int32} {p2 : Int32} {S : zs_T} {Q : zs_Q} (hB : zt_B bf) (h : w_X9_knownArgument_160 (zx σ n0 bf) d p0 p1 p2 S Q) : zs_U (zx σ n0 bf) d 8085 160 [(0, .ref p0), (1, .int p1), (2, .int p2)] [] S Q := by
  unfold w_X9_knownArgument_160 at h
  refine zu_iload_n d_8085_160 rfl ?_
  refine zu_iconst d_8085_161 zi_1 ?_
  refine zu_stk d_8085_162 rfl rfl ?_
  refine zu_aload_n d_8085_163 rfl (zs_ra _) ?_
  refine zu_iload_n d_8085_164 rfl ?_
  obtain ⟨k1, h⟩ := h
  refine zc_8_771 (x0 := p1) hB rfl k1 d_8085_165 (Nat.le_of_ble_eq_true rfl) h (fun v3 S2 h => ?_)
  refine zu_cmpge (t := 227) d_8085_168 rfl (fun c4 => ?_) (fun c4 => ?_)
  · have h := h.1 c4
    refine zu_aload_n d_8085_227 rfl (zs_ra _) ?_
    refine zu_bipush d_8085_228 zj_12 ?_
    obtain ⟨k5, h⟩ := h
    refine zc_8_535 (x0 := (12 : Int32)) hB rfl k5 d_8085_230 (Nat.le_of_ble_eq_true rfl) h (fun v7 S6 h => ?_)
    refine zu_ifeq (t := 241) d_8085_233 rfl (fun c8 => ?_) (fun c8 => ?_)
    · have h := h.1 c8
      exact zu_vret d_8085_241 zr_8085 h
    · have h := h.2 c8
      refine zu_aload_n d_8085_236 rfl (zs_ra _) ?_
      refine zu_iconst d_8085_237 zi_5 ?_
      obtain ⟨k9, h⟩ := h
      refine zc_8_541 (x0 := (5 : Int32)) hB rfl k9 d_8085_238 (Nat.le_of_ble_eq_true rfl) h (fun S10 h => ?_)
      exact zu_vret d_8085_241 zr_8085 h
  · have h := h.2 c4
    refine zu_aload_n d_8085_171 rfl (zs_ra _) ?_
    refine zu_bipush d_8085_172 zj_12 ?_
    obtain ⟨k12, h⟩ := h
    refine zc_8_535 (x0 := (12 : Int32)) hB rfl k12 d_8085_174 (Nat.le_of_ble_eq_true rfl) h (fun v14 S13 h => ?_)
    refine zu_ifeq (t := 206) d_8085_177 rfl (fun c15 => ?_) (fun c15 => ?_)
    · have h := h.1 c15
      refine zu_aload_n d_8085_206 rfl (zs_ra _) ?_
      refine zu_aload_n d_8085_207 rfl (zs_ra _) ?_
      refine zu_bipush d_8085_208 zj_9 ?_
      obtain ⟨k16, h⟩ := h
      refine zc_8_535 (x0 := (9 : Int32)) hB rfl k16 d_8085_210 (Nat.le_of_ble_eq_true rfl) h (fun v18 S17 h => ?_)
      refine zu_ifeq (t := 220) d_8085_213 rfl (fun c19 => ?_) (fun c19 => ?_)
      · have h := h.1 c19
        refine zu_iconst d_8085_220 zi_2 ?_
        exact (u_X9_knownArgument_221 hB h).weak trivial
      · have h := h.2 c19
        refine zu_iconst d_8085_216 zi_5 ?_
        refine zu_goto (t := 221) d_8085_217 rfl ?_
        exact (u_X9_knownArgument_221 hB h).weak trivial
    · have h := h.2 c15
      refine zu_aload_n d_8085_180 rfl (zs_ra _) ?_
      refine zu_bipush d_8085_181 zj_22 ?_
      refine zu_iload_n d_8085_183 rfl ?_
      refine zu_iload_n d_8085_184 rfl ?_
      refine zu_iconst d_8085_185 zi_1 ?_
      refine zu_stk d_8085_186 rfl rfl ?_
      refine zu_iconst d_8085_187 zi_0 ?_
      obtain ⟨k20, h⟩ := h
      refine zc_8_649 (x0 := (22 : Int32)) (x1 := p1) (x2 := (p2 + (1 : Int32))) (x3 := (0 : Int32)) hB rfl k20 d_8085_188 (Nat.le_of_ble_eq_true rfl) h (fun S21 h => ?_)
      exact (u_X9_knownArgument_191 hB h).weak ⟨rfl, trivial⟩
def w_X9_knownArgument_111 (X : zs_X) (d : Nat) (p0 : Nat) (p1 : Int32) (p2 : Int32) (p3 : Int32) (p4 : Int32) (q0 : Int32) (S : zs_T) (Q : zs_Q) : Prop :=
  (((¬ q0 = 0 → (((p4 = 0 → w_X9_knownArgument_160 X d p0 p1 p2 S Q) ∧ (¬ (p4 = 0) → (zs_K S p0 = some (.inl 8) ∧ zs_C X d 8044 [.ref p0, .int p3] S (zs_kI (fun v5 S4 => (((¬ v5 = 0 → w_X9_knownArgument_160 X d p0 p1 p2 S4 Q) ∧ (¬ (¬ v5 = 0) → (zs_K S4 p0 = some (.inl 8) ∧ ∃ b8, (zs_R S4 8096 p0) = some b8 ∧ zs_A S4 b8 0 ((zs_I S4 8097 p0) - (1 : Int32)) ∧ zs_C X d 8012 [.ref p0, .int (10 : Int32), .int (0 : Int32), .int (0 : Int32), .int (zs_i S4 b8 ((zs_I S4 8097 p0) - (1 : Int32)).toNatClampNeg)] S4 (zs_kI (fun v12 S11 => (w_X9_knownArgument_160 X d p0 p1 p2 S11 Q)) Q)))))) Q)))))) ∧ (¬ (¬ q0 = 0) → (zs_K S p0 = some (.inl 8) ∧ zs_C X d 8027 [.ref p0, .int (5 : Int32)] S (zs_kV (fun S14 => (w_X9_knownArgument_160 X d p0 p1 p2 S14 Q)) Q)))))
theorem u_X9_knownArgument_111 {σ : Nat → Nat} {n0 : Nat} {bf : ab_B} {d : Nat} {p0 : Nat} {p1 : Int32} {p2 : Int32} {p3 : Int32} {p4 : Int32} {q0 : Int32} {S : zs_T} {Q : zs_Q} (hB : zt_B bf) (h : w_X9_knownArgument_111 (zx σ n0 bf) d p0 p1 p2 p3 p4 q0 S Q) : zs_U (zx σ n0 bf) d 8085 111 [(0, .ref p0), (1, .int p1), (2, .int p2), (3, .int p3), (4, .int p4)] [.int q0] S Q := by
  unfold w_X9_knownArgument_111 at h
  refine zu_istore d_8085_111 (zs_lt zq_8085 rfl) ?_
  refine zu_iload d_8085_113 rfl ?_
  refine zu_ifne (t := 126) d_8085_115 rfl (fun c1 => ?_) (fun c1 => ?_)
  · have h := h.1 c1
    refine zu_iload d_8085_126 rfl ?_
    refine zu_ifeq (t := 160) d_8085_128 rfl (fun c2 => ?_) (fun c2 => ?_)
    · have h := h.1 c2
      exact (u_X9_knownArgument_160 hB h).weak ⟨rfl, rfl, rfl, trivial⟩
    · have h := h.2 c2
      refine zu_aload_n d_8085_131 rfl (zs_ra _) ?_
      refine zu_iload_n d_8085_132 rfl ?_
      obtain ⟨k3, h⟩ := h
      refine zc_8_676 (x0 := p3) hB rfl k3 d_8085_133 (Nat.le_of_ble_eq_true rfl) h (fun v5 S4 h => ?_)
      refine zu_ifne (t := 160) d_8085_136 rfl (fun c6 => ?_) (fun c6 => ?_)
      · have h := h.1 c6
        exact (u_X9_knownArgument_160 hB h).weak ⟨rfl, rfl, rfl, trivial⟩
      · have h := h.2 c6
        refine zu_aload_n d_8085_139 rfl (zs_ra _) ?_
        refine zu_bipush d_8085_140 zj_10 ?_
        refine zu_iconst d_8085_142 zi_0 ?_
        refine zu_iconst d_8085_143 zi_0 ?_
        refine zu_aload_n d_8085_144 rfl (zs_ra _) ?_
        obtain ⟨k7, h⟩ := h
        refine zg_8_206 rfl d_8085_145 k7 ?_
        refine zu_aload_n d_8085_148 rfl (zs_ra _) ?_
        refine zg_8_653 rfl d_8085_149 k7 ?_
        refine zu_iconst d_8085_152 zi_1 ?_
        refine zu_stk d_8085_153 rfl rfl ?_
        obtain ⟨b8, e9, h⟩ := h
        refine zs_stk1 (zs_rfe e9) ?_
        obtain ⟨k10, h⟩ := h
        refine zu_iald (k := 0) d_8085_154 rfl rfl k10 ?_
        refine zc_8_656 (x0 := (10 : Int32)) (x1 := (0 : Int32)) (x2 := (0 : Int32)) (x3 := (zs_i S4 b8 ((zs_I S4 8097 p0) - (1 : Int32)).toNatClampNeg)) hB rfl k7 d_8085_155 (Nat.le_of_ble_eq_true rfl) h (fun v12 S11 h => ?_)
        refine zu_istore d_8085_158 (zs_lt zq_8085 rfl) ?_
        exact (u_X9_knownArgument_160 hB h).weak ⟨rfl, rfl, rfl, trivial⟩
  · have h := h.2 c1
    refine zu_aload_n d_8085_118 rfl (zs_ra _) ?_
    refine zu_iconst d_8085_119 zi_5 ?_
    obtain ⟨k13, h⟩ := h
    refine zc_8_541 (x0 := (5 : Int32)) hB rfl k13 d_8085_120 (Nat.le_of_ble_eq_true rfl) h (fun S14 h => ?_)
    refine zu_goto (t := 160) d_8085_123 rfl ?_
    exact (u_X9_knownArgument_160 hB h).weak ⟨rfl, rfl, rfl, trivial⟩
def w_X9_knownArgument_98 (X : zs_X) (d : Nat) (p0 : Nat) (p1 : Int32) (p2 : Int32) (p3 : Int32) (p4 : Int32) (S : zs_T) (Q : zs_Q) : Prop :=
  (zs_K S p0 = some (.inl 8) ∧ zs_C X d 8036 [.ref p0, .int p3] S (zs_kI (fun v3 S2 => (w_X9_knownArgument_111 X d p0 p1 p2 p3 p4 v3 S2 Q)) Q))
theorem u_X9_knownArgument_98 {σ : Nat → Nat} {n0 : Nat} {bf : ab_B} {d : Nat} {p0 : Nat} {p1 : Int32} {p2 : Int32} {p3 : Int32} {p4 : Int32} {S : zs_T} {Q : zs_Q} (hB : zt_B bf) (h : w_X9_knownArgument_98 (zx σ n0 bf) d p0 p1 p2 p3 p4 S Q) : zs_U (zx σ n0 bf) d 8085 98 [(0, .ref p0), (1, .int p1), (2, .int p2), (3, .int p3), (4, .int p4)] [] S Q := by
  unfold w_X9_knownArgument_98 at h
  refine zu_aload_n d_8085_98 rfl (zs_ra _) ?_
  refine zu_iload_n d_8085_99 rfl ?_
  obtain ⟨k1, h⟩ := h
  refine zc_8_564 (x0 := p3) hB rfl k1 d_8085_100 (Nat.le_of_ble_eq_true rfl) h (fun v3 S2 h => ?_)
  refine zu_goto (t := 111) d_8085_103 rfl ?_
  exact (u_X9_knownArgument_111 hB h).weak ⟨rfl, rfl, rfl, rfl, rfl, trivial⟩
def w_X9_knownArgument_51 (X : zs_X) (d : Nat) (p0 : Nat) (p1 : Int32) (p2 : Int32) (p3 : Int32) (q0 : Int32) (S : zs_T) (Q : zs_Q) : Prop :=
  (((q0 = 0 → (((¬ p1 = (15 : Int32) → (((p1 = (10 : Int32) → w_X9_knownArgument_98 X d p0 p1 p2 p3 q0 S Q) ∧ (¬ (p1 = (10 : Int32)) → (((p1 = (12 : Int32) → w_X9_knownArgument_98 X d p0 p1 p2 p3 q0 S Q) ∧ (¬ (p1 = (12 : Int32)) → (((¬ p1 = (13 : Int32) → (zs_K S p0 = some (.inl 8) ∧ zs_C X d 8051 [.ref p0, .int p3] S (zs_kI (fun v8 S7 => w_X9_knownArgument_111 X d p0 p1 p2 p3 q0 v8 S7 Q) Q))) ∧ (¬ (¬ p1 = (13 : Int32)) → w_X9_knownArgument_98 X d p0 p1 p2 p3 q0 S Q)))))))))) ∧ (¬ (¬ p1 = (15 : Int32)) → (zs_K S p0 = some (.inl 8) ∧ zs_C X d 8040 [.ref p0, .int p3] S (zs_kI (fun v11 S10 => (w_X9_knownArgument_111 X d p0 p1 p2 p3 q0 v11 S10 Q)) Q)))))) ∧ (¬ (q0 = 0) → (zs_K S p0 = some (.inl 8) ∧ zs_C X d 8043 [.ref p0, .int p3] S (zs_kI (fun v14 S13 => (w_X9_knownArgument_111 X d p0 p1 p2 p3 q0 v14 S13 Q)) Q)))))
theorem u_X9_knownArgument_51 {σ : Nat → Nat} {n0 : Nat} {bf : ab_B} {d : Nat} {p0 : Nat} {p1 : Int32} {p2 : Int32} {p3 : Int32} {q0 : Int32} {S : zs_T} {Q : zs_Q} (hB : zt_B bf) (h : w_X9_knownArgument_51 (zx σ n0 bf) d p0 p1 p2 p3 q0 S Q) : zs_U (zx σ n0 bf) d 8085 51 [(0, .ref p0), (1, .int p1), (2, .int p2), (3, .int p3)] [.int q0] S Q := by
  unfold w_X9_knownArgument_51 at h
  refine zu_istore d_8085_51 (zs_lt zq_8085 rfl) ?_
  refine zu_iload d_8085_53 rfl ?_
  refine zu_ifeq (t := 66) d_8085_55 rfl (fun c1 => ?_) (fun c1 => ?_)
  · have h := h.1 c1
    refine zu_iload_n d_8085_66 rfl ?_
    refine zu_bipush d_8085_67 zj_15 ?_
    refine zu_cmpne (t := 80) d_8085_69 rfl (fun c2 => ?_) (fun c2 => ?_)
    · have h := h.1 c2
      refine zu_iload_n d_8085_80 rfl ?_
      refine zu_bipush d_8085_81 zj_10 ?_
      refine zu_cmpeq (t := 98) d_8085_83 rfl (fun c3 => ?_) (fun c3 => ?_)
      · have h := h.1 c3
        exact (u_X9_knownArgument_98 hB h).weak ⟨rfl, rfl, rfl, rfl, rfl, trivial⟩
      · have h := h.2 c3
        refine zu_iload_n d_8085_86 rfl ?_
        refine zu_bipush d_8085_87 zj_12 ?_
        refine zu_cmpeq (t := 98) d_8085_89 rfl (fun c4 => ?_) (fun c4 => ?_)
        · have h := h.1 c4
          exact (u_X9_knownArgument_98 hB h).weak ⟨rfl, rfl, rfl, rfl, rfl, trivial⟩
        · have h := h.2 c4
          refine zu_iload_n d_8085_92 rfl ?_
          refine zu_bipush d_8085_93 zj_13 ?_
          refine zu_cmpne (t := 106) d_8085_95 rfl (fun c5 => ?_) (fun c5 => ?_)
          · have h := h.1 c5
            refine zu_aload_n d_8085_106 rfl (zs_ra _) ?_
            refine zu_iload_n d_8085_107 rfl ?_
            obtain ⟨k6, h⟩ := h
            refine zc_8_693 (x0 := p3) hB rfl k6 d_8085_108 (Nat.le_of_ble_eq_true rfl) h (fun v8 S7 h => ?_)
            exact (u_X9_knownArgument_111 hB h).weak ⟨rfl, rfl, rfl, rfl, rfl, trivial⟩
          · have h := h.2 c5
            exact (u_X9_knownArgument_98 hB h).weak ⟨rfl, rfl, rfl, rfl, rfl, trivial⟩
    · have h := h.2 c2
      refine zu_aload_n d_8085_72 rfl (zs_ra _) ?_
      refine zu_iload_n d_8085_73 rfl ?_
      obtain ⟨k9, h⟩ := h
      refine zc_8_567 (x0 := p3) hB rfl k9 d_8085_74 (Nat.le_of_ble_eq_true rfl) h (fun v11 S10 h => ?_)
      refine zu_goto (t := 111) d_8085_77 rfl ?_
      exact (u_X9_knownArgument_111 hB h).weak ⟨rfl, rfl, rfl, rfl, rfl, trivial⟩
  · have h := h.2 c1
    refine zu_aload_n d_8085_58 rfl (zs_ra _) ?_
    refine zu_iload_n d_8085_59 rfl ?_
    obtain ⟨k12, h⟩ := h
    refine zc_8_673 (x0 := p3) hB rfl k12 d_8085_60 (Nat.le_of_ble_eq_true rfl) h (fun v14 S13 h => ?_)
    refine zu_goto (t := 111) d_8085_63 rfl ?_
    exact (u_X9_knownArgument_111 hB h).weak ⟨rfl, rfl, rfl, rfl, rfl, trivial⟩
def w_X9_knownArgument_46 (X : zs_X) (d : Nat) (p0 : Nat) (p1 : Int32) (p2 : Int32) (p3 : Int32) (S : zs_T) (Q : zs_Q) : Prop :=
  (w_X9_knownArgument_51 X d p0 p1 p2 p3 (1 : Int32) S Q)
theorem u_X9_knownArgument_46 {σ : Nat → Nat} {n0 : Nat} {bf : ab_B} {d : Nat} {p0 : Nat} {p1 : Int32} {p2 : Int32} {p3 : Int32} {S : zs_T} {Q : zs_Q} (hB : zt_B bf) (h : w_X9_knownArgument_46 (zx σ n0 bf) d p0 p1 p2 p3 S Q) : zs_U (zx σ n0 bf) d 8085 46 [(0, .ref p0), (1, .int p1), (2, .int p2), (3, .int p3)] [] S Q := by
  unfold w_X9_knownArgument_46 at h
  refine zu_iconst d_8085_46 zi_1 ?_
  refine zu_goto (t := 51) d_8085_47 rfl ?_
  exact (u_X9_knownArgument_51 hB h).weak ⟨rfl, rfl, rfl, rfl, trivial⟩
def w_X9_knownArgument_50 (X : zs_X) (d : Nat) (p0 : Nat) (p1 : Int32) (p2 : Int32) (p3 : Int32) (S : zs_T) (Q : zs_Q) : Prop :=
  (w_X9_knownArgument_51 X d p0 p1 p2 p3 (0 : Int32) S Q)
theorem u_X9_knownArgument_50 {σ : Nat → Nat} {n0 : Nat} {bf : ab_B} {d : Nat} {p0 : Nat} {p1 : Int32} {p2 : Int32} {p3 : Int32} {S : zs_T} {Q : zs_Q} (hB : zt_B bf) (h : w_X9_knownArgument_50 (zx σ n0 bf) d p0 p1 p2 p3 S Q) : zs_U (zx σ n0 bf) d 8085 50 [(0, .ref p0), (1, .int p1), (2, .int p2), (3, .int p3)] [] S Q := by
  unfold w_X9_knownArgument_50 at h
  refine zu_iconst d_8085_50 zi_0 ?_
  exact (u_X9_knownArgument_51 hB h).weak ⟨rfl, rfl, rfl, rfl, trivial⟩
def w_X9_knownArgument_30 (X : zs_X) (d : Nat) (p0 : Nat) (p1 : Int32) (p2 : Int32) (p3 : Int32) (S : zs_T) (Q : zs_Q) : Prop :=
  (((p1 = (16 : Int32) → w_X9_knownArgument_46 X d p0 p1 p2 p3 S Q) ∧ (¬ (p1 = (16 : Int32)) → (((¬ p1 = (17 : Int32) → w_X9_knownArgument_50 X d p0 p1 p2 p3 S Q) ∧ (¬ (¬ p1 = (17 : Int32)) → (((¬ p2 = 0 → w_X9_knownArgument_50 X d p0 p1 p2 p3 S Q) ∧ (¬ (¬ p2 = 0) → w_X9_knownArgument_46 X d p0 p1 p2 p3 S Q)))))))))
theorem u_X9_knownArgument_30 {σ : Nat → Nat} {n0 : Nat} {bf : ab_B} {d : Nat} {p0 : Nat} {p1 : Int32} {p2 : Int32} {p3 : Int32} {S : zs_T} {Q : zs_Q} (hB : zt_B bf) (h : w_X9_knownArgument_30 (zx σ n0 bf) d p0 p1 p2 p3 S Q) : zs_U (zx σ n0 bf) d 8085 30 [(0, .ref p0), (1, .int p1), (2, .int p2), (3, .int p3)] [] S Q := by
  unfold w_X9_knownArgument_30 at h
  refine zu_iload_n d_8085_30 rfl ?_
  refine zu_bipush d_8085_31 zj_16 ?_
  refine zu_cmpeq (t := 46) d_8085_33 rfl (fun c1 => ?_) (fun c1 => ?_)
  · have h := h.1 c1
    exact (u_X9_knownArgument_46 hB h).weak ⟨rfl, rfl, rfl, rfl, trivial⟩
  · have h := h.2 c1
    refine zu_iload_n d_8085_36 rfl ?_
    refine zu_bipush d_8085_37 zj_17 ?_
    refine zu_cmpne (t := 50) d_8085_39 rfl (fun c2 => ?_) (fun c2 => ?_)
    · have h := h.1 c2
      exact (u_X9_knownArgument_50 hB h).weak ⟨rfl, rfl, rfl, rfl, trivial⟩
    · have h := h.2 c2
      refine zu_iload_n d_8085_42 rfl ?_
      refine zu_ifne (t := 50) d_8085_43 rfl (fun c3 => ?_) (fun c3 => ?_)
      · have h := h.1 c3
        exact (u_X9_knownArgument_50 hB h).weak ⟨rfl, rfl, rfl, rfl, trivial⟩
      · have h := h.2 c3
        exact (u_X9_knownArgument_46 hB h).weak ⟨rfl, rfl, rfl, rfl, trivial⟩
def w_X9_knownArgument (X : zs_X) (d : Nat) (p0 : Nat) (p1 : Int32) (p2 : Int32) (S : zs_T) (Q : zs_Q) : Prop :=
  (zs_K S p0 = some (.inl 8) ∧ zs_C X d 8037 [.ref p0] S (zs_kV (fun S2 => (zs_K S2 p0 = some (.inl 8) ∧ (((zs_I S2 8010 p0) ≤ 0 → (∃ b6, (zs_R S2 8091 p0) = some b6 ∧ zs_A S2 b6 0 ((zs_I S2 8097 p0) - (1 : Int32)) ∧ ((p1 = (14 : Int32) → w_X9_knownArgument_46 X d p0 p1 p2 (zs_i S2 b6 ((zs_I S2 8097 p0) - (1 : Int32)).toNatClampNeg) S2 Q) ∧ (¬ (p1 = (14 : Int32)) → w_X9_knownArgument_30 X d p0 p1 p2 (zs_i S2 b6 ((zs_I S2 8097 p0) - (1 : Int32)).toNatClampNeg) S2 Q)))) ∧ (¬ ((zs_I S2 8010 p0) ≤ 0) → (Q (.returned none) S2))))) Q))
theorem u_X9_knownArgument {σ : Nat → Nat} {n0 : Nat} {bf : ab_B} {d : Nat} {p0 : Nat} {p1 : Int32} {p2 : Int32} {S : zs_T} {Q : zs_Q} (hB : zt_B bf) (hd : 1 ≤ d) (h : w_X9_knownArgument (zx σ n0 bf) (d - 1) p0 p1 p2 S Q) : zs_C (zx σ n0 bf) d 8085 [.ref p0, .int p1, .int p2] S Q := by
  have hL : lv_args 0 [.ref p0, .int p1, .int p2] = [(0, .ref p0), (1, .int p1), (2, .int p2)] := rfl
  refine zs_C.of1 (hB.2 8085 (by decide) (by decide)) hd (by rw [hL]; exact zs_sub_self _ (by exact ⟨rfl, rfl, rfl, trivial⟩)) ?_
  rw [hL]
  clear hL
  unfold w_X9_knownArgument at h
  refine zu_aload_n d_8085_0 rfl (zs_ra _) ?_
  obtain ⟨k1, h⟩ := h
  refine zc_8_660  hB rfl k1 d_8085_1 (Nat.le_of_ble_eq_true rfl) h (fun S2 h => ?_)
  refine zu_aload_n d_8085_4 rfl (zs_ra _) ?_
  obtain ⟨k4, h⟩ := h
  refine zg_8_444 rfl d_8085_5 k4 ?_
  refine zu_ifle (t := 12) d_8085_8 rfl (fun c5 => ?_) (fun c5 => ?_)
  · have h := h.1 c5
    refine zu_aload_n d_8085_12 rfl (zs_ra _) ?_
    refine zg_8_191 rfl d_8085_13 k4 ?_
    refine zu_aload_n d_8085_16 rfl (zs_ra _) ?_
    refine zg_8_653 rfl d_8085_17 k4 ?_
    refine zu_iconst d_8085_20 zi_1 ?_
    refine zu_stk d_8085_21 rfl rfl ?_
    obtain ⟨b6, e7, h⟩ := h
    refine zs_stk1 (zs_rfe e7) ?_
    obtain ⟨k8, h⟩ := h
    refine zu_iald (k := 0) d_8085_22 rfl rfl k8 ?_
    refine zu_istore_n d_8085_23 (zs_lt zq_8085 rfl) ?_
    refine zu_iload_n d_8085_24 rfl ?_
    refine zu_bipush d_8085_25 zj_14 ?_
    refine zu_cmpeq (t := 46) d_8085_27 rfl (fun c9 => ?_) (fun c9 => ?_)
    · have h := h.1 c9
      exact (u_X9_knownArgument_46 hB h).weak ⟨rfl, rfl, rfl, rfl, trivial⟩
    · have h := h.2 c9
      exact (u_X9_knownArgument_30 hB h).weak ⟨rfl, rfl, rfl, rfl, trivial⟩
  · have h := h.2 c5
    exact zu_vret d_8085_11 zr_8085 h
/-! SchemaPascalModel.wants(I)I -/
theorem zm_8086 {σ : Nat → Nat} {n0 : Nat} {bf : ab_B} : ab_code (zx σ n0 bf).1 8086 = prog_17_method_89_code := rfl
theorem zq_8086 {σ : Nat → Nat} {n0 : Nat} {bf : ab_B} : ab_maxL (zx σ n0 bf).1 8086 = 2 := rfl
theorem zr_8086 {σ : Nat → Nat} {n0 : Nat} {bf : ab_B} : ab_ret (zx σ n0 bf).1 8086 = (Option.some Jvm.ClassFile.FieldType.int) := rfl
theorem d_8086_0 {σ : Nat → Nat} {n0 : Nat} {bf : ab_B} : decode (ab_code (zx σ n0 bf).1 8086) 0 = .ok (.iload_n 1, 1) := zd zm_8086 (by decide +kernel)
theorem d_8086_1 {σ : Nat → Nat} {n0 : Nat} {bf : ab_B} : decode (ab_code (zx σ n0 bf).1 8086) 1 = .ok (.bipush 18, 2) := zd zm_8086 (by decide +kernel)
theorem d_8086_3 {σ : Nat → Nat} {n0 : Nat} {bf : ab_B} : decode (ab_code (zx σ n0 bf).1 8086) 3 = .ok (.if_icmp .ne 7, 3) := zd zm_8086 (by decide +kernel)
theorem d_8086_6 {σ : Nat → Nat} {n0 : Nat} {bf : ab_B} : decode (ab_code (zx σ n0 bf).1 8086) 6 = .ok (.iconst 0, 1) := zd zm_8086 (by decide +kernel)
theorem d_8086_7 {σ : Nat → Nat} {n0 : Nat} {bf : ab_B} : decode (ab_code (zx σ n0 bf).1 8086) 7 = .ok (.goto 24, 3) := zd zm_8086 (by decide +kernel)
theorem d_8086_10 {σ : Nat → Nat} {n0 : Nat} {bf : ab_B} : decode (ab_code (zx σ n0 bf).1 8086) 10 = .ok (.iload_n 1, 1) := zd zm_8086 (by decide +kernel)
theorem d_8086_11 {σ : Nat → Nat} {n0 : Nat} {bf : ab_B} : decode (ab_code (zx σ n0 bf).1 8086) 11 = .ok (.bipush 16, 2) := zd zm_8086 (by decide +kernel)
theorem d_8086_13 {σ : Nat → Nat} {n0 : Nat} {bf : ab_B} : decode (ab_code (zx σ n0 bf).1 8086) 13 = .ok (.if_icmp .ne 7, 3) := zd zm_8086 (by decide +kernel)
theorem d_8086_16 {σ : Nat → Nat} {n0 : Nat} {bf : ab_B} : decode (ab_code (zx σ n0 bf).1 8086) 16 = .ok (.iconst 2, 1) := zd zm_8086 (by decide +kernel)
theorem d_8086_17 {σ : Nat → Nat} {n0 : Nat} {bf : ab_B} : decode (ab_code (zx σ n0 bf).1 8086) 17 = .ok (.goto 14, 3) := zd zm_8086 (by decide +kernel)
theorem d_8086_20 {σ : Nat → Nat} {n0 : Nat} {bf : ab_B} : decode (ab_code (zx σ n0 bf).1 8086) 20 = .ok (.iload_n 1, 1) := zd zm_8086 (by decide +kernel)
theorem d_8086_21 {σ : Nat → Nat} {n0 : Nat} {bf : ab_B} : decode (ab_code (zx σ n0 bf).1 8086) 21 = .ok (.bipush 17, 2) := zd zm_8086 (by decide +kernel)
theorem d_8086_23 {σ : Nat → Nat} {n0 : Nat} {bf : ab_B} : decode (ab_code (zx σ n0 bf).1 8086) 23 = .ok (.if_icmp .ne 7, 3) := zd zm_8086 (by decide +kernel)
theorem d_8086_26 {σ : Nat → Nat} {n0 : Nat} {bf : ab_B} : decode (ab_code (zx σ n0 bf).1 8086) 26 = .ok (.iconst 3, 1) := zd zm_8086 (by decide +kernel)
theorem d_8086_27 {σ : Nat → Nat} {n0 : Nat} {bf : ab_B} : decode (ab_code (zx σ n0 bf).1 8086) 27 = .ok (.goto 4, 3) := zd zm_8086 (by decide +kernel)
theorem d_8086_30 {σ : Nat → Nat} {n0 : Nat} {bf : ab_B} : decode (ab_code (zx σ n0 bf).1 8086) 30 = .ok (.iconst 1, 1) := zd zm_8086 (by decide +kernel)
theorem d_8086_31 {σ : Nat → Nat} {n0 : Nat} {bf : ab_B} : decode (ab_code (zx σ n0 bf).1 8086) 31 = .ok (.ireturn, 1) := zd zm_8086 (by decide +kernel)
def w_X9_wants (X : zs_X) (d : Nat) (p0 : Nat) (p1 : Int32) (S : zs_T) (Q : zs_Q) : Prop :=
  (((¬ p1 = (18 : Int32) → (((¬ p1 = (16 : Int32) → (((¬ p1 = (17 : Int32) → (Q (.returned (some (.int (1 : Int32)))) S)) ∧ (¬ (¬ p1 = (17 : Int32)) → (Q (.returned (some (.int (3 : Int32)))) S))))) ∧ (¬ (¬ p1 = (16 : Int32)) → (Q (.returned (some (.int (2 : Int32)))) S))))) ∧ (¬ (¬ p1 = (18 : Int32)) → (Q (.returned (some (.int (0 : Int32)))) S))))
theorem u_X9_wants {σ : Nat → Nat} {n0 : Nat} {bf : ab_B} {d : Nat} {p0 : Nat} {p1 : Int32} {S : zs_T} {Q : zs_Q} (hB : zt_B bf) (hd : 1 ≤ d) (h : w_X9_wants (zx σ n0 bf) (d - 1) p0 p1 S Q) : zs_C (zx σ n0 bf) d 8086 [.ref p0, .int p1] S Q := by
  have hL : lv_args 0 [.ref p0, .int p1] = [(0, .ref p0), (1, .int p1)] := rfl
  refine zs_C.of1 (hB.2 8086 (by decide) (by decide)) hd (by rw [hL]; exact zs_sub_self _ (by exact ⟨rfl, rfl, trivial⟩)) ?_
  rw [hL]
  clear hL
  unfold w_X9_wants at h
  refine zu_iload_n d_8086_0 rfl ?_
  refine zu_bipush d_8086_1 zj_18 ?_
  refine zu_cmpne (t := 10) d_8086_3 rfl (fun c1 => ?_) (fun c1 => ?_)
  · have h := h.1 c1
    refine zu_iload_n d_8086_10 rfl ?_
    refine zu_bipush d_8086_11 zj_16 ?_
    refine zu_cmpne (t := 20) d_8086_13 rfl (fun c2 => ?_) (fun c2 => ?_)
    · have h := h.1 c2
      refine zu_iload_n d_8086_20 rfl ?_
      refine zu_bipush d_8086_21 zj_17 ?_
      refine zu_cmpne (t := 30) d_8086_23 rfl (fun c3 => ?_) (fun c3 => ?_)
      · have h := h.1 c3
        refine zu_iconst d_8086_30 zi_1 ?_
        exact zu_iret d_8086_31 zr_8086 rfl h
      · have h := h.2 c3
        refine zu_iconst d_8086_26 zi_3 ?_
        refine zu_goto (t := 31) d_8086_27 rfl ?_
        exact zu_iret d_8086_31 zr_8086 rfl h
    · have h := h.2 c2
      refine zu_iconst d_8086_16 zi_2 ?_
      refine zu_goto (t := 31) d_8086_17 rfl ?_
      exact zu_iret d_8086_31 zr_8086 rfl h
  · have h := h.2 c1
    refine zu_iconst d_8086_6 zi_0 ?_
    refine zu_goto (t := 31) d_8086_7 rfl ?_
    exact zu_iret d_8086_31 zr_8086 rfl h
/-! SchemaPascalModel.knowed(II)V -/
theorem zm_8087 {σ : Nat → Nat} {n0 : Nat} {bf : ab_B} : ab_code (zx σ n0 bf).1 8087 = prog_17_method_92_code := rfl
theorem zq_8087 {σ : Nat → Nat} {n0 : Nat} {bf : ab_B} : ab_maxL (zx σ n0 bf).1 8087 = 7 := rfl
theorem zr_8087 {σ : Nat → Nat} {n0 : Nat} {bf : ab_B} : ab_ret (zx σ n0 bf).1 8087 = (Option.none : Option Jvm.ClassFile.FieldType) := rfl
theorem d_8087_0 {σ : Nat → Nat} {n0 : Nat} {bf : ab_B} : decode (ab_code (zx σ n0 bf).1 8087) 0 = .ok (.aload_n 0, 1) := zd zm_8087 (by decide +kernel)
theorem d_8087_1 {σ : Nat → Nat} {n0 : Nat} {bf : ab_B} : decode (ab_code (zx σ n0 bf).1 8087) 1 = .ok (.getfield 444, 3) := zd zm_8087 (by decide +kernel)
theorem d_8087_4 {σ : Nat → Nat} {n0 : Nat} {bf : ab_B} : decode (ab_code (zx σ n0 bf).1 8087) 4 = .ok (.ifCond .le 4, 3) := zd zm_8087 (by decide +kernel)
theorem d_8087_7 {σ : Nat → Nat} {n0 : Nat} {bf : ab_B} : decode (ab_code (zx σ n0 bf).1 8087) 7 = .ok (.return_, 1) := zd zm_8087 (by decide +kernel)
theorem d_8087_8 {σ : Nat → Nat} {n0 : Nat} {bf : ab_B} : decode (ab_code (zx σ n0 bf).1 8087) 8 = .ok (.aload_n 0, 1) := zd zm_8087 (by decide +kernel)
theorem d_8087_9 {σ : Nat → Nat} {n0 : Nat} {bf : ab_B} : decode (ab_code (zx σ n0 bf).1 8087) 9 = .ok (.bipush 9, 2) := zd zm_8087 (by decide +kernel)
theorem d_8087_11 {σ : Nat → Nat} {n0 : Nat} {bf : ab_B} : decode (ab_code (zx σ n0 bf).1 8087) 11 = .ok (.invokevirtual 746, 3) := zd zm_8087 (by decide +kernel)
theorem d_8087_14 {σ : Nat → Nat} {n0 : Nat} {bf : ab_B} : decode (ab_code (zx σ n0 bf).1 8087) 14 = .ok (.aload_n 0, 1) := zd zm_8087 (by decide +kernel)
theorem d_8087_15 {σ : Nat → Nat} {n0 : Nat} {bf : ab_B} : decode (ab_code (zx σ n0 bf).1 8087) 15 = .ok (.dup, 1) := zd zm_8087 (by decide +kernel)
theorem d_8087_16 {σ : Nat → Nat} {n0 : Nat} {bf : ab_B} : decode (ab_code (zx σ n0 bf).1 8087) 16 = .ok (.getfield 653, 3) := zd zm_8087 (by decide +kernel)
theorem d_8087_19 {σ : Nat → Nat} {n0 : Nat} {bf : ab_B} : decode (ab_code (zx σ n0 bf).1 8087) 19 = .ok (.aload_n 0, 1) := zd zm_8087 (by decide +kernel)
theorem d_8087_20 {σ : Nat → Nat} {n0 : Nat} {bf : ab_B} : decode (ab_code (zx σ n0 bf).1 8087) 20 = .ok (.iload_n 1, 1) := zd zm_8087 (by decide +kernel)
theorem d_8087_21 {σ : Nat → Nat} {n0 : Nat} {bf : ab_B} : decode (ab_code (zx σ n0 bf).1 8087) 21 = .ok (.invokevirtual 771, 3) := zd zm_8087 (by decide +kernel)
theorem d_8087_24 {σ : Nat → Nat} {n0 : Nat} {bf : ab_B} : decode (ab_code (zx σ n0 bf).1 8087) 24 = .ok (.iconst 1, 1) := zd zm_8087 (by decide +kernel)
theorem d_8087_25 {σ : Nat → Nat} {n0 : Nat} {bf : ab_B} : decode (ab_code (zx σ n0 bf).1 8087) 25 = .ok (.isub, 1) := zd zm_8087 (by decide +kernel)
theorem d_8087_26 {σ : Nat → Nat} {n0 : Nat} {bf : ab_B} : decode (ab_code (zx σ n0 bf).1 8087) 26 = .ok (.isub, 1) := zd zm_8087 (by decide +kernel)
theorem d_8087_27 {σ : Nat → Nat} {n0 : Nat} {bf : ab_B} : decode (ab_code (zx σ n0 bf).1 8087) 27 = .ok (.putfield 653, 3) := zd zm_8087 (by decide +kernel)
theorem d_8087_30 {σ : Nat → Nat} {n0 : Nat} {bf : ab_B} : decode (ab_code (zx σ n0 bf).1 8087) 30 = .ok (.aload_n 0, 1) := zd zm_8087 (by decide +kernel)
theorem d_8087_31 {σ : Nat → Nat} {n0 : Nat} {bf : ab_B} : decode (ab_code (zx σ n0 bf).1 8087) 31 = .ok (.getfield 653, 3) := zd zm_8087 (by decide +kernel)
theorem d_8087_34 {σ : Nat → Nat} {n0 : Nat} {bf : ab_B} : decode (ab_code (zx σ n0 bf).1 8087) 34 = .ok (.iconst 1, 1) := zd zm_8087 (by decide +kernel)
theorem d_8087_35 {σ : Nat → Nat} {n0 : Nat} {bf : ab_B} : decode (ab_code (zx σ n0 bf).1 8087) 35 = .ok (.isub, 1) := zd zm_8087 (by decide +kernel)
theorem d_8087_36 {σ : Nat → Nat} {n0 : Nat} {bf : ab_B} : decode (ab_code (zx σ n0 bf).1 8087) 36 = .ok (.istore_n 3, 1) := zd zm_8087 (by decide +kernel)
theorem d_8087_37 {σ : Nat → Nat} {n0 : Nat} {bf : ab_B} : decode (ab_code (zx σ n0 bf).1 8087) 37 = .ok (.aload_n 0, 1) := zd zm_8087 (by decide +kernel)
theorem d_8087_38 {σ : Nat → Nat} {n0 : Nat} {bf : ab_B} : decode (ab_code (zx σ n0 bf).1 8087) 38 = .ok (.getfield 191, 3) := zd zm_8087 (by decide +kernel)
theorem d_8087_41 {σ : Nat → Nat} {n0 : Nat} {bf : ab_B} : decode (ab_code (zx σ n0 bf).1 8087) 41 = .ok (.iload_n 3, 1) := zd zm_8087 (by decide +kernel)
theorem d_8087_42 {σ : Nat → Nat} {n0 : Nat} {bf : ab_B} : decode (ab_code (zx σ n0 bf).1 8087) 42 = .ok (.iaload, 1) := zd zm_8087 (by decide +kernel)
theorem d_8087_43 {σ : Nat → Nat} {n0 : Nat} {bf : ab_B} : decode (ab_code (zx σ n0 bf).1 8087) 43 = .ok (.istore 4, 2) := zd zm_8087 (by decide +kernel)
theorem d_8087_45 {σ : Nat → Nat} {n0 : Nat} {bf : ab_B} : decode (ab_code (zx σ n0 bf).1 8087) 45 = .ok (.iload_n 1, 1) := zd zm_8087 (by decide +kernel)
theorem d_8087_46 {σ : Nat → Nat} {n0 : Nat} {bf : ab_B} : decode (ab_code (zx σ n0 bf).1 8087) 46 = .ok (.bipush 10, 2) := zd zm_8087 (by decide +kernel)
theorem d_8087_48 {σ : Nat → Nat} {n0 : Nat} {bf : ab_B} : decode (ab_code (zx σ n0 bf).1 8087) 48 = .ok (.if_icmp .eq 21, 3) := zd zm_8087 (by decide +kernel)
theorem d_8087_51 {σ : Nat → Nat} {n0 : Nat} {bf : ab_B} : decode (ab_code (zx σ n0 bf).1 8087) 51 = .ok (.iload_n 1, 1) := zd zm_8087 (by decide +kernel)
theorem d_8087_52 {σ : Nat → Nat} {n0 : Nat} {bf : ab_B} : decode (ab_code (zx σ n0 bf).1 8087) 52 = .ok (.bipush 11, 2) := zd zm_8087 (by decide +kernel)
theorem d_8087_54 {σ : Nat → Nat} {n0 : Nat} {bf : ab_B} : decode (ab_code (zx σ n0 bf).1 8087) 54 = .ok (.if_icmp .eq 15, 3) := zd zm_8087 (by decide +kernel)
theorem d_8087_57 {σ : Nat → Nat} {n0 : Nat} {bf : ab_B} : decode (ab_code (zx σ n0 bf).1 8087) 57 = .ok (.iload_n 1, 1) := zd zm_8087 (by decide +kernel)
theorem d_8087_58 {σ : Nat → Nat} {n0 : Nat} {bf : ab_B} : decode (ab_code (zx σ n0 bf).1 8087) 58 = .ok (.bipush 12, 2) := zd zm_8087 (by decide +kernel)
theorem d_8087_60 {σ : Nat → Nat} {n0 : Nat} {bf : ab_B} : decode (ab_code (zx σ n0 bf).1 8087) 60 = .ok (.if_icmp .eq 9, 3) := zd zm_8087 (by decide +kernel)
theorem d_8087_63 {σ : Nat → Nat} {n0 : Nat} {bf : ab_B} : decode (ab_code (zx σ n0 bf).1 8087) 63 = .ok (.iload_n 1, 1) := zd zm_8087 (by decide +kernel)
theorem d_8087_64 {σ : Nat → Nat} {n0 : Nat} {bf : ab_B} : decode (ab_code (zx σ n0 bf).1 8087) 64 = .ok (.bipush 13, 2) := zd zm_8087 (by decide +kernel)
theorem d_8087_66 {σ : Nat → Nat} {n0 : Nat} {bf : ab_B} : decode (ab_code (zx σ n0 bf).1 8087) 66 = .ok (.if_icmp .ne 7, 3) := zd zm_8087 (by decide +kernel)
theorem d_8087_69 {σ : Nat → Nat} {n0 : Nat} {bf : ab_B} : decode (ab_code (zx σ n0 bf).1 8087) 69 = .ok (.iconst 1, 1) := zd zm_8087 (by decide +kernel)
theorem d_8087_70 {σ : Nat → Nat} {n0 : Nat} {bf : ab_B} : decode (ab_code (zx σ n0 bf).1 8087) 70 = .ok (.goto 4, 3) := zd zm_8087 (by decide +kernel)
theorem d_8087_73 {σ : Nat → Nat} {n0 : Nat} {bf : ab_B} : decode (ab_code (zx σ n0 bf).1 8087) 73 = .ok (.iconst 0, 1) := zd zm_8087 (by decide +kernel)
theorem d_8087_74 {σ : Nat → Nat} {n0 : Nat} {bf : ab_B} : decode (ab_code (zx σ n0 bf).1 8087) 74 = .ok (.istore 5, 2) := zd zm_8087 (by decide +kernel)
theorem d_8087_76 {σ : Nat → Nat} {n0 : Nat} {bf : ab_B} : decode (ab_code (zx σ n0 bf).1 8087) 76 = .ok (.iload_n 1, 1) := zd zm_8087 (by decide +kernel)
theorem d_8087_77 {σ : Nat → Nat} {n0 : Nat} {bf : ab_B} : decode (ab_code (zx σ n0 bf).1 8087) 77 = .ok (.bipush 11, 2) := zd zm_8087 (by decide +kernel)
theorem d_8087_79 {σ : Nat → Nat} {n0 : Nat} {bf : ab_B} : decode (ab_code (zx σ n0 bf).1 8087) 79 = .ok (.if_icmp .eq 15, 3) := zd zm_8087 (by decide +kernel)
theorem d_8087_82 {σ : Nat → Nat} {n0 : Nat} {bf : ab_B} : decode (ab_code (zx σ n0 bf).1 8087) 82 = .ok (.iload_n 1, 1) := zd zm_8087 (by decide +kernel)
theorem d_8087_83 {σ : Nat → Nat} {n0 : Nat} {bf : ab_B} : decode (ab_code (zx σ n0 bf).1 8087) 83 = .ok (.bipush 12, 2) := zd zm_8087 (by decide +kernel)
theorem d_8087_85 {σ : Nat → Nat} {n0 : Nat} {bf : ab_B} : decode (ab_code (zx σ n0 bf).1 8087) 85 = .ok (.if_icmp .eq 9, 3) := zd zm_8087 (by decide +kernel)
theorem d_8087_88 {σ : Nat → Nat} {n0 : Nat} {bf : ab_B} : decode (ab_code (zx σ n0 bf).1 8087) 88 = .ok (.iload_n 1, 1) := zd zm_8087 (by decide +kernel)
theorem d_8087_89 {σ : Nat → Nat} {n0 : Nat} {bf : ab_B} : decode (ab_code (zx σ n0 bf).1 8087) 89 = .ok (.bipush 13, 2) := zd zm_8087 (by decide +kernel)
theorem d_8087_91 {σ : Nat → Nat} {n0 : Nat} {bf : ab_B} : decode (ab_code (zx σ n0 bf).1 8087) 91 = .ok (.if_icmp .ne 63, 3) := zd zm_8087 (by decide +kernel)
theorem d_8087_94 {σ : Nat → Nat} {n0 : Nat} {bf : ab_B} : decode (ab_code (zx σ n0 bf).1 8087) 94 = .ok (.aload_n 0, 1) := zd zm_8087 (by decide +kernel)
theorem d_8087_95 {σ : Nat → Nat} {n0 : Nat} {bf : ab_B} : decode (ab_code (zx σ n0 bf).1 8087) 95 = .ok (.bipush 20, 2) := zd zm_8087 (by decide +kernel)
theorem d_8087_97 {σ : Nat → Nat} {n0 : Nat} {bf : ab_B} : decode (ab_code (zx σ n0 bf).1 8087) 97 = .ok (.iload_n 1, 1) := zd zm_8087 (by decide +kernel)
theorem d_8087_98 {σ : Nat → Nat} {n0 : Nat} {bf : ab_B} : decode (ab_code (zx σ n0 bf).1 8087) 98 = .ok (.bipush 11, 2) := zd zm_8087 (by decide +kernel)
theorem d_8087_100 {σ : Nat → Nat} {n0 : Nat} {bf : ab_B} : decode (ab_code (zx σ n0 bf).1 8087) 100 = .ok (.if_icmp .ne 8, 3) := zd zm_8087 (by decide +kernel)
theorem d_8087_103 {σ : Nat → Nat} {n0 : Nat} {bf : ab_B} : decode (ab_code (zx σ n0 bf).1 8087) 103 = .ok (.bipush 18, 2) := zd zm_8087 (by decide +kernel)
theorem d_8087_105 {σ : Nat → Nat} {n0 : Nat} {bf : ab_B} : decode (ab_code (zx σ n0 bf).1 8087) 105 = .ok (.goto 16, 3) := zd zm_8087 (by decide +kernel)
theorem d_8087_108 {σ : Nat → Nat} {n0 : Nat} {bf : ab_B} : decode (ab_code (zx σ n0 bf).1 8087) 108 = .ok (.iload_n 1, 1) := zd zm_8087 (by decide +kernel)
theorem d_8087_109 {σ : Nat → Nat} {n0 : Nat} {bf : ab_B} : decode (ab_code (zx σ n0 bf).1 8087) 109 = .ok (.bipush 12, 2) := zd zm_8087 (by decide +kernel)
theorem d_8087_111 {σ : Nat → Nat} {n0 : Nat} {bf : ab_B} : decode (ab_code (zx σ n0 bf).1 8087) 111 = .ok (.if_icmp .ne 8, 3) := zd zm_8087 (by decide +kernel)
theorem d_8087_114 {σ : Nat → Nat} {n0 : Nat} {bf : ab_B} : decode (ab_code (zx σ n0 bf).1 8087) 114 = .ok (.bipush 19, 2) := zd zm_8087 (by decide +kernel)
theorem d_8087_116 {σ : Nat → Nat} {n0 : Nat} {bf : ab_B} : decode (ab_code (zx σ n0 bf).1 8087) 116 = .ok (.goto 5, 3) := zd zm_8087 (by decide +kernel)
theorem d_8087_119 {σ : Nat → Nat} {n0 : Nat} {bf : ab_B} : decode (ab_code (zx σ n0 bf).1 8087) 119 = .ok (.bipush 20, 2) := zd zm_8087 (by decide +kernel)
theorem d_8087_121 {σ : Nat → Nat} {n0 : Nat} {bf : ab_B} : decode (ab_code (zx σ n0 bf).1 8087) 121 = .ok (.iadd, 1) := zd zm_8087 (by decide +kernel)
theorem d_8087_122 {σ : Nat → Nat} {n0 : Nat} {bf : ab_B} : decode (ab_code (zx σ n0 bf).1 8087) 122 = .ok (.iload_n 1, 1) := zd zm_8087 (by decide +kernel)
theorem d_8087_123 {σ : Nat → Nat} {n0 : Nat} {bf : ab_B} : decode (ab_code (zx σ n0 bf).1 8087) 123 = .ok (.bipush 11, 2) := zd zm_8087 (by decide +kernel)
theorem d_8087_125 {σ : Nat → Nat} {n0 : Nat} {bf : ab_B} : decode (ab_code (zx σ n0 bf).1 8087) 125 = .ok (.if_icmp .ne 9, 3) := zd zm_8087 (by decide +kernel)
theorem d_8087_128 {σ : Nat → Nat} {n0 : Nat} {bf : ab_B} : decode (ab_code (zx σ n0 bf).1 8087) 128 = .ok (.sipush 255, 3) := zd zm_8087 (by decide +kernel)
theorem d_8087_131 {σ : Nat → Nat} {n0 : Nat} {bf : ab_B} : decode (ab_code (zx σ n0 bf).1 8087) 131 = .ok (.goto 13, 3) := zd zm_8087 (by decide +kernel)
theorem d_8087_134 {σ : Nat → Nat} {n0 : Nat} {bf : ab_B} : decode (ab_code (zx σ n0 bf).1 8087) 134 = .ok (.aload_n 0, 1) := zd zm_8087 (by decide +kernel)
theorem d_8087_135 {σ : Nat → Nat} {n0 : Nat} {bf : ab_B} : decode (ab_code (zx σ n0 bf).1 8087) 135 = .ok (.aload_n 0, 1) := zd zm_8087 (by decide +kernel)
theorem d_8087_136 {σ : Nat → Nat} {n0 : Nat} {bf : ab_B} : decode (ab_code (zx σ n0 bf).1 8087) 136 = .ok (.iload 4, 2) := zd zm_8087 (by decide +kernel)
theorem d_8087_138 {σ : Nat → Nat} {n0 : Nat} {bf : ab_B} : decode (ab_code (zx σ n0 bf).1 8087) 138 = .ok (.invokevirtual 561, 3) := zd zm_8087 (by decide +kernel)
theorem d_8087_141 {σ : Nat → Nat} {n0 : Nat} {bf : ab_B} : decode (ab_code (zx σ n0 bf).1 8087) 141 = .ok (.invokevirtual 774, 3) := zd zm_8087 (by decide +kernel)
theorem d_8087_144 {σ : Nat → Nat} {n0 : Nat} {bf : ab_B} : decode (ab_code (zx σ n0 bf).1 8087) 144 = .ok (.iconst 0, 1) := zd zm_8087 (by decide +kernel)
theorem d_8087_145 {σ : Nat → Nat} {n0 : Nat} {bf : ab_B} : decode (ab_code (zx σ n0 bf).1 8087) 145 = .ok (.iload_n 2, 1) := zd zm_8087 (by decide +kernel)
theorem d_8087_146 {σ : Nat → Nat} {n0 : Nat} {bf : ab_B} : decode (ab_code (zx σ n0 bf).1 8087) 146 = .ok (.invokevirtual 656, 3) := zd zm_8087 (by decide +kernel)
theorem d_8087_149 {σ : Nat → Nat} {n0 : Nat} {bf : ab_B} : decode (ab_code (zx σ n0 bf).1 8087) 149 = .ok (.istore 6, 2) := zd zm_8087 (by decide +kernel)
theorem d_8087_151 {σ : Nat → Nat} {n0 : Nat} {bf : ab_B} : decode (ab_code (zx σ n0 bf).1 8087) 151 = .ok (.goto 20, 3) := zd zm_8087 (by decide +kernel)
theorem d_8087_154 {σ : Nat → Nat} {n0 : Nat} {bf : ab_B} : decode (ab_code (zx σ n0 bf).1 8087) 154 = .ok (.iload_n 1, 1) := zd zm_8087 (by decide +kernel)
theorem d_8087_155 {σ : Nat → Nat} {n0 : Nat} {bf : ab_B} : decode (ab_code (zx σ n0 bf).1 8087) 155 = .ok (.bipush 10, 2) := zd zm_8087 (by decide +kernel)
theorem d_8087_157 {σ : Nat → Nat} {n0 : Nat} {bf : ab_B} : decode (ab_code (zx σ n0 bf).1 8087) 157 = .ok (.if_icmp .eq 14, 3) := zd zm_8087 (by decide +kernel)
theorem d_8087_160 {σ : Nat → Nat} {n0 : Nat} {bf : ab_B} : decode (ab_code (zx σ n0 bf).1 8087) 160 = .ok (.aload_n 0, 1) := zd zm_8087 (by decide +kernel)
theorem d_8087_161 {σ : Nat → Nat} {n0 : Nat} {bf : ab_B} : decode (ab_code (zx σ n0 bf).1 8087) 161 = .ok (.bipush 61, 2) := zd zm_8087 (by decide +kernel)
theorem d_8087_163 {σ : Nat → Nat} {n0 : Nat} {bf : ab_B} : decode (ab_code (zx σ n0 bf).1 8087) 163 = .ok (.iload_n 1, 1) := zd zm_8087 (by decide +kernel)
theorem d_8087_164 {σ : Nat → Nat} {n0 : Nat} {bf : ab_B} : decode (ab_code (zx σ n0 bf).1 8087) 164 = .ok (.iconst 0, 1) := zd zm_8087 (by decide +kernel)
theorem d_8087_165 {σ : Nat → Nat} {n0 : Nat} {bf : ab_B} : decode (ab_code (zx σ n0 bf).1 8087) 165 = .ok (.iload_n 2, 1) := zd zm_8087 (by decide +kernel)
theorem d_8087_166 {σ : Nat → Nat} {n0 : Nat} {bf : ab_B} : decode (ab_code (zx σ n0 bf).1 8087) 166 = .ok (.invokevirtual 656, 3) := zd zm_8087 (by decide +kernel)
theorem d_8087_169 {σ : Nat → Nat} {n0 : Nat} {bf : ab_B} : decode (ab_code (zx σ n0 bf).1 8087) 169 = .ok (.istore 6, 2) := zd zm_8087 (by decide +kernel)
theorem d_8087_171 {σ : Nat → Nat} {n0 : Nat} {bf : ab_B} : decode (ab_code (zx σ n0 bf).1 8087) 171 = .ok (.aload_n 0, 1) := zd zm_8087 (by decide +kernel)
theorem d_8087_172 {σ : Nat → Nat} {n0 : Nat} {bf : ab_B} : decode (ab_code (zx σ n0 bf).1 8087) 172 = .ok (.getfield 191, 3) := zd zm_8087 (by decide +kernel)
theorem d_8087_175 {σ : Nat → Nat} {n0 : Nat} {bf : ab_B} : decode (ab_code (zx σ n0 bf).1 8087) 175 = .ok (.iload_n 3, 1) := zd zm_8087 (by decide +kernel)
theorem d_8087_176 {σ : Nat → Nat} {n0 : Nat} {bf : ab_B} : decode (ab_code (zx σ n0 bf).1 8087) 176 = .ok (.iload_n 1, 1) := zd zm_8087 (by decide +kernel)
theorem d_8087_177 {σ : Nat → Nat} {n0 : Nat} {bf : ab_B} : decode (ab_code (zx σ n0 bf).1 8087) 177 = .ok (.bipush 11, 2) := zd zm_8087 (by decide +kernel)
theorem d_8087_179 {σ : Nat → Nat} {n0 : Nat} {bf : ab_B} : decode (ab_code (zx σ n0 bf).1 8087) 179 = .ok (.if_icmp .ne 7, 3) := zd zm_8087 (by decide +kernel)
theorem d_8087_182 {σ : Nat → Nat} {n0 : Nat} {bf : ab_B} : decode (ab_code (zx σ n0 bf).1 8087) 182 = .ok (.iconst 3, 1) := zd zm_8087 (by decide +kernel)
theorem d_8087_183 {σ : Nat → Nat} {n0 : Nat} {bf : ab_B} : decode (ab_code (zx σ n0 bf).1 8087) 183 = .ok (.goto 46, 3) := zd zm_8087 (by decide +kernel)
theorem d_8087_186 {σ : Nat → Nat} {n0 : Nat} {bf : ab_B} : decode (ab_code (zx σ n0 bf).1 8087) 186 = .ok (.iload_n 1, 1) := zd zm_8087 (by decide +kernel)
theorem d_8087_187 {σ : Nat → Nat} {n0 : Nat} {bf : ab_B} : decode (ab_code (zx σ n0 bf).1 8087) 187 = .ok (.bipush 12, 2) := zd zm_8087 (by decide +kernel)
theorem d_8087_189 {σ : Nat → Nat} {n0 : Nat} {bf : ab_B} : decode (ab_code (zx σ n0 bf).1 8087) 189 = .ok (.if_icmp .eq 9, 3) := zd zm_8087 (by decide +kernel)
theorem d_8087_192 {σ : Nat → Nat} {n0 : Nat} {bf : ab_B} : decode (ab_code (zx σ n0 bf).1 8087) 192 = .ok (.iload_n 1, 1) := zd zm_8087 (by decide +kernel)
theorem d_8087_193 {σ : Nat → Nat} {n0 : Nat} {bf : ab_B} : decode (ab_code (zx σ n0 bf).1 8087) 193 = .ok (.bipush 13, 2) := zd zm_8087 (by decide +kernel)
theorem d_8087_195 {σ : Nat → Nat} {n0 : Nat} {bf : ab_B} : decode (ab_code (zx σ n0 bf).1 8087) 195 = .ok (.if_icmp .ne 12, 3) := zd zm_8087 (by decide +kernel)
theorem d_8087_198 {σ : Nat → Nat} {n0 : Nat} {bf : ab_B} : decode (ab_code (zx σ n0 bf).1 8087) 198 = .ok (.aload_n 0, 1) := zd zm_8087 (by decide +kernel)
theorem d_8087_199 {σ : Nat → Nat} {n0 : Nat} {bf : ab_B} : decode (ab_code (zx σ n0 bf).1 8087) 199 = .ok (.iload 4, 2) := zd zm_8087 (by decide +kernel)
theorem d_8087_201 {σ : Nat → Nat} {n0 : Nat} {bf : ab_B} : decode (ab_code (zx σ n0 bf).1 8087) 201 = .ok (.invokevirtual 561, 3) := zd zm_8087 (by decide +kernel)
theorem d_8087_204 {σ : Nat → Nat} {n0 : Nat} {bf : ab_B} : decode (ab_code (zx σ n0 bf).1 8087) 204 = .ok (.goto 25, 3) := zd zm_8087 (by decide +kernel)
theorem d_8087_207 {σ : Nat → Nat} {n0 : Nat} {bf : ab_B} : decode (ab_code (zx σ n0 bf).1 8087) 207 = .ok (.iload_n 1, 1) := zd zm_8087 (by decide +kernel)
theorem d_8087_208 {σ : Nat → Nat} {n0 : Nat} {bf : ab_B} : decode (ab_code (zx σ n0 bf).1 8087) 208 = .ok (.bipush 9, 2) := zd zm_8087 (by decide +kernel)
theorem d_8087_210 {σ : Nat → Nat} {n0 : Nat} {bf : ab_B} : decode (ab_code (zx σ n0 bf).1 8087) 210 = .ok (.if_icmp .ne 7, 3) := zd zm_8087 (by decide +kernel)
theorem d_8087_213 {σ : Nat → Nat} {n0 : Nat} {bf : ab_B} : decode (ab_code (zx σ n0 bf).1 8087) 213 = .ok (.iconst 2, 1) := zd zm_8087 (by decide +kernel)
theorem d_8087_214 {σ : Nat → Nat} {n0 : Nat} {bf : ab_B} : decode (ab_code (zx σ n0 bf).1 8087) 214 = .ok (.goto 15, 3) := zd zm_8087 (by decide +kernel)
theorem d_8087_217 {σ : Nat → Nat} {n0 : Nat} {bf : ab_B} : decode (ab_code (zx σ n0 bf).1 8087) 217 = .ok (.iload_n 1, 1) := zd zm_8087 (by decide +kernel)
theorem d_8087_218 {σ : Nat → Nat} {n0 : Nat} {bf : ab_B} : decode (ab_code (zx σ n0 bf).1 8087) 218 = .ok (.bipush 17, 2) := zd zm_8087 (by decide +kernel)
theorem d_8087_220 {σ : Nat → Nat} {n0 : Nat} {bf : ab_B} : decode (ab_code (zx σ n0 bf).1 8087) 220 = .ok (.if_icmp .ne 8, 3) := zd zm_8087 (by decide +kernel)
theorem d_8087_223 {σ : Nat → Nat} {n0 : Nat} {bf : ab_B} : decode (ab_code (zx σ n0 bf).1 8087) 223 = .ok (.bipush 6, 2) := zd zm_8087 (by decide +kernel)
theorem d_8087_225 {σ : Nat → Nat} {n0 : Nat} {bf : ab_B} : decode (ab_code (zx σ n0 bf).1 8087) 225 = .ok (.goto 4, 3) := zd zm_8087 (by decide +kernel)
theorem d_8087_228 {σ : Nat → Nat} {n0 : Nat} {bf : ab_B} : decode (ab_code (zx σ n0 bf).1 8087) 228 = .ok (.iconst 1, 1) := zd zm_8087 (by decide +kernel)
theorem d_8087_229 {σ : Nat → Nat} {n0 : Nat} {bf : ab_B} : decode (ab_code (zx σ n0 bf).1 8087) 229 = .ok (.iastore, 1) := zd zm_8087 (by decide +kernel)
theorem d_8087_230 {σ : Nat → Nat} {n0 : Nat} {bf : ab_B} : decode (ab_code (zx σ n0 bf).1 8087) 230 = .ok (.aload_n 0, 1) := zd zm_8087 (by decide +kernel)
theorem d_8087_231 {σ : Nat → Nat} {n0 : Nat} {bf : ab_B} : decode (ab_code (zx σ n0 bf).1 8087) 231 = .ok (.getfield 194, 3) := zd zm_8087 (by decide +kernel)
theorem d_8087_234 {σ : Nat → Nat} {n0 : Nat} {bf : ab_B} : decode (ab_code (zx σ n0 bf).1 8087) 234 = .ok (.iload_n 3, 1) := zd zm_8087 (by decide +kernel)
theorem d_8087_235 {σ : Nat → Nat} {n0 : Nat} {bf : ab_B} : decode (ab_code (zx σ n0 bf).1 8087) 235 = .ok (.iconst 0, 1) := zd zm_8087 (by decide +kernel)
theorem d_8087_236 {σ : Nat → Nat} {n0 : Nat} {bf : ab_B} : decode (ab_code (zx σ n0 bf).1 8087) 236 = .ok (.bastore, 1) := zd zm_8087 (by decide +kernel)
theorem d_8087_237 {σ : Nat → Nat} {n0 : Nat} {bf : ab_B} : decode (ab_code (zx σ n0 bf).1 8087) 237 = .ok (.aload_n 0, 1) := zd zm_8087 (by decide +kernel)
theorem d_8087_238 {σ : Nat → Nat} {n0 : Nat} {bf : ab_B} : decode (ab_code (zx σ n0 bf).1 8087) 238 = .ok (.getfield 197, 3) := zd zm_8087 (by decide +kernel)
theorem d_8087_241 {σ : Nat → Nat} {n0 : Nat} {bf : ab_B} : decode (ab_code (zx σ n0 bf).1 8087) 241 = .ok (.iload_n 3, 1) := zd zm_8087 (by decide +kernel)
theorem d_8087_242 {σ : Nat → Nat} {n0 : Nat} {bf : ab_B} : decode (ab_code (zx σ n0 bf).1 8087) 242 = .ok (.aload_n 0, 1) := zd zm_8087 (by decide +kernel)
theorem d_8087_243 {σ : Nat → Nat} {n0 : Nat} {bf : ab_B} : decode (ab_code (zx σ n0 bf).1 8087) 243 = .ok (.getfield 197, 3) := zd zm_8087 (by decide +kernel)
theorem d_8087_246 {σ : Nat → Nat} {n0 : Nat} {bf : ab_B} : decode (ab_code (zx σ n0 bf).1 8087) 246 = .ok (.iload_n 3, 1) := zd zm_8087 (by decide +kernel)
theorem d_8087_247 {σ : Nat → Nat} {n0 : Nat} {bf : ab_B} : decode (ab_code (zx σ n0 bf).1 8087) 247 = .ok (.baload, 1) := zd zm_8087 (by decide +kernel)
theorem d_8087_248 {σ : Nat → Nat} {n0 : Nat} {bf : ab_B} : decode (ab_code (zx σ n0 bf).1 8087) 248 = .ok (.ifCond .eq 12, 3) := zd zm_8087 (by decide +kernel)
theorem d_8087_251 {σ : Nat → Nat} {n0 : Nat} {bf : ab_B} : decode (ab_code (zx σ n0 bf).1 8087) 251 = .ok (.iload 5, 2) := zd zm_8087 (by decide +kernel)
theorem d_8087_253 {σ : Nat → Nat} {n0 : Nat} {bf : ab_B} : decode (ab_code (zx σ n0 bf).1 8087) 253 = .ok (.ifCond .eq 7, 3) := zd zm_8087 (by decide +kernel)
theorem d_8087_256 {σ : Nat → Nat} {n0 : Nat} {bf : ab_B} : decode (ab_code (zx σ n0 bf).1 8087) 256 = .ok (.iconst 1, 1) := zd zm_8087 (by decide +kernel)
theorem d_8087_257 {σ : Nat → Nat} {n0 : Nat} {bf : ab_B} : decode (ab_code (zx σ n0 bf).1 8087) 257 = .ok (.goto 4, 3) := zd zm_8087 (by decide +kernel)
theorem d_8087_260 {σ : Nat → Nat} {n0 : Nat} {bf : ab_B} : decode (ab_code (zx σ n0 bf).1 8087) 260 = .ok (.iconst 0, 1) := zd zm_8087 (by decide +kernel)
theorem d_8087_261 {σ : Nat → Nat} {n0 : Nat} {bf : ab_B} : decode (ab_code (zx σ n0 bf).1 8087) 261 = .ok (.bastore, 1) := zd zm_8087 (by decide +kernel)
theorem d_8087_262 {σ : Nat → Nat} {n0 : Nat} {bf : ab_B} : decode (ab_code (zx σ n0 bf).1 8087) 262 = .ok (.aload_n 0, 1) := zd zm_8087 (by decide +kernel)
theorem d_8087_263 {σ : Nat → Nat} {n0 : Nat} {bf : ab_B} : decode (ab_code (zx σ n0 bf).1 8087) 263 = .ok (.getfield 200, 3) := zd zm_8087 (by decide +kernel)
theorem d_8087_266 {σ : Nat → Nat} {n0 : Nat} {bf : ab_B} : decode (ab_code (zx σ n0 bf).1 8087) 266 = .ok (.iload_n 3, 1) := zd zm_8087 (by decide +kernel)
theorem d_8087_267 {σ : Nat → Nat} {n0 : Nat} {bf : ab_B} : decode (ab_code (zx σ n0 bf).1 8087) 267 = .ok (.aload_n 0, 1) := zd zm_8087 (by decide +kernel)
theorem d_8087_268 {σ : Nat → Nat} {n0 : Nat} {bf : ab_B} : decode (ab_code (zx σ n0 bf).1 8087) 268 = .ok (.getfield 200, 3) := zd zm_8087 (by decide +kernel)
theorem d_8087_271 {σ : Nat → Nat} {n0 : Nat} {bf : ab_B} : decode (ab_code (zx σ n0 bf).1 8087) 271 = .ok (.iload_n 3, 1) := zd zm_8087 (by decide +kernel)
theorem d_8087_272 {σ : Nat → Nat} {n0 : Nat} {bf : ab_B} : decode (ab_code (zx σ n0 bf).1 8087) 272 = .ok (.iaload, 1) := zd zm_8087 (by decide +kernel)
theorem d_8087_273 {σ : Nat → Nat} {n0 : Nat} {bf : ab_B} : decode (ab_code (zx σ n0 bf).1 8087) 273 = .ok (.bipush 16, 2) := zd zm_8087 (by decide +kernel)
theorem d_8087_275 {σ : Nat → Nat} {n0 : Nat} {bf : ab_B} : decode (ab_code (zx σ n0 bf).1 8087) 275 = .ok (.iand, 1) := zd zm_8087 (by decide +kernel)
theorem d_8087_276 {σ : Nat → Nat} {n0 : Nat} {bf : ab_B} : decode (ab_code (zx σ n0 bf).1 8087) 276 = .ok (.bipush 8, 2) := zd zm_8087 (by decide +kernel)
theorem d_8087_278 {σ : Nat → Nat} {n0 : Nat} {bf : ab_B} : decode (ab_code (zx σ n0 bf).1 8087) 278 = .ok (.ior, 1) := zd zm_8087 (by decide +kernel)
theorem d_8087_279 {σ : Nat → Nat} {n0 : Nat} {bf : ab_B} : decode (ab_code (zx σ n0 bf).1 8087) 279 = .ok (.iastore, 1) := zd zm_8087 (by decide +kernel)
theorem d_8087_280 {σ : Nat → Nat} {n0 : Nat} {bf : ab_B} : decode (ab_code (zx σ n0 bf).1 8087) 280 = .ok (.aload_n 0, 1) := zd zm_8087 (by decide +kernel)
theorem d_8087_281 {σ : Nat → Nat} {n0 : Nat} {bf : ab_B} : decode (ab_code (zx σ n0 bf).1 8087) 281 = .ok (.getfield 206, 3) := zd zm_8087 (by decide +kernel)
theorem d_8087_284 {σ : Nat → Nat} {n0 : Nat} {bf : ab_B} : decode (ab_code (zx σ n0 bf).1 8087) 284 = .ok (.iload_n 3, 1) := zd zm_8087 (by decide +kernel)
theorem d_8087_285 {σ : Nat → Nat} {n0 : Nat} {bf : ab_B} : decode (ab_code (zx σ n0 bf).1 8087) 285 = .ok (.iload_n 2, 1) := zd zm_8087 (by decide +kernel)
theorem d_8087_286 {σ : Nat → Nat} {n0 : Nat} {bf : ab_B} : decode (ab_code (zx σ n0 bf).1 8087) 286 = .ok (.iastore, 1) := zd zm_8087 (by decide +kernel)
theorem d_8087_287 {σ : Nat → Nat} {n0 : Nat} {bf : ab_B} : decode (ab_code (zx σ n0 bf).1 8087) 287 = .ok (.return_, 1) := zd zm_8087 (by decide +kernel)
def w_X9_knowed_287 (X : zs_X) (d : Nat)  (S : zs_T) (Q : zs_Q) : Prop :=
  (Q (.returned none) S)
theorem u_X9_knowed_287 {σ : Nat → Nat} {n0 : Nat} {bf : ab_B} {d : Nat}  {S : zs_T} {Q : zs_Q} (hB : zt_B bf) (h : w_X9_knowed_287 (zx σ n0 bf) d  S Q) : zs_U (zx σ n0 bf) d 8087 287 [] [] S Q := by
  unfold w_X9_knowed_287 at h
  exact zu_vret d_8087_287 zr_8087 h
def w_X9_knowed_261 (X : zs_X) (d : Nat) (p0 : Nat) (p2 : Int32) (p3 : Int32) (q0 : Option Nat) (q1 : Int32) (q2 : Int32) (S : zs_T) (Q : zs_Q) : Prop :=
  (∃ b1, q0 = some b1 ∧ zs_A S b1 2 q1 ∧ ab_n0 X.1 ≤ b1 ∧ ∀ S5, S5 = zs_si S b1 q1.toNatClampNeg (vp_nar .boolean q2) → zs_K S p0 = some (.inl 8) ∧ ∃ b9, (zs_R S5 8094 p0) = some b9 ∧ zs_A S b9 0 p3 ∧ ab_n0 X.1 ≤ b9 ∧ ∀ S13, S13 = zs_si S5 b9 p3.toNatClampNeg (((zs_i S5 b9 p3.toNatClampNeg) &&& (16 : Int32)) ||| (8 : Int32)) → ∃ b16, (zs_R S13 8096 p0) = some b16 ∧ zs_A S b16 0 p3 ∧ ab_n0 X.1 ≤ b16 ∧ ∀ S20, S20 = zs_si S13 b16 p3.toNatClampNeg p2 → w_X9_knowed_287 X d  S20 Q)
theorem u_X9_knowed_261 {σ : Nat → Nat} {n0 : Nat} {bf : ab_B} {d : Nat} {p0 : Nat} {p2 : Int32} {p3 : Int32} {q0 : Option Nat} {q1 : Int32} {q2 : Int32} {S : zs_T} {Q : zs_Q} (hB : zt_B bf) (h : w_X9_knowed_261 (zx σ n0 bf) d p0 p2 p3 q0 q1 q2 S Q) : zs_U (zx σ n0 bf) d 8087 261 [(0, .ref p0), (2, .int p2), (3, .int p3)] [.int q2, .int q1, va_rf q0] S Q := by
  unfold w_X9_knowed_261 at h
  obtain ⟨b1, e2, h⟩ := h
  refine zs_stk2 (zs_rfe e2) ?_
  obtain ⟨k3, h⟩ := h
  obtain ⟨k4, h⟩ := h
  refine zu_bast_bool (k := 2) d_8087_261 rfl rfl k4 k3 ?_
  generalize e6 : zs_si S b1 q1.toNatClampNeg (vp_nar .boolean q2) = S5
  have h := h S5 e6.symm
  have K7 : ∀ b, zs_K S5 b = zs_K S b := zs_Kt e6 (zs_Ksi _ _ _ _) (fun _ => rfl)
  refine zu_aload_n d_8087_262 rfl (zs_ra _) ?_
  obtain ⟨k8, h⟩ := h
  refine zg_8_200 rfl d_8087_263 ((K7 _).trans k8) ?_
  refine zu_iload_n d_8087_266 rfl ?_
  refine zu_aload_n d_8087_267 rfl (zs_ra _) ?_
  refine zg_8_200 rfl d_8087_268 ((K7 _).trans k8) ?_
  refine zu_iload_n d_8087_271 rfl ?_
  obtain ⟨b9, e10, h⟩ := h
  refine zs_stk1 (zs_rfe e10) ?_
  obtain ⟨k11, h⟩ := h
  refine zu_iald (k := 0) d_8087_272 rfl rfl (zs_Ak K7 k11) ?_
  refine zu_bipush d_8087_273 zj_16 ?_
  refine zu_stk d_8087_275 rfl rfl ?_
  refine zu_bipush d_8087_276 zj_8 ?_
  refine zu_stk d_8087_278 rfl rfl ?_
  refine zs_stk2 (zs_rfe e10) ?_
  obtain ⟨k12, h⟩ := h
  refine zu_iast (k := 0) d_8087_279 rfl rfl k12 (zs_Ak K7 k11) ?_
  generalize e14 : zs_si S5 b9 p3.toNatClampNeg (((zs_i S5 b9 p3.toNatClampNeg) &&& (16 : Int32)) ||| (8 : Int32)) = S13
  have h := h S13 e14.symm
  have K15 : ∀ b, zs_K S13 b = zs_K S b := zs_Kt e14 (zs_Ksi _ _ _ _) K7
  refine zu_aload_n d_8087_280 rfl (zs_ra _) ?_
  refine zg_8_206 rfl d_8087_281 ((K15 _).trans k8) ?_
  refine zu_iload_n d_8087_284 rfl ?_
  refine zu_iload_n d_8087_285 rfl ?_
  obtain ⟨b16, e17, h⟩ := h
  refine zs_stk2 (zs_rfe e17) ?_
  obtain ⟨k18, h⟩ := h
  obtain ⟨k19, h⟩ := h
  refine zu_iast (k := 0) d_8087_286 rfl rfl k19 (zs_Ak K15 k18) ?_
  generalize e21 : zs_si S13 b16 p3.toNatClampNeg p2 = S20
  have h := h S20 e21.symm
  have K22 : ∀ b, zs_K S20 b = zs_K S b := zs_Kt e21 (zs_Ksi _ _ _ _) K15
  exact (u_X9_knowed_287 hB h).weak trivial
def w_X9_knowed_260 (X : zs_X) (d : Nat) (p0 : Nat) (p2 : Int32) (p3 : Int32) (q0 : Option Nat) (q1 : Int32) (S : zs_T) (Q : zs_Q) : Prop :=
  (w_X9_knowed_261 X d p0 p2 p3 q0 q1 (0 : Int32) S Q)
theorem u_X9_knowed_260 {σ : Nat → Nat} {n0 : Nat} {bf : ab_B} {d : Nat} {p0 : Nat} {p2 : Int32} {p3 : Int32} {q0 : Option Nat} {q1 : Int32} {S : zs_T} {Q : zs_Q} (hB : zt_B bf) (h : w_X9_knowed_260 (zx σ n0 bf) d p0 p2 p3 q0 q1 S Q) : zs_U (zx σ n0 bf) d 8087 260 [(0, .ref p0), (2, .int p2), (3, .int p3)] [.int q1, va_rf q0] S Q := by
  unfold w_X9_knowed_260 at h
  refine zu_iconst d_8087_260 zi_0 ?_
  exact (u_X9_knowed_261 hB h).weak ⟨rfl, rfl, rfl, trivial⟩
def w_X9_knowed_229 (X : zs_X) (d : Nat) (p0 : Nat) (p2 : Int32) (p3 : Int32) (p5 : Int32) (q0 : Option Nat) (q1 : Int32) (q2 : Int32) (S : zs_T) (Q : zs_Q) : Prop :=
  (∃ b1, q0 = some b1 ∧ zs_A S b1 0 q1 ∧ ab_n0 X.1 ≤ b1 ∧ ∀ S5, S5 = zs_si S b1 q1.toNatClampNeg q2 → zs_K S p0 = some (.inl 8) ∧ ∃ b9, (zs_R S5 8092 p0) = some b9 ∧ zs_A S b9 2 p3 ∧ ab_n0 X.1 ≤ b9 ∧ ∀ S13, S13 = zs_si S5 b9 p3.toNatClampNeg (vp_nar .boolean (0 : Int32)) → ∃ b16, (zs_R S13 8093 p0) = some b16 ∧ zs_A S b16 2 p3 ∧ (((zs_i S13 b16 p3.toNatClampNeg) = 0 → w_X9_knowed_260 X d p0 p2 p3 (zs_R S13 8093 p0) p3 S13 Q) ∧ (¬ ((zs_i S13 b16 p3.toNatClampNeg) = 0) → (((p5 = 0 → w_X9_knowed_260 X d p0 p2 p3 (zs_R S13 8093 p0) p3 S13 Q) ∧ (¬ (p5 = 0) → (w_X9_knowed_261 X d p0 p2 p3 (zs_R S13 8093 p0) p3 (1 : Int32) S13 Q)))))))
theorem u_X9_knowed_229 {σ : Nat → Nat} {n0 : Nat} {bf : ab_B} {d : Nat} {p0 : Nat} {p2 : Int32} {p3 : Int32} {p5 : Int32} {q0 : Option Nat} {q1 : Int32} {q2 : Int32} {S : zs_T} {Q : zs_Q} (hB : zt_B bf) (h : w_X9_knowed_229 (zx σ n0 bf) d p0 p2 p3 p5 q0 q1 q2 S Q) : zs_U (zx σ n0 bf) d 8087 229 [(0, .ref p0), (2, .int p2), (3, .int p3), (5, .int p5)] [.int q2, .int q1, va_rf q0] S Q := by
  unfold w_X9_knowed_229 at h
  obtain ⟨b1, e2, h⟩ := h
  refine zs_stk2 (zs_rfe e2) ?_
  obtain ⟨k3, h⟩ := h
  obtain ⟨k4, h⟩ := h
  refine zu_iast (k := 0) d_8087_229 rfl rfl k4 k3 ?_
  generalize e6 : zs_si S b1 q1.toNatClampNeg q2 = S5
  have h := h S5 e6.symm
  have K7 : ∀ b, zs_K S5 b = zs_K S b := zs_Kt e6 (zs_Ksi _ _ _ _) (fun _ => rfl)
  refine zu_aload_n d_8087_230 rfl (zs_ra _) ?_
  obtain ⟨k8, h⟩ := h
  refine zg_8_194 rfl d_8087_231 ((K7 _).trans k8) ?_
  refine zu_iload_n d_8087_234 rfl ?_
  refine zu_iconst d_8087_235 zi_0 ?_
  obtain ⟨b9, e10, h⟩ := h
  refine zs_stk2 (zs_rfe e10) ?_
  obtain ⟨k11, h⟩ := h
  obtain ⟨k12, h⟩ := h
  refine zu_bast_bool (k := 2) d_8087_236 rfl rfl k12 (zs_Ak K7 k11) ?_
  generalize e14 : zs_si S5 b9 p3.toNatClampNeg (vp_nar .boolean (0 : Int32)) = S13
  have h := h S13 e14.symm
  have K15 : ∀ b, zs_K S13 b = zs_K S b := zs_Kt e14 (zs_Ksi _ _ _ _) K7
  refine zu_aload_n d_8087_237 rfl (zs_ra _) ?_
  refine zg_8_197 rfl d_8087_238 ((K15 _).trans k8) ?_
  refine zu_iload_n d_8087_241 rfl ?_
  refine zu_aload_n d_8087_242 rfl (zs_ra _) ?_
  refine zg_8_197 rfl d_8087_243 ((K15 _).trans k8) ?_
  refine zu_iload_n d_8087_246 rfl ?_
  obtain ⟨b16, e17, h⟩ := h
  refine zs_stk1 (zs_rfe e17) ?_
  obtain ⟨k18, h⟩ := h
  refine zu_bald (k := 2) d_8087_247 rfl (Or.inr rfl) (zs_Ak K15 k18) ?_
  refine zu_ifeq (t := 260) d_8087_248 rfl (fun c19 => ?_) (fun c19 => ?_)
  · have h := h.1 c19
    exact (u_X9_knowed_260 hB h).weak ⟨rfl, rfl, rfl, trivial⟩
  · have h := h.2 c19
    refine zu_iload d_8087_251 rfl ?_
    refine zu_ifeq (t := 260) d_8087_253 rfl (fun c20 => ?_) (fun c20 => ?_)
    · have h := h.1 c20
      exact (u_X9_knowed_260 hB h).weak ⟨rfl, rfl, rfl, trivial⟩
    · have h := h.2 c20
      refine zu_iconst d_8087_256 zi_1 ?_
      refine zu_goto (t := 261) d_8087_257 rfl ?_
      exact (u_X9_knowed_261 hB h).weak ⟨rfl, rfl, rfl, trivial⟩
def w_X9_knowed_198 (X : zs_X) (d : Nat) (p0 : Nat) (p2 : Int32) (p3 : Int32) (p4 : Int32) (p5 : Int32) (q0 : Option Nat) (q1 : Int32) (S : zs_T) (Q : zs_Q) : Prop :=
  (zs_K S p0 = some (.inl 8) ∧ zs_C X d 8042 [.ref p0, .int p4] S (zs_kI (fun v3 S2 => (w_X9_knowed_229 X d p0 p2 p3 p5 q0 q1 v3 S2 Q)) Q))
theorem u_X9_knowed_198 {σ : Nat → Nat} {n0 : Nat} {bf : ab_B} {d : Nat} {p0 : Nat} {p2 : Int32} {p3 : Int32} {p4 : Int32} {p5 : Int32} {q0 : Option Nat} {q1 : Int32} {S : zs_T} {Q : zs_Q} (hB : zt_B bf) (h : w_X9_knowed_198 (zx σ n0 bf) d p0 p2 p3 p4 p5 q0 q1 S Q) : zs_U (zx σ n0 bf) d 8087 198 [(0, .ref p0), (2, .int p2), (3, .int p3), (4, .int p4), (5, .int p5)] [.int q1, va_rf q0] S Q := by
  unfold w_X9_knowed_198 at h
  refine zu_aload_n d_8087_198 rfl (zs_ra _) ?_
  refine zu_iload d_8087_199 rfl ?_
  obtain ⟨k1, h⟩ := h
  refine zc_8_561 (x0 := p4) hB rfl k1 d_8087_201 (by simp only [List.map_cons, List.map_nil, List.sum_cons, List.sum_nil, zs_cat, zs_cI, zs_cJ, zs_cA]; exact Nat.le_of_ble_eq_true rfl) h (fun v3 S2 h => ?_)
  refine zu_goto (t := 229) d_8087_204 rfl ?_
  exact (u_X9_knowed_229 hB h).weak ⟨rfl, rfl, rfl, rfl, trivial⟩
def w_X9_knowed_171 (X : zs_X) (d : Nat) (p0 : Nat) (p1 : Int32) (p2 : Int32) (p3 : Int32) (p4 : Int32) (p5 : Int32) (S : zs_T) (Q : zs_Q) : Prop :=
  (zs_K S p0 = some (.inl 8) ∧ ((¬ p1 = (11 : Int32) → (((p1 = (12 : Int32) → w_X9_knowed_198 X d p0 p2 p3 p4 p5 (zs_R S 8091 p0) p3 S Q) ∧ (¬ (p1 = (12 : Int32)) → (((¬ p1 = (13 : Int32) → (((¬ p1 = (9 : Int32) → (((¬ p1 = (17 : Int32) → (w_X9_knowed_229 X d p0 p2 p3 p5 (zs_R S 8091 p0) p3 (1 : Int32) S Q)) ∧ (¬ (¬ p1 = (17 : Int32)) → (w_X9_knowed_229 X d p0 p2 p3 p5 (zs_R S 8091 p0) p3 (6 : Int32) S Q))))) ∧ (¬ (¬ p1 = (9 : Int32)) → (w_X9_knowed_229 X d p0 p2 p3 p5 (zs_R S 8091 p0) p3 (2 : Int32) S Q))))) ∧ (¬ (¬ p1 = (13 : Int32)) → w_X9_knowed_198 X d p0 p2 p3 p4 p5 (zs_R S 8091 p0) p3 S Q))))))) ∧ (¬ (¬ p1 = (11 : Int32)) → (w_X9_knowed_229 X d p0 p2 p3 p5 (zs_R S 8091 p0) p3 (3 : Int32) S Q))))
theorem u_X9_knowed_171 {σ : Nat → Nat} {n0 : Nat} {bf : ab_B} {d : Nat} {p0 : Nat} {p1 : Int32} {p2 : Int32} {p3 : Int32} {p4 : Int32} {p5 : Int32} {S : zs_T} {Q : zs_Q} (hB : zt_B bf) (h : w_X9_knowed_171 (zx σ n0 bf) d p0 p1 p2 p3 p4 p5 S Q) : zs_U (zx σ n0 bf) d 8087 171 [(0, .ref p0), (1, .int p1), (2, .int p2), (3, .int p3), (4, .int p4), (5, .int p5)] [] S Q := by
  unfold w_X9_knowed_171 at h
  refine zu_aload_n d_8087_171 rfl (zs_ra _) ?_
  obtain ⟨k1, h⟩ := h
  refine zg_8_191 rfl d_8087_172 k1 ?_
  refine zu_iload_n d_8087_175 rfl ?_
  refine zu_iload_n d_8087_176 rfl ?_
  refine zu_bipush d_8087_177 zj_11 ?_
  refine zu_cmpne (t := 186) d_8087_179 rfl (fun c2 => ?_) (fun c2 => ?_)
  · have h := h.1 c2
    refine zu_iload_n d_8087_186 rfl ?_
    refine zu_bipush d_8087_187 zj_12 ?_
    refine zu_cmpeq (t := 198) d_8087_189 rfl (fun c3 => ?_) (fun c3 => ?_)
    · have h := h.1 c3
      exact (u_X9_knowed_198 hB h).weak ⟨rfl, rfl, rfl, rfl, rfl, trivial⟩
    · have h := h.2 c3
      refine zu_iload_n d_8087_192 rfl ?_
      refine zu_bipush d_8087_193 zj_13 ?_
      refine zu_cmpne (t := 207) d_8087_195 rfl (fun c4 => ?_) (fun c4 => ?_)
      · have h := h.1 c4
        refine zu_iload_n d_8087_207 rfl ?_
        refine zu_bipush d_8087_208 zj_9 ?_
        refine zu_cmpne (t := 217) d_8087_210 rfl (fun c5 => ?_) (fun c5 => ?_)
        · have h := h.1 c5
          refine zu_iload_n d_8087_217 rfl ?_
          refine zu_bipush d_8087_218 zj_17 ?_
          refine zu_cmpne (t := 228) d_8087_220 rfl (fun c6 => ?_) (fun c6 => ?_)
          · have h := h.1 c6
            refine zu_iconst d_8087_228 zi_1 ?_
            exact (u_X9_knowed_229 hB h).weak ⟨rfl, rfl, rfl, rfl, trivial⟩
          · have h := h.2 c6
            refine zu_bipush d_8087_223 zj_6 ?_
            refine zu_goto (t := 229) d_8087_225 rfl ?_
            exact (u_X9_knowed_229 hB h).weak ⟨rfl, rfl, rfl, rfl, trivial⟩
        · have h := h.2 c5
          refine zu_iconst d_8087_213 zi_2 ?_
          refine zu_goto (t := 229) d_8087_214 rfl ?_
          exact (u_X9_knowed_229 hB h).weak ⟨rfl, rfl, rfl, rfl, trivial⟩
      · have h := h.2 c4
        exact (u_X9_knowed_198 hB h).weak ⟨rfl, rfl, rfl, rfl, rfl, trivial⟩
  · have h := h.2 c2
    refine zu_iconst d_8087_182 zi_3 ?_
    refine zu_goto (t := 229) d_8087_183 rfl ?_
    exact (u_X9_knowed_229 hB h).weak ⟨rfl, rfl, rfl, rfl, trivial⟩
def w_X9_knowed_144 (X : zs_X) (d : Nat) (p0 : Nat) (p1 : Int32) (p2 : Int32) (p3 : Int32) (p4 : Int32) (p5 : Int32) (q0 : Option Nat) (q1 : Int32) (q2 : Int32) (S : zs_T) (Q : zs_Q) : Prop :=
  (∃ b1, q0 = some b1 ∧ zs_K S b1 = some (.inl 8) ∧ zs_C X d 8012 [.ref b1, .int q1, .int q2, .int (0 : Int32), .int p2] S (zs_kI (fun v5 S4 => (w_X9_knowed_171 X d p0 p1 p2 p3 p4 p5 S4 Q)) Q))
theorem u_X9_knowed_144 {σ : Nat → Nat} {n0 : Nat} {bf : ab_B} {d : Nat} {p0 : Nat} {p1 : Int32} {p2 : Int32} {p3 : Int32} {p4 : Int32} {p5 : Int32} {q0 : Option Nat} {q1 : Int32} {q2 : Int32} {S : zs_T} {Q : zs_Q} (hB : zt_B bf) (h : w_X9_knowed_144 (zx σ n0 bf) d p0 p1 p2 p3 p4 p5 q0 q1 q2 S Q) : zs_U (zx σ n0 bf) d 8087 144 [(0, .ref p0), (1, .int p1), (2, .int p2), (3, .int p3), (4, .int p4), (5, .int p5)] [.int q2, .int q1, va_rf q0] S Q := by
  unfold w_X9_knowed_144 at h
  refine zu_iconst d_8087_144 zi_0 ?_
  refine zu_iload_n d_8087_145 rfl ?_
  obtain ⟨b1, e2, h⟩ := h
  refine zs_stk4 (zs_rfe e2) ?_
  obtain ⟨k3, h⟩ := h
  refine zc_8_656 (x0 := q1) (x1 := q2) (x2 := (0 : Int32)) (x3 := p2) hB rfl k3 d_8087_146 (Nat.le_of_ble_eq_true rfl) h (fun v5 S4 h => ?_)
  refine zu_istore d_8087_149 (zs_lt zq_8087 rfl) ?_
  refine zu_goto (t := 171) d_8087_151 rfl ?_
  exact (u_X9_knowed_171 hB h).weak ⟨rfl, rfl, rfl, rfl, rfl, rfl, trivial⟩
def w_X9_knowed_121 (X : zs_X) (d : Nat) (p0 : Nat) (p1 : Int32) (p2 : Int32) (p3 : Int32) (p4 : Int32) (p5 : Int32) (q0 : Option Nat) (q1 : Int32) (q2 : Int32) (S : zs_T) (Q : zs_Q) : Prop :=
  (((¬ p1 = (11 : Int32) → (zs_K S p0 = some (.inl 8) ∧ zs_C X d 8042 [.ref p0, .int p4] S (zs_kI (fun v4 S3 => (zs_K S3 p0 = some (.inl 8) ∧ zs_C X d 8088 [.ref p0, .int v4] S3 (zs_kI (fun v7 S6 => w_X9_knowed_144 X d p0 p1 p2 p3 p4 p5 q0 (q1 + q2) v7 S6 Q) Q))) Q))) ∧ (¬ (¬ p1 = (11 : Int32)) → (w_X9_knowed_144 X d p0 p1 p2 p3 p4 p5 q0 (q1 + q2) (255 : Int32) S Q))))
theorem u_X9_knowed_121 {σ : Nat → Nat} {n0 : Nat} {bf : ab_B} {d : Nat} {p0 : Nat} {p1 : Int32} {p2 : Int32} {p3 : Int32} {p4 : Int32} {p5 : Int32} {q0 : Option Nat} {q1 : Int32} {q2 : Int32} {S : zs_T} {Q : zs_Q} (hB : zt_B bf) (h : w_X9_knowed_121 (zx σ n0 bf) d p0 p1 p2 p3 p4 p5 q0 q1 q2 S Q) : zs_U (zx σ n0 bf) d 8087 121 [(0, .ref p0), (1, .int p1), (2, .int p2), (3, .int p3), (4, .int p4), (5, .int p5)] [.int q2, .int q1, va_rf q0] S Q := by
  unfold w_X9_knowed_121 at h
  refine zu_stk d_8087_121 rfl rfl ?_
  refine zu_iload_n d_8087_122 rfl ?_
  refine zu_bipush d_8087_123 zj_11 ?_
  refine zu_cmpne (t := 134) d_8087_125 rfl (fun c1 => ?_) (fun c1 => ?_)
  · have h := h.1 c1
    refine zu_aload_n d_8087_134 rfl (zs_ra _) ?_
    refine zu_aload_n d_8087_135 rfl (zs_ra _) ?_
    refine zu_iload d_8087_136 rfl ?_
    obtain ⟨k2, h⟩ := h
    refine zc_8_561 (x0 := p4) hB rfl k2 d_8087_138 (by simp only [List.map_cons, List.map_nil, List.sum_cons, List.sum_nil, zs_cat, zs_cI, zs_cJ, zs_cA]; exact Nat.le_of_ble_eq_true rfl) h (fun v4 S3 h => ?_)
    obtain ⟨k5, h⟩ := h
    refine zc_8_774 (x0 := v4) hB rfl k5 d_8087_141 (by simp only [List.map_cons, List.map_nil, List.sum_cons, List.sum_nil, zs_cat, zs_cI, zs_cJ, zs_cA]; exact Nat.le_of_ble_eq_true rfl) h (fun v7 S6 h => ?_)
    exact (u_X9_knowed_144 hB h).weak ⟨rfl, rfl, rfl, rfl, rfl, rfl, trivial⟩
  · have h := h.2 c1
    refine zu_sipush d_8087_128 zh_255 ?_
    refine zu_goto (t := 144) d_8087_131 rfl ?_
    exact (u_X9_knowed_144 hB h).weak ⟨rfl, rfl, rfl, rfl, rfl, rfl, trivial⟩
def w_X9_knowed_94 (X : zs_X) (d : Nat) (p0 : Nat) (p1 : Int32) (p2 : Int32) (p3 : Int32) (p4 : Int32) (p5 : Int32) (S : zs_T) (Q : zs_Q) : Prop :=
  (((¬ p1 = (11 : Int32) → (((¬ p1 = (12 : Int32) → (w_X9_knowed_121 X d p0 p1 p2 p3 p4 p5 (some p0) (20 : Int32) (20 : Int32) S Q)) ∧ (¬ (¬ p1 = (12 : Int32)) → (w_X9_knowed_121 X d p0 p1 p2 p3 p4 p5 (some p0) (20 : Int32) (19 : Int32) S Q))))) ∧ (¬ (¬ p1 = (11 : Int32)) → (w_X9_knowed_121 X d p0 p1 p2 p3 p4 p5 (some p0) (20 : Int32) (18 : Int32) S Q))))
theorem u_X9_knowed_94 {σ : Nat → Nat} {n0 : Nat} {bf : ab_B} {d : Nat} {p0 : Nat} {p1 : Int32} {p2 : Int32} {p3 : Int32} {p4 : Int32} {p5 : Int32} {S : zs_T} {Q : zs_Q} (hB : zt_B bf) (h : w_X9_knowed_94 (zx σ n0 bf) d p0 p1 p2 p3 p4 p5 S Q) : zs_U (zx σ n0 bf) d 8087 94 [(0, .ref p0), (1, .int p1), (2, .int p2), (3, .int p3), (4, .int p4), (5, .int p5)] [] S Q := by
  unfold w_X9_knowed_94 at h
  refine zu_aload_n d_8087_94 rfl (zs_ra _) ?_
  refine zu_bipush d_8087_95 zj_20 ?_
  refine zu_iload_n d_8087_97 rfl ?_
  refine zu_bipush d_8087_98 zj_11 ?_
  refine zu_cmpne (t := 108) d_8087_100 rfl (fun c1 => ?_) (fun c1 => ?_)
  · have h := h.1 c1
    refine zu_iload_n d_8087_108 rfl ?_
    refine zu_bipush d_8087_109 zj_12 ?_
    refine zu_cmpne (t := 119) d_8087_111 rfl (fun c2 => ?_) (fun c2 => ?_)
    · have h := h.1 c2
      refine zu_bipush d_8087_119 zj_20 ?_
      exact (u_X9_knowed_121 hB h).weak ⟨rfl, rfl, rfl, rfl, rfl, rfl, trivial⟩
    · have h := h.2 c2
      refine zu_bipush d_8087_114 zj_19 ?_
      refine zu_goto (t := 121) d_8087_116 rfl ?_
      exact (u_X9_knowed_121 hB h).weak ⟨rfl, rfl, rfl, rfl, rfl, rfl, trivial⟩
  · have h := h.2 c1
    refine zu_bipush d_8087_103 zj_18 ?_
    refine zu_goto (t := 121) d_8087_105 rfl ?_
    exact (u_X9_knowed_121 hB h).weak ⟨rfl, rfl, rfl, rfl, rfl, rfl, trivial⟩
def w_X9_knowed_74 (X : zs_X) (d : Nat) (p0 : Nat) (p1 : Int32) (p2 : Int32) (p3 : Int32) (p4 : Int32) (q0 : Int32) (S : zs_T) (Q : zs_Q) : Prop :=
  (((p1 = (11 : Int32) → w_X9_knowed_94 X d p0 p1 p2 p3 p4 q0 S Q) ∧ (¬ (p1 = (11 : Int32)) → (((p1 = (12 : Int32) → w_X9_knowed_94 X d p0 p1 p2 p3 p4 q0 S Q) ∧ (¬ (p1 = (12 : Int32)) → (((¬ p1 = (13 : Int32) → (((p1 = (10 : Int32) → w_X9_knowed_171 X d p0 p1 p2 p3 p4 q0 S Q) ∧ (¬ (p1 = (10 : Int32)) → (zs_K S p0 = some (.inl 8) ∧ zs_C X d 8012 [.ref p0, .int (61 : Int32), .int p1, .int (0 : Int32), .int p2] S (zs_kI (fun v7 S6 => (w_X9_knowed_171 X d p0 p1 p2 p3 p4 q0 S6 Q)) Q)))))) ∧ (¬ (¬ p1 = (13 : Int32)) → w_X9_knowed_94 X d p0 p1 p2 p3 p4 q0 S Q)))))))))
theorem u_X9_knowed_74 {σ : Nat → Nat} {n0 : Nat} {bf : ab_B} {d : Nat} {p0 : Nat} {p1 : Int32} {p2 : Int32} {p3 : Int32} {p4 : Int32} {q0 : Int32} {S : zs_T} {Q : zs_Q} (hB : zt_B bf) (h : w_X9_knowed_74 (zx σ n0 bf) d p0 p1 p2 p3 p4 q0 S Q) : zs_U (zx σ n0 bf) d 8087 74 [(0, .ref p0), (1, .int p1), (2, .int p2), (3, .int p3), (4, .int p4)] [.int q0] S Q := by
  unfold w_X9_knowed_74 at h
  refine zu_istore d_8087_74 (zs_lt zq_8087 rfl) ?_
  refine zu_iload_n d_8087_76 rfl ?_
  refine zu_bipush d_8087_77 zj_11 ?_
  refine zu_cmpeq (t := 94) d_8087_79 rfl (fun c1 => ?_) (fun c1 => ?_)
  · have h := h.1 c1
    exact (u_X9_knowed_94 hB h).weak ⟨rfl, rfl, rfl, rfl, rfl, rfl, trivial⟩
  · have h := h.2 c1
    refine zu_iload_n d_8087_82 rfl ?_
    refine zu_bipush d_8087_83 zj_12 ?_
    refine zu_cmpeq (t := 94) d_8087_85 rfl (fun c2 => ?_) (fun c2 => ?_)
    · have h := h.1 c2
      exact (u_X9_knowed_94 hB h).weak ⟨rfl, rfl, rfl, rfl, rfl, rfl, trivial⟩
    · have h := h.2 c2
      refine zu_iload_n d_8087_88 rfl ?_
      refine zu_bipush d_8087_89 zj_13 ?_
      refine zu_cmpne (t := 154) d_8087_91 rfl (fun c3 => ?_) (fun c3 => ?_)
      · have h := h.1 c3
        refine zu_iload_n d_8087_154 rfl ?_
        refine zu_bipush d_8087_155 zj_10 ?_
        refine zu_cmpeq (t := 171) d_8087_157 rfl (fun c4 => ?_) (fun c4 => ?_)
        · have h := h.1 c4
          exact (u_X9_knowed_171 hB h).weak ⟨rfl, rfl, rfl, rfl, rfl, rfl, trivial⟩
        · have h := h.2 c4
          refine zu_aload_n d_8087_160 rfl (zs_ra _) ?_
          refine zu_bipush d_8087_161 zj_61 ?_
          refine zu_iload_n d_8087_163 rfl ?_
          refine zu_iconst d_8087_164 zi_0 ?_
          refine zu_iload_n d_8087_165 rfl ?_
          obtain ⟨k5, h⟩ := h
          refine zc_8_656 (x0 := (61 : Int32)) (x1 := p1) (x2 := (0 : Int32)) (x3 := p2) hB rfl k5 d_8087_166 (Nat.le_of_ble_eq_true rfl) h (fun v7 S6 h => ?_)
          refine zu_istore d_8087_169 (zs_lt zq_8087 rfl) ?_
          exact (u_X9_knowed_171 hB h).weak ⟨rfl, rfl, rfl, rfl, rfl, rfl, trivial⟩
      · have h := h.2 c3
        exact (u_X9_knowed_94 hB h).weak ⟨rfl, rfl, rfl, rfl, rfl, rfl, trivial⟩
def w_X9_knowed_69 (X : zs_X) (d : Nat) (p0 : Nat) (p1 : Int32) (p2 : Int32) (p3 : Int32) (p4 : Int32) (S : zs_T) (Q : zs_Q) : Prop :=
  (w_X9_knowed_74 X d p0 p1 p2 p3 p4 (1 : Int32) S Q)
theorem u_X9_knowed_69 {σ : Nat → Nat} {n0 : Nat} {bf : ab_B} {d : Nat} {p0 : Nat} {p1 : Int32} {p2 : Int32} {p3 : Int32} {p4 : Int32} {S : zs_T} {Q : zs_Q} (hB : zt_B bf) (h : w_X9_knowed_69 (zx σ n0 bf) d p0 p1 p2 p3 p4 S Q) : zs_U (zx σ n0 bf) d 8087 69 [(0, .ref p0), (1, .int p1), (2, .int p2), (3, .int p3), (4, .int p4)] [] S Q := by
  unfold w_X9_knowed_69 at h
  refine zu_iconst d_8087_69 zi_1 ?_
  refine zu_goto (t := 74) d_8087_70 rfl ?_
  exact (u_X9_knowed_74 hB h).weak ⟨rfl, rfl, rfl, rfl, rfl, trivial⟩
def w_X9_knowed_57 (X : zs_X) (d : Nat) (p0 : Nat) (p1 : Int32) (p2 : Int32) (p3 : Int32) (p4 : Int32) (S : zs_T) (Q : zs_Q) : Prop :=
  (((p1 = (12 : Int32) → w_X9_knowed_69 X d p0 p1 p2 p3 p4 S Q) ∧ (¬ (p1 = (12 : Int32)) → (((¬ p1 = (13 : Int32) → (w_X9_knowed_74 X d p0 p1 p2 p3 p4 (0 : Int32) S Q)) ∧ (¬ (¬ p1 = (13 : Int32)) → w_X9_knowed_69 X d p0 p1 p2 p3 p4 S Q))))))
theorem u_X9_knowed_57 {σ : Nat → Nat} {n0 : Nat} {bf : ab_B} {d : Nat} {p0 : Nat} {p1 : Int32} {p2 : Int32} {p3 : Int32} {p4 : Int32} {S : zs_T} {Q : zs_Q} (hB : zt_B bf) (h : w_X9_knowed_57 (zx σ n0 bf) d p0 p1 p2 p3 p4 S Q) : zs_U (zx σ n0 bf) d 8087 57 [(0, .ref p0), (1, .int p1), (2, .int p2), (3, .int p3), (4, .int p4)] [] S Q := by
  unfold w_X9_knowed_57 at h
  refine zu_iload_n d_8087_57 rfl ?_
  refine zu_bipush d_8087_58 zj_12 ?_
  refine zu_cmpeq (t := 69) d_8087_60 rfl (fun c1 => ?_) (fun c1 => ?_)
  · have h := h.1 c1
    exact (u_X9_knowed_69 hB h).weak ⟨rfl, rfl, rfl, rfl, rfl, trivial⟩
  · have h := h.2 c1
    refine zu_iload_n d_8087_63 rfl ?_
    refine zu_bipush d_8087_64 zj_13 ?_
    refine zu_cmpne (t := 73) d_8087_66 rfl (fun c2 => ?_) (fun c2 => ?_)
    · have h := h.1 c2
      refine zu_iconst d_8087_73 zi_0 ?_
      exact (u_X9_knowed_74 hB h).weak ⟨rfl, rfl, rfl, rfl, rfl, trivial⟩
    · have h := h.2 c2
      exact (u_X9_knowed_69 hB h).weak ⟨rfl, rfl, rfl, rfl, rfl, trivial⟩
def w_X9_knowed_30 (X : zs_X) (d : Nat) (p0 : Nat) (p1 : Int32) (p2 : Int32) (S : zs_T) (Q : zs_Q) : Prop :=
  (zs_K S p0 = some (.inl 8) ∧ ∃ b2, (zs_R S 8091 p0) = some b2 ∧ zs_A S b2 0 ((zs_I S 8097 p0) - (1 : Int32)) ∧ ((p1 = (10 : Int32) → w_X9_knowed_69 X d p0 p1 p2 ((zs_I S 8097 p0) - (1 : Int32)) (zs_i S b2 ((zs_I S 8097 p0) - (1 : Int32)).toNatClampNeg) S Q) ∧ (¬ (p1 = (10 : Int32)) → (((p1 = (11 : Int32) → w_X9_knowed_69 X d p0 p1 p2 ((zs_I S 8097 p0) - (1 : Int32)) (zs_i S b2 ((zs_I S 8097 p0) - (1 : Int32)).toNatClampNeg) S Q) ∧ (¬ (p1 = (11 : Int32)) → w_X9_knowed_57 X d p0 p1 p2 ((zs_I S 8097 p0) - (1 : Int32)) (zs_i S b2 ((zs_I S 8097 p0) - (1 : Int32)).toNatClampNeg) S Q))))))
theorem u_X9_knowed_30 {σ : Nat → Nat} {n0 : Nat} {bf : ab_B} {d : Nat} {p0 : Nat} {p1 : Int32} {p2 : Int32} {S : zs_T} {Q : zs_Q} (hB : zt_B bf) (h : w_X9_knowed_30 (zx σ n0 bf) d p0 p1 p2 S Q) : zs_U (zx σ n0 bf) d 8087 30 [(0, .ref p0), (1, .int p1), (2, .int p2)] [] S Q := by
  unfold w_X9_knowed_30 at h
  refine zu_aload_n d_8087_30 rfl (zs_ra _) ?_
  obtain ⟨k1, h⟩ := h
  refine zg_8_653 rfl d_8087_31 k1 ?_
  refine zu_iconst d_8087_34 zi_1 ?_
  refine zu_stk d_8087_35 rfl rfl ?_
  refine zu_istore_n d_8087_36 (zs_lt zq_8087 rfl) ?_
  refine zu_aload_n d_8087_37 rfl (zs_ra _) ?_
  refine zg_8_191 rfl d_8087_38 k1 ?_
  refine zu_iload_n d_8087_41 rfl ?_
  obtain ⟨b2, e3, h⟩ := h
  refine zs_stk1 (zs_rfe e3) ?_
  obtain ⟨k4, h⟩ := h
  refine zu_iald (k := 0) d_8087_42 rfl rfl k4 ?_
  refine zu_istore d_8087_43 (zs_lt zq_8087 rfl) ?_
  refine zu_iload_n d_8087_45 rfl ?_
  refine zu_bipush d_8087_46 zj_10 ?_
  refine zu_cmpeq (t := 69) d_8087_48 rfl (fun c5 => ?_) (fun c5 => ?_)
  · have h := h.1 c5
    exact (u_X9_knowed_69 hB h).weak ⟨rfl, rfl, rfl, rfl, rfl, trivial⟩
  · have h := h.2 c5
    refine zu_iload_n d_8087_51 rfl ?_
    refine zu_bipush d_8087_52 zj_11 ?_
    refine zu_cmpeq (t := 69) d_8087_54 rfl (fun c6 => ?_) (fun c6 => ?_)
    · have h := h.1 c6
      exact (u_X9_knowed_69 hB h).weak ⟨rfl, rfl, rfl, rfl, rfl, trivial⟩
    · have h := h.2 c6
      exact (u_X9_knowed_57 hB h).weak ⟨rfl, rfl, rfl, rfl, rfl, trivial⟩
def w_X9_knowed (X : zs_X) (d : Nat) (p0 : Nat) (p1 : Int32) (p2 : Int32) (S : zs_T) (Q : zs_Q) : Prop :=
  (zs_K S p0 = some (.inl 8) ∧ (((zs_I S 8010 p0) ≤ 0 → (zs_C X d 8028 [.ref p0, .int (9 : Int32)] S (zs_kV (fun S3 => (zs_K S3 p0 = some (.inl 8) ∧ zs_C X d 8086 [.ref p0, .int p1] S3 (zs_kI (fun v7 S6 => (zs_K S6 p0 = some (.inl 8) ∧ ab_n0 X.1 ≤ p0 ∧ ∀ S10, S10 = zs_sI S6 8097 p0 ((zs_I S3 8097 p0) - (v7 - (1 : Int32))) → w_X9_knowed_30 X d p0 p1 p2 S10 Q)) Q))) Q))) ∧ (¬ ((zs_I S 8010 p0) ≤ 0) → (Q (.returned none) S))))
theorem u_X9_knowed {σ : Nat → Nat} {n0 : Nat} {bf : ab_B} {d : Nat} {p0 : Nat} {p1 : Int32} {p2 : Int32} {S : zs_T} {Q : zs_Q} (hB : zt_B bf) (hd : 1 ≤ d) (h : w_X9_knowed (zx σ n0 bf) (d - 1) p0 p1 p2 S Q) : zs_C (zx σ n0 bf) d 8087 [.ref p0, .int p1, .int p2] S Q := by
  have hL : lv_args 0 [.ref p0, .int p1, .int p2] = [(0, .ref p0), (1, .int p1), (2, .int p2)] := rfl
  refine zs_C.of1 (hB.2 8087 (by decide) (by decide)) hd (by rw [hL]; exact zs_sub_self _ (by exact ⟨rfl, rfl, rfl, trivial⟩)) ?_
  rw [hL]
  clear hL
  unfold w_X9_knowed at h
  refine zu_aload_n d_8087_0 rfl (zs_ra _) ?_
  obtain ⟨k1, h⟩ := h
  refine zg_8_444 rfl d_8087_1 k1 ?_
  refine zu_ifle (t := 8) d_8087_4 rfl (fun c2 => ?_) (fun c2 => ?_)
  · have h := h.1 c2
    refine zu_aload_n d_8087_8 rfl (zs_ra _) ?_
    refine zu_bipush d_8087_9 zj_9 ?_
    refine zc_8_746 (x0 := (9 : Int32)) hB rfl k1 d_8087_11 (Nat.le_of_ble_eq_true rfl) h (fun S3 h => ?_)
    refine zu_aload_n d_8087_14 rfl (zs_ra _) ?_
    refine zu_dup d_8087_15 rfl ?_
    obtain ⟨k5, h⟩ := h
    refine zg_8_653 rfl d_8087_16 k5 ?_
    refine zu_aload_n d_8087_19 rfl (zs_ra _) ?_
    refine zu_iload_n d_8087_20 rfl ?_
    refine zc_8_771 (x0 := p1) hB rfl k5 d_8087_21 (Nat.le_of_ble_eq_true rfl) h (fun v7 S6 h => ?_)
    refine zu_iconst d_8087_24 zi_1 ?_
    refine zu_stk d_8087_25 rfl rfl ?_
    refine zu_stk d_8087_26 rfl rfl ?_
    obtain ⟨k8, h⟩ := h
    obtain ⟨k9, h⟩ := h
    refine zp_8_653 (v := ((zs_I S3 8097 p0) - (v7 - (1 : Int32)))) rfl d_8087_27 k8 k9 ?_
    generalize e11 : zs_sI S6 8097 p0 ((zs_I S3 8097 p0) - (v7 - (1 : Int32))) = S10
    have h := h S10 e11.symm
    have K12 : ∀ b, zs_K S10 b = zs_K S6 b := zs_Kt e11 (zs_KsI _ _ _ _) (fun _ => rfl)
    exact (u_X9_knowed_30 hB h).weak ⟨rfl, rfl, rfl, trivial⟩
  · have h := h.2 c2
    exact zu_vret d_8087_7 zr_8087 h
/-! SchemaPascalModel.greatestOf(I)I -/
theorem zm_8088 {σ : Nat → Nat} {n0 : Nat} {bf : ab_B} : ab_code (zx σ n0 bf).1 8088 = prog_17_method_42_code := rfl
theorem zq_8088 {σ : Nat → Nat} {n0 : Nat} {bf : ab_B} : ab_maxL (zx σ n0 bf).1 8088 = 2 := rfl
theorem zr_8088 {σ : Nat → Nat} {n0 : Nat} {bf : ab_B} : ab_ret (zx σ n0 bf).1 8088 = (Option.some Jvm.ClassFile.FieldType.int) := rfl
theorem d_8088_0 {σ : Nat → Nat} {n0 : Nat} {bf : ab_B} : decode (ab_code (zx σ n0 bf).1 8088) 0 = .ok (.aload_n 0, 1) := zd zm_8088 (by decide +kernel)
theorem d_8088_1 {σ : Nat → Nat} {n0 : Nat} {bf : ab_B} : decode (ab_code (zx σ n0 bf).1 8088) 1 = .ok (.getfield 90, 3) := zd zm_8088 (by decide +kernel)
theorem d_8088_4 {σ : Nat → Nat} {n0 : Nat} {bf : ab_B} : decode (ab_code (zx σ n0 bf).1 8088) 4 = .ok (.iload_n 1, 1) := zd zm_8088 (by decide +kernel)
theorem d_8088_5 {σ : Nat → Nat} {n0 : Nat} {bf : ab_B} : decode (ab_code (zx σ n0 bf).1 8088) 5 = .ok (.baload, 1) := zd zm_8088 (by decide +kernel)
theorem d_8088_6 {σ : Nat → Nat} {n0 : Nat} {bf : ab_B} : decode (ab_code (zx σ n0 bf).1 8088) 6 = .ok (.iconst 1, 1) := zd zm_8088 (by decide +kernel)
theorem d_8088_7 {σ : Nat → Nat} {n0 : Nat} {bf : ab_B} : decode (ab_code (zx σ n0 bf).1 8088) 7 = .ok (.if_icmp .ne 9, 3) := zd zm_8088 (by decide +kernel)
theorem d_8088_10 {σ : Nat → Nat} {n0 : Nat} {bf : ab_B} : decode (ab_code (zx σ n0 bf).1 8088) 10 = .ok (.ldc_w 577, 3) := zd zm_8088 (by decide +kernel)
theorem d_8088_13 {σ : Nat → Nat} {n0 : Nat} {bf : ab_B} : decode (ab_code (zx σ n0 bf).1 8088) 13 = .ok (.goto 60, 3) := zd zm_8088 (by decide +kernel)
theorem d_8088_16 {σ : Nat → Nat} {n0 : Nat} {bf : ab_B} : decode (ab_code (zx σ n0 bf).1 8088) 16 = .ok (.aload_n 0, 1) := zd zm_8088 (by decide +kernel)
theorem d_8088_17 {σ : Nat → Nat} {n0 : Nat} {bf : ab_B} : decode (ab_code (zx σ n0 bf).1 8088) 17 = .ok (.getfield 90, 3) := zd zm_8088 (by decide +kernel)
theorem d_8088_20 {σ : Nat → Nat} {n0 : Nat} {bf : ab_B} : decode (ab_code (zx σ n0 bf).1 8088) 20 = .ok (.iload_n 1, 1) := zd zm_8088 (by decide +kernel)
theorem d_8088_21 {σ : Nat → Nat} {n0 : Nat} {bf : ab_B} : decode (ab_code (zx σ n0 bf).1 8088) 21 = .ok (.baload, 1) := zd zm_8088 (by decide +kernel)
theorem d_8088_22 {σ : Nat → Nat} {n0 : Nat} {bf : ab_B} : decode (ab_code (zx σ n0 bf).1 8088) 22 = .ok (.iconst 2, 1) := zd zm_8088 (by decide +kernel)
theorem d_8088_23 {σ : Nat → Nat} {n0 : Nat} {bf : ab_B} : decode (ab_code (zx σ n0 bf).1 8088) 23 = .ok (.if_icmp .ne 7, 3) := zd zm_8088 (by decide +kernel)
theorem d_8088_26 {σ : Nat → Nat} {n0 : Nat} {bf : ab_B} : decode (ab_code (zx σ n0 bf).1 8088) 26 = .ok (.iconst 1, 1) := zd zm_8088 (by decide +kernel)
theorem d_8088_27 {σ : Nat → Nat} {n0 : Nat} {bf : ab_B} : decode (ab_code (zx σ n0 bf).1 8088) 27 = .ok (.goto 46, 3) := zd zm_8088 (by decide +kernel)
theorem d_8088_30 {σ : Nat → Nat} {n0 : Nat} {bf : ab_B} : decode (ab_code (zx σ n0 bf).1 8088) 30 = .ok (.aload_n 0, 1) := zd zm_8088 (by decide +kernel)
theorem d_8088_31 {σ : Nat → Nat} {n0 : Nat} {bf : ab_B} : decode (ab_code (zx σ n0 bf).1 8088) 31 = .ok (.getfield 90, 3) := zd zm_8088 (by decide +kernel)
theorem d_8088_34 {σ : Nat → Nat} {n0 : Nat} {bf : ab_B} : decode (ab_code (zx σ n0 bf).1 8088) 34 = .ok (.iload_n 1, 1) := zd zm_8088 (by decide +kernel)
theorem d_8088_35 {σ : Nat → Nat} {n0 : Nat} {bf : ab_B} : decode (ab_code (zx σ n0 bf).1 8088) 35 = .ok (.baload, 1) := zd zm_8088 (by decide +kernel)
theorem d_8088_36 {σ : Nat → Nat} {n0 : Nat} {bf : ab_B} : decode (ab_code (zx σ n0 bf).1 8088) 36 = .ok (.iconst 3, 1) := zd zm_8088 (by decide +kernel)
theorem d_8088_37 {σ : Nat → Nat} {n0 : Nat} {bf : ab_B} : decode (ab_code (zx σ n0 bf).1 8088) 37 = .ok (.if_icmp .ne 9, 3) := zd zm_8088 (by decide +kernel)
theorem d_8088_40 {σ : Nat → Nat} {n0 : Nat} {bf : ab_B} : decode (ab_code (zx σ n0 bf).1 8088) 40 = .ok (.sipush 255, 3) := zd zm_8088 (by decide +kernel)
theorem d_8088_43 {σ : Nat → Nat} {n0 : Nat} {bf : ab_B} : decode (ab_code (zx σ n0 bf).1 8088) 43 = .ok (.goto 30, 3) := zd zm_8088 (by decide +kernel)
theorem d_8088_46 {σ : Nat → Nat} {n0 : Nat} {bf : ab_B} : decode (ab_code (zx σ n0 bf).1 8088) 46 = .ok (.aload_n 0, 1) := zd zm_8088 (by decide +kernel)
theorem d_8088_47 {σ : Nat → Nat} {n0 : Nat} {bf : ab_B} : decode (ab_code (zx σ n0 bf).1 8088) 47 = .ok (.getfield 90, 3) := zd zm_8088 (by decide +kernel)
theorem d_8088_50 {σ : Nat → Nat} {n0 : Nat} {bf : ab_B} : decode (ab_code (zx σ n0 bf).1 8088) 50 = .ok (.iload_n 1, 1) := zd zm_8088 (by decide +kernel)
theorem d_8088_51 {σ : Nat → Nat} {n0 : Nat} {bf : ab_B} : decode (ab_code (zx σ n0 bf).1 8088) 51 = .ok (.baload, 1) := zd zm_8088 (by decide +kernel)
theorem d_8088_52 {σ : Nat → Nat} {n0 : Nat} {bf : ab_B} : decode (ab_code (zx σ n0 bf).1 8088) 52 = .ok (.iconst 4, 1) := zd zm_8088 (by decide +kernel)
theorem d_8088_53 {σ : Nat → Nat} {n0 : Nat} {bf : ab_B} : decode (ab_code (zx σ n0 bf).1 8088) 53 = .ok (.if_icmp .ne 14, 3) := zd zm_8088 (by decide +kernel)
theorem d_8088_56 {σ : Nat → Nat} {n0 : Nat} {bf : ab_B} : decode (ab_code (zx σ n0 bf).1 8088) 56 = .ok (.aload_n 0, 1) := zd zm_8088 (by decide +kernel)
theorem d_8088_57 {σ : Nat → Nat} {n0 : Nat} {bf : ab_B} : decode (ab_code (zx σ n0 bf).1 8088) 57 = .ok (.getfield 93, 3) := zd zm_8088 (by decide +kernel)
theorem d_8088_60 {σ : Nat → Nat} {n0 : Nat} {bf : ab_B} : decode (ab_code (zx σ n0 bf).1 8088) 60 = .ok (.iload_n 1, 1) := zd zm_8088 (by decide +kernel)
theorem d_8088_61 {σ : Nat → Nat} {n0 : Nat} {bf : ab_B} : decode (ab_code (zx σ n0 bf).1 8088) 61 = .ok (.iaload, 1) := zd zm_8088 (by decide +kernel)
theorem d_8088_62 {σ : Nat → Nat} {n0 : Nat} {bf : ab_B} : decode (ab_code (zx σ n0 bf).1 8088) 62 = .ok (.iconst 1, 1) := zd zm_8088 (by decide +kernel)
theorem d_8088_63 {σ : Nat → Nat} {n0 : Nat} {bf : ab_B} : decode (ab_code (zx σ n0 bf).1 8088) 63 = .ok (.isub, 1) := zd zm_8088 (by decide +kernel)
theorem d_8088_64 {σ : Nat → Nat} {n0 : Nat} {bf : ab_B} : decode (ab_code (zx σ n0 bf).1 8088) 64 = .ok (.goto 9, 3) := zd zm_8088 (by decide +kernel)
theorem d_8088_67 {σ : Nat → Nat} {n0 : Nat} {bf : ab_B} : decode (ab_code (zx σ n0 bf).1 8088) 67 = .ok (.aload_n 0, 1) := zd zm_8088 (by decide +kernel)
theorem d_8088_68 {σ : Nat → Nat} {n0 : Nat} {bf : ab_B} : decode (ab_code (zx σ n0 bf).1 8088) 68 = .ok (.getfield 102, 3) := zd zm_8088 (by decide +kernel)
theorem d_8088_71 {σ : Nat → Nat} {n0 : Nat} {bf : ab_B} : decode (ab_code (zx σ n0 bf).1 8088) 71 = .ok (.iload_n 1, 1) := zd zm_8088 (by decide +kernel)
theorem d_8088_72 {σ : Nat → Nat} {n0 : Nat} {bf : ab_B} : decode (ab_code (zx σ n0 bf).1 8088) 72 = .ok (.iaload, 1) := zd zm_8088 (by decide +kernel)
theorem d_8088_73 {σ : Nat → Nat} {n0 : Nat} {bf : ab_B} : decode (ab_code (zx σ n0 bf).1 8088) 73 = .ok (.ireturn, 1) := zd zm_8088 (by decide +kernel)
def w_X9_greatestOf_40 (X : zs_X) (d : Nat)  (S : zs_T) (Q : zs_Q) : Prop :=
  (Q (.returned (some (.int (255 : Int32)))) S)
theorem u_X9_greatestOf_40 {σ : Nat → Nat} {n0 : Nat} {bf : ab_B} {d : Nat}  {S : zs_T} {Q : zs_Q} (hB : zt_B bf) (h : w_X9_greatestOf_40 (zx σ n0 bf) d  S Q) : zs_U (zx σ n0 bf) d 8088 40 [] [] S Q := by
  unfold w_X9_greatestOf_40 at h
  refine zu_sipush d_8088_40 zh_255 ?_
  refine zu_goto (t := 73) d_8088_43 rfl ?_
  exact zu_iret d_8088_73 zr_8088 rfl h
def w_X9_greatestOf_46 (X : zs_X) (d : Nat) (p0 : Nat) (p1 : Int32) (S : zs_T) (Q : zs_Q) : Prop :=
  (zs_K S p0 = some (.inl 8) ∧ ∃ b2, (zs_R S 8044 p0) = some b2 ∧ zs_A S b2 1 p1 ∧ ((¬ (zs_i S b2 p1.toNatClampNeg) = (4 : Int32) → (∃ b6, (zs_R S 8048 p0) = some b6 ∧ zs_A S b6 0 p1 ∧ Q (.returned (some (.int (zs_i S b6 p1.toNatClampNeg)))) S)) ∧ (¬ (¬ (zs_i S b2 p1.toNatClampNeg) = (4 : Int32)) → (∃ b9, (zs_R S 8045 p0) = some b9 ∧ zs_A S b9 0 p1 ∧ Q (.returned (some (.int ((zs_i S b9 p1.toNatClampNeg) - (1 : Int32))))) S))))
theorem u_X9_greatestOf_46 {σ : Nat → Nat} {n0 : Nat} {bf : ab_B} {d : Nat} {p0 : Nat} {p1 : Int32} {S : zs_T} {Q : zs_Q} (hB : zt_B bf) (h : w_X9_greatestOf_46 (zx σ n0 bf) d p0 p1 S Q) : zs_U (zx σ n0 bf) d 8088 46 [(0, .ref p0), (1, .int p1)] [] S Q := by
  unfold w_X9_greatestOf_46 at h
  refine zu_aload_n d_8088_46 rfl (zs_ra _) ?_
  obtain ⟨k1, h⟩ := h
  refine zg_8_90 rfl d_8088_47 k1 ?_
  refine zu_iload_n d_8088_50 rfl ?_
  obtain ⟨b2, e3, h⟩ := h
  refine zs_stk1 (zs_rfe e3) ?_
  obtain ⟨k4, h⟩ := h
  refine zu_bald (k := 1) d_8088_51 rfl (Or.inl rfl) k4 ?_
  refine zu_iconst d_8088_52 zi_4 ?_
  refine zu_cmpne (t := 67) d_8088_53 rfl (fun c5 => ?_) (fun c5 => ?_)
  · have h := h.1 c5
    refine zu_aload_n d_8088_67 rfl (zs_ra _) ?_
    refine zg_8_102 rfl d_8088_68 k1 ?_
    refine zu_iload_n d_8088_71 rfl ?_
    obtain ⟨b6, e7, h⟩ := h
    refine zs_stk1 (zs_rfe e7) ?_
    obtain ⟨k8, h⟩ := h
    refine zu_iald (k := 0) d_8088_72 rfl rfl k8 ?_
    exact zu_iret d_8088_73 zr_8088 rfl h
  · have h := h.2 c5
    refine zu_aload_n d_8088_56 rfl (zs_ra _) ?_
    refine zg_8_93 rfl d_8088_57 k1 ?_
    refine zu_iload_n d_8088_60 rfl ?_
    obtain ⟨b9, e10, h⟩ := h
    refine zs_stk1 (zs_rfe e10) ?_
    obtain ⟨k11, h⟩ := h
    refine zu_iald (k := 0) d_8088_61 rfl rfl k11 ?_
    refine zu_iconst d_8088_62 zi_1 ?_
    refine zu_stk d_8088_63 rfl rfl ?_
    refine zu_goto (t := 73) d_8088_64 rfl ?_
    exact zu_iret d_8088_73 zr_8088 rfl h
def w_X9_greatestOf (X : zs_X) (d : Nat) (p0 : Nat) (p1 : Int32) (S : zs_T) (Q : zs_Q) : Prop :=
  (zs_K S p0 = some (.inl 8) ∧ ∃ b2, (zs_R S 8044 p0) = some b2 ∧ zs_A S b2 1 p1 ∧ ((¬ (zs_i S b2 p1.toNatClampNeg) = (1 : Int32) → (((¬ (zs_i S b2 p1.toNatClampNeg) = (2 : Int32) → (((¬ (zs_i S b2 p1.toNatClampNeg) = (3 : Int32) → w_X9_greatestOf_46 X d p0 p1 S Q) ∧ (¬ (¬ (zs_i S b2 p1.toNatClampNeg) = (3 : Int32)) → w_X9_greatestOf_40 X d  S Q)))) ∧ (¬ (¬ (zs_i S b2 p1.toNatClampNeg) = (2 : Int32)) → (Q (.returned (some (.int (1 : Int32)))) S))))) ∧ (¬ (¬ (zs_i S b2 p1.toNatClampNeg) = (1 : Int32)) → (Q (.returned (some (.int (2147483647 : Int32)))) S))))
theorem u_X9_greatestOf {σ : Nat → Nat} {n0 : Nat} {bf : ab_B} {d : Nat} {p0 : Nat} {p1 : Int32} {S : zs_T} {Q : zs_Q} (hB : zt_B bf) (hd : 1 ≤ d) (h : w_X9_greatestOf (zx σ n0 bf) (d - 1) p0 p1 S Q) : zs_C (zx σ n0 bf) d 8088 [.ref p0, .int p1] S Q := by
  have hL : lv_args 0 [.ref p0, .int p1] = [(0, .ref p0), (1, .int p1)] := rfl
  refine zs_C.of1 (hB.2 8088 (by decide) (by decide)) hd (by rw [hL]; exact zs_sub_self _ (by exact ⟨rfl, rfl, trivial⟩)) ?_
  rw [hL]
  clear hL
  unfold w_X9_greatestOf at h
  refine zu_aload_n d_8088_0 rfl (zs_ra _) ?_
  obtain ⟨k1, h⟩ := h
  refine zg_8_90 rfl d_8088_1 k1 ?_
  refine zu_iload_n d_8088_4 rfl ?_
  obtain ⟨b2, e3, h⟩ := h
  refine zs_stk1 (zs_rfe e3) ?_
  obtain ⟨k4, h⟩ := h
  refine zu_bald (k := 1) d_8088_5 rfl (Or.inl rfl) k4 ?_
  refine zu_iconst d_8088_6 zi_1 ?_
  refine zu_cmpne (t := 16) d_8088_7 rfl (fun c5 => ?_) (fun c5 => ?_)
  · have h := h.1 c5
    refine zu_aload_n d_8088_16 rfl (zs_ra _) ?_
    refine zg_8_90 rfl d_8088_17 k1 ?_
    refine zu_iload_n d_8088_20 rfl ?_
    refine zs_stk1 (zs_rfe e3) ?_
    refine zu_bald (k := 1) d_8088_21 rfl (Or.inl rfl) k4 ?_
    refine zu_iconst d_8088_22 zi_2 ?_
    refine zu_cmpne (t := 30) d_8088_23 rfl (fun c6 => ?_) (fun c6 => ?_)
    · have h := h.1 c6
      refine zu_aload_n d_8088_30 rfl (zs_ra _) ?_
      refine zg_8_90 rfl d_8088_31 k1 ?_
      refine zu_iload_n d_8088_34 rfl ?_
      refine zs_stk1 (zs_rfe e3) ?_
      refine zu_bald (k := 1) d_8088_35 rfl (Or.inl rfl) k4 ?_
      refine zu_iconst d_8088_36 zi_3 ?_
      refine zu_cmpne (t := 46) d_8088_37 rfl (fun c7 => ?_) (fun c7 => ?_)
      · have h := h.1 c7
        exact (u_X9_greatestOf_46 hB h).weak ⟨rfl, rfl, trivial⟩
      · have h := h.2 c7
        exact (u_X9_greatestOf_40 hB h).weak trivial
    · have h := h.2 c6
      refine zu_iconst d_8088_26 zi_1 ?_
      refine zu_goto (t := 73) d_8088_27 rfl ?_
      exact zu_iret d_8088_73 zr_8088 rfl h
  · have h := h.2 c5
    refine zlw_8_577 rfl d_8088_10 ?_
    refine zu_goto (t := 73) d_8088_13 rfl ?_
    exact zu_iret d_8088_73 zr_8088 rfl h
/-! SchemaPascalModel.typeGoal(IIII)V -/
theorem zm_8089 {σ : Nat → Nat} {n0 : Nat} {bf : ab_B} : ab_code (zx σ n0 bf).1 8089 = prog_17_method_197_code := rfl
theorem zq_8089 {σ : Nat → Nat} {n0 : Nat} {bf : ab_B} : ab_maxL (zx σ n0 bf).1 8089 = 5 := rfl
theorem zr_8089 {σ : Nat → Nat} {n0 : Nat} {bf : ab_B} : ab_ret (zx σ n0 bf).1 8089 = (Option.none : Option Jvm.ClassFile.FieldType) := rfl
theorem d_8089_0 {σ : Nat → Nat} {n0 : Nat} {bf : ab_B} : decode (ab_code (zx σ n0 bf).1 8089) 0 = .ok (.iload_n 1, 1) := zd zm_8089 (by decide +kernel)
theorem d_8089_1 {σ : Nat → Nat} {n0 : Nat} {bf : ab_B} : decode (ab_code (zx σ n0 bf).1 8089) 1 = .ok (.tableswitch 235 30 46 #[83, 235, 100, 107, 115, 123, 131, 138, 145, 153, 164, 175, 184, 194, 204, 213, 224], 83) := zd zm_8089 (by decide +kernel)
theorem d_8089_84 {σ : Nat → Nat} {n0 : Nat} {bf : ab_B} : decode (ab_code (zx σ n0 bf).1 8089) 84 = .ok (.aload_n 0, 1) := zd zm_8089 (by decide +kernel)
theorem d_8089_85 {σ : Nat → Nat} {n0 : Nat} {bf : ab_B} : decode (ab_code (zx σ n0 bf).1 8089) 85 = .ok (.iload_n 2, 1) := zd zm_8089 (by decide +kernel)
theorem d_8089_86 {σ : Nat → Nat} {n0 : Nat} {bf : ab_B} : decode (ab_code (zx σ n0 bf).1 8089) 86 = .ok (.iconst 1, 1) := zd zm_8089 (by decide +kernel)
theorem d_8089_87 {σ : Nat → Nat} {n0 : Nat} {bf : ab_B} : decode (ab_code (zx σ n0 bf).1 8089) 87 = .ok (.if_icmp .ne 7, 3) := zd zm_8089 (by decide +kernel)
theorem d_8089_90 {σ : Nat → Nat} {n0 : Nat} {bf : ab_B} : decode (ab_code (zx σ n0 bf).1 8089) 90 = .ok (.iconst 1, 1) := zd zm_8089 (by decide +kernel)
theorem d_8089_91 {σ : Nat → Nat} {n0 : Nat} {bf : ab_B} : decode (ab_code (zx σ n0 bf).1 8089) 91 = .ok (.goto 4, 3) := zd zm_8089 (by decide +kernel)
theorem d_8089_94 {σ : Nat → Nat} {n0 : Nat} {bf : ab_B} : decode (ab_code (zx σ n0 bf).1 8089) 94 = .ok (.iconst 0, 1) := zd zm_8089 (by decide +kernel)
theorem d_8089_95 {σ : Nat → Nat} {n0 : Nat} {bf : ab_B} : decode (ab_code (zx σ n0 bf).1 8089) 95 = .ok (.invokevirtual 1050, 3) := zd zm_8089 (by decide +kernel)
theorem d_8089_98 {σ : Nat → Nat} {n0 : Nat} {bf : ab_B} : decode (ab_code (zx σ n0 bf).1 8089) 98 = .ok (.goto 144, 3) := zd zm_8089 (by decide +kernel)
theorem d_8089_101 {σ : Nat → Nat} {n0 : Nat} {bf : ab_B} : decode (ab_code (zx σ n0 bf).1 8089) 101 = .ok (.aload_n 0, 1) := zd zm_8089 (by decide +kernel)
theorem d_8089_102 {σ : Nat → Nat} {n0 : Nat} {bf : ab_B} : decode (ab_code (zx σ n0 bf).1 8089) 102 = .ok (.invokevirtual 1054, 3) := zd zm_8089 (by decide +kernel)
theorem d_8089_105 {σ : Nat → Nat} {n0 : Nat} {bf : ab_B} : decode (ab_code (zx σ n0 bf).1 8089) 105 = .ok (.goto 137, 3) := zd zm_8089 (by decide +kernel)
theorem d_8089_108 {σ : Nat → Nat} {n0 : Nat} {bf : ab_B} : decode (ab_code (zx σ n0 bf).1 8089) 108 = .ok (.aload_n 0, 1) := zd zm_8089 (by decide +kernel)
theorem d_8089_109 {σ : Nat → Nat} {n0 : Nat} {bf : ab_B} : decode (ab_code (zx σ n0 bf).1 8089) 109 = .ok (.iload_n 2, 1) := zd zm_8089 (by decide +kernel)
theorem d_8089_110 {σ : Nat → Nat} {n0 : Nat} {bf : ab_B} : decode (ab_code (zx σ n0 bf).1 8089) 110 = .ok (.invokevirtual 1057, 3) := zd zm_8089 (by decide +kernel)
theorem d_8089_113 {σ : Nat → Nat} {n0 : Nat} {bf : ab_B} : decode (ab_code (zx σ n0 bf).1 8089) 113 = .ok (.goto 129, 3) := zd zm_8089 (by decide +kernel)
theorem d_8089_116 {σ : Nat → Nat} {n0 : Nat} {bf : ab_B} : decode (ab_code (zx σ n0 bf).1 8089) 116 = .ok (.aload_n 0, 1) := zd zm_8089 (by decide +kernel)
theorem d_8089_117 {σ : Nat → Nat} {n0 : Nat} {bf : ab_B} : decode (ab_code (zx σ n0 bf).1 8089) 117 = .ok (.iload_n 2, 1) := zd zm_8089 (by decide +kernel)
theorem d_8089_118 {σ : Nat → Nat} {n0 : Nat} {bf : ab_B} : decode (ab_code (zx σ n0 bf).1 8089) 118 = .ok (.invokevirtual 1060, 3) := zd zm_8089 (by decide +kernel)
theorem d_8089_121 {σ : Nat → Nat} {n0 : Nat} {bf : ab_B} : decode (ab_code (zx σ n0 bf).1 8089) 121 = .ok (.goto 121, 3) := zd zm_8089 (by decide +kernel)
theorem d_8089_124 {σ : Nat → Nat} {n0 : Nat} {bf : ab_B} : decode (ab_code (zx σ n0 bf).1 8089) 124 = .ok (.aload_n 0, 1) := zd zm_8089 (by decide +kernel)
theorem d_8089_125 {σ : Nat → Nat} {n0 : Nat} {bf : ab_B} : decode (ab_code (zx σ n0 bf).1 8089) 125 = .ok (.iload_n 2, 1) := zd zm_8089 (by decide +kernel)
theorem d_8089_126 {σ : Nat → Nat} {n0 : Nat} {bf : ab_B} : decode (ab_code (zx σ n0 bf).1 8089) 126 = .ok (.invokevirtual 1063, 3) := zd zm_8089 (by decide +kernel)
theorem d_8089_129 {σ : Nat → Nat} {n0 : Nat} {bf : ab_B} : decode (ab_code (zx σ n0 bf).1 8089) 129 = .ok (.goto 113, 3) := zd zm_8089 (by decide +kernel)
theorem d_8089_132 {σ : Nat → Nat} {n0 : Nat} {bf : ab_B} : decode (ab_code (zx σ n0 bf).1 8089) 132 = .ok (.aload_n 0, 1) := zd zm_8089 (by decide +kernel)
theorem d_8089_133 {σ : Nat → Nat} {n0 : Nat} {bf : ab_B} : decode (ab_code (zx σ n0 bf).1 8089) 133 = .ok (.invokevirtual 1066, 3) := zd zm_8089 (by decide +kernel)
theorem d_8089_136 {σ : Nat → Nat} {n0 : Nat} {bf : ab_B} : decode (ab_code (zx σ n0 bf).1 8089) 136 = .ok (.goto 106, 3) := zd zm_8089 (by decide +kernel)
theorem d_8089_139 {σ : Nat → Nat} {n0 : Nat} {bf : ab_B} : decode (ab_code (zx σ n0 bf).1 8089) 139 = .ok (.aload_n 0, 1) := zd zm_8089 (by decide +kernel)
theorem d_8089_140 {σ : Nat → Nat} {n0 : Nat} {bf : ab_B} : decode (ab_code (zx σ n0 bf).1 8089) 140 = .ok (.invokevirtual 1069, 3) := zd zm_8089 (by decide +kernel)
theorem d_8089_143 {σ : Nat → Nat} {n0 : Nat} {bf : ab_B} : decode (ab_code (zx σ n0 bf).1 8089) 143 = .ok (.goto 99, 3) := zd zm_8089 (by decide +kernel)
theorem d_8089_146 {σ : Nat → Nat} {n0 : Nat} {bf : ab_B} : decode (ab_code (zx σ n0 bf).1 8089) 146 = .ok (.aload_n 0, 1) := zd zm_8089 (by decide +kernel)
theorem d_8089_147 {σ : Nat → Nat} {n0 : Nat} {bf : ab_B} : decode (ab_code (zx σ n0 bf).1 8089) 147 = .ok (.iload_n 2, 1) := zd zm_8089 (by decide +kernel)
theorem d_8089_148 {σ : Nat → Nat} {n0 : Nat} {bf : ab_B} : decode (ab_code (zx σ n0 bf).1 8089) 148 = .ok (.invokevirtual 1072, 3) := zd zm_8089 (by decide +kernel)
theorem d_8089_151 {σ : Nat → Nat} {n0 : Nat} {bf : ab_B} : decode (ab_code (zx σ n0 bf).1 8089) 151 = .ok (.goto 91, 3) := zd zm_8089 (by decide +kernel)
theorem d_8089_154 {σ : Nat → Nat} {n0 : Nat} {bf : ab_B} : decode (ab_code (zx σ n0 bf).1 8089) 154 = .ok (.aload_n 0, 1) := zd zm_8089 (by decide +kernel)
theorem d_8089_155 {σ : Nat → Nat} {n0 : Nat} {bf : ab_B} : decode (ab_code (zx σ n0 bf).1 8089) 155 = .ok (.iload_n 2, 1) := zd zm_8089 (by decide +kernel)
theorem d_8089_156 {σ : Nat → Nat} {n0 : Nat} {bf : ab_B} : decode (ab_code (zx σ n0 bf).1 8089) 156 = .ok (.iload_n 3, 1) := zd zm_8089 (by decide +kernel)
theorem d_8089_157 {σ : Nat → Nat} {n0 : Nat} {bf : ab_B} : decode (ab_code (zx σ n0 bf).1 8089) 157 = .ok (.iload 4, 2) := zd zm_8089 (by decide +kernel)
theorem d_8089_159 {σ : Nat → Nat} {n0 : Nat} {bf : ab_B} : decode (ab_code (zx σ n0 bf).1 8089) 159 = .ok (.invokevirtual 1075, 3) := zd zm_8089 (by decide +kernel)
theorem d_8089_162 {σ : Nat → Nat} {n0 : Nat} {bf : ab_B} : decode (ab_code (zx σ n0 bf).1 8089) 162 = .ok (.goto 80, 3) := zd zm_8089 (by decide +kernel)
theorem d_8089_165 {σ : Nat → Nat} {n0 : Nat} {bf : ab_B} : decode (ab_code (zx σ n0 bf).1 8089) 165 = .ok (.aload_n 0, 1) := zd zm_8089 (by decide +kernel)
theorem d_8089_166 {σ : Nat → Nat} {n0 : Nat} {bf : ab_B} : decode (ab_code (zx σ n0 bf).1 8089) 166 = .ok (.iload_n 2, 1) := zd zm_8089 (by decide +kernel)
theorem d_8089_167 {σ : Nat → Nat} {n0 : Nat} {bf : ab_B} : decode (ab_code (zx σ n0 bf).1 8089) 167 = .ok (.iload_n 3, 1) := zd zm_8089 (by decide +kernel)
theorem d_8089_168 {σ : Nat → Nat} {n0 : Nat} {bf : ab_B} : decode (ab_code (zx σ n0 bf).1 8089) 168 = .ok (.iload 4, 2) := zd zm_8089 (by decide +kernel)
theorem d_8089_170 {σ : Nat → Nat} {n0 : Nat} {bf : ab_B} : decode (ab_code (zx σ n0 bf).1 8089) 170 = .ok (.invokevirtual 1078, 3) := zd zm_8089 (by decide +kernel)
theorem d_8089_173 {σ : Nat → Nat} {n0 : Nat} {bf : ab_B} : decode (ab_code (zx σ n0 bf).1 8089) 173 = .ok (.goto 69, 3) := zd zm_8089 (by decide +kernel)
theorem d_8089_176 {σ : Nat → Nat} {n0 : Nat} {bf : ab_B} : decode (ab_code (zx σ n0 bf).1 8089) 176 = .ok (.aload_n 0, 1) := zd zm_8089 (by decide +kernel)
theorem d_8089_177 {σ : Nat → Nat} {n0 : Nat} {bf : ab_B} : decode (ab_code (zx σ n0 bf).1 8089) 177 = .ok (.iload_n 2, 1) := zd zm_8089 (by decide +kernel)
theorem d_8089_178 {σ : Nat → Nat} {n0 : Nat} {bf : ab_B} : decode (ab_code (zx σ n0 bf).1 8089) 178 = .ok (.iload_n 3, 1) := zd zm_8089 (by decide +kernel)
theorem d_8089_179 {σ : Nat → Nat} {n0 : Nat} {bf : ab_B} : decode (ab_code (zx σ n0 bf).1 8089) 179 = .ok (.invokevirtual 1081, 3) := zd zm_8089 (by decide +kernel)
theorem d_8089_182 {σ : Nat → Nat} {n0 : Nat} {bf : ab_B} : decode (ab_code (zx σ n0 bf).1 8089) 182 = .ok (.goto 60, 3) := zd zm_8089 (by decide +kernel)
theorem d_8089_185 {σ : Nat → Nat} {n0 : Nat} {bf : ab_B} : decode (ab_code (zx σ n0 bf).1 8089) 185 = .ok (.aload_n 0, 1) := zd zm_8089 (by decide +kernel)
theorem d_8089_186 {σ : Nat → Nat} {n0 : Nat} {bf : ab_B} : decode (ab_code (zx σ n0 bf).1 8089) 186 = .ok (.iload_n 2, 1) := zd zm_8089 (by decide +kernel)
theorem d_8089_187 {σ : Nat → Nat} {n0 : Nat} {bf : ab_B} : decode (ab_code (zx σ n0 bf).1 8089) 187 = .ok (.iload_n 3, 1) := zd zm_8089 (by decide +kernel)
theorem d_8089_188 {σ : Nat → Nat} {n0 : Nat} {bf : ab_B} : decode (ab_code (zx σ n0 bf).1 8089) 188 = .ok (.iconst 0, 1) := zd zm_8089 (by decide +kernel)
theorem d_8089_189 {σ : Nat → Nat} {n0 : Nat} {bf : ab_B} : decode (ab_code (zx σ n0 bf).1 8089) 189 = .ok (.invokevirtual 1084, 3) := zd zm_8089 (by decide +kernel)
theorem d_8089_192 {σ : Nat → Nat} {n0 : Nat} {bf : ab_B} : decode (ab_code (zx σ n0 bf).1 8089) 192 = .ok (.goto 50, 3) := zd zm_8089 (by decide +kernel)
theorem d_8089_195 {σ : Nat → Nat} {n0 : Nat} {bf : ab_B} : decode (ab_code (zx σ n0 bf).1 8089) 195 = .ok (.aload_n 0, 1) := zd zm_8089 (by decide +kernel)
theorem d_8089_196 {σ : Nat → Nat} {n0 : Nat} {bf : ab_B} : decode (ab_code (zx σ n0 bf).1 8089) 196 = .ok (.iload_n 2, 1) := zd zm_8089 (by decide +kernel)
theorem d_8089_197 {σ : Nat → Nat} {n0 : Nat} {bf : ab_B} : decode (ab_code (zx σ n0 bf).1 8089) 197 = .ok (.iload_n 3, 1) := zd zm_8089 (by decide +kernel)
theorem d_8089_198 {σ : Nat → Nat} {n0 : Nat} {bf : ab_B} : decode (ab_code (zx σ n0 bf).1 8089) 198 = .ok (.iconst 1, 1) := zd zm_8089 (by decide +kernel)
theorem d_8089_199 {σ : Nat → Nat} {n0 : Nat} {bf : ab_B} : decode (ab_code (zx σ n0 bf).1 8089) 199 = .ok (.invokevirtual 1084, 3) := zd zm_8089 (by decide +kernel)
theorem d_8089_202 {σ : Nat → Nat} {n0 : Nat} {bf : ab_B} : decode (ab_code (zx σ n0 bf).1 8089) 202 = .ok (.goto 40, 3) := zd zm_8089 (by decide +kernel)
theorem d_8089_205 {σ : Nat → Nat} {n0 : Nat} {bf : ab_B} : decode (ab_code (zx σ n0 bf).1 8089) 205 = .ok (.aload_n 0, 1) := zd zm_8089 (by decide +kernel)
theorem d_8089_206 {σ : Nat → Nat} {n0 : Nat} {bf : ab_B} : decode (ab_code (zx σ n0 bf).1 8089) 206 = .ok (.iload_n 2, 1) := zd zm_8089 (by decide +kernel)
theorem d_8089_207 {σ : Nat → Nat} {n0 : Nat} {bf : ab_B} : decode (ab_code (zx σ n0 bf).1 8089) 207 = .ok (.iload_n 3, 1) := zd zm_8089 (by decide +kernel)
theorem d_8089_208 {σ : Nat → Nat} {n0 : Nat} {bf : ab_B} : decode (ab_code (zx σ n0 bf).1 8089) 208 = .ok (.invokevirtual 1087, 3) := zd zm_8089 (by decide +kernel)
theorem d_8089_211 {σ : Nat → Nat} {n0 : Nat} {bf : ab_B} : decode (ab_code (zx σ n0 bf).1 8089) 211 = .ok (.goto 31, 3) := zd zm_8089 (by decide +kernel)
theorem d_8089_214 {σ : Nat → Nat} {n0 : Nat} {bf : ab_B} : decode (ab_code (zx σ n0 bf).1 8089) 214 = .ok (.aload_n 0, 1) := zd zm_8089 (by decide +kernel)
theorem d_8089_215 {σ : Nat → Nat} {n0 : Nat} {bf : ab_B} : decode (ab_code (zx σ n0 bf).1 8089) 215 = .ok (.iload_n 2, 1) := zd zm_8089 (by decide +kernel)
theorem d_8089_216 {σ : Nat → Nat} {n0 : Nat} {bf : ab_B} : decode (ab_code (zx σ n0 bf).1 8089) 216 = .ok (.iload_n 3, 1) := zd zm_8089 (by decide +kernel)
theorem d_8089_217 {σ : Nat → Nat} {n0 : Nat} {bf : ab_B} : decode (ab_code (zx σ n0 bf).1 8089) 217 = .ok (.iload 4, 2) := zd zm_8089 (by decide +kernel)
theorem d_8089_219 {σ : Nat → Nat} {n0 : Nat} {bf : ab_B} : decode (ab_code (zx σ n0 bf).1 8089) 219 = .ok (.invokevirtual 1090, 3) := zd zm_8089 (by decide +kernel)
theorem d_8089_222 {σ : Nat → Nat} {n0 : Nat} {bf : ab_B} : decode (ab_code (zx σ n0 bf).1 8089) 222 = .ok (.goto 20, 3) := zd zm_8089 (by decide +kernel)
theorem d_8089_225 {σ : Nat → Nat} {n0 : Nat} {bf : ab_B} : decode (ab_code (zx σ n0 bf).1 8089) 225 = .ok (.aload_n 0, 1) := zd zm_8089 (by decide +kernel)
theorem d_8089_226 {σ : Nat → Nat} {n0 : Nat} {bf : ab_B} : decode (ab_code (zx σ n0 bf).1 8089) 226 = .ok (.iload_n 2, 1) := zd zm_8089 (by decide +kernel)
theorem d_8089_227 {σ : Nat → Nat} {n0 : Nat} {bf : ab_B} : decode (ab_code (zx σ n0 bf).1 8089) 227 = .ok (.iload_n 3, 1) := zd zm_8089 (by decide +kernel)
theorem d_8089_228 {σ : Nat → Nat} {n0 : Nat} {bf : ab_B} : decode (ab_code (zx σ n0 bf).1 8089) 228 = .ok (.iload 4, 2) := zd zm_8089 (by decide +kernel)
theorem d_8089_230 {σ : Nat → Nat} {n0 : Nat} {bf : ab_B} : decode (ab_code (zx σ n0 bf).1 8089) 230 = .ok (.invokevirtual 1093, 3) := zd zm_8089 (by decide +kernel)
theorem d_8089_233 {σ : Nat → Nat} {n0 : Nat} {bf : ab_B} : decode (ab_code (zx σ n0 bf).1 8089) 233 = .ok (.goto 9, 3) := zd zm_8089 (by decide +kernel)
theorem d_8089_236 {σ : Nat → Nat} {n0 : Nat} {bf : ab_B} : decode (ab_code (zx σ n0 bf).1 8089) 236 = .ok (.aload_n 0, 1) := zd zm_8089 (by decide +kernel)
theorem d_8089_237 {σ : Nat → Nat} {n0 : Nat} {bf : ab_B} : decode (ab_code (zx σ n0 bf).1 8089) 237 = .ok (.bipush 9, 2) := zd zm_8089 (by decide +kernel)
theorem d_8089_239 {σ : Nat → Nat} {n0 : Nat} {bf : ab_B} : decode (ab_code (zx σ n0 bf).1 8089) 239 = .ok (.invokevirtual 746, 3) := zd zm_8089 (by decide +kernel)
theorem d_8089_242 {σ : Nat → Nat} {n0 : Nat} {bf : ab_B} : decode (ab_code (zx σ n0 bf).1 8089) 242 = .ok (.return_, 1) := zd zm_8089 (by decide +kernel)
def w_X9_typeGoal_95 (X : zs_X) (d : Nat) (q0 : Option Nat) (q1 : Int32) (S : zs_T) (Q : zs_Q) : Prop :=
  (∃ b1, q0 = some b1 ∧ zs_K S b1 = some (.inl 8) ∧ zs_C X d 8090 [.ref b1, .int q1] S (zs_kV (fun S4 => (Q (.returned none) S4)) Q))
theorem u_X9_typeGoal_95 {σ : Nat → Nat} {n0 : Nat} {bf : ab_B} {d : Nat} {q0 : Option Nat} {q1 : Int32} {S : zs_T} {Q : zs_Q} (hB : zt_B bf) (h : w_X9_typeGoal_95 (zx σ n0 bf) d q0 q1 S Q) : zs_U (zx σ n0 bf) d 8089 95 [] [.int q1, va_rf q0] S Q := by
  unfold w_X9_typeGoal_95 at h
  obtain ⟨b1, e2, h⟩ := h
  refine zs_stk1 (zs_rfe e2) ?_
  obtain ⟨k3, h⟩ := h
  refine zc_8_1050 (x0 := q1) hB rfl k3 d_8089_95 (Nat.le_of_ble_eq_true rfl) h (fun S4 h => ?_)
  refine zu_goto (t := 242) d_8089_98 rfl ?_
  exact zu_vret d_8089_242 zr_8089 h
def w_X9_typeGoal_236 (X : zs_X) (d : Nat) (p0 : Nat) (S : zs_T) (Q : zs_Q) : Prop :=
  (zs_K S p0 = some (.inl 8) ∧ zs_C X d 8028 [.ref p0, .int (9 : Int32)] S (zs_kV (fun S2 => (Q (.returned none) S2)) Q))
theorem u_X9_typeGoal_236 {σ : Nat → Nat} {n0 : Nat} {bf : ab_B} {d : Nat} {p0 : Nat} {S : zs_T} {Q : zs_Q} (hB : zt_B bf) (h : w_X9_typeGoal_236 (zx σ n0 bf) d p0 S Q) : zs_U (zx σ n0 bf) d 8089 236 [(0, .ref p0)] [] S Q := by
  unfold w_X9_typeGoal_236 at h
  refine zu_aload_n d_8089_236 rfl (zs_ra _) ?_
  refine zu_bipush d_8089_237 zj_9 ?_
  obtain ⟨k1, h⟩ := h
  refine zc_8_746 (x0 := (9 : Int32)) hB rfl k1 d_8089_239 (Nat.le_of_ble_eq_true rfl) h (fun S2 h => ?_)
  exact zu_vret d_8089_242 zr_8089 h
def w_X9_typeGoal (X : zs_X) (d : Nat) (p0 : Nat) (p1 : Int32) (p2 : Int32) (p3 : Int32) (p4 : Int32) (S : zs_T) (Q : zs_Q) : Prop :=
  (((p1.toInt < 30 ∨ 46 < p1.toInt → w_X9_typeGoal_236 X d p0 S Q) ∧ (p1.toInt = 30 → (((¬ p2 = (1 : Int32) → (w_X9_typeGoal_95 X d (some p0) (0 : Int32) S Q)) ∧ (¬ (¬ p2 = (1 : Int32)) → (w_X9_typeGoal_95 X d (some p0) (1 : Int32) S Q))))) ∧ (p1.toInt = 31 → w_X9_typeGoal_236 X d p0 S Q) ∧ (p1.toInt = 32 → (zs_K S p0 = some (.inl 8) ∧ zs_C X d 8099 [.ref p0] S (zs_kV (fun S4 => (Q (.returned none) S4)) Q))) ∧ (p1.toInt = 33 → (zs_K S p0 = some (.inl 8) ∧ zs_C X d 8108 [.ref p0, .int p2] S (zs_kV (fun S7 => (Q (.returned none) S7)) Q))) ∧ (p1.toInt = 34 → (zs_K S p0 = some (.inl 8) ∧ zs_C X d 8110 [.ref p0, .int p2] S (zs_kV (fun S10 => (Q (.returned none) S10)) Q))) ∧ (p1.toInt = 35 → (zs_K S p0 = some (.inl 8) ∧ zs_C X d 8112 [.ref p0, .int p2] S (zs_kV (fun S13 => (Q (.returned none) S13)) Q))) ∧ (p1.toInt = 36 → (zs_K S p0 = some (.inl 8) ∧ zs_C X d 8126 [.ref p0] S (zs_kV (fun S16 => (Q (.returned none) S16)) Q))) ∧ (p1.toInt = 37 → (zs_K S p0 = some (.inl 8) ∧ zs_C X d 8127 [.ref p0] S (zs_kV (fun S19 => (Q (.returned none) S19)) Q))) ∧ (p1.toInt = 38 → (zs_K S p0 = some (.inl 8) ∧ zs_C X d 8128 [.ref p0, .int p2] S (zs_kV (fun S22 => (Q (.returned none) S22)) Q))) ∧ (p1.toInt = 39 → (zs_K S p0 = some (.inl 8) ∧ zs_C X d 8129 [.ref p0, .int p2, .int p3, .int p4] S (zs_kV (fun S25 => (Q (.returned none) S25)) Q))) ∧ (p1.toInt = 40 → (zs_K S p0 = some (.inl 8) ∧ zs_C X d 8135 [.ref p0, .int p2, .int p3, .int p4] S (zs_kV (fun S28 => (Q (.returned none) S28)) Q))) ∧ (p1.toInt = 41 → (zs_K S p0 = some (.inl 8) ∧ zs_C X d 8136 [.ref p0, .int p2, .int p3] S (zs_kV (fun S31 => (Q (.returned none) S31)) Q))) ∧ (p1.toInt = 42 → (zs_K S p0 = some (.inl 8) ∧ zs_C X d 8137 [.ref p0, .int p2, .int p3, .int (0 : Int32)] S (zs_kV (fun S34 => (Q (.returned none) S34)) Q))) ∧ (p1.toInt = 43 → (zs_K S p0 = some (.inl 8) ∧ zs_C X d 8137 [.ref p0, .int p2, .int p3, .int (1 : Int32)] S (zs_kV (fun S37 => (Q (.returned none) S37)) Q))) ∧ (p1.toInt = 44 → (zs_K S p0 = some (.inl 8) ∧ zs_C X d 8140 [.ref p0, .int p2, .int p3] S (zs_kV (fun S40 => (Q (.returned none) S40)) Q))) ∧ (p1.toInt = 45 → (zs_K S p0 = some (.inl 8) ∧ zs_C X d 8141 [.ref p0, .int p2, .int p3, .int p4] S (zs_kV (fun S43 => (Q (.returned none) S43)) Q))) ∧ (p1.toInt = 46 → (zs_K S p0 = some (.inl 8) ∧ zs_C X d 8142 [.ref p0, .int p2, .int p3, .int p4] S (zs_kV (fun S46 => (Q (.returned none) S46)) Q)))))
theorem u_X9_typeGoal {σ : Nat → Nat} {n0 : Nat} {bf : ab_B} {d : Nat} {p0 : Nat} {p1 : Int32} {p2 : Int32} {p3 : Int32} {p4 : Int32} {S : zs_T} {Q : zs_Q} (hB : zt_B bf) (hd : 1 ≤ d) (h : w_X9_typeGoal (zx σ n0 bf) (d - 1) p0 p1 p2 p3 p4 S Q) : zs_C (zx σ n0 bf) d 8089 [.ref p0, .int p1, .int p2, .int p3, .int p4] S Q := by
  have hL : lv_args 0 [.ref p0, .int p1, .int p2, .int p3, .int p4] = [(0, .ref p0), (1, .int p1), (2, .int p2), (3, .int p3), (4, .int p4)] := rfl
  refine zs_C.of1 (hB.2 8089 (by decide) (by decide)) hd (by rw [hL]; exact zs_sub_self _ (by exact ⟨rfl, rfl, rfl, rfl, rfl, trivial⟩)) ?_
  rw [hL]
  clear hL
  unfold w_X9_typeGoal at h
  refine zu_iload_n d_8089_0 rfl ?_
  refine zu_tsw (td := 236) d_8089_1 (by decide) rfl (fun c1 => ?_) ⟨fun c1 => ⟨by decide, ?_⟩, fun c1 => ⟨by decide, ?_⟩, fun c1 => ⟨by decide, ?_⟩, fun c1 => ⟨by decide, ?_⟩, fun c1 => ⟨by decide, ?_⟩, fun c1 => ⟨by decide, ?_⟩, fun c1 => ⟨by decide, ?_⟩, fun c1 => ⟨by decide, ?_⟩, fun c1 => ⟨by decide, ?_⟩, fun c1 => ⟨by decide, ?_⟩, fun c1 => ⟨by decide, ?_⟩, fun c1 => ⟨by decide, ?_⟩, fun c1 => ⟨by decide, ?_⟩, fun c1 => ⟨by decide, ?_⟩, fun c1 => ⟨by decide, ?_⟩, fun c1 => ⟨by decide, ?_⟩, fun c1 => ⟨by decide, ?_⟩, trivial⟩
  · have h := h.1 c1
    exact (u_X9_typeGoal_236 hB h).weak ⟨rfl, trivial⟩
  · have h := h.2.1 c1
    show zs_U _ _ _ 84 _ _ _ _
    refine zu_aload_n d_8089_84 rfl (zs_ra _) ?_
    refine zu_iload_n d_8089_85 rfl ?_
    refine zu_iconst d_8089_86 zi_1 ?_
    refine zu_cmpne (t := 94) d_8089_87 rfl (fun c2 => ?_) (fun c2 => ?_)
    · have h := h.1 c2
      refine zu_iconst d_8089_94 zi_0 ?_
      exact (u_X9_typeGoal_95 hB h).weak trivial
    · have h := h.2 c2
      refine zu_iconst d_8089_90 zi_1 ?_
      refine zu_goto (t := 95) d_8089_91 rfl ?_
      exact (u_X9_typeGoal_95 hB h).weak trivial
  · have h := h.2.2.1 c1
    show zs_U _ _ _ 236 _ _ _ _
    exact (u_X9_typeGoal_236 hB h).weak ⟨rfl, trivial⟩
  · have h := h.2.2.2.1 c1
    show zs_U _ _ _ 101 _ _ _ _
    refine zu_aload_n d_8089_101 rfl (zs_ra _) ?_
    obtain ⟨k3, h⟩ := h
    refine zc_8_1054  hB rfl k3 d_8089_102 (Nat.le_of_ble_eq_true rfl) h (fun S4 h => ?_)
    refine zu_goto (t := 242) d_8089_105 rfl ?_
    exact zu_vret d_8089_242 zr_8089 h
  · have h := h.2.2.2.2.1 c1
    show zs_U _ _ _ 108 _ _ _ _
    refine zu_aload_n d_8089_108 rfl (zs_ra _) ?_
    refine zu_iload_n d_8089_109 rfl ?_
    obtain ⟨k6, h⟩ := h
    refine zc_8_1057 (x0 := p2) hB rfl k6 d_8089_110 (Nat.le_of_ble_eq_true rfl) h (fun S7 h => ?_)
    refine zu_goto (t := 242) d_8089_113 rfl ?_
    exact zu_vret d_8089_242 zr_8089 h
  · have h := h.2.2.2.2.2.1 c1
    show zs_U _ _ _ 116 _ _ _ _
    refine zu_aload_n d_8089_116 rfl (zs_ra _) ?_
    refine zu_iload_n d_8089_117 rfl ?_
    obtain ⟨k9, h⟩ := h
    refine zc_8_1060 (x0 := p2) hB rfl k9 d_8089_118 (Nat.le_of_ble_eq_true rfl) h (fun S10 h => ?_)
    refine zu_goto (t := 242) d_8089_121 rfl ?_
    exact zu_vret d_8089_242 zr_8089 h
  · have h := h.2.2.2.2.2.2.1 c1
    show zs_U _ _ _ 124 _ _ _ _
    refine zu_aload_n d_8089_124 rfl (zs_ra _) ?_
    refine zu_iload_n d_8089_125 rfl ?_
    obtain ⟨k12, h⟩ := h
    refine zc_8_1063 (x0 := p2) hB rfl k12 d_8089_126 (Nat.le_of_ble_eq_true rfl) h (fun S13 h => ?_)
    refine zu_goto (t := 242) d_8089_129 rfl ?_
    exact zu_vret d_8089_242 zr_8089 h
  · have h := h.2.2.2.2.2.2.2.1 c1
    show zs_U _ _ _ 132 _ _ _ _
    refine zu_aload_n d_8089_132 rfl (zs_ra _) ?_
    obtain ⟨k15, h⟩ := h
    refine zc_8_1066  hB rfl k15 d_8089_133 (Nat.le_of_ble_eq_true rfl) h (fun S16 h => ?_)
    refine zu_goto (t := 242) d_8089_136 rfl ?_
    exact zu_vret d_8089_242 zr_8089 h
  · have h := h.2.2.2.2.2.2.2.2.1 c1
    show zs_U _ _ _ 139 _ _ _ _
    refine zu_aload_n d_8089_139 rfl (zs_ra _) ?_
    obtain ⟨k18, h⟩ := h
    refine zc_8_1069  hB rfl k18 d_8089_140 (Nat.le_of_ble_eq_true rfl) h (fun S19 h => ?_)
    refine zu_goto (t := 242) d_8089_143 rfl ?_
    exact zu_vret d_8089_242 zr_8089 h
  · have h := h.2.2.2.2.2.2.2.2.2.1 c1
    show zs_U _ _ _ 146 _ _ _ _
    refine zu_aload_n d_8089_146 rfl (zs_ra _) ?_
    refine zu_iload_n d_8089_147 rfl ?_
    obtain ⟨k21, h⟩ := h
    refine zc_8_1072 (x0 := p2) hB rfl k21 d_8089_148 (Nat.le_of_ble_eq_true rfl) h (fun S22 h => ?_)
    refine zu_goto (t := 242) d_8089_151 rfl ?_
    exact zu_vret d_8089_242 zr_8089 h
  · have h := h.2.2.2.2.2.2.2.2.2.2.1 c1
    show zs_U _ _ _ 154 _ _ _ _
    refine zu_aload_n d_8089_154 rfl (zs_ra _) ?_
    refine zu_iload_n d_8089_155 rfl ?_
    refine zu_iload_n d_8089_156 rfl ?_
    refine zu_iload d_8089_157 rfl ?_
    obtain ⟨k24, h⟩ := h
    refine zc_8_1075 (x0 := p2) (x1 := p3) (x2 := p4) hB rfl k24 d_8089_159 (Nat.le_of_ble_eq_true rfl) h (fun S25 h => ?_)
    refine zu_goto (t := 242) d_8089_162 rfl ?_
    exact zu_vret d_8089_242 zr_8089 h
  · have h := h.2.2.2.2.2.2.2.2.2.2.2.1 c1
    show zs_U _ _ _ 165 _ _ _ _
    refine zu_aload_n d_8089_165 rfl (zs_ra _) ?_
    refine zu_iload_n d_8089_166 rfl ?_
    refine zu_iload_n d_8089_167 rfl ?_
    refine zu_iload d_8089_168 rfl ?_
    obtain ⟨k27, h⟩ := h
    refine zc_8_1078 (x0 := p2) (x1 := p3) (x2 := p4) hB rfl k27 d_8089_170 (Nat.le_of_ble_eq_true rfl) h (fun S28 h => ?_)
    refine zu_goto (t := 242) d_8089_173 rfl ?_
    exact zu_vret d_8089_242 zr_8089 h
  · have h := h.2.2.2.2.2.2.2.2.2.2.2.2.1 c1
    show zs_U _ _ _ 176 _ _ _ _
    refine zu_aload_n d_8089_176 rfl (zs_ra _) ?_
    refine zu_iload_n d_8089_177 rfl ?_
    refine zu_iload_n d_8089_178 rfl ?_
    obtain ⟨k30, h⟩ := h
    refine zc_8_1081 (x0 := p2) (x1 := p3) hB rfl k30 d_8089_179 (Nat.le_of_ble_eq_true rfl) h (fun S31 h => ?_)
    refine zu_goto (t := 242) d_8089_182 rfl ?_
    exact zu_vret d_8089_242 zr_8089 h
  · have h := h.2.2.2.2.2.2.2.2.2.2.2.2.2.1 c1
    show zs_U _ _ _ 185 _ _ _ _
    refine zu_aload_n d_8089_185 rfl (zs_ra _) ?_
    refine zu_iload_n d_8089_186 rfl ?_
    refine zu_iload_n d_8089_187 rfl ?_
    refine zu_iconst d_8089_188 zi_0 ?_
    obtain ⟨k33, h⟩ := h
    refine zc_8_1084 (x0 := p2) (x1 := p3) (x2 := (0 : Int32)) hB rfl k33 d_8089_189 (Nat.le_of_ble_eq_true rfl) h (fun S34 h => ?_)
    refine zu_goto (t := 242) d_8089_192 rfl ?_
    exact zu_vret d_8089_242 zr_8089 h
  · have h := h.2.2.2.2.2.2.2.2.2.2.2.2.2.2.1 c1
    show zs_U _ _ _ 195 _ _ _ _
    refine zu_aload_n d_8089_195 rfl (zs_ra _) ?_
    refine zu_iload_n d_8089_196 rfl ?_
    refine zu_iload_n d_8089_197 rfl ?_
    refine zu_iconst d_8089_198 zi_1 ?_
    obtain ⟨k36, h⟩ := h
    refine zc_8_1084 (x0 := p2) (x1 := p3) (x2 := (1 : Int32)) hB rfl k36 d_8089_199 (Nat.le_of_ble_eq_true rfl) h (fun S37 h => ?_)
    refine zu_goto (t := 242) d_8089_202 rfl ?_
    exact zu_vret d_8089_242 zr_8089 h
  · have h := h.2.2.2.2.2.2.2.2.2.2.2.2.2.2.2.1 c1
    show zs_U _ _ _ 205 _ _ _ _
    refine zu_aload_n d_8089_205 rfl (zs_ra _) ?_
    refine zu_iload_n d_8089_206 rfl ?_
    refine zu_iload_n d_8089_207 rfl ?_
    obtain ⟨k39, h⟩ := h
    refine zc_8_1087 (x0 := p2) (x1 := p3) hB rfl k39 d_8089_208 (Nat.le_of_ble_eq_true rfl) h (fun S40 h => ?_)
    refine zu_goto (t := 242) d_8089_211 rfl ?_
    exact zu_vret d_8089_242 zr_8089 h
  · have h := h.2.2.2.2.2.2.2.2.2.2.2.2.2.2.2.2.1 c1
    show zs_U _ _ _ 214 _ _ _ _
    refine zu_aload_n d_8089_214 rfl (zs_ra _) ?_
    refine zu_iload_n d_8089_215 rfl ?_
    refine zu_iload_n d_8089_216 rfl ?_
    refine zu_iload d_8089_217 rfl ?_
    obtain ⟨k42, h⟩ := h
    refine zc_8_1090 (x0 := p2) (x1 := p3) (x2 := p4) hB rfl k42 d_8089_219 (Nat.le_of_ble_eq_true rfl) h (fun S43 h => ?_)
    refine zu_goto (t := 242) d_8089_222 rfl ?_
    exact zu_vret d_8089_242 zr_8089 h
  · have h := h.2.2.2.2.2.2.2.2.2.2.2.2.2.2.2.2.2 c1
    show zs_U _ _ _ 225 _ _ _ _
    refine zu_aload_n d_8089_225 rfl (zs_ra _) ?_
    refine zu_iload_n d_8089_226 rfl ?_
    refine zu_iload_n d_8089_227 rfl ?_
    refine zu_iload d_8089_228 rfl ?_
    obtain ⟨k45, h⟩ := h
    refine zc_8_1093 (x0 := p2) (x1 := p3) (x2 := p4) hB rfl k45 d_8089_230 (Nat.le_of_ble_eq_true rfl) h (fun S46 h => ?_)
    refine zu_goto (t := 242) d_8089_233 rfl ?_
    exact zu_vret d_8089_242 zr_8089 h
/-! SchemaPascalModel.type(Z)V -/
theorem zm_8090 {σ : Nat → Nat} {n0 : Nat} {bf : ab_B} : ab_code (zx σ n0 bf).1 8090 = prog_17_method_109_code := rfl
theorem zq_8090 {σ : Nat → Nat} {n0 : Nat} {bf : ab_B} : ab_maxL (zx σ n0 bf).1 8090 = 5 := rfl
theorem zr_8090 {σ : Nat → Nat} {n0 : Nat} {bf : ab_B} : ab_ret (zx σ n0 bf).1 8090 = (Option.none : Option Jvm.ClassFile.FieldType) := rfl
theorem d_8090_0 {σ : Nat → Nat} {n0 : Nat} {bf : ab_B} : decode (ab_code (zx σ n0 bf).1 8090) 0 = .ok (.aload_n 0, 1) := zd zm_8090 (by decide +kernel)
theorem d_8090_1 {σ : Nat → Nat} {n0 : Nat} {bf : ab_B} : decode (ab_code (zx σ n0 bf).1 8090) 1 = .ok (.getfield 444, 3) := zd zm_8090 (by decide +kernel)
theorem d_8090_4 {σ : Nat → Nat} {n0 : Nat} {bf : ab_B} : decode (ab_code (zx σ n0 bf).1 8090) 4 = .ok (.ifCond .le 4, 3) := zd zm_8090 (by decide +kernel)
theorem d_8090_7 {σ : Nat → Nat} {n0 : Nat} {bf : ab_B} : decode (ab_code (zx σ n0 bf).1 8090) 7 = .ok (.return_, 1) := zd zm_8090 (by decide +kernel)
theorem d_8090_8 {σ : Nat → Nat} {n0 : Nat} {bf : ab_B} : decode (ab_code (zx σ n0 bf).1 8090) 8 = .ok (.aload_n 0, 1) := zd zm_8090 (by decide +kernel)
theorem d_8090_9 {σ : Nat → Nat} {n0 : Nat} {bf : ab_B} : decode (ab_code (zx σ n0 bf).1 8090) 9 = .ok (.getfield 484, 3) := zd zm_8090 (by decide +kernel)
theorem d_8090_12 {σ : Nat → Nat} {n0 : Nat} {bf : ab_B} : decode (ab_code (zx σ n0 bf).1 8090) 12 = .ok (.iconst 1, 1) := zd zm_8090 (by decide +kernel)
theorem d_8090_13 {σ : Nat → Nat} {n0 : Nat} {bf : ab_B} : decode (ab_code (zx σ n0 bf).1 8090) 13 = .ok (.if_icmp .ne 15, 3) := zd zm_8090 (by decide +kernel)
theorem d_8090_16 {σ : Nat → Nat} {n0 : Nat} {bf : ab_B} : decode (ab_code (zx σ n0 bf).1 8090) 16 = .ok (.aload_n 0, 1) := zd zm_8090 (by decide +kernel)
theorem d_8090_17 {σ : Nat → Nat} {n0 : Nat} {bf : ab_B} : decode (ab_code (zx σ n0 bf).1 8090) 17 = .ok (.getfield 37, 3) := zd zm_8090 (by decide +kernel)
theorem d_8090_20 {σ : Nat → Nat} {n0 : Nat} {bf : ab_B} : decode (ab_code (zx σ n0 bf).1 8090) 20 = .ok (.aload_n 0, 1) := zd zm_8090 (by decide +kernel)
theorem d_8090_21 {σ : Nat → Nat} {n0 : Nat} {bf : ab_B} : decode (ab_code (zx σ n0 bf).1 8090) 21 = .ok (.getfield 494, 3) := zd zm_8090 (by decide +kernel)
theorem d_8090_24 {σ : Nat → Nat} {n0 : Nat} {bf : ab_B} : decode (ab_code (zx σ n0 bf).1 8090) 24 = .ok (.iaload, 1) := zd zm_8090 (by decide +kernel)
theorem d_8090_25 {σ : Nat → Nat} {n0 : Nat} {bf : ab_B} : decode (ab_code (zx σ n0 bf).1 8090) 25 = .ok (.goto 4, 3) := zd zm_8090 (by decide +kernel)
theorem d_8090_28 {σ : Nat → Nat} {n0 : Nat} {bf : ab_B} : decode (ab_code (zx σ n0 bf).1 8090) 28 = .ok (.iconst 0, 1) := zd zm_8090 (by decide +kernel)
theorem d_8090_29 {σ : Nat → Nat} {n0 : Nat} {bf : ab_B} : decode (ab_code (zx σ n0 bf).1 8090) 29 = .ok (.istore_n 2, 1) := zd zm_8090 (by decide +kernel)
theorem d_8090_30 {σ : Nat → Nat} {n0 : Nat} {bf : ab_B} : decode (ab_code (zx σ n0 bf).1 8090) 30 = .ok (.iload_n 2, 1) := zd zm_8090 (by decide +kernel)
theorem d_8090_31 {σ : Nat → Nat} {n0 : Nat} {bf : ab_B} : decode (ab_code (zx σ n0 bf).1 8090) 31 = .ok (.ifCond .le 12, 3) := zd zm_8090 (by decide +kernel)
theorem d_8090_34 {σ : Nat → Nat} {n0 : Nat} {bf : ab_B} : decode (ab_code (zx σ n0 bf).1 8090) 34 = .ok (.aload_n 0, 1) := zd zm_8090 (by decide +kernel)
theorem d_8090_35 {σ : Nat → Nat} {n0 : Nat} {bf : ab_B} : decode (ab_code (zx σ n0 bf).1 8090) 35 = .ok (.getfield 44, 3) := zd zm_8090 (by decide +kernel)
theorem d_8090_38 {σ : Nat → Nat} {n0 : Nat} {bf : ab_B} : decode (ab_code (zx σ n0 bf).1 8090) 38 = .ok (.iload_n 2, 1) := zd zm_8090 (by decide +kernel)
theorem d_8090_39 {σ : Nat → Nat} {n0 : Nat} {bf : ab_B} : decode (ab_code (zx σ n0 bf).1 8090) 39 = .ok (.baload, 1) := zd zm_8090 (by decide +kernel)
theorem d_8090_40 {σ : Nat → Nat} {n0 : Nat} {bf : ab_B} : decode (ab_code (zx σ n0 bf).1 8090) 40 = .ok (.goto 4, 3) := zd zm_8090 (by decide +kernel)
theorem d_8090_43 {σ : Nat → Nat} {n0 : Nat} {bf : ab_B} : decode (ab_code (zx σ n0 bf).1 8090) 43 = .ok (.iconst 0, 1) := zd zm_8090 (by decide +kernel)
theorem d_8090_44 {σ : Nat → Nat} {n0 : Nat} {bf : ab_B} : decode (ab_code (zx σ n0 bf).1 8090) 44 = .ok (.istore_n 3, 1) := zd zm_8090 (by decide +kernel)
theorem d_8090_45 {σ : Nat → Nat} {n0 : Nat} {bf : ab_B} : decode (ab_code (zx σ n0 bf).1 8090) 45 = .ok (.aload_n 0, 1) := zd zm_8090 (by decide +kernel)
theorem d_8090_46 {σ : Nat → Nat} {n0 : Nat} {bf : ab_B} : decode (ab_code (zx σ n0 bf).1 8090) 46 = .ok (.invokevirtual 706, 3) := zd zm_8090 (by decide +kernel)
theorem d_8090_49 {σ : Nat → Nat} {n0 : Nat} {bf : ab_B} : decode (ab_code (zx σ n0 bf).1 8090) 49 = .ok (.aload_n 0, 1) := zd zm_8090 (by decide +kernel)
theorem d_8090_50 {σ : Nat → Nat} {n0 : Nat} {bf : ab_B} : decode (ab_code (zx σ n0 bf).1 8090) 50 = .ok (.getfield 444, 3) := zd zm_8090 (by decide +kernel)
theorem d_8090_53 {σ : Nat → Nat} {n0 : Nat} {bf : ab_B} : decode (ab_code (zx σ n0 bf).1 8090) 53 = .ok (.ifCond .le 4, 3) := zd zm_8090 (by decide +kernel)
theorem d_8090_56 {σ : Nat → Nat} {n0 : Nat} {bf : ab_B} : decode (ab_code (zx σ n0 bf).1 8090) 56 = .ok (.return_, 1) := zd zm_8090 (by decide +kernel)
theorem d_8090_57 {σ : Nat → Nat} {n0 : Nat} {bf : ab_B} : decode (ab_code (zx σ n0 bf).1 8090) 57 = .ok (.iload_n 3, 1) := zd zm_8090 (by decide +kernel)
theorem d_8090_58 {σ : Nat → Nat} {n0 : Nat} {bf : ab_B} : decode (ab_code (zx σ n0 bf).1 8090) 58 = .ok (.iconst 2, 1) := zd zm_8090 (by decide +kernel)
theorem d_8090_59 {σ : Nat → Nat} {n0 : Nat} {bf : ab_B} : decode (ab_code (zx σ n0 bf).1 8090) 59 = .ok (.if_icmp .ne 20, 3) := zd zm_8090 (by decide +kernel)
theorem d_8090_62 {σ : Nat → Nat} {n0 : Nat} {bf : ab_B} : decode (ab_code (zx σ n0 bf).1 8090) 62 = .ok (.aload_n 0, 1) := zd zm_8090 (by decide +kernel)
theorem d_8090_63 {σ : Nat → Nat} {n0 : Nat} {bf : ab_B} : decode (ab_code (zx σ n0 bf).1 8090) 63 = .ok (.aload_n 0, 1) := zd zm_8090 (by decide +kernel)
theorem d_8090_64 {σ : Nat → Nat} {n0 : Nat} {bf : ab_B} : decode (ab_code (zx σ n0 bf).1 8090) 64 = .ok (.getfield 50, 3) := zd zm_8090 (by decide +kernel)
theorem d_8090_67 {σ : Nat → Nat} {n0 : Nat} {bf : ab_B} : decode (ab_code (zx σ n0 bf).1 8090) 67 = .ok (.iload_n 2, 1) := zd zm_8090 (by decide +kernel)
theorem d_8090_68 {σ : Nat → Nat} {n0 : Nat} {bf : ab_B} : decode (ab_code (zx σ n0 bf).1 8090) 68 = .ok (.iaload, 1) := zd zm_8090 (by decide +kernel)
theorem d_8090_69 {σ : Nat → Nat} {n0 : Nat} {bf : ab_B} : decode (ab_code (zx σ n0 bf).1 8090) 69 = .ok (.invokevirtual 840, 3) := zd zm_8090 (by decide +kernel)
theorem d_8090_72 {σ : Nat → Nat} {n0 : Nat} {bf : ab_B} : decode (ab_code (zx σ n0 bf).1 8090) 72 = .ok (.aload_n 0, 1) := zd zm_8090 (by decide +kernel)
theorem d_8090_73 {σ : Nat → Nat} {n0 : Nat} {bf : ab_B} : decode (ab_code (zx σ n0 bf).1 8090) 73 = .ok (.invokevirtual 538, 3) := zd zm_8090 (by decide +kernel)
theorem d_8090_76 {σ : Nat → Nat} {n0 : Nat} {bf : ab_B} : decode (ab_code (zx σ n0 bf).1 8090) 76 = .ok (.goto 325, 3) := zd zm_8090 (by decide +kernel)
theorem d_8090_79 {σ : Nat → Nat} {n0 : Nat} {bf : ab_B} : decode (ab_code (zx σ n0 bf).1 8090) 79 = .ok (.iload_n 3, 1) := zd zm_8090 (by decide +kernel)
theorem d_8090_80 {σ : Nat → Nat} {n0 : Nat} {bf : ab_B} : decode (ab_code (zx σ n0 bf).1 8090) 80 = .ok (.iconst 3, 1) := zd zm_8090 (by decide +kernel)
theorem d_8090_81 {σ : Nat → Nat} {n0 : Nat} {bf : ab_B} : decode (ab_code (zx σ n0 bf).1 8090) 81 = .ok (.if_icmp .ne 98, 3) := zd zm_8090 (by decide +kernel)
theorem d_8090_84 {σ : Nat → Nat} {n0 : Nat} {bf : ab_B} : decode (ab_code (zx σ n0 bf).1 8090) 84 = .ok (.aload_n 0, 1) := zd zm_8090 (by decide +kernel)
theorem d_8090_85 {σ : Nat → Nat} {n0 : Nat} {bf : ab_B} : decode (ab_code (zx σ n0 bf).1 8090) 85 = .ok (.invokevirtual 538, 3) := zd zm_8090 (by decide +kernel)
theorem d_8090_88 {σ : Nat → Nat} {n0 : Nat} {bf : ab_B} : decode (ab_code (zx σ n0 bf).1 8090) 88 = .ok (.aload_n 0, 1) := zd zm_8090 (by decide +kernel)
theorem d_8090_89 {σ : Nat → Nat} {n0 : Nat} {bf : ab_B} : decode (ab_code (zx σ n0 bf).1 8090) 89 = .ok (.bipush 8, 2) := zd zm_8090 (by decide +kernel)
theorem d_8090_91 {σ : Nat → Nat} {n0 : Nat} {bf : ab_B} : decode (ab_code (zx σ n0 bf).1 8090) 91 = .ok (.invokevirtual 535, 3) := zd zm_8090 (by decide +kernel)
theorem d_8090_94 {σ : Nat → Nat} {n0 : Nat} {bf : ab_B} : decode (ab_code (zx σ n0 bf).1 8090) 94 = .ok (.ifCond .eq 77, 3) := zd zm_8090 (by decide +kernel)
theorem d_8090_97 {σ : Nat → Nat} {n0 : Nat} {bf : ab_B} : decode (ab_code (zx σ n0 bf).1 8090) 97 = .ok (.aload_n 0, 1) := zd zm_8090 (by decide +kernel)
theorem d_8090_98 {σ : Nat → Nat} {n0 : Nat} {bf : ab_B} : decode (ab_code (zx σ n0 bf).1 8090) 98 = .ok (.bipush 46, 2) := zd zm_8090 (by decide +kernel)
theorem d_8090_100 {σ : Nat → Nat} {n0 : Nat} {bf : ab_B} : decode (ab_code (zx σ n0 bf).1 8090) 100 = .ok (.aload_n 0, 1) := zd zm_8090 (by decide +kernel)
theorem d_8090_101 {σ : Nat → Nat} {n0 : Nat} {bf : ab_B} : decode (ab_code (zx σ n0 bf).1 8090) 101 = .ok (.getfield 53, 3) := zd zm_8090 (by decide +kernel)
theorem d_8090_104 {σ : Nat → Nat} {n0 : Nat} {bf : ab_B} : decode (ab_code (zx σ n0 bf).1 8090) 104 = .ok (.iload_n 2, 1) := zd zm_8090 (by decide +kernel)
theorem d_8090_105 {σ : Nat → Nat} {n0 : Nat} {bf : ab_B} : decode (ab_code (zx σ n0 bf).1 8090) 105 = .ok (.iaload, 1) := zd zm_8090 (by decide +kernel)
theorem d_8090_106 {σ : Nat → Nat} {n0 : Nat} {bf : ab_B} : decode (ab_code (zx σ n0 bf).1 8090) 106 = .ok (.aload_n 0, 1) := zd zm_8090 (by decide +kernel)
theorem d_8090_107 {σ : Nat → Nat} {n0 : Nat} {bf : ab_B} : decode (ab_code (zx σ n0 bf).1 8090) 107 = .ok (.getfield 578, 3) := zd zm_8090 (by decide +kernel)
theorem d_8090_110 {σ : Nat → Nat} {n0 : Nat} {bf : ab_B} : decode (ab_code (zx σ n0 bf).1 8090) 110 = .ok (.iload_n 1, 1) := zd zm_8090 (by decide +kernel)
theorem d_8090_111 {σ : Nat → Nat} {n0 : Nat} {bf : ab_B} : decode (ab_code (zx σ n0 bf).1 8090) 111 = .ok (.ifCond .eq 12, 3) := zd zm_8090 (by decide +kernel)
theorem d_8090_114 {σ : Nat → Nat} {n0 : Nat} {bf : ab_B} : decode (ab_code (zx σ n0 bf).1 8090) 114 = .ok (.aload_n 0, 1) := zd zm_8090 (by decide +kernel)
theorem d_8090_115 {σ : Nat → Nat} {n0 : Nat} {bf : ab_B} : decode (ab_code (zx σ n0 bf).1 8090) 115 = .ok (.getfield 556, 3) := zd zm_8090 (by decide +kernel)
theorem d_8090_118 {σ : Nat → Nat} {n0 : Nat} {bf : ab_B} : decode (ab_code (zx σ n0 bf).1 8090) 118 = .ok (.iconst 1, 1) := zd zm_8090 (by decide +kernel)
theorem d_8090_119 {σ : Nat → Nat} {n0 : Nat} {bf : ab_B} : decode (ab_code (zx σ n0 bf).1 8090) 119 = .ok (.iadd, 1) := zd zm_8090 (by decide +kernel)
theorem d_8090_120 {σ : Nat → Nat} {n0 : Nat} {bf : ab_B} : decode (ab_code (zx σ n0 bf).1 8090) 120 = .ok (.goto 4, 3) := zd zm_8090 (by decide +kernel)
theorem d_8090_123 {σ : Nat → Nat} {n0 : Nat} {bf : ab_B} : decode (ab_code (zx σ n0 bf).1 8090) 123 = .ok (.iconst 0, 1) := zd zm_8090 (by decide +kernel)
theorem d_8090_124 {σ : Nat → Nat} {n0 : Nat} {bf : ab_B} : decode (ab_code (zx σ n0 bf).1 8090) 124 = .ok (.invokevirtual 649, 3) := zd zm_8090 (by decide +kernel)
theorem d_8090_127 {σ : Nat → Nat} {n0 : Nat} {bf : ab_B} : decode (ab_code (zx σ n0 bf).1 8090) 127 = .ok (.aload_n 0, 1) := zd zm_8090 (by decide +kernel)
theorem d_8090_128 {σ : Nat → Nat} {n0 : Nat} {bf : ab_B} : decode (ab_code (zx σ n0 bf).1 8090) 128 = .ok (.dup, 1) := zd zm_8090 (by decide +kernel)
theorem d_8090_129 {σ : Nat → Nat} {n0 : Nat} {bf : ab_B} : decode (ab_code (zx σ n0 bf).1 8090) 129 = .ok (.getfield 578, 3) := zd zm_8090 (by decide +kernel)
theorem d_8090_132 {σ : Nat → Nat} {n0 : Nat} {bf : ab_B} : decode (ab_code (zx σ n0 bf).1 8090) 132 = .ok (.iconst 4, 1) := zd zm_8090 (by decide +kernel)
theorem d_8090_133 {σ : Nat → Nat} {n0 : Nat} {bf : ab_B} : decode (ab_code (zx σ n0 bf).1 8090) 133 = .ok (.iadd, 1) := zd zm_8090 (by decide +kernel)
theorem d_8090_134 {σ : Nat → Nat} {n0 : Nat} {bf : ab_B} : decode (ab_code (zx σ n0 bf).1 8090) 134 = .ok (.putfield 578, 3) := zd zm_8090 (by decide +kernel)
theorem d_8090_137 {σ : Nat → Nat} {n0 : Nat} {bf : ab_B} : decode (ab_code (zx σ n0 bf).1 8090) 137 = .ok (.aload_n 0, 1) := zd zm_8090 (by decide +kernel)
theorem d_8090_138 {σ : Nat → Nat} {n0 : Nat} {bf : ab_B} : decode (ab_code (zx σ n0 bf).1 8090) 138 = .ok (.bipush 45, 2) := zd zm_8090 (by decide +kernel)
theorem d_8090_140 {σ : Nat → Nat} {n0 : Nat} {bf : ab_B} : decode (ab_code (zx σ n0 bf).1 8090) 140 = .ok (.aload_n 0, 1) := zd zm_8090 (by decide +kernel)
theorem d_8090_141 {σ : Nat → Nat} {n0 : Nat} {bf : ab_B} : decode (ab_code (zx σ n0 bf).1 8090) 141 = .ok (.getfield 53, 3) := zd zm_8090 (by decide +kernel)
theorem d_8090_144 {σ : Nat → Nat} {n0 : Nat} {bf : ab_B} : decode (ab_code (zx σ n0 bf).1 8090) 144 = .ok (.iload_n 2, 1) := zd zm_8090 (by decide +kernel)
theorem d_8090_145 {σ : Nat → Nat} {n0 : Nat} {bf : ab_B} : decode (ab_code (zx σ n0 bf).1 8090) 145 = .ok (.iaload, 1) := zd zm_8090 (by decide +kernel)
theorem d_8090_146 {σ : Nat → Nat} {n0 : Nat} {bf : ab_B} : decode (ab_code (zx σ n0 bf).1 8090) 146 = .ok (.iconst 0, 1) := zd zm_8090 (by decide +kernel)
theorem d_8090_147 {σ : Nat → Nat} {n0 : Nat} {bf : ab_B} : decode (ab_code (zx σ n0 bf).1 8090) 147 = .ok (.aload_n 0, 1) := zd zm_8090 (by decide +kernel)
theorem d_8090_148 {σ : Nat → Nat} {n0 : Nat} {bf : ab_B} : decode (ab_code (zx σ n0 bf).1 8090) 148 = .ok (.getfield 578, 3) := zd zm_8090 (by decide +kernel)
theorem d_8090_151 {σ : Nat → Nat} {n0 : Nat} {bf : ab_B} : decode (ab_code (zx σ n0 bf).1 8090) 151 = .ok (.iconst 4, 1) := zd zm_8090 (by decide +kernel)
theorem d_8090_152 {σ : Nat → Nat} {n0 : Nat} {bf : ab_B} : decode (ab_code (zx σ n0 bf).1 8090) 152 = .ok (.isub, 1) := zd zm_8090 (by decide +kernel)
theorem d_8090_153 {σ : Nat → Nat} {n0 : Nat} {bf : ab_B} : decode (ab_code (zx σ n0 bf).1 8090) 153 = .ok (.invokevirtual 649, 3) := zd zm_8090 (by decide +kernel)
theorem d_8090_156 {σ : Nat → Nat} {n0 : Nat} {bf : ab_B} : decode (ab_code (zx σ n0 bf).1 8090) 156 = .ok (.aload_n 0, 1) := zd zm_8090 (by decide +kernel)
theorem d_8090_157 {σ : Nat → Nat} {n0 : Nat} {bf : ab_B} : decode (ab_code (zx σ n0 bf).1 8090) 157 = .ok (.iconst 5, 1) := zd zm_8090 (by decide +kernel)
theorem d_8090_158 {σ : Nat → Nat} {n0 : Nat} {bf : ab_B} : decode (ab_code (zx σ n0 bf).1 8090) 158 = .ok (.iconst 0, 1) := zd zm_8090 (by decide +kernel)
theorem d_8090_159 {σ : Nat → Nat} {n0 : Nat} {bf : ab_B} : decode (ab_code (zx σ n0 bf).1 8090) 159 = .ok (.iconst 0, 1) := zd zm_8090 (by decide +kernel)
theorem d_8090_160 {σ : Nat → Nat} {n0 : Nat} {bf : ab_B} : decode (ab_code (zx σ n0 bf).1 8090) 160 = .ok (.iconst 0, 1) := zd zm_8090 (by decide +kernel)
theorem d_8090_161 {σ : Nat → Nat} {n0 : Nat} {bf : ab_B} : decode (ab_code (zx σ n0 bf).1 8090) 161 = .ok (.invokevirtual 649, 3) := zd zm_8090 (by decide +kernel)
theorem d_8090_164 {σ : Nat → Nat} {n0 : Nat} {bf : ab_B} : decode (ab_code (zx σ n0 bf).1 8090) 164 = .ok (.aload_n 0, 1) := zd zm_8090 (by decide +kernel)
theorem d_8090_165 {σ : Nat → Nat} {n0 : Nat} {bf : ab_B} : decode (ab_code (zx σ n0 bf).1 8090) 165 = .ok (.invokevirtual 538, 3) := zd zm_8090 (by decide +kernel)
theorem d_8090_168 {σ : Nat → Nat} {n0 : Nat} {bf : ab_B} : decode (ab_code (zx σ n0 bf).1 8090) 168 = .ok (.goto 233, 3) := zd zm_8090 (by decide +kernel)
theorem d_8090_171 {σ : Nat → Nat} {n0 : Nat} {bf : ab_B} : decode (ab_code (zx σ n0 bf).1 8090) 171 = .ok (.aload_n 0, 1) := zd zm_8090 (by decide +kernel)
theorem d_8090_172 {σ : Nat → Nat} {n0 : Nat} {bf : ab_B} : decode (ab_code (zx σ n0 bf).1 8090) 172 = .ok (.iconst 5, 1) := zd zm_8090 (by decide +kernel)
theorem d_8090_173 {σ : Nat → Nat} {n0 : Nat} {bf : ab_B} : decode (ab_code (zx σ n0 bf).1 8090) 173 = .ok (.invokevirtual 541, 3) := zd zm_8090 (by decide +kernel)
theorem d_8090_176 {σ : Nat → Nat} {n0 : Nat} {bf : ab_B} : decode (ab_code (zx σ n0 bf).1 8090) 176 = .ok (.goto 225, 3) := zd zm_8090 (by decide +kernel)
theorem d_8090_179 {σ : Nat → Nat} {n0 : Nat} {bf : ab_B} : decode (ab_code (zx σ n0 bf).1 8090) 179 = .ok (.aload_n 0, 1) := zd zm_8090 (by decide +kernel)
theorem d_8090_180 {σ : Nat → Nat} {n0 : Nat} {bf : ab_B} : decode (ab_code (zx σ n0 bf).1 8090) 180 = .ok (.bipush 8, 2) := zd zm_8090 (by decide +kernel)
theorem d_8090_182 {σ : Nat → Nat} {n0 : Nat} {bf : ab_B} : decode (ab_code (zx σ n0 bf).1 8090) 182 = .ok (.invokevirtual 535, 3) := zd zm_8090 (by decide +kernel)
theorem d_8090_185 {σ : Nat → Nat} {n0 : Nat} {bf : ab_B} : decode (ab_code (zx σ n0 bf).1 8090) 185 = .ok (.ifCond .eq 14, 3) := zd zm_8090 (by decide +kernel)
theorem d_8090_188 {σ : Nat → Nat} {n0 : Nat} {bf : ab_B} : decode (ab_code (zx σ n0 bf).1 8090) 188 = .ok (.aload_n 0, 1) := zd zm_8090 (by decide +kernel)
theorem d_8090_189 {σ : Nat → Nat} {n0 : Nat} {bf : ab_B} : decode (ab_code (zx σ n0 bf).1 8090) 189 = .ok (.invokevirtual 538, 3) := zd zm_8090 (by decide +kernel)
theorem d_8090_192 {σ : Nat → Nat} {n0 : Nat} {bf : ab_B} : decode (ab_code (zx σ n0 bf).1 8090) 192 = .ok (.aload_n 0, 1) := zd zm_8090 (by decide +kernel)
theorem d_8090_193 {σ : Nat → Nat} {n0 : Nat} {bf : ab_B} : decode (ab_code (zx σ n0 bf).1 8090) 193 = .ok (.invokevirtual 843, 3) := zd zm_8090 (by decide +kernel)
theorem d_8090_196 {σ : Nat → Nat} {n0 : Nat} {bf : ab_B} : decode (ab_code (zx σ n0 bf).1 8090) 196 = .ok (.goto 205, 3) := zd zm_8090 (by decide +kernel)
theorem d_8090_199 {σ : Nat → Nat} {n0 : Nat} {bf : ab_B} : decode (ab_code (zx σ n0 bf).1 8090) 199 = .ok (.aload_n 0, 1) := zd zm_8090 (by decide +kernel)
theorem d_8090_200 {σ : Nat → Nat} {n0 : Nat} {bf : ab_B} : decode (ab_code (zx σ n0 bf).1 8090) 200 = .ok (.bipush 24, 2) := zd zm_8090 (by decide +kernel)
theorem d_8090_202 {σ : Nat → Nat} {n0 : Nat} {bf : ab_B} : decode (ab_code (zx σ n0 bf).1 8090) 202 = .ok (.invokevirtual 544, 3) := zd zm_8090 (by decide +kernel)
theorem d_8090_205 {σ : Nat → Nat} {n0 : Nat} {bf : ab_B} : decode (ab_code (zx σ n0 bf).1 8090) 205 = .ok (.ifCond .eq 34, 3) := zd zm_8090 (by decide +kernel)
theorem d_8090_208 {σ : Nat → Nat} {n0 : Nat} {bf : ab_B} : decode (ab_code (zx σ n0 bf).1 8090) 208 = .ok (.aload_n 0, 1) := zd zm_8090 (by decide +kernel)
theorem d_8090_209 {σ : Nat → Nat} {n0 : Nat} {bf : ab_B} : decode (ab_code (zx σ n0 bf).1 8090) 209 = .ok (.invokevirtual 538, 3) := zd zm_8090 (by decide +kernel)
theorem d_8090_212 {σ : Nat → Nat} {n0 : Nat} {bf : ab_B} : decode (ab_code (zx σ n0 bf).1 8090) 212 = .ok (.aload_n 0, 1) := zd zm_8090 (by decide +kernel)
theorem d_8090_213 {σ : Nat → Nat} {n0 : Nat} {bf : ab_B} : decode (ab_code (zx σ n0 bf).1 8090) 213 = .ok (.bipush 10, 2) := zd zm_8090 (by decide +kernel)
theorem d_8090_215 {σ : Nat → Nat} {n0 : Nat} {bf : ab_B} : decode (ab_code (zx σ n0 bf).1 8090) 215 = .ok (.invokevirtual 746, 3) := zd zm_8090 (by decide +kernel)
theorem d_8090_218 {σ : Nat → Nat} {n0 : Nat} {bf : ab_B} : decode (ab_code (zx σ n0 bf).1 8090) 218 = .ok (.aload_n 0, 1) := zd zm_8090 (by decide +kernel)
theorem d_8090_219 {σ : Nat → Nat} {n0 : Nat} {bf : ab_B} : decode (ab_code (zx σ n0 bf).1 8090) 219 = .ok (.bipush 34, 2) := zd zm_8090 (by decide +kernel)
theorem d_8090_221 {σ : Nat → Nat} {n0 : Nat} {bf : ab_B} : decode (ab_code (zx σ n0 bf).1 8090) 221 = .ok (.iconst 1, 1) := zd zm_8090 (by decide +kernel)
theorem d_8090_222 {σ : Nat → Nat} {n0 : Nat} {bf : ab_B} : decode (ab_code (zx σ n0 bf).1 8090) 222 = .ok (.iconst 0, 1) := zd zm_8090 (by decide +kernel)
theorem d_8090_223 {σ : Nat → Nat} {n0 : Nat} {bf : ab_B} : decode (ab_code (zx σ n0 bf).1 8090) 223 = .ok (.iconst 0, 1) := zd zm_8090 (by decide +kernel)
theorem d_8090_224 {σ : Nat → Nat} {n0 : Nat} {bf : ab_B} : decode (ab_code (zx σ n0 bf).1 8090) 224 = .ok (.invokevirtual 649, 3) := zd zm_8090 (by decide +kernel)
theorem d_8090_227 {σ : Nat → Nat} {n0 : Nat} {bf : ab_B} : decode (ab_code (zx σ n0 bf).1 8090) 227 = .ok (.aload_n 0, 1) := zd zm_8090 (by decide +kernel)
theorem d_8090_228 {σ : Nat → Nat} {n0 : Nat} {bf : ab_B} : decode (ab_code (zx σ n0 bf).1 8090) 228 = .ok (.bipush 30, 2) := zd zm_8090 (by decide +kernel)
theorem d_8090_230 {σ : Nat → Nat} {n0 : Nat} {bf : ab_B} : decode (ab_code (zx σ n0 bf).1 8090) 230 = .ok (.iconst 0, 1) := zd zm_8090 (by decide +kernel)
theorem d_8090_231 {σ : Nat → Nat} {n0 : Nat} {bf : ab_B} : decode (ab_code (zx σ n0 bf).1 8090) 231 = .ok (.iconst 0, 1) := zd zm_8090 (by decide +kernel)
theorem d_8090_232 {σ : Nat → Nat} {n0 : Nat} {bf : ab_B} : decode (ab_code (zx σ n0 bf).1 8090) 232 = .ok (.iconst 0, 1) := zd zm_8090 (by decide +kernel)
theorem d_8090_233 {σ : Nat → Nat} {n0 : Nat} {bf : ab_B} : decode (ab_code (zx σ n0 bf).1 8090) 233 = .ok (.invokevirtual 649, 3) := zd zm_8090 (by decide +kernel)
theorem d_8090_236 {σ : Nat → Nat} {n0 : Nat} {bf : ab_B} : decode (ab_code (zx σ n0 bf).1 8090) 236 = .ok (.goto 165, 3) := zd zm_8090 (by decide +kernel)
theorem d_8090_239 {σ : Nat → Nat} {n0 : Nat} {bf : ab_B} : decode (ab_code (zx σ n0 bf).1 8090) 239 = .ok (.aload_n 0, 1) := zd zm_8090 (by decide +kernel)
theorem d_8090_240 {σ : Nat → Nat} {n0 : Nat} {bf : ab_B} : decode (ab_code (zx σ n0 bf).1 8090) 240 = .ok (.bipush 25, 2) := zd zm_8090 (by decide +kernel)
theorem d_8090_242 {σ : Nat → Nat} {n0 : Nat} {bf : ab_B} : decode (ab_code (zx σ n0 bf).1 8090) 242 = .ok (.invokevirtual 544, 3) := zd zm_8090 (by decide +kernel)
theorem d_8090_245 {σ : Nat → Nat} {n0 : Nat} {bf : ab_B} : decode (ab_code (zx σ n0 bf).1 8090) 245 = .ok (.ifCond .eq 40, 3) := zd zm_8090 (by decide +kernel)
theorem d_8090_248 {σ : Nat → Nat} {n0 : Nat} {bf : ab_B} : decode (ab_code (zx σ n0 bf).1 8090) 248 = .ok (.aload_n 0, 1) := zd zm_8090 (by decide +kernel)
theorem d_8090_249 {σ : Nat → Nat} {n0 : Nat} {bf : ab_B} : decode (ab_code (zx σ n0 bf).1 8090) 249 = .ok (.invokevirtual 538, 3) := zd zm_8090 (by decide +kernel)
theorem d_8090_252 {σ : Nat → Nat} {n0 : Nat} {bf : ab_B} : decode (ab_code (zx σ n0 bf).1 8090) 252 = .ok (.aload_n 0, 1) := zd zm_8090 (by decide +kernel)
theorem d_8090_253 {σ : Nat → Nat} {n0 : Nat} {bf : ab_B} : decode (ab_code (zx σ n0 bf).1 8090) 253 = .ok (.bipush 9, 2) := zd zm_8090 (by decide +kernel)
theorem d_8090_255 {σ : Nat → Nat} {n0 : Nat} {bf : ab_B} : decode (ab_code (zx σ n0 bf).1 8090) 255 = .ok (.iconst 0, 1) := zd zm_8090 (by decide +kernel)
theorem d_8090_256 {σ : Nat → Nat} {n0 : Nat} {bf : ab_B} : decode (ab_code (zx σ n0 bf).1 8090) 256 = .ok (.iconst 1, 1) := zd zm_8090 (by decide +kernel)
theorem d_8090_257 {σ : Nat → Nat} {n0 : Nat} {bf : ab_B} : decode (ab_code (zx σ n0 bf).1 8090) 257 = .ok (.invokevirtual 599, 3) := zd zm_8090 (by decide +kernel)
theorem d_8090_260 {σ : Nat → Nat} {n0 : Nat} {bf : ab_B} : decode (ab_code (zx σ n0 bf).1 8090) 260 = .ok (.istore 4, 2) := zd zm_8090 (by decide +kernel)
theorem d_8090_262 {σ : Nat → Nat} {n0 : Nat} {bf : ab_B} : decode (ab_code (zx σ n0 bf).1 8090) 262 = .ok (.aload_n 0, 1) := zd zm_8090 (by decide +kernel)
theorem d_8090_263 {σ : Nat → Nat} {n0 : Nat} {bf : ab_B} : decode (ab_code (zx σ n0 bf).1 8090) 263 = .ok (.bipush 38, 2) := zd zm_8090 (by decide +kernel)
theorem d_8090_265 {σ : Nat → Nat} {n0 : Nat} {bf : ab_B} : decode (ab_code (zx σ n0 bf).1 8090) 265 = .ok (.iload 4, 2) := zd zm_8090 (by decide +kernel)
theorem d_8090_267 {σ : Nat → Nat} {n0 : Nat} {bf : ab_B} : decode (ab_code (zx σ n0 bf).1 8090) 267 = .ok (.iconst 0, 1) := zd zm_8090 (by decide +kernel)
theorem d_8090_268 {σ : Nat → Nat} {n0 : Nat} {bf : ab_B} : decode (ab_code (zx σ n0 bf).1 8090) 268 = .ok (.iconst 0, 1) := zd zm_8090 (by decide +kernel)
theorem d_8090_269 {σ : Nat → Nat} {n0 : Nat} {bf : ab_B} : decode (ab_code (zx σ n0 bf).1 8090) 269 = .ok (.invokevirtual 649, 3) := zd zm_8090 (by decide +kernel)
theorem d_8090_272 {σ : Nat → Nat} {n0 : Nat} {bf : ab_B} : decode (ab_code (zx σ n0 bf).1 8090) 272 = .ok (.aload_n 0, 1) := zd zm_8090 (by decide +kernel)
theorem d_8090_273 {σ : Nat → Nat} {n0 : Nat} {bf : ab_B} : decode (ab_code (zx σ n0 bf).1 8090) 273 = .ok (.bipush 39, 2) := zd zm_8090 (by decide +kernel)
theorem d_8090_275 {σ : Nat → Nat} {n0 : Nat} {bf : ab_B} : decode (ab_code (zx σ n0 bf).1 8090) 275 = .ok (.iload 4, 2) := zd zm_8090 (by decide +kernel)
theorem d_8090_277 {σ : Nat → Nat} {n0 : Nat} {bf : ab_B} : decode (ab_code (zx σ n0 bf).1 8090) 277 = .ok (.iconst 0, 1) := zd zm_8090 (by decide +kernel)
theorem d_8090_278 {σ : Nat → Nat} {n0 : Nat} {bf : ab_B} : decode (ab_code (zx σ n0 bf).1 8090) 278 = .ok (.iconst 0, 1) := zd zm_8090 (by decide +kernel)
theorem d_8090_279 {σ : Nat → Nat} {n0 : Nat} {bf : ab_B} : decode (ab_code (zx σ n0 bf).1 8090) 279 = .ok (.invokevirtual 649, 3) := zd zm_8090 (by decide +kernel)
theorem d_8090_282 {σ : Nat → Nat} {n0 : Nat} {bf : ab_B} : decode (ab_code (zx σ n0 bf).1 8090) 282 = .ok (.goto 119, 3) := zd zm_8090 (by decide +kernel)
theorem d_8090_285 {σ : Nat → Nat} {n0 : Nat} {bf : ab_B} : decode (ab_code (zx σ n0 bf).1 8090) 285 = .ok (.aload_n 0, 1) := zd zm_8090 (by decide +kernel)
theorem d_8090_286 {σ : Nat → Nat} {n0 : Nat} {bf : ab_B} : decode (ab_code (zx σ n0 bf).1 8090) 286 = .ok (.bipush 26, 2) := zd zm_8090 (by decide +kernel)
theorem d_8090_288 {σ : Nat → Nat} {n0 : Nat} {bf : ab_B} : decode (ab_code (zx σ n0 bf).1 8090) 288 = .ok (.invokevirtual 544, 3) := zd zm_8090 (by decide +kernel)
theorem d_8090_291 {σ : Nat → Nat} {n0 : Nat} {bf : ab_B} : decode (ab_code (zx σ n0 bf).1 8090) 291 = .ok (.ifCond .eq 34, 3) := zd zm_8090 (by decide +kernel)
theorem d_8090_294 {σ : Nat → Nat} {n0 : Nat} {bf : ab_B} : decode (ab_code (zx σ n0 bf).1 8090) 294 = .ok (.aload_n 0, 1) := zd zm_8090 (by decide +kernel)
theorem d_8090_295 {σ : Nat → Nat} {n0 : Nat} {bf : ab_B} : decode (ab_code (zx σ n0 bf).1 8090) 295 = .ok (.invokevirtual 538, 3) := zd zm_8090 (by decide +kernel)
theorem d_8090_298 {σ : Nat → Nat} {n0 : Nat} {bf : ab_B} : decode (ab_code (zx σ n0 bf).1 8090) 298 = .ok (.aload_n 0, 1) := zd zm_8090 (by decide +kernel)
theorem d_8090_299 {σ : Nat → Nat} {n0 : Nat} {bf : ab_B} : decode (ab_code (zx σ n0 bf).1 8090) 299 = .ok (.bipush 21, 2) := zd zm_8090 (by decide +kernel)
theorem d_8090_301 {σ : Nat → Nat} {n0 : Nat} {bf : ab_B} : decode (ab_code (zx σ n0 bf).1 8090) 301 = .ok (.invokevirtual 846, 3) := zd zm_8090 (by decide +kernel)
theorem d_8090_304 {σ : Nat → Nat} {n0 : Nat} {bf : ab_B} : decode (ab_code (zx σ n0 bf).1 8090) 304 = .ok (.aload_n 0, 1) := zd zm_8090 (by decide +kernel)
theorem d_8090_305 {σ : Nat → Nat} {n0 : Nat} {bf : ab_B} : decode (ab_code (zx σ n0 bf).1 8090) 305 = .ok (.bipush 36, 2) := zd zm_8090 (by decide +kernel)
theorem d_8090_307 {σ : Nat → Nat} {n0 : Nat} {bf : ab_B} : decode (ab_code (zx σ n0 bf).1 8090) 307 = .ok (.iconst 0, 1) := zd zm_8090 (by decide +kernel)
theorem d_8090_308 {σ : Nat → Nat} {n0 : Nat} {bf : ab_B} : decode (ab_code (zx σ n0 bf).1 8090) 308 = .ok (.iconst 0, 1) := zd zm_8090 (by decide +kernel)
theorem d_8090_309 {σ : Nat → Nat} {n0 : Nat} {bf : ab_B} : decode (ab_code (zx σ n0 bf).1 8090) 309 = .ok (.iconst 0, 1) := zd zm_8090 (by decide +kernel)
theorem d_8090_310 {σ : Nat → Nat} {n0 : Nat} {bf : ab_B} : decode (ab_code (zx σ n0 bf).1 8090) 310 = .ok (.invokevirtual 649, 3) := zd zm_8090 (by decide +kernel)
theorem d_8090_313 {σ : Nat → Nat} {n0 : Nat} {bf : ab_B} : decode (ab_code (zx σ n0 bf).1 8090) 313 = .ok (.aload_n 0, 1) := zd zm_8090 (by decide +kernel)
theorem d_8090_314 {σ : Nat → Nat} {n0 : Nat} {bf : ab_B} : decode (ab_code (zx σ n0 bf).1 8090) 314 = .ok (.bipush 30, 2) := zd zm_8090 (by decide +kernel)
theorem d_8090_316 {σ : Nat → Nat} {n0 : Nat} {bf : ab_B} : decode (ab_code (zx σ n0 bf).1 8090) 316 = .ok (.iconst 0, 1) := zd zm_8090 (by decide +kernel)
theorem d_8090_317 {σ : Nat → Nat} {n0 : Nat} {bf : ab_B} : decode (ab_code (zx σ n0 bf).1 8090) 317 = .ok (.iconst 0, 1) := zd zm_8090 (by decide +kernel)
theorem d_8090_318 {σ : Nat → Nat} {n0 : Nat} {bf : ab_B} : decode (ab_code (zx σ n0 bf).1 8090) 318 = .ok (.iconst 0, 1) := zd zm_8090 (by decide +kernel)
theorem d_8090_319 {σ : Nat → Nat} {n0 : Nat} {bf : ab_B} : decode (ab_code (zx σ n0 bf).1 8090) 319 = .ok (.invokevirtual 649, 3) := zd zm_8090 (by decide +kernel)
theorem d_8090_322 {σ : Nat → Nat} {n0 : Nat} {bf : ab_B} : decode (ab_code (zx σ n0 bf).1 8090) 322 = .ok (.goto 79, 3) := zd zm_8090 (by decide +kernel)
theorem d_8090_325 {σ : Nat → Nat} {n0 : Nat} {bf : ab_B} : decode (ab_code (zx σ n0 bf).1 8090) 325 = .ok (.aload_n 0, 1) := zd zm_8090 (by decide +kernel)
theorem d_8090_326 {σ : Nat → Nat} {n0 : Nat} {bf : ab_B} : decode (ab_code (zx σ n0 bf).1 8090) 326 = .ok (.bipush 27, 2) := zd zm_8090 (by decide +kernel)
theorem d_8090_328 {σ : Nat → Nat} {n0 : Nat} {bf : ab_B} : decode (ab_code (zx σ n0 bf).1 8090) 328 = .ok (.invokevirtual 544, 3) := zd zm_8090 (by decide +kernel)
theorem d_8090_331 {σ : Nat → Nat} {n0 : Nat} {bf : ab_B} : decode (ab_code (zx σ n0 bf).1 8090) 331 = .ok (.ifCond .eq 33, 3) := zd zm_8090 (by decide +kernel)
theorem d_8090_334 {σ : Nat → Nat} {n0 : Nat} {bf : ab_B} : decode (ab_code (zx σ n0 bf).1 8090) 334 = .ok (.aload_n 0, 1) := zd zm_8090 (by decide +kernel)
theorem d_8090_335 {σ : Nat → Nat} {n0 : Nat} {bf : ab_B} : decode (ab_code (zx σ n0 bf).1 8090) 335 = .ok (.invokevirtual 538, 3) := zd zm_8090 (by decide +kernel)
theorem d_8090_338 {σ : Nat → Nat} {n0 : Nat} {bf : ab_B} : decode (ab_code (zx σ n0 bf).1 8090) 338 = .ok (.aload_n 0, 1) := zd zm_8090 (by decide +kernel)
theorem d_8090_339 {σ : Nat → Nat} {n0 : Nat} {bf : ab_B} : decode (ab_code (zx σ n0 bf).1 8090) 339 = .ok (.bipush 8, 2) := zd zm_8090 (by decide +kernel)
theorem d_8090_341 {σ : Nat → Nat} {n0 : Nat} {bf : ab_B} : decode (ab_code (zx σ n0 bf).1 8090) 341 = .ok (.invokevirtual 746, 3) := zd zm_8090 (by decide +kernel)
theorem d_8090_344 {σ : Nat → Nat} {n0 : Nat} {bf : ab_B} : decode (ab_code (zx σ n0 bf).1 8090) 344 = .ok (.aload_n 0, 1) := zd zm_8090 (by decide +kernel)
theorem d_8090_345 {σ : Nat → Nat} {n0 : Nat} {bf : ab_B} : decode (ab_code (zx σ n0 bf).1 8090) 345 = .ok (.bipush 37, 2) := zd zm_8090 (by decide +kernel)
theorem d_8090_347 {σ : Nat → Nat} {n0 : Nat} {bf : ab_B} : decode (ab_code (zx σ n0 bf).1 8090) 347 = .ok (.iconst 0, 1) := zd zm_8090 (by decide +kernel)
theorem d_8090_348 {σ : Nat → Nat} {n0 : Nat} {bf : ab_B} : decode (ab_code (zx σ n0 bf).1 8090) 348 = .ok (.iconst 0, 1) := zd zm_8090 (by decide +kernel)
theorem d_8090_349 {σ : Nat → Nat} {n0 : Nat} {bf : ab_B} : decode (ab_code (zx σ n0 bf).1 8090) 349 = .ok (.iconst 0, 1) := zd zm_8090 (by decide +kernel)
theorem d_8090_350 {σ : Nat → Nat} {n0 : Nat} {bf : ab_B} : decode (ab_code (zx σ n0 bf).1 8090) 350 = .ok (.invokevirtual 649, 3) := zd zm_8090 (by decide +kernel)
theorem d_8090_353 {σ : Nat → Nat} {n0 : Nat} {bf : ab_B} : decode (ab_code (zx σ n0 bf).1 8090) 353 = .ok (.aload_n 0, 1) := zd zm_8090 (by decide +kernel)
theorem d_8090_354 {σ : Nat → Nat} {n0 : Nat} {bf : ab_B} : decode (ab_code (zx σ n0 bf).1 8090) 354 = .ok (.iconst 5, 1) := zd zm_8090 (by decide +kernel)
theorem d_8090_355 {σ : Nat → Nat} {n0 : Nat} {bf : ab_B} : decode (ab_code (zx σ n0 bf).1 8090) 355 = .ok (.iconst 0, 1) := zd zm_8090 (by decide +kernel)
theorem d_8090_356 {σ : Nat → Nat} {n0 : Nat} {bf : ab_B} : decode (ab_code (zx σ n0 bf).1 8090) 356 = .ok (.iconst 0, 1) := zd zm_8090 (by decide +kernel)
theorem d_8090_357 {σ : Nat → Nat} {n0 : Nat} {bf : ab_B} : decode (ab_code (zx σ n0 bf).1 8090) 357 = .ok (.iconst 0, 1) := zd zm_8090 (by decide +kernel)
theorem d_8090_358 {σ : Nat → Nat} {n0 : Nat} {bf : ab_B} : decode (ab_code (zx σ n0 bf).1 8090) 358 = .ok (.invokevirtual 649, 3) := zd zm_8090 (by decide +kernel)
theorem d_8090_361 {σ : Nat → Nat} {n0 : Nat} {bf : ab_B} : decode (ab_code (zx σ n0 bf).1 8090) 361 = .ok (.goto 40, 3) := zd zm_8090 (by decide +kernel)
theorem d_8090_364 {σ : Nat → Nat} {n0 : Nat} {bf : ab_B} : decode (ab_code (zx σ n0 bf).1 8090) 364 = .ok (.aload_n 0, 1) := zd zm_8090 (by decide +kernel)
theorem d_8090_365 {σ : Nat → Nat} {n0 : Nat} {bf : ab_B} : decode (ab_code (zx σ n0 bf).1 8090) 365 = .ok (.bipush 15, 2) := zd zm_8090 (by decide +kernel)
theorem d_8090_367 {σ : Nat → Nat} {n0 : Nat} {bf : ab_B} : decode (ab_code (zx σ n0 bf).1 8090) 367 = .ok (.invokevirtual 535, 3) := zd zm_8090 (by decide +kernel)
theorem d_8090_370 {σ : Nat → Nat} {n0 : Nat} {bf : ab_B} : decode (ab_code (zx σ n0 bf).1 8090) 370 = .ok (.ifCond .eq 14, 3) := zd zm_8090 (by decide +kernel)
theorem d_8090_373 {σ : Nat → Nat} {n0 : Nat} {bf : ab_B} : decode (ab_code (zx σ n0 bf).1 8090) 373 = .ok (.aload_n 0, 1) := zd zm_8090 (by decide +kernel)
theorem d_8090_374 {σ : Nat → Nat} {n0 : Nat} {bf : ab_B} : decode (ab_code (zx σ n0 bf).1 8090) 374 = .ok (.invokevirtual 538, 3) := zd zm_8090 (by decide +kernel)
theorem d_8090_377 {σ : Nat → Nat} {n0 : Nat} {bf : ab_B} : decode (ab_code (zx σ n0 bf).1 8090) 377 = .ok (.aload_n 0, 1) := zd zm_8090 (by decide +kernel)
theorem d_8090_378 {σ : Nat → Nat} {n0 : Nat} {bf : ab_B} : decode (ab_code (zx σ n0 bf).1 8090) 378 = .ok (.invokevirtual 849, 3) := zd zm_8090 (by decide +kernel)
theorem d_8090_381 {σ : Nat → Nat} {n0 : Nat} {bf : ab_B} : decode (ab_code (zx σ n0 bf).1 8090) 381 = .ok (.goto 20, 3) := zd zm_8090 (by decide +kernel)
theorem d_8090_384 {σ : Nat → Nat} {n0 : Nat} {bf : ab_B} : decode (ab_code (zx σ n0 bf).1 8090) 384 = .ok (.aload_n 0, 1) := zd zm_8090 (by decide +kernel)
theorem d_8090_385 {σ : Nat → Nat} {n0 : Nat} {bf : ab_B} : decode (ab_code (zx σ n0 bf).1 8090) 385 = .ok (.bipush 32, 2) := zd zm_8090 (by decide +kernel)
theorem d_8090_387 {σ : Nat → Nat} {n0 : Nat} {bf : ab_B} : decode (ab_code (zx σ n0 bf).1 8090) 387 = .ok (.iconst 0, 1) := zd zm_8090 (by decide +kernel)
theorem d_8090_388 {σ : Nat → Nat} {n0 : Nat} {bf : ab_B} : decode (ab_code (zx σ n0 bf).1 8090) 388 = .ok (.iconst 0, 1) := zd zm_8090 (by decide +kernel)
theorem d_8090_389 {σ : Nat → Nat} {n0 : Nat} {bf : ab_B} : decode (ab_code (zx σ n0 bf).1 8090) 389 = .ok (.iconst 0, 1) := zd zm_8090 (by decide +kernel)
theorem d_8090_390 {σ : Nat → Nat} {n0 : Nat} {bf : ab_B} : decode (ab_code (zx σ n0 bf).1 8090) 390 = .ok (.invokevirtual 649, 3) := zd zm_8090 (by decide +kernel)
theorem d_8090_393 {σ : Nat → Nat} {n0 : Nat} {bf : ab_B} : decode (ab_code (zx σ n0 bf).1 8090) 393 = .ok (.aload_n 0, 1) := zd zm_8090 (by decide +kernel)
theorem d_8090_394 {σ : Nat → Nat} {n0 : Nat} {bf : ab_B} : decode (ab_code (zx σ n0 bf).1 8090) 394 = .ok (.iconst 5, 1) := zd zm_8090 (by decide +kernel)
theorem d_8090_395 {σ : Nat → Nat} {n0 : Nat} {bf : ab_B} : decode (ab_code (zx σ n0 bf).1 8090) 395 = .ok (.iconst 0, 1) := zd zm_8090 (by decide +kernel)
theorem d_8090_396 {σ : Nat → Nat} {n0 : Nat} {bf : ab_B} : decode (ab_code (zx σ n0 bf).1 8090) 396 = .ok (.iconst 0, 1) := zd zm_8090 (by decide +kernel)
theorem d_8090_397 {σ : Nat → Nat} {n0 : Nat} {bf : ab_B} : decode (ab_code (zx σ n0 bf).1 8090) 397 = .ok (.iconst 0, 1) := zd zm_8090 (by decide +kernel)
theorem d_8090_398 {σ : Nat → Nat} {n0 : Nat} {bf : ab_B} : decode (ab_code (zx σ n0 bf).1 8090) 398 = .ok (.invokevirtual 649, 3) := zd zm_8090 (by decide +kernel)
theorem d_8090_401 {σ : Nat → Nat} {n0 : Nat} {bf : ab_B} : decode (ab_code (zx σ n0 bf).1 8090) 401 = .ok (.return_, 1) := zd zm_8090 (by decide +kernel)
def w_X9_type_401 (X : zs_X) (d : Nat)  (S : zs_T) (Q : zs_Q) : Prop :=
  (Q (.returned none) S)
theorem u_X9_type_401 {σ : Nat → Nat} {n0 : Nat} {bf : ab_B} {d : Nat}  {S : zs_T} {Q : zs_Q} (hB : zt_B bf) (h : w_X9_type_401 (zx σ n0 bf) d  S Q) : zs_U (zx σ n0 bf) d 8090 401 [] [] S Q := by
  unfold w_X9_type_401 at h
  exact zu_vret d_8090_401 zr_8090 h
def w_X9_type_364 (X : zs_X) (d : Nat) (p0 : Nat) (S : zs_T) (Q : zs_Q) : Prop :=
  (zs_K S p0 = some (.inl 8) ∧ zs_C X d 8029 [.ref p0, .int (15 : Int32)] S (zs_kI (fun v3 S2 => (((v3 = 0 → (zs_K S2 p0 = some (.inl 8) ∧ zs_C X d 8030 [.ref p0, .int (32 : Int32), .int (0 : Int32), .int (0 : Int32), .int (0 : Int32)] S2 (zs_kV (fun S6 => (zs_K S6 p0 = some (.inl 8) ∧ zs_C X d 8030 [.ref p0, .int (5 : Int32), .int (0 : Int32), .int (0 : Int32), .int (0 : Int32)] S6 (zs_kV (fun S9 => w_X9_type_401 X d  S9 Q) Q))) Q))) ∧ (¬ (v3 = 0) → (zs_K S2 p0 = some (.inl 8) ∧ zs_C X d 8014 [.ref p0] S2 (zs_kV (fun S12 => (zs_K S12 p0 = some (.inl 8) ∧ zs_C X d 8097 [.ref p0] S12 (zs_kV (fun S15 => (w_X9_type_401 X d  S15 Q)) Q))) Q)))))) Q))
theorem u_X9_type_364 {σ : Nat → Nat} {n0 : Nat} {bf : ab_B} {d : Nat} {p0 : Nat} {S : zs_T} {Q : zs_Q} (hB : zt_B bf) (h : w_X9_type_364 (zx σ n0 bf) d p0 S Q) : zs_U (zx σ n0 bf) d 8090 364 [(0, .ref p0)] [] S Q := by
  unfold w_X9_type_364 at h
  refine zu_aload_n d_8090_364 rfl (zs_ra _) ?_
  refine zu_bipush d_8090_365 zj_15 ?_
  obtain ⟨k1, h⟩ := h
  refine zc_8_535 (x0 := (15 : Int32)) hB rfl k1 d_8090_367 (Nat.le_of_ble_eq_true rfl) h (fun v3 S2 h => ?_)
  refine zu_ifeq (t := 384) d_8090_370 rfl (fun c4 => ?_) (fun c4 => ?_)
  · have h := h.1 c4
    refine zu_aload_n d_8090_384 rfl (zs_ra _) ?_
    refine zu_bipush d_8090_385 zj_32 ?_
    refine zu_iconst d_8090_387 zi_0 ?_
    refine zu_iconst d_8090_388 zi_0 ?_
    refine zu_iconst d_8090_389 zi_0 ?_
    obtain ⟨k5, h⟩ := h
    refine zc_8_649 (x0 := (32 : Int32)) (x1 := (0 : Int32)) (x2 := (0 : Int32)) (x3 := (0 : Int32)) hB rfl k5 d_8090_390 (Nat.le_of_ble_eq_true rfl) h (fun S6 h => ?_)
    refine zu_aload_n d_8090_393 rfl (zs_ra _) ?_
    refine zu_iconst d_8090_394 zi_5 ?_
    refine zu_iconst d_8090_395 zi_0 ?_
    refine zu_iconst d_8090_396 zi_0 ?_
    refine zu_iconst d_8090_397 zi_0 ?_
    obtain ⟨k8, h⟩ := h
    refine zc_8_649 (x0 := (5 : Int32)) (x1 := (0 : Int32)) (x2 := (0 : Int32)) (x3 := (0 : Int32)) hB rfl k8 d_8090_398 (Nat.le_of_ble_eq_true rfl) h (fun S9 h => ?_)
    exact (u_X9_type_401 hB h).weak trivial
  · have h := h.2 c4
    refine zu_aload_n d_8090_373 rfl (zs_ra _) ?_
    obtain ⟨k11, h⟩ := h
    refine zc_8_538  hB rfl k11 d_8090_374 (Nat.le_of_ble_eq_true rfl) h (fun S12 h => ?_)
    refine zu_aload_n d_8090_377 rfl (zs_ra _) ?_
    obtain ⟨k14, h⟩ := h
    refine zc_8_849  hB rfl k14 d_8090_378 (Nat.le_of_ble_eq_true rfl) h (fun S15 h => ?_)
    refine zu_goto (t := 401) d_8090_381 rfl ?_
    exact (u_X9_type_401 hB h).weak trivial
def w_X9_type_361 (X : zs_X) (d : Nat)  (S : zs_T) (Q : zs_Q) : Prop :=
  (w_X9_type_401 X d  S Q)
theorem u_X9_type_361 {σ : Nat → Nat} {n0 : Nat} {bf : ab_B} {d : Nat}  {S : zs_T} {Q : zs_Q} (hB : zt_B bf) (h : w_X9_type_361 (zx σ n0 bf) d  S Q) : zs_U (zx σ n0 bf) d 8090 361 [] [] S Q := by
  unfold w_X9_type_361 at h
  refine zu_goto (t := 401) d_8090_361 rfl ?_
  exact (u_X9_type_401 hB h).weak trivial
def w_X9_type_334 (X : zs_X) (d : Nat) (p0 : Nat) (S : zs_T) (Q : zs_Q) : Prop :=
  (zs_K S p0 = some (.inl 8) ∧ zs_C X d 8014 [.ref p0] S (zs_kV (fun S2 => (zs_K S2 p0 = some (.inl 8) ∧ zs_C X d 8028 [.ref p0, .int (8 : Int32)] S2 (zs_kV (fun S5 => (zs_K S5 p0 = some (.inl 8) ∧ zs_C X d 8030 [.ref p0, .int (37 : Int32), .int (0 : Int32), .int (0 : Int32), .int (0 : Int32)] S5 (zs_kV (fun S8 => (zs_K S8 p0 = some (.inl 8) ∧ zs_C X d 8030 [.ref p0, .int (5 : Int32), .int (0 : Int32), .int (0 : Int32), .int (0 : Int32)] S8 (zs_kV (fun S11 => w_X9_type_361 X d  S11 Q) Q))) Q))) Q))) Q))
theorem u_X9_type_334 {σ : Nat → Nat} {n0 : Nat} {bf : ab_B} {d : Nat} {p0 : Nat} {S : zs_T} {Q : zs_Q} (hB : zt_B bf) (h : w_X9_type_334 (zx σ n0 bf) d p0 S Q) : zs_U (zx σ n0 bf) d 8090 334 [(0, .ref p0)] [] S Q := by
  unfold w_X9_type_334 at h
  refine zu_aload_n d_8090_334 rfl (zs_ra _) ?_
  obtain ⟨k1, h⟩ := h
  refine zc_8_538  hB rfl k1 d_8090_335 (Nat.le_of_ble_eq_true rfl) h (fun S2 h => ?_)
  refine zu_aload_n d_8090_338 rfl (zs_ra _) ?_
  refine zu_bipush d_8090_339 zj_8 ?_
  obtain ⟨k4, h⟩ := h
  refine zc_8_746 (x0 := (8 : Int32)) hB rfl k4 d_8090_341 (Nat.le_of_ble_eq_true rfl) h (fun S5 h => ?_)
  refine zu_aload_n d_8090_344 rfl (zs_ra _) ?_
  refine zu_bipush d_8090_345 zj_37 ?_
  refine zu_iconst d_8090_347 zi_0 ?_
  refine zu_iconst d_8090_348 zi_0 ?_
  refine zu_iconst d_8090_349 zi_0 ?_
  obtain ⟨k7, h⟩ := h
  refine zc_8_649 (x0 := (37 : Int32)) (x1 := (0 : Int32)) (x2 := (0 : Int32)) (x3 := (0 : Int32)) hB rfl k7 d_8090_350 (Nat.le_of_ble_eq_true rfl) h (fun S8 h => ?_)
  refine zu_aload_n d_8090_353 rfl (zs_ra _) ?_
  refine zu_iconst d_8090_354 zi_5 ?_
  refine zu_iconst d_8090_355 zi_0 ?_
  refine zu_iconst d_8090_356 zi_0 ?_
  refine zu_iconst d_8090_357 zi_0 ?_
  obtain ⟨k10, h⟩ := h
  refine zc_8_649 (x0 := (5 : Int32)) (x1 := (0 : Int32)) (x2 := (0 : Int32)) (x3 := (0 : Int32)) hB rfl k10 d_8090_358 (Nat.le_of_ble_eq_true rfl) h (fun S11 h => ?_)
  exact (u_X9_type_361 hB h).weak trivial
def w_X9_type_304 (X : zs_X) (d : Nat) (p0 : Nat) (S : zs_T) (Q : zs_Q) : Prop :=
  (zs_K S p0 = some (.inl 8) ∧ zs_C X d 8030 [.ref p0, .int (36 : Int32), .int (0 : Int32), .int (0 : Int32), .int (0 : Int32)] S (zs_kV (fun S2 => (zs_K S2 p0 = some (.inl 8) ∧ zs_C X d 8030 [.ref p0, .int (30 : Int32), .int (0 : Int32), .int (0 : Int32), .int (0 : Int32)] S2 (zs_kV (fun S5 => (w_X9_type_401 X d  S5 Q)) Q))) Q))
theorem u_X9_type_304 {σ : Nat → Nat} {n0 : Nat} {bf : ab_B} {d : Nat} {p0 : Nat} {S : zs_T} {Q : zs_Q} (hB : zt_B bf) (h : w_X9_type_304 (zx σ n0 bf) d p0 S Q) : zs_U (zx σ n0 bf) d 8090 304 [(0, .ref p0)] [] S Q := by
  unfold w_X9_type_304 at h
  refine zu_aload_n d_8090_304 rfl (zs_ra _) ?_
  refine zu_bipush d_8090_305 zj_36 ?_
  refine zu_iconst d_8090_307 zi_0 ?_
  refine zu_iconst d_8090_308 zi_0 ?_
  refine zu_iconst d_8090_309 zi_0 ?_
  obtain ⟨k1, h⟩ := h
  refine zc_8_649 (x0 := (36 : Int32)) (x1 := (0 : Int32)) (x2 := (0 : Int32)) (x3 := (0 : Int32)) hB rfl k1 d_8090_310 (Nat.le_of_ble_eq_true rfl) h (fun S2 h => ?_)
  refine zu_aload_n d_8090_313 rfl (zs_ra _) ?_
  refine zu_bipush d_8090_314 zj_30 ?_
  refine zu_iconst d_8090_316 zi_0 ?_
  refine zu_iconst d_8090_317 zi_0 ?_
  refine zu_iconst d_8090_318 zi_0 ?_
  obtain ⟨k4, h⟩ := h
  refine zc_8_649 (x0 := (30 : Int32)) (x1 := (0 : Int32)) (x2 := (0 : Int32)) (x3 := (0 : Int32)) hB rfl k4 d_8090_319 (Nat.le_of_ble_eq_true rfl) h (fun S5 h => ?_)
  refine zu_goto (t := 401) d_8090_322 rfl ?_
  exact (u_X9_type_401 hB h).weak trivial
def w_X9_type_262 (X : zs_X) (d : Nat) (p0 : Nat) (p4 : Int32) (S : zs_T) (Q : zs_Q) : Prop :=
  (zs_K S p0 = some (.inl 8) ∧ zs_C X d 8030 [.ref p0, .int (38 : Int32), .int p4, .int (0 : Int32), .int (0 : Int32)] S (zs_kV (fun S2 => (zs_K S2 p0 = some (.inl 8) ∧ zs_C X d 8030 [.ref p0, .int (39 : Int32), .int p4, .int (0 : Int32), .int (0 : Int32)] S2 (zs_kV (fun S5 => (w_X9_type_401 X d  S5 Q)) Q))) Q))
theorem u_X9_type_262 {σ : Nat → Nat} {n0 : Nat} {bf : ab_B} {d : Nat} {p0 : Nat} {p4 : Int32} {S : zs_T} {Q : zs_Q} (hB : zt_B bf) (h : w_X9_type_262 (zx σ n0 bf) d p0 p4 S Q) : zs_U (zx σ n0 bf) d 8090 262 [(0, .ref p0), (4, .int p4)] [] S Q := by
  unfold w_X9_type_262 at h
  refine zu_aload_n d_8090_262 rfl (zs_ra _) ?_
  refine zu_bipush d_8090_263 zj_38 ?_
  refine zu_iload d_8090_265 rfl ?_
  refine zu_iconst d_8090_267 zi_0 ?_
  refine zu_iconst d_8090_268 zi_0 ?_
  obtain ⟨k1, h⟩ := h
  refine zc_8_649 (x0 := (38 : Int32)) (x1 := p4) (x2 := (0 : Int32)) (x3 := (0 : Int32)) hB rfl k1 d_8090_269 (Nat.le_of_ble_eq_true rfl) h (fun S2 h => ?_)
  refine zu_aload_n d_8090_272 rfl (zs_ra _) ?_
  refine zu_bipush d_8090_273 zj_39 ?_
  refine zu_iload d_8090_275 rfl ?_
  refine zu_iconst d_8090_277 zi_0 ?_
  refine zu_iconst d_8090_278 zi_0 ?_
  obtain ⟨k4, h⟩ := h
  refine zc_8_649 (x0 := (39 : Int32)) (x1 := p4) (x2 := (0 : Int32)) (x3 := (0 : Int32)) hB rfl k4 d_8090_279 (Nat.le_of_ble_eq_true rfl) h (fun S5 h => ?_)
  refine zu_goto (t := 401) d_8090_282 rfl ?_
  exact (u_X9_type_401 hB h).weak trivial
def w_X9_type_236 (X : zs_X) (d : Nat)  (S : zs_T) (Q : zs_Q) : Prop :=
  (w_X9_type_401 X d  S Q)
theorem u_X9_type_236 {σ : Nat → Nat} {n0 : Nat} {bf : ab_B} {d : Nat}  {S : zs_T} {Q : zs_Q} (hB : zt_B bf) (h : w_X9_type_236 (zx σ n0 bf) d  S Q) : zs_U (zx σ n0 bf) d 8090 236 [] [] S Q := by
  unfold w_X9_type_236 at h
  refine zu_goto (t := 401) d_8090_236 rfl ?_
  exact (u_X9_type_401 hB h).weak trivial
def w_X9_type_199 (X : zs_X) (d : Nat) (p0 : Nat) (S : zs_T) (Q : zs_Q) : Prop :=
  (zs_K S p0 = some (.inl 8) ∧ zs_C X d 8026 [.ref p0, .int (24 : Int32)] S (zs_kI (fun v3 S2 => (((v3 = 0 → (zs_K S2 p0 = some (.inl 8) ∧ zs_C X d 8026 [.ref p0, .int (25 : Int32)] S2 (zs_kI (fun v7 S6 => (((v7 = 0 → (zs_K S6 p0 = some (.inl 8) ∧ zs_C X d 8026 [.ref p0, .int (26 : Int32)] S6 (zs_kI (fun v11 S10 => (((v11 = 0 → (zs_K S10 p0 = some (.inl 8) ∧ zs_C X d 8026 [.ref p0, .int (27 : Int32)] S10 (zs_kI (fun v15 S14 => (((v15 = 0 → w_X9_type_364 X d p0 S14 Q) ∧ (¬ (v15 = 0) → w_X9_type_334 X d p0 S14 Q)))) Q))) ∧ (¬ (v11 = 0) → (zs_K S10 p0 = some (.inl 8) ∧ zs_C X d 8014 [.ref p0] S10 (zs_kV (fun S18 => (zs_K S18 p0 = some (.inl 8) ∧ zs_C X d 8025 [.ref p0, .int (21 : Int32)] S18 (zs_kV (fun S21 => w_X9_type_304 X d p0 S21 Q) Q))) Q)))))) Q))) ∧ (¬ (v7 = 0) → (zs_K S6 p0 = some (.inl 8) ∧ zs_C X d 8014 [.ref p0] S6 (zs_kV (fun S24 => (zs_K S24 p0 = some (.inl 8) ∧ zs_C X d 8009 [.ref p0, .int (9 : Int32), .int (0 : Int32), .int (1 : Int32)] S24 (zs_kI (fun v28 S27 => (w_X9_type_262 X d p0 v28 S27 Q)) Q))) Q)))))) Q))) ∧ (¬ (v3 = 0) → (zs_K S2 p0 = some (.inl 8) ∧ zs_C X d 8014 [.ref p0] S2 (zs_kV (fun S30 => (zs_K S30 p0 = some (.inl 8) ∧ zs_C X d 8028 [.ref p0, .int (10 : Int32)] S30 (zs_kV (fun S33 => (zs_K S33 p0 = some (.inl 8) ∧ zs_C X d 8030 [.ref p0, .int (34 : Int32), .int (1 : Int32), .int (0 : Int32), .int (0 : Int32)] S33 (zs_kV (fun S36 => (zs_K S36 p0 = some (.inl 8) ∧ zs_C X d 8030 [.ref p0, .int (30 : Int32), .int (0 : Int32), .int (0 : Int32), .int (0 : Int32)] S36 (zs_kV (fun S39 => w_X9_type_236 X d  S39 Q) Q))) Q))) Q))) Q)))))) Q))
theorem u_X9_type_199 {σ : Nat → Nat} {n0 : Nat} {bf : ab_B} {d : Nat} {p0 : Nat} {S : zs_T} {Q : zs_Q} (hB : zt_B bf) (h : w_X9_type_199 (zx σ n0 bf) d p0 S Q) : zs_U (zx σ n0 bf) d 8090 199 [(0, .ref p0)] [] S Q := by
  unfold w_X9_type_199 at h
  refine zu_aload_n d_8090_199 rfl (zs_ra _) ?_
  refine zu_bipush d_8090_200 zj_24 ?_
  obtain ⟨k1, h⟩ := h
  refine zc_8_544 (x0 := (24 : Int32)) hB rfl k1 d_8090_202 (Nat.le_of_ble_eq_true rfl) h (fun v3 S2 h => ?_)
  refine zu_ifeq (t := 239) d_8090_205 rfl (fun c4 => ?_) (fun c4 => ?_)
  · have h := h.1 c4
    refine zu_aload_n d_8090_239 rfl (zs_ra _) ?_
    refine zu_bipush d_8090_240 zj_25 ?_
    obtain ⟨k5, h⟩ := h
    refine zc_8_544 (x0 := (25 : Int32)) hB rfl k5 d_8090_242 (Nat.le_of_ble_eq_true rfl) h (fun v7 S6 h => ?_)
    refine zu_ifeq (t := 285) d_8090_245 rfl (fun c8 => ?_) (fun c8 => ?_)
    · have h := h.1 c8
      refine zu_aload_n d_8090_285 rfl (zs_ra _) ?_
      refine zu_bipush d_8090_286 zj_26 ?_
      obtain ⟨k9, h⟩ := h
      refine zc_8_544 (x0 := (26 : Int32)) hB rfl k9 d_8090_288 (Nat.le_of_ble_eq_true rfl) h (fun v11 S10 h => ?_)
      refine zu_ifeq (t := 325) d_8090_291 rfl (fun c12 => ?_) (fun c12 => ?_)
      · have h := h.1 c12
        refine zu_aload_n d_8090_325 rfl (zs_ra _) ?_
        refine zu_bipush d_8090_326 zj_27 ?_
        obtain ⟨k13, h⟩ := h
        refine zc_8_544 (x0 := (27 : Int32)) hB rfl k13 d_8090_328 (Nat.le_of_ble_eq_true rfl) h (fun v15 S14 h => ?_)
        refine zu_ifeq (t := 364) d_8090_331 rfl (fun c16 => ?_) (fun c16 => ?_)
        · have h := h.1 c16
          exact (u_X9_type_364 hB h).weak ⟨rfl, trivial⟩
        · have h := h.2 c16
          exact (u_X9_type_334 hB h).weak ⟨rfl, trivial⟩
      · have h := h.2 c12
        refine zu_aload_n d_8090_294 rfl (zs_ra _) ?_
        obtain ⟨k17, h⟩ := h
        refine zc_8_538  hB rfl k17 d_8090_295 (Nat.le_of_ble_eq_true rfl) h (fun S18 h => ?_)
        refine zu_aload_n d_8090_298 rfl (zs_ra _) ?_
        refine zu_bipush d_8090_299 zj_21 ?_
        obtain ⟨k20, h⟩ := h
        refine zc_8_846 (x0 := (21 : Int32)) hB rfl k20 d_8090_301 (Nat.le_of_ble_eq_true rfl) h (fun S21 h => ?_)
        exact (u_X9_type_304 hB h).weak ⟨rfl, trivial⟩
    · have h := h.2 c8
      refine zu_aload_n d_8090_248 rfl (zs_ra _) ?_
      obtain ⟨k23, h⟩ := h
      refine zc_8_538  hB rfl k23 d_8090_249 (Nat.le_of_ble_eq_true rfl) h (fun S24 h => ?_)
      refine zu_aload_n d_8090_252 rfl (zs_ra _) ?_
      refine zu_bipush d_8090_253 zj_9 ?_
      refine zu_iconst d_8090_255 zi_0 ?_
      refine zu_iconst d_8090_256 zi_1 ?_
      obtain ⟨k26, h⟩ := h
      refine zc_8_599 (x0 := (9 : Int32)) (x1 := (0 : Int32)) (x2 := (1 : Int32)) hB rfl k26 d_8090_257 (Nat.le_of_ble_eq_true rfl) h (fun v28 S27 h => ?_)
      refine zu_istore d_8090_260 (zs_lt zq_8090 rfl) ?_
      exact (u_X9_type_262 hB h).weak ⟨rfl, rfl, trivial⟩
  · have h := h.2 c4
    refine zu_aload_n d_8090_208 rfl (zs_ra _) ?_
    obtain ⟨k29, h⟩ := h
    refine zc_8_538  hB rfl k29 d_8090_209 (Nat.le_of_ble_eq_true rfl) h (fun S30 h => ?_)
    refine zu_aload_n d_8090_212 rfl (zs_ra _) ?_
    refine zu_bipush d_8090_213 zj_10 ?_
    obtain ⟨k32, h⟩ := h
    refine zc_8_746 (x0 := (10 : Int32)) hB rfl k32 d_8090_215 (Nat.le_of_ble_eq_true rfl) h (fun S33 h => ?_)
    refine zu_aload_n d_8090_218 rfl (zs_ra _) ?_
    refine zu_bipush d_8090_219 zj_34 ?_
    refine zu_iconst d_8090_221 zi_1 ?_
    refine zu_iconst d_8090_222 zi_0 ?_
    refine zu_iconst d_8090_223 zi_0 ?_
    obtain ⟨k35, h⟩ := h
    refine zc_8_649 (x0 := (34 : Int32)) (x1 := (1 : Int32)) (x2 := (0 : Int32)) (x3 := (0 : Int32)) hB rfl k35 d_8090_224 (Nat.le_of_ble_eq_true rfl) h (fun S36 h => ?_)
    refine zu_aload_n d_8090_227 rfl (zs_ra _) ?_
    refine zu_bipush d_8090_228 zj_30 ?_
    refine zu_iconst d_8090_230 zi_0 ?_
    refine zu_iconst d_8090_231 zi_0 ?_
    refine zu_iconst d_8090_232 zi_0 ?_
    obtain ⟨k38, h⟩ := h
    refine zc_8_649 (x0 := (30 : Int32)) (x1 := (0 : Int32)) (x2 := (0 : Int32)) (x3 := (0 : Int32)) hB rfl k38 d_8090_233 (Nat.le_of_ble_eq_true rfl) h (fun S39 h => ?_)
    exact (u_X9_type_236 hB h).weak trivial
def w_X9_type_188 (X : zs_X) (d : Nat) (p0 : Nat) (S : zs_T) (Q : zs_Q) : Prop :=
  (zs_K S p0 = some (.inl 8) ∧ zs_C X d 8014 [.ref p0] S (zs_kV (fun S2 => (zs_K S2 p0 = some (.inl 8) ∧ zs_C X d 8092 [.ref p0] S2 (zs_kV (fun S5 => (w_X9_type_401 X d  S5 Q)) Q))) Q))
theorem u_X9_type_188 {σ : Nat → Nat} {n0 : Nat} {bf : ab_B} {d : Nat} {p0 : Nat} {S : zs_T} {Q : zs_Q} (hB : zt_B bf) (h : w_X9_type_188 (zx σ n0 bf) d p0 S Q) : zs_U (zx σ n0 bf) d 8090 188 [(0, .ref p0)] [] S Q := by
  unfold w_X9_type_188 at h
  refine zu_aload_n d_8090_188 rfl (zs_ra _) ?_
  obtain ⟨k1, h⟩ := h
  refine zc_8_538  hB rfl k1 d_8090_189 (Nat.le_of_ble_eq_true rfl) h (fun S2 h => ?_)
  refine zu_aload_n d_8090_192 rfl (zs_ra _) ?_
  obtain ⟨k4, h⟩ := h
  refine zc_8_843  hB rfl k4 d_8090_193 (Nat.le_of_ble_eq_true rfl) h (fun S5 h => ?_)
  refine zu_goto (t := 401) d_8090_196 rfl ?_
  exact (u_X9_type_401 hB h).weak trivial
def w_X9_type_171 (X : zs_X) (d : Nat) (p0 : Nat) (S : zs_T) (Q : zs_Q) : Prop :=
  (zs_K S p0 = some (.inl 8) ∧ zs_C X d 8027 [.ref p0, .int (5 : Int32)] S (zs_kV (fun S2 => (w_X9_type_401 X d  S2 Q)) Q))
theorem u_X9_type_171 {σ : Nat → Nat} {n0 : Nat} {bf : ab_B} {d : Nat} {p0 : Nat} {S : zs_T} {Q : zs_Q} (hB : zt_B bf) (h : w_X9_type_171 (zx σ n0 bf) d p0 S Q) : zs_U (zx σ n0 bf) d 8090 171 [(0, .ref p0)] [] S Q := by
  unfold w_X9_type_171 at h
  refine zu_aload_n d_8090_171 rfl (zs_ra _) ?_
  refine zu_iconst d_8090_172 zi_5 ?_
  obtain ⟨k1, h⟩ := h
  refine zc_8_541 (x0 := (5 : Int32)) hB rfl k1 d_8090_173 (Nat.le_of_ble_eq_true rfl) h (fun S2 h => ?_)
  refine zu_goto (t := 401) d_8090_176 rfl ?_
  exact (u_X9_type_401 hB h).weak trivial
def w_X9_type_156 (X : zs_X) (d : Nat) (p0 : Nat) (S : zs_T) (Q : zs_Q) : Prop :=
  (zs_K S p0 = some (.inl 8) ∧ zs_C X d 8030 [.ref p0, .int (5 : Int32), .int (0 : Int32), .int (0 : Int32), .int (0 : Int32)] S (zs_kV (fun S2 => (zs_K S2 p0 = some (.inl 8) ∧ zs_C X d 8014 [.ref p0] S2 (zs_kV (fun S5 => (w_X9_type_401 X d  S5 Q)) Q))) Q))
theorem u_X9_type_156 {σ : Nat → Nat} {n0 : Nat} {bf : ab_B} {d : Nat} {p0 : Nat} {S : zs_T} {Q : zs_Q} (hB : zt_B bf) (h : w_X9_type_156 (zx σ n0 bf) d p0 S Q) : zs_U (zx σ n0 bf) d 8090 156 [(0, .ref p0)] [] S Q := by
  unfold w_X9_type_156 at h
  refine zu_aload_n d_8090_156 rfl (zs_ra _) ?_
  refine zu_iconst d_8090_157 zi_5 ?_
  refine zu_iconst d_8090_158 zi_0 ?_
  refine zu_iconst d_8090_159 zi_0 ?_
  refine zu_iconst d_8090_160 zi_0 ?_
  obtain ⟨k1, h⟩ := h
  refine zc_8_649 (x0 := (5 : Int32)) (x1 := (0 : Int32)) (x2 := (0 : Int32)) (x3 := (0 : Int32)) hB rfl k1 d_8090_161 (Nat.le_of_ble_eq_true rfl) h (fun S2 h => ?_)
  refine zu_aload_n d_8090_164 rfl (zs_ra _) ?_
  obtain ⟨k4, h⟩ := h
  refine zc_8_538  hB rfl k4 d_8090_165 (Nat.le_of_ble_eq_true rfl) h (fun S5 h => ?_)
  refine zu_goto (t := 401) d_8090_168 rfl ?_
  exact (u_X9_type_401 hB h).weak trivial
def w_X9_type_124 (X : zs_X) (d : Nat) (p0 : Nat) (p2 : Int32) (q0 : Option Nat) (q1 : Int32) (q2 : Int32) (q3 : Int32) (q4 : Int32) (S : zs_T) (Q : zs_Q) : Prop :=
  (∃ b1, q0 = some b1 ∧ zs_K S b1 = some (.inl 8) ∧ zs_C X d 8030 [.ref b1, .int q1, .int q2, .int q3, .int q4] S (zs_kV (fun S4 => (zs_K S4 p0 = some (.inl 8) ∧ ab_n0 X.1 ≤ p0 ∧ ∀ S8, S8 = zs_sI S4 8056 p0 ((zs_I S4 8056 p0) + (4 : Int32)) → ∃ b11, (zs_R S8 8027 p0) = some b11 ∧ zs_A S4 b11 0 p2 ∧ zs_C X d 8030 [.ref p0, .int (45 : Int32), .int (zs_i S8 b11 p2.toNatClampNeg), .int (0 : Int32), .int ((zs_I S8 8056 p0) - (4 : Int32))] S8 (zs_kV (fun S14 => w_X9_type_156 X d p0 S14 Q) Q))) Q))
theorem u_X9_type_124 {σ : Nat → Nat} {n0 : Nat} {bf : ab_B} {d : Nat} {p0 : Nat} {p2 : Int32} {q0 : Option Nat} {q1 : Int32} {q2 : Int32} {q3 : Int32} {q4 : Int32} {S : zs_T} {Q : zs_Q} (hB : zt_B bf) (h : w_X9_type_124 (zx σ n0 bf) d p0 p2 q0 q1 q2 q3 q4 S Q) : zs_U (zx σ n0 bf) d 8090 124 [(0, .ref p0), (2, .int p2)] [.int q4, .int q3, .int q2, .int q1, va_rf q0] S Q := by
  unfold w_X9_type_124 at h
  obtain ⟨b1, e2, h⟩ := h
  refine zs_stk4 (zs_rfe e2) ?_
  obtain ⟨k3, h⟩ := h
  refine zc_8_649 (x0 := q1) (x1 := q2) (x2 := q3) (x3 := q4) hB rfl k3 d_8090_124 (Nat.le_of_ble_eq_true rfl) h (fun S4 h => ?_)
  refine zu_aload_n d_8090_127 rfl (zs_ra _) ?_
  refine zu_dup d_8090_128 rfl ?_
  obtain ⟨k6, h⟩ := h
  refine zg_8_578 rfl d_8090_129 k6 ?_
  refine zu_iconst d_8090_132 zi_4 ?_
  refine zu_stk d_8090_133 rfl rfl ?_
  obtain ⟨k7, h⟩ := h
  refine zp_8_578 (v := ((zs_I S4 8056 p0) + (4 : Int32))) rfl d_8090_134 k6 k7 ?_
  generalize e9 : zs_sI S4 8056 p0 ((zs_I S4 8056 p0) + (4 : Int32)) = S8
  have h := h S8 e9.symm
  have K10 : ∀ b, zs_K S8 b = zs_K S4 b := zs_Kt e9 (zs_KsI _ _ _ _) (fun _ => rfl)
  refine zu_aload_n d_8090_137 rfl (zs_ra _) ?_
  refine zu_bipush d_8090_138 zj_45 ?_
  refine zu_aload_n d_8090_140 rfl (zs_ra _) ?_
  refine zg_8_53 rfl d_8090_141 ((K10 _).trans k6) ?_
  refine zu_iload_n d_8090_144 rfl ?_
  obtain ⟨b11, e12, h⟩ := h
  refine zs_stk1 (zs_rfe e12) ?_
  obtain ⟨k13, h⟩ := h
  refine zu_iald (k := 0) d_8090_145 rfl rfl (zs_Ak K10 k13) ?_
  refine zu_iconst d_8090_146 zi_0 ?_
  refine zu_aload_n d_8090_147 rfl (zs_ra _) ?_
  refine zg_8_578 rfl d_8090_148 ((K10 _).trans k6) ?_
  refine zu_iconst d_8090_151 zi_4 ?_
  refine zu_stk d_8090_152 rfl rfl ?_
  refine zc_8_649 (x0 := (45 : Int32)) (x1 := (zs_i S8 b11 p2.toNatClampNeg)) (x2 := (0 : Int32)) (x3 := ((zs_I S8 8056 p0) - (4 : Int32))) hB rfl ((K10 _).trans k6) d_8090_153 (Nat.le_of_ble_eq_true rfl) h (fun S14 h => ?_)
  exact (u_X9_type_156 hB h).weak ⟨rfl, trivial⟩
def w_X9_type_97 (X : zs_X) (d : Nat) (p0 : Nat) (p1 : Int32) (p2 : Int32) (S : zs_T) (Q : zs_Q) : Prop :=
  (zs_K S p0 = some (.inl 8) ∧ ∃ b2, (zs_R S 8027 p0) = some b2 ∧ zs_A S b2 0 p2 ∧ ((p1 = 0 → (w_X9_type_124 X d p0 p2 (some p0) (46 : Int32) (zs_i S b2 p2.toNatClampNeg) (zs_I S 8056 p0) (0 : Int32) S Q)) ∧ (¬ (p1 = 0) → (w_X9_type_124 X d p0 p2 (some p0) (46 : Int32) (zs_i S b2 p2.toNatClampNeg) (zs_I S 8056 p0) ((zs_I S 8040 p0) + (1 : Int32)) S Q))))
theorem u_X9_type_97 {σ : Nat → Nat} {n0 : Nat} {bf : ab_B} {d : Nat} {p0 : Nat} {p1 : Int32} {p2 : Int32} {S : zs_T} {Q : zs_Q} (hB : zt_B bf) (h : w_X9_type_97 (zx σ n0 bf) d p0 p1 p2 S Q) : zs_U (zx σ n0 bf) d 8090 97 [(0, .ref p0), (1, .int p1), (2, .int p2)] [] S Q := by
  unfold w_X9_type_97 at h
  refine zu_aload_n d_8090_97 rfl (zs_ra _) ?_
  refine zu_bipush d_8090_98 zj_46 ?_
  refine zu_aload_n d_8090_100 rfl (zs_ra _) ?_
  obtain ⟨k1, h⟩ := h
  refine zg_8_53 rfl d_8090_101 k1 ?_
  refine zu_iload_n d_8090_104 rfl ?_
  obtain ⟨b2, e3, h⟩ := h
  refine zs_stk1 (zs_rfe e3) ?_
  obtain ⟨k4, h⟩ := h
  refine zu_iald (k := 0) d_8090_105 rfl rfl k4 ?_
  refine zu_aload_n d_8090_106 rfl (zs_ra _) ?_
  refine zg_8_578 rfl d_8090_107 k1 ?_
  refine zu_iload_n d_8090_110 rfl ?_
  refine zu_ifeq (t := 123) d_8090_111 rfl (fun c5 => ?_) (fun c5 => ?_)
  · have h := h.1 c5
    refine zu_iconst d_8090_123 zi_0 ?_
    exact (u_X9_type_124 hB h).weak ⟨rfl, rfl, trivial⟩
  · have h := h.2 c5
    refine zu_aload_n d_8090_114 rfl (zs_ra _) ?_
    refine zg_8_556 rfl d_8090_115 k1 ?_
    refine zu_iconst d_8090_118 zi_1 ?_
    refine zu_stk d_8090_119 rfl rfl ?_
    refine zu_goto (t := 124) d_8090_120 rfl ?_
    exact (u_X9_type_124 hB h).weak ⟨rfl, rfl, trivial⟩
def w_X9_type_76 (X : zs_X) (d : Nat)  (S : zs_T) (Q : zs_Q) : Prop :=
  (w_X9_type_401 X d  S Q)
theorem u_X9_type_76 {σ : Nat → Nat} {n0 : Nat} {bf : ab_B} {d : Nat}  {S : zs_T} {Q : zs_Q} (hB : zt_B bf) (h : w_X9_type_76 (zx σ n0 bf) d  S Q) : zs_U (zx σ n0 bf) d 8090 76 [] [] S Q := by
  unfold w_X9_type_76 at h
  refine zu_goto (t := 401) d_8090_76 rfl ?_
  exact (u_X9_type_401 hB h).weak trivial
def w_X9_type_44 (X : zs_X) (d : Nat) (p0 : Nat) (p1 : Int32) (p2 : Int32) (q0 : Int32) (S : zs_T) (Q : zs_Q) : Prop :=
  (zs_K S p0 = some (.inl 8) ∧ zs_C X d 8060 [.ref p0] S (zs_kV (fun S2 => (zs_K S2 p0 = some (.inl 8) ∧ (((zs_I S2 8010 p0) ≤ 0 → (((¬ q0 = (2 : Int32) → (((¬ q0 = (3 : Int32) → (zs_C X d 8029 [.ref p0, .int (8 : Int32)] S2 (zs_kI (fun v9 S8 => (((v9 = 0 → w_X9_type_199 X d p0 S8 Q) ∧ (¬ (v9 = 0) → w_X9_type_188 X d p0 S8 Q)))) Q))) ∧ (¬ (¬ q0 = (3 : Int32)) → (zs_C X d 8014 [.ref p0] S2 (zs_kV (fun S11 => (zs_K S11 p0 = some (.inl 8) ∧ zs_C X d 8029 [.ref p0, .int (8 : Int32)] S11 (zs_kI (fun v15 S14 => (((v15 = 0 → w_X9_type_171 X d p0 S14 Q) ∧ (¬ (v15 = 0) → w_X9_type_97 X d p0 p1 p2 S14 Q)))) Q))) Q)))))) ∧ (¬ (¬ q0 = (2 : Int32)) → (∃ b17, (zs_R S2 8026 p0) = some b17 ∧ zs_A S2 b17 0 p2 ∧ zs_C X d 8091 [.ref p0, .int (zs_i S2 b17 p2.toNatClampNeg)] S2 (zs_kV (fun S20 => (zs_K S20 p0 = some (.inl 8) ∧ zs_C X d 8014 [.ref p0] S20 (zs_kV (fun S23 => w_X9_type_76 X d  S23 Q) Q))) Q)))))) ∧ (¬ ((zs_I S2 8010 p0) ≤ 0) → (Q (.returned none) S2))))) Q))
theorem u_X9_type_44 {σ : Nat → Nat} {n0 : Nat} {bf : ab_B} {d : Nat} {p0 : Nat} {p1 : Int32} {p2 : Int32} {q0 : Int32} {S : zs_T} {Q : zs_Q} (hB : zt_B bf) (h : w_X9_type_44 (zx σ n0 bf) d p0 p1 p2 q0 S Q) : zs_U (zx σ n0 bf) d 8090 44 [(0, .ref p0), (1, .int p1), (2, .int p2)] [.int q0] S Q := by
  unfold w_X9_type_44 at h
  refine zu_istore_n d_8090_44 (zs_lt zq_8090 rfl) ?_
  refine zu_aload_n d_8090_45 rfl (zs_ra _) ?_
  obtain ⟨k1, h⟩ := h
  refine zc_8_706  hB rfl k1 d_8090_46 (Nat.le_of_ble_eq_true rfl) h (fun S2 h => ?_)
  refine zu_aload_n d_8090_49 rfl (zs_ra _) ?_
  obtain ⟨k4, h⟩ := h
  refine zg_8_444 rfl d_8090_50 k4 ?_
  refine zu_ifle (t := 57) d_8090_53 rfl (fun c5 => ?_) (fun c5 => ?_)
  · have h := h.1 c5
    refine zu_iload_n d_8090_57 rfl ?_
    refine zu_iconst d_8090_58 zi_2 ?_
    refine zu_cmpne (t := 79) d_8090_59 rfl (fun c6 => ?_) (fun c6 => ?_)
    · have h := h.1 c6
      refine zu_iload_n d_8090_79 rfl ?_
      refine zu_iconst d_8090_80 zi_3 ?_
      refine zu_cmpne (t := 179) d_8090_81 rfl (fun c7 => ?_) (fun c7 => ?_)
      · have h := h.1 c7
        refine zu_aload_n d_8090_179 rfl (zs_ra _) ?_
        refine zu_bipush d_8090_180 zj_8 ?_
        refine zc_8_535 (x0 := (8 : Int32)) hB rfl k4 d_8090_182 (Nat.le_of_ble_eq_true rfl) h (fun v9 S8 h => ?_)
        refine zu_ifeq (t := 199) d_8090_185 rfl (fun c10 => ?_) (fun c10 => ?_)
        · have h := h.1 c10
          exact (u_X9_type_199 hB h).weak ⟨rfl, trivial⟩
        · have h := h.2 c10
          exact (u_X9_type_188 hB h).weak ⟨rfl, trivial⟩
      · have h := h.2 c7
        refine zu_aload_n d_8090_84 rfl (zs_ra _) ?_
        refine zc_8_538  hB rfl k4 d_8090_85 (Nat.le_of_ble_eq_true rfl) h (fun S11 h => ?_)
        refine zu_aload_n d_8090_88 rfl (zs_ra _) ?_
        refine zu_bipush d_8090_89 zj_8 ?_
        obtain ⟨k13, h⟩ := h
        refine zc_8_535 (x0 := (8 : Int32)) hB rfl k13 d_8090_91 (Nat.le_of_ble_eq_true rfl) h (fun v15 S14 h => ?_)
        refine zu_ifeq (t := 171) d_8090_94 rfl (fun c16 => ?_) (fun c16 => ?_)
        · have h := h.1 c16
          exact (u_X9_type_171 hB h).weak ⟨rfl, trivial⟩
        · have h := h.2 c16
          exact (u_X9_type_97 hB h).weak ⟨rfl, rfl, rfl, trivial⟩
    · have h := h.2 c6
      refine zu_aload_n d_8090_62 rfl (zs_ra _) ?_
      refine zu_aload_n d_8090_63 rfl (zs_ra _) ?_
      refine zg_8_50 rfl d_8090_64 k4 ?_
      refine zu_iload_n d_8090_67 rfl ?_
      obtain ⟨b17, e18, h⟩ := h
      refine zs_stk1 (zs_rfe e18) ?_
      obtain ⟨k19, h⟩ := h
      refine zu_iald (k := 0) d_8090_68 rfl rfl k19 ?_
      refine zc_8_840 (x0 := (zs_i S2 b17 p2.toNatClampNeg)) hB rfl k4 d_8090_69 (Nat.le_of_ble_eq_true rfl) h (fun S20 h => ?_)
      refine zu_aload_n d_8090_72 rfl (zs_ra _) ?_
      obtain ⟨k22, h⟩ := h
      refine zc_8_538  hB rfl k22 d_8090_73 (Nat.le_of_ble_eq_true rfl) h (fun S23 h => ?_)
      exact (u_X9_type_76 hB h).weak trivial
  · have h := h.2 c5
    exact zu_vret d_8090_56 zr_8090 h
def w_X9_type_29 (X : zs_X) (d : Nat) (p0 : Nat) (p1 : Int32) (q0 : Int32) (S : zs_T) (Q : zs_Q) : Prop :=
  (((q0 ≤ 0 → (w_X9_type_44 X d p0 p1 q0 (0 : Int32) S Q)) ∧ (¬ (q0 ≤ 0) → (zs_K S p0 = some (.inl 8) ∧ ∃ b3, (zs_R S 8024 p0) = some b3 ∧ zs_A S b3 1 q0 ∧ w_X9_type_44 X d p0 p1 q0 (zs_i S b3 q0.toNatClampNeg) S Q))))
theorem u_X9_type_29 {σ : Nat → Nat} {n0 : Nat} {bf : ab_B} {d : Nat} {p0 : Nat} {p1 : Int32} {q0 : Int32} {S : zs_T} {Q : zs_Q} (hB : zt_B bf) (h : w_X9_type_29 (zx σ n0 bf) d p0 p1 q0 S Q) : zs_U (zx σ n0 bf) d 8090 29 [(0, .ref p0), (1, .int p1)] [.int q0] S Q := by
  unfold w_X9_type_29 at h
  refine zu_istore_n d_8090_29 (zs_lt zq_8090 rfl) ?_
  refine zu_iload_n d_8090_30 rfl ?_
  refine zu_ifle (t := 43) d_8090_31 rfl (fun c1 => ?_) (fun c1 => ?_)
  · have h := h.1 c1
    refine zu_iconst d_8090_43 zi_0 ?_
    exact (u_X9_type_44 hB h).weak ⟨rfl, rfl, rfl, trivial⟩
  · have h := h.2 c1
    refine zu_aload_n d_8090_34 rfl (zs_ra _) ?_
    obtain ⟨k2, h⟩ := h
    refine zg_8_44 rfl d_8090_35 k2 ?_
    refine zu_iload_n d_8090_38 rfl ?_
    obtain ⟨b3, e4, h⟩ := h
    refine zs_stk1 (zs_rfe e4) ?_
    obtain ⟨k5, h⟩ := h
    refine zu_bald (k := 1) d_8090_39 rfl (Or.inl rfl) k5 ?_
    refine zu_goto (t := 44) d_8090_40 rfl ?_
    exact (u_X9_type_44 hB h).weak ⟨rfl, rfl, rfl, trivial⟩
def w_X9_type (X : zs_X) (d : Nat) (p0 : Nat) (p1 : Int32) (S : zs_T) (Q : zs_Q) : Prop :=
  (zs_K S p0 = some (.inl 8) ∧ (((zs_I S 8010 p0) ≤ 0 → (((¬ (zs_I S 8006 p0) = (1 : Int32) → (w_X9_type_29 X d p0 p1 (0 : Int32) S Q)) ∧ (¬ (¬ (zs_I S 8006 p0) = (1 : Int32)) → (∃ b4, (zs_R S 8019 p0) = some b4 ∧ zs_A S b4 0 (zs_I S 8009 p0) ∧ w_X9_type_29 X d p0 p1 (zs_i S b4 (zs_I S 8009 p0).toNatClampNeg) S Q))))) ∧ (¬ ((zs_I S 8010 p0) ≤ 0) → (Q (.returned none) S))))
theorem u_X9_type {σ : Nat → Nat} {n0 : Nat} {bf : ab_B} {d : Nat} {p0 : Nat} {p1 : Int32} {S : zs_T} {Q : zs_Q} (hB : zt_B bf) (hd : 1 ≤ d) (h : w_X9_type (zx σ n0 bf) (d - 1) p0 p1 S Q) : zs_C (zx σ n0 bf) d 8090 [.ref p0, .int p1] S Q := by
  have hL : lv_args 0 [.ref p0, .int p1] = [(0, .ref p0), (1, .int p1)] := rfl
  refine zs_C.of1 (hB.2 8090 (by decide) (by decide)) hd (by rw [hL]; exact zs_sub_self _ (by exact ⟨rfl, rfl, trivial⟩)) ?_
  rw [hL]
  clear hL
  unfold w_X9_type at h
  refine zu_aload_n d_8090_0 rfl (zs_ra _) ?_
  obtain ⟨k1, h⟩ := h
  refine zg_8_444 rfl d_8090_1 k1 ?_
  refine zu_ifle (t := 8) d_8090_4 rfl (fun c2 => ?_) (fun c2 => ?_)
  · have h := h.1 c2
    refine zu_aload_n d_8090_8 rfl (zs_ra _) ?_
    refine zg_8_484 rfl d_8090_9 k1 ?_
    refine zu_iconst d_8090_12 zi_1 ?_
    refine zu_cmpne (t := 28) d_8090_13 rfl (fun c3 => ?_) (fun c3 => ?_)
    · have h := h.1 c3
      refine zu_iconst d_8090_28 zi_0 ?_
      exact (u_X9_type_29 hB h).weak ⟨rfl, rfl, trivial⟩
    · have h := h.2 c3
      refine zu_aload_n d_8090_16 rfl (zs_ra _) ?_
      refine zg_8_37 rfl d_8090_17 k1 ?_
      refine zu_aload_n d_8090_20 rfl (zs_ra _) ?_
      refine zg_8_494 rfl d_8090_21 k1 ?_
      obtain ⟨b4, e5, h⟩ := h
      refine zs_stk1 (zs_rfe e5) ?_
      obtain ⟨k6, h⟩ := h
      refine zu_iald (k := 0) d_8090_24 rfl rfl k6 ?_
      refine zu_goto (t := 29) d_8090_25 rfl ?_
      exact (u_X9_type_29 hB h).weak ⟨rfl, rfl, trivial⟩
  · have h := h.2 c2
    exact zu_vret d_8090_7 zr_8090 h
/-! SchemaPascalModel.pushType(I)V -/
theorem zm_8091 {σ : Nat → Nat} {n0 : Nat} {bf : ab_B} : ab_code (zx σ n0 bf).1 8091 = prog_17_method_106_code := rfl
theorem zq_8091 {σ : Nat → Nat} {n0 : Nat} {bf : ab_B} : ab_maxL (zx σ n0 bf).1 8091 = 2 := rfl
theorem zr_8091 {σ : Nat → Nat} {n0 : Nat} {bf : ab_B} : ab_ret (zx σ n0 bf).1 8091 = (Option.none : Option Jvm.ClassFile.FieldType) := rfl
theorem d_8091_0 {σ : Nat → Nat} {n0 : Nat} {bf : ab_B} : decode (ab_code (zx σ n0 bf).1 8091) 0 = .ok (.aload_n 0, 1) := zd zm_8091 (by decide +kernel)
theorem d_8091_1 {σ : Nat → Nat} {n0 : Nat} {bf : ab_B} : decode (ab_code (zx σ n0 bf).1 8091) 1 = .ok (.getfield 278, 3) := zd zm_8091 (by decide +kernel)
theorem d_8091_4 {σ : Nat → Nat} {n0 : Nat} {bf : ab_B} : decode (ab_code (zx σ n0 bf).1 8091) 4 = .ok (.aload_n 0, 1) := zd zm_8091 (by decide +kernel)
theorem d_8091_5 {σ : Nat → Nat} {n0 : Nat} {bf : ab_B} : decode (ab_code (zx σ n0 bf).1 8091) 5 = .ok (.getfield 831, 3) := zd zm_8091 (by decide +kernel)
theorem d_8091_8 {σ : Nat → Nat} {n0 : Nat} {bf : ab_B} : decode (ab_code (zx σ n0 bf).1 8091) 8 = .ok (.iload_n 1, 1) := zd zm_8091 (by decide +kernel)
theorem d_8091_9 {σ : Nat → Nat} {n0 : Nat} {bf : ab_B} : decode (ab_code (zx σ n0 bf).1 8091) 9 = .ok (.iastore, 1) := zd zm_8091 (by decide +kernel)
theorem d_8091_10 {σ : Nat → Nat} {n0 : Nat} {bf : ab_B} : decode (ab_code (zx σ n0 bf).1 8091) 10 = .ok (.aload_n 0, 1) := zd zm_8091 (by decide +kernel)
theorem d_8091_11 {σ : Nat → Nat} {n0 : Nat} {bf : ab_B} : decode (ab_code (zx σ n0 bf).1 8091) 11 = .ok (.dup, 1) := zd zm_8091 (by decide +kernel)
theorem d_8091_12 {σ : Nat → Nat} {n0 : Nat} {bf : ab_B} : decode (ab_code (zx σ n0 bf).1 8091) 12 = .ok (.getfield 831, 3) := zd zm_8091 (by decide +kernel)
theorem d_8091_15 {σ : Nat → Nat} {n0 : Nat} {bf : ab_B} : decode (ab_code (zx σ n0 bf).1 8091) 15 = .ok (.iconst 1, 1) := zd zm_8091 (by decide +kernel)
theorem d_8091_16 {σ : Nat → Nat} {n0 : Nat} {bf : ab_B} : decode (ab_code (zx σ n0 bf).1 8091) 16 = .ok (.iadd, 1) := zd zm_8091 (by decide +kernel)
theorem d_8091_17 {σ : Nat → Nat} {n0 : Nat} {bf : ab_B} : decode (ab_code (zx σ n0 bf).1 8091) 17 = .ok (.putfield 831, 3) := zd zm_8091 (by decide +kernel)
theorem d_8091_20 {σ : Nat → Nat} {n0 : Nat} {bf : ab_B} : decode (ab_code (zx σ n0 bf).1 8091) 20 = .ok (.return_, 1) := zd zm_8091 (by decide +kernel)
def w_X9_pushType (X : zs_X) (d : Nat) (p0 : Nat) (p1 : Int32) (S : zs_T) (Q : zs_Q) : Prop :=
  (zs_K S p0 = some (.inl 8) ∧ ∃ b2, (zs_R S 8128 p0) = some b2 ∧ zs_A S b2 0 (zs_I S 8129 p0) ∧ ab_n0 X.1 ≤ b2 ∧ ∀ S6, S6 = zs_si S b2 (zs_I S 8129 p0).toNatClampNeg p1 → ab_n0 X.1 ≤ p0 ∧ ∀ S10, S10 = zs_sI S6 8129 p0 ((zs_I S6 8129 p0) + (1 : Int32)) → Q (.returned none) S10)
theorem u_X9_pushType {σ : Nat → Nat} {n0 : Nat} {bf : ab_B} {d : Nat} {p0 : Nat} {p1 : Int32} {S : zs_T} {Q : zs_Q} (hB : zt_B bf) (hd : 1 ≤ d) (h : w_X9_pushType (zx σ n0 bf) (d - 1) p0 p1 S Q) : zs_C (zx σ n0 bf) d 8091 [.ref p0, .int p1] S Q := by
  have hL : lv_args 0 [.ref p0, .int p1] = [(0, .ref p0), (1, .int p1)] := rfl
  refine zs_C.of1 (hB.2 8091 (by decide) (by decide)) hd (by rw [hL]; exact zs_sub_self _ (by exact ⟨rfl, rfl, trivial⟩)) ?_
  rw [hL]
  clear hL
  unfold w_X9_pushType at h
  refine zu_aload_n d_8091_0 rfl (zs_ra _) ?_
  obtain ⟨k1, h⟩ := h
  refine zg_8_278 rfl d_8091_1 k1 ?_
  refine zu_aload_n d_8091_4 rfl (zs_ra _) ?_
  refine zg_8_831 rfl d_8091_5 k1 ?_
  refine zu_iload_n d_8091_8 rfl ?_
  obtain ⟨b2, e3, h⟩ := h
  refine zs_stk2 (zs_rfe e3) ?_
  obtain ⟨k4, h⟩ := h
  obtain ⟨k5, h⟩ := h
  refine zu_iast (k := 0) d_8091_9 rfl rfl k5 k4 ?_
  generalize e7 : zs_si S b2 (zs_I S 8129 p0).toNatClampNeg p1 = S6
  have h := h S6 e7.symm
  have K8 : ∀ b, zs_K S6 b = zs_K S b := zs_Kt e7 (zs_Ksi _ _ _ _) (fun _ => rfl)
  refine zu_aload_n d_8091_10 rfl (zs_ra _) ?_
  refine zu_dup d_8091_11 rfl ?_
  refine zg_8_831 rfl d_8091_12 ((K8 _).trans k1) ?_
  refine zu_iconst d_8091_15 zi_1 ?_
  refine zu_stk d_8091_16 rfl rfl ?_
  obtain ⟨k9, h⟩ := h
  refine zp_8_831 (v := ((zs_I S6 8129 p0) + (1 : Int32))) rfl d_8091_17 ((K8 _).trans k1) k9 ?_
  generalize e11 : zs_sI S6 8129 p0 ((zs_I S6 8129 p0) + (1 : Int32)) = S10
  have h := h S10 e11.symm
  have K12 : ∀ b, zs_K S10 b = zs_K S b := zs_Kt e11 (zs_KsI _ _ _ _) K8
  exact zu_vret d_8091_20 zr_8091 h
/-! SchemaPascalModel.list()V -/
theorem zm_8092 {σ : Nat → Nat} {n0 : Nat} {bf : ab_B} : ab_code (zx σ n0 bf).1 8092 = prog_17_method_110_code := rfl
theorem zq_8092 {σ : Nat → Nat} {n0 : Nat} {bf : ab_B} : ab_maxL (zx σ n0 bf).1 8092 = 2 := rfl
theorem zr_8092 {σ : Nat → Nat} {n0 : Nat} {bf : ab_B} : ab_ret (zx σ n0 bf).1 8092 = (Option.none : Option Jvm.ClassFile.FieldType) := rfl
theorem d_8092_0 {σ : Nat → Nat} {n0 : Nat} {bf : ab_B} : decode (ab_code (zx σ n0 bf).1 8092) 0 = .ok (.aload_n 0, 1) := zd zm_8092 (by decide +kernel)
theorem d_8092_1 {σ : Nat → Nat} {n0 : Nat} {bf : ab_B} : decode (ab_code (zx σ n0 bf).1 8092) 1 = .ok (.getfield 852, 3) := zd zm_8092 (by decide +kernel)
theorem d_8092_4 {σ : Nat → Nat} {n0 : Nat} {bf : ab_B} : decode (ab_code (zx σ n0 bf).1 8092) 4 = .ok (.istore_n 1, 1) := zd zm_8092 (by decide +kernel)
theorem d_8092_5 {σ : Nat → Nat} {n0 : Nat} {bf : ab_B} : decode (ab_code (zx σ n0 bf).1 8092) 5 = .ok (.iload_n 1, 1) := zd zm_8092 (by decide +kernel)
theorem d_8092_6 {σ : Nat → Nat} {n0 : Nat} {bf : ab_B} : decode (ab_code (zx σ n0 bf).1 8092) 6 = .ok (.ifCond .le 7, 3) := zd zm_8092 (by decide +kernel)
theorem d_8092_9 {σ : Nat → Nat} {n0 : Nat} {bf : ab_B} : decode (ab_code (zx σ n0 bf).1 8092) 9 = .ok (.aload_n 0, 1) := zd zm_8092 (by decide +kernel)
theorem d_8092_10 {σ : Nat → Nat} {n0 : Nat} {bf : ab_B} : decode (ab_code (zx σ n0 bf).1 8092) 10 = .ok (.invokevirtual 855, 3) := zd zm_8092 (by decide +kernel)
theorem d_8092_13 {σ : Nat → Nat} {n0 : Nat} {bf : ab_B} : decode (ab_code (zx σ n0 bf).1 8092) 13 = .ok (.aload_n 0, 1) := zd zm_8092 (by decide +kernel)
theorem d_8092_14 {σ : Nat → Nat} {n0 : Nat} {bf : ab_B} : decode (ab_code (zx σ n0 bf).1 8092) 14 = .ok (.invokevirtual 858, 3) := zd zm_8092 (by decide +kernel)
theorem d_8092_17 {σ : Nat → Nat} {n0 : Nat} {bf : ab_B} : decode (ab_code (zx σ n0 bf).1 8092) 17 = .ok (.iload_n 1, 1) := zd zm_8092 (by decide +kernel)
theorem d_8092_18 {σ : Nat → Nat} {n0 : Nat} {bf : ab_B} : decode (ab_code (zx σ n0 bf).1 8092) 18 = .ok (.ifCond .le 15, 3) := zd zm_8092 (by decide +kernel)
theorem d_8092_21 {σ : Nat → Nat} {n0 : Nat} {bf : ab_B} : decode (ab_code (zx σ n0 bf).1 8092) 21 = .ok (.aload_n 0, 1) := zd zm_8092 (by decide +kernel)
theorem d_8092_22 {σ : Nat → Nat} {n0 : Nat} {bf : ab_B} : decode (ab_code (zx σ n0 bf).1 8092) 22 = .ok (.getfield 444, 3) := zd zm_8092 (by decide +kernel)
theorem d_8092_25 {σ : Nat → Nat} {n0 : Nat} {bf : ab_B} : decode (ab_code (zx σ n0 bf).1 8092) 25 = .ok (.ifCond .ne 8, 3) := zd zm_8092 (by decide +kernel)
theorem d_8092_28 {σ : Nat → Nat} {n0 : Nat} {bf : ab_B} : decode (ab_code (zx σ n0 bf).1 8092) 28 = .ok (.aload_n 0, 1) := zd zm_8092 (by decide +kernel)
theorem d_8092_29 {σ : Nat → Nat} {n0 : Nat} {bf : ab_B} : decode (ab_code (zx σ n0 bf).1 8092) 29 = .ok (.iload_n 1, 1) := zd zm_8092 (by decide +kernel)
theorem d_8092_30 {σ : Nat → Nat} {n0 : Nat} {bf : ab_B} : decode (ab_code (zx σ n0 bf).1 8092) 30 = .ok (.invokevirtual 861, 3) := zd zm_8092 (by decide +kernel)
theorem d_8092_33 {σ : Nat → Nat} {n0 : Nat} {bf : ab_B} : decode (ab_code (zx σ n0 bf).1 8092) 33 = .ok (.return_, 1) := zd zm_8092 (by decide +kernel)
def w_X9_list_13 (X : zs_X) (d : Nat) (p0 : Nat) (p1 : Int32) (S : zs_T) (Q : zs_Q) : Prop :=
  (zs_K S p0 = some (.inl 8) ∧ zs_C X d 8094 [.ref p0] S (zs_kV (fun S2 => (((p1 ≤ 0 → (Q (.returned none) S2)) ∧ (¬ (p1 ≤ 0) → (zs_K S2 p0 = some (.inl 8) ∧ ((¬ (zs_I S2 8010 p0) = 0 → (Q (.returned none) S2)) ∧ (¬ (¬ (zs_I S2 8010 p0) = 0) → (zs_C X d 8096 [.ref p0, .int p1] S2 (zs_kV (fun S7 => (Q (.returned none) S7)) Q))))))))) Q))
theorem u_X9_list_13 {σ : Nat → Nat} {n0 : Nat} {bf : ab_B} {d : Nat} {p0 : Nat} {p1 : Int32} {S : zs_T} {Q : zs_Q} (hB : zt_B bf) (h : w_X9_list_13 (zx σ n0 bf) d p0 p1 S Q) : zs_U (zx σ n0 bf) d 8092 13 [(0, .ref p0), (1, .int p1)] [] S Q := by
  unfold w_X9_list_13 at h
  refine zu_aload_n d_8092_13 rfl (zs_ra _) ?_
  obtain ⟨k1, h⟩ := h
  refine zc_8_858  hB rfl k1 d_8092_14 (Nat.le_of_ble_eq_true rfl) h (fun S2 h => ?_)
  refine zu_iload_n d_8092_17 rfl ?_
  refine zu_ifle (t := 33) d_8092_18 rfl (fun c4 => ?_) (fun c4 => ?_)
  · have h := h.1 c4
    exact zu_vret d_8092_33 zr_8092 h
  · have h := h.2 c4
    refine zu_aload_n d_8092_21 rfl (zs_ra _) ?_
    obtain ⟨k5, h⟩ := h
    refine zg_8_444 rfl d_8092_22 k5 ?_
    refine zu_ifne (t := 33) d_8092_25 rfl (fun c6 => ?_) (fun c6 => ?_)
    · have h := h.1 c6
      exact zu_vret d_8092_33 zr_8092 h
    · have h := h.2 c6
      refine zu_aload_n d_8092_28 rfl (zs_ra _) ?_
      refine zu_iload_n d_8092_29 rfl ?_
      refine zc_8_861 (x0 := p1) hB rfl k5 d_8092_30 (Nat.le_of_ble_eq_true rfl) h (fun S7 h => ?_)
      exact zu_vret d_8092_33 zr_8092 h
def w_X9_list (X : zs_X) (d : Nat) (p0 : Nat) (S : zs_T) (Q : zs_Q) : Prop :=
  (zs_K S p0 = some (.inl 8) ∧ (((zs_I S 8114 p0) ≤ 0 → w_X9_list_13 X d p0 (zs_I S 8114 p0) S Q) ∧ (¬ ((zs_I S 8114 p0) ≤ 0) → (zs_C X d 8093 [.ref p0] S (zs_kV (fun S3 => w_X9_list_13 X d p0 (zs_I S 8114 p0) S3 Q) Q)))))
theorem u_X9_list {σ : Nat → Nat} {n0 : Nat} {bf : ab_B} {d : Nat} {p0 : Nat} {S : zs_T} {Q : zs_Q} (hB : zt_B bf) (hd : 1 ≤ d) (h : w_X9_list (zx σ n0 bf) (d - 1) p0 S Q) : zs_C (zx σ n0 bf) d 8092 [.ref p0] S Q := by
  have hL : lv_args 0 [.ref p0] = [(0, .ref p0)] := rfl
  refine zs_C.of1 (hB.2 8092 (by decide) (by decide)) hd (by rw [hL]; exact zs_sub_self _ (by exact ⟨rfl, trivial⟩)) ?_
  rw [hL]
  clear hL
  unfold w_X9_list at h
  refine zu_aload_n d_8092_0 rfl (zs_ra _) ?_
  obtain ⟨k1, h⟩ := h
  refine zg_8_852 rfl d_8092_1 k1 ?_
  refine zu_istore_n d_8092_4 (zs_lt zq_8092 rfl) ?_
  refine zu_iload_n d_8092_5 rfl ?_
  refine zu_ifle (t := 13) d_8092_6 rfl (fun c2 => ?_) (fun c2 => ?_)
  · have h := h.1 c2
    exact (u_X9_list_13 hB h).weak ⟨rfl, rfl, trivial⟩
  · have h := h.2 c2
    refine zu_aload_n d_8092_9 rfl (zs_ra _) ?_
    refine zc_8_855  hB rfl k1 d_8092_10 (Nat.le_of_ble_eq_true rfl) h (fun S3 h => ?_)
    exact (u_X9_list_13 hB h).weak ⟨rfl, rfl, trivial⟩
/-! SchemaPascalModel.closeNames()V -/
theorem zm_8093 {σ : Nat → Nat} {n0 : Nat} {bf : ab_B} : ab_code (zx σ n0 bf).1 8093 = prog_17_method_24_code := rfl
theorem zq_8093 {σ : Nat → Nat} {n0 : Nat} {bf : ab_B} : ab_maxL (zx σ n0 bf).1 8093 = 1 := rfl
theorem zr_8093 {σ : Nat → Nat} {n0 : Nat} {bf : ab_B} : ab_ret (zx σ n0 bf).1 8093 = (Option.none : Option Jvm.ClassFile.FieldType) := rfl
theorem d_8093_0 {σ : Nat → Nat} {n0 : Nat} {bf : ab_B} : decode (ab_code (zx σ n0 bf).1 8093) 0 = .ok (.aload_n 0, 1) := zd zm_8093 (by decide +kernel)
theorem d_8093_1 {σ : Nat → Nat} {n0 : Nat} {bf : ab_B} : decode (ab_code (zx σ n0 bf).1 8093) 1 = .ok (.dup, 1) := zd zm_8093 (by decide +kernel)
theorem d_8093_2 {σ : Nat → Nat} {n0 : Nat} {bf : ab_B} : decode (ab_code (zx σ n0 bf).1 8093) 2 = .ok (.getfield 547, 3) := zd zm_8093 (by decide +kernel)
theorem d_8093_5 {σ : Nat → Nat} {n0 : Nat} {bf : ab_B} : decode (ab_code (zx σ n0 bf).1 8093) 5 = .ok (.iconst 1, 1) := zd zm_8093 (by decide +kernel)
theorem d_8093_6 {σ : Nat → Nat} {n0 : Nat} {bf : ab_B} : decode (ab_code (zx σ n0 bf).1 8093) 6 = .ok (.isub, 1) := zd zm_8093 (by decide +kernel)
theorem d_8093_7 {σ : Nat → Nat} {n0 : Nat} {bf : ab_B} : decode (ab_code (zx σ n0 bf).1 8093) 7 = .ok (.putfield 547, 3) := zd zm_8093 (by decide +kernel)
theorem d_8093_10 {σ : Nat → Nat} {n0 : Nat} {bf : ab_B} : decode (ab_code (zx σ n0 bf).1 8093) 10 = .ok (.aload_n 0, 1) := zd zm_8093 (by decide +kernel)
theorem d_8093_11 {σ : Nat → Nat} {n0 : Nat} {bf : ab_B} : decode (ab_code (zx σ n0 bf).1 8093) 11 = .ok (.getfield 550, 3) := zd zm_8093 (by decide +kernel)
theorem d_8093_14 {σ : Nat → Nat} {n0 : Nat} {bf : ab_B} : decode (ab_code (zx σ n0 bf).1 8093) 14 = .ok (.aload_n 0, 1) := zd zm_8093 (by decide +kernel)
theorem d_8093_15 {σ : Nat → Nat} {n0 : Nat} {bf : ab_B} : decode (ab_code (zx σ n0 bf).1 8093) 15 = .ok (.getfield 65, 3) := zd zm_8093 (by decide +kernel)
theorem d_8093_18 {σ : Nat → Nat} {n0 : Nat} {bf : ab_B} : decode (ab_code (zx σ n0 bf).1 8093) 18 = .ok (.aload_n 0, 1) := zd zm_8093 (by decide +kernel)
theorem d_8093_19 {σ : Nat → Nat} {n0 : Nat} {bf : ab_B} : decode (ab_code (zx σ n0 bf).1 8093) 19 = .ok (.getfield 547, 3) := zd zm_8093 (by decide +kernel)
theorem d_8093_22 {σ : Nat → Nat} {n0 : Nat} {bf : ab_B} : decode (ab_code (zx σ n0 bf).1 8093) 22 = .ok (.iaload, 1) := zd zm_8093 (by decide +kernel)
theorem d_8093_23 {σ : Nat → Nat} {n0 : Nat} {bf : ab_B} : decode (ab_code (zx σ n0 bf).1 8093) 23 = .ok (.if_icmp .le 39, 3) := zd zm_8093 (by decide +kernel)
theorem d_8093_26 {σ : Nat → Nat} {n0 : Nat} {bf : ab_B} : decode (ab_code (zx σ n0 bf).1 8093) 26 = .ok (.aload_n 0, 1) := zd zm_8093 (by decide +kernel)
theorem d_8093_27 {σ : Nat → Nat} {n0 : Nat} {bf : ab_B} : decode (ab_code (zx σ n0 bf).1 8093) 27 = .ok (.getfield 37, 3) := zd zm_8093 (by decide +kernel)
theorem d_8093_30 {σ : Nat → Nat} {n0 : Nat} {bf : ab_B} : decode (ab_code (zx σ n0 bf).1 8093) 30 = .ok (.aload_n 0, 1) := zd zm_8093 (by decide +kernel)
theorem d_8093_31 {σ : Nat → Nat} {n0 : Nat} {bf : ab_B} : decode (ab_code (zx σ n0 bf).1 8093) 31 = .ok (.getfield 47, 3) := zd zm_8093 (by decide +kernel)
theorem d_8093_34 {σ : Nat → Nat} {n0 : Nat} {bf : ab_B} : decode (ab_code (zx σ n0 bf).1 8093) 34 = .ok (.aload_n 0, 1) := zd zm_8093 (by decide +kernel)
theorem d_8093_35 {σ : Nat → Nat} {n0 : Nat} {bf : ab_B} : decode (ab_code (zx σ n0 bf).1 8093) 35 = .ok (.getfield 550, 3) := zd zm_8093 (by decide +kernel)
theorem d_8093_38 {σ : Nat → Nat} {n0 : Nat} {bf : ab_B} : decode (ab_code (zx σ n0 bf).1 8093) 38 = .ok (.iaload, 1) := zd zm_8093 (by decide +kernel)
theorem d_8093_39 {σ : Nat → Nat} {n0 : Nat} {bf : ab_B} : decode (ab_code (zx σ n0 bf).1 8093) 39 = .ok (.aload_n 0, 1) := zd zm_8093 (by decide +kernel)
theorem d_8093_40 {σ : Nat → Nat} {n0 : Nat} {bf : ab_B} : decode (ab_code (zx σ n0 bf).1 8093) 40 = .ok (.getfield 59, 3) := zd zm_8093 (by decide +kernel)
theorem d_8093_43 {σ : Nat → Nat} {n0 : Nat} {bf : ab_B} : decode (ab_code (zx σ n0 bf).1 8093) 43 = .ok (.aload_n 0, 1) := zd zm_8093 (by decide +kernel)
theorem d_8093_44 {σ : Nat → Nat} {n0 : Nat} {bf : ab_B} : decode (ab_code (zx σ n0 bf).1 8093) 44 = .ok (.getfield 550, 3) := zd zm_8093 (by decide +kernel)
theorem d_8093_47 {σ : Nat → Nat} {n0 : Nat} {bf : ab_B} : decode (ab_code (zx σ n0 bf).1 8093) 47 = .ok (.iaload, 1) := zd zm_8093 (by decide +kernel)
theorem d_8093_48 {σ : Nat → Nat} {n0 : Nat} {bf : ab_B} : decode (ab_code (zx σ n0 bf).1 8093) 48 = .ok (.iastore, 1) := zd zm_8093 (by decide +kernel)
theorem d_8093_49 {σ : Nat → Nat} {n0 : Nat} {bf : ab_B} : decode (ab_code (zx σ n0 bf).1 8093) 49 = .ok (.aload_n 0, 1) := zd zm_8093 (by decide +kernel)
theorem d_8093_50 {σ : Nat → Nat} {n0 : Nat} {bf : ab_B} : decode (ab_code (zx σ n0 bf).1 8093) 50 = .ok (.dup, 1) := zd zm_8093 (by decide +kernel)
theorem d_8093_51 {σ : Nat → Nat} {n0 : Nat} {bf : ab_B} : decode (ab_code (zx σ n0 bf).1 8093) 51 = .ok (.getfield 550, 3) := zd zm_8093 (by decide +kernel)
theorem d_8093_54 {σ : Nat → Nat} {n0 : Nat} {bf : ab_B} : decode (ab_code (zx σ n0 bf).1 8093) 54 = .ok (.iconst 1, 1) := zd zm_8093 (by decide +kernel)
theorem d_8093_55 {σ : Nat → Nat} {n0 : Nat} {bf : ab_B} : decode (ab_code (zx σ n0 bf).1 8093) 55 = .ok (.isub, 1) := zd zm_8093 (by decide +kernel)
theorem d_8093_56 {σ : Nat → Nat} {n0 : Nat} {bf : ab_B} : decode (ab_code (zx σ n0 bf).1 8093) 56 = .ok (.putfield 550, 3) := zd zm_8093 (by decide +kernel)
theorem d_8093_59 {σ : Nat → Nat} {n0 : Nat} {bf : ab_B} : decode (ab_code (zx σ n0 bf).1 8093) 59 = .ok (.goto (-49), 3) := zd zm_8093 (by decide +kernel)
theorem d_8093_62 {σ : Nat → Nat} {n0 : Nat} {bf : ab_B} : decode (ab_code (zx σ n0 bf).1 8093) 62 = .ok (.return_, 1) := zd zm_8093 (by decide +kernel)
def w_X9_closeNames_49 (X : zs_X) (d : Nat) (p0 : Nat) (S : zs_T) (Q : zs_Q) : Prop :=
  (zs_K S p0 = some (.inl 8) ∧ ab_n0 X.1 ≤ p0 ∧ ∀ S3, S3 = zs_sI S 8031 p0 ((zs_I S 8031 p0) - (1 : Int32)) → zs_U X d 8093 10 [(0, .ref p0)] [] S3 Q)
theorem u_X9_closeNames_49 {σ : Nat → Nat} {n0 : Nat} {bf : ab_B} {d : Nat} {p0 : Nat} {S : zs_T} {Q : zs_Q} (hB : zt_B bf) (h : w_X9_closeNames_49 (zx σ n0 bf) d p0 S Q) : zs_U (zx σ n0 bf) d 8093 49 [(0, .ref p0)] [] S Q := by
  unfold w_X9_closeNames_49 at h
  refine zu_aload_n d_8093_49 rfl (zs_ra _) ?_
  refine zu_dup d_8093_50 rfl ?_
  obtain ⟨k1, h⟩ := h
  refine zg_8_550 rfl d_8093_51 k1 ?_
  refine zu_iconst d_8093_54 zi_1 ?_
  refine zu_stk d_8093_55 rfl rfl ?_
  obtain ⟨k2, h⟩ := h
  refine zp_8_550 (v := ((zs_I S 8031 p0) - (1 : Int32))) rfl d_8093_56 k1 k2 ?_
  generalize e4 : zs_sI S 8031 p0 ((zs_I S 8031 p0) - (1 : Int32)) = S3
  have h := h S3 e4.symm
  have K5 : ∀ b, zs_K S3 b = zs_K S b := zs_Kt e4 (zs_KsI _ _ _ _) (fun _ => rfl)
  refine zu_goto (t := 10) d_8093_59 rfl ?_
  exact h.weak ⟨rfl, trivial⟩
def w_X9_closeNames_10 (X : zs_X) (d : Nat) (p0 : Nat) (S : zs_T) (Q : zs_Q) : Prop :=
  (zs_K S p0 = some (.inl 8) ∧ ∃ b2, (zs_R S 8032 p0) = some b2 ∧ zs_A S b2 0 (zs_I S 8034 p0) ∧ (((zs_I S 8031 p0) ≤ (zs_i S b2 (zs_I S 8034 p0).toNatClampNeg) → (Q (.returned none) S)) ∧ (¬ ((zs_I S 8031 p0) ≤ (zs_i S b2 (zs_I S 8034 p0).toNatClampNeg)) → (∃ b6, (zs_R S 8025 p0) = some b6 ∧ zs_A S b6 0 (zs_I S 8031 p0) ∧ ∃ b9, (zs_R S 8029 p0) = some b9 ∧ zs_A S b9 0 (zs_I S 8031 p0) ∧ ∃ b12, (zs_R S 8019 p0) = some b12 ∧ zs_A S b12 0 (zs_i S b6 (zs_I S 8031 p0).toNatClampNeg) ∧ ab_n0 X.1 ≤ b12 ∧ ∀ S16, S16 = zs_si S b12 (zs_i S b6 (zs_I S 8031 p0).toNatClampNeg).toNatClampNeg (zs_i S b9 (zs_I S 8031 p0).toNatClampNeg) → w_X9_closeNames_49 X d p0 S16 Q))))
theorem u_X9_closeNames_10 {σ : Nat → Nat} {n0 : Nat} {bf : ab_B} {d : Nat} {p0 : Nat} {S : zs_T} {Q : zs_Q} (hB : zt_B bf) (h : w_X9_closeNames_10 (zx σ n0 bf) d p0 S Q) : zs_U (zx σ n0 bf) d 8093 10 [(0, .ref p0)] [] S Q := by
  unfold w_X9_closeNames_10 at h
  refine zu_aload_n d_8093_10 rfl (zs_ra _) ?_
  obtain ⟨k1, h⟩ := h
  refine zg_8_550 rfl d_8093_11 k1 ?_
  refine zu_aload_n d_8093_14 rfl (zs_ra _) ?_
  refine zg_8_65 rfl d_8093_15 k1 ?_
  refine zu_aload_n d_8093_18 rfl (zs_ra _) ?_
  refine zg_8_547 rfl d_8093_19 k1 ?_
  obtain ⟨b2, e3, h⟩ := h
  refine zs_stk1 (zs_rfe e3) ?_
  obtain ⟨k4, h⟩ := h
  refine zu_iald (k := 0) d_8093_22 rfl rfl k4 ?_
  refine zu_cmple (t := 62) d_8093_23 rfl (fun c5 => ?_) (fun c5 => ?_)
  · have h := h.1 c5
    exact zu_vret d_8093_62 zr_8093 h
  · have h := h.2 c5
    refine zu_aload_n d_8093_26 rfl (zs_ra _) ?_
    refine zg_8_37 rfl d_8093_27 k1 ?_
    refine zu_aload_n d_8093_30 rfl (zs_ra _) ?_
    refine zg_8_47 rfl d_8093_31 k1 ?_
    refine zu_aload_n d_8093_34 rfl (zs_ra _) ?_
    refine zg_8_550 rfl d_8093_35 k1 ?_
    obtain ⟨b6, e7, h⟩ := h
    refine zs_stk1 (zs_rfe e7) ?_
    obtain ⟨k8, h⟩ := h
    refine zu_iald (k := 0) d_8093_38 rfl rfl k8 ?_
    refine zu_aload_n d_8093_39 rfl (zs_ra _) ?_
    refine zg_8_59 rfl d_8093_40 k1 ?_
    refine zu_aload_n d_8093_43 rfl (zs_ra _) ?_
    refine zg_8_550 rfl d_8093_44 k1 ?_
    obtain ⟨b9, e10, h⟩ := h
    refine zs_stk1 (zs_rfe e10) ?_
    obtain ⟨k11, h⟩ := h
    refine zu_iald (k := 0) d_8093_47 rfl rfl k11 ?_
    obtain ⟨b12, e13, h⟩ := h
    refine zs_stk2 (zs_rfe e13) ?_
    obtain ⟨k14, h⟩ := h
    obtain ⟨k15, h⟩ := h
    refine zu_iast (k := 0) d_8093_48 rfl rfl k15 k14 ?_
    generalize e17 : zs_si S b12 (zs_i S b6 (zs_I S 8031 p0).toNatClampNeg).toNatClampNeg (zs_i S b9 (zs_I S 8031 p0).toNatClampNeg) = S16
    have h := h S16 e17.symm
    have K18 : ∀ b, zs_K S16 b = zs_K S b := zs_Kt e17 (zs_Ksi _ _ _ _) (fun _ => rfl)
    exact (u_X9_closeNames_49 hB h).weak ⟨rfl, trivial⟩
def w_X9_closeNames (X : zs_X) (d : Nat) (p0 : Nat) (S : zs_T) (Q : zs_Q) : Prop :=
  (zs_K S p0 = some (.inl 8) ∧ ab_n0 X.1 ≤ p0 ∧ ∀ S3, S3 = zs_sI S 8034 p0 ((zs_I S 8034 p0) - (1 : Int32)) → zs_U X d 8093 10 [(0, .ref p0)] [] S3 Q)
theorem u_X9_closeNames {σ : Nat → Nat} {n0 : Nat} {bf : ab_B} {d : Nat} {p0 : Nat} {S : zs_T} {Q : zs_Q} (hB : zt_B bf) (hd : 1 ≤ d) (h : w_X9_closeNames (zx σ n0 bf) (d - 1) p0 S Q) : zs_C (zx σ n0 bf) d 8093 [.ref p0] S Q := by
  have hL : lv_args 0 [.ref p0] = [(0, .ref p0)] := rfl
  refine zs_C.of1 (hB.2 8093 (by decide) (by decide)) hd (by rw [hL]; exact zs_sub_self _ (by exact ⟨rfl, trivial⟩)) ?_
  rw [hL]
  clear hL
  unfold w_X9_closeNames at h
  refine zu_aload_n d_8093_0 rfl (zs_ra _) ?_
  refine zu_dup d_8093_1 rfl ?_
  obtain ⟨k1, h⟩ := h
  refine zg_8_547 rfl d_8093_2 k1 ?_
  refine zu_iconst d_8093_5 zi_1 ?_
  refine zu_stk d_8093_6 rfl rfl ?_
  obtain ⟨k2, h⟩ := h
  refine zp_8_547 (v := ((zs_I S 8034 p0) - (1 : Int32))) rfl d_8093_7 k1 k2 ?_
  generalize e4 : zs_sI S 8034 p0 ((zs_I S 8034 p0) - (1 : Int32)) = S3
  have h := h S3 e4.symm
  have K5 : ∀ b, zs_K S3 b = zs_K S b := zs_Kt e4 (zs_KsI _ _ _ _) (fun _ => rfl)
  exact h.weak ⟨rfl, trivial⟩
/-! SchemaPascalModel.listNamesOf()V -/
theorem zm_8094 {σ : Nat → Nat} {n0 : Nat} {bf : ab_B} : ab_code (zx σ n0 bf).1 8094 = prog_17_method_111_code := rfl
theorem zq_8094 {σ : Nat → Nat} {n0 : Nat} {bf : ab_B} : ab_maxL (zx σ n0 bf).1 8094 = 6 := rfl
theorem zr_8094 {σ : Nat → Nat} {n0 : Nat} {bf : ab_B} : ab_ret (zx σ n0 bf).1 8094 = (Option.none : Option Jvm.ClassFile.FieldType) := rfl
theorem d_8094_0 {σ : Nat → Nat} {n0 : Nat} {bf : ab_B} : decode (ab_code (zx σ n0 bf).1 8094) 0 = .ok (.aload_n 0, 1) := zd zm_8094 (by decide +kernel)
theorem d_8094_1 {σ : Nat → Nat} {n0 : Nat} {bf : ab_B} : decode (ab_code (zx σ n0 bf).1 8094) 1 = .ok (.iconst 4, 1) := zd zm_8094 (by decide +kernel)
theorem d_8094_2 {σ : Nat → Nat} {n0 : Nat} {bf : ab_B} : decode (ab_code (zx σ n0 bf).1 8094) 2 = .ok (.iconst 0, 1) := zd zm_8094 (by decide +kernel)
theorem d_8094_3 {σ : Nat → Nat} {n0 : Nat} {bf : ab_B} : decode (ab_code (zx σ n0 bf).1 8094) 3 = .ok (.iconst 1, 1) := zd zm_8094 (by decide +kernel)
theorem d_8094_4 {σ : Nat → Nat} {n0 : Nat} {bf : ab_B} : decode (ab_code (zx σ n0 bf).1 8094) 4 = .ok (.invokevirtual 599, 3) := zd zm_8094 (by decide +kernel)
theorem d_8094_7 {σ : Nat → Nat} {n0 : Nat} {bf : ab_B} : decode (ab_code (zx σ n0 bf).1 8094) 7 = .ok (.istore_n 1, 1) := zd zm_8094 (by decide +kernel)
theorem d_8094_8 {σ : Nat → Nat} {n0 : Nat} {bf : ab_B} : decode (ab_code (zx σ n0 bf).1 8094) 8 = .ok (.iconst 0, 1) := zd zm_8094 (by decide +kernel)
theorem d_8094_9 {σ : Nat → Nat} {n0 : Nat} {bf : ab_B} : decode (ab_code (zx σ n0 bf).1 8094) 9 = .ok (.istore_n 2, 1) := zd zm_8094 (by decide +kernel)
theorem d_8094_10 {σ : Nat → Nat} {n0 : Nat} {bf : ab_B} : decode (ab_code (zx σ n0 bf).1 8094) 10 = .ok (.iconst 1, 1) := zd zm_8094 (by decide +kernel)
theorem d_8094_11 {σ : Nat → Nat} {n0 : Nat} {bf : ab_B} : decode (ab_code (zx σ n0 bf).1 8094) 11 = .ok (.istore_n 3, 1) := zd zm_8094 (by decide +kernel)
theorem d_8094_12 {σ : Nat → Nat} {n0 : Nat} {bf : ab_B} : decode (ab_code (zx σ n0 bf).1 8094) 12 = .ok (.aload_n 0, 1) := zd zm_8094 (by decide +kernel)
theorem d_8094_13 {σ : Nat → Nat} {n0 : Nat} {bf : ab_B} : decode (ab_code (zx σ n0 bf).1 8094) 13 = .ok (.getfield 444, 3) := zd zm_8094 (by decide +kernel)
theorem d_8094_16 {σ : Nat → Nat} {n0 : Nat} {bf : ab_B} : decode (ab_code (zx σ n0 bf).1 8094) 16 = .ok (.ifCond .ne 132, 3) := zd zm_8094 (by decide +kernel)
theorem d_8094_19 {σ : Nat → Nat} {n0 : Nat} {bf : ab_B} : decode (ab_code (zx σ n0 bf).1 8094) 19 = .ok (.iload_n 3, 1) := zd zm_8094 (by decide +kernel)
theorem d_8094_20 {σ : Nat → Nat} {n0 : Nat} {bf : ab_B} : decode (ab_code (zx σ n0 bf).1 8094) 20 = .ok (.ifCond .eq 128, 3) := zd zm_8094 (by decide +kernel)
theorem d_8094_23 {σ : Nat → Nat} {n0 : Nat} {bf : ab_B} : decode (ab_code (zx σ n0 bf).1 8094) 23 = .ok (.aload_n 0, 1) := zd zm_8094 (by decide +kernel)
theorem d_8094_24 {σ : Nat → Nat} {n0 : Nat} {bf : ab_B} : decode (ab_code (zx σ n0 bf).1 8094) 24 = .ok (.getfield 484, 3) := zd zm_8094 (by decide +kernel)
theorem d_8094_27 {σ : Nat → Nat} {n0 : Nat} {bf : ab_B} : decode (ab_code (zx σ n0 bf).1 8094) 27 = .ok (.iconst 1, 1) := zd zm_8094 (by decide +kernel)
theorem d_8094_28 {σ : Nat → Nat} {n0 : Nat} {bf : ab_B} : decode (ab_code (zx σ n0 bf).1 8094) 28 = .ok (.if_icmp .eq 9, 3) := zd zm_8094 (by decide +kernel)
theorem d_8094_31 {σ : Nat → Nat} {n0 : Nat} {bf : ab_B} : decode (ab_code (zx σ n0 bf).1 8094) 31 = .ok (.aload_n 0, 1) := zd zm_8094 (by decide +kernel)
theorem d_8094_32 {σ : Nat → Nat} {n0 : Nat} {bf : ab_B} : decode (ab_code (zx σ n0 bf).1 8094) 32 = .ok (.iconst 2, 1) := zd zm_8094 (by decide +kernel)
theorem d_8094_33 {σ : Nat → Nat} {n0 : Nat} {bf : ab_B} : decode (ab_code (zx σ n0 bf).1 8094) 33 = .ok (.invokevirtual 541, 3) := zd zm_8094 (by decide +kernel)
theorem d_8094_36 {σ : Nat → Nat} {n0 : Nat} {bf : ab_B} : decode (ab_code (zx σ n0 bf).1 8094) 36 = .ok (.return_, 1) := zd zm_8094 (by decide +kernel)
theorem d_8094_37 {σ : Nat → Nat} {n0 : Nat} {bf : ab_B} : decode (ab_code (zx σ n0 bf).1 8094) 37 = .ok (.aload_n 0, 1) := zd zm_8094 (by decide +kernel)
theorem d_8094_38 {σ : Nat → Nat} {n0 : Nat} {bf : ab_B} : decode (ab_code (zx σ n0 bf).1 8094) 38 = .ok (.aload_n 0, 1) := zd zm_8094 (by decide +kernel)
theorem d_8094_39 {σ : Nat → Nat} {n0 : Nat} {bf : ab_B} : decode (ab_code (zx σ n0 bf).1 8094) 39 = .ok (.getfield 494, 3) := zd zm_8094 (by decide +kernel)
theorem d_8094_42 {σ : Nat → Nat} {n0 : Nat} {bf : ab_B} : decode (ab_code (zx σ n0 bf).1 8094) 42 = .ok (.invokevirtual 864, 3) := zd zm_8094 (by decide +kernel)
theorem d_8094_45 {σ : Nat → Nat} {n0 : Nat} {bf : ab_B} : decode (ab_code (zx σ n0 bf).1 8094) 45 = .ok (.ifCond .ne 10, 3) := zd zm_8094 (by decide +kernel)
theorem d_8094_48 {σ : Nat → Nat} {n0 : Nat} {bf : ab_B} : decode (ab_code (zx σ n0 bf).1 8094) 48 = .ok (.iload_n 2, 1) := zd zm_8094 (by decide +kernel)
theorem d_8094_49 {σ : Nat → Nat} {n0 : Nat} {bf : ab_B} : decode (ab_code (zx σ n0 bf).1 8094) 49 = .ok (.sipush 16000, 3) := zd zm_8094 (by decide +kernel)
theorem d_8094_52 {σ : Nat → Nat} {n0 : Nat} {bf : ab_B} : decode (ab_code (zx σ n0 bf).1 8094) 52 = .ok (.if_icmp .lt 7, 3) := zd zm_8094 (by decide +kernel)
theorem d_8094_55 {σ : Nat → Nat} {n0 : Nat} {bf : ab_B} : decode (ab_code (zx σ n0 bf).1 8094) 55 = .ok (.iconst 1, 1) := zd zm_8094 (by decide +kernel)
theorem d_8094_56 {σ : Nat → Nat} {n0 : Nat} {bf : ab_B} : decode (ab_code (zx σ n0 bf).1 8094) 56 = .ok (.goto 4, 3) := zd zm_8094 (by decide +kernel)
theorem d_8094_59 {σ : Nat → Nat} {n0 : Nat} {bf : ab_B} : decode (ab_code (zx σ n0 bf).1 8094) 59 = .ok (.iconst 0, 1) := zd zm_8094 (by decide +kernel)
theorem d_8094_60 {σ : Nat → Nat} {n0 : Nat} {bf : ab_B} : decode (ab_code (zx σ n0 bf).1 8094) 60 = .ok (.istore 4, 2) := zd zm_8094 (by decide +kernel)
theorem d_8094_62 {σ : Nat → Nat} {n0 : Nat} {bf : ab_B} : decode (ab_code (zx σ n0 bf).1 8094) 62 = .ok (.iconst 0, 1) := zd zm_8094 (by decide +kernel)
theorem d_8094_63 {σ : Nat → Nat} {n0 : Nat} {bf : ab_B} : decode (ab_code (zx σ n0 bf).1 8094) 63 = .ok (.istore 5, 2) := zd zm_8094 (by decide +kernel)
theorem d_8094_65 {σ : Nat → Nat} {n0 : Nat} {bf : ab_B} : decode (ab_code (zx σ n0 bf).1 8094) 65 = .ok (.iload 5, 2) := zd zm_8094 (by decide +kernel)
theorem d_8094_67 {σ : Nat → Nat} {n0 : Nat} {bf : ab_B} : decode (ab_code (zx σ n0 bf).1 8094) 67 = .ok (.iload_n 2, 1) := zd zm_8094 (by decide +kernel)
theorem d_8094_68 {σ : Nat → Nat} {n0 : Nat} {bf : ab_B} : decode (ab_code (zx σ n0 bf).1 8094) 68 = .ok (.if_icmp .ge 35, 3) := zd zm_8094 (by decide +kernel)
theorem d_8094_71 {σ : Nat → Nat} {n0 : Nat} {bf : ab_B} : decode (ab_code (zx σ n0 bf).1 8094) 71 = .ok (.iload 4, 2) := zd zm_8094 (by decide +kernel)
theorem d_8094_73 {σ : Nat → Nat} {n0 : Nat} {bf : ab_B} : decode (ab_code (zx σ n0 bf).1 8094) 73 = .ok (.ifCond .ne 17, 3) := zd zm_8094 (by decide +kernel)
theorem d_8094_76 {σ : Nat → Nat} {n0 : Nat} {bf : ab_B} : decode (ab_code (zx σ n0 bf).1 8094) 76 = .ok (.aload_n 0, 1) := zd zm_8094 (by decide +kernel)
theorem d_8094_77 {σ : Nat → Nat} {n0 : Nat} {bf : ab_B} : decode (ab_code (zx σ n0 bf).1 8094) 77 = .ok (.getfield 281, 3) := zd zm_8094 (by decide +kernel)
theorem d_8094_80 {σ : Nat → Nat} {n0 : Nat} {bf : ab_B} : decode (ab_code (zx σ n0 bf).1 8094) 80 = .ok (.iload 5, 2) := zd zm_8094 (by decide +kernel)
theorem d_8094_82 {σ : Nat → Nat} {n0 : Nat} {bf : ab_B} : decode (ab_code (zx σ n0 bf).1 8094) 82 = .ok (.iaload, 1) := zd zm_8094 (by decide +kernel)
theorem d_8094_83 {σ : Nat → Nat} {n0 : Nat} {bf : ab_B} : decode (ab_code (zx σ n0 bf).1 8094) 83 = .ok (.aload_n 0, 1) := zd zm_8094 (by decide +kernel)
theorem d_8094_84 {σ : Nat → Nat} {n0 : Nat} {bf : ab_B} : decode (ab_code (zx σ n0 bf).1 8094) 84 = .ok (.getfield 494, 3) := zd zm_8094 (by decide +kernel)
theorem d_8094_87 {σ : Nat → Nat} {n0 : Nat} {bf : ab_B} : decode (ab_code (zx σ n0 bf).1 8094) 87 = .ok (.if_icmp .ne 7, 3) := zd zm_8094 (by decide +kernel)
theorem d_8094_90 {σ : Nat → Nat} {n0 : Nat} {bf : ab_B} : decode (ab_code (zx σ n0 bf).1 8094) 90 = .ok (.iconst 1, 1) := zd zm_8094 (by decide +kernel)
theorem d_8094_91 {σ : Nat → Nat} {n0 : Nat} {bf : ab_B} : decode (ab_code (zx σ n0 bf).1 8094) 91 = .ok (.goto 4, 3) := zd zm_8094 (by decide +kernel)
theorem d_8094_94 {σ : Nat → Nat} {n0 : Nat} {bf : ab_B} : decode (ab_code (zx σ n0 bf).1 8094) 94 = .ok (.iconst 0, 1) := zd zm_8094 (by decide +kernel)
theorem d_8094_95 {σ : Nat → Nat} {n0 : Nat} {bf : ab_B} : decode (ab_code (zx σ n0 bf).1 8094) 95 = .ok (.istore 4, 2) := zd zm_8094 (by decide +kernel)
theorem d_8094_97 {σ : Nat → Nat} {n0 : Nat} {bf : ab_B} : decode (ab_code (zx σ n0 bf).1 8094) 97 = .ok (.iinc 5 1, 3) := zd zm_8094 (by decide +kernel)
theorem d_8094_100 {σ : Nat → Nat} {n0 : Nat} {bf : ab_B} : decode (ab_code (zx σ n0 bf).1 8094) 100 = .ok (.goto (-35), 3) := zd zm_8094 (by decide +kernel)
theorem d_8094_103 {σ : Nat → Nat} {n0 : Nat} {bf : ab_B} : decode (ab_code (zx σ n0 bf).1 8094) 103 = .ok (.iload 4, 2) := zd zm_8094 (by decide +kernel)
theorem d_8094_105 {σ : Nat → Nat} {n0 : Nat} {bf : ab_B} : decode (ab_code (zx σ n0 bf).1 8094) 105 = .ok (.ifCond .eq 8, 3) := zd zm_8094 (by decide +kernel)
theorem d_8094_108 {σ : Nat → Nat} {n0 : Nat} {bf : ab_B} : decode (ab_code (zx σ n0 bf).1 8094) 108 = .ok (.aload_n 0, 1) := zd zm_8094 (by decide +kernel)
theorem d_8094_109 {σ : Nat → Nat} {n0 : Nat} {bf : ab_B} : decode (ab_code (zx σ n0 bf).1 8094) 109 = .ok (.iconst 4, 1) := zd zm_8094 (by decide +kernel)
theorem d_8094_110 {σ : Nat → Nat} {n0 : Nat} {bf : ab_B} : decode (ab_code (zx σ n0 bf).1 8094) 110 = .ok (.invokevirtual 541, 3) := zd zm_8094 (by decide +kernel)
theorem d_8094_113 {σ : Nat → Nat} {n0 : Nat} {bf : ab_B} : decode (ab_code (zx σ n0 bf).1 8094) 113 = .ok (.aload_n 0, 1) := zd zm_8094 (by decide +kernel)
theorem d_8094_114 {σ : Nat → Nat} {n0 : Nat} {bf : ab_B} : decode (ab_code (zx σ n0 bf).1 8094) 114 = .ok (.getfield 281, 3) := zd zm_8094 (by decide +kernel)
theorem d_8094_117 {σ : Nat → Nat} {n0 : Nat} {bf : ab_B} : decode (ab_code (zx σ n0 bf).1 8094) 117 = .ok (.iload_n 2, 1) := zd zm_8094 (by decide +kernel)
theorem d_8094_118 {σ : Nat → Nat} {n0 : Nat} {bf : ab_B} : decode (ab_code (zx σ n0 bf).1 8094) 118 = .ok (.aload_n 0, 1) := zd zm_8094 (by decide +kernel)
theorem d_8094_119 {σ : Nat → Nat} {n0 : Nat} {bf : ab_B} : decode (ab_code (zx σ n0 bf).1 8094) 119 = .ok (.getfield 494, 3) := zd zm_8094 (by decide +kernel)
theorem d_8094_122 {σ : Nat → Nat} {n0 : Nat} {bf : ab_B} : decode (ab_code (zx σ n0 bf).1 8094) 122 = .ok (.iastore, 1) := zd zm_8094 (by decide +kernel)
theorem d_8094_123 {σ : Nat → Nat} {n0 : Nat} {bf : ab_B} : decode (ab_code (zx σ n0 bf).1 8094) 123 = .ok (.iinc 2 1, 3) := zd zm_8094 (by decide +kernel)
theorem d_8094_126 {σ : Nat → Nat} {n0 : Nat} {bf : ab_B} : decode (ab_code (zx σ n0 bf).1 8094) 126 = .ok (.aload_n 0, 1) := zd zm_8094 (by decide +kernel)
theorem d_8094_127 {σ : Nat → Nat} {n0 : Nat} {bf : ab_B} : decode (ab_code (zx σ n0 bf).1 8094) 127 = .ok (.invokevirtual 538, 3) := zd zm_8094 (by decide +kernel)
theorem d_8094_130 {σ : Nat → Nat} {n0 : Nat} {bf : ab_B} : decode (ab_code (zx σ n0 bf).1 8094) 130 = .ok (.aload_n 0, 1) := zd zm_8094 (by decide +kernel)
theorem d_8094_131 {σ : Nat → Nat} {n0 : Nat} {bf : ab_B} : decode (ab_code (zx σ n0 bf).1 8094) 131 = .ok (.bipush 12, 2) := zd zm_8094 (by decide +kernel)
theorem d_8094_133 {σ : Nat → Nat} {n0 : Nat} {bf : ab_B} : decode (ab_code (zx σ n0 bf).1 8094) 133 = .ok (.invokevirtual 535, 3) := zd zm_8094 (by decide +kernel)
theorem d_8094_136 {σ : Nat → Nat} {n0 : Nat} {bf : ab_B} : decode (ab_code (zx σ n0 bf).1 8094) 136 = .ok (.istore_n 3, 1) := zd zm_8094 (by decide +kernel)
theorem d_8094_137 {σ : Nat → Nat} {n0 : Nat} {bf : ab_B} : decode (ab_code (zx σ n0 bf).1 8094) 137 = .ok (.iload_n 3, 1) := zd zm_8094 (by decide +kernel)
theorem d_8094_138 {σ : Nat → Nat} {n0 : Nat} {bf : ab_B} : decode (ab_code (zx σ n0 bf).1 8094) 138 = .ok (.ifCond .eq 7, 3) := zd zm_8094 (by decide +kernel)
theorem d_8094_141 {σ : Nat → Nat} {n0 : Nat} {bf : ab_B} : decode (ab_code (zx σ n0 bf).1 8094) 141 = .ok (.aload_n 0, 1) := zd zm_8094 (by decide +kernel)
theorem d_8094_142 {σ : Nat → Nat} {n0 : Nat} {bf : ab_B} : decode (ab_code (zx σ n0 bf).1 8094) 142 = .ok (.invokevirtual 538, 3) := zd zm_8094 (by decide +kernel)
theorem d_8094_145 {σ : Nat → Nat} {n0 : Nat} {bf : ab_B} : decode (ab_code (zx σ n0 bf).1 8094) 145 = .ok (.goto (-133), 3) := zd zm_8094 (by decide +kernel)
theorem d_8094_148 {σ : Nat → Nat} {n0 : Nat} {bf : ab_B} : decode (ab_code (zx σ n0 bf).1 8094) 148 = .ok (.aload_n 0, 1) := zd zm_8094 (by decide +kernel)
theorem d_8094_149 {σ : Nat → Nat} {n0 : Nat} {bf : ab_B} : decode (ab_code (zx σ n0 bf).1 8094) 149 = .ok (.bipush 9, 2) := zd zm_8094 (by decide +kernel)
theorem d_8094_151 {σ : Nat → Nat} {n0 : Nat} {bf : ab_B} : decode (ab_code (zx σ n0 bf).1 8094) 151 = .ok (.invokevirtual 746, 3) := zd zm_8094 (by decide +kernel)
theorem d_8094_154 {σ : Nat → Nat} {n0 : Nat} {bf : ab_B} : decode (ab_code (zx σ n0 bf).1 8094) 154 = .ok (.aload_n 0, 1) := zd zm_8094 (by decide +kernel)
theorem d_8094_155 {σ : Nat → Nat} {n0 : Nat} {bf : ab_B} : decode (ab_code (zx σ n0 bf).1 8094) 155 = .ok (.getfield 444, 3) := zd zm_8094 (by decide +kernel)
theorem d_8094_158 {σ : Nat → Nat} {n0 : Nat} {bf : ab_B} : decode (ab_code (zx σ n0 bf).1 8094) 158 = .ok (.ifCond .le 4, 3) := zd zm_8094 (by decide +kernel)
theorem d_8094_161 {σ : Nat → Nat} {n0 : Nat} {bf : ab_B} : decode (ab_code (zx σ n0 bf).1 8094) 161 = .ok (.return_, 1) := zd zm_8094 (by decide +kernel)
theorem d_8094_162 {σ : Nat → Nat} {n0 : Nat} {bf : ab_B} : decode (ab_code (zx σ n0 bf).1 8094) 162 = .ok (.aload_n 0, 1) := zd zm_8094 (by decide +kernel)
theorem d_8094_163 {σ : Nat → Nat} {n0 : Nat} {bf : ab_B} : decode (ab_code (zx σ n0 bf).1 8094) 163 = .ok (.getfield 93, 3) := zd zm_8094 (by decide +kernel)
theorem d_8094_166 {σ : Nat → Nat} {n0 : Nat} {bf : ab_B} : decode (ab_code (zx σ n0 bf).1 8094) 166 = .ok (.iload_n 1, 1) := zd zm_8094 (by decide +kernel)
theorem d_8094_167 {σ : Nat → Nat} {n0 : Nat} {bf : ab_B} : decode (ab_code (zx σ n0 bf).1 8094) 167 = .ok (.iload_n 2, 1) := zd zm_8094 (by decide +kernel)
theorem d_8094_168 {σ : Nat → Nat} {n0 : Nat} {bf : ab_B} : decode (ab_code (zx σ n0 bf).1 8094) 168 = .ok (.iastore, 1) := zd zm_8094 (by decide +kernel)
theorem d_8094_169 {σ : Nat → Nat} {n0 : Nat} {bf : ab_B} : decode (ab_code (zx σ n0 bf).1 8094) 169 = .ok (.iconst 0, 1) := zd zm_8094 (by decide +kernel)
theorem d_8094_170 {σ : Nat → Nat} {n0 : Nat} {bf : ab_B} : decode (ab_code (zx σ n0 bf).1 8094) 170 = .ok (.istore 4, 2) := zd zm_8094 (by decide +kernel)
theorem d_8094_172 {σ : Nat → Nat} {n0 : Nat} {bf : ab_B} : decode (ab_code (zx σ n0 bf).1 8094) 172 = .ok (.iload 4, 2) := zd zm_8094 (by decide +kernel)
theorem d_8094_174 {σ : Nat → Nat} {n0 : Nat} {bf : ab_B} : decode (ab_code (zx σ n0 bf).1 8094) 174 = .ok (.iload_n 2, 1) := zd zm_8094 (by decide +kernel)
theorem d_8094_175 {σ : Nat → Nat} {n0 : Nat} {bf : ab_B} : decode (ab_code (zx σ n0 bf).1 8094) 175 = .ok (.if_icmp .ge 27, 3) := zd zm_8094 (by decide +kernel)
theorem d_8094_178 {σ : Nat → Nat} {n0 : Nat} {bf : ab_B} : decode (ab_code (zx σ n0 bf).1 8094) 178 = .ok (.aload_n 0, 1) := zd zm_8094 (by decide +kernel)
theorem d_8094_179 {σ : Nat → Nat} {n0 : Nat} {bf : ab_B} : decode (ab_code (zx σ n0 bf).1 8094) 179 = .ok (.aload_n 0, 1) := zd zm_8094 (by decide +kernel)
theorem d_8094_180 {σ : Nat → Nat} {n0 : Nat} {bf : ab_B} : decode (ab_code (zx σ n0 bf).1 8094) 180 = .ok (.getfield 281, 3) := zd zm_8094 (by decide +kernel)
theorem d_8094_183 {σ : Nat → Nat} {n0 : Nat} {bf : ab_B} : decode (ab_code (zx σ n0 bf).1 8094) 183 = .ok (.iload 4, 2) := zd zm_8094 (by decide +kernel)
theorem d_8094_185 {σ : Nat → Nat} {n0 : Nat} {bf : ab_B} : decode (ab_code (zx σ n0 bf).1 8094) 185 = .ok (.iaload, 1) := zd zm_8094 (by decide +kernel)
theorem d_8094_186 {σ : Nat → Nat} {n0 : Nat} {bf : ab_B} : decode (ab_code (zx σ n0 bf).1 8094) 186 = .ok (.iconst 1, 1) := zd zm_8094 (by decide +kernel)
theorem d_8094_187 {σ : Nat → Nat} {n0 : Nat} {bf : ab_B} : decode (ab_code (zx σ n0 bf).1 8094) 187 = .ok (.iload_n 1, 1) := zd zm_8094 (by decide +kernel)
theorem d_8094_188 {σ : Nat → Nat} {n0 : Nat} {bf : ab_B} : decode (ab_code (zx σ n0 bf).1 8094) 188 = .ok (.iload 4, 2) := zd zm_8094 (by decide +kernel)
theorem d_8094_190 {σ : Nat → Nat} {n0 : Nat} {bf : ab_B} : decode (ab_code (zx σ n0 bf).1 8094) 190 = .ok (.iconst 0, 1) := zd zm_8094 (by decide +kernel)
theorem d_8094_191 {σ : Nat → Nat} {n0 : Nat} {bf : ab_B} : decode (ab_code (zx σ n0 bf).1 8094) 191 = .ok (.invokevirtual 606, 3) := zd zm_8094 (by decide +kernel)
theorem d_8094_194 {σ : Nat → Nat} {n0 : Nat} {bf : ab_B} : decode (ab_code (zx σ n0 bf).1 8094) 194 = .ok (.istore 5, 2) := zd zm_8094 (by decide +kernel)
theorem d_8094_196 {σ : Nat → Nat} {n0 : Nat} {bf : ab_B} : decode (ab_code (zx σ n0 bf).1 8094) 196 = .ok (.iinc 4 1, 3) := zd zm_8094 (by decide +kernel)
theorem d_8094_199 {σ : Nat → Nat} {n0 : Nat} {bf : ab_B} : decode (ab_code (zx σ n0 bf).1 8094) 199 = .ok (.goto (-27), 3) := zd zm_8094 (by decide +kernel)
theorem d_8094_202 {σ : Nat → Nat} {n0 : Nat} {bf : ab_B} : decode (ab_code (zx σ n0 bf).1 8094) 202 = .ok (.aload_n 0, 1) := zd zm_8094 (by decide +kernel)
theorem d_8094_203 {σ : Nat → Nat} {n0 : Nat} {bf : ab_B} : decode (ab_code (zx σ n0 bf).1 8094) 203 = .ok (.iload_n 1, 1) := zd zm_8094 (by decide +kernel)
theorem d_8094_204 {σ : Nat → Nat} {n0 : Nat} {bf : ab_B} : decode (ab_code (zx σ n0 bf).1 8094) 204 = .ok (.invokevirtual 840, 3) := zd zm_8094 (by decide +kernel)
theorem d_8094_207 {σ : Nat → Nat} {n0 : Nat} {bf : ab_B} : decode (ab_code (zx σ n0 bf).1 8094) 207 = .ok (.return_, 1) := zd zm_8094 (by decide +kernel)
def w_X9_listNamesOf_148 (X : zs_X) (d : Nat) (p0 : Nat) (p1 : Int32) (p2 : Int32) (S : zs_T) (Q : zs_Q) : Prop :=
  (zs_K S p0 = some (.inl 8) ∧ zs_C X d 8028 [.ref p0, .int (9 : Int32)] S (zs_kV (fun S2 => (zs_K S2 p0 = some (.inl 8) ∧ (((zs_I S2 8010 p0) ≤ 0 → (∃ b6, (zs_R S2 8045 p0) = some b6 ∧ zs_A S2 b6 0 p1 ∧ ab_n0 X.1 ≤ b6 ∧ ∀ S10, S10 = zs_si S2 b6 p1.toNatClampNeg p2 → zs_U X d 8094 172 [(0, .ref p0), (1, .int p1), (2, .int p2), (4, .int (0 : Int32))] [] S10 Q)) ∧ (¬ ((zs_I S2 8010 p0) ≤ 0) → (Q (.returned none) S2))))) Q))
theorem u_X9_listNamesOf_148 {σ : Nat → Nat} {n0 : Nat} {bf : ab_B} {d : Nat} {p0 : Nat} {p1 : Int32} {p2 : Int32} {S : zs_T} {Q : zs_Q} (hB : zt_B bf) (h : w_X9_listNamesOf_148 (zx σ n0 bf) d p0 p1 p2 S Q) : zs_U (zx σ n0 bf) d 8094 148 [(0, .ref p0), (1, .int p1), (2, .int p2)] [] S Q := by
  unfold w_X9_listNamesOf_148 at h
  refine zu_aload_n d_8094_148 rfl (zs_ra _) ?_
  refine zu_bipush d_8094_149 zj_9 ?_
  obtain ⟨k1, h⟩ := h
  refine zc_8_746 (x0 := (9 : Int32)) hB rfl k1 d_8094_151 (Nat.le_of_ble_eq_true rfl) h (fun S2 h => ?_)
  refine zu_aload_n d_8094_154 rfl (zs_ra _) ?_
  obtain ⟨k4, h⟩ := h
  refine zg_8_444 rfl d_8094_155 k4 ?_
  refine zu_ifle (t := 162) d_8094_158 rfl (fun c5 => ?_) (fun c5 => ?_)
  · have h := h.1 c5
    refine zu_aload_n d_8094_162 rfl (zs_ra _) ?_
    refine zg_8_93 rfl d_8094_163 k4 ?_
    refine zu_iload_n d_8094_166 rfl ?_
    refine zu_iload_n d_8094_167 rfl ?_
    obtain ⟨b6, e7, h⟩ := h
    refine zs_stk2 (zs_rfe e7) ?_
    obtain ⟨k8, h⟩ := h
    obtain ⟨k9, h⟩ := h
    refine zu_iast (k := 0) d_8094_168 rfl rfl k9 k8 ?_
    generalize e11 : zs_si S2 b6 p1.toNatClampNeg p2 = S10
    have h := h S10 e11.symm
    have K12 : ∀ b, zs_K S10 b = zs_K S2 b := zs_Kt e11 (zs_Ksi _ _ _ _) (fun _ => rfl)
    refine zu_iconst d_8094_169 zi_0 ?_
    refine zu_istore d_8094_170 (zs_lt zq_8094 rfl) ?_
    exact h.weak ⟨rfl, rfl, rfl, rfl, trivial⟩
  · have h := h.2 c5
    exact zu_vret d_8094_161 zr_8094 h
def w_X9_listNamesOf_55 (X : zs_X) (d : Nat) (p0 : Nat) (p1 : Int32) (p2 : Int32) (S : zs_T) (Q : zs_Q) : Prop :=
  (zs_U X d 8094 65 [(0, .ref p0), (1, .int p1), (2, .int p2), (4, .int (1 : Int32)), (5, .int (0 : Int32))] [] S Q)
theorem u_X9_listNamesOf_55 {σ : Nat → Nat} {n0 : Nat} {bf : ab_B} {d : Nat} {p0 : Nat} {p1 : Int32} {p2 : Int32} {S : zs_T} {Q : zs_Q} (hB : zt_B bf) (h : w_X9_listNamesOf_55 (zx σ n0 bf) d p0 p1 p2 S Q) : zs_U (zx σ n0 bf) d 8094 55 [(0, .ref p0), (1, .int p1), (2, .int p2)] [] S Q := by
  unfold w_X9_listNamesOf_55 at h
  refine zu_iconst d_8094_55 zi_1 ?_
  refine zu_goto (t := 60) d_8094_56 rfl ?_
  refine zu_istore d_8094_60 (zs_lt zq_8094 rfl) ?_
  refine zu_iconst d_8094_62 zi_0 ?_
  refine zu_istore d_8094_63 (zs_lt zq_8094 rfl) ?_
  exact h.weak ⟨rfl, rfl, rfl, rfl, rfl, trivial⟩
def w_X9_listNamesOf_59 (X : zs_X) (d : Nat) (p0 : Nat) (p1 : Int32) (p2 : Int32) (S : zs_T) (Q : zs_Q) : Prop :=
  (zs_U X d 8094 65 [(0, .ref p0), (1, .int p1), (2, .int p2), (4, .int (0 : Int32)), (5, .int (0 : Int32))] [] S Q)
theorem u_X9_listNamesOf_59 {σ : Nat → Nat} {n0 : Nat} {bf : ab_B} {d : Nat} {p0 : Nat} {p1 : Int32} {p2 : Int32} {S : zs_T} {Q : zs_Q} (hB : zt_B bf) (h : w_X9_listNamesOf_59 (zx σ n0 bf) d p0 p1 p2 S Q) : zs_U (zx σ n0 bf) d 8094 59 [(0, .ref p0), (1, .int p1), (2, .int p2)] [] S Q := by
  unfold w_X9_listNamesOf_59 at h
  refine zu_iconst d_8094_59 zi_0 ?_
  refine zu_istore d_8094_60 (zs_lt zq_8094 rfl) ?_
  refine zu_iconst d_8094_62 zi_0 ?_
  refine zu_istore d_8094_63 (zs_lt zq_8094 rfl) ?_
  exact h.weak ⟨rfl, rfl, rfl, rfl, rfl, trivial⟩
def w_X9_listNamesOf_12 (X : zs_X) (d : Nat) (p0 : Nat) (p1 : Int32) (p2 : Int32) (p3 : Int32) (S : zs_T) (Q : zs_Q) : Prop :=
  (zs_K S p0 = some (.inl 8) ∧ ((¬ (zs_I S 8010 p0) = 0 → w_X9_listNamesOf_148 X d p0 p1 p2 S Q) ∧ (¬ (¬ (zs_I S 8010 p0) = 0) → (((p3 = 0 → w_X9_listNamesOf_148 X d p0 p1 p2 S Q) ∧ (¬ (p3 = 0) → ((((zs_I S 8006 p0) = (1 : Int32) → (zs_C X d 8095 [.ref p0, .int (zs_I S 8009 p0)] S (zs_kI (fun v6 S5 => (((¬ v6 = 0 → w_X9_listNamesOf_55 X d p0 p1 p2 S5 Q) ∧ (¬ (¬ v6 = 0) → (((p2 < (16000 : Int32) → w_X9_listNamesOf_59 X d p0 p1 p2 S5 Q) ∧ (¬ (p2 < (16000 : Int32)) → w_X9_listNamesOf_55 X d p0 p1 p2 S5 Q))))))) Q))) ∧ (¬ ((zs_I S 8006 p0) = (1 : Int32)) → (zs_C X d 8027 [.ref p0, .int (2 : Int32)] S (zs_kV (fun S9 => (Q (.returned none) S9)) Q)))))))))))
theorem u_X9_listNamesOf_12 {σ : Nat → Nat} {n0 : Nat} {bf : ab_B} {d : Nat} {p0 : Nat} {p1 : Int32} {p2 : Int32} {p3 : Int32} {S : zs_T} {Q : zs_Q} (hB : zt_B bf) (h : w_X9_listNamesOf_12 (zx σ n0 bf) d p0 p1 p2 p3 S Q) : zs_U (zx σ n0 bf) d 8094 12 [(0, .ref p0), (1, .int p1), (2, .int p2), (3, .int p3)] [] S Q := by
  unfold w_X9_listNamesOf_12 at h
  refine zu_aload_n d_8094_12 rfl (zs_ra _) ?_
  obtain ⟨k1, h⟩ := h
  refine zg_8_444 rfl d_8094_13 k1 ?_
  refine zu_ifne (t := 148) d_8094_16 rfl (fun c2 => ?_) (fun c2 => ?_)
  · have h := h.1 c2
    exact (u_X9_listNamesOf_148 hB h).weak ⟨rfl, rfl, rfl, trivial⟩
  · have h := h.2 c2
    refine zu_iload_n d_8094_19 rfl ?_
    refine zu_ifeq (t := 148) d_8094_20 rfl (fun c3 => ?_) (fun c3 => ?_)
    · have h := h.1 c3
      exact (u_X9_listNamesOf_148 hB h).weak ⟨rfl, rfl, rfl, trivial⟩
    · have h := h.2 c3
      refine zu_aload_n d_8094_23 rfl (zs_ra _) ?_
      refine zg_8_484 rfl d_8094_24 k1 ?_
      refine zu_iconst d_8094_27 zi_1 ?_
      refine zu_cmpeq (t := 37) d_8094_28 rfl (fun c4 => ?_) (fun c4 => ?_)
      · have h := h.1 c4
        refine zu_aload_n d_8094_37 rfl (zs_ra _) ?_
        refine zu_aload_n d_8094_38 rfl (zs_ra _) ?_
        refine zg_8_494 rfl d_8094_39 k1 ?_
        refine zc_8_864 (x0 := (zs_I S 8009 p0)) hB rfl k1 d_8094_42 (Nat.le_of_ble_eq_true rfl) h (fun v6 S5 h => ?_)
        refine zu_ifne (t := 55) d_8094_45 rfl (fun c7 => ?_) (fun c7 => ?_)
        · have h := h.1 c7
          exact (u_X9_listNamesOf_55 hB h).weak ⟨rfl, rfl, rfl, trivial⟩
        · have h := h.2 c7
          refine zu_iload_n d_8094_48 rfl ?_
          refine zu_sipush d_8094_49 zh_16000 ?_
          refine zu_cmplt (t := 59) d_8094_52 rfl (fun c8 => ?_) (fun c8 => ?_)
          · have h := h.1 c8
            exact (u_X9_listNamesOf_59 hB h).weak ⟨rfl, rfl, rfl, trivial⟩
          · have h := h.2 c8
            exact (u_X9_listNamesOf_55 hB h).weak ⟨rfl, rfl, rfl, trivial⟩
      · have h := h.2 c4
        refine zu_aload_n d_8094_31 rfl (zs_ra _) ?_
        refine zu_iconst d_8094_32 zi_2 ?_
        refine zc_8_541 (x0 := (2 : Int32)) hB rfl k1 d_8094_33 (Nat.le_of_ble_eq_true rfl) h (fun S9 h => ?_)
        exact zu_vret d_8094_36 zr_8094 h
def w_X9_listNamesOf_145 (X : zs_X) (d : Nat) (p0 : Nat) (p1 : Int32) (p2 : Int32) (p3 : Int32) (S : zs_T) (Q : zs_Q) : Prop :=
  (zs_U X d 8094 12 [(0, .ref p0), (1, .int p1), (2, .int p2), (3, .int p3)] [] S Q)
theorem u_X9_listNamesOf_145 {σ : Nat → Nat} {n0 : Nat} {bf : ab_B} {d : Nat} {p0 : Nat} {p1 : Int32} {p2 : Int32} {p3 : Int32} {S : zs_T} {Q : zs_Q} (hB : zt_B bf) (h : w_X9_listNamesOf_145 (zx σ n0 bf) d p0 p1 p2 p3 S Q) : zs_U (zx σ n0 bf) d 8094 145 [(0, .ref p0), (1, .int p1), (2, .int p2), (3, .int p3)] [] S Q := by
  unfold w_X9_listNamesOf_145 at h
  refine zu_goto (t := 12) d_8094_145 rfl ?_
  exact h.weak ⟨rfl, rfl, rfl, rfl, trivial⟩
def w_X9_listNamesOf_113 (X : zs_X) (d : Nat) (p0 : Nat) (p1 : Int32) (p2 : Int32) (S : zs_T) (Q : zs_Q) : Prop :=
  (zs_K S p0 = some (.inl 8) ∧ ∃ b2, (zs_R S 8131 p0) = some b2 ∧ zs_A S b2 0 p2 ∧ ab_n0 X.1 ≤ b2 ∧ ∀ S6, S6 = zs_si S b2 p2.toNatClampNeg (zs_I S 8009 p0) → zs_C X d 8014 [.ref p0] S6 (zs_kV (fun S9 => (zs_K S9 p0 = some (.inl 8) ∧ zs_C X d 8029 [.ref p0, .int (12 : Int32)] S9 (zs_kI (fun v13 S12 => (((v13 = 0 → w_X9_listNamesOf_145 X d p0 p1 (p2 + (1 : Int32)) v13 S12 Q) ∧ (¬ (v13 = 0) → (zs_K S12 p0 = some (.inl 8) ∧ zs_C X d 8014 [.ref p0] S12 (zs_kV (fun S16 => w_X9_listNamesOf_145 X d p0 p1 (p2 + (1 : Int32)) v13 S16 Q) Q)))))) Q))) Q))
theorem u_X9_listNamesOf_113 {σ : Nat → Nat} {n0 : Nat} {bf : ab_B} {d : Nat} {p0 : Nat} {p1 : Int32} {p2 : Int32} {S : zs_T} {Q : zs_Q} (hB : zt_B bf) (h : w_X9_listNamesOf_113 (zx σ n0 bf) d p0 p1 p2 S Q) : zs_U (zx σ n0 bf) d 8094 113 [(0, .ref p0), (1, .int p1), (2, .int p2)] [] S Q := by
  unfold w_X9_listNamesOf_113 at h
  refine zu_aload_n d_8094_113 rfl (zs_ra _) ?_
  obtain ⟨k1, h⟩ := h
  refine zg_8_281 rfl d_8094_114 k1 ?_
  refine zu_iload_n d_8094_117 rfl ?_
  refine zu_aload_n d_8094_118 rfl (zs_ra _) ?_
  refine zg_8_494 rfl d_8094_119 k1 ?_
  obtain ⟨b2, e3, h⟩ := h
  refine zs_stk2 (zs_rfe e3) ?_
  obtain ⟨k4, h⟩ := h
  obtain ⟨k5, h⟩ := h
  refine zu_iast (k := 0) d_8094_122 rfl rfl k5 k4 ?_
  generalize e7 : zs_si S b2 p2.toNatClampNeg (zs_I S 8009 p0) = S6
  have h := h S6 e7.symm
  have K8 : ∀ b, zs_K S6 b = zs_K S b := zs_Kt e7 (zs_Ksi _ _ _ _) (fun _ => rfl)
  refine zu_iinc d_8094_123 rfl zi_1 (zs_lt zq_8094 rfl) ?_
  refine zu_aload_n d_8094_126 rfl (zs_ra _) ?_
  refine zc_8_538  hB rfl ((K8 _).trans k1) d_8094_127 (Nat.le_of_ble_eq_true rfl) h (fun S9 h => ?_)
  refine zu_aload_n d_8094_130 rfl (zs_ra _) ?_
  refine zu_bipush d_8094_131 zj_12 ?_
  obtain ⟨k11, h⟩ := h
  refine zc_8_535 (x0 := (12 : Int32)) hB rfl k11 d_8094_133 (Nat.le_of_ble_eq_true rfl) h (fun v13 S12 h => ?_)
  refine zu_istore_n d_8094_136 (zs_lt zq_8094 rfl) ?_
  refine zu_iload_n d_8094_137 rfl ?_
  refine zu_ifeq (t := 145) d_8094_138 rfl (fun c14 => ?_) (fun c14 => ?_)
  · have h := h.1 c14
    exact (u_X9_listNamesOf_145 hB h).weak ⟨rfl, rfl, rfl, rfl, trivial⟩
  · have h := h.2 c14
    refine zu_aload_n d_8094_141 rfl (zs_ra _) ?_
    obtain ⟨k15, h⟩ := h
    refine zc_8_538  hB rfl k15 d_8094_142 (Nat.le_of_ble_eq_true rfl) h (fun S16 h => ?_)
    exact (u_X9_listNamesOf_145 hB h).weak ⟨rfl, rfl, rfl, rfl, trivial⟩
def w_X9_listNamesOf_90 (X : zs_X) (d : Nat) (p0 : Nat) (p1 : Int32) (p2 : Int32) (p5 : Int32) (S : zs_T) (Q : zs_Q) : Prop :=
  (zs_U X d 8094 65 [(0, .ref p0), (1, .int p1), (2, .int p2), (4, .int (1 : Int32)), (5, .int (p5 + (1 : Int32)))] [] S Q)
theorem u_X9_listNamesOf_90 {σ : Nat → Nat} {n0 : Nat} {bf : ab_B} {d : Nat} {p0 : Nat} {p1 : Int32} {p2 : Int32} {p5 : Int32} {S : zs_T} {Q : zs_Q} (hB : zt_B bf) (h : w_X9_listNamesOf_90 (zx σ n0 bf) d p0 p1 p2 p5 S Q) : zs_U (zx σ n0 bf) d 8094 90 [(0, .ref p0), (1, .int p1), (2, .int p2), (5, .int p5)] [] S Q := by
  unfold w_X9_listNamesOf_90 at h
  refine zu_iconst d_8094_90 zi_1 ?_
  refine zu_goto (t := 95) d_8094_91 rfl ?_
  refine zu_istore d_8094_95 (zs_lt zq_8094 rfl) ?_
  refine zu_iinc d_8094_97 rfl zi_1 (zs_lt zq_8094 rfl) ?_
  refine zu_goto (t := 65) d_8094_100 rfl ?_
  exact h.weak ⟨rfl, rfl, rfl, rfl, rfl, trivial⟩
def w_X9_listNamesOf_65 (X : zs_X) (d : Nat) (p0 : Nat) (p1 : Int32) (p2 : Int32) (p4 : Int32) (p5 : Int32) (S : zs_T) (Q : zs_Q) : Prop :=
  (((p2 ≤ p5 → (((p4 = 0 → w_X9_listNamesOf_113 X d p0 p1 p2 S Q) ∧ (¬ (p4 = 0) → (zs_K S p0 = some (.inl 8) ∧ zs_C X d 8027 [.ref p0, .int (4 : Int32)] S (zs_kV (fun S4 => w_X9_listNamesOf_113 X d p0 p1 p2 S4 Q) Q)))))) ∧ (¬ (p2 ≤ p5) → (((¬ p4 = 0 → w_X9_listNamesOf_90 X d p0 p1 p2 p5 S Q) ∧ (¬ (¬ p4 = 0) → (zs_K S p0 = some (.inl 8) ∧ ∃ b8, (zs_R S 8131 p0) = some b8 ∧ zs_A S b8 0 p5 ∧ ((¬ (zs_i S b8 p5.toNatClampNeg) = (zs_I S 8009 p0) → (zs_U X d 8094 65 [(0, .ref p0), (1, .int p1), (2, .int p2), (4, .int (0 : Int32)), (5, .int (p5 + (1 : Int32)))] [] S Q)) ∧ (¬ (¬ (zs_i S b8 p5.toNatClampNeg) = (zs_I S 8009 p0)) → w_X9_listNamesOf_90 X d p0 p1 p2 p5 S Q)))))))))
theorem u_X9_listNamesOf_65 {σ : Nat → Nat} {n0 : Nat} {bf : ab_B} {d : Nat} {p0 : Nat} {p1 : Int32} {p2 : Int32} {p4 : Int32} {p5 : Int32} {S : zs_T} {Q : zs_Q} (hB : zt_B bf) (h : w_X9_listNamesOf_65 (zx σ n0 bf) d p0 p1 p2 p4 p5 S Q) : zs_U (zx σ n0 bf) d 8094 65 [(0, .ref p0), (1, .int p1), (2, .int p2), (4, .int p4), (5, .int p5)] [] S Q := by
  unfold w_X9_listNamesOf_65 at h
  refine zu_iload d_8094_65 rfl ?_
  refine zu_iload_n d_8094_67 rfl ?_
  refine zu_cmpge (t := 103) d_8094_68 rfl (fun c1 => ?_) (fun c1 => ?_)
  · have h := h.1 c1
    refine zu_iload d_8094_103 rfl ?_
    refine zu_ifeq (t := 113) d_8094_105 rfl (fun c2 => ?_) (fun c2 => ?_)
    · have h := h.1 c2
      exact (u_X9_listNamesOf_113 hB h).weak ⟨rfl, rfl, rfl, trivial⟩
    · have h := h.2 c2
      refine zu_aload_n d_8094_108 rfl (zs_ra _) ?_
      refine zu_iconst d_8094_109 zi_4 ?_
      obtain ⟨k3, h⟩ := h
      refine zc_8_541 (x0 := (4 : Int32)) hB rfl k3 d_8094_110 (Nat.le_of_ble_eq_true rfl) h (fun S4 h => ?_)
      exact (u_X9_listNamesOf_113 hB h).weak ⟨rfl, rfl, rfl, trivial⟩
  · have h := h.2 c1
    refine zu_iload d_8094_71 rfl ?_
    refine zu_ifne (t := 90) d_8094_73 rfl (fun c6 => ?_) (fun c6 => ?_)
    · have h := h.1 c6
      exact (u_X9_listNamesOf_90 hB h).weak ⟨rfl, rfl, rfl, rfl, trivial⟩
    · have h := h.2 c6
      refine zu_aload_n d_8094_76 rfl (zs_ra _) ?_
      obtain ⟨k7, h⟩ := h
      refine zg_8_281 rfl d_8094_77 k7 ?_
      refine zu_iload d_8094_80 rfl ?_
      obtain ⟨b8, e9, h⟩ := h
      refine zs_stk1 (zs_rfe e9) ?_
      obtain ⟨k10, h⟩ := h
      refine zu_iald (k := 0) d_8094_82 rfl rfl k10 ?_
      refine zu_aload_n d_8094_83 rfl (zs_ra _) ?_
      refine zg_8_494 rfl d_8094_84 k7 ?_
      refine zu_cmpne (t := 94) d_8094_87 rfl (fun c11 => ?_) (fun c11 => ?_)
      · have h := h.1 c11
        refine zu_iconst d_8094_94 zi_0 ?_
        refine zu_istore d_8094_95 (zs_lt zq_8094 rfl) ?_
        refine zu_iinc d_8094_97 rfl zi_1 (zs_lt zq_8094 rfl) ?_
        refine zu_goto (t := 65) d_8094_100 rfl ?_
        exact h.weak ⟨rfl, rfl, rfl, rfl, rfl, trivial⟩
      · have h := h.2 c11
        exact (u_X9_listNamesOf_90 hB h).weak ⟨rfl, rfl, rfl, rfl, trivial⟩
def w_X9_listNamesOf_172 (X : zs_X) (d : Nat) (p0 : Nat) (p1 : Int32) (p2 : Int32) (p4 : Int32) (S : zs_T) (Q : zs_Q) : Prop :=
  (((p2 ≤ p4 → (zs_K S p0 = some (.inl 8) ∧ zs_C X d 8091 [.ref p0, .int p1] S (zs_kV (fun S3 => (Q (.returned none) S3)) Q))) ∧ (¬ (p2 ≤ p4) → (zs_K S p0 = some (.inl 8) ∧ ∃ b6, (zs_R S 8131 p0) = some b6 ∧ zs_A S b6 0 p4 ∧ zs_C X d 8011 [.ref p0, .int (zs_i S b6 p4.toNatClampNeg), .int (1 : Int32), .int p1, .int p4, .int (0 : Int32)] S (zs_kI (fun v10 S9 => (zs_U X d 8094 172 [(0, .ref p0), (1, .int p1), (2, .int p2), (4, .int (p4 + (1 : Int32)))] [] S9 Q)) Q)))))
theorem u_X9_listNamesOf_172 {σ : Nat → Nat} {n0 : Nat} {bf : ab_B} {d : Nat} {p0 : Nat} {p1 : Int32} {p2 : Int32} {p4 : Int32} {S : zs_T} {Q : zs_Q} (hB : zt_B bf) (h : w_X9_listNamesOf_172 (zx σ n0 bf) d p0 p1 p2 p4 S Q) : zs_U (zx σ n0 bf) d 8094 172 [(0, .ref p0), (1, .int p1), (2, .int p2), (4, .int p4)] [] S Q := by
  unfold w_X9_listNamesOf_172 at h
  refine zu_iload d_8094_172 rfl ?_
  refine zu_iload_n d_8094_174 rfl ?_
  refine zu_cmpge (t := 202) d_8094_175 rfl (fun c1 => ?_) (fun c1 => ?_)
  · have h := h.1 c1
    refine zu_aload_n d_8094_202 rfl (zs_ra _) ?_
    refine zu_iload_n d_8094_203 rfl ?_
    obtain ⟨k2, h⟩ := h
    refine zc_8_840 (x0 := p1) hB rfl k2 d_8094_204 (Nat.le_of_ble_eq_true rfl) h (fun S3 h => ?_)
    exact zu_vret d_8094_207 zr_8094 h
  · have h := h.2 c1
    refine zu_aload_n d_8094_178 rfl (zs_ra _) ?_
    refine zu_aload_n d_8094_179 rfl (zs_ra _) ?_
    obtain ⟨k5, h⟩ := h
    refine zg_8_281 rfl d_8094_180 k5 ?_
    refine zu_iload d_8094_183 rfl ?_
    obtain ⟨b6, e7, h⟩ := h
    refine zs_stk1 (zs_rfe e7) ?_
    obtain ⟨k8, h⟩ := h
    refine zu_iald (k := 0) d_8094_185 rfl rfl k8 ?_
    refine zu_iconst d_8094_186 zi_1 ?_
    refine zu_iload_n d_8094_187 rfl ?_
    refine zu_iload d_8094_188 rfl ?_
    refine zu_iconst d_8094_190 zi_0 ?_
    refine zc_8_606 (x0 := (zs_i S b6 p4.toNatClampNeg)) (x1 := (1 : Int32)) (x2 := p1) (x3 := p4) (x4 := (0 : Int32)) hB rfl k5 d_8094_191 (Nat.le_of_ble_eq_true rfl) h (fun v10 S9 h => ?_)
    refine zu_istore d_8094_194 (zs_lt zq_8094 rfl) ?_
    refine zu_iinc d_8094_196 rfl zi_1 (zs_lt zq_8094 rfl) ?_
    refine zu_goto (t := 172) d_8094_199 rfl ?_
    exact h.weak ⟨rfl, rfl, rfl, rfl, trivial⟩
def w_X9_listNamesOf (X : zs_X) (d : Nat) (p0 : Nat) (S : zs_T) (Q : zs_Q) : Prop :=
  (zs_K S p0 = some (.inl 8) ∧ zs_C X d 8009 [.ref p0, .int (4 : Int32), .int (0 : Int32), .int (1 : Int32)] S (zs_kI (fun v3 S2 => (zs_U X d 8094 12 [(0, .ref p0), (1, .int v3), (2, .int (0 : Int32)), (3, .int (1 : Int32))] [] S2 Q)) Q))
theorem u_X9_listNamesOf {σ : Nat → Nat} {n0 : Nat} {bf : ab_B} {d : Nat} {p0 : Nat} {S : zs_T} {Q : zs_Q} (hB : zt_B bf) (hd : 1 ≤ d) (h : w_X9_listNamesOf (zx σ n0 bf) (d - 1) p0 S Q) : zs_C (zx σ n0 bf) d 8094 [.ref p0] S Q := by
  have hL : lv_args 0 [.ref p0] = [(0, .ref p0)] := rfl
  refine zs_C.of1 (hB.2 8094 (by decide) (by decide)) hd (by rw [hL]; exact zs_sub_self _ (by exact ⟨rfl, trivial⟩)) ?_
  rw [hL]
  clear hL
  unfold w_X9_listNamesOf at h
  refine zu_aload_n d_8094_0 rfl (zs_ra _) ?_
  refine zu_iconst d_8094_1 zi_4 ?_
  refine zu_iconst d_8094_2 zi_0 ?_
  refine zu_iconst d_8094_3 zi_1 ?_
  obtain ⟨k1, h⟩ := h
  refine zc_8_599 (x0 := (4 : Int32)) (x1 := (0 : Int32)) (x2 := (1 : Int32)) hB rfl k1 d_8094_4 (Nat.le_of_ble_eq_true rfl) h (fun v3 S2 h => ?_)
  refine zu_istore_n d_8094_7 (zs_lt zq_8094 rfl) ?_
  refine zu_iconst d_8094_8 zi_0 ?_
  refine zu_istore_n d_8094_9 (zs_lt zq_8094 rfl) ?_
  refine zu_iconst d_8094_10 zi_1 ?_
  refine zu_istore_n d_8094_11 (zs_lt zq_8094 rfl) ?_
  exact h.weak ⟨rfl, rfl, rfl, rfl, trivial⟩
/-! SchemaPascalModel.isHere(I)Z -/
theorem zm_8095 {σ : Nat → Nat} {n0 : Nat} {bf : ab_B} : ab_code (zx σ n0 bf).1 8095 = prog_17_method_26_code := rfl
theorem zq_8095 {σ : Nat → Nat} {n0 : Nat} {bf : ab_B} : ab_maxL (zx σ n0 bf).1 8095 = 3 := rfl
theorem zr_8095 {σ : Nat → Nat} {n0 : Nat} {bf : ab_B} : ab_ret (zx σ n0 bf).1 8095 = (Option.some Jvm.ClassFile.FieldType.boolean) := rfl
theorem d_8095_0 {σ : Nat → Nat} {n0 : Nat} {bf : ab_B} : decode (ab_code (zx σ n0 bf).1 8095) 0 = .ok (.aload_n 0, 1) := zd zm_8095 (by decide +kernel)
theorem d_8095_1 {σ : Nat → Nat} {n0 : Nat} {bf : ab_B} : decode (ab_code (zx σ n0 bf).1 8095) 1 = .ok (.getfield 37, 3) := zd zm_8095 (by decide +kernel)
theorem d_8095_4 {σ : Nat → Nat} {n0 : Nat} {bf : ab_B} : decode (ab_code (zx σ n0 bf).1 8095) 4 = .ok (.iload_n 1, 1) := zd zm_8095 (by decide +kernel)
theorem d_8095_5 {σ : Nat → Nat} {n0 : Nat} {bf : ab_B} : decode (ab_code (zx σ n0 bf).1 8095) 5 = .ok (.iaload, 1) := zd zm_8095 (by decide +kernel)
theorem d_8095_6 {σ : Nat → Nat} {n0 : Nat} {bf : ab_B} : decode (ab_code (zx σ n0 bf).1 8095) 6 = .ok (.istore_n 2, 1) := zd zm_8095 (by decide +kernel)
theorem d_8095_7 {σ : Nat → Nat} {n0 : Nat} {bf : ab_B} : decode (ab_code (zx σ n0 bf).1 8095) 7 = .ok (.iload_n 2, 1) := zd zm_8095 (by decide +kernel)
theorem d_8095_8 {σ : Nat → Nat} {n0 : Nat} {bf : ab_B} : decode (ab_code (zx σ n0 bf).1 8095) 8 = .ok (.ifCond .le 27, 3) := zd zm_8095 (by decide +kernel)
theorem d_8095_11 {σ : Nat → Nat} {n0 : Nat} {bf : ab_B} : decode (ab_code (zx σ n0 bf).1 8095) 11 = .ok (.aload_n 0, 1) := zd zm_8095 (by decide +kernel)
theorem d_8095_12 {σ : Nat → Nat} {n0 : Nat} {bf : ab_B} : decode (ab_code (zx σ n0 bf).1 8095) 12 = .ok (.getfield 62, 3) := zd zm_8095 (by decide +kernel)
theorem d_8095_15 {σ : Nat → Nat} {n0 : Nat} {bf : ab_B} : decode (ab_code (zx σ n0 bf).1 8095) 15 = .ok (.iload_n 2, 1) := zd zm_8095 (by decide +kernel)
theorem d_8095_16 {σ : Nat → Nat} {n0 : Nat} {bf : ab_B} : decode (ab_code (zx σ n0 bf).1 8095) 16 = .ok (.iaload, 1) := zd zm_8095 (by decide +kernel)
theorem d_8095_17 {σ : Nat → Nat} {n0 : Nat} {bf : ab_B} : decode (ab_code (zx σ n0 bf).1 8095) 17 = .ok (.aload_n 0, 1) := zd zm_8095 (by decide +kernel)
theorem d_8095_18 {σ : Nat → Nat} {n0 : Nat} {bf : ab_B} : decode (ab_code (zx σ n0 bf).1 8095) 18 = .ok (.getfield 68, 3) := zd zm_8095 (by decide +kernel)
theorem d_8095_21 {σ : Nat → Nat} {n0 : Nat} {bf : ab_B} : decode (ab_code (zx σ n0 bf).1 8095) 21 = .ok (.aload_n 0, 1) := zd zm_8095 (by decide +kernel)
theorem d_8095_22 {σ : Nat → Nat} {n0 : Nat} {bf : ab_B} : decode (ab_code (zx σ n0 bf).1 8095) 22 = .ok (.getfield 547, 3) := zd zm_8095 (by decide +kernel)
theorem d_8095_25 {σ : Nat → Nat} {n0 : Nat} {bf : ab_B} : decode (ab_code (zx σ n0 bf).1 8095) 25 = .ok (.iconst 1, 1) := zd zm_8095 (by decide +kernel)
theorem d_8095_26 {σ : Nat → Nat} {n0 : Nat} {bf : ab_B} : decode (ab_code (zx σ n0 bf).1 8095) 26 = .ok (.isub, 1) := zd zm_8095 (by decide +kernel)
theorem d_8095_27 {σ : Nat → Nat} {n0 : Nat} {bf : ab_B} : decode (ab_code (zx σ n0 bf).1 8095) 27 = .ok (.iaload, 1) := zd zm_8095 (by decide +kernel)
theorem d_8095_28 {σ : Nat → Nat} {n0 : Nat} {bf : ab_B} : decode (ab_code (zx σ n0 bf).1 8095) 28 = .ok (.if_icmp .ne 7, 3) := zd zm_8095 (by decide +kernel)
theorem d_8095_31 {σ : Nat → Nat} {n0 : Nat} {bf : ab_B} : decode (ab_code (zx σ n0 bf).1 8095) 31 = .ok (.iconst 1, 1) := zd zm_8095 (by decide +kernel)
theorem d_8095_32 {σ : Nat → Nat} {n0 : Nat} {bf : ab_B} : decode (ab_code (zx σ n0 bf).1 8095) 32 = .ok (.goto 4, 3) := zd zm_8095 (by decide +kernel)
theorem d_8095_35 {σ : Nat → Nat} {n0 : Nat} {bf : ab_B} : decode (ab_code (zx σ n0 bf).1 8095) 35 = .ok (.iconst 0, 1) := zd zm_8095 (by decide +kernel)
theorem d_8095_36 {σ : Nat → Nat} {n0 : Nat} {bf : ab_B} : decode (ab_code (zx σ n0 bf).1 8095) 36 = .ok (.ireturn, 1) := zd zm_8095 (by decide +kernel)
def w_X9_isHere_31 (X : zs_X) (d : Nat)  (S : zs_T) (Q : zs_Q) : Prop :=
  (Q (.returned (some (.int (1 : Int32)))) S)
theorem u_X9_isHere_31 {σ : Nat → Nat} {n0 : Nat} {bf : ab_B} {d : Nat}  {S : zs_T} {Q : zs_Q} (hB : zt_B bf) (h : w_X9_isHere_31 (zx σ n0 bf) d  S Q) : zs_U (zx σ n0 bf) d 8095 31 [] [] S Q := by
  unfold w_X9_isHere_31 at h
  refine zu_iconst d_8095_31 zi_1 ?_
  refine zu_goto (t := 36) d_8095_32 rfl ?_
  exact zu_iret d_8095_36 zr_8095 (zs_b_n (Or.inr rfl)) h
def w_X9_isHere_35 (X : zs_X) (d : Nat)  (S : zs_T) (Q : zs_Q) : Prop :=
  (Q (.returned (some (.int (0 : Int32)))) S)
theorem u_X9_isHere_35 {σ : Nat → Nat} {n0 : Nat} {bf : ab_B} {d : Nat}  {S : zs_T} {Q : zs_Q} (hB : zt_B bf) (h : w_X9_isHere_35 (zx σ n0 bf) d  S Q) : zs_U (zx σ n0 bf) d 8095 35 [] [] S Q := by
  unfold w_X9_isHere_35 at h
  refine zu_iconst d_8095_35 zi_0 ?_
  exact zu_iret d_8095_36 zr_8095 (zs_b_n (Or.inl rfl)) h
def w_X9_isHere (X : zs_X) (d : Nat) (p0 : Nat) (p1 : Int32) (S : zs_T) (Q : zs_Q) : Prop :=
  (zs_K S p0 = some (.inl 8) ∧ ∃ b2, (zs_R S 8019 p0) = some b2 ∧ zs_A S b2 0 p1 ∧ (((zs_i S b2 p1.toNatClampNeg) ≤ 0 → w_X9_isHere_35 X d  S Q) ∧ (¬ ((zs_i S b2 p1.toNatClampNeg) ≤ 0) → (∃ b6, (zs_R S 8030 p0) = some b6 ∧ zs_A S b6 0 (zs_i S b2 p1.toNatClampNeg) ∧ ∃ b9, (zs_R S 8033 p0) = some b9 ∧ zs_A S b9 0 ((zs_I S 8034 p0) - (1 : Int32)) ∧ ((¬ (zs_i S b6 (zs_i S b2 p1.toNatClampNeg).toNatClampNeg) = (zs_i S b9 ((zs_I S 8034 p0) - (1 : Int32)).toNatClampNeg) → w_X9_isHere_35 X d  S Q) ∧ (¬ (¬ (zs_i S b6 (zs_i S b2 p1.toNatClampNeg).toNatClampNeg) = (zs_i S b9 ((zs_I S 8034 p0) - (1 : Int32)).toNatClampNeg)) → w_X9_isHere_31 X d  S Q))))))
theorem u_X9_isHere {σ : Nat → Nat} {n0 : Nat} {bf : ab_B} {d : Nat} {p0 : Nat} {p1 : Int32} {S : zs_T} {Q : zs_Q} (hB : zt_B bf) (hd : 1 ≤ d) (h : w_X9_isHere (zx σ n0 bf) (d - 1) p0 p1 S Q) : zs_C (zx σ n0 bf) d 8095 [.ref p0, .int p1] S Q := by
  have hL : lv_args 0 [.ref p0, .int p1] = [(0, .ref p0), (1, .int p1)] := rfl
  refine zs_C.of1 (hB.2 8095 (by decide) (by decide)) hd (by rw [hL]; exact zs_sub_self _ (by exact ⟨rfl, rfl, trivial⟩)) ?_
  rw [hL]
  clear hL
  unfold w_X9_isHere at h
  refine zu_aload_n d_8095_0 rfl (zs_ra _) ?_
  obtain ⟨k1, h⟩ := h
  refine zg_8_37 rfl d_8095_1 k1 ?_
  refine zu_iload_n d_8095_4 rfl ?_
  obtain ⟨b2, e3, h⟩ := h
  refine zs_stk1 (zs_rfe e3) ?_
  obtain ⟨k4, h⟩ := h
  refine zu_iald (k := 0) d_8095_5 rfl rfl k4 ?_
  refine zu_istore_n d_8095_6 (zs_lt zq_8095 rfl) ?_
  refine zu_iload_n d_8095_7 rfl ?_
  refine zu_ifle (t := 35) d_8095_8 rfl (fun c5 => ?_) (fun c5 => ?_)
  · have h := h.1 c5
    exact (u_X9_isHere_35 hB h).weak trivial
  · have h := h.2 c5
    refine zu_aload_n d_8095_11 rfl (zs_ra _) ?_
    refine zg_8_62 rfl d_8095_12 k1 ?_
    refine zu_iload_n d_8095_15 rfl ?_
    obtain ⟨b6, e7, h⟩ := h
    refine zs_stk1 (zs_rfe e7) ?_
    obtain ⟨k8, h⟩ := h
    refine zu_iald (k := 0) d_8095_16 rfl rfl k8 ?_
    refine zu_aload_n d_8095_17 rfl (zs_ra _) ?_
    refine zg_8_68 rfl d_8095_18 k1 ?_
    refine zu_aload_n d_8095_21 rfl (zs_ra _) ?_
    refine zg_8_547 rfl d_8095_22 k1 ?_
    refine zu_iconst d_8095_25 zi_1 ?_
    refine zu_stk d_8095_26 rfl rfl ?_
    obtain ⟨b9, e10, h⟩ := h
    refine zs_stk1 (zs_rfe e10) ?_
    obtain ⟨k11, h⟩ := h
    refine zu_iald (k := 0) d_8095_27 rfl rfl k11 ?_
    refine zu_cmpne (t := 35) d_8095_28 rfl (fun c12 => ?_) (fun c12 => ?_)
    · have h := h.1 c12
      exact (u_X9_isHere_35 hB h).weak trivial
    · have h := h.2 c12
      exact (u_X9_isHere_31 hB h).weak trivial
/-! SchemaPascalModel.openDiscriminants(I)V -/
theorem zm_8096 {σ : Nat → Nat} {n0 : Nat} {bf : ab_B} : ab_code (zx σ n0 bf).1 8096 = prog_17_method_147_code := rfl
theorem zq_8096 {σ : Nat → Nat} {n0 : Nat} {bf : ab_B} : ab_maxL (zx σ n0 bf).1 8096 = 5 := rfl
theorem zr_8096 {σ : Nat → Nat} {n0 : Nat} {bf : ab_B} : ab_ret (zx σ n0 bf).1 8096 = (Option.none : Option Jvm.ClassFile.FieldType) := rfl
theorem d_8096_0 {σ : Nat → Nat} {n0 : Nat} {bf : ab_B} : decode (ab_code (zx σ n0 bf).1 8096) 0 = .ok (.aload_n 0, 1) := zd zm_8096 (by decide +kernel)
theorem d_8096_1 {σ : Nat → Nat} {n0 : Nat} {bf : ab_B} : decode (ab_code (zx σ n0 bf).1 8096) 1 = .ok (.invokevirtual 603, 3) := zd zm_8096 (by decide +kernel)
theorem d_8096_4 {σ : Nat → Nat} {n0 : Nat} {bf : ab_B} : decode (ab_code (zx σ n0 bf).1 8096) 4 = .ok (.iconst 0, 1) := zd zm_8096 (by decide +kernel)
theorem d_8096_5 {σ : Nat → Nat} {n0 : Nat} {bf : ab_B} : decode (ab_code (zx σ n0 bf).1 8096) 5 = .ok (.istore_n 2, 1) := zd zm_8096 (by decide +kernel)
theorem d_8096_6 {σ : Nat → Nat} {n0 : Nat} {bf : ab_B} : decode (ab_code (zx σ n0 bf).1 8096) 6 = .ok (.iload_n 2, 1) := zd zm_8096 (by decide +kernel)
theorem d_8096_7 {σ : Nat → Nat} {n0 : Nat} {bf : ab_B} : decode (ab_code (zx σ n0 bf).1 8096) 7 = .ok (.aload_n 0, 1) := zd zm_8096 (by decide +kernel)
theorem d_8096_8 {σ : Nat → Nat} {n0 : Nat} {bf : ab_B} : decode (ab_code (zx σ n0 bf).1 8096) 8 = .ok (.getfield 127, 3) := zd zm_8096 (by decide +kernel)
theorem d_8096_11 {σ : Nat → Nat} {n0 : Nat} {bf : ab_B} : decode (ab_code (zx σ n0 bf).1 8096) 11 = .ok (.iload_n 1, 1) := zd zm_8096 (by decide +kernel)
theorem d_8096_12 {σ : Nat → Nat} {n0 : Nat} {bf : ab_B} : decode (ab_code (zx σ n0 bf).1 8096) 12 = .ok (.baload, 1) := zd zm_8096 (by decide +kernel)
theorem d_8096_13 {σ : Nat → Nat} {n0 : Nat} {bf : ab_B} : decode (ab_code (zx σ n0 bf).1 8096) 13 = .ok (.if_icmp .ge 40, 3) := zd zm_8096 (by decide +kernel)
theorem d_8096_16 {σ : Nat → Nat} {n0 : Nat} {bf : ab_B} : decode (ab_code (zx σ n0 bf).1 8096) 16 = .ok (.aload_n 0, 1) := zd zm_8096 (by decide +kernel)
theorem d_8096_17 {σ : Nat → Nat} {n0 : Nat} {bf : ab_B} : decode (ab_code (zx σ n0 bf).1 8096) 17 = .ok (.getfield 124, 3) := zd zm_8096 (by decide +kernel)
theorem d_8096_20 {σ : Nat → Nat} {n0 : Nat} {bf : ab_B} : decode (ab_code (zx σ n0 bf).1 8096) 20 = .ok (.iload_n 1, 1) := zd zm_8096 (by decide +kernel)
theorem d_8096_21 {σ : Nat → Nat} {n0 : Nat} {bf : ab_B} : decode (ab_code (zx σ n0 bf).1 8096) 21 = .ok (.iaload, 1) := zd zm_8096 (by decide +kernel)
theorem d_8096_22 {σ : Nat → Nat} {n0 : Nat} {bf : ab_B} : decode (ab_code (zx σ n0 bf).1 8096) 22 = .ok (.iload_n 2, 1) := zd zm_8096 (by decide +kernel)
theorem d_8096_23 {σ : Nat → Nat} {n0 : Nat} {bf : ab_B} : decode (ab_code (zx σ n0 bf).1 8096) 23 = .ok (.iadd, 1) := zd zm_8096 (by decide +kernel)
theorem d_8096_24 {σ : Nat → Nat} {n0 : Nat} {bf : ab_B} : decode (ab_code (zx σ n0 bf).1 8096) 24 = .ok (.istore_n 3, 1) := zd zm_8096 (by decide +kernel)
theorem d_8096_25 {σ : Nat → Nat} {n0 : Nat} {bf : ab_B} : decode (ab_code (zx σ n0 bf).1 8096) 25 = .ok (.aload_n 0, 1) := zd zm_8096 (by decide +kernel)
theorem d_8096_26 {σ : Nat → Nat} {n0 : Nat} {bf : ab_B} : decode (ab_code (zx σ n0 bf).1 8096) 26 = .ok (.aload_n 0, 1) := zd zm_8096 (by decide +kernel)
theorem d_8096_27 {σ : Nat → Nat} {n0 : Nat} {bf : ab_B} : decode (ab_code (zx σ n0 bf).1 8096) 27 = .ok (.getfield 133, 3) := zd zm_8096 (by decide +kernel)
theorem d_8096_30 {σ : Nat → Nat} {n0 : Nat} {bf : ab_B} : decode (ab_code (zx σ n0 bf).1 8096) 30 = .ok (.iload_n 3, 1) := zd zm_8096 (by decide +kernel)
theorem d_8096_31 {σ : Nat → Nat} {n0 : Nat} {bf : ab_B} : decode (ab_code (zx σ n0 bf).1 8096) 31 = .ok (.iaload, 1) := zd zm_8096 (by decide +kernel)
theorem d_8096_32 {σ : Nat → Nat} {n0 : Nat} {bf : ab_B} : decode (ab_code (zx σ n0 bf).1 8096) 32 = .ok (.bipush 7, 2) := zd zm_8096 (by decide +kernel)
theorem d_8096_34 {σ : Nat → Nat} {n0 : Nat} {bf : ab_B} : decode (ab_code (zx σ n0 bf).1 8096) 34 = .ok (.aload_n 0, 1) := zd zm_8096 (by decide +kernel)
theorem d_8096_35 {σ : Nat → Nat} {n0 : Nat} {bf : ab_B} : decode (ab_code (zx σ n0 bf).1 8096) 35 = .ok (.getfield 136, 3) := zd zm_8096 (by decide +kernel)
theorem d_8096_38 {σ : Nat → Nat} {n0 : Nat} {bf : ab_B} : decode (ab_code (zx σ n0 bf).1 8096) 38 = .ok (.iload_n 3, 1) := zd zm_8096 (by decide +kernel)
theorem d_8096_39 {σ : Nat → Nat} {n0 : Nat} {bf : ab_B} : decode (ab_code (zx σ n0 bf).1 8096) 39 = .ok (.iaload, 1) := zd zm_8096 (by decide +kernel)
theorem d_8096_40 {σ : Nat → Nat} {n0 : Nat} {bf : ab_B} : decode (ab_code (zx σ n0 bf).1 8096) 40 = .ok (.iload_n 2, 1) := zd zm_8096 (by decide +kernel)
theorem d_8096_41 {σ : Nat → Nat} {n0 : Nat} {bf : ab_B} : decode (ab_code (zx σ n0 bf).1 8096) 41 = .ok (.iconst 0, 1) := zd zm_8096 (by decide +kernel)
theorem d_8096_42 {σ : Nat → Nat} {n0 : Nat} {bf : ab_B} : decode (ab_code (zx σ n0 bf).1 8096) 42 = .ok (.invokevirtual 606, 3) := zd zm_8096 (by decide +kernel)
theorem d_8096_45 {σ : Nat → Nat} {n0 : Nat} {bf : ab_B} : decode (ab_code (zx σ n0 bf).1 8096) 45 = .ok (.istore 4, 2) := zd zm_8096 (by decide +kernel)
theorem d_8096_47 {σ : Nat → Nat} {n0 : Nat} {bf : ab_B} : decode (ab_code (zx σ n0 bf).1 8096) 47 = .ok (.iinc 2 1, 3) := zd zm_8096 (by decide +kernel)
theorem d_8096_50 {σ : Nat → Nat} {n0 : Nat} {bf : ab_B} : decode (ab_code (zx σ n0 bf).1 8096) 50 = .ok (.goto (-44), 3) := zd zm_8096 (by decide +kernel)
theorem d_8096_53 {σ : Nat → Nat} {n0 : Nat} {bf : ab_B} : decode (ab_code (zx σ n0 bf).1 8096) 53 = .ok (.return_, 1) := zd zm_8096 (by decide +kernel)
def w_X9_openDiscriminants_47 (X : zs_X) (d : Nat) (p0 : Nat) (p1 : Int32) (p2 : Int32) (S : zs_T) (Q : zs_Q) : Prop :=
  (zs_U X d 8096 6 [(0, .ref p0), (1, .int p1), (2, .int (p2 + (1 : Int32)))] [] S Q)
theorem u_X9_openDiscriminants_47 {σ : Nat → Nat} {n0 : Nat} {bf : ab_B} {d : Nat} {p0 : Nat} {p1 : Int32} {p2 : Int32} {S : zs_T} {Q : zs_Q} (hB : zt_B bf) (h : w_X9_openDiscriminants_47 (zx σ n0 bf) d p0 p1 p2 S Q) : zs_U (zx σ n0 bf) d 8096 47 [(0, .ref p0), (1, .int p1), (2, .int p2)] [] S Q := by
  unfold w_X9_openDiscriminants_47 at h
  refine zu_iinc d_8096_47 rfl zi_1 (zs_lt zq_8096 rfl) ?_
  refine zu_goto (t := 6) d_8096_50 rfl ?_
  exact h.weak ⟨rfl, rfl, rfl, trivial⟩
def w_X9_openDiscriminants_6 (X : zs_X) (d : Nat) (p0 : Nat) (p1 : Int32) (p2 : Int32) (S : zs_T) (Q : zs_Q) : Prop :=
  (zs_K S p0 = some (.inl 8) ∧ ∃ b2, (zs_R S 8058 p0) = some b2 ∧ zs_A S b2 1 p1 ∧ (((zs_i S b2 p1.toNatClampNeg) ≤ p2 → (Q (.returned none) S)) ∧ (¬ ((zs_i S b2 p1.toNatClampNeg) ≤ p2) → (∃ b6, (zs_R S 8057 p0) = some b6 ∧ zs_A S b6 0 p1 ∧ ∃ b9, (zs_R S 8061 p0) = some b9 ∧ zs_A S b9 0 ((zs_i S b6 p1.toNatClampNeg) + p2) ∧ ∃ b12, (zs_R S 8062 p0) = some b12 ∧ zs_A S b12 0 ((zs_i S b6 p1.toNatClampNeg) + p2) ∧ zs_C X d 8011 [.ref p0, .int (zs_i S b9 ((zs_i S b6 p1.toNatClampNeg) + p2).toNatClampNeg), .int (7 : Int32), .int (zs_i S b12 ((zs_i S b6 p1.toNatClampNeg) + p2).toNatClampNeg), .int p2, .int (0 : Int32)] S (zs_kI (fun v16 S15 => (w_X9_openDiscriminants_47 X d p0 p1 p2 S15 Q)) Q)))))
theorem u_X9_openDiscriminants_6 {σ : Nat → Nat} {n0 : Nat} {bf : ab_B} {d : Nat} {p0 : Nat} {p1 : Int32} {p2 : Int32} {S : zs_T} {Q : zs_Q} (hB : zt_B bf) (h : w_X9_openDiscriminants_6 (zx σ n0 bf) d p0 p1 p2 S Q) : zs_U (zx σ n0 bf) d 8096 6 [(0, .ref p0), (1, .int p1), (2, .int p2)] [] S Q := by
  unfold w_X9_openDiscriminants_6 at h
  refine zu_iload_n d_8096_6 rfl ?_
  refine zu_aload_n d_8096_7 rfl (zs_ra _) ?_
  obtain ⟨k1, h⟩ := h
  refine zg_8_127 rfl d_8096_8 k1 ?_
  refine zu_iload_n d_8096_11 rfl ?_
  obtain ⟨b2, e3, h⟩ := h
  refine zs_stk1 (zs_rfe e3) ?_
  obtain ⟨k4, h⟩ := h
  refine zu_bald (k := 1) d_8096_12 rfl (Or.inl rfl) k4 ?_
  refine zu_cmpge (t := 53) d_8096_13 rfl (fun c5 => ?_) (fun c5 => ?_)
  · have h := h.1 c5
    exact zu_vret d_8096_53 zr_8096 h
  · have h := h.2 c5
    refine zu_aload_n d_8096_16 rfl (zs_ra _) ?_
    refine zg_8_124 rfl d_8096_17 k1 ?_
    refine zu_iload_n d_8096_20 rfl ?_
    obtain ⟨b6, e7, h⟩ := h
    refine zs_stk1 (zs_rfe e7) ?_
    obtain ⟨k8, h⟩ := h
    refine zu_iald (k := 0) d_8096_21 rfl rfl k8 ?_
    refine zu_iload_n d_8096_22 rfl ?_
    refine zu_stk d_8096_23 rfl rfl ?_
    refine zu_istore_n d_8096_24 (zs_lt zq_8096 rfl) ?_
    refine zu_aload_n d_8096_25 rfl (zs_ra _) ?_
    refine zu_aload_n d_8096_26 rfl (zs_ra _) ?_
    refine zg_8_133 rfl d_8096_27 k1 ?_
    refine zu_iload_n d_8096_30 rfl ?_
    obtain ⟨b9, e10, h⟩ := h
    refine zs_stk1 (zs_rfe e10) ?_
    obtain ⟨k11, h⟩ := h
    refine zu_iald (k := 0) d_8096_31 rfl rfl k11 ?_
    refine zu_bipush d_8096_32 zj_7 ?_
    refine zu_aload_n d_8096_34 rfl (zs_ra _) ?_
    refine zg_8_136 rfl d_8096_35 k1 ?_
    refine zu_iload_n d_8096_38 rfl ?_
    obtain ⟨b12, e13, h⟩ := h
    refine zs_stk1 (zs_rfe e13) ?_
    obtain ⟨k14, h⟩ := h
    refine zu_iald (k := 0) d_8096_39 rfl rfl k14 ?_
    refine zu_iload_n d_8096_40 rfl ?_
    refine zu_iconst d_8096_41 zi_0 ?_
    refine zc_8_606 (x0 := (zs_i S b9 ((zs_i S b6 p1.toNatClampNeg) + p2).toNatClampNeg)) (x1 := (7 : Int32)) (x2 := (zs_i S b12 ((zs_i S b6 p1.toNatClampNeg) + p2).toNatClampNeg)) (x3 := p2) (x4 := (0 : Int32)) hB rfl k1 d_8096_42 (Nat.le_of_ble_eq_true rfl) h (fun v16 S15 h => ?_)
    refine zu_istore d_8096_45 (zs_lt zq_8096 rfl) ?_
    exact (u_X9_openDiscriminants_47 hB h).weak ⟨rfl, rfl, rfl, trivial⟩
def w_X9_openDiscriminants (X : zs_X) (d : Nat) (p0 : Nat) (p1 : Int32) (S : zs_T) (Q : zs_Q) : Prop :=
  (zs_K S p0 = some (.inl 8) ∧ zs_C X d 8010 [.ref p0] S (zs_kV (fun S2 => (zs_U X d 8096 6 [(0, .ref p0), (1, .int p1), (2, .int (0 : Int32))] [] S2 Q)) Q))
theorem u_X9_openDiscriminants {σ : Nat → Nat} {n0 : Nat} {bf : ab_B} {d : Nat} {p0 : Nat} {p1 : Int32} {S : zs_T} {Q : zs_Q} (hB : zt_B bf) (hd : 1 ≤ d) (h : w_X9_openDiscriminants (zx σ n0 bf) (d - 1) p0 p1 S Q) : zs_C (zx σ n0 bf) d 8096 [.ref p0, .int p1] S Q := by
  have hL : lv_args 0 [.ref p0, .int p1] = [(0, .ref p0), (1, .int p1)] := rfl
  refine zs_C.of1 (hB.2 8096 (by decide) (by decide)) hd (by rw [hL]; exact zs_sub_self _ (by exact ⟨rfl, rfl, trivial⟩)) ?_
  rw [hL]
  clear hL
  unfold w_X9_openDiscriminants at h
  refine zu_aload_n d_8096_0 rfl (zs_ra _) ?_
  obtain ⟨k1, h⟩ := h
  refine zc_8_603  hB rfl k1 d_8096_1 (Nat.le_of_ble_eq_true rfl) h (fun S2 h => ?_)
  refine zu_iconst d_8096_4 zi_0 ?_
  refine zu_istore_n d_8096_5 (zs_lt zq_8096 rfl) ?_
  exact h.weak ⟨rfl, rfl, rfl, trivial⟩
/-! SchemaPascalModel.pointer()V -/
theorem zm_8097 {σ : Nat → Nat} {n0 : Nat} {bf : ab_B} : ab_code (zx σ n0 bf).1 8097 = prog_17_method_112_code := rfl
theorem zq_8097 {σ : Nat → Nat} {n0 : Nat} {bf : ab_B} : ab_maxL (zx σ n0 bf).1 8097 = 2 := rfl
theorem zr_8097 {σ : Nat → Nat} {n0 : Nat} {bf : ab_B} : ab_ret (zx σ n0 bf).1 8097 = (Option.none : Option Jvm.ClassFile.FieldType) := rfl
theorem d_8097_0 {σ : Nat → Nat} {n0 : Nat} {bf : ab_B} : decode (ab_code (zx σ n0 bf).1 8097) 0 = .ok (.aload_n 0, 1) := zd zm_8097 (by decide +kernel)
theorem d_8097_1 {σ : Nat → Nat} {n0 : Nat} {bf : ab_B} : decode (ab_code (zx σ n0 bf).1 8097) 1 = .ok (.getfield 484, 3) := zd zm_8097 (by decide +kernel)
theorem d_8097_4 {σ : Nat → Nat} {n0 : Nat} {bf : ab_B} : decode (ab_code (zx σ n0 bf).1 8097) 4 = .ok (.iconst 1, 1) := zd zm_8097 (by decide +kernel)
theorem d_8097_5 {σ : Nat → Nat} {n0 : Nat} {bf : ab_B} : decode (ab_code (zx σ n0 bf).1 8097) 5 = .ok (.if_icmp .eq 9, 3) := zd zm_8097 (by decide +kernel)
theorem d_8097_8 {σ : Nat → Nat} {n0 : Nat} {bf : ab_B} : decode (ab_code (zx σ n0 bf).1 8097) 8 = .ok (.aload_n 0, 1) := zd zm_8097 (by decide +kernel)
theorem d_8097_9 {σ : Nat → Nat} {n0 : Nat} {bf : ab_B} : decode (ab_code (zx σ n0 bf).1 8097) 9 = .ok (.iconst 2, 1) := zd zm_8097 (by decide +kernel)
theorem d_8097_10 {σ : Nat → Nat} {n0 : Nat} {bf : ab_B} : decode (ab_code (zx σ n0 bf).1 8097) 10 = .ok (.invokevirtual 541, 3) := zd zm_8097 (by decide +kernel)
theorem d_8097_13 {σ : Nat → Nat} {n0 : Nat} {bf : ab_B} : decode (ab_code (zx σ n0 bf).1 8097) 13 = .ok (.return_, 1) := zd zm_8097 (by decide +kernel)
theorem d_8097_14 {σ : Nat → Nat} {n0 : Nat} {bf : ab_B} : decode (ab_code (zx σ n0 bf).1 8097) 14 = .ok (.aload_n 0, 1) := zd zm_8097 (by decide +kernel)
theorem d_8097_15 {σ : Nat → Nat} {n0 : Nat} {bf : ab_B} : decode (ab_code (zx σ n0 bf).1 8097) 15 = .ok (.bipush 10, 2) := zd zm_8097 (by decide +kernel)
theorem d_8097_17 {σ : Nat → Nat} {n0 : Nat} {bf : ab_B} : decode (ab_code (zx σ n0 bf).1 8097) 17 = .ok (.iconst 0, 1) := zd zm_8097 (by decide +kernel)
theorem d_8097_18 {σ : Nat → Nat} {n0 : Nat} {bf : ab_B} : decode (ab_code (zx σ n0 bf).1 8097) 18 = .ok (.iconst 1, 1) := zd zm_8097 (by decide +kernel)
theorem d_8097_19 {σ : Nat → Nat} {n0 : Nat} {bf : ab_B} : decode (ab_code (zx σ n0 bf).1 8097) 19 = .ok (.invokevirtual 599, 3) := zd zm_8097 (by decide +kernel)
theorem d_8097_22 {σ : Nat → Nat} {n0 : Nat} {bf : ab_B} : decode (ab_code (zx σ n0 bf).1 8097) 22 = .ok (.istore_n 1, 1) := zd zm_8097 (by decide +kernel)
theorem d_8097_23 {σ : Nat → Nat} {n0 : Nat} {bf : ab_B} : decode (ab_code (zx σ n0 bf).1 8097) 23 = .ok (.aload_n 0, 1) := zd zm_8097 (by decide +kernel)
theorem d_8097_24 {σ : Nat → Nat} {n0 : Nat} {bf : ab_B} : decode (ab_code (zx σ n0 bf).1 8097) 24 = .ok (.getfield 867, 3) := zd zm_8097 (by decide +kernel)
theorem d_8097_27 {σ : Nat → Nat} {n0 : Nat} {bf : ab_B} : decode (ab_code (zx σ n0 bf).1 8097) 27 = .ok (.ifCond .eq 64, 3) := zd zm_8097 (by decide +kernel)
theorem d_8097_30 {σ : Nat → Nat} {n0 : Nat} {bf : ab_B} : decode (ab_code (zx σ n0 bf).1 8097) 30 = .ok (.aload_n 0, 1) := zd zm_8097 (by decide +kernel)
theorem d_8097_31 {σ : Nat → Nat} {n0 : Nat} {bf : ab_B} : decode (ab_code (zx σ n0 bf).1 8097) 31 = .ok (.getfield 37, 3) := zd zm_8097 (by decide +kernel)
theorem d_8097_34 {σ : Nat → Nat} {n0 : Nat} {bf : ab_B} : decode (ab_code (zx σ n0 bf).1 8097) 34 = .ok (.aload_n 0, 1) := zd zm_8097 (by decide +kernel)
theorem d_8097_35 {σ : Nat → Nat} {n0 : Nat} {bf : ab_B} : decode (ab_code (zx σ n0 bf).1 8097) 35 = .ok (.getfield 494, 3) := zd zm_8097 (by decide +kernel)
theorem d_8097_38 {σ : Nat → Nat} {n0 : Nat} {bf : ab_B} : decode (ab_code (zx σ n0 bf).1 8097) 38 = .ok (.iaload, 1) := zd zm_8097 (by decide +kernel)
theorem d_8097_39 {σ : Nat → Nat} {n0 : Nat} {bf : ab_B} : decode (ab_code (zx σ n0 bf).1 8097) 39 = .ok (.ifCond .ne 52, 3) := zd zm_8097 (by decide +kernel)
theorem d_8097_42 {σ : Nat → Nat} {n0 : Nat} {bf : ab_B} : decode (ab_code (zx σ n0 bf).1 8097) 42 = .ok (.aload_n 0, 1) := zd zm_8097 (by decide +kernel)
theorem d_8097_43 {σ : Nat → Nat} {n0 : Nat} {bf : ab_B} : decode (ab_code (zx σ n0 bf).1 8097) 43 = .ok (.getfield 284, 3) := zd zm_8097 (by decide +kernel)
theorem d_8097_46 {σ : Nat → Nat} {n0 : Nat} {bf : ab_B} : decode (ab_code (zx σ n0 bf).1 8097) 46 = .ok (.aload_n 0, 1) := zd zm_8097 (by decide +kernel)
theorem d_8097_47 {σ : Nat → Nat} {n0 : Nat} {bf : ab_B} : decode (ab_code (zx σ n0 bf).1 8097) 47 = .ok (.getfield 870, 3) := zd zm_8097 (by decide +kernel)
theorem d_8097_50 {σ : Nat → Nat} {n0 : Nat} {bf : ab_B} : decode (ab_code (zx σ n0 bf).1 8097) 50 = .ok (.iload_n 1, 1) := zd zm_8097 (by decide +kernel)
theorem d_8097_51 {σ : Nat → Nat} {n0 : Nat} {bf : ab_B} : decode (ab_code (zx σ n0 bf).1 8097) 51 = .ok (.iastore, 1) := zd zm_8097 (by decide +kernel)
theorem d_8097_52 {σ : Nat → Nat} {n0 : Nat} {bf : ab_B} : decode (ab_code (zx σ n0 bf).1 8097) 52 = .ok (.aload_n 0, 1) := zd zm_8097 (by decide +kernel)
theorem d_8097_53 {σ : Nat → Nat} {n0 : Nat} {bf : ab_B} : decode (ab_code (zx σ n0 bf).1 8097) 53 = .ok (.getfield 287, 3) := zd zm_8097 (by decide +kernel)
theorem d_8097_56 {σ : Nat → Nat} {n0 : Nat} {bf : ab_B} : decode (ab_code (zx σ n0 bf).1 8097) 56 = .ok (.aload_n 0, 1) := zd zm_8097 (by decide +kernel)
theorem d_8097_57 {σ : Nat → Nat} {n0 : Nat} {bf : ab_B} : decode (ab_code (zx σ n0 bf).1 8097) 57 = .ok (.getfield 870, 3) := zd zm_8097 (by decide +kernel)
theorem d_8097_60 {σ : Nat → Nat} {n0 : Nat} {bf : ab_B} : decode (ab_code (zx σ n0 bf).1 8097) 60 = .ok (.aload_n 0, 1) := zd zm_8097 (by decide +kernel)
theorem d_8097_61 {σ : Nat → Nat} {n0 : Nat} {bf : ab_B} : decode (ab_code (zx σ n0 bf).1 8097) 61 = .ok (.getfield 494, 3) := zd zm_8097 (by decide +kernel)
theorem d_8097_64 {σ : Nat → Nat} {n0 : Nat} {bf : ab_B} : decode (ab_code (zx σ n0 bf).1 8097) 64 = .ok (.iastore, 1) := zd zm_8097 (by decide +kernel)
theorem d_8097_65 {σ : Nat → Nat} {n0 : Nat} {bf : ab_B} : decode (ab_code (zx σ n0 bf).1 8097) 65 = .ok (.aload_n 0, 1) := zd zm_8097 (by decide +kernel)
theorem d_8097_66 {σ : Nat → Nat} {n0 : Nat} {bf : ab_B} : decode (ab_code (zx σ n0 bf).1 8097) 66 = .ok (.getfield 290, 3) := zd zm_8097 (by decide +kernel)
theorem d_8097_69 {σ : Nat → Nat} {n0 : Nat} {bf : ab_B} : decode (ab_code (zx σ n0 bf).1 8097) 69 = .ok (.aload_n 0, 1) := zd zm_8097 (by decide +kernel)
theorem d_8097_70 {σ : Nat → Nat} {n0 : Nat} {bf : ab_B} : decode (ab_code (zx σ n0 bf).1 8097) 70 = .ok (.getfield 870, 3) := zd zm_8097 (by decide +kernel)
theorem d_8097_73 {σ : Nat → Nat} {n0 : Nat} {bf : ab_B} : decode (ab_code (zx σ n0 bf).1 8097) 73 = .ok (.aload_n 0, 1) := zd zm_8097 (by decide +kernel)
theorem d_8097_74 {σ : Nat → Nat} {n0 : Nat} {bf : ab_B} : decode (ab_code (zx σ n0 bf).1 8097) 74 = .ok (.getfield 450, 3) := zd zm_8097 (by decide +kernel)
theorem d_8097_77 {σ : Nat → Nat} {n0 : Nat} {bf : ab_B} : decode (ab_code (zx σ n0 bf).1 8097) 77 = .ok (.iastore, 1) := zd zm_8097 (by decide +kernel)
theorem d_8097_78 {σ : Nat → Nat} {n0 : Nat} {bf : ab_B} : decode (ab_code (zx σ n0 bf).1 8097) 78 = .ok (.aload_n 0, 1) := zd zm_8097 (by decide +kernel)
theorem d_8097_79 {σ : Nat → Nat} {n0 : Nat} {bf : ab_B} : decode (ab_code (zx σ n0 bf).1 8097) 79 = .ok (.dup, 1) := zd zm_8097 (by decide +kernel)
theorem d_8097_80 {σ : Nat → Nat} {n0 : Nat} {bf : ab_B} : decode (ab_code (zx σ n0 bf).1 8097) 80 = .ok (.getfield 870, 3) := zd zm_8097 (by decide +kernel)
theorem d_8097_83 {σ : Nat → Nat} {n0 : Nat} {bf : ab_B} : decode (ab_code (zx σ n0 bf).1 8097) 83 = .ok (.iconst 1, 1) := zd zm_8097 (by decide +kernel)
theorem d_8097_84 {σ : Nat → Nat} {n0 : Nat} {bf : ab_B} : decode (ab_code (zx σ n0 bf).1 8097) 84 = .ok (.iadd, 1) := zd zm_8097 (by decide +kernel)
theorem d_8097_85 {σ : Nat → Nat} {n0 : Nat} {bf : ab_B} : decode (ab_code (zx σ n0 bf).1 8097) 85 = .ok (.putfield 870, 3) := zd zm_8097 (by decide +kernel)
theorem d_8097_88 {σ : Nat → Nat} {n0 : Nat} {bf : ab_B} : decode (ab_code (zx σ n0 bf).1 8097) 88 = .ok (.goto 16, 3) := zd zm_8097 (by decide +kernel)
theorem d_8097_91 {σ : Nat → Nat} {n0 : Nat} {bf : ab_B} : decode (ab_code (zx σ n0 bf).1 8097) 91 = .ok (.aload_n 0, 1) := zd zm_8097 (by decide +kernel)
theorem d_8097_92 {σ : Nat → Nat} {n0 : Nat} {bf : ab_B} : decode (ab_code (zx σ n0 bf).1 8097) 92 = .ok (.iload_n 1, 1) := zd zm_8097 (by decide +kernel)
theorem d_8097_93 {σ : Nat → Nat} {n0 : Nat} {bf : ab_B} : decode (ab_code (zx σ n0 bf).1 8097) 93 = .ok (.aload_n 0, 1) := zd zm_8097 (by decide +kernel)
theorem d_8097_94 {σ : Nat → Nat} {n0 : Nat} {bf : ab_B} : decode (ab_code (zx σ n0 bf).1 8097) 94 = .ok (.getfield 494, 3) := zd zm_8097 (by decide +kernel)
theorem d_8097_97 {σ : Nat → Nat} {n0 : Nat} {bf : ab_B} : decode (ab_code (zx σ n0 bf).1 8097) 97 = .ok (.aload_n 0, 1) := zd zm_8097 (by decide +kernel)
theorem d_8097_98 {σ : Nat → Nat} {n0 : Nat} {bf : ab_B} : decode (ab_code (zx σ n0 bf).1 8097) 98 = .ok (.getfield 450, 3) := zd zm_8097 (by decide +kernel)
theorem d_8097_101 {σ : Nat → Nat} {n0 : Nat} {bf : ab_B} : decode (ab_code (zx σ n0 bf).1 8097) 101 = .ok (.invokevirtual 873, 3) := zd zm_8097 (by decide +kernel)
theorem d_8097_104 {σ : Nat → Nat} {n0 : Nat} {bf : ab_B} : decode (ab_code (zx σ n0 bf).1 8097) 104 = .ok (.aload_n 0, 1) := zd zm_8097 (by decide +kernel)
theorem d_8097_105 {σ : Nat → Nat} {n0 : Nat} {bf : ab_B} : decode (ab_code (zx σ n0 bf).1 8097) 105 = .ok (.invokevirtual 538, 3) := zd zm_8097 (by decide +kernel)
theorem d_8097_108 {σ : Nat → Nat} {n0 : Nat} {bf : ab_B} : decode (ab_code (zx σ n0 bf).1 8097) 108 = .ok (.aload_n 0, 1) := zd zm_8097 (by decide +kernel)
theorem d_8097_109 {σ : Nat → Nat} {n0 : Nat} {bf : ab_B} : decode (ab_code (zx σ n0 bf).1 8097) 109 = .ok (.getfield 444, 3) := zd zm_8097 (by decide +kernel)
theorem d_8097_112 {σ : Nat → Nat} {n0 : Nat} {bf : ab_B} : decode (ab_code (zx σ n0 bf).1 8097) 112 = .ok (.ifCond .ne 8, 3) := zd zm_8097 (by decide +kernel)
theorem d_8097_115 {σ : Nat → Nat} {n0 : Nat} {bf : ab_B} : decode (ab_code (zx σ n0 bf).1 8097) 115 = .ok (.aload_n 0, 1) := zd zm_8097 (by decide +kernel)
theorem d_8097_116 {σ : Nat → Nat} {n0 : Nat} {bf : ab_B} : decode (ab_code (zx σ n0 bf).1 8097) 116 = .ok (.iload_n 1, 1) := zd zm_8097 (by decide +kernel)
theorem d_8097_117 {σ : Nat → Nat} {n0 : Nat} {bf : ab_B} : decode (ab_code (zx σ n0 bf).1 8097) 117 = .ok (.invokevirtual 840, 3) := zd zm_8097 (by decide +kernel)
theorem d_8097_120 {σ : Nat → Nat} {n0 : Nat} {bf : ab_B} : decode (ab_code (zx σ n0 bf).1 8097) 120 = .ok (.return_, 1) := zd zm_8097 (by decide +kernel)
def w_X9_pointer_104 (X : zs_X) (d : Nat) (p0 : Nat) (p1 : Int32) (S : zs_T) (Q : zs_Q) : Prop :=
  (zs_K S p0 = some (.inl 8) ∧ zs_C X d 8014 [.ref p0] S (zs_kV (fun S2 => (zs_K S2 p0 = some (.inl 8) ∧ ((¬ (zs_I S2 8010 p0) = 0 → (Q (.returned none) S2)) ∧ (¬ (¬ (zs_I S2 8010 p0) = 0) → (zs_C X d 8091 [.ref p0, .int p1] S2 (zs_kV (fun S6 => (Q (.returned none) S6)) Q)))))) Q))
theorem u_X9_pointer_104 {σ : Nat → Nat} {n0 : Nat} {bf : ab_B} {d : Nat} {p0 : Nat} {p1 : Int32} {S : zs_T} {Q : zs_Q} (hB : zt_B bf) (h : w_X9_pointer_104 (zx σ n0 bf) d p0 p1 S Q) : zs_U (zx σ n0 bf) d 8097 104 [(0, .ref p0), (1, .int p1)] [] S Q := by
  unfold w_X9_pointer_104 at h
  refine zu_aload_n d_8097_104 rfl (zs_ra _) ?_
  obtain ⟨k1, h⟩ := h
  refine zc_8_538  hB rfl k1 d_8097_105 (Nat.le_of_ble_eq_true rfl) h (fun S2 h => ?_)
  refine zu_aload_n d_8097_108 rfl (zs_ra _) ?_
  obtain ⟨k4, h⟩ := h
  refine zg_8_444 rfl d_8097_109 k4 ?_
  refine zu_ifne (t := 120) d_8097_112 rfl (fun c5 => ?_) (fun c5 => ?_)
  · have h := h.1 c5
    exact zu_vret d_8097_120 zr_8097 h
  · have h := h.2 c5
    refine zu_aload_n d_8097_115 rfl (zs_ra _) ?_
    refine zu_iload_n d_8097_116 rfl ?_
    refine zc_8_840 (x0 := p1) hB rfl k4 d_8097_117 (Nat.le_of_ble_eq_true rfl) h (fun S6 h => ?_)
    exact zu_vret d_8097_120 zr_8097 h
def w_X9_pointer_78 (X : zs_X) (d : Nat) (p0 : Nat) (p1 : Int32) (S : zs_T) (Q : zs_Q) : Prop :=
  (zs_K S p0 = some (.inl 8) ∧ ab_n0 X.1 ≤ p0 ∧ ∀ S3, S3 = zs_sI S 8136 p0 ((zs_I S 8136 p0) + (1 : Int32)) → w_X9_pointer_104 X d p0 p1 S3 Q)
theorem u_X9_pointer_78 {σ : Nat → Nat} {n0 : Nat} {bf : ab_B} {d : Nat} {p0 : Nat} {p1 : Int32} {S : zs_T} {Q : zs_Q} (hB : zt_B bf) (h : w_X9_pointer_78 (zx σ n0 bf) d p0 p1 S Q) : zs_U (zx σ n0 bf) d 8097 78 [(0, .ref p0), (1, .int p1)] [] S Q := by
  unfold w_X9_pointer_78 at h
  refine zu_aload_n d_8097_78 rfl (zs_ra _) ?_
  refine zu_dup d_8097_79 rfl ?_
  obtain ⟨k1, h⟩ := h
  refine zg_8_870 rfl d_8097_80 k1 ?_
  refine zu_iconst d_8097_83 zi_1 ?_
  refine zu_stk d_8097_84 rfl rfl ?_
  obtain ⟨k2, h⟩ := h
  refine zp_8_870 (v := ((zs_I S 8136 p0) + (1 : Int32))) rfl d_8097_85 k1 k2 ?_
  generalize e4 : zs_sI S 8136 p0 ((zs_I S 8136 p0) + (1 : Int32)) = S3
  have h := h S3 e4.symm
  have K5 : ∀ b, zs_K S3 b = zs_K S b := zs_Kt e4 (zs_KsI _ _ _ _) (fun _ => rfl)
  refine zu_goto (t := 104) d_8097_88 rfl ?_
  exact (u_X9_pointer_104 hB h).weak ⟨rfl, rfl, trivial⟩
def w_X9_pointer_42 (X : zs_X) (d : Nat) (p0 : Nat) (p1 : Int32) (S : zs_T) (Q : zs_Q) : Prop :=
  (zs_K S p0 = some (.inl 8) ∧ ∃ b2, (zs_R S 8133 p0) = some b2 ∧ zs_A S b2 0 (zs_I S 8136 p0) ∧ ab_n0 X.1 ≤ b2 ∧ ∀ S6, S6 = zs_si S b2 (zs_I S 8136 p0).toNatClampNeg p1 → ∃ b9, (zs_R S6 8134 p0) = some b9 ∧ zs_A S b9 0 (zs_I S6 8136 p0) ∧ ab_n0 X.1 ≤ b9 ∧ ∀ S13, S13 = zs_si S6 b9 (zs_I S6 8136 p0).toNatClampNeg (zs_I S6 8009 p0) → ∃ b16, (zs_R S13 8135 p0) = some b16 ∧ zs_A S b16 0 (zs_I S13 8136 p0) ∧ ab_n0 X.1 ≤ b16 ∧ ∀ S20, S20 = zs_si S13 b16 (zs_I S13 8136 p0).toNatClampNeg (zs_I S13 8007 p0) → w_X9_pointer_78 X d p0 p1 S20 Q)
theorem u_X9_pointer_42 {σ : Nat → Nat} {n0 : Nat} {bf : ab_B} {d : Nat} {p0 : Nat} {p1 : Int32} {S : zs_T} {Q : zs_Q} (hB : zt_B bf) (h : w_X9_pointer_42 (zx σ n0 bf) d p0 p1 S Q) : zs_U (zx σ n0 bf) d 8097 42 [(0, .ref p0), (1, .int p1)] [] S Q := by
  unfold w_X9_pointer_42 at h
  refine zu_aload_n d_8097_42 rfl (zs_ra _) ?_
  obtain ⟨k1, h⟩ := h
  refine zg_8_284 rfl d_8097_43 k1 ?_
  refine zu_aload_n d_8097_46 rfl (zs_ra _) ?_
  refine zg_8_870 rfl d_8097_47 k1 ?_
  refine zu_iload_n d_8097_50 rfl ?_
  obtain ⟨b2, e3, h⟩ := h
  refine zs_stk2 (zs_rfe e3) ?_
  obtain ⟨k4, h⟩ := h
  obtain ⟨k5, h⟩ := h
  refine zu_iast (k := 0) d_8097_51 rfl rfl k5 k4 ?_
  generalize e7 : zs_si S b2 (zs_I S 8136 p0).toNatClampNeg p1 = S6
  have h := h S6 e7.symm
  have K8 : ∀ b, zs_K S6 b = zs_K S b := zs_Kt e7 (zs_Ksi _ _ _ _) (fun _ => rfl)
  refine zu_aload_n d_8097_52 rfl (zs_ra _) ?_
  refine zg_8_287 rfl d_8097_53 ((K8 _).trans k1) ?_
  refine zu_aload_n d_8097_56 rfl (zs_ra _) ?_
  refine zg_8_870 rfl d_8097_57 ((K8 _).trans k1) ?_
  refine zu_aload_n d_8097_60 rfl (zs_ra _) ?_
  refine zg_8_494 rfl d_8097_61 ((K8 _).trans k1) ?_
  obtain ⟨b9, e10, h⟩ := h
  refine zs_stk2 (zs_rfe e10) ?_
  obtain ⟨k11, h⟩ := h
  obtain ⟨k12, h⟩ := h
  refine zu_iast (k := 0) d_8097_64 rfl rfl k12 (zs_Ak K8 k11) ?_
  generalize e14 : zs_si S6 b9 (zs_I S6 8136 p0).toNatClampNeg (zs_I S6 8009 p0) = S13
  have h := h S13 e14.symm
  have K15 : ∀ b, zs_K S13 b = zs_K S b := zs_Kt e14 (zs_Ksi _ _ _ _) K8
  refine zu_aload_n d_8097_65 rfl (zs_ra _) ?_
  refine zg_8_290 rfl d_8097_66 ((K15 _).trans k1) ?_
  refine zu_aload_n d_8097_69 rfl (zs_ra _) ?_
  refine zg_8_870 rfl d_8097_70 ((K15 _).trans k1) ?_
  refine zu_aload_n d_8097_73 rfl (zs_ra _) ?_
  refine zg_8_450 rfl d_8097_74 ((K15 _).trans k1) ?_
  obtain ⟨b16, e17, h⟩ := h
  refine zs_stk2 (zs_rfe e17) ?_
  obtain ⟨k18, h⟩ := h
  obtain ⟨k19, h⟩ := h
  refine zu_iast (k := 0) d_8097_77 rfl rfl k19 (zs_Ak K15 k18) ?_
  generalize e21 : zs_si S13 b16 (zs_I S13 8136 p0).toNatClampNeg (zs_I S13 8007 p0) = S20
  have h := h S20 e21.symm
  have K22 : ∀ b, zs_K S20 b = zs_K S b := zs_Kt e21 (zs_Ksi _ _ _ _) K15
  exact (u_X9_pointer_78 hB h).weak ⟨rfl, rfl, trivial⟩
def w_X9_pointer_91 (X : zs_X) (d : Nat) (p0 : Nat) (p1 : Int32) (S : zs_T) (Q : zs_Q) : Prop :=
  (zs_K S p0 = some (.inl 8) ∧ zs_C X d 8098 [.ref p0, .int p1, .int (zs_I S 8009 p0), .int (zs_I S 8007 p0)] S (zs_kV (fun S2 => w_X9_pointer_104 X d p0 p1 S2 Q) Q))
theorem u_X9_pointer_91 {σ : Nat → Nat} {n0 : Nat} {bf : ab_B} {d : Nat} {p0 : Nat} {p1 : Int32} {S : zs_T} {Q : zs_Q} (hB : zt_B bf) (h : w_X9_pointer_91 (zx σ n0 bf) d p0 p1 S Q) : zs_U (zx σ n0 bf) d 8097 91 [(0, .ref p0), (1, .int p1)] [] S Q := by
  unfold w_X9_pointer_91 at h
  refine zu_aload_n d_8097_91 rfl (zs_ra _) ?_
  refine zu_iload_n d_8097_92 rfl ?_
  refine zu_aload_n d_8097_93 rfl (zs_ra _) ?_
  obtain ⟨k1, h⟩ := h
  refine zg_8_494 rfl d_8097_94 k1 ?_
  refine zu_aload_n d_8097_97 rfl (zs_ra _) ?_
  refine zg_8_450 rfl d_8097_98 k1 ?_
  refine zc_8_873 (x0 := p1) (x1 := (zs_I S 8009 p0)) (x2 := (zs_I S 8007 p0)) hB rfl k1 d_8097_101 (Nat.le_of_ble_eq_true rfl) h (fun S2 h => ?_)
  exact (u_X9_pointer_104 hB h).weak ⟨rfl, rfl, trivial⟩
def w_X9_pointer (X : zs_X) (d : Nat) (p0 : Nat) (S : zs_T) (Q : zs_Q) : Prop :=
  (zs_K S p0 = some (.inl 8) ∧ (((zs_I S 8006 p0) = (1 : Int32) → (zs_C X d 8009 [.ref p0, .int (10 : Int32), .int (0 : Int32), .int (1 : Int32)] S (zs_kI (fun v4 S3 => (zs_K S3 p0 = some (.inl 8) ∧ (((zs_I S3 8132 p0) = 0 → w_X9_pointer_91 X d p0 v4 S3 Q) ∧ (¬ ((zs_I S3 8132 p0) = 0) → (∃ b7, (zs_R S3 8019 p0) = some b7 ∧ zs_A S3 b7 0 (zs_I S3 8009 p0) ∧ ((¬ (zs_i S3 b7 (zs_I S3 8009 p0).toNatClampNeg) = 0 → w_X9_pointer_91 X d p0 v4 S3 Q) ∧ (¬ (¬ (zs_i S3 b7 (zs_I S3 8009 p0).toNatClampNeg) = 0) → w_X9_pointer_42 X d p0 v4 S3 Q))))))) Q))) ∧ (¬ ((zs_I S 8006 p0) = (1 : Int32)) → (zs_C X d 8027 [.ref p0, .int (2 : Int32)] S (zs_kV (fun S11 => (Q (.returned none) S11)) Q)))))
theorem u_X9_pointer {σ : Nat → Nat} {n0 : Nat} {bf : ab_B} {d : Nat} {p0 : Nat} {S : zs_T} {Q : zs_Q} (hB : zt_B bf) (hd : 1 ≤ d) (h : w_X9_pointer (zx σ n0 bf) (d - 1) p0 S Q) : zs_C (zx σ n0 bf) d 8097 [.ref p0] S Q := by
  have hL : lv_args 0 [.ref p0] = [(0, .ref p0)] := rfl
  refine zs_C.of1 (hB.2 8097 (by decide) (by decide)) hd (by rw [hL]; exact zs_sub_self _ (by exact ⟨rfl, trivial⟩)) ?_
  rw [hL]
  clear hL
  unfold w_X9_pointer at h
  refine zu_aload_n d_8097_0 rfl (zs_ra _) ?_
  obtain ⟨k1, h⟩ := h
  refine zg_8_484 rfl d_8097_1 k1 ?_
  refine zu_iconst d_8097_4 zi_1 ?_
  refine zu_cmpeq (t := 14) d_8097_5 rfl (fun c2 => ?_) (fun c2 => ?_)
  · have h := h.1 c2
    refine zu_aload_n d_8097_14 rfl (zs_ra _) ?_
    refine zu_bipush d_8097_15 zj_10 ?_
    refine zu_iconst d_8097_17 zi_0 ?_
    refine zu_iconst d_8097_18 zi_1 ?_
    refine zc_8_599 (x0 := (10 : Int32)) (x1 := (0 : Int32)) (x2 := (1 : Int32)) hB rfl k1 d_8097_19 (Nat.le_of_ble_eq_true rfl) h (fun v4 S3 h => ?_)
    refine zu_istore_n d_8097_22 (zs_lt zq_8097 rfl) ?_
    refine zu_aload_n d_8097_23 rfl (zs_ra _) ?_
    obtain ⟨k5, h⟩ := h
    refine zg_8_867 rfl d_8097_24 k5 ?_
    refine zu_ifeq (t := 91) d_8097_27 rfl (fun c6 => ?_) (fun c6 => ?_)
    · have h := h.1 c6
      exact (u_X9_pointer_91 hB h).weak ⟨rfl, rfl, trivial⟩
    · have h := h.2 c6
      refine zu_aload_n d_8097_30 rfl (zs_ra _) ?_
      refine zg_8_37 rfl d_8097_31 k5 ?_
      refine zu_aload_n d_8097_34 rfl (zs_ra _) ?_
      refine zg_8_494 rfl d_8097_35 k5 ?_
      obtain ⟨b7, e8, h⟩ := h
      refine zs_stk1 (zs_rfe e8) ?_
      obtain ⟨k9, h⟩ := h
      refine zu_iald (k := 0) d_8097_38 rfl rfl k9 ?_
      refine zu_ifne (t := 91) d_8097_39 rfl (fun c10 => ?_) (fun c10 => ?_)
      · have h := h.1 c10
        exact (u_X9_pointer_91 hB h).weak ⟨rfl, rfl, trivial⟩
      · have h := h.2 c10
        exact (u_X9_pointer_42 hB h).weak ⟨rfl, rfl, trivial⟩
  · have h := h.2 c2
    refine zu_aload_n d_8097_8 rfl (zs_ra _) ?_
    refine zu_iconst d_8097_9 zi_2 ?_
    refine zc_8_541 (x0 := (2 : Int32)) hB rfl k1 d_8097_10 (Nat.le_of_ble_eq_true rfl) h (fun S11 h => ?_)
    exact zu_vret d_8097_13 zr_8097 h
/-! SchemaPascalModel.point(III)V -/
theorem zm_8098 {σ : Nat → Nat} {n0 : Nat} {bf : ab_B} : ab_code (zx σ n0 bf).1 8098 = prog_17_method_113_code := rfl
theorem zq_8098 {σ : Nat → Nat} {n0 : Nat} {bf : ab_B} : ab_maxL (zx σ n0 bf).1 8098 = 5 := rfl
theorem zr_8098 {σ : Nat → Nat} {n0 : Nat} {bf : ab_B} : ab_ret (zx σ n0 bf).1 8098 = (Option.none : Option Jvm.ClassFile.FieldType) := rfl
theorem d_8098_0 {σ : Nat → Nat} {n0 : Nat} {bf : ab_B} : decode (ab_code (zx σ n0 bf).1 8098) 0 = .ok (.aload_n 0, 1) := zd zm_8098 (by decide +kernel)
theorem d_8098_1 {σ : Nat → Nat} {n0 : Nat} {bf : ab_B} : decode (ab_code (zx σ n0 bf).1 8098) 1 = .ok (.getfield 37, 3) := zd zm_8098 (by decide +kernel)
theorem d_8098_4 {σ : Nat → Nat} {n0 : Nat} {bf : ab_B} : decode (ab_code (zx σ n0 bf).1 8098) 4 = .ok (.iload_n 2, 1) := zd zm_8098 (by decide +kernel)
theorem d_8098_5 {σ : Nat → Nat} {n0 : Nat} {bf : ab_B} : decode (ab_code (zx σ n0 bf).1 8098) 5 = .ok (.iaload, 1) := zd zm_8098 (by decide +kernel)
theorem d_8098_6 {σ : Nat → Nat} {n0 : Nat} {bf : ab_B} : decode (ab_code (zx σ n0 bf).1 8098) 6 = .ok (.istore 4, 2) := zd zm_8098 (by decide +kernel)
theorem d_8098_8 {σ : Nat → Nat} {n0 : Nat} {bf : ab_B} : decode (ab_code (zx σ n0 bf).1 8098) 8 = .ok (.iload 4, 2) := zd zm_8098 (by decide +kernel)
theorem d_8098_10 {σ : Nat → Nat} {n0 : Nat} {bf : ab_B} : decode (ab_code (zx σ n0 bf).1 8098) 10 = .ok (.ifCond .le 30, 3) := zd zm_8098 (by decide +kernel)
theorem d_8098_13 {σ : Nat → Nat} {n0 : Nat} {bf : ab_B} : decode (ab_code (zx σ n0 bf).1 8098) 13 = .ok (.aload_n 0, 1) := zd zm_8098 (by decide +kernel)
theorem d_8098_14 {σ : Nat → Nat} {n0 : Nat} {bf : ab_B} : decode (ab_code (zx σ n0 bf).1 8098) 14 = .ok (.getfield 44, 3) := zd zm_8098 (by decide +kernel)
theorem d_8098_17 {σ : Nat → Nat} {n0 : Nat} {bf : ab_B} : decode (ab_code (zx σ n0 bf).1 8098) 17 = .ok (.iload 4, 2) := zd zm_8098 (by decide +kernel)
theorem d_8098_19 {σ : Nat → Nat} {n0 : Nat} {bf : ab_B} : decode (ab_code (zx σ n0 bf).1 8098) 19 = .ok (.baload, 1) := zd zm_8098 (by decide +kernel)
theorem d_8098_20 {σ : Nat → Nat} {n0 : Nat} {bf : ab_B} : decode (ab_code (zx σ n0 bf).1 8098) 20 = .ok (.iconst 2, 1) := zd zm_8098 (by decide +kernel)
theorem d_8098_21 {σ : Nat → Nat} {n0 : Nat} {bf : ab_B} : decode (ab_code (zx σ n0 bf).1 8098) 21 = .ok (.if_icmp .ne 19, 3) := zd zm_8098 (by decide +kernel)
theorem d_8098_24 {σ : Nat → Nat} {n0 : Nat} {bf : ab_B} : decode (ab_code (zx σ n0 bf).1 8098) 24 = .ok (.aload_n 0, 1) := zd zm_8098 (by decide +kernel)
theorem d_8098_25 {σ : Nat → Nat} {n0 : Nat} {bf : ab_B} : decode (ab_code (zx σ n0 bf).1 8098) 25 = .ok (.getfield 93, 3) := zd zm_8098 (by decide +kernel)
theorem d_8098_28 {σ : Nat → Nat} {n0 : Nat} {bf : ab_B} : decode (ab_code (zx σ n0 bf).1 8098) 28 = .ok (.iload_n 1, 1) := zd zm_8098 (by decide +kernel)
theorem d_8098_29 {σ : Nat → Nat} {n0 : Nat} {bf : ab_B} : decode (ab_code (zx σ n0 bf).1 8098) 29 = .ok (.aload_n 0, 1) := zd zm_8098 (by decide +kernel)
theorem d_8098_30 {σ : Nat → Nat} {n0 : Nat} {bf : ab_B} : decode (ab_code (zx σ n0 bf).1 8098) 30 = .ok (.getfield 50, 3) := zd zm_8098 (by decide +kernel)
theorem d_8098_33 {σ : Nat → Nat} {n0 : Nat} {bf : ab_B} : decode (ab_code (zx σ n0 bf).1 8098) 33 = .ok (.iload 4, 2) := zd zm_8098 (by decide +kernel)
theorem d_8098_35 {σ : Nat → Nat} {n0 : Nat} {bf : ab_B} : decode (ab_code (zx σ n0 bf).1 8098) 35 = .ok (.iaload, 1) := zd zm_8098 (by decide +kernel)
theorem d_8098_36 {σ : Nat → Nat} {n0 : Nat} {bf : ab_B} : decode (ab_code (zx σ n0 bf).1 8098) 36 = .ok (.iastore, 1) := zd zm_8098 (by decide +kernel)
theorem d_8098_37 {σ : Nat → Nat} {n0 : Nat} {bf : ab_B} : decode (ab_code (zx σ n0 bf).1 8098) 37 = .ok (.goto 42, 3) := zd zm_8098 (by decide +kernel)
theorem d_8098_40 {σ : Nat → Nat} {n0 : Nat} {bf : ab_B} : decode (ab_code (zx σ n0 bf).1 8098) 40 = .ok (.iload 4, 2) := zd zm_8098 (by decide +kernel)
theorem d_8098_42 {σ : Nat → Nat} {n0 : Nat} {bf : ab_B} : decode (ab_code (zx σ n0 bf).1 8098) 42 = .ok (.ifCond .le 31, 3) := zd zm_8098 (by decide +kernel)
theorem d_8098_45 {σ : Nat → Nat} {n0 : Nat} {bf : ab_B} : decode (ab_code (zx σ n0 bf).1 8098) 45 = .ok (.aload_n 0, 1) := zd zm_8098 (by decide +kernel)
theorem d_8098_46 {σ : Nat → Nat} {n0 : Nat} {bf : ab_B} : decode (ab_code (zx σ n0 bf).1 8098) 46 = .ok (.getfield 44, 3) := zd zm_8098 (by decide +kernel)
theorem d_8098_49 {σ : Nat → Nat} {n0 : Nat} {bf : ab_B} : decode (ab_code (zx σ n0 bf).1 8098) 49 = .ok (.iload 4, 2) := zd zm_8098 (by decide +kernel)
theorem d_8098_51 {σ : Nat → Nat} {n0 : Nat} {bf : ab_B} : decode (ab_code (zx σ n0 bf).1 8098) 51 = .ok (.baload, 1) := zd zm_8098 (by decide +kernel)
theorem d_8098_52 {σ : Nat → Nat} {n0 : Nat} {bf : ab_B} : decode (ab_code (zx σ n0 bf).1 8098) 52 = .ok (.iconst 3, 1) := zd zm_8098 (by decide +kernel)
theorem d_8098_53 {σ : Nat → Nat} {n0 : Nat} {bf : ab_B} : decode (ab_code (zx σ n0 bf).1 8098) 53 = .ok (.if_icmp .ne 20, 3) := zd zm_8098 (by decide +kernel)
theorem d_8098_56 {σ : Nat → Nat} {n0 : Nat} {bf : ab_B} : decode (ab_code (zx σ n0 bf).1 8098) 56 = .ok (.aload_n 0, 1) := zd zm_8098 (by decide +kernel)
theorem d_8098_57 {σ : Nat → Nat} {n0 : Nat} {bf : ab_B} : decode (ab_code (zx σ n0 bf).1 8098) 57 = .ok (.getfield 93, 3) := zd zm_8098 (by decide +kernel)
theorem d_8098_60 {σ : Nat → Nat} {n0 : Nat} {bf : ab_B} : decode (ab_code (zx σ n0 bf).1 8098) 60 = .ok (.iload_n 1, 1) := zd zm_8098 (by decide +kernel)
theorem d_8098_61 {σ : Nat → Nat} {n0 : Nat} {bf : ab_B} : decode (ab_code (zx σ n0 bf).1 8098) 61 = .ok (.aload_n 0, 1) := zd zm_8098 (by decide +kernel)
theorem d_8098_62 {σ : Nat → Nat} {n0 : Nat} {bf : ab_B} : decode (ab_code (zx σ n0 bf).1 8098) 62 = .ok (.getfield 53, 3) := zd zm_8098 (by decide +kernel)
theorem d_8098_65 {σ : Nat → Nat} {n0 : Nat} {bf : ab_B} : decode (ab_code (zx σ n0 bf).1 8098) 65 = .ok (.iload 4, 2) := zd zm_8098 (by decide +kernel)
theorem d_8098_67 {σ : Nat → Nat} {n0 : Nat} {bf : ab_B} : decode (ab_code (zx σ n0 bf).1 8098) 67 = .ok (.iaload, 1) := zd zm_8098 (by decide +kernel)
theorem d_8098_68 {σ : Nat → Nat} {n0 : Nat} {bf : ab_B} : decode (ab_code (zx σ n0 bf).1 8098) 68 = .ok (.ineg, 1) := zd zm_8098 (by decide +kernel)
theorem d_8098_69 {σ : Nat → Nat} {n0 : Nat} {bf : ab_B} : decode (ab_code (zx σ n0 bf).1 8098) 69 = .ok (.iastore, 1) := zd zm_8098 (by decide +kernel)
theorem d_8098_70 {σ : Nat → Nat} {n0 : Nat} {bf : ab_B} : decode (ab_code (zx σ n0 bf).1 8098) 70 = .ok (.goto 9, 3) := zd zm_8098 (by decide +kernel)
theorem d_8098_73 {σ : Nat → Nat} {n0 : Nat} {bf : ab_B} : decode (ab_code (zx σ n0 bf).1 8098) 73 = .ok (.aload_n 0, 1) := zd zm_8098 (by decide +kernel)
theorem d_8098_74 {σ : Nat → Nat} {n0 : Nat} {bf : ab_B} : decode (ab_code (zx σ n0 bf).1 8098) 74 = .ok (.iconst 3, 1) := zd zm_8098 (by decide +kernel)
theorem d_8098_75 {σ : Nat → Nat} {n0 : Nat} {bf : ab_B} : decode (ab_code (zx σ n0 bf).1 8098) 75 = .ok (.iload_n 3, 1) := zd zm_8098 (by decide +kernel)
theorem d_8098_76 {σ : Nat → Nat} {n0 : Nat} {bf : ab_B} : decode (ab_code (zx σ n0 bf).1 8098) 76 = .ok (.invokevirtual 453, 3) := zd zm_8098 (by decide +kernel)
theorem d_8098_79 {σ : Nat → Nat} {n0 : Nat} {bf : ab_B} : decode (ab_code (zx σ n0 bf).1 8098) 79 = .ok (.return_, 1) := zd zm_8098 (by decide +kernel)
def w_X9_point_37 (X : zs_X) (d : Nat)  (S : zs_T) (Q : zs_Q) : Prop :=
  (Q (.returned none) S)
theorem u_X9_point_37 {σ : Nat → Nat} {n0 : Nat} {bf : ab_B} {d : Nat}  {S : zs_T} {Q : zs_Q} (hB : zt_B bf) (h : w_X9_point_37 (zx σ n0 bf) d  S Q) : zs_U (zx σ n0 bf) d 8098 37 [] [] S Q := by
  unfold w_X9_point_37 at h
  refine zu_goto (t := 79) d_8098_37 rfl ?_
  exact zu_vret d_8098_79 zr_8098 h
def w_X9_point_73 (X : zs_X) (d : Nat) (p0 : Nat) (p3 : Int32) (S : zs_T) (Q : zs_Q) : Prop :=
  (zs_K S p0 = some (.inl 8) ∧ zs_C X d 8017 [.ref p0, .int (3 : Int32), .int p3] S (zs_kV (fun S2 => (Q (.returned none) S2)) Q))
theorem u_X9_point_73 {σ : Nat → Nat} {n0 : Nat} {bf : ab_B} {d : Nat} {p0 : Nat} {p3 : Int32} {S : zs_T} {Q : zs_Q} (hB : zt_B bf) (h : w_X9_point_73 (zx σ n0 bf) d p0 p3 S Q) : zs_U (zx σ n0 bf) d 8098 73 [(0, .ref p0), (3, .int p3)] [] S Q := by
  unfold w_X9_point_73 at h
  refine zu_aload_n d_8098_73 rfl (zs_ra _) ?_
  refine zu_iconst d_8098_74 zi_3 ?_
  refine zu_iload_n d_8098_75 rfl ?_
  obtain ⟨k1, h⟩ := h
  refine zc_8_453 (x0 := (3 : Int32)) (x1 := p3) hB rfl k1 d_8098_76 (Nat.le_of_ble_eq_true rfl) h (fun S2 h => ?_)
  exact zu_vret d_8098_79 zr_8098 h
def w_X9_point_70 (X : zs_X) (d : Nat)  (S : zs_T) (Q : zs_Q) : Prop :=
  (Q (.returned none) S)
theorem u_X9_point_70 {σ : Nat → Nat} {n0 : Nat} {bf : ab_B} {d : Nat}  {S : zs_T} {Q : zs_Q} (hB : zt_B bf) (h : w_X9_point_70 (zx σ n0 bf) d  S Q) : zs_U (zx σ n0 bf) d 8098 70 [] [] S Q := by
  unfold w_X9_point_70 at h
  refine zu_goto (t := 79) d_8098_70 rfl ?_
  exact zu_vret d_8098_79 zr_8098 h
def w_X9_point_40 (X : zs_X) (d : Nat) (p0 : Nat) (p1 : Int32) (p3 : Int32) (p4 : Int32) (S : zs_T) (Q : zs_Q) : Prop :=
  (((p4 ≤ 0 → w_X9_point_73 X d p0 p3 S Q) ∧ (¬ (p4 ≤ 0) → (zs_K S p0 = some (.inl 8) ∧ ∃ b3, (zs_R S 8024 p0) = some b3 ∧ zs_A S b3 1 p4 ∧ ((¬ (zs_i S b3 p4.toNatClampNeg) = (3 : Int32) → w_X9_point_73 X d p0 p3 S Q) ∧ (¬ (¬ (zs_i S b3 p4.toNatClampNeg) = (3 : Int32)) → (∃ b7, (zs_R S 8027 p0) = some b7 ∧ zs_A S b7 0 p4 ∧ ∃ b10, (zs_R S 8045 p0) = some b10 ∧ zs_A S b10 0 p1 ∧ ab_n0 X.1 ≤ b10 ∧ ∀ S14, S14 = zs_si S b10 p1.toNatClampNeg ((-(zs_i S b7 p4.toNatClampNeg))) → w_X9_point_70 X d  S14 Q)))))))
theorem u_X9_point_40 {σ : Nat → Nat} {n0 : Nat} {bf : ab_B} {d : Nat} {p0 : Nat} {p1 : Int32} {p3 : Int32} {p4 : Int32} {S : zs_T} {Q : zs_Q} (hB : zt_B bf) (h : w_X9_point_40 (zx σ n0 bf) d p0 p1 p3 p4 S Q) : zs_U (zx σ n0 bf) d 8098 40 [(0, .ref p0), (1, .int p1), (3, .int p3), (4, .int p4)] [] S Q := by
  unfold w_X9_point_40 at h
  refine zu_iload d_8098_40 rfl ?_
  refine zu_ifle (t := 73) d_8098_42 rfl (fun c1 => ?_) (fun c1 => ?_)
  · have h := h.1 c1
    exact (u_X9_point_73 hB h).weak ⟨rfl, rfl, trivial⟩
  · have h := h.2 c1
    refine zu_aload_n d_8098_45 rfl (zs_ra _) ?_
    obtain ⟨k2, h⟩ := h
    refine zg_8_44 rfl d_8098_46 k2 ?_
    refine zu_iload d_8098_49 rfl ?_
    obtain ⟨b3, e4, h⟩ := h
    refine zs_stk1 (zs_rfe e4) ?_
    obtain ⟨k5, h⟩ := h
    refine zu_bald (k := 1) d_8098_51 rfl (Or.inl rfl) k5 ?_
    refine zu_iconst d_8098_52 zi_3 ?_
    refine zu_cmpne (t := 73) d_8098_53 rfl (fun c6 => ?_) (fun c6 => ?_)
    · have h := h.1 c6
      exact (u_X9_point_73 hB h).weak ⟨rfl, rfl, trivial⟩
    · have h := h.2 c6
      refine zu_aload_n d_8098_56 rfl (zs_ra _) ?_
      refine zg_8_93 rfl d_8098_57 k2 ?_
      refine zu_iload_n d_8098_60 rfl ?_
      refine zu_aload_n d_8098_61 rfl (zs_ra _) ?_
      refine zg_8_53 rfl d_8098_62 k2 ?_
      refine zu_iload d_8098_65 rfl ?_
      obtain ⟨b7, e8, h⟩ := h
      refine zs_stk1 (zs_rfe e8) ?_
      obtain ⟨k9, h⟩ := h
      refine zu_iald (k := 0) d_8098_67 rfl rfl k9 ?_
      refine zu_stk d_8098_68 rfl rfl ?_
      obtain ⟨b10, e11, h⟩ := h
      refine zs_stk2 (zs_rfe e11) ?_
      obtain ⟨k12, h⟩ := h
      obtain ⟨k13, h⟩ := h
      refine zu_iast (k := 0) d_8098_69 rfl rfl k13 k12 ?_
      generalize e15 : zs_si S b10 p1.toNatClampNeg ((-(zs_i S b7 p4.toNatClampNeg))) = S14
      have h := h S14 e15.symm
      have K16 : ∀ b, zs_K S14 b = zs_K S b := zs_Kt e15 (zs_Ksi _ _ _ _) (fun _ => rfl)
      exact (u_X9_point_70 hB h).weak trivial
def w_X9_point (X : zs_X) (d : Nat) (p0 : Nat) (p1 : Int32) (p2 : Int32) (p3 : Int32) (S : zs_T) (Q : zs_Q) : Prop :=
  (zs_K S p0 = some (.inl 8) ∧ ∃ b2, (zs_R S 8019 p0) = some b2 ∧ zs_A S b2 0 p2 ∧ (((zs_i S b2 p2.toNatClampNeg) ≤ 0 → w_X9_point_40 X d p0 p1 p3 (zs_i S b2 p2.toNatClampNeg) S Q) ∧ (¬ ((zs_i S b2 p2.toNatClampNeg) ≤ 0) → (∃ b6, (zs_R S 8024 p0) = some b6 ∧ zs_A S b6 1 (zs_i S b2 p2.toNatClampNeg) ∧ ((¬ (zs_i S b6 (zs_i S b2 p2.toNatClampNeg).toNatClampNeg) = (2 : Int32) → w_X9_point_40 X d p0 p1 p3 (zs_i S b2 p2.toNatClampNeg) S Q) ∧ (¬ (¬ (zs_i S b6 (zs_i S b2 p2.toNatClampNeg).toNatClampNeg) = (2 : Int32)) → (∃ b10, (zs_R S 8026 p0) = some b10 ∧ zs_A S b10 0 (zs_i S b2 p2.toNatClampNeg) ∧ ∃ b13, (zs_R S 8045 p0) = some b13 ∧ zs_A S b13 0 p1 ∧ ab_n0 X.1 ≤ b13 ∧ ∀ S17, S17 = zs_si S b13 p1.toNatClampNeg (zs_i S b10 (zs_i S b2 p2.toNatClampNeg).toNatClampNeg) → w_X9_point_37 X d  S17 Q)))))))
theorem u_X9_point {σ : Nat → Nat} {n0 : Nat} {bf : ab_B} {d : Nat} {p0 : Nat} {p1 : Int32} {p2 : Int32} {p3 : Int32} {S : zs_T} {Q : zs_Q} (hB : zt_B bf) (hd : 1 ≤ d) (h : w_X9_point (zx σ n0 bf) (d - 1) p0 p1 p2 p3 S Q) : zs_C (zx σ n0 bf) d 8098 [.ref p0, .int p1, .int p2, .int p3] S Q := by
  have hL : lv_args 0 [.ref p0, .int p1, .int p2, .int p3] = [(0, .ref p0), (1, .int p1), (2, .int p2), (3, .int p3)] := rfl
  refine zs_C.of1 (hB.2 8098 (by decide) (by decide)) hd (by rw [hL]; exact zs_sub_self _ (by exact ⟨rfl, rfl, rfl, rfl, trivial⟩)) ?_
  rw [hL]
  clear hL
  unfold w_X9_point at h
  refine zu_aload_n d_8098_0 rfl (zs_ra _) ?_
  obtain ⟨k1, h⟩ := h
  refine zg_8_37 rfl d_8098_1 k1 ?_
  refine zu_iload_n d_8098_4 rfl ?_
  obtain ⟨b2, e3, h⟩ := h
  refine zs_stk1 (zs_rfe e3) ?_
  obtain ⟨k4, h⟩ := h
  refine zu_iald (k := 0) d_8098_5 rfl rfl k4 ?_
  refine zu_istore d_8098_6 (zs_lt zq_8098 rfl) ?_
  refine zu_iload d_8098_8 rfl ?_
  refine zu_ifle (t := 40) d_8098_10 rfl (fun c5 => ?_) (fun c5 => ?_)
  · have h := h.1 c5
    exact (u_X9_point_40 hB h).weak ⟨rfl, rfl, rfl, rfl, trivial⟩
  · have h := h.2 c5
    refine zu_aload_n d_8098_13 rfl (zs_ra _) ?_
    refine zg_8_44 rfl d_8098_14 k1 ?_
    refine zu_iload d_8098_17 rfl ?_
    obtain ⟨b6, e7, h⟩ := h
    refine zs_stk1 (zs_rfe e7) ?_
    obtain ⟨k8, h⟩ := h
    refine zu_bald (k := 1) d_8098_19 rfl (Or.inl rfl) k8 ?_
    refine zu_iconst d_8098_20 zi_2 ?_
    refine zu_cmpne (t := 40) d_8098_21 rfl (fun c9 => ?_) (fun c9 => ?_)
    · have h := h.1 c9
      exact (u_X9_point_40 hB h).weak ⟨rfl, rfl, rfl, rfl, trivial⟩
    · have h := h.2 c9
      refine zu_aload_n d_8098_24 rfl (zs_ra _) ?_
      refine zg_8_93 rfl d_8098_25 k1 ?_
      refine zu_iload_n d_8098_28 rfl ?_
      refine zu_aload_n d_8098_29 rfl (zs_ra _) ?_
      refine zg_8_50 rfl d_8098_30 k1 ?_
      refine zu_iload d_8098_33 rfl ?_
      obtain ⟨b10, e11, h⟩ := h
      refine zs_stk1 (zs_rfe e11) ?_
      obtain ⟨k12, h⟩ := h
      refine zu_iald (k := 0) d_8098_35 rfl rfl k12 ?_
      obtain ⟨b13, e14, h⟩ := h
      refine zs_stk2 (zs_rfe e14) ?_
      obtain ⟨k15, h⟩ := h
      obtain ⟨k16, h⟩ := h
      refine zu_iast (k := 0) d_8098_36 rfl rfl k16 k15 ?_
      generalize e18 : zs_si S b13 p1.toNatClampNeg (zs_i S b10 (zs_i S b2 p2.toNatClampNeg).toNatClampNeg) = S17
      have h := h S17 e18.symm
      have K19 : ∀ b, zs_K S17 b = zs_K S b := zs_Kt e18 (zs_Ksi _ _ _ _) (fun _ => rfl)
      exact (u_X9_point_37 hB h).weak trivial
/-! SchemaPascalModel.spanLow()V -/
theorem zm_8099 {σ : Nat → Nat} {n0 : Nat} {bf : ab_B} : ab_code (zx σ n0 bf).1 8099 = prog_17_method_117_code := rfl
theorem zq_8099 {σ : Nat → Nat} {n0 : Nat} {bf : ab_B} : ab_maxL (zx σ n0 bf).1 8099 = 1 := rfl
theorem zr_8099 {σ : Nat → Nat} {n0 : Nat} {bf : ab_B} : ab_ret (zx σ n0 bf).1 8099 = (Option.none : Option Jvm.ClassFile.FieldType) := rfl
theorem d_8099_0 {σ : Nat → Nat} {n0 : Nat} {bf : ab_B} : decode (ab_code (zx σ n0 bf).1 8099) 0 = .ok (.aload_n 0, 1) := zd zm_8099 (by decide +kernel)
theorem d_8099_1 {σ : Nat → Nat} {n0 : Nat} {bf : ab_B} : decode (ab_code (zx σ n0 bf).1 8099) 1 = .ok (.iconst 0, 1) := zd zm_8099 (by decide +kernel)
theorem d_8099_2 {σ : Nat → Nat} {n0 : Nat} {bf : ab_B} : decode (ab_code (zx σ n0 bf).1 8099) 2 = .ok (.invokevirtual 884, 3) := zd zm_8099 (by decide +kernel)
theorem d_8099_5 {σ : Nat → Nat} {n0 : Nat} {bf : ab_B} : decode (ab_code (zx σ n0 bf).1 8099) 5 = .ok (.ifCond .ne 4, 3) := zd zm_8099 (by decide +kernel)
theorem d_8099_8 {σ : Nat → Nat} {n0 : Nat} {bf : ab_B} : decode (ab_code (zx σ n0 bf).1 8099) 8 = .ok (.return_, 1) := zd zm_8099 (by decide +kernel)
theorem d_8099_9 {σ : Nat → Nat} {n0 : Nat} {bf : ab_B} : decode (ab_code (zx σ n0 bf).1 8099) 9 = .ok (.aload_n 0, 1) := zd zm_8099 (by decide +kernel)
theorem d_8099_10 {σ : Nat → Nat} {n0 : Nat} {bf : ab_B} : decode (ab_code (zx σ n0 bf).1 8099) 10 = .ok (.bipush 21, 2) := zd zm_8099 (by decide +kernel)
theorem d_8099_12 {σ : Nat → Nat} {n0 : Nat} {bf : ab_B} : decode (ab_code (zx σ n0 bf).1 8099) 12 = .ok (.invokevirtual 535, 3) := zd zm_8099 (by decide +kernel)
theorem d_8099_15 {σ : Nat → Nat} {n0 : Nat} {bf : ab_B} : decode (ab_code (zx σ n0 bf).1 8099) 15 = .ok (.ifCond .ne 9, 3) := zd zm_8099 (by decide +kernel)
theorem d_8099_18 {σ : Nat → Nat} {n0 : Nat} {bf : ab_B} : decode (ab_code (zx σ n0 bf).1 8099) 18 = .ok (.aload_n 0, 1) := zd zm_8099 (by decide +kernel)
theorem d_8099_19 {σ : Nat → Nat} {n0 : Nat} {bf : ab_B} : decode (ab_code (zx σ n0 bf).1 8099) 19 = .ok (.iconst 2, 1) := zd zm_8099 (by decide +kernel)
theorem d_8099_20 {σ : Nat → Nat} {n0 : Nat} {bf : ab_B} : decode (ab_code (zx σ n0 bf).1 8099) 20 = .ok (.invokevirtual 541, 3) := zd zm_8099 (by decide +kernel)
theorem d_8099_23 {σ : Nat → Nat} {n0 : Nat} {bf : ab_B} : decode (ab_code (zx σ n0 bf).1 8099) 23 = .ok (.return_, 1) := zd zm_8099 (by decide +kernel)
theorem d_8099_24 {σ : Nat → Nat} {n0 : Nat} {bf : ab_B} : decode (ab_code (zx σ n0 bf).1 8099) 24 = .ok (.aload_n 0, 1) := zd zm_8099 (by decide +kernel)
theorem d_8099_25 {σ : Nat → Nat} {n0 : Nat} {bf : ab_B} : decode (ab_code (zx σ n0 bf).1 8099) 25 = .ok (.bipush 33, 2) := zd zm_8099 (by decide +kernel)
theorem d_8099_27 {σ : Nat → Nat} {n0 : Nat} {bf : ab_B} : decode (ab_code (zx σ n0 bf).1 8099) 27 = .ok (.aload_n 0, 1) := zd zm_8099 (by decide +kernel)
theorem d_8099_28 {σ : Nat → Nat} {n0 : Nat} {bf : ab_B} : decode (ab_code (zx σ n0 bf).1 8099) 28 = .ok (.aload_n 0, 1) := zd zm_8099 (by decide +kernel)
theorem d_8099_29 {σ : Nat → Nat} {n0 : Nat} {bf : ab_B} : decode (ab_code (zx σ n0 bf).1 8099) 29 = .ok (.getfield 191, 3) := zd zm_8099 (by decide +kernel)
theorem d_8099_32 {σ : Nat → Nat} {n0 : Nat} {bf : ab_B} : decode (ab_code (zx σ n0 bf).1 8099) 32 = .ok (.aload_n 0, 1) := zd zm_8099 (by decide +kernel)
theorem d_8099_33 {σ : Nat → Nat} {n0 : Nat} {bf : ab_B} : decode (ab_code (zx σ n0 bf).1 8099) 33 = .ok (.getfield 653, 3) := zd zm_8099 (by decide +kernel)
theorem d_8099_36 {σ : Nat → Nat} {n0 : Nat} {bf : ab_B} : decode (ab_code (zx σ n0 bf).1 8099) 36 = .ok (.iconst 1, 1) := zd zm_8099 (by decide +kernel)
theorem d_8099_37 {σ : Nat → Nat} {n0 : Nat} {bf : ab_B} : decode (ab_code (zx σ n0 bf).1 8099) 37 = .ok (.isub, 1) := zd zm_8099 (by decide +kernel)
theorem d_8099_38 {σ : Nat → Nat} {n0 : Nat} {bf : ab_B} : decode (ab_code (zx σ n0 bf).1 8099) 38 = .ok (.iaload, 1) := zd zm_8099 (by decide +kernel)
theorem d_8099_39 {σ : Nat → Nat} {n0 : Nat} {bf : ab_B} : decode (ab_code (zx σ n0 bf).1 8099) 39 = .ok (.invokevirtual 561, 3) := zd zm_8099 (by decide +kernel)
theorem d_8099_42 {σ : Nat → Nat} {n0 : Nat} {bf : ab_B} : decode (ab_code (zx σ n0 bf).1 8099) 42 = .ok (.iconst 0, 1) := zd zm_8099 (by decide +kernel)
theorem d_8099_43 {σ : Nat → Nat} {n0 : Nat} {bf : ab_B} : decode (ab_code (zx σ n0 bf).1 8099) 43 = .ok (.iconst 0, 1) := zd zm_8099 (by decide +kernel)
theorem d_8099_44 {σ : Nat → Nat} {n0 : Nat} {bf : ab_B} : decode (ab_code (zx σ n0 bf).1 8099) 44 = .ok (.invokevirtual 649, 3) := zd zm_8099 (by decide +kernel)
theorem d_8099_47 {σ : Nat → Nat} {n0 : Nat} {bf : ab_B} : decode (ab_code (zx σ n0 bf).1 8099) 47 = .ok (.aload_n 0, 1) := zd zm_8099 (by decide +kernel)
theorem d_8099_48 {σ : Nat → Nat} {n0 : Nat} {bf : ab_B} : decode (ab_code (zx σ n0 bf).1 8099) 48 = .ok (.iconst 5, 1) := zd zm_8099 (by decide +kernel)
theorem d_8099_49 {σ : Nat → Nat} {n0 : Nat} {bf : ab_B} : decode (ab_code (zx σ n0 bf).1 8099) 49 = .ok (.iconst 0, 1) := zd zm_8099 (by decide +kernel)
theorem d_8099_50 {σ : Nat → Nat} {n0 : Nat} {bf : ab_B} : decode (ab_code (zx σ n0 bf).1 8099) 50 = .ok (.iconst 0, 1) := zd zm_8099 (by decide +kernel)
theorem d_8099_51 {σ : Nat → Nat} {n0 : Nat} {bf : ab_B} : decode (ab_code (zx σ n0 bf).1 8099) 51 = .ok (.iconst 0, 1) := zd zm_8099 (by decide +kernel)
theorem d_8099_52 {σ : Nat → Nat} {n0 : Nat} {bf : ab_B} : decode (ab_code (zx σ n0 bf).1 8099) 52 = .ok (.invokevirtual 649, 3) := zd zm_8099 (by decide +kernel)
theorem d_8099_55 {σ : Nat → Nat} {n0 : Nat} {bf : ab_B} : decode (ab_code (zx σ n0 bf).1 8099) 55 = .ok (.aload_n 0, 1) := zd zm_8099 (by decide +kernel)
theorem d_8099_56 {σ : Nat → Nat} {n0 : Nat} {bf : ab_B} : decode (ab_code (zx σ n0 bf).1 8099) 56 = .ok (.invokevirtual 538, 3) := zd zm_8099 (by decide +kernel)
theorem d_8099_59 {σ : Nat → Nat} {n0 : Nat} {bf : ab_B} : decode (ab_code (zx σ n0 bf).1 8099) 59 = .ok (.return_, 1) := zd zm_8099 (by decide +kernel)
def w_X9_spanLow_47 (X : zs_X) (d : Nat) (p0 : Nat) (S : zs_T) (Q : zs_Q) : Prop :=
  (zs_K S p0 = some (.inl 8) ∧ zs_C X d 8030 [.ref p0, .int (5 : Int32), .int (0 : Int32), .int (0 : Int32), .int (0 : Int32)] S (zs_kV (fun S2 => (zs_K S2 p0 = some (.inl 8) ∧ zs_C X d 8014 [.ref p0] S2 (zs_kV (fun S5 => (Q (.returned none) S5)) Q))) Q))
theorem u_X9_spanLow_47 {σ : Nat → Nat} {n0 : Nat} {bf : ab_B} {d : Nat} {p0 : Nat} {S : zs_T} {Q : zs_Q} (hB : zt_B bf) (h : w_X9_spanLow_47 (zx σ n0 bf) d p0 S Q) : zs_U (zx σ n0 bf) d 8099 47 [(0, .ref p0)] [] S Q := by
  unfold w_X9_spanLow_47 at h
  refine zu_aload_n d_8099_47 rfl (zs_ra _) ?_
  refine zu_iconst d_8099_48 zi_5 ?_
  refine zu_iconst d_8099_49 zi_0 ?_
  refine zu_iconst d_8099_50 zi_0 ?_
  refine zu_iconst d_8099_51 zi_0 ?_
  obtain ⟨k1, h⟩ := h
  refine zc_8_649 (x0 := (5 : Int32)) (x1 := (0 : Int32)) (x2 := (0 : Int32)) (x3 := (0 : Int32)) hB rfl k1 d_8099_52 (Nat.le_of_ble_eq_true rfl) h (fun S2 h => ?_)
  refine zu_aload_n d_8099_55 rfl (zs_ra _) ?_
  obtain ⟨k4, h⟩ := h
  refine zc_8_538  hB rfl k4 d_8099_56 (Nat.le_of_ble_eq_true rfl) h (fun S5 h => ?_)
  exact zu_vret d_8099_59 zr_8099 h
def w_X9_spanLow (X : zs_X) (d : Nat) (p0 : Nat) (S : zs_T) (Q : zs_Q) : Prop :=
  (zs_K S p0 = some (.inl 8) ∧ zs_C X d 8100 [.ref p0, .int (0 : Int32)] S (zs_kI (fun v3 S2 => (((¬ v3 = 0 → (zs_K S2 p0 = some (.inl 8) ∧ zs_C X d 8029 [.ref p0, .int (21 : Int32)] S2 (zs_kI (fun v7 S6 => (((¬ v7 = 0 → (zs_K S6 p0 = some (.inl 8) ∧ ∃ b10, (zs_R S6 8091 p0) = some b10 ∧ zs_A S6 b10 0 ((zs_I S6 8097 p0) - (1 : Int32)) ∧ zs_C X d 8042 [.ref p0, .int (zs_i S6 b10 ((zs_I S6 8097 p0) - (1 : Int32)).toNatClampNeg)] S6 (zs_kI (fun v14 S13 => (zs_K S13 p0 = some (.inl 8) ∧ zs_C X d 8030 [.ref p0, .int (33 : Int32), .int v14, .int (0 : Int32), .int (0 : Int32)] S13 (zs_kV (fun S16 => w_X9_spanLow_47 X d p0 S16 Q) Q))) Q))) ∧ (¬ (¬ v7 = 0) → (zs_K S6 p0 = some (.inl 8) ∧ zs_C X d 8027 [.ref p0, .int (2 : Int32)] S6 (zs_kV (fun S19 => (Q (.returned none) S19)) Q)))))) Q))) ∧ (¬ (¬ v3 = 0) → (Q (.returned none) S2))))) Q))
theorem u_X9_spanLow {σ : Nat → Nat} {n0 : Nat} {bf : ab_B} {d : Nat} {p0 : Nat} {S : zs_T} {Q : zs_Q} (hB : zt_B bf) (hd : 1 ≤ d) (h : w_X9_spanLow (zx σ n0 bf) (d - 1) p0 S Q) : zs_C (zx σ n0 bf) d 8099 [.ref p0] S Q := by
  have hL : lv_args 0 [.ref p0] = [(0, .ref p0)] := rfl
  refine zs_C.of1 (hB.2 8099 (by decide) (by decide)) hd (by rw [hL]; exact zs_sub_self _ (by exact ⟨rfl, trivial⟩)) ?_
  rw [hL]
  clear hL
  unfold w_X9_spanLow at h
  refine zu_aload_n d_8099_0 rfl (zs_ra _) ?_
  refine zu_iconst d_8099_1 zi_0 ?_
  obtain ⟨k1, h⟩ := h
  refine zc_8_884 (x0 := (0 : Int32)) hB rfl k1 d_8099_2 (Nat.le_of_ble_eq_true rfl) h (fun v3 S2 h => ?_)
  refine zu_ifne (t := 9) d_8099_5 rfl (fun c4 => ?_) (fun c4 => ?_)
  · have h := h.1 c4
    refine zu_aload_n d_8099_9 rfl (zs_ra _) ?_
    refine zu_bipush d_8099_10 zj_21 ?_
    obtain ⟨k5, h⟩ := h
    refine zc_8_535 (x0 := (21 : Int32)) hB rfl k5 d_8099_12 (Nat.le_of_ble_eq_true rfl) h (fun v7 S6 h => ?_)
    refine zu_ifne (t := 24) d_8099_15 rfl (fun c8 => ?_) (fun c8 => ?_)
    · have h := h.1 c8
      refine zu_aload_n d_8099_24 rfl (zs_ra _) ?_
      refine zu_bipush d_8099_25 zj_33 ?_
      refine zu_aload_n d_8099_27 rfl (zs_ra _) ?_
      refine zu_aload_n d_8099_28 rfl (zs_ra _) ?_
      obtain ⟨k9, h⟩ := h
      refine zg_8_191 rfl d_8099_29 k9 ?_
      refine zu_aload_n d_8099_32 rfl (zs_ra _) ?_
      refine zg_8_653 rfl d_8099_33 k9 ?_
      refine zu_iconst d_8099_36 zi_1 ?_
      refine zu_stk d_8099_37 rfl rfl ?_
      obtain ⟨b10, e11, h⟩ := h
      refine zs_stk1 (zs_rfe e11) ?_
      obtain ⟨k12, h⟩ := h
      refine zu_iald (k := 0) d_8099_38 rfl rfl k12 ?_
      refine zc_8_561 (x0 := (zs_i S6 b10 ((zs_I S6 8097 p0) - (1 : Int32)).toNatClampNeg)) hB rfl k9 d_8099_39 (Nat.le_of_ble_eq_true rfl) h (fun v14 S13 h => ?_)
      refine zu_iconst d_8099_42 zi_0 ?_
      refine zu_iconst d_8099_43 zi_0 ?_
      obtain ⟨k15, h⟩ := h
      refine zc_8_649 (x0 := (33 : Int32)) (x1 := v14) (x2 := (0 : Int32)) (x3 := (0 : Int32)) hB rfl k15 d_8099_44 (Nat.le_of_ble_eq_true rfl) h (fun S16 h => ?_)
      exact (u_X9_spanLow_47 hB h).weak ⟨rfl, trivial⟩
    · have h := h.2 c8
      refine zu_aload_n d_8099_18 rfl (zs_ra _) ?_
      refine zu_iconst d_8099_19 zi_2 ?_
      obtain ⟨k18, h⟩ := h
      refine zc_8_541 (x0 := (2 : Int32)) hB rfl k18 d_8099_20 (Nat.le_of_ble_eq_true rfl) h (fun S19 h => ?_)
      exact zu_vret d_8099_23 zr_8099 h
  · have h := h.2 c4
    exact zu_vret d_8099_8 zr_8099 h
/-! SchemaPascalModel.typeSum(I)Z -/
theorem zm_8100 {σ : Nat → Nat} {n0 : Nat} {bf : ab_B} : ab_code (zx σ n0 bf).1 8100 = prog_17_method_115_code := rfl
theorem zq_8100 {σ : Nat → Nat} {n0 : Nat} {bf : ab_B} : ab_maxL (zx σ n0 bf).1 8100 = 6 := rfl
theorem zr_8100 {σ : Nat → Nat} {n0 : Nat} {bf : ab_B} : ab_ret (zx σ n0 bf).1 8100 = (Option.some Jvm.ClassFile.FieldType.boolean) := rfl
theorem d_8100_0 {σ : Nat → Nat} {n0 : Nat} {bf : ab_B} : decode (ab_code (zx σ n0 bf).1 8100) 0 = .ok (.aload_n 0, 1) := zd zm_8100 (by decide +kernel)
theorem d_8100_1 {σ : Nat → Nat} {n0 : Nat} {bf : ab_B} : decode (ab_code (zx σ n0 bf).1 8100) 1 = .ok (.invokevirtual 660, 3) := zd zm_8100 (by decide +kernel)
theorem d_8100_4 {σ : Nat → Nat} {n0 : Nat} {bf : ab_B} : decode (ab_code (zx σ n0 bf).1 8100) 4 = .ok (.aload_n 0, 1) := zd zm_8100 (by decide +kernel)
theorem d_8100_5 {σ : Nat → Nat} {n0 : Nat} {bf : ab_B} : decode (ab_code (zx σ n0 bf).1 8100) 5 = .ok (.getfield 444, 3) := zd zm_8100 (by decide +kernel)
theorem d_8100_8 {σ : Nat → Nat} {n0 : Nat} {bf : ab_B} : decode (ab_code (zx σ n0 bf).1 8100) 8 = .ok (.ifCond .le 5, 3) := zd zm_8100 (by decide +kernel)
theorem d_8100_11 {σ : Nat → Nat} {n0 : Nat} {bf : ab_B} : decode (ab_code (zx σ n0 bf).1 8100) 11 = .ok (.iconst 0, 1) := zd zm_8100 (by decide +kernel)
theorem d_8100_12 {σ : Nat → Nat} {n0 : Nat} {bf : ab_B} : decode (ab_code (zx σ n0 bf).1 8100) 12 = .ok (.ireturn, 1) := zd zm_8100 (by decide +kernel)
theorem d_8100_13 {σ : Nat → Nat} {n0 : Nat} {bf : ab_B} : decode (ab_code (zx σ n0 bf).1 8100) 13 = .ok (.aload_n 0, 1) := zd zm_8100 (by decide +kernel)
theorem d_8100_14 {σ : Nat → Nat} {n0 : Nat} {bf : ab_B} : decode (ab_code (zx σ n0 bf).1 8100) 14 = .ok (.getfield 191, 3) := zd zm_8100 (by decide +kernel)
theorem d_8100_17 {σ : Nat → Nat} {n0 : Nat} {bf : ab_B} : decode (ab_code (zx σ n0 bf).1 8100) 17 = .ok (.aload_n 0, 1) := zd zm_8100 (by decide +kernel)
theorem d_8100_18 {σ : Nat → Nat} {n0 : Nat} {bf : ab_B} : decode (ab_code (zx σ n0 bf).1 8100) 18 = .ok (.getfield 653, 3) := zd zm_8100 (by decide +kernel)
theorem d_8100_21 {σ : Nat → Nat} {n0 : Nat} {bf : ab_B} : decode (ab_code (zx σ n0 bf).1 8100) 21 = .ok (.iconst 1, 1) := zd zm_8100 (by decide +kernel)
theorem d_8100_22 {σ : Nat → Nat} {n0 : Nat} {bf : ab_B} : decode (ab_code (zx σ n0 bf).1 8100) 22 = .ok (.isub, 1) := zd zm_8100 (by decide +kernel)
theorem d_8100_23 {σ : Nat → Nat} {n0 : Nat} {bf : ab_B} : decode (ab_code (zx σ n0 bf).1 8100) 23 = .ok (.iaload, 1) := zd zm_8100 (by decide +kernel)
theorem d_8100_24 {σ : Nat → Nat} {n0 : Nat} {bf : ab_B} : decode (ab_code (zx σ n0 bf).1 8100) 24 = .ok (.istore_n 2, 1) := zd zm_8100 (by decide +kernel)
theorem d_8100_25 {σ : Nat → Nat} {n0 : Nat} {bf : ab_B} : decode (ab_code (zx σ n0 bf).1 8100) 25 = .ok (.aload_n 0, 1) := zd zm_8100 (by decide +kernel)
theorem d_8100_26 {σ : Nat → Nat} {n0 : Nat} {bf : ab_B} : decode (ab_code (zx σ n0 bf).1 8100) 26 = .ok (.getfield 197, 3) := zd zm_8100 (by decide +kernel)
theorem d_8100_29 {σ : Nat → Nat} {n0 : Nat} {bf : ab_B} : decode (ab_code (zx σ n0 bf).1 8100) 29 = .ok (.aload_n 0, 1) := zd zm_8100 (by decide +kernel)
theorem d_8100_30 {σ : Nat → Nat} {n0 : Nat} {bf : ab_B} : decode (ab_code (zx σ n0 bf).1 8100) 30 = .ok (.getfield 653, 3) := zd zm_8100 (by decide +kernel)
theorem d_8100_33 {σ : Nat → Nat} {n0 : Nat} {bf : ab_B} : decode (ab_code (zx σ n0 bf).1 8100) 33 = .ok (.iconst 1, 1) := zd zm_8100 (by decide +kernel)
theorem d_8100_34 {σ : Nat → Nat} {n0 : Nat} {bf : ab_B} : decode (ab_code (zx σ n0 bf).1 8100) 34 = .ok (.isub, 1) := zd zm_8100 (by decide +kernel)
theorem d_8100_35 {σ : Nat → Nat} {n0 : Nat} {bf : ab_B} : decode (ab_code (zx σ n0 bf).1 8100) 35 = .ok (.baload, 1) := zd zm_8100 (by decide +kernel)
theorem d_8100_36 {σ : Nat → Nat} {n0 : Nat} {bf : ab_B} : decode (ab_code (zx σ n0 bf).1 8100) 36 = .ok (.ifCond .eq 11, 3) := zd zm_8100 (by decide +kernel)
theorem d_8100_39 {σ : Nat → Nat} {n0 : Nat} {bf : ab_B} : decode (ab_code (zx σ n0 bf).1 8100) 39 = .ok (.aload_n 0, 1) := zd zm_8100 (by decide +kernel)
theorem d_8100_40 {σ : Nat → Nat} {n0 : Nat} {bf : ab_B} : decode (ab_code (zx σ n0 bf).1 8100) 40 = .ok (.iload_n 2, 1) := zd zm_8100 (by decide +kernel)
theorem d_8100_41 {σ : Nat → Nat} {n0 : Nat} {bf : ab_B} : decode (ab_code (zx σ n0 bf).1 8100) 41 = .ok (.invokevirtual 564, 3) := zd zm_8100 (by decide +kernel)
theorem d_8100_44 {σ : Nat → Nat} {n0 : Nat} {bf : ab_B} : decode (ab_code (zx σ n0 bf).1 8100) 44 = .ok (.ifCond .ne 10, 3) := zd zm_8100 (by decide +kernel)
theorem d_8100_47 {σ : Nat → Nat} {n0 : Nat} {bf : ab_B} : decode (ab_code (zx σ n0 bf).1 8100) 47 = .ok (.aload_n 0, 1) := zd zm_8100 (by decide +kernel)
theorem d_8100_48 {σ : Nat → Nat} {n0 : Nat} {bf : ab_B} : decode (ab_code (zx σ n0 bf).1 8100) 48 = .ok (.iconst 5, 1) := zd zm_8100 (by decide +kernel)
theorem d_8100_49 {σ : Nat → Nat} {n0 : Nat} {bf : ab_B} : decode (ab_code (zx σ n0 bf).1 8100) 49 = .ok (.invokevirtual 541, 3) := zd zm_8100 (by decide +kernel)
theorem d_8100_52 {σ : Nat → Nat} {n0 : Nat} {bf : ab_B} : decode (ab_code (zx σ n0 bf).1 8100) 52 = .ok (.iconst 0, 1) := zd zm_8100 (by decide +kernel)
theorem d_8100_53 {σ : Nat → Nat} {n0 : Nat} {bf : ab_B} : decode (ab_code (zx σ n0 bf).1 8100) 53 = .ok (.ireturn, 1) := zd zm_8100 (by decide +kernel)
theorem d_8100_54 {σ : Nat → Nat} {n0 : Nat} {bf : ab_B} : decode (ab_code (zx σ n0 bf).1 8100) 54 = .ok (.aload_n 0, 1) := zd zm_8100 (by decide +kernel)
theorem d_8100_55 {σ : Nat → Nat} {n0 : Nat} {bf : ab_B} : decode (ab_code (zx σ n0 bf).1 8100) 55 = .ok (.invokevirtual 877, 3) := zd zm_8100 (by decide +kernel)
theorem d_8100_58 {σ : Nat → Nat} {n0 : Nat} {bf : ab_B} : decode (ab_code (zx σ n0 bf).1 8100) 58 = .ok (.ifCond .ne 55, 3) := zd zm_8100 (by decide +kernel)
theorem d_8100_61 {σ : Nat → Nat} {n0 : Nat} {bf : ab_B} : decode (ab_code (zx σ n0 bf).1 8100) 61 = .ok (.aload_n 0, 1) := zd zm_8100 (by decide +kernel)
theorem d_8100_62 {σ : Nat → Nat} {n0 : Nat} {bf : ab_B} : decode (ab_code (zx σ n0 bf).1 8100) 62 = .ok (.getfield 200, 3) := zd zm_8100 (by decide +kernel)
theorem d_8100_65 {σ : Nat → Nat} {n0 : Nat} {bf : ab_B} : decode (ab_code (zx σ n0 bf).1 8100) 65 = .ok (.aload_n 0, 1) := zd zm_8100 (by decide +kernel)
theorem d_8100_66 {σ : Nat → Nat} {n0 : Nat} {bf : ab_B} : decode (ab_code (zx σ n0 bf).1 8100) 66 = .ok (.getfield 653, 3) := zd zm_8100 (by decide +kernel)
theorem d_8100_69 {σ : Nat → Nat} {n0 : Nat} {bf : ab_B} : decode (ab_code (zx σ n0 bf).1 8100) 69 = .ok (.iconst 1, 1) := zd zm_8100 (by decide +kernel)
theorem d_8100_70 {σ : Nat → Nat} {n0 : Nat} {bf : ab_B} : decode (ab_code (zx σ n0 bf).1 8100) 70 = .ok (.isub, 1) := zd zm_8100 (by decide +kernel)
theorem d_8100_71 {σ : Nat → Nat} {n0 : Nat} {bf : ab_B} : decode (ab_code (zx σ n0 bf).1 8100) 71 = .ok (.iaload, 1) := zd zm_8100 (by decide +kernel)
theorem d_8100_72 {σ : Nat → Nat} {n0 : Nat} {bf : ab_B} : decode (ab_code (zx σ n0 bf).1 8100) 72 = .ok (.istore_n 3, 1) := zd zm_8100 (by decide +kernel)
theorem d_8100_73 {σ : Nat → Nat} {n0 : Nat} {bf : ab_B} : decode (ab_code (zx σ n0 bf).1 8100) 73 = .ok (.aload_n 0, 1) := zd zm_8100 (by decide +kernel)
theorem d_8100_74 {σ : Nat → Nat} {n0 : Nat} {bf : ab_B} : decode (ab_code (zx σ n0 bf).1 8100) 74 = .ok (.getfield 206, 3) := zd zm_8100 (by decide +kernel)
theorem d_8100_77 {σ : Nat → Nat} {n0 : Nat} {bf : ab_B} : decode (ab_code (zx σ n0 bf).1 8100) 77 = .ok (.aload_n 0, 1) := zd zm_8100 (by decide +kernel)
theorem d_8100_78 {σ : Nat → Nat} {n0 : Nat} {bf : ab_B} : decode (ab_code (zx σ n0 bf).1 8100) 78 = .ok (.getfield 653, 3) := zd zm_8100 (by decide +kernel)
theorem d_8100_81 {σ : Nat → Nat} {n0 : Nat} {bf : ab_B} : decode (ab_code (zx σ n0 bf).1 8100) 81 = .ok (.iconst 1, 1) := zd zm_8100 (by decide +kernel)
theorem d_8100_82 {σ : Nat → Nat} {n0 : Nat} {bf : ab_B} : decode (ab_code (zx σ n0 bf).1 8100) 82 = .ok (.isub, 1) := zd zm_8100 (by decide +kernel)
theorem d_8100_83 {σ : Nat → Nat} {n0 : Nat} {bf : ab_B} : decode (ab_code (zx σ n0 bf).1 8100) 83 = .ok (.iaload, 1) := zd zm_8100 (by decide +kernel)
theorem d_8100_84 {σ : Nat → Nat} {n0 : Nat} {bf : ab_B} : decode (ab_code (zx σ n0 bf).1 8100) 84 = .ok (.istore 4, 2) := zd zm_8100 (by decide +kernel)
theorem d_8100_86 {σ : Nat → Nat} {n0 : Nat} {bf : ab_B} : decode (ab_code (zx σ n0 bf).1 8100) 86 = .ok (.aload_n 0, 1) := zd zm_8100 (by decide +kernel)
theorem d_8100_87 {σ : Nat → Nat} {n0 : Nat} {bf : ab_B} : decode (ab_code (zx σ n0 bf).1 8100) 87 = .ok (.invokevirtual 880, 3) := zd zm_8100 (by decide +kernel)
theorem d_8100_90 {σ : Nat → Nat} {n0 : Nat} {bf : ab_B} : decode (ab_code (zx σ n0 bf).1 8100) 90 = .ok (.l2i, 1) := zd zm_8100 (by decide +kernel)
theorem d_8100_91 {σ : Nat → Nat} {n0 : Nat} {bf : ab_B} : decode (ab_code (zx σ n0 bf).1 8100) 91 = .ok (.istore 5, 2) := zd zm_8100 (by decide +kernel)
theorem d_8100_93 {σ : Nat → Nat} {n0 : Nat} {bf : ab_B} : decode (ab_code (zx σ n0 bf).1 8100) 93 = .ok (.aload_n 0, 1) := zd zm_8100 (by decide +kernel)
theorem d_8100_94 {σ : Nat → Nat} {n0 : Nat} {bf : ab_B} : decode (ab_code (zx σ n0 bf).1 8100) 94 = .ok (.iload_n 2, 1) := zd zm_8100 (by decide +kernel)
theorem d_8100_95 {σ : Nat → Nat} {n0 : Nat} {bf : ab_B} : decode (ab_code (zx σ n0 bf).1 8100) 95 = .ok (.iconst 0, 1) := zd zm_8100 (by decide +kernel)
theorem d_8100_96 {σ : Nat → Nat} {n0 : Nat} {bf : ab_B} : decode (ab_code (zx σ n0 bf).1 8100) 96 = .ok (.iconst 1, 1) := zd zm_8100 (by decide +kernel)
theorem d_8100_97 {σ : Nat → Nat} {n0 : Nat} {bf : ab_B} : decode (ab_code (zx σ n0 bf).1 8100) 97 = .ok (.iload_n 3, 1) := zd zm_8100 (by decide +kernel)
theorem d_8100_98 {σ : Nat → Nat} {n0 : Nat} {bf : ab_B} : decode (ab_code (zx σ n0 bf).1 8100) 98 = .ok (.aload_n 0, 1) := zd zm_8100 (by decide +kernel)
theorem d_8100_99 {σ : Nat → Nat} {n0 : Nat} {bf : ab_B} : decode (ab_code (zx σ n0 bf).1 8100) 99 = .ok (.iconst 1, 1) := zd zm_8100 (by decide +kernel)
theorem d_8100_100 {σ : Nat → Nat} {n0 : Nat} {bf : ab_B} : decode (ab_code (zx σ n0 bf).1 8100) 100 = .ok (.iload 5, 2) := zd zm_8100 (by decide +kernel)
theorem d_8100_102 {σ : Nat → Nat} {n0 : Nat} {bf : ab_B} : decode (ab_code (zx σ n0 bf).1 8100) 102 = .ok (.iconst 0, 1) := zd zm_8100 (by decide +kernel)
theorem d_8100_103 {σ : Nat → Nat} {n0 : Nat} {bf : ab_B} : decode (ab_code (zx σ n0 bf).1 8100) 103 = .ok (.iload 4, 2) := zd zm_8100 (by decide +kernel)
theorem d_8100_105 {σ : Nat → Nat} {n0 : Nat} {bf : ab_B} : decode (ab_code (zx σ n0 bf).1 8100) 105 = .ok (.invokevirtual 656, 3) := zd zm_8100 (by decide +kernel)
theorem d_8100_108 {σ : Nat → Nat} {n0 : Nat} {bf : ab_B} : decode (ab_code (zx σ n0 bf).1 8100) 108 = .ok (.iload 4, 2) := zd zm_8100 (by decide +kernel)
theorem d_8100_110 {σ : Nat → Nat} {n0 : Nat} {bf : ab_B} : decode (ab_code (zx σ n0 bf).1 8100) 110 = .ok (.invokevirtual 699, 3) := zd zm_8100 (by decide +kernel)
theorem d_8100_113 {σ : Nat → Nat} {n0 : Nat} {bf : ab_B} : decode (ab_code (zx σ n0 bf).1 8100) 113 = .ok (.iload_n 1, 1) := zd zm_8100 (by decide +kernel)
theorem d_8100_114 {σ : Nat → Nat} {n0 : Nat} {bf : ab_B} : decode (ab_code (zx σ n0 bf).1 8100) 114 = .ok (.ifCond .le 17, 3) := zd zm_8100 (by decide +kernel)
theorem d_8100_117 {σ : Nat → Nat} {n0 : Nat} {bf : ab_B} : decode (ab_code (zx σ n0 bf).1 8100) 117 = .ok (.aload_n 0, 1) := zd zm_8100 (by decide +kernel)
theorem d_8100_118 {σ : Nat → Nat} {n0 : Nat} {bf : ab_B} : decode (ab_code (zx σ n0 bf).1 8100) 118 = .ok (.iload_n 2, 1) := zd zm_8100 (by decide +kernel)
theorem d_8100_119 {σ : Nat → Nat} {n0 : Nat} {bf : ab_B} : decode (ab_code (zx σ n0 bf).1 8100) 119 = .ok (.invokevirtual 561, 3) := zd zm_8100 (by decide +kernel)
theorem d_8100_122 {σ : Nat → Nat} {n0 : Nat} {bf : ab_B} : decode (ab_code (zx σ n0 bf).1 8100) 122 = .ok (.iload_n 1, 1) := zd zm_8100 (by decide +kernel)
theorem d_8100_123 {σ : Nat → Nat} {n0 : Nat} {bf : ab_B} : decode (ab_code (zx σ n0 bf).1 8100) 123 = .ok (.if_icmp .eq 8, 3) := zd zm_8100 (by decide +kernel)
theorem d_8100_126 {σ : Nat → Nat} {n0 : Nat} {bf : ab_B} : decode (ab_code (zx σ n0 bf).1 8100) 126 = .ok (.aload_n 0, 1) := zd zm_8100 (by decide +kernel)
theorem d_8100_127 {σ : Nat → Nat} {n0 : Nat} {bf : ab_B} : decode (ab_code (zx σ n0 bf).1 8100) 127 = .ok (.iconst 5, 1) := zd zm_8100 (by decide +kernel)
theorem d_8100_128 {σ : Nat → Nat} {n0 : Nat} {bf : ab_B} : decode (ab_code (zx σ n0 bf).1 8100) 128 = .ok (.invokevirtual 541, 3) := zd zm_8100 (by decide +kernel)
theorem d_8100_131 {σ : Nat → Nat} {n0 : Nat} {bf : ab_B} : decode (ab_code (zx σ n0 bf).1 8100) 131 = .ok (.aload_n 0, 1) := zd zm_8100 (by decide +kernel)
theorem d_8100_132 {σ : Nat → Nat} {n0 : Nat} {bf : ab_B} : decode (ab_code (zx σ n0 bf).1 8100) 132 = .ok (.getfield 444, 3) := zd zm_8100 (by decide +kernel)
theorem d_8100_135 {σ : Nat → Nat} {n0 : Nat} {bf : ab_B} : decode (ab_code (zx σ n0 bf).1 8100) 135 = .ok (.ifCond .ne 7, 3) := zd zm_8100 (by decide +kernel)
theorem d_8100_138 {σ : Nat → Nat} {n0 : Nat} {bf : ab_B} : decode (ab_code (zx σ n0 bf).1 8100) 138 = .ok (.iconst 1, 1) := zd zm_8100 (by decide +kernel)
theorem d_8100_139 {σ : Nat → Nat} {n0 : Nat} {bf : ab_B} : decode (ab_code (zx σ n0 bf).1 8100) 139 = .ok (.goto 4, 3) := zd zm_8100 (by decide +kernel)
theorem d_8100_142 {σ : Nat → Nat} {n0 : Nat} {bf : ab_B} : decode (ab_code (zx σ n0 bf).1 8100) 142 = .ok (.iconst 0, 1) := zd zm_8100 (by decide +kernel)
theorem d_8100_143 {σ : Nat → Nat} {n0 : Nat} {bf : ab_B} : decode (ab_code (zx σ n0 bf).1 8100) 143 = .ok (.ireturn, 1) := zd zm_8100 (by decide +kernel)
def w_X9_typeSum_131 (X : zs_X) (d : Nat) (p0 : Nat) (S : zs_T) (Q : zs_Q) : Prop :=
  (zs_K S p0 = some (.inl 8) ∧ ((¬ (zs_I S 8010 p0) = 0 → (Q (.returned (some (.int (0 : Int32)))) S)) ∧ (¬ (¬ (zs_I S 8010 p0) = 0) → (Q (.returned (some (.int (1 : Int32)))) S))))
theorem u_X9_typeSum_131 {σ : Nat → Nat} {n0 : Nat} {bf : ab_B} {d : Nat} {p0 : Nat} {S : zs_T} {Q : zs_Q} (hB : zt_B bf) (h : w_X9_typeSum_131 (zx σ n0 bf) d p0 S Q) : zs_U (zx σ n0 bf) d 8100 131 [(0, .ref p0)] [] S Q := by
  unfold w_X9_typeSum_131 at h
  refine zu_aload_n d_8100_131 rfl (zs_ra _) ?_
  obtain ⟨k1, h⟩ := h
  refine zg_8_444 rfl d_8100_132 k1 ?_
  refine zu_ifne (t := 142) d_8100_135 rfl (fun c2 => ?_) (fun c2 => ?_)
  · have h := h.1 c2
    refine zu_iconst d_8100_142 zi_0 ?_
    exact zu_iret d_8100_143 zr_8100 (zs_b_n (Or.inl rfl)) h
  · have h := h.2 c2
    refine zu_iconst d_8100_138 zi_1 ?_
    refine zu_goto (t := 143) d_8100_139 rfl ?_
    exact zu_iret d_8100_143 zr_8100 (zs_b_n (Or.inr rfl)) h
def w_X9_typeSum_113 (X : zs_X) (d : Nat) (p0 : Nat) (p1 : Int32) (p2 : Int32) (S : zs_T) (Q : zs_Q) : Prop :=
  (((p1 ≤ 0 → w_X9_typeSum_131 X d p0 S Q) ∧ (¬ (p1 ≤ 0) → (zs_K S p0 = some (.inl 8) ∧ zs_C X d 8042 [.ref p0, .int p2] S (zs_kI (fun v4 S3 => (((v4 = p1 → w_X9_typeSum_131 X d p0 S3 Q) ∧ (¬ (v4 = p1) → (zs_K S3 p0 = some (.inl 8) ∧ zs_C X d 8027 [.ref p0, .int (5 : Int32)] S3 (zs_kV (fun S7 => w_X9_typeSum_131 X d p0 S7 Q) Q)))))) Q)))))
theorem u_X9_typeSum_113 {σ : Nat → Nat} {n0 : Nat} {bf : ab_B} {d : Nat} {p0 : Nat} {p1 : Int32} {p2 : Int32} {S : zs_T} {Q : zs_Q} (hB : zt_B bf) (h : w_X9_typeSum_113 (zx σ n0 bf) d p0 p1 p2 S Q) : zs_U (zx σ n0 bf) d 8100 113 [(0, .ref p0), (1, .int p1), (2, .int p2)] [] S Q := by
  unfold w_X9_typeSum_113 at h
  refine zu_iload_n d_8100_113 rfl ?_
  refine zu_ifle (t := 131) d_8100_114 rfl (fun c1 => ?_) (fun c1 => ?_)
  · have h := h.1 c1
    exact (u_X9_typeSum_131 hB h).weak ⟨rfl, trivial⟩
  · have h := h.2 c1
    refine zu_aload_n d_8100_117 rfl (zs_ra _) ?_
    refine zu_iload_n d_8100_118 rfl ?_
    obtain ⟨k2, h⟩ := h
    refine zc_8_561 (x0 := p2) hB rfl k2 d_8100_119 (Nat.le_of_ble_eq_true rfl) h (fun v4 S3 h => ?_)
    refine zu_iload_n d_8100_122 rfl ?_
    refine zu_cmpeq (t := 131) d_8100_123 rfl (fun c5 => ?_) (fun c5 => ?_)
    · have h := h.1 c5
      exact (u_X9_typeSum_131 hB h).weak ⟨rfl, trivial⟩
    · have h := h.2 c5
      refine zu_aload_n d_8100_126 rfl (zs_ra _) ?_
      refine zu_iconst d_8100_127 zi_5 ?_
      obtain ⟨k6, h⟩ := h
      refine zc_8_541 (x0 := (5 : Int32)) hB rfl k6 d_8100_128 (Nat.le_of_ble_eq_true rfl) h (fun S7 h => ?_)
      exact (u_X9_typeSum_131 hB h).weak ⟨rfl, trivial⟩
def w_X9_typeSum_86 (X : zs_X) (d : Nat) (p0 : Nat) (p1 : Int32) (p2 : Int32) (p3 : Int32) (p4 : Int32) (S : zs_T) (Q : zs_Q) : Prop :=
  (zs_K S p0 = some (.inl 8) ∧ zs_C X d 8102 [.ref p0] S (zs_kJ (fun v3 S2 => (zs_K S2 p0 = some (.inl 8) ∧ zs_C X d 8012 [.ref p0, .int (1 : Int32), .int ((v3).toInt32), .int (0 : Int32), .int p4] S2 (zs_kI (fun v6 S5 => (zs_K S5 p0 = some (.inl 8) ∧ zs_C X d 8058 [.ref p0, .int p2, .int (0 : Int32), .int (1 : Int32), .int p3, .int v6, .int p4] S5 (zs_kV (fun S8 => w_X9_typeSum_113 X d p0 p1 p2 S8 Q) Q))) Q))) Q))
theorem u_X9_typeSum_86 {σ : Nat → Nat} {n0 : Nat} {bf : ab_B} {d : Nat} {p0 : Nat} {p1 : Int32} {p2 : Int32} {p3 : Int32} {p4 : Int32} {S : zs_T} {Q : zs_Q} (hB : zt_B bf) (h : w_X9_typeSum_86 (zx σ n0 bf) d p0 p1 p2 p3 p4 S Q) : zs_U (zx σ n0 bf) d 8100 86 [(0, .ref p0), (1, .int p1), (2, .int p2), (3, .int p3), (4, .int p4)] [] S Q := by
  unfold w_X9_typeSum_86 at h
  refine zu_aload_n d_8100_86 rfl (zs_ra _) ?_
  obtain ⟨k1, h⟩ := h
  refine zc_8_880  hB rfl k1 d_8100_87 (Nat.le_of_ble_eq_true rfl) h (fun v3 S2 h => ?_)
  refine zu_stk d_8100_90 rfl rfl ?_
  refine zu_istore d_8100_91 (zs_lt zq_8100 rfl) ?_
  refine zu_aload_n d_8100_93 rfl (zs_ra _) ?_
  refine zu_iload_n d_8100_94 rfl ?_
  refine zu_iconst d_8100_95 zi_0 ?_
  refine zu_iconst d_8100_96 zi_1 ?_
  refine zu_iload_n d_8100_97 rfl ?_
  refine zu_aload_n d_8100_98 rfl (zs_ra _) ?_
  refine zu_iconst d_8100_99 zi_1 ?_
  refine zu_iload d_8100_100 rfl ?_
  refine zu_iconst d_8100_102 zi_0 ?_
  refine zu_iload d_8100_103 rfl ?_
  obtain ⟨k4, h⟩ := h
  refine zc_8_656 (x0 := (1 : Int32)) (x1 := ((v3).toInt32)) (x2 := (0 : Int32)) (x3 := p4) hB rfl k4 d_8100_105 (Nat.le_of_ble_eq_true rfl) h (fun v6 S5 h => ?_)
  refine zu_iload d_8100_108 rfl ?_
  obtain ⟨k7, h⟩ := h
  refine zc_8_699 (x0 := p2) (x1 := (0 : Int32)) (x2 := (1 : Int32)) (x3 := p3) (x4 := v6) (x5 := p4) hB rfl k7 d_8100_110 (Nat.le_of_ble_eq_true rfl) h (fun S8 h => ?_)
  exact (u_X9_typeSum_113 hB h).weak ⟨rfl, rfl, rfl, trivial⟩
def w_X9_typeSum_47 (X : zs_X) (d : Nat) (p0 : Nat) (S : zs_T) (Q : zs_Q) : Prop :=
  (zs_K S p0 = some (.inl 8) ∧ zs_C X d 8027 [.ref p0, .int (5 : Int32)] S (zs_kV (fun S2 => (Q (.returned (some (.int (0 : Int32)))) S2)) Q))
theorem u_X9_typeSum_47 {σ : Nat → Nat} {n0 : Nat} {bf : ab_B} {d : Nat} {p0 : Nat} {S : zs_T} {Q : zs_Q} (hB : zt_B bf) (h : w_X9_typeSum_47 (zx σ n0 bf) d p0 S Q) : zs_U (zx σ n0 bf) d 8100 47 [(0, .ref p0)] [] S Q := by
  unfold w_X9_typeSum_47 at h
  refine zu_aload_n d_8100_47 rfl (zs_ra _) ?_
  refine zu_iconst d_8100_48 zi_5 ?_
  obtain ⟨k1, h⟩ := h
  refine zc_8_541 (x0 := (5 : Int32)) hB rfl k1 d_8100_49 (Nat.le_of_ble_eq_true rfl) h (fun S2 h => ?_)
  refine zu_iconst d_8100_52 zi_0 ?_
  exact zu_iret d_8100_53 zr_8100 (zs_b_n (Or.inl rfl)) h
def w_X9_typeSum_39 (X : zs_X) (d : Nat) (p0 : Nat) (p1 : Int32) (p2 : Int32) (S : zs_T) (Q : zs_Q) : Prop :=
  (zs_K S p0 = some (.inl 8) ∧ zs_C X d 8036 [.ref p0, .int p2] S (zs_kI (fun v3 S2 => (((¬ v3 = 0 → (zs_K S2 p0 = some (.inl 8) ∧ zs_C X d 8101 [.ref p0] S2 (zs_kI (fun v7 S6 => (((¬ v7 = 0 → w_X9_typeSum_113 X d p0 p1 p2 S6 Q) ∧ (¬ (¬ v7 = 0) → (zs_K S6 p0 = some (.inl 8) ∧ ∃ b10, (zs_R S6 8094 p0) = some b10 ∧ zs_A S6 b10 0 ((zs_I S6 8097 p0) - (1 : Int32)) ∧ ∃ b13, (zs_R S6 8096 p0) = some b13 ∧ zs_A S6 b13 0 ((zs_I S6 8097 p0) - (1 : Int32)) ∧ w_X9_typeSum_86 X d p0 p1 p2 (zs_i S6 b10 ((zs_I S6 8097 p0) - (1 : Int32)).toNatClampNeg) (zs_i S6 b13 ((zs_I S6 8097 p0) - (1 : Int32)).toNatClampNeg) S6 Q))))) Q))) ∧ (¬ (¬ v3 = 0) → w_X9_typeSum_47 X d p0 S2 Q)))) Q))
theorem u_X9_typeSum_39 {σ : Nat → Nat} {n0 : Nat} {bf : ab_B} {d : Nat} {p0 : Nat} {p1 : Int32} {p2 : Int32} {S : zs_T} {Q : zs_Q} (hB : zt_B bf) (h : w_X9_typeSum_39 (zx σ n0 bf) d p0 p1 p2 S Q) : zs_U (zx σ n0 bf) d 8100 39 [(0, .ref p0), (1, .int p1), (2, .int p2)] [] S Q := by
  unfold w_X9_typeSum_39 at h
  refine zu_aload_n d_8100_39 rfl (zs_ra _) ?_
  refine zu_iload_n d_8100_40 rfl ?_
  obtain ⟨k1, h⟩ := h
  refine zc_8_564 (x0 := p2) hB rfl k1 d_8100_41 (Nat.le_of_ble_eq_true rfl) h (fun v3 S2 h => ?_)
  refine zu_ifne (t := 54) d_8100_44 rfl (fun c4 => ?_) (fun c4 => ?_)
  · have h := h.1 c4
    refine zu_aload_n d_8100_54 rfl (zs_ra _) ?_
    obtain ⟨k5, h⟩ := h
    refine zc_8_877  hB rfl k5 d_8100_55 (Nat.le_of_ble_eq_true rfl) h (fun v7 S6 h => ?_)
    refine zu_ifne (t := 113) d_8100_58 rfl (fun c8 => ?_) (fun c8 => ?_)
    · have h := h.1 c8
      exact (u_X9_typeSum_113 hB h).weak ⟨rfl, rfl, rfl, trivial⟩
    · have h := h.2 c8
      refine zu_aload_n d_8100_61 rfl (zs_ra _) ?_
      obtain ⟨k9, h⟩ := h
      refine zg_8_200 rfl d_8100_62 k9 ?_
      refine zu_aload_n d_8100_65 rfl (zs_ra _) ?_
      refine zg_8_653 rfl d_8100_66 k9 ?_
      refine zu_iconst d_8100_69 zi_1 ?_
      refine zu_stk d_8100_70 rfl rfl ?_
      obtain ⟨b10, e11, h⟩ := h
      refine zs_stk1 (zs_rfe e11) ?_
      obtain ⟨k12, h⟩ := h
      refine zu_iald (k := 0) d_8100_71 rfl rfl k12 ?_
      refine zu_istore_n d_8100_72 (zs_lt zq_8100 rfl) ?_
      refine zu_aload_n d_8100_73 rfl (zs_ra _) ?_
      refine zg_8_206 rfl d_8100_74 k9 ?_
      refine zu_aload_n d_8100_77 rfl (zs_ra _) ?_
      refine zg_8_653 rfl d_8100_78 k9 ?_
      refine zu_iconst d_8100_81 zi_1 ?_
      refine zu_stk d_8100_82 rfl rfl ?_
      obtain ⟨b13, e14, h⟩ := h
      refine zs_stk1 (zs_rfe e14) ?_
      obtain ⟨k15, h⟩ := h
      refine zu_iald (k := 0) d_8100_83 rfl rfl k15 ?_
      refine zu_istore d_8100_84 (zs_lt zq_8100 rfl) ?_
      exact (u_X9_typeSum_86 hB h).weak ⟨rfl, rfl, rfl, rfl, rfl, trivial⟩
  · have h := h.2 c4
    exact (u_X9_typeSum_47 hB h).weak ⟨rfl, trivial⟩
def w_X9_typeSum (X : zs_X) (d : Nat) (p0 : Nat) (p1 : Int32) (S : zs_T) (Q : zs_Q) : Prop :=
  (zs_K S p0 = some (.inl 8) ∧ zs_C X d 8037 [.ref p0] S (zs_kV (fun S2 => (zs_K S2 p0 = some (.inl 8) ∧ (((zs_I S2 8010 p0) ≤ 0 → (∃ b6, (zs_R S2 8091 p0) = some b6 ∧ zs_A S2 b6 0 ((zs_I S2 8097 p0) - (1 : Int32)) ∧ ∃ b9, (zs_R S2 8093 p0) = some b9 ∧ zs_A S2 b9 2 ((zs_I S2 8097 p0) - (1 : Int32)) ∧ (((zs_i S2 b9 ((zs_I S2 8097 p0) - (1 : Int32)).toNatClampNeg) = 0 → w_X9_typeSum_47 X d p0 S2 Q) ∧ (¬ ((zs_i S2 b9 ((zs_I S2 8097 p0) - (1 : Int32)).toNatClampNeg) = 0) → w_X9_typeSum_39 X d p0 p1 (zs_i S2 b6 ((zs_I S2 8097 p0) - (1 : Int32)).toNatClampNeg) S2 Q)))) ∧ (¬ ((zs_I S2 8010 p0) ≤ 0) → (Q (.returned (some (.int (0 : Int32)))) S2))))) Q))
theorem u_X9_typeSum {σ : Nat → Nat} {n0 : Nat} {bf : ab_B} {d : Nat} {p0 : Nat} {p1 : Int32} {S : zs_T} {Q : zs_Q} (hB : zt_B bf) (hd : 1 ≤ d) (h : w_X9_typeSum (zx σ n0 bf) (d - 1) p0 p1 S Q) : zs_C (zx σ n0 bf) d 8100 [.ref p0, .int p1] S Q := by
  have hL : lv_args 0 [.ref p0, .int p1] = [(0, .ref p0), (1, .int p1)] := rfl
  refine zs_C.of1 (hB.2 8100 (by decide) (by decide)) hd (by rw [hL]; exact zs_sub_self _ (by exact ⟨rfl, rfl, trivial⟩)) ?_
  rw [hL]
  clear hL
  unfold w_X9_typeSum at h
  refine zu_aload_n d_8100_0 rfl (zs_ra _) ?_
  obtain ⟨k1, h⟩ := h
  refine zc_8_660  hB rfl k1 d_8100_1 (Nat.le_of_ble_eq_true rfl) h (fun S2 h => ?_)
  refine zu_aload_n d_8100_4 rfl (zs_ra _) ?_
  obtain ⟨k4, h⟩ := h
  refine zg_8_444 rfl d_8100_5 k4 ?_
  refine zu_ifle (t := 13) d_8100_8 rfl (fun c5 => ?_) (fun c5 => ?_)
  · have h := h.1 c5
    refine zu_aload_n d_8100_13 rfl (zs_ra _) ?_
    refine zg_8_191 rfl d_8100_14 k4 ?_
    refine zu_aload_n d_8100_17 rfl (zs_ra _) ?_
    refine zg_8_653 rfl d_8100_18 k4 ?_
    refine zu_iconst d_8100_21 zi_1 ?_
    refine zu_stk d_8100_22 rfl rfl ?_
    obtain ⟨b6, e7, h⟩ := h
    refine zs_stk1 (zs_rfe e7) ?_
    obtain ⟨k8, h⟩ := h
    refine zu_iald (k := 0) d_8100_23 rfl rfl k8 ?_
    refine zu_istore_n d_8100_24 (zs_lt zq_8100 rfl) ?_
    refine zu_aload_n d_8100_25 rfl (zs_ra _) ?_
    refine zg_8_197 rfl d_8100_26 k4 ?_
    refine zu_aload_n d_8100_29 rfl (zs_ra _) ?_
    refine zg_8_653 rfl d_8100_30 k4 ?_
    refine zu_iconst d_8100_33 zi_1 ?_
    refine zu_stk d_8100_34 rfl rfl ?_
    obtain ⟨b9, e10, h⟩ := h
    refine zs_stk1 (zs_rfe e10) ?_
    obtain ⟨k11, h⟩ := h
    refine zu_bald (k := 2) d_8100_35 rfl (Or.inr rfl) k11 ?_
    refine zu_ifeq (t := 47) d_8100_36 rfl (fun c12 => ?_) (fun c12 => ?_)
    · have h := h.1 c12
      exact (u_X9_typeSum_47 hB h).weak ⟨rfl, trivial⟩
    · have h := h.2 c12
      exact (u_X9_typeSum_39 hB h).weak ⟨rfl, rfl, rfl, trivial⟩
  · have h := h.2 c5
    refine zu_iconst d_8100_11 zi_0 ?_
    exact zu_iret d_8100_12 zr_8100 (zs_b_n (Or.inl rfl)) h
/-! SchemaPascalModel.hangsHere()Z -/
theorem zm_8101 {σ : Nat → Nat} {n0 : Nat} {bf : ab_B} : ab_code (zx σ n0 bf).1 8101 = prog_17_method_116_code := rfl
theorem zq_8101 {σ : Nat → Nat} {n0 : Nat} {bf : ab_B} : ab_maxL (zx σ n0 bf).1 8101 = 1 := rfl
theorem zr_8101 {σ : Nat → Nat} {n0 : Nat} {bf : ab_B} : ab_ret (zx σ n0 bf).1 8101 = (Option.some Jvm.ClassFile.FieldType.boolean) := rfl
theorem d_8101_0 {σ : Nat → Nat} {n0 : Nat} {bf : ab_B} : decode (ab_code (zx σ n0 bf).1 8101) 0 = .ok (.aload_n 0, 1) := zd zm_8101 (by decide +kernel)
theorem d_8101_1 {σ : Nat → Nat} {n0 : Nat} {bf : ab_B} : decode (ab_code (zx σ n0 bf).1 8101) 1 = .ok (.getfield 200, 3) := zd zm_8101 (by decide +kernel)
theorem d_8101_4 {σ : Nat → Nat} {n0 : Nat} {bf : ab_B} : decode (ab_code (zx σ n0 bf).1 8101) 4 = .ok (.aload_n 0, 1) := zd zm_8101 (by decide +kernel)
theorem d_8101_5 {σ : Nat → Nat} {n0 : Nat} {bf : ab_B} : decode (ab_code (zx σ n0 bf).1 8101) 5 = .ok (.getfield 653, 3) := zd zm_8101 (by decide +kernel)
theorem d_8101_8 {σ : Nat → Nat} {n0 : Nat} {bf : ab_B} : decode (ab_code (zx σ n0 bf).1 8101) 8 = .ok (.iconst 1, 1) := zd zm_8101 (by decide +kernel)
theorem d_8101_9 {σ : Nat → Nat} {n0 : Nat} {bf : ab_B} : decode (ab_code (zx σ n0 bf).1 8101) 9 = .ok (.isub, 1) := zd zm_8101 (by decide +kernel)
theorem d_8101_10 {σ : Nat → Nat} {n0 : Nat} {bf : ab_B} : decode (ab_code (zx σ n0 bf).1 8101) 10 = .ok (.iaload, 1) := zd zm_8101 (by decide +kernel)
theorem d_8101_11 {σ : Nat → Nat} {n0 : Nat} {bf : ab_B} : decode (ab_code (zx σ n0 bf).1 8101) 11 = .ok (.bipush 16, 2) := zd zm_8101 (by decide +kernel)
theorem d_8101_13 {σ : Nat → Nat} {n0 : Nat} {bf : ab_B} : decode (ab_code (zx σ n0 bf).1 8101) 13 = .ok (.iand, 1) := zd zm_8101 (by decide +kernel)
theorem d_8101_14 {σ : Nat → Nat} {n0 : Nat} {bf : ab_B} : decode (ab_code (zx σ n0 bf).1 8101) 14 = .ok (.ifCond .eq 7, 3) := zd zm_8101 (by decide +kernel)
theorem d_8101_17 {σ : Nat → Nat} {n0 : Nat} {bf : ab_B} : decode (ab_code (zx σ n0 bf).1 8101) 17 = .ok (.iconst 1, 1) := zd zm_8101 (by decide +kernel)
theorem d_8101_18 {σ : Nat → Nat} {n0 : Nat} {bf : ab_B} : decode (ab_code (zx σ n0 bf).1 8101) 18 = .ok (.goto 4, 3) := zd zm_8101 (by decide +kernel)
theorem d_8101_21 {σ : Nat → Nat} {n0 : Nat} {bf : ab_B} : decode (ab_code (zx σ n0 bf).1 8101) 21 = .ok (.iconst 0, 1) := zd zm_8101 (by decide +kernel)
theorem d_8101_22 {σ : Nat → Nat} {n0 : Nat} {bf : ab_B} : decode (ab_code (zx σ n0 bf).1 8101) 22 = .ok (.ireturn, 1) := zd zm_8101 (by decide +kernel)
def w_X9_hangsHere (X : zs_X) (d : Nat) (p0 : Nat) (S : zs_T) (Q : zs_Q) : Prop :=
  (zs_K S p0 = some (.inl 8) ∧ ∃ b2, (zs_R S 8094 p0) = some b2 ∧ zs_A S b2 0 ((zs_I S 8097 p0) - (1 : Int32)) ∧ ((((zs_i S b2 ((zs_I S 8097 p0) - (1 : Int32)).toNatClampNeg) &&& (16 : Int32)) = 0 → (Q (.returned (some (.int (0 : Int32)))) S)) ∧ (¬ (((zs_i S b2 ((zs_I S 8097 p0) - (1 : Int32)).toNatClampNeg) &&& (16 : Int32)) = 0) → (Q (.returned (some (.int (1 : Int32)))) S))))
theorem u_X9_hangsHere {σ : Nat → Nat} {n0 : Nat} {bf : ab_B} {d : Nat} {p0 : Nat} {S : zs_T} {Q : zs_Q} (hB : zt_B bf) (hd : 1 ≤ d) (h : w_X9_hangsHere (zx σ n0 bf) (d - 1) p0 S Q) : zs_C (zx σ n0 bf) d 8101 [.ref p0] S Q := by
  have hL : lv_args 0 [.ref p0] = [(0, .ref p0)] := rfl
  refine zs_C.of1 (hB.2 8101 (by decide) (by decide)) hd (by rw [hL]; exact zs_sub_self _ (by exact ⟨rfl, trivial⟩)) ?_
  rw [hL]
  clear hL
  unfold w_X9_hangsHere at h
  refine zu_aload_n d_8101_0 rfl (zs_ra _) ?_
  obtain ⟨k1, h⟩ := h
  refine zg_8_200 rfl d_8101_1 k1 ?_
  refine zu_aload_n d_8101_4 rfl (zs_ra _) ?_
  refine zg_8_653 rfl d_8101_5 k1 ?_
  refine zu_iconst d_8101_8 zi_1 ?_
  refine zu_stk d_8101_9 rfl rfl ?_
  obtain ⟨b2, e3, h⟩ := h
  refine zs_stk1 (zs_rfe e3) ?_
  obtain ⟨k4, h⟩ := h
  refine zu_iald (k := 0) d_8101_10 rfl rfl k4 ?_
  refine zu_bipush d_8101_11 zj_16 ?_
  refine zu_stk d_8101_13 rfl rfl ?_
  refine zu_ifeq (t := 21) d_8101_14 rfl (fun c5 => ?_) (fun c5 => ?_)
  · have h := h.1 c5
    refine zu_iconst d_8101_21 zi_0 ?_
    exact zu_iret d_8101_22 zr_8101 (zs_b_n (Or.inl rfl)) h
  · have h := h.2 c5
    refine zu_iconst d_8101_17 zi_1 ?_
    refine zu_goto (t := 22) d_8101_18 rfl ?_
    exact zu_iret d_8101_22 zr_8101 (zs_b_n (Or.inr rfl)) h
/-! SchemaPascalModel.takeKnown()J -/
theorem zm_8102 {σ : Nat → Nat} {n0 : Nat} {bf : ab_B} : ab_code (zx σ n0 bf).1 8102 = prog_17_method_94_code := rfl
theorem zq_8102 {σ : Nat → Nat} {n0 : Nat} {bf : ab_B} : ab_maxL (zx σ n0 bf).1 8102 = 4 := rfl
theorem zr_8102 {σ : Nat → Nat} {n0 : Nat} {bf : ab_B} : ab_ret (zx σ n0 bf).1 8102 = (Option.some Jvm.ClassFile.FieldType.long) := rfl
theorem d_8102_0 {σ : Nat → Nat} {n0 : Nat} {bf : ab_B} : decode (ab_code (zx σ n0 bf).1 8102) 0 = .ok (.aload_n 0, 1) := zd zm_8102 (by decide +kernel)
theorem d_8102_1 {σ : Nat → Nat} {n0 : Nat} {bf : ab_B} : decode (ab_code (zx σ n0 bf).1 8102) 1 = .ok (.getfield 596, 3) := zd zm_8102 (by decide +kernel)
theorem d_8102_4 {σ : Nat → Nat} {n0 : Nat} {bf : ab_B} : decode (ab_code (zx σ n0 bf).1 8102) 4 = .ok (.istore_n 1, 1) := zd zm_8102 (by decide +kernel)
theorem d_8102_5 {σ : Nat → Nat} {n0 : Nat} {bf : ab_B} : decode (ab_code (zx σ n0 bf).1 8102) 5 = .ok (.aload_n 0, 1) := zd zm_8102 (by decide +kernel)
theorem d_8102_6 {σ : Nat → Nat} {n0 : Nat} {bf : ab_B} : decode (ab_code (zx σ n0 bf).1 8102) 6 = .ok (.aload_n 0, 1) := zd zm_8102 (by decide +kernel)
theorem d_8102_7 {σ : Nat → Nat} {n0 : Nat} {bf : ab_B} : decode (ab_code (zx σ n0 bf).1 8102) 7 = .ok (.invokevirtual 777, 3) := zd zm_8102 (by decide +kernel)
theorem d_8102_10 {σ : Nat → Nat} {n0 : Nat} {bf : ab_B} : decode (ab_code (zx σ n0 bf).1 8102) 10 = .ok (.invokevirtual 780, 3) := zd zm_8102 (by decide +kernel)
theorem d_8102_13 {σ : Nat → Nat} {n0 : Nat} {bf : ab_B} : decode (ab_code (zx σ n0 bf).1 8102) 13 = .ok (.lstore_n 2, 1) := zd zm_8102 (by decide +kernel)
theorem d_8102_14 {σ : Nat → Nat} {n0 : Nat} {bf : ab_B} : decode (ab_code (zx σ n0 bf).1 8102) 14 = .ok (.aload_n 0, 1) := zd zm_8102 (by decide +kernel)
theorem d_8102_15 {σ : Nat → Nat} {n0 : Nat} {bf : ab_B} : decode (ab_code (zx σ n0 bf).1 8102) 15 = .ok (.iload_n 1, 1) := zd zm_8102 (by decide +kernel)
theorem d_8102_16 {σ : Nat → Nat} {n0 : Nat} {bf : ab_B} : decode (ab_code (zx σ n0 bf).1 8102) 16 = .ok (.putfield 596, 3) := zd zm_8102 (by decide +kernel)
theorem d_8102_19 {σ : Nat → Nat} {n0 : Nat} {bf : ab_B} : decode (ab_code (zx σ n0 bf).1 8102) 19 = .ok (.aload_n 0, 1) := zd zm_8102 (by decide +kernel)
theorem d_8102_20 {σ : Nat → Nat} {n0 : Nat} {bf : ab_B} : decode (ab_code (zx σ n0 bf).1 8102) 20 = .ok (.getfield 623, 3) := zd zm_8102 (by decide +kernel)
theorem d_8102_23 {σ : Nat → Nat} {n0 : Nat} {bf : ab_B} : decode (ab_code (zx σ n0 bf).1 8102) 23 = .ok (.ifCond .eq 9, 3) := zd zm_8102 (by decide +kernel)
theorem d_8102_26 {σ : Nat → Nat} {n0 : Nat} {bf : ab_B} : decode (ab_code (zx σ n0 bf).1 8102) 26 = .ok (.aload_n 0, 1) := zd zm_8102 (by decide +kernel)
theorem d_8102_27 {σ : Nat → Nat} {n0 : Nat} {bf : ab_B} : decode (ab_code (zx σ n0 bf).1 8102) 27 = .ok (.bipush 7, 2) := zd zm_8102 (by decide +kernel)
theorem d_8102_29 {σ : Nat → Nat} {n0 : Nat} {bf : ab_B} : decode (ab_code (zx σ n0 bf).1 8102) 29 = .ok (.invokevirtual 541, 3) := zd zm_8102 (by decide +kernel)
theorem d_8102_32 {σ : Nat → Nat} {n0 : Nat} {bf : ab_B} : decode (ab_code (zx σ n0 bf).1 8102) 32 = .ok (.aload_n 0, 1) := zd zm_8102 (by decide +kernel)
theorem d_8102_33 {σ : Nat → Nat} {n0 : Nat} {bf : ab_B} : decode (ab_code (zx σ n0 bf).1 8102) 33 = .ok (.dup, 1) := zd zm_8102 (by decide +kernel)
theorem d_8102_34 {σ : Nat → Nat} {n0 : Nat} {bf : ab_B} : decode (ab_code (zx σ n0 bf).1 8102) 34 = .ok (.getfield 653, 3) := zd zm_8102 (by decide +kernel)
theorem d_8102_37 {σ : Nat → Nat} {n0 : Nat} {bf : ab_B} : decode (ab_code (zx σ n0 bf).1 8102) 37 = .ok (.iconst 1, 1) := zd zm_8102 (by decide +kernel)
theorem d_8102_38 {σ : Nat → Nat} {n0 : Nat} {bf : ab_B} : decode (ab_code (zx σ n0 bf).1 8102) 38 = .ok (.isub, 1) := zd zm_8102 (by decide +kernel)
theorem d_8102_39 {σ : Nat → Nat} {n0 : Nat} {bf : ab_B} : decode (ab_code (zx σ n0 bf).1 8102) 39 = .ok (.putfield 653, 3) := zd zm_8102 (by decide +kernel)
theorem d_8102_42 {σ : Nat → Nat} {n0 : Nat} {bf : ab_B} : decode (ab_code (zx σ n0 bf).1 8102) 42 = .ok (.lload_n 2, 1) := zd zm_8102 (by decide +kernel)
theorem d_8102_43 {σ : Nat → Nat} {n0 : Nat} {bf : ab_B} : decode (ab_code (zx σ n0 bf).1 8102) 43 = .ok (.lreturn, 1) := zd zm_8102 (by decide +kernel)
def w_X9_takeKnown_32 (X : zs_X) (d : Nat) (p0 : Nat) (p2 : Int64) (S : zs_T) (Q : zs_Q) : Prop :=
  (zs_K S p0 = some (.inl 8) ∧ ab_n0 X.1 ≤ p0 ∧ ∀ S3, S3 = zs_sI S 8097 p0 ((zs_I S 8097 p0) - (1 : Int32)) → Q (.returned (some (.long p2))) S3)
theorem u_X9_takeKnown_32 {σ : Nat → Nat} {n0 : Nat} {bf : ab_B} {d : Nat} {p0 : Nat} {p2 : Int64} {S : zs_T} {Q : zs_Q} (hB : zt_B bf) (h : w_X9_takeKnown_32 (zx σ n0 bf) d p0 p2 S Q) : zs_U (zx σ n0 bf) d 8102 32 [(0, .ref p0), (2, .long p2)] [] S Q := by
  unfold w_X9_takeKnown_32 at h
  refine zu_aload_n d_8102_32 rfl (zs_ra _) ?_
  refine zu_dup d_8102_33 rfl ?_
  obtain ⟨k1, h⟩ := h
  refine zg_8_653 rfl d_8102_34 k1 ?_
  refine zu_iconst d_8102_37 zi_1 ?_
  refine zu_stk d_8102_38 rfl rfl ?_
  obtain ⟨k2, h⟩ := h
  refine zp_8_653 (v := ((zs_I S 8097 p0) - (1 : Int32))) rfl d_8102_39 k1 k2 ?_
  generalize e4 : zs_sI S 8097 p0 ((zs_I S 8097 p0) - (1 : Int32)) = S3
  have h := h S3 e4.symm
  have K5 : ∀ b, zs_K S3 b = zs_K S b := zs_Kt e4 (zs_KsI _ _ _ _) (fun _ => rfl)
  refine zu_lload_n d_8102_42 rfl ?_
  exact zu_lret d_8102_43 zr_8102 h
def w_X9_takeKnown (X : zs_X) (d : Nat) (p0 : Nat) (S : zs_T) (Q : zs_Q) : Prop :=
  (zs_K S p0 = some (.inl 8) ∧ zs_C X d 8103 [.ref p0] S (zs_kI (fun v3 S2 => (zs_K S2 p0 = some (.inl 8) ∧ zs_C X d 8104 [.ref p0, .int v3] S2 (zs_kJ (fun v6 S5 => (zs_K S5 p0 = some (.inl 8) ∧ ab_n0 X.1 ≤ p0 ∧ ∀ S9, S9 = zs_sI S5 8043 p0 (zs_I S 8043 p0) → (((zs_I S9 8080 p0) = 0 → w_X9_takeKnown_32 X d p0 v6 S9 Q) ∧ (¬ ((zs_I S9 8080 p0) = 0) → (zs_C X d 8027 [.ref p0, .int (7 : Int32)] S9 (zs_kV (fun S13 => w_X9_takeKnown_32 X d p0 v6 S13 Q) Q)))))) Q))) Q))
theorem u_X9_takeKnown {σ : Nat → Nat} {n0 : Nat} {bf : ab_B} {d : Nat} {p0 : Nat} {S : zs_T} {Q : zs_Q} (hB : zt_B bf) (hd : 1 ≤ d) (h : w_X9_takeKnown (zx σ n0 bf) (d - 1) p0 S Q) : zs_C (zx σ n0 bf) d 8102 [.ref p0] S Q := by
  have hL : lv_args 0 [.ref p0] = [(0, .ref p0)] := rfl
  refine zs_C.of1 (hB.2 8102 (by decide) (by decide)) hd (by rw [hL]; exact zs_sub_self _ (by exact ⟨rfl, trivial⟩)) ?_
  rw [hL]
  clear hL
  unfold w_X9_takeKnown at h
  refine zu_aload_n d_8102_0 rfl (zs_ra _) ?_
  obtain ⟨k1, h⟩ := h
  refine zg_8_596 rfl d_8102_1 k1 ?_
  refine zu_istore_n d_8102_4 (zs_lt zq_8102 rfl) ?_
  refine zu_aload_n d_8102_5 rfl (zs_ra _) ?_
  refine zu_aload_n d_8102_6 rfl (zs_ra _) ?_
  refine zc_8_777  hB rfl k1 d_8102_7 (Nat.le_of_ble_eq_true rfl) h (fun v3 S2 h => ?_)
  obtain ⟨k4, h⟩ := h
  refine zc_8_780 (x0 := v3) hB rfl k4 d_8102_10 (Nat.le_of_ble_eq_true rfl) h (fun v6 S5 h => ?_)
  refine zu_lstore_n d_8102_13 (zs_lt zq_8102 rfl) ?_
  refine zu_aload_n d_8102_14 rfl (zs_ra _) ?_
  refine zu_iload_n d_8102_15 rfl ?_
  obtain ⟨k7, h⟩ := h
  obtain ⟨k8, h⟩ := h
  refine zp_8_596 (v := (zs_I S 8043 p0)) rfl d_8102_16 k7 k8 ?_
  generalize e10 : zs_sI S5 8043 p0 (zs_I S 8043 p0) = S9
  have h := h S9 e10.symm
  have K11 : ∀ b, zs_K S9 b = zs_K S5 b := zs_Kt e10 (zs_KsI _ _ _ _) (fun _ => rfl)
  refine zu_aload_n d_8102_19 rfl (zs_ra _) ?_
  refine zg_8_623 rfl d_8102_20 ((K11 _).trans k7) ?_
  refine zu_ifeq (t := 32) d_8102_23 rfl (fun c12 => ?_) (fun c12 => ?_)
  · have h := h.1 c12
    exact (u_X9_takeKnown_32 hB h).weak ⟨rfl, rfl, trivial⟩
  · have h := h.2 c12
    refine zu_aload_n d_8102_26 rfl (zs_ra _) ?_
    refine zu_bipush d_8102_27 zj_7 ?_
    refine zc_8_541 (x0 := (7 : Int32)) hB rfl ((K11 _).trans k7) d_8102_29 (Nat.le_of_ble_eq_true rfl) h (fun S13 h => ?_)
    exact (u_X9_takeKnown_32 hB h).weak ⟨rfl, rfl, trivial⟩
/-! SchemaPascalModel.takeSum()I -/
theorem zm_8103 {σ : Nat → Nat} {n0 : Nat} {bf : ab_B} : ab_code (zx σ n0 bf).1 8103 = prog_17_method_93_code := rfl
theorem zq_8103 {σ : Nat → Nat} {n0 : Nat} {bf : ab_B} : ab_maxL (zx σ n0 bf).1 8103 = 3 := rfl
theorem zr_8103 {σ : Nat → Nat} {n0 : Nat} {bf : ab_B} : ab_ret (zx σ n0 bf).1 8103 = (Option.some Jvm.ClassFile.FieldType.int) := rfl
theorem d_8103_0 {σ : Nat → Nat} {n0 : Nat} {bf : ab_B} : decode (ab_code (zx σ n0 bf).1 8103) 0 = .ok (.aload_n 0, 1) := zd zm_8103 (by decide +kernel)
theorem d_8103_1 {σ : Nat → Nat} {n0 : Nat} {bf : ab_B} : decode (ab_code (zx σ n0 bf).1 8103) 1 = .ok (.getfield 596, 3) := zd zm_8103 (by decide +kernel)
theorem d_8103_4 {σ : Nat → Nat} {n0 : Nat} {bf : ab_B} : decode (ab_code (zx σ n0 bf).1 8103) 4 = .ok (.istore_n 1, 1) := zd zm_8103 (by decide +kernel)
theorem d_8103_5 {σ : Nat → Nat} {n0 : Nat} {bf : ab_B} : decode (ab_code (zx σ n0 bf).1 8103) 5 = .ok (.aload_n 0, 1) := zd zm_8103 (by decide +kernel)
theorem d_8103_6 {σ : Nat → Nat} {n0 : Nat} {bf : ab_B} : decode (ab_code (zx σ n0 bf).1 8103) 6 = .ok (.getfield 203, 3) := zd zm_8103 (by decide +kernel)
theorem d_8103_9 {σ : Nat → Nat} {n0 : Nat} {bf : ab_B} : decode (ab_code (zx σ n0 bf).1 8103) 9 = .ok (.aload_n 0, 1) := zd zm_8103 (by decide +kernel)
theorem d_8103_10 {σ : Nat → Nat} {n0 : Nat} {bf : ab_B} : decode (ab_code (zx σ n0 bf).1 8103) 10 = .ok (.getfield 653, 3) := zd zm_8103 (by decide +kernel)
theorem d_8103_13 {σ : Nat → Nat} {n0 : Nat} {bf : ab_B} : decode (ab_code (zx σ n0 bf).1 8103) 13 = .ok (.iconst 1, 1) := zd zm_8103 (by decide +kernel)
theorem d_8103_14 {σ : Nat → Nat} {n0 : Nat} {bf : ab_B} : decode (ab_code (zx σ n0 bf).1 8103) 14 = .ok (.isub, 1) := zd zm_8103 (by decide +kernel)
theorem d_8103_15 {σ : Nat → Nat} {n0 : Nat} {bf : ab_B} : decode (ab_code (zx σ n0 bf).1 8103) 15 = .ok (.iaload, 1) := zd zm_8103 (by decide +kernel)
theorem d_8103_16 {σ : Nat → Nat} {n0 : Nat} {bf : ab_B} : decode (ab_code (zx σ n0 bf).1 8103) 16 = .ok (.istore_n 2, 1) := zd zm_8103 (by decide +kernel)
theorem d_8103_17 {σ : Nat → Nat} {n0 : Nat} {bf : ab_B} : decode (ab_code (zx σ n0 bf).1 8103) 17 = .ok (.iload_n 2, 1) := zd zm_8103 (by decide +kernel)
theorem d_8103_18 {σ : Nat → Nat} {n0 : Nat} {bf : ab_B} : decode (ab_code (zx σ n0 bf).1 8103) 18 = .ok (.aload_n 0, 1) := zd zm_8103 (by decide +kernel)
theorem d_8103_19 {σ : Nat → Nat} {n0 : Nat} {bf : ab_B} : decode (ab_code (zx σ n0 bf).1 8103) 19 = .ok (.getfield 556, 3) := zd zm_8103 (by decide +kernel)
theorem d_8103_22 {σ : Nat → Nat} {n0 : Nat} {bf : ab_B} : decode (ab_code (zx σ n0 bf).1 8103) 22 = .ok (.if_icmp .ge 66, 3) := zd zm_8103 (by decide +kernel)
theorem d_8103_25 {σ : Nat → Nat} {n0 : Nat} {bf : ab_B} : decode (ab_code (zx σ n0 bf).1 8103) 25 = .ok (.aload_n 0, 1) := zd zm_8103 (by decide +kernel)
theorem d_8103_26 {σ : Nat → Nat} {n0 : Nat} {bf : ab_B} : decode (ab_code (zx σ n0 bf).1 8103) 26 = .ok (.getfield 84, 3) := zd zm_8103 (by decide +kernel)
theorem d_8103_29 {σ : Nat → Nat} {n0 : Nat} {bf : ab_B} : decode (ab_code (zx σ n0 bf).1 8103) 29 = .ok (.aload_n 0, 1) := zd zm_8103 (by decide +kernel)
theorem d_8103_30 {σ : Nat → Nat} {n0 : Nat} {bf : ab_B} : decode (ab_code (zx σ n0 bf).1 8103) 30 = .ok (.getfield 596, 3) := zd zm_8103 (by decide +kernel)
theorem d_8103_33 {σ : Nat → Nat} {n0 : Nat} {bf : ab_B} : decode (ab_code (zx σ n0 bf).1 8103) 33 = .ok (.aload_n 0, 1) := zd zm_8103 (by decide +kernel)
theorem d_8103_34 {σ : Nat → Nat} {n0 : Nat} {bf : ab_B} : decode (ab_code (zx σ n0 bf).1 8103) 34 = .ok (.getfield 72, 3) := zd zm_8103 (by decide +kernel)
theorem d_8103_37 {σ : Nat → Nat} {n0 : Nat} {bf : ab_B} : decode (ab_code (zx σ n0 bf).1 8103) 37 = .ok (.iload_n 2, 1) := zd zm_8103 (by decide +kernel)
theorem d_8103_38 {σ : Nat → Nat} {n0 : Nat} {bf : ab_B} : decode (ab_code (zx σ n0 bf).1 8103) 38 = .ok (.iaload, 1) := zd zm_8103 (by decide +kernel)
theorem d_8103_39 {σ : Nat → Nat} {n0 : Nat} {bf : ab_B} : decode (ab_code (zx σ n0 bf).1 8103) 39 = .ok (.iconst 1, 1) := zd zm_8103 (by decide +kernel)
theorem d_8103_40 {σ : Nat → Nat} {n0 : Nat} {bf : ab_B} : decode (ab_code (zx σ n0 bf).1 8103) 40 = .ok (.if_icmp .ne 7, 3) := zd zm_8103 (by decide +kernel)
theorem d_8103_43 {σ : Nat → Nat} {n0 : Nat} {bf : ab_B} : decode (ab_code (zx σ n0 bf).1 8103) 43 = .ok (.iconst 1, 1) := zd zm_8103 (by decide +kernel)
theorem d_8103_44 {σ : Nat → Nat} {n0 : Nat} {bf : ab_B} : decode (ab_code (zx σ n0 bf).1 8103) 44 = .ok (.goto 12, 3) := zd zm_8103 (by decide +kernel)
theorem d_8103_47 {σ : Nat → Nat} {n0 : Nat} {bf : ab_B} : decode (ab_code (zx σ n0 bf).1 8103) 47 = .ok (.aload_n 0, 1) := zd zm_8103 (by decide +kernel)
theorem d_8103_48 {σ : Nat → Nat} {n0 : Nat} {bf : ab_B} : decode (ab_code (zx σ n0 bf).1 8103) 48 = .ok (.getfield 72, 3) := zd zm_8103 (by decide +kernel)
theorem d_8103_51 {σ : Nat → Nat} {n0 : Nat} {bf : ab_B} : decode (ab_code (zx σ n0 bf).1 8103) 51 = .ok (.iload_n 2, 1) := zd zm_8103 (by decide +kernel)
theorem d_8103_52 {σ : Nat → Nat} {n0 : Nat} {bf : ab_B} : decode (ab_code (zx σ n0 bf).1 8103) 52 = .ok (.iaload, 1) := zd zm_8103 (by decide +kernel)
theorem d_8103_53 {σ : Nat → Nat} {n0 : Nat} {bf : ab_B} : decode (ab_code (zx σ n0 bf).1 8103) 53 = .ok (.bipush 20, 2) := zd zm_8103 (by decide +kernel)
theorem d_8103_55 {σ : Nat → Nat} {n0 : Nat} {bf : ab_B} : decode (ab_code (zx σ n0 bf).1 8103) 55 = .ok (.isub, 1) := zd zm_8103 (by decide +kernel)
theorem d_8103_56 {σ : Nat → Nat} {n0 : Nat} {bf : ab_B} : decode (ab_code (zx σ n0 bf).1 8103) 56 = .ok (.iastore, 1) := zd zm_8103 (by decide +kernel)
theorem d_8103_57 {σ : Nat → Nat} {n0 : Nat} {bf : ab_B} : decode (ab_code (zx σ n0 bf).1 8103) 57 = .ok (.aload_n 0, 1) := zd zm_8103 (by decide +kernel)
theorem d_8103_58 {σ : Nat → Nat} {n0 : Nat} {bf : ab_B} : decode (ab_code (zx σ n0 bf).1 8103) 58 = .ok (.getfield 87, 3) := zd zm_8103 (by decide +kernel)
theorem d_8103_61 {σ : Nat → Nat} {n0 : Nat} {bf : ab_B} : decode (ab_code (zx σ n0 bf).1 8103) 61 = .ok (.aload_n 0, 1) := zd zm_8103 (by decide +kernel)
theorem d_8103_62 {σ : Nat → Nat} {n0 : Nat} {bf : ab_B} : decode (ab_code (zx σ n0 bf).1 8103) 62 = .ok (.getfield 596, 3) := zd zm_8103 (by decide +kernel)
theorem d_8103_65 {σ : Nat → Nat} {n0 : Nat} {bf : ab_B} : decode (ab_code (zx σ n0 bf).1 8103) 65 = .ok (.aload_n 0, 1) := zd zm_8103 (by decide +kernel)
theorem d_8103_66 {σ : Nat → Nat} {n0 : Nat} {bf : ab_B} : decode (ab_code (zx σ n0 bf).1 8103) 66 = .ok (.getfield 75, 3) := zd zm_8103 (by decide +kernel)
theorem d_8103_69 {σ : Nat → Nat} {n0 : Nat} {bf : ab_B} : decode (ab_code (zx σ n0 bf).1 8103) 69 = .ok (.iload_n 2, 1) := zd zm_8103 (by decide +kernel)
theorem d_8103_70 {σ : Nat → Nat} {n0 : Nat} {bf : ab_B} : decode (ab_code (zx σ n0 bf).1 8103) 70 = .ok (.iaload, 1) := zd zm_8103 (by decide +kernel)
theorem d_8103_71 {σ : Nat → Nat} {n0 : Nat} {bf : ab_B} : decode (ab_code (zx σ n0 bf).1 8103) 71 = .ok (.iastore, 1) := zd zm_8103 (by decide +kernel)
theorem d_8103_72 {σ : Nat → Nat} {n0 : Nat} {bf : ab_B} : decode (ab_code (zx σ n0 bf).1 8103) 72 = .ok (.aload_n 0, 1) := zd zm_8103 (by decide +kernel)
theorem d_8103_73 {σ : Nat → Nat} {n0 : Nat} {bf : ab_B} : decode (ab_code (zx σ n0 bf).1 8103) 73 = .ok (.dup, 1) := zd zm_8103 (by decide +kernel)
theorem d_8103_74 {σ : Nat → Nat} {n0 : Nat} {bf : ab_B} : decode (ab_code (zx σ n0 bf).1 8103) 74 = .ok (.getfield 596, 3) := zd zm_8103 (by decide +kernel)
theorem d_8103_77 {σ : Nat → Nat} {n0 : Nat} {bf : ab_B} : decode (ab_code (zx σ n0 bf).1 8103) 77 = .ok (.iconst 1, 1) := zd zm_8103 (by decide +kernel)
theorem d_8103_78 {σ : Nat → Nat} {n0 : Nat} {bf : ab_B} : decode (ab_code (zx σ n0 bf).1 8103) 78 = .ok (.iadd, 1) := zd zm_8103 (by decide +kernel)
theorem d_8103_79 {σ : Nat → Nat} {n0 : Nat} {bf : ab_B} : decode (ab_code (zx σ n0 bf).1 8103) 79 = .ok (.putfield 596, 3) := zd zm_8103 (by decide +kernel)
theorem d_8103_82 {σ : Nat → Nat} {n0 : Nat} {bf : ab_B} : decode (ab_code (zx σ n0 bf).1 8103) 82 = .ok (.iinc 2 1, 3) := zd zm_8103 (by decide +kernel)
theorem d_8103_85 {σ : Nat → Nat} {n0 : Nat} {bf : ab_B} : decode (ab_code (zx σ n0 bf).1 8103) 85 = .ok (.goto (-68), 3) := zd zm_8103 (by decide +kernel)
theorem d_8103_88 {σ : Nat → Nat} {n0 : Nat} {bf : ab_B} : decode (ab_code (zx σ n0 bf).1 8103) 88 = .ok (.aload_n 0, 1) := zd zm_8103 (by decide +kernel)
theorem d_8103_89 {σ : Nat → Nat} {n0 : Nat} {bf : ab_B} : decode (ab_code (zx σ n0 bf).1 8103) 89 = .ok (.getfield 84, 3) := zd zm_8103 (by decide +kernel)
theorem d_8103_92 {σ : Nat → Nat} {n0 : Nat} {bf : ab_B} : decode (ab_code (zx σ n0 bf).1 8103) 92 = .ok (.aload_n 0, 1) := zd zm_8103 (by decide +kernel)
theorem d_8103_93 {σ : Nat → Nat} {n0 : Nat} {bf : ab_B} : decode (ab_code (zx σ n0 bf).1 8103) 93 = .ok (.getfield 596, 3) := zd zm_8103 (by decide +kernel)
theorem d_8103_96 {σ : Nat → Nat} {n0 : Nat} {bf : ab_B} : decode (ab_code (zx σ n0 bf).1 8103) 96 = .ok (.iconst 0, 1) := zd zm_8103 (by decide +kernel)
theorem d_8103_97 {σ : Nat → Nat} {n0 : Nat} {bf : ab_B} : decode (ab_code (zx σ n0 bf).1 8103) 97 = .ok (.iastore, 1) := zd zm_8103 (by decide +kernel)
theorem d_8103_98 {σ : Nat → Nat} {n0 : Nat} {bf : ab_B} : decode (ab_code (zx σ n0 bf).1 8103) 98 = .ok (.aload_n 0, 1) := zd zm_8103 (by decide +kernel)
theorem d_8103_99 {σ : Nat → Nat} {n0 : Nat} {bf : ab_B} : decode (ab_code (zx σ n0 bf).1 8103) 99 = .ok (.dup, 1) := zd zm_8103 (by decide +kernel)
theorem d_8103_100 {σ : Nat → Nat} {n0 : Nat} {bf : ab_B} : decode (ab_code (zx σ n0 bf).1 8103) 100 = .ok (.getfield 596, 3) := zd zm_8103 (by decide +kernel)
theorem d_8103_103 {σ : Nat → Nat} {n0 : Nat} {bf : ab_B} : decode (ab_code (zx σ n0 bf).1 8103) 103 = .ok (.iconst 1, 1) := zd zm_8103 (by decide +kernel)
theorem d_8103_104 {σ : Nat → Nat} {n0 : Nat} {bf : ab_B} : decode (ab_code (zx σ n0 bf).1 8103) 104 = .ok (.iadd, 1) := zd zm_8103 (by decide +kernel)
theorem d_8103_105 {σ : Nat → Nat} {n0 : Nat} {bf : ab_B} : decode (ab_code (zx σ n0 bf).1 8103) 105 = .ok (.putfield 596, 3) := zd zm_8103 (by decide +kernel)
theorem d_8103_108 {σ : Nat → Nat} {n0 : Nat} {bf : ab_B} : decode (ab_code (zx σ n0 bf).1 8103) 108 = .ok (.aload_n 0, 1) := zd zm_8103 (by decide +kernel)
theorem d_8103_109 {σ : Nat → Nat} {n0 : Nat} {bf : ab_B} : decode (ab_code (zx σ n0 bf).1 8103) 109 = .ok (.aload_n 0, 1) := zd zm_8103 (by decide +kernel)
theorem d_8103_110 {σ : Nat → Nat} {n0 : Nat} {bf : ab_B} : decode (ab_code (zx σ n0 bf).1 8103) 110 = .ok (.getfield 203, 3) := zd zm_8103 (by decide +kernel)
theorem d_8103_113 {σ : Nat → Nat} {n0 : Nat} {bf : ab_B} : decode (ab_code (zx σ n0 bf).1 8103) 113 = .ok (.aload_n 0, 1) := zd zm_8103 (by decide +kernel)
theorem d_8103_114 {σ : Nat → Nat} {n0 : Nat} {bf : ab_B} : decode (ab_code (zx σ n0 bf).1 8103) 114 = .ok (.getfield 653, 3) := zd zm_8103 (by decide +kernel)
theorem d_8103_117 {σ : Nat → Nat} {n0 : Nat} {bf : ab_B} : decode (ab_code (zx σ n0 bf).1 8103) 117 = .ok (.iconst 1, 1) := zd zm_8103 (by decide +kernel)
theorem d_8103_118 {σ : Nat → Nat} {n0 : Nat} {bf : ab_B} : decode (ab_code (zx σ n0 bf).1 8103) 118 = .ok (.isub, 1) := zd zm_8103 (by decide +kernel)
theorem d_8103_119 {σ : Nat → Nat} {n0 : Nat} {bf : ab_B} : decode (ab_code (zx σ n0 bf).1 8103) 119 = .ok (.iaload, 1) := zd zm_8103 (by decide +kernel)
theorem d_8103_120 {σ : Nat → Nat} {n0 : Nat} {bf : ab_B} : decode (ab_code (zx σ n0 bf).1 8103) 120 = .ok (.putfield 556, 3) := zd zm_8103 (by decide +kernel)
theorem d_8103_123 {σ : Nat → Nat} {n0 : Nat} {bf : ab_B} : decode (ab_code (zx σ n0 bf).1 8103) 123 = .ok (.iload_n 1, 1) := zd zm_8103 (by decide +kernel)
theorem d_8103_124 {σ : Nat → Nat} {n0 : Nat} {bf : ab_B} : decode (ab_code (zx σ n0 bf).1 8103) 124 = .ok (.ireturn, 1) := zd zm_8103 (by decide +kernel)
def w_X9_takeSum_108 (X : zs_X) (d : Nat) (p0 : Nat) (p1 : Int32) (S : zs_T) (Q : zs_Q) : Prop :=
  (zs_K S p0 = some (.inl 8) ∧ ∃ b2, (zs_R S 8095 p0) = some b2 ∧ zs_A S b2 0 ((zs_I S 8097 p0) - (1 : Int32)) ∧ ab_n0 X.1 ≤ p0 ∧ ∀ S6, S6 = zs_sI S 8040 p0 (zs_i S b2 ((zs_I S 8097 p0) - (1 : Int32)).toNatClampNeg) → Q (.returned (some (.int p1))) S6)
theorem u_X9_takeSum_108 {σ : Nat → Nat} {n0 : Nat} {bf : ab_B} {d : Nat} {p0 : Nat} {p1 : Int32} {S : zs_T} {Q : zs_Q} (hB : zt_B bf) (h : w_X9_takeSum_108 (zx σ n0 bf) d p0 p1 S Q) : zs_U (zx σ n0 bf) d 8103 108 [(0, .ref p0), (1, .int p1)] [] S Q := by
  unfold w_X9_takeSum_108 at h
  refine zu_aload_n d_8103_108 rfl (zs_ra _) ?_
  refine zu_aload_n d_8103_109 rfl (zs_ra _) ?_
  obtain ⟨k1, h⟩ := h
  refine zg_8_203 rfl d_8103_110 k1 ?_
  refine zu_aload_n d_8103_113 rfl (zs_ra _) ?_
  refine zg_8_653 rfl d_8103_114 k1 ?_
  refine zu_iconst d_8103_117 zi_1 ?_
  refine zu_stk d_8103_118 rfl rfl ?_
  obtain ⟨b2, e3, h⟩ := h
  refine zs_stk1 (zs_rfe e3) ?_
  obtain ⟨k4, h⟩ := h
  refine zu_iald (k := 0) d_8103_119 rfl rfl k4 ?_
  obtain ⟨k5, h⟩ := h
  refine zp_8_556 (v := (zs_i S b2 ((zs_I S 8097 p0) - (1 : Int32)).toNatClampNeg)) rfl d_8103_120 k1 k5 ?_
  generalize e7 : zs_sI S 8040 p0 (zs_i S b2 ((zs_I S 8097 p0) - (1 : Int32)).toNatClampNeg) = S6
  have h := h S6 e7.symm
  have K8 : ∀ b, zs_K S6 b = zs_K S b := zs_Kt e7 (zs_KsI _ _ _ _) (fun _ => rfl)
  refine zu_iload_n d_8103_123 rfl ?_
  exact zu_iret d_8103_124 zr_8103 rfl h
def w_X9_takeSum_82 (X : zs_X) (d : Nat) (p0 : Nat) (p1 : Int32) (p2 : Int32) (S : zs_T) (Q : zs_Q) : Prop :=
  (zs_U X d 8103 17 [(0, .ref p0), (1, .int p1), (2, .int (p2 + (1 : Int32)))] [] S Q)
theorem u_X9_takeSum_82 {σ : Nat → Nat} {n0 : Nat} {bf : ab_B} {d : Nat} {p0 : Nat} {p1 : Int32} {p2 : Int32} {S : zs_T} {Q : zs_Q} (hB : zt_B bf) (h : w_X9_takeSum_82 (zx σ n0 bf) d p0 p1 p2 S Q) : zs_U (zx σ n0 bf) d 8103 82 [(0, .ref p0), (1, .int p1), (2, .int p2)] [] S Q := by
  unfold w_X9_takeSum_82 at h
  refine zu_iinc d_8103_82 rfl zi_1 (zs_lt zq_8103 rfl) ?_
  refine zu_goto (t := 17) d_8103_85 rfl ?_
  exact h.weak ⟨rfl, rfl, rfl, trivial⟩
def w_X9_takeSum_56 (X : zs_X) (d : Nat) (p0 : Nat) (p1 : Int32) (p2 : Int32) (q0 : Option Nat) (q1 : Int32) (q2 : Int32) (S : zs_T) (Q : zs_Q) : Prop :=
  (∃ b1, q0 = some b1 ∧ zs_A S b1 0 q1 ∧ ab_n0 X.1 ≤ b1 ∧ ∀ S5, S5 = zs_si S b1 q1.toNatClampNeg q2 → zs_K S p0 = some (.inl 8) ∧ ∃ b9, (zs_R S5 8037 p0) = some b9 ∧ zs_A S b9 0 p2 ∧ ∃ b12, (zs_R S5 8042 p0) = some b12 ∧ zs_A S b12 0 (zs_I S5 8043 p0) ∧ ab_n0 X.1 ≤ b12 ∧ ∀ S16, S16 = zs_si S5 b12 (zs_I S5 8043 p0).toNatClampNeg (zs_i S5 b9 p2.toNatClampNeg) → ab_n0 X.1 ≤ p0 ∧ ∀ S20, S20 = zs_sI S16 8043 p0 ((zs_I S16 8043 p0) + (1 : Int32)) → w_X9_takeSum_82 X d p0 p1 p2 S20 Q)
theorem u_X9_takeSum_56 {σ : Nat → Nat} {n0 : Nat} {bf : ab_B} {d : Nat} {p0 : Nat} {p1 : Int32} {p2 : Int32} {q0 : Option Nat} {q1 : Int32} {q2 : Int32} {S : zs_T} {Q : zs_Q} (hB : zt_B bf) (h : w_X9_takeSum_56 (zx σ n0 bf) d p0 p1 p2 q0 q1 q2 S Q) : zs_U (zx σ n0 bf) d 8103 56 [(0, .ref p0), (1, .int p1), (2, .int p2)] [.int q2, .int q1, va_rf q0] S Q := by
  unfold w_X9_takeSum_56 at h
  obtain ⟨b1, e2, h⟩ := h
  refine zs_stk2 (zs_rfe e2) ?_
  obtain ⟨k3, h⟩ := h
  obtain ⟨k4, h⟩ := h
  refine zu_iast (k := 0) d_8103_56 rfl rfl k4 k3 ?_
  generalize e6 : zs_si S b1 q1.toNatClampNeg q2 = S5
  have h := h S5 e6.symm
  have K7 : ∀ b, zs_K S5 b = zs_K S b := zs_Kt e6 (zs_Ksi _ _ _ _) (fun _ => rfl)
  refine zu_aload_n d_8103_57 rfl (zs_ra _) ?_
  obtain ⟨k8, h⟩ := h
  refine zg_8_87 rfl d_8103_58 ((K7 _).trans k8) ?_
  refine zu_aload_n d_8103_61 rfl (zs_ra _) ?_
  refine zg_8_596 rfl d_8103_62 ((K7 _).trans k8) ?_
  refine zu_aload_n d_8103_65 rfl (zs_ra _) ?_
  refine zg_8_75 rfl d_8103_66 ((K7 _).trans k8) ?_
  refine zu_iload_n d_8103_69 rfl ?_
  obtain ⟨b9, e10, h⟩ := h
  refine zs_stk1 (zs_rfe e10) ?_
  obtain ⟨k11, h⟩ := h
  refine zu_iald (k := 0) d_8103_70 rfl rfl (zs_Ak K7 k11) ?_
  obtain ⟨b12, e13, h⟩ := h
  refine zs_stk2 (zs_rfe e13) ?_
  obtain ⟨k14, h⟩ := h
  obtain ⟨k15, h⟩ := h
  refine zu_iast (k := 0) d_8103_71 rfl rfl k15 (zs_Ak K7 k14) ?_
  generalize e17 : zs_si S5 b12 (zs_I S5 8043 p0).toNatClampNeg (zs_i S5 b9 p2.toNatClampNeg) = S16
  have h := h S16 e17.symm
  have K18 : ∀ b, zs_K S16 b = zs_K S b := zs_Kt e17 (zs_Ksi _ _ _ _) K7
  refine zu_aload_n d_8103_72 rfl (zs_ra _) ?_
  refine zu_dup d_8103_73 rfl ?_
  refine zg_8_596 rfl d_8103_74 ((K18 _).trans k8) ?_
  refine zu_iconst d_8103_77 zi_1 ?_
  refine zu_stk d_8103_78 rfl rfl ?_
  obtain ⟨k19, h⟩ := h
  refine zp_8_596 (v := ((zs_I S16 8043 p0) + (1 : Int32))) rfl d_8103_79 ((K18 _).trans k8) k19 ?_
  generalize e21 : zs_sI S16 8043 p0 ((zs_I S16 8043 p0) + (1 : Int32)) = S20
  have h := h S20 e21.symm
  have K22 : ∀ b, zs_K S20 b = zs_K S b := zs_Kt e21 (zs_KsI _ _ _ _) K18
  exact (u_X9_takeSum_82 hB h).weak ⟨rfl, rfl, rfl, trivial⟩
def w_X9_takeSum_17 (X : zs_X) (d : Nat) (p0 : Nat) (p1 : Int32) (p2 : Int32) (S : zs_T) (Q : zs_Q) : Prop :=
  (zs_K S p0 = some (.inl 8) ∧ (((zs_I S 8040 p0) ≤ p2 → (∃ b3, (zs_R S 8041 p0) = some b3 ∧ zs_A S b3 0 (zs_I S 8043 p0) ∧ ab_n0 X.1 ≤ b3 ∧ ∀ S7, S7 = zs_si S b3 (zs_I S 8043 p0).toNatClampNeg (0 : Int32) → ab_n0 X.1 ≤ p0 ∧ ∀ S11, S11 = zs_sI S7 8043 p0 ((zs_I S7 8043 p0) + (1 : Int32)) → w_X9_takeSum_108 X d p0 p1 S11 Q)) ∧ (¬ ((zs_I S 8040 p0) ≤ p2) → (∃ b14, (zs_R S 8036 p0) = some b14 ∧ zs_A S b14 0 p2 ∧ ((¬ (zs_i S b14 p2.toNatClampNeg) = (1 : Int32) → (w_X9_takeSum_56 X d p0 p1 p2 (zs_R S 8041 p0) (zs_I S 8043 p0) ((zs_i S b14 p2.toNatClampNeg) - (20 : Int32)) S Q)) ∧ (¬ (¬ (zs_i S b14 p2.toNatClampNeg) = (1 : Int32)) → (w_X9_takeSum_56 X d p0 p1 p2 (zs_R S 8041 p0) (zs_I S 8043 p0) (1 : Int32) S Q)))))))
theorem u_X9_takeSum_17 {σ : Nat → Nat} {n0 : Nat} {bf : ab_B} {d : Nat} {p0 : Nat} {p1 : Int32} {p2 : Int32} {S : zs_T} {Q : zs_Q} (hB : zt_B bf) (h : w_X9_takeSum_17 (zx σ n0 bf) d p0 p1 p2 S Q) : zs_U (zx σ n0 bf) d 8103 17 [(0, .ref p0), (1, .int p1), (2, .int p2)] [] S Q := by
  unfold w_X9_takeSum_17 at h
  refine zu_iload_n d_8103_17 rfl ?_
  refine zu_aload_n d_8103_18 rfl (zs_ra _) ?_
  obtain ⟨k1, h⟩ := h
  refine zg_8_556 rfl d_8103_19 k1 ?_
  refine zu_cmpge (t := 88) d_8103_22 rfl (fun c2 => ?_) (fun c2 => ?_)
  · have h := h.1 c2
    refine zu_aload_n d_8103_88 rfl (zs_ra _) ?_
    refine zg_8_84 rfl d_8103_89 k1 ?_
    refine zu_aload_n d_8103_92 rfl (zs_ra _) ?_
    refine zg_8_596 rfl d_8103_93 k1 ?_
    refine zu_iconst d_8103_96 zi_0 ?_
    obtain ⟨b3, e4, h⟩ := h
    refine zs_stk2 (zs_rfe e4) ?_
    obtain ⟨k5, h⟩ := h
    obtain ⟨k6, h⟩ := h
    refine zu_iast (k := 0) d_8103_97 rfl rfl k6 k5 ?_
    generalize e8 : zs_si S b3 (zs_I S 8043 p0).toNatClampNeg (0 : Int32) = S7
    have h := h S7 e8.symm
    have K9 : ∀ b, zs_K S7 b = zs_K S b := zs_Kt e8 (zs_Ksi _ _ _ _) (fun _ => rfl)
    refine zu_aload_n d_8103_98 rfl (zs_ra _) ?_
    refine zu_dup d_8103_99 rfl ?_
    refine zg_8_596 rfl d_8103_100 ((K9 _).trans k1) ?_
    refine zu_iconst d_8103_103 zi_1 ?_
    refine zu_stk d_8103_104 rfl rfl ?_
    obtain ⟨k10, h⟩ := h
    refine zp_8_596 (v := ((zs_I S7 8043 p0) + (1 : Int32))) rfl d_8103_105 ((K9 _).trans k1) k10 ?_
    generalize e12 : zs_sI S7 8043 p0 ((zs_I S7 8043 p0) + (1 : Int32)) = S11
    have h := h S11 e12.symm
    have K13 : ∀ b, zs_K S11 b = zs_K S b := zs_Kt e12 (zs_KsI _ _ _ _) K9
    exact (u_X9_takeSum_108 hB h).weak ⟨rfl, rfl, trivial⟩
  · have h := h.2 c2
    refine zu_aload_n d_8103_25 rfl (zs_ra _) ?_
    refine zg_8_84 rfl d_8103_26 k1 ?_
    refine zu_aload_n d_8103_29 rfl (zs_ra _) ?_
    refine zg_8_596 rfl d_8103_30 k1 ?_
    refine zu_aload_n d_8103_33 rfl (zs_ra _) ?_
    refine zg_8_72 rfl d_8103_34 k1 ?_
    refine zu_iload_n d_8103_37 rfl ?_
    obtain ⟨b14, e15, h⟩ := h
    refine zs_stk1 (zs_rfe e15) ?_
    obtain ⟨k16, h⟩ := h
    refine zu_iald (k := 0) d_8103_38 rfl rfl k16 ?_
    refine zu_iconst d_8103_39 zi_1 ?_
    refine zu_cmpne (t := 47) d_8103_40 rfl (fun c17 => ?_) (fun c17 => ?_)
    · have h := h.1 c17
      refine zu_aload_n d_8103_47 rfl (zs_ra _) ?_
      refine zg_8_72 rfl d_8103_48 k1 ?_
      refine zu_iload_n d_8103_51 rfl ?_
      refine zs_stk1 (zs_rfe e15) ?_
      refine zu_iald (k := 0) d_8103_52 rfl rfl k16 ?_
      refine zu_bipush d_8103_53 zj_20 ?_
      refine zu_stk d_8103_55 rfl rfl ?_
      exact (u_X9_takeSum_56 hB h).weak ⟨rfl, rfl, rfl, trivial⟩
    · have h := h.2 c17
      refine zu_iconst d_8103_43 zi_1 ?_
      refine zu_goto (t := 56) d_8103_44 rfl ?_
      exact (u_X9_takeSum_56 hB h).weak ⟨rfl, rfl, rfl, trivial⟩
def w_X9_takeSum (X : zs_X) (d : Nat) (p0 : Nat) (S : zs_T) (Q : zs_Q) : Prop :=
  (zs_K S p0 = some (.inl 8) ∧ ∃ b2, (zs_R S 8095 p0) = some b2 ∧ zs_A S b2 0 ((zs_I S 8097 p0) - (1 : Int32)) ∧ zs_U X d 8103 17 [(0, .ref p0), (1, .int (zs_I S 8043 p0)), (2, .int (zs_i S b2 ((zs_I S 8097 p0) - (1 : Int32)).toNatClampNeg))] [] S Q)
theorem u_X9_takeSum {σ : Nat → Nat} {n0 : Nat} {bf : ab_B} {d : Nat} {p0 : Nat} {S : zs_T} {Q : zs_Q} (hB : zt_B bf) (hd : 1 ≤ d) (h : w_X9_takeSum (zx σ n0 bf) (d - 1) p0 S Q) : zs_C (zx σ n0 bf) d 8103 [.ref p0] S Q := by
  have hL : lv_args 0 [.ref p0] = [(0, .ref p0)] := rfl
  refine zs_C.of1 (hB.2 8103 (by decide) (by decide)) hd (by rw [hL]; exact zs_sub_self _ (by exact ⟨rfl, trivial⟩)) ?_
  rw [hL]
  clear hL
  unfold w_X9_takeSum at h
  refine zu_aload_n d_8103_0 rfl (zs_ra _) ?_
  obtain ⟨k1, h⟩ := h
  refine zg_8_596 rfl d_8103_1 k1 ?_
  refine zu_istore_n d_8103_4 (zs_lt zq_8103 rfl) ?_
  refine zu_aload_n d_8103_5 rfl (zs_ra _) ?_
  refine zg_8_203 rfl d_8103_6 k1 ?_
  refine zu_aload_n d_8103_9 rfl (zs_ra _) ?_
  refine zg_8_653 rfl d_8103_10 k1 ?_
  refine zu_iconst d_8103_13 zi_1 ?_
  refine zu_stk d_8103_14 rfl rfl ?_
  obtain ⟨b2, e3, h⟩ := h
  refine zs_stk1 (zs_rfe e3) ?_
  obtain ⟨k4, h⟩ := h
  refine zu_iald (k := 0) d_8103_15 rfl rfl k4 ?_
  refine zu_istore_n d_8103_16 (zs_lt zq_8103 rfl) ?_
  exact h.weak ⟨rfl, rfl, rfl, trivial⟩
