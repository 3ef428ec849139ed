/-! printed by gen_all.py: what the methods compute -/
set_option maxRecDepth 100000
/-! SchemaPascal$Shapes.leaf(LSchemaPascal$Node;I)J -/
theorem zm_2002 {σ : Nat → Nat} {n0 : Nat} {bf : ab_B} : ab_code (zx σ n0 bf).1 2002 = prog_11_method_3_code := rfl
theorem zq_2002 {σ : Nat → Nat} {n0 : Nat} {bf : ab_B} : ab_maxL (zx σ n0 bf).1 2002 = 11 := rfl
theorem zr_2002 {σ : Nat → Nat} {n0 : Nat} {bf : ab_B} : ab_ret (zx σ n0 bf).1 2002 = (Option.some Jvm.ClassFile.FieldType.long) := rfl
theorem d_2002_0 {σ : Nat → Nat} {n0 : Nat} {bf : ab_B} : decode (ab_code (zx σ n0 bf).1 2002) 0 = .ok (.aload_n 1, 1) := zd zm_2002 (by decide +kernel)
theorem d_2002_1 {σ : Nat → Nat} {n0 : Nat} {bf : ab_B} : decode (ab_code (zx σ n0 bf).1 2002) 1 = .ok (.getfield 19, 3) := zd zm_2002 (by decide +kernel)
theorem d_2002_4 {σ : Nat → Nat} {n0 : Nat} {bf : ab_B} : decode (ab_code (zx σ n0 bf).1 2002) 4 = .ok (.lookupswitch 113 #[(0, 36), (7, 54), (10, 41)], 36) := zd zm_2002 (by decide +kernel)
theorem d_2002_40 {σ : Nat → Nat} {n0 : Nat} {bf : ab_B} : decode (ab_code (zx σ n0 bf).1 2002) 40 = .ok (.aload_n 1, 1) := zd zm_2002 (by decide +kernel)
theorem d_2002_41 {σ : Nat → Nat} {n0 : Nat} {bf : ab_B} : decode (ab_code (zx σ n0 bf).1 2002) 41 = .ok (.getfield 50, 3) := zd zm_2002 (by decide +kernel)
theorem d_2002_44 {σ : Nat → Nat} {n0 : Nat} {bf : ab_B} : decode (ab_code (zx σ n0 bf).1 2002) 44 = .ok (.lreturn, 1) := zd zm_2002 (by decide +kernel)
theorem d_2002_45 {σ : Nat → Nat} {n0 : Nat} {bf : ab_B} : decode (ab_code (zx σ n0 bf).1 2002) 45 = .ok (.aload_n 0, 1) := zd zm_2002 (by decide +kernel)
theorem d_2002_46 {σ : Nat → Nat} {n0 : Nat} {bf : ab_B} : decode (ab_code (zx σ n0 bf).1 2002) 46 = .ok (.getfield 9, 3) := zd zm_2002 (by decide +kernel)
theorem d_2002_49 {σ : Nat → Nat} {n0 : Nat} {bf : ab_B} : decode (ab_code (zx σ n0 bf).1 2002) 49 = .ok (.iload_n 2, 1) := zd zm_2002 (by decide +kernel)
theorem d_2002_50 {σ : Nat → Nat} {n0 : Nat} {bf : ab_B} : decode (ab_code (zx σ n0 bf).1 2002) 50 = .ok (.aload_n 1, 1) := zd zm_2002 (by decide +kernel)
theorem d_2002_51 {σ : Nat → Nat} {n0 : Nat} {bf : ab_B} : decode (ab_code (zx σ n0 bf).1 2002) 51 = .ok (.getfield 50, 3) := zd zm_2002 (by decide +kernel)
theorem d_2002_54 {σ : Nat → Nat} {n0 : Nat} {bf : ab_B} : decode (ab_code (zx σ n0 bf).1 2002) 54 = .ok (.l2i, 1) := zd zm_2002 (by decide +kernel)
theorem d_2002_55 {σ : Nat → Nat} {n0 : Nat} {bf : ab_B} : decode (ab_code (zx σ n0 bf).1 2002) 55 = .ok (.iadd, 1) := zd zm_2002 (by decide +kernel)
theorem d_2002_56 {σ : Nat → Nat} {n0 : Nat} {bf : ab_B} : decode (ab_code (zx σ n0 bf).1 2002) 56 = .ok (.laload, 1) := zd zm_2002 (by decide +kernel)
theorem d_2002_57 {σ : Nat → Nat} {n0 : Nat} {bf : ab_B} : decode (ab_code (zx σ n0 bf).1 2002) 57 = .ok (.lreturn, 1) := zd zm_2002 (by decide +kernel)
theorem d_2002_58 {σ : Nat → Nat} {n0 : Nat} {bf : ab_B} : decode (ab_code (zx σ n0 bf).1 2002) 58 = .ok (.aload_n 0, 1) := zd zm_2002 (by decide +kernel)
theorem d_2002_59 {σ : Nat → Nat} {n0 : Nat} {bf : ab_B} : decode (ab_code (zx σ n0 bf).1 2002) 59 = .ok (.aload_n 1, 1) := zd zm_2002 (by decide +kernel)
theorem d_2002_60 {σ : Nat → Nat} {n0 : Nat} {bf : ab_B} : decode (ab_code (zx σ n0 bf).1 2002) 60 = .ok (.getfield 24, 3) := zd zm_2002 (by decide +kernel)
theorem d_2002_63 {σ : Nat → Nat} {n0 : Nat} {bf : ab_B} : decode (ab_code (zx σ n0 bf).1 2002) 63 = .ok (.iload_n 2, 1) := zd zm_2002 (by decide +kernel)
theorem d_2002_64 {σ : Nat → Nat} {n0 : Nat} {bf : ab_B} : decode (ab_code (zx σ n0 bf).1 2002) 64 = .ok (.invokevirtual 38, 3) := zd zm_2002 (by decide +kernel)
theorem d_2002_67 {σ : Nat → Nat} {n0 : Nat} {bf : ab_B} : decode (ab_code (zx σ n0 bf).1 2002) 67 = .ok (.lstore_n 3, 1) := zd zm_2002 (by decide +kernel)
theorem d_2002_68 {σ : Nat → Nat} {n0 : Nat} {bf : ab_B} : decode (ab_code (zx σ n0 bf).1 2002) 68 = .ok (.lload_n 3, 1) := zd zm_2002 (by decide +kernel)
theorem d_2002_69 {σ : Nat → Nat} {n0 : Nat} {bf : ab_B} : decode (ab_code (zx σ n0 bf).1 2002) 69 = .ok (.ldc2_w 41, 3) := zd zm_2002 (by decide +kernel)
theorem d_2002_72 {σ : Nat → Nat} {n0 : Nat} {bf : ab_B} : decode (ab_code (zx σ n0 bf).1 2002) 72 = .ok (.lcmp, 1) := zd zm_2002 (by decide +kernel)
theorem d_2002_73 {σ : Nat → Nat} {n0 : Nat} {bf : ab_B} : decode (ab_code (zx σ n0 bf).1 2002) 73 = .ok (.ifCond .eq 22, 3) := zd zm_2002 (by decide +kernel)
theorem d_2002_76 {σ : Nat → Nat} {n0 : Nat} {bf : ab_B} : decode (ab_code (zx σ n0 bf).1 2002) 76 = .ok (.aload_n 1, 1) := zd zm_2002 (by decide +kernel)
theorem d_2002_77 {σ : Nat → Nat} {n0 : Nat} {bf : ab_B} : decode (ab_code (zx σ n0 bf).1 2002) 77 = .ok (.getfield 43, 3) := zd zm_2002 (by decide +kernel)
theorem d_2002_80 {σ : Nat → Nat} {n0 : Nat} {bf : ab_B} : decode (ab_code (zx σ n0 bf).1 2002) 80 = .ok (.bipush 45, 2) := zd zm_2002 (by decide +kernel)
theorem d_2002_82 {σ : Nat → Nat} {n0 : Nat} {bf : ab_B} : decode (ab_code (zx σ n0 bf).1 2002) 82 = .ok (.if_icmp .eq 17, 3) := zd zm_2002 (by decide +kernel)
theorem d_2002_85 {σ : Nat → Nat} {n0 : Nat} {bf : ab_B} : decode (ab_code (zx σ n0 bf).1 2002) 85 = .ok (.aload_n 1, 1) := zd zm_2002 (by decide +kernel)
theorem d_2002_86 {σ : Nat → Nat} {n0 : Nat} {bf : ab_B} : decode (ab_code (zx σ n0 bf).1 2002) 86 = .ok (.getfield 43, 3) := zd zm_2002 (by decide +kernel)
theorem d_2002_89 {σ : Nat → Nat} {n0 : Nat} {bf : ab_B} : decode (ab_code (zx σ n0 bf).1 2002) 89 = .ok (.sipush 1032, 3) := zd zm_2002 (by decide +kernel)
theorem d_2002_92 {σ : Nat → Nat} {n0 : Nat} {bf : ab_B} : decode (ab_code (zx σ n0 bf).1 2002) 92 = .ok (.if_icmp .eq 7, 3) := zd zm_2002 (by decide +kernel)
theorem d_2002_95 {σ : Nat → Nat} {n0 : Nat} {bf : ab_B} : decode (ab_code (zx σ n0 bf).1 2002) 95 = .ok (.lload_n 3, 1) := zd zm_2002 (by decide +kernel)
theorem d_2002_96 {σ : Nat → Nat} {n0 : Nat} {bf : ab_B} : decode (ab_code (zx σ n0 bf).1 2002) 96 = .ok (.goto 20, 3) := zd zm_2002 (by decide +kernel)
theorem d_2002_99 {σ : Nat → Nat} {n0 : Nat} {bf : ab_B} : decode (ab_code (zx σ n0 bf).1 2002) 99 = .ok (.aload_n 1, 1) := zd zm_2002 (by decide +kernel)
theorem d_2002_100 {σ : Nat → Nat} {n0 : Nat} {bf : ab_B} : decode (ab_code (zx σ n0 bf).1 2002) 100 = .ok (.getfield 43, 3) := zd zm_2002 (by decide +kernel)
theorem d_2002_103 {σ : Nat → Nat} {n0 : Nat} {bf : ab_B} : decode (ab_code (zx σ n0 bf).1 2002) 103 = .ok (.bipush 45, 2) := zd zm_2002 (by decide +kernel)
theorem d_2002_105 {σ : Nat → Nat} {n0 : Nat} {bf : ab_B} : decode (ab_code (zx σ n0 bf).1 2002) 105 = .ok (.if_icmp .ne 8, 3) := zd zm_2002 (by decide +kernel)
theorem d_2002_108 {σ : Nat → Nat} {n0 : Nat} {bf : ab_B} : decode (ab_code (zx σ n0 bf).1 2002) 108 = .ok (.lload_n 3, 1) := zd zm_2002 (by decide +kernel)
theorem d_2002_109 {σ : Nat → Nat} {n0 : Nat} {bf : ab_B} : decode (ab_code (zx σ n0 bf).1 2002) 109 = .ok (.lneg, 1) := zd zm_2002 (by decide +kernel)
theorem d_2002_110 {σ : Nat → Nat} {n0 : Nat} {bf : ab_B} : decode (ab_code (zx σ n0 bf).1 2002) 110 = .ok (.goto 6, 3) := zd zm_2002 (by decide +kernel)
theorem d_2002_113 {σ : Nat → Nat} {n0 : Nat} {bf : ab_B} : decode (ab_code (zx σ n0 bf).1 2002) 113 = .ok (.lconst 1, 1) := zd zm_2002 (by decide +kernel)
theorem d_2002_114 {σ : Nat → Nat} {n0 : Nat} {bf : ab_B} : decode (ab_code (zx σ n0 bf).1 2002) 114 = .ok (.lload_n 3, 1) := zd zm_2002 (by decide +kernel)
theorem d_2002_115 {σ : Nat → Nat} {n0 : Nat} {bf : ab_B} : decode (ab_code (zx σ n0 bf).1 2002) 115 = .ok (.lsub, 1) := zd zm_2002 (by decide +kernel)
theorem d_2002_116 {σ : Nat → Nat} {n0 : Nat} {bf : ab_B} : decode (ab_code (zx σ n0 bf).1 2002) 116 = .ok (.lreturn, 1) := zd zm_2002 (by decide +kernel)
theorem d_2002_117 {σ : Nat → Nat} {n0 : Nat} {bf : ab_B} : decode (ab_code (zx σ n0 bf).1 2002) 117 = .ok (.aload_n 0, 1) := zd zm_2002 (by decide +kernel)
theorem d_2002_118 {σ : Nat → Nat} {n0 : Nat} {bf : ab_B} : decode (ab_code (zx σ n0 bf).1 2002) 118 = .ok (.aload_n 1, 1) := zd zm_2002 (by decide +kernel)
theorem d_2002_119 {σ : Nat → Nat} {n0 : Nat} {bf : ab_B} : decode (ab_code (zx σ n0 bf).1 2002) 119 = .ok (.getfield 24, 3) := zd zm_2002 (by decide +kernel)
theorem d_2002_122 {σ : Nat → Nat} {n0 : Nat} {bf : ab_B} : decode (ab_code (zx σ n0 bf).1 2002) 122 = .ok (.iload_n 2, 1) := zd zm_2002 (by decide +kernel)
theorem d_2002_123 {σ : Nat → Nat} {n0 : Nat} {bf : ab_B} : decode (ab_code (zx σ n0 bf).1 2002) 123 = .ok (.invokevirtual 38, 3) := zd zm_2002 (by decide +kernel)
theorem d_2002_126 {σ : Nat → Nat} {n0 : Nat} {bf : ab_B} : decode (ab_code (zx σ n0 bf).1 2002) 126 = .ok (.lstore 5, 2) := zd zm_2002 (by decide +kernel)
theorem d_2002_128 {σ : Nat → Nat} {n0 : Nat} {bf : ab_B} : decode (ab_code (zx σ n0 bf).1 2002) 128 = .ok (.lload 5, 2) := zd zm_2002 (by decide +kernel)
theorem d_2002_130 {σ : Nat → Nat} {n0 : Nat} {bf : ab_B} : decode (ab_code (zx σ n0 bf).1 2002) 130 = .ok (.ldc2_w 41, 3) := zd zm_2002 (by decide +kernel)
theorem d_2002_133 {σ : Nat → Nat} {n0 : Nat} {bf : ab_B} : decode (ab_code (zx σ n0 bf).1 2002) 133 = .ok (.lcmp, 1) := zd zm_2002 (by decide +kernel)
theorem d_2002_134 {σ : Nat → Nat} {n0 : Nat} {bf : ab_B} : decode (ab_code (zx σ n0 bf).1 2002) 134 = .ok (.ifCond .eq 12, 3) := zd zm_2002 (by decide +kernel)
theorem d_2002_137 {σ : Nat → Nat} {n0 : Nat} {bf : ab_B} : decode (ab_code (zx σ n0 bf).1 2002) 137 = .ok (.aload_n 1, 1) := zd zm_2002 (by decide +kernel)
theorem d_2002_138 {σ : Nat → Nat} {n0 : Nat} {bf : ab_B} : decode (ab_code (zx σ n0 bf).1 2002) 138 = .ok (.getfield 43, 3) := zd zm_2002 (by decide +kernel)
theorem d_2002_141 {σ : Nat → Nat} {n0 : Nat} {bf : ab_B} : decode (ab_code (zx σ n0 bf).1 2002) 141 = .ok (.bipush 9, 2) := zd zm_2002 (by decide +kernel)
theorem d_2002_143 {σ : Nat → Nat} {n0 : Nat} {bf : ab_B} : decode (ab_code (zx σ n0 bf).1 2002) 143 = .ok (.if_icmp .ne 6, 3) := zd zm_2002 (by decide +kernel)
theorem d_2002_146 {σ : Nat → Nat} {n0 : Nat} {bf : ab_B} : decode (ab_code (zx σ n0 bf).1 2002) 146 = .ok (.lload 5, 2) := zd zm_2002 (by decide +kernel)
theorem d_2002_148 {σ : Nat → Nat} {n0 : Nat} {bf : ab_B} : decode (ab_code (zx σ n0 bf).1 2002) 148 = .ok (.lreturn, 1) := zd zm_2002 (by decide +kernel)
theorem d_2002_149 {σ : Nat → Nat} {n0 : Nat} {bf : ab_B} : decode (ab_code (zx σ n0 bf).1 2002) 149 = .ok (.aload_n 1, 1) := zd zm_2002 (by decide +kernel)
theorem d_2002_150 {σ : Nat → Nat} {n0 : Nat} {bf : ab_B} : decode (ab_code (zx σ n0 bf).1 2002) 150 = .ok (.getfield 43, 3) := zd zm_2002 (by decide +kernel)
theorem d_2002_153 {σ : Nat → Nat} {n0 : Nat} {bf : ab_B} : decode (ab_code (zx σ n0 bf).1 2002) 153 = .ok (.bipush 10, 2) := zd zm_2002 (by decide +kernel)
theorem d_2002_155 {σ : Nat → Nat} {n0 : Nat} {bf : ab_B} : decode (ab_code (zx σ n0 bf).1 2002) 155 = .ok (.if_icmp .ne 7, 3) := zd zm_2002 (by decide +kernel)
theorem d_2002_158 {σ : Nat → Nat} {n0 : Nat} {bf : ab_B} : decode (ab_code (zx σ n0 bf).1 2002) 158 = .ok (.aconst_null, 1) := zd zm_2002 (by decide +kernel)
theorem d_2002_159 {σ : Nat → Nat} {n0 : Nat} {bf : ab_B} : decode (ab_code (zx σ n0 bf).1 2002) 159 = .ok (.goto 13, 3) := zd zm_2002 (by decide +kernel)
theorem d_2002_162 {σ : Nat → Nat} {n0 : Nat} {bf : ab_B} : decode (ab_code (zx σ n0 bf).1 2002) 162 = .ok (.aload_n 1, 1) := zd zm_2002 (by decide +kernel)
theorem d_2002_163 {σ : Nat → Nat} {n0 : Nat} {bf : ab_B} : decode (ab_code (zx σ n0 bf).1 2002) 163 = .ok (.getfield 24, 3) := zd zm_2002 (by decide +kernel)
theorem d_2002_166 {σ : Nat → Nat} {n0 : Nat} {bf : ab_B} : decode (ab_code (zx σ n0 bf).1 2002) 166 = .ok (.getfield 54, 3) := zd zm_2002 (by decide +kernel)
theorem d_2002_169 {σ : Nat → Nat} {n0 : Nat} {bf : ab_B} : decode (ab_code (zx σ n0 bf).1 2002) 169 = .ok (.invokevirtual 58, 3) := zd zm_2002 (by decide +kernel)
theorem d_2002_172 {σ : Nat → Nat} {n0 : Nat} {bf : ab_B} : decode (ab_code (zx σ n0 bf).1 2002) 172 = .ok (.astore 7, 2) := zd zm_2002 (by decide +kernel)
theorem d_2002_174 {σ : Nat → Nat} {n0 : Nat} {bf : ab_B} : decode (ab_code (zx σ n0 bf).1 2002) 174 = .ok (.aload_n 1, 1) := zd zm_2002 (by decide +kernel)
theorem d_2002_175 {σ : Nat → Nat} {n0 : Nat} {bf : ab_B} : decode (ab_code (zx σ n0 bf).1 2002) 175 = .ok (.getfield 43, 3) := zd zm_2002 (by decide +kernel)
theorem d_2002_178 {σ : Nat → Nat} {n0 : Nat} {bf : ab_B} : decode (ab_code (zx σ n0 bf).1 2002) 178 = .ok (.bipush 11, 2) := zd zm_2002 (by decide +kernel)
theorem d_2002_180 {σ : Nat → Nat} {n0 : Nat} {bf : ab_B} : decode (ab_code (zx σ n0 bf).1 2002) 180 = .ok (.if_icmp .ne 10, 3) := zd zm_2002 (by decide +kernel)
theorem d_2002_183 {σ : Nat → Nat} {n0 : Nat} {bf : ab_B} : decode (ab_code (zx σ n0 bf).1 2002) 183 = .ok (.lload 5, 2) := zd zm_2002 (by decide +kernel)
theorem d_2002_185 {σ : Nat → Nat} {n0 : Nat} {bf : ab_B} : decode (ab_code (zx σ n0 bf).1 2002) 185 = .ok (.lconst 1, 1) := zd zm_2002 (by decide +kernel)
theorem d_2002_186 {σ : Nat → Nat} {n0 : Nat} {bf : ab_B} : decode (ab_code (zx σ n0 bf).1 2002) 186 = .ok (.ladd, 1) := zd zm_2002 (by decide +kernel)
theorem d_2002_187 {σ : Nat → Nat} {n0 : Nat} {bf : ab_B} : decode (ab_code (zx σ n0 bf).1 2002) 187 = .ok (.goto 21, 3) := zd zm_2002 (by decide +kernel)
theorem d_2002_190 {σ : Nat → Nat} {n0 : Nat} {bf : ab_B} : decode (ab_code (zx σ n0 bf).1 2002) 190 = .ok (.aload_n 1, 1) := zd zm_2002 (by decide +kernel)
theorem d_2002_191 {σ : Nat → Nat} {n0 : Nat} {bf : ab_B} : decode (ab_code (zx σ n0 bf).1 2002) 191 = .ok (.getfield 43, 3) := zd zm_2002 (by decide +kernel)
theorem d_2002_194 {σ : Nat → Nat} {n0 : Nat} {bf : ab_B} : decode (ab_code (zx σ n0 bf).1 2002) 194 = .ok (.bipush 12, 2) := zd zm_2002 (by decide +kernel)
theorem d_2002_196 {σ : Nat → Nat} {n0 : Nat} {bf : ab_B} : decode (ab_code (zx σ n0 bf).1 2002) 196 = .ok (.if_icmp .ne 10, 3) := zd zm_2002 (by decide +kernel)
theorem d_2002_199 {σ : Nat → Nat} {n0 : Nat} {bf : ab_B} : decode (ab_code (zx σ n0 bf).1 2002) 199 = .ok (.lload 5, 2) := zd zm_2002 (by decide +kernel)
theorem d_2002_201 {σ : Nat → Nat} {n0 : Nat} {bf : ab_B} : decode (ab_code (zx σ n0 bf).1 2002) 201 = .ok (.lconst 1, 1) := zd zm_2002 (by decide +kernel)
theorem d_2002_202 {σ : Nat → Nat} {n0 : Nat} {bf : ab_B} : decode (ab_code (zx σ n0 bf).1 2002) 202 = .ok (.lsub, 1) := zd zm_2002 (by decide +kernel)
theorem d_2002_203 {σ : Nat → Nat} {n0 : Nat} {bf : ab_B} : decode (ab_code (zx σ n0 bf).1 2002) 203 = .ok (.goto 5, 3) := zd zm_2002 (by decide +kernel)
theorem d_2002_206 {σ : Nat → Nat} {n0 : Nat} {bf : ab_B} : decode (ab_code (zx σ n0 bf).1 2002) 206 = .ok (.lload 5, 2) := zd zm_2002 (by decide +kernel)
theorem d_2002_208 {σ : Nat → Nat} {n0 : Nat} {bf : ab_B} : decode (ab_code (zx σ n0 bf).1 2002) 208 = .ok (.lstore 8, 2) := zd zm_2002 (by decide +kernel)
theorem d_2002_210 {σ : Nat → Nat} {n0 : Nat} {bf : ab_B} : decode (ab_code (zx σ n0 bf).1 2002) 210 = .ok (.aload 7, 2) := zd zm_2002 (by decide +kernel)
theorem d_2002_212 {σ : Nat → Nat} {n0 : Nat} {bf : ab_B} : decode (ab_code (zx σ n0 bf).1 2002) 212 = .ok (.ifnonnull 27, 3) := zd zm_2002 (by decide +kernel)
theorem d_2002_215 {σ : Nat → Nat} {n0 : Nat} {bf : ab_B} : decode (ab_code (zx σ n0 bf).1 2002) 215 = .ok (.lload 8, 2) := zd zm_2002 (by decide +kernel)
theorem d_2002_217 {σ : Nat → Nat} {n0 : Nat} {bf : ab_B} : decode (ab_code (zx σ n0 bf).1 2002) 217 = .ok (.lconst 0, 1) := zd zm_2002 (by decide +kernel)
theorem d_2002_218 {σ : Nat → Nat} {n0 : Nat} {bf : ab_B} : decode (ab_code (zx σ n0 bf).1 2002) 218 = .ok (.lcmp, 1) := zd zm_2002 (by decide +kernel)
theorem d_2002_219 {σ : Nat → Nat} {n0 : Nat} {bf : ab_B} : decode (ab_code (zx σ n0 bf).1 2002) 219 = .ok (.ifCond .lt 16, 3) := zd zm_2002 (by decide +kernel)
theorem d_2002_222 {σ : Nat → Nat} {n0 : Nat} {bf : ab_B} : decode (ab_code (zx σ n0 bf).1 2002) 222 = .ok (.lload 8, 2) := zd zm_2002 (by decide +kernel)
theorem d_2002_224 {σ : Nat → Nat} {n0 : Nat} {bf : ab_B} : decode (ab_code (zx σ n0 bf).1 2002) 224 = .ok (.ldc2_w 64, 3) := zd zm_2002 (by decide +kernel)
theorem d_2002_227 {σ : Nat → Nat} {n0 : Nat} {bf : ab_B} : decode (ab_code (zx σ n0 bf).1 2002) 227 = .ok (.lcmp, 1) := zd zm_2002 (by decide +kernel)
theorem d_2002_228 {σ : Nat → Nat} {n0 : Nat} {bf : ab_B} : decode (ab_code (zx σ n0 bf).1 2002) 228 = .ok (.ifCond .gt 7, 3) := zd zm_2002 (by decide +kernel)
theorem d_2002_231 {σ : Nat → Nat} {n0 : Nat} {bf : ab_B} : decode (ab_code (zx σ n0 bf).1 2002) 231 = .ok (.iconst 1, 1) := zd zm_2002 (by decide +kernel)
theorem d_2002_232 {σ : Nat → Nat} {n0 : Nat} {bf : ab_B} : decode (ab_code (zx σ n0 bf).1 2002) 232 = .ok (.goto 38, 3) := zd zm_2002 (by decide +kernel)
theorem d_2002_235 {σ : Nat → Nat} {n0 : Nat} {bf : ab_B} : decode (ab_code (zx σ n0 bf).1 2002) 235 = .ok (.iconst 0, 1) := zd zm_2002 (by decide +kernel)
theorem d_2002_236 {σ : Nat → Nat} {n0 : Nat} {bf : ab_B} : decode (ab_code (zx σ n0 bf).1 2002) 236 = .ok (.goto 34, 3) := zd zm_2002 (by decide +kernel)
theorem d_2002_239 {σ : Nat → Nat} {n0 : Nat} {bf : ab_B} : decode (ab_code (zx σ n0 bf).1 2002) 239 = .ok (.lload 8, 2) := zd zm_2002 (by decide +kernel)
theorem d_2002_241 {σ : Nat → Nat} {n0 : Nat} {bf : ab_B} : decode (ab_code (zx σ n0 bf).1 2002) 241 = .ok (.aload_n 0, 1) := zd zm_2002 (by decide +kernel)
theorem d_2002_242 {σ : Nat → Nat} {n0 : Nat} {bf : ab_B} : decode (ab_code (zx σ n0 bf).1 2002) 242 = .ok (.aload 7, 2) := zd zm_2002 (by decide +kernel)
theorem d_2002_244 {σ : Nat → Nat} {n0 : Nat} {bf : ab_B} : decode (ab_code (zx σ n0 bf).1 2002) 244 = .ok (.iconst (-1), 1) := zd zm_2002 (by decide +kernel)
theorem d_2002_245 {σ : Nat → Nat} {n0 : Nat} {bf : ab_B} : decode (ab_code (zx σ n0 bf).1 2002) 245 = .ok (.invokevirtual 66, 3) := zd zm_2002 (by decide +kernel)
theorem d_2002_248 {σ : Nat → Nat} {n0 : Nat} {bf : ab_B} : decode (ab_code (zx σ n0 bf).1 2002) 248 = .ok (.lcmp, 1) := zd zm_2002 (by decide +kernel)
theorem d_2002_249 {σ : Nat → Nat} {n0 : Nat} {bf : ab_B} : decode (ab_code (zx σ n0 bf).1 2002) 249 = .ok (.ifCond .lt 20, 3) := zd zm_2002 (by decide +kernel)
theorem d_2002_252 {σ : Nat → Nat} {n0 : Nat} {bf : ab_B} : decode (ab_code (zx σ n0 bf).1 2002) 252 = .ok (.lload 8, 2) := zd zm_2002 (by decide +kernel)
theorem d_2002_254 {σ : Nat → Nat} {n0 : Nat} {bf : ab_B} : decode (ab_code (zx σ n0 bf).1 2002) 254 = .ok (.aload_n 0, 1) := zd zm_2002 (by decide +kernel)
theorem d_2002_255 {σ : Nat → Nat} {n0 : Nat} {bf : ab_B} : decode (ab_code (zx σ n0 bf).1 2002) 255 = .ok (.aload 7, 2) := zd zm_2002 (by decide +kernel)
theorem d_2002_257 {σ : Nat → Nat} {n0 : Nat} {bf : ab_B} : decode (ab_code (zx σ n0 bf).1 2002) 257 = .ok (.iconst (-1), 1) := zd zm_2002 (by decide +kernel)
theorem d_2002_258 {σ : Nat → Nat} {n0 : Nat} {bf : ab_B} : decode (ab_code (zx σ n0 bf).1 2002) 258 = .ok (.invokevirtual 70, 3) := zd zm_2002 (by decide +kernel)
theorem d_2002_261 {σ : Nat → Nat} {n0 : Nat} {bf : ab_B} : decode (ab_code (zx σ n0 bf).1 2002) 261 = .ok (.lcmp, 1) := zd zm_2002 (by decide +kernel)
theorem d_2002_262 {σ : Nat → Nat} {n0 : Nat} {bf : ab_B} : decode (ab_code (zx σ n0 bf).1 2002) 262 = .ok (.ifCond .gt 7, 3) := zd zm_2002 (by decide +kernel)
theorem d_2002_265 {σ : Nat → Nat} {n0 : Nat} {bf : ab_B} : decode (ab_code (zx σ n0 bf).1 2002) 265 = .ok (.iconst 1, 1) := zd zm_2002 (by decide +kernel)
theorem d_2002_266 {σ : Nat → Nat} {n0 : Nat} {bf : ab_B} : decode (ab_code (zx σ n0 bf).1 2002) 266 = .ok (.goto 4, 3) := zd zm_2002 (by decide +kernel)
theorem d_2002_269 {σ : Nat → Nat} {n0 : Nat} {bf : ab_B} : decode (ab_code (zx σ n0 bf).1 2002) 269 = .ok (.iconst 0, 1) := zd zm_2002 (by decide +kernel)
theorem d_2002_270 {σ : Nat → Nat} {n0 : Nat} {bf : ab_B} : decode (ab_code (zx σ n0 bf).1 2002) 270 = .ok (.istore 10, 2) := zd zm_2002 (by decide +kernel)
theorem d_2002_272 {σ : Nat → Nat} {n0 : Nat} {bf : ab_B} : decode (ab_code (zx σ n0 bf).1 2002) 272 = .ok (.iload 10, 2) := zd zm_2002 (by decide +kernel)
theorem d_2002_274 {σ : Nat → Nat} {n0 : Nat} {bf : ab_B} : decode (ab_code (zx σ n0 bf).1 2002) 274 = .ok (.ifCond .eq 8, 3) := zd zm_2002 (by decide +kernel)
theorem d_2002_277 {σ : Nat → Nat} {n0 : Nat} {bf : ab_B} : decode (ab_code (zx σ n0 bf).1 2002) 277 = .ok (.lload 8, 2) := zd zm_2002 (by decide +kernel)
theorem d_2002_279 {σ : Nat → Nat} {n0 : Nat} {bf : ab_B} : decode (ab_code (zx σ n0 bf).1 2002) 279 = .ok (.goto 6, 3) := zd zm_2002 (by decide +kernel)
theorem d_2002_282 {σ : Nat → Nat} {n0 : Nat} {bf : ab_B} : decode (ab_code (zx σ n0 bf).1 2002) 282 = .ok (.ldc2_w 41, 3) := zd zm_2002 (by decide +kernel)
theorem d_2002_285 {σ : Nat → Nat} {n0 : Nat} {bf : ab_B} : decode (ab_code (zx σ n0 bf).1 2002) 285 = .ok (.lreturn, 1) := zd zm_2002 (by decide +kernel)
def w_X3_leaf_99 (X : zs_X) (d : Nat) (p1 : Option Nat) (p3 : Int64) (S : zs_T) (Q : zs_Q) : Prop :=
  (∃ b1, p1 = some b1 ∧ zs_K S b1 = some (.inl 11) ∧ ((¬ (zs_I S 11003 b1) = (45 : Int32) → (Q (.returned (some (.long ((1 : Int64) - p3)))) S)) ∧ (¬ (¬ (zs_I S 11003 b1) = (45 : Int32)) → (Q (.returned (some (.long ((-p3))))) S))))
theorem u_X3_leaf_99 {σ : Nat → Nat} {n0 : Nat} {bf : ab_B} {d : Nat} {p1 : Option Nat} {p3 : Int64} {S : zs_T} {Q : zs_Q} (hB : zt_B bf) (h : w_X3_leaf_99 (zx σ n0 bf) d p1 p3 S Q) : zs_U (zx σ n0 bf) d 2002 99 [(1, va_rf p1), (3, .long p3)] [] S Q := by
  unfold w_X3_leaf_99 at h
  refine zu_aload_n d_2002_99 rfl (zs_rr _) ?_
  obtain ⟨b1, e2, h⟩ := h
  refine zs_stk0 (zs_rfe e2) ?_
  obtain ⟨k3, h⟩ := h
  refine zg_2_43 rfl d_2002_100 k3 ?_
  refine zu_bipush d_2002_103 zj_45 ?_
  refine zu_cmpne (t := 113) d_2002_105 rfl (fun c4 => ?_) (fun c4 => ?_)
  · have h := h.1 c4
    refine zu_lconst (v := 1) d_2002_113 rfl ?_
    refine zu_lload_n d_2002_114 rfl ?_
    refine zu_stk d_2002_115 rfl rfl ?_
    exact zu_lret d_2002_116 zr_2002 h
  · have h := h.2 c4
    refine zu_lload_n d_2002_108 rfl ?_
    refine zu_stk d_2002_109 rfl rfl ?_
    refine zu_goto (t := 116) d_2002_110 rfl ?_
    exact zu_lret d_2002_116 zr_2002 h
def w_X3_leaf_85 (X : zs_X) (d : Nat) (p1 : Option Nat) (p3 : Int64) (S : zs_T) (Q : zs_Q) : Prop :=
  (∃ b1, p1 = some b1 ∧ zs_K S b1 = some (.inl 11) ∧ (((zs_I S 11003 b1) = (1032 : Int32) → w_X3_leaf_99 X d p1 p3 S Q) ∧ (¬ ((zs_I S 11003 b1) = (1032 : Int32)) → (Q (.returned (some (.long p3))) S))))
theorem u_X3_leaf_85 {σ : Nat → Nat} {n0 : Nat} {bf : ab_B} {d : Nat} {p1 : Option Nat} {p3 : Int64} {S : zs_T} {Q : zs_Q} (hB : zt_B bf) (h : w_X3_leaf_85 (zx σ n0 bf) d p1 p3 S Q) : zs_U (zx σ n0 bf) d 2002 85 [(1, va_rf p1), (3, .long p3)] [] S Q := by
  unfold w_X3_leaf_85 at h
  refine zu_aload_n d_2002_85 rfl (zs_rr _) ?_
  obtain ⟨b1, e2, h⟩ := h
  refine zs_stk0 (zs_rfe e2) ?_
  obtain ⟨k3, h⟩ := h
  refine zg_2_43 rfl d_2002_86 k3 ?_
  refine zu_sipush d_2002_89 zh_1032 ?_
  refine zu_cmpeq (t := 99) d_2002_92 rfl (fun c4 => ?_) (fun c4 => ?_)
  · have h := h.1 c4
    exact (u_X3_leaf_99 hB h).weak ⟨rfl, rfl, trivial⟩
  · have h := h.2 c4
    refine zu_lload_n d_2002_95 rfl ?_
    refine zu_goto (t := 116) d_2002_96 rfl ?_
    exact zu_lret d_2002_116 zr_2002 h
def w_X3_leaf_146 (X : zs_X) (d : Nat) (p5 : Int64) (S : zs_T) (Q : zs_Q) : Prop :=
  (Q (.returned (some (.long p5))) S)
theorem u_X3_leaf_146 {σ : Nat → Nat} {n0 : Nat} {bf : ab_B} {d : Nat} {p5 : Int64} {S : zs_T} {Q : zs_Q} (hB : zt_B bf) (h : w_X3_leaf_146 (zx σ n0 bf) d p5 S Q) : zs_U (zx σ n0 bf) d 2002 146 [(5, .long p5)] [] S Q := by
  unfold w_X3_leaf_146 at h
  refine zu_lload d_2002_146 rfl ?_
  exact zu_lret d_2002_148 zr_2002 h
def w_X3_leaf_270 (X : zs_X) (d : Nat) (p8 : Int64) (q0 : Int32) (S : zs_T) (Q : zs_Q) : Prop :=
  (((q0 = 0 → (Q (.returned (some (.long (-9223372036854775808 : Int64)))) S)) ∧ (¬ (q0 = 0) → (Q (.returned (some (.long p8))) S))))
theorem u_X3_leaf_270 {σ : Nat → Nat} {n0 : Nat} {bf : ab_B} {d : Nat} {p8 : Int64} {q0 : Int32} {S : zs_T} {Q : zs_Q} (hB : zt_B bf) (h : w_X3_leaf_270 (zx σ n0 bf) d p8 q0 S Q) : zs_U (zx σ n0 bf) d 2002 270 [(8, .long p8)] [.int q0] S Q := by
  unfold w_X3_leaf_270 at h
  refine zu_istore d_2002_270 (zs_lt zq_2002 rfl) ?_
  refine zu_iload d_2002_272 rfl ?_
  refine zu_ifeq (t := 282) d_2002_274 rfl (fun c1 => ?_) (fun c1 => ?_)
  · have h := h.1 c1
    refine zl2_2_41 rfl d_2002_282 ?_
    exact zu_lret d_2002_285 zr_2002 h
  · have h := h.2 c1
    refine zu_lload d_2002_277 rfl ?_
    refine zu_goto (t := 285) d_2002_279 rfl ?_
    exact zu_lret d_2002_285 zr_2002 h
def w_X3_leaf_235 (X : zs_X) (d : Nat) (p8 : Int64) (S : zs_T) (Q : zs_Q) : Prop :=
  (w_X3_leaf_270 X d p8 (0 : Int32) S Q)
theorem u_X3_leaf_235 {σ : Nat → Nat} {n0 : Nat} {bf : ab_B} {d : Nat} {p8 : Int64} {S : zs_T} {Q : zs_Q} (hB : zt_B bf) (h : w_X3_leaf_235 (zx σ n0 bf) d p8 S Q) : zs_U (zx σ n0 bf) d 2002 235 [(8, .long p8)] [] S Q := by
  unfold w_X3_leaf_235 at h
  refine zu_iconst d_2002_235 zi_0 ?_
  refine zu_goto (t := 270) d_2002_236 rfl ?_
  exact (u_X3_leaf_270 hB h).weak ⟨rfl, trivial⟩
def w_X3_leaf_269 (X : zs_X) (d : Nat) (p8 : Int64) (S : zs_T) (Q : zs_Q) : Prop :=
  (w_X3_leaf_270 X d p8 (0 : Int32) S Q)
theorem u_X3_leaf_269 {σ : Nat → Nat} {n0 : Nat} {bf : ab_B} {d : Nat} {p8 : Int64} {S : zs_T} {Q : zs_Q} (hB : zt_B bf) (h : w_X3_leaf_269 (zx σ n0 bf) d p8 S Q) : zs_U (zx σ n0 bf) d 2002 269 [(8, .long p8)] [] S Q := by
  unfold w_X3_leaf_269 at h
  refine zu_iconst d_2002_269 zi_0 ?_
  exact (u_X3_leaf_270 hB h).weak ⟨rfl, trivial⟩
def w_X3_leaf_265 (X : zs_X) (d : Nat) (p8 : Int64) (S : zs_T) (Q : zs_Q) : Prop :=
  (w_X3_leaf_270 X d p8 (1 : Int32) S Q)
theorem u_X3_leaf_265 {σ : Nat → Nat} {n0 : Nat} {bf : ab_B} {d : Nat} {p8 : Int64} {S : zs_T} {Q : zs_Q} (hB : zt_B bf) (h : w_X3_leaf_265 (zx σ n0 bf) d p8 S Q) : zs_U (zx σ n0 bf) d 2002 265 [(8, .long p8)] [] S Q := by
  unfold w_X3_leaf_265 at h
  refine zu_iconst d_2002_265 zi_1 ?_
  refine zu_goto (t := 270) d_2002_266 rfl ?_
  exact (u_X3_leaf_270 hB h).weak ⟨rfl, trivial⟩
def w_X3_leaf_208 (X : zs_X) (d : Nat) (p0 : Nat) (p7 : Option Nat) (q0 : Int64) (S : zs_T) (Q : zs_Q) : Prop :=
  (((p7 = none → (((q0 < (0 : Int64) → w_X3_leaf_235 X d q0 S Q) ∧ (¬ (q0 < (0 : Int64)) → ((((255 : Int64) < q0 → w_X3_leaf_235 X d q0 S Q) ∧ (¬ ((255 : Int64) < q0) → (w_X3_leaf_270 X d q0 (1 : Int32) S Q)))))))) ∧ (∀ b1, p7 = some b1 → (zs_K S p0 = some (.inl 2) ∧ zs_C X d 2003 [.ref p0, va_rf p7, .int (-1 : Int32)] S (zs_kJ (fun v7 S6 => (((q0 < v7 → w_X3_leaf_269 X d q0 S6 Q) ∧ (¬ (q0 < v7) → (zs_K S6 p0 = some (.inl 2) ∧ zs_C X d 2004 [.ref p0, va_rf p7, .int (-1 : Int32)] S6 (zs_kJ (fun v11 S10 => (((v11 < q0 → w_X3_leaf_269 X d q0 S10 Q) ∧ (¬ (v11 < q0) → w_X3_leaf_265 X d q0 S10 Q)))) Q)))))) Q)))))
theorem u_X3_leaf_208 {σ : Nat → Nat} {n0 : Nat} {bf : ab_B} {d : Nat} {p0 : Nat} {p7 : Option Nat} {q0 : Int64} {S : zs_T} {Q : zs_Q} (hB : zt_B bf) (h : w_X3_leaf_208 (zx σ n0 bf) d p0 p7 q0 S Q) : zs_U (zx σ n0 bf) d 2002 208 [(0, .ref p0), (7, va_rf p7)] [.long q0] S Q := by
  unfold w_X3_leaf_208 at h
  refine zu_lstore d_2002_208 (zs_lt zq_2002 rfl) ?_
  refine zs_U.weak (L1 := [(8, .long q0), (0, .ref p0), (7, va_rf p7)]) ?_ ⟨rfl, zs_gp2 rfl rfl (Or.inl rfl) rfl, zs_gp2 rfl rfl (Or.inl (zs_cat _)) rfl, trivial⟩
  refine zu_aload d_2002_210 rfl (zs_rr _) ?_
  refine zu_ifnonnull (u := p7) (t := 239) d_2002_212 rfl rfl (fun b1 e2 => ?_) (fun e2 => ?_)
  · have h := h.2 b1 e2
    refine zu_lload d_2002_239 rfl ?_
    refine zu_aload_n d_2002_241 rfl (zs_ra _) ?_
    refine zu_aload d_2002_242 rfl (zs_rr _) ?_
    refine zu_iconst d_2002_244 zi_m1 ?_
    obtain ⟨k5, h⟩ := h
    refine zc_2_66 (x0 := p7) (x1 := (-1 : Int32)) hB rfl k5 d_2002_245 (Nat.le_of_ble_eq_true rfl) h (fun v7 S6 h => ?_)
    refine zu_llt (t := 269) d_2002_248 d_2002_249 rfl (fun c8 => ?_) (fun c8 => ?_)
    · have h := h.1 c8
      exact (u_X3_leaf_269 hB h).weak ⟨rfl, trivial⟩
    · have h := h.2 c8
      refine zu_lload d_2002_252 rfl ?_
      refine zu_aload_n d_2002_254 rfl (zs_ra _) ?_
      refine zu_aload d_2002_255 rfl (zs_rr _) ?_
      refine zu_iconst d_2002_257 zi_m1 ?_
      obtain ⟨k9, h⟩ := h
      refine zc_2_70 (x0 := p7) (x1 := (-1 : Int32)) hB rfl k9 d_2002_258 (Nat.le_of_ble_eq_true rfl) h (fun v11 S10 h => ?_)
      refine zu_lgt (t := 269) d_2002_261 d_2002_262 rfl (fun c12 => ?_) (fun c12 => ?_)
      · have h := h.1 c12
        exact (u_X3_leaf_269 hB h).weak ⟨rfl, trivial⟩
      · have h := h.2 c12
        exact (u_X3_leaf_265 hB h).weak ⟨rfl, trivial⟩
  · have h := h.1 e2
    refine zu_lload d_2002_215 rfl ?_
    refine zu_lconst (v := 0) d_2002_217 rfl ?_
    refine zu_llt (t := 235) d_2002_218 d_2002_219 rfl (fun c3 => ?_) (fun c3 => ?_)
    · have h := h.1 c3
      exact (u_X3_leaf_235 hB h).weak ⟨rfl, trivial⟩
    · have h := h.2 c3
      refine zu_lload d_2002_222 rfl ?_
      refine zl2_2_64 rfl d_2002_224 ?_
      refine zu_lgt (t := 235) d_2002_227 d_2002_228 rfl (fun c4 => ?_) (fun c4 => ?_)
      · have h := h.1 c4
        exact (u_X3_leaf_235 hB h).weak ⟨rfl, trivial⟩
      · have h := h.2 c4
        refine zu_iconst d_2002_231 zi_1 ?_
        refine zu_goto (t := 270) d_2002_232 rfl ?_
        exact (u_X3_leaf_270 hB h).weak ⟨rfl, trivial⟩
def w_X3_leaf_172 (X : zs_X) (d : Nat) (p0 : Nat) (p1 : Option Nat) (p5 : Int64) (q0 : Option Nat) (S : zs_T) (Q : zs_Q) : Prop :=
  (∃ b1, p1 = some b1 ∧ zs_K S b1 = some (.inl 11) ∧ ((¬ (zs_I S 11003 b1) = (11 : Int32) → (((¬ (zs_I S 11003 b1) = (12 : Int32) → (w_X3_leaf_208 X d p0 q0 p5 S Q)) ∧ (¬ (¬ (zs_I S 11003 b1) = (12 : Int32)) → (w_X3_leaf_208 X d p0 q0 (p5 - (1 : Int64)) S Q))))) ∧ (¬ (¬ (zs_I S 11003 b1) = (11 : Int32)) → (w_X3_leaf_208 X d p0 q0 (p5 + (1 : Int64)) S Q))))
theorem u_X3_leaf_172 {σ : Nat → Nat} {n0 : Nat} {bf : ab_B} {d : Nat} {p0 : Nat} {p1 : Option Nat} {p5 : Int64} {q0 : Option Nat} {S : zs_T} {Q : zs_Q} (hB : zt_B bf) (h : w_X3_leaf_172 (zx σ n0 bf) d p0 p1 p5 q0 S Q) : zs_U (zx σ n0 bf) d 2002 172 [(0, .ref p0), (1, va_rf p1), (5, .long p5)] [va_rf q0] S Q := by
  unfold w_X3_leaf_172 at h
  refine zu_astore d_2002_172 (zs_rr _) (zs_lt zq_2002 rfl) ?_
  refine zu_aload_n d_2002_174 rfl (zs_rr _) ?_
  obtain ⟨b1, e2, h⟩ := h
  refine zs_stk0 (zs_rfe e2) ?_
  obtain ⟨k3, h⟩ := h
  refine zg_2_43 rfl d_2002_175 k3 ?_
  refine zu_bipush d_2002_178 zj_11 ?_
  refine zu_cmpne (t := 190) d_2002_180 rfl (fun c4 => ?_) (fun c4 => ?_)
  · have h := h.1 c4
    refine zu_aload_n d_2002_190 rfl (zs_rr _) ?_
    refine zs_stk0 (zs_rfe e2) ?_
    refine zg_2_43 rfl d_2002_191 k3 ?_
    refine zu_bipush d_2002_194 zj_12 ?_
    refine zu_cmpne (t := 206) d_2002_196 rfl (fun c5 => ?_) (fun c5 => ?_)
    · have h := h.1 c5
      refine zu_lload d_2002_206 rfl ?_
      exact (u_X3_leaf_208 hB h).weak ⟨rfl, rfl, trivial⟩
    · have h := h.2 c5
      refine zu_lload d_2002_199 rfl ?_
      refine zu_lconst (v := 1) d_2002_201 rfl ?_
      refine zu_stk d_2002_202 rfl rfl ?_
      refine zu_goto (t := 208) d_2002_203 rfl ?_
      exact (u_X3_leaf_208 hB h).weak ⟨rfl, rfl, trivial⟩
  · have h := h.2 c4
    refine zu_lload d_2002_183 rfl ?_
    refine zu_lconst (v := 1) d_2002_185 rfl ?_
    refine zu_stk d_2002_186 rfl rfl ?_
    refine zu_goto (t := 208) d_2002_187 rfl ?_
    exact (u_X3_leaf_208 hB h).weak ⟨rfl, rfl, trivial⟩
def w_X3_leaf_149 (X : zs_X) (d : Nat) (p0 : Nat) (p1 : Option Nat) (p5 : Int64) (S : zs_T) (Q : zs_Q) : Prop :=
  (∃ b1, p1 = some b1 ∧ zs_K S b1 = some (.inl 11) ∧ ((¬ (zs_I S 11003 b1) = (10 : Int32) → (∃ b5, (zs_R S 11005 b1) = some b5 ∧ zs_K S b5 = some (.inl 11) ∧ ∃ b8, (zs_R S 11002 b5) = some b8 ∧ zs_K S b8 = some (.inl 6) ∧ zs_C X d 6001 [.ref b8] S (zs_kR (fun v12 S11 => w_X3_leaf_172 X d p0 p1 p5 v12 S11 Q) Q))) ∧ (¬ (¬ (zs_I S 11003 b1) = (10 : Int32)) → (w_X3_leaf_172 X d p0 p1 p5 none S Q))))
theorem u_X3_leaf_149 {σ : Nat → Nat} {n0 : Nat} {bf : ab_B} {d : Nat} {p0 : Nat} {p1 : Option Nat} {p5 : Int64} {S : zs_T} {Q : zs_Q} (hB : zt_B bf) (h : w_X3_leaf_149 (zx σ n0 bf) d p0 p1 p5 S Q) : zs_U (zx σ n0 bf) d 2002 149 [(0, .ref p0), (1, va_rf p1), (5, .long p5)] [] S Q := by
  unfold w_X3_leaf_149 at h
  refine zu_aload_n d_2002_149 rfl (zs_rr _) ?_
  obtain ⟨b1, e2, h⟩ := h
  refine zs_stk0 (zs_rfe e2) ?_
  obtain ⟨k3, h⟩ := h
  refine zg_2_43 rfl d_2002_150 k3 ?_
  refine zu_bipush d_2002_153 zj_10 ?_
  refine zu_cmpne (t := 162) d_2002_155 rfl (fun c4 => ?_) (fun c4 => ?_)
  · have h := h.1 c4
    refine zu_aload_n d_2002_162 rfl (zs_rr _) ?_
    refine zs_stk0 (zs_rfe e2) ?_
    refine zg_2_24 rfl d_2002_163 k3 ?_
    obtain ⟨b5, e6, h⟩ := h
    refine zs_stk0 (zs_rfe e6) ?_
    obtain ⟨k7, h⟩ := h
    refine zg_2_54 rfl d_2002_166 k7 ?_
    obtain ⟨b8, e9, h⟩ := h
    refine zs_stk0 (zs_rfe e9) ?_
    obtain ⟨k10, h⟩ := h
    refine zc_2_58  hB rfl k10 d_2002_169 (Nat.le_of_ble_eq_true rfl) h (fun v12 S11 h => ?_)
    exact (u_X3_leaf_172 hB h).weak ⟨rfl, rfl, rfl, trivial⟩
  · have h := h.2 c4
    refine zu_stk d_2002_158 rfl rfl ?_
    refine zu_goto (t := 172) d_2002_159 rfl ?_
    exact (u_X3_leaf_172 hB h).weak ⟨rfl, rfl, rfl, trivial⟩
def w_X3_leaf (X : zs_X) (d : Nat) (p0 : Nat) (p1 : Option Nat) (p2 : Int32) (S : zs_T) (Q : zs_Q) : Prop :=
  (∃ b1, p1 = some b1 ∧ zs_K S b1 = some (.inl 11) ∧ ((¬ (zs_I S 11000 b1).toInt = 0 → ¬ (zs_I S 11000 b1).toInt = 7 → ¬ (zs_I S 11000 b1).toInt = 10 → (zs_K S p0 = some (.inl 2) ∧ zs_C X d 2001 [.ref p0, va_rf (zs_R S 11005 b1), .int p2] S (zs_kJ (fun v9 S8 => (((v9 = (-9223372036854775808 : Int64) → w_X3_leaf_146 X d v9 S8 Q) ∧ (¬ (v9 = (-9223372036854775808 : Int64)) → (zs_K S8 b1 = some (.inl 11) ∧ ((¬ (zs_I S8 11003 b1) = (9 : Int32) → w_X3_leaf_149 X d p0 p1 v9 S8 Q) ∧ (¬ (¬ (zs_I S8 11003 b1) = (9 : Int32)) → w_X3_leaf_146 X d v9 S8 Q))))))) Q))) ∧ ((zs_I S 11000 b1).toInt = 0 → (Q (.returned (some (.long (zs_J S 11004 b1)))) S)) ∧ ((zs_I S 11000 b1).toInt = 7 → (zs_K S p0 = some (.inl 2) ∧ zs_C X d 2001 [.ref p0, va_rf (zs_R S 11005 b1), .int p2] S (zs_kJ (fun v15 S14 => (((v15 = (-9223372036854775808 : Int64) → (Q (.returned (some (.long v15))) S14)) ∧ (¬ (v15 = (-9223372036854775808 : Int64)) → (zs_K S14 b1 = some (.inl 11) ∧ (((zs_I S14 11003 b1) = (45 : Int32) → w_X3_leaf_99 X d p1 v15 S14 Q) ∧ (¬ ((zs_I S14 11003 b1) = (45 : Int32)) → w_X3_leaf_85 X d p1 v15 S14 Q))))))) Q))) ∧ ((zs_I S 11000 b1).toInt = 10 → (zs_K S p0 = some (.inl 2) ∧ ∃ b20, (zs_R S 2000 p0) = some b20 ∧ zs_A S b20 3 (p2 + (((zs_J S 11004 b1)).toInt32)) ∧ Q (.returned (some (.long (zs_j S b20 (p2 + (((zs_J S 11004 b1)).toInt32)).toNatClampNeg)))) S))))
theorem u_X3_leaf {σ : Nat → Nat} {n0 : Nat} {bf : ab_B} {d : Nat} {p0 : Nat} {p1 : Option Nat} {p2 : Int32} {S : zs_T} {Q : zs_Q} (hB : zt_B bf) (hd : 1 ≤ d) (h : w_X3_leaf (zx σ n0 bf) (d - 1) p0 p1 p2 S Q) : zs_C (zx σ n0 bf) d 2002 [.ref p0, va_rf p1, .int p2] S Q := by
  have hL : lv_args 0 [.ref p0, va_rf p1, .int p2] = [(0, .ref p0), (1, va_rf p1), (2, .int p2)] := by simp [lv_args, zs_cat, zs_cI, zs_cJ, zs_cA]
  refine zs_C.of1 (hB.2 2002 (by decide) (by decide)) hd (by rw [hL]; exact zs_sub_self _ (by exact ⟨rfl, rfl, rfl, trivial⟩)) ?_
  rw [hL]
  clear hL
  unfold w_X3_leaf at h
  refine zu_aload_n d_2002_0 rfl (zs_rr _) ?_
  obtain ⟨b1, e2, h⟩ := h
  refine zs_stk0 (zs_rfe e2) ?_
  obtain ⟨k3, h⟩ := h
  refine zg_2_19 rfl d_2002_1 k3 ?_
  refine zu_lsw d_2002_4 (by decide) ?_
  by_cases c4 : (zs_I S 11000 b1).toInt = 0
  · have h := h.2.1 c4
    have hof : Op.lookupswitch.offset #[(0, 36), (7, 54), (10, 41)].toList 113 (zs_I S 11000 b1).toInt = 36 := by rw [c4]; decide
    rw [hof]
    refine ⟨by decide, ?_⟩
    show zs_U _ _ _ 40 _ _ _ _
    refine zu_aload_n d_2002_40 rfl (zs_rr _) ?_
    refine zs_stk0 (zs_rfe e2) ?_
    refine zg_2_50 rfl d_2002_41 k3 ?_
    exact zu_lret d_2002_44 zr_2002 h
  by_cases c5 : (zs_I S 11000 b1).toInt = 7
  · have h := h.2.2.1 c5
    have hof : Op.lookupswitch.offset #[(0, 36), (7, 54), (10, 41)].toList 113 (zs_I S 11000 b1).toInt = 54 := by rw [c5]; decide
    rw [hof]
    refine ⟨by decide, ?_⟩
    show zs_U _ _ _ 58 _ _ _ _
    refine zu_aload_n d_2002_58 rfl (zs_ra _) ?_
    refine zu_aload_n d_2002_59 rfl (zs_rr _) ?_
    refine zs_stk0 (zs_rfe e2) ?_
    refine zg_2_24 rfl d_2002_60 k3 ?_
    refine zu_iload_n d_2002_63 rfl ?_
    obtain ⟨k13, h⟩ := h
    refine zc_2_38 (x0 := (zs_R S 11005 b1)) (x1 := p2) hB rfl k13 d_2002_64 (Nat.le_of_ble_eq_true rfl) h (fun v15 S14 h => ?_)
    refine zu_lstore_n d_2002_67 (zs_lt zq_2002 rfl) ?_
    refine zu_lload_n d_2002_68 rfl ?_
    refine zl2_2_41 rfl d_2002_69 ?_
    refine zu_leq (t := 95) d_2002_72 d_2002_73 rfl (fun c16 => ?_) (fun c16 => ?_)
    · have h := h.1 c16
      refine zu_lload_n d_2002_95 rfl ?_
      refine zu_goto (t := 116) d_2002_96 rfl ?_
      exact zu_lret d_2002_116 zr_2002 h
    · have h := h.2 c16
      refine zu_aload_n d_2002_76 rfl (zs_rr _) ?_
      refine zs_stk0 (zs_rfe e2) ?_
      obtain ⟨k17, h⟩ := h
      refine zg_2_43 rfl d_2002_77 k17 ?_
      refine zu_bipush d_2002_80 zj_45 ?_
      refine zu_cmpeq (t := 99) d_2002_82 rfl (fun c18 => ?_) (fun c18 => ?_)
      · have h := h.1 c18
        exact (u_X3_leaf_99 hB h).weak ⟨rfl, rfl, trivial⟩
      · have h := h.2 c18
        exact (u_X3_leaf_85 hB h).weak ⟨rfl, rfl, trivial⟩
  by_cases c6 : (zs_I S 11000 b1).toInt = 10
  · have h := h.2.2.2 c6
    have hof : Op.lookupswitch.offset #[(0, 36), (7, 54), (10, 41)].toList 113 (zs_I S 11000 b1).toInt = 41 := by rw [c6]; decide
    rw [hof]
    refine ⟨by decide, ?_⟩
    show zs_U _ _ _ 45 _ _ _ _
    refine zu_aload_n d_2002_45 rfl (zs_ra _) ?_
    obtain ⟨k19, h⟩ := h
    refine zg_2_9 rfl d_2002_46 k19 ?_
    refine zu_iload_n d_2002_49 rfl ?_
    refine zu_aload_n d_2002_50 rfl (zs_rr _) ?_
    refine zs_stk0 (zs_rfe e2) ?_
    refine zg_2_50 rfl d_2002_51 k3 ?_
    refine zu_stk d_2002_54 rfl rfl ?_
    refine zu_stk d_2002_55 rfl rfl ?_
    obtain ⟨b20, e21, h⟩ := h
    refine zs_stk1 (zs_rfe e21) ?_
    obtain ⟨k22, h⟩ := h
    refine zu_lald (k := 3) d_2002_56 rfl rfl k22 ?_
    exact zu_lret d_2002_57 zr_2002 h
  have h := h.1 c4 c5 c6
  have hof : Op.lookupswitch.offset #[(0, 36), (7, 54), (10, 41)].toList 113 (zs_I S 11000 b1).toInt = 113 := by simp [Op.lookupswitch.offset, c4, c5, c6, Ne.symm c4, Ne.symm c5, Ne.symm c6]
  rw [hof]
  refine ⟨by decide, ?_⟩
  show zs_U _ _ _ 117 _ _ _ _
  refine zu_aload_n d_2002_117 rfl (zs_ra _) ?_
  refine zu_aload_n d_2002_118 rfl (zs_rr _) ?_
  refine zs_stk0 (zs_rfe e2) ?_
  refine zg_2_24 rfl d_2002_119 k3 ?_
  refine zu_iload_n d_2002_122 rfl ?_
  obtain ⟨k7, h⟩ := h
  refine zc_2_38 (x0 := (zs_R S 11005 b1)) (x1 := p2) hB rfl k7 d_2002_123 (Nat.le_of_ble_eq_true rfl) h (fun v9 S8 h => ?_)
  refine zu_lstore d_2002_126 (zs_lt zq_2002 rfl) ?_
  refine zu_lload d_2002_128 rfl ?_
  refine zl2_2_41 rfl d_2002_130 ?_
  refine zu_leq (t := 146) d_2002_133 d_2002_134 rfl (fun c10 => ?_) (fun c10 => ?_)
  · have h := h.1 c10
    exact (u_X3_leaf_146 hB h).weak ⟨rfl, trivial⟩
  · have h := h.2 c10
    refine zu_aload_n d_2002_137 rfl (zs_rr _) ?_
    refine zs_stk0 (zs_rfe e2) ?_
    obtain ⟨k11, h⟩ := h
    refine zg_2_43 rfl d_2002_138 k11 ?_
    refine zu_bipush d_2002_141 zj_9 ?_
    refine zu_cmpne (t := 149) d_2002_143 rfl (fun c12 => ?_) (fun c12 => ?_)
    · have h := h.1 c12
      exact (u_X3_leaf_149 hB h).weak ⟨rfl, rfl, rfl, trivial⟩
    · have h := h.2 c12
      exact (u_X3_leaf_146 hB h).weak ⟨rfl, trivial⟩
/-! SchemaPascal$Shapes.low(LSchemaPascal$Type;I)J -/
theorem zm_2003 {σ : Nat → Nat} {n0 : Nat} {bf : ab_B} : ab_code (zx σ n0 bf).1 2003 = prog_11_method_5_code := rfl
theorem zq_2003 {σ : Nat → Nat} {n0 : Nat} {bf : ab_B} : ab_maxL (zx σ n0 bf).1 2003 = 3 := rfl
theorem zr_2003 {σ : Nat → Nat} {n0 : Nat} {bf : ab_B} : ab_ret (zx σ n0 bf).1 2003 = (Option.some Jvm.ClassFile.FieldType.long) := rfl
theorem d_2003_0 {σ : Nat → Nat} {n0 : Nat} {bf : ab_B} : decode (ab_code (zx σ n0 bf).1 2003) 0 = .ok (.aload_n 1, 1) := zd zm_2003 (by decide +kernel)
theorem d_2003_1 {σ : Nat → Nat} {n0 : Nat} {bf : ab_B} : decode (ab_code (zx σ n0 bf).1 2003) 1 = .ok (.getfield 81, 3) := zd zm_2003 (by decide +kernel)
theorem d_2003_4 {σ : Nat → Nat} {n0 : Nat} {bf : ab_B} : decode (ab_code (zx σ n0 bf).1 2003) 4 = .ok (.tableswitch 50 0 4 #[36, 50, 50, 40, 40], 36) := zd zm_2003 (by decide +kernel)
theorem d_2003_40 {σ : Nat → Nat} {n0 : Nat} {bf : ab_B} : decode (ab_code (zx σ n0 bf).1 2003) 40 = .ok (.ldc2_w 79, 3) := zd zm_2003 (by decide +kernel)
theorem d_2003_43 {σ : Nat → Nat} {n0 : Nat} {bf : ab_B} : decode (ab_code (zx σ n0 bf).1 2003) 43 = .ok (.lreturn, 1) := zd zm_2003 (by decide +kernel)
theorem d_2003_44 {σ : Nat → Nat} {n0 : Nat} {bf : ab_B} : decode (ab_code (zx σ n0 bf).1 2003) 44 = .ok (.aload_n 0, 1) := zd zm_2003 (by decide +kernel)
theorem d_2003_45 {σ : Nat → Nat} {n0 : Nat} {bf : ab_B} : decode (ab_code (zx σ n0 bf).1 2003) 45 = .ok (.aload_n 1, 1) := zd zm_2003 (by decide +kernel)
theorem d_2003_46 {σ : Nat → Nat} {n0 : Nat} {bf : ab_B} : decode (ab_code (zx σ n0 bf).1 2003) 46 = .ok (.getfield 82, 3) := zd zm_2003 (by decide +kernel)
theorem d_2003_49 {σ : Nat → Nat} {n0 : Nat} {bf : ab_B} : decode (ab_code (zx σ n0 bf).1 2003) 49 = .ok (.iload_n 2, 1) := zd zm_2003 (by decide +kernel)
theorem d_2003_50 {σ : Nat → Nat} {n0 : Nat} {bf : ab_B} : decode (ab_code (zx σ n0 bf).1 2003) 50 = .ok (.invokevirtual 38, 3) := zd zm_2003 (by decide +kernel)
theorem d_2003_53 {σ : Nat → Nat} {n0 : Nat} {bf : ab_B} : decode (ab_code (zx σ n0 bf).1 2003) 53 = .ok (.lreturn, 1) := zd zm_2003 (by decide +kernel)
theorem d_2003_54 {σ : Nat → Nat} {n0 : Nat} {bf : ab_B} : decode (ab_code (zx σ n0 bf).1 2003) 54 = .ok (.lconst 0, 1) := zd zm_2003 (by decide +kernel)
theorem d_2003_55 {σ : Nat → Nat} {n0 : Nat} {bf : ab_B} : decode (ab_code (zx σ n0 bf).1 2003) 55 = .ok (.lreturn, 1) := zd zm_2003 (by decide +kernel)
def w_X3_low_44 (X : zs_X) (d : Nat) (p0 : Nat) (p1 : Option Nat) (p2 : Int32) (S : zs_T) (Q : zs_Q) : Prop :=
  (∃ b1, p1 = some b1 ∧ zs_K S b1 = some (.inl 6) ∧ zs_K S p0 = some (.inl 2) ∧ zs_C X d 2001 [.ref p0, va_rf (zs_R S 6004 b1), .int p2] S (zs_kJ (fun v6 S5 => (Q (.returned (some (.long v6))) S5)) Q))
theorem u_X3_low_44 {σ : Nat → Nat} {n0 : Nat} {bf : ab_B} {d : Nat} {p0 : Nat} {p1 : Option Nat} {p2 : Int32} {S : zs_T} {Q : zs_Q} (hB : zt_B bf) (h : w_X3_low_44 (zx σ n0 bf) d p0 p1 p2 S Q) : zs_U (zx σ n0 bf) d 2003 44 [(0, .ref p0), (1, va_rf p1), (2, .int p2)] [] S Q := by
  unfold w_X3_low_44 at h
  refine zu_aload_n d_2003_44 rfl (zs_ra _) ?_
  refine zu_aload_n d_2003_45 rfl (zs_rr _) ?_
  obtain ⟨b1, e2, h⟩ := h
  refine zs_stk0 (zs_rfe e2) ?_
  obtain ⟨k3, h⟩ := h
  refine zg_2_82 rfl d_2003_46 k3 ?_
  refine zu_iload_n d_2003_49 rfl ?_
  obtain ⟨k4, h⟩ := h
  refine zc_2_38 (x0 := (zs_R S 6004 b1)) (x1 := p2) hB rfl k4 d_2003_50 (Nat.le_of_ble_eq_true rfl) h (fun v6 S5 h => ?_)
  exact zu_lret d_2003_53 zr_2003 h
def w_X3_low (X : zs_X) (d : Nat) (p0 : Nat) (p1 : Option Nat) (p2 : Int32) (S : zs_T) (Q : zs_Q) : Prop :=
  (∃ b1, p1 = some b1 ∧ zs_K S b1 = some (.inl 6) ∧ (((zs_I S 6000 b1).toInt < 0 ∨ 4 < (zs_I S 6000 b1).toInt → (Q (.returned (some (.long (0 : Int64)))) S)) ∧ ((zs_I S 6000 b1).toInt = 0 → (Q (.returned (some (.long (-2147483647 : Int64)))) S)) ∧ ((zs_I S 6000 b1).toInt = 1 → (Q (.returned (some (.long (0 : Int64)))) S)) ∧ ((zs_I S 6000 b1).toInt = 2 → (Q (.returned (some (.long (0 : Int64)))) S)) ∧ ((zs_I S 6000 b1).toInt = 3 → w_X3_low_44 X d p0 p1 p2 S Q) ∧ ((zs_I S 6000 b1).toInt = 4 → w_X3_low_44 X d p0 p1 p2 S Q)))
theorem u_X3_low {σ : Nat → Nat} {n0 : Nat} {bf : ab_B} {d : Nat} {p0 : Nat} {p1 : Option Nat} {p2 : Int32} {S : zs_T} {Q : zs_Q} (hB : zt_B bf) (hd : 1 ≤ d) (h : w_X3_low (zx σ n0 bf) (d - 1) p0 p1 p2 S Q) : zs_C (zx σ n0 bf) d 2003 [.ref p0, va_rf p1, .int p2] S Q := by
  have hL : lv_args 0 [.ref p0, va_rf p1, .int p2] = [(0, .ref p0), (1, va_rf p1), (2, .int p2)] := by simp [lv_args, zs_cat, zs_cI, zs_cJ, zs_cA]
  refine zs_C.of1 (hB.2 2003 (by decide) (by decide)) hd (by rw [hL]; exact zs_sub_self _ (by exact ⟨rfl, rfl, rfl, trivial⟩)) ?_
  rw [hL]
  clear hL
  unfold w_X3_low at h
  refine zu_aload_n d_2003_0 rfl (zs_rr _) ?_
  obtain ⟨b1, e2, h⟩ := h
  refine zs_stk0 (zs_rfe e2) ?_
  obtain ⟨k3, h⟩ := h
  refine zg_2_81 rfl d_2003_1 k3 ?_
  refine zu_tsw (td := 54) d_2003_4 (by decide) rfl (fun c4 => ?_) ⟨fun c4 => ⟨by decide, ?_⟩, fun c4 => ⟨by decide, ?_⟩, fun c4 => ⟨by decide, ?_⟩, fun c4 => ⟨by decide, ?_⟩, fun c4 => ⟨by decide, ?_⟩, trivial⟩
  · have h := h.1 c4
    refine zu_lconst (v := 0) d_2003_54 rfl ?_
    exact zu_lret d_2003_55 zr_2003 h
  · have h := h.2.1 c4
    show zs_U _ _ _ 40 _ _ _ _
    refine zl2_2_79 rfl d_2003_40 ?_
    exact zu_lret d_2003_43 zr_2003 h
  · have h := h.2.2.1 c4
    show zs_U _ _ _ 54 _ _ _ _
    refine zu_lconst (v := 0) d_2003_54 rfl ?_
    exact zu_lret d_2003_55 zr_2003 h
  · have h := h.2.2.2.1 c4
    show zs_U _ _ _ 54 _ _ _ _
    refine zu_lconst (v := 0) d_2003_54 rfl ?_
    exact zu_lret d_2003_55 zr_2003 h
  · have h := h.2.2.2.2.1 c4
    show zs_U _ _ _ 44 _ _ _ _
    exact (u_X3_low_44 hB h).weak ⟨rfl, rfl, rfl, trivial⟩
  · have h := h.2.2.2.2.2 c4
    show zs_U _ _ _ 44 _ _ _ _
    exact (u_X3_low_44 hB h).weak ⟨rfl, rfl, rfl, trivial⟩
/-! SchemaPascal$Shapes.high(LSchemaPascal$Type;I)J -/
theorem zm_2004 {σ : Nat → Nat} {n0 : Nat} {bf : ab_B} : ab_code (zx σ n0 bf).1 2004 = prog_11_method_6_code := rfl
theorem zq_2004 {σ : Nat → Nat} {n0 : Nat} {bf : ab_B} : ab_maxL (zx σ n0 bf).1 2004 = 3 := rfl
theorem zr_2004 {σ : Nat → Nat} {n0 : Nat} {bf : ab_B} : ab_ret (zx σ n0 bf).1 2004 = (Option.some Jvm.ClassFile.FieldType.long) := rfl
theorem d_2004_0 {σ : Nat → Nat} {n0 : Nat} {bf : ab_B} : decode (ab_code (zx σ n0 bf).1 2004) 0 = .ok (.aload_n 1, 1) := zd zm_2004 (by decide +kernel)
theorem d_2004_1 {σ : Nat → Nat} {n0 : Nat} {bf : ab_B} : decode (ab_code (zx σ n0 bf).1 2004) 1 = .ok (.getfield 81, 3) := zd zm_2004 (by decide +kernel)
theorem d_2004_4 {σ : Nat → Nat} {n0 : Nat} {bf : ab_B} : decode (ab_code (zx σ n0 bf).1 2004) 4 = .ok (.tableswitch 38 0 2 #[28, 32, 34], 28) := zd zm_2004 (by decide +kernel)
theorem d_2004_32 {σ : Nat → Nat} {n0 : Nat} {bf : ab_B} : decode (ab_code (zx σ n0 bf).1 2004) 32 = .ok (.ldc2_w 77, 3) := zd zm_2004 (by decide +kernel)
theorem d_2004_35 {σ : Nat → Nat} {n0 : Nat} {bf : ab_B} : decode (ab_code (zx σ n0 bf).1 2004) 35 = .ok (.lreturn, 1) := zd zm_2004 (by decide +kernel)
theorem d_2004_36 {σ : Nat → Nat} {n0 : Nat} {bf : ab_B} : decode (ab_code (zx σ n0 bf).1 2004) 36 = .ok (.lconst 1, 1) := zd zm_2004 (by decide +kernel)
theorem d_2004_37 {σ : Nat → Nat} {n0 : Nat} {bf : ab_B} : decode (ab_code (zx σ n0 bf).1 2004) 37 = .ok (.lreturn, 1) := zd zm_2004 (by decide +kernel)
theorem d_2004_38 {σ : Nat → Nat} {n0 : Nat} {bf : ab_B} : decode (ab_code (zx σ n0 bf).1 2004) 38 = .ok (.ldc2_w 64, 3) := zd zm_2004 (by decide +kernel)
theorem d_2004_41 {σ : Nat → Nat} {n0 : Nat} {bf : ab_B} : decode (ab_code (zx σ n0 bf).1 2004) 41 = .ok (.lreturn, 1) := zd zm_2004 (by decide +kernel)
theorem d_2004_42 {σ : Nat → Nat} {n0 : Nat} {bf : ab_B} : decode (ab_code (zx σ n0 bf).1 2004) 42 = .ok (.aload_n 0, 1) := zd zm_2004 (by decide +kernel)
theorem d_2004_43 {σ : Nat → Nat} {n0 : Nat} {bf : ab_B} : decode (ab_code (zx σ n0 bf).1 2004) 43 = .ok (.aload_n 1, 1) := zd zm_2004 (by decide +kernel)
theorem d_2004_44 {σ : Nat → Nat} {n0 : Nat} {bf : ab_B} : decode (ab_code (zx σ n0 bf).1 2004) 44 = .ok (.getfield 84, 3) := zd zm_2004 (by decide +kernel)
theorem d_2004_47 {σ : Nat → Nat} {n0 : Nat} {bf : ab_B} : decode (ab_code (zx σ n0 bf).1 2004) 47 = .ok (.iload_n 2, 1) := zd zm_2004 (by decide +kernel)
theorem d_2004_48 {σ : Nat → Nat} {n0 : Nat} {bf : ab_B} : decode (ab_code (zx σ n0 bf).1 2004) 48 = .ok (.invokevirtual 38, 3) := zd zm_2004 (by decide +kernel)
theorem d_2004_51 {σ : Nat → Nat} {n0 : Nat} {bf : ab_B} : decode (ab_code (zx σ n0 bf).1 2004) 51 = .ok (.lreturn, 1) := zd zm_2004 (by decide +kernel)
def w_X3_high (X : zs_X) (d : Nat) (p0 : Nat) (p1 : Option Nat) (p2 : Int32) (S : zs_T) (Q : zs_Q) : Prop :=
  (∃ b1, p1 = some b1 ∧ zs_K S b1 = some (.inl 6) ∧ (((zs_I S 6000 b1).toInt < 0 ∨ 2 < (zs_I S 6000 b1).toInt → (zs_K S p0 = some (.inl 2) ∧ zs_C X d 2001 [.ref p0, va_rf (zs_R S 6005 b1), .int p2] S (zs_kJ (fun v7 S6 => (Q (.returned (some (.long v7))) S6)) Q))) ∧ ((zs_I S 6000 b1).toInt = 0 → (Q (.returned (some (.long (2147483647 : Int64)))) S)) ∧ ((zs_I S 6000 b1).toInt = 1 → (Q (.returned (some (.long (1 : Int64)))) S)) ∧ ((zs_I S 6000 b1).toInt = 2 → (Q (.returned (some (.long (255 : Int64)))) S))))
theorem u_X3_high {σ : Nat → Nat} {n0 : Nat} {bf : ab_B} {d : Nat} {p0 : Nat} {p1 : Option Nat} {p2 : Int32} {S : zs_T} {Q : zs_Q} (hB : zt_B bf) (hd : 1 ≤ d) (h : w_X3_high (zx σ n0 bf) (d - 1) p0 p1 p2 S Q) : zs_C (zx σ n0 bf) d 2004 [.ref p0, va_rf p1, .int p2] S Q := by
  have hL : lv_args 0 [.ref p0, va_rf p1, .int p2] = [(0, .ref p0), (1, va_rf p1), (2, .int p2)] := by simp [lv_args, zs_cat, zs_cI, zs_cJ, zs_cA]
  refine zs_C.of1 (hB.2 2004 (by decide) (by decide)) hd (by rw [hL]; exact zs_sub_self _ (by exact ⟨rfl, rfl, rfl, trivial⟩)) ?_
  rw [hL]
  clear hL
  unfold w_X3_high at h
  refine zu_aload_n d_2004_0 rfl (zs_rr _) ?_
  obtain ⟨b1, e2, h⟩ := h
  refine zs_stk0 (zs_rfe e2) ?_
  obtain ⟨k3, h⟩ := h
  refine zg_2_81 rfl d_2004_1 k3 ?_
  refine zu_tsw (td := 42) d_2004_4 (by decide) rfl (fun c4 => ?_) ⟨fun c4 => ⟨by decide, ?_⟩, fun c4 => ⟨by decide, ?_⟩, fun c4 => ⟨by decide, ?_⟩, trivial⟩
  · have h := h.1 c4
    refine zu_aload_n d_2004_42 rfl (zs_ra _) ?_
    refine zu_aload_n d_2004_43 rfl (zs_rr _) ?_
    refine zs_stk0 (zs_rfe e2) ?_
    refine zg_2_84 rfl d_2004_44 k3 ?_
    refine zu_iload_n d_2004_47 rfl ?_
    obtain ⟨k5, h⟩ := h
    refine zc_2_38 (x0 := (zs_R S 6005 b1)) (x1 := p2) hB rfl k5 d_2004_48 (Nat.le_of_ble_eq_true rfl) h (fun v7 S6 h => ?_)
    exact zu_lret d_2004_51 zr_2004 h
  · have h := h.2.1 c4
    show zs_U _ _ _ 32 _ _ _ _
    refine zl2_2_77 rfl d_2004_32 ?_
    exact zu_lret d_2004_35 zr_2004 h
  · have h := h.2.2.1 c4
    show zs_U _ _ _ 36 _ _ _ _
    refine zu_lconst (v := 1) d_2004_36 rfl ?_
    exact zu_lret d_2004_37 zr_2004 h
  · have h := h.2.2.2 c4
    show zs_U _ _ _ 38 _ _ _ _
    refine zl2_2_64 rfl d_2004_38 ?_
    exact zu_lret d_2004_41 zr_2004 h
/-! SchemaPascal$Shapes.two(IJJ)J -/
theorem zm_2005 {σ : Nat → Nat} {n0 : Nat} {bf : ab_B} : ab_code (zx σ n0 bf).1 2005 = prog_11_method_4_code := rfl
theorem zq_2005 {σ : Nat → Nat} {n0 : Nat} {bf : ab_B} : ab_maxL (zx σ n0 bf).1 2005 = 7 := rfl
theorem zr_2005 {σ : Nat → Nat} {n0 : Nat} {bf : ab_B} : ab_ret (zx σ n0 bf).1 2005 = (Option.some Jvm.ClassFile.FieldType.long) := rfl
theorem d_2005_0 {σ : Nat → Nat} {n0 : Nat} {bf : ab_B} : decode (ab_code (zx σ n0 bf).1 2005) 0 = .ok (.iload_n 0, 1) := zd zm_2005 (by decide +kernel)
theorem d_2005_1 {σ : Nat → Nat} {n0 : Nat} {bf : ab_B} : decode (ab_code (zx σ n0 bf).1 2005) 1 = .ok (.lookupswitch 151 #[(42, 83), (43, 67), (45, 75), (1028, 91), (1029, 111), (1030, 135), (1031, 143)], 67) := zd zm_2005 (by decide +kernel)
theorem d_2005_68 {σ : Nat → Nat} {n0 : Nat} {bf : ab_B} : decode (ab_code (zx σ n0 bf).1 2005) 68 = .ok (.lload_n 1, 1) := zd zm_2005 (by decide +kernel)
theorem d_2005_69 {σ : Nat → Nat} {n0 : Nat} {bf : ab_B} : decode (ab_code (zx σ n0 bf).1 2005) 69 = .ok (.lload_n 3, 1) := zd zm_2005 (by decide +kernel)
theorem d_2005_70 {σ : Nat → Nat} {n0 : Nat} {bf : ab_B} : decode (ab_code (zx σ n0 bf).1 2005) 70 = .ok (.ladd, 1) := zd zm_2005 (by decide +kernel)
theorem d_2005_71 {σ : Nat → Nat} {n0 : Nat} {bf : ab_B} : decode (ab_code (zx σ n0 bf).1 2005) 71 = .ok (.lstore 5, 2) := zd zm_2005 (by decide +kernel)
theorem d_2005_73 {σ : Nat → Nat} {n0 : Nat} {bf : ab_B} : decode (ab_code (zx σ n0 bf).1 2005) 73 = .ok (.goto 95, 3) := zd zm_2005 (by decide +kernel)
theorem d_2005_76 {σ : Nat → Nat} {n0 : Nat} {bf : ab_B} : decode (ab_code (zx σ n0 bf).1 2005) 76 = .ok (.lload_n 1, 1) := zd zm_2005 (by decide +kernel)
theorem d_2005_77 {σ : Nat → Nat} {n0 : Nat} {bf : ab_B} : decode (ab_code (zx σ n0 bf).1 2005) 77 = .ok (.lload_n 3, 1) := zd zm_2005 (by decide +kernel)
theorem d_2005_78 {σ : Nat → Nat} {n0 : Nat} {bf : ab_B} : decode (ab_code (zx σ n0 bf).1 2005) 78 = .ok (.lsub, 1) := zd zm_2005 (by decide +kernel)
theorem d_2005_79 {σ : Nat → Nat} {n0 : Nat} {bf : ab_B} : decode (ab_code (zx σ n0 bf).1 2005) 79 = .ok (.lstore 5, 2) := zd zm_2005 (by decide +kernel)
theorem d_2005_81 {σ : Nat → Nat} {n0 : Nat} {bf : ab_B} : decode (ab_code (zx σ n0 bf).1 2005) 81 = .ok (.goto 87, 3) := zd zm_2005 (by decide +kernel)
theorem d_2005_84 {σ : Nat → Nat} {n0 : Nat} {bf : ab_B} : decode (ab_code (zx σ n0 bf).1 2005) 84 = .ok (.lload_n 1, 1) := zd zm_2005 (by decide +kernel)
theorem d_2005_85 {σ : Nat → Nat} {n0 : Nat} {bf : ab_B} : decode (ab_code (zx σ n0 bf).1 2005) 85 = .ok (.lload_n 3, 1) := zd zm_2005 (by decide +kernel)
theorem d_2005_86 {σ : Nat → Nat} {n0 : Nat} {bf : ab_B} : decode (ab_code (zx σ n0 bf).1 2005) 86 = .ok (.lmul, 1) := zd zm_2005 (by decide +kernel)
theorem d_2005_87 {σ : Nat → Nat} {n0 : Nat} {bf : ab_B} : decode (ab_code (zx σ n0 bf).1 2005) 87 = .ok (.lstore 5, 2) := zd zm_2005 (by decide +kernel)
theorem d_2005_89 {σ : Nat → Nat} {n0 : Nat} {bf : ab_B} : decode (ab_code (zx σ n0 bf).1 2005) 89 = .ok (.goto 79, 3) := zd zm_2005 (by decide +kernel)
theorem d_2005_92 {σ : Nat → Nat} {n0 : Nat} {bf : ab_B} : decode (ab_code (zx σ n0 bf).1 2005) 92 = .ok (.lload_n 3, 1) := zd zm_2005 (by decide +kernel)
theorem d_2005_93 {σ : Nat → Nat} {n0 : Nat} {bf : ab_B} : decode (ab_code (zx σ n0 bf).1 2005) 93 = .ok (.lconst 0, 1) := zd zm_2005 (by decide +kernel)
theorem d_2005_94 {σ : Nat → Nat} {n0 : Nat} {bf : ab_B} : decode (ab_code (zx σ n0 bf).1 2005) 94 = .ok (.lcmp, 1) := zd zm_2005 (by decide +kernel)
theorem d_2005_95 {σ : Nat → Nat} {n0 : Nat} {bf : ab_B} : decode (ab_code (zx σ n0 bf).1 2005) 95 = .ok (.ifCond .ne 9, 3) := zd zm_2005 (by decide +kernel)
theorem d_2005_98 {σ : Nat → Nat} {n0 : Nat} {bf : ab_B} : decode (ab_code (zx σ n0 bf).1 2005) 98 = .ok (.ldc2_w 41, 3) := zd zm_2005 (by decide +kernel)
theorem d_2005_101 {σ : Nat → Nat} {n0 : Nat} {bf : ab_B} : decode (ab_code (zx σ n0 bf).1 2005) 101 = .ok (.goto 6, 3) := zd zm_2005 (by decide +kernel)
theorem d_2005_104 {σ : Nat → Nat} {n0 : Nat} {bf : ab_B} : decode (ab_code (zx σ n0 bf).1 2005) 104 = .ok (.lload_n 1, 1) := zd zm_2005 (by decide +kernel)
theorem d_2005_105 {σ : Nat → Nat} {n0 : Nat} {bf : ab_B} : decode (ab_code (zx σ n0 bf).1 2005) 105 = .ok (.lload_n 3, 1) := zd zm_2005 (by decide +kernel)
theorem d_2005_106 {σ : Nat → Nat} {n0 : Nat} {bf : ab_B} : decode (ab_code (zx σ n0 bf).1 2005) 106 = .ok (.ldiv, 1) := zd zm_2005 (by decide +kernel)
theorem d_2005_107 {σ : Nat → Nat} {n0 : Nat} {bf : ab_B} : decode (ab_code (zx σ n0 bf).1 2005) 107 = .ok (.lstore 5, 2) := zd zm_2005 (by decide +kernel)
theorem d_2005_109 {σ : Nat → Nat} {n0 : Nat} {bf : ab_B} : decode (ab_code (zx σ n0 bf).1 2005) 109 = .ok (.goto 59, 3) := zd zm_2005 (by decide +kernel)
theorem d_2005_112 {σ : Nat → Nat} {n0 : Nat} {bf : ab_B} : decode (ab_code (zx σ n0 bf).1 2005) 112 = .ok (.lload_n 3, 1) := zd zm_2005 (by decide +kernel)
theorem d_2005_113 {σ : Nat → Nat} {n0 : Nat} {bf : ab_B} : decode (ab_code (zx σ n0 bf).1 2005) 113 = .ok (.lconst 0, 1) := zd zm_2005 (by decide +kernel)
theorem d_2005_114 {σ : Nat → Nat} {n0 : Nat} {bf : ab_B} : decode (ab_code (zx σ n0 bf).1 2005) 114 = .ok (.lcmp, 1) := zd zm_2005 (by decide +kernel)
theorem d_2005_115 {σ : Nat → Nat} {n0 : Nat} {bf : ab_B} : decode (ab_code (zx σ n0 bf).1 2005) 115 = .ok (.ifCond .gt 9, 3) := zd zm_2005 (by decide +kernel)
theorem d_2005_118 {σ : Nat → Nat} {n0 : Nat} {bf : ab_B} : decode (ab_code (zx σ n0 bf).1 2005) 118 = .ok (.ldc2_w 41, 3) := zd zm_2005 (by decide +kernel)
theorem d_2005_121 {σ : Nat → Nat} {n0 : Nat} {bf : ab_B} : decode (ab_code (zx σ n0 bf).1 2005) 121 = .ok (.goto 10, 3) := zd zm_2005 (by decide +kernel)
theorem d_2005_124 {σ : Nat → Nat} {n0 : Nat} {bf : ab_B} : decode (ab_code (zx σ n0 bf).1 2005) 124 = .ok (.lload_n 1, 1) := zd zm_2005 (by decide +kernel)
theorem d_2005_125 {σ : Nat → Nat} {n0 : Nat} {bf : ab_B} : decode (ab_code (zx σ n0 bf).1 2005) 125 = .ok (.lload_n 3, 1) := zd zm_2005 (by decide +kernel)
theorem d_2005_126 {σ : Nat → Nat} {n0 : Nat} {bf : ab_B} : decode (ab_code (zx σ n0 bf).1 2005) 126 = .ok (.lrem, 1) := zd zm_2005 (by decide +kernel)
theorem d_2005_127 {σ : Nat → Nat} {n0 : Nat} {bf : ab_B} : decode (ab_code (zx σ n0 bf).1 2005) 127 = .ok (.lload_n 3, 1) := zd zm_2005 (by decide +kernel)
theorem d_2005_128 {σ : Nat → Nat} {n0 : Nat} {bf : ab_B} : decode (ab_code (zx σ n0 bf).1 2005) 128 = .ok (.ladd, 1) := zd zm_2005 (by decide +kernel)
theorem d_2005_129 {σ : Nat → Nat} {n0 : Nat} {bf : ab_B} : decode (ab_code (zx σ n0 bf).1 2005) 129 = .ok (.lload_n 3, 1) := zd zm_2005 (by decide +kernel)
theorem d_2005_130 {σ : Nat → Nat} {n0 : Nat} {bf : ab_B} : decode (ab_code (zx σ n0 bf).1 2005) 130 = .ok (.lrem, 1) := zd zm_2005 (by decide +kernel)
theorem d_2005_131 {σ : Nat → Nat} {n0 : Nat} {bf : ab_B} : decode (ab_code (zx σ n0 bf).1 2005) 131 = .ok (.lstore 5, 2) := zd zm_2005 (by decide +kernel)
theorem d_2005_133 {σ : Nat → Nat} {n0 : Nat} {bf : ab_B} : decode (ab_code (zx σ n0 bf).1 2005) 133 = .ok (.goto 35, 3) := zd zm_2005 (by decide +kernel)
theorem d_2005_136 {σ : Nat → Nat} {n0 : Nat} {bf : ab_B} : decode (ab_code (zx σ n0 bf).1 2005) 136 = .ok (.lload_n 1, 1) := zd zm_2005 (by decide +kernel)
theorem d_2005_137 {σ : Nat → Nat} {n0 : Nat} {bf : ab_B} : decode (ab_code (zx σ n0 bf).1 2005) 137 = .ok (.lload_n 3, 1) := zd zm_2005 (by decide +kernel)
theorem d_2005_138 {σ : Nat → Nat} {n0 : Nat} {bf : ab_B} : decode (ab_code (zx σ n0 bf).1 2005) 138 = .ok (.land, 1) := zd zm_2005 (by decide +kernel)
theorem d_2005_139 {σ : Nat → Nat} {n0 : Nat} {bf : ab_B} : decode (ab_code (zx σ n0 bf).1 2005) 139 = .ok (.lstore 5, 2) := zd zm_2005 (by decide +kernel)
theorem d_2005_141 {σ : Nat → Nat} {n0 : Nat} {bf : ab_B} : decode (ab_code (zx σ n0 bf).1 2005) 141 = .ok (.goto 27, 3) := zd zm_2005 (by decide +kernel)
theorem d_2005_144 {σ : Nat → Nat} {n0 : Nat} {bf : ab_B} : decode (ab_code (zx σ n0 bf).1 2005) 144 = .ok (.lload_n 1, 1) := zd zm_2005 (by decide +kernel)
theorem d_2005_145 {σ : Nat → Nat} {n0 : Nat} {bf : ab_B} : decode (ab_code (zx σ n0 bf).1 2005) 145 = .ok (.lload_n 3, 1) := zd zm_2005 (by decide +kernel)
theorem d_2005_146 {σ : Nat → Nat} {n0 : Nat} {bf : ab_B} : decode (ab_code (zx σ n0 bf).1 2005) 146 = .ok (.lor, 1) := zd zm_2005 (by decide +kernel)
theorem d_2005_147 {σ : Nat → Nat} {n0 : Nat} {bf : ab_B} : decode (ab_code (zx σ n0 bf).1 2005) 147 = .ok (.lstore 5, 2) := zd zm_2005 (by decide +kernel)
theorem d_2005_149 {σ : Nat → Nat} {n0 : Nat} {bf : ab_B} : decode (ab_code (zx σ n0 bf).1 2005) 149 = .ok (.goto 19, 3) := zd zm_2005 (by decide +kernel)
theorem d_2005_152 {σ : Nat → Nat} {n0 : Nat} {bf : ab_B} : decode (ab_code (zx σ n0 bf).1 2005) 152 = .ok (.iload_n 0, 1) := zd zm_2005 (by decide +kernel)
theorem d_2005_153 {σ : Nat → Nat} {n0 : Nat} {bf : ab_B} : decode (ab_code (zx σ n0 bf).1 2005) 153 = .ok (.lload_n 1, 1) := zd zm_2005 (by decide +kernel)
theorem d_2005_154 {σ : Nat → Nat} {n0 : Nat} {bf : ab_B} : decode (ab_code (zx σ n0 bf).1 2005) 154 = .ok (.lload_n 3, 1) := zd zm_2005 (by decide +kernel)
theorem d_2005_155 {σ : Nat → Nat} {n0 : Nat} {bf : ab_B} : decode (ab_code (zx σ n0 bf).1 2005) 155 = .ok (.invokestatic 73, 3) := zd zm_2005 (by decide +kernel)
theorem d_2005_158 {σ : Nat → Nat} {n0 : Nat} {bf : ab_B} : decode (ab_code (zx σ n0 bf).1 2005) 158 = .ok (.ifCond .eq 7, 3) := zd zm_2005 (by decide +kernel)
theorem d_2005_161 {σ : Nat → Nat} {n0 : Nat} {bf : ab_B} : decode (ab_code (zx σ n0 bf).1 2005) 161 = .ok (.lconst 1, 1) := zd zm_2005 (by decide +kernel)
theorem d_2005_162 {σ : Nat → Nat} {n0 : Nat} {bf : ab_B} : decode (ab_code (zx σ n0 bf).1 2005) 162 = .ok (.goto 4, 3) := zd zm_2005 (by decide +kernel)
theorem d_2005_165 {σ : Nat → Nat} {n0 : Nat} {bf : ab_B} : decode (ab_code (zx σ n0 bf).1 2005) 165 = .ok (.lconst 0, 1) := zd zm_2005 (by decide +kernel)
theorem d_2005_166 {σ : Nat → Nat} {n0 : Nat} {bf : ab_B} : decode (ab_code (zx σ n0 bf).1 2005) 166 = .ok (.lstore 5, 2) := zd zm_2005 (by decide +kernel)
theorem d_2005_168 {σ : Nat → Nat} {n0 : Nat} {bf : ab_B} : decode (ab_code (zx σ n0 bf).1 2005) 168 = .ok (.lload 5, 2) := zd zm_2005 (by decide +kernel)
theorem d_2005_170 {σ : Nat → Nat} {n0 : Nat} {bf : ab_B} : decode (ab_code (zx σ n0 bf).1 2005) 170 = .ok (.ldc2_w 77, 3) := zd zm_2005 (by decide +kernel)
theorem d_2005_173 {σ : Nat → Nat} {n0 : Nat} {bf : ab_B} : decode (ab_code (zx σ n0 bf).1 2005) 173 = .ok (.lcmp, 1) := zd zm_2005 (by decide +kernel)
theorem d_2005_174 {σ : Nat → Nat} {n0 : Nat} {bf : ab_B} : decode (ab_code (zx σ n0 bf).1 2005) 174 = .ok (.ifCond .gt 12, 3) := zd zm_2005 (by decide +kernel)
theorem d_2005_177 {σ : Nat → Nat} {n0 : Nat} {bf : ab_B} : decode (ab_code (zx σ n0 bf).1 2005) 177 = .ok (.lload 5, 2) := zd zm_2005 (by decide +kernel)
theorem d_2005_179 {σ : Nat → Nat} {n0 : Nat} {bf : ab_B} : decode (ab_code (zx σ n0 bf).1 2005) 179 = .ok (.ldc2_w 79, 3) := zd zm_2005 (by decide +kernel)
theorem d_2005_182 {σ : Nat → Nat} {n0 : Nat} {bf : ab_B} : decode (ab_code (zx σ n0 bf).1 2005) 182 = .ok (.lcmp, 1) := zd zm_2005 (by decide +kernel)
theorem d_2005_183 {σ : Nat → Nat} {n0 : Nat} {bf : ab_B} : decode (ab_code (zx σ n0 bf).1 2005) 183 = .ok (.ifCond .ge 9, 3) := zd zm_2005 (by decide +kernel)
theorem d_2005_186 {σ : Nat → Nat} {n0 : Nat} {bf : ab_B} : decode (ab_code (zx σ n0 bf).1 2005) 186 = .ok (.ldc2_w 41, 3) := zd zm_2005 (by decide +kernel)
theorem d_2005_189 {σ : Nat → Nat} {n0 : Nat} {bf : ab_B} : decode (ab_code (zx σ n0 bf).1 2005) 189 = .ok (.goto 5, 3) := zd zm_2005 (by decide +kernel)
theorem d_2005_192 {σ : Nat → Nat} {n0 : Nat} {bf : ab_B} : decode (ab_code (zx σ n0 bf).1 2005) 192 = .ok (.lload 5, 2) := zd zm_2005 (by decide +kernel)
theorem d_2005_194 {σ : Nat → Nat} {n0 : Nat} {bf : ab_B} : decode (ab_code (zx σ n0 bf).1 2005) 194 = .ok (.lreturn, 1) := zd zm_2005 (by decide +kernel)
def w_X3_two_168 (X : zs_X) (d : Nat) (p5 : Int64) (S : zs_T) (Q : zs_Q) : Prop :=
  ((((2147483647 : Int64) < p5 → (Q (.returned (some (.long (-9223372036854775808 : Int64)))) S)) ∧ (¬ ((2147483647 : Int64) < p5) → ((((-2147483647 : Int64) ≤ p5 → (Q (.returned (some (.long p5))) S)) ∧ (¬ ((-2147483647 : Int64) ≤ p5) → (Q (.returned (some (.long (-9223372036854775808 : Int64)))) S)))))))
theorem u_X3_two_168 {σ : Nat → Nat} {n0 : Nat} {bf : ab_B} {d : Nat} {p5 : Int64} {S : zs_T} {Q : zs_Q} (hB : zt_B bf) (h : w_X3_two_168 (zx σ n0 bf) d p5 S Q) : zs_U (zx σ n0 bf) d 2005 168 [(5, .long p5)] [] S Q := by
  unfold w_X3_two_168 at h
  refine zu_lload d_2005_168 rfl ?_
  refine zl2_2_77 rfl d_2005_170 ?_
  refine zu_lgt (t := 186) d_2005_173 d_2005_174 rfl (fun c1 => ?_) (fun c1 => ?_)
  · have h := h.1 c1
    refine zl2_2_41 rfl d_2005_186 ?_
    refine zu_goto (t := 194) d_2005_189 rfl ?_
    exact zu_lret d_2005_194 zr_2005 h
  · have h := h.2 c1
    refine zu_lload d_2005_177 rfl ?_
    refine zl2_2_79 rfl d_2005_179 ?_
    refine zu_lge (t := 192) d_2005_182 d_2005_183 rfl (fun c2 => ?_) (fun c2 => ?_)
    · have h := h.1 c2
      refine zu_lload d_2005_192 rfl ?_
      exact zu_lret d_2005_194 zr_2005 h
    · have h := h.2 c2
      refine zl2_2_41 rfl d_2005_186 ?_
      refine zu_goto (t := 194) d_2005_189 rfl ?_
      exact zu_lret d_2005_194 zr_2005 h
def w_X3_two_107 (X : zs_X) (d : Nat) (q0 : Int64) (S : zs_T) (Q : zs_Q) : Prop :=
  (w_X3_two_168 X d q0 S Q)
theorem u_X3_two_107 {σ : Nat → Nat} {n0 : Nat} {bf : ab_B} {d : Nat} {q0 : Int64} {S : zs_T} {Q : zs_Q} (hB : zt_B bf) (h : w_X3_two_107 (zx σ n0 bf) d q0 S Q) : zs_U (zx σ n0 bf) d 2005 107 [] [.long q0] S Q := by
  unfold w_X3_two_107 at h
  refine zu_lstore d_2005_107 (zs_lt zq_2005 rfl) ?_
  refine zu_goto (t := 168) d_2005_109 rfl ?_
  exact (u_X3_two_168 hB h).weak ⟨rfl, trivial⟩
def w_X3_two_131 (X : zs_X) (d : Nat) (q0 : Int64) (S : zs_T) (Q : zs_Q) : Prop :=
  (w_X3_two_168 X d q0 S Q)
theorem u_X3_two_131 {σ : Nat → Nat} {n0 : Nat} {bf : ab_B} {d : Nat} {q0 : Int64} {S : zs_T} {Q : zs_Q} (hB : zt_B bf) (h : w_X3_two_131 (zx σ n0 bf) d q0 S Q) : zs_U (zx σ n0 bf) d 2005 131 [] [.long q0] S Q := by
  unfold w_X3_two_131 at h
  refine zu_lstore d_2005_131 (zs_lt zq_2005 rfl) ?_
  refine zu_goto (t := 168) d_2005_133 rfl ?_
  exact (u_X3_two_168 hB h).weak ⟨rfl, trivial⟩
def w_X3_two_166 (X : zs_X) (d : Nat) (q0 : Int64) (S : zs_T) (Q : zs_Q) : Prop :=
  (w_X3_two_168 X d q0 S Q)
theorem u_X3_two_166 {σ : Nat → Nat} {n0 : Nat} {bf : ab_B} {d : Nat} {q0 : Int64} {S : zs_T} {Q : zs_Q} (hB : zt_B bf) (h : w_X3_two_166 (zx σ n0 bf) d q0 S Q) : zs_U (zx σ n0 bf) d 2005 166 [] [.long q0] S Q := by
  unfold w_X3_two_166 at h
  refine zu_lstore d_2005_166 (zs_lt zq_2005 rfl) ?_
  exact (u_X3_two_168 hB h).weak ⟨rfl, trivial⟩
def w_X3_two (X : zs_X) (d : Nat) (p0 : Int32) (p1 : Int64) (p3 : Int64) (S : zs_T) (Q : zs_Q) : Prop :=
  (((¬ p0.toInt = 42 → ¬ p0.toInt = 43 → ¬ p0.toInt = 45 → ¬ p0.toInt = 1028 → ¬ p0.toInt = 1029 → ¬ p0.toInt = 1030 → ¬ p0.toInt = 1031 → (zs_C X d 2 [.int p0, .long p1, .long p3] S (zs_kI (fun v9 S8 => (((v9 = 0 → (w_X3_two_166 X d (0 : Int64) S8 Q)) ∧ (¬ (v9 = 0) → (w_X3_two_166 X d (1 : Int64) S8 Q))))) Q))) ∧ (p0.toInt = 42 → (w_X3_two_168 X d (p1 * p3) S Q)) ∧ (p0.toInt = 43 → (w_X3_two_168 X d (p1 + p3) S Q)) ∧ (p0.toInt = 45 → (w_X3_two_168 X d (p1 - p3) S Q)) ∧ (p0.toInt = 1028 → (((¬ p3 = (0 : Int64) → (¬ p3 = 0 ∧ w_X3_two_107 X d (p1 / p3) S Q)) ∧ (¬ (¬ p3 = (0 : Int64)) → (w_X3_two_107 X d (-9223372036854775808 : Int64) S Q))))) ∧ (p0.toInt = 1029 → ((((0 : Int64) < p3 → (¬ p3 = 0 ∧ w_X3_two_131 X d (((p1 - p1 / p3 * p3) + p3) - ((p1 - p1 / p3 * p3) + p3) / p3 * p3) S Q)) ∧ (¬ ((0 : Int64) < p3) → (w_X3_two_131 X d (-9223372036854775808 : Int64) S Q))))) ∧ (p0.toInt = 1030 → (w_X3_two_168 X d (p1 &&& p3) S Q)) ∧ (p0.toInt = 1031 → (w_X3_two_168 X d (p1 ||| p3) S Q))))
theorem u_X3_two {σ : Nat → Nat} {n0 : Nat} {bf : ab_B} {d : Nat} {p0 : Int32} {p1 : Int64} {p3 : Int64} {S : zs_T} {Q : zs_Q} (hB : zt_B bf) (hd : 1 ≤ d) (h : w_X3_two (zx σ n0 bf) (d - 1) p0 p1 p3 S Q) : zs_C (zx σ n0 bf) d 2005 [.int p0, .long p1, .long p3] S Q := by
  have hL : lv_args 0 [.int p0, .long p1, .long p3] = [(0, .int p0), (1, .long p1), (3, .long p3)] := rfl
  refine zs_C.of1 (hB.2 2005 (by decide) (by decide)) hd (by rw [hL]; exact zs_sub_self _ (by exact ⟨rfl, rfl, rfl, trivial⟩)) ?_
  rw [hL]
  clear hL
  unfold w_X3_two at h
  refine zu_iload_n d_2005_0 rfl ?_
  refine zu_lsw d_2005_1 (by decide) ?_
  by_cases c1 : p0.toInt = 42
  · have h := h.2.1 c1
    have hof : Op.lookupswitch.offset #[(42, 83), (43, 67), (45, 75), (1028, 91), (1029, 111), (1030, 135), (1031, 143)].toList 151 p0.toInt = 83 := by rw [c1]; decide
    rw [hof]
    refine ⟨by decide, ?_⟩
    show zs_U _ _ _ 84 _ _ _ _
    refine zu_lload_n d_2005_84 rfl ?_
    refine zu_lload_n d_2005_85 rfl ?_
    refine zu_stk d_2005_86 rfl rfl ?_
    refine zu_lstore d_2005_87 (zs_lt zq_2005 rfl) ?_
    refine zu_goto (t := 168) d_2005_89 rfl ?_
    exact (u_X3_two_168 hB h).weak ⟨rfl, trivial⟩
  by_cases c2 : p0.toInt = 43
  · have h := h.2.2.1 c2
    have hof : Op.lookupswitch.offset #[(42, 83), (43, 67), (45, 75), (1028, 91), (1029, 111), (1030, 135), (1031, 143)].toList 151 p0.toInt = 67 := by rw [c2]; decide
    rw [hof]
    refine ⟨by decide, ?_⟩
    show zs_U _ _ _ 68 _ _ _ _
    refine zu_lload_n d_2005_68 rfl ?_
    refine zu_lload_n d_2005_69 rfl ?_
    refine zu_stk d_2005_70 rfl rfl ?_
    refine zu_lstore d_2005_71 (zs_lt zq_2005 rfl) ?_
    refine zu_goto (t := 168) d_2005_73 rfl ?_
    exact (u_X3_two_168 hB h).weak ⟨rfl, trivial⟩
  by_cases c3 : p0.toInt = 45
  · have h := h.2.2.2.1 c3
    have hof : Op.lookupswitch.offset #[(42, 83), (43, 67), (45, 75), (1028, 91), (1029, 111), (1030, 135), (1031, 143)].toList 151 p0.toInt = 75 := by rw [c3]; decide
    rw [hof]
    refine ⟨by decide, ?_⟩
    show zs_U _ _ _ 76 _ _ _ _
    refine zu_lload_n d_2005_76 rfl ?_
    refine zu_lload_n d_2005_77 rfl ?_
    refine zu_stk d_2005_78 rfl rfl ?_
    refine zu_lstore d_2005_79 (zs_lt zq_2005 rfl) ?_
    refine zu_goto (t := 168) d_2005_81 rfl ?_
    exact (u_X3_two_168 hB h).weak ⟨rfl, trivial⟩
  by_cases c4 : p0.toInt = 1028
  · have h := h.2.2.2.2.1 c4
    have hof : Op.lookupswitch.offset #[(42, 83), (43, 67), (45, 75), (1028, 91), (1029, 111), (1030, 135), (1031, 143)].toList 151 p0.toInt = 91 := by rw [c4]; decide
    rw [hof]
    refine ⟨by decide, ?_⟩
    show zs_U _ _ _ 92 _ _ _ _
    refine zu_lload_n d_2005_92 rfl ?_
    refine zu_lconst (v := 0) d_2005_93 rfl ?_
    refine zu_lne (t := 104) d_2005_94 d_2005_95 rfl (fun c11 => ?_) (fun c11 => ?_)
    · have h := h.1 c11
      refine zu_lload_n d_2005_104 rfl ?_
      refine zu_lload_n d_2005_105 rfl ?_
      obtain ⟨k12, h⟩ := h
      refine zu_ldiv d_2005_106 k12 ?_
      exact (u_X3_two_107 hB h).weak trivial
    · have h := h.2 c11
      refine zl2_2_41 rfl d_2005_98 ?_
      refine zu_goto (t := 107) d_2005_101 rfl ?_
      exact (u_X3_two_107 hB h).weak trivial
  by_cases c5 : p0.toInt = 1029
  · have h := h.2.2.2.2.2.1 c5
    have hof : Op.lookupswitch.offset #[(42, 83), (43, 67), (45, 75), (1028, 91), (1029, 111), (1030, 135), (1031, 143)].toList 151 p0.toInt = 111 := by rw [c5]; decide
    rw [hof]
    refine ⟨by decide, ?_⟩
    show zs_U _ _ _ 112 _ _ _ _
    refine zu_lload_n d_2005_112 rfl ?_
    refine zu_lconst (v := 0) d_2005_113 rfl ?_
    refine zu_lgt (t := 124) d_2005_114 d_2005_115 rfl (fun c13 => ?_) (fun c13 => ?_)
    · have h := h.1 c13
      refine zu_lload_n d_2005_124 rfl ?_
      refine zu_lload_n d_2005_125 rfl ?_
      obtain ⟨k14, h⟩ := h
      refine zu_lrem d_2005_126 k14 ?_
      refine zu_lload_n d_2005_127 rfl ?_
      refine zu_stk d_2005_128 rfl rfl ?_
      refine zu_lload_n d_2005_129 rfl ?_
      refine zu_lrem d_2005_130 k14 ?_
      exact (u_X3_two_131 hB h).weak trivial
    · have h := h.2 c13
      refine zl2_2_41 rfl d_2005_118 ?_
      refine zu_goto (t := 131) d_2005_121 rfl ?_
      exact (u_X3_two_131 hB h).weak trivial
  by_cases c6 : p0.toInt = 1030
  · have h := h.2.2.2.2.2.2.1 c6
    have hof : Op.lookupswitch.offset #[(42, 83), (43, 67), (45, 75), (1028, 91), (1029, 111), (1030, 135), (1031, 143)].toList 151 p0.toInt = 135 := by rw [c6]; decide
    rw [hof]
    refine ⟨by decide, ?_⟩
    show zs_U _ _ _ 136 _ _ _ _
    refine zu_lload_n d_2005_136 rfl ?_
    refine zu_lload_n d_2005_137 rfl ?_
    refine zu_stk d_2005_138 rfl rfl ?_
    refine zu_lstore d_2005_139 (zs_lt zq_2005 rfl) ?_
    refine zu_goto (t := 168) d_2005_141 rfl ?_
    exact (u_X3_two_168 hB h).weak ⟨rfl, trivial⟩
  by_cases c7 : p0.toInt = 1031
  · have h := h.2.2.2.2.2.2.2 c7
    have hof : Op.lookupswitch.offset #[(42, 83), (43, 67), (45, 75), (1028, 91), (1029, 111), (1030, 135), (1031, 143)].toList 151 p0.toInt = 143 := by rw [c7]; decide
    rw [hof]
    refine ⟨by decide, ?_⟩
    show zs_U _ _ _ 144 _ _ _ _
    refine zu_lload_n d_2005_144 rfl ?_
    refine zu_lload_n d_2005_145 rfl ?_
    refine zu_stk d_2005_146 rfl rfl ?_
    refine zu_lstore d_2005_147 (zs_lt zq_2005 rfl) ?_
    refine zu_goto (t := 168) d_2005_149 rfl ?_
    exact (u_X3_two_168 hB h).weak ⟨rfl, trivial⟩
  have h := h.1 c1 c2 c3 c4 c5 c6 c7
  have hof : Op.lookupswitch.offset #[(42, 83), (43, 67), (45, 75), (1028, 91), (1029, 111), (1030, 135), (1031, 143)].toList 151 p0.toInt = 151 := by simp [Op.lookupswitch.offset, c1, c2, c3, c4, c5, c6, c7, Ne.symm c1, Ne.symm c2, Ne.symm c3, Ne.symm c4, Ne.symm c5, Ne.symm c6, Ne.symm c7]
  rw [hof]
  refine ⟨by decide, ?_⟩
  show zs_U _ _ _ 152 _ _ _ _
  refine zu_iload_n d_2005_152 rfl ?_
  refine zu_lload_n d_2005_153 rfl ?_
  refine zu_lload_n d_2005_154 rfl ?_
  refine zc_2_73 (x0 := p0) (x1 := p1) (x2 := p3) hB rfl d_2005_155 (Nat.le_of_ble_eq_true rfl) h (fun v9 S8 h => ?_)
  refine zu_ifeq (t := 165) d_2005_158 rfl (fun c10 => ?_) (fun c10 => ?_)
  · have h := h.1 c10
    refine zu_lconst (v := 0) d_2005_165 rfl ?_
    exact (u_X3_two_166 hB h).weak trivial
  · have h := h.2 c10
    refine zu_lconst (v := 1) d_2005_161 rfl ?_
    refine zu_goto (t := 166) d_2005_162 rfl ?_
    exact (u_X3_two_166 hB h).weak trivial
/-! SchemaPascal$Shapes.right(LSchemaPascal$Type;I)Z -/
theorem zm_2006 {σ : Nat → Nat} {n0 : Nat} {bf : ab_B} : ab_code (zx σ n0 bf).1 2006 = prog_11_method_12_code := rfl
theorem zq_2006 {σ : Nat → Nat} {n0 : Nat} {bf : ab_B} : ab_maxL (zx σ n0 bf).1 2006 = 3 := rfl
theorem zr_2006 {σ : Nat → Nat} {n0 : Nat} {bf : ab_B} : ab_ret (zx σ n0 bf).1 2006 = (Option.some Jvm.ClassFile.FieldType.boolean) := rfl
theorem d_2006_0 {σ : Nat → Nat} {n0 : Nat} {bf : ab_B} : decode (ab_code (zx σ n0 bf).1 2006) 0 = .ok (.aload_n 0, 1) := zd zm_2006 (by decide +kernel)
theorem d_2006_1 {σ : Nat → Nat} {n0 : Nat} {bf : ab_B} : decode (ab_code (zx σ n0 bf).1 2006) 1 = .ok (.aload_n 1, 1) := zd zm_2006 (by decide +kernel)
theorem d_2006_2 {σ : Nat → Nat} {n0 : Nat} {bf : ab_B} : decode (ab_code (zx σ n0 bf).1 2006) 2 = .ok (.iload_n 2, 1) := zd zm_2006 (by decide +kernel)
theorem d_2006_3 {σ : Nat → Nat} {n0 : Nat} {bf : ab_B} : decode (ab_code (zx σ n0 bf).1 2006) 3 = .ok (.invokevirtual 160, 3) := zd zm_2006 (by decide +kernel)
theorem d_2006_6 {σ : Nat → Nat} {n0 : Nat} {bf : ab_B} : decode (ab_code (zx σ n0 bf).1 2006) 6 = .ok (.lconst 0, 1) := zd zm_2006 (by decide +kernel)
theorem d_2006_7 {σ : Nat → Nat} {n0 : Nat} {bf : ab_B} : decode (ab_code (zx σ n0 bf).1 2006) 7 = .ok (.lcmp, 1) := zd zm_2006 (by decide +kernel)
theorem d_2006_8 {σ : Nat → Nat} {n0 : Nat} {bf : ab_B} : decode (ab_code (zx σ n0 bf).1 2006) 8 = .ok (.ifCond .lt 7, 3) := zd zm_2006 (by decide +kernel)
theorem d_2006_11 {σ : Nat → Nat} {n0 : Nat} {bf : ab_B} : decode (ab_code (zx σ n0 bf).1 2006) 11 = .ok (.iconst 1, 1) := zd zm_2006 (by decide +kernel)
theorem d_2006_12 {σ : Nat → Nat} {n0 : Nat} {bf : ab_B} : decode (ab_code (zx σ n0 bf).1 2006) 12 = .ok (.goto 4, 3) := zd zm_2006 (by decide +kernel)
theorem d_2006_15 {σ : Nat → Nat} {n0 : Nat} {bf : ab_B} : decode (ab_code (zx σ n0 bf).1 2006) 15 = .ok (.iconst 0, 1) := zd zm_2006 (by decide +kernel)
theorem d_2006_16 {σ : Nat → Nat} {n0 : Nat} {bf : ab_B} : decode (ab_code (zx σ n0 bf).1 2006) 16 = .ok (.ireturn, 1) := zd zm_2006 (by decide +kernel)
def w_X3_right (X : zs_X) (d : Nat) (p0 : Nat) (p1 : Option Nat) (p2 : Int32) (S : zs_T) (Q : zs_Q) : Prop :=
  (zs_K S p0 = some (.inl 2) ∧ zs_C X d 2007 [.ref p0, va_rf p1, .int p2] S (zs_kJ (fun v3 S2 => (((v3 < (0 : Int64) → (Q (.returned (some (.int (0 : Int32)))) S2)) ∧ (¬ (v3 < (0 : Int64)) → (Q (.returned (some (.int (1 : Int32)))) S2))))) Q))
theorem u_X3_right {σ : Nat → Nat} {n0 : Nat} {bf : ab_B} {d : Nat} {p0 : Nat} {p1 : Option Nat} {p2 : Int32} {S : zs_T} {Q : zs_Q} (hB : zt_B bf) (hd : 1 ≤ d) (h : w_X3_right (zx σ n0 bf) (d - 1) p0 p1 p2 S Q) : zs_C (zx σ n0 bf) d 2006 [.ref p0, va_rf p1, .int p2] S Q := by
  have hL : lv_args 0 [.ref p0, va_rf p1, .int p2] = [(0, .ref p0), (1, va_rf p1), (2, .int p2)] := by simp [lv_args, zs_cat, zs_cI, zs_cJ, zs_cA]
  refine zs_C.of1 (hB.2 2006 (by decide) (by decide)) hd (by rw [hL]; exact zs_sub_self _ (by exact ⟨rfl, rfl, rfl, trivial⟩)) ?_
  rw [hL]
  clear hL
  unfold w_X3_right at h
  refine zu_aload_n d_2006_0 rfl (zs_ra _) ?_
  refine zu_aload_n d_2006_1 rfl (zs_rr _) ?_
  refine zu_iload_n d_2006_2 rfl ?_
  obtain ⟨k1, h⟩ := h
  refine zc_2_160 (x0 := p1) (x1 := p2) hB rfl k1 d_2006_3 (Nat.le_of_ble_eq_true rfl) h (fun v3 S2 h => ?_)
  refine zu_lconst (v := 0) d_2006_6 rfl ?_
  refine zu_llt (t := 15) d_2006_7 d_2006_8 rfl (fun c4 => ?_) (fun c4 => ?_)
  · have h := h.1 c4
    refine zu_iconst d_2006_15 zi_0 ?_
    exact zu_iret d_2006_16 zr_2006 (zs_b_n (Or.inl rfl)) h
  · have h := h.2 c4
    refine zu_iconst d_2006_11 zi_1 ?_
    refine zu_goto (t := 16) d_2006_12 rfl ?_
    exact zu_iret d_2006_16 zr_2006 (zs_b_n (Or.inr rfl)) h
/-! SchemaPascal$Shapes.measured(LSchemaPascal$Type;I)J -/
theorem zm_2007 {σ : Nat → Nat} {n0 : Nat} {bf : ab_B} : ab_code (zx σ n0 bf).1 2007 = prog_11_method_13_code := rfl
theorem zq_2007 {σ : Nat → Nat} {n0 : Nat} {bf : ab_B} : ab_maxL (zx σ n0 bf).1 2007 = 14 := rfl
theorem zr_2007 {σ : Nat → Nat} {n0 : Nat} {bf : ab_B} : ab_ret (zx σ n0 bf).1 2007 = (Option.some Jvm.ClassFile.FieldType.long) := rfl
theorem d_2007_0 {σ : Nat → Nat} {n0 : Nat} {bf : ab_B} : decode (ab_code (zx σ n0 bf).1 2007) 0 = .ok (.aload_n 1, 1) := zd zm_2007 (by decide +kernel)
theorem d_2007_1 {σ : Nat → Nat} {n0 : Nat} {bf : ab_B} : decode (ab_code (zx σ n0 bf).1 2007) 1 = .ok (.getfield 86, 3) := zd zm_2007 (by decide +kernel)
theorem d_2007_4 {σ : Nat → Nat} {n0 : Nat} {bf : ab_B} : decode (ab_code (zx σ n0 bf).1 2007) 4 = .ok (.ldc2_w 88, 3) := zd zm_2007 (by decide +kernel)
theorem d_2007_7 {σ : Nat → Nat} {n0 : Nat} {bf : ab_B} : decode (ab_code (zx σ n0 bf).1 2007) 7 = .ok (.lcmp, 1) := zd zm_2007 (by decide +kernel)
theorem d_2007_8 {σ : Nat → Nat} {n0 : Nat} {bf : ab_B} : decode (ab_code (zx σ n0 bf).1 2007) 8 = .ok (.ifCond .eq 8, 3) := zd zm_2007 (by decide +kernel)
theorem d_2007_11 {σ : Nat → Nat} {n0 : Nat} {bf : ab_B} : decode (ab_code (zx σ n0 bf).1 2007) 11 = .ok (.aload_n 1, 1) := zd zm_2007 (by decide +kernel)
theorem d_2007_12 {σ : Nat → Nat} {n0 : Nat} {bf : ab_B} : decode (ab_code (zx σ n0 bf).1 2007) 12 = .ok (.getfield 86, 3) := zd zm_2007 (by decide +kernel)
theorem d_2007_15 {σ : Nat → Nat} {n0 : Nat} {bf : ab_B} : decode (ab_code (zx σ n0 bf).1 2007) 15 = .ok (.lreturn, 1) := zd zm_2007 (by decide +kernel)
theorem d_2007_16 {σ : Nat → Nat} {n0 : Nat} {bf : ab_B} : decode (ab_code (zx σ n0 bf).1 2007) 16 = .ok (.aload_n 1, 1) := zd zm_2007 (by decide +kernel)
theorem d_2007_17 {σ : Nat → Nat} {n0 : Nat} {bf : ab_B} : decode (ab_code (zx σ n0 bf).1 2007) 17 = .ok (.getfield 81, 3) := zd zm_2007 (by decide +kernel)
theorem d_2007_20 {σ : Nat → Nat} {n0 : Nat} {bf : ab_B} : decode (ab_code (zx σ n0 bf).1 2007) 20 = .ok (.tableswitch 377 4 11 #[48, 101, 153, 191, 287, 377, 300, 310], 48) := zd zm_2007 (by decide +kernel)
theorem d_2007_68 {σ : Nat → Nat} {n0 : Nat} {bf : ab_B} : decode (ab_code (zx σ n0 bf).1 2007) 68 = .ok (.aload_n 0, 1) := zd zm_2007 (by decide +kernel)
theorem d_2007_69 {σ : Nat → Nat} {n0 : Nat} {bf : ab_B} : decode (ab_code (zx σ n0 bf).1 2007) 69 = .ok (.aload_n 1, 1) := zd zm_2007 (by decide +kernel)
theorem d_2007_70 {σ : Nat → Nat} {n0 : Nat} {bf : ab_B} : decode (ab_code (zx σ n0 bf).1 2007) 70 = .ok (.getfield 82, 3) := zd zm_2007 (by decide +kernel)
theorem d_2007_73 {σ : Nat → Nat} {n0 : Nat} {bf : ab_B} : decode (ab_code (zx σ n0 bf).1 2007) 73 = .ok (.iload_n 2, 1) := zd zm_2007 (by decide +kernel)
theorem d_2007_74 {σ : Nat → Nat} {n0 : Nat} {bf : ab_B} : decode (ab_code (zx σ n0 bf).1 2007) 74 = .ok (.invokevirtual 38, 3) := zd zm_2007 (by decide +kernel)
theorem d_2007_77 {σ : Nat → Nat} {n0 : Nat} {bf : ab_B} : decode (ab_code (zx σ n0 bf).1 2007) 77 = .ok (.lstore_n 3, 1) := zd zm_2007 (by decide +kernel)
theorem d_2007_78 {σ : Nat → Nat} {n0 : Nat} {bf : ab_B} : decode (ab_code (zx σ n0 bf).1 2007) 78 = .ok (.aload_n 0, 1) := zd zm_2007 (by decide +kernel)
theorem d_2007_79 {σ : Nat → Nat} {n0 : Nat} {bf : ab_B} : decode (ab_code (zx σ n0 bf).1 2007) 79 = .ok (.aload_n 1, 1) := zd zm_2007 (by decide +kernel)
theorem d_2007_80 {σ : Nat → Nat} {n0 : Nat} {bf : ab_B} : decode (ab_code (zx σ n0 bf).1 2007) 80 = .ok (.getfield 84, 3) := zd zm_2007 (by decide +kernel)
theorem d_2007_83 {σ : Nat → Nat} {n0 : Nat} {bf : ab_B} : decode (ab_code (zx σ n0 bf).1 2007) 83 = .ok (.iload_n 2, 1) := zd zm_2007 (by decide +kernel)
theorem d_2007_84 {σ : Nat → Nat} {n0 : Nat} {bf : ab_B} : decode (ab_code (zx σ n0 bf).1 2007) 84 = .ok (.invokevirtual 38, 3) := zd zm_2007 (by decide +kernel)
theorem d_2007_87 {σ : Nat → Nat} {n0 : Nat} {bf : ab_B} : decode (ab_code (zx σ n0 bf).1 2007) 87 = .ok (.lstore 5, 2) := zd zm_2007 (by decide +kernel)
theorem d_2007_89 {σ : Nat → Nat} {n0 : Nat} {bf : ab_B} : decode (ab_code (zx σ n0 bf).1 2007) 89 = .ok (.lload_n 3, 1) := zd zm_2007 (by decide +kernel)
theorem d_2007_90 {σ : Nat → Nat} {n0 : Nat} {bf : ab_B} : decode (ab_code (zx σ n0 bf).1 2007) 90 = .ok (.ldc2_w 41, 3) := zd zm_2007 (by decide +kernel)
theorem d_2007_93 {σ : Nat → Nat} {n0 : Nat} {bf : ab_B} : decode (ab_code (zx σ n0 bf).1 2007) 93 = .ok (.lcmp, 1) := zd zm_2007 (by decide +kernel)
theorem d_2007_94 {σ : Nat → Nat} {n0 : Nat} {bf : ab_B} : decode (ab_code (zx σ n0 bf).1 2007) 94 = .ok (.ifCond .eq 23, 3) := zd zm_2007 (by decide +kernel)
theorem d_2007_97 {σ : Nat → Nat} {n0 : Nat} {bf : ab_B} : decode (ab_code (zx σ n0 bf).1 2007) 97 = .ok (.lload 5, 2) := zd zm_2007 (by decide +kernel)
theorem d_2007_99 {σ : Nat → Nat} {n0 : Nat} {bf : ab_B} : decode (ab_code (zx σ n0 bf).1 2007) 99 = .ok (.ldc2_w 41, 3) := zd zm_2007 (by decide +kernel)
theorem d_2007_102 {σ : Nat → Nat} {n0 : Nat} {bf : ab_B} : decode (ab_code (zx σ n0 bf).1 2007) 102 = .ok (.lcmp, 1) := zd zm_2007 (by decide +kernel)
theorem d_2007_103 {σ : Nat → Nat} {n0 : Nat} {bf : ab_B} : decode (ab_code (zx σ n0 bf).1 2007) 103 = .ok (.ifCond .eq 14, 3) := zd zm_2007 (by decide +kernel)
theorem d_2007_106 {σ : Nat → Nat} {n0 : Nat} {bf : ab_B} : decode (ab_code (zx σ n0 bf).1 2007) 106 = .ok (.lload_n 3, 1) := zd zm_2007 (by decide +kernel)
theorem d_2007_107 {σ : Nat → Nat} {n0 : Nat} {bf : ab_B} : decode (ab_code (zx σ n0 bf).1 2007) 107 = .ok (.lload 5, 2) := zd zm_2007 (by decide +kernel)
theorem d_2007_109 {σ : Nat → Nat} {n0 : Nat} {bf : ab_B} : decode (ab_code (zx σ n0 bf).1 2007) 109 = .ok (.lcmp, 1) := zd zm_2007 (by decide +kernel)
theorem d_2007_110 {σ : Nat → Nat} {n0 : Nat} {bf : ab_B} : decode (ab_code (zx σ n0 bf).1 2007) 110 = .ok (.ifCond .gt 7, 3) := zd zm_2007 (by decide +kernel)
theorem d_2007_113 {σ : Nat → Nat} {n0 : Nat} {bf : ab_B} : decode (ab_code (zx σ n0 bf).1 2007) 113 = .ok (.lconst 1, 1) := zd zm_2007 (by decide +kernel)
theorem d_2007_114 {σ : Nat → Nat} {n0 : Nat} {bf : ab_B} : decode (ab_code (zx σ n0 bf).1 2007) 114 = .ok (.goto 6, 3) := zd zm_2007 (by decide +kernel)
theorem d_2007_117 {σ : Nat → Nat} {n0 : Nat} {bf : ab_B} : decode (ab_code (zx σ n0 bf).1 2007) 117 = .ok (.ldc2_w 88, 3) := zd zm_2007 (by decide +kernel)
theorem d_2007_120 {σ : Nat → Nat} {n0 : Nat} {bf : ab_B} : decode (ab_code (zx σ n0 bf).1 2007) 120 = .ok (.lreturn, 1) := zd zm_2007 (by decide +kernel)
theorem d_2007_121 {σ : Nat → Nat} {n0 : Nat} {bf : ab_B} : decode (ab_code (zx σ n0 bf).1 2007) 121 = .ok (.aload_n 0, 1) := zd zm_2007 (by decide +kernel)
theorem d_2007_122 {σ : Nat → Nat} {n0 : Nat} {bf : ab_B} : decode (ab_code (zx σ n0 bf).1 2007) 122 = .ok (.aload_n 1, 1) := zd zm_2007 (by decide +kernel)
theorem d_2007_123 {σ : Nat → Nat} {n0 : Nat} {bf : ab_B} : decode (ab_code (zx σ n0 bf).1 2007) 123 = .ok (.getfield 95, 3) := zd zm_2007 (by decide +kernel)
theorem d_2007_126 {σ : Nat → Nat} {n0 : Nat} {bf : ab_B} : decode (ab_code (zx σ n0 bf).1 2007) 126 = .ok (.iload_n 2, 1) := zd zm_2007 (by decide +kernel)
theorem d_2007_127 {σ : Nat → Nat} {n0 : Nat} {bf : ab_B} : decode (ab_code (zx σ n0 bf).1 2007) 127 = .ok (.invokevirtual 160, 3) := zd zm_2007 (by decide +kernel)
theorem d_2007_130 {σ : Nat → Nat} {n0 : Nat} {bf : ab_B} : decode (ab_code (zx σ n0 bf).1 2007) 130 = .ok (.lconst 0, 1) := zd zm_2007 (by decide +kernel)
theorem d_2007_131 {σ : Nat → Nat} {n0 : Nat} {bf : ab_B} : decode (ab_code (zx σ n0 bf).1 2007) 131 = .ok (.lcmp, 1) := zd zm_2007 (by decide +kernel)
theorem d_2007_132 {σ : Nat → Nat} {n0 : Nat} {bf : ab_B} : decode (ab_code (zx σ n0 bf).1 2007) 132 = .ok (.ifCond .lt 37, 3) := zd zm_2007 (by decide +kernel)
theorem d_2007_135 {σ : Nat → Nat} {n0 : Nat} {bf : ab_B} : decode (ab_code (zx σ n0 bf).1 2007) 135 = .ok (.aload_n 0, 1) := zd zm_2007 (by decide +kernel)
theorem d_2007_136 {σ : Nat → Nat} {n0 : Nat} {bf : ab_B} : decode (ab_code (zx σ n0 bf).1 2007) 136 = .ok (.aload_n 1, 1) := zd zm_2007 (by decide +kernel)
theorem d_2007_137 {σ : Nat → Nat} {n0 : Nat} {bf : ab_B} : decode (ab_code (zx σ n0 bf).1 2007) 137 = .ok (.getfield 95, 3) := zd zm_2007 (by decide +kernel)
theorem d_2007_140 {σ : Nat → Nat} {n0 : Nat} {bf : ab_B} : decode (ab_code (zx σ n0 bf).1 2007) 140 = .ok (.iload_n 2, 1) := zd zm_2007 (by decide +kernel)
theorem d_2007_141 {σ : Nat → Nat} {n0 : Nat} {bf : ab_B} : decode (ab_code (zx σ n0 bf).1 2007) 141 = .ok (.invokevirtual 66, 3) := zd zm_2007 (by decide +kernel)
theorem d_2007_144 {σ : Nat → Nat} {n0 : Nat} {bf : ab_B} : decode (ab_code (zx σ n0 bf).1 2007) 144 = .ok (.lconst 0, 1) := zd zm_2007 (by decide +kernel)
theorem d_2007_145 {σ : Nat → Nat} {n0 : Nat} {bf : ab_B} : decode (ab_code (zx σ n0 bf).1 2007) 145 = .ok (.lcmp, 1) := zd zm_2007 (by decide +kernel)
theorem d_2007_146 {σ : Nat → Nat} {n0 : Nat} {bf : ab_B} : decode (ab_code (zx σ n0 bf).1 2007) 146 = .ok (.ifCond .lt 23, 3) := zd zm_2007 (by decide +kernel)
theorem d_2007_149 {σ : Nat → Nat} {n0 : Nat} {bf : ab_B} : decode (ab_code (zx σ n0 bf).1 2007) 149 = .ok (.aload_n 0, 1) := zd zm_2007 (by decide +kernel)
theorem d_2007_150 {σ : Nat → Nat} {n0 : Nat} {bf : ab_B} : decode (ab_code (zx σ n0 bf).1 2007) 150 = .ok (.aload_n 1, 1) := zd zm_2007 (by decide +kernel)
theorem d_2007_151 {σ : Nat → Nat} {n0 : Nat} {bf : ab_B} : decode (ab_code (zx σ n0 bf).1 2007) 151 = .ok (.getfield 95, 3) := zd zm_2007 (by decide +kernel)
theorem d_2007_154 {σ : Nat → Nat} {n0 : Nat} {bf : ab_B} : decode (ab_code (zx σ n0 bf).1 2007) 154 = .ok (.iload_n 2, 1) := zd zm_2007 (by decide +kernel)
theorem d_2007_155 {σ : Nat → Nat} {n0 : Nat} {bf : ab_B} : decode (ab_code (zx σ n0 bf).1 2007) 155 = .ok (.invokevirtual 70, 3) := zd zm_2007 (by decide +kernel)
theorem d_2007_158 {σ : Nat → Nat} {n0 : Nat} {bf : ab_B} : decode (ab_code (zx σ n0 bf).1 2007) 158 = .ok (.ldc2_w 163, 3) := zd zm_2007 (by decide +kernel)
theorem d_2007_161 {σ : Nat → Nat} {n0 : Nat} {bf : ab_B} : decode (ab_code (zx σ n0 bf).1 2007) 161 = .ok (.lcmp, 1) := zd zm_2007 (by decide +kernel)
theorem d_2007_162 {σ : Nat → Nat} {n0 : Nat} {bf : ab_B} : decode (ab_code (zx σ n0 bf).1 2007) 162 = .ok (.ifCond .gt 7, 3) := zd zm_2007 (by decide +kernel)
theorem d_2007_165 {σ : Nat → Nat} {n0 : Nat} {bf : ab_B} : decode (ab_code (zx σ n0 bf).1 2007) 165 = .ok (.lconst 1, 1) := zd zm_2007 (by decide +kernel)
theorem d_2007_166 {σ : Nat → Nat} {n0 : Nat} {bf : ab_B} : decode (ab_code (zx σ n0 bf).1 2007) 166 = .ok (.goto 6, 3) := zd zm_2007 (by decide +kernel)
theorem d_2007_169 {σ : Nat → Nat} {n0 : Nat} {bf : ab_B} : decode (ab_code (zx σ n0 bf).1 2007) 169 = .ok (.ldc2_w 88, 3) := zd zm_2007 (by decide +kernel)
theorem d_2007_172 {σ : Nat → Nat} {n0 : Nat} {bf : ab_B} : decode (ab_code (zx σ n0 bf).1 2007) 172 = .ok (.lreturn, 1) := zd zm_2007 (by decide +kernel)
theorem d_2007_173 {σ : Nat → Nat} {n0 : Nat} {bf : ab_B} : decode (ab_code (zx σ n0 bf).1 2007) 173 = .ok (.aload_n 0, 1) := zd zm_2007 (by decide +kernel)
theorem d_2007_174 {σ : Nat → Nat} {n0 : Nat} {bf : ab_B} : decode (ab_code (zx σ n0 bf).1 2007) 174 = .ok (.aload_n 1, 1) := zd zm_2007 (by decide +kernel)
theorem d_2007_175 {σ : Nat → Nat} {n0 : Nat} {bf : ab_B} : decode (ab_code (zx σ n0 bf).1 2007) 175 = .ok (.getfield 82, 3) := zd zm_2007 (by decide +kernel)
theorem d_2007_178 {σ : Nat → Nat} {n0 : Nat} {bf : ab_B} : decode (ab_code (zx σ n0 bf).1 2007) 178 = .ok (.iload_n 2, 1) := zd zm_2007 (by decide +kernel)
theorem d_2007_179 {σ : Nat → Nat} {n0 : Nat} {bf : ab_B} : decode (ab_code (zx σ n0 bf).1 2007) 179 = .ok (.invokevirtual 38, 3) := zd zm_2007 (by decide +kernel)
theorem d_2007_182 {σ : Nat → Nat} {n0 : Nat} {bf : ab_B} : decode (ab_code (zx σ n0 bf).1 2007) 182 = .ok (.lstore 7, 2) := zd zm_2007 (by decide +kernel)
theorem d_2007_184 {σ : Nat → Nat} {n0 : Nat} {bf : ab_B} : decode (ab_code (zx σ n0 bf).1 2007) 184 = .ok (.lload 7, 2) := zd zm_2007 (by decide +kernel)
theorem d_2007_186 {σ : Nat → Nat} {n0 : Nat} {bf : ab_B} : decode (ab_code (zx σ n0 bf).1 2007) 186 = .ok (.lconst 1, 1) := zd zm_2007 (by decide +kernel)
theorem d_2007_187 {σ : Nat → Nat} {n0 : Nat} {bf : ab_B} : decode (ab_code (zx σ n0 bf).1 2007) 187 = .ok (.lcmp, 1) := zd zm_2007 (by decide +kernel)
theorem d_2007_188 {σ : Nat → Nat} {n0 : Nat} {bf : ab_B} : decode (ab_code (zx σ n0 bf).1 2007) 188 = .ok (.ifCond .lt 19, 3) := zd zm_2007 (by decide +kernel)
theorem d_2007_191 {σ : Nat → Nat} {n0 : Nat} {bf : ab_B} : decode (ab_code (zx σ n0 bf).1 2007) 191 = .ok (.lload 7, 2) := zd zm_2007 (by decide +kernel)
theorem d_2007_193 {σ : Nat → Nat} {n0 : Nat} {bf : ab_B} : decode (ab_code (zx σ n0 bf).1 2007) 193 = .ok (.ldc2_w 165, 3) := zd zm_2007 (by decide +kernel)
theorem d_2007_196 {σ : Nat → Nat} {n0 : Nat} {bf : ab_B} : decode (ab_code (zx σ n0 bf).1 2007) 196 = .ok (.lcmp, 1) := zd zm_2007 (by decide +kernel)
theorem d_2007_197 {σ : Nat → Nat} {n0 : Nat} {bf : ab_B} : decode (ab_code (zx σ n0 bf).1 2007) 197 = .ok (.ifCond .gt 10, 3) := zd zm_2007 (by decide +kernel)
theorem d_2007_200 {σ : Nat → Nat} {n0 : Nat} {bf : ab_B} : decode (ab_code (zx σ n0 bf).1 2007) 200 = .ok (.lconst 1, 1) := zd zm_2007 (by decide +kernel)
theorem d_2007_201 {σ : Nat → Nat} {n0 : Nat} {bf : ab_B} : decode (ab_code (zx σ n0 bf).1 2007) 201 = .ok (.lload 7, 2) := zd zm_2007 (by decide +kernel)
theorem d_2007_203 {σ : Nat → Nat} {n0 : Nat} {bf : ab_B} : decode (ab_code (zx σ n0 bf).1 2007) 203 = .ok (.ladd, 1) := zd zm_2007 (by decide +kernel)
theorem d_2007_204 {σ : Nat → Nat} {n0 : Nat} {bf : ab_B} : decode (ab_code (zx σ n0 bf).1 2007) 204 = .ok (.goto 6, 3) := zd zm_2007 (by decide +kernel)
theorem d_2007_207 {σ : Nat → Nat} {n0 : Nat} {bf : ab_B} : decode (ab_code (zx σ n0 bf).1 2007) 207 = .ok (.ldc2_w 88, 3) := zd zm_2007 (by decide +kernel)
theorem d_2007_210 {σ : Nat → Nat} {n0 : Nat} {bf : ab_B} : decode (ab_code (zx σ n0 bf).1 2007) 210 = .ok (.lreturn, 1) := zd zm_2007 (by decide +kernel)
theorem d_2007_211 {σ : Nat → Nat} {n0 : Nat} {bf : ab_B} : decode (ab_code (zx σ n0 bf).1 2007) 211 = .ok (.aload_n 0, 1) := zd zm_2007 (by decide +kernel)
theorem d_2007_212 {σ : Nat → Nat} {n0 : Nat} {bf : ab_B} : decode (ab_code (zx σ n0 bf).1 2007) 212 = .ok (.aload_n 1, 1) := zd zm_2007 (by decide +kernel)
theorem d_2007_213 {σ : Nat → Nat} {n0 : Nat} {bf : ab_B} : decode (ab_code (zx σ n0 bf).1 2007) 213 = .ok (.getfield 92, 3) := zd zm_2007 (by decide +kernel)
theorem d_2007_216 {σ : Nat → Nat} {n0 : Nat} {bf : ab_B} : decode (ab_code (zx σ n0 bf).1 2007) 216 = .ok (.iload_n 2, 1) := zd zm_2007 (by decide +kernel)
theorem d_2007_217 {σ : Nat → Nat} {n0 : Nat} {bf : ab_B} : decode (ab_code (zx σ n0 bf).1 2007) 217 = .ok (.invokevirtual 160, 3) := zd zm_2007 (by decide +kernel)
theorem d_2007_220 {σ : Nat → Nat} {n0 : Nat} {bf : ab_B} : decode (ab_code (zx σ n0 bf).1 2007) 220 = .ok (.lconst 0, 1) := zd zm_2007 (by decide +kernel)
theorem d_2007_221 {σ : Nat → Nat} {n0 : Nat} {bf : ab_B} : decode (ab_code (zx σ n0 bf).1 2007) 221 = .ok (.lcmp, 1) := zd zm_2007 (by decide +kernel)
theorem d_2007_222 {σ : Nat → Nat} {n0 : Nat} {bf : ab_B} : decode (ab_code (zx σ n0 bf).1 2007) 222 = .ok (.ifCond .lt 29, 3) := zd zm_2007 (by decide +kernel)
theorem d_2007_225 {σ : Nat → Nat} {n0 : Nat} {bf : ab_B} : decode (ab_code (zx σ n0 bf).1 2007) 225 = .ok (.aload_n 0, 1) := zd zm_2007 (by decide +kernel)
theorem d_2007_226 {σ : Nat → Nat} {n0 : Nat} {bf : ab_B} : decode (ab_code (zx σ n0 bf).1 2007) 226 = .ok (.aload_n 1, 1) := zd zm_2007 (by decide +kernel)
theorem d_2007_227 {σ : Nat → Nat} {n0 : Nat} {bf : ab_B} : decode (ab_code (zx σ n0 bf).1 2007) 227 = .ok (.getfield 92, 3) := zd zm_2007 (by decide +kernel)
theorem d_2007_230 {σ : Nat → Nat} {n0 : Nat} {bf : ab_B} : decode (ab_code (zx σ n0 bf).1 2007) 230 = .ok (.iload_n 2, 1) := zd zm_2007 (by decide +kernel)
theorem d_2007_231 {σ : Nat → Nat} {n0 : Nat} {bf : ab_B} : decode (ab_code (zx σ n0 bf).1 2007) 231 = .ok (.invokevirtual 70, 3) := zd zm_2007 (by decide +kernel)
theorem d_2007_234 {σ : Nat → Nat} {n0 : Nat} {bf : ab_B} : decode (ab_code (zx σ n0 bf).1 2007) 234 = .ok (.aload_n 0, 1) := zd zm_2007 (by decide +kernel)
theorem d_2007_235 {σ : Nat → Nat} {n0 : Nat} {bf : ab_B} : decode (ab_code (zx σ n0 bf).1 2007) 235 = .ok (.aload_n 1, 1) := zd zm_2007 (by decide +kernel)
theorem d_2007_236 {σ : Nat → Nat} {n0 : Nat} {bf : ab_B} : decode (ab_code (zx σ n0 bf).1 2007) 236 = .ok (.getfield 92, 3) := zd zm_2007 (by decide +kernel)
theorem d_2007_239 {σ : Nat → Nat} {n0 : Nat} {bf : ab_B} : decode (ab_code (zx σ n0 bf).1 2007) 239 = .ok (.iload_n 2, 1) := zd zm_2007 (by decide +kernel)
theorem d_2007_240 {σ : Nat → Nat} {n0 : Nat} {bf : ab_B} : decode (ab_code (zx σ n0 bf).1 2007) 240 = .ok (.invokevirtual 66, 3) := zd zm_2007 (by decide +kernel)
theorem d_2007_243 {σ : Nat → Nat} {n0 : Nat} {bf : ab_B} : decode (ab_code (zx σ n0 bf).1 2007) 243 = .ok (.lsub, 1) := zd zm_2007 (by decide +kernel)
theorem d_2007_244 {σ : Nat → Nat} {n0 : Nat} {bf : ab_B} : decode (ab_code (zx σ n0 bf).1 2007) 244 = .ok (.ldc2_w 167, 3) := zd zm_2007 (by decide +kernel)
theorem d_2007_247 {σ : Nat → Nat} {n0 : Nat} {bf : ab_B} : decode (ab_code (zx σ n0 bf).1 2007) 247 = .ok (.lcmp, 1) := zd zm_2007 (by decide +kernel)
theorem d_2007_248 {σ : Nat → Nat} {n0 : Nat} {bf : ab_B} : decode (ab_code (zx σ n0 bf).1 2007) 248 = .ok (.ifCond .lt 7, 3) := zd zm_2007 (by decide +kernel)
theorem d_2007_251 {σ : Nat → Nat} {n0 : Nat} {bf : ab_B} : decode (ab_code (zx σ n0 bf).1 2007) 251 = .ok (.ldc2_w 88, 3) := zd zm_2007 (by decide +kernel)
theorem d_2007_254 {σ : Nat → Nat} {n0 : Nat} {bf : ab_B} : decode (ab_code (zx σ n0 bf).1 2007) 254 = .ok (.lreturn, 1) := zd zm_2007 (by decide +kernel)
theorem d_2007_255 {σ : Nat → Nat} {n0 : Nat} {bf : ab_B} : decode (ab_code (zx σ n0 bf).1 2007) 255 = .ok (.aload_n 0, 1) := zd zm_2007 (by decide +kernel)
theorem d_2007_256 {σ : Nat → Nat} {n0 : Nat} {bf : ab_B} : decode (ab_code (zx σ n0 bf).1 2007) 256 = .ok (.aload_n 1, 1) := zd zm_2007 (by decide +kernel)
theorem d_2007_257 {σ : Nat → Nat} {n0 : Nat} {bf : ab_B} : decode (ab_code (zx σ n0 bf).1 2007) 257 = .ok (.getfield 95, 3) := zd zm_2007 (by decide +kernel)
theorem d_2007_260 {σ : Nat → Nat} {n0 : Nat} {bf : ab_B} : decode (ab_code (zx σ n0 bf).1 2007) 260 = .ok (.iload_n 2, 1) := zd zm_2007 (by decide +kernel)
theorem d_2007_261 {σ : Nat → Nat} {n0 : Nat} {bf : ab_B} : decode (ab_code (zx σ n0 bf).1 2007) 261 = .ok (.invokevirtual 160, 3) := zd zm_2007 (by decide +kernel)
theorem d_2007_264 {σ : Nat → Nat} {n0 : Nat} {bf : ab_B} : decode (ab_code (zx σ n0 bf).1 2007) 264 = .ok (.lstore 9, 2) := zd zm_2007 (by decide +kernel)
theorem d_2007_266 {σ : Nat → Nat} {n0 : Nat} {bf : ab_B} : decode (ab_code (zx σ n0 bf).1 2007) 266 = .ok (.lload 9, 2) := zd zm_2007 (by decide +kernel)
theorem d_2007_268 {σ : Nat → Nat} {n0 : Nat} {bf : ab_B} : decode (ab_code (zx σ n0 bf).1 2007) 268 = .ok (.lconst 0, 1) := zd zm_2007 (by decide +kernel)
theorem d_2007_269 {σ : Nat → Nat} {n0 : Nat} {bf : ab_B} : decode (ab_code (zx σ n0 bf).1 2007) 269 = .ok (.lcmp, 1) := zd zm_2007 (by decide +kernel)
theorem d_2007_270 {σ : Nat → Nat} {n0 : Nat} {bf : ab_B} : decode (ab_code (zx σ n0 bf).1 2007) 270 = .ok (.ifCond .ge 9, 3) := zd zm_2007 (by decide +kernel)
theorem d_2007_273 {σ : Nat → Nat} {n0 : Nat} {bf : ab_B} : decode (ab_code (zx σ n0 bf).1 2007) 273 = .ok (.ldc2_w 88, 3) := zd zm_2007 (by decide +kernel)
theorem d_2007_276 {σ : Nat → Nat} {n0 : Nat} {bf : ab_B} : decode (ab_code (zx σ n0 bf).1 2007) 276 = .ok (.goto 30, 3) := zd zm_2007 (by decide +kernel)
theorem d_2007_279 {σ : Nat → Nat} {n0 : Nat} {bf : ab_B} : decode (ab_code (zx σ n0 bf).1 2007) 279 = .ok (.aload_n 0, 1) := zd zm_2007 (by decide +kernel)
theorem d_2007_280 {σ : Nat → Nat} {n0 : Nat} {bf : ab_B} : decode (ab_code (zx σ n0 bf).1 2007) 280 = .ok (.aload_n 1, 1) := zd zm_2007 (by decide +kernel)
theorem d_2007_281 {σ : Nat → Nat} {n0 : Nat} {bf : ab_B} : decode (ab_code (zx σ n0 bf).1 2007) 281 = .ok (.getfield 92, 3) := zd zm_2007 (by decide +kernel)
theorem d_2007_284 {σ : Nat → Nat} {n0 : Nat} {bf : ab_B} : decode (ab_code (zx σ n0 bf).1 2007) 284 = .ok (.iload_n 2, 1) := zd zm_2007 (by decide +kernel)
theorem d_2007_285 {σ : Nat → Nat} {n0 : Nat} {bf : ab_B} : decode (ab_code (zx σ n0 bf).1 2007) 285 = .ok (.invokevirtual 70, 3) := zd zm_2007 (by decide +kernel)
theorem d_2007_288 {σ : Nat → Nat} {n0 : Nat} {bf : ab_B} : decode (ab_code (zx σ n0 bf).1 2007) 288 = .ok (.aload_n 0, 1) := zd zm_2007 (by decide +kernel)
theorem d_2007_289 {σ : Nat → Nat} {n0 : Nat} {bf : ab_B} : decode (ab_code (zx σ n0 bf).1 2007) 289 = .ok (.aload_n 1, 1) := zd zm_2007 (by decide +kernel)
theorem d_2007_290 {σ : Nat → Nat} {n0 : Nat} {bf : ab_B} : decode (ab_code (zx σ n0 bf).1 2007) 290 = .ok (.getfield 92, 3) := zd zm_2007 (by decide +kernel)
theorem d_2007_293 {σ : Nat → Nat} {n0 : Nat} {bf : ab_B} : decode (ab_code (zx σ n0 bf).1 2007) 293 = .ok (.iload_n 2, 1) := zd zm_2007 (by decide +kernel)
theorem d_2007_294 {σ : Nat → Nat} {n0 : Nat} {bf : ab_B} : decode (ab_code (zx σ n0 bf).1 2007) 294 = .ok (.invokevirtual 66, 3) := zd zm_2007 (by decide +kernel)
theorem d_2007_297 {σ : Nat → Nat} {n0 : Nat} {bf : ab_B} : decode (ab_code (zx σ n0 bf).1 2007) 297 = .ok (.lsub, 1) := zd zm_2007 (by decide +kernel)
theorem d_2007_298 {σ : Nat → Nat} {n0 : Nat} {bf : ab_B} : decode (ab_code (zx σ n0 bf).1 2007) 298 = .ok (.lconst 1, 1) := zd zm_2007 (by decide +kernel)
theorem d_2007_299 {σ : Nat → Nat} {n0 : Nat} {bf : ab_B} : decode (ab_code (zx σ n0 bf).1 2007) 299 = .ok (.ladd, 1) := zd zm_2007 (by decide +kernel)
theorem d_2007_300 {σ : Nat → Nat} {n0 : Nat} {bf : ab_B} : decode (ab_code (zx σ n0 bf).1 2007) 300 = .ok (.lload 9, 2) := zd zm_2007 (by decide +kernel)
theorem d_2007_302 {σ : Nat → Nat} {n0 : Nat} {bf : ab_B} : decode (ab_code (zx σ n0 bf).1 2007) 302 = .ok (.lmul, 1) := zd zm_2007 (by decide +kernel)
theorem d_2007_303 {σ : Nat → Nat} {n0 : Nat} {bf : ab_B} : decode (ab_code (zx σ n0 bf).1 2007) 303 = .ok (.invokestatic 169, 3) := zd zm_2007 (by decide +kernel)
theorem d_2007_306 {σ : Nat → Nat} {n0 : Nat} {bf : ab_B} : decode (ab_code (zx σ n0 bf).1 2007) 306 = .ok (.lreturn, 1) := zd zm_2007 (by decide +kernel)
theorem d_2007_307 {σ : Nat → Nat} {n0 : Nat} {bf : ab_B} : decode (ab_code (zx σ n0 bf).1 2007) 307 = .ok (.aload_n 0, 1) := zd zm_2007 (by decide +kernel)
theorem d_2007_308 {σ : Nat → Nat} {n0 : Nat} {bf : ab_B} : decode (ab_code (zx σ n0 bf).1 2007) 308 = .ok (.aload_n 1, 1) := zd zm_2007 (by decide +kernel)
theorem d_2007_309 {σ : Nat → Nat} {n0 : Nat} {bf : ab_B} : decode (ab_code (zx σ n0 bf).1 2007) 309 = .ok (.getfield 107, 3) := zd zm_2007 (by decide +kernel)
theorem d_2007_312 {σ : Nat → Nat} {n0 : Nat} {bf : ab_B} : decode (ab_code (zx σ n0 bf).1 2007) 312 = .ok (.iload_n 2, 1) := zd zm_2007 (by decide +kernel)
theorem d_2007_313 {σ : Nat → Nat} {n0 : Nat} {bf : ab_B} : decode (ab_code (zx σ n0 bf).1 2007) 313 = .ok (.invokevirtual 173, 3) := zd zm_2007 (by decide +kernel)
theorem d_2007_316 {σ : Nat → Nat} {n0 : Nat} {bf : ab_B} : decode (ab_code (zx σ n0 bf).1 2007) 316 = .ok (.invokestatic 169, 3) := zd zm_2007 (by decide +kernel)
theorem d_2007_319 {σ : Nat → Nat} {n0 : Nat} {bf : ab_B} : decode (ab_code (zx σ n0 bf).1 2007) 319 = .ok (.lreturn, 1) := zd zm_2007 (by decide +kernel)
theorem d_2007_320 {σ : Nat → Nat} {n0 : Nat} {bf : ab_B} : decode (ab_code (zx σ n0 bf).1 2007) 320 = .ok (.aload_n 0, 1) := zd zm_2007 (by decide +kernel)
theorem d_2007_321 {σ : Nat → Nat} {n0 : Nat} {bf : ab_B} : decode (ab_code (zx σ n0 bf).1 2007) 321 = .ok (.aload_n 1, 1) := zd zm_2007 (by decide +kernel)
theorem d_2007_322 {σ : Nat → Nat} {n0 : Nat} {bf : ab_B} : decode (ab_code (zx σ n0 bf).1 2007) 322 = .ok (.getfield 95, 3) := zd zm_2007 (by decide +kernel)
theorem d_2007_325 {σ : Nat → Nat} {n0 : Nat} {bf : ab_B} : decode (ab_code (zx σ n0 bf).1 2007) 325 = .ok (.iload_n 2, 1) := zd zm_2007 (by decide +kernel)
theorem d_2007_326 {σ : Nat → Nat} {n0 : Nat} {bf : ab_B} : decode (ab_code (zx σ n0 bf).1 2007) 326 = .ok (.invokevirtual 160, 3) := zd zm_2007 (by decide +kernel)
theorem d_2007_329 {σ : Nat → Nat} {n0 : Nat} {bf : ab_B} : decode (ab_code (zx σ n0 bf).1 2007) 329 = .ok (.lreturn, 1) := zd zm_2007 (by decide +kernel)
theorem d_2007_330 {σ : Nat → Nat} {n0 : Nat} {bf : ab_B} : decode (ab_code (zx σ n0 bf).1 2007) 330 = .ok (.aload_n 0, 1) := zd zm_2007 (by decide +kernel)
theorem d_2007_331 {σ : Nat → Nat} {n0 : Nat} {bf : ab_B} : decode (ab_code (zx σ n0 bf).1 2007) 331 = .ok (.getfield 15, 3) := zd zm_2007 (by decide +kernel)
theorem d_2007_334 {σ : Nat → Nat} {n0 : Nat} {bf : ab_B} : decode (ab_code (zx σ n0 bf).1 2007) 334 = .ok (.istore 11, 2) := zd zm_2007 (by decide +kernel)
theorem d_2007_336 {σ : Nat → Nat} {n0 : Nat} {bf : ab_B} : decode (ab_code (zx σ n0 bf).1 2007) 336 = .ok (.aload_n 0, 1) := zd zm_2007 (by decide +kernel)
theorem d_2007_337 {σ : Nat → Nat} {n0 : Nat} {bf : ab_B} : decode (ab_code (zx σ n0 bf).1 2007) 337 = .ok (.dup, 1) := zd zm_2007 (by decide +kernel)
theorem d_2007_338 {σ : Nat → Nat} {n0 : Nat} {bf : ab_B} : decode (ab_code (zx σ n0 bf).1 2007) 338 = .ok (.getfield 15, 3) := zd zm_2007 (by decide +kernel)
theorem d_2007_341 {σ : Nat → Nat} {n0 : Nat} {bf : ab_B} : decode (ab_code (zx σ n0 bf).1 2007) 341 = .ok (.iconst 4, 1) := zd zm_2007 (by decide +kernel)
theorem d_2007_342 {σ : Nat → Nat} {n0 : Nat} {bf : ab_B} : decode (ab_code (zx σ n0 bf).1 2007) 342 = .ok (.iadd, 1) := zd zm_2007 (by decide +kernel)
theorem d_2007_343 {σ : Nat → Nat} {n0 : Nat} {bf : ab_B} : decode (ab_code (zx σ n0 bf).1 2007) 343 = .ok (.putfield 15, 3) := zd zm_2007 (by decide +kernel)
theorem d_2007_346 {σ : Nat → Nat} {n0 : Nat} {bf : ab_B} : decode (ab_code (zx σ n0 bf).1 2007) 346 = .ok (.aload_n 0, 1) := zd zm_2007 (by decide +kernel)
theorem d_2007_347 {σ : Nat → Nat} {n0 : Nat} {bf : ab_B} : decode (ab_code (zx σ n0 bf).1 2007) 347 = .ok (.aload_n 1, 1) := zd zm_2007 (by decide +kernel)
theorem d_2007_348 {σ : Nat → Nat} {n0 : Nat} {bf : ab_B} : decode (ab_code (zx σ n0 bf).1 2007) 348 = .ok (.iload_n 2, 1) := zd zm_2007 (by decide +kernel)
theorem d_2007_349 {σ : Nat → Nat} {n0 : Nat} {bf : ab_B} : decode (ab_code (zx σ n0 bf).1 2007) 349 = .ok (.iload 11, 2) := zd zm_2007 (by decide +kernel)
theorem d_2007_351 {σ : Nat → Nat} {n0 : Nat} {bf : ab_B} : decode (ab_code (zx σ n0 bf).1 2007) 351 = .ok (.invokevirtual 114, 3) := zd zm_2007 (by decide +kernel)
theorem d_2007_354 {σ : Nat → Nat} {n0 : Nat} {bf : ab_B} : decode (ab_code (zx σ n0 bf).1 2007) 354 = .ok (.aload_n 0, 1) := zd zm_2007 (by decide +kernel)
theorem d_2007_355 {σ : Nat → Nat} {n0 : Nat} {bf : ab_B} : decode (ab_code (zx σ n0 bf).1 2007) 355 = .ok (.aload_n 1, 1) := zd zm_2007 (by decide +kernel)
theorem d_2007_356 {σ : Nat → Nat} {n0 : Nat} {bf : ab_B} : decode (ab_code (zx σ n0 bf).1 2007) 356 = .ok (.getfield 95, 3) := zd zm_2007 (by decide +kernel)
theorem d_2007_359 {σ : Nat → Nat} {n0 : Nat} {bf : ab_B} : decode (ab_code (zx σ n0 bf).1 2007) 359 = .ok (.iload 11, 2) := zd zm_2007 (by decide +kernel)
theorem d_2007_361 {σ : Nat → Nat} {n0 : Nat} {bf : ab_B} : decode (ab_code (zx σ n0 bf).1 2007) 361 = .ok (.invokevirtual 175, 3) := zd zm_2007 (by decide +kernel)
theorem d_2007_364 {σ : Nat → Nat} {n0 : Nat} {bf : ab_B} : decode (ab_code (zx σ n0 bf).1 2007) 364 = .ok (.ifCond .eq 19, 3) := zd zm_2007 (by decide +kernel)
theorem d_2007_367 {σ : Nat → Nat} {n0 : Nat} {bf : ab_B} : decode (ab_code (zx σ n0 bf).1 2007) 367 = .ok (.aload_n 0, 1) := zd zm_2007 (by decide +kernel)
theorem d_2007_368 {σ : Nat → Nat} {n0 : Nat} {bf : ab_B} : decode (ab_code (zx σ n0 bf).1 2007) 368 = .ok (.aload_n 1, 1) := zd zm_2007 (by decide +kernel)
theorem d_2007_369 {σ : Nat → Nat} {n0 : Nat} {bf : ab_B} : decode (ab_code (zx σ n0 bf).1 2007) 369 = .ok (.getfield 95, 3) := zd zm_2007 (by decide +kernel)
theorem d_2007_372 {σ : Nat → Nat} {n0 : Nat} {bf : ab_B} : decode (ab_code (zx σ n0 bf).1 2007) 372 = .ok (.getfield 95, 3) := zd zm_2007 (by decide +kernel)
theorem d_2007_375 {σ : Nat → Nat} {n0 : Nat} {bf : ab_B} : decode (ab_code (zx σ n0 bf).1 2007) 375 = .ok (.iload 11, 2) := zd zm_2007 (by decide +kernel)
theorem d_2007_377 {σ : Nat → Nat} {n0 : Nat} {bf : ab_B} : decode (ab_code (zx σ n0 bf).1 2007) 377 = .ok (.invokevirtual 160, 3) := zd zm_2007 (by decide +kernel)
theorem d_2007_380 {σ : Nat → Nat} {n0 : Nat} {bf : ab_B} : decode (ab_code (zx σ n0 bf).1 2007) 380 = .ok (.goto 6, 3) := zd zm_2007 (by decide +kernel)
theorem d_2007_383 {σ : Nat → Nat} {n0 : Nat} {bf : ab_B} : decode (ab_code (zx σ n0 bf).1 2007) 383 = .ok (.ldc2_w 88, 3) := zd zm_2007 (by decide +kernel)
theorem d_2007_386 {σ : Nat → Nat} {n0 : Nat} {bf : ab_B} : decode (ab_code (zx σ n0 bf).1 2007) 386 = .ok (.lstore 12, 2) := zd zm_2007 (by decide +kernel)
theorem d_2007_388 {σ : Nat → Nat} {n0 : Nat} {bf : ab_B} : decode (ab_code (zx σ n0 bf).1 2007) 388 = .ok (.aload_n 0, 1) := zd zm_2007 (by decide +kernel)
theorem d_2007_389 {σ : Nat → Nat} {n0 : Nat} {bf : ab_B} : decode (ab_code (zx σ n0 bf).1 2007) 389 = .ok (.iload 11, 2) := zd zm_2007 (by decide +kernel)
theorem d_2007_391 {σ : Nat → Nat} {n0 : Nat} {bf : ab_B} : decode (ab_code (zx σ n0 bf).1 2007) 391 = .ok (.putfield 15, 3) := zd zm_2007 (by decide +kernel)
theorem d_2007_394 {σ : Nat → Nat} {n0 : Nat} {bf : ab_B} : decode (ab_code (zx σ n0 bf).1 2007) 394 = .ok (.lload 12, 2) := zd zm_2007 (by decide +kernel)
theorem d_2007_396 {σ : Nat → Nat} {n0 : Nat} {bf : ab_B} : decode (ab_code (zx σ n0 bf).1 2007) 396 = .ok (.lreturn, 1) := zd zm_2007 (by decide +kernel)
theorem d_2007_397 {σ : Nat → Nat} {n0 : Nat} {bf : ab_B} : decode (ab_code (zx σ n0 bf).1 2007) 397 = .ok (.lconst 1, 1) := zd zm_2007 (by decide +kernel)
theorem d_2007_398 {σ : Nat → Nat} {n0 : Nat} {bf : ab_B} : decode (ab_code (zx σ n0 bf).1 2007) 398 = .ok (.lreturn, 1) := zd zm_2007 (by decide +kernel)
def w_X3_measured_89 (X : zs_X) (d : Nat) (p3 : Int64) (p5 : Int64) (S : zs_T) (Q : zs_Q) : Prop :=
  (((p3 = (-9223372036854775808 : Int64) → (Q (.returned (some (.long (-1 : Int64)))) S)) ∧ (¬ (p3 = (-9223372036854775808 : Int64)) → (((p5 = (-9223372036854775808 : Int64) → (Q (.returned (some (.long (-1 : Int64)))) S)) ∧ (¬ (p5 = (-9223372036854775808 : Int64)) → (((p5 < p3 → (Q (.returned (some (.long (-1 : Int64)))) S)) ∧ (¬ (p5 < p3) → (Q (.returned (some (.long (1 : Int64)))) S))))))))))
theorem u_X3_measured_89 {σ : Nat → Nat} {n0 : Nat} {bf : ab_B} {d : Nat} {p3 : Int64} {p5 : Int64} {S : zs_T} {Q : zs_Q} (hB : zt_B bf) (h : w_X3_measured_89 (zx σ n0 bf) d p3 p5 S Q) : zs_U (zx σ n0 bf) d 2007 89 [(3, .long p3), (5, .long p5)] [] S Q := by
  unfold w_X3_measured_89 at h
  refine zu_lload_n d_2007_89 rfl ?_
  refine zl2_2_41 rfl d_2007_90 ?_
  refine zu_leq (t := 117) d_2007_93 d_2007_94 rfl (fun c1 => ?_) (fun c1 => ?_)
  · have h := h.1 c1
    refine zl2_2_88 rfl d_2007_117 ?_
    exact zu_lret d_2007_120 zr_2007 h
  · have h := h.2 c1
    refine zu_lload d_2007_97 rfl ?_
    refine zl2_2_41 rfl d_2007_99 ?_
    refine zu_leq (t := 117) d_2007_102 d_2007_103 rfl (fun c2 => ?_) (fun c2 => ?_)
    · have h := h.1 c2
      refine zl2_2_88 rfl d_2007_117 ?_
      exact zu_lret d_2007_120 zr_2007 h
    · have h := h.2 c2
      refine zu_lload_n d_2007_106 rfl ?_
      refine zu_lload d_2007_107 rfl ?_
      refine zu_lgt (t := 117) d_2007_109 d_2007_110 rfl (fun c3 => ?_) (fun c3 => ?_)
      · have h := h.1 c3
        refine zl2_2_88 rfl d_2007_117 ?_
        exact zu_lret d_2007_120 zr_2007 h
      · have h := h.2 c3
        refine zu_lconst (v := 1) d_2007_113 rfl ?_
        refine zu_goto (t := 120) d_2007_114 rfl ?_
        exact zu_lret d_2007_120 zr_2007 h
def w_X3_measured_169 (X : zs_X) (d : Nat)  (S : zs_T) (Q : zs_Q) : Prop :=
  (Q (.returned (some (.long (-1 : Int64)))) S)
theorem u_X3_measured_169 {σ : Nat → Nat} {n0 : Nat} {bf : ab_B} {d : Nat}  {S : zs_T} {Q : zs_Q} (hB : zt_B bf) (h : w_X3_measured_169 (zx σ n0 bf) d  S Q) : zs_U (zx σ n0 bf) d 2007 169 [] [] S Q := by
  unfold w_X3_measured_169 at h
  refine zl2_2_88 rfl d_2007_169 ?_
  exact zu_lret d_2007_172 zr_2007 h
def w_X3_measured_165 (X : zs_X) (d : Nat)  (S : zs_T) (Q : zs_Q) : Prop :=
  (Q (.returned (some (.long (1 : Int64)))) S)
theorem u_X3_measured_165 {σ : Nat → Nat} {n0 : Nat} {bf : ab_B} {d : Nat}  {S : zs_T} {Q : zs_Q} (hB : zt_B bf) (h : w_X3_measured_165 (zx σ n0 bf) d  S Q) : zs_U (zx σ n0 bf) d 2007 165 [] [] S Q := by
  unfold w_X3_measured_165 at h
  refine zu_lconst (v := 1) d_2007_165 rfl ?_
  refine zu_goto (t := 172) d_2007_166 rfl ?_
  exact zu_lret d_2007_172 zr_2007 h
def w_X3_measured_135 (X : zs_X) (d : Nat) (p0 : Nat) (p1 : Option Nat) (p2 : Int32) (S : zs_T) (Q : zs_Q) : Prop :=
  (∃ b1, p1 = some b1 ∧ zs_K S b1 = some (.inl 6) ∧ zs_K S p0 = some (.inl 2) ∧ zs_C X d 2003 [.ref p0, va_rf (zs_R S 6002 b1), .int p2] S (zs_kJ (fun v6 S5 => (((v6 < (0 : Int64) → w_X3_measured_169 X d  S5 Q) ∧ (¬ (v6 < (0 : Int64)) → (zs_K S5 b1 = some (.inl 6) ∧ zs_K S5 p0 = some (.inl 2) ∧ zs_C X d 2004 [.ref p0, va_rf (zs_R S5 6002 b1), .int p2] S5 (zs_kJ (fun v11 S10 => ((((63 : Int64) < v11 → w_X3_measured_169 X d  S10 Q) ∧ (¬ ((63 : Int64) < v11) → w_X3_measured_165 X d  S10 Q)))) Q)))))) Q))
theorem u_X3_measured_135 {σ : Nat → Nat} {n0 : Nat} {bf : ab_B} {d : Nat} {p0 : Nat} {p1 : Option Nat} {p2 : Int32} {S : zs_T} {Q : zs_Q} (hB : zt_B bf) (h : w_X3_measured_135 (zx σ n0 bf) d p0 p1 p2 S Q) : zs_U (zx σ n0 bf) d 2007 135 [(0, .ref p0), (1, va_rf p1), (2, .int p2)] [] S Q := by
  unfold w_X3_measured_135 at h
  refine zu_aload_n d_2007_135 rfl (zs_ra _) ?_
  refine zu_aload_n d_2007_136 rfl (zs_rr _) ?_
  obtain ⟨b1, e2, h⟩ := h
  refine zs_stk0 (zs_rfe e2) ?_
  obtain ⟨k3, h⟩ := h
  refine zg_2_95 rfl d_2007_137 k3 ?_
  refine zu_iload_n d_2007_140 rfl ?_
  obtain ⟨k4, h⟩ := h
  refine zc_2_66 (x0 := (zs_R S 6002 b1)) (x1 := p2) hB rfl k4 d_2007_141 (Nat.le_of_ble_eq_true rfl) h (fun v6 S5 h => ?_)
  refine zu_lconst (v := 0) d_2007_144 rfl ?_
  refine zu_llt (t := 169) d_2007_145 d_2007_146 rfl (fun c7 => ?_) (fun c7 => ?_)
  · have h := h.1 c7
    exact (u_X3_measured_169 hB h).weak trivial
  · have h := h.2 c7
    refine zu_aload_n d_2007_149 rfl (zs_ra _) ?_
    refine zu_aload_n d_2007_150 rfl (zs_rr _) ?_
    refine zs_stk0 (zs_rfe e2) ?_
    obtain ⟨k8, h⟩ := h
    refine zg_2_95 rfl d_2007_151 k8 ?_
    refine zu_iload_n d_2007_154 rfl ?_
    obtain ⟨k9, h⟩ := h
    refine zc_2_70 (x0 := (zs_R S5 6002 b1)) (x1 := p2) hB rfl k9 d_2007_155 (Nat.le_of_ble_eq_true rfl) h (fun v11 S10 h => ?_)
    refine zl2_2_163 rfl d_2007_158 ?_
    refine zu_lgt (t := 169) d_2007_161 d_2007_162 rfl (fun c12 => ?_) (fun c12 => ?_)
    · have h := h.1 c12
      exact (u_X3_measured_169 hB h).weak trivial
    · have h := h.2 c12
      exact (u_X3_measured_165 hB h).weak trivial
def w_X3_measured_207 (X : zs_X) (d : Nat)  (S : zs_T) (Q : zs_Q) : Prop :=
  (Q (.returned (some (.long (-1 : Int64)))) S)
theorem u_X3_measured_207 {σ : Nat → Nat} {n0 : Nat} {bf : ab_B} {d : Nat}  {S : zs_T} {Q : zs_Q} (hB : zt_B bf) (h : w_X3_measured_207 (zx σ n0 bf) d  S Q) : zs_U (zx σ n0 bf) d 2007 207 [] [] S Q := by
  unfold w_X3_measured_207 at h
  refine zl2_2_88 rfl d_2007_207 ?_
  exact zu_lret d_2007_210 zr_2007 h
def w_X3_measured_191 (X : zs_X) (d : Nat) (p7 : Int64) (S : zs_T) (Q : zs_Q) : Prop :=
  ((((80 : Int64) < p7 → w_X3_measured_207 X d  S Q) ∧ (¬ ((80 : Int64) < p7) → (Q (.returned (some (.long ((1 : Int64) + p7)))) S))))
theorem u_X3_measured_191 {σ : Nat → Nat} {n0 : Nat} {bf : ab_B} {d : Nat} {p7 : Int64} {S : zs_T} {Q : zs_Q} (hB : zt_B bf) (h : w_X3_measured_191 (zx σ n0 bf) d p7 S Q) : zs_U (zx σ n0 bf) d 2007 191 [(7, .long p7)] [] S Q := by
  unfold w_X3_measured_191 at h
  refine zu_lload d_2007_191 rfl ?_
  refine zl2_2_165 rfl d_2007_193 ?_
  refine zu_lgt (t := 207) d_2007_196 d_2007_197 rfl (fun c1 => ?_) (fun c1 => ?_)
  · have h := h.1 c1
    exact (u_X3_measured_207 hB h).weak trivial
  · have h := h.2 c1
    refine zu_lconst (v := 1) d_2007_200 rfl ?_
    refine zu_lload d_2007_201 rfl ?_
    refine zu_stk d_2007_203 rfl rfl ?_
    refine zu_goto (t := 210) d_2007_204 rfl ?_
    exact zu_lret d_2007_210 zr_2007 h
def w_X3_measured_266 (X : zs_X) (d : Nat) (p0 : Nat) (p1 : Option Nat) (p2 : Int32) (p9 : Int64) (S : zs_T) (Q : zs_Q) : Prop :=
  ((((0 : Int64) ≤ p9 → (∃ b2, p1 = some b2 ∧ zs_K S b2 = some (.inl 6) ∧ zs_K S p0 = some (.inl 2) ∧ zs_C X d 2004 [.ref p0, va_rf (zs_R S 6003 b2), .int p2] S (zs_kJ (fun v7 S6 => (zs_K S6 b2 = some (.inl 6) ∧ zs_K S6 p0 = some (.inl 2) ∧ zs_C X d 2003 [.ref p0, va_rf (zs_R S6 6003 b2), .int p2] S6 (zs_kJ (fun v11 S10 => (zs_C X d 2008 [.long (((v7 - v11) + (1 : Int64)) * p9)] S10 (zs_kJ (fun v13 S12 => (Q (.returned (some (.long v13))) S12)) Q))) Q))) Q))) ∧ (¬ ((0 : Int64) ≤ p9) → (Q (.returned (some (.long (-1 : Int64)))) S))))
theorem u_X3_measured_266 {σ : Nat → Nat} {n0 : Nat} {bf : ab_B} {d : Nat} {p0 : Nat} {p1 : Option Nat} {p2 : Int32} {p9 : Int64} {S : zs_T} {Q : zs_Q} (hB : zt_B bf) (h : w_X3_measured_266 (zx σ n0 bf) d p0 p1 p2 p9 S Q) : zs_U (zx σ n0 bf) d 2007 266 [(0, .ref p0), (1, va_rf p1), (2, .int p2), (9, .long p9)] [] S Q := by
  unfold w_X3_measured_266 at h
  refine zu_lload d_2007_266 rfl ?_
  refine zu_lconst (v := 0) d_2007_268 rfl ?_
  refine zu_lge (t := 279) d_2007_269 d_2007_270 rfl (fun c1 => ?_) (fun c1 => ?_)
  · have h := h.1 c1
    refine zu_aload_n d_2007_279 rfl (zs_ra _) ?_
    refine zu_aload_n d_2007_280 rfl (zs_rr _) ?_
    obtain ⟨b2, e3, h⟩ := h
    refine zs_stk0 (zs_rfe e3) ?_
    obtain ⟨k4, h⟩ := h
    refine zg_2_92 rfl d_2007_281 k4 ?_
    refine zu_iload_n d_2007_284 rfl ?_
    obtain ⟨k5, h⟩ := h
    refine zc_2_70 (x0 := (zs_R S 6003 b2)) (x1 := p2) hB rfl k5 d_2007_285 (Nat.le_of_ble_eq_true rfl) h (fun v7 S6 h => ?_)
    refine zu_aload_n d_2007_288 rfl (zs_ra _) ?_
    refine zu_aload_n d_2007_289 rfl (zs_rr _) ?_
    refine zs_stk0 (zs_rfe e3) ?_
    obtain ⟨k8, h⟩ := h
    refine zg_2_92 rfl d_2007_290 k8 ?_
    refine zu_iload_n d_2007_293 rfl ?_
    obtain ⟨k9, h⟩ := h
    refine zc_2_66 (x0 := (zs_R S6 6003 b2)) (x1 := p2) hB rfl k9 d_2007_294 (Nat.le_of_ble_eq_true rfl) h (fun v11 S10 h => ?_)
    refine zu_stk d_2007_297 rfl rfl ?_
    refine zu_lconst (v := 1) d_2007_298 rfl ?_
    refine zu_stk d_2007_299 rfl rfl ?_
    refine zu_lload d_2007_300 rfl ?_
    refine zu_stk d_2007_302 rfl rfl ?_
    refine zc_2_169 (x0 := (((v7 - v11) + (1 : Int64)) * p9)) hB rfl d_2007_303 (Nat.le_of_ble_eq_true rfl) h (fun v13 S12 h => ?_)
    exact zu_lret d_2007_306 zr_2007 h
  · have h := h.2 c1
    refine zl2_2_88 rfl d_2007_273 ?_
    refine zu_goto (t := 306) d_2007_276 rfl ?_
    exact zu_lret d_2007_306 zr_2007 h
def w_X3_measured_251 (X : zs_X) (d : Nat)  (S : zs_T) (Q : zs_Q) : Prop :=
  (Q (.returned (some (.long (-1 : Int64)))) S)
theorem u_X3_measured_251 {σ : Nat → Nat} {n0 : Nat} {bf : ab_B} {d : Nat}  {S : zs_T} {Q : zs_Q} (hB : zt_B bf) (h : w_X3_measured_251 (zx σ n0 bf) d  S Q) : zs_U (zx σ n0 bf) d 2007 251 [] [] S Q := by
  unfold w_X3_measured_251 at h
  refine zl2_2_88 rfl d_2007_251 ?_
  exact zu_lret d_2007_254 zr_2007 h
def w_X3_measured_225 (X : zs_X) (d : Nat) (p0 : Nat) (p1 : Option Nat) (p2 : Int32) (S : zs_T) (Q : zs_Q) : Prop :=
  (∃ b1, p1 = some b1 ∧ zs_K S b1 = some (.inl 6) ∧ zs_K S p0 = some (.inl 2) ∧ zs_C X d 2004 [.ref p0, va_rf (zs_R S 6003 b1), .int p2] S (zs_kJ (fun v6 S5 => (zs_K S5 b1 = some (.inl 6) ∧ zs_K S5 p0 = some (.inl 2) ∧ zs_C X d 2003 [.ref p0, va_rf (zs_R S5 6003 b1), .int p2] S5 (zs_kJ (fun v10 S9 => ((((v6 - v10) < (4000 : Int64) → (zs_K S9 b1 = some (.inl 6) ∧ zs_K S9 p0 = some (.inl 2) ∧ zs_C X d 2007 [.ref p0, va_rf (zs_R S9 6002 b1), .int p2] S9 (zs_kJ (fun v15 S14 => (w_X3_measured_266 X d p0 p1 p2 v15 S14 Q)) Q))) ∧ (¬ ((v6 - v10) < (4000 : Int64)) → w_X3_measured_251 X d  S9 Q)))) Q))) Q))
theorem u_X3_measured_225 {σ : Nat → Nat} {n0 : Nat} {bf : ab_B} {d : Nat} {p0 : Nat} {p1 : Option Nat} {p2 : Int32} {S : zs_T} {Q : zs_Q} (hB : zt_B bf) (h : w_X3_measured_225 (zx σ n0 bf) d p0 p1 p2 S Q) : zs_U (zx σ n0 bf) d 2007 225 [(0, .ref p0), (1, va_rf p1), (2, .int p2)] [] S Q := by
  unfold w_X3_measured_225 at h
  refine zu_aload_n d_2007_225 rfl (zs_ra _) ?_
  refine zu_aload_n d_2007_226 rfl (zs_rr _) ?_
  obtain ⟨b1, e2, h⟩ := h
  refine zs_stk0 (zs_rfe e2) ?_
  obtain ⟨k3, h⟩ := h
  refine zg_2_92 rfl d_2007_227 k3 ?_
  refine zu_iload_n d_2007_230 rfl ?_
  obtain ⟨k4, h⟩ := h
  refine zc_2_70 (x0 := (zs_R S 6003 b1)) (x1 := p2) hB rfl k4 d_2007_231 (Nat.le_of_ble_eq_true rfl) h (fun v6 S5 h => ?_)
  refine zu_aload_n d_2007_234 rfl (zs_ra _) ?_
  refine zu_aload_n d_2007_235 rfl (zs_rr _) ?_
  refine zs_stk0 (zs_rfe e2) ?_
  obtain ⟨k7, h⟩ := h
  refine zg_2_92 rfl d_2007_236 k7 ?_
  refine zu_iload_n d_2007_239 rfl ?_
  obtain ⟨k8, h⟩ := h
  refine zc_2_66 (x0 := (zs_R S5 6003 b1)) (x1 := p2) hB rfl k8 d_2007_240 (Nat.le_of_ble_eq_true rfl) h (fun v10 S9 h => ?_)
  refine zu_stk d_2007_243 rfl rfl ?_
  refine zl2_2_167 rfl d_2007_244 ?_
  refine zu_llt (t := 255) d_2007_247 d_2007_248 rfl (fun c11 => ?_) (fun c11 => ?_)
  · have h := h.1 c11
    refine zu_aload_n d_2007_255 rfl (zs_ra _) ?_
    refine zu_aload_n d_2007_256 rfl (zs_rr _) ?_
    refine zs_stk0 (zs_rfe e2) ?_
    obtain ⟨k12, h⟩ := h
    refine zg_2_95 rfl d_2007_257 k12 ?_
    refine zu_iload_n d_2007_260 rfl ?_
    obtain ⟨k13, h⟩ := h
    refine zc_2_160 (x0 := (zs_R S9 6002 b1)) (x1 := p2) hB rfl k13 d_2007_261 (Nat.le_of_ble_eq_true rfl) h (fun v15 S14 h => ?_)
    refine zu_lstore d_2007_264 (zs_lt zq_2007 rfl) ?_
    exact (u_X3_measured_266 hB h).weak ⟨rfl, rfl, rfl, rfl, trivial⟩
  · have h := h.2 c11
    exact (u_X3_measured_251 hB h).weak trivial
def w_X3_measured_386 (X : zs_X) (d : Nat) (p0 : Nat) (p11 : Int32) (q0 : Int64) (S : zs_T) (Q : zs_Q) : Prop :=
  (zs_K S p0 = some (.inl 2) ∧ ab_n0 X.1 ≤ p0 ∧ ∀ S3, S3 = zs_sI S 2001 p0 p11 → Q (.returned (some (.long q0))) S3)
theorem u_X3_measured_386 {σ : Nat → Nat} {n0 : Nat} {bf : ab_B} {d : Nat} {p0 : Nat} {p11 : Int32} {q0 : Int64} {S : zs_T} {Q : zs_Q} (hB : zt_B bf) (h : w_X3_measured_386 (zx σ n0 bf) d p0 p11 q0 S Q) : zs_U (zx σ n0 bf) d 2007 386 [(0, .ref p0), (11, .int p11)] [.long q0] S Q := by
  unfold w_X3_measured_386 at h
  refine zu_lstore d_2007_386 (zs_lt zq_2007 rfl) ?_
  refine zu_aload_n d_2007_388 rfl (zs_ra _) ?_
  refine zu_iload d_2007_389 rfl ?_
  obtain ⟨k1, h⟩ := h
  obtain ⟨k2, h⟩ := h
  refine zp_2_15 (v := p11) rfl d_2007_391 k1 k2 ?_
  generalize e4 : zs_sI S 2001 p0 p11 = S3
  have h := h S3 e4.symm
  have K5 : ∀ b, zs_K S3 b = zs_K S b := zs_Kt e4 (zs_KsI _ _ _ _) (fun _ => rfl)
  refine zu_lload d_2007_394 rfl ?_
  exact zu_lret d_2007_396 zr_2007 h
def w_X3_measured_346 (X : zs_X) (d : Nat) (p0 : Nat) (p1 : Option Nat) (p2 : Int32) (p11 : Int32) (S : zs_T) (Q : zs_Q) : Prop :=
  (zs_K S p0 = some (.inl 2) ∧ zs_C X d 2010 [.ref p0, va_rf p1, .int p2, .int p11] S (zs_kV (fun S2 => (∃ b4, p1 = some b4 ∧ zs_K S2 b4 = some (.inl 6) ∧ zs_K S2 p0 = some (.inl 2) ∧ zs_C X d 2011 [.ref p0, va_rf (zs_R S2 6002 b4), .int p11] S2 (zs_kI (fun v9 S8 => (((v9 = 0 → (w_X3_measured_386 X d p0 p11 (-1 : Int64) S8 Q)) ∧ (¬ (v9 = 0) → (zs_K S8 b4 = some (.inl 6) ∧ ∃ b12, (zs_R S8 6002 b4) = some b12 ∧ zs_K S8 b12 = some (.inl 6) ∧ zs_K S8 p0 = some (.inl 2) ∧ zs_C X d 2007 [.ref p0, va_rf (zs_R S8 6002 b12), .int p11] S8 (zs_kJ (fun v17 S16 => (w_X3_measured_386 X d p0 p11 v17 S16 Q)) Q)))))) Q))) Q))
theorem u_X3_measured_346 {σ : Nat → Nat} {n0 : Nat} {bf : ab_B} {d : Nat} {p0 : Nat} {p1 : Option Nat} {p2 : Int32} {p11 : Int32} {S : zs_T} {Q : zs_Q} (hB : zt_B bf) (h : w_X3_measured_346 (zx σ n0 bf) d p0 p1 p2 p11 S Q) : zs_U (zx σ n0 bf) d 2007 346 [(0, .ref p0), (1, va_rf p1), (2, .int p2), (11, .int p11)] [] S Q := by
  unfold w_X3_measured_346 at h
  refine zu_aload_n d_2007_346 rfl (zs_ra _) ?_
  refine zu_aload_n d_2007_347 rfl (zs_rr _) ?_
  refine zu_iload_n d_2007_348 rfl ?_
  refine zu_iload d_2007_349 rfl ?_
  obtain ⟨k1, h⟩ := h
  refine zc_2_114 (x0 := p1) (x1 := p2) (x2 := p11) hB rfl k1 d_2007_351 (Nat.le_of_ble_eq_true rfl) h (fun S2 h => ?_)
  refine zu_aload_n d_2007_354 rfl (zs_ra _) ?_
  refine zu_aload_n d_2007_355 rfl (zs_rr _) ?_
  obtain ⟨b4, e5, h⟩ := h
  refine zs_stk0 (zs_rfe e5) ?_
  obtain ⟨k6, h⟩ := h
  refine zg_2_95 rfl d_2007_356 k6 ?_
  refine zu_iload d_2007_359 rfl ?_
  obtain ⟨k7, h⟩ := h
  refine zc_2_175 (x0 := (zs_R S2 6002 b4)) (x1 := p11) hB rfl k7 d_2007_361 (Nat.le_of_ble_eq_true rfl) h (fun v9 S8 h => ?_)
  refine zu_ifeq (t := 383) d_2007_364 rfl (fun c10 => ?_) (fun c10 => ?_)
  · have h := h.1 c10
    refine zl2_2_88 rfl d_2007_383 ?_
    exact (u_X3_measured_386 hB h).weak ⟨rfl, rfl, trivial⟩
  · have h := h.2 c10
    refine zu_aload_n d_2007_367 rfl (zs_ra _) ?_
    refine zu_aload_n d_2007_368 rfl (zs_rr _) ?_
    refine zs_stk0 (zs_rfe e5) ?_
    obtain ⟨k11, h⟩ := h
    refine zg_2_95 rfl d_2007_369 k11 ?_
    obtain ⟨b12, e13, h⟩ := h
    refine zs_stk0 (zs_rfe e13) ?_
    obtain ⟨k14, h⟩ := h
    refine zg_2_95 rfl d_2007_372 k14 ?_
    refine zu_iload d_2007_375 rfl ?_
    obtain ⟨k15, h⟩ := h
    refine zc_2_160 (x0 := (zs_R S8 6002 b12)) (x1 := p11) hB rfl k15 d_2007_377 (Nat.le_of_ble_eq_true rfl) h (fun v17 S16 h => ?_)
    refine zu_goto (t := 386) d_2007_380 rfl ?_
    exact (u_X3_measured_386 hB h).weak ⟨rfl, rfl, trivial⟩
def w_X3_measured (X : zs_X) (d : Nat) (p0 : Nat) (p1 : Option Nat) (p2 : Int32) (S : zs_T) (Q : zs_Q) : Prop :=
  (∃ b1, p1 = some b1 ∧ zs_K S b1 = some (.inl 6) ∧ (((zs_J S 6012 b1) = (-1 : Int64) → ((((zs_I S 6000 b1).toInt < 4 ∨ 11 < (zs_I S 6000 b1).toInt → (Q (.returned (some (.long (1 : Int64)))) S)) ∧ ((zs_I S 6000 b1).toInt = 4 → (zs_K S p0 = some (.inl 2) ∧ zs_C X d 2001 [.ref p0, va_rf (zs_R S 6004 b1), .int p2] S (zs_kJ (fun v8 S7 => (zs_K S7 b1 = some (.inl 6) ∧ zs_K S7 p0 = some (.inl 2) ∧ zs_C X d 2001 [.ref p0, va_rf (zs_R S7 6005 b1), .int p2] S7 (zs_kJ (fun v12 S11 => (w_X3_measured_89 X d v8 v12 S11 Q)) Q))) Q))) ∧ ((zs_I S 6000 b1).toInt = 5 → (zs_K S p0 = some (.inl 2) ∧ zs_C X d 2007 [.ref p0, va_rf (zs_R S 6002 b1), .int p2] S (zs_kJ (fun v15 S14 => (((v15 < (0 : Int64) → w_X3_measured_169 X d  S14 Q) ∧ (¬ (v15 < (0 : Int64)) → w_X3_measured_135 X d p0 p1 p2 S14 Q)))) Q))) ∧ ((zs_I S 6000 b1).toInt = 6 → (zs_K S p0 = some (.inl 2) ∧ zs_C X d 2001 [.ref p0, va_rf (zs_R S 6004 b1), .int p2] S (zs_kJ (fun v19 S18 => (((v19 < (1 : Int64) → w_X3_measured_207 X d  S18 Q) ∧ (¬ (v19 < (1 : Int64)) → w_X3_measured_191 X d v19 S18 Q)))) Q))) ∧ ((zs_I S 6000 b1).toInt = 7 → (zs_K S p0 = some (.inl 2) ∧ zs_C X d 2007 [.ref p0, va_rf (zs_R S 6003 b1), .int p2] S (zs_kJ (fun v23 S22 => (((v23 < (0 : Int64) → w_X3_measured_251 X d  S22 Q) ∧ (¬ (v23 < (0 : Int64)) → w_X3_measured_225 X d p0 p1 p2 S22 Q)))) Q))) ∧ ((zs_I S 6000 b1).toInt = 8 → (zs_K S p0 = some (.inl 2) ∧ zs_C X d 2009 [.ref p0, va_rf (zs_R S 6006 b1), .int p2] S (zs_kJ (fun v27 S26 => (zs_C X d 2008 [.long v27] S26 (zs_kJ (fun v29 S28 => (Q (.returned (some (.long v29))) S28)) Q))) Q))) ∧ ((zs_I S 6000 b1).toInt = 9 → (Q (.returned (some (.long (1 : Int64)))) S)) ∧ ((zs_I S 6000 b1).toInt = 10 → (zs_K S p0 = some (.inl 2) ∧ zs_C X d 2007 [.ref p0, va_rf (zs_R S 6002 b1), .int p2] S (zs_kJ (fun v32 S31 => (Q (.returned (some (.long v32))) S31)) Q))) ∧ ((zs_I S 6000 b1).toInt = 11 → (zs_K S p0 = some (.inl 2) ∧ ab_n0 X.1 ≤ p0 ∧ ∀ S35, S35 = zs_sI S 2001 p0 ((zs_I S 2001 p0) + (4 : Int32)) → w_X3_measured_346 X d p0 p1 p2 (zs_I S 2001 p0) S35 Q))))) ∧ (¬ ((zs_J S 6012 b1) = (-1 : Int64)) → (Q (.returned (some (.long (zs_J S 6012 b1)))) S))))
theorem u_X3_measured {σ : Nat → Nat} {n0 : Nat} {bf : ab_B} {d : Nat} {p0 : Nat} {p1 : Option Nat} {p2 : Int32} {S : zs_T} {Q : zs_Q} (hB : zt_B bf) (hd : 1 ≤ d) (h : w_X3_measured (zx σ n0 bf) (d - 1) p0 p1 p2 S Q) : zs_C (zx σ n0 bf) d 2007 [.ref p0, va_rf p1, .int p2] S Q := by
  have hL : lv_args 0 [.ref p0, va_rf p1, .int p2] = [(0, .ref p0), (1, va_rf p1), (2, .int p2)] := by simp [lv_args, zs_cat, zs_cI, zs_cJ, zs_cA]
  refine zs_C.of1 (hB.2 2007 (by decide) (by decide)) hd (by rw [hL]; exact zs_sub_self _ (by exact ⟨rfl, rfl, rfl, trivial⟩)) ?_
  rw [hL]
  clear hL
  unfold w_X3_measured at h
  refine zu_aload_n d_2007_0 rfl (zs_rr _) ?_
  obtain ⟨b1, e2, h⟩ := h
  refine zs_stk0 (zs_rfe e2) ?_
  obtain ⟨k3, h⟩ := h
  refine zg_2_86 rfl d_2007_1 k3 ?_
  refine zl2_2_88 rfl d_2007_4 ?_
  refine zu_leq (t := 16) d_2007_7 d_2007_8 rfl (fun c4 => ?_) (fun c4 => ?_)
  · have h := h.1 c4
    refine zu_aload_n d_2007_16 rfl (zs_rr _) ?_
    refine zs_stk0 (zs_rfe e2) ?_
    refine zg_2_81 rfl d_2007_17 k3 ?_
    refine zu_tsw (td := 397) d_2007_20 (by decide) rfl (fun c5 => ?_) ⟨fun c5 => ⟨by decide, ?_⟩, fun c5 => ⟨by decide, ?_⟩, fun c5 => ⟨by decide, ?_⟩, fun c5 => ⟨by decide, ?_⟩, fun c5 => ⟨by decide, ?_⟩, fun c5 => ⟨by decide, ?_⟩, fun c5 => ⟨by decide, ?_⟩, fun c5 => ⟨by decide, ?_⟩, trivial⟩
    · have h := h.1 c5
      refine zu_lconst (v := 1) d_2007_397 rfl ?_
      exact zu_lret d_2007_398 zr_2007 h
    · have h := h.2.1 c5
      show zs_U _ _ _ 68 _ _ _ _
      refine zu_aload_n d_2007_68 rfl (zs_ra _) ?_
      refine zu_aload_n d_2007_69 rfl (zs_rr _) ?_
      refine zs_stk0 (zs_rfe e2) ?_
      refine zg_2_82 rfl d_2007_70 k3 ?_
      refine zu_iload_n d_2007_73 rfl ?_
      obtain ⟨k6, h⟩ := h
      refine zc_2_38 (x0 := (zs_R S 6004 b1)) (x1 := p2) hB rfl k6 d_2007_74 (Nat.le_of_ble_eq_true rfl) h (fun v8 S7 h => ?_)
      refine zu_lstore_n d_2007_77 (zs_lt zq_2007 rfl) ?_
      refine zu_aload_n d_2007_78 rfl (zs_ra _) ?_
      refine zu_aload_n d_2007_79 rfl (zs_rr _) ?_
      refine zs_stk0 (zs_rfe e2) ?_
      obtain ⟨k9, h⟩ := h
      refine zg_2_84 rfl d_2007_80 k9 ?_
      refine zu_iload_n d_2007_83 rfl ?_
      obtain ⟨k10, h⟩ := h
      refine zc_2_38 (x0 := (zs_R S7 6005 b1)) (x1 := p2) hB rfl k10 d_2007_84 (Nat.le_of_ble_eq_true rfl) h (fun v12 S11 h => ?_)
      refine zu_lstore d_2007_87 (zs_lt zq_2007 rfl) ?_
      exact (u_X3_measured_89 hB h).weak ⟨rfl, rfl, trivial⟩
    · have h := h.2.2.1 c5
      show zs_U _ _ _ 121 _ _ _ _
      refine zu_aload_n d_2007_121 rfl (zs_ra _) ?_
      refine zu_aload_n d_2007_122 rfl (zs_rr _) ?_
      refine zs_stk0 (zs_rfe e2) ?_
      refine zg_2_95 rfl d_2007_123 k3 ?_
      refine zu_iload_n d_2007_126 rfl ?_
      obtain ⟨k13, h⟩ := h
      refine zc_2_160 (x0 := (zs_R S 6002 b1)) (x1 := p2) hB rfl k13 d_2007_127 (Nat.le_of_ble_eq_true rfl) h (fun v15 S14 h => ?_)
      refine zu_lconst (v := 0) d_2007_130 rfl ?_
      refine zu_llt (t := 169) d_2007_131 d_2007_132 rfl (fun c16 => ?_) (fun c16 => ?_)
      · have h := h.1 c16
        exact (u_X3_measured_169 hB h).weak trivial
      · have h := h.2 c16
        exact (u_X3_measured_135 hB h).weak ⟨rfl, rfl, rfl, trivial⟩
    · have h := h.2.2.2.1 c5
      show zs_U _ _ _ 173 _ _ _ _
      refine zu_aload_n d_2007_173 rfl (zs_ra _) ?_
      refine zu_aload_n d_2007_174 rfl (zs_rr _) ?_
      refine zs_stk0 (zs_rfe e2) ?_
      refine zg_2_82 rfl d_2007_175 k3 ?_
      refine zu_iload_n d_2007_178 rfl ?_
      obtain ⟨k17, h⟩ := h
      refine zc_2_38 (x0 := (zs_R S 6004 b1)) (x1 := p2) hB rfl k17 d_2007_179 (Nat.le_of_ble_eq_true rfl) h (fun v19 S18 h => ?_)
      refine zu_lstore d_2007_182 (zs_lt zq_2007 rfl) ?_
      refine zu_lload d_2007_184 rfl ?_
      refine zu_lconst (v := 1) d_2007_186 rfl ?_
      refine zu_llt (t := 207) d_2007_187 d_2007_188 rfl (fun c20 => ?_) (fun c20 => ?_)
      · have h := h.1 c20
        exact (u_X3_measured_207 hB h).weak trivial
      · have h := h.2 c20
        exact (u_X3_measured_191 hB h).weak ⟨rfl, trivial⟩
    · have h := h.2.2.2.2.1 c5
      show zs_U _ _ _ 211 _ _ _ _
      refine zu_aload_n d_2007_211 rfl (zs_ra _) ?_
      refine zu_aload_n d_2007_212 rfl (zs_rr _) ?_
      refine zs_stk0 (zs_rfe e2) ?_
      refine zg_2_92 rfl d_2007_213 k3 ?_
      refine zu_iload_n d_2007_216 rfl ?_
      obtain ⟨k21, h⟩ := h
      refine zc_2_160 (x0 := (zs_R S 6003 b1)) (x1 := p2) hB rfl k21 d_2007_217 (Nat.le_of_ble_eq_true rfl) h (fun v23 S22 h => ?_)
      refine zu_lconst (v := 0) d_2007_220 rfl ?_
      refine zu_llt (t := 251) d_2007_221 d_2007_222 rfl (fun c24 => ?_) (fun c24 => ?_)
      · have h := h.1 c24
        exact (u_X3_measured_251 hB h).weak trivial
      · have h := h.2 c24
        exact (u_X3_measured_225 hB h).weak ⟨rfl, rfl, rfl, trivial⟩
    · have h := h.2.2.2.2.2.1 c5
      show zs_U _ _ _ 307 _ _ _ _
      refine zu_aload_n d_2007_307 rfl (zs_ra _) ?_
      refine zu_aload_n d_2007_308 rfl (zs_rr _) ?_
      refine zs_stk0 (zs_rfe e2) ?_
      refine zg_2_107 rfl d_2007_309 k3 ?_
      refine zu_iload_n d_2007_312 rfl ?_
      obtain ⟨k25, h⟩ := h
      refine zc_2_173 (x0 := (zs_R S 6006 b1)) (x1 := p2) hB rfl k25 d_2007_313 (Nat.le_of_ble_eq_true rfl) h (fun v27 S26 h => ?_)
      refine zc_2_169 (x0 := v27) hB rfl d_2007_316 (Nat.le_of_ble_eq_true rfl) h (fun v29 S28 h => ?_)
      exact zu_lret d_2007_319 zr_2007 h
    · have h := h.2.2.2.2.2.2.1 c5
      show zs_U _ _ _ 397 _ _ _ _
      refine zu_lconst (v := 1) d_2007_397 rfl ?_
      exact zu_lret d_2007_398 zr_2007 h
    · have h := h.2.2.2.2.2.2.2.1 c5
      show zs_U _ _ _ 320 _ _ _ _
      refine zu_aload_n d_2007_320 rfl (zs_ra _) ?_
      refine zu_aload_n d_2007_321 rfl (zs_rr _) ?_
      refine zs_stk0 (zs_rfe e2) ?_
      refine zg_2_95 rfl d_2007_322 k3 ?_
      refine zu_iload_n d_2007_325 rfl ?_
      obtain ⟨k30, h⟩ := h
      refine zc_2_160 (x0 := (zs_R S 6002 b1)) (x1 := p2) hB rfl k30 d_2007_326 (Nat.le_of_ble_eq_true rfl) h (fun v32 S31 h => ?_)
      exact zu_lret d_2007_329 zr_2007 h
    · have h := h.2.2.2.2.2.2.2.2 c5
      show zs_U _ _ _ 330 _ _ _ _
      refine zu_aload_n d_2007_330 rfl (zs_ra _) ?_
      obtain ⟨k33, h⟩ := h
      refine zg_2_15 rfl d_2007_331 k33 ?_
      refine zu_istore d_2007_334 (zs_lt zq_2007 rfl) ?_
      refine zu_aload_n d_2007_336 rfl (zs_ra _) ?_
      refine zu_dup d_2007_337 rfl ?_
      refine zg_2_15 rfl d_2007_338 k33 ?_
      refine zu_iconst d_2007_341 zi_4 ?_
      refine zu_stk d_2007_342 rfl rfl ?_
      obtain ⟨k34, h⟩ := h
      refine zp_2_15 (v := ((zs_I S 2001 p0) + (4 : Int32))) rfl d_2007_343 k33 k34 ?_
      generalize e36 : zs_sI S 2001 p0 ((zs_I S 2001 p0) + (4 : Int32)) = S35
      have h := h S35 e36.symm
      have K37 : ∀ b, zs_K S35 b = zs_K S b := zs_Kt e36 (zs_KsI _ _ _ _) (fun _ => rfl)
      exact (u_X3_measured_346 hB h).weak ⟨rfl, rfl, rfl, rfl, trivial⟩
  · have h := h.2 c4
    refine zu_aload_n d_2007_11 rfl (zs_rr _) ?_
    refine zs_stk0 (zs_rfe e2) ?_
    refine zg_2_86 rfl d_2007_12 k3 ?_
    exact zu_lret d_2007_15 zr_2007 h
/-! SchemaPascal$Shapes.bounded(J)J -/
theorem zm_2008 {σ : Nat → Nat} {n0 : Nat} {bf : ab_B} : ab_code (zx σ n0 bf).1 2008 = prog_11_method_14_code := rfl
theorem zq_2008 {σ : Nat → Nat} {n0 : Nat} {bf : ab_B} : ab_maxL (zx σ n0 bf).1 2008 = 2 := rfl
theorem zr_2008 {σ : Nat → Nat} {n0 : Nat} {bf : ab_B} : ab_ret (zx σ n0 bf).1 2008 = (Option.some Jvm.ClassFile.FieldType.long) := rfl
theorem d_2008_0 {σ : Nat → Nat} {n0 : Nat} {bf : ab_B} : decode (ab_code (zx σ n0 bf).1 2008) 0 = .ok (.lload_n 0, 1) := zd zm_2008 (by decide +kernel)
theorem d_2008_1 {σ : Nat → Nat} {n0 : Nat} {bf : ab_B} : decode (ab_code (zx σ n0 bf).1 2008) 1 = .ok (.ldc2_w 167, 3) := zd zm_2008 (by decide +kernel)
theorem d_2008_4 {σ : Nat → Nat} {n0 : Nat} {bf : ab_B} : decode (ab_code (zx σ n0 bf).1 2008) 4 = .ok (.lcmp, 1) := zd zm_2008 (by decide +kernel)
theorem d_2008_5 {σ : Nat → Nat} {n0 : Nat} {bf : ab_B} : decode (ab_code (zx σ n0 bf).1 2008) 5 = .ok (.ifCond .gt 7, 3) := zd zm_2008 (by decide +kernel)
theorem d_2008_8 {σ : Nat → Nat} {n0 : Nat} {bf : ab_B} : decode (ab_code (zx σ n0 bf).1 2008) 8 = .ok (.lload_n 0, 1) := zd zm_2008 (by decide +kernel)
theorem d_2008_9 {σ : Nat → Nat} {n0 : Nat} {bf : ab_B} : decode (ab_code (zx σ n0 bf).1 2008) 9 = .ok (.goto 6, 3) := zd zm_2008 (by decide +kernel)
theorem d_2008_12 {σ : Nat → Nat} {n0 : Nat} {bf : ab_B} : decode (ab_code (zx σ n0 bf).1 2008) 12 = .ok (.ldc2_w 88, 3) := zd zm_2008 (by decide +kernel)
theorem d_2008_15 {σ : Nat → Nat} {n0 : Nat} {bf : ab_B} : decode (ab_code (zx σ n0 bf).1 2008) 15 = .ok (.lreturn, 1) := zd zm_2008 (by decide +kernel)
def w_X3_bounded (X : zs_X) (d : Nat) (p0 : Int64) (S : zs_T) (Q : zs_Q) : Prop :=
  ((((4000 : Int64) < p0 → (Q (.returned (some (.long (-1 : Int64)))) S)) ∧ (¬ ((4000 : Int64) < p0) → (Q (.returned (some (.long p0))) S))))
theorem u_X3_bounded {σ : Nat → Nat} {n0 : Nat} {bf : ab_B} {d : Nat} {p0 : Int64} {S : zs_T} {Q : zs_Q} (hB : zt_B bf) (hd : 1 ≤ d) (h : w_X3_bounded (zx σ n0 bf) (d - 1) p0 S Q) : zs_C (zx σ n0 bf) d 2008 [.long p0] S Q := by
  have hL : lv_args 0 [.long p0] = [(0, .long p0)] := rfl
  refine zs_C.of1 (hB.2 2008 (by decide) (by decide)) hd (by rw [hL]; exact zs_sub_self _ (by exact ⟨rfl, trivial⟩)) ?_
  rw [hL]
  clear hL
  unfold w_X3_bounded at h
  refine zu_lload_n d_2008_0 rfl ?_
  refine zl2_2_167 rfl d_2008_1 ?_
  refine zu_lgt (t := 12) d_2008_4 d_2008_5 rfl (fun c1 => ?_) (fun c1 => ?_)
  · have h := h.1 c1
    refine zl2_2_88 rfl d_2008_12 ?_
    exact zu_lret d_2008_15 zr_2008 h
  · have h := h.2 c1
    refine zu_lload_n d_2008_8 rfl ?_
    refine zu_goto (t := 15) d_2008_9 rfl ?_
    exact zu_lret d_2008_15 zr_2008 h
/-! SchemaPascal$Shapes.measured(LSchemaPascal$Fields;I)J -/
theorem zm_2009 {σ : Nat → Nat} {n0 : Nat} {bf : ab_B} : ab_code (zx σ n0 bf).1 2009 = prog_11_method_15_code := rfl
theorem zq_2009 {σ : Nat → Nat} {n0 : Nat} {bf : ab_B} : ab_maxL (zx σ n0 bf).1 2009 = 10 := rfl
theorem zr_2009 {σ : Nat → Nat} {n0 : Nat} {bf : ab_B} : ab_ret (zx σ n0 bf).1 2009 = (Option.some Jvm.ClassFile.FieldType.long) := rfl
theorem d_2009_0 {σ : Nat → Nat} {n0 : Nat} {bf : ab_B} : decode (ab_code (zx σ n0 bf).1 2009) 0 = .ok (.lconst 0, 1) := zd zm_2009 (by decide +kernel)
theorem d_2009_1 {σ : Nat → Nat} {n0 : Nat} {bf : ab_B} : decode (ab_code (zx σ n0 bf).1 2009) 1 = .ok (.lstore_n 3, 1) := zd zm_2009 (by decide +kernel)
theorem d_2009_2 {σ : Nat → Nat} {n0 : Nat} {bf : ab_B} : decode (ab_code (zx σ n0 bf).1 2009) 2 = .ok (.iconst 0, 1) := zd zm_2009 (by decide +kernel)
theorem d_2009_3 {σ : Nat → Nat} {n0 : Nat} {bf : ab_B} : decode (ab_code (zx σ n0 bf).1 2009) 3 = .ok (.istore 5, 2) := zd zm_2009 (by decide +kernel)
theorem d_2009_5 {σ : Nat → Nat} {n0 : Nat} {bf : ab_B} : decode (ab_code (zx σ n0 bf).1 2009) 5 = .ok (.iload 5, 2) := zd zm_2009 (by decide +kernel)
theorem d_2009_7 {σ : Nat → Nat} {n0 : Nat} {bf : ab_B} : decode (ab_code (zx σ n0 bf).1 2009) 7 = .ok (.aload_n 1, 1) := zd zm_2009 (by decide +kernel)
theorem d_2009_8 {σ : Nat → Nat} {n0 : Nat} {bf : ab_B} : decode (ab_code (zx σ n0 bf).1 2009) 8 = .ok (.getfield 118, 3) := zd zm_2009 (by decide +kernel)
theorem d_2009_11 {σ : Nat → Nat} {n0 : Nat} {bf : ab_B} : decode (ab_code (zx σ n0 bf).1 2009) 11 = .ok (.invokevirtual 124, 3) := zd zm_2009 (by decide +kernel)
theorem d_2009_14 {σ : Nat → Nat} {n0 : Nat} {bf : ab_B} : decode (ab_code (zx σ n0 bf).1 2009) 14 = .ok (.if_icmp .ge 47, 3) := zd zm_2009 (by decide +kernel)
theorem d_2009_17 {σ : Nat → Nat} {n0 : Nat} {bf : ab_B} : decode (ab_code (zx σ n0 bf).1 2009) 17 = .ok (.aload_n 0, 1) := zd zm_2009 (by decide +kernel)
theorem d_2009_18 {σ : Nat → Nat} {n0 : Nat} {bf : ab_B} : decode (ab_code (zx σ n0 bf).1 2009) 18 = .ok (.aload_n 1, 1) := zd zm_2009 (by decide +kernel)
theorem d_2009_19 {σ : Nat → Nat} {n0 : Nat} {bf : ab_B} : decode (ab_code (zx σ n0 bf).1 2009) 19 = .ok (.getfield 118, 3) := zd zm_2009 (by decide +kernel)
theorem d_2009_22 {σ : Nat → Nat} {n0 : Nat} {bf : ab_B} : decode (ab_code (zx σ n0 bf).1 2009) 22 = .ok (.iload 5, 2) := zd zm_2009 (by decide +kernel)
theorem d_2009_24 {σ : Nat → Nat} {n0 : Nat} {bf : ab_B} : decode (ab_code (zx σ n0 bf).1 2009) 24 = .ok (.invokevirtual 129, 3) := zd zm_2009 (by decide +kernel)
theorem d_2009_27 {σ : Nat → Nat} {n0 : Nat} {bf : ab_B} : decode (ab_code (zx σ n0 bf).1 2009) 27 = .ok (.checkcast 133, 3) := zd zm_2009 (by decide +kernel)
theorem d_2009_30 {σ : Nat → Nat} {n0 : Nat} {bf : ab_B} : decode (ab_code (zx σ n0 bf).1 2009) 30 = .ok (.getfield 135, 3) := zd zm_2009 (by decide +kernel)
theorem d_2009_33 {σ : Nat → Nat} {n0 : Nat} {bf : ab_B} : decode (ab_code (zx σ n0 bf).1 2009) 33 = .ok (.iload_n 2, 1) := zd zm_2009 (by decide +kernel)
theorem d_2009_34 {σ : Nat → Nat} {n0 : Nat} {bf : ab_B} : decode (ab_code (zx σ n0 bf).1 2009) 34 = .ok (.invokevirtual 160, 3) := zd zm_2009 (by decide +kernel)
theorem d_2009_37 {σ : Nat → Nat} {n0 : Nat} {bf : ab_B} : decode (ab_code (zx σ n0 bf).1 2009) 37 = .ok (.lstore 6, 2) := zd zm_2009 (by decide +kernel)
theorem d_2009_39 {σ : Nat → Nat} {n0 : Nat} {bf : ab_B} : decode (ab_code (zx σ n0 bf).1 2009) 39 = .ok (.lload 6, 2) := zd zm_2009 (by decide +kernel)
theorem d_2009_41 {σ : Nat → Nat} {n0 : Nat} {bf : ab_B} : decode (ab_code (zx σ n0 bf).1 2009) 41 = .ok (.lconst 0, 1) := zd zm_2009 (by decide +kernel)
theorem d_2009_42 {σ : Nat → Nat} {n0 : Nat} {bf : ab_B} : decode (ab_code (zx σ n0 bf).1 2009) 42 = .ok (.lcmp, 1) := zd zm_2009 (by decide +kernel)
theorem d_2009_43 {σ : Nat → Nat} {n0 : Nat} {bf : ab_B} : decode (ab_code (zx σ n0 bf).1 2009) 43 = .ok (.ifCond .ge 7, 3) := zd zm_2009 (by decide +kernel)
theorem d_2009_46 {σ : Nat → Nat} {n0 : Nat} {bf : ab_B} : decode (ab_code (zx σ n0 bf).1 2009) 46 = .ok (.ldc2_w 88, 3) := zd zm_2009 (by decide +kernel)
theorem d_2009_49 {σ : Nat → Nat} {n0 : Nat} {bf : ab_B} : decode (ab_code (zx σ n0 bf).1 2009) 49 = .ok (.lreturn, 1) := zd zm_2009 (by decide +kernel)
theorem d_2009_50 {σ : Nat → Nat} {n0 : Nat} {bf : ab_B} : decode (ab_code (zx σ n0 bf).1 2009) 50 = .ok (.lload_n 3, 1) := zd zm_2009 (by decide +kernel)
theorem d_2009_51 {σ : Nat → Nat} {n0 : Nat} {bf : ab_B} : decode (ab_code (zx σ n0 bf).1 2009) 51 = .ok (.lload 6, 2) := zd zm_2009 (by decide +kernel)
theorem d_2009_53 {σ : Nat → Nat} {n0 : Nat} {bf : ab_B} : decode (ab_code (zx σ n0 bf).1 2009) 53 = .ok (.ladd, 1) := zd zm_2009 (by decide +kernel)
theorem d_2009_54 {σ : Nat → Nat} {n0 : Nat} {bf : ab_B} : decode (ab_code (zx σ n0 bf).1 2009) 54 = .ok (.lstore_n 3, 1) := zd zm_2009 (by decide +kernel)
theorem d_2009_55 {σ : Nat → Nat} {n0 : Nat} {bf : ab_B} : decode (ab_code (zx σ n0 bf).1 2009) 55 = .ok (.iinc 5 1, 3) := zd zm_2009 (by decide +kernel)
theorem d_2009_58 {σ : Nat → Nat} {n0 : Nat} {bf : ab_B} : decode (ab_code (zx σ n0 bf).1 2009) 58 = .ok (.goto (-53), 3) := zd zm_2009 (by decide +kernel)
theorem d_2009_61 {σ : Nat → Nat} {n0 : Nat} {bf : ab_B} : decode (ab_code (zx σ n0 bf).1 2009) 61 = .ok (.lconst 0, 1) := zd zm_2009 (by decide +kernel)
theorem d_2009_62 {σ : Nat → Nat} {n0 : Nat} {bf : ab_B} : decode (ab_code (zx σ n0 bf).1 2009) 62 = .ok (.lstore 5, 2) := zd zm_2009 (by decide +kernel)
theorem d_2009_64 {σ : Nat → Nat} {n0 : Nat} {bf : ab_B} : decode (ab_code (zx σ n0 bf).1 2009) 64 = .ok (.iconst 0, 1) := zd zm_2009 (by decide +kernel)
theorem d_2009_65 {σ : Nat → Nat} {n0 : Nat} {bf : ab_B} : decode (ab_code (zx σ n0 bf).1 2009) 65 = .ok (.istore 7, 2) := zd zm_2009 (by decide +kernel)
theorem d_2009_67 {σ : Nat → Nat} {n0 : Nat} {bf : ab_B} : decode (ab_code (zx σ n0 bf).1 2009) 67 = .ok (.aload_n 1, 1) := zd zm_2009 (by decide +kernel)
theorem d_2009_68 {σ : Nat → Nat} {n0 : Nat} {bf : ab_B} : decode (ab_code (zx σ n0 bf).1 2009) 68 = .ok (.getfield 136, 3) := zd zm_2009 (by decide +kernel)
theorem d_2009_71 {σ : Nat → Nat} {n0 : Nat} {bf : ab_B} : decode (ab_code (zx σ n0 bf).1 2009) 71 = .ok (.ifnull 69, 3) := zd zm_2009 (by decide +kernel)
theorem d_2009_74 {σ : Nat → Nat} {n0 : Nat} {bf : ab_B} : decode (ab_code (zx σ n0 bf).1 2009) 74 = .ok (.iload 7, 2) := zd zm_2009 (by decide +kernel)
theorem d_2009_76 {σ : Nat → Nat} {n0 : Nat} {bf : ab_B} : decode (ab_code (zx σ n0 bf).1 2009) 76 = .ok (.aload_n 1, 1) := zd zm_2009 (by decide +kernel)
theorem d_2009_77 {σ : Nat → Nat} {n0 : Nat} {bf : ab_B} : decode (ab_code (zx σ n0 bf).1 2009) 77 = .ok (.getfield 136, 3) := zd zm_2009 (by decide +kernel)
theorem d_2009_80 {σ : Nat → Nat} {n0 : Nat} {bf : ab_B} : decode (ab_code (zx σ n0 bf).1 2009) 80 = .ok (.getfield 140, 3) := zd zm_2009 (by decide +kernel)
theorem d_2009_83 {σ : Nat → Nat} {n0 : Nat} {bf : ab_B} : decode (ab_code (zx σ n0 bf).1 2009) 83 = .ok (.invokevirtual 124, 3) := zd zm_2009 (by decide +kernel)
theorem d_2009_86 {σ : Nat → Nat} {n0 : Nat} {bf : ab_B} : decode (ab_code (zx σ n0 bf).1 2009) 86 = .ok (.if_icmp .ge 54, 3) := zd zm_2009 (by decide +kernel)
theorem d_2009_89 {σ : Nat → Nat} {n0 : Nat} {bf : ab_B} : decode (ab_code (zx σ n0 bf).1 2009) 89 = .ok (.aload_n 0, 1) := zd zm_2009 (by decide +kernel)
theorem d_2009_90 {σ : Nat → Nat} {n0 : Nat} {bf : ab_B} : decode (ab_code (zx σ n0 bf).1 2009) 90 = .ok (.aload_n 1, 1) := zd zm_2009 (by decide +kernel)
theorem d_2009_91 {σ : Nat → Nat} {n0 : Nat} {bf : ab_B} : decode (ab_code (zx σ n0 bf).1 2009) 91 = .ok (.getfield 136, 3) := zd zm_2009 (by decide +kernel)
theorem d_2009_94 {σ : Nat → Nat} {n0 : Nat} {bf : ab_B} : decode (ab_code (zx σ n0 bf).1 2009) 94 = .ok (.getfield 140, 3) := zd zm_2009 (by decide +kernel)
theorem d_2009_97 {σ : Nat → Nat} {n0 : Nat} {bf : ab_B} : decode (ab_code (zx σ n0 bf).1 2009) 97 = .ok (.iload 7, 2) := zd zm_2009 (by decide +kernel)
theorem d_2009_99 {σ : Nat → Nat} {n0 : Nat} {bf : ab_B} : decode (ab_code (zx σ n0 bf).1 2009) 99 = .ok (.invokevirtual 129, 3) := zd zm_2009 (by decide +kernel)
theorem d_2009_102 {σ : Nat → Nat} {n0 : Nat} {bf : ab_B} : decode (ab_code (zx σ n0 bf).1 2009) 102 = .ok (.checkcast 145, 3) := zd zm_2009 (by decide +kernel)
theorem d_2009_105 {σ : Nat → Nat} {n0 : Nat} {bf : ab_B} : decode (ab_code (zx σ n0 bf).1 2009) 105 = .ok (.getfield 147, 3) := zd zm_2009 (by decide +kernel)
theorem d_2009_108 {σ : Nat → Nat} {n0 : Nat} {bf : ab_B} : decode (ab_code (zx σ n0 bf).1 2009) 108 = .ok (.iload_n 2, 1) := zd zm_2009 (by decide +kernel)
theorem d_2009_109 {σ : Nat → Nat} {n0 : Nat} {bf : ab_B} : decode (ab_code (zx σ n0 bf).1 2009) 109 = .ok (.invokevirtual 173, 3) := zd zm_2009 (by decide +kernel)
theorem d_2009_112 {σ : Nat → Nat} {n0 : Nat} {bf : ab_B} : decode (ab_code (zx σ n0 bf).1 2009) 112 = .ok (.lstore 8, 2) := zd zm_2009 (by decide +kernel)
theorem d_2009_114 {σ : Nat → Nat} {n0 : Nat} {bf : ab_B} : decode (ab_code (zx σ n0 bf).1 2009) 114 = .ok (.lload 8, 2) := zd zm_2009 (by decide +kernel)
theorem d_2009_116 {σ : Nat → Nat} {n0 : Nat} {bf : ab_B} : decode (ab_code (zx σ n0 bf).1 2009) 116 = .ok (.lconst 0, 1) := zd zm_2009 (by decide +kernel)
theorem d_2009_117 {σ : Nat → Nat} {n0 : Nat} {bf : ab_B} : decode (ab_code (zx σ n0 bf).1 2009) 117 = .ok (.lcmp, 1) := zd zm_2009 (by decide +kernel)
theorem d_2009_118 {σ : Nat → Nat} {n0 : Nat} {bf : ab_B} : decode (ab_code (zx σ n0 bf).1 2009) 118 = .ok (.ifCond .ge 7, 3) := zd zm_2009 (by decide +kernel)
theorem d_2009_121 {σ : Nat → Nat} {n0 : Nat} {bf : ab_B} : decode (ab_code (zx σ n0 bf).1 2009) 121 = .ok (.ldc2_w 88, 3) := zd zm_2009 (by decide +kernel)
theorem d_2009_124 {σ : Nat → Nat} {n0 : Nat} {bf : ab_B} : decode (ab_code (zx σ n0 bf).1 2009) 124 = .ok (.lreturn, 1) := zd zm_2009 (by decide +kernel)
theorem d_2009_125 {σ : Nat → Nat} {n0 : Nat} {bf : ab_B} : decode (ab_code (zx σ n0 bf).1 2009) 125 = .ok (.lload 5, 2) := zd zm_2009 (by decide +kernel)
theorem d_2009_127 {σ : Nat → Nat} {n0 : Nat} {bf : ab_B} : decode (ab_code (zx σ n0 bf).1 2009) 127 = .ok (.lload 8, 2) := zd zm_2009 (by decide +kernel)
theorem d_2009_129 {σ : Nat → Nat} {n0 : Nat} {bf : ab_B} : decode (ab_code (zx σ n0 bf).1 2009) 129 = .ok (.invokestatic 148, 3) := zd zm_2009 (by decide +kernel)
theorem d_2009_132 {σ : Nat → Nat} {n0 : Nat} {bf : ab_B} : decode (ab_code (zx σ n0 bf).1 2009) 132 = .ok (.lstore 5, 2) := zd zm_2009 (by decide +kernel)
theorem d_2009_134 {σ : Nat → Nat} {n0 : Nat} {bf : ab_B} : decode (ab_code (zx σ n0 bf).1 2009) 134 = .ok (.iinc 7 1, 3) := zd zm_2009 (by decide +kernel)
theorem d_2009_137 {σ : Nat → Nat} {n0 : Nat} {bf : ab_B} : decode (ab_code (zx σ n0 bf).1 2009) 137 = .ok (.goto (-70), 3) := zd zm_2009 (by decide +kernel)
theorem d_2009_140 {σ : Nat → Nat} {n0 : Nat} {bf : ab_B} : decode (ab_code (zx σ n0 bf).1 2009) 140 = .ok (.lload_n 3, 1) := zd zm_2009 (by decide +kernel)
theorem d_2009_141 {σ : Nat → Nat} {n0 : Nat} {bf : ab_B} : decode (ab_code (zx σ n0 bf).1 2009) 141 = .ok (.lload 5, 2) := zd zm_2009 (by decide +kernel)
theorem d_2009_143 {σ : Nat → Nat} {n0 : Nat} {bf : ab_B} : decode (ab_code (zx σ n0 bf).1 2009) 143 = .ok (.ladd, 1) := zd zm_2009 (by decide +kernel)
theorem d_2009_144 {σ : Nat → Nat} {n0 : Nat} {bf : ab_B} : decode (ab_code (zx σ n0 bf).1 2009) 144 = .ok (.lreturn, 1) := zd zm_2009 (by decide +kernel)
def w_X3_measured_2_50 (X : zs_X) (d : Nat) (p0 : Nat) (p1 : Option Nat) (p2 : Int32) (p3 : Int64) (p5 : Int32) (p6 : Int64) (S : zs_T) (Q : zs_Q) : Prop :=
  (zs_U X d 2009 5 [(0, .ref p0), (1, va_rf p1), (2, .int p2), (3, .long (p3 + p6)), (5, .int (p5 + (1 : Int32)))] [] S Q)
theorem u_X3_measured_2_50 {σ : Nat → Nat} {n0 : Nat} {bf : ab_B} {d : Nat} {p0 : Nat} {p1 : Option Nat} {p2 : Int32} {p3 : Int64} {p5 : Int32} {p6 : Int64} {S : zs_T} {Q : zs_Q} (hB : zt_B bf) (h : w_X3_measured_2_50 (zx σ n0 bf) d p0 p1 p2 p3 p5 p6 S Q) : zs_U (zx σ n0 bf) d 2009 50 [(0, .ref p0), (1, va_rf p1), (2, .int p2), (3, .long p3), (5, .int p5), (6, .long p6)] [] S Q := by
  unfold w_X3_measured_2_50 at h
  refine zu_lload_n d_2009_50 rfl ?_
  refine zu_lload d_2009_51 rfl ?_
  refine zu_stk d_2009_53 rfl rfl ?_
  refine zu_lstore_n d_2009_54 (zs_lt zq_2009 rfl) ?_
  refine zu_iinc d_2009_55 rfl zi_1 (zs_lt zq_2009 rfl) ?_
  refine zu_goto (t := 5) d_2009_58 rfl ?_
  exact h.weak ⟨rfl, rfl, rfl, rfl, rfl, trivial⟩
def w_X3_measured_2_46 (X : zs_X) (d : Nat)  (S : zs_T) (Q : zs_Q) : Prop :=
  (Q (.returned (some (.long (-1 : Int64)))) S)
theorem u_X3_measured_2_46 {σ : Nat → Nat} {n0 : Nat} {bf : ab_B} {d : Nat}  {S : zs_T} {Q : zs_Q} (hB : zt_B bf) (h : w_X3_measured_2_46 (zx σ n0 bf) d  S Q) : zs_U (zx σ n0 bf) d 2009 46 [] [] S Q := by
  unfold w_X3_measured_2_46 at h
  refine zl2_2_88 rfl d_2009_46 ?_
  exact zu_lret d_2009_49 zr_2009 h
def w_X3_measured_2_5 (X : zs_X) (d : Nat) (p0 : Nat) (p1 : Option Nat) (p2 : Int32) (p3 : Int64) (p5 : Int32) (S : zs_T) (Q : zs_Q) : Prop :=
  (∃ b1, p1 = some b1 ∧ zs_K S b1 = some (.inl 13) ∧ ∃ b4, (zs_R S 13000 b1) = some b4 ∧ zs_K S b4 = some (.inl 16) ∧ zs_C X d 16001 [.ref b4] S (zs_kI (fun v8 S7 => (((v8 ≤ p5 → (zs_U X d 2009 67 [(0, .ref p0), (1, va_rf p1), (2, .int p2), (3, .long p3), (5, .long (0 : Int64)), (7, .int (0 : Int32))] [] S7 Q)) ∧ (¬ (v8 ≤ p5) → (zs_K S7 b1 = some (.inl 13) ∧ ∃ b11, (zs_R S7 13000 b1) = some b11 ∧ zs_K S7 b11 = some (.inl 16) ∧ zs_C X d 16009 [.ref b11, .int p5] S7 (zs_kR (fun v15 S14 => ((∀ a, v15 = some a → zs_K S14 a = some (.inl 12)) ∧ ∃ b17, v15 = some b17 ∧ zs_K S14 b17 = some (.inl 12) ∧ zs_K S14 p0 = some (.inl 2) ∧ zs_C X d 2007 [.ref p0, va_rf (zs_R S14 12001 b17), .int p2] S14 (zs_kJ (fun v22 S21 => ((((0 : Int64) ≤ v22 → w_X3_measured_2_50 X d p0 p1 p2 p3 p5 v22 S21 Q) ∧ (¬ ((0 : Int64) ≤ v22) → w_X3_measured_2_46 X d  S21 Q)))) Q))) Q)))))) Q))
theorem u_X3_measured_2_5 {σ : Nat → Nat} {n0 : Nat} {bf : ab_B} {d : Nat} {p0 : Nat} {p1 : Option Nat} {p2 : Int32} {p3 : Int64} {p5 : Int32} {S : zs_T} {Q : zs_Q} (hB : zt_B bf) (h : w_X3_measured_2_5 (zx σ n0 bf) d p0 p1 p2 p3 p5 S Q) : zs_U (zx σ n0 bf) d 2009 5 [(0, .ref p0), (1, va_rf p1), (2, .int p2), (3, .long p3), (5, .int p5)] [] S Q := by
  unfold w_X3_measured_2_5 at h
  refine zu_iload d_2009_5 rfl ?_
  refine zu_aload_n d_2009_7 rfl (zs_rr _) ?_
  obtain ⟨b1, e2, h⟩ := h
  refine zs_stk0 (zs_rfe e2) ?_
  obtain ⟨k3, h⟩ := h
  refine zg_2_118 rfl d_2009_8 k3 ?_
  obtain ⟨b4, e5, h⟩ := h
  refine zs_stk0 (zs_rfe e5) ?_
  obtain ⟨k6, h⟩ := h
  refine zc_2_124  hB rfl k6 d_2009_11 (Nat.le_of_ble_eq_true rfl) h (fun v8 S7 h => ?_)
  refine zu_cmpge (t := 61) d_2009_14 rfl (fun c9 => ?_) (fun c9 => ?_)
  · have h := h.1 c9
    refine zu_lconst (v := 0) d_2009_61 rfl ?_
    refine zu_lstore d_2009_62 (zs_lt zq_2009 rfl) ?_
    refine zu_iconst d_2009_64 zi_0 ?_
    refine zu_istore d_2009_65 (zs_lt zq_2009 rfl) ?_
    exact h.weak ⟨rfl, rfl, rfl, rfl, rfl, rfl, trivial⟩
  · have h := h.2 c9
    refine zu_aload_n d_2009_17 rfl (zs_ra _) ?_
    refine zu_aload_n d_2009_18 rfl (zs_rr _) ?_
    refine zs_stk0 (zs_rfe e2) ?_
    obtain ⟨k10, h⟩ := h
    refine zg_2_118 rfl d_2009_19 k10 ?_
    refine zu_iload d_2009_22 rfl ?_
    obtain ⟨b11, e12, h⟩ := h
    refine zs_stk1 (zs_rfe e12) ?_
    obtain ⟨k13, h⟩ := h
    refine zc_2_129 (x0 := p5) hB rfl k13 d_2009_24 (Nat.le_of_ble_eq_true rfl) h (fun v15 S14 h => ?_)
    obtain ⟨k16, h⟩ := h
    refine zk_2_133 (o := v15) rfl d_2009_27 k16 ?_
    obtain ⟨b17, e18, h⟩ := h
    refine zs_stk0 (zs_rfe e18) ?_
    obtain ⟨k19, h⟩ := h
    refine zg_2_135 rfl d_2009_30 k19 ?_
    refine zu_iload_n d_2009_33 rfl ?_
    obtain ⟨k20, h⟩ := h
    refine zc_2_160 (x0 := (zs_R S14 12001 b17)) (x1 := p2) hB rfl k20 d_2009_34 (Nat.le_of_ble_eq_true rfl) h (fun v22 S21 h => ?_)
    refine zu_lstore d_2009_37 (zs_lt zq_2009 rfl) ?_
    refine zu_lload d_2009_39 rfl ?_
    refine zu_lconst (v := 0) d_2009_41 rfl ?_
    refine zu_lge (t := 50) d_2009_42 d_2009_43 rfl (fun c23 => ?_) (fun c23 => ?_)
    · have h := h.1 c23
      exact (u_X3_measured_2_50 hB h).weak ⟨rfl, rfl, rfl, rfl, rfl, rfl, trivial⟩
    · have h := h.2 c23
      exact (u_X3_measured_2_46 hB h).weak trivial
def w_X3_measured_2_114 (X : zs_X) (d : Nat) (p0 : Nat) (p1 : Option Nat) (p2 : Int32) (p3 : Int64) (p5 : Int64) (p7 : Int32) (p8 : Int64) (S : zs_T) (Q : zs_Q) : Prop :=
  ((((0 : Int64) ≤ p8 → (zs_C X d 30003 [.long p5, .long p8] S (zs_kJ (fun v3 S2 => (zs_U X d 2009 67 [(0, .ref p0), (1, va_rf p1), (2, .int p2), (3, .long p3), (5, .long v3), (7, .int (p7 + (1 : Int32)))] [] S2 Q)) Q))) ∧ (¬ ((0 : Int64) ≤ p8) → (Q (.returned (some (.long (-1 : Int64)))) S))))
theorem u_X3_measured_2_114 {σ : Nat → Nat} {n0 : Nat} {bf : ab_B} {d : Nat} {p0 : Nat} {p1 : Option Nat} {p2 : Int32} {p3 : Int64} {p5 : Int64} {p7 : Int32} {p8 : Int64} {S : zs_T} {Q : zs_Q} (hB : zt_B bf) (h : w_X3_measured_2_114 (zx σ n0 bf) d p0 p1 p2 p3 p5 p7 p8 S Q) : zs_U (zx σ n0 bf) d 2009 114 [(0, .ref p0), (1, va_rf p1), (2, .int p2), (3, .long p3), (5, .long p5), (7, .int p7), (8, .long p8)] [] S Q := by
  unfold w_X3_measured_2_114 at h
  refine zu_lload d_2009_114 rfl ?_
  refine zu_lconst (v := 0) d_2009_116 rfl ?_
  refine zu_lge (t := 125) d_2009_117 d_2009_118 rfl (fun c1 => ?_) (fun c1 => ?_)
  · have h := h.1 c1
    refine zu_lload d_2009_125 rfl ?_
    refine zu_lload d_2009_127 rfl ?_
    refine zc_2_148 (x0 := p5) (x1 := p8) hB rfl d_2009_129 (Nat.le_of_ble_eq_true rfl) h (fun v3 S2 h => ?_)
    refine zu_lstore d_2009_132 (zs_lt zq_2009 rfl) ?_
    refine zu_iinc d_2009_134 rfl zi_1 (zs_lt zq_2009 rfl) ?_
    refine zu_goto (t := 67) d_2009_137 rfl ?_
    exact h.weak ⟨rfl, rfl, rfl, rfl, rfl, rfl, trivial⟩
  · have h := h.2 c1
    refine zl2_2_88 rfl d_2009_121 ?_
    exact zu_lret d_2009_124 zr_2009 h
def w_X3_measured_2_67 (X : zs_X) (d : Nat) (p0 : Nat) (p1 : Option Nat) (p2 : Int32) (p3 : Int64) (p5 : Int64) (p7 : Int32) (S : zs_T) (Q : zs_Q) : Prop :=
  (∃ b1, p1 = some b1 ∧ zs_K S b1 = some (.inl 13) ∧ (((zs_R S 13001 b1) = none → (Q (.returned (some (.long (p3 + p5)))) S)) ∧ (∀ b4, (zs_R S 13001 b1) = some b4 → (zs_K S b4 = some (.inl 14) ∧ ∃ b7, (zs_R S 14001 b4) = some b7 ∧ zs_K S b7 = some (.inl 16) ∧ zs_C X d 16001 [.ref b7] S (zs_kI (fun v11 S10 => (((v11 ≤ p7 → (Q (.returned (some (.long (p3 + p5)))) S10)) ∧ (¬ (v11 ≤ p7) → (zs_K S10 b1 = some (.inl 13) ∧ ∃ b14, (zs_R S10 13001 b1) = some b14 ∧ zs_K S10 b14 = some (.inl 14) ∧ ∃ b17, (zs_R S10 14001 b14) = some b17 ∧ zs_K S10 b17 = some (.inl 16) ∧ zs_C X d 16009 [.ref b17, .int p7] S10 (zs_kR (fun v21 S20 => ((∀ a, v21 = some a → zs_K S20 a = some (.inl 15)) ∧ ∃ b23, v21 = some b23 ∧ zs_K S20 b23 = some (.inl 15) ∧ zs_K S20 p0 = some (.inl 2) ∧ zs_C X d 2009 [.ref p0, va_rf (zs_R S20 15002 b23), .int p2] S20 (zs_kJ (fun v28 S27 => (w_X3_measured_2_114 X d p0 p1 p2 p3 p5 p7 v28 S27 Q)) Q))) Q)))))) Q)))))
theorem u_X3_measured_2_67 {σ : Nat → Nat} {n0 : Nat} {bf : ab_B} {d : Nat} {p0 : Nat} {p1 : Option Nat} {p2 : Int32} {p3 : Int64} {p5 : Int64} {p7 : Int32} {S : zs_T} {Q : zs_Q} (hB : zt_B bf) (h : w_X3_measured_2_67 (zx σ n0 bf) d p0 p1 p2 p3 p5 p7 S Q) : zs_U (zx σ n0 bf) d 2009 67 [(0, .ref p0), (1, va_rf p1), (2, .int p2), (3, .long p3), (5, .long p5), (7, .int p7)] [] S Q := by
  unfold w_X3_measured_2_67 at h
  refine zu_aload_n d_2009_67 rfl (zs_rr _) ?_
  obtain ⟨b1, e2, h⟩ := h
  refine zs_stk0 (zs_rfe e2) ?_
  obtain ⟨k3, h⟩ := h
  refine zg_2_136 rfl d_2009_68 k3 ?_
  refine zu_ifnull (u := (zs_R S 13001 b1)) (t := 140) d_2009_71 rfl rfl (fun e5 => ?_) (fun b4 e5 => ?_)
  · have h := h.1 e5
    refine zu_lload_n d_2009_140 rfl ?_
    refine zu_lload d_2009_141 rfl ?_
    refine zu_stk d_2009_143 rfl rfl ?_
    exact zu_lret d_2009_144 zr_2009 h
  · have h := h.2 b4 e5
    refine zu_iload d_2009_74 rfl ?_
    refine zu_aload_n d_2009_76 rfl (zs_rr _) ?_
    refine zs_stk0 (zs_rfe e2) ?_
    refine zg_2_136 rfl d_2009_77 k3 ?_
    refine zs_stk0 (zs_rfe e5) ?_
    obtain ⟨k6, h⟩ := h
    refine zg_2_140 rfl d_2009_80 k6 ?_
    obtain ⟨b7, e8, h⟩ := h
    refine zs_stk0 (zs_rfe e8) ?_
    obtain ⟨k9, h⟩ := h
    refine zc_2_124  hB rfl k9 d_2009_83 (Nat.le_of_ble_eq_true rfl) h (fun v11 S10 h => ?_)
    refine zu_cmpge (t := 140) d_2009_86 rfl (fun c12 => ?_) (fun c12 => ?_)
    · have h := h.1 c12
      refine zu_lload_n d_2009_140 rfl ?_
      refine zu_lload d_2009_141 rfl ?_
      refine zu_stk d_2009_143 rfl rfl ?_
      exact zu_lret d_2009_144 zr_2009 h
    · have h := h.2 c12
      refine zu_aload_n d_2009_89 rfl (zs_ra _) ?_
      refine zu_aload_n d_2009_90 rfl (zs_rr _) ?_
      refine zs_stk0 (zs_rfe e2) ?_
      obtain ⟨k13, h⟩ := h
      refine zg_2_136 rfl d_2009_91 k13 ?_
      obtain ⟨b14, e15, h⟩ := h
      refine zs_stk0 (zs_rfe e15) ?_
      obtain ⟨k16, h⟩ := h
      refine zg_2_140 rfl d_2009_94 k16 ?_
      refine zu_iload d_2009_97 rfl ?_
      obtain ⟨b17, e18, h⟩ := h
      refine zs_stk1 (zs_rfe e18) ?_
      obtain ⟨k19, h⟩ := h
      refine zc_2_129 (x0 := p7) hB rfl k19 d_2009_99 (Nat.le_of_ble_eq_true rfl) h (fun v21 S20 h => ?_)
      obtain ⟨k22, h⟩ := h
      refine zk_2_145 (o := v21) rfl d_2009_102 k22 ?_
      obtain ⟨b23, e24, h⟩ := h
      refine zs_stk0 (zs_rfe e24) ?_
      obtain ⟨k25, h⟩ := h
      refine zg_2_147 rfl d_2009_105 k25 ?_
      refine zu_iload_n d_2009_108 rfl ?_
      obtain ⟨k26, h⟩ := h
      refine zc_2_173 (x0 := (zs_R S20 15002 b23)) (x1 := p2) hB rfl k26 d_2009_109 (Nat.le_of_ble_eq_true rfl) h (fun v28 S27 h => ?_)
      refine zu_lstore d_2009_112 (zs_lt zq_2009 rfl) ?_
      exact (u_X3_measured_2_114 hB h).weak ⟨rfl, rfl, rfl, rfl, rfl, rfl, rfl, trivial⟩
def w_X3_measured_2 (X : zs_X) (d : Nat) (p0 : Nat) (p1 : Option Nat) (p2 : Int32) (S : zs_T) (Q : zs_Q) : Prop :=
  (zs_U X d 2009 5 [(0, .ref p0), (1, va_rf p1), (2, .int p2), (3, .long (0 : Int64)), (5, .int (0 : Int32))] [] S Q)
theorem u_X3_measured_2 {σ : Nat → Nat} {n0 : Nat} {bf : ab_B} {d : Nat} {p0 : Nat} {p1 : Option Nat} {p2 : Int32} {S : zs_T} {Q : zs_Q} (hB : zt_B bf) (hd : 1 ≤ d) (h : w_X3_measured_2 (zx σ n0 bf) (d - 1) p0 p1 p2 S Q) : zs_C (zx σ n0 bf) d 2009 [.ref p0, va_rf p1, .int p2] S Q := by
  have hL : lv_args 0 [.ref p0, va_rf p1, .int p2] = [(0, .ref p0), (1, va_rf p1), (2, .int p2)] := by simp [lv_args, zs_cat, zs_cI, zs_cJ, zs_cA]
  refine zs_C.of1 (hB.2 2009 (by decide) (by decide)) hd (by rw [hL]; exact zs_sub_self _ (by exact ⟨rfl, rfl, rfl, trivial⟩)) ?_
  rw [hL]
  clear hL
  unfold w_X3_measured_2 at h
  refine zu_lconst (v := 0) d_2009_0 rfl ?_
  refine zu_lstore_n d_2009_1 (zs_lt zq_2009 rfl) ?_
  refine zu_iconst d_2009_2 zi_0 ?_
  refine zu_istore d_2009_3 (zs_lt zq_2009 rfl) ?_
  exact h.weak ⟨rfl, rfl, rfl, rfl, rfl, trivial⟩
/-! SchemaPascal$Shapes.put(LSchemaPascal$Type;II)V -/
theorem zm_2010 {σ : Nat → Nat} {n0 : Nat} {bf : ab_B} : ab_code (zx σ n0 bf).1 2010 = prog_11_method_10_code := rfl
theorem zq_2010 {σ : Nat → Nat} {n0 : Nat} {bf : ab_B} : ab_maxL (zx σ n0 bf).1 2010 = 6 := rfl
theorem zr_2010 {σ : Nat → Nat} {n0 : Nat} {bf : ab_B} : ab_ret (zx σ n0 bf).1 2010 = (Option.none : Option Jvm.ClassFile.FieldType) := rfl
theorem d_2010_0 {σ : Nat → Nat} {n0 : Nat} {bf : ab_B} : decode (ab_code (zx σ n0 bf).1 2010) 0 = .ok (.iload_n 3, 1) := zd zm_2010 (by decide +kernel)
theorem d_2010_1 {σ : Nat → Nat} {n0 : Nat} {bf : ab_B} : decode (ab_code (zx σ n0 bf).1 2010) 1 = .ok (.istore 4, 2) := zd zm_2010 (by decide +kernel)
theorem d_2010_3 {σ : Nat → Nat} {n0 : Nat} {bf : ab_B} : decode (ab_code (zx σ n0 bf).1 2010) 3 = .ok (.aload_n 1, 1) := zd zm_2010 (by decide +kernel)
theorem d_2010_4 {σ : Nat → Nat} {n0 : Nat} {bf : ab_B} : decode (ab_code (zx σ n0 bf).1 2010) 4 = .ok (.getfield 151, 3) := zd zm_2010 (by decide +kernel)
theorem d_2010_7 {σ : Nat → Nat} {n0 : Nat} {bf : ab_B} : decode (ab_code (zx σ n0 bf).1 2010) 7 = .ok (.astore 5, 2) := zd zm_2010 (by decide +kernel)
theorem d_2010_9 {σ : Nat → Nat} {n0 : Nat} {bf : ab_B} : decode (ab_code (zx σ n0 bf).1 2010) 9 = .ok (.aload 5, 2) := zd zm_2010 (by decide +kernel)
theorem d_2010_11 {σ : Nat → Nat} {n0 : Nat} {bf : ab_B} : decode (ab_code (zx σ n0 bf).1 2010) 11 = .ok (.ifnull 30, 3) := zd zm_2010 (by decide +kernel)
theorem d_2010_14 {σ : Nat → Nat} {n0 : Nat} {bf : ab_B} : decode (ab_code (zx σ n0 bf).1 2010) 14 = .ok (.aload_n 0, 1) := zd zm_2010 (by decide +kernel)
theorem d_2010_15 {σ : Nat → Nat} {n0 : Nat} {bf : ab_B} : decode (ab_code (zx σ n0 bf).1 2010) 15 = .ok (.getfield 9, 3) := zd zm_2010 (by decide +kernel)
theorem d_2010_18 {σ : Nat → Nat} {n0 : Nat} {bf : ab_B} : decode (ab_code (zx σ n0 bf).1 2010) 18 = .ok (.iload 4, 2) := zd zm_2010 (by decide +kernel)
theorem d_2010_20 {σ : Nat → Nat} {n0 : Nat} {bf : ab_B} : decode (ab_code (zx σ n0 bf).1 2010) 20 = .ok (.iinc 4 1, 3) := zd zm_2010 (by decide +kernel)
theorem d_2010_23 {σ : Nat → Nat} {n0 : Nat} {bf : ab_B} : decode (ab_code (zx σ n0 bf).1 2010) 23 = .ok (.aload_n 0, 1) := zd zm_2010 (by decide +kernel)
theorem d_2010_24 {σ : Nat → Nat} {n0 : Nat} {bf : ab_B} : decode (ab_code (zx σ n0 bf).1 2010) 24 = .ok (.aload 5, 2) := zd zm_2010 (by decide +kernel)
theorem d_2010_26 {σ : Nat → Nat} {n0 : Nat} {bf : ab_B} : decode (ab_code (zx σ n0 bf).1 2010) 26 = .ok (.iload_n 2, 1) := zd zm_2010 (by decide +kernel)
theorem d_2010_27 {σ : Nat → Nat} {n0 : Nat} {bf : ab_B} : decode (ab_code (zx σ n0 bf).1 2010) 27 = .ok (.invokevirtual 38, 3) := zd zm_2010 (by decide +kernel)
theorem d_2010_30 {σ : Nat → Nat} {n0 : Nat} {bf : ab_B} : decode (ab_code (zx σ n0 bf).1 2010) 30 = .ok (.lastore, 1) := zd zm_2010 (by decide +kernel)
theorem d_2010_31 {σ : Nat → Nat} {n0 : Nat} {bf : ab_B} : decode (ab_code (zx σ n0 bf).1 2010) 31 = .ok (.aload 5, 2) := zd zm_2010 (by decide +kernel)
theorem d_2010_33 {σ : Nat → Nat} {n0 : Nat} {bf : ab_B} : decode (ab_code (zx σ n0 bf).1 2010) 33 = .ok (.getfield 154, 3) := zd zm_2010 (by decide +kernel)
theorem d_2010_36 {σ : Nat → Nat} {n0 : Nat} {bf : ab_B} : decode (ab_code (zx σ n0 bf).1 2010) 36 = .ok (.astore 5, 2) := zd zm_2010 (by decide +kernel)
theorem d_2010_38 {σ : Nat → Nat} {n0 : Nat} {bf : ab_B} : decode (ab_code (zx σ n0 bf).1 2010) 38 = .ok (.goto (-29), 3) := zd zm_2010 (by decide +kernel)
theorem d_2010_41 {σ : Nat → Nat} {n0 : Nat} {bf : ab_B} : decode (ab_code (zx σ n0 bf).1 2010) 41 = .ok (.return_, 1) := zd zm_2010 (by decide +kernel)
def w_X3_put_9 (X : zs_X) (d : Nat) (p0 : Nat) (p2 : Int32) (p4 : Int32) (p5 : Option Nat) (S : zs_T) (Q : zs_Q) : Prop :=
  (((p5 = none → (Q (.returned none) S)) ∧ (∀ b1, p5 = some b1 → (zs_K S p0 = some (.inl 2) ∧ zs_C X d 2001 [.ref p0, va_rf p5, .int p2] S (zs_kJ (fun v5 S4 => (∃ b6, (zs_R S 2000 p0) = some b6 ∧ zs_A S4 b6 3 p4 ∧ ab_n0 X.1 ≤ b6 ∧ ∀ S10, S10 = zs_sj S4 b6 p4.toNatClampNeg v5 → zs_K S4 b1 = some (.inl 11) ∧ zs_U X d 2010 9 [(0, .ref p0), (2, .int p2), (4, .int (p4 + (1 : Int32))), (5, va_rf (zs_R S10 11007 b1))] [] S10 Q)) Q)))))
theorem u_X3_put_9 {σ : Nat → Nat} {n0 : Nat} {bf : ab_B} {d : Nat} {p0 : Nat} {p2 : Int32} {p4 : Int32} {p5 : Option Nat} {S : zs_T} {Q : zs_Q} (hB : zt_B bf) (h : w_X3_put_9 (zx σ n0 bf) d p0 p2 p4 p5 S Q) : zs_U (zx σ n0 bf) d 2010 9 [(0, .ref p0), (2, .int p2), (4, .int p4), (5, va_rf p5)] [] S Q := by
  unfold w_X3_put_9 at h
  refine zu_aload d_2010_9 rfl (zs_rr _) ?_
  refine zu_ifnull (u := p5) (t := 41) d_2010_11 rfl rfl (fun e2 => ?_) (fun b1 e2 => ?_)
  · have h := h.1 e2
    exact zu_vret d_2010_41 zr_2010 h
  · have h := h.2 b1 e2
    refine zu_aload_n d_2010_14 rfl (zs_ra _) ?_
    obtain ⟨k3, h⟩ := h
    refine zg_2_9 rfl d_2010_15 k3 ?_
    refine zu_iload d_2010_18 rfl ?_
    refine zu_iinc d_2010_20 rfl zi_1 (zs_lt zq_2010 rfl) ?_
    refine zu_aload_n d_2010_23 rfl (zs_ra _) ?_
    refine zu_aload d_2010_24 rfl (zs_rr _) ?_
    refine zu_iload_n d_2010_26 rfl ?_
    refine zc_2_38 (x0 := p5) (x1 := p2) hB rfl k3 d_2010_27 (by simp only [List.map_cons, List.map_nil, List.sum_cons, List.sum_nil, zs_cat, zs_cI, zs_cJ, zs_cA]; exact Nat.le_of_ble_eq_true rfl) h (fun v5 S4 h => ?_)
    obtain ⟨b6, e7, h⟩ := h
    refine zs_stk2 (zs_rfe e7) ?_
    obtain ⟨k8, h⟩ := h
    obtain ⟨k9, h⟩ := h
    refine zu_last (k := 3) d_2010_30 rfl rfl k9 k8 ?_
    generalize e11 : zs_sj S4 b6 p4.toNatClampNeg v5 = S10
    have h := h S10 e11.symm
    have K12 : ∀ b, zs_K S10 b = zs_K S4 b := zs_Kt e11 (zs_Ksj _ _ _ _) (fun _ => rfl)
    refine zu_aload d_2010_31 rfl (zs_rr _) ?_
    refine zs_stk0 (zs_rfe e2) ?_
    obtain ⟨k13, h⟩ := h
    refine zg_2_154 rfl d_2010_33 ((K12 _).trans k13) ?_
    refine zu_astore d_2010_36 (zs_rr _) (zs_lt zq_2010 rfl) ?_
    refine zu_goto (t := 9) d_2010_38 rfl ?_
    exact h.weak ⟨rfl, rfl, rfl, rfl, trivial⟩
def w_X3_put (X : zs_X) (d : Nat) (p0 : Nat) (p1 : Option Nat) (p2 : Int32) (p3 : Int32) (S : zs_T) (Q : zs_Q) : Prop :=
  (∃ b1, p1 = some b1 ∧ zs_K S b1 = some (.inl 6) ∧ zs_U X d 2010 9 [(0, .ref p0), (2, .int p2), (4, .int p3), (5, va_rf (zs_R S 6008 b1))] [] S Q)
theorem u_X3_put {σ : Nat → Nat} {n0 : Nat} {bf : ab_B} {d : Nat} {p0 : Nat} {p1 : Option Nat} {p2 : Int32} {p3 : Int32} {S : zs_T} {Q : zs_Q} (hB : zt_B bf) (hd : 1 ≤ d) (h : w_X3_put (zx σ n0 bf) (d - 1) p0 p1 p2 p3 S Q) : zs_C (zx σ n0 bf) d 2010 [.ref p0, va_rf p1, .int p2, .int p3] S Q := by
  have hL : lv_args 0 [.ref p0, va_rf p1, .int p2, .int p3] = [(0, .ref p0), (1, va_rf p1), (2, .int p2), (3, .int p3)] := by simp [lv_args, zs_cat, zs_cI, zs_cJ, zs_cA]
  refine zs_C.of1 (hB.2 2010 (by decide) (by decide)) hd (by rw [hL]; exact zs_sub_self _ (by exact ⟨rfl, rfl, rfl, rfl, trivial⟩)) ?_
  rw [hL]
  clear hL
  unfold w_X3_put at h
  refine zu_iload_n d_2010_0 rfl ?_
  refine zu_istore d_2010_1 (zs_lt zq_2010 rfl) ?_
  refine zu_aload_n d_2010_3 rfl (zs_rr _) ?_
  obtain ⟨b1, e2, h⟩ := h
  refine zs_stk0 (zs_rfe e2) ?_
  obtain ⟨k3, h⟩ := h
  refine zg_2_151 rfl d_2010_4 k3 ?_
  refine zu_astore d_2010_7 (zs_rr _) (zs_lt zq_2010 rfl) ?_
  exact h.weak ⟨rfl, rfl, rfl, rfl, trivial⟩
/-! SchemaPascal$Shapes.fit(LSchemaPascal$Type;I)Z -/
theorem zm_2011 {σ : Nat → Nat} {n0 : Nat} {bf : ab_B} : ab_code (zx σ n0 bf).1 2011 = prog_11_method_11_code := rfl
theorem zq_2011 {σ : Nat → Nat} {n0 : Nat} {bf : ab_B} : ab_maxL (zx σ n0 bf).1 2011 = 6 := rfl
theorem zr_2011 {σ : Nat → Nat} {n0 : Nat} {bf : ab_B} : ab_ret (zx σ n0 bf).1 2011 = (Option.some Jvm.ClassFile.FieldType.boolean) := rfl
theorem d_2011_0 {σ : Nat → Nat} {n0 : Nat} {bf : ab_B} : decode (ab_code (zx σ n0 bf).1 2011) 0 = .ok (.iconst 1, 1) := zd zm_2011 (by decide +kernel)
theorem d_2011_1 {σ : Nat → Nat} {n0 : Nat} {bf : ab_B} : decode (ab_code (zx σ n0 bf).1 2011) 1 = .ok (.istore_n 3, 1) := zd zm_2011 (by decide +kernel)
theorem d_2011_2 {σ : Nat → Nat} {n0 : Nat} {bf : ab_B} : decode (ab_code (zx σ n0 bf).1 2011) 2 = .ok (.iconst 0, 1) := zd zm_2011 (by decide +kernel)
theorem d_2011_3 {σ : Nat → Nat} {n0 : Nat} {bf : ab_B} : decode (ab_code (zx σ n0 bf).1 2011) 3 = .ok (.istore 4, 2) := zd zm_2011 (by decide +kernel)
theorem d_2011_5 {σ : Nat → Nat} {n0 : Nat} {bf : ab_B} : decode (ab_code (zx σ n0 bf).1 2011) 5 = .ok (.iload 4, 2) := zd zm_2011 (by decide +kernel)
theorem d_2011_7 {σ : Nat → Nat} {n0 : Nat} {bf : ab_B} : decode (ab_code (zx σ n0 bf).1 2011) 7 = .ok (.aload_n 1, 1) := zd zm_2011 (by decide +kernel)
theorem d_2011_8 {σ : Nat → Nat} {n0 : Nat} {bf : ab_B} : decode (ab_code (zx σ n0 bf).1 2011) 8 = .ok (.getfield 157, 3) := zd zm_2011 (by decide +kernel)
theorem d_2011_11 {σ : Nat → Nat} {n0 : Nat} {bf : ab_B} : decode (ab_code (zx σ n0 bf).1 2011) 11 = .ok (.invokevirtual 124, 3) := zd zm_2011 (by decide +kernel)
theorem d_2011_14 {σ : Nat → Nat} {n0 : Nat} {bf : ab_B} : decode (ab_code (zx σ n0 bf).1 2011) 14 = .ok (.if_icmp .ge 90, 3) := zd zm_2011 (by decide +kernel)
theorem d_2011_17 {σ : Nat → Nat} {n0 : Nat} {bf : ab_B} : decode (ab_code (zx σ n0 bf).1 2011) 17 = .ok (.aload_n 1, 1) := zd zm_2011 (by decide +kernel)
theorem d_2011_18 {σ : Nat → Nat} {n0 : Nat} {bf : ab_B} : decode (ab_code (zx σ n0 bf).1 2011) 18 = .ok (.getfield 157, 3) := zd zm_2011 (by decide +kernel)
theorem d_2011_21 {σ : Nat → Nat} {n0 : Nat} {bf : ab_B} : decode (ab_code (zx σ n0 bf).1 2011) 21 = .ok (.iload 4, 2) := zd zm_2011 (by decide +kernel)
theorem d_2011_23 {σ : Nat → Nat} {n0 : Nat} {bf : ab_B} : decode (ab_code (zx σ n0 bf).1 2011) 23 = .ok (.invokevirtual 129, 3) := zd zm_2011 (by decide +kernel)
theorem d_2011_26 {σ : Nat → Nat} {n0 : Nat} {bf : ab_B} : decode (ab_code (zx σ n0 bf).1 2011) 26 = .ok (.checkcast 133, 3) := zd zm_2011 (by decide +kernel)
theorem d_2011_29 {σ : Nat → Nat} {n0 : Nat} {bf : ab_B} : decode (ab_code (zx σ n0 bf).1 2011) 29 = .ok (.getfield 135, 3) := zd zm_2011 (by decide +kernel)
theorem d_2011_32 {σ : Nat → Nat} {n0 : Nat} {bf : ab_B} : decode (ab_code (zx σ n0 bf).1 2011) 32 = .ok (.astore 5, 2) := zd zm_2011 (by decide +kernel)
theorem d_2011_34 {σ : Nat → Nat} {n0 : Nat} {bf : ab_B} : decode (ab_code (zx σ n0 bf).1 2011) 34 = .ok (.iload_n 3, 1) := zd zm_2011 (by decide +kernel)
theorem d_2011_35 {σ : Nat → Nat} {n0 : Nat} {bf : ab_B} : decode (ab_code (zx σ n0 bf).1 2011) 35 = .ok (.aload_n 0, 1) := zd zm_2011 (by decide +kernel)
theorem d_2011_36 {σ : Nat → Nat} {n0 : Nat} {bf : ab_B} : decode (ab_code (zx σ n0 bf).1 2011) 36 = .ok (.getfield 9, 3) := zd zm_2011 (by decide +kernel)
theorem d_2011_39 {σ : Nat → Nat} {n0 : Nat} {bf : ab_B} : decode (ab_code (zx σ n0 bf).1 2011) 39 = .ok (.iload_n 2, 1) := zd zm_2011 (by decide +kernel)
theorem d_2011_40 {σ : Nat → Nat} {n0 : Nat} {bf : ab_B} : decode (ab_code (zx σ n0 bf).1 2011) 40 = .ok (.iload 4, 2) := zd zm_2011 (by decide +kernel)
theorem d_2011_42 {σ : Nat → Nat} {n0 : Nat} {bf : ab_B} : decode (ab_code (zx σ n0 bf).1 2011) 42 = .ok (.iadd, 1) := zd zm_2011 (by decide +kernel)
theorem d_2011_43 {σ : Nat → Nat} {n0 : Nat} {bf : ab_B} : decode (ab_code (zx σ n0 bf).1 2011) 43 = .ok (.laload, 1) := zd zm_2011 (by decide +kernel)
theorem d_2011_44 {σ : Nat → Nat} {n0 : Nat} {bf : ab_B} : decode (ab_code (zx σ n0 bf).1 2011) 44 = .ok (.ldc2_w 41, 3) := zd zm_2011 (by decide +kernel)
theorem d_2011_47 {σ : Nat → Nat} {n0 : Nat} {bf : ab_B} : decode (ab_code (zx σ n0 bf).1 2011) 47 = .ok (.lcmp, 1) := zd zm_2011 (by decide +kernel)
theorem d_2011_48 {σ : Nat → Nat} {n0 : Nat} {bf : ab_B} : decode (ab_code (zx σ n0 bf).1 2011) 48 = .ok (.ifCond .eq 47, 3) := zd zm_2011 (by decide +kernel)
theorem d_2011_51 {σ : Nat → Nat} {n0 : Nat} {bf : ab_B} : decode (ab_code (zx σ n0 bf).1 2011) 51 = .ok (.aload_n 0, 1) := zd zm_2011 (by decide +kernel)
theorem d_2011_52 {σ : Nat → Nat} {n0 : Nat} {bf : ab_B} : decode (ab_code (zx σ n0 bf).1 2011) 52 = .ok (.getfield 9, 3) := zd zm_2011 (by decide +kernel)
theorem d_2011_55 {σ : Nat → Nat} {n0 : Nat} {bf : ab_B} : decode (ab_code (zx σ n0 bf).1 2011) 55 = .ok (.iload_n 2, 1) := zd zm_2011 (by decide +kernel)
theorem d_2011_56 {σ : Nat → Nat} {n0 : Nat} {bf : ab_B} : decode (ab_code (zx σ n0 bf).1 2011) 56 = .ok (.iload 4, 2) := zd zm_2011 (by decide +kernel)
theorem d_2011_58 {σ : Nat → Nat} {n0 : Nat} {bf : ab_B} : decode (ab_code (zx σ n0 bf).1 2011) 58 = .ok (.iadd, 1) := zd zm_2011 (by decide +kernel)
theorem d_2011_59 {σ : Nat → Nat} {n0 : Nat} {bf : ab_B} : decode (ab_code (zx σ n0 bf).1 2011) 59 = .ok (.laload, 1) := zd zm_2011 (by decide +kernel)
theorem d_2011_60 {σ : Nat → Nat} {n0 : Nat} {bf : ab_B} : decode (ab_code (zx σ n0 bf).1 2011) 60 = .ok (.aload_n 0, 1) := zd zm_2011 (by decide +kernel)
theorem d_2011_61 {σ : Nat → Nat} {n0 : Nat} {bf : ab_B} : decode (ab_code (zx σ n0 bf).1 2011) 61 = .ok (.aload 5, 2) := zd zm_2011 (by decide +kernel)
theorem d_2011_63 {σ : Nat → Nat} {n0 : Nat} {bf : ab_B} : decode (ab_code (zx σ n0 bf).1 2011) 63 = .ok (.iconst (-1), 1) := zd zm_2011 (by decide +kernel)
theorem d_2011_64 {σ : Nat → Nat} {n0 : Nat} {bf : ab_B} : decode (ab_code (zx σ n0 bf).1 2011) 64 = .ok (.invokevirtual 66, 3) := zd zm_2011 (by decide +kernel)
theorem d_2011_67 {σ : Nat → Nat} {n0 : Nat} {bf : ab_B} : decode (ab_code (zx σ n0 bf).1 2011) 67 = .ok (.lcmp, 1) := zd zm_2011 (by decide +kernel)
theorem d_2011_68 {σ : Nat → Nat} {n0 : Nat} {bf : ab_B} : decode (ab_code (zx σ n0 bf).1 2011) 68 = .ok (.ifCond .lt 27, 3) := zd zm_2011 (by decide +kernel)
theorem d_2011_71 {σ : Nat → Nat} {n0 : Nat} {bf : ab_B} : decode (ab_code (zx σ n0 bf).1 2011) 71 = .ok (.aload_n 0, 1) := zd zm_2011 (by decide +kernel)
theorem d_2011_72 {σ : Nat → Nat} {n0 : Nat} {bf : ab_B} : decode (ab_code (zx σ n0 bf).1 2011) 72 = .ok (.getfield 9, 3) := zd zm_2011 (by decide +kernel)
theorem d_2011_75 {σ : Nat → Nat} {n0 : Nat} {bf : ab_B} : decode (ab_code (zx σ n0 bf).1 2011) 75 = .ok (.iload_n 2, 1) := zd zm_2011 (by decide +kernel)
theorem d_2011_76 {σ : Nat → Nat} {n0 : Nat} {bf : ab_B} : decode (ab_code (zx σ n0 bf).1 2011) 76 = .ok (.iload 4, 2) := zd zm_2011 (by decide +kernel)
theorem d_2011_78 {σ : Nat → Nat} {n0 : Nat} {bf : ab_B} : decode (ab_code (zx σ n0 bf).1 2011) 78 = .ok (.iadd, 1) := zd zm_2011 (by decide +kernel)
theorem d_2011_79 {σ : Nat → Nat} {n0 : Nat} {bf : ab_B} : decode (ab_code (zx σ n0 bf).1 2011) 79 = .ok (.laload, 1) := zd zm_2011 (by decide +kernel)
theorem d_2011_80 {σ : Nat → Nat} {n0 : Nat} {bf : ab_B} : decode (ab_code (zx σ n0 bf).1 2011) 80 = .ok (.aload_n 0, 1) := zd zm_2011 (by decide +kernel)
theorem d_2011_81 {σ : Nat → Nat} {n0 : Nat} {bf : ab_B} : decode (ab_code (zx σ n0 bf).1 2011) 81 = .ok (.aload 5, 2) := zd zm_2011 (by decide +kernel)
theorem d_2011_83 {σ : Nat → Nat} {n0 : Nat} {bf : ab_B} : decode (ab_code (zx σ n0 bf).1 2011) 83 = .ok (.iconst (-1), 1) := zd zm_2011 (by decide +kernel)
theorem d_2011_84 {σ : Nat → Nat} {n0 : Nat} {bf : ab_B} : decode (ab_code (zx σ n0 bf).1 2011) 84 = .ok (.invokevirtual 70, 3) := zd zm_2011 (by decide +kernel)
theorem d_2011_87 {σ : Nat → Nat} {n0 : Nat} {bf : ab_B} : decode (ab_code (zx σ n0 bf).1 2011) 87 = .ok (.lcmp, 1) := zd zm_2011 (by decide +kernel)
theorem d_2011_88 {σ : Nat → Nat} {n0 : Nat} {bf : ab_B} : decode (ab_code (zx σ n0 bf).1 2011) 88 = .ok (.ifCond .gt 7, 3) := zd zm_2011 (by decide +kernel)
theorem d_2011_91 {σ : Nat → Nat} {n0 : Nat} {bf : ab_B} : decode (ab_code (zx σ n0 bf).1 2011) 91 = .ok (.iconst 1, 1) := zd zm_2011 (by decide +kernel)
theorem d_2011_92 {σ : Nat → Nat} {n0 : Nat} {bf : ab_B} : decode (ab_code (zx σ n0 bf).1 2011) 92 = .ok (.goto 4, 3) := zd zm_2011 (by decide +kernel)
theorem d_2011_95 {σ : Nat → Nat} {n0 : Nat} {bf : ab_B} : decode (ab_code (zx σ n0 bf).1 2011) 95 = .ok (.iconst 0, 1) := zd zm_2011 (by decide +kernel)
theorem d_2011_96 {σ : Nat → Nat} {n0 : Nat} {bf : ab_B} : decode (ab_code (zx σ n0 bf).1 2011) 96 = .ok (.iand, 1) := zd zm_2011 (by decide +kernel)
theorem d_2011_97 {σ : Nat → Nat} {n0 : Nat} {bf : ab_B} : decode (ab_code (zx σ n0 bf).1 2011) 97 = .ok (.istore_n 3, 1) := zd zm_2011 (by decide +kernel)
theorem d_2011_98 {σ : Nat → Nat} {n0 : Nat} {bf : ab_B} : decode (ab_code (zx σ n0 bf).1 2011) 98 = .ok (.iinc 4 1, 3) := zd zm_2011 (by decide +kernel)
theorem d_2011_101 {σ : Nat → Nat} {n0 : Nat} {bf : ab_B} : decode (ab_code (zx σ n0 bf).1 2011) 101 = .ok (.goto (-96), 3) := zd zm_2011 (by decide +kernel)
theorem d_2011_104 {σ : Nat → Nat} {n0 : Nat} {bf : ab_B} : decode (ab_code (zx σ n0 bf).1 2011) 104 = .ok (.iload_n 3, 1) := zd zm_2011 (by decide +kernel)
theorem d_2011_105 {σ : Nat → Nat} {n0 : Nat} {bf : ab_B} : decode (ab_code (zx σ n0 bf).1 2011) 105 = .ok (.ireturn, 1) := zd zm_2011 (by decide +kernel)
def w_X3_fit_96 (X : zs_X) (d : Nat) (p0 : Nat) (p1 : Option Nat) (p2 : Int32) (p4 : Int32) (q0 : Int32) (q1 : Int32) (S : zs_T) (Q : zs_Q) : Prop :=
  (zs_U X d 2011 5 [(0, .ref p0), (1, va_rf p1), (2, .int p2), (3, .int (q0 &&& q1)), (4, .int (p4 + (1 : Int32)))] [] S Q)
theorem u_X3_fit_96 {σ : Nat → Nat} {n0 : Nat} {bf : ab_B} {d : Nat} {p0 : Nat} {p1 : Option Nat} {p2 : Int32} {p4 : Int32} {q0 : Int32} {q1 : Int32} {S : zs_T} {Q : zs_Q} (hB : zt_B bf) (h : w_X3_fit_96 (zx σ n0 bf) d p0 p1 p2 p4 q0 q1 S Q) : zs_U (zx σ n0 bf) d 2011 96 [(0, .ref p0), (1, va_rf p1), (2, .int p2), (4, .int p4)] [.int q1, .int q0] S Q := by
  unfold w_X3_fit_96 at h
  refine zu_stk d_2011_96 rfl rfl ?_
  refine zu_istore_n d_2011_97 (zs_lt zq_2011 rfl) ?_
  refine zu_iinc d_2011_98 rfl zi_1 (zs_lt zq_2011 rfl) ?_
  refine zu_goto (t := 5) d_2011_101 rfl ?_
  exact h.weak ⟨rfl, rfl, rfl, rfl, rfl, trivial⟩
def w_X3_fit_95 (X : zs_X) (d : Nat) (p0 : Nat) (p1 : Option Nat) (p2 : Int32) (p4 : Int32) (q0 : Int32) (S : zs_T) (Q : zs_Q) : Prop :=
  (w_X3_fit_96 X d p0 p1 p2 p4 q0 (0 : Int32) S Q)
theorem u_X3_fit_95 {σ : Nat → Nat} {n0 : Nat} {bf : ab_B} {d : Nat} {p0 : Nat} {p1 : Option Nat} {p2 : Int32} {p4 : Int32} {q0 : Int32} {S : zs_T} {Q : zs_Q} (hB : zt_B bf) (h : w_X3_fit_95 (zx σ n0 bf) d p0 p1 p2 p4 q0 S Q) : zs_U (zx σ n0 bf) d 2011 95 [(0, .ref p0), (1, va_rf p1), (2, .int p2), (4, .int p4)] [.int q0] S Q := by
  unfold w_X3_fit_95 at h
  refine zu_iconst d_2011_95 zi_0 ?_
  exact (u_X3_fit_96 hB h).weak ⟨rfl, rfl, rfl, rfl, trivial⟩
def w_X3_fit_71 (X : zs_X) (d : Nat) (p0 : Nat) (p1 : Option Nat) (p2 : Int32) (p4 : Int32) (p5 : Option Nat) (q0 : Int32) (S : zs_T) (Q : zs_Q) : Prop :=
  (zs_K S p0 = some (.inl 2) ∧ ∃ b2, (zs_R S 2000 p0) = some b2 ∧ zs_A S b2 3 (p2 + p4) ∧ zs_C X d 2004 [.ref p0, va_rf p5, .int (-1 : Int32)] S (zs_kJ (fun v6 S5 => (((v6 < (zs_j S b2 (p2 + p4).toNatClampNeg) → w_X3_fit_95 X d p0 p1 p2 p4 q0 S5 Q) ∧ (¬ (v6 < (zs_j S b2 (p2 + p4).toNatClampNeg)) → (w_X3_fit_96 X d p0 p1 p2 p4 q0 (1 : Int32) S5 Q))))) Q))
theorem u_X3_fit_71 {σ : Nat → Nat} {n0 : Nat} {bf : ab_B} {d : Nat} {p0 : Nat} {p1 : Option Nat} {p2 : Int32} {p4 : Int32} {p5 : Option Nat} {q0 : Int32} {S : zs_T} {Q : zs_Q} (hB : zt_B bf) (h : w_X3_fit_71 (zx σ n0 bf) d p0 p1 p2 p4 p5 q0 S Q) : zs_U (zx σ n0 bf) d 2011 71 [(0, .ref p0), (1, va_rf p1), (2, .int p2), (4, .int p4), (5, va_rf p5)] [.int q0] S Q := by
  unfold w_X3_fit_71 at h
  refine zu_aload_n d_2011_71 rfl (zs_ra _) ?_
  obtain ⟨k1, h⟩ := h
  refine zg_2_9 rfl d_2011_72 k1 ?_
  refine zu_iload_n d_2011_75 rfl ?_
  refine zu_iload d_2011_76 rfl ?_
  refine zu_stk d_2011_78 rfl rfl ?_
  obtain ⟨b2, e3, h⟩ := h
  refine zs_stk1 (zs_rfe e3) ?_
  obtain ⟨k4, h⟩ := h
  refine zu_lald (k := 3) d_2011_79 rfl rfl k4 ?_
  refine zu_aload_n d_2011_80 rfl (zs_ra _) ?_
  refine zu_aload d_2011_81 rfl (zs_rr _) ?_
  refine zu_iconst d_2011_83 zi_m1 ?_
  refine zc_2_70 (x0 := p5) (x1 := (-1 : Int32)) hB rfl k1 d_2011_84 (Nat.le_of_ble_eq_true rfl) h (fun v6 S5 h => ?_)
  refine zu_lgt (t := 95) d_2011_87 d_2011_88 rfl (fun c7 => ?_) (fun c7 => ?_)
  · have h := h.1 c7
    exact (u_X3_fit_95 hB h).weak ⟨rfl, rfl, rfl, rfl, trivial⟩
  · have h := h.2 c7
    refine zu_iconst d_2011_91 zi_1 ?_
    refine zu_goto (t := 96) d_2011_92 rfl ?_
    exact (u_X3_fit_96 hB h).weak ⟨rfl, rfl, rfl, rfl, trivial⟩
def w_X3_fit_5 (X : zs_X) (d : Nat) (p0 : Nat) (p1 : Option Nat) (p2 : Int32) (p3 : Int32) (p4 : Int32) (S : zs_T) (Q : zs_Q) : Prop :=
  (∃ b1, p1 = some b1 ∧ zs_K S b1 = some (.inl 6) ∧ ∃ b4, (zs_R S 6007 b1) = some b4 ∧ zs_K S b4 = some (.inl 16) ∧ zs_C X d 16001 [.ref b4] S (zs_kI (fun v8 S7 => (((v8 ≤ p4 → (zs_b p3 ∧ Q (.returned (some (.int p3))) S7)) ∧ (¬ (v8 ≤ p4) → (zs_K S7 b1 = some (.inl 6) ∧ ∃ b12, (zs_R S7 6007 b1) = some b12 ∧ zs_K S7 b12 = some (.inl 16) ∧ zs_C X d 16009 [.ref b12, .int p4] S7 (zs_kR (fun v16 S15 => ((∀ a, v16 = some a → zs_K S15 a = some (.inl 12)) ∧ ∃ b18, v16 = some b18 ∧ zs_K S15 b18 = some (.inl 12) ∧ zs_K S15 p0 = some (.inl 2) ∧ ∃ b22, (zs_R S15 2000 p0) = some b22 ∧ zs_A S15 b22 3 (p2 + p4) ∧ (((zs_j S15 b22 (p2 + p4).toNatClampNeg) = (-9223372036854775808 : Int64) → w_X3_fit_95 X d p0 p1 p2 p4 p3 S15 Q) ∧ (¬ ((zs_j S15 b22 (p2 + p4).toNatClampNeg) = (-9223372036854775808 : Int64)) → (zs_C X d 2003 [.ref p0, va_rf (zs_R S15 12001 b18), .int (-1 : Int32)] S15 (zs_kJ (fun v27 S26 => ((((zs_j S15 b22 (p2 + p4).toNatClampNeg) < v27 → w_X3_fit_95 X d p0 p1 p2 p4 p3 S26 Q) ∧ (¬ ((zs_j S15 b22 (p2 + p4).toNatClampNeg) < v27) → w_X3_fit_71 X d p0 p1 p2 p4 (zs_R S15 12001 b18) p3 S26 Q)))) Q)))))) Q)))))) Q))
theorem u_X3_fit_5 {σ : Nat → Nat} {n0 : Nat} {bf : ab_B} {d : Nat} {p0 : Nat} {p1 : Option Nat} {p2 : Int32} {p3 : Int32} {p4 : Int32} {S : zs_T} {Q : zs_Q} (hB : zt_B bf) (h : w_X3_fit_5 (zx σ n0 bf) d p0 p1 p2 p3 p4 S Q) : zs_U (zx σ n0 bf) d 2011 5 [(0, .ref p0), (1, va_rf p1), (2, .int p2), (3, .int p3), (4, .int p4)] [] S Q := by
  unfold w_X3_fit_5 at h
  refine zu_iload d_2011_5 rfl ?_
  refine zu_aload_n d_2011_7 rfl (zs_rr _) ?_
  obtain ⟨b1, e2, h⟩ := h
  refine zs_stk0 (zs_rfe e2) ?_
  obtain ⟨k3, h⟩ := h
  refine zg_2_157 rfl d_2011_8 k3 ?_
  obtain ⟨b4, e5, h⟩ := h
  refine zs_stk0 (zs_rfe e5) ?_
  obtain ⟨k6, h⟩ := h
  refine zc_2_124  hB rfl k6 d_2011_11 (Nat.le_of_ble_eq_true rfl) h (fun v8 S7 h => ?_)
  refine zu_cmpge (t := 104) d_2011_14 rfl (fun c9 => ?_) (fun c9 => ?_)
  · have h := h.1 c9
    refine zu_iload_n d_2011_104 rfl ?_
    obtain ⟨k10, h⟩ := h
    exact zu_iret d_2011_105 zr_2011 (zs_b_n k10) h
  · have h := h.2 c9
    refine zu_aload_n d_2011_17 rfl (zs_rr _) ?_
    refine zs_stk0 (zs_rfe e2) ?_
    obtain ⟨k11, h⟩ := h
    refine zg_2_157 rfl d_2011_18 k11 ?_
    refine zu_iload d_2011_21 rfl ?_
    obtain ⟨b12, e13, h⟩ := h
    refine zs_stk1 (zs_rfe e13) ?_
    obtain ⟨k14, h⟩ := h
    refine zc_2_129 (x0 := p4) hB rfl k14 d_2011_23 (Nat.le_of_ble_eq_true rfl) h (fun v16 S15 h => ?_)
    obtain ⟨k17, h⟩ := h
    refine zk_2_133 (o := v16) rfl d_2011_26 k17 ?_
    obtain ⟨b18, e19, h⟩ := h
    refine zs_stk0 (zs_rfe e19) ?_
    obtain ⟨k20, h⟩ := h
    refine zg_2_135 rfl d_2011_29 k20 ?_
    refine zu_astore d_2011_32 (zs_rr _) (zs_lt zq_2011 rfl) ?_
    refine zu_iload_n d_2011_34 rfl ?_
    refine zu_aload_n d_2011_35 rfl (zs_ra _) ?_
    obtain ⟨k21, h⟩ := h
    refine zg_2_9 rfl d_2011_36 k21 ?_
    refine zu_iload_n d_2011_39 rfl ?_
    refine zu_iload d_2011_40 rfl ?_
    refine zu_stk d_2011_42 rfl rfl ?_
    obtain ⟨b22, e23, h⟩ := h
    refine zs_stk1 (zs_rfe e23) ?_
    obtain ⟨k24, h⟩ := h
    refine zu_lald (k := 3) d_2011_43 rfl rfl k24 ?_
    refine zl2_2_41 rfl d_2011_44 ?_
    refine zu_leq (t := 95) d_2011_47 d_2011_48 rfl (fun c25 => ?_) (fun c25 => ?_)
    · have h := h.1 c25
      exact (u_X3_fit_95 hB h).weak ⟨rfl, rfl, rfl, rfl, trivial⟩
    · have h := h.2 c25
      refine zu_aload_n d_2011_51 rfl (zs_ra _) ?_
      refine zg_2_9 rfl d_2011_52 k21 ?_
      refine zu_iload_n d_2011_55 rfl ?_
      refine zu_iload d_2011_56 rfl ?_
      refine zu_stk d_2011_58 rfl rfl ?_
      refine zs_stk1 (zs_rfe e23) ?_
      refine zu_lald (k := 3) d_2011_59 rfl rfl k24 ?_
      refine zu_aload_n d_2011_60 rfl (zs_ra _) ?_
      refine zu_aload d_2011_61 rfl (zs_rr _) ?_
      refine zu_iconst d_2011_63 zi_m1 ?_
      refine zc_2_66 (x0 := (zs_R S15 12001 b18)) (x1 := (-1 : Int32)) hB rfl k21 d_2011_64 (Nat.le_of_ble_eq_true rfl) h (fun v27 S26 h => ?_)
      refine zu_llt (t := 95) d_2011_67 d_2011_68 rfl (fun c28 => ?_) (fun c28 => ?_)
      · have h := h.1 c28
        exact (u_X3_fit_95 hB h).weak ⟨rfl, rfl, rfl, rfl, trivial⟩
      · have h := h.2 c28
        exact (u_X3_fit_71 hB h).weak ⟨rfl, rfl, rfl, rfl, rfl, trivial⟩
def w_X3_fit (X : zs_X) (d : Nat) (p0 : Nat) (p1 : Option Nat) (p2 : Int32) (S : zs_T) (Q : zs_Q) : Prop :=
  (zs_U X d 2011 5 [(0, .ref p0), (1, va_rf p1), (2, .int p2), (3, .int (1 : Int32)), (4, .int (0 : Int32))] [] S Q)
theorem u_X3_fit {σ : Nat → Nat} {n0 : Nat} {bf : ab_B} {d : Nat} {p0 : Nat} {p1 : Option Nat} {p2 : Int32} {S : zs_T} {Q : zs_Q} (hB : zt_B bf) (hd : 1 ≤ d) (h : w_X3_fit (zx σ n0 bf) (d - 1) p0 p1 p2 S Q) : zs_C (zx σ n0 bf) d 2011 [.ref p0, va_rf p1, .int p2] S Q := by
  have hL : lv_args 0 [.ref p0, va_rf p1, .int p2] = [(0, .ref p0), (1, va_rf p1), (2, .int p2)] := by simp [lv_args, zs_cat, zs_cI, zs_cJ, zs_cA]
  refine zs_C.of1 (hB.2 2011 (by decide) (by decide)) hd (by rw [hL]; exact zs_sub_self _ (by exact ⟨rfl, rfl, rfl, trivial⟩)) ?_
  rw [hL]
  clear hL
  unfold w_X3_fit at h
  refine zu_iconst d_2011_0 zi_1 ?_
  refine zu_istore_n d_2011_1 (zs_lt zq_2011 rfl) ?_
  refine zu_iconst d_2011_2 zi_0 ?_
  refine zu_istore d_2011_3 (zs_lt zq_2011 rfl) ?_
  exact h.weak ⟨rfl, rfl, rfl, rfl, rfl, trivial⟩
/-! SchemaPascal$Shapes.size(LSchemaPascal$Type;I)J -/
theorem zm_2012 {σ : Nat → Nat} {n0 : Nat} {bf : ab_B} : ab_code (zx σ n0 bf).1 2012 = prog_11_method_7_code := rfl
theorem zq_2012 {σ : Nat → Nat} {n0 : Nat} {bf : ab_B} : ab_maxL (zx σ n0 bf).1 2012 = 6 := rfl
theorem zr_2012 {σ : Nat → Nat} {n0 : Nat} {bf : ab_B} : ab_ret (zx σ n0 bf).1 2012 = (Option.some Jvm.ClassFile.FieldType.long) := rfl
theorem d_2012_0 {σ : Nat → Nat} {n0 : Nat} {bf : ab_B} : decode (ab_code (zx σ n0 bf).1 2012) 0 = .ok (.aload_n 1, 1) := zd zm_2012 (by decide +kernel)
theorem d_2012_1 {σ : Nat → Nat} {n0 : Nat} {bf : ab_B} : decode (ab_code (zx σ n0 bf).1 2012) 1 = .ok (.getfield 86, 3) := zd zm_2012 (by decide +kernel)
theorem d_2012_4 {σ : Nat → Nat} {n0 : Nat} {bf : ab_B} : decode (ab_code (zx σ n0 bf).1 2012) 4 = .ok (.ldc2_w 88, 3) := zd zm_2012 (by decide +kernel)
theorem d_2012_7 {σ : Nat → Nat} {n0 : Nat} {bf : ab_B} : decode (ab_code (zx σ n0 bf).1 2012) 7 = .ok (.lcmp, 1) := zd zm_2012 (by decide +kernel)
theorem d_2012_8 {σ : Nat → Nat} {n0 : Nat} {bf : ab_B} : decode (ab_code (zx σ n0 bf).1 2012) 8 = .ok (.ifCond .eq 8, 3) := zd zm_2012 (by decide +kernel)
theorem d_2012_11 {σ : Nat → Nat} {n0 : Nat} {bf : ab_B} : decode (ab_code (zx σ n0 bf).1 2012) 11 = .ok (.aload_n 1, 1) := zd zm_2012 (by decide +kernel)
theorem d_2012_12 {σ : Nat → Nat} {n0 : Nat} {bf : ab_B} : decode (ab_code (zx σ n0 bf).1 2012) 12 = .ok (.getfield 86, 3) := zd zm_2012 (by decide +kernel)
theorem d_2012_15 {σ : Nat → Nat} {n0 : Nat} {bf : ab_B} : decode (ab_code (zx σ n0 bf).1 2012) 15 = .ok (.lreturn, 1) := zd zm_2012 (by decide +kernel)
theorem d_2012_16 {σ : Nat → Nat} {n0 : Nat} {bf : ab_B} : decode (ab_code (zx σ n0 bf).1 2012) 16 = .ok (.aload_n 1, 1) := zd zm_2012 (by decide +kernel)
theorem d_2012_17 {σ : Nat → Nat} {n0 : Nat} {bf : ab_B} : decode (ab_code (zx σ n0 bf).1 2012) 17 = .ok (.getfield 81, 3) := zd zm_2012 (by decide +kernel)
theorem d_2012_20 {σ : Nat → Nat} {n0 : Nat} {bf : ab_B} : decode (ab_code (zx σ n0 bf).1 2012) 20 = .ok (.tableswitch 154 6 11 #[40, 52, 90, 154, 100, 110], 40) := zd zm_2012 (by decide +kernel)
theorem d_2012_60 {σ : Nat → Nat} {n0 : Nat} {bf : ab_B} : decode (ab_code (zx σ n0 bf).1 2012) 60 = .ok (.lconst 1, 1) := zd zm_2012 (by decide +kernel)
theorem d_2012_61 {σ : Nat → Nat} {n0 : Nat} {bf : ab_B} : decode (ab_code (zx σ n0 bf).1 2012) 61 = .ok (.aload_n 0, 1) := zd zm_2012 (by decide +kernel)
theorem d_2012_62 {σ : Nat → Nat} {n0 : Nat} {bf : ab_B} : decode (ab_code (zx σ n0 bf).1 2012) 62 = .ok (.aload_n 1, 1) := zd zm_2012 (by decide +kernel)
theorem d_2012_63 {σ : Nat → Nat} {n0 : Nat} {bf : ab_B} : decode (ab_code (zx σ n0 bf).1 2012) 63 = .ok (.getfield 82, 3) := zd zm_2012 (by decide +kernel)
theorem d_2012_66 {σ : Nat → Nat} {n0 : Nat} {bf : ab_B} : decode (ab_code (zx σ n0 bf).1 2012) 66 = .ok (.iload_n 2, 1) := zd zm_2012 (by decide +kernel)
theorem d_2012_67 {σ : Nat → Nat} {n0 : Nat} {bf : ab_B} : decode (ab_code (zx σ n0 bf).1 2012) 67 = .ok (.invokevirtual 38, 3) := zd zm_2012 (by decide +kernel)
theorem d_2012_70 {σ : Nat → Nat} {n0 : Nat} {bf : ab_B} : decode (ab_code (zx σ n0 bf).1 2012) 70 = .ok (.ladd, 1) := zd zm_2012 (by decide +kernel)
theorem d_2012_71 {σ : Nat → Nat} {n0 : Nat} {bf : ab_B} : decode (ab_code (zx σ n0 bf).1 2012) 71 = .ok (.lreturn, 1) := zd zm_2012 (by decide +kernel)
theorem d_2012_72 {σ : Nat → Nat} {n0 : Nat} {bf : ab_B} : decode (ab_code (zx σ n0 bf).1 2012) 72 = .ok (.ldc2_w 90, 3) := zd zm_2012 (by decide +kernel)
theorem d_2012_75 {σ : Nat → Nat} {n0 : Nat} {bf : ab_B} : decode (ab_code (zx σ n0 bf).1 2012) 75 = .ok (.aload_n 0, 1) := zd zm_2012 (by decide +kernel)
theorem d_2012_76 {σ : Nat → Nat} {n0 : Nat} {bf : ab_B} : decode (ab_code (zx σ n0 bf).1 2012) 76 = .ok (.aload_n 1, 1) := zd zm_2012 (by decide +kernel)
theorem d_2012_77 {σ : Nat → Nat} {n0 : Nat} {bf : ab_B} : decode (ab_code (zx σ n0 bf).1 2012) 77 = .ok (.getfield 92, 3) := zd zm_2012 (by decide +kernel)
theorem d_2012_80 {σ : Nat → Nat} {n0 : Nat} {bf : ab_B} : decode (ab_code (zx σ n0 bf).1 2012) 80 = .ok (.iload_n 2, 1) := zd zm_2012 (by decide +kernel)
theorem d_2012_81 {σ : Nat → Nat} {n0 : Nat} {bf : ab_B} : decode (ab_code (zx σ n0 bf).1 2012) 81 = .ok (.invokevirtual 70, 3) := zd zm_2012 (by decide +kernel)
theorem d_2012_84 {σ : Nat → Nat} {n0 : Nat} {bf : ab_B} : decode (ab_code (zx σ n0 bf).1 2012) 84 = .ok (.aload_n 0, 1) := zd zm_2012 (by decide +kernel)
theorem d_2012_85 {σ : Nat → Nat} {n0 : Nat} {bf : ab_B} : decode (ab_code (zx σ n0 bf).1 2012) 85 = .ok (.aload_n 1, 1) := zd zm_2012 (by decide +kernel)
theorem d_2012_86 {σ : Nat → Nat} {n0 : Nat} {bf : ab_B} : decode (ab_code (zx σ n0 bf).1 2012) 86 = .ok (.getfield 92, 3) := zd zm_2012 (by decide +kernel)
theorem d_2012_89 {σ : Nat → Nat} {n0 : Nat} {bf : ab_B} : decode (ab_code (zx σ n0 bf).1 2012) 89 = .ok (.iload_n 2, 1) := zd zm_2012 (by decide +kernel)
theorem d_2012_90 {σ : Nat → Nat} {n0 : Nat} {bf : ab_B} : decode (ab_code (zx σ n0 bf).1 2012) 90 = .ok (.invokevirtual 66, 3) := zd zm_2012 (by decide +kernel)
theorem d_2012_93 {σ : Nat → Nat} {n0 : Nat} {bf : ab_B} : decode (ab_code (zx σ n0 bf).1 2012) 93 = .ok (.lsub, 1) := zd zm_2012 (by decide +kernel)
theorem d_2012_94 {σ : Nat → Nat} {n0 : Nat} {bf : ab_B} : decode (ab_code (zx σ n0 bf).1 2012) 94 = .ok (.lconst 1, 1) := zd zm_2012 (by decide +kernel)
theorem d_2012_95 {σ : Nat → Nat} {n0 : Nat} {bf : ab_B} : decode (ab_code (zx σ n0 bf).1 2012) 95 = .ok (.ladd, 1) := zd zm_2012 (by decide +kernel)
theorem d_2012_96 {σ : Nat → Nat} {n0 : Nat} {bf : ab_B} : decode (ab_code (zx σ n0 bf).1 2012) 96 = .ok (.aload_n 0, 1) := zd zm_2012 (by decide +kernel)
theorem d_2012_97 {σ : Nat → Nat} {n0 : Nat} {bf : ab_B} : decode (ab_code (zx σ n0 bf).1 2012) 97 = .ok (.aload_n 1, 1) := zd zm_2012 (by decide +kernel)
theorem d_2012_98 {σ : Nat → Nat} {n0 : Nat} {bf : ab_B} : decode (ab_code (zx σ n0 bf).1 2012) 98 = .ok (.getfield 95, 3) := zd zm_2012 (by decide +kernel)
theorem d_2012_101 {σ : Nat → Nat} {n0 : Nat} {bf : ab_B} : decode (ab_code (zx σ n0 bf).1 2012) 101 = .ok (.iload_n 2, 1) := zd zm_2012 (by decide +kernel)
theorem d_2012_102 {σ : Nat → Nat} {n0 : Nat} {bf : ab_B} : decode (ab_code (zx σ n0 bf).1 2012) 102 = .ok (.invokevirtual 98, 3) := zd zm_2012 (by decide +kernel)
theorem d_2012_105 {σ : Nat → Nat} {n0 : Nat} {bf : ab_B} : decode (ab_code (zx σ n0 bf).1 2012) 105 = .ok (.lmul, 1) := zd zm_2012 (by decide +kernel)
theorem d_2012_106 {σ : Nat → Nat} {n0 : Nat} {bf : ab_B} : decode (ab_code (zx σ n0 bf).1 2012) 106 = .ok (.invokestatic 101, 3) := zd zm_2012 (by decide +kernel)
theorem d_2012_109 {σ : Nat → Nat} {n0 : Nat} {bf : ab_B} : decode (ab_code (zx σ n0 bf).1 2012) 109 = .ok (.lreturn, 1) := zd zm_2012 (by decide +kernel)
theorem d_2012_110 {σ : Nat → Nat} {n0 : Nat} {bf : ab_B} : decode (ab_code (zx σ n0 bf).1 2012) 110 = .ok (.aload_n 0, 1) := zd zm_2012 (by decide +kernel)
theorem d_2012_111 {σ : Nat → Nat} {n0 : Nat} {bf : ab_B} : decode (ab_code (zx σ n0 bf).1 2012) 111 = .ok (.aload_n 1, 1) := zd zm_2012 (by decide +kernel)
theorem d_2012_112 {σ : Nat → Nat} {n0 : Nat} {bf : ab_B} : decode (ab_code (zx σ n0 bf).1 2012) 112 = .ok (.getfield 107, 3) := zd zm_2012 (by decide +kernel)
theorem d_2012_115 {σ : Nat → Nat} {n0 : Nat} {bf : ab_B} : decode (ab_code (zx σ n0 bf).1 2012) 115 = .ok (.iload_n 2, 1) := zd zm_2012 (by decide +kernel)
theorem d_2012_116 {σ : Nat → Nat} {n0 : Nat} {bf : ab_B} : decode (ab_code (zx σ n0 bf).1 2012) 116 = .ok (.invokevirtual 111, 3) := zd zm_2012 (by decide +kernel)
theorem d_2012_119 {σ : Nat → Nat} {n0 : Nat} {bf : ab_B} : decode (ab_code (zx σ n0 bf).1 2012) 119 = .ok (.lreturn, 1) := zd zm_2012 (by decide +kernel)
theorem d_2012_120 {σ : Nat → Nat} {n0 : Nat} {bf : ab_B} : decode (ab_code (zx σ n0 bf).1 2012) 120 = .ok (.aload_n 0, 1) := zd zm_2012 (by decide +kernel)
theorem d_2012_121 {σ : Nat → Nat} {n0 : Nat} {bf : ab_B} : decode (ab_code (zx σ n0 bf).1 2012) 121 = .ok (.aload_n 1, 1) := zd zm_2012 (by decide +kernel)
theorem d_2012_122 {σ : Nat → Nat} {n0 : Nat} {bf : ab_B} : decode (ab_code (zx σ n0 bf).1 2012) 122 = .ok (.getfield 95, 3) := zd zm_2012 (by decide +kernel)
theorem d_2012_125 {σ : Nat → Nat} {n0 : Nat} {bf : ab_B} : decode (ab_code (zx σ n0 bf).1 2012) 125 = .ok (.iload_n 2, 1) := zd zm_2012 (by decide +kernel)
theorem d_2012_126 {σ : Nat → Nat} {n0 : Nat} {bf : ab_B} : decode (ab_code (zx σ n0 bf).1 2012) 126 = .ok (.invokevirtual 98, 3) := zd zm_2012 (by decide +kernel)
theorem d_2012_129 {σ : Nat → Nat} {n0 : Nat} {bf : ab_B} : decode (ab_code (zx σ n0 bf).1 2012) 129 = .ok (.lreturn, 1) := zd zm_2012 (by decide +kernel)
theorem d_2012_130 {σ : Nat → Nat} {n0 : Nat} {bf : ab_B} : decode (ab_code (zx σ n0 bf).1 2012) 130 = .ok (.aload_n 0, 1) := zd zm_2012 (by decide +kernel)
theorem d_2012_131 {σ : Nat → Nat} {n0 : Nat} {bf : ab_B} : decode (ab_code (zx σ n0 bf).1 2012) 131 = .ok (.getfield 15, 3) := zd zm_2012 (by decide +kernel)
theorem d_2012_134 {σ : Nat → Nat} {n0 : Nat} {bf : ab_B} : decode (ab_code (zx σ n0 bf).1 2012) 134 = .ok (.istore_n 3, 1) := zd zm_2012 (by decide +kernel)
theorem d_2012_135 {σ : Nat → Nat} {n0 : Nat} {bf : ab_B} : decode (ab_code (zx σ n0 bf).1 2012) 135 = .ok (.aload_n 0, 1) := zd zm_2012 (by decide +kernel)
theorem d_2012_136 {σ : Nat → Nat} {n0 : Nat} {bf : ab_B} : decode (ab_code (zx σ n0 bf).1 2012) 136 = .ok (.dup, 1) := zd zm_2012 (by decide +kernel)
theorem d_2012_137 {σ : Nat → Nat} {n0 : Nat} {bf : ab_B} : decode (ab_code (zx σ n0 bf).1 2012) 137 = .ok (.getfield 15, 3) := zd zm_2012 (by decide +kernel)
theorem d_2012_140 {σ : Nat → Nat} {n0 : Nat} {bf : ab_B} : decode (ab_code (zx σ n0 bf).1 2012) 140 = .ok (.iconst 4, 1) := zd zm_2012 (by decide +kernel)
theorem d_2012_141 {σ : Nat → Nat} {n0 : Nat} {bf : ab_B} : decode (ab_code (zx σ n0 bf).1 2012) 141 = .ok (.iadd, 1) := zd zm_2012 (by decide +kernel)
theorem d_2012_142 {σ : Nat → Nat} {n0 : Nat} {bf : ab_B} : decode (ab_code (zx σ n0 bf).1 2012) 142 = .ok (.putfield 15, 3) := zd zm_2012 (by decide +kernel)
theorem d_2012_145 {σ : Nat → Nat} {n0 : Nat} {bf : ab_B} : decode (ab_code (zx σ n0 bf).1 2012) 145 = .ok (.aload_n 0, 1) := zd zm_2012 (by decide +kernel)
theorem d_2012_146 {σ : Nat → Nat} {n0 : Nat} {bf : ab_B} : decode (ab_code (zx σ n0 bf).1 2012) 146 = .ok (.aload_n 1, 1) := zd zm_2012 (by decide +kernel)
theorem d_2012_147 {σ : Nat → Nat} {n0 : Nat} {bf : ab_B} : decode (ab_code (zx σ n0 bf).1 2012) 147 = .ok (.iload_n 2, 1) := zd zm_2012 (by decide +kernel)
theorem d_2012_148 {σ : Nat → Nat} {n0 : Nat} {bf : ab_B} : decode (ab_code (zx σ n0 bf).1 2012) 148 = .ok (.iload_n 3, 1) := zd zm_2012 (by decide +kernel)
theorem d_2012_149 {σ : Nat → Nat} {n0 : Nat} {bf : ab_B} : decode (ab_code (zx σ n0 bf).1 2012) 149 = .ok (.invokevirtual 114, 3) := zd zm_2012 (by decide +kernel)
theorem d_2012_152 {σ : Nat → Nat} {n0 : Nat} {bf : ab_B} : decode (ab_code (zx σ n0 bf).1 2012) 152 = .ok (.aload_n 0, 1) := zd zm_2012 (by decide +kernel)
theorem d_2012_153 {σ : Nat → Nat} {n0 : Nat} {bf : ab_B} : decode (ab_code (zx σ n0 bf).1 2012) 153 = .ok (.aload_n 1, 1) := zd zm_2012 (by decide +kernel)
theorem d_2012_154 {σ : Nat → Nat} {n0 : Nat} {bf : ab_B} : decode (ab_code (zx σ n0 bf).1 2012) 154 = .ok (.getfield 95, 3) := zd zm_2012 (by decide +kernel)
theorem d_2012_157 {σ : Nat → Nat} {n0 : Nat} {bf : ab_B} : decode (ab_code (zx σ n0 bf).1 2012) 157 = .ok (.getfield 95, 3) := zd zm_2012 (by decide +kernel)
theorem d_2012_160 {σ : Nat → Nat} {n0 : Nat} {bf : ab_B} : decode (ab_code (zx σ n0 bf).1 2012) 160 = .ok (.iload_n 3, 1) := zd zm_2012 (by decide +kernel)
theorem d_2012_161 {σ : Nat → Nat} {n0 : Nat} {bf : ab_B} : decode (ab_code (zx σ n0 bf).1 2012) 161 = .ok (.invokevirtual 98, 3) := zd zm_2012 (by decide +kernel)
theorem d_2012_164 {σ : Nat → Nat} {n0 : Nat} {bf : ab_B} : decode (ab_code (zx σ n0 bf).1 2012) 164 = .ok (.lstore 4, 2) := zd zm_2012 (by decide +kernel)
theorem d_2012_166 {σ : Nat → Nat} {n0 : Nat} {bf : ab_B} : decode (ab_code (zx σ n0 bf).1 2012) 166 = .ok (.aload_n 0, 1) := zd zm_2012 (by decide +kernel)
theorem d_2012_167 {σ : Nat → Nat} {n0 : Nat} {bf : ab_B} : decode (ab_code (zx σ n0 bf).1 2012) 167 = .ok (.iload_n 3, 1) := zd zm_2012 (by decide +kernel)
theorem d_2012_168 {σ : Nat → Nat} {n0 : Nat} {bf : ab_B} : decode (ab_code (zx σ n0 bf).1 2012) 168 = .ok (.putfield 15, 3) := zd zm_2012 (by decide +kernel)
theorem d_2012_171 {σ : Nat → Nat} {n0 : Nat} {bf : ab_B} : decode (ab_code (zx σ n0 bf).1 2012) 171 = .ok (.lload 4, 2) := zd zm_2012 (by decide +kernel)
theorem d_2012_173 {σ : Nat → Nat} {n0 : Nat} {bf : ab_B} : decode (ab_code (zx σ n0 bf).1 2012) 173 = .ok (.lreturn, 1) := zd zm_2012 (by decide +kernel)
theorem d_2012_174 {σ : Nat → Nat} {n0 : Nat} {bf : ab_B} : decode (ab_code (zx σ n0 bf).1 2012) 174 = .ok (.lconst 1, 1) := zd zm_2012 (by decide +kernel)
theorem d_2012_175 {σ : Nat → Nat} {n0 : Nat} {bf : ab_B} : decode (ab_code (zx σ n0 bf).1 2012) 175 = .ok (.lreturn, 1) := zd zm_2012 (by decide +kernel)
def w_X3_size_145 (X : zs_X) (d : Nat) (p0 : Nat) (p1 : Option Nat) (p2 : Int32) (p3 : Int32) (S : zs_T) (Q : zs_Q) : Prop :=
  (zs_K S p0 = some (.inl 2) ∧ zs_C X d 2010 [.ref p0, va_rf p1, .int p2, .int p3] S (zs_kV (fun S2 => (∃ b4, p1 = some b4 ∧ zs_K S2 b4 = some (.inl 6) ∧ ∃ b7, (zs_R S2 6002 b4) = some b7 ∧ zs_K S2 b7 = some (.inl 6) ∧ zs_K S2 p0 = some (.inl 2) ∧ zs_C X d 2012 [.ref p0, va_rf (zs_R S2 6002 b7), .int p3] S2 (zs_kJ (fun v12 S11 => (zs_K S11 p0 = some (.inl 2) ∧ ab_n0 X.1 ≤ p0 ∧ ∀ S15, S15 = zs_sI S11 2001 p0 p3 → Q (.returned (some (.long v12))) S15)) Q))) Q))
theorem u_X3_size_145 {σ : Nat → Nat} {n0 : Nat} {bf : ab_B} {d : Nat} {p0 : Nat} {p1 : Option Nat} {p2 : Int32} {p3 : Int32} {S : zs_T} {Q : zs_Q} (hB : zt_B bf) (h : w_X3_size_145 (zx σ n0 bf) d p0 p1 p2 p3 S Q) : zs_U (zx σ n0 bf) d 2012 145 [(0, .ref p0), (1, va_rf p1), (2, .int p2), (3, .int p3)] [] S Q := by
  unfold w_X3_size_145 at h
  refine zu_aload_n d_2012_145 rfl (zs_ra _) ?_
  refine zu_aload_n d_2012_146 rfl (zs_rr _) ?_
  refine zu_iload_n d_2012_147 rfl ?_
  refine zu_iload_n d_2012_148 rfl ?_
  obtain ⟨k1, h⟩ := h
  refine zc_2_114 (x0 := p1) (x1 := p2) (x2 := p3) hB rfl k1 d_2012_149 (Nat.le_of_ble_eq_true rfl) h (fun S2 h => ?_)
  refine zu_aload_n d_2012_152 rfl (zs_ra _) ?_
  refine zu_aload_n d_2012_153 rfl (zs_rr _) ?_
  obtain ⟨b4, e5, h⟩ := h
  refine zs_stk0 (zs_rfe e5) ?_
  obtain ⟨k6, h⟩ := h
  refine zg_2_95 rfl d_2012_154 k6 ?_
  obtain ⟨b7, e8, h⟩ := h
  refine zs_stk0 (zs_rfe e8) ?_
  obtain ⟨k9, h⟩ := h
  refine zg_2_95 rfl d_2012_157 k9 ?_
  refine zu_iload_n d_2012_160 rfl ?_
  obtain ⟨k10, h⟩ := h
  refine zc_2_98 (x0 := (zs_R S2 6002 b7)) (x1 := p3) hB rfl k10 d_2012_161 (Nat.le_of_ble_eq_true rfl) h (fun v12 S11 h => ?_)
  refine zu_lstore d_2012_164 (zs_lt zq_2012 rfl) ?_
  refine zu_aload_n d_2012_166 rfl (zs_ra _) ?_
  refine zu_iload_n d_2012_167 rfl ?_
  obtain ⟨k13, h⟩ := h
  obtain ⟨k14, h⟩ := h
  refine zp_2_15 (v := p3) rfl d_2012_168 k13 k14 ?_
  generalize e16 : zs_sI S11 2001 p0 p3 = S15
  have h := h S15 e16.symm
  have K17 : ∀ b, zs_K S15 b = zs_K S11 b := zs_Kt e16 (zs_KsI _ _ _ _) (fun _ => rfl)
  refine zu_lload d_2012_171 rfl ?_
  exact zu_lret d_2012_173 zr_2012 h
def w_X3_size (X : zs_X) (d : Nat) (p0 : Nat) (p1 : Option Nat) (p2 : Int32) (S : zs_T) (Q : zs_Q) : Prop :=
  (∃ b1, p1 = some b1 ∧ zs_K S b1 = some (.inl 6) ∧ (((zs_J S 6012 b1) = (-1 : Int64) → ((((zs_I S 6000 b1).toInt < 6 ∨ 11 < (zs_I S 6000 b1).toInt → (Q (.returned (some (.long (1 : Int64)))) S)) ∧ ((zs_I S 6000 b1).toInt = 6 → (zs_K S p0 = some (.inl 2) ∧ zs_C X d 2001 [.ref p0, va_rf (zs_R S 6004 b1), .int p2] S (zs_kJ (fun v8 S7 => (Q (.returned (some (.long ((1 : Int64) + v8)))) S7)) Q))) ∧ ((zs_I S 6000 b1).toInt = 7 → (zs_K S p0 = some (.inl 2) ∧ zs_C X d 2004 [.ref p0, va_rf (zs_R S 6003 b1), .int p2] S (zs_kJ (fun v11 S10 => (zs_K S10 b1 = some (.inl 6) ∧ zs_K S10 p0 = some (.inl 2) ∧ zs_C X d 2003 [.ref p0, va_rf (zs_R S10 6003 b1), .int p2] S10 (zs_kJ (fun v15 S14 => (zs_K S14 b1 = some (.inl 6) ∧ zs_K S14 p0 = some (.inl 2) ∧ zs_C X d 2012 [.ref p0, va_rf (zs_R S14 6002 b1), .int p2] S14 (zs_kJ (fun v19 S18 => (zs_C X d 30002 [.long (1099511627776 : Int64), .long (((v11 - v15) + (1 : Int64)) * v19)] S18 (zs_kJ (fun v21 S20 => (Q (.returned (some (.long v21))) S20)) Q))) Q))) Q))) Q))) ∧ ((zs_I S 6000 b1).toInt = 8 → (zs_K S p0 = some (.inl 2) ∧ zs_C X d 2013 [.ref p0, va_rf (zs_R S 6006 b1), .int p2] S (zs_kJ (fun v24 S23 => (Q (.returned (some (.long v24))) S23)) Q))) ∧ ((zs_I S 6000 b1).toInt = 9 → (Q (.returned (some (.long (1 : Int64)))) S)) ∧ ((zs_I S 6000 b1).toInt = 10 → (zs_K S p0 = some (.inl 2) ∧ zs_C X d 2012 [.ref p0, va_rf (zs_R S 6002 b1), .int p2] S (zs_kJ (fun v27 S26 => (Q (.returned (some (.long v27))) S26)) Q))) ∧ ((zs_I S 6000 b1).toInt = 11 → (zs_K S p0 = some (.inl 2) ∧ ab_n0 X.1 ≤ p0 ∧ ∀ S30, S30 = zs_sI S 2001 p0 ((zs_I S 2001 p0) + (4 : Int32)) → w_X3_size_145 X d p0 p1 p2 (zs_I S 2001 p0) S30 Q))))) ∧ (¬ ((zs_J S 6012 b1) = (-1 : Int64)) → (Q (.returned (some (.long (zs_J S 6012 b1)))) S))))
theorem u_X3_size {σ : Nat → Nat} {n0 : Nat} {bf : ab_B} {d : Nat} {p0 : Nat} {p1 : Option Nat} {p2 : Int32} {S : zs_T} {Q : zs_Q} (hB : zt_B bf) (hd : 1 ≤ d) (h : w_X3_size (zx σ n0 bf) (d - 1) p0 p1 p2 S Q) : zs_C (zx σ n0 bf) d 2012 [.ref p0, va_rf p1, .int p2] S Q := by
  have hL : lv_args 0 [.ref p0, va_rf p1, .int p2] = [(0, .ref p0), (1, va_rf p1), (2, .int p2)] := by simp [lv_args, zs_cat, zs_cI, zs_cJ, zs_cA]
  refine zs_C.of1 (hB.2 2012 (by decide) (by decide)) hd (by rw [hL]; exact zs_sub_self _ (by exact ⟨rfl, rfl, rfl, trivial⟩)) ?_
  rw [hL]
  clear hL
  unfold w_X3_size at h
  refine zu_aload_n d_2012_0 rfl (zs_rr _) ?_
  obtain ⟨b1, e2, h⟩ := h
  refine zs_stk0 (zs_rfe e2) ?_
  obtain ⟨k3, h⟩ := h
  refine zg_2_86 rfl d_2012_1 k3 ?_
  refine zl2_2_88 rfl d_2012_4 ?_
  refine zu_leq (t := 16) d_2012_7 d_2012_8 rfl (fun c4 => ?_) (fun c4 => ?_)
  · have h := h.1 c4
    refine zu_aload_n d_2012_16 rfl (zs_rr _) ?_
    refine zs_stk0 (zs_rfe e2) ?_
    refine zg_2_81 rfl d_2012_17 k3 ?_
    refine zu_tsw (td := 174) d_2012_20 (by decide) rfl (fun c5 => ?_) ⟨fun c5 => ⟨by decide, ?_⟩, fun c5 => ⟨by decide, ?_⟩, fun c5 => ⟨by decide, ?_⟩, fun c5 => ⟨by decide, ?_⟩, fun c5 => ⟨by decide, ?_⟩, fun c5 => ⟨by decide, ?_⟩, trivial⟩
    · have h := h.1 c5
      refine zu_lconst (v := 1) d_2012_174 rfl ?_
      exact zu_lret d_2012_175 zr_2012 h
    · have h := h.2.1 c5
      show zs_U _ _ _ 60 _ _ _ _
      refine zu_lconst (v := 1) d_2012_60 rfl ?_
      refine zu_aload_n d_2012_61 rfl (zs_ra _) ?_
      refine zu_aload_n d_2012_62 rfl (zs_rr _) ?_
      refine zs_stk0 (zs_rfe e2) ?_
      refine zg_2_82 rfl d_2012_63 k3 ?_
      refine zu_iload_n d_2012_66 rfl ?_
      obtain ⟨k6, h⟩ := h
      refine zc_2_38 (x0 := (zs_R S 6004 b1)) (x1 := p2) hB rfl k6 d_2012_67 (Nat.le_of_ble_eq_true rfl) h (fun v8 S7 h => ?_)
      refine zu_stk d_2012_70 rfl rfl ?_
      exact zu_lret d_2012_71 zr_2012 h
    · have h := h.2.2.1 c5
      show zs_U _ _ _ 72 _ _ _ _
      refine zl2_2_90 rfl d_2012_72 ?_
      refine zu_aload_n d_2012_75 rfl (zs_ra _) ?_
      refine zu_aload_n d_2012_76 rfl (zs_rr _) ?_
      refine zs_stk0 (zs_rfe e2) ?_
      refine zg_2_92 rfl d_2012_77 k3 ?_
      refine zu_iload_n d_2012_80 rfl ?_
      obtain ⟨k9, h⟩ := h
      refine zc_2_70 (x0 := (zs_R S 6003 b1)) (x1 := p2) hB rfl k9 d_2012_81 (Nat.le_of_ble_eq_true rfl) h (fun v11 S10 h => ?_)
      refine zu_aload_n d_2012_84 rfl (zs_ra _) ?_
      refine zu_aload_n d_2012_85 rfl (zs_rr _) ?_
      refine zs_stk0 (zs_rfe e2) ?_
      obtain ⟨k12, h⟩ := h
      refine zg_2_92 rfl d_2012_86 k12 ?_
      refine zu_iload_n d_2012_89 rfl ?_
      obtain ⟨k13, h⟩ := h
      refine zc_2_66 (x0 := (zs_R S10 6003 b1)) (x1 := p2) hB rfl k13 d_2012_90 (Nat.le_of_ble_eq_true rfl) h (fun v15 S14 h => ?_)
      refine zu_stk d_2012_93 rfl rfl ?_
      refine zu_lconst (v := 1) d_2012_94 rfl ?_
      refine zu_stk d_2012_95 rfl rfl ?_
      refine zu_aload_n d_2012_96 rfl (zs_ra _) ?_
      refine zu_aload_n d_2012_97 rfl (zs_rr _) ?_
      refine zs_stk0 (zs_rfe e2) ?_
      obtain ⟨k16, h⟩ := h
      refine zg_2_95 rfl d_2012_98 k16 ?_
      refine zu_iload_n d_2012_101 rfl ?_
      obtain ⟨k17, h⟩ := h
      refine zc_2_98 (x0 := (zs_R S14 6002 b1)) (x1 := p2) hB rfl k17 d_2012_102 (Nat.le_of_ble_eq_true rfl) h (fun v19 S18 h => ?_)
      refine zu_stk d_2012_105 rfl rfl ?_
      refine zc_2_101 (x0 := (1099511627776 : Int64)) (x1 := (((v11 - v15) + (1 : Int64)) * v19)) hB rfl d_2012_106 (Nat.le_of_ble_eq_true rfl) h (fun v21 S20 h => ?_)
      exact zu_lret d_2012_109 zr_2012 h
    · have h := h.2.2.2.1 c5
      show zs_U _ _ _ 110 _ _ _ _
      refine zu_aload_n d_2012_110 rfl (zs_ra _) ?_
      refine zu_aload_n d_2012_111 rfl (zs_rr _) ?_
      refine zs_stk0 (zs_rfe e2) ?_
      refine zg_2_107 rfl d_2012_112 k3 ?_
      refine zu_iload_n d_2012_115 rfl ?_
      obtain ⟨k22, h⟩ := h
      refine zc_2_111 (x0 := (zs_R S 6006 b1)) (x1 := p2) hB rfl k22 d_2012_116 (Nat.le_of_ble_eq_true rfl) h (fun v24 S23 h => ?_)
      exact zu_lret d_2012_119 zr_2012 h
    · have h := h.2.2.2.2.1 c5
      show zs_U _ _ _ 174 _ _ _ _
      refine zu_lconst (v := 1) d_2012_174 rfl ?_
      exact zu_lret d_2012_175 zr_2012 h
    · have h := h.2.2.2.2.2.1 c5
      show zs_U _ _ _ 120 _ _ _ _
      refine zu_aload_n d_2012_120 rfl (zs_ra _) ?_
      refine zu_aload_n d_2012_121 rfl (zs_rr _) ?_
      refine zs_stk0 (zs_rfe e2) ?_
      refine zg_2_95 rfl d_2012_122 k3 ?_
      refine zu_iload_n d_2012_125 rfl ?_
      obtain ⟨k25, h⟩ := h
      refine zc_2_98 (x0 := (zs_R S 6002 b1)) (x1 := p2) hB rfl k25 d_2012_126 (Nat.le_of_ble_eq_true rfl) h (fun v27 S26 h => ?_)
      exact zu_lret d_2012_129 zr_2012 h
    · have h := h.2.2.2.2.2.2 c5
      show zs_U _ _ _ 130 _ _ _ _
      refine zu_aload_n d_2012_130 rfl (zs_ra _) ?_
      obtain ⟨k28, h⟩ := h
      refine zg_2_15 rfl d_2012_131 k28 ?_
      refine zu_istore_n d_2012_134 (zs_lt zq_2012 rfl) ?_
      refine zu_aload_n d_2012_135 rfl (zs_ra _) ?_
      refine zu_dup d_2012_136 rfl ?_
      refine zg_2_15 rfl d_2012_137 k28 ?_
      refine zu_iconst d_2012_140 zi_4 ?_
      refine zu_stk d_2012_141 rfl rfl ?_
      obtain ⟨k29, h⟩ := h
      refine zp_2_15 (v := ((zs_I S 2001 p0) + (4 : Int32))) rfl d_2012_142 k28 k29 ?_
      generalize e31 : zs_sI S 2001 p0 ((zs_I S 2001 p0) + (4 : Int32)) = S30
      have h := h S30 e31.symm
      have K32 : ∀ b, zs_K S30 b = zs_K S b := zs_Kt e31 (zs_KsI _ _ _ _) (fun _ => rfl)
      exact (u_X3_size_145 hB h).weak ⟨rfl, rfl, rfl, rfl, trivial⟩
  · have h := h.2 c4
    refine zu_aload_n d_2012_11 rfl (zs_rr _) ?_
    refine zs_stk0 (zs_rfe e2) ?_
    refine zg_2_86 rfl d_2012_12 k3 ?_
    exact zu_lret d_2012_15 zr_2012 h
/-! SchemaPascal$Shapes.size(LSchemaPascal$Fields;I)J -/
theorem zm_2013 {σ : Nat → Nat} {n0 : Nat} {bf : ab_B} : ab_code (zx σ n0 bf).1 2013 = prog_11_method_8_code := rfl
theorem zq_2013 {σ : Nat → Nat} {n0 : Nat} {bf : ab_B} : ab_maxL (zx σ n0 bf).1 2013 = 8 := rfl
theorem zr_2013 {σ : Nat → Nat} {n0 : Nat} {bf : ab_B} : ab_ret (zx σ n0 bf).1 2013 = (Option.some Jvm.ClassFile.FieldType.long) := rfl
theorem d_2013_0 {σ : Nat → Nat} {n0 : Nat} {bf : ab_B} : decode (ab_code (zx σ n0 bf).1 2013) 0 = .ok (.lconst 0, 1) := zd zm_2013 (by decide +kernel)
theorem d_2013_1 {σ : Nat → Nat} {n0 : Nat} {bf : ab_B} : decode (ab_code (zx σ n0 bf).1 2013) 1 = .ok (.lstore_n 3, 1) := zd zm_2013 (by decide +kernel)
theorem d_2013_2 {σ : Nat → Nat} {n0 : Nat} {bf : ab_B} : decode (ab_code (zx σ n0 bf).1 2013) 2 = .ok (.iconst 0, 1) := zd zm_2013 (by decide +kernel)
theorem d_2013_3 {σ : Nat → Nat} {n0 : Nat} {bf : ab_B} : decode (ab_code (zx σ n0 bf).1 2013) 3 = .ok (.istore 5, 2) := zd zm_2013 (by decide +kernel)
theorem d_2013_5 {σ : Nat → Nat} {n0 : Nat} {bf : ab_B} : decode (ab_code (zx σ n0 bf).1 2013) 5 = .ok (.iload 5, 2) := zd zm_2013 (by decide +kernel)
theorem d_2013_7 {σ : Nat → Nat} {n0 : Nat} {bf : ab_B} : decode (ab_code (zx σ n0 bf).1 2013) 7 = .ok (.aload_n 1, 1) := zd zm_2013 (by decide +kernel)
theorem d_2013_8 {σ : Nat → Nat} {n0 : Nat} {bf : ab_B} : decode (ab_code (zx σ n0 bf).1 2013) 8 = .ok (.getfield 118, 3) := zd zm_2013 (by decide +kernel)
theorem d_2013_11 {σ : Nat → Nat} {n0 : Nat} {bf : ab_B} : decode (ab_code (zx σ n0 bf).1 2013) 11 = .ok (.invokevirtual 124, 3) := zd zm_2013 (by decide +kernel)
theorem d_2013_14 {σ : Nat → Nat} {n0 : Nat} {bf : ab_B} : decode (ab_code (zx σ n0 bf).1 2013) 14 = .ok (.if_icmp .ge 32, 3) := zd zm_2013 (by decide +kernel)
theorem d_2013_17 {σ : Nat → Nat} {n0 : Nat} {bf : ab_B} : decode (ab_code (zx σ n0 bf).1 2013) 17 = .ok (.lload_n 3, 1) := zd zm_2013 (by decide +kernel)
theorem d_2013_18 {σ : Nat → Nat} {n0 : Nat} {bf : ab_B} : decode (ab_code (zx σ n0 bf).1 2013) 18 = .ok (.aload_n 0, 1) := zd zm_2013 (by decide +kernel)
theorem d_2013_19 {σ : Nat → Nat} {n0 : Nat} {bf : ab_B} : decode (ab_code (zx σ n0 bf).1 2013) 19 = .ok (.aload_n 1, 1) := zd zm_2013 (by decide +kernel)
theorem d_2013_20 {σ : Nat → Nat} {n0 : Nat} {bf : ab_B} : decode (ab_code (zx σ n0 bf).1 2013) 20 = .ok (.getfield 118, 3) := zd zm_2013 (by decide +kernel)
theorem d_2013_23 {σ : Nat → Nat} {n0 : Nat} {bf : ab_B} : decode (ab_code (zx σ n0 bf).1 2013) 23 = .ok (.iload 5, 2) := zd zm_2013 (by decide +kernel)
theorem d_2013_25 {σ : Nat → Nat} {n0 : Nat} {bf : ab_B} : decode (ab_code (zx σ n0 bf).1 2013) 25 = .ok (.invokevirtual 129, 3) := zd zm_2013 (by decide +kernel)
theorem d_2013_28 {σ : Nat → Nat} {n0 : Nat} {bf : ab_B} : decode (ab_code (zx σ n0 bf).1 2013) 28 = .ok (.checkcast 133, 3) := zd zm_2013 (by decide +kernel)
theorem d_2013_31 {σ : Nat → Nat} {n0 : Nat} {bf : ab_B} : decode (ab_code (zx σ n0 bf).1 2013) 31 = .ok (.getfield 135, 3) := zd zm_2013 (by decide +kernel)
theorem d_2013_34 {σ : Nat → Nat} {n0 : Nat} {bf : ab_B} : decode (ab_code (zx σ n0 bf).1 2013) 34 = .ok (.iload_n 2, 1) := zd zm_2013 (by decide +kernel)
theorem d_2013_35 {σ : Nat → Nat} {n0 : Nat} {bf : ab_B} : decode (ab_code (zx σ n0 bf).1 2013) 35 = .ok (.invokevirtual 98, 3) := zd zm_2013 (by decide +kernel)
theorem d_2013_38 {σ : Nat → Nat} {n0 : Nat} {bf : ab_B} : decode (ab_code (zx σ n0 bf).1 2013) 38 = .ok (.ladd, 1) := zd zm_2013 (by decide +kernel)
theorem d_2013_39 {σ : Nat → Nat} {n0 : Nat} {bf : ab_B} : decode (ab_code (zx σ n0 bf).1 2013) 39 = .ok (.lstore_n 3, 1) := zd zm_2013 (by decide +kernel)
theorem d_2013_40 {σ : Nat → Nat} {n0 : Nat} {bf : ab_B} : decode (ab_code (zx σ n0 bf).1 2013) 40 = .ok (.iinc 5 1, 3) := zd zm_2013 (by decide +kernel)
theorem d_2013_43 {σ : Nat → Nat} {n0 : Nat} {bf : ab_B} : decode (ab_code (zx σ n0 bf).1 2013) 43 = .ok (.goto (-38), 3) := zd zm_2013 (by decide +kernel)
theorem d_2013_46 {σ : Nat → Nat} {n0 : Nat} {bf : ab_B} : decode (ab_code (zx σ n0 bf).1 2013) 46 = .ok (.lconst 0, 1) := zd zm_2013 (by decide +kernel)
theorem d_2013_47 {σ : Nat → Nat} {n0 : Nat} {bf : ab_B} : decode (ab_code (zx σ n0 bf).1 2013) 47 = .ok (.lstore 5, 2) := zd zm_2013 (by decide +kernel)
theorem d_2013_49 {σ : Nat → Nat} {n0 : Nat} {bf : ab_B} : decode (ab_code (zx σ n0 bf).1 2013) 49 = .ok (.iconst 0, 1) := zd zm_2013 (by decide +kernel)
theorem d_2013_50 {σ : Nat → Nat} {n0 : Nat} {bf : ab_B} : decode (ab_code (zx σ n0 bf).1 2013) 50 = .ok (.istore 7, 2) := zd zm_2013 (by decide +kernel)
theorem d_2013_52 {σ : Nat → Nat} {n0 : Nat} {bf : ab_B} : decode (ab_code (zx σ n0 bf).1 2013) 52 = .ok (.aload_n 1, 1) := zd zm_2013 (by decide +kernel)
theorem d_2013_53 {σ : Nat → Nat} {n0 : Nat} {bf : ab_B} : decode (ab_code (zx σ n0 bf).1 2013) 53 = .ok (.getfield 136, 3) := zd zm_2013 (by decide +kernel)
theorem d_2013_56 {σ : Nat → Nat} {n0 : Nat} {bf : ab_B} : decode (ab_code (zx σ n0 bf).1 2013) 56 = .ok (.ifnull 54, 3) := zd zm_2013 (by decide +kernel)
theorem d_2013_59 {σ : Nat → Nat} {n0 : Nat} {bf : ab_B} : decode (ab_code (zx σ n0 bf).1 2013) 59 = .ok (.iload 7, 2) := zd zm_2013 (by decide +kernel)
theorem d_2013_61 {σ : Nat → Nat} {n0 : Nat} {bf : ab_B} : decode (ab_code (zx σ n0 bf).1 2013) 61 = .ok (.aload_n 1, 1) := zd zm_2013 (by decide +kernel)
theorem d_2013_62 {σ : Nat → Nat} {n0 : Nat} {bf : ab_B} : decode (ab_code (zx σ n0 bf).1 2013) 62 = .ok (.getfield 136, 3) := zd zm_2013 (by decide +kernel)
theorem d_2013_65 {σ : Nat → Nat} {n0 : Nat} {bf : ab_B} : decode (ab_code (zx σ n0 bf).1 2013) 65 = .ok (.getfield 140, 3) := zd zm_2013 (by decide +kernel)
theorem d_2013_68 {σ : Nat → Nat} {n0 : Nat} {bf : ab_B} : decode (ab_code (zx σ n0 bf).1 2013) 68 = .ok (.invokevirtual 124, 3) := zd zm_2013 (by decide +kernel)
theorem d_2013_71 {σ : Nat → Nat} {n0 : Nat} {bf : ab_B} : decode (ab_code (zx σ n0 bf).1 2013) 71 = .ok (.if_icmp .ge 39, 3) := zd zm_2013 (by decide +kernel)
theorem d_2013_74 {σ : Nat → Nat} {n0 : Nat} {bf : ab_B} : decode (ab_code (zx σ n0 bf).1 2013) 74 = .ok (.lload 5, 2) := zd zm_2013 (by decide +kernel)
theorem d_2013_76 {σ : Nat → Nat} {n0 : Nat} {bf : ab_B} : decode (ab_code (zx σ n0 bf).1 2013) 76 = .ok (.aload_n 0, 1) := zd zm_2013 (by decide +kernel)
theorem d_2013_77 {σ : Nat → Nat} {n0 : Nat} {bf : ab_B} : decode (ab_code (zx σ n0 bf).1 2013) 77 = .ok (.aload_n 1, 1) := zd zm_2013 (by decide +kernel)
theorem d_2013_78 {σ : Nat → Nat} {n0 : Nat} {bf : ab_B} : decode (ab_code (zx σ n0 bf).1 2013) 78 = .ok (.getfield 136, 3) := zd zm_2013 (by decide +kernel)
theorem d_2013_81 {σ : Nat → Nat} {n0 : Nat} {bf : ab_B} : decode (ab_code (zx σ n0 bf).1 2013) 81 = .ok (.getfield 140, 3) := zd zm_2013 (by decide +kernel)
theorem d_2013_84 {σ : Nat → Nat} {n0 : Nat} {bf : ab_B} : decode (ab_code (zx σ n0 bf).1 2013) 84 = .ok (.iload 7, 2) := zd zm_2013 (by decide +kernel)
theorem d_2013_86 {σ : Nat → Nat} {n0 : Nat} {bf : ab_B} : decode (ab_code (zx σ n0 bf).1 2013) 86 = .ok (.invokevirtual 129, 3) := zd zm_2013 (by decide +kernel)
theorem d_2013_89 {σ : Nat → Nat} {n0 : Nat} {bf : ab_B} : decode (ab_code (zx σ n0 bf).1 2013) 89 = .ok (.checkcast 145, 3) := zd zm_2013 (by decide +kernel)
theorem d_2013_92 {σ : Nat → Nat} {n0 : Nat} {bf : ab_B} : decode (ab_code (zx σ n0 bf).1 2013) 92 = .ok (.getfield 147, 3) := zd zm_2013 (by decide +kernel)
theorem d_2013_95 {σ : Nat → Nat} {n0 : Nat} {bf : ab_B} : decode (ab_code (zx σ n0 bf).1 2013) 95 = .ok (.iload_n 2, 1) := zd zm_2013 (by decide +kernel)
theorem d_2013_96 {σ : Nat → Nat} {n0 : Nat} {bf : ab_B} : decode (ab_code (zx σ n0 bf).1 2013) 96 = .ok (.invokevirtual 111, 3) := zd zm_2013 (by decide +kernel)
theorem d_2013_99 {σ : Nat → Nat} {n0 : Nat} {bf : ab_B} : decode (ab_code (zx σ n0 bf).1 2013) 99 = .ok (.invokestatic 148, 3) := zd zm_2013 (by decide +kernel)
theorem d_2013_102 {σ : Nat → Nat} {n0 : Nat} {bf : ab_B} : decode (ab_code (zx σ n0 bf).1 2013) 102 = .ok (.lstore 5, 2) := zd zm_2013 (by decide +kernel)
theorem d_2013_104 {σ : Nat → Nat} {n0 : Nat} {bf : ab_B} : decode (ab_code (zx σ n0 bf).1 2013) 104 = .ok (.iinc 7 1, 3) := zd zm_2013 (by decide +kernel)
theorem d_2013_107 {σ : Nat → Nat} {n0 : Nat} {bf : ab_B} : decode (ab_code (zx σ n0 bf).1 2013) 107 = .ok (.goto (-55), 3) := zd zm_2013 (by decide +kernel)
theorem d_2013_110 {σ : Nat → Nat} {n0 : Nat} {bf : ab_B} : decode (ab_code (zx σ n0 bf).1 2013) 110 = .ok (.ldc2_w 90, 3) := zd zm_2013 (by decide +kernel)
theorem d_2013_113 {σ : Nat → Nat} {n0 : Nat} {bf : ab_B} : decode (ab_code (zx σ n0 bf).1 2013) 113 = .ok (.lload_n 3, 1) := zd zm_2013 (by decide +kernel)
theorem d_2013_114 {σ : Nat → Nat} {n0 : Nat} {bf : ab_B} : decode (ab_code (zx σ n0 bf).1 2013) 114 = .ok (.lload 5, 2) := zd zm_2013 (by decide +kernel)
theorem d_2013_116 {σ : Nat → Nat} {n0 : Nat} {bf : ab_B} : decode (ab_code (zx σ n0 bf).1 2013) 116 = .ok (.ladd, 1) := zd zm_2013 (by decide +kernel)
theorem d_2013_117 {σ : Nat → Nat} {n0 : Nat} {bf : ab_B} : decode (ab_code (zx σ n0 bf).1 2013) 117 = .ok (.invokestatic 101, 3) := zd zm_2013 (by decide +kernel)
theorem d_2013_120 {σ : Nat → Nat} {n0 : Nat} {bf : ab_B} : decode (ab_code (zx σ n0 bf).1 2013) 120 = .ok (.lreturn, 1) := zd zm_2013 (by decide +kernel)
def w_X3_size_2_40 (X : zs_X) (d : Nat) (p0 : Nat) (p1 : Option Nat) (p2 : Int32) (p3 : Int64) (p5 : Int32) (S : zs_T) (Q : zs_Q) : Prop :=
  (zs_U X d 2013 5 [(0, .ref p0), (1, va_rf p1), (2, .int p2), (3, .long p3), (5, .int (p5 + (1 : Int32)))] [] S Q)
theorem u_X3_size_2_40 {σ : Nat → Nat} {n0 : Nat} {bf : ab_B} {d : Nat} {p0 : Nat} {p1 : Option Nat} {p2 : Int32} {p3 : Int64} {p5 : Int32} {S : zs_T} {Q : zs_Q} (hB : zt_B bf) (h : w_X3_size_2_40 (zx σ n0 bf) d p0 p1 p2 p3 p5 S Q) : zs_U (zx σ n0 bf) d 2013 40 [(0, .ref p0), (1, va_rf p1), (2, .int p2), (3, .long p3), (5, .int p5)] [] S Q := by
  unfold w_X3_size_2_40 at h
  refine zu_iinc d_2013_40 rfl zi_1 (zs_lt zq_2013 rfl) ?_
  refine zu_goto (t := 5) d_2013_43 rfl ?_
  exact h.weak ⟨rfl, rfl, rfl, rfl, rfl, trivial⟩
def w_X3_size_2_5 (X : zs_X) (d : Nat) (p0 : Nat) (p1 : Option Nat) (p2 : Int32) (p3 : Int64) (p5 : Int32) (S : zs_T) (Q : zs_Q) : Prop :=
  (∃ b1, p1 = some b1 ∧ zs_K S b1 = some (.inl 13) ∧ ∃ b4, (zs_R S 13000 b1) = some b4 ∧ zs_K S b4 = some (.inl 16) ∧ zs_C X d 16001 [.ref b4] S (zs_kI (fun v8 S7 => (((v8 ≤ p5 → (zs_U X d 2013 52 [(0, .ref p0), (1, va_rf p1), (2, .int p2), (3, .long p3), (5, .long (0 : Int64)), (7, .int (0 : Int32))] [] S7 Q)) ∧ (¬ (v8 ≤ p5) → (zs_K S7 b1 = some (.inl 13) ∧ ∃ b11, (zs_R S7 13000 b1) = some b11 ∧ zs_K S7 b11 = some (.inl 16) ∧ zs_C X d 16009 [.ref b11, .int p5] S7 (zs_kR (fun v15 S14 => ((∀ a, v15 = some a → zs_K S14 a = some (.inl 12)) ∧ ∃ b17, v15 = some b17 ∧ zs_K S14 b17 = some (.inl 12) ∧ zs_K S14 p0 = some (.inl 2) ∧ zs_C X d 2012 [.ref p0, va_rf (zs_R S14 12001 b17), .int p2] S14 (zs_kJ (fun v22 S21 => (w_X3_size_2_40 X d p0 p1 p2 (p3 + v22) p5 S21 Q)) Q))) Q)))))) Q))
theorem u_X3_size_2_5 {σ : Nat → Nat} {n0 : Nat} {bf : ab_B} {d : Nat} {p0 : Nat} {p1 : Option Nat} {p2 : Int32} {p3 : Int64} {p5 : Int32} {S : zs_T} {Q : zs_Q} (hB : zt_B bf) (h : w_X3_size_2_5 (zx σ n0 bf) d p0 p1 p2 p3 p5 S Q) : zs_U (zx σ n0 bf) d 2013 5 [(0, .ref p0), (1, va_rf p1), (2, .int p2), (3, .long p3), (5, .int p5)] [] S Q := by
  unfold w_X3_size_2_5 at h
  refine zu_iload d_2013_5 rfl ?_
  refine zu_aload_n d_2013_7 rfl (zs_rr _) ?_
  obtain ⟨b1, e2, h⟩ := h
  refine zs_stk0 (zs_rfe e2) ?_
  obtain ⟨k3, h⟩ := h
  refine zg_2_118 rfl d_2013_8 k3 ?_
  obtain ⟨b4, e5, h⟩ := h
  refine zs_stk0 (zs_rfe e5) ?_
  obtain ⟨k6, h⟩ := h
  refine zc_2_124  hB rfl k6 d_2013_11 (Nat.le_of_ble_eq_true rfl) h (fun v8 S7 h => ?_)
  refine zu_cmpge (t := 46) d_2013_14 rfl (fun c9 => ?_) (fun c9 => ?_)
  · have h := h.1 c9
    refine zu_lconst (v := 0) d_2013_46 rfl ?_
    refine zu_lstore d_2013_47 (zs_lt zq_2013 rfl) ?_
    refine zu_iconst d_2013_49 zi_0 ?_
    refine zu_istore d_2013_50 (zs_lt zq_2013 rfl) ?_
    exact h.weak ⟨rfl, rfl, rfl, rfl, rfl, rfl, trivial⟩
  · have h := h.2 c9
    refine zu_lload_n d_2013_17 rfl ?_
    refine zu_aload_n d_2013_18 rfl (zs_ra _) ?_
    refine zu_aload_n d_2013_19 rfl (zs_rr _) ?_
    refine zs_stk0 (zs_rfe e2) ?_
    obtain ⟨k10, h⟩ := h
    refine zg_2_118 rfl d_2013_20 k10 ?_
    refine zu_iload d_2013_23 rfl ?_
    obtain ⟨b11, e12, h⟩ := h
    refine zs_stk1 (zs_rfe e12) ?_
    obtain ⟨k13, h⟩ := h
    refine zc_2_129 (x0 := p5) hB rfl k13 d_2013_25 (Nat.le_of_ble_eq_true rfl) h (fun v15 S14 h => ?_)
    obtain ⟨k16, h⟩ := h
    refine zk_2_133 (o := v15) rfl d_2013_28 k16 ?_
    obtain ⟨b17, e18, h⟩ := h
    refine zs_stk0 (zs_rfe e18) ?_
    obtain ⟨k19, h⟩ := h
    refine zg_2_135 rfl d_2013_31 k19 ?_
    refine zu_iload_n d_2013_34 rfl ?_
    obtain ⟨k20, h⟩ := h
    refine zc_2_98 (x0 := (zs_R S14 12001 b17)) (x1 := p2) hB rfl k20 d_2013_35 (Nat.le_of_ble_eq_true rfl) h (fun v22 S21 h => ?_)
    refine zu_stk d_2013_38 rfl rfl ?_
    refine zu_lstore_n d_2013_39 (zs_lt zq_2013 rfl) ?_
    exact (u_X3_size_2_40 hB h).weak ⟨rfl, rfl, rfl, rfl, rfl, trivial⟩
def w_X3_size_2_110 (X : zs_X) (d : Nat) (p3 : Int64) (p5 : Int64) (S : zs_T) (Q : zs_Q) : Prop :=
  (zs_C X d 30002 [.long (1099511627776 : Int64), .long (p3 + p5)] S (zs_kJ (fun v2 S1 => (Q (.returned (some (.long v2))) S1)) Q))
theorem u_X3_size_2_110 {σ : Nat → Nat} {n0 : Nat} {bf : ab_B} {d : Nat} {p3 : Int64} {p5 : Int64} {S : zs_T} {Q : zs_Q} (hB : zt_B bf) (h : w_X3_size_2_110 (zx σ n0 bf) d p3 p5 S Q) : zs_U (zx σ n0 bf) d 2013 110 [(3, .long p3), (5, .long p5)] [] S Q := by
  unfold w_X3_size_2_110 at h
  refine zl2_2_90 rfl d_2013_110 ?_
  refine zu_lload_n d_2013_113 rfl ?_
  refine zu_lload d_2013_114 rfl ?_
  refine zu_stk d_2013_116 rfl rfl ?_
  refine zc_2_101 (x0 := (1099511627776 : Int64)) (x1 := (p3 + p5)) hB rfl d_2013_117 (Nat.le_of_ble_eq_true rfl) h (fun v2 S1 h => ?_)
  exact zu_lret d_2013_120 zr_2013 h
def w_X3_size_2_104 (X : zs_X) (d : Nat) (p0 : Nat) (p1 : Option Nat) (p2 : Int32) (p3 : Int64) (p5 : Int64) (p7 : Int32) (S : zs_T) (Q : zs_Q) : Prop :=
  (zs_U X d 2013 52 [(0, .ref p0), (1, va_rf p1), (2, .int p2), (3, .long p3), (5, .long p5), (7, .int (p7 + (1 : Int32)))] [] S Q)
theorem u_X3_size_2_104 {σ : Nat → Nat} {n0 : Nat} {bf : ab_B} {d : Nat} {p0 : Nat} {p1 : Option Nat} {p2 : Int32} {p3 : Int64} {p5 : Int64} {p7 : Int32} {S : zs_T} {Q : zs_Q} (hB : zt_B bf) (h : w_X3_size_2_104 (zx σ n0 bf) d p0 p1 p2 p3 p5 p7 S Q) : zs_U (zx σ n0 bf) d 2013 104 [(0, .ref p0), (1, va_rf p1), (2, .int p2), (3, .long p3), (5, .long p5), (7, .int p7)] [] S Q := by
  unfold w_X3_size_2_104 at h
  refine zu_iinc d_2013_104 rfl zi_1 (zs_lt zq_2013 rfl) ?_
  refine zu_goto (t := 52) d_2013_107 rfl ?_
  exact h.weak ⟨rfl, rfl, rfl, rfl, rfl, rfl, trivial⟩
def w_X3_size_2_52 (X : zs_X) (d : Nat) (p0 : Nat) (p1 : Option Nat) (p2 : Int32) (p3 : Int64) (p5 : Int64) (p7 : Int32) (S : zs_T) (Q : zs_Q) : Prop :=
  (∃ b1, p1 = some b1 ∧ zs_K S b1 = some (.inl 13) ∧ (((zs_R S 13001 b1) = none → w_X3_size_2_110 X d p3 p5 S Q) ∧ (∀ b4, (zs_R S 13001 b1) = some b4 → (zs_K S b4 = some (.inl 14) ∧ ∃ b7, (zs_R S 14001 b4) = some b7 ∧ zs_K S b7 = some (.inl 16) ∧ zs_C X d 16001 [.ref b7] S (zs_kI (fun v11 S10 => (((v11 ≤ p7 → w_X3_size_2_110 X d p3 p5 S10 Q) ∧ (¬ (v11 ≤ p7) → (zs_K S10 b1 = some (.inl 13) ∧ ∃ b14, (zs_R S10 13001 b1) = some b14 ∧ zs_K S10 b14 = some (.inl 14) ∧ ∃ b17, (zs_R S10 14001 b14) = some b17 ∧ zs_K S10 b17 = some (.inl 16) ∧ zs_C X d 16009 [.ref b17, .int p7] S10 (zs_kR (fun v21 S20 => ((∀ a, v21 = some a → zs_K S20 a = some (.inl 15)) ∧ ∃ b23, v21 = some b23 ∧ zs_K S20 b23 = some (.inl 15) ∧ zs_K S20 p0 = some (.inl 2) ∧ zs_C X d 2013 [.ref p0, va_rf (zs_R S20 15002 b23), .int p2] S20 (zs_kJ (fun v28 S27 => (zs_C X d 30003 [.long p5, .long v28] S27 (zs_kJ (fun v30 S29 => (w_X3_size_2_104 X d p0 p1 p2 p3 v30 p7 S29 Q)) Q))) Q))) Q)))))) Q)))))
theorem u_X3_size_2_52 {σ : Nat → Nat} {n0 : Nat} {bf : ab_B} {d : Nat} {p0 : Nat} {p1 : Option Nat} {p2 : Int32} {p3 : Int64} {p5 : Int64} {p7 : Int32} {S : zs_T} {Q : zs_Q} (hB : zt_B bf) (h : w_X3_size_2_52 (zx σ n0 bf) d p0 p1 p2 p3 p5 p7 S Q) : zs_U (zx σ n0 bf) d 2013 52 [(0, .ref p0), (1, va_rf p1), (2, .int p2), (3, .long p3), (5, .long p5), (7, .int p7)] [] S Q := by
  unfold w_X3_size_2_52 at h
  refine zu_aload_n d_2013_52 rfl (zs_rr _) ?_
  obtain ⟨b1, e2, h⟩ := h
  refine zs_stk0 (zs_rfe e2) ?_
  obtain ⟨k3, h⟩ := h
  refine zg_2_136 rfl d_2013_53 k3 ?_
  refine zu_ifnull (u := (zs_R S 13001 b1)) (t := 110) d_2013_56 rfl rfl (fun e5 => ?_) (fun b4 e5 => ?_)
  · have h := h.1 e5
    exact (u_X3_size_2_110 hB h).weak ⟨rfl, rfl, trivial⟩
  · have h := h.2 b4 e5
    refine zu_iload d_2013_59 rfl ?_
    refine zu_aload_n d_2013_61 rfl (zs_rr _) ?_
    refine zs_stk0 (zs_rfe e2) ?_
    refine zg_2_136 rfl d_2013_62 k3 ?_
    refine zs_stk0 (zs_rfe e5) ?_
    obtain ⟨k6, h⟩ := h
    refine zg_2_140 rfl d_2013_65 k6 ?_
    obtain ⟨b7, e8, h⟩ := h
    refine zs_stk0 (zs_rfe e8) ?_
    obtain ⟨k9, h⟩ := h
    refine zc_2_124  hB rfl k9 d_2013_68 (Nat.le_of_ble_eq_true rfl) h (fun v11 S10 h => ?_)
    refine zu_cmpge (t := 110) d_2013_71 rfl (fun c12 => ?_) (fun c12 => ?_)
    · have h := h.1 c12
      exact (u_X3_size_2_110 hB h).weak ⟨rfl, rfl, trivial⟩
    · have h := h.2 c12
      refine zu_lload d_2013_74 rfl ?_
      refine zu_aload_n d_2013_76 rfl (zs_ra _) ?_
      refine zu_aload_n d_2013_77 rfl (zs_rr _) ?_
      refine zs_stk0 (zs_rfe e2) ?_
      obtain ⟨k13, h⟩ := h
      refine zg_2_136 rfl d_2013_78 k13 ?_
      obtain ⟨b14, e15, h⟩ := h
      refine zs_stk0 (zs_rfe e15) ?_
      obtain ⟨k16, h⟩ := h
      refine zg_2_140 rfl d_2013_81 k16 ?_
      refine zu_iload d_2013_84 rfl ?_
      obtain ⟨b17, e18, h⟩ := h
      refine zs_stk1 (zs_rfe e18) ?_
      obtain ⟨k19, h⟩ := h
      refine zc_2_129 (x0 := p7) hB rfl k19 d_2013_86 (Nat.le_of_ble_eq_true rfl) h (fun v21 S20 h => ?_)
      obtain ⟨k22, h⟩ := h
      refine zk_2_145 (o := v21) rfl d_2013_89 k22 ?_
      obtain ⟨b23, e24, h⟩ := h
      refine zs_stk0 (zs_rfe e24) ?_
      obtain ⟨k25, h⟩ := h
      refine zg_2_147 rfl d_2013_92 k25 ?_
      refine zu_iload_n d_2013_95 rfl ?_
      obtain ⟨k26, h⟩ := h
      refine zc_2_111 (x0 := (zs_R S20 15002 b23)) (x1 := p2) hB rfl k26 d_2013_96 (Nat.le_of_ble_eq_true rfl) h (fun v28 S27 h => ?_)
      refine zc_2_148 (x0 := p5) (x1 := v28) hB rfl d_2013_99 (Nat.le_of_ble_eq_true rfl) h (fun v30 S29 h => ?_)
      refine zu_lstore d_2013_102 (zs_lt zq_2013 rfl) ?_
      exact (u_X3_size_2_104 hB h).weak ⟨rfl, rfl, rfl, rfl, rfl, rfl, trivial⟩
def w_X3_size_2 (X : zs_X) (d : Nat) (p0 : Nat) (p1 : Option Nat) (p2 : Int32) (S : zs_T) (Q : zs_Q) : Prop :=
  (zs_U X d 2013 5 [(0, .ref p0), (1, va_rf p1), (2, .int p2), (3, .long (0 : Int64)), (5, .int (0 : Int32))] [] S Q)
theorem u_X3_size_2 {σ : Nat → Nat} {n0 : Nat} {bf : ab_B} {d : Nat} {p0 : Nat} {p1 : Option Nat} {p2 : Int32} {S : zs_T} {Q : zs_Q} (hB : zt_B bf) (hd : 1 ≤ d) (h : w_X3_size_2 (zx σ n0 bf) (d - 1) p0 p1 p2 S Q) : zs_C (zx σ n0 bf) d 2013 [.ref p0, va_rf p1, .int p2] S Q := by
  have hL : lv_args 0 [.ref p0, va_rf p1, .int p2] = [(0, .ref p0), (1, va_rf p1), (2, .int p2)] := by simp [lv_args, zs_cat, zs_cI, zs_cJ, zs_cA]
  refine zs_C.of1 (hB.2 2013 (by decide) (by decide)) hd (by rw [hL]; exact zs_sub_self _ (by exact ⟨rfl, rfl, rfl, trivial⟩)) ?_
  rw [hL]
  clear hL
  unfold w_X3_size_2 at h
  refine zu_lconst (v := 0) d_2013_0 rfl ?_
  refine zu_lstore_n d_2013_1 (zs_lt zq_2013 rfl) ?_
  refine zu_iconst d_2013_2 zi_0 ?_
  refine zu_istore d_2013_3 (zs_lt zq_2013 rfl) ?_
  exact h.weak ⟨rfl, rfl, rfl, rfl, rfl, trivial⟩
/-! SchemaPascal$Shapes.most(LSchemaPascal$Part;I)J -/
theorem zm_2014 {σ : Nat → Nat} {n0 : Nat} {bf : ab_B} : ab_code (zx σ n0 bf).1 2014 = prog_11_method_9_code := rfl
theorem zq_2014 {σ : Nat → Nat} {n0 : Nat} {bf : ab_B} : ab_maxL (zx σ n0 bf).1 2014 = 6 := rfl
theorem zr_2014 {σ : Nat → Nat} {n0 : Nat} {bf : ab_B} : ab_ret (zx σ n0 bf).1 2014 = (Option.some Jvm.ClassFile.FieldType.long) := rfl
theorem d_2014_0 {σ : Nat → Nat} {n0 : Nat} {bf : ab_B} : decode (ab_code (zx σ n0 bf).1 2014) 0 = .ok (.lconst 0, 1) := zd zm_2014 (by decide +kernel)
theorem d_2014_1 {σ : Nat → Nat} {n0 : Nat} {bf : ab_B} : decode (ab_code (zx σ n0 bf).1 2014) 1 = .ok (.lstore_n 3, 1) := zd zm_2014 (by decide +kernel)
theorem d_2014_2 {σ : Nat → Nat} {n0 : Nat} {bf : ab_B} : decode (ab_code (zx σ n0 bf).1 2014) 2 = .ok (.iconst 0, 1) := zd zm_2014 (by decide +kernel)
theorem d_2014_3 {σ : Nat → Nat} {n0 : Nat} {bf : ab_B} : decode (ab_code (zx σ n0 bf).1 2014) 3 = .ok (.istore 5, 2) := zd zm_2014 (by decide +kernel)
theorem d_2014_5 {σ : Nat → Nat} {n0 : Nat} {bf : ab_B} : decode (ab_code (zx σ n0 bf).1 2014) 5 = .ok (.iload 5, 2) := zd zm_2014 (by decide +kernel)
theorem d_2014_7 {σ : Nat → Nat} {n0 : Nat} {bf : ab_B} : decode (ab_code (zx σ n0 bf).1 2014) 7 = .ok (.aload_n 1, 1) := zd zm_2014 (by decide +kernel)
theorem d_2014_8 {σ : Nat → Nat} {n0 : Nat} {bf : ab_B} : decode (ab_code (zx σ n0 bf).1 2014) 8 = .ok (.getfield 140, 3) := zd zm_2014 (by decide +kernel)
theorem d_2014_11 {σ : Nat → Nat} {n0 : Nat} {bf : ab_B} : decode (ab_code (zx σ n0 bf).1 2014) 11 = .ok (.invokevirtual 124, 3) := zd zm_2014 (by decide +kernel)
theorem d_2014_14 {σ : Nat → Nat} {n0 : Nat} {bf : ab_B} : decode (ab_code (zx σ n0 bf).1 2014) 14 = .ok (.if_icmp .ge 34, 3) := zd zm_2014 (by decide +kernel)
theorem d_2014_17 {σ : Nat → Nat} {n0 : Nat} {bf : ab_B} : decode (ab_code (zx σ n0 bf).1 2014) 17 = .ok (.lload_n 3, 1) := zd zm_2014 (by decide +kernel)
theorem d_2014_18 {σ : Nat → Nat} {n0 : Nat} {bf : ab_B} : decode (ab_code (zx σ n0 bf).1 2014) 18 = .ok (.aload_n 0, 1) := zd zm_2014 (by decide +kernel)
theorem d_2014_19 {σ : Nat → Nat} {n0 : Nat} {bf : ab_B} : decode (ab_code (zx σ n0 bf).1 2014) 19 = .ok (.aload_n 1, 1) := zd zm_2014 (by decide +kernel)
theorem d_2014_20 {σ : Nat → Nat} {n0 : Nat} {bf : ab_B} : decode (ab_code (zx σ n0 bf).1 2014) 20 = .ok (.getfield 140, 3) := zd zm_2014 (by decide +kernel)
theorem d_2014_23 {σ : Nat → Nat} {n0 : Nat} {bf : ab_B} : decode (ab_code (zx σ n0 bf).1 2014) 23 = .ok (.iload 5, 2) := zd zm_2014 (by decide +kernel)
theorem d_2014_25 {σ : Nat → Nat} {n0 : Nat} {bf : ab_B} : decode (ab_code (zx σ n0 bf).1 2014) 25 = .ok (.invokevirtual 129, 3) := zd zm_2014 (by decide +kernel)
theorem d_2014_28 {σ : Nat → Nat} {n0 : Nat} {bf : ab_B} : decode (ab_code (zx σ n0 bf).1 2014) 28 = .ok (.checkcast 145, 3) := zd zm_2014 (by decide +kernel)
theorem d_2014_31 {σ : Nat → Nat} {n0 : Nat} {bf : ab_B} : decode (ab_code (zx σ n0 bf).1 2014) 31 = .ok (.getfield 147, 3) := zd zm_2014 (by decide +kernel)
theorem d_2014_34 {σ : Nat → Nat} {n0 : Nat} {bf : ab_B} : decode (ab_code (zx σ n0 bf).1 2014) 34 = .ok (.iload_n 2, 1) := zd zm_2014 (by decide +kernel)
theorem d_2014_35 {σ : Nat → Nat} {n0 : Nat} {bf : ab_B} : decode (ab_code (zx σ n0 bf).1 2014) 35 = .ok (.invokevirtual 111, 3) := zd zm_2014 (by decide +kernel)
theorem d_2014_38 {σ : Nat → Nat} {n0 : Nat} {bf : ab_B} : decode (ab_code (zx σ n0 bf).1 2014) 38 = .ok (.invokestatic 148, 3) := zd zm_2014 (by decide +kernel)
theorem d_2014_41 {σ : Nat → Nat} {n0 : Nat} {bf : ab_B} : decode (ab_code (zx σ n0 bf).1 2014) 41 = .ok (.lstore_n 3, 1) := zd zm_2014 (by decide +kernel)
theorem d_2014_42 {σ : Nat → Nat} {n0 : Nat} {bf : ab_B} : decode (ab_code (zx σ n0 bf).1 2014) 42 = .ok (.iinc 5 1, 3) := zd zm_2014 (by decide +kernel)
theorem d_2014_45 {σ : Nat → Nat} {n0 : Nat} {bf : ab_B} : decode (ab_code (zx σ n0 bf).1 2014) 45 = .ok (.goto (-40), 3) := zd zm_2014 (by decide +kernel)
theorem d_2014_48 {σ : Nat → Nat} {n0 : Nat} {bf : ab_B} : decode (ab_code (zx σ n0 bf).1 2014) 48 = .ok (.lload_n 3, 1) := zd zm_2014 (by decide +kernel)
theorem d_2014_49 {σ : Nat → Nat} {n0 : Nat} {bf : ab_B} : decode (ab_code (zx σ n0 bf).1 2014) 49 = .ok (.lreturn, 1) := zd zm_2014 (by decide +kernel)
def w_X3_most_42 (X : zs_X) (d : Nat) (p0 : Nat) (p1 : Option Nat) (p2 : Int32) (p3 : Int64) (p5 : Int32) (S : zs_T) (Q : zs_Q) : Prop :=
  (zs_U X d 2014 5 [(0, .ref p0), (1, va_rf p1), (2, .int p2), (3, .long p3), (5, .int (p5 + (1 : Int32)))] [] S Q)
theorem u_X3_most_42 {σ : Nat → Nat} {n0 : Nat} {bf : ab_B} {d : Nat} {p0 : Nat} {p1 : Option Nat} {p2 : Int32} {p3 : Int64} {p5 : Int32} {S : zs_T} {Q : zs_Q} (hB : zt_B bf) (h : w_X3_most_42 (zx σ n0 bf) d p0 p1 p2 p3 p5 S Q) : zs_U (zx σ n0 bf) d 2014 42 [(0, .ref p0), (1, va_rf p1), (2, .int p2), (3, .long p3), (5, .int p5)] [] S Q := by
  unfold w_X3_most_42 at h
  refine zu_iinc d_2014_42 rfl zi_1 (zs_lt zq_2014 rfl) ?_
  refine zu_goto (t := 5) d_2014_45 rfl ?_
  exact h.weak ⟨rfl, rfl, rfl, rfl, rfl, trivial⟩
def w_X3_most_5 (X : zs_X) (d : Nat) (p0 : Nat) (p1 : Option Nat) (p2 : Int32) (p3 : Int64) (p5 : Int32) (S : zs_T) (Q : zs_Q) : Prop :=
  (∃ b1, p1 = some b1 ∧ zs_K S b1 = some (.inl 14) ∧ ∃ b4, (zs_R S 14001 b1) = some b4 ∧ zs_K S b4 = some (.inl 16) ∧ zs_C X d 16001 [.ref b4] S (zs_kI (fun v8 S7 => (((v8 ≤ p5 → (Q (.returned (some (.long p3))) S7)) ∧ (¬ (v8 ≤ p5) → (zs_K S7 b1 = some (.inl 14) ∧ ∃ b11, (zs_R S7 14001 b1) = some b11 ∧ zs_K S7 b11 = some (.inl 16) ∧ zs_C X d 16009 [.ref b11, .int p5] S7 (zs_kR (fun v15 S14 => ((∀ a, v15 = some a → zs_K S14 a = some (.inl 15)) ∧ ∃ b17, v15 = some b17 ∧ zs_K S14 b17 = some (.inl 15) ∧ zs_K S14 p0 = some (.inl 2) ∧ zs_C X d 2013 [.ref p0, va_rf (zs_R S14 15002 b17), .int p2] S14 (zs_kJ (fun v22 S21 => (zs_C X d 30003 [.long p3, .long v22] S21 (zs_kJ (fun v24 S23 => (w_X3_most_42 X d p0 p1 p2 v24 p5 S23 Q)) Q))) Q))) Q)))))) Q))
theorem u_X3_most_5 {σ : Nat → Nat} {n0 : Nat} {bf : ab_B} {d : Nat} {p0 : Nat} {p1 : Option Nat} {p2 : Int32} {p3 : Int64} {p5 : Int32} {S : zs_T} {Q : zs_Q} (hB : zt_B bf) (h : w_X3_most_5 (zx σ n0 bf) d p0 p1 p2 p3 p5 S Q) : zs_U (zx σ n0 bf) d 2014 5 [(0, .ref p0), (1, va_rf p1), (2, .int p2), (3, .long p3), (5, .int p5)] [] S Q := by
  unfold w_X3_most_5 at h
  refine zu_iload d_2014_5 rfl ?_
  refine zu_aload_n d_2014_7 rfl (zs_rr _) ?_
  obtain ⟨b1, e2, h⟩ := h
  refine zs_stk0 (zs_rfe e2) ?_
  obtain ⟨k3, h⟩ := h
  refine zg_2_140 rfl d_2014_8 k3 ?_
  obtain ⟨b4, e5, h⟩ := h
  refine zs_stk0 (zs_rfe e5) ?_
  obtain ⟨k6, h⟩ := h
  refine zc_2_124  hB rfl k6 d_2014_11 (Nat.le_of_ble_eq_true rfl) h (fun v8 S7 h => ?_)
  refine zu_cmpge (t := 48) d_2014_14 rfl (fun c9 => ?_) (fun c9 => ?_)
  · have h := h.1 c9
    refine zu_lload_n d_2014_48 rfl ?_
    exact zu_lret d_2014_49 zr_2014 h
  · have h := h.2 c9
    refine zu_lload_n d_2014_17 rfl ?_
    refine zu_aload_n d_2014_18 rfl (zs_ra _) ?_
    refine zu_aload_n d_2014_19 rfl (zs_rr _) ?_
    refine zs_stk0 (zs_rfe e2) ?_
    obtain ⟨k10, h⟩ := h
    refine zg_2_140 rfl d_2014_20 k10 ?_
    refine zu_iload d_2014_23 rfl ?_
    obtain ⟨b11, e12, h⟩ := h
    refine zs_stk1 (zs_rfe e12) ?_
    obtain ⟨k13, h⟩ := h
    refine zc_2_129 (x0 := p5) hB rfl k13 d_2014_25 (Nat.le_of_ble_eq_true rfl) h (fun v15 S14 h => ?_)
    obtain ⟨k16, h⟩ := h
    refine zk_2_145 (o := v15) rfl d_2014_28 k16 ?_
    obtain ⟨b17, e18, h⟩ := h
    refine zs_stk0 (zs_rfe e18) ?_
    obtain ⟨k19, h⟩ := h
    refine zg_2_147 rfl d_2014_31 k19 ?_
    refine zu_iload_n d_2014_34 rfl ?_
    obtain ⟨k20, h⟩ := h
    refine zc_2_111 (x0 := (zs_R S14 15002 b17)) (x1 := p2) hB rfl k20 d_2014_35 (Nat.le_of_ble_eq_true rfl) h (fun v22 S21 h => ?_)
    refine zc_2_148 (x0 := p3) (x1 := v22) hB rfl d_2014_38 (Nat.le_of_ble_eq_true rfl) h (fun v24 S23 h => ?_)
    refine zu_lstore_n d_2014_41 (zs_lt zq_2014 rfl) ?_
    exact (u_X3_most_42 hB h).weak ⟨rfl, rfl, rfl, rfl, rfl, trivial⟩
def w_X3_most (X : zs_X) (d : Nat) (p0 : Nat) (p1 : Option Nat) (p2 : Int32) (S : zs_T) (Q : zs_Q) : Prop :=
  (zs_U X d 2014 5 [(0, .ref p0), (1, va_rf p1), (2, .int p2), (3, .long (0 : Int64)), (5, .int (0 : Int32))] [] S Q)
theorem u_X3_most {σ : Nat → Nat} {n0 : Nat} {bf : ab_B} {d : Nat} {p0 : Nat} {p1 : Option Nat} {p2 : Int32} {S : zs_T} {Q : zs_Q} (hB : zt_B bf) (hd : 1 ≤ d) (h : w_X3_most (zx σ n0 bf) (d - 1) p0 p1 p2 S Q) : zs_C (zx σ n0 bf) d 2014 [.ref p0, va_rf p1, .int p2] S Q := by
  have hL : lv_args 0 [.ref p0, va_rf p1, .int p2] = [(0, .ref p0), (1, va_rf p1), (2, .int p2)] := by simp [lv_args, zs_cat, zs_cI, zs_cJ, zs_cA]
  refine zs_C.of1 (hB.2 2014 (by decide) (by decide)) hd (by rw [hL]; exact zs_sub_self _ (by exact ⟨rfl, rfl, rfl, trivial⟩)) ?_
  rw [hL]
  clear hL
  unfold w_X3_most at h
  refine zu_lconst (v := 0) d_2014_0 rfl ?_
  refine zu_lstore_n d_2014_1 (zs_lt zq_2014 rfl) ?_
  refine zu_iconst d_2014_2 zi_0 ?_
  refine zu_istore d_2014_3 (zs_lt zq_2014 rfl) ?_
  exact h.weak ⟨rfl, rfl, rfl, rfl, rfl, trivial⟩
/-! SchemaPascal$Program.<init>()V -/
theorem zm_3000 {σ : Nat → Nat} {n0 : Nat} {bf : ab_B} : ab_code (zx σ n0 bf).1 3000 = prog_8_method_1_code := rfl
theorem zq_3000 {σ : Nat → Nat} {n0 : Nat} {bf : ab_B} : ab_maxL (zx σ n0 bf).1 3000 = 1 := rfl
theorem zr_3000 {σ : Nat → Nat} {n0 : Nat} {bf : ab_B} : ab_ret (zx σ n0 bf).1 3000 = (Option.none : Option Jvm.ClassFile.FieldType) := rfl
theorem d_3000_0 {σ : Nat → Nat} {n0 : Nat} {bf : ab_B} : decode (ab_code (zx σ n0 bf).1 3000) 0 = .ok (.aload_n 0, 1) := zd zm_3000 (by decide +kernel)
theorem d_3000_1 {σ : Nat → Nat} {n0 : Nat} {bf : ab_B} : decode (ab_code (zx σ n0 bf).1 3000) 1 = .ok (.invokespecial 3, 3) := zd zm_3000 (by decide +kernel)
theorem d_3000_4 {σ : Nat → Nat} {n0 : Nat} {bf : ab_B} : decode (ab_code (zx σ n0 bf).1 3000) 4 = .ok (.aload_n 0, 1) := zd zm_3000 (by decide +kernel)
theorem d_3000_5 {σ : Nat → Nat} {n0 : Nat} {bf : ab_B} : decode (ab_code (zx σ n0 bf).1 3000) 5 = .ok (.sipush 4096, 3) := zd zm_3000 (by decide +kernel)
theorem d_3000_8 {σ : Nat → Nat} {n0 : Nat} {bf : ab_B} : decode (ab_code (zx σ n0 bf).1 3000) 8 = .ok (.newarray .int, 2) := zd zm_3000 (by decide +kernel)
theorem d_3000_10 {σ : Nat → Nat} {n0 : Nat} {bf : ab_B} : decode (ab_code (zx σ n0 bf).1 3000) 10 = .ok (.putfield 9, 3) := zd zm_3000 (by decide +kernel)
theorem d_3000_13 {σ : Nat → Nat} {n0 : Nat} {bf : ab_B} : decode (ab_code (zx σ n0 bf).1 3000) 13 = .ok (.aload_n 0, 1) := zd zm_3000 (by decide +kernel)
theorem d_3000_14 {σ : Nat → Nat} {n0 : Nat} {bf : ab_B} : decode (ab_code (zx σ n0 bf).1 3000) 14 = .ok (.new 15, 3) := zd zm_3000 (by decide +kernel)
theorem d_3000_17 {σ : Nat → Nat} {n0 : Nat} {bf : ab_B} : decode (ab_code (zx σ n0 bf).1 3000) 17 = .ok (.dup, 1) := zd zm_3000 (by decide +kernel)
theorem d_3000_18 {σ : Nat → Nat} {n0 : Nat} {bf : ab_B} : decode (ab_code (zx σ n0 bf).1 3000) 18 = .ok (.invokespecial 17, 3) := zd zm_3000 (by decide +kernel)
theorem d_3000_21 {σ : Nat → Nat} {n0 : Nat} {bf : ab_B} : decode (ab_code (zx σ n0 bf).1 3000) 21 = .ok (.putfield 18, 3) := zd zm_3000 (by decide +kernel)
theorem d_3000_24 {σ : Nat → Nat} {n0 : Nat} {bf : ab_B} : decode (ab_code (zx σ n0 bf).1 3000) 24 = .ok (.aload_n 0, 1) := zd zm_3000 (by decide +kernel)
theorem d_3000_25 {σ : Nat → Nat} {n0 : Nat} {bf : ab_B} : decode (ab_code (zx σ n0 bf).1 3000) 25 = .ok (.new 15, 3) := zd zm_3000 (by decide +kernel)
theorem d_3000_28 {σ : Nat → Nat} {n0 : Nat} {bf : ab_B} : decode (ab_code (zx σ n0 bf).1 3000) 28 = .ok (.dup, 1) := zd zm_3000 (by decide +kernel)
theorem d_3000_29 {σ : Nat → Nat} {n0 : Nat} {bf : ab_B} : decode (ab_code (zx σ n0 bf).1 3000) 29 = .ok (.invokespecial 17, 3) := zd zm_3000 (by decide +kernel)
theorem d_3000_32 {σ : Nat → Nat} {n0 : Nat} {bf : ab_B} : decode (ab_code (zx σ n0 bf).1 3000) 32 = .ok (.putfield 22, 3) := zd zm_3000 (by decide +kernel)
theorem d_3000_35 {σ : Nat → Nat} {n0 : Nat} {bf : ab_B} : decode (ab_code (zx σ n0 bf).1 3000) 35 = .ok (.aload_n 0, 1) := zd zm_3000 (by decide +kernel)
theorem d_3000_36 {σ : Nat → Nat} {n0 : Nat} {bf : ab_B} : decode (ab_code (zx σ n0 bf).1 3000) 36 = .ok (.new 15, 3) := zd zm_3000 (by decide +kernel)
theorem d_3000_39 {σ : Nat → Nat} {n0 : Nat} {bf : ab_B} : decode (ab_code (zx σ n0 bf).1 3000) 39 = .ok (.dup, 1) := zd zm_3000 (by decide +kernel)
theorem d_3000_40 {σ : Nat → Nat} {n0 : Nat} {bf : ab_B} : decode (ab_code (zx σ n0 bf).1 3000) 40 = .ok (.invokespecial 17, 3) := zd zm_3000 (by decide +kernel)
theorem d_3000_43 {σ : Nat → Nat} {n0 : Nat} {bf : ab_B} : decode (ab_code (zx σ n0 bf).1 3000) 43 = .ok (.putfield 25, 3) := zd zm_3000 (by decide +kernel)
theorem d_3000_46 {σ : Nat → Nat} {n0 : Nat} {bf : ab_B} : decode (ab_code (zx σ n0 bf).1 3000) 46 = .ok (.aload_n 0, 1) := zd zm_3000 (by decide +kernel)
theorem d_3000_47 {σ : Nat → Nat} {n0 : Nat} {bf : ab_B} : decode (ab_code (zx σ n0 bf).1 3000) 47 = .ok (.ldc 28, 2) := zd zm_3000 (by decide +kernel)
theorem d_3000_49 {σ : Nat → Nat} {n0 : Nat} {bf : ab_B} : decode (ab_code (zx σ n0 bf).1 3000) 49 = .ok (.newarray .byte, 2) := zd zm_3000 (by decide +kernel)
theorem d_3000_51 {σ : Nat → Nat} {n0 : Nat} {bf : ab_B} : decode (ab_code (zx σ n0 bf).1 3000) 51 = .ok (.putfield 29, 3) := zd zm_3000 (by decide +kernel)
theorem d_3000_54 {σ : Nat → Nat} {n0 : Nat} {bf : ab_B} : decode (ab_code (zx σ n0 bf).1 3000) 54 = .ok (.return_, 1) := zd zm_3000 (by decide +kernel)
def w_X4_init_35 (X : zs_X) (d : Nat) (p0 : Nat) (S : zs_T) (Q : zs_Q) : Prop :=
  (∀ a1 S2, a1 = zs_N S → S2 = zs_nw S (.inl 16) 3 → zs_C X d 16000 [.ref a1] S2 (zs_kV (fun S6 => (zs_K S6 p0 = some (.inl 3) ∧ ab_n0 X.1 ≤ p0 ∧ ∀ S10, S10 = zs_sR S6 3004 p0 (some a1) → ∀ a13 S14, a13 = zs_N S10 → S14 = zs_nw S10 (.inr (1, (32768 : Int32).toNatClampNeg)) (32768 : Int32).toNatClampNeg → zs_K S14 p0 = some (.inl 3) ∧ ∀ S19, S19 = zs_sR S14 3005 p0 (some a13) → Q (.returned none) S19)) Q))
theorem u_X4_init_35 {σ : Nat → Nat} {n0 : Nat} {bf : ab_B} {d : Nat} {p0 : Nat} {S : zs_T} {Q : zs_Q} (hB : zt_B bf) (h : w_X4_init_35 (zx σ n0 bf) d p0 S Q) : zs_U (zx σ n0 bf) d 3000 35 [(0, .ref p0)] [] S Q := by
  unfold w_X4_init_35 at h
  refine zu_aload_n d_3000_35 rfl (zs_ra _) ?_
  refine zn_3_15 rfl d_3000_36 ?_
  generalize e4 : zs_nw S (.inl 16) 3 = S2
  generalize e3 : zs_N S = a1
  have h := h a1 S2 e3.symm e4.symm
  have k5 := zs_kn e3 e4
  refine zu_dup d_3000_39 rfl ?_
  refine zc_3_17  hB rfl d_3000_40 (Nat.le_of_ble_eq_true rfl) h (fun S6 h => ?_)
  obtain ⟨k8, h⟩ := h
  obtain ⟨k9, h⟩ := h
  refine zp_3_25 (v := (some a1)) rfl d_3000_43 k8 k9 ?_
  generalize e11 : zs_sR S6 3004 p0 (some a1) = S10
  have h := h S10 e11.symm
  have K12 : ∀ b, zs_K S10 b = zs_K S6 b := zs_Kt e11 (zs_KsR _ _ _ _) (fun _ => rfl)
  refine zu_aload_n d_3000_46 rfl (zs_ra _) ?_
  refine zl_3_28 rfl d_3000_47 ?_
  refine zu_newa0 (k := 1) d_3000_49 rfl rfl (fun _ => rfl) (by decide) (by decide) ?_
  generalize e16 : zs_nw S10 (.inr (1, (32768 : Int32).toNatClampNeg)) (32768 : Int32).toNatClampNeg = S14
  generalize e15 : zs_N S10 = a13
  have h := h a13 S14 e15.symm e16.symm
  have k17 := zs_kn e15 e16
  obtain ⟨k18, h⟩ := h
  refine zp_3_29 (v := (some a13)) rfl d_3000_51 k18 k9 ?_
  generalize e20 : zs_sR S14 3005 p0 (some a13) = S19
  have h := h S19 e20.symm
  have K21 : ∀ b, zs_K S19 b = zs_K S14 b := zs_Kt e20 (zs_KsR _ _ _ _) (fun _ => rfl)
  exact zu_vret d_3000_54 zr_3000 h
def w_X4_init (X : zs_X) (d : Nat) (p0 : Nat) (S : zs_T) (Q : zs_Q) : Prop :=
  (zs_C X d 39000 [.ref p0] S (zs_kV (fun S1 => (∀ a3 S4, a3 = zs_N S1 → S4 = zs_nw S1 (.inr (0, (4096 : Int32).toNatClampNeg)) (4096 : Int32).toNatClampNeg → zs_K S4 p0 = some (.inl 3) ∧ ab_n0 X.1 ≤ p0 ∧ ∀ S10, S10 = zs_sR S4 3000 p0 (some a3) → ∀ a13 S14, a13 = zs_N S10 → S14 = zs_nw S10 (.inl 16) 3 → zs_C X d 16000 [.ref a13] S14 (zs_kV (fun S18 => (zs_K S18 p0 = some (.inl 3) ∧ ∀ S21, S21 = zs_sR S18 3002 p0 (some a13) → ∀ a24 S25, a24 = zs_N S21 → S25 = zs_nw S21 (.inl 16) 3 → zs_C X d 16000 [.ref a24] S25 (zs_kV (fun S29 => (zs_K S29 p0 = some (.inl 3) ∧ ∀ S32, S32 = zs_sR S29 3003 p0 (some a24) → w_X4_init_35 X d p0 S32 Q)) Q))) Q))) Q))
theorem u_X4_init {σ : Nat → Nat} {n0 : Nat} {bf : ab_B} {d : Nat} {p0 : Nat} {S : zs_T} {Q : zs_Q} (hB : zt_B bf) (hd : 1 ≤ d) (h : w_X4_init (zx σ n0 bf) (d - 1) p0 S Q) : zs_C (zx σ n0 bf) d 3000 [.ref p0] S Q := by
  have hL : lv_args 0 [.ref p0] = [(0, .ref p0)] := rfl
  refine zs_C.of1 (hB.2 3000 (by decide) (by decide)) hd (by rw [hL]; exact zs_sub_self _ (by exact ⟨rfl, trivial⟩)) ?_
  rw [hL]
  clear hL
  unfold w_X4_init at h
  refine zu_aload_n d_3000_0 rfl (zs_ra _) ?_
  refine zc_3_3  hB rfl d_3000_1 (Nat.le_of_ble_eq_true rfl) h (fun S1 h => ?_)
  refine zu_aload_n d_3000_4 rfl (zs_ra _) ?_
  refine zu_sipush d_3000_5 zh_4096 ?_
  refine zu_newa0 (k := 0) d_3000_8 rfl rfl (fun _ => rfl) (by decide) (by decide) ?_
  generalize e6 : zs_nw S1 (.inr (0, (4096 : Int32).toNatClampNeg)) (4096 : Int32).toNatClampNeg = S4
  generalize e5 : zs_N S1 = a3
  have h := h a3 S4 e5.symm e6.symm
  have k7 := zs_kn e5 e6
  obtain ⟨k8, h⟩ := h
  obtain ⟨k9, h⟩ := h
  refine zp_3_9 (v := (some a3)) rfl d_3000_10 k8 k9 ?_
  generalize e11 : zs_sR S4 3000 p0 (some a3) = S10
  have h := h S10 e11.symm
  have K12 : ∀ b, zs_K S10 b = zs_K S4 b := zs_Kt e11 (zs_KsR _ _ _ _) (fun _ => rfl)
  refine zu_aload_n d_3000_13 rfl (zs_ra _) ?_
  refine zn_3_15 rfl d_3000_14 ?_
  generalize e16 : zs_nw S10 (.inl 16) 3 = S14
  generalize e15 : zs_N S10 = a13
  have h := h a13 S14 e15.symm e16.symm
  have k17 := zs_kn e15 e16
  refine zu_dup d_3000_17 rfl ?_
  refine zc_3_17  hB rfl d_3000_18 (Nat.le_of_ble_eq_true rfl) h (fun S18 h => ?_)
  obtain ⟨k20, h⟩ := h
  refine zp_3_18 (v := (some a13)) rfl d_3000_21 k20 k9 ?_
  generalize e22 : zs_sR S18 3002 p0 (some a13) = S21
  have h := h S21 e22.symm
  have K23 : ∀ b, zs_K S21 b = zs_K S18 b := zs_Kt e22 (zs_KsR _ _ _ _) (fun _ => rfl)
  refine zu_aload_n d_3000_24 rfl (zs_ra _) ?_
  refine zn_3_15 rfl d_3000_25 ?_
  generalize e27 : zs_nw S21 (.inl 16) 3 = S25
  generalize e26 : zs_N S21 = a24
  have h := h a24 S25 e26.symm e27.symm
  have k28 := zs_kn e26 e27
  refine zu_dup d_3000_28 rfl ?_
  refine zc_3_17  hB rfl d_3000_29 (Nat.le_of_ble_eq_true rfl) h (fun S29 h => ?_)
  obtain ⟨k31, h⟩ := h
  refine zp_3_22 (v := (some a24)) rfl d_3000_32 k31 k9 ?_
  generalize e33 : zs_sR S29 3003 p0 (some a24) = S32
  have h := h S32 e33.symm
  have K34 : ∀ b, zs_K S32 b = zs_K S29 b := zs_Kt e33 (zs_KsR _ _ _ _) (fun _ => rfl)
  exact (u_X4_init_35 hB h).weak ⟨rfl, trivial⟩
/-! SchemaPascal$Program.clear(I)V -/
theorem zm_3001 {σ : Nat → Nat} {n0 : Nat} {bf : ab_B} : ab_code (zx σ n0 bf).1 3001 = prog_8_method_2_code := rfl
theorem zq_3001 {σ : Nat → Nat} {n0 : Nat} {bf : ab_B} : ab_maxL (zx σ n0 bf).1 3001 = 2 := rfl
theorem zr_3001 {σ : Nat → Nat} {n0 : Nat} {bf : ab_B} : ab_ret (zx σ n0 bf).1 3001 = (Option.none : Option Jvm.ClassFile.FieldType) := rfl
theorem d_3001_0 {σ : Nat → Nat} {n0 : Nat} {bf : ab_B} : decode (ab_code (zx σ n0 bf).1 3001) 0 = .ok (.aload_n 0, 1) := zd zm_3001 (by decide +kernel)
theorem d_3001_1 {σ : Nat → Nat} {n0 : Nat} {bf : ab_B} : decode (ab_code (zx σ n0 bf).1 3001) 1 = .ok (.iconst 0, 1) := zd zm_3001 (by decide +kernel)
theorem d_3001_2 {σ : Nat → Nat} {n0 : Nat} {bf : ab_B} : decode (ab_code (zx σ n0 bf).1 3001) 2 = .ok (.putfield 33, 3) := zd zm_3001 (by decide +kernel)
theorem d_3001_5 {σ : Nat → Nat} {n0 : Nat} {bf : ab_B} : decode (ab_code (zx σ n0 bf).1 3001) 5 = .ok (.aload_n 0, 1) := zd zm_3001 (by decide +kernel)
theorem d_3001_6 {σ : Nat → Nat} {n0 : Nat} {bf : ab_B} : decode (ab_code (zx σ n0 bf).1 3001) 6 = .ok (.iconst 0, 1) := zd zm_3001 (by decide +kernel)
theorem d_3001_7 {σ : Nat → Nat} {n0 : Nat} {bf : ab_B} : decode (ab_code (zx σ n0 bf).1 3001) 7 = .ok (.putfield 37, 3) := zd zm_3001 (by decide +kernel)
theorem d_3001_10 {σ : Nat → Nat} {n0 : Nat} {bf : ab_B} : decode (ab_code (zx σ n0 bf).1 3001) 10 = .ok (.aload_n 0, 1) := zd zm_3001 (by decide +kernel)
theorem d_3001_11 {σ : Nat → Nat} {n0 : Nat} {bf : ab_B} : decode (ab_code (zx σ n0 bf).1 3001) 11 = .ok (.getfield 22, 3) := zd zm_3001 (by decide +kernel)
theorem d_3001_14 {σ : Nat → Nat} {n0 : Nat} {bf : ab_B} : decode (ab_code (zx σ n0 bf).1 3001) 14 = .ok (.invokevirtual 40, 3) := zd zm_3001 (by decide +kernel)
theorem d_3001_17 {σ : Nat → Nat} {n0 : Nat} {bf : ab_B} : decode (ab_code (zx σ n0 bf).1 3001) 17 = .ok (.aload_n 0, 1) := zd zm_3001 (by decide +kernel)
theorem d_3001_18 {σ : Nat → Nat} {n0 : Nat} {bf : ab_B} : decode (ab_code (zx σ n0 bf).1 3001) 18 = .ok (.getfield 25, 3) := zd zm_3001 (by decide +kernel)
theorem d_3001_21 {σ : Nat → Nat} {n0 : Nat} {bf : ab_B} : decode (ab_code (zx σ n0 bf).1 3001) 21 = .ok (.invokevirtual 40, 3) := zd zm_3001 (by decide +kernel)
theorem d_3001_24 {σ : Nat → Nat} {n0 : Nat} {bf : ab_B} : decode (ab_code (zx σ n0 bf).1 3001) 24 = .ok (.aload_n 0, 1) := zd zm_3001 (by decide +kernel)
theorem d_3001_25 {σ : Nat → Nat} {n0 : Nat} {bf : ab_B} : decode (ab_code (zx σ n0 bf).1 3001) 25 = .ok (.getfield 18, 3) := zd zm_3001 (by decide +kernel)
theorem d_3001_28 {σ : Nat → Nat} {n0 : Nat} {bf : ab_B} : decode (ab_code (zx σ n0 bf).1 3001) 28 = .ok (.invokevirtual 43, 3) := zd zm_3001 (by decide +kernel)
theorem d_3001_31 {σ : Nat → Nat} {n0 : Nat} {bf : ab_B} : decode (ab_code (zx σ n0 bf).1 3001) 31 = .ok (.iload_n 1, 1) := zd zm_3001 (by decide +kernel)
theorem d_3001_32 {σ : Nat → Nat} {n0 : Nat} {bf : ab_B} : decode (ab_code (zx σ n0 bf).1 3001) 32 = .ok (.if_icmp .le 23, 3) := zd zm_3001 (by decide +kernel)
theorem d_3001_35 {σ : Nat → Nat} {n0 : Nat} {bf : ab_B} : decode (ab_code (zx σ n0 bf).1 3001) 35 = .ok (.aload_n 0, 1) := zd zm_3001 (by decide +kernel)
theorem d_3001_36 {σ : Nat → Nat} {n0 : Nat} {bf : ab_B} : decode (ab_code (zx σ n0 bf).1 3001) 36 = .ok (.getfield 18, 3) := zd zm_3001 (by decide +kernel)
theorem d_3001_39 {σ : Nat → Nat} {n0 : Nat} {bf : ab_B} : decode (ab_code (zx σ n0 bf).1 3001) 39 = .ok (.aload_n 0, 1) := zd zm_3001 (by decide +kernel)
theorem d_3001_40 {σ : Nat → Nat} {n0 : Nat} {bf : ab_B} : decode (ab_code (zx σ n0 bf).1 3001) 40 = .ok (.getfield 18, 3) := zd zm_3001 (by decide +kernel)
theorem d_3001_43 {σ : Nat → Nat} {n0 : Nat} {bf : ab_B} : decode (ab_code (zx σ n0 bf).1 3001) 43 = .ok (.invokevirtual 43, 3) := zd zm_3001 (by decide +kernel)
theorem d_3001_46 {σ : Nat → Nat} {n0 : Nat} {bf : ab_B} : decode (ab_code (zx σ n0 bf).1 3001) 46 = .ok (.iconst 1, 1) := zd zm_3001 (by decide +kernel)
theorem d_3001_47 {σ : Nat → Nat} {n0 : Nat} {bf : ab_B} : decode (ab_code (zx σ n0 bf).1 3001) 47 = .ok (.isub, 1) := zd zm_3001 (by decide +kernel)
theorem d_3001_48 {σ : Nat → Nat} {n0 : Nat} {bf : ab_B} : decode (ab_code (zx σ n0 bf).1 3001) 48 = .ok (.invokevirtual 46, 3) := zd zm_3001 (by decide +kernel)
theorem d_3001_51 {σ : Nat → Nat} {n0 : Nat} {bf : ab_B} : decode (ab_code (zx σ n0 bf).1 3001) 51 = .ok (.pop, 1) := zd zm_3001 (by decide +kernel)
theorem d_3001_52 {σ : Nat → Nat} {n0 : Nat} {bf : ab_B} : decode (ab_code (zx σ n0 bf).1 3001) 52 = .ok (.goto (-28), 3) := zd zm_3001 (by decide +kernel)
theorem d_3001_55 {σ : Nat → Nat} {n0 : Nat} {bf : ab_B} : decode (ab_code (zx σ n0 bf).1 3001) 55 = .ok (.return_, 1) := zd zm_3001 (by decide +kernel)
def w_X4_clear_24 (X : zs_X) (d : Nat) (p0 : Nat) (p1 : Int32) (S : zs_T) (Q : zs_Q) : Prop :=
  (zs_K S p0 = some (.inl 3) ∧ ∃ b2, (zs_R S 3002 p0) = some b2 ∧ zs_K S b2 = some (.inl 16) ∧ zs_C X d 16001 [.ref b2] S (zs_kI (fun v6 S5 => (((v6 ≤ p1 → (Q (.returned none) S5)) ∧ (¬ (v6 ≤ p1) → (zs_K S5 p0 = some (.inl 3) ∧ ∃ b9, (zs_R S5 3002 p0) = some b9 ∧ zs_K S5 b9 = some (.inl 16) ∧ zs_C X d 16001 [.ref b9] S5 (zs_kI (fun v13 S12 => (zs_K S12 b9 = some (.inl 16) ∧ zs_C X d 16007 [.ref b9, .int (v13 - (1 : Int32))] S12 (zs_kR (fun v16 S15 => (zs_U X d 3001 24 [(0, .ref p0), (1, .int p1)] [] S15 Q)) Q))) Q)))))) Q))
theorem u_X4_clear_24 {σ : Nat → Nat} {n0 : Nat} {bf : ab_B} {d : Nat} {p0 : Nat} {p1 : Int32} {S : zs_T} {Q : zs_Q} (hB : zt_B bf) (h : w_X4_clear_24 (zx σ n0 bf) d p0 p1 S Q) : zs_U (zx σ n0 bf) d 3001 24 [(0, .ref p0), (1, .int p1)] [] S Q := by
  unfold w_X4_clear_24 at h
  refine zu_aload_n d_3001_24 rfl (zs_ra _) ?_
  obtain ⟨k1, h⟩ := h
  refine zg_3_18 rfl d_3001_25 k1 ?_
  obtain ⟨b2, e3, h⟩ := h
  refine zs_stk0 (zs_rfe e3) ?_
  obtain ⟨k4, h⟩ := h
  refine zc_3_43  hB rfl k4 d_3001_28 (Nat.le_of_ble_eq_true rfl) h (fun v6 S5 h => ?_)
  refine zu_iload_n d_3001_31 rfl ?_
  refine zu_cmple (t := 55) d_3001_32 rfl (fun c7 => ?_) (fun c7 => ?_)
  · have h := h.1 c7
    exact zu_vret d_3001_55 zr_3001 h
  · have h := h.2 c7
    refine zu_aload_n d_3001_35 rfl (zs_ra _) ?_
    obtain ⟨k8, h⟩ := h
    refine zg_3_18 rfl d_3001_36 k8 ?_
    refine zu_aload_n d_3001_39 rfl (zs_ra _) ?_
    refine zg_3_18 rfl d_3001_40 k8 ?_
    obtain ⟨b9, e10, h⟩ := h
    refine zs_stk0 (zs_rfe e10) ?_
    obtain ⟨k11, h⟩ := h
    refine zc_3_43  hB rfl k11 d_3001_43 (by simp only [List.map_cons, List.map_nil, List.sum_cons, List.sum_nil, zs_cat, zs_cI, zs_cJ, zs_cA]; exact Nat.le_of_ble_eq_true rfl) h (fun v13 S12 h => ?_)
    refine zu_iconst d_3001_46 zi_1 ?_
    refine zu_stk d_3001_47 rfl rfl ?_
    refine zs_stk1 (zs_rfe e10) ?_
    obtain ⟨k14, h⟩ := h
    refine zc_3_46 (x0 := (v13 - (1 : Int32))) hB rfl k14 d_3001_48 (Nat.le_of_ble_eq_true rfl) h (fun v16 S15 h => ?_)
    refine zu_pop d_3001_51 (zs_cat _) ?_
    refine zu_goto (t := 24) d_3001_52 rfl ?_
    exact h.weak ⟨rfl, rfl, trivial⟩
def w_X4_clear (X : zs_X) (d : Nat) (p0 : Nat) (p1 : Int32) (S : zs_T) (Q : zs_Q) : Prop :=
  (zs_K S p0 = some (.inl 3) ∧ ab_n0 X.1 ≤ p0 ∧ ∀ S3, S3 = zs_sI S 3001 p0 (0 : Int32) → ∀ S6, S6 = zs_sI S3 3006 p0 (0 : Int32) → ∃ b9, (zs_R S6 3003 p0) = some b9 ∧ zs_K S b9 = some (.inl 16) ∧ zs_C X d 16006 [.ref b9] S6 (zs_kV (fun S12 => (zs_K S12 p0 = some (.inl 3) ∧ ∃ b15, (zs_R S12 3004 p0) = some b15 ∧ zs_K S12 b15 = some (.inl 16) ∧ zs_C X d 16006 [.ref b15] S12 (zs_kV (fun S18 => zs_U X d 3001 24 [(0, .ref p0), (1, .int p1)] [] S18 Q) Q))) Q))
theorem u_X4_clear {σ : Nat → Nat} {n0 : Nat} {bf : ab_B} {d : Nat} {p0 : Nat} {p1 : Int32} {S : zs_T} {Q : zs_Q} (hB : zt_B bf) (hd : 1 ≤ d) (h : w_X4_clear (zx σ n0 bf) (d - 1) p0 p1 S Q) : zs_C (zx σ n0 bf) d 3001 [.ref p0, .int p1] S Q := by
  have hL : lv_args 0 [.ref p0, .int p1] = [(0, .ref p0), (1, .int p1)] := rfl
  refine zs_C.of1 (hB.2 3001 (by decide) (by decide)) hd (by rw [hL]; exact zs_sub_self _ (by exact ⟨rfl, rfl, trivial⟩)) ?_
  rw [hL]
  clear hL
  unfold w_X4_clear at h
  refine zu_aload_n d_3001_0 rfl (zs_ra _) ?_
  refine zu_iconst d_3001_1 zi_0 ?_
  obtain ⟨k1, h⟩ := h
  obtain ⟨k2, h⟩ := h
  refine zp_3_33 (v := (0 : Int32)) rfl d_3001_2 k1 k2 ?_
  generalize e4 : zs_sI S 3001 p0 (0 : Int32) = S3
  have h := h S3 e4.symm
  have K5 : ∀ b, zs_K S3 b = zs_K S b := zs_Kt e4 (zs_KsI _ _ _ _) (fun _ => rfl)
  refine zu_aload_n d_3001_5 rfl (zs_ra _) ?_
  refine zu_iconst d_3001_6 zi_0 ?_
  refine zp_3_37 (v := (0 : Int32)) rfl d_3001_7 ((K5 _).trans k1) k2 ?_
  generalize e7 : zs_sI S3 3006 p0 (0 : Int32) = S6
  have h := h S6 e7.symm
  have K8 : ∀ b, zs_K S6 b = zs_K S b := zs_Kt e7 (zs_KsI _ _ _ _) K5
  refine zu_aload_n d_3001_10 rfl (zs_ra _) ?_
  refine zg_3_22 rfl d_3001_11 ((K8 _).trans k1) ?_
  obtain ⟨b9, e10, h⟩ := h
  refine zs_stk0 (zs_rfe e10) ?_
  obtain ⟨k11, h⟩ := h
  refine zc_3_40  hB rfl ((K8 _).trans k11) d_3001_14 (Nat.le_of_ble_eq_true rfl) h (fun S12 h => ?_)
  refine zu_aload_n d_3001_17 rfl (zs_ra _) ?_
  obtain ⟨k14, h⟩ := h
  refine zg_3_25 rfl d_3001_18 k14 ?_
  obtain ⟨b15, e16, h⟩ := h
  refine zs_stk0 (zs_rfe e16) ?_
  obtain ⟨k17, h⟩ := h
  refine zc_3_40  hB rfl k17 d_3001_21 (Nat.le_of_ble_eq_true rfl) h (fun S18 h => ?_)
  exact h.weak ⟨rfl, rfl, trivial⟩
/-! SchemaPascal.<init>()V -/
theorem zm_0 {σ : Nat → Nat} {n0 : Nat} {bf : ab_B} : ab_code (zx σ n0 bf).1 0 = prog_1_method_6_code := rfl
theorem zq_0 {σ : Nat → Nat} {n0 : Nat} {bf : ab_B} : ab_maxL (zx σ n0 bf).1 0 = 1 := rfl
theorem zr_0 {σ : Nat → Nat} {n0 : Nat} {bf : ab_B} : ab_ret (zx σ n0 bf).1 0 = (Option.none : Option Jvm.ClassFile.FieldType) := rfl
theorem d_0_0 {σ : Nat → Nat} {n0 : Nat} {bf : ab_B} : decode (ab_code (zx σ n0 bf).1 0) 0 = .ok (.aload_n 0, 1) := zd zm_0 (by decide +kernel)
theorem d_0_1 {σ : Nat → Nat} {n0 : Nat} {bf : ab_B} : decode (ab_code (zx σ n0 bf).1 0) 1 = .ok (.invokespecial 28, 3) := zd zm_0 (by decide +kernel)
theorem d_0_4 {σ : Nat → Nat} {n0 : Nat} {bf : ab_B} : decode (ab_code (zx σ n0 bf).1 0) 4 = .ok (.aload_n 0, 1) := zd zm_0 (by decide +kernel)
theorem d_0_5 {σ : Nat → Nat} {n0 : Nat} {bf : ab_B} : decode (ab_code (zx σ n0 bf).1 0) 5 = .ok (.ldc 31, 2) := zd zm_0 (by decide +kernel)
theorem d_0_7 {σ : Nat → Nat} {n0 : Nat} {bf : ab_B} : decode (ab_code (zx σ n0 bf).1 0) 7 = .ok (.newarray .byte, 2) := zd zm_0 (by decide +kernel)
theorem d_0_9 {σ : Nat → Nat} {n0 : Nat} {bf : ab_B} : decode (ab_code (zx σ n0 bf).1 0) 9 = .ok (.putfield 32, 3) := zd zm_0 (by decide +kernel)
theorem d_0_12 {σ : Nat → Nat} {n0 : Nat} {bf : ab_B} : decode (ab_code (zx σ n0 bf).1 0) 12 = .ok (.aload_n 0, 1) := zd zm_0 (by decide +kernel)
theorem d_0_13 {σ : Nat → Nat} {n0 : Nat} {bf : ab_B} : decode (ab_code (zx σ n0 bf).1 0) 13 = .ok (.new 36, 3) := zd zm_0 (by decide +kernel)
theorem d_0_16 {σ : Nat → Nat} {n0 : Nat} {bf : ab_B} : decode (ab_code (zx σ n0 bf).1 0) 16 = .ok (.dup, 1) := zd zm_0 (by decide +kernel)
theorem d_0_17 {σ : Nat → Nat} {n0 : Nat} {bf : ab_B} : decode (ab_code (zx σ n0 bf).1 0) 17 = .ok (.invokespecial 38, 3) := zd zm_0 (by decide +kernel)
theorem d_0_20 {σ : Nat → Nat} {n0 : Nat} {bf : ab_B} : decode (ab_code (zx σ n0 bf).1 0) 20 = .ok (.putfield 39, 3) := zd zm_0 (by decide +kernel)
theorem d_0_23 {σ : Nat → Nat} {n0 : Nat} {bf : ab_B} : decode (ab_code (zx σ n0 bf).1 0) 23 = .ok (.aload_n 0, 1) := zd zm_0 (by decide +kernel)
theorem d_0_24 {σ : Nat → Nat} {n0 : Nat} {bf : ab_B} : decode (ab_code (zx σ n0 bf).1 0) 24 = .ok (.new 43, 3) := zd zm_0 (by decide +kernel)
theorem d_0_27 {σ : Nat → Nat} {n0 : Nat} {bf : ab_B} : decode (ab_code (zx σ n0 bf).1 0) 27 = .ok (.dup, 1) := zd zm_0 (by decide +kernel)
theorem d_0_28 {σ : Nat → Nat} {n0 : Nat} {bf : ab_B} : decode (ab_code (zx σ n0 bf).1 0) 28 = .ok (.invokespecial 45, 3) := zd zm_0 (by decide +kernel)
theorem d_0_31 {σ : Nat → Nat} {n0 : Nat} {bf : ab_B} : decode (ab_code (zx σ n0 bf).1 0) 31 = .ok (.putfield 46, 3) := zd zm_0 (by decide +kernel)
theorem d_0_34 {σ : Nat → Nat} {n0 : Nat} {bf : ab_B} : decode (ab_code (zx σ n0 bf).1 0) 34 = .ok (.aload_n 0, 1) := zd zm_0 (by decide +kernel)
theorem d_0_35 {σ : Nat → Nat} {n0 : Nat} {bf : ab_B} : decode (ab_code (zx σ n0 bf).1 0) 35 = .ok (.new 50, 3) := zd zm_0 (by decide +kernel)
theorem d_0_38 {σ : Nat → Nat} {n0 : Nat} {bf : ab_B} : decode (ab_code (zx σ n0 bf).1 0) 38 = .ok (.dup, 1) := zd zm_0 (by decide +kernel)
theorem d_0_39 {σ : Nat → Nat} {n0 : Nat} {bf : ab_B} : decode (ab_code (zx σ n0 bf).1 0) 39 = .ok (.aload_n 0, 1) := zd zm_0 (by decide +kernel)
theorem d_0_40 {σ : Nat → Nat} {n0 : Nat} {bf : ab_B} : decode (ab_code (zx σ n0 bf).1 0) 40 = .ok (.getfield 39, 3) := zd zm_0 (by decide +kernel)
theorem d_0_43 {σ : Nat → Nat} {n0 : Nat} {bf : ab_B} : decode (ab_code (zx σ n0 bf).1 0) 43 = .ok (.getfield 52, 3) := zd zm_0 (by decide +kernel)
theorem d_0_46 {σ : Nat → Nat} {n0 : Nat} {bf : ab_B} : decode (ab_code (zx σ n0 bf).1 0) 46 = .ok (.aload_n 0, 1) := zd zm_0 (by decide +kernel)
theorem d_0_47 {σ : Nat → Nat} {n0 : Nat} {bf : ab_B} : decode (ab_code (zx σ n0 bf).1 0) 47 = .ok (.getfield 46, 3) := zd zm_0 (by decide +kernel)
theorem d_0_50 {σ : Nat → Nat} {n0 : Nat} {bf : ab_B} : decode (ab_code (zx σ n0 bf).1 0) 50 = .ok (.invokespecial 56, 3) := zd zm_0 (by decide +kernel)
theorem d_0_53 {σ : Nat → Nat} {n0 : Nat} {bf : ab_B} : decode (ab_code (zx σ n0 bf).1 0) 53 = .ok (.putfield 59, 3) := zd zm_0 (by decide +kernel)
theorem d_0_56 {σ : Nat → Nat} {n0 : Nat} {bf : ab_B} : decode (ab_code (zx σ n0 bf).1 0) 56 = .ok (.return_, 1) := zd zm_0 (by decide +kernel)
def w_X1_init_34 (X : zs_X) (d : Nat) (p0 : Nat) (S : zs_T) (Q : zs_Q) : Prop :=
  (∀ a1 S2, a1 = zs_N S → S2 = zs_nw S (.inl 4) 21 → zs_K S2 p0 = some (.inl 0) ∧ ∃ b7, (zs_R S2 3 p0) = some b7 ∧ zs_K S2 b7 = some (.inl 1) ∧ zs_C X d 4000 [.ref a1, va_rf (zs_R S2 1004 b7), va_rf (zs_R S2 4 p0)] S2 (zs_kV (fun S10 => (zs_K S10 p0 = some (.inl 0) ∧ ab_n0 X.1 ≤ p0 ∧ ∀ S14, S14 = zs_sR S10 5 p0 (some a1) → Q (.returned none) S14)) Q))
theorem u_X1_init_34 {σ : Nat → Nat} {n0 : Nat} {bf : ab_B} {d : Nat} {p0 : Nat} {S : zs_T} {Q : zs_Q} (hB : zt_B bf) (h : w_X1_init_34 (zx σ n0 bf) d p0 S Q) : zs_U (zx σ n0 bf) d 0 34 [(0, .ref p0)] [] S Q := by
  unfold w_X1_init_34 at h
  refine zu_aload_n d_0_34 rfl (zs_ra _) ?_
  refine zn_0_50 rfl d_0_35 ?_
  generalize e4 : zs_nw S (.inl 4) 21 = S2
  generalize e3 : zs_N S = a1
  have h := h a1 S2 e3.symm e4.symm
  have k5 := zs_kn e3 e4
  refine zu_dup d_0_38 rfl ?_
  refine zu_aload_n d_0_39 rfl (zs_ra _) ?_
  obtain ⟨k6, h⟩ := h
  refine zg_0_39 rfl d_0_40 k6 ?_
  obtain ⟨b7, e8, h⟩ := h
  refine zs_stk0 (zs_rfe e8) ?_
  obtain ⟨k9, h⟩ := h
  refine zg_0_52 rfl d_0_43 k9 ?_
  refine zu_aload_n d_0_46 rfl (zs_ra _) ?_
  refine zg_0_46 rfl d_0_47 k6 ?_
  refine zc_0_56 (x0 := (zs_R S2 1004 b7)) (x1 := (zs_R S2 4 p0)) hB rfl d_0_50 (Nat.le_of_ble_eq_true rfl) h (fun S10 h => ?_)
  obtain ⟨k12, h⟩ := h
  obtain ⟨k13, h⟩ := h
  refine zp_0_59 (v := (some a1)) rfl d_0_53 k12 k13 ?_
  generalize e15 : zs_sR S10 5 p0 (some a1) = S14
  have h := h S14 e15.symm
  have K16 : ∀ b, zs_K S14 b = zs_K S10 b := zs_Kt e15 (zs_KsR _ _ _ _) (fun _ => rfl)
  exact zu_vret d_0_56 zr_0 h
def w_X1_init (X : zs_X) (d : Nat) (p0 : Nat) (S : zs_T) (Q : zs_Q) : Prop :=
  (zs_C X d 39000 [.ref p0] S (zs_kV (fun S1 => (∀ a3 S4, a3 = zs_N S1 → S4 = zs_nw S1 (.inr (1, (32768 : Int32).toNatClampNeg)) (32768 : Int32).toNatClampNeg → zs_K S4 p0 = some (.inl 0) ∧ ab_n0 X.1 ≤ p0 ∧ ∀ S10, S10 = zs_sR S4 0 p0 (some a3) → ∀ a13 S14, a13 = zs_N S10 → S14 = zs_nw S10 (.inl 1) 45 → zs_C X d 1000 [.ref a13] S14 (zs_kV (fun S18 => (zs_K S18 p0 = some (.inl 0) ∧ ∀ S21, S21 = zs_sR S18 3 p0 (some a13) → ∀ a24 S25, a24 = zs_N S21 → S25 = zs_nw S21 (.inl 3) 7 → zs_C X d 3000 [.ref a24] S25 (zs_kV (fun S29 => (zs_K S29 p0 = some (.inl 0) ∧ ∀ S32, S32 = zs_sR S29 4 p0 (some a24) → w_X1_init_34 X d p0 S32 Q)) Q))) Q))) Q))
theorem u_X1_init {σ : Nat → Nat} {n0 : Nat} {bf : ab_B} {d : Nat} {p0 : Nat} {S : zs_T} {Q : zs_Q} (hB : zt_B bf) (hd : 1 ≤ d) (h : w_X1_init (zx σ n0 bf) (d - 1) p0 S Q) : zs_C (zx σ n0 bf) d 0 [.ref p0] S Q := by
  have hL : lv_args 0 [.ref p0] = [(0, .ref p0)] := rfl
  refine zs_C.of1 (hB.2 0 (by decide) (by decide)) hd (by rw [hL]; exact zs_sub_self _ (by exact ⟨rfl, trivial⟩)) ?_
  rw [hL]
  clear hL
  unfold w_X1_init at h
  refine zu_aload_n d_0_0 rfl (zs_ra _) ?_
  refine zc_0_28  hB rfl d_0_1 (Nat.le_of_ble_eq_true rfl) h (fun S1 h => ?_)
  refine zu_aload_n d_0_4 rfl (zs_ra _) ?_
  refine zl_0_31 rfl d_0_5 ?_
  refine zu_newa0 (k := 1) d_0_7 rfl rfl (fun _ => rfl) (by decide) (by decide) ?_
  generalize e6 : zs_nw S1 (.inr (1, (32768 : Int32).toNatClampNeg)) (32768 : Int32).toNatClampNeg = S4
  generalize e5 : zs_N S1 = a3
  have h := h a3 S4 e5.symm e6.symm
  have k7 := zs_kn e5 e6
  obtain ⟨k8, h⟩ := h
  obtain ⟨k9, h⟩ := h
  refine zp_0_32 (v := (some a3)) rfl d_0_9 k8 k9 ?_
  generalize e11 : zs_sR S4 0 p0 (some a3) = S10
  have h := h S10 e11.symm
  have K12 : ∀ b, zs_K S10 b = zs_K S4 b := zs_Kt e11 (zs_KsR _ _ _ _) (fun _ => rfl)
  refine zu_aload_n d_0_12 rfl (zs_ra _) ?_
  refine zn_0_36 rfl d_0_13 ?_
  generalize e16 : zs_nw S10 (.inl 1) 45 = S14
  generalize e15 : zs_N S10 = a13
  have h := h a13 S14 e15.symm e16.symm
  have k17 := zs_kn e15 e16
  refine zu_dup d_0_16 rfl ?_
  refine zc_0_38  hB rfl d_0_17 (Nat.le_of_ble_eq_true rfl) h (fun S18 h => ?_)
  obtain ⟨k20, h⟩ := h
  refine zp_0_39 (v := (some a13)) rfl d_0_20 k20 k9 ?_
  generalize e22 : zs_sR S18 3 p0 (some a13) = S21
  have h := h S21 e22.symm
  have K23 : ∀ b, zs_K S21 b = zs_K S18 b := zs_Kt e22 (zs_KsR _ _ _ _) (fun _ => rfl)
  refine zu_aload_n d_0_23 rfl (zs_ra _) ?_
  refine zn_0_43 rfl d_0_24 ?_
  generalize e27 : zs_nw S21 (.inl 3) 7 = S25
  generalize e26 : zs_N S21 = a24
  have h := h a24 S25 e26.symm e27.symm
  have k28 := zs_kn e26 e27
  refine zu_dup d_0_27 rfl ?_
  refine zc_0_45  hB rfl d_0_28 (Nat.le_of_ble_eq_true rfl) h (fun S29 h => ?_)
  obtain ⟨k31, h⟩ := h
  refine zp_0_46 (v := (some a24)) rfl d_0_31 k31 k9 ?_
  generalize e33 : zs_sR S29 4 p0 (some a24) = S32
  have h := h S32 e33.symm
  have K34 : ∀ b, zs_K S32 b = zs_K S29 b := zs_Kt e33 (zs_KsR _ _ _ _) (fun _ => rfl)
  exact (u_X1_init_34 hB h).weak ⟨rfl, trivial⟩
/-! SchemaPascal.compared(IJJ)Z -/
theorem zm_2 {σ : Nat → Nat} {n0 : Nat} {bf : ab_B} : ab_code (zx σ n0 bf).1 2 = prog_1_method_5_code := rfl
theorem zq_2 {σ : Nat → Nat} {n0 : Nat} {bf : ab_B} : ab_maxL (zx σ n0 bf).1 2 = 5 := rfl
theorem zr_2 {σ : Nat → Nat} {n0 : Nat} {bf : ab_B} : ab_ret (zx σ n0 bf).1 2 = (Option.some Jvm.ClassFile.FieldType.boolean) := rfl
theorem d_2_0 {σ : Nat → Nat} {n0 : Nat} {bf : ab_B} : decode (ab_code (zx σ n0 bf).1 2) 0 = .ok (.iload_n 0, 1) := zd zm_2 (by decide +kernel)
theorem d_2_1 {σ : Nat → Nat} {n0 : Nat} {bf : ab_B} : decode (ab_code (zx σ n0 bf).1 2) 1 = .ok (.lookupswitch 111 #[(60, 75), (61, 51), (62, 87), (256, 63), (257, 99)], 51) := zd zm_2 (by decide +kernel)
theorem d_2_52 {σ : Nat → Nat} {n0 : Nat} {bf : ab_B} : decode (ab_code (zx σ n0 bf).1 2) 52 = .ok (.lload_n 1, 1) := zd zm_2 (by decide +kernel)
theorem d_2_53 {σ : Nat → Nat} {n0 : Nat} {bf : ab_B} : decode (ab_code (zx σ n0 bf).1 2) 53 = .ok (.lload_n 3, 1) := zd zm_2 (by decide +kernel)
theorem d_2_54 {σ : Nat → Nat} {n0 : Nat} {bf : ab_B} : decode (ab_code (zx σ n0 bf).1 2) 54 = .ok (.lcmp, 1) := zd zm_2 (by decide +kernel)
theorem d_2_55 {σ : Nat → Nat} {n0 : Nat} {bf : ab_B} : decode (ab_code (zx σ n0 bf).1 2) 55 = .ok (.ifCond .ne 7, 3) := zd zm_2 (by decide +kernel)
theorem d_2_58 {σ : Nat → Nat} {n0 : Nat} {bf : ab_B} : decode (ab_code (zx σ n0 bf).1 2) 58 = .ok (.iconst 1, 1) := zd zm_2 (by decide +kernel)
theorem d_2_59 {σ : Nat → Nat} {n0 : Nat} {bf : ab_B} : decode (ab_code (zx σ n0 bf).1 2) 59 = .ok (.goto 4, 3) := zd zm_2 (by decide +kernel)
theorem d_2_62 {σ : Nat → Nat} {n0 : Nat} {bf : ab_B} : decode (ab_code (zx σ n0 bf).1 2) 62 = .ok (.iconst 0, 1) := zd zm_2 (by decide +kernel)
theorem d_2_63 {σ : Nat → Nat} {n0 : Nat} {bf : ab_B} : decode (ab_code (zx σ n0 bf).1 2) 63 = .ok (.ireturn, 1) := zd zm_2 (by decide +kernel)
theorem d_2_64 {σ : Nat → Nat} {n0 : Nat} {bf : ab_B} : decode (ab_code (zx σ n0 bf).1 2) 64 = .ok (.lload_n 1, 1) := zd zm_2 (by decide +kernel)
theorem d_2_65 {σ : Nat → Nat} {n0 : Nat} {bf : ab_B} : decode (ab_code (zx σ n0 bf).1 2) 65 = .ok (.lload_n 3, 1) := zd zm_2 (by decide +kernel)
theorem d_2_66 {σ : Nat → Nat} {n0 : Nat} {bf : ab_B} : decode (ab_code (zx σ n0 bf).1 2) 66 = .ok (.lcmp, 1) := zd zm_2 (by decide +kernel)
theorem d_2_67 {σ : Nat → Nat} {n0 : Nat} {bf : ab_B} : decode (ab_code (zx σ n0 bf).1 2) 67 = .ok (.ifCond .eq 7, 3) := zd zm_2 (by decide +kernel)
theorem d_2_70 {σ : Nat → Nat} {n0 : Nat} {bf : ab_B} : decode (ab_code (zx σ n0 bf).1 2) 70 = .ok (.iconst 1, 1) := zd zm_2 (by decide +kernel)
theorem d_2_71 {σ : Nat → Nat} {n0 : Nat} {bf : ab_B} : decode (ab_code (zx σ n0 bf).1 2) 71 = .ok (.goto 4, 3) := zd zm_2 (by decide +kernel)
theorem d_2_74 {σ : Nat → Nat} {n0 : Nat} {bf : ab_B} : decode (ab_code (zx σ n0 bf).1 2) 74 = .ok (.iconst 0, 1) := zd zm_2 (by decide +kernel)
theorem d_2_75 {σ : Nat → Nat} {n0 : Nat} {bf : ab_B} : decode (ab_code (zx σ n0 bf).1 2) 75 = .ok (.ireturn, 1) := zd zm_2 (by decide +kernel)
theorem d_2_76 {σ : Nat → Nat} {n0 : Nat} {bf : ab_B} : decode (ab_code (zx σ n0 bf).1 2) 76 = .ok (.lload_n 1, 1) := zd zm_2 (by decide +kernel)
theorem d_2_77 {σ : Nat → Nat} {n0 : Nat} {bf : ab_B} : decode (ab_code (zx σ n0 bf).1 2) 77 = .ok (.lload_n 3, 1) := zd zm_2 (by decide +kernel)
theorem d_2_78 {σ : Nat → Nat} {n0 : Nat} {bf : ab_B} : decode (ab_code (zx σ n0 bf).1 2) 78 = .ok (.lcmp, 1) := zd zm_2 (by decide +kernel)
theorem d_2_79 {σ : Nat → Nat} {n0 : Nat} {bf : ab_B} : decode (ab_code (zx σ n0 bf).1 2) 79 = .ok (.ifCond .ge 7, 3) := zd zm_2 (by decide +kernel)
theorem d_2_82 {σ : Nat → Nat} {n0 : Nat} {bf : ab_B} : decode (ab_code (zx σ n0 bf).1 2) 82 = .ok (.iconst 1, 1) := zd zm_2 (by decide +kernel)
theorem d_2_83 {σ : Nat → Nat} {n0 : Nat} {bf : ab_B} : decode (ab_code (zx σ n0 bf).1 2) 83 = .ok (.goto 4, 3) := zd zm_2 (by decide +kernel)
theorem d_2_86 {σ : Nat → Nat} {n0 : Nat} {bf : ab_B} : decode (ab_code (zx σ n0 bf).1 2) 86 = .ok (.iconst 0, 1) := zd zm_2 (by decide +kernel)
theorem d_2_87 {σ : Nat → Nat} {n0 : Nat} {bf : ab_B} : decode (ab_code (zx σ n0 bf).1 2) 87 = .ok (.ireturn, 1) := zd zm_2 (by decide +kernel)
theorem d_2_88 {σ : Nat → Nat} {n0 : Nat} {bf : ab_B} : decode (ab_code (zx σ n0 bf).1 2) 88 = .ok (.lload_n 1, 1) := zd zm_2 (by decide +kernel)
theorem d_2_89 {σ : Nat → Nat} {n0 : Nat} {bf : ab_B} : decode (ab_code (zx σ n0 bf).1 2) 89 = .ok (.lload_n 3, 1) := zd zm_2 (by decide +kernel)
theorem d_2_90 {σ : Nat → Nat} {n0 : Nat} {bf : ab_B} : decode (ab_code (zx σ n0 bf).1 2) 90 = .ok (.lcmp, 1) := zd zm_2 (by decide +kernel)
theorem d_2_91 {σ : Nat → Nat} {n0 : Nat} {bf : ab_B} : decode (ab_code (zx σ n0 bf).1 2) 91 = .ok (.ifCond .le 7, 3) := zd zm_2 (by decide +kernel)
theorem d_2_94 {σ : Nat → Nat} {n0 : Nat} {bf : ab_B} : decode (ab_code (zx σ n0 bf).1 2) 94 = .ok (.iconst 1, 1) := zd zm_2 (by decide +kernel)
theorem d_2_95 {σ : Nat → Nat} {n0 : Nat} {bf : ab_B} : decode (ab_code (zx σ n0 bf).1 2) 95 = .ok (.goto 4, 3) := zd zm_2 (by decide +kernel)
theorem d_2_98 {σ : Nat → Nat} {n0 : Nat} {bf : ab_B} : decode (ab_code (zx σ n0 bf).1 2) 98 = .ok (.iconst 0, 1) := zd zm_2 (by decide +kernel)
theorem d_2_99 {σ : Nat → Nat} {n0 : Nat} {bf : ab_B} : decode (ab_code (zx σ n0 bf).1 2) 99 = .ok (.ireturn, 1) := zd zm_2 (by decide +kernel)
theorem d_2_100 {σ : Nat → Nat} {n0 : Nat} {bf : ab_B} : decode (ab_code (zx σ n0 bf).1 2) 100 = .ok (.lload_n 1, 1) := zd zm_2 (by decide +kernel)
theorem d_2_101 {σ : Nat → Nat} {n0 : Nat} {bf : ab_B} : decode (ab_code (zx σ n0 bf).1 2) 101 = .ok (.lload_n 3, 1) := zd zm_2 (by decide +kernel)
theorem d_2_102 {σ : Nat → Nat} {n0 : Nat} {bf : ab_B} : decode (ab_code (zx σ n0 bf).1 2) 102 = .ok (.lcmp, 1) := zd zm_2 (by decide +kernel)
theorem d_2_103 {σ : Nat → Nat} {n0 : Nat} {bf : ab_B} : decode (ab_code (zx σ n0 bf).1 2) 103 = .ok (.ifCond .gt 7, 3) := zd zm_2 (by decide +kernel)
theorem d_2_106 {σ : Nat → Nat} {n0 : Nat} {bf : ab_B} : decode (ab_code (zx σ n0 bf).1 2) 106 = .ok (.iconst 1, 1) := zd zm_2 (by decide +kernel)
theorem d_2_107 {σ : Nat → Nat} {n0 : Nat} {bf : ab_B} : decode (ab_code (zx σ n0 bf).1 2) 107 = .ok (.goto 4, 3) := zd zm_2 (by decide +kernel)
theorem d_2_110 {σ : Nat → Nat} {n0 : Nat} {bf : ab_B} : decode (ab_code (zx σ n0 bf).1 2) 110 = .ok (.iconst 0, 1) := zd zm_2 (by decide +kernel)
theorem d_2_111 {σ : Nat → Nat} {n0 : Nat} {bf : ab_B} : decode (ab_code (zx σ n0 bf).1 2) 111 = .ok (.ireturn, 1) := zd zm_2 (by decide +kernel)
theorem d_2_112 {σ : Nat → Nat} {n0 : Nat} {bf : ab_B} : decode (ab_code (zx σ n0 bf).1 2) 112 = .ok (.lload_n 1, 1) := zd zm_2 (by decide +kernel)
theorem d_2_113 {σ : Nat → Nat} {n0 : Nat} {bf : ab_B} : decode (ab_code (zx σ n0 bf).1 2) 113 = .ok (.lload_n 3, 1) := zd zm_2 (by decide +kernel)
theorem d_2_114 {σ : Nat → Nat} {n0 : Nat} {bf : ab_B} : decode (ab_code (zx σ n0 bf).1 2) 114 = .ok (.lcmp, 1) := zd zm_2 (by decide +kernel)
theorem d_2_115 {σ : Nat → Nat} {n0 : Nat} {bf : ab_B} : decode (ab_code (zx σ n0 bf).1 2) 115 = .ok (.ifCond .lt 7, 3) := zd zm_2 (by decide +kernel)
theorem d_2_118 {σ : Nat → Nat} {n0 : Nat} {bf : ab_B} : decode (ab_code (zx σ n0 bf).1 2) 118 = .ok (.iconst 1, 1) := zd zm_2 (by decide +kernel)
theorem d_2_119 {σ : Nat → Nat} {n0 : Nat} {bf : ab_B} : decode (ab_code (zx σ n0 bf).1 2) 119 = .ok (.goto 4, 3) := zd zm_2 (by decide +kernel)
theorem d_2_122 {σ : Nat → Nat} {n0 : Nat} {bf : ab_B} : decode (ab_code (zx σ n0 bf).1 2) 122 = .ok (.iconst 0, 1) := zd zm_2 (by decide +kernel)
theorem d_2_123 {σ : Nat → Nat} {n0 : Nat} {bf : ab_B} : decode (ab_code (zx σ n0 bf).1 2) 123 = .ok (.ireturn, 1) := zd zm_2 (by decide +kernel)
def w_X1_compared (X : zs_X) (d : Nat) (p0 : Int32) (p1 : Int64) (p3 : Int64) (S : zs_T) (Q : zs_Q) : Prop :=
  (((¬ p0.toInt = 60 → ¬ p0.toInt = 61 → ¬ p0.toInt = 62 → ¬ p0.toInt = 256 → ¬ p0.toInt = 257 → (((p1 < p3 → (Q (.returned (some (.int (0 : Int32)))) S)) ∧ (¬ (p1 < p3) → (Q (.returned (some (.int (1 : Int32)))) S))))) ∧ (p0.toInt = 60 → (((p3 ≤ p1 → (Q (.returned (some (.int (0 : Int32)))) S)) ∧ (¬ (p3 ≤ p1) → (Q (.returned (some (.int (1 : Int32)))) S))))) ∧ (p0.toInt = 61 → (((¬ p1 = p3 → (Q (.returned (some (.int (0 : Int32)))) S)) ∧ (¬ (¬ p1 = p3) → (Q (.returned (some (.int (1 : Int32)))) S))))) ∧ (p0.toInt = 62 → (((p1 ≤ p3 → (Q (.returned (some (.int (0 : Int32)))) S)) ∧ (¬ (p1 ≤ p3) → (Q (.returned (some (.int (1 : Int32)))) S))))) ∧ (p0.toInt = 256 → (((p1 = p3 → (Q (.returned (some (.int (0 : Int32)))) S)) ∧ (¬ (p1 = p3) → (Q (.returned (some (.int (1 : Int32)))) S))))) ∧ (p0.toInt = 257 → (((p3 < p1 → (Q (.returned (some (.int (0 : Int32)))) S)) ∧ (¬ (p3 < p1) → (Q (.returned (some (.int (1 : Int32)))) S)))))))
theorem u_X1_compared {σ : Nat → Nat} {n0 : Nat} {bf : ab_B} {d : Nat} {p0 : Int32} {p1 : Int64} {p3 : Int64} {S : zs_T} {Q : zs_Q} (hB : zt_B bf) (hd : 1 ≤ d) (h : w_X1_compared (zx σ n0 bf) (d - 1) p0 p1 p3 S Q) : zs_C (zx σ n0 bf) d 2 [.int p0, .long p1, .long p3] S Q := by
  have hL : lv_args 0 [.int p0, .long p1, .long p3] = [(0, .int p0), (1, .long p1), (3, .long p3)] := rfl
  refine zs_C.of1 (hB.2 2 (by decide) (by decide)) hd (by rw [hL]; exact zs_sub_self _ (by exact ⟨rfl, rfl, rfl, trivial⟩)) ?_
  rw [hL]
  clear hL
  unfold w_X1_compared at h
  refine zu_iload_n d_2_0 rfl ?_
  refine zu_lsw d_2_1 (by decide) ?_
  by_cases c1 : p0.toInt = 60
  · have h := h.2.1 c1
    have hof : Op.lookupswitch.offset #[(60, 75), (61, 51), (62, 87), (256, 63), (257, 99)].toList 111 p0.toInt = 75 := by rw [c1]; decide
    rw [hof]
    refine ⟨by decide, ?_⟩
    show zs_U _ _ _ 76 _ _ _ _
    refine zu_lload_n d_2_76 rfl ?_
    refine zu_lload_n d_2_77 rfl ?_
    refine zu_lge (t := 86) d_2_78 d_2_79 rfl (fun c7 => ?_) (fun c7 => ?_)
    · have h := h.1 c7
      refine zu_iconst d_2_86 zi_0 ?_
      exact zu_iret d_2_87 zr_2 (zs_b_n (Or.inl rfl)) h
    · have h := h.2 c7
      refine zu_iconst d_2_82 zi_1 ?_
      refine zu_goto (t := 87) d_2_83 rfl ?_
      exact zu_iret d_2_87 zr_2 (zs_b_n (Or.inr rfl)) h
  by_cases c2 : p0.toInt = 61
  · have h := h.2.2.1 c2
    have hof : Op.lookupswitch.offset #[(60, 75), (61, 51), (62, 87), (256, 63), (257, 99)].toList 111 p0.toInt = 51 := by rw [c2]; decide
    rw [hof]
    refine ⟨by decide, ?_⟩
    show zs_U _ _ _ 52 _ _ _ _
    refine zu_lload_n d_2_52 rfl ?_
    refine zu_lload_n d_2_53 rfl ?_
    refine zu_lne (t := 62) d_2_54 d_2_55 rfl (fun c8 => ?_) (fun c8 => ?_)
    · have h := h.1 c8
      refine zu_iconst d_2_62 zi_0 ?_
      exact zu_iret d_2_63 zr_2 (zs_b_n (Or.inl rfl)) h
    · have h := h.2 c8
      refine zu_iconst d_2_58 zi_1 ?_
      refine zu_goto (t := 63) d_2_59 rfl ?_
      exact zu_iret d_2_63 zr_2 (zs_b_n (Or.inr rfl)) h
  by_cases c3 : p0.toInt = 62
  · have h := h.2.2.2.1 c3
    have hof : Op.lookupswitch.offset #[(60, 75), (61, 51), (62, 87), (256, 63), (257, 99)].toList 111 p0.toInt = 87 := by rw [c3]; decide
    rw [hof]
    refine ⟨by decide, ?_⟩
    show zs_U _ _ _ 88 _ _ _ _
    refine zu_lload_n d_2_88 rfl ?_
    refine zu_lload_n d_2_89 rfl ?_
    refine zu_lle (t := 98) d_2_90 d_2_91 rfl (fun c9 => ?_) (fun c9 => ?_)
    · have h := h.1 c9
      refine zu_iconst d_2_98 zi_0 ?_
      exact zu_iret d_2_99 zr_2 (zs_b_n (Or.inl rfl)) h
    · have h := h.2 c9
      refine zu_iconst d_2_94 zi_1 ?_
      refine zu_goto (t := 99) d_2_95 rfl ?_
      exact zu_iret d_2_99 zr_2 (zs_b_n (Or.inr rfl)) h
  by_cases c4 : p0.toInt = 256
  · have h := h.2.2.2.2.1 c4
    have hof : Op.lookupswitch.offset #[(60, 75), (61, 51), (62, 87), (256, 63), (257, 99)].toList 111 p0.toInt = 63 := by rw [c4]; decide
    rw [hof]
    refine ⟨by decide, ?_⟩
    show zs_U _ _ _ 64 _ _ _ _
    refine zu_lload_n d_2_64 rfl ?_
    refine zu_lload_n d_2_65 rfl ?_
    refine zu_leq (t := 74) d_2_66 d_2_67 rfl (fun c10 => ?_) (fun c10 => ?_)
    · have h := h.1 c10
      refine zu_iconst d_2_74 zi_0 ?_
      exact zu_iret d_2_75 zr_2 (zs_b_n (Or.inl rfl)) h
    · have h := h.2 c10
      refine zu_iconst d_2_70 zi_1 ?_
      refine zu_goto (t := 75) d_2_71 rfl ?_
      exact zu_iret d_2_75 zr_2 (zs_b_n (Or.inr rfl)) h
  by_cases c5 : p0.toInt = 257
  · have h := h.2.2.2.2.2 c5
    have hof : Op.lookupswitch.offset #[(60, 75), (61, 51), (62, 87), (256, 63), (257, 99)].toList 111 p0.toInt = 99 := by rw [c5]; decide
    rw [hof]
    refine ⟨by decide, ?_⟩
    show zs_U _ _ _ 100 _ _ _ _
    refine zu_lload_n d_2_100 rfl ?_
    refine zu_lload_n d_2_101 rfl ?_
    refine zu_lgt (t := 110) d_2_102 d_2_103 rfl (fun c11 => ?_) (fun c11 => ?_)
    · have h := h.1 c11
      refine zu_iconst d_2_110 zi_0 ?_
      exact zu_iret d_2_111 zr_2 (zs_b_n (Or.inl rfl)) h
    · have h := h.2 c11
      refine zu_iconst d_2_106 zi_1 ?_
      refine zu_goto (t := 111) d_2_107 rfl ?_
      exact zu_iret d_2_111 zr_2 (zs_b_n (Or.inr rfl)) h
  have h := h.1 c1 c2 c3 c4 c5
  have hof : Op.lookupswitch.offset #[(60, 75), (61, 51), (62, 87), (256, 63), (257, 99)].toList 111 p0.toInt = 111 := by simp [Op.lookupswitch.offset, c1, c2, c3, c4, c5, Ne.symm c1, Ne.symm c2, Ne.symm c3, Ne.symm c4, Ne.symm c5]
  rw [hof]
  refine ⟨by decide, ?_⟩
  show zs_U _ _ _ 112 _ _ _ _
  refine zu_lload_n d_2_112 rfl ?_
  refine zu_lload_n d_2_113 rfl ?_
  refine zu_llt (t := 122) d_2_114 d_2_115 rfl (fun c6 => ?_) (fun c6 => ?_)
  · have h := h.1 c6
    refine zu_iconst d_2_122 zi_0 ?_
    exact zu_iret d_2_123 zr_2 (zs_b_n (Or.inl rfl)) h
  · have h := h.2 c6
    refine zu_iconst d_2_118 zi_1 ?_
    refine zu_goto (t := 123) d_2_119 rfl ?_
    exact zu_iret d_2_123 zr_2 (zs_b_n (Or.inr rfl)) h
/-! SchemaPascal.fault()I -/
theorem zm_3 {σ : Nat → Nat} {n0 : Nat} {bf : ab_B} : ab_code (zx σ n0 bf).1 3 = prog_1_method_11_code := rfl
theorem zq_3 {σ : Nat → Nat} {n0 : Nat} {bf : ab_B} : ab_maxL (zx σ n0 bf).1 3 = 1 := rfl
theorem zr_3 {σ : Nat → Nat} {n0 : Nat} {bf : ab_B} : ab_ret (zx σ n0 bf).1 3 = (Option.some Jvm.ClassFile.FieldType.int) := rfl
theorem d_3_0 {σ : Nat → Nat} {n0 : Nat} {bf : ab_B} : decode (ab_code (zx σ n0 bf).1 3) 0 = .ok (.aload_n 0, 1) := zd zm_3 (by decide +kernel)
theorem d_3_1 {σ : Nat → Nat} {n0 : Nat} {bf : ab_B} : decode (ab_code (zx σ n0 bf).1 3) 1 = .ok (.getfield 100, 3) := zd zm_3 (by decide +kernel)
theorem d_3_4 {σ : Nat → Nat} {n0 : Nat} {bf : ab_B} : decode (ab_code (zx σ n0 bf).1 3) 4 = .ok (.ireturn, 1) := zd zm_3 (by decide +kernel)
def w_X1_fault (X : zs_X) (d : Nat) (p0 : Nat) (S : zs_T) (Q : zs_Q) : Prop :=
  (zs_K S p0 = some (.inl 0) ∧ Q (.returned (some (.int (zs_I S 2 p0)))) S)
theorem u_X1_fault {σ : Nat → Nat} {n0 : Nat} {bf : ab_B} {d : Nat} {p0 : Nat} {S : zs_T} {Q : zs_Q} (hB : zt_B bf) (hd : 1 ≤ d) (h : w_X1_fault (zx σ n0 bf) (d - 1) p0 S Q) : zs_C (zx σ n0 bf) d 3 [.ref p0] S Q := by
  have hL : lv_args 0 [.ref p0] = [(0, .ref p0)] := rfl
  refine zs_C.of1 (hB.2 3 (by decide) (by decide)) hd (by rw [hL]; exact zs_sub_self _ (by exact ⟨rfl, trivial⟩)) ?_
  rw [hL]
  clear hL
  unfold w_X1_fault at h
  refine zu_aload_n d_3_0 rfl (zs_ra _) ?_
  obtain ⟨k1, h⟩ := h
  refine zg_0_100 rfl d_3_1 k1 ?_
  exact zu_iret d_3_4 zr_3 rfl h
/-! SchemaPascal.feed(IIIII)I -/
theorem zm_4 {σ : Nat → Nat} {n0 : Nat} {bf : ab_B} : ab_code (zx σ n0 bf).1 4 = prog_1_method_7_code := rfl
theorem zq_4 {σ : Nat → Nat} {n0 : Nat} {bf : ab_B} : ab_maxL (zx σ n0 bf).1 4 = 6 := rfl
theorem zr_4 {σ : Nat → Nat} {n0 : Nat} {bf : ab_B} : ab_ret (zx σ n0 bf).1 4 = (Option.some Jvm.ClassFile.FieldType.int) := rfl
theorem d_4_0 {σ : Nat → Nat} {n0 : Nat} {bf : ab_B} : decode (ab_code (zx σ n0 bf).1 4) 0 = .ok (.aload_n 0, 1) := zd zm_4 (by decide +kernel)
theorem d_4_1 {σ : Nat → Nat} {n0 : Nat} {bf : ab_B} : decode (ab_code (zx σ n0 bf).1 4) 1 = .ok (.getfield 63, 3) := zd zm_4 (by decide +kernel)
theorem d_4_4 {σ : Nat → Nat} {n0 : Nat} {bf : ab_B} : decode (ab_code (zx σ n0 bf).1 4) 4 = .ok (.bipush 20, 2) := zd zm_4 (by decide +kernel)
theorem d_4_6 {σ : Nat → Nat} {n0 : Nat} {bf : ab_B} : decode (ab_code (zx σ n0 bf).1 4) 6 = .ok (.iadd, 1) := zd zm_4 (by decide +kernel)
theorem d_4_7 {σ : Nat → Nat} {n0 : Nat} {bf : ab_B} : decode (ab_code (zx σ n0 bf).1 4) 7 = .ok (.ldc 31, 2) := zd zm_4 (by decide +kernel)
theorem d_4_9 {σ : Nat → Nat} {n0 : Nat} {bf : ab_B} : decode (ab_code (zx σ n0 bf).1 4) 9 = .ok (.if_icmp .gt 7, 3) := zd zm_4 (by decide +kernel)
theorem d_4_12 {σ : Nat → Nat} {n0 : Nat} {bf : ab_B} : decode (ab_code (zx σ n0 bf).1 4) 12 = .ok (.iconst 1, 1) := zd zm_4 (by decide +kernel)
theorem d_4_13 {σ : Nat → Nat} {n0 : Nat} {bf : ab_B} : decode (ab_code (zx σ n0 bf).1 4) 13 = .ok (.goto 4, 3) := zd zm_4 (by decide +kernel)
theorem d_4_16 {σ : Nat → Nat} {n0 : Nat} {bf : ab_B} : decode (ab_code (zx σ n0 bf).1 4) 16 = .ok (.iconst 0, 1) := zd zm_4 (by decide +kernel)
theorem d_4_17 {σ : Nat → Nat} {n0 : Nat} {bf : ab_B} : decode (ab_code (zx σ n0 bf).1 4) 17 = .ok (.invokestatic 67, 3) := zd zm_4 (by decide +kernel)
theorem d_4_20 {σ : Nat → Nat} {n0 : Nat} {bf : ab_B} : decode (ab_code (zx σ n0 bf).1 4) 20 = .ok (.aload_n 0, 1) := zd zm_4 (by decide +kernel)
theorem d_4_21 {σ : Nat → Nat} {n0 : Nat} {bf : ab_B} : decode (ab_code (zx σ n0 bf).1 4) 21 = .ok (.iload_n 1, 1) := zd zm_4 (by decide +kernel)
theorem d_4_22 {σ : Nat → Nat} {n0 : Nat} {bf : ab_B} : decode (ab_code (zx σ n0 bf).1 4) 22 = .ok (.invokevirtual 71, 3) := zd zm_4 (by decide +kernel)
theorem d_4_25 {σ : Nat → Nat} {n0 : Nat} {bf : ab_B} : decode (ab_code (zx σ n0 bf).1 4) 25 = .ok (.aload_n 0, 1) := zd zm_4 (by decide +kernel)
theorem d_4_26 {σ : Nat → Nat} {n0 : Nat} {bf : ab_B} : decode (ab_code (zx σ n0 bf).1 4) 26 = .ok (.iload_n 2, 1) := zd zm_4 (by decide +kernel)
theorem d_4_27 {σ : Nat → Nat} {n0 : Nat} {bf : ab_B} : decode (ab_code (zx σ n0 bf).1 4) 27 = .ok (.invokevirtual 71, 3) := zd zm_4 (by decide +kernel)
theorem d_4_30 {σ : Nat → Nat} {n0 : Nat} {bf : ab_B} : decode (ab_code (zx σ n0 bf).1 4) 30 = .ok (.aload_n 0, 1) := zd zm_4 (by decide +kernel)
theorem d_4_31 {σ : Nat → Nat} {n0 : Nat} {bf : ab_B} : decode (ab_code (zx σ n0 bf).1 4) 31 = .ok (.iload_n 3, 1) := zd zm_4 (by decide +kernel)
theorem d_4_32 {σ : Nat → Nat} {n0 : Nat} {bf : ab_B} : decode (ab_code (zx σ n0 bf).1 4) 32 = .ok (.invokevirtual 71, 3) := zd zm_4 (by decide +kernel)
theorem d_4_35 {σ : Nat → Nat} {n0 : Nat} {bf : ab_B} : decode (ab_code (zx σ n0 bf).1 4) 35 = .ok (.aload_n 0, 1) := zd zm_4 (by decide +kernel)
theorem d_4_36 {σ : Nat → Nat} {n0 : Nat} {bf : ab_B} : decode (ab_code (zx σ n0 bf).1 4) 36 = .ok (.iload 4, 2) := zd zm_4 (by decide +kernel)
theorem d_4_38 {σ : Nat → Nat} {n0 : Nat} {bf : ab_B} : decode (ab_code (zx σ n0 bf).1 4) 38 = .ok (.invokevirtual 71, 3) := zd zm_4 (by decide +kernel)
theorem d_4_41 {σ : Nat → Nat} {n0 : Nat} {bf : ab_B} : decode (ab_code (zx σ n0 bf).1 4) 41 = .ok (.aload_n 0, 1) := zd zm_4 (by decide +kernel)
theorem d_4_42 {σ : Nat → Nat} {n0 : Nat} {bf : ab_B} : decode (ab_code (zx σ n0 bf).1 4) 42 = .ok (.iload 5, 2) := zd zm_4 (by decide +kernel)
theorem d_4_44 {σ : Nat → Nat} {n0 : Nat} {bf : ab_B} : decode (ab_code (zx σ n0 bf).1 4) 44 = .ok (.invokevirtual 71, 3) := zd zm_4 (by decide +kernel)
theorem d_4_47 {σ : Nat → Nat} {n0 : Nat} {bf : ab_B} : decode (ab_code (zx σ n0 bf).1 4) 47 = .ok (.aload_n 0, 1) := zd zm_4 (by decide +kernel)
theorem d_4_48 {σ : Nat → Nat} {n0 : Nat} {bf : ab_B} : decode (ab_code (zx σ n0 bf).1 4) 48 = .ok (.getfield 63, 3) := zd zm_4 (by decide +kernel)
theorem d_4_51 {σ : Nat → Nat} {n0 : Nat} {bf : ab_B} : decode (ab_code (zx σ n0 bf).1 4) 51 = .ok (.ireturn, 1) := zd zm_4 (by decide +kernel)
def w_X1_feed_47 (X : zs_X) (d : Nat) (p0 : Nat) (S : zs_T) (Q : zs_Q) : Prop :=
  (zs_K S p0 = some (.inl 0) ∧ Q (.returned (some (.int (zs_I S 1 p0)))) S)
theorem u_X1_feed_47 {σ : Nat → Nat} {n0 : Nat} {bf : ab_B} {d : Nat} {p0 : Nat} {S : zs_T} {Q : zs_Q} (hB : zt_B bf) (h : w_X1_feed_47 (zx σ n0 bf) d p0 S Q) : zs_U (zx σ n0 bf) d 4 47 [(0, .ref p0)] [] S Q := by
  unfold w_X1_feed_47 at h
  refine zu_aload_n d_4_47 rfl (zs_ra _) ?_
  obtain ⟨k1, h⟩ := h
  refine zg_0_63 rfl d_4_48 k1 ?_
  exact zu_iret d_4_51 zr_4 rfl h
def w_X1_feed_17 (X : zs_X) (d : Nat) (p0 : Nat) (p1 : Int32) (p2 : Int32) (p3 : Int32) (p4 : Int32) (p5 : Int32) (q0 : Int32) (S : zs_T) (Q : zs_Q) : Prop :=
  (zs_C X d 5 [.int q0] S (zs_kV (fun S1 => (zs_K S1 p0 = some (.inl 0) ∧ zs_C X d 6 [.ref p0, .int p1] S1 (zs_kV (fun S4 => (zs_K S4 p0 = some (.inl 0) ∧ zs_C X d 6 [.ref p0, .int p2] S4 (zs_kV (fun S7 => (zs_K S7 p0 = some (.inl 0) ∧ zs_C X d 6 [.ref p0, .int p3] S7 (zs_kV (fun S10 => (zs_K S10 p0 = some (.inl 0) ∧ zs_C X d 6 [.ref p0, .int p4] S10 (zs_kV (fun S13 => (zs_K S13 p0 = some (.inl 0) ∧ zs_C X d 6 [.ref p0, .int p5] S13 (zs_kV (fun S16 => w_X1_feed_47 X d p0 S16 Q) Q))) Q))) Q))) Q))) Q))) Q))
theorem u_X1_feed_17 {σ : Nat → Nat} {n0 : Nat} {bf : ab_B} {d : Nat} {p0 : Nat} {p1 : Int32} {p2 : Int32} {p3 : Int32} {p4 : Int32} {p5 : Int32} {q0 : Int32} {S : zs_T} {Q : zs_Q} (hB : zt_B bf) (h : w_X1_feed_17 (zx σ n0 bf) d p0 p1 p2 p3 p4 p5 q0 S Q) : zs_U (zx σ n0 bf) d 4 17 [(0, .ref p0), (1, .int p1), (2, .int p2), (3, .int p3), (4, .int p4), (5, .int p5)] [.int q0] S Q := by
  unfold w_X1_feed_17 at h
  refine zc_0_67 (x0 := q0) hB rfl d_4_17 (Nat.le_of_ble_eq_true rfl) h (fun S1 h => ?_)
  refine zu_aload_n d_4_20 rfl (zs_ra _) ?_
  refine zu_iload_n d_4_21 rfl ?_
  obtain ⟨k3, h⟩ := h
  refine zc_0_71 (x0 := p1) hB rfl k3 d_4_22 (Nat.le_of_ble_eq_true rfl) h (fun S4 h => ?_)
  refine zu_aload_n d_4_25 rfl (zs_ra _) ?_
  refine zu_iload_n d_4_26 rfl ?_
  obtain ⟨k6, h⟩ := h
  refine zc_0_71 (x0 := p2) hB rfl k6 d_4_27 (Nat.le_of_ble_eq_true rfl) h (fun S7 h => ?_)
  refine zu_aload_n d_4_30 rfl (zs_ra _) ?_
  refine zu_iload_n d_4_31 rfl ?_
  obtain ⟨k9, h⟩ := h
  refine zc_0_71 (x0 := p3) hB rfl k9 d_4_32 (Nat.le_of_ble_eq_true rfl) h (fun S10 h => ?_)
  refine zu_aload_n d_4_35 rfl (zs_ra _) ?_
  refine zu_iload d_4_36 rfl ?_
  obtain ⟨k12, h⟩ := h
  refine zc_0_71 (x0 := p4) hB rfl k12 d_4_38 (Nat.le_of_ble_eq_true rfl) h (fun S13 h => ?_)
  refine zu_aload_n d_4_41 rfl (zs_ra _) ?_
  refine zu_iload d_4_42 rfl ?_
  obtain ⟨k15, h⟩ := h
  refine zc_0_71 (x0 := p5) hB rfl k15 d_4_44 (Nat.le_of_ble_eq_true rfl) h (fun S16 h => ?_)
  exact (u_X1_feed_47 hB h).weak ⟨rfl, trivial⟩
def w_X1_feed (X : zs_X) (d : Nat) (p0 : Nat) (p1 : Int32) (p2 : Int32) (p3 : Int32) (p4 : Int32) (p5 : Int32) (S : zs_T) (Q : zs_Q) : Prop :=
  (zs_K S p0 = some (.inl 0) ∧ (((32768 : Int32) < ((zs_I S 1 p0) + (20 : Int32)) → (w_X1_feed_17 X d p0 p1 p2 p3 p4 p5 (0 : Int32) S Q)) ∧ (¬ ((32768 : Int32) < ((zs_I S 1 p0) + (20 : Int32))) → (w_X1_feed_17 X d p0 p1 p2 p3 p4 p5 (1 : Int32) S Q))))
theorem u_X1_feed {σ : Nat → Nat} {n0 : Nat} {bf : ab_B} {d : Nat} {p0 : Nat} {p1 : Int32} {p2 : Int32} {p3 : Int32} {p4 : Int32} {p5 : Int32} {S : zs_T} {Q : zs_Q} (hB : zt_B bf) (hd : 1 ≤ d) (h : w_X1_feed (zx σ n0 bf) (d - 1) p0 p1 p2 p3 p4 p5 S Q) : zs_C (zx σ n0 bf) d 4 [.ref p0, .int p1, .int p2, .int p3, .int p4, .int p5] S Q := by
  have hL : lv_args 0 [.ref p0, .int p1, .int p2, .int p3, .int p4, .int p5] = [(0, .ref p0), (1, .int p1), (2, .int p2), (3, .int p3), (4, .int p4), (5, .int p5)] := rfl
  refine zs_C.of1 (hB.2 4 (by decide) (by decide)) hd (by rw [hL]; exact zs_sub_self _ (by exact ⟨rfl, rfl, rfl, rfl, rfl, rfl, trivial⟩)) ?_
  rw [hL]
  clear hL
  unfold w_X1_feed at h
  refine zu_aload_n d_4_0 rfl (zs_ra _) ?_
  obtain ⟨k1, h⟩ := h
  refine zg_0_63 rfl d_4_1 k1 ?_
  refine zu_bipush d_4_4 zj_20 ?_
  refine zu_stk d_4_6 rfl rfl ?_
  refine zl_0_31 rfl d_4_7 ?_
  refine zu_cmpgt (t := 16) d_4_9 rfl (fun c2 => ?_) (fun c2 => ?_)
  · have h := h.1 c2
    refine zu_iconst d_4_16 zi_0 ?_
    exact (u_X1_feed_17 hB h).weak ⟨rfl, rfl, rfl, rfl, rfl, rfl, trivial⟩
  · have h := h.2 c2
    refine zu_iconst d_4_12 zi_1 ?_
    refine zu_goto (t := 17) d_4_13 rfl ?_
    exact (u_X1_feed_17 hB h).weak ⟨rfl, rfl, rfl, rfl, rfl, rfl, trivial⟩
/-! SchemaPascal.room(Z)V -/
theorem zm_5 {σ : Nat → Nat} {n0 : Nat} {bf : ab_B} : ab_code (zx σ n0 bf).1 5 = prog_1_method_4_code := rfl
theorem zq_5 {σ : Nat → Nat} {n0 : Nat} {bf : ab_B} : ab_maxL (zx σ n0 bf).1 5 = 1 := rfl
theorem zr_5 {σ : Nat → Nat} {n0 : Nat} {bf : ab_B} : ab_ret (zx σ n0 bf).1 5 = (Option.none : Option Jvm.ClassFile.FieldType) := rfl
theorem d_5_0 {σ : Nat → Nat} {n0 : Nat} {bf : ab_B} : decode (ab_code (zx σ n0 bf).1 5) 0 = .ok (.iload_n 0, 1) := zd zm_5 (by decide +kernel)
theorem d_5_1 {σ : Nat → Nat} {n0 : Nat} {bf : ab_B} : decode (ab_code (zx σ n0 bf).1 5) 1 = .ok (.ifCond .ne 13, 3) := zd zm_5 (by decide +kernel)
theorem d_5_4 {σ : Nat → Nat} {n0 : Nat} {bf : ab_B} : decode (ab_code (zx σ n0 bf).1 5) 4 = .ok (.new 23, 3) := zd zm_5 (by decide +kernel)
theorem d_5_7 {σ : Nat → Nat} {n0 : Nat} {bf : ab_B} : decode (ab_code (zx σ n0 bf).1 5) 7 = .ok (.dup, 1) := zd zm_5 (by decide +kernel)
theorem d_5_8 {σ : Nat → Nat} {n0 : Nat} {bf : ab_B} : decode (ab_code (zx σ n0 bf).1 5) 8 = .ok (.ldc 25, 2) := zd zm_5 (by decide +kernel)
theorem d_5_10 {σ : Nat → Nat} {n0 : Nat} {bf : ab_B} : decode (ab_code (zx σ n0 bf).1 5) 10 = .ok (.invokespecial 27, 3) := zd zm_5 (by decide +kernel)
theorem d_5_13 {σ : Nat → Nat} {n0 : Nat} {bf : ab_B} : decode (ab_code (zx σ n0 bf).1 5) 13 = .ok (.athrow, 1) := zd zm_5 (by decide +kernel)
theorem d_5_14 {σ : Nat → Nat} {n0 : Nat} {bf : ab_B} : decode (ab_code (zx σ n0 bf).1 5) 14 = .ok (.return_, 1) := zd zm_5 (by decide +kernel)
def w_X1_room (X : zs_X) (d : Nat) (p0 : Int32) (S : zs_T) (Q : zs_Q) : Prop :=
  (((¬ p0 = 0 → (Q (.returned none) S)) ∧ (¬ (¬ p0 = 0) → (∀ a2 S3, a2 = zs_N S → S3 = zs_nw S (.inl 18) 6 → zs_C X d 18000 [.ref a2, va_rf (some (zs_str X 5 25))] S3 (zs_kV (fun S7 => (Q (.threw a2) S7)) Q)))))
theorem u_X1_room {σ : Nat → Nat} {n0 : Nat} {bf : ab_B} {d : Nat} {p0 : Int32} {S : zs_T} {Q : zs_Q} (hB : zt_B bf) (hd : 1 ≤ d) (h : w_X1_room (zx σ n0 bf) (d - 1) p0 S Q) : zs_C (zx σ n0 bf) d 5 [.int p0] S Q := by
  have hL : lv_args 0 [.int p0] = [(0, .int p0)] := rfl
  refine zs_C.of1 (hB.2 5 (by decide) (by decide)) hd (by rw [hL]; exact zs_sub_self _ (by exact ⟨rfl, trivial⟩)) ?_
  rw [hL]
  clear hL
  unfold w_X1_room at h
  refine zu_iload_n d_5_0 rfl ?_
  refine zu_ifne (t := 14) d_5_1 rfl (fun c1 => ?_) (fun c1 => ?_)
  · have h := h.1 c1
    exact zu_vret d_5_14 zr_5 h
  · have h := h.2 c1
    refine zn_0_23 rfl d_5_4 ?_
    generalize e5 : zs_nw S (.inl 18) 6 = S3
    generalize e4 : zs_N S = a2
    have h := h a2 S3 e4.symm e5.symm
    have k6 := zs_kn e4 e5
    refine zu_dup d_5_7 rfl ?_
    refine zl_0_25 rfl d_5_8 ?_
    refine zc_0_27 (x0 := (some (zs_str (zx σ n0 bf) 5 25))) hB rfl d_5_10 (Nat.le_of_ble_eq_true rfl) h (fun S7 h => ?_)
    exact zu_throw d_5_13 h
/-! SchemaPascal.word(I)V -/
theorem zm_6 {σ : Nat → Nat} {n0 : Nat} {bf : ab_B} : ab_code (zx σ n0 bf).1 6 = prog_1_method_8_code := rfl
theorem zq_6 {σ : Nat → Nat} {n0 : Nat} {bf : ab_B} : ab_maxL (zx σ n0 bf).1 6 = 3 := rfl
theorem zr_6 {σ : Nat → Nat} {n0 : Nat} {bf : ab_B} : ab_ret (zx σ n0 bf).1 6 = (Option.none : Option Jvm.ClassFile.FieldType) := rfl
theorem d_6_0 {σ : Nat → Nat} {n0 : Nat} {bf : ab_B} : decode (ab_code (zx σ n0 bf).1 6) 0 = .ok (.bipush 24, 2) := zd zm_6 (by decide +kernel)
theorem d_6_2 {σ : Nat → Nat} {n0 : Nat} {bf : ab_B} : decode (ab_code (zx σ n0 bf).1 6) 2 = .ok (.istore_n 2, 1) := zd zm_6 (by decide +kernel)
theorem d_6_3 {σ : Nat → Nat} {n0 : Nat} {bf : ab_B} : decode (ab_code (zx σ n0 bf).1 6) 3 = .ok (.iload_n 2, 1) := zd zm_6 (by decide +kernel)
theorem d_6_4 {σ : Nat → Nat} {n0 : Nat} {bf : ab_B} : decode (ab_code (zx σ n0 bf).1 6) 4 = .ok (.ifCond .lt 29, 3) := zd zm_6 (by decide +kernel)
theorem d_6_7 {σ : Nat → Nat} {n0 : Nat} {bf : ab_B} : decode (ab_code (zx σ n0 bf).1 6) 7 = .ok (.aload_n 0, 1) := zd zm_6 (by decide +kernel)
theorem d_6_8 {σ : Nat → Nat} {n0 : Nat} {bf : ab_B} : decode (ab_code (zx σ n0 bf).1 6) 8 = .ok (.getfield 32, 3) := zd zm_6 (by decide +kernel)
theorem d_6_11 {σ : Nat → Nat} {n0 : Nat} {bf : ab_B} : decode (ab_code (zx σ n0 bf).1 6) 11 = .ok (.aload_n 0, 1) := zd zm_6 (by decide +kernel)
theorem d_6_12 {σ : Nat → Nat} {n0 : Nat} {bf : ab_B} : decode (ab_code (zx σ n0 bf).1 6) 12 = .ok (.dup, 1) := zd zm_6 (by decide +kernel)
theorem d_6_13 {σ : Nat → Nat} {n0 : Nat} {bf : ab_B} : decode (ab_code (zx σ n0 bf).1 6) 13 = .ok (.getfield 63, 3) := zd zm_6 (by decide +kernel)
theorem d_6_16 {σ : Nat → Nat} {n0 : Nat} {bf : ab_B} : decode (ab_code (zx σ n0 bf).1 6) 16 = .ok (.dup_x1, 1) := zd zm_6 (by decide +kernel)
theorem d_6_17 {σ : Nat → Nat} {n0 : Nat} {bf : ab_B} : decode (ab_code (zx σ n0 bf).1 6) 17 = .ok (.iconst 1, 1) := zd zm_6 (by decide +kernel)
theorem d_6_18 {σ : Nat → Nat} {n0 : Nat} {bf : ab_B} : decode (ab_code (zx σ n0 bf).1 6) 18 = .ok (.iadd, 1) := zd zm_6 (by decide +kernel)
theorem d_6_19 {σ : Nat → Nat} {n0 : Nat} {bf : ab_B} : decode (ab_code (zx σ n0 bf).1 6) 19 = .ok (.putfield 63, 3) := zd zm_6 (by decide +kernel)
theorem d_6_22 {σ : Nat → Nat} {n0 : Nat} {bf : ab_B} : decode (ab_code (zx σ n0 bf).1 6) 22 = .ok (.iload_n 1, 1) := zd zm_6 (by decide +kernel)
theorem d_6_23 {σ : Nat → Nat} {n0 : Nat} {bf : ab_B} : decode (ab_code (zx σ n0 bf).1 6) 23 = .ok (.iload_n 2, 1) := zd zm_6 (by decide +kernel)
theorem d_6_24 {σ : Nat → Nat} {n0 : Nat} {bf : ab_B} : decode (ab_code (zx σ n0 bf).1 6) 24 = .ok (.ishr, 1) := zd zm_6 (by decide +kernel)
theorem d_6_25 {σ : Nat → Nat} {n0 : Nat} {bf : ab_B} : decode (ab_code (zx σ n0 bf).1 6) 25 = .ok (.i2b, 1) := zd zm_6 (by decide +kernel)
theorem d_6_26 {σ : Nat → Nat} {n0 : Nat} {bf : ab_B} : decode (ab_code (zx σ n0 bf).1 6) 26 = .ok (.bastore, 1) := zd zm_6 (by decide +kernel)
theorem d_6_27 {σ : Nat → Nat} {n0 : Nat} {bf : ab_B} : decode (ab_code (zx σ n0 bf).1 6) 27 = .ok (.iinc 2 (-8), 3) := zd zm_6 (by decide +kernel)
theorem d_6_30 {σ : Nat → Nat} {n0 : Nat} {bf : ab_B} : decode (ab_code (zx σ n0 bf).1 6) 30 = .ok (.goto (-27), 3) := zd zm_6 (by decide +kernel)
theorem d_6_33 {σ : Nat → Nat} {n0 : Nat} {bf : ab_B} : decode (ab_code (zx σ n0 bf).1 6) 33 = .ok (.return_, 1) := zd zm_6 (by decide +kernel)
def w_X1_word_27 (X : zs_X) (d : Nat) (p0 : Nat) (p1 : Int32) (p2 : Int32) (S : zs_T) (Q : zs_Q) : Prop :=
  (zs_U X d 6 3 [(0, .ref p0), (1, .int p1), (2, .int (p2 + (-8 : Int32)))] [] S Q)
theorem u_X1_word_27 {σ : Nat → Nat} {n0 : Nat} {bf : ab_B} {d : Nat} {p0 : Nat} {p1 : Int32} {p2 : Int32} {S : zs_T} {Q : zs_Q} (hB : zt_B bf) (h : w_X1_word_27 (zx σ n0 bf) d p0 p1 p2 S Q) : zs_U (zx σ n0 bf) d 6 27 [(0, .ref p0), (1, .int p1), (2, .int p2)] [] S Q := by
  unfold w_X1_word_27 at h
  refine zu_iinc d_6_27 rfl zi_m8 (zs_lt zq_6 rfl) ?_
  refine zu_goto (t := 3) d_6_30 rfl ?_
  exact h.weak ⟨rfl, rfl, rfl, trivial⟩
def w_X1_word_3 (X : zs_X) (d : Nat) (p0 : Nat) (p1 : Int32) (p2 : Int32) (S : zs_T) (Q : zs_Q) : Prop :=
  (((p2 < 0 → (Q (.returned none) S)) ∧ (¬ (p2 < 0) → (zs_K S p0 = some (.inl 0) ∧ ab_n0 X.1 ≤ p0 ∧ ∀ S4, S4 = zs_sI S 1 p0 ((zs_I S 1 p0) + (1 : Int32)) → ∃ b7, (zs_R S 0 p0) = some b7 ∧ zs_A S b7 1 (zs_I S 1 p0) ∧ ab_n0 X.1 ≤ b7 ∧ ∀ S11, S11 = zs_si S4 b7 (zs_I S 1 p0).toNatClampNeg (vp_nar .byte (((p1 >>> (p2 &&& 31))).toInt8.toInt32)) → w_X1_word_27 X d p0 p1 p2 S11 Q))))
theorem u_X1_word_3 {σ : Nat → Nat} {n0 : Nat} {bf : ab_B} {d : Nat} {p0 : Nat} {p1 : Int32} {p2 : Int32} {S : zs_T} {Q : zs_Q} (hB : zt_B bf) (h : w_X1_word_3 (zx σ n0 bf) d p0 p1 p2 S Q) : zs_U (zx σ n0 bf) d 6 3 [(0, .ref p0), (1, .int p1), (2, .int p2)] [] S Q := by
  unfold w_X1_word_3 at h
  refine zu_iload_n d_6_3 rfl ?_
  refine zu_iflt (t := 33) d_6_4 rfl (fun c1 => ?_) (fun c1 => ?_)
  · have h := h.1 c1
    exact zu_vret d_6_33 zr_6 h
  · have h := h.2 c1
    refine zu_aload_n d_6_7 rfl (zs_ra _) ?_
    obtain ⟨k2, h⟩ := h
    refine zg_0_32 rfl d_6_8 k2 ?_
    refine zu_aload_n d_6_11 rfl (zs_ra _) ?_
    refine zu_dup d_6_12 rfl ?_
    refine zg_0_63 rfl d_6_13 k2 ?_
    refine zu_dup_x1 d_6_16 rfl rfl ?_
    refine zu_iconst d_6_17 zi_1 ?_
    refine zu_stk d_6_18 rfl rfl ?_
    obtain ⟨k3, h⟩ := h
    refine zp_0_63 (v := ((zs_I S 1 p0) + (1 : Int32))) rfl d_6_19 k2 k3 ?_
    generalize e5 : zs_sI S 1 p0 ((zs_I S 1 p0) + (1 : Int32)) = S4
    have h := h S4 e5.symm
    have K6 : ∀ b, zs_K S4 b = zs_K S b := zs_Kt e5 (zs_KsI _ _ _ _) (fun _ => rfl)
    refine zu_iload_n d_6_22 rfl ?_
    refine zu_iload_n d_6_23 rfl ?_
    refine zu_stk d_6_24 rfl rfl ?_
    refine zu_stk d_6_25 rfl rfl ?_
    obtain ⟨b7, e8, h⟩ := h
    refine zs_stk2 (zs_rfe e8) ?_
    obtain ⟨k9, h⟩ := h
    obtain ⟨k10, h⟩ := h
    refine zu_bast_byte (k := 1) d_6_26 rfl rfl k10 (zs_Ak K6 k9) ?_
    generalize e12 : zs_si S4 b7 (zs_I S 1 p0).toNatClampNeg (vp_nar .byte (((p1 >>> (p2 &&& 31))).toInt8.toInt32)) = S11
    have h := h S11 e12.symm
    have K13 : ∀ b, zs_K S11 b = zs_K S b := zs_Kt e12 (zs_Ksi _ _ _ _) K6
    exact (u_X1_word_27 hB h).weak ⟨rfl, rfl, rfl, trivial⟩
def w_X1_word (X : zs_X) (d : Nat) (p0 : Nat) (p1 : Int32) (S : zs_T) (Q : zs_Q) : Prop :=
  (zs_U X d 6 3 [(0, .ref p0), (1, .int p1), (2, .int (24 : Int32))] [] S Q)
theorem u_X1_word {σ : Nat → Nat} {n0 : Nat} {bf : ab_B} {d : Nat} {p0 : Nat} {p1 : Int32} {S : zs_T} {Q : zs_Q} (hB : zt_B bf) (hd : 1 ≤ d) (h : w_X1_word (zx σ n0 bf) (d - 1) p0 p1 S Q) : zs_C (zx σ n0 bf) d 6 [.ref p0, .int p1] S Q := by
  have hL : lv_args 0 [.ref p0, .int p1] = [(0, .ref p0), (1, .int p1)] := rfl
  refine zs_C.of1 (hB.2 6 (by decide) (by decide)) hd (by rw [hL]; exact zs_sub_self _ (by exact ⟨rfl, rfl, trivial⟩)) ?_
  rw [hL]
  clear hL
  unfold w_X1_word at h
  refine zu_bipush d_6_0 zj_24 ?_
  refine zu_istore_n d_6_2 (zs_lt zq_6 rfl) ?_
  exact h.weak ⟨rfl, rfl, rfl, trivial⟩
/-! SchemaPascal.end(I)V -/
theorem zm_7 {σ : Nat → Nat} {n0 : Nat} {bf : ab_B} : ab_code (zx σ n0 bf).1 7 = prog_1_method_9_code := rfl
theorem zq_7 {σ : Nat → Nat} {n0 : Nat} {bf : ab_B} : ab_maxL (zx σ n0 bf).1 7 = 2 := rfl
theorem zr_7 {σ : Nat → Nat} {n0 : Nat} {bf : ab_B} : ab_ret (zx σ n0 bf).1 7 = (Option.none : Option Jvm.ClassFile.FieldType) := rfl
theorem d_7_0 {σ : Nat → Nat} {n0 : Nat} {bf : ab_B} : decode (ab_code (zx σ n0 bf).1 7) 0 = .ok (.iload_n 1, 1) := zd zm_7 (by decide +kernel)
theorem d_7_1 {σ : Nat → Nat} {n0 : Nat} {bf : ab_B} : decode (ab_code (zx σ n0 bf).1 7) 1 = .ok (.ifCond .lt 15, 3) := zd zm_7 (by decide +kernel)
theorem d_7_4 {σ : Nat → Nat} {n0 : Nat} {bf : ab_B} : decode (ab_code (zx σ n0 bf).1 7) 4 = .ok (.iload_n 1, 1) := zd zm_7 (by decide +kernel)
theorem d_7_5 {σ : Nat → Nat} {n0 : Nat} {bf : ab_B} : decode (ab_code (zx σ n0 bf).1 7) 5 = .ok (.aload_n 0, 1) := zd zm_7 (by decide +kernel)
theorem d_7_6 {σ : Nat → Nat} {n0 : Nat} {bf : ab_B} : decode (ab_code (zx σ n0 bf).1 7) 6 = .ok (.getfield 63, 3) := zd zm_7 (by decide +kernel)
theorem d_7_9 {σ : Nat → Nat} {n0 : Nat} {bf : ab_B} : decode (ab_code (zx σ n0 bf).1 7) 9 = .ok (.if_icmp .gt 7, 3) := zd zm_7 (by decide +kernel)
theorem d_7_12 {σ : Nat → Nat} {n0 : Nat} {bf : ab_B} : decode (ab_code (zx σ n0 bf).1 7) 12 = .ok (.iconst 1, 1) := zd zm_7 (by decide +kernel)
theorem d_7_13 {σ : Nat → Nat} {n0 : Nat} {bf : ab_B} : decode (ab_code (zx σ n0 bf).1 7) 13 = .ok (.goto 4, 3) := zd zm_7 (by decide +kernel)
theorem d_7_16 {σ : Nat → Nat} {n0 : Nat} {bf : ab_B} : decode (ab_code (zx σ n0 bf).1 7) 16 = .ok (.iconst 0, 1) := zd zm_7 (by decide +kernel)
theorem d_7_17 {σ : Nat → Nat} {n0 : Nat} {bf : ab_B} : decode (ab_code (zx σ n0 bf).1 7) 17 = .ok (.invokestatic 75, 3) := zd zm_7 (by decide +kernel)
theorem d_7_20 {σ : Nat → Nat} {n0 : Nat} {bf : ab_B} : decode (ab_code (zx σ n0 bf).1 7) 20 = .ok (.aload_n 0, 1) := zd zm_7 (by decide +kernel)
theorem d_7_21 {σ : Nat → Nat} {n0 : Nat} {bf : ab_B} : decode (ab_code (zx σ n0 bf).1 7) 21 = .ok (.iload_n 1, 1) := zd zm_7 (by decide +kernel)
theorem d_7_22 {σ : Nat → Nat} {n0 : Nat} {bf : ab_B} : decode (ab_code (zx σ n0 bf).1 7) 22 = .ok (.putfield 63, 3) := zd zm_7 (by decide +kernel)
theorem d_7_25 {σ : Nat → Nat} {n0 : Nat} {bf : ab_B} : decode (ab_code (zx σ n0 bf).1 7) 25 = .ok (.return_, 1) := zd zm_7 (by decide +kernel)
def w_X1_end_17 (X : zs_X) (d : Nat) (p0 : Nat) (p1 : Int32) (q0 : Int32) (S : zs_T) (Q : zs_Q) : Prop :=
  (zs_C X d 8 [.int q0] S (zs_kV (fun S1 => (zs_K S1 p0 = some (.inl 0) ∧ ab_n0 X.1 ≤ p0 ∧ ∀ S5, S5 = zs_sI S1 1 p0 p1 → Q (.returned none) S5)) Q))
theorem u_X1_end_17 {σ : Nat → Nat} {n0 : Nat} {bf : ab_B} {d : Nat} {p0 : Nat} {p1 : Int32} {q0 : Int32} {S : zs_T} {Q : zs_Q} (hB : zt_B bf) (h : w_X1_end_17 (zx σ n0 bf) d p0 p1 q0 S Q) : zs_U (zx σ n0 bf) d 7 17 [(0, .ref p0), (1, .int p1)] [.int q0] S Q := by
  unfold w_X1_end_17 at h
  refine zc_0_75 (x0 := q0) hB rfl d_7_17 (Nat.le_of_ble_eq_true rfl) h (fun S1 h => ?_)
  refine zu_aload_n d_7_20 rfl (zs_ra _) ?_
  refine zu_iload_n d_7_21 rfl ?_
  obtain ⟨k3, h⟩ := h
  obtain ⟨k4, h⟩ := h
  refine zp_0_63 (v := p1) rfl d_7_22 k3 k4 ?_
  generalize e6 : zs_sI S1 1 p0 p1 = S5
  have h := h S5 e6.symm
  have K7 : ∀ b, zs_K S5 b = zs_K S1 b := zs_Kt e6 (zs_KsI _ _ _ _) (fun _ => rfl)
  exact zu_vret d_7_25 zr_7 h
def w_X1_end_16 (X : zs_X) (d : Nat) (p0 : Nat) (p1 : Int32) (S : zs_T) (Q : zs_Q) : Prop :=
  (w_X1_end_17 X d p0 p1 (0 : Int32) S Q)
theorem u_X1_end_16 {σ : Nat → Nat} {n0 : Nat} {bf : ab_B} {d : Nat} {p0 : Nat} {p1 : Int32} {S : zs_T} {Q : zs_Q} (hB : zt_B bf) (h : w_X1_end_16 (zx σ n0 bf) d p0 p1 S Q) : zs_U (zx σ n0 bf) d 7 16 [(0, .ref p0), (1, .int p1)] [] S Q := by
  unfold w_X1_end_16 at h
  refine zu_iconst d_7_16 zi_0 ?_
  exact (u_X1_end_17 hB h).weak ⟨rfl, rfl, trivial⟩
def w_X1_end (X : zs_X) (d : Nat) (p0 : Nat) (p1 : Int32) (S : zs_T) (Q : zs_Q) : Prop :=
  (((p1 < 0 → w_X1_end_16 X d p0 p1 S Q) ∧ (¬ (p1 < 0) → (zs_K S p0 = some (.inl 0) ∧ (((zs_I S 1 p0) < p1 → w_X1_end_16 X d p0 p1 S Q) ∧ (¬ ((zs_I S 1 p0) < p1) → (w_X1_end_17 X d p0 p1 (1 : Int32) S Q)))))))
theorem u_X1_end {σ : Nat → Nat} {n0 : Nat} {bf : ab_B} {d : Nat} {p0 : Nat} {p1 : Int32} {S : zs_T} {Q : zs_Q} (hB : zt_B bf) (hd : 1 ≤ d) (h : w_X1_end (zx σ n0 bf) (d - 1) p0 p1 S Q) : zs_C (zx σ n0 bf) d 7 [.ref p0, .int p1] S Q := by
  have hL : lv_args 0 [.ref p0, .int p1] = [(0, .ref p0), (1, .int p1)] := rfl
  refine zs_C.of1 (hB.2 7 (by decide) (by decide)) hd (by rw [hL]; exact zs_sub_self _ (by exact ⟨rfl, rfl, trivial⟩)) ?_
  rw [hL]
  clear hL
  unfold w_X1_end at h
  refine zu_iload_n d_7_0 rfl ?_
  refine zu_iflt (t := 16) d_7_1 rfl (fun c1 => ?_) (fun c1 => ?_)
  · have h := h.1 c1
    exact (u_X1_end_16 hB h).weak ⟨rfl, rfl, trivial⟩
  · have h := h.2 c1
    refine zu_iload_n d_7_4 rfl ?_
    refine zu_aload_n d_7_5 rfl (zs_ra _) ?_
    obtain ⟨k2, h⟩ := h
    refine zg_0_63 rfl d_7_6 k2 ?_
    refine zu_cmpgt (t := 16) d_7_9 rfl (fun c3 => ?_) (fun c3 => ?_)
    · have h := h.1 c3
      exact (u_X1_end_16 hB h).weak ⟨rfl, rfl, trivial⟩
    · have h := h.2 c3
      refine zu_iconst d_7_12 zi_1 ?_
      refine zu_goto (t := 17) d_7_13 rfl ?_
      exact (u_X1_end_17 hB h).weak ⟨rfl, rfl, trivial⟩
/-! SchemaPascal.need(Z)V -/
theorem zm_8 {σ : Nat → Nat} {n0 : Nat} {bf : ab_B} : ab_code (zx σ n0 bf).1 8 = prog_1_method_2_code := rfl
theorem zq_8 {σ : Nat → Nat} {n0 : Nat} {bf : ab_B} : ab_maxL (zx σ n0 bf).1 8 = 1 := rfl
theorem zr_8 {σ : Nat → Nat} {n0 : Nat} {bf : ab_B} : ab_ret (zx σ n0 bf).1 8 = (Option.none : Option Jvm.ClassFile.FieldType) := rfl
theorem d_8_0 {σ : Nat → Nat} {n0 : Nat} {bf : ab_B} : decode (ab_code (zx σ n0 bf).1 8) 0 = .ok (.iload_n 0, 1) := zd zm_8 (by decide +kernel)
theorem d_8_1 {σ : Nat → Nat} {n0 : Nat} {bf : ab_B} : decode (ab_code (zx σ n0 bf).1 8) 1 = .ok (.ifCond .ne 13, 3) := zd zm_8 (by decide +kernel)
theorem d_8_4 {σ : Nat → Nat} {n0 : Nat} {bf : ab_B} : decode (ab_code (zx σ n0 bf).1 8) 4 = .ok (.new 11, 3) := zd zm_8 (by decide +kernel)
theorem d_8_7 {σ : Nat → Nat} {n0 : Nat} {bf : ab_B} : decode (ab_code (zx σ n0 bf).1 8) 7 = .ok (.dup, 1) := zd zm_8 (by decide +kernel)
theorem d_8_8 {σ : Nat → Nat} {n0 : Nat} {bf : ab_B} : decode (ab_code (zx σ n0 bf).1 8) 8 = .ok (.ldc 13, 2) := zd zm_8 (by decide +kernel)
theorem d_8_10 {σ : Nat → Nat} {n0 : Nat} {bf : ab_B} : decode (ab_code (zx σ n0 bf).1 8) 10 = .ok (.invokespecial 15, 3) := zd zm_8 (by decide +kernel)
theorem d_8_13 {σ : Nat → Nat} {n0 : Nat} {bf : ab_B} : decode (ab_code (zx σ n0 bf).1 8) 13 = .ok (.athrow, 1) := zd zm_8 (by decide +kernel)
theorem d_8_14 {σ : Nat → Nat} {n0 : Nat} {bf : ab_B} : decode (ab_code (zx σ n0 bf).1 8) 14 = .ok (.return_, 1) := zd zm_8 (by decide +kernel)
def w_X1_need (X : zs_X) (d : Nat) (p0 : Int32) (S : zs_T) (Q : zs_Q) : Prop :=
  (((¬ p0 = 0 → (Q (.returned none) S)) ∧ (¬ (¬ p0 = 0) → (∀ a2 S3, a2 = zs_N S → S3 = zs_nw S (.inl 19) 6 → zs_C X d 19000 [.ref a2, va_rf (some (zs_str X 8 13))] S3 (zs_kV (fun S7 => (Q (.threw a2) S7)) Q)))))
theorem u_X1_need {σ : Nat → Nat} {n0 : Nat} {bf : ab_B} {d : Nat} {p0 : Int32} {S : zs_T} {Q : zs_Q} (hB : zt_B bf) (hd : 1 ≤ d) (h : w_X1_need (zx σ n0 bf) (d - 1) p0 S Q) : zs_C (zx σ n0 bf) d 8 [.int p0] S Q := by
  have hL : lv_args 0 [.int p0] = [(0, .int p0)] := rfl
  refine zs_C.of1 (hB.2 8 (by decide) (by decide)) hd (by rw [hL]; exact zs_sub_self _ (by exact ⟨rfl, trivial⟩)) ?_
  rw [hL]
  clear hL
  unfold w_X1_need at h
  refine zu_iload_n d_8_0 rfl ?_
  refine zu_ifne (t := 14) d_8_1 rfl (fun c1 => ?_) (fun c1 => ?_)
  · have h := h.1 c1
    exact zu_vret d_8_14 zr_8 h
  · have h := h.2 c1
    refine zn_0_11 rfl d_8_4 ?_
    generalize e5 : zs_nw S (.inl 19) 6 = S3
    generalize e4 : zs_N S = a2
    have h := h a2 S3 e4.symm e5.symm
    have k6 := zs_kn e4 e5
    refine zu_dup d_8_7 rfl ?_
    refine zl_0_13 rfl d_8_8 ?_
    refine zc_0_15 (x0 := (some (zs_str (zx σ n0 bf) 8 13))) hB rfl d_8_10 (Nat.le_of_ble_eq_true rfl) h (fun S7 h => ?_)
    exact zu_throw d_8_13 h
/-! SchemaPascal.start()V -/
theorem zm_9 {σ : Nat → Nat} {n0 : Nat} {bf : ab_B} : ab_code (zx σ n0 bf).1 9 = prog_1_method_12_code := rfl
theorem zq_9 {σ : Nat → Nat} {n0 : Nat} {bf : ab_B} : ab_maxL (zx σ n0 bf).1 9 = 1 := rfl
theorem zr_9 {σ : Nat → Nat} {n0 : Nat} {bf : ab_B} : ab_ret (zx σ n0 bf).1 9 = (Option.none : Option Jvm.ClassFile.FieldType) := rfl
theorem d_9_0 {σ : Nat → Nat} {n0 : Nat} {bf : ab_B} : decode (ab_code (zx σ n0 bf).1 9) 0 = .ok (.aload_n 0, 1) := zd zm_9 (by decide +kernel)
theorem d_9_1 {σ : Nat → Nat} {n0 : Nat} {bf : ab_B} : decode (ab_code (zx σ n0 bf).1 9) 1 = .ok (.getfield 97, 3) := zd zm_9 (by decide +kernel)
theorem d_9_4 {σ : Nat → Nat} {n0 : Nat} {bf : ab_B} : decode (ab_code (zx σ n0 bf).1 9) 4 = .ok (.invokestatic 115, 3) := zd zm_9 (by decide +kernel)
theorem d_9_7 {σ : Nat → Nat} {n0 : Nat} {bf : ab_B} : decode (ab_code (zx σ n0 bf).1 9) 7 = .ok (.aload_n 0, 1) := zd zm_9 (by decide +kernel)
theorem d_9_8 {σ : Nat → Nat} {n0 : Nat} {bf : ab_B} : decode (ab_code (zx σ n0 bf).1 9) 8 = .ok (.getfield 39, 3) := zd zm_9 (by decide +kernel)
theorem d_9_11 {σ : Nat → Nat} {n0 : Nat} {bf : ab_B} : decode (ab_code (zx σ n0 bf).1 9) 11 = .ok (.aload_n 0, 1) := zd zm_9 (by decide +kernel)
theorem d_9_12 {σ : Nat → Nat} {n0 : Nat} {bf : ab_B} : decode (ab_code (zx σ n0 bf).1 9) 12 = .ok (.getfield 46, 3) := zd zm_9 (by decide +kernel)
theorem d_9_15 {σ : Nat → Nat} {n0 : Nat} {bf : ab_B} : decode (ab_code (zx σ n0 bf).1 9) 15 = .ok (.invokevirtual 118, 3) := zd zm_9 (by decide +kernel)
theorem d_9_18 {σ : Nat → Nat} {n0 : Nat} {bf : ab_B} : decode (ab_code (zx σ n0 bf).1 9) 18 = .ok (.return_, 1) := zd zm_9 (by decide +kernel)
def w_X1_start (X : zs_X) (d : Nat) (p0 : Nat) (S : zs_T) (Q : zs_Q) : Prop :=
  (zs_K S p0 = some (.inl 0) ∧ zs_C X d 10 [.int (zs_I S 6 p0)] S (zs_kV (fun S2 => (zs_K S2 p0 = some (.inl 0) ∧ ∃ b5, (zs_R S2 3 p0) = some b5 ∧ zs_K S2 b5 = some (.inl 1) ∧ zs_C X d 1001 [.ref b5, va_rf (zs_R S2 4 p0)] S2 (zs_kV (fun S8 => (Q (.returned none) S8)) Q))) Q))
theorem u_X1_start {σ : Nat → Nat} {n0 : Nat} {bf : ab_B} {d : Nat} {p0 : Nat} {S : zs_T} {Q : zs_Q} (hB : zt_B bf) (hd : 1 ≤ d) (h : w_X1_start (zx σ n0 bf) (d - 1) p0 S Q) : zs_C (zx σ n0 bf) d 9 [.ref p0] S Q := by
  have hL : lv_args 0 [.ref p0] = [(0, .ref p0)] := rfl
  refine zs_C.of1 (hB.2 9 (by decide) (by decide)) hd (by rw [hL]; exact zs_sub_self _ (by exact ⟨rfl, trivial⟩)) ?_
  rw [hL]
  clear hL
  unfold w_X1_start at h
  refine zu_aload_n d_9_0 rfl (zs_ra _) ?_
  obtain ⟨k1, h⟩ := h
  refine zg_0_97 rfl d_9_1 k1 ?_
  refine zc_0_115 (x0 := (zs_I S 6 p0)) hB rfl d_9_4 (Nat.le_of_ble_eq_true rfl) h (fun S2 h => ?_)
  refine zu_aload_n d_9_7 rfl (zs_ra _) ?_
  obtain ⟨k4, h⟩ := h
  refine zg_0_39 rfl d_9_8 k4 ?_
  refine zu_aload_n d_9_11 rfl (zs_ra _) ?_
  refine zg_0_46 rfl d_9_12 k4 ?_
  obtain ⟨b5, e6, h⟩ := h
  refine zs_stk1 (zs_rfe e6) ?_
  obtain ⟨k7, h⟩ := h
  refine zc_0_118 (x0 := (zs_R S2 4 p0)) hB rfl k7 d_9_15 (Nat.le_of_ble_eq_true rfl) h (fun S8 h => ?_)
  exact zu_vret d_9_18 zr_9 h
/-! SchemaPascal.now(Z)V -/
theorem zm_10 {σ : Nat → Nat} {n0 : Nat} {bf : ab_B} : ab_code (zx σ n0 bf).1 10 = prog_1_method_3_code := rfl
theorem zq_10 {σ : Nat → Nat} {n0 : Nat} {bf : ab_B} : ab_maxL (zx σ n0 bf).1 10 = 1 := rfl
theorem zr_10 {σ : Nat → Nat} {n0 : Nat} {bf : ab_B} : ab_ret (zx σ n0 bf).1 10 = (Option.none : Option Jvm.ClassFile.FieldType) := rfl
theorem d_10_0 {σ : Nat → Nat} {n0 : Nat} {bf : ab_B} : decode (ab_code (zx σ n0 bf).1 10) 0 = .ok (.iload_n 0, 1) := zd zm_10 (by decide +kernel)
theorem d_10_1 {σ : Nat → Nat} {n0 : Nat} {bf : ab_B} : decode (ab_code (zx σ n0 bf).1 10) 1 = .ok (.ifCond .ne 13, 3) := zd zm_10 (by decide +kernel)
theorem d_10_4 {σ : Nat → Nat} {n0 : Nat} {bf : ab_B} : decode (ab_code (zx σ n0 bf).1 10) 4 = .ok (.new 18, 3) := zd zm_10 (by decide +kernel)
theorem d_10_7 {σ : Nat → Nat} {n0 : Nat} {bf : ab_B} : decode (ab_code (zx σ n0 bf).1 10) 7 = .ok (.dup, 1) := zd zm_10 (by decide +kernel)
theorem d_10_8 {σ : Nat → Nat} {n0 : Nat} {bf : ab_B} : decode (ab_code (zx σ n0 bf).1 10) 8 = .ok (.ldc 20, 2) := zd zm_10 (by decide +kernel)
theorem d_10_10 {σ : Nat → Nat} {n0 : Nat} {bf : ab_B} : decode (ab_code (zx σ n0 bf).1 10) 10 = .ok (.invokespecial 22, 3) := zd zm_10 (by decide +kernel)
theorem d_10_13 {σ : Nat → Nat} {n0 : Nat} {bf : ab_B} : decode (ab_code (zx σ n0 bf).1 10) 13 = .ok (.athrow, 1) := zd zm_10 (by decide +kernel)
theorem d_10_14 {σ : Nat → Nat} {n0 : Nat} {bf : ab_B} : decode (ab_code (zx σ n0 bf).1 10) 14 = .ok (.return_, 1) := zd zm_10 (by decide +kernel)
def w_X1_now (X : zs_X) (d : Nat) (p0 : Int32) (S : zs_T) (Q : zs_Q) : Prop :=
  (((¬ p0 = 0 → (Q (.returned none) S)) ∧ (¬ (¬ p0 = 0) → (∀ a2 S3, a2 = zs_N S → S3 = zs_nw S (.inl 23) 6 → zs_C X d 23000 [.ref a2, va_rf (some (zs_str X 10 20))] S3 (zs_kV (fun S7 => (Q (.threw a2) S7)) Q)))))
theorem u_X1_now {σ : Nat → Nat} {n0 : Nat} {bf : ab_B} {d : Nat} {p0 : Int32} {S : zs_T} {Q : zs_Q} (hB : zt_B bf) (hd : 1 ≤ d) (h : w_X1_now (zx σ n0 bf) (d - 1) p0 S Q) : zs_C (zx σ n0 bf) d 10 [.int p0] S Q := by
  have hL : lv_args 0 [.int p0] = [(0, .int p0)] := rfl
  refine zs_C.of1 (hB.2 10 (by decide) (by decide)) hd (by rw [hL]; exact zs_sub_self _ (by exact ⟨rfl, trivial⟩)) ?_
  rw [hL]
  clear hL
  unfold w_X1_now at h
  refine zu_iload_n d_10_0 rfl ?_
  refine zu_ifne (t := 14) d_10_1 rfl (fun c1 => ?_) (fun c1 => ?_)
  · have h := h.1 c1
    exact zu_vret d_10_14 zr_10 h
  · have h := h.2 c1
    refine zn_0_18 rfl d_10_4 ?_
    generalize e5 : zs_nw S (.inl 23) 6 = S3
    generalize e4 : zs_N S = a2
    have h := h a2 S3 e4.symm e5.symm
    have k6 := zs_kn e4 e5
    refine zu_dup d_10_7 rfl ?_
    refine zl_0_20 rfl d_10_8 ?_
    refine zc_0_22 (x0 := (some (zs_str (zx σ n0 bf) 10 20))) hB rfl d_10_10 (Nat.le_of_ble_eq_true rfl) h (fun S7 h => ?_)
    exact zu_throw d_10_13 h
/-! SchemaPascal.input(I)I -/
theorem zm_11 {σ : Nat → Nat} {n0 : Nat} {bf : ab_B} : ab_code (zx σ n0 bf).1 11 = prog_1_method_13_code := rfl
theorem zq_11 {σ : Nat → Nat} {n0 : Nat} {bf : ab_B} : ab_maxL (zx σ n0 bf).1 11 = 2 := rfl
theorem zr_11 {σ : Nat → Nat} {n0 : Nat} {bf : ab_B} : ab_ret (zx σ n0 bf).1 11 = (Option.some Jvm.ClassFile.FieldType.int) := rfl
theorem d_11_0 {σ : Nat → Nat} {n0 : Nat} {bf : ab_B} : decode (ab_code (zx σ n0 bf).1 11) 0 = .ok (.iload_n 1, 1) := zd zm_11 (by decide +kernel)
theorem d_11_1 {σ : Nat → Nat} {n0 : Nat} {bf : ab_B} : decode (ab_code (zx σ n0 bf).1 11) 1 = .ok (.i2l, 1) := zd zm_11 (by decide +kernel)
theorem d_11_2 {σ : Nat → Nat} {n0 : Nat} {bf : ab_B} : decode (ab_code (zx σ n0 bf).1 11) 2 = .ok (.ldc2_w 122, 3) := zd zm_11 (by decide +kernel)
theorem d_11_5 {σ : Nat → Nat} {n0 : Nat} {bf : ab_B} : decode (ab_code (zx σ n0 bf).1 11) 5 = .ok (.lcmp, 1) := zd zm_11 (by decide +kernel)
theorem d_11_6 {σ : Nat → Nat} {n0 : Nat} {bf : ab_B} : decode (ab_code (zx σ n0 bf).1 11) 6 = .ok (.ifCond .lt 7, 3) := zd zm_11 (by decide +kernel)
theorem d_11_9 {σ : Nat → Nat} {n0 : Nat} {bf : ab_B} : decode (ab_code (zx σ n0 bf).1 11) 9 = .ok (.iconst 1, 1) := zd zm_11 (by decide +kernel)
theorem d_11_10 {σ : Nat → Nat} {n0 : Nat} {bf : ab_B} : decode (ab_code (zx σ n0 bf).1 11) 10 = .ok (.goto 4, 3) := zd zm_11 (by decide +kernel)
theorem d_11_13 {σ : Nat → Nat} {n0 : Nat} {bf : ab_B} : decode (ab_code (zx σ n0 bf).1 11) 13 = .ok (.iconst 0, 1) := zd zm_11 (by decide +kernel)
theorem d_11_14 {σ : Nat → Nat} {n0 : Nat} {bf : ab_B} : decode (ab_code (zx σ n0 bf).1 11) 14 = .ok (.invokestatic 75, 3) := zd zm_11 (by decide +kernel)
theorem d_11_17 {σ : Nat → Nat} {n0 : Nat} {bf : ab_B} : decode (ab_code (zx σ n0 bf).1 11) 17 = .ok (.aload_n 0, 1) := zd zm_11 (by decide +kernel)
theorem d_11_18 {σ : Nat → Nat} {n0 : Nat} {bf : ab_B} : decode (ab_code (zx σ n0 bf).1 11) 18 = .ok (.getfield 39, 3) := zd zm_11 (by decide +kernel)
theorem d_11_21 {σ : Nat → Nat} {n0 : Nat} {bf : ab_B} : decode (ab_code (zx σ n0 bf).1 11) 21 = .ok (.getfield 124, 3) := zd zm_11 (by decide +kernel)
theorem d_11_24 {σ : Nat → Nat} {n0 : Nat} {bf : ab_B} : decode (ab_code (zx σ n0 bf).1 11) 24 = .ok (.sipush 1000, 3) := zd zm_11 (by decide +kernel)
theorem d_11_27 {σ : Nat → Nat} {n0 : Nat} {bf : ab_B} : decode (ab_code (zx σ n0 bf).1 11) 27 = .ok (.if_icmp .ge 7, 3) := zd zm_11 (by decide +kernel)
theorem d_11_30 {σ : Nat → Nat} {n0 : Nat} {bf : ab_B} : decode (ab_code (zx σ n0 bf).1 11) 30 = .ok (.iconst 1, 1) := zd zm_11 (by decide +kernel)
theorem d_11_31 {σ : Nat → Nat} {n0 : Nat} {bf : ab_B} : decode (ab_code (zx σ n0 bf).1 11) 31 = .ok (.goto 4, 3) := zd zm_11 (by decide +kernel)
theorem d_11_34 {σ : Nat → Nat} {n0 : Nat} {bf : ab_B} : decode (ab_code (zx σ n0 bf).1 11) 34 = .ok (.iconst 0, 1) := zd zm_11 (by decide +kernel)
theorem d_11_35 {σ : Nat → Nat} {n0 : Nat} {bf : ab_B} : decode (ab_code (zx σ n0 bf).1 11) 35 = .ok (.invokestatic 67, 3) := zd zm_11 (by decide +kernel)
theorem d_11_38 {σ : Nat → Nat} {n0 : Nat} {bf : ab_B} : decode (ab_code (zx σ n0 bf).1 11) 38 = .ok (.aload_n 0, 1) := zd zm_11 (by decide +kernel)
theorem d_11_39 {σ : Nat → Nat} {n0 : Nat} {bf : ab_B} : decode (ab_code (zx σ n0 bf).1 11) 39 = .ok (.getfield 39, 3) := zd zm_11 (by decide +kernel)
theorem d_11_42 {σ : Nat → Nat} {n0 : Nat} {bf : ab_B} : decode (ab_code (zx σ n0 bf).1 11) 42 = .ok (.getfield 127, 3) := zd zm_11 (by decide +kernel)
theorem d_11_45 {σ : Nat → Nat} {n0 : Nat} {bf : ab_B} : decode (ab_code (zx σ n0 bf).1 11) 45 = .ok (.aload_n 0, 1) := zd zm_11 (by decide +kernel)
theorem d_11_46 {σ : Nat → Nat} {n0 : Nat} {bf : ab_B} : decode (ab_code (zx σ n0 bf).1 11) 46 = .ok (.getfield 39, 3) := zd zm_11 (by decide +kernel)
theorem d_11_49 {σ : Nat → Nat} {n0 : Nat} {bf : ab_B} : decode (ab_code (zx σ n0 bf).1 11) 49 = .ok (.getfield 131, 3) := zd zm_11 (by decide +kernel)
theorem d_11_52 {σ : Nat → Nat} {n0 : Nat} {bf : ab_B} : decode (ab_code (zx σ n0 bf).1 11) 52 = .ok (.aload_n 0, 1) := zd zm_11 (by decide +kernel)
theorem d_11_53 {σ : Nat → Nat} {n0 : Nat} {bf : ab_B} : decode (ab_code (zx σ n0 bf).1 11) 53 = .ok (.getfield 39, 3) := zd zm_11 (by decide +kernel)
theorem d_11_56 {σ : Nat → Nat} {n0 : Nat} {bf : ab_B} : decode (ab_code (zx σ n0 bf).1 11) 56 = .ok (.dup, 1) := zd zm_11 (by decide +kernel)
theorem d_11_57 {σ : Nat → Nat} {n0 : Nat} {bf : ab_B} : decode (ab_code (zx σ n0 bf).1 11) 57 = .ok (.getfield 124, 3) := zd zm_11 (by decide +kernel)
theorem d_11_60 {σ : Nat → Nat} {n0 : Nat} {bf : ab_B} : decode (ab_code (zx σ n0 bf).1 11) 60 = .ok (.dup_x1, 1) := zd zm_11 (by decide +kernel)
theorem d_11_61 {σ : Nat → Nat} {n0 : Nat} {bf : ab_B} : decode (ab_code (zx σ n0 bf).1 11) 61 = .ok (.iconst 1, 1) := zd zm_11 (by decide +kernel)
theorem d_11_62 {σ : Nat → Nat} {n0 : Nat} {bf : ab_B} : decode (ab_code (zx σ n0 bf).1 11) 62 = .ok (.iadd, 1) := zd zm_11 (by decide +kernel)
theorem d_11_63 {σ : Nat → Nat} {n0 : Nat} {bf : ab_B} : decode (ab_code (zx σ n0 bf).1 11) 63 = .ok (.putfield 124, 3) := zd zm_11 (by decide +kernel)
theorem d_11_66 {σ : Nat → Nat} {n0 : Nat} {bf : ab_B} : decode (ab_code (zx σ n0 bf).1 11) 66 = .ok (.iadd, 1) := zd zm_11 (by decide +kernel)
theorem d_11_67 {σ : Nat → Nat} {n0 : Nat} {bf : ab_B} : decode (ab_code (zx σ n0 bf).1 11) 67 = .ok (.sipush 1000, 3) := zd zm_11 (by decide +kernel)
theorem d_11_70 {σ : Nat → Nat} {n0 : Nat} {bf : ab_B} : decode (ab_code (zx σ n0 bf).1 11) 70 = .ok (.irem, 1) := zd zm_11 (by decide +kernel)
theorem d_11_71 {σ : Nat → Nat} {n0 : Nat} {bf : ab_B} : decode (ab_code (zx σ n0 bf).1 11) 71 = .ok (.iload_n 1, 1) := zd zm_11 (by decide +kernel)
theorem d_11_72 {σ : Nat → Nat} {n0 : Nat} {bf : ab_B} : decode (ab_code (zx σ n0 bf).1 11) 72 = .ok (.i2l, 1) := zd zm_11 (by decide +kernel)
theorem d_11_73 {σ : Nat → Nat} {n0 : Nat} {bf : ab_B} : decode (ab_code (zx σ n0 bf).1 11) 73 = .ok (.lastore, 1) := zd zm_11 (by decide +kernel)
theorem d_11_74 {σ : Nat → Nat} {n0 : Nat} {bf : ab_B} : decode (ab_code (zx σ n0 bf).1 11) 74 = .ok (.aload_n 0, 1) := zd zm_11 (by decide +kernel)
theorem d_11_75 {σ : Nat → Nat} {n0 : Nat} {bf : ab_B} : decode (ab_code (zx σ n0 bf).1 11) 75 = .ok (.getfield 39, 3) := zd zm_11 (by decide +kernel)
theorem d_11_78 {σ : Nat → Nat} {n0 : Nat} {bf : ab_B} : decode (ab_code (zx σ n0 bf).1 11) 78 = .ok (.getfield 124, 3) := zd zm_11 (by decide +kernel)
theorem d_11_81 {σ : Nat → Nat} {n0 : Nat} {bf : ab_B} : decode (ab_code (zx σ n0 bf).1 11) 81 = .ok (.ireturn, 1) := zd zm_11 (by decide +kernel)
def w_X1_input_74 (X : zs_X) (d : Nat) (p0 : Nat) (S : zs_T) (Q : zs_Q) : Prop :=
  (zs_K S p0 = some (.inl 0) ∧ ∃ b2, (zs_R S 3 p0) = some b2 ∧ zs_K S b2 = some (.inl 1) ∧ Q (.returned (some (.int (zs_I S 1044 b2)))) S)
theorem u_X1_input_74 {σ : Nat → Nat} {n0 : Nat} {bf : ab_B} {d : Nat} {p0 : Nat} {S : zs_T} {Q : zs_Q} (hB : zt_B bf) (h : w_X1_input_74 (zx σ n0 bf) d p0 S Q) : zs_U (zx σ n0 bf) d 11 74 [(0, .ref p0)] [] S Q := by
  unfold w_X1_input_74 at h
  refine zu_aload_n d_11_74 rfl (zs_ra _) ?_
  obtain ⟨k1, h⟩ := h
  refine zg_0_39 rfl d_11_75 k1 ?_
  obtain ⟨b2, e3, h⟩ := h
  refine zs_stk0 (zs_rfe e3) ?_
  obtain ⟨k4, h⟩ := h
  refine zg_0_124 rfl d_11_78 k4 ?_
  exact zu_iret d_11_81 zr_11 rfl h
def w_X1_input_35 (X : zs_X) (d : Nat) (p0 : Nat) (p1 : Int32) (q0 : Int32) (S : zs_T) (Q : zs_Q) : Prop :=
  (zs_C X d 5 [.int q0] S (zs_kV (fun S1 => (zs_K S1 p0 = some (.inl 0) ∧ ∃ b4, (zs_R S1 3 p0) = some b4 ∧ zs_K S1 b4 = some (.inl 1) ∧ ab_n0 X.1 ≤ b4 ∧ ∀ S8, S8 = zs_sI S1 1044 b4 ((zs_I S1 1044 b4) + (1 : Int32)) → ∃ b11, (zs_R S1 1042 b4) = some b11 ∧ zs_A S1 b11 3 (((zs_I S1 1043 b4) + (zs_I S1 1044 b4)) - ((zs_I S1 1043 b4) + (zs_I S1 1044 b4)) / (1000 : Int32) * (1000 : Int32)) ∧ ab_n0 X.1 ≤ b11 ∧ ∀ S15, S15 = zs_sj S8 b11 (((zs_I S1 1043 b4) + (zs_I S1 1044 b4)) - ((zs_I S1 1043 b4) + (zs_I S1 1044 b4)) / (1000 : Int32) * (1000 : Int32)).toNatClampNeg ((p1).toInt64) → w_X1_input_74 X d p0 S15 Q)) Q))
theorem u_X1_input_35 {σ : Nat → Nat} {n0 : Nat} {bf : ab_B} {d : Nat} {p0 : Nat} {p1 : Int32} {q0 : Int32} {S : zs_T} {Q : zs_Q} (hB : zt_B bf) (h : w_X1_input_35 (zx σ n0 bf) d p0 p1 q0 S Q) : zs_U (zx σ n0 bf) d 11 35 [(0, .ref p0), (1, .int p1)] [.int q0] S Q := by
  unfold w_X1_input_35 at h
  refine zc_0_67 (x0 := q0) hB rfl d_11_35 (Nat.le_of_ble_eq_true rfl) h (fun S1 h => ?_)
  refine zu_aload_n d_11_38 rfl (zs_ra _) ?_
  obtain ⟨k3, h⟩ := h
  refine zg_0_39 rfl d_11_39 k3 ?_
  obtain ⟨b4, e5, h⟩ := h
  refine zs_stk0 (zs_rfe e5) ?_
  obtain ⟨k6, h⟩ := h
  refine zg_0_127 rfl d_11_42 k6 ?_
  refine zu_aload_n d_11_45 rfl (zs_ra _) ?_
  refine zg_0_39 rfl d_11_46 k3 ?_
  refine zs_stk0 (zs_rfe e5) ?_
  refine zg_0_131 rfl d_11_49 k6 ?_
  refine zu_aload_n d_11_52 rfl (zs_ra _) ?_
  refine zg_0_39 rfl d_11_53 k3 ?_
  refine zu_dup d_11_56 (zs_cat _) ?_
  refine zs_stk0 (zs_rfe e5) ?_
  refine zg_0_124 rfl d_11_57 k6 ?_
  refine zu_dup_x1 d_11_60 rfl (zs_cat _) ?_
  refine zu_iconst d_11_61 zi_1 ?_
  refine zu_stk d_11_62 rfl rfl ?_
  refine zs_stk1 (zs_rfe e5) ?_
  obtain ⟨k7, h⟩ := h
  refine zp_0_124 (v := ((zs_I S1 1044 b4) + (1 : Int32))) rfl d_11_63 k6 k7 ?_
  generalize e9 : zs_sI S1 1044 b4 ((zs_I S1 1044 b4) + (1 : Int32)) = S8
  have h := h S8 e9.symm
  have K10 : ∀ b, zs_K S8 b = zs_K S1 b := zs_Kt e9 (zs_KsI _ _ _ _) (fun _ => rfl)
  refine zu_stk d_11_66 rfl rfl ?_
  refine zu_sipush d_11_67 zh_1000 ?_
  refine zu_irem d_11_70 (by decide) ?_
  refine zu_iload_n d_11_71 rfl ?_
  refine zu_stk d_11_72 rfl rfl ?_
  obtain ⟨b11, e12, h⟩ := h
  refine zs_stk2 (zs_rfe e12) ?_
  obtain ⟨k13, h⟩ := h
  obtain ⟨k14, h⟩ := h
  refine zu_last (k := 3) d_11_73 rfl rfl k14 (zs_Ak K10 k13) ?_
  generalize e16 : zs_sj S8 b11 (((zs_I S1 1043 b4) + (zs_I S1 1044 b4)) - ((zs_I S1 1043 b4) + (zs_I S1 1044 b4)) / (1000 : Int32) * (1000 : Int32)).toNatClampNeg ((p1).toInt64) = S15
  have h := h S15 e16.symm
  have K17 : ∀ b, zs_K S15 b = zs_K S1 b := zs_Kt e16 (zs_Ksj _ _ _ _) K10
  exact (u_X1_input_74 hB h).weak ⟨rfl, trivial⟩
def w_X1_input_14 (X : zs_X) (d : Nat) (p0 : Nat) (p1 : Int32) (q0 : Int32) (S : zs_T) (Q : zs_Q) : Prop :=
  (zs_C X d 8 [.int q0] S (zs_kV (fun S1 => (zs_K S1 p0 = some (.inl 0) ∧ ∃ b4, (zs_R S1 3 p0) = some b4 ∧ zs_K S1 b4 = some (.inl 1) ∧ (((1000 : Int32) ≤ (zs_I S1 1044 b4) → (w_X1_input_35 X d p0 p1 (0 : Int32) S1 Q)) ∧ (¬ ((1000 : Int32) ≤ (zs_I S1 1044 b4)) → (w_X1_input_35 X d p0 p1 (1 : Int32) S1 Q))))) Q))
theorem u_X1_input_14 {σ : Nat → Nat} {n0 : Nat} {bf : ab_B} {d : Nat} {p0 : Nat} {p1 : Int32} {q0 : Int32} {S : zs_T} {Q : zs_Q} (hB : zt_B bf) (h : w_X1_input_14 (zx σ n0 bf) d p0 p1 q0 S Q) : zs_U (zx σ n0 bf) d 11 14 [(0, .ref p0), (1, .int p1)] [.int q0] S Q := by
  unfold w_X1_input_14 at h
  refine zc_0_75 (x0 := q0) hB rfl d_11_14 (Nat.le_of_ble_eq_true rfl) h (fun S1 h => ?_)
  refine zu_aload_n d_11_17 rfl (zs_ra _) ?_
  obtain ⟨k3, h⟩ := h
  refine zg_0_39 rfl d_11_18 k3 ?_
  obtain ⟨b4, e5, h⟩ := h
  refine zs_stk0 (zs_rfe e5) ?_
  obtain ⟨k6, h⟩ := h
  refine zg_0_124 rfl d_11_21 k6 ?_
  refine zu_sipush d_11_24 zh_1000 ?_
  refine zu_cmpge (t := 34) d_11_27 rfl (fun c7 => ?_) (fun c7 => ?_)
  · have h := h.1 c7
    refine zu_iconst d_11_34 zi_0 ?_
    exact (u_X1_input_35 hB h).weak ⟨rfl, rfl, trivial⟩
  · have h := h.2 c7
    refine zu_iconst d_11_30 zi_1 ?_
    refine zu_goto (t := 35) d_11_31 rfl ?_
    exact (u_X1_input_35 hB h).weak ⟨rfl, rfl, trivial⟩
def w_X1_input (X : zs_X) (d : Nat) (p0 : Nat) (p1 : Int32) (S : zs_T) (Q : zs_Q) : Prop :=
  (((((p1).toInt64) < (-2147483647 : Int64) → (w_X1_input_14 X d p0 p1 (0 : Int32) S Q)) ∧ (¬ (((p1).toInt64) < (-2147483647 : Int64)) → (w_X1_input_14 X d p0 p1 (1 : Int32) S Q))))
theorem u_X1_input {σ : Nat → Nat} {n0 : Nat} {bf : ab_B} {d : Nat} {p0 : Nat} {p1 : Int32} {S : zs_T} {Q : zs_Q} (hB : zt_B bf) (hd : 1 ≤ d) (h : w_X1_input (zx σ n0 bf) (d - 1) p0 p1 S Q) : zs_C (zx σ n0 bf) d 11 [.ref p0, .int p1] S Q := by
  have hL : lv_args 0 [.ref p0, .int p1] = [(0, .ref p0), (1, .int p1)] := rfl
  refine zs_C.of1 (hB.2 11 (by decide) (by decide)) hd (by rw [hL]; exact zs_sub_self _ (by exact ⟨rfl, rfl, trivial⟩)) ?_
  rw [hL]
  clear hL
  unfold w_X1_input at h
  refine zu_iload_n d_11_0 rfl ?_
  refine zu_stk d_11_1 rfl rfl ?_
  refine zl2_0_122 rfl d_11_2 ?_
  refine zu_llt (t := 13) d_11_5 d_11_6 rfl (fun c1 => ?_) (fun c1 => ?_)
  · have h := h.1 c1
    refine zu_iconst d_11_13 zi_0 ?_
    exact (u_X1_input_14 hB h).weak ⟨rfl, rfl, trivial⟩
  · have h := h.2 c1
    refine zu_iconst d_11_9 zi_1 ?_
    refine zu_goto (t := 14) d_11_10 rfl ?_
    exact (u_X1_input_14 hB h).weak ⟨rfl, rfl, trivial⟩
/-! SchemaPascal.step(I)I -/
theorem zm_12 {σ : Nat → Nat} {n0 : Nat} {bf : ab_B} : ab_code (zx σ n0 bf).1 12 = prog_1_method_14_code := rfl
theorem zq_12 {σ : Nat → Nat} {n0 : Nat} {bf : ab_B} : ab_maxL (zx σ n0 bf).1 12 = 2 := rfl
theorem zr_12 {σ : Nat → Nat} {n0 : Nat} {bf : ab_B} : ab_ret (zx σ n0 bf).1 12 = (Option.some Jvm.ClassFile.FieldType.int) := rfl
theorem d_12_0 {σ : Nat → Nat} {n0 : Nat} {bf : ab_B} : decode (ab_code (zx σ n0 bf).1 12) 0 = .ok (.iload_n 1, 1) := zd zm_12 (by decide +kernel)
theorem d_12_1 {σ : Nat → Nat} {n0 : Nat} {bf : ab_B} : decode (ab_code (zx σ n0 bf).1 12) 1 = .ok (.ifCond .lt 14, 3) := zd zm_12 (by decide +kernel)
theorem d_12_4 {σ : Nat → Nat} {n0 : Nat} {bf : ab_B} : decode (ab_code (zx σ n0 bf).1 12) 4 = .ok (.iload_n 1, 1) := zd zm_12 (by decide +kernel)
theorem d_12_5 {σ : Nat → Nat} {n0 : Nat} {bf : ab_B} : decode (ab_code (zx σ n0 bf).1 12) 5 = .ok (.sipush 20000, 3) := zd zm_12 (by decide +kernel)
theorem d_12_8 {σ : Nat → Nat} {n0 : Nat} {bf : ab_B} : decode (ab_code (zx σ n0 bf).1 12) 8 = .ok (.if_icmp .gt 7, 3) := zd zm_12 (by decide +kernel)
theorem d_12_11 {σ : Nat → Nat} {n0 : Nat} {bf : ab_B} : decode (ab_code (zx σ n0 bf).1 12) 11 = .ok (.iconst 1, 1) := zd zm_12 (by decide +kernel)
theorem d_12_12 {σ : Nat → Nat} {n0 : Nat} {bf : ab_B} : decode (ab_code (zx σ n0 bf).1 12) 12 = .ok (.goto 4, 3) := zd zm_12 (by decide +kernel)
theorem d_12_15 {σ : Nat → Nat} {n0 : Nat} {bf : ab_B} : decode (ab_code (zx σ n0 bf).1 12) 15 = .ok (.iconst 0, 1) := zd zm_12 (by decide +kernel)
theorem d_12_16 {σ : Nat → Nat} {n0 : Nat} {bf : ab_B} : decode (ab_code (zx σ n0 bf).1 12) 16 = .ok (.invokestatic 75, 3) := zd zm_12 (by decide +kernel)
theorem d_12_19 {σ : Nat → Nat} {n0 : Nat} {bf : ab_B} : decode (ab_code (zx σ n0 bf).1 12) 19 = .ok (.aload_n 0, 1) := zd zm_12 (by decide +kernel)
theorem d_12_20 {σ : Nat → Nat} {n0 : Nat} {bf : ab_B} : decode (ab_code (zx σ n0 bf).1 12) 20 = .ok (.getfield 39, 3) := zd zm_12 (by decide +kernel)
theorem d_12_23 {σ : Nat → Nat} {n0 : Nat} {bf : ab_B} : decode (ab_code (zx σ n0 bf).1 12) 23 = .ok (.getfield 78, 3) := zd zm_12 (by decide +kernel)
theorem d_12_26 {σ : Nat → Nat} {n0 : Nat} {bf : ab_B} : decode (ab_code (zx σ n0 bf).1 12) 26 = .ok (.ifCond .eq 17, 3) := zd zm_12 (by decide +kernel)
theorem d_12_29 {σ : Nat → Nat} {n0 : Nat} {bf : ab_B} : decode (ab_code (zx σ n0 bf).1 12) 29 = .ok (.aload_n 0, 1) := zd zm_12 (by decide +kernel)
theorem d_12_30 {σ : Nat → Nat} {n0 : Nat} {bf : ab_B} : decode (ab_code (zx σ n0 bf).1 12) 30 = .ok (.getfield 39, 3) := zd zm_12 (by decide +kernel)
theorem d_12_33 {σ : Nat → Nat} {n0 : Nat} {bf : ab_B} : decode (ab_code (zx σ n0 bf).1 12) 33 = .ok (.getfield 82, 3) := zd zm_12 (by decide +kernel)
theorem d_12_36 {σ : Nat → Nat} {n0 : Nat} {bf : ab_B} : decode (ab_code (zx σ n0 bf).1 12) 36 = .ok (.ifCond .ne 7, 3) := zd zm_12 (by decide +kernel)
theorem d_12_39 {σ : Nat → Nat} {n0 : Nat} {bf : ab_B} : decode (ab_code (zx σ n0 bf).1 12) 39 = .ok (.iconst 1, 1) := zd zm_12 (by decide +kernel)
theorem d_12_40 {σ : Nat → Nat} {n0 : Nat} {bf : ab_B} : decode (ab_code (zx σ n0 bf).1 12) 40 = .ok (.goto 4, 3) := zd zm_12 (by decide +kernel)
theorem d_12_43 {σ : Nat → Nat} {n0 : Nat} {bf : ab_B} : decode (ab_code (zx σ n0 bf).1 12) 43 = .ok (.iconst 0, 1) := zd zm_12 (by decide +kernel)
theorem d_12_44 {σ : Nat → Nat} {n0 : Nat} {bf : ab_B} : decode (ab_code (zx σ n0 bf).1 12) 44 = .ok (.invokestatic 115, 3) := zd zm_12 (by decide +kernel)
theorem d_12_47 {σ : Nat → Nat} {n0 : Nat} {bf : ab_B} : decode (ab_code (zx σ n0 bf).1 12) 47 = .ok (.aload_n 0, 1) := zd zm_12 (by decide +kernel)
theorem d_12_48 {σ : Nat → Nat} {n0 : Nat} {bf : ab_B} : decode (ab_code (zx σ n0 bf).1 12) 48 = .ok (.getfield 39, 3) := zd zm_12 (by decide +kernel)
theorem d_12_51 {σ : Nat → Nat} {n0 : Nat} {bf : ab_B} : decode (ab_code (zx σ n0 bf).1 12) 51 = .ok (.iload_n 1, 1) := zd zm_12 (by decide +kernel)
theorem d_12_52 {σ : Nat → Nat} {n0 : Nat} {bf : ab_B} : decode (ab_code (zx σ n0 bf).1 12) 52 = .ok (.invokevirtual 134, 3) := zd zm_12 (by decide +kernel)
theorem d_12_55 {σ : Nat → Nat} {n0 : Nat} {bf : ab_B} : decode (ab_code (zx σ n0 bf).1 12) 55 = .ok (.ireturn, 1) := zd zm_12 (by decide +kernel)
def w_X1_step_44 (X : zs_X) (d : Nat) (p0 : Nat) (p1 : Int32) (q0 : Int32) (S : zs_T) (Q : zs_Q) : Prop :=
  (zs_C X d 10 [.int q0] S (zs_kV (fun S1 => (zs_K S1 p0 = some (.inl 0) ∧ ∃ b4, (zs_R S1 3 p0) = some b4 ∧ zs_K S1 b4 = some (.inl 1) ∧ zs_C X d 1005 [.ref b4, .int p1] S1 (zs_kI (fun v8 S7 => (Q (.returned (some (.int v8))) S7)) Q))) Q))
theorem u_X1_step_44 {σ : Nat → Nat} {n0 : Nat} {bf : ab_B} {d : Nat} {p0 : Nat} {p1 : Int32} {q0 : Int32} {S : zs_T} {Q : zs_Q} (hB : zt_B bf) (h : w_X1_step_44 (zx σ n0 bf) d p0 p1 q0 S Q) : zs_U (zx σ n0 bf) d 12 44 [(0, .ref p0), (1, .int p1)] [.int q0] S Q := by
  unfold w_X1_step_44 at h
  refine zc_0_115 (x0 := q0) hB rfl d_12_44 (Nat.le_of_ble_eq_true rfl) h (fun S1 h => ?_)
  refine zu_aload_n d_12_47 rfl (zs_ra _) ?_
  obtain ⟨k3, h⟩ := h
  refine zg_0_39 rfl d_12_48 k3 ?_
  refine zu_iload_n d_12_51 rfl ?_
  obtain ⟨b4, e5, h⟩ := h
  refine zs_stk1 (zs_rfe e5) ?_
  obtain ⟨k6, h⟩ := h
  refine zc_0_134 (x0 := p1) hB rfl k6 d_12_52 (Nat.le_of_ble_eq_true rfl) h (fun v8 S7 h => ?_)
  exact zu_iret d_12_55 zr_12 rfl h
def w_X1_step_43 (X : zs_X) (d : Nat) (p0 : Nat) (p1 : Int32) (S : zs_T) (Q : zs_Q) : Prop :=
  (w_X1_step_44 X d p0 p1 (0 : Int32) S Q)
theorem u_X1_step_43 {σ : Nat → Nat} {n0 : Nat} {bf : ab_B} {d : Nat} {p0 : Nat} {p1 : Int32} {S : zs_T} {Q : zs_Q} (hB : zt_B bf) (h : w_X1_step_43 (zx σ n0 bf) d p0 p1 S Q) : zs_U (zx σ n0 bf) d 12 43 [(0, .ref p0), (1, .int p1)] [] S Q := by
  unfold w_X1_step_43 at h
  refine zu_iconst d_12_43 zi_0 ?_
  exact (u_X1_step_44 hB h).weak ⟨rfl, rfl, trivial⟩
def w_X1_step_16 (X : zs_X) (d : Nat) (p0 : Nat) (p1 : Int32) (q0 : Int32) (S : zs_T) (Q : zs_Q) : Prop :=
  (zs_C X d 8 [.int q0] S (zs_kV (fun S1 => (zs_K S1 p0 = some (.inl 0) ∧ ∃ b4, (zs_R S1 3 p0) = some b4 ∧ zs_K S1 b4 = some (.inl 1) ∧ (((zs_I S1 1038 b4) = 0 → w_X1_step_43 X d p0 p1 S1 Q) ∧ (¬ ((zs_I S1 1038 b4) = 0) → (((¬ (zs_I S1 1039 b4) = 0 → w_X1_step_43 X d p0 p1 S1 Q) ∧ (¬ (¬ (zs_I S1 1039 b4) = 0) → (w_X1_step_44 X d p0 p1 (1 : Int32) S1 Q)))))))) Q))
theorem u_X1_step_16 {σ : Nat → Nat} {n0 : Nat} {bf : ab_B} {d : Nat} {p0 : Nat} {p1 : Int32} {q0 : Int32} {S : zs_T} {Q : zs_Q} (hB : zt_B bf) (h : w_X1_step_16 (zx σ n0 bf) d p0 p1 q0 S Q) : zs_U (zx σ n0 bf) d 12 16 [(0, .ref p0), (1, .int p1)] [.int q0] S Q := by
  unfold w_X1_step_16 at h
  refine zc_0_75 (x0 := q0) hB rfl d_12_16 (Nat.le_of_ble_eq_true rfl) h (fun S1 h => ?_)
  refine zu_aload_n d_12_19 rfl (zs_ra _) ?_
  obtain ⟨k3, h⟩ := h
  refine zg_0_39 rfl d_12_20 k3 ?_
  obtain ⟨b4, e5, h⟩ := h
  refine zs_stk0 (zs_rfe e5) ?_
  obtain ⟨k6, h⟩ := h
  refine zg_0_78 rfl d_12_23 k6 ?_
  refine zu_ifeq (t := 43) d_12_26 rfl (fun c7 => ?_) (fun c7 => ?_)
  · have h := h.1 c7
    exact (u_X1_step_43 hB h).weak ⟨rfl, rfl, trivial⟩
  · have h := h.2 c7
    refine zu_aload_n d_12_29 rfl (zs_ra _) ?_
    refine zg_0_39 rfl d_12_30 k3 ?_
    refine zs_stk0 (zs_rfe e5) ?_
    refine zg_0_82 rfl d_12_33 k6 ?_
    refine zu_ifne (t := 43) d_12_36 rfl (fun c8 => ?_) (fun c8 => ?_)
    · have h := h.1 c8
      exact (u_X1_step_43 hB h).weak ⟨rfl, rfl, trivial⟩
    · have h := h.2 c8
      refine zu_iconst d_12_39 zi_1 ?_
      refine zu_goto (t := 44) d_12_40 rfl ?_
      exact (u_X1_step_44 hB h).weak ⟨rfl, rfl, trivial⟩
def w_X1_step_15 (X : zs_X) (d : Nat) (p0 : Nat) (p1 : Int32) (S : zs_T) (Q : zs_Q) : Prop :=
  (w_X1_step_16 X d p0 p1 (0 : Int32) S Q)
theorem u_X1_step_15 {σ : Nat → Nat} {n0 : Nat} {bf : ab_B} {d : Nat} {p0 : Nat} {p1 : Int32} {S : zs_T} {Q : zs_Q} (hB : zt_B bf) (h : w_X1_step_15 (zx σ n0 bf) d p0 p1 S Q) : zs_U (zx σ n0 bf) d 12 15 [(0, .ref p0), (1, .int p1)] [] S Q := by
  unfold w_X1_step_15 at h
  refine zu_iconst d_12_15 zi_0 ?_
  exact (u_X1_step_16 hB h).weak ⟨rfl, rfl, trivial⟩
def w_X1_step (X : zs_X) (d : Nat) (p0 : Nat) (p1 : Int32) (S : zs_T) (Q : zs_Q) : Prop :=
  (((p1 < 0 → w_X1_step_15 X d p0 p1 S Q) ∧ (¬ (p1 < 0) → ((((20000 : Int32) < p1 → w_X1_step_15 X d p0 p1 S Q) ∧ (¬ ((20000 : Int32) < p1) → (w_X1_step_16 X d p0 p1 (1 : Int32) S Q)))))))
theorem u_X1_step {σ : Nat → Nat} {n0 : Nat} {bf : ab_B} {d : Nat} {p0 : Nat} {p1 : Int32} {S : zs_T} {Q : zs_Q} (hB : zt_B bf) (hd : 1 ≤ d) (h : w_X1_step (zx σ n0 bf) (d - 1) p0 p1 S Q) : zs_C (zx σ n0 bf) d 12 [.ref p0, .int p1] S Q := by
  have hL : lv_args 0 [.ref p0, .int p1] = [(0, .ref p0), (1, .int p1)] := rfl
  refine zs_C.of1 (hB.2 12 (by decide) (by decide)) hd (by rw [hL]; exact zs_sub_self _ (by exact ⟨rfl, rfl, trivial⟩)) ?_
  rw [hL]
  clear hL
  unfold w_X1_step at h
  refine zu_iload_n d_12_0 rfl ?_
  refine zu_iflt (t := 15) d_12_1 rfl (fun c1 => ?_) (fun c1 => ?_)
  · have h := h.1 c1
    exact (u_X1_step_15 hB h).weak ⟨rfl, rfl, trivial⟩
  · have h := h.2 c1
    refine zu_iload_n d_12_4 rfl ?_
    refine zu_sipush d_12_5 zh_20000 ?_
    refine zu_cmpgt (t := 15) d_12_8 rfl (fun c2 => ?_) (fun c2 => ?_)
    · have h := h.1 c2
      exact (u_X1_step_15 hB h).weak ⟨rfl, rfl, trivial⟩
    · have h := h.2 c2
      refine zu_iconst d_12_11 zi_1 ?_
      refine zu_goto (t := 16) d_12_12 rfl ?_
      exact (u_X1_step_16 hB h).weak ⟨rfl, rfl, trivial⟩
/-! SchemaPascal.told(I)I -/
theorem zm_13 {σ : Nat → Nat} {n0 : Nat} {bf : ab_B} : ab_code (zx σ n0 bf).1 13 = prog_1_method_16_code := rfl
theorem zq_13 {σ : Nat → Nat} {n0 : Nat} {bf : ab_B} : ab_maxL (zx σ n0 bf).1 13 = 3 := rfl
theorem zr_13 {σ : Nat → Nat} {n0 : Nat} {bf : ab_B} : ab_ret (zx σ n0 bf).1 13 = (Option.some Jvm.ClassFile.FieldType.int) := rfl
theorem d_13_0 {σ : Nat → Nat} {n0 : Nat} {bf : ab_B} : decode (ab_code (zx σ n0 bf).1 13) 0 = .ok (.aload_n 0, 1) := zd zm_13 (by decide +kernel)
theorem d_13_1 {σ : Nat → Nat} {n0 : Nat} {bf : ab_B} : decode (ab_code (zx σ n0 bf).1 13) 1 = .ok (.invokevirtual 141, 3) := zd zm_13 (by decide +kernel)
theorem d_13_4 {σ : Nat → Nat} {n0 : Nat} {bf : ab_B} : decode (ab_code (zx σ n0 bf).1 13) 4 = .ok (.istore_n 2, 1) := zd zm_13 (by decide +kernel)
theorem d_13_5 {σ : Nat → Nat} {n0 : Nat} {bf : ab_B} : decode (ab_code (zx σ n0 bf).1 13) 5 = .ok (.iload_n 1, 1) := zd zm_13 (by decide +kernel)
theorem d_13_6 {σ : Nat → Nat} {n0 : Nat} {bf : ab_B} : decode (ab_code (zx σ n0 bf).1 13) 6 = .ok (.tableswitch 219 0 11 #[62, 88, 96, 104, 112, 114, 130, 152, 174, 182, 190, 214], 62) := zd zm_13 (by decide +kernel)
theorem d_13_68 {σ : Nat → Nat} {n0 : Nat} {bf : ab_B} : decode (ab_code (zx σ n0 bf).1 13) 68 = .ok (.aload_n 0, 1) := zd zm_13 (by decide +kernel)
theorem d_13_69 {σ : Nat → Nat} {n0 : Nat} {bf : ab_B} : decode (ab_code (zx σ n0 bf).1 13) 69 = .ok (.getfield 39, 3) := zd zm_13 (by decide +kernel)
theorem d_13_72 {σ : Nat → Nat} {n0 : Nat} {bf : ab_B} : decode (ab_code (zx σ n0 bf).1 13) 72 = .ok (.getfield 78, 3) := zd zm_13 (by decide +kernel)
theorem d_13_75 {σ : Nat → Nat} {n0 : Nat} {bf : ab_B} : decode (ab_code (zx σ n0 bf).1 13) 75 = .ok (.ifCond .eq 17, 3) := zd zm_13 (by decide +kernel)
theorem d_13_78 {σ : Nat → Nat} {n0 : Nat} {bf : ab_B} : decode (ab_code (zx σ n0 bf).1 13) 78 = .ok (.aload_n 0, 1) := zd zm_13 (by decide +kernel)
theorem d_13_79 {σ : Nat → Nat} {n0 : Nat} {bf : ab_B} : decode (ab_code (zx σ n0 bf).1 13) 79 = .ok (.getfield 39, 3) := zd zm_13 (by decide +kernel)
theorem d_13_82 {σ : Nat → Nat} {n0 : Nat} {bf : ab_B} : decode (ab_code (zx σ n0 bf).1 13) 82 = .ok (.getfield 82, 3) := zd zm_13 (by decide +kernel)
theorem d_13_85 {σ : Nat → Nat} {n0 : Nat} {bf : ab_B} : decode (ab_code (zx σ n0 bf).1 13) 85 = .ok (.ifCond .ne 7, 3) := zd zm_13 (by decide +kernel)
theorem d_13_88 {σ : Nat → Nat} {n0 : Nat} {bf : ab_B} : decode (ab_code (zx σ n0 bf).1 13) 88 = .ok (.iconst 1, 1) := zd zm_13 (by decide +kernel)
theorem d_13_89 {σ : Nat → Nat} {n0 : Nat} {bf : ab_B} : decode (ab_code (zx σ n0 bf).1 13) 89 = .ok (.goto 4, 3) := zd zm_13 (by decide +kernel)
theorem d_13_92 {σ : Nat → Nat} {n0 : Nat} {bf : ab_B} : decode (ab_code (zx σ n0 bf).1 13) 92 = .ok (.iconst 0, 1) := zd zm_13 (by decide +kernel)
theorem d_13_93 {σ : Nat → Nat} {n0 : Nat} {bf : ab_B} : decode (ab_code (zx σ n0 bf).1 13) 93 = .ok (.ireturn, 1) := zd zm_13 (by decide +kernel)
theorem d_13_94 {σ : Nat → Nat} {n0 : Nat} {bf : ab_B} : decode (ab_code (zx σ n0 bf).1 13) 94 = .ok (.aload_n 0, 1) := zd zm_13 (by decide +kernel)
theorem d_13_95 {σ : Nat → Nat} {n0 : Nat} {bf : ab_B} : decode (ab_code (zx σ n0 bf).1 13) 95 = .ok (.getfield 39, 3) := zd zm_13 (by decide +kernel)
theorem d_13_98 {σ : Nat → Nat} {n0 : Nat} {bf : ab_B} : decode (ab_code (zx σ n0 bf).1 13) 98 = .ok (.getfield 91, 3) := zd zm_13 (by decide +kernel)
theorem d_13_101 {σ : Nat → Nat} {n0 : Nat} {bf : ab_B} : decode (ab_code (zx σ n0 bf).1 13) 101 = .ok (.ireturn, 1) := zd zm_13 (by decide +kernel)
theorem d_13_102 {σ : Nat → Nat} {n0 : Nat} {bf : ab_B} : decode (ab_code (zx σ n0 bf).1 13) 102 = .ok (.aload_n 0, 1) := zd zm_13 (by decide +kernel)
theorem d_13_103 {σ : Nat → Nat} {n0 : Nat} {bf : ab_B} : decode (ab_code (zx σ n0 bf).1 13) 103 = .ok (.getfield 39, 3) := zd zm_13 (by decide +kernel)
theorem d_13_106 {σ : Nat → Nat} {n0 : Nat} {bf : ab_B} : decode (ab_code (zx σ n0 bf).1 13) 106 = .ok (.getfield 85, 3) := zd zm_13 (by decide +kernel)
theorem d_13_109 {σ : Nat → Nat} {n0 : Nat} {bf : ab_B} : decode (ab_code (zx σ n0 bf).1 13) 109 = .ok (.ireturn, 1) := zd zm_13 (by decide +kernel)
theorem d_13_110 {σ : Nat → Nat} {n0 : Nat} {bf : ab_B} : decode (ab_code (zx σ n0 bf).1 13) 110 = .ok (.aload_n 0, 1) := zd zm_13 (by decide +kernel)
theorem d_13_111 {σ : Nat → Nat} {n0 : Nat} {bf : ab_B} : decode (ab_code (zx σ n0 bf).1 13) 111 = .ok (.getfield 39, 3) := zd zm_13 (by decide +kernel)
theorem d_13_114 {σ : Nat → Nat} {n0 : Nat} {bf : ab_B} : decode (ab_code (zx σ n0 bf).1 13) 114 = .ok (.getfield 88, 3) := zd zm_13 (by decide +kernel)
theorem d_13_117 {σ : Nat → Nat} {n0 : Nat} {bf : ab_B} : decode (ab_code (zx σ n0 bf).1 13) 117 = .ok (.ireturn, 1) := zd zm_13 (by decide +kernel)
theorem d_13_118 {σ : Nat → Nat} {n0 : Nat} {bf : ab_B} : decode (ab_code (zx σ n0 bf).1 13) 118 = .ok (.iload_n 2, 1) := zd zm_13 (by decide +kernel)
theorem d_13_119 {σ : Nat → Nat} {n0 : Nat} {bf : ab_B} : decode (ab_code (zx σ n0 bf).1 13) 119 = .ok (.ireturn, 1) := zd zm_13 (by decide +kernel)
theorem d_13_120 {σ : Nat → Nat} {n0 : Nat} {bf : ab_B} : decode (ab_code (zx σ n0 bf).1 13) 120 = .ok (.iload_n 2, 1) := zd zm_13 (by decide +kernel)
theorem d_13_121 {σ : Nat → Nat} {n0 : Nat} {bf : ab_B} : decode (ab_code (zx σ n0 bf).1 13) 121 = .ok (.ifCond .ne 7, 3) := zd zm_13 (by decide +kernel)
theorem d_13_124 {σ : Nat → Nat} {n0 : Nat} {bf : ab_B} : decode (ab_code (zx σ n0 bf).1 13) 124 = .ok (.iconst 0, 1) := zd zm_13 (by decide +kernel)
theorem d_13_125 {σ : Nat → Nat} {n0 : Nat} {bf : ab_B} : decode (ab_code (zx σ n0 bf).1 13) 125 = .ok (.goto 10, 3) := zd zm_13 (by decide +kernel)
theorem d_13_128 {σ : Nat → Nat} {n0 : Nat} {bf : ab_B} : decode (ab_code (zx σ n0 bf).1 13) 128 = .ok (.aload_n 0, 1) := zd zm_13 (by decide +kernel)
theorem d_13_129 {σ : Nat → Nat} {n0 : Nat} {bf : ab_B} : decode (ab_code (zx σ n0 bf).1 13) 129 = .ok (.getfield 39, 3) := zd zm_13 (by decide +kernel)
theorem d_13_132 {σ : Nat → Nat} {n0 : Nat} {bf : ab_B} : decode (ab_code (zx σ n0 bf).1 13) 132 = .ok (.getfield 145, 3) := zd zm_13 (by decide +kernel)
theorem d_13_135 {σ : Nat → Nat} {n0 : Nat} {bf : ab_B} : decode (ab_code (zx σ n0 bf).1 13) 135 = .ok (.ireturn, 1) := zd zm_13 (by decide +kernel)
theorem d_13_136 {σ : Nat → Nat} {n0 : Nat} {bf : ab_B} : decode (ab_code (zx σ n0 bf).1 13) 136 = .ok (.aload_n 0, 1) := zd zm_13 (by decide +kernel)
theorem d_13_137 {σ : Nat → Nat} {n0 : Nat} {bf : ab_B} : decode (ab_code (zx σ n0 bf).1 13) 137 = .ok (.getfield 39, 3) := zd zm_13 (by decide +kernel)
theorem d_13_140 {σ : Nat → Nat} {n0 : Nat} {bf : ab_B} : decode (ab_code (zx σ n0 bf).1 13) 140 = .ok (.getfield 78, 3) := zd zm_13 (by decide +kernel)
theorem d_13_143 {σ : Nat → Nat} {n0 : Nat} {bf : ab_B} : decode (ab_code (zx σ n0 bf).1 13) 143 = .ok (.ifCond .eq 13, 3) := zd zm_13 (by decide +kernel)
theorem d_13_146 {σ : Nat → Nat} {n0 : Nat} {bf : ab_B} : decode (ab_code (zx σ n0 bf).1 13) 146 = .ok (.aload_n 0, 1) := zd zm_13 (by decide +kernel)
theorem d_13_147 {σ : Nat → Nat} {n0 : Nat} {bf : ab_B} : decode (ab_code (zx σ n0 bf).1 13) 147 = .ok (.getfield 39, 3) := zd zm_13 (by decide +kernel)
theorem d_13_150 {σ : Nat → Nat} {n0 : Nat} {bf : ab_B} : decode (ab_code (zx σ n0 bf).1 13) 150 = .ok (.getfield 148, 3) := zd zm_13 (by decide +kernel)
theorem d_13_153 {σ : Nat → Nat} {n0 : Nat} {bf : ab_B} : decode (ab_code (zx σ n0 bf).1 13) 153 = .ok (.goto 4, 3) := zd zm_13 (by decide +kernel)
theorem d_13_156 {σ : Nat → Nat} {n0 : Nat} {bf : ab_B} : decode (ab_code (zx σ n0 bf).1 13) 156 = .ok (.iconst 0, 1) := zd zm_13 (by decide +kernel)
theorem d_13_157 {σ : Nat → Nat} {n0 : Nat} {bf : ab_B} : decode (ab_code (zx σ n0 bf).1 13) 157 = .ok (.ireturn, 1) := zd zm_13 (by decide +kernel)
theorem d_13_158 {σ : Nat → Nat} {n0 : Nat} {bf : ab_B} : decode (ab_code (zx σ n0 bf).1 13) 158 = .ok (.aload_n 0, 1) := zd zm_13 (by decide +kernel)
theorem d_13_159 {σ : Nat → Nat} {n0 : Nat} {bf : ab_B} : decode (ab_code (zx σ n0 bf).1 13) 159 = .ok (.getfield 39, 3) := zd zm_13 (by decide +kernel)
theorem d_13_162 {σ : Nat → Nat} {n0 : Nat} {bf : ab_B} : decode (ab_code (zx σ n0 bf).1 13) 162 = .ok (.getfield 78, 3) := zd zm_13 (by decide +kernel)
theorem d_13_165 {σ : Nat → Nat} {n0 : Nat} {bf : ab_B} : decode (ab_code (zx σ n0 bf).1 13) 165 = .ok (.ifCond .eq 13, 3) := zd zm_13 (by decide +kernel)
theorem d_13_168 {σ : Nat → Nat} {n0 : Nat} {bf : ab_B} : decode (ab_code (zx σ n0 bf).1 13) 168 = .ok (.aload_n 0, 1) := zd zm_13 (by decide +kernel)
theorem d_13_169 {σ : Nat → Nat} {n0 : Nat} {bf : ab_B} : decode (ab_code (zx σ n0 bf).1 13) 169 = .ok (.getfield 39, 3) := zd zm_13 (by decide +kernel)
theorem d_13_172 {σ : Nat → Nat} {n0 : Nat} {bf : ab_B} : decode (ab_code (zx σ n0 bf).1 13) 172 = .ok (.getfield 151, 3) := zd zm_13 (by decide +kernel)
theorem d_13_175 {σ : Nat → Nat} {n0 : Nat} {bf : ab_B} : decode (ab_code (zx σ n0 bf).1 13) 175 = .ok (.goto 4, 3) := zd zm_13 (by decide +kernel)
theorem d_13_178 {σ : Nat → Nat} {n0 : Nat} {bf : ab_B} : decode (ab_code (zx σ n0 bf).1 13) 178 = .ok (.iconst 0, 1) := zd zm_13 (by decide +kernel)
theorem d_13_179 {σ : Nat → Nat} {n0 : Nat} {bf : ab_B} : decode (ab_code (zx σ n0 bf).1 13) 179 = .ok (.ireturn, 1) := zd zm_13 (by decide +kernel)
theorem d_13_180 {σ : Nat → Nat} {n0 : Nat} {bf : ab_B} : decode (ab_code (zx σ n0 bf).1 13) 180 = .ok (.aload_n 0, 1) := zd zm_13 (by decide +kernel)
theorem d_13_181 {σ : Nat → Nat} {n0 : Nat} {bf : ab_B} : decode (ab_code (zx σ n0 bf).1 13) 181 = .ok (.getfield 39, 3) := zd zm_13 (by decide +kernel)
theorem d_13_184 {σ : Nat → Nat} {n0 : Nat} {bf : ab_B} : decode (ab_code (zx σ n0 bf).1 13) 184 = .ok (.getfield 94, 3) := zd zm_13 (by decide +kernel)
theorem d_13_187 {σ : Nat → Nat} {n0 : Nat} {bf : ab_B} : decode (ab_code (zx σ n0 bf).1 13) 187 = .ok (.ireturn, 1) := zd zm_13 (by decide +kernel)
theorem d_13_188 {σ : Nat → Nat} {n0 : Nat} {bf : ab_B} : decode (ab_code (zx σ n0 bf).1 13) 188 = .ok (.aload_n 0, 1) := zd zm_13 (by decide +kernel)
theorem d_13_189 {σ : Nat → Nat} {n0 : Nat} {bf : ab_B} : decode (ab_code (zx σ n0 bf).1 13) 189 = .ok (.getfield 39, 3) := zd zm_13 (by decide +kernel)
theorem d_13_192 {σ : Nat → Nat} {n0 : Nat} {bf : ab_B} : decode (ab_code (zx σ n0 bf).1 13) 192 = .ok (.getfield 124, 3) := zd zm_13 (by decide +kernel)
theorem d_13_195 {σ : Nat → Nat} {n0 : Nat} {bf : ab_B} : decode (ab_code (zx σ n0 bf).1 13) 195 = .ok (.ireturn, 1) := zd zm_13 (by decide +kernel)
theorem d_13_196 {σ : Nat → Nat} {n0 : Nat} {bf : ab_B} : decode (ab_code (zx σ n0 bf).1 13) 196 = .ok (.aload_n 0, 1) := zd zm_13 (by decide +kernel)
theorem d_13_197 {σ : Nat → Nat} {n0 : Nat} {bf : ab_B} : decode (ab_code (zx σ n0 bf).1 13) 197 = .ok (.getfield 97, 3) := zd zm_13 (by decide +kernel)
theorem d_13_200 {σ : Nat → Nat} {n0 : Nat} {bf : ab_B} : decode (ab_code (zx σ n0 bf).1 13) 200 = .ok (.ifCond .eq 18, 3) := zd zm_13 (by decide +kernel)
theorem d_13_203 {σ : Nat → Nat} {n0 : Nat} {bf : ab_B} : decode (ab_code (zx σ n0 bf).1 13) 203 = .ok (.aload_n 0, 1) := zd zm_13 (by decide +kernel)
theorem d_13_204 {σ : Nat → Nat} {n0 : Nat} {bf : ab_B} : decode (ab_code (zx σ n0 bf).1 13) 204 = .ok (.getfield 46, 3) := zd zm_13 (by decide +kernel)
theorem d_13_207 {σ : Nat → Nat} {n0 : Nat} {bf : ab_B} : decode (ab_code (zx σ n0 bf).1 13) 207 = .ok (.getfield 154, 3) := zd zm_13 (by decide +kernel)
theorem d_13_210 {σ : Nat → Nat} {n0 : Nat} {bf : ab_B} : decode (ab_code (zx σ n0 bf).1 13) 210 = .ok (.invokevirtual 158, 3) := zd zm_13 (by decide +kernel)
theorem d_13_213 {σ : Nat → Nat} {n0 : Nat} {bf : ab_B} : decode (ab_code (zx σ n0 bf).1 13) 213 = .ok (.iconst 1, 1) := zd zm_13 (by decide +kernel)
theorem d_13_214 {σ : Nat → Nat} {n0 : Nat} {bf : ab_B} : decode (ab_code (zx σ n0 bf).1 13) 214 = .ok (.isub, 1) := zd zm_13 (by decide +kernel)
theorem d_13_215 {σ : Nat → Nat} {n0 : Nat} {bf : ab_B} : decode (ab_code (zx σ n0 bf).1 13) 215 = .ok (.goto 4, 3) := zd zm_13 (by decide +kernel)
theorem d_13_218 {σ : Nat → Nat} {n0 : Nat} {bf : ab_B} : decode (ab_code (zx σ n0 bf).1 13) 218 = .ok (.iconst 0, 1) := zd zm_13 (by decide +kernel)
theorem d_13_219 {σ : Nat → Nat} {n0 : Nat} {bf : ab_B} : decode (ab_code (zx σ n0 bf).1 13) 219 = .ok (.ireturn, 1) := zd zm_13 (by decide +kernel)
theorem d_13_220 {σ : Nat → Nat} {n0 : Nat} {bf : ab_B} : decode (ab_code (zx σ n0 bf).1 13) 220 = .ok (.aload_n 0, 1) := zd zm_13 (by decide +kernel)
theorem d_13_221 {σ : Nat → Nat} {n0 : Nat} {bf : ab_B} : decode (ab_code (zx σ n0 bf).1 13) 221 = .ok (.getfield 63, 3) := zd zm_13 (by decide +kernel)
theorem d_13_224 {σ : Nat → Nat} {n0 : Nat} {bf : ab_B} : decode (ab_code (zx σ n0 bf).1 13) 224 = .ok (.ireturn, 1) := zd zm_13 (by decide +kernel)
theorem d_13_225 {σ : Nat → Nat} {n0 : Nat} {bf : ab_B} : decode (ab_code (zx σ n0 bf).1 13) 225 = .ok (.new 5, 3) := zd zm_13 (by decide +kernel)
theorem d_13_228 {σ : Nat → Nat} {n0 : Nat} {bf : ab_B} : decode (ab_code (zx σ n0 bf).1 13) 228 = .ok (.dup, 1) := zd zm_13 (by decide +kernel)
theorem d_13_229 {σ : Nat → Nat} {n0 : Nat} {bf : ab_B} : decode (ab_code (zx σ n0 bf).1 13) 229 = .ok (.invokespecial 7, 3) := zd zm_13 (by decide +kernel)
theorem d_13_232 {σ : Nat → Nat} {n0 : Nat} {bf : ab_B} : decode (ab_code (zx σ n0 bf).1 13) 232 = .ok (.athrow, 1) := zd zm_13 (by decide +kernel)
def w_X1_told (X : zs_X) (d : Nat) (p0 : Nat) (p1 : Int32) (S : zs_T) (Q : zs_Q) : Prop :=
  (zs_K S p0 = some (.inl 0) ∧ zs_C X d 14 [.ref p0] S (zs_kI (fun v3 S2 => (((p1.toInt < 0 ∨ 11 < p1.toInt → (∀ a5 S6, a5 = zs_N S2 → S6 = zs_nw S2 (.inl 24) 6 → zs_C X d 24001 [.ref a5] S6 (zs_kV (fun S10 => (Q (.threw a5) S10)) Q))) ∧ (p1.toInt = 0 → (zs_K S2 p0 = some (.inl 0) ∧ ∃ b13, (zs_R S2 3 p0) = some b13 ∧ zs_K S2 b13 = some (.inl 1) ∧ (((zs_I S2 1038 b13) = 0 → (Q (.returned (some (.int (0 : Int32)))) S2)) ∧ (¬ ((zs_I S2 1038 b13) = 0) → (((¬ (zs_I S2 1039 b13) = 0 → (Q (.returned (some (.int (0 : Int32)))) S2)) ∧ (¬ (¬ (zs_I S2 1039 b13) = 0) → (Q (.returned (some (.int (1 : Int32)))) S2)))))))) ∧ (p1.toInt = 1 → (zs_K S2 p0 = some (.inl 0) ∧ ∃ b19, (zs_R S2 3 p0) = some b19 ∧ zs_K S2 b19 = some (.inl 1) ∧ Q (.returned (some (.int (zs_I S2 1034 b19)))) S2)) ∧ (p1.toInt = 2 → (zs_K S2 p0 = some (.inl 0) ∧ ∃ b23, (zs_R S2 3 p0) = some b23 ∧ zs_K S2 b23 = some (.inl 1) ∧ Q (.returned (some (.int (zs_I S2 1036 b23)))) S2)) ∧ (p1.toInt = 3 → (zs_K S2 p0 = some (.inl 0) ∧ ∃ b27, (zs_R S2 3 p0) = some b27 ∧ zs_K S2 b27 = some (.inl 1) ∧ Q (.returned (some (.int (zs_I S2 1037 b27)))) S2)) ∧ (p1.toInt = 4 → (Q (.returned (some (.int v3))) S2)) ∧ (p1.toInt = 5 → (((¬ v3 = 0 → (zs_K S2 p0 = some (.inl 0) ∧ ∃ b32, (zs_R S2 3 p0) = some b32 ∧ zs_K S2 b32 = some (.inl 1) ∧ Q (.returned (some (.int (zs_I S2 1016 b32)))) S2)) ∧ (¬ (¬ v3 = 0) → (Q (.returned (some (.int (0 : Int32)))) S2))))) ∧ (p1.toInt = 6 → (zs_K S2 p0 = some (.inl 0) ∧ ∃ b36, (zs_R S2 3 p0) = some b36 ∧ zs_K S2 b36 = some (.inl 1) ∧ (((zs_I S2 1038 b36) = 0 → (Q (.returned (some (.int (0 : Int32)))) S2)) ∧ (¬ ((zs_I S2 1038 b36) = 0) → (Q (.returned (some (.int (zs_I S2 1032 b36)))) S2))))) ∧ (p1.toInt = 7 → (zs_K S2 p0 = some (.inl 0) ∧ ∃ b41, (zs_R S2 3 p0) = some b41 ∧ zs_K S2 b41 = some (.inl 1) ∧ (((zs_I S2 1038 b41) = 0 → (Q (.returned (some (.int (0 : Int32)))) S2)) ∧ (¬ ((zs_I S2 1038 b41) = 0) → (Q (.returned (some (.int (zs_I S2 1031 b41)))) S2))))) ∧ (p1.toInt = 8 → (zs_K S2 p0 = some (.inl 0) ∧ ∃ b46, (zs_R S2 3 p0) = some b46 ∧ zs_K S2 b46 = some (.inl 1) ∧ Q (.returned (some (.int (zs_I S2 1041 b46)))) S2)) ∧ (p1.toInt = 9 → (zs_K S2 p0 = some (.inl 0) ∧ ∃ b50, (zs_R S2 3 p0) = some b50 ∧ zs_K S2 b50 = some (.inl 1) ∧ Q (.returned (some (.int (zs_I S2 1044 b50)))) S2)) ∧ (p1.toInt = 10 → (zs_K S2 p0 = some (.inl 0) ∧ (((zs_I S2 6 p0) = 0 → (Q (.returned (some (.int (0 : Int32)))) S2)) ∧ (¬ ((zs_I S2 6 p0) = 0) → (∃ b55, (zs_R S2 4 p0) = some b55 ∧ zs_K S2 b55 = some (.inl 3) ∧ ∃ b58, (zs_R S2 3004 b55) = some b58 ∧ zs_K S2 b58 = some (.inl 16) ∧ zs_C X d 16001 [.ref b58] S2 (zs_kI (fun v62 S61 => (Q (.returned (some (.int (v62 - (1 : Int32))))) S61)) Q)))))) ∧ (p1.toInt = 11 → (zs_K S2 p0 = some (.inl 0) ∧ Q (.returned (some (.int (zs_I S2 1 p0)))) S2))))) Q))
theorem u_X1_told {σ : Nat → Nat} {n0 : Nat} {bf : ab_B} {d : Nat} {p0 : Nat} {p1 : Int32} {S : zs_T} {Q : zs_Q} (hB : zt_B bf) (hd : 1 ≤ d) (h : w_X1_told (zx σ n0 bf) (d - 1) p0 p1 S Q) : zs_C (zx σ n0 bf) d 13 [.ref p0, .int p1] S Q := by
  have hL : lv_args 0 [.ref p0, .int p1] = [(0, .ref p0), (1, .int p1)] := rfl
  refine zs_C.of1 (hB.2 13 (by decide) (by decide)) hd (by rw [hL]; exact zs_sub_self _ (by exact ⟨rfl, rfl, trivial⟩)) ?_
  rw [hL]
  clear hL
  unfold w_X1_told at h
  refine zu_aload_n d_13_0 rfl (zs_ra _) ?_
  obtain ⟨k1, h⟩ := h
  refine zc_0_141  hB rfl k1 d_13_1 (Nat.le_of_ble_eq_true rfl) h (fun v3 S2 h => ?_)
  refine zu_istore_n d_13_4 (zs_lt zq_13 rfl) ?_
  refine zu_iload_n d_13_5 rfl ?_
  refine zu_tsw (td := 225) d_13_6 (by decide) rfl (fun c4 => ?_) ⟨fun c4 => ⟨by decide, ?_⟩, fun c4 => ⟨by decide, ?_⟩, fun c4 => ⟨by decide, ?_⟩, fun c4 => ⟨by decide, ?_⟩, fun c4 => ⟨by decide, ?_⟩, fun c4 => ⟨by decide, ?_⟩, fun c4 => ⟨by decide, ?_⟩, fun c4 => ⟨by decide, ?_⟩, fun c4 => ⟨by decide, ?_⟩, fun c4 => ⟨by decide, ?_⟩, fun c4 => ⟨by decide, ?_⟩, fun c4 => ⟨by decide, ?_⟩, trivial⟩
  · have h := h.1 c4
    refine zn_0_5 rfl d_13_225 ?_
    generalize e8 : zs_nw S2 (.inl 24) 6 = S6
    generalize e7 : zs_N S2 = a5
    have h := h a5 S6 e7.symm e8.symm
    have k9 := zs_kn e7 e8
    refine zu_dup d_13_228 rfl ?_
    refine zc_0_7  hB rfl d_13_229 (Nat.le_of_ble_eq_true rfl) h (fun S10 h => ?_)
    exact zu_throw d_13_232 h
  · have h := h.2.1 c4
    show zs_U _ _ _ 68 _ _ _ _
    refine zu_aload_n d_13_68 rfl (zs_ra _) ?_
    obtain ⟨k12, h⟩ := h
    refine zg_0_39 rfl d_13_69 k12 ?_
    obtain ⟨b13, e14, h⟩ := h
    refine zs_stk0 (zs_rfe e14) ?_
    obtain ⟨k15, h⟩ := h
    refine zg_0_78 rfl d_13_72 k15 ?_
    refine zu_ifeq (t := 92) d_13_75 rfl (fun c16 => ?_) (fun c16 => ?_)
    · have h := h.1 c16
      refine zu_iconst d_13_92 zi_0 ?_
      exact zu_iret d_13_93 zr_13 rfl h
    · have h := h.2 c16
      refine zu_aload_n d_13_78 rfl (zs_ra _) ?_
      refine zg_0_39 rfl d_13_79 k12 ?_
      refine zs_stk0 (zs_rfe e14) ?_
      refine zg_0_82 rfl d_13_82 k15 ?_
      refine zu_ifne (t := 92) d_13_85 rfl (fun c17 => ?_) (fun c17 => ?_)
      · have h := h.1 c17
        refine zu_iconst d_13_92 zi_0 ?_
        exact zu_iret d_13_93 zr_13 rfl h
      · have h := h.2 c17
        refine zu_iconst d_13_88 zi_1 ?_
        refine zu_goto (t := 93) d_13_89 rfl ?_
        exact zu_iret d_13_93 zr_13 rfl h
  · have h := h.2.2.1 c4
    show zs_U _ _ _ 94 _ _ _ _
    refine zu_aload_n d_13_94 rfl (zs_ra _) ?_
    obtain ⟨k18, h⟩ := h
    refine zg_0_39 rfl d_13_95 k18 ?_
    obtain ⟨b19, e20, h⟩ := h
    refine zs_stk0 (zs_rfe e20) ?_
    obtain ⟨k21, h⟩ := h
    refine zg_0_91 rfl d_13_98 k21 ?_
    exact zu_iret d_13_101 zr_13 rfl h
  · have h := h.2.2.2.1 c4
    show zs_U _ _ _ 102 _ _ _ _
    refine zu_aload_n d_13_102 rfl (zs_ra _) ?_
    obtain ⟨k22, h⟩ := h
    refine zg_0_39 rfl d_13_103 k22 ?_
    obtain ⟨b23, e24, h⟩ := h
    refine zs_stk0 (zs_rfe e24) ?_
    obtain ⟨k25, h⟩ := h
    refine zg_0_85 rfl d_13_106 k25 ?_
    exact zu_iret d_13_109 zr_13 rfl h
  · have h := h.2.2.2.2.1 c4
    show zs_U _ _ _ 110 _ _ _ _
    refine zu_aload_n d_13_110 rfl (zs_ra _) ?_
    obtain ⟨k26, h⟩ := h
    refine zg_0_39 rfl d_13_111 k26 ?_
    obtain ⟨b27, e28, h⟩ := h
    refine zs_stk0 (zs_rfe e28) ?_
    obtain ⟨k29, h⟩ := h
    refine zg_0_88 rfl d_13_114 k29 ?_
    exact zu_iret d_13_117 zr_13 rfl h
  · have h := h.2.2.2.2.2.1 c4
    show zs_U _ _ _ 118 _ _ _ _
    refine zu_iload_n d_13_118 rfl ?_
    exact zu_iret d_13_119 zr_13 rfl h
  · have h := h.2.2.2.2.2.2.1 c4
    show zs_U _ _ _ 120 _ _ _ _
    refine zu_iload_n d_13_120 rfl ?_
    refine zu_ifne (t := 128) d_13_121 rfl (fun c30 => ?_) (fun c30 => ?_)
    · have h := h.1 c30
      refine zu_aload_n d_13_128 rfl (zs_ra _) ?_
      obtain ⟨k31, h⟩ := h
      refine zg_0_39 rfl d_13_129 k31 ?_
      obtain ⟨b32, e33, h⟩ := h
      refine zs_stk0 (zs_rfe e33) ?_
      obtain ⟨k34, h⟩ := h
      refine zg_0_145 rfl d_13_132 k34 ?_
      exact zu_iret d_13_135 zr_13 rfl h
    · have h := h.2 c30
      refine zu_iconst d_13_124 zi_0 ?_
      refine zu_goto (t := 135) d_13_125 rfl ?_
      exact zu_iret d_13_135 zr_13 rfl h
  · have h := h.2.2.2.2.2.2.2.1 c4
    show zs_U _ _ _ 136 _ _ _ _
    refine zu_aload_n d_13_136 rfl (zs_ra _) ?_
    obtain ⟨k35, h⟩ := h
    refine zg_0_39 rfl d_13_137 k35 ?_
    obtain ⟨b36, e37, h⟩ := h
    refine zs_stk0 (zs_rfe e37) ?_
    obtain ⟨k38, h⟩ := h
    refine zg_0_78 rfl d_13_140 k38 ?_
    refine zu_ifeq (t := 156) d_13_143 rfl (fun c39 => ?_) (fun c39 => ?_)
    · have h := h.1 c39
      refine zu_iconst d_13_156 zi_0 ?_
      exact zu_iret d_13_157 zr_13 rfl h
    · have h := h.2 c39
      refine zu_aload_n d_13_146 rfl (zs_ra _) ?_
      refine zg_0_39 rfl d_13_147 k35 ?_
      refine zs_stk0 (zs_rfe e37) ?_
      refine zg_0_148 rfl d_13_150 k38 ?_
      refine zu_goto (t := 157) d_13_153 rfl ?_
      exact zu_iret d_13_157 zr_13 rfl h
  · have h := h.2.2.2.2.2.2.2.2.1 c4
    show zs_U _ _ _ 158 _ _ _ _
    refine zu_aload_n d_13_158 rfl (zs_ra _) ?_
    obtain ⟨k40, h⟩ := h
    refine zg_0_39 rfl d_13_159 k40 ?_
    obtain ⟨b41, e42, h⟩ := h
    refine zs_stk0 (zs_rfe e42) ?_
    obtain ⟨k43, h⟩ := h
    refine zg_0_78 rfl d_13_162 k43 ?_
    refine zu_ifeq (t := 178) d_13_165 rfl (fun c44 => ?_) (fun c44 => ?_)
    · have h := h.1 c44
      refine zu_iconst d_13_178 zi_0 ?_
      exact zu_iret d_13_179 zr_13 rfl h
    · have h := h.2 c44
      refine zu_aload_n d_13_168 rfl (zs_ra _) ?_
      refine zg_0_39 rfl d_13_169 k40 ?_
      refine zs_stk0 (zs_rfe e42) ?_
      refine zg_0_151 rfl d_13_172 k43 ?_
      refine zu_goto (t := 179) d_13_175 rfl ?_
      exact zu_iret d_13_179 zr_13 rfl h
  · have h := h.2.2.2.2.2.2.2.2.2.1 c4
    show zs_U _ _ _ 180 _ _ _ _
    refine zu_aload_n d_13_180 rfl (zs_ra _) ?_
    obtain ⟨k45, h⟩ := h
    refine zg_0_39 rfl d_13_181 k45 ?_
    obtain ⟨b46, e47, h⟩ := h
    refine zs_stk0 (zs_rfe e47) ?_
    obtain ⟨k48, h⟩ := h
    refine zg_0_94 rfl d_13_184 k48 ?_
    exact zu_iret d_13_187 zr_13 rfl h
  · have h := h.2.2.2.2.2.2.2.2.2.2.1 c4
    show zs_U _ _ _ 188 _ _ _ _
    refine zu_aload_n d_13_188 rfl (zs_ra _) ?_
    obtain ⟨k49, h⟩ := h
    refine zg_0_39 rfl d_13_189 k49 ?_
    obtain ⟨b50, e51, h⟩ := h
    refine zs_stk0 (zs_rfe e51) ?_
    obtain ⟨k52, h⟩ := h
    refine zg_0_124 rfl d_13_192 k52 ?_
    exact zu_iret d_13_195 zr_13 rfl h
  · have h := h.2.2.2.2.2.2.2.2.2.2.2.1 c4
    show zs_U _ _ _ 196 _ _ _ _
    refine zu_aload_n d_13_196 rfl (zs_ra _) ?_
    obtain ⟨k53, h⟩ := h
    refine zg_0_97 rfl d_13_197 k53 ?_
    refine zu_ifeq (t := 218) d_13_200 rfl (fun c54 => ?_) (fun c54 => ?_)
    · have h := h.1 c54
      refine zu_iconst d_13_218 zi_0 ?_
      exact zu_iret d_13_219 zr_13 rfl h
    · have h := h.2 c54
      refine zu_aload_n d_13_203 rfl (zs_ra _) ?_
      refine zg_0_46 rfl d_13_204 k53 ?_
      obtain ⟨b55, e56, h⟩ := h
      refine zs_stk0 (zs_rfe e56) ?_
      obtain ⟨k57, h⟩ := h
      refine zg_0_154 rfl d_13_207 k57 ?_
      obtain ⟨b58, e59, h⟩ := h
      refine zs_stk0 (zs_rfe e59) ?_
      obtain ⟨k60, h⟩ := h
      refine zc_0_158  hB rfl k60 d_13_210 (Nat.le_of_ble_eq_true rfl) h (fun v62 S61 h => ?_)
      refine zu_iconst d_13_213 zi_1 ?_
      refine zu_stk d_13_214 rfl rfl ?_
      refine zu_goto (t := 219) d_13_215 rfl ?_
      exact zu_iret d_13_219 zr_13 rfl h
  · have h := h.2.2.2.2.2.2.2.2.2.2.2.2 c4
    show zs_U _ _ _ 220 _ _ _ _
    refine zu_aload_n d_13_220 rfl (zs_ra _) ?_
    obtain ⟨k63, h⟩ := h
    refine zg_0_63 rfl d_13_221 k63 ?_
    exact zu_iret d_13_224 zr_13 rfl h
/-! SchemaPascal.activations()I -/
theorem zm_14 {σ : Nat → Nat} {n0 : Nat} {bf : ab_B} : ab_code (zx σ n0 bf).1 14 = prog_1_method_15_code := rfl
theorem zq_14 {σ : Nat → Nat} {n0 : Nat} {bf : ab_B} : ab_maxL (zx σ n0 bf).1 14 = 1 := rfl
theorem zr_14 {σ : Nat → Nat} {n0 : Nat} {bf : ab_B} : ab_ret (zx σ n0 bf).1 14 = (Option.some Jvm.ClassFile.FieldType.int) := rfl
theorem d_14_0 {σ : Nat → Nat} {n0 : Nat} {bf : ab_B} : decode (ab_code (zx σ n0 bf).1 14) 0 = .ok (.aload_n 0, 1) := zd zm_14 (by decide +kernel)
theorem d_14_1 {σ : Nat → Nat} {n0 : Nat} {bf : ab_B} : decode (ab_code (zx σ n0 bf).1 14) 1 = .ok (.getfield 39, 3) := zd zm_14 (by decide +kernel)
theorem d_14_4 {σ : Nat → Nat} {n0 : Nat} {bf : ab_B} : decode (ab_code (zx σ n0 bf).1 14) 4 = .ok (.getfield 78, 3) := zd zm_14 (by decide +kernel)
theorem d_14_7 {σ : Nat → Nat} {n0 : Nat} {bf : ab_B} : decode (ab_code (zx σ n0 bf).1 14) 7 = .ok (.ifCond .eq 23, 3) := zd zm_14 (by decide +kernel)
theorem d_14_10 {σ : Nat → Nat} {n0 : Nat} {bf : ab_B} : decode (ab_code (zx σ n0 bf).1 14) 10 = .ok (.aload_n 0, 1) := zd zm_14 (by decide +kernel)
theorem d_14_11 {σ : Nat → Nat} {n0 : Nat} {bf : ab_B} : decode (ab_code (zx σ n0 bf).1 14) 11 = .ok (.getfield 39, 3) := zd zm_14 (by decide +kernel)
theorem d_14_14 {σ : Nat → Nat} {n0 : Nat} {bf : ab_B} : decode (ab_code (zx σ n0 bf).1 14) 14 = .ok (.getfield 82, 3) := zd zm_14 (by decide +kernel)
theorem d_14_17 {σ : Nat → Nat} {n0 : Nat} {bf : ab_B} : decode (ab_code (zx σ n0 bf).1 14) 17 = .ok (.ifCond .eq 17, 3) := zd zm_14 (by decide +kernel)
theorem d_14_20 {σ : Nat → Nat} {n0 : Nat} {bf : ab_B} : decode (ab_code (zx σ n0 bf).1 14) 20 = .ok (.aload_n 0, 1) := zd zm_14 (by decide +kernel)
theorem d_14_21 {σ : Nat → Nat} {n0 : Nat} {bf : ab_B} : decode (ab_code (zx σ n0 bf).1 14) 21 = .ok (.getfield 39, 3) := zd zm_14 (by decide +kernel)
theorem d_14_24 {σ : Nat → Nat} {n0 : Nat} {bf : ab_B} : decode (ab_code (zx σ n0 bf).1 14) 24 = .ok (.getfield 85, 3) := zd zm_14 (by decide +kernel)
theorem d_14_27 {σ : Nat → Nat} {n0 : Nat} {bf : ab_B} : decode (ab_code (zx σ n0 bf).1 14) 27 = .ok (.ifCond .ne 7, 3) := zd zm_14 (by decide +kernel)
theorem d_14_30 {σ : Nat → Nat} {n0 : Nat} {bf : ab_B} : decode (ab_code (zx σ n0 bf).1 14) 30 = .ok (.iconst 0, 1) := zd zm_14 (by decide +kernel)
theorem d_14_31 {σ : Nat → Nat} {n0 : Nat} {bf : ab_B} : decode (ab_code (zx σ n0 bf).1 14) 31 = .ok (.goto 12, 3) := zd zm_14 (by decide +kernel)
theorem d_14_34 {σ : Nat → Nat} {n0 : Nat} {bf : ab_B} : decode (ab_code (zx σ n0 bf).1 14) 34 = .ok (.aload_n 0, 1) := zd zm_14 (by decide +kernel)
theorem d_14_35 {σ : Nat → Nat} {n0 : Nat} {bf : ab_B} : decode (ab_code (zx σ n0 bf).1 14) 35 = .ok (.getfield 39, 3) := zd zm_14 (by decide +kernel)
theorem d_14_38 {σ : Nat → Nat} {n0 : Nat} {bf : ab_B} : decode (ab_code (zx σ n0 bf).1 14) 38 = .ok (.getfield 138, 3) := zd zm_14 (by decide +kernel)
theorem d_14_41 {σ : Nat → Nat} {n0 : Nat} {bf : ab_B} : decode (ab_code (zx σ n0 bf).1 14) 41 = .ok (.iconst 1, 1) := zd zm_14 (by decide +kernel)
theorem d_14_42 {σ : Nat → Nat} {n0 : Nat} {bf : ab_B} : decode (ab_code (zx σ n0 bf).1 14) 42 = .ok (.iadd, 1) := zd zm_14 (by decide +kernel)
theorem d_14_43 {σ : Nat → Nat} {n0 : Nat} {bf : ab_B} : decode (ab_code (zx σ n0 bf).1 14) 43 = .ok (.ireturn, 1) := zd zm_14 (by decide +kernel)
def w_X1_activations_34 (X : zs_X) (d : Nat) (p0 : Nat) (S : zs_T) (Q : zs_Q) : Prop :=
  (zs_K S p0 = some (.inl 0) ∧ ∃ b2, (zs_R S 3 p0) = some b2 ∧ zs_K S b2 = some (.inl 1) ∧ Q (.returned (some (.int ((zs_I S 1025 b2) + (1 : Int32))))) S)
theorem u_X1_activations_34 {σ : Nat → Nat} {n0 : Nat} {bf : ab_B} {d : Nat} {p0 : Nat} {S : zs_T} {Q : zs_Q} (hB : zt_B bf) (h : w_X1_activations_34 (zx σ n0 bf) d p0 S Q) : zs_U (zx σ n0 bf) d 14 34 [(0, .ref p0)] [] S Q := by
  unfold w_X1_activations_34 at h
  refine zu_aload_n d_14_34 rfl (zs_ra _) ?_
  obtain ⟨k1, h⟩ := h
  refine zg_0_39 rfl d_14_35 k1 ?_
  obtain ⟨b2, e3, h⟩ := h
  refine zs_stk0 (zs_rfe e3) ?_
  obtain ⟨k4, h⟩ := h
  refine zg_0_138 rfl d_14_38 k4 ?_
  refine zu_iconst d_14_41 zi_1 ?_
  refine zu_stk d_14_42 rfl rfl ?_
  exact zu_iret d_14_43 zr_14 rfl h
def w_X1_activations (X : zs_X) (d : Nat) (p0 : Nat) (S : zs_T) (Q : zs_Q) : Prop :=
  (zs_K S p0 = some (.inl 0) ∧ ∃ b2, (zs_R S 3 p0) = some b2 ∧ zs_K S b2 = some (.inl 1) ∧ (((zs_I S 1038 b2) = 0 → (Q (.returned (some (.int (0 : Int32)))) S)) ∧ (¬ ((zs_I S 1038 b2) = 0) → ((((zs_I S 1039 b2) = 0 → w_X1_activations_34 X d p0 S Q) ∧ (¬ ((zs_I S 1039 b2) = 0) → (((¬ (zs_I S 1036 b2) = 0 → w_X1_activations_34 X d p0 S Q) ∧ (¬ (¬ (zs_I S 1036 b2) = 0) → (Q (.returned (some (.int (0 : Int32)))) S))))))))))
theorem u_X1_activations {σ : Nat → Nat} {n0 : Nat} {bf : ab_B} {d : Nat} {p0 : Nat} {S : zs_T} {Q : zs_Q} (hB : zt_B bf) (hd : 1 ≤ d) (h : w_X1_activations (zx σ n0 bf) (d - 1) p0 S Q) : zs_C (zx σ n0 bf) d 14 [.ref p0] S Q := by
  have hL : lv_args 0 [.ref p0] = [(0, .ref p0)] := rfl
  refine zs_C.of1 (hB.2 14 (by decide) (by decide)) hd (by rw [hL]; exact zs_sub_self _ (by exact ⟨rfl, trivial⟩)) ?_
  rw [hL]
  clear hL
  unfold w_X1_activations at h
  refine zu_aload_n d_14_0 rfl (zs_ra _) ?_
  obtain ⟨k1, h⟩ := h
  refine zg_0_39 rfl d_14_1 k1 ?_
  obtain ⟨b2, e3, h⟩ := h
  refine zs_stk0 (zs_rfe e3) ?_
  obtain ⟨k4, h⟩ := h
  refine zg_0_78 rfl d_14_4 k4 ?_
  refine zu_ifeq (t := 30) d_14_7 rfl (fun c5 => ?_) (fun c5 => ?_)
  · have h := h.1 c5
    refine zu_iconst d_14_30 zi_0 ?_
    refine zu_goto (t := 43) d_14_31 rfl ?_
    exact zu_iret d_14_43 zr_14 rfl h
  · have h := h.2 c5
    refine zu_aload_n d_14_10 rfl (zs_ra _) ?_
    refine zg_0_39 rfl d_14_11 k1 ?_
    refine zs_stk0 (zs_rfe e3) ?_
    refine zg_0_82 rfl d_14_14 k4 ?_
    refine zu_ifeq (t := 34) d_14_17 rfl (fun c6 => ?_) (fun c6 => ?_)
    · have h := h.1 c6
      exact (u_X1_activations_34 hB h).weak ⟨rfl, trivial⟩
    · have h := h.2 c6
      refine zu_aload_n d_14_20 rfl (zs_ra _) ?_
      refine zg_0_39 rfl d_14_21 k1 ?_
      refine zs_stk0 (zs_rfe e3) ?_
      refine zg_0_85 rfl d_14_24 k4 ?_
      refine zu_ifne (t := 34) d_14_27 rfl (fun c7 => ?_) (fun c7 => ?_)
      · have h := h.1 c7
        exact (u_X1_activations_34 hB h).weak ⟨rfl, trivial⟩
      · have h := h.2 c7
        refine zu_iconst d_14_30 zi_0 ?_
        refine zu_goto (t := 43) d_14_31 rfl ?_
        exact zu_iret d_14_43 zr_14 rfl h
/-! SchemaPascal.activation(II)I -/
theorem zm_15 {σ : Nat → Nat} {n0 : Nat} {bf : ab_B} : ab_code (zx σ n0 bf).1 15 = prog_1_method_18_code := rfl
theorem zq_15 {σ : Nat → Nat} {n0 : Nat} {bf : ab_B} : ab_maxL (zx σ n0 bf).1 15 = 4 := rfl
theorem zr_15 {σ : Nat → Nat} {n0 : Nat} {bf : ab_B} : ab_ret (zx σ n0 bf).1 15 = (Option.some Jvm.ClassFile.FieldType.int) := rfl
theorem d_15_0 {σ : Nat → Nat} {n0 : Nat} {bf : ab_B} : decode (ab_code (zx σ n0 bf).1 15) 0 = .ok (.aload_n 0, 1) := zd zm_15 (by decide +kernel)
theorem d_15_1 {σ : Nat → Nat} {n0 : Nat} {bf : ab_B} : decode (ab_code (zx σ n0 bf).1 15) 1 = .ok (.iload_n 1, 1) := zd zm_15 (by decide +kernel)
theorem d_15_2 {σ : Nat → Nat} {n0 : Nat} {bf : ab_B} : decode (ab_code (zx σ n0 bf).1 15) 2 = .ok (.invokevirtual 166, 3) := zd zm_15 (by decide +kernel)
theorem d_15_5 {σ : Nat → Nat} {n0 : Nat} {bf : ab_B} : decode (ab_code (zx σ n0 bf).1 15) 5 = .ok (.istore_n 3, 1) := zd zm_15 (by decide +kernel)
theorem d_15_6 {σ : Nat → Nat} {n0 : Nat} {bf : ab_B} : decode (ab_code (zx σ n0 bf).1 15) 6 = .ok (.iload_n 2, 1) := zd zm_15 (by decide +kernel)
theorem d_15_7 {σ : Nat → Nat} {n0 : Nat} {bf : ab_B} : decode (ab_code (zx σ n0 bf).1 15) 7 = .ok (.tableswitch 75 0 3 #[29, 42, 52, 65], 29) := zd zm_15 (by decide +kernel)
theorem d_15_36 {σ : Nat → Nat} {n0 : Nat} {bf : ab_B} : decode (ab_code (zx σ n0 bf).1 15) 36 = .ok (.aload_n 0, 1) := zd zm_15 (by decide +kernel)
theorem d_15_37 {σ : Nat → Nat} {n0 : Nat} {bf : ab_B} : decode (ab_code (zx σ n0 bf).1 15) 37 = .ok (.getfield 39, 3) := zd zm_15 (by decide +kernel)
theorem d_15_40 {σ : Nat → Nat} {n0 : Nat} {bf : ab_B} : decode (ab_code (zx σ n0 bf).1 15) 40 = .ok (.getfield 169, 3) := zd zm_15 (by decide +kernel)
theorem d_15_43 {σ : Nat → Nat} {n0 : Nat} {bf : ab_B} : decode (ab_code (zx σ n0 bf).1 15) 43 = .ok (.iload_n 3, 1) := zd zm_15 (by decide +kernel)
theorem d_15_44 {σ : Nat → Nat} {n0 : Nat} {bf : ab_B} : decode (ab_code (zx σ n0 bf).1 15) 44 = .ok (.aaload, 1) := zd zm_15 (by decide +kernel)
theorem d_15_45 {σ : Nat → Nat} {n0 : Nat} {bf : ab_B} : decode (ab_code (zx σ n0 bf).1 15) 45 = .ok (.getfield 172, 3) := zd zm_15 (by decide +kernel)
theorem d_15_48 {σ : Nat → Nat} {n0 : Nat} {bf : ab_B} : decode (ab_code (zx σ n0 bf).1 15) 48 = .ok (.ireturn, 1) := zd zm_15 (by decide +kernel)
theorem d_15_49 {σ : Nat → Nat} {n0 : Nat} {bf : ab_B} : decode (ab_code (zx σ n0 bf).1 15) 49 = .ok (.aload_n 0, 1) := zd zm_15 (by decide +kernel)
theorem d_15_50 {σ : Nat → Nat} {n0 : Nat} {bf : ab_B} : decode (ab_code (zx σ n0 bf).1 15) 50 = .ok (.getfield 39, 3) := zd zm_15 (by decide +kernel)
theorem d_15_53 {σ : Nat → Nat} {n0 : Nat} {bf : ab_B} : decode (ab_code (zx σ n0 bf).1 15) 53 = .ok (.getfield 177, 3) := zd zm_15 (by decide +kernel)
theorem d_15_56 {σ : Nat → Nat} {n0 : Nat} {bf : ab_B} : decode (ab_code (zx σ n0 bf).1 15) 56 = .ok (.iload_n 3, 1) := zd zm_15 (by decide +kernel)
theorem d_15_57 {σ : Nat → Nat} {n0 : Nat} {bf : ab_B} : decode (ab_code (zx σ n0 bf).1 15) 57 = .ok (.iaload, 1) := zd zm_15 (by decide +kernel)
theorem d_15_58 {σ : Nat → Nat} {n0 : Nat} {bf : ab_B} : decode (ab_code (zx σ n0 bf).1 15) 58 = .ok (.ireturn, 1) := zd zm_15 (by decide +kernel)
theorem d_15_59 {σ : Nat → Nat} {n0 : Nat} {bf : ab_B} : decode (ab_code (zx σ n0 bf).1 15) 59 = .ok (.aload_n 0, 1) := zd zm_15 (by decide +kernel)
theorem d_15_60 {σ : Nat → Nat} {n0 : Nat} {bf : ab_B} : decode (ab_code (zx σ n0 bf).1 15) 60 = .ok (.getfield 39, 3) := zd zm_15 (by decide +kernel)
theorem d_15_63 {σ : Nat → Nat} {n0 : Nat} {bf : ab_B} : decode (ab_code (zx σ n0 bf).1 15) 63 = .ok (.getfield 169, 3) := zd zm_15 (by decide +kernel)
theorem d_15_66 {σ : Nat → Nat} {n0 : Nat} {bf : ab_B} : decode (ab_code (zx σ n0 bf).1 15) 66 = .ok (.iload_n 3, 1) := zd zm_15 (by decide +kernel)
theorem d_15_67 {σ : Nat → Nat} {n0 : Nat} {bf : ab_B} : decode (ab_code (zx σ n0 bf).1 15) 67 = .ok (.aaload, 1) := zd zm_15 (by decide +kernel)
theorem d_15_68 {σ : Nat → Nat} {n0 : Nat} {bf : ab_B} : decode (ab_code (zx σ n0 bf).1 15) 68 = .ok (.getfield 181, 3) := zd zm_15 (by decide +kernel)
theorem d_15_71 {σ : Nat → Nat} {n0 : Nat} {bf : ab_B} : decode (ab_code (zx σ n0 bf).1 15) 71 = .ok (.ireturn, 1) := zd zm_15 (by decide +kernel)
theorem d_15_72 {σ : Nat → Nat} {n0 : Nat} {bf : ab_B} : decode (ab_code (zx σ n0 bf).1 15) 72 = .ok (.aload_n 0, 1) := zd zm_15 (by decide +kernel)
theorem d_15_73 {σ : Nat → Nat} {n0 : Nat} {bf : ab_B} : decode (ab_code (zx σ n0 bf).1 15) 73 = .ok (.getfield 39, 3) := zd zm_15 (by decide +kernel)
theorem d_15_76 {σ : Nat → Nat} {n0 : Nat} {bf : ab_B} : decode (ab_code (zx σ n0 bf).1 15) 76 = .ok (.getfield 184, 3) := zd zm_15 (by decide +kernel)
theorem d_15_79 {σ : Nat → Nat} {n0 : Nat} {bf : ab_B} : decode (ab_code (zx σ n0 bf).1 15) 79 = .ok (.iload_n 3, 1) := zd zm_15 (by decide +kernel)
theorem d_15_80 {σ : Nat → Nat} {n0 : Nat} {bf : ab_B} : decode (ab_code (zx σ n0 bf).1 15) 80 = .ok (.iaload, 1) := zd zm_15 (by decide +kernel)
theorem d_15_81 {σ : Nat → Nat} {n0 : Nat} {bf : ab_B} : decode (ab_code (zx σ n0 bf).1 15) 81 = .ok (.ireturn, 1) := zd zm_15 (by decide +kernel)
theorem d_15_82 {σ : Nat → Nat} {n0 : Nat} {bf : ab_B} : decode (ab_code (zx σ n0 bf).1 15) 82 = .ok (.new 5, 3) := zd zm_15 (by decide +kernel)
theorem d_15_85 {σ : Nat → Nat} {n0 : Nat} {bf : ab_B} : decode (ab_code (zx σ n0 bf).1 15) 85 = .ok (.dup, 1) := zd zm_15 (by decide +kernel)
theorem d_15_86 {σ : Nat → Nat} {n0 : Nat} {bf : ab_B} : decode (ab_code (zx σ n0 bf).1 15) 86 = .ok (.invokespecial 7, 3) := zd zm_15 (by decide +kernel)
theorem d_15_89 {σ : Nat → Nat} {n0 : Nat} {bf : ab_B} : decode (ab_code (zx σ n0 bf).1 15) 89 = .ok (.athrow, 1) := zd zm_15 (by decide +kernel)
def w_X1_activation (X : zs_X) (d : Nat) (p0 : Nat) (p1 : Int32) (p2 : Int32) (S : zs_T) (Q : zs_Q) : Prop :=
  (zs_K S p0 = some (.inl 0) ∧ zs_C X d 16 [.ref p0, .int p1] S (zs_kI (fun v3 S2 => (((p2.toInt < 0 ∨ 3 < p2.toInt → (∀ a5 S6, a5 = zs_N S2 → S6 = zs_nw S2 (.inl 24) 6 → zs_C X d 24001 [.ref a5] S6 (zs_kV (fun S10 => (Q (.threw a5) S10)) Q))) ∧ (p2.toInt = 0 → (zs_K S2 p0 = some (.inl 0) ∧ ∃ b13, (zs_R S2 3 p0) = some b13 ∧ zs_K S2 b13 = some (.inl 1) ∧ ∃ b16, (zs_R S2 1017 b13) = some b16 ∧ zs_A S2 b16 5 v3 ∧ ∃ b19, (zs_r S2 b16 v3.toNatClampNeg) = some b19 ∧ zs_K S2 b19 = some (.inl 10) ∧ Q (.returned (some (.int (zs_I S2 10000 b19)))) S2)) ∧ (p2.toInt = 1 → (zs_K S2 p0 = some (.inl 0) ∧ ∃ b23, (zs_R S2 3 p0) = some b23 ∧ zs_K S2 b23 = some (.inl 1) ∧ ∃ b26, (zs_R S2 1019 b23) = some b26 ∧ zs_A S2 b26 0 v3 ∧ Q (.returned (some (.int (zs_i S2 b26 v3.toNatClampNeg)))) S2)) ∧ (p2.toInt = 2 → (zs_K S2 p0 = some (.inl 0) ∧ ∃ b30, (zs_R S2 3 p0) = some b30 ∧ zs_K S2 b30 = some (.inl 1) ∧ ∃ b33, (zs_R S2 1017 b30) = some b33 ∧ zs_A S2 b33 5 v3 ∧ ∃ b36, (zs_r S2 b33 v3.toNatClampNeg) = some b36 ∧ zs_K S2 b36 = some (.inl 10) ∧ Q (.returned (some (.int (zs_I S2 10008 b36)))) S2)) ∧ (p2.toInt = 3 → (zs_K S2 p0 = some (.inl 0) ∧ ∃ b40, (zs_R S2 3 p0) = some b40 ∧ zs_K S2 b40 = some (.inl 1) ∧ ∃ b43, (zs_R S2 1024 b40) = some b43 ∧ zs_A S2 b43 0 v3 ∧ Q (.returned (some (.int (zs_i S2 b43 v3.toNatClampNeg)))) S2))))) Q))
theorem u_X1_activation {σ : Nat → Nat} {n0 : Nat} {bf : ab_B} {d : Nat} {p0 : Nat} {p1 : Int32} {p2 : Int32} {S : zs_T} {Q : zs_Q} (hB : zt_B bf) (hd : 1 ≤ d) (h : w_X1_activation (zx σ n0 bf) (d - 1) p0 p1 p2 S Q) : zs_C (zx σ n0 bf) d 15 [.ref p0, .int p1, .int p2] S Q := by
  have hL : lv_args 0 [.ref p0, .int p1, .int p2] = [(0, .ref p0), (1, .int p1), (2, .int p2)] := rfl
  refine zs_C.of1 (hB.2 15 (by decide) (by decide)) hd (by rw [hL]; exact zs_sub_self _ (by exact ⟨rfl, rfl, rfl, trivial⟩)) ?_
  rw [hL]
  clear hL
  unfold w_X1_activation at h
  refine zu_aload_n d_15_0 rfl (zs_ra _) ?_
  refine zu_iload_n d_15_1 rfl ?_
  obtain ⟨k1, h⟩ := h
  refine zc_0_166 (x0 := p1) hB rfl k1 d_15_2 (Nat.le_of_ble_eq_true rfl) h (fun v3 S2 h => ?_)
  refine zu_istore_n d_15_5 (zs_lt zq_15 rfl) ?_
  refine zu_iload_n d_15_6 rfl ?_
  refine zu_tsw (td := 82) d_15_7 (by decide) rfl (fun c4 => ?_) ⟨fun c4 => ⟨by decide, ?_⟩, fun c4 => ⟨by decide, ?_⟩, fun c4 => ⟨by decide, ?_⟩, fun c4 => ⟨by decide, ?_⟩, trivial⟩
  · have h := h.1 c4
    refine zn_0_5 rfl d_15_82 ?_
    generalize e8 : zs_nw S2 (.inl 24) 6 = S6
    generalize e7 : zs_N S2 = a5
    have h := h a5 S6 e7.symm e8.symm
    have k9 := zs_kn e7 e8
    refine zu_dup d_15_85 rfl ?_
    refine zc_0_7  hB rfl d_15_86 (Nat.le_of_ble_eq_true rfl) h (fun S10 h => ?_)
    exact zu_throw d_15_89 h
  · have h := h.2.1 c4
    show zs_U _ _ _ 36 _ _ _ _
    refine zu_aload_n d_15_36 rfl (zs_ra _) ?_
    obtain ⟨k12, h⟩ := h
    refine zg_0_39 rfl d_15_37 k12 ?_
    obtain ⟨b13, e14, h⟩ := h
    refine zs_stk0 (zs_rfe e14) ?_
    obtain ⟨k15, h⟩ := h
    refine zg_0_169 rfl d_15_40 k15 ?_
    refine zu_iload_n d_15_43 rfl ?_
    obtain ⟨b16, e17, h⟩ := h
    refine zs_stk1 (zs_rfe e17) ?_
    obtain ⟨k18, h⟩ := h
    refine zu_aald (k := 5) d_15_44 rfl rfl k18 ?_
    obtain ⟨b19, e20, h⟩ := h
    refine zs_stk0 (zs_rfe e20) ?_
    obtain ⟨k21, h⟩ := h
    refine zg_0_172 rfl d_15_45 k21 ?_
    exact zu_iret d_15_48 zr_15 rfl h
  · have h := h.2.2.1 c4
    show zs_U _ _ _ 49 _ _ _ _
    refine zu_aload_n d_15_49 rfl (zs_ra _) ?_
    obtain ⟨k22, h⟩ := h
    refine zg_0_39 rfl d_15_50 k22 ?_
    obtain ⟨b23, e24, h⟩ := h
    refine zs_stk0 (zs_rfe e24) ?_
    obtain ⟨k25, h⟩ := h
    refine zg_0_177 rfl d_15_53 k25 ?_
    refine zu_iload_n d_15_56 rfl ?_
    obtain ⟨b26, e27, h⟩ := h
    refine zs_stk1 (zs_rfe e27) ?_
    obtain ⟨k28, h⟩ := h
    refine zu_iald (k := 0) d_15_57 rfl rfl k28 ?_
    exact zu_iret d_15_58 zr_15 rfl h
  · have h := h.2.2.2.1 c4
    show zs_U _ _ _ 59 _ _ _ _
    refine zu_aload_n d_15_59 rfl (zs_ra _) ?_
    obtain ⟨k29, h⟩ := h
    refine zg_0_39 rfl d_15_60 k29 ?_
    obtain ⟨b30, e31, h⟩ := h
    refine zs_stk0 (zs_rfe e31) ?_
    obtain ⟨k32, h⟩ := h
    refine zg_0_169 rfl d_15_63 k32 ?_
    refine zu_iload_n d_15_66 rfl ?_
    obtain ⟨b33, e34, h⟩ := h
    refine zs_stk1 (zs_rfe e34) ?_
    obtain ⟨k35, h⟩ := h
    refine zu_aald (k := 5) d_15_67 rfl rfl k35 ?_
    obtain ⟨b36, e37, h⟩ := h
    refine zs_stk0 (zs_rfe e37) ?_
    obtain ⟨k38, h⟩ := h
    refine zg_0_181 rfl d_15_68 k38 ?_
    exact zu_iret d_15_71 zr_15 rfl h
  · have h := h.2.2.2.2 c4
    show zs_U _ _ _ 72 _ _ _ _
    refine zu_aload_n d_15_72 rfl (zs_ra _) ?_
    obtain ⟨k39, h⟩ := h
    refine zg_0_39 rfl d_15_73 k39 ?_
    obtain ⟨b40, e41, h⟩ := h
    refine zs_stk0 (zs_rfe e41) ?_
    obtain ⟨k42, h⟩ := h
    refine zg_0_184 rfl d_15_76 k42 ?_
    refine zu_iload_n d_15_79 rfl ?_
    obtain ⟨b43, e44, h⟩ := h
    refine zs_stk1 (zs_rfe e44) ?_
    obtain ⟨k45, h⟩ := h
    refine zu_iald (k := 0) d_15_80 rfl rfl k45 ?_
    exact zu_iret d_15_81 zr_15 rfl h
/-! SchemaPascal.activationIn(I)I -/
theorem zm_16 {σ : Nat → Nat} {n0 : Nat} {bf : ab_B} : ab_code (zx σ n0 bf).1 16 = prog_1_method_17_code := rfl
theorem zq_16 {σ : Nat → Nat} {n0 : Nat} {bf : ab_B} : ab_maxL (zx σ n0 bf).1 16 = 2 := rfl
theorem zr_16 {σ : Nat → Nat} {n0 : Nat} {bf : ab_B} : ab_ret (zx σ n0 bf).1 16 = (Option.some Jvm.ClassFile.FieldType.int) := rfl
theorem d_16_0 {σ : Nat → Nat} {n0 : Nat} {bf : ab_B} : decode (ab_code (zx σ n0 bf).1 16) 0 = .ok (.iload_n 1, 1) := zd zm_16 (by decide +kernel)
theorem d_16_1 {σ : Nat → Nat} {n0 : Nat} {bf : ab_B} : decode (ab_code (zx σ n0 bf).1 16) 1 = .ok (.ifCond .lt 15, 3) := zd zm_16 (by decide +kernel)
theorem d_16_4 {σ : Nat → Nat} {n0 : Nat} {bf : ab_B} : decode (ab_code (zx σ n0 bf).1 16) 4 = .ok (.iload_n 1, 1) := zd zm_16 (by decide +kernel)
theorem d_16_5 {σ : Nat → Nat} {n0 : Nat} {bf : ab_B} : decode (ab_code (zx σ n0 bf).1 16) 5 = .ok (.aload_n 0, 1) := zd zm_16 (by decide +kernel)
theorem d_16_6 {σ : Nat → Nat} {n0 : Nat} {bf : ab_B} : decode (ab_code (zx σ n0 bf).1 16) 6 = .ok (.invokevirtual 141, 3) := zd zm_16 (by decide +kernel)
theorem d_16_9 {σ : Nat → Nat} {n0 : Nat} {bf : ab_B} : decode (ab_code (zx σ n0 bf).1 16) 9 = .ok (.if_icmp .ge 7, 3) := zd zm_16 (by decide +kernel)
theorem d_16_12 {σ : Nat → Nat} {n0 : Nat} {bf : ab_B} : decode (ab_code (zx σ n0 bf).1 16) 12 = .ok (.iconst 1, 1) := zd zm_16 (by decide +kernel)
theorem d_16_13 {σ : Nat → Nat} {n0 : Nat} {bf : ab_B} : decode (ab_code (zx σ n0 bf).1 16) 13 = .ok (.goto 4, 3) := zd zm_16 (by decide +kernel)
theorem d_16_16 {σ : Nat → Nat} {n0 : Nat} {bf : ab_B} : decode (ab_code (zx σ n0 bf).1 16) 16 = .ok (.iconst 0, 1) := zd zm_16 (by decide +kernel)
theorem d_16_17 {σ : Nat → Nat} {n0 : Nat} {bf : ab_B} : decode (ab_code (zx σ n0 bf).1 16) 17 = .ok (.invokestatic 163, 3) := zd zm_16 (by decide +kernel)
theorem d_16_20 {σ : Nat → Nat} {n0 : Nat} {bf : ab_B} : decode (ab_code (zx σ n0 bf).1 16) 20 = .ok (.aload_n 0, 1) := zd zm_16 (by decide +kernel)
theorem d_16_21 {σ : Nat → Nat} {n0 : Nat} {bf : ab_B} : decode (ab_code (zx σ n0 bf).1 16) 21 = .ok (.getfield 39, 3) := zd zm_16 (by decide +kernel)
theorem d_16_24 {σ : Nat → Nat} {n0 : Nat} {bf : ab_B} : decode (ab_code (zx σ n0 bf).1 16) 24 = .ok (.getfield 138, 3) := zd zm_16 (by decide +kernel)
theorem d_16_27 {σ : Nat → Nat} {n0 : Nat} {bf : ab_B} : decode (ab_code (zx σ n0 bf).1 16) 27 = .ok (.iload_n 1, 1) := zd zm_16 (by decide +kernel)
theorem d_16_28 {σ : Nat → Nat} {n0 : Nat} {bf : ab_B} : decode (ab_code (zx σ n0 bf).1 16) 28 = .ok (.isub, 1) := zd zm_16 (by decide +kernel)
theorem d_16_29 {σ : Nat → Nat} {n0 : Nat} {bf : ab_B} : decode (ab_code (zx σ n0 bf).1 16) 29 = .ok (.ireturn, 1) := zd zm_16 (by decide +kernel)
def w_X1_activationIn_17 (X : zs_X) (d : Nat) (p0 : Nat) (p1 : Int32) (q0 : Int32) (S : zs_T) (Q : zs_Q) : Prop :=
  (zs_C X d 17 [.int q0] S (zs_kV (fun S1 => (zs_K S1 p0 = some (.inl 0) ∧ ∃ b4, (zs_R S1 3 p0) = some b4 ∧ zs_K S1 b4 = some (.inl 1) ∧ Q (.returned (some (.int ((zs_I S1 1025 b4) - p1)))) S1)) Q))
theorem u_X1_activationIn_17 {σ : Nat → Nat} {n0 : Nat} {bf : ab_B} {d : Nat} {p0 : Nat} {p1 : Int32} {q0 : Int32} {S : zs_T} {Q : zs_Q} (hB : zt_B bf) (h : w_X1_activationIn_17 (zx σ n0 bf) d p0 p1 q0 S Q) : zs_U (zx σ n0 bf) d 16 17 [(0, .ref p0), (1, .int p1)] [.int q0] S Q := by
  unfold w_X1_activationIn_17 at h
  refine zc_0_163 (x0 := q0) hB rfl d_16_17 (Nat.le_of_ble_eq_true rfl) h (fun S1 h => ?_)
  refine zu_aload_n d_16_20 rfl (zs_ra _) ?_
  obtain ⟨k3, h⟩ := h
  refine zg_0_39 rfl d_16_21 k3 ?_
  obtain ⟨b4, e5, h⟩ := h
  refine zs_stk0 (zs_rfe e5) ?_
  obtain ⟨k6, h⟩ := h
  refine zg_0_138 rfl d_16_24 k6 ?_
  refine zu_iload_n d_16_27 rfl ?_
  refine zu_stk d_16_28 rfl rfl ?_
  exact zu_iret d_16_29 zr_16 rfl h
def w_X1_activationIn_16 (X : zs_X) (d : Nat) (p0 : Nat) (p1 : Int32) (S : zs_T) (Q : zs_Q) : Prop :=
  (w_X1_activationIn_17 X d p0 p1 (0 : Int32) S Q)
theorem u_X1_activationIn_16 {σ : Nat → Nat} {n0 : Nat} {bf : ab_B} {d : Nat} {p0 : Nat} {p1 : Int32} {S : zs_T} {Q : zs_Q} (hB : zt_B bf) (h : w_X1_activationIn_16 (zx σ n0 bf) d p0 p1 S Q) : zs_U (zx σ n0 bf) d 16 16 [(0, .ref p0), (1, .int p1)] [] S Q := by
  unfold w_X1_activationIn_16 at h
  refine zu_iconst d_16_16 zi_0 ?_
  exact (u_X1_activationIn_17 hB h).weak ⟨rfl, rfl, trivial⟩
def w_X1_activationIn (X : zs_X) (d : Nat) (p0 : Nat) (p1 : Int32) (S : zs_T) (Q : zs_Q) : Prop :=
  (((p1 < 0 → w_X1_activationIn_16 X d p0 p1 S Q) ∧ (¬ (p1 < 0) → (zs_K S p0 = some (.inl 0) ∧ zs_C X d 14 [.ref p0] S (zs_kI (fun v4 S3 => (((v4 ≤ p1 → w_X1_activationIn_16 X d p0 p1 S3 Q) ∧ (¬ (v4 ≤ p1) → (w_X1_activationIn_17 X d p0 p1 (1 : Int32) S3 Q))))) Q)))))
theorem u_X1_activationIn {σ : Nat → Nat} {n0 : Nat} {bf : ab_B} {d : Nat} {p0 : Nat} {p1 : Int32} {S : zs_T} {Q : zs_Q} (hB : zt_B bf) (hd : 1 ≤ d) (h : w_X1_activationIn (zx σ n0 bf) (d - 1) p0 p1 S Q) : zs_C (zx σ n0 bf) d 16 [.ref p0, .int p1] S Q := by
  have hL : lv_args 0 [.ref p0, .int p1] = [(0, .ref p0), (1, .int p1)] := rfl
  refine zs_C.of1 (hB.2 16 (by decide) (by decide)) hd (by rw [hL]; exact zs_sub_self _ (by exact ⟨rfl, rfl, trivial⟩)) ?_
  rw [hL]
  clear hL
  unfold w_X1_activationIn at h
  refine zu_iload_n d_16_0 rfl ?_
  refine zu_iflt (t := 16) d_16_1 rfl (fun c1 => ?_) (fun c1 => ?_)
  · have h := h.1 c1
    exact (u_X1_activationIn_16 hB h).weak ⟨rfl, rfl, trivial⟩
  · have h := h.2 c1
    refine zu_iload_n d_16_4 rfl ?_
    refine zu_aload_n d_16_5 rfl (zs_ra _) ?_
    obtain ⟨k2, h⟩ := h
    refine zc_0_141  hB rfl k2 d_16_6 (Nat.le_of_ble_eq_true rfl) h (fun v4 S3 h => ?_)
    refine zu_cmpge (t := 16) d_16_9 rfl (fun c5 => ?_) (fun c5 => ?_)
    · have h := h.1 c5
      exact (u_X1_activationIn_16 hB h).weak ⟨rfl, rfl, trivial⟩
    · have h := h.2 c5
      refine zu_iconst d_16_12 zi_1 ?_
      refine zu_goto (t := 17) d_16_13 rfl ?_
      exact (u_X1_activationIn_17 hB h).weak ⟨rfl, rfl, trivial⟩
/-! SchemaPascal.inside(Z)V -/
theorem zm_17 {σ : Nat → Nat} {n0 : Nat} {bf : ab_B} : ab_code (zx σ n0 bf).1 17 = prog_1_method_1_code := rfl
theorem zq_17 {σ : Nat → Nat} {n0 : Nat} {bf : ab_B} : ab_maxL (zx σ n0 bf).1 17 = 1 := rfl
theorem zr_17 {σ : Nat → Nat} {n0 : Nat} {bf : ab_B} : ab_ret (zx σ n0 bf).1 17 = (Option.none : Option Jvm.ClassFile.FieldType) := rfl
theorem d_17_0 {σ : Nat → Nat} {n0 : Nat} {bf : ab_B} : decode (ab_code (zx σ n0 bf).1 17) 0 = .ok (.iload_n 0, 1) := zd zm_17 (by decide +kernel)
theorem d_17_1 {σ : Nat → Nat} {n0 : Nat} {bf : ab_B} : decode (ab_code (zx σ n0 bf).1 17) 1 = .ok (.ifCond .ne 11, 3) := zd zm_17 (by decide +kernel)
theorem d_17_4 {σ : Nat → Nat} {n0 : Nat} {bf : ab_B} : decode (ab_code (zx σ n0 bf).1 17) 4 = .ok (.new 5, 3) := zd zm_17 (by decide +kernel)
theorem d_17_7 {σ : Nat → Nat} {n0 : Nat} {bf : ab_B} : decode (ab_code (zx σ n0 bf).1 17) 7 = .ok (.dup, 1) := zd zm_17 (by decide +kernel)
theorem d_17_8 {σ : Nat → Nat} {n0 : Nat} {bf : ab_B} : decode (ab_code (zx σ n0 bf).1 17) 8 = .ok (.invokespecial 7, 3) := zd zm_17 (by decide +kernel)
theorem d_17_11 {σ : Nat → Nat} {n0 : Nat} {bf : ab_B} : decode (ab_code (zx σ n0 bf).1 17) 11 = .ok (.athrow, 1) := zd zm_17 (by decide +kernel)
theorem d_17_12 {σ : Nat → Nat} {n0 : Nat} {bf : ab_B} : decode (ab_code (zx σ n0 bf).1 17) 12 = .ok (.return_, 1) := zd zm_17 (by decide +kernel)
def w_X1_inside (X : zs_X) (d : Nat) (p0 : Int32) (S : zs_T) (Q : zs_Q) : Prop :=
  (((¬ p0 = 0 → (Q (.returned none) S)) ∧ (¬ (¬ p0 = 0) → (∀ a2 S3, a2 = zs_N S → S3 = zs_nw S (.inl 24) 6 → zs_C X d 24001 [.ref a2] S3 (zs_kV (fun S7 => (Q (.threw a2) S7)) Q)))))
theorem u_X1_inside {σ : Nat → Nat} {n0 : Nat} {bf : ab_B} {d : Nat} {p0 : Int32} {S : zs_T} {Q : zs_Q} (hB : zt_B bf) (hd : 1 ≤ d) (h : w_X1_inside (zx σ n0 bf) (d - 1) p0 S Q) : zs_C (zx σ n0 bf) d 17 [.int p0] S Q := by
  have hL : lv_args 0 [.int p0] = [(0, .int p0)] := rfl
  refine zs_C.of1 (hB.2 17 (by decide) (by decide)) hd (by rw [hL]; exact zs_sub_self _ (by exact ⟨rfl, trivial⟩)) ?_
  rw [hL]
  clear hL
  unfold w_X1_inside at h
  refine zu_iload_n d_17_0 rfl ?_
  refine zu_ifne (t := 12) d_17_1 rfl (fun c1 => ?_) (fun c1 => ?_)
  · have h := h.1 c1
    exact zu_vret d_17_12 zr_17 h
  · have h := h.2 c1
    refine zn_0_5 rfl d_17_4 ?_
    generalize e5 : zs_nw S (.inl 24) 6 = S3
    generalize e4 : zs_N S = a2
    have h := h a2 S3 e4.symm e5.symm
    have k6 := zs_kn e4 e5
    refine zu_dup d_17_7 rfl ?_
    refine zc_0_7  hB rfl d_17_8 (Nat.le_of_ble_eq_true rfl) h (fun S7 h => ?_)
    exact zu_throw d_17_11 h
/-! SchemaPascal.value(III)J -/
theorem zm_18 {σ : Nat → Nat} {n0 : Nat} {bf : ab_B} : ab_code (zx σ n0 bf).1 18 = prog_1_method_21_code := rfl
theorem zq_18 {σ : Nat → Nat} {n0 : Nat} {bf : ab_B} : ab_maxL (zx σ n0 bf).1 18 = 5 := rfl
theorem zr_18 {σ : Nat → Nat} {n0 : Nat} {bf : ab_B} : ab_ret (zx σ n0 bf).1 18 = (Option.some Jvm.ClassFile.FieldType.long) := rfl
theorem d_18_0 {σ : Nat → Nat} {n0 : Nat} {bf : ab_B} : decode (ab_code (zx σ n0 bf).1 18) 0 = .ok (.aload_n 0, 1) := zd zm_18 (by decide +kernel)
theorem d_18_1 {σ : Nat → Nat} {n0 : Nat} {bf : ab_B} : decode (ab_code (zx σ n0 bf).1 18) 1 = .ok (.iload_n 1, 1) := zd zm_18 (by decide +kernel)
theorem d_18_2 {σ : Nat → Nat} {n0 : Nat} {bf : ab_B} : decode (ab_code (zx σ n0 bf).1 18) 2 = .ok (.iload_n 2, 1) := zd zm_18 (by decide +kernel)
theorem d_18_3 {σ : Nat → Nat} {n0 : Nat} {bf : ab_B} : decode (ab_code (zx σ n0 bf).1 18) 3 = .ok (.invokevirtual 197, 3) := zd zm_18 (by decide +kernel)
theorem d_18_6 {σ : Nat → Nat} {n0 : Nat} {bf : ab_B} : decode (ab_code (zx σ n0 bf).1 18) 6 = .ok (.istore 4, 2) := zd zm_18 (by decide +kernel)
theorem d_18_8 {σ : Nat → Nat} {n0 : Nat} {bf : ab_B} : decode (ab_code (zx σ n0 bf).1 18) 8 = .ok (.iload_n 3, 1) := zd zm_18 (by decide +kernel)
theorem d_18_9 {σ : Nat → Nat} {n0 : Nat} {bf : ab_B} : decode (ab_code (zx σ n0 bf).1 18) 9 = .ok (.ifCond .lt 34, 3) := zd zm_18 (by decide +kernel)
theorem d_18_12 {σ : Nat → Nat} {n0 : Nat} {bf : ab_B} : decode (ab_code (zx σ n0 bf).1 18) 12 = .ok (.iload_n 3, 1) := zd zm_18 (by decide +kernel)
theorem d_18_13 {σ : Nat → Nat} {n0 : Nat} {bf : ab_B} : decode (ab_code (zx σ n0 bf).1 18) 13 = .ok (.aload_n 0, 1) := zd zm_18 (by decide +kernel)
theorem d_18_14 {σ : Nat → Nat} {n0 : Nat} {bf : ab_B} : decode (ab_code (zx σ n0 bf).1 18) 14 = .ok (.getfield 39, 3) := zd zm_18 (by decide +kernel)
theorem d_18_17 {σ : Nat → Nat} {n0 : Nat} {bf : ab_B} : decode (ab_code (zx σ n0 bf).1 18) 17 = .ok (.aload_n 0, 1) := zd zm_18 (by decide +kernel)
theorem d_18_18 {σ : Nat → Nat} {n0 : Nat} {bf : ab_B} : decode (ab_code (zx σ n0 bf).1 18) 18 = .ok (.iload_n 1, 1) := zd zm_18 (by decide +kernel)
theorem d_18_19 {σ : Nat → Nat} {n0 : Nat} {bf : ab_B} : decode (ab_code (zx σ n0 bf).1 18) 19 = .ok (.iload_n 2, 1) := zd zm_18 (by decide +kernel)
theorem d_18_20 {σ : Nat → Nat} {n0 : Nat} {bf : ab_B} : decode (ab_code (zx σ n0 bf).1 18) 20 = .ok (.invokevirtual 201, 3) := zd zm_18 (by decide +kernel)
theorem d_18_23 {σ : Nat → Nat} {n0 : Nat} {bf : ab_B} : decode (ab_code (zx σ n0 bf).1 18) 23 = .ok (.aload_n 0, 1) := zd zm_18 (by decide +kernel)
theorem d_18_24 {σ : Nat → Nat} {n0 : Nat} {bf : ab_B} : decode (ab_code (zx σ n0 bf).1 18) 24 = .ok (.getfield 39, 3) := zd zm_18 (by decide +kernel)
theorem d_18_27 {σ : Nat → Nat} {n0 : Nat} {bf : ab_B} : decode (ab_code (zx σ n0 bf).1 18) 27 = .ok (.getfield 204, 3) := zd zm_18 (by decide +kernel)
theorem d_18_30 {σ : Nat → Nat} {n0 : Nat} {bf : ab_B} : decode (ab_code (zx σ n0 bf).1 18) 30 = .ok (.iload 4, 2) := zd zm_18 (by decide +kernel)
theorem d_18_32 {σ : Nat → Nat} {n0 : Nat} {bf : ab_B} : decode (ab_code (zx σ n0 bf).1 18) 32 = .ok (.iaload, 1) := zd zm_18 (by decide +kernel)
theorem d_18_33 {σ : Nat → Nat} {n0 : Nat} {bf : ab_B} : decode (ab_code (zx σ n0 bf).1 18) 33 = .ok (.invokevirtual 207, 3) := zd zm_18 (by decide +kernel)
theorem d_18_36 {σ : Nat → Nat} {n0 : Nat} {bf : ab_B} : decode (ab_code (zx σ n0 bf).1 18) 36 = .ok (.if_icmp .ge 7, 3) := zd zm_18 (by decide +kernel)
theorem d_18_39 {σ : Nat → Nat} {n0 : Nat} {bf : ab_B} : decode (ab_code (zx σ n0 bf).1 18) 39 = .ok (.iconst 1, 1) := zd zm_18 (by decide +kernel)
theorem d_18_40 {σ : Nat → Nat} {n0 : Nat} {bf : ab_B} : decode (ab_code (zx σ n0 bf).1 18) 40 = .ok (.goto 4, 3) := zd zm_18 (by decide +kernel)
theorem d_18_43 {σ : Nat → Nat} {n0 : Nat} {bf : ab_B} : decode (ab_code (zx σ n0 bf).1 18) 43 = .ok (.iconst 0, 1) := zd zm_18 (by decide +kernel)
theorem d_18_44 {σ : Nat → Nat} {n0 : Nat} {bf : ab_B} : decode (ab_code (zx σ n0 bf).1 18) 44 = .ok (.invokestatic 163, 3) := zd zm_18 (by decide +kernel)
theorem d_18_47 {σ : Nat → Nat} {n0 : Nat} {bf : ab_B} : decode (ab_code (zx σ n0 bf).1 18) 47 = .ok (.aload_n 0, 1) := zd zm_18 (by decide +kernel)
theorem d_18_48 {σ : Nat → Nat} {n0 : Nat} {bf : ab_B} : decode (ab_code (zx σ n0 bf).1 18) 48 = .ok (.getfield 39, 3) := zd zm_18 (by decide +kernel)
theorem d_18_51 {σ : Nat → Nat} {n0 : Nat} {bf : ab_B} : decode (ab_code (zx σ n0 bf).1 18) 51 = .ok (.getfield 211, 3) := zd zm_18 (by decide +kernel)
theorem d_18_54 {σ : Nat → Nat} {n0 : Nat} {bf : ab_B} : decode (ab_code (zx σ n0 bf).1 18) 54 = .ok (.aload_n 0, 1) := zd zm_18 (by decide +kernel)
theorem d_18_55 {σ : Nat → Nat} {n0 : Nat} {bf : ab_B} : decode (ab_code (zx σ n0 bf).1 18) 55 = .ok (.getfield 39, 3) := zd zm_18 (by decide +kernel)
theorem d_18_58 {σ : Nat → Nat} {n0 : Nat} {bf : ab_B} : decode (ab_code (zx σ n0 bf).1 18) 58 = .ok (.getfield 190, 3) := zd zm_18 (by decide +kernel)
theorem d_18_61 {σ : Nat → Nat} {n0 : Nat} {bf : ab_B} : decode (ab_code (zx σ n0 bf).1 18) 61 = .ok (.iload 4, 2) := zd zm_18 (by decide +kernel)
theorem d_18_63 {σ : Nat → Nat} {n0 : Nat} {bf : ab_B} : decode (ab_code (zx σ n0 bf).1 18) 63 = .ok (.iaload, 1) := zd zm_18 (by decide +kernel)
theorem d_18_64 {σ : Nat → Nat} {n0 : Nat} {bf : ab_B} : decode (ab_code (zx σ n0 bf).1 18) 64 = .ok (.iload_n 3, 1) := zd zm_18 (by decide +kernel)
theorem d_18_65 {σ : Nat → Nat} {n0 : Nat} {bf : ab_B} : decode (ab_code (zx σ n0 bf).1 18) 65 = .ok (.iadd, 1) := zd zm_18 (by decide +kernel)
theorem d_18_66 {σ : Nat → Nat} {n0 : Nat} {bf : ab_B} : decode (ab_code (zx σ n0 bf).1 18) 66 = .ok (.baload, 1) := zd zm_18 (by decide +kernel)
theorem d_18_67 {σ : Nat → Nat} {n0 : Nat} {bf : ab_B} : decode (ab_code (zx σ n0 bf).1 18) 67 = .ok (.invokestatic 115, 3) := zd zm_18 (by decide +kernel)
theorem d_18_70 {σ : Nat → Nat} {n0 : Nat} {bf : ab_B} : decode (ab_code (zx σ n0 bf).1 18) 70 = .ok (.aload_n 0, 1) := zd zm_18 (by decide +kernel)
theorem d_18_71 {σ : Nat → Nat} {n0 : Nat} {bf : ab_B} : decode (ab_code (zx σ n0 bf).1 18) 71 = .ok (.getfield 39, 3) := zd zm_18 (by decide +kernel)
theorem d_18_74 {σ : Nat → Nat} {n0 : Nat} {bf : ab_B} : decode (ab_code (zx σ n0 bf).1 18) 74 = .ok (.getfield 215, 3) := zd zm_18 (by decide +kernel)
theorem d_18_77 {σ : Nat → Nat} {n0 : Nat} {bf : ab_B} : decode (ab_code (zx σ n0 bf).1 18) 77 = .ok (.aload_n 0, 1) := zd zm_18 (by decide +kernel)
theorem d_18_78 {σ : Nat → Nat} {n0 : Nat} {bf : ab_B} : decode (ab_code (zx σ n0 bf).1 18) 78 = .ok (.getfield 39, 3) := zd zm_18 (by decide +kernel)
theorem d_18_81 {σ : Nat → Nat} {n0 : Nat} {bf : ab_B} : decode (ab_code (zx σ n0 bf).1 18) 81 = .ok (.getfield 190, 3) := zd zm_18 (by decide +kernel)
theorem d_18_84 {σ : Nat → Nat} {n0 : Nat} {bf : ab_B} : decode (ab_code (zx σ n0 bf).1 18) 84 = .ok (.iload 4, 2) := zd zm_18 (by decide +kernel)
theorem d_18_86 {σ : Nat → Nat} {n0 : Nat} {bf : ab_B} : decode (ab_code (zx σ n0 bf).1 18) 86 = .ok (.iaload, 1) := zd zm_18 (by decide +kernel)
theorem d_18_87 {σ : Nat → Nat} {n0 : Nat} {bf : ab_B} : decode (ab_code (zx σ n0 bf).1 18) 87 = .ok (.iload_n 3, 1) := zd zm_18 (by decide +kernel)
theorem d_18_88 {σ : Nat → Nat} {n0 : Nat} {bf : ab_B} : decode (ab_code (zx σ n0 bf).1 18) 88 = .ok (.iadd, 1) := zd zm_18 (by decide +kernel)
theorem d_18_89 {σ : Nat → Nat} {n0 : Nat} {bf : ab_B} : decode (ab_code (zx σ n0 bf).1 18) 89 = .ok (.laload, 1) := zd zm_18 (by decide +kernel)
theorem d_18_90 {σ : Nat → Nat} {n0 : Nat} {bf : ab_B} : decode (ab_code (zx σ n0 bf).1 18) 90 = .ok (.lreturn, 1) := zd zm_18 (by decide +kernel)
def w_X1_value_44 (X : zs_X) (d : Nat) (p0 : Nat) (p3 : Int32) (p4 : Int32) (q0 : Int32) (S : zs_T) (Q : zs_Q) : Prop :=
  (zs_C X d 17 [.int q0] S (zs_kV (fun S1 => (zs_K S1 p0 = some (.inl 0) ∧ ∃ b4, (zs_R S1 3 p0) = some b4 ∧ zs_K S1 b4 = some (.inl 1) ∧ ∃ b7, (zs_R S1 1012 b4) = some b7 ∧ zs_A S1 b7 0 p4 ∧ ∃ b10, (zs_R S1 1002 b4) = some b10 ∧ zs_A S1 b10 2 ((zs_i S1 b7 p4.toNatClampNeg) + p3) ∧ zs_C X d 10 [.int (zs_i S1 b10 ((zs_i S1 b7 p4.toNatClampNeg) + p3).toNatClampNeg)] S1 (zs_kV (fun S13 => (zs_K S13 p0 = some (.inl 0) ∧ ∃ b16, (zs_R S13 3 p0) = some b16 ∧ zs_K S13 b16 = some (.inl 1) ∧ ∃ b19, (zs_R S13 1012 b16) = some b19 ∧ zs_A S13 b19 0 p4 ∧ ∃ b22, (zs_R S13 1001 b16) = some b22 ∧ zs_A S13 b22 3 ((zs_i S13 b19 p4.toNatClampNeg) + p3) ∧ Q (.returned (some (.long (zs_j S13 b22 ((zs_i S13 b19 p4.toNatClampNeg) + p3).toNatClampNeg)))) S13)) Q))) Q))
theorem u_X1_value_44 {σ : Nat → Nat} {n0 : Nat} {bf : ab_B} {d : Nat} {p0 : Nat} {p3 : Int32} {p4 : Int32} {q0 : Int32} {S : zs_T} {Q : zs_Q} (hB : zt_B bf) (h : w_X1_value_44 (zx σ n0 bf) d p0 p3 p4 q0 S Q) : zs_U (zx σ n0 bf) d 18 44 [(0, .ref p0), (3, .int p3), (4, .int p4)] [.int q0] S Q := by
  unfold w_X1_value_44 at h
  refine zc_0_163 (x0 := q0) hB rfl d_18_44 (Nat.le_of_ble_eq_true rfl) h (fun S1 h => ?_)
  refine zu_aload_n d_18_47 rfl (zs_ra _) ?_
  obtain ⟨k3, h⟩ := h
  refine zg_0_39 rfl d_18_48 k3 ?_
  obtain ⟨b4, e5, h⟩ := h
  refine zs_stk0 (zs_rfe e5) ?_
  obtain ⟨k6, h⟩ := h
  refine zg_0_211 rfl d_18_51 k6 ?_
  refine zu_aload_n d_18_54 rfl (zs_ra _) ?_
  refine zg_0_39 rfl d_18_55 k3 ?_
  refine zs_stk0 (zs_rfe e5) ?_
  refine zg_0_190 rfl d_18_58 k6 ?_
  refine zu_iload d_18_61 rfl ?_
  obtain ⟨b7, e8, h⟩ := h
  refine zs_stk1 (zs_rfe e8) ?_
  obtain ⟨k9, h⟩ := h
  refine zu_iald (k := 0) d_18_63 rfl rfl k9 ?_
  refine zu_iload_n d_18_64 rfl ?_
  refine zu_stk d_18_65 rfl rfl ?_
  obtain ⟨b10, e11, h⟩ := h
  refine zs_stk1 (zs_rfe e11) ?_
  obtain ⟨k12, h⟩ := h
  refine zu_bald (k := 2) d_18_66 rfl (Or.inr rfl) k12 ?_
  refine zc_0_115 (x0 := (zs_i S1 b10 ((zs_i S1 b7 p4.toNatClampNeg) + p3).toNatClampNeg)) hB rfl d_18_67 (Nat.le_of_ble_eq_true rfl) h (fun S13 h => ?_)
  refine zu_aload_n d_18_70 rfl (zs_ra _) ?_
  obtain ⟨k15, h⟩ := h
  refine zg_0_39 rfl d_18_71 k15 ?_
  obtain ⟨b16, e17, h⟩ := h
  refine zs_stk0 (zs_rfe e17) ?_
  obtain ⟨k18, h⟩ := h
  refine zg_0_215 rfl d_18_74 k18 ?_
  refine zu_aload_n d_18_77 rfl (zs_ra _) ?_
  refine zg_0_39 rfl d_18_78 k15 ?_
  refine zs_stk0 (zs_rfe e17) ?_
  refine zg_0_190 rfl d_18_81 k18 ?_
  refine zu_iload d_18_84 rfl ?_
  obtain ⟨b19, e20, h⟩ := h
  refine zs_stk1 (zs_rfe e20) ?_
  obtain ⟨k21, h⟩ := h
  refine zu_iald (k := 0) d_18_86 rfl rfl k21 ?_
  refine zu_iload_n d_18_87 rfl ?_
  refine zu_stk d_18_88 rfl rfl ?_
  obtain ⟨b22, e23, h⟩ := h
  refine zs_stk1 (zs_rfe e23) ?_
  obtain ⟨k24, h⟩ := h
  refine zu_lald (k := 3) d_18_89 rfl rfl k24 ?_
  exact zu_lret d_18_90 zr_18 h
def w_X1_value_39 (X : zs_X) (d : Nat) (p0 : Nat) (p3 : Int32) (p4 : Int32) (S : zs_T) (Q : zs_Q) : Prop :=
  (w_X1_value_44 X d p0 p3 p4 (1 : Int32) S Q)
theorem u_X1_value_39 {σ : Nat → Nat} {n0 : Nat} {bf : ab_B} {d : Nat} {p0 : Nat} {p3 : Int32} {p4 : Int32} {S : zs_T} {Q : zs_Q} (hB : zt_B bf) (h : w_X1_value_39 (zx σ n0 bf) d p0 p3 p4 S Q) : zs_U (zx σ n0 bf) d 18 39 [(0, .ref p0), (3, .int p3), (4, .int p4)] [] S Q := by
  unfold w_X1_value_39 at h
  refine zu_iconst d_18_39 zi_1 ?_
  refine zu_goto (t := 44) d_18_40 rfl ?_
  exact (u_X1_value_44 hB h).weak ⟨rfl, rfl, rfl, trivial⟩
def w_X1_value_43 (X : zs_X) (d : Nat) (p0 : Nat) (p3 : Int32) (p4 : Int32) (S : zs_T) (Q : zs_Q) : Prop :=
  (w_X1_value_44 X d p0 p3 p4 (0 : Int32) S Q)
theorem u_X1_value_43 {σ : Nat → Nat} {n0 : Nat} {bf : ab_B} {d : Nat} {p0 : Nat} {p3 : Int32} {p4 : Int32} {S : zs_T} {Q : zs_Q} (hB : zt_B bf) (h : w_X1_value_43 (zx σ n0 bf) d p0 p3 p4 S Q) : zs_U (zx σ n0 bf) d 18 43 [(0, .ref p0), (3, .int p3), (4, .int p4)] [] S Q := by
  unfold w_X1_value_43 at h
  refine zu_iconst d_18_43 zi_0 ?_
  exact (u_X1_value_44 hB h).weak ⟨rfl, rfl, rfl, trivial⟩
def w_X1_value (X : zs_X) (d : Nat) (p0 : Nat) (p1 : Int32) (p2 : Int32) (p3 : Int32) (S : zs_T) (Q : zs_Q) : Prop :=
  (zs_K S p0 = some (.inl 0) ∧ zs_C X d 19 [.ref p0, .int p1, .int p2] S (zs_kI (fun v3 S2 => (((p3 < 0 → w_X1_value_43 X d p0 p3 v3 S2 Q) ∧ (¬ (p3 < 0) → (zs_K S2 p0 = some (.inl 0) ∧ zs_C X d 20 [.ref p0, .int p1, .int p2] S2 (zs_kR (fun v7 S6 => (zs_K S6 p0 = some (.inl 0) ∧ ∃ b9, (zs_R S6 3 p0) = some b9 ∧ zs_K S6 b9 = some (.inl 1) ∧ ∃ b12, (zs_R S6 1013 b9) = some b12 ∧ zs_A S6 b12 0 v3 ∧ ∃ b15, (zs_R S2 3 p0) = some b15 ∧ zs_K S6 b15 = some (.inl 1) ∧ zs_C X d 1028 [.ref b15, va_rf v7, .int (zs_i S6 b12 v3.toNatClampNeg)] S6 (zs_kI (fun v19 S18 => (((v19 ≤ p3 → w_X1_value_43 X d p0 p3 v3 S18 Q) ∧ (¬ (v19 ≤ p3) → w_X1_value_39 X d p0 p3 v3 S18 Q)))) Q))) Q)))))) Q))
theorem u_X1_value {σ : Nat → Nat} {n0 : Nat} {bf : ab_B} {d : Nat} {p0 : Nat} {p1 : Int32} {p2 : Int32} {p3 : Int32} {S : zs_T} {Q : zs_Q} (hB : zt_B bf) (hd : 1 ≤ d) (h : w_X1_value (zx σ n0 bf) (d - 1) p0 p1 p2 p3 S Q) : zs_C (zx σ n0 bf) d 18 [.ref p0, .int p1, .int p2, .int p3] S Q := by
  have hL : lv_args 0 [.ref p0, .int p1, .int p2, .int p3] = [(0, .ref p0), (1, .int p1), (2, .int p2), (3, .int p3)] := rfl
  refine zs_C.of1 (hB.2 18 (by decide) (by decide)) hd (by rw [hL]; exact zs_sub_self _ (by exact ⟨rfl, rfl, rfl, rfl, trivial⟩)) ?_
  rw [hL]
  clear hL
  unfold w_X1_value at h
  refine zu_aload_n d_18_0 rfl (zs_ra _) ?_
  refine zu_iload_n d_18_1 rfl ?_
  refine zu_iload_n d_18_2 rfl ?_
  obtain ⟨k1, h⟩ := h
  refine zc_0_197 (x0 := p1) (x1 := p2) hB rfl k1 d_18_3 (Nat.le_of_ble_eq_true rfl) h (fun v3 S2 h => ?_)
  refine zu_istore d_18_6 (zs_lt zq_18 rfl) ?_
  refine zu_iload_n d_18_8 rfl ?_
  refine zu_iflt (t := 43) d_18_9 rfl (fun c4 => ?_) (fun c4 => ?_)
  · have h := h.1 c4
    exact (u_X1_value_43 hB h).weak ⟨rfl, rfl, rfl, trivial⟩
  · have h := h.2 c4
    refine zu_iload_n d_18_12 rfl ?_
    refine zu_aload_n d_18_13 rfl (zs_ra _) ?_
    obtain ⟨k5, h⟩ := h
    refine zg_0_39 rfl d_18_14 k5 ?_
    refine zu_aload_n d_18_17 rfl (zs_ra _) ?_
    refine zu_iload_n d_18_18 rfl ?_
    refine zu_iload_n d_18_19 rfl ?_
    refine zc_0_201 (x0 := p1) (x1 := p2) hB rfl k5 d_18_20 (by simp only [List.map_cons, List.map_nil, List.sum_cons, List.sum_nil, zs_cat, zs_cI, zs_cJ, zs_cA]; exact Nat.le_of_ble_eq_true rfl) h (fun v7 S6 h => ?_)
    refine zu_aload_n d_18_23 rfl (zs_ra _) ?_
    obtain ⟨k8, h⟩ := h
    refine zg_0_39 rfl d_18_24 k8 ?_
    obtain ⟨b9, e10, h⟩ := h
    refine zs_stk0 (zs_rfe e10) ?_
    obtain ⟨k11, h⟩ := h
    refine zg_0_204 rfl d_18_27 k11 ?_
    refine zu_iload d_18_30 rfl ?_
    obtain ⟨b12, e13, h⟩ := h
    refine zs_stk1 (zs_rfe e13) ?_
    obtain ⟨k14, h⟩ := h
    refine zu_iald (k := 0) d_18_32 rfl rfl k14 ?_
    obtain ⟨b15, e16, h⟩ := h
    refine zs_stk2 (zs_rfe e16) ?_
    obtain ⟨k17, h⟩ := h
    refine zc_0_207 (x0 := v7) (x1 := (zs_i S6 b12 v3.toNatClampNeg)) hB rfl k17 d_18_33 (Nat.le_of_ble_eq_true rfl) h (fun v19 S18 h => ?_)
    refine zu_cmpge (t := 43) d_18_36 rfl (fun c20 => ?_) (fun c20 => ?_)
    · have h := h.1 c20
      exact (u_X1_value_43 hB h).weak ⟨rfl, rfl, rfl, trivial⟩
    · have h := h.2 c20
      exact (u_X1_value_39 hB h).weak ⟨rfl, rfl, rfl, trivial⟩
