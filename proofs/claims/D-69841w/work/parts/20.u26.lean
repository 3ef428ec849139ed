/-! printed by gen_all.py: what the methods compute -/
set_option maxRecDepth 100000
/-! SchemaPascalModel.setWork(III)V -/
theorem zm_8260 {σ : Nat → Nat} {n0 : Nat} {bf : ab_B} : ab_code (zx σ n0 bf).1 8260 = prog_17_method_256_code := rfl
theorem zq_8260 {σ : Nat → Nat} {n0 : Nat} {bf : ab_B} : ab_maxL (zx σ n0 bf).1 8260 = 8 := rfl
theorem zr_8260 {σ : Nat → Nat} {n0 : Nat} {bf : ab_B} : ab_ret (zx σ n0 bf).1 8260 = (Option.none : Option Jvm.ClassFile.FieldType) := rfl
theorem d_8260_0 {σ : Nat → Nat} {n0 : Nat} {bf : ab_B} : decode (ab_code (zx σ n0 bf).1 8260) 0 = .ok (.aload_n 0, 1) := zd zm_8260 (by decide +kernel)
theorem d_8260_1 {σ : Nat → Nat} {n0 : Nat} {bf : ab_B} : decode (ab_code (zx σ n0 bf).1 8260) 1 = .ok (.invokevirtual 1307, 3) := zd zm_8260 (by decide +kernel)
theorem d_8260_4 {σ : Nat → Nat} {n0 : Nat} {bf : ab_B} : decode (ab_code (zx σ n0 bf).1 8260) 4 = .ok (.lstore 4, 2) := zd zm_8260 (by decide +kernel)
theorem d_8260_6 {σ : Nat → Nat} {n0 : Nat} {bf : ab_B} : decode (ab_code (zx σ n0 bf).1 8260) 6 = .ok (.aload_n 0, 1) := zd zm_8260 (by decide +kernel)
theorem d_8260_7 {σ : Nat → Nat} {n0 : Nat} {bf : ab_B} : decode (ab_code (zx σ n0 bf).1 8260) 7 = .ok (.invokevirtual 1307, 3) := zd zm_8260 (by decide +kernel)
theorem d_8260_10 {σ : Nat → Nat} {n0 : Nat} {bf : ab_B} : decode (ab_code (zx σ n0 bf).1 8260) 10 = .ok (.lstore 6, 2) := zd zm_8260 (by decide +kernel)
theorem d_8260_12 {σ : Nat → Nat} {n0 : Nat} {bf : ab_B} : decode (ab_code (zx σ n0 bf).1 8260) 12 = .ok (.iload_n 1, 1) := zd zm_8260 (by decide +kernel)
theorem d_8260_13 {σ : Nat → Nat} {n0 : Nat} {bf : ab_B} : decode (ab_code (zx σ n0 bf).1 8260) 13 = .ok (.tableswitch 208 50 54 #[35, 47, 63, 75, 173], 35) := zd zm_8260 (by decide +kernel)
theorem d_8260_48 {σ : Nat → Nat} {n0 : Nat} {bf : ab_B} : decode (ab_code (zx σ n0 bf).1 8260) 48 = .ok (.aload_n 0, 1) := zd zm_8260 (by decide +kernel)
theorem d_8260_49 {σ : Nat → Nat} {n0 : Nat} {bf : ab_B} : decode (ab_code (zx σ n0 bf).1 8260) 49 = .ok (.lload 6, 2) := zd zm_8260 (by decide +kernel)
theorem d_8260_51 {σ : Nat → Nat} {n0 : Nat} {bf : ab_B} : decode (ab_code (zx σ n0 bf).1 8260) 51 = .ok (.lload 4, 2) := zd zm_8260 (by decide +kernel)
theorem d_8260_53 {σ : Nat → Nat} {n0 : Nat} {bf : ab_B} : decode (ab_code (zx σ n0 bf).1 8260) 53 = .ok (.lor, 1) := zd zm_8260 (by decide +kernel)
theorem d_8260_54 {σ : Nat → Nat} {n0 : Nat} {bf : ab_B} : decode (ab_code (zx σ n0 bf).1 8260) 54 = .ok (.invokevirtual 1326, 3) := zd zm_8260 (by decide +kernel)
theorem d_8260_57 {σ : Nat → Nat} {n0 : Nat} {bf : ab_B} : decode (ab_code (zx σ n0 bf).1 8260) 57 = .ok (.goto 201, 3) := zd zm_8260 (by decide +kernel)
theorem d_8260_60 {σ : Nat → Nat} {n0 : Nat} {bf : ab_B} : decode (ab_code (zx σ n0 bf).1 8260) 60 = .ok (.aload_n 0, 1) := zd zm_8260 (by decide +kernel)
theorem d_8260_61 {σ : Nat → Nat} {n0 : Nat} {bf : ab_B} : decode (ab_code (zx σ n0 bf).1 8260) 61 = .ok (.lload 6, 2) := zd zm_8260 (by decide +kernel)
theorem d_8260_63 {σ : Nat → Nat} {n0 : Nat} {bf : ab_B} : decode (ab_code (zx σ n0 bf).1 8260) 63 = .ok (.lload 4, 2) := zd zm_8260 (by decide +kernel)
theorem d_8260_65 {σ : Nat → Nat} {n0 : Nat} {bf : ab_B} : decode (ab_code (zx σ n0 bf).1 8260) 65 = .ok (.ldc2_w 631, 3) := zd zm_8260 (by decide +kernel)
theorem d_8260_68 {σ : Nat → Nat} {n0 : Nat} {bf : ab_B} : decode (ab_code (zx σ n0 bf).1 8260) 68 = .ok (.lxor, 1) := zd zm_8260 (by decide +kernel)
theorem d_8260_69 {σ : Nat → Nat} {n0 : Nat} {bf : ab_B} : decode (ab_code (zx σ n0 bf).1 8260) 69 = .ok (.land, 1) := zd zm_8260 (by decide +kernel)
theorem d_8260_70 {σ : Nat → Nat} {n0 : Nat} {bf : ab_B} : decode (ab_code (zx σ n0 bf).1 8260) 70 = .ok (.invokevirtual 1326, 3) := zd zm_8260 (by decide +kernel)
theorem d_8260_73 {σ : Nat → Nat} {n0 : Nat} {bf : ab_B} : decode (ab_code (zx σ n0 bf).1 8260) 73 = .ok (.goto 185, 3) := zd zm_8260 (by decide +kernel)
theorem d_8260_76 {σ : Nat → Nat} {n0 : Nat} {bf : ab_B} : decode (ab_code (zx σ n0 bf).1 8260) 76 = .ok (.aload_n 0, 1) := zd zm_8260 (by decide +kernel)
theorem d_8260_77 {σ : Nat → Nat} {n0 : Nat} {bf : ab_B} : decode (ab_code (zx σ n0 bf).1 8260) 77 = .ok (.lload 6, 2) := zd zm_8260 (by decide +kernel)
theorem d_8260_79 {σ : Nat → Nat} {n0 : Nat} {bf : ab_B} : decode (ab_code (zx σ n0 bf).1 8260) 79 = .ok (.lload 4, 2) := zd zm_8260 (by decide +kernel)
theorem d_8260_81 {σ : Nat → Nat} {n0 : Nat} {bf : ab_B} : decode (ab_code (zx σ n0 bf).1 8260) 81 = .ok (.land, 1) := zd zm_8260 (by decide +kernel)
theorem d_8260_82 {σ : Nat → Nat} {n0 : Nat} {bf : ab_B} : decode (ab_code (zx σ n0 bf).1 8260) 82 = .ok (.invokevirtual 1326, 3) := zd zm_8260 (by decide +kernel)
theorem d_8260_85 {σ : Nat → Nat} {n0 : Nat} {bf : ab_B} : decode (ab_code (zx σ n0 bf).1 8260) 85 = .ok (.goto 173, 3) := zd zm_8260 (by decide +kernel)
theorem d_8260_88 {σ : Nat → Nat} {n0 : Nat} {bf : ab_B} : decode (ab_code (zx σ n0 bf).1 8260) 88 = .ok (.aload_n 0, 1) := zd zm_8260 (by decide +kernel)
theorem d_8260_89 {σ : Nat → Nat} {n0 : Nat} {bf : ab_B} : decode (ab_code (zx σ n0 bf).1 8260) 89 = .ok (.iload_n 2, 1) := zd zm_8260 (by decide +kernel)
theorem d_8260_90 {σ : Nat → Nat} {n0 : Nat} {bf : ab_B} : decode (ab_code (zx σ n0 bf).1 8260) 90 = .ok (.bipush 12, 2) := zd zm_8260 (by decide +kernel)
theorem d_8260_92 {σ : Nat → Nat} {n0 : Nat} {bf : ab_B} : decode (ab_code (zx σ n0 bf).1 8260) 92 = .ok (.if_icmp .ne 19, 3) := zd zm_8260 (by decide +kernel)
theorem d_8260_95 {σ : Nat → Nat} {n0 : Nat} {bf : ab_B} : decode (ab_code (zx σ n0 bf).1 8260) 95 = .ok (.lload 6, 2) := zd zm_8260 (by decide +kernel)
theorem d_8260_97 {σ : Nat → Nat} {n0 : Nat} {bf : ab_B} : decode (ab_code (zx σ n0 bf).1 8260) 97 = .ok (.lload 4, 2) := zd zm_8260 (by decide +kernel)
theorem d_8260_99 {σ : Nat → Nat} {n0 : Nat} {bf : ab_B} : decode (ab_code (zx σ n0 bf).1 8260) 99 = .ok (.lcmp, 1) := zd zm_8260 (by decide +kernel)
theorem d_8260_100 {σ : Nat → Nat} {n0 : Nat} {bf : ab_B} : decode (ab_code (zx σ n0 bf).1 8260) 100 = .ok (.ifCond .ne 7, 3) := zd zm_8260 (by decide +kernel)
theorem d_8260_103 {σ : Nat → Nat} {n0 : Nat} {bf : ab_B} : decode (ab_code (zx σ n0 bf).1 8260) 103 = .ok (.lconst 1, 1) := zd zm_8260 (by decide +kernel)
theorem d_8260_104 {σ : Nat → Nat} {n0 : Nat} {bf : ab_B} : decode (ab_code (zx σ n0 bf).1 8260) 104 = .ok (.goto 76, 3) := zd zm_8260 (by decide +kernel)
theorem d_8260_107 {σ : Nat → Nat} {n0 : Nat} {bf : ab_B} : decode (ab_code (zx σ n0 bf).1 8260) 107 = .ok (.lconst 0, 1) := zd zm_8260 (by decide +kernel)
theorem d_8260_108 {σ : Nat → Nat} {n0 : Nat} {bf : ab_B} : decode (ab_code (zx σ n0 bf).1 8260) 108 = .ok (.goto 72, 3) := zd zm_8260 (by decide +kernel)
theorem d_8260_111 {σ : Nat → Nat} {n0 : Nat} {bf : ab_B} : decode (ab_code (zx σ n0 bf).1 8260) 111 = .ok (.iload_n 2, 1) := zd zm_8260 (by decide +kernel)
theorem d_8260_112 {σ : Nat → Nat} {n0 : Nat} {bf : ab_B} : decode (ab_code (zx σ n0 bf).1 8260) 112 = .ok (.bipush 13, 2) := zd zm_8260 (by decide +kernel)
theorem d_8260_114 {σ : Nat → Nat} {n0 : Nat} {bf : ab_B} : decode (ab_code (zx σ n0 bf).1 8260) 114 = .ok (.if_icmp .ne 19, 3) := zd zm_8260 (by decide +kernel)
theorem d_8260_117 {σ : Nat → Nat} {n0 : Nat} {bf : ab_B} : decode (ab_code (zx σ n0 bf).1 8260) 117 = .ok (.lload 6, 2) := zd zm_8260 (by decide +kernel)
theorem d_8260_119 {σ : Nat → Nat} {n0 : Nat} {bf : ab_B} : decode (ab_code (zx σ n0 bf).1 8260) 119 = .ok (.lload 4, 2) := zd zm_8260 (by decide +kernel)
theorem d_8260_121 {σ : Nat → Nat} {n0 : Nat} {bf : ab_B} : decode (ab_code (zx σ n0 bf).1 8260) 121 = .ok (.lcmp, 1) := zd zm_8260 (by decide +kernel)
theorem d_8260_122 {σ : Nat → Nat} {n0 : Nat} {bf : ab_B} : decode (ab_code (zx σ n0 bf).1 8260) 122 = .ok (.ifCond .eq 7, 3) := zd zm_8260 (by decide +kernel)
theorem d_8260_125 {σ : Nat → Nat} {n0 : Nat} {bf : ab_B} : decode (ab_code (zx σ n0 bf).1 8260) 125 = .ok (.lconst 1, 1) := zd zm_8260 (by decide +kernel)
theorem d_8260_126 {σ : Nat → Nat} {n0 : Nat} {bf : ab_B} : decode (ab_code (zx σ n0 bf).1 8260) 126 = .ok (.goto 54, 3) := zd zm_8260 (by decide +kernel)
theorem d_8260_129 {σ : Nat → Nat} {n0 : Nat} {bf : ab_B} : decode (ab_code (zx σ n0 bf).1 8260) 129 = .ok (.lconst 0, 1) := zd zm_8260 (by decide +kernel)
theorem d_8260_130 {σ : Nat → Nat} {n0 : Nat} {bf : ab_B} : decode (ab_code (zx σ n0 bf).1 8260) 130 = .ok (.goto 50, 3) := zd zm_8260 (by decide +kernel)
theorem d_8260_133 {σ : Nat → Nat} {n0 : Nat} {bf : ab_B} : decode (ab_code (zx σ n0 bf).1 8260) 133 = .ok (.iload_n 2, 1) := zd zm_8260 (by decide +kernel)
theorem d_8260_134 {σ : Nat → Nat} {n0 : Nat} {bf : ab_B} : decode (ab_code (zx σ n0 bf).1 8260) 134 = .ok (.bipush 16, 2) := zd zm_8260 (by decide +kernel)
theorem d_8260_136 {σ : Nat → Nat} {n0 : Nat} {bf : ab_B} : decode (ab_code (zx σ n0 bf).1 8260) 136 = .ok (.if_icmp .ne 25, 3) := zd zm_8260 (by decide +kernel)
theorem d_8260_139 {σ : Nat → Nat} {n0 : Nat} {bf : ab_B} : decode (ab_code (zx σ n0 bf).1 8260) 139 = .ok (.lload 6, 2) := zd zm_8260 (by decide +kernel)
theorem d_8260_141 {σ : Nat → Nat} {n0 : Nat} {bf : ab_B} : decode (ab_code (zx σ n0 bf).1 8260) 141 = .ok (.lload 4, 2) := zd zm_8260 (by decide +kernel)
theorem d_8260_143 {σ : Nat → Nat} {n0 : Nat} {bf : ab_B} : decode (ab_code (zx σ n0 bf).1 8260) 143 = .ok (.ldc2_w 631, 3) := zd zm_8260 (by decide +kernel)
theorem d_8260_146 {σ : Nat → Nat} {n0 : Nat} {bf : ab_B} : decode (ab_code (zx σ n0 bf).1 8260) 146 = .ok (.lxor, 1) := zd zm_8260 (by decide +kernel)
theorem d_8260_147 {σ : Nat → Nat} {n0 : Nat} {bf : ab_B} : decode (ab_code (zx σ n0 bf).1 8260) 147 = .ok (.land, 1) := zd zm_8260 (by decide +kernel)
theorem d_8260_148 {σ : Nat → Nat} {n0 : Nat} {bf : ab_B} : decode (ab_code (zx σ n0 bf).1 8260) 148 = .ok (.lconst 0, 1) := zd zm_8260 (by decide +kernel)
theorem d_8260_149 {σ : Nat → Nat} {n0 : Nat} {bf : ab_B} : decode (ab_code (zx σ n0 bf).1 8260) 149 = .ok (.lcmp, 1) := zd zm_8260 (by decide +kernel)
theorem d_8260_150 {σ : Nat → Nat} {n0 : Nat} {bf : ab_B} : decode (ab_code (zx σ n0 bf).1 8260) 150 = .ok (.ifCond .ne 7, 3) := zd zm_8260 (by decide +kernel)
theorem d_8260_153 {σ : Nat → Nat} {n0 : Nat} {bf : ab_B} : decode (ab_code (zx σ n0 bf).1 8260) 153 = .ok (.lconst 1, 1) := zd zm_8260 (by decide +kernel)
theorem d_8260_154 {σ : Nat → Nat} {n0 : Nat} {bf : ab_B} : decode (ab_code (zx σ n0 bf).1 8260) 154 = .ok (.goto 26, 3) := zd zm_8260 (by decide +kernel)
theorem d_8260_157 {σ : Nat → Nat} {n0 : Nat} {bf : ab_B} : decode (ab_code (zx σ n0 bf).1 8260) 157 = .ok (.lconst 0, 1) := zd zm_8260 (by decide +kernel)
theorem d_8260_158 {σ : Nat → Nat} {n0 : Nat} {bf : ab_B} : decode (ab_code (zx σ n0 bf).1 8260) 158 = .ok (.goto 22, 3) := zd zm_8260 (by decide +kernel)
theorem d_8260_161 {σ : Nat → Nat} {n0 : Nat} {bf : ab_B} : decode (ab_code (zx σ n0 bf).1 8260) 161 = .ok (.lload 4, 2) := zd zm_8260 (by decide +kernel)
theorem d_8260_163 {σ : Nat → Nat} {n0 : Nat} {bf : ab_B} : decode (ab_code (zx σ n0 bf).1 8260) 163 = .ok (.lload 6, 2) := zd zm_8260 (by decide +kernel)
theorem d_8260_165 {σ : Nat → Nat} {n0 : Nat} {bf : ab_B} : decode (ab_code (zx σ n0 bf).1 8260) 165 = .ok (.ldc2_w 631, 3) := zd zm_8260 (by decide +kernel)
theorem d_8260_168 {σ : Nat → Nat} {n0 : Nat} {bf : ab_B} : decode (ab_code (zx σ n0 bf).1 8260) 168 = .ok (.lxor, 1) := zd zm_8260 (by decide +kernel)
theorem d_8260_169 {σ : Nat → Nat} {n0 : Nat} {bf : ab_B} : decode (ab_code (zx σ n0 bf).1 8260) 169 = .ok (.land, 1) := zd zm_8260 (by decide +kernel)
theorem d_8260_170 {σ : Nat → Nat} {n0 : Nat} {bf : ab_B} : decode (ab_code (zx σ n0 bf).1 8260) 170 = .ok (.lconst 0, 1) := zd zm_8260 (by decide +kernel)
theorem d_8260_171 {σ : Nat → Nat} {n0 : Nat} {bf : ab_B} : decode (ab_code (zx σ n0 bf).1 8260) 171 = .ok (.lcmp, 1) := zd zm_8260 (by decide +kernel)
theorem d_8260_172 {σ : Nat → Nat} {n0 : Nat} {bf : ab_B} : decode (ab_code (zx σ n0 bf).1 8260) 172 = .ok (.ifCond .ne 7, 3) := zd zm_8260 (by decide +kernel)
theorem d_8260_175 {σ : Nat → Nat} {n0 : Nat} {bf : ab_B} : decode (ab_code (zx σ n0 bf).1 8260) 175 = .ok (.lconst 1, 1) := zd zm_8260 (by decide +kernel)
theorem d_8260_176 {σ : Nat → Nat} {n0 : Nat} {bf : ab_B} : decode (ab_code (zx σ n0 bf).1 8260) 176 = .ok (.goto 4, 3) := zd zm_8260 (by decide +kernel)
theorem d_8260_179 {σ : Nat → Nat} {n0 : Nat} {bf : ab_B} : decode (ab_code (zx σ n0 bf).1 8260) 179 = .ok (.lconst 0, 1) := zd zm_8260 (by decide +kernel)
theorem d_8260_180 {σ : Nat → Nat} {n0 : Nat} {bf : ab_B} : decode (ab_code (zx σ n0 bf).1 8260) 180 = .ok (.invokevirtual 1326, 3) := zd zm_8260 (by decide +kernel)
theorem d_8260_183 {σ : Nat → Nat} {n0 : Nat} {bf : ab_B} : decode (ab_code (zx σ n0 bf).1 8260) 183 = .ok (.goto 75, 3) := zd zm_8260 (by decide +kernel)
theorem d_8260_186 {σ : Nat → Nat} {n0 : Nat} {bf : ab_B} : decode (ab_code (zx σ n0 bf).1 8260) 186 = .ok (.aload_n 0, 1) := zd zm_8260 (by decide +kernel)
theorem d_8260_187 {σ : Nat → Nat} {n0 : Nat} {bf : ab_B} : decode (ab_code (zx σ n0 bf).1 8260) 187 = .ok (.lload 6, 2) := zd zm_8260 (by decide +kernel)
theorem d_8260_189 {σ : Nat → Nat} {n0 : Nat} {bf : ab_B} : decode (ab_code (zx σ n0 bf).1 8260) 189 = .ok (.lconst 0, 1) := zd zm_8260 (by decide +kernel)
theorem d_8260_190 {σ : Nat → Nat} {n0 : Nat} {bf : ab_B} : decode (ab_code (zx σ n0 bf).1 8260) 190 = .ok (.lcmp, 1) := zd zm_8260 (by decide +kernel)
theorem d_8260_191 {σ : Nat → Nat} {n0 : Nat} {bf : ab_B} : decode (ab_code (zx σ n0 bf).1 8260) 191 = .ok (.ifCond .lt 23, 3) := zd zm_8260 (by decide +kernel)
theorem d_8260_194 {σ : Nat → Nat} {n0 : Nat} {bf : ab_B} : decode (ab_code (zx σ n0 bf).1 8260) 194 = .ok (.lload 6, 2) := zd zm_8260 (by decide +kernel)
theorem d_8260_196 {σ : Nat → Nat} {n0 : Nat} {bf : ab_B} : decode (ab_code (zx σ n0 bf).1 8260) 196 = .ok (.ldc2_w 1407, 3) := zd zm_8260 (by decide +kernel)
theorem d_8260_199 {σ : Nat → Nat} {n0 : Nat} {bf : ab_B} : decode (ab_code (zx σ n0 bf).1 8260) 199 = .ok (.lcmp, 1) := zd zm_8260 (by decide +kernel)
theorem d_8260_200 {σ : Nat → Nat} {n0 : Nat} {bf : ab_B} : decode (ab_code (zx σ n0 bf).1 8260) 200 = .ok (.ifCond .ge 14, 3) := zd zm_8260 (by decide +kernel)
theorem d_8260_203 {σ : Nat → Nat} {n0 : Nat} {bf : ab_B} : decode (ab_code (zx σ n0 bf).1 8260) 203 = .ok (.lload 4, 2) := zd zm_8260 (by decide +kernel)
theorem d_8260_205 {σ : Nat → Nat} {n0 : Nat} {bf : ab_B} : decode (ab_code (zx σ n0 bf).1 8260) 205 = .ok (.lload 6, 2) := zd zm_8260 (by decide +kernel)
theorem d_8260_207 {σ : Nat → Nat} {n0 : Nat} {bf : ab_B} : decode (ab_code (zx σ n0 bf).1 8260) 207 = .ok (.l2i, 1) := zd zm_8260 (by decide +kernel)
theorem d_8260_208 {σ : Nat → Nat} {n0 : Nat} {bf : ab_B} : decode (ab_code (zx σ n0 bf).1 8260) 208 = .ok (.lushr, 1) := zd zm_8260 (by decide +kernel)
theorem d_8260_209 {σ : Nat → Nat} {n0 : Nat} {bf : ab_B} : decode (ab_code (zx σ n0 bf).1 8260) 209 = .ok (.lconst 1, 1) := zd zm_8260 (by decide +kernel)
theorem d_8260_210 {σ : Nat → Nat} {n0 : Nat} {bf : ab_B} : decode (ab_code (zx σ n0 bf).1 8260) 210 = .ok (.land, 1) := zd zm_8260 (by decide +kernel)
theorem d_8260_211 {σ : Nat → Nat} {n0 : Nat} {bf : ab_B} : decode (ab_code (zx σ n0 bf).1 8260) 211 = .ok (.goto 4, 3) := zd zm_8260 (by decide +kernel)
theorem d_8260_214 {σ : Nat → Nat} {n0 : Nat} {bf : ab_B} : decode (ab_code (zx σ n0 bf).1 8260) 214 = .ok (.lconst 0, 1) := zd zm_8260 (by decide +kernel)
theorem d_8260_215 {σ : Nat → Nat} {n0 : Nat} {bf : ab_B} : decode (ab_code (zx σ n0 bf).1 8260) 215 = .ok (.invokevirtual 1326, 3) := zd zm_8260 (by decide +kernel)
theorem d_8260_218 {σ : Nat → Nat} {n0 : Nat} {bf : ab_B} : decode (ab_code (zx σ n0 bf).1 8260) 218 = .ok (.goto 40, 3) := zd zm_8260 (by decide +kernel)
theorem d_8260_221 {σ : Nat → Nat} {n0 : Nat} {bf : ab_B} : decode (ab_code (zx σ n0 bf).1 8260) 221 = .ok (.lload 4, 2) := zd zm_8260 (by decide +kernel)
theorem d_8260_223 {σ : Nat → Nat} {n0 : Nat} {bf : ab_B} : decode (ab_code (zx σ n0 bf).1 8260) 223 = .ok (.lconst 0, 1) := zd zm_8260 (by decide +kernel)
theorem d_8260_224 {σ : Nat → Nat} {n0 : Nat} {bf : ab_B} : decode (ab_code (zx σ n0 bf).1 8260) 224 = .ok (.lcmp, 1) := zd zm_8260 (by decide +kernel)
theorem d_8260_225 {σ : Nat → Nat} {n0 : Nat} {bf : ab_B} : decode (ab_code (zx σ n0 bf).1 8260) 225 = .ok (.ifCond .lt 12, 3) := zd zm_8260 (by decide +kernel)
theorem d_8260_228 {σ : Nat → Nat} {n0 : Nat} {bf : ab_B} : decode (ab_code (zx σ n0 bf).1 8260) 228 = .ok (.lload 4, 2) := zd zm_8260 (by decide +kernel)
theorem d_8260_230 {σ : Nat → Nat} {n0 : Nat} {bf : ab_B} : decode (ab_code (zx σ n0 bf).1 8260) 230 = .ok (.ldc2_w 800, 3) := zd zm_8260 (by decide +kernel)
theorem d_8260_233 {σ : Nat → Nat} {n0 : Nat} {bf : ab_B} : decode (ab_code (zx σ n0 bf).1 8260) 233 = .ok (.lcmp, 1) := zd zm_8260 (by decide +kernel)
theorem d_8260_234 {σ : Nat → Nat} {n0 : Nat} {bf : ab_B} : decode (ab_code (zx σ n0 bf).1 8260) 234 = .ok (.ifCond .le 12, 3) := zd zm_8260 (by decide +kernel)
theorem d_8260_237 {σ : Nat → Nat} {n0 : Nat} {bf : ab_B} : decode (ab_code (zx σ n0 bf).1 8260) 237 = .ok (.aload_n 0, 1) := zd zm_8260 (by decide +kernel)
theorem d_8260_238 {σ : Nat → Nat} {n0 : Nat} {bf : ab_B} : decode (ab_code (zx σ n0 bf).1 8260) 238 = .ok (.iconst 2, 1) := zd zm_8260 (by decide +kernel)
theorem d_8260_239 {σ : Nat → Nat} {n0 : Nat} {bf : ab_B} : decode (ab_code (zx σ n0 bf).1 8260) 239 = .ok (.iload_n 3, 1) := zd zm_8260 (by decide +kernel)
theorem d_8260_240 {σ : Nat → Nat} {n0 : Nat} {bf : ab_B} : decode (ab_code (zx σ n0 bf).1 8260) 240 = .ok (.invokevirtual 1297, 3) := zd zm_8260 (by decide +kernel)
theorem d_8260_243 {σ : Nat → Nat} {n0 : Nat} {bf : ab_B} : decode (ab_code (zx σ n0 bf).1 8260) 243 = .ok (.goto 15, 3) := zd zm_8260 (by decide +kernel)
theorem d_8260_246 {σ : Nat → Nat} {n0 : Nat} {bf : ab_B} : decode (ab_code (zx σ n0 bf).1 8260) 246 = .ok (.aload_n 0, 1) := zd zm_8260 (by decide +kernel)
theorem d_8260_247 {σ : Nat → Nat} {n0 : Nat} {bf : ab_B} : decode (ab_code (zx σ n0 bf).1 8260) 247 = .ok (.lload 6, 2) := zd zm_8260 (by decide +kernel)
theorem d_8260_249 {σ : Nat → Nat} {n0 : Nat} {bf : ab_B} : decode (ab_code (zx σ n0 bf).1 8260) 249 = .ok (.lconst 1, 1) := zd zm_8260 (by decide +kernel)
theorem d_8260_250 {σ : Nat → Nat} {n0 : Nat} {bf : ab_B} : decode (ab_code (zx σ n0 bf).1 8260) 250 = .ok (.lload 4, 2) := zd zm_8260 (by decide +kernel)
theorem d_8260_252 {σ : Nat → Nat} {n0 : Nat} {bf : ab_B} : decode (ab_code (zx σ n0 bf).1 8260) 252 = .ok (.l2i, 1) := zd zm_8260 (by decide +kernel)
theorem d_8260_253 {σ : Nat → Nat} {n0 : Nat} {bf : ab_B} : decode (ab_code (zx σ n0 bf).1 8260) 253 = .ok (.lshl, 1) := zd zm_8260 (by decide +kernel)
theorem d_8260_254 {σ : Nat → Nat} {n0 : Nat} {bf : ab_B} : decode (ab_code (zx σ n0 bf).1 8260) 254 = .ok (.lor, 1) := zd zm_8260 (by decide +kernel)
theorem d_8260_255 {σ : Nat → Nat} {n0 : Nat} {bf : ab_B} : decode (ab_code (zx σ n0 bf).1 8260) 255 = .ok (.invokevirtual 1326, 3) := zd zm_8260 (by decide +kernel)
theorem d_8260_258 {σ : Nat → Nat} {n0 : Nat} {bf : ab_B} : decode (ab_code (zx σ n0 bf).1 8260) 258 = .ok (.return_, 1) := zd zm_8260 (by decide +kernel)
def w_X9_setWork_258 (X : zs_X) (d : Nat)  (S : zs_T) (Q : zs_Q) : Prop :=
  (Q (.returned none) S)
theorem u_X9_setWork_258 {σ : Nat → Nat} {n0 : Nat} {bf : ab_B} {d : Nat}  {S : zs_T} {Q : zs_Q} (hB : zt_B bf) (h : w_X9_setWork_258 (zx σ n0 bf) d  S Q) : zs_U (zx σ n0 bf) d 8260 258 [] [] S Q := by
  unfold w_X9_setWork_258 at h
  exact zu_vret d_8260_258 zr_8260 h
def w_X9_setWork_180 (X : zs_X) (d : Nat) (q0 : Option Nat) (q1 : Int64) (S : zs_T) (Q : zs_Q) : Prop :=
  (∃ b1, q0 = some b1 ∧ zs_K S b1 = some (.inl 8) ∧ zs_C X d 8231 [.ref b1, .long q1] S (zs_kV (fun S4 => (w_X9_setWork_258 X d  S4 Q)) Q))
theorem u_X9_setWork_180 {σ : Nat → Nat} {n0 : Nat} {bf : ab_B} {d : Nat} {q0 : Option Nat} {q1 : Int64} {S : zs_T} {Q : zs_Q} (hB : zt_B bf) (h : w_X9_setWork_180 (zx σ n0 bf) d q0 q1 S Q) : zs_U (zx σ n0 bf) d 8260 180 [] [.long q1, va_rf q0] S Q := by
  unfold w_X9_setWork_180 at h
  obtain ⟨b1, e2, h⟩ := h
  refine zs_stk1 (zs_rfe e2) ?_
  obtain ⟨k3, h⟩ := h
  refine zc_8_1326 (x0 := q1) hB rfl k3 d_8260_180 (Nat.le_of_ble_eq_true rfl) h (fun S4 h => ?_)
  refine zu_goto (t := 258) d_8260_183 rfl ?_
  exact (u_X9_setWork_258 hB h).weak trivial
def w_X9_setWork_215 (X : zs_X) (d : Nat) (q0 : Option Nat) (q1 : Int64) (S : zs_T) (Q : zs_Q) : Prop :=
  (∃ b1, q0 = some b1 ∧ zs_K S b1 = some (.inl 8) ∧ zs_C X d 8231 [.ref b1, .long q1] S (zs_kV (fun S4 => (w_X9_setWork_258 X d  S4 Q)) Q))
theorem u_X9_setWork_215 {σ : Nat → Nat} {n0 : Nat} {bf : ab_B} {d : Nat} {q0 : Option Nat} {q1 : Int64} {S : zs_T} {Q : zs_Q} (hB : zt_B bf) (h : w_X9_setWork_215 (zx σ n0 bf) d q0 q1 S Q) : zs_U (zx σ n0 bf) d 8260 215 [] [.long q1, va_rf q0] S Q := by
  unfold w_X9_setWork_215 at h
  obtain ⟨b1, e2, h⟩ := h
  refine zs_stk1 (zs_rfe e2) ?_
  obtain ⟨k3, h⟩ := h
  refine zc_8_1326 (x0 := q1) hB rfl k3 d_8260_215 (Nat.le_of_ble_eq_true rfl) h (fun S4 h => ?_)
  refine zu_goto (t := 258) d_8260_218 rfl ?_
  exact (u_X9_setWork_258 hB h).weak trivial
def w_X9_setWork_214 (X : zs_X) (d : Nat) (q0 : Option Nat) (S : zs_T) (Q : zs_Q) : Prop :=
  (w_X9_setWork_215 X d q0 (0 : Int64) S Q)
theorem u_X9_setWork_214 {σ : Nat → Nat} {n0 : Nat} {bf : ab_B} {d : Nat} {q0 : Option Nat} {S : zs_T} {Q : zs_Q} (hB : zt_B bf) (h : w_X9_setWork_214 (zx σ n0 bf) d q0 S Q) : zs_U (zx σ n0 bf) d 8260 214 [] [va_rf q0] S Q := by
  unfold w_X9_setWork_214 at h
  refine zu_lconst (v := 0) d_8260_214 rfl ?_
  exact (u_X9_setWork_215 hB h).weak trivial
def w_X9_setWork_237 (X : zs_X) (d : Nat) (p0 : Nat) (p3 : Int32) (S : zs_T) (Q : zs_Q) : Prop :=
  (zs_K S p0 = some (.inl 8) ∧ zs_C X d 8208 [.ref p0, .int (2 : Int32), .int p3] S (zs_kV (fun S2 => (w_X9_setWork_258 X d  S2 Q)) Q))
theorem u_X9_setWork_237 {σ : Nat → Nat} {n0 : Nat} {bf : ab_B} {d : Nat} {p0 : Nat} {p3 : Int32} {S : zs_T} {Q : zs_Q} (hB : zt_B bf) (h : w_X9_setWork_237 (zx σ n0 bf) d p0 p3 S Q) : zs_U (zx σ n0 bf) d 8260 237 [(0, .ref p0), (3, .int p3)] [] S Q := by
  unfold w_X9_setWork_237 at h
  refine zu_aload_n d_8260_237 rfl (zs_ra _) ?_
  refine zu_iconst d_8260_238 zi_2 ?_
  refine zu_iload_n d_8260_239 rfl ?_
  obtain ⟨k1, h⟩ := h
  refine zc_8_1297 (x0 := (2 : Int32)) (x1 := p3) hB rfl k1 d_8260_240 (Nat.le_of_ble_eq_true rfl) h (fun S2 h => ?_)
  refine zu_goto (t := 258) d_8260_243 rfl ?_
  exact (u_X9_setWork_258 hB h).weak trivial
def w_X9_setWork_246 (X : zs_X) (d : Nat) (p0 : Nat) (p4 : Int64) (p6 : Int64) (S : zs_T) (Q : zs_Q) : Prop :=
  (zs_K S p0 = some (.inl 8) ∧ zs_C X d 8231 [.ref p0, .long (p6 ||| ((1 : Int64) <<< ((((p4).toInt32)).toInt64 &&& 63)))] S (zs_kV (fun S2 => w_X9_setWork_258 X d  S2 Q) Q))
theorem u_X9_setWork_246 {σ : Nat → Nat} {n0 : Nat} {bf : ab_B} {d : Nat} {p0 : Nat} {p4 : Int64} {p6 : Int64} {S : zs_T} {Q : zs_Q} (hB : zt_B bf) (h : w_X9_setWork_246 (zx σ n0 bf) d p0 p4 p6 S Q) : zs_U (zx σ n0 bf) d 8260 246 [(0, .ref p0), (4, .long p4), (6, .long p6)] [] S Q := by
  unfold w_X9_setWork_246 at h
  refine zu_aload_n d_8260_246 rfl (zs_ra _) ?_
  refine zu_lload d_8260_247 rfl ?_
  refine zu_lconst (v := 1) d_8260_249 rfl ?_
  refine zu_lload d_8260_250 rfl ?_
  refine zu_stk d_8260_252 rfl rfl ?_
  refine zu_stk d_8260_253 rfl rfl ?_
  refine zu_stk d_8260_254 rfl rfl ?_
  obtain ⟨k1, h⟩ := h
  refine zc_8_1326 (x0 := (p6 ||| ((1 : Int64) <<< ((((p4).toInt32)).toInt64 &&& 63)))) hB rfl k1 d_8260_255 (Nat.le_of_ble_eq_true rfl) h (fun S2 h => ?_)
  exact (u_X9_setWork_258 hB h).weak trivial
def w_X9_setWork (X : zs_X) (d : Nat) (p0 : Nat) (p1 : Int32) (p2 : Int32) (p3 : Int32) (S : zs_T) (Q : zs_Q) : Prop :=
  (zs_K S p0 = some (.inl 8) ∧ zs_C X d 8242 [.ref p0] S (zs_kJ (fun v3 S2 => (zs_K S2 p0 = some (.inl 8) ∧ zs_C X d 8242 [.ref p0] S2 (zs_kJ (fun v6 S5 => (((p1.toInt < 50 ∨ 54 < p1.toInt → (((v3 < (0 : Int64) → w_X9_setWork_237 X d p0 p3 S5 Q) ∧ (¬ (v3 < (0 : Int64)) → (((v3 ≤ (63 : Int64) → w_X9_setWork_246 X d p0 v3 v6 S5 Q) ∧ (¬ (v3 ≤ (63 : Int64)) → w_X9_setWork_237 X d p0 p3 S5 Q))))))) ∧ (p1.toInt = 50 → (zs_K S5 p0 = some (.inl 8) ∧ zs_C X d 8231 [.ref p0, .long (v6 ||| v3)] S5 (zs_kV (fun S11 => (w_X9_setWork_258 X d  S11 Q)) Q))) ∧ (p1.toInt = 51 → (zs_K S5 p0 = some (.inl 8) ∧ zs_C X d 8231 [.ref p0, .long (v6 &&& (v3 ^^^ (-1 : Int64)))] S5 (zs_kV (fun S14 => (w_X9_setWork_258 X d  S14 Q)) Q))) ∧ (p1.toInt = 52 → (zs_K S5 p0 = some (.inl 8) ∧ zs_C X d 8231 [.ref p0, .long (v6 &&& v3)] S5 (zs_kV (fun S17 => (w_X9_setWork_258 X d  S17 Q)) Q))) ∧ (p1.toInt = 53 → (((¬ p2 = (12 : Int32) → (((¬ p2 = (13 : Int32) → (((¬ p2 = (16 : Int32) → (((¬ (v3 &&& (v6 ^^^ (-1 : Int64))) = (0 : Int64) → (w_X9_setWork_180 X d (some p0) (0 : Int64) S5 Q)) ∧ (¬ (¬ (v3 &&& (v6 ^^^ (-1 : Int64))) = (0 : Int64)) → (w_X9_setWork_180 X d (some p0) (1 : Int64) S5 Q))))) ∧ (¬ (¬ p2 = (16 : Int32)) → (((¬ (v6 &&& (v3 ^^^ (-1 : Int64))) = (0 : Int64) → (w_X9_setWork_180 X d (some p0) (0 : Int64) S5 Q)) ∧ (¬ (¬ (v6 &&& (v3 ^^^ (-1 : Int64))) = (0 : Int64)) → (w_X9_setWork_180 X d (some p0) (1 : Int64) S5 Q)))))))) ∧ (¬ (¬ p2 = (13 : Int32)) → (((v6 = v3 → (w_X9_setWork_180 X d (some p0) (0 : Int64) S5 Q)) ∧ (¬ (v6 = v3) → (w_X9_setWork_180 X d (some p0) (1 : Int64) S5 Q)))))))) ∧ (¬ (¬ p2 = (12 : Int32)) → (((¬ v6 = v3 → (w_X9_setWork_180 X d (some p0) (0 : Int64) S5 Q)) ∧ (¬ (¬ v6 = v3) → (w_X9_setWork_180 X d (some p0) (1 : Int64) S5 Q)))))))) ∧ (p1.toInt = 54 → (((v6 < (0 : Int64) → w_X9_setWork_214 X d (some p0) S5 Q) ∧ (¬ (v6 < (0 : Int64)) → ((((64 : Int64) ≤ v6 → w_X9_setWork_214 X d (some p0) S5 Q) ∧ (¬ ((64 : Int64) ≤ v6) → (w_X9_setWork_215 X d (some p0) ((((v3).toUInt64 >>> ((((v6).toInt32)).toInt64.toUInt64 &&& Int64.toUInt64 63)).toInt64) &&& (1 : Int64)) S5 Q))))))))))) Q))) Q))
theorem u_X9_setWork {σ : Nat → Nat} {n0 : Nat} {bf : ab_B} {d : Nat} {p0 : Nat} {p1 : Int32} {p2 : Int32} {p3 : Int32} {S : zs_T} {Q : zs_Q} (hB : zt_B bf) (hd : 1 ≤ d) (h : w_X9_setWork (zx σ n0 bf) (d - 1) p0 p1 p2 p3 S Q) : zs_C (zx σ n0 bf) d 8260 [.ref p0, .int p1, .int p2, .int p3] S Q := by
  have hL : lv_args 0 [.ref p0, .int p1, .int p2, .int p3] = [(0, .ref p0), (1, .int p1), (2, .int p2), (3, .int p3)] := rfl
  refine zs_C.of1 (hB.2 8260 (by decide) (by decide)) hd (by rw [hL]; exact zs_sub_self _ (by exact ⟨rfl, rfl, rfl, rfl, trivial⟩)) ?_
  rw [hL]
  clear hL
  unfold w_X9_setWork at h
  refine zu_aload_n d_8260_0 rfl (zs_ra _) ?_
  obtain ⟨k1, h⟩ := h
  refine zc_8_1307  hB rfl k1 d_8260_1 (Nat.le_of_ble_eq_true rfl) h (fun v3 S2 h => ?_)
  refine zu_lstore d_8260_4 (zs_lt zq_8260 rfl) ?_
  refine zu_aload_n d_8260_6 rfl (zs_ra _) ?_
  obtain ⟨k4, h⟩ := h
  refine zc_8_1307  hB rfl k4 d_8260_7 (Nat.le_of_ble_eq_true rfl) h (fun v6 S5 h => ?_)
  refine zu_lstore d_8260_10 (zs_lt zq_8260 rfl) ?_
  refine zu_iload_n d_8260_12 rfl ?_
  refine zu_tsw (td := 221) d_8260_13 (by decide) rfl (fun c7 => ?_) ⟨fun c7 => ⟨by decide, ?_⟩, fun c7 => ⟨by decide, ?_⟩, fun c7 => ⟨by decide, ?_⟩, fun c7 => ⟨by decide, ?_⟩, fun c7 => ⟨by decide, ?_⟩, trivial⟩
  · have h := h.1 c7
    refine zu_lload d_8260_221 rfl ?_
    refine zu_lconst (v := 0) d_8260_223 rfl ?_
    refine zu_llt (t := 237) d_8260_224 d_8260_225 rfl (fun c8 => ?_) (fun c8 => ?_)
    · have h := h.1 c8
      exact (u_X9_setWork_237 hB h).weak ⟨rfl, rfl, trivial⟩
    · have h := h.2 c8
      refine zu_lload d_8260_228 rfl ?_
      refine zl2_8_800 rfl d_8260_230 ?_
      refine zu_lle (t := 246) d_8260_233 d_8260_234 rfl (fun c9 => ?_) (fun c9 => ?_)
      · have h := h.1 c9
        exact (u_X9_setWork_246 hB h).weak ⟨rfl, rfl, rfl, trivial⟩
      · have h := h.2 c9
        exact (u_X9_setWork_237 hB h).weak ⟨rfl, rfl, trivial⟩
  · have h := h.2.1 c7
    show zs_U _ _ _ 48 _ _ _ _
    refine zu_aload_n d_8260_48 rfl (zs_ra _) ?_
    refine zu_lload d_8260_49 rfl ?_
    refine zu_lload d_8260_51 rfl ?_
    refine zu_stk d_8260_53 rfl rfl ?_
    obtain ⟨k10, h⟩ := h
    refine zc_8_1326 (x0 := (v6 ||| v3)) hB rfl k10 d_8260_54 (Nat.le_of_ble_eq_true rfl) h (fun S11 h => ?_)
    refine zu_goto (t := 258) d_8260_57 rfl ?_
    exact (u_X9_setWork_258 hB h).weak trivial
  · have h := h.2.2.1 c7
    show zs_U _ _ _ 60 _ _ _ _
    refine zu_aload_n d_8260_60 rfl (zs_ra _) ?_
    refine zu_lload d_8260_61 rfl ?_
    refine zu_lload d_8260_63 rfl ?_
    refine zl2_8_631 rfl d_8260_65 ?_
    refine zu_stk d_8260_68 rfl rfl ?_
    refine zu_stk d_8260_69 rfl rfl ?_
    obtain ⟨k13, h⟩ := h
    refine zc_8_1326 (x0 := (v6 &&& (v3 ^^^ (-1 : Int64)))) hB rfl k13 d_8260_70 (Nat.le_of_ble_eq_true rfl) h (fun S14 h => ?_)
    refine zu_goto (t := 258) d_8260_73 rfl ?_
    exact (u_X9_setWork_258 hB h).weak trivial
  · have h := h.2.2.2.1 c7
    show zs_U _ _ _ 76 _ _ _ _
    refine zu_aload_n d_8260_76 rfl (zs_ra _) ?_
    refine zu_lload d_8260_77 rfl ?_
    refine zu_lload d_8260_79 rfl ?_
    refine zu_stk d_8260_81 rfl rfl ?_
    obtain ⟨k16, h⟩ := h
    refine zc_8_1326 (x0 := (v6 &&& v3)) hB rfl k16 d_8260_82 (Nat.le_of_ble_eq_true rfl) h (fun S17 h => ?_)
    refine zu_goto (t := 258) d_8260_85 rfl ?_
    exact (u_X9_setWork_258 hB h).weak trivial
  · have h := h.2.2.2.2.1 c7
    show zs_U _ _ _ 88 _ _ _ _
    refine zu_aload_n d_8260_88 rfl (zs_ra _) ?_
    refine zu_iload_n d_8260_89 rfl ?_
    refine zu_bipush d_8260_90 zj_12 ?_
    refine zu_cmpne (t := 111) d_8260_92 rfl (fun c19 => ?_) (fun c19 => ?_)
    · have h := h.1 c19
      refine zu_iload_n d_8260_111 rfl ?_
      refine zu_bipush d_8260_112 zj_13 ?_
      refine zu_cmpne (t := 133) d_8260_114 rfl (fun c20 => ?_) (fun c20 => ?_)
      · have h := h.1 c20
        refine zu_iload_n d_8260_133 rfl ?_
        refine zu_bipush d_8260_134 zj_16 ?_
        refine zu_cmpne (t := 161) d_8260_136 rfl (fun c21 => ?_) (fun c21 => ?_)
        · have h := h.1 c21
          refine zu_lload d_8260_161 rfl ?_
          refine zu_lload d_8260_163 rfl ?_
          refine zl2_8_631 rfl d_8260_165 ?_
          refine zu_stk d_8260_168 rfl rfl ?_
          refine zu_stk d_8260_169 rfl rfl ?_
          refine zu_lconst (v := 0) d_8260_170 rfl ?_
          refine zu_lne (t := 179) d_8260_171 d_8260_172 rfl (fun c22 => ?_) (fun c22 => ?_)
          · have h := h.1 c22
            refine zu_lconst (v := 0) d_8260_179 rfl ?_
            exact (u_X9_setWork_180 hB h).weak trivial
          · have h := h.2 c22
            refine zu_lconst (v := 1) d_8260_175 rfl ?_
            refine zu_goto (t := 180) d_8260_176 rfl ?_
            exact (u_X9_setWork_180 hB h).weak trivial
        · have h := h.2 c21
          refine zu_lload d_8260_139 rfl ?_
          refine zu_lload d_8260_141 rfl ?_
          refine zl2_8_631 rfl d_8260_143 ?_
          refine zu_stk d_8260_146 rfl rfl ?_
          refine zu_stk d_8260_147 rfl rfl ?_
          refine zu_lconst (v := 0) d_8260_148 rfl ?_
          refine zu_lne (t := 157) d_8260_149 d_8260_150 rfl (fun c23 => ?_) (fun c23 => ?_)
          · have h := h.1 c23
            refine zu_lconst (v := 0) d_8260_157 rfl ?_
            refine zu_goto (t := 180) d_8260_158 rfl ?_
            exact (u_X9_setWork_180 hB h).weak trivial
          · have h := h.2 c23
            refine zu_lconst (v := 1) d_8260_153 rfl ?_
            refine zu_goto (t := 180) d_8260_154 rfl ?_
            exact (u_X9_setWork_180 hB h).weak trivial
      · have h := h.2 c20
        refine zu_lload d_8260_117 rfl ?_
        refine zu_lload d_8260_119 rfl ?_
        refine zu_leq (t := 129) d_8260_121 d_8260_122 rfl (fun c24 => ?_) (fun c24 => ?_)
        · have h := h.1 c24
          refine zu_lconst (v := 0) d_8260_129 rfl ?_
          refine zu_goto (t := 180) d_8260_130 rfl ?_
          exact (u_X9_setWork_180 hB h).weak trivial
        · have h := h.2 c24
          refine zu_lconst (v := 1) d_8260_125 rfl ?_
          refine zu_goto (t := 180) d_8260_126 rfl ?_
          exact (u_X9_setWork_180 hB h).weak trivial
    · have h := h.2 c19
      refine zu_lload d_8260_95 rfl ?_
      refine zu_lload d_8260_97 rfl ?_
      refine zu_lne (t := 107) d_8260_99 d_8260_100 rfl (fun c25 => ?_) (fun c25 => ?_)
      · have h := h.1 c25
        refine zu_lconst (v := 0) d_8260_107 rfl ?_
        refine zu_goto (t := 180) d_8260_108 rfl ?_
        exact (u_X9_setWork_180 hB h).weak trivial
      · have h := h.2 c25
        refine zu_lconst (v := 1) d_8260_103 rfl ?_
        refine zu_goto (t := 180) d_8260_104 rfl ?_
        exact (u_X9_setWork_180 hB h).weak trivial
  · have h := h.2.2.2.2.2 c7
    show zs_U _ _ _ 186 _ _ _ _
    refine zu_aload_n d_8260_186 rfl (zs_ra _) ?_
    refine zu_lload d_8260_187 rfl ?_
    refine zu_lconst (v := 0) d_8260_189 rfl ?_
    refine zu_llt (t := 214) d_8260_190 d_8260_191 rfl (fun c26 => ?_) (fun c26 => ?_)
    · have h := h.1 c26
      exact (u_X9_setWork_214 hB h).weak trivial
    · have h := h.2 c26
      refine zu_lload d_8260_194 rfl ?_
      refine zl2_8_1407 rfl d_8260_196 ?_
      refine zu_lge (t := 214) d_8260_199 d_8260_200 rfl (fun c27 => ?_) (fun c27 => ?_)
      · have h := h.1 c27
        exact (u_X9_setWork_214 hB h).weak trivial
      · have h := h.2 c27
        refine zu_lload d_8260_203 rfl ?_
        refine zu_lload d_8260_205 rfl ?_
        refine zu_stk d_8260_207 rfl rfl ?_
        refine zu_stk d_8260_208 rfl rfl ?_
        refine zu_lconst (v := 1) d_8260_209 rfl ?_
        refine zu_stk d_8260_210 rfl rfl ?_
        refine zu_goto (t := 215) d_8260_211 rfl ?_
        exact (u_X9_setWork_215 hB h).weak trivial
/-! SchemaPascalModel.wayWork(IIII)V -/
theorem zm_8261 {σ : Nat → Nat} {n0 : Nat} {bf : ab_B} : ab_code (zx σ n0 bf).1 8261 = prog_17_method_269_code := rfl
theorem zq_8261 {σ : Nat → Nat} {n0 : Nat} {bf : ab_B} : ab_maxL (zx σ n0 bf).1 8261 = 7 := rfl
theorem zr_8261 {σ : Nat → Nat} {n0 : Nat} {bf : ab_B} : ab_ret (zx σ n0 bf).1 8261 = (Option.none : Option Jvm.ClassFile.FieldType) := rfl
theorem d_8261_0 {σ : Nat → Nat} {n0 : Nat} {bf : ab_B} : decode (ab_code (zx σ n0 bf).1 8261) 0 = .ok (.iload_n 1, 1) := zd zm_8261 (by decide +kernel)
theorem d_8261_1 {σ : Nat → Nat} {n0 : Nat} {bf : ab_B} : decode (ab_code (zx σ n0 bf).1 8261) 1 = .ok (.tableswitch 278 80 89 #[55, 63, 278, 87, 141, 154, 165, 190, 215, 271], 55) := zd zm_8261 (by decide +kernel)
theorem d_8261_56 {σ : Nat → Nat} {n0 : Nat} {bf : ab_B} : decode (ab_code (zx σ n0 bf).1 8261) 56 = .ok (.aload_n 0, 1) := zd zm_8261 (by decide +kernel)
theorem d_8261_57 {σ : Nat → Nat} {n0 : Nat} {bf : ab_B} : decode (ab_code (zx σ n0 bf).1 8261) 57 = .ok (.iload_n 2, 1) := zd zm_8261 (by decide +kernel)
theorem d_8261_58 {σ : Nat → Nat} {n0 : Nat} {bf : ab_B} : decode (ab_code (zx σ n0 bf).1 8261) 58 = .ok (.putfield 1377, 3) := zd zm_8261 (by decide +kernel)
theorem d_8261_61 {σ : Nat → Nat} {n0 : Nat} {bf : ab_B} : decode (ab_code (zx σ n0 bf).1 8261) 61 = .ok (.goto 227, 3) := zd zm_8261 (by decide +kernel)
theorem d_8261_64 {σ : Nat → Nat} {n0 : Nat} {bf : ab_B} : decode (ab_code (zx σ n0 bf).1 8261) 64 = .ok (.aload_n 0, 1) := zd zm_8261 (by decide +kernel)
theorem d_8261_65 {σ : Nat → Nat} {n0 : Nat} {bf : ab_B} : decode (ab_code (zx σ n0 bf).1 8261) 65 = .ok (.aload_n 0, 1) := zd zm_8261 (by decide +kernel)
theorem d_8261_66 {σ : Nat → Nat} {n0 : Nat} {bf : ab_B} : decode (ab_code (zx σ n0 bf).1 8261) 66 = .ok (.invokevirtual 1307, 3) := zd zm_8261 (by decide +kernel)
theorem d_8261_69 {σ : Nat → Nat} {n0 : Nat} {bf : ab_B} : decode (ab_code (zx σ n0 bf).1 8261) 69 = .ok (.lconst 0, 1) := zd zm_8261 (by decide +kernel)
theorem d_8261_70 {σ : Nat → Nat} {n0 : Nat} {bf : ab_B} : decode (ab_code (zx σ n0 bf).1 8261) 70 = .ok (.lcmp, 1) := zd zm_8261 (by decide +kernel)
theorem d_8261_71 {σ : Nat → Nat} {n0 : Nat} {bf : ab_B} : decode (ab_code (zx σ n0 bf).1 8261) 71 = .ok (.ifCond .ne 7, 3) := zd zm_8261 (by decide +kernel)
theorem d_8261_74 {σ : Nat → Nat} {n0 : Nat} {bf : ab_B} : decode (ab_code (zx σ n0 bf).1 8261) 74 = .ok (.iload_n 2, 1) := zd zm_8261 (by decide +kernel)
theorem d_8261_75 {σ : Nat → Nat} {n0 : Nat} {bf : ab_B} : decode (ab_code (zx σ n0 bf).1 8261) 75 = .ok (.goto 7, 3) := zd zm_8261 (by decide +kernel)
theorem d_8261_78 {σ : Nat → Nat} {n0 : Nat} {bf : ab_B} : decode (ab_code (zx σ n0 bf).1 8261) 78 = .ok (.aload_n 0, 1) := zd zm_8261 (by decide +kernel)
theorem d_8261_79 {σ : Nat → Nat} {n0 : Nat} {bf : ab_B} : decode (ab_code (zx σ n0 bf).1 8261) 79 = .ok (.getfield 1377, 3) := zd zm_8261 (by decide +kernel)
theorem d_8261_82 {σ : Nat → Nat} {n0 : Nat} {bf : ab_B} : decode (ab_code (zx σ n0 bf).1 8261) 82 = .ok (.putfield 1377, 3) := zd zm_8261 (by decide +kernel)
theorem d_8261_85 {σ : Nat → Nat} {n0 : Nat} {bf : ab_B} : decode (ab_code (zx σ n0 bf).1 8261) 85 = .ok (.goto 203, 3) := zd zm_8261 (by decide +kernel)
theorem d_8261_88 {σ : Nat → Nat} {n0 : Nat} {bf : ab_B} : decode (ab_code (zx σ n0 bf).1 8261) 88 = .ok (.aload_n 0, 1) := zd zm_8261 (by decide +kernel)
theorem d_8261_89 {σ : Nat → Nat} {n0 : Nat} {bf : ab_B} : decode (ab_code (zx σ n0 bf).1 8261) 89 = .ok (.getfield 399, 3) := zd zm_8261 (by decide +kernel)
theorem d_8261_92 {σ : Nat → Nat} {n0 : Nat} {bf : ab_B} : decode (ab_code (zx σ n0 bf).1 8261) 92 = .ok (.aload_n 0, 1) := zd zm_8261 (by decide +kernel)
theorem d_8261_93 {σ : Nat → Nat} {n0 : Nat} {bf : ab_B} : decode (ab_code (zx σ n0 bf).1 8261) 93 = .ok (.getfield 1261, 3) := zd zm_8261 (by decide +kernel)
theorem d_8261_96 {σ : Nat → Nat} {n0 : Nat} {bf : ab_B} : decode (ab_code (zx σ n0 bf).1 8261) 96 = .ok (.iconst 1, 1) := zd zm_8261 (by decide +kernel)
theorem d_8261_97 {σ : Nat → Nat} {n0 : Nat} {bf : ab_B} : decode (ab_code (zx σ n0 bf).1 8261) 97 = .ok (.isub, 1) := zd zm_8261 (by decide +kernel)
theorem d_8261_98 {σ : Nat → Nat} {n0 : Nat} {bf : ab_B} : decode (ab_code (zx σ n0 bf).1 8261) 98 = .ok (.laload, 1) := zd zm_8261 (by decide +kernel)
theorem d_8261_99 {σ : Nat → Nat} {n0 : Nat} {bf : ab_B} : decode (ab_code (zx σ n0 bf).1 8261) 99 = .ok (.lstore 5, 2) := zd zm_8261 (by decide +kernel)
theorem d_8261_101 {σ : Nat → Nat} {n0 : Nat} {bf : ab_B} : decode (ab_code (zx σ n0 bf).1 8261) 101 = .ok (.aload_n 0, 1) := zd zm_8261 (by decide +kernel)
theorem d_8261_102 {σ : Nat → Nat} {n0 : Nat} {bf : ab_B} : decode (ab_code (zx σ n0 bf).1 8261) 102 = .ok (.lload 5, 2) := zd zm_8261 (by decide +kernel)
theorem d_8261_104 {σ : Nat → Nat} {n0 : Nat} {bf : ab_B} : decode (ab_code (zx σ n0 bf).1 8261) 104 = .ok (.aload_n 0, 1) := zd zm_8261 (by decide +kernel)
theorem d_8261_105 {σ : Nat → Nat} {n0 : Nat} {bf : ab_B} : decode (ab_code (zx σ n0 bf).1 8261) 105 = .ok (.getfield 163, 3) := zd zm_8261 (by decide +kernel)
theorem d_8261_108 {σ : Nat → Nat} {n0 : Nat} {bf : ab_B} : decode (ab_code (zx σ n0 bf).1 8261) 108 = .ok (.iload_n 3, 1) := zd zm_8261 (by decide +kernel)
theorem d_8261_109 {σ : Nat → Nat} {n0 : Nat} {bf : ab_B} : decode (ab_code (zx σ n0 bf).1 8261) 109 = .ok (.iaload, 1) := zd zm_8261 (by decide +kernel)
theorem d_8261_110 {σ : Nat → Nat} {n0 : Nat} {bf : ab_B} : decode (ab_code (zx σ n0 bf).1 8261) 110 = .ok (.i2l, 1) := zd zm_8261 (by decide +kernel)
theorem d_8261_111 {σ : Nat → Nat} {n0 : Nat} {bf : ab_B} : decode (ab_code (zx σ n0 bf).1 8261) 111 = .ok (.lcmp, 1) := zd zm_8261 (by decide +kernel)
theorem d_8261_112 {σ : Nat → Nat} {n0 : Nat} {bf : ab_B} : decode (ab_code (zx σ n0 bf).1 8261) 112 = .ok (.ifCond .lt 20, 3) := zd zm_8261 (by decide +kernel)
theorem d_8261_115 {σ : Nat → Nat} {n0 : Nat} {bf : ab_B} : decode (ab_code (zx σ n0 bf).1 8261) 115 = .ok (.lload 5, 2) := zd zm_8261 (by decide +kernel)
theorem d_8261_117 {σ : Nat → Nat} {n0 : Nat} {bf : ab_B} : decode (ab_code (zx σ n0 bf).1 8261) 117 = .ok (.aload_n 0, 1) := zd zm_8261 (by decide +kernel)
theorem d_8261_118 {σ : Nat → Nat} {n0 : Nat} {bf : ab_B} : decode (ab_code (zx σ n0 bf).1 8261) 118 = .ok (.getfield 166, 3) := zd zm_8261 (by decide +kernel)
theorem d_8261_121 {σ : Nat → Nat} {n0 : Nat} {bf : ab_B} : decode (ab_code (zx σ n0 bf).1 8261) 121 = .ok (.iload_n 3, 1) := zd zm_8261 (by decide +kernel)
theorem d_8261_122 {σ : Nat → Nat} {n0 : Nat} {bf : ab_B} : decode (ab_code (zx σ n0 bf).1 8261) 122 = .ok (.iaload, 1) := zd zm_8261 (by decide +kernel)
theorem d_8261_123 {σ : Nat → Nat} {n0 : Nat} {bf : ab_B} : decode (ab_code (zx σ n0 bf).1 8261) 123 = .ok (.i2l, 1) := zd zm_8261 (by decide +kernel)
theorem d_8261_124 {σ : Nat → Nat} {n0 : Nat} {bf : ab_B} : decode (ab_code (zx σ n0 bf).1 8261) 124 = .ok (.lcmp, 1) := zd zm_8261 (by decide +kernel)
theorem d_8261_125 {σ : Nat → Nat} {n0 : Nat} {bf : ab_B} : decode (ab_code (zx σ n0 bf).1 8261) 125 = .ok (.ifCond .gt 7, 3) := zd zm_8261 (by decide +kernel)
theorem d_8261_128 {σ : Nat → Nat} {n0 : Nat} {bf : ab_B} : decode (ab_code (zx σ n0 bf).1 8261) 128 = .ok (.iload_n 2, 1) := zd zm_8261 (by decide +kernel)
theorem d_8261_129 {σ : Nat → Nat} {n0 : Nat} {bf : ab_B} : decode (ab_code (zx σ n0 bf).1 8261) 129 = .ok (.goto 7, 3) := zd zm_8261 (by decide +kernel)
theorem d_8261_132 {σ : Nat → Nat} {n0 : Nat} {bf : ab_B} : decode (ab_code (zx σ n0 bf).1 8261) 132 = .ok (.aload_n 0, 1) := zd zm_8261 (by decide +kernel)
theorem d_8261_133 {σ : Nat → Nat} {n0 : Nat} {bf : ab_B} : decode (ab_code (zx σ n0 bf).1 8261) 133 = .ok (.getfield 1377, 3) := zd zm_8261 (by decide +kernel)
theorem d_8261_136 {σ : Nat → Nat} {n0 : Nat} {bf : ab_B} : decode (ab_code (zx σ n0 bf).1 8261) 136 = .ok (.putfield 1377, 3) := zd zm_8261 (by decide +kernel)
theorem d_8261_139 {σ : Nat → Nat} {n0 : Nat} {bf : ab_B} : decode (ab_code (zx σ n0 bf).1 8261) 139 = .ok (.goto 149, 3) := zd zm_8261 (by decide +kernel)
theorem d_8261_142 {σ : Nat → Nat} {n0 : Nat} {bf : ab_B} : decode (ab_code (zx σ n0 bf).1 8261) 142 = .ok (.aload_n 0, 1) := zd zm_8261 (by decide +kernel)
theorem d_8261_143 {σ : Nat → Nat} {n0 : Nat} {bf : ab_B} : decode (ab_code (zx σ n0 bf).1 8261) 143 = .ok (.dup, 1) := zd zm_8261 (by decide +kernel)
theorem d_8261_144 {σ : Nat → Nat} {n0 : Nat} {bf : ab_B} : decode (ab_code (zx σ n0 bf).1 8261) 144 = .ok (.getfield 1261, 3) := zd zm_8261 (by decide +kernel)
theorem d_8261_147 {σ : Nat → Nat} {n0 : Nat} {bf : ab_B} : decode (ab_code (zx σ n0 bf).1 8261) 147 = .ok (.iconst 1, 1) := zd zm_8261 (by decide +kernel)
theorem d_8261_148 {σ : Nat → Nat} {n0 : Nat} {bf : ab_B} : decode (ab_code (zx σ n0 bf).1 8261) 148 = .ok (.isub, 1) := zd zm_8261 (by decide +kernel)
theorem d_8261_149 {σ : Nat → Nat} {n0 : Nat} {bf : ab_B} : decode (ab_code (zx σ n0 bf).1 8261) 149 = .ok (.putfield 1261, 3) := zd zm_8261 (by decide +kernel)
theorem d_8261_152 {σ : Nat → Nat} {n0 : Nat} {bf : ab_B} : decode (ab_code (zx σ n0 bf).1 8261) 152 = .ok (.goto 136, 3) := zd zm_8261 (by decide +kernel)
theorem d_8261_155 {σ : Nat → Nat} {n0 : Nat} {bf : ab_B} : decode (ab_code (zx σ n0 bf).1 8261) 155 = .ok (.aload_n 0, 1) := zd zm_8261 (by decide +kernel)
theorem d_8261_156 {σ : Nat → Nat} {n0 : Nat} {bf : ab_B} : decode (ab_code (zx σ n0 bf).1 8261) 156 = .ok (.bipush 8, 2) := zd zm_8261 (by decide +kernel)
theorem d_8261_158 {σ : Nat → Nat} {n0 : Nat} {bf : ab_B} : decode (ab_code (zx σ n0 bf).1 8261) 158 = .ok (.iload 4, 2) := zd zm_8261 (by decide +kernel)
theorem d_8261_160 {σ : Nat → Nat} {n0 : Nat} {bf : ab_B} : decode (ab_code (zx σ n0 bf).1 8261) 160 = .ok (.invokevirtual 1297, 3) := zd zm_8261 (by decide +kernel)
theorem d_8261_163 {σ : Nat → Nat} {n0 : Nat} {bf : ab_B} : decode (ab_code (zx σ n0 bf).1 8261) 163 = .ok (.goto 125, 3) := zd zm_8261 (by decide +kernel)
theorem d_8261_166 {σ : Nat → Nat} {n0 : Nat} {bf : ab_B} : decode (ab_code (zx σ n0 bf).1 8261) 166 = .ok (.aload_n 0, 1) := zd zm_8261 (by decide +kernel)
theorem d_8261_167 {σ : Nat → Nat} {n0 : Nat} {bf : ab_B} : decode (ab_code (zx σ n0 bf).1 8261) 167 = .ok (.iload_n 3, 1) := zd zm_8261 (by decide +kernel)
theorem d_8261_168 {σ : Nat → Nat} {n0 : Nat} {bf : ab_B} : decode (ab_code (zx σ n0 bf).1 8261) 168 = .ok (.iconst 2, 1) := zd zm_8261 (by decide +kernel)
theorem d_8261_169 {σ : Nat → Nat} {n0 : Nat} {bf : ab_B} : decode (ab_code (zx σ n0 bf).1 8261) 169 = .ok (.idiv, 1) := zd zm_8261 (by decide +kernel)
theorem d_8261_170 {σ : Nat → Nat} {n0 : Nat} {bf : ab_B} : decode (ab_code (zx σ n0 bf).1 8261) 170 = .ok (.iload_n 3, 1) := zd zm_8261 (by decide +kernel)
theorem d_8261_171 {σ : Nat → Nat} {n0 : Nat} {bf : ab_B} : decode (ab_code (zx σ n0 bf).1 8261) 171 = .ok (.iconst 2, 1) := zd zm_8261 (by decide +kernel)
theorem d_8261_172 {σ : Nat → Nat} {n0 : Nat} {bf : ab_B} : decode (ab_code (zx σ n0 bf).1 8261) 172 = .ok (.irem, 1) := zd zm_8261 (by decide +kernel)
theorem d_8261_173 {σ : Nat → Nat} {n0 : Nat} {bf : ab_B} : decode (ab_code (zx σ n0 bf).1 8261) 173 = .ok (.iconst 1, 1) := zd zm_8261 (by decide +kernel)
theorem d_8261_174 {σ : Nat → Nat} {n0 : Nat} {bf : ab_B} : decode (ab_code (zx σ n0 bf).1 8261) 174 = .ok (.if_icmp .ne 7, 3) := zd zm_8261 (by decide +kernel)
theorem d_8261_177 {σ : Nat → Nat} {n0 : Nat} {bf : ab_B} : decode (ab_code (zx σ n0 bf).1 8261) 177 = .ok (.iconst 1, 1) := zd zm_8261 (by decide +kernel)
theorem d_8261_178 {σ : Nat → Nat} {n0 : Nat} {bf : ab_B} : decode (ab_code (zx σ n0 bf).1 8261) 178 = .ok (.goto 4, 3) := zd zm_8261 (by decide +kernel)
theorem d_8261_181 {σ : Nat → Nat} {n0 : Nat} {bf : ab_B} : decode (ab_code (zx σ n0 bf).1 8261) 181 = .ok (.iconst 0, 1) := zd zm_8261 (by decide +kernel)
theorem d_8261_182 {σ : Nat → Nat} {n0 : Nat} {bf : ab_B} : decode (ab_code (zx σ n0 bf).1 8261) 182 = .ok (.iload_n 2, 1) := zd zm_8261 (by decide +kernel)
theorem d_8261_183 {σ : Nat → Nat} {n0 : Nat} {bf : ab_B} : decode (ab_code (zx σ n0 bf).1 8261) 183 = .ok (.iload 4, 2) := zd zm_8261 (by decide +kernel)
theorem d_8261_185 {σ : Nat → Nat} {n0 : Nat} {bf : ab_B} : decode (ab_code (zx σ n0 bf).1 8261) 185 = .ok (.invokevirtual 1469, 3) := zd zm_8261 (by decide +kernel)
theorem d_8261_188 {σ : Nat → Nat} {n0 : Nat} {bf : ab_B} : decode (ab_code (zx σ n0 bf).1 8261) 188 = .ok (.goto 100, 3) := zd zm_8261 (by decide +kernel)
theorem d_8261_191 {σ : Nat → Nat} {n0 : Nat} {bf : ab_B} : decode (ab_code (zx σ n0 bf).1 8261) 191 = .ok (.aload_n 0, 1) := zd zm_8261 (by decide +kernel)
theorem d_8261_192 {σ : Nat → Nat} {n0 : Nat} {bf : ab_B} : decode (ab_code (zx σ n0 bf).1 8261) 192 = .ok (.iload_n 3, 1) := zd zm_8261 (by decide +kernel)
theorem d_8261_193 {σ : Nat → Nat} {n0 : Nat} {bf : ab_B} : decode (ab_code (zx σ n0 bf).1 8261) 193 = .ok (.iconst 2, 1) := zd zm_8261 (by decide +kernel)
theorem d_8261_194 {σ : Nat → Nat} {n0 : Nat} {bf : ab_B} : decode (ab_code (zx σ n0 bf).1 8261) 194 = .ok (.idiv, 1) := zd zm_8261 (by decide +kernel)
theorem d_8261_195 {σ : Nat → Nat} {n0 : Nat} {bf : ab_B} : decode (ab_code (zx σ n0 bf).1 8261) 195 = .ok (.iload_n 3, 1) := zd zm_8261 (by decide +kernel)
theorem d_8261_196 {σ : Nat → Nat} {n0 : Nat} {bf : ab_B} : decode (ab_code (zx σ n0 bf).1 8261) 196 = .ok (.iconst 2, 1) := zd zm_8261 (by decide +kernel)
theorem d_8261_197 {σ : Nat → Nat} {n0 : Nat} {bf : ab_B} : decode (ab_code (zx σ n0 bf).1 8261) 197 = .ok (.irem, 1) := zd zm_8261 (by decide +kernel)
theorem d_8261_198 {σ : Nat → Nat} {n0 : Nat} {bf : ab_B} : decode (ab_code (zx σ n0 bf).1 8261) 198 = .ok (.iconst 1, 1) := zd zm_8261 (by decide +kernel)
theorem d_8261_199 {σ : Nat → Nat} {n0 : Nat} {bf : ab_B} : decode (ab_code (zx σ n0 bf).1 8261) 199 = .ok (.if_icmp .ne 7, 3) := zd zm_8261 (by decide +kernel)
theorem d_8261_202 {σ : Nat → Nat} {n0 : Nat} {bf : ab_B} : decode (ab_code (zx σ n0 bf).1 8261) 202 = .ok (.iconst 1, 1) := zd zm_8261 (by decide +kernel)
theorem d_8261_203 {σ : Nat → Nat} {n0 : Nat} {bf : ab_B} : decode (ab_code (zx σ n0 bf).1 8261) 203 = .ok (.goto 4, 3) := zd zm_8261 (by decide +kernel)
theorem d_8261_206 {σ : Nat → Nat} {n0 : Nat} {bf : ab_B} : decode (ab_code (zx σ n0 bf).1 8261) 206 = .ok (.iconst 0, 1) := zd zm_8261 (by decide +kernel)
theorem d_8261_207 {σ : Nat → Nat} {n0 : Nat} {bf : ab_B} : decode (ab_code (zx σ n0 bf).1 8261) 207 = .ok (.iload_n 2, 1) := zd zm_8261 (by decide +kernel)
theorem d_8261_208 {σ : Nat → Nat} {n0 : Nat} {bf : ab_B} : decode (ab_code (zx σ n0 bf).1 8261) 208 = .ok (.iload 4, 2) := zd zm_8261 (by decide +kernel)
theorem d_8261_210 {σ : Nat → Nat} {n0 : Nat} {bf : ab_B} : decode (ab_code (zx σ n0 bf).1 8261) 210 = .ok (.invokevirtual 1473, 3) := zd zm_8261 (by decide +kernel)
theorem d_8261_213 {σ : Nat → Nat} {n0 : Nat} {bf : ab_B} : decode (ab_code (zx σ n0 bf).1 8261) 213 = .ok (.goto 75, 3) := zd zm_8261 (by decide +kernel)
theorem d_8261_216 {σ : Nat → Nat} {n0 : Nat} {bf : ab_B} : decode (ab_code (zx σ n0 bf).1 8261) 216 = .ok (.aload_n 0, 1) := zd zm_8261 (by decide +kernel)
theorem d_8261_217 {σ : Nat → Nat} {n0 : Nat} {bf : ab_B} : decode (ab_code (zx σ n0 bf).1 8261) 217 = .ok (.dup, 1) := zd zm_8261 (by decide +kernel)
theorem d_8261_218 {σ : Nat → Nat} {n0 : Nat} {bf : ab_B} : decode (ab_code (zx σ n0 bf).1 8261) 218 = .ok (.getfield 1270, 3) := zd zm_8261 (by decide +kernel)
theorem d_8261_221 {σ : Nat → Nat} {n0 : Nat} {bf : ab_B} : decode (ab_code (zx σ n0 bf).1 8261) 221 = .ok (.iconst 1, 1) := zd zm_8261 (by decide +kernel)
theorem d_8261_222 {σ : Nat → Nat} {n0 : Nat} {bf : ab_B} : decode (ab_code (zx σ n0 bf).1 8261) 222 = .ok (.isub, 1) := zd zm_8261 (by decide +kernel)
theorem d_8261_223 {σ : Nat → Nat} {n0 : Nat} {bf : ab_B} : decode (ab_code (zx σ n0 bf).1 8261) 223 = .ok (.putfield 1270, 3) := zd zm_8261 (by decide +kernel)
theorem d_8261_226 {σ : Nat → Nat} {n0 : Nat} {bf : ab_B} : decode (ab_code (zx σ n0 bf).1 8261) 226 = .ok (.aload_n 0, 1) := zd zm_8261 (by decide +kernel)
theorem d_8261_227 {σ : Nat → Nat} {n0 : Nat} {bf : ab_B} : decode (ab_code (zx σ n0 bf).1 8261) 227 = .ok (.aload_n 0, 1) := zd zm_8261 (by decide +kernel)
theorem d_8261_228 {σ : Nat → Nat} {n0 : Nat} {bf : ab_B} : decode (ab_code (zx σ n0 bf).1 8261) 228 = .ok (.getfield 1270, 3) := zd zm_8261 (by decide +kernel)
theorem d_8261_231 {σ : Nat → Nat} {n0 : Nat} {bf : ab_B} : decode (ab_code (zx σ n0 bf).1 8261) 231 = .ok (.invokevirtual 1291, 3) := zd zm_8261 (by decide +kernel)
theorem d_8261_234 {σ : Nat → Nat} {n0 : Nat} {bf : ab_B} : decode (ab_code (zx σ n0 bf).1 8261) 234 = .ok (.aload_n 0, 1) := zd zm_8261 (by decide +kernel)
theorem d_8261_235 {σ : Nat → Nat} {n0 : Nat} {bf : ab_B} : decode (ab_code (zx σ n0 bf).1 8261) 235 = .ok (.aload_n 0, 1) := zd zm_8261 (by decide +kernel)
theorem d_8261_236 {σ : Nat → Nat} {n0 : Nat} {bf : ab_B} : decode (ab_code (zx σ n0 bf).1 8261) 236 = .ok (.getfield 347, 3) := zd zm_8261 (by decide +kernel)
theorem d_8261_239 {σ : Nat → Nat} {n0 : Nat} {bf : ab_B} : decode (ab_code (zx σ n0 bf).1 8261) 239 = .ok (.aload_n 0, 1) := zd zm_8261 (by decide +kernel)
theorem d_8261_240 {σ : Nat → Nat} {n0 : Nat} {bf : ab_B} : decode (ab_code (zx σ n0 bf).1 8261) 240 = .ok (.getfield 1240, 3) := zd zm_8261 (by decide +kernel)
theorem d_8261_243 {σ : Nat → Nat} {n0 : Nat} {bf : ab_B} : decode (ab_code (zx σ n0 bf).1 8261) 243 = .ok (.iconst 1, 1) := zd zm_8261 (by decide +kernel)
theorem d_8261_244 {σ : Nat → Nat} {n0 : Nat} {bf : ab_B} : decode (ab_code (zx σ n0 bf).1 8261) 244 = .ok (.isub, 1) := zd zm_8261 (by decide +kernel)
theorem d_8261_245 {σ : Nat → Nat} {n0 : Nat} {bf : ab_B} : decode (ab_code (zx σ n0 bf).1 8261) 245 = .ok (.iaload, 1) := zd zm_8261 (by decide +kernel)
theorem d_8261_246 {σ : Nat → Nat} {n0 : Nat} {bf : ab_B} : decode (ab_code (zx σ n0 bf).1 8261) 246 = .ok (.iload_n 2, 1) := zd zm_8261 (by decide +kernel)
theorem d_8261_247 {σ : Nat → Nat} {n0 : Nat} {bf : ab_B} : decode (ab_code (zx σ n0 bf).1 8261) 247 = .ok (.iadd, 1) := zd zm_8261 (by decide +kernel)
theorem d_8261_248 {σ : Nat → Nat} {n0 : Nat} {bf : ab_B} : decode (ab_code (zx σ n0 bf).1 8261) 248 = .ok (.aload_n 0, 1) := zd zm_8261 (by decide +kernel)
theorem d_8261_249 {σ : Nat → Nat} {n0 : Nat} {bf : ab_B} : decode (ab_code (zx σ n0 bf).1 8261) 249 = .ok (.getfield 409, 3) := zd zm_8261 (by decide +kernel)
theorem d_8261_252 {σ : Nat → Nat} {n0 : Nat} {bf : ab_B} : decode (ab_code (zx σ n0 bf).1 8261) 252 = .ok (.aload_n 0, 1) := zd zm_8261 (by decide +kernel)
theorem d_8261_253 {σ : Nat → Nat} {n0 : Nat} {bf : ab_B} : decode (ab_code (zx σ n0 bf).1 8261) 253 = .ok (.getfield 1270, 3) := zd zm_8261 (by decide +kernel)
theorem d_8261_256 {σ : Nat → Nat} {n0 : Nat} {bf : ab_B} : decode (ab_code (zx σ n0 bf).1 8261) 256 = .ok (.iaload, 1) := zd zm_8261 (by decide +kernel)
theorem d_8261_257 {σ : Nat → Nat} {n0 : Nat} {bf : ab_B} : decode (ab_code (zx σ n0 bf).1 8261) 257 = .ok (.aload_n 0, 1) := zd zm_8261 (by decide +kernel)
theorem d_8261_258 {σ : Nat → Nat} {n0 : Nat} {bf : ab_B} : decode (ab_code (zx σ n0 bf).1 8261) 258 = .ok (.getfield 412, 3) := zd zm_8261 (by decide +kernel)
theorem d_8261_261 {σ : Nat → Nat} {n0 : Nat} {bf : ab_B} : decode (ab_code (zx σ n0 bf).1 8261) 261 = .ok (.aload_n 0, 1) := zd zm_8261 (by decide +kernel)
theorem d_8261_262 {σ : Nat → Nat} {n0 : Nat} {bf : ab_B} : decode (ab_code (zx σ n0 bf).1 8261) 262 = .ok (.getfield 1270, 3) := zd zm_8261 (by decide +kernel)
theorem d_8261_265 {σ : Nat → Nat} {n0 : Nat} {bf : ab_B} : decode (ab_code (zx σ n0 bf).1 8261) 265 = .ok (.iaload, 1) := zd zm_8261 (by decide +kernel)
theorem d_8261_266 {σ : Nat → Nat} {n0 : Nat} {bf : ab_B} : decode (ab_code (zx σ n0 bf).1 8261) 266 = .ok (.invokevirtual 1365, 3) := zd zm_8261 (by decide +kernel)
theorem d_8261_269 {σ : Nat → Nat} {n0 : Nat} {bf : ab_B} : decode (ab_code (zx σ n0 bf).1 8261) 269 = .ok (.goto 19, 3) := zd zm_8261 (by decide +kernel)
theorem d_8261_272 {σ : Nat → Nat} {n0 : Nat} {bf : ab_B} : decode (ab_code (zx σ n0 bf).1 8261) 272 = .ok (.aload_n 0, 1) := zd zm_8261 (by decide +kernel)
theorem d_8261_273 {σ : Nat → Nat} {n0 : Nat} {bf : ab_B} : decode (ab_code (zx σ n0 bf).1 8261) 273 = .ok (.invokevirtual 1401, 3) := zd zm_8261 (by decide +kernel)
theorem d_8261_276 {σ : Nat → Nat} {n0 : Nat} {bf : ab_B} : decode (ab_code (zx σ n0 bf).1 8261) 276 = .ok (.goto 12, 3) := zd zm_8261 (by decide +kernel)
theorem d_8261_279 {σ : Nat → Nat} {n0 : Nat} {bf : ab_B} : decode (ab_code (zx σ n0 bf).1 8261) 279 = .ok (.aload_n 0, 1) := zd zm_8261 (by decide +kernel)
theorem d_8261_280 {σ : Nat → Nat} {n0 : Nat} {bf : ab_B} : decode (ab_code (zx σ n0 bf).1 8261) 280 = .ok (.iload_n 1, 1) := zd zm_8261 (by decide +kernel)
theorem d_8261_281 {σ : Nat → Nat} {n0 : Nat} {bf : ab_B} : decode (ab_code (zx σ n0 bf).1 8261) 281 = .ok (.iload_n 2, 1) := zd zm_8261 (by decide +kernel)
theorem d_8261_282 {σ : Nat → Nat} {n0 : Nat} {bf : ab_B} : decode (ab_code (zx σ n0 bf).1 8261) 282 = .ok (.iload_n 3, 1) := zd zm_8261 (by decide +kernel)
theorem d_8261_283 {σ : Nat → Nat} {n0 : Nat} {bf : ab_B} : decode (ab_code (zx σ n0 bf).1 8261) 283 = .ok (.iload 4, 2) := zd zm_8261 (by decide +kernel)
theorem d_8261_285 {σ : Nat → Nat} {n0 : Nat} {bf : ab_B} : decode (ab_code (zx σ n0 bf).1 8261) 285 = .ok (.invokevirtual 1476, 3) := zd zm_8261 (by decide +kernel)
theorem d_8261_288 {σ : Nat → Nat} {n0 : Nat} {bf : ab_B} : decode (ab_code (zx σ n0 bf).1 8261) 288 = .ok (.return_, 1) := zd zm_8261 (by decide +kernel)
def w_X9_wayWork_139 (X : zs_X) (d : Nat)  (S : zs_T) (Q : zs_Q) : Prop :=
  (Q (.returned none) S)
theorem u_X9_wayWork_139 {σ : Nat → Nat} {n0 : Nat} {bf : ab_B} {d : Nat}  {S : zs_T} {Q : zs_Q} (hB : zt_B bf) (h : w_X9_wayWork_139 (zx σ n0 bf) d  S Q) : zs_U (zx σ n0 bf) d 8261 139 [] [] S Q := by
  unfold w_X9_wayWork_139 at h
  refine zu_goto (t := 288) d_8261_139 rfl ?_
  exact zu_vret d_8261_288 zr_8261 h
def w_X9_wayWork_132 (X : zs_X) (d : Nat) (p0 : Nat) (q0 : Option Nat) (S : zs_T) (Q : zs_Q) : Prop :=
  (zs_K S p0 = some (.inl 8) ∧ ∃ b2, q0 = some b2 ∧ zs_K S b2 = some (.inl 8) ∧ ab_n0 X.1 ≤ b2 ∧ ∀ S6, S6 = zs_sI S 8199 b2 (zs_I S 8199 p0) → w_X9_wayWork_139 X d  S6 Q)
theorem u_X9_wayWork_132 {σ : Nat → Nat} {n0 : Nat} {bf : ab_B} {d : Nat} {p0 : Nat} {q0 : Option Nat} {S : zs_T} {Q : zs_Q} (hB : zt_B bf) (h : w_X9_wayWork_132 (zx σ n0 bf) d p0 q0 S Q) : zs_U (zx σ n0 bf) d 8261 132 [(0, .ref p0)] [va_rf q0] S Q := by
  unfold w_X9_wayWork_132 at h
  refine zu_aload_n d_8261_132 rfl (zs_ra _) ?_
  obtain ⟨k1, h⟩ := h
  refine zg_8_1377 rfl d_8261_133 k1 ?_
  obtain ⟨b2, e3, h⟩ := h
  refine zs_stk1 (zs_rfe e3) ?_
  obtain ⟨k4, h⟩ := h
  obtain ⟨k5, h⟩ := h
  refine zp_8_1377 (v := (zs_I S 8199 p0)) rfl d_8261_136 k4 k5 ?_
  generalize e7 : zs_sI S 8199 b2 (zs_I S 8199 p0) = S6
  have h := h S6 e7.symm
  have K8 : ∀ b, zs_K S6 b = zs_K S b := zs_Kt e7 (zs_KsI _ _ _ _) (fun _ => rfl)
  exact (u_X9_wayWork_139 hB h).weak trivial
def w_X9_wayWork_182 (X : zs_X) (d : Nat) (p2 : Int32) (p4 : Int32) (q0 : Option Nat) (q1 : Int32) (q2 : Int32) (S : zs_T) (Q : zs_Q) : Prop :=
  (∃ b1, q0 = some b1 ∧ zs_K S b1 = some (.inl 8) ∧ zs_C X d 8262 [.ref b1, .int q1, .int q2, .int p2, .int p4] S (zs_kV (fun S4 => (Q (.returned none) S4)) Q))
theorem u_X9_wayWork_182 {σ : Nat → Nat} {n0 : Nat} {bf : ab_B} {d : Nat} {p2 : Int32} {p4 : Int32} {q0 : Option Nat} {q1 : Int32} {q2 : Int32} {S : zs_T} {Q : zs_Q} (hB : zt_B bf) (h : w_X9_wayWork_182 (zx σ n0 bf) d p2 p4 q0 q1 q2 S Q) : zs_U (zx σ n0 bf) d 8261 182 [(2, .int p2), (4, .int p4)] [.int q2, .int q1, va_rf q0] S Q := by
  unfold w_X9_wayWork_182 at h
  refine zu_iload_n d_8261_182 rfl ?_
  refine zu_iload d_8261_183 rfl ?_
  obtain ⟨b1, e2, h⟩ := h
  refine zs_stk4 (zs_rfe e2) ?_
  obtain ⟨k3, h⟩ := h
  refine zc_8_1469 (x0 := q1) (x1 := q2) (x2 := p2) (x3 := p4) hB rfl k3 d_8261_185 (Nat.le_of_ble_eq_true rfl) h (fun S4 h => ?_)
  refine zu_goto (t := 288) d_8261_188 rfl ?_
  exact zu_vret d_8261_288 zr_8261 h
def w_X9_wayWork_207 (X : zs_X) (d : Nat) (p2 : Int32) (p4 : Int32) (q0 : Option Nat) (q1 : Int32) (q2 : Int32) (S : zs_T) (Q : zs_Q) : Prop :=
  (∃ b1, q0 = some b1 ∧ zs_K S b1 = some (.inl 8) ∧ zs_C X d 8263 [.ref b1, .int q1, .int q2, .int p2, .int p4] S (zs_kV (fun S4 => (Q (.returned none) S4)) Q))
theorem u_X9_wayWork_207 {σ : Nat → Nat} {n0 : Nat} {bf : ab_B} {d : Nat} {p2 : Int32} {p4 : Int32} {q0 : Option Nat} {q1 : Int32} {q2 : Int32} {S : zs_T} {Q : zs_Q} (hB : zt_B bf) (h : w_X9_wayWork_207 (zx σ n0 bf) d p2 p4 q0 q1 q2 S Q) : zs_U (zx σ n0 bf) d 8261 207 [(2, .int p2), (4, .int p4)] [.int q2, .int q1, va_rf q0] S Q := by
  unfold w_X9_wayWork_207 at h
  refine zu_iload_n d_8261_207 rfl ?_
  refine zu_iload d_8261_208 rfl ?_
  obtain ⟨b1, e2, h⟩ := h
  refine zs_stk4 (zs_rfe e2) ?_
  obtain ⟨k3, h⟩ := h
  refine zc_8_1473 (x0 := q1) (x1 := q2) (x2 := p2) (x3 := p4) hB rfl k3 d_8261_210 (Nat.le_of_ble_eq_true rfl) h (fun S4 h => ?_)
  refine zu_goto (t := 288) d_8261_213 rfl ?_
  exact zu_vret d_8261_288 zr_8261 h
def w_X9_wayWork_269 (X : zs_X) (d : Nat)  (S : zs_T) (Q : zs_Q) : Prop :=
  (Q (.returned none) S)
theorem u_X9_wayWork_269 {σ : Nat → Nat} {n0 : Nat} {bf : ab_B} {d : Nat}  {S : zs_T} {Q : zs_Q} (hB : zt_B bf) (h : w_X9_wayWork_269 (zx σ n0 bf) d  S Q) : zs_U (zx σ n0 bf) d 8261 269 [] [] S Q := by
  unfold w_X9_wayWork_269 at h
  refine zu_goto (t := 288) d_8261_269 rfl ?_
  exact zu_vret d_8261_288 zr_8261 h
def w_X9_wayWork_279 (X : zs_X) (d : Nat) (p0 : Nat) (p1 : Int32) (p2 : Int32) (p3 : Int32) (p4 : Int32) (S : zs_T) (Q : zs_Q) : Prop :=
  (zs_K S p0 = some (.inl 8) ∧ zs_C X d 8264 [.ref p0, .int p1, .int p2, .int p3, .int p4] S (zs_kV (fun S2 => (Q (.returned none) S2)) Q))
theorem u_X9_wayWork_279 {σ : Nat → Nat} {n0 : Nat} {bf : ab_B} {d : Nat} {p0 : Nat} {p1 : Int32} {p2 : Int32} {p3 : Int32} {p4 : Int32} {S : zs_T} {Q : zs_Q} (hB : zt_B bf) (h : w_X9_wayWork_279 (zx σ n0 bf) d p0 p1 p2 p3 p4 S Q) : zs_U (zx σ n0 bf) d 8261 279 [(0, .ref p0), (1, .int p1), (2, .int p2), (3, .int p3), (4, .int p4)] [] S Q := by
  unfold w_X9_wayWork_279 at h
  refine zu_aload_n d_8261_279 rfl (zs_ra _) ?_
  refine zu_iload_n d_8261_280 rfl ?_
  refine zu_iload_n d_8261_281 rfl ?_
  refine zu_iload_n d_8261_282 rfl ?_
  refine zu_iload d_8261_283 rfl ?_
  obtain ⟨k1, h⟩ := h
  refine zc_8_1476 (x0 := p1) (x1 := p2) (x2 := p3) (x3 := p4) hB rfl k1 d_8261_285 (Nat.le_of_ble_eq_true rfl) h (fun S2 h => ?_)
  exact zu_vret d_8261_288 zr_8261 h
def w_X9_wayWork (X : zs_X) (d : Nat) (p0 : Nat) (p1 : Int32) (p2 : Int32) (p3 : Int32) (p4 : Int32) (S : zs_T) (Q : zs_Q) : Prop :=
  (((p1.toInt < 80 ∨ 89 < p1.toInt → w_X9_wayWork_279 X d p0 p1 p2 p3 p4 S Q) ∧ (p1.toInt = 80 → (zs_K S p0 = some (.inl 8) ∧ ab_n0 X.1 ≤ p0 ∧ ∀ S4, S4 = zs_sI S 8199 p0 p2 → Q (.returned none) S4)) ∧ (p1.toInt = 81 → (zs_K S p0 = some (.inl 8) ∧ zs_C X d 8242 [.ref p0] S (zs_kJ (fun v9 S8 => (((¬ v9 = (0 : Int64) → (zs_K S8 p0 = some (.inl 8) ∧ ab_n0 X.1 ≤ p0 ∧ ∀ S13, S13 = zs_sI S8 8199 p0 (zs_I S8 8199 p0) → Q (.returned none) S13)) ∧ (¬ (¬ v9 = (0 : Int64)) → (zs_K S8 p0 = some (.inl 8) ∧ ab_n0 X.1 ≤ p0 ∧ ∀ S18, S18 = zs_sI S8 8199 p0 p2 → Q (.returned none) S18))))) Q))) ∧ (p1.toInt = 82 → w_X9_wayWork_279 X d p0 p1 p2 p3 p4 S Q) ∧ (p1.toInt = 83 → (zs_K S p0 = some (.inl 8) ∧ ∃ b22, (zs_R S 8183 p0) = some b22 ∧ zs_A S b22 3 ((zs_I S 8184 p0) - (1 : Int32)) ∧ ∃ b25, (zs_R S 8074 p0) = some b25 ∧ zs_A S b25 0 p3 ∧ (((zs_j S b22 ((zs_I S 8184 p0) - (1 : Int32)).toNatClampNeg) < (((zs_i S b25 p3.toNatClampNeg)).toInt64) → w_X9_wayWork_132 X d p0 (some p0) S Q) ∧ (¬ ((zs_j S b22 ((zs_I S 8184 p0) - (1 : Int32)).toNatClampNeg) < (((zs_i S b25 p3.toNatClampNeg)).toInt64)) → (∃ b29, (zs_R S 8075 p0) = some b29 ∧ zs_A S b29 0 p3 ∧ (((((zs_i S b29 p3.toNatClampNeg)).toInt64) < (zs_j S b22 ((zs_I S 8184 p0) - (1 : Int32)).toNatClampNeg) → w_X9_wayWork_132 X d p0 (some p0) S Q) ∧ (¬ ((((zs_i S b29 p3.toNatClampNeg)).toInt64) < (zs_j S b22 ((zs_I S 8184 p0) - (1 : Int32)).toNatClampNeg)) → (ab_n0 X.1 ≤ p0 ∧ ∀ S34, S34 = zs_sI S 8199 p0 p2 → w_X9_wayWork_139 X d  S34 Q)))))))) ∧ (p1.toInt = 84 → (zs_K S p0 = some (.inl 8) ∧ ab_n0 X.1 ≤ p0 ∧ ∀ S39, S39 = zs_sI S 8184 p0 ((zs_I S 8184 p0) - (1 : Int32)) → Q (.returned none) S39)) ∧ (p1.toInt = 85 → (zs_K S p0 = some (.inl 8) ∧ zs_C X d 8208 [.ref p0, .int (8 : Int32), .int p4] S (zs_kV (fun S43 => (Q (.returned none) S43)) Q))) ∧ (p1.toInt = 86 → (((¬ (p3 - p3 / (2 : Int32) * (2 : Int32)) = (1 : Int32) → (w_X9_wayWork_182 X d p2 p4 (some p0) (p3 / (2 : Int32)) (0 : Int32) S Q)) ∧ (¬ (¬ (p3 - p3 / (2 : Int32) * (2 : Int32)) = (1 : Int32)) → (w_X9_wayWork_182 X d p2 p4 (some p0) (p3 / (2 : Int32)) (1 : Int32) S Q))))) ∧ (p1.toInt = 87 → (((¬ (p3 - p3 / (2 : Int32) * (2 : Int32)) = (1 : Int32) → (w_X9_wayWork_207 X d p2 p4 (some p0) (p3 / (2 : Int32)) (0 : Int32) S Q)) ∧ (¬ (¬ (p3 - p3 / (2 : Int32) * (2 : Int32)) = (1 : Int32)) → (w_X9_wayWork_207 X d p2 p4 (some p0) (p3 / (2 : Int32)) (1 : Int32) S Q))))) ∧ (p1.toInt = 88 → (zs_K S p0 = some (.inl 8) ∧ ab_n0 X.1 ≤ p0 ∧ ∀ S49, S49 = zs_sI S 8195 p0 ((zs_I S 8195 p0) - (1 : Int32)) → zs_C X d 8226 [.ref p0, .int (zs_I S49 8195 p0)] S49 (zs_kV (fun S52 => (zs_K S52 p0 = some (.inl 8) ∧ ∃ b55, (zs_R S52 8160 p0) = some b55 ∧ zs_A S52 b55 0 ((zs_I S52 8165 p0) - (1 : Int32)) ∧ ∃ b58, (zs_R S52 8189 p0) = some b58 ∧ zs_A S52 b58 0 (zs_I S52 8195 p0) ∧ ∃ b61, (zs_R S52 8190 p0) = some b61 ∧ zs_A S52 b61 0 (zs_I S52 8195 p0) ∧ zs_C X d 8217 [.ref p0, .int ((zs_i S52 b55 ((zs_I S52 8165 p0) - (1 : Int32)).toNatClampNeg) + p2), .int (zs_i S52 b58 (zs_I S52 8195 p0).toNatClampNeg), .int (zs_i S52 b61 (zs_I S52 8195 p0).toNatClampNeg)] S52 (zs_kV (fun S64 => w_X9_wayWork_269 X d  S64 Q) Q))) Q))) ∧ (p1.toInt = 89 → (zs_K S p0 = some (.inl 8) ∧ zs_C X d 8259 [.ref p0] S (zs_kV (fun S67 => (Q (.returned none) S67)) Q)))))
theorem u_X9_wayWork {σ : Nat → Nat} {n0 : Nat} {bf : ab_B} {d : Nat} {p0 : Nat} {p1 : Int32} {p2 : Int32} {p3 : Int32} {p4 : Int32} {S : zs_T} {Q : zs_Q} (hB : zt_B bf) (hd : 1 ≤ d) (h : w_X9_wayWork (zx σ n0 bf) (d - 1) p0 p1 p2 p3 p4 S Q) : zs_C (zx σ n0 bf) d 8261 [.ref p0, .int p1, .int p2, .int p3, .int p4] S Q := by
  have hL : lv_args 0 [.ref p0, .int p1, .int p2, .int p3, .int p4] = [(0, .ref p0), (1, .int p1), (2, .int p2), (3, .int p3), (4, .int p4)] := rfl
  refine zs_C.of1 (hB.2 8261 (by decide) (by decide)) hd (by rw [hL]; exact zs_sub_self _ (by exact ⟨rfl, rfl, rfl, rfl, rfl, trivial⟩)) ?_
  rw [hL]
  clear hL
  unfold w_X9_wayWork at h
  refine zu_iload_n d_8261_0 rfl ?_
  refine zu_tsw (td := 279) d_8261_1 (by decide) rfl (fun c1 => ?_) ⟨fun c1 => ⟨by decide, ?_⟩, fun c1 => ⟨by decide, ?_⟩, fun c1 => ⟨by decide, ?_⟩, fun c1 => ⟨by decide, ?_⟩, fun c1 => ⟨by decide, ?_⟩, fun c1 => ⟨by decide, ?_⟩, fun c1 => ⟨by decide, ?_⟩, fun c1 => ⟨by decide, ?_⟩, fun c1 => ⟨by decide, ?_⟩, fun c1 => ⟨by decide, ?_⟩, trivial⟩
  · have h := h.1 c1
    exact (u_X9_wayWork_279 hB h).weak ⟨rfl, rfl, rfl, rfl, rfl, trivial⟩
  · have h := h.2.1 c1
    show zs_U _ _ _ 56 _ _ _ _
    refine zu_aload_n d_8261_56 rfl (zs_ra _) ?_
    refine zu_iload_n d_8261_57 rfl ?_
    obtain ⟨k2, h⟩ := h
    obtain ⟨k3, h⟩ := h
    refine zp_8_1377 (v := p2) rfl d_8261_58 k2 k3 ?_
    generalize e5 : zs_sI S 8199 p0 p2 = S4
    have h := h S4 e5.symm
    have K6 : ∀ b, zs_K S4 b = zs_K S b := zs_Kt e5 (zs_KsI _ _ _ _) (fun _ => rfl)
    refine zu_goto (t := 288) d_8261_61 rfl ?_
    exact zu_vret d_8261_288 zr_8261 h
  · have h := h.2.2.1 c1
    show zs_U _ _ _ 64 _ _ _ _
    refine zu_aload_n d_8261_64 rfl (zs_ra _) ?_
    refine zu_aload_n d_8261_65 rfl (zs_ra _) ?_
    obtain ⟨k7, h⟩ := h
    refine zc_8_1307  hB rfl k7 d_8261_66 (Nat.le_of_ble_eq_true rfl) h (fun v9 S8 h => ?_)
    refine zu_lconst (v := 0) d_8261_69 rfl ?_
    refine zu_lne (t := 78) d_8261_70 d_8261_71 rfl (fun c10 => ?_) (fun c10 => ?_)
    · have h := h.1 c10
      refine zu_aload_n d_8261_78 rfl (zs_ra _) ?_
      obtain ⟨k11, h⟩ := h
      refine zg_8_1377 rfl d_8261_79 k11 ?_
      obtain ⟨k12, h⟩ := h
      refine zp_8_1377 (v := (zs_I S8 8199 p0)) rfl d_8261_82 k11 k12 ?_
      generalize e14 : zs_sI S8 8199 p0 (zs_I S8 8199 p0) = S13
      have h := h S13 e14.symm
      have K15 : ∀ b, zs_K S13 b = zs_K S8 b := zs_Kt e14 (zs_KsI _ _ _ _) (fun _ => rfl)
      refine zu_goto (t := 288) d_8261_85 rfl ?_
      exact zu_vret d_8261_288 zr_8261 h
    · have h := h.2 c10
      refine zu_iload_n d_8261_74 rfl ?_
      refine zu_goto (t := 82) d_8261_75 rfl ?_
      obtain ⟨k16, h⟩ := h
      obtain ⟨k17, h⟩ := h
      refine zp_8_1377 (v := p2) rfl d_8261_82 k16 k17 ?_
      generalize e19 : zs_sI S8 8199 p0 p2 = S18
      have h := h S18 e19.symm
      have K20 : ∀ b, zs_K S18 b = zs_K S8 b := zs_Kt e19 (zs_KsI _ _ _ _) (fun _ => rfl)
      refine zu_goto (t := 288) d_8261_85 rfl ?_
      exact zu_vret d_8261_288 zr_8261 h
  · have h := h.2.2.2.1 c1
    show zs_U _ _ _ 279 _ _ _ _
    exact (u_X9_wayWork_279 hB h).weak ⟨rfl, rfl, rfl, rfl, rfl, trivial⟩
  · have h := h.2.2.2.2.1 c1
    show zs_U _ _ _ 88 _ _ _ _
    refine zu_aload_n d_8261_88 rfl (zs_ra _) ?_
    obtain ⟨k21, h⟩ := h
    refine zg_8_399 rfl d_8261_89 k21 ?_
    refine zu_aload_n d_8261_92 rfl (zs_ra _) ?_
    refine zg_8_1261 rfl d_8261_93 k21 ?_
    refine zu_iconst d_8261_96 zi_1 ?_
    refine zu_stk d_8261_97 rfl rfl ?_
    obtain ⟨b22, e23, h⟩ := h
    refine zs_stk1 (zs_rfe e23) ?_
    obtain ⟨k24, h⟩ := h
    refine zu_lald (k := 3) d_8261_98 rfl rfl k24 ?_
    refine zu_lstore d_8261_99 (zs_lt zq_8261 rfl) ?_
    refine zu_aload_n d_8261_101 rfl (zs_ra _) ?_
    refine zu_lload d_8261_102 rfl ?_
    refine zu_aload_n d_8261_104 rfl (zs_ra _) ?_
    refine zg_8_163 rfl d_8261_105 k21 ?_
    refine zu_iload_n d_8261_108 rfl ?_
    obtain ⟨b25, e26, h⟩ := h
    refine zs_stk1 (zs_rfe e26) ?_
    obtain ⟨k27, h⟩ := h
    refine zu_iald (k := 0) d_8261_109 rfl rfl k27 ?_
    refine zu_stk d_8261_110 rfl rfl ?_
    refine zu_llt (t := 132) d_8261_111 d_8261_112 rfl (fun c28 => ?_) (fun c28 => ?_)
    · have h := h.1 c28
      exact (u_X9_wayWork_132 hB h).weak ⟨rfl, trivial⟩
    · have h := h.2 c28
      refine zu_lload d_8261_115 rfl ?_
      refine zu_aload_n d_8261_117 rfl (zs_ra _) ?_
      refine zg_8_166 rfl d_8261_118 k21 ?_
      refine zu_iload_n d_8261_121 rfl ?_
      obtain ⟨b29, e30, h⟩ := h
      refine zs_stk1 (zs_rfe e30) ?_
      obtain ⟨k31, h⟩ := h
      refine zu_iald (k := 0) d_8261_122 rfl rfl k31 ?_
      refine zu_stk d_8261_123 rfl rfl ?_
      refine zu_lgt (t := 132) d_8261_124 d_8261_125 rfl (fun c32 => ?_) (fun c32 => ?_)
      · have h := h.1 c32
        exact (u_X9_wayWork_132 hB h).weak ⟨rfl, trivial⟩
      · have h := h.2 c32
        refine zu_iload_n d_8261_128 rfl ?_
        refine zu_goto (t := 136) d_8261_129 rfl ?_
        obtain ⟨k33, h⟩ := h
        refine zp_8_1377 (v := p2) rfl d_8261_136 k21 k33 ?_
        generalize e35 : zs_sI S 8199 p0 p2 = S34
        have h := h S34 e35.symm
        have K36 : ∀ b, zs_K S34 b = zs_K S b := zs_Kt e35 (zs_KsI _ _ _ _) (fun _ => rfl)
        exact (u_X9_wayWork_139 hB h).weak trivial
  · have h := h.2.2.2.2.2.1 c1
    show zs_U _ _ _ 142 _ _ _ _
    refine zu_aload_n d_8261_142 rfl (zs_ra _) ?_
    refine zu_dup d_8261_143 rfl ?_
    obtain ⟨k37, h⟩ := h
    refine zg_8_1261 rfl d_8261_144 k37 ?_
    refine zu_iconst d_8261_147 zi_1 ?_
    refine zu_stk d_8261_148 rfl rfl ?_
    obtain ⟨k38, h⟩ := h
    refine zp_8_1261 (v := ((zs_I S 8184 p0) - (1 : Int32))) rfl d_8261_149 k37 k38 ?_
    generalize e40 : zs_sI S 8184 p0 ((zs_I S 8184 p0) - (1 : Int32)) = S39
    have h := h S39 e40.symm
    have K41 : ∀ b, zs_K S39 b = zs_K S b := zs_Kt e40 (zs_KsI _ _ _ _) (fun _ => rfl)
    refine zu_goto (t := 288) d_8261_152 rfl ?_
    exact zu_vret d_8261_288 zr_8261 h
  · have h := h.2.2.2.2.2.2.1 c1
    show zs_U _ _ _ 155 _ _ _ _
    refine zu_aload_n d_8261_155 rfl (zs_ra _) ?_
    refine zu_bipush d_8261_156 zj_8 ?_
    refine zu_iload d_8261_158 rfl ?_
    obtain ⟨k42, h⟩ := h
    refine zc_8_1297 (x0 := (8 : Int32)) (x1 := p4) hB rfl k42 d_8261_160 (Nat.le_of_ble_eq_true rfl) h (fun S43 h => ?_)
    refine zu_goto (t := 288) d_8261_163 rfl ?_
    exact zu_vret d_8261_288 zr_8261 h
  · have h := h.2.2.2.2.2.2.2.1 c1
    show zs_U _ _ _ 166 _ _ _ _
    refine zu_aload_n d_8261_166 rfl (zs_ra _) ?_
    refine zu_iload_n d_8261_167 rfl ?_
    refine zu_iconst d_8261_168 zi_2 ?_
    refine zu_idiv d_8261_169 (by decide) ?_
    refine zu_iload_n d_8261_170 rfl ?_
    refine zu_iconst d_8261_171 zi_2 ?_
    refine zu_irem d_8261_172 (by decide) ?_
    refine zu_iconst d_8261_173 zi_1 ?_
    refine zu_cmpne (t := 181) d_8261_174 rfl (fun c45 => ?_) (fun c45 => ?_)
    · have h := h.1 c45
      refine zu_iconst d_8261_181 zi_0 ?_
      exact (u_X9_wayWork_182 hB h).weak ⟨rfl, rfl, trivial⟩
    · have h := h.2 c45
      refine zu_iconst d_8261_177 zi_1 ?_
      refine zu_goto (t := 182) d_8261_178 rfl ?_
      exact (u_X9_wayWork_182 hB h).weak ⟨rfl, rfl, trivial⟩
  · have h := h.2.2.2.2.2.2.2.2.1 c1
    show zs_U _ _ _ 191 _ _ _ _
    refine zu_aload_n d_8261_191 rfl (zs_ra _) ?_
    refine zu_iload_n d_8261_192 rfl ?_
    refine zu_iconst d_8261_193 zi_2 ?_
    refine zu_idiv d_8261_194 (by decide) ?_
    refine zu_iload_n d_8261_195 rfl ?_
    refine zu_iconst d_8261_196 zi_2 ?_
    refine zu_irem d_8261_197 (by decide) ?_
    refine zu_iconst d_8261_198 zi_1 ?_
    refine zu_cmpne (t := 206) d_8261_199 rfl (fun c46 => ?_) (fun c46 => ?_)
    · have h := h.1 c46
      refine zu_iconst d_8261_206 zi_0 ?_
      exact (u_X9_wayWork_207 hB h).weak ⟨rfl, rfl, trivial⟩
    · have h := h.2 c46
      refine zu_iconst d_8261_202 zi_1 ?_
      refine zu_goto (t := 207) d_8261_203 rfl ?_
      exact (u_X9_wayWork_207 hB h).weak ⟨rfl, rfl, trivial⟩
  · have h := h.2.2.2.2.2.2.2.2.2.1 c1
    show zs_U _ _ _ 216 _ _ _ _
    refine zu_aload_n d_8261_216 rfl (zs_ra _) ?_
    refine zu_dup d_8261_217 rfl ?_
    obtain ⟨k47, h⟩ := h
    refine zg_8_1270 rfl d_8261_218 k47 ?_
    refine zu_iconst d_8261_221 zi_1 ?_
    refine zu_stk d_8261_222 rfl rfl ?_
    obtain ⟨k48, h⟩ := h
    refine zp_8_1270 (v := ((zs_I S 8195 p0) - (1 : Int32))) rfl d_8261_223 k47 k48 ?_
    generalize e50 : zs_sI S 8195 p0 ((zs_I S 8195 p0) - (1 : Int32)) = S49
    have h := h S49 e50.symm
    have K51 : ∀ b, zs_K S49 b = zs_K S b := zs_Kt e50 (zs_KsI _ _ _ _) (fun _ => rfl)
    refine zu_aload_n d_8261_226 rfl (zs_ra _) ?_
    refine zu_aload_n d_8261_227 rfl (zs_ra _) ?_
    refine zg_8_1270 rfl d_8261_228 ((K51 _).trans k47) ?_
    refine zc_8_1291 (x0 := (zs_I S49 8195 p0)) hB rfl ((K51 _).trans k47) d_8261_231 (Nat.le_of_ble_eq_true rfl) h (fun S52 h => ?_)
    refine zu_aload_n d_8261_234 rfl (zs_ra _) ?_
    refine zu_aload_n d_8261_235 rfl (zs_ra _) ?_
    obtain ⟨k54, h⟩ := h
    refine zg_8_347 rfl d_8261_236 k54 ?_
    refine zu_aload_n d_8261_239 rfl (zs_ra _) ?_
    refine zg_8_1240 rfl d_8261_240 k54 ?_
    refine zu_iconst d_8261_243 zi_1 ?_
    refine zu_stk d_8261_244 rfl rfl ?_
    obtain ⟨b55, e56, h⟩ := h
    refine zs_stk1 (zs_rfe e56) ?_
    obtain ⟨k57, h⟩ := h
    refine zu_iald (k := 0) d_8261_245 rfl rfl k57 ?_
    refine zu_iload_n d_8261_246 rfl ?_
    refine zu_stk d_8261_247 rfl rfl ?_
    refine zu_aload_n d_8261_248 rfl (zs_ra _) ?_
    refine zg_8_409 rfl d_8261_249 k54 ?_
    refine zu_aload_n d_8261_252 rfl (zs_ra _) ?_
    refine zg_8_1270 rfl d_8261_253 k54 ?_
    obtain ⟨b58, e59, h⟩ := h
    refine zs_stk1 (zs_rfe e59) ?_
    obtain ⟨k60, h⟩ := h
    refine zu_iald (k := 0) d_8261_256 rfl rfl k60 ?_
    refine zu_aload_n d_8261_257 rfl (zs_ra _) ?_
    refine zg_8_412 rfl d_8261_258 k54 ?_
    refine zu_aload_n d_8261_261 rfl (zs_ra _) ?_
    refine zg_8_1270 rfl d_8261_262 k54 ?_
    obtain ⟨b61, e62, h⟩ := h
    refine zs_stk1 (zs_rfe e62) ?_
    obtain ⟨k63, h⟩ := h
    refine zu_iald (k := 0) d_8261_265 rfl rfl k63 ?_
    refine zc_8_1365 (x0 := ((zs_i S52 b55 ((zs_I S52 8165 p0) - (1 : Int32)).toNatClampNeg) + p2)) (x1 := (zs_i S52 b58 (zs_I S52 8195 p0).toNatClampNeg)) (x2 := (zs_i S52 b61 (zs_I S52 8195 p0).toNatClampNeg)) hB rfl k54 d_8261_266 (Nat.le_of_ble_eq_true rfl) h (fun S64 h => ?_)
    exact (u_X9_wayWork_269 hB h).weak trivial
  · have h := h.2.2.2.2.2.2.2.2.2.2 c1
    show zs_U _ _ _ 272 _ _ _ _
    refine zu_aload_n d_8261_272 rfl (zs_ra _) ?_
    obtain ⟨k66, h⟩ := h
    refine zc_8_1401  hB rfl k66 d_8261_273 (Nat.le_of_ble_eq_true rfl) h (fun S67 h => ?_)
    refine zu_goto (t := 288) d_8261_276 rfl ?_
    exact zu_vret d_8261_288 zr_8261 h
/-! SchemaPascalModel.beginFor(IZII)V -/
theorem zm_8262 {σ : Nat → Nat} {n0 : Nat} {bf : ab_B} : ab_code (zx σ n0 bf).1 8262 = prog_17_method_251_code := rfl
theorem zq_8262 {σ : Nat → Nat} {n0 : Nat} {bf : ab_B} : ab_maxL (zx σ n0 bf).1 8262 = 10 := rfl
theorem zr_8262 {σ : Nat → Nat} {n0 : Nat} {bf : ab_B} : ab_ret (zx σ n0 bf).1 8262 = (Option.none : Option Jvm.ClassFile.FieldType) := rfl
theorem d_8262_0 {σ : Nat → Nat} {n0 : Nat} {bf : ab_B} : decode (ab_code (zx σ n0 bf).1 8262) 0 = .ok (.aload_n 0, 1) := zd zm_8262 (by decide +kernel)
theorem d_8262_1 {σ : Nat → Nat} {n0 : Nat} {bf : ab_B} : decode (ab_code (zx σ n0 bf).1 8262) 1 = .ok (.getfield 347, 3) := zd zm_8262 (by decide +kernel)
theorem d_8262_4 {σ : Nat → Nat} {n0 : Nat} {bf : ab_B} : decode (ab_code (zx σ n0 bf).1 8262) 4 = .ok (.aload_n 0, 1) := zd zm_8262 (by decide +kernel)
theorem d_8262_5 {σ : Nat → Nat} {n0 : Nat} {bf : ab_B} : decode (ab_code (zx σ n0 bf).1 8262) 5 = .ok (.getfield 1240, 3) := zd zm_8262 (by decide +kernel)
theorem d_8262_8 {σ : Nat → Nat} {n0 : Nat} {bf : ab_B} : decode (ab_code (zx σ n0 bf).1 8262) 8 = .ok (.iconst 1, 1) := zd zm_8262 (by decide +kernel)
theorem d_8262_9 {σ : Nat → Nat} {n0 : Nat} {bf : ab_B} : decode (ab_code (zx σ n0 bf).1 8262) 9 = .ok (.isub, 1) := zd zm_8262 (by decide +kernel)
theorem d_8262_10 {σ : Nat → Nat} {n0 : Nat} {bf : ab_B} : decode (ab_code (zx σ n0 bf).1 8262) 10 = .ok (.iaload, 1) := zd zm_8262 (by decide +kernel)
theorem d_8262_11 {σ : Nat → Nat} {n0 : Nat} {bf : ab_B} : decode (ab_code (zx σ n0 bf).1 8262) 11 = .ok (.iload_n 1, 1) := zd zm_8262 (by decide +kernel)
theorem d_8262_12 {σ : Nat → Nat} {n0 : Nat} {bf : ab_B} : decode (ab_code (zx σ n0 bf).1 8262) 12 = .ok (.iadd, 1) := zd zm_8262 (by decide +kernel)
theorem d_8262_13 {σ : Nat → Nat} {n0 : Nat} {bf : ab_B} : decode (ab_code (zx σ n0 bf).1 8262) 13 = .ok (.istore 5, 2) := zd zm_8262 (by decide +kernel)
theorem d_8262_15 {σ : Nat → Nat} {n0 : Nat} {bf : ab_B} : decode (ab_code (zx σ n0 bf).1 8262) 15 = .ok (.aload_n 0, 1) := zd zm_8262 (by decide +kernel)
theorem d_8262_16 {σ : Nat → Nat} {n0 : Nat} {bf : ab_B} : decode (ab_code (zx σ n0 bf).1 8262) 16 = .ok (.invokevirtual 1307, 3) := zd zm_8262 (by decide +kernel)
theorem d_8262_19 {σ : Nat → Nat} {n0 : Nat} {bf : ab_B} : decode (ab_code (zx σ n0 bf).1 8262) 19 = .ok (.lstore 6, 2) := zd zm_8262 (by decide +kernel)
theorem d_8262_21 {σ : Nat → Nat} {n0 : Nat} {bf : ab_B} : decode (ab_code (zx σ n0 bf).1 8262) 21 = .ok (.aload_n 0, 1) := zd zm_8262 (by decide +kernel)
theorem d_8262_22 {σ : Nat → Nat} {n0 : Nat} {bf : ab_B} : decode (ab_code (zx σ n0 bf).1 8262) 22 = .ok (.invokevirtual 1307, 3) := zd zm_8262 (by decide +kernel)
theorem d_8262_25 {σ : Nat → Nat} {n0 : Nat} {bf : ab_B} : decode (ab_code (zx σ n0 bf).1 8262) 25 = .ok (.lstore 8, 2) := zd zm_8262 (by decide +kernel)
theorem d_8262_27 {σ : Nat → Nat} {n0 : Nat} {bf : ab_B} : decode (ab_code (zx σ n0 bf).1 8262) 27 = .ok (.iload_n 2, 1) := zd zm_8262 (by decide +kernel)
theorem d_8262_28 {σ : Nat → Nat} {n0 : Nat} {bf : ab_B} : decode (ab_code (zx σ n0 bf).1 8262) 28 = .ok (.ifCond .eq 14, 3) := zd zm_8262 (by decide +kernel)
theorem d_8262_31 {σ : Nat → Nat} {n0 : Nat} {bf : ab_B} : decode (ab_code (zx σ n0 bf).1 8262) 31 = .ok (.lload 8, 2) := zd zm_8262 (by decide +kernel)
theorem d_8262_33 {σ : Nat → Nat} {n0 : Nat} {bf : ab_B} : decode (ab_code (zx σ n0 bf).1 8262) 33 = .ok (.lload 6, 2) := zd zm_8262 (by decide +kernel)
theorem d_8262_35 {σ : Nat → Nat} {n0 : Nat} {bf : ab_B} : decode (ab_code (zx σ n0 bf).1 8262) 35 = .ok (.lcmp, 1) := zd zm_8262 (by decide +kernel)
theorem d_8262_36 {σ : Nat → Nat} {n0 : Nat} {bf : ab_B} : decode (ab_code (zx σ n0 bf).1 8262) 36 = .ok (.ifCond .ge 32, 3) := zd zm_8262 (by decide +kernel)
theorem d_8262_39 {σ : Nat → Nat} {n0 : Nat} {bf : ab_B} : decode (ab_code (zx σ n0 bf).1 8262) 39 = .ok (.goto 11, 3) := zd zm_8262 (by decide +kernel)
theorem d_8262_42 {σ : Nat → Nat} {n0 : Nat} {bf : ab_B} : decode (ab_code (zx σ n0 bf).1 8262) 42 = .ok (.lload 8, 2) := zd zm_8262 (by decide +kernel)
theorem d_8262_44 {σ : Nat → Nat} {n0 : Nat} {bf : ab_B} : decode (ab_code (zx σ n0 bf).1 8262) 44 = .ok (.lload 6, 2) := zd zm_8262 (by decide +kernel)
theorem d_8262_46 {σ : Nat → Nat} {n0 : Nat} {bf : ab_B} : decode (ab_code (zx σ n0 bf).1 8262) 46 = .ok (.lcmp, 1) := zd zm_8262 (by decide +kernel)
theorem d_8262_47 {σ : Nat → Nat} {n0 : Nat} {bf : ab_B} : decode (ab_code (zx σ n0 bf).1 8262) 47 = .ok (.ifCond .le 21, 3) := zd zm_8262 (by decide +kernel)
theorem d_8262_50 {σ : Nat → Nat} {n0 : Nat} {bf : ab_B} : decode (ab_code (zx σ n0 bf).1 8262) 50 = .ok (.aload_n 0, 1) := zd zm_8262 (by decide +kernel)
theorem d_8262_51 {σ : Nat → Nat} {n0 : Nat} {bf : ab_B} : decode (ab_code (zx σ n0 bf).1 8262) 51 = .ok (.aload_n 0, 1) := zd zm_8262 (by decide +kernel)
theorem d_8262_52 {σ : Nat → Nat} {n0 : Nat} {bf : ab_B} : decode (ab_code (zx σ n0 bf).1 8262) 52 = .ok (.getfield 362, 3) := zd zm_8262 (by decide +kernel)
theorem d_8262_55 {σ : Nat → Nat} {n0 : Nat} {bf : ab_B} : decode (ab_code (zx σ n0 bf).1 8262) 55 = .ok (.iload 5, 2) := zd zm_8262 (by decide +kernel)
theorem d_8262_57 {σ : Nat → Nat} {n0 : Nat} {bf : ab_B} : decode (ab_code (zx σ n0 bf).1 8262) 57 = .ok (.iaload, 1) := zd zm_8262 (by decide +kernel)
theorem d_8262_58 {σ : Nat → Nat} {n0 : Nat} {bf : ab_B} : decode (ab_code (zx σ n0 bf).1 8262) 58 = .ok (.iconst 1, 1) := zd zm_8262 (by decide +kernel)
theorem d_8262_59 {σ : Nat → Nat} {n0 : Nat} {bf : ab_B} : decode (ab_code (zx σ n0 bf).1 8262) 59 = .ok (.invokevirtual 1345, 3) := zd zm_8262 (by decide +kernel)
theorem d_8262_62 {σ : Nat → Nat} {n0 : Nat} {bf : ab_B} : decode (ab_code (zx σ n0 bf).1 8262) 62 = .ok (.aload_n 0, 1) := zd zm_8262 (by decide +kernel)
theorem d_8262_63 {σ : Nat → Nat} {n0 : Nat} {bf : ab_B} : decode (ab_code (zx σ n0 bf).1 8262) 63 = .ok (.iload_n 3, 1) := zd zm_8262 (by decide +kernel)
theorem d_8262_64 {σ : Nat → Nat} {n0 : Nat} {bf : ab_B} : decode (ab_code (zx σ n0 bf).1 8262) 64 = .ok (.putfield 1377, 3) := zd zm_8262 (by decide +kernel)
theorem d_8262_67 {σ : Nat → Nat} {n0 : Nat} {bf : ab_B} : decode (ab_code (zx σ n0 bf).1 8262) 67 = .ok (.return_, 1) := zd zm_8262 (by decide +kernel)
theorem d_8262_68 {σ : Nat → Nat} {n0 : Nat} {bf : ab_B} : decode (ab_code (zx σ n0 bf).1 8262) 68 = .ok (.aload_n 0, 1) := zd zm_8262 (by decide +kernel)
theorem d_8262_69 {σ : Nat → Nat} {n0 : Nat} {bf : ab_B} : decode (ab_code (zx σ n0 bf).1 8262) 69 = .ok (.invokevirtual 1368, 3) := zd zm_8262 (by decide +kernel)
theorem d_8262_72 {σ : Nat → Nat} {n0 : Nat} {bf : ab_B} : decode (ab_code (zx σ n0 bf).1 8262) 72 = .ok (.aload_n 0, 1) := zd zm_8262 (by decide +kernel)
theorem d_8262_73 {σ : Nat → Nat} {n0 : Nat} {bf : ab_B} : decode (ab_code (zx σ n0 bf).1 8262) 73 = .ok (.aload_n 0, 1) := zd zm_8262 (by decide +kernel)
theorem d_8262_74 {σ : Nat → Nat} {n0 : Nat} {bf : ab_B} : decode (ab_code (zx σ n0 bf).1 8262) 74 = .ok (.getfield 365, 3) := zd zm_8262 (by decide +kernel)
theorem d_8262_77 {σ : Nat → Nat} {n0 : Nat} {bf : ab_B} : decode (ab_code (zx σ n0 bf).1 8262) 77 = .ok (.iload 5, 2) := zd zm_8262 (by decide +kernel)
theorem d_8262_79 {σ : Nat → Nat} {n0 : Nat} {bf : ab_B} : decode (ab_code (zx σ n0 bf).1 8262) 79 = .ok (.iaload, 1) := zd zm_8262 (by decide +kernel)
theorem d_8262_80 {σ : Nat → Nat} {n0 : Nat} {bf : ab_B} : decode (ab_code (zx σ n0 bf).1 8262) 80 = .ok (.lload 8, 2) := zd zm_8262 (by decide +kernel)
theorem d_8262_82 {σ : Nat → Nat} {n0 : Nat} {bf : ab_B} : decode (ab_code (zx σ n0 bf).1 8262) 82 = .ok (.invokevirtual 1335, 3) := zd zm_8262 (by decide +kernel)
theorem d_8262_85 {σ : Nat → Nat} {n0 : Nat} {bf : ab_B} : decode (ab_code (zx σ n0 bf).1 8262) 85 = .ok (.ifCond .ne 11, 3) := zd zm_8262 (by decide +kernel)
theorem d_8262_88 {σ : Nat → Nat} {n0 : Nat} {bf : ab_B} : decode (ab_code (zx σ n0 bf).1 8262) 88 = .ok (.aload_n 0, 1) := zd zm_8262 (by decide +kernel)
theorem d_8262_89 {σ : Nat → Nat} {n0 : Nat} {bf : ab_B} : decode (ab_code (zx σ n0 bf).1 8262) 89 = .ok (.iconst 2, 1) := zd zm_8262 (by decide +kernel)
theorem d_8262_90 {σ : Nat → Nat} {n0 : Nat} {bf : ab_B} : decode (ab_code (zx σ n0 bf).1 8262) 90 = .ok (.iload 4, 2) := zd zm_8262 (by decide +kernel)
theorem d_8262_92 {σ : Nat → Nat} {n0 : Nat} {bf : ab_B} : decode (ab_code (zx σ n0 bf).1 8262) 92 = .ok (.invokevirtual 1297, 3) := zd zm_8262 (by decide +kernel)
theorem d_8262_95 {σ : Nat → Nat} {n0 : Nat} {bf : ab_B} : decode (ab_code (zx σ n0 bf).1 8262) 95 = .ok (.return_, 1) := zd zm_8262 (by decide +kernel)
theorem d_8262_96 {σ : Nat → Nat} {n0 : Nat} {bf : ab_B} : decode (ab_code (zx σ n0 bf).1 8262) 96 = .ok (.aload_n 0, 1) := zd zm_8262 (by decide +kernel)
theorem d_8262_97 {σ : Nat → Nat} {n0 : Nat} {bf : ab_B} : decode (ab_code (zx σ n0 bf).1 8262) 97 = .ok (.aload_n 0, 1) := zd zm_8262 (by decide +kernel)
theorem d_8262_98 {σ : Nat → Nat} {n0 : Nat} {bf : ab_B} : decode (ab_code (zx σ n0 bf).1 8262) 98 = .ok (.getfield 362, 3) := zd zm_8262 (by decide +kernel)
theorem d_8262_101 {σ : Nat → Nat} {n0 : Nat} {bf : ab_B} : decode (ab_code (zx σ n0 bf).1 8262) 101 = .ok (.iload 5, 2) := zd zm_8262 (by decide +kernel)
theorem d_8262_103 {σ : Nat → Nat} {n0 : Nat} {bf : ab_B} : decode (ab_code (zx σ n0 bf).1 8262) 103 = .ok (.iaload, 1) := zd zm_8262 (by decide +kernel)
theorem d_8262_104 {σ : Nat → Nat} {n0 : Nat} {bf : ab_B} : decode (ab_code (zx σ n0 bf).1 8262) 104 = .ok (.lload 8, 2) := zd zm_8262 (by decide +kernel)
theorem d_8262_106 {σ : Nat → Nat} {n0 : Nat} {bf : ab_B} : decode (ab_code (zx σ n0 bf).1 8262) 106 = .ok (.aload_n 0, 1) := zd zm_8262 (by decide +kernel)
theorem d_8262_107 {σ : Nat → Nat} {n0 : Nat} {bf : ab_B} : decode (ab_code (zx σ n0 bf).1 8262) 107 = .ok (.aload_n 0, 1) := zd zm_8262 (by decide +kernel)
theorem d_8262_108 {σ : Nat → Nat} {n0 : Nat} {bf : ab_B} : decode (ab_code (zx σ n0 bf).1 8262) 108 = .ok (.getfield 365, 3) := zd zm_8262 (by decide +kernel)
theorem d_8262_111 {σ : Nat → Nat} {n0 : Nat} {bf : ab_B} : decode (ab_code (zx σ n0 bf).1 8262) 111 = .ok (.iload 5, 2) := zd zm_8262 (by decide +kernel)
theorem d_8262_113 {σ : Nat → Nat} {n0 : Nat} {bf : ab_B} : decode (ab_code (zx σ n0 bf).1 8262) 113 = .ok (.iaload, 1) := zd zm_8262 (by decide +kernel)
theorem d_8262_114 {σ : Nat → Nat} {n0 : Nat} {bf : ab_B} : decode (ab_code (zx σ n0 bf).1 8262) 114 = .ok (.invokevirtual 1332, 3) := zd zm_8262 (by decide +kernel)
theorem d_8262_117 {σ : Nat → Nat} {n0 : Nat} {bf : ab_B} : decode (ab_code (zx σ n0 bf).1 8262) 117 = .ok (.invokevirtual 1341, 3) := zd zm_8262 (by decide +kernel)
theorem d_8262_120 {σ : Nat → Nat} {n0 : Nat} {bf : ab_B} : decode (ab_code (zx σ n0 bf).1 8262) 120 = .ok (.aload_n 0, 1) := zd zm_8262 (by decide +kernel)
theorem d_8262_121 {σ : Nat → Nat} {n0 : Nat} {bf : ab_B} : decode (ab_code (zx σ n0 bf).1 8262) 121 = .ok (.lload 6, 2) := zd zm_8262 (by decide +kernel)
theorem d_8262_123 {σ : Nat → Nat} {n0 : Nat} {bf : ab_B} : decode (ab_code (zx σ n0 bf).1 8262) 123 = .ok (.invokevirtual 1326, 3) := zd zm_8262 (by decide +kernel)
theorem d_8262_126 {σ : Nat → Nat} {n0 : Nat} {bf : ab_B} : decode (ab_code (zx σ n0 bf).1 8262) 126 = .ok (.return_, 1) := zd zm_8262 (by decide +kernel)
def w_X9_beginFor_120 (X : zs_X) (d : Nat) (p0 : Nat) (p6 : Int64) (S : zs_T) (Q : zs_Q) : Prop :=
  (zs_K S p0 = some (.inl 8) ∧ zs_C X d 8231 [.ref p0, .long p6] S (zs_kV (fun S2 => (Q (.returned none) S2)) Q))
theorem u_X9_beginFor_120 {σ : Nat → Nat} {n0 : Nat} {bf : ab_B} {d : Nat} {p0 : Nat} {p6 : Int64} {S : zs_T} {Q : zs_Q} (hB : zt_B bf) (h : w_X9_beginFor_120 (zx σ n0 bf) d p0 p6 S Q) : zs_U (zx σ n0 bf) d 8262 120 [(0, .ref p0), (6, .long p6)] [] S Q := by
  unfold w_X9_beginFor_120 at h
  refine zu_aload_n d_8262_120 rfl (zs_ra _) ?_
  refine zu_lload d_8262_121 rfl ?_
  obtain ⟨k1, h⟩ := h
  refine zc_8_1326 (x0 := p6) hB rfl k1 d_8262_123 (Nat.le_of_ble_eq_true rfl) h (fun S2 h => ?_)
  exact zu_vret d_8262_126 zr_8262 h
def w_X9_beginFor_68 (X : zs_X) (d : Nat) (p0 : Nat) (p4 : Int32) (p5 : Int32) (p6 : Int64) (p8 : Int64) (S : zs_T) (Q : zs_Q) : Prop :=
  (zs_K S p0 = some (.inl 8) ∧ zs_C X d 8214 [.ref p0] S (zs_kV (fun S2 => (zs_K S2 p0 = some (.inl 8) ∧ ∃ b5, (zs_R S2 8168 p0) = some b5 ∧ zs_A S2 b5 0 p5 ∧ zs_C X d 8219 [.ref p0, .int (zs_i S2 b5 p5.toNatClampNeg), .long p8] S2 (zs_kI (fun v9 S8 => (((¬ v9 = 0 → (zs_K S8 p0 = some (.inl 8) ∧ ∃ b12, (zs_R S8 8167 p0) = some b12 ∧ zs_A S8 b12 0 p5 ∧ ∃ b15, (zs_R S8 8168 p0) = some b15 ∧ zs_A S8 b15 0 p5 ∧ zs_C X d 8220 [.ref p0, .int (zs_i S8 b15 p5.toNatClampNeg)] S8 (zs_kI (fun v19 S18 => (zs_K S18 p0 = some (.inl 8) ∧ zs_C X d 8221 [.ref p0, .int (zs_i S8 b12 p5.toNatClampNeg), .long p8, .int v19] S18 (zs_kV (fun S21 => w_X9_beginFor_120 X d p0 p6 S21 Q) Q))) Q))) ∧ (¬ (¬ v9 = 0) → (zs_K S8 p0 = some (.inl 8) ∧ zs_C X d 8208 [.ref p0, .int (2 : Int32), .int p4] S8 (zs_kV (fun S24 => (Q (.returned none) S24)) Q)))))) Q))) Q))
theorem u_X9_beginFor_68 {σ : Nat → Nat} {n0 : Nat} {bf : ab_B} {d : Nat} {p0 : Nat} {p4 : Int32} {p5 : Int32} {p6 : Int64} {p8 : Int64} {S : zs_T} {Q : zs_Q} (hB : zt_B bf) (h : w_X9_beginFor_68 (zx σ n0 bf) d p0 p4 p5 p6 p8 S Q) : zs_U (zx σ n0 bf) d 8262 68 [(0, .ref p0), (4, .int p4), (5, .int p5), (6, .long p6), (8, .long p8)] [] S Q := by
  unfold w_X9_beginFor_68 at h
  refine zu_aload_n d_8262_68 rfl (zs_ra _) ?_
  obtain ⟨k1, h⟩ := h
  refine zc_8_1368  hB rfl k1 d_8262_69 (Nat.le_of_ble_eq_true rfl) h (fun S2 h => ?_)
  refine zu_aload_n d_8262_72 rfl (zs_ra _) ?_
  refine zu_aload_n d_8262_73 rfl (zs_ra _) ?_
  obtain ⟨k4, h⟩ := h
  refine zg_8_365 rfl d_8262_74 k4 ?_
  refine zu_iload d_8262_77 rfl ?_
  obtain ⟨b5, e6, h⟩ := h
  refine zs_stk1 (zs_rfe e6) ?_
  obtain ⟨k7, h⟩ := h
  refine zu_iald (k := 0) d_8262_79 rfl rfl k7 ?_
  refine zu_lload d_8262_80 rfl ?_
  refine zc_8_1335 (x0 := (zs_i S2 b5 p5.toNatClampNeg)) (x1 := p8) hB rfl k4 d_8262_82 (Nat.le_of_ble_eq_true rfl) h (fun v9 S8 h => ?_)
  refine zu_ifne (t := 96) d_8262_85 rfl (fun c10 => ?_) (fun c10 => ?_)
  · have h := h.1 c10
    refine zu_aload_n d_8262_96 rfl (zs_ra _) ?_
    refine zu_aload_n d_8262_97 rfl (zs_ra _) ?_
    obtain ⟨k11, h⟩ := h
    refine zg_8_362 rfl d_8262_98 k11 ?_
    refine zu_iload d_8262_101 rfl ?_
    obtain ⟨b12, e13, h⟩ := h
    refine zs_stk1 (zs_rfe e13) ?_
    obtain ⟨k14, h⟩ := h
    refine zu_iald (k := 0) d_8262_103 rfl rfl k14 ?_
    refine zu_lload d_8262_104 rfl ?_
    refine zu_aload_n d_8262_106 rfl (zs_ra _) ?_
    refine zu_aload_n d_8262_107 rfl (zs_ra _) ?_
    refine zg_8_365 rfl d_8262_108 k11 ?_
    refine zu_iload d_8262_111 rfl ?_
    obtain ⟨b15, e16, h⟩ := h
    refine zs_stk1 (zs_rfe e16) ?_
    obtain ⟨k17, h⟩ := h
    refine zu_iald (k := 0) d_8262_113 rfl rfl k17 ?_
    refine zc_8_1332 (x0 := (zs_i S8 b15 p5.toNatClampNeg)) hB rfl k11 d_8262_114 (Nat.le_of_ble_eq_true rfl) h (fun v19 S18 h => ?_)
    obtain ⟨k20, h⟩ := h
    refine zc_8_1341 (x0 := (zs_i S8 b12 p5.toNatClampNeg)) (x1 := p8) (x2 := v19) hB rfl k20 d_8262_117 (Nat.le_of_ble_eq_true rfl) h (fun S21 h => ?_)
    exact (u_X9_beginFor_120 hB h).weak ⟨rfl, rfl, trivial⟩
  · have h := h.2 c10
    refine zu_aload_n d_8262_88 rfl (zs_ra _) ?_
    refine zu_iconst d_8262_89 zi_2 ?_
    refine zu_iload d_8262_90 rfl ?_
    obtain ⟨k23, h⟩ := h
    refine zc_8_1297 (x0 := (2 : Int32)) (x1 := p4) hB rfl k23 d_8262_92 (Nat.le_of_ble_eq_true rfl) h (fun S24 h => ?_)
    exact zu_vret d_8262_95 zr_8262 h
def w_X9_beginFor_50 (X : zs_X) (d : Nat) (p0 : Nat) (p3 : Int32) (p5 : Int32) (S : zs_T) (Q : zs_Q) : Prop :=
  (zs_K S p0 = some (.inl 8) ∧ ∃ b2, (zs_R S 8167 p0) = some b2 ∧ zs_A S b2 0 p5 ∧ zs_C X d 8218 [.ref p0, .int (zs_i S b2 p5.toNatClampNeg), .int (1 : Int32)] S (zs_kV (fun S5 => (zs_K S5 p0 = some (.inl 8) ∧ ab_n0 X.1 ≤ p0 ∧ ∀ S9, S9 = zs_sI S5 8199 p0 p3 → Q (.returned none) S9)) Q))
theorem u_X9_beginFor_50 {σ : Nat → Nat} {n0 : Nat} {bf : ab_B} {d : Nat} {p0 : Nat} {p3 : Int32} {p5 : Int32} {S : zs_T} {Q : zs_Q} (hB : zt_B bf) (h : w_X9_beginFor_50 (zx σ n0 bf) d p0 p3 p5 S Q) : zs_U (zx σ n0 bf) d 8262 50 [(0, .ref p0), (3, .int p3), (5, .int p5)] [] S Q := by
  unfold w_X9_beginFor_50 at h
  refine zu_aload_n d_8262_50 rfl (zs_ra _) ?_
  refine zu_aload_n d_8262_51 rfl (zs_ra _) ?_
  obtain ⟨k1, h⟩ := h
  refine zg_8_362 rfl d_8262_52 k1 ?_
  refine zu_iload d_8262_55 rfl ?_
  obtain ⟨b2, e3, h⟩ := h
  refine zs_stk1 (zs_rfe e3) ?_
  obtain ⟨k4, h⟩ := h
  refine zu_iald (k := 0) d_8262_57 rfl rfl k4 ?_
  refine zu_iconst d_8262_58 zi_1 ?_
  refine zc_8_1345 (x0 := (zs_i S b2 p5.toNatClampNeg)) (x1 := (1 : Int32)) hB rfl k1 d_8262_59 (Nat.le_of_ble_eq_true rfl) h (fun S5 h => ?_)
  refine zu_aload_n d_8262_62 rfl (zs_ra _) ?_
  refine zu_iload_n d_8262_63 rfl ?_
  obtain ⟨k7, h⟩ := h
  obtain ⟨k8, h⟩ := h
  refine zp_8_1377 (v := p3) rfl d_8262_64 k7 k8 ?_
  generalize e10 : zs_sI S5 8199 p0 p3 = S9
  have h := h S9 e10.symm
  have K11 : ∀ b, zs_K S9 b = zs_K S5 b := zs_Kt e10 (zs_KsI _ _ _ _) (fun _ => rfl)
  exact zu_vret d_8262_67 zr_8262 h
def w_X9_beginFor_27 (X : zs_X) (d : Nat) (p0 : Nat) (p2 : Int32) (p3 : Int32) (p4 : Int32) (p5 : Int32) (p6 : Int64) (p8 : Int64) (S : zs_T) (Q : zs_Q) : Prop :=
  (((p2 = 0 → (((p8 ≤ p6 → w_X9_beginFor_68 X d p0 p4 p5 p6 p8 S Q) ∧ (¬ (p8 ≤ p6) → w_X9_beginFor_50 X d p0 p3 p5 S Q)))) ∧ (¬ (p2 = 0) → (((p6 ≤ p8 → w_X9_beginFor_68 X d p0 p4 p5 p6 p8 S Q) ∧ (¬ (p6 ≤ p8) → (w_X9_beginFor_50 X d p0 p3 p5 S Q)))))))
theorem u_X9_beginFor_27 {σ : Nat → Nat} {n0 : Nat} {bf : ab_B} {d : Nat} {p0 : Nat} {p2 : Int32} {p3 : Int32} {p4 : Int32} {p5 : Int32} {p6 : Int64} {p8 : Int64} {S : zs_T} {Q : zs_Q} (hB : zt_B bf) (h : w_X9_beginFor_27 (zx σ n0 bf) d p0 p2 p3 p4 p5 p6 p8 S Q) : zs_U (zx σ n0 bf) d 8262 27 [(0, .ref p0), (2, .int p2), (3, .int p3), (4, .int p4), (5, .int p5), (6, .long p6), (8, .long p8)] [] S Q := by
  unfold w_X9_beginFor_27 at h
  refine zu_iload_n d_8262_27 rfl ?_
  refine zu_ifeq (t := 42) d_8262_28 rfl (fun c1 => ?_) (fun c1 => ?_)
  · have h := h.1 c1
    refine zu_lload d_8262_42 rfl ?_
    refine zu_lload d_8262_44 rfl ?_
    refine zu_lle (t := 68) d_8262_46 d_8262_47 rfl (fun c2 => ?_) (fun c2 => ?_)
    · have h := h.1 c2
      exact (u_X9_beginFor_68 hB h).weak ⟨rfl, rfl, rfl, rfl, rfl, trivial⟩
    · have h := h.2 c2
      exact (u_X9_beginFor_50 hB h).weak ⟨rfl, rfl, rfl, trivial⟩
  · have h := h.2 c1
    refine zu_lload d_8262_31 rfl ?_
    refine zu_lload d_8262_33 rfl ?_
    refine zu_lge (t := 68) d_8262_35 d_8262_36 rfl (fun c3 => ?_) (fun c3 => ?_)
    · have h := h.1 c3
      exact (u_X9_beginFor_68 hB h).weak ⟨rfl, rfl, rfl, rfl, rfl, trivial⟩
    · have h := h.2 c3
      refine zu_goto (t := 50) d_8262_39 rfl ?_
      exact (u_X9_beginFor_50 hB h).weak ⟨rfl, rfl, rfl, trivial⟩
def w_X9_beginFor (X : zs_X) (d : Nat) (p0 : Nat) (p1 : Int32) (p2 : Int32) (p3 : Int32) (p4 : Int32) (S : zs_T) (Q : zs_Q) : Prop :=
  (zs_K S p0 = some (.inl 8) ∧ ∃ b2, (zs_R S 8160 p0) = some b2 ∧ zs_A S b2 0 ((zs_I S 8165 p0) - (1 : Int32)) ∧ zs_C X d 8242 [.ref p0] S (zs_kJ (fun v6 S5 => (zs_K S5 p0 = some (.inl 8) ∧ zs_C X d 8242 [.ref p0] S5 (zs_kJ (fun v9 S8 => (w_X9_beginFor_27 X d p0 p2 p3 p4 ((zs_i S b2 ((zs_I S 8165 p0) - (1 : Int32)).toNatClampNeg) + p1) v6 v9 S8 Q)) Q))) Q))
theorem u_X9_beginFor {σ : Nat → Nat} {n0 : Nat} {bf : ab_B} {d : Nat} {p0 : Nat} {p1 : Int32} {p2 : Int32} {p3 : Int32} {p4 : Int32} {S : zs_T} {Q : zs_Q} (hB : zt_B bf) (hd : 1 ≤ d) (h : w_X9_beginFor (zx σ n0 bf) (d - 1) p0 p1 p2 p3 p4 S Q) : zs_C (zx σ n0 bf) d 8262 [.ref p0, .int p1, .int p2, .int p3, .int p4] S Q := by
  have hL : lv_args 0 [.ref p0, .int p1, .int p2, .int p3, .int p4] = [(0, .ref p0), (1, .int p1), (2, .int p2), (3, .int p3), (4, .int p4)] := rfl
  refine zs_C.of1 (hB.2 8262 (by decide) (by decide)) hd (by rw [hL]; exact zs_sub_self _ (by exact ⟨rfl, rfl, rfl, rfl, rfl, trivial⟩)) ?_
  rw [hL]
  clear hL
  unfold w_X9_beginFor at h
  refine zu_aload_n d_8262_0 rfl (zs_ra _) ?_
  obtain ⟨k1, h⟩ := h
  refine zg_8_347 rfl d_8262_1 k1 ?_
  refine zu_aload_n d_8262_4 rfl (zs_ra _) ?_
  refine zg_8_1240 rfl d_8262_5 k1 ?_
  refine zu_iconst d_8262_8 zi_1 ?_
  refine zu_stk d_8262_9 rfl rfl ?_
  obtain ⟨b2, e3, h⟩ := h
  refine zs_stk1 (zs_rfe e3) ?_
  obtain ⟨k4, h⟩ := h
  refine zu_iald (k := 0) d_8262_10 rfl rfl k4 ?_
  refine zu_iload_n d_8262_11 rfl ?_
  refine zu_stk d_8262_12 rfl rfl ?_
  refine zu_istore d_8262_13 (zs_lt zq_8262 rfl) ?_
  refine zu_aload_n d_8262_15 rfl (zs_ra _) ?_
  refine zc_8_1307  hB rfl k1 d_8262_16 (Nat.le_of_ble_eq_true rfl) h (fun v6 S5 h => ?_)
  refine zu_lstore d_8262_19 (zs_lt zq_8262 rfl) ?_
  refine zu_aload_n d_8262_21 rfl (zs_ra _) ?_
  obtain ⟨k7, h⟩ := h
  refine zc_8_1307  hB rfl k7 d_8262_22 (Nat.le_of_ble_eq_true rfl) h (fun v9 S8 h => ?_)
  refine zu_lstore d_8262_25 (zs_lt zq_8262 rfl) ?_
  exact (u_X9_beginFor_27 hB h).weak ⟨rfl, rfl, rfl, rfl, rfl, rfl, rfl, trivial⟩
/-! SchemaPascalModel.nextFor(IZII)V -/
theorem zm_8263 {σ : Nat → Nat} {n0 : Nat} {bf : ab_B} : ab_code (zx σ n0 bf).1 8263 = prog_17_method_252_code := rfl
theorem zq_8263 {σ : Nat → Nat} {n0 : Nat} {bf : ab_B} : ab_maxL (zx σ n0 bf).1 8263 = 10 := rfl
theorem zr_8263 {σ : Nat → Nat} {n0 : Nat} {bf : ab_B} : ab_ret (zx σ n0 bf).1 8263 = (Option.none : Option Jvm.ClassFile.FieldType) := rfl
theorem d_8263_0 {σ : Nat → Nat} {n0 : Nat} {bf : ab_B} : decode (ab_code (zx σ n0 bf).1 8263) 0 = .ok (.aload_n 0, 1) := zd zm_8263 (by decide +kernel)
theorem d_8263_1 {σ : Nat → Nat} {n0 : Nat} {bf : ab_B} : decode (ab_code (zx σ n0 bf).1 8263) 1 = .ok (.getfield 347, 3) := zd zm_8263 (by decide +kernel)
theorem d_8263_4 {σ : Nat → Nat} {n0 : Nat} {bf : ab_B} : decode (ab_code (zx σ n0 bf).1 8263) 4 = .ok (.aload_n 0, 1) := zd zm_8263 (by decide +kernel)
theorem d_8263_5 {σ : Nat → Nat} {n0 : Nat} {bf : ab_B} : decode (ab_code (zx σ n0 bf).1 8263) 5 = .ok (.getfield 1240, 3) := zd zm_8263 (by decide +kernel)
theorem d_8263_8 {σ : Nat → Nat} {n0 : Nat} {bf : ab_B} : decode (ab_code (zx σ n0 bf).1 8263) 8 = .ok (.iconst 1, 1) := zd zm_8263 (by decide +kernel)
theorem d_8263_9 {σ : Nat → Nat} {n0 : Nat} {bf : ab_B} : decode (ab_code (zx σ n0 bf).1 8263) 9 = .ok (.isub, 1) := zd zm_8263 (by decide +kernel)
theorem d_8263_10 {σ : Nat → Nat} {n0 : Nat} {bf : ab_B} : decode (ab_code (zx σ n0 bf).1 8263) 10 = .ok (.iaload, 1) := zd zm_8263 (by decide +kernel)
theorem d_8263_11 {σ : Nat → Nat} {n0 : Nat} {bf : ab_B} : decode (ab_code (zx σ n0 bf).1 8263) 11 = .ok (.iload_n 1, 1) := zd zm_8263 (by decide +kernel)
theorem d_8263_12 {σ : Nat → Nat} {n0 : Nat} {bf : ab_B} : decode (ab_code (zx σ n0 bf).1 8263) 12 = .ok (.iadd, 1) := zd zm_8263 (by decide +kernel)
theorem d_8263_13 {σ : Nat → Nat} {n0 : Nat} {bf : ab_B} : decode (ab_code (zx σ n0 bf).1 8263) 13 = .ok (.istore 5, 2) := zd zm_8263 (by decide +kernel)
theorem d_8263_15 {σ : Nat → Nat} {n0 : Nat} {bf : ab_B} : decode (ab_code (zx σ n0 bf).1 8263) 15 = .ok (.aload_n 0, 1) := zd zm_8263 (by decide +kernel)
theorem d_8263_16 {σ : Nat → Nat} {n0 : Nat} {bf : ab_B} : decode (ab_code (zx σ n0 bf).1 8263) 16 = .ok (.invokevirtual 1368, 3) := zd zm_8263 (by decide +kernel)
theorem d_8263_19 {σ : Nat → Nat} {n0 : Nat} {bf : ab_B} : decode (ab_code (zx σ n0 bf).1 8263) 19 = .ok (.aload_n 0, 1) := zd zm_8263 (by decide +kernel)
theorem d_8263_20 {σ : Nat → Nat} {n0 : Nat} {bf : ab_B} : decode (ab_code (zx σ n0 bf).1 8263) 20 = .ok (.aload_n 0, 1) := zd zm_8263 (by decide +kernel)
theorem d_8263_21 {σ : Nat → Nat} {n0 : Nat} {bf : ab_B} : decode (ab_code (zx σ n0 bf).1 8263) 21 = .ok (.getfield 362, 3) := zd zm_8263 (by decide +kernel)
theorem d_8263_24 {σ : Nat → Nat} {n0 : Nat} {bf : ab_B} : decode (ab_code (zx σ n0 bf).1 8263) 24 = .ok (.iload 5, 2) := zd zm_8263 (by decide +kernel)
theorem d_8263_26 {σ : Nat → Nat} {n0 : Nat} {bf : ab_B} : decode (ab_code (zx σ n0 bf).1 8263) 26 = .ok (.iaload, 1) := zd zm_8263 (by decide +kernel)
theorem d_8263_27 {σ : Nat → Nat} {n0 : Nat} {bf : ab_B} : decode (ab_code (zx σ n0 bf).1 8263) 27 = .ok (.aload_n 0, 1) := zd zm_8263 (by decide +kernel)
theorem d_8263_28 {σ : Nat → Nat} {n0 : Nat} {bf : ab_B} : decode (ab_code (zx σ n0 bf).1 8263) 28 = .ok (.getfield 365, 3) := zd zm_8263 (by decide +kernel)
theorem d_8263_31 {σ : Nat → Nat} {n0 : Nat} {bf : ab_B} : decode (ab_code (zx σ n0 bf).1 8263) 31 = .ok (.iload 5, 2) := zd zm_8263 (by decide +kernel)
theorem d_8263_33 {σ : Nat → Nat} {n0 : Nat} {bf : ab_B} : decode (ab_code (zx σ n0 bf).1 8263) 33 = .ok (.iaload, 1) := zd zm_8263 (by decide +kernel)
theorem d_8263_34 {σ : Nat → Nat} {n0 : Nat} {bf : ab_B} : decode (ab_code (zx σ n0 bf).1 8263) 34 = .ok (.invokevirtual 1294, 3) := zd zm_8263 (by decide +kernel)
theorem d_8263_37 {σ : Nat → Nat} {n0 : Nat} {bf : ab_B} : decode (ab_code (zx σ n0 bf).1 8263) 37 = .ok (.ifCond .ne 11, 3) := zd zm_8263 (by decide +kernel)
theorem d_8263_40 {σ : Nat → Nat} {n0 : Nat} {bf : ab_B} : decode (ab_code (zx σ n0 bf).1 8263) 40 = .ok (.aload_n 0, 1) := zd zm_8263 (by decide +kernel)
theorem d_8263_41 {σ : Nat → Nat} {n0 : Nat} {bf : ab_B} : decode (ab_code (zx σ n0 bf).1 8263) 41 = .ok (.iconst 1, 1) := zd zm_8263 (by decide +kernel)
theorem d_8263_42 {σ : Nat → Nat} {n0 : Nat} {bf : ab_B} : decode (ab_code (zx σ n0 bf).1 8263) 42 = .ok (.iload 4, 2) := zd zm_8263 (by decide +kernel)
theorem d_8263_44 {σ : Nat → Nat} {n0 : Nat} {bf : ab_B} : decode (ab_code (zx σ n0 bf).1 8263) 44 = .ok (.invokevirtual 1297, 3) := zd zm_8263 (by decide +kernel)
theorem d_8263_47 {σ : Nat → Nat} {n0 : Nat} {bf : ab_B} : decode (ab_code (zx σ n0 bf).1 8263) 47 = .ok (.return_, 1) := zd zm_8263 (by decide +kernel)
theorem d_8263_48 {σ : Nat → Nat} {n0 : Nat} {bf : ab_B} : decode (ab_code (zx σ n0 bf).1 8263) 48 = .ok (.aload_n 0, 1) := zd zm_8263 (by decide +kernel)
theorem d_8263_49 {σ : Nat → Nat} {n0 : Nat} {bf : ab_B} : decode (ab_code (zx σ n0 bf).1 8263) 49 = .ok (.getfield 373, 3) := zd zm_8263 (by decide +kernel)
theorem d_8263_52 {σ : Nat → Nat} {n0 : Nat} {bf : ab_B} : decode (ab_code (zx σ n0 bf).1 8263) 52 = .ok (.aload_n 0, 1) := zd zm_8263 (by decide +kernel)
theorem d_8263_53 {σ : Nat → Nat} {n0 : Nat} {bf : ab_B} : decode (ab_code (zx σ n0 bf).1 8263) 53 = .ok (.getfield 362, 3) := zd zm_8263 (by decide +kernel)
theorem d_8263_56 {σ : Nat → Nat} {n0 : Nat} {bf : ab_B} : decode (ab_code (zx σ n0 bf).1 8263) 56 = .ok (.iload 5, 2) := zd zm_8263 (by decide +kernel)
theorem d_8263_58 {σ : Nat → Nat} {n0 : Nat} {bf : ab_B} : decode (ab_code (zx σ n0 bf).1 8263) 58 = .ok (.iaload, 1) := zd zm_8263 (by decide +kernel)
theorem d_8263_59 {σ : Nat → Nat} {n0 : Nat} {bf : ab_B} : decode (ab_code (zx σ n0 bf).1 8263) 59 = .ok (.laload, 1) := zd zm_8263 (by decide +kernel)
theorem d_8263_60 {σ : Nat → Nat} {n0 : Nat} {bf : ab_B} : decode (ab_code (zx σ n0 bf).1 8263) 60 = .ok (.lstore 6, 2) := zd zm_8263 (by decide +kernel)
theorem d_8263_62 {σ : Nat → Nat} {n0 : Nat} {bf : ab_B} : decode (ab_code (zx σ n0 bf).1 8263) 62 = .ok (.aload_n 0, 1) := zd zm_8263 (by decide +kernel)
theorem d_8263_63 {σ : Nat → Nat} {n0 : Nat} {bf : ab_B} : decode (ab_code (zx σ n0 bf).1 8263) 63 = .ok (.getfield 399, 3) := zd zm_8263 (by decide +kernel)
theorem d_8263_66 {σ : Nat → Nat} {n0 : Nat} {bf : ab_B} : decode (ab_code (zx σ n0 bf).1 8263) 66 = .ok (.aload_n 0, 1) := zd zm_8263 (by decide +kernel)
theorem d_8263_67 {σ : Nat → Nat} {n0 : Nat} {bf : ab_B} : decode (ab_code (zx σ n0 bf).1 8263) 67 = .ok (.getfield 1261, 3) := zd zm_8263 (by decide +kernel)
theorem d_8263_70 {σ : Nat → Nat} {n0 : Nat} {bf : ab_B} : decode (ab_code (zx σ n0 bf).1 8263) 70 = .ok (.iconst 1, 1) := zd zm_8263 (by decide +kernel)
theorem d_8263_71 {σ : Nat → Nat} {n0 : Nat} {bf : ab_B} : decode (ab_code (zx σ n0 bf).1 8263) 71 = .ok (.isub, 1) := zd zm_8263 (by decide +kernel)
theorem d_8263_72 {σ : Nat → Nat} {n0 : Nat} {bf : ab_B} : decode (ab_code (zx σ n0 bf).1 8263) 72 = .ok (.laload, 1) := zd zm_8263 (by decide +kernel)
theorem d_8263_73 {σ : Nat → Nat} {n0 : Nat} {bf : ab_B} : decode (ab_code (zx σ n0 bf).1 8263) 73 = .ok (.lstore 8, 2) := zd zm_8263 (by decide +kernel)
theorem d_8263_75 {σ : Nat → Nat} {n0 : Nat} {bf : ab_B} : decode (ab_code (zx σ n0 bf).1 8263) 75 = .ok (.iload_n 2, 1) := zd zm_8263 (by decide +kernel)
theorem d_8263_76 {σ : Nat → Nat} {n0 : Nat} {bf : ab_B} : decode (ab_code (zx σ n0 bf).1 8263) 76 = .ok (.ifCond .eq 14, 3) := zd zm_8263 (by decide +kernel)
theorem d_8263_79 {σ : Nat → Nat} {n0 : Nat} {bf : ab_B} : decode (ab_code (zx σ n0 bf).1 8263) 79 = .ok (.lload 6, 2) := zd zm_8263 (by decide +kernel)
theorem d_8263_81 {σ : Nat → Nat} {n0 : Nat} {bf : ab_B} : decode (ab_code (zx σ n0 bf).1 8263) 81 = .ok (.lload 8, 2) := zd zm_8263 (by decide +kernel)
theorem d_8263_83 {σ : Nat → Nat} {n0 : Nat} {bf : ab_B} : decode (ab_code (zx σ n0 bf).1 8263) 83 = .ok (.lcmp, 1) := zd zm_8263 (by decide +kernel)
theorem d_8263_84 {σ : Nat → Nat} {n0 : Nat} {bf : ab_B} : decode (ab_code (zx σ n0 bf).1 8263) 84 = .ok (.ifCond .gt 37, 3) := zd zm_8263 (by decide +kernel)
theorem d_8263_87 {σ : Nat → Nat} {n0 : Nat} {bf : ab_B} : decode (ab_code (zx σ n0 bf).1 8263) 87 = .ok (.goto 11, 3) := zd zm_8263 (by decide +kernel)
theorem d_8263_90 {σ : Nat → Nat} {n0 : Nat} {bf : ab_B} : decode (ab_code (zx σ n0 bf).1 8263) 90 = .ok (.lload 6, 2) := zd zm_8263 (by decide +kernel)
theorem d_8263_92 {σ : Nat → Nat} {n0 : Nat} {bf : ab_B} : decode (ab_code (zx σ n0 bf).1 8263) 92 = .ok (.lload 8, 2) := zd zm_8263 (by decide +kernel)
theorem d_8263_94 {σ : Nat → Nat} {n0 : Nat} {bf : ab_B} : decode (ab_code (zx σ n0 bf).1 8263) 94 = .ok (.lcmp, 1) := zd zm_8263 (by decide +kernel)
theorem d_8263_95 {σ : Nat → Nat} {n0 : Nat} {bf : ab_B} : decode (ab_code (zx σ n0 bf).1 8263) 95 = .ok (.ifCond .lt 26, 3) := zd zm_8263 (by decide +kernel)
theorem d_8263_98 {σ : Nat → Nat} {n0 : Nat} {bf : ab_B} : decode (ab_code (zx σ n0 bf).1 8263) 98 = .ok (.aload_n 0, 1) := zd zm_8263 (by decide +kernel)
theorem d_8263_99 {σ : Nat → Nat} {n0 : Nat} {bf : ab_B} : decode (ab_code (zx σ n0 bf).1 8263) 99 = .ok (.aload_n 0, 1) := zd zm_8263 (by decide +kernel)
theorem d_8263_100 {σ : Nat → Nat} {n0 : Nat} {bf : ab_B} : decode (ab_code (zx σ n0 bf).1 8263) 100 = .ok (.getfield 362, 3) := zd zm_8263 (by decide +kernel)
theorem d_8263_103 {σ : Nat → Nat} {n0 : Nat} {bf : ab_B} : decode (ab_code (zx σ n0 bf).1 8263) 103 = .ok (.iload 5, 2) := zd zm_8263 (by decide +kernel)
theorem d_8263_105 {σ : Nat → Nat} {n0 : Nat} {bf : ab_B} : decode (ab_code (zx σ n0 bf).1 8263) 105 = .ok (.iaload, 1) := zd zm_8263 (by decide +kernel)
theorem d_8263_106 {σ : Nat → Nat} {n0 : Nat} {bf : ab_B} : decode (ab_code (zx σ n0 bf).1 8263) 106 = .ok (.iconst 1, 1) := zd zm_8263 (by decide +kernel)
theorem d_8263_107 {σ : Nat → Nat} {n0 : Nat} {bf : ab_B} : decode (ab_code (zx σ n0 bf).1 8263) 107 = .ok (.invokevirtual 1345, 3) := zd zm_8263 (by decide +kernel)
theorem d_8263_110 {σ : Nat → Nat} {n0 : Nat} {bf : ab_B} : decode (ab_code (zx σ n0 bf).1 8263) 110 = .ok (.aload_n 0, 1) := zd zm_8263 (by decide +kernel)
theorem d_8263_111 {σ : Nat → Nat} {n0 : Nat} {bf : ab_B} : decode (ab_code (zx σ n0 bf).1 8263) 111 = .ok (.dup, 1) := zd zm_8263 (by decide +kernel)
theorem d_8263_112 {σ : Nat → Nat} {n0 : Nat} {bf : ab_B} : decode (ab_code (zx σ n0 bf).1 8263) 112 = .ok (.getfield 1261, 3) := zd zm_8263 (by decide +kernel)
theorem d_8263_115 {σ : Nat → Nat} {n0 : Nat} {bf : ab_B} : decode (ab_code (zx σ n0 bf).1 8263) 115 = .ok (.iconst 1, 1) := zd zm_8263 (by decide +kernel)
theorem d_8263_116 {σ : Nat → Nat} {n0 : Nat} {bf : ab_B} : decode (ab_code (zx σ n0 bf).1 8263) 116 = .ok (.isub, 1) := zd zm_8263 (by decide +kernel)
theorem d_8263_117 {σ : Nat → Nat} {n0 : Nat} {bf : ab_B} : decode (ab_code (zx σ n0 bf).1 8263) 117 = .ok (.putfield 1261, 3) := zd zm_8263 (by decide +kernel)
theorem d_8263_120 {σ : Nat → Nat} {n0 : Nat} {bf : ab_B} : decode (ab_code (zx σ n0 bf).1 8263) 120 = .ok (.return_, 1) := zd zm_8263 (by decide +kernel)
theorem d_8263_121 {σ : Nat → Nat} {n0 : Nat} {bf : ab_B} : decode (ab_code (zx σ n0 bf).1 8263) 121 = .ok (.lload 6, 2) := zd zm_8263 (by decide +kernel)
theorem d_8263_123 {σ : Nat → Nat} {n0 : Nat} {bf : ab_B} : decode (ab_code (zx σ n0 bf).1 8263) 123 = .ok (.iload_n 2, 1) := zd zm_8263 (by decide +kernel)
theorem d_8263_124 {σ : Nat → Nat} {n0 : Nat} {bf : ab_B} : decode (ab_code (zx σ n0 bf).1 8263) 124 = .ok (.ifCond .eq 9, 3) := zd zm_8263 (by decide +kernel)
theorem d_8263_127 {σ : Nat → Nat} {n0 : Nat} {bf : ab_B} : decode (ab_code (zx σ n0 bf).1 8263) 127 = .ok (.ldc2_w 631, 3) := zd zm_8263 (by decide +kernel)
theorem d_8263_130 {σ : Nat → Nat} {n0 : Nat} {bf : ab_B} : decode (ab_code (zx σ n0 bf).1 8263) 130 = .ok (.goto 4, 3) := zd zm_8263 (by decide +kernel)
theorem d_8263_133 {σ : Nat → Nat} {n0 : Nat} {bf : ab_B} : decode (ab_code (zx σ n0 bf).1 8263) 133 = .ok (.lconst 1, 1) := zd zm_8263 (by decide +kernel)
theorem d_8263_134 {σ : Nat → Nat} {n0 : Nat} {bf : ab_B} : decode (ab_code (zx σ n0 bf).1 8263) 134 = .ok (.ladd, 1) := zd zm_8263 (by decide +kernel)
theorem d_8263_135 {σ : Nat → Nat} {n0 : Nat} {bf : ab_B} : decode (ab_code (zx σ n0 bf).1 8263) 135 = .ok (.lstore 6, 2) := zd zm_8263 (by decide +kernel)
theorem d_8263_137 {σ : Nat → Nat} {n0 : Nat} {bf : ab_B} : decode (ab_code (zx σ n0 bf).1 8263) 137 = .ok (.aload_n 0, 1) := zd zm_8263 (by decide +kernel)
theorem d_8263_138 {σ : Nat → Nat} {n0 : Nat} {bf : ab_B} : decode (ab_code (zx σ n0 bf).1 8263) 138 = .ok (.aload_n 0, 1) := zd zm_8263 (by decide +kernel)
theorem d_8263_139 {σ : Nat → Nat} {n0 : Nat} {bf : ab_B} : decode (ab_code (zx σ n0 bf).1 8263) 139 = .ok (.getfield 365, 3) := zd zm_8263 (by decide +kernel)
theorem d_8263_142 {σ : Nat → Nat} {n0 : Nat} {bf : ab_B} : decode (ab_code (zx σ n0 bf).1 8263) 142 = .ok (.iload 5, 2) := zd zm_8263 (by decide +kernel)
theorem d_8263_144 {σ : Nat → Nat} {n0 : Nat} {bf : ab_B} : decode (ab_code (zx σ n0 bf).1 8263) 144 = .ok (.iaload, 1) := zd zm_8263 (by decide +kernel)
theorem d_8263_145 {σ : Nat → Nat} {n0 : Nat} {bf : ab_B} : decode (ab_code (zx σ n0 bf).1 8263) 145 = .ok (.lload 6, 2) := zd zm_8263 (by decide +kernel)
theorem d_8263_147 {σ : Nat → Nat} {n0 : Nat} {bf : ab_B} : decode (ab_code (zx σ n0 bf).1 8263) 147 = .ok (.invokevirtual 1335, 3) := zd zm_8263 (by decide +kernel)
theorem d_8263_150 {σ : Nat → Nat} {n0 : Nat} {bf : ab_B} : decode (ab_code (zx σ n0 bf).1 8263) 150 = .ok (.ifCond .ne 11, 3) := zd zm_8263 (by decide +kernel)
theorem d_8263_153 {σ : Nat → Nat} {n0 : Nat} {bf : ab_B} : decode (ab_code (zx σ n0 bf).1 8263) 153 = .ok (.aload_n 0, 1) := zd zm_8263 (by decide +kernel)
theorem d_8263_154 {σ : Nat → Nat} {n0 : Nat} {bf : ab_B} : decode (ab_code (zx σ n0 bf).1 8263) 154 = .ok (.iconst 2, 1) := zd zm_8263 (by decide +kernel)
theorem d_8263_155 {σ : Nat → Nat} {n0 : Nat} {bf : ab_B} : decode (ab_code (zx σ n0 bf).1 8263) 155 = .ok (.iload 4, 2) := zd zm_8263 (by decide +kernel)
theorem d_8263_157 {σ : Nat → Nat} {n0 : Nat} {bf : ab_B} : decode (ab_code (zx σ n0 bf).1 8263) 157 = .ok (.invokevirtual 1297, 3) := zd zm_8263 (by decide +kernel)
theorem d_8263_160 {σ : Nat → Nat} {n0 : Nat} {bf : ab_B} : decode (ab_code (zx σ n0 bf).1 8263) 160 = .ok (.return_, 1) := zd zm_8263 (by decide +kernel)
theorem d_8263_161 {σ : Nat → Nat} {n0 : Nat} {bf : ab_B} : decode (ab_code (zx σ n0 bf).1 8263) 161 = .ok (.aload_n 0, 1) := zd zm_8263 (by decide +kernel)
theorem d_8263_162 {σ : Nat → Nat} {n0 : Nat} {bf : ab_B} : decode (ab_code (zx σ n0 bf).1 8263) 162 = .ok (.aload_n 0, 1) := zd zm_8263 (by decide +kernel)
theorem d_8263_163 {σ : Nat → Nat} {n0 : Nat} {bf : ab_B} : decode (ab_code (zx σ n0 bf).1 8263) 163 = .ok (.getfield 362, 3) := zd zm_8263 (by decide +kernel)
theorem d_8263_166 {σ : Nat → Nat} {n0 : Nat} {bf : ab_B} : decode (ab_code (zx σ n0 bf).1 8263) 166 = .ok (.iload 5, 2) := zd zm_8263 (by decide +kernel)
theorem d_8263_168 {σ : Nat → Nat} {n0 : Nat} {bf : ab_B} : decode (ab_code (zx σ n0 bf).1 8263) 168 = .ok (.iaload, 1) := zd zm_8263 (by decide +kernel)
theorem d_8263_169 {σ : Nat → Nat} {n0 : Nat} {bf : ab_B} : decode (ab_code (zx σ n0 bf).1 8263) 169 = .ok (.lload 6, 2) := zd zm_8263 (by decide +kernel)
theorem d_8263_171 {σ : Nat → Nat} {n0 : Nat} {bf : ab_B} : decode (ab_code (zx σ n0 bf).1 8263) 171 = .ok (.aload_n 0, 1) := zd zm_8263 (by decide +kernel)
theorem d_8263_172 {σ : Nat → Nat} {n0 : Nat} {bf : ab_B} : decode (ab_code (zx σ n0 bf).1 8263) 172 = .ok (.aload_n 0, 1) := zd zm_8263 (by decide +kernel)
theorem d_8263_173 {σ : Nat → Nat} {n0 : Nat} {bf : ab_B} : decode (ab_code (zx σ n0 bf).1 8263) 173 = .ok (.getfield 365, 3) := zd zm_8263 (by decide +kernel)
theorem d_8263_176 {σ : Nat → Nat} {n0 : Nat} {bf : ab_B} : decode (ab_code (zx σ n0 bf).1 8263) 176 = .ok (.iload 5, 2) := zd zm_8263 (by decide +kernel)
theorem d_8263_178 {σ : Nat → Nat} {n0 : Nat} {bf : ab_B} : decode (ab_code (zx σ n0 bf).1 8263) 178 = .ok (.iaload, 1) := zd zm_8263 (by decide +kernel)
theorem d_8263_179 {σ : Nat → Nat} {n0 : Nat} {bf : ab_B} : decode (ab_code (zx σ n0 bf).1 8263) 179 = .ok (.invokevirtual 1332, 3) := zd zm_8263 (by decide +kernel)
theorem d_8263_182 {σ : Nat → Nat} {n0 : Nat} {bf : ab_B} : decode (ab_code (zx σ n0 bf).1 8263) 182 = .ok (.invokevirtual 1341, 3) := zd zm_8263 (by decide +kernel)
theorem d_8263_185 {σ : Nat → Nat} {n0 : Nat} {bf : ab_B} : decode (ab_code (zx σ n0 bf).1 8263) 185 = .ok (.aload_n 0, 1) := zd zm_8263 (by decide +kernel)
theorem d_8263_186 {σ : Nat → Nat} {n0 : Nat} {bf : ab_B} : decode (ab_code (zx σ n0 bf).1 8263) 186 = .ok (.iload_n 3, 1) := zd zm_8263 (by decide +kernel)
theorem d_8263_187 {σ : Nat → Nat} {n0 : Nat} {bf : ab_B} : decode (ab_code (zx σ n0 bf).1 8263) 187 = .ok (.putfield 1377, 3) := zd zm_8263 (by decide +kernel)
theorem d_8263_190 {σ : Nat → Nat} {n0 : Nat} {bf : ab_B} : decode (ab_code (zx σ n0 bf).1 8263) 190 = .ok (.return_, 1) := zd zm_8263 (by decide +kernel)
def w_X9_nextFor_40 (X : zs_X) (d : Nat) (p0 : Nat) (p4 : Int32) (S : zs_T) (Q : zs_Q) : Prop :=
  (zs_K S p0 = some (.inl 8) ∧ zs_C X d 8208 [.ref p0, .int (1 : Int32), .int p4] S (zs_kV (fun S2 => (Q (.returned none) S2)) Q))
theorem u_X9_nextFor_40 {σ : Nat → Nat} {n0 : Nat} {bf : ab_B} {d : Nat} {p0 : Nat} {p4 : Int32} {S : zs_T} {Q : zs_Q} (hB : zt_B bf) (h : w_X9_nextFor_40 (zx σ n0 bf) d p0 p4 S Q) : zs_U (zx σ n0 bf) d 8263 40 [(0, .ref p0), (4, .int p4)] [] S Q := by
  unfold w_X9_nextFor_40 at h
  refine zu_aload_n d_8263_40 rfl (zs_ra _) ?_
  refine zu_iconst d_8263_41 zi_1 ?_
  refine zu_iload d_8263_42 rfl ?_
  obtain ⟨k1, h⟩ := h
  refine zc_8_1297 (x0 := (1 : Int32)) (x1 := p4) hB rfl k1 d_8263_44 (Nat.le_of_ble_eq_true rfl) h (fun S2 h => ?_)
  exact zu_vret d_8263_47 zr_8263 h
def w_X9_nextFor_185 (X : zs_X) (d : Nat) (p0 : Nat) (p3 : Int32) (S : zs_T) (Q : zs_Q) : Prop :=
  (zs_K S p0 = some (.inl 8) ∧ ab_n0 X.1 ≤ p0 ∧ ∀ S3, S3 = zs_sI S 8199 p0 p3 → Q (.returned none) S3)
theorem u_X9_nextFor_185 {σ : Nat → Nat} {n0 : Nat} {bf : ab_B} {d : Nat} {p0 : Nat} {p3 : Int32} {S : zs_T} {Q : zs_Q} (hB : zt_B bf) (h : w_X9_nextFor_185 (zx σ n0 bf) d p0 p3 S Q) : zs_U (zx σ n0 bf) d 8263 185 [(0, .ref p0), (3, .int p3)] [] S Q := by
  unfold w_X9_nextFor_185 at h
  refine zu_aload_n d_8263_185 rfl (zs_ra _) ?_
  refine zu_iload_n d_8263_186 rfl ?_
  obtain ⟨k1, h⟩ := h
  obtain ⟨k2, h⟩ := h
  refine zp_8_1377 (v := p3) rfl d_8263_187 k1 k2 ?_
  generalize e4 : zs_sI S 8199 p0 p3 = S3
  have h := h S3 e4.symm
  have K5 : ∀ b, zs_K S3 b = zs_K S b := zs_Kt e4 (zs_KsI _ _ _ _) (fun _ => rfl)
  exact zu_vret d_8263_190 zr_8263 h
def w_X9_nextFor_134 (X : zs_X) (d : Nat) (p0 : Nat) (p3 : Int32) (p4 : Int32) (p5 : Int32) (q0 : Int64) (q1 : Int64) (S : zs_T) (Q : zs_Q) : Prop :=
  (zs_K S p0 = some (.inl 8) ∧ ∃ b2, (zs_R S 8168 p0) = some b2 ∧ zs_A S b2 0 p5 ∧ zs_C X d 8219 [.ref p0, .int (zs_i S b2 p5.toNatClampNeg), .long (q0 + q1)] S (zs_kI (fun v6 S5 => (((¬ v6 = 0 → (zs_K S5 p0 = some (.inl 8) ∧ ∃ b9, (zs_R S5 8167 p0) = some b9 ∧ zs_A S5 b9 0 p5 ∧ ∃ b12, (zs_R S5 8168 p0) = some b12 ∧ zs_A S5 b12 0 p5 ∧ zs_C X d 8220 [.ref p0, .int (zs_i S5 b12 p5.toNatClampNeg)] S5 (zs_kI (fun v16 S15 => (zs_K S15 p0 = some (.inl 8) ∧ zs_C X d 8221 [.ref p0, .int (zs_i S5 b9 p5.toNatClampNeg), .long (q0 + q1), .int v16] S15 (zs_kV (fun S18 => w_X9_nextFor_185 X d p0 p3 S18 Q) Q))) Q))) ∧ (¬ (¬ v6 = 0) → (zs_K S5 p0 = some (.inl 8) ∧ zs_C X d 8208 [.ref p0, .int (2 : Int32), .int p4] S5 (zs_kV (fun S21 => (Q (.returned none) S21)) Q)))))) Q))
theorem u_X9_nextFor_134 {σ : Nat → Nat} {n0 : Nat} {bf : ab_B} {d : Nat} {p0 : Nat} {p3 : Int32} {p4 : Int32} {p5 : Int32} {q0 : Int64} {q1 : Int64} {S : zs_T} {Q : zs_Q} (hB : zt_B bf) (h : w_X9_nextFor_134 (zx σ n0 bf) d p0 p3 p4 p5 q0 q1 S Q) : zs_U (zx σ n0 bf) d 8263 134 [(0, .ref p0), (3, .int p3), (4, .int p4), (5, .int p5)] [.long q1, .long q0] S Q := by
  unfold w_X9_nextFor_134 at h
  refine zu_stk d_8263_134 rfl rfl ?_
  refine zu_lstore d_8263_135 (zs_lt zq_8263 rfl) ?_
  refine zu_aload_n d_8263_137 rfl (zs_ra _) ?_
  refine zu_aload_n d_8263_138 rfl (zs_ra _) ?_
  obtain ⟨k1, h⟩ := h
  refine zg_8_365 rfl d_8263_139 k1 ?_
  refine zu_iload d_8263_142 rfl ?_
  obtain ⟨b2, e3, h⟩ := h
  refine zs_stk1 (zs_rfe e3) ?_
  obtain ⟨k4, h⟩ := h
  refine zu_iald (k := 0) d_8263_144 rfl rfl k4 ?_
  refine zu_lload d_8263_145 rfl ?_
  refine zc_8_1335 (x0 := (zs_i S b2 p5.toNatClampNeg)) (x1 := (q0 + q1)) hB rfl k1 d_8263_147 (Nat.le_of_ble_eq_true rfl) h (fun v6 S5 h => ?_)
  refine zu_ifne (t := 161) d_8263_150 rfl (fun c7 => ?_) (fun c7 => ?_)
  · have h := h.1 c7
    refine zu_aload_n d_8263_161 rfl (zs_ra _) ?_
    refine zu_aload_n d_8263_162 rfl (zs_ra _) ?_
    obtain ⟨k8, h⟩ := h
    refine zg_8_362 rfl d_8263_163 k8 ?_
    refine zu_iload d_8263_166 rfl ?_
    obtain ⟨b9, e10, h⟩ := h
    refine zs_stk1 (zs_rfe e10) ?_
    obtain ⟨k11, h⟩ := h
    refine zu_iald (k := 0) d_8263_168 rfl rfl k11 ?_
    refine zu_lload d_8263_169 rfl ?_
    refine zu_aload_n d_8263_171 rfl (zs_ra _) ?_
    refine zu_aload_n d_8263_172 rfl (zs_ra _) ?_
    refine zg_8_365 rfl d_8263_173 k8 ?_
    refine zu_iload d_8263_176 rfl ?_
    obtain ⟨b12, e13, h⟩ := h
    refine zs_stk1 (zs_rfe e13) ?_
    obtain ⟨k14, h⟩ := h
    refine zu_iald (k := 0) d_8263_178 rfl rfl k14 ?_
    refine zc_8_1332 (x0 := (zs_i S5 b12 p5.toNatClampNeg)) hB rfl k8 d_8263_179 (Nat.le_of_ble_eq_true rfl) h (fun v16 S15 h => ?_)
    obtain ⟨k17, h⟩ := h
    refine zc_8_1341 (x0 := (zs_i S5 b9 p5.toNatClampNeg)) (x1 := (q0 + q1)) (x2 := v16) hB rfl k17 d_8263_182 (Nat.le_of_ble_eq_true rfl) h (fun S18 h => ?_)
    exact (u_X9_nextFor_185 hB h).weak ⟨rfl, rfl, trivial⟩
  · have h := h.2 c7
    refine zu_aload_n d_8263_153 rfl (zs_ra _) ?_
    refine zu_iconst d_8263_154 zi_2 ?_
    refine zu_iload d_8263_155 rfl ?_
    obtain ⟨k20, h⟩ := h
    refine zc_8_1297 (x0 := (2 : Int32)) (x1 := p4) hB rfl k20 d_8263_157 (Nat.le_of_ble_eq_true rfl) h (fun S21 h => ?_)
    exact zu_vret d_8263_160 zr_8263 h
def w_X9_nextFor_121 (X : zs_X) (d : Nat) (p0 : Nat) (p2 : Int32) (p3 : Int32) (p4 : Int32) (p5 : Int32) (p6 : Int64) (S : zs_T) (Q : zs_Q) : Prop :=
  (((p2 = 0 → (w_X9_nextFor_134 X d p0 p3 p4 p5 p6 (1 : Int64) S Q)) ∧ (¬ (p2 = 0) → (w_X9_nextFor_134 X d p0 p3 p4 p5 p6 (-1 : Int64) S Q))))
theorem u_X9_nextFor_121 {σ : Nat → Nat} {n0 : Nat} {bf : ab_B} {d : Nat} {p0 : Nat} {p2 : Int32} {p3 : Int32} {p4 : Int32} {p5 : Int32} {p6 : Int64} {S : zs_T} {Q : zs_Q} (hB : zt_B bf) (h : w_X9_nextFor_121 (zx σ n0 bf) d p0 p2 p3 p4 p5 p6 S Q) : zs_U (zx σ n0 bf) d 8263 121 [(0, .ref p0), (2, .int p2), (3, .int p3), (4, .int p4), (5, .int p5), (6, .long p6)] [] S Q := by
  unfold w_X9_nextFor_121 at h
  refine zu_lload d_8263_121 rfl ?_
  refine zu_iload_n d_8263_123 rfl ?_
  refine zu_ifeq (t := 133) d_8263_124 rfl (fun c1 => ?_) (fun c1 => ?_)
  · have h := h.1 c1
    refine zu_lconst (v := 1) d_8263_133 rfl ?_
    exact (u_X9_nextFor_134 hB h).weak ⟨rfl, rfl, rfl, rfl, trivial⟩
  · have h := h.2 c1
    refine zl2_8_631 rfl d_8263_127 ?_
    refine zu_goto (t := 134) d_8263_130 rfl ?_
    exact (u_X9_nextFor_134 hB h).weak ⟨rfl, rfl, rfl, rfl, trivial⟩
def w_X9_nextFor_98 (X : zs_X) (d : Nat) (p0 : Nat) (p5 : Int32) (S : zs_T) (Q : zs_Q) : Prop :=
  (zs_K S p0 = some (.inl 8) ∧ ∃ b2, (zs_R S 8167 p0) = some b2 ∧ zs_A S b2 0 p5 ∧ zs_C X d 8218 [.ref p0, .int (zs_i S b2 p5.toNatClampNeg), .int (1 : Int32)] S (zs_kV (fun S5 => (zs_K S5 p0 = some (.inl 8) ∧ ab_n0 X.1 ≤ p0 ∧ ∀ S9, S9 = zs_sI S5 8184 p0 ((zs_I S5 8184 p0) - (1 : Int32)) → Q (.returned none) S9)) Q))
theorem u_X9_nextFor_98 {σ : Nat → Nat} {n0 : Nat} {bf : ab_B} {d : Nat} {p0 : Nat} {p5 : Int32} {S : zs_T} {Q : zs_Q} (hB : zt_B bf) (h : w_X9_nextFor_98 (zx σ n0 bf) d p0 p5 S Q) : zs_U (zx σ n0 bf) d 8263 98 [(0, .ref p0), (5, .int p5)] [] S Q := by
  unfold w_X9_nextFor_98 at h
  refine zu_aload_n d_8263_98 rfl (zs_ra _) ?_
  refine zu_aload_n d_8263_99 rfl (zs_ra _) ?_
  obtain ⟨k1, h⟩ := h
  refine zg_8_362 rfl d_8263_100 k1 ?_
  refine zu_iload d_8263_103 rfl ?_
  obtain ⟨b2, e3, h⟩ := h
  refine zs_stk1 (zs_rfe e3) ?_
  obtain ⟨k4, h⟩ := h
  refine zu_iald (k := 0) d_8263_105 rfl rfl k4 ?_
  refine zu_iconst d_8263_106 zi_1 ?_
  refine zc_8_1345 (x0 := (zs_i S b2 p5.toNatClampNeg)) (x1 := (1 : Int32)) hB rfl k1 d_8263_107 (Nat.le_of_ble_eq_true rfl) h (fun S5 h => ?_)
  refine zu_aload_n d_8263_110 rfl (zs_ra _) ?_
  refine zu_dup d_8263_111 rfl ?_
  obtain ⟨k7, h⟩ := h
  refine zg_8_1261 rfl d_8263_112 k7 ?_
  refine zu_iconst d_8263_115 zi_1 ?_
  refine zu_stk d_8263_116 rfl rfl ?_
  obtain ⟨k8, h⟩ := h
  refine zp_8_1261 (v := ((zs_I S5 8184 p0) - (1 : Int32))) rfl d_8263_117 k7 k8 ?_
  generalize e10 : zs_sI S5 8184 p0 ((zs_I S5 8184 p0) - (1 : Int32)) = S9
  have h := h S9 e10.symm
  have K11 : ∀ b, zs_K S9 b = zs_K S5 b := zs_Kt e10 (zs_KsI _ _ _ _) (fun _ => rfl)
  exact zu_vret d_8263_120 zr_8263 h
def w_X9_nextFor_75 (X : zs_X) (d : Nat) (p0 : Nat) (p2 : Int32) (p3 : Int32) (p4 : Int32) (p5 : Int32) (p6 : Int64) (p8 : Int64) (S : zs_T) (Q : zs_Q) : Prop :=
  (((p2 = 0 → (((p6 < p8 → w_X9_nextFor_121 X d p0 p2 p3 p4 p5 p6 S Q) ∧ (¬ (p6 < p8) → w_X9_nextFor_98 X d p0 p5 S Q)))) ∧ (¬ (p2 = 0) → (((p8 < p6 → w_X9_nextFor_121 X d p0 p2 p3 p4 p5 p6 S Q) ∧ (¬ (p8 < p6) → (w_X9_nextFor_98 X d p0 p5 S Q)))))))
theorem u_X9_nextFor_75 {σ : Nat → Nat} {n0 : Nat} {bf : ab_B} {d : Nat} {p0 : Nat} {p2 : Int32} {p3 : Int32} {p4 : Int32} {p5 : Int32} {p6 : Int64} {p8 : Int64} {S : zs_T} {Q : zs_Q} (hB : zt_B bf) (h : w_X9_nextFor_75 (zx σ n0 bf) d p0 p2 p3 p4 p5 p6 p8 S Q) : zs_U (zx σ n0 bf) d 8263 75 [(0, .ref p0), (2, .int p2), (3, .int p3), (4, .int p4), (5, .int p5), (6, .long p6), (8, .long p8)] [] S Q := by
  unfold w_X9_nextFor_75 at h
  refine zu_iload_n d_8263_75 rfl ?_
  refine zu_ifeq (t := 90) d_8263_76 rfl (fun c1 => ?_) (fun c1 => ?_)
  · have h := h.1 c1
    refine zu_lload d_8263_90 rfl ?_
    refine zu_lload d_8263_92 rfl ?_
    refine zu_llt (t := 121) d_8263_94 d_8263_95 rfl (fun c2 => ?_) (fun c2 => ?_)
    · have h := h.1 c2
      exact (u_X9_nextFor_121 hB h).weak ⟨rfl, rfl, rfl, rfl, rfl, rfl, trivial⟩
    · have h := h.2 c2
      exact (u_X9_nextFor_98 hB h).weak ⟨rfl, rfl, trivial⟩
  · have h := h.2 c1
    refine zu_lload d_8263_79 rfl ?_
    refine zu_lload d_8263_81 rfl ?_
    refine zu_lgt (t := 121) d_8263_83 d_8263_84 rfl (fun c3 => ?_) (fun c3 => ?_)
    · have h := h.1 c3
      exact (u_X9_nextFor_121 hB h).weak ⟨rfl, rfl, rfl, rfl, rfl, rfl, trivial⟩
    · have h := h.2 c3
      refine zu_goto (t := 98) d_8263_87 rfl ?_
      exact (u_X9_nextFor_98 hB h).weak ⟨rfl, rfl, trivial⟩
def w_X9_nextFor_48 (X : zs_X) (d : Nat) (p0 : Nat) (p2 : Int32) (p3 : Int32) (p4 : Int32) (p5 : Int32) (S : zs_T) (Q : zs_Q) : Prop :=
  (zs_K S p0 = some (.inl 8) ∧ ∃ b2, (zs_R S 8167 p0) = some b2 ∧ zs_A S b2 0 p5 ∧ ∃ b5, (zs_R S 8170 p0) = some b5 ∧ zs_A S b5 3 (zs_i S b2 p5.toNatClampNeg) ∧ ∃ b8, (zs_R S 8183 p0) = some b8 ∧ zs_A S b8 3 ((zs_I S 8184 p0) - (1 : Int32)) ∧ w_X9_nextFor_75 X d p0 p2 p3 p4 p5 (zs_j S b5 (zs_i S b2 p5.toNatClampNeg).toNatClampNeg) (zs_j S b8 ((zs_I S 8184 p0) - (1 : Int32)).toNatClampNeg) S Q)
theorem u_X9_nextFor_48 {σ : Nat → Nat} {n0 : Nat} {bf : ab_B} {d : Nat} {p0 : Nat} {p2 : Int32} {p3 : Int32} {p4 : Int32} {p5 : Int32} {S : zs_T} {Q : zs_Q} (hB : zt_B bf) (h : w_X9_nextFor_48 (zx σ n0 bf) d p0 p2 p3 p4 p5 S Q) : zs_U (zx σ n0 bf) d 8263 48 [(0, .ref p0), (2, .int p2), (3, .int p3), (4, .int p4), (5, .int p5)] [] S Q := by
  unfold w_X9_nextFor_48 at h
  refine zu_aload_n d_8263_48 rfl (zs_ra _) ?_
  obtain ⟨k1, h⟩ := h
  refine zg_8_373 rfl d_8263_49 k1 ?_
  refine zu_aload_n d_8263_52 rfl (zs_ra _) ?_
  refine zg_8_362 rfl d_8263_53 k1 ?_
  refine zu_iload d_8263_56 rfl ?_
  obtain ⟨b2, e3, h⟩ := h
  refine zs_stk1 (zs_rfe e3) ?_
  obtain ⟨k4, h⟩ := h
  refine zu_iald (k := 0) d_8263_58 rfl rfl k4 ?_
  obtain ⟨b5, e6, h⟩ := h
  refine zs_stk1 (zs_rfe e6) ?_
  obtain ⟨k7, h⟩ := h
  refine zu_lald (k := 3) d_8263_59 rfl rfl k7 ?_
  refine zu_lstore d_8263_60 (zs_lt zq_8263 rfl) ?_
  refine zu_aload_n d_8263_62 rfl (zs_ra _) ?_
  refine zg_8_399 rfl d_8263_63 k1 ?_
  refine zu_aload_n d_8263_66 rfl (zs_ra _) ?_
  refine zg_8_1261 rfl d_8263_67 k1 ?_
  refine zu_iconst d_8263_70 zi_1 ?_
  refine zu_stk d_8263_71 rfl rfl ?_
  obtain ⟨b8, e9, h⟩ := h
  refine zs_stk1 (zs_rfe e9) ?_
  obtain ⟨k10, h⟩ := h
  refine zu_lald (k := 3) d_8263_72 rfl rfl k10 ?_
  refine zu_lstore d_8263_73 (zs_lt zq_8263 rfl) ?_
  exact (u_X9_nextFor_75 hB h).weak ⟨rfl, rfl, rfl, rfl, rfl, rfl, rfl, trivial⟩
def w_X9_nextFor (X : zs_X) (d : Nat) (p0 : Nat) (p1 : Int32) (p2 : Int32) (p3 : Int32) (p4 : Int32) (S : zs_T) (Q : zs_Q) : Prop :=
  (zs_K S p0 = some (.inl 8) ∧ ∃ b2, (zs_R S 8160 p0) = some b2 ∧ zs_A S b2 0 ((zs_I S 8165 p0) - (1 : Int32)) ∧ zs_C X d 8214 [.ref p0] S (zs_kV (fun S5 => (zs_K S5 p0 = some (.inl 8) ∧ ∃ b8, (zs_R S5 8167 p0) = some b8 ∧ zs_A S5 b8 0 ((zs_i S b2 ((zs_I S 8165 p0) - (1 : Int32)).toNatClampNeg) + p1) ∧ ∃ b11, (zs_R S5 8168 p0) = some b11 ∧ zs_A S5 b11 0 ((zs_i S b2 ((zs_I S 8165 p0) - (1 : Int32)).toNatClampNeg) + p1) ∧ zs_C X d 8238 [.ref p0, .int (zs_i S5 b8 ((zs_i S b2 ((zs_I S 8165 p0) - (1 : Int32)).toNatClampNeg) + p1).toNatClampNeg), .int (zs_i S5 b11 ((zs_i S b2 ((zs_I S 8165 p0) - (1 : Int32)).toNatClampNeg) + p1).toNatClampNeg)] S5 (zs_kI (fun v15 S14 => (((¬ v15 = 0 → w_X9_nextFor_48 X d p0 p2 p3 p4 ((zs_i S b2 ((zs_I S 8165 p0) - (1 : Int32)).toNatClampNeg) + p1) S14 Q) ∧ (¬ (¬ v15 = 0) → w_X9_nextFor_40 X d p0 p4 S14 Q)))) Q))) Q))
theorem u_X9_nextFor {σ : Nat → Nat} {n0 : Nat} {bf : ab_B} {d : Nat} {p0 : Nat} {p1 : Int32} {p2 : Int32} {p3 : Int32} {p4 : Int32} {S : zs_T} {Q : zs_Q} (hB : zt_B bf) (hd : 1 ≤ d) (h : w_X9_nextFor (zx σ n0 bf) (d - 1) p0 p1 p2 p3 p4 S Q) : zs_C (zx σ n0 bf) d 8263 [.ref p0, .int p1, .int p2, .int p3, .int p4] S Q := by
  have hL : lv_args 0 [.ref p0, .int p1, .int p2, .int p3, .int p4] = [(0, .ref p0), (1, .int p1), (2, .int p2), (3, .int p3), (4, .int p4)] := rfl
  refine zs_C.of1 (hB.2 8263 (by decide) (by decide)) hd (by rw [hL]; exact zs_sub_self _ (by exact ⟨rfl, rfl, rfl, rfl, rfl, trivial⟩)) ?_
  rw [hL]
  clear hL
  unfold w_X9_nextFor at h
  refine zu_aload_n d_8263_0 rfl (zs_ra _) ?_
  obtain ⟨k1, h⟩ := h
  refine zg_8_347 rfl d_8263_1 k1 ?_
  refine zu_aload_n d_8263_4 rfl (zs_ra _) ?_
  refine zg_8_1240 rfl d_8263_5 k1 ?_
  refine zu_iconst d_8263_8 zi_1 ?_
  refine zu_stk d_8263_9 rfl rfl ?_
  obtain ⟨b2, e3, h⟩ := h
  refine zs_stk1 (zs_rfe e3) ?_
  obtain ⟨k4, h⟩ := h
  refine zu_iald (k := 0) d_8263_10 rfl rfl k4 ?_
  refine zu_iload_n d_8263_11 rfl ?_
  refine zu_stk d_8263_12 rfl rfl ?_
  refine zu_istore d_8263_13 (zs_lt zq_8263 rfl) ?_
  refine zu_aload_n d_8263_15 rfl (zs_ra _) ?_
  refine zc_8_1368  hB rfl k1 d_8263_16 (Nat.le_of_ble_eq_true rfl) h (fun S5 h => ?_)
  refine zu_aload_n d_8263_19 rfl (zs_ra _) ?_
  refine zu_aload_n d_8263_20 rfl (zs_ra _) ?_
  obtain ⟨k7, h⟩ := h
  refine zg_8_362 rfl d_8263_21 k7 ?_
  refine zu_iload d_8263_24 rfl ?_
  obtain ⟨b8, e9, h⟩ := h
  refine zs_stk1 (zs_rfe e9) ?_
  obtain ⟨k10, h⟩ := h
  refine zu_iald (k := 0) d_8263_26 rfl rfl k10 ?_
  refine zu_aload_n d_8263_27 rfl (zs_ra _) ?_
  refine zg_8_365 rfl d_8263_28 k7 ?_
  refine zu_iload d_8263_31 rfl ?_
  obtain ⟨b11, e12, h⟩ := h
  refine zs_stk1 (zs_rfe e12) ?_
  obtain ⟨k13, h⟩ := h
  refine zu_iald (k := 0) d_8263_33 rfl rfl k13 ?_
  refine zc_8_1294 (x0 := (zs_i S5 b8 ((zs_i S b2 ((zs_I S 8165 p0) - (1 : Int32)).toNatClampNeg) + p1).toNatClampNeg)) (x1 := (zs_i S5 b11 ((zs_i S b2 ((zs_I S 8165 p0) - (1 : Int32)).toNatClampNeg) + p1).toNatClampNeg)) hB rfl k7 d_8263_34 (Nat.le_of_ble_eq_true rfl) h (fun v15 S14 h => ?_)
  refine zu_ifne (t := 48) d_8263_37 rfl (fun c16 => ?_) (fun c16 => ?_)
  · have h := h.1 c16
    exact (u_X9_nextFor_48 hB h).weak ⟨rfl, rfl, rfl, rfl, rfl, trivial⟩
  · have h := h.2 c16
    exact (u_X9_nextFor_40 hB h).weak ⟨rfl, rfl, trivial⟩
/-! SchemaPascalModel.giveWork(IIII)V -/
theorem zm_8264 {σ : Nat → Nat} {n0 : Nat} {bf : ab_B} : ab_code (zx σ n0 bf).1 8264 = prog_17_method_270_code := rfl
theorem zq_8264 {σ : Nat → Nat} {n0 : Nat} {bf : ab_B} : ab_maxL (zx σ n0 bf).1 8264 = 7 := rfl
theorem zr_8264 {σ : Nat → Nat} {n0 : Nat} {bf : ab_B} : ab_ret (zx σ n0 bf).1 8264 = (Option.none : Option Jvm.ClassFile.FieldType) := rfl
theorem d_8264_0 {σ : Nat → Nat} {n0 : Nat} {bf : ab_B} : decode (ab_code (zx σ n0 bf).1 8264) 0 = .ok (.iload_n 1, 1) := zd zm_8264 (by decide +kernel)
theorem d_8264_1 {σ : Nat → Nat} {n0 : Nat} {bf : ab_B} : decode (ab_code (zx σ n0 bf).1 8264) 1 = .ok (.tableswitch 241 90 99 #[55, 74, 55, 119, 166, 175, 204, 213, 221, 230], 55) := zd zm_8264 (by decide +kernel)
theorem d_8264_56 {σ : Nat → Nat} {n0 : Nat} {bf : ab_B} : decode (ab_code (zx σ n0 bf).1 8264) 56 = .ok (.aload_n 0, 1) := zd zm_8264 (by decide +kernel)
theorem d_8264_57 {σ : Nat → Nat} {n0 : Nat} {bf : ab_B} : decode (ab_code (zx σ n0 bf).1 8264) 57 = .ok (.iload_n 2, 1) := zd zm_8264 (by decide +kernel)
theorem d_8264_58 {σ : Nat → Nat} {n0 : Nat} {bf : ab_B} : decode (ab_code (zx σ n0 bf).1 8264) 58 = .ok (.iconst 1, 1) := zd zm_8264 (by decide +kernel)
theorem d_8264_59 {σ : Nat → Nat} {n0 : Nat} {bf : ab_B} : decode (ab_code (zx σ n0 bf).1 8264) 59 = .ok (.if_icmp .ne 7, 3) := zd zm_8264 (by decide +kernel)
theorem d_8264_62 {σ : Nat → Nat} {n0 : Nat} {bf : ab_B} : decode (ab_code (zx σ n0 bf).1 8264) 62 = .ok (.iconst 1, 1) := zd zm_8264 (by decide +kernel)
theorem d_8264_63 {σ : Nat → Nat} {n0 : Nat} {bf : ab_B} : decode (ab_code (zx σ n0 bf).1 8264) 63 = .ok (.goto 4, 3) := zd zm_8264 (by decide +kernel)
theorem d_8264_66 {σ : Nat → Nat} {n0 : Nat} {bf : ab_B} : decode (ab_code (zx σ n0 bf).1 8264) 66 = .ok (.iconst 0, 1) := zd zm_8264 (by decide +kernel)
theorem d_8264_67 {σ : Nat → Nat} {n0 : Nat} {bf : ab_B} : decode (ab_code (zx σ n0 bf).1 8264) 67 = .ok (.iload 4, 2) := zd zm_8264 (by decide +kernel)
theorem d_8264_69 {σ : Nat → Nat} {n0 : Nat} {bf : ab_B} : decode (ab_code (zx σ n0 bf).1 8264) 69 = .ok (.invokevirtual 1479, 3) := zd zm_8264 (by decide +kernel)
theorem d_8264_72 {σ : Nat → Nat} {n0 : Nat} {bf : ab_B} : decode (ab_code (zx σ n0 bf).1 8264) 72 = .ok (.goto 176, 3) := zd zm_8264 (by decide +kernel)
theorem d_8264_75 {σ : Nat → Nat} {n0 : Nat} {bf : ab_B} : decode (ab_code (zx σ n0 bf).1 8264) 75 = .ok (.aload_n 0, 1) := zd zm_8264 (by decide +kernel)
theorem d_8264_76 {σ : Nat → Nat} {n0 : Nat} {bf : ab_B} : decode (ab_code (zx σ n0 bf).1 8264) 76 = .ok (.dup, 1) := zd zm_8264 (by decide +kernel)
theorem d_8264_77 {σ : Nat → Nat} {n0 : Nat} {bf : ab_B} : decode (ab_code (zx σ n0 bf).1 8264) 77 = .ok (.getfield 1270, 3) := zd zm_8264 (by decide +kernel)
theorem d_8264_80 {σ : Nat → Nat} {n0 : Nat} {bf : ab_B} : decode (ab_code (zx σ n0 bf).1 8264) 80 = .ok (.iconst 1, 1) := zd zm_8264 (by decide +kernel)
theorem d_8264_81 {σ : Nat → Nat} {n0 : Nat} {bf : ab_B} : decode (ab_code (zx σ n0 bf).1 8264) 81 = .ok (.isub, 1) := zd zm_8264 (by decide +kernel)
theorem d_8264_82 {σ : Nat → Nat} {n0 : Nat} {bf : ab_B} : decode (ab_code (zx σ n0 bf).1 8264) 82 = .ok (.putfield 1270, 3) := zd zm_8264 (by decide +kernel)
theorem d_8264_85 {σ : Nat → Nat} {n0 : Nat} {bf : ab_B} : decode (ab_code (zx σ n0 bf).1 8264) 85 = .ok (.aload_n 0, 1) := zd zm_8264 (by decide +kernel)
theorem d_8264_86 {σ : Nat → Nat} {n0 : Nat} {bf : ab_B} : decode (ab_code (zx σ n0 bf).1 8264) 86 = .ok (.aload_n 0, 1) := zd zm_8264 (by decide +kernel)
theorem d_8264_87 {σ : Nat → Nat} {n0 : Nat} {bf : ab_B} : decode (ab_code (zx σ n0 bf).1 8264) 87 = .ok (.getfield 1270, 3) := zd zm_8264 (by decide +kernel)
theorem d_8264_90 {σ : Nat → Nat} {n0 : Nat} {bf : ab_B} : decode (ab_code (zx σ n0 bf).1 8264) 90 = .ok (.invokevirtual 1291, 3) := zd zm_8264 (by decide +kernel)
theorem d_8264_93 {σ : Nat → Nat} {n0 : Nat} {bf : ab_B} : decode (ab_code (zx σ n0 bf).1 8264) 93 = .ok (.aload_n 0, 1) := zd zm_8264 (by decide +kernel)
theorem d_8264_94 {σ : Nat → Nat} {n0 : Nat} {bf : ab_B} : decode (ab_code (zx σ n0 bf).1 8264) 94 = .ok (.aload_n 0, 1) := zd zm_8264 (by decide +kernel)
theorem d_8264_95 {σ : Nat → Nat} {n0 : Nat} {bf : ab_B} : decode (ab_code (zx σ n0 bf).1 8264) 95 = .ok (.getfield 412, 3) := zd zm_8264 (by decide +kernel)
theorem d_8264_98 {σ : Nat → Nat} {n0 : Nat} {bf : ab_B} : decode (ab_code (zx σ n0 bf).1 8264) 98 = .ok (.aload_n 0, 1) := zd zm_8264 (by decide +kernel)
theorem d_8264_99 {σ : Nat → Nat} {n0 : Nat} {bf : ab_B} : decode (ab_code (zx σ n0 bf).1 8264) 99 = .ok (.getfield 1270, 3) := zd zm_8264 (by decide +kernel)
theorem d_8264_102 {σ : Nat → Nat} {n0 : Nat} {bf : ab_B} : decode (ab_code (zx σ n0 bf).1 8264) 102 = .ok (.iaload, 1) := zd zm_8264 (by decide +kernel)
theorem d_8264_103 {σ : Nat → Nat} {n0 : Nat} {bf : ab_B} : decode (ab_code (zx σ n0 bf).1 8264) 103 = .ok (.aload_n 0, 1) := zd zm_8264 (by decide +kernel)
theorem d_8264_104 {σ : Nat → Nat} {n0 : Nat} {bf : ab_B} : decode (ab_code (zx σ n0 bf).1 8264) 104 = .ok (.getfield 409, 3) := zd zm_8264 (by decide +kernel)
theorem d_8264_107 {σ : Nat → Nat} {n0 : Nat} {bf : ab_B} : decode (ab_code (zx σ n0 bf).1 8264) 107 = .ok (.aload_n 0, 1) := zd zm_8264 (by decide +kernel)
theorem d_8264_108 {σ : Nat → Nat} {n0 : Nat} {bf : ab_B} : decode (ab_code (zx σ n0 bf).1 8264) 108 = .ok (.getfield 1270, 3) := zd zm_8264 (by decide +kernel)
theorem d_8264_111 {σ : Nat → Nat} {n0 : Nat} {bf : ab_B} : decode (ab_code (zx σ n0 bf).1 8264) 111 = .ok (.iaload, 1) := zd zm_8264 (by decide +kernel)
theorem d_8264_112 {σ : Nat → Nat} {n0 : Nat} {bf : ab_B} : decode (ab_code (zx σ n0 bf).1 8264) 112 = .ok (.iload 4, 2) := zd zm_8264 (by decide +kernel)
theorem d_8264_114 {σ : Nat → Nat} {n0 : Nat} {bf : ab_B} : decode (ab_code (zx σ n0 bf).1 8264) 114 = .ok (.invokevirtual 1482, 3) := zd zm_8264 (by decide +kernel)
theorem d_8264_117 {σ : Nat → Nat} {n0 : Nat} {bf : ab_B} : decode (ab_code (zx σ n0 bf).1 8264) 117 = .ok (.goto 131, 3) := zd zm_8264 (by decide +kernel)
theorem d_8264_120 {σ : Nat → Nat} {n0 : Nat} {bf : ab_B} : decode (ab_code (zx σ n0 bf).1 8264) 120 = .ok (.aload_n 0, 1) := zd zm_8264 (by decide +kernel)
theorem d_8264_121 {σ : Nat → Nat} {n0 : Nat} {bf : ab_B} : decode (ab_code (zx σ n0 bf).1 8264) 121 = .ok (.invokevirtual 1307, 3) := zd zm_8264 (by decide +kernel)
theorem d_8264_124 {σ : Nat → Nat} {n0 : Nat} {bf : ab_B} : decode (ab_code (zx σ n0 bf).1 8264) 124 = .ok (.lstore 5, 2) := zd zm_8264 (by decide +kernel)
theorem d_8264_126 {σ : Nat → Nat} {n0 : Nat} {bf : ab_B} : decode (ab_code (zx σ n0 bf).1 8264) 126 = .ok (.aload_n 0, 1) := zd zm_8264 (by decide +kernel)
theorem d_8264_127 {σ : Nat → Nat} {n0 : Nat} {bf : ab_B} : decode (ab_code (zx σ n0 bf).1 8264) 127 = .ok (.dup, 1) := zd zm_8264 (by decide +kernel)
theorem d_8264_128 {σ : Nat → Nat} {n0 : Nat} {bf : ab_B} : decode (ab_code (zx σ n0 bf).1 8264) 128 = .ok (.getfield 1270, 3) := zd zm_8264 (by decide +kernel)
theorem d_8264_131 {σ : Nat → Nat} {n0 : Nat} {bf : ab_B} : decode (ab_code (zx σ n0 bf).1 8264) 131 = .ok (.iconst 1, 1) := zd zm_8264 (by decide +kernel)
theorem d_8264_132 {σ : Nat → Nat} {n0 : Nat} {bf : ab_B} : decode (ab_code (zx σ n0 bf).1 8264) 132 = .ok (.isub, 1) := zd zm_8264 (by decide +kernel)
theorem d_8264_133 {σ : Nat → Nat} {n0 : Nat} {bf : ab_B} : decode (ab_code (zx σ n0 bf).1 8264) 133 = .ok (.putfield 1270, 3) := zd zm_8264 (by decide +kernel)
theorem d_8264_136 {σ : Nat → Nat} {n0 : Nat} {bf : ab_B} : decode (ab_code (zx σ n0 bf).1 8264) 136 = .ok (.aload_n 0, 1) := zd zm_8264 (by decide +kernel)
theorem d_8264_137 {σ : Nat → Nat} {n0 : Nat} {bf : ab_B} : decode (ab_code (zx σ n0 bf).1 8264) 137 = .ok (.aload_n 0, 1) := zd zm_8264 (by decide +kernel)
theorem d_8264_138 {σ : Nat → Nat} {n0 : Nat} {bf : ab_B} : decode (ab_code (zx σ n0 bf).1 8264) 138 = .ok (.getfield 409, 3) := zd zm_8264 (by decide +kernel)
theorem d_8264_141 {σ : Nat → Nat} {n0 : Nat} {bf : ab_B} : decode (ab_code (zx σ n0 bf).1 8264) 141 = .ok (.aload_n 0, 1) := zd zm_8264 (by decide +kernel)
theorem d_8264_142 {σ : Nat → Nat} {n0 : Nat} {bf : ab_B} : decode (ab_code (zx σ n0 bf).1 8264) 142 = .ok (.getfield 1270, 3) := zd zm_8264 (by decide +kernel)
theorem d_8264_145 {σ : Nat → Nat} {n0 : Nat} {bf : ab_B} : decode (ab_code (zx σ n0 bf).1 8264) 145 = .ok (.iaload, 1) := zd zm_8264 (by decide +kernel)
theorem d_8264_146 {σ : Nat → Nat} {n0 : Nat} {bf : ab_B} : decode (ab_code (zx σ n0 bf).1 8264) 146 = .ok (.lload 5, 2) := zd zm_8264 (by decide +kernel)
theorem d_8264_148 {σ : Nat → Nat} {n0 : Nat} {bf : ab_B} : decode (ab_code (zx σ n0 bf).1 8264) 148 = .ok (.aload_n 0, 1) := zd zm_8264 (by decide +kernel)
theorem d_8264_149 {σ : Nat → Nat} {n0 : Nat} {bf : ab_B} : decode (ab_code (zx σ n0 bf).1 8264) 149 = .ok (.aload_n 0, 1) := zd zm_8264 (by decide +kernel)
theorem d_8264_150 {σ : Nat → Nat} {n0 : Nat} {bf : ab_B} : decode (ab_code (zx σ n0 bf).1 8264) 150 = .ok (.getfield 412, 3) := zd zm_8264 (by decide +kernel)
theorem d_8264_153 {σ : Nat → Nat} {n0 : Nat} {bf : ab_B} : decode (ab_code (zx σ n0 bf).1 8264) 153 = .ok (.aload_n 0, 1) := zd zm_8264 (by decide +kernel)
theorem d_8264_154 {σ : Nat → Nat} {n0 : Nat} {bf : ab_B} : decode (ab_code (zx σ n0 bf).1 8264) 154 = .ok (.getfield 1270, 3) := zd zm_8264 (by decide +kernel)
theorem d_8264_157 {σ : Nat → Nat} {n0 : Nat} {bf : ab_B} : decode (ab_code (zx σ n0 bf).1 8264) 157 = .ok (.iaload, 1) := zd zm_8264 (by decide +kernel)
theorem d_8264_158 {σ : Nat → Nat} {n0 : Nat} {bf : ab_B} : decode (ab_code (zx σ n0 bf).1 8264) 158 = .ok (.invokevirtual 1332, 3) := zd zm_8264 (by decide +kernel)
theorem d_8264_161 {σ : Nat → Nat} {n0 : Nat} {bf : ab_B} : decode (ab_code (zx σ n0 bf).1 8264) 161 = .ok (.invokevirtual 1341, 3) := zd zm_8264 (by decide +kernel)
theorem d_8264_164 {σ : Nat → Nat} {n0 : Nat} {bf : ab_B} : decode (ab_code (zx σ n0 bf).1 8264) 164 = .ok (.goto 84, 3) := zd zm_8264 (by decide +kernel)
theorem d_8264_167 {σ : Nat → Nat} {n0 : Nat} {bf : ab_B} : decode (ab_code (zx σ n0 bf).1 8264) 167 = .ok (.aload_n 0, 1) := zd zm_8264 (by decide +kernel)
theorem d_8264_168 {σ : Nat → Nat} {n0 : Nat} {bf : ab_B} : decode (ab_code (zx σ n0 bf).1 8264) 168 = .ok (.iload 4, 2) := zd zm_8264 (by decide +kernel)
theorem d_8264_170 {σ : Nat → Nat} {n0 : Nat} {bf : ab_B} : decode (ab_code (zx σ n0 bf).1 8264) 170 = .ok (.invokevirtual 1485, 3) := zd zm_8264 (by decide +kernel)
theorem d_8264_173 {σ : Nat → Nat} {n0 : Nat} {bf : ab_B} : decode (ab_code (zx σ n0 bf).1 8264) 173 = .ok (.goto 75, 3) := zd zm_8264 (by decide +kernel)
theorem d_8264_176 {σ : Nat → Nat} {n0 : Nat} {bf : ab_B} : decode (ab_code (zx σ n0 bf).1 8264) 176 = .ok (.aload_n 0, 1) := zd zm_8264 (by decide +kernel)
theorem d_8264_177 {σ : Nat → Nat} {n0 : Nat} {bf : ab_B} : decode (ab_code (zx σ n0 bf).1 8264) 177 = .ok (.aload_n 0, 1) := zd zm_8264 (by decide +kernel)
theorem d_8264_178 {σ : Nat → Nat} {n0 : Nat} {bf : ab_B} : decode (ab_code (zx σ n0 bf).1 8264) 178 = .ok (.getfield 1240, 3) := zd zm_8264 (by decide +kernel)
theorem d_8264_181 {σ : Nat → Nat} {n0 : Nat} {bf : ab_B} : decode (ab_code (zx σ n0 bf).1 8264) 181 = .ok (.iconst 1, 1) := zd zm_8264 (by decide +kernel)
theorem d_8264_182 {σ : Nat → Nat} {n0 : Nat} {bf : ab_B} : decode (ab_code (zx σ n0 bf).1 8264) 182 = .ok (.isub, 1) := zd zm_8264 (by decide +kernel)
theorem d_8264_183 {σ : Nat → Nat} {n0 : Nat} {bf : ab_B} : decode (ab_code (zx σ n0 bf).1 8264) 183 = .ok (.aload_n 0, 1) := zd zm_8264 (by decide +kernel)
theorem d_8264_184 {σ : Nat → Nat} {n0 : Nat} {bf : ab_B} : decode (ab_code (zx σ n0 bf).1 8264) 184 = .ok (.getfield 221, 3) := zd zm_8264 (by decide +kernel)
theorem d_8264_187 {σ : Nat → Nat} {n0 : Nat} {bf : ab_B} : decode (ab_code (zx σ n0 bf).1 8264) 187 = .ok (.aload_n 0, 1) := zd zm_8264 (by decide +kernel)
theorem d_8264_188 {σ : Nat → Nat} {n0 : Nat} {bf : ab_B} : decode (ab_code (zx σ n0 bf).1 8264) 188 = .ok (.getfield 335, 3) := zd zm_8264 (by decide +kernel)
theorem d_8264_191 {σ : Nat → Nat} {n0 : Nat} {bf : ab_B} : decode (ab_code (zx σ n0 bf).1 8264) 191 = .ok (.aload_n 0, 1) := zd zm_8264 (by decide +kernel)
theorem d_8264_192 {σ : Nat → Nat} {n0 : Nat} {bf : ab_B} : decode (ab_code (zx σ n0 bf).1 8264) 192 = .ok (.getfield 1240, 3) := zd zm_8264 (by decide +kernel)
theorem d_8264_195 {σ : Nat → Nat} {n0 : Nat} {bf : ab_B} : decode (ab_code (zx σ n0 bf).1 8264) 195 = .ok (.iconst 1, 1) := zd zm_8264 (by decide +kernel)
theorem d_8264_196 {σ : Nat → Nat} {n0 : Nat} {bf : ab_B} : decode (ab_code (zx σ n0 bf).1 8264) 196 = .ok (.isub, 1) := zd zm_8264 (by decide +kernel)
theorem d_8264_197 {σ : Nat → Nat} {n0 : Nat} {bf : ab_B} : decode (ab_code (zx σ n0 bf).1 8264) 197 = .ok (.iaload, 1) := zd zm_8264 (by decide +kernel)
theorem d_8264_198 {σ : Nat → Nat} {n0 : Nat} {bf : ab_B} : decode (ab_code (zx σ n0 bf).1 8264) 198 = .ok (.iaload, 1) := zd zm_8264 (by decide +kernel)
theorem d_8264_199 {σ : Nat → Nat} {n0 : Nat} {bf : ab_B} : decode (ab_code (zx σ n0 bf).1 8264) 199 = .ok (.invokevirtual 1429, 3) := zd zm_8264 (by decide +kernel)
theorem d_8264_202 {σ : Nat → Nat} {n0 : Nat} {bf : ab_B} : decode (ab_code (zx σ n0 bf).1 8264) 202 = .ok (.goto 46, 3) := zd zm_8264 (by decide +kernel)
theorem d_8264_205 {σ : Nat → Nat} {n0 : Nat} {bf : ab_B} : decode (ab_code (zx σ n0 bf).1 8264) 205 = .ok (.aload_n 0, 1) := zd zm_8264 (by decide +kernel)
theorem d_8264_206 {σ : Nat → Nat} {n0 : Nat} {bf : ab_B} : decode (ab_code (zx σ n0 bf).1 8264) 206 = .ok (.iload 4, 2) := zd zm_8264 (by decide +kernel)
theorem d_8264_208 {σ : Nat → Nat} {n0 : Nat} {bf : ab_B} : decode (ab_code (zx σ n0 bf).1 8264) 208 = .ok (.invokevirtual 1488, 3) := zd zm_8264 (by decide +kernel)
theorem d_8264_211 {σ : Nat → Nat} {n0 : Nat} {bf : ab_B} : decode (ab_code (zx σ n0 bf).1 8264) 211 = .ok (.goto 37, 3) := zd zm_8264 (by decide +kernel)
theorem d_8264_214 {σ : Nat → Nat} {n0 : Nat} {bf : ab_B} : decode (ab_code (zx σ n0 bf).1 8264) 214 = .ok (.aload_n 0, 1) := zd zm_8264 (by decide +kernel)
theorem d_8264_215 {σ : Nat → Nat} {n0 : Nat} {bf : ab_B} : decode (ab_code (zx σ n0 bf).1 8264) 215 = .ok (.iload_n 2, 1) := zd zm_8264 (by decide +kernel)
theorem d_8264_216 {σ : Nat → Nat} {n0 : Nat} {bf : ab_B} : decode (ab_code (zx σ n0 bf).1 8264) 216 = .ok (.invokevirtual 1491, 3) := zd zm_8264 (by decide +kernel)
theorem d_8264_219 {σ : Nat → Nat} {n0 : Nat} {bf : ab_B} : decode (ab_code (zx σ n0 bf).1 8264) 219 = .ok (.goto 29, 3) := zd zm_8264 (by decide +kernel)
theorem d_8264_222 {σ : Nat → Nat} {n0 : Nat} {bf : ab_B} : decode (ab_code (zx σ n0 bf).1 8264) 222 = .ok (.aload_n 0, 1) := zd zm_8264 (by decide +kernel)
theorem d_8264_223 {σ : Nat → Nat} {n0 : Nat} {bf : ab_B} : decode (ab_code (zx σ n0 bf).1 8264) 223 = .ok (.bipush 10, 2) := zd zm_8264 (by decide +kernel)
theorem d_8264_225 {σ : Nat → Nat} {n0 : Nat} {bf : ab_B} : decode (ab_code (zx σ n0 bf).1 8264) 225 = .ok (.invokevirtual 1424, 3) := zd zm_8264 (by decide +kernel)
theorem d_8264_228 {σ : Nat → Nat} {n0 : Nat} {bf : ab_B} : decode (ab_code (zx σ n0 bf).1 8264) 228 = .ok (.goto 20, 3) := zd zm_8264 (by decide +kernel)
theorem d_8264_231 {σ : Nat → Nat} {n0 : Nat} {bf : ab_B} : decode (ab_code (zx σ n0 bf).1 8264) 231 = .ok (.aload_n 0, 1) := zd zm_8264 (by decide +kernel)
theorem d_8264_232 {σ : Nat → Nat} {n0 : Nat} {bf : ab_B} : decode (ab_code (zx σ n0 bf).1 8264) 232 = .ok (.iload_n 2, 1) := zd zm_8264 (by decide +kernel)
theorem d_8264_233 {σ : Nat → Nat} {n0 : Nat} {bf : ab_B} : decode (ab_code (zx σ n0 bf).1 8264) 233 = .ok (.iload_n 3, 1) := zd zm_8264 (by decide +kernel)
theorem d_8264_234 {σ : Nat → Nat} {n0 : Nat} {bf : ab_B} : decode (ab_code (zx σ n0 bf).1 8264) 234 = .ok (.iload 4, 2) := zd zm_8264 (by decide +kernel)
theorem d_8264_236 {σ : Nat → Nat} {n0 : Nat} {bf : ab_B} : decode (ab_code (zx σ n0 bf).1 8264) 236 = .ok (.invokevirtual 1494, 3) := zd zm_8264 (by decide +kernel)
theorem d_8264_239 {σ : Nat → Nat} {n0 : Nat} {bf : ab_B} : decode (ab_code (zx σ n0 bf).1 8264) 239 = .ok (.goto 9, 3) := zd zm_8264 (by decide +kernel)
theorem d_8264_242 {σ : Nat → Nat} {n0 : Nat} {bf : ab_B} : decode (ab_code (zx σ n0 bf).1 8264) 242 = .ok (.aload_n 0, 1) := zd zm_8264 (by decide +kernel)
theorem d_8264_243 {σ : Nat → Nat} {n0 : Nat} {bf : ab_B} : decode (ab_code (zx σ n0 bf).1 8264) 243 = .ok (.iload 4, 2) := zd zm_8264 (by decide +kernel)
theorem d_8264_245 {σ : Nat → Nat} {n0 : Nat} {bf : ab_B} : decode (ab_code (zx σ n0 bf).1 8264) 245 = .ok (.invokevirtual 1497, 3) := zd zm_8264 (by decide +kernel)
theorem d_8264_248 {σ : Nat → Nat} {n0 : Nat} {bf : ab_B} : decode (ab_code (zx σ n0 bf).1 8264) 248 = .ok (.return_, 1) := zd zm_8264 (by decide +kernel)
def w_X9_giveWork_67 (X : zs_X) (d : Nat) (p4 : Int32) (q0 : Option Nat) (q1 : Int32) (S : zs_T) (Q : zs_Q) : Prop :=
  (∃ b1, q0 = some b1 ∧ zs_K S b1 = some (.inl 8) ∧ zs_C X d 8265 [.ref b1, .int q1, .int p4] S (zs_kV (fun S4 => (Q (.returned none) S4)) Q))
theorem u_X9_giveWork_67 {σ : Nat → Nat} {n0 : Nat} {bf : ab_B} {d : Nat} {p4 : Int32} {q0 : Option Nat} {q1 : Int32} {S : zs_T} {Q : zs_Q} (hB : zt_B bf) (h : w_X9_giveWork_67 (zx σ n0 bf) d p4 q0 q1 S Q) : zs_U (zx σ n0 bf) d 8264 67 [(4, .int p4)] [.int q1, va_rf q0] S Q := by
  unfold w_X9_giveWork_67 at h
  refine zu_iload d_8264_67 rfl ?_
  obtain ⟨b1, e2, h⟩ := h
  refine zs_stk2 (zs_rfe e2) ?_
  obtain ⟨k3, h⟩ := h
  refine zc_8_1479 (x0 := q1) (x1 := p4) hB rfl k3 d_8264_69 (Nat.le_of_ble_eq_true rfl) h (fun S4 h => ?_)
  refine zu_goto (t := 248) d_8264_72 rfl ?_
  exact zu_vret d_8264_248 zr_8264 h
def w_X9_giveWork_56 (X : zs_X) (d : Nat) (p0 : Nat) (p2 : Int32) (p4 : Int32) (S : zs_T) (Q : zs_Q) : Prop :=
  (((¬ p2 = (1 : Int32) → (w_X9_giveWork_67 X d p4 (some p0) (0 : Int32) S Q)) ∧ (¬ (¬ p2 = (1 : Int32)) → (w_X9_giveWork_67 X d p4 (some p0) (1 : Int32) S Q))))
theorem u_X9_giveWork_56 {σ : Nat → Nat} {n0 : Nat} {bf : ab_B} {d : Nat} {p0 : Nat} {p2 : Int32} {p4 : Int32} {S : zs_T} {Q : zs_Q} (hB : zt_B bf) (h : w_X9_giveWork_56 (zx σ n0 bf) d p0 p2 p4 S Q) : zs_U (zx σ n0 bf) d 8264 56 [(0, .ref p0), (2, .int p2), (4, .int p4)] [] S Q := by
  unfold w_X9_giveWork_56 at h
  refine zu_aload_n d_8264_56 rfl (zs_ra _) ?_
  refine zu_iload_n d_8264_57 rfl ?_
  refine zu_iconst d_8264_58 zi_1 ?_
  refine zu_cmpne (t := 66) d_8264_59 rfl (fun c1 => ?_) (fun c1 => ?_)
  · have h := h.1 c1
    refine zu_iconst d_8264_66 zi_0 ?_
    exact (u_X9_giveWork_67 hB h).weak ⟨rfl, trivial⟩
  · have h := h.2 c1
    refine zu_iconst d_8264_62 zi_1 ?_
    refine zu_goto (t := 67) d_8264_63 rfl ?_
    exact (u_X9_giveWork_67 hB h).weak ⟨rfl, trivial⟩
def w_X9_giveWork_117 (X : zs_X) (d : Nat)  (S : zs_T) (Q : zs_Q) : Prop :=
  (Q (.returned none) S)
theorem u_X9_giveWork_117 {σ : Nat → Nat} {n0 : Nat} {bf : ab_B} {d : Nat}  {S : zs_T} {Q : zs_Q} (hB : zt_B bf) (h : w_X9_giveWork_117 (zx σ n0 bf) d  S Q) : zs_U (zx σ n0 bf) d 8264 117 [] [] S Q := by
  unfold w_X9_giveWork_117 at h
  refine zu_goto (t := 248) d_8264_117 rfl ?_
  exact zu_vret d_8264_248 zr_8264 h
def w_X9_giveWork_164 (X : zs_X) (d : Nat)  (S : zs_T) (Q : zs_Q) : Prop :=
  (Q (.returned none) S)
theorem u_X9_giveWork_164 {σ : Nat → Nat} {n0 : Nat} {bf : ab_B} {d : Nat}  {S : zs_T} {Q : zs_Q} (hB : zt_B bf) (h : w_X9_giveWork_164 (zx σ n0 bf) d  S Q) : zs_U (zx σ n0 bf) d 8264 164 [] [] S Q := by
  unfold w_X9_giveWork_164 at h
  refine zu_goto (t := 248) d_8264_164 rfl ?_
  exact zu_vret d_8264_248 zr_8264 h
def w_X9_giveWork_202 (X : zs_X) (d : Nat)  (S : zs_T) (Q : zs_Q) : Prop :=
  (Q (.returned none) S)
theorem u_X9_giveWork_202 {σ : Nat → Nat} {n0 : Nat} {bf : ab_B} {d : Nat}  {S : zs_T} {Q : zs_Q} (hB : zt_B bf) (h : w_X9_giveWork_202 (zx σ n0 bf) d  S Q) : zs_U (zx σ n0 bf) d 8264 202 [] [] S Q := by
  unfold w_X9_giveWork_202 at h
  refine zu_goto (t := 248) d_8264_202 rfl ?_
  exact zu_vret d_8264_248 zr_8264 h
def w_X9_giveWork (X : zs_X) (d : Nat) (p0 : Nat) (p1 : Int32) (p2 : Int32) (p3 : Int32) (p4 : Int32) (S : zs_T) (Q : zs_Q) : Prop :=
  (((p1.toInt < 90 ∨ 99 < p1.toInt → (zs_K S p0 = some (.inl 8) ∧ zs_C X d 8274 [.ref p0, .int p4] S (zs_kV (fun S3 => (Q (.returned none) S3)) Q))) ∧ (p1.toInt = 90 → w_X9_giveWork_56 X d p0 p2 p4 S Q) ∧ (p1.toInt = 91 → (zs_K S p0 = some (.inl 8) ∧ ab_n0 X.1 ≤ p0 ∧ ∀ S7, S7 = zs_sI S 8195 p0 ((zs_I S 8195 p0) - (1 : Int32)) → zs_C X d 8226 [.ref p0, .int (zs_I S7 8195 p0)] S7 (zs_kV (fun S10 => (zs_K S10 p0 = some (.inl 8) ∧ ∃ b13, (zs_R S10 8190 p0) = some b13 ∧ zs_A S10 b13 0 (zs_I S10 8195 p0) ∧ ∃ b16, (zs_R S10 8189 p0) = some b16 ∧ zs_A S10 b16 0 (zs_I S10 8195 p0) ∧ zs_C X d 8267 [.ref p0, .int (zs_i S10 b13 (zs_I S10 8195 p0).toNatClampNeg), .int (zs_i S10 b16 (zs_I S10 8195 p0).toNatClampNeg), .int p4] S10 (zs_kV (fun S19 => w_X9_giveWork_117 X d  S19 Q) Q))) Q))) ∧ (p1.toInt = 92 → w_X9_giveWork_56 X d p0 p2 p4 S Q) ∧ (p1.toInt = 93 → (zs_K S p0 = some (.inl 8) ∧ zs_C X d 8242 [.ref p0] S (zs_kJ (fun v23 S22 => (zs_K S22 p0 = some (.inl 8) ∧ ab_n0 X.1 ≤ p0 ∧ ∀ S26, S26 = zs_sI S22 8195 p0 ((zs_I S22 8195 p0) - (1 : Int32)) → ∃ b29, (zs_R S26 8189 p0) = some b29 ∧ zs_A S22 b29 0 (zs_I S26 8195 p0) ∧ ∃ b32, (zs_R S26 8190 p0) = some b32 ∧ zs_A S22 b32 0 (zs_I S26 8195 p0) ∧ zs_C X d 8220 [.ref p0, .int (zs_i S26 b32 (zs_I S26 8195 p0).toNatClampNeg)] S26 (zs_kI (fun v36 S35 => (zs_K S35 p0 = some (.inl 8) ∧ zs_C X d 8221 [.ref p0, .int (zs_i S26 b29 (zs_I S26 8195 p0).toNatClampNeg), .long v23, .int v36] S35 (zs_kV (fun S38 => w_X9_giveWork_164 X d  S38 Q) Q))) Q))) Q))) ∧ (p1.toInt = 94 → (zs_K S p0 = some (.inl 8) ∧ zs_C X d 8268 [.ref p0, .int p4] S (zs_kV (fun S41 => (Q (.returned none) S41)) Q))) ∧ (p1.toInt = 95 → (zs_K S p0 = some (.inl 8) ∧ ∃ b44, (zs_R S 8156 p0) = some b44 ∧ zs_A S b44 0 ((zs_I S 8165 p0) - (1 : Int32)) ∧ ∃ b47, (zs_R S 8102 p0) = some b47 ∧ zs_A S b47 0 (zs_i S b44 ((zs_I S 8165 p0) - (1 : Int32)).toNatClampNeg) ∧ zs_C X d 8234 [.ref p0, .int ((zs_I S 8165 p0) - (1 : Int32)), .int (zs_i S b47 (zs_i S b44 ((zs_I S 8165 p0) - (1 : Int32)).toNatClampNeg).toNatClampNeg)] S (zs_kV (fun S50 => w_X9_giveWork_202 X d  S50 Q) Q))) ∧ (p1.toInt = 96 → (zs_K S p0 = some (.inl 8) ∧ zs_C X d 8270 [.ref p0, .int p4] S (zs_kV (fun S53 => (Q (.returned none) S53)) Q))) ∧ (p1.toInt = 97 → (zs_K S p0 = some (.inl 8) ∧ zs_C X d 8271 [.ref p0, .int p2] S (zs_kV (fun S56 => (Q (.returned none) S56)) Q))) ∧ (p1.toInt = 98 → (zs_K S p0 = some (.inl 8) ∧ zs_C X d 8272 [.ref p0, .int (10 : Int32)] S (zs_kV (fun S59 => (Q (.returned none) S59)) Q))) ∧ (p1.toInt = 99 → (zs_K S p0 = some (.inl 8) ∧ zs_C X d 8273 [.ref p0, .int p2, .int p3, .int p4] S (zs_kV (fun S62 => (Q (.returned none) S62)) Q)))))
theorem u_X9_giveWork {σ : Nat → Nat} {n0 : Nat} {bf : ab_B} {d : Nat} {p0 : Nat} {p1 : Int32} {p2 : Int32} {p3 : Int32} {p4 : Int32} {S : zs_T} {Q : zs_Q} (hB : zt_B bf) (hd : 1 ≤ d) (h : w_X9_giveWork (zx σ n0 bf) (d - 1) p0 p1 p2 p3 p4 S Q) : zs_C (zx σ n0 bf) d 8264 [.ref p0, .int p1, .int p2, .int p3, .int p4] S Q := by
  have hL : lv_args 0 [.ref p0, .int p1, .int p2, .int p3, .int p4] = [(0, .ref p0), (1, .int p1), (2, .int p2), (3, .int p3), (4, .int p4)] := rfl
  refine zs_C.of1 (hB.2 8264 (by decide) (by decide)) hd (by rw [hL]; exact zs_sub_self _ (by exact ⟨rfl, rfl, rfl, rfl, rfl, trivial⟩)) ?_
  rw [hL]
  clear hL
  unfold w_X9_giveWork at h
  refine zu_iload_n d_8264_0 rfl ?_
  refine zu_tsw (td := 242) d_8264_1 (by decide) rfl (fun c1 => ?_) ⟨fun c1 => ⟨by decide, ?_⟩, fun c1 => ⟨by decide, ?_⟩, fun c1 => ⟨by decide, ?_⟩, fun c1 => ⟨by decide, ?_⟩, fun c1 => ⟨by decide, ?_⟩, fun c1 => ⟨by decide, ?_⟩, fun c1 => ⟨by decide, ?_⟩, fun c1 => ⟨by decide, ?_⟩, fun c1 => ⟨by decide, ?_⟩, fun c1 => ⟨by decide, ?_⟩, trivial⟩
  · have h := h.1 c1
    refine zu_aload_n d_8264_242 rfl (zs_ra _) ?_
    refine zu_iload d_8264_243 rfl ?_
    obtain ⟨k2, h⟩ := h
    refine zc_8_1497 (x0 := p4) hB rfl k2 d_8264_245 (Nat.le_of_ble_eq_true rfl) h (fun S3 h => ?_)
    exact zu_vret d_8264_248 zr_8264 h
  · have h := h.2.1 c1
    show zs_U _ _ _ 56 _ _ _ _
    exact (u_X9_giveWork_56 hB h).weak ⟨rfl, rfl, rfl, trivial⟩
  · have h := h.2.2.1 c1
    show zs_U _ _ _ 75 _ _ _ _
    refine zu_aload_n d_8264_75 rfl (zs_ra _) ?_
    refine zu_dup d_8264_76 rfl ?_
    obtain ⟨k5, h⟩ := h
    refine zg_8_1270 rfl d_8264_77 k5 ?_
    refine zu_iconst d_8264_80 zi_1 ?_
    refine zu_stk d_8264_81 rfl rfl ?_
    obtain ⟨k6, h⟩ := h
    refine zp_8_1270 (v := ((zs_I S 8195 p0) - (1 : Int32))) rfl d_8264_82 k5 k6 ?_
    generalize e8 : zs_sI S 8195 p0 ((zs_I S 8195 p0) - (1 : Int32)) = S7
    have h := h S7 e8.symm
    have K9 : ∀ b, zs_K S7 b = zs_K S b := zs_Kt e8 (zs_KsI _ _ _ _) (fun _ => rfl)
    refine zu_aload_n d_8264_85 rfl (zs_ra _) ?_
    refine zu_aload_n d_8264_86 rfl (zs_ra _) ?_
    refine zg_8_1270 rfl d_8264_87 ((K9 _).trans k5) ?_
    refine zc_8_1291 (x0 := (zs_I S7 8195 p0)) hB rfl ((K9 _).trans k5) d_8264_90 (Nat.le_of_ble_eq_true rfl) h (fun S10 h => ?_)
    refine zu_aload_n d_8264_93 rfl (zs_ra _) ?_
    refine zu_aload_n d_8264_94 rfl (zs_ra _) ?_
    obtain ⟨k12, h⟩ := h
    refine zg_8_412 rfl d_8264_95 k12 ?_
    refine zu_aload_n d_8264_98 rfl (zs_ra _) ?_
    refine zg_8_1270 rfl d_8264_99 k12 ?_
    obtain ⟨b13, e14, h⟩ := h
    refine zs_stk1 (zs_rfe e14) ?_
    obtain ⟨k15, h⟩ := h
    refine zu_iald (k := 0) d_8264_102 rfl rfl k15 ?_
    refine zu_aload_n d_8264_103 rfl (zs_ra _) ?_
    refine zg_8_409 rfl d_8264_104 k12 ?_
    refine zu_aload_n d_8264_107 rfl (zs_ra _) ?_
    refine zg_8_1270 rfl d_8264_108 k12 ?_
    obtain ⟨b16, e17, h⟩ := h
    refine zs_stk1 (zs_rfe e17) ?_
    obtain ⟨k18, h⟩ := h
    refine zu_iald (k := 0) d_8264_111 rfl rfl k18 ?_
    refine zu_iload d_8264_112 rfl ?_
    refine zc_8_1482 (x0 := (zs_i S10 b13 (zs_I S10 8195 p0).toNatClampNeg)) (x1 := (zs_i S10 b16 (zs_I S10 8195 p0).toNatClampNeg)) (x2 := p4) hB rfl k12 d_8264_114 (Nat.le_of_ble_eq_true rfl) h (fun S19 h => ?_)
    exact (u_X9_giveWork_117 hB h).weak trivial
  · have h := h.2.2.2.1 c1
    show zs_U _ _ _ 56 _ _ _ _
    exact (u_X9_giveWork_56 hB h).weak ⟨rfl, rfl, rfl, trivial⟩
  · have h := h.2.2.2.2.1 c1
    show zs_U _ _ _ 120 _ _ _ _
    refine zu_aload_n d_8264_120 rfl (zs_ra _) ?_
    obtain ⟨k21, h⟩ := h
    refine zc_8_1307  hB rfl k21 d_8264_121 (Nat.le_of_ble_eq_true rfl) h (fun v23 S22 h => ?_)
    refine zu_lstore d_8264_124 (zs_lt zq_8264 rfl) ?_
    refine zu_aload_n d_8264_126 rfl (zs_ra _) ?_
    refine zu_dup d_8264_127 rfl ?_
    obtain ⟨k24, h⟩ := h
    refine zg_8_1270 rfl d_8264_128 k24 ?_
    refine zu_iconst d_8264_131 zi_1 ?_
    refine zu_stk d_8264_132 rfl rfl ?_
    obtain ⟨k25, h⟩ := h
    refine zp_8_1270 (v := ((zs_I S22 8195 p0) - (1 : Int32))) rfl d_8264_133 k24 k25 ?_
    generalize e27 : zs_sI S22 8195 p0 ((zs_I S22 8195 p0) - (1 : Int32)) = S26
    have h := h S26 e27.symm
    have K28 : ∀ b, zs_K S26 b = zs_K S22 b := zs_Kt e27 (zs_KsI _ _ _ _) (fun _ => rfl)
    refine zu_aload_n d_8264_136 rfl (zs_ra _) ?_
    refine zu_aload_n d_8264_137 rfl (zs_ra _) ?_
    refine zg_8_409 rfl d_8264_138 ((K28 _).trans k24) ?_
    refine zu_aload_n d_8264_141 rfl (zs_ra _) ?_
    refine zg_8_1270 rfl d_8264_142 ((K28 _).trans k24) ?_
    obtain ⟨b29, e30, h⟩ := h
    refine zs_stk1 (zs_rfe e30) ?_
    obtain ⟨k31, h⟩ := h
    refine zu_iald (k := 0) d_8264_145 rfl rfl (zs_Ak K28 k31) ?_
    refine zu_lload d_8264_146 rfl ?_
    refine zu_aload_n d_8264_148 rfl (zs_ra _) ?_
    refine zu_aload_n d_8264_149 rfl (zs_ra _) ?_
    refine zg_8_412 rfl d_8264_150 ((K28 _).trans k24) ?_
    refine zu_aload_n d_8264_153 rfl (zs_ra _) ?_
    refine zg_8_1270 rfl d_8264_154 ((K28 _).trans k24) ?_
    obtain ⟨b32, e33, h⟩ := h
    refine zs_stk1 (zs_rfe e33) ?_
    obtain ⟨k34, h⟩ := h
    refine zu_iald (k := 0) d_8264_157 rfl rfl (zs_Ak K28 k34) ?_
    refine zc_8_1332 (x0 := (zs_i S26 b32 (zs_I S26 8195 p0).toNatClampNeg)) hB rfl ((K28 _).trans k24) d_8264_158 (Nat.le_of_ble_eq_true rfl) h (fun v36 S35 h => ?_)
    obtain ⟨k37, h⟩ := h
    refine zc_8_1341 (x0 := (zs_i S26 b29 (zs_I S26 8195 p0).toNatClampNeg)) (x1 := v23) (x2 := v36) hB rfl k37 d_8264_161 (Nat.le_of_ble_eq_true rfl) h (fun S38 h => ?_)
    exact (u_X9_giveWork_164 hB h).weak trivial
  · have h := h.2.2.2.2.2.1 c1
    show zs_U _ _ _ 167 _ _ _ _
    refine zu_aload_n d_8264_167 rfl (zs_ra _) ?_
    refine zu_iload d_8264_168 rfl ?_
    obtain ⟨k40, h⟩ := h
    refine zc_8_1485 (x0 := p4) hB rfl k40 d_8264_170 (Nat.le_of_ble_eq_true rfl) h (fun S41 h => ?_)
    refine zu_goto (t := 248) d_8264_173 rfl ?_
    exact zu_vret d_8264_248 zr_8264 h
  · have h := h.2.2.2.2.2.2.1 c1
    show zs_U _ _ _ 176 _ _ _ _
    refine zu_aload_n d_8264_176 rfl (zs_ra _) ?_
    refine zu_aload_n d_8264_177 rfl (zs_ra _) ?_
    obtain ⟨k43, h⟩ := h
    refine zg_8_1240 rfl d_8264_178 k43 ?_
    refine zu_iconst d_8264_181 zi_1 ?_
    refine zu_stk d_8264_182 rfl rfl ?_
    refine zu_aload_n d_8264_183 rfl (zs_ra _) ?_
    refine zg_8_221 rfl d_8264_184 k43 ?_
    refine zu_aload_n d_8264_187 rfl (zs_ra _) ?_
    refine zg_8_335 rfl d_8264_188 k43 ?_
    refine zu_aload_n d_8264_191 rfl (zs_ra _) ?_
    refine zg_8_1240 rfl d_8264_192 k43 ?_
    refine zu_iconst d_8264_195 zi_1 ?_
    refine zu_stk d_8264_196 rfl rfl ?_
    obtain ⟨b44, e45, h⟩ := h
    refine zs_stk1 (zs_rfe e45) ?_
    obtain ⟨k46, h⟩ := h
    refine zu_iald (k := 0) d_8264_197 rfl rfl k46 ?_
    obtain ⟨b47, e48, h⟩ := h
    refine zs_stk1 (zs_rfe e48) ?_
    obtain ⟨k49, h⟩ := h
    refine zu_iald (k := 0) d_8264_198 rfl rfl k49 ?_
    refine zc_8_1429 (x0 := ((zs_I S 8165 p0) - (1 : Int32))) (x1 := (zs_i S b47 (zs_i S b44 ((zs_I S 8165 p0) - (1 : Int32)).toNatClampNeg).toNatClampNeg)) hB rfl k43 d_8264_199 (Nat.le_of_ble_eq_true rfl) h (fun S50 h => ?_)
    exact (u_X9_giveWork_202 hB h).weak trivial
  · have h := h.2.2.2.2.2.2.2.1 c1
    show zs_U _ _ _ 205 _ _ _ _
    refine zu_aload_n d_8264_205 rfl (zs_ra _) ?_
    refine zu_iload d_8264_206 rfl ?_
    obtain ⟨k52, h⟩ := h
    refine zc_8_1488 (x0 := p4) hB rfl k52 d_8264_208 (Nat.le_of_ble_eq_true rfl) h (fun S53 h => ?_)
    refine zu_goto (t := 248) d_8264_211 rfl ?_
    exact zu_vret d_8264_248 zr_8264 h
  · have h := h.2.2.2.2.2.2.2.2.1 c1
    show zs_U _ _ _ 214 _ _ _ _
    refine zu_aload_n d_8264_214 rfl (zs_ra _) ?_
    refine zu_iload_n d_8264_215 rfl ?_
    obtain ⟨k55, h⟩ := h
    refine zc_8_1491 (x0 := p2) hB rfl k55 d_8264_216 (Nat.le_of_ble_eq_true rfl) h (fun S56 h => ?_)
    refine zu_goto (t := 248) d_8264_219 rfl ?_
    exact zu_vret d_8264_248 zr_8264 h
  · have h := h.2.2.2.2.2.2.2.2.2.1 c1
    show zs_U _ _ _ 222 _ _ _ _
    refine zu_aload_n d_8264_222 rfl (zs_ra _) ?_
    refine zu_bipush d_8264_223 zj_10 ?_
    obtain ⟨k58, h⟩ := h
    refine zc_8_1424 (x0 := (10 : Int32)) hB rfl k58 d_8264_225 (Nat.le_of_ble_eq_true rfl) h (fun S59 h => ?_)
    refine zu_goto (t := 248) d_8264_228 rfl ?_
    exact zu_vret d_8264_248 zr_8264 h
  · have h := h.2.2.2.2.2.2.2.2.2.2 c1
    show zs_U _ _ _ 231 _ _ _ _
    refine zu_aload_n d_8264_231 rfl (zs_ra _) ?_
    refine zu_iload_n d_8264_232 rfl ?_
    refine zu_iload_n d_8264_233 rfl ?_
    refine zu_iload d_8264_234 rfl ?_
    obtain ⟨k61, h⟩ := h
    refine zc_8_1494 (x0 := p2) (x1 := p3) (x2 := p4) hB rfl k61 d_8264_236 (Nat.le_of_ble_eq_true rfl) h (fun S62 h => ?_)
    refine zu_goto (t := 248) d_8264_239 rfl ?_
    exact zu_vret d_8264_248 zr_8264 h
/-! SchemaPascalModel.putValue(ZI)V -/
theorem zm_8265 {σ : Nat → Nat} {n0 : Nat} {bf : ab_B} : ab_code (zx σ n0 bf).1 8265 = prog_17_method_234_code := rfl
theorem zq_8265 {σ : Nat → Nat} {n0 : Nat} {bf : ab_B} : ab_maxL (zx σ n0 bf).1 8265 = 6 := rfl
theorem zr_8265 {σ : Nat → Nat} {n0 : Nat} {bf : ab_B} : ab_ret (zx σ n0 bf).1 8265 = (Option.none : Option Jvm.ClassFile.FieldType) := rfl
theorem d_8265_0 {σ : Nat → Nat} {n0 : Nat} {bf : ab_B} : decode (ab_code (zx σ n0 bf).1 8265) 0 = .ok (.aload_n 0, 1) := zd zm_8265 (by decide +kernel)
theorem d_8265_1 {σ : Nat → Nat} {n0 : Nat} {bf : ab_B} : decode (ab_code (zx σ n0 bf).1 8265) 1 = .ok (.invokevirtual 1307, 3) := zd zm_8265 (by decide +kernel)
theorem d_8265_4 {σ : Nat → Nat} {n0 : Nat} {bf : ab_B} : decode (ab_code (zx σ n0 bf).1 8265) 4 = .ok (.lstore_n 3, 1) := zd zm_8265 (by decide +kernel)
theorem d_8265_5 {σ : Nat → Nat} {n0 : Nat} {bf : ab_B} : decode (ab_code (zx σ n0 bf).1 8265) 5 = .ok (.aload_n 0, 1) := zd zm_8265 (by decide +kernel)
theorem d_8265_6 {σ : Nat → Nat} {n0 : Nat} {bf : ab_B} : decode (ab_code (zx σ n0 bf).1 8265) 6 = .ok (.dup, 1) := zd zm_8265 (by decide +kernel)
theorem d_8265_7 {σ : Nat → Nat} {n0 : Nat} {bf : ab_B} : decode (ab_code (zx σ n0 bf).1 8265) 7 = .ok (.getfield 1270, 3) := zd zm_8265 (by decide +kernel)
theorem d_8265_10 {σ : Nat → Nat} {n0 : Nat} {bf : ab_B} : decode (ab_code (zx σ n0 bf).1 8265) 10 = .ok (.iconst 1, 1) := zd zm_8265 (by decide +kernel)
theorem d_8265_11 {σ : Nat → Nat} {n0 : Nat} {bf : ab_B} : decode (ab_code (zx σ n0 bf).1 8265) 11 = .ok (.isub, 1) := zd zm_8265 (by decide +kernel)
theorem d_8265_12 {σ : Nat → Nat} {n0 : Nat} {bf : ab_B} : decode (ab_code (zx σ n0 bf).1 8265) 12 = .ok (.putfield 1270, 3) := zd zm_8265 (by decide +kernel)
theorem d_8265_15 {σ : Nat → Nat} {n0 : Nat} {bf : ab_B} : decode (ab_code (zx σ n0 bf).1 8265) 15 = .ok (.aload_n 0, 1) := zd zm_8265 (by decide +kernel)
theorem d_8265_16 {σ : Nat → Nat} {n0 : Nat} {bf : ab_B} : decode (ab_code (zx σ n0 bf).1 8265) 16 = .ok (.getfield 412, 3) := zd zm_8265 (by decide +kernel)
theorem d_8265_19 {σ : Nat → Nat} {n0 : Nat} {bf : ab_B} : decode (ab_code (zx σ n0 bf).1 8265) 19 = .ok (.aload_n 0, 1) := zd zm_8265 (by decide +kernel)
theorem d_8265_20 {σ : Nat → Nat} {n0 : Nat} {bf : ab_B} : decode (ab_code (zx σ n0 bf).1 8265) 20 = .ok (.getfield 1270, 3) := zd zm_8265 (by decide +kernel)
theorem d_8265_23 {σ : Nat → Nat} {n0 : Nat} {bf : ab_B} : decode (ab_code (zx σ n0 bf).1 8265) 23 = .ok (.iaload, 1) := zd zm_8265 (by decide +kernel)
theorem d_8265_24 {σ : Nat → Nat} {n0 : Nat} {bf : ab_B} : decode (ab_code (zx σ n0 bf).1 8265) 24 = .ok (.istore 5, 2) := zd zm_8265 (by decide +kernel)
theorem d_8265_26 {σ : Nat → Nat} {n0 : Nat} {bf : ab_B} : decode (ab_code (zx σ n0 bf).1 8265) 26 = .ok (.aload_n 0, 1) := zd zm_8265 (by decide +kernel)
theorem d_8265_27 {σ : Nat → Nat} {n0 : Nat} {bf : ab_B} : decode (ab_code (zx σ n0 bf).1 8265) 27 = .ok (.aload_n 0, 1) := zd zm_8265 (by decide +kernel)
theorem d_8265_28 {σ : Nat → Nat} {n0 : Nat} {bf : ab_B} : decode (ab_code (zx σ n0 bf).1 8265) 28 = .ok (.getfield 1270, 3) := zd zm_8265 (by decide +kernel)
theorem d_8265_31 {σ : Nat → Nat} {n0 : Nat} {bf : ab_B} : decode (ab_code (zx σ n0 bf).1 8265) 31 = .ok (.invokevirtual 1291, 3) := zd zm_8265 (by decide +kernel)
theorem d_8265_34 {σ : Nat → Nat} {n0 : Nat} {bf : ab_B} : decode (ab_code (zx σ n0 bf).1 8265) 34 = .ok (.aload_n 0, 1) := zd zm_8265 (by decide +kernel)
theorem d_8265_35 {σ : Nat → Nat} {n0 : Nat} {bf : ab_B} : decode (ab_code (zx σ n0 bf).1 8265) 35 = .ok (.iload 5, 2) := zd zm_8265 (by decide +kernel)
theorem d_8265_37 {σ : Nat → Nat} {n0 : Nat} {bf : ab_B} : decode (ab_code (zx σ n0 bf).1 8265) 37 = .ok (.lload_n 3, 1) := zd zm_8265 (by decide +kernel)
theorem d_8265_38 {σ : Nat → Nat} {n0 : Nat} {bf : ab_B} : decode (ab_code (zx σ n0 bf).1 8265) 38 = .ok (.invokevirtual 1335, 3) := zd zm_8265 (by decide +kernel)
theorem d_8265_41 {σ : Nat → Nat} {n0 : Nat} {bf : ab_B} : decode (ab_code (zx σ n0 bf).1 8265) 41 = .ok (.ifCond .ne 10, 3) := zd zm_8265 (by decide +kernel)
theorem d_8265_44 {σ : Nat → Nat} {n0 : Nat} {bf : ab_B} : decode (ab_code (zx σ n0 bf).1 8265) 44 = .ok (.aload_n 0, 1) := zd zm_8265 (by decide +kernel)
theorem d_8265_45 {σ : Nat → Nat} {n0 : Nat} {bf : ab_B} : decode (ab_code (zx σ n0 bf).1 8265) 45 = .ok (.iconst 2, 1) := zd zm_8265 (by decide +kernel)
theorem d_8265_46 {σ : Nat → Nat} {n0 : Nat} {bf : ab_B} : decode (ab_code (zx σ n0 bf).1 8265) 46 = .ok (.iload_n 2, 1) := zd zm_8265 (by decide +kernel)
theorem d_8265_47 {σ : Nat → Nat} {n0 : Nat} {bf : ab_B} : decode (ab_code (zx σ n0 bf).1 8265) 47 = .ok (.invokevirtual 1297, 3) := zd zm_8265 (by decide +kernel)
theorem d_8265_50 {σ : Nat → Nat} {n0 : Nat} {bf : ab_B} : decode (ab_code (zx σ n0 bf).1 8265) 50 = .ok (.return_, 1) := zd zm_8265 (by decide +kernel)
theorem d_8265_51 {σ : Nat → Nat} {n0 : Nat} {bf : ab_B} : decode (ab_code (zx σ n0 bf).1 8265) 51 = .ok (.iload_n 1, 1) := zd zm_8265 (by decide +kernel)
theorem d_8265_52 {σ : Nat → Nat} {n0 : Nat} {bf : ab_B} : decode (ab_code (zx σ n0 bf).1 8265) 52 = .ok (.ifCond .eq 12, 3) := zd zm_8265 (by decide +kernel)
theorem d_8265_55 {σ : Nat → Nat} {n0 : Nat} {bf : ab_B} : decode (ab_code (zx σ n0 bf).1 8265) 55 = .ok (.aload_n 0, 1) := zd zm_8265 (by decide +kernel)
theorem d_8265_56 {σ : Nat → Nat} {n0 : Nat} {bf : ab_B} : decode (ab_code (zx σ n0 bf).1 8265) 56 = .ok (.aload_n 0, 1) := zd zm_8265 (by decide +kernel)
theorem d_8265_57 {σ : Nat → Nat} {n0 : Nat} {bf : ab_B} : decode (ab_code (zx σ n0 bf).1 8265) 57 = .ok (.getfield 1270, 3) := zd zm_8265 (by decide +kernel)
theorem d_8265_60 {σ : Nat → Nat} {n0 : Nat} {bf : ab_B} : decode (ab_code (zx σ n0 bf).1 8265) 60 = .ok (.lload_n 3, 1) := zd zm_8265 (by decide +kernel)
theorem d_8265_61 {σ : Nat → Nat} {n0 : Nat} {bf : ab_B} : decode (ab_code (zx σ n0 bf).1 8265) 61 = .ok (.invokevirtual 1348, 3) := zd zm_8265 (by decide +kernel)
theorem d_8265_64 {σ : Nat → Nat} {n0 : Nat} {bf : ab_B} : decode (ab_code (zx σ n0 bf).1 8265) 64 = .ok (.aload_n 0, 1) := zd zm_8265 (by decide +kernel)
theorem d_8265_65 {σ : Nat → Nat} {n0 : Nat} {bf : ab_B} : decode (ab_code (zx σ n0 bf).1 8265) 65 = .ok (.aload_n 0, 1) := zd zm_8265 (by decide +kernel)
theorem d_8265_66 {σ : Nat → Nat} {n0 : Nat} {bf : ab_B} : decode (ab_code (zx σ n0 bf).1 8265) 66 = .ok (.getfield 409, 3) := zd zm_8265 (by decide +kernel)
theorem d_8265_69 {σ : Nat → Nat} {n0 : Nat} {bf : ab_B} : decode (ab_code (zx σ n0 bf).1 8265) 69 = .ok (.aload_n 0, 1) := zd zm_8265 (by decide +kernel)
theorem d_8265_70 {σ : Nat → Nat} {n0 : Nat} {bf : ab_B} : decode (ab_code (zx σ n0 bf).1 8265) 70 = .ok (.getfield 1270, 3) := zd zm_8265 (by decide +kernel)
theorem d_8265_73 {σ : Nat → Nat} {n0 : Nat} {bf : ab_B} : decode (ab_code (zx σ n0 bf).1 8265) 73 = .ok (.iaload, 1) := zd zm_8265 (by decide +kernel)
theorem d_8265_74 {σ : Nat → Nat} {n0 : Nat} {bf : ab_B} : decode (ab_code (zx σ n0 bf).1 8265) 74 = .ok (.lload_n 3, 1) := zd zm_8265 (by decide +kernel)
theorem d_8265_75 {σ : Nat → Nat} {n0 : Nat} {bf : ab_B} : decode (ab_code (zx σ n0 bf).1 8265) 75 = .ok (.aload_n 0, 1) := zd zm_8265 (by decide +kernel)
theorem d_8265_76 {σ : Nat → Nat} {n0 : Nat} {bf : ab_B} : decode (ab_code (zx σ n0 bf).1 8265) 76 = .ok (.iload 5, 2) := zd zm_8265 (by decide +kernel)
theorem d_8265_78 {σ : Nat → Nat} {n0 : Nat} {bf : ab_B} : decode (ab_code (zx σ n0 bf).1 8265) 78 = .ok (.invokevirtual 1332, 3) := zd zm_8265 (by decide +kernel)
theorem d_8265_81 {σ : Nat → Nat} {n0 : Nat} {bf : ab_B} : decode (ab_code (zx σ n0 bf).1 8265) 81 = .ok (.invokevirtual 1341, 3) := zd zm_8265 (by decide +kernel)
theorem d_8265_84 {σ : Nat → Nat} {n0 : Nat} {bf : ab_B} : decode (ab_code (zx σ n0 bf).1 8265) 84 = .ok (.return_, 1) := zd zm_8265 (by decide +kernel)
def w_X9_putValue_64 (X : zs_X) (d : Nat) (p0 : Nat) (p3 : Int64) (p5 : Int32) (S : zs_T) (Q : zs_Q) : Prop :=
  (zs_K S p0 = some (.inl 8) ∧ ∃ b2, (zs_R S 8189 p0) = some b2 ∧ zs_A S b2 0 (zs_I S 8195 p0) ∧ zs_C X d 8220 [.ref p0, .int p5] S (zs_kI (fun v6 S5 => (zs_K S5 p0 = some (.inl 8) ∧ zs_C X d 8221 [.ref p0, .int (zs_i S b2 (zs_I S 8195 p0).toNatClampNeg), .long p3, .int v6] S5 (zs_kV (fun S8 => (Q (.returned none) S8)) Q))) Q))
theorem u_X9_putValue_64 {σ : Nat → Nat} {n0 : Nat} {bf : ab_B} {d : Nat} {p0 : Nat} {p3 : Int64} {p5 : Int32} {S : zs_T} {Q : zs_Q} (hB : zt_B bf) (h : w_X9_putValue_64 (zx σ n0 bf) d p0 p3 p5 S Q) : zs_U (zx σ n0 bf) d 8265 64 [(0, .ref p0), (3, .long p3), (5, .int p5)] [] S Q := by
  unfold w_X9_putValue_64 at h
  refine zu_aload_n d_8265_64 rfl (zs_ra _) ?_
  refine zu_aload_n d_8265_65 rfl (zs_ra _) ?_
  obtain ⟨k1, h⟩ := h
  refine zg_8_409 rfl d_8265_66 k1 ?_
  refine zu_aload_n d_8265_69 rfl (zs_ra _) ?_
  refine zg_8_1270 rfl d_8265_70 k1 ?_
  obtain ⟨b2, e3, h⟩ := h
  refine zs_stk1 (zs_rfe e3) ?_
  obtain ⟨k4, h⟩ := h
  refine zu_iald (k := 0) d_8265_73 rfl rfl k4 ?_
  refine zu_lload_n d_8265_74 rfl ?_
  refine zu_aload_n d_8265_75 rfl (zs_ra _) ?_
  refine zu_iload d_8265_76 rfl ?_
  refine zc_8_1332 (x0 := p5) hB rfl k1 d_8265_78 (Nat.le_of_ble_eq_true rfl) h (fun v6 S5 h => ?_)
  obtain ⟨k7, h⟩ := h
  refine zc_8_1341 (x0 := (zs_i S b2 (zs_I S 8195 p0).toNatClampNeg)) (x1 := p3) (x2 := v6) hB rfl k7 d_8265_81 (Nat.le_of_ble_eq_true rfl) h (fun S8 h => ?_)
  exact zu_vret d_8265_84 zr_8265 h
def w_X9_putValue_34 (X : zs_X) (d : Nat) (p0 : Nat) (p1 : Int32) (p2 : Int32) (p3 : Int64) (p5 : Int32) (S : zs_T) (Q : zs_Q) : Prop :=
  (zs_K S p0 = some (.inl 8) ∧ zs_C X d 8219 [.ref p0, .int p5, .long p3] S (zs_kI (fun v3 S2 => (((¬ v3 = 0 → (((p1 = 0 → w_X9_putValue_64 X d p0 p3 p5 S2 Q) ∧ (¬ (p1 = 0) → (zs_K S2 p0 = some (.inl 8) ∧ zs_C X d 8266 [.ref p0, .int (zs_I S2 8195 p0), .long p3] S2 (zs_kV (fun S7 => w_X9_putValue_64 X d p0 p3 p5 S7 Q) Q)))))) ∧ (¬ (¬ v3 = 0) → (zs_K S2 p0 = some (.inl 8) ∧ zs_C X d 8208 [.ref p0, .int (2 : Int32), .int p2] S2 (zs_kV (fun S10 => (Q (.returned none) S10)) Q)))))) Q))
theorem u_X9_putValue_34 {σ : Nat → Nat} {n0 : Nat} {bf : ab_B} {d : Nat} {p0 : Nat} {p1 : Int32} {p2 : Int32} {p3 : Int64} {p5 : Int32} {S : zs_T} {Q : zs_Q} (hB : zt_B bf) (h : w_X9_putValue_34 (zx σ n0 bf) d p0 p1 p2 p3 p5 S Q) : zs_U (zx σ n0 bf) d 8265 34 [(0, .ref p0), (1, .int p1), (2, .int p2), (3, .long p3), (5, .int p5)] [] S Q := by
  unfold w_X9_putValue_34 at h
  refine zu_aload_n d_8265_34 rfl (zs_ra _) ?_
  refine zu_iload d_8265_35 rfl ?_
  refine zu_lload_n d_8265_37 rfl ?_
  obtain ⟨k1, h⟩ := h
  refine zc_8_1335 (x0 := p5) (x1 := p3) hB rfl k1 d_8265_38 (Nat.le_of_ble_eq_true rfl) h (fun v3 S2 h => ?_)
  refine zu_ifne (t := 51) d_8265_41 rfl (fun c4 => ?_) (fun c4 => ?_)
  · have h := h.1 c4
    refine zu_iload_n d_8265_51 rfl ?_
    refine zu_ifeq (t := 64) d_8265_52 rfl (fun c5 => ?_) (fun c5 => ?_)
    · have h := h.1 c5
      exact (u_X9_putValue_64 hB h).weak ⟨rfl, rfl, rfl, trivial⟩
    · have h := h.2 c5
      refine zu_aload_n d_8265_55 rfl (zs_ra _) ?_
      refine zu_aload_n d_8265_56 rfl (zs_ra _) ?_
      obtain ⟨k6, h⟩ := h
      refine zg_8_1270 rfl d_8265_57 k6 ?_
      refine zu_lload_n d_8265_60 rfl ?_
      refine zc_8_1348 (x0 := (zs_I S2 8195 p0)) (x1 := p3) hB rfl k6 d_8265_61 (Nat.le_of_ble_eq_true rfl) h (fun S7 h => ?_)
      exact (u_X9_putValue_64 hB h).weak ⟨rfl, rfl, rfl, trivial⟩
  · have h := h.2 c4
    refine zu_aload_n d_8265_44 rfl (zs_ra _) ?_
    refine zu_iconst d_8265_45 zi_2 ?_
    refine zu_iload_n d_8265_46 rfl ?_
    obtain ⟨k9, h⟩ := h
    refine zc_8_1297 (x0 := (2 : Int32)) (x1 := p2) hB rfl k9 d_8265_47 (Nat.le_of_ble_eq_true rfl) h (fun S10 h => ?_)
    exact zu_vret d_8265_50 zr_8265 h
def w_X9_putValue (X : zs_X) (d : Nat) (p0 : Nat) (p1 : Int32) (p2 : Int32) (S : zs_T) (Q : zs_Q) : Prop :=
  (zs_K S p0 = some (.inl 8) ∧ zs_C X d 8242 [.ref p0] S (zs_kJ (fun v3 S2 => (zs_K S2 p0 = some (.inl 8) ∧ ab_n0 X.1 ≤ p0 ∧ ∀ S6, S6 = zs_sI S2 8195 p0 ((zs_I S2 8195 p0) - (1 : Int32)) → ∃ b9, (zs_R S6 8190 p0) = some b9 ∧ zs_A S2 b9 0 (zs_I S6 8195 p0) ∧ zs_C X d 8226 [.ref p0, .int (zs_I S6 8195 p0)] S6 (zs_kV (fun S12 => w_X9_putValue_34 X d p0 p1 p2 v3 (zs_i S6 b9 (zs_I S6 8195 p0).toNatClampNeg) S12 Q) Q))) Q))
theorem u_X9_putValue {σ : Nat → Nat} {n0 : Nat} {bf : ab_B} {d : Nat} {p0 : Nat} {p1 : Int32} {p2 : Int32} {S : zs_T} {Q : zs_Q} (hB : zt_B bf) (hd : 1 ≤ d) (h : w_X9_putValue (zx σ n0 bf) (d - 1) p0 p1 p2 S Q) : zs_C (zx σ n0 bf) d 8265 [.ref p0, .int p1, .int p2] S Q := by
  have hL : lv_args 0 [.ref p0, .int p1, .int p2] = [(0, .ref p0), (1, .int p1), (2, .int p2)] := rfl
  refine zs_C.of1 (hB.2 8265 (by decide) (by decide)) hd (by rw [hL]; exact zs_sub_self _ (by exact ⟨rfl, rfl, rfl, trivial⟩)) ?_
  rw [hL]
  clear hL
  unfold w_X9_putValue at h
  refine zu_aload_n d_8265_0 rfl (zs_ra _) ?_
  obtain ⟨k1, h⟩ := h
  refine zc_8_1307  hB rfl k1 d_8265_1 (Nat.le_of_ble_eq_true rfl) h (fun v3 S2 h => ?_)
  refine zu_lstore_n d_8265_4 (zs_lt zq_8265 rfl) ?_
  refine zu_aload_n d_8265_5 rfl (zs_ra _) ?_
  refine zu_dup d_8265_6 rfl ?_
  obtain ⟨k4, h⟩ := h
  refine zg_8_1270 rfl d_8265_7 k4 ?_
  refine zu_iconst d_8265_10 zi_1 ?_
  refine zu_stk d_8265_11 rfl rfl ?_
  obtain ⟨k5, h⟩ := h
  refine zp_8_1270 (v := ((zs_I S2 8195 p0) - (1 : Int32))) rfl d_8265_12 k4 k5 ?_
  generalize e7 : zs_sI S2 8195 p0 ((zs_I S2 8195 p0) - (1 : Int32)) = S6
  have h := h S6 e7.symm
  have K8 : ∀ b, zs_K S6 b = zs_K S2 b := zs_Kt e7 (zs_KsI _ _ _ _) (fun _ => rfl)
  refine zu_aload_n d_8265_15 rfl (zs_ra _) ?_
  refine zg_8_412 rfl d_8265_16 ((K8 _).trans k4) ?_
  refine zu_aload_n d_8265_19 rfl (zs_ra _) ?_
  refine zg_8_1270 rfl d_8265_20 ((K8 _).trans k4) ?_
  obtain ⟨b9, e10, h⟩ := h
  refine zs_stk1 (zs_rfe e10) ?_
  obtain ⟨k11, h⟩ := h
  refine zu_iald (k := 0) d_8265_23 rfl rfl (zs_Ak K8 k11) ?_
  refine zu_istore d_8265_24 (zs_lt zq_8265 rfl) ?_
  refine zu_aload_n d_8265_26 rfl (zs_ra _) ?_
  refine zu_aload_n d_8265_27 rfl (zs_ra _) ?_
  refine zg_8_1270 rfl d_8265_28 ((K8 _).trans k4) ?_
  refine zc_8_1291 (x0 := (zs_I S6 8195 p0)) hB rfl ((K8 _).trans k4) d_8265_31 (Nat.le_of_ble_eq_true rfl) h (fun S12 h => ?_)
  exact (u_X9_putValue_34 hB h).weak ⟨rfl, rfl, rfl, rfl, rfl, trivial⟩
/-! SchemaPascalModel.changeTag(IJ)V -/
theorem zm_8266 {σ : Nat → Nat} {n0 : Nat} {bf : ab_B} : ab_code (zx σ n0 bf).1 8266 = prog_17_method_233_code := rfl
theorem zq_8266 {σ : Nat → Nat} {n0 : Nat} {bf : ab_B} : ab_maxL (zx σ n0 bf).1 8266 = 10 := rfl
theorem zr_8266 {σ : Nat → Nat} {n0 : Nat} {bf : ab_B} : ab_ret (zx σ n0 bf).1 8266 = (Option.none : Option Jvm.ClassFile.FieldType) := rfl
theorem d_8266_0 {σ : Nat → Nat} {n0 : Nat} {bf : ab_B} : decode (ab_code (zx σ n0 bf).1 8266) 0 = .ok (.aload_n 0, 1) := zd zm_8266 (by decide +kernel)
theorem d_8266_1 {σ : Nat → Nat} {n0 : Nat} {bf : ab_B} : decode (ab_code (zx σ n0 bf).1 8266) 1 = .ok (.getfield 419, 3) := zd zm_8266 (by decide +kernel)
theorem d_8266_4 {σ : Nat → Nat} {n0 : Nat} {bf : ab_B} : decode (ab_code (zx σ n0 bf).1 8266) 4 = .ok (.iload_n 1, 1) := zd zm_8266 (by decide +kernel)
theorem d_8266_5 {σ : Nat → Nat} {n0 : Nat} {bf : ab_B} : decode (ab_code (zx σ n0 bf).1 8266) 5 = .ok (.iaload, 1) := zd zm_8266 (by decide +kernel)
theorem d_8266_6 {σ : Nat → Nat} {n0 : Nat} {bf : ab_B} : decode (ab_code (zx σ n0 bf).1 8266) 6 = .ok (.istore 4, 2) := zd zm_8266 (by decide +kernel)
theorem d_8266_8 {σ : Nat → Nat} {n0 : Nat} {bf : ab_B} : decode (ab_code (zx σ n0 bf).1 8266) 8 = .ok (.aload_n 0, 1) := zd zm_8266 (by decide +kernel)
theorem d_8266_9 {σ : Nat → Nat} {n0 : Nat} {bf : ab_B} : decode (ab_code (zx σ n0 bf).1 8266) 9 = .ok (.getfield 409, 3) := zd zm_8266 (by decide +kernel)
theorem d_8266_12 {σ : Nat → Nat} {n0 : Nat} {bf : ab_B} : decode (ab_code (zx σ n0 bf).1 8266) 12 = .ok (.iload_n 1, 1) := zd zm_8266 (by decide +kernel)
theorem d_8266_13 {σ : Nat → Nat} {n0 : Nat} {bf : ab_B} : decode (ab_code (zx σ n0 bf).1 8266) 13 = .ok (.iaload, 1) := zd zm_8266 (by decide +kernel)
theorem d_8266_14 {σ : Nat → Nat} {n0 : Nat} {bf : ab_B} : decode (ab_code (zx σ n0 bf).1 8266) 14 = .ok (.istore 5, 2) := zd zm_8266 (by decide +kernel)
theorem d_8266_16 {σ : Nat → Nat} {n0 : Nat} {bf : ab_B} : decode (ab_code (zx σ n0 bf).1 8266) 16 = .ok (.aload_n 0, 1) := zd zm_8266 (by decide +kernel)
theorem d_8266_17 {σ : Nat → Nat} {n0 : Nat} {bf : ab_B} : decode (ab_code (zx σ n0 bf).1 8266) 17 = .ok (.iload 5, 2) := zd zm_8266 (by decide +kernel)
theorem d_8266_19 {σ : Nat → Nat} {n0 : Nat} {bf : ab_B} : decode (ab_code (zx σ n0 bf).1 8266) 19 = .ok (.aload_n 0, 1) := zd zm_8266 (by decide +kernel)
theorem d_8266_20 {σ : Nat → Nat} {n0 : Nat} {bf : ab_B} : decode (ab_code (zx σ n0 bf).1 8266) 20 = .ok (.getfield 412, 3) := zd zm_8266 (by decide +kernel)
theorem d_8266_23 {σ : Nat → Nat} {n0 : Nat} {bf : ab_B} : decode (ab_code (zx σ n0 bf).1 8266) 23 = .ok (.iload_n 1, 1) := zd zm_8266 (by decide +kernel)
theorem d_8266_24 {σ : Nat → Nat} {n0 : Nat} {bf : ab_B} : decode (ab_code (zx σ n0 bf).1 8266) 24 = .ok (.iaload, 1) := zd zm_8266 (by decide +kernel)
theorem d_8266_25 {σ : Nat → Nat} {n0 : Nat} {bf : ab_B} : decode (ab_code (zx σ n0 bf).1 8266) 25 = .ok (.invokevirtual 1294, 3) := zd zm_8266 (by decide +kernel)
theorem d_8266_28 {σ : Nat → Nat} {n0 : Nat} {bf : ab_B} : decode (ab_code (zx σ n0 bf).1 8266) 28 = .ok (.ifCond .eq 27, 3) := zd zm_8266 (by decide +kernel)
theorem d_8266_31 {σ : Nat → Nat} {n0 : Nat} {bf : ab_B} : decode (ab_code (zx σ n0 bf).1 8266) 31 = .ok (.aload_n 0, 1) := zd zm_8266 (by decide +kernel)
theorem d_8266_32 {σ : Nat → Nat} {n0 : Nat} {bf : ab_B} : decode (ab_code (zx σ n0 bf).1 8266) 32 = .ok (.iload 4, 2) := zd zm_8266 (by decide +kernel)
theorem d_8266_34 {σ : Nat → Nat} {n0 : Nat} {bf : ab_B} : decode (ab_code (zx σ n0 bf).1 8266) 34 = .ok (.aload_n 0, 1) := zd zm_8266 (by decide +kernel)
theorem d_8266_35 {σ : Nat → Nat} {n0 : Nat} {bf : ab_B} : decode (ab_code (zx σ n0 bf).1 8266) 35 = .ok (.getfield 373, 3) := zd zm_8266 (by decide +kernel)
theorem d_8266_38 {σ : Nat → Nat} {n0 : Nat} {bf : ab_B} : decode (ab_code (zx σ n0 bf).1 8266) 38 = .ok (.iload 5, 2) := zd zm_8266 (by decide +kernel)
theorem d_8266_40 {σ : Nat → Nat} {n0 : Nat} {bf : ab_B} : decode (ab_code (zx σ n0 bf).1 8266) 40 = .ok (.laload, 1) := zd zm_8266 (by decide +kernel)
theorem d_8266_41 {σ : Nat → Nat} {n0 : Nat} {bf : ab_B} : decode (ab_code (zx σ n0 bf).1 8266) 41 = .ok (.invokevirtual 1300, 3) := zd zm_8266 (by decide +kernel)
theorem d_8266_44 {σ : Nat → Nat} {n0 : Nat} {bf : ab_B} : decode (ab_code (zx σ n0 bf).1 8266) 44 = .ok (.aload_n 0, 1) := zd zm_8266 (by decide +kernel)
theorem d_8266_45 {σ : Nat → Nat} {n0 : Nat} {bf : ab_B} : decode (ab_code (zx σ n0 bf).1 8266) 45 = .ok (.iload 4, 2) := zd zm_8266 (by decide +kernel)
theorem d_8266_47 {σ : Nat → Nat} {n0 : Nat} {bf : ab_B} : decode (ab_code (zx σ n0 bf).1 8266) 47 = .ok (.lload_n 2, 1) := zd zm_8266 (by decide +kernel)
theorem d_8266_48 {σ : Nat → Nat} {n0 : Nat} {bf : ab_B} : decode (ab_code (zx σ n0 bf).1 8266) 48 = .ok (.invokevirtual 1300, 3) := zd zm_8266 (by decide +kernel)
theorem d_8266_51 {σ : Nat → Nat} {n0 : Nat} {bf : ab_B} : decode (ab_code (zx σ n0 bf).1 8266) 51 = .ok (.if_icmp .ne 4, 3) := zd zm_8266 (by decide +kernel)
theorem d_8266_54 {σ : Nat → Nat} {n0 : Nat} {bf : ab_B} : decode (ab_code (zx σ n0 bf).1 8266) 54 = .ok (.return_, 1) := zd zm_8266 (by decide +kernel)
theorem d_8266_55 {σ : Nat → Nat} {n0 : Nat} {bf : ab_B} : decode (ab_code (zx σ n0 bf).1 8266) 55 = .ok (.aload_n 0, 1) := zd zm_8266 (by decide +kernel)
theorem d_8266_56 {σ : Nat → Nat} {n0 : Nat} {bf : ab_B} : decode (ab_code (zx σ n0 bf).1 8266) 56 = .ok (.getfield 425, 3) := zd zm_8266 (by decide +kernel)
theorem d_8266_59 {σ : Nat → Nat} {n0 : Nat} {bf : ab_B} : decode (ab_code (zx σ n0 bf).1 8266) 59 = .ok (.iload_n 1, 1) := zd zm_8266 (by decide +kernel)
theorem d_8266_60 {σ : Nat → Nat} {n0 : Nat} {bf : ab_B} : decode (ab_code (zx σ n0 bf).1 8266) 60 = .ok (.iaload, 1) := zd zm_8266 (by decide +kernel)
theorem d_8266_61 {σ : Nat → Nat} {n0 : Nat} {bf : ab_B} : decode (ab_code (zx σ n0 bf).1 8266) 61 = .ok (.istore 6, 2) := zd zm_8266 (by decide +kernel)
theorem d_8266_63 {σ : Nat → Nat} {n0 : Nat} {bf : ab_B} : decode (ab_code (zx σ n0 bf).1 8266) 63 = .ok (.aload_n 0, 1) := zd zm_8266 (by decide +kernel)
theorem d_8266_64 {σ : Nat → Nat} {n0 : Nat} {bf : ab_B} : decode (ab_code (zx σ n0 bf).1 8266) 64 = .ok (.getfield 105, 3) := zd zm_8266 (by decide +kernel)
theorem d_8266_67 {σ : Nat → Nat} {n0 : Nat} {bf : ab_B} : decode (ab_code (zx σ n0 bf).1 8266) 67 = .ok (.iload 6, 2) := zd zm_8266 (by decide +kernel)
theorem d_8266_69 {σ : Nat → Nat} {n0 : Nat} {bf : ab_B} : decode (ab_code (zx σ n0 bf).1 8266) 69 = .ok (.baload, 1) := zd zm_8266 (by decide +kernel)
theorem d_8266_70 {σ : Nat → Nat} {n0 : Nat} {bf : ab_B} : decode (ab_code (zx σ n0 bf).1 8266) 70 = .ok (.ifCond .eq 11, 3) := zd zm_8266 (by decide +kernel)
theorem d_8266_73 {σ : Nat → Nat} {n0 : Nat} {bf : ab_B} : decode (ab_code (zx σ n0 bf).1 8266) 73 = .ok (.aload_n 0, 1) := zd zm_8266 (by decide +kernel)
theorem d_8266_74 {σ : Nat → Nat} {n0 : Nat} {bf : ab_B} : decode (ab_code (zx σ n0 bf).1 8266) 74 = .ok (.iload 6, 2) := zd zm_8266 (by decide +kernel)
theorem d_8266_76 {σ : Nat → Nat} {n0 : Nat} {bf : ab_B} : decode (ab_code (zx σ n0 bf).1 8266) 76 = .ok (.invokevirtual 837, 3) := zd zm_8266 (by decide +kernel)
theorem d_8266_79 {σ : Nat → Nat} {n0 : Nat} {bf : ab_B} : decode (ab_code (zx σ n0 bf).1 8266) 79 = .ok (.istore 7, 2) := zd zm_8266 (by decide +kernel)
theorem d_8266_81 {σ : Nat → Nat} {n0 : Nat} {bf : ab_B} : decode (ab_code (zx σ n0 bf).1 8266) 81 = .ok (.aload_n 0, 1) := zd zm_8266 (by decide +kernel)
theorem d_8266_82 {σ : Nat → Nat} {n0 : Nat} {bf : ab_B} : decode (ab_code (zx σ n0 bf).1 8266) 82 = .ok (.getfield 96, 3) := zd zm_8266 (by decide +kernel)
theorem d_8266_85 {σ : Nat → Nat} {n0 : Nat} {bf : ab_B} : decode (ab_code (zx σ n0 bf).1 8266) 85 = .ok (.iload 6, 2) := zd zm_8266 (by decide +kernel)
theorem d_8266_87 {σ : Nat → Nat} {n0 : Nat} {bf : ab_B} : decode (ab_code (zx σ n0 bf).1 8266) 87 = .ok (.iaload, 1) := zd zm_8266 (by decide +kernel)
theorem d_8266_88 {σ : Nat → Nat} {n0 : Nat} {bf : ab_B} : decode (ab_code (zx σ n0 bf).1 8266) 88 = .ok (.istore 7, 2) := zd zm_8266 (by decide +kernel)
theorem d_8266_90 {σ : Nat → Nat} {n0 : Nat} {bf : ab_B} : decode (ab_code (zx σ n0 bf).1 8266) 90 = .ok (.iload 7, 2) := zd zm_8266 (by decide +kernel)
theorem d_8266_92 {σ : Nat → Nat} {n0 : Nat} {bf : ab_B} : decode (ab_code (zx σ n0 bf).1 8266) 92 = .ok (.ifCond .le 103, 3) := zd zm_8266 (by decide +kernel)
theorem d_8266_95 {σ : Nat → Nat} {n0 : Nat} {bf : ab_B} : decode (ab_code (zx σ n0 bf).1 8266) 95 = .ok (.iconst 0, 1) := zd zm_8266 (by decide +kernel)
theorem d_8266_96 {σ : Nat → Nat} {n0 : Nat} {bf : ab_B} : decode (ab_code (zx σ n0 bf).1 8266) 96 = .ok (.istore 8, 2) := zd zm_8266 (by decide +kernel)
theorem d_8266_98 {σ : Nat → Nat} {n0 : Nat} {bf : ab_B} : decode (ab_code (zx σ n0 bf).1 8266) 98 = .ok (.aload_n 0, 1) := zd zm_8266 (by decide +kernel)
theorem d_8266_99 {σ : Nat → Nat} {n0 : Nat} {bf : ab_B} : decode (ab_code (zx σ n0 bf).1 8266) 99 = .ok (.getfield 145, 3) := zd zm_8266 (by decide +kernel)
theorem d_8266_102 {σ : Nat → Nat} {n0 : Nat} {bf : ab_B} : decode (ab_code (zx σ n0 bf).1 8266) 102 = .ok (.iload 7, 2) := zd zm_8266 (by decide +kernel)
theorem d_8266_104 {σ : Nat → Nat} {n0 : Nat} {bf : ab_B} : decode (ab_code (zx σ n0 bf).1 8266) 104 = .ok (.iaload, 1) := zd zm_8266 (by decide +kernel)
theorem d_8266_105 {σ : Nat → Nat} {n0 : Nat} {bf : ab_B} : decode (ab_code (zx σ n0 bf).1 8266) 105 = .ok (.istore 9, 2) := zd zm_8266 (by decide +kernel)
theorem d_8266_107 {σ : Nat → Nat} {n0 : Nat} {bf : ab_B} : decode (ab_code (zx σ n0 bf).1 8266) 107 = .ok (.iload 9, 2) := zd zm_8266 (by decide +kernel)
theorem d_8266_109 {σ : Nat → Nat} {n0 : Nat} {bf : ab_B} : decode (ab_code (zx σ n0 bf).1 8266) 109 = .ok (.ifCond .le 44, 3) := zd zm_8266 (by decide +kernel)
theorem d_8266_112 {σ : Nat → Nat} {n0 : Nat} {bf : ab_B} : decode (ab_code (zx σ n0 bf).1 8266) 112 = .ok (.iload 8, 2) := zd zm_8266 (by decide +kernel)
theorem d_8266_114 {σ : Nat → Nat} {n0 : Nat} {bf : ab_B} : decode (ab_code (zx σ n0 bf).1 8266) 114 = .ok (.ifCond .ne 15, 3) := zd zm_8266 (by decide +kernel)
theorem d_8266_117 {σ : Nat → Nat} {n0 : Nat} {bf : ab_B} : decode (ab_code (zx σ n0 bf).1 8266) 117 = .ok (.aload_n 0, 1) := zd zm_8266 (by decide +kernel)
theorem d_8266_118 {σ : Nat → Nat} {n0 : Nat} {bf : ab_B} : decode (ab_code (zx σ n0 bf).1 8266) 118 = .ok (.getfield 154, 3) := zd zm_8266 (by decide +kernel)
theorem d_8266_121 {σ : Nat → Nat} {n0 : Nat} {bf : ab_B} : decode (ab_code (zx σ n0 bf).1 8266) 121 = .ok (.iload 9, 2) := zd zm_8266 (by decide +kernel)
theorem d_8266_123 {σ : Nat → Nat} {n0 : Nat} {bf : ab_B} : decode (ab_code (zx σ n0 bf).1 8266) 123 = .ok (.iaload, 1) := zd zm_8266 (by decide +kernel)
theorem d_8266_124 {σ : Nat → Nat} {n0 : Nat} {bf : ab_B} : decode (ab_code (zx σ n0 bf).1 8266) 124 = .ok (.iload 4, 2) := zd zm_8266 (by decide +kernel)
theorem d_8266_126 {σ : Nat → Nat} {n0 : Nat} {bf : ab_B} : decode (ab_code (zx σ n0 bf).1 8266) 126 = .ok (.if_icmp .ne 7, 3) := zd zm_8266 (by decide +kernel)
theorem d_8266_129 {σ : Nat → Nat} {n0 : Nat} {bf : ab_B} : decode (ab_code (zx σ n0 bf).1 8266) 129 = .ok (.iconst 1, 1) := zd zm_8266 (by decide +kernel)
theorem d_8266_130 {σ : Nat → Nat} {n0 : Nat} {bf : ab_B} : decode (ab_code (zx σ n0 bf).1 8266) 130 = .ok (.goto 4, 3) := zd zm_8266 (by decide +kernel)
theorem d_8266_133 {σ : Nat → Nat} {n0 : Nat} {bf : ab_B} : decode (ab_code (zx σ n0 bf).1 8266) 133 = .ok (.iconst 0, 1) := zd zm_8266 (by decide +kernel)
theorem d_8266_134 {σ : Nat → Nat} {n0 : Nat} {bf : ab_B} : decode (ab_code (zx σ n0 bf).1 8266) 134 = .ok (.istore 8, 2) := zd zm_8266 (by decide +kernel)
theorem d_8266_136 {σ : Nat → Nat} {n0 : Nat} {bf : ab_B} : decode (ab_code (zx σ n0 bf).1 8266) 136 = .ok (.aload_n 0, 1) := zd zm_8266 (by decide +kernel)
theorem d_8266_137 {σ : Nat → Nat} {n0 : Nat} {bf : ab_B} : decode (ab_code (zx σ n0 bf).1 8266) 137 = .ok (.getfield 145, 3) := zd zm_8266 (by decide +kernel)
theorem d_8266_140 {σ : Nat → Nat} {n0 : Nat} {bf : ab_B} : decode (ab_code (zx σ n0 bf).1 8266) 140 = .ok (.aload_n 0, 1) := zd zm_8266 (by decide +kernel)
theorem d_8266_141 {σ : Nat → Nat} {n0 : Nat} {bf : ab_B} : decode (ab_code (zx σ n0 bf).1 8266) 141 = .ok (.getfield 154, 3) := zd zm_8266 (by decide +kernel)
theorem d_8266_144 {σ : Nat → Nat} {n0 : Nat} {bf : ab_B} : decode (ab_code (zx σ n0 bf).1 8266) 144 = .ok (.iload 9, 2) := zd zm_8266 (by decide +kernel)
theorem d_8266_146 {σ : Nat → Nat} {n0 : Nat} {bf : ab_B} : decode (ab_code (zx σ n0 bf).1 8266) 146 = .ok (.iaload, 1) := zd zm_8266 (by decide +kernel)
theorem d_8266_147 {σ : Nat → Nat} {n0 : Nat} {bf : ab_B} : decode (ab_code (zx σ n0 bf).1 8266) 147 = .ok (.iaload, 1) := zd zm_8266 (by decide +kernel)
theorem d_8266_148 {σ : Nat → Nat} {n0 : Nat} {bf : ab_B} : decode (ab_code (zx σ n0 bf).1 8266) 148 = .ok (.istore 9, 2) := zd zm_8266 (by decide +kernel)
theorem d_8266_150 {σ : Nat → Nat} {n0 : Nat} {bf : ab_B} : decode (ab_code (zx σ n0 bf).1 8266) 150 = .ok (.goto (-43), 3) := zd zm_8266 (by decide +kernel)
theorem d_8266_153 {σ : Nat → Nat} {n0 : Nat} {bf : ab_B} : decode (ab_code (zx σ n0 bf).1 8266) 153 = .ok (.iload 8, 2) := zd zm_8266 (by decide +kernel)
theorem d_8266_155 {σ : Nat → Nat} {n0 : Nat} {bf : ab_B} : decode (ab_code (zx σ n0 bf).1 8266) 155 = .ok (.ifCond .eq 28, 3) := zd zm_8266 (by decide +kernel)
theorem d_8266_158 {σ : Nat → Nat} {n0 : Nat} {bf : ab_B} : decode (ab_code (zx σ n0 bf).1 8266) 158 = .ok (.aload_n 0, 1) := zd zm_8266 (by decide +kernel)
theorem d_8266_159 {σ : Nat → Nat} {n0 : Nat} {bf : ab_B} : decode (ab_code (zx σ n0 bf).1 8266) 159 = .ok (.aload_n 0, 1) := zd zm_8266 (by decide +kernel)
theorem d_8266_160 {σ : Nat → Nat} {n0 : Nat} {bf : ab_B} : decode (ab_code (zx σ n0 bf).1 8266) 160 = .ok (.getfield 422, 3) := zd zm_8266 (by decide +kernel)
theorem d_8266_163 {σ : Nat → Nat} {n0 : Nat} {bf : ab_B} : decode (ab_code (zx σ n0 bf).1 8266) 163 = .ok (.iload_n 1, 1) := zd zm_8266 (by decide +kernel)
theorem d_8266_164 {σ : Nat → Nat} {n0 : Nat} {bf : ab_B} : decode (ab_code (zx σ n0 bf).1 8266) 164 = .ok (.iaload, 1) := zd zm_8266 (by decide +kernel)
theorem d_8266_165 {σ : Nat → Nat} {n0 : Nat} {bf : ab_B} : decode (ab_code (zx σ n0 bf).1 8266) 165 = .ok (.aload_n 0, 1) := zd zm_8266 (by decide +kernel)
theorem d_8266_166 {σ : Nat → Nat} {n0 : Nat} {bf : ab_B} : decode (ab_code (zx σ n0 bf).1 8266) 166 = .ok (.getfield 257, 3) := zd zm_8266 (by decide +kernel)
theorem d_8266_169 {σ : Nat → Nat} {n0 : Nat} {bf : ab_B} : decode (ab_code (zx σ n0 bf).1 8266) 169 = .ok (.iload 7, 2) := zd zm_8266 (by decide +kernel)
theorem d_8266_171 {σ : Nat → Nat} {n0 : Nat} {bf : ab_B} : decode (ab_code (zx σ n0 bf).1 8266) 171 = .ok (.iaload, 1) := zd zm_8266 (by decide +kernel)
theorem d_8266_172 {σ : Nat → Nat} {n0 : Nat} {bf : ab_B} : decode (ab_code (zx σ n0 bf).1 8266) 172 = .ok (.iadd, 1) := zd zm_8266 (by decide +kernel)
theorem d_8266_173 {σ : Nat → Nat} {n0 : Nat} {bf : ab_B} : decode (ab_code (zx σ n0 bf).1 8266) 173 = .ok (.aload_n 0, 1) := zd zm_8266 (by decide +kernel)
theorem d_8266_174 {σ : Nat → Nat} {n0 : Nat} {bf : ab_B} : decode (ab_code (zx σ n0 bf).1 8266) 174 = .ok (.getfield 260, 3) := zd zm_8266 (by decide +kernel)
theorem d_8266_177 {σ : Nat → Nat} {n0 : Nat} {bf : ab_B} : decode (ab_code (zx σ n0 bf).1 8266) 177 = .ok (.iload 7, 2) := zd zm_8266 (by decide +kernel)
theorem d_8266_179 {σ : Nat → Nat} {n0 : Nat} {bf : ab_B} : decode (ab_code (zx σ n0 bf).1 8266) 179 = .ok (.iaload, 1) := zd zm_8266 (by decide +kernel)
theorem d_8266_180 {σ : Nat → Nat} {n0 : Nat} {bf : ab_B} : decode (ab_code (zx σ n0 bf).1 8266) 180 = .ok (.invokevirtual 1345, 3) := zd zm_8266 (by decide +kernel)
theorem d_8266_183 {σ : Nat → Nat} {n0 : Nat} {bf : ab_B} : decode (ab_code (zx σ n0 bf).1 8266) 183 = .ok (.aload_n 0, 1) := zd zm_8266 (by decide +kernel)
theorem d_8266_184 {σ : Nat → Nat} {n0 : Nat} {bf : ab_B} : decode (ab_code (zx σ n0 bf).1 8266) 184 = .ok (.getfield 148, 3) := zd zm_8266 (by decide +kernel)
theorem d_8266_187 {σ : Nat → Nat} {n0 : Nat} {bf : ab_B} : decode (ab_code (zx σ n0 bf).1 8266) 187 = .ok (.iload 7, 2) := zd zm_8266 (by decide +kernel)
theorem d_8266_189 {σ : Nat → Nat} {n0 : Nat} {bf : ab_B} : decode (ab_code (zx σ n0 bf).1 8266) 189 = .ok (.iaload, 1) := zd zm_8266 (by decide +kernel)
theorem d_8266_190 {σ : Nat → Nat} {n0 : Nat} {bf : ab_B} : decode (ab_code (zx σ n0 bf).1 8266) 190 = .ok (.istore 7, 2) := zd zm_8266 (by decide +kernel)
theorem d_8266_192 {σ : Nat → Nat} {n0 : Nat} {bf : ab_B} : decode (ab_code (zx σ n0 bf).1 8266) 192 = .ok (.goto (-102), 3) := zd zm_8266 (by decide +kernel)
theorem d_8266_195 {σ : Nat → Nat} {n0 : Nat} {bf : ab_B} : decode (ab_code (zx σ n0 bf).1 8266) 195 = .ok (.return_, 1) := zd zm_8266 (by decide +kernel)
def w_X9_changeTag_81 (X : zs_X) (d : Nat) (p0 : Nat) (p1 : Int32) (p4 : Int32) (p6 : Int32) (S : zs_T) (Q : zs_Q) : Prop :=
  (zs_K S p0 = some (.inl 8) ∧ ∃ b2, (zs_R S 8046 p0) = some b2 ∧ zs_A S b2 0 p6 ∧ zs_U X d 8266 90 [(0, .ref p0), (1, .int p1), (4, .int p4), (7, .int (zs_i S b2 p6.toNatClampNeg))] [] S Q)
theorem u_X9_changeTag_81 {σ : Nat → Nat} {n0 : Nat} {bf : ab_B} {d : Nat} {p0 : Nat} {p1 : Int32} {p4 : Int32} {p6 : Int32} {S : zs_T} {Q : zs_Q} (hB : zt_B bf) (h : w_X9_changeTag_81 (zx σ n0 bf) d p0 p1 p4 p6 S Q) : zs_U (zx σ n0 bf) d 8266 81 [(0, .ref p0), (1, .int p1), (4, .int p4), (6, .int p6)] [] S Q := by
  unfold w_X9_changeTag_81 at h
  refine zu_aload_n d_8266_81 rfl (zs_ra _) ?_
  obtain ⟨k1, h⟩ := h
  refine zg_8_96 rfl d_8266_82 k1 ?_
  refine zu_iload d_8266_85 rfl ?_
  obtain ⟨b2, e3, h⟩ := h
  refine zs_stk1 (zs_rfe e3) ?_
  obtain ⟨k4, h⟩ := h
  refine zu_iald (k := 0) d_8266_87 rfl rfl k4 ?_
  refine zu_istore d_8266_88 (zs_lt zq_8266 rfl) ?_
  exact h.weak ⟨rfl, rfl, rfl, rfl, trivial⟩
def w_X9_changeTag_55 (X : zs_X) (d : Nat) (p0 : Nat) (p1 : Int32) (p4 : Int32) (S : zs_T) (Q : zs_Q) : Prop :=
  (zs_K S p0 = some (.inl 8) ∧ ∃ b2, (zs_R S 8194 p0) = some b2 ∧ zs_A S b2 0 p1 ∧ ∃ b5, (zs_R S 8049 p0) = some b5 ∧ zs_A S b5 2 (zs_i S b2 p1.toNatClampNeg) ∧ (((zs_i S b5 (zs_i S b2 p1.toNatClampNeg).toNatClampNeg) = 0 → w_X9_changeTag_81 X d p0 p1 p4 (zs_i S b2 p1.toNatClampNeg) S Q) ∧ (¬ ((zs_i S b5 (zs_i S b2 p1.toNatClampNeg).toNatClampNeg) = 0) → (zs_C X d 8115 [.ref p0, .int (zs_i S b2 p1.toNatClampNeg)] S (zs_kI (fun v10 S9 => (w_X9_changeTag_81 X d p0 p1 p4 (zs_i S b2 p1.toNatClampNeg) S9 Q)) Q)))))
theorem u_X9_changeTag_55 {σ : Nat → Nat} {n0 : Nat} {bf : ab_B} {d : Nat} {p0 : Nat} {p1 : Int32} {p4 : Int32} {S : zs_T} {Q : zs_Q} (hB : zt_B bf) (h : w_X9_changeTag_55 (zx σ n0 bf) d p0 p1 p4 S Q) : zs_U (zx σ n0 bf) d 8266 55 [(0, .ref p0), (1, .int p1), (4, .int p4)] [] S Q := by
  unfold w_X9_changeTag_55 at h
  refine zu_aload_n d_8266_55 rfl (zs_ra _) ?_
  obtain ⟨k1, h⟩ := h
  refine zg_8_425 rfl d_8266_56 k1 ?_
  refine zu_iload_n d_8266_59 rfl ?_
  obtain ⟨b2, e3, h⟩ := h
  refine zs_stk1 (zs_rfe e3) ?_
  obtain ⟨k4, h⟩ := h
  refine zu_iald (k := 0) d_8266_60 rfl rfl k4 ?_
  refine zu_istore d_8266_61 (zs_lt zq_8266 rfl) ?_
  refine zu_aload_n d_8266_63 rfl (zs_ra _) ?_
  refine zg_8_105 rfl d_8266_64 k1 ?_
  refine zu_iload d_8266_67 rfl ?_
  obtain ⟨b5, e6, h⟩ := h
  refine zs_stk1 (zs_rfe e6) ?_
  obtain ⟨k7, h⟩ := h
  refine zu_bald (k := 2) d_8266_69 rfl (Or.inr rfl) k7 ?_
  refine zu_ifeq (t := 81) d_8266_70 rfl (fun c8 => ?_) (fun c8 => ?_)
  · have h := h.1 c8
    exact (u_X9_changeTag_81 hB h).weak ⟨rfl, rfl, rfl, rfl, trivial⟩
  · have h := h.2 c8
    refine zu_aload_n d_8266_73 rfl (zs_ra _) ?_
    refine zu_iload d_8266_74 rfl ?_
    refine zc_8_837 (x0 := (zs_i S b2 p1.toNatClampNeg)) hB rfl k1 d_8266_76 (Nat.le_of_ble_eq_true rfl) h (fun v10 S9 h => ?_)
    refine zu_istore d_8266_79 (zs_lt zq_8266 rfl) ?_
    exact (u_X9_changeTag_81 hB h).weak ⟨rfl, rfl, rfl, rfl, trivial⟩
def w_X9_changeTag_31 (X : zs_X) (d : Nat) (p0 : Nat) (p1 : Int32) (p2 : Int64) (p4 : Int32) (p5 : Int32) (S : zs_T) (Q : zs_Q) : Prop :=
  (zs_K S p0 = some (.inl 8) ∧ ∃ b2, (zs_R S 8170 p0) = some b2 ∧ zs_A S b2 3 p5 ∧ zs_C X d 8239 [.ref p0, .int p4, .long (zs_j S b2 p5.toNatClampNeg)] S (zs_kI (fun v6 S5 => (zs_K S5 p0 = some (.inl 8) ∧ zs_C X d 8239 [.ref p0, .int p4, .long p2] S5 (zs_kI (fun v9 S8 => (((¬ v6 = v9 → w_X9_changeTag_55 X d p0 p1 p4 S8 Q) ∧ (¬ (¬ v6 = v9) → (Q (.returned none) S8))))) Q))) Q))
theorem u_X9_changeTag_31 {σ : Nat → Nat} {n0 : Nat} {bf : ab_B} {d : Nat} {p0 : Nat} {p1 : Int32} {p2 : Int64} {p4 : Int32} {p5 : Int32} {S : zs_T} {Q : zs_Q} (hB : zt_B bf) (h : w_X9_changeTag_31 (zx σ n0 bf) d p0 p1 p2 p4 p5 S Q) : zs_U (zx σ n0 bf) d 8266 31 [(0, .ref p0), (1, .int p1), (2, .long p2), (4, .int p4), (5, .int p5)] [] S Q := by
  unfold w_X9_changeTag_31 at h
  refine zu_aload_n d_8266_31 rfl (zs_ra _) ?_
  refine zu_iload d_8266_32 rfl ?_
  refine zu_aload_n d_8266_34 rfl (zs_ra _) ?_
  obtain ⟨k1, h⟩ := h
  refine zg_8_373 rfl d_8266_35 k1 ?_
  refine zu_iload d_8266_38 rfl ?_
  obtain ⟨b2, e3, h⟩ := h
  refine zs_stk1 (zs_rfe e3) ?_
  obtain ⟨k4, h⟩ := h
  refine zu_lald (k := 3) d_8266_40 rfl rfl k4 ?_
  refine zc_8_1300 (x0 := p4) (x1 := (zs_j S b2 p5.toNatClampNeg)) hB rfl k1 d_8266_41 (Nat.le_of_ble_eq_true rfl) h (fun v6 S5 h => ?_)
  refine zu_aload_n d_8266_44 rfl (zs_ra _) ?_
  refine zu_iload d_8266_45 rfl ?_
  refine zu_lload_n d_8266_47 rfl ?_
  obtain ⟨k7, h⟩ := h
  refine zc_8_1300 (x0 := p4) (x1 := p2) hB rfl k7 d_8266_48 (Nat.le_of_ble_eq_true rfl) h (fun v9 S8 h => ?_)
  refine zu_cmpne (t := 55) d_8266_51 rfl (fun c10 => ?_) (fun c10 => ?_)
  · have h := h.1 c10
    exact (u_X9_changeTag_55 hB h).weak ⟨rfl, rfl, rfl, trivial⟩
  · have h := h.2 c10
    exact zu_vret d_8266_54 zr_8266 h
def w_X9_changeTag_90 (X : zs_X) (d : Nat) (p0 : Nat) (p1 : Int32) (p4 : Int32) (p7 : Int32) (S : zs_T) (Q : zs_Q) : Prop :=
  (((p7 ≤ 0 → (Q (.returned none) S)) ∧ (¬ (p7 ≤ 0) → (zs_K S p0 = some (.inl 8) ∧ ∃ b3, (zs_R S 8066 p0) = some b3 ∧ zs_A S b3 0 p7 ∧ zs_U X d 8266 107 [(0, .ref p0), (1, .int p1), (4, .int p4), (7, .int p7), (8, .int (0 : Int32)), (9, .int (zs_i S b3 p7.toNatClampNeg))] [] S Q))))
theorem u_X9_changeTag_90 {σ : Nat → Nat} {n0 : Nat} {bf : ab_B} {d : Nat} {p0 : Nat} {p1 : Int32} {p4 : Int32} {p7 : Int32} {S : zs_T} {Q : zs_Q} (hB : zt_B bf) (h : w_X9_changeTag_90 (zx σ n0 bf) d p0 p1 p4 p7 S Q) : zs_U (zx σ n0 bf) d 8266 90 [(0, .ref p0), (1, .int p1), (4, .int p4), (7, .int p7)] [] S Q := by
  unfold w_X9_changeTag_90 at h
  refine zu_iload d_8266_90 rfl ?_
  refine zu_ifle (t := 195) d_8266_92 rfl (fun c1 => ?_) (fun c1 => ?_)
  · have h := h.1 c1
    exact zu_vret d_8266_195 zr_8266 h
  · have h := h.2 c1
    refine zu_iconst d_8266_95 zi_0 ?_
    refine zu_istore d_8266_96 (zs_lt zq_8266 rfl) ?_
    refine zu_aload_n d_8266_98 rfl (zs_ra _) ?_
    obtain ⟨k2, h⟩ := h
    refine zg_8_145 rfl d_8266_99 k2 ?_
    refine zu_iload d_8266_102 rfl ?_
    obtain ⟨b3, e4, h⟩ := h
    refine zs_stk1 (zs_rfe e4) ?_
    obtain ⟨k5, h⟩ := h
    refine zu_iald (k := 0) d_8266_104 rfl rfl k5 ?_
    refine zu_istore d_8266_105 (zs_lt zq_8266 rfl) ?_
    exact h.weak ⟨rfl, rfl, rfl, rfl, rfl, rfl, trivial⟩
def w_X9_changeTag_183 (X : zs_X) (d : Nat) (p0 : Nat) (p1 : Int32) (p4 : Int32) (p7 : Int32) (S : zs_T) (Q : zs_Q) : Prop :=
  (zs_K S p0 = some (.inl 8) ∧ ∃ b2, (zs_R S 8067 p0) = some b2 ∧ zs_A S b2 0 p7 ∧ zs_U X d 8266 90 [(0, .ref p0), (1, .int p1), (4, .int p4), (7, .int (zs_i S b2 p7.toNatClampNeg))] [] S Q)
theorem u_X9_changeTag_183 {σ : Nat → Nat} {n0 : Nat} {bf : ab_B} {d : Nat} {p0 : Nat} {p1 : Int32} {p4 : Int32} {p7 : Int32} {S : zs_T} {Q : zs_Q} (hB : zt_B bf) (h : w_X9_changeTag_183 (zx σ n0 bf) d p0 p1 p4 p7 S Q) : zs_U (zx σ n0 bf) d 8266 183 [(0, .ref p0), (1, .int p1), (4, .int p4), (7, .int p7)] [] S Q := by
  unfold w_X9_changeTag_183 at h
  refine zu_aload_n d_8266_183 rfl (zs_ra _) ?_
  obtain ⟨k1, h⟩ := h
  refine zg_8_148 rfl d_8266_184 k1 ?_
  refine zu_iload d_8266_187 rfl ?_
  obtain ⟨b2, e3, h⟩ := h
  refine zs_stk1 (zs_rfe e3) ?_
  obtain ⟨k4, h⟩ := h
  refine zu_iald (k := 0) d_8266_189 rfl rfl k4 ?_
  refine zu_istore d_8266_190 (zs_lt zq_8266 rfl) ?_
  refine zu_goto (t := 90) d_8266_192 rfl ?_
  exact h.weak ⟨rfl, rfl, rfl, rfl, trivial⟩
def w_X9_changeTag_134 (X : zs_X) (d : Nat) (p0 : Nat) (p1 : Int32) (p4 : Int32) (p7 : Int32) (p9 : Int32) (q0 : Int32) (S : zs_T) (Q : zs_Q) : Prop :=
  (zs_K S p0 = some (.inl 8) ∧ ∃ b2, (zs_R S 8070 p0) = some b2 ∧ zs_A S b2 0 p9 ∧ ∃ b5, (zs_R S 8066 p0) = some b5 ∧ zs_A S b5 0 (zs_i S b2 p9.toNatClampNeg) ∧ zs_U X d 8266 107 [(0, .ref p0), (1, .int p1), (4, .int p4), (7, .int p7), (8, .int q0), (9, .int (zs_i S b5 (zs_i S b2 p9.toNatClampNeg).toNatClampNeg))] [] S Q)
theorem u_X9_changeTag_134 {σ : Nat → Nat} {n0 : Nat} {bf : ab_B} {d : Nat} {p0 : Nat} {p1 : Int32} {p4 : Int32} {p7 : Int32} {p9 : Int32} {q0 : Int32} {S : zs_T} {Q : zs_Q} (hB : zt_B bf) (h : w_X9_changeTag_134 (zx σ n0 bf) d p0 p1 p4 p7 p9 q0 S Q) : zs_U (zx σ n0 bf) d 8266 134 [(0, .ref p0), (1, .int p1), (4, .int p4), (7, .int p7), (9, .int p9)] [.int q0] S Q := by
  unfold w_X9_changeTag_134 at h
  refine zu_istore d_8266_134 (zs_lt zq_8266 rfl) ?_
  refine zu_aload_n d_8266_136 rfl (zs_ra _) ?_
  obtain ⟨k1, h⟩ := h
  refine zg_8_145 rfl d_8266_137 k1 ?_
  refine zu_aload_n d_8266_140 rfl (zs_ra _) ?_
  refine zg_8_154 rfl d_8266_141 k1 ?_
  refine zu_iload d_8266_144 rfl ?_
  obtain ⟨b2, e3, h⟩ := h
  refine zs_stk1 (zs_rfe e3) ?_
  obtain ⟨k4, h⟩ := h
  refine zu_iald (k := 0) d_8266_146 rfl rfl k4 ?_
  obtain ⟨b5, e6, h⟩ := h
  refine zs_stk1 (zs_rfe e6) ?_
  obtain ⟨k7, h⟩ := h
  refine zu_iald (k := 0) d_8266_147 rfl rfl k7 ?_
  refine zu_istore d_8266_148 (zs_lt zq_8266 rfl) ?_
  refine zu_goto (t := 107) d_8266_150 rfl ?_
  exact h.weak ⟨rfl, rfl, rfl, rfl, rfl, rfl, trivial⟩
def w_X9_changeTag_129 (X : zs_X) (d : Nat) (p0 : Nat) (p1 : Int32) (p4 : Int32) (p7 : Int32) (p9 : Int32) (S : zs_T) (Q : zs_Q) : Prop :=
  (w_X9_changeTag_134 X d p0 p1 p4 p7 p9 (1 : Int32) S Q)
theorem u_X9_changeTag_129 {σ : Nat → Nat} {n0 : Nat} {bf : ab_B} {d : Nat} {p0 : Nat} {p1 : Int32} {p4 : Int32} {p7 : Int32} {p9 : Int32} {S : zs_T} {Q : zs_Q} (hB : zt_B bf) (h : w_X9_changeTag_129 (zx σ n0 bf) d p0 p1 p4 p7 p9 S Q) : zs_U (zx σ n0 bf) d 8266 129 [(0, .ref p0), (1, .int p1), (4, .int p4), (7, .int p7), (9, .int p9)] [] S Q := by
  unfold w_X9_changeTag_129 at h
  refine zu_iconst d_8266_129 zi_1 ?_
  refine zu_goto (t := 134) d_8266_130 rfl ?_
  exact (u_X9_changeTag_134 hB h).weak ⟨rfl, rfl, rfl, rfl, rfl, trivial⟩
def w_X9_changeTag_107 (X : zs_X) (d : Nat) (p0 : Nat) (p1 : Int32) (p4 : Int32) (p7 : Int32) (p8 : Int32) (p9 : Int32) (S : zs_T) (Q : zs_Q) : Prop :=
  (((p9 ≤ 0 → (((p8 = 0 → w_X9_changeTag_183 X d p0 p1 p4 p7 S Q) ∧ (¬ (p8 = 0) → (zs_K S p0 = some (.inl 8) ∧ ∃ b4, (zs_R S 8193 p0) = some b4 ∧ zs_A S b4 0 p1 ∧ ∃ b7, (zs_R S 8118 p0) = some b7 ∧ zs_A S b7 0 p7 ∧ ∃ b10, (zs_R S 8119 p0) = some b10 ∧ zs_A S b10 0 p7 ∧ zs_C X d 8218 [.ref p0, .int ((zs_i S b4 p1.toNatClampNeg) + (zs_i S b7 p7.toNatClampNeg)), .int (zs_i S b10 p7.toNatClampNeg)] S (zs_kV (fun S13 => w_X9_changeTag_183 X d p0 p1 p4 p7 S13 Q) Q)))))) ∧ (¬ (p9 ≤ 0) → (((¬ p8 = 0 → w_X9_changeTag_129 X d p0 p1 p4 p7 p9 S Q) ∧ (¬ (¬ p8 = 0) → (zs_K S p0 = some (.inl 8) ∧ ∃ b17, (zs_R S 8070 p0) = some b17 ∧ zs_A S b17 0 p9 ∧ ((¬ (zs_i S b17 p9.toNatClampNeg) = p4 → (w_X9_changeTag_134 X d p0 p1 p4 p7 p9 (0 : Int32) S Q)) ∧ (¬ (¬ (zs_i S b17 p9.toNatClampNeg) = p4) → w_X9_changeTag_129 X d p0 p1 p4 p7 p9 S Q)))))))))
theorem u_X9_changeTag_107 {σ : Nat → Nat} {n0 : Nat} {bf : ab_B} {d : Nat} {p0 : Nat} {p1 : Int32} {p4 : Int32} {p7 : Int32} {p8 : Int32} {p9 : Int32} {S : zs_T} {Q : zs_Q} (hB : zt_B bf) (h : w_X9_changeTag_107 (zx σ n0 bf) d p0 p1 p4 p7 p8 p9 S Q) : zs_U (zx σ n0 bf) d 8266 107 [(0, .ref p0), (1, .int p1), (4, .int p4), (7, .int p7), (8, .int p8), (9, .int p9)] [] S Q := by
  unfold w_X9_changeTag_107 at h
  refine zu_iload d_8266_107 rfl ?_
  refine zu_ifle (t := 153) d_8266_109 rfl (fun c1 => ?_) (fun c1 => ?_)
  · have h := h.1 c1
    refine zu_iload d_8266_153 rfl ?_
    refine zu_ifeq (t := 183) d_8266_155 rfl (fun c2 => ?_) (fun c2 => ?_)
    · have h := h.1 c2
      exact (u_X9_changeTag_183 hB h).weak ⟨rfl, rfl, rfl, rfl, trivial⟩
    · have h := h.2 c2
      refine zu_aload_n d_8266_158 rfl (zs_ra _) ?_
      refine zu_aload_n d_8266_159 rfl (zs_ra _) ?_
      obtain ⟨k3, h⟩ := h
      refine zg_8_422 rfl d_8266_160 k3 ?_
      refine zu_iload_n d_8266_163 rfl ?_
      obtain ⟨b4, e5, h⟩ := h
      refine zs_stk1 (zs_rfe e5) ?_
      obtain ⟨k6, h⟩ := h
      refine zu_iald (k := 0) d_8266_164 rfl rfl k6 ?_
      refine zu_aload_n d_8266_165 rfl (zs_ra _) ?_
      refine zg_8_257 rfl d_8266_166 k3 ?_
      refine zu_iload d_8266_169 rfl ?_
      obtain ⟨b7, e8, h⟩ := h
      refine zs_stk1 (zs_rfe e8) ?_
      obtain ⟨k9, h⟩ := h
      refine zu_iald (k := 0) d_8266_171 rfl rfl k9 ?_
      refine zu_stk d_8266_172 rfl rfl ?_
      refine zu_aload_n d_8266_173 rfl (zs_ra _) ?_
      refine zg_8_260 rfl d_8266_174 k3 ?_
      refine zu_iload d_8266_177 rfl ?_
      obtain ⟨b10, e11, h⟩ := h
      refine zs_stk1 (zs_rfe e11) ?_
      obtain ⟨k12, h⟩ := h
      refine zu_iald (k := 0) d_8266_179 rfl rfl k12 ?_
      refine zc_8_1345 (x0 := ((zs_i S b4 p1.toNatClampNeg) + (zs_i S b7 p7.toNatClampNeg))) (x1 := (zs_i S b10 p7.toNatClampNeg)) hB rfl k3 d_8266_180 (Nat.le_of_ble_eq_true rfl) h (fun S13 h => ?_)
      exact (u_X9_changeTag_183 hB h).weak ⟨rfl, rfl, rfl, rfl, trivial⟩
  · have h := h.2 c1
    refine zu_iload d_8266_112 rfl ?_
    refine zu_ifne (t := 129) d_8266_114 rfl (fun c15 => ?_) (fun c15 => ?_)
    · have h := h.1 c15
      exact (u_X9_changeTag_129 hB h).weak ⟨rfl, rfl, rfl, rfl, rfl, trivial⟩
    · have h := h.2 c15
      refine zu_aload_n d_8266_117 rfl (zs_ra _) ?_
      obtain ⟨k16, h⟩ := h
      refine zg_8_154 rfl d_8266_118 k16 ?_
      refine zu_iload d_8266_121 rfl ?_
      obtain ⟨b17, e18, h⟩ := h
      refine zs_stk1 (zs_rfe e18) ?_
      obtain ⟨k19, h⟩ := h
      refine zu_iald (k := 0) d_8266_123 rfl rfl k19 ?_
      refine zu_iload d_8266_124 rfl ?_
      refine zu_cmpne (t := 133) d_8266_126 rfl (fun c20 => ?_) (fun c20 => ?_)
      · have h := h.1 c20
        refine zu_iconst d_8266_133 zi_0 ?_
        exact (u_X9_changeTag_134 hB h).weak ⟨rfl, rfl, rfl, rfl, rfl, trivial⟩
      · have h := h.2 c20
        exact (u_X9_changeTag_129 hB h).weak ⟨rfl, rfl, rfl, rfl, rfl, trivial⟩
def w_X9_changeTag (X : zs_X) (d : Nat) (p0 : Nat) (p1 : Int32) (p2 : Int64) (S : zs_T) (Q : zs_Q) : Prop :=
  (zs_K S p0 = some (.inl 8) ∧ ∃ b2, (zs_R S 8192 p0) = some b2 ∧ zs_A S b2 0 p1 ∧ ∃ b5, (zs_R S 8189 p0) = some b5 ∧ zs_A S b5 0 p1 ∧ ∃ b8, (zs_R S 8190 p0) = some b8 ∧ zs_A S b8 0 p1 ∧ zs_C X d 8238 [.ref p0, .int (zs_i S b5 p1.toNatClampNeg), .int (zs_i S b8 p1.toNatClampNeg)] S (zs_kI (fun v12 S11 => (((v12 = 0 → w_X9_changeTag_55 X d p0 p1 (zs_i S b2 p1.toNatClampNeg) S11 Q) ∧ (¬ (v12 = 0) → w_X9_changeTag_31 X d p0 p1 p2 (zs_i S b2 p1.toNatClampNeg) (zs_i S b5 p1.toNatClampNeg) S11 Q)))) Q))
theorem u_X9_changeTag {σ : Nat → Nat} {n0 : Nat} {bf : ab_B} {d : Nat} {p0 : Nat} {p1 : Int32} {p2 : Int64} {S : zs_T} {Q : zs_Q} (hB : zt_B bf) (hd : 1 ≤ d) (h : w_X9_changeTag (zx σ n0 bf) (d - 1) p0 p1 p2 S Q) : zs_C (zx σ n0 bf) d 8266 [.ref p0, .int p1, .long p2] S Q := by
  have hL : lv_args 0 [.ref p0, .int p1, .long p2] = [(0, .ref p0), (1, .int p1), (2, .long p2)] := rfl
  refine zs_C.of1 (hB.2 8266 (by decide) (by decide)) hd (by rw [hL]; exact zs_sub_self _ (by exact ⟨rfl, rfl, rfl, trivial⟩)) ?_
  rw [hL]
  clear hL
  unfold w_X9_changeTag at h
  refine zu_aload_n d_8266_0 rfl (zs_ra _) ?_
  obtain ⟨k1, h⟩ := h
  refine zg_8_419 rfl d_8266_1 k1 ?_
  refine zu_iload_n d_8266_4 rfl ?_
  obtain ⟨b2, e3, h⟩ := h
  refine zs_stk1 (zs_rfe e3) ?_
  obtain ⟨k4, h⟩ := h
  refine zu_iald (k := 0) d_8266_5 rfl rfl k4 ?_
  refine zu_istore d_8266_6 (zs_lt zq_8266 rfl) ?_
  refine zu_aload_n d_8266_8 rfl (zs_ra _) ?_
  refine zg_8_409 rfl d_8266_9 k1 ?_
  refine zu_iload_n d_8266_12 rfl ?_
  obtain ⟨b5, e6, h⟩ := h
  refine zs_stk1 (zs_rfe e6) ?_
  obtain ⟨k7, h⟩ := h
  refine zu_iald (k := 0) d_8266_13 rfl rfl k7 ?_
  refine zu_istore d_8266_14 (zs_lt zq_8266 rfl) ?_
  refine zu_aload_n d_8266_16 rfl (zs_ra _) ?_
  refine zu_iload d_8266_17 rfl ?_
  refine zu_aload_n d_8266_19 rfl (zs_ra _) ?_
  refine zg_8_412 rfl d_8266_20 k1 ?_
  refine zu_iload_n d_8266_23 rfl ?_
  obtain ⟨b8, e9, h⟩ := h
  refine zs_stk1 (zs_rfe e9) ?_
  obtain ⟨k10, h⟩ := h
  refine zu_iald (k := 0) d_8266_24 rfl rfl k10 ?_
  refine zc_8_1294 (x0 := (zs_i S b5 p1.toNatClampNeg)) (x1 := (zs_i S b8 p1.toNatClampNeg)) hB rfl k1 d_8266_25 (Nat.le_of_ble_eq_true rfl) h (fun v12 S11 h => ?_)
  refine zu_ifeq (t := 55) d_8266_28 rfl (fun c13 => ?_) (fun c13 => ?_)
  · have h := h.1 c13
    exact (u_X9_changeTag_55 hB h).weak ⟨rfl, rfl, rfl, trivial⟩
  · have h := h.2 c13
    exact (u_X9_changeTag_31 hB h).weak ⟨rfl, rfl, rfl, rfl, rfl, trivial⟩
/-! SchemaPascalModel.putTextAt(III)V -/
theorem zm_8267 {σ : Nat → Nat} {n0 : Nat} {bf : ab_B} : ab_code (zx σ n0 bf).1 8267 = prog_17_method_232_code := rfl
theorem zq_8267 {σ : Nat → Nat} {n0 : Nat} {bf : ab_B} : ab_maxL (zx σ n0 bf).1 8267 = 8 := rfl
theorem zr_8267 {σ : Nat → Nat} {n0 : Nat} {bf : ab_B} : ab_ret (zx σ n0 bf).1 8267 = (Option.none : Option Jvm.ClassFile.FieldType) := rfl
theorem d_8267_0 {σ : Nat → Nat} {n0 : Nat} {bf : ab_B} : decode (ab_code (zx σ n0 bf).1 8267) 0 = .ok (.aload_n 0, 1) := zd zm_8267 (by decide +kernel)
theorem d_8267_1 {σ : Nat → Nat} {n0 : Nat} {bf : ab_B} : decode (ab_code (zx σ n0 bf).1 8267) 1 = .ok (.aload_n 0, 1) := zd zm_8267 (by decide +kernel)
theorem d_8267_2 {σ : Nat → Nat} {n0 : Nat} {bf : ab_B} : decode (ab_code (zx σ n0 bf).1 8267) 2 = .ok (.getfield 1264, 3) := zd zm_8267 (by decide +kernel)
theorem d_8267_5 {σ : Nat → Nat} {n0 : Nat} {bf : ab_B} : decode (ab_code (zx σ n0 bf).1 8267) 5 = .ok (.iconst 1, 1) := zd zm_8267 (by decide +kernel)
theorem d_8267_6 {σ : Nat → Nat} {n0 : Nat} {bf : ab_B} : decode (ab_code (zx σ n0 bf).1 8267) 6 = .ok (.isub, 1) := zd zm_8267 (by decide +kernel)
theorem d_8267_7 {σ : Nat → Nat} {n0 : Nat} {bf : ab_B} : decode (ab_code (zx σ n0 bf).1 8267) 7 = .ok (.invokevirtual 1317, 3) := zd zm_8267 (by decide +kernel)
theorem d_8267_10 {σ : Nat → Nat} {n0 : Nat} {bf : ab_B} : decode (ab_code (zx σ n0 bf).1 8267) 10 = .ok (.istore 4, 2) := zd zm_8267 (by decide +kernel)
theorem d_8267_12 {σ : Nat → Nat} {n0 : Nat} {bf : ab_B} : decode (ab_code (zx σ n0 bf).1 8267) 12 = .ok (.aload_n 0, 1) := zd zm_8267 (by decide +kernel)
theorem d_8267_13 {σ : Nat → Nat} {n0 : Nat} {bf : ab_B} : decode (ab_code (zx σ n0 bf).1 8267) 13 = .ok (.iload_n 1, 1) := zd zm_8267 (by decide +kernel)
theorem d_8267_14 {σ : Nat → Nat} {n0 : Nat} {bf : ab_B} : decode (ab_code (zx σ n0 bf).1 8267) 14 = .ok (.invokevirtual 795, 3) := zd zm_8267 (by decide +kernel)
theorem d_8267_17 {σ : Nat → Nat} {n0 : Nat} {bf : ab_B} : decode (ab_code (zx σ n0 bf).1 8267) 17 = .ok (.lstore 5, 2) := zd zm_8267 (by decide +kernel)
theorem d_8267_19 {σ : Nat → Nat} {n0 : Nat} {bf : ab_B} : decode (ab_code (zx σ n0 bf).1 8267) 19 = .ok (.iload 4, 2) := zd zm_8267 (by decide +kernel)
theorem d_8267_21 {σ : Nat → Nat} {n0 : Nat} {bf : ab_B} : decode (ab_code (zx σ n0 bf).1 8267) 21 = .ok (.i2l, 1) := zd zm_8267 (by decide +kernel)
theorem d_8267_22 {σ : Nat → Nat} {n0 : Nat} {bf : ab_B} : decode (ab_code (zx σ n0 bf).1 8267) 22 = .ok (.lload 5, 2) := zd zm_8267 (by decide +kernel)
theorem d_8267_24 {σ : Nat → Nat} {n0 : Nat} {bf : ab_B} : decode (ab_code (zx σ n0 bf).1 8267) 24 = .ok (.lcmp, 1) := zd zm_8267 (by decide +kernel)
theorem d_8267_25 {σ : Nat → Nat} {n0 : Nat} {bf : ab_B} : decode (ab_code (zx σ n0 bf).1 8267) 25 = .ok (.ifCond .le 12, 3) := zd zm_8267 (by decide +kernel)
theorem d_8267_28 {σ : Nat → Nat} {n0 : Nat} {bf : ab_B} : decode (ab_code (zx σ n0 bf).1 8267) 28 = .ok (.aload_n 0, 1) := zd zm_8267 (by decide +kernel)
theorem d_8267_29 {σ : Nat → Nat} {n0 : Nat} {bf : ab_B} : decode (ab_code (zx σ n0 bf).1 8267) 29 = .ok (.iconst 2, 1) := zd zm_8267 (by decide +kernel)
theorem d_8267_30 {σ : Nat → Nat} {n0 : Nat} {bf : ab_B} : decode (ab_code (zx σ n0 bf).1 8267) 30 = .ok (.iload_n 3, 1) := zd zm_8267 (by decide +kernel)
theorem d_8267_31 {σ : Nat → Nat} {n0 : Nat} {bf : ab_B} : decode (ab_code (zx σ n0 bf).1 8267) 31 = .ok (.invokevirtual 1297, 3) := zd zm_8267 (by decide +kernel)
theorem d_8267_34 {σ : Nat → Nat} {n0 : Nat} {bf : ab_B} : decode (ab_code (zx σ n0 bf).1 8267) 34 = .ok (.goto 77, 3) := zd zm_8267 (by decide +kernel)
theorem d_8267_37 {σ : Nat → Nat} {n0 : Nat} {bf : ab_B} : decode (ab_code (zx σ n0 bf).1 8267) 37 = .ok (.aload_n 0, 1) := zd zm_8267 (by decide +kernel)
theorem d_8267_38 {σ : Nat → Nat} {n0 : Nat} {bf : ab_B} : decode (ab_code (zx σ n0 bf).1 8267) 38 = .ok (.iload_n 2, 1) := zd zm_8267 (by decide +kernel)
theorem d_8267_39 {σ : Nat → Nat} {n0 : Nat} {bf : ab_B} : decode (ab_code (zx σ n0 bf).1 8267) 39 = .ok (.iload 4, 2) := zd zm_8267 (by decide +kernel)
theorem d_8267_41 {σ : Nat → Nat} {n0 : Nat} {bf : ab_B} : decode (ab_code (zx σ n0 bf).1 8267) 41 = .ok (.i2l, 1) := zd zm_8267 (by decide +kernel)
theorem d_8267_42 {σ : Nat → Nat} {n0 : Nat} {bf : ab_B} : decode (ab_code (zx σ n0 bf).1 8267) 42 = .ok (.ldc_w 1339, 3) := zd zm_8267 (by decide +kernel)
theorem d_8267_45 {σ : Nat → Nat} {n0 : Nat} {bf : ab_B} : decode (ab_code (zx σ n0 bf).1 8267) 45 = .ok (.invokevirtual 1341, 3) := zd zm_8267 (by decide +kernel)
theorem d_8267_48 {σ : Nat → Nat} {n0 : Nat} {bf : ab_B} : decode (ab_code (zx σ n0 bf).1 8267) 48 = .ok (.aload_n 0, 1) := zd zm_8267 (by decide +kernel)
theorem d_8267_49 {σ : Nat → Nat} {n0 : Nat} {bf : ab_B} : decode (ab_code (zx σ n0 bf).1 8267) 49 = .ok (.iload_n 2, 1) := zd zm_8267 (by decide +kernel)
theorem d_8267_50 {σ : Nat → Nat} {n0 : Nat} {bf : ab_B} : decode (ab_code (zx σ n0 bf).1 8267) 50 = .ok (.iconst 1, 1) := zd zm_8267 (by decide +kernel)
theorem d_8267_51 {σ : Nat → Nat} {n0 : Nat} {bf : ab_B} : decode (ab_code (zx σ n0 bf).1 8267) 51 = .ok (.iadd, 1) := zd zm_8267 (by decide +kernel)
theorem d_8267_52 {σ : Nat → Nat} {n0 : Nat} {bf : ab_B} : decode (ab_code (zx σ n0 bf).1 8267) 52 = .ok (.lload 5, 2) := zd zm_8267 (by decide +kernel)
theorem d_8267_54 {σ : Nat → Nat} {n0 : Nat} {bf : ab_B} : decode (ab_code (zx σ n0 bf).1 8267) 54 = .ok (.l2i, 1) := zd zm_8267 (by decide +kernel)
theorem d_8267_55 {σ : Nat → Nat} {n0 : Nat} {bf : ab_B} : decode (ab_code (zx σ n0 bf).1 8267) 55 = .ok (.invokevirtual 1345, 3) := zd zm_8267 (by decide +kernel)
theorem d_8267_58 {σ : Nat → Nat} {n0 : Nat} {bf : ab_B} : decode (ab_code (zx σ n0 bf).1 8267) 58 = .ok (.iconst 0, 1) := zd zm_8267 (by decide +kernel)
theorem d_8267_59 {σ : Nat → Nat} {n0 : Nat} {bf : ab_B} : decode (ab_code (zx σ n0 bf).1 8267) 59 = .ok (.istore 7, 2) := zd zm_8267 (by decide +kernel)
theorem d_8267_61 {σ : Nat → Nat} {n0 : Nat} {bf : ab_B} : decode (ab_code (zx σ n0 bf).1 8267) 61 = .ok (.iload 7, 2) := zd zm_8267 (by decide +kernel)
theorem d_8267_63 {σ : Nat → Nat} {n0 : Nat} {bf : ab_B} : decode (ab_code (zx σ n0 bf).1 8267) 63 = .ok (.iload 4, 2) := zd zm_8267 (by decide +kernel)
theorem d_8267_65 {σ : Nat → Nat} {n0 : Nat} {bf : ab_B} : decode (ab_code (zx σ n0 bf).1 8267) 65 = .ok (.if_icmp .ge 46, 3) := zd zm_8267 (by decide +kernel)
theorem d_8267_68 {σ : Nat → Nat} {n0 : Nat} {bf : ab_B} : decode (ab_code (zx σ n0 bf).1 8267) 68 = .ok (.aload_n 0, 1) := zd zm_8267 (by decide +kernel)
theorem d_8267_69 {σ : Nat → Nat} {n0 : Nat} {bf : ab_B} : decode (ab_code (zx σ n0 bf).1 8267) 69 = .ok (.iload_n 2, 1) := zd zm_8267 (by decide +kernel)
theorem d_8267_70 {σ : Nat → Nat} {n0 : Nat} {bf : ab_B} : decode (ab_code (zx σ n0 bf).1 8267) 70 = .ok (.iconst 1, 1) := zd zm_8267 (by decide +kernel)
theorem d_8267_71 {σ : Nat → Nat} {n0 : Nat} {bf : ab_B} : decode (ab_code (zx σ n0 bf).1 8267) 71 = .ok (.iadd, 1) := zd zm_8267 (by decide +kernel)
theorem d_8267_72 {σ : Nat → Nat} {n0 : Nat} {bf : ab_B} : decode (ab_code (zx σ n0 bf).1 8267) 72 = .ok (.iload 7, 2) := zd zm_8267 (by decide +kernel)
theorem d_8267_74 {σ : Nat → Nat} {n0 : Nat} {bf : ab_B} : decode (ab_code (zx σ n0 bf).1 8267) 74 = .ok (.iadd, 1) := zd zm_8267 (by decide +kernel)
theorem d_8267_75 {σ : Nat → Nat} {n0 : Nat} {bf : ab_B} : decode (ab_code (zx σ n0 bf).1 8267) 75 = .ok (.aload_n 0, 1) := zd zm_8267 (by decide +kernel)
theorem d_8267_76 {σ : Nat → Nat} {n0 : Nat} {bf : ab_B} : decode (ab_code (zx σ n0 bf).1 8267) 76 = .ok (.getfield 402, 3) := zd zm_8267 (by decide +kernel)
theorem d_8267_79 {σ : Nat → Nat} {n0 : Nat} {bf : ab_B} : decode (ab_code (zx σ n0 bf).1 8267) 79 = .ok (.aload_n 0, 1) := zd zm_8267 (by decide +kernel)
theorem d_8267_80 {σ : Nat → Nat} {n0 : Nat} {bf : ab_B} : decode (ab_code (zx σ n0 bf).1 8267) 80 = .ok (.getfield 405, 3) := zd zm_8267 (by decide +kernel)
theorem d_8267_83 {σ : Nat → Nat} {n0 : Nat} {bf : ab_B} : decode (ab_code (zx σ n0 bf).1 8267) 83 = .ok (.aload_n 0, 1) := zd zm_8267 (by decide +kernel)
theorem d_8267_84 {σ : Nat → Nat} {n0 : Nat} {bf : ab_B} : decode (ab_code (zx σ n0 bf).1 8267) 84 = .ok (.getfield 1264, 3) := zd zm_8267 (by decide +kernel)
theorem d_8267_87 {σ : Nat → Nat} {n0 : Nat} {bf : ab_B} : decode (ab_code (zx σ n0 bf).1 8267) 87 = .ok (.iconst 1, 1) := zd zm_8267 (by decide +kernel)
theorem d_8267_88 {σ : Nat → Nat} {n0 : Nat} {bf : ab_B} : decode (ab_code (zx σ n0 bf).1 8267) 88 = .ok (.isub, 1) := zd zm_8267 (by decide +kernel)
theorem d_8267_89 {σ : Nat → Nat} {n0 : Nat} {bf : ab_B} : decode (ab_code (zx σ n0 bf).1 8267) 89 = .ok (.iaload, 1) := zd zm_8267 (by decide +kernel)
theorem d_8267_90 {σ : Nat → Nat} {n0 : Nat} {bf : ab_B} : decode (ab_code (zx σ n0 bf).1 8267) 90 = .ok (.iload 7, 2) := zd zm_8267 (by decide +kernel)
theorem d_8267_92 {σ : Nat → Nat} {n0 : Nat} {bf : ab_B} : decode (ab_code (zx σ n0 bf).1 8267) 92 = .ok (.iadd, 1) := zd zm_8267 (by decide +kernel)
theorem d_8267_93 {σ : Nat → Nat} {n0 : Nat} {bf : ab_B} : decode (ab_code (zx σ n0 bf).1 8267) 93 = .ok (.baload, 1) := zd zm_8267 (by decide +kernel)
theorem d_8267_94 {σ : Nat → Nat} {n0 : Nat} {bf : ab_B} : decode (ab_code (zx σ n0 bf).1 8267) 94 = .ok (.sipush 255, 3) := zd zm_8267 (by decide +kernel)
theorem d_8267_97 {σ : Nat → Nat} {n0 : Nat} {bf : ab_B} : decode (ab_code (zx σ n0 bf).1 8267) 97 = .ok (.iand, 1) := zd zm_8267 (by decide +kernel)
theorem d_8267_98 {σ : Nat → Nat} {n0 : Nat} {bf : ab_B} : decode (ab_code (zx σ n0 bf).1 8267) 98 = .ok (.i2l, 1) := zd zm_8267 (by decide +kernel)
theorem d_8267_99 {σ : Nat → Nat} {n0 : Nat} {bf : ab_B} : decode (ab_code (zx σ n0 bf).1 8267) 99 = .ok (.ldc_w 1340, 3) := zd zm_8267 (by decide +kernel)
theorem d_8267_102 {σ : Nat → Nat} {n0 : Nat} {bf : ab_B} : decode (ab_code (zx σ n0 bf).1 8267) 102 = .ok (.invokevirtual 1341, 3) := zd zm_8267 (by decide +kernel)
theorem d_8267_105 {σ : Nat → Nat} {n0 : Nat} {bf : ab_B} : decode (ab_code (zx σ n0 bf).1 8267) 105 = .ok (.iinc 7 1, 3) := zd zm_8267 (by decide +kernel)
theorem d_8267_108 {σ : Nat → Nat} {n0 : Nat} {bf : ab_B} : decode (ab_code (zx σ n0 bf).1 8267) 108 = .ok (.goto (-47), 3) := zd zm_8267 (by decide +kernel)
theorem d_8267_111 {σ : Nat → Nat} {n0 : Nat} {bf : ab_B} : decode (ab_code (zx σ n0 bf).1 8267) 111 = .ok (.aload_n 0, 1) := zd zm_8267 (by decide +kernel)
theorem d_8267_112 {σ : Nat → Nat} {n0 : Nat} {bf : ab_B} : decode (ab_code (zx σ n0 bf).1 8267) 112 = .ok (.invokevirtual 1323, 3) := zd zm_8267 (by decide +kernel)
theorem d_8267_115 {σ : Nat → Nat} {n0 : Nat} {bf : ab_B} : decode (ab_code (zx σ n0 bf).1 8267) 115 = .ok (.return_, 1) := zd zm_8267 (by decide +kernel)
def w_X9_putTextAt_111 (X : zs_X) (d : Nat) (p0 : Nat) (S : zs_T) (Q : zs_Q) : Prop :=
  (zs_K S p0 = some (.inl 8) ∧ zs_C X d 8228 [.ref p0] S (zs_kV (fun S2 => (Q (.returned none) S2)) Q))
theorem u_X9_putTextAt_111 {σ : Nat → Nat} {n0 : Nat} {bf : ab_B} {d : Nat} {p0 : Nat} {S : zs_T} {Q : zs_Q} (hB : zt_B bf) (h : w_X9_putTextAt_111 (zx σ n0 bf) d p0 S Q) : zs_U (zx σ n0 bf) d 8267 111 [(0, .ref p0)] [] S Q := by
  unfold w_X9_putTextAt_111 at h
  refine zu_aload_n d_8267_111 rfl (zs_ra _) ?_
  obtain ⟨k1, h⟩ := h
  refine zc_8_1323  hB rfl k1 d_8267_112 (Nat.le_of_ble_eq_true rfl) h (fun S2 h => ?_)
  exact zu_vret d_8267_115 zr_8267 h
def w_X9_putTextAt_28 (X : zs_X) (d : Nat) (p0 : Nat) (p3 : Int32) (S : zs_T) (Q : zs_Q) : Prop :=
  (zs_K S p0 = some (.inl 8) ∧ zs_C X d 8208 [.ref p0, .int (2 : Int32), .int p3] S (zs_kV (fun S2 => (w_X9_putTextAt_111 X d p0 S2 Q)) Q))
theorem u_X9_putTextAt_28 {σ : Nat → Nat} {n0 : Nat} {bf : ab_B} {d : Nat} {p0 : Nat} {p3 : Int32} {S : zs_T} {Q : zs_Q} (hB : zt_B bf) (h : w_X9_putTextAt_28 (zx σ n0 bf) d p0 p3 S Q) : zs_U (zx σ n0 bf) d 8267 28 [(0, .ref p0), (3, .int p3)] [] S Q := by
  unfold w_X9_putTextAt_28 at h
  refine zu_aload_n d_8267_28 rfl (zs_ra _) ?_
  refine zu_iconst d_8267_29 zi_2 ?_
  refine zu_iload_n d_8267_30 rfl ?_
  obtain ⟨k1, h⟩ := h
  refine zc_8_1297 (x0 := (2 : Int32)) (x1 := p3) hB rfl k1 d_8267_31 (Nat.le_of_ble_eq_true rfl) h (fun S2 h => ?_)
  refine zu_goto (t := 111) d_8267_34 rfl ?_
  exact (u_X9_putTextAt_111 hB h).weak ⟨rfl, trivial⟩
def w_X9_putTextAt_37 (X : zs_X) (d : Nat) (p0 : Nat) (p2 : Int32) (p4 : Int32) (p5 : Int64) (S : zs_T) (Q : zs_Q) : Prop :=
  (zs_K S p0 = some (.inl 8) ∧ zs_C X d 8221 [.ref p0, .int p2, .long ((p4).toInt64), .int (300000 : Int32)] S (zs_kV (fun S2 => (zs_K S2 p0 = some (.inl 8) ∧ zs_C X d 8218 [.ref p0, .int (p2 + (1 : Int32)), .int ((p5).toInt32)] S2 (zs_kV (fun S5 => (zs_U X d 8267 61 [(0, .ref p0), (2, .int p2), (4, .int p4), (7, .int (0 : Int32))] [] S5 Q)) Q))) Q))
theorem u_X9_putTextAt_37 {σ : Nat → Nat} {n0 : Nat} {bf : ab_B} {d : Nat} {p0 : Nat} {p2 : Int32} {p4 : Int32} {p5 : Int64} {S : zs_T} {Q : zs_Q} (hB : zt_B bf) (h : w_X9_putTextAt_37 (zx σ n0 bf) d p0 p2 p4 p5 S Q) : zs_U (zx σ n0 bf) d 8267 37 [(0, .ref p0), (2, .int p2), (4, .int p4), (5, .long p5)] [] S Q := by
  unfold w_X9_putTextAt_37 at h
  refine zu_aload_n d_8267_37 rfl (zs_ra _) ?_
  refine zu_iload_n d_8267_38 rfl ?_
  refine zu_iload d_8267_39 rfl ?_
  refine zu_stk d_8267_41 rfl rfl ?_
  refine zlw_8_1339 rfl d_8267_42 ?_
  obtain ⟨k1, h⟩ := h
  refine zc_8_1341 (x0 := p2) (x1 := ((p4).toInt64)) (x2 := (300000 : Int32)) hB rfl k1 d_8267_45 (Nat.le_of_ble_eq_true rfl) h (fun S2 h => ?_)
  refine zu_aload_n d_8267_48 rfl (zs_ra _) ?_
  refine zu_iload_n d_8267_49 rfl ?_
  refine zu_iconst d_8267_50 zi_1 ?_
  refine zu_stk d_8267_51 rfl rfl ?_
  refine zu_lload d_8267_52 rfl ?_
  refine zu_stk d_8267_54 rfl rfl ?_
  obtain ⟨k4, h⟩ := h
  refine zc_8_1345 (x0 := (p2 + (1 : Int32))) (x1 := ((p5).toInt32)) hB rfl k4 d_8267_55 (Nat.le_of_ble_eq_true rfl) h (fun S5 h => ?_)
  refine zu_iconst d_8267_58 zi_0 ?_
  refine zu_istore d_8267_59 (zs_lt zq_8267 rfl) ?_
  exact h.weak ⟨rfl, rfl, rfl, rfl, trivial⟩
def w_X9_putTextAt_105 (X : zs_X) (d : Nat) (p0 : Nat) (p2 : Int32) (p4 : Int32) (p7 : Int32) (S : zs_T) (Q : zs_Q) : Prop :=
  (zs_U X d 8267 61 [(0, .ref p0), (2, .int p2), (4, .int p4), (7, .int (p7 + (1 : Int32)))] [] S Q)
theorem u_X9_putTextAt_105 {σ : Nat → Nat} {n0 : Nat} {bf : ab_B} {d : Nat} {p0 : Nat} {p2 : Int32} {p4 : Int32} {p7 : Int32} {S : zs_T} {Q : zs_Q} (hB : zt_B bf) (h : w_X9_putTextAt_105 (zx σ n0 bf) d p0 p2 p4 p7 S Q) : zs_U (zx σ n0 bf) d 8267 105 [(0, .ref p0), (2, .int p2), (4, .int p4), (7, .int p7)] [] S Q := by
  unfold w_X9_putTextAt_105 at h
  refine zu_iinc d_8267_105 rfl zi_1 (zs_lt zq_8267 rfl) ?_
  refine zu_goto (t := 61) d_8267_108 rfl ?_
  exact h.weak ⟨rfl, rfl, rfl, rfl, trivial⟩
def w_X9_putTextAt_61 (X : zs_X) (d : Nat) (p0 : Nat) (p2 : Int32) (p4 : Int32) (p7 : Int32) (S : zs_T) (Q : zs_Q) : Prop :=
  (((p4 ≤ p7 → w_X9_putTextAt_111 X d p0 S Q) ∧ (¬ (p4 ≤ p7) → (zs_K S p0 = some (.inl 8) ∧ ∃ b3, (zs_R S 8186 p0) = some b3 ∧ zs_A S b3 0 ((zs_I S 8187 p0) - (1 : Int32)) ∧ ∃ b6, (zs_R S 8185 p0) = some b6 ∧ zs_A S b6 1 ((zs_i S b3 ((zs_I S 8187 p0) - (1 : Int32)).toNatClampNeg) + p7) ∧ zs_C X d 8221 [.ref p0, .int ((p2 + (1 : Int32)) + p7), .long ((((zs_i S b6 ((zs_i S b3 ((zs_I S 8187 p0) - (1 : Int32)).toNatClampNeg) + p7).toNatClampNeg) &&& (255 : Int32))).toInt64), .int (300001 : Int32)] S (zs_kV (fun S9 => w_X9_putTextAt_105 X d p0 p2 p4 p7 S9 Q) Q)))))
theorem u_X9_putTextAt_61 {σ : Nat → Nat} {n0 : Nat} {bf : ab_B} {d : Nat} {p0 : Nat} {p2 : Int32} {p4 : Int32} {p7 : Int32} {S : zs_T} {Q : zs_Q} (hB : zt_B bf) (h : w_X9_putTextAt_61 (zx σ n0 bf) d p0 p2 p4 p7 S Q) : zs_U (zx σ n0 bf) d 8267 61 [(0, .ref p0), (2, .int p2), (4, .int p4), (7, .int p7)] [] S Q := by
  unfold w_X9_putTextAt_61 at h
  refine zu_iload d_8267_61 rfl ?_
  refine zu_iload d_8267_63 rfl ?_
  refine zu_cmpge (t := 111) d_8267_65 rfl (fun c1 => ?_) (fun c1 => ?_)
  · have h := h.1 c1
    exact (u_X9_putTextAt_111 hB h).weak ⟨rfl, trivial⟩
  · have h := h.2 c1
    refine zu_aload_n d_8267_68 rfl (zs_ra _) ?_
    refine zu_iload_n d_8267_69 rfl ?_
    refine zu_iconst d_8267_70 zi_1 ?_
    refine zu_stk d_8267_71 rfl rfl ?_
    refine zu_iload d_8267_72 rfl ?_
    refine zu_stk d_8267_74 rfl rfl ?_
    refine zu_aload_n d_8267_75 rfl (zs_ra _) ?_
    obtain ⟨k2, h⟩ := h
    refine zg_8_402 rfl d_8267_76 k2 ?_
    refine zu_aload_n d_8267_79 rfl (zs_ra _) ?_
    refine zg_8_405 rfl d_8267_80 k2 ?_
    refine zu_aload_n d_8267_83 rfl (zs_ra _) ?_
    refine zg_8_1264 rfl d_8267_84 k2 ?_
    refine zu_iconst d_8267_87 zi_1 ?_
    refine zu_stk d_8267_88 rfl rfl ?_
    obtain ⟨b3, e4, h⟩ := h
    refine zs_stk1 (zs_rfe e4) ?_
    obtain ⟨k5, h⟩ := h
    refine zu_iald (k := 0) d_8267_89 rfl rfl k5 ?_
    refine zu_iload d_8267_90 rfl ?_
    refine zu_stk d_8267_92 rfl rfl ?_
    obtain ⟨b6, e7, h⟩ := h
    refine zs_stk1 (zs_rfe e7) ?_
    obtain ⟨k8, h⟩ := h
    refine zu_bald (k := 1) d_8267_93 rfl (Or.inl rfl) k8 ?_
    refine zu_sipush d_8267_94 zh_255 ?_
    refine zu_stk d_8267_97 rfl rfl ?_
    refine zu_stk d_8267_98 rfl rfl ?_
    refine zlw_8_1340 rfl d_8267_99 ?_
    refine zc_8_1341 (x0 := ((p2 + (1 : Int32)) + p7)) (x1 := ((((zs_i S b6 ((zs_i S b3 ((zs_I S 8187 p0) - (1 : Int32)).toNatClampNeg) + p7).toNatClampNeg) &&& (255 : Int32))).toInt64)) (x2 := (300001 : Int32)) hB rfl k2 d_8267_102 (Nat.le_of_ble_eq_true rfl) h (fun S9 h => ?_)
    exact (u_X9_putTextAt_105 hB h).weak ⟨rfl, rfl, rfl, rfl, trivial⟩
def w_X9_putTextAt (X : zs_X) (d : Nat) (p0 : Nat) (p1 : Int32) (p2 : Int32) (p3 : Int32) (S : zs_T) (Q : zs_Q) : Prop :=
  (zs_K S p0 = some (.inl 8) ∧ zs_C X d 8223 [.ref p0, .int ((zs_I S 8187 p0) - (1 : Int32))] S (zs_kI (fun v3 S2 => (zs_K S2 p0 = some (.inl 8) ∧ zs_C X d 8122 [.ref p0, .int p1] S2 (zs_kJ (fun v6 S5 => (((((v3).toInt64) ≤ v6 → w_X9_putTextAt_37 X d p0 p2 v3 v6 S5 Q) ∧ (¬ (((v3).toInt64) ≤ v6) → w_X9_putTextAt_28 X d p0 p3 S5 Q)))) Q))) Q))
theorem u_X9_putTextAt {σ : Nat → Nat} {n0 : Nat} {bf : ab_B} {d : Nat} {p0 : Nat} {p1 : Int32} {p2 : Int32} {p3 : Int32} {S : zs_T} {Q : zs_Q} (hB : zt_B bf) (hd : 1 ≤ d) (h : w_X9_putTextAt (zx σ n0 bf) (d - 1) p0 p1 p2 p3 S Q) : zs_C (zx σ n0 bf) d 8267 [.ref p0, .int p1, .int p2, .int p3] S Q := by
  have hL : lv_args 0 [.ref p0, .int p1, .int p2, .int p3] = [(0, .ref p0), (1, .int p1), (2, .int p2), (3, .int p3)] := rfl
  refine zs_C.of1 (hB.2 8267 (by decide) (by decide)) hd (by rw [hL]; exact zs_sub_self _ (by exact ⟨rfl, rfl, rfl, rfl, trivial⟩)) ?_
  rw [hL]
  clear hL
  unfold w_X9_putTextAt at h
  refine zu_aload_n d_8267_0 rfl (zs_ra _) ?_
  refine zu_aload_n d_8267_1 rfl (zs_ra _) ?_
  obtain ⟨k1, h⟩ := h
  refine zg_8_1264 rfl d_8267_2 k1 ?_
  refine zu_iconst d_8267_5 zi_1 ?_
  refine zu_stk d_8267_6 rfl rfl ?_
  refine zc_8_1317 (x0 := ((zs_I S 8187 p0) - (1 : Int32))) hB rfl k1 d_8267_7 (Nat.le_of_ble_eq_true rfl) h (fun v3 S2 h => ?_)
  refine zu_istore d_8267_10 (zs_lt zq_8267 rfl) ?_
  refine zu_aload_n d_8267_12 rfl (zs_ra _) ?_
  refine zu_iload_n d_8267_13 rfl ?_
  obtain ⟨k4, h⟩ := h
  refine zc_8_795 (x0 := p1) hB rfl k4 d_8267_14 (Nat.le_of_ble_eq_true rfl) h (fun v6 S5 h => ?_)
  refine zu_lstore d_8267_17 (zs_lt zq_8267 rfl) ?_
  refine zu_iload d_8267_19 rfl ?_
  refine zu_stk d_8267_21 rfl rfl ?_
  refine zu_lload d_8267_22 rfl ?_
  refine zu_lle (t := 37) d_8267_24 d_8267_25 rfl (fun c7 => ?_) (fun c7 => ?_)
  · have h := h.1 c7
    exact (u_X9_putTextAt_37 hB h).weak ⟨rfl, rfl, rfl, rfl, trivial⟩
  · have h := h.2 c7
    exact (u_X9_putTextAt_28 hB h).weak ⟨rfl, rfl, trivial⟩
/-! SchemaPascalModel.copy(I)V -/
theorem zm_8268 {σ : Nat → Nat} {n0 : Nat} {bf : ab_B} : ab_code (zx σ n0 bf).1 8268 = prog_17_method_237_code := rfl
theorem zq_8268 {σ : Nat → Nat} {n0 : Nat} {bf : ab_B} : ab_maxL (zx σ n0 bf).1 8268 = 3 := rfl
theorem zr_8268 {σ : Nat → Nat} {n0 : Nat} {bf : ab_B} : ab_ret (zx σ n0 bf).1 8268 = (Option.none : Option Jvm.ClassFile.FieldType) := rfl
theorem d_8268_0 {σ : Nat → Nat} {n0 : Nat} {bf : ab_B} : decode (ab_code (zx σ n0 bf).1 8268) 0 = .ok (.aload_n 0, 1) := zd zm_8268 (by decide +kernel)
theorem d_8268_1 {σ : Nat → Nat} {n0 : Nat} {bf : ab_B} : decode (ab_code (zx σ n0 bf).1 8268) 1 = .ok (.dup, 1) := zd zm_8268 (by decide +kernel)
theorem d_8268_2 {σ : Nat → Nat} {n0 : Nat} {bf : ab_B} : decode (ab_code (zx σ n0 bf).1 8268) 2 = .ok (.getfield 1270, 3) := zd zm_8268 (by decide +kernel)
theorem d_8268_5 {σ : Nat → Nat} {n0 : Nat} {bf : ab_B} : decode (ab_code (zx σ n0 bf).1 8268) 5 = .ok (.iconst 2, 1) := zd zm_8268 (by decide +kernel)
theorem d_8268_6 {σ : Nat → Nat} {n0 : Nat} {bf : ab_B} : decode (ab_code (zx σ n0 bf).1 8268) 6 = .ok (.isub, 1) := zd zm_8268 (by decide +kernel)
theorem d_8268_7 {σ : Nat → Nat} {n0 : Nat} {bf : ab_B} : decode (ab_code (zx σ n0 bf).1 8268) 7 = .ok (.putfield 1270, 3) := zd zm_8268 (by decide +kernel)
theorem d_8268_10 {σ : Nat → Nat} {n0 : Nat} {bf : ab_B} : decode (ab_code (zx σ n0 bf).1 8268) 10 = .ok (.aload_n 0, 1) := zd zm_8268 (by decide +kernel)
theorem d_8268_11 {σ : Nat → Nat} {n0 : Nat} {bf : ab_B} : decode (ab_code (zx σ n0 bf).1 8268) 11 = .ok (.aload_n 0, 1) := zd zm_8268 (by decide +kernel)
theorem d_8268_12 {σ : Nat → Nat} {n0 : Nat} {bf : ab_B} : decode (ab_code (zx σ n0 bf).1 8268) 12 = .ok (.getfield 412, 3) := zd zm_8268 (by decide +kernel)
theorem d_8268_15 {σ : Nat → Nat} {n0 : Nat} {bf : ab_B} : decode (ab_code (zx σ n0 bf).1 8268) 15 = .ok (.aload_n 0, 1) := zd zm_8268 (by decide +kernel)
theorem d_8268_16 {σ : Nat → Nat} {n0 : Nat} {bf : ab_B} : decode (ab_code (zx σ n0 bf).1 8268) 16 = .ok (.getfield 1270, 3) := zd zm_8268 (by decide +kernel)
theorem d_8268_19 {σ : Nat → Nat} {n0 : Nat} {bf : ab_B} : decode (ab_code (zx σ n0 bf).1 8268) 19 = .ok (.iaload, 1) := zd zm_8268 (by decide +kernel)
theorem d_8268_20 {σ : Nat → Nat} {n0 : Nat} {bf : ab_B} : decode (ab_code (zx σ n0 bf).1 8268) 20 = .ok (.invokevirtual 727, 3) := zd zm_8268 (by decide +kernel)
theorem d_8268_23 {σ : Nat → Nat} {n0 : Nat} {bf : ab_B} : decode (ab_code (zx σ n0 bf).1 8268) 23 = .ok (.istore_n 2, 1) := zd zm_8268 (by decide +kernel)
theorem d_8268_24 {σ : Nat → Nat} {n0 : Nat} {bf : ab_B} : decode (ab_code (zx σ n0 bf).1 8268) 24 = .ok (.iload_n 2, 1) := zd zm_8268 (by decide +kernel)
theorem d_8268_25 {σ : Nat → Nat} {n0 : Nat} {bf : ab_B} : decode (ab_code (zx σ n0 bf).1 8268) 25 = .ok (.ifCond .le 34, 3) := zd zm_8268 (by decide +kernel)
theorem d_8268_28 {σ : Nat → Nat} {n0 : Nat} {bf : ab_B} : decode (ab_code (zx σ n0 bf).1 8268) 28 = .ok (.aload_n 0, 1) := zd zm_8268 (by decide +kernel)
theorem d_8268_29 {σ : Nat → Nat} {n0 : Nat} {bf : ab_B} : decode (ab_code (zx σ n0 bf).1 8268) 29 = .ok (.aload_n 0, 1) := zd zm_8268 (by decide +kernel)
theorem d_8268_30 {σ : Nat → Nat} {n0 : Nat} {bf : ab_B} : decode (ab_code (zx σ n0 bf).1 8268) 30 = .ok (.getfield 1270, 3) := zd zm_8268 (by decide +kernel)
theorem d_8268_33 {σ : Nat → Nat} {n0 : Nat} {bf : ab_B} : decode (ab_code (zx σ n0 bf).1 8268) 33 = .ok (.aload_n 0, 1) := zd zm_8268 (by decide +kernel)
theorem d_8268_34 {σ : Nat → Nat} {n0 : Nat} {bf : ab_B} : decode (ab_code (zx σ n0 bf).1 8268) 34 = .ok (.getfield 1270, 3) := zd zm_8268 (by decide +kernel)
theorem d_8268_37 {σ : Nat → Nat} {n0 : Nat} {bf : ab_B} : decode (ab_code (zx σ n0 bf).1 8268) 37 = .ok (.iconst 1, 1) := zd zm_8268 (by decide +kernel)
theorem d_8268_38 {σ : Nat → Nat} {n0 : Nat} {bf : ab_B} : decode (ab_code (zx σ n0 bf).1 8268) 38 = .ok (.iadd, 1) := zd zm_8268 (by decide +kernel)
theorem d_8268_39 {σ : Nat → Nat} {n0 : Nat} {bf : ab_B} : decode (ab_code (zx σ n0 bf).1 8268) 39 = .ok (.aload_n 0, 1) := zd zm_8268 (by decide +kernel)
theorem d_8268_40 {σ : Nat → Nat} {n0 : Nat} {bf : ab_B} : decode (ab_code (zx σ n0 bf).1 8268) 40 = .ok (.getfield 127, 3) := zd zm_8268 (by decide +kernel)
theorem d_8268_43 {σ : Nat → Nat} {n0 : Nat} {bf : ab_B} : decode (ab_code (zx σ n0 bf).1 8268) 43 = .ok (.iload_n 2, 1) := zd zm_8268 (by decide +kernel)
theorem d_8268_44 {σ : Nat → Nat} {n0 : Nat} {bf : ab_B} : decode (ab_code (zx σ n0 bf).1 8268) 44 = .ok (.baload, 1) := zd zm_8268 (by decide +kernel)
theorem d_8268_45 {σ : Nat → Nat} {n0 : Nat} {bf : ab_B} : decode (ab_code (zx σ n0 bf).1 8268) 45 = .ok (.invokevirtual 1352, 3) := zd zm_8268 (by decide +kernel)
theorem d_8268_48 {σ : Nat → Nat} {n0 : Nat} {bf : ab_B} : decode (ab_code (zx σ n0 bf).1 8268) 48 = .ok (.ifCond .ne 11, 3) := zd zm_8268 (by decide +kernel)
theorem d_8268_51 {σ : Nat → Nat} {n0 : Nat} {bf : ab_B} : decode (ab_code (zx σ n0 bf).1 8268) 51 = .ok (.aload_n 0, 1) := zd zm_8268 (by decide +kernel)
theorem d_8268_52 {σ : Nat → Nat} {n0 : Nat} {bf : ab_B} : decode (ab_code (zx σ n0 bf).1 8268) 52 = .ok (.bipush 9, 2) := zd zm_8268 (by decide +kernel)
theorem d_8268_54 {σ : Nat → Nat} {n0 : Nat} {bf : ab_B} : decode (ab_code (zx σ n0 bf).1 8268) 54 = .ok (.iload_n 1, 1) := zd zm_8268 (by decide +kernel)
theorem d_8268_55 {σ : Nat → Nat} {n0 : Nat} {bf : ab_B} : decode (ab_code (zx σ n0 bf).1 8268) 55 = .ok (.invokevirtual 1297, 3) := zd zm_8268 (by decide +kernel)
theorem d_8268_58 {σ : Nat → Nat} {n0 : Nat} {bf : ab_B} : decode (ab_code (zx σ n0 bf).1 8268) 58 = .ok (.return_, 1) := zd zm_8268 (by decide +kernel)
theorem d_8268_59 {σ : Nat → Nat} {n0 : Nat} {bf : ab_B} : decode (ab_code (zx σ n0 bf).1 8268) 59 = .ok (.aload_n 0, 1) := zd zm_8268 (by decide +kernel)
theorem d_8268_60 {σ : Nat → Nat} {n0 : Nat} {bf : ab_B} : decode (ab_code (zx σ n0 bf).1 8268) 60 = .ok (.aload_n 0, 1) := zd zm_8268 (by decide +kernel)
theorem d_8268_61 {σ : Nat → Nat} {n0 : Nat} {bf : ab_B} : decode (ab_code (zx σ n0 bf).1 8268) 61 = .ok (.getfield 1270, 3) := zd zm_8268 (by decide +kernel)
theorem d_8268_64 {σ : Nat → Nat} {n0 : Nat} {bf : ab_B} : decode (ab_code (zx σ n0 bf).1 8268) 64 = .ok (.invokevirtual 1291, 3) := zd zm_8268 (by decide +kernel)
theorem d_8268_67 {σ : Nat → Nat} {n0 : Nat} {bf : ab_B} : decode (ab_code (zx σ n0 bf).1 8268) 67 = .ok (.aload_n 0, 1) := zd zm_8268 (by decide +kernel)
theorem d_8268_68 {σ : Nat → Nat} {n0 : Nat} {bf : ab_B} : decode (ab_code (zx σ n0 bf).1 8268) 68 = .ok (.aload_n 0, 1) := zd zm_8268 (by decide +kernel)
theorem d_8268_69 {σ : Nat → Nat} {n0 : Nat} {bf : ab_B} : decode (ab_code (zx σ n0 bf).1 8268) 69 = .ok (.getfield 409, 3) := zd zm_8268 (by decide +kernel)
theorem d_8268_72 {σ : Nat → Nat} {n0 : Nat} {bf : ab_B} : decode (ab_code (zx σ n0 bf).1 8268) 72 = .ok (.aload_n 0, 1) := zd zm_8268 (by decide +kernel)
theorem d_8268_73 {σ : Nat → Nat} {n0 : Nat} {bf : ab_B} : decode (ab_code (zx σ n0 bf).1 8268) 73 = .ok (.getfield 1270, 3) := zd zm_8268 (by decide +kernel)
theorem d_8268_76 {σ : Nat → Nat} {n0 : Nat} {bf : ab_B} : decode (ab_code (zx σ n0 bf).1 8268) 76 = .ok (.iconst 1, 1) := zd zm_8268 (by decide +kernel)
theorem d_8268_77 {σ : Nat → Nat} {n0 : Nat} {bf : ab_B} : decode (ab_code (zx σ n0 bf).1 8268) 77 = .ok (.iadd, 1) := zd zm_8268 (by decide +kernel)
theorem d_8268_78 {σ : Nat → Nat} {n0 : Nat} {bf : ab_B} : decode (ab_code (zx σ n0 bf).1 8268) 78 = .ok (.iaload, 1) := zd zm_8268 (by decide +kernel)
theorem d_8268_79 {σ : Nat → Nat} {n0 : Nat} {bf : ab_B} : decode (ab_code (zx σ n0 bf).1 8268) 79 = .ok (.aload_n 0, 1) := zd zm_8268 (by decide +kernel)
theorem d_8268_80 {σ : Nat → Nat} {n0 : Nat} {bf : ab_B} : decode (ab_code (zx σ n0 bf).1 8268) 80 = .ok (.getfield 409, 3) := zd zm_8268 (by decide +kernel)
theorem d_8268_83 {σ : Nat → Nat} {n0 : Nat} {bf : ab_B} : decode (ab_code (zx σ n0 bf).1 8268) 83 = .ok (.aload_n 0, 1) := zd zm_8268 (by decide +kernel)
theorem d_8268_84 {σ : Nat → Nat} {n0 : Nat} {bf : ab_B} : decode (ab_code (zx σ n0 bf).1 8268) 84 = .ok (.getfield 1270, 3) := zd zm_8268 (by decide +kernel)
theorem d_8268_87 {σ : Nat → Nat} {n0 : Nat} {bf : ab_B} : decode (ab_code (zx σ n0 bf).1 8268) 87 = .ok (.iaload, 1) := zd zm_8268 (by decide +kernel)
theorem d_8268_88 {σ : Nat → Nat} {n0 : Nat} {bf : ab_B} : decode (ab_code (zx σ n0 bf).1 8268) 88 = .ok (.aload_n 0, 1) := zd zm_8268 (by decide +kernel)
theorem d_8268_89 {σ : Nat → Nat} {n0 : Nat} {bf : ab_B} : decode (ab_code (zx σ n0 bf).1 8268) 89 = .ok (.aload_n 0, 1) := zd zm_8268 (by decide +kernel)
theorem d_8268_90 {σ : Nat → Nat} {n0 : Nat} {bf : ab_B} : decode (ab_code (zx σ n0 bf).1 8268) 90 = .ok (.getfield 412, 3) := zd zm_8268 (by decide +kernel)
theorem d_8268_93 {σ : Nat → Nat} {n0 : Nat} {bf : ab_B} : decode (ab_code (zx σ n0 bf).1 8268) 93 = .ok (.aload_n 0, 1) := zd zm_8268 (by decide +kernel)
theorem d_8268_94 {σ : Nat → Nat} {n0 : Nat} {bf : ab_B} : decode (ab_code (zx σ n0 bf).1 8268) 94 = .ok (.getfield 1270, 3) := zd zm_8268 (by decide +kernel)
theorem d_8268_97 {σ : Nat → Nat} {n0 : Nat} {bf : ab_B} : decode (ab_code (zx σ n0 bf).1 8268) 97 = .ok (.iaload, 1) := zd zm_8268 (by decide +kernel)
theorem d_8268_98 {σ : Nat → Nat} {n0 : Nat} {bf : ab_B} : decode (ab_code (zx σ n0 bf).1 8268) 98 = .ok (.invokevirtual 1356, 3) := zd zm_8268 (by decide +kernel)
theorem d_8268_101 {σ : Nat → Nat} {n0 : Nat} {bf : ab_B} : decode (ab_code (zx σ n0 bf).1 8268) 101 = .ok (.invokevirtual 1359, 3) := zd zm_8268 (by decide +kernel)
theorem d_8268_104 {σ : Nat → Nat} {n0 : Nat} {bf : ab_B} : decode (ab_code (zx σ n0 bf).1 8268) 104 = .ok (.return_, 1) := zd zm_8268 (by decide +kernel)
def w_X9_copy_104 (X : zs_X) (d : Nat)  (S : zs_T) (Q : zs_Q) : Prop :=
  (Q (.returned none) S)
theorem u_X9_copy_104 {σ : Nat → Nat} {n0 : Nat} {bf : ab_B} {d : Nat}  {S : zs_T} {Q : zs_Q} (hB : zt_B bf) (h : w_X9_copy_104 (zx σ n0 bf) d  S Q) : zs_U (zx σ n0 bf) d 8268 104 [] [] S Q := by
  unfold w_X9_copy_104 at h
  exact zu_vret d_8268_104 zr_8268 h
def w_X9_copy_59 (X : zs_X) (d : Nat) (p0 : Nat) (S : zs_T) (Q : zs_Q) : Prop :=
  (zs_K S p0 = some (.inl 8) ∧ zs_C X d 8226 [.ref p0, .int (zs_I S 8195 p0)] S (zs_kV (fun S2 => (zs_K S2 p0 = some (.inl 8) ∧ ∃ b5, (zs_R S2 8189 p0) = some b5 ∧ zs_A S2 b5 0 ((zs_I S2 8195 p0) + (1 : Int32)) ∧ zs_A S2 b5 0 (zs_I S2 8195 p0) ∧ ∃ b9, (zs_R S2 8190 p0) = some b9 ∧ zs_A S2 b9 0 (zs_I S2 8195 p0) ∧ zs_C X d 8216 [.ref p0, .int (zs_i S2 b9 (zs_I S2 8195 p0).toNatClampNeg)] S2 (zs_kI (fun v13 S12 => (zs_K S12 p0 = some (.inl 8) ∧ zs_C X d 8227 [.ref p0, .int (zs_i S2 b5 ((zs_I S2 8195 p0) + (1 : Int32)).toNatClampNeg), .int (zs_i S2 b5 (zs_I S2 8195 p0).toNatClampNeg), .int v13] S12 (zs_kV (fun S15 => w_X9_copy_104 X d  S15 Q) Q))) Q))) Q))
theorem u_X9_copy_59 {σ : Nat → Nat} {n0 : Nat} {bf : ab_B} {d : Nat} {p0 : Nat} {S : zs_T} {Q : zs_Q} (hB : zt_B bf) (h : w_X9_copy_59 (zx σ n0 bf) d p0 S Q) : zs_U (zx σ n0 bf) d 8268 59 [(0, .ref p0)] [] S Q := by
  unfold w_X9_copy_59 at h
  refine zu_aload_n d_8268_59 rfl (zs_ra _) ?_
  refine zu_aload_n d_8268_60 rfl (zs_ra _) ?_
  obtain ⟨k1, h⟩ := h
  refine zg_8_1270 rfl d_8268_61 k1 ?_
  refine zc_8_1291 (x0 := (zs_I S 8195 p0)) hB rfl k1 d_8268_64 (Nat.le_of_ble_eq_true rfl) h (fun S2 h => ?_)
  refine zu_aload_n d_8268_67 rfl (zs_ra _) ?_
  refine zu_aload_n d_8268_68 rfl (zs_ra _) ?_
  obtain ⟨k4, h⟩ := h
  refine zg_8_409 rfl d_8268_69 k4 ?_
  refine zu_aload_n d_8268_72 rfl (zs_ra _) ?_
  refine zg_8_1270 rfl d_8268_73 k4 ?_
  refine zu_iconst d_8268_76 zi_1 ?_
  refine zu_stk d_8268_77 rfl rfl ?_
  obtain ⟨b5, e6, h⟩ := h
  refine zs_stk1 (zs_rfe e6) ?_
  obtain ⟨k7, h⟩ := h
  refine zu_iald (k := 0) d_8268_78 rfl rfl k7 ?_
  refine zu_aload_n d_8268_79 rfl (zs_ra _) ?_
  refine zg_8_409 rfl d_8268_80 k4 ?_
  refine zu_aload_n d_8268_83 rfl (zs_ra _) ?_
  refine zg_8_1270 rfl d_8268_84 k4 ?_
  refine zs_stk1 (zs_rfe e6) ?_
  obtain ⟨k8, h⟩ := h
  refine zu_iald (k := 0) d_8268_87 rfl rfl k8 ?_
  refine zu_aload_n d_8268_88 rfl (zs_ra _) ?_
  refine zu_aload_n d_8268_89 rfl (zs_ra _) ?_
  refine zg_8_412 rfl d_8268_90 k4 ?_
  refine zu_aload_n d_8268_93 rfl (zs_ra _) ?_
  refine zg_8_1270 rfl d_8268_94 k4 ?_
  obtain ⟨b9, e10, h⟩ := h
  refine zs_stk1 (zs_rfe e10) ?_
  obtain ⟨k11, h⟩ := h
  refine zu_iald (k := 0) d_8268_97 rfl rfl k11 ?_
  refine zc_8_1356 (x0 := (zs_i S2 b9 (zs_I S2 8195 p0).toNatClampNeg)) hB rfl k4 d_8268_98 (Nat.le_of_ble_eq_true rfl) h (fun v13 S12 h => ?_)
  obtain ⟨k14, h⟩ := h
  refine zc_8_1359 (x0 := (zs_i S2 b5 ((zs_I S2 8195 p0) + (1 : Int32)).toNatClampNeg)) (x1 := (zs_i S2 b5 (zs_I S2 8195 p0).toNatClampNeg)) (x2 := v13) hB rfl k14 d_8268_101 (Nat.le_of_ble_eq_true rfl) h (fun S15 h => ?_)
  exact (u_X9_copy_104 hB h).weak trivial
def w_X9_copy_58 (X : zs_X) (d : Nat)  (S : zs_T) (Q : zs_Q) : Prop :=
  (Q (.returned none) S)
theorem u_X9_copy_58 {σ : Nat → Nat} {n0 : Nat} {bf : ab_B} {d : Nat}  {S : zs_T} {Q : zs_Q} (hB : zt_B bf) (h : w_X9_copy_58 (zx σ n0 bf) d  S Q) : zs_U (zx σ n0 bf) d 8268 58 [] [] S Q := by
  unfold w_X9_copy_58 at h
  exact zu_vret d_8268_58 zr_8268 h
def w_X9_copy_28 (X : zs_X) (d : Nat) (p0 : Nat) (p1 : Int32) (p2 : Int32) (S : zs_T) (Q : zs_Q) : Prop :=
  (zs_K S p0 = some (.inl 8) ∧ ∃ b2, (zs_R S 8058 p0) = some b2 ∧ zs_A S b2 1 p2 ∧ zs_C X d 8269 [.ref p0, .int (zs_I S 8195 p0), .int ((zs_I S 8195 p0) + (1 : Int32)), .int (zs_i S b2 p2.toNatClampNeg)] S (zs_kI (fun v6 S5 => (((¬ v6 = 0 → w_X9_copy_59 X d p0 S5 Q) ∧ (¬ (¬ v6 = 0) → (zs_K S5 p0 = some (.inl 8) ∧ zs_C X d 8208 [.ref p0, .int (9 : Int32), .int p1] S5 (zs_kV (fun S9 => w_X9_copy_58 X d  S9 Q) Q)))))) Q))
theorem u_X9_copy_28 {σ : Nat → Nat} {n0 : Nat} {bf : ab_B} {d : Nat} {p0 : Nat} {p1 : Int32} {p2 : Int32} {S : zs_T} {Q : zs_Q} (hB : zt_B bf) (h : w_X9_copy_28 (zx σ n0 bf) d p0 p1 p2 S Q) : zs_U (zx σ n0 bf) d 8268 28 [(0, .ref p0), (1, .int p1), (2, .int p2)] [] S Q := by
  unfold w_X9_copy_28 at h
  refine zu_aload_n d_8268_28 rfl (zs_ra _) ?_
  refine zu_aload_n d_8268_29 rfl (zs_ra _) ?_
  obtain ⟨k1, h⟩ := h
  refine zg_8_1270 rfl d_8268_30 k1 ?_
  refine zu_aload_n d_8268_33 rfl (zs_ra _) ?_
  refine zg_8_1270 rfl d_8268_34 k1 ?_
  refine zu_iconst d_8268_37 zi_1 ?_
  refine zu_stk d_8268_38 rfl rfl ?_
  refine zu_aload_n d_8268_39 rfl (zs_ra _) ?_
  refine zg_8_127 rfl d_8268_40 k1 ?_
  refine zu_iload_n d_8268_43 rfl ?_
  obtain ⟨b2, e3, h⟩ := h
  refine zs_stk1 (zs_rfe e3) ?_
  obtain ⟨k4, h⟩ := h
  refine zu_bald (k := 1) d_8268_44 rfl (Or.inl rfl) k4 ?_
  refine zc_8_1352 (x0 := (zs_I S 8195 p0)) (x1 := ((zs_I S 8195 p0) + (1 : Int32))) (x2 := (zs_i S b2 p2.toNatClampNeg)) hB rfl k1 d_8268_45 (Nat.le_of_ble_eq_true rfl) h (fun v6 S5 h => ?_)
  refine zu_ifne (t := 59) d_8268_48 rfl (fun c7 => ?_) (fun c7 => ?_)
  · have h := h.1 c7
    exact (u_X9_copy_59 hB h).weak ⟨rfl, trivial⟩
  · have h := h.2 c7
    refine zu_aload_n d_8268_51 rfl (zs_ra _) ?_
    refine zu_bipush d_8268_52 zj_9 ?_
    refine zu_iload_n d_8268_54 rfl ?_
    obtain ⟨k8, h⟩ := h
    refine zc_8_1297 (x0 := (9 : Int32)) (x1 := p1) hB rfl k8 d_8268_55 (Nat.le_of_ble_eq_true rfl) h (fun S9 h => ?_)
    exact (u_X9_copy_58 hB h).weak trivial
def w_X9_copy (X : zs_X) (d : Nat) (p0 : Nat) (p1 : Int32) (S : zs_T) (Q : zs_Q) : Prop :=
  (zs_K S p0 = some (.inl 8) ∧ ab_n0 X.1 ≤ p0 ∧ ∀ S3, S3 = zs_sI S 8195 p0 ((zs_I S 8195 p0) - (2 : Int32)) → ∃ b6, (zs_R S3 8190 p0) = some b6 ∧ zs_A S b6 0 (zs_I S3 8195 p0) ∧ zs_C X d 8074 [.ref p0, .int (zs_i S3 b6 (zs_I S3 8195 p0).toNatClampNeg)] S3 (zs_kI (fun v10 S9 => (((v10 ≤ 0 → w_X9_copy_59 X d p0 S9 Q) ∧ (¬ (v10 ≤ 0) → w_X9_copy_28 X d p0 p1 v10 S9 Q)))) Q))
theorem u_X9_copy {σ : Nat → Nat} {n0 : Nat} {bf : ab_B} {d : Nat} {p0 : Nat} {p1 : Int32} {S : zs_T} {Q : zs_Q} (hB : zt_B bf) (hd : 1 ≤ d) (h : w_X9_copy (zx σ n0 bf) (d - 1) p0 p1 S Q) : zs_C (zx σ n0 bf) d 8268 [.ref p0, .int p1] S Q := by
  have hL : lv_args 0 [.ref p0, .int p1] = [(0, .ref p0), (1, .int p1)] := rfl
  refine zs_C.of1 (hB.2 8268 (by decide) (by decide)) hd (by rw [hL]; exact zs_sub_self _ (by exact ⟨rfl, rfl, trivial⟩)) ?_
  rw [hL]
  clear hL
  unfold w_X9_copy at h
  refine zu_aload_n d_8268_0 rfl (zs_ra _) ?_
  refine zu_dup d_8268_1 rfl ?_
  obtain ⟨k1, h⟩ := h
  refine zg_8_1270 rfl d_8268_2 k1 ?_
  refine zu_iconst d_8268_5 zi_2 ?_
  refine zu_stk d_8268_6 rfl rfl ?_
  obtain ⟨k2, h⟩ := h
  refine zp_8_1270 (v := ((zs_I S 8195 p0) - (2 : Int32))) rfl d_8268_7 k1 k2 ?_
  generalize e4 : zs_sI S 8195 p0 ((zs_I S 8195 p0) - (2 : Int32)) = S3
  have h := h S3 e4.symm
  have K5 : ∀ b, zs_K S3 b = zs_K S b := zs_Kt e4 (zs_KsI _ _ _ _) (fun _ => rfl)
  refine zu_aload_n d_8268_10 rfl (zs_ra _) ?_
  refine zu_aload_n d_8268_11 rfl (zs_ra _) ?_
  refine zg_8_412 rfl d_8268_12 ((K5 _).trans k1) ?_
  refine zu_aload_n d_8268_15 rfl (zs_ra _) ?_
  refine zg_8_1270 rfl d_8268_16 ((K5 _).trans k1) ?_
  obtain ⟨b6, e7, h⟩ := h
  refine zs_stk1 (zs_rfe e7) ?_
  obtain ⟨k8, h⟩ := h
  refine zu_iald (k := 0) d_8268_19 rfl rfl (zs_Ak K5 k8) ?_
  refine zc_8_727 (x0 := (zs_i S3 b6 (zs_I S3 8195 p0).toNatClampNeg)) hB rfl ((K5 _).trans k1) d_8268_20 (Nat.le_of_ble_eq_true rfl) h (fun v10 S9 h => ?_)
  refine zu_istore_n d_8268_23 (zs_lt zq_8268 rfl) ?_
  refine zu_iload_n d_8268_24 rfl ?_
  refine zu_ifle (t := 59) d_8268_25 rfl (fun c11 => ?_) (fun c11 => ?_)
  · have h := h.1 c11
    exact (u_X9_copy_59 hB h).weak ⟨rfl, trivial⟩
  · have h := h.2 c11
    exact (u_X9_copy_28 hB h).weak ⟨rfl, rfl, rfl, trivial⟩
/-! SchemaPascalModel.sameDisc(III)Z -/
theorem zm_8269 {σ : Nat → Nat} {n0 : Nat} {bf : ab_B} : ab_code (zx σ n0 bf).1 8269 = prog_17_method_235_code := rfl
theorem zq_8269 {σ : Nat → Nat} {n0 : Nat} {bf : ab_B} : ab_maxL (zx σ n0 bf).1 8269 = 6 := rfl
theorem zr_8269 {σ : Nat → Nat} {n0 : Nat} {bf : ab_B} : ab_ret (zx σ n0 bf).1 8269 = (Option.some Jvm.ClassFile.FieldType.boolean) := rfl
theorem d_8269_0 {σ : Nat → Nat} {n0 : Nat} {bf : ab_B} : decode (ab_code (zx σ n0 bf).1 8269) 0 = .ok (.iconst 1, 1) := zd zm_8269 (by decide +kernel)
theorem d_8269_1 {σ : Nat → Nat} {n0 : Nat} {bf : ab_B} : decode (ab_code (zx σ n0 bf).1 8269) 1 = .ok (.istore 4, 2) := zd zm_8269 (by decide +kernel)
theorem d_8269_3 {σ : Nat → Nat} {n0 : Nat} {bf : ab_B} : decode (ab_code (zx σ n0 bf).1 8269) 3 = .ok (.iconst 0, 1) := zd zm_8269 (by decide +kernel)
theorem d_8269_4 {σ : Nat → Nat} {n0 : Nat} {bf : ab_B} : decode (ab_code (zx σ n0 bf).1 8269) 4 = .ok (.istore 5, 2) := zd zm_8269 (by decide +kernel)
theorem d_8269_6 {σ : Nat → Nat} {n0 : Nat} {bf : ab_B} : decode (ab_code (zx σ n0 bf).1 8269) 6 = .ok (.iload 5, 2) := zd zm_8269 (by decide +kernel)
theorem d_8269_8 {σ : Nat → Nat} {n0 : Nat} {bf : ab_B} : decode (ab_code (zx σ n0 bf).1 8269) 8 = .ok (.iload_n 3, 1) := zd zm_8269 (by decide +kernel)
theorem d_8269_9 {σ : Nat → Nat} {n0 : Nat} {bf : ab_B} : decode (ab_code (zx σ n0 bf).1 8269) 9 = .ok (.if_icmp .ge 47, 3) := zd zm_8269 (by decide +kernel)
theorem d_8269_12 {σ : Nat → Nat} {n0 : Nat} {bf : ab_B} : decode (ab_code (zx σ n0 bf).1 8269) 12 = .ok (.iload 4, 2) := zd zm_8269 (by decide +kernel)
theorem d_8269_14 {σ : Nat → Nat} {n0 : Nat} {bf : ab_B} : decode (ab_code (zx σ n0 bf).1 8269) 14 = .ok (.ifCond .eq 33, 3) := zd zm_8269 (by decide +kernel)
theorem d_8269_17 {σ : Nat → Nat} {n0 : Nat} {bf : ab_B} : decode (ab_code (zx σ n0 bf).1 8269) 17 = .ok (.aload_n 0, 1) := zd zm_8269 (by decide +kernel)
theorem d_8269_18 {σ : Nat → Nat} {n0 : Nat} {bf : ab_B} : decode (ab_code (zx σ n0 bf).1 8269) 18 = .ok (.getfield 416, 3) := zd zm_8269 (by decide +kernel)
theorem d_8269_21 {σ : Nat → Nat} {n0 : Nat} {bf : ab_B} : decode (ab_code (zx σ n0 bf).1 8269) 21 = .ok (.iconst 4, 1) := zd zm_8269 (by decide +kernel)
theorem d_8269_22 {σ : Nat → Nat} {n0 : Nat} {bf : ab_B} : decode (ab_code (zx σ n0 bf).1 8269) 22 = .ok (.iload_n 1, 1) := zd zm_8269 (by decide +kernel)
theorem d_8269_23 {σ : Nat → Nat} {n0 : Nat} {bf : ab_B} : decode (ab_code (zx σ n0 bf).1 8269) 23 = .ok (.imul, 1) := zd zm_8269 (by decide +kernel)
theorem d_8269_24 {σ : Nat → Nat} {n0 : Nat} {bf : ab_B} : decode (ab_code (zx σ n0 bf).1 8269) 24 = .ok (.iload 5, 2) := zd zm_8269 (by decide +kernel)
theorem d_8269_26 {σ : Nat → Nat} {n0 : Nat} {bf : ab_B} : decode (ab_code (zx σ n0 bf).1 8269) 26 = .ok (.iadd, 1) := zd zm_8269 (by decide +kernel)
theorem d_8269_27 {σ : Nat → Nat} {n0 : Nat} {bf : ab_B} : decode (ab_code (zx σ n0 bf).1 8269) 27 = .ok (.laload, 1) := zd zm_8269 (by decide +kernel)
theorem d_8269_28 {σ : Nat → Nat} {n0 : Nat} {bf : ab_B} : decode (ab_code (zx σ n0 bf).1 8269) 28 = .ok (.aload_n 0, 1) := zd zm_8269 (by decide +kernel)
theorem d_8269_29 {σ : Nat → Nat} {n0 : Nat} {bf : ab_B} : decode (ab_code (zx σ n0 bf).1 8269) 29 = .ok (.getfield 416, 3) := zd zm_8269 (by decide +kernel)
theorem d_8269_32 {σ : Nat → Nat} {n0 : Nat} {bf : ab_B} : decode (ab_code (zx σ n0 bf).1 8269) 32 = .ok (.iconst 4, 1) := zd zm_8269 (by decide +kernel)
theorem d_8269_33 {σ : Nat → Nat} {n0 : Nat} {bf : ab_B} : decode (ab_code (zx σ n0 bf).1 8269) 33 = .ok (.iload_n 2, 1) := zd zm_8269 (by decide +kernel)
theorem d_8269_34 {σ : Nat → Nat} {n0 : Nat} {bf : ab_B} : decode (ab_code (zx σ n0 bf).1 8269) 34 = .ok (.imul, 1) := zd zm_8269 (by decide +kernel)
theorem d_8269_35 {σ : Nat → Nat} {n0 : Nat} {bf : ab_B} : decode (ab_code (zx σ n0 bf).1 8269) 35 = .ok (.iload 5, 2) := zd zm_8269 (by decide +kernel)
theorem d_8269_37 {σ : Nat → Nat} {n0 : Nat} {bf : ab_B} : decode (ab_code (zx σ n0 bf).1 8269) 37 = .ok (.iadd, 1) := zd zm_8269 (by decide +kernel)
theorem d_8269_38 {σ : Nat → Nat} {n0 : Nat} {bf : ab_B} : decode (ab_code (zx σ n0 bf).1 8269) 38 = .ok (.laload, 1) := zd zm_8269 (by decide +kernel)
theorem d_8269_39 {σ : Nat → Nat} {n0 : Nat} {bf : ab_B} : decode (ab_code (zx σ n0 bf).1 8269) 39 = .ok (.lcmp, 1) := zd zm_8269 (by decide +kernel)
theorem d_8269_40 {σ : Nat → Nat} {n0 : Nat} {bf : ab_B} : decode (ab_code (zx σ n0 bf).1 8269) 40 = .ok (.ifCond .ne 7, 3) := zd zm_8269 (by decide +kernel)
theorem d_8269_43 {σ : Nat → Nat} {n0 : Nat} {bf : ab_B} : decode (ab_code (zx σ n0 bf).1 8269) 43 = .ok (.iconst 1, 1) := zd zm_8269 (by decide +kernel)
theorem d_8269_44 {σ : Nat → Nat} {n0 : Nat} {bf : ab_B} : decode (ab_code (zx σ n0 bf).1 8269) 44 = .ok (.goto 4, 3) := zd zm_8269 (by decide +kernel)
theorem d_8269_47 {σ : Nat → Nat} {n0 : Nat} {bf : ab_B} : decode (ab_code (zx σ n0 bf).1 8269) 47 = .ok (.iconst 0, 1) := zd zm_8269 (by decide +kernel)
theorem d_8269_48 {σ : Nat → Nat} {n0 : Nat} {bf : ab_B} : decode (ab_code (zx σ n0 bf).1 8269) 48 = .ok (.istore 4, 2) := zd zm_8269 (by decide +kernel)
theorem d_8269_50 {σ : Nat → Nat} {n0 : Nat} {bf : ab_B} : decode (ab_code (zx σ n0 bf).1 8269) 50 = .ok (.iinc 5 1, 3) := zd zm_8269 (by decide +kernel)
theorem d_8269_53 {σ : Nat → Nat} {n0 : Nat} {bf : ab_B} : decode (ab_code (zx σ n0 bf).1 8269) 53 = .ok (.goto (-47), 3) := zd zm_8269 (by decide +kernel)
theorem d_8269_56 {σ : Nat → Nat} {n0 : Nat} {bf : ab_B} : decode (ab_code (zx σ n0 bf).1 8269) 56 = .ok (.iload 4, 2) := zd zm_8269 (by decide +kernel)
theorem d_8269_58 {σ : Nat → Nat} {n0 : Nat} {bf : ab_B} : decode (ab_code (zx σ n0 bf).1 8269) 58 = .ok (.ireturn, 1) := zd zm_8269 (by decide +kernel)
def w_X9_sameDisc_47 (X : zs_X) (d : Nat) (p0 : Nat) (p1 : Int32) (p2 : Int32) (p3 : Int32) (p5 : Int32) (S : zs_T) (Q : zs_Q) : Prop :=
  (zs_U X d 8269 6 [(0, .ref p0), (1, .int p1), (2, .int p2), (3, .int p3), (4, .int (0 : Int32)), (5, .int (p5 + (1 : Int32)))] [] S Q)
theorem u_X9_sameDisc_47 {σ : Nat → Nat} {n0 : Nat} {bf : ab_B} {d : Nat} {p0 : Nat} {p1 : Int32} {p2 : Int32} {p3 : Int32} {p5 : Int32} {S : zs_T} {Q : zs_Q} (hB : zt_B bf) (h : w_X9_sameDisc_47 (zx σ n0 bf) d p0 p1 p2 p3 p5 S Q) : zs_U (zx σ n0 bf) d 8269 47 [(0, .ref p0), (1, .int p1), (2, .int p2), (3, .int p3), (5, .int p5)] [] S Q := by
  unfold w_X9_sameDisc_47 at h
  refine zu_iconst d_8269_47 zi_0 ?_
  refine zu_istore d_8269_48 (zs_lt zq_8269 rfl) ?_
  refine zu_iinc d_8269_50 rfl zi_1 (zs_lt zq_8269 rfl) ?_
  refine zu_goto (t := 6) d_8269_53 rfl ?_
  exact h.weak ⟨rfl, rfl, rfl, rfl, rfl, rfl, trivial⟩
def w_X9_sameDisc_43 (X : zs_X) (d : Nat) (p0 : Nat) (p1 : Int32) (p2 : Int32) (p3 : Int32) (p5 : Int32) (S : zs_T) (Q : zs_Q) : Prop :=
  (zs_U X d 8269 6 [(0, .ref p0), (1, .int p1), (2, .int p2), (3, .int p3), (4, .int (1 : Int32)), (5, .int (p5 + (1 : Int32)))] [] S Q)
theorem u_X9_sameDisc_43 {σ : Nat → Nat} {n0 : Nat} {bf : ab_B} {d : Nat} {p0 : Nat} {p1 : Int32} {p2 : Int32} {p3 : Int32} {p5 : Int32} {S : zs_T} {Q : zs_Q} (hB : zt_B bf) (h : w_X9_sameDisc_43 (zx σ n0 bf) d p0 p1 p2 p3 p5 S Q) : zs_U (zx σ n0 bf) d 8269 43 [(0, .ref p0), (1, .int p1), (2, .int p2), (3, .int p3), (5, .int p5)] [] S Q := by
  unfold w_X9_sameDisc_43 at h
  refine zu_iconst d_8269_43 zi_1 ?_
  refine zu_goto (t := 48) d_8269_44 rfl ?_
  refine zu_istore d_8269_48 (zs_lt zq_8269 rfl) ?_
  refine zu_iinc d_8269_50 rfl zi_1 (zs_lt zq_8269 rfl) ?_
  refine zu_goto (t := 6) d_8269_53 rfl ?_
  exact h.weak ⟨rfl, rfl, rfl, rfl, rfl, rfl, trivial⟩
def w_X9_sameDisc_6 (X : zs_X) (d : Nat) (p0 : Nat) (p1 : Int32) (p2 : Int32) (p3 : Int32) (p4 : Int32) (p5 : Int32) (S : zs_T) (Q : zs_Q) : Prop :=
  (((p3 ≤ p5 → (zs_b p4 ∧ Q (.returned (some (.int p4))) S)) ∧ (¬ (p3 ≤ p5) → (((p4 = 0 → w_X9_sameDisc_47 X d p0 p1 p2 p3 p5 S Q) ∧ (¬ (p4 = 0) → (zs_K S p0 = some (.inl 8) ∧ ∃ b5, (zs_R S 8191 p0) = some b5 ∧ zs_A S b5 3 (((4 : Int32) * p1) + p5) ∧ zs_A S b5 3 (((4 : Int32) * p2) + p5) ∧ ((¬ (zs_j S b5 (((4 : Int32) * p1) + p5).toNatClampNeg) = (zs_j S b5 (((4 : Int32) * p2) + p5).toNatClampNeg) → w_X9_sameDisc_47 X d p0 p1 p2 p3 p5 S Q) ∧ (¬ (¬ (zs_j S b5 (((4 : Int32) * p1) + p5).toNatClampNeg) = (zs_j S b5 (((4 : Int32) * p2) + p5).toNatClampNeg)) → w_X9_sameDisc_43 X d p0 p1 p2 p3 p5 S Q)))))))))
theorem u_X9_sameDisc_6 {σ : Nat → Nat} {n0 : Nat} {bf : ab_B} {d : Nat} {p0 : Nat} {p1 : Int32} {p2 : Int32} {p3 : Int32} {p4 : Int32} {p5 : Int32} {S : zs_T} {Q : zs_Q} (hB : zt_B bf) (h : w_X9_sameDisc_6 (zx σ n0 bf) d p0 p1 p2 p3 p4 p5 S Q) : zs_U (zx σ n0 bf) d 8269 6 [(0, .ref p0), (1, .int p1), (2, .int p2), (3, .int p3), (4, .int p4), (5, .int p5)] [] S Q := by
  unfold w_X9_sameDisc_6 at h
  refine zu_iload d_8269_6 rfl ?_
  refine zu_iload_n d_8269_8 rfl ?_
  refine zu_cmpge (t := 56) d_8269_9 rfl (fun c1 => ?_) (fun c1 => ?_)
  · have h := h.1 c1
    refine zu_iload d_8269_56 rfl ?_
    obtain ⟨k2, h⟩ := h
    exact zu_iret d_8269_58 zr_8269 (zs_b_n k2) h
  · have h := h.2 c1
    refine zu_iload d_8269_12 rfl ?_
    refine zu_ifeq (t := 47) d_8269_14 rfl (fun c3 => ?_) (fun c3 => ?_)
    · have h := h.1 c3
      exact (u_X9_sameDisc_47 hB h).weak ⟨rfl, rfl, rfl, rfl, rfl, trivial⟩
    · have h := h.2 c3
      refine zu_aload_n d_8269_17 rfl (zs_ra _) ?_
      obtain ⟨k4, h⟩ := h
      refine zg_8_416 rfl d_8269_18 k4 ?_
      refine zu_iconst d_8269_21 zi_4 ?_
      refine zu_iload_n d_8269_22 rfl ?_
      refine zu_stk d_8269_23 rfl rfl ?_
      refine zu_iload d_8269_24 rfl ?_
      refine zu_stk d_8269_26 rfl rfl ?_
      obtain ⟨b5, e6, h⟩ := h
      refine zs_stk1 (zs_rfe e6) ?_
      obtain ⟨k7, h⟩ := h
      refine zu_lald (k := 3) d_8269_27 rfl rfl k7 ?_
      refine zu_aload_n d_8269_28 rfl (zs_ra _) ?_
      refine zg_8_416 rfl d_8269_29 k4 ?_
      refine zu_iconst d_8269_32 zi_4 ?_
      refine zu_iload_n d_8269_33 rfl ?_
      refine zu_stk d_8269_34 rfl rfl ?_
      refine zu_iload d_8269_35 rfl ?_
      refine zu_stk d_8269_37 rfl rfl ?_
      refine zs_stk1 (zs_rfe e6) ?_
      obtain ⟨k8, h⟩ := h
      refine zu_lald (k := 3) d_8269_38 rfl rfl k8 ?_
      refine zu_lne (t := 47) d_8269_39 d_8269_40 rfl (fun c9 => ?_) (fun c9 => ?_)
      · have h := h.1 c9
        exact (u_X9_sameDisc_47 hB h).weak ⟨rfl, rfl, rfl, rfl, rfl, trivial⟩
      · have h := h.2 c9
        exact (u_X9_sameDisc_43 hB h).weak ⟨rfl, rfl, rfl, rfl, rfl, trivial⟩
def w_X9_sameDisc (X : zs_X) (d : Nat) (p0 : Nat) (p1 : Int32) (p2 : Int32) (p3 : Int32) (S : zs_T) (Q : zs_Q) : Prop :=
  (zs_U X d 8269 6 [(0, .ref p0), (1, .int p1), (2, .int p2), (3, .int p3), (4, .int (1 : Int32)), (5, .int (0 : Int32))] [] S Q)
theorem u_X9_sameDisc {σ : Nat → Nat} {n0 : Nat} {bf : ab_B} {d : Nat} {p0 : Nat} {p1 : Int32} {p2 : Int32} {p3 : Int32} {S : zs_T} {Q : zs_Q} (hB : zt_B bf) (hd : 1 ≤ d) (h : w_X9_sameDisc (zx σ n0 bf) (d - 1) p0 p1 p2 p3 S Q) : zs_C (zx σ n0 bf) d 8269 [.ref p0, .int p1, .int p2, .int p3] S Q := by
  have hL : lv_args 0 [.ref p0, .int p1, .int p2, .int p3] = [(0, .ref p0), (1, .int p1), (2, .int p2), (3, .int p3)] := rfl
  refine zs_C.of1 (hB.2 8269 (by decide) (by decide)) hd (by rw [hL]; exact zs_sub_self _ (by exact ⟨rfl, rfl, rfl, rfl, trivial⟩)) ?_
  rw [hL]
  clear hL
  unfold w_X9_sameDisc at h
  refine zu_iconst d_8269_0 zi_1 ?_
  refine zu_istore d_8269_1 (zs_lt zq_8269 rfl) ?_
  refine zu_iconst d_8269_3 zi_0 ?_
  refine zu_istore d_8269_4 (zs_lt zq_8269 rfl) ?_
  exact h.weak ⟨rfl, rfl, rfl, rfl, rfl, rfl, trivial⟩
/-! SchemaPascalModel.readValue(I)V -/
theorem zm_8270 {σ : Nat → Nat} {n0 : Nat} {bf : ab_B} : ab_code (zx σ n0 bf).1 8270 = prog_17_method_265_code := rfl
theorem zq_8270 {σ : Nat → Nat} {n0 : Nat} {bf : ab_B} : ab_maxL (zx σ n0 bf).1 8270 = 4 := rfl
theorem zr_8270 {σ : Nat → Nat} {n0 : Nat} {bf : ab_B} : ab_ret (zx σ n0 bf).1 8270 = (Option.none : Option Jvm.ClassFile.FieldType) := rfl
theorem d_8270_0 {σ : Nat → Nat} {n0 : Nat} {bf : ab_B} : decode (ab_code (zx σ n0 bf).1 8270) 0 = .ok (.aload_n 0, 1) := zd zm_8270 (by decide +kernel)
theorem d_8270_1 {σ : Nat → Nat} {n0 : Nat} {bf : ab_B} : decode (ab_code (zx σ n0 bf).1 8270) 1 = .ok (.dup, 1) := zd zm_8270 (by decide +kernel)
theorem d_8270_2 {σ : Nat → Nat} {n0 : Nat} {bf : ab_B} : decode (ab_code (zx σ n0 bf).1 8270) 2 = .ok (.getfield 1270, 3) := zd zm_8270 (by decide +kernel)
theorem d_8270_5 {σ : Nat → Nat} {n0 : Nat} {bf : ab_B} : decode (ab_code (zx σ n0 bf).1 8270) 5 = .ok (.iconst 1, 1) := zd zm_8270 (by decide +kernel)
theorem d_8270_6 {σ : Nat → Nat} {n0 : Nat} {bf : ab_B} : decode (ab_code (zx σ n0 bf).1 8270) 6 = .ok (.isub, 1) := zd zm_8270 (by decide +kernel)
theorem d_8270_7 {σ : Nat → Nat} {n0 : Nat} {bf : ab_B} : decode (ab_code (zx σ n0 bf).1 8270) 7 = .ok (.putfield 1270, 3) := zd zm_8270 (by decide +kernel)
theorem d_8270_10 {σ : Nat → Nat} {n0 : Nat} {bf : ab_B} : decode (ab_code (zx σ n0 bf).1 8270) 10 = .ok (.aload_n 0, 1) := zd zm_8270 (by decide +kernel)
theorem d_8270_11 {σ : Nat → Nat} {n0 : Nat} {bf : ab_B} : decode (ab_code (zx σ n0 bf).1 8270) 11 = .ok (.getfield 1409, 3) := zd zm_8270 (by decide +kernel)
theorem d_8270_14 {σ : Nat → Nat} {n0 : Nat} {bf : ab_B} : decode (ab_code (zx σ n0 bf).1 8270) 14 = .ok (.ifCond .ne 11, 3) := zd zm_8270 (by decide +kernel)
theorem d_8270_17 {σ : Nat → Nat} {n0 : Nat} {bf : ab_B} : decode (ab_code (zx σ n0 bf).1 8270) 17 = .ok (.aload_n 0, 1) := zd zm_8270 (by decide +kernel)
theorem d_8270_18 {σ : Nat → Nat} {n0 : Nat} {bf : ab_B} : decode (ab_code (zx σ n0 bf).1 8270) 18 = .ok (.bipush 12, 2) := zd zm_8270 (by decide +kernel)
theorem d_8270_20 {σ : Nat → Nat} {n0 : Nat} {bf : ab_B} : decode (ab_code (zx σ n0 bf).1 8270) 20 = .ok (.iload_n 1, 1) := zd zm_8270 (by decide +kernel)
theorem d_8270_21 {σ : Nat → Nat} {n0 : Nat} {bf : ab_B} : decode (ab_code (zx σ n0 bf).1 8270) 21 = .ok (.invokevirtual 1297, 3) := zd zm_8270 (by decide +kernel)
theorem d_8270_24 {σ : Nat → Nat} {n0 : Nat} {bf : ab_B} : decode (ab_code (zx σ n0 bf).1 8270) 24 = .ok (.return_, 1) := zd zm_8270 (by decide +kernel)
theorem d_8270_25 {σ : Nat → Nat} {n0 : Nat} {bf : ab_B} : decode (ab_code (zx σ n0 bf).1 8270) 25 = .ok (.aload_n 0, 1) := zd zm_8270 (by decide +kernel)
theorem d_8270_26 {σ : Nat → Nat} {n0 : Nat} {bf : ab_B} : decode (ab_code (zx σ n0 bf).1 8270) 26 = .ok (.aload_n 0, 1) := zd zm_8270 (by decide +kernel)
theorem d_8270_27 {σ : Nat → Nat} {n0 : Nat} {bf : ab_B} : decode (ab_code (zx σ n0 bf).1 8270) 27 = .ok (.getfield 1270, 3) := zd zm_8270 (by decide +kernel)
theorem d_8270_30 {σ : Nat → Nat} {n0 : Nat} {bf : ab_B} : decode (ab_code (zx σ n0 bf).1 8270) 30 = .ok (.invokevirtual 1291, 3) := zd zm_8270 (by decide +kernel)
theorem d_8270_33 {σ : Nat → Nat} {n0 : Nat} {bf : ab_B} : decode (ab_code (zx σ n0 bf).1 8270) 33 = .ok (.aload_n 0, 1) := zd zm_8270 (by decide +kernel)
theorem d_8270_34 {σ : Nat → Nat} {n0 : Nat} {bf : ab_B} : decode (ab_code (zx σ n0 bf).1 8270) 34 = .ok (.getfield 432, 3) := zd zm_8270 (by decide +kernel)
theorem d_8270_37 {σ : Nat → Nat} {n0 : Nat} {bf : ab_B} : decode (ab_code (zx σ n0 bf).1 8270) 37 = .ok (.iconst 0, 1) := zd zm_8270 (by decide +kernel)
theorem d_8270_38 {σ : Nat → Nat} {n0 : Nat} {bf : ab_B} : decode (ab_code (zx σ n0 bf).1 8270) 38 = .ok (.iaload, 1) := zd zm_8270 (by decide +kernel)
theorem d_8270_39 {σ : Nat → Nat} {n0 : Nat} {bf : ab_B} : decode (ab_code (zx σ n0 bf).1 8270) 39 = .ok (.istore_n 2, 1) := zd zm_8270 (by decide +kernel)
theorem d_8270_40 {σ : Nat → Nat} {n0 : Nat} {bf : ab_B} : decode (ab_code (zx σ n0 bf).1 8270) 40 = .ok (.aload_n 0, 1) := zd zm_8270 (by decide +kernel)
theorem d_8270_41 {σ : Nat → Nat} {n0 : Nat} {bf : ab_B} : decode (ab_code (zx σ n0 bf).1 8270) 41 = .ok (.aload_n 0, 1) := zd zm_8270 (by decide +kernel)
theorem d_8270_42 {σ : Nat → Nat} {n0 : Nat} {bf : ab_B} : decode (ab_code (zx σ n0 bf).1 8270) 42 = .ok (.getfield 412, 3) := zd zm_8270 (by decide +kernel)
theorem d_8270_45 {σ : Nat → Nat} {n0 : Nat} {bf : ab_B} : decode (ab_code (zx σ n0 bf).1 8270) 45 = .ok (.aload_n 0, 1) := zd zm_8270 (by decide +kernel)
theorem d_8270_46 {σ : Nat → Nat} {n0 : Nat} {bf : ab_B} : decode (ab_code (zx σ n0 bf).1 8270) 46 = .ok (.getfield 1270, 3) := zd zm_8270 (by decide +kernel)
theorem d_8270_49 {σ : Nat → Nat} {n0 : Nat} {bf : ab_B} : decode (ab_code (zx σ n0 bf).1 8270) 49 = .ok (.iaload, 1) := zd zm_8270 (by decide +kernel)
theorem d_8270_50 {σ : Nat → Nat} {n0 : Nat} {bf : ab_B} : decode (ab_code (zx σ n0 bf).1 8270) 50 = .ok (.iload_n 2, 1) := zd zm_8270 (by decide +kernel)
theorem d_8270_51 {σ : Nat → Nat} {n0 : Nat} {bf : ab_B} : decode (ab_code (zx σ n0 bf).1 8270) 51 = .ok (.i2l, 1) := zd zm_8270 (by decide +kernel)
theorem d_8270_52 {σ : Nat → Nat} {n0 : Nat} {bf : ab_B} : decode (ab_code (zx σ n0 bf).1 8270) 52 = .ok (.invokevirtual 1335, 3) := zd zm_8270 (by decide +kernel)
theorem d_8270_55 {σ : Nat → Nat} {n0 : Nat} {bf : ab_B} : decode (ab_code (zx σ n0 bf).1 8270) 55 = .ok (.ifCond .ne 10, 3) := zd zm_8270 (by decide +kernel)
theorem d_8270_58 {σ : Nat → Nat} {n0 : Nat} {bf : ab_B} : decode (ab_code (zx σ n0 bf).1 8270) 58 = .ok (.aload_n 0, 1) := zd zm_8270 (by decide +kernel)
theorem d_8270_59 {σ : Nat → Nat} {n0 : Nat} {bf : ab_B} : decode (ab_code (zx σ n0 bf).1 8270) 59 = .ok (.iconst 2, 1) := zd zm_8270 (by decide +kernel)
theorem d_8270_60 {σ : Nat → Nat} {n0 : Nat} {bf : ab_B} : decode (ab_code (zx σ n0 bf).1 8270) 60 = .ok (.iload_n 1, 1) := zd zm_8270 (by decide +kernel)
theorem d_8270_61 {σ : Nat → Nat} {n0 : Nat} {bf : ab_B} : decode (ab_code (zx σ n0 bf).1 8270) 61 = .ok (.invokevirtual 1297, 3) := zd zm_8270 (by decide +kernel)
theorem d_8270_64 {σ : Nat → Nat} {n0 : Nat} {bf : ab_B} : decode (ab_code (zx σ n0 bf).1 8270) 64 = .ok (.return_, 1) := zd zm_8270 (by decide +kernel)
theorem d_8270_65 {σ : Nat → Nat} {n0 : Nat} {bf : ab_B} : decode (ab_code (zx σ n0 bf).1 8270) 65 = .ok (.aload_n 0, 1) := zd zm_8270 (by decide +kernel)
theorem d_8270_66 {σ : Nat → Nat} {n0 : Nat} {bf : ab_B} : decode (ab_code (zx σ n0 bf).1 8270) 66 = .ok (.dup, 1) := zd zm_8270 (by decide +kernel)
theorem d_8270_67 {σ : Nat → Nat} {n0 : Nat} {bf : ab_B} : decode (ab_code (zx σ n0 bf).1 8270) 67 = .ok (.getfield 1409, 3) := zd zm_8270 (by decide +kernel)
theorem d_8270_70 {σ : Nat → Nat} {n0 : Nat} {bf : ab_B} : decode (ab_code (zx σ n0 bf).1 8270) 70 = .ok (.iconst 1, 1) := zd zm_8270 (by decide +kernel)
theorem d_8270_71 {σ : Nat → Nat} {n0 : Nat} {bf : ab_B} : decode (ab_code (zx σ n0 bf).1 8270) 71 = .ok (.isub, 1) := zd zm_8270 (by decide +kernel)
theorem d_8270_72 {σ : Nat → Nat} {n0 : Nat} {bf : ab_B} : decode (ab_code (zx σ n0 bf).1 8270) 72 = .ok (.putfield 1409, 3) := zd zm_8270 (by decide +kernel)
theorem d_8270_75 {σ : Nat → Nat} {n0 : Nat} {bf : ab_B} : decode (ab_code (zx σ n0 bf).1 8270) 75 = .ok (.iconst 0, 1) := zd zm_8270 (by decide +kernel)
theorem d_8270_76 {σ : Nat → Nat} {n0 : Nat} {bf : ab_B} : decode (ab_code (zx σ n0 bf).1 8270) 76 = .ok (.istore_n 3, 1) := zd zm_8270 (by decide +kernel)
theorem d_8270_77 {σ : Nat → Nat} {n0 : Nat} {bf : ab_B} : decode (ab_code (zx σ n0 bf).1 8270) 77 = .ok (.iload_n 3, 1) := zd zm_8270 (by decide +kernel)
theorem d_8270_78 {σ : Nat → Nat} {n0 : Nat} {bf : ab_B} : decode (ab_code (zx σ n0 bf).1 8270) 78 = .ok (.aload_n 0, 1) := zd zm_8270 (by decide +kernel)
theorem d_8270_79 {σ : Nat → Nat} {n0 : Nat} {bf : ab_B} : decode (ab_code (zx σ n0 bf).1 8270) 79 = .ok (.getfield 1409, 3) := zd zm_8270 (by decide +kernel)
theorem d_8270_82 {σ : Nat → Nat} {n0 : Nat} {bf : ab_B} : decode (ab_code (zx σ n0 bf).1 8270) 82 = .ok (.if_icmp .ge 23, 3) := zd zm_8270 (by decide +kernel)
theorem d_8270_85 {σ : Nat → Nat} {n0 : Nat} {bf : ab_B} : decode (ab_code (zx σ n0 bf).1 8270) 85 = .ok (.aload_n 0, 1) := zd zm_8270 (by decide +kernel)
theorem d_8270_86 {σ : Nat → Nat} {n0 : Nat} {bf : ab_B} : decode (ab_code (zx σ n0 bf).1 8270) 86 = .ok (.getfield 432, 3) := zd zm_8270 (by decide +kernel)
theorem d_8270_89 {σ : Nat → Nat} {n0 : Nat} {bf : ab_B} : decode (ab_code (zx σ n0 bf).1 8270) 89 = .ok (.iload_n 3, 1) := zd zm_8270 (by decide +kernel)
theorem d_8270_90 {σ : Nat → Nat} {n0 : Nat} {bf : ab_B} : decode (ab_code (zx σ n0 bf).1 8270) 90 = .ok (.aload_n 0, 1) := zd zm_8270 (by decide +kernel)
theorem d_8270_91 {σ : Nat → Nat} {n0 : Nat} {bf : ab_B} : decode (ab_code (zx σ n0 bf).1 8270) 91 = .ok (.getfield 432, 3) := zd zm_8270 (by decide +kernel)
theorem d_8270_94 {σ : Nat → Nat} {n0 : Nat} {bf : ab_B} : decode (ab_code (zx σ n0 bf).1 8270) 94 = .ok (.iload_n 3, 1) := zd zm_8270 (by decide +kernel)
theorem d_8270_95 {σ : Nat → Nat} {n0 : Nat} {bf : ab_B} : decode (ab_code (zx σ n0 bf).1 8270) 95 = .ok (.iconst 1, 1) := zd zm_8270 (by decide +kernel)
theorem d_8270_96 {σ : Nat → Nat} {n0 : Nat} {bf : ab_B} : decode (ab_code (zx σ n0 bf).1 8270) 96 = .ok (.iadd, 1) := zd zm_8270 (by decide +kernel)
theorem d_8270_97 {σ : Nat → Nat} {n0 : Nat} {bf : ab_B} : decode (ab_code (zx σ n0 bf).1 8270) 97 = .ok (.iaload, 1) := zd zm_8270 (by decide +kernel)
theorem d_8270_98 {σ : Nat → Nat} {n0 : Nat} {bf : ab_B} : decode (ab_code (zx σ n0 bf).1 8270) 98 = .ok (.iastore, 1) := zd zm_8270 (by decide +kernel)
theorem d_8270_99 {σ : Nat → Nat} {n0 : Nat} {bf : ab_B} : decode (ab_code (zx σ n0 bf).1 8270) 99 = .ok (.iinc 3 1, 3) := zd zm_8270 (by decide +kernel)
theorem d_8270_102 {σ : Nat → Nat} {n0 : Nat} {bf : ab_B} : decode (ab_code (zx σ n0 bf).1 8270) 102 = .ok (.goto (-25), 3) := zd zm_8270 (by decide +kernel)
theorem d_8270_105 {σ : Nat → Nat} {n0 : Nat} {bf : ab_B} : decode (ab_code (zx σ n0 bf).1 8270) 105 = .ok (.aload_n 0, 1) := zd zm_8270 (by decide +kernel)
theorem d_8270_106 {σ : Nat → Nat} {n0 : Nat} {bf : ab_B} : decode (ab_code (zx σ n0 bf).1 8270) 106 = .ok (.aload_n 0, 1) := zd zm_8270 (by decide +kernel)
theorem d_8270_107 {σ : Nat → Nat} {n0 : Nat} {bf : ab_B} : decode (ab_code (zx σ n0 bf).1 8270) 107 = .ok (.getfield 409, 3) := zd zm_8270 (by decide +kernel)
theorem d_8270_110 {σ : Nat → Nat} {n0 : Nat} {bf : ab_B} : decode (ab_code (zx σ n0 bf).1 8270) 110 = .ok (.aload_n 0, 1) := zd zm_8270 (by decide +kernel)
theorem d_8270_111 {σ : Nat → Nat} {n0 : Nat} {bf : ab_B} : decode (ab_code (zx σ n0 bf).1 8270) 111 = .ok (.getfield 1270, 3) := zd zm_8270 (by decide +kernel)
theorem d_8270_114 {σ : Nat → Nat} {n0 : Nat} {bf : ab_B} : decode (ab_code (zx σ n0 bf).1 8270) 114 = .ok (.iaload, 1) := zd zm_8270 (by decide +kernel)
theorem d_8270_115 {σ : Nat → Nat} {n0 : Nat} {bf : ab_B} : decode (ab_code (zx σ n0 bf).1 8270) 115 = .ok (.iload_n 2, 1) := zd zm_8270 (by decide +kernel)
theorem d_8270_116 {σ : Nat → Nat} {n0 : Nat} {bf : ab_B} : decode (ab_code (zx σ n0 bf).1 8270) 116 = .ok (.i2l, 1) := zd zm_8270 (by decide +kernel)
theorem d_8270_117 {σ : Nat → Nat} {n0 : Nat} {bf : ab_B} : decode (ab_code (zx σ n0 bf).1 8270) 117 = .ok (.aload_n 0, 1) := zd zm_8270 (by decide +kernel)
theorem d_8270_118 {σ : Nat → Nat} {n0 : Nat} {bf : ab_B} : decode (ab_code (zx σ n0 bf).1 8270) 118 = .ok (.aload_n 0, 1) := zd zm_8270 (by decide +kernel)
theorem d_8270_119 {σ : Nat → Nat} {n0 : Nat} {bf : ab_B} : decode (ab_code (zx σ n0 bf).1 8270) 119 = .ok (.getfield 412, 3) := zd zm_8270 (by decide +kernel)
theorem d_8270_122 {σ : Nat → Nat} {n0 : Nat} {bf : ab_B} : decode (ab_code (zx σ n0 bf).1 8270) 122 = .ok (.aload_n 0, 1) := zd zm_8270 (by decide +kernel)
theorem d_8270_123 {σ : Nat → Nat} {n0 : Nat} {bf : ab_B} : decode (ab_code (zx σ n0 bf).1 8270) 123 = .ok (.getfield 1270, 3) := zd zm_8270 (by decide +kernel)
theorem d_8270_126 {σ : Nat → Nat} {n0 : Nat} {bf : ab_B} : decode (ab_code (zx σ n0 bf).1 8270) 126 = .ok (.iaload, 1) := zd zm_8270 (by decide +kernel)
theorem d_8270_127 {σ : Nat → Nat} {n0 : Nat} {bf : ab_B} : decode (ab_code (zx σ n0 bf).1 8270) 127 = .ok (.invokevirtual 1332, 3) := zd zm_8270 (by decide +kernel)
theorem d_8270_130 {σ : Nat → Nat} {n0 : Nat} {bf : ab_B} : decode (ab_code (zx σ n0 bf).1 8270) 130 = .ok (.invokevirtual 1341, 3) := zd zm_8270 (by decide +kernel)
theorem d_8270_133 {σ : Nat → Nat} {n0 : Nat} {bf : ab_B} : decode (ab_code (zx σ n0 bf).1 8270) 133 = .ok (.return_, 1) := zd zm_8270 (by decide +kernel)
def w_X9_readValue_75 (X : zs_X) (d : Nat) (p0 : Nat) (p2 : Int32) (S : zs_T) (Q : zs_Q) : Prop :=
  (zs_U X d 8270 77 [(0, .ref p0), (2, .int p2), (3, .int (0 : Int32))] [] S Q)
theorem u_X9_readValue_75 {σ : Nat → Nat} {n0 : Nat} {bf : ab_B} {d : Nat} {p0 : Nat} {p2 : Int32} {S : zs_T} {Q : zs_Q} (hB : zt_B bf) (h : w_X9_readValue_75 (zx σ n0 bf) d p0 p2 S Q) : zs_U (zx σ n0 bf) d 8270 75 [(0, .ref p0), (2, .int p2)] [] S Q := by
  unfold w_X9_readValue_75 at h
  refine zu_iconst d_8270_75 zi_0 ?_
  refine zu_istore_n d_8270_76 (zs_lt zq_8270 rfl) ?_
  exact h.weak ⟨rfl, rfl, rfl, trivial⟩
def w_X9_readValue_40 (X : zs_X) (d : Nat) (p0 : Nat) (p1 : Int32) (p2 : Int32) (S : zs_T) (Q : zs_Q) : Prop :=
  (zs_K S p0 = some (.inl 8) ∧ ∃ b2, (zs_R S 8190 p0) = some b2 ∧ zs_A S b2 0 (zs_I S 8195 p0) ∧ zs_C X d 8219 [.ref p0, .int (zs_i S b2 (zs_I S 8195 p0).toNatClampNeg), .long ((p2).toInt64)] S (zs_kI (fun v6 S5 => (((¬ v6 = 0 → (zs_K S5 p0 = some (.inl 8) ∧ ab_n0 X.1 ≤ p0 ∧ ∀ S10, S10 = zs_sI S5 8203 p0 ((zs_I S5 8203 p0) - (1 : Int32)) → w_X9_readValue_75 X d p0 p2 S10 Q)) ∧ (¬ (¬ v6 = 0) → (zs_K S5 p0 = some (.inl 8) ∧ zs_C X d 8208 [.ref p0, .int (2 : Int32), .int p1] S5 (zs_kV (fun S14 => (Q (.returned none) S14)) Q)))))) Q))
theorem u_X9_readValue_40 {σ : Nat → Nat} {n0 : Nat} {bf : ab_B} {d : Nat} {p0 : Nat} {p1 : Int32} {p2 : Int32} {S : zs_T} {Q : zs_Q} (hB : zt_B bf) (h : w_X9_readValue_40 (zx σ n0 bf) d p0 p1 p2 S Q) : zs_U (zx σ n0 bf) d 8270 40 [(0, .ref p0), (1, .int p1), (2, .int p2)] [] S Q := by
  unfold w_X9_readValue_40 at h
  refine zu_aload_n d_8270_40 rfl (zs_ra _) ?_
  refine zu_aload_n d_8270_41 rfl (zs_ra _) ?_
  obtain ⟨k1, h⟩ := h
  refine zg_8_412 rfl d_8270_42 k1 ?_
  refine zu_aload_n d_8270_45 rfl (zs_ra _) ?_
  refine zg_8_1270 rfl d_8270_46 k1 ?_
  obtain ⟨b2, e3, h⟩ := h
  refine zs_stk1 (zs_rfe e3) ?_
  obtain ⟨k4, h⟩ := h
  refine zu_iald (k := 0) d_8270_49 rfl rfl k4 ?_
  refine zu_iload_n d_8270_50 rfl ?_
  refine zu_stk d_8270_51 rfl rfl ?_
  refine zc_8_1335 (x0 := (zs_i S b2 (zs_I S 8195 p0).toNatClampNeg)) (x1 := ((p2).toInt64)) hB rfl k1 d_8270_52 (Nat.le_of_ble_eq_true rfl) h (fun v6 S5 h => ?_)
  refine zu_ifne (t := 65) d_8270_55 rfl (fun c7 => ?_) (fun c7 => ?_)
  · have h := h.1 c7
    refine zu_aload_n d_8270_65 rfl (zs_ra _) ?_
    refine zu_dup d_8270_66 rfl ?_
    obtain ⟨k8, h⟩ := h
    refine zg_8_1409 rfl d_8270_67 k8 ?_
    refine zu_iconst d_8270_70 zi_1 ?_
    refine zu_stk d_8270_71 rfl rfl ?_
    obtain ⟨k9, h⟩ := h
    refine zp_8_1409 (v := ((zs_I S5 8203 p0) - (1 : Int32))) rfl d_8270_72 k8 k9 ?_
    generalize e11 : zs_sI S5 8203 p0 ((zs_I S5 8203 p0) - (1 : Int32)) = S10
    have h := h S10 e11.symm
    have K12 : ∀ b, zs_K S10 b = zs_K S5 b := zs_Kt e11 (zs_KsI _ _ _ _) (fun _ => rfl)
    exact (u_X9_readValue_75 hB h).weak ⟨rfl, rfl, trivial⟩
  · have h := h.2 c7
    refine zu_aload_n d_8270_58 rfl (zs_ra _) ?_
    refine zu_iconst d_8270_59 zi_2 ?_
    refine zu_iload_n d_8270_60 rfl ?_
    obtain ⟨k13, h⟩ := h
    refine zc_8_1297 (x0 := (2 : Int32)) (x1 := p1) hB rfl k13 d_8270_61 (Nat.le_of_ble_eq_true rfl) h (fun S14 h => ?_)
    exact zu_vret d_8270_64 zr_8270 h
def w_X9_readValue_133 (X : zs_X) (d : Nat)  (S : zs_T) (Q : zs_Q) : Prop :=
  (Q (.returned none) S)
theorem u_X9_readValue_133 {σ : Nat → Nat} {n0 : Nat} {bf : ab_B} {d : Nat}  {S : zs_T} {Q : zs_Q} (hB : zt_B bf) (h : w_X9_readValue_133 (zx σ n0 bf) d  S Q) : zs_U (zx σ n0 bf) d 8270 133 [] [] S Q := by
  unfold w_X9_readValue_133 at h
  exact zu_vret d_8270_133 zr_8270 h
def w_X9_readValue_77 (X : zs_X) (d : Nat) (p0 : Nat) (p2 : Int32) (p3 : Int32) (S : zs_T) (Q : zs_Q) : Prop :=
  (zs_K S p0 = some (.inl 8) ∧ (((zs_I S 8203 p0) ≤ p3 → (∃ b3, (zs_R S 8189 p0) = some b3 ∧ zs_A S b3 0 (zs_I S 8195 p0) ∧ ∃ b6, (zs_R S 8190 p0) = some b6 ∧ zs_A S b6 0 (zs_I S 8195 p0) ∧ zs_C X d 8220 [.ref p0, .int (zs_i S b6 (zs_I S 8195 p0).toNatClampNeg)] S (zs_kI (fun v10 S9 => (zs_K S9 p0 = some (.inl 8) ∧ zs_C X d 8221 [.ref p0, .int (zs_i S b3 (zs_I S 8195 p0).toNatClampNeg), .long ((p2).toInt64), .int v10] S9 (zs_kV (fun S12 => w_X9_readValue_133 X d  S12 Q) Q))) Q))) ∧ (¬ ((zs_I S 8203 p0) ≤ p3) → (∃ b14, (zs_R S 8202 p0) = some b14 ∧ zs_A S b14 0 (p3 + (1 : Int32)) ∧ zs_A S b14 0 p3 ∧ ab_n0 X.1 ≤ b14 ∧ ∀ S19, S19 = zs_si S b14 p3.toNatClampNeg (zs_i S b14 (p3 + (1 : Int32)).toNatClampNeg) → zs_U X d 8270 77 [(0, .ref p0), (2, .int p2), (3, .int (p3 + (1 : Int32)))] [] S19 Q))))
theorem u_X9_readValue_77 {σ : Nat → Nat} {n0 : Nat} {bf : ab_B} {d : Nat} {p0 : Nat} {p2 : Int32} {p3 : Int32} {S : zs_T} {Q : zs_Q} (hB : zt_B bf) (h : w_X9_readValue_77 (zx σ n0 bf) d p0 p2 p3 S Q) : zs_U (zx σ n0 bf) d 8270 77 [(0, .ref p0), (2, .int p2), (3, .int p3)] [] S Q := by
  unfold w_X9_readValue_77 at h
  refine zu_iload_n d_8270_77 rfl ?_
  refine zu_aload_n d_8270_78 rfl (zs_ra _) ?_
  obtain ⟨k1, h⟩ := h
  refine zg_8_1409 rfl d_8270_79 k1 ?_
  refine zu_cmpge (t := 105) d_8270_82 rfl (fun c2 => ?_) (fun c2 => ?_)
  · have h := h.1 c2
    refine zu_aload_n d_8270_105 rfl (zs_ra _) ?_
    refine zu_aload_n d_8270_106 rfl (zs_ra _) ?_
    refine zg_8_409 rfl d_8270_107 k1 ?_
    refine zu_aload_n d_8270_110 rfl (zs_ra _) ?_
    refine zg_8_1270 rfl d_8270_111 k1 ?_
    obtain ⟨b3, e4, h⟩ := h
    refine zs_stk1 (zs_rfe e4) ?_
    obtain ⟨k5, h⟩ := h
    refine zu_iald (k := 0) d_8270_114 rfl rfl k5 ?_
    refine zu_iload_n d_8270_115 rfl ?_
    refine zu_stk d_8270_116 rfl rfl ?_
    refine zu_aload_n d_8270_117 rfl (zs_ra _) ?_
    refine zu_aload_n d_8270_118 rfl (zs_ra _) ?_
    refine zg_8_412 rfl d_8270_119 k1 ?_
    refine zu_aload_n d_8270_122 rfl (zs_ra _) ?_
    refine zg_8_1270 rfl d_8270_123 k1 ?_
    obtain ⟨b6, e7, h⟩ := h
    refine zs_stk1 (zs_rfe e7) ?_
    obtain ⟨k8, h⟩ := h
    refine zu_iald (k := 0) d_8270_126 rfl rfl k8 ?_
    refine zc_8_1332 (x0 := (zs_i S b6 (zs_I S 8195 p0).toNatClampNeg)) hB rfl k1 d_8270_127 (Nat.le_of_ble_eq_true rfl) h (fun v10 S9 h => ?_)
    obtain ⟨k11, h⟩ := h
    refine zc_8_1341 (x0 := (zs_i S b3 (zs_I S 8195 p0).toNatClampNeg)) (x1 := ((p2).toInt64)) (x2 := v10) hB rfl k11 d_8270_130 (Nat.le_of_ble_eq_true rfl) h (fun S12 h => ?_)
    exact (u_X9_readValue_133 hB h).weak trivial
  · have h := h.2 c2
    refine zu_aload_n d_8270_85 rfl (zs_ra _) ?_
    refine zg_8_432 rfl d_8270_86 k1 ?_
    refine zu_iload_n d_8270_89 rfl ?_
    refine zu_aload_n d_8270_90 rfl (zs_ra _) ?_
    refine zg_8_432 rfl d_8270_91 k1 ?_
    refine zu_iload_n d_8270_94 rfl ?_
    refine zu_iconst d_8270_95 zi_1 ?_
    refine zu_stk d_8270_96 rfl rfl ?_
    obtain ⟨b14, e15, h⟩ := h
    refine zs_stk1 (zs_rfe e15) ?_
    obtain ⟨k16, h⟩ := h
    refine zu_iald (k := 0) d_8270_97 rfl rfl k16 ?_
    refine zs_stk2 (zs_rfe e15) ?_
    obtain ⟨k17, h⟩ := h
    obtain ⟨k18, h⟩ := h
    refine zu_iast (k := 0) d_8270_98 rfl rfl k18 k17 ?_
    generalize e20 : zs_si S b14 p3.toNatClampNeg (zs_i S b14 (p3 + (1 : Int32)).toNatClampNeg) = S19
    have h := h S19 e20.symm
    have K21 : ∀ b, zs_K S19 b = zs_K S b := zs_Kt e20 (zs_Ksi _ _ _ _) (fun _ => rfl)
    refine zu_iinc d_8270_99 rfl zi_1 (zs_lt zq_8270 rfl) ?_
    refine zu_goto (t := 77) d_8270_102 rfl ?_
    exact h.weak ⟨rfl, rfl, rfl, trivial⟩
def w_X9_readValue (X : zs_X) (d : Nat) (p0 : Nat) (p1 : Int32) (S : zs_T) (Q : zs_Q) : Prop :=
  (zs_K S p0 = some (.inl 8) ∧ ab_n0 X.1 ≤ p0 ∧ ∀ S3, S3 = zs_sI S 8195 p0 ((zs_I S 8195 p0) - (1 : Int32)) → ((¬ (zs_I S3 8203 p0) = 0 → (zs_C X d 8226 [.ref p0, .int (zs_I S3 8195 p0)] S3 (zs_kV (fun S7 => (zs_K S7 p0 = some (.inl 8) ∧ ∃ b10, (zs_R S7 8202 p0) = some b10 ∧ zs_A S7 b10 0 (0 : Int32) ∧ w_X9_readValue_40 X d p0 p1 (zs_i S7 b10 (0 : Int32).toNatClampNeg) S7 Q)) Q))) ∧ (¬ (¬ (zs_I S3 8203 p0) = 0) → (zs_C X d 8208 [.ref p0, .int (12 : Int32), .int p1] S3 (zs_kV (fun S13 => (Q (.returned none) S13)) Q)))))
theorem u_X9_readValue {σ : Nat → Nat} {n0 : Nat} {bf : ab_B} {d : Nat} {p0 : Nat} {p1 : Int32} {S : zs_T} {Q : zs_Q} (hB : zt_B bf) (hd : 1 ≤ d) (h : w_X9_readValue (zx σ n0 bf) (d - 1) p0 p1 S Q) : zs_C (zx σ n0 bf) d 8270 [.ref p0, .int p1] S Q := by
  have hL : lv_args 0 [.ref p0, .int p1] = [(0, .ref p0), (1, .int p1)] := rfl
  refine zs_C.of1 (hB.2 8270 (by decide) (by decide)) hd (by rw [hL]; exact zs_sub_self _ (by exact ⟨rfl, rfl, trivial⟩)) ?_
  rw [hL]
  clear hL
  unfold w_X9_readValue at h
  refine zu_aload_n d_8270_0 rfl (zs_ra _) ?_
  refine zu_dup d_8270_1 rfl ?_
  obtain ⟨k1, h⟩ := h
  refine zg_8_1270 rfl d_8270_2 k1 ?_
  refine zu_iconst d_8270_5 zi_1 ?_
  refine zu_stk d_8270_6 rfl rfl ?_
  obtain ⟨k2, h⟩ := h
  refine zp_8_1270 (v := ((zs_I S 8195 p0) - (1 : Int32))) rfl d_8270_7 k1 k2 ?_
  generalize e4 : zs_sI S 8195 p0 ((zs_I S 8195 p0) - (1 : Int32)) = S3
  have h := h S3 e4.symm
  have K5 : ∀ b, zs_K S3 b = zs_K S b := zs_Kt e4 (zs_KsI _ _ _ _) (fun _ => rfl)
  refine zu_aload_n d_8270_10 rfl (zs_ra _) ?_
  refine zg_8_1409 rfl d_8270_11 ((K5 _).trans k1) ?_
  refine zu_ifne (t := 25) d_8270_14 rfl (fun c6 => ?_) (fun c6 => ?_)
  · have h := h.1 c6
    refine zu_aload_n d_8270_25 rfl (zs_ra _) ?_
    refine zu_aload_n d_8270_26 rfl (zs_ra _) ?_
    refine zg_8_1270 rfl d_8270_27 ((K5 _).trans k1) ?_
    refine zc_8_1291 (x0 := (zs_I S3 8195 p0)) hB rfl ((K5 _).trans k1) d_8270_30 (Nat.le_of_ble_eq_true rfl) h (fun S7 h => ?_)
    refine zu_aload_n d_8270_33 rfl (zs_ra _) ?_
    obtain ⟨k9, h⟩ := h
    refine zg_8_432 rfl d_8270_34 k9 ?_
    refine zu_iconst d_8270_37 zi_0 ?_
    obtain ⟨b10, e11, h⟩ := h
    refine zs_stk1 (zs_rfe e11) ?_
    obtain ⟨k12, h⟩ := h
    refine zu_iald (k := 0) d_8270_38 rfl rfl k12 ?_
    refine zu_istore_n d_8270_39 (zs_lt zq_8270 rfl) ?_
    exact (u_X9_readValue_40 hB h).weak ⟨rfl, rfl, rfl, trivial⟩
  · have h := h.2 c6
    refine zu_aload_n d_8270_17 rfl (zs_ra _) ?_
    refine zu_bipush d_8270_18 zj_12 ?_
    refine zu_iload_n d_8270_20 rfl ?_
    refine zc_8_1297 (x0 := (12 : Int32)) (x1 := p1) hB rfl ((K5 _).trans k1) d_8270_21 (Nat.le_of_ble_eq_true rfl) h (fun S13 h => ?_)
    exact zu_vret d_8270_24 zr_8270 h
/-! SchemaPascalModel.writeValue(I)V -/
theorem zm_8271 {σ : Nat → Nat} {n0 : Nat} {bf : ab_B} : ab_code (zx σ n0 bf).1 8271 = prog_17_method_264_code := rfl
theorem zq_8271 {σ : Nat → Nat} {n0 : Nat} {bf : ab_B} : ab_maxL (zx σ n0 bf).1 8271 = 7 := rfl
theorem zr_8271 {σ : Nat → Nat} {n0 : Nat} {bf : ab_B} : ab_ret (zx σ n0 bf).1 8271 = (Option.none : Option Jvm.ClassFile.FieldType) := rfl
theorem d_8271_0 {σ : Nat → Nat} {n0 : Nat} {bf : ab_B} : decode (ab_code (zx σ n0 bf).1 8271) 0 = .ok (.iload_n 1, 1) := zd zm_8271 (by decide +kernel)
theorem d_8271_1 {σ : Nat → Nat} {n0 : Nat} {bf : ab_B} : decode (ab_code (zx σ n0 bf).1 8271) 1 = .ok (.ifCond .ne 54, 3) := zd zm_8271 (by decide +kernel)
theorem d_8271_4 {σ : Nat → Nat} {n0 : Nat} {bf : ab_B} : decode (ab_code (zx σ n0 bf).1 8271) 4 = .ok (.aload_n 0, 1) := zd zm_8271 (by decide +kernel)
theorem d_8271_5 {σ : Nat → Nat} {n0 : Nat} {bf : ab_B} : decode (ab_code (zx σ n0 bf).1 8271) 5 = .ok (.aload_n 0, 1) := zd zm_8271 (by decide +kernel)
theorem d_8271_6 {σ : Nat → Nat} {n0 : Nat} {bf : ab_B} : decode (ab_code (zx σ n0 bf).1 8271) 6 = .ok (.getfield 1264, 3) := zd zm_8271 (by decide +kernel)
theorem d_8271_9 {σ : Nat → Nat} {n0 : Nat} {bf : ab_B} : decode (ab_code (zx σ n0 bf).1 8271) 9 = .ok (.iconst 1, 1) := zd zm_8271 (by decide +kernel)
theorem d_8271_10 {σ : Nat → Nat} {n0 : Nat} {bf : ab_B} : decode (ab_code (zx σ n0 bf).1 8271) 10 = .ok (.isub, 1) := zd zm_8271 (by decide +kernel)
theorem d_8271_11 {σ : Nat → Nat} {n0 : Nat} {bf : ab_B} : decode (ab_code (zx σ n0 bf).1 8271) 11 = .ok (.invokevirtual 1317, 3) := zd zm_8271 (by decide +kernel)
theorem d_8271_14 {σ : Nat → Nat} {n0 : Nat} {bf : ab_B} : decode (ab_code (zx σ n0 bf).1 8271) 14 = .ok (.istore_n 2, 1) := zd zm_8271 (by decide +kernel)
theorem d_8271_15 {σ : Nat → Nat} {n0 : Nat} {bf : ab_B} : decode (ab_code (zx σ n0 bf).1 8271) 15 = .ok (.iconst 0, 1) := zd zm_8271 (by decide +kernel)
theorem d_8271_16 {σ : Nat → Nat} {n0 : Nat} {bf : ab_B} : decode (ab_code (zx σ n0 bf).1 8271) 16 = .ok (.istore_n 3, 1) := zd zm_8271 (by decide +kernel)
theorem d_8271_17 {σ : Nat → Nat} {n0 : Nat} {bf : ab_B} : decode (ab_code (zx σ n0 bf).1 8271) 17 = .ok (.iload_n 3, 1) := zd zm_8271 (by decide +kernel)
theorem d_8271_18 {σ : Nat → Nat} {n0 : Nat} {bf : ab_B} : decode (ab_code (zx σ n0 bf).1 8271) 18 = .ok (.iload_n 2, 1) := zd zm_8271 (by decide +kernel)
theorem d_8271_19 {σ : Nat → Nat} {n0 : Nat} {bf : ab_B} : decode (ab_code (zx σ n0 bf).1 8271) 19 = .ok (.if_icmp .ge 31, 3) := zd zm_8271 (by decide +kernel)
theorem d_8271_22 {σ : Nat → Nat} {n0 : Nat} {bf : ab_B} : decode (ab_code (zx σ n0 bf).1 8271) 22 = .ok (.aload_n 0, 1) := zd zm_8271 (by decide +kernel)
theorem d_8271_23 {σ : Nat → Nat} {n0 : Nat} {bf : ab_B} : decode (ab_code (zx σ n0 bf).1 8271) 23 = .ok (.aload_n 0, 1) := zd zm_8271 (by decide +kernel)
theorem d_8271_24 {σ : Nat → Nat} {n0 : Nat} {bf : ab_B} : decode (ab_code (zx σ n0 bf).1 8271) 24 = .ok (.getfield 402, 3) := zd zm_8271 (by decide +kernel)
theorem d_8271_27 {σ : Nat → Nat} {n0 : Nat} {bf : ab_B} : decode (ab_code (zx σ n0 bf).1 8271) 27 = .ok (.aload_n 0, 1) := zd zm_8271 (by decide +kernel)
theorem d_8271_28 {σ : Nat → Nat} {n0 : Nat} {bf : ab_B} : decode (ab_code (zx σ n0 bf).1 8271) 28 = .ok (.getfield 405, 3) := zd zm_8271 (by decide +kernel)
theorem d_8271_31 {σ : Nat → Nat} {n0 : Nat} {bf : ab_B} : decode (ab_code (zx σ n0 bf).1 8271) 31 = .ok (.aload_n 0, 1) := zd zm_8271 (by decide +kernel)
theorem d_8271_32 {σ : Nat → Nat} {n0 : Nat} {bf : ab_B} : decode (ab_code (zx σ n0 bf).1 8271) 32 = .ok (.getfield 1264, 3) := zd zm_8271 (by decide +kernel)
theorem d_8271_35 {σ : Nat → Nat} {n0 : Nat} {bf : ab_B} : decode (ab_code (zx σ n0 bf).1 8271) 35 = .ok (.iconst 1, 1) := zd zm_8271 (by decide +kernel)
theorem d_8271_36 {σ : Nat → Nat} {n0 : Nat} {bf : ab_B} : decode (ab_code (zx σ n0 bf).1 8271) 36 = .ok (.isub, 1) := zd zm_8271 (by decide +kernel)
theorem d_8271_37 {σ : Nat → Nat} {n0 : Nat} {bf : ab_B} : decode (ab_code (zx σ n0 bf).1 8271) 37 = .ok (.iaload, 1) := zd zm_8271 (by decide +kernel)
theorem d_8271_38 {σ : Nat → Nat} {n0 : Nat} {bf : ab_B} : decode (ab_code (zx σ n0 bf).1 8271) 38 = .ok (.iload_n 3, 1) := zd zm_8271 (by decide +kernel)
theorem d_8271_39 {σ : Nat → Nat} {n0 : Nat} {bf : ab_B} : decode (ab_code (zx σ n0 bf).1 8271) 39 = .ok (.iadd, 1) := zd zm_8271 (by decide +kernel)
theorem d_8271_40 {σ : Nat → Nat} {n0 : Nat} {bf : ab_B} : decode (ab_code (zx σ n0 bf).1 8271) 40 = .ok (.baload, 1) := zd zm_8271 (by decide +kernel)
theorem d_8271_41 {σ : Nat → Nat} {n0 : Nat} {bf : ab_B} : decode (ab_code (zx σ n0 bf).1 8271) 41 = .ok (.invokevirtual 1424, 3) := zd zm_8271 (by decide +kernel)
theorem d_8271_44 {σ : Nat → Nat} {n0 : Nat} {bf : ab_B} : decode (ab_code (zx σ n0 bf).1 8271) 44 = .ok (.iinc 3 1, 3) := zd zm_8271 (by decide +kernel)
theorem d_8271_47 {σ : Nat → Nat} {n0 : Nat} {bf : ab_B} : decode (ab_code (zx σ n0 bf).1 8271) 47 = .ok (.goto (-30), 3) := zd zm_8271 (by decide +kernel)
theorem d_8271_50 {σ : Nat → Nat} {n0 : Nat} {bf : ab_B} : decode (ab_code (zx σ n0 bf).1 8271) 50 = .ok (.aload_n 0, 1) := zd zm_8271 (by decide +kernel)
theorem d_8271_51 {σ : Nat → Nat} {n0 : Nat} {bf : ab_B} : decode (ab_code (zx σ n0 bf).1 8271) 51 = .ok (.invokevirtual 1323, 3) := zd zm_8271 (by decide +kernel)
theorem d_8271_54 {σ : Nat → Nat} {n0 : Nat} {bf : ab_B} : decode (ab_code (zx σ n0 bf).1 8271) 54 = .ok (.return_, 1) := zd zm_8271 (by decide +kernel)
theorem d_8271_55 {σ : Nat → Nat} {n0 : Nat} {bf : ab_B} : decode (ab_code (zx σ n0 bf).1 8271) 55 = .ok (.aload_n 0, 1) := zd zm_8271 (by decide +kernel)
theorem d_8271_56 {σ : Nat → Nat} {n0 : Nat} {bf : ab_B} : decode (ab_code (zx σ n0 bf).1 8271) 56 = .ok (.invokevirtual 1307, 3) := zd zm_8271 (by decide +kernel)
theorem d_8271_59 {σ : Nat → Nat} {n0 : Nat} {bf : ab_B} : decode (ab_code (zx σ n0 bf).1 8271) 59 = .ok (.lstore_n 2, 1) := zd zm_8271 (by decide +kernel)
theorem d_8271_60 {σ : Nat → Nat} {n0 : Nat} {bf : ab_B} : decode (ab_code (zx σ n0 bf).1 8271) 60 = .ok (.iload_n 1, 1) := zd zm_8271 (by decide +kernel)
theorem d_8271_61 {σ : Nat → Nat} {n0 : Nat} {bf : ab_B} : decode (ab_code (zx σ n0 bf).1 8271) 61 = .ok (.iconst 3, 1) := zd zm_8271 (by decide +kernel)
theorem d_8271_62 {σ : Nat → Nat} {n0 : Nat} {bf : ab_B} : decode (ab_code (zx σ n0 bf).1 8271) 62 = .ok (.if_icmp .ne 12, 3) := zd zm_8271 (by decide +kernel)
theorem d_8271_65 {σ : Nat → Nat} {n0 : Nat} {bf : ab_B} : decode (ab_code (zx σ n0 bf).1 8271) 65 = .ok (.aload_n 0, 1) := zd zm_8271 (by decide +kernel)
theorem d_8271_66 {σ : Nat → Nat} {n0 : Nat} {bf : ab_B} : decode (ab_code (zx σ n0 bf).1 8271) 66 = .ok (.lload_n 2, 1) := zd zm_8271 (by decide +kernel)
theorem d_8271_67 {σ : Nat → Nat} {n0 : Nat} {bf : ab_B} : decode (ab_code (zx σ n0 bf).1 8271) 67 = .ok (.l2i, 1) := zd zm_8271 (by decide +kernel)
theorem d_8271_68 {σ : Nat → Nat} {n0 : Nat} {bf : ab_B} : decode (ab_code (zx σ n0 bf).1 8271) 68 = .ok (.invokevirtual 1424, 3) := zd zm_8271 (by decide +kernel)
theorem d_8271_71 {σ : Nat → Nat} {n0 : Nat} {bf : ab_B} : decode (ab_code (zx σ n0 bf).1 8271) 71 = .ok (.goto 156, 3) := zd zm_8271 (by decide +kernel)
theorem d_8271_74 {σ : Nat → Nat} {n0 : Nat} {bf : ab_B} : decode (ab_code (zx σ n0 bf).1 8271) 74 = .ok (.iload_n 1, 1) := zd zm_8271 (by decide +kernel)
theorem d_8271_75 {σ : Nat → Nat} {n0 : Nat} {bf : ab_B} : decode (ab_code (zx σ n0 bf).1 8271) 75 = .ok (.iconst 2, 1) := zd zm_8271 (by decide +kernel)
theorem d_8271_76 {σ : Nat → Nat} {n0 : Nat} {bf : ab_B} : decode (ab_code (zx σ n0 bf).1 8271) 76 = .ok (.if_icmp .ne 62, 3) := zd zm_8271 (by decide +kernel)
theorem d_8271_79 {σ : Nat → Nat} {n0 : Nat} {bf : ab_B} : decode (ab_code (zx σ n0 bf).1 8271) 79 = .ok (.bipush 36, 2) := zd zm_8271 (by decide +kernel)
theorem d_8271_81 {σ : Nat → Nat} {n0 : Nat} {bf : ab_B} : decode (ab_code (zx σ n0 bf).1 8271) 81 = .ok (.lload_n 2, 1) := zd zm_8271 (by decide +kernel)
theorem d_8271_82 {σ : Nat → Nat} {n0 : Nat} {bf : ab_B} : decode (ab_code (zx σ n0 bf).1 8271) 82 = .ok (.lconst 1, 1) := zd zm_8271 (by decide +kernel)
theorem d_8271_83 {σ : Nat → Nat} {n0 : Nat} {bf : ab_B} : decode (ab_code (zx σ n0 bf).1 8271) 83 = .ok (.lcmp, 1) := zd zm_8271 (by decide +kernel)
theorem d_8271_84 {σ : Nat → Nat} {n0 : Nat} {bf : ab_B} : decode (ab_code (zx σ n0 bf).1 8271) 84 = .ok (.ifCond .ne 7, 3) := zd zm_8271 (by decide +kernel)
theorem d_8271_87 {σ : Nat → Nat} {n0 : Nat} {bf : ab_B} : decode (ab_code (zx σ n0 bf).1 8271) 87 = .ok (.iconst 4, 1) := zd zm_8271 (by decide +kernel)
theorem d_8271_88 {σ : Nat → Nat} {n0 : Nat} {bf : ab_B} : decode (ab_code (zx σ n0 bf).1 8271) 88 = .ok (.goto 4, 3) := zd zm_8271 (by decide +kernel)
theorem d_8271_91 {σ : Nat → Nat} {n0 : Nat} {bf : ab_B} : decode (ab_code (zx σ n0 bf).1 8271) 91 = .ok (.iconst 5, 1) := zd zm_8271 (by decide +kernel)
theorem d_8271_92 {σ : Nat → Nat} {n0 : Nat} {bf : ab_B} : decode (ab_code (zx σ n0 bf).1 8271) 92 = .ok (.iadd, 1) := zd zm_8271 (by decide +kernel)
theorem d_8271_93 {σ : Nat → Nat} {n0 : Nat} {bf : ab_B} : decode (ab_code (zx σ n0 bf).1 8271) 93 = .ok (.istore 4, 2) := zd zm_8271 (by decide +kernel)
theorem d_8271_95 {σ : Nat → Nat} {n0 : Nat} {bf : ab_B} : decode (ab_code (zx σ n0 bf).1 8271) 95 = .ok (.iconst 0, 1) := zd zm_8271 (by decide +kernel)
theorem d_8271_96 {σ : Nat → Nat} {n0 : Nat} {bf : ab_B} : decode (ab_code (zx σ n0 bf).1 8271) 96 = .ok (.istore 5, 2) := zd zm_8271 (by decide +kernel)
theorem d_8271_98 {σ : Nat → Nat} {n0 : Nat} {bf : ab_B} : decode (ab_code (zx σ n0 bf).1 8271) 98 = .ok (.iload 5, 2) := zd zm_8271 (by decide +kernel)
theorem d_8271_100 {σ : Nat → Nat} {n0 : Nat} {bf : ab_B} : decode (ab_code (zx σ n0 bf).1 8271) 100 = .ok (.aload_n 0, 1) := zd zm_8271 (by decide +kernel)
theorem d_8271_101 {σ : Nat → Nat} {n0 : Nat} {bf : ab_B} : decode (ab_code (zx σ n0 bf).1 8271) 101 = .ok (.getfield 28, 3) := zd zm_8271 (by decide +kernel)
theorem d_8271_104 {σ : Nat → Nat} {n0 : Nat} {bf : ab_B} : decode (ab_code (zx σ n0 bf).1 8271) 104 = .ok (.iload 4, 2) := zd zm_8271 (by decide +kernel)
theorem d_8271_106 {σ : Nat → Nat} {n0 : Nat} {bf : ab_B} : decode (ab_code (zx σ n0 bf).1 8271) 106 = .ok (.baload, 1) := zd zm_8271 (by decide +kernel)
theorem d_8271_107 {σ : Nat → Nat} {n0 : Nat} {bf : ab_B} : decode (ab_code (zx σ n0 bf).1 8271) 107 = .ok (.if_icmp .ge 28, 3) := zd zm_8271 (by decide +kernel)
theorem d_8271_110 {σ : Nat → Nat} {n0 : Nat} {bf : ab_B} : decode (ab_code (zx σ n0 bf).1 8271) 110 = .ok (.aload_n 0, 1) := zd zm_8271 (by decide +kernel)
theorem d_8271_111 {σ : Nat → Nat} {n0 : Nat} {bf : ab_B} : decode (ab_code (zx σ n0 bf).1 8271) 111 = .ok (.aload_n 0, 1) := zd zm_8271 (by decide +kernel)
theorem d_8271_112 {σ : Nat → Nat} {n0 : Nat} {bf : ab_B} : decode (ab_code (zx σ n0 bf).1 8271) 112 = .ok (.getfield 21, 3) := zd zm_8271 (by decide +kernel)
theorem d_8271_115 {σ : Nat → Nat} {n0 : Nat} {bf : ab_B} : decode (ab_code (zx σ n0 bf).1 8271) 115 = .ok (.aload_n 0, 1) := zd zm_8271 (by decide +kernel)
theorem d_8271_116 {σ : Nat → Nat} {n0 : Nat} {bf : ab_B} : decode (ab_code (zx σ n0 bf).1 8271) 116 = .ok (.getfield 24, 3) := zd zm_8271 (by decide +kernel)
theorem d_8271_119 {σ : Nat → Nat} {n0 : Nat} {bf : ab_B} : decode (ab_code (zx σ n0 bf).1 8271) 119 = .ok (.iload 4, 2) := zd zm_8271 (by decide +kernel)
theorem d_8271_121 {σ : Nat → Nat} {n0 : Nat} {bf : ab_B} : decode (ab_code (zx σ n0 bf).1 8271) 121 = .ok (.iaload, 1) := zd zm_8271 (by decide +kernel)
theorem d_8271_122 {σ : Nat → Nat} {n0 : Nat} {bf : ab_B} : decode (ab_code (zx σ n0 bf).1 8271) 122 = .ok (.iload 5, 2) := zd zm_8271 (by decide +kernel)
theorem d_8271_124 {σ : Nat → Nat} {n0 : Nat} {bf : ab_B} : decode (ab_code (zx σ n0 bf).1 8271) 124 = .ok (.iadd, 1) := zd zm_8271 (by decide +kernel)
theorem d_8271_125 {σ : Nat → Nat} {n0 : Nat} {bf : ab_B} : decode (ab_code (zx σ n0 bf).1 8271) 125 = .ok (.baload, 1) := zd zm_8271 (by decide +kernel)
theorem d_8271_126 {σ : Nat → Nat} {n0 : Nat} {bf : ab_B} : decode (ab_code (zx σ n0 bf).1 8271) 126 = .ok (.invokevirtual 1424, 3) := zd zm_8271 (by decide +kernel)
theorem d_8271_129 {σ : Nat → Nat} {n0 : Nat} {bf : ab_B} : decode (ab_code (zx σ n0 bf).1 8271) 129 = .ok (.iinc 5 1, 3) := zd zm_8271 (by decide +kernel)
theorem d_8271_132 {σ : Nat → Nat} {n0 : Nat} {bf : ab_B} : decode (ab_code (zx σ n0 bf).1 8271) 132 = .ok (.goto (-34), 3) := zd zm_8271 (by decide +kernel)
theorem d_8271_135 {σ : Nat → Nat} {n0 : Nat} {bf : ab_B} : decode (ab_code (zx σ n0 bf).1 8271) 135 = .ok (.goto 92, 3) := zd zm_8271 (by decide +kernel)
theorem d_8271_138 {σ : Nat → Nat} {n0 : Nat} {bf : ab_B} : decode (ab_code (zx σ n0 bf).1 8271) 138 = .ok (.lload_n 2, 1) := zd zm_8271 (by decide +kernel)
theorem d_8271_139 {σ : Nat → Nat} {n0 : Nat} {bf : ab_B} : decode (ab_code (zx σ n0 bf).1 8271) 139 = .ok (.lconst 0, 1) := zd zm_8271 (by decide +kernel)
theorem d_8271_140 {σ : Nat → Nat} {n0 : Nat} {bf : ab_B} : decode (ab_code (zx σ n0 bf).1 8271) 140 = .ok (.lcmp, 1) := zd zm_8271 (by decide +kernel)
theorem d_8271_141 {σ : Nat → Nat} {n0 : Nat} {bf : ab_B} : decode (ab_code (zx σ n0 bf).1 8271) 141 = .ok (.ifCond .ge 12, 3) := zd zm_8271 (by decide +kernel)
theorem d_8271_144 {σ : Nat → Nat} {n0 : Nat} {bf : ab_B} : decode (ab_code (zx σ n0 bf).1 8271) 144 = .ok (.aload_n 0, 1) := zd zm_8271 (by decide +kernel)
theorem d_8271_145 {σ : Nat → Nat} {n0 : Nat} {bf : ab_B} : decode (ab_code (zx σ n0 bf).1 8271) 145 = .ok (.bipush 45, 2) := zd zm_8271 (by decide +kernel)
theorem d_8271_147 {σ : Nat → Nat} {n0 : Nat} {bf : ab_B} : decode (ab_code (zx σ n0 bf).1 8271) 147 = .ok (.invokevirtual 1424, 3) := zd zm_8271 (by decide +kernel)
theorem d_8271_150 {σ : Nat → Nat} {n0 : Nat} {bf : ab_B} : decode (ab_code (zx σ n0 bf).1 8271) 150 = .ok (.lload_n 2, 1) := zd zm_8271 (by decide +kernel)
theorem d_8271_151 {σ : Nat → Nat} {n0 : Nat} {bf : ab_B} : decode (ab_code (zx σ n0 bf).1 8271) 151 = .ok (.lneg, 1) := zd zm_8271 (by decide +kernel)
theorem d_8271_152 {σ : Nat → Nat} {n0 : Nat} {bf : ab_B} : decode (ab_code (zx σ n0 bf).1 8271) 152 = .ok (.lstore_n 2, 1) := zd zm_8271 (by decide +kernel)
theorem d_8271_153 {σ : Nat → Nat} {n0 : Nat} {bf : ab_B} : decode (ab_code (zx σ n0 bf).1 8271) 153 = .ok (.iconst 0, 1) := zd zm_8271 (by decide +kernel)
theorem d_8271_154 {σ : Nat → Nat} {n0 : Nat} {bf : ab_B} : decode (ab_code (zx σ n0 bf).1 8271) 154 = .ok (.istore 4, 2) := zd zm_8271 (by decide +kernel)
theorem d_8271_156 {σ : Nat → Nat} {n0 : Nat} {bf : ab_B} : decode (ab_code (zx σ n0 bf).1 8271) 156 = .ok (.ldc2_w 1427, 3) := zd zm_8271 (by decide +kernel)
theorem d_8271_159 {σ : Nat → Nat} {n0 : Nat} {bf : ab_B} : decode (ab_code (zx σ n0 bf).1 8271) 159 = .ok (.lstore 5, 2) := zd zm_8271 (by decide +kernel)
theorem d_8271_161 {σ : Nat → Nat} {n0 : Nat} {bf : ab_B} : decode (ab_code (zx σ n0 bf).1 8271) 161 = .ok (.lload 5, 2) := zd zm_8271 (by decide +kernel)
theorem d_8271_163 {σ : Nat → Nat} {n0 : Nat} {bf : ab_B} : decode (ab_code (zx σ n0 bf).1 8271) 163 = .ok (.lconst 0, 1) := zd zm_8271 (by decide +kernel)
theorem d_8271_164 {σ : Nat → Nat} {n0 : Nat} {bf : ab_B} : decode (ab_code (zx σ n0 bf).1 8271) 164 = .ok (.lcmp, 1) := zd zm_8271 (by decide +kernel)
theorem d_8271_165 {σ : Nat → Nat} {n0 : Nat} {bf : ab_B} : decode (ab_code (zx σ n0 bf).1 8271) 165 = .ok (.ifCond .le 62, 3) := zd zm_8271 (by decide +kernel)
theorem d_8271_168 {σ : Nat → Nat} {n0 : Nat} {bf : ab_B} : decode (ab_code (zx σ n0 bf).1 8271) 168 = .ok (.iload 4, 2) := zd zm_8271 (by decide +kernel)
theorem d_8271_170 {σ : Nat → Nat} {n0 : Nat} {bf : ab_B} : decode (ab_code (zx σ n0 bf).1 8271) 170 = .ok (.ifCond .ne 17, 3) := zd zm_8271 (by decide +kernel)
theorem d_8271_173 {σ : Nat → Nat} {n0 : Nat} {bf : ab_B} : decode (ab_code (zx σ n0 bf).1 8271) 173 = .ok (.lload_n 2, 1) := zd zm_8271 (by decide +kernel)
theorem d_8271_174 {σ : Nat → Nat} {n0 : Nat} {bf : ab_B} : decode (ab_code (zx σ n0 bf).1 8271) 174 = .ok (.lload 5, 2) := zd zm_8271 (by decide +kernel)
theorem d_8271_176 {σ : Nat → Nat} {n0 : Nat} {bf : ab_B} : decode (ab_code (zx σ n0 bf).1 8271) 176 = .ok (.lcmp, 1) := zd zm_8271 (by decide +kernel)
theorem d_8271_177 {σ : Nat → Nat} {n0 : Nat} {bf : ab_B} : decode (ab_code (zx σ n0 bf).1 8271) 177 = .ok (.ifCond .ge 10, 3) := zd zm_8271 (by decide +kernel)
theorem d_8271_180 {σ : Nat → Nat} {n0 : Nat} {bf : ab_B} : decode (ab_code (zx σ n0 bf).1 8271) 180 = .ok (.lload 5, 2) := zd zm_8271 (by decide +kernel)
theorem d_8271_182 {σ : Nat → Nat} {n0 : Nat} {bf : ab_B} : decode (ab_code (zx σ n0 bf).1 8271) 182 = .ok (.lconst 1, 1) := zd zm_8271 (by decide +kernel)
theorem d_8271_183 {σ : Nat → Nat} {n0 : Nat} {bf : ab_B} : decode (ab_code (zx σ n0 bf).1 8271) 183 = .ok (.lcmp, 1) := zd zm_8271 (by decide +kernel)
theorem d_8271_184 {σ : Nat → Nat} {n0 : Nat} {bf : ab_B} : decode (ab_code (zx σ n0 bf).1 8271) 184 = .ok (.ifCond .ne 7, 3) := zd zm_8271 (by decide +kernel)
theorem d_8271_187 {σ : Nat → Nat} {n0 : Nat} {bf : ab_B} : decode (ab_code (zx σ n0 bf).1 8271) 187 = .ok (.iconst 1, 1) := zd zm_8271 (by decide +kernel)
theorem d_8271_188 {σ : Nat → Nat} {n0 : Nat} {bf : ab_B} : decode (ab_code (zx σ n0 bf).1 8271) 188 = .ok (.goto 4, 3) := zd zm_8271 (by decide +kernel)
theorem d_8271_191 {σ : Nat → Nat} {n0 : Nat} {bf : ab_B} : decode (ab_code (zx σ n0 bf).1 8271) 191 = .ok (.iconst 0, 1) := zd zm_8271 (by decide +kernel)
theorem d_8271_192 {σ : Nat → Nat} {n0 : Nat} {bf : ab_B} : decode (ab_code (zx σ n0 bf).1 8271) 192 = .ok (.istore 4, 2) := zd zm_8271 (by decide +kernel)
theorem d_8271_194 {σ : Nat → Nat} {n0 : Nat} {bf : ab_B} : decode (ab_code (zx σ n0 bf).1 8271) 194 = .ok (.iload 4, 2) := zd zm_8271 (by decide +kernel)
theorem d_8271_196 {σ : Nat → Nat} {n0 : Nat} {bf : ab_B} : decode (ab_code (zx σ n0 bf).1 8271) 196 = .ok (.ifCond .eq 20, 3) := zd zm_8271 (by decide +kernel)
theorem d_8271_199 {σ : Nat → Nat} {n0 : Nat} {bf : ab_B} : decode (ab_code (zx σ n0 bf).1 8271) 199 = .ok (.aload_n 0, 1) := zd zm_8271 (by decide +kernel)
theorem d_8271_200 {σ : Nat → Nat} {n0 : Nat} {bf : ab_B} : decode (ab_code (zx σ n0 bf).1 8271) 200 = .ok (.ldc2_w 501, 3) := zd zm_8271 (by decide +kernel)
theorem d_8271_203 {σ : Nat → Nat} {n0 : Nat} {bf : ab_B} : decode (ab_code (zx σ n0 bf).1 8271) 203 = .ok (.lload_n 2, 1) := zd zm_8271 (by decide +kernel)
theorem d_8271_204 {σ : Nat → Nat} {n0 : Nat} {bf : ab_B} : decode (ab_code (zx σ n0 bf).1 8271) 204 = .ok (.lload 5, 2) := zd zm_8271 (by decide +kernel)
theorem d_8271_206 {σ : Nat → Nat} {n0 : Nat} {bf : ab_B} : decode (ab_code (zx σ n0 bf).1 8271) 206 = .ok (.ldiv, 1) := zd zm_8271 (by decide +kernel)
theorem d_8271_207 {σ : Nat → Nat} {n0 : Nat} {bf : ab_B} : decode (ab_code (zx σ n0 bf).1 8271) 207 = .ok (.ldc2_w 499, 3) := zd zm_8271 (by decide +kernel)
theorem d_8271_210 {σ : Nat → Nat} {n0 : Nat} {bf : ab_B} : decode (ab_code (zx σ n0 bf).1 8271) 210 = .ok (.lrem, 1) := zd zm_8271 (by decide +kernel)
theorem d_8271_211 {σ : Nat → Nat} {n0 : Nat} {bf : ab_B} : decode (ab_code (zx σ n0 bf).1 8271) 211 = .ok (.ladd, 1) := zd zm_8271 (by decide +kernel)
theorem d_8271_212 {σ : Nat → Nat} {n0 : Nat} {bf : ab_B} : decode (ab_code (zx σ n0 bf).1 8271) 212 = .ok (.l2i, 1) := zd zm_8271 (by decide +kernel)
theorem d_8271_213 {σ : Nat → Nat} {n0 : Nat} {bf : ab_B} : decode (ab_code (zx σ n0 bf).1 8271) 213 = .ok (.invokevirtual 1424, 3) := zd zm_8271 (by decide +kernel)
theorem d_8271_216 {σ : Nat → Nat} {n0 : Nat} {bf : ab_B} : decode (ab_code (zx σ n0 bf).1 8271) 216 = .ok (.lload 5, 2) := zd zm_8271 (by decide +kernel)
theorem d_8271_218 {σ : Nat → Nat} {n0 : Nat} {bf : ab_B} : decode (ab_code (zx σ n0 bf).1 8271) 218 = .ok (.ldc2_w 499, 3) := zd zm_8271 (by decide +kernel)
theorem d_8271_221 {σ : Nat → Nat} {n0 : Nat} {bf : ab_B} : decode (ab_code (zx σ n0 bf).1 8271) 221 = .ok (.ldiv, 1) := zd zm_8271 (by decide +kernel)
theorem d_8271_222 {σ : Nat → Nat} {n0 : Nat} {bf : ab_B} : decode (ab_code (zx σ n0 bf).1 8271) 222 = .ok (.lstore 5, 2) := zd zm_8271 (by decide +kernel)
theorem d_8271_224 {σ : Nat → Nat} {n0 : Nat} {bf : ab_B} : decode (ab_code (zx σ n0 bf).1 8271) 224 = .ok (.goto (-63), 3) := zd zm_8271 (by decide +kernel)
theorem d_8271_227 {σ : Nat → Nat} {n0 : Nat} {bf : ab_B} : decode (ab_code (zx σ n0 bf).1 8271) 227 = .ok (.return_, 1) := zd zm_8271 (by decide +kernel)
def w_X9_writeValue_44 (X : zs_X) (d : Nat) (p0 : Nat) (p2 : Int32) (p3 : Int32) (S : zs_T) (Q : zs_Q) : Prop :=
  (zs_U X d 8271 17 [(0, .ref p0), (2, .int p2), (3, .int (p3 + (1 : Int32)))] [] S Q)
theorem u_X9_writeValue_44 {σ : Nat → Nat} {n0 : Nat} {bf : ab_B} {d : Nat} {p0 : Nat} {p2 : Int32} {p3 : Int32} {S : zs_T} {Q : zs_Q} (hB : zt_B bf) (h : w_X9_writeValue_44 (zx σ n0 bf) d p0 p2 p3 S Q) : zs_U (zx σ n0 bf) d 8271 44 [(0, .ref p0), (2, .int p2), (3, .int p3)] [] S Q := by
  unfold w_X9_writeValue_44 at h
  refine zu_iinc d_8271_44 rfl zi_1 (zs_lt zq_8271 rfl) ?_
  refine zu_goto (t := 17) d_8271_47 rfl ?_
  exact h.weak ⟨rfl, rfl, rfl, trivial⟩
def w_X9_writeValue_17 (X : zs_X) (d : Nat) (p0 : Nat) (p2 : Int32) (p3 : Int32) (S : zs_T) (Q : zs_Q) : Prop :=
  (((p2 ≤ p3 → (zs_K S p0 = some (.inl 8) ∧ zs_C X d 8228 [.ref p0] S (zs_kV (fun S3 => (Q (.returned none) S3)) Q))) ∧ (¬ (p2 ≤ p3) → (zs_K S p0 = some (.inl 8) ∧ ∃ b6, (zs_R S 8186 p0) = some b6 ∧ zs_A S b6 0 ((zs_I S 8187 p0) - (1 : Int32)) ∧ ∃ b9, (zs_R S 8185 p0) = some b9 ∧ zs_A S b9 1 ((zs_i S b6 ((zs_I S 8187 p0) - (1 : Int32)).toNatClampNeg) + p3) ∧ zs_C X d 8272 [.ref p0, .int (zs_i S b9 ((zs_i S b6 ((zs_I S 8187 p0) - (1 : Int32)).toNatClampNeg) + p3).toNatClampNeg)] S (zs_kV (fun S12 => w_X9_writeValue_44 X d p0 p2 p3 S12 Q) Q)))))
theorem u_X9_writeValue_17 {σ : Nat → Nat} {n0 : Nat} {bf : ab_B} {d : Nat} {p0 : Nat} {p2 : Int32} {p3 : Int32} {S : zs_T} {Q : zs_Q} (hB : zt_B bf) (h : w_X9_writeValue_17 (zx σ n0 bf) d p0 p2 p3 S Q) : zs_U (zx σ n0 bf) d 8271 17 [(0, .ref p0), (2, .int p2), (3, .int p3)] [] S Q := by
  unfold w_X9_writeValue_17 at h
  refine zu_iload_n d_8271_17 rfl ?_
  refine zu_iload_n d_8271_18 rfl ?_
  refine zu_cmpge (t := 50) d_8271_19 rfl (fun c1 => ?_) (fun c1 => ?_)
  · have h := h.1 c1
    refine zu_aload_n d_8271_50 rfl (zs_ra _) ?_
    obtain ⟨k2, h⟩ := h
    refine zc_8_1323  hB rfl k2 d_8271_51 (Nat.le_of_ble_eq_true rfl) h (fun S3 h => ?_)
    exact zu_vret d_8271_54 zr_8271 h
  · have h := h.2 c1
    refine zu_aload_n d_8271_22 rfl (zs_ra _) ?_
    refine zu_aload_n d_8271_23 rfl (zs_ra _) ?_
    obtain ⟨k5, h⟩ := h
    refine zg_8_402 rfl d_8271_24 k5 ?_
    refine zu_aload_n d_8271_27 rfl (zs_ra _) ?_
    refine zg_8_405 rfl d_8271_28 k5 ?_
    refine zu_aload_n d_8271_31 rfl (zs_ra _) ?_
    refine zg_8_1264 rfl d_8271_32 k5 ?_
    refine zu_iconst d_8271_35 zi_1 ?_
    refine zu_stk d_8271_36 rfl rfl ?_
    obtain ⟨b6, e7, h⟩ := h
    refine zs_stk1 (zs_rfe e7) ?_
    obtain ⟨k8, h⟩ := h
    refine zu_iald (k := 0) d_8271_37 rfl rfl k8 ?_
    refine zu_iload_n d_8271_38 rfl ?_
    refine zu_stk d_8271_39 rfl rfl ?_
    obtain ⟨b9, e10, h⟩ := h
    refine zs_stk1 (zs_rfe e10) ?_
    obtain ⟨k11, h⟩ := h
    refine zu_bald (k := 1) d_8271_40 rfl (Or.inl rfl) k11 ?_
    refine zc_8_1424 (x0 := (zs_i S b9 ((zs_i S b6 ((zs_I S 8187 p0) - (1 : Int32)).toNatClampNeg) + p3).toNatClampNeg)) hB rfl k5 d_8271_41 (Nat.le_of_ble_eq_true rfl) h (fun S12 h => ?_)
    exact (u_X9_writeValue_44 hB h).weak ⟨rfl, rfl, rfl, trivial⟩
def w_X9_writeValue_92 (X : zs_X) (d : Nat) (p0 : Nat) (q0 : Int32) (q1 : Int32) (S : zs_T) (Q : zs_Q) : Prop :=
  (zs_U X d 8271 98 [(0, .ref p0), (4, .int (q0 + q1)), (5, .int (0 : Int32))] [] S Q)
theorem u_X9_writeValue_92 {σ : Nat → Nat} {n0 : Nat} {bf : ab_B} {d : Nat} {p0 : Nat} {q0 : Int32} {q1 : Int32} {S : zs_T} {Q : zs_Q} (hB : zt_B bf) (h : w_X9_writeValue_92 (zx σ n0 bf) d p0 q0 q1 S Q) : zs_U (zx σ n0 bf) d 8271 92 [(0, .ref p0)] [.int q1, .int q0] S Q := by
  unfold w_X9_writeValue_92 at h
  refine zu_stk d_8271_92 rfl rfl ?_
  refine zu_istore d_8271_93 (zs_lt zq_8271 rfl) ?_
  refine zu_iconst d_8271_95 zi_0 ?_
  refine zu_istore d_8271_96 (zs_lt zq_8271 rfl) ?_
  exact h.weak ⟨rfl, rfl, rfl, trivial⟩
def w_X9_writeValue_129 (X : zs_X) (d : Nat) (p0 : Nat) (p4 : Int32) (p5 : Int32) (S : zs_T) (Q : zs_Q) : Prop :=
  (zs_U X d 8271 98 [(0, .ref p0), (4, .int p4), (5, .int (p5 + (1 : Int32)))] [] S Q)
theorem u_X9_writeValue_129 {σ : Nat → Nat} {n0 : Nat} {bf : ab_B} {d : Nat} {p0 : Nat} {p4 : Int32} {p5 : Int32} {S : zs_T} {Q : zs_Q} (hB : zt_B bf) (h : w_X9_writeValue_129 (zx σ n0 bf) d p0 p4 p5 S Q) : zs_U (zx σ n0 bf) d 8271 129 [(0, .ref p0), (4, .int p4), (5, .int p5)] [] S Q := by
  unfold w_X9_writeValue_129 at h
  refine zu_iinc d_8271_129 rfl zi_1 (zs_lt zq_8271 rfl) ?_
  refine zu_goto (t := 98) d_8271_132 rfl ?_
  exact h.weak ⟨rfl, rfl, rfl, trivial⟩
def w_X9_writeValue_98 (X : zs_X) (d : Nat) (p0 : Nat) (p4 : Int32) (p5 : Int32) (S : zs_T) (Q : zs_Q) : Prop :=
  (zs_K S p0 = some (.inl 8) ∧ ∃ b2, (zs_R S 8016 p0) = some b2 ∧ zs_A S b2 1 p4 ∧ (((zs_i S b2 p4.toNatClampNeg) ≤ p5 → (Q (.returned none) S)) ∧ (¬ ((zs_i S b2 p4.toNatClampNeg) ≤ p5) → (∃ b6, (zs_R S 8015 p0) = some b6 ∧ zs_A S b6 0 p4 ∧ ∃ b9, (zs_R S 8013 p0) = some b9 ∧ zs_A S b9 1 ((zs_i S b6 p4.toNatClampNeg) + p5) ∧ zs_C X d 8272 [.ref p0, .int (zs_i S b9 ((zs_i S b6 p4.toNatClampNeg) + p5).toNatClampNeg)] S (zs_kV (fun S12 => w_X9_writeValue_129 X d p0 p4 p5 S12 Q) Q)))))
theorem u_X9_writeValue_98 {σ : Nat → Nat} {n0 : Nat} {bf : ab_B} {d : Nat} {p0 : Nat} {p4 : Int32} {p5 : Int32} {S : zs_T} {Q : zs_Q} (hB : zt_B bf) (h : w_X9_writeValue_98 (zx σ n0 bf) d p0 p4 p5 S Q) : zs_U (zx σ n0 bf) d 8271 98 [(0, .ref p0), (4, .int p4), (5, .int p5)] [] S Q := by
  unfold w_X9_writeValue_98 at h
  refine zu_iload d_8271_98 rfl ?_
  refine zu_aload_n d_8271_100 rfl (zs_ra _) ?_
  obtain ⟨k1, h⟩ := h
  refine zg_8_28 rfl d_8271_101 k1 ?_
  refine zu_iload d_8271_104 rfl ?_
  obtain ⟨b2, e3, h⟩ := h
  refine zs_stk1 (zs_rfe e3) ?_
  obtain ⟨k4, h⟩ := h
  refine zu_bald (k := 1) d_8271_106 rfl (Or.inl rfl) k4 ?_
  refine zu_cmpge (t := 135) d_8271_107 rfl (fun c5 => ?_) (fun c5 => ?_)
  · have h := h.1 c5
    refine zu_goto (t := 227) d_8271_135 rfl ?_
    exact zu_vret d_8271_227 zr_8271 h
  · have h := h.2 c5
    refine zu_aload_n d_8271_110 rfl (zs_ra _) ?_
    refine zu_aload_n d_8271_111 rfl (zs_ra _) ?_
    refine zg_8_21 rfl d_8271_112 k1 ?_
    refine zu_aload_n d_8271_115 rfl (zs_ra _) ?_
    refine zg_8_24 rfl d_8271_116 k1 ?_
    refine zu_iload d_8271_119 rfl ?_
    obtain ⟨b6, e7, h⟩ := h
    refine zs_stk1 (zs_rfe e7) ?_
    obtain ⟨k8, h⟩ := h
    refine zu_iald (k := 0) d_8271_121 rfl rfl k8 ?_
    refine zu_iload d_8271_122 rfl ?_
    refine zu_stk d_8271_124 rfl rfl ?_
    obtain ⟨b9, e10, h⟩ := h
    refine zs_stk1 (zs_rfe e10) ?_
    obtain ⟨k11, h⟩ := h
    refine zu_bald (k := 1) d_8271_125 rfl (Or.inl rfl) k11 ?_
    refine zc_8_1424 (x0 := (zs_i S b9 ((zs_i S b6 p4.toNatClampNeg) + p5).toNatClampNeg)) hB rfl k1 d_8271_126 (Nat.le_of_ble_eq_true rfl) h (fun S12 h => ?_)
    exact (u_X9_writeValue_129 hB h).weak ⟨rfl, rfl, rfl, trivial⟩
def w_X9_writeValue_153 (X : zs_X) (d : Nat) (p0 : Nat) (p2 : Int64) (S : zs_T) (Q : zs_Q) : Prop :=
  (zs_U X d 8271 161 [(0, .ref p0), (2, .long p2), (4, .int (0 : Int32)), (5, .long (1000000000 : Int64))] [] S Q)
theorem u_X9_writeValue_153 {σ : Nat → Nat} {n0 : Nat} {bf : ab_B} {d : Nat} {p0 : Nat} {p2 : Int64} {S : zs_T} {Q : zs_Q} (hB : zt_B bf) (h : w_X9_writeValue_153 (zx σ n0 bf) d p0 p2 S Q) : zs_U (zx σ n0 bf) d 8271 153 [(0, .ref p0), (2, .long p2)] [] S Q := by
  unfold w_X9_writeValue_153 at h
  refine zu_iconst d_8271_153 zi_0 ?_
  refine zu_istore d_8271_154 (zs_lt zq_8271 rfl) ?_
  refine zl2_8_1427 rfl d_8271_156 ?_
  refine zu_lstore d_8271_159 (zs_lt zq_8271 rfl) ?_
  exact h.weak ⟨rfl, rfl, rfl, rfl, trivial⟩
def w_X9_writeValue_150 (X : zs_X) (d : Nat) (p0 : Nat) (p2 : Int64) (S : zs_T) (Q : zs_Q) : Prop :=
  (w_X9_writeValue_153 X d p0 ((-p2)) S Q)
theorem u_X9_writeValue_150 {σ : Nat → Nat} {n0 : Nat} {bf : ab_B} {d : Nat} {p0 : Nat} {p2 : Int64} {S : zs_T} {Q : zs_Q} (hB : zt_B bf) (h : w_X9_writeValue_150 (zx σ n0 bf) d p0 p2 S Q) : zs_U (zx σ n0 bf) d 8271 150 [(0, .ref p0), (2, .long p2)] [] S Q := by
  unfold w_X9_writeValue_150 at h
  refine zu_lload_n d_8271_150 rfl ?_
  refine zu_stk d_8271_151 rfl rfl ?_
  refine zu_lstore_n d_8271_152 (zs_lt zq_8271 rfl) ?_
  exact (u_X9_writeValue_153 hB h).weak ⟨rfl, rfl, trivial⟩
def w_X9_writeValue_216 (X : zs_X) (d : Nat) (p0 : Nat) (p2 : Int64) (p4 : Int32) (p5 : Int64) (S : zs_T) (Q : zs_Q) : Prop :=
  (zs_U X d 8271 161 [(0, .ref p0), (2, .long p2), (4, .int p4), (5, .long (p5 / (10 : Int64)))] [] S Q)
theorem u_X9_writeValue_216 {σ : Nat → Nat} {n0 : Nat} {bf : ab_B} {d : Nat} {p0 : Nat} {p2 : Int64} {p4 : Int32} {p5 : Int64} {S : zs_T} {Q : zs_Q} (hB : zt_B bf) (h : w_X9_writeValue_216 (zx σ n0 bf) d p0 p2 p4 p5 S Q) : zs_U (zx σ n0 bf) d 8271 216 [(0, .ref p0), (2, .long p2), (4, .int p4), (5, .long p5)] [] S Q := by
  unfold w_X9_writeValue_216 at h
  refine zu_lload d_8271_216 rfl ?_
  refine zl2_8_499 rfl d_8271_218 ?_
  refine zu_ldiv d_8271_221 (by decide) ?_
  refine zu_lstore d_8271_222 (zs_lt zq_8271 rfl) ?_
  refine zu_goto (t := 161) d_8271_224 rfl ?_
  exact h.weak ⟨rfl, rfl, rfl, rfl, trivial⟩
def w_X9_writeValue_192 (X : zs_X) (d : Nat) (p0 : Nat) (p2 : Int64) (p5 : Int64) (q0 : Int32) (S : zs_T) (Q : zs_Q) : Prop :=
  (((q0 = 0 → w_X9_writeValue_216 X d p0 p2 q0 p5 S Q) ∧ (¬ (q0 = 0) → (¬ p5 = 0 ∧ zs_K S p0 = some (.inl 8) ∧ zs_C X d 8272 [.ref p0, .int ((((48 : Int64) + ((p2 / p5) - (p2 / p5) / (10 : Int64) * (10 : Int64)))).toInt32)] S (zs_kV (fun S4 => w_X9_writeValue_216 X d p0 p2 q0 p5 S4 Q) Q)))))
theorem u_X9_writeValue_192 {σ : Nat → Nat} {n0 : Nat} {bf : ab_B} {d : Nat} {p0 : Nat} {p2 : Int64} {p5 : Int64} {q0 : Int32} {S : zs_T} {Q : zs_Q} (hB : zt_B bf) (h : w_X9_writeValue_192 (zx σ n0 bf) d p0 p2 p5 q0 S Q) : zs_U (zx σ n0 bf) d 8271 192 [(0, .ref p0), (2, .long p2), (5, .long p5)] [.int q0] S Q := by
  unfold w_X9_writeValue_192 at h
  refine zu_istore d_8271_192 (zs_lt zq_8271 rfl) ?_
  refine zu_iload d_8271_194 rfl ?_
  refine zu_ifeq (t := 216) d_8271_196 rfl (fun c1 => ?_) (fun c1 => ?_)
  · have h := h.1 c1
    exact (u_X9_writeValue_216 hB h).weak ⟨rfl, rfl, rfl, rfl, trivial⟩
  · have h := h.2 c1
    refine zu_aload_n d_8271_199 rfl (zs_ra _) ?_
    refine zl2_8_501 rfl d_8271_200 ?_
    refine zu_lload_n d_8271_203 rfl ?_
    refine zu_lload d_8271_204 rfl ?_
    obtain ⟨k2, h⟩ := h
    refine zu_ldiv d_8271_206 k2 ?_
    refine zl2_8_499 rfl d_8271_207 ?_
    refine zu_lrem d_8271_210 (by decide) ?_
    refine zu_stk d_8271_211 rfl rfl ?_
    refine zu_stk d_8271_212 rfl rfl ?_
    obtain ⟨k3, h⟩ := h
    refine zc_8_1424 (x0 := ((((48 : Int64) + ((p2 / p5) - (p2 / p5) / (10 : Int64) * (10 : Int64)))).toInt32)) hB rfl k3 d_8271_213 (Nat.le_of_ble_eq_true rfl) h (fun S4 h => ?_)
    exact (u_X9_writeValue_216 hB h).weak ⟨rfl, rfl, rfl, rfl, trivial⟩
def w_X9_writeValue_187 (X : zs_X) (d : Nat) (p0 : Nat) (p2 : Int64) (p5 : Int64) (S : zs_T) (Q : zs_Q) : Prop :=
  (w_X9_writeValue_192 X d p0 p2 p5 (1 : Int32) S Q)
theorem u_X9_writeValue_187 {σ : Nat → Nat} {n0 : Nat} {bf : ab_B} {d : Nat} {p0 : Nat} {p2 : Int64} {p5 : Int64} {S : zs_T} {Q : zs_Q} (hB : zt_B bf) (h : w_X9_writeValue_187 (zx σ n0 bf) d p0 p2 p5 S Q) : zs_U (zx σ n0 bf) d 8271 187 [(0, .ref p0), (2, .long p2), (5, .long p5)] [] S Q := by
  unfold w_X9_writeValue_187 at h
  refine zu_iconst d_8271_187 zi_1 ?_
  refine zu_goto (t := 192) d_8271_188 rfl ?_
  exact (u_X9_writeValue_192 hB h).weak ⟨rfl, rfl, rfl, trivial⟩
def w_X9_writeValue_161 (X : zs_X) (d : Nat) (p0 : Nat) (p2 : Int64) (p4 : Int32) (p5 : Int64) (S : zs_T) (Q : zs_Q) : Prop :=
  (((p5 ≤ (0 : Int64) → (Q (.returned none) S)) ∧ (¬ (p5 ≤ (0 : Int64)) → (((¬ p4 = 0 → w_X9_writeValue_187 X d p0 p2 p5 S Q) ∧ (¬ (¬ p4 = 0) → (((p5 ≤ p2 → w_X9_writeValue_187 X d p0 p2 p5 S Q) ∧ (¬ (p5 ≤ p2) → (((¬ p5 = (1 : Int64) → (w_X9_writeValue_192 X d p0 p2 p5 (0 : Int32) S Q)) ∧ (¬ (¬ p5 = (1 : Int64)) → w_X9_writeValue_187 X d p0 p2 p5 S Q))))))))))))
theorem u_X9_writeValue_161 {σ : Nat → Nat} {n0 : Nat} {bf : ab_B} {d : Nat} {p0 : Nat} {p2 : Int64} {p4 : Int32} {p5 : Int64} {S : zs_T} {Q : zs_Q} (hB : zt_B bf) (h : w_X9_writeValue_161 (zx σ n0 bf) d p0 p2 p4 p5 S Q) : zs_U (zx σ n0 bf) d 8271 161 [(0, .ref p0), (2, .long p2), (4, .int p4), (5, .long p5)] [] S Q := by
  unfold w_X9_writeValue_161 at h
  refine zu_lload d_8271_161 rfl ?_
  refine zu_lconst (v := 0) d_8271_163 rfl ?_
  refine zu_lle (t := 227) d_8271_164 d_8271_165 rfl (fun c1 => ?_) (fun c1 => ?_)
  · have h := h.1 c1
    exact zu_vret d_8271_227 zr_8271 h
  · have h := h.2 c1
    refine zu_iload d_8271_168 rfl ?_
    refine zu_ifne (t := 187) d_8271_170 rfl (fun c2 => ?_) (fun c2 => ?_)
    · have h := h.1 c2
      exact (u_X9_writeValue_187 hB h).weak ⟨rfl, rfl, rfl, trivial⟩
    · have h := h.2 c2
      refine zu_lload_n d_8271_173 rfl ?_
      refine zu_lload d_8271_174 rfl ?_
      refine zu_lge (t := 187) d_8271_176 d_8271_177 rfl (fun c3 => ?_) (fun c3 => ?_)
      · have h := h.1 c3
        exact (u_X9_writeValue_187 hB h).weak ⟨rfl, rfl, rfl, trivial⟩
      · have h := h.2 c3
        refine zu_lload d_8271_180 rfl ?_
        refine zu_lconst (v := 1) d_8271_182 rfl ?_
        refine zu_lne (t := 191) d_8271_183 d_8271_184 rfl (fun c4 => ?_) (fun c4 => ?_)
        · have h := h.1 c4
          refine zu_iconst d_8271_191 zi_0 ?_
          exact (u_X9_writeValue_192 hB h).weak ⟨rfl, rfl, rfl, trivial⟩
        · have h := h.2 c4
          exact (u_X9_writeValue_187 hB h).weak ⟨rfl, rfl, rfl, trivial⟩
def w_X9_writeValue (X : zs_X) (d : Nat) (p0 : Nat) (p1 : Int32) (S : zs_T) (Q : zs_Q) : Prop :=
  (((¬ p1 = 0 → (zs_K S p0 = some (.inl 8) ∧ zs_C X d 8242 [.ref p0] S (zs_kJ (fun v4 S3 => (((¬ p1 = (3 : Int32) → (((¬ p1 = (2 : Int32) → ((((0 : Int64) ≤ v4 → w_X9_writeValue_153 X d p0 v4 S3 Q) ∧ (¬ ((0 : Int64) ≤ v4) → (zs_K S3 p0 = some (.inl 8) ∧ zs_C X d 8272 [.ref p0, .int (45 : Int32)] S3 (zs_kV (fun S9 => w_X9_writeValue_150 X d p0 v4 S9 Q) Q)))))) ∧ (¬ (¬ p1 = (2 : Int32)) → (((¬ v4 = (1 : Int64) → (w_X9_writeValue_92 X d p0 (36 : Int32) (5 : Int32) S3 Q)) ∧ (¬ (¬ v4 = (1 : Int64)) → (w_X9_writeValue_92 X d p0 (36 : Int32) (4 : Int32) S3 Q)))))))) ∧ (¬ (¬ p1 = (3 : Int32)) → (zs_K S3 p0 = some (.inl 8) ∧ zs_C X d 8272 [.ref p0, .int ((v4).toInt32)] S3 (zs_kV (fun S13 => (Q (.returned none) S13)) Q)))))) Q))) ∧ (¬ (¬ p1 = 0) → (zs_K S p0 = some (.inl 8) ∧ zs_C X d 8223 [.ref p0, .int ((zs_I S 8187 p0) - (1 : Int32))] S (zs_kI (fun v17 S16 => (zs_U X d 8271 17 [(0, .ref p0), (2, .int v17), (3, .int (0 : Int32))] [] S16 Q)) Q)))))
theorem u_X9_writeValue {σ : Nat → Nat} {n0 : Nat} {bf : ab_B} {d : Nat} {p0 : Nat} {p1 : Int32} {S : zs_T} {Q : zs_Q} (hB : zt_B bf) (hd : 1 ≤ d) (h : w_X9_writeValue (zx σ n0 bf) (d - 1) p0 p1 S Q) : zs_C (zx σ n0 bf) d 8271 [.ref p0, .int p1] S Q := by
  have hL : lv_args 0 [.ref p0, .int p1] = [(0, .ref p0), (1, .int p1)] := rfl
  refine zs_C.of1 (hB.2 8271 (by decide) (by decide)) hd (by rw [hL]; exact zs_sub_self _ (by exact ⟨rfl, rfl, trivial⟩)) ?_
  rw [hL]
  clear hL
  unfold w_X9_writeValue at h
  refine zu_iload_n d_8271_0 rfl ?_
  refine zu_ifne (t := 55) d_8271_1 rfl (fun c1 => ?_) (fun c1 => ?_)
  · have h := h.1 c1
    refine zu_aload_n d_8271_55 rfl (zs_ra _) ?_
    obtain ⟨k2, h⟩ := h
    refine zc_8_1307  hB rfl k2 d_8271_56 (Nat.le_of_ble_eq_true rfl) h (fun v4 S3 h => ?_)
    refine zu_lstore_n d_8271_59 (zs_lt zq_8271 rfl) ?_
    refine zu_iload_n d_8271_60 rfl ?_
    refine zu_iconst d_8271_61 zi_3 ?_
    refine zu_cmpne (t := 74) d_8271_62 rfl (fun c5 => ?_) (fun c5 => ?_)
    · have h := h.1 c5
      refine zu_iload_n d_8271_74 rfl ?_
      refine zu_iconst d_8271_75 zi_2 ?_
      refine zu_cmpne (t := 138) d_8271_76 rfl (fun c6 => ?_) (fun c6 => ?_)
      · have h := h.1 c6
        refine zu_lload_n d_8271_138 rfl ?_
        refine zu_lconst (v := 0) d_8271_139 rfl ?_
        refine zu_lge (t := 153) d_8271_140 d_8271_141 rfl (fun c7 => ?_) (fun c7 => ?_)
        · have h := h.1 c7
          exact (u_X9_writeValue_153 hB h).weak ⟨rfl, rfl, trivial⟩
        · have h := h.2 c7
          refine zu_aload_n d_8271_144 rfl (zs_ra _) ?_
          refine zu_bipush d_8271_145 zj_45 ?_
          obtain ⟨k8, h⟩ := h
          refine zc_8_1424 (x0 := (45 : Int32)) hB rfl k8 d_8271_147 (Nat.le_of_ble_eq_true rfl) h (fun S9 h => ?_)
          exact (u_X9_writeValue_150 hB h).weak ⟨rfl, rfl, trivial⟩
      · have h := h.2 c6
        refine zu_bipush d_8271_79 zj_36 ?_
        refine zu_lload_n d_8271_81 rfl ?_
        refine zu_lconst (v := 1) d_8271_82 rfl ?_
        refine zu_lne (t := 91) d_8271_83 d_8271_84 rfl (fun c11 => ?_) (fun c11 => ?_)
        · have h := h.1 c11
          refine zu_iconst d_8271_91 zi_5 ?_
          exact (u_X9_writeValue_92 hB h).weak ⟨rfl, trivial⟩
        · have h := h.2 c11
          refine zu_iconst d_8271_87 zi_4 ?_
          refine zu_goto (t := 92) d_8271_88 rfl ?_
          exact (u_X9_writeValue_92 hB h).weak ⟨rfl, trivial⟩
    · have h := h.2 c5
      refine zu_aload_n d_8271_65 rfl (zs_ra _) ?_
      refine zu_lload_n d_8271_66 rfl ?_
      refine zu_stk d_8271_67 rfl rfl ?_
      obtain ⟨k12, h⟩ := h
      refine zc_8_1424 (x0 := ((v4).toInt32)) hB rfl k12 d_8271_68 (Nat.le_of_ble_eq_true rfl) h (fun S13 h => ?_)
      refine zu_goto (t := 227) d_8271_71 rfl ?_
      exact zu_vret d_8271_227 zr_8271 h
  · have h := h.2 c1
    refine zu_aload_n d_8271_4 rfl (zs_ra _) ?_
    refine zu_aload_n d_8271_5 rfl (zs_ra _) ?_
    obtain ⟨k15, h⟩ := h
    refine zg_8_1264 rfl d_8271_6 k15 ?_
    refine zu_iconst d_8271_9 zi_1 ?_
    refine zu_stk d_8271_10 rfl rfl ?_
    refine zc_8_1317 (x0 := ((zs_I S 8187 p0) - (1 : Int32))) hB rfl k15 d_8271_11 (Nat.le_of_ble_eq_true rfl) h (fun v17 S16 h => ?_)
    refine zu_istore_n d_8271_14 (zs_lt zq_8271 rfl) ?_
    refine zu_iconst d_8271_15 zi_0 ?_
    refine zu_istore_n d_8271_16 (zs_lt zq_8271 rfl) ?_
    exact h.weak ⟨rfl, rfl, rfl, trivial⟩
/-! SchemaPascalModel.writeByte(I)V -/
theorem zm_8272 {σ : Nat → Nat} {n0 : Nat} {bf : ab_B} : ab_code (zx σ n0 bf).1 8272 = prog_17_method_263_code := rfl
theorem zq_8272 {σ : Nat → Nat} {n0 : Nat} {bf : ab_B} : ab_maxL (zx σ n0 bf).1 8272 = 2 := rfl
theorem zr_8272 {σ : Nat → Nat} {n0 : Nat} {bf : ab_B} : ab_ret (zx σ n0 bf).1 8272 = (Option.none : Option Jvm.ClassFile.FieldType) := rfl
theorem d_8272_0 {σ : Nat → Nat} {n0 : Nat} {bf : ab_B} : decode (ab_code (zx σ n0 bf).1 8272) 0 = .ok (.aload_n 0, 1) := zd zm_8272 (by decide +kernel)
theorem d_8272_1 {σ : Nat → Nat} {n0 : Nat} {bf : ab_B} : decode (ab_code (zx σ n0 bf).1 8272) 1 = .ok (.getfield 1279, 3) := zd zm_8272 (by decide +kernel)
theorem d_8272_4 {σ : Nat → Nat} {n0 : Nat} {bf : ab_B} : decode (ab_code (zx σ n0 bf).1 8272) 4 = .ok (.ldc2_w 1422, 3) := zd zm_8272 (by decide +kernel)
theorem d_8272_7 {σ : Nat → Nat} {n0 : Nat} {bf : ab_B} : decode (ab_code (zx σ n0 bf).1 8272) 7 = .ok (.lcmp, 1) := zd zm_8272 (by decide +kernel)
theorem d_8272_8 {σ : Nat → Nat} {n0 : Nat} {bf : ab_B} : decode (ab_code (zx σ n0 bf).1 8272) 8 = .ok (.ifCond .ge 15, 3) := zd zm_8272 (by decide +kernel)
theorem d_8272_11 {σ : Nat → Nat} {n0 : Nat} {bf : ab_B} : decode (ab_code (zx σ n0 bf).1 8272) 11 = .ok (.aload_n 0, 1) := zd zm_8272 (by decide +kernel)
theorem d_8272_12 {σ : Nat → Nat} {n0 : Nat} {bf : ab_B} : decode (ab_code (zx σ n0 bf).1 8272) 12 = .ok (.getfield 435, 3) := zd zm_8272 (by decide +kernel)
theorem d_8272_15 {σ : Nat → Nat} {n0 : Nat} {bf : ab_B} : decode (ab_code (zx σ n0 bf).1 8272) 15 = .ok (.aload_n 0, 1) := zd zm_8272 (by decide +kernel)
theorem d_8272_16 {σ : Nat → Nat} {n0 : Nat} {bf : ab_B} : decode (ab_code (zx σ n0 bf).1 8272) 16 = .ok (.getfield 1279, 3) := zd zm_8272 (by decide +kernel)
theorem d_8272_19 {σ : Nat → Nat} {n0 : Nat} {bf : ab_B} : decode (ab_code (zx σ n0 bf).1 8272) 19 = .ok (.l2i, 1) := zd zm_8272 (by decide +kernel)
theorem d_8272_20 {σ : Nat → Nat} {n0 : Nat} {bf : ab_B} : decode (ab_code (zx σ n0 bf).1 8272) 20 = .ok (.iload_n 1, 1) := zd zm_8272 (by decide +kernel)
theorem d_8272_21 {σ : Nat → Nat} {n0 : Nat} {bf : ab_B} : decode (ab_code (zx σ n0 bf).1 8272) 21 = .ok (.i2b, 1) := zd zm_8272 (by decide +kernel)
theorem d_8272_22 {σ : Nat → Nat} {n0 : Nat} {bf : ab_B} : decode (ab_code (zx σ n0 bf).1 8272) 22 = .ok (.bastore, 1) := zd zm_8272 (by decide +kernel)
theorem d_8272_23 {σ : Nat → Nat} {n0 : Nat} {bf : ab_B} : decode (ab_code (zx σ n0 bf).1 8272) 23 = .ok (.aload_n 0, 1) := zd zm_8272 (by decide +kernel)
theorem d_8272_24 {σ : Nat → Nat} {n0 : Nat} {bf : ab_B} : decode (ab_code (zx σ n0 bf).1 8272) 24 = .ok (.dup, 1) := zd zm_8272 (by decide +kernel)
theorem d_8272_25 {σ : Nat → Nat} {n0 : Nat} {bf : ab_B} : decode (ab_code (zx σ n0 bf).1 8272) 25 = .ok (.getfield 1279, 3) := zd zm_8272 (by decide +kernel)
theorem d_8272_28 {σ : Nat → Nat} {n0 : Nat} {bf : ab_B} : decode (ab_code (zx σ n0 bf).1 8272) 28 = .ok (.aload_n 0, 1) := zd zm_8272 (by decide +kernel)
theorem d_8272_29 {σ : Nat → Nat} {n0 : Nat} {bf : ab_B} : decode (ab_code (zx σ n0 bf).1 8272) 29 = .ok (.getfield 1279, 3) := zd zm_8272 (by decide +kernel)
theorem d_8272_32 {σ : Nat → Nat} {n0 : Nat} {bf : ab_B} : decode (ab_code (zx σ n0 bf).1 8272) 32 = .ok (.ldc2_w 497, 3) := zd zm_8272 (by decide +kernel)
theorem d_8272_35 {σ : Nat → Nat} {n0 : Nat} {bf : ab_B} : decode (ab_code (zx σ n0 bf).1 8272) 35 = .ok (.lcmp, 1) := zd zm_8272 (by decide +kernel)
theorem d_8272_36 {σ : Nat → Nat} {n0 : Nat} {bf : ab_B} : decode (ab_code (zx σ n0 bf).1 8272) 36 = .ok (.ifCond .ge 7, 3) := zd zm_8272 (by decide +kernel)
theorem d_8272_39 {σ : Nat → Nat} {n0 : Nat} {bf : ab_B} : decode (ab_code (zx σ n0 bf).1 8272) 39 = .ok (.lconst 1, 1) := zd zm_8272 (by decide +kernel)
theorem d_8272_40 {σ : Nat → Nat} {n0 : Nat} {bf : ab_B} : decode (ab_code (zx σ n0 bf).1 8272) 40 = .ok (.goto 4, 3) := zd zm_8272 (by decide +kernel)
theorem d_8272_43 {σ : Nat → Nat} {n0 : Nat} {bf : ab_B} : decode (ab_code (zx σ n0 bf).1 8272) 43 = .ok (.lconst 0, 1) := zd zm_8272 (by decide +kernel)
theorem d_8272_44 {σ : Nat → Nat} {n0 : Nat} {bf : ab_B} : decode (ab_code (zx σ n0 bf).1 8272) 44 = .ok (.ladd, 1) := zd zm_8272 (by decide +kernel)
theorem d_8272_45 {σ : Nat → Nat} {n0 : Nat} {bf : ab_B} : decode (ab_code (zx σ n0 bf).1 8272) 45 = .ok (.putfield 1279, 3) := zd zm_8272 (by decide +kernel)
theorem d_8272_48 {σ : Nat → Nat} {n0 : Nat} {bf : ab_B} : decode (ab_code (zx σ n0 bf).1 8272) 48 = .ok (.return_, 1) := zd zm_8272 (by decide +kernel)
def w_X9_writeByte_23 (X : zs_X) (d : Nat) (p0 : Nat) (S : zs_T) (Q : zs_Q) : Prop :=
  (zs_K S p0 = some (.inl 8) ∧ (((2147483647 : Int64) ≤ (zs_J S 8205 p0) → (ab_n0 X.1 ≤ p0 ∧ ∀ S4, S4 = zs_sJ S 8205 p0 ((zs_J S 8205 p0) + (0 : Int64)) → Q (.returned none) S4)) ∧ (¬ ((2147483647 : Int64) ≤ (zs_J S 8205 p0)) → (ab_n0 X.1 ≤ p0 ∧ ∀ S8, S8 = zs_sJ S 8205 p0 ((zs_J S 8205 p0) + (1 : Int64)) → Q (.returned none) S8))))
theorem u_X9_writeByte_23 {σ : Nat → Nat} {n0 : Nat} {bf : ab_B} {d : Nat} {p0 : Nat} {S : zs_T} {Q : zs_Q} (hB : zt_B bf) (h : w_X9_writeByte_23 (zx σ n0 bf) d p0 S Q) : zs_U (zx σ n0 bf) d 8272 23 [(0, .ref p0)] [] S Q := by
  unfold w_X9_writeByte_23 at h
  refine zu_aload_n d_8272_23 rfl (zs_ra _) ?_
  refine zu_dup d_8272_24 rfl ?_
  obtain ⟨k1, h⟩ := h
  refine zg_8_1279 rfl d_8272_25 k1 ?_
  refine zu_aload_n d_8272_28 rfl (zs_ra _) ?_
  refine zg_8_1279 rfl d_8272_29 k1 ?_
  refine zl2_8_497 rfl d_8272_32 ?_
  refine zu_lge (t := 43) d_8272_35 d_8272_36 rfl (fun c2 => ?_) (fun c2 => ?_)
  · have h := h.1 c2
    refine zu_lconst (v := 0) d_8272_43 rfl ?_
    refine zu_stk d_8272_44 rfl rfl ?_
    obtain ⟨k3, h⟩ := h
    refine zp_8_1279 (v := ((zs_J S 8205 p0) + (0 : Int64))) rfl d_8272_45 k1 k3 ?_
    generalize e5 : zs_sJ S 8205 p0 ((zs_J S 8205 p0) + (0 : Int64)) = S4
    have h := h S4 e5.symm
    have K6 : ∀ b, zs_K S4 b = zs_K S b := zs_Kt e5 (zs_KsJ _ _ _ _) (fun _ => rfl)
    exact zu_vret d_8272_48 zr_8272 h
  · have h := h.2 c2
    refine zu_lconst (v := 1) d_8272_39 rfl ?_
    refine zu_goto (t := 44) d_8272_40 rfl ?_
    refine zu_stk d_8272_44 rfl rfl ?_
    obtain ⟨k7, h⟩ := h
    refine zp_8_1279 (v := ((zs_J S 8205 p0) + (1 : Int64))) rfl d_8272_45 k1 k7 ?_
    generalize e9 : zs_sJ S 8205 p0 ((zs_J S 8205 p0) + (1 : Int64)) = S8
    have h := h S8 e9.symm
    have K10 : ∀ b, zs_K S8 b = zs_K S b := zs_Kt e9 (zs_KsJ _ _ _ _) (fun _ => rfl)
    exact zu_vret d_8272_48 zr_8272 h
def w_X9_writeByte (X : zs_X) (d : Nat) (p0 : Nat) (p1 : Int32) (S : zs_T) (Q : zs_Q) : Prop :=
  (zs_K S p0 = some (.inl 8) ∧ (((20000 : Int64) ≤ (zs_J S 8205 p0) → w_X9_writeByte_23 X d p0 S Q) ∧ (¬ ((20000 : Int64) ≤ (zs_J S 8205 p0)) → (∃ b3, (zs_R S 8204 p0) = some b3 ∧ zs_A S b3 1 (((zs_J S 8205 p0)).toInt32) ∧ ab_n0 X.1 ≤ b3 ∧ ∀ S7, S7 = zs_si S b3 (((zs_J S 8205 p0)).toInt32).toNatClampNeg (vp_nar .byte ((p1).toInt8.toInt32)) → w_X9_writeByte_23 X d p0 S7 Q))))
theorem u_X9_writeByte {σ : Nat → Nat} {n0 : Nat} {bf : ab_B} {d : Nat} {p0 : Nat} {p1 : Int32} {S : zs_T} {Q : zs_Q} (hB : zt_B bf) (hd : 1 ≤ d) (h : w_X9_writeByte (zx σ n0 bf) (d - 1) p0 p1 S Q) : zs_C (zx σ n0 bf) d 8272 [.ref p0, .int p1] S Q := by
  have hL : lv_args 0 [.ref p0, .int p1] = [(0, .ref p0), (1, .int p1)] := rfl
  refine zs_C.of1 (hB.2 8272 (by decide) (by decide)) hd (by rw [hL]; exact zs_sub_self _ (by exact ⟨rfl, rfl, trivial⟩)) ?_
  rw [hL]
  clear hL
  unfold w_X9_writeByte at h
  refine zu_aload_n d_8272_0 rfl (zs_ra _) ?_
  obtain ⟨k1, h⟩ := h
  refine zg_8_1279 rfl d_8272_1 k1 ?_
  refine zl2_8_1422 rfl d_8272_4 ?_
  refine zu_lge (t := 23) d_8272_7 d_8272_8 rfl (fun c2 => ?_) (fun c2 => ?_)
  · have h := h.1 c2
    exact (u_X9_writeByte_23 hB h).weak ⟨rfl, trivial⟩
  · have h := h.2 c2
    refine zu_aload_n d_8272_11 rfl (zs_ra _) ?_
    refine zg_8_435 rfl d_8272_12 k1 ?_
    refine zu_aload_n d_8272_15 rfl (zs_ra _) ?_
    refine zg_8_1279 rfl d_8272_16 k1 ?_
    refine zu_stk d_8272_19 rfl rfl ?_
    refine zu_iload_n d_8272_20 rfl ?_
    refine zu_stk d_8272_21 rfl rfl ?_
    obtain ⟨b3, e4, h⟩ := h
    refine zs_stk2 (zs_rfe e4) ?_
    obtain ⟨k5, h⟩ := h
    obtain ⟨k6, h⟩ := h
    refine zu_bast_byte (k := 1) d_8272_22 rfl rfl k6 k5 ?_
    generalize e8 : zs_si S b3 (((zs_J S 8205 p0)).toInt32).toNatClampNeg (vp_nar .byte ((p1).toInt8.toInt32)) = S7
    have h := h S7 e8.symm
    have K9 : ∀ b, zs_K S7 b = zs_K S b := zs_Kt e8 (zs_Ksi _ _ _ _) (fun _ => rfl)
    exact (u_X9_writeByte_23 hB h).weak ⟨rfl, trivial⟩
