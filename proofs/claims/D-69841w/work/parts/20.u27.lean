/-! printed by gen_all.py: what the methods compute -/
set_option maxRecDepth 100000
/-! SchemaPascalModel.newThing(III)V -/
theorem zm_8273 {σ : Nat → Nat} {n0 : Nat} {bf : ab_B} : ab_code (zx σ n0 bf).1 8273 = prog_17_method_253_code := rfl
theorem zq_8273 {σ : Nat → Nat} {n0 : Nat} {bf : ab_B} : ab_maxL (zx σ n0 bf).1 8273 = 9 := rfl
theorem zr_8273 {σ : Nat → Nat} {n0 : Nat} {bf : ab_B} : ab_ret (zx σ n0 bf).1 8273 = (Option.none : Option Jvm.ClassFile.FieldType) := rfl
theorem d_8273_0 {σ : Nat → Nat} {n0 : Nat} {bf : ab_B} : decode (ab_code (zx σ n0 bf).1 8273) 0 = .ok (.iconst 1, 1) := zd zm_8273 (by decide +kernel)
theorem d_8273_1 {σ : Nat → Nat} {n0 : Nat} {bf : ab_B} : decode (ab_code (zx σ n0 bf).1 8273) 1 = .ok (.istore 4, 2) := zd zm_8273 (by decide +kernel)
theorem d_8273_3 {σ : Nat → Nat} {n0 : Nat} {bf : ab_B} : decode (ab_code (zx σ n0 bf).1 8273) 3 = .ok (.aload_n 0, 1) := zd zm_8273 (by decide +kernel)
theorem d_8273_4 {σ : Nat → Nat} {n0 : Nat} {bf : ab_B} : decode (ab_code (zx σ n0 bf).1 8273) 4 = .ok (.invokevirtual 1368, 3) := zd zm_8273 (by decide +kernel)
theorem d_8273_7 {σ : Nat → Nat} {n0 : Nat} {bf : ab_B} : decode (ab_code (zx σ n0 bf).1 8273) 7 = .ok (.aload_n 0, 1) := zd zm_8273 (by decide +kernel)
theorem d_8273_8 {σ : Nat → Nat} {n0 : Nat} {bf : ab_B} : decode (ab_code (zx σ n0 bf).1 8273) 8 = .ok (.getfield 90, 3) := zd zm_8273 (by decide +kernel)
theorem d_8273_11 {σ : Nat → Nat} {n0 : Nat} {bf : ab_B} : decode (ab_code (zx σ n0 bf).1 8273) 11 = .ok (.iload_n 1, 1) := zd zm_8273 (by decide +kernel)
theorem d_8273_12 {σ : Nat → Nat} {n0 : Nat} {bf : ab_B} : decode (ab_code (zx σ n0 bf).1 8273) 12 = .ok (.baload, 1) := zd zm_8273 (by decide +kernel)
theorem d_8273_13 {σ : Nat → Nat} {n0 : Nat} {bf : ab_B} : decode (ab_code (zx σ n0 bf).1 8273) 13 = .ok (.bipush 15, 2) := zd zm_8273 (by decide +kernel)
theorem d_8273_15 {σ : Nat → Nat} {n0 : Nat} {bf : ab_B} : decode (ab_code (zx σ n0 bf).1 8273) 15 = .ok (.if_icmp .ne 197, 3) := zd zm_8273 (by decide +kernel)
theorem d_8273_18 {σ : Nat → Nat} {n0 : Nat} {bf : ab_B} : decode (ab_code (zx σ n0 bf).1 8273) 18 = .ok (.aload_n 0, 1) := zd zm_8273 (by decide +kernel)
theorem d_8273_19 {σ : Nat → Nat} {n0 : Nat} {bf : ab_B} : decode (ab_code (zx σ n0 bf).1 8273) 19 = .ok (.getfield 93, 3) := zd zm_8273 (by decide +kernel)
theorem d_8273_22 {σ : Nat → Nat} {n0 : Nat} {bf : ab_B} : decode (ab_code (zx σ n0 bf).1 8273) 22 = .ok (.iload_n 1, 1) := zd zm_8273 (by decide +kernel)
theorem d_8273_23 {σ : Nat → Nat} {n0 : Nat} {bf : ab_B} : decode (ab_code (zx σ n0 bf).1 8273) 23 = .ok (.iaload, 1) := zd zm_8273 (by decide +kernel)
theorem d_8273_24 {σ : Nat → Nat} {n0 : Nat} {bf : ab_B} : decode (ab_code (zx σ n0 bf).1 8273) 24 = .ok (.istore 5, 2) := zd zm_8273 (by decide +kernel)
theorem d_8273_26 {σ : Nat → Nat} {n0 : Nat} {bf : ab_B} : decode (ab_code (zx σ n0 bf).1 8273) 26 = .ok (.aload_n 0, 1) := zd zm_8273 (by decide +kernel)
theorem d_8273_27 {σ : Nat → Nat} {n0 : Nat} {bf : ab_B} : decode (ab_code (zx σ n0 bf).1 8273) 27 = .ok (.dup, 1) := zd zm_8273 (by decide +kernel)
theorem d_8273_28 {σ : Nat → Nat} {n0 : Nat} {bf : ab_B} : decode (ab_code (zx σ n0 bf).1 8273) 28 = .ok (.getfield 1261, 3) := zd zm_8273 (by decide +kernel)
theorem d_8273_31 {σ : Nat → Nat} {n0 : Nat} {bf : ab_B} : decode (ab_code (zx σ n0 bf).1 8273) 31 = .ok (.iload_n 2, 1) := zd zm_8273 (by decide +kernel)
theorem d_8273_32 {σ : Nat → Nat} {n0 : Nat} {bf : ab_B} : decode (ab_code (zx σ n0 bf).1 8273) 32 = .ok (.isub, 1) := zd zm_8273 (by decide +kernel)
theorem d_8273_33 {σ : Nat → Nat} {n0 : Nat} {bf : ab_B} : decode (ab_code (zx σ n0 bf).1 8273) 33 = .ok (.putfield 1261, 3) := zd zm_8273 (by decide +kernel)
theorem d_8273_36 {σ : Nat → Nat} {n0 : Nat} {bf : ab_B} : decode (ab_code (zx σ n0 bf).1 8273) 36 = .ok (.iconst 0, 1) := zd zm_8273 (by decide +kernel)
theorem d_8273_37 {σ : Nat → Nat} {n0 : Nat} {bf : ab_B} : decode (ab_code (zx σ n0 bf).1 8273) 37 = .ok (.istore 6, 2) := zd zm_8273 (by decide +kernel)
theorem d_8273_39 {σ : Nat → Nat} {n0 : Nat} {bf : ab_B} : decode (ab_code (zx σ n0 bf).1 8273) 39 = .ok (.iload 6, 2) := zd zm_8273 (by decide +kernel)
theorem d_8273_41 {σ : Nat → Nat} {n0 : Nat} {bf : ab_B} : decode (ab_code (zx σ n0 bf).1 8273) 41 = .ok (.iload_n 2, 1) := zd zm_8273 (by decide +kernel)
theorem d_8273_42 {σ : Nat → Nat} {n0 : Nat} {bf : ab_B} : decode (ab_code (zx σ n0 bf).1 8273) 42 = .ok (.if_icmp .ge 82, 3) := zd zm_8273 (by decide +kernel)
theorem d_8273_45 {σ : Nat → Nat} {n0 : Nat} {bf : ab_B} : decode (ab_code (zx σ n0 bf).1 8273) 45 = .ok (.aload_n 0, 1) := zd zm_8273 (by decide +kernel)
theorem d_8273_46 {σ : Nat → Nat} {n0 : Nat} {bf : ab_B} : decode (ab_code (zx σ n0 bf).1 8273) 46 = .ok (.aload_n 0, 1) := zd zm_8273 (by decide +kernel)
theorem d_8273_47 {σ : Nat → Nat} {n0 : Nat} {bf : ab_B} : decode (ab_code (zx σ n0 bf).1 8273) 47 = .ok (.getfield 136, 3) := zd zm_8273 (by decide +kernel)
theorem d_8273_50 {σ : Nat → Nat} {n0 : Nat} {bf : ab_B} : decode (ab_code (zx σ n0 bf).1 8273) 50 = .ok (.aload_n 0, 1) := zd zm_8273 (by decide +kernel)
theorem d_8273_51 {σ : Nat → Nat} {n0 : Nat} {bf : ab_B} : decode (ab_code (zx σ n0 bf).1 8273) 51 = .ok (.getfield 124, 3) := zd zm_8273 (by decide +kernel)
theorem d_8273_54 {σ : Nat → Nat} {n0 : Nat} {bf : ab_B} : decode (ab_code (zx σ n0 bf).1 8273) 54 = .ok (.iload 5, 2) := zd zm_8273 (by decide +kernel)
theorem d_8273_56 {σ : Nat → Nat} {n0 : Nat} {bf : ab_B} : decode (ab_code (zx σ n0 bf).1 8273) 56 = .ok (.iaload, 1) := zd zm_8273 (by decide +kernel)
theorem d_8273_57 {σ : Nat → Nat} {n0 : Nat} {bf : ab_B} : decode (ab_code (zx σ n0 bf).1 8273) 57 = .ok (.iload 6, 2) := zd zm_8273 (by decide +kernel)
theorem d_8273_59 {σ : Nat → Nat} {n0 : Nat} {bf : ab_B} : decode (ab_code (zx σ n0 bf).1 8273) 59 = .ok (.iadd, 1) := zd zm_8273 (by decide +kernel)
theorem d_8273_60 {σ : Nat → Nat} {n0 : Nat} {bf : ab_B} : decode (ab_code (zx σ n0 bf).1 8273) 60 = .ok (.iaload, 1) := zd zm_8273 (by decide +kernel)
theorem d_8273_61 {σ : Nat → Nat} {n0 : Nat} {bf : ab_B} : decode (ab_code (zx σ n0 bf).1 8273) 61 = .ok (.invokevirtual 792, 3) := zd zm_8273 (by decide +kernel)
theorem d_8273_64 {σ : Nat → Nat} {n0 : Nat} {bf : ab_B} : decode (ab_code (zx σ n0 bf).1 8273) 64 = .ok (.istore 7, 2) := zd zm_8273 (by decide +kernel)
theorem d_8273_66 {σ : Nat → Nat} {n0 : Nat} {bf : ab_B} : decode (ab_code (zx σ n0 bf).1 8273) 66 = .ok (.iload 4, 2) := zd zm_8273 (by decide +kernel)
theorem d_8273_68 {σ : Nat → Nat} {n0 : Nat} {bf : ab_B} : decode (ab_code (zx σ n0 bf).1 8273) 68 = .ok (.ifCond .eq 47, 3) := zd zm_8273 (by decide +kernel)
theorem d_8273_71 {σ : Nat → Nat} {n0 : Nat} {bf : ab_B} : decode (ab_code (zx σ n0 bf).1 8273) 71 = .ok (.aload_n 0, 1) := zd zm_8273 (by decide +kernel)
theorem d_8273_72 {σ : Nat → Nat} {n0 : Nat} {bf : ab_B} : decode (ab_code (zx σ n0 bf).1 8273) 72 = .ok (.getfield 399, 3) := zd zm_8273 (by decide +kernel)
theorem d_8273_75 {σ : Nat → Nat} {n0 : Nat} {bf : ab_B} : decode (ab_code (zx σ n0 bf).1 8273) 75 = .ok (.aload_n 0, 1) := zd zm_8273 (by decide +kernel)
theorem d_8273_76 {σ : Nat → Nat} {n0 : Nat} {bf : ab_B} : decode (ab_code (zx σ n0 bf).1 8273) 76 = .ok (.getfield 1261, 3) := zd zm_8273 (by decide +kernel)
theorem d_8273_79 {σ : Nat → Nat} {n0 : Nat} {bf : ab_B} : decode (ab_code (zx σ n0 bf).1 8273) 79 = .ok (.iload 6, 2) := zd zm_8273 (by decide +kernel)
theorem d_8273_81 {σ : Nat → Nat} {n0 : Nat} {bf : ab_B} : decode (ab_code (zx σ n0 bf).1 8273) 81 = .ok (.iadd, 1) := zd zm_8273 (by decide +kernel)
theorem d_8273_82 {σ : Nat → Nat} {n0 : Nat} {bf : ab_B} : decode (ab_code (zx σ n0 bf).1 8273) 82 = .ok (.laload, 1) := zd zm_8273 (by decide +kernel)
theorem d_8273_83 {σ : Nat → Nat} {n0 : Nat} {bf : ab_B} : decode (ab_code (zx σ n0 bf).1 8273) 83 = .ok (.aload_n 0, 1) := zd zm_8273 (by decide +kernel)
theorem d_8273_84 {σ : Nat → Nat} {n0 : Nat} {bf : ab_B} : decode (ab_code (zx σ n0 bf).1 8273) 84 = .ok (.getfield 783, 3) := zd zm_8273 (by decide +kernel)
theorem d_8273_87 {σ : Nat → Nat} {n0 : Nat} {bf : ab_B} : decode (ab_code (zx σ n0 bf).1 8273) 87 = .ok (.lcmp, 1) := zd zm_8273 (by decide +kernel)
theorem d_8273_88 {σ : Nat → Nat} {n0 : Nat} {bf : ab_B} : decode (ab_code (zx σ n0 bf).1 8273) 88 = .ok (.ifCond .lt 27, 3) := zd zm_8273 (by decide +kernel)
theorem d_8273_91 {σ : Nat → Nat} {n0 : Nat} {bf : ab_B} : decode (ab_code (zx σ n0 bf).1 8273) 91 = .ok (.aload_n 0, 1) := zd zm_8273 (by decide +kernel)
theorem d_8273_92 {σ : Nat → Nat} {n0 : Nat} {bf : ab_B} : decode (ab_code (zx σ n0 bf).1 8273) 92 = .ok (.getfield 399, 3) := zd zm_8273 (by decide +kernel)
theorem d_8273_95 {σ : Nat → Nat} {n0 : Nat} {bf : ab_B} : decode (ab_code (zx σ n0 bf).1 8273) 95 = .ok (.aload_n 0, 1) := zd zm_8273 (by decide +kernel)
theorem d_8273_96 {σ : Nat → Nat} {n0 : Nat} {bf : ab_B} : decode (ab_code (zx σ n0 bf).1 8273) 96 = .ok (.getfield 1261, 3) := zd zm_8273 (by decide +kernel)
theorem d_8273_99 {σ : Nat → Nat} {n0 : Nat} {bf : ab_B} : decode (ab_code (zx σ n0 bf).1 8273) 99 = .ok (.iload 6, 2) := zd zm_8273 (by decide +kernel)
theorem d_8273_101 {σ : Nat → Nat} {n0 : Nat} {bf : ab_B} : decode (ab_code (zx σ n0 bf).1 8273) 101 = .ok (.iadd, 1) := zd zm_8273 (by decide +kernel)
theorem d_8273_102 {σ : Nat → Nat} {n0 : Nat} {bf : ab_B} : decode (ab_code (zx σ n0 bf).1 8273) 102 = .ok (.laload, 1) := zd zm_8273 (by decide +kernel)
theorem d_8273_103 {σ : Nat → Nat} {n0 : Nat} {bf : ab_B} : decode (ab_code (zx σ n0 bf).1 8273) 103 = .ok (.aload_n 0, 1) := zd zm_8273 (by decide +kernel)
theorem d_8273_104 {σ : Nat → Nat} {n0 : Nat} {bf : ab_B} : decode (ab_code (zx σ n0 bf).1 8273) 104 = .ok (.getfield 786, 3) := zd zm_8273 (by decide +kernel)
theorem d_8273_107 {σ : Nat → Nat} {n0 : Nat} {bf : ab_B} : decode (ab_code (zx σ n0 bf).1 8273) 107 = .ok (.lcmp, 1) := zd zm_8273 (by decide +kernel)
theorem d_8273_108 {σ : Nat → Nat} {n0 : Nat} {bf : ab_B} : decode (ab_code (zx σ n0 bf).1 8273) 108 = .ok (.ifCond .gt 7, 3) := zd zm_8273 (by decide +kernel)
theorem d_8273_111 {σ : Nat → Nat} {n0 : Nat} {bf : ab_B} : decode (ab_code (zx σ n0 bf).1 8273) 111 = .ok (.iconst 1, 1) := zd zm_8273 (by decide +kernel)
theorem d_8273_112 {σ : Nat → Nat} {n0 : Nat} {bf : ab_B} : decode (ab_code (zx σ n0 bf).1 8273) 112 = .ok (.goto 4, 3) := zd zm_8273 (by decide +kernel)
theorem d_8273_115 {σ : Nat → Nat} {n0 : Nat} {bf : ab_B} : decode (ab_code (zx σ n0 bf).1 8273) 115 = .ok (.iconst 0, 1) := zd zm_8273 (by decide +kernel)
theorem d_8273_116 {σ : Nat → Nat} {n0 : Nat} {bf : ab_B} : decode (ab_code (zx σ n0 bf).1 8273) 116 = .ok (.istore 4, 2) := zd zm_8273 (by decide +kernel)
theorem d_8273_118 {σ : Nat → Nat} {n0 : Nat} {bf : ab_B} : decode (ab_code (zx σ n0 bf).1 8273) 118 = .ok (.iinc 6 1, 3) := zd zm_8273 (by decide +kernel)
theorem d_8273_121 {σ : Nat → Nat} {n0 : Nat} {bf : ab_B} : decode (ab_code (zx σ n0 bf).1 8273) 121 = .ok (.goto (-82), 3) := zd zm_8273 (by decide +kernel)
theorem d_8273_124 {σ : Nat → Nat} {n0 : Nat} {bf : ab_B} : decode (ab_code (zx σ n0 bf).1 8273) 124 = .ok (.aload_n 0, 1) := zd zm_8273 (by decide +kernel)
theorem d_8273_125 {σ : Nat → Nat} {n0 : Nat} {bf : ab_B} : decode (ab_code (zx σ n0 bf).1 8273) 125 = .ok (.aload_n 0, 1) := zd zm_8273 (by decide +kernel)
theorem d_8273_126 {σ : Nat → Nat} {n0 : Nat} {bf : ab_B} : decode (ab_code (zx σ n0 bf).1 8273) 126 = .ok (.getfield 399, 3) := zd zm_8273 (by decide +kernel)
theorem d_8273_129 {σ : Nat → Nat} {n0 : Nat} {bf : ab_B} : decode (ab_code (zx σ n0 bf).1 8273) 129 = .ok (.aload_n 0, 1) := zd zm_8273 (by decide +kernel)
theorem d_8273_130 {σ : Nat → Nat} {n0 : Nat} {bf : ab_B} : decode (ab_code (zx σ n0 bf).1 8273) 130 = .ok (.getfield 1261, 3) := zd zm_8273 (by decide +kernel)
theorem d_8273_133 {σ : Nat → Nat} {n0 : Nat} {bf : ab_B} : decode (ab_code (zx σ n0 bf).1 8273) 133 = .ok (.laload, 1) := zd zm_8273 (by decide +kernel)
theorem d_8273_134 {σ : Nat → Nat} {n0 : Nat} {bf : ab_B} : decode (ab_code (zx σ n0 bf).1 8273) 134 = .ok (.putfield 610, 3) := zd zm_8273 (by decide +kernel)
theorem d_8273_137 {σ : Nat → Nat} {n0 : Nat} {bf : ab_B} : decode (ab_code (zx σ n0 bf).1 8273) 137 = .ok (.aload_n 0, 1) := zd zm_8273 (by decide +kernel)
theorem d_8273_138 {σ : Nat → Nat} {n0 : Nat} {bf : ab_B} : decode (ab_code (zx σ n0 bf).1 8273) 138 = .ok (.iload_n 2, 1) := zd zm_8273 (by decide +kernel)
theorem d_8273_139 {σ : Nat → Nat} {n0 : Nat} {bf : ab_B} : decode (ab_code (zx σ n0 bf).1 8273) 139 = .ok (.iconst 1, 1) := zd zm_8273 (by decide +kernel)
theorem d_8273_140 {σ : Nat → Nat} {n0 : Nat} {bf : ab_B} : decode (ab_code (zx σ n0 bf).1 8273) 140 = .ok (.if_icmp .le 17, 3) := zd zm_8273 (by decide +kernel)
theorem d_8273_143 {σ : Nat → Nat} {n0 : Nat} {bf : ab_B} : decode (ab_code (zx σ n0 bf).1 8273) 143 = .ok (.aload_n 0, 1) := zd zm_8273 (by decide +kernel)
theorem d_8273_144 {σ : Nat → Nat} {n0 : Nat} {bf : ab_B} : decode (ab_code (zx σ n0 bf).1 8273) 144 = .ok (.getfield 399, 3) := zd zm_8273 (by decide +kernel)
theorem d_8273_147 {σ : Nat → Nat} {n0 : Nat} {bf : ab_B} : decode (ab_code (zx σ n0 bf).1 8273) 147 = .ok (.aload_n 0, 1) := zd zm_8273 (by decide +kernel)
theorem d_8273_148 {σ : Nat → Nat} {n0 : Nat} {bf : ab_B} : decode (ab_code (zx σ n0 bf).1 8273) 148 = .ok (.getfield 1261, 3) := zd zm_8273 (by decide +kernel)
theorem d_8273_151 {σ : Nat → Nat} {n0 : Nat} {bf : ab_B} : decode (ab_code (zx σ n0 bf).1 8273) 151 = .ok (.iconst 1, 1) := zd zm_8273 (by decide +kernel)
theorem d_8273_152 {σ : Nat → Nat} {n0 : Nat} {bf : ab_B} : decode (ab_code (zx σ n0 bf).1 8273) 152 = .ok (.iadd, 1) := zd zm_8273 (by decide +kernel)
theorem d_8273_153 {σ : Nat → Nat} {n0 : Nat} {bf : ab_B} : decode (ab_code (zx σ n0 bf).1 8273) 153 = .ok (.laload, 1) := zd zm_8273 (by decide +kernel)
theorem d_8273_154 {σ : Nat → Nat} {n0 : Nat} {bf : ab_B} : decode (ab_code (zx σ n0 bf).1 8273) 154 = .ok (.goto 4, 3) := zd zm_8273 (by decide +kernel)
theorem d_8273_157 {σ : Nat → Nat} {n0 : Nat} {bf : ab_B} : decode (ab_code (zx σ n0 bf).1 8273) 157 = .ok (.lconst 0, 1) := zd zm_8273 (by decide +kernel)
theorem d_8273_158 {σ : Nat → Nat} {n0 : Nat} {bf : ab_B} : decode (ab_code (zx σ n0 bf).1 8273) 158 = .ok (.putfield 614, 3) := zd zm_8273 (by decide +kernel)
theorem d_8273_161 {σ : Nat → Nat} {n0 : Nat} {bf : ab_B} : decode (ab_code (zx σ n0 bf).1 8273) 161 = .ok (.aload_n 0, 1) := zd zm_8273 (by decide +kernel)
theorem d_8273_162 {σ : Nat → Nat} {n0 : Nat} {bf : ab_B} : decode (ab_code (zx σ n0 bf).1 8273) 162 = .ok (.iload_n 2, 1) := zd zm_8273 (by decide +kernel)
theorem d_8273_163 {σ : Nat → Nat} {n0 : Nat} {bf : ab_B} : decode (ab_code (zx σ n0 bf).1 8273) 163 = .ok (.iconst 2, 1) := zd zm_8273 (by decide +kernel)
theorem d_8273_164 {σ : Nat → Nat} {n0 : Nat} {bf : ab_B} : decode (ab_code (zx σ n0 bf).1 8273) 164 = .ok (.if_icmp .le 17, 3) := zd zm_8273 (by decide +kernel)
theorem d_8273_167 {σ : Nat → Nat} {n0 : Nat} {bf : ab_B} : decode (ab_code (zx σ n0 bf).1 8273) 167 = .ok (.aload_n 0, 1) := zd zm_8273 (by decide +kernel)
theorem d_8273_168 {σ : Nat → Nat} {n0 : Nat} {bf : ab_B} : decode (ab_code (zx σ n0 bf).1 8273) 168 = .ok (.getfield 399, 3) := zd zm_8273 (by decide +kernel)
theorem d_8273_171 {σ : Nat → Nat} {n0 : Nat} {bf : ab_B} : decode (ab_code (zx σ n0 bf).1 8273) 171 = .ok (.aload_n 0, 1) := zd zm_8273 (by decide +kernel)
theorem d_8273_172 {σ : Nat → Nat} {n0 : Nat} {bf : ab_B} : decode (ab_code (zx σ n0 bf).1 8273) 172 = .ok (.getfield 1261, 3) := zd zm_8273 (by decide +kernel)
theorem d_8273_175 {σ : Nat → Nat} {n0 : Nat} {bf : ab_B} : decode (ab_code (zx σ n0 bf).1 8273) 175 = .ok (.iconst 2, 1) := zd zm_8273 (by decide +kernel)
theorem d_8273_176 {σ : Nat → Nat} {n0 : Nat} {bf : ab_B} : decode (ab_code (zx σ n0 bf).1 8273) 176 = .ok (.iadd, 1) := zd zm_8273 (by decide +kernel)
theorem d_8273_177 {σ : Nat → Nat} {n0 : Nat} {bf : ab_B} : decode (ab_code (zx σ n0 bf).1 8273) 177 = .ok (.laload, 1) := zd zm_8273 (by decide +kernel)
theorem d_8273_178 {σ : Nat → Nat} {n0 : Nat} {bf : ab_B} : decode (ab_code (zx σ n0 bf).1 8273) 178 = .ok (.goto 4, 3) := zd zm_8273 (by decide +kernel)
theorem d_8273_181 {σ : Nat → Nat} {n0 : Nat} {bf : ab_B} : decode (ab_code (zx σ n0 bf).1 8273) 181 = .ok (.lconst 0, 1) := zd zm_8273 (by decide +kernel)
theorem d_8273_182 {σ : Nat → Nat} {n0 : Nat} {bf : ab_B} : decode (ab_code (zx σ n0 bf).1 8273) 182 = .ok (.putfield 617, 3) := zd zm_8273 (by decide +kernel)
theorem d_8273_185 {σ : Nat → Nat} {n0 : Nat} {bf : ab_B} : decode (ab_code (zx σ n0 bf).1 8273) 185 = .ok (.aload_n 0, 1) := zd zm_8273 (by decide +kernel)
theorem d_8273_186 {σ : Nat → Nat} {n0 : Nat} {bf : ab_B} : decode (ab_code (zx σ n0 bf).1 8273) 186 = .ok (.iload_n 2, 1) := zd zm_8273 (by decide +kernel)
theorem d_8273_187 {σ : Nat → Nat} {n0 : Nat} {bf : ab_B} : decode (ab_code (zx σ n0 bf).1 8273) 187 = .ok (.iconst 3, 1) := zd zm_8273 (by decide +kernel)
theorem d_8273_188 {σ : Nat → Nat} {n0 : Nat} {bf : ab_B} : decode (ab_code (zx σ n0 bf).1 8273) 188 = .ok (.if_icmp .le 17, 3) := zd zm_8273 (by decide +kernel)
theorem d_8273_191 {σ : Nat → Nat} {n0 : Nat} {bf : ab_B} : decode (ab_code (zx σ n0 bf).1 8273) 191 = .ok (.aload_n 0, 1) := zd zm_8273 (by decide +kernel)
theorem d_8273_192 {σ : Nat → Nat} {n0 : Nat} {bf : ab_B} : decode (ab_code (zx σ n0 bf).1 8273) 192 = .ok (.getfield 399, 3) := zd zm_8273 (by decide +kernel)
theorem d_8273_195 {σ : Nat → Nat} {n0 : Nat} {bf : ab_B} : decode (ab_code (zx σ n0 bf).1 8273) 195 = .ok (.aload_n 0, 1) := zd zm_8273 (by decide +kernel)
theorem d_8273_196 {σ : Nat → Nat} {n0 : Nat} {bf : ab_B} : decode (ab_code (zx σ n0 bf).1 8273) 196 = .ok (.getfield 1261, 3) := zd zm_8273 (by decide +kernel)
theorem d_8273_199 {σ : Nat → Nat} {n0 : Nat} {bf : ab_B} : decode (ab_code (zx σ n0 bf).1 8273) 199 = .ok (.iconst 3, 1) := zd zm_8273 (by decide +kernel)
theorem d_8273_200 {σ : Nat → Nat} {n0 : Nat} {bf : ab_B} : decode (ab_code (zx σ n0 bf).1 8273) 200 = .ok (.iadd, 1) := zd zm_8273 (by decide +kernel)
theorem d_8273_201 {σ : Nat → Nat} {n0 : Nat} {bf : ab_B} : decode (ab_code (zx σ n0 bf).1 8273) 201 = .ok (.laload, 1) := zd zm_8273 (by decide +kernel)
theorem d_8273_202 {σ : Nat → Nat} {n0 : Nat} {bf : ab_B} : decode (ab_code (zx σ n0 bf).1 8273) 202 = .ok (.goto 4, 3) := zd zm_8273 (by decide +kernel)
theorem d_8273_205 {σ : Nat → Nat} {n0 : Nat} {bf : ab_B} : decode (ab_code (zx σ n0 bf).1 8273) 205 = .ok (.lconst 0, 1) := zd zm_8273 (by decide +kernel)
theorem d_8273_206 {σ : Nat → Nat} {n0 : Nat} {bf : ab_B} : decode (ab_code (zx σ n0 bf).1 8273) 206 = .ok (.putfield 620, 3) := zd zm_8273 (by decide +kernel)
theorem d_8273_209 {σ : Nat → Nat} {n0 : Nat} {bf : ab_B} : decode (ab_code (zx σ n0 bf).1 8273) 209 = .ok (.goto 8, 3) := zd zm_8273 (by decide +kernel)
theorem d_8273_212 {σ : Nat → Nat} {n0 : Nat} {bf : ab_B} : decode (ab_code (zx σ n0 bf).1 8273) 212 = .ok (.aload_n 0, 1) := zd zm_8273 (by decide +kernel)
theorem d_8273_213 {σ : Nat → Nat} {n0 : Nat} {bf : ab_B} : decode (ab_code (zx σ n0 bf).1 8273) 213 = .ok (.iload_n 1, 1) := zd zm_8273 (by decide +kernel)
theorem d_8273_214 {σ : Nat → Nat} {n0 : Nat} {bf : ab_B} : decode (ab_code (zx σ n0 bf).1 8273) 214 = .ok (.invokevirtual 1395, 3) := zd zm_8273 (by decide +kernel)
theorem d_8273_217 {σ : Nat → Nat} {n0 : Nat} {bf : ab_B} : decode (ab_code (zx σ n0 bf).1 8273) 217 = .ok (.iload 4, 2) := zd zm_8273 (by decide +kernel)
theorem d_8273_219 {σ : Nat → Nat} {n0 : Nat} {bf : ab_B} : decode (ab_code (zx σ n0 bf).1 8273) 219 = .ok (.ifCond .eq 11, 3) := zd zm_8273 (by decide +kernel)
theorem d_8273_222 {σ : Nat → Nat} {n0 : Nat} {bf : ab_B} : decode (ab_code (zx σ n0 bf).1 8273) 222 = .ok (.aload_n 0, 1) := zd zm_8273 (by decide +kernel)
theorem d_8273_223 {σ : Nat → Nat} {n0 : Nat} {bf : ab_B} : decode (ab_code (zx σ n0 bf).1 8273) 223 = .ok (.iload_n 1, 1) := zd zm_8273 (by decide +kernel)
theorem d_8273_224 {σ : Nat → Nat} {n0 : Nat} {bf : ab_B} : decode (ab_code (zx σ n0 bf).1 8273) 224 = .ok (.invokevirtual 1356, 3) := zd zm_8273 (by decide +kernel)
theorem d_8273_227 {σ : Nat → Nat} {n0 : Nat} {bf : ab_B} : decode (ab_code (zx σ n0 bf).1 8273) 227 = .ok (.goto 5, 3) := zd zm_8273 (by decide +kernel)
theorem d_8273_230 {σ : Nat → Nat} {n0 : Nat} {bf : ab_B} : decode (ab_code (zx σ n0 bf).1 8273) 230 = .ok (.bipush (-2), 2) := zd zm_8273 (by decide +kernel)
theorem d_8273_232 {σ : Nat → Nat} {n0 : Nat} {bf : ab_B} : decode (ab_code (zx σ n0 bf).1 8273) 232 = .ok (.istore 5, 2) := zd zm_8273 (by decide +kernel)
theorem d_8273_234 {σ : Nat → Nat} {n0 : Nat} {bf : ab_B} : decode (ab_code (zx σ n0 bf).1 8273) 234 = .ok (.aload_n 0, 1) := zd zm_8273 (by decide +kernel)
theorem d_8273_235 {σ : Nat → Nat} {n0 : Nat} {bf : ab_B} : decode (ab_code (zx σ n0 bf).1 8273) 235 = .ok (.dup, 1) := zd zm_8273 (by decide +kernel)
theorem d_8273_236 {σ : Nat → Nat} {n0 : Nat} {bf : ab_B} : decode (ab_code (zx σ n0 bf).1 8273) 236 = .ok (.getfield 1270, 3) := zd zm_8273 (by decide +kernel)
theorem d_8273_239 {σ : Nat → Nat} {n0 : Nat} {bf : ab_B} : decode (ab_code (zx σ n0 bf).1 8273) 239 = .ok (.iconst 1, 1) := zd zm_8273 (by decide +kernel)
theorem d_8273_240 {σ : Nat → Nat} {n0 : Nat} {bf : ab_B} : decode (ab_code (zx σ n0 bf).1 8273) 240 = .ok (.isub, 1) := zd zm_8273 (by decide +kernel)
theorem d_8273_241 {σ : Nat → Nat} {n0 : Nat} {bf : ab_B} : decode (ab_code (zx σ n0 bf).1 8273) 241 = .ok (.putfield 1270, 3) := zd zm_8273 (by decide +kernel)
theorem d_8273_244 {σ : Nat → Nat} {n0 : Nat} {bf : ab_B} : decode (ab_code (zx σ n0 bf).1 8273) 244 = .ok (.iload 5, 2) := zd zm_8273 (by decide +kernel)
theorem d_8273_246 {σ : Nat → Nat} {n0 : Nat} {bf : ab_B} : decode (ab_code (zx σ n0 bf).1 8273) 246 = .ok (.ifCond .ge 10, 3) := zd zm_8273 (by decide +kernel)
theorem d_8273_249 {σ : Nat → Nat} {n0 : Nat} {bf : ab_B} : decode (ab_code (zx σ n0 bf).1 8273) 249 = .ok (.aload_n 0, 1) := zd zm_8273 (by decide +kernel)
theorem d_8273_250 {σ : Nat → Nat} {n0 : Nat} {bf : ab_B} : decode (ab_code (zx σ n0 bf).1 8273) 250 = .ok (.iconst 2, 1) := zd zm_8273 (by decide +kernel)
theorem d_8273_251 {σ : Nat → Nat} {n0 : Nat} {bf : ab_B} : decode (ab_code (zx σ n0 bf).1 8273) 251 = .ok (.iload_n 3, 1) := zd zm_8273 (by decide +kernel)
theorem d_8273_252 {σ : Nat → Nat} {n0 : Nat} {bf : ab_B} : decode (ab_code (zx σ n0 bf).1 8273) 252 = .ok (.invokevirtual 1297, 3) := zd zm_8273 (by decide +kernel)
theorem d_8273_255 {σ : Nat → Nat} {n0 : Nat} {bf : ab_B} : decode (ab_code (zx σ n0 bf).1 8273) 255 = .ok (.return_, 1) := zd zm_8273 (by decide +kernel)
theorem d_8273_256 {σ : Nat → Nat} {n0 : Nat} {bf : ab_B} : decode (ab_code (zx σ n0 bf).1 8273) 256 = .ok (.aload_n 0, 1) := zd zm_8273 (by decide +kernel)
theorem d_8273_257 {σ : Nat → Nat} {n0 : Nat} {bf : ab_B} : decode (ab_code (zx σ n0 bf).1 8273) 257 = .ok (.iload_n 1, 1) := zd zm_8273 (by decide +kernel)
theorem d_8273_258 {σ : Nat → Nat} {n0 : Nat} {bf : ab_B} : decode (ab_code (zx σ n0 bf).1 8273) 258 = .ok (.invokevirtual 727, 3) := zd zm_8273 (by decide +kernel)
theorem d_8273_261 {σ : Nat → Nat} {n0 : Nat} {bf : ab_B} : decode (ab_code (zx σ n0 bf).1 8273) 261 = .ok (.istore 6, 2) := zd zm_8273 (by decide +kernel)
theorem d_8273_263 {σ : Nat → Nat} {n0 : Nat} {bf : ab_B} : decode (ab_code (zx σ n0 bf).1 8273) 263 = .ok (.iconst 1, 1) := zd zm_8273 (by decide +kernel)
theorem d_8273_264 {σ : Nat → Nat} {n0 : Nat} {bf : ab_B} : decode (ab_code (zx σ n0 bf).1 8273) 264 = .ok (.iload 5, 2) := zd zm_8273 (by decide +kernel)
theorem d_8273_266 {σ : Nat → Nat} {n0 : Nat} {bf : ab_B} : decode (ab_code (zx σ n0 bf).1 8273) 266 = .ok (.iadd, 1) := zd zm_8273 (by decide +kernel)
theorem d_8273_267 {σ : Nat → Nat} {n0 : Nat} {bf : ab_B} : decode (ab_code (zx σ n0 bf).1 8273) 267 = .ok (.iload 6, 2) := zd zm_8273 (by decide +kernel)
theorem d_8273_269 {σ : Nat → Nat} {n0 : Nat} {bf : ab_B} : decode (ab_code (zx σ n0 bf).1 8273) 269 = .ok (.ifCond .le 13, 3) := zd zm_8273 (by decide +kernel)
theorem d_8273_272 {σ : Nat → Nat} {n0 : Nat} {bf : ab_B} : decode (ab_code (zx σ n0 bf).1 8273) 272 = .ok (.aload_n 0, 1) := zd zm_8273 (by decide +kernel)
theorem d_8273_273 {σ : Nat → Nat} {n0 : Nat} {bf : ab_B} : decode (ab_code (zx σ n0 bf).1 8273) 273 = .ok (.getfield 127, 3) := zd zm_8273 (by decide +kernel)
theorem d_8273_276 {σ : Nat → Nat} {n0 : Nat} {bf : ab_B} : decode (ab_code (zx σ n0 bf).1 8273) 276 = .ok (.iload 6, 2) := zd zm_8273 (by decide +kernel)
theorem d_8273_278 {σ : Nat → Nat} {n0 : Nat} {bf : ab_B} : decode (ab_code (zx σ n0 bf).1 8273) 278 = .ok (.baload, 1) := zd zm_8273 (by decide +kernel)
theorem d_8273_279 {σ : Nat → Nat} {n0 : Nat} {bf : ab_B} : decode (ab_code (zx σ n0 bf).1 8273) 279 = .ok (.goto 4, 3) := zd zm_8273 (by decide +kernel)
theorem d_8273_282 {σ : Nat → Nat} {n0 : Nat} {bf : ab_B} : decode (ab_code (zx σ n0 bf).1 8273) 282 = .ok (.iconst 0, 1) := zd zm_8273 (by decide +kernel)
theorem d_8273_283 {σ : Nat → Nat} {n0 : Nat} {bf : ab_B} : decode (ab_code (zx σ n0 bf).1 8273) 283 = .ok (.iadd, 1) := zd zm_8273 (by decide +kernel)
theorem d_8273_284 {σ : Nat → Nat} {n0 : Nat} {bf : ab_B} : decode (ab_code (zx σ n0 bf).1 8273) 284 = .ok (.istore 7, 2) := zd zm_8273 (by decide +kernel)
theorem d_8273_286 {σ : Nat → Nat} {n0 : Nat} {bf : ab_B} : decode (ab_code (zx σ n0 bf).1 8273) 286 = .ok (.aload_n 0, 1) := zd zm_8273 (by decide +kernel)
theorem d_8273_287 {σ : Nat → Nat} {n0 : Nat} {bf : ab_B} : decode (ab_code (zx σ n0 bf).1 8273) 287 = .ok (.getfield 1252, 3) := zd zm_8273 (by decide +kernel)
theorem d_8273_290 {σ : Nat → Nat} {n0 : Nat} {bf : ab_B} : decode (ab_code (zx σ n0 bf).1 8273) 290 = .ok (.iload 7, 2) := zd zm_8273 (by decide +kernel)
theorem d_8273_292 {σ : Nat → Nat} {n0 : Nat} {bf : ab_B} : decode (ab_code (zx σ n0 bf).1 8273) 292 = .ok (.iadd, 1) := zd zm_8273 (by decide +kernel)
theorem d_8273_293 {σ : Nat → Nat} {n0 : Nat} {bf : ab_B} : decode (ab_code (zx σ n0 bf).1 8273) 293 = .ok (.sipush 20000, 3) := zd zm_8273 (by decide +kernel)
theorem d_8273_296 {σ : Nat → Nat} {n0 : Nat} {bf : ab_B} : decode (ab_code (zx σ n0 bf).1 8273) 296 = .ok (.if_icmp .le 11, 3) := zd zm_8273 (by decide +kernel)
theorem d_8273_299 {σ : Nat → Nat} {n0 : Nat} {bf : ab_B} : decode (ab_code (zx σ n0 bf).1 8273) 299 = .ok (.aload_n 0, 1) := zd zm_8273 (by decide +kernel)
theorem d_8273_300 {σ : Nat → Nat} {n0 : Nat} {bf : ab_B} : decode (ab_code (zx σ n0 bf).1 8273) 300 = .ok (.bipush 11, 2) := zd zm_8273 (by decide +kernel)
theorem d_8273_302 {σ : Nat → Nat} {n0 : Nat} {bf : ab_B} : decode (ab_code (zx σ n0 bf).1 8273) 302 = .ok (.iload_n 3, 1) := zd zm_8273 (by decide +kernel)
theorem d_8273_303 {σ : Nat → Nat} {n0 : Nat} {bf : ab_B} : decode (ab_code (zx σ n0 bf).1 8273) 303 = .ok (.invokevirtual 1297, 3) := zd zm_8273 (by decide +kernel)
theorem d_8273_306 {σ : Nat → Nat} {n0 : Nat} {bf : ab_B} : decode (ab_code (zx σ n0 bf).1 8273) 306 = .ok (.return_, 1) := zd zm_8273 (by decide +kernel)
theorem d_8273_307 {σ : Nat → Nat} {n0 : Nat} {bf : ab_B} : decode (ab_code (zx σ n0 bf).1 8273) 307 = .ok (.aload_n 0, 1) := zd zm_8273 (by decide +kernel)
theorem d_8273_308 {σ : Nat → Nat} {n0 : Nat} {bf : ab_B} : decode (ab_code (zx σ n0 bf).1 8273) 308 = .ok (.dup, 1) := zd zm_8273 (by decide +kernel)
theorem d_8273_309 {σ : Nat → Nat} {n0 : Nat} {bf : ab_B} : decode (ab_code (zx σ n0 bf).1 8273) 309 = .ok (.getfield 1252, 3) := zd zm_8273 (by decide +kernel)
theorem d_8273_312 {σ : Nat → Nat} {n0 : Nat} {bf : ab_B} : decode (ab_code (zx σ n0 bf).1 8273) 312 = .ok (.iload 7, 2) := zd zm_8273 (by decide +kernel)
theorem d_8273_314 {σ : Nat → Nat} {n0 : Nat} {bf : ab_B} : decode (ab_code (zx σ n0 bf).1 8273) 314 = .ok (.iadd, 1) := zd zm_8273 (by decide +kernel)
theorem d_8273_315 {σ : Nat → Nat} {n0 : Nat} {bf : ab_B} : decode (ab_code (zx σ n0 bf).1 8273) 315 = .ok (.putfield 1252, 3) := zd zm_8273 (by decide +kernel)
theorem d_8273_318 {σ : Nat → Nat} {n0 : Nat} {bf : ab_B} : decode (ab_code (zx σ n0 bf).1 8273) 318 = .ok (.aload_n 0, 1) := zd zm_8273 (by decide +kernel)
theorem d_8273_319 {σ : Nat → Nat} {n0 : Nat} {bf : ab_B} : decode (ab_code (zx σ n0 bf).1 8273) 319 = .ok (.dup, 1) := zd zm_8273 (by decide +kernel)
theorem d_8273_320 {σ : Nat → Nat} {n0 : Nat} {bf : ab_B} : decode (ab_code (zx σ n0 bf).1 8273) 320 = .ok (.getfield 1255, 3) := zd zm_8273 (by decide +kernel)
theorem d_8273_323 {σ : Nat → Nat} {n0 : Nat} {bf : ab_B} : decode (ab_code (zx σ n0 bf).1 8273) 323 = .ok (.iconst 1, 1) := zd zm_8273 (by decide +kernel)
theorem d_8273_324 {σ : Nat → Nat} {n0 : Nat} {bf : ab_B} : decode (ab_code (zx σ n0 bf).1 8273) 324 = .ok (.iadd, 1) := zd zm_8273 (by decide +kernel)
theorem d_8273_325 {σ : Nat → Nat} {n0 : Nat} {bf : ab_B} : decode (ab_code (zx σ n0 bf).1 8273) 325 = .ok (.putfield 1255, 3) := zd zm_8273 (by decide +kernel)
theorem d_8273_328 {σ : Nat → Nat} {n0 : Nat} {bf : ab_B} : decode (ab_code (zx σ n0 bf).1 8273) 328 = .ok (.aload_n 0, 1) := zd zm_8273 (by decide +kernel)
theorem d_8273_329 {σ : Nat → Nat} {n0 : Nat} {bf : ab_B} : decode (ab_code (zx σ n0 bf).1 8273) 329 = .ok (.dup, 1) := zd zm_8273 (by decide +kernel)
theorem d_8273_330 {σ : Nat → Nat} {n0 : Nat} {bf : ab_B} : decode (ab_code (zx σ n0 bf).1 8273) 330 = .ok (.getfield 1258, 3) := zd zm_8273 (by decide +kernel)
theorem d_8273_333 {σ : Nat → Nat} {n0 : Nat} {bf : ab_B} : decode (ab_code (zx σ n0 bf).1 8273) 333 = .ok (.iconst 1, 1) := zd zm_8273 (by decide +kernel)
theorem d_8273_334 {σ : Nat → Nat} {n0 : Nat} {bf : ab_B} : decode (ab_code (zx σ n0 bf).1 8273) 334 = .ok (.iadd, 1) := zd zm_8273 (by decide +kernel)
theorem d_8273_335 {σ : Nat → Nat} {n0 : Nat} {bf : ab_B} : decode (ab_code (zx σ n0 bf).1 8273) 335 = .ok (.putfield 1258, 3) := zd zm_8273 (by decide +kernel)
theorem d_8273_338 {σ : Nat → Nat} {n0 : Nat} {bf : ab_B} : decode (ab_code (zx σ n0 bf).1 8273) 338 = .ok (.aload_n 0, 1) := zd zm_8273 (by decide +kernel)
theorem d_8273_339 {σ : Nat → Nat} {n0 : Nat} {bf : ab_B} : decode (ab_code (zx σ n0 bf).1 8273) 339 = .ok (.getfield 382, 3) := zd zm_8273 (by decide +kernel)
theorem d_8273_342 {σ : Nat → Nat} {n0 : Nat} {bf : ab_B} : decode (ab_code (zx σ n0 bf).1 8273) 342 = .ok (.aload_n 0, 1) := zd zm_8273 (by decide +kernel)
theorem d_8273_343 {σ : Nat → Nat} {n0 : Nat} {bf : ab_B} : decode (ab_code (zx σ n0 bf).1 8273) 343 = .ok (.getfield 1255, 3) := zd zm_8273 (by decide +kernel)
theorem d_8273_346 {σ : Nat → Nat} {n0 : Nat} {bf : ab_B} : decode (ab_code (zx σ n0 bf).1 8273) 346 = .ok (.aload_n 0, 1) := zd zm_8273 (by decide +kernel)
theorem d_8273_347 {σ : Nat → Nat} {n0 : Nat} {bf : ab_B} : decode (ab_code (zx σ n0 bf).1 8273) 347 = .ok (.getfield 1249, 3) := zd zm_8273 (by decide +kernel)
theorem d_8273_350 {σ : Nat → Nat} {n0 : Nat} {bf : ab_B} : decode (ab_code (zx σ n0 bf).1 8273) 350 = .ok (.iastore, 1) := zd zm_8273 (by decide +kernel)
theorem d_8273_351 {σ : Nat → Nat} {n0 : Nat} {bf : ab_B} : decode (ab_code (zx σ n0 bf).1 8273) 351 = .ok (.aload_n 0, 1) := zd zm_8273 (by decide +kernel)
theorem d_8273_352 {σ : Nat → Nat} {n0 : Nat} {bf : ab_B} : decode (ab_code (zx σ n0 bf).1 8273) 352 = .ok (.getfield 385, 3) := zd zm_8273 (by decide +kernel)
theorem d_8273_355 {σ : Nat → Nat} {n0 : Nat} {bf : ab_B} : decode (ab_code (zx σ n0 bf).1 8273) 355 = .ok (.aload_n 0, 1) := zd zm_8273 (by decide +kernel)
theorem d_8273_356 {σ : Nat → Nat} {n0 : Nat} {bf : ab_B} : decode (ab_code (zx σ n0 bf).1 8273) 356 = .ok (.getfield 1255, 3) := zd zm_8273 (by decide +kernel)
theorem d_8273_359 {σ : Nat → Nat} {n0 : Nat} {bf : ab_B} : decode (ab_code (zx σ n0 bf).1 8273) 359 = .ok (.iload_n 1, 1) := zd zm_8273 (by decide +kernel)
theorem d_8273_360 {σ : Nat → Nat} {n0 : Nat} {bf : ab_B} : decode (ab_code (zx σ n0 bf).1 8273) 360 = .ok (.iastore, 1) := zd zm_8273 (by decide +kernel)
theorem d_8273_361 {σ : Nat → Nat} {n0 : Nat} {bf : ab_B} : decode (ab_code (zx σ n0 bf).1 8273) 361 = .ok (.aload_n 0, 1) := zd zm_8273 (by decide +kernel)
theorem d_8273_362 {σ : Nat → Nat} {n0 : Nat} {bf : ab_B} : decode (ab_code (zx σ n0 bf).1 8273) 362 = .ok (.getfield 388, 3) := zd zm_8273 (by decide +kernel)
theorem d_8273_365 {σ : Nat → Nat} {n0 : Nat} {bf : ab_B} : decode (ab_code (zx σ n0 bf).1 8273) 365 = .ok (.aload_n 0, 1) := zd zm_8273 (by decide +kernel)
theorem d_8273_366 {σ : Nat → Nat} {n0 : Nat} {bf : ab_B} : decode (ab_code (zx σ n0 bf).1 8273) 366 = .ok (.getfield 1255, 3) := zd zm_8273 (by decide +kernel)
theorem d_8273_369 {σ : Nat → Nat} {n0 : Nat} {bf : ab_B} : decode (ab_code (zx σ n0 bf).1 8273) 369 = .ok (.iload 5, 2) := zd zm_8273 (by decide +kernel)
theorem d_8273_371 {σ : Nat → Nat} {n0 : Nat} {bf : ab_B} : decode (ab_code (zx σ n0 bf).1 8273) 371 = .ok (.iastore, 1) := zd zm_8273 (by decide +kernel)
theorem d_8273_372 {σ : Nat → Nat} {n0 : Nat} {bf : ab_B} : decode (ab_code (zx σ n0 bf).1 8273) 372 = .ok (.aload_n 0, 1) := zd zm_8273 (by decide +kernel)
theorem d_8273_373 {σ : Nat → Nat} {n0 : Nat} {bf : ab_B} : decode (ab_code (zx σ n0 bf).1 8273) 373 = .ok (.getfield 395, 3) := zd zm_8273 (by decide +kernel)
theorem d_8273_376 {σ : Nat → Nat} {n0 : Nat} {bf : ab_B} : decode (ab_code (zx σ n0 bf).1 8273) 376 = .ok (.aload_n 0, 1) := zd zm_8273 (by decide +kernel)
theorem d_8273_377 {σ : Nat → Nat} {n0 : Nat} {bf : ab_B} : decode (ab_code (zx σ n0 bf).1 8273) 377 = .ok (.getfield 1255, 3) := zd zm_8273 (by decide +kernel)
theorem d_8273_380 {σ : Nat → Nat} {n0 : Nat} {bf : ab_B} : decode (ab_code (zx σ n0 bf).1 8273) 380 = .ok (.iconst 1, 1) := zd zm_8273 (by decide +kernel)
theorem d_8273_381 {σ : Nat → Nat} {n0 : Nat} {bf : ab_B} : decode (ab_code (zx σ n0 bf).1 8273) 381 = .ok (.bastore, 1) := zd zm_8273 (by decide +kernel)
theorem d_8273_382 {σ : Nat → Nat} {n0 : Nat} {bf : ab_B} : decode (ab_code (zx σ n0 bf).1 8273) 382 = .ok (.iconst 0, 1) := zd zm_8273 (by decide +kernel)
theorem d_8273_383 {σ : Nat → Nat} {n0 : Nat} {bf : ab_B} : decode (ab_code (zx σ n0 bf).1 8273) 383 = .ok (.istore 8, 2) := zd zm_8273 (by decide +kernel)
theorem d_8273_385 {σ : Nat → Nat} {n0 : Nat} {bf : ab_B} : decode (ab_code (zx σ n0 bf).1 8273) 385 = .ok (.iload 8, 2) := zd zm_8273 (by decide +kernel)
theorem d_8273_387 {σ : Nat → Nat} {n0 : Nat} {bf : ab_B} : decode (ab_code (zx σ n0 bf).1 8273) 387 = .ok (.iconst 4, 1) := zd zm_8273 (by decide +kernel)
theorem d_8273_388 {σ : Nat → Nat} {n0 : Nat} {bf : ab_B} : decode (ab_code (zx σ n0 bf).1 8273) 388 = .ok (.if_icmp .ge 29, 3) := zd zm_8273 (by decide +kernel)
theorem d_8273_391 {σ : Nat → Nat} {n0 : Nat} {bf : ab_B} : decode (ab_code (zx σ n0 bf).1 8273) 391 = .ok (.aload_n 0, 1) := zd zm_8273 (by decide +kernel)
theorem d_8273_392 {σ : Nat → Nat} {n0 : Nat} {bf : ab_B} : decode (ab_code (zx σ n0 bf).1 8273) 392 = .ok (.getfield 392, 3) := zd zm_8273 (by decide +kernel)
theorem d_8273_395 {σ : Nat → Nat} {n0 : Nat} {bf : ab_B} : decode (ab_code (zx σ n0 bf).1 8273) 395 = .ok (.iconst 4, 1) := zd zm_8273 (by decide +kernel)
theorem d_8273_396 {σ : Nat → Nat} {n0 : Nat} {bf : ab_B} : decode (ab_code (zx σ n0 bf).1 8273) 396 = .ok (.aload_n 0, 1) := zd zm_8273 (by decide +kernel)
theorem d_8273_397 {σ : Nat → Nat} {n0 : Nat} {bf : ab_B} : decode (ab_code (zx σ n0 bf).1 8273) 397 = .ok (.getfield 1255, 3) := zd zm_8273 (by decide +kernel)
theorem d_8273_400 {σ : Nat → Nat} {n0 : Nat} {bf : ab_B} : decode (ab_code (zx σ n0 bf).1 8273) 400 = .ok (.imul, 1) := zd zm_8273 (by decide +kernel)
theorem d_8273_401 {σ : Nat → Nat} {n0 : Nat} {bf : ab_B} : decode (ab_code (zx σ n0 bf).1 8273) 401 = .ok (.iload 8, 2) := zd zm_8273 (by decide +kernel)
theorem d_8273_403 {σ : Nat → Nat} {n0 : Nat} {bf : ab_B} : decode (ab_code (zx σ n0 bf).1 8273) 403 = .ok (.iadd, 1) := zd zm_8273 (by decide +kernel)
theorem d_8273_404 {σ : Nat → Nat} {n0 : Nat} {bf : ab_B} : decode (ab_code (zx σ n0 bf).1 8273) 404 = .ok (.aload_n 0, 1) := zd zm_8273 (by decide +kernel)
theorem d_8273_405 {σ : Nat → Nat} {n0 : Nat} {bf : ab_B} : decode (ab_code (zx σ n0 bf).1 8273) 405 = .ok (.iload 8, 2) := zd zm_8273 (by decide +kernel)
theorem d_8273_407 {σ : Nat → Nat} {n0 : Nat} {bf : ab_B} : decode (ab_code (zx σ n0 bf).1 8273) 407 = .ok (.invokevirtual 627, 3) := zd zm_8273 (by decide +kernel)
theorem d_8273_410 {σ : Nat → Nat} {n0 : Nat} {bf : ab_B} : decode (ab_code (zx σ n0 bf).1 8273) 410 = .ok (.lastore, 1) := zd zm_8273 (by decide +kernel)
theorem d_8273_411 {σ : Nat → Nat} {n0 : Nat} {bf : ab_B} : decode (ab_code (zx σ n0 bf).1 8273) 411 = .ok (.iinc 8 1, 3) := zd zm_8273 (by decide +kernel)
theorem d_8273_414 {σ : Nat → Nat} {n0 : Nat} {bf : ab_B} : decode (ab_code (zx σ n0 bf).1 8273) 414 = .ok (.goto (-29), 3) := zd zm_8273 (by decide +kernel)
theorem d_8273_417 {σ : Nat → Nat} {n0 : Nat} {bf : ab_B} : decode (ab_code (zx σ n0 bf).1 8273) 417 = .ok (.aload_n 0, 1) := zd zm_8273 (by decide +kernel)
theorem d_8273_418 {σ : Nat → Nat} {n0 : Nat} {bf : ab_B} : decode (ab_code (zx σ n0 bf).1 8273) 418 = .ok (.aload_n 0, 1) := zd zm_8273 (by decide +kernel)
theorem d_8273_419 {σ : Nat → Nat} {n0 : Nat} {bf : ab_B} : decode (ab_code (zx σ n0 bf).1 8273) 419 = .ok (.getfield 1249, 3) := zd zm_8273 (by decide +kernel)
theorem d_8273_422 {σ : Nat → Nat} {n0 : Nat} {bf : ab_B} : decode (ab_code (zx σ n0 bf).1 8273) 422 = .ok (.iload 5, 2) := zd zm_8273 (by decide +kernel)
theorem d_8273_424 {σ : Nat → Nat} {n0 : Nat} {bf : ab_B} : decode (ab_code (zx σ n0 bf).1 8273) 424 = .ok (.invokevirtual 1345, 3) := zd zm_8273 (by decide +kernel)
theorem d_8273_427 {σ : Nat → Nat} {n0 : Nat} {bf : ab_B} : decode (ab_code (zx σ n0 bf).1 8273) 427 = .ok (.aload_n 0, 1) := zd zm_8273 (by decide +kernel)
theorem d_8273_428 {σ : Nat → Nat} {n0 : Nat} {bf : ab_B} : decode (ab_code (zx σ n0 bf).1 8273) 428 = .ok (.dup, 1) := zd zm_8273 (by decide +kernel)
theorem d_8273_429 {σ : Nat → Nat} {n0 : Nat} {bf : ab_B} : decode (ab_code (zx σ n0 bf).1 8273) 429 = .ok (.getfield 1249, 3) := zd zm_8273 (by decide +kernel)
theorem d_8273_432 {σ : Nat → Nat} {n0 : Nat} {bf : ab_B} : decode (ab_code (zx σ n0 bf).1 8273) 432 = .ok (.iload 5, 2) := zd zm_8273 (by decide +kernel)
theorem d_8273_434 {σ : Nat → Nat} {n0 : Nat} {bf : ab_B} : decode (ab_code (zx σ n0 bf).1 8273) 434 = .ok (.iadd, 1) := zd zm_8273 (by decide +kernel)
theorem d_8273_435 {σ : Nat → Nat} {n0 : Nat} {bf : ab_B} : decode (ab_code (zx σ n0 bf).1 8273) 435 = .ok (.putfield 1249, 3) := zd zm_8273 (by decide +kernel)
theorem d_8273_438 {σ : Nat → Nat} {n0 : Nat} {bf : ab_B} : decode (ab_code (zx σ n0 bf).1 8273) 438 = .ok (.aload_n 0, 1) := zd zm_8273 (by decide +kernel)
theorem d_8273_439 {σ : Nat → Nat} {n0 : Nat} {bf : ab_B} : decode (ab_code (zx σ n0 bf).1 8273) 439 = .ok (.aload_n 0, 1) := zd zm_8273 (by decide +kernel)
theorem d_8273_440 {σ : Nat → Nat} {n0 : Nat} {bf : ab_B} : decode (ab_code (zx σ n0 bf).1 8273) 440 = .ok (.getfield 409, 3) := zd zm_8273 (by decide +kernel)
theorem d_8273_443 {σ : Nat → Nat} {n0 : Nat} {bf : ab_B} : decode (ab_code (zx σ n0 bf).1 8273) 443 = .ok (.aload_n 0, 1) := zd zm_8273 (by decide +kernel)
theorem d_8273_444 {σ : Nat → Nat} {n0 : Nat} {bf : ab_B} : decode (ab_code (zx σ n0 bf).1 8273) 444 = .ok (.getfield 1270, 3) := zd zm_8273 (by decide +kernel)
theorem d_8273_447 {σ : Nat → Nat} {n0 : Nat} {bf : ab_B} : decode (ab_code (zx σ n0 bf).1 8273) 447 = .ok (.iaload, 1) := zd zm_8273 (by decide +kernel)
theorem d_8273_448 {σ : Nat → Nat} {n0 : Nat} {bf : ab_B} : decode (ab_code (zx σ n0 bf).1 8273) 448 = .ok (.aload_n 0, 1) := zd zm_8273 (by decide +kernel)
theorem d_8273_449 {σ : Nat → Nat} {n0 : Nat} {bf : ab_B} : decode (ab_code (zx σ n0 bf).1 8273) 449 = .ok (.getfield 1255, 3) := zd zm_8273 (by decide +kernel)
theorem d_8273_452 {σ : Nat → Nat} {n0 : Nat} {bf : ab_B} : decode (ab_code (zx σ n0 bf).1 8273) 452 = .ok (.i2l, 1) := zd zm_8273 (by decide +kernel)
theorem d_8273_453 {σ : Nat → Nat} {n0 : Nat} {bf : ab_B} : decode (ab_code (zx σ n0 bf).1 8273) 453 = .ok (.aload_n 0, 1) := zd zm_8273 (by decide +kernel)
theorem d_8273_454 {σ : Nat → Nat} {n0 : Nat} {bf : ab_B} : decode (ab_code (zx σ n0 bf).1 8273) 454 = .ok (.aload_n 0, 1) := zd zm_8273 (by decide +kernel)
theorem d_8273_455 {σ : Nat → Nat} {n0 : Nat} {bf : ab_B} : decode (ab_code (zx σ n0 bf).1 8273) 455 = .ok (.getfield 412, 3) := zd zm_8273 (by decide +kernel)
theorem d_8273_458 {σ : Nat → Nat} {n0 : Nat} {bf : ab_B} : decode (ab_code (zx σ n0 bf).1 8273) 458 = .ok (.aload_n 0, 1) := zd zm_8273 (by decide +kernel)
theorem d_8273_459 {σ : Nat → Nat} {n0 : Nat} {bf : ab_B} : decode (ab_code (zx σ n0 bf).1 8273) 459 = .ok (.getfield 1270, 3) := zd zm_8273 (by decide +kernel)
theorem d_8273_462 {σ : Nat → Nat} {n0 : Nat} {bf : ab_B} : decode (ab_code (zx σ n0 bf).1 8273) 462 = .ok (.iaload, 1) := zd zm_8273 (by decide +kernel)
theorem d_8273_463 {σ : Nat → Nat} {n0 : Nat} {bf : ab_B} : decode (ab_code (zx σ n0 bf).1 8273) 463 = .ok (.invokevirtual 1332, 3) := zd zm_8273 (by decide +kernel)
theorem d_8273_466 {σ : Nat → Nat} {n0 : Nat} {bf : ab_B} : decode (ab_code (zx σ n0 bf).1 8273) 466 = .ok (.invokevirtual 1341, 3) := zd zm_8273 (by decide +kernel)
theorem d_8273_469 {σ : Nat → Nat} {n0 : Nat} {bf : ab_B} : decode (ab_code (zx σ n0 bf).1 8273) 469 = .ok (.return_, 1) := zd zm_8273 (by decide +kernel)
def w_X9_newThing_36 (X : zs_X) (d : Nat) (p0 : Nat) (p1 : Int32) (p2 : Int32) (p3 : Int32) (p4 : Int32) (p5 : Int32) (S : zs_T) (Q : zs_Q) : Prop :=
  (zs_U X d 8273 39 [(0, .ref p0), (1, .int p1), (2, .int p2), (3, .int p3), (4, .int p4), (5, .int p5), (6, .int (0 : Int32))] [] S Q)
theorem u_X9_newThing_36 {σ : Nat → Nat} {n0 : Nat} {bf : ab_B} {d : Nat} {p0 : Nat} {p1 : Int32} {p2 : Int32} {p3 : Int32} {p4 : Int32} {p5 : Int32} {S : zs_T} {Q : zs_Q} (hB : zt_B bf) (h : w_X9_newThing_36 (zx σ n0 bf) d p0 p1 p2 p3 p4 p5 S Q) : zs_U (zx σ n0 bf) d 8273 36 [(0, .ref p0), (1, .int p1), (2, .int p2), (3, .int p3), (4, .int p4), (5, .int p5)] [] S Q := by
  unfold w_X9_newThing_36 at h
  refine zu_iconst d_8273_36 zi_0 ?_
  refine zu_istore d_8273_37 (zs_lt zq_8273 rfl) ?_
  exact h.weak ⟨rfl, rfl, rfl, rfl, rfl, rfl, rfl, trivial⟩
def w_X9_newThing_361 (X : zs_X) (d : Nat) (p0 : Nat) (p5 : Int32) (S : zs_T) (Q : zs_Q) : Prop :=
  (zs_K S p0 = some (.inl 8) ∧ ∃ b2, (zs_R S 8178 p0) = some b2 ∧ zs_A S b2 0 (zs_I S 8181 p0) ∧ ab_n0 X.1 ≤ b2 ∧ ∀ S6, S6 = zs_si S b2 (zs_I S 8181 p0).toNatClampNeg p5 → ∃ b9, (zs_R S6 8180 p0) = some b9 ∧ zs_A S b9 2 (zs_I S6 8181 p0) ∧ ab_n0 X.1 ≤ b9 ∧ ∀ S13, S13 = zs_si S6 b9 (zs_I S6 8181 p0).toNatClampNeg (vp_nar .boolean (1 : Int32)) → zs_U X d 8273 385 [(0, .ref p0), (5, .int p5), (8, .int (0 : Int32))] [] S13 Q)
theorem u_X9_newThing_361 {σ : Nat → Nat} {n0 : Nat} {bf : ab_B} {d : Nat} {p0 : Nat} {p5 : Int32} {S : zs_T} {Q : zs_Q} (hB : zt_B bf) (h : w_X9_newThing_361 (zx σ n0 bf) d p0 p5 S Q) : zs_U (zx σ n0 bf) d 8273 361 [(0, .ref p0), (5, .int p5)] [] S Q := by
  unfold w_X9_newThing_361 at h
  refine zu_aload_n d_8273_361 rfl (zs_ra _) ?_
  obtain ⟨k1, h⟩ := h
  refine zg_8_388 rfl d_8273_362 k1 ?_
  refine zu_aload_n d_8273_365 rfl (zs_ra _) ?_
  refine zg_8_1255 rfl d_8273_366 k1 ?_
  refine zu_iload d_8273_369 rfl ?_
  obtain ⟨b2, e3, h⟩ := h
  refine zs_stk2 (zs_rfe e3) ?_
  obtain ⟨k4, h⟩ := h
  obtain ⟨k5, h⟩ := h
  refine zu_iast (k := 0) d_8273_371 rfl rfl k5 k4 ?_
  generalize e7 : zs_si S b2 (zs_I S 8181 p0).toNatClampNeg p5 = S6
  have h := h S6 e7.symm
  have K8 : ∀ b, zs_K S6 b = zs_K S b := zs_Kt e7 (zs_Ksi _ _ _ _) (fun _ => rfl)
  refine zu_aload_n d_8273_372 rfl (zs_ra _) ?_
  refine zg_8_395 rfl d_8273_373 ((K8 _).trans k1) ?_
  refine zu_aload_n d_8273_376 rfl (zs_ra _) ?_
  refine zg_8_1255 rfl d_8273_377 ((K8 _).trans k1) ?_
  refine zu_iconst d_8273_380 zi_1 ?_
  obtain ⟨b9, e10, h⟩ := h
  refine zs_stk2 (zs_rfe e10) ?_
  obtain ⟨k11, h⟩ := h
  obtain ⟨k12, h⟩ := h
  refine zu_bast_bool (k := 2) d_8273_381 rfl rfl k12 (zs_Ak K8 k11) ?_
  generalize e14 : zs_si S6 b9 (zs_I S6 8181 p0).toNatClampNeg (vp_nar .boolean (1 : Int32)) = S13
  have h := h S13 e14.symm
  have K15 : ∀ b, zs_K S13 b = zs_K S b := zs_Kt e14 (zs_Ksi _ _ _ _) K8
  refine zu_iconst d_8273_382 zi_0 ?_
  refine zu_istore d_8273_383 (zs_lt zq_8273 rfl) ?_
  exact h.weak ⟨rfl, rfl, rfl, trivial⟩
def w_X9_newThing_328 (X : zs_X) (d : Nat) (p0 : Nat) (p1 : Int32) (p5 : Int32) (S : zs_T) (Q : zs_Q) : Prop :=
  (zs_K S p0 = some (.inl 8) ∧ ab_n0 X.1 ≤ p0 ∧ ∀ S3, S3 = zs_sI S 8182 p0 ((zs_I S 8182 p0) + (1 : Int32)) → ∃ b6, (zs_R S3 8176 p0) = some b6 ∧ zs_A S b6 0 (zs_I S3 8181 p0) ∧ ab_n0 X.1 ≤ b6 ∧ ∀ S10, S10 = zs_si S3 b6 (zs_I S3 8181 p0).toNatClampNeg (zs_I S3 8174 p0) → ∃ b13, (zs_R S10 8177 p0) = some b13 ∧ zs_A S b13 0 (zs_I S10 8181 p0) ∧ ab_n0 X.1 ≤ b13 ∧ ∀ S17, S17 = zs_si S10 b13 (zs_I S10 8181 p0).toNatClampNeg p1 → w_X9_newThing_361 X d p0 p5 S17 Q)
theorem u_X9_newThing_328 {σ : Nat → Nat} {n0 : Nat} {bf : ab_B} {d : Nat} {p0 : Nat} {p1 : Int32} {p5 : Int32} {S : zs_T} {Q : zs_Q} (hB : zt_B bf) (h : w_X9_newThing_328 (zx σ n0 bf) d p0 p1 p5 S Q) : zs_U (zx σ n0 bf) d 8273 328 [(0, .ref p0), (1, .int p1), (5, .int p5)] [] S Q := by
  unfold w_X9_newThing_328 at h
  refine zu_aload_n d_8273_328 rfl (zs_ra _) ?_
  refine zu_dup d_8273_329 rfl ?_
  obtain ⟨k1, h⟩ := h
  refine zg_8_1258 rfl d_8273_330 k1 ?_
  refine zu_iconst d_8273_333 zi_1 ?_
  refine zu_stk d_8273_334 rfl rfl ?_
  obtain ⟨k2, h⟩ := h
  refine zp_8_1258 (v := ((zs_I S 8182 p0) + (1 : Int32))) rfl d_8273_335 k1 k2 ?_
  generalize e4 : zs_sI S 8182 p0 ((zs_I S 8182 p0) + (1 : Int32)) = S3
  have h := h S3 e4.symm
  have K5 : ∀ b, zs_K S3 b = zs_K S b := zs_Kt e4 (zs_KsI _ _ _ _) (fun _ => rfl)
  refine zu_aload_n d_8273_338 rfl (zs_ra _) ?_
  refine zg_8_382 rfl d_8273_339 ((K5 _).trans k1) ?_
  refine zu_aload_n d_8273_342 rfl (zs_ra _) ?_
  refine zg_8_1255 rfl d_8273_343 ((K5 _).trans k1) ?_
  refine zu_aload_n d_8273_346 rfl (zs_ra _) ?_
  refine zg_8_1249 rfl d_8273_347 ((K5 _).trans k1) ?_
  obtain ⟨b6, e7, h⟩ := h
  refine zs_stk2 (zs_rfe e7) ?_
  obtain ⟨k8, h⟩ := h
  obtain ⟨k9, h⟩ := h
  refine zu_iast (k := 0) d_8273_350 rfl rfl k9 (zs_Ak K5 k8) ?_
  generalize e11 : zs_si S3 b6 (zs_I S3 8181 p0).toNatClampNeg (zs_I S3 8174 p0) = S10
  have h := h S10 e11.symm
  have K12 : ∀ b, zs_K S10 b = zs_K S b := zs_Kt e11 (zs_Ksi _ _ _ _) K5
  refine zu_aload_n d_8273_351 rfl (zs_ra _) ?_
  refine zg_8_385 rfl d_8273_352 ((K12 _).trans k1) ?_
  refine zu_aload_n d_8273_355 rfl (zs_ra _) ?_
  refine zg_8_1255 rfl d_8273_356 ((K12 _).trans k1) ?_
  refine zu_iload_n d_8273_359 rfl ?_
  obtain ⟨b13, e14, h⟩ := h
  refine zs_stk2 (zs_rfe e14) ?_
  obtain ⟨k15, h⟩ := h
  obtain ⟨k16, h⟩ := h
  refine zu_iast (k := 0) d_8273_360 rfl rfl k16 (zs_Ak K12 k15) ?_
  generalize e18 : zs_si S10 b13 (zs_I S10 8181 p0).toNatClampNeg p1 = S17
  have h := h S17 e18.symm
  have K19 : ∀ b, zs_K S17 b = zs_K S b := zs_Kt e18 (zs_Ksi _ _ _ _) K12
  exact (u_X9_newThing_361 hB h).weak ⟨rfl, rfl, trivial⟩
def w_X9_newThing_283 (X : zs_X) (d : Nat) (p0 : Nat) (p1 : Int32) (p3 : Int32) (p5 : Int32) (q0 : Int32) (q1 : Int32) (S : zs_T) (Q : zs_Q) : Prop :=
  (zs_K S p0 = some (.inl 8) ∧ ((((zs_I S 8175 p0) + (q0 + q1)) ≤ (20000 : Int32) → (ab_n0 X.1 ≤ p0 ∧ ∀ S4, S4 = zs_sI S 8175 p0 ((zs_I S 8175 p0) + (q0 + q1)) → ∀ S7, S7 = zs_sI S4 8181 p0 ((zs_I S4 8181 p0) + (1 : Int32)) → w_X9_newThing_328 X d p0 p1 p5 S7 Q)) ∧ (¬ (((zs_I S 8175 p0) + (q0 + q1)) ≤ (20000 : Int32)) → (zs_C X d 8208 [.ref p0, .int (11 : Int32), .int p3] S (zs_kV (fun S10 => (Q (.returned none) S10)) Q)))))
theorem u_X9_newThing_283 {σ : Nat → Nat} {n0 : Nat} {bf : ab_B} {d : Nat} {p0 : Nat} {p1 : Int32} {p3 : Int32} {p5 : Int32} {q0 : Int32} {q1 : Int32} {S : zs_T} {Q : zs_Q} (hB : zt_B bf) (h : w_X9_newThing_283 (zx σ n0 bf) d p0 p1 p3 p5 q0 q1 S Q) : zs_U (zx σ n0 bf) d 8273 283 [(0, .ref p0), (1, .int p1), (3, .int p3), (5, .int p5)] [.int q1, .int q0] S Q := by
  unfold w_X9_newThing_283 at h
  refine zu_stk d_8273_283 rfl rfl ?_
  refine zu_istore d_8273_284 (zs_lt zq_8273 rfl) ?_
  refine zu_aload_n d_8273_286 rfl (zs_ra _) ?_
  obtain ⟨k1, h⟩ := h
  refine zg_8_1252 rfl d_8273_287 k1 ?_
  refine zu_iload d_8273_290 rfl ?_
  refine zu_stk d_8273_292 rfl rfl ?_
  refine zu_sipush d_8273_293 zh_20000 ?_
  refine zu_cmple (t := 307) d_8273_296 rfl (fun c2 => ?_) (fun c2 => ?_)
  · have h := h.1 c2
    refine zu_aload_n d_8273_307 rfl (zs_ra _) ?_
    refine zu_dup d_8273_308 rfl ?_
    refine zg_8_1252 rfl d_8273_309 k1 ?_
    refine zu_iload d_8273_312 rfl ?_
    refine zu_stk d_8273_314 rfl rfl ?_
    obtain ⟨k3, h⟩ := h
    refine zp_8_1252 (v := ((zs_I S 8175 p0) + (q0 + q1))) rfl d_8273_315 k1 k3 ?_
    generalize e5 : zs_sI S 8175 p0 ((zs_I S 8175 p0) + (q0 + q1)) = S4
    have h := h S4 e5.symm
    have K6 : ∀ b, zs_K S4 b = zs_K S b := zs_Kt e5 (zs_KsI _ _ _ _) (fun _ => rfl)
    refine zu_aload_n d_8273_318 rfl (zs_ra _) ?_
    refine zu_dup d_8273_319 rfl ?_
    refine zg_8_1255 rfl d_8273_320 ((K6 _).trans k1) ?_
    refine zu_iconst d_8273_323 zi_1 ?_
    refine zu_stk d_8273_324 rfl rfl ?_
    refine zp_8_1255 (v := ((zs_I S4 8181 p0) + (1 : Int32))) rfl d_8273_325 ((K6 _).trans k1) k3 ?_
    generalize e8 : zs_sI S4 8181 p0 ((zs_I S4 8181 p0) + (1 : Int32)) = S7
    have h := h S7 e8.symm
    have K9 : ∀ b, zs_K S7 b = zs_K S b := zs_Kt e8 (zs_KsI _ _ _ _) K6
    exact (u_X9_newThing_328 hB h).weak ⟨rfl, rfl, rfl, trivial⟩
  · have h := h.2 c2
    refine zu_aload_n d_8273_299 rfl (zs_ra _) ?_
    refine zu_bipush d_8273_300 zj_11 ?_
    refine zu_iload_n d_8273_302 rfl ?_
    refine zc_8_1297 (x0 := (11 : Int32)) (x1 := p3) hB rfl k1 d_8273_303 (Nat.le_of_ble_eq_true rfl) h (fun S10 h => ?_)
    exact zu_vret d_8273_306 zr_8273 h
def w_X9_newThing_232 (X : zs_X) (d : Nat) (p0 : Nat) (p1 : Int32) (p3 : Int32) (q0 : Int32) (S : zs_T) (Q : zs_Q) : Prop :=
  (zs_K S p0 = some (.inl 8) ∧ ab_n0 X.1 ≤ p0 ∧ ∀ S3, S3 = zs_sI S 8195 p0 ((zs_I S 8195 p0) - (1 : Int32)) → ((0 ≤ q0 → (zs_C X d 8074 [.ref p0, .int p1] S3 (zs_kI (fun v8 S7 => (((v8 ≤ 0 → (w_X9_newThing_283 X d p0 p1 p3 q0 ((1 : Int32) + q0) (0 : Int32) S7 Q)) ∧ (¬ (v8 ≤ 0) → (zs_K S7 p0 = some (.inl 8) ∧ ∃ b11, (zs_R S7 8058 p0) = some b11 ∧ zs_A S7 b11 1 v8 ∧ w_X9_newThing_283 X d p0 p1 p3 q0 ((1 : Int32) + q0) (zs_i S7 b11 v8.toNatClampNeg) S7 Q))))) Q))) ∧ (¬ (0 ≤ q0) → (zs_C X d 8208 [.ref p0, .int (2 : Int32), .int p3] S3 (zs_kV (fun S14 => (Q (.returned none) S14)) Q)))))
theorem u_X9_newThing_232 {σ : Nat → Nat} {n0 : Nat} {bf : ab_B} {d : Nat} {p0 : Nat} {p1 : Int32} {p3 : Int32} {q0 : Int32} {S : zs_T} {Q : zs_Q} (hB : zt_B bf) (h : w_X9_newThing_232 (zx σ n0 bf) d p0 p1 p3 q0 S Q) : zs_U (zx σ n0 bf) d 8273 232 [(0, .ref p0), (1, .int p1), (3, .int p3)] [.int q0] S Q := by
  unfold w_X9_newThing_232 at h
  refine zu_istore d_8273_232 (zs_lt zq_8273 rfl) ?_
  refine zu_aload_n d_8273_234 rfl (zs_ra _) ?_
  refine zu_dup d_8273_235 rfl ?_
  obtain ⟨k1, h⟩ := h
  refine zg_8_1270 rfl d_8273_236 k1 ?_
  refine zu_iconst d_8273_239 zi_1 ?_
  refine zu_stk d_8273_240 rfl rfl ?_
  obtain ⟨k2, h⟩ := h
  refine zp_8_1270 (v := ((zs_I S 8195 p0) - (1 : Int32))) rfl d_8273_241 k1 k2 ?_
  generalize e4 : zs_sI S 8195 p0 ((zs_I S 8195 p0) - (1 : Int32)) = S3
  have h := h S3 e4.symm
  have K5 : ∀ b, zs_K S3 b = zs_K S b := zs_Kt e4 (zs_KsI _ _ _ _) (fun _ => rfl)
  refine zu_iload d_8273_244 rfl ?_
  refine zu_ifge (t := 256) d_8273_246 rfl (fun c6 => ?_) (fun c6 => ?_)
  · have h := h.1 c6
    refine zu_aload_n d_8273_256 rfl (zs_ra _) ?_
    refine zu_iload_n d_8273_257 rfl ?_
    refine zc_8_727 (x0 := p1) hB rfl ((K5 _).trans k1) d_8273_258 (Nat.le_of_ble_eq_true rfl) h (fun v8 S7 h => ?_)
    refine zu_istore d_8273_261 (zs_lt zq_8273 rfl) ?_
    refine zu_iconst d_8273_263 zi_1 ?_
    refine zu_iload d_8273_264 rfl ?_
    refine zu_stk d_8273_266 rfl rfl ?_
    refine zu_iload d_8273_267 rfl ?_
    refine zu_ifle (t := 282) d_8273_269 rfl (fun c9 => ?_) (fun c9 => ?_)
    · have h := h.1 c9
      refine zu_iconst d_8273_282 zi_0 ?_
      exact (u_X9_newThing_283 hB h).weak ⟨rfl, rfl, rfl, rfl, trivial⟩
    · have h := h.2 c9
      refine zu_aload_n d_8273_272 rfl (zs_ra _) ?_
      obtain ⟨k10, h⟩ := h
      refine zg_8_127 rfl d_8273_273 k10 ?_
      refine zu_iload d_8273_276 rfl ?_
      obtain ⟨b11, e12, h⟩ := h
      refine zs_stk1 (zs_rfe e12) ?_
      obtain ⟨k13, h⟩ := h
      refine zu_bald (k := 1) d_8273_278 rfl (Or.inl rfl) k13 ?_
      refine zu_goto (t := 283) d_8273_279 rfl ?_
      exact (u_X9_newThing_283 hB h).weak ⟨rfl, rfl, rfl, rfl, trivial⟩
  · have h := h.2 c6
    refine zu_aload_n d_8273_249 rfl (zs_ra _) ?_
    refine zu_iconst d_8273_250 zi_2 ?_
    refine zu_iload_n d_8273_251 rfl ?_
    refine zc_8_1297 (x0 := (2 : Int32)) (x1 := p3) hB rfl ((K5 _).trans k1) d_8273_252 (Nat.le_of_ble_eq_true rfl) h (fun S14 h => ?_)
    exact zu_vret d_8273_255 zr_8273 h
def w_X9_newThing_217 (X : zs_X) (d : Nat) (p0 : Nat) (p1 : Int32) (p3 : Int32) (p4 : Int32) (S : zs_T) (Q : zs_Q) : Prop :=
  (((p4 = 0 → (w_X9_newThing_232 X d p0 p1 p3 (-2 : Int32) S Q)) ∧ (¬ (p4 = 0) → (zs_K S p0 = some (.inl 8) ∧ zs_C X d 8216 [.ref p0, .int p1] S (zs_kI (fun v4 S3 => (w_X9_newThing_232 X d p0 p1 p3 v4 S3 Q)) Q)))))
theorem u_X9_newThing_217 {σ : Nat → Nat} {n0 : Nat} {bf : ab_B} {d : Nat} {p0 : Nat} {p1 : Int32} {p3 : Int32} {p4 : Int32} {S : zs_T} {Q : zs_Q} (hB : zt_B bf) (h : w_X9_newThing_217 (zx σ n0 bf) d p0 p1 p3 p4 S Q) : zs_U (zx σ n0 bf) d 8273 217 [(0, .ref p0), (1, .int p1), (3, .int p3), (4, .int p4)] [] S Q := by
  unfold w_X9_newThing_217 at h
  refine zu_iload d_8273_217 rfl ?_
  refine zu_ifeq (t := 230) d_8273_219 rfl (fun c1 => ?_) (fun c1 => ?_)
  · have h := h.1 c1
    refine zu_bipush d_8273_230 zj_m2 ?_
    exact (u_X9_newThing_232 hB h).weak ⟨rfl, rfl, rfl, trivial⟩
  · have h := h.2 c1
    refine zu_aload_n d_8273_222 rfl (zs_ra _) ?_
    refine zu_iload_n d_8273_223 rfl ?_
    obtain ⟨k2, h⟩ := h
    refine zc_8_1356 (x0 := p1) hB rfl k2 d_8273_224 (Nat.le_of_ble_eq_true rfl) h (fun v4 S3 h => ?_)
    refine zu_goto (t := 232) d_8273_227 rfl ?_
    exact (u_X9_newThing_232 hB h).weak ⟨rfl, rfl, rfl, trivial⟩
def w_X9_newThing_206 (X : zs_X) (d : Nat) (p0 : Nat) (p1 : Int32) (p3 : Int32) (p4 : Int32) (q0 : Option Nat) (q1 : Int64) (S : zs_T) (Q : zs_Q) : Prop :=
  (∃ b1, q0 = some b1 ∧ zs_K S b1 = some (.inl 8) ∧ ab_n0 X.1 ≤ b1 ∧ ∀ S5, S5 = zs_sJ S 8084 b1 q1 → w_X9_newThing_217 X d p0 p1 p3 p4 S5 Q)
theorem u_X9_newThing_206 {σ : Nat → Nat} {n0 : Nat} {bf : ab_B} {d : Nat} {p0 : Nat} {p1 : Int32} {p3 : Int32} {p4 : Int32} {q0 : Option Nat} {q1 : Int64} {S : zs_T} {Q : zs_Q} (hB : zt_B bf) (h : w_X9_newThing_206 (zx σ n0 bf) d p0 p1 p3 p4 q0 q1 S Q) : zs_U (zx σ n0 bf) d 8273 206 [(0, .ref p0), (1, .int p1), (3, .int p3), (4, .int p4)] [.long q1, va_rf q0] S Q := by
  unfold w_X9_newThing_206 at h
  obtain ⟨b1, e2, h⟩ := h
  refine zs_stk1 (zs_rfe e2) ?_
  obtain ⟨k3, h⟩ := h
  obtain ⟨k4, h⟩ := h
  refine zp_8_620 (v := q1) rfl d_8273_206 k3 k4 ?_
  generalize e6 : zs_sJ S 8084 b1 q1 = S5
  have h := h S5 e6.symm
  have K7 : ∀ b, zs_K S5 b = zs_K S b := zs_Kt e6 (zs_KsJ _ _ _ _) (fun _ => rfl)
  refine zu_goto (t := 217) d_8273_209 rfl ?_
  exact (u_X9_newThing_217 hB h).weak ⟨rfl, rfl, rfl, rfl, trivial⟩
def w_X9_newThing_182 (X : zs_X) (d : Nat) (p0 : Nat) (p1 : Int32) (p2 : Int32) (p3 : Int32) (p4 : Int32) (q0 : Option Nat) (q1 : Int64) (S : zs_T) (Q : zs_Q) : Prop :=
  (∃ b1, q0 = some b1 ∧ zs_K S b1 = some (.inl 8) ∧ ab_n0 X.1 ≤ b1 ∧ ∀ S5, S5 = zs_sJ S 8083 b1 q1 → ((p2 ≤ (3 : Int32) → (w_X9_newThing_206 X d p0 p1 p3 p4 (some p0) (0 : Int64) S5 Q)) ∧ (¬ (p2 ≤ (3 : Int32)) → (zs_K S p0 = some (.inl 8) ∧ ∃ b10, (zs_R S5 8183 p0) = some b10 ∧ zs_A S b10 3 ((zs_I S5 8184 p0) + (3 : Int32)) ∧ w_X9_newThing_206 X d p0 p1 p3 p4 (some p0) (zs_j S5 b10 ((zs_I S5 8184 p0) + (3 : Int32)).toNatClampNeg) S5 Q))))
theorem u_X9_newThing_182 {σ : Nat → Nat} {n0 : Nat} {bf : ab_B} {d : Nat} {p0 : Nat} {p1 : Int32} {p2 : Int32} {p3 : Int32} {p4 : Int32} {q0 : Option Nat} {q1 : Int64} {S : zs_T} {Q : zs_Q} (hB : zt_B bf) (h : w_X9_newThing_182 (zx σ n0 bf) d p0 p1 p2 p3 p4 q0 q1 S Q) : zs_U (zx σ n0 bf) d 8273 182 [(0, .ref p0), (1, .int p1), (2, .int p2), (3, .int p3), (4, .int p4)] [.long q1, va_rf q0] S Q := by
  unfold w_X9_newThing_182 at h
  obtain ⟨b1, e2, h⟩ := h
  refine zs_stk1 (zs_rfe e2) ?_
  obtain ⟨k3, h⟩ := h
  obtain ⟨k4, h⟩ := h
  refine zp_8_617 (v := q1) rfl d_8273_182 k3 k4 ?_
  generalize e6 : zs_sJ S 8083 b1 q1 = S5
  have h := h S5 e6.symm
  have K7 : ∀ b, zs_K S5 b = zs_K S b := zs_Kt e6 (zs_KsJ _ _ _ _) (fun _ => rfl)
  refine zu_aload_n d_8273_185 rfl (zs_ra _) ?_
  refine zu_iload_n d_8273_186 rfl ?_
  refine zu_iconst d_8273_187 zi_3 ?_
  refine zu_cmple (t := 205) d_8273_188 rfl (fun c8 => ?_) (fun c8 => ?_)
  · have h := h.1 c8
    refine zu_lconst (v := 0) d_8273_205 rfl ?_
    exact (u_X9_newThing_206 hB h).weak ⟨rfl, rfl, rfl, rfl, trivial⟩
  · have h := h.2 c8
    refine zu_aload_n d_8273_191 rfl (zs_ra _) ?_
    obtain ⟨k9, h⟩ := h
    refine zg_8_399 rfl d_8273_192 ((K7 _).trans k9) ?_
    refine zu_aload_n d_8273_195 rfl (zs_ra _) ?_
    refine zg_8_1261 rfl d_8273_196 ((K7 _).trans k9) ?_
    refine zu_iconst d_8273_199 zi_3 ?_
    refine zu_stk d_8273_200 rfl rfl ?_
    obtain ⟨b10, e11, h⟩ := h
    refine zs_stk1 (zs_rfe e11) ?_
    obtain ⟨k12, h⟩ := h
    refine zu_lald (k := 3) d_8273_201 rfl rfl (zs_Ak K7 k12) ?_
    refine zu_goto (t := 206) d_8273_202 rfl ?_
    exact (u_X9_newThing_206 hB h).weak ⟨rfl, rfl, rfl, rfl, trivial⟩
def w_X9_newThing_158 (X : zs_X) (d : Nat) (p0 : Nat) (p1 : Int32) (p2 : Int32) (p3 : Int32) (p4 : Int32) (q0 : Option Nat) (q1 : Int64) (S : zs_T) (Q : zs_Q) : Prop :=
  (∃ b1, q0 = some b1 ∧ zs_K S b1 = some (.inl 8) ∧ ab_n0 X.1 ≤ b1 ∧ ∀ S5, S5 = zs_sJ S 8082 b1 q1 → ((p2 ≤ (2 : Int32) → (w_X9_newThing_182 X d p0 p1 p2 p3 p4 (some p0) (0 : Int64) S5 Q)) ∧ (¬ (p2 ≤ (2 : Int32)) → (zs_K S p0 = some (.inl 8) ∧ ∃ b10, (zs_R S5 8183 p0) = some b10 ∧ zs_A S b10 3 ((zs_I S5 8184 p0) + (2 : Int32)) ∧ w_X9_newThing_182 X d p0 p1 p2 p3 p4 (some p0) (zs_j S5 b10 ((zs_I S5 8184 p0) + (2 : Int32)).toNatClampNeg) S5 Q))))
theorem u_X9_newThing_158 {σ : Nat → Nat} {n0 : Nat} {bf : ab_B} {d : Nat} {p0 : Nat} {p1 : Int32} {p2 : Int32} {p3 : Int32} {p4 : Int32} {q0 : Option Nat} {q1 : Int64} {S : zs_T} {Q : zs_Q} (hB : zt_B bf) (h : w_X9_newThing_158 (zx σ n0 bf) d p0 p1 p2 p3 p4 q0 q1 S Q) : zs_U (zx σ n0 bf) d 8273 158 [(0, .ref p0), (1, .int p1), (2, .int p2), (3, .int p3), (4, .int p4)] [.long q1, va_rf q0] S Q := by
  unfold w_X9_newThing_158 at h
  obtain ⟨b1, e2, h⟩ := h
  refine zs_stk1 (zs_rfe e2) ?_
  obtain ⟨k3, h⟩ := h
  obtain ⟨k4, h⟩ := h
  refine zp_8_614 (v := q1) rfl d_8273_158 k3 k4 ?_
  generalize e6 : zs_sJ S 8082 b1 q1 = S5
  have h := h S5 e6.symm
  have K7 : ∀ b, zs_K S5 b = zs_K S b := zs_Kt e6 (zs_KsJ _ _ _ _) (fun _ => rfl)
  refine zu_aload_n d_8273_161 rfl (zs_ra _) ?_
  refine zu_iload_n d_8273_162 rfl ?_
  refine zu_iconst d_8273_163 zi_2 ?_
  refine zu_cmple (t := 181) d_8273_164 rfl (fun c8 => ?_) (fun c8 => ?_)
  · have h := h.1 c8
    refine zu_lconst (v := 0) d_8273_181 rfl ?_
    exact (u_X9_newThing_182 hB h).weak ⟨rfl, rfl, rfl, rfl, rfl, trivial⟩
  · have h := h.2 c8
    refine zu_aload_n d_8273_167 rfl (zs_ra _) ?_
    obtain ⟨k9, h⟩ := h
    refine zg_8_399 rfl d_8273_168 ((K7 _).trans k9) ?_
    refine zu_aload_n d_8273_171 rfl (zs_ra _) ?_
    refine zg_8_1261 rfl d_8273_172 ((K7 _).trans k9) ?_
    refine zu_iconst d_8273_175 zi_2 ?_
    refine zu_stk d_8273_176 rfl rfl ?_
    obtain ⟨b10, e11, h⟩ := h
    refine zs_stk1 (zs_rfe e11) ?_
    obtain ⟨k12, h⟩ := h
    refine zu_lald (k := 3) d_8273_177 rfl rfl (zs_Ak K7 k12) ?_
    refine zu_goto (t := 182) d_8273_178 rfl ?_
    exact (u_X9_newThing_182 hB h).weak ⟨rfl, rfl, rfl, rfl, rfl, trivial⟩
def w_X9_newThing_115 (X : zs_X) (d : Nat) (p0 : Nat) (p1 : Int32) (p2 : Int32) (p3 : Int32) (p5 : Int32) (p6 : Int32) (S : zs_T) (Q : zs_Q) : Prop :=
  (zs_U X d 8273 39 [(0, .ref p0), (1, .int p1), (2, .int p2), (3, .int p3), (4, .int (0 : Int32)), (5, .int p5), (6, .int (p6 + (1 : Int32)))] [] S Q)
theorem u_X9_newThing_115 {σ : Nat → Nat} {n0 : Nat} {bf : ab_B} {d : Nat} {p0 : Nat} {p1 : Int32} {p2 : Int32} {p3 : Int32} {p5 : Int32} {p6 : Int32} {S : zs_T} {Q : zs_Q} (hB : zt_B bf) (h : w_X9_newThing_115 (zx σ n0 bf) d p0 p1 p2 p3 p5 p6 S Q) : zs_U (zx σ n0 bf) d 8273 115 [(0, .ref p0), (1, .int p1), (2, .int p2), (3, .int p3), (5, .int p5), (6, .int p6)] [] S Q := by
  unfold w_X9_newThing_115 at h
  refine zu_iconst d_8273_115 zi_0 ?_
  refine zu_istore d_8273_116 (zs_lt zq_8273 rfl) ?_
  refine zu_iinc d_8273_118 rfl zi_1 (zs_lt zq_8273 rfl) ?_
  refine zu_goto (t := 39) d_8273_121 rfl ?_
  exact h.weak ⟨rfl, rfl, rfl, rfl, rfl, rfl, rfl, trivial⟩
def w_X9_newThing_111 (X : zs_X) (d : Nat) (p0 : Nat) (p1 : Int32) (p2 : Int32) (p3 : Int32) (p5 : Int32) (p6 : Int32) (S : zs_T) (Q : zs_Q) : Prop :=
  (zs_U X d 8273 39 [(0, .ref p0), (1, .int p1), (2, .int p2), (3, .int p3), (4, .int (1 : Int32)), (5, .int p5), (6, .int (p6 + (1 : Int32)))] [] S Q)
theorem u_X9_newThing_111 {σ : Nat → Nat} {n0 : Nat} {bf : ab_B} {d : Nat} {p0 : Nat} {p1 : Int32} {p2 : Int32} {p3 : Int32} {p5 : Int32} {p6 : Int32} {S : zs_T} {Q : zs_Q} (hB : zt_B bf) (h : w_X9_newThing_111 (zx σ n0 bf) d p0 p1 p2 p3 p5 p6 S Q) : zs_U (zx σ n0 bf) d 8273 111 [(0, .ref p0), (1, .int p1), (2, .int p2), (3, .int p3), (5, .int p5), (6, .int p6)] [] S Q := by
  unfold w_X9_newThing_111 at h
  refine zu_iconst d_8273_111 zi_1 ?_
  refine zu_goto (t := 116) d_8273_112 rfl ?_
  refine zu_istore d_8273_116 (zs_lt zq_8273 rfl) ?_
  refine zu_iinc d_8273_118 rfl zi_1 (zs_lt zq_8273 rfl) ?_
  refine zu_goto (t := 39) d_8273_121 rfl ?_
  exact h.weak ⟨rfl, rfl, rfl, rfl, rfl, rfl, rfl, trivial⟩
def w_X9_newThing_71 (X : zs_X) (d : Nat) (p0 : Nat) (p1 : Int32) (p2 : Int32) (p3 : Int32) (p5 : Int32) (p6 : Int32) (S : zs_T) (Q : zs_Q) : Prop :=
  (zs_K S p0 = some (.inl 8) ∧ ∃ b2, (zs_R S 8183 p0) = some b2 ∧ zs_A S b2 3 ((zs_I S 8184 p0) + p6) ∧ (((zs_j S b2 ((zs_I S 8184 p0) + p6).toNatClampNeg) < (zs_J S 8125 p0) → w_X9_newThing_115 X d p0 p1 p2 p3 p5 p6 S Q) ∧ (¬ ((zs_j S b2 ((zs_I S 8184 p0) + p6).toNatClampNeg) < (zs_J S 8125 p0)) → ((((zs_J S 8126 p0) < (zs_j S b2 ((zs_I S 8184 p0) + p6).toNatClampNeg) → w_X9_newThing_115 X d p0 p1 p2 p3 p5 p6 S Q) ∧ (¬ ((zs_J S 8126 p0) < (zs_j S b2 ((zs_I S 8184 p0) + p6).toNatClampNeg)) → w_X9_newThing_111 X d p0 p1 p2 p3 p5 p6 S Q))))))
theorem u_X9_newThing_71 {σ : Nat → Nat} {n0 : Nat} {bf : ab_B} {d : Nat} {p0 : Nat} {p1 : Int32} {p2 : Int32} {p3 : Int32} {p5 : Int32} {p6 : Int32} {S : zs_T} {Q : zs_Q} (hB : zt_B bf) (h : w_X9_newThing_71 (zx σ n0 bf) d p0 p1 p2 p3 p5 p6 S Q) : zs_U (zx σ n0 bf) d 8273 71 [(0, .ref p0), (1, .int p1), (2, .int p2), (3, .int p3), (5, .int p5), (6, .int p6)] [] S Q := by
  unfold w_X9_newThing_71 at h
  refine zu_aload_n d_8273_71 rfl (zs_ra _) ?_
  obtain ⟨k1, h⟩ := h
  refine zg_8_399 rfl d_8273_72 k1 ?_
  refine zu_aload_n d_8273_75 rfl (zs_ra _) ?_
  refine zg_8_1261 rfl d_8273_76 k1 ?_
  refine zu_iload d_8273_79 rfl ?_
  refine zu_stk d_8273_81 rfl rfl ?_
  obtain ⟨b2, e3, h⟩ := h
  refine zs_stk1 (zs_rfe e3) ?_
  obtain ⟨k4, h⟩ := h
  refine zu_lald (k := 3) d_8273_82 rfl rfl k4 ?_
  refine zu_aload_n d_8273_83 rfl (zs_ra _) ?_
  refine zg_8_783 rfl d_8273_84 k1 ?_
  refine zu_llt (t := 115) d_8273_87 d_8273_88 rfl (fun c5 => ?_) (fun c5 => ?_)
  · have h := h.1 c5
    exact (u_X9_newThing_115 hB h).weak ⟨rfl, rfl, rfl, rfl, rfl, rfl, trivial⟩
  · have h := h.2 c5
    refine zu_aload_n d_8273_91 rfl (zs_ra _) ?_
    refine zg_8_399 rfl d_8273_92 k1 ?_
    refine zu_aload_n d_8273_95 rfl (zs_ra _) ?_
    refine zg_8_1261 rfl d_8273_96 k1 ?_
    refine zu_iload d_8273_99 rfl ?_
    refine zu_stk d_8273_101 rfl rfl ?_
    refine zs_stk1 (zs_rfe e3) ?_
    refine zu_lald (k := 3) d_8273_102 rfl rfl k4 ?_
    refine zu_aload_n d_8273_103 rfl (zs_ra _) ?_
    refine zg_8_786 rfl d_8273_104 k1 ?_
    refine zu_lgt (t := 115) d_8273_107 d_8273_108 rfl (fun c6 => ?_) (fun c6 => ?_)
    · have h := h.1 c6
      exact (u_X9_newThing_115 hB h).weak ⟨rfl, rfl, rfl, rfl, rfl, rfl, trivial⟩
    · have h := h.2 c6
      exact (u_X9_newThing_111 hB h).weak ⟨rfl, rfl, rfl, rfl, rfl, rfl, trivial⟩
def w_X9_newThing_39 (X : zs_X) (d : Nat) (p0 : Nat) (p1 : Int32) (p2 : Int32) (p3 : Int32) (p4 : Int32) (p5 : Int32) (p6 : Int32) (S : zs_T) (Q : zs_Q) : Prop :=
  (((p2 ≤ p6 → (zs_K S p0 = some (.inl 8) ∧ ∃ b3, (zs_R S 8183 p0) = some b3 ∧ zs_A S b3 3 (zs_I S 8184 p0) ∧ ab_n0 X.1 ≤ p0 ∧ ∀ S7, S7 = zs_sJ S 8081 p0 (zs_j S b3 (zs_I S 8184 p0).toNatClampNeg) → ((p2 ≤ (1 : Int32) → (w_X9_newThing_158 X d p0 p1 p2 p3 p4 (some p0) (0 : Int64) S7 Q)) ∧ (¬ (p2 ≤ (1 : Int32)) → (∃ b11, (zs_R S7 8183 p0) = some b11 ∧ zs_A S b11 3 ((zs_I S7 8184 p0) + (1 : Int32)) ∧ w_X9_newThing_158 X d p0 p1 p2 p3 p4 (some p0) (zs_j S7 b11 ((zs_I S7 8184 p0) + (1 : Int32)).toNatClampNeg) S7 Q))))) ∧ (¬ (p2 ≤ p6) → (zs_K S p0 = some (.inl 8) ∧ ∃ b15, (zs_R S 8057 p0) = some b15 ∧ zs_A S b15 0 p5 ∧ ∃ b18, (zs_R S 8062 p0) = some b18 ∧ zs_A S b18 0 ((zs_i S b15 p5.toNatClampNeg) + p6) ∧ zs_C X d 8123 [.ref p0, .int (zs_i S b18 ((zs_i S b15 p5.toNatClampNeg) + p6).toNatClampNeg)] S (zs_kI (fun v22 S21 => (((p4 = 0 → w_X9_newThing_115 X d p0 p1 p2 p3 p5 p6 S21 Q) ∧ (¬ (p4 = 0) → w_X9_newThing_71 X d p0 p1 p2 p3 p5 p6 S21 Q)))) Q)))))
theorem u_X9_newThing_39 {σ : Nat → Nat} {n0 : Nat} {bf : ab_B} {d : Nat} {p0 : Nat} {p1 : Int32} {p2 : Int32} {p3 : Int32} {p4 : Int32} {p5 : Int32} {p6 : Int32} {S : zs_T} {Q : zs_Q} (hB : zt_B bf) (h : w_X9_newThing_39 (zx σ n0 bf) d p0 p1 p2 p3 p4 p5 p6 S Q) : zs_U (zx σ n0 bf) d 8273 39 [(0, .ref p0), (1, .int p1), (2, .int p2), (3, .int p3), (4, .int p4), (5, .int p5), (6, .int p6)] [] S Q := by
  unfold w_X9_newThing_39 at h
  refine zu_iload d_8273_39 rfl ?_
  refine zu_iload_n d_8273_41 rfl ?_
  refine zu_cmpge (t := 124) d_8273_42 rfl (fun c1 => ?_) (fun c1 => ?_)
  · have h := h.1 c1
    refine zu_aload_n d_8273_124 rfl (zs_ra _) ?_
    refine zu_aload_n d_8273_125 rfl (zs_ra _) ?_
    obtain ⟨k2, h⟩ := h
    refine zg_8_399 rfl d_8273_126 k2 ?_
    refine zu_aload_n d_8273_129 rfl (zs_ra _) ?_
    refine zg_8_1261 rfl d_8273_130 k2 ?_
    obtain ⟨b3, e4, h⟩ := h
    refine zs_stk1 (zs_rfe e4) ?_
    obtain ⟨k5, h⟩ := h
    refine zu_lald (k := 3) d_8273_133 rfl rfl k5 ?_
    obtain ⟨k6, h⟩ := h
    refine zp_8_610 (v := (zs_j S b3 (zs_I S 8184 p0).toNatClampNeg)) rfl d_8273_134 k2 k6 ?_
    generalize e8 : zs_sJ S 8081 p0 (zs_j S b3 (zs_I S 8184 p0).toNatClampNeg) = S7
    have h := h S7 e8.symm
    have K9 : ∀ b, zs_K S7 b = zs_K S b := zs_Kt e8 (zs_KsJ _ _ _ _) (fun _ => rfl)
    refine zu_aload_n d_8273_137 rfl (zs_ra _) ?_
    refine zu_iload_n d_8273_138 rfl ?_
    refine zu_iconst d_8273_139 zi_1 ?_
    refine zu_cmple (t := 157) d_8273_140 rfl (fun c10 => ?_) (fun c10 => ?_)
    · have h := h.1 c10
      refine zu_lconst (v := 0) d_8273_157 rfl ?_
      exact (u_X9_newThing_158 hB h).weak ⟨rfl, rfl, rfl, rfl, rfl, trivial⟩
    · have h := h.2 c10
      refine zu_aload_n d_8273_143 rfl (zs_ra _) ?_
      refine zg_8_399 rfl d_8273_144 ((K9 _).trans k2) ?_
      refine zu_aload_n d_8273_147 rfl (zs_ra _) ?_
      refine zg_8_1261 rfl d_8273_148 ((K9 _).trans k2) ?_
      refine zu_iconst d_8273_151 zi_1 ?_
      refine zu_stk d_8273_152 rfl rfl ?_
      obtain ⟨b11, e12, h⟩ := h
      refine zs_stk1 (zs_rfe e12) ?_
      obtain ⟨k13, h⟩ := h
      refine zu_lald (k := 3) d_8273_153 rfl rfl (zs_Ak K9 k13) ?_
      refine zu_goto (t := 158) d_8273_154 rfl ?_
      exact (u_X9_newThing_158 hB h).weak ⟨rfl, rfl, rfl, rfl, rfl, trivial⟩
  · have h := h.2 c1
    refine zu_aload_n d_8273_45 rfl (zs_ra _) ?_
    refine zu_aload_n d_8273_46 rfl (zs_ra _) ?_
    obtain ⟨k14, h⟩ := h
    refine zg_8_136 rfl d_8273_47 k14 ?_
    refine zu_aload_n d_8273_50 rfl (zs_ra _) ?_
    refine zg_8_124 rfl d_8273_51 k14 ?_
    refine zu_iload d_8273_54 rfl ?_
    obtain ⟨b15, e16, h⟩ := h
    refine zs_stk1 (zs_rfe e16) ?_
    obtain ⟨k17, h⟩ := h
    refine zu_iald (k := 0) d_8273_56 rfl rfl k17 ?_
    refine zu_iload d_8273_57 rfl ?_
    refine zu_stk d_8273_59 rfl rfl ?_
    obtain ⟨b18, e19, h⟩ := h
    refine zs_stk1 (zs_rfe e19) ?_
    obtain ⟨k20, h⟩ := h
    refine zu_iald (k := 0) d_8273_60 rfl rfl k20 ?_
    refine zc_8_792 (x0 := (zs_i S b18 ((zs_i S b15 p5.toNatClampNeg) + p6).toNatClampNeg)) hB rfl k14 d_8273_61 (Nat.le_of_ble_eq_true rfl) h (fun v22 S21 h => ?_)
    refine zu_istore d_8273_64 (zs_lt zq_8273 rfl) ?_
    refine zu_iload d_8273_66 rfl ?_
    refine zu_ifeq (t := 115) d_8273_68 rfl (fun c23 => ?_) (fun c23 => ?_)
    · have h := h.1 c23
      exact (u_X9_newThing_115 hB h).weak ⟨rfl, rfl, rfl, rfl, rfl, rfl, trivial⟩
    · have h := h.2 c23
      exact (u_X9_newThing_71 hB h).weak ⟨rfl, rfl, rfl, rfl, rfl, rfl, trivial⟩
def w_X9_newThing_469 (X : zs_X) (d : Nat)  (S : zs_T) (Q : zs_Q) : Prop :=
  (Q (.returned none) S)
theorem u_X9_newThing_469 {σ : Nat → Nat} {n0 : Nat} {bf : ab_B} {d : Nat}  {S : zs_T} {Q : zs_Q} (hB : zt_B bf) (h : w_X9_newThing_469 (zx σ n0 bf) d  S Q) : zs_U (zx σ n0 bf) d 8273 469 [] [] S Q := by
  unfold w_X9_newThing_469 at h
  exact zu_vret d_8273_469 zr_8273 h
def w_X9_newThing_414 (X : zs_X) (d : Nat) (p0 : Nat) (p5 : Int32) (p8 : Int32) (S : zs_T) (Q : zs_Q) : Prop :=
  (zs_U X d 8273 385 [(0, .ref p0), (5, .int p5), (8, .int p8)] [] S Q)
theorem u_X9_newThing_414 {σ : Nat → Nat} {n0 : Nat} {bf : ab_B} {d : Nat} {p0 : Nat} {p5 : Int32} {p8 : Int32} {S : zs_T} {Q : zs_Q} (hB : zt_B bf) (h : w_X9_newThing_414 (zx σ n0 bf) d p0 p5 p8 S Q) : zs_U (zx σ n0 bf) d 8273 414 [(0, .ref p0), (5, .int p5), (8, .int p8)] [] S Q := by
  unfold w_X9_newThing_414 at h
  refine zu_goto (t := 385) d_8273_414 rfl ?_
  exact h.weak ⟨rfl, rfl, rfl, trivial⟩
def w_X9_newThing_385 (X : zs_X) (d : Nat) (p0 : Nat) (p5 : Int32) (p8 : Int32) (S : zs_T) (Q : zs_Q) : Prop :=
  ((((4 : Int32) ≤ p8 → (zs_K S p0 = some (.inl 8) ∧ zs_C X d 8218 [.ref p0, .int (zs_I S 8174 p0), .int p5] S (zs_kV (fun S3 => (zs_K S3 p0 = some (.inl 8) ∧ ab_n0 X.1 ≤ p0 ∧ ∀ S7, S7 = zs_sI S3 8174 p0 ((zs_I S3 8174 p0) + p5) → ∃ b10, (zs_R S7 8189 p0) = some b10 ∧ zs_A S3 b10 0 (zs_I S7 8195 p0) ∧ ∃ b13, (zs_R S7 8190 p0) = some b13 ∧ zs_A S3 b13 0 (zs_I S7 8195 p0) ∧ zs_C X d 8220 [.ref p0, .int (zs_i S7 b13 (zs_I S7 8195 p0).toNatClampNeg)] S7 (zs_kI (fun v17 S16 => (zs_K S16 p0 = some (.inl 8) ∧ zs_C X d 8221 [.ref p0, .int (zs_i S7 b10 (zs_I S7 8195 p0).toNatClampNeg), .long (((zs_I S7 8181 p0)).toInt64), .int v17] S16 (zs_kV (fun S19 => w_X9_newThing_469 X d  S19 Q) Q))) Q))) Q))) ∧ (¬ ((4 : Int32) ≤ p8) → (zs_K S p0 = some (.inl 8) ∧ zs_C X d 8105 [.ref p0, .int p8] S (zs_kJ (fun v23 S22 => (∃ b24, (zs_R S 8179 p0) = some b24 ∧ zs_A S22 b24 3 (((4 : Int32) * (zs_I S 8181 p0)) + p8) ∧ ab_n0 X.1 ≤ b24 ∧ ∀ S28, S28 = zs_sj S22 b24 (((4 : Int32) * (zs_I S 8181 p0)) + p8).toNatClampNeg v23 → w_X9_newThing_414 X d p0 p5 (p8 + (1 : Int32)) S28 Q)) Q)))))
theorem u_X9_newThing_385 {σ : Nat → Nat} {n0 : Nat} {bf : ab_B} {d : Nat} {p0 : Nat} {p5 : Int32} {p8 : Int32} {S : zs_T} {Q : zs_Q} (hB : zt_B bf) (h : w_X9_newThing_385 (zx σ n0 bf) d p0 p5 p8 S Q) : zs_U (zx σ n0 bf) d 8273 385 [(0, .ref p0), (5, .int p5), (8, .int p8)] [] S Q := by
  unfold w_X9_newThing_385 at h
  refine zu_iload d_8273_385 rfl ?_
  refine zu_iconst d_8273_387 zi_4 ?_
  refine zu_cmpge (t := 417) d_8273_388 rfl (fun c1 => ?_) (fun c1 => ?_)
  · have h := h.1 c1
    refine zu_aload_n d_8273_417 rfl (zs_ra _) ?_
    refine zu_aload_n d_8273_418 rfl (zs_ra _) ?_
    obtain ⟨k2, h⟩ := h
    refine zg_8_1249 rfl d_8273_419 k2 ?_
    refine zu_iload d_8273_422 rfl ?_
    refine zc_8_1345 (x0 := (zs_I S 8174 p0)) (x1 := p5) hB rfl k2 d_8273_424 (Nat.le_of_ble_eq_true rfl) h (fun S3 h => ?_)
    refine zu_aload_n d_8273_427 rfl (zs_ra _) ?_
    refine zu_dup d_8273_428 rfl ?_
    obtain ⟨k5, h⟩ := h
    refine zg_8_1249 rfl d_8273_429 k5 ?_
    refine zu_iload d_8273_432 rfl ?_
    refine zu_stk d_8273_434 rfl rfl ?_
    obtain ⟨k6, h⟩ := h
    refine zp_8_1249 (v := ((zs_I S3 8174 p0) + p5)) rfl d_8273_435 k5 k6 ?_
    generalize e8 : zs_sI S3 8174 p0 ((zs_I S3 8174 p0) + p5) = S7
    have h := h S7 e8.symm
    have K9 : ∀ b, zs_K S7 b = zs_K S3 b := zs_Kt e8 (zs_KsI _ _ _ _) (fun _ => rfl)
    refine zu_aload_n d_8273_438 rfl (zs_ra _) ?_
    refine zu_aload_n d_8273_439 rfl (zs_ra _) ?_
    refine zg_8_409 rfl d_8273_440 ((K9 _).trans k5) ?_
    refine zu_aload_n d_8273_443 rfl (zs_ra _) ?_
    refine zg_8_1270 rfl d_8273_444 ((K9 _).trans k5) ?_
    obtain ⟨b10, e11, h⟩ := h
    refine zs_stk1 (zs_rfe e11) ?_
    obtain ⟨k12, h⟩ := h
    refine zu_iald (k := 0) d_8273_447 rfl rfl (zs_Ak K9 k12) ?_
    refine zu_aload_n d_8273_448 rfl (zs_ra _) ?_
    refine zg_8_1255 rfl d_8273_449 ((K9 _).trans k5) ?_
    refine zu_stk d_8273_452 rfl rfl ?_
    refine zu_aload_n d_8273_453 rfl (zs_ra _) ?_
    refine zu_aload_n d_8273_454 rfl (zs_ra _) ?_
    refine zg_8_412 rfl d_8273_455 ((K9 _).trans k5) ?_
    refine zu_aload_n d_8273_458 rfl (zs_ra _) ?_
    refine zg_8_1270 rfl d_8273_459 ((K9 _).trans k5) ?_
    obtain ⟨b13, e14, h⟩ := h
    refine zs_stk1 (zs_rfe e14) ?_
    obtain ⟨k15, h⟩ := h
    refine zu_iald (k := 0) d_8273_462 rfl rfl (zs_Ak K9 k15) ?_
    refine zc_8_1332 (x0 := (zs_i S7 b13 (zs_I S7 8195 p0).toNatClampNeg)) hB rfl ((K9 _).trans k5) d_8273_463 (Nat.le_of_ble_eq_true rfl) h (fun v17 S16 h => ?_)
    obtain ⟨k18, h⟩ := h
    refine zc_8_1341 (x0 := (zs_i S7 b10 (zs_I S7 8195 p0).toNatClampNeg)) (x1 := (((zs_I S7 8181 p0)).toInt64)) (x2 := v17) hB rfl k18 d_8273_466 (Nat.le_of_ble_eq_true rfl) h (fun S19 h => ?_)
    exact (u_X9_newThing_469 hB h).weak trivial
  · have h := h.2 c1
    refine zu_aload_n d_8273_391 rfl (zs_ra _) ?_
    obtain ⟨k21, h⟩ := h
    refine zg_8_392 rfl d_8273_392 k21 ?_
    refine zu_iconst d_8273_395 zi_4 ?_
    refine zu_aload_n d_8273_396 rfl (zs_ra _) ?_
    refine zg_8_1255 rfl d_8273_397 k21 ?_
    refine zu_stk d_8273_400 rfl rfl ?_
    refine zu_iload d_8273_401 rfl ?_
    refine zu_stk d_8273_403 rfl rfl ?_
    refine zu_aload_n d_8273_404 rfl (zs_ra _) ?_
    refine zu_iload d_8273_405 rfl ?_
    refine zc_8_627 (x0 := p8) hB rfl k21 d_8273_407 (by simp only [List.map_cons, List.map_nil, List.sum_cons, List.sum_nil, zs_cat, zs_cI, zs_cJ, zs_cA]; exact Nat.le_of_ble_eq_true rfl) h (fun v23 S22 h => ?_)
    obtain ⟨b24, e25, h⟩ := h
    refine zs_stk2 (zs_rfe e25) ?_
    obtain ⟨k26, h⟩ := h
    obtain ⟨k27, h⟩ := h
    refine zu_last (k := 3) d_8273_410 rfl rfl k27 k26 ?_
    generalize e29 : zs_sj S22 b24 (((4 : Int32) * (zs_I S 8181 p0)) + p8).toNatClampNeg v23 = S28
    have h := h S28 e29.symm
    have K30 : ∀ b, zs_K S28 b = zs_K S22 b := zs_Kt e29 (zs_Ksj _ _ _ _) (fun _ => rfl)
    refine zu_iinc d_8273_411 rfl zi_1 (zs_lt zq_8273 rfl) ?_
    exact (u_X9_newThing_414 hB h).weak ⟨rfl, rfl, rfl, trivial⟩
def w_X9_newThing (X : zs_X) (d : Nat) (p0 : Nat) (p1 : Int32) (p2 : Int32) (p3 : Int32) (S : zs_T) (Q : zs_Q) : Prop :=
  (zs_K S p0 = some (.inl 8) ∧ zs_C X d 8214 [.ref p0] S (zs_kV (fun S2 => (zs_K S2 p0 = some (.inl 8) ∧ ∃ b5, (zs_R S2 8044 p0) = some b5 ∧ zs_A S2 b5 1 p1 ∧ ((¬ (zs_i S2 b5 p1.toNatClampNeg) = (15 : Int32) → (zs_C X d 8225 [.ref p0, .int p1] S2 (zs_kV (fun S9 => w_X9_newThing_217 X d p0 p1 p3 (1 : Int32) S9 Q) Q))) ∧ (¬ (¬ (zs_i S2 b5 p1.toNatClampNeg) = (15 : Int32)) → (∃ b11, (zs_R S2 8045 p0) = some b11 ∧ zs_A S2 b11 0 p1 ∧ ab_n0 X.1 ≤ p0 ∧ ∀ S15, S15 = zs_sI S2 8184 p0 ((zs_I S2 8184 p0) - p2) → w_X9_newThing_36 X d p0 p1 p2 p3 (1 : Int32) (zs_i S2 b11 p1.toNatClampNeg) S15 Q))))) Q))
theorem u_X9_newThing {σ : Nat → Nat} {n0 : Nat} {bf : ab_B} {d : Nat} {p0 : Nat} {p1 : Int32} {p2 : Int32} {p3 : Int32} {S : zs_T} {Q : zs_Q} (hB : zt_B bf) (hd : 1 ≤ d) (h : w_X9_newThing (zx σ n0 bf) (d - 1) p0 p1 p2 p3 S Q) : zs_C (zx σ n0 bf) d 8273 [.ref p0, .int p1, .int p2, .int p3] S Q := by
  have hL : lv_args 0 [.ref p0, .int p1, .int p2, .int p3] = [(0, .ref p0), (1, .int p1), (2, .int p2), (3, .int p3)] := rfl
  refine zs_C.of1 (hB.2 8273 (by decide) (by decide)) hd (by rw [hL]; exact zs_sub_self _ (by exact ⟨rfl, rfl, rfl, rfl, trivial⟩)) ?_
  rw [hL]
  clear hL
  unfold w_X9_newThing at h
  refine zu_iconst d_8273_0 zi_1 ?_
  refine zu_istore d_8273_1 (zs_lt zq_8273 rfl) ?_
  refine zu_aload_n d_8273_3 rfl (zs_ra _) ?_
  obtain ⟨k1, h⟩ := h
  refine zc_8_1368  hB rfl k1 d_8273_4 (Nat.le_of_ble_eq_true rfl) h (fun S2 h => ?_)
  refine zu_aload_n d_8273_7 rfl (zs_ra _) ?_
  obtain ⟨k4, h⟩ := h
  refine zg_8_90 rfl d_8273_8 k4 ?_
  refine zu_iload_n d_8273_11 rfl ?_
  obtain ⟨b5, e6, h⟩ := h
  refine zs_stk1 (zs_rfe e6) ?_
  obtain ⟨k7, h⟩ := h
  refine zu_bald (k := 1) d_8273_12 rfl (Or.inl rfl) k7 ?_
  refine zu_bipush d_8273_13 zj_15 ?_
  refine zu_cmpne (t := 212) d_8273_15 rfl (fun c8 => ?_) (fun c8 => ?_)
  · have h := h.1 c8
    refine zu_aload_n d_8273_212 rfl (zs_ra _) ?_
    refine zu_iload_n d_8273_213 rfl ?_
    refine zc_8_1395 (x0 := p1) hB rfl k4 d_8273_214 (Nat.le_of_ble_eq_true rfl) h (fun S9 h => ?_)
    exact (u_X9_newThing_217 hB h).weak ⟨rfl, rfl, rfl, rfl, trivial⟩
  · have h := h.2 c8
    refine zu_aload_n d_8273_18 rfl (zs_ra _) ?_
    refine zg_8_93 rfl d_8273_19 k4 ?_
    refine zu_iload_n d_8273_22 rfl ?_
    obtain ⟨b11, e12, h⟩ := h
    refine zs_stk1 (zs_rfe e12) ?_
    obtain ⟨k13, h⟩ := h
    refine zu_iald (k := 0) d_8273_23 rfl rfl k13 ?_
    refine zu_istore d_8273_24 (zs_lt zq_8273 rfl) ?_
    refine zu_aload_n d_8273_26 rfl (zs_ra _) ?_
    refine zu_dup d_8273_27 rfl ?_
    refine zg_8_1261 rfl d_8273_28 k4 ?_
    refine zu_iload_n d_8273_31 rfl ?_
    refine zu_stk d_8273_32 rfl rfl ?_
    obtain ⟨k14, h⟩ := h
    refine zp_8_1261 (v := ((zs_I S2 8184 p0) - p2)) rfl d_8273_33 k4 k14 ?_
    generalize e16 : zs_sI S2 8184 p0 ((zs_I S2 8184 p0) - p2) = S15
    have h := h S15 e16.symm
    have K17 : ∀ b, zs_K S15 b = zs_K S2 b := zs_Kt e16 (zs_KsI _ _ _ _) (fun _ => rfl)
    exact (u_X9_newThing_36 hB h).weak ⟨rfl, rfl, rfl, rfl, rfl, rfl, trivial⟩
/-! SchemaPascalModel.dispose(I)V -/
theorem zm_8274 {σ : Nat → Nat} {n0 : Nat} {bf : ab_B} : ab_code (zx σ n0 bf).1 8274 = prog_17_method_254_code := rfl
theorem zq_8274 {σ : Nat → Nat} {n0 : Nat} {bf : ab_B} : ab_maxL (zx σ n0 bf).1 8274 = 3 := rfl
theorem zr_8274 {σ : Nat → Nat} {n0 : Nat} {bf : ab_B} : ab_ret (zx σ n0 bf).1 8274 = (Option.none : Option Jvm.ClassFile.FieldType) := rfl
theorem d_8274_0 {σ : Nat → Nat} {n0 : Nat} {bf : ab_B} : decode (ab_code (zx σ n0 bf).1 8274) 0 = .ok (.aload_n 0, 1) := zd zm_8274 (by decide +kernel)
theorem d_8274_1 {σ : Nat → Nat} {n0 : Nat} {bf : ab_B} : decode (ab_code (zx σ n0 bf).1 8274) 1 = .ok (.invokevirtual 1307, 3) := zd zm_8274 (by decide +kernel)
theorem d_8274_4 {σ : Nat → Nat} {n0 : Nat} {bf : ab_B} : decode (ab_code (zx σ n0 bf).1 8274) 4 = .ok (.l2i, 1) := zd zm_8274 (by decide +kernel)
theorem d_8274_5 {σ : Nat → Nat} {n0 : Nat} {bf : ab_B} : decode (ab_code (zx σ n0 bf).1 8274) 5 = .ok (.istore_n 2, 1) := zd zm_8274 (by decide +kernel)
theorem d_8274_6 {σ : Nat → Nat} {n0 : Nat} {bf : ab_B} : decode (ab_code (zx σ n0 bf).1 8274) 6 = .ok (.iload_n 2, 1) := zd zm_8274 (by decide +kernel)
theorem d_8274_7 {σ : Nat → Nat} {n0 : Nat} {bf : ab_B} : decode (ab_code (zx σ n0 bf).1 8274) 7 = .ok (.ifCond .eq 12, 3) := zd zm_8274 (by decide +kernel)
theorem d_8274_10 {σ : Nat → Nat} {n0 : Nat} {bf : ab_B} : decode (ab_code (zx σ n0 bf).1 8274) 10 = .ok (.aload_n 0, 1) := zd zm_8274 (by decide +kernel)
theorem d_8274_11 {σ : Nat → Nat} {n0 : Nat} {bf : ab_B} : decode (ab_code (zx σ n0 bf).1 8274) 11 = .ok (.getfield 395, 3) := zd zm_8274 (by decide +kernel)
theorem d_8274_14 {σ : Nat → Nat} {n0 : Nat} {bf : ab_B} : decode (ab_code (zx σ n0 bf).1 8274) 14 = .ok (.iload_n 2, 1) := zd zm_8274 (by decide +kernel)
theorem d_8274_15 {σ : Nat → Nat} {n0 : Nat} {bf : ab_B} : decode (ab_code (zx σ n0 bf).1 8274) 15 = .ok (.baload, 1) := zd zm_8274 (by decide +kernel)
theorem d_8274_16 {σ : Nat → Nat} {n0 : Nat} {bf : ab_B} : decode (ab_code (zx σ n0 bf).1 8274) 16 = .ok (.ifCond .ne 18, 3) := zd zm_8274 (by decide +kernel)
theorem d_8274_19 {σ : Nat → Nat} {n0 : Nat} {bf : ab_B} : decode (ab_code (zx σ n0 bf).1 8274) 19 = .ok (.aload_n 0, 1) := zd zm_8274 (by decide +kernel)
theorem d_8274_20 {σ : Nat → Nat} {n0 : Nat} {bf : ab_B} : decode (ab_code (zx σ n0 bf).1 8274) 20 = .ok (.iload_n 2, 1) := zd zm_8274 (by decide +kernel)
theorem d_8274_21 {σ : Nat → Nat} {n0 : Nat} {bf : ab_B} : decode (ab_code (zx σ n0 bf).1 8274) 21 = .ok (.ifCond .ne 7, 3) := zd zm_8274 (by decide +kernel)
theorem d_8274_24 {σ : Nat → Nat} {n0 : Nat} {bf : ab_B} : decode (ab_code (zx σ n0 bf).1 8274) 24 = .ok (.iconst 4, 1) := zd zm_8274 (by decide +kernel)
theorem d_8274_25 {σ : Nat → Nat} {n0 : Nat} {bf : ab_B} : decode (ab_code (zx σ n0 bf).1 8274) 25 = .ok (.goto 4, 3) := zd zm_8274 (by decide +kernel)
theorem d_8274_28 {σ : Nat → Nat} {n0 : Nat} {bf : ab_B} : decode (ab_code (zx σ n0 bf).1 8274) 28 = .ok (.iconst 5, 1) := zd zm_8274 (by decide +kernel)
theorem d_8274_29 {σ : Nat → Nat} {n0 : Nat} {bf : ab_B} : decode (ab_code (zx σ n0 bf).1 8274) 29 = .ok (.iload_n 1, 1) := zd zm_8274 (by decide +kernel)
theorem d_8274_30 {σ : Nat → Nat} {n0 : Nat} {bf : ab_B} : decode (ab_code (zx σ n0 bf).1 8274) 30 = .ok (.invokevirtual 1297, 3) := zd zm_8274 (by decide +kernel)
theorem d_8274_33 {σ : Nat → Nat} {n0 : Nat} {bf : ab_B} : decode (ab_code (zx σ n0 bf).1 8274) 33 = .ok (.return_, 1) := zd zm_8274 (by decide +kernel)
theorem d_8274_34 {σ : Nat → Nat} {n0 : Nat} {bf : ab_B} : decode (ab_code (zx σ n0 bf).1 8274) 34 = .ok (.aload_n 0, 1) := zd zm_8274 (by decide +kernel)
theorem d_8274_35 {σ : Nat → Nat} {n0 : Nat} {bf : ab_B} : decode (ab_code (zx σ n0 bf).1 8274) 35 = .ok (.getfield 395, 3) := zd zm_8274 (by decide +kernel)
theorem d_8274_38 {σ : Nat → Nat} {n0 : Nat} {bf : ab_B} : decode (ab_code (zx σ n0 bf).1 8274) 38 = .ok (.iload_n 2, 1) := zd zm_8274 (by decide +kernel)
theorem d_8274_39 {σ : Nat → Nat} {n0 : Nat} {bf : ab_B} : decode (ab_code (zx σ n0 bf).1 8274) 39 = .ok (.iconst 0, 1) := zd zm_8274 (by decide +kernel)
theorem d_8274_40 {σ : Nat → Nat} {n0 : Nat} {bf : ab_B} : decode (ab_code (zx σ n0 bf).1 8274) 40 = .ok (.bastore, 1) := zd zm_8274 (by decide +kernel)
theorem d_8274_41 {σ : Nat → Nat} {n0 : Nat} {bf : ab_B} : decode (ab_code (zx σ n0 bf).1 8274) 41 = .ok (.aload_n 0, 1) := zd zm_8274 (by decide +kernel)
theorem d_8274_42 {σ : Nat → Nat} {n0 : Nat} {bf : ab_B} : decode (ab_code (zx σ n0 bf).1 8274) 42 = .ok (.dup, 1) := zd zm_8274 (by decide +kernel)
theorem d_8274_43 {σ : Nat → Nat} {n0 : Nat} {bf : ab_B} : decode (ab_code (zx σ n0 bf).1 8274) 43 = .ok (.getfield 1258, 3) := zd zm_8274 (by decide +kernel)
theorem d_8274_46 {σ : Nat → Nat} {n0 : Nat} {bf : ab_B} : decode (ab_code (zx σ n0 bf).1 8274) 46 = .ok (.iconst 1, 1) := zd zm_8274 (by decide +kernel)
theorem d_8274_47 {σ : Nat → Nat} {n0 : Nat} {bf : ab_B} : decode (ab_code (zx σ n0 bf).1 8274) 47 = .ok (.isub, 1) := zd zm_8274 (by decide +kernel)
theorem d_8274_48 {σ : Nat → Nat} {n0 : Nat} {bf : ab_B} : decode (ab_code (zx σ n0 bf).1 8274) 48 = .ok (.putfield 1258, 3) := zd zm_8274 (by decide +kernel)
theorem d_8274_51 {σ : Nat → Nat} {n0 : Nat} {bf : ab_B} : decode (ab_code (zx σ n0 bf).1 8274) 51 = .ok (.aload_n 0, 1) := zd zm_8274 (by decide +kernel)
theorem d_8274_52 {σ : Nat → Nat} {n0 : Nat} {bf : ab_B} : decode (ab_code (zx σ n0 bf).1 8274) 52 = .ok (.aload_n 0, 1) := zd zm_8274 (by decide +kernel)
theorem d_8274_53 {σ : Nat → Nat} {n0 : Nat} {bf : ab_B} : decode (ab_code (zx σ n0 bf).1 8274) 53 = .ok (.getfield 382, 3) := zd zm_8274 (by decide +kernel)
theorem d_8274_56 {σ : Nat → Nat} {n0 : Nat} {bf : ab_B} : decode (ab_code (zx σ n0 bf).1 8274) 56 = .ok (.iload_n 2, 1) := zd zm_8274 (by decide +kernel)
theorem d_8274_57 {σ : Nat → Nat} {n0 : Nat} {bf : ab_B} : decode (ab_code (zx σ n0 bf).1 8274) 57 = .ok (.iaload, 1) := zd zm_8274 (by decide +kernel)
theorem d_8274_58 {σ : Nat → Nat} {n0 : Nat} {bf : ab_B} : decode (ab_code (zx σ n0 bf).1 8274) 58 = .ok (.aload_n 0, 1) := zd zm_8274 (by decide +kernel)
theorem d_8274_59 {σ : Nat → Nat} {n0 : Nat} {bf : ab_B} : decode (ab_code (zx σ n0 bf).1 8274) 59 = .ok (.getfield 388, 3) := zd zm_8274 (by decide +kernel)
theorem d_8274_62 {σ : Nat → Nat} {n0 : Nat} {bf : ab_B} : decode (ab_code (zx σ n0 bf).1 8274) 62 = .ok (.iload_n 2, 1) := zd zm_8274 (by decide +kernel)
theorem d_8274_63 {σ : Nat → Nat} {n0 : Nat} {bf : ab_B} : decode (ab_code (zx σ n0 bf).1 8274) 63 = .ok (.iaload, 1) := zd zm_8274 (by decide +kernel)
theorem d_8274_64 {σ : Nat → Nat} {n0 : Nat} {bf : ab_B} : decode (ab_code (zx σ n0 bf).1 8274) 64 = .ok (.invokevirtual 1345, 3) := zd zm_8274 (by decide +kernel)
theorem d_8274_67 {σ : Nat → Nat} {n0 : Nat} {bf : ab_B} : decode (ab_code (zx σ n0 bf).1 8274) 67 = .ok (.return_, 1) := zd zm_8274 (by decide +kernel)
def w_X9_dispose_29 (X : zs_X) (d : Nat) (p1 : Int32) (q0 : Option Nat) (q1 : Int32) (S : zs_T) (Q : zs_Q) : Prop :=
  (∃ b1, q0 = some b1 ∧ zs_K S b1 = some (.inl 8) ∧ zs_C X d 8208 [.ref b1, .int q1, .int p1] S (zs_kV (fun S4 => (Q (.returned none) S4)) Q))
theorem u_X9_dispose_29 {σ : Nat → Nat} {n0 : Nat} {bf : ab_B} {d : Nat} {p1 : Int32} {q0 : Option Nat} {q1 : Int32} {S : zs_T} {Q : zs_Q} (hB : zt_B bf) (h : w_X9_dispose_29 (zx σ n0 bf) d p1 q0 q1 S Q) : zs_U (zx σ n0 bf) d 8274 29 [(1, .int p1)] [.int q1, va_rf q0] S Q := by
  unfold w_X9_dispose_29 at h
  refine zu_iload_n d_8274_29 rfl ?_
  obtain ⟨b1, e2, h⟩ := h
  refine zs_stk2 (zs_rfe e2) ?_
  obtain ⟨k3, h⟩ := h
  refine zc_8_1297 (x0 := q1) (x1 := p1) hB rfl k3 d_8274_30 (Nat.le_of_ble_eq_true rfl) h (fun S4 h => ?_)
  exact zu_vret d_8274_33 zr_8274 h
def w_X9_dispose_19 (X : zs_X) (d : Nat) (p0 : Nat) (p1 : Int32) (p2 : Int32) (S : zs_T) (Q : zs_Q) : Prop :=
  (((¬ p2 = 0 → (w_X9_dispose_29 X d p1 (some p0) (5 : Int32) S Q)) ∧ (¬ (¬ p2 = 0) → (w_X9_dispose_29 X d p1 (some p0) (4 : Int32) S Q))))
theorem u_X9_dispose_19 {σ : Nat → Nat} {n0 : Nat} {bf : ab_B} {d : Nat} {p0 : Nat} {p1 : Int32} {p2 : Int32} {S : zs_T} {Q : zs_Q} (hB : zt_B bf) (h : w_X9_dispose_19 (zx σ n0 bf) d p0 p1 p2 S Q) : zs_U (zx σ n0 bf) d 8274 19 [(0, .ref p0), (1, .int p1), (2, .int p2)] [] S Q := by
  unfold w_X9_dispose_19 at h
  refine zu_aload_n d_8274_19 rfl (zs_ra _) ?_
  refine zu_iload_n d_8274_20 rfl ?_
  refine zu_ifne (t := 28) d_8274_21 rfl (fun c1 => ?_) (fun c1 => ?_)
  · have h := h.1 c1
    refine zu_iconst d_8274_28 zi_5 ?_
    exact (u_X9_dispose_29 hB h).weak ⟨rfl, trivial⟩
  · have h := h.2 c1
    refine zu_iconst d_8274_24 zi_4 ?_
    refine zu_goto (t := 29) d_8274_25 rfl ?_
    exact (u_X9_dispose_29 hB h).weak ⟨rfl, trivial⟩
def w_X9_dispose_67 (X : zs_X) (d : Nat)  (S : zs_T) (Q : zs_Q) : Prop :=
  (Q (.returned none) S)
theorem u_X9_dispose_67 {σ : Nat → Nat} {n0 : Nat} {bf : ab_B} {d : Nat}  {S : zs_T} {Q : zs_Q} (hB : zt_B bf) (h : w_X9_dispose_67 (zx σ n0 bf) d  S Q) : zs_U (zx σ n0 bf) d 8274 67 [] [] S Q := by
  unfold w_X9_dispose_67 at h
  exact zu_vret d_8274_67 zr_8274 h
def w_X9_dispose_41 (X : zs_X) (d : Nat) (p0 : Nat) (p2 : Int32) (S : zs_T) (Q : zs_Q) : Prop :=
  (zs_K S p0 = some (.inl 8) ∧ ab_n0 X.1 ≤ p0 ∧ ∀ S3, S3 = zs_sI S 8182 p0 ((zs_I S 8182 p0) - (1 : Int32)) → ∃ b6, (zs_R S3 8176 p0) = some b6 ∧ zs_A S b6 0 p2 ∧ ∃ b9, (zs_R S3 8178 p0) = some b9 ∧ zs_A S b9 0 p2 ∧ zs_C X d 8218 [.ref p0, .int (zs_i S3 b6 p2.toNatClampNeg), .int (zs_i S3 b9 p2.toNatClampNeg)] S3 (zs_kV (fun S12 => w_X9_dispose_67 X d  S12 Q) Q))
theorem u_X9_dispose_41 {σ : Nat → Nat} {n0 : Nat} {bf : ab_B} {d : Nat} {p0 : Nat} {p2 : Int32} {S : zs_T} {Q : zs_Q} (hB : zt_B bf) (h : w_X9_dispose_41 (zx σ n0 bf) d p0 p2 S Q) : zs_U (zx σ n0 bf) d 8274 41 [(0, .ref p0), (2, .int p2)] [] S Q := by
  unfold w_X9_dispose_41 at h
  refine zu_aload_n d_8274_41 rfl (zs_ra _) ?_
  refine zu_dup d_8274_42 rfl ?_
  obtain ⟨k1, h⟩ := h
  refine zg_8_1258 rfl d_8274_43 k1 ?_
  refine zu_iconst d_8274_46 zi_1 ?_
  refine zu_stk d_8274_47 rfl rfl ?_
  obtain ⟨k2, h⟩ := h
  refine zp_8_1258 (v := ((zs_I S 8182 p0) - (1 : Int32))) rfl d_8274_48 k1 k2 ?_
  generalize e4 : zs_sI S 8182 p0 ((zs_I S 8182 p0) - (1 : Int32)) = S3
  have h := h S3 e4.symm
  have K5 : ∀ b, zs_K S3 b = zs_K S b := zs_Kt e4 (zs_KsI _ _ _ _) (fun _ => rfl)
  refine zu_aload_n d_8274_51 rfl (zs_ra _) ?_
  refine zu_aload_n d_8274_52 rfl (zs_ra _) ?_
  refine zg_8_382 rfl d_8274_53 ((K5 _).trans k1) ?_
  refine zu_iload_n d_8274_56 rfl ?_
  obtain ⟨b6, e7, h⟩ := h
  refine zs_stk1 (zs_rfe e7) ?_
  obtain ⟨k8, h⟩ := h
  refine zu_iald (k := 0) d_8274_57 rfl rfl (zs_Ak K5 k8) ?_
  refine zu_aload_n d_8274_58 rfl (zs_ra _) ?_
  refine zg_8_388 rfl d_8274_59 ((K5 _).trans k1) ?_
  refine zu_iload_n d_8274_62 rfl ?_
  obtain ⟨b9, e10, h⟩ := h
  refine zs_stk1 (zs_rfe e10) ?_
  obtain ⟨k11, h⟩ := h
  refine zu_iald (k := 0) d_8274_63 rfl rfl (zs_Ak K5 k11) ?_
  refine zc_8_1345 (x0 := (zs_i S3 b6 p2.toNatClampNeg)) (x1 := (zs_i S3 b9 p2.toNatClampNeg)) hB rfl ((K5 _).trans k1) d_8274_64 (Nat.le_of_ble_eq_true rfl) h (fun S12 h => ?_)
  exact (u_X9_dispose_67 hB h).weak trivial
def w_X9_dispose (X : zs_X) (d : Nat) (p0 : Nat) (p1 : Int32) (S : zs_T) (Q : zs_Q) : Prop :=
  (zs_K S p0 = some (.inl 8) ∧ zs_C X d 8242 [.ref p0] S (zs_kJ (fun v3 S2 => (((((v3).toInt32) = 0 → w_X9_dispose_19 X d p0 p1 ((v3).toInt32) S2 Q) ∧ (¬ (((v3).toInt32) = 0) → (zs_K S2 p0 = some (.inl 8) ∧ ∃ b6, (zs_R S2 8180 p0) = some b6 ∧ zs_A S2 b6 2 ((v3).toInt32) ∧ ((¬ (zs_i S2 b6 ((v3).toInt32).toNatClampNeg) = 0 → (ab_n0 X.1 ≤ b6 ∧ ∀ S11, S11 = zs_si S2 b6 ((v3).toInt32).toNatClampNeg (vp_nar .boolean (0 : Int32)) → w_X9_dispose_41 X d p0 ((v3).toInt32) S11 Q)) ∧ (¬ (¬ (zs_i S2 b6 ((v3).toInt32).toNatClampNeg) = 0) → w_X9_dispose_19 X d p0 p1 ((v3).toInt32) S2 Q))))))) Q))
theorem u_X9_dispose {σ : Nat → Nat} {n0 : Nat} {bf : ab_B} {d : Nat} {p0 : Nat} {p1 : Int32} {S : zs_T} {Q : zs_Q} (hB : zt_B bf) (hd : 1 ≤ d) (h : w_X9_dispose (zx σ n0 bf) (d - 1) p0 p1 S Q) : zs_C (zx σ n0 bf) d 8274 [.ref p0, .int p1] S Q := by
  have hL : lv_args 0 [.ref p0, .int p1] = [(0, .ref p0), (1, .int p1)] := rfl
  refine zs_C.of1 (hB.2 8274 (by decide) (by decide)) hd (by rw [hL]; exact zs_sub_self _ (by exact ⟨rfl, rfl, trivial⟩)) ?_
  rw [hL]
  clear hL
  unfold w_X9_dispose at h
  refine zu_aload_n d_8274_0 rfl (zs_ra _) ?_
  obtain ⟨k1, h⟩ := h
  refine zc_8_1307  hB rfl k1 d_8274_1 (Nat.le_of_ble_eq_true rfl) h (fun v3 S2 h => ?_)
  refine zu_stk d_8274_4 rfl rfl ?_
  refine zu_istore_n d_8274_5 (zs_lt zq_8274 rfl) ?_
  refine zu_iload_n d_8274_6 rfl ?_
  refine zu_ifeq (t := 19) d_8274_7 rfl (fun c4 => ?_) (fun c4 => ?_)
  · have h := h.1 c4
    exact (u_X9_dispose_19 hB h).weak ⟨rfl, rfl, rfl, trivial⟩
  · have h := h.2 c4
    refine zu_aload_n d_8274_10 rfl (zs_ra _) ?_
    obtain ⟨k5, h⟩ := h
    refine zg_8_395 rfl d_8274_11 k5 ?_
    refine zu_iload_n d_8274_14 rfl ?_
    obtain ⟨b6, e7, h⟩ := h
    refine zs_stk1 (zs_rfe e7) ?_
    obtain ⟨k8, h⟩ := h
    refine zu_bald (k := 2) d_8274_15 rfl (Or.inr rfl) k8 ?_
    refine zu_ifne (t := 34) d_8274_16 rfl (fun c9 => ?_) (fun c9 => ?_)
    · have h := h.1 c9
      refine zu_aload_n d_8274_34 rfl (zs_ra _) ?_
      refine zg_8_395 rfl d_8274_35 k5 ?_
      refine zu_iload_n d_8274_38 rfl ?_
      refine zu_iconst d_8274_39 zi_0 ?_
      refine zs_stk2 (zs_rfe e7) ?_
      obtain ⟨k10, h⟩ := h
      refine zu_bast_bool (k := 2) d_8274_40 rfl rfl k10 k8 ?_
      generalize e12 : zs_si S2 b6 ((v3).toInt32).toNatClampNeg (vp_nar .boolean (0 : Int32)) = S11
      have h := h S11 e12.symm
      have K13 : ∀ b, zs_K S11 b = zs_K S2 b := zs_Kt e12 (zs_Ksi _ _ _ _) (fun _ => rfl)
      exact (u_X9_dispose_41 hB h).weak ⟨rfl, rfl, trivial⟩
    · have h := h.2 c9
      exact (u_X9_dispose_19 hB h).weak ⟨rfl, rfl, rfl, trivial⟩
/-! SchemaPascalModel.input(I)I -/
theorem zm_8275 {σ : Nat → Nat} {n0 : Nat} {bf : ab_B} : ab_code (zx σ n0 bf).1 8275 = prog_17_method_276_code := rfl
theorem zq_8275 {σ : Nat → Nat} {n0 : Nat} {bf : ab_B} : ab_maxL (zx σ n0 bf).1 8275 = 2 := rfl
theorem zr_8275 {σ : Nat → Nat} {n0 : Nat} {bf : ab_B} : ab_ret (zx σ n0 bf).1 8275 = (Option.some Jvm.ClassFile.FieldType.int) := rfl
theorem d_8275_0 {σ : Nat → Nat} {n0 : Nat} {bf : ab_B} : decode (ab_code (zx σ n0 bf).1 8275) 0 = .ok (.aload_n 0, 1) := zd zm_8275 (by decide +kernel)
theorem d_8275_1 {σ : Nat → Nat} {n0 : Nat} {bf : ab_B} : decode (ab_code (zx σ n0 bf).1 8275) 1 = .ok (.iload_n 1, 1) := zd zm_8275 (by decide +kernel)
theorem d_8275_2 {σ : Nat → Nat} {n0 : Nat} {bf : ab_B} : decode (ab_code (zx σ n0 bf).1 8275) 2 = .ok (.ldc_w 576, 3) := zd zm_8275 (by decide +kernel)
theorem d_8275_5 {σ : Nat → Nat} {n0 : Nat} {bf : ab_B} : decode (ab_code (zx σ n0 bf).1 8275) 5 = .ok (.if_icmp .ge 7, 3) := zd zm_8275 (by decide +kernel)
theorem d_8275_8 {σ : Nat → Nat} {n0 : Nat} {bf : ab_B} : decode (ab_code (zx σ n0 bf).1 8275) 8 = .ok (.iconst 1, 1) := zd zm_8275 (by decide +kernel)
theorem d_8275_9 {σ : Nat → Nat} {n0 : Nat} {bf : ab_B} : decode (ab_code (zx σ n0 bf).1 8275) 9 = .ok (.goto 18, 3) := zd zm_8275 (by decide +kernel)
theorem d_8275_12 {σ : Nat → Nat} {n0 : Nat} {bf : ab_B} : decode (ab_code (zx σ n0 bf).1 8275) 12 = .ok (.aload_n 0, 1) := zd zm_8275 (by decide +kernel)
theorem d_8275_13 {σ : Nat → Nat} {n0 : Nat} {bf : ab_B} : decode (ab_code (zx σ n0 bf).1 8275) 13 = .ok (.getfield 1409, 3) := zd zm_8275 (by decide +kernel)
theorem d_8275_16 {σ : Nat → Nat} {n0 : Nat} {bf : ab_B} : decode (ab_code (zx σ n0 bf).1 8275) 16 = .ok (.sipush 1000, 3) := zd zm_8275 (by decide +kernel)
theorem d_8275_19 {σ : Nat → Nat} {n0 : Nat} {bf : ab_B} : decode (ab_code (zx σ n0 bf).1 8275) 19 = .ok (.if_icmp .ne 7, 3) := zd zm_8275 (by decide +kernel)
theorem d_8275_22 {σ : Nat → Nat} {n0 : Nat} {bf : ab_B} : decode (ab_code (zx σ n0 bf).1 8275) 22 = .ok (.iconst 2, 1) := zd zm_8275 (by decide +kernel)
theorem d_8275_23 {σ : Nat → Nat} {n0 : Nat} {bf : ab_B} : decode (ab_code (zx σ n0 bf).1 8275) 23 = .ok (.goto 4, 3) := zd zm_8275 (by decide +kernel)
theorem d_8275_26 {σ : Nat → Nat} {n0 : Nat} {bf : ab_B} : decode (ab_code (zx σ n0 bf).1 8275) 26 = .ok (.iconst 0, 1) := zd zm_8275 (by decide +kernel)
theorem d_8275_27 {σ : Nat → Nat} {n0 : Nat} {bf : ab_B} : decode (ab_code (zx σ n0 bf).1 8275) 27 = .ok (.putfield 441, 3) := zd zm_8275 (by decide +kernel)
theorem d_8275_30 {σ : Nat → Nat} {n0 : Nat} {bf : ab_B} : decode (ab_code (zx σ n0 bf).1 8275) 30 = .ok (.aload_n 0, 1) := zd zm_8275 (by decide +kernel)
theorem d_8275_31 {σ : Nat → Nat} {n0 : Nat} {bf : ab_B} : decode (ab_code (zx σ n0 bf).1 8275) 31 = .ok (.getfield 441, 3) := zd zm_8275 (by decide +kernel)
theorem d_8275_34 {σ : Nat → Nat} {n0 : Nat} {bf : ab_B} : decode (ab_code (zx σ n0 bf).1 8275) 34 = .ok (.ifCond .le 5, 3) := zd zm_8275 (by decide +kernel)
theorem d_8275_37 {σ : Nat → Nat} {n0 : Nat} {bf : ab_B} : decode (ab_code (zx σ n0 bf).1 8275) 37 = .ok (.iconst 0, 1) := zd zm_8275 (by decide +kernel)
theorem d_8275_38 {σ : Nat → Nat} {n0 : Nat} {bf : ab_B} : decode (ab_code (zx σ n0 bf).1 8275) 38 = .ok (.ireturn, 1) := zd zm_8275 (by decide +kernel)
theorem d_8275_39 {σ : Nat → Nat} {n0 : Nat} {bf : ab_B} : decode (ab_code (zx σ n0 bf).1 8275) 39 = .ok (.aload_n 0, 1) := zd zm_8275 (by decide +kernel)
theorem d_8275_40 {σ : Nat → Nat} {n0 : Nat} {bf : ab_B} : decode (ab_code (zx σ n0 bf).1 8275) 40 = .ok (.getfield 432, 3) := zd zm_8275 (by decide +kernel)
theorem d_8275_43 {σ : Nat → Nat} {n0 : Nat} {bf : ab_B} : decode (ab_code (zx σ n0 bf).1 8275) 43 = .ok (.aload_n 0, 1) := zd zm_8275 (by decide +kernel)
theorem d_8275_44 {σ : Nat → Nat} {n0 : Nat} {bf : ab_B} : decode (ab_code (zx σ n0 bf).1 8275) 44 = .ok (.getfield 1409, 3) := zd zm_8275 (by decide +kernel)
theorem d_8275_47 {σ : Nat → Nat} {n0 : Nat} {bf : ab_B} : decode (ab_code (zx σ n0 bf).1 8275) 47 = .ok (.iload_n 1, 1) := zd zm_8275 (by decide +kernel)
theorem d_8275_48 {σ : Nat → Nat} {n0 : Nat} {bf : ab_B} : decode (ab_code (zx σ n0 bf).1 8275) 48 = .ok (.iastore, 1) := zd zm_8275 (by decide +kernel)
theorem d_8275_49 {σ : Nat → Nat} {n0 : Nat} {bf : ab_B} : decode (ab_code (zx σ n0 bf).1 8275) 49 = .ok (.aload_n 0, 1) := zd zm_8275 (by decide +kernel)
theorem d_8275_50 {σ : Nat → Nat} {n0 : Nat} {bf : ab_B} : decode (ab_code (zx σ n0 bf).1 8275) 50 = .ok (.dup, 1) := zd zm_8275 (by decide +kernel)
theorem d_8275_51 {σ : Nat → Nat} {n0 : Nat} {bf : ab_B} : decode (ab_code (zx σ n0 bf).1 8275) 51 = .ok (.getfield 1409, 3) := zd zm_8275 (by decide +kernel)
theorem d_8275_54 {σ : Nat → Nat} {n0 : Nat} {bf : ab_B} : decode (ab_code (zx σ n0 bf).1 8275) 54 = .ok (.iconst 1, 1) := zd zm_8275 (by decide +kernel)
theorem d_8275_55 {σ : Nat → Nat} {n0 : Nat} {bf : ab_B} : decode (ab_code (zx σ n0 bf).1 8275) 55 = .ok (.iadd, 1) := zd zm_8275 (by decide +kernel)
theorem d_8275_56 {σ : Nat → Nat} {n0 : Nat} {bf : ab_B} : decode (ab_code (zx σ n0 bf).1 8275) 56 = .ok (.putfield 1409, 3) := zd zm_8275 (by decide +kernel)
theorem d_8275_59 {σ : Nat → Nat} {n0 : Nat} {bf : ab_B} : decode (ab_code (zx σ n0 bf).1 8275) 59 = .ok (.aload_n 0, 1) := zd zm_8275 (by decide +kernel)
theorem d_8275_60 {σ : Nat → Nat} {n0 : Nat} {bf : ab_B} : decode (ab_code (zx σ n0 bf).1 8275) 60 = .ok (.getfield 1409, 3) := zd zm_8275 (by decide +kernel)
theorem d_8275_63 {σ : Nat → Nat} {n0 : Nat} {bf : ab_B} : decode (ab_code (zx σ n0 bf).1 8275) 63 = .ok (.ireturn, 1) := zd zm_8275 (by decide +kernel)
def w_X9_input_59 (X : zs_X) (d : Nat) (p0 : Nat) (S : zs_T) (Q : zs_Q) : Prop :=
  (zs_K S p0 = some (.inl 8) ∧ Q (.returned (some (.int (zs_I S 8203 p0)))) S)
theorem u_X9_input_59 {σ : Nat → Nat} {n0 : Nat} {bf : ab_B} {d : Nat} {p0 : Nat} {S : zs_T} {Q : zs_Q} (hB : zt_B bf) (h : w_X9_input_59 (zx σ n0 bf) d p0 S Q) : zs_U (zx σ n0 bf) d 8275 59 [(0, .ref p0)] [] S Q := by
  unfold w_X9_input_59 at h
  refine zu_aload_n d_8275_59 rfl (zs_ra _) ?_
  obtain ⟨k1, h⟩ := h
  refine zg_8_1409 rfl d_8275_60 k1 ?_
  exact zu_iret d_8275_63 zr_8275 rfl h
def w_X9_input_27 (X : zs_X) (d : Nat) (p0 : Nat) (p1 : Int32) (q0 : Option Nat) (q1 : Int32) (S : zs_T) (Q : zs_Q) : Prop :=
  (∃ b1, q0 = some b1 ∧ zs_K S b1 = some (.inl 8) ∧ ab_n0 X.1 ≤ b1 ∧ ∀ S5, S5 = zs_sI S 8000 b1 q1 → zs_K S p0 = some (.inl 8) ∧ (((zs_I S5 8000 p0) ≤ 0 → (∃ b10, (zs_R S5 8202 p0) = some b10 ∧ zs_A S b10 0 (zs_I S5 8203 p0) ∧ ab_n0 X.1 ≤ b10 ∧ ∀ S14, S14 = zs_si S5 b10 (zs_I S5 8203 p0).toNatClampNeg p1 → ab_n0 X.1 ≤ p0 ∧ ∀ S18, S18 = zs_sI S14 8203 p0 ((zs_I S14 8203 p0) + (1 : Int32)) → w_X9_input_59 X d p0 S18 Q)) ∧ (¬ ((zs_I S5 8000 p0) ≤ 0) → (Q (.returned (some (.int (0 : Int32)))) S5))))
theorem u_X9_input_27 {σ : Nat → Nat} {n0 : Nat} {bf : ab_B} {d : Nat} {p0 : Nat} {p1 : Int32} {q0 : Option Nat} {q1 : Int32} {S : zs_T} {Q : zs_Q} (hB : zt_B bf) (h : w_X9_input_27 (zx σ n0 bf) d p0 p1 q0 q1 S Q) : zs_U (zx σ n0 bf) d 8275 27 [(0, .ref p0), (1, .int p1)] [.int q1, va_rf q0] S Q := by
  unfold w_X9_input_27 at h
  obtain ⟨b1, e2, h⟩ := h
  refine zs_stk1 (zs_rfe e2) ?_
  obtain ⟨k3, h⟩ := h
  obtain ⟨k4, h⟩ := h
  refine zp_8_441 (v := q1) rfl d_8275_27 k3 k4 ?_
  generalize e6 : zs_sI S 8000 b1 q1 = S5
  have h := h S5 e6.symm
  have K7 : ∀ b, zs_K S5 b = zs_K S b := zs_Kt e6 (zs_KsI _ _ _ _) (fun _ => rfl)
  refine zu_aload_n d_8275_30 rfl (zs_ra _) ?_
  obtain ⟨k8, h⟩ := h
  refine zg_8_441 rfl d_8275_31 ((K7 _).trans k8) ?_
  refine zu_ifle (t := 39) d_8275_34 rfl (fun c9 => ?_) (fun c9 => ?_)
  · have h := h.1 c9
    refine zu_aload_n d_8275_39 rfl (zs_ra _) ?_
    refine zg_8_432 rfl d_8275_40 ((K7 _).trans k8) ?_
    refine zu_aload_n d_8275_43 rfl (zs_ra _) ?_
    refine zg_8_1409 rfl d_8275_44 ((K7 _).trans k8) ?_
    refine zu_iload_n d_8275_47 rfl ?_
    obtain ⟨b10, e11, h⟩ := h
    refine zs_stk2 (zs_rfe e11) ?_
    obtain ⟨k12, h⟩ := h
    obtain ⟨k13, h⟩ := h
    refine zu_iast (k := 0) d_8275_48 rfl rfl k13 (zs_Ak K7 k12) ?_
    generalize e15 : zs_si S5 b10 (zs_I S5 8203 p0).toNatClampNeg p1 = S14
    have h := h S14 e15.symm
    have K16 : ∀ b, zs_K S14 b = zs_K S b := zs_Kt e15 (zs_Ksi _ _ _ _) K7
    refine zu_aload_n d_8275_49 rfl (zs_ra _) ?_
    refine zu_dup d_8275_50 rfl ?_
    refine zg_8_1409 rfl d_8275_51 ((K16 _).trans k8) ?_
    refine zu_iconst d_8275_54 zi_1 ?_
    refine zu_stk d_8275_55 rfl rfl ?_
    obtain ⟨k17, h⟩ := h
    refine zp_8_1409 (v := ((zs_I S14 8203 p0) + (1 : Int32))) rfl d_8275_56 ((K16 _).trans k8) k17 ?_
    generalize e19 : zs_sI S14 8203 p0 ((zs_I S14 8203 p0) + (1 : Int32)) = S18
    have h := h S18 e19.symm
    have K20 : ∀ b, zs_K S18 b = zs_K S b := zs_Kt e19 (zs_KsI _ _ _ _) K16
    exact (u_X9_input_59 hB h).weak ⟨rfl, trivial⟩
  · have h := h.2 c9
    refine zu_iconst d_8275_37 zi_0 ?_
    exact zu_iret d_8275_38 zr_8275 rfl h
def w_X9_input (X : zs_X) (d : Nat) (p0 : Nat) (p1 : Int32) (S : zs_T) (Q : zs_Q) : Prop :=
  ((((-2147483647 : Int32) ≤ p1 → (zs_K S p0 = some (.inl 8) ∧ ((¬ (zs_I S 8203 p0) = (1000 : Int32) → (w_X9_input_27 X d p0 p1 (some p0) (0 : Int32) S Q)) ∧ (¬ (¬ (zs_I S 8203 p0) = (1000 : Int32)) → (w_X9_input_27 X d p0 p1 (some p0) (2 : Int32) S Q))))) ∧ (¬ ((-2147483647 : Int32) ≤ p1) → (w_X9_input_27 X d p0 p1 (some p0) (1 : Int32) S Q))))
theorem u_X9_input {σ : Nat → Nat} {n0 : Nat} {bf : ab_B} {d : Nat} {p0 : Nat} {p1 : Int32} {S : zs_T} {Q : zs_Q} (hB : zt_B bf) (hd : 1 ≤ d) (h : w_X9_input (zx σ n0 bf) (d - 1) p0 p1 S Q) : zs_C (zx σ n0 bf) d 8275 [.ref p0, .int p1] S Q := by
  have hL : lv_args 0 [.ref p0, .int p1] = [(0, .ref p0), (1, .int p1)] := rfl
  refine zs_C.of1 (hB.2 8275 (by decide) (by decide)) hd (by rw [hL]; exact zs_sub_self _ (by exact ⟨rfl, rfl, trivial⟩)) ?_
  rw [hL]
  clear hL
  unfold w_X9_input at h
  refine zu_aload_n d_8275_0 rfl (zs_ra _) ?_
  refine zu_iload_n d_8275_1 rfl ?_
  refine zlw_8_576 rfl d_8275_2 ?_
  refine zu_cmpge (t := 12) d_8275_5 rfl (fun c1 => ?_) (fun c1 => ?_)
  · have h := h.1 c1
    refine zu_aload_n d_8275_12 rfl (zs_ra _) ?_
    obtain ⟨k2, h⟩ := h
    refine zg_8_1409 rfl d_8275_13 k2 ?_
    refine zu_sipush d_8275_16 zh_1000 ?_
    refine zu_cmpne (t := 26) d_8275_19 rfl (fun c3 => ?_) (fun c3 => ?_)
    · have h := h.1 c3
      refine zu_iconst d_8275_26 zi_0 ?_
      exact (u_X9_input_27 hB h).weak ⟨rfl, rfl, trivial⟩
    · have h := h.2 c3
      refine zu_iconst d_8275_22 zi_2 ?_
      refine zu_goto (t := 27) d_8275_23 rfl ?_
      exact (u_X9_input_27 hB h).weak ⟨rfl, rfl, trivial⟩
  · have h := h.2 c1
    refine zu_iconst d_8275_8 zi_1 ?_
    refine zu_goto (t := 27) d_8275_9 rfl ?_
    exact (u_X9_input_27 hB h).weak ⟨rfl, rfl, trivial⟩
/-! SchemaPascalModel.step(I)I -/
theorem zm_8276 {σ : Nat → Nat} {n0 : Nat} {bf : ab_B} : ab_code (zx σ n0 bf).1 8276 = prog_17_method_277_code := rfl
theorem zq_8276 {σ : Nat → Nat} {n0 : Nat} {bf : ab_B} : ab_maxL (zx σ n0 bf).1 8276 = 2 := rfl
theorem zr_8276 {σ : Nat → Nat} {n0 : Nat} {bf : ab_B} : ab_ret (zx σ n0 bf).1 8276 = (Option.some Jvm.ClassFile.FieldType.int) := rfl
theorem d_8276_0 {σ : Nat → Nat} {n0 : Nat} {bf : ab_B} : decode (ab_code (zx σ n0 bf).1 8276) 0 = .ok (.aload_n 0, 1) := zd zm_8276 (by decide +kernel)
theorem d_8276_1 {σ : Nat → Nat} {n0 : Nat} {bf : ab_B} : decode (ab_code (zx σ n0 bf).1 8276) 1 = .ok (.iload_n 1, 1) := zd zm_8276 (by decide +kernel)
theorem d_8276_2 {σ : Nat → Nat} {n0 : Nat} {bf : ab_B} : decode (ab_code (zx σ n0 bf).1 8276) 2 = .ok (.ifCond .lt 10, 3) := zd zm_8276 (by decide +kernel)
theorem d_8276_5 {σ : Nat → Nat} {n0 : Nat} {bf : ab_B} : decode (ab_code (zx σ n0 bf).1 8276) 5 = .ok (.iload_n 1, 1) := zd zm_8276 (by decide +kernel)
theorem d_8276_6 {σ : Nat → Nat} {n0 : Nat} {bf : ab_B} : decode (ab_code (zx σ n0 bf).1 8276) 6 = .ok (.sipush 20000, 3) := zd zm_8276 (by decide +kernel)
theorem d_8276_9 {σ : Nat → Nat} {n0 : Nat} {bf : ab_B} : decode (ab_code (zx σ n0 bf).1 8276) 9 = .ok (.if_icmp .le 7, 3) := zd zm_8276 (by decide +kernel)
theorem d_8276_12 {σ : Nat → Nat} {n0 : Nat} {bf : ab_B} : decode (ab_code (zx σ n0 bf).1 8276) 12 = .ok (.iconst 1, 1) := zd zm_8276 (by decide +kernel)
theorem d_8276_13 {σ : Nat → Nat} {n0 : Nat} {bf : ab_B} : decode (ab_code (zx σ n0 bf).1 8276) 13 = .ok (.goto 15, 3) := zd zm_8276 (by decide +kernel)
theorem d_8276_16 {σ : Nat → Nat} {n0 : Nat} {bf : ab_B} : decode (ab_code (zx σ n0 bf).1 8276) 16 = .ok (.aload_n 0, 1) := zd zm_8276 (by decide +kernel)
theorem d_8276_17 {σ : Nat → Nat} {n0 : Nat} {bf : ab_B} : decode (ab_code (zx σ n0 bf).1 8276) 17 = .ok (.getfield 1222, 3) := zd zm_8276 (by decide +kernel)
theorem d_8276_20 {σ : Nat → Nat} {n0 : Nat} {bf : ab_B} : decode (ab_code (zx σ n0 bf).1 8276) 20 = .ok (.ifCond .eq 7, 3) := zd zm_8276 (by decide +kernel)
theorem d_8276_23 {σ : Nat → Nat} {n0 : Nat} {bf : ab_B} : decode (ab_code (zx σ n0 bf).1 8276) 23 = .ok (.iconst 0, 1) := zd zm_8276 (by decide +kernel)
theorem d_8276_24 {σ : Nat → Nat} {n0 : Nat} {bf : ab_B} : decode (ab_code (zx σ n0 bf).1 8276) 24 = .ok (.goto 4, 3) := zd zm_8276 (by decide +kernel)
theorem d_8276_27 {σ : Nat → Nat} {n0 : Nat} {bf : ab_B} : decode (ab_code (zx σ n0 bf).1 8276) 27 = .ok (.iconst 2, 1) := zd zm_8276 (by decide +kernel)
theorem d_8276_28 {σ : Nat → Nat} {n0 : Nat} {bf : ab_B} : decode (ab_code (zx σ n0 bf).1 8276) 28 = .ok (.putfield 441, 3) := zd zm_8276 (by decide +kernel)
theorem d_8276_31 {σ : Nat → Nat} {n0 : Nat} {bf : ab_B} : decode (ab_code (zx σ n0 bf).1 8276) 31 = .ok (.aload_n 0, 1) := zd zm_8276 (by decide +kernel)
theorem d_8276_32 {σ : Nat → Nat} {n0 : Nat} {bf : ab_B} : decode (ab_code (zx σ n0 bf).1 8276) 32 = .ok (.getfield 441, 3) := zd zm_8276 (by decide +kernel)
theorem d_8276_35 {σ : Nat → Nat} {n0 : Nat} {bf : ab_B} : decode (ab_code (zx σ n0 bf).1 8276) 35 = .ok (.ifCond .le 5, 3) := zd zm_8276 (by decide +kernel)
theorem d_8276_38 {σ : Nat → Nat} {n0 : Nat} {bf : ab_B} : decode (ab_code (zx σ n0 bf).1 8276) 38 = .ok (.iconst 0, 1) := zd zm_8276 (by decide +kernel)
theorem d_8276_39 {σ : Nat → Nat} {n0 : Nat} {bf : ab_B} : decode (ab_code (zx σ n0 bf).1 8276) 39 = .ok (.ireturn, 1) := zd zm_8276 (by decide +kernel)
theorem d_8276_40 {σ : Nat → Nat} {n0 : Nat} {bf : ab_B} : decode (ab_code (zx σ n0 bf).1 8276) 40 = .ok (.aload_n 0, 1) := zd zm_8276 (by decide +kernel)
theorem d_8276_41 {σ : Nat → Nat} {n0 : Nat} {bf : ab_B} : decode (ab_code (zx σ n0 bf).1 8276) 41 = .ok (.iload_n 1, 1) := zd zm_8276 (by decide +kernel)
theorem d_8276_42 {σ : Nat → Nat} {n0 : Nat} {bf : ab_B} : decode (ab_code (zx σ n0 bf).1 8276) 42 = .ok (.invokevirtual 1512, 3) := zd zm_8276 (by decide +kernel)
theorem d_8276_45 {σ : Nat → Nat} {n0 : Nat} {bf : ab_B} : decode (ab_code (zx σ n0 bf).1 8276) 45 = .ok (.aload_n 0, 1) := zd zm_8276 (by decide +kernel)
theorem d_8276_46 {σ : Nat → Nat} {n0 : Nat} {bf : ab_B} : decode (ab_code (zx σ n0 bf).1 8276) 46 = .ok (.getfield 1222, 3) := zd zm_8276 (by decide +kernel)
theorem d_8276_49 {σ : Nat → Nat} {n0 : Nat} {bf : ab_B} : decode (ab_code (zx σ n0 bf).1 8276) 49 = .ok (.ifCond .eq 7, 3) := zd zm_8276 (by decide +kernel)
theorem d_8276_52 {σ : Nat → Nat} {n0 : Nat} {bf : ab_B} : decode (ab_code (zx σ n0 bf).1 8276) 52 = .ok (.iconst 0, 1) := zd zm_8276 (by decide +kernel)
theorem d_8276_53 {σ : Nat → Nat} {n0 : Nat} {bf : ab_B} : decode (ab_code (zx σ n0 bf).1 8276) 53 = .ok (.goto 15, 3) := zd zm_8276 (by decide +kernel)
theorem d_8276_56 {σ : Nat → Nat} {n0 : Nat} {bf : ab_B} : decode (ab_code (zx σ n0 bf).1 8276) 56 = .ok (.aload_n 0, 1) := zd zm_8276 (by decide +kernel)
theorem d_8276_57 {σ : Nat → Nat} {n0 : Nat} {bf : ab_B} : decode (ab_code (zx σ n0 bf).1 8276) 57 = .ok (.getfield 1273, 3) := zd zm_8276 (by decide +kernel)
theorem d_8276_60 {σ : Nat → Nat} {n0 : Nat} {bf : ab_B} : decode (ab_code (zx σ n0 bf).1 8276) 60 = .ok (.ifCond .le 7, 3) := zd zm_8276 (by decide +kernel)
theorem d_8276_63 {σ : Nat → Nat} {n0 : Nat} {bf : ab_B} : decode (ab_code (zx σ n0 bf).1 8276) 63 = .ok (.iconst 2, 1) := zd zm_8276 (by decide +kernel)
theorem d_8276_64 {σ : Nat → Nat} {n0 : Nat} {bf : ab_B} : decode (ab_code (zx σ n0 bf).1 8276) 64 = .ok (.goto 4, 3) := zd zm_8276 (by decide +kernel)
theorem d_8276_67 {σ : Nat → Nat} {n0 : Nat} {bf : ab_B} : decode (ab_code (zx σ n0 bf).1 8276) 67 = .ok (.iconst 1, 1) := zd zm_8276 (by decide +kernel)
theorem d_8276_68 {σ : Nat → Nat} {n0 : Nat} {bf : ab_B} : decode (ab_code (zx σ n0 bf).1 8276) 68 = .ok (.ireturn, 1) := zd zm_8276 (by decide +kernel)
def w_X9_step_28 (X : zs_X) (d : Nat) (p0 : Nat) (p1 : Int32) (q0 : Option Nat) (q1 : Int32) (S : zs_T) (Q : zs_Q) : Prop :=
  (∃ b1, q0 = some b1 ∧ zs_K S b1 = some (.inl 8) ∧ ab_n0 X.1 ≤ b1 ∧ ∀ S5, S5 = zs_sI S 8000 b1 q1 → zs_K S p0 = some (.inl 8) ∧ (((zs_I S5 8000 p0) ≤ 0 → (zs_C X d 8229 [.ref p0, .int p1] S5 (zs_kV (fun S10 => (zs_K S10 p0 = some (.inl 8) ∧ (((zs_I S10 8196 p0) = 0 → ((((zs_I S10 8197 p0) ≤ 0 → (Q (.returned (some (.int (1 : Int32)))) S10)) ∧ (¬ ((zs_I S10 8197 p0) ≤ 0) → (Q (.returned (some (.int (2 : Int32)))) S10))))) ∧ (¬ ((zs_I S10 8196 p0) = 0) → (Q (.returned (some (.int (0 : Int32)))) S10))))) Q))) ∧ (¬ ((zs_I S5 8000 p0) ≤ 0) → (Q (.returned (some (.int (0 : Int32)))) S5))))
theorem u_X9_step_28 {σ : Nat → Nat} {n0 : Nat} {bf : ab_B} {d : Nat} {p0 : Nat} {p1 : Int32} {q0 : Option Nat} {q1 : Int32} {S : zs_T} {Q : zs_Q} (hB : zt_B bf) (h : w_X9_step_28 (zx σ n0 bf) d p0 p1 q0 q1 S Q) : zs_U (zx σ n0 bf) d 8276 28 [(0, .ref p0), (1, .int p1)] [.int q1, va_rf q0] S Q := by
  unfold w_X9_step_28 at h
  obtain ⟨b1, e2, h⟩ := h
  refine zs_stk1 (zs_rfe e2) ?_
  obtain ⟨k3, h⟩ := h
  obtain ⟨k4, h⟩ := h
  refine zp_8_441 (v := q1) rfl d_8276_28 k3 k4 ?_
  generalize e6 : zs_sI S 8000 b1 q1 = S5
  have h := h S5 e6.symm
  have K7 : ∀ b, zs_K S5 b = zs_K S b := zs_Kt e6 (zs_KsI _ _ _ _) (fun _ => rfl)
  refine zu_aload_n d_8276_31 rfl (zs_ra _) ?_
  obtain ⟨k8, h⟩ := h
  refine zg_8_441 rfl d_8276_32 ((K7 _).trans k8) ?_
  refine zu_ifle (t := 40) d_8276_35 rfl (fun c9 => ?_) (fun c9 => ?_)
  · have h := h.1 c9
    refine zu_aload_n d_8276_40 rfl (zs_ra _) ?_
    refine zu_iload_n d_8276_41 rfl ?_
    refine zc_8_1512 (x0 := p1) hB rfl ((K7 _).trans k8) d_8276_42 (Nat.le_of_ble_eq_true rfl) h (fun S10 h => ?_)
    refine zu_aload_n d_8276_45 rfl (zs_ra _) ?_
    obtain ⟨k12, h⟩ := h
    refine zg_8_1222 rfl d_8276_46 k12 ?_
    refine zu_ifeq (t := 56) d_8276_49 rfl (fun c13 => ?_) (fun c13 => ?_)
    · have h := h.1 c13
      refine zu_aload_n d_8276_56 rfl (zs_ra _) ?_
      refine zg_8_1273 rfl d_8276_57 k12 ?_
      refine zu_ifle (t := 67) d_8276_60 rfl (fun c14 => ?_) (fun c14 => ?_)
      · have h := h.1 c14
        refine zu_iconst d_8276_67 zi_1 ?_
        exact zu_iret d_8276_68 zr_8276 rfl h
      · have h := h.2 c14
        refine zu_iconst d_8276_63 zi_2 ?_
        refine zu_goto (t := 68) d_8276_64 rfl ?_
        exact zu_iret d_8276_68 zr_8276 rfl h
    · have h := h.2 c13
      refine zu_iconst d_8276_52 zi_0 ?_
      refine zu_goto (t := 68) d_8276_53 rfl ?_
      exact zu_iret d_8276_68 zr_8276 rfl h
  · have h := h.2 c9
    refine zu_iconst d_8276_38 zi_0 ?_
    exact zu_iret d_8276_39 zr_8276 rfl h
def w_X9_step_12 (X : zs_X) (d : Nat) (p0 : Nat) (p1 : Int32) (q0 : Option Nat) (S : zs_T) (Q : zs_Q) : Prop :=
  (w_X9_step_28 X d p0 p1 q0 (1 : Int32) S Q)
theorem u_X9_step_12 {σ : Nat → Nat} {n0 : Nat} {bf : ab_B} {d : Nat} {p0 : Nat} {p1 : Int32} {q0 : Option Nat} {S : zs_T} {Q : zs_Q} (hB : zt_B bf) (h : w_X9_step_12 (zx σ n0 bf) d p0 p1 q0 S Q) : zs_U (zx σ n0 bf) d 8276 12 [(0, .ref p0), (1, .int p1)] [va_rf q0] S Q := by
  unfold w_X9_step_12 at h
  refine zu_iconst d_8276_12 zi_1 ?_
  refine zu_goto (t := 28) d_8276_13 rfl ?_
  exact (u_X9_step_28 hB h).weak ⟨rfl, rfl, trivial⟩
def w_X9_step (X : zs_X) (d : Nat) (p0 : Nat) (p1 : Int32) (S : zs_T) (Q : zs_Q) : Prop :=
  (((p1 < 0 → w_X9_step_12 X d p0 p1 (some p0) S Q) ∧ (¬ (p1 < 0) → (((p1 ≤ (20000 : Int32) → (zs_K S p0 = some (.inl 8) ∧ (((zs_I S 8196 p0) = 0 → (w_X9_step_28 X d p0 p1 (some p0) (2 : Int32) S Q)) ∧ (¬ ((zs_I S 8196 p0) = 0) → (w_X9_step_28 X d p0 p1 (some p0) (0 : Int32) S Q))))) ∧ (¬ (p1 ≤ (20000 : Int32)) → w_X9_step_12 X d p0 p1 (some p0) S Q))))))
theorem u_X9_step {σ : Nat → Nat} {n0 : Nat} {bf : ab_B} {d : Nat} {p0 : Nat} {p1 : Int32} {S : zs_T} {Q : zs_Q} (hB : zt_B bf) (hd : 1 ≤ d) (h : w_X9_step (zx σ n0 bf) (d - 1) p0 p1 S Q) : zs_C (zx σ n0 bf) d 8276 [.ref p0, .int p1] S Q := by
  have hL : lv_args 0 [.ref p0, .int p1] = [(0, .ref p0), (1, .int p1)] := rfl
  refine zs_C.of1 (hB.2 8276 (by decide) (by decide)) hd (by rw [hL]; exact zs_sub_self _ (by exact ⟨rfl, rfl, trivial⟩)) ?_
  rw [hL]
  clear hL
  unfold w_X9_step at h
  refine zu_aload_n d_8276_0 rfl (zs_ra _) ?_
  refine zu_iload_n d_8276_1 rfl ?_
  refine zu_iflt (t := 12) d_8276_2 rfl (fun c1 => ?_) (fun c1 => ?_)
  · have h := h.1 c1
    exact (u_X9_step_12 hB h).weak ⟨rfl, rfl, trivial⟩
  · have h := h.2 c1
    refine zu_iload_n d_8276_5 rfl ?_
    refine zu_sipush d_8276_6 zh_20000 ?_
    refine zu_cmple (t := 16) d_8276_9 rfl (fun c2 => ?_) (fun c2 => ?_)
    · have h := h.1 c2
      refine zu_aload_n d_8276_16 rfl (zs_ra _) ?_
      obtain ⟨k3, h⟩ := h
      refine zg_8_1222 rfl d_8276_17 k3 ?_
      refine zu_ifeq (t := 27) d_8276_20 rfl (fun c4 => ?_) (fun c4 => ?_)
      · have h := h.1 c4
        refine zu_iconst d_8276_27 zi_2 ?_
        exact (u_X9_step_28 hB h).weak ⟨rfl, rfl, trivial⟩
      · have h := h.2 c4
        refine zu_iconst d_8276_23 zi_0 ?_
        refine zu_goto (t := 28) d_8276_24 rfl ?_
        exact (u_X9_step_28 hB h).weak ⟨rfl, rfl, trivial⟩
    · have h := h.2 c2
      exact (u_X9_step_12 hB h).weak ⟨rfl, rfl, trivial⟩
/-! SchemaPascalModel.told(I)I -/
theorem zm_8277 {σ : Nat → Nat} {n0 : Nat} {bf : ab_B} : ab_code (zx σ n0 bf).1 8277 = prog_17_method_278_code := rfl
theorem zq_8277 {σ : Nat → Nat} {n0 : Nat} {bf : ab_B} : ab_maxL (zx σ n0 bf).1 8277 = 2 := rfl
theorem zr_8277 {σ : Nat → Nat} {n0 : Nat} {bf : ab_B} : ab_ret (zx σ n0 bf).1 8277 = (Option.some Jvm.ClassFile.FieldType.int) := rfl
theorem d_8277_0 {σ : Nat → Nat} {n0 : Nat} {bf : ab_B} : decode (ab_code (zx σ n0 bf).1 8277) 0 = .ok (.aload_n 0, 1) := zd zm_8277 (by decide +kernel)
theorem d_8277_1 {σ : Nat → Nat} {n0 : Nat} {bf : ab_B} : decode (ab_code (zx σ n0 bf).1 8277) 1 = .ok (.iload_n 1, 1) := zd zm_8277 (by decide +kernel)
theorem d_8277_2 {σ : Nat → Nat} {n0 : Nat} {bf : ab_B} : decode (ab_code (zx σ n0 bf).1 8277) 2 = .ok (.ifCond .lt 9, 3) := zd zm_8277 (by decide +kernel)
theorem d_8277_5 {σ : Nat → Nat} {n0 : Nat} {bf : ab_B} : decode (ab_code (zx σ n0 bf).1 8277) 5 = .ok (.iload_n 1, 1) := zd zm_8277 (by decide +kernel)
theorem d_8277_6 {σ : Nat → Nat} {n0 : Nat} {bf : ab_B} : decode (ab_code (zx σ n0 bf).1 8277) 6 = .ok (.bipush 11, 2) := zd zm_8277 (by decide +kernel)
theorem d_8277_8 {σ : Nat → Nat} {n0 : Nat} {bf : ab_B} : decode (ab_code (zx σ n0 bf).1 8277) 8 = .ok (.if_icmp .le 7, 3) := zd zm_8277 (by decide +kernel)
theorem d_8277_11 {σ : Nat → Nat} {n0 : Nat} {bf : ab_B} : decode (ab_code (zx σ n0 bf).1 8277) 11 = .ok (.iconst 1, 1) := zd zm_8277 (by decide +kernel)
theorem d_8277_12 {σ : Nat → Nat} {n0 : Nat} {bf : ab_B} : decode (ab_code (zx σ n0 bf).1 8277) 12 = .ok (.goto 4, 3) := zd zm_8277 (by decide +kernel)
theorem d_8277_15 {σ : Nat → Nat} {n0 : Nat} {bf : ab_B} : decode (ab_code (zx σ n0 bf).1 8277) 15 = .ok (.iconst 0, 1) := zd zm_8277 (by decide +kernel)
theorem d_8277_16 {σ : Nat → Nat} {n0 : Nat} {bf : ab_B} : decode (ab_code (zx σ n0 bf).1 8277) 16 = .ok (.putfield 441, 3) := zd zm_8277 (by decide +kernel)
theorem d_8277_19 {σ : Nat → Nat} {n0 : Nat} {bf : ab_B} : decode (ab_code (zx σ n0 bf).1 8277) 19 = .ok (.aload_n 0, 1) := zd zm_8277 (by decide +kernel)
theorem d_8277_20 {σ : Nat → Nat} {n0 : Nat} {bf : ab_B} : decode (ab_code (zx σ n0 bf).1 8277) 20 = .ok (.getfield 441, 3) := zd zm_8277 (by decide +kernel)
theorem d_8277_23 {σ : Nat → Nat} {n0 : Nat} {bf : ab_B} : decode (ab_code (zx σ n0 bf).1 8277) 23 = .ok (.ifCond .le 8, 3) := zd zm_8277 (by decide +kernel)
theorem d_8277_26 {σ : Nat → Nat} {n0 : Nat} {bf : ab_B} : decode (ab_code (zx σ n0 bf).1 8277) 26 = .ok (.bipush 99, 2) := zd zm_8277 (by decide +kernel)
theorem d_8277_28 {σ : Nat → Nat} {n0 : Nat} {bf : ab_B} : decode (ab_code (zx σ n0 bf).1 8277) 28 = .ok (.goto 4, 3) := zd zm_8277 (by decide +kernel)
theorem d_8277_31 {σ : Nat → Nat} {n0 : Nat} {bf : ab_B} : decode (ab_code (zx σ n0 bf).1 8277) 31 = .ok (.iload_n 1, 1) := zd zm_8277 (by decide +kernel)
theorem d_8277_32 {σ : Nat → Nat} {n0 : Nat} {bf : ab_B} : decode (ab_code (zx σ n0 bf).1 8277) 32 = .ok (.tableswitch 144 0 11 #[64, 77, 82, 87, 92, 97, 102, 107, 112, 118, 123, 139], 64) := zd zm_8277 (by decide +kernel)
theorem d_8277_96 {σ : Nat → Nat} {n0 : Nat} {bf : ab_B} : decode (ab_code (zx σ n0 bf).1 8277) 96 = .ok (.aload_n 0, 1) := zd zm_8277 (by decide +kernel)
theorem d_8277_97 {σ : Nat → Nat} {n0 : Nat} {bf : ab_B} : decode (ab_code (zx σ n0 bf).1 8277) 97 = .ok (.getfield 1222, 3) := zd zm_8277 (by decide +kernel)
theorem d_8277_100 {σ : Nat → Nat} {n0 : Nat} {bf : ab_B} : decode (ab_code (zx σ n0 bf).1 8277) 100 = .ok (.ifCond .eq 7, 3) := zd zm_8277 (by decide +kernel)
theorem d_8277_103 {σ : Nat → Nat} {n0 : Nat} {bf : ab_B} : decode (ab_code (zx σ n0 bf).1 8277) 103 = .ok (.iconst 1, 1) := zd zm_8277 (by decide +kernel)
theorem d_8277_104 {σ : Nat → Nat} {n0 : Nat} {bf : ab_B} : decode (ab_code (zx σ n0 bf).1 8277) 104 = .ok (.goto 4, 3) := zd zm_8277 (by decide +kernel)
theorem d_8277_107 {σ : Nat → Nat} {n0 : Nat} {bf : ab_B} : decode (ab_code (zx σ n0 bf).1 8277) 107 = .ok (.iconst 0, 1) := zd zm_8277 (by decide +kernel)
theorem d_8277_108 {σ : Nat → Nat} {n0 : Nat} {bf : ab_B} : decode (ab_code (zx σ n0 bf).1 8277) 108 = .ok (.ireturn, 1) := zd zm_8277 (by decide +kernel)
theorem d_8277_109 {σ : Nat → Nat} {n0 : Nat} {bf : ab_B} : decode (ab_code (zx σ n0 bf).1 8277) 109 = .ok (.aload_n 0, 1) := zd zm_8277 (by decide +kernel)
theorem d_8277_110 {σ : Nat → Nat} {n0 : Nat} {bf : ab_B} : decode (ab_code (zx σ n0 bf).1 8277) 110 = .ok (.getfield 1276, 3) := zd zm_8277 (by decide +kernel)
theorem d_8277_113 {σ : Nat → Nat} {n0 : Nat} {bf : ab_B} : decode (ab_code (zx σ n0 bf).1 8277) 113 = .ok (.ireturn, 1) := zd zm_8277 (by decide +kernel)
theorem d_8277_114 {σ : Nat → Nat} {n0 : Nat} {bf : ab_B} : decode (ab_code (zx σ n0 bf).1 8277) 114 = .ok (.aload_n 0, 1) := zd zm_8277 (by decide +kernel)
theorem d_8277_115 {σ : Nat → Nat} {n0 : Nat} {bf : ab_B} : decode (ab_code (zx σ n0 bf).1 8277) 115 = .ok (.getfield 1273, 3) := zd zm_8277 (by decide +kernel)
theorem d_8277_118 {σ : Nat → Nat} {n0 : Nat} {bf : ab_B} : decode (ab_code (zx σ n0 bf).1 8277) 118 = .ok (.ireturn, 1) := zd zm_8277 (by decide +kernel)
theorem d_8277_119 {σ : Nat → Nat} {n0 : Nat} {bf : ab_B} : decode (ab_code (zx σ n0 bf).1 8277) 119 = .ok (.aload_n 0, 1) := zd zm_8277 (by decide +kernel)
theorem d_8277_120 {σ : Nat → Nat} {n0 : Nat} {bf : ab_B} : decode (ab_code (zx σ n0 bf).1 8277) 120 = .ok (.getfield 428, 3) := zd zm_8277 (by decide +kernel)
theorem d_8277_123 {σ : Nat → Nat} {n0 : Nat} {bf : ab_B} : decode (ab_code (zx σ n0 bf).1 8277) 123 = .ok (.ireturn, 1) := zd zm_8277 (by decide +kernel)
theorem d_8277_124 {σ : Nat → Nat} {n0 : Nat} {bf : ab_B} : decode (ab_code (zx σ n0 bf).1 8277) 124 = .ok (.aload_n 0, 1) := zd zm_8277 (by decide +kernel)
theorem d_8277_125 {σ : Nat → Nat} {n0 : Nat} {bf : ab_B} : decode (ab_code (zx σ n0 bf).1 8277) 125 = .ok (.getfield 1240, 3) := zd zm_8277 (by decide +kernel)
theorem d_8277_128 {σ : Nat → Nat} {n0 : Nat} {bf : ab_B} : decode (ab_code (zx σ n0 bf).1 8277) 128 = .ok (.ireturn, 1) := zd zm_8277 (by decide +kernel)
theorem d_8277_129 {σ : Nat → Nat} {n0 : Nat} {bf : ab_B} : decode (ab_code (zx σ n0 bf).1 8277) 129 = .ok (.aload_n 0, 1) := zd zm_8277 (by decide +kernel)
theorem d_8277_130 {σ : Nat → Nat} {n0 : Nat} {bf : ab_B} : decode (ab_code (zx σ n0 bf).1 8277) 130 = .ok (.getfield 1243, 3) := zd zm_8277 (by decide +kernel)
theorem d_8277_133 {σ : Nat → Nat} {n0 : Nat} {bf : ab_B} : decode (ab_code (zx σ n0 bf).1 8277) 133 = .ok (.ireturn, 1) := zd zm_8277 (by decide +kernel)
theorem d_8277_134 {σ : Nat → Nat} {n0 : Nat} {bf : ab_B} : decode (ab_code (zx σ n0 bf).1 8277) 134 = .ok (.aload_n 0, 1) := zd zm_8277 (by decide +kernel)
theorem d_8277_135 {σ : Nat → Nat} {n0 : Nat} {bf : ab_B} : decode (ab_code (zx σ n0 bf).1 8277) 135 = .ok (.getfield 1252, 3) := zd zm_8277 (by decide +kernel)
theorem d_8277_138 {σ : Nat → Nat} {n0 : Nat} {bf : ab_B} : decode (ab_code (zx σ n0 bf).1 8277) 138 = .ok (.ireturn, 1) := zd zm_8277 (by decide +kernel)
theorem d_8277_139 {σ : Nat → Nat} {n0 : Nat} {bf : ab_B} : decode (ab_code (zx σ n0 bf).1 8277) 139 = .ok (.aload_n 0, 1) := zd zm_8277 (by decide +kernel)
theorem d_8277_140 {σ : Nat → Nat} {n0 : Nat} {bf : ab_B} : decode (ab_code (zx σ n0 bf).1 8277) 140 = .ok (.getfield 1258, 3) := zd zm_8277 (by decide +kernel)
theorem d_8277_143 {σ : Nat → Nat} {n0 : Nat} {bf : ab_B} : decode (ab_code (zx σ n0 bf).1 8277) 143 = .ok (.ireturn, 1) := zd zm_8277 (by decide +kernel)
theorem d_8277_144 {σ : Nat → Nat} {n0 : Nat} {bf : ab_B} : decode (ab_code (zx σ n0 bf).1 8277) 144 = .ok (.aload_n 0, 1) := zd zm_8277 (by decide +kernel)
theorem d_8277_145 {σ : Nat → Nat} {n0 : Nat} {bf : ab_B} : decode (ab_code (zx σ n0 bf).1 8277) 145 = .ok (.getfield 1279, 3) := zd zm_8277 (by decide +kernel)
theorem d_8277_148 {σ : Nat → Nat} {n0 : Nat} {bf : ab_B} : decode (ab_code (zx σ n0 bf).1 8277) 148 = .ok (.l2i, 1) := zd zm_8277 (by decide +kernel)
theorem d_8277_149 {σ : Nat → Nat} {n0 : Nat} {bf : ab_B} : decode (ab_code (zx σ n0 bf).1 8277) 149 = .ok (.ireturn, 1) := zd zm_8277 (by decide +kernel)
theorem d_8277_150 {σ : Nat → Nat} {n0 : Nat} {bf : ab_B} : decode (ab_code (zx σ n0 bf).1 8277) 150 = .ok (.aload_n 0, 1) := zd zm_8277 (by decide +kernel)
theorem d_8277_151 {σ : Nat → Nat} {n0 : Nat} {bf : ab_B} : decode (ab_code (zx σ n0 bf).1 8277) 151 = .ok (.getfield 1409, 3) := zd zm_8277 (by decide +kernel)
theorem d_8277_154 {σ : Nat → Nat} {n0 : Nat} {bf : ab_B} : decode (ab_code (zx σ n0 bf).1 8277) 154 = .ok (.ireturn, 1) := zd zm_8277 (by decide +kernel)
theorem d_8277_155 {σ : Nat → Nat} {n0 : Nat} {bf : ab_B} : decode (ab_code (zx σ n0 bf).1 8277) 155 = .ok (.aload_n 0, 1) := zd zm_8277 (by decide +kernel)
theorem d_8277_156 {σ : Nat → Nat} {n0 : Nat} {bf : ab_B} : decode (ab_code (zx σ n0 bf).1 8277) 156 = .ok (.getfield 1219, 3) := zd zm_8277 (by decide +kernel)
theorem d_8277_159 {σ : Nat → Nat} {n0 : Nat} {bf : ab_B} : decode (ab_code (zx σ n0 bf).1 8277) 159 = .ok (.ifCond .eq 10, 3) := zd zm_8277 (by decide +kernel)
theorem d_8277_162 {σ : Nat → Nat} {n0 : Nat} {bf : ab_B} : decode (ab_code (zx σ n0 bf).1 8277) 162 = .ok (.aload_n 0, 1) := zd zm_8277 (by decide +kernel)
theorem d_8277_163 {σ : Nat → Nat} {n0 : Nat} {bf : ab_B} : decode (ab_code (zx σ n0 bf).1 8277) 163 = .ok (.getfield 944, 3) := zd zm_8277 (by decide +kernel)
theorem d_8277_166 {σ : Nat → Nat} {n0 : Nat} {bf : ab_B} : decode (ab_code (zx σ n0 bf).1 8277) 166 = .ok (.goto 4, 3) := zd zm_8277 (by decide +kernel)
theorem d_8277_169 {σ : Nat → Nat} {n0 : Nat} {bf : ab_B} : decode (ab_code (zx σ n0 bf).1 8277) 169 = .ok (.iconst 0, 1) := zd zm_8277 (by decide +kernel)
theorem d_8277_170 {σ : Nat → Nat} {n0 : Nat} {bf : ab_B} : decode (ab_code (zx σ n0 bf).1 8277) 170 = .ok (.ireturn, 1) := zd zm_8277 (by decide +kernel)
theorem d_8277_171 {σ : Nat → Nat} {n0 : Nat} {bf : ab_B} : decode (ab_code (zx σ n0 bf).1 8277) 171 = .ok (.aload_n 0, 1) := zd zm_8277 (by decide +kernel)
theorem d_8277_172 {σ : Nat → Nat} {n0 : Nat} {bf : ab_B} : decode (ab_code (zx σ n0 bf).1 8277) 172 = .ok (.getfield 1213, 3) := zd zm_8277 (by decide +kernel)
theorem d_8277_175 {σ : Nat → Nat} {n0 : Nat} {bf : ab_B} : decode (ab_code (zx σ n0 bf).1 8277) 175 = .ok (.ireturn, 1) := zd zm_8277 (by decide +kernel)
theorem d_8277_176 {σ : Nat → Nat} {n0 : Nat} {bf : ab_B} : decode (ab_code (zx σ n0 bf).1 8277) 176 = .ok (.iconst 0, 1) := zd zm_8277 (by decide +kernel)
theorem d_8277_177 {σ : Nat → Nat} {n0 : Nat} {bf : ab_B} : decode (ab_code (zx σ n0 bf).1 8277) 177 = .ok (.ireturn, 1) := zd zm_8277 (by decide +kernel)
def w_X9_told_32 (X : zs_X) (d : Nat) (p0 : Nat) (q0 : Int32) (S : zs_T) (Q : zs_Q) : Prop :=
  (((q0.toInt < 0 ∨ 11 < q0.toInt → (Q (.returned (some (.int (0 : Int32)))) S)) ∧ (q0.toInt = 0 → (zs_K S p0 = some (.inl 8) ∧ (((zs_I S 8196 p0) = 0 → (Q (.returned (some (.int (0 : Int32)))) S)) ∧ (¬ ((zs_I S 8196 p0) = 0) → (Q (.returned (some (.int (1 : Int32)))) S))))) ∧ (q0.toInt = 1 → (zs_K S p0 = some (.inl 8) ∧ Q (.returned (some (.int (zs_I S 8200 p0)))) S)) ∧ (q0.toInt = 2 → (zs_K S p0 = some (.inl 8) ∧ Q (.returned (some (.int (zs_I S 8197 p0)))) S)) ∧ (q0.toInt = 3 → (zs_K S p0 = some (.inl 8) ∧ Q (.returned (some (.int (zs_I S 8198 p0)))) S)) ∧ (q0.toInt = 4 → (zs_K S p0 = some (.inl 8) ∧ Q (.returned (some (.int (zs_I S 8165 p0)))) S)) ∧ (q0.toInt = 5 → (zs_K S p0 = some (.inl 8) ∧ Q (.returned (some (.int (zs_I S 8166 p0)))) S)) ∧ (q0.toInt = 6 → (zs_K S p0 = some (.inl 8) ∧ Q (.returned (some (.int (zs_I S 8175 p0)))) S)) ∧ (q0.toInt = 7 → (zs_K S p0 = some (.inl 8) ∧ Q (.returned (some (.int (zs_I S 8182 p0)))) S)) ∧ (q0.toInt = 8 → (zs_K S p0 = some (.inl 8) ∧ Q (.returned (some (.int (((zs_J S 8205 p0)).toInt32)))) S)) ∧ (q0.toInt = 9 → (zs_K S p0 = some (.inl 8) ∧ Q (.returned (some (.int (zs_I S 8203 p0)))) S)) ∧ (q0.toInt = 10 → (zs_K S p0 = some (.inl 8) ∧ (((zs_I S 8155 p0) = 0 → (Q (.returned (some (.int (0 : Int32)))) S)) ∧ (¬ ((zs_I S 8155 p0) = 0) → (Q (.returned (some (.int (zs_I S 8108 p0)))) S))))) ∧ (q0.toInt = 11 → (zs_K S p0 = some (.inl 8) ∧ Q (.returned (some (.int (zs_I S 8002 p0)))) S))))
theorem u_X9_told_32 {σ : Nat → Nat} {n0 : Nat} {bf : ab_B} {d : Nat} {p0 : Nat} {q0 : Int32} {S : zs_T} {Q : zs_Q} (hB : zt_B bf) (h : w_X9_told_32 (zx σ n0 bf) d p0 q0 S Q) : zs_U (zx σ n0 bf) d 8277 32 [(0, .ref p0)] [.int q0] S Q := by
  unfold w_X9_told_32 at h
  refine zu_tsw (td := 176) d_8277_32 (by decide) rfl (fun c1 => ?_) ⟨fun c1 => ⟨by decide, ?_⟩, fun c1 => ⟨by decide, ?_⟩, fun c1 => ⟨by decide, ?_⟩, fun c1 => ⟨by decide, ?_⟩, fun c1 => ⟨by decide, ?_⟩, fun c1 => ⟨by decide, ?_⟩, fun c1 => ⟨by decide, ?_⟩, fun c1 => ⟨by decide, ?_⟩, fun c1 => ⟨by decide, ?_⟩, fun c1 => ⟨by decide, ?_⟩, fun c1 => ⟨by decide, ?_⟩, fun c1 => ⟨by decide, ?_⟩, trivial⟩
  · have h := h.1 c1
    refine zu_iconst d_8277_176 zi_0 ?_
    exact zu_iret d_8277_177 zr_8277 rfl h
  · have h := h.2.1 c1
    show zs_U _ _ _ 96 _ _ _ _
    refine zu_aload_n d_8277_96 rfl (zs_ra _) ?_
    obtain ⟨k2, h⟩ := h
    refine zg_8_1222 rfl d_8277_97 k2 ?_
    refine zu_ifeq (t := 107) d_8277_100 rfl (fun c3 => ?_) (fun c3 => ?_)
    · have h := h.1 c3
      refine zu_iconst d_8277_107 zi_0 ?_
      exact zu_iret d_8277_108 zr_8277 rfl h
    · have h := h.2 c3
      refine zu_iconst d_8277_103 zi_1 ?_
      refine zu_goto (t := 108) d_8277_104 rfl ?_
      exact zu_iret d_8277_108 zr_8277 rfl h
  · have h := h.2.2.1 c1
    show zs_U _ _ _ 109 _ _ _ _
    refine zu_aload_n d_8277_109 rfl (zs_ra _) ?_
    obtain ⟨k4, h⟩ := h
    refine zg_8_1276 rfl d_8277_110 k4 ?_
    exact zu_iret d_8277_113 zr_8277 rfl h
  · have h := h.2.2.2.1 c1
    show zs_U _ _ _ 114 _ _ _ _
    refine zu_aload_n d_8277_114 rfl (zs_ra _) ?_
    obtain ⟨k5, h⟩ := h
    refine zg_8_1273 rfl d_8277_115 k5 ?_
    exact zu_iret d_8277_118 zr_8277 rfl h
  · have h := h.2.2.2.2.1 c1
    show zs_U _ _ _ 119 _ _ _ _
    refine zu_aload_n d_8277_119 rfl (zs_ra _) ?_
    obtain ⟨k6, h⟩ := h
    refine zg_8_428 rfl d_8277_120 k6 ?_
    exact zu_iret d_8277_123 zr_8277 rfl h
  · have h := h.2.2.2.2.2.1 c1
    show zs_U _ _ _ 124 _ _ _ _
    refine zu_aload_n d_8277_124 rfl (zs_ra _) ?_
    obtain ⟨k7, h⟩ := h
    refine zg_8_1240 rfl d_8277_125 k7 ?_
    exact zu_iret d_8277_128 zr_8277 rfl h
  · have h := h.2.2.2.2.2.2.1 c1
    show zs_U _ _ _ 129 _ _ _ _
    refine zu_aload_n d_8277_129 rfl (zs_ra _) ?_
    obtain ⟨k8, h⟩ := h
    refine zg_8_1243 rfl d_8277_130 k8 ?_
    exact zu_iret d_8277_133 zr_8277 rfl h
  · have h := h.2.2.2.2.2.2.2.1 c1
    show zs_U _ _ _ 134 _ _ _ _
    refine zu_aload_n d_8277_134 rfl (zs_ra _) ?_
    obtain ⟨k9, h⟩ := h
    refine zg_8_1252 rfl d_8277_135 k9 ?_
    exact zu_iret d_8277_138 zr_8277 rfl h
  · have h := h.2.2.2.2.2.2.2.2.1 c1
    show zs_U _ _ _ 139 _ _ _ _
    refine zu_aload_n d_8277_139 rfl (zs_ra _) ?_
    obtain ⟨k10, h⟩ := h
    refine zg_8_1258 rfl d_8277_140 k10 ?_
    exact zu_iret d_8277_143 zr_8277 rfl h
  · have h := h.2.2.2.2.2.2.2.2.2.1 c1
    show zs_U _ _ _ 144 _ _ _ _
    refine zu_aload_n d_8277_144 rfl (zs_ra _) ?_
    obtain ⟨k11, h⟩ := h
    refine zg_8_1279 rfl d_8277_145 k11 ?_
    refine zu_stk d_8277_148 rfl rfl ?_
    exact zu_iret d_8277_149 zr_8277 rfl h
  · have h := h.2.2.2.2.2.2.2.2.2.2.1 c1
    show zs_U _ _ _ 150 _ _ _ _
    refine zu_aload_n d_8277_150 rfl (zs_ra _) ?_
    obtain ⟨k12, h⟩ := h
    refine zg_8_1409 rfl d_8277_151 k12 ?_
    exact zu_iret d_8277_154 zr_8277 rfl h
  · have h := h.2.2.2.2.2.2.2.2.2.2.2.1 c1
    show zs_U _ _ _ 155 _ _ _ _
    refine zu_aload_n d_8277_155 rfl (zs_ra _) ?_
    obtain ⟨k13, h⟩ := h
    refine zg_8_1219 rfl d_8277_156 k13 ?_
    refine zu_ifeq (t := 169) d_8277_159 rfl (fun c14 => ?_) (fun c14 => ?_)
    · have h := h.1 c14
      refine zu_iconst d_8277_169 zi_0 ?_
      exact zu_iret d_8277_170 zr_8277 rfl h
    · have h := h.2 c14
      refine zu_aload_n d_8277_162 rfl (zs_ra _) ?_
      refine zg_8_944 rfl d_8277_163 k13 ?_
      refine zu_goto (t := 170) d_8277_166 rfl ?_
      exact zu_iret d_8277_170 zr_8277 rfl h
  · have h := h.2.2.2.2.2.2.2.2.2.2.2.2 c1
    show zs_U _ _ _ 171 _ _ _ _
    refine zu_aload_n d_8277_171 rfl (zs_ra _) ?_
    obtain ⟨k15, h⟩ := h
    refine zg_8_1213 rfl d_8277_172 k15 ?_
    exact zu_iret d_8277_175 zr_8277 rfl h
def w_X9_told_16 (X : zs_X) (d : Nat) (p0 : Nat) (p1 : Int32) (q0 : Option Nat) (q1 : Int32) (S : zs_T) (Q : zs_Q) : Prop :=
  (∃ b1, q0 = some b1 ∧ zs_K S b1 = some (.inl 8) ∧ ab_n0 X.1 ≤ b1 ∧ ∀ S5, S5 = zs_sI S 8000 b1 q1 → zs_K S p0 = some (.inl 8) ∧ (((zs_I S5 8000 p0) ≤ 0 → (w_X9_told_32 X d p0 p1 S5 Q)) ∧ (¬ ((zs_I S5 8000 p0) ≤ 0) → (w_X9_told_32 X d p0 (99 : Int32) S5 Q))))
theorem u_X9_told_16 {σ : Nat → Nat} {n0 : Nat} {bf : ab_B} {d : Nat} {p0 : Nat} {p1 : Int32} {q0 : Option Nat} {q1 : Int32} {S : zs_T} {Q : zs_Q} (hB : zt_B bf) (h : w_X9_told_16 (zx σ n0 bf) d p0 p1 q0 q1 S Q) : zs_U (zx σ n0 bf) d 8277 16 [(0, .ref p0), (1, .int p1)] [.int q1, va_rf q0] S Q := by
  unfold w_X9_told_16 at h
  obtain ⟨b1, e2, h⟩ := h
  refine zs_stk1 (zs_rfe e2) ?_
  obtain ⟨k3, h⟩ := h
  obtain ⟨k4, h⟩ := h
  refine zp_8_441 (v := q1) rfl d_8277_16 k3 k4 ?_
  generalize e6 : zs_sI S 8000 b1 q1 = S5
  have h := h S5 e6.symm
  have K7 : ∀ b, zs_K S5 b = zs_K S b := zs_Kt e6 (zs_KsI _ _ _ _) (fun _ => rfl)
  refine zu_aload_n d_8277_19 rfl (zs_ra _) ?_
  obtain ⟨k8, h⟩ := h
  refine zg_8_441 rfl d_8277_20 ((K7 _).trans k8) ?_
  refine zu_ifle (t := 31) d_8277_23 rfl (fun c9 => ?_) (fun c9 => ?_)
  · have h := h.1 c9
    refine zu_iload_n d_8277_31 rfl ?_
    exact (u_X9_told_32 hB h).weak ⟨rfl, trivial⟩
  · have h := h.2 c9
    refine zu_bipush d_8277_26 zj_99 ?_
    refine zu_goto (t := 32) d_8277_28 rfl ?_
    exact (u_X9_told_32 hB h).weak ⟨rfl, trivial⟩
def w_X9_told_11 (X : zs_X) (d : Nat) (p0 : Nat) (p1 : Int32) (q0 : Option Nat) (S : zs_T) (Q : zs_Q) : Prop :=
  (w_X9_told_16 X d p0 p1 q0 (1 : Int32) S Q)
theorem u_X9_told_11 {σ : Nat → Nat} {n0 : Nat} {bf : ab_B} {d : Nat} {p0 : Nat} {p1 : Int32} {q0 : Option Nat} {S : zs_T} {Q : zs_Q} (hB : zt_B bf) (h : w_X9_told_11 (zx σ n0 bf) d p0 p1 q0 S Q) : zs_U (zx σ n0 bf) d 8277 11 [(0, .ref p0), (1, .int p1)] [va_rf q0] S Q := by
  unfold w_X9_told_11 at h
  refine zu_iconst d_8277_11 zi_1 ?_
  refine zu_goto (t := 16) d_8277_12 rfl ?_
  exact (u_X9_told_16 hB h).weak ⟨rfl, rfl, trivial⟩
def w_X9_told (X : zs_X) (d : Nat) (p0 : Nat) (p1 : Int32) (S : zs_T) (Q : zs_Q) : Prop :=
  (((p1 < 0 → w_X9_told_11 X d p0 p1 (some p0) S Q) ∧ (¬ (p1 < 0) → (((p1 ≤ (11 : Int32) → (w_X9_told_16 X d p0 p1 (some p0) (0 : Int32) S Q)) ∧ (¬ (p1 ≤ (11 : Int32)) → w_X9_told_11 X d p0 p1 (some p0) S Q))))))
theorem u_X9_told {σ : Nat → Nat} {n0 : Nat} {bf : ab_B} {d : Nat} {p0 : Nat} {p1 : Int32} {S : zs_T} {Q : zs_Q} (hB : zt_B bf) (hd : 1 ≤ d) (h : w_X9_told (zx σ n0 bf) (d - 1) p0 p1 S Q) : zs_C (zx σ n0 bf) d 8277 [.ref p0, .int p1] S Q := by
  have hL : lv_args 0 [.ref p0, .int p1] = [(0, .ref p0), (1, .int p1)] := rfl
  refine zs_C.of1 (hB.2 8277 (by decide) (by decide)) hd (by rw [hL]; exact zs_sub_self _ (by exact ⟨rfl, rfl, trivial⟩)) ?_
  rw [hL]
  clear hL
  unfold w_X9_told at h
  refine zu_aload_n d_8277_0 rfl (zs_ra _) ?_
  refine zu_iload_n d_8277_1 rfl ?_
  refine zu_iflt (t := 11) d_8277_2 rfl (fun c1 => ?_) (fun c1 => ?_)
  · have h := h.1 c1
    exact (u_X9_told_11 hB h).weak ⟨rfl, rfl, trivial⟩
  · have h := h.2 c1
    refine zu_iload_n d_8277_5 rfl ?_
    refine zu_bipush d_8277_6 zj_11 ?_
    refine zu_cmple (t := 15) d_8277_8 rfl (fun c2 => ?_) (fun c2 => ?_)
    · have h := h.1 c2
      refine zu_iconst d_8277_15 zi_0 ?_
      exact (u_X9_told_16 hB h).weak ⟨rfl, rfl, trivial⟩
    · have h := h.2 c2
      exact (u_X9_told_11 hB h).weak ⟨rfl, rfl, trivial⟩
/-! SchemaPascalModel.activation(II)I -/
theorem zm_8278 {σ : Nat → Nat} {n0 : Nat} {bf : ab_B} : ab_code (zx σ n0 bf).1 8278 = prog_17_method_281_code := rfl
theorem zq_8278 {σ : Nat → Nat} {n0 : Nat} {bf : ab_B} : ab_maxL (zx σ n0 bf).1 8278 = 4 := rfl
theorem zr_8278 {σ : Nat → Nat} {n0 : Nat} {bf : ab_B} : ab_ret (zx σ n0 bf).1 8278 = (Option.some Jvm.ClassFile.FieldType.int) := rfl
theorem d_8278_0 {σ : Nat → Nat} {n0 : Nat} {bf : ab_B} : decode (ab_code (zx σ n0 bf).1 8278) 0 = .ok (.aload_n 0, 1) := zd zm_8278 (by decide +kernel)
theorem d_8278_1 {σ : Nat → Nat} {n0 : Nat} {bf : ab_B} : decode (ab_code (zx σ n0 bf).1 8278) 1 = .ok (.aload_n 0, 1) := zd zm_8278 (by decide +kernel)
theorem d_8278_2 {σ : Nat → Nat} {n0 : Nat} {bf : ab_B} : decode (ab_code (zx σ n0 bf).1 8278) 2 = .ok (.iload_n 1, 1) := zd zm_8278 (by decide +kernel)
theorem d_8278_3 {σ : Nat → Nat} {n0 : Nat} {bf : ab_B} : decode (ab_code (zx σ n0 bf).1 8278) 3 = .ok (.invokevirtual 1515, 3) := zd zm_8278 (by decide +kernel)
theorem d_8278_6 {σ : Nat → Nat} {n0 : Nat} {bf : ab_B} : decode (ab_code (zx σ n0 bf).1 8278) 6 = .ok (.ifCond .eq 12, 3) := zd zm_8278 (by decide +kernel)
theorem d_8278_9 {σ : Nat → Nat} {n0 : Nat} {bf : ab_B} : decode (ab_code (zx σ n0 bf).1 8278) 9 = .ok (.iload_n 2, 1) := zd zm_8278 (by decide +kernel)
theorem d_8278_10 {σ : Nat → Nat} {n0 : Nat} {bf : ab_B} : decode (ab_code (zx σ n0 bf).1 8278) 10 = .ok (.ifCond .lt 8, 3) := zd zm_8278 (by decide +kernel)
theorem d_8278_13 {σ : Nat → Nat} {n0 : Nat} {bf : ab_B} : decode (ab_code (zx σ n0 bf).1 8278) 13 = .ok (.iload_n 2, 1) := zd zm_8278 (by decide +kernel)
theorem d_8278_14 {σ : Nat → Nat} {n0 : Nat} {bf : ab_B} : decode (ab_code (zx σ n0 bf).1 8278) 14 = .ok (.iconst 3, 1) := zd zm_8278 (by decide +kernel)
theorem d_8278_15 {σ : Nat → Nat} {n0 : Nat} {bf : ab_B} : decode (ab_code (zx σ n0 bf).1 8278) 15 = .ok (.if_icmp .le 7, 3) := zd zm_8278 (by decide +kernel)
theorem d_8278_18 {σ : Nat → Nat} {n0 : Nat} {bf : ab_B} : decode (ab_code (zx σ n0 bf).1 8278) 18 = .ok (.iconst 1, 1) := zd zm_8278 (by decide +kernel)
theorem d_8278_19 {σ : Nat → Nat} {n0 : Nat} {bf : ab_B} : decode (ab_code (zx σ n0 bf).1 8278) 19 = .ok (.goto 4, 3) := zd zm_8278 (by decide +kernel)
theorem d_8278_22 {σ : Nat → Nat} {n0 : Nat} {bf : ab_B} : decode (ab_code (zx σ n0 bf).1 8278) 22 = .ok (.iconst 0, 1) := zd zm_8278 (by decide +kernel)
theorem d_8278_23 {σ : Nat → Nat} {n0 : Nat} {bf : ab_B} : decode (ab_code (zx σ n0 bf).1 8278) 23 = .ok (.putfield 441, 3) := zd zm_8278 (by decide +kernel)
theorem d_8278_26 {σ : Nat → Nat} {n0 : Nat} {bf : ab_B} : decode (ab_code (zx σ n0 bf).1 8278) 26 = .ok (.aload_n 0, 1) := zd zm_8278 (by decide +kernel)
theorem d_8278_27 {σ : Nat → Nat} {n0 : Nat} {bf : ab_B} : decode (ab_code (zx σ n0 bf).1 8278) 27 = .ok (.getfield 441, 3) := zd zm_8278 (by decide +kernel)
theorem d_8278_30 {σ : Nat → Nat} {n0 : Nat} {bf : ab_B} : decode (ab_code (zx σ n0 bf).1 8278) 30 = .ok (.ifCond .le 5, 3) := zd zm_8278 (by decide +kernel)
theorem d_8278_33 {σ : Nat → Nat} {n0 : Nat} {bf : ab_B} : decode (ab_code (zx σ n0 bf).1 8278) 33 = .ok (.iconst 0, 1) := zd zm_8278 (by decide +kernel)
theorem d_8278_34 {σ : Nat → Nat} {n0 : Nat} {bf : ab_B} : decode (ab_code (zx σ n0 bf).1 8278) 34 = .ok (.ireturn, 1) := zd zm_8278 (by decide +kernel)
theorem d_8278_35 {σ : Nat → Nat} {n0 : Nat} {bf : ab_B} : decode (ab_code (zx σ n0 bf).1 8278) 35 = .ok (.aload_n 0, 1) := zd zm_8278 (by decide +kernel)
theorem d_8278_36 {σ : Nat → Nat} {n0 : Nat} {bf : ab_B} : decode (ab_code (zx σ n0 bf).1 8278) 36 = .ok (.getfield 1240, 3) := zd zm_8278 (by decide +kernel)
theorem d_8278_39 {σ : Nat → Nat} {n0 : Nat} {bf : ab_B} : decode (ab_code (zx σ n0 bf).1 8278) 39 = .ok (.iconst 1, 1) := zd zm_8278 (by decide +kernel)
theorem d_8278_40 {σ : Nat → Nat} {n0 : Nat} {bf : ab_B} : decode (ab_code (zx σ n0 bf).1 8278) 40 = .ok (.isub, 1) := zd zm_8278 (by decide +kernel)
theorem d_8278_41 {σ : Nat → Nat} {n0 : Nat} {bf : ab_B} : decode (ab_code (zx σ n0 bf).1 8278) 41 = .ok (.iload_n 1, 1) := zd zm_8278 (by decide +kernel)
theorem d_8278_42 {σ : Nat → Nat} {n0 : Nat} {bf : ab_B} : decode (ab_code (zx σ n0 bf).1 8278) 42 = .ok (.isub, 1) := zd zm_8278 (by decide +kernel)
theorem d_8278_43 {σ : Nat → Nat} {n0 : Nat} {bf : ab_B} : decode (ab_code (zx σ n0 bf).1 8278) 43 = .ok (.istore_n 3, 1) := zd zm_8278 (by decide +kernel)
theorem d_8278_44 {σ : Nat → Nat} {n0 : Nat} {bf : ab_B} : decode (ab_code (zx σ n0 bf).1 8278) 44 = .ok (.iload_n 2, 1) := zd zm_8278 (by decide +kernel)
theorem d_8278_45 {σ : Nat → Nat} {n0 : Nat} {bf : ab_B} : decode (ab_code (zx σ n0 bf).1 8278) 45 = .ok (.ifCond .ne 12, 3) := zd zm_8278 (by decide +kernel)
theorem d_8278_48 {σ : Nat → Nat} {n0 : Nat} {bf : ab_B} : decode (ab_code (zx σ n0 bf).1 8278) 48 = .ok (.aload_n 0, 1) := zd zm_8278 (by decide +kernel)
theorem d_8278_49 {σ : Nat → Nat} {n0 : Nat} {bf : ab_B} : decode (ab_code (zx σ n0 bf).1 8278) 49 = .ok (.getfield 335, 3) := zd zm_8278 (by decide +kernel)
theorem d_8278_52 {σ : Nat → Nat} {n0 : Nat} {bf : ab_B} : decode (ab_code (zx σ n0 bf).1 8278) 52 = .ok (.iload_n 3, 1) := zd zm_8278 (by decide +kernel)
theorem d_8278_53 {σ : Nat → Nat} {n0 : Nat} {bf : ab_B} : decode (ab_code (zx σ n0 bf).1 8278) 53 = .ok (.iaload, 1) := zd zm_8278 (by decide +kernel)
theorem d_8278_54 {σ : Nat → Nat} {n0 : Nat} {bf : ab_B} : decode (ab_code (zx σ n0 bf).1 8278) 54 = .ok (.goto 41, 3) := zd zm_8278 (by decide +kernel)
theorem d_8278_57 {σ : Nat → Nat} {n0 : Nat} {bf : ab_B} : decode (ab_code (zx σ n0 bf).1 8278) 57 = .ok (.iload_n 2, 1) := zd zm_8278 (by decide +kernel)
theorem d_8278_58 {σ : Nat → Nat} {n0 : Nat} {bf : ab_B} : decode (ab_code (zx σ n0 bf).1 8278) 58 = .ok (.iconst 1, 1) := zd zm_8278 (by decide +kernel)
theorem d_8278_59 {σ : Nat → Nat} {n0 : Nat} {bf : ab_B} : decode (ab_code (zx σ n0 bf).1 8278) 59 = .ok (.if_icmp .ne 12, 3) := zd zm_8278 (by decide +kernel)
theorem d_8278_62 {σ : Nat → Nat} {n0 : Nat} {bf : ab_B} : decode (ab_code (zx σ n0 bf).1 8278) 62 = .ok (.aload_n 0, 1) := zd zm_8278 (by decide +kernel)
theorem d_8278_63 {σ : Nat → Nat} {n0 : Nat} {bf : ab_B} : decode (ab_code (zx σ n0 bf).1 8278) 63 = .ok (.getfield 338, 3) := zd zm_8278 (by decide +kernel)
theorem d_8278_66 {σ : Nat → Nat} {n0 : Nat} {bf : ab_B} : decode (ab_code (zx σ n0 bf).1 8278) 66 = .ok (.iload_n 3, 1) := zd zm_8278 (by decide +kernel)
theorem d_8278_67 {σ : Nat → Nat} {n0 : Nat} {bf : ab_B} : decode (ab_code (zx σ n0 bf).1 8278) 67 = .ok (.iaload, 1) := zd zm_8278 (by decide +kernel)
theorem d_8278_68 {σ : Nat → Nat} {n0 : Nat} {bf : ab_B} : decode (ab_code (zx σ n0 bf).1 8278) 68 = .ok (.goto 27, 3) := zd zm_8278 (by decide +kernel)
theorem d_8278_71 {σ : Nat → Nat} {n0 : Nat} {bf : ab_B} : decode (ab_code (zx σ n0 bf).1 8278) 71 = .ok (.iload_n 2, 1) := zd zm_8278 (by decide +kernel)
theorem d_8278_72 {σ : Nat → Nat} {n0 : Nat} {bf : ab_B} : decode (ab_code (zx σ n0 bf).1 8278) 72 = .ok (.iconst 2, 1) := zd zm_8278 (by decide +kernel)
theorem d_8278_73 {σ : Nat → Nat} {n0 : Nat} {bf : ab_B} : decode (ab_code (zx σ n0 bf).1 8278) 73 = .ok (.if_icmp .ne 16, 3) := zd zm_8278 (by decide +kernel)
theorem d_8278_76 {σ : Nat → Nat} {n0 : Nat} {bf : ab_B} : decode (ab_code (zx σ n0 bf).1 8278) 76 = .ok (.aload_n 0, 1) := zd zm_8278 (by decide +kernel)
theorem d_8278_77 {σ : Nat → Nat} {n0 : Nat} {bf : ab_B} : decode (ab_code (zx σ n0 bf).1 8278) 77 = .ok (.aload_n 0, 1) := zd zm_8278 (by decide +kernel)
theorem d_8278_78 {σ : Nat → Nat} {n0 : Nat} {bf : ab_B} : decode (ab_code (zx σ n0 bf).1 8278) 78 = .ok (.getfield 335, 3) := zd zm_8278 (by decide +kernel)
theorem d_8278_81 {σ : Nat → Nat} {n0 : Nat} {bf : ab_B} : decode (ab_code (zx σ n0 bf).1 8278) 81 = .ok (.iload_n 3, 1) := zd zm_8278 (by decide +kernel)
theorem d_8278_82 {σ : Nat → Nat} {n0 : Nat} {bf : ab_B} : decode (ab_code (zx σ n0 bf).1 8278) 82 = .ok (.iaload, 1) := zd zm_8278 (by decide +kernel)
theorem d_8278_83 {σ : Nat → Nat} {n0 : Nat} {bf : ab_B} : decode (ab_code (zx σ n0 bf).1 8278) 83 = .ok (.invokevirtual 1518, 3) := zd zm_8278 (by decide +kernel)
theorem d_8278_86 {σ : Nat → Nat} {n0 : Nat} {bf : ab_B} : decode (ab_code (zx σ n0 bf).1 8278) 86 = .ok (.goto 9, 3) := zd zm_8278 (by decide +kernel)
theorem d_8278_89 {σ : Nat → Nat} {n0 : Nat} {bf : ab_B} : decode (ab_code (zx σ n0 bf).1 8278) 89 = .ok (.aload_n 0, 1) := zd zm_8278 (by decide +kernel)
theorem d_8278_90 {σ : Nat → Nat} {n0 : Nat} {bf : ab_B} : decode (ab_code (zx σ n0 bf).1 8278) 90 = .ok (.getfield 359, 3) := zd zm_8278 (by decide +kernel)
theorem d_8278_93 {σ : Nat → Nat} {n0 : Nat} {bf : ab_B} : decode (ab_code (zx σ n0 bf).1 8278) 93 = .ok (.iload_n 3, 1) := zd zm_8278 (by decide +kernel)
theorem d_8278_94 {σ : Nat → Nat} {n0 : Nat} {bf : ab_B} : decode (ab_code (zx σ n0 bf).1 8278) 94 = .ok (.iaload, 1) := zd zm_8278 (by decide +kernel)
theorem d_8278_95 {σ : Nat → Nat} {n0 : Nat} {bf : ab_B} : decode (ab_code (zx σ n0 bf).1 8278) 95 = .ok (.ireturn, 1) := zd zm_8278 (by decide +kernel)
def w_X9_activation_71 (X : zs_X) (d : Nat) (p0 : Nat) (p2 : Int32) (p3 : Int32) (S : zs_T) (Q : zs_Q) : Prop :=
  (((¬ p2 = (2 : Int32) → (zs_K S p0 = some (.inl 8) ∧ ∃ b3, (zs_R S 8164 p0) = some b3 ∧ zs_A S b3 0 p3 ∧ Q (.returned (some (.int (zs_i S b3 p3.toNatClampNeg)))) S)) ∧ (¬ (¬ p2 = (2 : Int32)) → (zs_K S p0 = some (.inl 8) ∧ ∃ b7, (zs_R S 8156 p0) = some b7 ∧ zs_A S b7 0 p3 ∧ zs_C X d 8280 [.ref p0, .int (zs_i S b7 p3.toNatClampNeg)] S (zs_kI (fun v11 S10 => (Q (.returned (some (.int v11))) S10)) Q)))))
theorem u_X9_activation_71 {σ : Nat → Nat} {n0 : Nat} {bf : ab_B} {d : Nat} {p0 : Nat} {p2 : Int32} {p3 : Int32} {S : zs_T} {Q : zs_Q} (hB : zt_B bf) (h : w_X9_activation_71 (zx σ n0 bf) d p0 p2 p3 S Q) : zs_U (zx σ n0 bf) d 8278 71 [(0, .ref p0), (2, .int p2), (3, .int p3)] [] S Q := by
  unfold w_X9_activation_71 at h
  refine zu_iload_n d_8278_71 rfl ?_
  refine zu_iconst d_8278_72 zi_2 ?_
  refine zu_cmpne (t := 89) d_8278_73 rfl (fun c1 => ?_) (fun c1 => ?_)
  · have h := h.1 c1
    refine zu_aload_n d_8278_89 rfl (zs_ra _) ?_
    obtain ⟨k2, h⟩ := h
    refine zg_8_359 rfl d_8278_90 k2 ?_
    refine zu_iload_n d_8278_93 rfl ?_
    obtain ⟨b3, e4, h⟩ := h
    refine zs_stk1 (zs_rfe e4) ?_
    obtain ⟨k5, h⟩ := h
    refine zu_iald (k := 0) d_8278_94 rfl rfl k5 ?_
    exact zu_iret d_8278_95 zr_8278 rfl h
  · have h := h.2 c1
    refine zu_aload_n d_8278_76 rfl (zs_ra _) ?_
    refine zu_aload_n d_8278_77 rfl (zs_ra _) ?_
    obtain ⟨k6, h⟩ := h
    refine zg_8_335 rfl d_8278_78 k6 ?_
    refine zu_iload_n d_8278_81 rfl ?_
    obtain ⟨b7, e8, h⟩ := h
    refine zs_stk1 (zs_rfe e8) ?_
    obtain ⟨k9, h⟩ := h
    refine zu_iald (k := 0) d_8278_82 rfl rfl k9 ?_
    refine zc_8_1518 (x0 := (zs_i S b7 p3.toNatClampNeg)) hB rfl k6 d_8278_83 (Nat.le_of_ble_eq_true rfl) h (fun v11 S10 h => ?_)
    refine zu_goto (t := 95) d_8278_86 rfl ?_
    exact zu_iret d_8278_95 zr_8278 rfl h
def w_X9_activation_62 (X : zs_X) (d : Nat) (p0 : Nat) (p3 : Int32) (S : zs_T) (Q : zs_Q) : Prop :=
  (zs_K S p0 = some (.inl 8) ∧ ∃ b2, (zs_R S 8157 p0) = some b2 ∧ zs_A S b2 0 p3 ∧ Q (.returned (some (.int (zs_i S b2 p3.toNatClampNeg)))) S)
theorem u_X9_activation_62 {σ : Nat → Nat} {n0 : Nat} {bf : ab_B} {d : Nat} {p0 : Nat} {p3 : Int32} {S : zs_T} {Q : zs_Q} (hB : zt_B bf) (h : w_X9_activation_62 (zx σ n0 bf) d p0 p3 S Q) : zs_U (zx σ n0 bf) d 8278 62 [(0, .ref p0), (3, .int p3)] [] S Q := by
  unfold w_X9_activation_62 at h
  refine zu_aload_n d_8278_62 rfl (zs_ra _) ?_
  obtain ⟨k1, h⟩ := h
  refine zg_8_338 rfl d_8278_63 k1 ?_
  refine zu_iload_n d_8278_66 rfl ?_
  obtain ⟨b2, e3, h⟩ := h
  refine zs_stk1 (zs_rfe e3) ?_
  obtain ⟨k4, h⟩ := h
  refine zu_iald (k := 0) d_8278_67 rfl rfl k4 ?_
  refine zu_goto (t := 95) d_8278_68 rfl ?_
  exact zu_iret d_8278_95 zr_8278 rfl h
def w_X9_activation_23 (X : zs_X) (d : Nat) (p0 : Nat) (p1 : Int32) (p2 : Int32) (q0 : Option Nat) (q1 : Int32) (S : zs_T) (Q : zs_Q) : Prop :=
  (∃ b1, q0 = some b1 ∧ zs_K S b1 = some (.inl 8) ∧ ab_n0 X.1 ≤ b1 ∧ ∀ S5, S5 = zs_sI S 8000 b1 q1 → zs_K S p0 = some (.inl 8) ∧ (((zs_I S5 8000 p0) ≤ 0 → (((¬ p2 = 0 → (((¬ p2 = (1 : Int32) → w_X9_activation_71 X d p0 p2 (((zs_I S5 8165 p0) - (1 : Int32)) - p1) S5 Q) ∧ (¬ (¬ p2 = (1 : Int32)) → w_X9_activation_62 X d p0 (((zs_I S5 8165 p0) - (1 : Int32)) - p1) S5 Q)))) ∧ (¬ (¬ p2 = 0) → (∃ b12, (zs_R S5 8156 p0) = some b12 ∧ zs_A S b12 0 (((zs_I S5 8165 p0) - (1 : Int32)) - p1) ∧ Q (.returned (some (.int (zs_i S5 b12 (((zs_I S5 8165 p0) - (1 : Int32)) - p1).toNatClampNeg)))) S5))))) ∧ (¬ ((zs_I S5 8000 p0) ≤ 0) → (Q (.returned (some (.int (0 : Int32)))) S5))))
theorem u_X9_activation_23 {σ : Nat → Nat} {n0 : Nat} {bf : ab_B} {d : Nat} {p0 : Nat} {p1 : Int32} {p2 : Int32} {q0 : Option Nat} {q1 : Int32} {S : zs_T} {Q : zs_Q} (hB : zt_B bf) (h : w_X9_activation_23 (zx σ n0 bf) d p0 p1 p2 q0 q1 S Q) : zs_U (zx σ n0 bf) d 8278 23 [(0, .ref p0), (1, .int p1), (2, .int p2)] [.int q1, va_rf q0] S Q := by
  unfold w_X9_activation_23 at h
  obtain ⟨b1, e2, h⟩ := h
  refine zs_stk1 (zs_rfe e2) ?_
  obtain ⟨k3, h⟩ := h
  obtain ⟨k4, h⟩ := h
  refine zp_8_441 (v := q1) rfl d_8278_23 k3 k4 ?_
  generalize e6 : zs_sI S 8000 b1 q1 = S5
  have h := h S5 e6.symm
  have K7 : ∀ b, zs_K S5 b = zs_K S b := zs_Kt e6 (zs_KsI _ _ _ _) (fun _ => rfl)
  refine zu_aload_n d_8278_26 rfl (zs_ra _) ?_
  obtain ⟨k8, h⟩ := h
  refine zg_8_441 rfl d_8278_27 ((K7 _).trans k8) ?_
  refine zu_ifle (t := 35) d_8278_30 rfl (fun c9 => ?_) (fun c9 => ?_)
  · have h := h.1 c9
    refine zu_aload_n d_8278_35 rfl (zs_ra _) ?_
    refine zg_8_1240 rfl d_8278_36 ((K7 _).trans k8) ?_
    refine zu_iconst d_8278_39 zi_1 ?_
    refine zu_stk d_8278_40 rfl rfl ?_
    refine zu_iload_n d_8278_41 rfl ?_
    refine zu_stk d_8278_42 rfl rfl ?_
    refine zu_istore_n d_8278_43 (zs_lt zq_8278 rfl) ?_
    refine zu_iload_n d_8278_44 rfl ?_
    refine zu_ifne (t := 57) d_8278_45 rfl (fun c10 => ?_) (fun c10 => ?_)
    · have h := h.1 c10
      refine zu_iload_n d_8278_57 rfl ?_
      refine zu_iconst d_8278_58 zi_1 ?_
      refine zu_cmpne (t := 71) d_8278_59 rfl (fun c11 => ?_) (fun c11 => ?_)
      · have h := h.1 c11
        exact (u_X9_activation_71 hB h).weak ⟨rfl, rfl, rfl, trivial⟩
      · have h := h.2 c11
        exact (u_X9_activation_62 hB h).weak ⟨rfl, rfl, trivial⟩
    · have h := h.2 c10
      refine zu_aload_n d_8278_48 rfl (zs_ra _) ?_
      refine zg_8_335 rfl d_8278_49 ((K7 _).trans k8) ?_
      refine zu_iload_n d_8278_52 rfl ?_
      obtain ⟨b12, e13, h⟩ := h
      refine zs_stk1 (zs_rfe e13) ?_
      obtain ⟨k14, h⟩ := h
      refine zu_iald (k := 0) d_8278_53 rfl rfl (zs_Ak K7 k14) ?_
      refine zu_goto (t := 95) d_8278_54 rfl ?_
      exact zu_iret d_8278_95 zr_8278 rfl h
  · have h := h.2 c9
    refine zu_iconst d_8278_33 zi_0 ?_
    exact zu_iret d_8278_34 zr_8278 rfl h
def w_X9_activation_18 (X : zs_X) (d : Nat) (p0 : Nat) (p1 : Int32) (p2 : Int32) (q0 : Option Nat) (S : zs_T) (Q : zs_Q) : Prop :=
  (w_X9_activation_23 X d p0 p1 p2 q0 (1 : Int32) S Q)
theorem u_X9_activation_18 {σ : Nat → Nat} {n0 : Nat} {bf : ab_B} {d : Nat} {p0 : Nat} {p1 : Int32} {p2 : Int32} {q0 : Option Nat} {S : zs_T} {Q : zs_Q} (hB : zt_B bf) (h : w_X9_activation_18 (zx σ n0 bf) d p0 p1 p2 q0 S Q) : zs_U (zx σ n0 bf) d 8278 18 [(0, .ref p0), (1, .int p1), (2, .int p2)] [va_rf q0] S Q := by
  unfold w_X9_activation_18 at h
  refine zu_iconst d_8278_18 zi_1 ?_
  refine zu_goto (t := 23) d_8278_19 rfl ?_
  exact (u_X9_activation_23 hB h).weak ⟨rfl, rfl, rfl, trivial⟩
def w_X9_activation (X : zs_X) (d : Nat) (p0 : Nat) (p1 : Int32) (p2 : Int32) (S : zs_T) (Q : zs_Q) : Prop :=
  (zs_K S p0 = some (.inl 8) ∧ zs_C X d 8279 [.ref p0, .int p1] S (zs_kI (fun v3 S2 => (((v3 = 0 → w_X9_activation_18 X d p0 p1 p2 (some p0) S2 Q) ∧ (¬ (v3 = 0) → (((p2 < 0 → w_X9_activation_18 X d p0 p1 p2 (some p0) S2 Q) ∧ (¬ (p2 < 0) → (((p2 ≤ (3 : Int32) → (w_X9_activation_23 X d p0 p1 p2 (some p0) (0 : Int32) S2 Q)) ∧ (¬ (p2 ≤ (3 : Int32)) → w_X9_activation_18 X d p0 p1 p2 (some p0) S2 Q)))))))))) Q))
theorem u_X9_activation {σ : Nat → Nat} {n0 : Nat} {bf : ab_B} {d : Nat} {p0 : Nat} {p1 : Int32} {p2 : Int32} {S : zs_T} {Q : zs_Q} (hB : zt_B bf) (hd : 1 ≤ d) (h : w_X9_activation (zx σ n0 bf) (d - 1) p0 p1 p2 S Q) : zs_C (zx σ n0 bf) d 8278 [.ref p0, .int p1, .int p2] S Q := by
  have hL : lv_args 0 [.ref p0, .int p1, .int p2] = [(0, .ref p0), (1, .int p1), (2, .int p2)] := rfl
  refine zs_C.of1 (hB.2 8278 (by decide) (by decide)) hd (by rw [hL]; exact zs_sub_self _ (by exact ⟨rfl, rfl, rfl, trivial⟩)) ?_
  rw [hL]
  clear hL
  unfold w_X9_activation at h
  refine zu_aload_n d_8278_0 rfl (zs_ra _) ?_
  refine zu_aload_n d_8278_1 rfl (zs_ra _) ?_
  refine zu_iload_n d_8278_2 rfl ?_
  obtain ⟨k1, h⟩ := h
  refine zc_8_1515 (x0 := p1) hB rfl k1 d_8278_3 (Nat.le_of_ble_eq_true rfl) h (fun v3 S2 h => ?_)
  refine zu_ifeq (t := 18) d_8278_6 rfl (fun c4 => ?_) (fun c4 => ?_)
  · have h := h.1 c4
    exact (u_X9_activation_18 hB h).weak ⟨rfl, rfl, rfl, trivial⟩
  · have h := h.2 c4
    refine zu_iload_n d_8278_9 rfl ?_
    refine zu_iflt (t := 18) d_8278_10 rfl (fun c5 => ?_) (fun c5 => ?_)
    · have h := h.1 c5
      exact (u_X9_activation_18 hB h).weak ⟨rfl, rfl, rfl, trivial⟩
    · have h := h.2 c5
      refine zu_iload_n d_8278_13 rfl ?_
      refine zu_iconst d_8278_14 zi_3 ?_
      refine zu_cmple (t := 22) d_8278_15 rfl (fun c6 => ?_) (fun c6 => ?_)
      · have h := h.1 c6
        refine zu_iconst d_8278_22 zi_0 ?_
        exact (u_X9_activation_23 hB h).weak ⟨rfl, rfl, rfl, trivial⟩
      · have h := h.2 c6
        exact (u_X9_activation_18 hB h).weak ⟨rfl, rfl, rfl, trivial⟩
/-! SchemaPascalModel.isAct(I)Z -/
theorem zm_8279 {σ : Nat → Nat} {n0 : Nat} {bf : ab_B} : ab_code (zx σ n0 bf).1 8279 = prog_17_method_279_code := rfl
theorem zq_8279 {σ : Nat → Nat} {n0 : Nat} {bf : ab_B} : ab_maxL (zx σ n0 bf).1 8279 = 2 := rfl
theorem zr_8279 {σ : Nat → Nat} {n0 : Nat} {bf : ab_B} : ab_ret (zx σ n0 bf).1 8279 = (Option.some Jvm.ClassFile.FieldType.boolean) := rfl
theorem d_8279_0 {σ : Nat → Nat} {n0 : Nat} {bf : ab_B} : decode (ab_code (zx σ n0 bf).1 8279) 0 = .ok (.iload_n 1, 1) := zd zm_8279 (by decide +kernel)
theorem d_8279_1 {σ : Nat → Nat} {n0 : Nat} {bf : ab_B} : decode (ab_code (zx σ n0 bf).1 8279) 1 = .ok (.ifCond .lt 15, 3) := zd zm_8279 (by decide +kernel)
theorem d_8279_4 {σ : Nat → Nat} {n0 : Nat} {bf : ab_B} : decode (ab_code (zx σ n0 bf).1 8279) 4 = .ok (.iload_n 1, 1) := zd zm_8279 (by decide +kernel)
theorem d_8279_5 {σ : Nat → Nat} {n0 : Nat} {bf : ab_B} : decode (ab_code (zx σ n0 bf).1 8279) 5 = .ok (.aload_n 0, 1) := zd zm_8279 (by decide +kernel)
theorem d_8279_6 {σ : Nat → Nat} {n0 : Nat} {bf : ab_B} : decode (ab_code (zx σ n0 bf).1 8279) 6 = .ok (.getfield 1240, 3) := zd zm_8279 (by decide +kernel)
theorem d_8279_9 {σ : Nat → Nat} {n0 : Nat} {bf : ab_B} : decode (ab_code (zx σ n0 bf).1 8279) 9 = .ok (.if_icmp .ge 7, 3) := zd zm_8279 (by decide +kernel)
theorem d_8279_12 {σ : Nat → Nat} {n0 : Nat} {bf : ab_B} : decode (ab_code (zx σ n0 bf).1 8279) 12 = .ok (.iconst 1, 1) := zd zm_8279 (by decide +kernel)
theorem d_8279_13 {σ : Nat → Nat} {n0 : Nat} {bf : ab_B} : decode (ab_code (zx σ n0 bf).1 8279) 13 = .ok (.goto 4, 3) := zd zm_8279 (by decide +kernel)
theorem d_8279_16 {σ : Nat → Nat} {n0 : Nat} {bf : ab_B} : decode (ab_code (zx σ n0 bf).1 8279) 16 = .ok (.iconst 0, 1) := zd zm_8279 (by decide +kernel)
theorem d_8279_17 {σ : Nat → Nat} {n0 : Nat} {bf : ab_B} : decode (ab_code (zx σ n0 bf).1 8279) 17 = .ok (.ireturn, 1) := zd zm_8279 (by decide +kernel)
def w_X9_isAct (X : zs_X) (d : Nat) (p0 : Nat) (p1 : Int32) (S : zs_T) (Q : zs_Q) : Prop :=
  (((p1 < 0 → (Q (.returned (some (.int (0 : Int32)))) S)) ∧ (¬ (p1 < 0) → (zs_K S p0 = some (.inl 8) ∧ (((zs_I S 8165 p0) ≤ p1 → (Q (.returned (some (.int (0 : Int32)))) S)) ∧ (¬ ((zs_I S 8165 p0) ≤ p1) → (Q (.returned (some (.int (1 : Int32)))) S)))))))
theorem u_X9_isAct {σ : Nat → Nat} {n0 : Nat} {bf : ab_B} {d : Nat} {p0 : Nat} {p1 : Int32} {S : zs_T} {Q : zs_Q} (hB : zt_B bf) (hd : 1 ≤ d) (h : w_X9_isAct (zx σ n0 bf) (d - 1) p0 p1 S Q) : zs_C (zx σ n0 bf) d 8279 [.ref p0, .int p1] S Q := by
  have hL : lv_args 0 [.ref p0, .int p1] = [(0, .ref p0), (1, .int p1)] := rfl
  refine zs_C.of1 (hB.2 8279 (by decide) (by decide)) hd (by rw [hL]; exact zs_sub_self _ (by exact ⟨rfl, rfl, trivial⟩)) ?_
  rw [hL]
  clear hL
  unfold w_X9_isAct at h
  refine zu_iload_n d_8279_0 rfl ?_
  refine zu_iflt (t := 16) d_8279_1 rfl (fun c1 => ?_) (fun c1 => ?_)
  · have h := h.1 c1
    refine zu_iconst d_8279_16 zi_0 ?_
    exact zu_iret d_8279_17 zr_8279 (zs_b_n (Or.inl rfl)) h
  · have h := h.2 c1
    refine zu_iload_n d_8279_4 rfl ?_
    refine zu_aload_n d_8279_5 rfl (zs_ra _) ?_
    obtain ⟨k2, h⟩ := h
    refine zg_8_1240 rfl d_8279_6 k2 ?_
    refine zu_cmpge (t := 16) d_8279_9 rfl (fun c3 => ?_) (fun c3 => ?_)
    · have h := h.1 c3
      refine zu_iconst d_8279_16 zi_0 ?_
      exact zu_iret d_8279_17 zr_8279 (zs_b_n (Or.inl rfl)) h
    · have h := h.2 c3
      refine zu_iconst d_8279_12 zi_1 ?_
      refine zu_goto (t := 17) d_8279_13 rfl ?_
      exact zu_iret d_8279_17 zr_8279 (zs_b_n (Or.inr rfl)) h
/-! SchemaPascalModel.variablesOf(I)I -/
theorem zm_8280 {σ : Nat → Nat} {n0 : Nat} {bf : ab_B} : ab_code (zx σ n0 bf).1 8280 = prog_17_method_280_code := rfl
theorem zq_8280 {σ : Nat → Nat} {n0 : Nat} {bf : ab_B} : ab_maxL (zx σ n0 bf).1 8280 = 2 := rfl
theorem zr_8280 {σ : Nat → Nat} {n0 : Nat} {bf : ab_B} : ab_ret (zx σ n0 bf).1 8280 = (Option.some Jvm.ClassFile.FieldType.int) := rfl
theorem d_8280_0 {σ : Nat → Nat} {n0 : Nat} {bf : ab_B} : decode (ab_code (zx σ n0 bf).1 8280) 0 = .ok (.aload_n 0, 1) := zd zm_8280 (by decide +kernel)
theorem d_8280_1 {σ : Nat → Nat} {n0 : Nat} {bf : ab_B} : decode (ab_code (zx σ n0 bf).1 8280) 1 = .ok (.getfield 221, 3) := zd zm_8280 (by decide +kernel)
theorem d_8280_4 {σ : Nat → Nat} {n0 : Nat} {bf : ab_B} : decode (ab_code (zx σ n0 bf).1 8280) 4 = .ok (.iload_n 1, 1) := zd zm_8280 (by decide +kernel)
theorem d_8280_5 {σ : Nat → Nat} {n0 : Nat} {bf : ab_B} : decode (ab_code (zx σ n0 bf).1 8280) 5 = .ok (.iaload, 1) := zd zm_8280 (by decide +kernel)
theorem d_8280_6 {σ : Nat → Nat} {n0 : Nat} {bf : ab_B} : decode (ab_code (zx σ n0 bf).1 8280) 6 = .ok (.aload_n 0, 1) := zd zm_8280 (by decide +kernel)
theorem d_8280_7 {σ : Nat → Nat} {n0 : Nat} {bf : ab_B} : decode (ab_code (zx σ n0 bf).1 8280) 7 = .ok (.getfield 215, 3) := zd zm_8280 (by decide +kernel)
theorem d_8280_10 {σ : Nat → Nat} {n0 : Nat} {bf : ab_B} : decode (ab_code (zx σ n0 bf).1 8280) 10 = .ok (.iload_n 1, 1) := zd zm_8280 (by decide +kernel)
theorem d_8280_11 {σ : Nat → Nat} {n0 : Nat} {bf : ab_B} : decode (ab_code (zx σ n0 bf).1 8280) 11 = .ok (.iaload, 1) := zd zm_8280 (by decide +kernel)
theorem d_8280_12 {σ : Nat → Nat} {n0 : Nat} {bf : ab_B} : decode (ab_code (zx σ n0 bf).1 8280) 12 = .ok (.ifCond .le 7, 3) := zd zm_8280 (by decide +kernel)
theorem d_8280_15 {σ : Nat → Nat} {n0 : Nat} {bf : ab_B} : decode (ab_code (zx σ n0 bf).1 8280) 15 = .ok (.iconst 1, 1) := zd zm_8280 (by decide +kernel)
theorem d_8280_16 {σ : Nat → Nat} {n0 : Nat} {bf : ab_B} : decode (ab_code (zx σ n0 bf).1 8280) 16 = .ok (.goto 4, 3) := zd zm_8280 (by decide +kernel)
theorem d_8280_19 {σ : Nat → Nat} {n0 : Nat} {bf : ab_B} : decode (ab_code (zx σ n0 bf).1 8280) 19 = .ok (.iconst 0, 1) := zd zm_8280 (by decide +kernel)
theorem d_8280_20 {σ : Nat → Nat} {n0 : Nat} {bf : ab_B} : decode (ab_code (zx σ n0 bf).1 8280) 20 = .ok (.iadd, 1) := zd zm_8280 (by decide +kernel)
theorem d_8280_21 {σ : Nat → Nat} {n0 : Nat} {bf : ab_B} : decode (ab_code (zx σ n0 bf).1 8280) 21 = .ok (.ireturn, 1) := zd zm_8280 (by decide +kernel)
def w_X9_variablesOf (X : zs_X) (d : Nat) (p0 : Nat) (p1 : Int32) (S : zs_T) (Q : zs_Q) : Prop :=
  (zs_K S p0 = some (.inl 8) ∧ ∃ b2, (zs_R S 8102 p0) = some b2 ∧ zs_A S b2 0 p1 ∧ ∃ b5, (zs_R S 8100 p0) = some b5 ∧ zs_A S b5 0 p1 ∧ (((zs_i S b5 p1.toNatClampNeg) ≤ 0 → (Q (.returned (some (.int ((zs_i S b2 p1.toNatClampNeg) + (0 : Int32))))) S)) ∧ (¬ ((zs_i S b5 p1.toNatClampNeg) ≤ 0) → (Q (.returned (some (.int ((zs_i S b2 p1.toNatClampNeg) + (1 : Int32))))) S))))
theorem u_X9_variablesOf {σ : Nat → Nat} {n0 : Nat} {bf : ab_B} {d : Nat} {p0 : Nat} {p1 : Int32} {S : zs_T} {Q : zs_Q} (hB : zt_B bf) (hd : 1 ≤ d) (h : w_X9_variablesOf (zx σ n0 bf) (d - 1) p0 p1 S Q) : zs_C (zx σ n0 bf) d 8280 [.ref p0, .int p1] S Q := by
  have hL : lv_args 0 [.ref p0, .int p1] = [(0, .ref p0), (1, .int p1)] := rfl
  refine zs_C.of1 (hB.2 8280 (by decide) (by decide)) hd (by rw [hL]; exact zs_sub_self _ (by exact ⟨rfl, rfl, trivial⟩)) ?_
  rw [hL]
  clear hL
  unfold w_X9_variablesOf at h
  refine zu_aload_n d_8280_0 rfl (zs_ra _) ?_
  obtain ⟨k1, h⟩ := h
  refine zg_8_221 rfl d_8280_1 k1 ?_
  refine zu_iload_n d_8280_4 rfl ?_
  obtain ⟨b2, e3, h⟩ := h
  refine zs_stk1 (zs_rfe e3) ?_
  obtain ⟨k4, h⟩ := h
  refine zu_iald (k := 0) d_8280_5 rfl rfl k4 ?_
  refine zu_aload_n d_8280_6 rfl (zs_ra _) ?_
  refine zg_8_215 rfl d_8280_7 k1 ?_
  refine zu_iload_n d_8280_10 rfl ?_
  obtain ⟨b5, e6, h⟩ := h
  refine zs_stk1 (zs_rfe e6) ?_
  obtain ⟨k7, h⟩ := h
  refine zu_iald (k := 0) d_8280_11 rfl rfl k7 ?_
  refine zu_ifle (t := 19) d_8280_12 rfl (fun c8 => ?_) (fun c8 => ?_)
  · have h := h.1 c8
    refine zu_iconst d_8280_19 zi_0 ?_
    refine zu_stk d_8280_20 rfl rfl ?_
    exact zu_iret d_8280_21 zr_8280 rfl h
  · have h := h.2 c8
    refine zu_iconst d_8280_15 zi_1 ?_
    refine zu_goto (t := 20) d_8280_16 rfl ?_
    refine zu_stk d_8280_20 rfl rfl ?_
    exact zu_iret d_8280_21 zr_8280 rfl h
/-! SchemaPascalModel.value(III)J -/
theorem zm_8281 {σ : Nat → Nat} {n0 : Nat} {bf : ab_B} : ab_code (zx σ n0 bf).1 8281 = prog_17_method_284_code := rfl
theorem zq_8281 {σ : Nat → Nat} {n0 : Nat} {bf : ab_B} : ab_maxL (zx σ n0 bf).1 8281 = 5 := rfl
theorem zr_8281 {σ : Nat → Nat} {n0 : Nat} {bf : ab_B} : ab_ret (zx σ n0 bf).1 8281 = (Option.some Jvm.ClassFile.FieldType.long) := rfl
theorem d_8281_0 {σ : Nat → Nat} {n0 : Nat} {bf : ab_B} : decode (ab_code (zx σ n0 bf).1 8281) 0 = .ok (.aload_n 0, 1) := zd zm_8281 (by decide +kernel)
theorem d_8281_1 {σ : Nat → Nat} {n0 : Nat} {bf : ab_B} : decode (ab_code (zx σ n0 bf).1 8281) 1 = .ok (.iload_n 1, 1) := zd zm_8281 (by decide +kernel)
theorem d_8281_2 {σ : Nat → Nat} {n0 : Nat} {bf : ab_B} : decode (ab_code (zx σ n0 bf).1 8281) 2 = .ok (.iload_n 2, 1) := zd zm_8281 (by decide +kernel)
theorem d_8281_3 {σ : Nat → Nat} {n0 : Nat} {bf : ab_B} : decode (ab_code (zx σ n0 bf).1 8281) 3 = .ok (.invokevirtual 1521, 3) := zd zm_8281 (by decide +kernel)
theorem d_8281_6 {σ : Nat → Nat} {n0 : Nat} {bf : ab_B} : decode (ab_code (zx σ n0 bf).1 8281) 6 = .ok (.istore 4, 2) := zd zm_8281 (by decide +kernel)
theorem d_8281_8 {σ : Nat → Nat} {n0 : Nat} {bf : ab_B} : decode (ab_code (zx σ n0 bf).1 8281) 8 = .ok (.aload_n 0, 1) := zd zm_8281 (by decide +kernel)
theorem d_8281_9 {σ : Nat → Nat} {n0 : Nat} {bf : ab_B} : decode (ab_code (zx σ n0 bf).1 8281) 9 = .ok (.iload 4, 2) := zd zm_8281 (by decide +kernel)
theorem d_8281_11 {σ : Nat → Nat} {n0 : Nat} {bf : ab_B} : decode (ab_code (zx σ n0 bf).1 8281) 11 = .ok (.iconst (-1), 1) := zd zm_8281 (by decide +kernel)
theorem d_8281_12 {σ : Nat → Nat} {n0 : Nat} {bf : ab_B} : decode (ab_code (zx σ n0 bf).1 8281) 12 = .ok (.if_icmp .eq 17, 3) := zd zm_8281 (by decide +kernel)
theorem d_8281_15 {σ : Nat → Nat} {n0 : Nat} {bf : ab_B} : decode (ab_code (zx σ n0 bf).1 8281) 15 = .ok (.iload_n 3, 1) := zd zm_8281 (by decide +kernel)
theorem d_8281_16 {σ : Nat → Nat} {n0 : Nat} {bf : ab_B} : decode (ab_code (zx σ n0 bf).1 8281) 16 = .ok (.ifCond .lt 13, 3) := zd zm_8281 (by decide +kernel)
theorem d_8281_19 {σ : Nat → Nat} {n0 : Nat} {bf : ab_B} : decode (ab_code (zx σ n0 bf).1 8281) 19 = .ok (.iload_n 3, 1) := zd zm_8281 (by decide +kernel)
theorem d_8281_20 {σ : Nat → Nat} {n0 : Nat} {bf : ab_B} : decode (ab_code (zx σ n0 bf).1 8281) 20 = .ok (.aload_n 0, 1) := zd zm_8281 (by decide +kernel)
theorem d_8281_21 {σ : Nat → Nat} {n0 : Nat} {bf : ab_B} : decode (ab_code (zx σ n0 bf).1 8281) 21 = .ok (.iload 4, 2) := zd zm_8281 (by decide +kernel)
theorem d_8281_23 {σ : Nat → Nat} {n0 : Nat} {bf : ab_B} : decode (ab_code (zx σ n0 bf).1 8281) 23 = .ok (.invokevirtual 1524, 3) := zd zm_8281 (by decide +kernel)
theorem d_8281_26 {σ : Nat → Nat} {n0 : Nat} {bf : ab_B} : decode (ab_code (zx σ n0 bf).1 8281) 26 = .ok (.if_icmp .lt 7, 3) := zd zm_8281 (by decide +kernel)
theorem d_8281_29 {σ : Nat → Nat} {n0 : Nat} {bf : ab_B} : decode (ab_code (zx σ n0 bf).1 8281) 29 = .ok (.iconst 1, 1) := zd zm_8281 (by decide +kernel)
theorem d_8281_30 {σ : Nat → Nat} {n0 : Nat} {bf : ab_B} : decode (ab_code (zx σ n0 bf).1 8281) 30 = .ok (.goto 25, 3) := zd zm_8281 (by decide +kernel)
theorem d_8281_33 {σ : Nat → Nat} {n0 : Nat} {bf : ab_B} : decode (ab_code (zx σ n0 bf).1 8281) 33 = .ok (.aload_n 0, 1) := zd zm_8281 (by decide +kernel)
theorem d_8281_34 {σ : Nat → Nat} {n0 : Nat} {bf : ab_B} : decode (ab_code (zx σ n0 bf).1 8281) 34 = .ok (.getfield 376, 3) := zd zm_8281 (by decide +kernel)
theorem d_8281_37 {σ : Nat → Nat} {n0 : Nat} {bf : ab_B} : decode (ab_code (zx σ n0 bf).1 8281) 37 = .ok (.aload_n 0, 1) := zd zm_8281 (by decide +kernel)
theorem d_8281_38 {σ : Nat → Nat} {n0 : Nat} {bf : ab_B} : decode (ab_code (zx σ n0 bf).1 8281) 38 = .ok (.getfield 362, 3) := zd zm_8281 (by decide +kernel)
theorem d_8281_41 {σ : Nat → Nat} {n0 : Nat} {bf : ab_B} : decode (ab_code (zx σ n0 bf).1 8281) 41 = .ok (.iload 4, 2) := zd zm_8281 (by decide +kernel)
theorem d_8281_43 {σ : Nat → Nat} {n0 : Nat} {bf : ab_B} : decode (ab_code (zx σ n0 bf).1 8281) 43 = .ok (.iaload, 1) := zd zm_8281 (by decide +kernel)
theorem d_8281_44 {σ : Nat → Nat} {n0 : Nat} {bf : ab_B} : decode (ab_code (zx σ n0 bf).1 8281) 44 = .ok (.iload_n 3, 1) := zd zm_8281 (by decide +kernel)
theorem d_8281_45 {σ : Nat → Nat} {n0 : Nat} {bf : ab_B} : decode (ab_code (zx σ n0 bf).1 8281) 45 = .ok (.iadd, 1) := zd zm_8281 (by decide +kernel)
theorem d_8281_46 {σ : Nat → Nat} {n0 : Nat} {bf : ab_B} : decode (ab_code (zx σ n0 bf).1 8281) 46 = .ok (.baload, 1) := zd zm_8281 (by decide +kernel)
theorem d_8281_47 {σ : Nat → Nat} {n0 : Nat} {bf : ab_B} : decode (ab_code (zx σ n0 bf).1 8281) 47 = .ok (.ifCond .ne 7, 3) := zd zm_8281 (by decide +kernel)
theorem d_8281_50 {σ : Nat → Nat} {n0 : Nat} {bf : ab_B} : decode (ab_code (zx σ n0 bf).1 8281) 50 = .ok (.iconst 2, 1) := zd zm_8281 (by decide +kernel)
theorem d_8281_51 {σ : Nat → Nat} {n0 : Nat} {bf : ab_B} : decode (ab_code (zx σ n0 bf).1 8281) 51 = .ok (.goto 4, 3) := zd zm_8281 (by decide +kernel)
theorem d_8281_54 {σ : Nat → Nat} {n0 : Nat} {bf : ab_B} : decode (ab_code (zx σ n0 bf).1 8281) 54 = .ok (.iconst 0, 1) := zd zm_8281 (by decide +kernel)
theorem d_8281_55 {σ : Nat → Nat} {n0 : Nat} {bf : ab_B} : decode (ab_code (zx σ n0 bf).1 8281) 55 = .ok (.putfield 441, 3) := zd zm_8281 (by decide +kernel)
theorem d_8281_58 {σ : Nat → Nat} {n0 : Nat} {bf : ab_B} : decode (ab_code (zx σ n0 bf).1 8281) 58 = .ok (.aload_n 0, 1) := zd zm_8281 (by decide +kernel)
theorem d_8281_59 {σ : Nat → Nat} {n0 : Nat} {bf : ab_B} : decode (ab_code (zx σ n0 bf).1 8281) 59 = .ok (.getfield 441, 3) := zd zm_8281 (by decide +kernel)
theorem d_8281_62 {σ : Nat → Nat} {n0 : Nat} {bf : ab_B} : decode (ab_code (zx σ n0 bf).1 8281) 62 = .ok (.ifCond .le 7, 3) := zd zm_8281 (by decide +kernel)
theorem d_8281_65 {σ : Nat → Nat} {n0 : Nat} {bf : ab_B} : decode (ab_code (zx σ n0 bf).1 8281) 65 = .ok (.lconst 0, 1) := zd zm_8281 (by decide +kernel)
theorem d_8281_66 {σ : Nat → Nat} {n0 : Nat} {bf : ab_B} : decode (ab_code (zx σ n0 bf).1 8281) 66 = .ok (.goto 17, 3) := zd zm_8281 (by decide +kernel)
theorem d_8281_69 {σ : Nat → Nat} {n0 : Nat} {bf : ab_B} : decode (ab_code (zx σ n0 bf).1 8281) 69 = .ok (.aload_n 0, 1) := zd zm_8281 (by decide +kernel)
theorem d_8281_70 {σ : Nat → Nat} {n0 : Nat} {bf : ab_B} : decode (ab_code (zx σ n0 bf).1 8281) 70 = .ok (.getfield 373, 3) := zd zm_8281 (by decide +kernel)
theorem d_8281_73 {σ : Nat → Nat} {n0 : Nat} {bf : ab_B} : decode (ab_code (zx σ n0 bf).1 8281) 73 = .ok (.aload_n 0, 1) := zd zm_8281 (by decide +kernel)
theorem d_8281_74 {σ : Nat → Nat} {n0 : Nat} {bf : ab_B} : decode (ab_code (zx σ n0 bf).1 8281) 74 = .ok (.getfield 362, 3) := zd zm_8281 (by decide +kernel)
theorem d_8281_77 {σ : Nat → Nat} {n0 : Nat} {bf : ab_B} : decode (ab_code (zx σ n0 bf).1 8281) 77 = .ok (.iload 4, 2) := zd zm_8281 (by decide +kernel)
theorem d_8281_79 {σ : Nat → Nat} {n0 : Nat} {bf : ab_B} : decode (ab_code (zx σ n0 bf).1 8281) 79 = .ok (.iaload, 1) := zd zm_8281 (by decide +kernel)
theorem d_8281_80 {σ : Nat → Nat} {n0 : Nat} {bf : ab_B} : decode (ab_code (zx σ n0 bf).1 8281) 80 = .ok (.iload_n 3, 1) := zd zm_8281 (by decide +kernel)
theorem d_8281_81 {σ : Nat → Nat} {n0 : Nat} {bf : ab_B} : decode (ab_code (zx σ n0 bf).1 8281) 81 = .ok (.iadd, 1) := zd zm_8281 (by decide +kernel)
theorem d_8281_82 {σ : Nat → Nat} {n0 : Nat} {bf : ab_B} : decode (ab_code (zx σ n0 bf).1 8281) 82 = .ok (.laload, 1) := zd zm_8281 (by decide +kernel)
theorem d_8281_83 {σ : Nat → Nat} {n0 : Nat} {bf : ab_B} : decode (ab_code (zx σ n0 bf).1 8281) 83 = .ok (.lreturn, 1) := zd zm_8281 (by decide +kernel)
def w_X9_value_2_55 (X : zs_X) (d : Nat) (p0 : Nat) (p3 : Int32) (p4 : Int32) (q0 : Option Nat) (q1 : Int32) (S : zs_T) (Q : zs_Q) : Prop :=
  (∃ b1, q0 = some b1 ∧ zs_K S b1 = some (.inl 8) ∧ ab_n0 X.1 ≤ b1 ∧ ∀ S5, S5 = zs_sI S 8000 b1 q1 → zs_K S p0 = some (.inl 8) ∧ (((zs_I S5 8000 p0) ≤ 0 → (∃ b10, (zs_R S5 8167 p0) = some b10 ∧ zs_A S b10 0 p4 ∧ ∃ b13, (zs_R S5 8170 p0) = some b13 ∧ zs_A S b13 3 ((zs_i S5 b10 p4.toNatClampNeg) + p3) ∧ Q (.returned (some (.long (zs_j S5 b13 ((zs_i S5 b10 p4.toNatClampNeg) + p3).toNatClampNeg)))) S5)) ∧ (¬ ((zs_I S5 8000 p0) ≤ 0) → (Q (.returned (some (.long (0 : Int64)))) S5))))
theorem u_X9_value_2_55 {σ : Nat → Nat} {n0 : Nat} {bf : ab_B} {d : Nat} {p0 : Nat} {p3 : Int32} {p4 : Int32} {q0 : Option Nat} {q1 : Int32} {S : zs_T} {Q : zs_Q} (hB : zt_B bf) (h : w_X9_value_2_55 (zx σ n0 bf) d p0 p3 p4 q0 q1 S Q) : zs_U (zx σ n0 bf) d 8281 55 [(0, .ref p0), (3, .int p3), (4, .int p4)] [.int q1, va_rf q0] S Q := by
  unfold w_X9_value_2_55 at h
  obtain ⟨b1, e2, h⟩ := h
  refine zs_stk1 (zs_rfe e2) ?_
  obtain ⟨k3, h⟩ := h
  obtain ⟨k4, h⟩ := h
  refine zp_8_441 (v := q1) rfl d_8281_55 k3 k4 ?_
  generalize e6 : zs_sI S 8000 b1 q1 = S5
  have h := h S5 e6.symm
  have K7 : ∀ b, zs_K S5 b = zs_K S b := zs_Kt e6 (zs_KsI _ _ _ _) (fun _ => rfl)
  refine zu_aload_n d_8281_58 rfl (zs_ra _) ?_
  obtain ⟨k8, h⟩ := h
  refine zg_8_441 rfl d_8281_59 ((K7 _).trans k8) ?_
  refine zu_ifle (t := 69) d_8281_62 rfl (fun c9 => ?_) (fun c9 => ?_)
  · have h := h.1 c9
    refine zu_aload_n d_8281_69 rfl (zs_ra _) ?_
    refine zg_8_373 rfl d_8281_70 ((K7 _).trans k8) ?_
    refine zu_aload_n d_8281_73 rfl (zs_ra _) ?_
    refine zg_8_362 rfl d_8281_74 ((K7 _).trans k8) ?_
    refine zu_iload d_8281_77 rfl ?_
    obtain ⟨b10, e11, h⟩ := h
    refine zs_stk1 (zs_rfe e11) ?_
    obtain ⟨k12, h⟩ := h
    refine zu_iald (k := 0) d_8281_79 rfl rfl (zs_Ak K7 k12) ?_
    refine zu_iload_n d_8281_80 rfl ?_
    refine zu_stk d_8281_81 rfl rfl ?_
    obtain ⟨b13, e14, h⟩ := h
    refine zs_stk1 (zs_rfe e14) ?_
    obtain ⟨k15, h⟩ := h
    refine zu_lald (k := 3) d_8281_82 rfl rfl (zs_Ak K7 k15) ?_
    exact zu_lret d_8281_83 zr_8281 h
  · have h := h.2 c9
    refine zu_lconst (v := 0) d_8281_65 rfl ?_
    refine zu_goto (t := 83) d_8281_66 rfl ?_
    exact zu_lret d_8281_83 zr_8281 h
def w_X9_value_2_29 (X : zs_X) (d : Nat) (p0 : Nat) (p3 : Int32) (p4 : Int32) (q0 : Option Nat) (S : zs_T) (Q : zs_Q) : Prop :=
  (w_X9_value_2_55 X d p0 p3 p4 q0 (1 : Int32) S Q)
theorem u_X9_value_2_29 {σ : Nat → Nat} {n0 : Nat} {bf : ab_B} {d : Nat} {p0 : Nat} {p3 : Int32} {p4 : Int32} {q0 : Option Nat} {S : zs_T} {Q : zs_Q} (hB : zt_B bf) (h : w_X9_value_2_29 (zx σ n0 bf) d p0 p3 p4 q0 S Q) : zs_U (zx σ n0 bf) d 8281 29 [(0, .ref p0), (3, .int p3), (4, .int p4)] [va_rf q0] S Q := by
  unfold w_X9_value_2_29 at h
  refine zu_iconst d_8281_29 zi_1 ?_
  refine zu_goto (t := 55) d_8281_30 rfl ?_
  exact (u_X9_value_2_55 hB h).weak ⟨rfl, rfl, rfl, trivial⟩
def w_X9_value_2 (X : zs_X) (d : Nat) (p0 : Nat) (p1 : Int32) (p2 : Int32) (p3 : Int32) (S : zs_T) (Q : zs_Q) : Prop :=
  (zs_K S p0 = some (.inl 8) ∧ zs_C X d 8282 [.ref p0, .int p1, .int p2] S (zs_kI (fun v3 S2 => (((v3 = (-1 : Int32) → w_X9_value_2_29 X d p0 p3 v3 (some p0) S2 Q) ∧ (¬ (v3 = (-1 : Int32)) → (((p3 < 0 → w_X9_value_2_29 X d p0 p3 v3 (some p0) S2 Q) ∧ (¬ (p3 < 0) → (zs_K S2 p0 = some (.inl 8) ∧ zs_C X d 8283 [.ref p0, .int v3] S2 (zs_kI (fun v8 S7 => (((p3 < v8 → (zs_K S7 p0 = some (.inl 8) ∧ ∃ b11, (zs_R S7 8167 p0) = some b11 ∧ zs_A S7 b11 0 v3 ∧ ∃ b14, (zs_R S7 8171 p0) = some b14 ∧ zs_A S7 b14 2 ((zs_i S7 b11 v3.toNatClampNeg) + p3) ∧ ((¬ (zs_i S7 b14 ((zs_i S7 b11 v3.toNatClampNeg) + p3).toNatClampNeg) = 0 → (w_X9_value_2_55 X d p0 p3 v3 (some p0) (0 : Int32) S7 Q)) ∧ (¬ (¬ (zs_i S7 b14 ((zs_i S7 b11 v3.toNatClampNeg) + p3).toNatClampNeg) = 0) → (w_X9_value_2_55 X d p0 p3 v3 (some p0) (2 : Int32) S7 Q))))) ∧ (¬ (p3 < v8) → w_X9_value_2_29 X d p0 p3 v3 (some p0) S7 Q)))) Q))))))))) Q))
theorem u_X9_value_2 {σ : Nat → Nat} {n0 : Nat} {bf : ab_B} {d : Nat} {p0 : Nat} {p1 : Int32} {p2 : Int32} {p3 : Int32} {S : zs_T} {Q : zs_Q} (hB : zt_B bf) (hd : 1 ≤ d) (h : w_X9_value_2 (zx σ n0 bf) (d - 1) p0 p1 p2 p3 S Q) : zs_C (zx σ n0 bf) d 8281 [.ref p0, .int p1, .int p2, .int p3] S Q := by
  have hL : lv_args 0 [.ref p0, .int p1, .int p2, .int p3] = [(0, .ref p0), (1, .int p1), (2, .int p2), (3, .int p3)] := rfl
  refine zs_C.of1 (hB.2 8281 (by decide) (by decide)) hd (by rw [hL]; exact zs_sub_self _ (by exact ⟨rfl, rfl, rfl, rfl, trivial⟩)) ?_
  rw [hL]
  clear hL
  unfold w_X9_value_2 at h
  refine zu_aload_n d_8281_0 rfl (zs_ra _) ?_
  refine zu_iload_n d_8281_1 rfl ?_
  refine zu_iload_n d_8281_2 rfl ?_
  obtain ⟨k1, h⟩ := h
  refine zc_8_1521 (x0 := p1) (x1 := p2) hB rfl k1 d_8281_3 (Nat.le_of_ble_eq_true rfl) h (fun v3 S2 h => ?_)
  refine zu_istore d_8281_6 (zs_lt zq_8281 rfl) ?_
  refine zu_aload_n d_8281_8 rfl (zs_ra _) ?_
  refine zu_iload d_8281_9 rfl ?_
  refine zu_iconst d_8281_11 zi_m1 ?_
  refine zu_cmpeq (t := 29) d_8281_12 rfl (fun c4 => ?_) (fun c4 => ?_)
  · have h := h.1 c4
    exact (u_X9_value_2_29 hB h).weak ⟨rfl, rfl, rfl, trivial⟩
  · have h := h.2 c4
    refine zu_iload_n d_8281_15 rfl ?_
    refine zu_iflt (t := 29) d_8281_16 rfl (fun c5 => ?_) (fun c5 => ?_)
    · have h := h.1 c5
      exact (u_X9_value_2_29 hB h).weak ⟨rfl, rfl, rfl, trivial⟩
    · have h := h.2 c5
      refine zu_iload_n d_8281_19 rfl ?_
      refine zu_aload_n d_8281_20 rfl (zs_ra _) ?_
      refine zu_iload d_8281_21 rfl ?_
      obtain ⟨k6, h⟩ := h
      refine zc_8_1524 (x0 := v3) hB rfl k6 d_8281_23 (Nat.le_of_ble_eq_true rfl) h (fun v8 S7 h => ?_)
      refine zu_cmplt (t := 33) d_8281_26 rfl (fun c9 => ?_) (fun c9 => ?_)
      · have h := h.1 c9
        refine zu_aload_n d_8281_33 rfl (zs_ra _) ?_
        obtain ⟨k10, h⟩ := h
        refine zg_8_376 rfl d_8281_34 k10 ?_
        refine zu_aload_n d_8281_37 rfl (zs_ra _) ?_
        refine zg_8_362 rfl d_8281_38 k10 ?_
        refine zu_iload d_8281_41 rfl ?_
        obtain ⟨b11, e12, h⟩ := h
        refine zs_stk1 (zs_rfe e12) ?_
        obtain ⟨k13, h⟩ := h
        refine zu_iald (k := 0) d_8281_43 rfl rfl k13 ?_
        refine zu_iload_n d_8281_44 rfl ?_
        refine zu_stk d_8281_45 rfl rfl ?_
        obtain ⟨b14, e15, h⟩ := h
        refine zs_stk1 (zs_rfe e15) ?_
        obtain ⟨k16, h⟩ := h
        refine zu_bald (k := 2) d_8281_46 rfl (Or.inr rfl) k16 ?_
        refine zu_ifne (t := 54) d_8281_47 rfl (fun c17 => ?_) (fun c17 => ?_)
        · have h := h.1 c17
          refine zu_iconst d_8281_54 zi_0 ?_
          exact (u_X9_value_2_55 hB h).weak ⟨rfl, rfl, rfl, trivial⟩
        · have h := h.2 c17
          refine zu_iconst d_8281_50 zi_2 ?_
          refine zu_goto (t := 55) d_8281_51 rfl ?_
          exact (u_X9_value_2_55 hB h).weak ⟨rfl, rfl, rfl, trivial⟩
      · have h := h.2 c9
        exact (u_X9_value_2_29 hB h).weak ⟨rfl, rfl, rfl, trivial⟩
/-! SchemaPascalModel.slotOf(II)I -/
theorem zm_8282 {σ : Nat → Nat} {n0 : Nat} {bf : ab_B} : ab_code (zx σ n0 bf).1 8282 = prog_17_method_282_code := rfl
theorem zq_8282 {σ : Nat → Nat} {n0 : Nat} {bf : ab_B} : ab_maxL (zx σ n0 bf).1 8282 = 4 := rfl
theorem zr_8282 {σ : Nat → Nat} {n0 : Nat} {bf : ab_B} : ab_ret (zx σ n0 bf).1 8282 = (Option.some Jvm.ClassFile.FieldType.int) := rfl
theorem d_8282_0 {σ : Nat → Nat} {n0 : Nat} {bf : ab_B} : decode (ab_code (zx σ n0 bf).1 8282) 0 = .ok (.aload_n 0, 1) := zd zm_8282 (by decide +kernel)
theorem d_8282_1 {σ : Nat → Nat} {n0 : Nat} {bf : ab_B} : decode (ab_code (zx σ n0 bf).1 8282) 1 = .ok (.iload_n 1, 1) := zd zm_8282 (by decide +kernel)
theorem d_8282_2 {σ : Nat → Nat} {n0 : Nat} {bf : ab_B} : decode (ab_code (zx σ n0 bf).1 8282) 2 = .ok (.invokevirtual 1515, 3) := zd zm_8282 (by decide +kernel)
theorem d_8282_5 {σ : Nat → Nat} {n0 : Nat} {bf : ab_B} : decode (ab_code (zx σ n0 bf).1 8282) 5 = .ok (.ifCond .eq 28, 3) := zd zm_8282 (by decide +kernel)
theorem d_8282_8 {σ : Nat → Nat} {n0 : Nat} {bf : ab_B} : decode (ab_code (zx σ n0 bf).1 8282) 8 = .ok (.iload_n 2, 1) := zd zm_8282 (by decide +kernel)
theorem d_8282_9 {σ : Nat → Nat} {n0 : Nat} {bf : ab_B} : decode (ab_code (zx σ n0 bf).1 8282) 9 = .ok (.ifCond .lt 24, 3) := zd zm_8282 (by decide +kernel)
theorem d_8282_12 {σ : Nat → Nat} {n0 : Nat} {bf : ab_B} : decode (ab_code (zx σ n0 bf).1 8282) 12 = .ok (.iload_n 2, 1) := zd zm_8282 (by decide +kernel)
theorem d_8282_13 {σ : Nat → Nat} {n0 : Nat} {bf : ab_B} : decode (ab_code (zx σ n0 bf).1 8282) 13 = .ok (.aload_n 0, 1) := zd zm_8282 (by decide +kernel)
theorem d_8282_14 {σ : Nat → Nat} {n0 : Nat} {bf : ab_B} : decode (ab_code (zx σ n0 bf).1 8282) 14 = .ok (.aload_n 0, 1) := zd zm_8282 (by decide +kernel)
theorem d_8282_15 {σ : Nat → Nat} {n0 : Nat} {bf : ab_B} : decode (ab_code (zx σ n0 bf).1 8282) 15 = .ok (.getfield 335, 3) := zd zm_8282 (by decide +kernel)
theorem d_8282_18 {σ : Nat → Nat} {n0 : Nat} {bf : ab_B} : decode (ab_code (zx σ n0 bf).1 8282) 18 = .ok (.aload_n 0, 1) := zd zm_8282 (by decide +kernel)
theorem d_8282_19 {σ : Nat → Nat} {n0 : Nat} {bf : ab_B} : decode (ab_code (zx σ n0 bf).1 8282) 19 = .ok (.getfield 1240, 3) := zd zm_8282 (by decide +kernel)
theorem d_8282_22 {σ : Nat → Nat} {n0 : Nat} {bf : ab_B} : decode (ab_code (zx σ n0 bf).1 8282) 22 = .ok (.iconst 1, 1) := zd zm_8282 (by decide +kernel)
theorem d_8282_23 {σ : Nat → Nat} {n0 : Nat} {bf : ab_B} : decode (ab_code (zx σ n0 bf).1 8282) 23 = .ok (.isub, 1) := zd zm_8282 (by decide +kernel)
theorem d_8282_24 {σ : Nat → Nat} {n0 : Nat} {bf : ab_B} : decode (ab_code (zx σ n0 bf).1 8282) 24 = .ok (.iload_n 1, 1) := zd zm_8282 (by decide +kernel)
theorem d_8282_25 {σ : Nat → Nat} {n0 : Nat} {bf : ab_B} : decode (ab_code (zx σ n0 bf).1 8282) 25 = .ok (.isub, 1) := zd zm_8282 (by decide +kernel)
theorem d_8282_26 {σ : Nat → Nat} {n0 : Nat} {bf : ab_B} : decode (ab_code (zx σ n0 bf).1 8282) 26 = .ok (.iaload, 1) := zd zm_8282 (by decide +kernel)
theorem d_8282_27 {σ : Nat → Nat} {n0 : Nat} {bf : ab_B} : decode (ab_code (zx σ n0 bf).1 8282) 27 = .ok (.invokevirtual 1518, 3) := zd zm_8282 (by decide +kernel)
theorem d_8282_30 {σ : Nat → Nat} {n0 : Nat} {bf : ab_B} : decode (ab_code (zx σ n0 bf).1 8282) 30 = .ok (.if_icmp .lt 5, 3) := zd zm_8282 (by decide +kernel)
theorem d_8282_33 {σ : Nat → Nat} {n0 : Nat} {bf : ab_B} : decode (ab_code (zx σ n0 bf).1 8282) 33 = .ok (.iconst (-1), 1) := zd zm_8282 (by decide +kernel)
theorem d_8282_34 {σ : Nat → Nat} {n0 : Nat} {bf : ab_B} : decode (ab_code (zx σ n0 bf).1 8282) 34 = .ok (.ireturn, 1) := zd zm_8282 (by decide +kernel)
theorem d_8282_35 {σ : Nat → Nat} {n0 : Nat} {bf : ab_B} : decode (ab_code (zx σ n0 bf).1 8282) 35 = .ok (.aload_n 0, 1) := zd zm_8282 (by decide +kernel)
theorem d_8282_36 {σ : Nat → Nat} {n0 : Nat} {bf : ab_B} : decode (ab_code (zx σ n0 bf).1 8282) 36 = .ok (.getfield 347, 3) := zd zm_8282 (by decide +kernel)
theorem d_8282_39 {σ : Nat → Nat} {n0 : Nat} {bf : ab_B} : decode (ab_code (zx σ n0 bf).1 8282) 39 = .ok (.aload_n 0, 1) := zd zm_8282 (by decide +kernel)
theorem d_8282_40 {σ : Nat → Nat} {n0 : Nat} {bf : ab_B} : decode (ab_code (zx σ n0 bf).1 8282) 40 = .ok (.getfield 1240, 3) := zd zm_8282 (by decide +kernel)
theorem d_8282_43 {σ : Nat → Nat} {n0 : Nat} {bf : ab_B} : decode (ab_code (zx σ n0 bf).1 8282) 43 = .ok (.iconst 1, 1) := zd zm_8282 (by decide +kernel)
theorem d_8282_44 {σ : Nat → Nat} {n0 : Nat} {bf : ab_B} : decode (ab_code (zx σ n0 bf).1 8282) 44 = .ok (.isub, 1) := zd zm_8282 (by decide +kernel)
theorem d_8282_45 {σ : Nat → Nat} {n0 : Nat} {bf : ab_B} : decode (ab_code (zx σ n0 bf).1 8282) 45 = .ok (.iload_n 1, 1) := zd zm_8282 (by decide +kernel)
theorem d_8282_46 {σ : Nat → Nat} {n0 : Nat} {bf : ab_B} : decode (ab_code (zx σ n0 bf).1 8282) 46 = .ok (.isub, 1) := zd zm_8282 (by decide +kernel)
theorem d_8282_47 {σ : Nat → Nat} {n0 : Nat} {bf : ab_B} : decode (ab_code (zx σ n0 bf).1 8282) 47 = .ok (.iaload, 1) := zd zm_8282 (by decide +kernel)
theorem d_8282_48 {σ : Nat → Nat} {n0 : Nat} {bf : ab_B} : decode (ab_code (zx σ n0 bf).1 8282) 48 = .ok (.iload_n 2, 1) := zd zm_8282 (by decide +kernel)
theorem d_8282_49 {σ : Nat → Nat} {n0 : Nat} {bf : ab_B} : decode (ab_code (zx σ n0 bf).1 8282) 49 = .ok (.iadd, 1) := zd zm_8282 (by decide +kernel)
theorem d_8282_50 {σ : Nat → Nat} {n0 : Nat} {bf : ab_B} : decode (ab_code (zx σ n0 bf).1 8282) 50 = .ok (.istore_n 3, 1) := zd zm_8282 (by decide +kernel)
theorem d_8282_51 {σ : Nat → Nat} {n0 : Nat} {bf : ab_B} : decode (ab_code (zx σ n0 bf).1 8282) 51 = .ok (.iload_n 3, 1) := zd zm_8282 (by decide +kernel)
theorem d_8282_52 {σ : Nat → Nat} {n0 : Nat} {bf : ab_B} : decode (ab_code (zx σ n0 bf).1 8282) 52 = .ok (.sipush 21000, 3) := zd zm_8282 (by decide +kernel)
theorem d_8282_55 {σ : Nat → Nat} {n0 : Nat} {bf : ab_B} : decode (ab_code (zx σ n0 bf).1 8282) 55 = .ok (.if_icmp .ge 16, 3) := zd zm_8282 (by decide +kernel)
theorem d_8282_58 {σ : Nat → Nat} {n0 : Nat} {bf : ab_B} : decode (ab_code (zx σ n0 bf).1 8282) 58 = .ok (.aload_n 0, 1) := zd zm_8282 (by decide +kernel)
theorem d_8282_59 {σ : Nat → Nat} {n0 : Nat} {bf : ab_B} : decode (ab_code (zx σ n0 bf).1 8282) 59 = .ok (.getfield 365, 3) := zd zm_8282 (by decide +kernel)
theorem d_8282_62 {σ : Nat → Nat} {n0 : Nat} {bf : ab_B} : decode (ab_code (zx σ n0 bf).1 8282) 62 = .ok (.iload_n 3, 1) := zd zm_8282 (by decide +kernel)
theorem d_8282_63 {σ : Nat → Nat} {n0 : Nat} {bf : ab_B} : decode (ab_code (zx σ n0 bf).1 8282) 63 = .ok (.iaload, 1) := zd zm_8282 (by decide +kernel)
theorem d_8282_64 {σ : Nat → Nat} {n0 : Nat} {bf : ab_B} : decode (ab_code (zx σ n0 bf).1 8282) 64 = .ok (.ifCond .le 7, 3) := zd zm_8282 (by decide +kernel)
theorem d_8282_67 {σ : Nat → Nat} {n0 : Nat} {bf : ab_B} : decode (ab_code (zx σ n0 bf).1 8282) 67 = .ok (.iload_n 3, 1) := zd zm_8282 (by decide +kernel)
theorem d_8282_68 {σ : Nat → Nat} {n0 : Nat} {bf : ab_B} : decode (ab_code (zx σ n0 bf).1 8282) 68 = .ok (.goto 4, 3) := zd zm_8282 (by decide +kernel)
theorem d_8282_71 {σ : Nat → Nat} {n0 : Nat} {bf : ab_B} : decode (ab_code (zx σ n0 bf).1 8282) 71 = .ok (.iconst (-1), 1) := zd zm_8282 (by decide +kernel)
theorem d_8282_72 {σ : Nat → Nat} {n0 : Nat} {bf : ab_B} : decode (ab_code (zx σ n0 bf).1 8282) 72 = .ok (.ireturn, 1) := zd zm_8282 (by decide +kernel)
def w_X9_slotOf_33 (X : zs_X) (d : Nat)  (S : zs_T) (Q : zs_Q) : Prop :=
  (Q (.returned (some (.int (-1 : Int32)))) S)
theorem u_X9_slotOf_33 {σ : Nat → Nat} {n0 : Nat} {bf : ab_B} {d : Nat}  {S : zs_T} {Q : zs_Q} (hB : zt_B bf) (h : w_X9_slotOf_33 (zx σ n0 bf) d  S Q) : zs_U (zx σ n0 bf) d 8282 33 [] [] S Q := by
  unfold w_X9_slotOf_33 at h
  refine zu_iconst d_8282_33 zi_m1 ?_
  exact zu_iret d_8282_34 zr_8282 rfl h
def w_X9_slotOf_71 (X : zs_X) (d : Nat)  (S : zs_T) (Q : zs_Q) : Prop :=
  (Q (.returned (some (.int (-1 : Int32)))) S)
theorem u_X9_slotOf_71 {σ : Nat → Nat} {n0 : Nat} {bf : ab_B} {d : Nat}  {S : zs_T} {Q : zs_Q} (hB : zt_B bf) (h : w_X9_slotOf_71 (zx σ n0 bf) d  S Q) : zs_U (zx σ n0 bf) d 8282 71 [] [] S Q := by
  unfold w_X9_slotOf_71 at h
  refine zu_iconst d_8282_71 zi_m1 ?_
  exact zu_iret d_8282_72 zr_8282 rfl h
def w_X9_slotOf_67 (X : zs_X) (d : Nat) (p3 : Int32) (S : zs_T) (Q : zs_Q) : Prop :=
  (Q (.returned (some (.int p3))) S)
theorem u_X9_slotOf_67 {σ : Nat → Nat} {n0 : Nat} {bf : ab_B} {d : Nat} {p3 : Int32} {S : zs_T} {Q : zs_Q} (hB : zt_B bf) (h : w_X9_slotOf_67 (zx σ n0 bf) d p3 S Q) : zs_U (zx σ n0 bf) d 8282 67 [(3, .int p3)] [] S Q := by
  unfold w_X9_slotOf_67 at h
  refine zu_iload_n d_8282_67 rfl ?_
  refine zu_goto (t := 72) d_8282_68 rfl ?_
  exact zu_iret d_8282_72 zr_8282 rfl h
def w_X9_slotOf_35 (X : zs_X) (d : Nat) (p0 : Nat) (p1 : Int32) (p2 : Int32) (S : zs_T) (Q : zs_Q) : Prop :=
  (zs_K S p0 = some (.inl 8) ∧ ∃ b2, (zs_R S 8160 p0) = some b2 ∧ zs_A S b2 0 (((zs_I S 8165 p0) - (1 : Int32)) - p1) ∧ (((21000 : Int32) ≤ ((zs_i S b2 (((zs_I S 8165 p0) - (1 : Int32)) - p1).toNatClampNeg) + p2) → w_X9_slotOf_71 X d  S Q) ∧ (¬ ((21000 : Int32) ≤ ((zs_i S b2 (((zs_I S 8165 p0) - (1 : Int32)) - p1).toNatClampNeg) + p2)) → (∃ b6, (zs_R S 8168 p0) = some b6 ∧ zs_A S b6 0 ((zs_i S b2 (((zs_I S 8165 p0) - (1 : Int32)) - p1).toNatClampNeg) + p2) ∧ (((zs_i S b6 ((zs_i S b2 (((zs_I S 8165 p0) - (1 : Int32)) - p1).toNatClampNeg) + p2).toNatClampNeg) ≤ 0 → w_X9_slotOf_71 X d  S Q) ∧ (¬ ((zs_i S b6 ((zs_i S b2 (((zs_I S 8165 p0) - (1 : Int32)) - p1).toNatClampNeg) + p2).toNatClampNeg) ≤ 0) → w_X9_slotOf_67 X d ((zs_i S b2 (((zs_I S 8165 p0) - (1 : Int32)) - p1).toNatClampNeg) + p2) S Q))))))
theorem u_X9_slotOf_35 {σ : Nat → Nat} {n0 : Nat} {bf : ab_B} {d : Nat} {p0 : Nat} {p1 : Int32} {p2 : Int32} {S : zs_T} {Q : zs_Q} (hB : zt_B bf) (h : w_X9_slotOf_35 (zx σ n0 bf) d p0 p1 p2 S Q) : zs_U (zx σ n0 bf) d 8282 35 [(0, .ref p0), (1, .int p1), (2, .int p2)] [] S Q := by
  unfold w_X9_slotOf_35 at h
  refine zu_aload_n d_8282_35 rfl (zs_ra _) ?_
  obtain ⟨k1, h⟩ := h
  refine zg_8_347 rfl d_8282_36 k1 ?_
  refine zu_aload_n d_8282_39 rfl (zs_ra _) ?_
  refine zg_8_1240 rfl d_8282_40 k1 ?_
  refine zu_iconst d_8282_43 zi_1 ?_
  refine zu_stk d_8282_44 rfl rfl ?_
  refine zu_iload_n d_8282_45 rfl ?_
  refine zu_stk d_8282_46 rfl rfl ?_
  obtain ⟨b2, e3, h⟩ := h
  refine zs_stk1 (zs_rfe e3) ?_
  obtain ⟨k4, h⟩ := h
  refine zu_iald (k := 0) d_8282_47 rfl rfl k4 ?_
  refine zu_iload_n d_8282_48 rfl ?_
  refine zu_stk d_8282_49 rfl rfl ?_
  refine zu_istore_n d_8282_50 (zs_lt zq_8282 rfl) ?_
  refine zu_iload_n d_8282_51 rfl ?_
  refine zu_sipush d_8282_52 zh_21000 ?_
  refine zu_cmpge (t := 71) d_8282_55 rfl (fun c5 => ?_) (fun c5 => ?_)
  · have h := h.1 c5
    exact (u_X9_slotOf_71 hB h).weak trivial
  · have h := h.2 c5
    refine zu_aload_n d_8282_58 rfl (zs_ra _) ?_
    refine zg_8_365 rfl d_8282_59 k1 ?_
    refine zu_iload_n d_8282_62 rfl ?_
    obtain ⟨b6, e7, h⟩ := h
    refine zs_stk1 (zs_rfe e7) ?_
    obtain ⟨k8, h⟩ := h
    refine zu_iald (k := 0) d_8282_63 rfl rfl k8 ?_
    refine zu_ifle (t := 71) d_8282_64 rfl (fun c9 => ?_) (fun c9 => ?_)
    · have h := h.1 c9
      exact (u_X9_slotOf_71 hB h).weak trivial
    · have h := h.2 c9
      exact (u_X9_slotOf_67 hB h).weak ⟨rfl, trivial⟩
def w_X9_slotOf (X : zs_X) (d : Nat) (p0 : Nat) (p1 : Int32) (p2 : Int32) (S : zs_T) (Q : zs_Q) : Prop :=
  (zs_K S p0 = some (.inl 8) ∧ zs_C X d 8279 [.ref p0, .int p1] S (zs_kI (fun v3 S2 => (((v3 = 0 → w_X9_slotOf_33 X d  S2 Q) ∧ (¬ (v3 = 0) → (((p2 < 0 → w_X9_slotOf_33 X d  S2 Q) ∧ (¬ (p2 < 0) → (zs_K S2 p0 = some (.inl 8) ∧ ∃ b7, (zs_R S2 8156 p0) = some b7 ∧ zs_A S2 b7 0 (((zs_I S2 8165 p0) - (1 : Int32)) - p1) ∧ zs_C X d 8280 [.ref p0, .int (zs_i S2 b7 (((zs_I S2 8165 p0) - (1 : Int32)) - p1).toNatClampNeg)] S2 (zs_kI (fun v11 S10 => (((p2 < v11 → w_X9_slotOf_35 X d p0 p1 p2 S10 Q) ∧ (¬ (p2 < v11) → w_X9_slotOf_33 X d  S10 Q)))) Q))))))))) Q))
theorem u_X9_slotOf {σ : Nat → Nat} {n0 : Nat} {bf : ab_B} {d : Nat} {p0 : Nat} {p1 : Int32} {p2 : Int32} {S : zs_T} {Q : zs_Q} (hB : zt_B bf) (hd : 1 ≤ d) (h : w_X9_slotOf (zx σ n0 bf) (d - 1) p0 p1 p2 S Q) : zs_C (zx σ n0 bf) d 8282 [.ref p0, .int p1, .int p2] S Q := by
  have hL : lv_args 0 [.ref p0, .int p1, .int p2] = [(0, .ref p0), (1, .int p1), (2, .int p2)] := rfl
  refine zs_C.of1 (hB.2 8282 (by decide) (by decide)) hd (by rw [hL]; exact zs_sub_self _ (by exact ⟨rfl, rfl, rfl, trivial⟩)) ?_
  rw [hL]
  clear hL
  unfold w_X9_slotOf at h
  refine zu_aload_n d_8282_0 rfl (zs_ra _) ?_
  refine zu_iload_n d_8282_1 rfl ?_
  obtain ⟨k1, h⟩ := h
  refine zc_8_1515 (x0 := p1) hB rfl k1 d_8282_2 (Nat.le_of_ble_eq_true rfl) h (fun v3 S2 h => ?_)
  refine zu_ifeq (t := 33) d_8282_5 rfl (fun c4 => ?_) (fun c4 => ?_)
  · have h := h.1 c4
    exact (u_X9_slotOf_33 hB h).weak trivial
  · have h := h.2 c4
    refine zu_iload_n d_8282_8 rfl ?_
    refine zu_iflt (t := 33) d_8282_9 rfl (fun c5 => ?_) (fun c5 => ?_)
    · have h := h.1 c5
      exact (u_X9_slotOf_33 hB h).weak trivial
    · have h := h.2 c5
      refine zu_iload_n d_8282_12 rfl ?_
      refine zu_aload_n d_8282_13 rfl (zs_ra _) ?_
      refine zu_aload_n d_8282_14 rfl (zs_ra _) ?_
      obtain ⟨k6, h⟩ := h
      refine zg_8_335 rfl d_8282_15 k6 ?_
      refine zu_aload_n d_8282_18 rfl (zs_ra _) ?_
      refine zg_8_1240 rfl d_8282_19 k6 ?_
      refine zu_iconst d_8282_22 zi_1 ?_
      refine zu_stk d_8282_23 rfl rfl ?_
      refine zu_iload_n d_8282_24 rfl ?_
      refine zu_stk d_8282_25 rfl rfl ?_
      obtain ⟨b7, e8, h⟩ := h
      refine zs_stk1 (zs_rfe e8) ?_
      obtain ⟨k9, h⟩ := h
      refine zu_iald (k := 0) d_8282_26 rfl rfl k9 ?_
      refine zc_8_1518 (x0 := (zs_i S2 b7 (((zs_I S2 8165 p0) - (1 : Int32)) - p1).toNatClampNeg)) hB rfl k6 d_8282_27 (Nat.le_of_ble_eq_true rfl) h (fun v11 S10 h => ?_)
      refine zu_cmplt (t := 35) d_8282_30 rfl (fun c12 => ?_) (fun c12 => ?_)
      · have h := h.1 c12
        exact (u_X9_slotOf_35 hB h).weak ⟨rfl, rfl, rfl, trivial⟩
      · have h := h.2 c12
        exact (u_X9_slotOf_33 hB h).weak trivial
/-! SchemaPascalModel.slotCells(I)I -/
theorem zm_8283 {σ : Nat → Nat} {n0 : Nat} {bf : ab_B} : ab_code (zx σ n0 bf).1 8283 = prog_17_method_283_code := rfl
theorem zq_8283 {σ : Nat → Nat} {n0 : Nat} {bf : ab_B} : ab_maxL (zx σ n0 bf).1 8283 = 2 := rfl
theorem zr_8283 {σ : Nat → Nat} {n0 : Nat} {bf : ab_B} : ab_ret (zx σ n0 bf).1 8283 = (Option.some Jvm.ClassFile.FieldType.int) := rfl
theorem d_8283_0 {σ : Nat → Nat} {n0 : Nat} {bf : ab_B} : decode (ab_code (zx σ n0 bf).1 8283) 0 = .ok (.aload_n 0, 1) := zd zm_8283 (by decide +kernel)
theorem d_8283_1 {σ : Nat → Nat} {n0 : Nat} {bf : ab_B} : decode (ab_code (zx σ n0 bf).1 8283) 1 = .ok (.aload_n 0, 1) := zd zm_8283 (by decide +kernel)
theorem d_8283_2 {σ : Nat → Nat} {n0 : Nat} {bf : ab_B} : decode (ab_code (zx σ n0 bf).1 8283) 2 = .ok (.getfield 369, 3) := zd zm_8283 (by decide +kernel)
theorem d_8283_5 {σ : Nat → Nat} {n0 : Nat} {bf : ab_B} : decode (ab_code (zx σ n0 bf).1 8283) 5 = .ok (.iconst 4, 1) := zd zm_8283 (by decide +kernel)
theorem d_8283_6 {σ : Nat → Nat} {n0 : Nat} {bf : ab_B} : decode (ab_code (zx σ n0 bf).1 8283) 6 = .ok (.iload_n 1, 1) := zd zm_8283 (by decide +kernel)
theorem d_8283_7 {σ : Nat → Nat} {n0 : Nat} {bf : ab_B} : decode (ab_code (zx σ n0 bf).1 8283) 7 = .ok (.imul, 1) := zd zm_8283 (by decide +kernel)
theorem d_8283_8 {σ : Nat → Nat} {n0 : Nat} {bf : ab_B} : decode (ab_code (zx σ n0 bf).1 8283) 8 = .ok (.laload, 1) := zd zm_8283 (by decide +kernel)
theorem d_8283_9 {σ : Nat → Nat} {n0 : Nat} {bf : ab_B} : decode (ab_code (zx σ n0 bf).1 8283) 9 = .ok (.putfield 610, 3) := zd zm_8283 (by decide +kernel)
theorem d_8283_12 {σ : Nat → Nat} {n0 : Nat} {bf : ab_B} : decode (ab_code (zx σ n0 bf).1 8283) 12 = .ok (.aload_n 0, 1) := zd zm_8283 (by decide +kernel)
theorem d_8283_13 {σ : Nat → Nat} {n0 : Nat} {bf : ab_B} : decode (ab_code (zx σ n0 bf).1 8283) 13 = .ok (.aload_n 0, 1) := zd zm_8283 (by decide +kernel)
theorem d_8283_14 {σ : Nat → Nat} {n0 : Nat} {bf : ab_B} : decode (ab_code (zx σ n0 bf).1 8283) 14 = .ok (.getfield 369, 3) := zd zm_8283 (by decide +kernel)
theorem d_8283_17 {σ : Nat → Nat} {n0 : Nat} {bf : ab_B} : decode (ab_code (zx σ n0 bf).1 8283) 17 = .ok (.iconst 4, 1) := zd zm_8283 (by decide +kernel)
theorem d_8283_18 {σ : Nat → Nat} {n0 : Nat} {bf : ab_B} : decode (ab_code (zx σ n0 bf).1 8283) 18 = .ok (.iload_n 1, 1) := zd zm_8283 (by decide +kernel)
theorem d_8283_19 {σ : Nat → Nat} {n0 : Nat} {bf : ab_B} : decode (ab_code (zx σ n0 bf).1 8283) 19 = .ok (.imul, 1) := zd zm_8283 (by decide +kernel)
theorem d_8283_20 {σ : Nat → Nat} {n0 : Nat} {bf : ab_B} : decode (ab_code (zx σ n0 bf).1 8283) 20 = .ok (.iconst 1, 1) := zd zm_8283 (by decide +kernel)
theorem d_8283_21 {σ : Nat → Nat} {n0 : Nat} {bf : ab_B} : decode (ab_code (zx σ n0 bf).1 8283) 21 = .ok (.iadd, 1) := zd zm_8283 (by decide +kernel)
theorem d_8283_22 {σ : Nat → Nat} {n0 : Nat} {bf : ab_B} : decode (ab_code (zx σ n0 bf).1 8283) 22 = .ok (.laload, 1) := zd zm_8283 (by decide +kernel)
theorem d_8283_23 {σ : Nat → Nat} {n0 : Nat} {bf : ab_B} : decode (ab_code (zx σ n0 bf).1 8283) 23 = .ok (.putfield 614, 3) := zd zm_8283 (by decide +kernel)
theorem d_8283_26 {σ : Nat → Nat} {n0 : Nat} {bf : ab_B} : decode (ab_code (zx σ n0 bf).1 8283) 26 = .ok (.aload_n 0, 1) := zd zm_8283 (by decide +kernel)
theorem d_8283_27 {σ : Nat → Nat} {n0 : Nat} {bf : ab_B} : decode (ab_code (zx σ n0 bf).1 8283) 27 = .ok (.aload_n 0, 1) := zd zm_8283 (by decide +kernel)
theorem d_8283_28 {σ : Nat → Nat} {n0 : Nat} {bf : ab_B} : decode (ab_code (zx σ n0 bf).1 8283) 28 = .ok (.getfield 369, 3) := zd zm_8283 (by decide +kernel)
theorem d_8283_31 {σ : Nat → Nat} {n0 : Nat} {bf : ab_B} : decode (ab_code (zx σ n0 bf).1 8283) 31 = .ok (.iconst 4, 1) := zd zm_8283 (by decide +kernel)
theorem d_8283_32 {σ : Nat → Nat} {n0 : Nat} {bf : ab_B} : decode (ab_code (zx σ n0 bf).1 8283) 32 = .ok (.iload_n 1, 1) := zd zm_8283 (by decide +kernel)
theorem d_8283_33 {σ : Nat → Nat} {n0 : Nat} {bf : ab_B} : decode (ab_code (zx σ n0 bf).1 8283) 33 = .ok (.imul, 1) := zd zm_8283 (by decide +kernel)
theorem d_8283_34 {σ : Nat → Nat} {n0 : Nat} {bf : ab_B} : decode (ab_code (zx σ n0 bf).1 8283) 34 = .ok (.iconst 2, 1) := zd zm_8283 (by decide +kernel)
theorem d_8283_35 {σ : Nat → Nat} {n0 : Nat} {bf : ab_B} : decode (ab_code (zx σ n0 bf).1 8283) 35 = .ok (.iadd, 1) := zd zm_8283 (by decide +kernel)
theorem d_8283_36 {σ : Nat → Nat} {n0 : Nat} {bf : ab_B} : decode (ab_code (zx σ n0 bf).1 8283) 36 = .ok (.laload, 1) := zd zm_8283 (by decide +kernel)
theorem d_8283_37 {σ : Nat → Nat} {n0 : Nat} {bf : ab_B} : decode (ab_code (zx σ n0 bf).1 8283) 37 = .ok (.putfield 617, 3) := zd zm_8283 (by decide +kernel)
theorem d_8283_40 {σ : Nat → Nat} {n0 : Nat} {bf : ab_B} : decode (ab_code (zx σ n0 bf).1 8283) 40 = .ok (.aload_n 0, 1) := zd zm_8283 (by decide +kernel)
theorem d_8283_41 {σ : Nat → Nat} {n0 : Nat} {bf : ab_B} : decode (ab_code (zx σ n0 bf).1 8283) 41 = .ok (.aload_n 0, 1) := zd zm_8283 (by decide +kernel)
theorem d_8283_42 {σ : Nat → Nat} {n0 : Nat} {bf : ab_B} : decode (ab_code (zx σ n0 bf).1 8283) 42 = .ok (.getfield 369, 3) := zd zm_8283 (by decide +kernel)
theorem d_8283_45 {σ : Nat → Nat} {n0 : Nat} {bf : ab_B} : decode (ab_code (zx σ n0 bf).1 8283) 45 = .ok (.iconst 4, 1) := zd zm_8283 (by decide +kernel)
theorem d_8283_46 {σ : Nat → Nat} {n0 : Nat} {bf : ab_B} : decode (ab_code (zx σ n0 bf).1 8283) 46 = .ok (.iload_n 1, 1) := zd zm_8283 (by decide +kernel)
theorem d_8283_47 {σ : Nat → Nat} {n0 : Nat} {bf : ab_B} : decode (ab_code (zx σ n0 bf).1 8283) 47 = .ok (.imul, 1) := zd zm_8283 (by decide +kernel)
theorem d_8283_48 {σ : Nat → Nat} {n0 : Nat} {bf : ab_B} : decode (ab_code (zx σ n0 bf).1 8283) 48 = .ok (.iconst 3, 1) := zd zm_8283 (by decide +kernel)
theorem d_8283_49 {σ : Nat → Nat} {n0 : Nat} {bf : ab_B} : decode (ab_code (zx σ n0 bf).1 8283) 49 = .ok (.iadd, 1) := zd zm_8283 (by decide +kernel)
theorem d_8283_50 {σ : Nat → Nat} {n0 : Nat} {bf : ab_B} : decode (ab_code (zx σ n0 bf).1 8283) 50 = .ok (.laload, 1) := zd zm_8283 (by decide +kernel)
theorem d_8283_51 {σ : Nat → Nat} {n0 : Nat} {bf : ab_B} : decode (ab_code (zx σ n0 bf).1 8283) 51 = .ok (.putfield 620, 3) := zd zm_8283 (by decide +kernel)
theorem d_8283_54 {σ : Nat → Nat} {n0 : Nat} {bf : ab_B} : decode (ab_code (zx σ n0 bf).1 8283) 54 = .ok (.aload_n 0, 1) := zd zm_8283 (by decide +kernel)
theorem d_8283_55 {σ : Nat → Nat} {n0 : Nat} {bf : ab_B} : decode (ab_code (zx σ n0 bf).1 8283) 55 = .ok (.aload_n 0, 1) := zd zm_8283 (by decide +kernel)
theorem d_8283_56 {σ : Nat → Nat} {n0 : Nat} {bf : ab_B} : decode (ab_code (zx σ n0 bf).1 8283) 56 = .ok (.getfield 365, 3) := zd zm_8283 (by decide +kernel)
theorem d_8283_59 {σ : Nat → Nat} {n0 : Nat} {bf : ab_B} : decode (ab_code (zx σ n0 bf).1 8283) 59 = .ok (.iload_n 1, 1) := zd zm_8283 (by decide +kernel)
theorem d_8283_60 {σ : Nat → Nat} {n0 : Nat} {bf : ab_B} : decode (ab_code (zx σ n0 bf).1 8283) 60 = .ok (.iaload, 1) := zd zm_8283 (by decide +kernel)
theorem d_8283_61 {σ : Nat → Nat} {n0 : Nat} {bf : ab_B} : decode (ab_code (zx σ n0 bf).1 8283) 61 = .ok (.invokevirtual 1356, 3) := zd zm_8283 (by decide +kernel)
theorem d_8283_64 {σ : Nat → Nat} {n0 : Nat} {bf : ab_B} : decode (ab_code (zx σ n0 bf).1 8283) 64 = .ok (.ireturn, 1) := zd zm_8283 (by decide +kernel)
def w_X9_slotCells_54 (X : zs_X) (d : Nat) (p0 : Nat) (p1 : Int32) (S : zs_T) (Q : zs_Q) : Prop :=
  (zs_K S p0 = some (.inl 8) ∧ ∃ b2, (zs_R S 8168 p0) = some b2 ∧ zs_A S b2 0 p1 ∧ zs_C X d 8216 [.ref p0, .int (zs_i S b2 p1.toNatClampNeg)] S (zs_kI (fun v6 S5 => (Q (.returned (some (.int v6))) S5)) Q))
theorem u_X9_slotCells_54 {σ : Nat → Nat} {n0 : Nat} {bf : ab_B} {d : Nat} {p0 : Nat} {p1 : Int32} {S : zs_T} {Q : zs_Q} (hB : zt_B bf) (h : w_X9_slotCells_54 (zx σ n0 bf) d p0 p1 S Q) : zs_U (zx σ n0 bf) d 8283 54 [(0, .ref p0), (1, .int p1)] [] S Q := by
  unfold w_X9_slotCells_54 at h
  refine zu_aload_n d_8283_54 rfl (zs_ra _) ?_
  refine zu_aload_n d_8283_55 rfl (zs_ra _) ?_
  obtain ⟨k1, h⟩ := h
  refine zg_8_365 rfl d_8283_56 k1 ?_
  refine zu_iload_n d_8283_59 rfl ?_
  obtain ⟨b2, e3, h⟩ := h
  refine zs_stk1 (zs_rfe e3) ?_
  obtain ⟨k4, h⟩ := h
  refine zu_iald (k := 0) d_8283_60 rfl rfl k4 ?_
  refine zc_8_1356 (x0 := (zs_i S b2 p1.toNatClampNeg)) hB rfl k1 d_8283_61 (Nat.le_of_ble_eq_true rfl) h (fun v6 S5 h => ?_)
  exact zu_iret d_8283_64 zr_8283 rfl h
def w_X9_slotCells_26 (X : zs_X) (d : Nat) (p0 : Nat) (p1 : Int32) (S : zs_T) (Q : zs_Q) : Prop :=
  (zs_K S p0 = some (.inl 8) ∧ ∃ b2, (zs_R S 8169 p0) = some b2 ∧ zs_A S b2 3 (((4 : Int32) * p1) + (2 : Int32)) ∧ ab_n0 X.1 ≤ p0 ∧ ∀ S6, S6 = zs_sJ S 8083 p0 (zs_j S b2 (((4 : Int32) * p1) + (2 : Int32)).toNatClampNeg) → ∃ b9, (zs_R S6 8169 p0) = some b9 ∧ zs_A S b9 3 (((4 : Int32) * p1) + (3 : Int32)) ∧ ∀ S12, S12 = zs_sJ S6 8084 p0 (zs_j S6 b9 (((4 : Int32) * p1) + (3 : Int32)).toNatClampNeg) → w_X9_slotCells_54 X d p0 p1 S12 Q)
theorem u_X9_slotCells_26 {σ : Nat → Nat} {n0 : Nat} {bf : ab_B} {d : Nat} {p0 : Nat} {p1 : Int32} {S : zs_T} {Q : zs_Q} (hB : zt_B bf) (h : w_X9_slotCells_26 (zx σ n0 bf) d p0 p1 S Q) : zs_U (zx σ n0 bf) d 8283 26 [(0, .ref p0), (1, .int p1)] [] S Q := by
  unfold w_X9_slotCells_26 at h
  refine zu_aload_n d_8283_26 rfl (zs_ra _) ?_
  refine zu_aload_n d_8283_27 rfl (zs_ra _) ?_
  obtain ⟨k1, h⟩ := h
  refine zg_8_369 rfl d_8283_28 k1 ?_
  refine zu_iconst d_8283_31 zi_4 ?_
  refine zu_iload_n d_8283_32 rfl ?_
  refine zu_stk d_8283_33 rfl rfl ?_
  refine zu_iconst d_8283_34 zi_2 ?_
  refine zu_stk d_8283_35 rfl rfl ?_
  obtain ⟨b2, e3, h⟩ := h
  refine zs_stk1 (zs_rfe e3) ?_
  obtain ⟨k4, h⟩ := h
  refine zu_lald (k := 3) d_8283_36 rfl rfl k4 ?_
  obtain ⟨k5, h⟩ := h
  refine zp_8_617 (v := (zs_j S b2 (((4 : Int32) * p1) + (2 : Int32)).toNatClampNeg)) rfl d_8283_37 k1 k5 ?_
  generalize e7 : zs_sJ S 8083 p0 (zs_j S b2 (((4 : Int32) * p1) + (2 : Int32)).toNatClampNeg) = S6
  have h := h S6 e7.symm
  have K8 : ∀ b, zs_K S6 b = zs_K S b := zs_Kt e7 (zs_KsJ _ _ _ _) (fun _ => rfl)
  refine zu_aload_n d_8283_40 rfl (zs_ra _) ?_
  refine zu_aload_n d_8283_41 rfl (zs_ra _) ?_
  refine zg_8_369 rfl d_8283_42 ((K8 _).trans k1) ?_
  refine zu_iconst d_8283_45 zi_4 ?_
  refine zu_iload_n d_8283_46 rfl ?_
  refine zu_stk d_8283_47 rfl rfl ?_
  refine zu_iconst d_8283_48 zi_3 ?_
  refine zu_stk d_8283_49 rfl rfl ?_
  obtain ⟨b9, e10, h⟩ := h
  refine zs_stk1 (zs_rfe e10) ?_
  obtain ⟨k11, h⟩ := h
  refine zu_lald (k := 3) d_8283_50 rfl rfl (zs_Ak K8 k11) ?_
  refine zp_8_620 (v := (zs_j S6 b9 (((4 : Int32) * p1) + (3 : Int32)).toNatClampNeg)) rfl d_8283_51 ((K8 _).trans k1) k5 ?_
  generalize e13 : zs_sJ S6 8084 p0 (zs_j S6 b9 (((4 : Int32) * p1) + (3 : Int32)).toNatClampNeg) = S12
  have h := h S12 e13.symm
  have K14 : ∀ b, zs_K S12 b = zs_K S b := zs_Kt e13 (zs_KsJ _ _ _ _) K8
  exact (u_X9_slotCells_54 hB h).weak ⟨rfl, rfl, trivial⟩
def w_X9_slotCells (X : zs_X) (d : Nat) (p0 : Nat) (p1 : Int32) (S : zs_T) (Q : zs_Q) : Prop :=
  (zs_K S p0 = some (.inl 8) ∧ ∃ b2, (zs_R S 8169 p0) = some b2 ∧ zs_A S b2 3 ((4 : Int32) * p1) ∧ ab_n0 X.1 ≤ p0 ∧ ∀ S6, S6 = zs_sJ S 8081 p0 (zs_j S b2 ((4 : Int32) * p1).toNatClampNeg) → ∃ b9, (zs_R S6 8169 p0) = some b9 ∧ zs_A S b9 3 (((4 : Int32) * p1) + (1 : Int32)) ∧ ∀ S12, S12 = zs_sJ S6 8082 p0 (zs_j S6 b9 (((4 : Int32) * p1) + (1 : Int32)).toNatClampNeg) → w_X9_slotCells_26 X d p0 p1 S12 Q)
theorem u_X9_slotCells {σ : Nat → Nat} {n0 : Nat} {bf : ab_B} {d : Nat} {p0 : Nat} {p1 : Int32} {S : zs_T} {Q : zs_Q} (hB : zt_B bf) (hd : 1 ≤ d) (h : w_X9_slotCells (zx σ n0 bf) (d - 1) p0 p1 S Q) : zs_C (zx σ n0 bf) d 8283 [.ref p0, .int p1] S Q := by
  have hL : lv_args 0 [.ref p0, .int p1] = [(0, .ref p0), (1, .int p1)] := rfl
  refine zs_C.of1 (hB.2 8283 (by decide) (by decide)) hd (by rw [hL]; exact zs_sub_self _ (by exact ⟨rfl, rfl, trivial⟩)) ?_
  rw [hL]
  clear hL
  unfold w_X9_slotCells at h
  refine zu_aload_n d_8283_0 rfl (zs_ra _) ?_
  refine zu_aload_n d_8283_1 rfl (zs_ra _) ?_
  obtain ⟨k1, h⟩ := h
  refine zg_8_369 rfl d_8283_2 k1 ?_
  refine zu_iconst d_8283_5 zi_4 ?_
  refine zu_iload_n d_8283_6 rfl ?_
  refine zu_stk d_8283_7 rfl rfl ?_
  obtain ⟨b2, e3, h⟩ := h
  refine zs_stk1 (zs_rfe e3) ?_
  obtain ⟨k4, h⟩ := h
  refine zu_lald (k := 3) d_8283_8 rfl rfl k4 ?_
  obtain ⟨k5, h⟩ := h
  refine zp_8_610 (v := (zs_j S b2 ((4 : Int32) * p1).toNatClampNeg)) rfl d_8283_9 k1 k5 ?_
  generalize e7 : zs_sJ S 8081 p0 (zs_j S b2 ((4 : Int32) * p1).toNatClampNeg) = S6
  have h := h S6 e7.symm
  have K8 : ∀ b, zs_K S6 b = zs_K S b := zs_Kt e7 (zs_KsJ _ _ _ _) (fun _ => rfl)
  refine zu_aload_n d_8283_12 rfl (zs_ra _) ?_
  refine zu_aload_n d_8283_13 rfl (zs_ra _) ?_
  refine zg_8_369 rfl d_8283_14 ((K8 _).trans k1) ?_
  refine zu_iconst d_8283_17 zi_4 ?_
  refine zu_iload_n d_8283_18 rfl ?_
  refine zu_stk d_8283_19 rfl rfl ?_
  refine zu_iconst d_8283_20 zi_1 ?_
  refine zu_stk d_8283_21 rfl rfl ?_
  obtain ⟨b9, e10, h⟩ := h
  refine zs_stk1 (zs_rfe e10) ?_
  obtain ⟨k11, h⟩ := h
  refine zu_lald (k := 3) d_8283_22 rfl rfl (zs_Ak K8 k11) ?_
  refine zp_8_614 (v := (zs_j S6 b9 (((4 : Int32) * p1) + (1 : Int32)).toNatClampNeg)) rfl d_8283_23 ((K8 _).trans k1) k5 ?_
  generalize e13 : zs_sJ S6 8082 p0 (zs_j S6 b9 (((4 : Int32) * p1) + (1 : Int32)).toNatClampNeg) = S12
  have h := h S12 e13.symm
  have K14 : ∀ b, zs_K S12 b = zs_K S b := zs_Kt e13 (zs_KsJ _ _ _ _) K8
  exact (u_X9_slotCells_26 hB h).weak ⟨rfl, rfl, trivial⟩
/-! SchemaPascalModel.variable(III)I -/
theorem zm_8284 {σ : Nat → Nat} {n0 : Nat} {bf : ab_B} : ab_code (zx σ n0 bf).1 8284 = prog_17_method_285_code := rfl
theorem zq_8284 {σ : Nat → Nat} {n0 : Nat} {bf : ab_B} : ab_maxL (zx σ n0 bf).1 8284 = 9 := rfl
theorem zr_8284 {σ : Nat → Nat} {n0 : Nat} {bf : ab_B} : ab_ret (zx σ n0 bf).1 8284 = (Option.some Jvm.ClassFile.FieldType.int) := rfl
theorem d_8284_0 {σ : Nat → Nat} {n0 : Nat} {bf : ab_B} : decode (ab_code (zx σ n0 bf).1 8284) 0 = .ok (.aload_n 0, 1) := zd zm_8284 (by decide +kernel)
theorem d_8284_1 {σ : Nat → Nat} {n0 : Nat} {bf : ab_B} : decode (ab_code (zx σ n0 bf).1 8284) 1 = .ok (.iload_n 1, 1) := zd zm_8284 (by decide +kernel)
theorem d_8284_2 {σ : Nat → Nat} {n0 : Nat} {bf : ab_B} : decode (ab_code (zx σ n0 bf).1 8284) 2 = .ok (.iload_n 2, 1) := zd zm_8284 (by decide +kernel)
theorem d_8284_3 {σ : Nat → Nat} {n0 : Nat} {bf : ab_B} : decode (ab_code (zx σ n0 bf).1 8284) 3 = .ok (.invokevirtual 1521, 3) := zd zm_8284 (by decide +kernel)
theorem d_8284_6 {σ : Nat → Nat} {n0 : Nat} {bf : ab_B} : decode (ab_code (zx σ n0 bf).1 8284) 6 = .ok (.istore 4, 2) := zd zm_8284 (by decide +kernel)
theorem d_8284_8 {σ : Nat → Nat} {n0 : Nat} {bf : ab_B} : decode (ab_code (zx σ n0 bf).1 8284) 8 = .ok (.iload 4, 2) := zd zm_8284 (by decide +kernel)
theorem d_8284_10 {σ : Nat → Nat} {n0 : Nat} {bf : ab_B} : decode (ab_code (zx σ n0 bf).1 8284) 10 = .ok (.iconst (-1), 1) := zd zm_8284 (by decide +kernel)
theorem d_8284_11 {σ : Nat → Nat} {n0 : Nat} {bf : ab_B} : decode (ab_code (zx σ n0 bf).1 8284) 11 = .ok (.if_icmp .ne 7, 3) := zd zm_8284 (by decide +kernel)
theorem d_8284_14 {σ : Nat → Nat} {n0 : Nat} {bf : ab_B} : decode (ab_code (zx σ n0 bf).1 8284) 14 = .ok (.iconst 0, 1) := zd zm_8284 (by decide +kernel)
theorem d_8284_15 {σ : Nat → Nat} {n0 : Nat} {bf : ab_B} : decode (ab_code (zx σ n0 bf).1 8284) 15 = .ok (.goto 37, 3) := zd zm_8284 (by decide +kernel)
theorem d_8284_18 {σ : Nat → Nat} {n0 : Nat} {bf : ab_B} : decode (ab_code (zx σ n0 bf).1 8284) 18 = .ok (.aload_n 0, 1) := zd zm_8284 (by decide +kernel)
theorem d_8284_19 {σ : Nat → Nat} {n0 : Nat} {bf : ab_B} : decode (ab_code (zx σ n0 bf).1 8284) 19 = .ok (.aload_n 0, 1) := zd zm_8284 (by decide +kernel)
theorem d_8284_20 {σ : Nat → Nat} {n0 : Nat} {bf : ab_B} : decode (ab_code (zx σ n0 bf).1 8284) 20 = .ok (.getfield 365, 3) := zd zm_8284 (by decide +kernel)
theorem d_8284_23 {σ : Nat → Nat} {n0 : Nat} {bf : ab_B} : decode (ab_code (zx σ n0 bf).1 8284) 23 = .ok (.iload 4, 2) := zd zm_8284 (by decide +kernel)
theorem d_8284_25 {σ : Nat → Nat} {n0 : Nat} {bf : ab_B} : decode (ab_code (zx σ n0 bf).1 8284) 25 = .ok (.iaload, 1) := zd zm_8284 (by decide +kernel)
theorem d_8284_26 {σ : Nat → Nat} {n0 : Nat} {bf : ab_B} : decode (ab_code (zx σ n0 bf).1 8284) 26 = .ok (.invokevirtual 727, 3) := zd zm_8284 (by decide +kernel)
theorem d_8284_29 {σ : Nat → Nat} {n0 : Nat} {bf : ab_B} : decode (ab_code (zx σ n0 bf).1 8284) 29 = .ok (.ifCond .le 22, 3) := zd zm_8284 (by decide +kernel)
theorem d_8284_32 {σ : Nat → Nat} {n0 : Nat} {bf : ab_B} : decode (ab_code (zx σ n0 bf).1 8284) 32 = .ok (.aload_n 0, 1) := zd zm_8284 (by decide +kernel)
theorem d_8284_33 {σ : Nat → Nat} {n0 : Nat} {bf : ab_B} : decode (ab_code (zx σ n0 bf).1 8284) 33 = .ok (.getfield 127, 3) := zd zm_8284 (by decide +kernel)
theorem d_8284_36 {σ : Nat → Nat} {n0 : Nat} {bf : ab_B} : decode (ab_code (zx σ n0 bf).1 8284) 36 = .ok (.aload_n 0, 1) := zd zm_8284 (by decide +kernel)
theorem d_8284_37 {σ : Nat → Nat} {n0 : Nat} {bf : ab_B} : decode (ab_code (zx σ n0 bf).1 8284) 37 = .ok (.aload_n 0, 1) := zd zm_8284 (by decide +kernel)
theorem d_8284_38 {σ : Nat → Nat} {n0 : Nat} {bf : ab_B} : decode (ab_code (zx σ n0 bf).1 8284) 38 = .ok (.getfield 365, 3) := zd zm_8284 (by decide +kernel)
theorem d_8284_41 {σ : Nat → Nat} {n0 : Nat} {bf : ab_B} : decode (ab_code (zx σ n0 bf).1 8284) 41 = .ok (.iload 4, 2) := zd zm_8284 (by decide +kernel)
theorem d_8284_43 {σ : Nat → Nat} {n0 : Nat} {bf : ab_B} : decode (ab_code (zx σ n0 bf).1 8284) 43 = .ok (.iaload, 1) := zd zm_8284 (by decide +kernel)
theorem d_8284_44 {σ : Nat → Nat} {n0 : Nat} {bf : ab_B} : decode (ab_code (zx σ n0 bf).1 8284) 44 = .ok (.invokevirtual 727, 3) := zd zm_8284 (by decide +kernel)
theorem d_8284_47 {σ : Nat → Nat} {n0 : Nat} {bf : ab_B} : decode (ab_code (zx σ n0 bf).1 8284) 47 = .ok (.baload, 1) := zd zm_8284 (by decide +kernel)
theorem d_8284_48 {σ : Nat → Nat} {n0 : Nat} {bf : ab_B} : decode (ab_code (zx σ n0 bf).1 8284) 48 = .ok (.goto 4, 3) := zd zm_8284 (by decide +kernel)
theorem d_8284_51 {σ : Nat → Nat} {n0 : Nat} {bf : ab_B} : decode (ab_code (zx σ n0 bf).1 8284) 51 = .ok (.iconst 0, 1) := zd zm_8284 (by decide +kernel)
theorem d_8284_52 {σ : Nat → Nat} {n0 : Nat} {bf : ab_B} : decode (ab_code (zx σ n0 bf).1 8284) 52 = .ok (.istore 5, 2) := zd zm_8284 (by decide +kernel)
theorem d_8284_54 {σ : Nat → Nat} {n0 : Nat} {bf : ab_B} : decode (ab_code (zx σ n0 bf).1 8284) 54 = .ok (.aload_n 0, 1) := zd zm_8284 (by decide +kernel)
theorem d_8284_55 {σ : Nat → Nat} {n0 : Nat} {bf : ab_B} : decode (ab_code (zx σ n0 bf).1 8284) 55 = .ok (.iload 4, 2) := zd zm_8284 (by decide +kernel)
theorem d_8284_57 {σ : Nat → Nat} {n0 : Nat} {bf : ab_B} : decode (ab_code (zx σ n0 bf).1 8284) 57 = .ok (.iconst (-1), 1) := zd zm_8284 (by decide +kernel)
theorem d_8284_58 {σ : Nat → Nat} {n0 : Nat} {bf : ab_B} : decode (ab_code (zx σ n0 bf).1 8284) 58 = .ok (.if_icmp .eq 15, 3) := zd zm_8284 (by decide +kernel)
theorem d_8284_61 {σ : Nat → Nat} {n0 : Nat} {bf : ab_B} : decode (ab_code (zx σ n0 bf).1 8284) 61 = .ok (.iload_n 3, 1) := zd zm_8284 (by decide +kernel)
theorem d_8284_62 {σ : Nat → Nat} {n0 : Nat} {bf : ab_B} : decode (ab_code (zx σ n0 bf).1 8284) 62 = .ok (.ifCond .lt 11, 3) := zd zm_8284 (by decide +kernel)
theorem d_8284_65 {σ : Nat → Nat} {n0 : Nat} {bf : ab_B} : decode (ab_code (zx σ n0 bf).1 8284) 65 = .ok (.iload_n 3, 1) := zd zm_8284 (by decide +kernel)
theorem d_8284_66 {σ : Nat → Nat} {n0 : Nat} {bf : ab_B} : decode (ab_code (zx σ n0 bf).1 8284) 66 = .ok (.iconst 2, 1) := zd zm_8284 (by decide +kernel)
theorem d_8284_67 {σ : Nat → Nat} {n0 : Nat} {bf : ab_B} : decode (ab_code (zx σ n0 bf).1 8284) 67 = .ok (.iload 5, 2) := zd zm_8284 (by decide +kernel)
theorem d_8284_69 {σ : Nat → Nat} {n0 : Nat} {bf : ab_B} : decode (ab_code (zx σ n0 bf).1 8284) 69 = .ok (.iadd, 1) := zd zm_8284 (by decide +kernel)
theorem d_8284_70 {σ : Nat → Nat} {n0 : Nat} {bf : ab_B} : decode (ab_code (zx σ n0 bf).1 8284) 70 = .ok (.if_icmp .lt 7, 3) := zd zm_8284 (by decide +kernel)
theorem d_8284_73 {σ : Nat → Nat} {n0 : Nat} {bf : ab_B} : decode (ab_code (zx σ n0 bf).1 8284) 73 = .ok (.iconst 1, 1) := zd zm_8284 (by decide +kernel)
theorem d_8284_74 {σ : Nat → Nat} {n0 : Nat} {bf : ab_B} : decode (ab_code (zx σ n0 bf).1 8284) 74 = .ok (.goto 4, 3) := zd zm_8284 (by decide +kernel)
theorem d_8284_77 {σ : Nat → Nat} {n0 : Nat} {bf : ab_B} : decode (ab_code (zx σ n0 bf).1 8284) 77 = .ok (.iconst 0, 1) := zd zm_8284 (by decide +kernel)
theorem d_8284_78 {σ : Nat → Nat} {n0 : Nat} {bf : ab_B} : decode (ab_code (zx σ n0 bf).1 8284) 78 = .ok (.putfield 441, 3) := zd zm_8284 (by decide +kernel)
theorem d_8284_81 {σ : Nat → Nat} {n0 : Nat} {bf : ab_B} : decode (ab_code (zx σ n0 bf).1 8284) 81 = .ok (.aload_n 0, 1) := zd zm_8284 (by decide +kernel)
theorem d_8284_82 {σ : Nat → Nat} {n0 : Nat} {bf : ab_B} : decode (ab_code (zx σ n0 bf).1 8284) 82 = .ok (.getfield 441, 3) := zd zm_8284 (by decide +kernel)
theorem d_8284_85 {σ : Nat → Nat} {n0 : Nat} {bf : ab_B} : decode (ab_code (zx σ n0 bf).1 8284) 85 = .ok (.ifCond .le 5, 3) := zd zm_8284 (by decide +kernel)
theorem d_8284_88 {σ : Nat → Nat} {n0 : Nat} {bf : ab_B} : decode (ab_code (zx σ n0 bf).1 8284) 88 = .ok (.iconst 0, 1) := zd zm_8284 (by decide +kernel)
theorem d_8284_89 {σ : Nat → Nat} {n0 : Nat} {bf : ab_B} : decode (ab_code (zx σ n0 bf).1 8284) 89 = .ok (.ireturn, 1) := zd zm_8284 (by decide +kernel)
theorem d_8284_90 {σ : Nat → Nat} {n0 : Nat} {bf : ab_B} : decode (ab_code (zx σ n0 bf).1 8284) 90 = .ok (.aload_n 0, 1) := zd zm_8284 (by decide +kernel)
theorem d_8284_91 {σ : Nat → Nat} {n0 : Nat} {bf : ab_B} : decode (ab_code (zx σ n0 bf).1 8284) 91 = .ok (.iload 4, 2) := zd zm_8284 (by decide +kernel)
theorem d_8284_93 {σ : Nat → Nat} {n0 : Nat} {bf : ab_B} : decode (ab_code (zx σ n0 bf).1 8284) 93 = .ok (.invokevirtual 1524, 3) := zd zm_8284 (by decide +kernel)
theorem d_8284_96 {σ : Nat → Nat} {n0 : Nat} {bf : ab_B} : decode (ab_code (zx σ n0 bf).1 8284) 96 = .ok (.istore 6, 2) := zd zm_8284 (by decide +kernel)
theorem d_8284_98 {σ : Nat → Nat} {n0 : Nat} {bf : ab_B} : decode (ab_code (zx σ n0 bf).1 8284) 98 = .ok (.iconst 0, 1) := zd zm_8284 (by decide +kernel)
theorem d_8284_99 {σ : Nat → Nat} {n0 : Nat} {bf : ab_B} : decode (ab_code (zx σ n0 bf).1 8284) 99 = .ok (.istore 7, 2) := zd zm_8284 (by decide +kernel)
theorem d_8284_101 {σ : Nat → Nat} {n0 : Nat} {bf : ab_B} : decode (ab_code (zx σ n0 bf).1 8284) 101 = .ok (.iconst 0, 1) := zd zm_8284 (by decide +kernel)
theorem d_8284_102 {σ : Nat → Nat} {n0 : Nat} {bf : ab_B} : decode (ab_code (zx σ n0 bf).1 8284) 102 = .ok (.istore 8, 2) := zd zm_8284 (by decide +kernel)
theorem d_8284_104 {σ : Nat → Nat} {n0 : Nat} {bf : ab_B} : decode (ab_code (zx σ n0 bf).1 8284) 104 = .ok (.iload 8, 2) := zd zm_8284 (by decide +kernel)
theorem d_8284_106 {σ : Nat → Nat} {n0 : Nat} {bf : ab_B} : decode (ab_code (zx σ n0 bf).1 8284) 106 = .ok (.iload 6, 2) := zd zm_8284 (by decide +kernel)
theorem d_8284_108 {σ : Nat → Nat} {n0 : Nat} {bf : ab_B} : decode (ab_code (zx σ n0 bf).1 8284) 108 = .ok (.if_icmp .ge 37, 3) := zd zm_8284 (by decide +kernel)
theorem d_8284_111 {σ : Nat → Nat} {n0 : Nat} {bf : ab_B} : decode (ab_code (zx σ n0 bf).1 8284) 111 = .ok (.iload 7, 2) := zd zm_8284 (by decide +kernel)
theorem d_8284_113 {σ : Nat → Nat} {n0 : Nat} {bf : ab_B} : decode (ab_code (zx σ n0 bf).1 8284) 113 = .ok (.aload_n 0, 1) := zd zm_8284 (by decide +kernel)
theorem d_8284_114 {σ : Nat → Nat} {n0 : Nat} {bf : ab_B} : decode (ab_code (zx σ n0 bf).1 8284) 114 = .ok (.getfield 376, 3) := zd zm_8284 (by decide +kernel)
theorem d_8284_117 {σ : Nat → Nat} {n0 : Nat} {bf : ab_B} : decode (ab_code (zx σ n0 bf).1 8284) 117 = .ok (.aload_n 0, 1) := zd zm_8284 (by decide +kernel)
theorem d_8284_118 {σ : Nat → Nat} {n0 : Nat} {bf : ab_B} : decode (ab_code (zx σ n0 bf).1 8284) 118 = .ok (.getfield 362, 3) := zd zm_8284 (by decide +kernel)
theorem d_8284_121 {σ : Nat → Nat} {n0 : Nat} {bf : ab_B} : decode (ab_code (zx σ n0 bf).1 8284) 121 = .ok (.iload 4, 2) := zd zm_8284 (by decide +kernel)
theorem d_8284_123 {σ : Nat → Nat} {n0 : Nat} {bf : ab_B} : decode (ab_code (zx σ n0 bf).1 8284) 123 = .ok (.iaload, 1) := zd zm_8284 (by decide +kernel)
theorem d_8284_124 {σ : Nat → Nat} {n0 : Nat} {bf : ab_B} : decode (ab_code (zx σ n0 bf).1 8284) 124 = .ok (.iload 8, 2) := zd zm_8284 (by decide +kernel)
theorem d_8284_126 {σ : Nat → Nat} {n0 : Nat} {bf : ab_B} : decode (ab_code (zx σ n0 bf).1 8284) 126 = .ok (.iadd, 1) := zd zm_8284 (by decide +kernel)
theorem d_8284_127 {σ : Nat → Nat} {n0 : Nat} {bf : ab_B} : decode (ab_code (zx σ n0 bf).1 8284) 127 = .ok (.baload, 1) := zd zm_8284 (by decide +kernel)
theorem d_8284_128 {σ : Nat → Nat} {n0 : Nat} {bf : ab_B} : decode (ab_code (zx σ n0 bf).1 8284) 128 = .ok (.ifCond .eq 7, 3) := zd zm_8284 (by decide +kernel)
theorem d_8284_131 {σ : Nat → Nat} {n0 : Nat} {bf : ab_B} : decode (ab_code (zx σ n0 bf).1 8284) 131 = .ok (.iconst 1, 1) := zd zm_8284 (by decide +kernel)
theorem d_8284_132 {σ : Nat → Nat} {n0 : Nat} {bf : ab_B} : decode (ab_code (zx σ n0 bf).1 8284) 132 = .ok (.goto 4, 3) := zd zm_8284 (by decide +kernel)
theorem d_8284_135 {σ : Nat → Nat} {n0 : Nat} {bf : ab_B} : decode (ab_code (zx σ n0 bf).1 8284) 135 = .ok (.iconst 0, 1) := zd zm_8284 (by decide +kernel)
theorem d_8284_136 {σ : Nat → Nat} {n0 : Nat} {bf : ab_B} : decode (ab_code (zx σ n0 bf).1 8284) 136 = .ok (.iadd, 1) := zd zm_8284 (by decide +kernel)
theorem d_8284_137 {σ : Nat → Nat} {n0 : Nat} {bf : ab_B} : decode (ab_code (zx σ n0 bf).1 8284) 137 = .ok (.istore 7, 2) := zd zm_8284 (by decide +kernel)
theorem d_8284_139 {σ : Nat → Nat} {n0 : Nat} {bf : ab_B} : decode (ab_code (zx σ n0 bf).1 8284) 139 = .ok (.iinc 8 1, 3) := zd zm_8284 (by decide +kernel)
theorem d_8284_142 {σ : Nat → Nat} {n0 : Nat} {bf : ab_B} : decode (ab_code (zx σ n0 bf).1 8284) 142 = .ok (.goto (-38), 3) := zd zm_8284 (by decide +kernel)
theorem d_8284_145 {σ : Nat → Nat} {n0 : Nat} {bf : ab_B} : decode (ab_code (zx σ n0 bf).1 8284) 145 = .ok (.iload_n 3, 1) := zd zm_8284 (by decide +kernel)
theorem d_8284_146 {σ : Nat → Nat} {n0 : Nat} {bf : ab_B} : decode (ab_code (zx σ n0 bf).1 8284) 146 = .ok (.ifCond .ne 8, 3) := zd zm_8284 (by decide +kernel)
theorem d_8284_149 {σ : Nat → Nat} {n0 : Nat} {bf : ab_B} : decode (ab_code (zx σ n0 bf).1 8284) 149 = .ok (.iload 6, 2) := zd zm_8284 (by decide +kernel)
theorem d_8284_151 {σ : Nat → Nat} {n0 : Nat} {bf : ab_B} : decode (ab_code (zx σ n0 bf).1 8284) 151 = .ok (.goto 21, 3) := zd zm_8284 (by decide +kernel)
theorem d_8284_154 {σ : Nat → Nat} {n0 : Nat} {bf : ab_B} : decode (ab_code (zx σ n0 bf).1 8284) 154 = .ok (.iload_n 3, 1) := zd zm_8284 (by decide +kernel)
theorem d_8284_155 {σ : Nat → Nat} {n0 : Nat} {bf : ab_B} : decode (ab_code (zx σ n0 bf).1 8284) 155 = .ok (.iconst 1, 1) := zd zm_8284 (by decide +kernel)
theorem d_8284_156 {σ : Nat → Nat} {n0 : Nat} {bf : ab_B} : decode (ab_code (zx σ n0 bf).1 8284) 156 = .ok (.if_icmp .ne 8, 3) := zd zm_8284 (by decide +kernel)
theorem d_8284_159 {σ : Nat → Nat} {n0 : Nat} {bf : ab_B} : decode (ab_code (zx σ n0 bf).1 8284) 159 = .ok (.iload 7, 2) := zd zm_8284 (by decide +kernel)
theorem d_8284_161 {σ : Nat → Nat} {n0 : Nat} {bf : ab_B} : decode (ab_code (zx σ n0 bf).1 8284) 161 = .ok (.goto 11, 3) := zd zm_8284 (by decide +kernel)
theorem d_8284_164 {σ : Nat → Nat} {n0 : Nat} {bf : ab_B} : decode (ab_code (zx σ n0 bf).1 8284) 164 = .ok (.aload_n 0, 1) := zd zm_8284 (by decide +kernel)
theorem d_8284_165 {σ : Nat → Nat} {n0 : Nat} {bf : ab_B} : decode (ab_code (zx σ n0 bf).1 8284) 165 = .ok (.iload_n 3, 1) := zd zm_8284 (by decide +kernel)
theorem d_8284_166 {σ : Nat → Nat} {n0 : Nat} {bf : ab_B} : decode (ab_code (zx σ n0 bf).1 8284) 166 = .ok (.iconst 2, 1) := zd zm_8284 (by decide +kernel)
theorem d_8284_167 {σ : Nat → Nat} {n0 : Nat} {bf : ab_B} : decode (ab_code (zx σ n0 bf).1 8284) 167 = .ok (.isub, 1) := zd zm_8284 (by decide +kernel)
theorem d_8284_168 {σ : Nat → Nat} {n0 : Nat} {bf : ab_B} : decode (ab_code (zx σ n0 bf).1 8284) 168 = .ok (.invokevirtual 627, 3) := zd zm_8284 (by decide +kernel)
theorem d_8284_171 {σ : Nat → Nat} {n0 : Nat} {bf : ab_B} : decode (ab_code (zx σ n0 bf).1 8284) 171 = .ok (.l2i, 1) := zd zm_8284 (by decide +kernel)
theorem d_8284_172 {σ : Nat → Nat} {n0 : Nat} {bf : ab_B} : decode (ab_code (zx σ n0 bf).1 8284) 172 = .ok (.ireturn, 1) := zd zm_8284 (by decide +kernel)
def w_X9_variable_2_78 (X : zs_X) (d : Nat) (p0 : Nat) (p3 : Int32) (p4 : Int32) (q0 : Option Nat) (q1 : Int32) (S : zs_T) (Q : zs_Q) : Prop :=
  (∃ b1, q0 = some b1 ∧ zs_K S b1 = some (.inl 8) ∧ ab_n0 X.1 ≤ b1 ∧ ∀ S5, S5 = zs_sI S 8000 b1 q1 → zs_K S p0 = some (.inl 8) ∧ (((zs_I S5 8000 p0) ≤ 0 → (zs_C X d 8283 [.ref p0, .int p4] S5 (zs_kI (fun v11 S10 => (zs_U X d 8284 104 [(0, .ref p0), (3, .int p3), (4, .int p4), (6, .int v11), (7, .int (0 : Int32)), (8, .int (0 : Int32))] [] S10 Q)) Q))) ∧ (¬ ((zs_I S5 8000 p0) ≤ 0) → (Q (.returned (some (.int (0 : Int32)))) S5))))
theorem u_X9_variable_2_78 {σ : Nat → Nat} {n0 : Nat} {bf : ab_B} {d : Nat} {p0 : Nat} {p3 : Int32} {p4 : Int32} {q0 : Option Nat} {q1 : Int32} {S : zs_T} {Q : zs_Q} (hB : zt_B bf) (h : w_X9_variable_2_78 (zx σ n0 bf) d p0 p3 p4 q0 q1 S Q) : zs_U (zx σ n0 bf) d 8284 78 [(0, .ref p0), (3, .int p3), (4, .int p4)] [.int q1, va_rf q0] S Q := by
  unfold w_X9_variable_2_78 at h
  obtain ⟨b1, e2, h⟩ := h
  refine zs_stk1 (zs_rfe e2) ?_
  obtain ⟨k3, h⟩ := h
  obtain ⟨k4, h⟩ := h
  refine zp_8_441 (v := q1) rfl d_8284_78 k3 k4 ?_
  generalize e6 : zs_sI S 8000 b1 q1 = S5
  have h := h S5 e6.symm
  have K7 : ∀ b, zs_K S5 b = zs_K S b := zs_Kt e6 (zs_KsI _ _ _ _) (fun _ => rfl)
  refine zu_aload_n d_8284_81 rfl (zs_ra _) ?_
  obtain ⟨k8, h⟩ := h
  refine zg_8_441 rfl d_8284_82 ((K7 _).trans k8) ?_
  refine zu_ifle (t := 90) d_8284_85 rfl (fun c9 => ?_) (fun c9 => ?_)
  · have h := h.1 c9
    refine zu_aload_n d_8284_90 rfl (zs_ra _) ?_
    refine zu_iload d_8284_91 rfl ?_
    refine zc_8_1524 (x0 := p4) hB rfl ((K7 _).trans k8) d_8284_93 (Nat.le_of_ble_eq_true rfl) h (fun v11 S10 h => ?_)
    refine zu_istore d_8284_96 (zs_lt zq_8284 rfl) ?_
    refine zu_iconst d_8284_98 zi_0 ?_
    refine zu_istore d_8284_99 (zs_lt zq_8284 rfl) ?_
    refine zu_iconst d_8284_101 zi_0 ?_
    refine zu_istore d_8284_102 (zs_lt zq_8284 rfl) ?_
    exact h.weak ⟨rfl, rfl, rfl, rfl, rfl, rfl, trivial⟩
  · have h := h.2 c9
    refine zu_iconst d_8284_88 zi_0 ?_
    exact zu_iret d_8284_89 zr_8284 rfl h
def w_X9_variable_2_73 (X : zs_X) (d : Nat) (p0 : Nat) (p3 : Int32) (p4 : Int32) (q0 : Option Nat) (S : zs_T) (Q : zs_Q) : Prop :=
  (w_X9_variable_2_78 X d p0 p3 p4 q0 (1 : Int32) S Q)
theorem u_X9_variable_2_73 {σ : Nat → Nat} {n0 : Nat} {bf : ab_B} {d : Nat} {p0 : Nat} {p3 : Int32} {p4 : Int32} {q0 : Option Nat} {S : zs_T} {Q : zs_Q} (hB : zt_B bf) (h : w_X9_variable_2_73 (zx σ n0 bf) d p0 p3 p4 q0 S Q) : zs_U (zx σ n0 bf) d 8284 73 [(0, .ref p0), (3, .int p3), (4, .int p4)] [va_rf q0] S Q := by
  unfold w_X9_variable_2_73 at h
  refine zu_iconst d_8284_73 zi_1 ?_
  refine zu_goto (t := 78) d_8284_74 rfl ?_
  exact (u_X9_variable_2_78 hB h).weak ⟨rfl, rfl, rfl, trivial⟩
def w_X9_variable_2_52 (X : zs_X) (d : Nat) (p0 : Nat) (p3 : Int32) (p4 : Int32) (q0 : Int32) (S : zs_T) (Q : zs_Q) : Prop :=
  (((p4 = (-1 : Int32) → w_X9_variable_2_73 X d p0 p3 p4 (some p0) S Q) ∧ (¬ (p4 = (-1 : Int32)) → (((p3 < 0 → w_X9_variable_2_73 X d p0 p3 p4 (some p0) S Q) ∧ (¬ (p3 < 0) → (((p3 < ((2 : Int32) + q0) → (w_X9_variable_2_78 X d p0 p3 p4 (some p0) (0 : Int32) S Q)) ∧ (¬ (p3 < ((2 : Int32) + q0)) → w_X9_variable_2_73 X d p0 p3 p4 (some p0) S Q)))))))))
theorem u_X9_variable_2_52 {σ : Nat → Nat} {n0 : Nat} {bf : ab_B} {d : Nat} {p0 : Nat} {p3 : Int32} {p4 : Int32} {q0 : Int32} {S : zs_T} {Q : zs_Q} (hB : zt_B bf) (h : w_X9_variable_2_52 (zx σ n0 bf) d p0 p3 p4 q0 S Q) : zs_U (zx σ n0 bf) d 8284 52 [(0, .ref p0), (3, .int p3), (4, .int p4)] [.int q0] S Q := by
  unfold w_X9_variable_2_52 at h
  refine zu_istore d_8284_52 (zs_lt zq_8284 rfl) ?_
  refine zu_aload_n d_8284_54 rfl (zs_ra _) ?_
  refine zu_iload d_8284_55 rfl ?_
  refine zu_iconst d_8284_57 zi_m1 ?_
  refine zu_cmpeq (t := 73) d_8284_58 rfl (fun c1 => ?_) (fun c1 => ?_)
  · have h := h.1 c1
    exact (u_X9_variable_2_73 hB h).weak ⟨rfl, rfl, rfl, trivial⟩
  · have h := h.2 c1
    refine zu_iload_n d_8284_61 rfl ?_
    refine zu_iflt (t := 73) d_8284_62 rfl (fun c2 => ?_) (fun c2 => ?_)
    · have h := h.1 c2
      exact (u_X9_variable_2_73 hB h).weak ⟨rfl, rfl, rfl, trivial⟩
    · have h := h.2 c2
      refine zu_iload_n d_8284_65 rfl ?_
      refine zu_iconst d_8284_66 zi_2 ?_
      refine zu_iload d_8284_67 rfl ?_
      refine zu_stk d_8284_69 rfl rfl ?_
      refine zu_cmplt (t := 77) d_8284_70 rfl (fun c3 => ?_) (fun c3 => ?_)
      · have h := h.1 c3
        refine zu_iconst d_8284_77 zi_0 ?_
        exact (u_X9_variable_2_78 hB h).weak ⟨rfl, rfl, rfl, trivial⟩
      · have h := h.2 c3
        exact (u_X9_variable_2_73 hB h).weak ⟨rfl, rfl, rfl, trivial⟩
def w_X9_variable_2_136 (X : zs_X) (d : Nat) (p0 : Nat) (p3 : Int32) (p4 : Int32) (p6 : Int32) (p8 : Int32) (q0 : Int32) (q1 : Int32) (S : zs_T) (Q : zs_Q) : Prop :=
  (zs_U X d 8284 104 [(0, .ref p0), (3, .int p3), (4, .int p4), (6, .int p6), (7, .int (q0 + q1)), (8, .int (p8 + (1 : Int32)))] [] S Q)
theorem u_X9_variable_2_136 {σ : Nat → Nat} {n0 : Nat} {bf : ab_B} {d : Nat} {p0 : Nat} {p3 : Int32} {p4 : Int32} {p6 : Int32} {p8 : Int32} {q0 : Int32} {q1 : Int32} {S : zs_T} {Q : zs_Q} (hB : zt_B bf) (h : w_X9_variable_2_136 (zx σ n0 bf) d p0 p3 p4 p6 p8 q0 q1 S Q) : zs_U (zx σ n0 bf) d 8284 136 [(0, .ref p0), (3, .int p3), (4, .int p4), (6, .int p6), (8, .int p8)] [.int q1, .int q0] S Q := by
  unfold w_X9_variable_2_136 at h
  refine zu_stk d_8284_136 rfl rfl ?_
  refine zu_istore d_8284_137 (zs_lt zq_8284 rfl) ?_
  refine zu_iinc d_8284_139 rfl zi_1 (zs_lt zq_8284 rfl) ?_
  refine zu_goto (t := 104) d_8284_142 rfl ?_
  exact h.weak ⟨rfl, rfl, rfl, rfl, rfl, rfl, trivial⟩
def w_X9_variable_2_104 (X : zs_X) (d : Nat) (p0 : Nat) (p3 : Int32) (p4 : Int32) (p6 : Int32) (p7 : Int32) (p8 : Int32) (S : zs_T) (Q : zs_Q) : Prop :=
  (((p6 ≤ p8 → (((¬ p3 = 0 → (((¬ p3 = (1 : Int32) → (zs_K S p0 = some (.inl 8) ∧ zs_C X d 8105 [.ref p0, .int (p3 - (2 : Int32))] S (zs_kJ (fun v6 S5 => (Q (.returned (some (.int ((v6).toInt32)))) S5)) Q))) ∧ (¬ (¬ p3 = (1 : Int32)) → (Q (.returned (some (.int p7))) S))))) ∧ (¬ (¬ p3 = 0) → (Q (.returned (some (.int p6))) S))))) ∧ (¬ (p6 ≤ p8) → (zs_K S p0 = some (.inl 8) ∧ ∃ b8, (zs_R S 8167 p0) = some b8 ∧ zs_A S b8 0 p4 ∧ ∃ b11, (zs_R S 8171 p0) = some b11 ∧ zs_A S b11 2 ((zs_i S b8 p4.toNatClampNeg) + p8) ∧ (((zs_i S b11 ((zs_i S b8 p4.toNatClampNeg) + p8).toNatClampNeg) = 0 → (w_X9_variable_2_136 X d p0 p3 p4 p6 p8 p7 (0 : Int32) S Q)) ∧ (¬ ((zs_i S b11 ((zs_i S b8 p4.toNatClampNeg) + p8).toNatClampNeg) = 0) → (w_X9_variable_2_136 X d p0 p3 p4 p6 p8 p7 (1 : Int32) S Q)))))))
theorem u_X9_variable_2_104 {σ : Nat → Nat} {n0 : Nat} {bf : ab_B} {d : Nat} {p0 : Nat} {p3 : Int32} {p4 : Int32} {p6 : Int32} {p7 : Int32} {p8 : Int32} {S : zs_T} {Q : zs_Q} (hB : zt_B bf) (h : w_X9_variable_2_104 (zx σ n0 bf) d p0 p3 p4 p6 p7 p8 S Q) : zs_U (zx σ n0 bf) d 8284 104 [(0, .ref p0), (3, .int p3), (4, .int p4), (6, .int p6), (7, .int p7), (8, .int p8)] [] S Q := by
  unfold w_X9_variable_2_104 at h
  refine zu_iload d_8284_104 rfl ?_
  refine zu_iload d_8284_106 rfl ?_
  refine zu_cmpge (t := 145) d_8284_108 rfl (fun c1 => ?_) (fun c1 => ?_)
  · have h := h.1 c1
    refine zu_iload_n d_8284_145 rfl ?_
    refine zu_ifne (t := 154) d_8284_146 rfl (fun c2 => ?_) (fun c2 => ?_)
    · have h := h.1 c2
      refine zu_iload_n d_8284_154 rfl ?_
      refine zu_iconst d_8284_155 zi_1 ?_
      refine zu_cmpne (t := 164) d_8284_156 rfl (fun c3 => ?_) (fun c3 => ?_)
      · have h := h.1 c3
        refine zu_aload_n d_8284_164 rfl (zs_ra _) ?_
        refine zu_iload_n d_8284_165 rfl ?_
        refine zu_iconst d_8284_166 zi_2 ?_
        refine zu_stk d_8284_167 rfl rfl ?_
        obtain ⟨k4, h⟩ := h
        refine zc_8_627 (x0 := (p3 - (2 : Int32))) hB rfl k4 d_8284_168 (Nat.le_of_ble_eq_true rfl) h (fun v6 S5 h => ?_)
        refine zu_stk d_8284_171 rfl rfl ?_
        exact zu_iret d_8284_172 zr_8284 rfl h
      · have h := h.2 c3
        refine zu_iload d_8284_159 rfl ?_
        refine zu_goto (t := 172) d_8284_161 rfl ?_
        exact zu_iret d_8284_172 zr_8284 rfl h
    · have h := h.2 c2
      refine zu_iload d_8284_149 rfl ?_
      refine zu_goto (t := 172) d_8284_151 rfl ?_
      exact zu_iret d_8284_172 zr_8284 rfl h
  · have h := h.2 c1
    refine zu_iload d_8284_111 rfl ?_
    refine zu_aload_n d_8284_113 rfl (zs_ra _) ?_
    obtain ⟨k7, h⟩ := h
    refine zg_8_376 rfl d_8284_114 k7 ?_
    refine zu_aload_n d_8284_117 rfl (zs_ra _) ?_
    refine zg_8_362 rfl d_8284_118 k7 ?_
    refine zu_iload d_8284_121 rfl ?_
    obtain ⟨b8, e9, h⟩ := h
    refine zs_stk1 (zs_rfe e9) ?_
    obtain ⟨k10, h⟩ := h
    refine zu_iald (k := 0) d_8284_123 rfl rfl k10 ?_
    refine zu_iload d_8284_124 rfl ?_
    refine zu_stk d_8284_126 rfl rfl ?_
    obtain ⟨b11, e12, h⟩ := h
    refine zs_stk1 (zs_rfe e12) ?_
    obtain ⟨k13, h⟩ := h
    refine zu_bald (k := 2) d_8284_127 rfl (Or.inr rfl) k13 ?_
    refine zu_ifeq (t := 135) d_8284_128 rfl (fun c14 => ?_) (fun c14 => ?_)
    · have h := h.1 c14
      refine zu_iconst d_8284_135 zi_0 ?_
      exact (u_X9_variable_2_136 hB h).weak ⟨rfl, rfl, rfl, rfl, rfl, trivial⟩
    · have h := h.2 c14
      refine zu_iconst d_8284_131 zi_1 ?_
      refine zu_goto (t := 136) d_8284_132 rfl ?_
      exact (u_X9_variable_2_136 hB h).weak ⟨rfl, rfl, rfl, rfl, rfl, trivial⟩
def w_X9_variable_2 (X : zs_X) (d : Nat) (p0 : Nat) (p1 : Int32) (p2 : Int32) (p3 : Int32) (S : zs_T) (Q : zs_Q) : Prop :=
  (zs_K S p0 = some (.inl 8) ∧ zs_C X d 8282 [.ref p0, .int p1, .int p2] S (zs_kI (fun v3 S2 => (((¬ v3 = (-1 : Int32) → (zs_K S2 p0 = some (.inl 8) ∧ ∃ b6, (zs_R S2 8168 p0) = some b6 ∧ zs_A S2 b6 0 v3 ∧ zs_C X d 8074 [.ref p0, .int (zs_i S2 b6 v3.toNatClampNeg)] S2 (zs_kI (fun v10 S9 => (((v10 ≤ 0 → (w_X9_variable_2_52 X d p0 p3 v3 (0 : Int32) S9 Q)) ∧ (¬ (v10 ≤ 0) → (zs_K S9 p0 = some (.inl 8) ∧ ∃ b13, (zs_R S9 8168 p0) = some b13 ∧ zs_A S9 b13 0 v3 ∧ zs_C X d 8074 [.ref p0, .int (zs_i S9 b13 v3.toNatClampNeg)] S9 (zs_kI (fun v17 S16 => (∃ b18, (zs_R S9 8058 p0) = some b18 ∧ zs_A S16 b18 1 v17 ∧ w_X9_variable_2_52 X d p0 p3 v3 (zs_i S16 b18 v17.toNatClampNeg) S16 Q)) Q)))))) Q))) ∧ (¬ (¬ v3 = (-1 : Int32)) → (w_X9_variable_2_52 X d p0 p3 v3 (0 : Int32) S2 Q))))) Q))
theorem u_X9_variable_2 {σ : Nat → Nat} {n0 : Nat} {bf : ab_B} {d : Nat} {p0 : Nat} {p1 : Int32} {p2 : Int32} {p3 : Int32} {S : zs_T} {Q : zs_Q} (hB : zt_B bf) (hd : 1 ≤ d) (h : w_X9_variable_2 (zx σ n0 bf) (d - 1) p0 p1 p2 p3 S Q) : zs_C (zx σ n0 bf) d 8284 [.ref p0, .int p1, .int p2, .int p3] S Q := by
  have hL : lv_args 0 [.ref p0, .int p1, .int p2, .int p3] = [(0, .ref p0), (1, .int p1), (2, .int p2), (3, .int p3)] := rfl
  refine zs_C.of1 (hB.2 8284 (by decide) (by decide)) hd (by rw [hL]; exact zs_sub_self _ (by exact ⟨rfl, rfl, rfl, rfl, trivial⟩)) ?_
  rw [hL]
  clear hL
  unfold w_X9_variable_2 at h
  refine zu_aload_n d_8284_0 rfl (zs_ra _) ?_
  refine zu_iload_n d_8284_1 rfl ?_
  refine zu_iload_n d_8284_2 rfl ?_
  obtain ⟨k1, h⟩ := h
  refine zc_8_1521 (x0 := p1) (x1 := p2) hB rfl k1 d_8284_3 (Nat.le_of_ble_eq_true rfl) h (fun v3 S2 h => ?_)
  refine zu_istore d_8284_6 (zs_lt zq_8284 rfl) ?_
  refine zu_iload d_8284_8 rfl ?_
  refine zu_iconst d_8284_10 zi_m1 ?_
  refine zu_cmpne (t := 18) d_8284_11 rfl (fun c4 => ?_) (fun c4 => ?_)
  · have h := h.1 c4
    refine zu_aload_n d_8284_18 rfl (zs_ra _) ?_
    refine zu_aload_n d_8284_19 rfl (zs_ra _) ?_
    obtain ⟨k5, h⟩ := h
    refine zg_8_365 rfl d_8284_20 k5 ?_
    refine zu_iload d_8284_23 rfl ?_
    obtain ⟨b6, e7, h⟩ := h
    refine zs_stk1 (zs_rfe e7) ?_
    obtain ⟨k8, h⟩ := h
    refine zu_iald (k := 0) d_8284_25 rfl rfl k8 ?_
    refine zc_8_727 (x0 := (zs_i S2 b6 v3.toNatClampNeg)) hB rfl k5 d_8284_26 (Nat.le_of_ble_eq_true rfl) h (fun v10 S9 h => ?_)
    refine zu_ifle (t := 51) d_8284_29 rfl (fun c11 => ?_) (fun c11 => ?_)
    · have h := h.1 c11
      refine zu_iconst d_8284_51 zi_0 ?_
      exact (u_X9_variable_2_52 hB h).weak ⟨rfl, rfl, rfl, trivial⟩
    · have h := h.2 c11
      refine zu_aload_n d_8284_32 rfl (zs_ra _) ?_
      obtain ⟨k12, h⟩ := h
      refine zg_8_127 rfl d_8284_33 k12 ?_
      refine zu_aload_n d_8284_36 rfl (zs_ra _) ?_
      refine zu_aload_n d_8284_37 rfl (zs_ra _) ?_
      refine zg_8_365 rfl d_8284_38 k12 ?_
      refine zu_iload d_8284_41 rfl ?_
      obtain ⟨b13, e14, h⟩ := h
      refine zs_stk1 (zs_rfe e14) ?_
      obtain ⟨k15, h⟩ := h
      refine zu_iald (k := 0) d_8284_43 rfl rfl k15 ?_
      refine zc_8_727 (x0 := (zs_i S9 b13 v3.toNatClampNeg)) hB rfl k12 d_8284_44 (by simp only [List.map_cons, List.map_nil, List.sum_cons, List.sum_nil, zs_cat, zs_cI, zs_cJ, zs_cA]; exact Nat.le_of_ble_eq_true rfl) h (fun v17 S16 h => ?_)
      obtain ⟨b18, e19, h⟩ := h
      refine zs_stk1 (zs_rfe e19) ?_
      obtain ⟨k20, h⟩ := h
      refine zu_bald (k := 1) d_8284_47 rfl (Or.inl rfl) k20 ?_
      refine zu_goto (t := 52) d_8284_48 rfl ?_
      exact (u_X9_variable_2_52 hB h).weak ⟨rfl, rfl, rfl, trivial⟩
  · have h := h.2 c4
    refine zu_iconst d_8284_14 zi_0 ?_
    refine zu_goto (t := 52) d_8284_15 rfl ?_
    exact (u_X9_variable_2_52 hB h).weak ⟨rfl, rfl, rfl, trivial⟩
/-! SchemaPascalModel.thing(II)I -/
theorem zm_8285 {σ : Nat → Nat} {n0 : Nat} {bf : ab_B} : ab_code (zx σ n0 bf).1 8285 = prog_17_method_286_code := rfl
theorem zq_8285 {σ : Nat → Nat} {n0 : Nat} {bf : ab_B} : ab_maxL (zx σ n0 bf).1 8285 = 5 := rfl
theorem zr_8285 {σ : Nat → Nat} {n0 : Nat} {bf : ab_B} : ab_ret (zx σ n0 bf).1 8285 = (Option.some Jvm.ClassFile.FieldType.int) := rfl
theorem d_8285_0 {σ : Nat → Nat} {n0 : Nat} {bf : ab_B} : decode (ab_code (zx σ n0 bf).1 8285) 0 = .ok (.iload_n 1, 1) := zd zm_8285 (by decide +kernel)
theorem d_8285_1 {σ : Nat → Nat} {n0 : Nat} {bf : ab_B} : decode (ab_code (zx σ n0 bf).1 8285) 1 = .ok (.iconst 1, 1) := zd zm_8285 (by decide +kernel)
theorem d_8285_2 {σ : Nat → Nat} {n0 : Nat} {bf : ab_B} : decode (ab_code (zx σ n0 bf).1 8285) 2 = .ok (.if_icmp .lt 15, 3) := zd zm_8285 (by decide +kernel)
theorem d_8285_5 {σ : Nat → Nat} {n0 : Nat} {bf : ab_B} : decode (ab_code (zx σ n0 bf).1 8285) 5 = .ok (.iload_n 1, 1) := zd zm_8285 (by decide +kernel)
theorem d_8285_6 {σ : Nat → Nat} {n0 : Nat} {bf : ab_B} : decode (ab_code (zx σ n0 bf).1 8285) 6 = .ok (.aload_n 0, 1) := zd zm_8285 (by decide +kernel)
theorem d_8285_7 {σ : Nat → Nat} {n0 : Nat} {bf : ab_B} : decode (ab_code (zx σ n0 bf).1 8285) 7 = .ok (.getfield 1255, 3) := zd zm_8285 (by decide +kernel)
theorem d_8285_10 {σ : Nat → Nat} {n0 : Nat} {bf : ab_B} : decode (ab_code (zx σ n0 bf).1 8285) 10 = .ok (.if_icmp .gt 7, 3) := zd zm_8285 (by decide +kernel)
theorem d_8285_13 {σ : Nat → Nat} {n0 : Nat} {bf : ab_B} : decode (ab_code (zx σ n0 bf).1 8285) 13 = .ok (.iconst 1, 1) := zd zm_8285 (by decide +kernel)
theorem d_8285_14 {σ : Nat → Nat} {n0 : Nat} {bf : ab_B} : decode (ab_code (zx σ n0 bf).1 8285) 14 = .ok (.goto 4, 3) := zd zm_8285 (by decide +kernel)
theorem d_8285_17 {σ : Nat → Nat} {n0 : Nat} {bf : ab_B} : decode (ab_code (zx σ n0 bf).1 8285) 17 = .ok (.iconst 0, 1) := zd zm_8285 (by decide +kernel)
theorem d_8285_18 {σ : Nat → Nat} {n0 : Nat} {bf : ab_B} : decode (ab_code (zx σ n0 bf).1 8285) 18 = .ok (.istore_n 3, 1) := zd zm_8285 (by decide +kernel)
theorem d_8285_19 {σ : Nat → Nat} {n0 : Nat} {bf : ab_B} : decode (ab_code (zx σ n0 bf).1 8285) 19 = .ok (.iload_n 3, 1) := zd zm_8285 (by decide +kernel)
theorem d_8285_20 {σ : Nat → Nat} {n0 : Nat} {bf : ab_B} : decode (ab_code (zx σ n0 bf).1 8285) 20 = .ok (.ifCond .eq 16, 3) := zd zm_8285 (by decide +kernel)
theorem d_8285_23 {σ : Nat → Nat} {n0 : Nat} {bf : ab_B} : decode (ab_code (zx σ n0 bf).1 8285) 23 = .ok (.aload_n 0, 1) := zd zm_8285 (by decide +kernel)
theorem d_8285_24 {σ : Nat → Nat} {n0 : Nat} {bf : ab_B} : decode (ab_code (zx σ n0 bf).1 8285) 24 = .ok (.aload_n 0, 1) := zd zm_8285 (by decide +kernel)
theorem d_8285_25 {σ : Nat → Nat} {n0 : Nat} {bf : ab_B} : decode (ab_code (zx σ n0 bf).1 8285) 25 = .ok (.getfield 385, 3) := zd zm_8285 (by decide +kernel)
theorem d_8285_28 {σ : Nat → Nat} {n0 : Nat} {bf : ab_B} : decode (ab_code (zx σ n0 bf).1 8285) 28 = .ok (.iload_n 1, 1) := zd zm_8285 (by decide +kernel)
theorem d_8285_29 {σ : Nat → Nat} {n0 : Nat} {bf : ab_B} : decode (ab_code (zx σ n0 bf).1 8285) 29 = .ok (.iaload, 1) := zd zm_8285 (by decide +kernel)
theorem d_8285_30 {σ : Nat → Nat} {n0 : Nat} {bf : ab_B} : decode (ab_code (zx σ n0 bf).1 8285) 30 = .ok (.invokevirtual 727, 3) := zd zm_8285 (by decide +kernel)
theorem d_8285_33 {σ : Nat → Nat} {n0 : Nat} {bf : ab_B} : decode (ab_code (zx σ n0 bf).1 8285) 33 = .ok (.goto 4, 3) := zd zm_8285 (by decide +kernel)
theorem d_8285_36 {σ : Nat → Nat} {n0 : Nat} {bf : ab_B} : decode (ab_code (zx σ n0 bf).1 8285) 36 = .ok (.iconst 0, 1) := zd zm_8285 (by decide +kernel)
theorem d_8285_37 {σ : Nat → Nat} {n0 : Nat} {bf : ab_B} : decode (ab_code (zx σ n0 bf).1 8285) 37 = .ok (.istore 4, 2) := zd zm_8285 (by decide +kernel)
theorem d_8285_39 {σ : Nat → Nat} {n0 : Nat} {bf : ab_B} : decode (ab_code (zx σ n0 bf).1 8285) 39 = .ok (.aload_n 0, 1) := zd zm_8285 (by decide +kernel)
theorem d_8285_40 {σ : Nat → Nat} {n0 : Nat} {bf : ab_B} : decode (ab_code (zx σ n0 bf).1 8285) 40 = .ok (.iload_n 3, 1) := zd zm_8285 (by decide +kernel)
theorem d_8285_41 {σ : Nat → Nat} {n0 : Nat} {bf : ab_B} : decode (ab_code (zx σ n0 bf).1 8285) 41 = .ok (.ifCond .eq 29, 3) := zd zm_8285 (by decide +kernel)
theorem d_8285_44 {σ : Nat → Nat} {n0 : Nat} {bf : ab_B} : decode (ab_code (zx σ n0 bf).1 8285) 44 = .ok (.iload_n 2, 1) := zd zm_8285 (by decide +kernel)
theorem d_8285_45 {σ : Nat → Nat} {n0 : Nat} {bf : ab_B} : decode (ab_code (zx σ n0 bf).1 8285) 45 = .ok (.ifCond .lt 25, 3) := zd zm_8285 (by decide +kernel)
theorem d_8285_48 {σ : Nat → Nat} {n0 : Nat} {bf : ab_B} : decode (ab_code (zx σ n0 bf).1 8285) 48 = .ok (.iload_n 2, 1) := zd zm_8285 (by decide +kernel)
theorem d_8285_49 {σ : Nat → Nat} {n0 : Nat} {bf : ab_B} : decode (ab_code (zx σ n0 bf).1 8285) 49 = .ok (.iconst 2, 1) := zd zm_8285 (by decide +kernel)
theorem d_8285_50 {σ : Nat → Nat} {n0 : Nat} {bf : ab_B} : decode (ab_code (zx σ n0 bf).1 8285) 50 = .ok (.iload 4, 2) := zd zm_8285 (by decide +kernel)
theorem d_8285_52 {σ : Nat → Nat} {n0 : Nat} {bf : ab_B} : decode (ab_code (zx σ n0 bf).1 8285) 52 = .ok (.ifCond .le 13, 3) := zd zm_8285 (by decide +kernel)
theorem d_8285_55 {σ : Nat → Nat} {n0 : Nat} {bf : ab_B} : decode (ab_code (zx σ n0 bf).1 8285) 55 = .ok (.aload_n 0, 1) := zd zm_8285 (by decide +kernel)
theorem d_8285_56 {σ : Nat → Nat} {n0 : Nat} {bf : ab_B} : decode (ab_code (zx σ n0 bf).1 8285) 56 = .ok (.getfield 127, 3) := zd zm_8285 (by decide +kernel)
theorem d_8285_59 {σ : Nat → Nat} {n0 : Nat} {bf : ab_B} : decode (ab_code (zx σ n0 bf).1 8285) 59 = .ok (.iload 4, 2) := zd zm_8285 (by decide +kernel)
theorem d_8285_61 {σ : Nat → Nat} {n0 : Nat} {bf : ab_B} : decode (ab_code (zx σ n0 bf).1 8285) 61 = .ok (.baload, 1) := zd zm_8285 (by decide +kernel)
theorem d_8285_62 {σ : Nat → Nat} {n0 : Nat} {bf : ab_B} : decode (ab_code (zx σ n0 bf).1 8285) 62 = .ok (.goto 4, 3) := zd zm_8285 (by decide +kernel)
theorem d_8285_65 {σ : Nat → Nat} {n0 : Nat} {bf : ab_B} : decode (ab_code (zx σ n0 bf).1 8285) 65 = .ok (.iconst 0, 1) := zd zm_8285 (by decide +kernel)
theorem d_8285_66 {σ : Nat → Nat} {n0 : Nat} {bf : ab_B} : decode (ab_code (zx σ n0 bf).1 8285) 66 = .ok (.iadd, 1) := zd zm_8285 (by decide +kernel)
theorem d_8285_67 {σ : Nat → Nat} {n0 : Nat} {bf : ab_B} : decode (ab_code (zx σ n0 bf).1 8285) 67 = .ok (.if_icmp .lt 7, 3) := zd zm_8285 (by decide +kernel)
theorem d_8285_70 {σ : Nat → Nat} {n0 : Nat} {bf : ab_B} : decode (ab_code (zx σ n0 bf).1 8285) 70 = .ok (.iconst 1, 1) := zd zm_8285 (by decide +kernel)
theorem d_8285_71 {σ : Nat → Nat} {n0 : Nat} {bf : ab_B} : decode (ab_code (zx σ n0 bf).1 8285) 71 = .ok (.goto 4, 3) := zd zm_8285 (by decide +kernel)
theorem d_8285_74 {σ : Nat → Nat} {n0 : Nat} {bf : ab_B} : decode (ab_code (zx σ n0 bf).1 8285) 74 = .ok (.iconst 0, 1) := zd zm_8285 (by decide +kernel)
theorem d_8285_75 {σ : Nat → Nat} {n0 : Nat} {bf : ab_B} : decode (ab_code (zx σ n0 bf).1 8285) 75 = .ok (.putfield 441, 3) := zd zm_8285 (by decide +kernel)
theorem d_8285_78 {σ : Nat → Nat} {n0 : Nat} {bf : ab_B} : decode (ab_code (zx σ n0 bf).1 8285) 78 = .ok (.aload_n 0, 1) := zd zm_8285 (by decide +kernel)
theorem d_8285_79 {σ : Nat → Nat} {n0 : Nat} {bf : ab_B} : decode (ab_code (zx σ n0 bf).1 8285) 79 = .ok (.getfield 441, 3) := zd zm_8285 (by decide +kernel)
theorem d_8285_82 {σ : Nat → Nat} {n0 : Nat} {bf : ab_B} : decode (ab_code (zx σ n0 bf).1 8285) 82 = .ok (.ifCond .le 5, 3) := zd zm_8285 (by decide +kernel)
theorem d_8285_85 {σ : Nat → Nat} {n0 : Nat} {bf : ab_B} : decode (ab_code (zx σ n0 bf).1 8285) 85 = .ok (.iconst 0, 1) := zd zm_8285 (by decide +kernel)
theorem d_8285_86 {σ : Nat → Nat} {n0 : Nat} {bf : ab_B} : decode (ab_code (zx σ n0 bf).1 8285) 86 = .ok (.ireturn, 1) := zd zm_8285 (by decide +kernel)
theorem d_8285_87 {σ : Nat → Nat} {n0 : Nat} {bf : ab_B} : decode (ab_code (zx σ n0 bf).1 8285) 87 = .ok (.iload_n 2, 1) := zd zm_8285 (by decide +kernel)
theorem d_8285_88 {σ : Nat → Nat} {n0 : Nat} {bf : ab_B} : decode (ab_code (zx σ n0 bf).1 8285) 88 = .ok (.ifCond .ne 20, 3) := zd zm_8285 (by decide +kernel)
theorem d_8285_91 {σ : Nat → Nat} {n0 : Nat} {bf : ab_B} : decode (ab_code (zx σ n0 bf).1 8285) 91 = .ok (.aload_n 0, 1) := zd zm_8285 (by decide +kernel)
theorem d_8285_92 {σ : Nat → Nat} {n0 : Nat} {bf : ab_B} : decode (ab_code (zx σ n0 bf).1 8285) 92 = .ok (.getfield 395, 3) := zd zm_8285 (by decide +kernel)
theorem d_8285_95 {σ : Nat → Nat} {n0 : Nat} {bf : ab_B} : decode (ab_code (zx σ n0 bf).1 8285) 95 = .ok (.iload_n 1, 1) := zd zm_8285 (by decide +kernel)
theorem d_8285_96 {σ : Nat → Nat} {n0 : Nat} {bf : ab_B} : decode (ab_code (zx σ n0 bf).1 8285) 96 = .ok (.baload, 1) := zd zm_8285 (by decide +kernel)
theorem d_8285_97 {σ : Nat → Nat} {n0 : Nat} {bf : ab_B} : decode (ab_code (zx σ n0 bf).1 8285) 97 = .ok (.ifCond .eq 7, 3) := zd zm_8285 (by decide +kernel)
theorem d_8285_100 {σ : Nat → Nat} {n0 : Nat} {bf : ab_B} : decode (ab_code (zx σ n0 bf).1 8285) 100 = .ok (.iconst 1, 1) := zd zm_8285 (by decide +kernel)
theorem d_8285_101 {σ : Nat → Nat} {n0 : Nat} {bf : ab_B} : decode (ab_code (zx σ n0 bf).1 8285) 101 = .ok (.goto 47, 3) := zd zm_8285 (by decide +kernel)
theorem d_8285_104 {σ : Nat → Nat} {n0 : Nat} {bf : ab_B} : decode (ab_code (zx σ n0 bf).1 8285) 104 = .ok (.iconst 0, 1) := zd zm_8285 (by decide +kernel)
theorem d_8285_105 {σ : Nat → Nat} {n0 : Nat} {bf : ab_B} : decode (ab_code (zx σ n0 bf).1 8285) 105 = .ok (.goto 43, 3) := zd zm_8285 (by decide +kernel)
theorem d_8285_108 {σ : Nat → Nat} {n0 : Nat} {bf : ab_B} : decode (ab_code (zx σ n0 bf).1 8285) 108 = .ok (.iload_n 2, 1) := zd zm_8285 (by decide +kernel)
theorem d_8285_109 {σ : Nat → Nat} {n0 : Nat} {bf : ab_B} : decode (ab_code (zx σ n0 bf).1 8285) 109 = .ok (.iconst 1, 1) := zd zm_8285 (by decide +kernel)
theorem d_8285_110 {σ : Nat → Nat} {n0 : Nat} {bf : ab_B} : decode (ab_code (zx σ n0 bf).1 8285) 110 = .ok (.if_icmp .ne 25, 3) := zd zm_8285 (by decide +kernel)
theorem d_8285_113 {σ : Nat → Nat} {n0 : Nat} {bf : ab_B} : decode (ab_code (zx σ n0 bf).1 8285) 113 = .ok (.aload_n 0, 1) := zd zm_8285 (by decide +kernel)
theorem d_8285_114 {σ : Nat → Nat} {n0 : Nat} {bf : ab_B} : decode (ab_code (zx σ n0 bf).1 8285) 114 = .ok (.getfield 395, 3) := zd zm_8285 (by decide +kernel)
theorem d_8285_117 {σ : Nat → Nat} {n0 : Nat} {bf : ab_B} : decode (ab_code (zx σ n0 bf).1 8285) 117 = .ok (.iload_n 1, 1) := zd zm_8285 (by decide +kernel)
theorem d_8285_118 {σ : Nat → Nat} {n0 : Nat} {bf : ab_B} : decode (ab_code (zx σ n0 bf).1 8285) 118 = .ok (.baload, 1) := zd zm_8285 (by decide +kernel)
theorem d_8285_119 {σ : Nat → Nat} {n0 : Nat} {bf : ab_B} : decode (ab_code (zx σ n0 bf).1 8285) 119 = .ok (.ifCond .eq 12, 3) := zd zm_8285 (by decide +kernel)
theorem d_8285_122 {σ : Nat → Nat} {n0 : Nat} {bf : ab_B} : decode (ab_code (zx σ n0 bf).1 8285) 122 = .ok (.aload_n 0, 1) := zd zm_8285 (by decide +kernel)
theorem d_8285_123 {σ : Nat → Nat} {n0 : Nat} {bf : ab_B} : decode (ab_code (zx σ n0 bf).1 8285) 123 = .ok (.getfield 388, 3) := zd zm_8285 (by decide +kernel)
theorem d_8285_126 {σ : Nat → Nat} {n0 : Nat} {bf : ab_B} : decode (ab_code (zx σ n0 bf).1 8285) 126 = .ok (.iload_n 1, 1) := zd zm_8285 (by decide +kernel)
theorem d_8285_127 {σ : Nat → Nat} {n0 : Nat} {bf : ab_B} : decode (ab_code (zx σ n0 bf).1 8285) 127 = .ok (.iaload, 1) := zd zm_8285 (by decide +kernel)
theorem d_8285_128 {σ : Nat → Nat} {n0 : Nat} {bf : ab_B} : decode (ab_code (zx σ n0 bf).1 8285) 128 = .ok (.goto 20, 3) := zd zm_8285 (by decide +kernel)
theorem d_8285_131 {σ : Nat → Nat} {n0 : Nat} {bf : ab_B} : decode (ab_code (zx σ n0 bf).1 8285) 131 = .ok (.iconst 0, 1) := zd zm_8285 (by decide +kernel)
theorem d_8285_132 {σ : Nat → Nat} {n0 : Nat} {bf : ab_B} : decode (ab_code (zx σ n0 bf).1 8285) 132 = .ok (.goto 16, 3) := zd zm_8285 (by decide +kernel)
theorem d_8285_135 {σ : Nat → Nat} {n0 : Nat} {bf : ab_B} : decode (ab_code (zx σ n0 bf).1 8285) 135 = .ok (.aload_n 0, 1) := zd zm_8285 (by decide +kernel)
theorem d_8285_136 {σ : Nat → Nat} {n0 : Nat} {bf : ab_B} : decode (ab_code (zx σ n0 bf).1 8285) 136 = .ok (.getfield 392, 3) := zd zm_8285 (by decide +kernel)
theorem d_8285_139 {σ : Nat → Nat} {n0 : Nat} {bf : ab_B} : decode (ab_code (zx σ n0 bf).1 8285) 139 = .ok (.iconst 4, 1) := zd zm_8285 (by decide +kernel)
theorem d_8285_140 {σ : Nat → Nat} {n0 : Nat} {bf : ab_B} : decode (ab_code (zx σ n0 bf).1 8285) 140 = .ok (.iload_n 1, 1) := zd zm_8285 (by decide +kernel)
theorem d_8285_141 {σ : Nat → Nat} {n0 : Nat} {bf : ab_B} : decode (ab_code (zx σ n0 bf).1 8285) 141 = .ok (.imul, 1) := zd zm_8285 (by decide +kernel)
theorem d_8285_142 {σ : Nat → Nat} {n0 : Nat} {bf : ab_B} : decode (ab_code (zx σ n0 bf).1 8285) 142 = .ok (.iload_n 2, 1) := zd zm_8285 (by decide +kernel)
theorem d_8285_143 {σ : Nat → Nat} {n0 : Nat} {bf : ab_B} : decode (ab_code (zx σ n0 bf).1 8285) 143 = .ok (.iadd, 1) := zd zm_8285 (by decide +kernel)
theorem d_8285_144 {σ : Nat → Nat} {n0 : Nat} {bf : ab_B} : decode (ab_code (zx σ n0 bf).1 8285) 144 = .ok (.iconst 2, 1) := zd zm_8285 (by decide +kernel)
theorem d_8285_145 {σ : Nat → Nat} {n0 : Nat} {bf : ab_B} : decode (ab_code (zx σ n0 bf).1 8285) 145 = .ok (.isub, 1) := zd zm_8285 (by decide +kernel)
theorem d_8285_146 {σ : Nat → Nat} {n0 : Nat} {bf : ab_B} : decode (ab_code (zx σ n0 bf).1 8285) 146 = .ok (.laload, 1) := zd zm_8285 (by decide +kernel)
theorem d_8285_147 {σ : Nat → Nat} {n0 : Nat} {bf : ab_B} : decode (ab_code (zx σ n0 bf).1 8285) 147 = .ok (.l2i, 1) := zd zm_8285 (by decide +kernel)
theorem d_8285_148 {σ : Nat → Nat} {n0 : Nat} {bf : ab_B} : decode (ab_code (zx σ n0 bf).1 8285) 148 = .ok (.ireturn, 1) := zd zm_8285 (by decide +kernel)
def w_X9_thing_75 (X : zs_X) (d : Nat) (p0 : Nat) (p1 : Int32) (p2 : Int32) (q0 : Option Nat) (q1 : Int32) (S : zs_T) (Q : zs_Q) : Prop :=
  (∃ b1, q0 = some b1 ∧ zs_K S b1 = some (.inl 8) ∧ ab_n0 X.1 ≤ b1 ∧ ∀ S5, S5 = zs_sI S 8000 b1 q1 → zs_K S p0 = some (.inl 8) ∧ (((zs_I S5 8000 p0) ≤ 0 → (((¬ p2 = 0 → (((¬ p2 = (1 : Int32) → (∃ b12, (zs_R S5 8179 p0) = some b12 ∧ zs_A S b12 3 ((((4 : Int32) * p1) + p2) - (2 : Int32)) ∧ Q (.returned (some (.int (((zs_j S5 b12 ((((4 : Int32) * p1) + p2) - (2 : Int32)).toNatClampNeg)).toInt32)))) S5)) ∧ (¬ (¬ p2 = (1 : Int32)) → (∃ b15, (zs_R S5 8180 p0) = some b15 ∧ zs_A S b15 2 p1 ∧ (((zs_i S5 b15 p1.toNatClampNeg) = 0 → (Q (.returned (some (.int (0 : Int32)))) S5)) ∧ (¬ ((zs_i S5 b15 p1.toNatClampNeg) = 0) → (∃ b19, (zs_R S5 8178 p0) = some b19 ∧ zs_A S b19 0 p1 ∧ Q (.returned (some (.int (zs_i S5 b19 p1.toNatClampNeg)))) S5)))))))) ∧ (¬ (¬ p2 = 0) → (∃ b22, (zs_R S5 8180 p0) = some b22 ∧ zs_A S b22 2 p1 ∧ (((zs_i S5 b22 p1.toNatClampNeg) = 0 → (Q (.returned (some (.int (0 : Int32)))) S5)) ∧ (¬ ((zs_i S5 b22 p1.toNatClampNeg) = 0) → (Q (.returned (some (.int (1 : Int32)))) S5)))))))) ∧ (¬ ((zs_I S5 8000 p0) ≤ 0) → (Q (.returned (some (.int (0 : Int32)))) S5))))
theorem u_X9_thing_75 {σ : Nat → Nat} {n0 : Nat} {bf : ab_B} {d : Nat} {p0 : Nat} {p1 : Int32} {p2 : Int32} {q0 : Option Nat} {q1 : Int32} {S : zs_T} {Q : zs_Q} (hB : zt_B bf) (h : w_X9_thing_75 (zx σ n0 bf) d p0 p1 p2 q0 q1 S Q) : zs_U (zx σ n0 bf) d 8285 75 [(0, .ref p0), (1, .int p1), (2, .int p2)] [.int q1, va_rf q0] S Q := by
  unfold w_X9_thing_75 at h
  obtain ⟨b1, e2, h⟩ := h
  refine zs_stk1 (zs_rfe e2) ?_
  obtain ⟨k3, h⟩ := h
  obtain ⟨k4, h⟩ := h
  refine zp_8_441 (v := q1) rfl d_8285_75 k3 k4 ?_
  generalize e6 : zs_sI S 8000 b1 q1 = S5
  have h := h S5 e6.symm
  have K7 : ∀ b, zs_K S5 b = zs_K S b := zs_Kt e6 (zs_KsI _ _ _ _) (fun _ => rfl)
  refine zu_aload_n d_8285_78 rfl (zs_ra _) ?_
  obtain ⟨k8, h⟩ := h
  refine zg_8_441 rfl d_8285_79 ((K7 _).trans k8) ?_
  refine zu_ifle (t := 87) d_8285_82 rfl (fun c9 => ?_) (fun c9 => ?_)
  · have h := h.1 c9
    refine zu_iload_n d_8285_87 rfl ?_
    refine zu_ifne (t := 108) d_8285_88 rfl (fun c10 => ?_) (fun c10 => ?_)
    · have h := h.1 c10
      refine zu_iload_n d_8285_108 rfl ?_
      refine zu_iconst d_8285_109 zi_1 ?_
      refine zu_cmpne (t := 135) d_8285_110 rfl (fun c11 => ?_) (fun c11 => ?_)
      · have h := h.1 c11
        refine zu_aload_n d_8285_135 rfl (zs_ra _) ?_
        refine zg_8_392 rfl d_8285_136 ((K7 _).trans k8) ?_
        refine zu_iconst d_8285_139 zi_4 ?_
        refine zu_iload_n d_8285_140 rfl ?_
        refine zu_stk d_8285_141 rfl rfl ?_
        refine zu_iload_n d_8285_142 rfl ?_
        refine zu_stk d_8285_143 rfl rfl ?_
        refine zu_iconst d_8285_144 zi_2 ?_
        refine zu_stk d_8285_145 rfl rfl ?_
        obtain ⟨b12, e13, h⟩ := h
        refine zs_stk1 (zs_rfe e13) ?_
        obtain ⟨k14, h⟩ := h
        refine zu_lald (k := 3) d_8285_146 rfl rfl (zs_Ak K7 k14) ?_
        refine zu_stk d_8285_147 rfl rfl ?_
        exact zu_iret d_8285_148 zr_8285 rfl h
      · have h := h.2 c11
        refine zu_aload_n d_8285_113 rfl (zs_ra _) ?_
        refine zg_8_395 rfl d_8285_114 ((K7 _).trans k8) ?_
        refine zu_iload_n d_8285_117 rfl ?_
        obtain ⟨b15, e16, h⟩ := h
        refine zs_stk1 (zs_rfe e16) ?_
        obtain ⟨k17, h⟩ := h
        refine zu_bald (k := 2) d_8285_118 rfl (Or.inr rfl) (zs_Ak K7 k17) ?_
        refine zu_ifeq (t := 131) d_8285_119 rfl (fun c18 => ?_) (fun c18 => ?_)
        · have h := h.1 c18
          refine zu_iconst d_8285_131 zi_0 ?_
          refine zu_goto (t := 148) d_8285_132 rfl ?_
          exact zu_iret d_8285_148 zr_8285 rfl h
        · have h := h.2 c18
          refine zu_aload_n d_8285_122 rfl (zs_ra _) ?_
          refine zg_8_388 rfl d_8285_123 ((K7 _).trans k8) ?_
          refine zu_iload_n d_8285_126 rfl ?_
          obtain ⟨b19, e20, h⟩ := h
          refine zs_stk1 (zs_rfe e20) ?_
          obtain ⟨k21, h⟩ := h
          refine zu_iald (k := 0) d_8285_127 rfl rfl (zs_Ak K7 k21) ?_
          refine zu_goto (t := 148) d_8285_128 rfl ?_
          exact zu_iret d_8285_148 zr_8285 rfl h
    · have h := h.2 c10
      refine zu_aload_n d_8285_91 rfl (zs_ra _) ?_
      refine zg_8_395 rfl d_8285_92 ((K7 _).trans k8) ?_
      refine zu_iload_n d_8285_95 rfl ?_
      obtain ⟨b22, e23, h⟩ := h
      refine zs_stk1 (zs_rfe e23) ?_
      obtain ⟨k24, h⟩ := h
      refine zu_bald (k := 2) d_8285_96 rfl (Or.inr rfl) (zs_Ak K7 k24) ?_
      refine zu_ifeq (t := 104) d_8285_97 rfl (fun c25 => ?_) (fun c25 => ?_)
      · have h := h.1 c25
        refine zu_iconst d_8285_104 zi_0 ?_
        refine zu_goto (t := 148) d_8285_105 rfl ?_
        exact zu_iret d_8285_148 zr_8285 rfl h
      · have h := h.2 c25
        refine zu_iconst d_8285_100 zi_1 ?_
        refine zu_goto (t := 148) d_8285_101 rfl ?_
        exact zu_iret d_8285_148 zr_8285 rfl h
  · have h := h.2 c9
    refine zu_iconst d_8285_85 zi_0 ?_
    exact zu_iret d_8285_86 zr_8285 rfl h
def w_X9_thing_70 (X : zs_X) (d : Nat) (p0 : Nat) (p1 : Int32) (p2 : Int32) (q0 : Option Nat) (S : zs_T) (Q : zs_Q) : Prop :=
  (w_X9_thing_75 X d p0 p1 p2 q0 (1 : Int32) S Q)
theorem u_X9_thing_70 {σ : Nat → Nat} {n0 : Nat} {bf : ab_B} {d : Nat} {p0 : Nat} {p1 : Int32} {p2 : Int32} {q0 : Option Nat} {S : zs_T} {Q : zs_Q} (hB : zt_B bf) (h : w_X9_thing_70 (zx σ n0 bf) d p0 p1 p2 q0 S Q) : zs_U (zx σ n0 bf) d 8285 70 [(0, .ref p0), (1, .int p1), (2, .int p2)] [va_rf q0] S Q := by
  unfold w_X9_thing_70 at h
  refine zu_iconst d_8285_70 zi_1 ?_
  refine zu_goto (t := 75) d_8285_71 rfl ?_
  exact (u_X9_thing_75 hB h).weak ⟨rfl, rfl, rfl, trivial⟩
def w_X9_thing_66 (X : zs_X) (d : Nat) (p0 : Nat) (p1 : Int32) (p2 : Int32) (q0 : Option Nat) (q1 : Int32) (q2 : Int32) (q3 : Int32) (S : zs_T) (Q : zs_Q) : Prop :=
  (((q1 < (q2 + q3) → (w_X9_thing_75 X d p0 p1 p2 q0 (0 : Int32) S Q)) ∧ (¬ (q1 < (q2 + q3)) → w_X9_thing_70 X d p0 p1 p2 q0 S Q)))
theorem u_X9_thing_66 {σ : Nat → Nat} {n0 : Nat} {bf : ab_B} {d : Nat} {p0 : Nat} {p1 : Int32} {p2 : Int32} {q0 : Option Nat} {q1 : Int32} {q2 : Int32} {q3 : Int32} {S : zs_T} {Q : zs_Q} (hB : zt_B bf) (h : w_X9_thing_66 (zx σ n0 bf) d p0 p1 p2 q0 q1 q2 q3 S Q) : zs_U (zx σ n0 bf) d 8285 66 [(0, .ref p0), (1, .int p1), (2, .int p2)] [.int q3, .int q2, .int q1, va_rf q0] S Q := by
  unfold w_X9_thing_66 at h
  refine zu_stk d_8285_66 rfl rfl ?_
  refine zu_cmplt (t := 74) d_8285_67 rfl (fun c1 => ?_) (fun c1 => ?_)
  · have h := h.1 c1
    refine zu_iconst d_8285_74 zi_0 ?_
    exact (u_X9_thing_75 hB h).weak ⟨rfl, rfl, rfl, trivial⟩
  · have h := h.2 c1
    exact (u_X9_thing_70 hB h).weak ⟨rfl, rfl, rfl, trivial⟩
def w_X9_thing_37 (X : zs_X) (d : Nat) (p0 : Nat) (p1 : Int32) (p2 : Int32) (p3 : Int32) (q0 : Int32) (S : zs_T) (Q : zs_Q) : Prop :=
  (((p3 = 0 → w_X9_thing_70 X d p0 p1 p2 (some p0) S Q) ∧ (¬ (p3 = 0) → (((p2 < 0 → w_X9_thing_70 X d p0 p1 p2 (some p0) S Q) ∧ (¬ (p2 < 0) → (((q0 ≤ 0 → (w_X9_thing_66 X d p0 p1 p2 (some p0) p2 (2 : Int32) (0 : Int32) S Q)) ∧ (¬ (q0 ≤ 0) → (zs_K S p0 = some (.inl 8) ∧ ∃ b5, (zs_R S 8058 p0) = some b5 ∧ zs_A S b5 1 q0 ∧ w_X9_thing_66 X d p0 p1 p2 (some p0) p2 (2 : Int32) (zs_i S b5 q0.toNatClampNeg) S Q))))))))))
theorem u_X9_thing_37 {σ : Nat → Nat} {n0 : Nat} {bf : ab_B} {d : Nat} {p0 : Nat} {p1 : Int32} {p2 : Int32} {p3 : Int32} {q0 : Int32} {S : zs_T} {Q : zs_Q} (hB : zt_B bf) (h : w_X9_thing_37 (zx σ n0 bf) d p0 p1 p2 p3 q0 S Q) : zs_U (zx σ n0 bf) d 8285 37 [(0, .ref p0), (1, .int p1), (2, .int p2), (3, .int p3)] [.int q0] S Q := by
  unfold w_X9_thing_37 at h
  refine zu_istore d_8285_37 (zs_lt zq_8285 rfl) ?_
  refine zu_aload_n d_8285_39 rfl (zs_ra _) ?_
  refine zu_iload_n d_8285_40 rfl ?_
  refine zu_ifeq (t := 70) d_8285_41 rfl (fun c1 => ?_) (fun c1 => ?_)
  · have h := h.1 c1
    exact (u_X9_thing_70 hB h).weak ⟨rfl, rfl, rfl, trivial⟩
  · have h := h.2 c1
    refine zu_iload_n d_8285_44 rfl ?_
    refine zu_iflt (t := 70) d_8285_45 rfl (fun c2 => ?_) (fun c2 => ?_)
    · have h := h.1 c2
      exact (u_X9_thing_70 hB h).weak ⟨rfl, rfl, rfl, trivial⟩
    · have h := h.2 c2
      refine zu_iload_n d_8285_48 rfl ?_
      refine zu_iconst d_8285_49 zi_2 ?_
      refine zu_iload d_8285_50 rfl ?_
      refine zu_ifle (t := 65) d_8285_52 rfl (fun c3 => ?_) (fun c3 => ?_)
      · have h := h.1 c3
        refine zu_iconst d_8285_65 zi_0 ?_
        exact (u_X9_thing_66 hB h).weak ⟨rfl, rfl, rfl, trivial⟩
      · have h := h.2 c3
        refine zu_aload_n d_8285_55 rfl (zs_ra _) ?_
        obtain ⟨k4, h⟩ := h
        refine zg_8_127 rfl d_8285_56 k4 ?_
        refine zu_iload d_8285_59 rfl ?_
        obtain ⟨b5, e6, h⟩ := h
        refine zs_stk1 (zs_rfe e6) ?_
        obtain ⟨k7, h⟩ := h
        refine zu_bald (k := 1) d_8285_61 rfl (Or.inl rfl) k7 ?_
        refine zu_goto (t := 66) d_8285_62 rfl ?_
        exact (u_X9_thing_66 hB h).weak ⟨rfl, rfl, rfl, trivial⟩
def w_X9_thing_18 (X : zs_X) (d : Nat) (p0 : Nat) (p1 : Int32) (p2 : Int32) (q0 : Int32) (S : zs_T) (Q : zs_Q) : Prop :=
  (((q0 = 0 → (w_X9_thing_37 X d p0 p1 p2 q0 (0 : Int32) S Q)) ∧ (¬ (q0 = 0) → (zs_K S p0 = some (.inl 8) ∧ ∃ b3, (zs_R S 8177 p0) = some b3 ∧ zs_A S b3 0 p1 ∧ zs_C X d 8074 [.ref p0, .int (zs_i S b3 p1.toNatClampNeg)] S (zs_kI (fun v7 S6 => (w_X9_thing_37 X d p0 p1 p2 q0 v7 S6 Q)) Q)))))
theorem u_X9_thing_18 {σ : Nat → Nat} {n0 : Nat} {bf : ab_B} {d : Nat} {p0 : Nat} {p1 : Int32} {p2 : Int32} {q0 : Int32} {S : zs_T} {Q : zs_Q} (hB : zt_B bf) (h : w_X9_thing_18 (zx σ n0 bf) d p0 p1 p2 q0 S Q) : zs_U (zx σ n0 bf) d 8285 18 [(0, .ref p0), (1, .int p1), (2, .int p2)] [.int q0] S Q := by
  unfold w_X9_thing_18 at h
  refine zu_istore_n d_8285_18 (zs_lt zq_8285 rfl) ?_
  refine zu_iload_n d_8285_19 rfl ?_
  refine zu_ifeq (t := 36) d_8285_20 rfl (fun c1 => ?_) (fun c1 => ?_)
  · have h := h.1 c1
    refine zu_iconst d_8285_36 zi_0 ?_
    exact (u_X9_thing_37 hB h).weak ⟨rfl, rfl, rfl, rfl, trivial⟩
  · have h := h.2 c1
    refine zu_aload_n d_8285_23 rfl (zs_ra _) ?_
    refine zu_aload_n d_8285_24 rfl (zs_ra _) ?_
    obtain ⟨k2, h⟩ := h
    refine zg_8_385 rfl d_8285_25 k2 ?_
    refine zu_iload_n d_8285_28 rfl ?_
    obtain ⟨b3, e4, h⟩ := h
    refine zs_stk1 (zs_rfe e4) ?_
    obtain ⟨k5, h⟩ := h
    refine zu_iald (k := 0) d_8285_29 rfl rfl k5 ?_
    refine zc_8_727 (x0 := (zs_i S b3 p1.toNatClampNeg)) hB rfl k2 d_8285_30 (Nat.le_of_ble_eq_true rfl) h (fun v7 S6 h => ?_)
    refine zu_goto (t := 37) d_8285_33 rfl ?_
    exact (u_X9_thing_37 hB h).weak ⟨rfl, rfl, rfl, rfl, trivial⟩
def w_X9_thing_17 (X : zs_X) (d : Nat) (p0 : Nat) (p1 : Int32) (p2 : Int32) (S : zs_T) (Q : zs_Q) : Prop :=
  (w_X9_thing_18 X d p0 p1 p2 (0 : Int32) S Q)
theorem u_X9_thing_17 {σ : Nat → Nat} {n0 : Nat} {bf : ab_B} {d : Nat} {p0 : Nat} {p1 : Int32} {p2 : Int32} {S : zs_T} {Q : zs_Q} (hB : zt_B bf) (h : w_X9_thing_17 (zx σ n0 bf) d p0 p1 p2 S Q) : zs_U (zx σ n0 bf) d 8285 17 [(0, .ref p0), (1, .int p1), (2, .int p2)] [] S Q := by
  unfold w_X9_thing_17 at h
  refine zu_iconst d_8285_17 zi_0 ?_
  exact (u_X9_thing_18 hB h).weak ⟨rfl, rfl, rfl, trivial⟩
def w_X9_thing (X : zs_X) (d : Nat) (p0 : Nat) (p1 : Int32) (p2 : Int32) (S : zs_T) (Q : zs_Q) : Prop :=
  (((p1 < (1 : Int32) → w_X9_thing_17 X d p0 p1 p2 S Q) ∧ (¬ (p1 < (1 : Int32)) → (zs_K S p0 = some (.inl 8) ∧ (((zs_I S 8181 p0) < p1 → w_X9_thing_17 X d p0 p1 p2 S Q) ∧ (¬ ((zs_I S 8181 p0) < p1) → (w_X9_thing_18 X d p0 p1 p2 (1 : Int32) S Q)))))))
theorem u_X9_thing {σ : Nat → Nat} {n0 : Nat} {bf : ab_B} {d : Nat} {p0 : Nat} {p1 : Int32} {p2 : Int32} {S : zs_T} {Q : zs_Q} (hB : zt_B bf) (hd : 1 ≤ d) (h : w_X9_thing (zx σ n0 bf) (d - 1) p0 p1 p2 S Q) : zs_C (zx σ n0 bf) d 8285 [.ref p0, .int p1, .int p2] S Q := by
  have hL : lv_args 0 [.ref p0, .int p1, .int p2] = [(0, .ref p0), (1, .int p1), (2, .int p2)] := rfl
  refine zs_C.of1 (hB.2 8285 (by decide) (by decide)) hd (by rw [hL]; exact zs_sub_self _ (by exact ⟨rfl, rfl, rfl, trivial⟩)) ?_
  rw [hL]
  clear hL
  unfold w_X9_thing at h
  refine zu_iload_n d_8285_0 rfl ?_
  refine zu_iconst d_8285_1 zi_1 ?_
  refine zu_cmplt (t := 17) d_8285_2 rfl (fun c1 => ?_) (fun c1 => ?_)
  · have h := h.1 c1
    exact (u_X9_thing_17 hB h).weak ⟨rfl, rfl, rfl, trivial⟩
  · have h := h.2 c1
    refine zu_iload_n d_8285_5 rfl ?_
    refine zu_aload_n d_8285_6 rfl (zs_ra _) ?_
    obtain ⟨k2, h⟩ := h
    refine zg_8_1255 rfl d_8285_7 k2 ?_
    refine zu_cmpgt (t := 17) d_8285_10 rfl (fun c3 => ?_) (fun c3 => ?_)
    · have h := h.1 c3
      exact (u_X9_thing_17 hB h).weak ⟨rfl, rfl, rfl, trivial⟩
    · have h := h.2 c3
      refine zu_iconst d_8285_13 zi_1 ?_
      refine zu_goto (t := 18) d_8285_14 rfl ?_
      exact (u_X9_thing_18 hB h).weak ⟨rfl, rfl, rfl, trivial⟩
/-! SchemaPascalModel.cell(II)J -/
theorem zm_8286 {σ : Nat → Nat} {n0 : Nat} {bf : ab_B} : ab_code (zx σ n0 bf).1 8286 = prog_17_method_287_code := rfl
theorem zq_8286 {σ : Nat → Nat} {n0 : Nat} {bf : ab_B} : ab_maxL (zx σ n0 bf).1 8286 = 3 := rfl
theorem zr_8286 {σ : Nat → Nat} {n0 : Nat} {bf : ab_B} : ab_ret (zx σ n0 bf).1 8286 = (Option.some Jvm.ClassFile.FieldType.long) := rfl
theorem d_8286_0 {σ : Nat → Nat} {n0 : Nat} {bf : ab_B} : decode (ab_code (zx σ n0 bf).1 8286) 0 = .ok (.aload_n 0, 1) := zd zm_8286 (by decide +kernel)
theorem d_8286_1 {σ : Nat → Nat} {n0 : Nat} {bf : ab_B} : decode (ab_code (zx σ n0 bf).1 8286) 1 = .ok (.iload_n 1, 1) := zd zm_8286 (by decide +kernel)
theorem d_8286_2 {σ : Nat → Nat} {n0 : Nat} {bf : ab_B} : decode (ab_code (zx σ n0 bf).1 8286) 2 = .ok (.iconst 1, 1) := zd zm_8286 (by decide +kernel)
theorem d_8286_3 {σ : Nat → Nat} {n0 : Nat} {bf : ab_B} : decode (ab_code (zx σ n0 bf).1 8286) 3 = .ok (.if_icmp .lt 34, 3) := zd zm_8286 (by decide +kernel)
theorem d_8286_6 {σ : Nat → Nat} {n0 : Nat} {bf : ab_B} : decode (ab_code (zx σ n0 bf).1 8286) 6 = .ok (.iload_n 1, 1) := zd zm_8286 (by decide +kernel)
theorem d_8286_7 {σ : Nat → Nat} {n0 : Nat} {bf : ab_B} : decode (ab_code (zx σ n0 bf).1 8286) 7 = .ok (.aload_n 0, 1) := zd zm_8286 (by decide +kernel)
theorem d_8286_8 {σ : Nat → Nat} {n0 : Nat} {bf : ab_B} : decode (ab_code (zx σ n0 bf).1 8286) 8 = .ok (.getfield 1255, 3) := zd zm_8286 (by decide +kernel)
theorem d_8286_11 {σ : Nat → Nat} {n0 : Nat} {bf : ab_B} : decode (ab_code (zx σ n0 bf).1 8286) 11 = .ok (.if_icmp .gt 26, 3) := zd zm_8286 (by decide +kernel)
theorem d_8286_14 {σ : Nat → Nat} {n0 : Nat} {bf : ab_B} : decode (ab_code (zx σ n0 bf).1 8286) 14 = .ok (.aload_n 0, 1) := zd zm_8286 (by decide +kernel)
theorem d_8286_15 {σ : Nat → Nat} {n0 : Nat} {bf : ab_B} : decode (ab_code (zx σ n0 bf).1 8286) 15 = .ok (.getfield 395, 3) := zd zm_8286 (by decide +kernel)
theorem d_8286_18 {σ : Nat → Nat} {n0 : Nat} {bf : ab_B} : decode (ab_code (zx σ n0 bf).1 8286) 18 = .ok (.iload_n 1, 1) := zd zm_8286 (by decide +kernel)
theorem d_8286_19 {σ : Nat → Nat} {n0 : Nat} {bf : ab_B} : decode (ab_code (zx σ n0 bf).1 8286) 19 = .ok (.baload, 1) := zd zm_8286 (by decide +kernel)
theorem d_8286_20 {σ : Nat → Nat} {n0 : Nat} {bf : ab_B} : decode (ab_code (zx σ n0 bf).1 8286) 20 = .ok (.ifCond .eq 17, 3) := zd zm_8286 (by decide +kernel)
theorem d_8286_23 {σ : Nat → Nat} {n0 : Nat} {bf : ab_B} : decode (ab_code (zx σ n0 bf).1 8286) 23 = .ok (.iload_n 2, 1) := zd zm_8286 (by decide +kernel)
theorem d_8286_24 {σ : Nat → Nat} {n0 : Nat} {bf : ab_B} : decode (ab_code (zx σ n0 bf).1 8286) 24 = .ok (.ifCond .lt 13, 3) := zd zm_8286 (by decide +kernel)
theorem d_8286_27 {σ : Nat → Nat} {n0 : Nat} {bf : ab_B} : decode (ab_code (zx σ n0 bf).1 8286) 27 = .ok (.iload_n 2, 1) := zd zm_8286 (by decide +kernel)
theorem d_8286_28 {σ : Nat → Nat} {n0 : Nat} {bf : ab_B} : decode (ab_code (zx σ n0 bf).1 8286) 28 = .ok (.aload_n 0, 1) := zd zm_8286 (by decide +kernel)
theorem d_8286_29 {σ : Nat → Nat} {n0 : Nat} {bf : ab_B} : decode (ab_code (zx σ n0 bf).1 8286) 29 = .ok (.getfield 388, 3) := zd zm_8286 (by decide +kernel)
theorem d_8286_32 {σ : Nat → Nat} {n0 : Nat} {bf : ab_B} : decode (ab_code (zx σ n0 bf).1 8286) 32 = .ok (.iload_n 1, 1) := zd zm_8286 (by decide +kernel)
theorem d_8286_33 {σ : Nat → Nat} {n0 : Nat} {bf : ab_B} : decode (ab_code (zx σ n0 bf).1 8286) 33 = .ok (.iaload, 1) := zd zm_8286 (by decide +kernel)
theorem d_8286_34 {σ : Nat → Nat} {n0 : Nat} {bf : ab_B} : decode (ab_code (zx σ n0 bf).1 8286) 34 = .ok (.if_icmp .lt 7, 3) := zd zm_8286 (by decide +kernel)
theorem d_8286_37 {σ : Nat → Nat} {n0 : Nat} {bf : ab_B} : decode (ab_code (zx σ n0 bf).1 8286) 37 = .ok (.iconst 1, 1) := zd zm_8286 (by decide +kernel)
theorem d_8286_38 {σ : Nat → Nat} {n0 : Nat} {bf : ab_B} : decode (ab_code (zx σ n0 bf).1 8286) 38 = .ok (.goto 24, 3) := zd zm_8286 (by decide +kernel)
theorem d_8286_41 {σ : Nat → Nat} {n0 : Nat} {bf : ab_B} : decode (ab_code (zx σ n0 bf).1 8286) 41 = .ok (.aload_n 0, 1) := zd zm_8286 (by decide +kernel)
theorem d_8286_42 {σ : Nat → Nat} {n0 : Nat} {bf : ab_B} : decode (ab_code (zx σ n0 bf).1 8286) 42 = .ok (.getfield 376, 3) := zd zm_8286 (by decide +kernel)
theorem d_8286_45 {σ : Nat → Nat} {n0 : Nat} {bf : ab_B} : decode (ab_code (zx σ n0 bf).1 8286) 45 = .ok (.aload_n 0, 1) := zd zm_8286 (by decide +kernel)
theorem d_8286_46 {σ : Nat → Nat} {n0 : Nat} {bf : ab_B} : decode (ab_code (zx σ n0 bf).1 8286) 46 = .ok (.getfield 382, 3) := zd zm_8286 (by decide +kernel)
theorem d_8286_49 {σ : Nat → Nat} {n0 : Nat} {bf : ab_B} : decode (ab_code (zx σ n0 bf).1 8286) 49 = .ok (.iload_n 1, 1) := zd zm_8286 (by decide +kernel)
theorem d_8286_50 {σ : Nat → Nat} {n0 : Nat} {bf : ab_B} : decode (ab_code (zx σ n0 bf).1 8286) 50 = .ok (.iaload, 1) := zd zm_8286 (by decide +kernel)
theorem d_8286_51 {σ : Nat → Nat} {n0 : Nat} {bf : ab_B} : decode (ab_code (zx σ n0 bf).1 8286) 51 = .ok (.iload_n 2, 1) := zd zm_8286 (by decide +kernel)
theorem d_8286_52 {σ : Nat → Nat} {n0 : Nat} {bf : ab_B} : decode (ab_code (zx σ n0 bf).1 8286) 52 = .ok (.iadd, 1) := zd zm_8286 (by decide +kernel)
theorem d_8286_53 {σ : Nat → Nat} {n0 : Nat} {bf : ab_B} : decode (ab_code (zx σ n0 bf).1 8286) 53 = .ok (.baload, 1) := zd zm_8286 (by decide +kernel)
theorem d_8286_54 {σ : Nat → Nat} {n0 : Nat} {bf : ab_B} : decode (ab_code (zx σ n0 bf).1 8286) 54 = .ok (.ifCond .ne 7, 3) := zd zm_8286 (by decide +kernel)
theorem d_8286_57 {σ : Nat → Nat} {n0 : Nat} {bf : ab_B} : decode (ab_code (zx σ n0 bf).1 8286) 57 = .ok (.iconst 2, 1) := zd zm_8286 (by decide +kernel)
theorem d_8286_58 {σ : Nat → Nat} {n0 : Nat} {bf : ab_B} : decode (ab_code (zx σ n0 bf).1 8286) 58 = .ok (.goto 4, 3) := zd zm_8286 (by decide +kernel)
theorem d_8286_61 {σ : Nat → Nat} {n0 : Nat} {bf : ab_B} : decode (ab_code (zx σ n0 bf).1 8286) 61 = .ok (.iconst 0, 1) := zd zm_8286 (by decide +kernel)
theorem d_8286_62 {σ : Nat → Nat} {n0 : Nat} {bf : ab_B} : decode (ab_code (zx σ n0 bf).1 8286) 62 = .ok (.putfield 441, 3) := zd zm_8286 (by decide +kernel)
theorem d_8286_65 {σ : Nat → Nat} {n0 : Nat} {bf : ab_B} : decode (ab_code (zx σ n0 bf).1 8286) 65 = .ok (.aload_n 0, 1) := zd zm_8286 (by decide +kernel)
theorem d_8286_66 {σ : Nat → Nat} {n0 : Nat} {bf : ab_B} : decode (ab_code (zx σ n0 bf).1 8286) 66 = .ok (.getfield 441, 3) := zd zm_8286 (by decide +kernel)
theorem d_8286_69 {σ : Nat → Nat} {n0 : Nat} {bf : ab_B} : decode (ab_code (zx σ n0 bf).1 8286) 69 = .ok (.ifCond .le 7, 3) := zd zm_8286 (by decide +kernel)
theorem d_8286_72 {σ : Nat → Nat} {n0 : Nat} {bf : ab_B} : decode (ab_code (zx σ n0 bf).1 8286) 72 = .ok (.lconst 0, 1) := zd zm_8286 (by decide +kernel)
theorem d_8286_73 {σ : Nat → Nat} {n0 : Nat} {bf : ab_B} : decode (ab_code (zx σ n0 bf).1 8286) 73 = .ok (.goto 16, 3) := zd zm_8286 (by decide +kernel)
theorem d_8286_76 {σ : Nat → Nat} {n0 : Nat} {bf : ab_B} : decode (ab_code (zx σ n0 bf).1 8286) 76 = .ok (.aload_n 0, 1) := zd zm_8286 (by decide +kernel)
theorem d_8286_77 {σ : Nat → Nat} {n0 : Nat} {bf : ab_B} : decode (ab_code (zx σ n0 bf).1 8286) 77 = .ok (.getfield 373, 3) := zd zm_8286 (by decide +kernel)
theorem d_8286_80 {σ : Nat → Nat} {n0 : Nat} {bf : ab_B} : decode (ab_code (zx σ n0 bf).1 8286) 80 = .ok (.aload_n 0, 1) := zd zm_8286 (by decide +kernel)
theorem d_8286_81 {σ : Nat → Nat} {n0 : Nat} {bf : ab_B} : decode (ab_code (zx σ n0 bf).1 8286) 81 = .ok (.getfield 382, 3) := zd zm_8286 (by decide +kernel)
theorem d_8286_84 {σ : Nat → Nat} {n0 : Nat} {bf : ab_B} : decode (ab_code (zx σ n0 bf).1 8286) 84 = .ok (.iload_n 1, 1) := zd zm_8286 (by decide +kernel)
theorem d_8286_85 {σ : Nat → Nat} {n0 : Nat} {bf : ab_B} : decode (ab_code (zx σ n0 bf).1 8286) 85 = .ok (.iaload, 1) := zd zm_8286 (by decide +kernel)
theorem d_8286_86 {σ : Nat → Nat} {n0 : Nat} {bf : ab_B} : decode (ab_code (zx σ n0 bf).1 8286) 86 = .ok (.iload_n 2, 1) := zd zm_8286 (by decide +kernel)
theorem d_8286_87 {σ : Nat → Nat} {n0 : Nat} {bf : ab_B} : decode (ab_code (zx σ n0 bf).1 8286) 87 = .ok (.iadd, 1) := zd zm_8286 (by decide +kernel)
theorem d_8286_88 {σ : Nat → Nat} {n0 : Nat} {bf : ab_B} : decode (ab_code (zx σ n0 bf).1 8286) 88 = .ok (.laload, 1) := zd zm_8286 (by decide +kernel)
theorem d_8286_89 {σ : Nat → Nat} {n0 : Nat} {bf : ab_B} : decode (ab_code (zx σ n0 bf).1 8286) 89 = .ok (.lreturn, 1) := zd zm_8286 (by decide +kernel)
def w_X9_cell_62 (X : zs_X) (d : Nat) (p0 : Nat) (p1 : Int32) (p2 : Int32) (q0 : Option Nat) (q1 : Int32) (S : zs_T) (Q : zs_Q) : Prop :=
  (∃ b1, q0 = some b1 ∧ zs_K S b1 = some (.inl 8) ∧ ab_n0 X.1 ≤ b1 ∧ ∀ S5, S5 = zs_sI S 8000 b1 q1 → zs_K S p0 = some (.inl 8) ∧ (((zs_I S5 8000 p0) ≤ 0 → (∃ b10, (zs_R S5 8176 p0) = some b10 ∧ zs_A S b10 0 p1 ∧ ∃ b13, (zs_R S5 8170 p0) = some b13 ∧ zs_A S b13 3 ((zs_i S5 b10 p1.toNatClampNeg) + p2) ∧ Q (.returned (some (.long (zs_j S5 b13 ((zs_i S5 b10 p1.toNatClampNeg) + p2).toNatClampNeg)))) S5)) ∧ (¬ ((zs_I S5 8000 p0) ≤ 0) → (Q (.returned (some (.long (0 : Int64)))) S5))))
theorem u_X9_cell_62 {σ : Nat → Nat} {n0 : Nat} {bf : ab_B} {d : Nat} {p0 : Nat} {p1 : Int32} {p2 : Int32} {q0 : Option Nat} {q1 : Int32} {S : zs_T} {Q : zs_Q} (hB : zt_B bf) (h : w_X9_cell_62 (zx σ n0 bf) d p0 p1 p2 q0 q1 S Q) : zs_U (zx σ n0 bf) d 8286 62 [(0, .ref p0), (1, .int p1), (2, .int p2)] [.int q1, va_rf q0] S Q := by
  unfold w_X9_cell_62 at h
  obtain ⟨b1, e2, h⟩ := h
  refine zs_stk1 (zs_rfe e2) ?_
  obtain ⟨k3, h⟩ := h
  obtain ⟨k4, h⟩ := h
  refine zp_8_441 (v := q1) rfl d_8286_62 k3 k4 ?_
  generalize e6 : zs_sI S 8000 b1 q1 = S5
  have h := h S5 e6.symm
  have K7 : ∀ b, zs_K S5 b = zs_K S b := zs_Kt e6 (zs_KsI _ _ _ _) (fun _ => rfl)
  refine zu_aload_n d_8286_65 rfl (zs_ra _) ?_
  obtain ⟨k8, h⟩ := h
  refine zg_8_441 rfl d_8286_66 ((K7 _).trans k8) ?_
  refine zu_ifle (t := 76) d_8286_69 rfl (fun c9 => ?_) (fun c9 => ?_)
  · have h := h.1 c9
    refine zu_aload_n d_8286_76 rfl (zs_ra _) ?_
    refine zg_8_373 rfl d_8286_77 ((K7 _).trans k8) ?_
    refine zu_aload_n d_8286_80 rfl (zs_ra _) ?_
    refine zg_8_382 rfl d_8286_81 ((K7 _).trans k8) ?_
    refine zu_iload_n d_8286_84 rfl ?_
    obtain ⟨b10, e11, h⟩ := h
    refine zs_stk1 (zs_rfe e11) ?_
    obtain ⟨k12, h⟩ := h
    refine zu_iald (k := 0) d_8286_85 rfl rfl (zs_Ak K7 k12) ?_
    refine zu_iload_n d_8286_86 rfl ?_
    refine zu_stk d_8286_87 rfl rfl ?_
    obtain ⟨b13, e14, h⟩ := h
    refine zs_stk1 (zs_rfe e14) ?_
    obtain ⟨k15, h⟩ := h
    refine zu_lald (k := 3) d_8286_88 rfl rfl (zs_Ak K7 k15) ?_
    exact zu_lret d_8286_89 zr_8286 h
  · have h := h.2 c9
    refine zu_lconst (v := 0) d_8286_72 rfl ?_
    refine zu_goto (t := 89) d_8286_73 rfl ?_
    exact zu_lret d_8286_89 zr_8286 h
def w_X9_cell_37 (X : zs_X) (d : Nat) (p0 : Nat) (p1 : Int32) (p2 : Int32) (q0 : Option Nat) (S : zs_T) (Q : zs_Q) : Prop :=
  (w_X9_cell_62 X d p0 p1 p2 q0 (1 : Int32) S Q)
theorem u_X9_cell_37 {σ : Nat → Nat} {n0 : Nat} {bf : ab_B} {d : Nat} {p0 : Nat} {p1 : Int32} {p2 : Int32} {q0 : Option Nat} {S : zs_T} {Q : zs_Q} (hB : zt_B bf) (h : w_X9_cell_37 (zx σ n0 bf) d p0 p1 p2 q0 S Q) : zs_U (zx σ n0 bf) d 8286 37 [(0, .ref p0), (1, .int p1), (2, .int p2)] [va_rf q0] S Q := by
  unfold w_X9_cell_37 at h
  refine zu_iconst d_8286_37 zi_1 ?_
  refine zu_goto (t := 62) d_8286_38 rfl ?_
  exact (u_X9_cell_62 hB h).weak ⟨rfl, rfl, rfl, trivial⟩
def w_X9_cell_57 (X : zs_X) (d : Nat) (p0 : Nat) (p1 : Int32) (p2 : Int32) (q0 : Option Nat) (S : zs_T) (Q : zs_Q) : Prop :=
  (w_X9_cell_62 X d p0 p1 p2 q0 (2 : Int32) S Q)
theorem u_X9_cell_57 {σ : Nat → Nat} {n0 : Nat} {bf : ab_B} {d : Nat} {p0 : Nat} {p1 : Int32} {p2 : Int32} {q0 : Option Nat} {S : zs_T} {Q : zs_Q} (hB : zt_B bf) (h : w_X9_cell_57 (zx σ n0 bf) d p0 p1 p2 q0 S Q) : zs_U (zx σ n0 bf) d 8286 57 [(0, .ref p0), (1, .int p1), (2, .int p2)] [va_rf q0] S Q := by
  unfold w_X9_cell_57 at h
  refine zu_iconst d_8286_57 zi_2 ?_
  refine zu_goto (t := 62) d_8286_58 rfl ?_
  exact (u_X9_cell_62 hB h).weak ⟨rfl, rfl, rfl, trivial⟩
def w_X9_cell_61 (X : zs_X) (d : Nat) (p0 : Nat) (p1 : Int32) (p2 : Int32) (q0 : Option Nat) (S : zs_T) (Q : zs_Q) : Prop :=
  (w_X9_cell_62 X d p0 p1 p2 q0 (0 : Int32) S Q)
theorem u_X9_cell_61 {σ : Nat → Nat} {n0 : Nat} {bf : ab_B} {d : Nat} {p0 : Nat} {p1 : Int32} {p2 : Int32} {q0 : Option Nat} {S : zs_T} {Q : zs_Q} (hB : zt_B bf) (h : w_X9_cell_61 (zx σ n0 bf) d p0 p1 p2 q0 S Q) : zs_U (zx σ n0 bf) d 8286 61 [(0, .ref p0), (1, .int p1), (2, .int p2)] [va_rf q0] S Q := by
  unfold w_X9_cell_61 at h
  refine zu_iconst d_8286_61 zi_0 ?_
  exact (u_X9_cell_62 hB h).weak ⟨rfl, rfl, rfl, trivial⟩
def w_X9_cell (X : zs_X) (d : Nat) (p0 : Nat) (p1 : Int32) (p2 : Int32) (S : zs_T) (Q : zs_Q) : Prop :=
  (((p1 < (1 : Int32) → w_X9_cell_37 X d p0 p1 p2 (some p0) S Q) ∧ (¬ (p1 < (1 : Int32)) → (zs_K S p0 = some (.inl 8) ∧ (((zs_I S 8181 p0) < p1 → w_X9_cell_37 X d p0 p1 p2 (some p0) S Q) ∧ (¬ ((zs_I S 8181 p0) < p1) → (∃ b4, (zs_R S 8180 p0) = some b4 ∧ zs_A S b4 2 p1 ∧ (((zs_i S b4 p1.toNatClampNeg) = 0 → w_X9_cell_37 X d p0 p1 p2 (some p0) S Q) ∧ (¬ ((zs_i S b4 p1.toNatClampNeg) = 0) → (((p2 < 0 → w_X9_cell_37 X d p0 p1 p2 (some p0) S Q) ∧ (¬ (p2 < 0) → (∃ b9, (zs_R S 8178 p0) = some b9 ∧ zs_A S b9 0 p1 ∧ ((p2 < (zs_i S b9 p1.toNatClampNeg) → (∃ b13, (zs_R S 8176 p0) = some b13 ∧ zs_A S b13 0 p1 ∧ ∃ b16, (zs_R S 8171 p0) = some b16 ∧ zs_A S b16 2 ((zs_i S b13 p1.toNatClampNeg) + p2) ∧ ((¬ (zs_i S b16 ((zs_i S b13 p1.toNatClampNeg) + p2).toNatClampNeg) = 0 → w_X9_cell_61 X d p0 p1 p2 (some p0) S Q) ∧ (¬ (¬ (zs_i S b16 ((zs_i S b13 p1.toNatClampNeg) + p2).toNatClampNeg) = 0) → w_X9_cell_57 X d p0 p1 p2 (some p0) S Q)))) ∧ (¬ (p2 < (zs_i S b9 p1.toNatClampNeg)) → w_X9_cell_37 X d p0 p1 p2 (some p0) S Q)))))))))))))))
theorem u_X9_cell {σ : Nat → Nat} {n0 : Nat} {bf : ab_B} {d : Nat} {p0 : Nat} {p1 : Int32} {p2 : Int32} {S : zs_T} {Q : zs_Q} (hB : zt_B bf) (hd : 1 ≤ d) (h : w_X9_cell (zx σ n0 bf) (d - 1) p0 p1 p2 S Q) : zs_C (zx σ n0 bf) d 8286 [.ref p0, .int p1, .int p2] S Q := by
  have hL : lv_args 0 [.ref p0, .int p1, .int p2] = [(0, .ref p0), (1, .int p1), (2, .int p2)] := rfl
  refine zs_C.of1 (hB.2 8286 (by decide) (by decide)) hd (by rw [hL]; exact zs_sub_self _ (by exact ⟨rfl, rfl, rfl, trivial⟩)) ?_
  rw [hL]
  clear hL
  unfold w_X9_cell at h
  refine zu_aload_n d_8286_0 rfl (zs_ra _) ?_
  refine zu_iload_n d_8286_1 rfl ?_
  refine zu_iconst d_8286_2 zi_1 ?_
  refine zu_cmplt (t := 37) d_8286_3 rfl (fun c1 => ?_) (fun c1 => ?_)
  · have h := h.1 c1
    exact (u_X9_cell_37 hB h).weak ⟨rfl, rfl, rfl, trivial⟩
  · have h := h.2 c1
    refine zu_iload_n d_8286_6 rfl ?_
    refine zu_aload_n d_8286_7 rfl (zs_ra _) ?_
    obtain ⟨k2, h⟩ := h
    refine zg_8_1255 rfl d_8286_8 k2 ?_
    refine zu_cmpgt (t := 37) d_8286_11 rfl (fun c3 => ?_) (fun c3 => ?_)
    · have h := h.1 c3
      exact (u_X9_cell_37 hB h).weak ⟨rfl, rfl, rfl, trivial⟩
    · have h := h.2 c3
      refine zu_aload_n d_8286_14 rfl (zs_ra _) ?_
      refine zg_8_395 rfl d_8286_15 k2 ?_
      refine zu_iload_n d_8286_18 rfl ?_
      obtain ⟨b4, e5, h⟩ := h
      refine zs_stk1 (zs_rfe e5) ?_
      obtain ⟨k6, h⟩ := h
      refine zu_bald (k := 2) d_8286_19 rfl (Or.inr rfl) k6 ?_
      refine zu_ifeq (t := 37) d_8286_20 rfl (fun c7 => ?_) (fun c7 => ?_)
      · have h := h.1 c7
        exact (u_X9_cell_37 hB h).weak ⟨rfl, rfl, rfl, trivial⟩
      · have h := h.2 c7
        refine zu_iload_n d_8286_23 rfl ?_
        refine zu_iflt (t := 37) d_8286_24 rfl (fun c8 => ?_) (fun c8 => ?_)
        · have h := h.1 c8
          exact (u_X9_cell_37 hB h).weak ⟨rfl, rfl, rfl, trivial⟩
        · have h := h.2 c8
          refine zu_iload_n d_8286_27 rfl ?_
          refine zu_aload_n d_8286_28 rfl (zs_ra _) ?_
          refine zg_8_388 rfl d_8286_29 k2 ?_
          refine zu_iload_n d_8286_32 rfl ?_
          obtain ⟨b9, e10, h⟩ := h
          refine zs_stk1 (zs_rfe e10) ?_
          obtain ⟨k11, h⟩ := h
          refine zu_iald (k := 0) d_8286_33 rfl rfl k11 ?_
          refine zu_cmplt (t := 41) d_8286_34 rfl (fun c12 => ?_) (fun c12 => ?_)
          · have h := h.1 c12
            refine zu_aload_n d_8286_41 rfl (zs_ra _) ?_
            refine zg_8_376 rfl d_8286_42 k2 ?_
            refine zu_aload_n d_8286_45 rfl (zs_ra _) ?_
            refine zg_8_382 rfl d_8286_46 k2 ?_
            refine zu_iload_n d_8286_49 rfl ?_
            obtain ⟨b13, e14, h⟩ := h
            refine zs_stk1 (zs_rfe e14) ?_
            obtain ⟨k15, h⟩ := h
            refine zu_iald (k := 0) d_8286_50 rfl rfl k15 ?_
            refine zu_iload_n d_8286_51 rfl ?_
            refine zu_stk d_8286_52 rfl rfl ?_
            obtain ⟨b16, e17, h⟩ := h
            refine zs_stk1 (zs_rfe e17) ?_
            obtain ⟨k18, h⟩ := h
            refine zu_bald (k := 2) d_8286_53 rfl (Or.inr rfl) k18 ?_
            refine zu_ifne (t := 61) d_8286_54 rfl (fun c19 => ?_) (fun c19 => ?_)
            · have h := h.1 c19
              exact (u_X9_cell_61 hB h).weak ⟨rfl, rfl, rfl, trivial⟩
            · have h := h.2 c19
              exact (u_X9_cell_57 hB h).weak ⟨rfl, rfl, rfl, trivial⟩
          · have h := h.2 c12
            exact (u_X9_cell_37 hB h).weak ⟨rfl, rfl, rfl, trivial⟩
/-! SchemaPascalModel.out(I)I -/
theorem zm_8287 {σ : Nat → Nat} {n0 : Nat} {bf : ab_B} : ab_code (zx σ n0 bf).1 8287 = prog_17_method_288_code := rfl
theorem zq_8287 {σ : Nat → Nat} {n0 : Nat} {bf : ab_B} : ab_maxL (zx σ n0 bf).1 8287 = 2 := rfl
theorem zr_8287 {σ : Nat → Nat} {n0 : Nat} {bf : ab_B} : ab_ret (zx σ n0 bf).1 8287 = (Option.some Jvm.ClassFile.FieldType.int) := rfl
theorem d_8287_0 {σ : Nat → Nat} {n0 : Nat} {bf : ab_B} : decode (ab_code (zx σ n0 bf).1 8287) 0 = .ok (.aload_n 0, 1) := zd zm_8287 (by decide +kernel)
theorem d_8287_1 {σ : Nat → Nat} {n0 : Nat} {bf : ab_B} : decode (ab_code (zx σ n0 bf).1 8287) 1 = .ok (.iload_n 1, 1) := zd zm_8287 (by decide +kernel)
theorem d_8287_2 {σ : Nat → Nat} {n0 : Nat} {bf : ab_B} : decode (ab_code (zx σ n0 bf).1 8287) 2 = .ok (.ifCond .lt 20, 3) := zd zm_8287 (by decide +kernel)
theorem d_8287_5 {σ : Nat → Nat} {n0 : Nat} {bf : ab_B} : decode (ab_code (zx σ n0 bf).1 8287) 5 = .ok (.iload_n 1, 1) := zd zm_8287 (by decide +kernel)
theorem d_8287_6 {σ : Nat → Nat} {n0 : Nat} {bf : ab_B} : decode (ab_code (zx σ n0 bf).1 8287) 6 = .ok (.sipush 20000, 3) := zd zm_8287 (by decide +kernel)
theorem d_8287_9 {σ : Nat → Nat} {n0 : Nat} {bf : ab_B} : decode (ab_code (zx σ n0 bf).1 8287) 9 = .ok (.if_icmp .ge 13, 3) := zd zm_8287 (by decide +kernel)
theorem d_8287_12 {σ : Nat → Nat} {n0 : Nat} {bf : ab_B} : decode (ab_code (zx σ n0 bf).1 8287) 12 = .ok (.iload_n 1, 1) := zd zm_8287 (by decide +kernel)
theorem d_8287_13 {σ : Nat → Nat} {n0 : Nat} {bf : ab_B} : decode (ab_code (zx σ n0 bf).1 8287) 13 = .ok (.i2l, 1) := zd zm_8287 (by decide +kernel)
theorem d_8287_14 {σ : Nat → Nat} {n0 : Nat} {bf : ab_B} : decode (ab_code (zx σ n0 bf).1 8287) 14 = .ok (.aload_n 0, 1) := zd zm_8287 (by decide +kernel)
theorem d_8287_15 {σ : Nat → Nat} {n0 : Nat} {bf : ab_B} : decode (ab_code (zx σ n0 bf).1 8287) 15 = .ok (.getfield 1279, 3) := zd zm_8287 (by decide +kernel)
theorem d_8287_18 {σ : Nat → Nat} {n0 : Nat} {bf : ab_B} : decode (ab_code (zx σ n0 bf).1 8287) 18 = .ok (.lcmp, 1) := zd zm_8287 (by decide +kernel)
theorem d_8287_19 {σ : Nat → Nat} {n0 : Nat} {bf : ab_B} : decode (ab_code (zx σ n0 bf).1 8287) 19 = .ok (.ifCond .lt 7, 3) := zd zm_8287 (by decide +kernel)
theorem d_8287_22 {σ : Nat → Nat} {n0 : Nat} {bf : ab_B} : decode (ab_code (zx σ n0 bf).1 8287) 22 = .ok (.iconst 1, 1) := zd zm_8287 (by decide +kernel)
theorem d_8287_23 {σ : Nat → Nat} {n0 : Nat} {bf : ab_B} : decode (ab_code (zx σ n0 bf).1 8287) 23 = .ok (.goto 4, 3) := zd zm_8287 (by decide +kernel)
theorem d_8287_26 {σ : Nat → Nat} {n0 : Nat} {bf : ab_B} : decode (ab_code (zx σ n0 bf).1 8287) 26 = .ok (.iconst 0, 1) := zd zm_8287 (by decide +kernel)
theorem d_8287_27 {σ : Nat → Nat} {n0 : Nat} {bf : ab_B} : decode (ab_code (zx σ n0 bf).1 8287) 27 = .ok (.putfield 441, 3) := zd zm_8287 (by decide +kernel)
theorem d_8287_30 {σ : Nat → Nat} {n0 : Nat} {bf : ab_B} : decode (ab_code (zx σ n0 bf).1 8287) 30 = .ok (.aload_n 0, 1) := zd zm_8287 (by decide +kernel)
theorem d_8287_31 {σ : Nat → Nat} {n0 : Nat} {bf : ab_B} : decode (ab_code (zx σ n0 bf).1 8287) 31 = .ok (.getfield 441, 3) := zd zm_8287 (by decide +kernel)
theorem d_8287_34 {σ : Nat → Nat} {n0 : Nat} {bf : ab_B} : decode (ab_code (zx σ n0 bf).1 8287) 34 = .ok (.ifCond .le 7, 3) := zd zm_8287 (by decide +kernel)
theorem d_8287_37 {σ : Nat → Nat} {n0 : Nat} {bf : ab_B} : decode (ab_code (zx σ n0 bf).1 8287) 37 = .ok (.iconst 0, 1) := zd zm_8287 (by decide +kernel)
theorem d_8287_38 {σ : Nat → Nat} {n0 : Nat} {bf : ab_B} : decode (ab_code (zx σ n0 bf).1 8287) 38 = .ok (.goto 13, 3) := zd zm_8287 (by decide +kernel)
theorem d_8287_41 {σ : Nat → Nat} {n0 : Nat} {bf : ab_B} : decode (ab_code (zx σ n0 bf).1 8287) 41 = .ok (.aload_n 0, 1) := zd zm_8287 (by decide +kernel)
theorem d_8287_42 {σ : Nat → Nat} {n0 : Nat} {bf : ab_B} : decode (ab_code (zx σ n0 bf).1 8287) 42 = .ok (.getfield 435, 3) := zd zm_8287 (by decide +kernel)
theorem d_8287_45 {σ : Nat → Nat} {n0 : Nat} {bf : ab_B} : decode (ab_code (zx σ n0 bf).1 8287) 45 = .ok (.iload_n 1, 1) := zd zm_8287 (by decide +kernel)
theorem d_8287_46 {σ : Nat → Nat} {n0 : Nat} {bf : ab_B} : decode (ab_code (zx σ n0 bf).1 8287) 46 = .ok (.baload, 1) := zd zm_8287 (by decide +kernel)
theorem d_8287_47 {σ : Nat → Nat} {n0 : Nat} {bf : ab_B} : decode (ab_code (zx σ n0 bf).1 8287) 47 = .ok (.sipush 255, 3) := zd zm_8287 (by decide +kernel)
theorem d_8287_50 {σ : Nat → Nat} {n0 : Nat} {bf : ab_B} : decode (ab_code (zx σ n0 bf).1 8287) 50 = .ok (.iand, 1) := zd zm_8287 (by decide +kernel)
theorem d_8287_51 {σ : Nat → Nat} {n0 : Nat} {bf : ab_B} : decode (ab_code (zx σ n0 bf).1 8287) 51 = .ok (.ireturn, 1) := zd zm_8287 (by decide +kernel)
def w_X9_out_27 (X : zs_X) (d : Nat) (p0 : Nat) (p1 : Int32) (q0 : Option Nat) (q1 : Int32) (S : zs_T) (Q : zs_Q) : Prop :=
  (∃ b1, q0 = some b1 ∧ zs_K S b1 = some (.inl 8) ∧ ab_n0 X.1 ≤ b1 ∧ ∀ S5, S5 = zs_sI S 8000 b1 q1 → zs_K S p0 = some (.inl 8) ∧ (((zs_I S5 8000 p0) ≤ 0 → (∃ b10, (zs_R S5 8204 p0) = some b10 ∧ zs_A S b10 1 p1 ∧ Q (.returned (some (.int ((zs_i S5 b10 p1.toNatClampNeg) &&& (255 : Int32))))) S5)) ∧ (¬ ((zs_I S5 8000 p0) ≤ 0) → (Q (.returned (some (.int (0 : Int32)))) S5))))
theorem u_X9_out_27 {σ : Nat → Nat} {n0 : Nat} {bf : ab_B} {d : Nat} {p0 : Nat} {p1 : Int32} {q0 : Option Nat} {q1 : Int32} {S : zs_T} {Q : zs_Q} (hB : zt_B bf) (h : w_X9_out_27 (zx σ n0 bf) d p0 p1 q0 q1 S Q) : zs_U (zx σ n0 bf) d 8287 27 [(0, .ref p0), (1, .int p1)] [.int q1, va_rf q0] S Q := by
  unfold w_X9_out_27 at h
  obtain ⟨b1, e2, h⟩ := h
  refine zs_stk1 (zs_rfe e2) ?_
  obtain ⟨k3, h⟩ := h
  obtain ⟨k4, h⟩ := h
  refine zp_8_441 (v := q1) rfl d_8287_27 k3 k4 ?_
  generalize e6 : zs_sI S 8000 b1 q1 = S5
  have h := h S5 e6.symm
  have K7 : ∀ b, zs_K S5 b = zs_K S b := zs_Kt e6 (zs_KsI _ _ _ _) (fun _ => rfl)
  refine zu_aload_n d_8287_30 rfl (zs_ra _) ?_
  obtain ⟨k8, h⟩ := h
  refine zg_8_441 rfl d_8287_31 ((K7 _).trans k8) ?_
  refine zu_ifle (t := 41) d_8287_34 rfl (fun c9 => ?_) (fun c9 => ?_)
  · have h := h.1 c9
    refine zu_aload_n d_8287_41 rfl (zs_ra _) ?_
    refine zg_8_435 rfl d_8287_42 ((K7 _).trans k8) ?_
    refine zu_iload_n d_8287_45 rfl ?_
    obtain ⟨b10, e11, h⟩ := h
    refine zs_stk1 (zs_rfe e11) ?_
    obtain ⟨k12, h⟩ := h
    refine zu_bald (k := 1) d_8287_46 rfl (Or.inl rfl) (zs_Ak K7 k12) ?_
    refine zu_sipush d_8287_47 zh_255 ?_
    refine zu_stk d_8287_50 rfl rfl ?_
    exact zu_iret d_8287_51 zr_8287 rfl h
  · have h := h.2 c9
    refine zu_iconst d_8287_37 zi_0 ?_
    refine zu_goto (t := 51) d_8287_38 rfl ?_
    exact zu_iret d_8287_51 zr_8287 rfl h
def w_X9_out_22 (X : zs_X) (d : Nat) (p0 : Nat) (p1 : Int32) (q0 : Option Nat) (S : zs_T) (Q : zs_Q) : Prop :=
  (w_X9_out_27 X d p0 p1 q0 (1 : Int32) S Q)
theorem u_X9_out_22 {σ : Nat → Nat} {n0 : Nat} {bf : ab_B} {d : Nat} {p0 : Nat} {p1 : Int32} {q0 : Option Nat} {S : zs_T} {Q : zs_Q} (hB : zt_B bf) (h : w_X9_out_22 (zx σ n0 bf) d p0 p1 q0 S Q) : zs_U (zx σ n0 bf) d 8287 22 [(0, .ref p0), (1, .int p1)] [va_rf q0] S Q := by
  unfold w_X9_out_22 at h
  refine zu_iconst d_8287_22 zi_1 ?_
  refine zu_goto (t := 27) d_8287_23 rfl ?_
  exact (u_X9_out_27 hB h).weak ⟨rfl, rfl, trivial⟩
def w_X9_out (X : zs_X) (d : Nat) (p0 : Nat) (p1 : Int32) (S : zs_T) (Q : zs_Q) : Prop :=
  (((p1 < 0 → w_X9_out_22 X d p0 p1 (some p0) S Q) ∧ (¬ (p1 < 0) → ((((20000 : Int32) ≤ p1 → w_X9_out_22 X d p0 p1 (some p0) S Q) ∧ (¬ ((20000 : Int32) ≤ p1) → (zs_K S p0 = some (.inl 8) ∧ ((((p1).toInt64) < (zs_J S 8205 p0) → (w_X9_out_27 X d p0 p1 (some p0) (0 : Int32) S Q)) ∧ (¬ (((p1).toInt64) < (zs_J S 8205 p0)) → w_X9_out_22 X d p0 p1 (some p0) S Q)))))))))
theorem u_X9_out {σ : Nat → Nat} {n0 : Nat} {bf : ab_B} {d : Nat} {p0 : Nat} {p1 : Int32} {S : zs_T} {Q : zs_Q} (hB : zt_B bf) (hd : 1 ≤ d) (h : w_X9_out (zx σ n0 bf) (d - 1) p0 p1 S Q) : zs_C (zx σ n0 bf) d 8287 [.ref p0, .int p1] S Q := by
  have hL : lv_args 0 [.ref p0, .int p1] = [(0, .ref p0), (1, .int p1)] := rfl
  refine zs_C.of1 (hB.2 8287 (by decide) (by decide)) hd (by rw [hL]; exact zs_sub_self _ (by exact ⟨rfl, rfl, trivial⟩)) ?_
  rw [hL]
  clear hL
  unfold w_X9_out at h
  refine zu_aload_n d_8287_0 rfl (zs_ra _) ?_
  refine zu_iload_n d_8287_1 rfl ?_
  refine zu_iflt (t := 22) d_8287_2 rfl (fun c1 => ?_) (fun c1 => ?_)
  · have h := h.1 c1
    exact (u_X9_out_22 hB h).weak ⟨rfl, rfl, trivial⟩
  · have h := h.2 c1
    refine zu_iload_n d_8287_5 rfl ?_
    refine zu_sipush d_8287_6 zh_20000 ?_
    refine zu_cmpge (t := 22) d_8287_9 rfl (fun c2 => ?_) (fun c2 => ?_)
    · have h := h.1 c2
      exact (u_X9_out_22 hB h).weak ⟨rfl, rfl, trivial⟩
    · have h := h.2 c2
      refine zu_iload_n d_8287_12 rfl ?_
      refine zu_stk d_8287_13 rfl rfl ?_
      refine zu_aload_n d_8287_14 rfl (zs_ra _) ?_
      obtain ⟨k3, h⟩ := h
      refine zg_8_1279 rfl d_8287_15 k3 ?_
      refine zu_llt (t := 26) d_8287_18 d_8287_19 rfl (fun c4 => ?_) (fun c4 => ?_)
      · have h := h.1 c4
        refine zu_iconst d_8287_26 zi_0 ?_
        exact (u_X9_out_27 hB h).weak ⟨rfl, rfl, trivial⟩
      · have h := h.2 c4
        exact (u_X9_out_22 hB h).weak ⟨rfl, rfl, trivial⟩
