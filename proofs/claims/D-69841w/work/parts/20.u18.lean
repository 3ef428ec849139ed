/-! printed by gen_all.py: what the methods compute -/
set_option maxRecDepth 100000
/-! SchemaPascalModel.sumOf(I)J -/
theorem zm_8104 {σ : Nat → Nat} {n0 : Nat} {bf : ab_B} : ab_code (zx σ n0 bf).1 8104 = prog_17_method_47_code := rfl
theorem zq_8104 {σ : Nat → Nat} {n0 : Nat} {bf : ab_B} : ab_maxL (zx σ n0 bf).1 8104 = 9 := rfl
theorem zr_8104 {σ : Nat → Nat} {n0 : Nat} {bf : ab_B} : ab_ret (zx σ n0 bf).1 8104 = (Option.some Jvm.ClassFile.FieldType.long) := rfl
theorem d_8104_0 {σ : Nat → Nat} {n0 : Nat} {bf : ab_B} : decode (ab_code (zx σ n0 bf).1 8104) 0 = .ok (.iconst 0, 1) := zd zm_8104 (by decide +kernel)
theorem d_8104_1 {σ : Nat → Nat} {n0 : Nat} {bf : ab_B} : decode (ab_code (zx σ n0 bf).1 8104) 1 = .ok (.istore_n 2, 1) := zd zm_8104 (by decide +kernel)
theorem d_8104_2 {σ : Nat → Nat} {n0 : Nat} {bf : ab_B} : decode (ab_code (zx σ n0 bf).1 8104) 2 = .ok (.aload_n 0, 1) := zd zm_8104 (by decide +kernel)
theorem d_8104_3 {σ : Nat → Nat} {n0 : Nat} {bf : ab_B} : decode (ab_code (zx σ n0 bf).1 8104) 3 = .ok (.iconst 0, 1) := zd zm_8104 (by decide +kernel)
theorem d_8104_4 {σ : Nat → Nat} {n0 : Nat} {bf : ab_B} : decode (ab_code (zx σ n0 bf).1 8104) 4 = .ok (.putfield 623, 3) := zd zm_8104 (by decide +kernel)
theorem d_8104_7 {σ : Nat → Nat} {n0 : Nat} {bf : ab_B} : decode (ab_code (zx σ n0 bf).1 8104) 7 = .ok (.iload_n 1, 1) := zd zm_8104 (by decide +kernel)
theorem d_8104_8 {σ : Nat → Nat} {n0 : Nat} {bf : ab_B} : decode (ab_code (zx σ n0 bf).1 8104) 8 = .ok (.istore_n 3, 1) := zd zm_8104 (by decide +kernel)
theorem d_8104_9 {σ : Nat → Nat} {n0 : Nat} {bf : ab_B} : decode (ab_code (zx σ n0 bf).1 8104) 9 = .ok (.aload_n 0, 1) := zd zm_8104 (by decide +kernel)
theorem d_8104_10 {σ : Nat → Nat} {n0 : Nat} {bf : ab_B} : decode (ab_code (zx σ n0 bf).1 8104) 10 = .ok (.getfield 84, 3) := zd zm_8104 (by decide +kernel)
theorem d_8104_13 {σ : Nat → Nat} {n0 : Nat} {bf : ab_B} : decode (ab_code (zx σ n0 bf).1 8104) 13 = .ok (.iload_n 3, 1) := zd zm_8104 (by decide +kernel)
theorem d_8104_14 {σ : Nat → Nat} {n0 : Nat} {bf : ab_B} : decode (ab_code (zx σ n0 bf).1 8104) 14 = .ok (.iaload, 1) := zd zm_8104 (by decide +kernel)
theorem d_8104_15 {σ : Nat → Nat} {n0 : Nat} {bf : ab_B} : decode (ab_code (zx σ n0 bf).1 8104) 15 = .ok (.ifCond .le 424, 3) := zd zm_8104 (by decide +kernel)
theorem d_8104_18 {σ : Nat → Nat} {n0 : Nat} {bf : ab_B} : decode (ab_code (zx σ n0 bf).1 8104) 18 = .ok (.aload_n 0, 1) := zd zm_8104 (by decide +kernel)
theorem d_8104_19 {σ : Nat → Nat} {n0 : Nat} {bf : ab_B} : decode (ab_code (zx σ n0 bf).1 8104) 19 = .ok (.getfield 84, 3) := zd zm_8104 (by decide +kernel)
theorem d_8104_22 {σ : Nat → Nat} {n0 : Nat} {bf : ab_B} : decode (ab_code (zx σ n0 bf).1 8104) 22 = .ok (.iload_n 3, 1) := zd zm_8104 (by decide +kernel)
theorem d_8104_23 {σ : Nat → Nat} {n0 : Nat} {bf : ab_B} : decode (ab_code (zx σ n0 bf).1 8104) 23 = .ok (.iaload, 1) := zd zm_8104 (by decide +kernel)
theorem d_8104_24 {σ : Nat → Nat} {n0 : Nat} {bf : ab_B} : decode (ab_code (zx σ n0 bf).1 8104) 24 = .ok (.istore 4, 2) := zd zm_8104 (by decide +kernel)
theorem d_8104_26 {σ : Nat → Nat} {n0 : Nat} {bf : ab_B} : decode (ab_code (zx σ n0 bf).1 8104) 26 = .ok (.iload 4, 2) := zd zm_8104 (by decide +kernel)
theorem d_8104_28 {σ : Nat → Nat} {n0 : Nat} {bf : ab_B} : decode (ab_code (zx σ n0 bf).1 8104) 28 = .ok (.iconst 1, 1) := zd zm_8104 (by decide +kernel)
theorem d_8104_29 {σ : Nat → Nat} {n0 : Nat} {bf : ab_B} : decode (ab_code (zx σ n0 bf).1 8104) 29 = .ok (.if_icmp .eq 9, 3) := zd zm_8104 (by decide +kernel)
theorem d_8104_32 {σ : Nat → Nat} {n0 : Nat} {bf : ab_B} : decode (ab_code (zx σ n0 bf).1 8104) 32 = .ok (.iload 4, 2) := zd zm_8104 (by decide +kernel)
theorem d_8104_34 {σ : Nat → Nat} {n0 : Nat} {bf : ab_B} : decode (ab_code (zx σ n0 bf).1 8104) 34 = .ok (.iconst 2, 1) := zd zm_8104 (by decide +kernel)
theorem d_8104_35 {σ : Nat → Nat} {n0 : Nat} {bf : ab_B} : decode (ab_code (zx σ n0 bf).1 8104) 35 = .ok (.if_icmp .ne 41, 3) := zd zm_8104 (by decide +kernel)
theorem d_8104_38 {σ : Nat → Nat} {n0 : Nat} {bf : ab_B} : decode (ab_code (zx σ n0 bf).1 8104) 38 = .ok (.aload_n 0, 1) := zd zm_8104 (by decide +kernel)
theorem d_8104_39 {σ : Nat → Nat} {n0 : Nat} {bf : ab_B} : decode (ab_code (zx σ n0 bf).1 8104) 39 = .ok (.getfield 175, 3) := zd zm_8104 (by decide +kernel)
theorem d_8104_42 {σ : Nat → Nat} {n0 : Nat} {bf : ab_B} : decode (ab_code (zx σ n0 bf).1 8104) 42 = .ok (.iload_n 2, 1) := zd zm_8104 (by decide +kernel)
theorem d_8104_43 {σ : Nat → Nat} {n0 : Nat} {bf : ab_B} : decode (ab_code (zx σ n0 bf).1 8104) 43 = .ok (.iload 4, 2) := zd zm_8104 (by decide +kernel)
theorem d_8104_45 {σ : Nat → Nat} {n0 : Nat} {bf : ab_B} : decode (ab_code (zx σ n0 bf).1 8104) 45 = .ok (.iconst 1, 1) := zd zm_8104 (by decide +kernel)
theorem d_8104_46 {σ : Nat → Nat} {n0 : Nat} {bf : ab_B} : decode (ab_code (zx σ n0 bf).1 8104) 46 = .ok (.if_icmp .ne 13, 3) := zd zm_8104 (by decide +kernel)
theorem d_8104_49 {σ : Nat → Nat} {n0 : Nat} {bf : ab_B} : decode (ab_code (zx σ n0 bf).1 8104) 49 = .ok (.aload_n 0, 1) := zd zm_8104 (by decide +kernel)
theorem d_8104_50 {σ : Nat → Nat} {n0 : Nat} {bf : ab_B} : decode (ab_code (zx σ n0 bf).1 8104) 50 = .ok (.getfield 87, 3) := zd zm_8104 (by decide +kernel)
theorem d_8104_53 {σ : Nat → Nat} {n0 : Nat} {bf : ab_B} : decode (ab_code (zx σ n0 bf).1 8104) 53 = .ok (.iload_n 3, 1) := zd zm_8104 (by decide +kernel)
theorem d_8104_54 {σ : Nat → Nat} {n0 : Nat} {bf : ab_B} : decode (ab_code (zx σ n0 bf).1 8104) 54 = .ok (.iaload, 1) := zd zm_8104 (by decide +kernel)
theorem d_8104_55 {σ : Nat → Nat} {n0 : Nat} {bf : ab_B} : decode (ab_code (zx σ n0 bf).1 8104) 55 = .ok (.i2l, 1) := zd zm_8104 (by decide +kernel)
theorem d_8104_56 {σ : Nat → Nat} {n0 : Nat} {bf : ab_B} : decode (ab_code (zx σ n0 bf).1 8104) 56 = .ok (.goto 13, 3) := zd zm_8104 (by decide +kernel)
theorem d_8104_59 {σ : Nat → Nat} {n0 : Nat} {bf : ab_B} : decode (ab_code (zx σ n0 bf).1 8104) 59 = .ok (.aload_n 0, 1) := zd zm_8104 (by decide +kernel)
theorem d_8104_60 {σ : Nat → Nat} {n0 : Nat} {bf : ab_B} : decode (ab_code (zx σ n0 bf).1 8104) 60 = .ok (.aload_n 0, 1) := zd zm_8104 (by decide +kernel)
theorem d_8104_61 {σ : Nat → Nat} {n0 : Nat} {bf : ab_B} : decode (ab_code (zx σ n0 bf).1 8104) 61 = .ok (.getfield 87, 3) := zd zm_8104 (by decide +kernel)
theorem d_8104_64 {σ : Nat → Nat} {n0 : Nat} {bf : ab_B} : decode (ab_code (zx σ n0 bf).1 8104) 64 = .ok (.iload_n 3, 1) := zd zm_8104 (by decide +kernel)
theorem d_8104_65 {σ : Nat → Nat} {n0 : Nat} {bf : ab_B} : decode (ab_code (zx σ n0 bf).1 8104) 65 = .ok (.iaload, 1) := zd zm_8104 (by decide +kernel)
theorem d_8104_66 {σ : Nat → Nat} {n0 : Nat} {bf : ab_B} : decode (ab_code (zx σ n0 bf).1 8104) 66 = .ok (.invokevirtual 627, 3) := zd zm_8104 (by decide +kernel)
theorem d_8104_69 {σ : Nat → Nat} {n0 : Nat} {bf : ab_B} : decode (ab_code (zx σ n0 bf).1 8104) 69 = .ok (.lastore, 1) := zd zm_8104 (by decide +kernel)
theorem d_8104_70 {σ : Nat → Nat} {n0 : Nat} {bf : ab_B} : decode (ab_code (zx σ n0 bf).1 8104) 70 = .ok (.iinc 2 1, 3) := zd zm_8104 (by decide +kernel)
theorem d_8104_73 {σ : Nat → Nat} {n0 : Nat} {bf : ab_B} : decode (ab_code (zx σ n0 bf).1 8104) 73 = .ok (.goto 351, 3) := zd zm_8104 (by decide +kernel)
theorem d_8104_76 {σ : Nat → Nat} {n0 : Nat} {bf : ab_B} : decode (ab_code (zx σ n0 bf).1 8104) 76 = .ok (.iload 4, 2) := zd zm_8104 (by decide +kernel)
theorem d_8104_78 {σ : Nat → Nat} {n0 : Nat} {bf : ab_B} : decode (ab_code (zx σ n0 bf).1 8104) 78 = .ok (.bipush 10, 2) := zd zm_8104 (by decide +kernel)
theorem d_8104_80 {σ : Nat → Nat} {n0 : Nat} {bf : ab_B} : decode (ab_code (zx σ n0 bf).1 8104) 80 = .ok (.if_icmp .eq 10, 3) := zd zm_8104 (by decide +kernel)
theorem d_8104_83 {σ : Nat → Nat} {n0 : Nat} {bf : ab_B} : decode (ab_code (zx σ n0 bf).1 8104) 83 = .ok (.iload 4, 2) := zd zm_8104 (by decide +kernel)
theorem d_8104_85 {σ : Nat → Nat} {n0 : Nat} {bf : ab_B} : decode (ab_code (zx σ n0 bf).1 8104) 85 = .ok (.bipush 11, 2) := zd zm_8104 (by decide +kernel)
theorem d_8104_87 {σ : Nat → Nat} {n0 : Nat} {bf : ab_B} : decode (ab_code (zx σ n0 bf).1 8104) 87 = .ok (.if_icmp .ne 43, 3) := zd zm_8104 (by decide +kernel)
theorem d_8104_90 {σ : Nat → Nat} {n0 : Nat} {bf : ab_B} : decode (ab_code (zx σ n0 bf).1 8104) 90 = .ok (.aload_n 0, 1) := zd zm_8104 (by decide +kernel)
theorem d_8104_91 {σ : Nat → Nat} {n0 : Nat} {bf : ab_B} : decode (ab_code (zx σ n0 bf).1 8104) 91 = .ok (.getfield 175, 3) := zd zm_8104 (by decide +kernel)
theorem d_8104_94 {σ : Nat → Nat} {n0 : Nat} {bf : ab_B} : decode (ab_code (zx σ n0 bf).1 8104) 94 = .ok (.iload_n 2, 1) := zd zm_8104 (by decide +kernel)
theorem d_8104_95 {σ : Nat → Nat} {n0 : Nat} {bf : ab_B} : decode (ab_code (zx σ n0 bf).1 8104) 95 = .ok (.iconst 1, 1) := zd zm_8104 (by decide +kernel)
theorem d_8104_96 {σ : Nat → Nat} {n0 : Nat} {bf : ab_B} : decode (ab_code (zx σ n0 bf).1 8104) 96 = .ok (.isub, 1) := zd zm_8104 (by decide +kernel)
theorem d_8104_97 {σ : Nat → Nat} {n0 : Nat} {bf : ab_B} : decode (ab_code (zx σ n0 bf).1 8104) 97 = .ok (.iload 4, 2) := zd zm_8104 (by decide +kernel)
theorem d_8104_99 {σ : Nat → Nat} {n0 : Nat} {bf : ab_B} : decode (ab_code (zx σ n0 bf).1 8104) 99 = .ok (.bipush 10, 2) := zd zm_8104 (by decide +kernel)
theorem d_8104_101 {σ : Nat → Nat} {n0 : Nat} {bf : ab_B} : decode (ab_code (zx σ n0 bf).1 8104) 101 = .ok (.if_icmp .ne 16, 3) := zd zm_8104 (by decide +kernel)
theorem d_8104_104 {σ : Nat → Nat} {n0 : Nat} {bf : ab_B} : decode (ab_code (zx σ n0 bf).1 8104) 104 = .ok (.lconst 1, 1) := zd zm_8104 (by decide +kernel)
theorem d_8104_105 {σ : Nat → Nat} {n0 : Nat} {bf : ab_B} : decode (ab_code (zx σ n0 bf).1 8104) 105 = .ok (.aload_n 0, 1) := zd zm_8104 (by decide +kernel)
theorem d_8104_106 {σ : Nat → Nat} {n0 : Nat} {bf : ab_B} : decode (ab_code (zx σ n0 bf).1 8104) 106 = .ok (.getfield 175, 3) := zd zm_8104 (by decide +kernel)
theorem d_8104_109 {σ : Nat → Nat} {n0 : Nat} {bf : ab_B} : decode (ab_code (zx σ n0 bf).1 8104) 109 = .ok (.iload_n 2, 1) := zd zm_8104 (by decide +kernel)
theorem d_8104_110 {σ : Nat → Nat} {n0 : Nat} {bf : ab_B} : decode (ab_code (zx σ n0 bf).1 8104) 110 = .ok (.iconst 1, 1) := zd zm_8104 (by decide +kernel)
theorem d_8104_111 {σ : Nat → Nat} {n0 : Nat} {bf : ab_B} : decode (ab_code (zx σ n0 bf).1 8104) 111 = .ok (.isub, 1) := zd zm_8104 (by decide +kernel)
theorem d_8104_112 {σ : Nat → Nat} {n0 : Nat} {bf : ab_B} : decode (ab_code (zx σ n0 bf).1 8104) 112 = .ok (.laload, 1) := zd zm_8104 (by decide +kernel)
theorem d_8104_113 {σ : Nat → Nat} {n0 : Nat} {bf : ab_B} : decode (ab_code (zx σ n0 bf).1 8104) 113 = .ok (.lsub, 1) := zd zm_8104 (by decide +kernel)
theorem d_8104_114 {σ : Nat → Nat} {n0 : Nat} {bf : ab_B} : decode (ab_code (zx σ n0 bf).1 8104) 114 = .ok (.goto 12, 3) := zd zm_8104 (by decide +kernel)
theorem d_8104_117 {σ : Nat → Nat} {n0 : Nat} {bf : ab_B} : decode (ab_code (zx σ n0 bf).1 8104) 117 = .ok (.aload_n 0, 1) := zd zm_8104 (by decide +kernel)
theorem d_8104_118 {σ : Nat → Nat} {n0 : Nat} {bf : ab_B} : decode (ab_code (zx σ n0 bf).1 8104) 118 = .ok (.getfield 175, 3) := zd zm_8104 (by decide +kernel)
theorem d_8104_121 {σ : Nat → Nat} {n0 : Nat} {bf : ab_B} : decode (ab_code (zx σ n0 bf).1 8104) 121 = .ok (.iload_n 2, 1) := zd zm_8104 (by decide +kernel)
theorem d_8104_122 {σ : Nat → Nat} {n0 : Nat} {bf : ab_B} : decode (ab_code (zx σ n0 bf).1 8104) 122 = .ok (.iconst 1, 1) := zd zm_8104 (by decide +kernel)
theorem d_8104_123 {σ : Nat → Nat} {n0 : Nat} {bf : ab_B} : decode (ab_code (zx σ n0 bf).1 8104) 123 = .ok (.isub, 1) := zd zm_8104 (by decide +kernel)
theorem d_8104_124 {σ : Nat → Nat} {n0 : Nat} {bf : ab_B} : decode (ab_code (zx σ n0 bf).1 8104) 124 = .ok (.laload, 1) := zd zm_8104 (by decide +kernel)
theorem d_8104_125 {σ : Nat → Nat} {n0 : Nat} {bf : ab_B} : decode (ab_code (zx σ n0 bf).1 8104) 125 = .ok (.lneg, 1) := zd zm_8104 (by decide +kernel)
theorem d_8104_126 {σ : Nat → Nat} {n0 : Nat} {bf : ab_B} : decode (ab_code (zx σ n0 bf).1 8104) 126 = .ok (.lastore, 1) := zd zm_8104 (by decide +kernel)
theorem d_8104_127 {σ : Nat → Nat} {n0 : Nat} {bf : ab_B} : decode (ab_code (zx σ n0 bf).1 8104) 127 = .ok (.goto 297, 3) := zd zm_8104 (by decide +kernel)
theorem d_8104_130 {σ : Nat → Nat} {n0 : Nat} {bf : ab_B} : decode (ab_code (zx σ n0 bf).1 8104) 130 = .ok (.iload 4, 2) := zd zm_8104 (by decide +kernel)
theorem d_8104_132 {σ : Nat → Nat} {n0 : Nat} {bf : ab_B} : decode (ab_code (zx σ n0 bf).1 8104) 132 = .ok (.bipush 18, 2) := zd zm_8104 (by decide +kernel)
theorem d_8104_134 {σ : Nat → Nat} {n0 : Nat} {bf : ab_B} : decode (ab_code (zx σ n0 bf).1 8104) 134 = .ok (.if_icmp .lt 106, 3) := zd zm_8104 (by decide +kernel)
theorem d_8104_137 {σ : Nat → Nat} {n0 : Nat} {bf : ab_B} : decode (ab_code (zx σ n0 bf).1 8104) 137 = .ok (.aload_n 0, 1) := zd zm_8104 (by decide +kernel)
theorem d_8104_138 {σ : Nat → Nat} {n0 : Nat} {bf : ab_B} : decode (ab_code (zx σ n0 bf).1 8104) 138 = .ok (.getfield 175, 3) := zd zm_8104 (by decide +kernel)
theorem d_8104_141 {σ : Nat → Nat} {n0 : Nat} {bf : ab_B} : decode (ab_code (zx σ n0 bf).1 8104) 141 = .ok (.iload_n 2, 1) := zd zm_8104 (by decide +kernel)
theorem d_8104_142 {σ : Nat → Nat} {n0 : Nat} {bf : ab_B} : decode (ab_code (zx σ n0 bf).1 8104) 142 = .ok (.iconst 1, 1) := zd zm_8104 (by decide +kernel)
theorem d_8104_143 {σ : Nat → Nat} {n0 : Nat} {bf : ab_B} : decode (ab_code (zx σ n0 bf).1 8104) 143 = .ok (.isub, 1) := zd zm_8104 (by decide +kernel)
theorem d_8104_144 {σ : Nat → Nat} {n0 : Nat} {bf : ab_B} : decode (ab_code (zx σ n0 bf).1 8104) 144 = .ok (.laload, 1) := zd zm_8104 (by decide +kernel)
theorem d_8104_145 {σ : Nat → Nat} {n0 : Nat} {bf : ab_B} : decode (ab_code (zx σ n0 bf).1 8104) 145 = .ok (.iload 4, 2) := zd zm_8104 (by decide +kernel)
theorem d_8104_147 {σ : Nat → Nat} {n0 : Nat} {bf : ab_B} : decode (ab_code (zx σ n0 bf).1 8104) 147 = .ok (.bipush 19, 2) := zd zm_8104 (by decide +kernel)
theorem d_8104_149 {σ : Nat → Nat} {n0 : Nat} {bf : ab_B} : decode (ab_code (zx σ n0 bf).1 8104) 149 = .ok (.if_icmp .ne 7, 3) := zd zm_8104 (by decide +kernel)
theorem d_8104_152 {σ : Nat → Nat} {n0 : Nat} {bf : ab_B} : decode (ab_code (zx σ n0 bf).1 8104) 152 = .ok (.lconst 1, 1) := zd zm_8104 (by decide +kernel)
theorem d_8104_153 {σ : Nat → Nat} {n0 : Nat} {bf : ab_B} : decode (ab_code (zx σ n0 bf).1 8104) 153 = .ok (.goto 17, 3) := zd zm_8104 (by decide +kernel)
theorem d_8104_156 {σ : Nat → Nat} {n0 : Nat} {bf : ab_B} : decode (ab_code (zx σ n0 bf).1 8104) 156 = .ok (.iload 4, 2) := zd zm_8104 (by decide +kernel)
theorem d_8104_158 {σ : Nat → Nat} {n0 : Nat} {bf : ab_B} : decode (ab_code (zx σ n0 bf).1 8104) 158 = .ok (.bipush 20, 2) := zd zm_8104 (by decide +kernel)
theorem d_8104_160 {σ : Nat → Nat} {n0 : Nat} {bf : ab_B} : decode (ab_code (zx σ n0 bf).1 8104) 160 = .ok (.if_icmp .ne 9, 3) := zd zm_8104 (by decide +kernel)
theorem d_8104_163 {σ : Nat → Nat} {n0 : Nat} {bf : ab_B} : decode (ab_code (zx σ n0 bf).1 8104) 163 = .ok (.ldc2_w 631, 3) := zd zm_8104 (by decide +kernel)
theorem d_8104_166 {σ : Nat → Nat} {n0 : Nat} {bf : ab_B} : decode (ab_code (zx σ n0 bf).1 8104) 166 = .ok (.goto 4, 3) := zd zm_8104 (by decide +kernel)
theorem d_8104_169 {σ : Nat → Nat} {n0 : Nat} {bf : ab_B} : decode (ab_code (zx σ n0 bf).1 8104) 169 = .ok (.lconst 0, 1) := zd zm_8104 (by decide +kernel)
theorem d_8104_170 {σ : Nat → Nat} {n0 : Nat} {bf : ab_B} : decode (ab_code (zx σ n0 bf).1 8104) 170 = .ok (.ladd, 1) := zd zm_8104 (by decide +kernel)
theorem d_8104_171 {σ : Nat → Nat} {n0 : Nat} {bf : ab_B} : decode (ab_code (zx σ n0 bf).1 8104) 171 = .ok (.lstore 5, 2) := zd zm_8104 (by decide +kernel)
theorem d_8104_173 {σ : Nat → Nat} {n0 : Nat} {bf : ab_B} : decode (ab_code (zx σ n0 bf).1 8104) 173 = .ok (.aload_n 0, 1) := zd zm_8104 (by decide +kernel)
theorem d_8104_174 {σ : Nat → Nat} {n0 : Nat} {bf : ab_B} : decode (ab_code (zx σ n0 bf).1 8104) 174 = .ok (.aload_n 0, 1) := zd zm_8104 (by decide +kernel)
theorem d_8104_175 {σ : Nat → Nat} {n0 : Nat} {bf : ab_B} : decode (ab_code (zx σ n0 bf).1 8104) 175 = .ok (.getfield 623, 3) := zd zm_8104 (by decide +kernel)
theorem d_8104_178 {σ : Nat → Nat} {n0 : Nat} {bf : ab_B} : decode (ab_code (zx σ n0 bf).1 8104) 178 = .ok (.ifCond .ne 41, 3) := zd zm_8104 (by decide +kernel)
theorem d_8104_181 {σ : Nat → Nat} {n0 : Nat} {bf : ab_B} : decode (ab_code (zx σ n0 bf).1 8104) 181 = .ok (.lload 5, 2) := zd zm_8104 (by decide +kernel)
theorem d_8104_183 {σ : Nat → Nat} {n0 : Nat} {bf : ab_B} : decode (ab_code (zx σ n0 bf).1 8104) 183 = .ok (.aload_n 0, 1) := zd zm_8104 (by decide +kernel)
theorem d_8104_184 {σ : Nat → Nat} {n0 : Nat} {bf : ab_B} : decode (ab_code (zx σ n0 bf).1 8104) 184 = .ok (.getfield 87, 3) := zd zm_8104 (by decide +kernel)
theorem d_8104_187 {σ : Nat → Nat} {n0 : Nat} {bf : ab_B} : decode (ab_code (zx σ n0 bf).1 8104) 187 = .ok (.iload_n 3, 1) := zd zm_8104 (by decide +kernel)
theorem d_8104_188 {σ : Nat → Nat} {n0 : Nat} {bf : ab_B} : decode (ab_code (zx σ n0 bf).1 8104) 188 = .ok (.iaload, 1) := zd zm_8104 (by decide +kernel)
theorem d_8104_189 {σ : Nat → Nat} {n0 : Nat} {bf : ab_B} : decode (ab_code (zx σ n0 bf).1 8104) 189 = .ok (.i2l, 1) := zd zm_8104 (by decide +kernel)
theorem d_8104_190 {σ : Nat → Nat} {n0 : Nat} {bf : ab_B} : decode (ab_code (zx σ n0 bf).1 8104) 190 = .ok (.lcmp, 1) := zd zm_8104 (by decide +kernel)
theorem d_8104_191 {σ : Nat → Nat} {n0 : Nat} {bf : ab_B} : decode (ab_code (zx σ n0 bf).1 8104) 191 = .ok (.ifCond .gt 28, 3) := zd zm_8104 (by decide +kernel)
theorem d_8104_194 {σ : Nat → Nat} {n0 : Nat} {bf : ab_B} : decode (ab_code (zx σ n0 bf).1 8104) 194 = .ok (.lload 5, 2) := zd zm_8104 (by decide +kernel)
theorem d_8104_196 {σ : Nat → Nat} {n0 : Nat} {bf : ab_B} : decode (ab_code (zx σ n0 bf).1 8104) 196 = .ok (.aload_n 0, 1) := zd zm_8104 (by decide +kernel)
theorem d_8104_197 {σ : Nat → Nat} {n0 : Nat} {bf : ab_B} : decode (ab_code (zx σ n0 bf).1 8104) 197 = .ok (.getfield 87, 3) := zd zm_8104 (by decide +kernel)
theorem d_8104_200 {σ : Nat → Nat} {n0 : Nat} {bf : ab_B} : decode (ab_code (zx σ n0 bf).1 8104) 200 = .ok (.iload_n 3, 1) := zd zm_8104 (by decide +kernel)
theorem d_8104_201 {σ : Nat → Nat} {n0 : Nat} {bf : ab_B} : decode (ab_code (zx σ n0 bf).1 8104) 201 = .ok (.iaload, 1) := zd zm_8104 (by decide +kernel)
theorem d_8104_202 {σ : Nat → Nat} {n0 : Nat} {bf : ab_B} : decode (ab_code (zx σ n0 bf).1 8104) 202 = .ok (.ldc_w 577, 3) := zd zm_8104 (by decide +kernel)
theorem d_8104_205 {σ : Nat → Nat} {n0 : Nat} {bf : ab_B} : decode (ab_code (zx σ n0 bf).1 8104) 205 = .ok (.if_icmp .ne 9, 3) := zd zm_8104 (by decide +kernel)
theorem d_8104_208 {σ : Nat → Nat} {n0 : Nat} {bf : ab_B} : decode (ab_code (zx σ n0 bf).1 8104) 208 = .ok (.ldc2_w 633, 3) := zd zm_8104 (by decide +kernel)
theorem d_8104_211 {σ : Nat → Nat} {n0 : Nat} {bf : ab_B} : decode (ab_code (zx σ n0 bf).1 8104) 211 = .ok (.goto 4, 3) := zd zm_8104 (by decide +kernel)
theorem d_8104_214 {σ : Nat → Nat} {n0 : Nat} {bf : ab_B} : decode (ab_code (zx σ n0 bf).1 8104) 214 = .ok (.lconst 0, 1) := zd zm_8104 (by decide +kernel)
theorem d_8104_215 {σ : Nat → Nat} {n0 : Nat} {bf : ab_B} : decode (ab_code (zx σ n0 bf).1 8104) 215 = .ok (.lcmp, 1) := zd zm_8104 (by decide +kernel)
theorem d_8104_216 {σ : Nat → Nat} {n0 : Nat} {bf : ab_B} : decode (ab_code (zx σ n0 bf).1 8104) 216 = .ok (.ifCond .ge 7, 3) := zd zm_8104 (by decide +kernel)
theorem d_8104_219 {σ : Nat → Nat} {n0 : Nat} {bf : ab_B} : decode (ab_code (zx σ n0 bf).1 8104) 219 = .ok (.iconst 1, 1) := zd zm_8104 (by decide +kernel)
theorem d_8104_220 {σ : Nat → Nat} {n0 : Nat} {bf : ab_B} : decode (ab_code (zx σ n0 bf).1 8104) 220 = .ok (.goto 4, 3) := zd zm_8104 (by decide +kernel)
theorem d_8104_223 {σ : Nat → Nat} {n0 : Nat} {bf : ab_B} : decode (ab_code (zx σ n0 bf).1 8104) 223 = .ok (.iconst 0, 1) := zd zm_8104 (by decide +kernel)
theorem d_8104_224 {σ : Nat → Nat} {n0 : Nat} {bf : ab_B} : decode (ab_code (zx σ n0 bf).1 8104) 224 = .ok (.putfield 623, 3) := zd zm_8104 (by decide +kernel)
theorem d_8104_227 {σ : Nat → Nat} {n0 : Nat} {bf : ab_B} : decode (ab_code (zx σ n0 bf).1 8104) 227 = .ok (.aload_n 0, 1) := zd zm_8104 (by decide +kernel)
theorem d_8104_228 {σ : Nat → Nat} {n0 : Nat} {bf : ab_B} : decode (ab_code (zx σ n0 bf).1 8104) 228 = .ok (.getfield 175, 3) := zd zm_8104 (by decide +kernel)
theorem d_8104_231 {σ : Nat → Nat} {n0 : Nat} {bf : ab_B} : decode (ab_code (zx σ n0 bf).1 8104) 231 = .ok (.iload_n 2, 1) := zd zm_8104 (by decide +kernel)
theorem d_8104_232 {σ : Nat → Nat} {n0 : Nat} {bf : ab_B} : decode (ab_code (zx σ n0 bf).1 8104) 232 = .ok (.iconst 1, 1) := zd zm_8104 (by decide +kernel)
theorem d_8104_233 {σ : Nat → Nat} {n0 : Nat} {bf : ab_B} : decode (ab_code (zx σ n0 bf).1 8104) 233 = .ok (.isub, 1) := zd zm_8104 (by decide +kernel)
theorem d_8104_234 {σ : Nat → Nat} {n0 : Nat} {bf : ab_B} : decode (ab_code (zx σ n0 bf).1 8104) 234 = .ok (.lload 5, 2) := zd zm_8104 (by decide +kernel)
theorem d_8104_236 {σ : Nat → Nat} {n0 : Nat} {bf : ab_B} : decode (ab_code (zx σ n0 bf).1 8104) 236 = .ok (.lastore, 1) := zd zm_8104 (by decide +kernel)
theorem d_8104_237 {σ : Nat → Nat} {n0 : Nat} {bf : ab_B} : decode (ab_code (zx σ n0 bf).1 8104) 237 = .ok (.goto 187, 3) := zd zm_8104 (by decide +kernel)
theorem d_8104_240 {σ : Nat → Nat} {n0 : Nat} {bf : ab_B} : decode (ab_code (zx σ n0 bf).1 8104) 240 = .ok (.aload_n 0, 1) := zd zm_8104 (by decide +kernel)
theorem d_8104_241 {σ : Nat → Nat} {n0 : Nat} {bf : ab_B} : decode (ab_code (zx σ n0 bf).1 8104) 241 = .ok (.getfield 175, 3) := zd zm_8104 (by decide +kernel)
theorem d_8104_244 {σ : Nat → Nat} {n0 : Nat} {bf : ab_B} : decode (ab_code (zx σ n0 bf).1 8104) 244 = .ok (.iload_n 2, 1) := zd zm_8104 (by decide +kernel)
theorem d_8104_245 {σ : Nat → Nat} {n0 : Nat} {bf : ab_B} : decode (ab_code (zx σ n0 bf).1 8104) 245 = .ok (.iconst 1, 1) := zd zm_8104 (by decide +kernel)
theorem d_8104_246 {σ : Nat → Nat} {n0 : Nat} {bf : ab_B} : decode (ab_code (zx σ n0 bf).1 8104) 246 = .ok (.isub, 1) := zd zm_8104 (by decide +kernel)
theorem d_8104_247 {σ : Nat → Nat} {n0 : Nat} {bf : ab_B} : decode (ab_code (zx σ n0 bf).1 8104) 247 = .ok (.laload, 1) := zd zm_8104 (by decide +kernel)
theorem d_8104_248 {σ : Nat → Nat} {n0 : Nat} {bf : ab_B} : decode (ab_code (zx σ n0 bf).1 8104) 248 = .ok (.lstore 5, 2) := zd zm_8104 (by decide +kernel)
theorem d_8104_250 {σ : Nat → Nat} {n0 : Nat} {bf : ab_B} : decode (ab_code (zx σ n0 bf).1 8104) 250 = .ok (.aload_n 0, 1) := zd zm_8104 (by decide +kernel)
theorem d_8104_251 {σ : Nat → Nat} {n0 : Nat} {bf : ab_B} : decode (ab_code (zx σ n0 bf).1 8104) 251 = .ok (.getfield 175, 3) := zd zm_8104 (by decide +kernel)
theorem d_8104_254 {σ : Nat → Nat} {n0 : Nat} {bf : ab_B} : decode (ab_code (zx σ n0 bf).1 8104) 254 = .ok (.iload_n 2, 1) := zd zm_8104 (by decide +kernel)
theorem d_8104_255 {σ : Nat → Nat} {n0 : Nat} {bf : ab_B} : decode (ab_code (zx σ n0 bf).1 8104) 255 = .ok (.iconst 2, 1) := zd zm_8104 (by decide +kernel)
theorem d_8104_256 {σ : Nat → Nat} {n0 : Nat} {bf : ab_B} : decode (ab_code (zx σ n0 bf).1 8104) 256 = .ok (.isub, 1) := zd zm_8104 (by decide +kernel)
theorem d_8104_257 {σ : Nat → Nat} {n0 : Nat} {bf : ab_B} : decode (ab_code (zx σ n0 bf).1 8104) 257 = .ok (.laload, 1) := zd zm_8104 (by decide +kernel)
theorem d_8104_258 {σ : Nat → Nat} {n0 : Nat} {bf : ab_B} : decode (ab_code (zx σ n0 bf).1 8104) 258 = .ok (.lstore 7, 2) := zd zm_8104 (by decide +kernel)
theorem d_8104_260 {σ : Nat → Nat} {n0 : Nat} {bf : ab_B} : decode (ab_code (zx σ n0 bf).1 8104) 260 = .ok (.iinc 2 (-1), 3) := zd zm_8104 (by decide +kernel)
theorem d_8104_263 {σ : Nat → Nat} {n0 : Nat} {bf : ab_B} : decode (ab_code (zx σ n0 bf).1 8104) 263 = .ok (.iload 4, 2) := zd zm_8104 (by decide +kernel)
theorem d_8104_265 {σ : Nat → Nat} {n0 : Nat} {bf : ab_B} : decode (ab_code (zx σ n0 bf).1 8104) 265 = .ok (.bipush 6, 2) := zd zm_8104 (by decide +kernel)
theorem d_8104_267 {σ : Nat → Nat} {n0 : Nat} {bf : ab_B} : decode (ab_code (zx σ n0 bf).1 8104) 267 = .ok (.if_icmp .eq 10, 3) := zd zm_8104 (by decide +kernel)
theorem d_8104_270 {σ : Nat → Nat} {n0 : Nat} {bf : ab_B} : decode (ab_code (zx σ n0 bf).1 8104) 270 = .ok (.iload 4, 2) := zd zm_8104 (by decide +kernel)
theorem d_8104_272 {σ : Nat → Nat} {n0 : Nat} {bf : ab_B} : decode (ab_code (zx σ n0 bf).1 8104) 272 = .ok (.bipush 7, 2) := zd zm_8104 (by decide +kernel)
theorem d_8104_274 {σ : Nat → Nat} {n0 : Nat} {bf : ab_B} : decode (ab_code (zx σ n0 bf).1 8104) 274 = .ok (.if_icmp .ne 81, 3) := zd zm_8104 (by decide +kernel)
theorem d_8104_277 {σ : Nat → Nat} {n0 : Nat} {bf : ab_B} : decode (ab_code (zx σ n0 bf).1 8104) 277 = .ok (.aload_n 0, 1) := zd zm_8104 (by decide +kernel)
theorem d_8104_278 {σ : Nat → Nat} {n0 : Nat} {bf : ab_B} : decode (ab_code (zx σ n0 bf).1 8104) 278 = .ok (.aload_n 0, 1) := zd zm_8104 (by decide +kernel)
theorem d_8104_279 {σ : Nat → Nat} {n0 : Nat} {bf : ab_B} : decode (ab_code (zx σ n0 bf).1 8104) 279 = .ok (.getfield 623, 3) := zd zm_8104 (by decide +kernel)
theorem d_8104_282 {σ : Nat → Nat} {n0 : Nat} {bf : ab_B} : decode (ab_code (zx σ n0 bf).1 8104) 282 = .ok (.ifCond .ne 24, 3) := zd zm_8104 (by decide +kernel)
theorem d_8104_285 {σ : Nat → Nat} {n0 : Nat} {bf : ab_B} : decode (ab_code (zx σ n0 bf).1 8104) 285 = .ok (.lload 5, 2) := zd zm_8104 (by decide +kernel)
theorem d_8104_287 {σ : Nat → Nat} {n0 : Nat} {bf : ab_B} : decode (ab_code (zx σ n0 bf).1 8104) 287 = .ok (.lconst 0, 1) := zd zm_8104 (by decide +kernel)
theorem d_8104_288 {σ : Nat → Nat} {n0 : Nat} {bf : ab_B} : decode (ab_code (zx σ n0 bf).1 8104) 288 = .ok (.lcmp, 1) := zd zm_8104 (by decide +kernel)
theorem d_8104_289 {σ : Nat → Nat} {n0 : Nat} {bf : ab_B} : decode (ab_code (zx σ n0 bf).1 8104) 289 = .ok (.ifCond .eq 17, 3) := zd zm_8104 (by decide +kernel)
theorem d_8104_292 {σ : Nat → Nat} {n0 : Nat} {bf : ab_B} : decode (ab_code (zx σ n0 bf).1 8104) 292 = .ok (.iload 4, 2) := zd zm_8104 (by decide +kernel)
theorem d_8104_294 {σ : Nat → Nat} {n0 : Nat} {bf : ab_B} : decode (ab_code (zx σ n0 bf).1 8104) 294 = .ok (.bipush 7, 2) := zd zm_8104 (by decide +kernel)
theorem d_8104_296 {σ : Nat → Nat} {n0 : Nat} {bf : ab_B} : decode (ab_code (zx σ n0 bf).1 8104) 296 = .ok (.if_icmp .ne 14, 3) := zd zm_8104 (by decide +kernel)
theorem d_8104_299 {σ : Nat → Nat} {n0 : Nat} {bf : ab_B} : decode (ab_code (zx σ n0 bf).1 8104) 299 = .ok (.lload 5, 2) := zd zm_8104 (by decide +kernel)
theorem d_8104_301 {σ : Nat → Nat} {n0 : Nat} {bf : ab_B} : decode (ab_code (zx σ n0 bf).1 8104) 301 = .ok (.lconst 0, 1) := zd zm_8104 (by decide +kernel)
theorem d_8104_302 {σ : Nat → Nat} {n0 : Nat} {bf : ab_B} : decode (ab_code (zx σ n0 bf).1 8104) 302 = .ok (.lcmp, 1) := zd zm_8104 (by decide +kernel)
theorem d_8104_303 {σ : Nat → Nat} {n0 : Nat} {bf : ab_B} : decode (ab_code (zx σ n0 bf).1 8104) 303 = .ok (.ifCond .ge 7, 3) := zd zm_8104 (by decide +kernel)
theorem d_8104_306 {σ : Nat → Nat} {n0 : Nat} {bf : ab_B} : decode (ab_code (zx σ n0 bf).1 8104) 306 = .ok (.iconst 1, 1) := zd zm_8104 (by decide +kernel)
theorem d_8104_307 {σ : Nat → Nat} {n0 : Nat} {bf : ab_B} : decode (ab_code (zx σ n0 bf).1 8104) 307 = .ok (.goto 4, 3) := zd zm_8104 (by decide +kernel)
theorem d_8104_310 {σ : Nat → Nat} {n0 : Nat} {bf : ab_B} : decode (ab_code (zx σ n0 bf).1 8104) 310 = .ok (.iconst 0, 1) := zd zm_8104 (by decide +kernel)
theorem d_8104_311 {σ : Nat → Nat} {n0 : Nat} {bf : ab_B} : decode (ab_code (zx σ n0 bf).1 8104) 311 = .ok (.putfield 623, 3) := zd zm_8104 (by decide +kernel)
theorem d_8104_314 {σ : Nat → Nat} {n0 : Nat} {bf : ab_B} : decode (ab_code (zx σ n0 bf).1 8104) 314 = .ok (.aload_n 0, 1) := zd zm_8104 (by decide +kernel)
theorem d_8104_315 {σ : Nat → Nat} {n0 : Nat} {bf : ab_B} : decode (ab_code (zx σ n0 bf).1 8104) 315 = .ok (.getfield 175, 3) := zd zm_8104 (by decide +kernel)
theorem d_8104_318 {σ : Nat → Nat} {n0 : Nat} {bf : ab_B} : decode (ab_code (zx σ n0 bf).1 8104) 318 = .ok (.iload_n 2, 1) := zd zm_8104 (by decide +kernel)
theorem d_8104_319 {σ : Nat → Nat} {n0 : Nat} {bf : ab_B} : decode (ab_code (zx σ n0 bf).1 8104) 319 = .ok (.iconst 1, 1) := zd zm_8104 (by decide +kernel)
theorem d_8104_320 {σ : Nat → Nat} {n0 : Nat} {bf : ab_B} : decode (ab_code (zx σ n0 bf).1 8104) 320 = .ok (.isub, 1) := zd zm_8104 (by decide +kernel)
theorem d_8104_321 {σ : Nat → Nat} {n0 : Nat} {bf : ab_B} : decode (ab_code (zx σ n0 bf).1 8104) 321 = .ok (.aload_n 0, 1) := zd zm_8104 (by decide +kernel)
theorem d_8104_322 {σ : Nat → Nat} {n0 : Nat} {bf : ab_B} : decode (ab_code (zx σ n0 bf).1 8104) 322 = .ok (.getfield 623, 3) := zd zm_8104 (by decide +kernel)
theorem d_8104_325 {σ : Nat → Nat} {n0 : Nat} {bf : ab_B} : decode (ab_code (zx σ n0 bf).1 8104) 325 = .ok (.ifCond .eq 7, 3) := zd zm_8104 (by decide +kernel)
theorem d_8104_328 {σ : Nat → Nat} {n0 : Nat} {bf : ab_B} : decode (ab_code (zx σ n0 bf).1 8104) 328 = .ok (.lconst 0, 1) := zd zm_8104 (by decide +kernel)
theorem d_8104_329 {σ : Nat → Nat} {n0 : Nat} {bf : ab_B} : decode (ab_code (zx σ n0 bf).1 8104) 329 = .ok (.goto 22, 3) := zd zm_8104 (by decide +kernel)
theorem d_8104_332 {σ : Nat → Nat} {n0 : Nat} {bf : ab_B} : decode (ab_code (zx σ n0 bf).1 8104) 332 = .ok (.lload 7, 2) := zd zm_8104 (by decide +kernel)
theorem d_8104_334 {σ : Nat → Nat} {n0 : Nat} {bf : ab_B} : decode (ab_code (zx σ n0 bf).1 8104) 334 = .ok (.lload 5, 2) := zd zm_8104 (by decide +kernel)
theorem d_8104_336 {σ : Nat → Nat} {n0 : Nat} {bf : ab_B} : decode (ab_code (zx σ n0 bf).1 8104) 336 = .ok (.iload 4, 2) := zd zm_8104 (by decide +kernel)
theorem d_8104_338 {σ : Nat → Nat} {n0 : Nat} {bf : ab_B} : decode (ab_code (zx σ n0 bf).1 8104) 338 = .ok (.bipush 7, 2) := zd zm_8104 (by decide +kernel)
theorem d_8104_340 {σ : Nat → Nat} {n0 : Nat} {bf : ab_B} : decode (ab_code (zx σ n0 bf).1 8104) 340 = .ok (.if_icmp .ne 7, 3) := zd zm_8104 (by decide +kernel)
theorem d_8104_343 {σ : Nat → Nat} {n0 : Nat} {bf : ab_B} : decode (ab_code (zx σ n0 bf).1 8104) 343 = .ok (.iconst 1, 1) := zd zm_8104 (by decide +kernel)
theorem d_8104_344 {σ : Nat → Nat} {n0 : Nat} {bf : ab_B} : decode (ab_code (zx σ n0 bf).1 8104) 344 = .ok (.goto 4, 3) := zd zm_8104 (by decide +kernel)
theorem d_8104_347 {σ : Nat → Nat} {n0 : Nat} {bf : ab_B} : decode (ab_code (zx σ n0 bf).1 8104) 347 = .ok (.iconst 0, 1) := zd zm_8104 (by decide +kernel)
theorem d_8104_348 {σ : Nat → Nat} {n0 : Nat} {bf : ab_B} : decode (ab_code (zx σ n0 bf).1 8104) 348 = .ok (.invokestatic 635, 3) := zd zm_8104 (by decide +kernel)
theorem d_8104_351 {σ : Nat → Nat} {n0 : Nat} {bf : ab_B} : decode (ab_code (zx σ n0 bf).1 8104) 351 = .ok (.lastore, 1) := zd zm_8104 (by decide +kernel)
theorem d_8104_352 {σ : Nat → Nat} {n0 : Nat} {bf : ab_B} : decode (ab_code (zx σ n0 bf).1 8104) 352 = .ok (.goto 20, 3) := zd zm_8104 (by decide +kernel)
theorem d_8104_355 {σ : Nat → Nat} {n0 : Nat} {bf : ab_B} : decode (ab_code (zx σ n0 bf).1 8104) 355 = .ok (.aload_n 0, 1) := zd zm_8104 (by decide +kernel)
theorem d_8104_356 {σ : Nat → Nat} {n0 : Nat} {bf : ab_B} : decode (ab_code (zx σ n0 bf).1 8104) 356 = .ok (.getfield 175, 3) := zd zm_8104 (by decide +kernel)
theorem d_8104_359 {σ : Nat → Nat} {n0 : Nat} {bf : ab_B} : decode (ab_code (zx σ n0 bf).1 8104) 359 = .ok (.iload_n 2, 1) := zd zm_8104 (by decide +kernel)
theorem d_8104_360 {σ : Nat → Nat} {n0 : Nat} {bf : ab_B} : decode (ab_code (zx σ n0 bf).1 8104) 360 = .ok (.iconst 1, 1) := zd zm_8104 (by decide +kernel)
theorem d_8104_361 {σ : Nat → Nat} {n0 : Nat} {bf : ab_B} : decode (ab_code (zx σ n0 bf).1 8104) 361 = .ok (.isub, 1) := zd zm_8104 (by decide +kernel)
theorem d_8104_362 {σ : Nat → Nat} {n0 : Nat} {bf : ab_B} : decode (ab_code (zx σ n0 bf).1 8104) 362 = .ok (.iload 4, 2) := zd zm_8104 (by decide +kernel)
theorem d_8104_364 {σ : Nat → Nat} {n0 : Nat} {bf : ab_B} : decode (ab_code (zx σ n0 bf).1 8104) 364 = .ok (.lload 7, 2) := zd zm_8104 (by decide +kernel)
theorem d_8104_366 {σ : Nat → Nat} {n0 : Nat} {bf : ab_B} : decode (ab_code (zx σ n0 bf).1 8104) 366 = .ok (.lload 5, 2) := zd zm_8104 (by decide +kernel)
theorem d_8104_368 {σ : Nat → Nat} {n0 : Nat} {bf : ab_B} : decode (ab_code (zx σ n0 bf).1 8104) 368 = .ok (.invokestatic 639, 3) := zd zm_8104 (by decide +kernel)
theorem d_8104_371 {σ : Nat → Nat} {n0 : Nat} {bf : ab_B} : decode (ab_code (zx σ n0 bf).1 8104) 371 = .ok (.lastore, 1) := zd zm_8104 (by decide +kernel)
theorem d_8104_372 {σ : Nat → Nat} {n0 : Nat} {bf : ab_B} : decode (ab_code (zx σ n0 bf).1 8104) 372 = .ok (.aload_n 0, 1) := zd zm_8104 (by decide +kernel)
theorem d_8104_373 {σ : Nat → Nat} {n0 : Nat} {bf : ab_B} : decode (ab_code (zx σ n0 bf).1 8104) 373 = .ok (.aload_n 0, 1) := zd zm_8104 (by decide +kernel)
theorem d_8104_374 {σ : Nat → Nat} {n0 : Nat} {bf : ab_B} : decode (ab_code (zx σ n0 bf).1 8104) 374 = .ok (.getfield 623, 3) := zd zm_8104 (by decide +kernel)
theorem d_8104_377 {σ : Nat → Nat} {n0 : Nat} {bf : ab_B} : decode (ab_code (zx σ n0 bf).1 8104) 377 = .ok (.ifCond .ne 39, 3) := zd zm_8104 (by decide +kernel)
theorem d_8104_380 {σ : Nat → Nat} {n0 : Nat} {bf : ab_B} : decode (ab_code (zx σ n0 bf).1 8104) 380 = .ok (.iload 4, 2) := zd zm_8104 (by decide +kernel)
theorem d_8104_382 {σ : Nat → Nat} {n0 : Nat} {bf : ab_B} : decode (ab_code (zx σ n0 bf).1 8104) 382 = .ok (.iconst 5, 1) := zd zm_8104 (by decide +kernel)
theorem d_8104_383 {σ : Nat → Nat} {n0 : Nat} {bf : ab_B} : decode (ab_code (zx σ n0 bf).1 8104) 383 = .ok (.if_icmp .gt 37, 3) := zd zm_8104 (by decide +kernel)
theorem d_8104_386 {σ : Nat → Nat} {n0 : Nat} {bf : ab_B} : decode (ab_code (zx σ n0 bf).1 8104) 386 = .ok (.aload_n 0, 1) := zd zm_8104 (by decide +kernel)
theorem d_8104_387 {σ : Nat → Nat} {n0 : Nat} {bf : ab_B} : decode (ab_code (zx σ n0 bf).1 8104) 387 = .ok (.getfield 175, 3) := zd zm_8104 (by decide +kernel)
theorem d_8104_390 {σ : Nat → Nat} {n0 : Nat} {bf : ab_B} : decode (ab_code (zx σ n0 bf).1 8104) 390 = .ok (.iload_n 2, 1) := zd zm_8104 (by decide +kernel)
theorem d_8104_391 {σ : Nat → Nat} {n0 : Nat} {bf : ab_B} : decode (ab_code (zx σ n0 bf).1 8104) 391 = .ok (.iconst 1, 1) := zd zm_8104 (by decide +kernel)
theorem d_8104_392 {σ : Nat → Nat} {n0 : Nat} {bf : ab_B} : decode (ab_code (zx σ n0 bf).1 8104) 392 = .ok (.isub, 1) := zd zm_8104 (by decide +kernel)
theorem d_8104_393 {σ : Nat → Nat} {n0 : Nat} {bf : ab_B} : decode (ab_code (zx σ n0 bf).1 8104) 393 = .ok (.laload, 1) := zd zm_8104 (by decide +kernel)
theorem d_8104_394 {σ : Nat → Nat} {n0 : Nat} {bf : ab_B} : decode (ab_code (zx σ n0 bf).1 8104) 394 = .ok (.ldc2_w 497, 3) := zd zm_8104 (by decide +kernel)
theorem d_8104_397 {σ : Nat → Nat} {n0 : Nat} {bf : ab_B} : decode (ab_code (zx σ n0 bf).1 8104) 397 = .ok (.lcmp, 1) := zd zm_8104 (by decide +kernel)
theorem d_8104_398 {σ : Nat → Nat} {n0 : Nat} {bf : ab_B} : decode (ab_code (zx σ n0 bf).1 8104) 398 = .ok (.ifCond .gt 18, 3) := zd zm_8104 (by decide +kernel)
theorem d_8104_401 {σ : Nat → Nat} {n0 : Nat} {bf : ab_B} : decode (ab_code (zx σ n0 bf).1 8104) 401 = .ok (.aload_n 0, 1) := zd zm_8104 (by decide +kernel)
theorem d_8104_402 {σ : Nat → Nat} {n0 : Nat} {bf : ab_B} : decode (ab_code (zx σ n0 bf).1 8104) 402 = .ok (.getfield 175, 3) := zd zm_8104 (by decide +kernel)
theorem d_8104_405 {σ : Nat → Nat} {n0 : Nat} {bf : ab_B} : decode (ab_code (zx σ n0 bf).1 8104) 405 = .ok (.iload_n 2, 1) := zd zm_8104 (by decide +kernel)
theorem d_8104_406 {σ : Nat → Nat} {n0 : Nat} {bf : ab_B} : decode (ab_code (zx σ n0 bf).1 8104) 406 = .ok (.iconst 1, 1) := zd zm_8104 (by decide +kernel)
theorem d_8104_407 {σ : Nat → Nat} {n0 : Nat} {bf : ab_B} : decode (ab_code (zx σ n0 bf).1 8104) 407 = .ok (.isub, 1) := zd zm_8104 (by decide +kernel)
theorem d_8104_408 {σ : Nat → Nat} {n0 : Nat} {bf : ab_B} : decode (ab_code (zx σ n0 bf).1 8104) 408 = .ok (.laload, 1) := zd zm_8104 (by decide +kernel)
theorem d_8104_409 {σ : Nat → Nat} {n0 : Nat} {bf : ab_B} : decode (ab_code (zx σ n0 bf).1 8104) 409 = .ok (.ldc2_w 633, 3) := zd zm_8104 (by decide +kernel)
theorem d_8104_412 {σ : Nat → Nat} {n0 : Nat} {bf : ab_B} : decode (ab_code (zx σ n0 bf).1 8104) 412 = .ok (.lcmp, 1) := zd zm_8104 (by decide +kernel)
theorem d_8104_413 {σ : Nat → Nat} {n0 : Nat} {bf : ab_B} : decode (ab_code (zx σ n0 bf).1 8104) 413 = .ok (.ifCond .ge 7, 3) := zd zm_8104 (by decide +kernel)
theorem d_8104_416 {σ : Nat → Nat} {n0 : Nat} {bf : ab_B} : decode (ab_code (zx σ n0 bf).1 8104) 416 = .ok (.iconst 1, 1) := zd zm_8104 (by decide +kernel)
theorem d_8104_417 {σ : Nat → Nat} {n0 : Nat} {bf : ab_B} : decode (ab_code (zx σ n0 bf).1 8104) 417 = .ok (.goto 4, 3) := zd zm_8104 (by decide +kernel)
theorem d_8104_420 {σ : Nat → Nat} {n0 : Nat} {bf : ab_B} : decode (ab_code (zx σ n0 bf).1 8104) 420 = .ok (.iconst 0, 1) := zd zm_8104 (by decide +kernel)
theorem d_8104_421 {σ : Nat → Nat} {n0 : Nat} {bf : ab_B} : decode (ab_code (zx σ n0 bf).1 8104) 421 = .ok (.putfield 623, 3) := zd zm_8104 (by decide +kernel)
theorem d_8104_424 {σ : Nat → Nat} {n0 : Nat} {bf : ab_B} : decode (ab_code (zx σ n0 bf).1 8104) 424 = .ok (.aload_n 0, 1) := zd zm_8104 (by decide +kernel)
theorem d_8104_425 {σ : Nat → Nat} {n0 : Nat} {bf : ab_B} : decode (ab_code (zx σ n0 bf).1 8104) 425 = .ok (.getfield 623, 3) := zd zm_8104 (by decide +kernel)
theorem d_8104_428 {σ : Nat → Nat} {n0 : Nat} {bf : ab_B} : decode (ab_code (zx σ n0 bf).1 8104) 428 = .ok (.ifCond .eq 5, 3) := zd zm_8104 (by decide +kernel)
theorem d_8104_431 {σ : Nat → Nat} {n0 : Nat} {bf : ab_B} : decode (ab_code (zx σ n0 bf).1 8104) 431 = .ok (.lconst 0, 1) := zd zm_8104 (by decide +kernel)
theorem d_8104_432 {σ : Nat → Nat} {n0 : Nat} {bf : ab_B} : decode (ab_code (zx σ n0 bf).1 8104) 432 = .ok (.lreturn, 1) := zd zm_8104 (by decide +kernel)
theorem d_8104_433 {σ : Nat → Nat} {n0 : Nat} {bf : ab_B} : decode (ab_code (zx σ n0 bf).1 8104) 433 = .ok (.iinc 3 1, 3) := zd zm_8104 (by decide +kernel)
theorem d_8104_436 {σ : Nat → Nat} {n0 : Nat} {bf : ab_B} : decode (ab_code (zx σ n0 bf).1 8104) 436 = .ok (.goto (-427), 3) := zd zm_8104 (by decide +kernel)
theorem d_8104_439 {σ : Nat → Nat} {n0 : Nat} {bf : ab_B} : decode (ab_code (zx σ n0 bf).1 8104) 439 = .ok (.aload_n 0, 1) := zd zm_8104 (by decide +kernel)
theorem d_8104_440 {σ : Nat → Nat} {n0 : Nat} {bf : ab_B} : decode (ab_code (zx σ n0 bf).1 8104) 440 = .ok (.getfield 175, 3) := zd zm_8104 (by decide +kernel)
theorem d_8104_443 {σ : Nat → Nat} {n0 : Nat} {bf : ab_B} : decode (ab_code (zx σ n0 bf).1 8104) 443 = .ok (.iconst 0, 1) := zd zm_8104 (by decide +kernel)
theorem d_8104_444 {σ : Nat → Nat} {n0 : Nat} {bf : ab_B} : decode (ab_code (zx σ n0 bf).1 8104) 444 = .ok (.laload, 1) := zd zm_8104 (by decide +kernel)
theorem d_8104_445 {σ : Nat → Nat} {n0 : Nat} {bf : ab_B} : decode (ab_code (zx σ n0 bf).1 8104) 445 = .ok (.lreturn, 1) := zd zm_8104 (by decide +kernel)
def w_X9_sumOf_424 (X : zs_X) (d : Nat) (p0 : Nat) (p2 : Int32) (p3 : Int32) (S : zs_T) (Q : zs_Q) : Prop :=
  (zs_K S p0 = some (.inl 8) ∧ (((zs_I S 8080 p0) = 0 → (zs_U X d 8104 9 [(0, .ref p0), (2, .int p2), (3, .int (p3 + (1 : Int32)))] [] S Q)) ∧ (¬ ((zs_I S 8080 p0) = 0) → (Q (.returned (some (.long (0 : Int64)))) S))))
theorem u_X9_sumOf_424 {σ : Nat → Nat} {n0 : Nat} {bf : ab_B} {d : Nat} {p0 : Nat} {p2 : Int32} {p3 : Int32} {S : zs_T} {Q : zs_Q} (hB : zt_B bf) (h : w_X9_sumOf_424 (zx σ n0 bf) d p0 p2 p3 S Q) : zs_U (zx σ n0 bf) d 8104 424 [(0, .ref p0), (2, .int p2), (3, .int p3)] [] S Q := by
  unfold w_X9_sumOf_424 at h
  refine zu_aload_n d_8104_424 rfl (zs_ra _) ?_
  obtain ⟨k1, h⟩ := h
  refine zg_8_623 rfl d_8104_425 k1 ?_
  refine zu_ifeq (t := 433) d_8104_428 rfl (fun c2 => ?_) (fun c2 => ?_)
  · have h := h.1 c2
    refine zu_iinc d_8104_433 rfl zi_1 (zs_lt zq_8104 rfl) ?_
    refine zu_goto (t := 9) d_8104_436 rfl ?_
    exact h.weak ⟨rfl, rfl, rfl, trivial⟩
  · have h := h.2 c2
    refine zu_lconst (v := 0) d_8104_431 rfl ?_
    exact zu_lret d_8104_432 zr_8104 h
def w_X9_sumOf_69 (X : zs_X) (d : Nat) (p0 : Nat) (p2 : Int32) (p3 : Int32) (q0 : Option Nat) (q1 : Int32) (q2 : Int64) (S : zs_T) (Q : zs_Q) : Prop :=
  (∃ b1, q0 = some b1 ∧ zs_A S b1 3 q1 ∧ ab_n0 X.1 ≤ b1 ∧ ∀ S5, S5 = zs_sj S b1 q1.toNatClampNeg q2 → w_X9_sumOf_424 X d p0 (p2 + (1 : Int32)) p3 S5 Q)
theorem u_X9_sumOf_69 {σ : Nat → Nat} {n0 : Nat} {bf : ab_B} {d : Nat} {p0 : Nat} {p2 : Int32} {p3 : Int32} {q0 : Option Nat} {q1 : Int32} {q2 : Int64} {S : zs_T} {Q : zs_Q} (hB : zt_B bf) (h : w_X9_sumOf_69 (zx σ n0 bf) d p0 p2 p3 q0 q1 q2 S Q) : zs_U (zx σ n0 bf) d 8104 69 [(0, .ref p0), (2, .int p2), (3, .int p3)] [.long q2, .int q1, va_rf q0] S Q := by
  unfold w_X9_sumOf_69 at h
  obtain ⟨b1, e2, h⟩ := h
  refine zs_stk2 (zs_rfe e2) ?_
  obtain ⟨k3, h⟩ := h
  obtain ⟨k4, h⟩ := h
  refine zu_last (k := 3) d_8104_69 rfl rfl k4 k3 ?_
  generalize e6 : zs_sj S b1 q1.toNatClampNeg q2 = S5
  have h := h S5 e6.symm
  have K7 : ∀ b, zs_K S5 b = zs_K S b := zs_Kt e6 (zs_Ksj _ _ _ _) (fun _ => rfl)
  refine zu_iinc d_8104_70 rfl zi_1 (zs_lt zq_8104 rfl) ?_
  refine zu_goto (t := 424) d_8104_73 rfl ?_
  exact (u_X9_sumOf_424 hB h).weak ⟨rfl, rfl, rfl, trivial⟩
def w_X9_sumOf_38 (X : zs_X) (d : Nat) (p0 : Nat) (p2 : Int32) (p3 : Int32) (p4 : Int32) (S : zs_T) (Q : zs_Q) : Prop :=
  (zs_K S p0 = some (.inl 8) ∧ ((¬ p4 = (1 : Int32) → (∃ b3, (zs_R S 8042 p0) = some b3 ∧ zs_A S b3 0 p3 ∧ zs_C X d 8105 [.ref p0, .int (zs_i S b3 p3.toNatClampNeg)] S (zs_kJ (fun v7 S6 => w_X9_sumOf_69 X d p0 p2 p3 (zs_R S 8079 p0) p2 v7 S6 Q) Q))) ∧ (¬ (¬ p4 = (1 : Int32)) → (∃ b8, (zs_R S 8042 p0) = some b8 ∧ zs_A S b8 0 p3 ∧ w_X9_sumOf_69 X d p0 p2 p3 (zs_R S 8079 p0) p2 (((zs_i S b8 p3.toNatClampNeg)).toInt64) S Q))))
theorem u_X9_sumOf_38 {σ : Nat → Nat} {n0 : Nat} {bf : ab_B} {d : Nat} {p0 : Nat} {p2 : Int32} {p3 : Int32} {p4 : Int32} {S : zs_T} {Q : zs_Q} (hB : zt_B bf) (h : w_X9_sumOf_38 (zx σ n0 bf) d p0 p2 p3 p4 S Q) : zs_U (zx σ n0 bf) d 8104 38 [(0, .ref p0), (2, .int p2), (3, .int p3), (4, .int p4)] [] S Q := by
  unfold w_X9_sumOf_38 at h
  refine zu_aload_n d_8104_38 rfl (zs_ra _) ?_
  obtain ⟨k1, h⟩ := h
  refine zg_8_175 rfl d_8104_39 k1 ?_
  refine zu_iload_n d_8104_42 rfl ?_
  refine zu_iload d_8104_43 rfl ?_
  refine zu_iconst d_8104_45 zi_1 ?_
  refine zu_cmpne (t := 59) d_8104_46 rfl (fun c2 => ?_) (fun c2 => ?_)
  · have h := h.1 c2
    refine zu_aload_n d_8104_59 rfl (zs_ra _) ?_
    refine zu_aload_n d_8104_60 rfl (zs_ra _) ?_
    refine zg_8_87 rfl d_8104_61 k1 ?_
    refine zu_iload_n d_8104_64 rfl ?_
    obtain ⟨b3, e4, h⟩ := h
    refine zs_stk1 (zs_rfe e4) ?_
    obtain ⟨k5, h⟩ := h
    refine zu_iald (k := 0) d_8104_65 rfl rfl k5 ?_
    refine zc_8_627 (x0 := (zs_i S b3 p3.toNatClampNeg)) hB rfl k1 d_8104_66 (by simp only [List.map_cons, List.map_nil, List.sum_cons, List.sum_nil, zs_cat, zs_cI, zs_cJ, zs_cA]; exact Nat.le_of_ble_eq_true rfl) h (fun v7 S6 h => ?_)
    exact (u_X9_sumOf_69 hB h).weak ⟨rfl, rfl, rfl, trivial⟩
  · have h := h.2 c2
    refine zu_aload_n d_8104_49 rfl (zs_ra _) ?_
    refine zg_8_87 rfl d_8104_50 k1 ?_
    refine zu_iload_n d_8104_53 rfl ?_
    obtain ⟨b8, e9, h⟩ := h
    refine zs_stk1 (zs_rfe e9) ?_
    obtain ⟨k10, h⟩ := h
    refine zu_iald (k := 0) d_8104_54 rfl rfl k10 ?_
    refine zu_stk d_8104_55 rfl rfl ?_
    refine zu_goto (t := 69) d_8104_56 rfl ?_
    exact (u_X9_sumOf_69 hB h).weak ⟨rfl, rfl, rfl, trivial⟩
def w_X9_sumOf_126 (X : zs_X) (d : Nat) (p0 : Nat) (p2 : Int32) (p3 : Int32) (q0 : Option Nat) (q1 : Int32) (q2 : Int64) (S : zs_T) (Q : zs_Q) : Prop :=
  (∃ b1, q0 = some b1 ∧ zs_A S b1 3 q1 ∧ ab_n0 X.1 ≤ b1 ∧ ∀ S5, S5 = zs_sj S b1 q1.toNatClampNeg q2 → w_X9_sumOf_424 X d p0 p2 p3 S5 Q)
theorem u_X9_sumOf_126 {σ : Nat → Nat} {n0 : Nat} {bf : ab_B} {d : Nat} {p0 : Nat} {p2 : Int32} {p3 : Int32} {q0 : Option Nat} {q1 : Int32} {q2 : Int64} {S : zs_T} {Q : zs_Q} (hB : zt_B bf) (h : w_X9_sumOf_126 (zx σ n0 bf) d p0 p2 p3 q0 q1 q2 S Q) : zs_U (zx σ n0 bf) d 8104 126 [(0, .ref p0), (2, .int p2), (3, .int p3)] [.long q2, .int q1, va_rf q0] S Q := by
  unfold w_X9_sumOf_126 at h
  obtain ⟨b1, e2, h⟩ := h
  refine zs_stk2 (zs_rfe e2) ?_
  obtain ⟨k3, h⟩ := h
  obtain ⟨k4, h⟩ := h
  refine zu_last (k := 3) d_8104_126 rfl rfl k4 k3 ?_
  generalize e6 : zs_sj S b1 q1.toNatClampNeg q2 = S5
  have h := h S5 e6.symm
  have K7 : ∀ b, zs_K S5 b = zs_K S b := zs_Kt e6 (zs_Ksj _ _ _ _) (fun _ => rfl)
  refine zu_goto (t := 424) d_8104_127 rfl ?_
  exact (u_X9_sumOf_424 hB h).weak ⟨rfl, rfl, rfl, trivial⟩
def w_X9_sumOf_90 (X : zs_X) (d : Nat) (p0 : Nat) (p2 : Int32) (p3 : Int32) (p4 : Int32) (S : zs_T) (Q : zs_Q) : Prop :=
  (zs_K S p0 = some (.inl 8) ∧ ((¬ p4 = (10 : Int32) → (∃ b3, (zs_R S 8079 p0) = some b3 ∧ zs_A S b3 3 (p2 - (1 : Int32)) ∧ w_X9_sumOf_126 X d p0 p2 p3 (zs_R S 8079 p0) (p2 - (1 : Int32)) ((-(zs_j S b3 (p2 - (1 : Int32)).toNatClampNeg))) S Q)) ∧ (¬ (¬ p4 = (10 : Int32)) → (∃ b6, (zs_R S 8079 p0) = some b6 ∧ zs_A S b6 3 (p2 - (1 : Int32)) ∧ w_X9_sumOf_126 X d p0 p2 p3 (zs_R S 8079 p0) (p2 - (1 : Int32)) ((1 : Int64) - (zs_j S b6 (p2 - (1 : Int32)).toNatClampNeg)) S Q))))
theorem u_X9_sumOf_90 {σ : Nat → Nat} {n0 : Nat} {bf : ab_B} {d : Nat} {p0 : Nat} {p2 : Int32} {p3 : Int32} {p4 : Int32} {S : zs_T} {Q : zs_Q} (hB : zt_B bf) (h : w_X9_sumOf_90 (zx σ n0 bf) d p0 p2 p3 p4 S Q) : zs_U (zx σ n0 bf) d 8104 90 [(0, .ref p0), (2, .int p2), (3, .int p3), (4, .int p4)] [] S Q := by
  unfold w_X9_sumOf_90 at h
  refine zu_aload_n d_8104_90 rfl (zs_ra _) ?_
  obtain ⟨k1, h⟩ := h
  refine zg_8_175 rfl d_8104_91 k1 ?_
  refine zu_iload_n d_8104_94 rfl ?_
  refine zu_iconst d_8104_95 zi_1 ?_
  refine zu_stk d_8104_96 rfl rfl ?_
  refine zu_iload d_8104_97 rfl ?_
  refine zu_bipush d_8104_99 zj_10 ?_
  refine zu_cmpne (t := 117) d_8104_101 rfl (fun c2 => ?_) (fun c2 => ?_)
  · have h := h.1 c2
    refine zu_aload_n d_8104_117 rfl (zs_ra _) ?_
    refine zg_8_175 rfl d_8104_118 k1 ?_
    refine zu_iload_n d_8104_121 rfl ?_
    refine zu_iconst d_8104_122 zi_1 ?_
    refine zu_stk d_8104_123 rfl rfl ?_
    obtain ⟨b3, e4, h⟩ := h
    refine zs_stk1 (zs_rfe e4) ?_
    obtain ⟨k5, h⟩ := h
    refine zu_lald (k := 3) d_8104_124 rfl rfl k5 ?_
    refine zu_stk d_8104_125 rfl rfl ?_
    exact (u_X9_sumOf_126 hB h).weak ⟨rfl, rfl, rfl, trivial⟩
  · have h := h.2 c2
    refine zu_lconst (v := 1) d_8104_104 rfl ?_
    refine zu_aload_n d_8104_105 rfl (zs_ra _) ?_
    refine zg_8_175 rfl d_8104_106 k1 ?_
    refine zu_iload_n d_8104_109 rfl ?_
    refine zu_iconst d_8104_110 zi_1 ?_
    refine zu_stk d_8104_111 rfl rfl ?_
    obtain ⟨b6, e7, h⟩ := h
    refine zs_stk1 (zs_rfe e7) ?_
    obtain ⟨k8, h⟩ := h
    refine zu_lald (k := 3) d_8104_112 rfl rfl k8 ?_
    refine zu_stk d_8104_113 rfl rfl ?_
    refine zu_goto (t := 126) d_8104_114 rfl ?_
    exact (u_X9_sumOf_126 hB h).weak ⟨rfl, rfl, rfl, trivial⟩
def w_X9_sumOf_421 (X : zs_X) (d : Nat) (p0 : Nat) (p2 : Int32) (p3 : Int32) (q0 : Option Nat) (q1 : Int32) (S : zs_T) (Q : zs_Q) : Prop :=
  (∃ b1, q0 = some b1 ∧ zs_K S b1 = some (.inl 8) ∧ ab_n0 X.1 ≤ b1 ∧ zs_b q1 ∧ ∀ S6, S6 = zs_sI S 8080 b1 q1 → w_X9_sumOf_424 X d p0 p2 p3 S6 Q)
theorem u_X9_sumOf_421 {σ : Nat → Nat} {n0 : Nat} {bf : ab_B} {d : Nat} {p0 : Nat} {p2 : Int32} {p3 : Int32} {q0 : Option Nat} {q1 : Int32} {S : zs_T} {Q : zs_Q} (hB : zt_B bf) (h : w_X9_sumOf_421 (zx σ n0 bf) d p0 p2 p3 q0 q1 S Q) : zs_U (zx σ n0 bf) d 8104 421 [(0, .ref p0), (2, .int p2), (3, .int p3)] [.int q1, va_rf q0] S Q := by
  unfold w_X9_sumOf_421 at h
  obtain ⟨b1, e2, h⟩ := h
  refine zs_stk1 (zs_rfe e2) ?_
  obtain ⟨k3, h⟩ := h
  obtain ⟨k4, h⟩ := h
  obtain ⟨k5, h⟩ := h
  refine zp_8_623 (v := q1) rfl d_8104_421 k3 k4 k5 ?_
  generalize e7 : zs_sI S 8080 b1 q1 = S6
  have h := h S6 e7.symm
  have K8 : ∀ b, zs_K S6 b = zs_K S b := zs_Kt e7 (zs_KsI _ _ _ _) (fun _ => rfl)
  exact (u_X9_sumOf_424 hB h).weak ⟨rfl, rfl, rfl, trivial⟩
def w_X9_sumOf_416 (X : zs_X) (d : Nat) (p0 : Nat) (p2 : Int32) (p3 : Int32) (q0 : Option Nat) (S : zs_T) (Q : zs_Q) : Prop :=
  (w_X9_sumOf_421 X d p0 p2 p3 q0 (1 : Int32) S Q)
theorem u_X9_sumOf_416 {σ : Nat → Nat} {n0 : Nat} {bf : ab_B} {d : Nat} {p0 : Nat} {p2 : Int32} {p3 : Int32} {q0 : Option Nat} {S : zs_T} {Q : zs_Q} (hB : zt_B bf) (h : w_X9_sumOf_416 (zx σ n0 bf) d p0 p2 p3 q0 S Q) : zs_U (zx σ n0 bf) d 8104 416 [(0, .ref p0), (2, .int p2), (3, .int p3)] [va_rf q0] S Q := by
  unfold w_X9_sumOf_416 at h
  refine zu_iconst d_8104_416 zi_1 ?_
  refine zu_goto (t := 421) d_8104_417 rfl ?_
  exact (u_X9_sumOf_421 hB h).weak ⟨rfl, rfl, rfl, trivial⟩
def w_X9_sumOf_420 (X : zs_X) (d : Nat) (p0 : Nat) (p2 : Int32) (p3 : Int32) (q0 : Option Nat) (S : zs_T) (Q : zs_Q) : Prop :=
  (w_X9_sumOf_421 X d p0 p2 p3 q0 (0 : Int32) S Q)
theorem u_X9_sumOf_420 {σ : Nat → Nat} {n0 : Nat} {bf : ab_B} {d : Nat} {p0 : Nat} {p2 : Int32} {p3 : Int32} {q0 : Option Nat} {S : zs_T} {Q : zs_Q} (hB : zt_B bf) (h : w_X9_sumOf_420 (zx σ n0 bf) d p0 p2 p3 q0 S Q) : zs_U (zx σ n0 bf) d 8104 420 [(0, .ref p0), (2, .int p2), (3, .int p3)] [va_rf q0] S Q := by
  unfold w_X9_sumOf_420 at h
  refine zu_iconst d_8104_420 zi_0 ?_
  exact (u_X9_sumOf_421 hB h).weak ⟨rfl, rfl, rfl, trivial⟩
def w_X9_sumOf_372 (X : zs_X) (d : Nat) (p0 : Nat) (p2 : Int32) (p3 : Int32) (p4 : Int32) (S : zs_T) (Q : zs_Q) : Prop :=
  (zs_K S p0 = some (.inl 8) ∧ ((¬ (zs_I S 8080 p0) = 0 → w_X9_sumOf_416 X d p0 p2 p3 (some p0) S Q) ∧ (¬ (¬ (zs_I S 8080 p0) = 0) → ((((5 : Int32) < p4 → w_X9_sumOf_420 X d p0 p2 p3 (some p0) S Q) ∧ (¬ ((5 : Int32) < p4) → (∃ b4, (zs_R S 8079 p0) = some b4 ∧ zs_A S b4 3 (p2 - (1 : Int32)) ∧ (((2147483647 : Int64) < (zs_j S b4 (p2 - (1 : Int32)).toNatClampNeg) → w_X9_sumOf_416 X d p0 p2 p3 (some p0) S Q) ∧ (¬ ((2147483647 : Int64) < (zs_j S b4 (p2 - (1 : Int32)).toNatClampNeg)) → ((((-2147483647 : Int64) ≤ (zs_j S b4 (p2 - (1 : Int32)).toNatClampNeg) → w_X9_sumOf_420 X d p0 p2 p3 (some p0) S Q) ∧ (¬ ((-2147483647 : Int64) ≤ (zs_j S b4 (p2 - (1 : Int32)).toNatClampNeg)) → w_X9_sumOf_416 X d p0 p2 p3 (some p0) S Q))))))))))))
theorem u_X9_sumOf_372 {σ : Nat → Nat} {n0 : Nat} {bf : ab_B} {d : Nat} {p0 : Nat} {p2 : Int32} {p3 : Int32} {p4 : Int32} {S : zs_T} {Q : zs_Q} (hB : zt_B bf) (h : w_X9_sumOf_372 (zx σ n0 bf) d p0 p2 p3 p4 S Q) : zs_U (zx σ n0 bf) d 8104 372 [(0, .ref p0), (2, .int p2), (3, .int p3), (4, .int p4)] [] S Q := by
  unfold w_X9_sumOf_372 at h
  refine zu_aload_n d_8104_372 rfl (zs_ra _) ?_
  refine zu_aload_n d_8104_373 rfl (zs_ra _) ?_
  obtain ⟨k1, h⟩ := h
  refine zg_8_623 rfl d_8104_374 k1 ?_
  refine zu_ifne (t := 416) d_8104_377 rfl (fun c2 => ?_) (fun c2 => ?_)
  · have h := h.1 c2
    exact (u_X9_sumOf_416 hB h).weak ⟨rfl, rfl, rfl, trivial⟩
  · have h := h.2 c2
    refine zu_iload d_8104_380 rfl ?_
    refine zu_iconst d_8104_382 zi_5 ?_
    refine zu_cmpgt (t := 420) d_8104_383 rfl (fun c3 => ?_) (fun c3 => ?_)
    · have h := h.1 c3
      exact (u_X9_sumOf_420 hB h).weak ⟨rfl, rfl, rfl, trivial⟩
    · have h := h.2 c3
      refine zu_aload_n d_8104_386 rfl (zs_ra _) ?_
      refine zg_8_175 rfl d_8104_387 k1 ?_
      refine zu_iload_n d_8104_390 rfl ?_
      refine zu_iconst d_8104_391 zi_1 ?_
      refine zu_stk d_8104_392 rfl rfl ?_
      obtain ⟨b4, e5, h⟩ := h
      refine zs_stk1 (zs_rfe e5) ?_
      obtain ⟨k6, h⟩ := h
      refine zu_lald (k := 3) d_8104_393 rfl rfl k6 ?_
      refine zl2_8_497 rfl d_8104_394 ?_
      refine zu_lgt (t := 416) d_8104_397 d_8104_398 rfl (fun c7 => ?_) (fun c7 => ?_)
      · have h := h.1 c7
        exact (u_X9_sumOf_416 hB h).weak ⟨rfl, rfl, rfl, trivial⟩
      · have h := h.2 c7
        refine zu_aload_n d_8104_401 rfl (zs_ra _) ?_
        refine zg_8_175 rfl d_8104_402 k1 ?_
        refine zu_iload_n d_8104_405 rfl ?_
        refine zu_iconst d_8104_406 zi_1 ?_
        refine zu_stk d_8104_407 rfl rfl ?_
        refine zs_stk1 (zs_rfe e5) ?_
        refine zu_lald (k := 3) d_8104_408 rfl rfl k6 ?_
        refine zl2_8_633 rfl d_8104_409 ?_
        refine zu_lge (t := 420) d_8104_412 d_8104_413 rfl (fun c8 => ?_) (fun c8 => ?_)
        · have h := h.1 c8
          exact (u_X9_sumOf_420 hB h).weak ⟨rfl, rfl, rfl, trivial⟩
        · have h := h.2 c8
          exact (u_X9_sumOf_416 hB h).weak ⟨rfl, rfl, rfl, trivial⟩
def w_X9_sumOf_351 (X : zs_X) (d : Nat) (p0 : Nat) (p2 : Int32) (p3 : Int32) (p4 : Int32) (q0 : Option Nat) (q1 : Int32) (q2 : Int64) (S : zs_T) (Q : zs_Q) : Prop :=
  (∃ b1, q0 = some b1 ∧ zs_A S b1 3 q1 ∧ ab_n0 X.1 ≤ b1 ∧ ∀ S5, S5 = zs_sj S b1 q1.toNatClampNeg q2 → w_X9_sumOf_372 X d p0 p2 p3 p4 S5 Q)
theorem u_X9_sumOf_351 {σ : Nat → Nat} {n0 : Nat} {bf : ab_B} {d : Nat} {p0 : Nat} {p2 : Int32} {p3 : Int32} {p4 : Int32} {q0 : Option Nat} {q1 : Int32} {q2 : Int64} {S : zs_T} {Q : zs_Q} (hB : zt_B bf) (h : w_X9_sumOf_351 (zx σ n0 bf) d p0 p2 p3 p4 q0 q1 q2 S Q) : zs_U (zx σ n0 bf) d 8104 351 [(0, .ref p0), (2, .int p2), (3, .int p3), (4, .int p4)] [.long q2, .int q1, va_rf q0] S Q := by
  unfold w_X9_sumOf_351 at h
  obtain ⟨b1, e2, h⟩ := h
  refine zs_stk2 (zs_rfe e2) ?_
  obtain ⟨k3, h⟩ := h
  obtain ⟨k4, h⟩ := h
  refine zu_last (k := 3) d_8104_351 rfl rfl k4 k3 ?_
  generalize e6 : zs_sj S b1 q1.toNatClampNeg q2 = S5
  have h := h S5 e6.symm
  have K7 : ∀ b, zs_K S5 b = zs_K S b := zs_Kt e6 (zs_Ksj _ _ _ _) (fun _ => rfl)
  refine zu_goto (t := 372) d_8104_352 rfl ?_
  exact (u_X9_sumOf_372 hB h).weak ⟨rfl, rfl, rfl, rfl, trivial⟩
def w_X9_sumOf_348 (X : zs_X) (d : Nat) (p0 : Nat) (p2 : Int32) (p3 : Int32) (p4 : Int32) (q0 : Option Nat) (q1 : Int32) (q2 : Int64) (q3 : Int64) (q4 : Int32) (S : zs_T) (Q : zs_Q) : Prop :=
  (zs_C X d 8106 [.long q2, .long q3, .int q4] S (zs_kJ (fun v2 S1 => w_X9_sumOf_351 X d p0 p2 p3 p4 q0 q1 v2 S1 Q) Q))
theorem u_X9_sumOf_348 {σ : Nat → Nat} {n0 : Nat} {bf : ab_B} {d : Nat} {p0 : Nat} {p2 : Int32} {p3 : Int32} {p4 : Int32} {q0 : Option Nat} {q1 : Int32} {q2 : Int64} {q3 : Int64} {q4 : Int32} {S : zs_T} {Q : zs_Q} (hB : zt_B bf) (h : w_X9_sumOf_348 (zx σ n0 bf) d p0 p2 p3 p4 q0 q1 q2 q3 q4 S Q) : zs_U (zx σ n0 bf) d 8104 348 [(0, .ref p0), (2, .int p2), (3, .int p3), (4, .int p4)] [.int q4, .long q3, .long q2, .int q1, va_rf q0] S Q := by
  unfold w_X9_sumOf_348 at h
  refine zc_8_635 (x0 := q2) (x1 := q3) (x2 := q4) hB rfl d_8104_348 (by simp only [List.map_cons, List.map_nil, List.sum_cons, List.sum_nil, zs_cat, zs_cI, zs_cJ, zs_cA]; exact Nat.le_of_ble_eq_true rfl) h (fun v2 S1 h => ?_)
  exact (u_X9_sumOf_351 hB h).weak ⟨rfl, rfl, rfl, rfl, trivial⟩
def w_X9_sumOf_311 (X : zs_X) (d : Nat) (p0 : Nat) (p2 : Int32) (p3 : Int32) (p4 : Int32) (p5 : Int64) (p7 : Int64) (q0 : Option Nat) (q1 : Int32) (S : zs_T) (Q : zs_Q) : Prop :=
  (∃ b1, q0 = some b1 ∧ zs_K S b1 = some (.inl 8) ∧ ab_n0 X.1 ≤ b1 ∧ zs_b q1 ∧ ∀ S6, S6 = zs_sI S 8080 b1 q1 → zs_K S p0 = some (.inl 8) ∧ (((zs_I S6 8080 p0) = 0 → (((¬ p4 = (7 : Int32) → (w_X9_sumOf_348 X d p0 p2 p3 p4 (zs_R S6 8079 p0) (p2 - (1 : Int32)) p7 p5 (0 : Int32) S6 Q)) ∧ (¬ (¬ p4 = (7 : Int32)) → (w_X9_sumOf_348 X d p0 p2 p3 p4 (zs_R S6 8079 p0) (p2 - (1 : Int32)) p7 p5 (1 : Int32) S6 Q))))) ∧ (¬ ((zs_I S6 8080 p0) = 0) → (w_X9_sumOf_351 X d p0 p2 p3 p4 (zs_R S6 8079 p0) (p2 - (1 : Int32)) (0 : Int64) S6 Q))))
theorem u_X9_sumOf_311 {σ : Nat → Nat} {n0 : Nat} {bf : ab_B} {d : Nat} {p0 : Nat} {p2 : Int32} {p3 : Int32} {p4 : Int32} {p5 : Int64} {p7 : Int64} {q0 : Option Nat} {q1 : Int32} {S : zs_T} {Q : zs_Q} (hB : zt_B bf) (h : w_X9_sumOf_311 (zx σ n0 bf) d p0 p2 p3 p4 p5 p7 q0 q1 S Q) : zs_U (zx σ n0 bf) d 8104 311 [(0, .ref p0), (2, .int p2), (3, .int p3), (4, .int p4), (5, .long p5), (7, .long p7)] [.int q1, va_rf q0] S Q := by
  unfold w_X9_sumOf_311 at h
  obtain ⟨b1, e2, h⟩ := h
  refine zs_stk1 (zs_rfe e2) ?_
  obtain ⟨k3, h⟩ := h
  obtain ⟨k4, h⟩ := h
  obtain ⟨k5, h⟩ := h
  refine zp_8_623 (v := q1) rfl d_8104_311 k3 k4 k5 ?_
  generalize e7 : zs_sI S 8080 b1 q1 = S6
  have h := h S6 e7.symm
  have K8 : ∀ b, zs_K S6 b = zs_K S b := zs_Kt e7 (zs_KsI _ _ _ _) (fun _ => rfl)
  refine zu_aload_n d_8104_314 rfl (zs_ra _) ?_
  obtain ⟨k9, h⟩ := h
  refine zg_8_175 rfl d_8104_315 ((K8 _).trans k9) ?_
  refine zu_iload_n d_8104_318 rfl ?_
  refine zu_iconst d_8104_319 zi_1 ?_
  refine zu_stk d_8104_320 rfl rfl ?_
  refine zu_aload_n d_8104_321 rfl (zs_ra _) ?_
  refine zg_8_623 rfl d_8104_322 ((K8 _).trans k9) ?_
  refine zu_ifeq (t := 332) d_8104_325 rfl (fun c10 => ?_) (fun c10 => ?_)
  · have h := h.1 c10
    refine zu_lload d_8104_332 rfl ?_
    refine zu_lload d_8104_334 rfl ?_
    refine zu_iload d_8104_336 rfl ?_
    refine zu_bipush d_8104_338 zj_7 ?_
    refine zu_cmpne (t := 347) d_8104_340 rfl (fun c11 => ?_) (fun c11 => ?_)
    · have h := h.1 c11
      refine zu_iconst d_8104_347 zi_0 ?_
      exact (u_X9_sumOf_348 hB h).weak ⟨rfl, rfl, rfl, rfl, trivial⟩
    · have h := h.2 c11
      refine zu_iconst d_8104_343 zi_1 ?_
      refine zu_goto (t := 348) d_8104_344 rfl ?_
      exact (u_X9_sumOf_348 hB h).weak ⟨rfl, rfl, rfl, rfl, trivial⟩
  · have h := h.2 c10
    refine zu_lconst (v := 0) d_8104_328 rfl ?_
    refine zu_goto (t := 351) d_8104_329 rfl ?_
    exact (u_X9_sumOf_351 hB h).weak ⟨rfl, rfl, rfl, rfl, trivial⟩
def w_X9_sumOf_306 (X : zs_X) (d : Nat) (p0 : Nat) (p2 : Int32) (p3 : Int32) (p4 : Int32) (p5 : Int64) (p7 : Int64) (q0 : Option Nat) (S : zs_T) (Q : zs_Q) : Prop :=
  (w_X9_sumOf_311 X d p0 p2 p3 p4 p5 p7 q0 (1 : Int32) S Q)
theorem u_X9_sumOf_306 {σ : Nat → Nat} {n0 : Nat} {bf : ab_B} {d : Nat} {p0 : Nat} {p2 : Int32} {p3 : Int32} {p4 : Int32} {p5 : Int64} {p7 : Int64} {q0 : Option Nat} {S : zs_T} {Q : zs_Q} (hB : zt_B bf) (h : w_X9_sumOf_306 (zx σ n0 bf) d p0 p2 p3 p4 p5 p7 q0 S Q) : zs_U (zx σ n0 bf) d 8104 306 [(0, .ref p0), (2, .int p2), (3, .int p3), (4, .int p4), (5, .long p5), (7, .long p7)] [va_rf q0] S Q := by
  unfold w_X9_sumOf_306 at h
  refine zu_iconst d_8104_306 zi_1 ?_
  refine zu_goto (t := 311) d_8104_307 rfl ?_
  exact (u_X9_sumOf_311 hB h).weak ⟨rfl, rfl, rfl, rfl, rfl, rfl, trivial⟩
def w_X9_sumOf_310 (X : zs_X) (d : Nat) (p0 : Nat) (p2 : Int32) (p3 : Int32) (p4 : Int32) (p5 : Int64) (p7 : Int64) (q0 : Option Nat) (S : zs_T) (Q : zs_Q) : Prop :=
  (w_X9_sumOf_311 X d p0 p2 p3 p4 p5 p7 q0 (0 : Int32) S Q)
theorem u_X9_sumOf_310 {σ : Nat → Nat} {n0 : Nat} {bf : ab_B} {d : Nat} {p0 : Nat} {p2 : Int32} {p3 : Int32} {p4 : Int32} {p5 : Int64} {p7 : Int64} {q0 : Option Nat} {S : zs_T} {Q : zs_Q} (hB : zt_B bf) (h : w_X9_sumOf_310 (zx σ n0 bf) d p0 p2 p3 p4 p5 p7 q0 S Q) : zs_U (zx σ n0 bf) d 8104 310 [(0, .ref p0), (2, .int p2), (3, .int p3), (4, .int p4), (5, .long p5), (7, .long p7)] [va_rf q0] S Q := by
  unfold w_X9_sumOf_310 at h
  refine zu_iconst d_8104_310 zi_0 ?_
  exact (u_X9_sumOf_311 hB h).weak ⟨rfl, rfl, rfl, rfl, rfl, rfl, trivial⟩
def w_X9_sumOf_277 (X : zs_X) (d : Nat) (p0 : Nat) (p2 : Int32) (p3 : Int32) (p4 : Int32) (p5 : Int64) (p7 : Int64) (S : zs_T) (Q : zs_Q) : Prop :=
  (zs_K S p0 = some (.inl 8) ∧ ((¬ (zs_I S 8080 p0) = 0 → w_X9_sumOf_306 X d p0 p2 p3 p4 p5 p7 (some p0) S Q) ∧ (¬ (¬ (zs_I S 8080 p0) = 0) → (((p5 = (0 : Int64) → w_X9_sumOf_306 X d p0 p2 p3 p4 p5 p7 (some p0) S Q) ∧ (¬ (p5 = (0 : Int64)) → (((¬ p4 = (7 : Int32) → w_X9_sumOf_310 X d p0 p2 p3 p4 p5 p7 (some p0) S Q) ∧ (¬ (¬ p4 = (7 : Int32)) → ((((0 : Int64) ≤ p5 → w_X9_sumOf_310 X d p0 p2 p3 p4 p5 p7 (some p0) S Q) ∧ (¬ ((0 : Int64) ≤ p5) → w_X9_sumOf_306 X d p0 p2 p3 p4 p5 p7 (some p0) S Q))))))))))))
theorem u_X9_sumOf_277 {σ : Nat → Nat} {n0 : Nat} {bf : ab_B} {d : Nat} {p0 : Nat} {p2 : Int32} {p3 : Int32} {p4 : Int32} {p5 : Int64} {p7 : Int64} {S : zs_T} {Q : zs_Q} (hB : zt_B bf) (h : w_X9_sumOf_277 (zx σ n0 bf) d p0 p2 p3 p4 p5 p7 S Q) : zs_U (zx σ n0 bf) d 8104 277 [(0, .ref p0), (2, .int p2), (3, .int p3), (4, .int p4), (5, .long p5), (7, .long p7)] [] S Q := by
  unfold w_X9_sumOf_277 at h
  refine zu_aload_n d_8104_277 rfl (zs_ra _) ?_
  refine zu_aload_n d_8104_278 rfl (zs_ra _) ?_
  obtain ⟨k1, h⟩ := h
  refine zg_8_623 rfl d_8104_279 k1 ?_
  refine zu_ifne (t := 306) d_8104_282 rfl (fun c2 => ?_) (fun c2 => ?_)
  · have h := h.1 c2
    exact (u_X9_sumOf_306 hB h).weak ⟨rfl, rfl, rfl, rfl, rfl, rfl, trivial⟩
  · have h := h.2 c2
    refine zu_lload d_8104_285 rfl ?_
    refine zu_lconst (v := 0) d_8104_287 rfl ?_
    refine zu_leq (t := 306) d_8104_288 d_8104_289 rfl (fun c3 => ?_) (fun c3 => ?_)
    · have h := h.1 c3
      exact (u_X9_sumOf_306 hB h).weak ⟨rfl, rfl, rfl, rfl, rfl, rfl, trivial⟩
    · have h := h.2 c3
      refine zu_iload d_8104_292 rfl ?_
      refine zu_bipush d_8104_294 zj_7 ?_
      refine zu_cmpne (t := 310) d_8104_296 rfl (fun c4 => ?_) (fun c4 => ?_)
      · have h := h.1 c4
        exact (u_X9_sumOf_310 hB h).weak ⟨rfl, rfl, rfl, rfl, rfl, rfl, trivial⟩
      · have h := h.2 c4
        refine zu_lload d_8104_299 rfl ?_
        refine zu_lconst (v := 0) d_8104_301 rfl ?_
        refine zu_lge (t := 310) d_8104_302 d_8104_303 rfl (fun c5 => ?_) (fun c5 => ?_)
        · have h := h.1 c5
          exact (u_X9_sumOf_310 hB h).weak ⟨rfl, rfl, rfl, rfl, rfl, rfl, trivial⟩
        · have h := h.2 c5
          exact (u_X9_sumOf_306 hB h).weak ⟨rfl, rfl, rfl, rfl, rfl, rfl, trivial⟩
def w_X9_sumOf_250 (X : zs_X) (d : Nat) (p0 : Nat) (p2 : Int32) (p3 : Int32) (p4 : Int32) (p5 : Int64) (S : zs_T) (Q : zs_Q) : Prop :=
  (zs_K S p0 = some (.inl 8) ∧ ∃ b2, (zs_R S 8079 p0) = some b2 ∧ zs_A S b2 3 (p2 - (2 : Int32)) ∧ ((p4 = (6 : Int32) → w_X9_sumOf_277 X d p0 (p2 + (-1 : Int32)) p3 p4 p5 (zs_j S b2 (p2 - (2 : Int32)).toNatClampNeg) S Q) ∧ (¬ (p4 = (6 : Int32)) → (((¬ p4 = (7 : Int32) → (zs_C X d 8107 [.int p4, .long (zs_j S b2 (p2 - (2 : Int32)).toNatClampNeg), .long p5] S (zs_kJ (fun v8 S7 => (zs_A S7 b2 3 ((p2 + (-1 : Int32)) - (1 : Int32)) ∧ ab_n0 X.1 ≤ b2 ∧ ∀ S11, S11 = zs_sj S7 b2 ((p2 + (-1 : Int32)) - (1 : Int32)).toNatClampNeg v8 → w_X9_sumOf_372 X d p0 (p2 + (-1 : Int32)) p3 p4 S11 Q)) Q))) ∧ (¬ (¬ p4 = (7 : Int32)) → w_X9_sumOf_277 X d p0 (p2 + (-1 : Int32)) p3 p4 p5 (zs_j S b2 (p2 - (2 : Int32)).toNatClampNeg) S Q))))))
theorem u_X9_sumOf_250 {σ : Nat → Nat} {n0 : Nat} {bf : ab_B} {d : Nat} {p0 : Nat} {p2 : Int32} {p3 : Int32} {p4 : Int32} {p5 : Int64} {S : zs_T} {Q : zs_Q} (hB : zt_B bf) (h : w_X9_sumOf_250 (zx σ n0 bf) d p0 p2 p3 p4 p5 S Q) : zs_U (zx σ n0 bf) d 8104 250 [(0, .ref p0), (2, .int p2), (3, .int p3), (4, .int p4), (5, .long p5)] [] S Q := by
  unfold w_X9_sumOf_250 at h
  refine zu_aload_n d_8104_250 rfl (zs_ra _) ?_
  obtain ⟨k1, h⟩ := h
  refine zg_8_175 rfl d_8104_251 k1 ?_
  refine zu_iload_n d_8104_254 rfl ?_
  refine zu_iconst d_8104_255 zi_2 ?_
  refine zu_stk d_8104_256 rfl rfl ?_
  obtain ⟨b2, e3, h⟩ := h
  refine zs_stk1 (zs_rfe e3) ?_
  obtain ⟨k4, h⟩ := h
  refine zu_lald (k := 3) d_8104_257 rfl rfl k4 ?_
  refine zu_lstore d_8104_258 (zs_lt zq_8104 rfl) ?_
  refine zu_iinc d_8104_260 rfl zi_m1 (zs_lt zq_8104 rfl) ?_
  refine zu_iload d_8104_263 rfl ?_
  refine zu_bipush d_8104_265 zj_6 ?_
  refine zu_cmpeq (t := 277) d_8104_267 rfl (fun c5 => ?_) (fun c5 => ?_)
  · have h := h.1 c5
    exact (u_X9_sumOf_277 hB h).weak ⟨rfl, rfl, rfl, rfl, rfl, rfl, trivial⟩
  · have h := h.2 c5
    refine zu_iload d_8104_270 rfl ?_
    refine zu_bipush d_8104_272 zj_7 ?_
    refine zu_cmpne (t := 355) d_8104_274 rfl (fun c6 => ?_) (fun c6 => ?_)
    · have h := h.1 c6
      refine zu_aload_n d_8104_355 rfl (zs_ra _) ?_
      refine zg_8_175 rfl d_8104_356 k1 ?_
      refine zu_iload_n d_8104_359 rfl ?_
      refine zu_iconst d_8104_360 zi_1 ?_
      refine zu_stk d_8104_361 rfl rfl ?_
      refine zu_iload d_8104_362 rfl ?_
      refine zu_lload d_8104_364 rfl ?_
      refine zu_lload d_8104_366 rfl ?_
      refine zc_8_639 (x0 := p4) (x1 := (zs_j S b2 (p2 - (2 : Int32)).toNatClampNeg)) (x2 := p5) hB rfl d_8104_368 (by simp only [List.map_cons, List.map_nil, List.sum_cons, List.sum_nil, zs_cat, zs_cI, zs_cJ, zs_cA]; exact Nat.le_of_ble_eq_true rfl) h (fun v8 S7 h => ?_)
      refine zs_stk2 (zs_rfe e3) ?_
      obtain ⟨k9, h⟩ := h
      obtain ⟨k10, h⟩ := h
      refine zu_last (k := 3) d_8104_371 rfl rfl k10 k9 ?_
      generalize e12 : zs_sj S7 b2 ((p2 + (-1 : Int32)) - (1 : Int32)).toNatClampNeg v8 = S11
      have h := h S11 e12.symm
      have K13 : ∀ b, zs_K S11 b = zs_K S7 b := zs_Kt e12 (zs_Ksj _ _ _ _) (fun _ => rfl)
      exact (u_X9_sumOf_372 hB h).weak ⟨rfl, rfl, rfl, rfl, trivial⟩
    · have h := h.2 c6
      exact (u_X9_sumOf_277 hB h).weak ⟨rfl, rfl, rfl, rfl, rfl, rfl, trivial⟩
def w_X9_sumOf_224 (X : zs_X) (d : Nat) (p0 : Nat) (p2 : Int32) (p3 : Int32) (p5 : Int64) (q0 : Option Nat) (q1 : Int32) (S : zs_T) (Q : zs_Q) : Prop :=
  (∃ b1, q0 = some b1 ∧ zs_K S b1 = some (.inl 8) ∧ ab_n0 X.1 ≤ b1 ∧ zs_b q1 ∧ ∀ S6, S6 = zs_sI S 8080 b1 q1 → zs_K S p0 = some (.inl 8) ∧ ∃ b10, (zs_R S6 8079 p0) = some b10 ∧ zs_A S b10 3 (p2 - (1 : Int32)) ∧ ab_n0 X.1 ≤ b10 ∧ ∀ S14, S14 = zs_sj S6 b10 (p2 - (1 : Int32)).toNatClampNeg p5 → w_X9_sumOf_424 X d p0 p2 p3 S14 Q)
theorem u_X9_sumOf_224 {σ : Nat → Nat} {n0 : Nat} {bf : ab_B} {d : Nat} {p0 : Nat} {p2 : Int32} {p3 : Int32} {p5 : Int64} {q0 : Option Nat} {q1 : Int32} {S : zs_T} {Q : zs_Q} (hB : zt_B bf) (h : w_X9_sumOf_224 (zx σ n0 bf) d p0 p2 p3 p5 q0 q1 S Q) : zs_U (zx σ n0 bf) d 8104 224 [(0, .ref p0), (2, .int p2), (3, .int p3), (5, .long p5)] [.int q1, va_rf q0] S Q := by
  unfold w_X9_sumOf_224 at h
  obtain ⟨b1, e2, h⟩ := h
  refine zs_stk1 (zs_rfe e2) ?_
  obtain ⟨k3, h⟩ := h
  obtain ⟨k4, h⟩ := h
  obtain ⟨k5, h⟩ := h
  refine zp_8_623 (v := q1) rfl d_8104_224 k3 k4 k5 ?_
  generalize e7 : zs_sI S 8080 b1 q1 = S6
  have h := h S6 e7.symm
  have K8 : ∀ b, zs_K S6 b = zs_K S b := zs_Kt e7 (zs_KsI _ _ _ _) (fun _ => rfl)
  refine zu_aload_n d_8104_227 rfl (zs_ra _) ?_
  obtain ⟨k9, h⟩ := h
  refine zg_8_175 rfl d_8104_228 ((K8 _).trans k9) ?_
  refine zu_iload_n d_8104_231 rfl ?_
  refine zu_iconst d_8104_232 zi_1 ?_
  refine zu_stk d_8104_233 rfl rfl ?_
  refine zu_lload d_8104_234 rfl ?_
  obtain ⟨b10, e11, h⟩ := h
  refine zs_stk2 (zs_rfe e11) ?_
  obtain ⟨k12, h⟩ := h
  obtain ⟨k13, h⟩ := h
  refine zu_last (k := 3) d_8104_236 rfl rfl k13 (zs_Ak K8 k12) ?_
  generalize e15 : zs_sj S6 b10 (p2 - (1 : Int32)).toNatClampNeg p5 = S14
  have h := h S14 e15.symm
  have K16 : ∀ b, zs_K S14 b = zs_K S b := zs_Kt e15 (zs_Ksj _ _ _ _) K8
  refine zu_goto (t := 424) d_8104_237 rfl ?_
  exact (u_X9_sumOf_424 hB h).weak ⟨rfl, rfl, rfl, trivial⟩
def w_X9_sumOf_219 (X : zs_X) (d : Nat) (p0 : Nat) (p2 : Int32) (p3 : Int32) (p5 : Int64) (q0 : Option Nat) (S : zs_T) (Q : zs_Q) : Prop :=
  (w_X9_sumOf_224 X d p0 p2 p3 p5 q0 (1 : Int32) S Q)
theorem u_X9_sumOf_219 {σ : Nat → Nat} {n0 : Nat} {bf : ab_B} {d : Nat} {p0 : Nat} {p2 : Int32} {p3 : Int32} {p5 : Int64} {q0 : Option Nat} {S : zs_T} {Q : zs_Q} (hB : zt_B bf) (h : w_X9_sumOf_219 (zx σ n0 bf) d p0 p2 p3 p5 q0 S Q) : zs_U (zx σ n0 bf) d 8104 219 [(0, .ref p0), (2, .int p2), (3, .int p3), (5, .long p5)] [va_rf q0] S Q := by
  unfold w_X9_sumOf_219 at h
  refine zu_iconst d_8104_219 zi_1 ?_
  refine zu_goto (t := 224) d_8104_220 rfl ?_
  exact (u_X9_sumOf_224 hB h).weak ⟨rfl, rfl, rfl, rfl, trivial⟩
def w_X9_sumOf_215 (X : zs_X) (d : Nat) (p0 : Nat) (p2 : Int32) (p3 : Int32) (p5 : Int64) (q0 : Option Nat) (q1 : Int64) (q2 : Int64) (S : zs_T) (Q : zs_Q) : Prop :=
  (((q2 ≤ q1 → (w_X9_sumOf_224 X d p0 p2 p3 p5 q0 (0 : Int32) S Q)) ∧ (¬ (q2 ≤ q1) → w_X9_sumOf_219 X d p0 p2 p3 p5 q0 S Q)))
theorem u_X9_sumOf_215 {σ : Nat → Nat} {n0 : Nat} {bf : ab_B} {d : Nat} {p0 : Nat} {p2 : Int32} {p3 : Int32} {p5 : Int64} {q0 : Option Nat} {q1 : Int64} {q2 : Int64} {S : zs_T} {Q : zs_Q} (hB : zt_B bf) (h : w_X9_sumOf_215 (zx σ n0 bf) d p0 p2 p3 p5 q0 q1 q2 S Q) : zs_U (zx σ n0 bf) d 8104 215 [(0, .ref p0), (2, .int p2), (3, .int p3), (5, .long p5)] [.long q2, .long q1, va_rf q0] S Q := by
  unfold w_X9_sumOf_215 at h
  refine zu_lge (t := 223) d_8104_215 d_8104_216 rfl (fun c1 => ?_) (fun c1 => ?_)
  · have h := h.1 c1
    refine zu_iconst d_8104_223 zi_0 ?_
    exact (u_X9_sumOf_224 hB h).weak ⟨rfl, rfl, rfl, rfl, trivial⟩
  · have h := h.2 c1
    exact (u_X9_sumOf_219 hB h).weak ⟨rfl, rfl, rfl, rfl, trivial⟩
def w_X9_sumOf_170 (X : zs_X) (d : Nat) (p0 : Nat) (p2 : Int32) (p3 : Int32) (q0 : Int64) (q1 : Int64) (S : zs_T) (Q : zs_Q) : Prop :=
  (zs_K S p0 = some (.inl 8) ∧ ((¬ (zs_I S 8080 p0) = 0 → w_X9_sumOf_219 X d p0 p2 p3 (q0 + q1) (some p0) S Q) ∧ (¬ (¬ (zs_I S 8080 p0) = 0) → (∃ b3, (zs_R S 8042 p0) = some b3 ∧ zs_A S b3 0 p3 ∧ (((((zs_i S b3 p3.toNatClampNeg)).toInt64) < (q0 + q1) → w_X9_sumOf_219 X d p0 p2 p3 (q0 + q1) (some p0) S Q) ∧ (¬ ((((zs_i S b3 p3.toNatClampNeg)).toInt64) < (q0 + q1)) → (((¬ (zs_i S b3 p3.toNatClampNeg) = (2147483647 : Int32) → (w_X9_sumOf_215 X d p0 p2 p3 (q0 + q1) (some p0) (q0 + q1) (0 : Int64) S Q)) ∧ (¬ (¬ (zs_i S b3 p3.toNatClampNeg) = (2147483647 : Int32)) → (w_X9_sumOf_215 X d p0 p2 p3 (q0 + q1) (some p0) (q0 + q1) (-2147483647 : Int64) S Q))))))))))
theorem u_X9_sumOf_170 {σ : Nat → Nat} {n0 : Nat} {bf : ab_B} {d : Nat} {p0 : Nat} {p2 : Int32} {p3 : Int32} {q0 : Int64} {q1 : Int64} {S : zs_T} {Q : zs_Q} (hB : zt_B bf) (h : w_X9_sumOf_170 (zx σ n0 bf) d p0 p2 p3 q0 q1 S Q) : zs_U (zx σ n0 bf) d 8104 170 [(0, .ref p0), (2, .int p2), (3, .int p3)] [.long q1, .long q0] S Q := by
  unfold w_X9_sumOf_170 at h
  refine zu_stk d_8104_170 rfl rfl ?_
  refine zu_lstore d_8104_171 (zs_lt zq_8104 rfl) ?_
  refine zu_aload_n d_8104_173 rfl (zs_ra _) ?_
  refine zu_aload_n d_8104_174 rfl (zs_ra _) ?_
  obtain ⟨k1, h⟩ := h
  refine zg_8_623 rfl d_8104_175 k1 ?_
  refine zu_ifne (t := 219) d_8104_178 rfl (fun c2 => ?_) (fun c2 => ?_)
  · have h := h.1 c2
    exact (u_X9_sumOf_219 hB h).weak ⟨rfl, rfl, rfl, rfl, trivial⟩
  · have h := h.2 c2
    refine zu_lload d_8104_181 rfl ?_
    refine zu_aload_n d_8104_183 rfl (zs_ra _) ?_
    refine zg_8_87 rfl d_8104_184 k1 ?_
    refine zu_iload_n d_8104_187 rfl ?_
    obtain ⟨b3, e4, h⟩ := h
    refine zs_stk1 (zs_rfe e4) ?_
    obtain ⟨k5, h⟩ := h
    refine zu_iald (k := 0) d_8104_188 rfl rfl k5 ?_
    refine zu_stk d_8104_189 rfl rfl ?_
    refine zu_lgt (t := 219) d_8104_190 d_8104_191 rfl (fun c6 => ?_) (fun c6 => ?_)
    · have h := h.1 c6
      exact (u_X9_sumOf_219 hB h).weak ⟨rfl, rfl, rfl, rfl, trivial⟩
    · have h := h.2 c6
      refine zu_lload d_8104_194 rfl ?_
      refine zu_aload_n d_8104_196 rfl (zs_ra _) ?_
      refine zg_8_87 rfl d_8104_197 k1 ?_
      refine zu_iload_n d_8104_200 rfl ?_
      refine zs_stk1 (zs_rfe e4) ?_
      refine zu_iald (k := 0) d_8104_201 rfl rfl k5 ?_
      refine zlw_8_577 rfl d_8104_202 ?_
      refine zu_cmpne (t := 214) d_8104_205 rfl (fun c7 => ?_) (fun c7 => ?_)
      · have h := h.1 c7
        refine zu_lconst (v := 0) d_8104_214 rfl ?_
        exact (u_X9_sumOf_215 hB h).weak ⟨rfl, rfl, rfl, rfl, trivial⟩
      · have h := h.2 c7
        refine zl2_8_633 rfl d_8104_208 ?_
        refine zu_goto (t := 215) d_8104_211 rfl ?_
        exact (u_X9_sumOf_215 hB h).weak ⟨rfl, rfl, rfl, rfl, trivial⟩
def w_X9_sumOf_76 (X : zs_X) (d : Nat) (p0 : Nat) (p2 : Int32) (p3 : Int32) (p4 : Int32) (S : zs_T) (Q : zs_Q) : Prop :=
  (((p4 = (10 : Int32) → w_X9_sumOf_90 X d p0 p2 p3 p4 S Q) ∧ (¬ (p4 = (10 : Int32)) → (((¬ p4 = (11 : Int32) → (((p4 < (18 : Int32) → (zs_K S p0 = some (.inl 8) ∧ ∃ b5, (zs_R S 8079 p0) = some b5 ∧ zs_A S b5 3 (p2 - (1 : Int32)) ∧ w_X9_sumOf_250 X d p0 p2 p3 p4 (zs_j S b5 (p2 - (1 : Int32)).toNatClampNeg) S Q)) ∧ (¬ (p4 < (18 : Int32)) → (zs_K S p0 = some (.inl 8) ∧ ∃ b9, (zs_R S 8079 p0) = some b9 ∧ zs_A S b9 3 (p2 - (1 : Int32)) ∧ ((¬ p4 = (19 : Int32) → (((¬ p4 = (20 : Int32) → (w_X9_sumOf_170 X d p0 p2 p3 (zs_j S b9 (p2 - (1 : Int32)).toNatClampNeg) (0 : Int64) S Q)) ∧ (¬ (¬ p4 = (20 : Int32)) → (w_X9_sumOf_170 X d p0 p2 p3 (zs_j S b9 (p2 - (1 : Int32)).toNatClampNeg) (-1 : Int64) S Q))))) ∧ (¬ (¬ p4 = (19 : Int32)) → (w_X9_sumOf_170 X d p0 p2 p3 (zs_j S b9 (p2 - (1 : Int32)).toNatClampNeg) (1 : Int64) S Q)))))))) ∧ (¬ (¬ p4 = (11 : Int32)) → w_X9_sumOf_90 X d p0 p2 p3 p4 S Q))))))
theorem u_X9_sumOf_76 {σ : Nat → Nat} {n0 : Nat} {bf : ab_B} {d : Nat} {p0 : Nat} {p2 : Int32} {p3 : Int32} {p4 : Int32} {S : zs_T} {Q : zs_Q} (hB : zt_B bf) (h : w_X9_sumOf_76 (zx σ n0 bf) d p0 p2 p3 p4 S Q) : zs_U (zx σ n0 bf) d 8104 76 [(0, .ref p0), (2, .int p2), (3, .int p3), (4, .int p4)] [] S Q := by
  unfold w_X9_sumOf_76 at h
  refine zu_iload d_8104_76 rfl ?_
  refine zu_bipush d_8104_78 zj_10 ?_
  refine zu_cmpeq (t := 90) d_8104_80 rfl (fun c1 => ?_) (fun c1 => ?_)
  · have h := h.1 c1
    exact (u_X9_sumOf_90 hB h).weak ⟨rfl, rfl, rfl, rfl, trivial⟩
  · have h := h.2 c1
    refine zu_iload d_8104_83 rfl ?_
    refine zu_bipush d_8104_85 zj_11 ?_
    refine zu_cmpne (t := 130) d_8104_87 rfl (fun c2 => ?_) (fun c2 => ?_)
    · have h := h.1 c2
      refine zu_iload d_8104_130 rfl ?_
      refine zu_bipush d_8104_132 zj_18 ?_
      refine zu_cmplt (t := 240) d_8104_134 rfl (fun c3 => ?_) (fun c3 => ?_)
      · have h := h.1 c3
        refine zu_aload_n d_8104_240 rfl (zs_ra _) ?_
        obtain ⟨k4, h⟩ := h
        refine zg_8_175 rfl d_8104_241 k4 ?_
        refine zu_iload_n d_8104_244 rfl ?_
        refine zu_iconst d_8104_245 zi_1 ?_
        refine zu_stk d_8104_246 rfl rfl ?_
        obtain ⟨b5, e6, h⟩ := h
        refine zs_stk1 (zs_rfe e6) ?_
        obtain ⟨k7, h⟩ := h
        refine zu_lald (k := 3) d_8104_247 rfl rfl k7 ?_
        refine zu_lstore d_8104_248 (zs_lt zq_8104 rfl) ?_
        exact (u_X9_sumOf_250 hB h).weak ⟨rfl, rfl, rfl, rfl, rfl, trivial⟩
      · have h := h.2 c3
        refine zu_aload_n d_8104_137 rfl (zs_ra _) ?_
        obtain ⟨k8, h⟩ := h
        refine zg_8_175 rfl d_8104_138 k8 ?_
        refine zu_iload_n d_8104_141 rfl ?_
        refine zu_iconst d_8104_142 zi_1 ?_
        refine zu_stk d_8104_143 rfl rfl ?_
        obtain ⟨b9, e10, h⟩ := h
        refine zs_stk1 (zs_rfe e10) ?_
        obtain ⟨k11, h⟩ := h
        refine zu_lald (k := 3) d_8104_144 rfl rfl k11 ?_
        refine zu_iload d_8104_145 rfl ?_
        refine zu_bipush d_8104_147 zj_19 ?_
        refine zu_cmpne (t := 156) d_8104_149 rfl (fun c12 => ?_) (fun c12 => ?_)
        · have h := h.1 c12
          refine zu_iload d_8104_156 rfl ?_
          refine zu_bipush d_8104_158 zj_20 ?_
          refine zu_cmpne (t := 169) d_8104_160 rfl (fun c13 => ?_) (fun c13 => ?_)
          · have h := h.1 c13
            refine zu_lconst (v := 0) d_8104_169 rfl ?_
            exact (u_X9_sumOf_170 hB h).weak ⟨rfl, rfl, rfl, trivial⟩
          · have h := h.2 c13
            refine zl2_8_631 rfl d_8104_163 ?_
            refine zu_goto (t := 170) d_8104_166 rfl ?_
            exact (u_X9_sumOf_170 hB h).weak ⟨rfl, rfl, rfl, trivial⟩
        · have h := h.2 c12
          refine zu_lconst (v := 1) d_8104_152 rfl ?_
          refine zu_goto (t := 170) d_8104_153 rfl ?_
          exact (u_X9_sumOf_170 hB h).weak ⟨rfl, rfl, rfl, trivial⟩
    · have h := h.2 c2
      exact (u_X9_sumOf_90 hB h).weak ⟨rfl, rfl, rfl, rfl, trivial⟩
def w_X9_sumOf_9 (X : zs_X) (d : Nat) (p0 : Nat) (p2 : Int32) (p3 : Int32) (S : zs_T) (Q : zs_Q) : Prop :=
  (zs_K S p0 = some (.inl 8) ∧ ∃ b2, (zs_R S 8041 p0) = some b2 ∧ zs_A S b2 0 p3 ∧ (((zs_i S b2 p3.toNatClampNeg) ≤ 0 → (∃ b6, (zs_R S 8079 p0) = some b6 ∧ zs_A S b6 3 (0 : Int32) ∧ Q (.returned (some (.long (zs_j S b6 (0 : Int32).toNatClampNeg)))) S)) ∧ (¬ ((zs_i S b2 p3.toNatClampNeg) ≤ 0) → ((((zs_i S b2 p3.toNatClampNeg) = (1 : Int32) → w_X9_sumOf_38 X d p0 p2 p3 (zs_i S b2 p3.toNatClampNeg) S Q) ∧ (¬ ((zs_i S b2 p3.toNatClampNeg) = (1 : Int32)) → (((¬ (zs_i S b2 p3.toNatClampNeg) = (2 : Int32) → w_X9_sumOf_76 X d p0 p2 p3 (zs_i S b2 p3.toNatClampNeg) S Q) ∧ (¬ (¬ (zs_i S b2 p3.toNatClampNeg) = (2 : Int32)) → w_X9_sumOf_38 X d p0 p2 p3 (zs_i S b2 p3.toNatClampNeg) S Q)))))))))
theorem u_X9_sumOf_9 {σ : Nat → Nat} {n0 : Nat} {bf : ab_B} {d : Nat} {p0 : Nat} {p2 : Int32} {p3 : Int32} {S : zs_T} {Q : zs_Q} (hB : zt_B bf) (h : w_X9_sumOf_9 (zx σ n0 bf) d p0 p2 p3 S Q) : zs_U (zx σ n0 bf) d 8104 9 [(0, .ref p0), (2, .int p2), (3, .int p3)] [] S Q := by
  unfold w_X9_sumOf_9 at h
  refine zu_aload_n d_8104_9 rfl (zs_ra _) ?_
  obtain ⟨k1, h⟩ := h
  refine zg_8_84 rfl d_8104_10 k1 ?_
  refine zu_iload_n d_8104_13 rfl ?_
  obtain ⟨b2, e3, h⟩ := h
  refine zs_stk1 (zs_rfe e3) ?_
  obtain ⟨k4, h⟩ := h
  refine zu_iald (k := 0) d_8104_14 rfl rfl k4 ?_
  refine zu_ifle (t := 439) d_8104_15 rfl (fun c5 => ?_) (fun c5 => ?_)
  · have h := h.1 c5
    refine zu_aload_n d_8104_439 rfl (zs_ra _) ?_
    refine zg_8_175 rfl d_8104_440 k1 ?_
    refine zu_iconst d_8104_443 zi_0 ?_
    obtain ⟨b6, e7, h⟩ := h
    refine zs_stk1 (zs_rfe e7) ?_
    obtain ⟨k8, h⟩ := h
    refine zu_lald (k := 3) d_8104_444 rfl rfl k8 ?_
    exact zu_lret d_8104_445 zr_8104 h
  · have h := h.2 c5
    refine zu_aload_n d_8104_18 rfl (zs_ra _) ?_
    refine zg_8_84 rfl d_8104_19 k1 ?_
    refine zu_iload_n d_8104_22 rfl ?_
    refine zs_stk1 (zs_rfe e3) ?_
    refine zu_iald (k := 0) d_8104_23 rfl rfl k4 ?_
    refine zu_istore d_8104_24 (zs_lt zq_8104 rfl) ?_
    refine zu_iload d_8104_26 rfl ?_
    refine zu_iconst d_8104_28 zi_1 ?_
    refine zu_cmpeq (t := 38) d_8104_29 rfl (fun c9 => ?_) (fun c9 => ?_)
    · have h := h.1 c9
      exact (u_X9_sumOf_38 hB h).weak ⟨rfl, rfl, rfl, rfl, trivial⟩
    · have h := h.2 c9
      refine zu_iload d_8104_32 rfl ?_
      refine zu_iconst d_8104_34 zi_2 ?_
      refine zu_cmpne (t := 76) d_8104_35 rfl (fun c10 => ?_) (fun c10 => ?_)
      · have h := h.1 c10
        exact (u_X9_sumOf_76 hB h).weak ⟨rfl, rfl, rfl, rfl, trivial⟩
      · have h := h.2 c10
        exact (u_X9_sumOf_38 hB h).weak ⟨rfl, rfl, rfl, rfl, trivial⟩
def w_X9_sumOf (X : zs_X) (d : Nat) (p0 : Nat) (p1 : Int32) (S : zs_T) (Q : zs_Q) : Prop :=
  (zs_K S p0 = some (.inl 8) ∧ ab_n0 X.1 ≤ p0 ∧ ∀ S3, S3 = zs_sI S 8080 p0 (0 : Int32) → zs_U X d 8104 9 [(0, .ref p0), (2, .int (0 : Int32)), (3, .int p1)] [] S3 Q)
theorem u_X9_sumOf {σ : Nat → Nat} {n0 : Nat} {bf : ab_B} {d : Nat} {p0 : Nat} {p1 : Int32} {S : zs_T} {Q : zs_Q} (hB : zt_B bf) (hd : 1 ≤ d) (h : w_X9_sumOf (zx σ n0 bf) (d - 1) p0 p1 S Q) : zs_C (zx σ n0 bf) d 8104 [.ref p0, .int p1] S Q := by
  have hL : lv_args 0 [.ref p0, .int p1] = [(0, .ref p0), (1, .int p1)] := rfl
  refine zs_C.of1 (hB.2 8104 (by decide) (by decide)) hd (by rw [hL]; exact zs_sub_self _ (by exact ⟨rfl, rfl, trivial⟩)) ?_
  rw [hL]
  clear hL
  unfold w_X9_sumOf at h
  refine zu_iconst d_8104_0 zi_0 ?_
  refine zu_istore_n d_8104_1 (zs_lt zq_8104 rfl) ?_
  refine zu_aload_n d_8104_2 rfl (zs_ra _) ?_
  refine zu_iconst d_8104_3 zi_0 ?_
  obtain ⟨k1, h⟩ := h
  obtain ⟨k2, h⟩ := h
  refine zp_8_623 (v := (0 : Int32)) rfl d_8104_4 k1 k2 (Or.inl rfl) ?_
  generalize e4 : zs_sI S 8080 p0 (0 : Int32) = S3
  have h := h S3 e4.symm
  have K5 : ∀ b, zs_K S3 b = zs_K S b := zs_Kt e4 (zs_KsI _ _ _ _) (fun _ => rfl)
  refine zu_iload_n d_8104_7 rfl ?_
  refine zu_istore_n d_8104_8 (zs_lt zq_8104 rfl) ?_
  exact h.weak ⟨rfl, rfl, rfl, trivial⟩
/-! SchemaPascalModel.discriminant(I)J -/
theorem zm_8105 {σ : Nat → Nat} {n0 : Nat} {bf : ab_B} : ab_code (zx σ n0 bf).1 8105 = prog_17_method_44_code := rfl
theorem zq_8105 {σ : Nat → Nat} {n0 : Nat} {bf : ab_B} : ab_maxL (zx σ n0 bf).1 8105 = 2 := rfl
theorem zr_8105 {σ : Nat → Nat} {n0 : Nat} {bf : ab_B} : ab_ret (zx σ n0 bf).1 8105 = (Option.some Jvm.ClassFile.FieldType.long) := rfl
theorem d_8105_0 {σ : Nat → Nat} {n0 : Nat} {bf : ab_B} : decode (ab_code (zx σ n0 bf).1 8105) 0 = .ok (.iload_n 1, 1) := zd zm_8105 (by decide +kernel)
theorem d_8105_1 {σ : Nat → Nat} {n0 : Nat} {bf : ab_B} : decode (ab_code (zx σ n0 bf).1 8105) 1 = .ok (.ifCond .ne 10, 3) := zd zm_8105 (by decide +kernel)
theorem d_8105_4 {σ : Nat → Nat} {n0 : Nat} {bf : ab_B} : decode (ab_code (zx σ n0 bf).1 8105) 4 = .ok (.aload_n 0, 1) := zd zm_8105 (by decide +kernel)
theorem d_8105_5 {σ : Nat → Nat} {n0 : Nat} {bf : ab_B} : decode (ab_code (zx σ n0 bf).1 8105) 5 = .ok (.getfield 610, 3) := zd zm_8105 (by decide +kernel)
theorem d_8105_8 {σ : Nat → Nat} {n0 : Nat} {bf : ab_B} : decode (ab_code (zx σ n0 bf).1 8105) 8 = .ok (.goto 31, 3) := zd zm_8105 (by decide +kernel)
theorem d_8105_11 {σ : Nat → Nat} {n0 : Nat} {bf : ab_B} : decode (ab_code (zx σ n0 bf).1 8105) 11 = .ok (.iload_n 1, 1) := zd zm_8105 (by decide +kernel)
theorem d_8105_12 {σ : Nat → Nat} {n0 : Nat} {bf : ab_B} : decode (ab_code (zx σ n0 bf).1 8105) 12 = .ok (.iconst 1, 1) := zd zm_8105 (by decide +kernel)
theorem d_8105_13 {σ : Nat → Nat} {n0 : Nat} {bf : ab_B} : decode (ab_code (zx σ n0 bf).1 8105) 13 = .ok (.if_icmp .ne 10, 3) := zd zm_8105 (by decide +kernel)
theorem d_8105_16 {σ : Nat → Nat} {n0 : Nat} {bf : ab_B} : decode (ab_code (zx σ n0 bf).1 8105) 16 = .ok (.aload_n 0, 1) := zd zm_8105 (by decide +kernel)
theorem d_8105_17 {σ : Nat → Nat} {n0 : Nat} {bf : ab_B} : decode (ab_code (zx σ n0 bf).1 8105) 17 = .ok (.getfield 614, 3) := zd zm_8105 (by decide +kernel)
theorem d_8105_20 {σ : Nat → Nat} {n0 : Nat} {bf : ab_B} : decode (ab_code (zx σ n0 bf).1 8105) 20 = .ok (.goto 19, 3) := zd zm_8105 (by decide +kernel)
theorem d_8105_23 {σ : Nat → Nat} {n0 : Nat} {bf : ab_B} : decode (ab_code (zx σ n0 bf).1 8105) 23 = .ok (.iload_n 1, 1) := zd zm_8105 (by decide +kernel)
theorem d_8105_24 {σ : Nat → Nat} {n0 : Nat} {bf : ab_B} : decode (ab_code (zx σ n0 bf).1 8105) 24 = .ok (.iconst 2, 1) := zd zm_8105 (by decide +kernel)
theorem d_8105_25 {σ : Nat → Nat} {n0 : Nat} {bf : ab_B} : decode (ab_code (zx σ n0 bf).1 8105) 25 = .ok (.if_icmp .ne 10, 3) := zd zm_8105 (by decide +kernel)
theorem d_8105_28 {σ : Nat → Nat} {n0 : Nat} {bf : ab_B} : decode (ab_code (zx σ n0 bf).1 8105) 28 = .ok (.aload_n 0, 1) := zd zm_8105 (by decide +kernel)
theorem d_8105_29 {σ : Nat → Nat} {n0 : Nat} {bf : ab_B} : decode (ab_code (zx σ n0 bf).1 8105) 29 = .ok (.getfield 617, 3) := zd zm_8105 (by decide +kernel)
theorem d_8105_32 {σ : Nat → Nat} {n0 : Nat} {bf : ab_B} : decode (ab_code (zx σ n0 bf).1 8105) 32 = .ok (.goto 7, 3) := zd zm_8105 (by decide +kernel)
theorem d_8105_35 {σ : Nat → Nat} {n0 : Nat} {bf : ab_B} : decode (ab_code (zx σ n0 bf).1 8105) 35 = .ok (.aload_n 0, 1) := zd zm_8105 (by decide +kernel)
theorem d_8105_36 {σ : Nat → Nat} {n0 : Nat} {bf : ab_B} : decode (ab_code (zx σ n0 bf).1 8105) 36 = .ok (.getfield 620, 3) := zd zm_8105 (by decide +kernel)
theorem d_8105_39 {σ : Nat → Nat} {n0 : Nat} {bf : ab_B} : decode (ab_code (zx σ n0 bf).1 8105) 39 = .ok (.lreturn, 1) := zd zm_8105 (by decide +kernel)
def w_X9_discriminant (X : zs_X) (d : Nat) (p0 : Nat) (p1 : Int32) (S : zs_T) (Q : zs_Q) : Prop :=
  (((¬ p1 = 0 → (((¬ p1 = (1 : Int32) → (((¬ p1 = (2 : Int32) → (zs_K S p0 = some (.inl 8) ∧ Q (.returned (some (.long (zs_J S 8084 p0)))) S)) ∧ (¬ (¬ p1 = (2 : Int32)) → (zs_K S p0 = some (.inl 8) ∧ Q (.returned (some (.long (zs_J S 8083 p0)))) S))))) ∧ (¬ (¬ p1 = (1 : Int32)) → (zs_K S p0 = some (.inl 8) ∧ Q (.returned (some (.long (zs_J S 8082 p0)))) S))))) ∧ (¬ (¬ p1 = 0) → (zs_K S p0 = some (.inl 8) ∧ Q (.returned (some (.long (zs_J S 8081 p0)))) S))))
theorem u_X9_discriminant {σ : Nat → Nat} {n0 : Nat} {bf : ab_B} {d : Nat} {p0 : Nat} {p1 : Int32} {S : zs_T} {Q : zs_Q} (hB : zt_B bf) (hd : 1 ≤ d) (h : w_X9_discriminant (zx σ n0 bf) (d - 1) p0 p1 S Q) : zs_C (zx σ n0 bf) d 8105 [.ref p0, .int p1] S Q := by
  have hL : lv_args 0 [.ref p0, .int p1] = [(0, .ref p0), (1, .int p1)] := rfl
  refine zs_C.of1 (hB.2 8105 (by decide) (by decide)) hd (by rw [hL]; exact zs_sub_self _ (by exact ⟨rfl, rfl, trivial⟩)) ?_
  rw [hL]
  clear hL
  unfold w_X9_discriminant at h
  refine zu_iload_n d_8105_0 rfl ?_
  refine zu_ifne (t := 11) d_8105_1 rfl (fun c1 => ?_) (fun c1 => ?_)
  · have h := h.1 c1
    refine zu_iload_n d_8105_11 rfl ?_
    refine zu_iconst d_8105_12 zi_1 ?_
    refine zu_cmpne (t := 23) d_8105_13 rfl (fun c2 => ?_) (fun c2 => ?_)
    · have h := h.1 c2
      refine zu_iload_n d_8105_23 rfl ?_
      refine zu_iconst d_8105_24 zi_2 ?_
      refine zu_cmpne (t := 35) d_8105_25 rfl (fun c3 => ?_) (fun c3 => ?_)
      · have h := h.1 c3
        refine zu_aload_n d_8105_35 rfl (zs_ra _) ?_
        obtain ⟨k4, h⟩ := h
        refine zg_8_620 rfl d_8105_36 k4 ?_
        exact zu_lret d_8105_39 zr_8105 h
      · have h := h.2 c3
        refine zu_aload_n d_8105_28 rfl (zs_ra _) ?_
        obtain ⟨k5, h⟩ := h
        refine zg_8_617 rfl d_8105_29 k5 ?_
        refine zu_goto (t := 39) d_8105_32 rfl ?_
        exact zu_lret d_8105_39 zr_8105 h
    · have h := h.2 c2
      refine zu_aload_n d_8105_16 rfl (zs_ra _) ?_
      obtain ⟨k6, h⟩ := h
      refine zg_8_614 rfl d_8105_17 k6 ?_
      refine zu_goto (t := 39) d_8105_20 rfl ?_
      exact zu_lret d_8105_39 zr_8105 h
  · have h := h.2 c1
    refine zu_aload_n d_8105_4 rfl (zs_ra _) ?_
    obtain ⟨k7, h⟩ := h
    refine zg_8_610 rfl d_8105_5 k7 ?_
    refine zu_goto (t := 39) d_8105_8 rfl ?_
    exact zu_lret d_8105_39 zr_8105 h
/-! SchemaPascalModel.floor(JJZ)J -/
theorem zm_8106 {σ : Nat → Nat} {n0 : Nat} {bf : ab_B} : ab_code (zx σ n0 bf).1 8106 = prog_17_method_45_code := rfl
theorem zq_8106 {σ : Nat → Nat} {n0 : Nat} {bf : ab_B} : ab_maxL (zx σ n0 bf).1 8106 = 7 := rfl
theorem zr_8106 {σ : Nat → Nat} {n0 : Nat} {bf : ab_B} : ab_ret (zx σ n0 bf).1 8106 = (Option.some Jvm.ClassFile.FieldType.long) := rfl
theorem d_8106_0 {σ : Nat → Nat} {n0 : Nat} {bf : ab_B} : decode (ab_code (zx σ n0 bf).1 8106) 0 = .ok (.lload_n 0, 1) := zd zm_8106 (by decide +kernel)
theorem d_8106_1 {σ : Nat → Nat} {n0 : Nat} {bf : ab_B} : decode (ab_code (zx σ n0 bf).1 8106) 1 = .ok (.lload_n 2, 1) := zd zm_8106 (by decide +kernel)
theorem d_8106_2 {σ : Nat → Nat} {n0 : Nat} {bf : ab_B} : decode (ab_code (zx σ n0 bf).1 8106) 2 = .ok (.lrem, 1) := zd zm_8106 (by decide +kernel)
theorem d_8106_3 {σ : Nat → Nat} {n0 : Nat} {bf : ab_B} : decode (ab_code (zx σ n0 bf).1 8106) 3 = .ok (.lstore 5, 2) := zd zm_8106 (by decide +kernel)
theorem d_8106_5 {σ : Nat → Nat} {n0 : Nat} {bf : ab_B} : decode (ab_code (zx σ n0 bf).1 8106) 5 = .ok (.lload 5, 2) := zd zm_8106 (by decide +kernel)
theorem d_8106_7 {σ : Nat → Nat} {n0 : Nat} {bf : ab_B} : decode (ab_code (zx σ n0 bf).1 8106) 7 = .ok (.lconst 0, 1) := zd zm_8106 (by decide +kernel)
theorem d_8106_8 {σ : Nat → Nat} {n0 : Nat} {bf : ab_B} : decode (ab_code (zx σ n0 bf).1 8106) 8 = .ok (.lcmp, 1) := zd zm_8106 (by decide +kernel)
theorem d_8106_9 {σ : Nat → Nat} {n0 : Nat} {bf : ab_B} : decode (ab_code (zx σ n0 bf).1 8106) 9 = .ok (.ifCond .ge 10, 3) := zd zm_8106 (by decide +kernel)
theorem d_8106_12 {σ : Nat → Nat} {n0 : Nat} {bf : ab_B} : decode (ab_code (zx σ n0 bf).1 8106) 12 = .ok (.lload 5, 2) := zd zm_8106 (by decide +kernel)
theorem d_8106_14 {σ : Nat → Nat} {n0 : Nat} {bf : ab_B} : decode (ab_code (zx σ n0 bf).1 8106) 14 = .ok (.lload_n 2, 1) := zd zm_8106 (by decide +kernel)
theorem d_8106_15 {σ : Nat → Nat} {n0 : Nat} {bf : ab_B} : decode (ab_code (zx σ n0 bf).1 8106) 15 = .ok (.ladd, 1) := zd zm_8106 (by decide +kernel)
theorem d_8106_16 {σ : Nat → Nat} {n0 : Nat} {bf : ab_B} : decode (ab_code (zx σ n0 bf).1 8106) 16 = .ok (.goto 5, 3) := zd zm_8106 (by decide +kernel)
theorem d_8106_19 {σ : Nat → Nat} {n0 : Nat} {bf : ab_B} : decode (ab_code (zx σ n0 bf).1 8106) 19 = .ok (.lload 5, 2) := zd zm_8106 (by decide +kernel)
theorem d_8106_21 {σ : Nat → Nat} {n0 : Nat} {bf : ab_B} : decode (ab_code (zx σ n0 bf).1 8106) 21 = .ok (.lstore 5, 2) := zd zm_8106 (by decide +kernel)
theorem d_8106_23 {σ : Nat → Nat} {n0 : Nat} {bf : ab_B} : decode (ab_code (zx σ n0 bf).1 8106) 23 = .ok (.iload 4, 2) := zd zm_8106 (by decide +kernel)
theorem d_8106_25 {σ : Nat → Nat} {n0 : Nat} {bf : ab_B} : decode (ab_code (zx σ n0 bf).1 8106) 25 = .ok (.ifCond .eq 8, 3) := zd zm_8106 (by decide +kernel)
theorem d_8106_28 {σ : Nat → Nat} {n0 : Nat} {bf : ab_B} : decode (ab_code (zx σ n0 bf).1 8106) 28 = .ok (.lload 5, 2) := zd zm_8106 (by decide +kernel)
theorem d_8106_30 {σ : Nat → Nat} {n0 : Nat} {bf : ab_B} : decode (ab_code (zx σ n0 bf).1 8106) 30 = .ok (.goto 6, 3) := zd zm_8106 (by decide +kernel)
theorem d_8106_33 {σ : Nat → Nat} {n0 : Nat} {bf : ab_B} : decode (ab_code (zx σ n0 bf).1 8106) 33 = .ok (.lload_n 0, 1) := zd zm_8106 (by decide +kernel)
theorem d_8106_34 {σ : Nat → Nat} {n0 : Nat} {bf : ab_B} : decode (ab_code (zx σ n0 bf).1 8106) 34 = .ok (.lload_n 2, 1) := zd zm_8106 (by decide +kernel)
theorem d_8106_35 {σ : Nat → Nat} {n0 : Nat} {bf : ab_B} : decode (ab_code (zx σ n0 bf).1 8106) 35 = .ok (.ldiv, 1) := zd zm_8106 (by decide +kernel)
theorem d_8106_36 {σ : Nat → Nat} {n0 : Nat} {bf : ab_B} : decode (ab_code (zx σ n0 bf).1 8106) 36 = .ok (.lreturn, 1) := zd zm_8106 (by decide +kernel)
def w_X9_floor_21 (X : zs_X) (d : Nat) (p0 : Int64) (p2 : Int64) (p4 : Int32) (q0 : Int64) (S : zs_T) (Q : zs_Q) : Prop :=
  (((p4 = 0 → (¬ p2 = 0 ∧ Q (.returned (some (.long (p0 / p2)))) S)) ∧ (¬ (p4 = 0) → (Q (.returned (some (.long q0))) S))))
theorem u_X9_floor_21 {σ : Nat → Nat} {n0 : Nat} {bf : ab_B} {d : Nat} {p0 : Int64} {p2 : Int64} {p4 : Int32} {q0 : Int64} {S : zs_T} {Q : zs_Q} (hB : zt_B bf) (h : w_X9_floor_21 (zx σ n0 bf) d p0 p2 p4 q0 S Q) : zs_U (zx σ n0 bf) d 8106 21 [(0, .long p0), (2, .long p2), (4, .int p4)] [.long q0] S Q := by
  unfold w_X9_floor_21 at h
  refine zu_lstore d_8106_21 (zs_lt zq_8106 rfl) ?_
  refine zu_iload d_8106_23 rfl ?_
  refine zu_ifeq (t := 33) d_8106_25 rfl (fun c1 => ?_) (fun c1 => ?_)
  · have h := h.1 c1
    refine zu_lload_n d_8106_33 rfl ?_
    refine zu_lload_n d_8106_34 rfl ?_
    obtain ⟨k2, h⟩ := h
    refine zu_ldiv d_8106_35 k2 ?_
    exact zu_lret d_8106_36 zr_8106 h
  · have h := h.2 c1
    refine zu_lload d_8106_28 rfl ?_
    refine zu_goto (t := 36) d_8106_30 rfl ?_
    exact zu_lret d_8106_36 zr_8106 h
def w_X9_floor (X : zs_X) (d : Nat) (p0 : Int64) (p2 : Int64) (p4 : Int32) (S : zs_T) (Q : zs_Q) : Prop :=
  (¬ p2 = 0 ∧ (((0 : Int64) ≤ (p0 - p0 / p2 * p2) → (w_X9_floor_21 X d p0 p2 p4 (p0 - p0 / p2 * p2) S Q)) ∧ (¬ ((0 : Int64) ≤ (p0 - p0 / p2 * p2)) → (w_X9_floor_21 X d p0 p2 p4 ((p0 - p0 / p2 * p2) + p2) S Q))))
theorem u_X9_floor {σ : Nat → Nat} {n0 : Nat} {bf : ab_B} {d : Nat} {p0 : Int64} {p2 : Int64} {p4 : Int32} {S : zs_T} {Q : zs_Q} (hB : zt_B bf) (hd : 1 ≤ d) (h : w_X9_floor (zx σ n0 bf) (d - 1) p0 p2 p4 S Q) : zs_C (zx σ n0 bf) d 8106 [.long p0, .long p2, .int p4] S Q := by
  have hL : lv_args 0 [.long p0, .long p2, .int p4] = [(0, .long p0), (2, .long p2), (4, .int p4)] := rfl
  refine zs_C.of1 (hB.2 8106 (by decide) (by decide)) hd (by rw [hL]; exact zs_sub_self _ (by exact ⟨rfl, rfl, rfl, trivial⟩)) ?_
  rw [hL]
  clear hL
  unfold w_X9_floor at h
  refine zu_lload_n d_8106_0 rfl ?_
  refine zu_lload_n d_8106_1 rfl ?_
  obtain ⟨k1, h⟩ := h
  refine zu_lrem d_8106_2 k1 ?_
  refine zu_lstore d_8106_3 (zs_lt zq_8106 rfl) ?_
  refine zu_lload d_8106_5 rfl ?_
  refine zu_lconst (v := 0) d_8106_7 rfl ?_
  refine zu_lge (t := 19) d_8106_8 d_8106_9 rfl (fun c2 => ?_) (fun c2 => ?_)
  · have h := h.1 c2
    refine zu_lload d_8106_19 rfl ?_
    exact (u_X9_floor_21 hB h).weak ⟨rfl, rfl, rfl, trivial⟩
  · have h := h.2 c2
    refine zu_lload d_8106_12 rfl ?_
    refine zu_lload_n d_8106_14 rfl ?_
    refine zu_stk d_8106_15 rfl rfl ?_
    refine zu_goto (t := 21) d_8106_16 rfl ?_
    exact (u_X9_floor_21 hB h).weak ⟨rfl, rfl, rfl, trivial⟩
/-! SchemaPascalModel.two(IJJ)J -/
theorem zm_8107 {σ : Nat → Nat} {n0 : Nat} {bf : ab_B} : ab_code (zx σ n0 bf).1 8107 = prog_17_method_46_code := rfl
theorem zq_8107 {σ : Nat → Nat} {n0 : Nat} {bf : ab_B} : ab_maxL (zx σ n0 bf).1 8107 = 5 := rfl
theorem zr_8107 {σ : Nat → Nat} {n0 : Nat} {bf : ab_B} : ab_ret (zx σ n0 bf).1 8107 = (Option.some Jvm.ClassFile.FieldType.long) := rfl
theorem d_8107_0 {σ : Nat → Nat} {n0 : Nat} {bf : ab_B} : decode (ab_code (zx σ n0 bf).1 8107) 0 = .ok (.iload_n 0, 1) := zd zm_8107 (by decide +kernel)
theorem d_8107_1 {σ : Nat → Nat} {n0 : Nat} {bf : ab_B} : decode (ab_code (zx σ n0 bf).1 8107) 1 = .ok (.tableswitch 151 3 16 #[71, 75, 79, 151, 151, 83, 87, 151, 151, 91, 103, 115, 127, 139], 71) := zd zm_8107 (by decide +kernel)
theorem d_8107_72 {σ : Nat → Nat} {n0 : Nat} {bf : ab_B} : decode (ab_code (zx σ n0 bf).1 8107) 72 = .ok (.lload_n 1, 1) := zd zm_8107 (by decide +kernel)
theorem d_8107_73 {σ : Nat → Nat} {n0 : Nat} {bf : ab_B} : decode (ab_code (zx σ n0 bf).1 8107) 73 = .ok (.lload_n 3, 1) := zd zm_8107 (by decide +kernel)
theorem d_8107_74 {σ : Nat → Nat} {n0 : Nat} {bf : ab_B} : decode (ab_code (zx σ n0 bf).1 8107) 74 = .ok (.ladd, 1) := zd zm_8107 (by decide +kernel)
theorem d_8107_75 {σ : Nat → Nat} {n0 : Nat} {bf : ab_B} : decode (ab_code (zx σ n0 bf).1 8107) 75 = .ok (.lreturn, 1) := zd zm_8107 (by decide +kernel)
theorem d_8107_76 {σ : Nat → Nat} {n0 : Nat} {bf : ab_B} : decode (ab_code (zx σ n0 bf).1 8107) 76 = .ok (.lload_n 1, 1) := zd zm_8107 (by decide +kernel)
theorem d_8107_77 {σ : Nat → Nat} {n0 : Nat} {bf : ab_B} : decode (ab_code (zx σ n0 bf).1 8107) 77 = .ok (.lload_n 3, 1) := zd zm_8107 (by decide +kernel)
theorem d_8107_78 {σ : Nat → Nat} {n0 : Nat} {bf : ab_B} : decode (ab_code (zx σ n0 bf).1 8107) 78 = .ok (.lsub, 1) := zd zm_8107 (by decide +kernel)
theorem d_8107_79 {σ : Nat → Nat} {n0 : Nat} {bf : ab_B} : decode (ab_code (zx σ n0 bf).1 8107) 79 = .ok (.lreturn, 1) := zd zm_8107 (by decide +kernel)
theorem d_8107_80 {σ : Nat → Nat} {n0 : Nat} {bf : ab_B} : decode (ab_code (zx σ n0 bf).1 8107) 80 = .ok (.lload_n 1, 1) := zd zm_8107 (by decide +kernel)
theorem d_8107_81 {σ : Nat → Nat} {n0 : Nat} {bf : ab_B} : decode (ab_code (zx σ n0 bf).1 8107) 81 = .ok (.lload_n 3, 1) := zd zm_8107 (by decide +kernel)
theorem d_8107_82 {σ : Nat → Nat} {n0 : Nat} {bf : ab_B} : decode (ab_code (zx σ n0 bf).1 8107) 82 = .ok (.lmul, 1) := zd zm_8107 (by decide +kernel)
theorem d_8107_83 {σ : Nat → Nat} {n0 : Nat} {bf : ab_B} : decode (ab_code (zx σ n0 bf).1 8107) 83 = .ok (.lreturn, 1) := zd zm_8107 (by decide +kernel)
theorem d_8107_84 {σ : Nat → Nat} {n0 : Nat} {bf : ab_B} : decode (ab_code (zx σ n0 bf).1 8107) 84 = .ok (.lload_n 1, 1) := zd zm_8107 (by decide +kernel)
theorem d_8107_85 {σ : Nat → Nat} {n0 : Nat} {bf : ab_B} : decode (ab_code (zx σ n0 bf).1 8107) 85 = .ok (.lload_n 3, 1) := zd zm_8107 (by decide +kernel)
theorem d_8107_86 {σ : Nat → Nat} {n0 : Nat} {bf : ab_B} : decode (ab_code (zx σ n0 bf).1 8107) 86 = .ok (.land, 1) := zd zm_8107 (by decide +kernel)
theorem d_8107_87 {σ : Nat → Nat} {n0 : Nat} {bf : ab_B} : decode (ab_code (zx σ n0 bf).1 8107) 87 = .ok (.lreturn, 1) := zd zm_8107 (by decide +kernel)
theorem d_8107_88 {σ : Nat → Nat} {n0 : Nat} {bf : ab_B} : decode (ab_code (zx σ n0 bf).1 8107) 88 = .ok (.lload_n 1, 1) := zd zm_8107 (by decide +kernel)
theorem d_8107_89 {σ : Nat → Nat} {n0 : Nat} {bf : ab_B} : decode (ab_code (zx σ n0 bf).1 8107) 89 = .ok (.lload_n 3, 1) := zd zm_8107 (by decide +kernel)
theorem d_8107_90 {σ : Nat → Nat} {n0 : Nat} {bf : ab_B} : decode (ab_code (zx σ n0 bf).1 8107) 90 = .ok (.lor, 1) := zd zm_8107 (by decide +kernel)
theorem d_8107_91 {σ : Nat → Nat} {n0 : Nat} {bf : ab_B} : decode (ab_code (zx σ n0 bf).1 8107) 91 = .ok (.lreturn, 1) := zd zm_8107 (by decide +kernel)
theorem d_8107_92 {σ : Nat → Nat} {n0 : Nat} {bf : ab_B} : decode (ab_code (zx σ n0 bf).1 8107) 92 = .ok (.lload_n 1, 1) := zd zm_8107 (by decide +kernel)
theorem d_8107_93 {σ : Nat → Nat} {n0 : Nat} {bf : ab_B} : decode (ab_code (zx σ n0 bf).1 8107) 93 = .ok (.lload_n 3, 1) := zd zm_8107 (by decide +kernel)
theorem d_8107_94 {σ : Nat → Nat} {n0 : Nat} {bf : ab_B} : decode (ab_code (zx σ n0 bf).1 8107) 94 = .ok (.lcmp, 1) := zd zm_8107 (by decide +kernel)
theorem d_8107_95 {σ : Nat → Nat} {n0 : Nat} {bf : ab_B} : decode (ab_code (zx σ n0 bf).1 8107) 95 = .ok (.ifCond .ne 7, 3) := zd zm_8107 (by decide +kernel)
theorem d_8107_98 {σ : Nat → Nat} {n0 : Nat} {bf : ab_B} : decode (ab_code (zx σ n0 bf).1 8107) 98 = .ok (.lconst 1, 1) := zd zm_8107 (by decide +kernel)
theorem d_8107_99 {σ : Nat → Nat} {n0 : Nat} {bf : ab_B} : decode (ab_code (zx σ n0 bf).1 8107) 99 = .ok (.goto 4, 3) := zd zm_8107 (by decide +kernel)
theorem d_8107_102 {σ : Nat → Nat} {n0 : Nat} {bf : ab_B} : decode (ab_code (zx σ n0 bf).1 8107) 102 = .ok (.lconst 0, 1) := zd zm_8107 (by decide +kernel)
theorem d_8107_103 {σ : Nat → Nat} {n0 : Nat} {bf : ab_B} : decode (ab_code (zx σ n0 bf).1 8107) 103 = .ok (.lreturn, 1) := zd zm_8107 (by decide +kernel)
theorem d_8107_104 {σ : Nat → Nat} {n0 : Nat} {bf : ab_B} : decode (ab_code (zx σ n0 bf).1 8107) 104 = .ok (.lload_n 1, 1) := zd zm_8107 (by decide +kernel)
theorem d_8107_105 {σ : Nat → Nat} {n0 : Nat} {bf : ab_B} : decode (ab_code (zx σ n0 bf).1 8107) 105 = .ok (.lload_n 3, 1) := zd zm_8107 (by decide +kernel)
theorem d_8107_106 {σ : Nat → Nat} {n0 : Nat} {bf : ab_B} : decode (ab_code (zx σ n0 bf).1 8107) 106 = .ok (.lcmp, 1) := zd zm_8107 (by decide +kernel)
theorem d_8107_107 {σ : Nat → Nat} {n0 : Nat} {bf : ab_B} : decode (ab_code (zx σ n0 bf).1 8107) 107 = .ok (.ifCond .eq 7, 3) := zd zm_8107 (by decide +kernel)
theorem d_8107_110 {σ : Nat → Nat} {n0 : Nat} {bf : ab_B} : decode (ab_code (zx σ n0 bf).1 8107) 110 = .ok (.lconst 1, 1) := zd zm_8107 (by decide +kernel)
theorem d_8107_111 {σ : Nat → Nat} {n0 : Nat} {bf : ab_B} : decode (ab_code (zx σ n0 bf).1 8107) 111 = .ok (.goto 4, 3) := zd zm_8107 (by decide +kernel)
theorem d_8107_114 {σ : Nat → Nat} {n0 : Nat} {bf : ab_B} : decode (ab_code (zx σ n0 bf).1 8107) 114 = .ok (.lconst 0, 1) := zd zm_8107 (by decide +kernel)
theorem d_8107_115 {σ : Nat → Nat} {n0 : Nat} {bf : ab_B} : decode (ab_code (zx σ n0 bf).1 8107) 115 = .ok (.lreturn, 1) := zd zm_8107 (by decide +kernel)
theorem d_8107_116 {σ : Nat → Nat} {n0 : Nat} {bf : ab_B} : decode (ab_code (zx σ n0 bf).1 8107) 116 = .ok (.lload_n 1, 1) := zd zm_8107 (by decide +kernel)
theorem d_8107_117 {σ : Nat → Nat} {n0 : Nat} {bf : ab_B} : decode (ab_code (zx σ n0 bf).1 8107) 117 = .ok (.lload_n 3, 1) := zd zm_8107 (by decide +kernel)
theorem d_8107_118 {σ : Nat → Nat} {n0 : Nat} {bf : ab_B} : decode (ab_code (zx σ n0 bf).1 8107) 118 = .ok (.lcmp, 1) := zd zm_8107 (by decide +kernel)
theorem d_8107_119 {σ : Nat → Nat} {n0 : Nat} {bf : ab_B} : decode (ab_code (zx σ n0 bf).1 8107) 119 = .ok (.ifCond .ge 7, 3) := zd zm_8107 (by decide +kernel)
theorem d_8107_122 {σ : Nat → Nat} {n0 : Nat} {bf : ab_B} : decode (ab_code (zx σ n0 bf).1 8107) 122 = .ok (.lconst 1, 1) := zd zm_8107 (by decide +kernel)
theorem d_8107_123 {σ : Nat → Nat} {n0 : Nat} {bf : ab_B} : decode (ab_code (zx σ n0 bf).1 8107) 123 = .ok (.goto 4, 3) := zd zm_8107 (by decide +kernel)
theorem d_8107_126 {σ : Nat → Nat} {n0 : Nat} {bf : ab_B} : decode (ab_code (zx σ n0 bf).1 8107) 126 = .ok (.lconst 0, 1) := zd zm_8107 (by decide +kernel)
theorem d_8107_127 {σ : Nat → Nat} {n0 : Nat} {bf : ab_B} : decode (ab_code (zx σ n0 bf).1 8107) 127 = .ok (.lreturn, 1) := zd zm_8107 (by decide +kernel)
theorem d_8107_128 {σ : Nat → Nat} {n0 : Nat} {bf : ab_B} : decode (ab_code (zx σ n0 bf).1 8107) 128 = .ok (.lload_n 1, 1) := zd zm_8107 (by decide +kernel)
theorem d_8107_129 {σ : Nat → Nat} {n0 : Nat} {bf : ab_B} : decode (ab_code (zx σ n0 bf).1 8107) 129 = .ok (.lload_n 3, 1) := zd zm_8107 (by decide +kernel)
theorem d_8107_130 {σ : Nat → Nat} {n0 : Nat} {bf : ab_B} : decode (ab_code (zx σ n0 bf).1 8107) 130 = .ok (.lcmp, 1) := zd zm_8107 (by decide +kernel)
theorem d_8107_131 {σ : Nat → Nat} {n0 : Nat} {bf : ab_B} : decode (ab_code (zx σ n0 bf).1 8107) 131 = .ok (.ifCond .le 7, 3) := zd zm_8107 (by decide +kernel)
theorem d_8107_134 {σ : Nat → Nat} {n0 : Nat} {bf : ab_B} : decode (ab_code (zx σ n0 bf).1 8107) 134 = .ok (.lconst 1, 1) := zd zm_8107 (by decide +kernel)
theorem d_8107_135 {σ : Nat → Nat} {n0 : Nat} {bf : ab_B} : decode (ab_code (zx σ n0 bf).1 8107) 135 = .ok (.goto 4, 3) := zd zm_8107 (by decide +kernel)
theorem d_8107_138 {σ : Nat → Nat} {n0 : Nat} {bf : ab_B} : decode (ab_code (zx σ n0 bf).1 8107) 138 = .ok (.lconst 0, 1) := zd zm_8107 (by decide +kernel)
theorem d_8107_139 {σ : Nat → Nat} {n0 : Nat} {bf : ab_B} : decode (ab_code (zx σ n0 bf).1 8107) 139 = .ok (.lreturn, 1) := zd zm_8107 (by decide +kernel)
theorem d_8107_140 {σ : Nat → Nat} {n0 : Nat} {bf : ab_B} : decode (ab_code (zx σ n0 bf).1 8107) 140 = .ok (.lload_n 1, 1) := zd zm_8107 (by decide +kernel)
theorem d_8107_141 {σ : Nat → Nat} {n0 : Nat} {bf : ab_B} : decode (ab_code (zx σ n0 bf).1 8107) 141 = .ok (.lload_n 3, 1) := zd zm_8107 (by decide +kernel)
theorem d_8107_142 {σ : Nat → Nat} {n0 : Nat} {bf : ab_B} : decode (ab_code (zx σ n0 bf).1 8107) 142 = .ok (.lcmp, 1) := zd zm_8107 (by decide +kernel)
theorem d_8107_143 {σ : Nat → Nat} {n0 : Nat} {bf : ab_B} : decode (ab_code (zx σ n0 bf).1 8107) 143 = .ok (.ifCond .gt 7, 3) := zd zm_8107 (by decide +kernel)
theorem d_8107_146 {σ : Nat → Nat} {n0 : Nat} {bf : ab_B} : decode (ab_code (zx σ n0 bf).1 8107) 146 = .ok (.lconst 1, 1) := zd zm_8107 (by decide +kernel)
theorem d_8107_147 {σ : Nat → Nat} {n0 : Nat} {bf : ab_B} : decode (ab_code (zx σ n0 bf).1 8107) 147 = .ok (.goto 4, 3) := zd zm_8107 (by decide +kernel)
theorem d_8107_150 {σ : Nat → Nat} {n0 : Nat} {bf : ab_B} : decode (ab_code (zx σ n0 bf).1 8107) 150 = .ok (.lconst 0, 1) := zd zm_8107 (by decide +kernel)
theorem d_8107_151 {σ : Nat → Nat} {n0 : Nat} {bf : ab_B} : decode (ab_code (zx σ n0 bf).1 8107) 151 = .ok (.lreturn, 1) := zd zm_8107 (by decide +kernel)
theorem d_8107_152 {σ : Nat → Nat} {n0 : Nat} {bf : ab_B} : decode (ab_code (zx σ n0 bf).1 8107) 152 = .ok (.lload_n 1, 1) := zd zm_8107 (by decide +kernel)
theorem d_8107_153 {σ : Nat → Nat} {n0 : Nat} {bf : ab_B} : decode (ab_code (zx σ n0 bf).1 8107) 153 = .ok (.lload_n 3, 1) := zd zm_8107 (by decide +kernel)
theorem d_8107_154 {σ : Nat → Nat} {n0 : Nat} {bf : ab_B} : decode (ab_code (zx σ n0 bf).1 8107) 154 = .ok (.lcmp, 1) := zd zm_8107 (by decide +kernel)
theorem d_8107_155 {σ : Nat → Nat} {n0 : Nat} {bf : ab_B} : decode (ab_code (zx σ n0 bf).1 8107) 155 = .ok (.ifCond .lt 7, 3) := zd zm_8107 (by decide +kernel)
theorem d_8107_158 {σ : Nat → Nat} {n0 : Nat} {bf : ab_B} : decode (ab_code (zx σ n0 bf).1 8107) 158 = .ok (.lconst 1, 1) := zd zm_8107 (by decide +kernel)
theorem d_8107_159 {σ : Nat → Nat} {n0 : Nat} {bf : ab_B} : decode (ab_code (zx σ n0 bf).1 8107) 159 = .ok (.goto 4, 3) := zd zm_8107 (by decide +kernel)
theorem d_8107_162 {σ : Nat → Nat} {n0 : Nat} {bf : ab_B} : decode (ab_code (zx σ n0 bf).1 8107) 162 = .ok (.lconst 0, 1) := zd zm_8107 (by decide +kernel)
theorem d_8107_163 {σ : Nat → Nat} {n0 : Nat} {bf : ab_B} : decode (ab_code (zx σ n0 bf).1 8107) 163 = .ok (.lreturn, 1) := zd zm_8107 (by decide +kernel)
def w_X9_two_152 (X : zs_X) (d : Nat) (p1 : Int64) (p3 : Int64) (S : zs_T) (Q : zs_Q) : Prop :=
  (((p1 < p3 → (Q (.returned (some (.long (0 : Int64)))) S)) ∧ (¬ (p1 < p3) → (Q (.returned (some (.long (1 : Int64)))) S))))
theorem u_X9_two_152 {σ : Nat → Nat} {n0 : Nat} {bf : ab_B} {d : Nat} {p1 : Int64} {p3 : Int64} {S : zs_T} {Q : zs_Q} (hB : zt_B bf) (h : w_X9_two_152 (zx σ n0 bf) d p1 p3 S Q) : zs_U (zx σ n0 bf) d 8107 152 [(1, .long p1), (3, .long p3)] [] S Q := by
  unfold w_X9_two_152 at h
  refine zu_lload_n d_8107_152 rfl ?_
  refine zu_lload_n d_8107_153 rfl ?_
  refine zu_llt (t := 162) d_8107_154 d_8107_155 rfl (fun c1 => ?_) (fun c1 => ?_)
  · have h := h.1 c1
    refine zu_lconst (v := 0) d_8107_162 rfl ?_
    exact zu_lret d_8107_163 zr_8107 h
  · have h := h.2 c1
    refine zu_lconst (v := 1) d_8107_158 rfl ?_
    refine zu_goto (t := 163) d_8107_159 rfl ?_
    exact zu_lret d_8107_163 zr_8107 h
def w_X9_two (X : zs_X) (d : Nat) (p0 : Int32) (p1 : Int64) (p3 : Int64) (S : zs_T) (Q : zs_Q) : Prop :=
  (((p0.toInt < 3 ∨ 16 < p0.toInt → w_X9_two_152 X d p1 p3 S Q) ∧ (p0.toInt = 3 → (Q (.returned (some (.long (p1 + p3)))) S)) ∧ (p0.toInt = 4 → (Q (.returned (some (.long (p1 - p3)))) S)) ∧ (p0.toInt = 5 → (Q (.returned (some (.long (p1 * p3)))) S)) ∧ (p0.toInt = 6 → w_X9_two_152 X d p1 p3 S Q) ∧ (p0.toInt = 7 → w_X9_two_152 X d p1 p3 S Q) ∧ (p0.toInt = 8 → (Q (.returned (some (.long (p1 &&& p3)))) S)) ∧ (p0.toInt = 9 → (Q (.returned (some (.long (p1 ||| p3)))) S)) ∧ (p0.toInt = 10 → w_X9_two_152 X d p1 p3 S Q) ∧ (p0.toInt = 11 → w_X9_two_152 X d p1 p3 S Q) ∧ (p0.toInt = 12 → (((¬ p1 = p3 → (Q (.returned (some (.long (0 : Int64)))) S)) ∧ (¬ (¬ p1 = p3) → (Q (.returned (some (.long (1 : Int64)))) S))))) ∧ (p0.toInt = 13 → (((p1 = p3 → (Q (.returned (some (.long (0 : Int64)))) S)) ∧ (¬ (p1 = p3) → (Q (.returned (some (.long (1 : Int64)))) S))))) ∧ (p0.toInt = 14 → (((p3 ≤ p1 → (Q (.returned (some (.long (0 : Int64)))) S)) ∧ (¬ (p3 ≤ p1) → (Q (.returned (some (.long (1 : Int64)))) S))))) ∧ (p0.toInt = 15 → (((p1 ≤ p3 → (Q (.returned (some (.long (0 : Int64)))) S)) ∧ (¬ (p1 ≤ p3) → (Q (.returned (some (.long (1 : Int64)))) S))))) ∧ (p0.toInt = 16 → (((p3 < p1 → (Q (.returned (some (.long (0 : Int64)))) S)) ∧ (¬ (p3 < p1) → (Q (.returned (some (.long (1 : Int64)))) S)))))))
theorem u_X9_two {σ : Nat → Nat} {n0 : Nat} {bf : ab_B} {d : Nat} {p0 : Int32} {p1 : Int64} {p3 : Int64} {S : zs_T} {Q : zs_Q} (hB : zt_B bf) (hd : 1 ≤ d) (h : w_X9_two (zx σ n0 bf) (d - 1) p0 p1 p3 S Q) : zs_C (zx σ n0 bf) d 8107 [.int p0, .long p1, .long p3] S Q := by
  have hL : lv_args 0 [.int p0, .long p1, .long p3] = [(0, .int p0), (1, .long p1), (3, .long p3)] := rfl
  refine zs_C.of1 (hB.2 8107 (by decide) (by decide)) hd (by rw [hL]; exact zs_sub_self _ (by exact ⟨rfl, rfl, rfl, trivial⟩)) ?_
  rw [hL]
  clear hL
  unfold w_X9_two at h
  refine zu_iload_n d_8107_0 rfl ?_
  refine zu_tsw (td := 152) d_8107_1 (by decide) rfl (fun c1 => ?_) ⟨fun c1 => ⟨by decide, ?_⟩, fun c1 => ⟨by decide, ?_⟩, fun c1 => ⟨by decide, ?_⟩, fun c1 => ⟨by decide, ?_⟩, fun c1 => ⟨by decide, ?_⟩, fun c1 => ⟨by decide, ?_⟩, fun c1 => ⟨by decide, ?_⟩, fun c1 => ⟨by decide, ?_⟩, fun c1 => ⟨by decide, ?_⟩, fun c1 => ⟨by decide, ?_⟩, fun c1 => ⟨by decide, ?_⟩, fun c1 => ⟨by decide, ?_⟩, fun c1 => ⟨by decide, ?_⟩, fun c1 => ⟨by decide, ?_⟩, trivial⟩
  · have h := h.1 c1
    exact (u_X9_two_152 hB h).weak ⟨rfl, rfl, trivial⟩
  · have h := h.2.1 c1
    show zs_U _ _ _ 72 _ _ _ _
    refine zu_lload_n d_8107_72 rfl ?_
    refine zu_lload_n d_8107_73 rfl ?_
    refine zu_stk d_8107_74 rfl rfl ?_
    exact zu_lret d_8107_75 zr_8107 h
  · have h := h.2.2.1 c1
    show zs_U _ _ _ 76 _ _ _ _
    refine zu_lload_n d_8107_76 rfl ?_
    refine zu_lload_n d_8107_77 rfl ?_
    refine zu_stk d_8107_78 rfl rfl ?_
    exact zu_lret d_8107_79 zr_8107 h
  · have h := h.2.2.2.1 c1
    show zs_U _ _ _ 80 _ _ _ _
    refine zu_lload_n d_8107_80 rfl ?_
    refine zu_lload_n d_8107_81 rfl ?_
    refine zu_stk d_8107_82 rfl rfl ?_
    exact zu_lret d_8107_83 zr_8107 h
  · have h := h.2.2.2.2.1 c1
    show zs_U _ _ _ 152 _ _ _ _
    exact (u_X9_two_152 hB h).weak ⟨rfl, rfl, trivial⟩
  · have h := h.2.2.2.2.2.1 c1
    show zs_U _ _ _ 152 _ _ _ _
    exact (u_X9_two_152 hB h).weak ⟨rfl, rfl, trivial⟩
  · have h := h.2.2.2.2.2.2.1 c1
    show zs_U _ _ _ 84 _ _ _ _
    refine zu_lload_n d_8107_84 rfl ?_
    refine zu_lload_n d_8107_85 rfl ?_
    refine zu_stk d_8107_86 rfl rfl ?_
    exact zu_lret d_8107_87 zr_8107 h
  · have h := h.2.2.2.2.2.2.2.1 c1
    show zs_U _ _ _ 88 _ _ _ _
    refine zu_lload_n d_8107_88 rfl ?_
    refine zu_lload_n d_8107_89 rfl ?_
    refine zu_stk d_8107_90 rfl rfl ?_
    exact zu_lret d_8107_91 zr_8107 h
  · have h := h.2.2.2.2.2.2.2.2.1 c1
    show zs_U _ _ _ 152 _ _ _ _
    exact (u_X9_two_152 hB h).weak ⟨rfl, rfl, trivial⟩
  · have h := h.2.2.2.2.2.2.2.2.2.1 c1
    show zs_U _ _ _ 152 _ _ _ _
    exact (u_X9_two_152 hB h).weak ⟨rfl, rfl, trivial⟩
  · have h := h.2.2.2.2.2.2.2.2.2.2.1 c1
    show zs_U _ _ _ 92 _ _ _ _
    refine zu_lload_n d_8107_92 rfl ?_
    refine zu_lload_n d_8107_93 rfl ?_
    refine zu_lne (t := 102) d_8107_94 d_8107_95 rfl (fun c2 => ?_) (fun c2 => ?_)
    · have h := h.1 c2
      refine zu_lconst (v := 0) d_8107_102 rfl ?_
      exact zu_lret d_8107_103 zr_8107 h
    · have h := h.2 c2
      refine zu_lconst (v := 1) d_8107_98 rfl ?_
      refine zu_goto (t := 103) d_8107_99 rfl ?_
      exact zu_lret d_8107_103 zr_8107 h
  · have h := h.2.2.2.2.2.2.2.2.2.2.2.1 c1
    show zs_U _ _ _ 104 _ _ _ _
    refine zu_lload_n d_8107_104 rfl ?_
    refine zu_lload_n d_8107_105 rfl ?_
    refine zu_leq (t := 114) d_8107_106 d_8107_107 rfl (fun c3 => ?_) (fun c3 => ?_)
    · have h := h.1 c3
      refine zu_lconst (v := 0) d_8107_114 rfl ?_
      exact zu_lret d_8107_115 zr_8107 h
    · have h := h.2 c3
      refine zu_lconst (v := 1) d_8107_110 rfl ?_
      refine zu_goto (t := 115) d_8107_111 rfl ?_
      exact zu_lret d_8107_115 zr_8107 h
  · have h := h.2.2.2.2.2.2.2.2.2.2.2.2.1 c1
    show zs_U _ _ _ 116 _ _ _ _
    refine zu_lload_n d_8107_116 rfl ?_
    refine zu_lload_n d_8107_117 rfl ?_
    refine zu_lge (t := 126) d_8107_118 d_8107_119 rfl (fun c4 => ?_) (fun c4 => ?_)
    · have h := h.1 c4
      refine zu_lconst (v := 0) d_8107_126 rfl ?_
      exact zu_lret d_8107_127 zr_8107 h
    · have h := h.2 c4
      refine zu_lconst (v := 1) d_8107_122 rfl ?_
      refine zu_goto (t := 127) d_8107_123 rfl ?_
      exact zu_lret d_8107_127 zr_8107 h
  · have h := h.2.2.2.2.2.2.2.2.2.2.2.2.2.1 c1
    show zs_U _ _ _ 128 _ _ _ _
    refine zu_lload_n d_8107_128 rfl ?_
    refine zu_lload_n d_8107_129 rfl ?_
    refine zu_lle (t := 138) d_8107_130 d_8107_131 rfl (fun c5 => ?_) (fun c5 => ?_)
    · have h := h.1 c5
      refine zu_lconst (v := 0) d_8107_138 rfl ?_
      exact zu_lret d_8107_139 zr_8107 h
    · have h := h.2 c5
      refine zu_lconst (v := 1) d_8107_134 rfl ?_
      refine zu_goto (t := 139) d_8107_135 rfl ?_
      exact zu_lret d_8107_139 zr_8107 h
  · have h := h.2.2.2.2.2.2.2.2.2.2.2.2.2.2 c1
    show zs_U _ _ _ 140 _ _ _ _
    refine zu_lload_n d_8107_140 rfl ?_
    refine zu_lload_n d_8107_141 rfl ?_
    refine zu_lgt (t := 150) d_8107_142 d_8107_143 rfl (fun c6 => ?_) (fun c6 => ?_)
    · have h := h.1 c6
      refine zu_lconst (v := 0) d_8107_150 rfl ?_
      exact zu_lret d_8107_151 zr_8107 h
    · have h := h.2 c6
      refine zu_lconst (v := 1) d_8107_146 rfl ?_
      refine zu_goto (t := 151) d_8107_147 rfl ?_
      exact zu_lret d_8107_151 zr_8107 h
/-! SchemaPascalModel.spanHigh(I)V -/
theorem zm_8108 {σ : Nat → Nat} {n0 : Nat} {bf : ab_B} : ab_code (zx σ n0 bf).1 8108 = prog_17_method_118_code := rfl
theorem zq_8108 {σ : Nat → Nat} {n0 : Nat} {bf : ab_B} : ab_maxL (zx σ n0 bf).1 8108 = 4 := rfl
theorem zr_8108 {σ : Nat → Nat} {n0 : Nat} {bf : ab_B} : ab_ret (zx σ n0 bf).1 8108 = (Option.none : Option Jvm.ClassFile.FieldType) := rfl
theorem d_8108_0 {σ : Nat → Nat} {n0 : Nat} {bf : ab_B} : decode (ab_code (zx σ n0 bf).1 8108) 0 = .ok (.aload_n 0, 1) := zd zm_8108 (by decide +kernel)
theorem d_8108_1 {σ : Nat → Nat} {n0 : Nat} {bf : ab_B} : decode (ab_code (zx σ n0 bf).1 8108) 1 = .ok (.iload_n 1, 1) := zd zm_8108 (by decide +kernel)
theorem d_8108_2 {σ : Nat → Nat} {n0 : Nat} {bf : ab_B} : decode (ab_code (zx σ n0 bf).1 8108) 2 = .ok (.invokevirtual 884, 3) := zd zm_8108 (by decide +kernel)
theorem d_8108_5 {σ : Nat → Nat} {n0 : Nat} {bf : ab_B} : decode (ab_code (zx σ n0 bf).1 8108) 5 = .ok (.ifCond .ne 4, 3) := zd zm_8108 (by decide +kernel)
theorem d_8108_8 {σ : Nat → Nat} {n0 : Nat} {bf : ab_B} : decode (ab_code (zx σ n0 bf).1 8108) 8 = .ok (.return_, 1) := zd zm_8108 (by decide +kernel)
theorem d_8108_9 {σ : Nat → Nat} {n0 : Nat} {bf : ab_B} : decode (ab_code (zx σ n0 bf).1 8108) 9 = .ok (.aload_n 0, 1) := zd zm_8108 (by decide +kernel)
theorem d_8108_10 {σ : Nat → Nat} {n0 : Nat} {bf : ab_B} : decode (ab_code (zx σ n0 bf).1 8108) 10 = .ok (.invokevirtual 877, 3) := zd zm_8108 (by decide +kernel)
theorem d_8108_13 {σ : Nat → Nat} {n0 : Nat} {bf : ab_B} : decode (ab_code (zx σ n0 bf).1 8108) 13 = .ok (.ifCond .ne 20, 3) := zd zm_8108 (by decide +kernel)
theorem d_8108_16 {σ : Nat → Nat} {n0 : Nat} {bf : ab_B} : decode (ab_code (zx σ n0 bf).1 8108) 16 = .ok (.aload_n 0, 1) := zd zm_8108 (by decide +kernel)
theorem d_8108_17 {σ : Nat → Nat} {n0 : Nat} {bf : ab_B} : decode (ab_code (zx σ n0 bf).1 8108) 17 = .ok (.getfield 200, 3) := zd zm_8108 (by decide +kernel)
theorem d_8108_20 {σ : Nat → Nat} {n0 : Nat} {bf : ab_B} : decode (ab_code (zx σ n0 bf).1 8108) 20 = .ok (.aload_n 0, 1) := zd zm_8108 (by decide +kernel)
theorem d_8108_21 {σ : Nat → Nat} {n0 : Nat} {bf : ab_B} : decode (ab_code (zx σ n0 bf).1 8108) 21 = .ok (.getfield 653, 3) := zd zm_8108 (by decide +kernel)
theorem d_8108_24 {σ : Nat → Nat} {n0 : Nat} {bf : ab_B} : decode (ab_code (zx σ n0 bf).1 8108) 24 = .ok (.iconst 2, 1) := zd zm_8108 (by decide +kernel)
theorem d_8108_25 {σ : Nat → Nat} {n0 : Nat} {bf : ab_B} : decode (ab_code (zx σ n0 bf).1 8108) 25 = .ok (.isub, 1) := zd zm_8108 (by decide +kernel)
theorem d_8108_26 {σ : Nat → Nat} {n0 : Nat} {bf : ab_B} : decode (ab_code (zx σ n0 bf).1 8108) 26 = .ok (.iaload, 1) := zd zm_8108 (by decide +kernel)
theorem d_8108_27 {σ : Nat → Nat} {n0 : Nat} {bf : ab_B} : decode (ab_code (zx σ n0 bf).1 8108) 27 = .ok (.bipush 16, 2) := zd zm_8108 (by decide +kernel)
theorem d_8108_29 {σ : Nat → Nat} {n0 : Nat} {bf : ab_B} : decode (ab_code (zx σ n0 bf).1 8108) 29 = .ok (.iand, 1) := zd zm_8108 (by decide +kernel)
theorem d_8108_30 {σ : Nat → Nat} {n0 : Nat} {bf : ab_B} : decode (ab_code (zx σ n0 bf).1 8108) 30 = .ok (.ifCond .eq 7, 3) := zd zm_8108 (by decide +kernel)
theorem d_8108_33 {σ : Nat → Nat} {n0 : Nat} {bf : ab_B} : decode (ab_code (zx σ n0 bf).1 8108) 33 = .ok (.iconst 1, 1) := zd zm_8108 (by decide +kernel)
theorem d_8108_34 {σ : Nat → Nat} {n0 : Nat} {bf : ab_B} : decode (ab_code (zx σ n0 bf).1 8108) 34 = .ok (.goto 4, 3) := zd zm_8108 (by decide +kernel)
theorem d_8108_37 {σ : Nat → Nat} {n0 : Nat} {bf : ab_B} : decode (ab_code (zx σ n0 bf).1 8108) 37 = .ok (.iconst 0, 1) := zd zm_8108 (by decide +kernel)
theorem d_8108_38 {σ : Nat → Nat} {n0 : Nat} {bf : ab_B} : decode (ab_code (zx σ n0 bf).1 8108) 38 = .ok (.istore_n 2, 1) := zd zm_8108 (by decide +kernel)
theorem d_8108_39 {σ : Nat → Nat} {n0 : Nat} {bf : ab_B} : decode (ab_code (zx σ n0 bf).1 8108) 39 = .ok (.aload_n 0, 1) := zd zm_8108 (by decide +kernel)
theorem d_8108_40 {σ : Nat → Nat} {n0 : Nat} {bf : ab_B} : decode (ab_code (zx σ n0 bf).1 8108) 40 = .ok (.iconst 5, 1) := zd zm_8108 (by decide +kernel)
theorem d_8108_41 {σ : Nat → Nat} {n0 : Nat} {bf : ab_B} : decode (ab_code (zx σ n0 bf).1 8108) 41 = .ok (.iload_n 1, 1) := zd zm_8108 (by decide +kernel)
theorem d_8108_42 {σ : Nat → Nat} {n0 : Nat} {bf : ab_B} : decode (ab_code (zx σ n0 bf).1 8108) 42 = .ok (.iconst 1, 1) := zd zm_8108 (by decide +kernel)
theorem d_8108_43 {σ : Nat → Nat} {n0 : Nat} {bf : ab_B} : decode (ab_code (zx σ n0 bf).1 8108) 43 = .ok (.invokevirtual 599, 3) := zd zm_8108 (by decide +kernel)
theorem d_8108_46 {σ : Nat → Nat} {n0 : Nat} {bf : ab_B} : decode (ab_code (zx σ n0 bf).1 8108) 46 = .ok (.istore_n 3, 1) := zd zm_8108 (by decide +kernel)
theorem d_8108_47 {σ : Nat → Nat} {n0 : Nat} {bf : ab_B} : decode (ab_code (zx σ n0 bf).1 8108) 47 = .ok (.aload_n 0, 1) := zd zm_8108 (by decide +kernel)
theorem d_8108_48 {σ : Nat → Nat} {n0 : Nat} {bf : ab_B} : decode (ab_code (zx σ n0 bf).1 8108) 48 = .ok (.getfield 105, 3) := zd zm_8108 (by decide +kernel)
theorem d_8108_51 {σ : Nat → Nat} {n0 : Nat} {bf : ab_B} : decode (ab_code (zx σ n0 bf).1 8108) 51 = .ok (.iload_n 3, 1) := zd zm_8108 (by decide +kernel)
theorem d_8108_52 {σ : Nat → Nat} {n0 : Nat} {bf : ab_B} : decode (ab_code (zx σ n0 bf).1 8108) 52 = .ok (.iload_n 2, 1) := zd zm_8108 (by decide +kernel)
theorem d_8108_53 {σ : Nat → Nat} {n0 : Nat} {bf : ab_B} : decode (ab_code (zx σ n0 bf).1 8108) 53 = .ok (.bastore, 1) := zd zm_8108 (by decide +kernel)
theorem d_8108_54 {σ : Nat → Nat} {n0 : Nat} {bf : ab_B} : decode (ab_code (zx σ n0 bf).1 8108) 54 = .ok (.iload_n 2, 1) := zd zm_8108 (by decide +kernel)
theorem d_8108_55 {σ : Nat → Nat} {n0 : Nat} {bf : ab_B} : decode (ab_code (zx σ n0 bf).1 8108) 55 = .ok (.ifCond .eq 46, 3) := zd zm_8108 (by decide +kernel)
theorem d_8108_58 {σ : Nat → Nat} {n0 : Nat} {bf : ab_B} : decode (ab_code (zx σ n0 bf).1 8108) 58 = .ok (.aload_n 0, 1) := zd zm_8108 (by decide +kernel)
theorem d_8108_59 {σ : Nat → Nat} {n0 : Nat} {bf : ab_B} : decode (ab_code (zx σ n0 bf).1 8108) 59 = .ok (.getfield 102, 3) := zd zm_8108 (by decide +kernel)
theorem d_8108_62 {σ : Nat → Nat} {n0 : Nat} {bf : ab_B} : decode (ab_code (zx σ n0 bf).1 8108) 62 = .ok (.iload_n 3, 1) := zd zm_8108 (by decide +kernel)
theorem d_8108_63 {σ : Nat → Nat} {n0 : Nat} {bf : ab_B} : decode (ab_code (zx σ n0 bf).1 8108) 63 = .ok (.aload_n 0, 1) := zd zm_8108 (by decide +kernel)
theorem d_8108_64 {σ : Nat → Nat} {n0 : Nat} {bf : ab_B} : decode (ab_code (zx σ n0 bf).1 8108) 64 = .ok (.invokevirtual 777, 3) := zd zm_8108 (by decide +kernel)
theorem d_8108_67 {σ : Nat → Nat} {n0 : Nat} {bf : ab_B} : decode (ab_code (zx σ n0 bf).1 8108) 67 = .ok (.iastore, 1) := zd zm_8108 (by decide +kernel)
theorem d_8108_68 {σ : Nat → Nat} {n0 : Nat} {bf : ab_B} : decode (ab_code (zx σ n0 bf).1 8108) 68 = .ok (.aload_n 0, 1) := zd zm_8108 (by decide +kernel)
theorem d_8108_69 {σ : Nat → Nat} {n0 : Nat} {bf : ab_B} : decode (ab_code (zx σ n0 bf).1 8108) 69 = .ok (.dup, 1) := zd zm_8108 (by decide +kernel)
theorem d_8108_70 {σ : Nat → Nat} {n0 : Nat} {bf : ab_B} : decode (ab_code (zx σ n0 bf).1 8108) 70 = .ok (.getfield 653, 3) := zd zm_8108 (by decide +kernel)
theorem d_8108_73 {σ : Nat → Nat} {n0 : Nat} {bf : ab_B} : decode (ab_code (zx σ n0 bf).1 8108) 73 = .ok (.iconst 1, 1) := zd zm_8108 (by decide +kernel)
theorem d_8108_74 {σ : Nat → Nat} {n0 : Nat} {bf : ab_B} : decode (ab_code (zx σ n0 bf).1 8108) 74 = .ok (.isub, 1) := zd zm_8108 (by decide +kernel)
theorem d_8108_75 {σ : Nat → Nat} {n0 : Nat} {bf : ab_B} : decode (ab_code (zx σ n0 bf).1 8108) 75 = .ok (.putfield 653, 3) := zd zm_8108 (by decide +kernel)
theorem d_8108_78 {σ : Nat → Nat} {n0 : Nat} {bf : ab_B} : decode (ab_code (zx σ n0 bf).1 8108) 78 = .ok (.aload_n 0, 1) := zd zm_8108 (by decide +kernel)
theorem d_8108_79 {σ : Nat → Nat} {n0 : Nat} {bf : ab_B} : decode (ab_code (zx σ n0 bf).1 8108) 79 = .ok (.getfield 99, 3) := zd zm_8108 (by decide +kernel)
theorem d_8108_82 {σ : Nat → Nat} {n0 : Nat} {bf : ab_B} : decode (ab_code (zx σ n0 bf).1 8108) 82 = .ok (.iload_n 3, 1) := zd zm_8108 (by decide +kernel)
theorem d_8108_83 {σ : Nat → Nat} {n0 : Nat} {bf : ab_B} : decode (ab_code (zx σ n0 bf).1 8108) 83 = .ok (.aload_n 0, 1) := zd zm_8108 (by decide +kernel)
theorem d_8108_84 {σ : Nat → Nat} {n0 : Nat} {bf : ab_B} : decode (ab_code (zx σ n0 bf).1 8108) 84 = .ok (.invokevirtual 777, 3) := zd zm_8108 (by decide +kernel)
theorem d_8108_87 {σ : Nat → Nat} {n0 : Nat} {bf : ab_B} : decode (ab_code (zx σ n0 bf).1 8108) 87 = .ok (.iastore, 1) := zd zm_8108 (by decide +kernel)
theorem d_8108_88 {σ : Nat → Nat} {n0 : Nat} {bf : ab_B} : decode (ab_code (zx σ n0 bf).1 8108) 88 = .ok (.aload_n 0, 1) := zd zm_8108 (by decide +kernel)
theorem d_8108_89 {σ : Nat → Nat} {n0 : Nat} {bf : ab_B} : decode (ab_code (zx σ n0 bf).1 8108) 89 = .ok (.dup, 1) := zd zm_8108 (by decide +kernel)
theorem d_8108_90 {σ : Nat → Nat} {n0 : Nat} {bf : ab_B} : decode (ab_code (zx σ n0 bf).1 8108) 90 = .ok (.getfield 653, 3) := zd zm_8108 (by decide +kernel)
theorem d_8108_93 {σ : Nat → Nat} {n0 : Nat} {bf : ab_B} : decode (ab_code (zx σ n0 bf).1 8108) 93 = .ok (.iconst 1, 1) := zd zm_8108 (by decide +kernel)
theorem d_8108_94 {σ : Nat → Nat} {n0 : Nat} {bf : ab_B} : decode (ab_code (zx σ n0 bf).1 8108) 94 = .ok (.isub, 1) := zd zm_8108 (by decide +kernel)
theorem d_8108_95 {σ : Nat → Nat} {n0 : Nat} {bf : ab_B} : decode (ab_code (zx σ n0 bf).1 8108) 95 = .ok (.putfield 653, 3) := zd zm_8108 (by decide +kernel)
theorem d_8108_98 {σ : Nat → Nat} {n0 : Nat} {bf : ab_B} : decode (ab_code (zx σ n0 bf).1 8108) 98 = .ok (.goto 58, 3) := zd zm_8108 (by decide +kernel)
theorem d_8108_101 {σ : Nat → Nat} {n0 : Nat} {bf : ab_B} : decode (ab_code (zx σ n0 bf).1 8108) 101 = .ok (.aload_n 0, 1) := zd zm_8108 (by decide +kernel)
theorem d_8108_102 {σ : Nat → Nat} {n0 : Nat} {bf : ab_B} : decode (ab_code (zx σ n0 bf).1 8108) 102 = .ok (.getfield 102, 3) := zd zm_8108 (by decide +kernel)
theorem d_8108_105 {σ : Nat → Nat} {n0 : Nat} {bf : ab_B} : decode (ab_code (zx σ n0 bf).1 8108) 105 = .ok (.iload_n 3, 1) := zd zm_8108 (by decide +kernel)
theorem d_8108_106 {σ : Nat → Nat} {n0 : Nat} {bf : ab_B} : decode (ab_code (zx σ n0 bf).1 8108) 106 = .ok (.aload_n 0, 1) := zd zm_8108 (by decide +kernel)
theorem d_8108_107 {σ : Nat → Nat} {n0 : Nat} {bf : ab_B} : decode (ab_code (zx σ n0 bf).1 8108) 107 = .ok (.invokevirtual 880, 3) := zd zm_8108 (by decide +kernel)
theorem d_8108_110 {σ : Nat → Nat} {n0 : Nat} {bf : ab_B} : decode (ab_code (zx σ n0 bf).1 8108) 110 = .ok (.l2i, 1) := zd zm_8108 (by decide +kernel)
theorem d_8108_111 {σ : Nat → Nat} {n0 : Nat} {bf : ab_B} : decode (ab_code (zx σ n0 bf).1 8108) 111 = .ok (.iastore, 1) := zd zm_8108 (by decide +kernel)
theorem d_8108_112 {σ : Nat → Nat} {n0 : Nat} {bf : ab_B} : decode (ab_code (zx σ n0 bf).1 8108) 112 = .ok (.aload_n 0, 1) := zd zm_8108 (by decide +kernel)
theorem d_8108_113 {σ : Nat → Nat} {n0 : Nat} {bf : ab_B} : decode (ab_code (zx σ n0 bf).1 8108) 113 = .ok (.getfield 99, 3) := zd zm_8108 (by decide +kernel)
theorem d_8108_116 {σ : Nat → Nat} {n0 : Nat} {bf : ab_B} : decode (ab_code (zx σ n0 bf).1 8108) 116 = .ok (.iload_n 3, 1) := zd zm_8108 (by decide +kernel)
theorem d_8108_117 {σ : Nat → Nat} {n0 : Nat} {bf : ab_B} : decode (ab_code (zx σ n0 bf).1 8108) 117 = .ok (.aload_n 0, 1) := zd zm_8108 (by decide +kernel)
theorem d_8108_118 {σ : Nat → Nat} {n0 : Nat} {bf : ab_B} : decode (ab_code (zx σ n0 bf).1 8108) 118 = .ok (.invokevirtual 880, 3) := zd zm_8108 (by decide +kernel)
theorem d_8108_121 {σ : Nat → Nat} {n0 : Nat} {bf : ab_B} : decode (ab_code (zx σ n0 bf).1 8108) 121 = .ok (.l2i, 1) := zd zm_8108 (by decide +kernel)
theorem d_8108_122 {σ : Nat → Nat} {n0 : Nat} {bf : ab_B} : decode (ab_code (zx σ n0 bf).1 8108) 122 = .ok (.iastore, 1) := zd zm_8108 (by decide +kernel)
theorem d_8108_123 {σ : Nat → Nat} {n0 : Nat} {bf : ab_B} : decode (ab_code (zx σ n0 bf).1 8108) 123 = .ok (.aload_n 0, 1) := zd zm_8108 (by decide +kernel)
theorem d_8108_124 {σ : Nat → Nat} {n0 : Nat} {bf : ab_B} : decode (ab_code (zx σ n0 bf).1 8108) 124 = .ok (.getfield 99, 3) := zd zm_8108 (by decide +kernel)
theorem d_8108_127 {σ : Nat → Nat} {n0 : Nat} {bf : ab_B} : decode (ab_code (zx σ n0 bf).1 8108) 127 = .ok (.iload_n 3, 1) := zd zm_8108 (by decide +kernel)
theorem d_8108_128 {σ : Nat → Nat} {n0 : Nat} {bf : ab_B} : decode (ab_code (zx σ n0 bf).1 8108) 128 = .ok (.iaload, 1) := zd zm_8108 (by decide +kernel)
theorem d_8108_129 {σ : Nat → Nat} {n0 : Nat} {bf : ab_B} : decode (ab_code (zx σ n0 bf).1 8108) 129 = .ok (.aload_n 0, 1) := zd zm_8108 (by decide +kernel)
theorem d_8108_130 {σ : Nat → Nat} {n0 : Nat} {bf : ab_B} : decode (ab_code (zx σ n0 bf).1 8108) 130 = .ok (.getfield 102, 3) := zd zm_8108 (by decide +kernel)
theorem d_8108_133 {σ : Nat → Nat} {n0 : Nat} {bf : ab_B} : decode (ab_code (zx σ n0 bf).1 8108) 133 = .ok (.iload_n 3, 1) := zd zm_8108 (by decide +kernel)
theorem d_8108_134 {σ : Nat → Nat} {n0 : Nat} {bf : ab_B} : decode (ab_code (zx σ n0 bf).1 8108) 134 = .ok (.iaload, 1) := zd zm_8108 (by decide +kernel)
theorem d_8108_135 {σ : Nat → Nat} {n0 : Nat} {bf : ab_B} : decode (ab_code (zx σ n0 bf).1 8108) 135 = .ok (.if_icmp .le 21, 3) := zd zm_8108 (by decide +kernel)
theorem d_8108_138 {σ : Nat → Nat} {n0 : Nat} {bf : ab_B} : decode (ab_code (zx σ n0 bf).1 8108) 138 = .ok (.aload_n 0, 1) := zd zm_8108 (by decide +kernel)
theorem d_8108_139 {σ : Nat → Nat} {n0 : Nat} {bf : ab_B} : decode (ab_code (zx σ n0 bf).1 8108) 139 = .ok (.aload_n 0, 1) := zd zm_8108 (by decide +kernel)
theorem d_8108_140 {σ : Nat → Nat} {n0 : Nat} {bf : ab_B} : decode (ab_code (zx σ n0 bf).1 8108) 140 = .ok (.iload_n 3, 1) := zd zm_8108 (by decide +kernel)
theorem d_8108_141 {σ : Nat → Nat} {n0 : Nat} {bf : ab_B} : decode (ab_code (zx σ n0 bf).1 8108) 141 = .ok (.invokevirtual 834, 3) := zd zm_8108 (by decide +kernel)
theorem d_8108_144 {σ : Nat → Nat} {n0 : Nat} {bf : ab_B} : decode (ab_code (zx σ n0 bf).1 8108) 144 = .ok (.ifCond .eq 7, 3) := zd zm_8108 (by decide +kernel)
theorem d_8108_147 {σ : Nat → Nat} {n0 : Nat} {bf : ab_B} : decode (ab_code (zx σ n0 bf).1 8108) 147 = .ok (.iconst 5, 1) := zd zm_8108 (by decide +kernel)
theorem d_8108_148 {σ : Nat → Nat} {n0 : Nat} {bf : ab_B} : decode (ab_code (zx σ n0 bf).1 8108) 148 = .ok (.goto 5, 3) := zd zm_8108 (by decide +kernel)
theorem d_8108_151 {σ : Nat → Nat} {n0 : Nat} {bf : ab_B} : decode (ab_code (zx σ n0 bf).1 8108) 151 = .ok (.bipush 7, 2) := zd zm_8108 (by decide +kernel)
theorem d_8108_153 {σ : Nat → Nat} {n0 : Nat} {bf : ab_B} : decode (ab_code (zx σ n0 bf).1 8108) 153 = .ok (.invokevirtual 541, 3) := zd zm_8108 (by decide +kernel)
theorem d_8108_156 {σ : Nat → Nat} {n0 : Nat} {bf : ab_B} : decode (ab_code (zx σ n0 bf).1 8108) 156 = .ok (.aload_n 0, 1) := zd zm_8108 (by decide +kernel)
theorem d_8108_157 {σ : Nat → Nat} {n0 : Nat} {bf : ab_B} : decode (ab_code (zx σ n0 bf).1 8108) 157 = .ok (.getfield 444, 3) := zd zm_8108 (by decide +kernel)
theorem d_8108_160 {σ : Nat → Nat} {n0 : Nat} {bf : ab_B} : decode (ab_code (zx σ n0 bf).1 8108) 160 = .ok (.ifCond .ne 8, 3) := zd zm_8108 (by decide +kernel)
theorem d_8108_163 {σ : Nat → Nat} {n0 : Nat} {bf : ab_B} : decode (ab_code (zx σ n0 bf).1 8108) 163 = .ok (.aload_n 0, 1) := zd zm_8108 (by decide +kernel)
theorem d_8108_164 {σ : Nat → Nat} {n0 : Nat} {bf : ab_B} : decode (ab_code (zx σ n0 bf).1 8108) 164 = .ok (.iload_n 3, 1) := zd zm_8108 (by decide +kernel)
theorem d_8108_165 {σ : Nat → Nat} {n0 : Nat} {bf : ab_B} : decode (ab_code (zx σ n0 bf).1 8108) 165 = .ok (.invokevirtual 840, 3) := zd zm_8108 (by decide +kernel)
theorem d_8108_168 {σ : Nat → Nat} {n0 : Nat} {bf : ab_B} : decode (ab_code (zx σ n0 bf).1 8108) 168 = .ok (.return_, 1) := zd zm_8108 (by decide +kernel)
def w_X9_spanHigh_156 (X : zs_X) (d : Nat) (p0 : Nat) (p3 : Int32) (S : zs_T) (Q : zs_Q) : Prop :=
  (zs_K S p0 = some (.inl 8) ∧ ((¬ (zs_I S 8010 p0) = 0 → (Q (.returned none) S)) ∧ (¬ (¬ (zs_I S 8010 p0) = 0) → (zs_C X d 8091 [.ref p0, .int p3] S (zs_kV (fun S3 => (Q (.returned none) S3)) Q)))))
theorem u_X9_spanHigh_156 {σ : Nat → Nat} {n0 : Nat} {bf : ab_B} {d : Nat} {p0 : Nat} {p3 : Int32} {S : zs_T} {Q : zs_Q} (hB : zt_B bf) (h : w_X9_spanHigh_156 (zx σ n0 bf) d p0 p3 S Q) : zs_U (zx σ n0 bf) d 8108 156 [(0, .ref p0), (3, .int p3)] [] S Q := by
  unfold w_X9_spanHigh_156 at h
  refine zu_aload_n d_8108_156 rfl (zs_ra _) ?_
  obtain ⟨k1, h⟩ := h
  refine zg_8_444 rfl d_8108_157 k1 ?_
  refine zu_ifne (t := 168) d_8108_160 rfl (fun c2 => ?_) (fun c2 => ?_)
  · have h := h.1 c2
    exact zu_vret d_8108_168 zr_8108 h
  · have h := h.2 c2
    refine zu_aload_n d_8108_163 rfl (zs_ra _) ?_
    refine zu_iload_n d_8108_164 rfl ?_
    refine zc_8_840 (x0 := p3) hB rfl k1 d_8108_165 (Nat.le_of_ble_eq_true rfl) h (fun S3 h => ?_)
    exact zu_vret d_8108_168 zr_8108 h
def w_X9_spanHigh_153 (X : zs_X) (d : Nat) (p0 : Nat) (p3 : Int32) (q0 : Option Nat) (q1 : Int32) (S : zs_T) (Q : zs_Q) : Prop :=
  (∃ b1, q0 = some b1 ∧ zs_K S b1 = some (.inl 8) ∧ zs_C X d 8027 [.ref b1, .int q1] S (zs_kV (fun S4 => w_X9_spanHigh_156 X d p0 p3 S4 Q) Q))
theorem u_X9_spanHigh_153 {σ : Nat → Nat} {n0 : Nat} {bf : ab_B} {d : Nat} {p0 : Nat} {p3 : Int32} {q0 : Option Nat} {q1 : Int32} {S : zs_T} {Q : zs_Q} (hB : zt_B bf) (h : w_X9_spanHigh_153 (zx σ n0 bf) d p0 p3 q0 q1 S Q) : zs_U (zx σ n0 bf) d 8108 153 [(0, .ref p0), (3, .int p3)] [.int q1, va_rf q0] S Q := by
  unfold w_X9_spanHigh_153 at h
  obtain ⟨b1, e2, h⟩ := h
  refine zs_stk1 (zs_rfe e2) ?_
  obtain ⟨k3, h⟩ := h
  refine zc_8_541 (x0 := q1) hB rfl k3 d_8108_153 (Nat.le_of_ble_eq_true rfl) h (fun S4 h => ?_)
  exact (u_X9_spanHigh_156 hB h).weak ⟨rfl, rfl, trivial⟩
def w_X9_spanHigh_138 (X : zs_X) (d : Nat) (p0 : Nat) (p3 : Int32) (S : zs_T) (Q : zs_Q) : Prop :=
  (zs_K S p0 = some (.inl 8) ∧ zs_C X d 8109 [.ref p0, .int p3] S (zs_kI (fun v3 S2 => (((v3 = 0 → (w_X9_spanHigh_153 X d p0 p3 (some p0) (7 : Int32) S2 Q)) ∧ (¬ (v3 = 0) → (w_X9_spanHigh_153 X d p0 p3 (some p0) (5 : Int32) S2 Q))))) Q))
theorem u_X9_spanHigh_138 {σ : Nat → Nat} {n0 : Nat} {bf : ab_B} {d : Nat} {p0 : Nat} {p3 : Int32} {S : zs_T} {Q : zs_Q} (hB : zt_B bf) (h : w_X9_spanHigh_138 (zx σ n0 bf) d p0 p3 S Q) : zs_U (zx σ n0 bf) d 8108 138 [(0, .ref p0), (3, .int p3)] [] S Q := by
  unfold w_X9_spanHigh_138 at h
  refine zu_aload_n d_8108_138 rfl (zs_ra _) ?_
  refine zu_aload_n d_8108_139 rfl (zs_ra _) ?_
  refine zu_iload_n d_8108_140 rfl ?_
  obtain ⟨k1, h⟩ := h
  refine zc_8_834 (x0 := p3) hB rfl k1 d_8108_141 (Nat.le_of_ble_eq_true rfl) h (fun v3 S2 h => ?_)
  refine zu_ifeq (t := 151) d_8108_144 rfl (fun c4 => ?_) (fun c4 => ?_)
  · have h := h.1 c4
    refine zu_bipush d_8108_151 zj_7 ?_
    exact (u_X9_spanHigh_153 hB h).weak ⟨rfl, rfl, trivial⟩
  · have h := h.2 c4
    refine zu_iconst d_8108_147 zi_5 ?_
    refine zu_goto (t := 153) d_8108_148 rfl ?_
    exact (u_X9_spanHigh_153 hB h).weak ⟨rfl, rfl, trivial⟩
def w_X9_spanHigh_112 (X : zs_X) (d : Nat) (p0 : Nat) (p3 : Int32) (S : zs_T) (Q : zs_Q) : Prop :=
  (zs_K S p0 = some (.inl 8) ∧ zs_C X d 8102 [.ref p0] S (zs_kJ (fun v3 S2 => (∃ b4, (zs_R S 8047 p0) = some b4 ∧ zs_A S2 b4 0 p3 ∧ ab_n0 X.1 ≤ b4 ∧ ∀ S8, S8 = zs_si S2 b4 p3.toNatClampNeg ((v3).toInt32) → zs_K S2 p0 = some (.inl 8) ∧ ∃ b12, (zs_R S8 8047 p0) = some b12 ∧ zs_A S2 b12 0 p3 ∧ ∃ b15, (zs_R S8 8048 p0) = some b15 ∧ zs_A S2 b15 0 p3 ∧ (((zs_i S8 b12 p3.toNatClampNeg) ≤ (zs_i S8 b15 p3.toNatClampNeg) → w_X9_spanHigh_156 X d p0 p3 S8 Q) ∧ (¬ ((zs_i S8 b12 p3.toNatClampNeg) ≤ (zs_i S8 b15 p3.toNatClampNeg)) → w_X9_spanHigh_138 X d p0 p3 S8 Q)))) Q))
theorem u_X9_spanHigh_112 {σ : Nat → Nat} {n0 : Nat} {bf : ab_B} {d : Nat} {p0 : Nat} {p3 : Int32} {S : zs_T} {Q : zs_Q} (hB : zt_B bf) (h : w_X9_spanHigh_112 (zx σ n0 bf) d p0 p3 S Q) : zs_U (zx σ n0 bf) d 8108 112 [(0, .ref p0), (3, .int p3)] [] S Q := by
  unfold w_X9_spanHigh_112 at h
  refine zu_aload_n d_8108_112 rfl (zs_ra _) ?_
  obtain ⟨k1, h⟩ := h
  refine zg_8_99 rfl d_8108_113 k1 ?_
  refine zu_iload_n d_8108_116 rfl ?_
  refine zu_aload_n d_8108_117 rfl (zs_ra _) ?_
  refine zc_8_880  hB rfl k1 d_8108_118 (by simp only [List.map_cons, List.map_nil, List.sum_cons, List.sum_nil, zs_cat, zs_cI, zs_cJ, zs_cA]; exact Nat.le_of_ble_eq_true rfl) h (fun v3 S2 h => ?_)
  refine zu_stk d_8108_121 rfl rfl ?_
  obtain ⟨b4, e5, h⟩ := h
  refine zs_stk2 (zs_rfe e5) ?_
  obtain ⟨k6, h⟩ := h
  obtain ⟨k7, h⟩ := h
  refine zu_iast (k := 0) d_8108_122 rfl rfl k7 k6 ?_
  generalize e9 : zs_si S2 b4 p3.toNatClampNeg ((v3).toInt32) = S8
  have h := h S8 e9.symm
  have K10 : ∀ b, zs_K S8 b = zs_K S2 b := zs_Kt e9 (zs_Ksi _ _ _ _) (fun _ => rfl)
  refine zu_aload_n d_8108_123 rfl (zs_ra _) ?_
  obtain ⟨k11, h⟩ := h
  refine zg_8_99 rfl d_8108_124 ((K10 _).trans k11) ?_
  refine zu_iload_n d_8108_127 rfl ?_
  obtain ⟨b12, e13, h⟩ := h
  refine zs_stk1 (zs_rfe e13) ?_
  obtain ⟨k14, h⟩ := h
  refine zu_iald (k := 0) d_8108_128 rfl rfl (zs_Ak K10 k14) ?_
  refine zu_aload_n d_8108_129 rfl (zs_ra _) ?_
  refine zg_8_102 rfl d_8108_130 ((K10 _).trans k11) ?_
  refine zu_iload_n d_8108_133 rfl ?_
  obtain ⟨b15, e16, h⟩ := h
  refine zs_stk1 (zs_rfe e16) ?_
  obtain ⟨k17, h⟩ := h
  refine zu_iald (k := 0) d_8108_134 rfl rfl (zs_Ak K10 k17) ?_
  refine zu_cmple (t := 156) d_8108_135 rfl (fun c18 => ?_) (fun c18 => ?_)
  · have h := h.1 c18
    exact (u_X9_spanHigh_156 hB h).weak ⟨rfl, rfl, trivial⟩
  · have h := h.2 c18
    exact (u_X9_spanHigh_138 hB h).weak ⟨rfl, rfl, trivial⟩
def w_X9_spanHigh_98 (X : zs_X) (d : Nat) (p0 : Nat) (p3 : Int32) (S : zs_T) (Q : zs_Q) : Prop :=
  (w_X9_spanHigh_156 X d p0 p3 S Q)
theorem u_X9_spanHigh_98 {σ : Nat → Nat} {n0 : Nat} {bf : ab_B} {d : Nat} {p0 : Nat} {p3 : Int32} {S : zs_T} {Q : zs_Q} (hB : zt_B bf) (h : w_X9_spanHigh_98 (zx σ n0 bf) d p0 p3 S Q) : zs_U (zx σ n0 bf) d 8108 98 [(0, .ref p0), (3, .int p3)] [] S Q := by
  unfold w_X9_spanHigh_98 at h
  refine zu_goto (t := 156) d_8108_98 rfl ?_
  exact (u_X9_spanHigh_156 hB h).weak ⟨rfl, rfl, trivial⟩
def w_X9_spanHigh_68 (X : zs_X) (d : Nat) (p0 : Nat) (p3 : Int32) (S : zs_T) (Q : zs_Q) : Prop :=
  (zs_K S p0 = some (.inl 8) ∧ ab_n0 X.1 ≤ p0 ∧ ∀ S3, S3 = zs_sI S 8097 p0 ((zs_I S 8097 p0) - (1 : Int32)) → zs_C X d 8103 [.ref p0] S3 (zs_kI (fun v7 S6 => (∃ b8, (zs_R S3 8047 p0) = some b8 ∧ zs_A S6 b8 0 p3 ∧ ab_n0 X.1 ≤ b8 ∧ ∀ S12, S12 = zs_si S6 b8 p3.toNatClampNeg v7 → zs_K S6 p0 = some (.inl 8) ∧ ∀ S16, S16 = zs_sI S12 8097 p0 ((zs_I S12 8097 p0) - (1 : Int32)) → w_X9_spanHigh_98 X d p0 p3 S16 Q)) Q))
theorem u_X9_spanHigh_68 {σ : Nat → Nat} {n0 : Nat} {bf : ab_B} {d : Nat} {p0 : Nat} {p3 : Int32} {S : zs_T} {Q : zs_Q} (hB : zt_B bf) (h : w_X9_spanHigh_68 (zx σ n0 bf) d p0 p3 S Q) : zs_U (zx σ n0 bf) d 8108 68 [(0, .ref p0), (3, .int p3)] [] S Q := by
  unfold w_X9_spanHigh_68 at h
  refine zu_aload_n d_8108_68 rfl (zs_ra _) ?_
  refine zu_dup d_8108_69 rfl ?_
  obtain ⟨k1, h⟩ := h
  refine zg_8_653 rfl d_8108_70 k1 ?_
  refine zu_iconst d_8108_73 zi_1 ?_
  refine zu_stk d_8108_74 rfl rfl ?_
  obtain ⟨k2, h⟩ := h
  refine zp_8_653 (v := ((zs_I S 8097 p0) - (1 : Int32))) rfl d_8108_75 k1 k2 ?_
  generalize e4 : zs_sI S 8097 p0 ((zs_I S 8097 p0) - (1 : Int32)) = S3
  have h := h S3 e4.symm
  have K5 : ∀ b, zs_K S3 b = zs_K S b := zs_Kt e4 (zs_KsI _ _ _ _) (fun _ => rfl)
  refine zu_aload_n d_8108_78 rfl (zs_ra _) ?_
  refine zg_8_99 rfl d_8108_79 ((K5 _).trans k1) ?_
  refine zu_iload_n d_8108_82 rfl ?_
  refine zu_aload_n d_8108_83 rfl (zs_ra _) ?_
  refine zc_8_777  hB rfl ((K5 _).trans k1) d_8108_84 (by simp only [List.map_cons, List.map_nil, List.sum_cons, List.sum_nil, zs_cat, zs_cI, zs_cJ, zs_cA]; exact Nat.le_of_ble_eq_true rfl) h (fun v7 S6 h => ?_)
  obtain ⟨b8, e9, h⟩ := h
  refine zs_stk2 (zs_rfe e9) ?_
  obtain ⟨k10, h⟩ := h
  obtain ⟨k11, h⟩ := h
  refine zu_iast (k := 0) d_8108_87 rfl rfl k11 k10 ?_
  generalize e13 : zs_si S6 b8 p3.toNatClampNeg v7 = S12
  have h := h S12 e13.symm
  have K14 : ∀ b, zs_K S12 b = zs_K S6 b := zs_Kt e13 (zs_Ksi _ _ _ _) (fun _ => rfl)
  refine zu_aload_n d_8108_88 rfl (zs_ra _) ?_
  refine zu_dup d_8108_89 rfl ?_
  obtain ⟨k15, h⟩ := h
  refine zg_8_653 rfl d_8108_90 ((K14 _).trans k15) ?_
  refine zu_iconst d_8108_93 zi_1 ?_
  refine zu_stk d_8108_94 rfl rfl ?_
  refine zp_8_653 (v := ((zs_I S12 8097 p0) - (1 : Int32))) rfl d_8108_95 ((K14 _).trans k15) k2 ?_
  generalize e17 : zs_sI S12 8097 p0 ((zs_I S12 8097 p0) - (1 : Int32)) = S16
  have h := h S16 e17.symm
  have K18 : ∀ b, zs_K S16 b = zs_K S6 b := zs_Kt e17 (zs_KsI _ _ _ _) K14
  exact (u_X9_spanHigh_98 hB h).weak ⟨rfl, rfl, trivial⟩
def w_X9_spanHigh_38 (X : zs_X) (d : Nat) (p0 : Nat) (p1 : Int32) (q0 : Int32) (S : zs_T) (Q : zs_Q) : Prop :=
  (zs_K S p0 = some (.inl 8) ∧ zs_C X d 8009 [.ref p0, .int (5 : Int32), .int p1, .int (1 : Int32)] S (zs_kI (fun v3 S2 => (zs_K S2 p0 = some (.inl 8) ∧ ∃ b5, (zs_R S2 8049 p0) = some b5 ∧ zs_A S2 b5 2 v3 ∧ ab_n0 X.1 ≤ b5 ∧ ∀ S9, S9 = zs_si S2 b5 v3.toNatClampNeg (vp_nar .boolean q0) → ((q0 = 0 → (zs_C X d 8102 [.ref p0] S9 (zs_kJ (fun v14 S13 => (∃ b15, (zs_R S9 8048 p0) = some b15 ∧ zs_A S13 b15 0 v3 ∧ ab_n0 X.1 ≤ b15 ∧ ∀ S19, S19 = zs_si S13 b15 v3.toNatClampNeg ((v14).toInt32) → w_X9_spanHigh_112 X d p0 v3 S19 Q)) Q))) ∧ (¬ (q0 = 0) → (zs_C X d 8103 [.ref p0] S9 (zs_kI (fun v23 S22 => (∃ b24, (zs_R S9 8048 p0) = some b24 ∧ zs_A S22 b24 0 v3 ∧ ab_n0 X.1 ≤ b24 ∧ ∀ S28, S28 = zs_si S22 b24 v3.toNatClampNeg v23 → w_X9_spanHigh_68 X d p0 v3 S28 Q)) Q)))))) Q))
theorem u_X9_spanHigh_38 {σ : Nat → Nat} {n0 : Nat} {bf : ab_B} {d : Nat} {p0 : Nat} {p1 : Int32} {q0 : Int32} {S : zs_T} {Q : zs_Q} (hB : zt_B bf) (h : w_X9_spanHigh_38 (zx σ n0 bf) d p0 p1 q0 S Q) : zs_U (zx σ n0 bf) d 8108 38 [(0, .ref p0), (1, .int p1)] [.int q0] S Q := by
  unfold w_X9_spanHigh_38 at h
  refine zu_istore_n d_8108_38 (zs_lt zq_8108 rfl) ?_
  refine zu_aload_n d_8108_39 rfl (zs_ra _) ?_
  refine zu_iconst d_8108_40 zi_5 ?_
  refine zu_iload_n d_8108_41 rfl ?_
  refine zu_iconst d_8108_42 zi_1 ?_
  obtain ⟨k1, h⟩ := h
  refine zc_8_599 (x0 := (5 : Int32)) (x1 := p1) (x2 := (1 : Int32)) hB rfl k1 d_8108_43 (Nat.le_of_ble_eq_true rfl) h (fun v3 S2 h => ?_)
  refine zu_istore_n d_8108_46 (zs_lt zq_8108 rfl) ?_
  refine zu_aload_n d_8108_47 rfl (zs_ra _) ?_
  obtain ⟨k4, h⟩ := h
  refine zg_8_105 rfl d_8108_48 k4 ?_
  refine zu_iload_n d_8108_51 rfl ?_
  refine zu_iload_n d_8108_52 rfl ?_
  obtain ⟨b5, e6, h⟩ := h
  refine zs_stk2 (zs_rfe e6) ?_
  obtain ⟨k7, h⟩ := h
  obtain ⟨k8, h⟩ := h
  refine zu_bast_bool (k := 2) d_8108_53 rfl rfl k8 k7 ?_
  generalize e10 : zs_si S2 b5 v3.toNatClampNeg (vp_nar .boolean q0) = S9
  have h := h S9 e10.symm
  have K11 : ∀ b, zs_K S9 b = zs_K S2 b := zs_Kt e10 (zs_Ksi _ _ _ _) (fun _ => rfl)
  refine zu_iload_n d_8108_54 rfl ?_
  refine zu_ifeq (t := 101) d_8108_55 rfl (fun c12 => ?_) (fun c12 => ?_)
  · have h := h.1 c12
    refine zu_aload_n d_8108_101 rfl (zs_ra _) ?_
    refine zg_8_102 rfl d_8108_102 ((K11 _).trans k4) ?_
    refine zu_iload_n d_8108_105 rfl ?_
    refine zu_aload_n d_8108_106 rfl (zs_ra _) ?_
    refine zc_8_880  hB rfl ((K11 _).trans k4) d_8108_107 (by simp only [List.map_cons, List.map_nil, List.sum_cons, List.sum_nil, zs_cat, zs_cI, zs_cJ, zs_cA]; exact Nat.le_of_ble_eq_true rfl) h (fun v14 S13 h => ?_)
    refine zu_stk d_8108_110 rfl rfl ?_
    obtain ⟨b15, e16, h⟩ := h
    refine zs_stk2 (zs_rfe e16) ?_
    obtain ⟨k17, h⟩ := h
    obtain ⟨k18, h⟩ := h
    refine zu_iast (k := 0) d_8108_111 rfl rfl k18 k17 ?_
    generalize e20 : zs_si S13 b15 v3.toNatClampNeg ((v14).toInt32) = S19
    have h := h S19 e20.symm
    have K21 : ∀ b, zs_K S19 b = zs_K S13 b := zs_Kt e20 (zs_Ksi _ _ _ _) (fun _ => rfl)
    exact (u_X9_spanHigh_112 hB h).weak ⟨rfl, rfl, trivial⟩
  · have h := h.2 c12
    refine zu_aload_n d_8108_58 rfl (zs_ra _) ?_
    refine zg_8_102 rfl d_8108_59 ((K11 _).trans k4) ?_
    refine zu_iload_n d_8108_62 rfl ?_
    refine zu_aload_n d_8108_63 rfl (zs_ra _) ?_
    refine zc_8_777  hB rfl ((K11 _).trans k4) d_8108_64 (by simp only [List.map_cons, List.map_nil, List.sum_cons, List.sum_nil, zs_cat, zs_cI, zs_cJ, zs_cA]; exact Nat.le_of_ble_eq_true rfl) h (fun v23 S22 h => ?_)
    obtain ⟨b24, e25, h⟩ := h
    refine zs_stk2 (zs_rfe e25) ?_
    obtain ⟨k26, h⟩ := h
    obtain ⟨k27, h⟩ := h
    refine zu_iast (k := 0) d_8108_67 rfl rfl k27 k26 ?_
    generalize e29 : zs_si S22 b24 v3.toNatClampNeg v23 = S28
    have h := h S28 e29.symm
    have K30 : ∀ b, zs_K S28 b = zs_K S22 b := zs_Kt e29 (zs_Ksi _ _ _ _) (fun _ => rfl)
    exact (u_X9_spanHigh_68 hB h).weak ⟨rfl, rfl, trivial⟩
def w_X9_spanHigh_33 (X : zs_X) (d : Nat) (p0 : Nat) (p1 : Int32) (S : zs_T) (Q : zs_Q) : Prop :=
  (w_X9_spanHigh_38 X d p0 p1 (1 : Int32) S Q)
theorem u_X9_spanHigh_33 {σ : Nat → Nat} {n0 : Nat} {bf : ab_B} {d : Nat} {p0 : Nat} {p1 : Int32} {S : zs_T} {Q : zs_Q} (hB : zt_B bf) (h : w_X9_spanHigh_33 (zx σ n0 bf) d p0 p1 S Q) : zs_U (zx σ n0 bf) d 8108 33 [(0, .ref p0), (1, .int p1)] [] S Q := by
  unfold w_X9_spanHigh_33 at h
  refine zu_iconst d_8108_33 zi_1 ?_
  refine zu_goto (t := 38) d_8108_34 rfl ?_
  exact (u_X9_spanHigh_38 hB h).weak ⟨rfl, rfl, trivial⟩
def w_X9_spanHigh_37 (X : zs_X) (d : Nat) (p0 : Nat) (p1 : Int32) (S : zs_T) (Q : zs_Q) : Prop :=
  (w_X9_spanHigh_38 X d p0 p1 (0 : Int32) S Q)
theorem u_X9_spanHigh_37 {σ : Nat → Nat} {n0 : Nat} {bf : ab_B} {d : Nat} {p0 : Nat} {p1 : Int32} {S : zs_T} {Q : zs_Q} (hB : zt_B bf) (h : w_X9_spanHigh_37 (zx σ n0 bf) d p0 p1 S Q) : zs_U (zx σ n0 bf) d 8108 37 [(0, .ref p0), (1, .int p1)] [] S Q := by
  unfold w_X9_spanHigh_37 at h
  refine zu_iconst d_8108_37 zi_0 ?_
  exact (u_X9_spanHigh_38 hB h).weak ⟨rfl, rfl, trivial⟩
def w_X9_spanHigh (X : zs_X) (d : Nat) (p0 : Nat) (p1 : Int32) (S : zs_T) (Q : zs_Q) : Prop :=
  (zs_K S p0 = some (.inl 8) ∧ zs_C X d 8100 [.ref p0, .int p1] S (zs_kI (fun v3 S2 => (((¬ v3 = 0 → (zs_K S2 p0 = some (.inl 8) ∧ zs_C X d 8101 [.ref p0] S2 (zs_kI (fun v7 S6 => (((¬ v7 = 0 → w_X9_spanHigh_33 X d p0 p1 S6 Q) ∧ (¬ (¬ v7 = 0) → (zs_K S6 p0 = some (.inl 8) ∧ ∃ b10, (zs_R S6 8094 p0) = some b10 ∧ zs_A S6 b10 0 ((zs_I S6 8097 p0) - (2 : Int32)) ∧ ((((zs_i S6 b10 ((zs_I S6 8097 p0) - (2 : Int32)).toNatClampNeg) &&& (16 : Int32)) = 0 → w_X9_spanHigh_37 X d p0 p1 S6 Q) ∧ (¬ (((zs_i S6 b10 ((zs_I S6 8097 p0) - (2 : Int32)).toNatClampNeg) &&& (16 : Int32)) = 0) → w_X9_spanHigh_33 X d p0 p1 S6 Q))))))) Q))) ∧ (¬ (¬ v3 = 0) → (Q (.returned none) S2))))) Q))
theorem u_X9_spanHigh {σ : Nat → Nat} {n0 : Nat} {bf : ab_B} {d : Nat} {p0 : Nat} {p1 : Int32} {S : zs_T} {Q : zs_Q} (hB : zt_B bf) (hd : 1 ≤ d) (h : w_X9_spanHigh (zx σ n0 bf) (d - 1) p0 p1 S Q) : zs_C (zx σ n0 bf) d 8108 [.ref p0, .int p1] S Q := by
  have hL : lv_args 0 [.ref p0, .int p1] = [(0, .ref p0), (1, .int p1)] := rfl
  refine zs_C.of1 (hB.2 8108 (by decide) (by decide)) hd (by rw [hL]; exact zs_sub_self _ (by exact ⟨rfl, rfl, trivial⟩)) ?_
  rw [hL]
  clear hL
  unfold w_X9_spanHigh at h
  refine zu_aload_n d_8108_0 rfl (zs_ra _) ?_
  refine zu_iload_n d_8108_1 rfl ?_
  obtain ⟨k1, h⟩ := h
  refine zc_8_884 (x0 := p1) hB rfl k1 d_8108_2 (Nat.le_of_ble_eq_true rfl) h (fun v3 S2 h => ?_)
  refine zu_ifne (t := 9) d_8108_5 rfl (fun c4 => ?_) (fun c4 => ?_)
  · have h := h.1 c4
    refine zu_aload_n d_8108_9 rfl (zs_ra _) ?_
    obtain ⟨k5, h⟩ := h
    refine zc_8_877  hB rfl k5 d_8108_10 (Nat.le_of_ble_eq_true rfl) h (fun v7 S6 h => ?_)
    refine zu_ifne (t := 33) d_8108_13 rfl (fun c8 => ?_) (fun c8 => ?_)
    · have h := h.1 c8
      exact (u_X9_spanHigh_33 hB h).weak ⟨rfl, rfl, trivial⟩
    · have h := h.2 c8
      refine zu_aload_n d_8108_16 rfl (zs_ra _) ?_
      obtain ⟨k9, h⟩ := h
      refine zg_8_200 rfl d_8108_17 k9 ?_
      refine zu_aload_n d_8108_20 rfl (zs_ra _) ?_
      refine zg_8_653 rfl d_8108_21 k9 ?_
      refine zu_iconst d_8108_24 zi_2 ?_
      refine zu_stk d_8108_25 rfl rfl ?_
      obtain ⟨b10, e11, h⟩ := h
      refine zs_stk1 (zs_rfe e11) ?_
      obtain ⟨k12, h⟩ := h
      refine zu_iald (k := 0) d_8108_26 rfl rfl k12 ?_
      refine zu_bipush d_8108_27 zj_16 ?_
      refine zu_stk d_8108_29 rfl rfl ?_
      refine zu_ifeq (t := 37) d_8108_30 rfl (fun c13 => ?_) (fun c13 => ?_)
      · have h := h.1 c13
        exact (u_X9_spanHigh_37 hB h).weak ⟨rfl, rfl, trivial⟩
      · have h := h.2 c13
        exact (u_X9_spanHigh_33 hB h).weak ⟨rfl, rfl, trivial⟩
  · have h := h.2 c4
    exact zu_vret d_8108_8 zr_8108 h
/-! SchemaPascalModel.isOut(I)Z -/
theorem zm_8109 {σ : Nat → Nat} {n0 : Nat} {bf : ab_B} : ab_code (zx σ n0 bf).1 8109 = prog_17_method_107_code := rfl
theorem zq_8109 {σ : Nat → Nat} {n0 : Nat} {bf : ab_B} : ab_maxL (zx σ n0 bf).1 8109 = 4 := rfl
theorem zr_8109 {σ : Nat → Nat} {n0 : Nat} {bf : ab_B} : ab_ret (zx σ n0 bf).1 8109 = (Option.some Jvm.ClassFile.FieldType.boolean) := rfl
theorem d_8109_0 {σ : Nat → Nat} {n0 : Nat} {bf : ab_B} : decode (ab_code (zx σ n0 bf).1 8109) 0 = .ok (.aload_n 0, 1) := zd zm_8109 (by decide +kernel)
theorem d_8109_1 {σ : Nat → Nat} {n0 : Nat} {bf : ab_B} : decode (ab_code (zx σ n0 bf).1 8109) 1 = .ok (.getfield 643, 3) := zd zm_8109 (by decide +kernel)
theorem d_8109_4 {σ : Nat → Nat} {n0 : Nat} {bf : ab_B} : decode (ab_code (zx σ n0 bf).1 8109) 4 = .ok (.iconst 1, 1) := zd zm_8109 (by decide +kernel)
theorem d_8109_5 {σ : Nat → Nat} {n0 : Nat} {bf : ab_B} : decode (ab_code (zx σ n0 bf).1 8109) 5 = .ok (.isub, 1) := zd zm_8109 (by decide +kernel)
theorem d_8109_6 {σ : Nat → Nat} {n0 : Nat} {bf : ab_B} : decode (ab_code (zx σ n0 bf).1 8109) 6 = .ok (.istore_n 2, 1) := zd zm_8109 (by decide +kernel)
theorem d_8109_7 {σ : Nat → Nat} {n0 : Nat} {bf : ab_B} : decode (ab_code (zx σ n0 bf).1 8109) 7 = .ok (.iload_n 2, 1) := zd zm_8109 (by decide +kernel)
theorem d_8109_8 {σ : Nat → Nat} {n0 : Nat} {bf : ab_B} : decode (ab_code (zx σ n0 bf).1 8109) 8 = .ok (.ifCond .le 19, 3) := zd zm_8109 (by decide +kernel)
theorem d_8109_11 {σ : Nat → Nat} {n0 : Nat} {bf : ab_B} : decode (ab_code (zx σ n0 bf).1 8109) 11 = .ok (.aload_n 0, 1) := zd zm_8109 (by decide +kernel)
theorem d_8109_12 {σ : Nat → Nat} {n0 : Nat} {bf : ab_B} : decode (ab_code (zx σ n0 bf).1 8109) 12 = .ok (.getfield 179, 3) := zd zm_8109 (by decide +kernel)
theorem d_8109_15 {σ : Nat → Nat} {n0 : Nat} {bf : ab_B} : decode (ab_code (zx σ n0 bf).1 8109) 15 = .ok (.iload_n 2, 1) := zd zm_8109 (by decide +kernel)
theorem d_8109_16 {σ : Nat → Nat} {n0 : Nat} {bf : ab_B} : decode (ab_code (zx σ n0 bf).1 8109) 16 = .ok (.iaload, 1) := zd zm_8109 (by decide +kernel)
theorem d_8109_17 {σ : Nat → Nat} {n0 : Nat} {bf : ab_B} : decode (ab_code (zx σ n0 bf).1 8109) 17 = .ok (.iconst 1, 1) := zd zm_8109 (by decide +kernel)
theorem d_8109_18 {σ : Nat → Nat} {n0 : Nat} {bf : ab_B} : decode (ab_code (zx σ n0 bf).1 8109) 18 = .ok (.if_icmp .ne 9, 3) := zd zm_8109 (by decide +kernel)
theorem d_8109_21 {σ : Nat → Nat} {n0 : Nat} {bf : ab_B} : decode (ab_code (zx σ n0 bf).1 8109) 21 = .ok (.iinc 2 (-1), 3) := zd zm_8109 (by decide +kernel)
theorem d_8109_24 {σ : Nat → Nat} {n0 : Nat} {bf : ab_B} : decode (ab_code (zx σ n0 bf).1 8109) 24 = .ok (.goto (-17), 3) := zd zm_8109 (by decide +kernel)
theorem d_8109_27 {σ : Nat → Nat} {n0 : Nat} {bf : ab_B} : decode (ab_code (zx σ n0 bf).1 8109) 27 = .ok (.aload_n 0, 1) := zd zm_8109 (by decide +kernel)
theorem d_8109_28 {σ : Nat → Nat} {n0 : Nat} {bf : ab_B} : decode (ab_code (zx σ n0 bf).1 8109) 28 = .ok (.getfield 179, 3) := zd zm_8109 (by decide +kernel)
theorem d_8109_31 {σ : Nat → Nat} {n0 : Nat} {bf : ab_B} : decode (ab_code (zx σ n0 bf).1 8109) 31 = .ok (.iload_n 2, 1) := zd zm_8109 (by decide +kernel)
theorem d_8109_32 {σ : Nat → Nat} {n0 : Nat} {bf : ab_B} : decode (ab_code (zx σ n0 bf).1 8109) 32 = .ok (.iaload, 1) := zd zm_8109 (by decide +kernel)
theorem d_8109_33 {σ : Nat → Nat} {n0 : Nat} {bf : ab_B} : decode (ab_code (zx σ n0 bf).1 8109) 33 = .ok (.istore_n 3, 1) := zd zm_8109 (by decide +kernel)
theorem d_8109_34 {σ : Nat → Nat} {n0 : Nat} {bf : ab_B} : decode (ab_code (zx σ n0 bf).1 8109) 34 = .ok (.iload_n 3, 1) := zd zm_8109 (by decide +kernel)
theorem d_8109_35 {σ : Nat → Nat} {n0 : Nat} {bf : ab_B} : decode (ab_code (zx σ n0 bf).1 8109) 35 = .ok (.bipush 34, 2) := zd zm_8109 (by decide +kernel)
theorem d_8109_37 {σ : Nat → Nat} {n0 : Nat} {bf : ab_B} : decode (ab_code (zx σ n0 bf).1 8109) 37 = .ok (.if_icmp .eq 9, 3) := zd zm_8109 (by decide +kernel)
theorem d_8109_40 {σ : Nat → Nat} {n0 : Nat} {bf : ab_B} : decode (ab_code (zx σ n0 bf).1 8109) 40 = .ok (.iload_n 3, 1) := zd zm_8109 (by decide +kernel)
theorem d_8109_41 {σ : Nat → Nat} {n0 : Nat} {bf : ab_B} : decode (ab_code (zx σ n0 bf).1 8109) 41 = .ok (.bipush 36, 2) := zd zm_8109 (by decide +kernel)
theorem d_8109_43 {σ : Nat → Nat} {n0 : Nat} {bf : ab_B} : decode (ab_code (zx σ n0 bf).1 8109) 43 = .ok (.if_icmp .ne 11, 3) := zd zm_8109 (by decide +kernel)
theorem d_8109_46 {σ : Nat → Nat} {n0 : Nat} {bf : ab_B} : decode (ab_code (zx σ n0 bf).1 8109) 46 = .ok (.aload_n 0, 1) := zd zm_8109 (by decide +kernel)
theorem d_8109_47 {σ : Nat → Nat} {n0 : Nat} {bf : ab_B} : decode (ab_code (zx σ n0 bf).1 8109) 47 = .ok (.iload_n 1, 1) := zd zm_8109 (by decide +kernel)
theorem d_8109_48 {σ : Nat → Nat} {n0 : Nat} {bf : ab_B} : decode (ab_code (zx σ n0 bf).1 8109) 48 = .ok (.invokevirtual 564, 3) := zd zm_8109 (by decide +kernel)
theorem d_8109_51 {σ : Nat → Nat} {n0 : Nat} {bf : ab_B} : decode (ab_code (zx σ n0 bf).1 8109) 51 = .ok (.ifCond .eq 31, 3) := zd zm_8109 (by decide +kernel)
theorem d_8109_54 {σ : Nat → Nat} {n0 : Nat} {bf : ab_B} : decode (ab_code (zx σ n0 bf).1 8109) 54 = .ok (.iload_n 3, 1) := zd zm_8109 (by decide +kernel)
theorem d_8109_55 {σ : Nat → Nat} {n0 : Nat} {bf : ab_B} : decode (ab_code (zx σ n0 bf).1 8109) 55 = .ok (.bipush 65, 2) := zd zm_8109 (by decide +kernel)
theorem d_8109_57 {σ : Nat → Nat} {n0 : Nat} {bf : ab_B} : decode (ab_code (zx σ n0 bf).1 8109) 57 = .ok (.if_icmp .ne 29, 3) := zd zm_8109 (by decide +kernel)
theorem d_8109_60 {σ : Nat → Nat} {n0 : Nat} {bf : ab_B} : decode (ab_code (zx σ n0 bf).1 8109) 60 = .ok (.aload_n 0, 1) := zd zm_8109 (by decide +kernel)
theorem d_8109_61 {σ : Nat → Nat} {n0 : Nat} {bf : ab_B} : decode (ab_code (zx σ n0 bf).1 8109) 61 = .ok (.getfield 90, 3) := zd zm_8109 (by decide +kernel)
theorem d_8109_64 {σ : Nat → Nat} {n0 : Nat} {bf : ab_B} : decode (ab_code (zx σ n0 bf).1 8109) 64 = .ok (.iload_n 1, 1) := zd zm_8109 (by decide +kernel)
theorem d_8109_65 {σ : Nat → Nat} {n0 : Nat} {bf : ab_B} : decode (ab_code (zx σ n0 bf).1 8109) 65 = .ok (.baload, 1) := zd zm_8109 (by decide +kernel)
theorem d_8109_66 {σ : Nat → Nat} {n0 : Nat} {bf : ab_B} : decode (ab_code (zx σ n0 bf).1 8109) 66 = .ok (.bipush 8, 2) := zd zm_8109 (by decide +kernel)
theorem d_8109_68 {σ : Nat → Nat} {n0 : Nat} {bf : ab_B} : decode (ab_code (zx σ n0 bf).1 8109) 68 = .ok (.if_icmp .eq 18, 3) := zd zm_8109 (by decide +kernel)
theorem d_8109_71 {σ : Nat → Nat} {n0 : Nat} {bf : ab_B} : decode (ab_code (zx σ n0 bf).1 8109) 71 = .ok (.aload_n 0, 1) := zd zm_8109 (by decide +kernel)
theorem d_8109_72 {σ : Nat → Nat} {n0 : Nat} {bf : ab_B} : decode (ab_code (zx σ n0 bf).1 8109) 72 = .ok (.getfield 90, 3) := zd zm_8109 (by decide +kernel)
theorem d_8109_75 {σ : Nat → Nat} {n0 : Nat} {bf : ab_B} : decode (ab_code (zx σ n0 bf).1 8109) 75 = .ok (.iload_n 1, 1) := zd zm_8109 (by decide +kernel)
theorem d_8109_76 {σ : Nat → Nat} {n0 : Nat} {bf : ab_B} : decode (ab_code (zx σ n0 bf).1 8109) 76 = .ok (.baload, 1) := zd zm_8109 (by decide +kernel)
theorem d_8109_77 {σ : Nat → Nat} {n0 : Nat} {bf : ab_B} : decode (ab_code (zx σ n0 bf).1 8109) 77 = .ok (.bipush 9, 2) := zd zm_8109 (by decide +kernel)
theorem d_8109_79 {σ : Nat → Nat} {n0 : Nat} {bf : ab_B} : decode (ab_code (zx σ n0 bf).1 8109) 79 = .ok (.if_icmp .eq 7, 3) := zd zm_8109 (by decide +kernel)
theorem d_8109_82 {σ : Nat → Nat} {n0 : Nat} {bf : ab_B} : decode (ab_code (zx σ n0 bf).1 8109) 82 = .ok (.iconst 1, 1) := zd zm_8109 (by decide +kernel)
theorem d_8109_83 {σ : Nat → Nat} {n0 : Nat} {bf : ab_B} : decode (ab_code (zx σ n0 bf).1 8109) 83 = .ok (.goto 4, 3) := zd zm_8109 (by decide +kernel)
theorem d_8109_86 {σ : Nat → Nat} {n0 : Nat} {bf : ab_B} : decode (ab_code (zx σ n0 bf).1 8109) 86 = .ok (.iconst 0, 1) := zd zm_8109 (by decide +kernel)
theorem d_8109_87 {σ : Nat → Nat} {n0 : Nat} {bf : ab_B} : decode (ab_code (zx σ n0 bf).1 8109) 87 = .ok (.ireturn, 1) := zd zm_8109 (by decide +kernel)
def w_X9_isOut_54 (X : zs_X) (d : Nat) (p0 : Nat) (p1 : Int32) (p3 : Int32) (S : zs_T) (Q : zs_Q) : Prop :=
  (((¬ p3 = (65 : Int32) → (Q (.returned (some (.int (0 : Int32)))) S)) ∧ (¬ (¬ p3 = (65 : Int32)) → (zs_K S p0 = some (.inl 8) ∧ ∃ b3, (zs_R S 8044 p0) = some b3 ∧ zs_A S b3 1 p1 ∧ (((zs_i S b3 p1.toNatClampNeg) = (8 : Int32) → (Q (.returned (some (.int (0 : Int32)))) S)) ∧ (¬ ((zs_i S b3 p1.toNatClampNeg) = (8 : Int32)) → ((((zs_i S b3 p1.toNatClampNeg) = (9 : Int32) → (Q (.returned (some (.int (0 : Int32)))) S)) ∧ (¬ ((zs_i S b3 p1.toNatClampNeg) = (9 : Int32)) → (Q (.returned (some (.int (1 : Int32)))) S))))))))))
theorem u_X9_isOut_54 {σ : Nat → Nat} {n0 : Nat} {bf : ab_B} {d : Nat} {p0 : Nat} {p1 : Int32} {p3 : Int32} {S : zs_T} {Q : zs_Q} (hB : zt_B bf) (h : w_X9_isOut_54 (zx σ n0 bf) d p0 p1 p3 S Q) : zs_U (zx σ n0 bf) d 8109 54 [(0, .ref p0), (1, .int p1), (3, .int p3)] [] S Q := by
  unfold w_X9_isOut_54 at h
  refine zu_iload_n d_8109_54 rfl ?_
  refine zu_bipush d_8109_55 zj_65 ?_
  refine zu_cmpne (t := 86) d_8109_57 rfl (fun c1 => ?_) (fun c1 => ?_)
  · have h := h.1 c1
    refine zu_iconst d_8109_86 zi_0 ?_
    exact zu_iret d_8109_87 zr_8109 (zs_b_n (Or.inl rfl)) h
  · have h := h.2 c1
    refine zu_aload_n d_8109_60 rfl (zs_ra _) ?_
    obtain ⟨k2, h⟩ := h
    refine zg_8_90 rfl d_8109_61 k2 ?_
    refine zu_iload_n d_8109_64 rfl ?_
    obtain ⟨b3, e4, h⟩ := h
    refine zs_stk1 (zs_rfe e4) ?_
    obtain ⟨k5, h⟩ := h
    refine zu_bald (k := 1) d_8109_65 rfl (Or.inl rfl) k5 ?_
    refine zu_bipush d_8109_66 zj_8 ?_
    refine zu_cmpeq (t := 86) d_8109_68 rfl (fun c6 => ?_) (fun c6 => ?_)
    · have h := h.1 c6
      refine zu_iconst d_8109_86 zi_0 ?_
      exact zu_iret d_8109_87 zr_8109 (zs_b_n (Or.inl rfl)) h
    · have h := h.2 c6
      refine zu_aload_n d_8109_71 rfl (zs_ra _) ?_
      refine zg_8_90 rfl d_8109_72 k2 ?_
      refine zu_iload_n d_8109_75 rfl ?_
      refine zs_stk1 (zs_rfe e4) ?_
      refine zu_bald (k := 1) d_8109_76 rfl (Or.inl rfl) k5 ?_
      refine zu_bipush d_8109_77 zj_9 ?_
      refine zu_cmpeq (t := 86) d_8109_79 rfl (fun c7 => ?_) (fun c7 => ?_)
      · have h := h.1 c7
        refine zu_iconst d_8109_86 zi_0 ?_
        exact zu_iret d_8109_87 zr_8109 (zs_b_n (Or.inl rfl)) h
      · have h := h.2 c7
        refine zu_iconst d_8109_82 zi_1 ?_
        refine zu_goto (t := 87) d_8109_83 rfl ?_
        exact zu_iret d_8109_87 zr_8109 (zs_b_n (Or.inr rfl)) h
def w_X9_isOut_46 (X : zs_X) (d : Nat) (p0 : Nat) (p1 : Int32) (p3 : Int32) (S : zs_T) (Q : zs_Q) : Prop :=
  (zs_K S p0 = some (.inl 8) ∧ zs_C X d 8036 [.ref p0, .int p1] S (zs_kI (fun v3 S2 => (((v3 = 0 → (Q (.returned (some (.int (1 : Int32)))) S2)) ∧ (¬ (v3 = 0) → w_X9_isOut_54 X d p0 p1 p3 S2 Q)))) Q))
theorem u_X9_isOut_46 {σ : Nat → Nat} {n0 : Nat} {bf : ab_B} {d : Nat} {p0 : Nat} {p1 : Int32} {p3 : Int32} {S : zs_T} {Q : zs_Q} (hB : zt_B bf) (h : w_X9_isOut_46 (zx σ n0 bf) d p0 p1 p3 S Q) : zs_U (zx σ n0 bf) d 8109 46 [(0, .ref p0), (1, .int p1), (3, .int p3)] [] S Q := by
  unfold w_X9_isOut_46 at h
  refine zu_aload_n d_8109_46 rfl (zs_ra _) ?_
  refine zu_iload_n d_8109_47 rfl ?_
  obtain ⟨k1, h⟩ := h
  refine zc_8_564 (x0 := p1) hB rfl k1 d_8109_48 (Nat.le_of_ble_eq_true rfl) h (fun v3 S2 h => ?_)
  refine zu_ifeq (t := 82) d_8109_51 rfl (fun c4 => ?_) (fun c4 => ?_)
  · have h := h.1 c4
    refine zu_iconst d_8109_82 zi_1 ?_
    refine zu_goto (t := 87) d_8109_83 rfl ?_
    exact zu_iret d_8109_87 zr_8109 (zs_b_n (Or.inr rfl)) h
  · have h := h.2 c4
    exact (u_X9_isOut_54 hB h).weak ⟨rfl, rfl, rfl, trivial⟩
def w_X9_isOut_27 (X : zs_X) (d : Nat) (p0 : Nat) (p1 : Int32) (p2 : Int32) (S : zs_T) (Q : zs_Q) : Prop :=
  (zs_K S p0 = some (.inl 8) ∧ ∃ b2, (zs_R S 8085 p0) = some b2 ∧ zs_A S b2 0 p2 ∧ (((zs_i S b2 p2.toNatClampNeg) = (34 : Int32) → w_X9_isOut_46 X d p0 p1 (zs_i S b2 p2.toNatClampNeg) S Q) ∧ (¬ ((zs_i S b2 p2.toNatClampNeg) = (34 : Int32)) → (((¬ (zs_i S b2 p2.toNatClampNeg) = (36 : Int32) → w_X9_isOut_54 X d p0 p1 (zs_i S b2 p2.toNatClampNeg) S Q) ∧ (¬ (¬ (zs_i S b2 p2.toNatClampNeg) = (36 : Int32)) → w_X9_isOut_46 X d p0 p1 (zs_i S b2 p2.toNatClampNeg) S Q))))))
theorem u_X9_isOut_27 {σ : Nat → Nat} {n0 : Nat} {bf : ab_B} {d : Nat} {p0 : Nat} {p1 : Int32} {p2 : Int32} {S : zs_T} {Q : zs_Q} (hB : zt_B bf) (h : w_X9_isOut_27 (zx σ n0 bf) d p0 p1 p2 S Q) : zs_U (zx σ n0 bf) d 8109 27 [(0, .ref p0), (1, .int p1), (2, .int p2)] [] S Q := by
  unfold w_X9_isOut_27 at h
  refine zu_aload_n d_8109_27 rfl (zs_ra _) ?_
  obtain ⟨k1, h⟩ := h
  refine zg_8_179 rfl d_8109_28 k1 ?_
  refine zu_iload_n d_8109_31 rfl ?_
  obtain ⟨b2, e3, h⟩ := h
  refine zs_stk1 (zs_rfe e3) ?_
  obtain ⟨k4, h⟩ := h
  refine zu_iald (k := 0) d_8109_32 rfl rfl k4 ?_
  refine zu_istore_n d_8109_33 (zs_lt zq_8109 rfl) ?_
  refine zu_iload_n d_8109_34 rfl ?_
  refine zu_bipush d_8109_35 zj_34 ?_
  refine zu_cmpeq (t := 46) d_8109_37 rfl (fun c5 => ?_) (fun c5 => ?_)
  · have h := h.1 c5
    exact (u_X9_isOut_46 hB h).weak ⟨rfl, rfl, rfl, trivial⟩
  · have h := h.2 c5
    refine zu_iload_n d_8109_40 rfl ?_
    refine zu_bipush d_8109_41 zj_36 ?_
    refine zu_cmpne (t := 54) d_8109_43 rfl (fun c6 => ?_) (fun c6 => ?_)
    · have h := h.1 c6
      exact (u_X9_isOut_54 hB h).weak ⟨rfl, rfl, rfl, trivial⟩
    · have h := h.2 c6
      exact (u_X9_isOut_46 hB h).weak ⟨rfl, rfl, rfl, trivial⟩
def w_X9_isOut_7 (X : zs_X) (d : Nat) (p0 : Nat) (p1 : Int32) (p2 : Int32) (S : zs_T) (Q : zs_Q) : Prop :=
  (((p2 ≤ 0 → w_X9_isOut_27 X d p0 p1 p2 S Q) ∧ (¬ (p2 ≤ 0) → (zs_K S p0 = some (.inl 8) ∧ ∃ b3, (zs_R S 8085 p0) = some b3 ∧ zs_A S b3 0 p2 ∧ ((¬ (zs_i S b3 p2.toNatClampNeg) = (1 : Int32) → w_X9_isOut_27 X d p0 p1 p2 S Q) ∧ (¬ (¬ (zs_i S b3 p2.toNatClampNeg) = (1 : Int32)) → (zs_U X d 8109 7 [(0, .ref p0), (1, .int p1), (2, .int (p2 + (-1 : Int32)))] [] S Q)))))))
theorem u_X9_isOut_7 {σ : Nat → Nat} {n0 : Nat} {bf : ab_B} {d : Nat} {p0 : Nat} {p1 : Int32} {p2 : Int32} {S : zs_T} {Q : zs_Q} (hB : zt_B bf) (h : w_X9_isOut_7 (zx σ n0 bf) d p0 p1 p2 S Q) : zs_U (zx σ n0 bf) d 8109 7 [(0, .ref p0), (1, .int p1), (2, .int p2)] [] S Q := by
  unfold w_X9_isOut_7 at h
  refine zu_iload_n d_8109_7 rfl ?_
  refine zu_ifle (t := 27) d_8109_8 rfl (fun c1 => ?_) (fun c1 => ?_)
  · have h := h.1 c1
    exact (u_X9_isOut_27 hB h).weak ⟨rfl, rfl, rfl, trivial⟩
  · have h := h.2 c1
    refine zu_aload_n d_8109_11 rfl (zs_ra _) ?_
    obtain ⟨k2, h⟩ := h
    refine zg_8_179 rfl d_8109_12 k2 ?_
    refine zu_iload_n d_8109_15 rfl ?_
    obtain ⟨b3, e4, h⟩ := h
    refine zs_stk1 (zs_rfe e4) ?_
    obtain ⟨k5, h⟩ := h
    refine zu_iald (k := 0) d_8109_16 rfl rfl k5 ?_
    refine zu_iconst d_8109_17 zi_1 ?_
    refine zu_cmpne (t := 27) d_8109_18 rfl (fun c6 => ?_) (fun c6 => ?_)
    · have h := h.1 c6
      exact (u_X9_isOut_27 hB h).weak ⟨rfl, rfl, rfl, trivial⟩
    · have h := h.2 c6
      refine zu_iinc d_8109_21 rfl zi_m1 (zs_lt zq_8109 rfl) ?_
      refine zu_goto (t := 7) d_8109_24 rfl ?_
      exact h.weak ⟨rfl, rfl, rfl, trivial⟩
def w_X9_isOut (X : zs_X) (d : Nat) (p0 : Nat) (p1 : Int32) (S : zs_T) (Q : zs_Q) : Prop :=
  (zs_K S p0 = some (.inl 8) ∧ zs_U X d 8109 7 [(0, .ref p0), (1, .int p1), (2, .int ((zs_I S 8089 p0) - (1 : Int32)))] [] S Q)
theorem u_X9_isOut {σ : Nat → Nat} {n0 : Nat} {bf : ab_B} {d : Nat} {p0 : Nat} {p1 : Int32} {S : zs_T} {Q : zs_Q} (hB : zt_B bf) (hd : 1 ≤ d) (h : w_X9_isOut (zx σ n0 bf) (d - 1) p0 p1 S Q) : zs_C (zx σ n0 bf) d 8109 [.ref p0, .int p1] S Q := by
  have hL : lv_args 0 [.ref p0, .int p1] = [(0, .ref p0), (1, .int p1)] := rfl
  refine zs_C.of1 (hB.2 8109 (by decide) (by decide)) hd (by rw [hL]; exact zs_sub_self _ (by exact ⟨rfl, rfl, trivial⟩)) ?_
  rw [hL]
  clear hL
  unfold w_X9_isOut at h
  refine zu_aload_n d_8109_0 rfl (zs_ra _) ?_
  obtain ⟨k1, h⟩ := h
  refine zg_8_643 rfl d_8109_1 k1 ?_
  refine zu_iconst d_8109_4 zi_1 ?_
  refine zu_stk d_8109_5 rfl rfl ?_
  refine zu_istore_n d_8109_6 (zs_lt zq_8109 rfl) ?_
  exact h.weak ⟨rfl, rfl, rfl, trivial⟩
/-! SchemaPascalModel.arrayIndex(I)V -/
theorem zm_8110 {σ : Nat → Nat} {n0 : Nat} {bf : ab_B} : ab_code (zx σ n0 bf).1 8110 = prog_17_method_119_code := rfl
theorem zq_8110 {σ : Nat → Nat} {n0 : Nat} {bf : ab_B} : ab_maxL (zx σ n0 bf).1 8110 = 3 := rfl
theorem zr_8110 {σ : Nat → Nat} {n0 : Nat} {bf : ab_B} : ab_ret (zx σ n0 bf).1 8110 = (Option.none : Option Jvm.ClassFile.FieldType) := rfl
theorem d_8110_0 {σ : Nat → Nat} {n0 : Nat} {bf : ab_B} : decode (ab_code (zx σ n0 bf).1 8110) 0 = .ok (.aload_n 0, 1) := zd zm_8110 (by decide +kernel)
theorem d_8110_1 {σ : Nat → Nat} {n0 : Nat} {bf : ab_B} : decode (ab_code (zx σ n0 bf).1 8110) 1 = .ok (.getfield 444, 3) := zd zm_8110 (by decide +kernel)
theorem d_8110_4 {σ : Nat → Nat} {n0 : Nat} {bf : ab_B} : decode (ab_code (zx σ n0 bf).1 8110) 4 = .ok (.ifCond .le 4, 3) := zd zm_8110 (by decide +kernel)
theorem d_8110_7 {σ : Nat → Nat} {n0 : Nat} {bf : ab_B} : decode (ab_code (zx σ n0 bf).1 8110) 7 = .ok (.return_, 1) := zd zm_8110 (by decide +kernel)
theorem d_8110_8 {σ : Nat → Nat} {n0 : Nat} {bf : ab_B} : decode (ab_code (zx σ n0 bf).1 8110) 8 = .ok (.aload_n 0, 1) := zd zm_8110 (by decide +kernel)
theorem d_8110_9 {σ : Nat → Nat} {n0 : Nat} {bf : ab_B} : decode (ab_code (zx σ n0 bf).1 8110) 9 = .ok (.getfield 278, 3) := zd zm_8110 (by decide +kernel)
theorem d_8110_12 {σ : Nat → Nat} {n0 : Nat} {bf : ab_B} : decode (ab_code (zx σ n0 bf).1 8110) 12 = .ok (.aload_n 0, 1) := zd zm_8110 (by decide +kernel)
theorem d_8110_13 {σ : Nat → Nat} {n0 : Nat} {bf : ab_B} : decode (ab_code (zx σ n0 bf).1 8110) 13 = .ok (.getfield 831, 3) := zd zm_8110 (by decide +kernel)
theorem d_8110_16 {σ : Nat → Nat} {n0 : Nat} {bf : ab_B} : decode (ab_code (zx σ n0 bf).1 8110) 16 = .ok (.iconst 1, 1) := zd zm_8110 (by decide +kernel)
theorem d_8110_17 {σ : Nat → Nat} {n0 : Nat} {bf : ab_B} : decode (ab_code (zx σ n0 bf).1 8110) 17 = .ok (.isub, 1) := zd zm_8110 (by decide +kernel)
theorem d_8110_18 {σ : Nat → Nat} {n0 : Nat} {bf : ab_B} : decode (ab_code (zx σ n0 bf).1 8110) 18 = .ok (.iaload, 1) := zd zm_8110 (by decide +kernel)
theorem d_8110_19 {σ : Nat → Nat} {n0 : Nat} {bf : ab_B} : decode (ab_code (zx σ n0 bf).1 8110) 19 = .ok (.istore_n 2, 1) := zd zm_8110 (by decide +kernel)
theorem d_8110_20 {σ : Nat → Nat} {n0 : Nat} {bf : ab_B} : decode (ab_code (zx σ n0 bf).1 8110) 20 = .ok (.aload_n 0, 1) := zd zm_8110 (by decide +kernel)
theorem d_8110_21 {σ : Nat → Nat} {n0 : Nat} {bf : ab_B} : decode (ab_code (zx σ n0 bf).1 8110) 21 = .ok (.iload_n 2, 1) := zd zm_8110 (by decide +kernel)
theorem d_8110_22 {σ : Nat → Nat} {n0 : Nat} {bf : ab_B} : decode (ab_code (zx σ n0 bf).1 8110) 22 = .ok (.invokevirtual 564, 3) := zd zm_8110 (by decide +kernel)
theorem d_8110_25 {σ : Nat → Nat} {n0 : Nat} {bf : ab_B} : decode (ab_code (zx σ n0 bf).1 8110) 25 = .ok (.ifCond .ne 9, 3) := zd zm_8110 (by decide +kernel)
theorem d_8110_28 {σ : Nat → Nat} {n0 : Nat} {bf : ab_B} : decode (ab_code (zx σ n0 bf).1 8110) 28 = .ok (.aload_n 0, 1) := zd zm_8110 (by decide +kernel)
theorem d_8110_29 {σ : Nat → Nat} {n0 : Nat} {bf : ab_B} : decode (ab_code (zx σ n0 bf).1 8110) 29 = .ok (.iconst 5, 1) := zd zm_8110 (by decide +kernel)
theorem d_8110_30 {σ : Nat → Nat} {n0 : Nat} {bf : ab_B} : decode (ab_code (zx σ n0 bf).1 8110) 30 = .ok (.invokevirtual 541, 3) := zd zm_8110 (by decide +kernel)
theorem d_8110_33 {σ : Nat → Nat} {n0 : Nat} {bf : ab_B} : decode (ab_code (zx σ n0 bf).1 8110) 33 = .ok (.return_, 1) := zd zm_8110 (by decide +kernel)
theorem d_8110_34 {σ : Nat → Nat} {n0 : Nat} {bf : ab_B} : decode (ab_code (zx σ n0 bf).1 8110) 34 = .ok (.aload_n 0, 1) := zd zm_8110 (by decide +kernel)
theorem d_8110_35 {σ : Nat → Nat} {n0 : Nat} {bf : ab_B} : decode (ab_code (zx σ n0 bf).1 8110) 35 = .ok (.getfield 105, 3) := zd zm_8110 (by decide +kernel)
theorem d_8110_38 {σ : Nat → Nat} {n0 : Nat} {bf : ab_B} : decode (ab_code (zx σ n0 bf).1 8110) 38 = .ok (.iload_n 2, 1) := zd zm_8110 (by decide +kernel)
theorem d_8110_39 {σ : Nat → Nat} {n0 : Nat} {bf : ab_B} : decode (ab_code (zx σ n0 bf).1 8110) 39 = .ok (.baload, 1) := zd zm_8110 (by decide +kernel)
theorem d_8110_40 {σ : Nat → Nat} {n0 : Nat} {bf : ab_B} : decode (ab_code (zx σ n0 bf).1 8110) 40 = .ok (.ifCond .ne 30, 3) := zd zm_8110 (by decide +kernel)
theorem d_8110_43 {σ : Nat → Nat} {n0 : Nat} {bf : ab_B} : decode (ab_code (zx σ n0 bf).1 8110) 43 = .ok (.aload_n 0, 1) := zd zm_8110 (by decide +kernel)
theorem d_8110_44 {σ : Nat → Nat} {n0 : Nat} {bf : ab_B} : decode (ab_code (zx σ n0 bf).1 8110) 44 = .ok (.iload_n 2, 1) := zd zm_8110 (by decide +kernel)
theorem d_8110_45 {σ : Nat → Nat} {n0 : Nat} {bf : ab_B} : decode (ab_code (zx σ n0 bf).1 8110) 45 = .ok (.invokevirtual 774, 3) := zd zm_8110 (by decide +kernel)
theorem d_8110_48 {σ : Nat → Nat} {n0 : Nat} {bf : ab_B} : decode (ab_code (zx σ n0 bf).1 8110) 48 = .ok (.i2l, 1) := zd zm_8110 (by decide +kernel)
theorem d_8110_49 {σ : Nat → Nat} {n0 : Nat} {bf : ab_B} : decode (ab_code (zx σ n0 bf).1 8110) 49 = .ok (.aload_n 0, 1) := zd zm_8110 (by decide +kernel)
theorem d_8110_50 {σ : Nat → Nat} {n0 : Nat} {bf : ab_B} : decode (ab_code (zx σ n0 bf).1 8110) 50 = .ok (.iload_n 2, 1) := zd zm_8110 (by decide +kernel)
theorem d_8110_51 {σ : Nat → Nat} {n0 : Nat} {bf : ab_B} : decode (ab_code (zx σ n0 bf).1 8110) 51 = .ok (.invokevirtual 789, 3) := zd zm_8110 (by decide +kernel)
theorem d_8110_54 {σ : Nat → Nat} {n0 : Nat} {bf : ab_B} : decode (ab_code (zx σ n0 bf).1 8110) 54 = .ok (.i2l, 1) := zd zm_8110 (by decide +kernel)
theorem d_8110_55 {σ : Nat → Nat} {n0 : Nat} {bf : ab_B} : decode (ab_code (zx σ n0 bf).1 8110) 55 = .ok (.lsub, 1) := zd zm_8110 (by decide +kernel)
theorem d_8110_56 {σ : Nat → Nat} {n0 : Nat} {bf : ab_B} : decode (ab_code (zx σ n0 bf).1 8110) 56 = .ok (.ldc2_w 808, 3) := zd zm_8110 (by decide +kernel)
theorem d_8110_59 {σ : Nat → Nat} {n0 : Nat} {bf : ab_B} : decode (ab_code (zx σ n0 bf).1 8110) 59 = .ok (.lcmp, 1) := zd zm_8110 (by decide +kernel)
theorem d_8110_60 {σ : Nat → Nat} {n0 : Nat} {bf : ab_B} : decode (ab_code (zx σ n0 bf).1 8110) 60 = .ok (.ifCond .lt 10, 3) := zd zm_8110 (by decide +kernel)
theorem d_8110_63 {σ : Nat → Nat} {n0 : Nat} {bf : ab_B} : decode (ab_code (zx σ n0 bf).1 8110) 63 = .ok (.aload_n 0, 1) := zd zm_8110 (by decide +kernel)
theorem d_8110_64 {σ : Nat → Nat} {n0 : Nat} {bf : ab_B} : decode (ab_code (zx σ n0 bf).1 8110) 64 = .ok (.bipush 7, 2) := zd zm_8110 (by decide +kernel)
theorem d_8110_66 {σ : Nat → Nat} {n0 : Nat} {bf : ab_B} : decode (ab_code (zx σ n0 bf).1 8110) 66 = .ok (.invokevirtual 541, 3) := zd zm_8110 (by decide +kernel)
theorem d_8110_69 {σ : Nat → Nat} {n0 : Nat} {bf : ab_B} : decode (ab_code (zx σ n0 bf).1 8110) 69 = .ok (.return_, 1) := zd zm_8110 (by decide +kernel)
theorem d_8110_70 {σ : Nat → Nat} {n0 : Nat} {bf : ab_B} : decode (ab_code (zx σ n0 bf).1 8110) 70 = .ok (.aload_n 0, 1) := zd zm_8110 (by decide +kernel)
theorem d_8110_71 {σ : Nat → Nat} {n0 : Nat} {bf : ab_B} : decode (ab_code (zx σ n0 bf).1 8110) 71 = .ok (.bipush 12, 2) := zd zm_8110 (by decide +kernel)
theorem d_8110_73 {σ : Nat → Nat} {n0 : Nat} {bf : ab_B} : decode (ab_code (zx σ n0 bf).1 8110) 73 = .ok (.invokevirtual 535, 3) := zd zm_8110 (by decide +kernel)
theorem d_8110_76 {σ : Nat → Nat} {n0 : Nat} {bf : ab_B} : decode (ab_code (zx σ n0 bf).1 8110) 76 = .ok (.ifCond .eq 32, 3) := zd zm_8110 (by decide +kernel)
theorem d_8110_79 {σ : Nat → Nat} {n0 : Nat} {bf : ab_B} : decode (ab_code (zx σ n0 bf).1 8110) 79 = .ok (.aload_n 0, 1) := zd zm_8110 (by decide +kernel)
theorem d_8110_80 {σ : Nat → Nat} {n0 : Nat} {bf : ab_B} : decode (ab_code (zx σ n0 bf).1 8110) 80 = .ok (.invokevirtual 538, 3) := zd zm_8110 (by decide +kernel)
theorem d_8110_83 {σ : Nat → Nat} {n0 : Nat} {bf : ab_B} : decode (ab_code (zx σ n0 bf).1 8110) 83 = .ok (.aload_n 0, 1) := zd zm_8110 (by decide +kernel)
theorem d_8110_84 {σ : Nat → Nat} {n0 : Nat} {bf : ab_B} : decode (ab_code (zx σ n0 bf).1 8110) 84 = .ok (.invokevirtual 706, 3) := zd zm_8110 (by decide +kernel)
theorem d_8110_87 {σ : Nat → Nat} {n0 : Nat} {bf : ab_B} : decode (ab_code (zx σ n0 bf).1 8110) 87 = .ok (.aload_n 0, 1) := zd zm_8110 (by decide +kernel)
theorem d_8110_88 {σ : Nat → Nat} {n0 : Nat} {bf : ab_B} : decode (ab_code (zx σ n0 bf).1 8110) 88 = .ok (.bipush 34, 2) := zd zm_8110 (by decide +kernel)
theorem d_8110_90 {σ : Nat → Nat} {n0 : Nat} {bf : ab_B} : decode (ab_code (zx σ n0 bf).1 8110) 90 = .ok (.iload_n 1, 1) := zd zm_8110 (by decide +kernel)
theorem d_8110_91 {σ : Nat → Nat} {n0 : Nat} {bf : ab_B} : decode (ab_code (zx σ n0 bf).1 8110) 91 = .ok (.iconst 1, 1) := zd zm_8110 (by decide +kernel)
theorem d_8110_92 {σ : Nat → Nat} {n0 : Nat} {bf : ab_B} : decode (ab_code (zx σ n0 bf).1 8110) 92 = .ok (.iadd, 1) := zd zm_8110 (by decide +kernel)
theorem d_8110_93 {σ : Nat → Nat} {n0 : Nat} {bf : ab_B} : decode (ab_code (zx σ n0 bf).1 8110) 93 = .ok (.iconst 0, 1) := zd zm_8110 (by decide +kernel)
theorem d_8110_94 {σ : Nat → Nat} {n0 : Nat} {bf : ab_B} : decode (ab_code (zx σ n0 bf).1 8110) 94 = .ok (.iconst 0, 1) := zd zm_8110 (by decide +kernel)
theorem d_8110_95 {σ : Nat → Nat} {n0 : Nat} {bf : ab_B} : decode (ab_code (zx σ n0 bf).1 8110) 95 = .ok (.invokevirtual 649, 3) := zd zm_8110 (by decide +kernel)
theorem d_8110_98 {σ : Nat → Nat} {n0 : Nat} {bf : ab_B} : decode (ab_code (zx σ n0 bf).1 8110) 98 = .ok (.aload_n 0, 1) := zd zm_8110 (by decide +kernel)
theorem d_8110_99 {σ : Nat → Nat} {n0 : Nat} {bf : ab_B} : decode (ab_code (zx σ n0 bf).1 8110) 99 = .ok (.bipush 30, 2) := zd zm_8110 (by decide +kernel)
theorem d_8110_101 {σ : Nat → Nat} {n0 : Nat} {bf : ab_B} : decode (ab_code (zx σ n0 bf).1 8110) 101 = .ok (.iconst 0, 1) := zd zm_8110 (by decide +kernel)
theorem d_8110_102 {σ : Nat → Nat} {n0 : Nat} {bf : ab_B} : decode (ab_code (zx σ n0 bf).1 8110) 102 = .ok (.iconst 0, 1) := zd zm_8110 (by decide +kernel)
theorem d_8110_103 {σ : Nat → Nat} {n0 : Nat} {bf : ab_B} : decode (ab_code (zx σ n0 bf).1 8110) 103 = .ok (.iconst 0, 1) := zd zm_8110 (by decide +kernel)
theorem d_8110_104 {σ : Nat → Nat} {n0 : Nat} {bf : ab_B} : decode (ab_code (zx σ n0 bf).1 8110) 104 = .ok (.invokevirtual 649, 3) := zd zm_8110 (by decide +kernel)
theorem d_8110_107 {σ : Nat → Nat} {n0 : Nat} {bf : ab_B} : decode (ab_code (zx σ n0 bf).1 8110) 107 = .ok (.return_, 1) := zd zm_8110 (by decide +kernel)
theorem d_8110_108 {σ : Nat → Nat} {n0 : Nat} {bf : ab_B} : decode (ab_code (zx σ n0 bf).1 8110) 108 = .ok (.aload_n 0, 1) := zd zm_8110 (by decide +kernel)
theorem d_8110_109 {σ : Nat → Nat} {n0 : Nat} {bf : ab_B} : decode (ab_code (zx σ n0 bf).1 8110) 109 = .ok (.bipush 11, 2) := zd zm_8110 (by decide +kernel)
theorem d_8110_111 {σ : Nat → Nat} {n0 : Nat} {bf : ab_B} : decode (ab_code (zx σ n0 bf).1 8110) 111 = .ok (.invokevirtual 746, 3) := zd zm_8110 (by decide +kernel)
theorem d_8110_114 {σ : Nat → Nat} {n0 : Nat} {bf : ab_B} : decode (ab_code (zx σ n0 bf).1 8110) 114 = .ok (.aload_n 0, 1) := zd zm_8110 (by decide +kernel)
theorem d_8110_115 {σ : Nat → Nat} {n0 : Nat} {bf : ab_B} : decode (ab_code (zx σ n0 bf).1 8110) 115 = .ok (.bipush 21, 2) := zd zm_8110 (by decide +kernel)
theorem d_8110_117 {σ : Nat → Nat} {n0 : Nat} {bf : ab_B} : decode (ab_code (zx σ n0 bf).1 8110) 117 = .ok (.invokevirtual 846, 3) := zd zm_8110 (by decide +kernel)
theorem d_8110_120 {σ : Nat → Nat} {n0 : Nat} {bf : ab_B} : decode (ab_code (zx σ n0 bf).1 8110) 120 = .ok (.aload_n 0, 1) := zd zm_8110 (by decide +kernel)
theorem d_8110_121 {σ : Nat → Nat} {n0 : Nat} {bf : ab_B} : decode (ab_code (zx σ n0 bf).1 8110) 121 = .ok (.bipush 35, 2) := zd zm_8110 (by decide +kernel)
theorem d_8110_123 {σ : Nat → Nat} {n0 : Nat} {bf : ab_B} : decode (ab_code (zx σ n0 bf).1 8110) 123 = .ok (.iload_n 1, 1) := zd zm_8110 (by decide +kernel)
theorem d_8110_124 {σ : Nat → Nat} {n0 : Nat} {bf : ab_B} : decode (ab_code (zx σ n0 bf).1 8110) 124 = .ok (.iconst 0, 1) := zd zm_8110 (by decide +kernel)
theorem d_8110_125 {σ : Nat → Nat} {n0 : Nat} {bf : ab_B} : decode (ab_code (zx σ n0 bf).1 8110) 125 = .ok (.iconst 0, 1) := zd zm_8110 (by decide +kernel)
theorem d_8110_126 {σ : Nat → Nat} {n0 : Nat} {bf : ab_B} : decode (ab_code (zx σ n0 bf).1 8110) 126 = .ok (.invokevirtual 649, 3) := zd zm_8110 (by decide +kernel)
theorem d_8110_129 {σ : Nat → Nat} {n0 : Nat} {bf : ab_B} : decode (ab_code (zx σ n0 bf).1 8110) 129 = .ok (.aload_n 0, 1) := zd zm_8110 (by decide +kernel)
theorem d_8110_130 {σ : Nat → Nat} {n0 : Nat} {bf : ab_B} : decode (ab_code (zx σ n0 bf).1 8110) 130 = .ok (.bipush 30, 2) := zd zm_8110 (by decide +kernel)
theorem d_8110_132 {σ : Nat → Nat} {n0 : Nat} {bf : ab_B} : decode (ab_code (zx σ n0 bf).1 8110) 132 = .ok (.iconst 0, 1) := zd zm_8110 (by decide +kernel)
theorem d_8110_133 {σ : Nat → Nat} {n0 : Nat} {bf : ab_B} : decode (ab_code (zx σ n0 bf).1 8110) 133 = .ok (.iconst 0, 1) := zd zm_8110 (by decide +kernel)
theorem d_8110_134 {σ : Nat → Nat} {n0 : Nat} {bf : ab_B} : decode (ab_code (zx σ n0 bf).1 8110) 134 = .ok (.iconst 0, 1) := zd zm_8110 (by decide +kernel)
theorem d_8110_135 {σ : Nat → Nat} {n0 : Nat} {bf : ab_B} : decode (ab_code (zx σ n0 bf).1 8110) 135 = .ok (.invokevirtual 649, 3) := zd zm_8110 (by decide +kernel)
theorem d_8110_138 {σ : Nat → Nat} {n0 : Nat} {bf : ab_B} : decode (ab_code (zx σ n0 bf).1 8110) 138 = .ok (.return_, 1) := zd zm_8110 (by decide +kernel)
def w_X9_arrayIndex_33 (X : zs_X) (d : Nat)  (S : zs_T) (Q : zs_Q) : Prop :=
  (Q (.returned none) S)
theorem u_X9_arrayIndex_33 {σ : Nat → Nat} {n0 : Nat} {bf : ab_B} {d : Nat}  {S : zs_T} {Q : zs_Q} (hB : zt_B bf) (h : w_X9_arrayIndex_33 (zx σ n0 bf) d  S Q) : zs_U (zx σ n0 bf) d 8110 33 [] [] S Q := by
  unfold w_X9_arrayIndex_33 at h
  exact zu_vret d_8110_33 zr_8110 h
def w_X9_arrayIndex_129 (X : zs_X) (d : Nat) (p0 : Nat) (S : zs_T) (Q : zs_Q) : Prop :=
  (zs_K S p0 = some (.inl 8) ∧ zs_C X d 8030 [.ref p0, .int (30 : Int32), .int (0 : Int32), .int (0 : Int32), .int (0 : Int32)] S (zs_kV (fun S2 => (Q (.returned none) S2)) Q))
theorem u_X9_arrayIndex_129 {σ : Nat → Nat} {n0 : Nat} {bf : ab_B} {d : Nat} {p0 : Nat} {S : zs_T} {Q : zs_Q} (hB : zt_B bf) (h : w_X9_arrayIndex_129 (zx σ n0 bf) d p0 S Q) : zs_U (zx σ n0 bf) d 8110 129 [(0, .ref p0)] [] S Q := by
  unfold w_X9_arrayIndex_129 at h
  refine zu_aload_n d_8110_129 rfl (zs_ra _) ?_
  refine zu_bipush d_8110_130 zj_30 ?_
  refine zu_iconst d_8110_132 zi_0 ?_
  refine zu_iconst d_8110_133 zi_0 ?_
  refine zu_iconst d_8110_134 zi_0 ?_
  obtain ⟨k1, h⟩ := h
  refine zc_8_649 (x0 := (30 : Int32)) (x1 := (0 : Int32)) (x2 := (0 : Int32)) (x3 := (0 : Int32)) hB rfl k1 d_8110_135 (Nat.le_of_ble_eq_true rfl) h (fun S2 h => ?_)
  exact zu_vret d_8110_138 zr_8110 h
def w_X9_arrayIndex_98 (X : zs_X) (d : Nat) (p0 : Nat) (S : zs_T) (Q : zs_Q) : Prop :=
  (zs_K S p0 = some (.inl 8) ∧ zs_C X d 8030 [.ref p0, .int (30 : Int32), .int (0 : Int32), .int (0 : Int32), .int (0 : Int32)] S (zs_kV (fun S2 => (Q (.returned none) S2)) Q))
theorem u_X9_arrayIndex_98 {σ : Nat → Nat} {n0 : Nat} {bf : ab_B} {d : Nat} {p0 : Nat} {S : zs_T} {Q : zs_Q} (hB : zt_B bf) (h : w_X9_arrayIndex_98 (zx σ n0 bf) d p0 S Q) : zs_U (zx σ n0 bf) d 8110 98 [(0, .ref p0)] [] S Q := by
  unfold w_X9_arrayIndex_98 at h
  refine zu_aload_n d_8110_98 rfl (zs_ra _) ?_
  refine zu_bipush d_8110_99 zj_30 ?_
  refine zu_iconst d_8110_101 zi_0 ?_
  refine zu_iconst d_8110_102 zi_0 ?_
  refine zu_iconst d_8110_103 zi_0 ?_
  obtain ⟨k1, h⟩ := h
  refine zc_8_649 (x0 := (30 : Int32)) (x1 := (0 : Int32)) (x2 := (0 : Int32)) (x3 := (0 : Int32)) hB rfl k1 d_8110_104 (Nat.le_of_ble_eq_true rfl) h (fun S2 h => ?_)
  exact zu_vret d_8110_107 zr_8110 h
def w_X9_arrayIndex_70 (X : zs_X) (d : Nat) (p0 : Nat) (p1 : Int32) (S : zs_T) (Q : zs_Q) : Prop :=
  (zs_K S p0 = some (.inl 8) ∧ zs_C X d 8029 [.ref p0, .int (12 : Int32)] S (zs_kI (fun v3 S2 => (((v3 = 0 → (zs_K S2 p0 = some (.inl 8) ∧ zs_C X d 8028 [.ref p0, .int (11 : Int32)] S2 (zs_kV (fun S6 => (zs_K S6 p0 = some (.inl 8) ∧ zs_C X d 8025 [.ref p0, .int (21 : Int32)] S6 (zs_kV (fun S9 => (zs_K S9 p0 = some (.inl 8) ∧ zs_C X d 8030 [.ref p0, .int (35 : Int32), .int p1, .int (0 : Int32), .int (0 : Int32)] S9 (zs_kV (fun S12 => w_X9_arrayIndex_129 X d p0 S12 Q) Q))) Q))) Q))) ∧ (¬ (v3 = 0) → (zs_K S2 p0 = some (.inl 8) ∧ zs_C X d 8014 [.ref p0] S2 (zs_kV (fun S15 => (zs_K S15 p0 = some (.inl 8) ∧ zs_C X d 8060 [.ref p0] S15 (zs_kV (fun S18 => (zs_K S18 p0 = some (.inl 8) ∧ zs_C X d 8030 [.ref p0, .int (34 : Int32), .int (p1 + (1 : Int32)), .int (0 : Int32), .int (0 : Int32)] S18 (zs_kV (fun S21 => w_X9_arrayIndex_98 X d p0 S21 Q) Q))) Q))) Q)))))) Q))
theorem u_X9_arrayIndex_70 {σ : Nat → Nat} {n0 : Nat} {bf : ab_B} {d : Nat} {p0 : Nat} {p1 : Int32} {S : zs_T} {Q : zs_Q} (hB : zt_B bf) (h : w_X9_arrayIndex_70 (zx σ n0 bf) d p0 p1 S Q) : zs_U (zx σ n0 bf) d 8110 70 [(0, .ref p0), (1, .int p1)] [] S Q := by
  unfold w_X9_arrayIndex_70 at h
  refine zu_aload_n d_8110_70 rfl (zs_ra _) ?_
  refine zu_bipush d_8110_71 zj_12 ?_
  obtain ⟨k1, h⟩ := h
  refine zc_8_535 (x0 := (12 : Int32)) hB rfl k1 d_8110_73 (Nat.le_of_ble_eq_true rfl) h (fun v3 S2 h => ?_)
  refine zu_ifeq (t := 108) d_8110_76 rfl (fun c4 => ?_) (fun c4 => ?_)
  · have h := h.1 c4
    refine zu_aload_n d_8110_108 rfl (zs_ra _) ?_
    refine zu_bipush d_8110_109 zj_11 ?_
    obtain ⟨k5, h⟩ := h
    refine zc_8_746 (x0 := (11 : Int32)) hB rfl k5 d_8110_111 (Nat.le_of_ble_eq_true rfl) h (fun S6 h => ?_)
    refine zu_aload_n d_8110_114 rfl (zs_ra _) ?_
    refine zu_bipush d_8110_115 zj_21 ?_
    obtain ⟨k8, h⟩ := h
    refine zc_8_846 (x0 := (21 : Int32)) hB rfl k8 d_8110_117 (Nat.le_of_ble_eq_true rfl) h (fun S9 h => ?_)
    refine zu_aload_n d_8110_120 rfl (zs_ra _) ?_
    refine zu_bipush d_8110_121 zj_35 ?_
    refine zu_iload_n d_8110_123 rfl ?_
    refine zu_iconst d_8110_124 zi_0 ?_
    refine zu_iconst d_8110_125 zi_0 ?_
    obtain ⟨k11, h⟩ := h
    refine zc_8_649 (x0 := (35 : Int32)) (x1 := p1) (x2 := (0 : Int32)) (x3 := (0 : Int32)) hB rfl k11 d_8110_126 (Nat.le_of_ble_eq_true rfl) h (fun S12 h => ?_)
    exact (u_X9_arrayIndex_129 hB h).weak ⟨rfl, trivial⟩
  · have h := h.2 c4
    refine zu_aload_n d_8110_79 rfl (zs_ra _) ?_
    obtain ⟨k14, h⟩ := h
    refine zc_8_538  hB rfl k14 d_8110_80 (Nat.le_of_ble_eq_true rfl) h (fun S15 h => ?_)
    refine zu_aload_n d_8110_83 rfl (zs_ra _) ?_
    obtain ⟨k17, h⟩ := h
    refine zc_8_706  hB rfl k17 d_8110_84 (Nat.le_of_ble_eq_true rfl) h (fun S18 h => ?_)
    refine zu_aload_n d_8110_87 rfl (zs_ra _) ?_
    refine zu_bipush d_8110_88 zj_34 ?_
    refine zu_iload_n d_8110_90 rfl ?_
    refine zu_iconst d_8110_91 zi_1 ?_
    refine zu_stk d_8110_92 rfl rfl ?_
    refine zu_iconst d_8110_93 zi_0 ?_
    refine zu_iconst d_8110_94 zi_0 ?_
    obtain ⟨k20, h⟩ := h
    refine zc_8_649 (x0 := (34 : Int32)) (x1 := (p1 + (1 : Int32))) (x2 := (0 : Int32)) (x3 := (0 : Int32)) hB rfl k20 d_8110_95 (Nat.le_of_ble_eq_true rfl) h (fun S21 h => ?_)
    exact (u_X9_arrayIndex_98 hB h).weak ⟨rfl, trivial⟩
def w_X9_arrayIndex_43 (X : zs_X) (d : Nat) (p0 : Nat) (p1 : Int32) (p2 : Int32) (S : zs_T) (Q : zs_Q) : Prop :=
  (zs_K S p0 = some (.inl 8) ∧ zs_C X d 8088 [.ref p0, .int p2] S (zs_kI (fun v3 S2 => (zs_K S2 p0 = some (.inl 8) ∧ zs_C X d 8111 [.ref p0, .int p2] S2 (zs_kI (fun v6 S5 => ((((((v3).toInt64) - ((v6).toInt64)) < (4000 : Int64) → w_X9_arrayIndex_70 X d p0 p1 S5 Q) ∧ (¬ ((((v3).toInt64) - ((v6).toInt64)) < (4000 : Int64)) → (zs_K S5 p0 = some (.inl 8) ∧ zs_C X d 8027 [.ref p0, .int (7 : Int32)] S5 (zs_kV (fun S9 => (Q (.returned none) S9)) Q)))))) Q))) Q))
theorem u_X9_arrayIndex_43 {σ : Nat → Nat} {n0 : Nat} {bf : ab_B} {d : Nat} {p0 : Nat} {p1 : Int32} {p2 : Int32} {S : zs_T} {Q : zs_Q} (hB : zt_B bf) (h : w_X9_arrayIndex_43 (zx σ n0 bf) d p0 p1 p2 S Q) : zs_U (zx σ n0 bf) d 8110 43 [(0, .ref p0), (1, .int p1), (2, .int p2)] [] S Q := by
  unfold w_X9_arrayIndex_43 at h
  refine zu_aload_n d_8110_43 rfl (zs_ra _) ?_
  refine zu_iload_n d_8110_44 rfl ?_
  obtain ⟨k1, h⟩ := h
  refine zc_8_774 (x0 := p2) hB rfl k1 d_8110_45 (Nat.le_of_ble_eq_true rfl) h (fun v3 S2 h => ?_)
  refine zu_stk d_8110_48 rfl rfl ?_
  refine zu_aload_n d_8110_49 rfl (zs_ra _) ?_
  refine zu_iload_n d_8110_50 rfl ?_
  obtain ⟨k4, h⟩ := h
  refine zc_8_789 (x0 := p2) hB rfl k4 d_8110_51 (Nat.le_of_ble_eq_true rfl) h (fun v6 S5 h => ?_)
  refine zu_stk d_8110_54 rfl rfl ?_
  refine zu_stk d_8110_55 rfl rfl ?_
  refine zl2_8_808 rfl d_8110_56 ?_
  refine zu_llt (t := 70) d_8110_59 d_8110_60 rfl (fun c7 => ?_) (fun c7 => ?_)
  · have h := h.1 c7
    exact (u_X9_arrayIndex_70 hB h).weak ⟨rfl, rfl, trivial⟩
  · have h := h.2 c7
    refine zu_aload_n d_8110_63 rfl (zs_ra _) ?_
    refine zu_bipush d_8110_64 zj_7 ?_
    obtain ⟨k8, h⟩ := h
    refine zc_8_541 (x0 := (7 : Int32)) hB rfl k8 d_8110_66 (Nat.le_of_ble_eq_true rfl) h (fun S9 h => ?_)
    exact zu_vret d_8110_69 zr_8110 h
def w_X9_arrayIndex (X : zs_X) (d : Nat) (p0 : Nat) (p1 : Int32) (S : zs_T) (Q : zs_Q) : Prop :=
  (zs_K S p0 = some (.inl 8) ∧ (((zs_I S 8010 p0) ≤ 0 → (∃ b3, (zs_R S 8128 p0) = some b3 ∧ zs_A S b3 0 ((zs_I S 8129 p0) - (1 : Int32)) ∧ zs_C X d 8036 [.ref p0, .int (zs_i S b3 ((zs_I S 8129 p0) - (1 : Int32)).toNatClampNeg)] S (zs_kI (fun v7 S6 => (((¬ v7 = 0 → (zs_K S6 p0 = some (.inl 8) ∧ ∃ b10, (zs_R S6 8049 p0) = some b10 ∧ zs_A S6 b10 2 (zs_i S b3 ((zs_I S 8129 p0) - (1 : Int32)).toNatClampNeg) ∧ ((¬ (zs_i S6 b10 (zs_i S b3 ((zs_I S 8129 p0) - (1 : Int32)).toNatClampNeg).toNatClampNeg) = 0 → w_X9_arrayIndex_70 X d p0 p1 S6 Q) ∧ (¬ (¬ (zs_i S6 b10 (zs_i S b3 ((zs_I S 8129 p0) - (1 : Int32)).toNatClampNeg).toNatClampNeg) = 0) → w_X9_arrayIndex_43 X d p0 p1 (zs_i S b3 ((zs_I S 8129 p0) - (1 : Int32)).toNatClampNeg) S6 Q)))) ∧ (¬ (¬ v7 = 0) → (zs_K S6 p0 = some (.inl 8) ∧ zs_C X d 8027 [.ref p0, .int (5 : Int32)] S6 (zs_kV (fun S15 => w_X9_arrayIndex_33 X d  S15 Q) Q)))))) Q))) ∧ (¬ ((zs_I S 8010 p0) ≤ 0) → (Q (.returned none) S))))
theorem u_X9_arrayIndex {σ : Nat → Nat} {n0 : Nat} {bf : ab_B} {d : Nat} {p0 : Nat} {p1 : Int32} {S : zs_T} {Q : zs_Q} (hB : zt_B bf) (hd : 1 ≤ d) (h : w_X9_arrayIndex (zx σ n0 bf) (d - 1) p0 p1 S Q) : zs_C (zx σ n0 bf) d 8110 [.ref p0, .int p1] S Q := by
  have hL : lv_args 0 [.ref p0, .int p1] = [(0, .ref p0), (1, .int p1)] := rfl
  refine zs_C.of1 (hB.2 8110 (by decide) (by decide)) hd (by rw [hL]; exact zs_sub_self _ (by exact ⟨rfl, rfl, trivial⟩)) ?_
  rw [hL]
  clear hL
  unfold w_X9_arrayIndex at h
  refine zu_aload_n d_8110_0 rfl (zs_ra _) ?_
  obtain ⟨k1, h⟩ := h
  refine zg_8_444 rfl d_8110_1 k1 ?_
  refine zu_ifle (t := 8) d_8110_4 rfl (fun c2 => ?_) (fun c2 => ?_)
  · have h := h.1 c2
    refine zu_aload_n d_8110_8 rfl (zs_ra _) ?_
    refine zg_8_278 rfl d_8110_9 k1 ?_
    refine zu_aload_n d_8110_12 rfl (zs_ra _) ?_
    refine zg_8_831 rfl d_8110_13 k1 ?_
    refine zu_iconst d_8110_16 zi_1 ?_
    refine zu_stk d_8110_17 rfl rfl ?_
    obtain ⟨b3, e4, h⟩ := h
    refine zs_stk1 (zs_rfe e4) ?_
    obtain ⟨k5, h⟩ := h
    refine zu_iald (k := 0) d_8110_18 rfl rfl k5 ?_
    refine zu_istore_n d_8110_19 (zs_lt zq_8110 rfl) ?_
    refine zu_aload_n d_8110_20 rfl (zs_ra _) ?_
    refine zu_iload_n d_8110_21 rfl ?_
    refine zc_8_564 (x0 := (zs_i S b3 ((zs_I S 8129 p0) - (1 : Int32)).toNatClampNeg)) hB rfl k1 d_8110_22 (Nat.le_of_ble_eq_true rfl) h (fun v7 S6 h => ?_)
    refine zu_ifne (t := 34) d_8110_25 rfl (fun c8 => ?_) (fun c8 => ?_)
    · have h := h.1 c8
      refine zu_aload_n d_8110_34 rfl (zs_ra _) ?_
      obtain ⟨k9, h⟩ := h
      refine zg_8_105 rfl d_8110_35 k9 ?_
      refine zu_iload_n d_8110_38 rfl ?_
      obtain ⟨b10, e11, h⟩ := h
      refine zs_stk1 (zs_rfe e11) ?_
      obtain ⟨k12, h⟩ := h
      refine zu_bald (k := 2) d_8110_39 rfl (Or.inr rfl) k12 ?_
      refine zu_ifne (t := 70) d_8110_40 rfl (fun c13 => ?_) (fun c13 => ?_)
      · have h := h.1 c13
        exact (u_X9_arrayIndex_70 hB h).weak ⟨rfl, rfl, trivial⟩
      · have h := h.2 c13
        exact (u_X9_arrayIndex_43 hB h).weak ⟨rfl, rfl, rfl, trivial⟩
    · have h := h.2 c8
      refine zu_aload_n d_8110_28 rfl (zs_ra _) ?_
      refine zu_iconst d_8110_29 zi_5 ?_
      obtain ⟨k14, h⟩ := h
      refine zc_8_541 (x0 := (5 : Int32)) hB rfl k14 d_8110_30 (Nat.le_of_ble_eq_true rfl) h (fun S15 h => ?_)
      exact (u_X9_arrayIndex_33 hB h).weak trivial
  · have h := h.2 c2
    exact zu_vret d_8110_7 zr_8110 h
/-! SchemaPascalModel.leastOf(I)I -/
theorem zm_8111 {σ : Nat → Nat} {n0 : Nat} {bf : ab_B} : ab_code (zx σ n0 bf).1 8111 = prog_17_method_41_code := rfl
theorem zq_8111 {σ : Nat → Nat} {n0 : Nat} {bf : ab_B} : ab_maxL (zx σ n0 bf).1 8111 = 2 := rfl
theorem zr_8111 {σ : Nat → Nat} {n0 : Nat} {bf : ab_B} : ab_ret (zx σ n0 bf).1 8111 = (Option.some Jvm.ClassFile.FieldType.int) := rfl
theorem d_8111_0 {σ : Nat → Nat} {n0 : Nat} {bf : ab_B} : decode (ab_code (zx σ n0 bf).1 8111) 0 = .ok (.aload_n 0, 1) := zd zm_8111 (by decide +kernel)
theorem d_8111_1 {σ : Nat → Nat} {n0 : Nat} {bf : ab_B} : decode (ab_code (zx σ n0 bf).1 8111) 1 = .ok (.getfield 90, 3) := zd zm_8111 (by decide +kernel)
theorem d_8111_4 {σ : Nat → Nat} {n0 : Nat} {bf : ab_B} : decode (ab_code (zx σ n0 bf).1 8111) 4 = .ok (.iload_n 1, 1) := zd zm_8111 (by decide +kernel)
theorem d_8111_5 {σ : Nat → Nat} {n0 : Nat} {bf : ab_B} : decode (ab_code (zx σ n0 bf).1 8111) 5 = .ok (.baload, 1) := zd zm_8111 (by decide +kernel)
theorem d_8111_6 {σ : Nat → Nat} {n0 : Nat} {bf : ab_B} : decode (ab_code (zx σ n0 bf).1 8111) 6 = .ok (.iconst 1, 1) := zd zm_8111 (by decide +kernel)
theorem d_8111_7 {σ : Nat → Nat} {n0 : Nat} {bf : ab_B} : decode (ab_code (zx σ n0 bf).1 8111) 7 = .ok (.if_icmp .ne 9, 3) := zd zm_8111 (by decide +kernel)
theorem d_8111_10 {σ : Nat → Nat} {n0 : Nat} {bf : ab_B} : decode (ab_code (zx σ n0 bf).1 8111) 10 = .ok (.ldc_w 576, 3) := zd zm_8111 (by decide +kernel)
theorem d_8111_13 {σ : Nat → Nat} {n0 : Nat} {bf : ab_B} : decode (ab_code (zx σ n0 bf).1 8111) 13 = .ok (.goto 23, 3) := zd zm_8111 (by decide +kernel)
theorem d_8111_16 {σ : Nat → Nat} {n0 : Nat} {bf : ab_B} : decode (ab_code (zx σ n0 bf).1 8111) 16 = .ok (.aload_n 0, 1) := zd zm_8111 (by decide +kernel)
theorem d_8111_17 {σ : Nat → Nat} {n0 : Nat} {bf : ab_B} : decode (ab_code (zx σ n0 bf).1 8111) 17 = .ok (.getfield 90, 3) := zd zm_8111 (by decide +kernel)
theorem d_8111_20 {σ : Nat → Nat} {n0 : Nat} {bf : ab_B} : decode (ab_code (zx σ n0 bf).1 8111) 20 = .ok (.iload_n 1, 1) := zd zm_8111 (by decide +kernel)
theorem d_8111_21 {σ : Nat → Nat} {n0 : Nat} {bf : ab_B} : decode (ab_code (zx σ n0 bf).1 8111) 21 = .ok (.baload, 1) := zd zm_8111 (by decide +kernel)
theorem d_8111_22 {σ : Nat → Nat} {n0 : Nat} {bf : ab_B} : decode (ab_code (zx σ n0 bf).1 8111) 22 = .ok (.iconst 5, 1) := zd zm_8111 (by decide +kernel)
theorem d_8111_23 {σ : Nat → Nat} {n0 : Nat} {bf : ab_B} : decode (ab_code (zx σ n0 bf).1 8111) 23 = .ok (.if_icmp .ne 12, 3) := zd zm_8111 (by decide +kernel)
theorem d_8111_26 {σ : Nat → Nat} {n0 : Nat} {bf : ab_B} : decode (ab_code (zx σ n0 bf).1 8111) 26 = .ok (.aload_n 0, 1) := zd zm_8111 (by decide +kernel)
theorem d_8111_27 {σ : Nat → Nat} {n0 : Nat} {bf : ab_B} : decode (ab_code (zx σ n0 bf).1 8111) 27 = .ok (.getfield 99, 3) := zd zm_8111 (by decide +kernel)
theorem d_8111_30 {σ : Nat → Nat} {n0 : Nat} {bf : ab_B} : decode (ab_code (zx σ n0 bf).1 8111) 30 = .ok (.iload_n 1, 1) := zd zm_8111 (by decide +kernel)
theorem d_8111_31 {σ : Nat → Nat} {n0 : Nat} {bf : ab_B} : decode (ab_code (zx σ n0 bf).1 8111) 31 = .ok (.iaload, 1) := zd zm_8111 (by decide +kernel)
theorem d_8111_32 {σ : Nat → Nat} {n0 : Nat} {bf : ab_B} : decode (ab_code (zx σ n0 bf).1 8111) 32 = .ok (.goto 4, 3) := zd zm_8111 (by decide +kernel)
theorem d_8111_35 {σ : Nat → Nat} {n0 : Nat} {bf : ab_B} : decode (ab_code (zx σ n0 bf).1 8111) 35 = .ok (.iconst 0, 1) := zd zm_8111 (by decide +kernel)
theorem d_8111_36 {σ : Nat → Nat} {n0 : Nat} {bf : ab_B} : decode (ab_code (zx σ n0 bf).1 8111) 36 = .ok (.ireturn, 1) := zd zm_8111 (by decide +kernel)
def w_X9_leastOf (X : zs_X) (d : Nat) (p0 : Nat) (p1 : Int32) (S : zs_T) (Q : zs_Q) : Prop :=
  (zs_K S p0 = some (.inl 8) ∧ ∃ b2, (zs_R S 8044 p0) = some b2 ∧ zs_A S b2 1 p1 ∧ ((¬ (zs_i S b2 p1.toNatClampNeg) = (1 : Int32) → (((¬ (zs_i S b2 p1.toNatClampNeg) = (5 : Int32) → (Q (.returned (some (.int (0 : Int32)))) S)) ∧ (¬ (¬ (zs_i S b2 p1.toNatClampNeg) = (5 : Int32)) → (∃ b7, (zs_R S 8047 p0) = some b7 ∧ zs_A S b7 0 p1 ∧ Q (.returned (some (.int (zs_i S b7 p1.toNatClampNeg)))) S))))) ∧ (¬ (¬ (zs_i S b2 p1.toNatClampNeg) = (1 : Int32)) → (Q (.returned (some (.int (-2147483647 : Int32)))) S))))
theorem u_X9_leastOf {σ : Nat → Nat} {n0 : Nat} {bf : ab_B} {d : Nat} {p0 : Nat} {p1 : Int32} {S : zs_T} {Q : zs_Q} (hB : zt_B bf) (hd : 1 ≤ d) (h : w_X9_leastOf (zx σ n0 bf) (d - 1) p0 p1 S Q) : zs_C (zx σ n0 bf) d 8111 [.ref p0, .int p1] S Q := by
  have hL : lv_args 0 [.ref p0, .int p1] = [(0, .ref p0), (1, .int p1)] := rfl
  refine zs_C.of1 (hB.2 8111 (by decide) (by decide)) hd (by rw [hL]; exact zs_sub_self _ (by exact ⟨rfl, rfl, trivial⟩)) ?_
  rw [hL]
  clear hL
  unfold w_X9_leastOf at h
  refine zu_aload_n d_8111_0 rfl (zs_ra _) ?_
  obtain ⟨k1, h⟩ := h
  refine zg_8_90 rfl d_8111_1 k1 ?_
  refine zu_iload_n d_8111_4 rfl ?_
  obtain ⟨b2, e3, h⟩ := h
  refine zs_stk1 (zs_rfe e3) ?_
  obtain ⟨k4, h⟩ := h
  refine zu_bald (k := 1) d_8111_5 rfl (Or.inl rfl) k4 ?_
  refine zu_iconst d_8111_6 zi_1 ?_
  refine zu_cmpne (t := 16) d_8111_7 rfl (fun c5 => ?_) (fun c5 => ?_)
  · have h := h.1 c5
    refine zu_aload_n d_8111_16 rfl (zs_ra _) ?_
    refine zg_8_90 rfl d_8111_17 k1 ?_
    refine zu_iload_n d_8111_20 rfl ?_
    refine zs_stk1 (zs_rfe e3) ?_
    refine zu_bald (k := 1) d_8111_21 rfl (Or.inl rfl) k4 ?_
    refine zu_iconst d_8111_22 zi_5 ?_
    refine zu_cmpne (t := 35) d_8111_23 rfl (fun c6 => ?_) (fun c6 => ?_)
    · have h := h.1 c6
      refine zu_iconst d_8111_35 zi_0 ?_
      exact zu_iret d_8111_36 zr_8111 rfl h
    · have h := h.2 c6
      refine zu_aload_n d_8111_26 rfl (zs_ra _) ?_
      refine zg_8_99 rfl d_8111_27 k1 ?_
      refine zu_iload_n d_8111_30 rfl ?_
      obtain ⟨b7, e8, h⟩ := h
      refine zs_stk1 (zs_rfe e8) ?_
      obtain ⟨k9, h⟩ := h
      refine zu_iald (k := 0) d_8111_31 rfl rfl k9 ?_
      refine zu_goto (t := 36) d_8111_32 rfl ?_
      exact zu_iret d_8111_36 zr_8111 rfl h
  · have h := h.2 c5
    refine zlw_8_576 rfl d_8111_10 ?_
    refine zu_goto (t := 36) d_8111_13 rfl ?_
    exact zu_iret d_8111_36 zr_8111 rfl h
/-! SchemaPascalModel.arrayDone(I)V -/
theorem zm_8112 {σ : Nat → Nat} {n0 : Nat} {bf : ab_B} : ab_code (zx σ n0 bf).1 8112 = prog_17_method_120_code := rfl
theorem zq_8112 {σ : Nat → Nat} {n0 : Nat} {bf : ab_B} : ab_maxL (zx σ n0 bf).1 8112 = 6 := rfl
theorem zr_8112 {σ : Nat → Nat} {n0 : Nat} {bf : ab_B} : ab_ret (zx σ n0 bf).1 8112 = (Option.none : Option Jvm.ClassFile.FieldType) := rfl
theorem d_8112_0 {σ : Nat → Nat} {n0 : Nat} {bf : ab_B} : decode (ab_code (zx σ n0 bf).1 8112) 0 = .ok (.aload_n 0, 1) := zd zm_8112 (by decide +kernel)
theorem d_8112_1 {σ : Nat → Nat} {n0 : Nat} {bf : ab_B} : decode (ab_code (zx σ n0 bf).1 8112) 1 = .ok (.getfield 444, 3) := zd zm_8112 (by decide +kernel)
theorem d_8112_4 {σ : Nat → Nat} {n0 : Nat} {bf : ab_B} : decode (ab_code (zx σ n0 bf).1 8112) 4 = .ok (.ifCond .ne 56, 3) := zd zm_8112 (by decide +kernel)
theorem d_8112_7 {σ : Nat → Nat} {n0 : Nat} {bf : ab_B} : decode (ab_code (zx σ n0 bf).1 8112) 7 = .ok (.aload_n 0, 1) := zd zm_8112 (by decide +kernel)
theorem d_8112_8 {σ : Nat → Nat} {n0 : Nat} {bf : ab_B} : decode (ab_code (zx σ n0 bf).1 8112) 8 = .ok (.getfield 109, 3) := zd zm_8112 (by decide +kernel)
theorem d_8112_11 {σ : Nat → Nat} {n0 : Nat} {bf : ab_B} : decode (ab_code (zx σ n0 bf).1 8112) 11 = .ok (.aload_n 0, 1) := zd zm_8112 (by decide +kernel)
theorem d_8112_12 {σ : Nat → Nat} {n0 : Nat} {bf : ab_B} : decode (ab_code (zx σ n0 bf).1 8112) 12 = .ok (.getfield 278, 3) := zd zm_8112 (by decide +kernel)
theorem d_8112_15 {σ : Nat → Nat} {n0 : Nat} {bf : ab_B} : decode (ab_code (zx σ n0 bf).1 8112) 15 = .ok (.aload_n 0, 1) := zd zm_8112 (by decide +kernel)
theorem d_8112_16 {σ : Nat → Nat} {n0 : Nat} {bf : ab_B} : decode (ab_code (zx σ n0 bf).1 8112) 16 = .ok (.getfield 831, 3) := zd zm_8112 (by decide +kernel)
theorem d_8112_19 {σ : Nat → Nat} {n0 : Nat} {bf : ab_B} : decode (ab_code (zx σ n0 bf).1 8112) 19 = .ok (.iconst 1, 1) := zd zm_8112 (by decide +kernel)
theorem d_8112_20 {σ : Nat → Nat} {n0 : Nat} {bf : ab_B} : decode (ab_code (zx σ n0 bf).1 8112) 20 = .ok (.isub, 1) := zd zm_8112 (by decide +kernel)
theorem d_8112_21 {σ : Nat → Nat} {n0 : Nat} {bf : ab_B} : decode (ab_code (zx σ n0 bf).1 8112) 21 = .ok (.iaload, 1) := zd zm_8112 (by decide +kernel)
theorem d_8112_22 {σ : Nat → Nat} {n0 : Nat} {bf : ab_B} : decode (ab_code (zx σ n0 bf).1 8112) 22 = .ok (.baload, 1) := zd zm_8112 (by decide +kernel)
theorem d_8112_23 {σ : Nat → Nat} {n0 : Nat} {bf : ab_B} : decode (ab_code (zx σ n0 bf).1 8112) 23 = .ok (.iload_n 1, 1) := zd zm_8112 (by decide +kernel)
theorem d_8112_24 {σ : Nat → Nat} {n0 : Nat} {bf : ab_B} : decode (ab_code (zx σ n0 bf).1 8112) 24 = .ok (.iadd, 1) := zd zm_8112 (by decide +kernel)
theorem d_8112_25 {σ : Nat → Nat} {n0 : Nat} {bf : ab_B} : decode (ab_code (zx σ n0 bf).1 8112) 25 = .ok (.bipush 60, 2) := zd zm_8112 (by decide +kernel)
theorem d_8112_27 {σ : Nat → Nat} {n0 : Nat} {bf : ab_B} : decode (ab_code (zx σ n0 bf).1 8112) 27 = .ok (.if_icmp .gt 27, 3) := zd zm_8112 (by decide +kernel)
theorem d_8112_30 {σ : Nat → Nat} {n0 : Nat} {bf : ab_B} : decode (ab_code (zx σ n0 bf).1 8112) 30 = .ok (.aload_n 0, 1) := zd zm_8112 (by decide +kernel)
theorem d_8112_31 {σ : Nat → Nat} {n0 : Nat} {bf : ab_B} : decode (ab_code (zx σ n0 bf).1 8112) 31 = .ok (.getfield 112, 3) := zd zm_8112 (by decide +kernel)
theorem d_8112_34 {σ : Nat → Nat} {n0 : Nat} {bf : ab_B} : decode (ab_code (zx σ n0 bf).1 8112) 34 = .ok (.aload_n 0, 1) := zd zm_8112 (by decide +kernel)
theorem d_8112_35 {σ : Nat → Nat} {n0 : Nat} {bf : ab_B} : decode (ab_code (zx σ n0 bf).1 8112) 35 = .ok (.getfield 278, 3) := zd zm_8112 (by decide +kernel)
theorem d_8112_38 {σ : Nat → Nat} {n0 : Nat} {bf : ab_B} : decode (ab_code (zx σ n0 bf).1 8112) 38 = .ok (.aload_n 0, 1) := zd zm_8112 (by decide +kernel)
theorem d_8112_39 {σ : Nat → Nat} {n0 : Nat} {bf : ab_B} : decode (ab_code (zx σ n0 bf).1 8112) 39 = .ok (.getfield 831, 3) := zd zm_8112 (by decide +kernel)
theorem d_8112_42 {σ : Nat → Nat} {n0 : Nat} {bf : ab_B} : decode (ab_code (zx σ n0 bf).1 8112) 42 = .ok (.iconst 1, 1) := zd zm_8112 (by decide +kernel)
theorem d_8112_43 {σ : Nat → Nat} {n0 : Nat} {bf : ab_B} : decode (ab_code (zx σ n0 bf).1 8112) 43 = .ok (.isub, 1) := zd zm_8112 (by decide +kernel)
theorem d_8112_44 {σ : Nat → Nat} {n0 : Nat} {bf : ab_B} : decode (ab_code (zx σ n0 bf).1 8112) 44 = .ok (.iaload, 1) := zd zm_8112 (by decide +kernel)
theorem d_8112_45 {σ : Nat → Nat} {n0 : Nat} {bf : ab_B} : decode (ab_code (zx σ n0 bf).1 8112) 45 = .ok (.iaload, 1) := zd zm_8112 (by decide +kernel)
theorem d_8112_46 {σ : Nat → Nat} {n0 : Nat} {bf : ab_B} : decode (ab_code (zx σ n0 bf).1 8112) 46 = .ok (.iload_n 1, 1) := zd zm_8112 (by decide +kernel)
theorem d_8112_47 {σ : Nat → Nat} {n0 : Nat} {bf : ab_B} : decode (ab_code (zx σ n0 bf).1 8112) 47 = .ok (.iadd, 1) := zd zm_8112 (by decide +kernel)
theorem d_8112_48 {σ : Nat → Nat} {n0 : Nat} {bf : ab_B} : decode (ab_code (zx σ n0 bf).1 8112) 48 = .ok (.sipush 4000, 3) := zd zm_8112 (by decide +kernel)
theorem d_8112_51 {σ : Nat → Nat} {n0 : Nat} {bf : ab_B} : decode (ab_code (zx σ n0 bf).1 8112) 51 = .ok (.if_icmp .le 9, 3) := zd zm_8112 (by decide +kernel)
theorem d_8112_54 {σ : Nat → Nat} {n0 : Nat} {bf : ab_B} : decode (ab_code (zx σ n0 bf).1 8112) 54 = .ok (.aload_n 0, 1) := zd zm_8112 (by decide +kernel)
theorem d_8112_55 {σ : Nat → Nat} {n0 : Nat} {bf : ab_B} : decode (ab_code (zx σ n0 bf).1 8112) 55 = .ok (.bipush 8, 2) := zd zm_8112 (by decide +kernel)
theorem d_8112_57 {σ : Nat → Nat} {n0 : Nat} {bf : ab_B} : decode (ab_code (zx σ n0 bf).1 8112) 57 = .ok (.invokevirtual 541, 3) := zd zm_8112 (by decide +kernel)
theorem d_8112_60 {σ : Nat → Nat} {n0 : Nat} {bf : ab_B} : decode (ab_code (zx σ n0 bf).1 8112) 60 = .ok (.iconst 0, 1) := zd zm_8112 (by decide +kernel)
theorem d_8112_61 {σ : Nat → Nat} {n0 : Nat} {bf : ab_B} : decode (ab_code (zx σ n0 bf).1 8112) 61 = .ok (.istore_n 2, 1) := zd zm_8112 (by decide +kernel)
theorem d_8112_62 {σ : Nat → Nat} {n0 : Nat} {bf : ab_B} : decode (ab_code (zx σ n0 bf).1 8112) 62 = .ok (.iload_n 2, 1) := zd zm_8112 (by decide +kernel)
theorem d_8112_63 {σ : Nat → Nat} {n0 : Nat} {bf : ab_B} : decode (ab_code (zx σ n0 bf).1 8112) 63 = .ok (.iload_n 1, 1) := zd zm_8112 (by decide +kernel)
theorem d_8112_64 {σ : Nat → Nat} {n0 : Nat} {bf : ab_B} : decode (ab_code (zx σ n0 bf).1 8112) 64 = .ok (.if_icmp .ge 148, 3) := zd zm_8112 (by decide +kernel)
theorem d_8112_67 {σ : Nat → Nat} {n0 : Nat} {bf : ab_B} : decode (ab_code (zx σ n0 bf).1 8112) 67 = .ok (.aload_n 0, 1) := zd zm_8112 (by decide +kernel)
theorem d_8112_68 {σ : Nat → Nat} {n0 : Nat} {bf : ab_B} : decode (ab_code (zx σ n0 bf).1 8112) 68 = .ok (.getfield 444, 3) := zd zm_8112 (by decide +kernel)
theorem d_8112_71 {σ : Nat → Nat} {n0 : Nat} {bf : ab_B} : decode (ab_code (zx σ n0 bf).1 8112) 71 = .ok (.ifCond .ne 141, 3) := zd zm_8112 (by decide +kernel)
theorem d_8112_74 {σ : Nat → Nat} {n0 : Nat} {bf : ab_B} : decode (ab_code (zx σ n0 bf).1 8112) 74 = .ok (.aload_n 0, 1) := zd zm_8112 (by decide +kernel)
theorem d_8112_75 {σ : Nat → Nat} {n0 : Nat} {bf : ab_B} : decode (ab_code (zx σ n0 bf).1 8112) 75 = .ok (.getfield 278, 3) := zd zm_8112 (by decide +kernel)
theorem d_8112_78 {σ : Nat → Nat} {n0 : Nat} {bf : ab_B} : decode (ab_code (zx σ n0 bf).1 8112) 78 = .ok (.aload_n 0, 1) := zd zm_8112 (by decide +kernel)
theorem d_8112_79 {σ : Nat → Nat} {n0 : Nat} {bf : ab_B} : decode (ab_code (zx σ n0 bf).1 8112) 79 = .ok (.getfield 831, 3) := zd zm_8112 (by decide +kernel)
theorem d_8112_82 {σ : Nat → Nat} {n0 : Nat} {bf : ab_B} : decode (ab_code (zx σ n0 bf).1 8112) 82 = .ok (.iconst 1, 1) := zd zm_8112 (by decide +kernel)
theorem d_8112_83 {σ : Nat → Nat} {n0 : Nat} {bf : ab_B} : decode (ab_code (zx σ n0 bf).1 8112) 83 = .ok (.isub, 1) := zd zm_8112 (by decide +kernel)
theorem d_8112_84 {σ : Nat → Nat} {n0 : Nat} {bf : ab_B} : decode (ab_code (zx σ n0 bf).1 8112) 84 = .ok (.iaload, 1) := zd zm_8112 (by decide +kernel)
theorem d_8112_85 {σ : Nat → Nat} {n0 : Nat} {bf : ab_B} : decode (ab_code (zx σ n0 bf).1 8112) 85 = .ok (.istore_n 3, 1) := zd zm_8112 (by decide +kernel)
theorem d_8112_86 {σ : Nat → Nat} {n0 : Nat} {bf : ab_B} : decode (ab_code (zx σ n0 bf).1 8112) 86 = .ok (.aload_n 0, 1) := zd zm_8112 (by decide +kernel)
theorem d_8112_87 {σ : Nat → Nat} {n0 : Nat} {bf : ab_B} : decode (ab_code (zx σ n0 bf).1 8112) 87 = .ok (.getfield 278, 3) := zd zm_8112 (by decide +kernel)
theorem d_8112_90 {σ : Nat → Nat} {n0 : Nat} {bf : ab_B} : decode (ab_code (zx σ n0 bf).1 8112) 90 = .ok (.aload_n 0, 1) := zd zm_8112 (by decide +kernel)
theorem d_8112_91 {σ : Nat → Nat} {n0 : Nat} {bf : ab_B} : decode (ab_code (zx σ n0 bf).1 8112) 91 = .ok (.getfield 831, 3) := zd zm_8112 (by decide +kernel)
theorem d_8112_94 {σ : Nat → Nat} {n0 : Nat} {bf : ab_B} : decode (ab_code (zx σ n0 bf).1 8112) 94 = .ok (.iconst 2, 1) := zd zm_8112 (by decide +kernel)
theorem d_8112_95 {σ : Nat → Nat} {n0 : Nat} {bf : ab_B} : decode (ab_code (zx σ n0 bf).1 8112) 95 = .ok (.isub, 1) := zd zm_8112 (by decide +kernel)
theorem d_8112_96 {σ : Nat → Nat} {n0 : Nat} {bf : ab_B} : decode (ab_code (zx σ n0 bf).1 8112) 96 = .ok (.iaload, 1) := zd zm_8112 (by decide +kernel)
theorem d_8112_97 {σ : Nat → Nat} {n0 : Nat} {bf : ab_B} : decode (ab_code (zx σ n0 bf).1 8112) 97 = .ok (.istore 4, 2) := zd zm_8112 (by decide +kernel)
theorem d_8112_99 {σ : Nat → Nat} {n0 : Nat} {bf : ab_B} : decode (ab_code (zx σ n0 bf).1 8112) 99 = .ok (.aload_n 0, 1) := zd zm_8112 (by decide +kernel)
theorem d_8112_100 {σ : Nat → Nat} {n0 : Nat} {bf : ab_B} : decode (ab_code (zx σ n0 bf).1 8112) 100 = .ok (.dup, 1) := zd zm_8112 (by decide +kernel)
theorem d_8112_101 {σ : Nat → Nat} {n0 : Nat} {bf : ab_B} : decode (ab_code (zx σ n0 bf).1 8112) 101 = .ok (.getfield 831, 3) := zd zm_8112 (by decide +kernel)
theorem d_8112_104 {σ : Nat → Nat} {n0 : Nat} {bf : ab_B} : decode (ab_code (zx σ n0 bf).1 8112) 104 = .ok (.iconst 2, 1) := zd zm_8112 (by decide +kernel)
theorem d_8112_105 {σ : Nat → Nat} {n0 : Nat} {bf : ab_B} : decode (ab_code (zx σ n0 bf).1 8112) 105 = .ok (.isub, 1) := zd zm_8112 (by decide +kernel)
theorem d_8112_106 {σ : Nat → Nat} {n0 : Nat} {bf : ab_B} : decode (ab_code (zx σ n0 bf).1 8112) 106 = .ok (.putfield 831, 3) := zd zm_8112 (by decide +kernel)
theorem d_8112_109 {σ : Nat → Nat} {n0 : Nat} {bf : ab_B} : decode (ab_code (zx σ n0 bf).1 8112) 109 = .ok (.aload_n 0, 1) := zd zm_8112 (by decide +kernel)
theorem d_8112_110 {σ : Nat → Nat} {n0 : Nat} {bf : ab_B} : decode (ab_code (zx σ n0 bf).1 8112) 110 = .ok (.bipush 8, 2) := zd zm_8112 (by decide +kernel)
theorem d_8112_112 {σ : Nat → Nat} {n0 : Nat} {bf : ab_B} : decode (ab_code (zx σ n0 bf).1 8112) 112 = .ok (.iload_n 3, 1) := zd zm_8112 (by decide +kernel)
theorem d_8112_113 {σ : Nat → Nat} {n0 : Nat} {bf : ab_B} : decode (ab_code (zx σ n0 bf).1 8112) 113 = .ok (.iconst 1, 1) := zd zm_8112 (by decide +kernel)
theorem d_8112_114 {σ : Nat → Nat} {n0 : Nat} {bf : ab_B} : decode (ab_code (zx σ n0 bf).1 8112) 114 = .ok (.aload_n 0, 1) := zd zm_8112 (by decide +kernel)
theorem d_8112_115 {σ : Nat → Nat} {n0 : Nat} {bf : ab_B} : decode (ab_code (zx σ n0 bf).1 8112) 115 = .ok (.getfield 109, 3) := zd zm_8112 (by decide +kernel)
theorem d_8112_118 {σ : Nat → Nat} {n0 : Nat} {bf : ab_B} : decode (ab_code (zx σ n0 bf).1 8112) 118 = .ok (.iload_n 3, 1) := zd zm_8112 (by decide +kernel)
theorem d_8112_119 {σ : Nat → Nat} {n0 : Nat} {bf : ab_B} : decode (ab_code (zx σ n0 bf).1 8112) 119 = .ok (.baload, 1) := zd zm_8112 (by decide +kernel)
theorem d_8112_120 {σ : Nat → Nat} {n0 : Nat} {bf : ab_B} : decode (ab_code (zx σ n0 bf).1 8112) 120 = .ok (.aload_n 0, 1) := zd zm_8112 (by decide +kernel)
theorem d_8112_121 {σ : Nat → Nat} {n0 : Nat} {bf : ab_B} : decode (ab_code (zx σ n0 bf).1 8112) 121 = .ok (.getfield 109, 3) := zd zm_8112 (by decide +kernel)
theorem d_8112_124 {σ : Nat → Nat} {n0 : Nat} {bf : ab_B} : decode (ab_code (zx σ n0 bf).1 8112) 124 = .ok (.iload 4, 2) := zd zm_8112 (by decide +kernel)
theorem d_8112_126 {σ : Nat → Nat} {n0 : Nat} {bf : ab_B} : decode (ab_code (zx σ n0 bf).1 8112) 126 = .ok (.baload, 1) := zd zm_8112 (by decide +kernel)
theorem d_8112_127 {σ : Nat → Nat} {n0 : Nat} {bf : ab_B} : decode (ab_code (zx σ n0 bf).1 8112) 127 = .ok (.if_icmp .le 12, 3) := zd zm_8112 (by decide +kernel)
theorem d_8112_130 {σ : Nat → Nat} {n0 : Nat} {bf : ab_B} : decode (ab_code (zx σ n0 bf).1 8112) 130 = .ok (.aload_n 0, 1) := zd zm_8112 (by decide +kernel)
theorem d_8112_131 {σ : Nat → Nat} {n0 : Nat} {bf : ab_B} : decode (ab_code (zx σ n0 bf).1 8112) 131 = .ok (.getfield 109, 3) := zd zm_8112 (by decide +kernel)
theorem d_8112_134 {σ : Nat → Nat} {n0 : Nat} {bf : ab_B} : decode (ab_code (zx σ n0 bf).1 8112) 134 = .ok (.iload_n 3, 1) := zd zm_8112 (by decide +kernel)
theorem d_8112_135 {σ : Nat → Nat} {n0 : Nat} {bf : ab_B} : decode (ab_code (zx σ n0 bf).1 8112) 135 = .ok (.baload, 1) := zd zm_8112 (by decide +kernel)
theorem d_8112_136 {σ : Nat → Nat} {n0 : Nat} {bf : ab_B} : decode (ab_code (zx σ n0 bf).1 8112) 136 = .ok (.goto 10, 3) := zd zm_8112 (by decide +kernel)
theorem d_8112_139 {σ : Nat → Nat} {n0 : Nat} {bf : ab_B} : decode (ab_code (zx σ n0 bf).1 8112) 139 = .ok (.aload_n 0, 1) := zd zm_8112 (by decide +kernel)
theorem d_8112_140 {σ : Nat → Nat} {n0 : Nat} {bf : ab_B} : decode (ab_code (zx σ n0 bf).1 8112) 140 = .ok (.getfield 109, 3) := zd zm_8112 (by decide +kernel)
theorem d_8112_143 {σ : Nat → Nat} {n0 : Nat} {bf : ab_B} : decode (ab_code (zx σ n0 bf).1 8112) 143 = .ok (.iload 4, 2) := zd zm_8112 (by decide +kernel)
theorem d_8112_145 {σ : Nat → Nat} {n0 : Nat} {bf : ab_B} : decode (ab_code (zx σ n0 bf).1 8112) 145 = .ok (.baload, 1) := zd zm_8112 (by decide +kernel)
theorem d_8112_146 {σ : Nat → Nat} {n0 : Nat} {bf : ab_B} : decode (ab_code (zx σ n0 bf).1 8112) 146 = .ok (.iadd, 1) := zd zm_8112 (by decide +kernel)
theorem d_8112_147 {σ : Nat → Nat} {n0 : Nat} {bf : ab_B} : decode (ab_code (zx σ n0 bf).1 8112) 147 = .ok (.invokevirtual 599, 3) := zd zm_8112 (by decide +kernel)
theorem d_8112_150 {σ : Nat → Nat} {n0 : Nat} {bf : ab_B} : decode (ab_code (zx σ n0 bf).1 8112) 150 = .ok (.istore 5, 2) := zd zm_8112 (by decide +kernel)
theorem d_8112_152 {σ : Nat → Nat} {n0 : Nat} {bf : ab_B} : decode (ab_code (zx σ n0 bf).1 8112) 152 = .ok (.aload_n 0, 1) := zd zm_8112 (by decide +kernel)
theorem d_8112_153 {σ : Nat → Nat} {n0 : Nat} {bf : ab_B} : decode (ab_code (zx σ n0 bf).1 8112) 153 = .ok (.getfield 96, 3) := zd zm_8112 (by decide +kernel)
theorem d_8112_156 {σ : Nat → Nat} {n0 : Nat} {bf : ab_B} : decode (ab_code (zx σ n0 bf).1 8112) 156 = .ok (.iload 5, 2) := zd zm_8112 (by decide +kernel)
theorem d_8112_158 {σ : Nat → Nat} {n0 : Nat} {bf : ab_B} : decode (ab_code (zx σ n0 bf).1 8112) 158 = .ok (.iload 4, 2) := zd zm_8112 (by decide +kernel)
theorem d_8112_160 {σ : Nat → Nat} {n0 : Nat} {bf : ab_B} : decode (ab_code (zx σ n0 bf).1 8112) 160 = .ok (.iastore, 1) := zd zm_8112 (by decide +kernel)
theorem d_8112_161 {σ : Nat → Nat} {n0 : Nat} {bf : ab_B} : decode (ab_code (zx σ n0 bf).1 8112) 161 = .ok (.aload_n 0, 1) := zd zm_8112 (by decide +kernel)
theorem d_8112_162 {σ : Nat → Nat} {n0 : Nat} {bf : ab_B} : decode (ab_code (zx σ n0 bf).1 8112) 162 = .ok (.getfield 105, 3) := zd zm_8112 (by decide +kernel)
theorem d_8112_165 {σ : Nat → Nat} {n0 : Nat} {bf : ab_B} : decode (ab_code (zx σ n0 bf).1 8112) 165 = .ok (.iload 5, 2) := zd zm_8112 (by decide +kernel)
theorem d_8112_167 {σ : Nat → Nat} {n0 : Nat} {bf : ab_B} : decode (ab_code (zx σ n0 bf).1 8112) 167 = .ok (.aload_n 0, 1) := zd zm_8112 (by decide +kernel)
theorem d_8112_168 {σ : Nat → Nat} {n0 : Nat} {bf : ab_B} : decode (ab_code (zx σ n0 bf).1 8112) 168 = .ok (.getfield 105, 3) := zd zm_8112 (by decide +kernel)
theorem d_8112_171 {σ : Nat → Nat} {n0 : Nat} {bf : ab_B} : decode (ab_code (zx σ n0 bf).1 8112) 171 = .ok (.iload_n 3, 1) := zd zm_8112 (by decide +kernel)
theorem d_8112_172 {σ : Nat → Nat} {n0 : Nat} {bf : ab_B} : decode (ab_code (zx σ n0 bf).1 8112) 172 = .ok (.baload, 1) := zd zm_8112 (by decide +kernel)
theorem d_8112_173 {σ : Nat → Nat} {n0 : Nat} {bf : ab_B} : decode (ab_code (zx σ n0 bf).1 8112) 173 = .ok (.ifCond .ne 13, 3) := zd zm_8112 (by decide +kernel)
theorem d_8112_176 {σ : Nat → Nat} {n0 : Nat} {bf : ab_B} : decode (ab_code (zx σ n0 bf).1 8112) 176 = .ok (.aload_n 0, 1) := zd zm_8112 (by decide +kernel)
theorem d_8112_177 {σ : Nat → Nat} {n0 : Nat} {bf : ab_B} : decode (ab_code (zx σ n0 bf).1 8112) 177 = .ok (.getfield 105, 3) := zd zm_8112 (by decide +kernel)
theorem d_8112_180 {σ : Nat → Nat} {n0 : Nat} {bf : ab_B} : decode (ab_code (zx σ n0 bf).1 8112) 180 = .ok (.iload 4, 2) := zd zm_8112 (by decide +kernel)
theorem d_8112_182 {σ : Nat → Nat} {n0 : Nat} {bf : ab_B} : decode (ab_code (zx σ n0 bf).1 8112) 182 = .ok (.baload, 1) := zd zm_8112 (by decide +kernel)
theorem d_8112_183 {σ : Nat → Nat} {n0 : Nat} {bf : ab_B} : decode (ab_code (zx σ n0 bf).1 8112) 183 = .ok (.ifCond .eq 7, 3) := zd zm_8112 (by decide +kernel)
theorem d_8112_186 {σ : Nat → Nat} {n0 : Nat} {bf : ab_B} : decode (ab_code (zx σ n0 bf).1 8112) 186 = .ok (.iconst 1, 1) := zd zm_8112 (by decide +kernel)
theorem d_8112_187 {σ : Nat → Nat} {n0 : Nat} {bf : ab_B} : decode (ab_code (zx σ n0 bf).1 8112) 187 = .ok (.goto 4, 3) := zd zm_8112 (by decide +kernel)
theorem d_8112_190 {σ : Nat → Nat} {n0 : Nat} {bf : ab_B} : decode (ab_code (zx σ n0 bf).1 8112) 190 = .ok (.iconst 0, 1) := zd zm_8112 (by decide +kernel)
theorem d_8112_191 {σ : Nat → Nat} {n0 : Nat} {bf : ab_B} : decode (ab_code (zx σ n0 bf).1 8112) 191 = .ok (.bastore, 1) := zd zm_8112 (by decide +kernel)
theorem d_8112_192 {σ : Nat → Nat} {n0 : Nat} {bf : ab_B} : decode (ab_code (zx σ n0 bf).1 8112) 192 = .ok (.aload_n 0, 1) := zd zm_8112 (by decide +kernel)
theorem d_8112_193 {σ : Nat → Nat} {n0 : Nat} {bf : ab_B} : decode (ab_code (zx σ n0 bf).1 8112) 193 = .ok (.iload 5, 2) := zd zm_8112 (by decide +kernel)
theorem d_8112_195 {σ : Nat → Nat} {n0 : Nat} {bf : ab_B} : decode (ab_code (zx σ n0 bf).1 8112) 195 = .ok (.iload_n 3, 1) := zd zm_8112 (by decide +kernel)
theorem d_8112_196 {σ : Nat → Nat} {n0 : Nat} {bf : ab_B} : decode (ab_code (zx σ n0 bf).1 8112) 196 = .ok (.iconst 1, 1) := zd zm_8112 (by decide +kernel)
theorem d_8112_197 {σ : Nat → Nat} {n0 : Nat} {bf : ab_B} : decode (ab_code (zx σ n0 bf).1 8112) 197 = .ok (.invokevirtual 887, 3) := zd zm_8112 (by decide +kernel)
theorem d_8112_200 {σ : Nat → Nat} {n0 : Nat} {bf : ab_B} : decode (ab_code (zx σ n0 bf).1 8112) 200 = .ok (.aload_n 0, 1) := zd zm_8112 (by decide +kernel)
theorem d_8112_201 {σ : Nat → Nat} {n0 : Nat} {bf : ab_B} : decode (ab_code (zx σ n0 bf).1 8112) 201 = .ok (.iload 5, 2) := zd zm_8112 (by decide +kernel)
theorem d_8112_203 {σ : Nat → Nat} {n0 : Nat} {bf : ab_B} : decode (ab_code (zx σ n0 bf).1 8112) 203 = .ok (.invokevirtual 890, 3) := zd zm_8112 (by decide +kernel)
theorem d_8112_206 {σ : Nat → Nat} {n0 : Nat} {bf : ab_B} : decode (ab_code (zx σ n0 bf).1 8112) 206 = .ok (.iinc 2 1, 3) := zd zm_8112 (by decide +kernel)
theorem d_8112_209 {σ : Nat → Nat} {n0 : Nat} {bf : ab_B} : decode (ab_code (zx σ n0 bf).1 8112) 209 = .ok (.goto (-147), 3) := zd zm_8112 (by decide +kernel)
theorem d_8112_212 {σ : Nat → Nat} {n0 : Nat} {bf : ab_B} : decode (ab_code (zx σ n0 bf).1 8112) 212 = .ok (.return_, 1) := zd zm_8112 (by decide +kernel)
def w_X9_arrayDone_54 (X : zs_X) (d : Nat) (p0 : Nat) (p1 : Int32) (S : zs_T) (Q : zs_Q) : Prop :=
  (zs_K S p0 = some (.inl 8) ∧ zs_C X d 8027 [.ref p0, .int (8 : Int32)] S (zs_kV (fun S2 => (zs_U X d 8112 62 [(0, .ref p0), (1, .int p1), (2, .int (0 : Int32))] [] S2 Q)) Q))
theorem u_X9_arrayDone_54 {σ : Nat → Nat} {n0 : Nat} {bf : ab_B} {d : Nat} {p0 : Nat} {p1 : Int32} {S : zs_T} {Q : zs_Q} (hB : zt_B bf) (h : w_X9_arrayDone_54 (zx σ n0 bf) d p0 p1 S Q) : zs_U (zx σ n0 bf) d 8112 54 [(0, .ref p0), (1, .int p1)] [] S Q := by
  unfold w_X9_arrayDone_54 at h
  refine zu_aload_n d_8112_54 rfl (zs_ra _) ?_
  refine zu_bipush d_8112_55 zj_8 ?_
  obtain ⟨k1, h⟩ := h
  refine zc_8_541 (x0 := (8 : Int32)) hB rfl k1 d_8112_57 (Nat.le_of_ble_eq_true rfl) h (fun S2 h => ?_)
  refine zu_iconst d_8112_60 zi_0 ?_
  refine zu_istore_n d_8112_61 (zs_lt zq_8112 rfl) ?_
  exact h.weak ⟨rfl, rfl, rfl, trivial⟩
def w_X9_arrayDone_30 (X : zs_X) (d : Nat) (p0 : Nat) (p1 : Int32) (S : zs_T) (Q : zs_Q) : Prop :=
  (zs_K S p0 = some (.inl 8) ∧ ∃ b2, (zs_R S 8128 p0) = some b2 ∧ zs_A S b2 0 ((zs_I S 8129 p0) - (1 : Int32)) ∧ ∃ b5, (zs_R S 8051 p0) = some b5 ∧ zs_A S b5 0 (zs_i S b2 ((zs_I S 8129 p0) - (1 : Int32)).toNatClampNeg) ∧ ((((zs_i S b5 (zs_i S b2 ((zs_I S 8129 p0) - (1 : Int32)).toNatClampNeg).toNatClampNeg) + p1) ≤ (4000 : Int32) → (zs_U X d 8112 62 [(0, .ref p0), (1, .int p1), (2, .int (0 : Int32))] [] S Q)) ∧ (¬ (((zs_i S b5 (zs_i S b2 ((zs_I S 8129 p0) - (1 : Int32)).toNatClampNeg).toNatClampNeg) + p1) ≤ (4000 : Int32)) → w_X9_arrayDone_54 X d p0 p1 S Q)))
theorem u_X9_arrayDone_30 {σ : Nat → Nat} {n0 : Nat} {bf : ab_B} {d : Nat} {p0 : Nat} {p1 : Int32} {S : zs_T} {Q : zs_Q} (hB : zt_B bf) (h : w_X9_arrayDone_30 (zx σ n0 bf) d p0 p1 S Q) : zs_U (zx σ n0 bf) d 8112 30 [(0, .ref p0), (1, .int p1)] [] S Q := by
  unfold w_X9_arrayDone_30 at h
  refine zu_aload_n d_8112_30 rfl (zs_ra _) ?_
  obtain ⟨k1, h⟩ := h
  refine zg_8_112 rfl d_8112_31 k1 ?_
  refine zu_aload_n d_8112_34 rfl (zs_ra _) ?_
  refine zg_8_278 rfl d_8112_35 k1 ?_
  refine zu_aload_n d_8112_38 rfl (zs_ra _) ?_
  refine zg_8_831 rfl d_8112_39 k1 ?_
  refine zu_iconst d_8112_42 zi_1 ?_
  refine zu_stk d_8112_43 rfl rfl ?_
  obtain ⟨b2, e3, h⟩ := h
  refine zs_stk1 (zs_rfe e3) ?_
  obtain ⟨k4, h⟩ := h
  refine zu_iald (k := 0) d_8112_44 rfl rfl k4 ?_
  obtain ⟨b5, e6, h⟩ := h
  refine zs_stk1 (zs_rfe e6) ?_
  obtain ⟨k7, h⟩ := h
  refine zu_iald (k := 0) d_8112_45 rfl rfl k7 ?_
  refine zu_iload_n d_8112_46 rfl ?_
  refine zu_stk d_8112_47 rfl rfl ?_
  refine zu_sipush d_8112_48 zh_4000 ?_
  refine zu_cmple (t := 60) d_8112_51 rfl (fun c8 => ?_) (fun c8 => ?_)
  · have h := h.1 c8
    refine zu_iconst d_8112_60 zi_0 ?_
    refine zu_istore_n d_8112_61 (zs_lt zq_8112 rfl) ?_
    exact h.weak ⟨rfl, rfl, rfl, trivial⟩
  · have h := h.2 c8
    exact (u_X9_arrayDone_54 hB h).weak ⟨rfl, rfl, trivial⟩
def w_X9_arrayDone_191 (X : zs_X) (d : Nat) (p0 : Nat) (p1 : Int32) (p2 : Int32) (p3 : Int32) (p5 : Int32) (q0 : Option Nat) (q1 : Int32) (q2 : Int32) (S : zs_T) (Q : zs_Q) : Prop :=
  (∃ b1, q0 = some b1 ∧ zs_A S b1 2 q1 ∧ ab_n0 X.1 ≤ b1 ∧ ∀ S5, S5 = zs_si S b1 q1.toNatClampNeg (vp_nar .boolean q2) → zs_K S p0 = some (.inl 8) ∧ zs_C X d 8113 [.ref p0, .int p5, .int p3, .int (1 : Int32)] S5 (zs_kV (fun S9 => (zs_K S9 p0 = some (.inl 8) ∧ zs_C X d 8114 [.ref p0, .int p5] S9 (zs_kV (fun S12 => (zs_U X d 8112 62 [(0, .ref p0), (1, .int p1), (2, .int (p2 + (1 : Int32)))] [] S12 Q)) Q))) Q))
theorem u_X9_arrayDone_191 {σ : Nat → Nat} {n0 : Nat} {bf : ab_B} {d : Nat} {p0 : Nat} {p1 : Int32} {p2 : Int32} {p3 : Int32} {p5 : Int32} {q0 : Option Nat} {q1 : Int32} {q2 : Int32} {S : zs_T} {Q : zs_Q} (hB : zt_B bf) (h : w_X9_arrayDone_191 (zx σ n0 bf) d p0 p1 p2 p3 p5 q0 q1 q2 S Q) : zs_U (zx σ n0 bf) d 8112 191 [(0, .ref p0), (1, .int p1), (2, .int p2), (3, .int p3), (5, .int p5)] [.int q2, .int q1, va_rf q0] S Q := by
  unfold w_X9_arrayDone_191 at h
  obtain ⟨b1, e2, h⟩ := h
  refine zs_stk2 (zs_rfe e2) ?_
  obtain ⟨k3, h⟩ := h
  obtain ⟨k4, h⟩ := h
  refine zu_bast_bool (k := 2) d_8112_191 rfl rfl k4 k3 ?_
  generalize e6 : zs_si S b1 q1.toNatClampNeg (vp_nar .boolean q2) = S5
  have h := h S5 e6.symm
  have K7 : ∀ b, zs_K S5 b = zs_K S b := zs_Kt e6 (zs_Ksi _ _ _ _) (fun _ => rfl)
  refine zu_aload_n d_8112_192 rfl (zs_ra _) ?_
  refine zu_iload d_8112_193 rfl ?_
  refine zu_iload_n d_8112_195 rfl ?_
  refine zu_iconst d_8112_196 zi_1 ?_
  obtain ⟨k8, h⟩ := h
  refine zc_8_887 (x0 := p5) (x1 := p3) (x2 := (1 : Int32)) hB rfl ((K7 _).trans k8) d_8112_197 (Nat.le_of_ble_eq_true rfl) h (fun S9 h => ?_)
  refine zu_aload_n d_8112_200 rfl (zs_ra _) ?_
  refine zu_iload d_8112_201 rfl ?_
  obtain ⟨k11, h⟩ := h
  refine zc_8_890 (x0 := p5) hB rfl k11 d_8112_203 (Nat.le_of_ble_eq_true rfl) h (fun S12 h => ?_)
  refine zu_iinc d_8112_206 rfl zi_1 (zs_lt zq_8112 rfl) ?_
  refine zu_goto (t := 62) d_8112_209 rfl ?_
  exact h.weak ⟨rfl, rfl, rfl, trivial⟩
def w_X9_arrayDone_186 (X : zs_X) (d : Nat) (p0 : Nat) (p1 : Int32) (p2 : Int32) (p3 : Int32) (p5 : Int32) (q0 : Option Nat) (q1 : Int32) (S : zs_T) (Q : zs_Q) : Prop :=
  (w_X9_arrayDone_191 X d p0 p1 p2 p3 p5 q0 q1 (1 : Int32) S Q)
theorem u_X9_arrayDone_186 {σ : Nat → Nat} {n0 : Nat} {bf : ab_B} {d : Nat} {p0 : Nat} {p1 : Int32} {p2 : Int32} {p3 : Int32} {p5 : Int32} {q0 : Option Nat} {q1 : Int32} {S : zs_T} {Q : zs_Q} (hB : zt_B bf) (h : w_X9_arrayDone_186 (zx σ n0 bf) d p0 p1 p2 p3 p5 q0 q1 S Q) : zs_U (zx σ n0 bf) d 8112 186 [(0, .ref p0), (1, .int p1), (2, .int p2), (3, .int p3), (5, .int p5)] [.int q1, va_rf q0] S Q := by
  unfold w_X9_arrayDone_186 at h
  refine zu_iconst d_8112_186 zi_1 ?_
  refine zu_goto (t := 191) d_8112_187 rfl ?_
  exact (u_X9_arrayDone_191 hB h).weak ⟨rfl, rfl, rfl, rfl, rfl, trivial⟩
def w_X9_arrayDone_146 (X : zs_X) (d : Nat) (p0 : Nat) (p1 : Int32) (p2 : Int32) (p3 : Int32) (p4 : Int32) (q0 : Option Nat) (q1 : Int32) (q2 : Int32) (q3 : Int32) (q4 : Int32) (S : zs_T) (Q : zs_Q) : Prop :=
  (∃ b1, q0 = some b1 ∧ zs_K S b1 = some (.inl 8) ∧ zs_C X d 8009 [.ref b1, .int q1, .int q2, .int (q3 + q4)] S (zs_kI (fun v5 S4 => (zs_K S4 p0 = some (.inl 8) ∧ ∃ b7, (zs_R S4 8046 p0) = some b7 ∧ zs_A S4 b7 0 v5 ∧ ab_n0 X.1 ≤ b7 ∧ ∀ S11, S11 = zs_si S4 b7 v5.toNatClampNeg p4 → ∃ b14, (zs_R S11 8049 p0) = some b14 ∧ zs_A S4 b14 2 p3 ∧ ((¬ (zs_i S11 b14 p3.toNatClampNeg) = 0 → w_X9_arrayDone_186 X d p0 p1 p2 p3 v5 (zs_R S11 8049 p0) v5 S11 Q) ∧ (¬ (¬ (zs_i S11 b14 p3.toNatClampNeg) = 0) → (zs_A S4 b14 2 p4 ∧ (((zs_i S11 b14 p4.toNatClampNeg) = 0 → (w_X9_arrayDone_191 X d p0 p1 p2 p3 v5 (zs_R S11 8049 p0) v5 (0 : Int32) S11 Q)) ∧ (¬ ((zs_i S11 b14 p4.toNatClampNeg) = 0) → w_X9_arrayDone_186 X d p0 p1 p2 p3 v5 (zs_R S11 8049 p0) v5 S11 Q))))))) Q))
theorem u_X9_arrayDone_146 {σ : Nat → Nat} {n0 : Nat} {bf : ab_B} {d : Nat} {p0 : Nat} {p1 : Int32} {p2 : Int32} {p3 : Int32} {p4 : Int32} {q0 : Option Nat} {q1 : Int32} {q2 : Int32} {q3 : Int32} {q4 : Int32} {S : zs_T} {Q : zs_Q} (hB : zt_B bf) (h : w_X9_arrayDone_146 (zx σ n0 bf) d p0 p1 p2 p3 p4 q0 q1 q2 q3 q4 S Q) : zs_U (zx σ n0 bf) d 8112 146 [(0, .ref p0), (1, .int p1), (2, .int p2), (3, .int p3), (4, .int p4)] [.int q4, .int q3, .int q2, .int q1, va_rf q0] S Q := by
  unfold w_X9_arrayDone_146 at h
  refine zu_stk d_8112_146 rfl rfl ?_
  obtain ⟨b1, e2, h⟩ := h
  refine zs_stk3 (zs_rfe e2) ?_
  obtain ⟨k3, h⟩ := h
  refine zc_8_599 (x0 := q1) (x1 := q2) (x2 := (q3 + q4)) hB rfl k3 d_8112_147 (Nat.le_of_ble_eq_true rfl) h (fun v5 S4 h => ?_)
  refine zu_istore d_8112_150 (zs_lt zq_8112 rfl) ?_
  refine zu_aload_n d_8112_152 rfl (zs_ra _) ?_
  obtain ⟨k6, h⟩ := h
  refine zg_8_96 rfl d_8112_153 k6 ?_
  refine zu_iload d_8112_156 rfl ?_
  refine zu_iload d_8112_158 rfl ?_
  obtain ⟨b7, e8, h⟩ := h
  refine zs_stk2 (zs_rfe e8) ?_
  obtain ⟨k9, h⟩ := h
  obtain ⟨k10, h⟩ := h
  refine zu_iast (k := 0) d_8112_160 rfl rfl k10 k9 ?_
  generalize e12 : zs_si S4 b7 v5.toNatClampNeg p4 = S11
  have h := h S11 e12.symm
  have K13 : ∀ b, zs_K S11 b = zs_K S4 b := zs_Kt e12 (zs_Ksi _ _ _ _) (fun _ => rfl)
  refine zu_aload_n d_8112_161 rfl (zs_ra _) ?_
  refine zg_8_105 rfl d_8112_162 ((K13 _).trans k6) ?_
  refine zu_iload d_8112_165 rfl ?_
  refine zu_aload_n d_8112_167 rfl (zs_ra _) ?_
  refine zg_8_105 rfl d_8112_168 ((K13 _).trans k6) ?_
  refine zu_iload_n d_8112_171 rfl ?_
  obtain ⟨b14, e15, h⟩ := h
  refine zs_stk1 (zs_rfe e15) ?_
  obtain ⟨k16, h⟩ := h
  refine zu_bald (k := 2) d_8112_172 rfl (Or.inr rfl) (zs_Ak K13 k16) ?_
  refine zu_ifne (t := 186) d_8112_173 rfl (fun c17 => ?_) (fun c17 => ?_)
  · have h := h.1 c17
    exact (u_X9_arrayDone_186 hB h).weak ⟨rfl, rfl, rfl, rfl, rfl, trivial⟩
  · have h := h.2 c17
    refine zu_aload_n d_8112_176 rfl (zs_ra _) ?_
    refine zg_8_105 rfl d_8112_177 ((K13 _).trans k6) ?_
    refine zu_iload d_8112_180 rfl ?_
    refine zs_stk1 (zs_rfe e15) ?_
    obtain ⟨k18, h⟩ := h
    refine zu_bald (k := 2) d_8112_182 rfl (Or.inr rfl) (zs_Ak K13 k18) ?_
    refine zu_ifeq (t := 190) d_8112_183 rfl (fun c19 => ?_) (fun c19 => ?_)
    · have h := h.1 c19
      refine zu_iconst d_8112_190 zi_0 ?_
      exact (u_X9_arrayDone_191 hB h).weak ⟨rfl, rfl, rfl, rfl, rfl, trivial⟩
    · have h := h.2 c19
      exact (u_X9_arrayDone_186 hB h).weak ⟨rfl, rfl, rfl, rfl, rfl, trivial⟩
def w_X9_arrayDone_99 (X : zs_X) (d : Nat) (p0 : Nat) (p1 : Int32) (p2 : Int32) (p3 : Int32) (p4 : Int32) (S : zs_T) (Q : zs_Q) : Prop :=
  (zs_K S p0 = some (.inl 8) ∧ ab_n0 X.1 ≤ p0 ∧ ∀ S3, S3 = zs_sI S 8129 p0 ((zs_I S 8129 p0) - (2 : Int32)) → ∃ b6, (zs_R S3 8050 p0) = some b6 ∧ zs_A S b6 1 p3 ∧ zs_A S b6 1 p4 ∧ (((zs_i S3 b6 p3.toNatClampNeg) ≤ (zs_i S3 b6 p4.toNatClampNeg) → (w_X9_arrayDone_146 X d p0 p1 p2 p3 p4 (some p0) (8 : Int32) p3 (1 : Int32) (zs_i S3 b6 p4.toNatClampNeg) S3 Q)) ∧ (¬ ((zs_i S3 b6 p3.toNatClampNeg) ≤ (zs_i S3 b6 p4.toNatClampNeg)) → (w_X9_arrayDone_146 X d p0 p1 p2 p3 p4 (some p0) (8 : Int32) p3 (1 : Int32) (zs_i S3 b6 p3.toNatClampNeg) S3 Q))))
theorem u_X9_arrayDone_99 {σ : Nat → Nat} {n0 : Nat} {bf : ab_B} {d : Nat} {p0 : Nat} {p1 : Int32} {p2 : Int32} {p3 : Int32} {p4 : Int32} {S : zs_T} {Q : zs_Q} (hB : zt_B bf) (h : w_X9_arrayDone_99 (zx σ n0 bf) d p0 p1 p2 p3 p4 S Q) : zs_U (zx σ n0 bf) d 8112 99 [(0, .ref p0), (1, .int p1), (2, .int p2), (3, .int p3), (4, .int p4)] [] S Q := by
  unfold w_X9_arrayDone_99 at h
  refine zu_aload_n d_8112_99 rfl (zs_ra _) ?_
  refine zu_dup d_8112_100 rfl ?_
  obtain ⟨k1, h⟩ := h
  refine zg_8_831 rfl d_8112_101 k1 ?_
  refine zu_iconst d_8112_104 zi_2 ?_
  refine zu_stk d_8112_105 rfl rfl ?_
  obtain ⟨k2, h⟩ := h
  refine zp_8_831 (v := ((zs_I S 8129 p0) - (2 : Int32))) rfl d_8112_106 k1 k2 ?_
  generalize e4 : zs_sI S 8129 p0 ((zs_I S 8129 p0) - (2 : Int32)) = S3
  have h := h S3 e4.symm
  have K5 : ∀ b, zs_K S3 b = zs_K S b := zs_Kt e4 (zs_KsI _ _ _ _) (fun _ => rfl)
  refine zu_aload_n d_8112_109 rfl (zs_ra _) ?_
  refine zu_bipush d_8112_110 zj_8 ?_
  refine zu_iload_n d_8112_112 rfl ?_
  refine zu_iconst d_8112_113 zi_1 ?_
  refine zu_aload_n d_8112_114 rfl (zs_ra _) ?_
  refine zg_8_109 rfl d_8112_115 ((K5 _).trans k1) ?_
  refine zu_iload_n d_8112_118 rfl ?_
  obtain ⟨b6, e7, h⟩ := h
  refine zs_stk1 (zs_rfe e7) ?_
  obtain ⟨k8, h⟩ := h
  refine zu_bald (k := 1) d_8112_119 rfl (Or.inl rfl) (zs_Ak K5 k8) ?_
  refine zu_aload_n d_8112_120 rfl (zs_ra _) ?_
  refine zg_8_109 rfl d_8112_121 ((K5 _).trans k1) ?_
  refine zu_iload d_8112_124 rfl ?_
  refine zs_stk1 (zs_rfe e7) ?_
  obtain ⟨k9, h⟩ := h
  refine zu_bald (k := 1) d_8112_126 rfl (Or.inl rfl) (zs_Ak K5 k9) ?_
  refine zu_cmple (t := 139) d_8112_127 rfl (fun c10 => ?_) (fun c10 => ?_)
  · have h := h.1 c10
    refine zu_aload_n d_8112_139 rfl (zs_ra _) ?_
    refine zg_8_109 rfl d_8112_140 ((K5 _).trans k1) ?_
    refine zu_iload d_8112_143 rfl ?_
    refine zs_stk1 (zs_rfe e7) ?_
    refine zu_bald (k := 1) d_8112_145 rfl (Or.inl rfl) (zs_Ak K5 k9) ?_
    exact (u_X9_arrayDone_146 hB h).weak ⟨rfl, rfl, rfl, rfl, rfl, trivial⟩
  · have h := h.2 c10
    refine zu_aload_n d_8112_130 rfl (zs_ra _) ?_
    refine zg_8_109 rfl d_8112_131 ((K5 _).trans k1) ?_
    refine zu_iload_n d_8112_134 rfl ?_
    refine zs_stk1 (zs_rfe e7) ?_
    refine zu_bald (k := 1) d_8112_135 rfl (Or.inl rfl) (zs_Ak K5 k8) ?_
    refine zu_goto (t := 146) d_8112_136 rfl ?_
    exact (u_X9_arrayDone_146 hB h).weak ⟨rfl, rfl, rfl, rfl, rfl, trivial⟩
def w_X9_arrayDone_62 (X : zs_X) (d : Nat) (p0 : Nat) (p1 : Int32) (p2 : Int32) (S : zs_T) (Q : zs_Q) : Prop :=
  (((p1 ≤ p2 → (Q (.returned none) S)) ∧ (¬ (p1 ≤ p2) → (zs_K S p0 = some (.inl 8) ∧ ((¬ (zs_I S 8010 p0) = 0 → (Q (.returned none) S)) ∧ (¬ (¬ (zs_I S 8010 p0) = 0) → (∃ b4, (zs_R S 8128 p0) = some b4 ∧ zs_A S b4 0 ((zs_I S 8129 p0) - (1 : Int32)) ∧ zs_A S b4 0 ((zs_I S 8129 p0) - (2 : Int32)) ∧ w_X9_arrayDone_99 X d p0 p1 p2 (zs_i S b4 ((zs_I S 8129 p0) - (1 : Int32)).toNatClampNeg) (zs_i S b4 ((zs_I S 8129 p0) - (2 : Int32)).toNatClampNeg) S Q)))))))
theorem u_X9_arrayDone_62 {σ : Nat → Nat} {n0 : Nat} {bf : ab_B} {d : Nat} {p0 : Nat} {p1 : Int32} {p2 : Int32} {S : zs_T} {Q : zs_Q} (hB : zt_B bf) (h : w_X9_arrayDone_62 (zx σ n0 bf) d p0 p1 p2 S Q) : zs_U (zx σ n0 bf) d 8112 62 [(0, .ref p0), (1, .int p1), (2, .int p2)] [] S Q := by
  unfold w_X9_arrayDone_62 at h
  refine zu_iload_n d_8112_62 rfl ?_
  refine zu_iload_n d_8112_63 rfl ?_
  refine zu_cmpge (t := 212) d_8112_64 rfl (fun c1 => ?_) (fun c1 => ?_)
  · have h := h.1 c1
    exact zu_vret d_8112_212 zr_8112 h
  · have h := h.2 c1
    refine zu_aload_n d_8112_67 rfl (zs_ra _) ?_
    obtain ⟨k2, h⟩ := h
    refine zg_8_444 rfl d_8112_68 k2 ?_
    refine zu_ifne (t := 212) d_8112_71 rfl (fun c3 => ?_) (fun c3 => ?_)
    · have h := h.1 c3
      exact zu_vret d_8112_212 zr_8112 h
    · have h := h.2 c3
      refine zu_aload_n d_8112_74 rfl (zs_ra _) ?_
      refine zg_8_278 rfl d_8112_75 k2 ?_
      refine zu_aload_n d_8112_78 rfl (zs_ra _) ?_
      refine zg_8_831 rfl d_8112_79 k2 ?_
      refine zu_iconst d_8112_82 zi_1 ?_
      refine zu_stk d_8112_83 rfl rfl ?_
      obtain ⟨b4, e5, h⟩ := h
      refine zs_stk1 (zs_rfe e5) ?_
      obtain ⟨k6, h⟩ := h
      refine zu_iald (k := 0) d_8112_84 rfl rfl k6 ?_
      refine zu_istore_n d_8112_85 (zs_lt zq_8112 rfl) ?_
      refine zu_aload_n d_8112_86 rfl (zs_ra _) ?_
      refine zg_8_278 rfl d_8112_87 k2 ?_
      refine zu_aload_n d_8112_90 rfl (zs_ra _) ?_
      refine zg_8_831 rfl d_8112_91 k2 ?_
      refine zu_iconst d_8112_94 zi_2 ?_
      refine zu_stk d_8112_95 rfl rfl ?_
      refine zs_stk1 (zs_rfe e5) ?_
      obtain ⟨k7, h⟩ := h
      refine zu_iald (k := 0) d_8112_96 rfl rfl k7 ?_
      refine zu_istore d_8112_97 (zs_lt zq_8112 rfl) ?_
      exact (u_X9_arrayDone_99 hB h).weak ⟨rfl, rfl, rfl, rfl, rfl, trivial⟩
def w_X9_arrayDone (X : zs_X) (d : Nat) (p0 : Nat) (p1 : Int32) (S : zs_T) (Q : zs_Q) : Prop :=
  (zs_K S p0 = some (.inl 8) ∧ ((¬ (zs_I S 8010 p0) = 0 → (zs_U X d 8112 62 [(0, .ref p0), (1, .int p1), (2, .int (0 : Int32))] [] S Q)) ∧ (¬ (¬ (zs_I S 8010 p0) = 0) → (∃ b3, (zs_R S 8128 p0) = some b3 ∧ zs_A S b3 0 ((zs_I S 8129 p0) - (1 : Int32)) ∧ ∃ b6, (zs_R S 8050 p0) = some b6 ∧ zs_A S b6 1 (zs_i S b3 ((zs_I S 8129 p0) - (1 : Int32)).toNatClampNeg) ∧ (((60 : Int32) < ((zs_i S b6 (zs_i S b3 ((zs_I S 8129 p0) - (1 : Int32)).toNatClampNeg).toNatClampNeg) + p1) → w_X9_arrayDone_54 X d p0 p1 S Q) ∧ (¬ ((60 : Int32) < ((zs_i S b6 (zs_i S b3 ((zs_I S 8129 p0) - (1 : Int32)).toNatClampNeg).toNatClampNeg) + p1)) → w_X9_arrayDone_30 X d p0 p1 S Q))))))
theorem u_X9_arrayDone {σ : Nat → Nat} {n0 : Nat} {bf : ab_B} {d : Nat} {p0 : Nat} {p1 : Int32} {S : zs_T} {Q : zs_Q} (hB : zt_B bf) (hd : 1 ≤ d) (h : w_X9_arrayDone (zx σ n0 bf) (d - 1) p0 p1 S Q) : zs_C (zx σ n0 bf) d 8112 [.ref p0, .int p1] S Q := by
  have hL : lv_args 0 [.ref p0, .int p1] = [(0, .ref p0), (1, .int p1)] := rfl
  refine zs_C.of1 (hB.2 8112 (by decide) (by decide)) hd (by rw [hL]; exact zs_sub_self _ (by exact ⟨rfl, rfl, trivial⟩)) ?_
  rw [hL]
  clear hL
  unfold w_X9_arrayDone at h
  refine zu_aload_n d_8112_0 rfl (zs_ra _) ?_
  obtain ⟨k1, h⟩ := h
  refine zg_8_444 rfl d_8112_1 k1 ?_
  refine zu_ifne (t := 60) d_8112_4 rfl (fun c2 => ?_) (fun c2 => ?_)
  · have h := h.1 c2
    refine zu_iconst d_8112_60 zi_0 ?_
    refine zu_istore_n d_8112_61 (zs_lt zq_8112 rfl) ?_
    exact h.weak ⟨rfl, rfl, rfl, trivial⟩
  · have h := h.2 c2
    refine zu_aload_n d_8112_7 rfl (zs_ra _) ?_
    refine zg_8_109 rfl d_8112_8 k1 ?_
    refine zu_aload_n d_8112_11 rfl (zs_ra _) ?_
    refine zg_8_278 rfl d_8112_12 k1 ?_
    refine zu_aload_n d_8112_15 rfl (zs_ra _) ?_
    refine zg_8_831 rfl d_8112_16 k1 ?_
    refine zu_iconst d_8112_19 zi_1 ?_
    refine zu_stk d_8112_20 rfl rfl ?_
    obtain ⟨b3, e4, h⟩ := h
    refine zs_stk1 (zs_rfe e4) ?_
    obtain ⟨k5, h⟩ := h
    refine zu_iald (k := 0) d_8112_21 rfl rfl k5 ?_
    obtain ⟨b6, e7, h⟩ := h
    refine zs_stk1 (zs_rfe e7) ?_
    obtain ⟨k8, h⟩ := h
    refine zu_bald (k := 1) d_8112_22 rfl (Or.inl rfl) k8 ?_
    refine zu_iload_n d_8112_23 rfl ?_
    refine zu_stk d_8112_24 rfl rfl ?_
    refine zu_bipush d_8112_25 zj_60 ?_
    refine zu_cmpgt (t := 54) d_8112_27 rfl (fun c9 => ?_) (fun c9 => ?_)
    · have h := h.1 c9
      exact (u_X9_arrayDone_54 hB h).weak ⟨rfl, rfl, trivial⟩
    · have h := h.2 c9
      exact (u_X9_arrayDone_30 hB h).weak ⟨rfl, rfl, trivial⟩
/-! SchemaPascalModel.addPieces(III)V -/
theorem zm_8113 {σ : Nat → Nat} {n0 : Nat} {bf : ab_B} : ab_code (zx σ n0 bf).1 8113 = prog_17_method_126_code := rfl
theorem zq_8113 {σ : Nat → Nat} {n0 : Nat} {bf : ab_B} : ab_maxL (zx σ n0 bf).1 8113 = 6 := rfl
theorem zr_8113 {σ : Nat → Nat} {n0 : Nat} {bf : ab_B} : ab_ret (zx σ n0 bf).1 8113 = (Option.none : Option Jvm.ClassFile.FieldType) := rfl
theorem d_8113_0 {σ : Nat → Nat} {n0 : Nat} {bf : ab_B} : decode (ab_code (zx σ n0 bf).1 8113) 0 = .ok (.aload_n 0, 1) := zd zm_8113 (by decide +kernel)
theorem d_8113_1 {σ : Nat → Nat} {n0 : Nat} {bf : ab_B} : decode (ab_code (zx σ n0 bf).1 8113) 1 = .ok (.getfield 112, 3) := zd zm_8113 (by decide +kernel)
theorem d_8113_4 {σ : Nat → Nat} {n0 : Nat} {bf : ab_B} : decode (ab_code (zx σ n0 bf).1 8113) 4 = .ok (.iload_n 1, 1) := zd zm_8113 (by decide +kernel)
theorem d_8113_5 {σ : Nat → Nat} {n0 : Nat} {bf : ab_B} : decode (ab_code (zx σ n0 bf).1 8113) 5 = .ok (.iaload, 1) := zd zm_8113 (by decide +kernel)
theorem d_8113_6 {σ : Nat → Nat} {n0 : Nat} {bf : ab_B} : decode (ab_code (zx σ n0 bf).1 8113) 6 = .ok (.i2l, 1) := zd zm_8113 (by decide +kernel)
theorem d_8113_7 {σ : Nat → Nat} {n0 : Nat} {bf : ab_B} : decode (ab_code (zx σ n0 bf).1 8113) 7 = .ok (.iload_n 3, 1) := zd zm_8113 (by decide +kernel)
theorem d_8113_8 {σ : Nat → Nat} {n0 : Nat} {bf : ab_B} : decode (ab_code (zx σ n0 bf).1 8113) 8 = .ok (.i2l, 1) := zd zm_8113 (by decide +kernel)
theorem d_8113_9 {σ : Nat → Nat} {n0 : Nat} {bf : ab_B} : decode (ab_code (zx σ n0 bf).1 8113) 9 = .ok (.aload_n 0, 1) := zd zm_8113 (by decide +kernel)
theorem d_8113_10 {σ : Nat → Nat} {n0 : Nat} {bf : ab_B} : decode (ab_code (zx σ n0 bf).1 8113) 10 = .ok (.getfield 112, 3) := zd zm_8113 (by decide +kernel)
theorem d_8113_13 {σ : Nat → Nat} {n0 : Nat} {bf : ab_B} : decode (ab_code (zx σ n0 bf).1 8113) 13 = .ok (.iload_n 2, 1) := zd zm_8113 (by decide +kernel)
theorem d_8113_14 {σ : Nat → Nat} {n0 : Nat} {bf : ab_B} : decode (ab_code (zx σ n0 bf).1 8113) 14 = .ok (.iaload, 1) := zd zm_8113 (by decide +kernel)
theorem d_8113_15 {σ : Nat → Nat} {n0 : Nat} {bf : ab_B} : decode (ab_code (zx σ n0 bf).1 8113) 15 = .ok (.i2l, 1) := zd zm_8113 (by decide +kernel)
theorem d_8113_16 {σ : Nat → Nat} {n0 : Nat} {bf : ab_B} : decode (ab_code (zx σ n0 bf).1 8113) 16 = .ok (.lmul, 1) := zd zm_8113 (by decide +kernel)
theorem d_8113_17 {σ : Nat → Nat} {n0 : Nat} {bf : ab_B} : decode (ab_code (zx σ n0 bf).1 8113) 17 = .ok (.ladd, 1) := zd zm_8113 (by decide +kernel)
theorem d_8113_18 {σ : Nat → Nat} {n0 : Nat} {bf : ab_B} : decode (ab_code (zx σ n0 bf).1 8113) 18 = .ok (.lstore 4, 2) := zd zm_8113 (by decide +kernel)
theorem d_8113_20 {σ : Nat → Nat} {n0 : Nat} {bf : ab_B} : decode (ab_code (zx σ n0 bf).1 8113) 20 = .ok (.aload_n 0, 1) := zd zm_8113 (by decide +kernel)
theorem d_8113_21 {σ : Nat → Nat} {n0 : Nat} {bf : ab_B} : decode (ab_code (zx σ n0 bf).1 8113) 21 = .ok (.getfield 112, 3) := zd zm_8113 (by decide +kernel)
theorem d_8113_24 {σ : Nat → Nat} {n0 : Nat} {bf : ab_B} : decode (ab_code (zx σ n0 bf).1 8113) 24 = .ok (.iload_n 1, 1) := zd zm_8113 (by decide +kernel)
theorem d_8113_25 {σ : Nat → Nat} {n0 : Nat} {bf : ab_B} : decode (ab_code (zx σ n0 bf).1 8113) 25 = .ok (.lload 4, 2) := zd zm_8113 (by decide +kernel)
theorem d_8113_27 {σ : Nat → Nat} {n0 : Nat} {bf : ab_B} : decode (ab_code (zx σ n0 bf).1 8113) 27 = .ok (.ldc2_w 808, 3) := zd zm_8113 (by decide +kernel)
theorem d_8113_30 {σ : Nat → Nat} {n0 : Nat} {bf : ab_B} : decode (ab_code (zx σ n0 bf).1 8113) 30 = .ok (.lcmp, 1) := zd zm_8113 (by decide +kernel)
theorem d_8113_31 {σ : Nat → Nat} {n0 : Nat} {bf : ab_B} : decode (ab_code (zx σ n0 bf).1 8113) 31 = .ok (.ifCond .le 9, 3) := zd zm_8113 (by decide +kernel)
theorem d_8113_34 {σ : Nat → Nat} {n0 : Nat} {bf : ab_B} : decode (ab_code (zx σ n0 bf).1 8113) 34 = .ok (.sipush 4001, 3) := zd zm_8113 (by decide +kernel)
theorem d_8113_37 {σ : Nat → Nat} {n0 : Nat} {bf : ab_B} : decode (ab_code (zx σ n0 bf).1 8113) 37 = .ok (.goto 6, 3) := zd zm_8113 (by decide +kernel)
theorem d_8113_40 {σ : Nat → Nat} {n0 : Nat} {bf : ab_B} : decode (ab_code (zx σ n0 bf).1 8113) 40 = .ok (.lload 4, 2) := zd zm_8113 (by decide +kernel)
theorem d_8113_42 {σ : Nat → Nat} {n0 : Nat} {bf : ab_B} : decode (ab_code (zx σ n0 bf).1 8113) 42 = .ok (.l2i, 1) := zd zm_8113 (by decide +kernel)
theorem d_8113_43 {σ : Nat → Nat} {n0 : Nat} {bf : ab_B} : decode (ab_code (zx σ n0 bf).1 8113) 43 = .ok (.iastore, 1) := zd zm_8113 (by decide +kernel)
theorem d_8113_44 {σ : Nat → Nat} {n0 : Nat} {bf : ab_B} : decode (ab_code (zx σ n0 bf).1 8113) 44 = .ok (.return_, 1) := zd zm_8113 (by decide +kernel)
def w_X9_addPieces_44 (X : zs_X) (d : Nat)  (S : zs_T) (Q : zs_Q) : Prop :=
  (Q (.returned none) S)
theorem u_X9_addPieces_44 {σ : Nat → Nat} {n0 : Nat} {bf : ab_B} {d : Nat}  {S : zs_T} {Q : zs_Q} (hB : zt_B bf) (h : w_X9_addPieces_44 (zx σ n0 bf) d  S Q) : zs_U (zx σ n0 bf) d 8113 44 [] [] S Q := by
  unfold w_X9_addPieces_44 at h
  exact zu_vret d_8113_44 zr_8113 h
def w_X9_addPieces (X : zs_X) (d : Nat) (p0 : Nat) (p1 : Int32) (p2 : Int32) (p3 : Int32) (S : zs_T) (Q : zs_Q) : Prop :=
  (zs_K S p0 = some (.inl 8) ∧ ∃ b2, (zs_R S 8051 p0) = some b2 ∧ zs_A S b2 0 p1 ∧ zs_A S b2 0 p2 ∧ ((((((zs_i S b2 p1.toNatClampNeg)).toInt64) + (((p3).toInt64) * (((zs_i S b2 p2.toNatClampNeg)).toInt64))) ≤ (4000 : Int64) → (ab_n0 X.1 ≤ b2 ∧ ∀ S8, S8 = zs_si S b2 p1.toNatClampNeg ((((((zs_i S b2 p1.toNatClampNeg)).toInt64) + (((p3).toInt64) * (((zs_i S b2 p2.toNatClampNeg)).toInt64)))).toInt32) → w_X9_addPieces_44 X d  S8 Q)) ∧ (¬ (((((zs_i S b2 p1.toNatClampNeg)).toInt64) + (((p3).toInt64) * (((zs_i S b2 p2.toNatClampNeg)).toInt64))) ≤ (4000 : Int64)) → (ab_n0 X.1 ≤ b2 ∧ ∀ S12, S12 = zs_si S b2 p1.toNatClampNeg (4001 : Int32) → w_X9_addPieces_44 X d  S12 Q))))
theorem u_X9_addPieces {σ : Nat → Nat} {n0 : Nat} {bf : ab_B} {d : Nat} {p0 : Nat} {p1 : Int32} {p2 : Int32} {p3 : Int32} {S : zs_T} {Q : zs_Q} (hB : zt_B bf) (hd : 1 ≤ d) (h : w_X9_addPieces (zx σ n0 bf) (d - 1) p0 p1 p2 p3 S Q) : zs_C (zx σ n0 bf) d 8113 [.ref p0, .int p1, .int p2, .int p3] S Q := by
  have hL : lv_args 0 [.ref p0, .int p1, .int p2, .int p3] = [(0, .ref p0), (1, .int p1), (2, .int p2), (3, .int p3)] := rfl
  refine zs_C.of1 (hB.2 8113 (by decide) (by decide)) hd (by rw [hL]; exact zs_sub_self _ (by exact ⟨rfl, rfl, rfl, rfl, trivial⟩)) ?_
  rw [hL]
  clear hL
  unfold w_X9_addPieces at h
  refine zu_aload_n d_8113_0 rfl (zs_ra _) ?_
  obtain ⟨k1, h⟩ := h
  refine zg_8_112 rfl d_8113_1 k1 ?_
  refine zu_iload_n d_8113_4 rfl ?_
  obtain ⟨b2, e3, h⟩ := h
  refine zs_stk1 (zs_rfe e3) ?_
  obtain ⟨k4, h⟩ := h
  refine zu_iald (k := 0) d_8113_5 rfl rfl k4 ?_
  refine zu_stk d_8113_6 rfl rfl ?_
  refine zu_iload_n d_8113_7 rfl ?_
  refine zu_stk d_8113_8 rfl rfl ?_
  refine zu_aload_n d_8113_9 rfl (zs_ra _) ?_
  refine zg_8_112 rfl d_8113_10 k1 ?_
  refine zu_iload_n d_8113_13 rfl ?_
  refine zs_stk1 (zs_rfe e3) ?_
  obtain ⟨k5, h⟩ := h
  refine zu_iald (k := 0) d_8113_14 rfl rfl k5 ?_
  refine zu_stk d_8113_15 rfl rfl ?_
  refine zu_stk d_8113_16 rfl rfl ?_
  refine zu_stk d_8113_17 rfl rfl ?_
  refine zu_lstore d_8113_18 (zs_lt zq_8113 rfl) ?_
  refine zu_aload_n d_8113_20 rfl (zs_ra _) ?_
  refine zg_8_112 rfl d_8113_21 k1 ?_
  refine zu_iload_n d_8113_24 rfl ?_
  refine zu_lload d_8113_25 rfl ?_
  refine zl2_8_808 rfl d_8113_27 ?_
  refine zu_lle (t := 40) d_8113_30 d_8113_31 rfl (fun c6 => ?_) (fun c6 => ?_)
  · have h := h.1 c6
    refine zu_lload d_8113_40 rfl ?_
    refine zu_stk d_8113_42 rfl rfl ?_
    refine zs_stk2 (zs_rfe e3) ?_
    obtain ⟨k7, h⟩ := h
    refine zu_iast (k := 0) d_8113_43 rfl rfl k7 k4 ?_
    generalize e9 : zs_si S b2 p1.toNatClampNeg ((((((zs_i S b2 p1.toNatClampNeg)).toInt64) + (((p3).toInt64) * (((zs_i S b2 p2.toNatClampNeg)).toInt64)))).toInt32) = S8
    have h := h S8 e9.symm
    have K10 : ∀ b, zs_K S8 b = zs_K S b := zs_Kt e9 (zs_Ksi _ _ _ _) (fun _ => rfl)
    exact (u_X9_addPieces_44 hB h).weak trivial
  · have h := h.2 c6
    refine zu_sipush d_8113_34 zh_4001 ?_
    refine zu_goto (t := 43) d_8113_37 rfl ?_
    refine zs_stk2 (zs_rfe e3) ?_
    obtain ⟨k11, h⟩ := h
    refine zu_iast (k := 0) d_8113_43 rfl rfl k11 k4 ?_
    generalize e13 : zs_si S b2 p1.toNatClampNeg (4001 : Int32) = S12
    have h := h S12 e13.symm
    have K14 : ∀ b, zs_K S12 b = zs_K S b := zs_Kt e13 (zs_Ksi _ _ _ _) (fun _ => rfl)
    exact (u_X9_addPieces_44 hB h).weak trivial
/-! SchemaPascalModel.doneType(I)V -/
theorem zm_8114 {σ : Nat → Nat} {n0 : Nat} {bf : ab_B} : ab_code (zx σ n0 bf).1 8114 = prog_17_method_108_code := rfl
theorem zq_8114 {σ : Nat → Nat} {n0 : Nat} {bf : ab_B} : ab_maxL (zx σ n0 bf).1 8114 = 3 := rfl
theorem zr_8114 {σ : Nat → Nat} {n0 : Nat} {bf : ab_B} : ab_ret (zx σ n0 bf).1 8114 = (Option.none : Option Jvm.ClassFile.FieldType) := rfl
theorem d_8114_0 {σ : Nat → Nat} {n0 : Nat} {bf : ab_B} : decode (ab_code (zx σ n0 bf).1 8114) 0 = .ok (.aload_n 0, 1) := zd zm_8114 (by decide +kernel)
theorem d_8114_1 {σ : Nat → Nat} {n0 : Nat} {bf : ab_B} : decode (ab_code (zx σ n0 bf).1 8114) 1 = .ok (.getfield 444, 3) := zd zm_8114 (by decide +kernel)
theorem d_8114_4 {σ : Nat → Nat} {n0 : Nat} {bf : ab_B} : decode (ab_code (zx σ n0 bf).1 8114) 4 = .ok (.ifCond .le 4, 3) := zd zm_8114 (by decide +kernel)
theorem d_8114_7 {σ : Nat → Nat} {n0 : Nat} {bf : ab_B} : decode (ab_code (zx σ n0 bf).1 8114) 7 = .ok (.return_, 1) := zd zm_8114 (by decide +kernel)
theorem d_8114_8 {σ : Nat → Nat} {n0 : Nat} {bf : ab_B} : decode (ab_code (zx σ n0 bf).1 8114) 8 = .ok (.aload_n 0, 1) := zd zm_8114 (by decide +kernel)
theorem d_8114_9 {σ : Nat → Nat} {n0 : Nat} {bf : ab_B} : decode (ab_code (zx σ n0 bf).1 8114) 9 = .ok (.getfield 109, 3) := zd zm_8114 (by decide +kernel)
theorem d_8114_12 {σ : Nat → Nat} {n0 : Nat} {bf : ab_B} : decode (ab_code (zx σ n0 bf).1 8114) 12 = .ok (.iload_n 1, 1) := zd zm_8114 (by decide +kernel)
theorem d_8114_13 {σ : Nat → Nat} {n0 : Nat} {bf : ab_B} : decode (ab_code (zx σ n0 bf).1 8114) 13 = .ok (.baload, 1) := zd zm_8114 (by decide +kernel)
theorem d_8114_14 {σ : Nat → Nat} {n0 : Nat} {bf : ab_B} : decode (ab_code (zx σ n0 bf).1 8114) 14 = .ok (.bipush 60, 2) := zd zm_8114 (by decide +kernel)
theorem d_8114_16 {σ : Nat → Nat} {n0 : Nat} {bf : ab_B} : decode (ab_code (zx σ n0 bf).1 8114) 16 = .ok (.if_icmp .gt 15, 3) := zd zm_8114 (by decide +kernel)
theorem d_8114_19 {σ : Nat → Nat} {n0 : Nat} {bf : ab_B} : decode (ab_code (zx σ n0 bf).1 8114) 19 = .ok (.aload_n 0, 1) := zd zm_8114 (by decide +kernel)
theorem d_8114_20 {σ : Nat → Nat} {n0 : Nat} {bf : ab_B} : decode (ab_code (zx σ n0 bf).1 8114) 20 = .ok (.getfield 112, 3) := zd zm_8114 (by decide +kernel)
theorem d_8114_23 {σ : Nat → Nat} {n0 : Nat} {bf : ab_B} : decode (ab_code (zx σ n0 bf).1 8114) 23 = .ok (.iload_n 1, 1) := zd zm_8114 (by decide +kernel)
theorem d_8114_24 {σ : Nat → Nat} {n0 : Nat} {bf : ab_B} : decode (ab_code (zx σ n0 bf).1 8114) 24 = .ok (.iaload, 1) := zd zm_8114 (by decide +kernel)
theorem d_8114_25 {σ : Nat → Nat} {n0 : Nat} {bf : ab_B} : decode (ab_code (zx σ n0 bf).1 8114) 25 = .ok (.sipush 4000, 3) := zd zm_8114 (by decide +kernel)
theorem d_8114_28 {σ : Nat → Nat} {n0 : Nat} {bf : ab_B} : decode (ab_code (zx σ n0 bf).1 8114) 28 = .ok (.if_icmp .le 10, 3) := zd zm_8114 (by decide +kernel)
theorem d_8114_31 {σ : Nat → Nat} {n0 : Nat} {bf : ab_B} : decode (ab_code (zx σ n0 bf).1 8114) 31 = .ok (.aload_n 0, 1) := zd zm_8114 (by decide +kernel)
theorem d_8114_32 {σ : Nat → Nat} {n0 : Nat} {bf : ab_B} : decode (ab_code (zx σ n0 bf).1 8114) 32 = .ok (.bipush 8, 2) := zd zm_8114 (by decide +kernel)
theorem d_8114_34 {σ : Nat → Nat} {n0 : Nat} {bf : ab_B} : decode (ab_code (zx σ n0 bf).1 8114) 34 = .ok (.invokevirtual 541, 3) := zd zm_8114 (by decide +kernel)
theorem d_8114_37 {σ : Nat → Nat} {n0 : Nat} {bf : ab_B} : decode (ab_code (zx σ n0 bf).1 8114) 37 = .ok (.return_, 1) := zd zm_8114 (by decide +kernel)
theorem d_8114_38 {σ : Nat → Nat} {n0 : Nat} {bf : ab_B} : decode (ab_code (zx σ n0 bf).1 8114) 38 = .ok (.aload_n 0, 1) := zd zm_8114 (by decide +kernel)
theorem d_8114_39 {σ : Nat → Nat} {n0 : Nat} {bf : ab_B} : decode (ab_code (zx σ n0 bf).1 8114) 39 = .ok (.iload_n 1, 1) := zd zm_8114 (by decide +kernel)
theorem d_8114_40 {σ : Nat → Nat} {n0 : Nat} {bf : ab_B} : decode (ab_code (zx σ n0 bf).1 8114) 40 = .ok (.invokevirtual 834, 3) := zd zm_8114 (by decide +kernel)
theorem d_8114_43 {σ : Nat → Nat} {n0 : Nat} {bf : ab_B} : decode (ab_code (zx σ n0 bf).1 8114) 43 = .ok (.ifCond .eq 9, 3) := zd zm_8114 (by decide +kernel)
theorem d_8114_46 {σ : Nat → Nat} {n0 : Nat} {bf : ab_B} : decode (ab_code (zx σ n0 bf).1 8114) 46 = .ok (.aload_n 0, 1) := zd zm_8114 (by decide +kernel)
theorem d_8114_47 {σ : Nat → Nat} {n0 : Nat} {bf : ab_B} : decode (ab_code (zx σ n0 bf).1 8114) 47 = .ok (.iconst 5, 1) := zd zm_8114 (by decide +kernel)
theorem d_8114_48 {σ : Nat → Nat} {n0 : Nat} {bf : ab_B} : decode (ab_code (zx σ n0 bf).1 8114) 48 = .ok (.invokevirtual 541, 3) := zd zm_8114 (by decide +kernel)
theorem d_8114_51 {σ : Nat → Nat} {n0 : Nat} {bf : ab_B} : decode (ab_code (zx σ n0 bf).1 8114) 51 = .ok (.return_, 1) := zd zm_8114 (by decide +kernel)
theorem d_8114_52 {σ : Nat → Nat} {n0 : Nat} {bf : ab_B} : decode (ab_code (zx σ n0 bf).1 8114) 52 = .ok (.aload_n 0, 1) := zd zm_8114 (by decide +kernel)
theorem d_8114_53 {σ : Nat → Nat} {n0 : Nat} {bf : ab_B} : decode (ab_code (zx σ n0 bf).1 8114) 53 = .ok (.getfield 115, 3) := zd zm_8114 (by decide +kernel)
theorem d_8114_56 {σ : Nat → Nat} {n0 : Nat} {bf : ab_B} : decode (ab_code (zx σ n0 bf).1 8114) 56 = .ok (.iload_n 1, 1) := zd zm_8114 (by decide +kernel)
theorem d_8114_57 {σ : Nat → Nat} {n0 : Nat} {bf : ab_B} : decode (ab_code (zx σ n0 bf).1 8114) 57 = .ok (.iaload, 1) := zd zm_8114 (by decide +kernel)
theorem d_8114_58 {σ : Nat → Nat} {n0 : Nat} {bf : ab_B} : decode (ab_code (zx σ n0 bf).1 8114) 58 = .ok (.ifCond .ge 12, 3) := zd zm_8114 (by decide +kernel)
theorem d_8114_61 {σ : Nat → Nat} {n0 : Nat} {bf : ab_B} : decode (ab_code (zx σ n0 bf).1 8114) 61 = .ok (.aload_n 0, 1) := zd zm_8114 (by decide +kernel)
theorem d_8114_62 {σ : Nat → Nat} {n0 : Nat} {bf : ab_B} : decode (ab_code (zx σ n0 bf).1 8114) 62 = .ok (.bipush 7, 2) := zd zm_8114 (by decide +kernel)
theorem d_8114_64 {σ : Nat → Nat} {n0 : Nat} {bf : ab_B} : decode (ab_code (zx σ n0 bf).1 8114) 64 = .ok (.invokevirtual 541, 3) := zd zm_8114 (by decide +kernel)
theorem d_8114_67 {σ : Nat → Nat} {n0 : Nat} {bf : ab_B} : decode (ab_code (zx σ n0 bf).1 8114) 67 = .ok (.goto 57, 3) := zd zm_8114 (by decide +kernel)
theorem d_8114_70 {σ : Nat → Nat} {n0 : Nat} {bf : ab_B} : decode (ab_code (zx σ n0 bf).1 8114) 70 = .ok (.aload_n 0, 1) := zd zm_8114 (by decide +kernel)
theorem d_8114_71 {σ : Nat → Nat} {n0 : Nat} {bf : ab_B} : decode (ab_code (zx σ n0 bf).1 8114) 71 = .ok (.getfield 105, 3) := zd zm_8114 (by decide +kernel)
theorem d_8114_74 {σ : Nat → Nat} {n0 : Nat} {bf : ab_B} : decode (ab_code (zx σ n0 bf).1 8114) 74 = .ok (.iload_n 1, 1) := zd zm_8114 (by decide +kernel)
theorem d_8114_75 {σ : Nat → Nat} {n0 : Nat} {bf : ab_B} : decode (ab_code (zx σ n0 bf).1 8114) 75 = .ok (.baload, 1) := zd zm_8114 (by decide +kernel)
theorem d_8114_76 {σ : Nat → Nat} {n0 : Nat} {bf : ab_B} : decode (ab_code (zx σ n0 bf).1 8114) 76 = .ok (.ifCond .ne 48, 3) := zd zm_8114 (by decide +kernel)
theorem d_8114_79 {σ : Nat → Nat} {n0 : Nat} {bf : ab_B} : decode (ab_code (zx σ n0 bf).1 8114) 79 = .ok (.aload_n 0, 1) := zd zm_8114 (by decide +kernel)
theorem d_8114_80 {σ : Nat → Nat} {n0 : Nat} {bf : ab_B} : decode (ab_code (zx σ n0 bf).1 8114) 80 = .ok (.getfield 90, 3) := zd zm_8114 (by decide +kernel)
theorem d_8114_83 {σ : Nat → Nat} {n0 : Nat} {bf : ab_B} : decode (ab_code (zx σ n0 bf).1 8114) 83 = .ok (.iload_n 1, 1) := zd zm_8114 (by decide +kernel)
theorem d_8114_84 {σ : Nat → Nat} {n0 : Nat} {bf : ab_B} : decode (ab_code (zx σ n0 bf).1 8114) 84 = .ok (.baload, 1) := zd zm_8114 (by decide +kernel)
theorem d_8114_85 {σ : Nat → Nat} {n0 : Nat} {bf : ab_B} : decode (ab_code (zx σ n0 bf).1 8114) 85 = .ok (.bipush 6, 2) := zd zm_8114 (by decide +kernel)
theorem d_8114_87 {σ : Nat → Nat} {n0 : Nat} {bf : ab_B} : decode (ab_code (zx σ n0 bf).1 8114) 87 = .ok (.if_icmp .lt 37, 3) := zd zm_8114 (by decide +kernel)
theorem d_8114_90 {σ : Nat → Nat} {n0 : Nat} {bf : ab_B} : decode (ab_code (zx σ n0 bf).1 8114) 90 = .ok (.aload_n 0, 1) := zd zm_8114 (by decide +kernel)
theorem d_8114_91 {σ : Nat → Nat} {n0 : Nat} {bf : ab_B} : decode (ab_code (zx σ n0 bf).1 8114) 91 = .ok (.getfield 90, 3) := zd zm_8114 (by decide +kernel)
theorem d_8114_94 {σ : Nat → Nat} {n0 : Nat} {bf : ab_B} : decode (ab_code (zx σ n0 bf).1 8114) 94 = .ok (.iload_n 1, 1) := zd zm_8114 (by decide +kernel)
theorem d_8114_95 {σ : Nat → Nat} {n0 : Nat} {bf : ab_B} : decode (ab_code (zx σ n0 bf).1 8114) 95 = .ok (.baload, 1) := zd zm_8114 (by decide +kernel)
theorem d_8114_96 {σ : Nat → Nat} {n0 : Nat} {bf : ab_B} : decode (ab_code (zx σ n0 bf).1 8114) 96 = .ok (.bipush 10, 2) := zd zm_8114 (by decide +kernel)
theorem d_8114_98 {σ : Nat → Nat} {n0 : Nat} {bf : ab_B} : decode (ab_code (zx σ n0 bf).1 8114) 98 = .ok (.if_icmp .eq 26, 3) := zd zm_8114 (by decide +kernel)
theorem d_8114_101 {σ : Nat → Nat} {n0 : Nat} {bf : ab_B} : decode (ab_code (zx σ n0 bf).1 8114) 101 = .ok (.aload_n 0, 1) := zd zm_8114 (by decide +kernel)
theorem d_8114_102 {σ : Nat → Nat} {n0 : Nat} {bf : ab_B} : decode (ab_code (zx σ n0 bf).1 8114) 102 = .ok (.iload_n 1, 1) := zd zm_8114 (by decide +kernel)
theorem d_8114_103 {σ : Nat → Nat} {n0 : Nat} {bf : ab_B} : decode (ab_code (zx σ n0 bf).1 8114) 103 = .ok (.invokevirtual 837, 3) := zd zm_8114 (by decide +kernel)
theorem d_8114_106 {σ : Nat → Nat} {n0 : Nat} {bf : ab_B} : decode (ab_code (zx σ n0 bf).1 8114) 106 = .ok (.istore_n 2, 1) := zd zm_8114 (by decide +kernel)
theorem d_8114_107 {σ : Nat → Nat} {n0 : Nat} {bf : ab_B} : decode (ab_code (zx σ n0 bf).1 8114) 107 = .ok (.iload_n 2, 1) := zd zm_8114 (by decide +kernel)
theorem d_8114_108 {σ : Nat → Nat} {n0 : Nat} {bf : ab_B} : decode (ab_code (zx σ n0 bf).1 8114) 108 = .ok (.ifCond .ge 9, 3) := zd zm_8114 (by decide +kernel)
theorem d_8114_111 {σ : Nat → Nat} {n0 : Nat} {bf : ab_B} : decode (ab_code (zx σ n0 bf).1 8114) 111 = .ok (.aload_n 0, 1) := zd zm_8114 (by decide +kernel)
theorem d_8114_112 {σ : Nat → Nat} {n0 : Nat} {bf : ab_B} : decode (ab_code (zx σ n0 bf).1 8114) 112 = .ok (.bipush 7, 2) := zd zm_8114 (by decide +kernel)
theorem d_8114_114 {σ : Nat → Nat} {n0 : Nat} {bf : ab_B} : decode (ab_code (zx σ n0 bf).1 8114) 114 = .ok (.invokevirtual 541, 3) := zd zm_8114 (by decide +kernel)
theorem d_8114_117 {σ : Nat → Nat} {n0 : Nat} {bf : ab_B} : decode (ab_code (zx σ n0 bf).1 8114) 117 = .ok (.aload_n 0, 1) := zd zm_8114 (by decide +kernel)
theorem d_8114_118 {σ : Nat → Nat} {n0 : Nat} {bf : ab_B} : decode (ab_code (zx σ n0 bf).1 8114) 118 = .ok (.getfield 115, 3) := zd zm_8114 (by decide +kernel)
theorem d_8114_121 {σ : Nat → Nat} {n0 : Nat} {bf : ab_B} : decode (ab_code (zx σ n0 bf).1 8114) 121 = .ok (.iload_n 1, 1) := zd zm_8114 (by decide +kernel)
theorem d_8114_122 {σ : Nat → Nat} {n0 : Nat} {bf : ab_B} : decode (ab_code (zx σ n0 bf).1 8114) 122 = .ok (.iload_n 2, 1) := zd zm_8114 (by decide +kernel)
theorem d_8114_123 {σ : Nat → Nat} {n0 : Nat} {bf : ab_B} : decode (ab_code (zx σ n0 bf).1 8114) 123 = .ok (.iastore, 1) := zd zm_8114 (by decide +kernel)
theorem d_8114_124 {σ : Nat → Nat} {n0 : Nat} {bf : ab_B} : decode (ab_code (zx σ n0 bf).1 8114) 124 = .ok (.aload_n 0, 1) := zd zm_8114 (by decide +kernel)
theorem d_8114_125 {σ : Nat → Nat} {n0 : Nat} {bf : ab_B} : decode (ab_code (zx σ n0 bf).1 8114) 125 = .ok (.iload_n 1, 1) := zd zm_8114 (by decide +kernel)
theorem d_8114_126 {σ : Nat → Nat} {n0 : Nat} {bf : ab_B} : decode (ab_code (zx σ n0 bf).1 8114) 126 = .ok (.invokevirtual 840, 3) := zd zm_8114 (by decide +kernel)
theorem d_8114_129 {σ : Nat → Nat} {n0 : Nat} {bf : ab_B} : decode (ab_code (zx σ n0 bf).1 8114) 129 = .ok (.return_, 1) := zd zm_8114 (by decide +kernel)
def w_X9_doneType_31 (X : zs_X) (d : Nat) (p0 : Nat) (S : zs_T) (Q : zs_Q) : Prop :=
  (zs_K S p0 = some (.inl 8) ∧ zs_C X d 8027 [.ref p0, .int (8 : Int32)] S (zs_kV (fun S2 => (Q (.returned none) S2)) Q))
theorem u_X9_doneType_31 {σ : Nat → Nat} {n0 : Nat} {bf : ab_B} {d : Nat} {p0 : Nat} {S : zs_T} {Q : zs_Q} (hB : zt_B bf) (h : w_X9_doneType_31 (zx σ n0 bf) d p0 S Q) : zs_U (zx σ n0 bf) d 8114 31 [(0, .ref p0)] [] S Q := by
  unfold w_X9_doneType_31 at h
  refine zu_aload_n d_8114_31 rfl (zs_ra _) ?_
  refine zu_bipush d_8114_32 zj_8 ?_
  obtain ⟨k1, h⟩ := h
  refine zc_8_541 (x0 := (8 : Int32)) hB rfl k1 d_8114_34 (Nat.le_of_ble_eq_true rfl) h (fun S2 h => ?_)
  exact zu_vret d_8114_37 zr_8114 h
def w_X9_doneType_46 (X : zs_X) (d : Nat) (p0 : Nat) (S : zs_T) (Q : zs_Q) : Prop :=
  (zs_K S p0 = some (.inl 8) ∧ zs_C X d 8027 [.ref p0, .int (5 : Int32)] S (zs_kV (fun S2 => (Q (.returned none) S2)) Q))
theorem u_X9_doneType_46 {σ : Nat → Nat} {n0 : Nat} {bf : ab_B} {d : Nat} {p0 : Nat} {S : zs_T} {Q : zs_Q} (hB : zt_B bf) (h : w_X9_doneType_46 (zx σ n0 bf) d p0 S Q) : zs_U (zx σ n0 bf) d 8114 46 [(0, .ref p0)] [] S Q := by
  unfold w_X9_doneType_46 at h
  refine zu_aload_n d_8114_46 rfl (zs_ra _) ?_
  refine zu_iconst d_8114_47 zi_5 ?_
  obtain ⟨k1, h⟩ := h
  refine zc_8_541 (x0 := (5 : Int32)) hB rfl k1 d_8114_48 (Nat.le_of_ble_eq_true rfl) h (fun S2 h => ?_)
  exact zu_vret d_8114_51 zr_8114 h
def w_X9_doneType_124 (X : zs_X) (d : Nat) (p0 : Nat) (p1 : Int32) (S : zs_T) (Q : zs_Q) : Prop :=
  (zs_K S p0 = some (.inl 8) ∧ zs_C X d 8091 [.ref p0, .int p1] S (zs_kV (fun S2 => (Q (.returned none) S2)) Q))
theorem u_X9_doneType_124 {σ : Nat → Nat} {n0 : Nat} {bf : ab_B} {d : Nat} {p0 : Nat} {p1 : Int32} {S : zs_T} {Q : zs_Q} (hB : zt_B bf) (h : w_X9_doneType_124 (zx σ n0 bf) d p0 p1 S Q) : zs_U (zx σ n0 bf) d 8114 124 [(0, .ref p0), (1, .int p1)] [] S Q := by
  unfold w_X9_doneType_124 at h
  refine zu_aload_n d_8114_124 rfl (zs_ra _) ?_
  refine zu_iload_n d_8114_125 rfl ?_
  obtain ⟨k1, h⟩ := h
  refine zc_8_840 (x0 := p1) hB rfl k1 d_8114_126 (Nat.le_of_ble_eq_true rfl) h (fun S2 h => ?_)
  exact zu_vret d_8114_129 zr_8114 h
def w_X9_doneType_117 (X : zs_X) (d : Nat) (p0 : Nat) (p1 : Int32) (p2 : Int32) (S : zs_T) (Q : zs_Q) : Prop :=
  (zs_K S p0 = some (.inl 8) ∧ ∃ b2, (zs_R S 8052 p0) = some b2 ∧ zs_A S b2 0 p1 ∧ ab_n0 X.1 ≤ b2 ∧ ∀ S6, S6 = zs_si S b2 p1.toNatClampNeg p2 → w_X9_doneType_124 X d p0 p1 S6 Q)
theorem u_X9_doneType_117 {σ : Nat → Nat} {n0 : Nat} {bf : ab_B} {d : Nat} {p0 : Nat} {p1 : Int32} {p2 : Int32} {S : zs_T} {Q : zs_Q} (hB : zt_B bf) (h : w_X9_doneType_117 (zx σ n0 bf) d p0 p1 p2 S Q) : zs_U (zx σ n0 bf) d 8114 117 [(0, .ref p0), (1, .int p1), (2, .int p2)] [] S Q := by
  unfold w_X9_doneType_117 at h
  refine zu_aload_n d_8114_117 rfl (zs_ra _) ?_
  obtain ⟨k1, h⟩ := h
  refine zg_8_115 rfl d_8114_118 k1 ?_
  refine zu_iload_n d_8114_121 rfl ?_
  refine zu_iload_n d_8114_122 rfl ?_
  obtain ⟨b2, e3, h⟩ := h
  refine zs_stk2 (zs_rfe e3) ?_
  obtain ⟨k4, h⟩ := h
  obtain ⟨k5, h⟩ := h
  refine zu_iast (k := 0) d_8114_123 rfl rfl k5 k4 ?_
  generalize e7 : zs_si S b2 p1.toNatClampNeg p2 = S6
  have h := h S6 e7.symm
  have K8 : ∀ b, zs_K S6 b = zs_K S b := zs_Kt e7 (zs_Ksi _ _ _ _) (fun _ => rfl)
  exact (u_X9_doneType_124 hB h).weak ⟨rfl, rfl, trivial⟩
def w_X9_doneType_90 (X : zs_X) (d : Nat) (p0 : Nat) (p1 : Int32) (S : zs_T) (Q : zs_Q) : Prop :=
  (zs_K S p0 = some (.inl 8) ∧ ∃ b2, (zs_R S 8044 p0) = some b2 ∧ zs_A S b2 1 p1 ∧ (((zs_i S b2 p1.toNatClampNeg) = (10 : Int32) → w_X9_doneType_124 X d p0 p1 S Q) ∧ (¬ ((zs_i S b2 p1.toNatClampNeg) = (10 : Int32)) → (zs_C X d 8115 [.ref p0, .int p1] S (zs_kI (fun v7 S6 => (((0 ≤ v7 → w_X9_doneType_117 X d p0 p1 v7 S6 Q) ∧ (¬ (0 ≤ v7) → (zs_K S6 p0 = some (.inl 8) ∧ zs_C X d 8027 [.ref p0, .int (7 : Int32)] S6 (zs_kV (fun S10 => w_X9_doneType_117 X d p0 p1 v7 S10 Q) Q)))))) Q)))))
theorem u_X9_doneType_90 {σ : Nat → Nat} {n0 : Nat} {bf : ab_B} {d : Nat} {p0 : Nat} {p1 : Int32} {S : zs_T} {Q : zs_Q} (hB : zt_B bf) (h : w_X9_doneType_90 (zx σ n0 bf) d p0 p1 S Q) : zs_U (zx σ n0 bf) d 8114 90 [(0, .ref p0), (1, .int p1)] [] S Q := by
  unfold w_X9_doneType_90 at h
  refine zu_aload_n d_8114_90 rfl (zs_ra _) ?_
  obtain ⟨k1, h⟩ := h
  refine zg_8_90 rfl d_8114_91 k1 ?_
  refine zu_iload_n d_8114_94 rfl ?_
  obtain ⟨b2, e3, h⟩ := h
  refine zs_stk1 (zs_rfe e3) ?_
  obtain ⟨k4, h⟩ := h
  refine zu_bald (k := 1) d_8114_95 rfl (Or.inl rfl) k4 ?_
  refine zu_bipush d_8114_96 zj_10 ?_
  refine zu_cmpeq (t := 124) d_8114_98 rfl (fun c5 => ?_) (fun c5 => ?_)
  · have h := h.1 c5
    exact (u_X9_doneType_124 hB h).weak ⟨rfl, rfl, trivial⟩
  · have h := h.2 c5
    refine zu_aload_n d_8114_101 rfl (zs_ra _) ?_
    refine zu_iload_n d_8114_102 rfl ?_
    refine zc_8_837 (x0 := p1) hB rfl k1 d_8114_103 (Nat.le_of_ble_eq_true rfl) h (fun v7 S6 h => ?_)
    refine zu_istore_n d_8114_106 (zs_lt zq_8114 rfl) ?_
    refine zu_iload_n d_8114_107 rfl ?_
    refine zu_ifge (t := 117) d_8114_108 rfl (fun c8 => ?_) (fun c8 => ?_)
    · have h := h.1 c8
      exact (u_X9_doneType_117 hB h).weak ⟨rfl, rfl, rfl, trivial⟩
    · have h := h.2 c8
      refine zu_aload_n d_8114_111 rfl (zs_ra _) ?_
      refine zu_bipush d_8114_112 zj_7 ?_
      obtain ⟨k9, h⟩ := h
      refine zc_8_541 (x0 := (7 : Int32)) hB rfl k9 d_8114_114 (Nat.le_of_ble_eq_true rfl) h (fun S10 h => ?_)
      exact (u_X9_doneType_117 hB h).weak ⟨rfl, rfl, rfl, trivial⟩
def w_X9_doneType_52 (X : zs_X) (d : Nat) (p0 : Nat) (p1 : Int32) (S : zs_T) (Q : zs_Q) : Prop :=
  (zs_K S p0 = some (.inl 8) ∧ ∃ b2, (zs_R S 8052 p0) = some b2 ∧ zs_A S b2 0 p1 ∧ ((0 ≤ (zs_i S b2 p1.toNatClampNeg) → (∃ b6, (zs_R S 8049 p0) = some b6 ∧ zs_A S b6 2 p1 ∧ ((¬ (zs_i S b6 p1.toNatClampNeg) = 0 → w_X9_doneType_124 X d p0 p1 S Q) ∧ (¬ (¬ (zs_i S b6 p1.toNatClampNeg) = 0) → (∃ b10, (zs_R S 8044 p0) = some b10 ∧ zs_A S b10 1 p1 ∧ (((zs_i S b10 p1.toNatClampNeg) < (6 : Int32) → w_X9_doneType_124 X d p0 p1 S Q) ∧ (¬ ((zs_i S b10 p1.toNatClampNeg) < (6 : Int32)) → w_X9_doneType_90 X d p0 p1 S Q))))))) ∧ (¬ (0 ≤ (zs_i S b2 p1.toNatClampNeg)) → (zs_C X d 8027 [.ref p0, .int (7 : Int32)] S (zs_kV (fun S14 => (w_X9_doneType_124 X d p0 p1 S14 Q)) Q)))))
theorem u_X9_doneType_52 {σ : Nat → Nat} {n0 : Nat} {bf : ab_B} {d : Nat} {p0 : Nat} {p1 : Int32} {S : zs_T} {Q : zs_Q} (hB : zt_B bf) (h : w_X9_doneType_52 (zx σ n0 bf) d p0 p1 S Q) : zs_U (zx σ n0 bf) d 8114 52 [(0, .ref p0), (1, .int p1)] [] S Q := by
  unfold w_X9_doneType_52 at h
  refine zu_aload_n d_8114_52 rfl (zs_ra _) ?_
  obtain ⟨k1, h⟩ := h
  refine zg_8_115 rfl d_8114_53 k1 ?_
  refine zu_iload_n d_8114_56 rfl ?_
  obtain ⟨b2, e3, h⟩ := h
  refine zs_stk1 (zs_rfe e3) ?_
  obtain ⟨k4, h⟩ := h
  refine zu_iald (k := 0) d_8114_57 rfl rfl k4 ?_
  refine zu_ifge (t := 70) d_8114_58 rfl (fun c5 => ?_) (fun c5 => ?_)
  · have h := h.1 c5
    refine zu_aload_n d_8114_70 rfl (zs_ra _) ?_
    refine zg_8_105 rfl d_8114_71 k1 ?_
    refine zu_iload_n d_8114_74 rfl ?_
    obtain ⟨b6, e7, h⟩ := h
    refine zs_stk1 (zs_rfe e7) ?_
    obtain ⟨k8, h⟩ := h
    refine zu_bald (k := 2) d_8114_75 rfl (Or.inr rfl) k8 ?_
    refine zu_ifne (t := 124) d_8114_76 rfl (fun c9 => ?_) (fun c9 => ?_)
    · have h := h.1 c9
      exact (u_X9_doneType_124 hB h).weak ⟨rfl, rfl, trivial⟩
    · have h := h.2 c9
      refine zu_aload_n d_8114_79 rfl (zs_ra _) ?_
      refine zg_8_90 rfl d_8114_80 k1 ?_
      refine zu_iload_n d_8114_83 rfl ?_
      obtain ⟨b10, e11, h⟩ := h
      refine zs_stk1 (zs_rfe e11) ?_
      obtain ⟨k12, h⟩ := h
      refine zu_bald (k := 1) d_8114_84 rfl (Or.inl rfl) k12 ?_
      refine zu_bipush d_8114_85 zj_6 ?_
      refine zu_cmplt (t := 124) d_8114_87 rfl (fun c13 => ?_) (fun c13 => ?_)
      · have h := h.1 c13
        exact (u_X9_doneType_124 hB h).weak ⟨rfl, rfl, trivial⟩
      · have h := h.2 c13
        exact (u_X9_doneType_90 hB h).weak ⟨rfl, rfl, trivial⟩
  · have h := h.2 c5
    refine zu_aload_n d_8114_61 rfl (zs_ra _) ?_
    refine zu_bipush d_8114_62 zj_7 ?_
    refine zc_8_541 (x0 := (7 : Int32)) hB rfl k1 d_8114_64 (Nat.le_of_ble_eq_true rfl) h (fun S14 h => ?_)
    refine zu_goto (t := 124) d_8114_67 rfl ?_
    exact (u_X9_doneType_124 hB h).weak ⟨rfl, rfl, trivial⟩
def w_X9_doneType (X : zs_X) (d : Nat) (p0 : Nat) (p1 : Int32) (S : zs_T) (Q : zs_Q) : Prop :=
  (zs_K S p0 = some (.inl 8) ∧ (((zs_I S 8010 p0) ≤ 0 → (∃ b3, (zs_R S 8050 p0) = some b3 ∧ zs_A S b3 1 p1 ∧ (((60 : Int32) < (zs_i S b3 p1.toNatClampNeg) → w_X9_doneType_31 X d p0 S Q) ∧ (¬ ((60 : Int32) < (zs_i S b3 p1.toNatClampNeg)) → (∃ b7, (zs_R S 8051 p0) = some b7 ∧ zs_A S b7 0 p1 ∧ (((zs_i S b7 p1.toNatClampNeg) ≤ (4000 : Int32) → (zs_C X d 8109 [.ref p0, .int p1] S (zs_kI (fun v12 S11 => (((v12 = 0 → w_X9_doneType_52 X d p0 p1 S11 Q) ∧ (¬ (v12 = 0) → w_X9_doneType_46 X d p0 S11 Q)))) Q))) ∧ (¬ ((zs_i S b7 p1.toNatClampNeg) ≤ (4000 : Int32)) → w_X9_doneType_31 X d p0 S Q))))))) ∧ (¬ ((zs_I S 8010 p0) ≤ 0) → (Q (.returned none) S))))
theorem u_X9_doneType {σ : Nat → Nat} {n0 : Nat} {bf : ab_B} {d : Nat} {p0 : Nat} {p1 : Int32} {S : zs_T} {Q : zs_Q} (hB : zt_B bf) (hd : 1 ≤ d) (h : w_X9_doneType (zx σ n0 bf) (d - 1) p0 p1 S Q) : zs_C (zx σ n0 bf) d 8114 [.ref p0, .int p1] S Q := by
  have hL : lv_args 0 [.ref p0, .int p1] = [(0, .ref p0), (1, .int p1)] := rfl
  refine zs_C.of1 (hB.2 8114 (by decide) (by decide)) hd (by rw [hL]; exact zs_sub_self _ (by exact ⟨rfl, rfl, trivial⟩)) ?_
  rw [hL]
  clear hL
  unfold w_X9_doneType at h
  refine zu_aload_n d_8114_0 rfl (zs_ra _) ?_
  obtain ⟨k1, h⟩ := h
  refine zg_8_444 rfl d_8114_1 k1 ?_
  refine zu_ifle (t := 8) d_8114_4 rfl (fun c2 => ?_) (fun c2 => ?_)
  · have h := h.1 c2
    refine zu_aload_n d_8114_8 rfl (zs_ra _) ?_
    refine zg_8_109 rfl d_8114_9 k1 ?_
    refine zu_iload_n d_8114_12 rfl ?_
    obtain ⟨b3, e4, h⟩ := h
    refine zs_stk1 (zs_rfe e4) ?_
    obtain ⟨k5, h⟩ := h
    refine zu_bald (k := 1) d_8114_13 rfl (Or.inl rfl) k5 ?_
    refine zu_bipush d_8114_14 zj_60 ?_
    refine zu_cmpgt (t := 31) d_8114_16 rfl (fun c6 => ?_) (fun c6 => ?_)
    · have h := h.1 c6
      exact (u_X9_doneType_31 hB h).weak ⟨rfl, trivial⟩
    · have h := h.2 c6
      refine zu_aload_n d_8114_19 rfl (zs_ra _) ?_
      refine zg_8_112 rfl d_8114_20 k1 ?_
      refine zu_iload_n d_8114_23 rfl ?_
      obtain ⟨b7, e8, h⟩ := h
      refine zs_stk1 (zs_rfe e8) ?_
      obtain ⟨k9, h⟩ := h
      refine zu_iald (k := 0) d_8114_24 rfl rfl k9 ?_
      refine zu_sipush d_8114_25 zh_4000 ?_
      refine zu_cmple (t := 38) d_8114_28 rfl (fun c10 => ?_) (fun c10 => ?_)
      · have h := h.1 c10
        refine zu_aload_n d_8114_38 rfl (zs_ra _) ?_
        refine zu_iload_n d_8114_39 rfl ?_
        refine zc_8_834 (x0 := p1) hB rfl k1 d_8114_40 (Nat.le_of_ble_eq_true rfl) h (fun v12 S11 h => ?_)
        refine zu_ifeq (t := 52) d_8114_43 rfl (fun c13 => ?_) (fun c13 => ?_)
        · have h := h.1 c13
          exact (u_X9_doneType_52 hB h).weak ⟨rfl, rfl, trivial⟩
        · have h := h.2 c13
          exact (u_X9_doneType_46 hB h).weak ⟨rfl, trivial⟩
      · have h := h.2 c10
        exact (u_X9_doneType_31 hB h).weak ⟨rfl, trivial⟩
  · have h := h.2 c2
    exact zu_vret d_8114_7 zr_8114 h
/-! SchemaPascalModel.measure(I)I -/
theorem zm_8115 {σ : Nat → Nat} {n0 : Nat} {bf : ab_B} : ab_code (zx σ n0 bf).1 8115 = prog_17_method_104_code := rfl
theorem zq_8115 {σ : Nat → Nat} {n0 : Nat} {bf : ab_B} : ab_maxL (zx σ n0 bf).1 8115 = 10 := rfl
theorem zr_8115 {σ : Nat → Nat} {n0 : Nat} {bf : ab_B} : ab_ret (zx σ n0 bf).1 8115 = (Option.some Jvm.ClassFile.FieldType.int) := rfl
theorem d_8115_0 {σ : Nat → Nat} {n0 : Nat} {bf : ab_B} : decode (ab_code (zx σ n0 bf).1 8115) 0 = .ok (.aload_n 0, 1) := zd zm_8115 (by decide +kernel)
theorem d_8115_1 {σ : Nat → Nat} {n0 : Nat} {bf : ab_B} : decode (ab_code (zx σ n0 bf).1 8115) 1 = .ok (.getfield 802, 3) := zd zm_8115 (by decide +kernel)
theorem d_8115_4 {σ : Nat → Nat} {n0 : Nat} {bf : ab_B} : decode (ab_code (zx σ n0 bf).1 8115) 4 = .ok (.istore_n 2, 1) := zd zm_8115 (by decide +kernel)
theorem d_8115_5 {σ : Nat → Nat} {n0 : Nat} {bf : ab_B} : decode (ab_code (zx σ n0 bf).1 8115) 5 = .ok (.iconst (-1), 1) := zd zm_8115 (by decide +kernel)
theorem d_8115_6 {σ : Nat → Nat} {n0 : Nat} {bf : ab_B} : decode (ab_code (zx σ n0 bf).1 8115) 6 = .ok (.istore_n 3, 1) := zd zm_8115 (by decide +kernel)
theorem d_8115_7 {σ : Nat → Nat} {n0 : Nat} {bf : ab_B} : decode (ab_code (zx σ n0 bf).1 8115) 7 = .ok (.iconst 1, 1) := zd zm_8115 (by decide +kernel)
theorem d_8115_8 {σ : Nat → Nat} {n0 : Nat} {bf : ab_B} : decode (ab_code (zx σ n0 bf).1 8115) 8 = .ok (.istore 4, 2) := zd zm_8115 (by decide +kernel)
theorem d_8115_10 {σ : Nat → Nat} {n0 : Nat} {bf : ab_B} : decode (ab_code (zx σ n0 bf).1 8115) 10 = .ok (.iload_n 1, 1) := zd zm_8115 (by decide +kernel)
theorem d_8115_11 {σ : Nat → Nat} {n0 : Nat} {bf : ab_B} : decode (ab_code (zx σ n0 bf).1 8115) 11 = .ok (.istore 5, 2) := zd zm_8115 (by decide +kernel)
theorem d_8115_13 {σ : Nat → Nat} {n0 : Nat} {bf : ab_B} : decode (ab_code (zx σ n0 bf).1 8115) 13 = .ok (.iconst 0, 1) := zd zm_8115 (by decide +kernel)
theorem d_8115_14 {σ : Nat → Nat} {n0 : Nat} {bf : ab_B} : decode (ab_code (zx σ n0 bf).1 8115) 14 = .ok (.istore 6, 2) := zd zm_8115 (by decide +kernel)
theorem d_8115_16 {σ : Nat → Nat} {n0 : Nat} {bf : ab_B} : decode (ab_code (zx σ n0 bf).1 8115) 16 = .ok (.aload_n 0, 1) := zd zm_8115 (by decide +kernel)
theorem d_8115_17 {σ : Nat → Nat} {n0 : Nat} {bf : ab_B} : decode (ab_code (zx σ n0 bf).1 8115) 17 = .ok (.iload_n 1, 1) := zd zm_8115 (by decide +kernel)
theorem d_8115_18 {σ : Nat → Nat} {n0 : Nat} {bf : ab_B} : decode (ab_code (zx σ n0 bf).1 8115) 18 = .ok (.invokevirtual 810, 3) := zd zm_8115 (by decide +kernel)
theorem d_8115_21 {σ : Nat → Nat} {n0 : Nat} {bf : ab_B} : decode (ab_code (zx σ n0 bf).1 8115) 21 = .ok (.aload_n 0, 1) := zd zm_8115 (by decide +kernel)
theorem d_8115_22 {σ : Nat → Nat} {n0 : Nat} {bf : ab_B} : decode (ab_code (zx σ n0 bf).1 8115) 22 = .ok (.getfield 802, 3) := zd zm_8115 (by decide +kernel)
theorem d_8115_25 {σ : Nat → Nat} {n0 : Nat} {bf : ab_B} : decode (ab_code (zx σ n0 bf).1 8115) 25 = .ok (.iload_n 2, 1) := zd zm_8115 (by decide +kernel)
theorem d_8115_26 {σ : Nat → Nat} {n0 : Nat} {bf : ab_B} : decode (ab_code (zx σ n0 bf).1 8115) 26 = .ok (.if_icmp .le 298, 3) := zd zm_8115 (by decide +kernel)
theorem d_8115_29 {σ : Nat → Nat} {n0 : Nat} {bf : ab_B} : decode (ab_code (zx σ n0 bf).1 8115) 29 = .ok (.aload_n 0, 1) := zd zm_8115 (by decide +kernel)
theorem d_8115_30 {σ : Nat → Nat} {n0 : Nat} {bf : ab_B} : decode (ab_code (zx σ n0 bf).1 8115) 30 = .ok (.getfield 802, 3) := zd zm_8115 (by decide +kernel)
theorem d_8115_33 {σ : Nat → Nat} {n0 : Nat} {bf : ab_B} : decode (ab_code (zx σ n0 bf).1 8115) 33 = .ok (.iconst 1, 1) := zd zm_8115 (by decide +kernel)
theorem d_8115_34 {σ : Nat → Nat} {n0 : Nat} {bf : ab_B} : decode (ab_code (zx σ n0 bf).1 8115) 34 = .ok (.isub, 1) := zd zm_8115 (by decide +kernel)
theorem d_8115_35 {σ : Nat → Nat} {n0 : Nat} {bf : ab_B} : decode (ab_code (zx σ n0 bf).1 8115) 35 = .ok (.istore 7, 2) := zd zm_8115 (by decide +kernel)
theorem d_8115_37 {σ : Nat → Nat} {n0 : Nat} {bf : ab_B} : decode (ab_code (zx σ n0 bf).1 8115) 37 = .ok (.aload_n 0, 1) := zd zm_8115 (by decide +kernel)
theorem d_8115_38 {σ : Nat → Nat} {n0 : Nat} {bf : ab_B} : decode (ab_code (zx σ n0 bf).1 8115) 38 = .ok (.iload 7, 2) := zd zm_8115 (by decide +kernel)
theorem d_8115_40 {σ : Nat → Nat} {n0 : Nat} {bf : ab_B} : decode (ab_code (zx σ n0 bf).1 8115) 40 = .ok (.invokevirtual 813, 3) := zd zm_8115 (by decide +kernel)
theorem d_8115_43 {σ : Nat → Nat} {n0 : Nat} {bf : ab_B} : decode (ab_code (zx σ n0 bf).1 8115) 43 = .ok (.aload_n 0, 1) := zd zm_8115 (by decide +kernel)
theorem d_8115_44 {σ : Nat → Nat} {n0 : Nat} {bf : ab_B} : decode (ab_code (zx σ n0 bf).1 8115) 44 = .ok (.getfield 263, 3) := zd zm_8115 (by decide +kernel)
theorem d_8115_47 {σ : Nat → Nat} {n0 : Nat} {bf : ab_B} : decode (ab_code (zx σ n0 bf).1 8115) 47 = .ok (.iload 7, 2) := zd zm_8115 (by decide +kernel)
theorem d_8115_49 {σ : Nat → Nat} {n0 : Nat} {bf : ab_B} : decode (ab_code (zx σ n0 bf).1 8115) 49 = .ok (.iaload, 1) := zd zm_8115 (by decide +kernel)
theorem d_8115_50 {σ : Nat → Nat} {n0 : Nat} {bf : ab_B} : decode (ab_code (zx σ n0 bf).1 8115) 50 = .ok (.istore 5, 2) := zd zm_8115 (by decide +kernel)
theorem d_8115_52 {σ : Nat → Nat} {n0 : Nat} {bf : ab_B} : decode (ab_code (zx σ n0 bf).1 8115) 52 = .ok (.aload_n 0, 1) := zd zm_8115 (by decide +kernel)
theorem d_8115_53 {σ : Nat → Nat} {n0 : Nat} {bf : ab_B} : decode (ab_code (zx σ n0 bf).1 8115) 53 = .ok (.getfield 90, 3) := zd zm_8115 (by decide +kernel)
theorem d_8115_56 {σ : Nat → Nat} {n0 : Nat} {bf : ab_B} : decode (ab_code (zx σ n0 bf).1 8115) 56 = .ok (.iload 5, 2) := zd zm_8115 (by decide +kernel)
theorem d_8115_58 {σ : Nat → Nat} {n0 : Nat} {bf : ab_B} : decode (ab_code (zx σ n0 bf).1 8115) 58 = .ok (.baload, 1) := zd zm_8115 (by decide +kernel)
theorem d_8115_59 {σ : Nat → Nat} {n0 : Nat} {bf : ab_B} : decode (ab_code (zx σ n0 bf).1 8115) 59 = .ok (.istore 8, 2) := zd zm_8115 (by decide +kernel)
theorem d_8115_61 {σ : Nat → Nat} {n0 : Nat} {bf : ab_B} : decode (ab_code (zx σ n0 bf).1 8115) 61 = .ok (.iload_n 3, 1) := zd zm_8115 (by decide +kernel)
theorem d_8115_62 {σ : Nat → Nat} {n0 : Nat} {bf : ab_B} : decode (ab_code (zx σ n0 bf).1 8115) 62 = .ok (.bipush (-2), 2) := zd zm_8115 (by decide +kernel)
theorem d_8115_64 {σ : Nat → Nat} {n0 : Nat} {bf : ab_B} : decode (ab_code (zx σ n0 bf).1 8115) 64 = .ok (.if_icmp .ne 16, 3) := zd zm_8115 (by decide +kernel)
theorem d_8115_67 {σ : Nat → Nat} {n0 : Nat} {bf : ab_B} : decode (ab_code (zx σ n0 bf).1 8115) 67 = .ok (.aload_n 0, 1) := zd zm_8115 (by decide +kernel)
theorem d_8115_68 {σ : Nat → Nat} {n0 : Nat} {bf : ab_B} : decode (ab_code (zx σ n0 bf).1 8115) 68 = .ok (.dup, 1) := zd zm_8115 (by decide +kernel)
theorem d_8115_69 {σ : Nat → Nat} {n0 : Nat} {bf : ab_B} : decode (ab_code (zx σ n0 bf).1 8115) 69 = .ok (.getfield 802, 3) := zd zm_8115 (by decide +kernel)
theorem d_8115_72 {σ : Nat → Nat} {n0 : Nat} {bf : ab_B} : decode (ab_code (zx σ n0 bf).1 8115) 72 = .ok (.iconst 1, 1) := zd zm_8115 (by decide +kernel)
theorem d_8115_73 {σ : Nat → Nat} {n0 : Nat} {bf : ab_B} : decode (ab_code (zx σ n0 bf).1 8115) 73 = .ok (.isub, 1) := zd zm_8115 (by decide +kernel)
theorem d_8115_74 {σ : Nat → Nat} {n0 : Nat} {bf : ab_B} : decode (ab_code (zx σ n0 bf).1 8115) 74 = .ok (.putfield 802, 3) := zd zm_8115 (by decide +kernel)
theorem d_8115_77 {σ : Nat → Nat} {n0 : Nat} {bf : ab_B} : decode (ab_code (zx σ n0 bf).1 8115) 77 = .ok (.goto 244, 3) := zd zm_8115 (by decide +kernel)
theorem d_8115_80 {σ : Nat → Nat} {n0 : Nat} {bf : ab_B} : decode (ab_code (zx σ n0 bf).1 8115) 80 = .ok (.iload 8, 2) := zd zm_8115 (by decide +kernel)
theorem d_8115_82 {σ : Nat → Nat} {n0 : Nat} {bf : ab_B} : decode (ab_code (zx σ n0 bf).1 8115) 82 = .ok (.bipush 9, 2) := zd zm_8115 (by decide +kernel)
theorem d_8115_84 {σ : Nat → Nat} {n0 : Nat} {bf : ab_B} : decode (ab_code (zx σ n0 bf).1 8115) 84 = .ok (.if_icmp .ne 114, 3) := zd zm_8115 (by decide +kernel)
theorem d_8115_87 {σ : Nat → Nat} {n0 : Nat} {bf : ab_B} : decode (ab_code (zx σ n0 bf).1 8115) 87 = .ok (.aload_n 0, 1) := zd zm_8115 (by decide +kernel)
theorem d_8115_88 {σ : Nat → Nat} {n0 : Nat} {bf : ab_B} : decode (ab_code (zx σ n0 bf).1 8115) 88 = .ok (.getfield 269, 3) := zd zm_8115 (by decide +kernel)
theorem d_8115_91 {σ : Nat → Nat} {n0 : Nat} {bf : ab_B} : decode (ab_code (zx σ n0 bf).1 8115) 91 = .ok (.iload 7, 2) := zd zm_8115 (by decide +kernel)
theorem d_8115_93 {σ : Nat → Nat} {n0 : Nat} {bf : ab_B} : decode (ab_code (zx σ n0 bf).1 8115) 93 = .ok (.iaload, 1) := zd zm_8115 (by decide +kernel)
theorem d_8115_94 {σ : Nat → Nat} {n0 : Nat} {bf : ab_B} : decode (ab_code (zx σ n0 bf).1 8115) 94 = .ok (.istore 9, 2) := zd zm_8115 (by decide +kernel)
theorem d_8115_96 {σ : Nat → Nat} {n0 : Nat} {bf : ab_B} : decode (ab_code (zx σ n0 bf).1 8115) 96 = .ok (.iload_n 3, 1) := zd zm_8115 (by decide +kernel)
theorem d_8115_97 {σ : Nat → Nat} {n0 : Nat} {bf : ab_B} : decode (ab_code (zx σ n0 bf).1 8115) 97 = .ok (.ifCond .lt 24, 3) := zd zm_8115 (by decide +kernel)
theorem d_8115_100 {σ : Nat → Nat} {n0 : Nat} {bf : ab_B} : decode (ab_code (zx σ n0 bf).1 8115) 100 = .ok (.aload_n 0, 1) := zd zm_8115 (by decide +kernel)
theorem d_8115_101 {σ : Nat → Nat} {n0 : Nat} {bf : ab_B} : decode (ab_code (zx σ n0 bf).1 8115) 101 = .ok (.iload 9, 2) := zd zm_8115 (by decide +kernel)
theorem d_8115_103 {σ : Nat → Nat} {n0 : Nat} {bf : ab_B} : decode (ab_code (zx σ n0 bf).1 8115) 103 = .ok (.iload_n 3, 1) := zd zm_8115 (by decide +kernel)
theorem d_8115_104 {σ : Nat → Nat} {n0 : Nat} {bf : ab_B} : decode (ab_code (zx σ n0 bf).1 8115) 104 = .ok (.invokevirtual 816, 3) := zd zm_8115 (by decide +kernel)
theorem d_8115_107 {σ : Nat → Nat} {n0 : Nat} {bf : ab_B} : decode (ab_code (zx σ n0 bf).1 8115) 107 = .ok (.iconst (-1), 1) := zd zm_8115 (by decide +kernel)
theorem d_8115_108 {σ : Nat → Nat} {n0 : Nat} {bf : ab_B} : decode (ab_code (zx σ n0 bf).1 8115) 108 = .ok (.istore_n 3, 1) := zd zm_8115 (by decide +kernel)
theorem d_8115_109 {σ : Nat → Nat} {n0 : Nat} {bf : ab_B} : decode (ab_code (zx σ n0 bf).1 8115) 109 = .ok (.aload_n 0, 1) := zd zm_8115 (by decide +kernel)
theorem d_8115_110 {σ : Nat → Nat} {n0 : Nat} {bf : ab_B} : decode (ab_code (zx σ n0 bf).1 8115) 110 = .ok (.getfield 148, 3) := zd zm_8115 (by decide +kernel)
theorem d_8115_113 {σ : Nat → Nat} {n0 : Nat} {bf : ab_B} : decode (ab_code (zx σ n0 bf).1 8115) 113 = .ok (.iload 9, 2) := zd zm_8115 (by decide +kernel)
theorem d_8115_115 {σ : Nat → Nat} {n0 : Nat} {bf : ab_B} : decode (ab_code (zx σ n0 bf).1 8115) 115 = .ok (.iaload, 1) := zd zm_8115 (by decide +kernel)
theorem d_8115_116 {σ : Nat → Nat} {n0 : Nat} {bf : ab_B} : decode (ab_code (zx σ n0 bf).1 8115) 116 = .ok (.istore 9, 2) := zd zm_8115 (by decide +kernel)
theorem d_8115_118 {σ : Nat → Nat} {n0 : Nat} {bf : ab_B} : decode (ab_code (zx σ n0 bf).1 8115) 118 = .ok (.goto 12, 3) := zd zm_8115 (by decide +kernel)
theorem d_8115_121 {σ : Nat → Nat} {n0 : Nat} {bf : ab_B} : decode (ab_code (zx σ n0 bf).1 8115) 121 = .ok (.aload_n 0, 1) := zd zm_8115 (by decide +kernel)
theorem d_8115_122 {σ : Nat → Nat} {n0 : Nat} {bf : ab_B} : decode (ab_code (zx σ n0 bf).1 8115) 122 = .ok (.getfield 96, 3) := zd zm_8115 (by decide +kernel)
theorem d_8115_125 {σ : Nat → Nat} {n0 : Nat} {bf : ab_B} : decode (ab_code (zx σ n0 bf).1 8115) 125 = .ok (.iload 5, 2) := zd zm_8115 (by decide +kernel)
theorem d_8115_127 {σ : Nat → Nat} {n0 : Nat} {bf : ab_B} : decode (ab_code (zx σ n0 bf).1 8115) 127 = .ok (.iaload, 1) := zd zm_8115 (by decide +kernel)
theorem d_8115_128 {σ : Nat → Nat} {n0 : Nat} {bf : ab_B} : decode (ab_code (zx σ n0 bf).1 8115) 128 = .ok (.istore 9, 2) := zd zm_8115 (by decide +kernel)
theorem d_8115_130 {σ : Nat → Nat} {n0 : Nat} {bf : ab_B} : decode (ab_code (zx σ n0 bf).1 8115) 130 = .ok (.aload_n 0, 1) := zd zm_8115 (by decide +kernel)
theorem d_8115_131 {σ : Nat → Nat} {n0 : Nat} {bf : ab_B} : decode (ab_code (zx σ n0 bf).1 8115) 131 = .ok (.getfield 269, 3) := zd zm_8115 (by decide +kernel)
theorem d_8115_134 {σ : Nat → Nat} {n0 : Nat} {bf : ab_B} : decode (ab_code (zx σ n0 bf).1 8115) 134 = .ok (.iload 7, 2) := zd zm_8115 (by decide +kernel)
theorem d_8115_136 {σ : Nat → Nat} {n0 : Nat} {bf : ab_B} : decode (ab_code (zx σ n0 bf).1 8115) 136 = .ok (.iload 9, 2) := zd zm_8115 (by decide +kernel)
theorem d_8115_138 {σ : Nat → Nat} {n0 : Nat} {bf : ab_B} : decode (ab_code (zx σ n0 bf).1 8115) 138 = .ok (.iastore, 1) := zd zm_8115 (by decide +kernel)
theorem d_8115_139 {σ : Nat → Nat} {n0 : Nat} {bf : ab_B} : decode (ab_code (zx σ n0 bf).1 8115) 139 = .ok (.iload 9, 2) := zd zm_8115 (by decide +kernel)
theorem d_8115_141 {σ : Nat → Nat} {n0 : Nat} {bf : ab_B} : decode (ab_code (zx σ n0 bf).1 8115) 141 = .ok (.ifCond .ne 42, 3) := zd zm_8115 (by decide +kernel)
theorem d_8115_144 {σ : Nat → Nat} {n0 : Nat} {bf : ab_B} : decode (ab_code (zx σ n0 bf).1 8115) 144 = .ok (.aload_n 0, 1) := zd zm_8115 (by decide +kernel)
theorem d_8115_145 {σ : Nat → Nat} {n0 : Nat} {bf : ab_B} : decode (ab_code (zx σ n0 bf).1 8115) 145 = .ok (.getfield 272, 3) := zd zm_8115 (by decide +kernel)
theorem d_8115_148 {σ : Nat → Nat} {n0 : Nat} {bf : ab_B} : decode (ab_code (zx σ n0 bf).1 8115) 148 = .ok (.iload 7, 2) := zd zm_8115 (by decide +kernel)
theorem d_8115_150 {σ : Nat → Nat} {n0 : Nat} {bf : ab_B} : decode (ab_code (zx σ n0 bf).1 8115) 150 = .ok (.iaload, 1) := zd zm_8115 (by decide +kernel)
theorem d_8115_151 {σ : Nat → Nat} {n0 : Nat} {bf : ab_B} : decode (ab_code (zx σ n0 bf).1 8115) 151 = .ok (.sipush 4000, 3) := zd zm_8115 (by decide +kernel)
theorem d_8115_154 {σ : Nat → Nat} {n0 : Nat} {bf : ab_B} : decode (ab_code (zx σ n0 bf).1 8115) 154 = .ok (.if_icmp .le 8, 3) := zd zm_8115 (by decide +kernel)
theorem d_8115_157 {σ : Nat → Nat} {n0 : Nat} {bf : ab_B} : decode (ab_code (zx σ n0 bf).1 8115) 157 = .ok (.bipush (-2), 2) := zd zm_8115 (by decide +kernel)
theorem d_8115_159 {σ : Nat → Nat} {n0 : Nat} {bf : ab_B} : decode (ab_code (zx σ n0 bf).1 8115) 159 = .ok (.goto 10, 3) := zd zm_8115 (by decide +kernel)
theorem d_8115_162 {σ : Nat → Nat} {n0 : Nat} {bf : ab_B} : decode (ab_code (zx σ n0 bf).1 8115) 162 = .ok (.aload_n 0, 1) := zd zm_8115 (by decide +kernel)
theorem d_8115_163 {σ : Nat → Nat} {n0 : Nat} {bf : ab_B} : decode (ab_code (zx σ n0 bf).1 8115) 163 = .ok (.getfield 272, 3) := zd zm_8115 (by decide +kernel)
theorem d_8115_166 {σ : Nat → Nat} {n0 : Nat} {bf : ab_B} : decode (ab_code (zx σ n0 bf).1 8115) 166 = .ok (.iload 7, 2) := zd zm_8115 (by decide +kernel)
theorem d_8115_168 {σ : Nat → Nat} {n0 : Nat} {bf : ab_B} : decode (ab_code (zx σ n0 bf).1 8115) 168 = .ok (.iaload, 1) := zd zm_8115 (by decide +kernel)
theorem d_8115_169 {σ : Nat → Nat} {n0 : Nat} {bf : ab_B} : decode (ab_code (zx σ n0 bf).1 8115) 169 = .ok (.istore_n 3, 1) := zd zm_8115 (by decide +kernel)
theorem d_8115_170 {σ : Nat → Nat} {n0 : Nat} {bf : ab_B} : decode (ab_code (zx σ n0 bf).1 8115) 170 = .ok (.aload_n 0, 1) := zd zm_8115 (by decide +kernel)
theorem d_8115_171 {σ : Nat → Nat} {n0 : Nat} {bf : ab_B} : decode (ab_code (zx σ n0 bf).1 8115) 171 = .ok (.dup, 1) := zd zm_8115 (by decide +kernel)
theorem d_8115_172 {σ : Nat → Nat} {n0 : Nat} {bf : ab_B} : decode (ab_code (zx σ n0 bf).1 8115) 172 = .ok (.getfield 802, 3) := zd zm_8115 (by decide +kernel)
theorem d_8115_175 {σ : Nat → Nat} {n0 : Nat} {bf : ab_B} : decode (ab_code (zx σ n0 bf).1 8115) 175 = .ok (.iconst 1, 1) := zd zm_8115 (by decide +kernel)
theorem d_8115_176 {σ : Nat → Nat} {n0 : Nat} {bf : ab_B} : decode (ab_code (zx σ n0 bf).1 8115) 176 = .ok (.isub, 1) := zd zm_8115 (by decide +kernel)
theorem d_8115_177 {σ : Nat → Nat} {n0 : Nat} {bf : ab_B} : decode (ab_code (zx σ n0 bf).1 8115) 177 = .ok (.putfield 802, 3) := zd zm_8115 (by decide +kernel)
theorem d_8115_180 {σ : Nat → Nat} {n0 : Nat} {bf : ab_B} : decode (ab_code (zx σ n0 bf).1 8115) 180 = .ok (.goto 15, 3) := zd zm_8115 (by decide +kernel)
theorem d_8115_183 {σ : Nat → Nat} {n0 : Nat} {bf : ab_B} : decode (ab_code (zx σ n0 bf).1 8115) 183 = .ok (.aload_n 0, 1) := zd zm_8115 (by decide +kernel)
theorem d_8115_184 {σ : Nat → Nat} {n0 : Nat} {bf : ab_B} : decode (ab_code (zx σ n0 bf).1 8115) 184 = .ok (.aload_n 0, 1) := zd zm_8115 (by decide +kernel)
theorem d_8115_185 {σ : Nat → Nat} {n0 : Nat} {bf : ab_B} : decode (ab_code (zx σ n0 bf).1 8115) 185 = .ok (.getfield 142, 3) := zd zm_8115 (by decide +kernel)
theorem d_8115_188 {σ : Nat → Nat} {n0 : Nat} {bf : ab_B} : decode (ab_code (zx σ n0 bf).1 8115) 188 = .ok (.iload 9, 2) := zd zm_8115 (by decide +kernel)
theorem d_8115_190 {σ : Nat → Nat} {n0 : Nat} {bf : ab_B} : decode (ab_code (zx σ n0 bf).1 8115) 190 = .ok (.iaload, 1) := zd zm_8115 (by decide +kernel)
theorem d_8115_191 {σ : Nat → Nat} {n0 : Nat} {bf : ab_B} : decode (ab_code (zx σ n0 bf).1 8115) 191 = .ok (.invokevirtual 819, 3) := zd zm_8115 (by decide +kernel)
theorem d_8115_194 {σ : Nat → Nat} {n0 : Nat} {bf : ab_B} : decode (ab_code (zx σ n0 bf).1 8115) 194 = .ok (.istore_n 3, 1) := zd zm_8115 (by decide +kernel)
theorem d_8115_195 {σ : Nat → Nat} {n0 : Nat} {bf : ab_B} : decode (ab_code (zx σ n0 bf).1 8115) 195 = .ok (.goto 126, 3) := zd zm_8115 (by decide +kernel)
theorem d_8115_198 {σ : Nat → Nat} {n0 : Nat} {bf : ab_B} : decode (ab_code (zx σ n0 bf).1 8115) 198 = .ok (.iload 8, 2) := zd zm_8115 (by decide +kernel)
theorem d_8115_200 {σ : Nat → Nat} {n0 : Nat} {bf : ab_B} : decode (ab_code (zx σ n0 bf).1 8115) 200 = .ok (.bipush 8, 2) := zd zm_8115 (by decide +kernel)
theorem d_8115_202 {σ : Nat → Nat} {n0 : Nat} {bf : ab_B} : decode (ab_code (zx σ n0 bf).1 8115) 202 = .ok (.if_icmp .ne 43, 3) := zd zm_8115 (by decide +kernel)
theorem d_8115_205 {σ : Nat → Nat} {n0 : Nat} {bf : ab_B} : decode (ab_code (zx σ n0 bf).1 8115) 205 = .ok (.iload_n 3, 1) := zd zm_8115 (by decide +kernel)
theorem d_8115_206 {σ : Nat → Nat} {n0 : Nat} {bf : ab_B} : decode (ab_code (zx σ n0 bf).1 8115) 206 = .ok (.ifCond .lt 24, 3) := zd zm_8115 (by decide +kernel)
theorem d_8115_209 {σ : Nat → Nat} {n0 : Nat} {bf : ab_B} : decode (ab_code (zx σ n0 bf).1 8115) 209 = .ok (.aload_n 0, 1) := zd zm_8115 (by decide +kernel)
theorem d_8115_210 {σ : Nat → Nat} {n0 : Nat} {bf : ab_B} : decode (ab_code (zx σ n0 bf).1 8115) 210 = .ok (.iload 5, 2) := zd zm_8115 (by decide +kernel)
theorem d_8115_212 {σ : Nat → Nat} {n0 : Nat} {bf : ab_B} : decode (ab_code (zx σ n0 bf).1 8115) 212 = .ok (.iload_n 3, 1) := zd zm_8115 (by decide +kernel)
theorem d_8115_213 {σ : Nat → Nat} {n0 : Nat} {bf : ab_B} : decode (ab_code (zx σ n0 bf).1 8115) 213 = .ok (.invokevirtual 822, 3) := zd zm_8115 (by decide +kernel)
theorem d_8115_216 {σ : Nat → Nat} {n0 : Nat} {bf : ab_B} : decode (ab_code (zx σ n0 bf).1 8115) 216 = .ok (.istore_n 3, 1) := zd zm_8115 (by decide +kernel)
theorem d_8115_217 {σ : Nat → Nat} {n0 : Nat} {bf : ab_B} : decode (ab_code (zx σ n0 bf).1 8115) 217 = .ok (.aload_n 0, 1) := zd zm_8115 (by decide +kernel)
theorem d_8115_218 {σ : Nat → Nat} {n0 : Nat} {bf : ab_B} : decode (ab_code (zx σ n0 bf).1 8115) 218 = .ok (.dup, 1) := zd zm_8115 (by decide +kernel)
theorem d_8115_219 {σ : Nat → Nat} {n0 : Nat} {bf : ab_B} : decode (ab_code (zx σ n0 bf).1 8115) 219 = .ok (.getfield 802, 3) := zd zm_8115 (by decide +kernel)
theorem d_8115_222 {σ : Nat → Nat} {n0 : Nat} {bf : ab_B} : decode (ab_code (zx σ n0 bf).1 8115) 222 = .ok (.iconst 1, 1) := zd zm_8115 (by decide +kernel)
theorem d_8115_223 {σ : Nat → Nat} {n0 : Nat} {bf : ab_B} : decode (ab_code (zx σ n0 bf).1 8115) 223 = .ok (.isub, 1) := zd zm_8115 (by decide +kernel)
theorem d_8115_224 {σ : Nat → Nat} {n0 : Nat} {bf : ab_B} : decode (ab_code (zx σ n0 bf).1 8115) 224 = .ok (.putfield 802, 3) := zd zm_8115 (by decide +kernel)
theorem d_8115_227 {σ : Nat → Nat} {n0 : Nat} {bf : ab_B} : decode (ab_code (zx σ n0 bf).1 8115) 227 = .ok (.goto 94, 3) := zd zm_8115 (by decide +kernel)
theorem d_8115_230 {σ : Nat → Nat} {n0 : Nat} {bf : ab_B} : decode (ab_code (zx σ n0 bf).1 8115) 230 = .ok (.aload_n 0, 1) := zd zm_8115 (by decide +kernel)
theorem d_8115_231 {σ : Nat → Nat} {n0 : Nat} {bf : ab_B} : decode (ab_code (zx σ n0 bf).1 8115) 231 = .ok (.aload_n 0, 1) := zd zm_8115 (by decide +kernel)
theorem d_8115_232 {σ : Nat → Nat} {n0 : Nat} {bf : ab_B} : decode (ab_code (zx σ n0 bf).1 8115) 232 = .ok (.getfield 93, 3) := zd zm_8115 (by decide +kernel)
theorem d_8115_235 {σ : Nat → Nat} {n0 : Nat} {bf : ab_B} : decode (ab_code (zx σ n0 bf).1 8115) 235 = .ok (.iload 5, 2) := zd zm_8115 (by decide +kernel)
theorem d_8115_237 {σ : Nat → Nat} {n0 : Nat} {bf : ab_B} : decode (ab_code (zx σ n0 bf).1 8115) 237 = .ok (.iaload, 1) := zd zm_8115 (by decide +kernel)
theorem d_8115_238 {σ : Nat → Nat} {n0 : Nat} {bf : ab_B} : decode (ab_code (zx σ n0 bf).1 8115) 238 = .ok (.invokevirtual 819, 3) := zd zm_8115 (by decide +kernel)
theorem d_8115_241 {σ : Nat → Nat} {n0 : Nat} {bf : ab_B} : decode (ab_code (zx σ n0 bf).1 8115) 241 = .ok (.istore_n 3, 1) := zd zm_8115 (by decide +kernel)
theorem d_8115_242 {σ : Nat → Nat} {n0 : Nat} {bf : ab_B} : decode (ab_code (zx σ n0 bf).1 8115) 242 = .ok (.goto 79, 3) := zd zm_8115 (by decide +kernel)
theorem d_8115_245 {σ : Nat → Nat} {n0 : Nat} {bf : ab_B} : decode (ab_code (zx σ n0 bf).1 8115) 245 = .ok (.iload 8, 2) := zd zm_8115 (by decide +kernel)
theorem d_8115_247 {σ : Nat → Nat} {n0 : Nat} {bf : ab_B} : decode (ab_code (zx σ n0 bf).1 8115) 247 = .ok (.bipush 11, 2) := zd zm_8115 (by decide +kernel)
theorem d_8115_249 {σ : Nat → Nat} {n0 : Nat} {bf : ab_B} : decode (ab_code (zx σ n0 bf).1 8115) 249 = .ok (.if_icmp .ne 55, 3) := zd zm_8115 (by decide +kernel)
theorem d_8115_252 {σ : Nat → Nat} {n0 : Nat} {bf : ab_B} : decode (ab_code (zx σ n0 bf).1 8115) 252 = .ok (.iload_n 3, 1) := zd zm_8115 (by decide +kernel)
theorem d_8115_253 {σ : Nat → Nat} {n0 : Nat} {bf : ab_B} : decode (ab_code (zx σ n0 bf).1 8115) 253 = .ok (.ifCond .lt 16, 3) := zd zm_8115 (by decide +kernel)
theorem d_8115_256 {σ : Nat → Nat} {n0 : Nat} {bf : ab_B} : decode (ab_code (zx σ n0 bf).1 8115) 256 = .ok (.aload_n 0, 1) := zd zm_8115 (by decide +kernel)
theorem d_8115_257 {σ : Nat → Nat} {n0 : Nat} {bf : ab_B} : decode (ab_code (zx σ n0 bf).1 8115) 257 = .ok (.dup, 1) := zd zm_8115 (by decide +kernel)
theorem d_8115_258 {σ : Nat → Nat} {n0 : Nat} {bf : ab_B} : decode (ab_code (zx σ n0 bf).1 8115) 258 = .ok (.getfield 802, 3) := zd zm_8115 (by decide +kernel)
theorem d_8115_261 {σ : Nat → Nat} {n0 : Nat} {bf : ab_B} : decode (ab_code (zx σ n0 bf).1 8115) 261 = .ok (.iconst 1, 1) := zd zm_8115 (by decide +kernel)
theorem d_8115_262 {σ : Nat → Nat} {n0 : Nat} {bf : ab_B} : decode (ab_code (zx σ n0 bf).1 8115) 262 = .ok (.isub, 1) := zd zm_8115 (by decide +kernel)
theorem d_8115_263 {σ : Nat → Nat} {n0 : Nat} {bf : ab_B} : decode (ab_code (zx σ n0 bf).1 8115) 263 = .ok (.putfield 802, 3) := zd zm_8115 (by decide +kernel)
theorem d_8115_266 {σ : Nat → Nat} {n0 : Nat} {bf : ab_B} : decode (ab_code (zx σ n0 bf).1 8115) 266 = .ok (.goto 55, 3) := zd zm_8115 (by decide +kernel)
theorem d_8115_269 {σ : Nat → Nat} {n0 : Nat} {bf : ab_B} : decode (ab_code (zx σ n0 bf).1 8115) 269 = .ok (.aload_n 0, 1) := zd zm_8115 (by decide +kernel)
theorem d_8115_270 {σ : Nat → Nat} {n0 : Nat} {bf : ab_B} : decode (ab_code (zx σ n0 bf).1 8115) 270 = .ok (.iload 5, 2) := zd zm_8115 (by decide +kernel)
theorem d_8115_272 {σ : Nat → Nat} {n0 : Nat} {bf : ab_B} : decode (ab_code (zx σ n0 bf).1 8115) 272 = .ok (.invokevirtual 825, 3) := zd zm_8115 (by decide +kernel)
theorem d_8115_275 {σ : Nat → Nat} {n0 : Nat} {bf : ab_B} : decode (ab_code (zx σ n0 bf).1 8115) 275 = .ok (.ifCond .eq 23, 3) := zd zm_8115 (by decide +kernel)
theorem d_8115_278 {σ : Nat → Nat} {n0 : Nat} {bf : ab_B} : decode (ab_code (zx σ n0 bf).1 8115) 278 = .ok (.aload_n 0, 1) := zd zm_8115 (by decide +kernel)
theorem d_8115_279 {σ : Nat → Nat} {n0 : Nat} {bf : ab_B} : decode (ab_code (zx σ n0 bf).1 8115) 279 = .ok (.aload_n 0, 1) := zd zm_8115 (by decide +kernel)
theorem d_8115_280 {σ : Nat → Nat} {n0 : Nat} {bf : ab_B} : decode (ab_code (zx σ n0 bf).1 8115) 280 = .ok (.getfield 130, 3) := zd zm_8115 (by decide +kernel)
theorem d_8115_283 {σ : Nat → Nat} {n0 : Nat} {bf : ab_B} : decode (ab_code (zx σ n0 bf).1 8115) 283 = .ok (.aload_n 0, 1) := zd zm_8115 (by decide +kernel)
theorem d_8115_284 {σ : Nat → Nat} {n0 : Nat} {bf : ab_B} : decode (ab_code (zx σ n0 bf).1 8115) 284 = .ok (.getfield 93, 3) := zd zm_8115 (by decide +kernel)
theorem d_8115_287 {σ : Nat → Nat} {n0 : Nat} {bf : ab_B} : decode (ab_code (zx σ n0 bf).1 8115) 287 = .ok (.iload 5, 2) := zd zm_8115 (by decide +kernel)
theorem d_8115_289 {σ : Nat → Nat} {n0 : Nat} {bf : ab_B} : decode (ab_code (zx σ n0 bf).1 8115) 289 = .ok (.iaload, 1) := zd zm_8115 (by decide +kernel)
theorem d_8115_290 {σ : Nat → Nat} {n0 : Nat} {bf : ab_B} : decode (ab_code (zx σ n0 bf).1 8115) 290 = .ok (.iaload, 1) := zd zm_8115 (by decide +kernel)
theorem d_8115_291 {σ : Nat → Nat} {n0 : Nat} {bf : ab_B} : decode (ab_code (zx σ n0 bf).1 8115) 291 = .ok (.invokevirtual 819, 3) := zd zm_8115 (by decide +kernel)
theorem d_8115_294 {σ : Nat → Nat} {n0 : Nat} {bf : ab_B} : decode (ab_code (zx σ n0 bf).1 8115) 294 = .ok (.istore_n 3, 1) := zd zm_8115 (by decide +kernel)
theorem d_8115_295 {σ : Nat → Nat} {n0 : Nat} {bf : ab_B} : decode (ab_code (zx σ n0 bf).1 8115) 295 = .ok (.goto 26, 3) := zd zm_8115 (by decide +kernel)
theorem d_8115_298 {σ : Nat → Nat} {n0 : Nat} {bf : ab_B} : decode (ab_code (zx σ n0 bf).1 8115) 298 = .ok (.bipush (-2), 2) := zd zm_8115 (by decide +kernel)
theorem d_8115_300 {σ : Nat → Nat} {n0 : Nat} {bf : ab_B} : decode (ab_code (zx σ n0 bf).1 8115) 300 = .ok (.istore_n 3, 1) := zd zm_8115 (by decide +kernel)
theorem d_8115_301 {σ : Nat → Nat} {n0 : Nat} {bf : ab_B} : decode (ab_code (zx σ n0 bf).1 8115) 301 = .ok (.goto 20, 3) := zd zm_8115 (by decide +kernel)
theorem d_8115_304 {σ : Nat → Nat} {n0 : Nat} {bf : ab_B} : decode (ab_code (zx σ n0 bf).1 8115) 304 = .ok (.aload_n 0, 1) := zd zm_8115 (by decide +kernel)
theorem d_8115_305 {σ : Nat → Nat} {n0 : Nat} {bf : ab_B} : decode (ab_code (zx σ n0 bf).1 8115) 305 = .ok (.iload 5, 2) := zd zm_8115 (by decide +kernel)
theorem d_8115_307 {σ : Nat → Nat} {n0 : Nat} {bf : ab_B} : decode (ab_code (zx σ n0 bf).1 8115) 307 = .ok (.invokevirtual 828, 3) := zd zm_8115 (by decide +kernel)
theorem d_8115_310 {σ : Nat → Nat} {n0 : Nat} {bf : ab_B} : decode (ab_code (zx σ n0 bf).1 8115) 310 = .ok (.istore_n 3, 1) := zd zm_8115 (by decide +kernel)
theorem d_8115_311 {σ : Nat → Nat} {n0 : Nat} {bf : ab_B} : decode (ab_code (zx σ n0 bf).1 8115) 311 = .ok (.aload_n 0, 1) := zd zm_8115 (by decide +kernel)
theorem d_8115_312 {σ : Nat → Nat} {n0 : Nat} {bf : ab_B} : decode (ab_code (zx σ n0 bf).1 8115) 312 = .ok (.dup, 1) := zd zm_8115 (by decide +kernel)
theorem d_8115_313 {σ : Nat → Nat} {n0 : Nat} {bf : ab_B} : decode (ab_code (zx σ n0 bf).1 8115) 313 = .ok (.getfield 802, 3) := zd zm_8115 (by decide +kernel)
theorem d_8115_316 {σ : Nat → Nat} {n0 : Nat} {bf : ab_B} : decode (ab_code (zx σ n0 bf).1 8115) 316 = .ok (.iconst 1, 1) := zd zm_8115 (by decide +kernel)
theorem d_8115_317 {σ : Nat → Nat} {n0 : Nat} {bf : ab_B} : decode (ab_code (zx σ n0 bf).1 8115) 317 = .ok (.isub, 1) := zd zm_8115 (by decide +kernel)
theorem d_8115_318 {σ : Nat → Nat} {n0 : Nat} {bf : ab_B} : decode (ab_code (zx σ n0 bf).1 8115) 318 = .ok (.putfield 802, 3) := zd zm_8115 (by decide +kernel)
theorem d_8115_321 {σ : Nat → Nat} {n0 : Nat} {bf : ab_B} : decode (ab_code (zx σ n0 bf).1 8115) 321 = .ok (.goto (-300), 3) := zd zm_8115 (by decide +kernel)
theorem d_8115_324 {σ : Nat → Nat} {n0 : Nat} {bf : ab_B} : decode (ab_code (zx σ n0 bf).1 8115) 324 = .ok (.aload_n 0, 1) := zd zm_8115 (by decide +kernel)
theorem d_8115_325 {σ : Nat → Nat} {n0 : Nat} {bf : ab_B} : decode (ab_code (zx σ n0 bf).1 8115) 325 = .ok (.iload_n 2, 1) := zd zm_8115 (by decide +kernel)
theorem d_8115_326 {σ : Nat → Nat} {n0 : Nat} {bf : ab_B} : decode (ab_code (zx σ n0 bf).1 8115) 326 = .ok (.invokevirtual 813, 3) := zd zm_8115 (by decide +kernel)
theorem d_8115_329 {σ : Nat → Nat} {n0 : Nat} {bf : ab_B} : decode (ab_code (zx σ n0 bf).1 8115) 329 = .ok (.iload_n 3, 1) := zd zm_8115 (by decide +kernel)
theorem d_8115_330 {σ : Nat → Nat} {n0 : Nat} {bf : ab_B} : decode (ab_code (zx σ n0 bf).1 8115) 330 = .ok (.ireturn, 1) := zd zm_8115 (by decide +kernel)
def w_X9_measure_304 (X : zs_X) (d : Nat) (p0 : Nat) (p2 : Int32) (p5 : Int32) (S : zs_T) (Q : zs_Q) : Prop :=
  (zs_K S p0 = some (.inl 8) ∧ zs_C X d 8121 [.ref p0, .int p5] S (zs_kI (fun v3 S2 => (zs_K S2 p0 = some (.inl 8) ∧ ab_n0 X.1 ≤ p0 ∧ ∀ S6, S6 = zs_sI S2 8124 p0 ((zs_I S2 8124 p0) - (1 : Int32)) → zs_U X d 8115 21 [(0, .ref p0), (2, .int p2), (3, .int v3)] [] S6 Q)) Q))
theorem u_X9_measure_304 {σ : Nat → Nat} {n0 : Nat} {bf : ab_B} {d : Nat} {p0 : Nat} {p2 : Int32} {p5 : Int32} {S : zs_T} {Q : zs_Q} (hB : zt_B bf) (h : w_X9_measure_304 (zx σ n0 bf) d p0 p2 p5 S Q) : zs_U (zx σ n0 bf) d 8115 304 [(0, .ref p0), (2, .int p2), (5, .int p5)] [] S Q := by
  unfold w_X9_measure_304 at h
  refine zu_aload_n d_8115_304 rfl (zs_ra _) ?_
  refine zu_iload d_8115_305 rfl ?_
  obtain ⟨k1, h⟩ := h
  refine zc_8_828 (x0 := p5) hB rfl k1 d_8115_307 (Nat.le_of_ble_eq_true rfl) h (fun v3 S2 h => ?_)
  refine zu_istore_n d_8115_310 (zs_lt zq_8115 rfl) ?_
  refine zu_aload_n d_8115_311 rfl (zs_ra _) ?_
  refine zu_dup d_8115_312 rfl ?_
  obtain ⟨k4, h⟩ := h
  refine zg_8_802 rfl d_8115_313 k4 ?_
  refine zu_iconst d_8115_316 zi_1 ?_
  refine zu_stk d_8115_317 rfl rfl ?_
  obtain ⟨k5, h⟩ := h
  refine zp_8_802 (v := ((zs_I S2 8124 p0) - (1 : Int32))) rfl d_8115_318 k4 k5 ?_
  generalize e7 : zs_sI S2 8124 p0 ((zs_I S2 8124 p0) - (1 : Int32)) = S6
  have h := h S6 e7.symm
  have K8 : ∀ b, zs_K S6 b = zs_K S2 b := zs_Kt e7 (zs_KsI _ _ _ _) (fun _ => rfl)
  refine zu_goto (t := 21) d_8115_321 rfl ?_
  exact h.weak ⟨rfl, rfl, rfl, trivial⟩
def w_X9_measure_295 (X : zs_X) (d : Nat) (p0 : Nat) (p2 : Int32) (p3 : Int32) (S : zs_T) (Q : zs_Q) : Prop :=
  (zs_U X d 8115 21 [(0, .ref p0), (2, .int p2), (3, .int p3)] [] S Q)
theorem u_X9_measure_295 {σ : Nat → Nat} {n0 : Nat} {bf : ab_B} {d : Nat} {p0 : Nat} {p2 : Int32} {p3 : Int32} {S : zs_T} {Q : zs_Q} (hB : zt_B bf) (h : w_X9_measure_295 (zx σ n0 bf) d p0 p2 p3 S Q) : zs_U (zx σ n0 bf) d 8115 295 [(0, .ref p0), (2, .int p2), (3, .int p3)] [] S Q := by
  unfold w_X9_measure_295 at h
  refine zu_goto (t := 321) d_8115_295 rfl ?_
  refine zu_goto (t := 21) d_8115_321 rfl ?_
  exact h.weak ⟨rfl, rfl, rfl, trivial⟩
def w_X9_measure_252 (X : zs_X) (d : Nat) (p0 : Nat) (p2 : Int32) (p3 : Int32) (p5 : Int32) (S : zs_T) (Q : zs_Q) : Prop :=
  (((p3 < 0 → (zs_K S p0 = some (.inl 8) ∧ zs_C X d 8125 [.ref p0, .int p5] S (zs_kI (fun v4 S3 => (((v4 = 0 → (zs_U X d 8115 21 [(0, .ref p0), (2, .int p2), (3, .int (-2 : Int32))] [] S3 Q)) ∧ (¬ (v4 = 0) → (zs_K S3 p0 = some (.inl 8) ∧ ∃ b7, (zs_R S3 8045 p0) = some b7 ∧ zs_A S3 b7 0 p5 ∧ ∃ b10, (zs_R S3 8059 p0) = some b10 ∧ zs_A S3 b10 0 (zs_i S3 b7 p5.toNatClampNeg) ∧ zs_C X d 8120 [.ref p0, .int (zs_i S3 b10 (zs_i S3 b7 p5.toNatClampNeg).toNatClampNeg)] S3 (zs_kI (fun v14 S13 => (w_X9_measure_295 X d p0 p2 v14 S13 Q)) Q)))))) Q))) ∧ (¬ (p3 < 0) → (zs_K S p0 = some (.inl 8) ∧ ab_n0 X.1 ≤ p0 ∧ ∀ S17, S17 = zs_sI S 8124 p0 ((zs_I S 8124 p0) - (1 : Int32)) → zs_U X d 8115 21 [(0, .ref p0), (2, .int p2), (3, .int p3)] [] S17 Q))))
theorem u_X9_measure_252 {σ : Nat → Nat} {n0 : Nat} {bf : ab_B} {d : Nat} {p0 : Nat} {p2 : Int32} {p3 : Int32} {p5 : Int32} {S : zs_T} {Q : zs_Q} (hB : zt_B bf) (h : w_X9_measure_252 (zx σ n0 bf) d p0 p2 p3 p5 S Q) : zs_U (zx σ n0 bf) d 8115 252 [(0, .ref p0), (2, .int p2), (3, .int p3), (5, .int p5)] [] S Q := by
  unfold w_X9_measure_252 at h
  refine zu_iload_n d_8115_252 rfl ?_
  refine zu_iflt (t := 269) d_8115_253 rfl (fun c1 => ?_) (fun c1 => ?_)
  · have h := h.1 c1
    refine zu_aload_n d_8115_269 rfl (zs_ra _) ?_
    refine zu_iload d_8115_270 rfl ?_
    obtain ⟨k2, h⟩ := h
    refine zc_8_825 (x0 := p5) hB rfl k2 d_8115_272 (Nat.le_of_ble_eq_true rfl) h (fun v4 S3 h => ?_)
    refine zu_ifeq (t := 298) d_8115_275 rfl (fun c5 => ?_) (fun c5 => ?_)
    · have h := h.1 c5
      refine zu_bipush d_8115_298 zj_m2 ?_
      refine zu_istore_n d_8115_300 (zs_lt zq_8115 rfl) ?_
      refine zu_goto (t := 321) d_8115_301 rfl ?_
      refine zu_goto (t := 21) d_8115_321 rfl ?_
      exact h.weak ⟨rfl, rfl, rfl, trivial⟩
    · have h := h.2 c5
      refine zu_aload_n d_8115_278 rfl (zs_ra _) ?_
      refine zu_aload_n d_8115_279 rfl (zs_ra _) ?_
      obtain ⟨k6, h⟩ := h
      refine zg_8_130 rfl d_8115_280 k6 ?_
      refine zu_aload_n d_8115_283 rfl (zs_ra _) ?_
      refine zg_8_93 rfl d_8115_284 k6 ?_
      refine zu_iload d_8115_287 rfl ?_
      obtain ⟨b7, e8, h⟩ := h
      refine zs_stk1 (zs_rfe e8) ?_
      obtain ⟨k9, h⟩ := h
      refine zu_iald (k := 0) d_8115_289 rfl rfl k9 ?_
      obtain ⟨b10, e11, h⟩ := h
      refine zs_stk1 (zs_rfe e11) ?_
      obtain ⟨k12, h⟩ := h
      refine zu_iald (k := 0) d_8115_290 rfl rfl k12 ?_
      refine zc_8_819 (x0 := (zs_i S3 b10 (zs_i S3 b7 p5.toNatClampNeg).toNatClampNeg)) hB rfl k6 d_8115_291 (Nat.le_of_ble_eq_true rfl) h (fun v14 S13 h => ?_)
      refine zu_istore_n d_8115_294 (zs_lt zq_8115 rfl) ?_
      exact (u_X9_measure_295 hB h).weak ⟨rfl, rfl, rfl, trivial⟩
  · have h := h.2 c1
    refine zu_aload_n d_8115_256 rfl (zs_ra _) ?_
    refine zu_dup d_8115_257 rfl ?_
    obtain ⟨k15, h⟩ := h
    refine zg_8_802 rfl d_8115_258 k15 ?_
    refine zu_iconst d_8115_261 zi_1 ?_
    refine zu_stk d_8115_262 rfl rfl ?_
    obtain ⟨k16, h⟩ := h
    refine zp_8_802 (v := ((zs_I S 8124 p0) - (1 : Int32))) rfl d_8115_263 k15 k16 ?_
    generalize e18 : zs_sI S 8124 p0 ((zs_I S 8124 p0) - (1 : Int32)) = S17
    have h := h S17 e18.symm
    have K19 : ∀ b, zs_K S17 b = zs_K S b := zs_Kt e18 (zs_KsI _ _ _ _) (fun _ => rfl)
    refine zu_goto (t := 321) d_8115_266 rfl ?_
    refine zu_goto (t := 21) d_8115_321 rfl ?_
    exact h.weak ⟨rfl, rfl, rfl, trivial⟩
def w_X9_measure_230 (X : zs_X) (d : Nat) (p0 : Nat) (p2 : Int32) (p5 : Int32) (S : zs_T) (Q : zs_Q) : Prop :=
  (zs_K S p0 = some (.inl 8) ∧ ∃ b2, (zs_R S 8045 p0) = some b2 ∧ zs_A S b2 0 p5 ∧ zs_C X d 8120 [.ref p0, .int (zs_i S b2 p5.toNatClampNeg)] S (zs_kI (fun v6 S5 => (zs_U X d 8115 21 [(0, .ref p0), (2, .int p2), (3, .int v6)] [] S5 Q)) Q))
theorem u_X9_measure_230 {σ : Nat → Nat} {n0 : Nat} {bf : ab_B} {d : Nat} {p0 : Nat} {p2 : Int32} {p5 : Int32} {S : zs_T} {Q : zs_Q} (hB : zt_B bf) (h : w_X9_measure_230 (zx σ n0 bf) d p0 p2 p5 S Q) : zs_U (zx σ n0 bf) d 8115 230 [(0, .ref p0), (2, .int p2), (5, .int p5)] [] S Q := by
  unfold w_X9_measure_230 at h
  refine zu_aload_n d_8115_230 rfl (zs_ra _) ?_
  refine zu_aload_n d_8115_231 rfl (zs_ra _) ?_
  obtain ⟨k1, h⟩ := h
  refine zg_8_93 rfl d_8115_232 k1 ?_
  refine zu_iload d_8115_235 rfl ?_
  obtain ⟨b2, e3, h⟩ := h
  refine zs_stk1 (zs_rfe e3) ?_
  obtain ⟨k4, h⟩ := h
  refine zu_iald (k := 0) d_8115_237 rfl rfl k4 ?_
  refine zc_8_819 (x0 := (zs_i S b2 p5.toNatClampNeg)) hB rfl k1 d_8115_238 (Nat.le_of_ble_eq_true rfl) h (fun v6 S5 h => ?_)
  refine zu_istore_n d_8115_241 (zs_lt zq_8115 rfl) ?_
  refine zu_goto (t := 321) d_8115_242 rfl ?_
  refine zu_goto (t := 21) d_8115_321 rfl ?_
  exact h.weak ⟨rfl, rfl, rfl, trivial⟩
def w_X9_measure_209 (X : zs_X) (d : Nat) (p0 : Nat) (p2 : Int32) (p3 : Int32) (p5 : Int32) (S : zs_T) (Q : zs_Q) : Prop :=
  (zs_K S p0 = some (.inl 8) ∧ zs_C X d 8124 [.ref p0, .int p5, .int p3] S (zs_kI (fun v3 S2 => (zs_K S2 p0 = some (.inl 8) ∧ ab_n0 X.1 ≤ p0 ∧ ∀ S6, S6 = zs_sI S2 8124 p0 ((zs_I S2 8124 p0) - (1 : Int32)) → zs_U X d 8115 21 [(0, .ref p0), (2, .int p2), (3, .int v3)] [] S6 Q)) Q))
theorem u_X9_measure_209 {σ : Nat → Nat} {n0 : Nat} {bf : ab_B} {d : Nat} {p0 : Nat} {p2 : Int32} {p3 : Int32} {p5 : Int32} {S : zs_T} {Q : zs_Q} (hB : zt_B bf) (h : w_X9_measure_209 (zx σ n0 bf) d p0 p2 p3 p5 S Q) : zs_U (zx σ n0 bf) d 8115 209 [(0, .ref p0), (2, .int p2), (3, .int p3), (5, .int p5)] [] S Q := by
  unfold w_X9_measure_209 at h
  refine zu_aload_n d_8115_209 rfl (zs_ra _) ?_
  refine zu_iload d_8115_210 rfl ?_
  refine zu_iload_n d_8115_212 rfl ?_
  obtain ⟨k1, h⟩ := h
  refine zc_8_822 (x0 := p5) (x1 := p3) hB rfl k1 d_8115_213 (Nat.le_of_ble_eq_true rfl) h (fun v3 S2 h => ?_)
  refine zu_istore_n d_8115_216 (zs_lt zq_8115 rfl) ?_
  refine zu_aload_n d_8115_217 rfl (zs_ra _) ?_
  refine zu_dup d_8115_218 rfl ?_
  obtain ⟨k4, h⟩ := h
  refine zg_8_802 rfl d_8115_219 k4 ?_
  refine zu_iconst d_8115_222 zi_1 ?_
  refine zu_stk d_8115_223 rfl rfl ?_
  obtain ⟨k5, h⟩ := h
  refine zp_8_802 (v := ((zs_I S2 8124 p0) - (1 : Int32))) rfl d_8115_224 k4 k5 ?_
  generalize e7 : zs_sI S2 8124 p0 ((zs_I S2 8124 p0) - (1 : Int32)) = S6
  have h := h S6 e7.symm
  have K8 : ∀ b, zs_K S6 b = zs_K S2 b := zs_Kt e7 (zs_KsI _ _ _ _) (fun _ => rfl)
  refine zu_goto (t := 321) d_8115_227 rfl ?_
  refine zu_goto (t := 21) d_8115_321 rfl ?_
  exact h.weak ⟨rfl, rfl, rfl, trivial⟩
def w_X9_measure_169 (X : zs_X) (d : Nat) (p0 : Nat) (p2 : Int32) (q0 : Int32) (S : zs_T) (Q : zs_Q) : Prop :=
  (zs_K S p0 = some (.inl 8) ∧ ab_n0 X.1 ≤ p0 ∧ ∀ S3, S3 = zs_sI S 8124 p0 ((zs_I S 8124 p0) - (1 : Int32)) → zs_U X d 8115 21 [(0, .ref p0), (2, .int p2), (3, .int q0)] [] S3 Q)
theorem u_X9_measure_169 {σ : Nat → Nat} {n0 : Nat} {bf : ab_B} {d : Nat} {p0 : Nat} {p2 : Int32} {q0 : Int32} {S : zs_T} {Q : zs_Q} (hB : zt_B bf) (h : w_X9_measure_169 (zx σ n0 bf) d p0 p2 q0 S Q) : zs_U (zx σ n0 bf) d 8115 169 [(0, .ref p0), (2, .int p2)] [.int q0] S Q := by
  unfold w_X9_measure_169 at h
  refine zu_istore_n d_8115_169 (zs_lt zq_8115 rfl) ?_
  refine zu_aload_n d_8115_170 rfl (zs_ra _) ?_
  refine zu_dup d_8115_171 rfl ?_
  obtain ⟨k1, h⟩ := h
  refine zg_8_802 rfl d_8115_172 k1 ?_
  refine zu_iconst d_8115_175 zi_1 ?_
  refine zu_stk d_8115_176 rfl rfl ?_
  obtain ⟨k2, h⟩ := h
  refine zp_8_802 (v := ((zs_I S 8124 p0) - (1 : Int32))) rfl d_8115_177 k1 k2 ?_
  generalize e4 : zs_sI S 8124 p0 ((zs_I S 8124 p0) - (1 : Int32)) = S3
  have h := h S3 e4.symm
  have K5 : ∀ b, zs_K S3 b = zs_K S b := zs_Kt e4 (zs_KsI _ _ _ _) (fun _ => rfl)
  refine zu_goto (t := 195) d_8115_180 rfl ?_
  refine zu_goto (t := 321) d_8115_195 rfl ?_
  refine zu_goto (t := 21) d_8115_321 rfl ?_
  exact h.weak ⟨rfl, rfl, rfl, trivial⟩
def w_X9_measure_130 (X : zs_X) (d : Nat) (p0 : Nat) (p2 : Int32) (p7 : Int32) (p9 : Int32) (S : zs_T) (Q : zs_Q) : Prop :=
  (zs_K S p0 = some (.inl 8) ∧ ∃ b2, (zs_R S 8122 p0) = some b2 ∧ zs_A S b2 0 p7 ∧ ab_n0 X.1 ≤ b2 ∧ ∀ S6, S6 = zs_si S b2 p7.toNatClampNeg p9 → ((¬ p9 = 0 → (∃ b10, (zs_R S6 8065 p0) = some b10 ∧ zs_A S b10 0 p9 ∧ zs_C X d 8120 [.ref p0, .int (zs_i S6 b10 p9.toNatClampNeg)] S6 (zs_kI (fun v14 S13 => (zs_U X d 8115 21 [(0, .ref p0), (2, .int p2), (3, .int v14)] [] S13 Q)) Q))) ∧ (¬ (¬ p9 = 0) → (∃ b15, (zs_R S6 8123 p0) = some b15 ∧ zs_A S b15 0 p7 ∧ (((zs_i S6 b15 p7.toNatClampNeg) ≤ (4000 : Int32) → (w_X9_measure_169 X d p0 p2 (zs_i S6 b15 p7.toNatClampNeg) S6 Q)) ∧ (¬ ((zs_i S6 b15 p7.toNatClampNeg) ≤ (4000 : Int32)) → (w_X9_measure_169 X d p0 p2 (-2 : Int32) S6 Q)))))))
theorem u_X9_measure_130 {σ : Nat → Nat} {n0 : Nat} {bf : ab_B} {d : Nat} {p0 : Nat} {p2 : Int32} {p7 : Int32} {p9 : Int32} {S : zs_T} {Q : zs_Q} (hB : zt_B bf) (h : w_X9_measure_130 (zx σ n0 bf) d p0 p2 p7 p9 S Q) : zs_U (zx σ n0 bf) d 8115 130 [(0, .ref p0), (2, .int p2), (7, .int p7), (9, .int p9)] [] S Q := by
  unfold w_X9_measure_130 at h
  refine zu_aload_n d_8115_130 rfl (zs_ra _) ?_
  obtain ⟨k1, h⟩ := h
  refine zg_8_269 rfl d_8115_131 k1 ?_
  refine zu_iload d_8115_134 rfl ?_
  refine zu_iload d_8115_136 rfl ?_
  obtain ⟨b2, e3, h⟩ := h
  refine zs_stk2 (zs_rfe e3) ?_
  obtain ⟨k4, h⟩ := h
  obtain ⟨k5, h⟩ := h
  refine zu_iast (k := 0) d_8115_138 rfl rfl k5 k4 ?_
  generalize e7 : zs_si S b2 p7.toNatClampNeg p9 = S6
  have h := h S6 e7.symm
  have K8 : ∀ b, zs_K S6 b = zs_K S b := zs_Kt e7 (zs_Ksi _ _ _ _) (fun _ => rfl)
  refine zu_iload d_8115_139 rfl ?_
  refine zu_ifne (t := 183) d_8115_141 rfl (fun c9 => ?_) (fun c9 => ?_)
  · have h := h.1 c9
    refine zu_aload_n d_8115_183 rfl (zs_ra _) ?_
    refine zu_aload_n d_8115_184 rfl (zs_ra _) ?_
    refine zg_8_142 rfl d_8115_185 ((K8 _).trans k1) ?_
    refine zu_iload d_8115_188 rfl ?_
    obtain ⟨b10, e11, h⟩ := h
    refine zs_stk1 (zs_rfe e11) ?_
    obtain ⟨k12, h⟩ := h
    refine zu_iald (k := 0) d_8115_190 rfl rfl (zs_Ak K8 k12) ?_
    refine zc_8_819 (x0 := (zs_i S6 b10 p9.toNatClampNeg)) hB rfl ((K8 _).trans k1) d_8115_191 (Nat.le_of_ble_eq_true rfl) h (fun v14 S13 h => ?_)
    refine zu_istore_n d_8115_194 (zs_lt zq_8115 rfl) ?_
    refine zu_goto (t := 321) d_8115_195 rfl ?_
    refine zu_goto (t := 21) d_8115_321 rfl ?_
    exact h.weak ⟨rfl, rfl, rfl, trivial⟩
  · have h := h.2 c9
    refine zu_aload_n d_8115_144 rfl (zs_ra _) ?_
    refine zg_8_272 rfl d_8115_145 ((K8 _).trans k1) ?_
    refine zu_iload d_8115_148 rfl ?_
    obtain ⟨b15, e16, h⟩ := h
    refine zs_stk1 (zs_rfe e16) ?_
    obtain ⟨k17, h⟩ := h
    refine zu_iald (k := 0) d_8115_150 rfl rfl (zs_Ak K8 k17) ?_
    refine zu_sipush d_8115_151 zh_4000 ?_
    refine zu_cmple (t := 162) d_8115_154 rfl (fun c18 => ?_) (fun c18 => ?_)
    · have h := h.1 c18
      refine zu_aload_n d_8115_162 rfl (zs_ra _) ?_
      refine zg_8_272 rfl d_8115_163 ((K8 _).trans k1) ?_
      refine zu_iload d_8115_166 rfl ?_
      refine zs_stk1 (zs_rfe e16) ?_
      refine zu_iald (k := 0) d_8115_168 rfl rfl (zs_Ak K8 k17) ?_
      exact (u_X9_measure_169 hB h).weak ⟨rfl, rfl, trivial⟩
    · have h := h.2 c18
      refine zu_bipush d_8115_157 zj_m2 ?_
      refine zu_goto (t := 169) d_8115_159 rfl ?_
      exact (u_X9_measure_169 hB h).weak ⟨rfl, rfl, trivial⟩
def w_X9_measure_96 (X : zs_X) (d : Nat) (p0 : Nat) (p2 : Int32) (p3 : Int32) (p5 : Int32) (p7 : Int32) (p9 : Int32) (S : zs_T) (Q : zs_Q) : Prop :=
  (((p3 < 0 → (zs_K S p0 = some (.inl 8) ∧ ∃ b3, (zs_R S 8046 p0) = some b3 ∧ zs_A S b3 0 p5 ∧ w_X9_measure_130 X d p0 p2 p7 (zs_i S b3 p5.toNatClampNeg) S Q)) ∧ (¬ (p3 < 0) → (zs_K S p0 = some (.inl 8) ∧ zs_C X d 8119 [.ref p0, .int p9, .int p3] S (zs_kV (fun S7 => (zs_K S7 p0 = some (.inl 8) ∧ ∃ b10, (zs_R S7 8067 p0) = some b10 ∧ zs_A S7 b10 0 p9 ∧ w_X9_measure_130 X d p0 p2 p7 (zs_i S7 b10 p9.toNatClampNeg) S7 Q)) Q)))))
theorem u_X9_measure_96 {σ : Nat → Nat} {n0 : Nat} {bf : ab_B} {d : Nat} {p0 : Nat} {p2 : Int32} {p3 : Int32} {p5 : Int32} {p7 : Int32} {p9 : Int32} {S : zs_T} {Q : zs_Q} (hB : zt_B bf) (h : w_X9_measure_96 (zx σ n0 bf) d p0 p2 p3 p5 p7 p9 S Q) : zs_U (zx σ n0 bf) d 8115 96 [(0, .ref p0), (2, .int p2), (3, .int p3), (5, .int p5), (7, .int p7), (9, .int p9)] [] S Q := by
  unfold w_X9_measure_96 at h
  refine zu_iload_n d_8115_96 rfl ?_
  refine zu_iflt (t := 121) d_8115_97 rfl (fun c1 => ?_) (fun c1 => ?_)
  · have h := h.1 c1
    refine zu_aload_n d_8115_121 rfl (zs_ra _) ?_
    obtain ⟨k2, h⟩ := h
    refine zg_8_96 rfl d_8115_122 k2 ?_
    refine zu_iload d_8115_125 rfl ?_
    obtain ⟨b3, e4, h⟩ := h
    refine zs_stk1 (zs_rfe e4) ?_
    obtain ⟨k5, h⟩ := h
    refine zu_iald (k := 0) d_8115_127 rfl rfl k5 ?_
    refine zu_istore d_8115_128 (zs_lt zq_8115 rfl) ?_
    exact (u_X9_measure_130 hB h).weak ⟨rfl, rfl, rfl, rfl, trivial⟩
  · have h := h.2 c1
    refine zu_aload_n d_8115_100 rfl (zs_ra _) ?_
    refine zu_iload d_8115_101 rfl ?_
    refine zu_iload_n d_8115_103 rfl ?_
    obtain ⟨k6, h⟩ := h
    refine zc_8_816 (x0 := p9) (x1 := p3) hB rfl k6 d_8115_104 (Nat.le_of_ble_eq_true rfl) h (fun S7 h => ?_)
    refine zu_iconst d_8115_107 zi_m1 ?_
    refine zu_istore_n d_8115_108 (zs_lt zq_8115 rfl) ?_
    refine zu_aload_n d_8115_109 rfl (zs_ra _) ?_
    obtain ⟨k9, h⟩ := h
    refine zg_8_148 rfl d_8115_110 k9 ?_
    refine zu_iload d_8115_113 rfl ?_
    obtain ⟨b10, e11, h⟩ := h
    refine zs_stk1 (zs_rfe e11) ?_
    obtain ⟨k12, h⟩ := h
    refine zu_iald (k := 0) d_8115_115 rfl rfl k12 ?_
    refine zu_istore d_8115_116 (zs_lt zq_8115 rfl) ?_
    refine zu_goto (t := 130) d_8115_118 rfl ?_
    exact (u_X9_measure_130 hB h).weak ⟨rfl, rfl, rfl, rfl, trivial⟩
def w_X9_measure_52 (X : zs_X) (d : Nat) (p0 : Nat) (p2 : Int32) (p3 : Int32) (p5 : Int32) (p7 : Int32) (S : zs_T) (Q : zs_Q) : Prop :=
  (zs_K S p0 = some (.inl 8) ∧ ∃ b2, (zs_R S 8044 p0) = some b2 ∧ zs_A S b2 1 p5 ∧ ((¬ p3 = (-2 : Int32) → (((¬ (zs_i S b2 p5.toNatClampNeg) = (9 : Int32) → (((¬ (zs_i S b2 p5.toNatClampNeg) = (8 : Int32) → (((¬ (zs_i S b2 p5.toNatClampNeg) = (11 : Int32) → w_X9_measure_304 X d p0 p2 p5 S Q) ∧ (¬ (¬ (zs_i S b2 p5.toNatClampNeg) = (11 : Int32)) → w_X9_measure_252 X d p0 p2 p3 p5 S Q)))) ∧ (¬ (¬ (zs_i S b2 p5.toNatClampNeg) = (8 : Int32)) → (((p3 < 0 → w_X9_measure_230 X d p0 p2 p5 S Q) ∧ (¬ (p3 < 0) → w_X9_measure_209 X d p0 p2 p3 p5 S Q))))))) ∧ (¬ (¬ (zs_i S b2 p5.toNatClampNeg) = (9 : Int32)) → (∃ b10, (zs_R S 8122 p0) = some b10 ∧ zs_A S b10 0 p7 ∧ w_X9_measure_96 X d p0 p2 p3 p5 p7 (zs_i S b10 p7.toNatClampNeg) S Q))))) ∧ (¬ (¬ p3 = (-2 : Int32)) → (ab_n0 X.1 ≤ p0 ∧ ∀ S14, S14 = zs_sI S 8124 p0 ((zs_I S 8124 p0) - (1 : Int32)) → zs_U X d 8115 21 [(0, .ref p0), (2, .int p2), (3, .int p3)] [] S14 Q))))
theorem u_X9_measure_52 {σ : Nat → Nat} {n0 : Nat} {bf : ab_B} {d : Nat} {p0 : Nat} {p2 : Int32} {p3 : Int32} {p5 : Int32} {p7 : Int32} {S : zs_T} {Q : zs_Q} (hB : zt_B bf) (h : w_X9_measure_52 (zx σ n0 bf) d p0 p2 p3 p5 p7 S Q) : zs_U (zx σ n0 bf) d 8115 52 [(0, .ref p0), (2, .int p2), (3, .int p3), (5, .int p5), (7, .int p7)] [] S Q := by
  unfold w_X9_measure_52 at h
  refine zu_aload_n d_8115_52 rfl (zs_ra _) ?_
  obtain ⟨k1, h⟩ := h
  refine zg_8_90 rfl d_8115_53 k1 ?_
  refine zu_iload d_8115_56 rfl ?_
  obtain ⟨b2, e3, h⟩ := h
  refine zs_stk1 (zs_rfe e3) ?_
  obtain ⟨k4, h⟩ := h
  refine zu_bald (k := 1) d_8115_58 rfl (Or.inl rfl) k4 ?_
  refine zu_istore d_8115_59 (zs_lt zq_8115 rfl) ?_
  refine zu_iload_n d_8115_61 rfl ?_
  refine zu_bipush d_8115_62 zj_m2 ?_
  refine zu_cmpne (t := 80) d_8115_64 rfl (fun c5 => ?_) (fun c5 => ?_)
  · have h := h.1 c5
    refine zu_iload d_8115_80 rfl ?_
    refine zu_bipush d_8115_82 zj_9 ?_
    refine zu_cmpne (t := 198) d_8115_84 rfl (fun c6 => ?_) (fun c6 => ?_)
    · have h := h.1 c6
      refine zu_iload d_8115_198 rfl ?_
      refine zu_bipush d_8115_200 zj_8 ?_
      refine zu_cmpne (t := 245) d_8115_202 rfl (fun c7 => ?_) (fun c7 => ?_)
      · have h := h.1 c7
        refine zu_iload d_8115_245 rfl ?_
        refine zu_bipush d_8115_247 zj_11 ?_
        refine zu_cmpne (t := 304) d_8115_249 rfl (fun c8 => ?_) (fun c8 => ?_)
        · have h := h.1 c8
          exact (u_X9_measure_304 hB h).weak ⟨rfl, rfl, rfl, trivial⟩
        · have h := h.2 c8
          exact (u_X9_measure_252 hB h).weak ⟨rfl, rfl, rfl, rfl, trivial⟩
      · have h := h.2 c7
        refine zu_iload_n d_8115_205 rfl ?_
        refine zu_iflt (t := 230) d_8115_206 rfl (fun c9 => ?_) (fun c9 => ?_)
        · have h := h.1 c9
          exact (u_X9_measure_230 hB h).weak ⟨rfl, rfl, rfl, trivial⟩
        · have h := h.2 c9
          exact (u_X9_measure_209 hB h).weak ⟨rfl, rfl, rfl, rfl, trivial⟩
    · have h := h.2 c6
      refine zu_aload_n d_8115_87 rfl (zs_ra _) ?_
      refine zg_8_269 rfl d_8115_88 k1 ?_
      refine zu_iload d_8115_91 rfl ?_
      obtain ⟨b10, e11, h⟩ := h
      refine zs_stk1 (zs_rfe e11) ?_
      obtain ⟨k12, h⟩ := h
      refine zu_iald (k := 0) d_8115_93 rfl rfl k12 ?_
      refine zu_istore d_8115_94 (zs_lt zq_8115 rfl) ?_
      exact (u_X9_measure_96 hB h).weak ⟨rfl, rfl, rfl, rfl, rfl, rfl, trivial⟩
  · have h := h.2 c5
    refine zu_aload_n d_8115_67 rfl (zs_ra _) ?_
    refine zu_dup d_8115_68 rfl ?_
    refine zg_8_802 rfl d_8115_69 k1 ?_
    refine zu_iconst d_8115_72 zi_1 ?_
    refine zu_stk d_8115_73 rfl rfl ?_
    obtain ⟨k13, h⟩ := h
    refine zp_8_802 (v := ((zs_I S 8124 p0) - (1 : Int32))) rfl d_8115_74 k1 k13 ?_
    generalize e15 : zs_sI S 8124 p0 ((zs_I S 8124 p0) - (1 : Int32)) = S14
    have h := h S14 e15.symm
    have K16 : ∀ b, zs_K S14 b = zs_K S b := zs_Kt e15 (zs_KsI _ _ _ _) (fun _ => rfl)
    refine zu_goto (t := 321) d_8115_77 rfl ?_
    refine zu_goto (t := 21) d_8115_321 rfl ?_
    exact h.weak ⟨rfl, rfl, rfl, trivial⟩
def w_X9_measure_21 (X : zs_X) (d : Nat) (p0 : Nat) (p2 : Int32) (p3 : Int32) (S : zs_T) (Q : zs_Q) : Prop :=
  (zs_K S p0 = some (.inl 8) ∧ (((zs_I S 8124 p0) ≤ p2 → (zs_C X d 8118 [.ref p0, .int p2] S (zs_kV (fun S3 => (Q (.returned (some (.int p3))) S3)) Q))) ∧ (¬ ((zs_I S 8124 p0) ≤ p2) → (zs_C X d 8118 [.ref p0, .int ((zs_I S 8124 p0) - (1 : Int32))] S (zs_kV (fun S5 => (zs_K S5 p0 = some (.inl 8) ∧ ∃ b8, (zs_R S5 8120 p0) = some b8 ∧ zs_A S5 b8 0 ((zs_I S 8124 p0) - (1 : Int32)) ∧ w_X9_measure_52 X d p0 p2 p3 (zs_i S5 b8 ((zs_I S 8124 p0) - (1 : Int32)).toNatClampNeg) ((zs_I S 8124 p0) - (1 : Int32)) S5 Q)) Q)))))
theorem u_X9_measure_21 {σ : Nat → Nat} {n0 : Nat} {bf : ab_B} {d : Nat} {p0 : Nat} {p2 : Int32} {p3 : Int32} {S : zs_T} {Q : zs_Q} (hB : zt_B bf) (h : w_X9_measure_21 (zx σ n0 bf) d p0 p2 p3 S Q) : zs_U (zx σ n0 bf) d 8115 21 [(0, .ref p0), (2, .int p2), (3, .int p3)] [] S Q := by
  unfold w_X9_measure_21 at h
  refine zu_aload_n d_8115_21 rfl (zs_ra _) ?_
  obtain ⟨k1, h⟩ := h
  refine zg_8_802 rfl d_8115_22 k1 ?_
  refine zu_iload_n d_8115_25 rfl ?_
  refine zu_cmple (t := 324) d_8115_26 rfl (fun c2 => ?_) (fun c2 => ?_)
  · have h := h.1 c2
    refine zu_aload_n d_8115_324 rfl (zs_ra _) ?_
    refine zu_iload_n d_8115_325 rfl ?_
    refine zc_8_813 (x0 := p2) hB rfl k1 d_8115_326 (Nat.le_of_ble_eq_true rfl) h (fun S3 h => ?_)
    refine zu_iload_n d_8115_329 rfl ?_
    exact zu_iret d_8115_330 zr_8115 rfl h
  · have h := h.2 c2
    refine zu_aload_n d_8115_29 rfl (zs_ra _) ?_
    refine zg_8_802 rfl d_8115_30 k1 ?_
    refine zu_iconst d_8115_33 zi_1 ?_
    refine zu_stk d_8115_34 rfl rfl ?_
    refine zu_istore d_8115_35 (zs_lt zq_8115 rfl) ?_
    refine zu_aload_n d_8115_37 rfl (zs_ra _) ?_
    refine zu_iload d_8115_38 rfl ?_
    refine zc_8_813 (x0 := ((zs_I S 8124 p0) - (1 : Int32))) hB rfl k1 d_8115_40 (Nat.le_of_ble_eq_true rfl) h (fun S5 h => ?_)
    refine zu_aload_n d_8115_43 rfl (zs_ra _) ?_
    obtain ⟨k7, h⟩ := h
    refine zg_8_263 rfl d_8115_44 k7 ?_
    refine zu_iload d_8115_47 rfl ?_
    obtain ⟨b8, e9, h⟩ := h
    refine zs_stk1 (zs_rfe e9) ?_
    obtain ⟨k10, h⟩ := h
    refine zu_iald (k := 0) d_8115_49 rfl rfl k10 ?_
    refine zu_istore d_8115_50 (zs_lt zq_8115 rfl) ?_
    exact (u_X9_measure_52 hB h).weak ⟨rfl, rfl, rfl, rfl, rfl, trivial⟩
def w_X9_measure (X : zs_X) (d : Nat) (p0 : Nat) (p1 : Int32) (S : zs_T) (Q : zs_Q) : Prop :=
  (zs_K S p0 = some (.inl 8) ∧ zs_C X d 8116 [.ref p0, .int p1] S (zs_kV (fun S2 => zs_U X d 8115 21 [(0, .ref p0), (2, .int (zs_I S 8124 p0)), (3, .int (-1 : Int32))] [] S2 Q) Q))
theorem u_X9_measure {σ : Nat → Nat} {n0 : Nat} {bf : ab_B} {d : Nat} {p0 : Nat} {p1 : Int32} {S : zs_T} {Q : zs_Q} (hB : zt_B bf) (hd : 1 ≤ d) (h : w_X9_measure (zx σ n0 bf) (d - 1) p0 p1 S Q) : zs_C (zx σ n0 bf) d 8115 [.ref p0, .int p1] S Q := by
  have hL : lv_args 0 [.ref p0, .int p1] = [(0, .ref p0), (1, .int p1)] := rfl
  refine zs_C.of1 (hB.2 8115 (by decide) (by decide)) hd (by rw [hL]; exact zs_sub_self _ (by exact ⟨rfl, rfl, trivial⟩)) ?_
  rw [hL]
  clear hL
  unfold w_X9_measure at h
  refine zu_aload_n d_8115_0 rfl (zs_ra _) ?_
  obtain ⟨k1, h⟩ := h
  refine zg_8_802 rfl d_8115_1 k1 ?_
  refine zu_istore_n d_8115_4 (zs_lt zq_8115 rfl) ?_
  refine zu_iconst d_8115_5 zi_m1 ?_
  refine zu_istore_n d_8115_6 (zs_lt zq_8115 rfl) ?_
  refine zu_iconst d_8115_7 zi_1 ?_
  refine zu_istore d_8115_8 (zs_lt zq_8115 rfl) ?_
  refine zu_iload_n d_8115_10 rfl ?_
  refine zu_istore d_8115_11 (zs_lt zq_8115 rfl) ?_
  refine zu_iconst d_8115_13 zi_0 ?_
  refine zu_istore d_8115_14 (zs_lt zq_8115 rfl) ?_
  refine zu_aload_n d_8115_16 rfl (zs_ra _) ?_
  refine zu_iload_n d_8115_17 rfl ?_
  refine zc_8_810 (x0 := p1) hB rfl k1 d_8115_18 (Nat.le_of_ble_eq_true rfl) h (fun S2 h => ?_)
  exact h.weak ⟨rfl, rfl, rfl, trivial⟩
/-! SchemaPascalModel.seek(I)V -/
theorem zm_8116 {σ : Nat → Nat} {n0 : Nat} {bf : ab_B} : ab_code (zx σ n0 bf).1 8116 = prog_17_method_101_code := rfl
theorem zq_8116 {σ : Nat → Nat} {n0 : Nat} {bf : ab_B} : ab_maxL (zx σ n0 bf).1 8116 = 2 := rfl
theorem zr_8116 {σ : Nat → Nat} {n0 : Nat} {bf : ab_B} : ab_ret (zx σ n0 bf).1 8116 = (Option.none : Option Jvm.ClassFile.FieldType) := rfl
theorem d_8116_0 {σ : Nat → Nat} {n0 : Nat} {bf : ab_B} : decode (ab_code (zx σ n0 bf).1 8116) 0 = .ok (.aload_n 0, 1) := zd zm_8116 (by decide +kernel)
theorem d_8116_1 {σ : Nat → Nat} {n0 : Nat} {bf : ab_B} : decode (ab_code (zx σ n0 bf).1 8116) 1 = .ok (.getfield 263, 3) := zd zm_8116 (by decide +kernel)
theorem d_8116_4 {σ : Nat → Nat} {n0 : Nat} {bf : ab_B} : decode (ab_code (zx σ n0 bf).1 8116) 4 = .ok (.aload_n 0, 1) := zd zm_8116 (by decide +kernel)
theorem d_8116_5 {σ : Nat → Nat} {n0 : Nat} {bf : ab_B} : decode (ab_code (zx σ n0 bf).1 8116) 5 = .ok (.getfield 802, 3) := zd zm_8116 (by decide +kernel)
theorem d_8116_8 {σ : Nat → Nat} {n0 : Nat} {bf : ab_B} : decode (ab_code (zx σ n0 bf).1 8116) 8 = .ok (.iload_n 1, 1) := zd zm_8116 (by decide +kernel)
theorem d_8116_9 {σ : Nat → Nat} {n0 : Nat} {bf : ab_B} : decode (ab_code (zx σ n0 bf).1 8116) 9 = .ok (.iastore, 1) := zd zm_8116 (by decide +kernel)
theorem d_8116_10 {σ : Nat → Nat} {n0 : Nat} {bf : ab_B} : decode (ab_code (zx σ n0 bf).1 8116) 10 = .ok (.aload_n 0, 1) := zd zm_8116 (by decide +kernel)
theorem d_8116_11 {σ : Nat → Nat} {n0 : Nat} {bf : ab_B} : decode (ab_code (zx σ n0 bf).1 8116) 11 = .ok (.getfield 269, 3) := zd zm_8116 (by decide +kernel)
theorem d_8116_14 {σ : Nat → Nat} {n0 : Nat} {bf : ab_B} : decode (ab_code (zx σ n0 bf).1 8116) 14 = .ok (.aload_n 0, 1) := zd zm_8116 (by decide +kernel)
theorem d_8116_15 {σ : Nat → Nat} {n0 : Nat} {bf : ab_B} : decode (ab_code (zx σ n0 bf).1 8116) 15 = .ok (.getfield 802, 3) := zd zm_8116 (by decide +kernel)
theorem d_8116_18 {σ : Nat → Nat} {n0 : Nat} {bf : ab_B} : decode (ab_code (zx σ n0 bf).1 8116) 18 = .ok (.iconst 0, 1) := zd zm_8116 (by decide +kernel)
theorem d_8116_19 {σ : Nat → Nat} {n0 : Nat} {bf : ab_B} : decode (ab_code (zx σ n0 bf).1 8116) 19 = .ok (.iastore, 1) := zd zm_8116 (by decide +kernel)
theorem d_8116_20 {σ : Nat → Nat} {n0 : Nat} {bf : ab_B} : decode (ab_code (zx σ n0 bf).1 8116) 20 = .ok (.aload_n 0, 1) := zd zm_8116 (by decide +kernel)
theorem d_8116_21 {σ : Nat → Nat} {n0 : Nat} {bf : ab_B} : decode (ab_code (zx σ n0 bf).1 8116) 21 = .ok (.getfield 272, 3) := zd zm_8116 (by decide +kernel)
theorem d_8116_24 {σ : Nat → Nat} {n0 : Nat} {bf : ab_B} : decode (ab_code (zx σ n0 bf).1 8116) 24 = .ok (.aload_n 0, 1) := zd zm_8116 (by decide +kernel)
theorem d_8116_25 {σ : Nat → Nat} {n0 : Nat} {bf : ab_B} : decode (ab_code (zx σ n0 bf).1 8116) 25 = .ok (.getfield 802, 3) := zd zm_8116 (by decide +kernel)
theorem d_8116_28 {σ : Nat → Nat} {n0 : Nat} {bf : ab_B} : decode (ab_code (zx σ n0 bf).1 8116) 28 = .ok (.iconst 0, 1) := zd zm_8116 (by decide +kernel)
theorem d_8116_29 {σ : Nat → Nat} {n0 : Nat} {bf : ab_B} : decode (ab_code (zx σ n0 bf).1 8116) 29 = .ok (.iastore, 1) := zd zm_8116 (by decide +kernel)
theorem d_8116_30 {σ : Nat → Nat} {n0 : Nat} {bf : ab_B} : decode (ab_code (zx σ n0 bf).1 8116) 30 = .ok (.aload_n 0, 1) := zd zm_8116 (by decide +kernel)
theorem d_8116_31 {σ : Nat → Nat} {n0 : Nat} {bf : ab_B} : decode (ab_code (zx σ n0 bf).1 8116) 31 = .ok (.aload_n 0, 1) := zd zm_8116 (by decide +kernel)
theorem d_8116_32 {σ : Nat → Nat} {n0 : Nat} {bf : ab_B} : decode (ab_code (zx σ n0 bf).1 8116) 32 = .ok (.getfield 802, 3) := zd zm_8116 (by decide +kernel)
theorem d_8116_35 {σ : Nat → Nat} {n0 : Nat} {bf : ab_B} : decode (ab_code (zx σ n0 bf).1 8116) 35 = .ok (.invokevirtual 805, 3) := zd zm_8116 (by decide +kernel)
theorem d_8116_38 {σ : Nat → Nat} {n0 : Nat} {bf : ab_B} : decode (ab_code (zx σ n0 bf).1 8116) 38 = .ok (.aload_n 0, 1) := zd zm_8116 (by decide +kernel)
theorem d_8116_39 {σ : Nat → Nat} {n0 : Nat} {bf : ab_B} : decode (ab_code (zx σ n0 bf).1 8116) 39 = .ok (.dup, 1) := zd zm_8116 (by decide +kernel)
theorem d_8116_40 {σ : Nat → Nat} {n0 : Nat} {bf : ab_B} : decode (ab_code (zx σ n0 bf).1 8116) 40 = .ok (.getfield 802, 3) := zd zm_8116 (by decide +kernel)
theorem d_8116_43 {σ : Nat → Nat} {n0 : Nat} {bf : ab_B} : decode (ab_code (zx σ n0 bf).1 8116) 43 = .ok (.iconst 1, 1) := zd zm_8116 (by decide +kernel)
theorem d_8116_44 {σ : Nat → Nat} {n0 : Nat} {bf : ab_B} : decode (ab_code (zx σ n0 bf).1 8116) 44 = .ok (.iadd, 1) := zd zm_8116 (by decide +kernel)
theorem d_8116_45 {σ : Nat → Nat} {n0 : Nat} {bf : ab_B} : decode (ab_code (zx σ n0 bf).1 8116) 45 = .ok (.putfield 802, 3) := zd zm_8116 (by decide +kernel)
theorem d_8116_48 {σ : Nat → Nat} {n0 : Nat} {bf : ab_B} : decode (ab_code (zx σ n0 bf).1 8116) 48 = .ok (.return_, 1) := zd zm_8116 (by decide +kernel)
def w_X9_seek_30 (X : zs_X) (d : Nat) (p0 : Nat) (S : zs_T) (Q : zs_Q) : Prop :=
  (zs_K S p0 = some (.inl 8) ∧ zs_C X d 8117 [.ref p0, .int (zs_I S 8124 p0)] S (zs_kV (fun S2 => (zs_K S2 p0 = some (.inl 8) ∧ ab_n0 X.1 ≤ p0 ∧ ∀ S6, S6 = zs_sI S2 8124 p0 ((zs_I S2 8124 p0) + (1 : Int32)) → Q (.returned none) S6)) Q))
theorem u_X9_seek_30 {σ : Nat → Nat} {n0 : Nat} {bf : ab_B} {d : Nat} {p0 : Nat} {S : zs_T} {Q : zs_Q} (hB : zt_B bf) (h : w_X9_seek_30 (zx σ n0 bf) d p0 S Q) : zs_U (zx σ n0 bf) d 8116 30 [(0, .ref p0)] [] S Q := by
  unfold w_X9_seek_30 at h
  refine zu_aload_n d_8116_30 rfl (zs_ra _) ?_
  refine zu_aload_n d_8116_31 rfl (zs_ra _) ?_
  obtain ⟨k1, h⟩ := h
  refine zg_8_802 rfl d_8116_32 k1 ?_
  refine zc_8_805 (x0 := (zs_I S 8124 p0)) hB rfl k1 d_8116_35 (Nat.le_of_ble_eq_true rfl) h (fun S2 h => ?_)
  refine zu_aload_n d_8116_38 rfl (zs_ra _) ?_
  refine zu_dup d_8116_39 rfl ?_
  obtain ⟨k4, h⟩ := h
  refine zg_8_802 rfl d_8116_40 k4 ?_
  refine zu_iconst d_8116_43 zi_1 ?_
  refine zu_stk d_8116_44 rfl rfl ?_
  obtain ⟨k5, h⟩ := h
  refine zp_8_802 (v := ((zs_I S2 8124 p0) + (1 : Int32))) rfl d_8116_45 k4 k5 ?_
  generalize e7 : zs_sI S2 8124 p0 ((zs_I S2 8124 p0) + (1 : Int32)) = S6
  have h := h S6 e7.symm
  have K8 : ∀ b, zs_K S6 b = zs_K S2 b := zs_Kt e7 (zs_KsI _ _ _ _) (fun _ => rfl)
  exact zu_vret d_8116_48 zr_8116 h
def w_X9_seek (X : zs_X) (d : Nat) (p0 : Nat) (p1 : Int32) (S : zs_T) (Q : zs_Q) : Prop :=
  (zs_K S p0 = some (.inl 8) ∧ ∃ b2, (zs_R S 8120 p0) = some b2 ∧ zs_A S b2 0 (zs_I S 8124 p0) ∧ ab_n0 X.1 ≤ b2 ∧ ∀ S6, S6 = zs_si S b2 (zs_I S 8124 p0).toNatClampNeg p1 → ∃ b9, (zs_R S6 8122 p0) = some b9 ∧ zs_A S b9 0 (zs_I S6 8124 p0) ∧ ab_n0 X.1 ≤ b9 ∧ ∀ S13, S13 = zs_si S6 b9 (zs_I S6 8124 p0).toNatClampNeg (0 : Int32) → ∃ b16, (zs_R S13 8123 p0) = some b16 ∧ zs_A S b16 0 (zs_I S13 8124 p0) ∧ ab_n0 X.1 ≤ b16 ∧ ∀ S20, S20 = zs_si S13 b16 (zs_I S13 8124 p0).toNatClampNeg (0 : Int32) → w_X9_seek_30 X d p0 S20 Q)
theorem u_X9_seek {σ : Nat → Nat} {n0 : Nat} {bf : ab_B} {d : Nat} {p0 : Nat} {p1 : Int32} {S : zs_T} {Q : zs_Q} (hB : zt_B bf) (hd : 1 ≤ d) (h : w_X9_seek (zx σ n0 bf) (d - 1) p0 p1 S Q) : zs_C (zx σ n0 bf) d 8116 [.ref p0, .int p1] S Q := by
  have hL : lv_args 0 [.ref p0, .int p1] = [(0, .ref p0), (1, .int p1)] := rfl
  refine zs_C.of1 (hB.2 8116 (by decide) (by decide)) hd (by rw [hL]; exact zs_sub_self _ (by exact ⟨rfl, rfl, trivial⟩)) ?_
  rw [hL]
  clear hL
  unfold w_X9_seek at h
  refine zu_aload_n d_8116_0 rfl (zs_ra _) ?_
  obtain ⟨k1, h⟩ := h
  refine zg_8_263 rfl d_8116_1 k1 ?_
  refine zu_aload_n d_8116_4 rfl (zs_ra _) ?_
  refine zg_8_802 rfl d_8116_5 k1 ?_
  refine zu_iload_n d_8116_8 rfl ?_
  obtain ⟨b2, e3, h⟩ := h
  refine zs_stk2 (zs_rfe e3) ?_
  obtain ⟨k4, h⟩ := h
  obtain ⟨k5, h⟩ := h
  refine zu_iast (k := 0) d_8116_9 rfl rfl k5 k4 ?_
  generalize e7 : zs_si S b2 (zs_I S 8124 p0).toNatClampNeg p1 = S6
  have h := h S6 e7.symm
  have K8 : ∀ b, zs_K S6 b = zs_K S b := zs_Kt e7 (zs_Ksi _ _ _ _) (fun _ => rfl)
  refine zu_aload_n d_8116_10 rfl (zs_ra _) ?_
  refine zg_8_269 rfl d_8116_11 ((K8 _).trans k1) ?_
  refine zu_aload_n d_8116_14 rfl (zs_ra _) ?_
  refine zg_8_802 rfl d_8116_15 ((K8 _).trans k1) ?_
  refine zu_iconst d_8116_18 zi_0 ?_
  obtain ⟨b9, e10, h⟩ := h
  refine zs_stk2 (zs_rfe e10) ?_
  obtain ⟨k11, h⟩ := h
  obtain ⟨k12, h⟩ := h
  refine zu_iast (k := 0) d_8116_19 rfl rfl k12 (zs_Ak K8 k11) ?_
  generalize e14 : zs_si S6 b9 (zs_I S6 8124 p0).toNatClampNeg (0 : Int32) = S13
  have h := h S13 e14.symm
  have K15 : ∀ b, zs_K S13 b = zs_K S b := zs_Kt e14 (zs_Ksi _ _ _ _) K8
  refine zu_aload_n d_8116_20 rfl (zs_ra _) ?_
  refine zg_8_272 rfl d_8116_21 ((K15 _).trans k1) ?_
  refine zu_aload_n d_8116_24 rfl (zs_ra _) ?_
  refine zg_8_802 rfl d_8116_25 ((K15 _).trans k1) ?_
  refine zu_iconst d_8116_28 zi_0 ?_
  obtain ⟨b16, e17, h⟩ := h
  refine zs_stk2 (zs_rfe e17) ?_
  obtain ⟨k18, h⟩ := h
  obtain ⟨k19, h⟩ := h
  refine zu_iast (k := 0) d_8116_29 rfl rfl k19 (zs_Ak K15 k18) ?_
  generalize e21 : zs_si S13 b16 (zs_I S13 8124 p0).toNatClampNeg (0 : Int32) = S20
  have h := h S20 e21.symm
  have K22 : ∀ b, zs_K S20 b = zs_K S b := zs_Kt e21 (zs_Ksi _ _ _ _) K15
  exact (u_X9_seek_30 hB h).weak ⟨rfl, trivial⟩
/-! SchemaPascalModel.holdDisc(I)V -/
theorem zm_8117 {σ : Nat → Nat} {n0 : Nat} {bf : ab_B} : ab_code (zx σ n0 bf).1 8117 = prog_17_method_95_code := rfl
theorem zq_8117 {σ : Nat → Nat} {n0 : Nat} {bf : ab_B} : ab_maxL (zx σ n0 bf).1 8117 = 2 := rfl
theorem zr_8117 {σ : Nat → Nat} {n0 : Nat} {bf : ab_B} : ab_ret (zx σ n0 bf).1 8117 = (Option.none : Option Jvm.ClassFile.FieldType) := rfl
theorem d_8117_0 {σ : Nat → Nat} {n0 : Nat} {bf : ab_B} : decode (ab_code (zx σ n0 bf).1 8117) 0 = .ok (.aload_n 0, 1) := zd zm_8117 (by decide +kernel)
theorem d_8117_1 {σ : Nat → Nat} {n0 : Nat} {bf : ab_B} : decode (ab_code (zx σ n0 bf).1 8117) 1 = .ok (.getfield 266, 3) := zd zm_8117 (by decide +kernel)
theorem d_8117_4 {σ : Nat → Nat} {n0 : Nat} {bf : ab_B} : decode (ab_code (zx σ n0 bf).1 8117) 4 = .ok (.iconst 4, 1) := zd zm_8117 (by decide +kernel)
theorem d_8117_5 {σ : Nat → Nat} {n0 : Nat} {bf : ab_B} : decode (ab_code (zx σ n0 bf).1 8117) 5 = .ok (.iload_n 1, 1) := zd zm_8117 (by decide +kernel)
theorem d_8117_6 {σ : Nat → Nat} {n0 : Nat} {bf : ab_B} : decode (ab_code (zx σ n0 bf).1 8117) 6 = .ok (.imul, 1) := zd zm_8117 (by decide +kernel)
theorem d_8117_7 {σ : Nat → Nat} {n0 : Nat} {bf : ab_B} : decode (ab_code (zx σ n0 bf).1 8117) 7 = .ok (.aload_n 0, 1) := zd zm_8117 (by decide +kernel)
theorem d_8117_8 {σ : Nat → Nat} {n0 : Nat} {bf : ab_B} : decode (ab_code (zx σ n0 bf).1 8117) 8 = .ok (.getfield 610, 3) := zd zm_8117 (by decide +kernel)
theorem d_8117_11 {σ : Nat → Nat} {n0 : Nat} {bf : ab_B} : decode (ab_code (zx σ n0 bf).1 8117) 11 = .ok (.lastore, 1) := zd zm_8117 (by decide +kernel)
theorem d_8117_12 {σ : Nat → Nat} {n0 : Nat} {bf : ab_B} : decode (ab_code (zx σ n0 bf).1 8117) 12 = .ok (.aload_n 0, 1) := zd zm_8117 (by decide +kernel)
theorem d_8117_13 {σ : Nat → Nat} {n0 : Nat} {bf : ab_B} : decode (ab_code (zx σ n0 bf).1 8117) 13 = .ok (.getfield 266, 3) := zd zm_8117 (by decide +kernel)
theorem d_8117_16 {σ : Nat → Nat} {n0 : Nat} {bf : ab_B} : decode (ab_code (zx σ n0 bf).1 8117) 16 = .ok (.iconst 4, 1) := zd zm_8117 (by decide +kernel)
theorem d_8117_17 {σ : Nat → Nat} {n0 : Nat} {bf : ab_B} : decode (ab_code (zx σ n0 bf).1 8117) 17 = .ok (.iload_n 1, 1) := zd zm_8117 (by decide +kernel)
theorem d_8117_18 {σ : Nat → Nat} {n0 : Nat} {bf : ab_B} : decode (ab_code (zx σ n0 bf).1 8117) 18 = .ok (.imul, 1) := zd zm_8117 (by decide +kernel)
theorem d_8117_19 {σ : Nat → Nat} {n0 : Nat} {bf : ab_B} : decode (ab_code (zx σ n0 bf).1 8117) 19 = .ok (.iconst 1, 1) := zd zm_8117 (by decide +kernel)
theorem d_8117_20 {σ : Nat → Nat} {n0 : Nat} {bf : ab_B} : decode (ab_code (zx σ n0 bf).1 8117) 20 = .ok (.iadd, 1) := zd zm_8117 (by decide +kernel)
theorem d_8117_21 {σ : Nat → Nat} {n0 : Nat} {bf : ab_B} : decode (ab_code (zx σ n0 bf).1 8117) 21 = .ok (.aload_n 0, 1) := zd zm_8117 (by decide +kernel)
theorem d_8117_22 {σ : Nat → Nat} {n0 : Nat} {bf : ab_B} : decode (ab_code (zx σ n0 bf).1 8117) 22 = .ok (.getfield 614, 3) := zd zm_8117 (by decide +kernel)
theorem d_8117_25 {σ : Nat → Nat} {n0 : Nat} {bf : ab_B} : decode (ab_code (zx σ n0 bf).1 8117) 25 = .ok (.lastore, 1) := zd zm_8117 (by decide +kernel)
theorem d_8117_26 {σ : Nat → Nat} {n0 : Nat} {bf : ab_B} : decode (ab_code (zx σ n0 bf).1 8117) 26 = .ok (.aload_n 0, 1) := zd zm_8117 (by decide +kernel)
theorem d_8117_27 {σ : Nat → Nat} {n0 : Nat} {bf : ab_B} : decode (ab_code (zx σ n0 bf).1 8117) 27 = .ok (.getfield 266, 3) := zd zm_8117 (by decide +kernel)
theorem d_8117_30 {σ : Nat → Nat} {n0 : Nat} {bf : ab_B} : decode (ab_code (zx σ n0 bf).1 8117) 30 = .ok (.iconst 4, 1) := zd zm_8117 (by decide +kernel)
theorem d_8117_31 {σ : Nat → Nat} {n0 : Nat} {bf : ab_B} : decode (ab_code (zx σ n0 bf).1 8117) 31 = .ok (.iload_n 1, 1) := zd zm_8117 (by decide +kernel)
theorem d_8117_32 {σ : Nat → Nat} {n0 : Nat} {bf : ab_B} : decode (ab_code (zx σ n0 bf).1 8117) 32 = .ok (.imul, 1) := zd zm_8117 (by decide +kernel)
theorem d_8117_33 {σ : Nat → Nat} {n0 : Nat} {bf : ab_B} : decode (ab_code (zx σ n0 bf).1 8117) 33 = .ok (.iconst 2, 1) := zd zm_8117 (by decide +kernel)
theorem d_8117_34 {σ : Nat → Nat} {n0 : Nat} {bf : ab_B} : decode (ab_code (zx σ n0 bf).1 8117) 34 = .ok (.iadd, 1) := zd zm_8117 (by decide +kernel)
theorem d_8117_35 {σ : Nat → Nat} {n0 : Nat} {bf : ab_B} : decode (ab_code (zx σ n0 bf).1 8117) 35 = .ok (.aload_n 0, 1) := zd zm_8117 (by decide +kernel)
theorem d_8117_36 {σ : Nat → Nat} {n0 : Nat} {bf : ab_B} : decode (ab_code (zx σ n0 bf).1 8117) 36 = .ok (.getfield 617, 3) := zd zm_8117 (by decide +kernel)
theorem d_8117_39 {σ : Nat → Nat} {n0 : Nat} {bf : ab_B} : decode (ab_code (zx σ n0 bf).1 8117) 39 = .ok (.lastore, 1) := zd zm_8117 (by decide +kernel)
theorem d_8117_40 {σ : Nat → Nat} {n0 : Nat} {bf : ab_B} : decode (ab_code (zx σ n0 bf).1 8117) 40 = .ok (.aload_n 0, 1) := zd zm_8117 (by decide +kernel)
theorem d_8117_41 {σ : Nat → Nat} {n0 : Nat} {bf : ab_B} : decode (ab_code (zx σ n0 bf).1 8117) 41 = .ok (.getfield 266, 3) := zd zm_8117 (by decide +kernel)
theorem d_8117_44 {σ : Nat → Nat} {n0 : Nat} {bf : ab_B} : decode (ab_code (zx σ n0 bf).1 8117) 44 = .ok (.iconst 4, 1) := zd zm_8117 (by decide +kernel)
theorem d_8117_45 {σ : Nat → Nat} {n0 : Nat} {bf : ab_B} : decode (ab_code (zx σ n0 bf).1 8117) 45 = .ok (.iload_n 1, 1) := zd zm_8117 (by decide +kernel)
theorem d_8117_46 {σ : Nat → Nat} {n0 : Nat} {bf : ab_B} : decode (ab_code (zx σ n0 bf).1 8117) 46 = .ok (.imul, 1) := zd zm_8117 (by decide +kernel)
theorem d_8117_47 {σ : Nat → Nat} {n0 : Nat} {bf : ab_B} : decode (ab_code (zx σ n0 bf).1 8117) 47 = .ok (.iconst 3, 1) := zd zm_8117 (by decide +kernel)
theorem d_8117_48 {σ : Nat → Nat} {n0 : Nat} {bf : ab_B} : decode (ab_code (zx σ n0 bf).1 8117) 48 = .ok (.iadd, 1) := zd zm_8117 (by decide +kernel)
theorem d_8117_49 {σ : Nat → Nat} {n0 : Nat} {bf : ab_B} : decode (ab_code (zx σ n0 bf).1 8117) 49 = .ok (.aload_n 0, 1) := zd zm_8117 (by decide +kernel)
theorem d_8117_50 {σ : Nat → Nat} {n0 : Nat} {bf : ab_B} : decode (ab_code (zx σ n0 bf).1 8117) 50 = .ok (.getfield 620, 3) := zd zm_8117 (by decide +kernel)
theorem d_8117_53 {σ : Nat → Nat} {n0 : Nat} {bf : ab_B} : decode (ab_code (zx σ n0 bf).1 8117) 53 = .ok (.lastore, 1) := zd zm_8117 (by decide +kernel)
theorem d_8117_54 {σ : Nat → Nat} {n0 : Nat} {bf : ab_B} : decode (ab_code (zx σ n0 bf).1 8117) 54 = .ok (.return_, 1) := zd zm_8117 (by decide +kernel)
def w_X9_holdDisc_54 (X : zs_X) (d : Nat)  (S : zs_T) (Q : zs_Q) : Prop :=
  (Q (.returned none) S)
theorem u_X9_holdDisc_54 {σ : Nat → Nat} {n0 : Nat} {bf : ab_B} {d : Nat}  {S : zs_T} {Q : zs_Q} (hB : zt_B bf) (h : w_X9_holdDisc_54 (zx σ n0 bf) d  S Q) : zs_U (zx σ n0 bf) d 8117 54 [] [] S Q := by
  unfold w_X9_holdDisc_54 at h
  exact zu_vret d_8117_54 zr_8117 h
def w_X9_holdDisc_26 (X : zs_X) (d : Nat) (p0 : Nat) (p1 : Int32) (S : zs_T) (Q : zs_Q) : Prop :=
  (zs_K S p0 = some (.inl 8) ∧ ∃ b2, (zs_R S 8121 p0) = some b2 ∧ zs_A S b2 3 (((4 : Int32) * p1) + (2 : Int32)) ∧ ab_n0 X.1 ≤ b2 ∧ ∀ S6, S6 = zs_sj S b2 (((4 : Int32) * p1) + (2 : Int32)).toNatClampNeg (zs_J S 8083 p0) → ∃ b9, (zs_R S6 8121 p0) = some b9 ∧ zs_A S b9 3 (((4 : Int32) * p1) + (3 : Int32)) ∧ ab_n0 X.1 ≤ b9 ∧ ∀ S13, S13 = zs_sj S6 b9 (((4 : Int32) * p1) + (3 : Int32)).toNatClampNeg (zs_J S6 8084 p0) → w_X9_holdDisc_54 X d  S13 Q)
theorem u_X9_holdDisc_26 {σ : Nat → Nat} {n0 : Nat} {bf : ab_B} {d : Nat} {p0 : Nat} {p1 : Int32} {S : zs_T} {Q : zs_Q} (hB : zt_B bf) (h : w_X9_holdDisc_26 (zx σ n0 bf) d p0 p1 S Q) : zs_U (zx σ n0 bf) d 8117 26 [(0, .ref p0), (1, .int p1)] [] S Q := by
  unfold w_X9_holdDisc_26 at h
  refine zu_aload_n d_8117_26 rfl (zs_ra _) ?_
  obtain ⟨k1, h⟩ := h
  refine zg_8_266 rfl d_8117_27 k1 ?_
  refine zu_iconst d_8117_30 zi_4 ?_
  refine zu_iload_n d_8117_31 rfl ?_
  refine zu_stk d_8117_32 rfl rfl ?_
  refine zu_iconst d_8117_33 zi_2 ?_
  refine zu_stk d_8117_34 rfl rfl ?_
  refine zu_aload_n d_8117_35 rfl (zs_ra _) ?_
  refine zg_8_617 rfl d_8117_36 k1 ?_
  obtain ⟨b2, e3, h⟩ := h
  refine zs_stk2 (zs_rfe e3) ?_
  obtain ⟨k4, h⟩ := h
  obtain ⟨k5, h⟩ := h
  refine zu_last (k := 3) d_8117_39 rfl rfl k5 k4 ?_
  generalize e7 : zs_sj S b2 (((4 : Int32) * p1) + (2 : Int32)).toNatClampNeg (zs_J S 8083 p0) = S6
  have h := h S6 e7.symm
  have K8 : ∀ b, zs_K S6 b = zs_K S b := zs_Kt e7 (zs_Ksj _ _ _ _) (fun _ => rfl)
  refine zu_aload_n d_8117_40 rfl (zs_ra _) ?_
  refine zg_8_266 rfl d_8117_41 ((K8 _).trans k1) ?_
  refine zu_iconst d_8117_44 zi_4 ?_
  refine zu_iload_n d_8117_45 rfl ?_
  refine zu_stk d_8117_46 rfl rfl ?_
  refine zu_iconst d_8117_47 zi_3 ?_
  refine zu_stk d_8117_48 rfl rfl ?_
  refine zu_aload_n d_8117_49 rfl (zs_ra _) ?_
  refine zg_8_620 rfl d_8117_50 ((K8 _).trans k1) ?_
  obtain ⟨b9, e10, h⟩ := h
  refine zs_stk2 (zs_rfe e10) ?_
  obtain ⟨k11, h⟩ := h
  obtain ⟨k12, h⟩ := h
  refine zu_last (k := 3) d_8117_53 rfl rfl k12 (zs_Ak K8 k11) ?_
  generalize e14 : zs_sj S6 b9 (((4 : Int32) * p1) + (3 : Int32)).toNatClampNeg (zs_J S6 8084 p0) = S13
  have h := h S13 e14.symm
  have K15 : ∀ b, zs_K S13 b = zs_K S b := zs_Kt e14 (zs_Ksj _ _ _ _) K8
  exact (u_X9_holdDisc_54 hB h).weak trivial
def w_X9_holdDisc (X : zs_X) (d : Nat) (p0 : Nat) (p1 : Int32) (S : zs_T) (Q : zs_Q) : Prop :=
  (zs_K S p0 = some (.inl 8) ∧ ∃ b2, (zs_R S 8121 p0) = some b2 ∧ zs_A S b2 3 ((4 : Int32) * p1) ∧ ab_n0 X.1 ≤ b2 ∧ ∀ S6, S6 = zs_sj S b2 ((4 : Int32) * p1).toNatClampNeg (zs_J S 8081 p0) → ∃ b9, (zs_R S6 8121 p0) = some b9 ∧ zs_A S b9 3 (((4 : Int32) * p1) + (1 : Int32)) ∧ ab_n0 X.1 ≤ b9 ∧ ∀ S13, S13 = zs_sj S6 b9 (((4 : Int32) * p1) + (1 : Int32)).toNatClampNeg (zs_J S6 8082 p0) → w_X9_holdDisc_26 X d p0 p1 S13 Q)
theorem u_X9_holdDisc {σ : Nat → Nat} {n0 : Nat} {bf : ab_B} {d : Nat} {p0 : Nat} {p1 : Int32} {S : zs_T} {Q : zs_Q} (hB : zt_B bf) (hd : 1 ≤ d) (h : w_X9_holdDisc (zx σ n0 bf) (d - 1) p0 p1 S Q) : zs_C (zx σ n0 bf) d 8117 [.ref p0, .int p1] S Q := by
  have hL : lv_args 0 [.ref p0, .int p1] = [(0, .ref p0), (1, .int p1)] := rfl
  refine zs_C.of1 (hB.2 8117 (by decide) (by decide)) hd (by rw [hL]; exact zs_sub_self _ (by exact ⟨rfl, rfl, trivial⟩)) ?_
  rw [hL]
  clear hL
  unfold w_X9_holdDisc at h
  refine zu_aload_n d_8117_0 rfl (zs_ra _) ?_
  obtain ⟨k1, h⟩ := h
  refine zg_8_266 rfl d_8117_1 k1 ?_
  refine zu_iconst d_8117_4 zi_4 ?_
  refine zu_iload_n d_8117_5 rfl ?_
  refine zu_stk d_8117_6 rfl rfl ?_
  refine zu_aload_n d_8117_7 rfl (zs_ra _) ?_
  refine zg_8_610 rfl d_8117_8 k1 ?_
  obtain ⟨b2, e3, h⟩ := h
  refine zs_stk2 (zs_rfe e3) ?_
  obtain ⟨k4, h⟩ := h
  obtain ⟨k5, h⟩ := h
  refine zu_last (k := 3) d_8117_11 rfl rfl k5 k4 ?_
  generalize e7 : zs_sj S b2 ((4 : Int32) * p1).toNatClampNeg (zs_J S 8081 p0) = S6
  have h := h S6 e7.symm
  have K8 : ∀ b, zs_K S6 b = zs_K S b := zs_Kt e7 (zs_Ksj _ _ _ _) (fun _ => rfl)
  refine zu_aload_n d_8117_12 rfl (zs_ra _) ?_
  refine zg_8_266 rfl d_8117_13 ((K8 _).trans k1) ?_
  refine zu_iconst d_8117_16 zi_4 ?_
  refine zu_iload_n d_8117_17 rfl ?_
  refine zu_stk d_8117_18 rfl rfl ?_
  refine zu_iconst d_8117_19 zi_1 ?_
  refine zu_stk d_8117_20 rfl rfl ?_
  refine zu_aload_n d_8117_21 rfl (zs_ra _) ?_
  refine zg_8_614 rfl d_8117_22 ((K8 _).trans k1) ?_
  obtain ⟨b9, e10, h⟩ := h
  refine zs_stk2 (zs_rfe e10) ?_
  obtain ⟨k11, h⟩ := h
  obtain ⟨k12, h⟩ := h
  refine zu_last (k := 3) d_8117_25 rfl rfl k12 (zs_Ak K8 k11) ?_
  generalize e14 : zs_sj S6 b9 (((4 : Int32) * p1) + (1 : Int32)).toNatClampNeg (zs_J S6 8082 p0) = S13
  have h := h S13 e14.symm
  have K15 : ∀ b, zs_K S13 b = zs_K S b := zs_Kt e14 (zs_Ksj _ _ _ _) K8
  exact (u_X9_holdDisc_26 hB h).weak ⟨rfl, rfl, trivial⟩
/-! SchemaPascalModel.takeDisc(I)V -/
theorem zm_8118 {σ : Nat → Nat} {n0 : Nat} {bf : ab_B} : ab_code (zx σ n0 bf).1 8118 = prog_17_method_96_code := rfl
theorem zq_8118 {σ : Nat → Nat} {n0 : Nat} {bf : ab_B} : ab_maxL (zx σ n0 bf).1 8118 = 2 := rfl
theorem zr_8118 {σ : Nat → Nat} {n0 : Nat} {bf : ab_B} : ab_ret (zx σ n0 bf).1 8118 = (Option.none : Option Jvm.ClassFile.FieldType) := rfl
theorem d_8118_0 {σ : Nat → Nat} {n0 : Nat} {bf : ab_B} : decode (ab_code (zx σ n0 bf).1 8118) 0 = .ok (.aload_n 0, 1) := zd zm_8118 (by decide +kernel)
theorem d_8118_1 {σ : Nat → Nat} {n0 : Nat} {bf : ab_B} : decode (ab_code (zx σ n0 bf).1 8118) 1 = .ok (.aload_n 0, 1) := zd zm_8118 (by decide +kernel)
theorem d_8118_2 {σ : Nat → Nat} {n0 : Nat} {bf : ab_B} : decode (ab_code (zx σ n0 bf).1 8118) 2 = .ok (.getfield 266, 3) := zd zm_8118 (by decide +kernel)
theorem d_8118_5 {σ : Nat → Nat} {n0 : Nat} {bf : ab_B} : decode (ab_code (zx σ n0 bf).1 8118) 5 = .ok (.iconst 4, 1) := zd zm_8118 (by decide +kernel)
theorem d_8118_6 {σ : Nat → Nat} {n0 : Nat} {bf : ab_B} : decode (ab_code (zx σ n0 bf).1 8118) 6 = .ok (.iload_n 1, 1) := zd zm_8118 (by decide +kernel)
theorem d_8118_7 {σ : Nat → Nat} {n0 : Nat} {bf : ab_B} : decode (ab_code (zx σ n0 bf).1 8118) 7 = .ok (.imul, 1) := zd zm_8118 (by decide +kernel)
theorem d_8118_8 {σ : Nat → Nat} {n0 : Nat} {bf : ab_B} : decode (ab_code (zx σ n0 bf).1 8118) 8 = .ok (.laload, 1) := zd zm_8118 (by decide +kernel)
theorem d_8118_9 {σ : Nat → Nat} {n0 : Nat} {bf : ab_B} : decode (ab_code (zx σ n0 bf).1 8118) 9 = .ok (.putfield 610, 3) := zd zm_8118 (by decide +kernel)
theorem d_8118_12 {σ : Nat → Nat} {n0 : Nat} {bf : ab_B} : decode (ab_code (zx σ n0 bf).1 8118) 12 = .ok (.aload_n 0, 1) := zd zm_8118 (by decide +kernel)
theorem d_8118_13 {σ : Nat → Nat} {n0 : Nat} {bf : ab_B} : decode (ab_code (zx σ n0 bf).1 8118) 13 = .ok (.aload_n 0, 1) := zd zm_8118 (by decide +kernel)
theorem d_8118_14 {σ : Nat → Nat} {n0 : Nat} {bf : ab_B} : decode (ab_code (zx σ n0 bf).1 8118) 14 = .ok (.getfield 266, 3) := zd zm_8118 (by decide +kernel)
theorem d_8118_17 {σ : Nat → Nat} {n0 : Nat} {bf : ab_B} : decode (ab_code (zx σ n0 bf).1 8118) 17 = .ok (.iconst 4, 1) := zd zm_8118 (by decide +kernel)
theorem d_8118_18 {σ : Nat → Nat} {n0 : Nat} {bf : ab_B} : decode (ab_code (zx σ n0 bf).1 8118) 18 = .ok (.iload_n 1, 1) := zd zm_8118 (by decide +kernel)
theorem d_8118_19 {σ : Nat → Nat} {n0 : Nat} {bf : ab_B} : decode (ab_code (zx σ n0 bf).1 8118) 19 = .ok (.imul, 1) := zd zm_8118 (by decide +kernel)
theorem d_8118_20 {σ : Nat → Nat} {n0 : Nat} {bf : ab_B} : decode (ab_code (zx σ n0 bf).1 8118) 20 = .ok (.iconst 1, 1) := zd zm_8118 (by decide +kernel)
theorem d_8118_21 {σ : Nat → Nat} {n0 : Nat} {bf : ab_B} : decode (ab_code (zx σ n0 bf).1 8118) 21 = .ok (.iadd, 1) := zd zm_8118 (by decide +kernel)
theorem d_8118_22 {σ : Nat → Nat} {n0 : Nat} {bf : ab_B} : decode (ab_code (zx σ n0 bf).1 8118) 22 = .ok (.laload, 1) := zd zm_8118 (by decide +kernel)
theorem d_8118_23 {σ : Nat → Nat} {n0 : Nat} {bf : ab_B} : decode (ab_code (zx σ n0 bf).1 8118) 23 = .ok (.putfield 614, 3) := zd zm_8118 (by decide +kernel)
theorem d_8118_26 {σ : Nat → Nat} {n0 : Nat} {bf : ab_B} : decode (ab_code (zx σ n0 bf).1 8118) 26 = .ok (.aload_n 0, 1) := zd zm_8118 (by decide +kernel)
theorem d_8118_27 {σ : Nat → Nat} {n0 : Nat} {bf : ab_B} : decode (ab_code (zx σ n0 bf).1 8118) 27 = .ok (.aload_n 0, 1) := zd zm_8118 (by decide +kernel)
theorem d_8118_28 {σ : Nat → Nat} {n0 : Nat} {bf : ab_B} : decode (ab_code (zx σ n0 bf).1 8118) 28 = .ok (.getfield 266, 3) := zd zm_8118 (by decide +kernel)
theorem d_8118_31 {σ : Nat → Nat} {n0 : Nat} {bf : ab_B} : decode (ab_code (zx σ n0 bf).1 8118) 31 = .ok (.iconst 4, 1) := zd zm_8118 (by decide +kernel)
theorem d_8118_32 {σ : Nat → Nat} {n0 : Nat} {bf : ab_B} : decode (ab_code (zx σ n0 bf).1 8118) 32 = .ok (.iload_n 1, 1) := zd zm_8118 (by decide +kernel)
theorem d_8118_33 {σ : Nat → Nat} {n0 : Nat} {bf : ab_B} : decode (ab_code (zx σ n0 bf).1 8118) 33 = .ok (.imul, 1) := zd zm_8118 (by decide +kernel)
theorem d_8118_34 {σ : Nat → Nat} {n0 : Nat} {bf : ab_B} : decode (ab_code (zx σ n0 bf).1 8118) 34 = .ok (.iconst 2, 1) := zd zm_8118 (by decide +kernel)
theorem d_8118_35 {σ : Nat → Nat} {n0 : Nat} {bf : ab_B} : decode (ab_code (zx σ n0 bf).1 8118) 35 = .ok (.iadd, 1) := zd zm_8118 (by decide +kernel)
theorem d_8118_36 {σ : Nat → Nat} {n0 : Nat} {bf : ab_B} : decode (ab_code (zx σ n0 bf).1 8118) 36 = .ok (.laload, 1) := zd zm_8118 (by decide +kernel)
theorem d_8118_37 {σ : Nat → Nat} {n0 : Nat} {bf : ab_B} : decode (ab_code (zx σ n0 bf).1 8118) 37 = .ok (.putfield 617, 3) := zd zm_8118 (by decide +kernel)
theorem d_8118_40 {σ : Nat → Nat} {n0 : Nat} {bf : ab_B} : decode (ab_code (zx σ n0 bf).1 8118) 40 = .ok (.aload_n 0, 1) := zd zm_8118 (by decide +kernel)
theorem d_8118_41 {σ : Nat → Nat} {n0 : Nat} {bf : ab_B} : decode (ab_code (zx σ n0 bf).1 8118) 41 = .ok (.aload_n 0, 1) := zd zm_8118 (by decide +kernel)
theorem d_8118_42 {σ : Nat → Nat} {n0 : Nat} {bf : ab_B} : decode (ab_code (zx σ n0 bf).1 8118) 42 = .ok (.getfield 266, 3) := zd zm_8118 (by decide +kernel)
theorem d_8118_45 {σ : Nat → Nat} {n0 : Nat} {bf : ab_B} : decode (ab_code (zx σ n0 bf).1 8118) 45 = .ok (.iconst 4, 1) := zd zm_8118 (by decide +kernel)
theorem d_8118_46 {σ : Nat → Nat} {n0 : Nat} {bf : ab_B} : decode (ab_code (zx σ n0 bf).1 8118) 46 = .ok (.iload_n 1, 1) := zd zm_8118 (by decide +kernel)
theorem d_8118_47 {σ : Nat → Nat} {n0 : Nat} {bf : ab_B} : decode (ab_code (zx σ n0 bf).1 8118) 47 = .ok (.imul, 1) := zd zm_8118 (by decide +kernel)
theorem d_8118_48 {σ : Nat → Nat} {n0 : Nat} {bf : ab_B} : decode (ab_code (zx σ n0 bf).1 8118) 48 = .ok (.iconst 3, 1) := zd zm_8118 (by decide +kernel)
theorem d_8118_49 {σ : Nat → Nat} {n0 : Nat} {bf : ab_B} : decode (ab_code (zx σ n0 bf).1 8118) 49 = .ok (.iadd, 1) := zd zm_8118 (by decide +kernel)
theorem d_8118_50 {σ : Nat → Nat} {n0 : Nat} {bf : ab_B} : decode (ab_code (zx σ n0 bf).1 8118) 50 = .ok (.laload, 1) := zd zm_8118 (by decide +kernel)
theorem d_8118_51 {σ : Nat → Nat} {n0 : Nat} {bf : ab_B} : decode (ab_code (zx σ n0 bf).1 8118) 51 = .ok (.putfield 620, 3) := zd zm_8118 (by decide +kernel)
theorem d_8118_54 {σ : Nat → Nat} {n0 : Nat} {bf : ab_B} : decode (ab_code (zx σ n0 bf).1 8118) 54 = .ok (.return_, 1) := zd zm_8118 (by decide +kernel)
def w_X9_takeDisc_54 (X : zs_X) (d : Nat)  (S : zs_T) (Q : zs_Q) : Prop :=
  (Q (.returned none) S)
theorem u_X9_takeDisc_54 {σ : Nat → Nat} {n0 : Nat} {bf : ab_B} {d : Nat}  {S : zs_T} {Q : zs_Q} (hB : zt_B bf) (h : w_X9_takeDisc_54 (zx σ n0 bf) d  S Q) : zs_U (zx σ n0 bf) d 8118 54 [] [] S Q := by
  unfold w_X9_takeDisc_54 at h
  exact zu_vret d_8118_54 zr_8118 h
def w_X9_takeDisc_26 (X : zs_X) (d : Nat) (p0 : Nat) (p1 : Int32) (S : zs_T) (Q : zs_Q) : Prop :=
  (zs_K S p0 = some (.inl 8) ∧ ∃ b2, (zs_R S 8121 p0) = some b2 ∧ zs_A S b2 3 (((4 : Int32) * p1) + (2 : Int32)) ∧ ab_n0 X.1 ≤ p0 ∧ ∀ S6, S6 = zs_sJ S 8083 p0 (zs_j S b2 (((4 : Int32) * p1) + (2 : Int32)).toNatClampNeg) → ∃ b9, (zs_R S6 8121 p0) = some b9 ∧ zs_A S b9 3 (((4 : Int32) * p1) + (3 : Int32)) ∧ ∀ S12, S12 = zs_sJ S6 8084 p0 (zs_j S6 b9 (((4 : Int32) * p1) + (3 : Int32)).toNatClampNeg) → w_X9_takeDisc_54 X d  S12 Q)
theorem u_X9_takeDisc_26 {σ : Nat → Nat} {n0 : Nat} {bf : ab_B} {d : Nat} {p0 : Nat} {p1 : Int32} {S : zs_T} {Q : zs_Q} (hB : zt_B bf) (h : w_X9_takeDisc_26 (zx σ n0 bf) d p0 p1 S Q) : zs_U (zx σ n0 bf) d 8118 26 [(0, .ref p0), (1, .int p1)] [] S Q := by
  unfold w_X9_takeDisc_26 at h
  refine zu_aload_n d_8118_26 rfl (zs_ra _) ?_
  refine zu_aload_n d_8118_27 rfl (zs_ra _) ?_
  obtain ⟨k1, h⟩ := h
  refine zg_8_266 rfl d_8118_28 k1 ?_
  refine zu_iconst d_8118_31 zi_4 ?_
  refine zu_iload_n d_8118_32 rfl ?_
  refine zu_stk d_8118_33 rfl rfl ?_
  refine zu_iconst d_8118_34 zi_2 ?_
  refine zu_stk d_8118_35 rfl rfl ?_
  obtain ⟨b2, e3, h⟩ := h
  refine zs_stk1 (zs_rfe e3) ?_
  obtain ⟨k4, h⟩ := h
  refine zu_lald (k := 3) d_8118_36 rfl rfl k4 ?_
  obtain ⟨k5, h⟩ := h
  refine zp_8_617 (v := (zs_j S b2 (((4 : Int32) * p1) + (2 : Int32)).toNatClampNeg)) rfl d_8118_37 k1 k5 ?_
  generalize e7 : zs_sJ S 8083 p0 (zs_j S b2 (((4 : Int32) * p1) + (2 : Int32)).toNatClampNeg) = S6
  have h := h S6 e7.symm
  have K8 : ∀ b, zs_K S6 b = zs_K S b := zs_Kt e7 (zs_KsJ _ _ _ _) (fun _ => rfl)
  refine zu_aload_n d_8118_40 rfl (zs_ra _) ?_
  refine zu_aload_n d_8118_41 rfl (zs_ra _) ?_
  refine zg_8_266 rfl d_8118_42 ((K8 _).trans k1) ?_
  refine zu_iconst d_8118_45 zi_4 ?_
  refine zu_iload_n d_8118_46 rfl ?_
  refine zu_stk d_8118_47 rfl rfl ?_
  refine zu_iconst d_8118_48 zi_3 ?_
  refine zu_stk d_8118_49 rfl rfl ?_
  obtain ⟨b9, e10, h⟩ := h
  refine zs_stk1 (zs_rfe e10) ?_
  obtain ⟨k11, h⟩ := h
  refine zu_lald (k := 3) d_8118_50 rfl rfl (zs_Ak K8 k11) ?_
  refine zp_8_620 (v := (zs_j S6 b9 (((4 : Int32) * p1) + (3 : Int32)).toNatClampNeg)) rfl d_8118_51 ((K8 _).trans k1) k5 ?_
  generalize e13 : zs_sJ S6 8084 p0 (zs_j S6 b9 (((4 : Int32) * p1) + (3 : Int32)).toNatClampNeg) = S12
  have h := h S12 e13.symm
  have K14 : ∀ b, zs_K S12 b = zs_K S b := zs_Kt e13 (zs_KsJ _ _ _ _) K8
  exact (u_X9_takeDisc_54 hB h).weak trivial
def w_X9_takeDisc (X : zs_X) (d : Nat) (p0 : Nat) (p1 : Int32) (S : zs_T) (Q : zs_Q) : Prop :=
  (zs_K S p0 = some (.inl 8) ∧ ∃ b2, (zs_R S 8121 p0) = some b2 ∧ zs_A S b2 3 ((4 : Int32) * p1) ∧ ab_n0 X.1 ≤ p0 ∧ ∀ S6, S6 = zs_sJ S 8081 p0 (zs_j S b2 ((4 : Int32) * p1).toNatClampNeg) → ∃ b9, (zs_R S6 8121 p0) = some b9 ∧ zs_A S b9 3 (((4 : Int32) * p1) + (1 : Int32)) ∧ ∀ S12, S12 = zs_sJ S6 8082 p0 (zs_j S6 b9 (((4 : Int32) * p1) + (1 : Int32)).toNatClampNeg) → w_X9_takeDisc_26 X d p0 p1 S12 Q)
theorem u_X9_takeDisc {σ : Nat → Nat} {n0 : Nat} {bf : ab_B} {d : Nat} {p0 : Nat} {p1 : Int32} {S : zs_T} {Q : zs_Q} (hB : zt_B bf) (hd : 1 ≤ d) (h : w_X9_takeDisc (zx σ n0 bf) (d - 1) p0 p1 S Q) : zs_C (zx σ n0 bf) d 8118 [.ref p0, .int p1] S Q := by
  have hL : lv_args 0 [.ref p0, .int p1] = [(0, .ref p0), (1, .int p1)] := rfl
  refine zs_C.of1 (hB.2 8118 (by decide) (by decide)) hd (by rw [hL]; exact zs_sub_self _ (by exact ⟨rfl, rfl, trivial⟩)) ?_
  rw [hL]
  clear hL
  unfold w_X9_takeDisc at h
  refine zu_aload_n d_8118_0 rfl (zs_ra _) ?_
  refine zu_aload_n d_8118_1 rfl (zs_ra _) ?_
  obtain ⟨k1, h⟩ := h
  refine zg_8_266 rfl d_8118_2 k1 ?_
  refine zu_iconst d_8118_5 zi_4 ?_
  refine zu_iload_n d_8118_6 rfl ?_
  refine zu_stk d_8118_7 rfl rfl ?_
  obtain ⟨b2, e3, h⟩ := h
  refine zs_stk1 (zs_rfe e3) ?_
  obtain ⟨k4, h⟩ := h
  refine zu_lald (k := 3) d_8118_8 rfl rfl k4 ?_
  obtain ⟨k5, h⟩ := h
  refine zp_8_610 (v := (zs_j S b2 ((4 : Int32) * p1).toNatClampNeg)) rfl d_8118_9 k1 k5 ?_
  generalize e7 : zs_sJ S 8081 p0 (zs_j S b2 ((4 : Int32) * p1).toNatClampNeg) = S6
  have h := h S6 e7.symm
  have K8 : ∀ b, zs_K S6 b = zs_K S b := zs_Kt e7 (zs_KsJ _ _ _ _) (fun _ => rfl)
  refine zu_aload_n d_8118_12 rfl (zs_ra _) ?_
  refine zu_aload_n d_8118_13 rfl (zs_ra _) ?_
  refine zg_8_266 rfl d_8118_14 ((K8 _).trans k1) ?_
  refine zu_iconst d_8118_17 zi_4 ?_
  refine zu_iload_n d_8118_18 rfl ?_
  refine zu_stk d_8118_19 rfl rfl ?_
  refine zu_iconst d_8118_20 zi_1 ?_
  refine zu_stk d_8118_21 rfl rfl ?_
  obtain ⟨b9, e10, h⟩ := h
  refine zs_stk1 (zs_rfe e10) ?_
  obtain ⟨k11, h⟩ := h
  refine zu_lald (k := 3) d_8118_22 rfl rfl (zs_Ak K8 k11) ?_
  refine zp_8_614 (v := (zs_j S6 b9 (((4 : Int32) * p1) + (1 : Int32)).toNatClampNeg)) rfl d_8118_23 ((K8 _).trans k1) k5 ?_
  generalize e13 : zs_sJ S6 8082 p0 (zs_j S6 b9 (((4 : Int32) * p1) + (1 : Int32)).toNatClampNeg) = S12
  have h := h S12 e13.symm
  have K14 : ∀ b, zs_K S12 b = zs_K S b := zs_Kt e13 (zs_KsJ _ _ _ _) K8
  exact (u_X9_takeDisc_26 hB h).weak ⟨rfl, rfl, trivial⟩
/-! SchemaPascalModel.layField(II)V -/
theorem zm_8119 {σ : Nat → Nat} {n0 : Nat} {bf : ab_B} : ab_code (zx σ n0 bf).1 8119 = prog_17_method_103_code := rfl
theorem zq_8119 {σ : Nat → Nat} {n0 : Nat} {bf : ab_B} : ab_maxL (zx σ n0 bf).1 8119 = 6 := rfl
theorem zr_8119 {σ : Nat → Nat} {n0 : Nat} {bf : ab_B} : ab_ret (zx σ n0 bf).1 8119 = (Option.none : Option Jvm.ClassFile.FieldType) := rfl
theorem d_8119_0 {σ : Nat → Nat} {n0 : Nat} {bf : ab_B} : decode (ab_code (zx σ n0 bf).1 8119) 0 = .ok (.aload_n 0, 1) := zd zm_8119 (by decide +kernel)
theorem d_8119_1 {σ : Nat → Nat} {n0 : Nat} {bf : ab_B} : decode (ab_code (zx σ n0 bf).1 8119) 1 = .ok (.getfield 254, 3) := zd zm_8119 (by decide +kernel)
theorem d_8119_4 {σ : Nat → Nat} {n0 : Nat} {bf : ab_B} : decode (ab_code (zx σ n0 bf).1 8119) 4 = .ok (.iload_n 1, 1) := zd zm_8119 (by decide +kernel)
theorem d_8119_5 {σ : Nat → Nat} {n0 : Nat} {bf : ab_B} : decode (ab_code (zx σ n0 bf).1 8119) 5 = .ok (.iaload, 1) := zd zm_8119 (by decide +kernel)
theorem d_8119_6 {σ : Nat → Nat} {n0 : Nat} {bf : ab_B} : decode (ab_code (zx σ n0 bf).1 8119) 6 = .ok (.istore_n 3, 1) := zd zm_8119 (by decide +kernel)
theorem d_8119_7 {σ : Nat → Nat} {n0 : Nat} {bf : ab_B} : decode (ab_code (zx σ n0 bf).1 8119) 7 = .ok (.aload_n 0, 1) := zd zm_8119 (by decide +kernel)
theorem d_8119_8 {σ : Nat → Nat} {n0 : Nat} {bf : ab_B} : decode (ab_code (zx σ n0 bf).1 8119) 8 = .ok (.getfield 145, 3) := zd zm_8119 (by decide +kernel)
theorem d_8119_11 {σ : Nat → Nat} {n0 : Nat} {bf : ab_B} : decode (ab_code (zx σ n0 bf).1 8119) 11 = .ok (.iload_n 1, 1) := zd zm_8119 (by decide +kernel)
theorem d_8119_12 {σ : Nat → Nat} {n0 : Nat} {bf : ab_B} : decode (ab_code (zx σ n0 bf).1 8119) 12 = .ok (.iaload, 1) := zd zm_8119 (by decide +kernel)
theorem d_8119_13 {σ : Nat → Nat} {n0 : Nat} {bf : ab_B} : decode (ab_code (zx σ n0 bf).1 8119) 13 = .ok (.istore 4, 2) := zd zm_8119 (by decide +kernel)
theorem d_8119_15 {σ : Nat → Nat} {n0 : Nat} {bf : ab_B} : decode (ab_code (zx σ n0 bf).1 8119) 15 = .ok (.aload_n 0, 1) := zd zm_8119 (by decide +kernel)
theorem d_8119_16 {σ : Nat → Nat} {n0 : Nat} {bf : ab_B} : decode (ab_code (zx σ n0 bf).1 8119) 16 = .ok (.getfield 257, 3) := zd zm_8119 (by decide +kernel)
theorem d_8119_19 {σ : Nat → Nat} {n0 : Nat} {bf : ab_B} : decode (ab_code (zx σ n0 bf).1 8119) 19 = .ok (.iload_n 1, 1) := zd zm_8119 (by decide +kernel)
theorem d_8119_20 {σ : Nat → Nat} {n0 : Nat} {bf : ab_B} : decode (ab_code (zx σ n0 bf).1 8119) 20 = .ok (.iload_n 3, 1) := zd zm_8119 (by decide +kernel)
theorem d_8119_21 {σ : Nat → Nat} {n0 : Nat} {bf : ab_B} : decode (ab_code (zx σ n0 bf).1 8119) 21 = .ok (.ifCond .le 19, 3) := zd zm_8119 (by decide +kernel)
theorem d_8119_24 {σ : Nat → Nat} {n0 : Nat} {bf : ab_B} : decode (ab_code (zx σ n0 bf).1 8119) 24 = .ok (.aload_n 0, 1) := zd zm_8119 (by decide +kernel)
theorem d_8119_25 {σ : Nat → Nat} {n0 : Nat} {bf : ab_B} : decode (ab_code (zx σ n0 bf).1 8119) 25 = .ok (.getfield 257, 3) := zd zm_8119 (by decide +kernel)
theorem d_8119_28 {σ : Nat → Nat} {n0 : Nat} {bf : ab_B} : decode (ab_code (zx σ n0 bf).1 8119) 28 = .ok (.iload_n 3, 1) := zd zm_8119 (by decide +kernel)
theorem d_8119_29 {σ : Nat → Nat} {n0 : Nat} {bf : ab_B} : decode (ab_code (zx σ n0 bf).1 8119) 29 = .ok (.iaload, 1) := zd zm_8119 (by decide +kernel)
theorem d_8119_30 {σ : Nat → Nat} {n0 : Nat} {bf : ab_B} : decode (ab_code (zx σ n0 bf).1 8119) 30 = .ok (.aload_n 0, 1) := zd zm_8119 (by decide +kernel)
theorem d_8119_31 {σ : Nat → Nat} {n0 : Nat} {bf : ab_B} : decode (ab_code (zx σ n0 bf).1 8119) 31 = .ok (.getfield 260, 3) := zd zm_8119 (by decide +kernel)
theorem d_8119_34 {σ : Nat → Nat} {n0 : Nat} {bf : ab_B} : decode (ab_code (zx σ n0 bf).1 8119) 34 = .ok (.iload_n 3, 1) := zd zm_8119 (by decide +kernel)
theorem d_8119_35 {σ : Nat → Nat} {n0 : Nat} {bf : ab_B} : decode (ab_code (zx σ n0 bf).1 8119) 35 = .ok (.iaload, 1) := zd zm_8119 (by decide +kernel)
theorem d_8119_36 {σ : Nat → Nat} {n0 : Nat} {bf : ab_B} : decode (ab_code (zx σ n0 bf).1 8119) 36 = .ok (.iadd, 1) := zd zm_8119 (by decide +kernel)
theorem d_8119_37 {σ : Nat → Nat} {n0 : Nat} {bf : ab_B} : decode (ab_code (zx σ n0 bf).1 8119) 37 = .ok (.goto 26, 3) := zd zm_8119 (by decide +kernel)
theorem d_8119_40 {σ : Nat → Nat} {n0 : Nat} {bf : ab_B} : decode (ab_code (zx σ n0 bf).1 8119) 40 = .ok (.iload 4, 2) := zd zm_8119 (by decide +kernel)
theorem d_8119_42 {σ : Nat → Nat} {n0 : Nat} {bf : ab_B} : decode (ab_code (zx σ n0 bf).1 8119) 42 = .ok (.ifCond .le 20, 3) := zd zm_8119 (by decide +kernel)
theorem d_8119_45 {σ : Nat → Nat} {n0 : Nat} {bf : ab_B} : decode (ab_code (zx σ n0 bf).1 8119) 45 = .ok (.aload_n 0, 1) := zd zm_8119 (by decide +kernel)
theorem d_8119_46 {σ : Nat → Nat} {n0 : Nat} {bf : ab_B} : decode (ab_code (zx σ n0 bf).1 8119) 46 = .ok (.getfield 257, 3) := zd zm_8119 (by decide +kernel)
theorem d_8119_49 {σ : Nat → Nat} {n0 : Nat} {bf : ab_B} : decode (ab_code (zx σ n0 bf).1 8119) 49 = .ok (.aload_n 0, 1) := zd zm_8119 (by decide +kernel)
theorem d_8119_50 {σ : Nat → Nat} {n0 : Nat} {bf : ab_B} : decode (ab_code (zx σ n0 bf).1 8119) 50 = .ok (.getfield 154, 3) := zd zm_8119 (by decide +kernel)
theorem d_8119_53 {σ : Nat → Nat} {n0 : Nat} {bf : ab_B} : decode (ab_code (zx σ n0 bf).1 8119) 53 = .ok (.iload 4, 2) := zd zm_8119 (by decide +kernel)
theorem d_8119_55 {σ : Nat → Nat} {n0 : Nat} {bf : ab_B} : decode (ab_code (zx σ n0 bf).1 8119) 55 = .ok (.iaload, 1) := zd zm_8119 (by decide +kernel)
theorem d_8119_56 {σ : Nat → Nat} {n0 : Nat} {bf : ab_B} : decode (ab_code (zx σ n0 bf).1 8119) 56 = .ok (.iaload, 1) := zd zm_8119 (by decide +kernel)
theorem d_8119_57 {σ : Nat → Nat} {n0 : Nat} {bf : ab_B} : decode (ab_code (zx σ n0 bf).1 8119) 57 = .ok (.iconst 1, 1) := zd zm_8119 (by decide +kernel)
theorem d_8119_58 {σ : Nat → Nat} {n0 : Nat} {bf : ab_B} : decode (ab_code (zx σ n0 bf).1 8119) 58 = .ok (.iadd, 1) := zd zm_8119 (by decide +kernel)
theorem d_8119_59 {σ : Nat → Nat} {n0 : Nat} {bf : ab_B} : decode (ab_code (zx σ n0 bf).1 8119) 59 = .ok (.goto 4, 3) := zd zm_8119 (by decide +kernel)
theorem d_8119_62 {σ : Nat → Nat} {n0 : Nat} {bf : ab_B} : decode (ab_code (zx σ n0 bf).1 8119) 62 = .ok (.iconst 0, 1) := zd zm_8119 (by decide +kernel)
theorem d_8119_63 {σ : Nat → Nat} {n0 : Nat} {bf : ab_B} : decode (ab_code (zx σ n0 bf).1 8119) 63 = .ok (.iastore, 1) := zd zm_8119 (by decide +kernel)
theorem d_8119_64 {σ : Nat → Nat} {n0 : Nat} {bf : ab_B} : decode (ab_code (zx σ n0 bf).1 8119) 64 = .ok (.aload_n 0, 1) := zd zm_8119 (by decide +kernel)
theorem d_8119_65 {σ : Nat → Nat} {n0 : Nat} {bf : ab_B} : decode (ab_code (zx σ n0 bf).1 8119) 65 = .ok (.getfield 260, 3) := zd zm_8119 (by decide +kernel)
theorem d_8119_68 {σ : Nat → Nat} {n0 : Nat} {bf : ab_B} : decode (ab_code (zx σ n0 bf).1 8119) 68 = .ok (.iload_n 1, 1) := zd zm_8119 (by decide +kernel)
theorem d_8119_69 {σ : Nat → Nat} {n0 : Nat} {bf : ab_B} : decode (ab_code (zx σ n0 bf).1 8119) 69 = .ok (.iload_n 2, 1) := zd zm_8119 (by decide +kernel)
theorem d_8119_70 {σ : Nat → Nat} {n0 : Nat} {bf : ab_B} : decode (ab_code (zx σ n0 bf).1 8119) 70 = .ok (.iastore, 1) := zd zm_8119 (by decide +kernel)
theorem d_8119_71 {σ : Nat → Nat} {n0 : Nat} {bf : ab_B} : decode (ab_code (zx σ n0 bf).1 8119) 71 = .ok (.aload_n 0, 1) := zd zm_8119 (by decide +kernel)
theorem d_8119_72 {σ : Nat → Nat} {n0 : Nat} {bf : ab_B} : decode (ab_code (zx σ n0 bf).1 8119) 72 = .ok (.getfield 802, 3) := zd zm_8119 (by decide +kernel)
theorem d_8119_75 {σ : Nat → Nat} {n0 : Nat} {bf : ab_B} : decode (ab_code (zx σ n0 bf).1 8119) 75 = .ok (.iconst 1, 1) := zd zm_8119 (by decide +kernel)
theorem d_8119_76 {σ : Nat → Nat} {n0 : Nat} {bf : ab_B} : decode (ab_code (zx σ n0 bf).1 8119) 76 = .ok (.isub, 1) := zd zm_8119 (by decide +kernel)
theorem d_8119_77 {σ : Nat → Nat} {n0 : Nat} {bf : ab_B} : decode (ab_code (zx σ n0 bf).1 8119) 77 = .ok (.istore 5, 2) := zd zm_8119 (by decide +kernel)
theorem d_8119_79 {σ : Nat → Nat} {n0 : Nat} {bf : ab_B} : decode (ab_code (zx σ n0 bf).1 8119) 79 = .ok (.aload_n 0, 1) := zd zm_8119 (by decide +kernel)
theorem d_8119_80 {σ : Nat → Nat} {n0 : Nat} {bf : ab_B} : decode (ab_code (zx σ n0 bf).1 8119) 80 = .ok (.getfield 272, 3) := zd zm_8119 (by decide +kernel)
theorem d_8119_83 {σ : Nat → Nat} {n0 : Nat} {bf : ab_B} : decode (ab_code (zx σ n0 bf).1 8119) 83 = .ok (.iload 5, 2) := zd zm_8119 (by decide +kernel)
theorem d_8119_85 {σ : Nat → Nat} {n0 : Nat} {bf : ab_B} : decode (ab_code (zx σ n0 bf).1 8119) 85 = .ok (.aload_n 0, 1) := zd zm_8119 (by decide +kernel)
theorem d_8119_86 {σ : Nat → Nat} {n0 : Nat} {bf : ab_B} : decode (ab_code (zx σ n0 bf).1 8119) 86 = .ok (.getfield 257, 3) := zd zm_8119 (by decide +kernel)
theorem d_8119_89 {σ : Nat → Nat} {n0 : Nat} {bf : ab_B} : decode (ab_code (zx σ n0 bf).1 8119) 89 = .ok (.iload_n 1, 1) := zd zm_8119 (by decide +kernel)
theorem d_8119_90 {σ : Nat → Nat} {n0 : Nat} {bf : ab_B} : decode (ab_code (zx σ n0 bf).1 8119) 90 = .ok (.iaload, 1) := zd zm_8119 (by decide +kernel)
theorem d_8119_91 {σ : Nat → Nat} {n0 : Nat} {bf : ab_B} : decode (ab_code (zx σ n0 bf).1 8119) 91 = .ok (.iload_n 2, 1) := zd zm_8119 (by decide +kernel)
theorem d_8119_92 {σ : Nat → Nat} {n0 : Nat} {bf : ab_B} : decode (ab_code (zx σ n0 bf).1 8119) 92 = .ok (.iadd, 1) := zd zm_8119 (by decide +kernel)
theorem d_8119_93 {σ : Nat → Nat} {n0 : Nat} {bf : ab_B} : decode (ab_code (zx σ n0 bf).1 8119) 93 = .ok (.aload_n 0, 1) := zd zm_8119 (by decide +kernel)
theorem d_8119_94 {σ : Nat → Nat} {n0 : Nat} {bf : ab_B} : decode (ab_code (zx σ n0 bf).1 8119) 94 = .ok (.getfield 272, 3) := zd zm_8119 (by decide +kernel)
theorem d_8119_97 {σ : Nat → Nat} {n0 : Nat} {bf : ab_B} : decode (ab_code (zx σ n0 bf).1 8119) 97 = .ok (.iload 5, 2) := zd zm_8119 (by decide +kernel)
theorem d_8119_99 {σ : Nat → Nat} {n0 : Nat} {bf : ab_B} : decode (ab_code (zx σ n0 bf).1 8119) 99 = .ok (.iaload, 1) := zd zm_8119 (by decide +kernel)
theorem d_8119_100 {σ : Nat → Nat} {n0 : Nat} {bf : ab_B} : decode (ab_code (zx σ n0 bf).1 8119) 100 = .ok (.if_icmp .le 14, 3) := zd zm_8119 (by decide +kernel)
theorem d_8119_103 {σ : Nat → Nat} {n0 : Nat} {bf : ab_B} : decode (ab_code (zx σ n0 bf).1 8119) 103 = .ok (.aload_n 0, 1) := zd zm_8119 (by decide +kernel)
theorem d_8119_104 {σ : Nat → Nat} {n0 : Nat} {bf : ab_B} : decode (ab_code (zx σ n0 bf).1 8119) 104 = .ok (.getfield 257, 3) := zd zm_8119 (by decide +kernel)
theorem d_8119_107 {σ : Nat → Nat} {n0 : Nat} {bf : ab_B} : decode (ab_code (zx σ n0 bf).1 8119) 107 = .ok (.iload_n 1, 1) := zd zm_8119 (by decide +kernel)
theorem d_8119_108 {σ : Nat → Nat} {n0 : Nat} {bf : ab_B} : decode (ab_code (zx σ n0 bf).1 8119) 108 = .ok (.iaload, 1) := zd zm_8119 (by decide +kernel)
theorem d_8119_109 {σ : Nat → Nat} {n0 : Nat} {bf : ab_B} : decode (ab_code (zx σ n0 bf).1 8119) 109 = .ok (.iload_n 2, 1) := zd zm_8119 (by decide +kernel)
theorem d_8119_110 {σ : Nat → Nat} {n0 : Nat} {bf : ab_B} : decode (ab_code (zx σ n0 bf).1 8119) 110 = .ok (.iadd, 1) := zd zm_8119 (by decide +kernel)
theorem d_8119_111 {σ : Nat → Nat} {n0 : Nat} {bf : ab_B} : decode (ab_code (zx σ n0 bf).1 8119) 111 = .ok (.goto 10, 3) := zd zm_8119 (by decide +kernel)
theorem d_8119_114 {σ : Nat → Nat} {n0 : Nat} {bf : ab_B} : decode (ab_code (zx σ n0 bf).1 8119) 114 = .ok (.aload_n 0, 1) := zd zm_8119 (by decide +kernel)
theorem d_8119_115 {σ : Nat → Nat} {n0 : Nat} {bf : ab_B} : decode (ab_code (zx σ n0 bf).1 8119) 115 = .ok (.getfield 272, 3) := zd zm_8119 (by decide +kernel)
theorem d_8119_118 {σ : Nat → Nat} {n0 : Nat} {bf : ab_B} : decode (ab_code (zx σ n0 bf).1 8119) 118 = .ok (.iload 5, 2) := zd zm_8119 (by decide +kernel)
theorem d_8119_120 {σ : Nat → Nat} {n0 : Nat} {bf : ab_B} : decode (ab_code (zx σ n0 bf).1 8119) 120 = .ok (.iaload, 1) := zd zm_8119 (by decide +kernel)
theorem d_8119_121 {σ : Nat → Nat} {n0 : Nat} {bf : ab_B} : decode (ab_code (zx σ n0 bf).1 8119) 121 = .ok (.iastore, 1) := zd zm_8119 (by decide +kernel)
theorem d_8119_122 {σ : Nat → Nat} {n0 : Nat} {bf : ab_B} : decode (ab_code (zx σ n0 bf).1 8119) 122 = .ok (.return_, 1) := zd zm_8119 (by decide +kernel)
def w_X9_layField_122 (X : zs_X) (d : Nat)  (S : zs_T) (Q : zs_Q) : Prop :=
  (Q (.returned none) S)
theorem u_X9_layField_122 {σ : Nat → Nat} {n0 : Nat} {bf : ab_B} {d : Nat}  {S : zs_T} {Q : zs_Q} (hB : zt_B bf) (h : w_X9_layField_122 (zx σ n0 bf) d  S Q) : zs_U (zx σ n0 bf) d 8119 122 [] [] S Q := by
  unfold w_X9_layField_122 at h
  exact zu_vret d_8119_122 zr_8119 h
def w_X9_layField_63 (X : zs_X) (d : Nat) (p0 : Nat) (p1 : Int32) (p2 : Int32) (q0 : Option Nat) (q1 : Int32) (q2 : Int32) (S : zs_T) (Q : zs_Q) : Prop :=
  (∃ b1, q0 = some b1 ∧ zs_A S b1 0 q1 ∧ ab_n0 X.1 ≤ b1 ∧ ∀ S5, S5 = zs_si S b1 q1.toNatClampNeg q2 → zs_K S p0 = some (.inl 8) ∧ ∃ b9, (zs_R S5 8119 p0) = some b9 ∧ zs_A S b9 0 p1 ∧ ab_n0 X.1 ≤ b9 ∧ ∀ S13, S13 = zs_si S5 b9 p1.toNatClampNeg p2 → ∃ b16, (zs_R S13 8118 p0) = some b16 ∧ zs_A S b16 0 p1 ∧ ∃ b19, (zs_R S13 8123 p0) = some b19 ∧ zs_A S b19 0 ((zs_I S13 8124 p0) - (1 : Int32)) ∧ ((((zs_i S13 b16 p1.toNatClampNeg) + p2) ≤ (zs_i S13 b19 ((zs_I S13 8124 p0) - (1 : Int32)).toNatClampNeg) → (ab_n0 X.1 ≤ b19 ∧ ∀ S24, S24 = zs_si S13 b19 ((zs_I S13 8124 p0) - (1 : Int32)).toNatClampNeg (zs_i S13 b19 ((zs_I S13 8124 p0) - (1 : Int32)).toNatClampNeg) → w_X9_layField_122 X d  S24 Q)) ∧ (¬ (((zs_i S13 b16 p1.toNatClampNeg) + p2) ≤ (zs_i S13 b19 ((zs_I S13 8124 p0) - (1 : Int32)).toNatClampNeg)) → (ab_n0 X.1 ≤ b19 ∧ ∀ S28, S28 = zs_si S13 b19 ((zs_I S13 8124 p0) - (1 : Int32)).toNatClampNeg ((zs_i S13 b16 p1.toNatClampNeg) + p2) → w_X9_layField_122 X d  S28 Q))))
theorem u_X9_layField_63 {σ : Nat → Nat} {n0 : Nat} {bf : ab_B} {d : Nat} {p0 : Nat} {p1 : Int32} {p2 : Int32} {q0 : Option Nat} {q1 : Int32} {q2 : Int32} {S : zs_T} {Q : zs_Q} (hB : zt_B bf) (h : w_X9_layField_63 (zx σ n0 bf) d p0 p1 p2 q0 q1 q2 S Q) : zs_U (zx σ n0 bf) d 8119 63 [(0, .ref p0), (1, .int p1), (2, .int p2)] [.int q2, .int q1, va_rf q0] S Q := by
  unfold w_X9_layField_63 at h
  obtain ⟨b1, e2, h⟩ := h
  refine zs_stk2 (zs_rfe e2) ?_
  obtain ⟨k3, h⟩ := h
  obtain ⟨k4, h⟩ := h
  refine zu_iast (k := 0) d_8119_63 rfl rfl k4 k3 ?_
  generalize e6 : zs_si S b1 q1.toNatClampNeg q2 = S5
  have h := h S5 e6.symm
  have K7 : ∀ b, zs_K S5 b = zs_K S b := zs_Kt e6 (zs_Ksi _ _ _ _) (fun _ => rfl)
  refine zu_aload_n d_8119_64 rfl (zs_ra _) ?_
  obtain ⟨k8, h⟩ := h
  refine zg_8_260 rfl d_8119_65 ((K7 _).trans k8) ?_
  refine zu_iload_n d_8119_68 rfl ?_
  refine zu_iload_n d_8119_69 rfl ?_
  obtain ⟨b9, e10, h⟩ := h
  refine zs_stk2 (zs_rfe e10) ?_
  obtain ⟨k11, h⟩ := h
  obtain ⟨k12, h⟩ := h
  refine zu_iast (k := 0) d_8119_70 rfl rfl k12 (zs_Ak K7 k11) ?_
  generalize e14 : zs_si S5 b9 p1.toNatClampNeg p2 = S13
  have h := h S13 e14.symm
  have K15 : ∀ b, zs_K S13 b = zs_K S b := zs_Kt e14 (zs_Ksi _ _ _ _) K7
  refine zu_aload_n d_8119_71 rfl (zs_ra _) ?_
  refine zg_8_802 rfl d_8119_72 ((K15 _).trans k8) ?_
  refine zu_iconst d_8119_75 zi_1 ?_
  refine zu_stk d_8119_76 rfl rfl ?_
  refine zu_istore d_8119_77 (zs_lt zq_8119 rfl) ?_
  refine zu_aload_n d_8119_79 rfl (zs_ra _) ?_
  refine zg_8_272 rfl d_8119_80 ((K15 _).trans k8) ?_
  refine zu_iload d_8119_83 rfl ?_
  refine zu_aload_n d_8119_85 rfl (zs_ra _) ?_
  refine zg_8_257 rfl d_8119_86 ((K15 _).trans k8) ?_
  refine zu_iload_n d_8119_89 rfl ?_
  obtain ⟨b16, e17, h⟩ := h
  refine zs_stk1 (zs_rfe e17) ?_
  obtain ⟨k18, h⟩ := h
  refine zu_iald (k := 0) d_8119_90 rfl rfl (zs_Ak K15 k18) ?_
  refine zu_iload_n d_8119_91 rfl ?_
  refine zu_stk d_8119_92 rfl rfl ?_
  refine zu_aload_n d_8119_93 rfl (zs_ra _) ?_
  refine zg_8_272 rfl d_8119_94 ((K15 _).trans k8) ?_
  refine zu_iload d_8119_97 rfl ?_
  obtain ⟨b19, e20, h⟩ := h
  refine zs_stk1 (zs_rfe e20) ?_
  obtain ⟨k21, h⟩ := h
  refine zu_iald (k := 0) d_8119_99 rfl rfl (zs_Ak K15 k21) ?_
  refine zu_cmple (t := 114) d_8119_100 rfl (fun c22 => ?_) (fun c22 => ?_)
  · have h := h.1 c22
    refine zu_aload_n d_8119_114 rfl (zs_ra _) ?_
    refine zg_8_272 rfl d_8119_115 ((K15 _).trans k8) ?_
    refine zu_iload d_8119_118 rfl ?_
    refine zs_stk1 (zs_rfe e20) ?_
    refine zu_iald (k := 0) d_8119_120 rfl rfl (zs_Ak K15 k21) ?_
    refine zs_stk2 (zs_rfe e20) ?_
    obtain ⟨k23, h⟩ := h
    refine zu_iast (k := 0) d_8119_121 rfl rfl k23 (zs_Ak K15 k21) ?_
    generalize e25 : zs_si S13 b19 ((zs_I S13 8124 p0) - (1 : Int32)).toNatClampNeg (zs_i S13 b19 ((zs_I S13 8124 p0) - (1 : Int32)).toNatClampNeg) = S24
    have h := h S24 e25.symm
    have K26 : ∀ b, zs_K S24 b = zs_K S b := zs_Kt e25 (zs_Ksi _ _ _ _) K15
    exact (u_X9_layField_122 hB h).weak trivial
  · have h := h.2 c22
    refine zu_aload_n d_8119_103 rfl (zs_ra _) ?_
    refine zg_8_257 rfl d_8119_104 ((K15 _).trans k8) ?_
    refine zu_iload_n d_8119_107 rfl ?_
    refine zs_stk1 (zs_rfe e17) ?_
    refine zu_iald (k := 0) d_8119_108 rfl rfl (zs_Ak K15 k18) ?_
    refine zu_iload_n d_8119_109 rfl ?_
    refine zu_stk d_8119_110 rfl rfl ?_
    refine zu_goto (t := 121) d_8119_111 rfl ?_
    refine zs_stk2 (zs_rfe e20) ?_
    obtain ⟨k27, h⟩ := h
    refine zu_iast (k := 0) d_8119_121 rfl rfl k27 (zs_Ak K15 k21) ?_
    generalize e29 : zs_si S13 b19 ((zs_I S13 8124 p0) - (1 : Int32)).toNatClampNeg ((zs_i S13 b16 p1.toNatClampNeg) + p2) = S28
    have h := h S28 e29.symm
    have K30 : ∀ b, zs_K S28 b = zs_K S b := zs_Kt e29 (zs_Ksi _ _ _ _) K15
    exact (u_X9_layField_122 hB h).weak trivial
def w_X9_layField (X : zs_X) (d : Nat) (p0 : Nat) (p1 : Int32) (p2 : Int32) (S : zs_T) (Q : zs_Q) : Prop :=
  (zs_K S p0 = some (.inl 8) ∧ ∃ b2, (zs_R S 8117 p0) = some b2 ∧ zs_A S b2 0 p1 ∧ ∃ b5, (zs_R S 8066 p0) = some b5 ∧ zs_A S b5 0 p1 ∧ (((zs_i S b2 p1.toNatClampNeg) ≤ 0 → ((((zs_i S b5 p1.toNatClampNeg) ≤ 0 → (w_X9_layField_63 X d p0 p1 p2 (zs_R S 8118 p0) p1 (0 : Int32) S Q)) ∧ (¬ ((zs_i S b5 p1.toNatClampNeg) ≤ 0) → (∃ b10, (zs_R S 8070 p0) = some b10 ∧ zs_A S b10 0 (zs_i S b5 p1.toNatClampNeg) ∧ ∃ b13, (zs_R S 8118 p0) = some b13 ∧ zs_A S b13 0 (zs_i S b10 (zs_i S b5 p1.toNatClampNeg).toNatClampNeg) ∧ w_X9_layField_63 X d p0 p1 p2 (zs_R S 8118 p0) p1 ((zs_i S b13 (zs_i S b10 (zs_i S b5 p1.toNatClampNeg).toNatClampNeg).toNatClampNeg) + (1 : Int32)) S Q))))) ∧ (¬ ((zs_i S b2 p1.toNatClampNeg) ≤ 0) → (∃ b16, (zs_R S 8118 p0) = some b16 ∧ zs_A S b16 0 (zs_i S b2 p1.toNatClampNeg) ∧ ∃ b19, (zs_R S 8119 p0) = some b19 ∧ zs_A S b19 0 (zs_i S b2 p1.toNatClampNeg) ∧ w_X9_layField_63 X d p0 p1 p2 (zs_R S 8118 p0) p1 ((zs_i S b16 (zs_i S b2 p1.toNatClampNeg).toNatClampNeg) + (zs_i S b19 (zs_i S b2 p1.toNatClampNeg).toNatClampNeg)) S Q))))
theorem u_X9_layField {σ : Nat → Nat} {n0 : Nat} {bf : ab_B} {d : Nat} {p0 : Nat} {p1 : Int32} {p2 : Int32} {S : zs_T} {Q : zs_Q} (hB : zt_B bf) (hd : 1 ≤ d) (h : w_X9_layField (zx σ n0 bf) (d - 1) p0 p1 p2 S Q) : zs_C (zx σ n0 bf) d 8119 [.ref p0, .int p1, .int p2] S Q := by
  have hL : lv_args 0 [.ref p0, .int p1, .int p2] = [(0, .ref p0), (1, .int p1), (2, .int p2)] := rfl
  refine zs_C.of1 (hB.2 8119 (by decide) (by decide)) hd (by rw [hL]; exact zs_sub_self _ (by exact ⟨rfl, rfl, rfl, trivial⟩)) ?_
  rw [hL]
  clear hL
  unfold w_X9_layField at h
  refine zu_aload_n d_8119_0 rfl (zs_ra _) ?_
  obtain ⟨k1, h⟩ := h
  refine zg_8_254 rfl d_8119_1 k1 ?_
  refine zu_iload_n d_8119_4 rfl ?_
  obtain ⟨b2, e3, h⟩ := h
  refine zs_stk1 (zs_rfe e3) ?_
  obtain ⟨k4, h⟩ := h
  refine zu_iald (k := 0) d_8119_5 rfl rfl k4 ?_
  refine zu_istore_n d_8119_6 (zs_lt zq_8119 rfl) ?_
  refine zu_aload_n d_8119_7 rfl (zs_ra _) ?_
  refine zg_8_145 rfl d_8119_8 k1 ?_
  refine zu_iload_n d_8119_11 rfl ?_
  obtain ⟨b5, e6, h⟩ := h
  refine zs_stk1 (zs_rfe e6) ?_
  obtain ⟨k7, h⟩ := h
  refine zu_iald (k := 0) d_8119_12 rfl rfl k7 ?_
  refine zu_istore d_8119_13 (zs_lt zq_8119 rfl) ?_
  refine zu_aload_n d_8119_15 rfl (zs_ra _) ?_
  refine zg_8_257 rfl d_8119_16 k1 ?_
  refine zu_iload_n d_8119_19 rfl ?_
  refine zu_iload_n d_8119_20 rfl ?_
  refine zu_ifle (t := 40) d_8119_21 rfl (fun c8 => ?_) (fun c8 => ?_)
  · have h := h.1 c8
    refine zu_iload d_8119_40 rfl ?_
    refine zu_ifle (t := 62) d_8119_42 rfl (fun c9 => ?_) (fun c9 => ?_)
    · have h := h.1 c9
      refine zu_iconst d_8119_62 zi_0 ?_
      exact (u_X9_layField_63 hB h).weak ⟨rfl, rfl, rfl, trivial⟩
    · have h := h.2 c9
      refine zu_aload_n d_8119_45 rfl (zs_ra _) ?_
      refine zg_8_257 rfl d_8119_46 k1 ?_
      refine zu_aload_n d_8119_49 rfl (zs_ra _) ?_
      refine zg_8_154 rfl d_8119_50 k1 ?_
      refine zu_iload d_8119_53 rfl ?_
      obtain ⟨b10, e11, h⟩ := h
      refine zs_stk1 (zs_rfe e11) ?_
      obtain ⟨k12, h⟩ := h
      refine zu_iald (k := 0) d_8119_55 rfl rfl k12 ?_
      obtain ⟨b13, e14, h⟩ := h
      refine zs_stk1 (zs_rfe e14) ?_
      obtain ⟨k15, h⟩ := h
      refine zu_iald (k := 0) d_8119_56 rfl rfl k15 ?_
      refine zu_iconst d_8119_57 zi_1 ?_
      refine zu_stk d_8119_58 rfl rfl ?_
      refine zu_goto (t := 63) d_8119_59 rfl ?_
      exact (u_X9_layField_63 hB h).weak ⟨rfl, rfl, rfl, trivial⟩
  · have h := h.2 c8
    refine zu_aload_n d_8119_24 rfl (zs_ra _) ?_
    refine zg_8_257 rfl d_8119_25 k1 ?_
    refine zu_iload_n d_8119_28 rfl ?_
    obtain ⟨b16, e17, h⟩ := h
    refine zs_stk1 (zs_rfe e17) ?_
    obtain ⟨k18, h⟩ := h
    refine zu_iald (k := 0) d_8119_29 rfl rfl k18 ?_
    refine zu_aload_n d_8119_30 rfl (zs_ra _) ?_
    refine zg_8_260 rfl d_8119_31 k1 ?_
    refine zu_iload_n d_8119_34 rfl ?_
    obtain ⟨b19, e20, h⟩ := h
    refine zs_stk1 (zs_rfe e20) ?_
    obtain ⟨k21, h⟩ := h
    refine zu_iald (k := 0) d_8119_35 rfl rfl k21 ?_
    refine zu_stk d_8119_36 rfl rfl ?_
    refine zu_goto (t := 63) d_8119_37 rfl ?_
    exact (u_X9_layField_63 hB h).weak ⟨rfl, rfl, rfl, trivial⟩
/-! SchemaPascalModel.below(I)I -/
theorem zm_8120 {σ : Nat → Nat} {n0 : Nat} {bf : ab_B} : ab_code (zx σ n0 bf).1 8120 = prog_17_method_105_code := rfl
theorem zq_8120 {σ : Nat → Nat} {n0 : Nat} {bf : ab_B} : ab_maxL (zx σ n0 bf).1 8120 = 2 := rfl
theorem zr_8120 {σ : Nat → Nat} {n0 : Nat} {bf : ab_B} : ab_ret (zx σ n0 bf).1 8120 = (Option.some Jvm.ClassFile.FieldType.int) := rfl
theorem d_8120_0 {σ : Nat → Nat} {n0 : Nat} {bf : ab_B} : decode (ab_code (zx σ n0 bf).1 8120) 0 = .ok (.aload_n 0, 1) := zd zm_8120 (by decide +kernel)
theorem d_8120_1 {σ : Nat → Nat} {n0 : Nat} {bf : ab_B} : decode (ab_code (zx σ n0 bf).1 8120) 1 = .ok (.getfield 105, 3) := zd zm_8120 (by decide +kernel)
theorem d_8120_4 {σ : Nat → Nat} {n0 : Nat} {bf : ab_B} : decode (ab_code (zx σ n0 bf).1 8120) 4 = .ok (.iload_n 1, 1) := zd zm_8120 (by decide +kernel)
theorem d_8120_5 {σ : Nat → Nat} {n0 : Nat} {bf : ab_B} : decode (ab_code (zx σ n0 bf).1 8120) 5 = .ok (.baload, 1) := zd zm_8120 (by decide +kernel)
theorem d_8120_6 {σ : Nat → Nat} {n0 : Nat} {bf : ab_B} : decode (ab_code (zx σ n0 bf).1 8120) 6 = .ok (.ifCond .ne 42, 3) := zd zm_8120 (by decide +kernel)
theorem d_8120_9 {σ : Nat → Nat} {n0 : Nat} {bf : ab_B} : decode (ab_code (zx σ n0 bf).1 8120) 9 = .ok (.aload_n 0, 1) := zd zm_8120 (by decide +kernel)
theorem d_8120_10 {σ : Nat → Nat} {n0 : Nat} {bf : ab_B} : decode (ab_code (zx σ n0 bf).1 8120) 10 = .ok (.getfield 90, 3) := zd zm_8120 (by decide +kernel)
theorem d_8120_13 {σ : Nat → Nat} {n0 : Nat} {bf : ab_B} : decode (ab_code (zx σ n0 bf).1 8120) 13 = .ok (.iload_n 1, 1) := zd zm_8120 (by decide +kernel)
theorem d_8120_14 {σ : Nat → Nat} {n0 : Nat} {bf : ab_B} : decode (ab_code (zx σ n0 bf).1 8120) 14 = .ok (.baload, 1) := zd zm_8120 (by decide +kernel)
theorem d_8120_15 {σ : Nat → Nat} {n0 : Nat} {bf : ab_B} : decode (ab_code (zx σ n0 bf).1 8120) 15 = .ok (.bipush 8, 2) := zd zm_8120 (by decide +kernel)
theorem d_8120_17 {σ : Nat → Nat} {n0 : Nat} {bf : ab_B} : decode (ab_code (zx σ n0 bf).1 8120) 17 = .ok (.if_icmp .eq 31, 3) := zd zm_8120 (by decide +kernel)
theorem d_8120_20 {σ : Nat → Nat} {n0 : Nat} {bf : ab_B} : decode (ab_code (zx σ n0 bf).1 8120) 20 = .ok (.aload_n 0, 1) := zd zm_8120 (by decide +kernel)
theorem d_8120_21 {σ : Nat → Nat} {n0 : Nat} {bf : ab_B} : decode (ab_code (zx σ n0 bf).1 8120) 21 = .ok (.getfield 90, 3) := zd zm_8120 (by decide +kernel)
theorem d_8120_24 {σ : Nat → Nat} {n0 : Nat} {bf : ab_B} : decode (ab_code (zx σ n0 bf).1 8120) 24 = .ok (.iload_n 1, 1) := zd zm_8120 (by decide +kernel)
theorem d_8120_25 {σ : Nat → Nat} {n0 : Nat} {bf : ab_B} : decode (ab_code (zx σ n0 bf).1 8120) 25 = .ok (.baload, 1) := zd zm_8120 (by decide +kernel)
theorem d_8120_26 {σ : Nat → Nat} {n0 : Nat} {bf : ab_B} : decode (ab_code (zx σ n0 bf).1 8120) 26 = .ok (.bipush 9, 2) := zd zm_8120 (by decide +kernel)
theorem d_8120_28 {σ : Nat → Nat} {n0 : Nat} {bf : ab_B} : decode (ab_code (zx σ n0 bf).1 8120) 28 = .ok (.if_icmp .eq 20, 3) := zd zm_8120 (by decide +kernel)
theorem d_8120_31 {σ : Nat → Nat} {n0 : Nat} {bf : ab_B} : decode (ab_code (zx σ n0 bf).1 8120) 31 = .ok (.aload_n 0, 1) := zd zm_8120 (by decide +kernel)
theorem d_8120_32 {σ : Nat → Nat} {n0 : Nat} {bf : ab_B} : decode (ab_code (zx σ n0 bf).1 8120) 32 = .ok (.getfield 90, 3) := zd zm_8120 (by decide +kernel)
theorem d_8120_35 {σ : Nat → Nat} {n0 : Nat} {bf : ab_B} : decode (ab_code (zx σ n0 bf).1 8120) 35 = .ok (.iload_n 1, 1) := zd zm_8120 (by decide +kernel)
theorem d_8120_36 {σ : Nat → Nat} {n0 : Nat} {bf : ab_B} : decode (ab_code (zx σ n0 bf).1 8120) 36 = .ok (.baload, 1) := zd zm_8120 (by decide +kernel)
theorem d_8120_37 {σ : Nat → Nat} {n0 : Nat} {bf : ab_B} : decode (ab_code (zx σ n0 bf).1 8120) 37 = .ok (.bipush 11, 2) := zd zm_8120 (by decide +kernel)
theorem d_8120_39 {σ : Nat → Nat} {n0 : Nat} {bf : ab_B} : decode (ab_code (zx σ n0 bf).1 8120) 39 = .ok (.if_icmp .eq 9, 3) := zd zm_8120 (by decide +kernel)
theorem d_8120_42 {σ : Nat → Nat} {n0 : Nat} {bf : ab_B} : decode (ab_code (zx σ n0 bf).1 8120) 42 = .ok (.aload_n 0, 1) := zd zm_8120 (by decide +kernel)
theorem d_8120_43 {σ : Nat → Nat} {n0 : Nat} {bf : ab_B} : decode (ab_code (zx σ n0 bf).1 8120) 43 = .ok (.iload_n 1, 1) := zd zm_8120 (by decide +kernel)
theorem d_8120_44 {σ : Nat → Nat} {n0 : Nat} {bf : ab_B} : decode (ab_code (zx σ n0 bf).1 8120) 44 = .ok (.invokevirtual 828, 3) := zd zm_8120 (by decide +kernel)
theorem d_8120_47 {σ : Nat → Nat} {n0 : Nat} {bf : ab_B} : decode (ab_code (zx σ n0 bf).1 8120) 47 = .ok (.ireturn, 1) := zd zm_8120 (by decide +kernel)
theorem d_8120_48 {σ : Nat → Nat} {n0 : Nat} {bf : ab_B} : decode (ab_code (zx σ n0 bf).1 8120) 48 = .ok (.aload_n 0, 1) := zd zm_8120 (by decide +kernel)
theorem d_8120_49 {σ : Nat → Nat} {n0 : Nat} {bf : ab_B} : decode (ab_code (zx σ n0 bf).1 8120) 49 = .ok (.getfield 105, 3) := zd zm_8120 (by decide +kernel)
theorem d_8120_52 {σ : Nat → Nat} {n0 : Nat} {bf : ab_B} : decode (ab_code (zx σ n0 bf).1 8120) 52 = .ok (.iload_n 1, 1) := zd zm_8120 (by decide +kernel)
theorem d_8120_53 {σ : Nat → Nat} {n0 : Nat} {bf : ab_B} : decode (ab_code (zx σ n0 bf).1 8120) 53 = .ok (.baload, 1) := zd zm_8120 (by decide +kernel)
theorem d_8120_54 {σ : Nat → Nat} {n0 : Nat} {bf : ab_B} : decode (ab_code (zx σ n0 bf).1 8120) 54 = .ok (.ifCond .ne 10, 3) := zd zm_8120 (by decide +kernel)
theorem d_8120_57 {σ : Nat → Nat} {n0 : Nat} {bf : ab_B} : decode (ab_code (zx σ n0 bf).1 8120) 57 = .ok (.aload_n 0, 1) := zd zm_8120 (by decide +kernel)
theorem d_8120_58 {σ : Nat → Nat} {n0 : Nat} {bf : ab_B} : decode (ab_code (zx σ n0 bf).1 8120) 58 = .ok (.getfield 115, 3) := zd zm_8120 (by decide +kernel)
theorem d_8120_61 {σ : Nat → Nat} {n0 : Nat} {bf : ab_B} : decode (ab_code (zx σ n0 bf).1 8120) 61 = .ok (.iload_n 1, 1) := zd zm_8120 (by decide +kernel)
theorem d_8120_62 {σ : Nat → Nat} {n0 : Nat} {bf : ab_B} : decode (ab_code (zx σ n0 bf).1 8120) 62 = .ok (.iaload, 1) := zd zm_8120 (by decide +kernel)
theorem d_8120_63 {σ : Nat → Nat} {n0 : Nat} {bf : ab_B} : decode (ab_code (zx σ n0 bf).1 8120) 63 = .ok (.ireturn, 1) := zd zm_8120 (by decide +kernel)
theorem d_8120_64 {σ : Nat → Nat} {n0 : Nat} {bf : ab_B} : decode (ab_code (zx σ n0 bf).1 8120) 64 = .ok (.aload_n 0, 1) := zd zm_8120 (by decide +kernel)
theorem d_8120_65 {σ : Nat → Nat} {n0 : Nat} {bf : ab_B} : decode (ab_code (zx σ n0 bf).1 8120) 65 = .ok (.iload_n 1, 1) := zd zm_8120 (by decide +kernel)
theorem d_8120_66 {σ : Nat → Nat} {n0 : Nat} {bf : ab_B} : decode (ab_code (zx σ n0 bf).1 8120) 66 = .ok (.invokevirtual 810, 3) := zd zm_8120 (by decide +kernel)
theorem d_8120_69 {σ : Nat → Nat} {n0 : Nat} {bf : ab_B} : decode (ab_code (zx σ n0 bf).1 8120) 69 = .ok (.iconst (-1), 1) := zd zm_8120 (by decide +kernel)
theorem d_8120_70 {σ : Nat → Nat} {n0 : Nat} {bf : ab_B} : decode (ab_code (zx σ n0 bf).1 8120) 70 = .ok (.ireturn, 1) := zd zm_8120 (by decide +kernel)
def w_X9_below_48 (X : zs_X) (d : Nat) (p0 : Nat) (p1 : Int32) (S : zs_T) (Q : zs_Q) : Prop :=
  (zs_K S p0 = some (.inl 8) ∧ ∃ b2, (zs_R S 8049 p0) = some b2 ∧ zs_A S b2 2 p1 ∧ ((¬ (zs_i S b2 p1.toNatClampNeg) = 0 → (zs_C X d 8116 [.ref p0, .int p1] S (zs_kV (fun S6 => (Q (.returned (some (.int (-1 : Int32)))) S6)) Q))) ∧ (¬ (¬ (zs_i S b2 p1.toNatClampNeg) = 0) → (∃ b8, (zs_R S 8052 p0) = some b8 ∧ zs_A S b8 0 p1 ∧ Q (.returned (some (.int (zs_i S b8 p1.toNatClampNeg)))) S))))
theorem u_X9_below_48 {σ : Nat → Nat} {n0 : Nat} {bf : ab_B} {d : Nat} {p0 : Nat} {p1 : Int32} {S : zs_T} {Q : zs_Q} (hB : zt_B bf) (h : w_X9_below_48 (zx σ n0 bf) d p0 p1 S Q) : zs_U (zx σ n0 bf) d 8120 48 [(0, .ref p0), (1, .int p1)] [] S Q := by
  unfold w_X9_below_48 at h
  refine zu_aload_n d_8120_48 rfl (zs_ra _) ?_
  obtain ⟨k1, h⟩ := h
  refine zg_8_105 rfl d_8120_49 k1 ?_
  refine zu_iload_n d_8120_52 rfl ?_
  obtain ⟨b2, e3, h⟩ := h
  refine zs_stk1 (zs_rfe e3) ?_
  obtain ⟨k4, h⟩ := h
  refine zu_bald (k := 2) d_8120_53 rfl (Or.inr rfl) k4 ?_
  refine zu_ifne (t := 64) d_8120_54 rfl (fun c5 => ?_) (fun c5 => ?_)
  · have h := h.1 c5
    refine zu_aload_n d_8120_64 rfl (zs_ra _) ?_
    refine zu_iload_n d_8120_65 rfl ?_
    refine zc_8_810 (x0 := p1) hB rfl k1 d_8120_66 (Nat.le_of_ble_eq_true rfl) h (fun S6 h => ?_)
    refine zu_iconst d_8120_69 zi_m1 ?_
    exact zu_iret d_8120_70 zr_8120 rfl h
  · have h := h.2 c5
    refine zu_aload_n d_8120_57 rfl (zs_ra _) ?_
    refine zg_8_115 rfl d_8120_58 k1 ?_
    refine zu_iload_n d_8120_61 rfl ?_
    obtain ⟨b8, e9, h⟩ := h
    refine zs_stk1 (zs_rfe e9) ?_
    obtain ⟨k10, h⟩ := h
    refine zu_iald (k := 0) d_8120_62 rfl rfl k10 ?_
    exact zu_iret d_8120_63 zr_8120 rfl h
def w_X9_below_31 (X : zs_X) (d : Nat) (p0 : Nat) (p1 : Int32) (S : zs_T) (Q : zs_Q) : Prop :=
  (zs_K S p0 = some (.inl 8) ∧ ∃ b2, (zs_R S 8044 p0) = some b2 ∧ zs_A S b2 1 p1 ∧ (((zs_i S b2 p1.toNatClampNeg) = (11 : Int32) → w_X9_below_48 X d p0 p1 S Q) ∧ (¬ ((zs_i S b2 p1.toNatClampNeg) = (11 : Int32)) → (zs_C X d 8121 [.ref p0, .int p1] S (zs_kI (fun v7 S6 => (Q (.returned (some (.int v7))) S6)) Q)))))
theorem u_X9_below_31 {σ : Nat → Nat} {n0 : Nat} {bf : ab_B} {d : Nat} {p0 : Nat} {p1 : Int32} {S : zs_T} {Q : zs_Q} (hB : zt_B bf) (h : w_X9_below_31 (zx σ n0 bf) d p0 p1 S Q) : zs_U (zx σ n0 bf) d 8120 31 [(0, .ref p0), (1, .int p1)] [] S Q := by
  unfold w_X9_below_31 at h
  refine zu_aload_n d_8120_31 rfl (zs_ra _) ?_
  obtain ⟨k1, h⟩ := h
  refine zg_8_90 rfl d_8120_32 k1 ?_
  refine zu_iload_n d_8120_35 rfl ?_
  obtain ⟨b2, e3, h⟩ := h
  refine zs_stk1 (zs_rfe e3) ?_
  obtain ⟨k4, h⟩ := h
  refine zu_bald (k := 1) d_8120_36 rfl (Or.inl rfl) k4 ?_
  refine zu_bipush d_8120_37 zj_11 ?_
  refine zu_cmpeq (t := 48) d_8120_39 rfl (fun c5 => ?_) (fun c5 => ?_)
  · have h := h.1 c5
    exact (u_X9_below_48 hB h).weak ⟨rfl, rfl, trivial⟩
  · have h := h.2 c5
    refine zu_aload_n d_8120_42 rfl (zs_ra _) ?_
    refine zu_iload_n d_8120_43 rfl ?_
    refine zc_8_828 (x0 := p1) hB rfl k1 d_8120_44 (Nat.le_of_ble_eq_true rfl) h (fun v7 S6 h => ?_)
    exact zu_iret d_8120_47 zr_8120 rfl h
def w_X9_below (X : zs_X) (d : Nat) (p0 : Nat) (p1 : Int32) (S : zs_T) (Q : zs_Q) : Prop :=
  (zs_K S p0 = some (.inl 8) ∧ ∃ b2, (zs_R S 8049 p0) = some b2 ∧ zs_A S b2 2 p1 ∧ ((¬ (zs_i S b2 p1.toNatClampNeg) = 0 → w_X9_below_48 X d p0 p1 S Q) ∧ (¬ (¬ (zs_i S b2 p1.toNatClampNeg) = 0) → (∃ b6, (zs_R S 8044 p0) = some b6 ∧ zs_A S b6 1 p1 ∧ (((zs_i S b6 p1.toNatClampNeg) = (8 : Int32) → w_X9_below_48 X d p0 p1 S Q) ∧ (¬ ((zs_i S b6 p1.toNatClampNeg) = (8 : Int32)) → ((((zs_i S b6 p1.toNatClampNeg) = (9 : Int32) → w_X9_below_48 X d p0 p1 S Q) ∧ (¬ ((zs_i S b6 p1.toNatClampNeg) = (9 : Int32)) → w_X9_below_31 X d p0 p1 S Q)))))))))
theorem u_X9_below {σ : Nat → Nat} {n0 : Nat} {bf : ab_B} {d : Nat} {p0 : Nat} {p1 : Int32} {S : zs_T} {Q : zs_Q} (hB : zt_B bf) (hd : 1 ≤ d) (h : w_X9_below (zx σ n0 bf) (d - 1) p0 p1 S Q) : zs_C (zx σ n0 bf) d 8120 [.ref p0, .int p1] S Q := by
  have hL : lv_args 0 [.ref p0, .int p1] = [(0, .ref p0), (1, .int p1)] := rfl
  refine zs_C.of1 (hB.2 8120 (by decide) (by decide)) hd (by rw [hL]; exact zs_sub_self _ (by exact ⟨rfl, rfl, trivial⟩)) ?_
  rw [hL]
  clear hL
  unfold w_X9_below at h
  refine zu_aload_n d_8120_0 rfl (zs_ra _) ?_
  obtain ⟨k1, h⟩ := h
  refine zg_8_105 rfl d_8120_1 k1 ?_
  refine zu_iload_n d_8120_4 rfl ?_
  obtain ⟨b2, e3, h⟩ := h
  refine zs_stk1 (zs_rfe e3) ?_
  obtain ⟨k4, h⟩ := h
  refine zu_bald (k := 2) d_8120_5 rfl (Or.inr rfl) k4 ?_
  refine zu_ifne (t := 48) d_8120_6 rfl (fun c5 => ?_) (fun c5 => ?_)
  · have h := h.1 c5
    exact (u_X9_below_48 hB h).weak ⟨rfl, rfl, trivial⟩
  · have h := h.2 c5
    refine zu_aload_n d_8120_9 rfl (zs_ra _) ?_
    refine zg_8_90 rfl d_8120_10 k1 ?_
    refine zu_iload_n d_8120_13 rfl ?_
    obtain ⟨b6, e7, h⟩ := h
    refine zs_stk1 (zs_rfe e7) ?_
    obtain ⟨k8, h⟩ := h
    refine zu_bald (k := 1) d_8120_14 rfl (Or.inl rfl) k8 ?_
    refine zu_bipush d_8120_15 zj_8 ?_
    refine zu_cmpeq (t := 48) d_8120_17 rfl (fun c9 => ?_) (fun c9 => ?_)
    · have h := h.1 c9
      exact (u_X9_below_48 hB h).weak ⟨rfl, rfl, trivial⟩
    · have h := h.2 c9
      refine zu_aload_n d_8120_20 rfl (zs_ra _) ?_
      refine zg_8_90 rfl d_8120_21 k1 ?_
      refine zu_iload_n d_8120_24 rfl ?_
      refine zs_stk1 (zs_rfe e7) ?_
      refine zu_bald (k := 1) d_8120_25 rfl (Or.inl rfl) k8 ?_
      refine zu_bipush d_8120_26 zj_9 ?_
      refine zu_cmpeq (t := 48) d_8120_28 rfl (fun c10 => ?_) (fun c10 => ?_)
      · have h := h.1 c10
        exact (u_X9_below_48 hB h).weak ⟨rfl, rfl, trivial⟩
      · have h := h.2 c10
        exact (u_X9_below_31 hB h).weak ⟨rfl, rfl, trivial⟩
