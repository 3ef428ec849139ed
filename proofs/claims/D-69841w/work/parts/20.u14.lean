/-! printed by gen_all.py: what the methods compute -/
set_option maxRecDepth 100000
/-! SchemaPascalModel.readNumber()V -/
theorem zm_8021 {σ : Nat → Nat} {n0 : Nat} {bf : ab_B} : ab_code (zx σ n0 bf).1 8021 = prog_17_method_15_code := rfl
theorem zq_8021 {σ : Nat → Nat} {n0 : Nat} {bf : ab_B} : ab_maxL (zx σ n0 bf).1 8021 = 7 := rfl
theorem zr_8021 {σ : Nat → Nat} {n0 : Nat} {bf : ab_B} : ab_ret (zx σ n0 bf).1 8021 = (Option.none : Option Jvm.ClassFile.FieldType) := rfl
theorem d_8021_0 {σ : Nat → Nat} {n0 : Nat} {bf : ab_B} : decode (ab_code (zx σ n0 bf).1 8021) 0 = .ok (.aload_n 0, 1) := zd zm_8021 (by decide +kernel)
theorem d_8021_1 {σ : Nat → Nat} {n0 : Nat} {bf : ab_B} : decode (ab_code (zx σ n0 bf).1 8021) 1 = .ok (.getfield 487, 3) := zd zm_8021 (by decide +kernel)
theorem d_8021_4 {σ : Nat → Nat} {n0 : Nat} {bf : ab_B} : decode (ab_code (zx σ n0 bf).1 8021) 4 = .ok (.istore_n 1, 1) := zd zm_8021 (by decide +kernel)
theorem d_8021_5 {σ : Nat → Nat} {n0 : Nat} {bf : ab_B} : decode (ab_code (zx σ n0 bf).1 8021) 5 = .ok (.lconst 0, 1) := zd zm_8021 (by decide +kernel)
theorem d_8021_6 {σ : Nat → Nat} {n0 : Nat} {bf : ab_B} : decode (ab_code (zx σ n0 bf).1 8021) 6 = .ok (.lstore_n 2, 1) := zd zm_8021 (by decide +kernel)
theorem d_8021_7 {σ : Nat → Nat} {n0 : Nat} {bf : ab_B} : decode (ab_code (zx σ n0 bf).1 8021) 7 = .ok (.aload_n 0, 1) := zd zm_8021 (by decide +kernel)
theorem d_8021_8 {σ : Nat → Nat} {n0 : Nat} {bf : ab_B} : decode (ab_code (zx σ n0 bf).1 8021) 8 = .ok (.aload_n 0, 1) := zd zm_8021 (by decide +kernel)
theorem d_8021_9 {σ : Nat → Nat} {n0 : Nat} {bf : ab_B} : decode (ab_code (zx σ n0 bf).1 8021) 9 = .ok (.getfield 487, 3) := zd zm_8021 (by decide +kernel)
theorem d_8021_12 {σ : Nat → Nat} {n0 : Nat} {bf : ab_B} : decode (ab_code (zx σ n0 bf).1 8021) 12 = .ok (.invokevirtual 471, 3) := zd zm_8021 (by decide +kernel)
theorem d_8021_15 {σ : Nat → Nat} {n0 : Nat} {bf : ab_B} : decode (ab_code (zx σ n0 bf).1 8021) 15 = .ok (.invokestatic 460, 3) := zd zm_8021 (by decide +kernel)
theorem d_8021_18 {σ : Nat → Nat} {n0 : Nat} {bf : ab_B} : decode (ab_code (zx σ n0 bf).1 8021) 18 = .ok (.ifCond .eq 48, 3) := zd zm_8021 (by decide +kernel)
theorem d_8021_21 {σ : Nat → Nat} {n0 : Nat} {bf : ab_B} : decode (ab_code (zx σ n0 bf).1 8021) 21 = .ok (.lload_n 2, 1) := zd zm_8021 (by decide +kernel)
theorem d_8021_22 {σ : Nat → Nat} {n0 : Nat} {bf : ab_B} : decode (ab_code (zx σ n0 bf).1 8021) 22 = .ok (.ldc2_w 497, 3) := zd zm_8021 (by decide +kernel)
theorem d_8021_25 {σ : Nat → Nat} {n0 : Nat} {bf : ab_B} : decode (ab_code (zx σ n0 bf).1 8021) 25 = .ok (.lcmp, 1) := zd zm_8021 (by decide +kernel)
theorem d_8021_26 {σ : Nat → Nat} {n0 : Nat} {bf : ab_B} : decode (ab_code (zx σ n0 bf).1 8021) 26 = .ok (.ifCond .le 7, 3) := zd zm_8021 (by decide +kernel)
theorem d_8021_29 {σ : Nat → Nat} {n0 : Nat} {bf : ab_B} : decode (ab_code (zx σ n0 bf).1 8021) 29 = .ok (.lload_n 2, 1) := zd zm_8021 (by decide +kernel)
theorem d_8021_30 {σ : Nat → Nat} {n0 : Nat} {bf : ab_B} : decode (ab_code (zx σ n0 bf).1 8021) 30 = .ok (.goto 22, 3) := zd zm_8021 (by decide +kernel)
theorem d_8021_33 {σ : Nat → Nat} {n0 : Nat} {bf : ab_B} : decode (ab_code (zx σ n0 bf).1 8021) 33 = .ok (.ldc2_w 499, 3) := zd zm_8021 (by decide +kernel)
theorem d_8021_36 {σ : Nat → Nat} {n0 : Nat} {bf : ab_B} : decode (ab_code (zx σ n0 bf).1 8021) 36 = .ok (.lload_n 2, 1) := zd zm_8021 (by decide +kernel)
theorem d_8021_37 {σ : Nat → Nat} {n0 : Nat} {bf : ab_B} : decode (ab_code (zx σ n0 bf).1 8021) 37 = .ok (.lmul, 1) := zd zm_8021 (by decide +kernel)
theorem d_8021_38 {σ : Nat → Nat} {n0 : Nat} {bf : ab_B} : decode (ab_code (zx σ n0 bf).1 8021) 38 = .ok (.aload_n 0, 1) := zd zm_8021 (by decide +kernel)
theorem d_8021_39 {σ : Nat → Nat} {n0 : Nat} {bf : ab_B} : decode (ab_code (zx σ n0 bf).1 8021) 39 = .ok (.aload_n 0, 1) := zd zm_8021 (by decide +kernel)
theorem d_8021_40 {σ : Nat → Nat} {n0 : Nat} {bf : ab_B} : decode (ab_code (zx σ n0 bf).1 8021) 40 = .ok (.getfield 487, 3) := zd zm_8021 (by decide +kernel)
theorem d_8021_43 {σ : Nat → Nat} {n0 : Nat} {bf : ab_B} : decode (ab_code (zx σ n0 bf).1 8021) 43 = .ok (.invokevirtual 471, 3) := zd zm_8021 (by decide +kernel)
theorem d_8021_46 {σ : Nat → Nat} {n0 : Nat} {bf : ab_B} : decode (ab_code (zx σ n0 bf).1 8021) 46 = .ok (.i2l, 1) := zd zm_8021 (by decide +kernel)
theorem d_8021_47 {σ : Nat → Nat} {n0 : Nat} {bf : ab_B} : decode (ab_code (zx σ n0 bf).1 8021) 47 = .ok (.ladd, 1) := zd zm_8021 (by decide +kernel)
theorem d_8021_48 {σ : Nat → Nat} {n0 : Nat} {bf : ab_B} : decode (ab_code (zx σ n0 bf).1 8021) 48 = .ok (.ldc2_w 501, 3) := zd zm_8021 (by decide +kernel)
theorem d_8021_51 {σ : Nat → Nat} {n0 : Nat} {bf : ab_B} : decode (ab_code (zx σ n0 bf).1 8021) 51 = .ok (.lsub, 1) := zd zm_8021 (by decide +kernel)
theorem d_8021_52 {σ : Nat → Nat} {n0 : Nat} {bf : ab_B} : decode (ab_code (zx σ n0 bf).1 8021) 52 = .ok (.lstore_n 2, 1) := zd zm_8021 (by decide +kernel)
theorem d_8021_53 {σ : Nat → Nat} {n0 : Nat} {bf : ab_B} : decode (ab_code (zx σ n0 bf).1 8021) 53 = .ok (.aload_n 0, 1) := zd zm_8021 (by decide +kernel)
theorem d_8021_54 {σ : Nat → Nat} {n0 : Nat} {bf : ab_B} : decode (ab_code (zx σ n0 bf).1 8021) 54 = .ok (.dup, 1) := zd zm_8021 (by decide +kernel)
theorem d_8021_55 {σ : Nat → Nat} {n0 : Nat} {bf : ab_B} : decode (ab_code (zx σ n0 bf).1 8021) 55 = .ok (.getfield 487, 3) := zd zm_8021 (by decide +kernel)
theorem d_8021_58 {σ : Nat → Nat} {n0 : Nat} {bf : ab_B} : decode (ab_code (zx σ n0 bf).1 8021) 58 = .ok (.iconst 1, 1) := zd zm_8021 (by decide +kernel)
theorem d_8021_59 {σ : Nat → Nat} {n0 : Nat} {bf : ab_B} : decode (ab_code (zx σ n0 bf).1 8021) 59 = .ok (.iadd, 1) := zd zm_8021 (by decide +kernel)
theorem d_8021_60 {σ : Nat → Nat} {n0 : Nat} {bf : ab_B} : decode (ab_code (zx σ n0 bf).1 8021) 60 = .ok (.putfield 487, 3) := zd zm_8021 (by decide +kernel)
theorem d_8021_63 {σ : Nat → Nat} {n0 : Nat} {bf : ab_B} : decode (ab_code (zx σ n0 bf).1 8021) 63 = .ok (.goto (-56), 3) := zd zm_8021 (by decide +kernel)
theorem d_8021_66 {σ : Nat → Nat} {n0 : Nat} {bf : ab_B} : decode (ab_code (zx σ n0 bf).1 8021) 66 = .ok (.iconst 1, 1) := zd zm_8021 (by decide +kernel)
theorem d_8021_67 {σ : Nat → Nat} {n0 : Nat} {bf : ab_B} : decode (ab_code (zx σ n0 bf).1 8021) 67 = .ok (.istore 4, 2) := zd zm_8021 (by decide +kernel)
theorem d_8021_69 {σ : Nat → Nat} {n0 : Nat} {bf : ab_B} : decode (ab_code (zx σ n0 bf).1 8021) 69 = .ok (.aload_n 0, 1) := zd zm_8021 (by decide +kernel)
theorem d_8021_70 {σ : Nat → Nat} {n0 : Nat} {bf : ab_B} : decode (ab_code (zx σ n0 bf).1 8021) 70 = .ok (.aload_n 0, 1) := zd zm_8021 (by decide +kernel)
theorem d_8021_71 {σ : Nat → Nat} {n0 : Nat} {bf : ab_B} : decode (ab_code (zx σ n0 bf).1 8021) 71 = .ok (.getfield 487, 3) := zd zm_8021 (by decide +kernel)
theorem d_8021_74 {σ : Nat → Nat} {n0 : Nat} {bf : ab_B} : decode (ab_code (zx σ n0 bf).1 8021) 74 = .ok (.invokevirtual 471, 3) := zd zm_8021 (by decide +kernel)
theorem d_8021_77 {σ : Nat → Nat} {n0 : Nat} {bf : ab_B} : decode (ab_code (zx σ n0 bf).1 8021) 77 = .ok (.bipush 35, 2) := zd zm_8021 (by decide +kernel)
theorem d_8021_79 {σ : Nat → Nat} {n0 : Nat} {bf : ab_B} : decode (ab_code (zx σ n0 bf).1 8021) 79 = .ok (.if_icmp .ne 127, 3) := zd zm_8021 (by decide +kernel)
theorem d_8021_82 {σ : Nat → Nat} {n0 : Nat} {bf : ab_B} : decode (ab_code (zx σ n0 bf).1 8021) 82 = .ok (.lload_n 2, 1) := zd zm_8021 (by decide +kernel)
theorem d_8021_83 {σ : Nat → Nat} {n0 : Nat} {bf : ab_B} : decode (ab_code (zx σ n0 bf).1 8021) 83 = .ok (.lstore 5, 2) := zd zm_8021 (by decide +kernel)
theorem d_8021_85 {σ : Nat → Nat} {n0 : Nat} {bf : ab_B} : decode (ab_code (zx σ n0 bf).1 8021) 85 = .ok (.aload_n 0, 1) := zd zm_8021 (by decide +kernel)
theorem d_8021_86 {σ : Nat → Nat} {n0 : Nat} {bf : ab_B} : decode (ab_code (zx σ n0 bf).1 8021) 86 = .ok (.dup, 1) := zd zm_8021 (by decide +kernel)
theorem d_8021_87 {σ : Nat → Nat} {n0 : Nat} {bf : ab_B} : decode (ab_code (zx σ n0 bf).1 8021) 87 = .ok (.getfield 487, 3) := zd zm_8021 (by decide +kernel)
theorem d_8021_90 {σ : Nat → Nat} {n0 : Nat} {bf : ab_B} : decode (ab_code (zx σ n0 bf).1 8021) 90 = .ok (.iconst 1, 1) := zd zm_8021 (by decide +kernel)
theorem d_8021_91 {σ : Nat → Nat} {n0 : Nat} {bf : ab_B} : decode (ab_code (zx σ n0 bf).1 8021) 91 = .ok (.iadd, 1) := zd zm_8021 (by decide +kernel)
theorem d_8021_92 {σ : Nat → Nat} {n0 : Nat} {bf : ab_B} : decode (ab_code (zx σ n0 bf).1 8021) 92 = .ok (.putfield 487, 3) := zd zm_8021 (by decide +kernel)
theorem d_8021_95 {σ : Nat → Nat} {n0 : Nat} {bf : ab_B} : decode (ab_code (zx σ n0 bf).1 8021) 95 = .ok (.lload 5, 2) := zd zm_8021 (by decide +kernel)
theorem d_8021_97 {σ : Nat → Nat} {n0 : Nat} {bf : ab_B} : decode (ab_code (zx σ n0 bf).1 8021) 97 = .ok (.ldc2_w 503, 3) := zd zm_8021 (by decide +kernel)
theorem d_8021_100 {σ : Nat → Nat} {n0 : Nat} {bf : ab_B} : decode (ab_code (zx σ n0 bf).1 8021) 100 = .ok (.lcmp, 1) := zd zm_8021 (by decide +kernel)
theorem d_8021_101 {σ : Nat → Nat} {n0 : Nat} {bf : ab_B} : decode (ab_code (zx σ n0 bf).1 8021) 101 = .ok (.ifCond .lt 34, 3) := zd zm_8021 (by decide +kernel)
theorem d_8021_104 {σ : Nat → Nat} {n0 : Nat} {bf : ab_B} : decode (ab_code (zx σ n0 bf).1 8021) 104 = .ok (.lload 5, 2) := zd zm_8021 (by decide +kernel)
theorem d_8021_106 {σ : Nat → Nat} {n0 : Nat} {bf : ab_B} : decode (ab_code (zx σ n0 bf).1 8021) 106 = .ok (.ldc2_w 505, 3) := zd zm_8021 (by decide +kernel)
theorem d_8021_109 {σ : Nat → Nat} {n0 : Nat} {bf : ab_B} : decode (ab_code (zx σ n0 bf).1 8021) 109 = .ok (.lcmp, 1) := zd zm_8021 (by decide +kernel)
theorem d_8021_110 {σ : Nat → Nat} {n0 : Nat} {bf : ab_B} : decode (ab_code (zx σ n0 bf).1 8021) 110 = .ok (.ifCond .gt 25, 3) := zd zm_8021 (by decide +kernel)
theorem d_8021_113 {σ : Nat → Nat} {n0 : Nat} {bf : ab_B} : decode (ab_code (zx σ n0 bf).1 8021) 113 = .ok (.aload_n 0, 1) := zd zm_8021 (by decide +kernel)
theorem d_8021_114 {σ : Nat → Nat} {n0 : Nat} {bf : ab_B} : decode (ab_code (zx σ n0 bf).1 8021) 114 = .ok (.aload_n 0, 1) := zd zm_8021 (by decide +kernel)
theorem d_8021_115 {σ : Nat → Nat} {n0 : Nat} {bf : ab_B} : decode (ab_code (zx σ n0 bf).1 8021) 115 = .ok (.getfield 487, 3) := zd zm_8021 (by decide +kernel)
theorem d_8021_118 {σ : Nat → Nat} {n0 : Nat} {bf : ab_B} : decode (ab_code (zx σ n0 bf).1 8021) 118 = .ok (.invokevirtual 471, 3) := zd zm_8021 (by decide +kernel)
theorem d_8021_121 {σ : Nat → Nat} {n0 : Nat} {bf : ab_B} : decode (ab_code (zx σ n0 bf).1 8021) 121 = .ok (.invokestatic 507, 3) := zd zm_8021 (by decide +kernel)
theorem d_8021_124 {σ : Nat → Nat} {n0 : Nat} {bf : ab_B} : decode (ab_code (zx σ n0 bf).1 8021) 124 = .ok (.i2l, 1) := zd zm_8021 (by decide +kernel)
theorem d_8021_125 {σ : Nat → Nat} {n0 : Nat} {bf : ab_B} : decode (ab_code (zx σ n0 bf).1 8021) 125 = .ok (.lload 5, 2) := zd zm_8021 (by decide +kernel)
theorem d_8021_127 {σ : Nat → Nat} {n0 : Nat} {bf : ab_B} : decode (ab_code (zx σ n0 bf).1 8021) 127 = .ok (.lcmp, 1) := zd zm_8021 (by decide +kernel)
theorem d_8021_128 {σ : Nat → Nat} {n0 : Nat} {bf : ab_B} : decode (ab_code (zx σ n0 bf).1 8021) 128 = .ok (.ifCond .ge 7, 3) := zd zm_8021 (by decide +kernel)
theorem d_8021_131 {σ : Nat → Nat} {n0 : Nat} {bf : ab_B} : decode (ab_code (zx σ n0 bf).1 8021) 131 = .ok (.iconst 1, 1) := zd zm_8021 (by decide +kernel)
theorem d_8021_132 {σ : Nat → Nat} {n0 : Nat} {bf : ab_B} : decode (ab_code (zx σ n0 bf).1 8021) 132 = .ok (.goto 4, 3) := zd zm_8021 (by decide +kernel)
theorem d_8021_135 {σ : Nat → Nat} {n0 : Nat} {bf : ab_B} : decode (ab_code (zx σ n0 bf).1 8021) 135 = .ok (.iconst 0, 1) := zd zm_8021 (by decide +kernel)
theorem d_8021_136 {σ : Nat → Nat} {n0 : Nat} {bf : ab_B} : decode (ab_code (zx σ n0 bf).1 8021) 136 = .ok (.istore 4, 2) := zd zm_8021 (by decide +kernel)
theorem d_8021_138 {σ : Nat → Nat} {n0 : Nat} {bf : ab_B} : decode (ab_code (zx σ n0 bf).1 8021) 138 = .ok (.lconst 0, 1) := zd zm_8021 (by decide +kernel)
theorem d_8021_139 {σ : Nat → Nat} {n0 : Nat} {bf : ab_B} : decode (ab_code (zx σ n0 bf).1 8021) 139 = .ok (.lstore_n 2, 1) := zd zm_8021 (by decide +kernel)
theorem d_8021_140 {σ : Nat → Nat} {n0 : Nat} {bf : ab_B} : decode (ab_code (zx σ n0 bf).1 8021) 140 = .ok (.iload 4, 2) := zd zm_8021 (by decide +kernel)
theorem d_8021_142 {σ : Nat → Nat} {n0 : Nat} {bf : ab_B} : decode (ab_code (zx σ n0 bf).1 8021) 142 = .ok (.ifCond .eq 64, 3) := zd zm_8021 (by decide +kernel)
theorem d_8021_145 {σ : Nat → Nat} {n0 : Nat} {bf : ab_B} : decode (ab_code (zx σ n0 bf).1 8021) 145 = .ok (.aload_n 0, 1) := zd zm_8021 (by decide +kernel)
theorem d_8021_146 {σ : Nat → Nat} {n0 : Nat} {bf : ab_B} : decode (ab_code (zx σ n0 bf).1 8021) 146 = .ok (.aload_n 0, 1) := zd zm_8021 (by decide +kernel)
theorem d_8021_147 {σ : Nat → Nat} {n0 : Nat} {bf : ab_B} : decode (ab_code (zx σ n0 bf).1 8021) 147 = .ok (.getfield 487, 3) := zd zm_8021 (by decide +kernel)
theorem d_8021_150 {σ : Nat → Nat} {n0 : Nat} {bf : ab_B} : decode (ab_code (zx σ n0 bf).1 8021) 150 = .ok (.invokevirtual 471, 3) := zd zm_8021 (by decide +kernel)
theorem d_8021_153 {σ : Nat → Nat} {n0 : Nat} {bf : ab_B} : decode (ab_code (zx σ n0 bf).1 8021) 153 = .ok (.invokestatic 507, 3) := zd zm_8021 (by decide +kernel)
theorem d_8021_156 {σ : Nat → Nat} {n0 : Nat} {bf : ab_B} : decode (ab_code (zx σ n0 bf).1 8021) 156 = .ok (.i2l, 1) := zd zm_8021 (by decide +kernel)
theorem d_8021_157 {σ : Nat → Nat} {n0 : Nat} {bf : ab_B} : decode (ab_code (zx σ n0 bf).1 8021) 157 = .ok (.lload 5, 2) := zd zm_8021 (by decide +kernel)
theorem d_8021_159 {σ : Nat → Nat} {n0 : Nat} {bf : ab_B} : decode (ab_code (zx σ n0 bf).1 8021) 159 = .ok (.lcmp, 1) := zd zm_8021 (by decide +kernel)
theorem d_8021_160 {σ : Nat → Nat} {n0 : Nat} {bf : ab_B} : decode (ab_code (zx σ n0 bf).1 8021) 160 = .ok (.ifCond .ge 46, 3) := zd zm_8021 (by decide +kernel)
theorem d_8021_163 {σ : Nat → Nat} {n0 : Nat} {bf : ab_B} : decode (ab_code (zx σ n0 bf).1 8021) 163 = .ok (.lload_n 2, 1) := zd zm_8021 (by decide +kernel)
theorem d_8021_164 {σ : Nat → Nat} {n0 : Nat} {bf : ab_B} : decode (ab_code (zx σ n0 bf).1 8021) 164 = .ok (.ldc2_w 497, 3) := zd zm_8021 (by decide +kernel)
theorem d_8021_167 {σ : Nat → Nat} {n0 : Nat} {bf : ab_B} : decode (ab_code (zx σ n0 bf).1 8021) 167 = .ok (.lcmp, 1) := zd zm_8021 (by decide +kernel)
theorem d_8021_168 {σ : Nat → Nat} {n0 : Nat} {bf : ab_B} : decode (ab_code (zx σ n0 bf).1 8021) 168 = .ok (.ifCond .le 7, 3) := zd zm_8021 (by decide +kernel)
theorem d_8021_171 {σ : Nat → Nat} {n0 : Nat} {bf : ab_B} : decode (ab_code (zx σ n0 bf).1 8021) 171 = .ok (.lload_n 2, 1) := zd zm_8021 (by decide +kernel)
theorem d_8021_172 {σ : Nat → Nat} {n0 : Nat} {bf : ab_B} : decode (ab_code (zx σ n0 bf).1 8021) 172 = .ok (.goto 20, 3) := zd zm_8021 (by decide +kernel)
theorem d_8021_175 {σ : Nat → Nat} {n0 : Nat} {bf : ab_B} : decode (ab_code (zx σ n0 bf).1 8021) 175 = .ok (.lload 5, 2) := zd zm_8021 (by decide +kernel)
theorem d_8021_177 {σ : Nat → Nat} {n0 : Nat} {bf : ab_B} : decode (ab_code (zx σ n0 bf).1 8021) 177 = .ok (.lload_n 2, 1) := zd zm_8021 (by decide +kernel)
theorem d_8021_178 {σ : Nat → Nat} {n0 : Nat} {bf : ab_B} : decode (ab_code (zx σ n0 bf).1 8021) 178 = .ok (.lmul, 1) := zd zm_8021 (by decide +kernel)
theorem d_8021_179 {σ : Nat → Nat} {n0 : Nat} {bf : ab_B} : decode (ab_code (zx σ n0 bf).1 8021) 179 = .ok (.aload_n 0, 1) := zd zm_8021 (by decide +kernel)
theorem d_8021_180 {σ : Nat → Nat} {n0 : Nat} {bf : ab_B} : decode (ab_code (zx σ n0 bf).1 8021) 180 = .ok (.aload_n 0, 1) := zd zm_8021 (by decide +kernel)
theorem d_8021_181 {σ : Nat → Nat} {n0 : Nat} {bf : ab_B} : decode (ab_code (zx σ n0 bf).1 8021) 181 = .ok (.getfield 487, 3) := zd zm_8021 (by decide +kernel)
theorem d_8021_184 {σ : Nat → Nat} {n0 : Nat} {bf : ab_B} : decode (ab_code (zx σ n0 bf).1 8021) 184 = .ok (.invokevirtual 471, 3) := zd zm_8021 (by decide +kernel)
theorem d_8021_187 {σ : Nat → Nat} {n0 : Nat} {bf : ab_B} : decode (ab_code (zx σ n0 bf).1 8021) 187 = .ok (.invokestatic 507, 3) := zd zm_8021 (by decide +kernel)
theorem d_8021_190 {σ : Nat → Nat} {n0 : Nat} {bf : ab_B} : decode (ab_code (zx σ n0 bf).1 8021) 190 = .ok (.i2l, 1) := zd zm_8021 (by decide +kernel)
theorem d_8021_191 {σ : Nat → Nat} {n0 : Nat} {bf : ab_B} : decode (ab_code (zx σ n0 bf).1 8021) 191 = .ok (.ladd, 1) := zd zm_8021 (by decide +kernel)
theorem d_8021_192 {σ : Nat → Nat} {n0 : Nat} {bf : ab_B} : decode (ab_code (zx σ n0 bf).1 8021) 192 = .ok (.lstore_n 2, 1) := zd zm_8021 (by decide +kernel)
theorem d_8021_193 {σ : Nat → Nat} {n0 : Nat} {bf : ab_B} : decode (ab_code (zx σ n0 bf).1 8021) 193 = .ok (.aload_n 0, 1) := zd zm_8021 (by decide +kernel)
theorem d_8021_194 {σ : Nat → Nat} {n0 : Nat} {bf : ab_B} : decode (ab_code (zx σ n0 bf).1 8021) 194 = .ok (.dup, 1) := zd zm_8021 (by decide +kernel)
theorem d_8021_195 {σ : Nat → Nat} {n0 : Nat} {bf : ab_B} : decode (ab_code (zx σ n0 bf).1 8021) 195 = .ok (.getfield 487, 3) := zd zm_8021 (by decide +kernel)
theorem d_8021_198 {σ : Nat → Nat} {n0 : Nat} {bf : ab_B} : decode (ab_code (zx σ n0 bf).1 8021) 198 = .ok (.iconst 1, 1) := zd zm_8021 (by decide +kernel)
theorem d_8021_199 {σ : Nat → Nat} {n0 : Nat} {bf : ab_B} : decode (ab_code (zx σ n0 bf).1 8021) 199 = .ok (.iadd, 1) := zd zm_8021 (by decide +kernel)
theorem d_8021_200 {σ : Nat → Nat} {n0 : Nat} {bf : ab_B} : decode (ab_code (zx σ n0 bf).1 8021) 200 = .ok (.putfield 487, 3) := zd zm_8021 (by decide +kernel)
theorem d_8021_203 {σ : Nat → Nat} {n0 : Nat} {bf : ab_B} : decode (ab_code (zx σ n0 bf).1 8021) 203 = .ok (.goto (-63), 3) := zd zm_8021 (by decide +kernel)
theorem d_8021_206 {σ : Nat → Nat} {n0 : Nat} {bf : ab_B} : decode (ab_code (zx σ n0 bf).1 8021) 206 = .ok (.iload 4, 2) := zd zm_8021 (by decide +kernel)
theorem d_8021_208 {σ : Nat → Nat} {n0 : Nat} {bf : ab_B} : decode (ab_code (zx σ n0 bf).1 8021) 208 = .ok (.ifCond .eq 27, 3) := zd zm_8021 (by decide +kernel)
theorem d_8021_211 {σ : Nat → Nat} {n0 : Nat} {bf : ab_B} : decode (ab_code (zx σ n0 bf).1 8021) 211 = .ok (.lload_n 2, 1) := zd zm_8021 (by decide +kernel)
theorem d_8021_212 {σ : Nat → Nat} {n0 : Nat} {bf : ab_B} : decode (ab_code (zx σ n0 bf).1 8021) 212 = .ok (.ldc2_w 497, 3) := zd zm_8021 (by decide +kernel)
theorem d_8021_215 {σ : Nat → Nat} {n0 : Nat} {bf : ab_B} : decode (ab_code (zx σ n0 bf).1 8021) 215 = .ok (.lcmp, 1) := zd zm_8021 (by decide +kernel)
theorem d_8021_216 {σ : Nat → Nat} {n0 : Nat} {bf : ab_B} : decode (ab_code (zx σ n0 bf).1 8021) 216 = .ok (.ifCond .gt 19, 3) := zd zm_8021 (by decide +kernel)
theorem d_8021_219 {σ : Nat → Nat} {n0 : Nat} {bf : ab_B} : decode (ab_code (zx σ n0 bf).1 8021) 219 = .ok (.aload_n 0, 1) := zd zm_8021 (by decide +kernel)
theorem d_8021_220 {σ : Nat → Nat} {n0 : Nat} {bf : ab_B} : decode (ab_code (zx σ n0 bf).1 8021) 220 = .ok (.aload_n 0, 1) := zd zm_8021 (by decide +kernel)
theorem d_8021_221 {σ : Nat → Nat} {n0 : Nat} {bf : ab_B} : decode (ab_code (zx σ n0 bf).1 8021) 221 = .ok (.getfield 487, 3) := zd zm_8021 (by decide +kernel)
theorem d_8021_224 {σ : Nat → Nat} {n0 : Nat} {bf : ab_B} : decode (ab_code (zx σ n0 bf).1 8021) 224 = .ok (.invokevirtual 471, 3) := zd zm_8021 (by decide +kernel)
theorem d_8021_227 {σ : Nat → Nat} {n0 : Nat} {bf : ab_B} : decode (ab_code (zx σ n0 bf).1 8021) 227 = .ok (.invokestatic 507, 3) := zd zm_8021 (by decide +kernel)
theorem d_8021_230 {σ : Nat → Nat} {n0 : Nat} {bf : ab_B} : decode (ab_code (zx σ n0 bf).1 8021) 230 = .ok (.bipush 99, 2) := zd zm_8021 (by decide +kernel)
theorem d_8021_232 {σ : Nat → Nat} {n0 : Nat} {bf : ab_B} : decode (ab_code (zx σ n0 bf).1 8021) 232 = .ok (.if_icmp .ge 9, 3) := zd zm_8021 (by decide +kernel)
theorem d_8021_235 {σ : Nat → Nat} {n0 : Nat} {bf : ab_B} : decode (ab_code (zx σ n0 bf).1 8021) 235 = .ok (.aload_n 0, 1) := zd zm_8021 (by decide +kernel)
theorem d_8021_236 {σ : Nat → Nat} {n0 : Nat} {bf : ab_B} : decode (ab_code (zx σ n0 bf).1 8021) 236 = .ok (.iload_n 1, 1) := zd zm_8021 (by decide +kernel)
theorem d_8021_237 {σ : Nat → Nat} {n0 : Nat} {bf : ab_B} : decode (ab_code (zx σ n0 bf).1 8021) 237 = .ok (.invokevirtual 490, 3) := zd zm_8021 (by decide +kernel)
theorem d_8021_240 {σ : Nat → Nat} {n0 : Nat} {bf : ab_B} : decode (ab_code (zx σ n0 bf).1 8021) 240 = .ok (.return_, 1) := zd zm_8021 (by decide +kernel)
theorem d_8021_241 {σ : Nat → Nat} {n0 : Nat} {bf : ab_B} : decode (ab_code (zx σ n0 bf).1 8021) 241 = .ok (.aload_n 0, 1) := zd zm_8021 (by decide +kernel)
theorem d_8021_242 {σ : Nat → Nat} {n0 : Nat} {bf : ab_B} : decode (ab_code (zx σ n0 bf).1 8021) 242 = .ok (.iconst 3, 1) := zd zm_8021 (by decide +kernel)
theorem d_8021_243 {σ : Nat → Nat} {n0 : Nat} {bf : ab_B} : decode (ab_code (zx σ n0 bf).1 8021) 243 = .ok (.putfield 484, 3) := zd zm_8021 (by decide +kernel)
theorem d_8021_246 {σ : Nat → Nat} {n0 : Nat} {bf : ab_B} : decode (ab_code (zx σ n0 bf).1 8021) 246 = .ok (.aload_n 0, 1) := zd zm_8021 (by decide +kernel)
theorem d_8021_247 {σ : Nat → Nat} {n0 : Nat} {bf : ab_B} : decode (ab_code (zx σ n0 bf).1 8021) 247 = .ok (.lload_n 2, 1) := zd zm_8021 (by decide +kernel)
theorem d_8021_248 {σ : Nat → Nat} {n0 : Nat} {bf : ab_B} : decode (ab_code (zx σ n0 bf).1 8021) 248 = .ok (.l2i, 1) := zd zm_8021 (by decide +kernel)
theorem d_8021_249 {σ : Nat → Nat} {n0 : Nat} {bf : ab_B} : decode (ab_code (zx σ n0 bf).1 8021) 249 = .ok (.putfield 494, 3) := zd zm_8021 (by decide +kernel)
theorem d_8021_252 {σ : Nat → Nat} {n0 : Nat} {bf : ab_B} : decode (ab_code (zx σ n0 bf).1 8021) 252 = .ok (.return_, 1) := zd zm_8021 (by decide +kernel)
def w_X9_readNumber_235 (X : zs_X) (d : Nat) (p0 : Nat) (p1 : Int32) (S : zs_T) (Q : zs_Q) : Prop :=
  (zs_K S p0 = some (.inl 8) ∧ zs_C X d 8016 [.ref p0, .int p1] S (zs_kV (fun S2 => (Q (.returned none) S2)) Q))
theorem u_X9_readNumber_235 {σ : Nat → Nat} {n0 : Nat} {bf : ab_B} {d : Nat} {p0 : Nat} {p1 : Int32} {S : zs_T} {Q : zs_Q} (hB : zt_B bf) (h : w_X9_readNumber_235 (zx σ n0 bf) d p0 p1 S Q) : zs_U (zx σ n0 bf) d 8021 235 [(0, .ref p0), (1, .int p1)] [] S Q := by
  unfold w_X9_readNumber_235 at h
  refine zu_aload_n d_8021_235 rfl (zs_ra _) ?_
  refine zu_iload_n d_8021_236 rfl ?_
  obtain ⟨k1, h⟩ := h
  refine zc_8_490 (x0 := p1) hB rfl k1 d_8021_237 (Nat.le_of_ble_eq_true rfl) h (fun S2 h => ?_)
  exact zu_vret d_8021_240 zr_8021 h
def w_X9_readNumber_246 (X : zs_X) (d : Nat) (p0 : Nat) (p2 : Int64) (S : zs_T) (Q : zs_Q) : Prop :=
  (zs_K S p0 = some (.inl 8) ∧ ab_n0 X.1 ≤ p0 ∧ ∀ S3, S3 = zs_sI S 8009 p0 ((p2).toInt32) → Q (.returned none) S3)
theorem u_X9_readNumber_246 {σ : Nat → Nat} {n0 : Nat} {bf : ab_B} {d : Nat} {p0 : Nat} {p2 : Int64} {S : zs_T} {Q : zs_Q} (hB : zt_B bf) (h : w_X9_readNumber_246 (zx σ n0 bf) d p0 p2 S Q) : zs_U (zx σ n0 bf) d 8021 246 [(0, .ref p0), (2, .long p2)] [] S Q := by
  unfold w_X9_readNumber_246 at h
  refine zu_aload_n d_8021_246 rfl (zs_ra _) ?_
  refine zu_lload_n d_8021_247 rfl ?_
  refine zu_stk d_8021_248 rfl rfl ?_
  obtain ⟨k1, h⟩ := h
  obtain ⟨k2, h⟩ := h
  refine zp_8_494 (v := ((p2).toInt32)) rfl d_8021_249 k1 k2 ?_
  generalize e4 : zs_sI S 8009 p0 ((p2).toInt32) = S3
  have h := h S3 e4.symm
  have K5 : ∀ b, zs_K S3 b = zs_K S b := zs_Kt e4 (zs_KsI _ _ _ _) (fun _ => rfl)
  exact zu_vret d_8021_252 zr_8021 h
def w_X9_readNumber_206 (X : zs_X) (d : Nat) (p0 : Nat) (p1 : Int32) (p2 : Int64) (p4 : Int32) (S : zs_T) (Q : zs_Q) : Prop :=
  (((p4 = 0 → w_X9_readNumber_235 X d p0 p1 S Q) ∧ (¬ (p4 = 0) → ((((2147483647 : Int64) < p2 → w_X9_readNumber_235 X d p0 p1 S Q) ∧ (¬ ((2147483647 : Int64) < p2) → (zs_K S p0 = some (.inl 8) ∧ zs_C X d 8006 [.ref p0, .int (zs_I S 8005 p0)] S (zs_kI (fun v5 S4 => (zs_C X d 8022 [.int v5] S4 (zs_kI (fun v7 S6 => ((((99 : Int32) ≤ v7 → (zs_K S6 p0 = some (.inl 8) ∧ ab_n0 X.1 ≤ p0 ∧ ∀ S11, S11 = zs_sI S6 8006 p0 (3 : Int32) → w_X9_readNumber_246 X d p0 p2 S11 Q)) ∧ (¬ ((99 : Int32) ≤ v7) → w_X9_readNumber_235 X d p0 p1 S6 Q)))) Q))) Q))))))))
theorem u_X9_readNumber_206 {σ : Nat → Nat} {n0 : Nat} {bf : ab_B} {d : Nat} {p0 : Nat} {p1 : Int32} {p2 : Int64} {p4 : Int32} {S : zs_T} {Q : zs_Q} (hB : zt_B bf) (h : w_X9_readNumber_206 (zx σ n0 bf) d p0 p1 p2 p4 S Q) : zs_U (zx σ n0 bf) d 8021 206 [(0, .ref p0), (1, .int p1), (2, .long p2), (4, .int p4)] [] S Q := by
  unfold w_X9_readNumber_206 at h
  refine zu_iload d_8021_206 rfl ?_
  refine zu_ifeq (t := 235) d_8021_208 rfl (fun c1 => ?_) (fun c1 => ?_)
  · have h := h.1 c1
    exact (u_X9_readNumber_235 hB h).weak ⟨rfl, rfl, trivial⟩
  · have h := h.2 c1
    refine zu_lload_n d_8021_211 rfl ?_
    refine zl2_8_497 rfl d_8021_212 ?_
    refine zu_lgt (t := 235) d_8021_215 d_8021_216 rfl (fun c2 => ?_) (fun c2 => ?_)
    · have h := h.1 c2
      exact (u_X9_readNumber_235 hB h).weak ⟨rfl, rfl, trivial⟩
    · have h := h.2 c2
      refine zu_aload_n d_8021_219 rfl (zs_ra _) ?_
      refine zu_aload_n d_8021_220 rfl (zs_ra _) ?_
      obtain ⟨k3, h⟩ := h
      refine zg_8_487 rfl d_8021_221 k3 ?_
      refine zc_8_471 (x0 := (zs_I S 8005 p0)) hB rfl k3 d_8021_224 (Nat.le_of_ble_eq_true rfl) h (fun v5 S4 h => ?_)
      refine zc_8_507 (x0 := v5) hB rfl d_8021_227 (Nat.le_of_ble_eq_true rfl) h (fun v7 S6 h => ?_)
      refine zu_bipush d_8021_230 zj_99 ?_
      refine zu_cmpge (t := 241) d_8021_232 rfl (fun c8 => ?_) (fun c8 => ?_)
      · have h := h.1 c8
        refine zu_aload_n d_8021_241 rfl (zs_ra _) ?_
        refine zu_iconst d_8021_242 zi_3 ?_
        obtain ⟨k9, h⟩ := h
        obtain ⟨k10, h⟩ := h
        refine zp_8_484 (v := (3 : Int32)) rfl d_8021_243 k9 k10 ?_
        generalize e12 : zs_sI S6 8006 p0 (3 : Int32) = S11
        have h := h S11 e12.symm
        have K13 : ∀ b, zs_K S11 b = zs_K S6 b := zs_Kt e12 (zs_KsI _ _ _ _) (fun _ => rfl)
        exact (u_X9_readNumber_246 hB h).weak ⟨rfl, rfl, trivial⟩
      · have h := h.2 c8
        exact (u_X9_readNumber_235 hB h).weak ⟨rfl, rfl, trivial⟩
def w_X9_readNumber_135 (X : zs_X) (d : Nat) (p0 : Nat) (p1 : Int32) (p5 : Int64) (S : zs_T) (Q : zs_Q) : Prop :=
  (zs_U X d 8021 140 [(0, .ref p0), (1, .int p1), (2, .long (0 : Int64)), (4, .int (0 : Int32)), (5, .long p5)] [] S Q)
theorem u_X9_readNumber_135 {σ : Nat → Nat} {n0 : Nat} {bf : ab_B} {d : Nat} {p0 : Nat} {p1 : Int32} {p5 : Int64} {S : zs_T} {Q : zs_Q} (hB : zt_B bf) (h : w_X9_readNumber_135 (zx σ n0 bf) d p0 p1 p5 S Q) : zs_U (zx σ n0 bf) d 8021 135 [(0, .ref p0), (1, .int p1), (5, .long p5)] [] S Q := by
  unfold w_X9_readNumber_135 at h
  refine zu_iconst d_8021_135 zi_0 ?_
  refine zu_istore d_8021_136 (zs_lt zq_8021 rfl) ?_
  refine zu_lconst (v := 0) d_8021_138 rfl ?_
  refine zu_lstore_n d_8021_139 (zs_lt zq_8021 rfl) ?_
  exact h.weak ⟨rfl, rfl, rfl, rfl, rfl, trivial⟩
def w_X9_readNumber_131 (X : zs_X) (d : Nat) (p0 : Nat) (p1 : Int32) (p5 : Int64) (S : zs_T) (Q : zs_Q) : Prop :=
  (zs_U X d 8021 140 [(0, .ref p0), (1, .int p1), (2, .long (0 : Int64)), (4, .int (1 : Int32)), (5, .long p5)] [] S Q)
theorem u_X9_readNumber_131 {σ : Nat → Nat} {n0 : Nat} {bf : ab_B} {d : Nat} {p0 : Nat} {p1 : Int32} {p5 : Int64} {S : zs_T} {Q : zs_Q} (hB : zt_B bf) (h : w_X9_readNumber_131 (zx σ n0 bf) d p0 p1 p5 S Q) : zs_U (zx σ n0 bf) d 8021 131 [(0, .ref p0), (1, .int p1), (5, .long p5)] [] S Q := by
  unfold w_X9_readNumber_131 at h
  refine zu_iconst d_8021_131 zi_1 ?_
  refine zu_goto (t := 136) d_8021_132 rfl ?_
  refine zu_istore d_8021_136 (zs_lt zq_8021 rfl) ?_
  refine zu_lconst (v := 0) d_8021_138 rfl ?_
  refine zu_lstore_n d_8021_139 (zs_lt zq_8021 rfl) ?_
  exact h.weak ⟨rfl, rfl, rfl, rfl, rfl, trivial⟩
def w_X9_readNumber_85 (X : zs_X) (d : Nat) (p0 : Nat) (p1 : Int32) (p5 : Int64) (S : zs_T) (Q : zs_Q) : Prop :=
  (zs_K S p0 = some (.inl 8) ∧ ab_n0 X.1 ≤ p0 ∧ ∀ S3, S3 = zs_sI S 8005 p0 ((zs_I S 8005 p0) + (1 : Int32)) → ((p5 < (2 : Int64) → w_X9_readNumber_135 X d p0 p1 p5 S3 Q) ∧ (¬ (p5 < (2 : Int64)) → ((((36 : Int64) < p5 → w_X9_readNumber_135 X d p0 p1 p5 S3 Q) ∧ (¬ ((36 : Int64) < p5) → (zs_C X d 8006 [.ref p0, .int (zs_I S3 8005 p0)] S3 (zs_kI (fun v9 S8 => (zs_C X d 8022 [.int v9] S8 (zs_kI (fun v11 S10 => (((p5 ≤ ((v11).toInt64) → w_X9_readNumber_135 X d p0 p1 p5 S10 Q) ∧ (¬ (p5 ≤ ((v11).toInt64)) → w_X9_readNumber_131 X d p0 p1 p5 S10 Q)))) Q))) Q))))))))
theorem u_X9_readNumber_85 {σ : Nat → Nat} {n0 : Nat} {bf : ab_B} {d : Nat} {p0 : Nat} {p1 : Int32} {p5 : Int64} {S : zs_T} {Q : zs_Q} (hB : zt_B bf) (h : w_X9_readNumber_85 (zx σ n0 bf) d p0 p1 p5 S Q) : zs_U (zx σ n0 bf) d 8021 85 [(0, .ref p0), (1, .int p1), (5, .long p5)] [] S Q := by
  unfold w_X9_readNumber_85 at h
  refine zu_aload_n d_8021_85 rfl (zs_ra _) ?_
  refine zu_dup d_8021_86 rfl ?_
  obtain ⟨k1, h⟩ := h
  refine zg_8_487 rfl d_8021_87 k1 ?_
  refine zu_iconst d_8021_90 zi_1 ?_
  refine zu_stk d_8021_91 rfl rfl ?_
  obtain ⟨k2, h⟩ := h
  refine zp_8_487 (v := ((zs_I S 8005 p0) + (1 : Int32))) rfl d_8021_92 k1 k2 ?_
  generalize e4 : zs_sI S 8005 p0 ((zs_I S 8005 p0) + (1 : Int32)) = S3
  have h := h S3 e4.symm
  have K5 : ∀ b, zs_K S3 b = zs_K S b := zs_Kt e4 (zs_KsI _ _ _ _) (fun _ => rfl)
  refine zu_lload d_8021_95 rfl ?_
  refine zl2_8_503 rfl d_8021_97 ?_
  refine zu_llt (t := 135) d_8021_100 d_8021_101 rfl (fun c6 => ?_) (fun c6 => ?_)
  · have h := h.1 c6
    exact (u_X9_readNumber_135 hB h).weak ⟨rfl, rfl, rfl, trivial⟩
  · have h := h.2 c6
    refine zu_lload d_8021_104 rfl ?_
    refine zl2_8_505 rfl d_8021_106 ?_
    refine zu_lgt (t := 135) d_8021_109 d_8021_110 rfl (fun c7 => ?_) (fun c7 => ?_)
    · have h := h.1 c7
      exact (u_X9_readNumber_135 hB h).weak ⟨rfl, rfl, rfl, trivial⟩
    · have h := h.2 c7
      refine zu_aload_n d_8021_113 rfl (zs_ra _) ?_
      refine zu_aload_n d_8021_114 rfl (zs_ra _) ?_
      refine zg_8_487 rfl d_8021_115 ((K5 _).trans k1) ?_
      refine zc_8_471 (x0 := (zs_I S3 8005 p0)) hB rfl ((K5 _).trans k1) d_8021_118 (Nat.le_of_ble_eq_true rfl) h (fun v9 S8 h => ?_)
      refine zc_8_507 (x0 := v9) hB rfl d_8021_121 (Nat.le_of_ble_eq_true rfl) h (fun v11 S10 h => ?_)
      refine zu_stk d_8021_124 rfl rfl ?_
      refine zu_lload d_8021_125 rfl ?_
      refine zu_lge (t := 135) d_8021_127 d_8021_128 rfl (fun c12 => ?_) (fun c12 => ?_)
      · have h := h.1 c12
        exact (u_X9_readNumber_135 hB h).weak ⟨rfl, rfl, rfl, trivial⟩
      · have h := h.2 c12
        exact (u_X9_readNumber_131 hB h).weak ⟨rfl, rfl, rfl, trivial⟩
def w_X9_readNumber_52 (X : zs_X) (d : Nat) (p0 : Nat) (p1 : Int32) (q0 : Int64) (S : zs_T) (Q : zs_Q) : Prop :=
  (zs_K S p0 = some (.inl 8) ∧ ab_n0 X.1 ≤ p0 ∧ ∀ S3, S3 = zs_sI S 8005 p0 ((zs_I S 8005 p0) + (1 : Int32)) → zs_U X d 8021 7 [(0, .ref p0), (1, .int p1), (2, .long q0)] [] S3 Q)
theorem u_X9_readNumber_52 {σ : Nat → Nat} {n0 : Nat} {bf : ab_B} {d : Nat} {p0 : Nat} {p1 : Int32} {q0 : Int64} {S : zs_T} {Q : zs_Q} (hB : zt_B bf) (h : w_X9_readNumber_52 (zx σ n0 bf) d p0 p1 q0 S Q) : zs_U (zx σ n0 bf) d 8021 52 [(0, .ref p0), (1, .int p1)] [.long q0] S Q := by
  unfold w_X9_readNumber_52 at h
  refine zu_lstore_n d_8021_52 (zs_lt zq_8021 rfl) ?_
  refine zu_aload_n d_8021_53 rfl (zs_ra _) ?_
  refine zu_dup d_8021_54 rfl ?_
  obtain ⟨k1, h⟩ := h
  refine zg_8_487 rfl d_8021_55 k1 ?_
  refine zu_iconst d_8021_58 zi_1 ?_
  refine zu_stk d_8021_59 rfl rfl ?_
  obtain ⟨k2, h⟩ := h
  refine zp_8_487 (v := ((zs_I S 8005 p0) + (1 : Int32))) rfl d_8021_60 k1 k2 ?_
  generalize e4 : zs_sI S 8005 p0 ((zs_I S 8005 p0) + (1 : Int32)) = S3
  have h := h S3 e4.symm
  have K5 : ∀ b, zs_K S3 b = zs_K S b := zs_Kt e4 (zs_KsI _ _ _ _) (fun _ => rfl)
  refine zu_goto (t := 7) d_8021_63 rfl ?_
  exact h.weak ⟨rfl, rfl, rfl, trivial⟩
def w_X9_readNumber_7 (X : zs_X) (d : Nat) (p0 : Nat) (p1 : Int32) (p2 : Int64) (S : zs_T) (Q : zs_Q) : Prop :=
  (zs_K S p0 = some (.inl 8) ∧ zs_C X d 8006 [.ref p0, .int (zs_I S 8005 p0)] S (zs_kI (fun v3 S2 => (zs_C X d 8020 [.int v3] S2 (zs_kI (fun v5 S4 => (((v5 = 0 → (zs_K S4 p0 = some (.inl 8) ∧ zs_C X d 8006 [.ref p0, .int (zs_I S4 8005 p0)] S4 (zs_kI (fun v9 S8 => (((¬ v9 = (35 : Int32) → w_X9_readNumber_206 X d p0 p1 p2 (1 : Int32) S8 Q) ∧ (¬ (¬ v9 = (35 : Int32)) → (w_X9_readNumber_85 X d p0 p1 p2 S8 Q))))) Q))) ∧ (¬ (v5 = 0) → (((p2 ≤ (2147483647 : Int64) → (zs_K S4 p0 = some (.inl 8) ∧ zs_C X d 8006 [.ref p0, .int (zs_I S4 8005 p0)] S4 (zs_kI (fun v14 S13 => (w_X9_readNumber_52 X d p0 p1 ((((10 : Int64) * p2) + ((v14).toInt64)) - (48 : Int64)) S13 Q)) Q))) ∧ (¬ (p2 ≤ (2147483647 : Int64)) → (w_X9_readNumber_52 X d p0 p1 p2 S4 Q)))))))) Q))) Q))
theorem u_X9_readNumber_7 {σ : Nat → Nat} {n0 : Nat} {bf : ab_B} {d : Nat} {p0 : Nat} {p1 : Int32} {p2 : Int64} {S : zs_T} {Q : zs_Q} (hB : zt_B bf) (h : w_X9_readNumber_7 (zx σ n0 bf) d p0 p1 p2 S Q) : zs_U (zx σ n0 bf) d 8021 7 [(0, .ref p0), (1, .int p1), (2, .long p2)] [] S Q := by
  unfold w_X9_readNumber_7 at h
  refine zu_aload_n d_8021_7 rfl (zs_ra _) ?_
  refine zu_aload_n d_8021_8 rfl (zs_ra _) ?_
  obtain ⟨k1, h⟩ := h
  refine zg_8_487 rfl d_8021_9 k1 ?_
  refine zc_8_471 (x0 := (zs_I S 8005 p0)) hB rfl k1 d_8021_12 (Nat.le_of_ble_eq_true rfl) h (fun v3 S2 h => ?_)
  refine zc_8_460 (x0 := v3) hB rfl d_8021_15 (Nat.le_of_ble_eq_true rfl) h (fun v5 S4 h => ?_)
  refine zu_ifeq (t := 66) d_8021_18 rfl (fun c6 => ?_) (fun c6 => ?_)
  · have h := h.1 c6
    refine zu_iconst d_8021_66 zi_1 ?_
    refine zu_istore d_8021_67 (zs_lt zq_8021 rfl) ?_
    refine zu_aload_n d_8021_69 rfl (zs_ra _) ?_
    refine zu_aload_n d_8021_70 rfl (zs_ra _) ?_
    obtain ⟨k7, h⟩ := h
    refine zg_8_487 rfl d_8021_71 k7 ?_
    refine zc_8_471 (x0 := (zs_I S4 8005 p0)) hB rfl k7 d_8021_74 (Nat.le_of_ble_eq_true rfl) h (fun v9 S8 h => ?_)
    refine zu_bipush d_8021_77 zj_35 ?_
    refine zu_cmpne (t := 206) d_8021_79 rfl (fun c10 => ?_) (fun c10 => ?_)
    · have h := h.1 c10
      exact (u_X9_readNumber_206 hB h).weak ⟨rfl, rfl, rfl, rfl, trivial⟩
    · have h := h.2 c10
      refine zu_lload_n d_8021_82 rfl ?_
      refine zu_lstore d_8021_83 (zs_lt zq_8021 rfl) ?_
      exact (u_X9_readNumber_85 hB h).weak ⟨rfl, rfl, rfl, trivial⟩
  · have h := h.2 c6
    refine zu_lload_n d_8021_21 rfl ?_
    refine zl2_8_497 rfl d_8021_22 ?_
    refine zu_lle (t := 33) d_8021_25 d_8021_26 rfl (fun c11 => ?_) (fun c11 => ?_)
    · have h := h.1 c11
      refine zl2_8_499 rfl d_8021_33 ?_
      refine zu_lload_n d_8021_36 rfl ?_
      refine zu_stk d_8021_37 rfl rfl ?_
      refine zu_aload_n d_8021_38 rfl (zs_ra _) ?_
      refine zu_aload_n d_8021_39 rfl (zs_ra _) ?_
      obtain ⟨k12, h⟩ := h
      refine zg_8_487 rfl d_8021_40 k12 ?_
      refine zc_8_471 (x0 := (zs_I S4 8005 p0)) hB rfl k12 d_8021_43 (Nat.le_of_ble_eq_true rfl) h (fun v14 S13 h => ?_)
      refine zu_stk d_8021_46 rfl rfl ?_
      refine zu_stk d_8021_47 rfl rfl ?_
      refine zl2_8_501 rfl d_8021_48 ?_
      refine zu_stk d_8021_51 rfl rfl ?_
      exact (u_X9_readNumber_52 hB h).weak ⟨rfl, rfl, trivial⟩
    · have h := h.2 c11
      refine zu_lload_n d_8021_29 rfl ?_
      refine zu_goto (t := 52) d_8021_30 rfl ?_
      exact (u_X9_readNumber_52 hB h).weak ⟨rfl, rfl, trivial⟩
def w_X9_readNumber_192 (X : zs_X) (d : Nat) (p0 : Nat) (p1 : Int32) (p4 : Int32) (p5 : Int64) (q0 : Int64) (S : zs_T) (Q : zs_Q) : Prop :=
  (zs_K S p0 = some (.inl 8) ∧ ab_n0 X.1 ≤ p0 ∧ ∀ S3, S3 = zs_sI S 8005 p0 ((zs_I S 8005 p0) + (1 : Int32)) → zs_U X d 8021 140 [(0, .ref p0), (1, .int p1), (2, .long q0), (4, .int p4), (5, .long p5)] [] S3 Q)
theorem u_X9_readNumber_192 {σ : Nat → Nat} {n0 : Nat} {bf : ab_B} {d : Nat} {p0 : Nat} {p1 : Int32} {p4 : Int32} {p5 : Int64} {q0 : Int64} {S : zs_T} {Q : zs_Q} (hB : zt_B bf) (h : w_X9_readNumber_192 (zx σ n0 bf) d p0 p1 p4 p5 q0 S Q) : zs_U (zx σ n0 bf) d 8021 192 [(0, .ref p0), (1, .int p1), (4, .int p4), (5, .long p5)] [.long q0] S Q := by
  unfold w_X9_readNumber_192 at h
  refine zu_lstore_n d_8021_192 (zs_lt zq_8021 rfl) ?_
  refine zu_aload_n d_8021_193 rfl (zs_ra _) ?_
  refine zu_dup d_8021_194 rfl ?_
  obtain ⟨k1, h⟩ := h
  refine zg_8_487 rfl d_8021_195 k1 ?_
  refine zu_iconst d_8021_198 zi_1 ?_
  refine zu_stk d_8021_199 rfl rfl ?_
  obtain ⟨k2, h⟩ := h
  refine zp_8_487 (v := ((zs_I S 8005 p0) + (1 : Int32))) rfl d_8021_200 k1 k2 ?_
  generalize e4 : zs_sI S 8005 p0 ((zs_I S 8005 p0) + (1 : Int32)) = S3
  have h := h S3 e4.symm
  have K5 : ∀ b, zs_K S3 b = zs_K S b := zs_Kt e4 (zs_KsI _ _ _ _) (fun _ => rfl)
  refine zu_goto (t := 140) d_8021_203 rfl ?_
  exact h.weak ⟨rfl, rfl, rfl, rfl, rfl, trivial⟩
def w_X9_readNumber_140 (X : zs_X) (d : Nat) (p0 : Nat) (p1 : Int32) (p2 : Int64) (p4 : Int32) (p5 : Int64) (S : zs_T) (Q : zs_Q) : Prop :=
  (((p4 = 0 → w_X9_readNumber_206 X d p0 p1 p2 p4 S Q) ∧ (¬ (p4 = 0) → (zs_K S p0 = some (.inl 8) ∧ zs_C X d 8006 [.ref p0, .int (zs_I S 8005 p0)] S (zs_kI (fun v4 S3 => (zs_C X d 8022 [.int v4] S3 (zs_kI (fun v6 S5 => (((p5 ≤ ((v6).toInt64) → w_X9_readNumber_206 X d p0 p1 p2 p4 S5 Q) ∧ (¬ (p5 ≤ ((v6).toInt64)) → (((p2 ≤ (2147483647 : Int64) → (zs_K S5 p0 = some (.inl 8) ∧ zs_C X d 8006 [.ref p0, .int (zs_I S5 8005 p0)] S5 (zs_kI (fun v11 S10 => (zs_C X d 8022 [.int v11] S10 (zs_kI (fun v13 S12 => (w_X9_readNumber_192 X d p0 p1 p4 p5 ((p5 * p2) + ((v13).toInt64)) S12 Q)) Q))) Q))) ∧ (¬ (p2 ≤ (2147483647 : Int64)) → (w_X9_readNumber_192 X d p0 p1 p4 p5 p2 S5 Q)))))))) Q))) Q)))))
theorem u_X9_readNumber_140 {σ : Nat → Nat} {n0 : Nat} {bf : ab_B} {d : Nat} {p0 : Nat} {p1 : Int32} {p2 : Int64} {p4 : Int32} {p5 : Int64} {S : zs_T} {Q : zs_Q} (hB : zt_B bf) (h : w_X9_readNumber_140 (zx σ n0 bf) d p0 p1 p2 p4 p5 S Q) : zs_U (zx σ n0 bf) d 8021 140 [(0, .ref p0), (1, .int p1), (2, .long p2), (4, .int p4), (5, .long p5)] [] S Q := by
  unfold w_X9_readNumber_140 at h
  refine zu_iload d_8021_140 rfl ?_
  refine zu_ifeq (t := 206) d_8021_142 rfl (fun c1 => ?_) (fun c1 => ?_)
  · have h := h.1 c1
    exact (u_X9_readNumber_206 hB h).weak ⟨rfl, rfl, rfl, rfl, trivial⟩
  · have h := h.2 c1
    refine zu_aload_n d_8021_145 rfl (zs_ra _) ?_
    refine zu_aload_n d_8021_146 rfl (zs_ra _) ?_
    obtain ⟨k2, h⟩ := h
    refine zg_8_487 rfl d_8021_147 k2 ?_
    refine zc_8_471 (x0 := (zs_I S 8005 p0)) hB rfl k2 d_8021_150 (Nat.le_of_ble_eq_true rfl) h (fun v4 S3 h => ?_)
    refine zc_8_507 (x0 := v4) hB rfl d_8021_153 (Nat.le_of_ble_eq_true rfl) h (fun v6 S5 h => ?_)
    refine zu_stk d_8021_156 rfl rfl ?_
    refine zu_lload d_8021_157 rfl ?_
    refine zu_lge (t := 206) d_8021_159 d_8021_160 rfl (fun c7 => ?_) (fun c7 => ?_)
    · have h := h.1 c7
      exact (u_X9_readNumber_206 hB h).weak ⟨rfl, rfl, rfl, rfl, trivial⟩
    · have h := h.2 c7
      refine zu_lload_n d_8021_163 rfl ?_
      refine zl2_8_497 rfl d_8021_164 ?_
      refine zu_lle (t := 175) d_8021_167 d_8021_168 rfl (fun c8 => ?_) (fun c8 => ?_)
      · have h := h.1 c8
        refine zu_lload d_8021_175 rfl ?_
        refine zu_lload_n d_8021_177 rfl ?_
        refine zu_stk d_8021_178 rfl rfl ?_
        refine zu_aload_n d_8021_179 rfl (zs_ra _) ?_
        refine zu_aload_n d_8021_180 rfl (zs_ra _) ?_
        obtain ⟨k9, h⟩ := h
        refine zg_8_487 rfl d_8021_181 k9 ?_
        refine zc_8_471 (x0 := (zs_I S5 8005 p0)) hB rfl k9 d_8021_184 (Nat.le_of_ble_eq_true rfl) h (fun v11 S10 h => ?_)
        refine zc_8_507 (x0 := v11) hB rfl d_8021_187 (Nat.le_of_ble_eq_true rfl) h (fun v13 S12 h => ?_)
        refine zu_stk d_8021_190 rfl rfl ?_
        refine zu_stk d_8021_191 rfl rfl ?_
        exact (u_X9_readNumber_192 hB h).weak ⟨rfl, rfl, rfl, rfl, trivial⟩
      · have h := h.2 c8
        refine zu_lload_n d_8021_171 rfl ?_
        refine zu_goto (t := 192) d_8021_172 rfl ?_
        exact (u_X9_readNumber_192 hB h).weak ⟨rfl, rfl, rfl, rfl, trivial⟩
def w_X9_readNumber (X : zs_X) (d : Nat) (p0 : Nat) (S : zs_T) (Q : zs_Q) : Prop :=
  (zs_K S p0 = some (.inl 8) ∧ zs_U X d 8021 7 [(0, .ref p0), (1, .int (zs_I S 8005 p0)), (2, .long (0 : Int64))] [] S Q)
theorem u_X9_readNumber {σ : Nat → Nat} {n0 : Nat} {bf : ab_B} {d : Nat} {p0 : Nat} {S : zs_T} {Q : zs_Q} (hB : zt_B bf) (hd : 1 ≤ d) (h : w_X9_readNumber (zx σ n0 bf) (d - 1) p0 S Q) : zs_C (zx σ n0 bf) d 8021 [.ref p0] S Q := by
  have hL : lv_args 0 [.ref p0] = [(0, .ref p0)] := rfl
  refine zs_C.of1 (hB.2 8021 (by decide) (by decide)) hd (by rw [hL]; exact zs_sub_self _ (by exact ⟨rfl, trivial⟩)) ?_
  rw [hL]
  clear hL
  unfold w_X9_readNumber at h
  refine zu_aload_n d_8021_0 rfl (zs_ra _) ?_
  obtain ⟨k1, h⟩ := h
  refine zg_8_487 rfl d_8021_1 k1 ?_
  refine zu_istore_n d_8021_4 (zs_lt zq_8021 rfl) ?_
  refine zu_lconst (v := 0) d_8021_5 rfl ?_
  refine zu_lstore_n d_8021_6 (zs_lt zq_8021 rfl) ?_
  exact h.weak ⟨rfl, rfl, rfl, trivial⟩
/-! SchemaPascalModel.digit(I)I -/
theorem zm_8022 {σ : Nat → Nat} {n0 : Nat} {bf : ab_B} : ab_code (zx σ n0 bf).1 8022 = prog_17_method_9_code := rfl
theorem zq_8022 {σ : Nat → Nat} {n0 : Nat} {bf : ab_B} : ab_maxL (zx σ n0 bf).1 8022 = 1 := rfl
theorem zr_8022 {σ : Nat → Nat} {n0 : Nat} {bf : ab_B} : ab_ret (zx σ n0 bf).1 8022 = (Option.some Jvm.ClassFile.FieldType.int) := rfl
theorem d_8022_0 {σ : Nat → Nat} {n0 : Nat} {bf : ab_B} : decode (ab_code (zx σ n0 bf).1 8022) 0 = .ok (.iload_n 0, 1) := zd zm_8022 (by decide +kernel)
theorem d_8022_1 {σ : Nat → Nat} {n0 : Nat} {bf : ab_B} : decode (ab_code (zx σ n0 bf).1 8022) 1 = .ok (.invokestatic 460, 3) := zd zm_8022 (by decide +kernel)
theorem d_8022_4 {σ : Nat → Nat} {n0 : Nat} {bf : ab_B} : decode (ab_code (zx σ n0 bf).1 8022) 4 = .ok (.ifCond .eq 10, 3) := zd zm_8022 (by decide +kernel)
theorem d_8022_7 {σ : Nat → Nat} {n0 : Nat} {bf : ab_B} : decode (ab_code (zx σ n0 bf).1 8022) 7 = .ok (.iload_n 0, 1) := zd zm_8022 (by decide +kernel)
theorem d_8022_8 {σ : Nat → Nat} {n0 : Nat} {bf : ab_B} : decode (ab_code (zx σ n0 bf).1 8022) 8 = .ok (.bipush 48, 2) := zd zm_8022 (by decide +kernel)
theorem d_8022_10 {σ : Nat → Nat} {n0 : Nat} {bf : ab_B} : decode (ab_code (zx σ n0 bf).1 8022) 10 = .ok (.isub, 1) := zd zm_8022 (by decide +kernel)
theorem d_8022_11 {σ : Nat → Nat} {n0 : Nat} {bf : ab_B} : decode (ab_code (zx σ n0 bf).1 8022) 11 = .ok (.goto 25, 3) := zd zm_8022 (by decide +kernel)
theorem d_8022_14 {σ : Nat → Nat} {n0 : Nat} {bf : ab_B} : decode (ab_code (zx σ n0 bf).1 8022) 14 = .ok (.iload_n 0, 1) := zd zm_8022 (by decide +kernel)
theorem d_8022_15 {σ : Nat → Nat} {n0 : Nat} {bf : ab_B} : decode (ab_code (zx σ n0 bf).1 8022) 15 = .ok (.invokestatic 464, 3) := zd zm_8022 (by decide +kernel)
theorem d_8022_18 {σ : Nat → Nat} {n0 : Nat} {bf : ab_B} : decode (ab_code (zx σ n0 bf).1 8022) 18 = .ok (.ifCond .eq 16, 3) := zd zm_8022 (by decide +kernel)
theorem d_8022_21 {σ : Nat → Nat} {n0 : Nat} {bf : ab_B} : decode (ab_code (zx σ n0 bf).1 8022) 21 = .ok (.iload_n 0, 1) := zd zm_8022 (by decide +kernel)
theorem d_8022_22 {σ : Nat → Nat} {n0 : Nat} {bf : ab_B} : decode (ab_code (zx σ n0 bf).1 8022) 22 = .ok (.invokestatic 467, 3) := zd zm_8022 (by decide +kernel)
theorem d_8022_25 {σ : Nat → Nat} {n0 : Nat} {bf : ab_B} : decode (ab_code (zx σ n0 bf).1 8022) 25 = .ok (.bipush 97, 2) := zd zm_8022 (by decide +kernel)
theorem d_8022_27 {σ : Nat → Nat} {n0 : Nat} {bf : ab_B} : decode (ab_code (zx σ n0 bf).1 8022) 27 = .ok (.isub, 1) := zd zm_8022 (by decide +kernel)
theorem d_8022_28 {σ : Nat → Nat} {n0 : Nat} {bf : ab_B} : decode (ab_code (zx σ n0 bf).1 8022) 28 = .ok (.bipush 10, 2) := zd zm_8022 (by decide +kernel)
theorem d_8022_30 {σ : Nat → Nat} {n0 : Nat} {bf : ab_B} : decode (ab_code (zx σ n0 bf).1 8022) 30 = .ok (.iadd, 1) := zd zm_8022 (by decide +kernel)
theorem d_8022_31 {σ : Nat → Nat} {n0 : Nat} {bf : ab_B} : decode (ab_code (zx σ n0 bf).1 8022) 31 = .ok (.goto 5, 3) := zd zm_8022 (by decide +kernel)
theorem d_8022_34 {σ : Nat → Nat} {n0 : Nat} {bf : ab_B} : decode (ab_code (zx σ n0 bf).1 8022) 34 = .ok (.bipush 99, 2) := zd zm_8022 (by decide +kernel)
theorem d_8022_36 {σ : Nat → Nat} {n0 : Nat} {bf : ab_B} : decode (ab_code (zx σ n0 bf).1 8022) 36 = .ok (.ireturn, 1) := zd zm_8022 (by decide +kernel)
def w_X9_digit (X : zs_X) (d : Nat) (p0 : Int32) (S : zs_T) (Q : zs_Q) : Prop :=
  (zs_C X d 8020 [.int p0] S (zs_kI (fun v2 S1 => (((v2 = 0 → (zs_C X d 8018 [.int p0] S1 (zs_kI (fun v5 S4 => (((v5 = 0 → (Q (.returned (some (.int (99 : Int32)))) S4)) ∧ (¬ (v5 = 0) → (zs_C X d 8007 [.int p0] S4 (zs_kI (fun v8 S7 => (Q (.returned (some (.int ((v8 - (97 : Int32)) + (10 : Int32))))) S7)) Q)))))) Q))) ∧ (¬ (v2 = 0) → (Q (.returned (some (.int (p0 - (48 : Int32))))) S1))))) Q))
theorem u_X9_digit {σ : Nat → Nat} {n0 : Nat} {bf : ab_B} {d : Nat} {p0 : Int32} {S : zs_T} {Q : zs_Q} (hB : zt_B bf) (hd : 1 ≤ d) (h : w_X9_digit (zx σ n0 bf) (d - 1) p0 S Q) : zs_C (zx σ n0 bf) d 8022 [.int p0] S Q := by
  have hL : lv_args 0 [.int p0] = [(0, .int p0)] := rfl
  refine zs_C.of1 (hB.2 8022 (by decide) (by decide)) hd (by rw [hL]; exact zs_sub_self _ (by exact ⟨rfl, trivial⟩)) ?_
  rw [hL]
  clear hL
  unfold w_X9_digit at h
  refine zu_iload_n d_8022_0 rfl ?_
  refine zc_8_460 (x0 := p0) hB rfl d_8022_1 (Nat.le_of_ble_eq_true rfl) h (fun v2 S1 h => ?_)
  refine zu_ifeq (t := 14) d_8022_4 rfl (fun c3 => ?_) (fun c3 => ?_)
  · have h := h.1 c3
    refine zu_iload_n d_8022_14 rfl ?_
    refine zc_8_464 (x0 := p0) hB rfl d_8022_15 (Nat.le_of_ble_eq_true rfl) h (fun v5 S4 h => ?_)
    refine zu_ifeq (t := 34) d_8022_18 rfl (fun c6 => ?_) (fun c6 => ?_)
    · have h := h.1 c6
      refine zu_bipush d_8022_34 zj_99 ?_
      exact zu_iret d_8022_36 zr_8022 rfl h
    · have h := h.2 c6
      refine zu_iload_n d_8022_21 rfl ?_
      refine zc_8_467 (x0 := p0) hB rfl d_8022_22 (Nat.le_of_ble_eq_true rfl) h (fun v8 S7 h => ?_)
      refine zu_bipush d_8022_25 zj_97 ?_
      refine zu_stk d_8022_27 rfl rfl ?_
      refine zu_bipush d_8022_28 zj_10 ?_
      refine zu_stk d_8022_30 rfl rfl ?_
      refine zu_goto (t := 36) d_8022_31 rfl ?_
      exact zu_iret d_8022_36 zr_8022 rfl h
  · have h := h.2 c3
    refine zu_iload_n d_8022_7 rfl ?_
    refine zu_bipush d_8022_8 zj_48 ?_
    refine zu_stk d_8022_10 rfl rfl ?_
    refine zu_goto (t := 36) d_8022_11 rfl ?_
    exact zu_iret d_8022_36 zr_8022 rfl h
/-! SchemaPascalModel.readText()V -/
theorem zm_8023 {σ : Nat → Nat} {n0 : Nat} {bf : ab_B} : ab_code (zx σ n0 bf).1 8023 = prog_17_method_16_code := rfl
theorem zq_8023 {σ : Nat → Nat} {n0 : Nat} {bf : ab_B} : ab_maxL (zx σ n0 bf).1 8023 = 5 := rfl
theorem zr_8023 {σ : Nat → Nat} {n0 : Nat} {bf : ab_B} : ab_ret (zx σ n0 bf).1 8023 = (Option.none : Option Jvm.ClassFile.FieldType) := rfl
theorem d_8023_0 {σ : Nat → Nat} {n0 : Nat} {bf : ab_B} : decode (ab_code (zx σ n0 bf).1 8023) 0 = .ok (.aload_n 0, 1) := zd zm_8023 (by decide +kernel)
theorem d_8023_1 {σ : Nat → Nat} {n0 : Nat} {bf : ab_B} : decode (ab_code (zx σ n0 bf).1 8023) 1 = .ok (.getfield 487, 3) := zd zm_8023 (by decide +kernel)
theorem d_8023_4 {σ : Nat → Nat} {n0 : Nat} {bf : ab_B} : decode (ab_code (zx σ n0 bf).1 8023) 4 = .ok (.istore_n 1, 1) := zd zm_8023 (by decide +kernel)
theorem d_8023_5 {σ : Nat → Nat} {n0 : Nat} {bf : ab_B} : decode (ab_code (zx σ n0 bf).1 8023) 5 = .ok (.aload_n 0, 1) := zd zm_8023 (by decide +kernel)
theorem d_8023_6 {σ : Nat → Nat} {n0 : Nat} {bf : ab_B} : decode (ab_code (zx σ n0 bf).1 8023) 6 = .ok (.getfield 510, 3) := zd zm_8023 (by decide +kernel)
theorem d_8023_9 {σ : Nat → Nat} {n0 : Nat} {bf : ab_B} : decode (ab_code (zx σ n0 bf).1 8023) 9 = .ok (.istore_n 2, 1) := zd zm_8023 (by decide +kernel)
theorem d_8023_10 {σ : Nat → Nat} {n0 : Nat} {bf : ab_B} : decode (ab_code (zx σ n0 bf).1 8023) 10 = .ok (.aload_n 0, 1) := zd zm_8023 (by decide +kernel)
theorem d_8023_11 {σ : Nat → Nat} {n0 : Nat} {bf : ab_B} : decode (ab_code (zx σ n0 bf).1 8023) 11 = .ok (.dup, 1) := zd zm_8023 (by decide +kernel)
theorem d_8023_12 {σ : Nat → Nat} {n0 : Nat} {bf : ab_B} : decode (ab_code (zx σ n0 bf).1 8023) 12 = .ok (.getfield 487, 3) := zd zm_8023 (by decide +kernel)
theorem d_8023_15 {σ : Nat → Nat} {n0 : Nat} {bf : ab_B} : decode (ab_code (zx σ n0 bf).1 8023) 15 = .ok (.iconst 1, 1) := zd zm_8023 (by decide +kernel)
theorem d_8023_16 {σ : Nat → Nat} {n0 : Nat} {bf : ab_B} : decode (ab_code (zx σ n0 bf).1 8023) 16 = .ok (.iadd, 1) := zd zm_8023 (by decide +kernel)
theorem d_8023_17 {σ : Nat → Nat} {n0 : Nat} {bf : ab_B} : decode (ab_code (zx σ n0 bf).1 8023) 17 = .ok (.putfield 487, 3) := zd zm_8023 (by decide +kernel)
theorem d_8023_20 {σ : Nat → Nat} {n0 : Nat} {bf : ab_B} : decode (ab_code (zx σ n0 bf).1 8023) 20 = .ok (.iconst 1, 1) := zd zm_8023 (by decide +kernel)
theorem d_8023_21 {σ : Nat → Nat} {n0 : Nat} {bf : ab_B} : decode (ab_code (zx σ n0 bf).1 8023) 21 = .ok (.istore_n 3, 1) := zd zm_8023 (by decide +kernel)
theorem d_8023_22 {σ : Nat → Nat} {n0 : Nat} {bf : ab_B} : decode (ab_code (zx σ n0 bf).1 8023) 22 = .ok (.iload_n 3, 1) := zd zm_8023 (by decide +kernel)
theorem d_8023_23 {σ : Nat → Nat} {n0 : Nat} {bf : ab_B} : decode (ab_code (zx σ n0 bf).1 8023) 23 = .ok (.ifCond .eq 104, 3) := zd zm_8023 (by decide +kernel)
theorem d_8023_26 {σ : Nat → Nat} {n0 : Nat} {bf : ab_B} : decode (ab_code (zx σ n0 bf).1 8023) 26 = .ok (.aload_n 0, 1) := zd zm_8023 (by decide +kernel)
theorem d_8023_27 {σ : Nat → Nat} {n0 : Nat} {bf : ab_B} : decode (ab_code (zx σ n0 bf).1 8023) 27 = .ok (.aload_n 0, 1) := zd zm_8023 (by decide +kernel)
theorem d_8023_28 {σ : Nat → Nat} {n0 : Nat} {bf : ab_B} : decode (ab_code (zx σ n0 bf).1 8023) 28 = .ok (.getfield 487, 3) := zd zm_8023 (by decide +kernel)
theorem d_8023_31 {σ : Nat → Nat} {n0 : Nat} {bf : ab_B} : decode (ab_code (zx σ n0 bf).1 8023) 31 = .ok (.invokevirtual 471, 3) := zd zm_8023 (by decide +kernel)
theorem d_8023_34 {σ : Nat → Nat} {n0 : Nat} {bf : ab_B} : decode (ab_code (zx σ n0 bf).1 8023) 34 = .ok (.istore 4, 2) := zd zm_8023 (by decide +kernel)
theorem d_8023_36 {σ : Nat → Nat} {n0 : Nat} {bf : ab_B} : decode (ab_code (zx σ n0 bf).1 8023) 36 = .ok (.iload 4, 2) := zd zm_8023 (by decide +kernel)
theorem d_8023_38 {σ : Nat → Nat} {n0 : Nat} {bf : ab_B} : decode (ab_code (zx σ n0 bf).1 8023) 38 = .ok (.iconst (-1), 1) := zd zm_8023 (by decide +kernel)
theorem d_8023_39 {σ : Nat → Nat} {n0 : Nat} {bf : ab_B} : decode (ab_code (zx σ n0 bf).1 8023) 39 = .ok (.if_icmp .eq 10, 3) := zd zm_8023 (by decide +kernel)
theorem d_8023_42 {σ : Nat → Nat} {n0 : Nat} {bf : ab_B} : decode (ab_code (zx σ n0 bf).1 8023) 42 = .ok (.iload 4, 2) := zd zm_8023 (by decide +kernel)
theorem d_8023_44 {σ : Nat → Nat} {n0 : Nat} {bf : ab_B} : decode (ab_code (zx σ n0 bf).1 8023) 44 = .ok (.bipush 32, 2) := zd zm_8023 (by decide +kernel)
theorem d_8023_46 {σ : Nat → Nat} {n0 : Nat} {bf : ab_B} : decode (ab_code (zx σ n0 bf).1 8023) 46 = .ok (.if_icmp .ge 9, 3) := zd zm_8023 (by decide +kernel)
theorem d_8023_49 {σ : Nat → Nat} {n0 : Nat} {bf : ab_B} : decode (ab_code (zx σ n0 bf).1 8023) 49 = .ok (.aload_n 0, 1) := zd zm_8023 (by decide +kernel)
theorem d_8023_50 {σ : Nat → Nat} {n0 : Nat} {bf : ab_B} : decode (ab_code (zx σ n0 bf).1 8023) 50 = .ok (.iload_n 1, 1) := zd zm_8023 (by decide +kernel)
theorem d_8023_51 {σ : Nat → Nat} {n0 : Nat} {bf : ab_B} : decode (ab_code (zx σ n0 bf).1 8023) 51 = .ok (.invokevirtual 490, 3) := zd zm_8023 (by decide +kernel)
theorem d_8023_54 {σ : Nat → Nat} {n0 : Nat} {bf : ab_B} : decode (ab_code (zx σ n0 bf).1 8023) 54 = .ok (.return_, 1) := zd zm_8023 (by decide +kernel)
theorem d_8023_55 {σ : Nat → Nat} {n0 : Nat} {bf : ab_B} : decode (ab_code (zx σ n0 bf).1 8023) 55 = .ok (.iload 4, 2) := zd zm_8023 (by decide +kernel)
theorem d_8023_57 {σ : Nat → Nat} {n0 : Nat} {bf : ab_B} : decode (ab_code (zx σ n0 bf).1 8023) 57 = .ok (.bipush 39, 2) := zd zm_8023 (by decide +kernel)
theorem d_8023_59 {σ : Nat → Nat} {n0 : Nat} {bf : ab_B} : decode (ab_code (zx σ n0 bf).1 8023) 59 = .ok (.if_icmp .ne 18, 3) := zd zm_8023 (by decide +kernel)
theorem d_8023_62 {σ : Nat → Nat} {n0 : Nat} {bf : ab_B} : decode (ab_code (zx σ n0 bf).1 8023) 62 = .ok (.aload_n 0, 1) := zd zm_8023 (by decide +kernel)
theorem d_8023_63 {σ : Nat → Nat} {n0 : Nat} {bf : ab_B} : decode (ab_code (zx σ n0 bf).1 8023) 63 = .ok (.aload_n 0, 1) := zd zm_8023 (by decide +kernel)
theorem d_8023_64 {σ : Nat → Nat} {n0 : Nat} {bf : ab_B} : decode (ab_code (zx σ n0 bf).1 8023) 64 = .ok (.getfield 487, 3) := zd zm_8023 (by decide +kernel)
theorem d_8023_67 {σ : Nat → Nat} {n0 : Nat} {bf : ab_B} : decode (ab_code (zx σ n0 bf).1 8023) 67 = .ok (.iconst 1, 1) := zd zm_8023 (by decide +kernel)
theorem d_8023_68 {σ : Nat → Nat} {n0 : Nat} {bf : ab_B} : decode (ab_code (zx σ n0 bf).1 8023) 68 = .ok (.iadd, 1) := zd zm_8023 (by decide +kernel)
theorem d_8023_69 {σ : Nat → Nat} {n0 : Nat} {bf : ab_B} : decode (ab_code (zx σ n0 bf).1 8023) 69 = .ok (.invokevirtual 471, 3) := zd zm_8023 (by decide +kernel)
theorem d_8023_72 {σ : Nat → Nat} {n0 : Nat} {bf : ab_B} : decode (ab_code (zx σ n0 bf).1 8023) 72 = .ok (.bipush 39, 2) := zd zm_8023 (by decide +kernel)
theorem d_8023_74 {σ : Nat → Nat} {n0 : Nat} {bf : ab_B} : decode (ab_code (zx σ n0 bf).1 8023) 74 = .ok (.if_icmp .ne 7, 3) := zd zm_8023 (by decide +kernel)
theorem d_8023_77 {σ : Nat → Nat} {n0 : Nat} {bf : ab_B} : decode (ab_code (zx σ n0 bf).1 8023) 77 = .ok (.iconst 1, 1) := zd zm_8023 (by decide +kernel)
theorem d_8023_78 {σ : Nat → Nat} {n0 : Nat} {bf : ab_B} : decode (ab_code (zx σ n0 bf).1 8023) 78 = .ok (.goto 4, 3) := zd zm_8023 (by decide +kernel)
theorem d_8023_81 {σ : Nat → Nat} {n0 : Nat} {bf : ab_B} : decode (ab_code (zx σ n0 bf).1 8023) 81 = .ok (.iconst 0, 1) := zd zm_8023 (by decide +kernel)
theorem d_8023_82 {σ : Nat → Nat} {n0 : Nat} {bf : ab_B} : decode (ab_code (zx σ n0 bf).1 8023) 82 = .ok (.istore_n 3, 1) := zd zm_8023 (by decide +kernel)
theorem d_8023_83 {σ : Nat → Nat} {n0 : Nat} {bf : ab_B} : decode (ab_code (zx σ n0 bf).1 8023) 83 = .ok (.aload_n 0, 1) := zd zm_8023 (by decide +kernel)
theorem d_8023_84 {σ : Nat → Nat} {n0 : Nat} {bf : ab_B} : decode (ab_code (zx σ n0 bf).1 8023) 84 = .ok (.dup, 1) := zd zm_8023 (by decide +kernel)
theorem d_8023_85 {σ : Nat → Nat} {n0 : Nat} {bf : ab_B} : decode (ab_code (zx σ n0 bf).1 8023) 85 = .ok (.getfield 487, 3) := zd zm_8023 (by decide +kernel)
theorem d_8023_88 {σ : Nat → Nat} {n0 : Nat} {bf : ab_B} : decode (ab_code (zx σ n0 bf).1 8023) 88 = .ok (.iload 4, 2) := zd zm_8023 (by decide +kernel)
theorem d_8023_90 {σ : Nat → Nat} {n0 : Nat} {bf : ab_B} : decode (ab_code (zx σ n0 bf).1 8023) 90 = .ok (.bipush 39, 2) := zd zm_8023 (by decide +kernel)
theorem d_8023_92 {σ : Nat → Nat} {n0 : Nat} {bf : ab_B} : decode (ab_code (zx σ n0 bf).1 8023) 92 = .ok (.if_icmp .ne 11, 3) := zd zm_8023 (by decide +kernel)
theorem d_8023_95 {σ : Nat → Nat} {n0 : Nat} {bf : ab_B} : decode (ab_code (zx σ n0 bf).1 8023) 95 = .ok (.iload_n 3, 1) := zd zm_8023 (by decide +kernel)
theorem d_8023_96 {σ : Nat → Nat} {n0 : Nat} {bf : ab_B} : decode (ab_code (zx σ n0 bf).1 8023) 96 = .ok (.ifCond .eq 7, 3) := zd zm_8023 (by decide +kernel)
theorem d_8023_99 {σ : Nat → Nat} {n0 : Nat} {bf : ab_B} : decode (ab_code (zx σ n0 bf).1 8023) 99 = .ok (.iconst 2, 1) := zd zm_8023 (by decide +kernel)
theorem d_8023_100 {σ : Nat → Nat} {n0 : Nat} {bf : ab_B} : decode (ab_code (zx σ n0 bf).1 8023) 100 = .ok (.goto 4, 3) := zd zm_8023 (by decide +kernel)
theorem d_8023_103 {σ : Nat → Nat} {n0 : Nat} {bf : ab_B} : decode (ab_code (zx σ n0 bf).1 8023) 103 = .ok (.iconst 1, 1) := zd zm_8023 (by decide +kernel)
theorem d_8023_104 {σ : Nat → Nat} {n0 : Nat} {bf : ab_B} : decode (ab_code (zx σ n0 bf).1 8023) 104 = .ok (.iadd, 1) := zd zm_8023 (by decide +kernel)
theorem d_8023_105 {σ : Nat → Nat} {n0 : Nat} {bf : ab_B} : decode (ab_code (zx σ n0 bf).1 8023) 105 = .ok (.putfield 487, 3) := zd zm_8023 (by decide +kernel)
theorem d_8023_108 {σ : Nat → Nat} {n0 : Nat} {bf : ab_B} : decode (ab_code (zx σ n0 bf).1 8023) 108 = .ok (.iload_n 3, 1) := zd zm_8023 (by decide +kernel)
theorem d_8023_109 {σ : Nat → Nat} {n0 : Nat} {bf : ab_B} : decode (ab_code (zx σ n0 bf).1 8023) 109 = .ok (.ifCond .eq 15, 3) := zd zm_8023 (by decide +kernel)
theorem d_8023_112 {σ : Nat → Nat} {n0 : Nat} {bf : ab_B} : decode (ab_code (zx σ n0 bf).1 8023) 112 = .ok (.aload_n 0, 1) := zd zm_8023 (by decide +kernel)
theorem d_8023_113 {σ : Nat → Nat} {n0 : Nat} {bf : ab_B} : decode (ab_code (zx σ n0 bf).1 8023) 113 = .ok (.getfield 41, 3) := zd zm_8023 (by decide +kernel)
theorem d_8023_116 {σ : Nat → Nat} {n0 : Nat} {bf : ab_B} : decode (ab_code (zx σ n0 bf).1 8023) 116 = .ok (.iload_n 2, 1) := zd zm_8023 (by decide +kernel)
theorem d_8023_117 {σ : Nat → Nat} {n0 : Nat} {bf : ab_B} : decode (ab_code (zx σ n0 bf).1 8023) 117 = .ok (.iload 4, 2) := zd zm_8023 (by decide +kernel)
theorem d_8023_119 {σ : Nat → Nat} {n0 : Nat} {bf : ab_B} : decode (ab_code (zx σ n0 bf).1 8023) 119 = .ok (.i2b, 1) := zd zm_8023 (by decide +kernel)
theorem d_8023_120 {σ : Nat → Nat} {n0 : Nat} {bf : ab_B} : decode (ab_code (zx σ n0 bf).1 8023) 120 = .ok (.bastore, 1) := zd zm_8023 (by decide +kernel)
theorem d_8023_121 {σ : Nat → Nat} {n0 : Nat} {bf : ab_B} : decode (ab_code (zx σ n0 bf).1 8023) 121 = .ok (.iinc 2 1, 3) := zd zm_8023 (by decide +kernel)
theorem d_8023_124 {σ : Nat → Nat} {n0 : Nat} {bf : ab_B} : decode (ab_code (zx σ n0 bf).1 8023) 124 = .ok (.goto (-102), 3) := zd zm_8023 (by decide +kernel)
theorem d_8023_127 {σ : Nat → Nat} {n0 : Nat} {bf : ab_B} : decode (ab_code (zx σ n0 bf).1 8023) 127 = .ok (.iload_n 2, 1) := zd zm_8023 (by decide +kernel)
theorem d_8023_128 {σ : Nat → Nat} {n0 : Nat} {bf : ab_B} : decode (ab_code (zx σ n0 bf).1 8023) 128 = .ok (.aload_n 0, 1) := zd zm_8023 (by decide +kernel)
theorem d_8023_129 {σ : Nat → Nat} {n0 : Nat} {bf : ab_B} : decode (ab_code (zx σ n0 bf).1 8023) 129 = .ok (.getfield 510, 3) := zd zm_8023 (by decide +kernel)
theorem d_8023_132 {σ : Nat → Nat} {n0 : Nat} {bf : ab_B} : decode (ab_code (zx σ n0 bf).1 8023) 132 = .ok (.if_icmp .eq 14, 3) := zd zm_8023 (by decide +kernel)
theorem d_8023_135 {σ : Nat → Nat} {n0 : Nat} {bf : ab_B} : decode (ab_code (zx σ n0 bf).1 8023) 135 = .ok (.iload_n 2, 1) := zd zm_8023 (by decide +kernel)
theorem d_8023_136 {σ : Nat → Nat} {n0 : Nat} {bf : ab_B} : decode (ab_code (zx σ n0 bf).1 8023) 136 = .ok (.aload_n 0, 1) := zd zm_8023 (by decide +kernel)
theorem d_8023_137 {σ : Nat → Nat} {n0 : Nat} {bf : ab_B} : decode (ab_code (zx σ n0 bf).1 8023) 137 = .ok (.getfield 510, 3) := zd zm_8023 (by decide +kernel)
theorem d_8023_140 {σ : Nat → Nat} {n0 : Nat} {bf : ab_B} : decode (ab_code (zx σ n0 bf).1 8023) 140 = .ok (.bipush 80, 2) := zd zm_8023 (by decide +kernel)
theorem d_8023_142 {σ : Nat → Nat} {n0 : Nat} {bf : ab_B} : decode (ab_code (zx σ n0 bf).1 8023) 142 = .ok (.iadd, 1) := zd zm_8023 (by decide +kernel)
theorem d_8023_143 {σ : Nat → Nat} {n0 : Nat} {bf : ab_B} : decode (ab_code (zx σ n0 bf).1 8023) 143 = .ok (.if_icmp .le 9, 3) := zd zm_8023 (by decide +kernel)
theorem d_8023_146 {σ : Nat → Nat} {n0 : Nat} {bf : ab_B} : decode (ab_code (zx σ n0 bf).1 8023) 146 = .ok (.aload_n 0, 1) := zd zm_8023 (by decide +kernel)
theorem d_8023_147 {σ : Nat → Nat} {n0 : Nat} {bf : ab_B} : decode (ab_code (zx σ n0 bf).1 8023) 147 = .ok (.iload_n 1, 1) := zd zm_8023 (by decide +kernel)
theorem d_8023_148 {σ : Nat → Nat} {n0 : Nat} {bf : ab_B} : decode (ab_code (zx σ n0 bf).1 8023) 148 = .ok (.invokevirtual 490, 3) := zd zm_8023 (by decide +kernel)
theorem d_8023_151 {σ : Nat → Nat} {n0 : Nat} {bf : ab_B} : decode (ab_code (zx σ n0 bf).1 8023) 151 = .ok (.return_, 1) := zd zm_8023 (by decide +kernel)
theorem d_8023_152 {σ : Nat → Nat} {n0 : Nat} {bf : ab_B} : decode (ab_code (zx σ n0 bf).1 8023) 152 = .ok (.aload_n 0, 1) := zd zm_8023 (by decide +kernel)
theorem d_8023_153 {σ : Nat → Nat} {n0 : Nat} {bf : ab_B} : decode (ab_code (zx σ n0 bf).1 8023) 153 = .ok (.iconst 4, 1) := zd zm_8023 (by decide +kernel)
theorem d_8023_154 {σ : Nat → Nat} {n0 : Nat} {bf : ab_B} : decode (ab_code (zx σ n0 bf).1 8023) 154 = .ok (.putfield 484, 3) := zd zm_8023 (by decide +kernel)
theorem d_8023_157 {σ : Nat → Nat} {n0 : Nat} {bf : ab_B} : decode (ab_code (zx σ n0 bf).1 8023) 157 = .ok (.aload_n 0, 1) := zd zm_8023 (by decide +kernel)
theorem d_8023_158 {σ : Nat → Nat} {n0 : Nat} {bf : ab_B} : decode (ab_code (zx σ n0 bf).1 8023) 158 = .ok (.aload_n 0, 1) := zd zm_8023 (by decide +kernel)
theorem d_8023_159 {σ : Nat → Nat} {n0 : Nat} {bf : ab_B} : decode (ab_code (zx σ n0 bf).1 8023) 159 = .ok (.getfield 510, 3) := zd zm_8023 (by decide +kernel)
theorem d_8023_162 {σ : Nat → Nat} {n0 : Nat} {bf : ab_B} : decode (ab_code (zx σ n0 bf).1 8023) 162 = .ok (.putfield 494, 3) := zd zm_8023 (by decide +kernel)
theorem d_8023_165 {σ : Nat → Nat} {n0 : Nat} {bf : ab_B} : decode (ab_code (zx σ n0 bf).1 8023) 165 = .ok (.aload_n 0, 1) := zd zm_8023 (by decide +kernel)
theorem d_8023_166 {σ : Nat → Nat} {n0 : Nat} {bf : ab_B} : decode (ab_code (zx σ n0 bf).1 8023) 166 = .ok (.iload_n 2, 1) := zd zm_8023 (by decide +kernel)
theorem d_8023_167 {σ : Nat → Nat} {n0 : Nat} {bf : ab_B} : decode (ab_code (zx σ n0 bf).1 8023) 167 = .ok (.aload_n 0, 1) := zd zm_8023 (by decide +kernel)
theorem d_8023_168 {σ : Nat → Nat} {n0 : Nat} {bf : ab_B} : decode (ab_code (zx σ n0 bf).1 8023) 168 = .ok (.getfield 510, 3) := zd zm_8023 (by decide +kernel)
theorem d_8023_171 {σ : Nat → Nat} {n0 : Nat} {bf : ab_B} : decode (ab_code (zx σ n0 bf).1 8023) 171 = .ok (.isub, 1) := zd zm_8023 (by decide +kernel)
theorem d_8023_172 {σ : Nat → Nat} {n0 : Nat} {bf : ab_B} : decode (ab_code (zx σ n0 bf).1 8023) 172 = .ok (.putfield 513, 3) := zd zm_8023 (by decide +kernel)
theorem d_8023_175 {σ : Nat → Nat} {n0 : Nat} {bf : ab_B} : decode (ab_code (zx σ n0 bf).1 8023) 175 = .ok (.return_, 1) := zd zm_8023 (by decide +kernel)
def w_X9_readText_146 (X : zs_X) (d : Nat) (p0 : Nat) (p1 : Int32) (S : zs_T) (Q : zs_Q) : Prop :=
  (zs_K S p0 = some (.inl 8) ∧ zs_C X d 8016 [.ref p0, .int p1] S (zs_kV (fun S2 => (Q (.returned none) S2)) Q))
theorem u_X9_readText_146 {σ : Nat → Nat} {n0 : Nat} {bf : ab_B} {d : Nat} {p0 : Nat} {p1 : Int32} {S : zs_T} {Q : zs_Q} (hB : zt_B bf) (h : w_X9_readText_146 (zx σ n0 bf) d p0 p1 S Q) : zs_U (zx σ n0 bf) d 8023 146 [(0, .ref p0), (1, .int p1)] [] S Q := by
  unfold w_X9_readText_146 at h
  refine zu_aload_n d_8023_146 rfl (zs_ra _) ?_
  refine zu_iload_n d_8023_147 rfl ?_
  obtain ⟨k1, h⟩ := h
  refine zc_8_490 (x0 := p1) hB rfl k1 d_8023_148 (Nat.le_of_ble_eq_true rfl) h (fun S2 h => ?_)
  exact zu_vret d_8023_151 zr_8023 h
def w_X9_readText_165 (X : zs_X) (d : Nat) (p0 : Nat) (p2 : Int32) (S : zs_T) (Q : zs_Q) : Prop :=
  (zs_K S p0 = some (.inl 8) ∧ ab_n0 X.1 ≤ p0 ∧ ∀ S3, S3 = zs_sI S 8023 p0 (p2 - (zs_I S 8022 p0)) → Q (.returned none) S3)
theorem u_X9_readText_165 {σ : Nat → Nat} {n0 : Nat} {bf : ab_B} {d : Nat} {p0 : Nat} {p2 : Int32} {S : zs_T} {Q : zs_Q} (hB : zt_B bf) (h : w_X9_readText_165 (zx σ n0 bf) d p0 p2 S Q) : zs_U (zx σ n0 bf) d 8023 165 [(0, .ref p0), (2, .int p2)] [] S Q := by
  unfold w_X9_readText_165 at h
  refine zu_aload_n d_8023_165 rfl (zs_ra _) ?_
  refine zu_iload_n d_8023_166 rfl ?_
  refine zu_aload_n d_8023_167 rfl (zs_ra _) ?_
  obtain ⟨k1, h⟩ := h
  refine zg_8_510 rfl d_8023_168 k1 ?_
  refine zu_stk d_8023_171 rfl rfl ?_
  obtain ⟨k2, h⟩ := h
  refine zp_8_513 (v := (p2 - (zs_I S 8022 p0))) rfl d_8023_172 k1 k2 ?_
  generalize e4 : zs_sI S 8023 p0 (p2 - (zs_I S 8022 p0)) = S3
  have h := h S3 e4.symm
  have K5 : ∀ b, zs_K S3 b = zs_K S b := zs_Kt e4 (zs_KsI _ _ _ _) (fun _ => rfl)
  exact zu_vret d_8023_175 zr_8023 h
def w_X9_readText_49 (X : zs_X) (d : Nat) (p0 : Nat) (p1 : Int32) (S : zs_T) (Q : zs_Q) : Prop :=
  (zs_K S p0 = some (.inl 8) ∧ zs_C X d 8016 [.ref p0, .int p1] S (zs_kV (fun S2 => (Q (.returned none) S2)) Q))
theorem u_X9_readText_49 {σ : Nat → Nat} {n0 : Nat} {bf : ab_B} {d : Nat} {p0 : Nat} {p1 : Int32} {S : zs_T} {Q : zs_Q} (hB : zt_B bf) (h : w_X9_readText_49 (zx σ n0 bf) d p0 p1 S Q) : zs_U (zx σ n0 bf) d 8023 49 [(0, .ref p0), (1, .int p1)] [] S Q := by
  unfold w_X9_readText_49 at h
  refine zu_aload_n d_8023_49 rfl (zs_ra _) ?_
  refine zu_iload_n d_8023_50 rfl ?_
  obtain ⟨k1, h⟩ := h
  refine zc_8_490 (x0 := p1) hB rfl k1 d_8023_51 (Nat.le_of_ble_eq_true rfl) h (fun S2 h => ?_)
  exact zu_vret d_8023_54 zr_8023 h
def w_X9_readText_104 (X : zs_X) (d : Nat) (p0 : Nat) (p1 : Int32) (p2 : Int32) (p3 : Int32) (p4 : Int32) (q0 : Option Nat) (q1 : Int32) (q2 : Int32) (S : zs_T) (Q : zs_Q) : Prop :=
  (∃ b1, q0 = some b1 ∧ zs_K S b1 = some (.inl 8) ∧ ab_n0 X.1 ≤ b1 ∧ ∀ S5, S5 = zs_sI S 8005 b1 (q1 + q2) → ((p3 = 0 → (zs_U X d 8023 22 [(0, .ref p0), (1, .int p1), (2, .int p2), (3, .int p3)] [] S5 Q)) ∧ (¬ (p3 = 0) → (zs_K S p0 = some (.inl 8) ∧ ∃ b10, (zs_R S5 8021 p0) = some b10 ∧ zs_A S b10 1 p2 ∧ ab_n0 X.1 ≤ b10 ∧ ∀ S14, S14 = zs_si S5 b10 p2.toNatClampNeg (vp_nar .byte ((p4).toInt8.toInt32)) → zs_U X d 8023 22 [(0, .ref p0), (1, .int p1), (2, .int (p2 + (1 : Int32))), (3, .int p3)] [] S14 Q))))
theorem u_X9_readText_104 {σ : Nat → Nat} {n0 : Nat} {bf : ab_B} {d : Nat} {p0 : Nat} {p1 : Int32} {p2 : Int32} {p3 : Int32} {p4 : Int32} {q0 : Option Nat} {q1 : Int32} {q2 : Int32} {S : zs_T} {Q : zs_Q} (hB : zt_B bf) (h : w_X9_readText_104 (zx σ n0 bf) d p0 p1 p2 p3 p4 q0 q1 q2 S Q) : zs_U (zx σ n0 bf) d 8023 104 [(0, .ref p0), (1, .int p1), (2, .int p2), (3, .int p3), (4, .int p4)] [.int q2, .int q1, va_rf q0] S Q := by
  unfold w_X9_readText_104 at h
  refine zu_stk d_8023_104 rfl rfl ?_
  obtain ⟨b1, e2, h⟩ := h
  refine zs_stk1 (zs_rfe e2) ?_
  obtain ⟨k3, h⟩ := h
  obtain ⟨k4, h⟩ := h
  refine zp_8_487 (v := (q1 + q2)) rfl d_8023_105 k3 k4 ?_
  generalize e6 : zs_sI S 8005 b1 (q1 + q2) = S5
  have h := h S5 e6.symm
  have K7 : ∀ b, zs_K S5 b = zs_K S b := zs_Kt e6 (zs_KsI _ _ _ _) (fun _ => rfl)
  refine zu_iload_n d_8023_108 rfl ?_
  refine zu_ifeq (t := 124) d_8023_109 rfl (fun c8 => ?_) (fun c8 => ?_)
  · have h := h.1 c8
    refine zu_goto (t := 22) d_8023_124 rfl ?_
    exact h.weak ⟨rfl, rfl, rfl, rfl, trivial⟩
  · have h := h.2 c8
    refine zu_aload_n d_8023_112 rfl (zs_ra _) ?_
    obtain ⟨k9, h⟩ := h
    refine zg_8_41 rfl d_8023_113 ((K7 _).trans k9) ?_
    refine zu_iload_n d_8023_116 rfl ?_
    refine zu_iload d_8023_117 rfl ?_
    refine zu_stk d_8023_119 rfl rfl ?_
    obtain ⟨b10, e11, h⟩ := h
    refine zs_stk2 (zs_rfe e11) ?_
    obtain ⟨k12, h⟩ := h
    obtain ⟨k13, h⟩ := h
    refine zu_bast_byte (k := 1) d_8023_120 rfl rfl k13 (zs_Ak K7 k12) ?_
    generalize e15 : zs_si S5 b10 p2.toNatClampNeg (vp_nar .byte ((p4).toInt8.toInt32)) = S14
    have h := h S14 e15.symm
    have K16 : ∀ b, zs_K S14 b = zs_K S b := zs_Kt e15 (zs_Ksi _ _ _ _) K7
    refine zu_iinc d_8023_121 rfl zi_1 (zs_lt zq_8023 rfl) ?_
    refine zu_goto (t := 22) d_8023_124 rfl ?_
    exact h.weak ⟨rfl, rfl, rfl, rfl, trivial⟩
def w_X9_readText_103 (X : zs_X) (d : Nat) (p0 : Nat) (p1 : Int32) (p2 : Int32) (p3 : Int32) (p4 : Int32) (q0 : Option Nat) (q1 : Int32) (S : zs_T) (Q : zs_Q) : Prop :=
  (w_X9_readText_104 X d p0 p1 p2 p3 p4 q0 q1 (1 : Int32) S Q)
theorem u_X9_readText_103 {σ : Nat → Nat} {n0 : Nat} {bf : ab_B} {d : Nat} {p0 : Nat} {p1 : Int32} {p2 : Int32} {p3 : Int32} {p4 : Int32} {q0 : Option Nat} {q1 : Int32} {S : zs_T} {Q : zs_Q} (hB : zt_B bf) (h : w_X9_readText_103 (zx σ n0 bf) d p0 p1 p2 p3 p4 q0 q1 S Q) : zs_U (zx σ n0 bf) d 8023 103 [(0, .ref p0), (1, .int p1), (2, .int p2), (3, .int p3), (4, .int p4)] [.int q1, va_rf q0] S Q := by
  unfold w_X9_readText_103 at h
  refine zu_iconst d_8023_103 zi_1 ?_
  exact (u_X9_readText_104 hB h).weak ⟨rfl, rfl, rfl, rfl, rfl, trivial⟩
def w_X9_readText_82 (X : zs_X) (d : Nat) (p0 : Nat) (p1 : Int32) (p2 : Int32) (p4 : Int32) (q0 : Int32) (S : zs_T) (Q : zs_Q) : Prop :=
  (zs_K S p0 = some (.inl 8) ∧ ((¬ p4 = (39 : Int32) → w_X9_readText_103 X d p0 p1 p2 q0 p4 (some p0) (zs_I S 8005 p0) S Q) ∧ (¬ (¬ p4 = (39 : Int32)) → (((q0 = 0 → w_X9_readText_103 X d p0 p1 p2 q0 p4 (some p0) (zs_I S 8005 p0) S Q) ∧ (¬ (q0 = 0) → (w_X9_readText_104 X d p0 p1 p2 q0 p4 (some p0) (zs_I S 8005 p0) (2 : Int32) S Q)))))))
theorem u_X9_readText_82 {σ : Nat → Nat} {n0 : Nat} {bf : ab_B} {d : Nat} {p0 : Nat} {p1 : Int32} {p2 : Int32} {p4 : Int32} {q0 : Int32} {S : zs_T} {Q : zs_Q} (hB : zt_B bf) (h : w_X9_readText_82 (zx σ n0 bf) d p0 p1 p2 p4 q0 S Q) : zs_U (zx σ n0 bf) d 8023 82 [(0, .ref p0), (1, .int p1), (2, .int p2), (4, .int p4)] [.int q0] S Q := by
  unfold w_X9_readText_82 at h
  refine zu_istore_n d_8023_82 (zs_lt zq_8023 rfl) ?_
  refine zu_aload_n d_8023_83 rfl (zs_ra _) ?_
  refine zu_dup d_8023_84 rfl ?_
  obtain ⟨k1, h⟩ := h
  refine zg_8_487 rfl d_8023_85 k1 ?_
  refine zu_iload d_8023_88 rfl ?_
  refine zu_bipush d_8023_90 zj_39 ?_
  refine zu_cmpne (t := 103) d_8023_92 rfl (fun c2 => ?_) (fun c2 => ?_)
  · have h := h.1 c2
    exact (u_X9_readText_103 hB h).weak ⟨rfl, rfl, rfl, rfl, rfl, trivial⟩
  · have h := h.2 c2
    refine zu_iload_n d_8023_95 rfl ?_
    refine zu_ifeq (t := 103) d_8023_96 rfl (fun c3 => ?_) (fun c3 => ?_)
    · have h := h.1 c3
      exact (u_X9_readText_103 hB h).weak ⟨rfl, rfl, rfl, rfl, rfl, trivial⟩
    · have h := h.2 c3
      refine zu_iconst d_8023_99 zi_2 ?_
      refine zu_goto (t := 104) d_8023_100 rfl ?_
      exact (u_X9_readText_104 hB h).weak ⟨rfl, rfl, rfl, rfl, rfl, trivial⟩
def w_X9_readText_77 (X : zs_X) (d : Nat) (p0 : Nat) (p1 : Int32) (p2 : Int32) (p4 : Int32) (S : zs_T) (Q : zs_Q) : Prop :=
  (w_X9_readText_82 X d p0 p1 p2 p4 (1 : Int32) S Q)
theorem u_X9_readText_77 {σ : Nat → Nat} {n0 : Nat} {bf : ab_B} {d : Nat} {p0 : Nat} {p1 : Int32} {p2 : Int32} {p4 : Int32} {S : zs_T} {Q : zs_Q} (hB : zt_B bf) (h : w_X9_readText_77 (zx σ n0 bf) d p0 p1 p2 p4 S Q) : zs_U (zx σ n0 bf) d 8023 77 [(0, .ref p0), (1, .int p1), (2, .int p2), (4, .int p4)] [] S Q := by
  unfold w_X9_readText_77 at h
  refine zu_iconst d_8023_77 zi_1 ?_
  refine zu_goto (t := 82) d_8023_78 rfl ?_
  exact (u_X9_readText_82 hB h).weak ⟨rfl, rfl, rfl, rfl, trivial⟩
def w_X9_readText_62 (X : zs_X) (d : Nat) (p0 : Nat) (p1 : Int32) (p2 : Int32) (p4 : Int32) (S : zs_T) (Q : zs_Q) : Prop :=
  (zs_K S p0 = some (.inl 8) ∧ zs_C X d 8006 [.ref p0, .int ((zs_I S 8005 p0) + (1 : Int32))] S (zs_kI (fun v3 S2 => (((¬ v3 = (39 : Int32) → (w_X9_readText_82 X d p0 p1 p2 p4 (0 : Int32) S2 Q)) ∧ (¬ (¬ v3 = (39 : Int32)) → w_X9_readText_77 X d p0 p1 p2 p4 S2 Q)))) Q))
theorem u_X9_readText_62 {σ : Nat → Nat} {n0 : Nat} {bf : ab_B} {d : Nat} {p0 : Nat} {p1 : Int32} {p2 : Int32} {p4 : Int32} {S : zs_T} {Q : zs_Q} (hB : zt_B bf) (h : w_X9_readText_62 (zx σ n0 bf) d p0 p1 p2 p4 S Q) : zs_U (zx σ n0 bf) d 8023 62 [(0, .ref p0), (1, .int p1), (2, .int p2), (4, .int p4)] [] S Q := by
  unfold w_X9_readText_62 at h
  refine zu_aload_n d_8023_62 rfl (zs_ra _) ?_
  refine zu_aload_n d_8023_63 rfl (zs_ra _) ?_
  obtain ⟨k1, h⟩ := h
  refine zg_8_487 rfl d_8023_64 k1 ?_
  refine zu_iconst d_8023_67 zi_1 ?_
  refine zu_stk d_8023_68 rfl rfl ?_
  refine zc_8_471 (x0 := ((zs_I S 8005 p0) + (1 : Int32))) hB rfl k1 d_8023_69 (Nat.le_of_ble_eq_true rfl) h (fun v3 S2 h => ?_)
  refine zu_bipush d_8023_72 zj_39 ?_
  refine zu_cmpne (t := 81) d_8023_74 rfl (fun c4 => ?_) (fun c4 => ?_)
  · have h := h.1 c4
    refine zu_iconst d_8023_81 zi_0 ?_
    exact (u_X9_readText_82 hB h).weak ⟨rfl, rfl, rfl, rfl, trivial⟩
  · have h := h.2 c4
    exact (u_X9_readText_77 hB h).weak ⟨rfl, rfl, rfl, rfl, trivial⟩
def w_X9_readText_22 (X : zs_X) (d : Nat) (p0 : Nat) (p1 : Int32) (p2 : Int32) (p3 : Int32) (S : zs_T) (Q : zs_Q) : Prop :=
  (((p3 = 0 → (zs_K S p0 = some (.inl 8) ∧ ((p2 = (zs_I S 8022 p0) → w_X9_readText_146 X d p0 p1 S Q) ∧ (¬ (p2 = (zs_I S 8022 p0)) → (((p2 ≤ ((zs_I S 8022 p0) + (80 : Int32)) → (ab_n0 X.1 ≤ p0 ∧ ∀ S6, S6 = zs_sI S 8006 p0 (4 : Int32) → ∀ S9, S9 = zs_sI S6 8009 p0 (zs_I S6 8022 p0) → w_X9_readText_165 X d p0 p2 S9 Q)) ∧ (¬ (p2 ≤ ((zs_I S 8022 p0) + (80 : Int32))) → w_X9_readText_146 X d p0 p1 S Q))))))) ∧ (¬ (p3 = 0) → (zs_K S p0 = some (.inl 8) ∧ zs_C X d 8006 [.ref p0, .int (zs_I S 8005 p0)] S (zs_kI (fun v14 S13 => (((v14 = (-1 : Int32) → w_X9_readText_49 X d p0 p1 S13 Q) ∧ (¬ (v14 = (-1 : Int32)) → ((((32 : Int32) ≤ v14 → (((¬ v14 = (39 : Int32) → w_X9_readText_77 X d p0 p1 p2 v14 S13 Q) ∧ (¬ (¬ v14 = (39 : Int32)) → w_X9_readText_62 X d p0 p1 p2 v14 S13 Q)))) ∧ (¬ ((32 : Int32) ≤ v14) → w_X9_readText_49 X d p0 p1 S13 Q))))))) Q)))))
theorem u_X9_readText_22 {σ : Nat → Nat} {n0 : Nat} {bf : ab_B} {d : Nat} {p0 : Nat} {p1 : Int32} {p2 : Int32} {p3 : Int32} {S : zs_T} {Q : zs_Q} (hB : zt_B bf) (h : w_X9_readText_22 (zx σ n0 bf) d p0 p1 p2 p3 S Q) : zs_U (zx σ n0 bf) d 8023 22 [(0, .ref p0), (1, .int p1), (2, .int p2), (3, .int p3)] [] S Q := by
  unfold w_X9_readText_22 at h
  refine zu_iload_n d_8023_22 rfl ?_
  refine zu_ifeq (t := 127) d_8023_23 rfl (fun c1 => ?_) (fun c1 => ?_)
  · have h := h.1 c1
    refine zu_iload_n d_8023_127 rfl ?_
    refine zu_aload_n d_8023_128 rfl (zs_ra _) ?_
    obtain ⟨k2, h⟩ := h
    refine zg_8_510 rfl d_8023_129 k2 ?_
    refine zu_cmpeq (t := 146) d_8023_132 rfl (fun c3 => ?_) (fun c3 => ?_)
    · have h := h.1 c3
      exact (u_X9_readText_146 hB h).weak ⟨rfl, rfl, trivial⟩
    · have h := h.2 c3
      refine zu_iload_n d_8023_135 rfl ?_
      refine zu_aload_n d_8023_136 rfl (zs_ra _) ?_
      refine zg_8_510 rfl d_8023_137 k2 ?_
      refine zu_bipush d_8023_140 zj_80 ?_
      refine zu_stk d_8023_142 rfl rfl ?_
      refine zu_cmple (t := 152) d_8023_143 rfl (fun c4 => ?_) (fun c4 => ?_)
      · have h := h.1 c4
        refine zu_aload_n d_8023_152 rfl (zs_ra _) ?_
        refine zu_iconst d_8023_153 zi_4 ?_
        obtain ⟨k5, h⟩ := h
        refine zp_8_484 (v := (4 : Int32)) rfl d_8023_154 k2 k5 ?_
        generalize e7 : zs_sI S 8006 p0 (4 : Int32) = S6
        have h := h S6 e7.symm
        have K8 : ∀ b, zs_K S6 b = zs_K S b := zs_Kt e7 (zs_KsI _ _ _ _) (fun _ => rfl)
        refine zu_aload_n d_8023_157 rfl (zs_ra _) ?_
        refine zu_aload_n d_8023_158 rfl (zs_ra _) ?_
        refine zg_8_510 rfl d_8023_159 ((K8 _).trans k2) ?_
        refine zp_8_494 (v := (zs_I S6 8022 p0)) rfl d_8023_162 ((K8 _).trans k2) k5 ?_
        generalize e10 : zs_sI S6 8009 p0 (zs_I S6 8022 p0) = S9
        have h := h S9 e10.symm
        have K11 : ∀ b, zs_K S9 b = zs_K S b := zs_Kt e10 (zs_KsI _ _ _ _) K8
        exact (u_X9_readText_165 hB h).weak ⟨rfl, rfl, trivial⟩
      · have h := h.2 c4
        exact (u_X9_readText_146 hB h).weak ⟨rfl, rfl, trivial⟩
  · have h := h.2 c1
    refine zu_aload_n d_8023_26 rfl (zs_ra _) ?_
    refine zu_aload_n d_8023_27 rfl (zs_ra _) ?_
    obtain ⟨k12, h⟩ := h
    refine zg_8_487 rfl d_8023_28 k12 ?_
    refine zc_8_471 (x0 := (zs_I S 8005 p0)) hB rfl k12 d_8023_31 (Nat.le_of_ble_eq_true rfl) h (fun v14 S13 h => ?_)
    refine zu_istore d_8023_34 (zs_lt zq_8023 rfl) ?_
    refine zu_iload d_8023_36 rfl ?_
    refine zu_iconst d_8023_38 zi_m1 ?_
    refine zu_cmpeq (t := 49) d_8023_39 rfl (fun c15 => ?_) (fun c15 => ?_)
    · have h := h.1 c15
      exact (u_X9_readText_49 hB h).weak ⟨rfl, rfl, trivial⟩
    · have h := h.2 c15
      refine zu_iload d_8023_42 rfl ?_
      refine zu_bipush d_8023_44 zj_32 ?_
      refine zu_cmpge (t := 55) d_8023_46 rfl (fun c16 => ?_) (fun c16 => ?_)
      · have h := h.1 c16
        refine zu_iload d_8023_55 rfl ?_
        refine zu_bipush d_8023_57 zj_39 ?_
        refine zu_cmpne (t := 77) d_8023_59 rfl (fun c17 => ?_) (fun c17 => ?_)
        · have h := h.1 c17
          exact (u_X9_readText_77 hB h).weak ⟨rfl, rfl, rfl, rfl, trivial⟩
        · have h := h.2 c17
          exact (u_X9_readText_62 hB h).weak ⟨rfl, rfl, rfl, rfl, trivial⟩
      · have h := h.2 c16
        exact (u_X9_readText_49 hB h).weak ⟨rfl, rfl, trivial⟩
def w_X9_readText (X : zs_X) (d : Nat) (p0 : Nat) (S : zs_T) (Q : zs_Q) : Prop :=
  (zs_K S p0 = some (.inl 8) ∧ ab_n0 X.1 ≤ p0 ∧ ∀ S3, S3 = zs_sI S 8005 p0 ((zs_I S 8005 p0) + (1 : Int32)) → zs_U X d 8023 22 [(0, .ref p0), (1, .int (zs_I S 8005 p0)), (2, .int (zs_I S 8022 p0)), (3, .int (1 : Int32))] [] S3 Q)
theorem u_X9_readText {σ : Nat → Nat} {n0 : Nat} {bf : ab_B} {d : Nat} {p0 : Nat} {S : zs_T} {Q : zs_Q} (hB : zt_B bf) (hd : 1 ≤ d) (h : w_X9_readText (zx σ n0 bf) (d - 1) p0 S Q) : zs_C (zx σ n0 bf) d 8023 [.ref p0] S Q := by
  have hL : lv_args 0 [.ref p0] = [(0, .ref p0)] := rfl
  refine zs_C.of1 (hB.2 8023 (by decide) (by decide)) hd (by rw [hL]; exact zs_sub_self _ (by exact ⟨rfl, trivial⟩)) ?_
  rw [hL]
  clear hL
  unfold w_X9_readText at h
  refine zu_aload_n d_8023_0 rfl (zs_ra _) ?_
  obtain ⟨k1, h⟩ := h
  refine zg_8_487 rfl d_8023_1 k1 ?_
  refine zu_istore_n d_8023_4 (zs_lt zq_8023 rfl) ?_
  refine zu_aload_n d_8023_5 rfl (zs_ra _) ?_
  refine zg_8_510 rfl d_8023_6 k1 ?_
  refine zu_istore_n d_8023_9 (zs_lt zq_8023 rfl) ?_
  refine zu_aload_n d_8023_10 rfl (zs_ra _) ?_
  refine zu_dup d_8023_11 rfl ?_
  refine zg_8_487 rfl d_8023_12 k1 ?_
  refine zu_iconst d_8023_15 zi_1 ?_
  refine zu_stk d_8023_16 rfl rfl ?_
  obtain ⟨k2, h⟩ := h
  refine zp_8_487 (v := ((zs_I S 8005 p0) + (1 : Int32))) rfl d_8023_17 k1 k2 ?_
  generalize e4 : zs_sI S 8005 p0 ((zs_I S 8005 p0) + (1 : Int32)) = S3
  have h := h S3 e4.symm
  have K5 : ∀ b, zs_K S3 b = zs_K S b := zs_Kt e4 (zs_KsI _ _ _ _) (fun _ => rfl)
  refine zu_iconst d_8023_20 zi_1 ?_
  refine zu_istore_n d_8023_21 (zs_lt zq_8023 rfl) ?_
  exact h.weak ⟨rfl, rfl, rfl, rfl, trivial⟩
/-! SchemaPascalModel.readSign()V -/
theorem zm_8024 {σ : Nat → Nat} {n0 : Nat} {bf : ab_B} : ab_code (zx σ n0 bf).1 8024 = prog_17_method_17_code := rfl
theorem zq_8024 {σ : Nat → Nat} {n0 : Nat} {bf : ab_B} : ab_maxL (zx σ n0 bf).1 8024 = 4 := rfl
theorem zr_8024 {σ : Nat → Nat} {n0 : Nat} {bf : ab_B} : ab_ret (zx σ n0 bf).1 8024 = (Option.none : Option Jvm.ClassFile.FieldType) := rfl
theorem d_8024_0 {σ : Nat → Nat} {n0 : Nat} {bf : ab_B} : decode (ab_code (zx σ n0 bf).1 8024) 0 = .ok (.aload_n 0, 1) := zd zm_8024 (by decide +kernel)
theorem d_8024_1 {σ : Nat → Nat} {n0 : Nat} {bf : ab_B} : decode (ab_code (zx σ n0 bf).1 8024) 1 = .ok (.aload_n 0, 1) := zd zm_8024 (by decide +kernel)
theorem d_8024_2 {σ : Nat → Nat} {n0 : Nat} {bf : ab_B} : decode (ab_code (zx σ n0 bf).1 8024) 2 = .ok (.getfield 487, 3) := zd zm_8024 (by decide +kernel)
theorem d_8024_5 {σ : Nat → Nat} {n0 : Nat} {bf : ab_B} : decode (ab_code (zx σ n0 bf).1 8024) 5 = .ok (.invokevirtual 471, 3) := zd zm_8024 (by decide +kernel)
theorem d_8024_8 {σ : Nat → Nat} {n0 : Nat} {bf : ab_B} : decode (ab_code (zx σ n0 bf).1 8024) 8 = .ok (.istore_n 1, 1) := zd zm_8024 (by decide +kernel)
theorem d_8024_9 {σ : Nat → Nat} {n0 : Nat} {bf : ab_B} : decode (ab_code (zx σ n0 bf).1 8024) 9 = .ok (.aload_n 0, 1) := zd zm_8024 (by decide +kernel)
theorem d_8024_10 {σ : Nat → Nat} {n0 : Nat} {bf : ab_B} : decode (ab_code (zx σ n0 bf).1 8024) 10 = .ok (.aload_n 0, 1) := zd zm_8024 (by decide +kernel)
theorem d_8024_11 {σ : Nat → Nat} {n0 : Nat} {bf : ab_B} : decode (ab_code (zx σ n0 bf).1 8024) 11 = .ok (.getfield 487, 3) := zd zm_8024 (by decide +kernel)
theorem d_8024_14 {σ : Nat → Nat} {n0 : Nat} {bf : ab_B} : decode (ab_code (zx σ n0 bf).1 8024) 14 = .ok (.iconst 1, 1) := zd zm_8024 (by decide +kernel)
theorem d_8024_15 {σ : Nat → Nat} {n0 : Nat} {bf : ab_B} : decode (ab_code (zx σ n0 bf).1 8024) 15 = .ok (.iadd, 1) := zd zm_8024 (by decide +kernel)
theorem d_8024_16 {σ : Nat → Nat} {n0 : Nat} {bf : ab_B} : decode (ab_code (zx σ n0 bf).1 8024) 16 = .ok (.invokevirtual 471, 3) := zd zm_8024 (by decide +kernel)
theorem d_8024_19 {σ : Nat → Nat} {n0 : Nat} {bf : ab_B} : decode (ab_code (zx σ n0 bf).1 8024) 19 = .ok (.istore_n 2, 1) := zd zm_8024 (by decide +kernel)
theorem d_8024_20 {σ : Nat → Nat} {n0 : Nat} {bf : ab_B} : decode (ab_code (zx σ n0 bf).1 8024) 20 = .ok (.aload_n 0, 1) := zd zm_8024 (by decide +kernel)
theorem d_8024_21 {σ : Nat → Nat} {n0 : Nat} {bf : ab_B} : decode (ab_code (zx σ n0 bf).1 8024) 21 = .ok (.iconst 5, 1) := zd zm_8024 (by decide +kernel)
theorem d_8024_22 {σ : Nat → Nat} {n0 : Nat} {bf : ab_B} : decode (ab_code (zx σ n0 bf).1 8024) 22 = .ok (.putfield 484, 3) := zd zm_8024 (by decide +kernel)
theorem d_8024_25 {σ : Nat → Nat} {n0 : Nat} {bf : ab_B} : decode (ab_code (zx σ n0 bf).1 8024) 25 = .ok (.aload_n 0, 1) := zd zm_8024 (by decide +kernel)
theorem d_8024_26 {σ : Nat → Nat} {n0 : Nat} {bf : ab_B} : decode (ab_code (zx σ n0 bf).1 8024) 26 = .ok (.iload_n 1, 1) := zd zm_8024 (by decide +kernel)
theorem d_8024_27 {σ : Nat → Nat} {n0 : Nat} {bf : ab_B} : decode (ab_code (zx σ n0 bf).1 8024) 27 = .ok (.bipush 43, 2) := zd zm_8024 (by decide +kernel)
theorem d_8024_29 {σ : Nat → Nat} {n0 : Nat} {bf : ab_B} : decode (ab_code (zx σ n0 bf).1 8024) 29 = .ok (.if_icmp .ne 7, 3) := zd zm_8024 (by decide +kernel)
theorem d_8024_32 {σ : Nat → Nat} {n0 : Nat} {bf : ab_B} : decode (ab_code (zx σ n0 bf).1 8024) 32 = .ok (.iconst 1, 1) := zd zm_8024 (by decide +kernel)
theorem d_8024_33 {σ : Nat → Nat} {n0 : Nat} {bf : ab_B} : decode (ab_code (zx σ n0 bf).1 8024) 33 = .ok (.goto 111, 3) := zd zm_8024 (by decide +kernel)
theorem d_8024_36 {σ : Nat → Nat} {n0 : Nat} {bf : ab_B} : decode (ab_code (zx σ n0 bf).1 8024) 36 = .ok (.iload_n 1, 1) := zd zm_8024 (by decide +kernel)
theorem d_8024_37 {σ : Nat → Nat} {n0 : Nat} {bf : ab_B} : decode (ab_code (zx σ n0 bf).1 8024) 37 = .ok (.bipush 45, 2) := zd zm_8024 (by decide +kernel)
theorem d_8024_39 {σ : Nat → Nat} {n0 : Nat} {bf : ab_B} : decode (ab_code (zx σ n0 bf).1 8024) 39 = .ok (.if_icmp .ne 7, 3) := zd zm_8024 (by decide +kernel)
theorem d_8024_42 {σ : Nat → Nat} {n0 : Nat} {bf : ab_B} : decode (ab_code (zx σ n0 bf).1 8024) 42 = .ok (.iconst 2, 1) := zd zm_8024 (by decide +kernel)
theorem d_8024_43 {σ : Nat → Nat} {n0 : Nat} {bf : ab_B} : decode (ab_code (zx σ n0 bf).1 8024) 43 = .ok (.goto 101, 3) := zd zm_8024 (by decide +kernel)
theorem d_8024_46 {σ : Nat → Nat} {n0 : Nat} {bf : ab_B} : decode (ab_code (zx σ n0 bf).1 8024) 46 = .ok (.iload_n 1, 1) := zd zm_8024 (by decide +kernel)
theorem d_8024_47 {σ : Nat → Nat} {n0 : Nat} {bf : ab_B} : decode (ab_code (zx σ n0 bf).1 8024) 47 = .ok (.bipush 42, 2) := zd zm_8024 (by decide +kernel)
theorem d_8024_49 {σ : Nat → Nat} {n0 : Nat} {bf : ab_B} : decode (ab_code (zx σ n0 bf).1 8024) 49 = .ok (.if_icmp .ne 7, 3) := zd zm_8024 (by decide +kernel)
theorem d_8024_52 {σ : Nat → Nat} {n0 : Nat} {bf : ab_B} : decode (ab_code (zx σ n0 bf).1 8024) 52 = .ok (.iconst 3, 1) := zd zm_8024 (by decide +kernel)
theorem d_8024_53 {σ : Nat → Nat} {n0 : Nat} {bf : ab_B} : decode (ab_code (zx σ n0 bf).1 8024) 53 = .ok (.goto 91, 3) := zd zm_8024 (by decide +kernel)
theorem d_8024_56 {σ : Nat → Nat} {n0 : Nat} {bf : ab_B} : decode (ab_code (zx σ n0 bf).1 8024) 56 = .ok (.iload_n 1, 1) := zd zm_8024 (by decide +kernel)
theorem d_8024_57 {σ : Nat → Nat} {n0 : Nat} {bf : ab_B} : decode (ab_code (zx σ n0 bf).1 8024) 57 = .ok (.bipush 61, 2) := zd zm_8024 (by decide +kernel)
theorem d_8024_59 {σ : Nat → Nat} {n0 : Nat} {bf : ab_B} : decode (ab_code (zx σ n0 bf).1 8024) 59 = .ok (.if_icmp .ne 7, 3) := zd zm_8024 (by decide +kernel)
theorem d_8024_62 {σ : Nat → Nat} {n0 : Nat} {bf : ab_B} : decode (ab_code (zx σ n0 bf).1 8024) 62 = .ok (.iconst 5, 1) := zd zm_8024 (by decide +kernel)
theorem d_8024_63 {σ : Nat → Nat} {n0 : Nat} {bf : ab_B} : decode (ab_code (zx σ n0 bf).1 8024) 63 = .ok (.goto 81, 3) := zd zm_8024 (by decide +kernel)
theorem d_8024_66 {σ : Nat → Nat} {n0 : Nat} {bf : ab_B} : decode (ab_code (zx σ n0 bf).1 8024) 66 = .ok (.iload_n 1, 1) := zd zm_8024 (by decide +kernel)
theorem d_8024_67 {σ : Nat → Nat} {n0 : Nat} {bf : ab_B} : decode (ab_code (zx σ n0 bf).1 8024) 67 = .ok (.bipush 40, 2) := zd zm_8024 (by decide +kernel)
theorem d_8024_69 {σ : Nat → Nat} {n0 : Nat} {bf : ab_B} : decode (ab_code (zx σ n0 bf).1 8024) 69 = .ok (.if_icmp .ne 8, 3) := zd zm_8024 (by decide +kernel)
theorem d_8024_72 {σ : Nat → Nat} {n0 : Nat} {bf : ab_B} : decode (ab_code (zx σ n0 bf).1 8024) 72 = .ok (.bipush 8, 2) := zd zm_8024 (by decide +kernel)
theorem d_8024_74 {σ : Nat → Nat} {n0 : Nat} {bf : ab_B} : decode (ab_code (zx σ n0 bf).1 8024) 74 = .ok (.goto 70, 3) := zd zm_8024 (by decide +kernel)
theorem d_8024_77 {σ : Nat → Nat} {n0 : Nat} {bf : ab_B} : decode (ab_code (zx σ n0 bf).1 8024) 77 = .ok (.iload_n 1, 1) := zd zm_8024 (by decide +kernel)
theorem d_8024_78 {σ : Nat → Nat} {n0 : Nat} {bf : ab_B} : decode (ab_code (zx σ n0 bf).1 8024) 78 = .ok (.bipush 41, 2) := zd zm_8024 (by decide +kernel)
theorem d_8024_80 {σ : Nat → Nat} {n0 : Nat} {bf : ab_B} : decode (ab_code (zx σ n0 bf).1 8024) 80 = .ok (.if_icmp .ne 8, 3) := zd zm_8024 (by decide +kernel)
theorem d_8024_83 {σ : Nat → Nat} {n0 : Nat} {bf : ab_B} : decode (ab_code (zx σ n0 bf).1 8024) 83 = .ok (.bipush 9, 2) := zd zm_8024 (by decide +kernel)
theorem d_8024_85 {σ : Nat → Nat} {n0 : Nat} {bf : ab_B} : decode (ab_code (zx σ n0 bf).1 8024) 85 = .ok (.goto 59, 3) := zd zm_8024 (by decide +kernel)
theorem d_8024_88 {σ : Nat → Nat} {n0 : Nat} {bf : ab_B} : decode (ab_code (zx σ n0 bf).1 8024) 88 = .ok (.iload_n 1, 1) := zd zm_8024 (by decide +kernel)
theorem d_8024_89 {σ : Nat → Nat} {n0 : Nat} {bf : ab_B} : decode (ab_code (zx σ n0 bf).1 8024) 89 = .ok (.bipush 91, 2) := zd zm_8024 (by decide +kernel)
theorem d_8024_91 {σ : Nat → Nat} {n0 : Nat} {bf : ab_B} : decode (ab_code (zx σ n0 bf).1 8024) 91 = .ok (.if_icmp .ne 8, 3) := zd zm_8024 (by decide +kernel)
theorem d_8024_94 {σ : Nat → Nat} {n0 : Nat} {bf : ab_B} : decode (ab_code (zx σ n0 bf).1 8024) 94 = .ok (.bipush 10, 2) := zd zm_8024 (by decide +kernel)
theorem d_8024_96 {σ : Nat → Nat} {n0 : Nat} {bf : ab_B} : decode (ab_code (zx σ n0 bf).1 8024) 96 = .ok (.goto 48, 3) := zd zm_8024 (by decide +kernel)
theorem d_8024_99 {σ : Nat → Nat} {n0 : Nat} {bf : ab_B} : decode (ab_code (zx σ n0 bf).1 8024) 99 = .ok (.iload_n 1, 1) := zd zm_8024 (by decide +kernel)
theorem d_8024_100 {σ : Nat → Nat} {n0 : Nat} {bf : ab_B} : decode (ab_code (zx σ n0 bf).1 8024) 100 = .ok (.bipush 93, 2) := zd zm_8024 (by decide +kernel)
theorem d_8024_102 {σ : Nat → Nat} {n0 : Nat} {bf : ab_B} : decode (ab_code (zx σ n0 bf).1 8024) 102 = .ok (.if_icmp .ne 8, 3) := zd zm_8024 (by decide +kernel)
theorem d_8024_105 {σ : Nat → Nat} {n0 : Nat} {bf : ab_B} : decode (ab_code (zx σ n0 bf).1 8024) 105 = .ok (.bipush 11, 2) := zd zm_8024 (by decide +kernel)
theorem d_8024_107 {σ : Nat → Nat} {n0 : Nat} {bf : ab_B} : decode (ab_code (zx σ n0 bf).1 8024) 107 = .ok (.goto 37, 3) := zd zm_8024 (by decide +kernel)
theorem d_8024_110 {σ : Nat → Nat} {n0 : Nat} {bf : ab_B} : decode (ab_code (zx σ n0 bf).1 8024) 110 = .ok (.iload_n 1, 1) := zd zm_8024 (by decide +kernel)
theorem d_8024_111 {σ : Nat → Nat} {n0 : Nat} {bf : ab_B} : decode (ab_code (zx σ n0 bf).1 8024) 111 = .ok (.bipush 44, 2) := zd zm_8024 (by decide +kernel)
theorem d_8024_113 {σ : Nat → Nat} {n0 : Nat} {bf : ab_B} : decode (ab_code (zx σ n0 bf).1 8024) 113 = .ok (.if_icmp .ne 8, 3) := zd zm_8024 (by decide +kernel)
theorem d_8024_116 {σ : Nat → Nat} {n0 : Nat} {bf : ab_B} : decode (ab_code (zx σ n0 bf).1 8024) 116 = .ok (.bipush 12, 2) := zd zm_8024 (by decide +kernel)
theorem d_8024_118 {σ : Nat → Nat} {n0 : Nat} {bf : ab_B} : decode (ab_code (zx σ n0 bf).1 8024) 118 = .ok (.goto 26, 3) := zd zm_8024 (by decide +kernel)
theorem d_8024_121 {σ : Nat → Nat} {n0 : Nat} {bf : ab_B} : decode (ab_code (zx σ n0 bf).1 8024) 121 = .ok (.iload_n 1, 1) := zd zm_8024 (by decide +kernel)
theorem d_8024_122 {σ : Nat → Nat} {n0 : Nat} {bf : ab_B} : decode (ab_code (zx σ n0 bf).1 8024) 122 = .ok (.bipush 59, 2) := zd zm_8024 (by decide +kernel)
theorem d_8024_124 {σ : Nat → Nat} {n0 : Nat} {bf : ab_B} : decode (ab_code (zx σ n0 bf).1 8024) 124 = .ok (.if_icmp .ne 8, 3) := zd zm_8024 (by decide +kernel)
theorem d_8024_127 {σ : Nat → Nat} {n0 : Nat} {bf : ab_B} : decode (ab_code (zx σ n0 bf).1 8024) 127 = .ok (.bipush 13, 2) := zd zm_8024 (by decide +kernel)
theorem d_8024_129 {σ : Nat → Nat} {n0 : Nat} {bf : ab_B} : decode (ab_code (zx σ n0 bf).1 8024) 129 = .ok (.goto 15, 3) := zd zm_8024 (by decide +kernel)
theorem d_8024_132 {σ : Nat → Nat} {n0 : Nat} {bf : ab_B} : decode (ab_code (zx σ n0 bf).1 8024) 132 = .ok (.iload_n 1, 1) := zd zm_8024 (by decide +kernel)
theorem d_8024_133 {σ : Nat → Nat} {n0 : Nat} {bf : ab_B} : decode (ab_code (zx σ n0 bf).1 8024) 133 = .ok (.bipush 94, 2) := zd zm_8024 (by decide +kernel)
theorem d_8024_135 {σ : Nat → Nat} {n0 : Nat} {bf : ab_B} : decode (ab_code (zx σ n0 bf).1 8024) 135 = .ok (.if_icmp .ne 8, 3) := zd zm_8024 (by decide +kernel)
theorem d_8024_138 {σ : Nat → Nat} {n0 : Nat} {bf : ab_B} : decode (ab_code (zx σ n0 bf).1 8024) 138 = .ok (.bipush 15, 2) := zd zm_8024 (by decide +kernel)
theorem d_8024_140 {σ : Nat → Nat} {n0 : Nat} {bf : ab_B} : decode (ab_code (zx σ n0 bf).1 8024) 140 = .ok (.goto 4, 3) := zd zm_8024 (by decide +kernel)
theorem d_8024_143 {σ : Nat → Nat} {n0 : Nat} {bf : ab_B} : decode (ab_code (zx σ n0 bf).1 8024) 143 = .ok (.iconst 0, 1) := zd zm_8024 (by decide +kernel)
theorem d_8024_144 {σ : Nat → Nat} {n0 : Nat} {bf : ab_B} : decode (ab_code (zx σ n0 bf).1 8024) 144 = .ok (.putfield 494, 3) := zd zm_8024 (by decide +kernel)
theorem d_8024_147 {σ : Nat → Nat} {n0 : Nat} {bf : ab_B} : decode (ab_code (zx σ n0 bf).1 8024) 147 = .ok (.iload_n 1, 1) := zd zm_8024 (by decide +kernel)
theorem d_8024_148 {σ : Nat → Nat} {n0 : Nat} {bf : ab_B} : decode (ab_code (zx σ n0 bf).1 8024) 148 = .ok (.bipush 60, 2) := zd zm_8024 (by decide +kernel)
theorem d_8024_150 {σ : Nat → Nat} {n0 : Nat} {bf : ab_B} : decode (ab_code (zx σ n0 bf).1 8024) 150 = .ok (.if_icmp .ne 29, 3) := zd zm_8024 (by decide +kernel)
theorem d_8024_153 {σ : Nat → Nat} {n0 : Nat} {bf : ab_B} : decode (ab_code (zx σ n0 bf).1 8024) 153 = .ok (.iload_n 2, 1) := zd zm_8024 (by decide +kernel)
theorem d_8024_154 {σ : Nat → Nat} {n0 : Nat} {bf : ab_B} : decode (ab_code (zx σ n0 bf).1 8024) 154 = .ok (.bipush 62, 2) := zd zm_8024 (by decide +kernel)
theorem d_8024_156 {σ : Nat → Nat} {n0 : Nat} {bf : ab_B} : decode (ab_code (zx σ n0 bf).1 8024) 156 = .ok (.if_icmp .ne 8, 3) := zd zm_8024 (by decide +kernel)
theorem d_8024_159 {σ : Nat → Nat} {n0 : Nat} {bf : ab_B} : decode (ab_code (zx σ n0 bf).1 8024) 159 = .ok (.bipush 17, 2) := zd zm_8024 (by decide +kernel)
theorem d_8024_161 {σ : Nat → Nat} {n0 : Nat} {bf : ab_B} : decode (ab_code (zx σ n0 bf).1 8024) 161 = .ok (.goto 82, 3) := zd zm_8024 (by decide +kernel)
theorem d_8024_164 {σ : Nat → Nat} {n0 : Nat} {bf : ab_B} : decode (ab_code (zx σ n0 bf).1 8024) 164 = .ok (.iload_n 2, 1) := zd zm_8024 (by decide +kernel)
theorem d_8024_165 {σ : Nat → Nat} {n0 : Nat} {bf : ab_B} : decode (ab_code (zx σ n0 bf).1 8024) 165 = .ok (.bipush 61, 2) := zd zm_8024 (by decide +kernel)
theorem d_8024_167 {σ : Nat → Nat} {n0 : Nat} {bf : ab_B} : decode (ab_code (zx σ n0 bf).1 8024) 167 = .ok (.if_icmp .ne 8, 3) := zd zm_8024 (by decide +kernel)
theorem d_8024_170 {σ : Nat → Nat} {n0 : Nat} {bf : ab_B} : decode (ab_code (zx σ n0 bf).1 8024) 170 = .ok (.bipush 18, 2) := zd zm_8024 (by decide +kernel)
theorem d_8024_172 {σ : Nat → Nat} {n0 : Nat} {bf : ab_B} : decode (ab_code (zx σ n0 bf).1 8024) 172 = .ok (.goto 71, 3) := zd zm_8024 (by decide +kernel)
theorem d_8024_175 {σ : Nat → Nat} {n0 : Nat} {bf : ab_B} : decode (ab_code (zx σ n0 bf).1 8024) 175 = .ok (.iconst 0, 1) := zd zm_8024 (by decide +kernel)
theorem d_8024_176 {σ : Nat → Nat} {n0 : Nat} {bf : ab_B} : decode (ab_code (zx σ n0 bf).1 8024) 176 = .ok (.goto 67, 3) := zd zm_8024 (by decide +kernel)
theorem d_8024_179 {σ : Nat → Nat} {n0 : Nat} {bf : ab_B} : decode (ab_code (zx σ n0 bf).1 8024) 179 = .ok (.iload_n 1, 1) := zd zm_8024 (by decide +kernel)
theorem d_8024_180 {σ : Nat → Nat} {n0 : Nat} {bf : ab_B} : decode (ab_code (zx σ n0 bf).1 8024) 180 = .ok (.bipush 62, 2) := zd zm_8024 (by decide +kernel)
theorem d_8024_182 {σ : Nat → Nat} {n0 : Nat} {bf : ab_B} : decode (ab_code (zx σ n0 bf).1 8024) 182 = .ok (.if_icmp .ne 18, 3) := zd zm_8024 (by decide +kernel)
theorem d_8024_185 {σ : Nat → Nat} {n0 : Nat} {bf : ab_B} : decode (ab_code (zx σ n0 bf).1 8024) 185 = .ok (.iload_n 2, 1) := zd zm_8024 (by decide +kernel)
theorem d_8024_186 {σ : Nat → Nat} {n0 : Nat} {bf : ab_B} : decode (ab_code (zx σ n0 bf).1 8024) 186 = .ok (.bipush 61, 2) := zd zm_8024 (by decide +kernel)
theorem d_8024_188 {σ : Nat → Nat} {n0 : Nat} {bf : ab_B} : decode (ab_code (zx σ n0 bf).1 8024) 188 = .ok (.if_icmp .ne 8, 3) := zd zm_8024 (by decide +kernel)
theorem d_8024_191 {σ : Nat → Nat} {n0 : Nat} {bf : ab_B} : decode (ab_code (zx σ n0 bf).1 8024) 191 = .ok (.bipush 19, 2) := zd zm_8024 (by decide +kernel)
theorem d_8024_193 {σ : Nat → Nat} {n0 : Nat} {bf : ab_B} : decode (ab_code (zx σ n0 bf).1 8024) 193 = .ok (.goto 50, 3) := zd zm_8024 (by decide +kernel)
theorem d_8024_196 {σ : Nat → Nat} {n0 : Nat} {bf : ab_B} : decode (ab_code (zx σ n0 bf).1 8024) 196 = .ok (.iconst 0, 1) := zd zm_8024 (by decide +kernel)
theorem d_8024_197 {σ : Nat → Nat} {n0 : Nat} {bf : ab_B} : decode (ab_code (zx σ n0 bf).1 8024) 197 = .ok (.goto 46, 3) := zd zm_8024 (by decide +kernel)
theorem d_8024_200 {σ : Nat → Nat} {n0 : Nat} {bf : ab_B} : decode (ab_code (zx σ n0 bf).1 8024) 200 = .ok (.iload_n 1, 1) := zd zm_8024 (by decide +kernel)
theorem d_8024_201 {σ : Nat → Nat} {n0 : Nat} {bf : ab_B} : decode (ab_code (zx σ n0 bf).1 8024) 201 = .ok (.bipush 58, 2) := zd zm_8024 (by decide +kernel)
theorem d_8024_203 {σ : Nat → Nat} {n0 : Nat} {bf : ab_B} : decode (ab_code (zx σ n0 bf).1 8024) 203 = .ok (.if_icmp .ne 18, 3) := zd zm_8024 (by decide +kernel)
theorem d_8024_206 {σ : Nat → Nat} {n0 : Nat} {bf : ab_B} : decode (ab_code (zx σ n0 bf).1 8024) 206 = .ok (.iload_n 2, 1) := zd zm_8024 (by decide +kernel)
theorem d_8024_207 {σ : Nat → Nat} {n0 : Nat} {bf : ab_B} : decode (ab_code (zx σ n0 bf).1 8024) 207 = .ok (.bipush 61, 2) := zd zm_8024 (by decide +kernel)
theorem d_8024_209 {σ : Nat → Nat} {n0 : Nat} {bf : ab_B} : decode (ab_code (zx σ n0 bf).1 8024) 209 = .ok (.if_icmp .ne 8, 3) := zd zm_8024 (by decide +kernel)
theorem d_8024_212 {σ : Nat → Nat} {n0 : Nat} {bf : ab_B} : decode (ab_code (zx σ n0 bf).1 8024) 212 = .ok (.bipush 20, 2) := zd zm_8024 (by decide +kernel)
theorem d_8024_214 {σ : Nat → Nat} {n0 : Nat} {bf : ab_B} : decode (ab_code (zx σ n0 bf).1 8024) 214 = .ok (.goto 29, 3) := zd zm_8024 (by decide +kernel)
theorem d_8024_217 {σ : Nat → Nat} {n0 : Nat} {bf : ab_B} : decode (ab_code (zx σ n0 bf).1 8024) 217 = .ok (.iconst 0, 1) := zd zm_8024 (by decide +kernel)
theorem d_8024_218 {σ : Nat → Nat} {n0 : Nat} {bf : ab_B} : decode (ab_code (zx σ n0 bf).1 8024) 218 = .ok (.goto 25, 3) := zd zm_8024 (by decide +kernel)
theorem d_8024_221 {σ : Nat → Nat} {n0 : Nat} {bf : ab_B} : decode (ab_code (zx σ n0 bf).1 8024) 221 = .ok (.iload_n 1, 1) := zd zm_8024 (by decide +kernel)
theorem d_8024_222 {σ : Nat → Nat} {n0 : Nat} {bf : ab_B} : decode (ab_code (zx σ n0 bf).1 8024) 222 = .ok (.bipush 46, 2) := zd zm_8024 (by decide +kernel)
theorem d_8024_224 {σ : Nat → Nat} {n0 : Nat} {bf : ab_B} : decode (ab_code (zx σ n0 bf).1 8024) 224 = .ok (.if_icmp .ne 18, 3) := zd zm_8024 (by decide +kernel)
theorem d_8024_227 {σ : Nat → Nat} {n0 : Nat} {bf : ab_B} : decode (ab_code (zx σ n0 bf).1 8024) 227 = .ok (.iload_n 2, 1) := zd zm_8024 (by decide +kernel)
theorem d_8024_228 {σ : Nat → Nat} {n0 : Nat} {bf : ab_B} : decode (ab_code (zx σ n0 bf).1 8024) 228 = .ok (.bipush 46, 2) := zd zm_8024 (by decide +kernel)
theorem d_8024_230 {σ : Nat → Nat} {n0 : Nat} {bf : ab_B} : decode (ab_code (zx σ n0 bf).1 8024) 230 = .ok (.if_icmp .ne 8, 3) := zd zm_8024 (by decide +kernel)
theorem d_8024_233 {σ : Nat → Nat} {n0 : Nat} {bf : ab_B} : decode (ab_code (zx σ n0 bf).1 8024) 233 = .ok (.bipush 21, 2) := zd zm_8024 (by decide +kernel)
theorem d_8024_235 {σ : Nat → Nat} {n0 : Nat} {bf : ab_B} : decode (ab_code (zx σ n0 bf).1 8024) 235 = .ok (.goto 8, 3) := zd zm_8024 (by decide +kernel)
theorem d_8024_238 {σ : Nat → Nat} {n0 : Nat} {bf : ab_B} : decode (ab_code (zx σ n0 bf).1 8024) 238 = .ok (.iconst 0, 1) := zd zm_8024 (by decide +kernel)
theorem d_8024_239 {σ : Nat → Nat} {n0 : Nat} {bf : ab_B} : decode (ab_code (zx σ n0 bf).1 8024) 239 = .ok (.goto 4, 3) := zd zm_8024 (by decide +kernel)
theorem d_8024_242 {σ : Nat → Nat} {n0 : Nat} {bf : ab_B} : decode (ab_code (zx σ n0 bf).1 8024) 242 = .ok (.iconst 0, 1) := zd zm_8024 (by decide +kernel)
theorem d_8024_243 {σ : Nat → Nat} {n0 : Nat} {bf : ab_B} : decode (ab_code (zx σ n0 bf).1 8024) 243 = .ok (.istore_n 3, 1) := zd zm_8024 (by decide +kernel)
theorem d_8024_244 {σ : Nat → Nat} {n0 : Nat} {bf : ab_B} : decode (ab_code (zx σ n0 bf).1 8024) 244 = .ok (.iload_n 3, 1) := zd zm_8024 (by decide +kernel)
theorem d_8024_245 {σ : Nat → Nat} {n0 : Nat} {bf : ab_B} : decode (ab_code (zx σ n0 bf).1 8024) 245 = .ok (.ifCond .le 21, 3) := zd zm_8024 (by decide +kernel)
theorem d_8024_248 {σ : Nat → Nat} {n0 : Nat} {bf : ab_B} : decode (ab_code (zx σ n0 bf).1 8024) 248 = .ok (.aload_n 0, 1) := zd zm_8024 (by decide +kernel)
theorem d_8024_249 {σ : Nat → Nat} {n0 : Nat} {bf : ab_B} : decode (ab_code (zx σ n0 bf).1 8024) 249 = .ok (.iload_n 3, 1) := zd zm_8024 (by decide +kernel)
theorem d_8024_250 {σ : Nat → Nat} {n0 : Nat} {bf : ab_B} : decode (ab_code (zx σ n0 bf).1 8024) 250 = .ok (.putfield 494, 3) := zd zm_8024 (by decide +kernel)
theorem d_8024_253 {σ : Nat → Nat} {n0 : Nat} {bf : ab_B} : decode (ab_code (zx σ n0 bf).1 8024) 253 = .ok (.aload_n 0, 1) := zd zm_8024 (by decide +kernel)
theorem d_8024_254 {σ : Nat → Nat} {n0 : Nat} {bf : ab_B} : decode (ab_code (zx σ n0 bf).1 8024) 254 = .ok (.dup, 1) := zd zm_8024 (by decide +kernel)
theorem d_8024_255 {σ : Nat → Nat} {n0 : Nat} {bf : ab_B} : decode (ab_code (zx σ n0 bf).1 8024) 255 = .ok (.getfield 487, 3) := zd zm_8024 (by decide +kernel)
theorem d_8024_258 {σ : Nat → Nat} {n0 : Nat} {bf : ab_B} : decode (ab_code (zx σ n0 bf).1 8024) 258 = .ok (.iconst 2, 1) := zd zm_8024 (by decide +kernel)
theorem d_8024_259 {σ : Nat → Nat} {n0 : Nat} {bf : ab_B} : decode (ab_code (zx σ n0 bf).1 8024) 259 = .ok (.iadd, 1) := zd zm_8024 (by decide +kernel)
theorem d_8024_260 {σ : Nat → Nat} {n0 : Nat} {bf : ab_B} : decode (ab_code (zx σ n0 bf).1 8024) 260 = .ok (.putfield 487, 3) := zd zm_8024 (by decide +kernel)
theorem d_8024_263 {σ : Nat → Nat} {n0 : Nat} {bf : ab_B} : decode (ab_code (zx σ n0 bf).1 8024) 263 = .ok (.goto 81, 3) := zd zm_8024 (by decide +kernel)
theorem d_8024_266 {σ : Nat → Nat} {n0 : Nat} {bf : ab_B} : decode (ab_code (zx σ n0 bf).1 8024) 266 = .ok (.aload_n 0, 1) := zd zm_8024 (by decide +kernel)
theorem d_8024_267 {σ : Nat → Nat} {n0 : Nat} {bf : ab_B} : decode (ab_code (zx σ n0 bf).1 8024) 267 = .ok (.iload_n 1, 1) := zd zm_8024 (by decide +kernel)
theorem d_8024_268 {σ : Nat → Nat} {n0 : Nat} {bf : ab_B} : decode (ab_code (zx σ n0 bf).1 8024) 268 = .ok (.bipush 60, 2) := zd zm_8024 (by decide +kernel)
theorem d_8024_270 {σ : Nat → Nat} {n0 : Nat} {bf : ab_B} : decode (ab_code (zx σ n0 bf).1 8024) 270 = .ok (.if_icmp .ne 8, 3) := zd zm_8024 (by decide +kernel)
theorem d_8024_273 {σ : Nat → Nat} {n0 : Nat} {bf : ab_B} : decode (ab_code (zx σ n0 bf).1 8024) 273 = .ok (.bipush 6, 2) := zd zm_8024 (by decide +kernel)
theorem d_8024_275 {σ : Nat → Nat} {n0 : Nat} {bf : ab_B} : decode (ab_code (zx σ n0 bf).1 8024) 275 = .ok (.goto 40, 3) := zd zm_8024 (by decide +kernel)
theorem d_8024_278 {σ : Nat → Nat} {n0 : Nat} {bf : ab_B} : decode (ab_code (zx σ n0 bf).1 8024) 278 = .ok (.iload_n 1, 1) := zd zm_8024 (by decide +kernel)
theorem d_8024_279 {σ : Nat → Nat} {n0 : Nat} {bf : ab_B} : decode (ab_code (zx σ n0 bf).1 8024) 279 = .ok (.bipush 62, 2) := zd zm_8024 (by decide +kernel)
theorem d_8024_281 {σ : Nat → Nat} {n0 : Nat} {bf : ab_B} : decode (ab_code (zx σ n0 bf).1 8024) 281 = .ok (.if_icmp .ne 8, 3) := zd zm_8024 (by decide +kernel)
theorem d_8024_284 {σ : Nat → Nat} {n0 : Nat} {bf : ab_B} : decode (ab_code (zx σ n0 bf).1 8024) 284 = .ok (.bipush 7, 2) := zd zm_8024 (by decide +kernel)
theorem d_8024_286 {σ : Nat → Nat} {n0 : Nat} {bf : ab_B} : decode (ab_code (zx σ n0 bf).1 8024) 286 = .ok (.goto 29, 3) := zd zm_8024 (by decide +kernel)
theorem d_8024_289 {σ : Nat → Nat} {n0 : Nat} {bf : ab_B} : decode (ab_code (zx σ n0 bf).1 8024) 289 = .ok (.iload_n 1, 1) := zd zm_8024 (by decide +kernel)
theorem d_8024_290 {σ : Nat → Nat} {n0 : Nat} {bf : ab_B} : decode (ab_code (zx σ n0 bf).1 8024) 290 = .ok (.bipush 58, 2) := zd zm_8024 (by decide +kernel)
theorem d_8024_292 {σ : Nat → Nat} {n0 : Nat} {bf : ab_B} : decode (ab_code (zx σ n0 bf).1 8024) 292 = .ok (.if_icmp .ne 8, 3) := zd zm_8024 (by decide +kernel)
theorem d_8024_295 {σ : Nat → Nat} {n0 : Nat} {bf : ab_B} : decode (ab_code (zx σ n0 bf).1 8024) 295 = .ok (.bipush 14, 2) := zd zm_8024 (by decide +kernel)
theorem d_8024_297 {σ : Nat → Nat} {n0 : Nat} {bf : ab_B} : decode (ab_code (zx σ n0 bf).1 8024) 297 = .ok (.goto 18, 3) := zd zm_8024 (by decide +kernel)
theorem d_8024_300 {σ : Nat → Nat} {n0 : Nat} {bf : ab_B} : decode (ab_code (zx σ n0 bf).1 8024) 300 = .ok (.iload_n 1, 1) := zd zm_8024 (by decide +kernel)
theorem d_8024_301 {σ : Nat → Nat} {n0 : Nat} {bf : ab_B} : decode (ab_code (zx σ n0 bf).1 8024) 301 = .ok (.bipush 46, 2) := zd zm_8024 (by decide +kernel)
theorem d_8024_303 {σ : Nat → Nat} {n0 : Nat} {bf : ab_B} : decode (ab_code (zx σ n0 bf).1 8024) 303 = .ok (.if_icmp .ne 8, 3) := zd zm_8024 (by decide +kernel)
theorem d_8024_306 {σ : Nat → Nat} {n0 : Nat} {bf : ab_B} : decode (ab_code (zx σ n0 bf).1 8024) 306 = .ok (.bipush 16, 2) := zd zm_8024 (by decide +kernel)
theorem d_8024_308 {σ : Nat → Nat} {n0 : Nat} {bf : ab_B} : decode (ab_code (zx σ n0 bf).1 8024) 308 = .ok (.goto 7, 3) := zd zm_8024 (by decide +kernel)
theorem d_8024_311 {σ : Nat → Nat} {n0 : Nat} {bf : ab_B} : decode (ab_code (zx σ n0 bf).1 8024) 311 = .ok (.aload_n 0, 1) := zd zm_8024 (by decide +kernel)
theorem d_8024_312 {σ : Nat → Nat} {n0 : Nat} {bf : ab_B} : decode (ab_code (zx σ n0 bf).1 8024) 312 = .ok (.getfield 494, 3) := zd zm_8024 (by decide +kernel)
theorem d_8024_315 {σ : Nat → Nat} {n0 : Nat} {bf : ab_B} : decode (ab_code (zx σ n0 bf).1 8024) 315 = .ok (.putfield 494, 3) := zd zm_8024 (by decide +kernel)
theorem d_8024_318 {σ : Nat → Nat} {n0 : Nat} {bf : ab_B} : decode (ab_code (zx σ n0 bf).1 8024) 318 = .ok (.aload_n 0, 1) := zd zm_8024 (by decide +kernel)
theorem d_8024_319 {σ : Nat → Nat} {n0 : Nat} {bf : ab_B} : decode (ab_code (zx σ n0 bf).1 8024) 319 = .ok (.getfield 494, 3) := zd zm_8024 (by decide +kernel)
theorem d_8024_322 {σ : Nat → Nat} {n0 : Nat} {bf : ab_B} : decode (ab_code (zx σ n0 bf).1 8024) 322 = .ok (.ifCond .ne 12, 3) := zd zm_8024 (by decide +kernel)
theorem d_8024_325 {σ : Nat → Nat} {n0 : Nat} {bf : ab_B} : decode (ab_code (zx σ n0 bf).1 8024) 325 = .ok (.aload_n 0, 1) := zd zm_8024 (by decide +kernel)
theorem d_8024_326 {σ : Nat → Nat} {n0 : Nat} {bf : ab_B} : decode (ab_code (zx σ n0 bf).1 8024) 326 = .ok (.aload_n 0, 1) := zd zm_8024 (by decide +kernel)
theorem d_8024_327 {σ : Nat → Nat} {n0 : Nat} {bf : ab_B} : decode (ab_code (zx σ n0 bf).1 8024) 327 = .ok (.getfield 487, 3) := zd zm_8024 (by decide +kernel)
theorem d_8024_330 {σ : Nat → Nat} {n0 : Nat} {bf : ab_B} : decode (ab_code (zx σ n0 bf).1 8024) 330 = .ok (.invokevirtual 490, 3) := zd zm_8024 (by decide +kernel)
theorem d_8024_333 {σ : Nat → Nat} {n0 : Nat} {bf : ab_B} : decode (ab_code (zx σ n0 bf).1 8024) 333 = .ok (.return_, 1) := zd zm_8024 (by decide +kernel)
theorem d_8024_334 {σ : Nat → Nat} {n0 : Nat} {bf : ab_B} : decode (ab_code (zx σ n0 bf).1 8024) 334 = .ok (.aload_n 0, 1) := zd zm_8024 (by decide +kernel)
theorem d_8024_335 {σ : Nat → Nat} {n0 : Nat} {bf : ab_B} : decode (ab_code (zx σ n0 bf).1 8024) 335 = .ok (.dup, 1) := zd zm_8024 (by decide +kernel)
theorem d_8024_336 {σ : Nat → Nat} {n0 : Nat} {bf : ab_B} : decode (ab_code (zx σ n0 bf).1 8024) 336 = .ok (.getfield 487, 3) := zd zm_8024 (by decide +kernel)
theorem d_8024_339 {σ : Nat → Nat} {n0 : Nat} {bf : ab_B} : decode (ab_code (zx σ n0 bf).1 8024) 339 = .ok (.iconst 1, 1) := zd zm_8024 (by decide +kernel)
theorem d_8024_340 {σ : Nat → Nat} {n0 : Nat} {bf : ab_B} : decode (ab_code (zx σ n0 bf).1 8024) 340 = .ok (.iadd, 1) := zd zm_8024 (by decide +kernel)
theorem d_8024_341 {σ : Nat → Nat} {n0 : Nat} {bf : ab_B} : decode (ab_code (zx σ n0 bf).1 8024) 341 = .ok (.putfield 487, 3) := zd zm_8024 (by decide +kernel)
theorem d_8024_344 {σ : Nat → Nat} {n0 : Nat} {bf : ab_B} : decode (ab_code (zx σ n0 bf).1 8024) 344 = .ok (.return_, 1) := zd zm_8024 (by decide +kernel)
def w_X9_readSign_315 (X : zs_X) (d : Nat) (p0 : Nat) (q0 : Option Nat) (q1 : Int32) (S : zs_T) (Q : zs_Q) : Prop :=
  (∃ b1, q0 = some b1 ∧ zs_K S b1 = some (.inl 8) ∧ ab_n0 X.1 ≤ b1 ∧ ∀ S5, S5 = zs_sI S 8009 b1 q1 → zs_K S p0 = some (.inl 8) ∧ ((¬ (zs_I S5 8009 p0) = 0 → (ab_n0 X.1 ≤ p0 ∧ ∀ S11, S11 = zs_sI S5 8005 p0 ((zs_I S5 8005 p0) + (1 : Int32)) → Q (.returned none) S11)) ∧ (¬ (¬ (zs_I S5 8009 p0) = 0) → (zs_C X d 8016 [.ref p0, .int (zs_I S5 8005 p0)] S5 (zs_kV (fun S14 => (Q (.returned none) S14)) Q)))))
theorem u_X9_readSign_315 {σ : Nat → Nat} {n0 : Nat} {bf : ab_B} {d : Nat} {p0 : Nat} {q0 : Option Nat} {q1 : Int32} {S : zs_T} {Q : zs_Q} (hB : zt_B bf) (h : w_X9_readSign_315 (zx σ n0 bf) d p0 q0 q1 S Q) : zs_U (zx σ n0 bf) d 8024 315 [(0, .ref p0)] [.int q1, va_rf q0] S Q := by
  unfold w_X9_readSign_315 at h
  obtain ⟨b1, e2, h⟩ := h
  refine zs_stk1 (zs_rfe e2) ?_
  obtain ⟨k3, h⟩ := h
  obtain ⟨k4, h⟩ := h
  refine zp_8_494 (v := q1) rfl d_8024_315 k3 k4 ?_
  generalize e6 : zs_sI S 8009 b1 q1 = S5
  have h := h S5 e6.symm
  have K7 : ∀ b, zs_K S5 b = zs_K S b := zs_Kt e6 (zs_KsI _ _ _ _) (fun _ => rfl)
  refine zu_aload_n d_8024_318 rfl (zs_ra _) ?_
  obtain ⟨k8, h⟩ := h
  refine zg_8_494 rfl d_8024_319 ((K7 _).trans k8) ?_
  refine zu_ifne (t := 334) d_8024_322 rfl (fun c9 => ?_) (fun c9 => ?_)
  · have h := h.1 c9
    refine zu_aload_n d_8024_334 rfl (zs_ra _) ?_
    refine zu_dup d_8024_335 rfl ?_
    refine zg_8_487 rfl d_8024_336 ((K7 _).trans k8) ?_
    refine zu_iconst d_8024_339 zi_1 ?_
    refine zu_stk d_8024_340 rfl rfl ?_
    obtain ⟨k10, h⟩ := h
    refine zp_8_487 (v := ((zs_I S5 8005 p0) + (1 : Int32))) rfl d_8024_341 ((K7 _).trans k8) k10 ?_
    generalize e12 : zs_sI S5 8005 p0 ((zs_I S5 8005 p0) + (1 : Int32)) = S11
    have h := h S11 e12.symm
    have K13 : ∀ b, zs_K S11 b = zs_K S b := zs_Kt e12 (zs_KsI _ _ _ _) K7
    exact zu_vret d_8024_344 zr_8024 h
  · have h := h.2 c9
    refine zu_aload_n d_8024_325 rfl (zs_ra _) ?_
    refine zu_aload_n d_8024_326 rfl (zs_ra _) ?_
    refine zg_8_487 rfl d_8024_327 ((K7 _).trans k8) ?_
    refine zc_8_490 (x0 := (zs_I S5 8005 p0)) hB rfl ((K7 _).trans k8) d_8024_330 (Nat.le_of_ble_eq_true rfl) h (fun S14 h => ?_)
    exact zu_vret d_8024_333 zr_8024 h
def w_X9_readSign_243 (X : zs_X) (d : Nat) (p0 : Nat) (p1 : Int32) (q0 : Int32) (S : zs_T) (Q : zs_Q) : Prop :=
  (((q0 ≤ 0 → (((¬ p1 = (60 : Int32) → (((¬ p1 = (62 : Int32) → (((¬ p1 = (58 : Int32) → (((¬ p1 = (46 : Int32) → (zs_K S p0 = some (.inl 8) ∧ w_X9_readSign_315 X d p0 (some p0) (zs_I S 8009 p0) S Q)) ∧ (¬ (¬ p1 = (46 : Int32)) → (w_X9_readSign_315 X d p0 (some p0) (16 : Int32) S Q))))) ∧ (¬ (¬ p1 = (58 : Int32)) → (w_X9_readSign_315 X d p0 (some p0) (14 : Int32) S Q))))) ∧ (¬ (¬ p1 = (62 : Int32)) → (w_X9_readSign_315 X d p0 (some p0) (7 : Int32) S Q))))) ∧ (¬ (¬ p1 = (60 : Int32)) → (w_X9_readSign_315 X d p0 (some p0) (6 : Int32) S Q))))) ∧ (¬ (q0 ≤ 0) → (zs_K S p0 = some (.inl 8) ∧ ab_n0 X.1 ≤ p0 ∧ ∀ S9, S9 = zs_sI S 8009 p0 q0 → ∀ S12, S12 = zs_sI S9 8005 p0 ((zs_I S9 8005 p0) + (2 : Int32)) → Q (.returned none) S12))))
theorem u_X9_readSign_243 {σ : Nat → Nat} {n0 : Nat} {bf : ab_B} {d : Nat} {p0 : Nat} {p1 : Int32} {q0 : Int32} {S : zs_T} {Q : zs_Q} (hB : zt_B bf) (h : w_X9_readSign_243 (zx σ n0 bf) d p0 p1 q0 S Q) : zs_U (zx σ n0 bf) d 8024 243 [(0, .ref p0), (1, .int p1)] [.int q0] S Q := by
  unfold w_X9_readSign_243 at h
  refine zu_istore_n d_8024_243 (zs_lt zq_8024 rfl) ?_
  refine zu_iload_n d_8024_244 rfl ?_
  refine zu_ifle (t := 266) d_8024_245 rfl (fun c1 => ?_) (fun c1 => ?_)
  · have h := h.1 c1
    refine zu_aload_n d_8024_266 rfl (zs_ra _) ?_
    refine zu_iload_n d_8024_267 rfl ?_
    refine zu_bipush d_8024_268 zj_60 ?_
    refine zu_cmpne (t := 278) d_8024_270 rfl (fun c2 => ?_) (fun c2 => ?_)
    · have h := h.1 c2
      refine zu_iload_n d_8024_278 rfl ?_
      refine zu_bipush d_8024_279 zj_62 ?_
      refine zu_cmpne (t := 289) d_8024_281 rfl (fun c3 => ?_) (fun c3 => ?_)
      · have h := h.1 c3
        refine zu_iload_n d_8024_289 rfl ?_
        refine zu_bipush d_8024_290 zj_58 ?_
        refine zu_cmpne (t := 300) d_8024_292 rfl (fun c4 => ?_) (fun c4 => ?_)
        · have h := h.1 c4
          refine zu_iload_n d_8024_300 rfl ?_
          refine zu_bipush d_8024_301 zj_46 ?_
          refine zu_cmpne (t := 311) d_8024_303 rfl (fun c5 => ?_) (fun c5 => ?_)
          · have h := h.1 c5
            refine zu_aload_n d_8024_311 rfl (zs_ra _) ?_
            obtain ⟨k6, h⟩ := h
            refine zg_8_494 rfl d_8024_312 k6 ?_
            exact (u_X9_readSign_315 hB h).weak ⟨rfl, trivial⟩
          · have h := h.2 c5
            refine zu_bipush d_8024_306 zj_16 ?_
            refine zu_goto (t := 315) d_8024_308 rfl ?_
            exact (u_X9_readSign_315 hB h).weak ⟨rfl, trivial⟩
        · have h := h.2 c4
          refine zu_bipush d_8024_295 zj_14 ?_
          refine zu_goto (t := 315) d_8024_297 rfl ?_
          exact (u_X9_readSign_315 hB h).weak ⟨rfl, trivial⟩
      · have h := h.2 c3
        refine zu_bipush d_8024_284 zj_7 ?_
        refine zu_goto (t := 315) d_8024_286 rfl ?_
        exact (u_X9_readSign_315 hB h).weak ⟨rfl, trivial⟩
    · have h := h.2 c2
      refine zu_bipush d_8024_273 zj_6 ?_
      refine zu_goto (t := 315) d_8024_275 rfl ?_
      exact (u_X9_readSign_315 hB h).weak ⟨rfl, trivial⟩
  · have h := h.2 c1
    refine zu_aload_n d_8024_248 rfl (zs_ra _) ?_
    refine zu_iload_n d_8024_249 rfl ?_
    obtain ⟨k7, h⟩ := h
    obtain ⟨k8, h⟩ := h
    refine zp_8_494 (v := q0) rfl d_8024_250 k7 k8 ?_
    generalize e10 : zs_sI S 8009 p0 q0 = S9
    have h := h S9 e10.symm
    have K11 : ∀ b, zs_K S9 b = zs_K S b := zs_Kt e10 (zs_KsI _ _ _ _) (fun _ => rfl)
    refine zu_aload_n d_8024_253 rfl (zs_ra _) ?_
    refine zu_dup d_8024_254 rfl ?_
    refine zg_8_487 rfl d_8024_255 ((K11 _).trans k7) ?_
    refine zu_iconst d_8024_258 zi_2 ?_
    refine zu_stk d_8024_259 rfl rfl ?_
    refine zp_8_487 (v := ((zs_I S9 8005 p0) + (2 : Int32))) rfl d_8024_260 ((K11 _).trans k7) k8 ?_
    generalize e13 : zs_sI S9 8005 p0 ((zs_I S9 8005 p0) + (2 : Int32)) = S12
    have h := h S12 e13.symm
    have K14 : ∀ b, zs_K S12 b = zs_K S b := zs_Kt e13 (zs_KsI _ _ _ _) K11
    refine zu_goto (t := 344) d_8024_263 rfl ?_
    exact zu_vret d_8024_344 zr_8024 h
def w_X9_readSign_238 (X : zs_X) (d : Nat) (p0 : Nat) (p1 : Int32) (S : zs_T) (Q : zs_Q) : Prop :=
  (w_X9_readSign_243 X d p0 p1 (0 : Int32) S Q)
theorem u_X9_readSign_238 {σ : Nat → Nat} {n0 : Nat} {bf : ab_B} {d : Nat} {p0 : Nat} {p1 : Int32} {S : zs_T} {Q : zs_Q} (hB : zt_B bf) (h : w_X9_readSign_238 (zx σ n0 bf) d p0 p1 S Q) : zs_U (zx σ n0 bf) d 8024 238 [(0, .ref p0), (1, .int p1)] [] S Q := by
  unfold w_X9_readSign_238 at h
  refine zu_iconst d_8024_238 zi_0 ?_
  refine zu_goto (t := 243) d_8024_239 rfl ?_
  exact (u_X9_readSign_243 hB h).weak ⟨rfl, rfl, trivial⟩
def w_X9_readSign_233 (X : zs_X) (d : Nat) (p0 : Nat) (p1 : Int32) (S : zs_T) (Q : zs_Q) : Prop :=
  (w_X9_readSign_243 X d p0 p1 (21 : Int32) S Q)
theorem u_X9_readSign_233 {σ : Nat → Nat} {n0 : Nat} {bf : ab_B} {d : Nat} {p0 : Nat} {p1 : Int32} {S : zs_T} {Q : zs_Q} (hB : zt_B bf) (h : w_X9_readSign_233 (zx σ n0 bf) d p0 p1 S Q) : zs_U (zx σ n0 bf) d 8024 233 [(0, .ref p0), (1, .int p1)] [] S Q := by
  unfold w_X9_readSign_233 at h
  refine zu_bipush d_8024_233 zj_21 ?_
  refine zu_goto (t := 243) d_8024_235 rfl ?_
  exact (u_X9_readSign_243 hB h).weak ⟨rfl, rfl, trivial⟩
def w_X9_readSign_144 (X : zs_X) (d : Nat) (p0 : Nat) (p1 : Int32) (p2 : Int32) (q0 : Option Nat) (q1 : Int32) (S : zs_T) (Q : zs_Q) : Prop :=
  (∃ b1, q0 = some b1 ∧ zs_K S b1 = some (.inl 8) ∧ ab_n0 X.1 ≤ b1 ∧ ∀ S5, S5 = zs_sI S 8009 b1 q1 → ((¬ p1 = (60 : Int32) → (((¬ p1 = (62 : Int32) → (((¬ p1 = (58 : Int32) → (((¬ p1 = (46 : Int32) → (w_X9_readSign_243 X d p0 p1 (0 : Int32) S5 Q)) ∧ (¬ (¬ p1 = (46 : Int32)) → (((¬ p2 = (46 : Int32) → w_X9_readSign_238 X d p0 p1 S5 Q) ∧ (¬ (¬ p2 = (46 : Int32)) → w_X9_readSign_233 X d p0 p1 S5 Q))))))) ∧ (¬ (¬ p1 = (58 : Int32)) → (((¬ p2 = (61 : Int32) → (w_X9_readSign_243 X d p0 p1 (0 : Int32) S5 Q)) ∧ (¬ (¬ p2 = (61 : Int32)) → (w_X9_readSign_243 X d p0 p1 (20 : Int32) S5 Q)))))))) ∧ (¬ (¬ p1 = (62 : Int32)) → (((¬ p2 = (61 : Int32) → (w_X9_readSign_243 X d p0 p1 (0 : Int32) S5 Q)) ∧ (¬ (¬ p2 = (61 : Int32)) → (w_X9_readSign_243 X d p0 p1 (19 : Int32) S5 Q)))))))) ∧ (¬ (¬ p1 = (60 : Int32)) → (((¬ p2 = (62 : Int32) → (((¬ p2 = (61 : Int32) → (w_X9_readSign_243 X d p0 p1 (0 : Int32) S5 Q)) ∧ (¬ (¬ p2 = (61 : Int32)) → (w_X9_readSign_243 X d p0 p1 (18 : Int32) S5 Q))))) ∧ (¬ (¬ p2 = (62 : Int32)) → (w_X9_readSign_243 X d p0 p1 (17 : Int32) S5 Q)))))))
theorem u_X9_readSign_144 {σ : Nat → Nat} {n0 : Nat} {bf : ab_B} {d : Nat} {p0 : Nat} {p1 : Int32} {p2 : Int32} {q0 : Option Nat} {q1 : Int32} {S : zs_T} {Q : zs_Q} (hB : zt_B bf) (h : w_X9_readSign_144 (zx σ n0 bf) d p0 p1 p2 q0 q1 S Q) : zs_U (zx σ n0 bf) d 8024 144 [(0, .ref p0), (1, .int p1), (2, .int p2)] [.int q1, va_rf q0] S Q := by
  unfold w_X9_readSign_144 at h
  obtain ⟨b1, e2, h⟩ := h
  refine zs_stk1 (zs_rfe e2) ?_
  obtain ⟨k3, h⟩ := h
  obtain ⟨k4, h⟩ := h
  refine zp_8_494 (v := q1) rfl d_8024_144 k3 k4 ?_
  generalize e6 : zs_sI S 8009 b1 q1 = S5
  have h := h S5 e6.symm
  have K7 : ∀ b, zs_K S5 b = zs_K S b := zs_Kt e6 (zs_KsI _ _ _ _) (fun _ => rfl)
  refine zu_iload_n d_8024_147 rfl ?_
  refine zu_bipush d_8024_148 zj_60 ?_
  refine zu_cmpne (t := 179) d_8024_150 rfl (fun c8 => ?_) (fun c8 => ?_)
  · have h := h.1 c8
    refine zu_iload_n d_8024_179 rfl ?_
    refine zu_bipush d_8024_180 zj_62 ?_
    refine zu_cmpne (t := 200) d_8024_182 rfl (fun c9 => ?_) (fun c9 => ?_)
    · have h := h.1 c9
      refine zu_iload_n d_8024_200 rfl ?_
      refine zu_bipush d_8024_201 zj_58 ?_
      refine zu_cmpne (t := 221) d_8024_203 rfl (fun c10 => ?_) (fun c10 => ?_)
      · have h := h.1 c10
        refine zu_iload_n d_8024_221 rfl ?_
        refine zu_bipush d_8024_222 zj_46 ?_
        refine zu_cmpne (t := 242) d_8024_224 rfl (fun c11 => ?_) (fun c11 => ?_)
        · have h := h.1 c11
          refine zu_iconst d_8024_242 zi_0 ?_
          exact (u_X9_readSign_243 hB h).weak ⟨rfl, rfl, trivial⟩
        · have h := h.2 c11
          refine zu_iload_n d_8024_227 rfl ?_
          refine zu_bipush d_8024_228 zj_46 ?_
          refine zu_cmpne (t := 238) d_8024_230 rfl (fun c12 => ?_) (fun c12 => ?_)
          · have h := h.1 c12
            exact (u_X9_readSign_238 hB h).weak ⟨rfl, rfl, trivial⟩
          · have h := h.2 c12
            exact (u_X9_readSign_233 hB h).weak ⟨rfl, rfl, trivial⟩
      · have h := h.2 c10
        refine zu_iload_n d_8024_206 rfl ?_
        refine zu_bipush d_8024_207 zj_61 ?_
        refine zu_cmpne (t := 217) d_8024_209 rfl (fun c13 => ?_) (fun c13 => ?_)
        · have h := h.1 c13
          refine zu_iconst d_8024_217 zi_0 ?_
          refine zu_goto (t := 243) d_8024_218 rfl ?_
          exact (u_X9_readSign_243 hB h).weak ⟨rfl, rfl, trivial⟩
        · have h := h.2 c13
          refine zu_bipush d_8024_212 zj_20 ?_
          refine zu_goto (t := 243) d_8024_214 rfl ?_
          exact (u_X9_readSign_243 hB h).weak ⟨rfl, rfl, trivial⟩
    · have h := h.2 c9
      refine zu_iload_n d_8024_185 rfl ?_
      refine zu_bipush d_8024_186 zj_61 ?_
      refine zu_cmpne (t := 196) d_8024_188 rfl (fun c14 => ?_) (fun c14 => ?_)
      · have h := h.1 c14
        refine zu_iconst d_8024_196 zi_0 ?_
        refine zu_goto (t := 243) d_8024_197 rfl ?_
        exact (u_X9_readSign_243 hB h).weak ⟨rfl, rfl, trivial⟩
      · have h := h.2 c14
        refine zu_bipush d_8024_191 zj_19 ?_
        refine zu_goto (t := 243) d_8024_193 rfl ?_
        exact (u_X9_readSign_243 hB h).weak ⟨rfl, rfl, trivial⟩
  · have h := h.2 c8
    refine zu_iload_n d_8024_153 rfl ?_
    refine zu_bipush d_8024_154 zj_62 ?_
    refine zu_cmpne (t := 164) d_8024_156 rfl (fun c15 => ?_) (fun c15 => ?_)
    · have h := h.1 c15
      refine zu_iload_n d_8024_164 rfl ?_
      refine zu_bipush d_8024_165 zj_61 ?_
      refine zu_cmpne (t := 175) d_8024_167 rfl (fun c16 => ?_) (fun c16 => ?_)
      · have h := h.1 c16
        refine zu_iconst d_8024_175 zi_0 ?_
        refine zu_goto (t := 243) d_8024_176 rfl ?_
        exact (u_X9_readSign_243 hB h).weak ⟨rfl, rfl, trivial⟩
      · have h := h.2 c16
        refine zu_bipush d_8024_170 zj_18 ?_
        refine zu_goto (t := 243) d_8024_172 rfl ?_
        exact (u_X9_readSign_243 hB h).weak ⟨rfl, rfl, trivial⟩
    · have h := h.2 c15
      refine zu_bipush d_8024_159 zj_17 ?_
      refine zu_goto (t := 243) d_8024_161 rfl ?_
      exact (u_X9_readSign_243 hB h).weak ⟨rfl, rfl, trivial⟩
def w_X9_readSign_72 (X : zs_X) (d : Nat) (p0 : Nat) (p1 : Int32) (p2 : Int32) (q0 : Option Nat) (S : zs_T) (Q : zs_Q) : Prop :=
  (w_X9_readSign_144 X d p0 p1 p2 q0 (8 : Int32) S Q)
theorem u_X9_readSign_72 {σ : Nat → Nat} {n0 : Nat} {bf : ab_B} {d : Nat} {p0 : Nat} {p1 : Int32} {p2 : Int32} {q0 : Option Nat} {S : zs_T} {Q : zs_Q} (hB : zt_B bf) (h : w_X9_readSign_72 (zx σ n0 bf) d p0 p1 p2 q0 S Q) : zs_U (zx σ n0 bf) d 8024 72 [(0, .ref p0), (1, .int p1), (2, .int p2)] [va_rf q0] S Q := by
  unfold w_X9_readSign_72 at h
  refine zu_bipush d_8024_72 zj_8 ?_
  refine zu_goto (t := 144) d_8024_74 rfl ?_
  exact (u_X9_readSign_144 hB h).weak ⟨rfl, rfl, rfl, trivial⟩
def w_X9_readSign_77 (X : zs_X) (d : Nat) (p0 : Nat) (p1 : Int32) (p2 : Int32) (q0 : Option Nat) (S : zs_T) (Q : zs_Q) : Prop :=
  (((¬ p1 = (41 : Int32) → (((¬ p1 = (91 : Int32) → (((¬ p1 = (93 : Int32) → (((¬ p1 = (44 : Int32) → (((¬ p1 = (59 : Int32) → (((¬ p1 = (94 : Int32) → (w_X9_readSign_144 X d p0 p1 p2 q0 (0 : Int32) S Q)) ∧ (¬ (¬ p1 = (94 : Int32)) → (w_X9_readSign_144 X d p0 p1 p2 q0 (15 : Int32) S Q))))) ∧ (¬ (¬ p1 = (59 : Int32)) → (w_X9_readSign_144 X d p0 p1 p2 q0 (13 : Int32) S Q))))) ∧ (¬ (¬ p1 = (44 : Int32)) → (w_X9_readSign_144 X d p0 p1 p2 q0 (12 : Int32) S Q))))) ∧ (¬ (¬ p1 = (93 : Int32)) → (w_X9_readSign_144 X d p0 p1 p2 q0 (11 : Int32) S Q))))) ∧ (¬ (¬ p1 = (91 : Int32)) → (w_X9_readSign_144 X d p0 p1 p2 q0 (10 : Int32) S Q))))) ∧ (¬ (¬ p1 = (41 : Int32)) → (w_X9_readSign_144 X d p0 p1 p2 q0 (9 : Int32) S Q))))
theorem u_X9_readSign_77 {σ : Nat → Nat} {n0 : Nat} {bf : ab_B} {d : Nat} {p0 : Nat} {p1 : Int32} {p2 : Int32} {q0 : Option Nat} {S : zs_T} {Q : zs_Q} (hB : zt_B bf) (h : w_X9_readSign_77 (zx σ n0 bf) d p0 p1 p2 q0 S Q) : zs_U (zx σ n0 bf) d 8024 77 [(0, .ref p0), (1, .int p1), (2, .int p2)] [va_rf q0] S Q := by
  unfold w_X9_readSign_77 at h
  refine zu_iload_n d_8024_77 rfl ?_
  refine zu_bipush d_8024_78 zj_41 ?_
  refine zu_cmpne (t := 88) d_8024_80 rfl (fun c1 => ?_) (fun c1 => ?_)
  · have h := h.1 c1
    refine zu_iload_n d_8024_88 rfl ?_
    refine zu_bipush d_8024_89 zj_91 ?_
    refine zu_cmpne (t := 99) d_8024_91 rfl (fun c2 => ?_) (fun c2 => ?_)
    · have h := h.1 c2
      refine zu_iload_n d_8024_99 rfl ?_
      refine zu_bipush d_8024_100 zj_93 ?_
      refine zu_cmpne (t := 110) d_8024_102 rfl (fun c3 => ?_) (fun c3 => ?_)
      · have h := h.1 c3
        refine zu_iload_n d_8024_110 rfl ?_
        refine zu_bipush d_8024_111 zj_44 ?_
        refine zu_cmpne (t := 121) d_8024_113 rfl (fun c4 => ?_) (fun c4 => ?_)
        · have h := h.1 c4
          refine zu_iload_n d_8024_121 rfl ?_
          refine zu_bipush d_8024_122 zj_59 ?_
          refine zu_cmpne (t := 132) d_8024_124 rfl (fun c5 => ?_) (fun c5 => ?_)
          · have h := h.1 c5
            refine zu_iload_n d_8024_132 rfl ?_
            refine zu_bipush d_8024_133 zj_94 ?_
            refine zu_cmpne (t := 143) d_8024_135 rfl (fun c6 => ?_) (fun c6 => ?_)
            · have h := h.1 c6
              refine zu_iconst d_8024_143 zi_0 ?_
              exact (u_X9_readSign_144 hB h).weak ⟨rfl, rfl, rfl, trivial⟩
            · have h := h.2 c6
              refine zu_bipush d_8024_138 zj_15 ?_
              refine zu_goto (t := 144) d_8024_140 rfl ?_
              exact (u_X9_readSign_144 hB h).weak ⟨rfl, rfl, rfl, trivial⟩
          · have h := h.2 c5
            refine zu_bipush d_8024_127 zj_13 ?_
            refine zu_goto (t := 144) d_8024_129 rfl ?_
            exact (u_X9_readSign_144 hB h).weak ⟨rfl, rfl, rfl, trivial⟩
        · have h := h.2 c4
          refine zu_bipush d_8024_116 zj_12 ?_
          refine zu_goto (t := 144) d_8024_118 rfl ?_
          exact (u_X9_readSign_144 hB h).weak ⟨rfl, rfl, rfl, trivial⟩
      · have h := h.2 c3
        refine zu_bipush d_8024_105 zj_11 ?_
        refine zu_goto (t := 144) d_8024_107 rfl ?_
        exact (u_X9_readSign_144 hB h).weak ⟨rfl, rfl, rfl, trivial⟩
    · have h := h.2 c2
      refine zu_bipush d_8024_94 zj_10 ?_
      refine zu_goto (t := 144) d_8024_96 rfl ?_
      exact (u_X9_readSign_144 hB h).weak ⟨rfl, rfl, rfl, trivial⟩
  · have h := h.2 c1
    refine zu_bipush d_8024_83 zj_9 ?_
    refine zu_goto (t := 144) d_8024_85 rfl ?_
    exact (u_X9_readSign_144 hB h).weak ⟨rfl, rfl, rfl, trivial⟩
def w_X9_readSign (X : zs_X) (d : Nat) (p0 : Nat) (S : zs_T) (Q : zs_Q) : Prop :=
  (zs_K S p0 = some (.inl 8) ∧ zs_C X d 8006 [.ref p0, .int (zs_I S 8005 p0)] S (zs_kI (fun v3 S2 => (zs_K S2 p0 = some (.inl 8) ∧ zs_C X d 8006 [.ref p0, .int ((zs_I S2 8005 p0) + (1 : Int32))] S2 (zs_kI (fun v6 S5 => (zs_K S5 p0 = some (.inl 8) ∧ ab_n0 X.1 ≤ p0 ∧ ∀ S9, S9 = zs_sI S5 8006 p0 (5 : Int32) → ((¬ v3 = (43 : Int32) → (((¬ v3 = (45 : Int32) → (((¬ v3 = (42 : Int32) → (((¬ v3 = (61 : Int32) → (((¬ v3 = (40 : Int32) → w_X9_readSign_77 X d p0 v3 v6 (some p0) S9 Q) ∧ (¬ (¬ v3 = (40 : Int32)) → w_X9_readSign_72 X d p0 v3 v6 (some p0) S9 Q)))) ∧ (¬ (¬ v3 = (61 : Int32)) → (w_X9_readSign_144 X d p0 v3 v6 (some p0) (5 : Int32) S9 Q))))) ∧ (¬ (¬ v3 = (42 : Int32)) → (w_X9_readSign_144 X d p0 v3 v6 (some p0) (3 : Int32) S9 Q))))) ∧ (¬ (¬ v3 = (45 : Int32)) → (w_X9_readSign_144 X d p0 v3 v6 (some p0) (2 : Int32) S9 Q))))) ∧ (¬ (¬ v3 = (43 : Int32)) → (w_X9_readSign_144 X d p0 v3 v6 (some p0) (1 : Int32) S9 Q))))) Q))) Q))
theorem u_X9_readSign {σ : Nat → Nat} {n0 : Nat} {bf : ab_B} {d : Nat} {p0 : Nat} {S : zs_T} {Q : zs_Q} (hB : zt_B bf) (hd : 1 ≤ d) (h : w_X9_readSign (zx σ n0 bf) (d - 1) p0 S Q) : zs_C (zx σ n0 bf) d 8024 [.ref p0] S Q := by
  have hL : lv_args 0 [.ref p0] = [(0, .ref p0)] := rfl
  refine zs_C.of1 (hB.2 8024 (by decide) (by decide)) hd (by rw [hL]; exact zs_sub_self _ (by exact ⟨rfl, trivial⟩)) ?_
  rw [hL]
  clear hL
  unfold w_X9_readSign at h
  refine zu_aload_n d_8024_0 rfl (zs_ra _) ?_
  refine zu_aload_n d_8024_1 rfl (zs_ra _) ?_
  obtain ⟨k1, h⟩ := h
  refine zg_8_487 rfl d_8024_2 k1 ?_
  refine zc_8_471 (x0 := (zs_I S 8005 p0)) hB rfl k1 d_8024_5 (Nat.le_of_ble_eq_true rfl) h (fun v3 S2 h => ?_)
  refine zu_istore_n d_8024_8 (zs_lt zq_8024 rfl) ?_
  refine zu_aload_n d_8024_9 rfl (zs_ra _) ?_
  refine zu_aload_n d_8024_10 rfl (zs_ra _) ?_
  obtain ⟨k4, h⟩ := h
  refine zg_8_487 rfl d_8024_11 k4 ?_
  refine zu_iconst d_8024_14 zi_1 ?_
  refine zu_stk d_8024_15 rfl rfl ?_
  refine zc_8_471 (x0 := ((zs_I S2 8005 p0) + (1 : Int32))) hB rfl k4 d_8024_16 (Nat.le_of_ble_eq_true rfl) h (fun v6 S5 h => ?_)
  refine zu_istore_n d_8024_19 (zs_lt zq_8024 rfl) ?_
  refine zu_aload_n d_8024_20 rfl (zs_ra _) ?_
  refine zu_iconst d_8024_21 zi_5 ?_
  obtain ⟨k7, h⟩ := h
  obtain ⟨k8, h⟩ := h
  refine zp_8_484 (v := (5 : Int32)) rfl d_8024_22 k7 k8 ?_
  generalize e10 : zs_sI S5 8006 p0 (5 : Int32) = S9
  have h := h S9 e10.symm
  have K11 : ∀ b, zs_K S9 b = zs_K S5 b := zs_Kt e10 (zs_KsI _ _ _ _) (fun _ => rfl)
  refine zu_aload_n d_8024_25 rfl (zs_ra _) ?_
  refine zu_iload_n d_8024_26 rfl ?_
  refine zu_bipush d_8024_27 zj_43 ?_
  refine zu_cmpne (t := 36) d_8024_29 rfl (fun c12 => ?_) (fun c12 => ?_)
  · have h := h.1 c12
    refine zu_iload_n d_8024_36 rfl ?_
    refine zu_bipush d_8024_37 zj_45 ?_
    refine zu_cmpne (t := 46) d_8024_39 rfl (fun c13 => ?_) (fun c13 => ?_)
    · have h := h.1 c13
      refine zu_iload_n d_8024_46 rfl ?_
      refine zu_bipush d_8024_47 zj_42 ?_
      refine zu_cmpne (t := 56) d_8024_49 rfl (fun c14 => ?_) (fun c14 => ?_)
      · have h := h.1 c14
        refine zu_iload_n d_8024_56 rfl ?_
        refine zu_bipush d_8024_57 zj_61 ?_
        refine zu_cmpne (t := 66) d_8024_59 rfl (fun c15 => ?_) (fun c15 => ?_)
        · have h := h.1 c15
          refine zu_iload_n d_8024_66 rfl ?_
          refine zu_bipush d_8024_67 zj_40 ?_
          refine zu_cmpne (t := 77) d_8024_69 rfl (fun c16 => ?_) (fun c16 => ?_)
          · have h := h.1 c16
            exact (u_X9_readSign_77 hB h).weak ⟨rfl, rfl, rfl, trivial⟩
          · have h := h.2 c16
            exact (u_X9_readSign_72 hB h).weak ⟨rfl, rfl, rfl, trivial⟩
        · have h := h.2 c15
          refine zu_iconst d_8024_62 zi_5 ?_
          refine zu_goto (t := 144) d_8024_63 rfl ?_
          exact (u_X9_readSign_144 hB h).weak ⟨rfl, rfl, rfl, trivial⟩
      · have h := h.2 c14
        refine zu_iconst d_8024_52 zi_3 ?_
        refine zu_goto (t := 144) d_8024_53 rfl ?_
        exact (u_X9_readSign_144 hB h).weak ⟨rfl, rfl, rfl, trivial⟩
    · have h := h.2 c13
      refine zu_iconst d_8024_42 zi_2 ?_
      refine zu_goto (t := 144) d_8024_43 rfl ?_
      exact (u_X9_readSign_144 hB h).weak ⟨rfl, rfl, rfl, trivial⟩
  · have h := h.2 c12
    refine zu_iconst d_8024_32 zi_1 ?_
    refine zu_goto (t := 144) d_8024_33 rfl ?_
    exact (u_X9_readSign_144 hB h).weak ⟨rfl, rfl, rfl, trivial⟩
/-! SchemaPascalModel.takeKept(I)V -/
theorem zm_8025 {σ : Nat → Nat} {n0 : Nat} {bf : ab_B} : ab_code (zx σ n0 bf).1 8025 = prog_17_method_22_code := rfl
theorem zq_8025 {σ : Nat → Nat} {n0 : Nat} {bf : ab_B} : ab_maxL (zx σ n0 bf).1 8025 = 2 := rfl
theorem zr_8025 {σ : Nat → Nat} {n0 : Nat} {bf : ab_B} : ab_ret (zx σ n0 bf).1 8025 = (Option.none : Option Jvm.ClassFile.FieldType) := rfl
theorem d_8025_0 {σ : Nat → Nat} {n0 : Nat} {bf : ab_B} : decode (ab_code (zx σ n0 bf).1 8025) 0 = .ok (.aload_n 0, 1) := zd zm_8025 (by decide +kernel)
theorem d_8025_1 {σ : Nat → Nat} {n0 : Nat} {bf : ab_B} : decode (ab_code (zx σ n0 bf).1 8025) 1 = .ok (.iload_n 1, 1) := zd zm_8025 (by decide +kernel)
theorem d_8025_2 {σ : Nat → Nat} {n0 : Nat} {bf : ab_B} : decode (ab_code (zx σ n0 bf).1 8025) 2 = .ok (.invokevirtual 544, 3) := zd zm_8025 (by decide +kernel)
theorem d_8025_5 {σ : Nat → Nat} {n0 : Nat} {bf : ab_B} : decode (ab_code (zx σ n0 bf).1 8025) 5 = .ok (.ifCond .eq 10, 3) := zd zm_8025 (by decide +kernel)
theorem d_8025_8 {σ : Nat → Nat} {n0 : Nat} {bf : ab_B} : decode (ab_code (zx σ n0 bf).1 8025) 8 = .ok (.aload_n 0, 1) := zd zm_8025 (by decide +kernel)
theorem d_8025_9 {σ : Nat → Nat} {n0 : Nat} {bf : ab_B} : decode (ab_code (zx σ n0 bf).1 8025) 9 = .ok (.invokevirtual 538, 3) := zd zm_8025 (by decide +kernel)
theorem d_8025_12 {σ : Nat → Nat} {n0 : Nat} {bf : ab_B} : decode (ab_code (zx σ n0 bf).1 8025) 12 = .ok (.goto 8, 3) := zd zm_8025 (by decide +kernel)
theorem d_8025_15 {σ : Nat → Nat} {n0 : Nat} {bf : ab_B} : decode (ab_code (zx σ n0 bf).1 8025) 15 = .ok (.aload_n 0, 1) := zd zm_8025 (by decide +kernel)
theorem d_8025_16 {σ : Nat → Nat} {n0 : Nat} {bf : ab_B} : decode (ab_code (zx σ n0 bf).1 8025) 16 = .ok (.iconst 2, 1) := zd zm_8025 (by decide +kernel)
theorem d_8025_17 {σ : Nat → Nat} {n0 : Nat} {bf : ab_B} : decode (ab_code (zx σ n0 bf).1 8025) 17 = .ok (.invokevirtual 541, 3) := zd zm_8025 (by decide +kernel)
theorem d_8025_20 {σ : Nat → Nat} {n0 : Nat} {bf : ab_B} : decode (ab_code (zx σ n0 bf).1 8025) 20 = .ok (.return_, 1) := zd zm_8025 (by decide +kernel)
def w_X9_takeKept (X : zs_X) (d : Nat) (p0 : Nat) (p1 : Int32) (S : zs_T) (Q : zs_Q) : Prop :=
  (zs_K S p0 = some (.inl 8) ∧ zs_C X d 8026 [.ref p0, .int p1] S (zs_kI (fun v3 S2 => (((v3 = 0 → (zs_K S2 p0 = some (.inl 8) ∧ zs_C X d 8027 [.ref p0, .int (2 : Int32)] S2 (zs_kV (fun S6 => (Q (.returned none) S6)) Q))) ∧ (¬ (v3 = 0) → (zs_K S2 p0 = some (.inl 8) ∧ zs_C X d 8014 [.ref p0] S2 (zs_kV (fun S9 => (Q (.returned none) S9)) Q)))))) Q))
theorem u_X9_takeKept {σ : Nat → Nat} {n0 : Nat} {bf : ab_B} {d : Nat} {p0 : Nat} {p1 : Int32} {S : zs_T} {Q : zs_Q} (hB : zt_B bf) (hd : 1 ≤ d) (h : w_X9_takeKept (zx σ n0 bf) (d - 1) p0 p1 S Q) : zs_C (zx σ n0 bf) d 8025 [.ref p0, .int p1] S Q := by
  have hL : lv_args 0 [.ref p0, .int p1] = [(0, .ref p0), (1, .int p1)] := rfl
  refine zs_C.of1 (hB.2 8025 (by decide) (by decide)) hd (by rw [hL]; exact zs_sub_self _ (by exact ⟨rfl, rfl, trivial⟩)) ?_
  rw [hL]
  clear hL
  unfold w_X9_takeKept at h
  refine zu_aload_n d_8025_0 rfl (zs_ra _) ?_
  refine zu_iload_n d_8025_1 rfl ?_
  obtain ⟨k1, h⟩ := h
  refine zc_8_544 (x0 := p1) hB rfl k1 d_8025_2 (Nat.le_of_ble_eq_true rfl) h (fun v3 S2 h => ?_)
  refine zu_ifeq (t := 15) d_8025_5 rfl (fun c4 => ?_) (fun c4 => ?_)
  · have h := h.1 c4
    refine zu_aload_n d_8025_15 rfl (zs_ra _) ?_
    refine zu_iconst d_8025_16 zi_2 ?_
    obtain ⟨k5, h⟩ := h
    refine zc_8_541 (x0 := (2 : Int32)) hB rfl k5 d_8025_17 (Nat.le_of_ble_eq_true rfl) h (fun S6 h => ?_)
    exact zu_vret d_8025_20 zr_8025 h
  · have h := h.2 c4
    refine zu_aload_n d_8025_8 rfl (zs_ra _) ?_
    obtain ⟨k8, h⟩ := h
    refine zc_8_538  hB rfl k8 d_8025_9 (Nat.le_of_ble_eq_true rfl) h (fun S9 h => ?_)
    refine zu_goto (t := 20) d_8025_12 rfl ?_
    exact zu_vret d_8025_20 zr_8025 h
/-! SchemaPascalModel.isKept(I)Z -/
theorem zm_8026 {σ : Nat → Nat} {n0 : Nat} {bf : ab_B} : ab_code (zx σ n0 bf).1 8026 = prog_17_method_20_code := rfl
theorem zq_8026 {σ : Nat → Nat} {n0 : Nat} {bf : ab_B} : ab_maxL (zx σ n0 bf).1 8026 = 2 := rfl
theorem zr_8026 {σ : Nat → Nat} {n0 : Nat} {bf : ab_B} : ab_ret (zx σ n0 bf).1 8026 = (Option.some Jvm.ClassFile.FieldType.boolean) := rfl
theorem d_8026_0 {σ : Nat → Nat} {n0 : Nat} {bf : ab_B} : decode (ab_code (zx σ n0 bf).1 8026) 0 = .ok (.aload_n 0, 1) := zd zm_8026 (by decide +kernel)
theorem d_8026_1 {σ : Nat → Nat} {n0 : Nat} {bf : ab_B} : decode (ab_code (zx σ n0 bf).1 8026) 1 = .ok (.getfield 444, 3) := zd zm_8026 (by decide +kernel)
theorem d_8026_4 {σ : Nat → Nat} {n0 : Nat} {bf : ab_B} : decode (ab_code (zx σ n0 bf).1 8026) 4 = .ok (.ifCond .ne 23, 3) := zd zm_8026 (by decide +kernel)
theorem d_8026_7 {σ : Nat → Nat} {n0 : Nat} {bf : ab_B} : decode (ab_code (zx σ n0 bf).1 8026) 7 = .ok (.aload_n 0, 1) := zd zm_8026 (by decide +kernel)
theorem d_8026_8 {σ : Nat → Nat} {n0 : Nat} {bf : ab_B} : decode (ab_code (zx σ n0 bf).1 8026) 8 = .ok (.getfield 484, 3) := zd zm_8026 (by decide +kernel)
theorem d_8026_11 {σ : Nat → Nat} {n0 : Nat} {bf : ab_B} : decode (ab_code (zx σ n0 bf).1 8026) 11 = .ok (.iconst 2, 1) := zd zm_8026 (by decide +kernel)
theorem d_8026_12 {σ : Nat → Nat} {n0 : Nat} {bf : ab_B} : decode (ab_code (zx σ n0 bf).1 8026) 12 = .ok (.if_icmp .ne 15, 3) := zd zm_8026 (by decide +kernel)
theorem d_8026_15 {σ : Nat → Nat} {n0 : Nat} {bf : ab_B} : decode (ab_code (zx σ n0 bf).1 8026) 15 = .ok (.aload_n 0, 1) := zd zm_8026 (by decide +kernel)
theorem d_8026_16 {σ : Nat → Nat} {n0 : Nat} {bf : ab_B} : decode (ab_code (zx σ n0 bf).1 8026) 16 = .ok (.getfield 494, 3) := zd zm_8026 (by decide +kernel)
theorem d_8026_19 {σ : Nat → Nat} {n0 : Nat} {bf : ab_B} : decode (ab_code (zx σ n0 bf).1 8026) 19 = .ok (.iload_n 1, 1) := zd zm_8026 (by decide +kernel)
theorem d_8026_20 {σ : Nat → Nat} {n0 : Nat} {bf : ab_B} : decode (ab_code (zx σ n0 bf).1 8026) 20 = .ok (.if_icmp .ne 7, 3) := zd zm_8026 (by decide +kernel)
theorem d_8026_23 {σ : Nat → Nat} {n0 : Nat} {bf : ab_B} : decode (ab_code (zx σ n0 bf).1 8026) 23 = .ok (.iconst 1, 1) := zd zm_8026 (by decide +kernel)
theorem d_8026_24 {σ : Nat → Nat} {n0 : Nat} {bf : ab_B} : decode (ab_code (zx σ n0 bf).1 8026) 24 = .ok (.goto 4, 3) := zd zm_8026 (by decide +kernel)
theorem d_8026_27 {σ : Nat → Nat} {n0 : Nat} {bf : ab_B} : decode (ab_code (zx σ n0 bf).1 8026) 27 = .ok (.iconst 0, 1) := zd zm_8026 (by decide +kernel)
theorem d_8026_28 {σ : Nat → Nat} {n0 : Nat} {bf : ab_B} : decode (ab_code (zx σ n0 bf).1 8026) 28 = .ok (.ireturn, 1) := zd zm_8026 (by decide +kernel)
def w_X9_isKept (X : zs_X) (d : Nat) (p0 : Nat) (p1 : Int32) (S : zs_T) (Q : zs_Q) : Prop :=
  (zs_K S p0 = some (.inl 8) ∧ ((¬ (zs_I S 8010 p0) = 0 → (Q (.returned (some (.int (0 : Int32)))) S)) ∧ (¬ (¬ (zs_I S 8010 p0) = 0) → (((¬ (zs_I S 8006 p0) = (2 : Int32) → (Q (.returned (some (.int (0 : Int32)))) S)) ∧ (¬ (¬ (zs_I S 8006 p0) = (2 : Int32)) → (((¬ (zs_I S 8009 p0) = p1 → (Q (.returned (some (.int (0 : Int32)))) S)) ∧ (¬ (¬ (zs_I S 8009 p0) = p1) → (Q (.returned (some (.int (1 : Int32)))) S))))))))))
theorem u_X9_isKept {σ : Nat → Nat} {n0 : Nat} {bf : ab_B} {d : Nat} {p0 : Nat} {p1 : Int32} {S : zs_T} {Q : zs_Q} (hB : zt_B bf) (hd : 1 ≤ d) (h : w_X9_isKept (zx σ n0 bf) (d - 1) p0 p1 S Q) : zs_C (zx σ n0 bf) d 8026 [.ref p0, .int p1] S Q := by
  have hL : lv_args 0 [.ref p0, .int p1] = [(0, .ref p0), (1, .int p1)] := rfl
  refine zs_C.of1 (hB.2 8026 (by decide) (by decide)) hd (by rw [hL]; exact zs_sub_self _ (by exact ⟨rfl, rfl, trivial⟩)) ?_
  rw [hL]
  clear hL
  unfold w_X9_isKept at h
  refine zu_aload_n d_8026_0 rfl (zs_ra _) ?_
  obtain ⟨k1, h⟩ := h
  refine zg_8_444 rfl d_8026_1 k1 ?_
  refine zu_ifne (t := 27) d_8026_4 rfl (fun c2 => ?_) (fun c2 => ?_)
  · have h := h.1 c2
    refine zu_iconst d_8026_27 zi_0 ?_
    exact zu_iret d_8026_28 zr_8026 (zs_b_n (Or.inl rfl)) h
  · have h := h.2 c2
    refine zu_aload_n d_8026_7 rfl (zs_ra _) ?_
    refine zg_8_484 rfl d_8026_8 k1 ?_
    refine zu_iconst d_8026_11 zi_2 ?_
    refine zu_cmpne (t := 27) d_8026_12 rfl (fun c3 => ?_) (fun c3 => ?_)
    · have h := h.1 c3
      refine zu_iconst d_8026_27 zi_0 ?_
      exact zu_iret d_8026_28 zr_8026 (zs_b_n (Or.inl rfl)) h
    · have h := h.2 c3
      refine zu_aload_n d_8026_15 rfl (zs_ra _) ?_
      refine zg_8_494 rfl d_8026_16 k1 ?_
      refine zu_iload_n d_8026_19 rfl ?_
      refine zu_cmpne (t := 27) d_8026_20 rfl (fun c4 => ?_) (fun c4 => ?_)
      · have h := h.1 c4
        refine zu_iconst d_8026_27 zi_0 ?_
        exact zu_iret d_8026_28 zr_8026 (zs_b_n (Or.inl rfl)) h
      · have h := h.2 c4
        refine zu_iconst d_8026_23 zi_1 ?_
        refine zu_goto (t := 28) d_8026_24 rfl ?_
        exact zu_iret d_8026_28 zr_8026 (zs_b_n (Or.inr rfl)) h
/-! SchemaPascalModel.here(I)V -/
theorem zm_8027 {σ : Nat → Nat} {n0 : Nat} {bf : ab_B} : ab_code (zx σ n0 bf).1 8027 = prog_17_method_4_code := rfl
theorem zq_8027 {σ : Nat → Nat} {n0 : Nat} {bf : ab_B} : ab_maxL (zx σ n0 bf).1 8027 = 2 := rfl
theorem zr_8027 {σ : Nat → Nat} {n0 : Nat} {bf : ab_B} : ab_ret (zx σ n0 bf).1 8027 = (Option.none : Option Jvm.ClassFile.FieldType) := rfl
theorem d_8027_0 {σ : Nat → Nat} {n0 : Nat} {bf : ab_B} : decode (ab_code (zx σ n0 bf).1 8027) 0 = .ok (.aload_n 0, 1) := zd zm_8027 (by decide +kernel)
theorem d_8027_1 {σ : Nat → Nat} {n0 : Nat} {bf : ab_B} : decode (ab_code (zx σ n0 bf).1 8027) 1 = .ok (.iload_n 1, 1) := zd zm_8027 (by decide +kernel)
theorem d_8027_2 {σ : Nat → Nat} {n0 : Nat} {bf : ab_B} : decode (ab_code (zx σ n0 bf).1 8027) 2 = .ok (.aload_n 0, 1) := zd zm_8027 (by decide +kernel)
theorem d_8027_3 {σ : Nat → Nat} {n0 : Nat} {bf : ab_B} : decode (ab_code (zx σ n0 bf).1 8027) 3 = .ok (.getfield 450, 3) := zd zm_8027 (by decide +kernel)
theorem d_8027_6 {σ : Nat → Nat} {n0 : Nat} {bf : ab_B} : decode (ab_code (zx σ n0 bf).1 8027) 6 = .ok (.invokevirtual 453, 3) := zd zm_8027 (by decide +kernel)
theorem d_8027_9 {σ : Nat → Nat} {n0 : Nat} {bf : ab_B} : decode (ab_code (zx σ n0 bf).1 8027) 9 = .ok (.return_, 1) := zd zm_8027 (by decide +kernel)
def w_X9_here (X : zs_X) (d : Nat) (p0 : Nat) (p1 : Int32) (S : zs_T) (Q : zs_Q) : Prop :=
  (zs_K S p0 = some (.inl 8) ∧ zs_C X d 8017 [.ref p0, .int p1, .int (zs_I S 8007 p0)] S (zs_kV (fun S2 => (Q (.returned none) S2)) Q))
theorem u_X9_here {σ : Nat → Nat} {n0 : Nat} {bf : ab_B} {d : Nat} {p0 : Nat} {p1 : Int32} {S : zs_T} {Q : zs_Q} (hB : zt_B bf) (hd : 1 ≤ d) (h : w_X9_here (zx σ n0 bf) (d - 1) p0 p1 S Q) : zs_C (zx σ n0 bf) d 8027 [.ref p0, .int p1] S Q := by
  have hL : lv_args 0 [.ref p0, .int p1] = [(0, .ref p0), (1, .int p1)] := rfl
  refine zs_C.of1 (hB.2 8027 (by decide) (by decide)) hd (by rw [hL]; exact zs_sub_self _ (by exact ⟨rfl, rfl, trivial⟩)) ?_
  rw [hL]
  clear hL
  unfold w_X9_here at h
  refine zu_aload_n d_8027_0 rfl (zs_ra _) ?_
  refine zu_iload_n d_8027_1 rfl ?_
  refine zu_aload_n d_8027_2 rfl (zs_ra _) ?_
  obtain ⟨k1, h⟩ := h
  refine zg_8_450 rfl d_8027_3 k1 ?_
  refine zc_8_453 (x0 := p1) (x1 := (zs_I S 8007 p0)) hB rfl k1 d_8027_6 (Nat.le_of_ble_eq_true rfl) h (fun S2 h => ?_)
  exact zu_vret d_8027_9 zr_8027 h
/-! SchemaPascalModel.takeSign(I)V -/
theorem zm_8028 {σ : Nat → Nat} {n0 : Nat} {bf : ab_B} : ab_code (zx σ n0 bf).1 8028 = prog_17_method_21_code := rfl
theorem zq_8028 {σ : Nat → Nat} {n0 : Nat} {bf : ab_B} : ab_maxL (zx σ n0 bf).1 8028 = 2 := rfl
theorem zr_8028 {σ : Nat → Nat} {n0 : Nat} {bf : ab_B} : ab_ret (zx σ n0 bf).1 8028 = (Option.none : Option Jvm.ClassFile.FieldType) := rfl
theorem d_8028_0 {σ : Nat → Nat} {n0 : Nat} {bf : ab_B} : decode (ab_code (zx σ n0 bf).1 8028) 0 = .ok (.aload_n 0, 1) := zd zm_8028 (by decide +kernel)
theorem d_8028_1 {σ : Nat → Nat} {n0 : Nat} {bf : ab_B} : decode (ab_code (zx σ n0 bf).1 8028) 1 = .ok (.iload_n 1, 1) := zd zm_8028 (by decide +kernel)
theorem d_8028_2 {σ : Nat → Nat} {n0 : Nat} {bf : ab_B} : decode (ab_code (zx σ n0 bf).1 8028) 2 = .ok (.invokevirtual 535, 3) := zd zm_8028 (by decide +kernel)
theorem d_8028_5 {σ : Nat → Nat} {n0 : Nat} {bf : ab_B} : decode (ab_code (zx σ n0 bf).1 8028) 5 = .ok (.ifCond .eq 10, 3) := zd zm_8028 (by decide +kernel)
theorem d_8028_8 {σ : Nat → Nat} {n0 : Nat} {bf : ab_B} : decode (ab_code (zx σ n0 bf).1 8028) 8 = .ok (.aload_n 0, 1) := zd zm_8028 (by decide +kernel)
theorem d_8028_9 {σ : Nat → Nat} {n0 : Nat} {bf : ab_B} : decode (ab_code (zx σ n0 bf).1 8028) 9 = .ok (.invokevirtual 538, 3) := zd zm_8028 (by decide +kernel)
theorem d_8028_12 {σ : Nat → Nat} {n0 : Nat} {bf : ab_B} : decode (ab_code (zx σ n0 bf).1 8028) 12 = .ok (.goto 8, 3) := zd zm_8028 (by decide +kernel)
theorem d_8028_15 {σ : Nat → Nat} {n0 : Nat} {bf : ab_B} : decode (ab_code (zx σ n0 bf).1 8028) 15 = .ok (.aload_n 0, 1) := zd zm_8028 (by decide +kernel)
theorem d_8028_16 {σ : Nat → Nat} {n0 : Nat} {bf : ab_B} : decode (ab_code (zx σ n0 bf).1 8028) 16 = .ok (.iconst 2, 1) := zd zm_8028 (by decide +kernel)
theorem d_8028_17 {σ : Nat → Nat} {n0 : Nat} {bf : ab_B} : decode (ab_code (zx σ n0 bf).1 8028) 17 = .ok (.invokevirtual 541, 3) := zd zm_8028 (by decide +kernel)
theorem d_8028_20 {σ : Nat → Nat} {n0 : Nat} {bf : ab_B} : decode (ab_code (zx σ n0 bf).1 8028) 20 = .ok (.return_, 1) := zd zm_8028 (by decide +kernel)
def w_X9_takeSign (X : zs_X) (d : Nat) (p0 : Nat) (p1 : Int32) (S : zs_T) (Q : zs_Q) : Prop :=
  (zs_K S p0 = some (.inl 8) ∧ zs_C X d 8029 [.ref p0, .int p1] S (zs_kI (fun v3 S2 => (((v3 = 0 → (zs_K S2 p0 = some (.inl 8) ∧ zs_C X d 8027 [.ref p0, .int (2 : Int32)] S2 (zs_kV (fun S6 => (Q (.returned none) S6)) Q))) ∧ (¬ (v3 = 0) → (zs_K S2 p0 = some (.inl 8) ∧ zs_C X d 8014 [.ref p0] S2 (zs_kV (fun S9 => (Q (.returned none) S9)) Q)))))) Q))
theorem u_X9_takeSign {σ : Nat → Nat} {n0 : Nat} {bf : ab_B} {d : Nat} {p0 : Nat} {p1 : Int32} {S : zs_T} {Q : zs_Q} (hB : zt_B bf) (hd : 1 ≤ d) (h : w_X9_takeSign (zx σ n0 bf) (d - 1) p0 p1 S Q) : zs_C (zx σ n0 bf) d 8028 [.ref p0, .int p1] S Q := by
  have hL : lv_args 0 [.ref p0, .int p1] = [(0, .ref p0), (1, .int p1)] := rfl
  refine zs_C.of1 (hB.2 8028 (by decide) (by decide)) hd (by rw [hL]; exact zs_sub_self _ (by exact ⟨rfl, rfl, trivial⟩)) ?_
  rw [hL]
  clear hL
  unfold w_X9_takeSign at h
  refine zu_aload_n d_8028_0 rfl (zs_ra _) ?_
  refine zu_iload_n d_8028_1 rfl ?_
  obtain ⟨k1, h⟩ := h
  refine zc_8_535 (x0 := p1) hB rfl k1 d_8028_2 (Nat.le_of_ble_eq_true rfl) h (fun v3 S2 h => ?_)
  refine zu_ifeq (t := 15) d_8028_5 rfl (fun c4 => ?_) (fun c4 => ?_)
  · have h := h.1 c4
    refine zu_aload_n d_8028_15 rfl (zs_ra _) ?_
    refine zu_iconst d_8028_16 zi_2 ?_
    obtain ⟨k5, h⟩ := h
    refine zc_8_541 (x0 := (2 : Int32)) hB rfl k5 d_8028_17 (Nat.le_of_ble_eq_true rfl) h (fun S6 h => ?_)
    exact zu_vret d_8028_20 zr_8028 h
  · have h := h.2 c4
    refine zu_aload_n d_8028_8 rfl (zs_ra _) ?_
    obtain ⟨k8, h⟩ := h
    refine zc_8_538  hB rfl k8 d_8028_9 (Nat.le_of_ble_eq_true rfl) h (fun S9 h => ?_)
    refine zu_goto (t := 20) d_8028_12 rfl ?_
    exact zu_vret d_8028_20 zr_8028 h
/-! SchemaPascalModel.isSign(I)Z -/
theorem zm_8029 {σ : Nat → Nat} {n0 : Nat} {bf : ab_B} : ab_code (zx σ n0 bf).1 8029 = prog_17_method_19_code := rfl
theorem zq_8029 {σ : Nat → Nat} {n0 : Nat} {bf : ab_B} : ab_maxL (zx σ n0 bf).1 8029 = 2 := rfl
theorem zr_8029 {σ : Nat → Nat} {n0 : Nat} {bf : ab_B} : ab_ret (zx σ n0 bf).1 8029 = (Option.some Jvm.ClassFile.FieldType.boolean) := rfl
theorem d_8029_0 {σ : Nat → Nat} {n0 : Nat} {bf : ab_B} : decode (ab_code (zx σ n0 bf).1 8029) 0 = .ok (.aload_n 0, 1) := zd zm_8029 (by decide +kernel)
theorem d_8029_1 {σ : Nat → Nat} {n0 : Nat} {bf : ab_B} : decode (ab_code (zx σ n0 bf).1 8029) 1 = .ok (.getfield 444, 3) := zd zm_8029 (by decide +kernel)
theorem d_8029_4 {σ : Nat → Nat} {n0 : Nat} {bf : ab_B} : decode (ab_code (zx σ n0 bf).1 8029) 4 = .ok (.ifCond .ne 23, 3) := zd zm_8029 (by decide +kernel)
theorem d_8029_7 {σ : Nat → Nat} {n0 : Nat} {bf : ab_B} : decode (ab_code (zx σ n0 bf).1 8029) 7 = .ok (.aload_n 0, 1) := zd zm_8029 (by decide +kernel)
theorem d_8029_8 {σ : Nat → Nat} {n0 : Nat} {bf : ab_B} : decode (ab_code (zx σ n0 bf).1 8029) 8 = .ok (.getfield 484, 3) := zd zm_8029 (by decide +kernel)
theorem d_8029_11 {σ : Nat → Nat} {n0 : Nat} {bf : ab_B} : decode (ab_code (zx σ n0 bf).1 8029) 11 = .ok (.iconst 5, 1) := zd zm_8029 (by decide +kernel)
theorem d_8029_12 {σ : Nat → Nat} {n0 : Nat} {bf : ab_B} : decode (ab_code (zx σ n0 bf).1 8029) 12 = .ok (.if_icmp .ne 15, 3) := zd zm_8029 (by decide +kernel)
theorem d_8029_15 {σ : Nat → Nat} {n0 : Nat} {bf : ab_B} : decode (ab_code (zx σ n0 bf).1 8029) 15 = .ok (.aload_n 0, 1) := zd zm_8029 (by decide +kernel)
theorem d_8029_16 {σ : Nat → Nat} {n0 : Nat} {bf : ab_B} : decode (ab_code (zx σ n0 bf).1 8029) 16 = .ok (.getfield 494, 3) := zd zm_8029 (by decide +kernel)
theorem d_8029_19 {σ : Nat → Nat} {n0 : Nat} {bf : ab_B} : decode (ab_code (zx σ n0 bf).1 8029) 19 = .ok (.iload_n 1, 1) := zd zm_8029 (by decide +kernel)
theorem d_8029_20 {σ : Nat → Nat} {n0 : Nat} {bf : ab_B} : decode (ab_code (zx σ n0 bf).1 8029) 20 = .ok (.if_icmp .ne 7, 3) := zd zm_8029 (by decide +kernel)
theorem d_8029_23 {σ : Nat → Nat} {n0 : Nat} {bf : ab_B} : decode (ab_code (zx σ n0 bf).1 8029) 23 = .ok (.iconst 1, 1) := zd zm_8029 (by decide +kernel)
theorem d_8029_24 {σ : Nat → Nat} {n0 : Nat} {bf : ab_B} : decode (ab_code (zx σ n0 bf).1 8029) 24 = .ok (.goto 4, 3) := zd zm_8029 (by decide +kernel)
theorem d_8029_27 {σ : Nat → Nat} {n0 : Nat} {bf : ab_B} : decode (ab_code (zx σ n0 bf).1 8029) 27 = .ok (.iconst 0, 1) := zd zm_8029 (by decide +kernel)
theorem d_8029_28 {σ : Nat → Nat} {n0 : Nat} {bf : ab_B} : decode (ab_code (zx σ n0 bf).1 8029) 28 = .ok (.ireturn, 1) := zd zm_8029 (by decide +kernel)
def w_X9_isSign (X : zs_X) (d : Nat) (p0 : Nat) (p1 : Int32) (S : zs_T) (Q : zs_Q) : Prop :=
  (zs_K S p0 = some (.inl 8) ∧ ((¬ (zs_I S 8010 p0) = 0 → (Q (.returned (some (.int (0 : Int32)))) S)) ∧ (¬ (¬ (zs_I S 8010 p0) = 0) → (((¬ (zs_I S 8006 p0) = (5 : Int32) → (Q (.returned (some (.int (0 : Int32)))) S)) ∧ (¬ (¬ (zs_I S 8006 p0) = (5 : Int32)) → (((¬ (zs_I S 8009 p0) = p1 → (Q (.returned (some (.int (0 : Int32)))) S)) ∧ (¬ (¬ (zs_I S 8009 p0) = p1) → (Q (.returned (some (.int (1 : Int32)))) S))))))))))
theorem u_X9_isSign {σ : Nat → Nat} {n0 : Nat} {bf : ab_B} {d : Nat} {p0 : Nat} {p1 : Int32} {S : zs_T} {Q : zs_Q} (hB : zt_B bf) (hd : 1 ≤ d) (h : w_X9_isSign (zx σ n0 bf) (d - 1) p0 p1 S Q) : zs_C (zx σ n0 bf) d 8029 [.ref p0, .int p1] S Q := by
  have hL : lv_args 0 [.ref p0, .int p1] = [(0, .ref p0), (1, .int p1)] := rfl
  refine zs_C.of1 (hB.2 8029 (by decide) (by decide)) hd (by rw [hL]; exact zs_sub_self _ (by exact ⟨rfl, rfl, trivial⟩)) ?_
  rw [hL]
  clear hL
  unfold w_X9_isSign at h
  refine zu_aload_n d_8029_0 rfl (zs_ra _) ?_
  obtain ⟨k1, h⟩ := h
  refine zg_8_444 rfl d_8029_1 k1 ?_
  refine zu_ifne (t := 27) d_8029_4 rfl (fun c2 => ?_) (fun c2 => ?_)
  · have h := h.1 c2
    refine zu_iconst d_8029_27 zi_0 ?_
    exact zu_iret d_8029_28 zr_8029 (zs_b_n (Or.inl rfl)) h
  · have h := h.2 c2
    refine zu_aload_n d_8029_7 rfl (zs_ra _) ?_
    refine zg_8_484 rfl d_8029_8 k1 ?_
    refine zu_iconst d_8029_11 zi_5 ?_
    refine zu_cmpne (t := 27) d_8029_12 rfl (fun c3 => ?_) (fun c3 => ?_)
    · have h := h.1 c3
      refine zu_iconst d_8029_27 zi_0 ?_
      exact zu_iret d_8029_28 zr_8029 (zs_b_n (Or.inl rfl)) h
    · have h := h.2 c3
      refine zu_aload_n d_8029_15 rfl (zs_ra _) ?_
      refine zg_8_494 rfl d_8029_16 k1 ?_
      refine zu_iload_n d_8029_19 rfl ?_
      refine zu_cmpne (t := 27) d_8029_20 rfl (fun c4 => ?_) (fun c4 => ?_)
      · have h := h.1 c4
        refine zu_iconst d_8029_27 zi_0 ?_
        exact zu_iret d_8029_28 zr_8029 (zs_b_n (Or.inl rfl)) h
      · have h := h.2 c4
        refine zu_iconst d_8029_23 zi_1 ?_
        refine zu_goto (t := 28) d_8029_24 rfl ?_
        exact zu_iret d_8029_28 zr_8029 (zs_b_n (Or.inr rfl)) h
/-! SchemaPascalModel.goal(IIII)V -/
theorem zm_8030 {σ : Nat → Nat} {n0 : Nat} {bf : ab_B} : ab_code (zx σ n0 bf).1 8030 = prog_17_method_48_code := rfl
theorem zq_8030 {σ : Nat → Nat} {n0 : Nat} {bf : ab_B} : ab_maxL (zx σ n0 bf).1 8030 = 5 := rfl
theorem zr_8030 {σ : Nat → Nat} {n0 : Nat} {bf : ab_B} : ab_ret (zx σ n0 bf).1 8030 = (Option.none : Option Jvm.ClassFile.FieldType) := rfl
theorem d_8030_0 {σ : Nat → Nat} {n0 : Nat} {bf : ab_B} : decode (ab_code (zx σ n0 bf).1 8030) 0 = .ok (.aload_n 0, 1) := zd zm_8030 (by decide +kernel)
theorem d_8030_1 {σ : Nat → Nat} {n0 : Nat} {bf : ab_B} : decode (ab_code (zx σ n0 bf).1 8030) 1 = .ok (.getfield 179, 3) := zd zm_8030 (by decide +kernel)
theorem d_8030_4 {σ : Nat → Nat} {n0 : Nat} {bf : ab_B} : decode (ab_code (zx σ n0 bf).1 8030) 4 = .ok (.aload_n 0, 1) := zd zm_8030 (by decide +kernel)
theorem d_8030_5 {σ : Nat → Nat} {n0 : Nat} {bf : ab_B} : decode (ab_code (zx σ n0 bf).1 8030) 5 = .ok (.getfield 643, 3) := zd zm_8030 (by decide +kernel)
theorem d_8030_8 {σ : Nat → Nat} {n0 : Nat} {bf : ab_B} : decode (ab_code (zx σ n0 bf).1 8030) 8 = .ok (.iload_n 1, 1) := zd zm_8030 (by decide +kernel)
theorem d_8030_9 {σ : Nat → Nat} {n0 : Nat} {bf : ab_B} : decode (ab_code (zx σ n0 bf).1 8030) 9 = .ok (.iastore, 1) := zd zm_8030 (by decide +kernel)
theorem d_8030_10 {σ : Nat → Nat} {n0 : Nat} {bf : ab_B} : decode (ab_code (zx σ n0 bf).1 8030) 10 = .ok (.aload_n 0, 1) := zd zm_8030 (by decide +kernel)
theorem d_8030_11 {σ : Nat → Nat} {n0 : Nat} {bf : ab_B} : decode (ab_code (zx σ n0 bf).1 8030) 11 = .ok (.getfield 182, 3) := zd zm_8030 (by decide +kernel)
theorem d_8030_14 {σ : Nat → Nat} {n0 : Nat} {bf : ab_B} : decode (ab_code (zx σ n0 bf).1 8030) 14 = .ok (.aload_n 0, 1) := zd zm_8030 (by decide +kernel)
theorem d_8030_15 {σ : Nat → Nat} {n0 : Nat} {bf : ab_B} : decode (ab_code (zx σ n0 bf).1 8030) 15 = .ok (.getfield 643, 3) := zd zm_8030 (by decide +kernel)
theorem d_8030_18 {σ : Nat → Nat} {n0 : Nat} {bf : ab_B} : decode (ab_code (zx σ n0 bf).1 8030) 18 = .ok (.iload_n 2, 1) := zd zm_8030 (by decide +kernel)
theorem d_8030_19 {σ : Nat → Nat} {n0 : Nat} {bf : ab_B} : decode (ab_code (zx σ n0 bf).1 8030) 19 = .ok (.iastore, 1) := zd zm_8030 (by decide +kernel)
theorem d_8030_20 {σ : Nat → Nat} {n0 : Nat} {bf : ab_B} : decode (ab_code (zx σ n0 bf).1 8030) 20 = .ok (.aload_n 0, 1) := zd zm_8030 (by decide +kernel)
theorem d_8030_21 {σ : Nat → Nat} {n0 : Nat} {bf : ab_B} : decode (ab_code (zx σ n0 bf).1 8030) 21 = .ok (.getfield 185, 3) := zd zm_8030 (by decide +kernel)
theorem d_8030_24 {σ : Nat → Nat} {n0 : Nat} {bf : ab_B} : decode (ab_code (zx σ n0 bf).1 8030) 24 = .ok (.aload_n 0, 1) := zd zm_8030 (by decide +kernel)
theorem d_8030_25 {σ : Nat → Nat} {n0 : Nat} {bf : ab_B} : decode (ab_code (zx σ n0 bf).1 8030) 25 = .ok (.getfield 643, 3) := zd zm_8030 (by decide +kernel)
theorem d_8030_28 {σ : Nat → Nat} {n0 : Nat} {bf : ab_B} : decode (ab_code (zx σ n0 bf).1 8030) 28 = .ok (.iload_n 3, 1) := zd zm_8030 (by decide +kernel)
theorem d_8030_29 {σ : Nat → Nat} {n0 : Nat} {bf : ab_B} : decode (ab_code (zx σ n0 bf).1 8030) 29 = .ok (.iastore, 1) := zd zm_8030 (by decide +kernel)
theorem d_8030_30 {σ : Nat → Nat} {n0 : Nat} {bf : ab_B} : decode (ab_code (zx σ n0 bf).1 8030) 30 = .ok (.aload_n 0, 1) := zd zm_8030 (by decide +kernel)
theorem d_8030_31 {σ : Nat → Nat} {n0 : Nat} {bf : ab_B} : decode (ab_code (zx σ n0 bf).1 8030) 31 = .ok (.getfield 188, 3) := zd zm_8030 (by decide +kernel)
theorem d_8030_34 {σ : Nat → Nat} {n0 : Nat} {bf : ab_B} : decode (ab_code (zx σ n0 bf).1 8030) 34 = .ok (.aload_n 0, 1) := zd zm_8030 (by decide +kernel)
theorem d_8030_35 {σ : Nat → Nat} {n0 : Nat} {bf : ab_B} : decode (ab_code (zx σ n0 bf).1 8030) 35 = .ok (.getfield 643, 3) := zd zm_8030 (by decide +kernel)
theorem d_8030_38 {σ : Nat → Nat} {n0 : Nat} {bf : ab_B} : decode (ab_code (zx σ n0 bf).1 8030) 38 = .ok (.iload 4, 2) := zd zm_8030 (by decide +kernel)
theorem d_8030_40 {σ : Nat → Nat} {n0 : Nat} {bf : ab_B} : decode (ab_code (zx σ n0 bf).1 8030) 40 = .ok (.iastore, 1) := zd zm_8030 (by decide +kernel)
theorem d_8030_41 {σ : Nat → Nat} {n0 : Nat} {bf : ab_B} : decode (ab_code (zx σ n0 bf).1 8030) 41 = .ok (.aload_n 0, 1) := zd zm_8030 (by decide +kernel)
theorem d_8030_42 {σ : Nat → Nat} {n0 : Nat} {bf : ab_B} : decode (ab_code (zx σ n0 bf).1 8030) 42 = .ok (.dup, 1) := zd zm_8030 (by decide +kernel)
theorem d_8030_43 {σ : Nat → Nat} {n0 : Nat} {bf : ab_B} : decode (ab_code (zx σ n0 bf).1 8030) 43 = .ok (.getfield 643, 3) := zd zm_8030 (by decide +kernel)
theorem d_8030_46 {σ : Nat → Nat} {n0 : Nat} {bf : ab_B} : decode (ab_code (zx σ n0 bf).1 8030) 46 = .ok (.iconst 1, 1) := zd zm_8030 (by decide +kernel)
theorem d_8030_47 {σ : Nat → Nat} {n0 : Nat} {bf : ab_B} : decode (ab_code (zx σ n0 bf).1 8030) 47 = .ok (.iadd, 1) := zd zm_8030 (by decide +kernel)
theorem d_8030_48 {σ : Nat → Nat} {n0 : Nat} {bf : ab_B} : decode (ab_code (zx σ n0 bf).1 8030) 48 = .ok (.putfield 643, 3) := zd zm_8030 (by decide +kernel)
theorem d_8030_51 {σ : Nat → Nat} {n0 : Nat} {bf : ab_B} : decode (ab_code (zx σ n0 bf).1 8030) 51 = .ok (.return_, 1) := zd zm_8030 (by decide +kernel)
def w_X9_goal_30 (X : zs_X) (d : Nat) (p0 : Nat) (p4 : Int32) (S : zs_T) (Q : zs_Q) : Prop :=
  (zs_K S p0 = some (.inl 8) ∧ ∃ b2, (zs_R S 8088 p0) = some b2 ∧ zs_A S b2 0 (zs_I S 8089 p0) ∧ ab_n0 X.1 ≤ b2 ∧ ∀ S6, S6 = zs_si S b2 (zs_I S 8089 p0).toNatClampNeg p4 → ab_n0 X.1 ≤ p0 ∧ ∀ S10, S10 = zs_sI S6 8089 p0 ((zs_I S6 8089 p0) + (1 : Int32)) → Q (.returned none) S10)
theorem u_X9_goal_30 {σ : Nat → Nat} {n0 : Nat} {bf : ab_B} {d : Nat} {p0 : Nat} {p4 : Int32} {S : zs_T} {Q : zs_Q} (hB : zt_B bf) (h : w_X9_goal_30 (zx σ n0 bf) d p0 p4 S Q) : zs_U (zx σ n0 bf) d 8030 30 [(0, .ref p0), (4, .int p4)] [] S Q := by
  unfold w_X9_goal_30 at h
  refine zu_aload_n d_8030_30 rfl (zs_ra _) ?_
  obtain ⟨k1, h⟩ := h
  refine zg_8_188 rfl d_8030_31 k1 ?_
  refine zu_aload_n d_8030_34 rfl (zs_ra _) ?_
  refine zg_8_643 rfl d_8030_35 k1 ?_
  refine zu_iload d_8030_38 rfl ?_
  obtain ⟨b2, e3, h⟩ := h
  refine zs_stk2 (zs_rfe e3) ?_
  obtain ⟨k4, h⟩ := h
  obtain ⟨k5, h⟩ := h
  refine zu_iast (k := 0) d_8030_40 rfl rfl k5 k4 ?_
  generalize e7 : zs_si S b2 (zs_I S 8089 p0).toNatClampNeg p4 = S6
  have h := h S6 e7.symm
  have K8 : ∀ b, zs_K S6 b = zs_K S b := zs_Kt e7 (zs_Ksi _ _ _ _) (fun _ => rfl)
  refine zu_aload_n d_8030_41 rfl (zs_ra _) ?_
  refine zu_dup d_8030_42 rfl ?_
  refine zg_8_643 rfl d_8030_43 ((K8 _).trans k1) ?_
  refine zu_iconst d_8030_46 zi_1 ?_
  refine zu_stk d_8030_47 rfl rfl ?_
  obtain ⟨k9, h⟩ := h
  refine zp_8_643 (v := ((zs_I S6 8089 p0) + (1 : Int32))) rfl d_8030_48 ((K8 _).trans k1) k9 ?_
  generalize e11 : zs_sI S6 8089 p0 ((zs_I S6 8089 p0) + (1 : Int32)) = S10
  have h := h S10 e11.symm
  have K12 : ∀ b, zs_K S10 b = zs_K S b := zs_Kt e11 (zs_KsI _ _ _ _) K8
  exact zu_vret d_8030_51 zr_8030 h
def w_X9_goal (X : zs_X) (d : Nat) (p0 : Nat) (p1 : Int32) (p2 : Int32) (p3 : Int32) (p4 : Int32) (S : zs_T) (Q : zs_Q) : Prop :=
  (zs_K S p0 = some (.inl 8) ∧ ∃ b2, (zs_R S 8085 p0) = some b2 ∧ zs_A S b2 0 (zs_I S 8089 p0) ∧ ab_n0 X.1 ≤ b2 ∧ ∀ S6, S6 = zs_si S b2 (zs_I S 8089 p0).toNatClampNeg p1 → ∃ b9, (zs_R S6 8086 p0) = some b9 ∧ zs_A S b9 0 (zs_I S6 8089 p0) ∧ ab_n0 X.1 ≤ b9 ∧ ∀ S13, S13 = zs_si S6 b9 (zs_I S6 8089 p0).toNatClampNeg p2 → ∃ b16, (zs_R S13 8087 p0) = some b16 ∧ zs_A S b16 0 (zs_I S13 8089 p0) ∧ ab_n0 X.1 ≤ b16 ∧ ∀ S20, S20 = zs_si S13 b16 (zs_I S13 8089 p0).toNatClampNeg p3 → w_X9_goal_30 X d p0 p4 S20 Q)
theorem u_X9_goal {σ : Nat → Nat} {n0 : Nat} {bf : ab_B} {d : Nat} {p0 : Nat} {p1 : Int32} {p2 : Int32} {p3 : Int32} {p4 : Int32} {S : zs_T} {Q : zs_Q} (hB : zt_B bf) (hd : 1 ≤ d) (h : w_X9_goal (zx σ n0 bf) (d - 1) p0 p1 p2 p3 p4 S Q) : zs_C (zx σ n0 bf) d 8030 [.ref p0, .int p1, .int p2, .int p3, .int p4] S Q := by
  have hL : lv_args 0 [.ref p0, .int p1, .int p2, .int p3, .int p4] = [(0, .ref p0), (1, .int p1), (2, .int p2), (3, .int p3), (4, .int p4)] := rfl
  refine zs_C.of1 (hB.2 8030 (by decide) (by decide)) hd (by rw [hL]; exact zs_sub_self _ (by exact ⟨rfl, rfl, rfl, rfl, rfl, trivial⟩)) ?_
  rw [hL]
  clear hL
  unfold w_X9_goal at h
  refine zu_aload_n d_8030_0 rfl (zs_ra _) ?_
  obtain ⟨k1, h⟩ := h
  refine zg_8_179 rfl d_8030_1 k1 ?_
  refine zu_aload_n d_8030_4 rfl (zs_ra _) ?_
  refine zg_8_643 rfl d_8030_5 k1 ?_
  refine zu_iload_n d_8030_8 rfl ?_
  obtain ⟨b2, e3, h⟩ := h
  refine zs_stk2 (zs_rfe e3) ?_
  obtain ⟨k4, h⟩ := h
  obtain ⟨k5, h⟩ := h
  refine zu_iast (k := 0) d_8030_9 rfl rfl k5 k4 ?_
  generalize e7 : zs_si S b2 (zs_I S 8089 p0).toNatClampNeg p1 = S6
  have h := h S6 e7.symm
  have K8 : ∀ b, zs_K S6 b = zs_K S b := zs_Kt e7 (zs_Ksi _ _ _ _) (fun _ => rfl)
  refine zu_aload_n d_8030_10 rfl (zs_ra _) ?_
  refine zg_8_182 rfl d_8030_11 ((K8 _).trans k1) ?_
  refine zu_aload_n d_8030_14 rfl (zs_ra _) ?_
  refine zg_8_643 rfl d_8030_15 ((K8 _).trans k1) ?_
  refine zu_iload_n d_8030_18 rfl ?_
  obtain ⟨b9, e10, h⟩ := h
  refine zs_stk2 (zs_rfe e10) ?_
  obtain ⟨k11, h⟩ := h
  obtain ⟨k12, h⟩ := h
  refine zu_iast (k := 0) d_8030_19 rfl rfl k12 (zs_Ak K8 k11) ?_
  generalize e14 : zs_si S6 b9 (zs_I S6 8089 p0).toNatClampNeg p2 = S13
  have h := h S13 e14.symm
  have K15 : ∀ b, zs_K S13 b = zs_K S b := zs_Kt e14 (zs_Ksi _ _ _ _) K8
  refine zu_aload_n d_8030_20 rfl (zs_ra _) ?_
  refine zg_8_185 rfl d_8030_21 ((K15 _).trans k1) ?_
  refine zu_aload_n d_8030_24 rfl (zs_ra _) ?_
  refine zg_8_643 rfl d_8030_25 ((K15 _).trans k1) ?_
  refine zu_iload_n d_8030_28 rfl ?_
  obtain ⟨b16, e17, h⟩ := h
  refine zs_stk2 (zs_rfe e17) ?_
  obtain ⟨k18, h⟩ := h
  obtain ⟨k19, h⟩ := h
  refine zu_iast (k := 0) d_8030_29 rfl rfl k19 (zs_Ak K15 k18) ?_
  generalize e21 : zs_si S13 b16 (zs_I S13 8089 p0).toNatClampNeg p3 = S20
  have h := h S20 e21.symm
  have K22 : ∀ b, zs_K S20 b = zs_K S b := zs_Kt e21 (zs_Ksi _ _ _ _) K15
  exact (u_X9_goal_30 hB h).weak ⟨rfl, rfl, trivial⟩
/-! SchemaPascalModel.sumGoal(IIII)V -/
theorem zm_8031 {σ : Nat → Nat} {n0 : Nat} {bf : ab_B} : ab_code (zx σ n0 bf).1 8031 = prog_17_method_196_code := rfl
theorem zq_8031 {σ : Nat → Nat} {n0 : Nat} {bf : ab_B} : ab_maxL (zx σ n0 bf).1 8031 = 5 := rfl
theorem zr_8031 {σ : Nat → Nat} {n0 : Nat} {bf : ab_B} : ab_ret (zx σ n0 bf).1 8031 = (Option.none : Option Jvm.ClassFile.FieldType) := rfl
theorem d_8031_0 {σ : Nat → Nat} {n0 : Nat} {bf : ab_B} : decode (ab_code (zx σ n0 bf).1 8031) 0 = .ok (.iload_n 1, 1) := zd zm_8031 (by decide +kernel)
theorem d_8031_1 {σ : Nat → Nat} {n0 : Nat} {bf : ab_B} : decode (ab_code (zx σ n0 bf).1 8031) 1 = .ok (.tableswitch 347 1 22 #[103, 116, 131, 138, 147, 154, 163, 170, 179, 200, 207, 216, 223, 231, 268, 275, 283, 301, 308, 316, 327, 338], 103) := zd zm_8031 (by decide +kernel)
theorem d_8031_104 {σ : Nat → Nat} {n0 : Nat} {bf : ab_B} : decode (ab_code (zx σ n0 bf).1 8031) 104 = .ok (.aload_n 0, 1) := zd zm_8031 (by decide +kernel)
theorem d_8031_105 {σ : Nat → Nat} {n0 : Nat} {bf : ab_B} : decode (ab_code (zx σ n0 bf).1 8031) 105 = .ok (.dup, 1) := zd zm_8031 (by decide +kernel)
theorem d_8031_106 {σ : Nat → Nat} {n0 : Nat} {bf : ab_B} : decode (ab_code (zx σ n0 bf).1 8031) 106 = .ok (.getfield 646, 3) := zd zm_8031 (by decide +kernel)
theorem d_8031_109 {σ : Nat → Nat} {n0 : Nat} {bf : ab_B} : decode (ab_code (zx σ n0 bf).1 8031) 109 = .ok (.iconst 1, 1) := zd zm_8031 (by decide +kernel)
theorem d_8031_110 {σ : Nat → Nat} {n0 : Nat} {bf : ab_B} : decode (ab_code (zx σ n0 bf).1 8031) 110 = .ok (.isub, 1) := zd zm_8031 (by decide +kernel)
theorem d_8031_111 {σ : Nat → Nat} {n0 : Nat} {bf : ab_B} : decode (ab_code (zx σ n0 bf).1 8031) 111 = .ok (.putfield 646, 3) := zd zm_8031 (by decide +kernel)
theorem d_8031_114 {σ : Nat → Nat} {n0 : Nat} {bf : ab_B} : decode (ab_code (zx σ n0 bf).1 8031) 114 = .ok (.goto 240, 3) := zd zm_8031 (by decide +kernel)
theorem d_8031_117 {σ : Nat → Nat} {n0 : Nat} {bf : ab_B} : decode (ab_code (zx σ n0 bf).1 8031) 117 = .ok (.aload_n 0, 1) := zd zm_8031 (by decide +kernel)
theorem d_8031_118 {σ : Nat → Nat} {n0 : Nat} {bf : ab_B} : decode (ab_code (zx σ n0 bf).1 8031) 118 = .ok (.iconst 3, 1) := zd zm_8031 (by decide +kernel)
theorem d_8031_119 {σ : Nat → Nat} {n0 : Nat} {bf : ab_B} : decode (ab_code (zx σ n0 bf).1 8031) 119 = .ok (.iconst 0, 1) := zd zm_8031 (by decide +kernel)
theorem d_8031_120 {σ : Nat → Nat} {n0 : Nat} {bf : ab_B} : decode (ab_code (zx σ n0 bf).1 8031) 120 = .ok (.iconst 0, 1) := zd zm_8031 (by decide +kernel)
theorem d_8031_121 {σ : Nat → Nat} {n0 : Nat} {bf : ab_B} : decode (ab_code (zx σ n0 bf).1 8031) 121 = .ok (.iconst 0, 1) := zd zm_8031 (by decide +kernel)
theorem d_8031_122 {σ : Nat → Nat} {n0 : Nat} {bf : ab_B} : decode (ab_code (zx σ n0 bf).1 8031) 122 = .ok (.invokevirtual 649, 3) := zd zm_8031 (by decide +kernel)
theorem d_8031_125 {σ : Nat → Nat} {n0 : Nat} {bf : ab_B} : decode (ab_code (zx σ n0 bf).1 8031) 125 = .ok (.aload_n 0, 1) := zd zm_8031 (by decide +kernel)
theorem d_8031_126 {σ : Nat → Nat} {n0 : Nat} {bf : ab_B} : decode (ab_code (zx σ n0 bf).1 8031) 126 = .ok (.invokevirtual 996, 3) := zd zm_8031 (by decide +kernel)
theorem d_8031_129 {σ : Nat → Nat} {n0 : Nat} {bf : ab_B} : decode (ab_code (zx σ n0 bf).1 8031) 129 = .ok (.goto 225, 3) := zd zm_8031 (by decide +kernel)
theorem d_8031_132 {σ : Nat → Nat} {n0 : Nat} {bf : ab_B} : decode (ab_code (zx σ n0 bf).1 8031) 132 = .ok (.aload_n 0, 1) := zd zm_8031 (by decide +kernel)
theorem d_8031_133 {σ : Nat → Nat} {n0 : Nat} {bf : ab_B} : decode (ab_code (zx σ n0 bf).1 8031) 133 = .ok (.invokevirtual 999, 3) := zd zm_8031 (by decide +kernel)
theorem d_8031_136 {σ : Nat → Nat} {n0 : Nat} {bf : ab_B} : decode (ab_code (zx σ n0 bf).1 8031) 136 = .ok (.goto 218, 3) := zd zm_8031 (by decide +kernel)
theorem d_8031_139 {σ : Nat → Nat} {n0 : Nat} {bf : ab_B} : decode (ab_code (zx σ n0 bf).1 8031) 139 = .ok (.aload_n 0, 1) := zd zm_8031 (by decide +kernel)
theorem d_8031_140 {σ : Nat → Nat} {n0 : Nat} {bf : ab_B} : decode (ab_code (zx σ n0 bf).1 8031) 140 = .ok (.iload_n 2, 1) := zd zm_8031 (by decide +kernel)
theorem d_8031_141 {σ : Nat → Nat} {n0 : Nat} {bf : ab_B} : decode (ab_code (zx σ n0 bf).1 8031) 141 = .ok (.iload_n 3, 1) := zd zm_8031 (by decide +kernel)
theorem d_8031_142 {σ : Nat → Nat} {n0 : Nat} {bf : ab_B} : decode (ab_code (zx σ n0 bf).1 8031) 142 = .ok (.invokevirtual 1002, 3) := zd zm_8031 (by decide +kernel)
theorem d_8031_145 {σ : Nat → Nat} {n0 : Nat} {bf : ab_B} : decode (ab_code (zx σ n0 bf).1 8031) 145 = .ok (.goto 209, 3) := zd zm_8031 (by decide +kernel)
theorem d_8031_148 {σ : Nat → Nat} {n0 : Nat} {bf : ab_B} : decode (ab_code (zx σ n0 bf).1 8031) 148 = .ok (.aload_n 0, 1) := zd zm_8031 (by decide +kernel)
theorem d_8031_149 {σ : Nat → Nat} {n0 : Nat} {bf : ab_B} : decode (ab_code (zx σ n0 bf).1 8031) 149 = .ok (.invokevirtual 996, 3) := zd zm_8031 (by decide +kernel)
theorem d_8031_152 {σ : Nat → Nat} {n0 : Nat} {bf : ab_B} : decode (ab_code (zx σ n0 bf).1 8031) 152 = .ok (.goto 202, 3) := zd zm_8031 (by decide +kernel)
theorem d_8031_155 {σ : Nat → Nat} {n0 : Nat} {bf : ab_B} : decode (ab_code (zx σ n0 bf).1 8031) 155 = .ok (.aload_n 0, 1) := zd zm_8031 (by decide +kernel)
theorem d_8031_156 {σ : Nat → Nat} {n0 : Nat} {bf : ab_B} : decode (ab_code (zx σ n0 bf).1 8031) 156 = .ok (.iload_n 2, 1) := zd zm_8031 (by decide +kernel)
theorem d_8031_157 {σ : Nat → Nat} {n0 : Nat} {bf : ab_B} : decode (ab_code (zx σ n0 bf).1 8031) 157 = .ok (.iload_n 3, 1) := zd zm_8031 (by decide +kernel)
theorem d_8031_158 {σ : Nat → Nat} {n0 : Nat} {bf : ab_B} : decode (ab_code (zx σ n0 bf).1 8031) 158 = .ok (.invokevirtual 1005, 3) := zd zm_8031 (by decide +kernel)
theorem d_8031_161 {σ : Nat → Nat} {n0 : Nat} {bf : ab_B} : decode (ab_code (zx σ n0 bf).1 8031) 161 = .ok (.goto 193, 3) := zd zm_8031 (by decide +kernel)
theorem d_8031_164 {σ : Nat → Nat} {n0 : Nat} {bf : ab_B} : decode (ab_code (zx σ n0 bf).1 8031) 164 = .ok (.aload_n 0, 1) := zd zm_8031 (by decide +kernel)
theorem d_8031_165 {σ : Nat → Nat} {n0 : Nat} {bf : ab_B} : decode (ab_code (zx σ n0 bf).1 8031) 165 = .ok (.invokevirtual 1008, 3) := zd zm_8031 (by decide +kernel)
theorem d_8031_168 {σ : Nat → Nat} {n0 : Nat} {bf : ab_B} : decode (ab_code (zx σ n0 bf).1 8031) 168 = .ok (.goto 186, 3) := zd zm_8031 (by decide +kernel)
theorem d_8031_171 {σ : Nat → Nat} {n0 : Nat} {bf : ab_B} : decode (ab_code (zx σ n0 bf).1 8031) 171 = .ok (.aload_n 0, 1) := zd zm_8031 (by decide +kernel)
theorem d_8031_172 {σ : Nat → Nat} {n0 : Nat} {bf : ab_B} : decode (ab_code (zx σ n0 bf).1 8031) 172 = .ok (.iload_n 2, 1) := zd zm_8031 (by decide +kernel)
theorem d_8031_173 {σ : Nat → Nat} {n0 : Nat} {bf : ab_B} : decode (ab_code (zx σ n0 bf).1 8031) 173 = .ok (.iload_n 3, 1) := zd zm_8031 (by decide +kernel)
theorem d_8031_174 {σ : Nat → Nat} {n0 : Nat} {bf : ab_B} : decode (ab_code (zx σ n0 bf).1 8031) 174 = .ok (.invokevirtual 1011, 3) := zd zm_8031 (by decide +kernel)
theorem d_8031_177 {σ : Nat → Nat} {n0 : Nat} {bf : ab_B} : decode (ab_code (zx σ n0 bf).1 8031) 177 = .ok (.goto 177, 3) := zd zm_8031 (by decide +kernel)
theorem d_8031_180 {σ : Nat → Nat} {n0 : Nat} {bf : ab_B} : decode (ab_code (zx σ n0 bf).1 8031) 180 = .ok (.aload_n 0, 1) := zd zm_8031 (by decide +kernel)
theorem d_8031_181 {σ : Nat → Nat} {n0 : Nat} {bf : ab_B} : decode (ab_code (zx σ n0 bf).1 8031) 181 = .ok (.bipush 10, 2) := zd zm_8031 (by decide +kernel)
theorem d_8031_183 {σ : Nat → Nat} {n0 : Nat} {bf : ab_B} : decode (ab_code (zx σ n0 bf).1 8031) 183 = .ok (.iconst 0, 1) := zd zm_8031 (by decide +kernel)
theorem d_8031_184 {σ : Nat → Nat} {n0 : Nat} {bf : ab_B} : decode (ab_code (zx σ n0 bf).1 8031) 184 = .ok (.iconst 0, 1) := zd zm_8031 (by decide +kernel)
theorem d_8031_185 {σ : Nat → Nat} {n0 : Nat} {bf : ab_B} : decode (ab_code (zx σ n0 bf).1 8031) 185 = .ok (.iconst 0, 1) := zd zm_8031 (by decide +kernel)
theorem d_8031_186 {σ : Nat → Nat} {n0 : Nat} {bf : ab_B} : decode (ab_code (zx σ n0 bf).1 8031) 186 = .ok (.invokevirtual 649, 3) := zd zm_8031 (by decide +kernel)
theorem d_8031_189 {σ : Nat → Nat} {n0 : Nat} {bf : ab_B} : decode (ab_code (zx σ n0 bf).1 8031) 189 = .ok (.aload_n 0, 1) := zd zm_8031 (by decide +kernel)
theorem d_8031_190 {σ : Nat → Nat} {n0 : Nat} {bf : ab_B} : decode (ab_code (zx σ n0 bf).1 8031) 190 = .ok (.bipush 12, 2) := zd zm_8031 (by decide +kernel)
theorem d_8031_192 {σ : Nat → Nat} {n0 : Nat} {bf : ab_B} : decode (ab_code (zx σ n0 bf).1 8031) 192 = .ok (.iconst 0, 1) := zd zm_8031 (by decide +kernel)
theorem d_8031_193 {σ : Nat → Nat} {n0 : Nat} {bf : ab_B} : decode (ab_code (zx σ n0 bf).1 8031) 193 = .ok (.iconst 0, 1) := zd zm_8031 (by decide +kernel)
theorem d_8031_194 {σ : Nat → Nat} {n0 : Nat} {bf : ab_B} : decode (ab_code (zx σ n0 bf).1 8031) 194 = .ok (.iconst 0, 1) := zd zm_8031 (by decide +kernel)
theorem d_8031_195 {σ : Nat → Nat} {n0 : Nat} {bf : ab_B} : decode (ab_code (zx σ n0 bf).1 8031) 195 = .ok (.invokevirtual 649, 3) := zd zm_8031 (by decide +kernel)
theorem d_8031_198 {σ : Nat → Nat} {n0 : Nat} {bf : ab_B} : decode (ab_code (zx σ n0 bf).1 8031) 198 = .ok (.goto 156, 3) := zd zm_8031 (by decide +kernel)
theorem d_8031_201 {σ : Nat → Nat} {n0 : Nat} {bf : ab_B} : decode (ab_code (zx σ n0 bf).1 8031) 201 = .ok (.aload_n 0, 1) := zd zm_8031 (by decide +kernel)
theorem d_8031_202 {σ : Nat → Nat} {n0 : Nat} {bf : ab_B} : decode (ab_code (zx σ n0 bf).1 8031) 202 = .ok (.invokevirtual 1014, 3) := zd zm_8031 (by decide +kernel)
theorem d_8031_205 {σ : Nat → Nat} {n0 : Nat} {bf : ab_B} : decode (ab_code (zx σ n0 bf).1 8031) 205 = .ok (.goto 149, 3) := zd zm_8031 (by decide +kernel)
theorem d_8031_208 {σ : Nat → Nat} {n0 : Nat} {bf : ab_B} : decode (ab_code (zx σ n0 bf).1 8031) 208 = .ok (.aload_n 0, 1) := zd zm_8031 (by decide +kernel)
theorem d_8031_209 {σ : Nat → Nat} {n0 : Nat} {bf : ab_B} : decode (ab_code (zx σ n0 bf).1 8031) 209 = .ok (.iload_n 2, 1) := zd zm_8031 (by decide +kernel)
theorem d_8031_210 {σ : Nat → Nat} {n0 : Nat} {bf : ab_B} : decode (ab_code (zx σ n0 bf).1 8031) 210 = .ok (.iload_n 3, 1) := zd zm_8031 (by decide +kernel)
theorem d_8031_211 {σ : Nat → Nat} {n0 : Nat} {bf : ab_B} : decode (ab_code (zx σ n0 bf).1 8031) 211 = .ok (.invokevirtual 1017, 3) := zd zm_8031 (by decide +kernel)
theorem d_8031_214 {σ : Nat → Nat} {n0 : Nat} {bf : ab_B} : decode (ab_code (zx σ n0 bf).1 8031) 214 = .ok (.goto 140, 3) := zd zm_8031 (by decide +kernel)
theorem d_8031_217 {σ : Nat → Nat} {n0 : Nat} {bf : ab_B} : decode (ab_code (zx σ n0 bf).1 8031) 217 = .ok (.aload_n 0, 1) := zd zm_8031 (by decide +kernel)
theorem d_8031_218 {σ : Nat → Nat} {n0 : Nat} {bf : ab_B} : decode (ab_code (zx σ n0 bf).1 8031) 218 = .ok (.invokevirtual 1020, 3) := zd zm_8031 (by decide +kernel)
theorem d_8031_221 {σ : Nat → Nat} {n0 : Nat} {bf : ab_B} : decode (ab_code (zx σ n0 bf).1 8031) 221 = .ok (.goto 133, 3) := zd zm_8031 (by decide +kernel)
theorem d_8031_224 {σ : Nat → Nat} {n0 : Nat} {bf : ab_B} : decode (ab_code (zx σ n0 bf).1 8031) 224 = .ok (.aload_n 0, 1) := zd zm_8031 (by decide +kernel)
theorem d_8031_225 {σ : Nat → Nat} {n0 : Nat} {bf : ab_B} : decode (ab_code (zx σ n0 bf).1 8031) 225 = .ok (.iload_n 2, 1) := zd zm_8031 (by decide +kernel)
theorem d_8031_226 {σ : Nat → Nat} {n0 : Nat} {bf : ab_B} : decode (ab_code (zx σ n0 bf).1 8031) 226 = .ok (.invokevirtual 1023, 3) := zd zm_8031 (by decide +kernel)
theorem d_8031_229 {σ : Nat → Nat} {n0 : Nat} {bf : ab_B} : decode (ab_code (zx σ n0 bf).1 8031) 229 = .ok (.goto 125, 3) := zd zm_8031 (by decide +kernel)
theorem d_8031_232 {σ : Nat → Nat} {n0 : Nat} {bf : ab_B} : decode (ab_code (zx σ n0 bf).1 8031) 232 = .ok (.aload_n 0, 1) := zd zm_8031 (by decide +kernel)
theorem d_8031_233 {σ : Nat → Nat} {n0 : Nat} {bf : ab_B} : decode (ab_code (zx σ n0 bf).1 8031) 233 = .ok (.bipush 9, 2) := zd zm_8031 (by decide +kernel)
theorem d_8031_235 {σ : Nat → Nat} {n0 : Nat} {bf : ab_B} : decode (ab_code (zx σ n0 bf).1 8031) 235 = .ok (.invokevirtual 746, 3) := zd zm_8031 (by decide +kernel)
theorem d_8031_238 {σ : Nat → Nat} {n0 : Nat} {bf : ab_B} : decode (ab_code (zx σ n0 bf).1 8031) 238 = .ok (.aload_n 0, 1) := zd zm_8031 (by decide +kernel)
theorem d_8031_239 {σ : Nat → Nat} {n0 : Nat} {bf : ab_B} : decode (ab_code (zx σ n0 bf).1 8031) 239 = .ok (.getfield 200, 3) := zd zm_8031 (by decide +kernel)
theorem d_8031_242 {σ : Nat → Nat} {n0 : Nat} {bf : ab_B} : decode (ab_code (zx σ n0 bf).1 8031) 242 = .ok (.aload_n 0, 1) := zd zm_8031 (by decide +kernel)
theorem d_8031_243 {σ : Nat → Nat} {n0 : Nat} {bf : ab_B} : decode (ab_code (zx σ n0 bf).1 8031) 243 = .ok (.getfield 653, 3) := zd zm_8031 (by decide +kernel)
theorem d_8031_246 {σ : Nat → Nat} {n0 : Nat} {bf : ab_B} : decode (ab_code (zx σ n0 bf).1 8031) 246 = .ok (.iconst 1, 1) := zd zm_8031 (by decide +kernel)
theorem d_8031_247 {σ : Nat → Nat} {n0 : Nat} {bf : ab_B} : decode (ab_code (zx σ n0 bf).1 8031) 247 = .ok (.isub, 1) := zd zm_8031 (by decide +kernel)
theorem d_8031_248 {σ : Nat → Nat} {n0 : Nat} {bf : ab_B} : decode (ab_code (zx σ n0 bf).1 8031) 248 = .ok (.aload_n 0, 1) := zd zm_8031 (by decide +kernel)
theorem d_8031_249 {σ : Nat → Nat} {n0 : Nat} {bf : ab_B} : decode (ab_code (zx σ n0 bf).1 8031) 249 = .ok (.getfield 200, 3) := zd zm_8031 (by decide +kernel)
theorem d_8031_252 {σ : Nat → Nat} {n0 : Nat} {bf : ab_B} : decode (ab_code (zx σ n0 bf).1 8031) 252 = .ok (.aload_n 0, 1) := zd zm_8031 (by decide +kernel)
theorem d_8031_253 {σ : Nat → Nat} {n0 : Nat} {bf : ab_B} : decode (ab_code (zx σ n0 bf).1 8031) 253 = .ok (.getfield 653, 3) := zd zm_8031 (by decide +kernel)
theorem d_8031_256 {σ : Nat → Nat} {n0 : Nat} {bf : ab_B} : decode (ab_code (zx σ n0 bf).1 8031) 256 = .ok (.iconst 1, 1) := zd zm_8031 (by decide +kernel)
theorem d_8031_257 {σ : Nat → Nat} {n0 : Nat} {bf : ab_B} : decode (ab_code (zx σ n0 bf).1 8031) 257 = .ok (.isub, 1) := zd zm_8031 (by decide +kernel)
theorem d_8031_258 {σ : Nat → Nat} {n0 : Nat} {bf : ab_B} : decode (ab_code (zx σ n0 bf).1 8031) 258 = .ok (.iaload, 1) := zd zm_8031 (by decide +kernel)
theorem d_8031_259 {σ : Nat → Nat} {n0 : Nat} {bf : ab_B} : decode (ab_code (zx σ n0 bf).1 8031) 259 = .ok (.bipush (-33), 2) := zd zm_8031 (by decide +kernel)
theorem d_8031_261 {σ : Nat → Nat} {n0 : Nat} {bf : ab_B} : decode (ab_code (zx σ n0 bf).1 8031) 261 = .ok (.iand, 1) := zd zm_8031 (by decide +kernel)
theorem d_8031_262 {σ : Nat → Nat} {n0 : Nat} {bf : ab_B} : decode (ab_code (zx σ n0 bf).1 8031) 262 = .ok (.bipush 8, 2) := zd zm_8031 (by decide +kernel)
theorem d_8031_264 {σ : Nat → Nat} {n0 : Nat} {bf : ab_B} : decode (ab_code (zx σ n0 bf).1 8031) 264 = .ok (.ior, 1) := zd zm_8031 (by decide +kernel)
theorem d_8031_265 {σ : Nat → Nat} {n0 : Nat} {bf : ab_B} : decode (ab_code (zx σ n0 bf).1 8031) 265 = .ok (.iastore, 1) := zd zm_8031 (by decide +kernel)
theorem d_8031_266 {σ : Nat → Nat} {n0 : Nat} {bf : ab_B} : decode (ab_code (zx σ n0 bf).1 8031) 266 = .ok (.goto 88, 3) := zd zm_8031 (by decide +kernel)
theorem d_8031_269 {σ : Nat → Nat} {n0 : Nat} {bf : ab_B} : decode (ab_code (zx σ n0 bf).1 8031) 269 = .ok (.aload_n 0, 1) := zd zm_8031 (by decide +kernel)
theorem d_8031_270 {σ : Nat → Nat} {n0 : Nat} {bf : ab_B} : decode (ab_code (zx σ n0 bf).1 8031) 270 = .ok (.invokevirtual 1026, 3) := zd zm_8031 (by decide +kernel)
theorem d_8031_273 {σ : Nat → Nat} {n0 : Nat} {bf : ab_B} : decode (ab_code (zx σ n0 bf).1 8031) 273 = .ok (.goto 81, 3) := zd zm_8031 (by decide +kernel)
theorem d_8031_276 {σ : Nat → Nat} {n0 : Nat} {bf : ab_B} : decode (ab_code (zx σ n0 bf).1 8031) 276 = .ok (.aload_n 0, 1) := zd zm_8031 (by decide +kernel)
theorem d_8031_277 {σ : Nat → Nat} {n0 : Nat} {bf : ab_B} : decode (ab_code (zx σ n0 bf).1 8031) 277 = .ok (.iload_n 2, 1) := zd zm_8031 (by decide +kernel)
theorem d_8031_278 {σ : Nat → Nat} {n0 : Nat} {bf : ab_B} : decode (ab_code (zx σ n0 bf).1 8031) 278 = .ok (.invokevirtual 1029, 3) := zd zm_8031 (by decide +kernel)
theorem d_8031_281 {σ : Nat → Nat} {n0 : Nat} {bf : ab_B} : decode (ab_code (zx σ n0 bf).1 8031) 281 = .ok (.goto 73, 3) := zd zm_8031 (by decide +kernel)
theorem d_8031_284 {σ : Nat → Nat} {n0 : Nat} {bf : ab_B} : decode (ab_code (zx σ n0 bf).1 8031) 284 = .ok (.aload_n 0, 1) := zd zm_8031 (by decide +kernel)
theorem d_8031_285 {σ : Nat → Nat} {n0 : Nat} {bf : ab_B} : decode (ab_code (zx σ n0 bf).1 8031) 285 = .ok (.iload_n 2, 1) := zd zm_8031 (by decide +kernel)
theorem d_8031_286 {σ : Nat → Nat} {n0 : Nat} {bf : ab_B} : decode (ab_code (zx σ n0 bf).1 8031) 286 = .ok (.iload_n 3, 1) := zd zm_8031 (by decide +kernel)
theorem d_8031_287 {σ : Nat → Nat} {n0 : Nat} {bf : ab_B} : decode (ab_code (zx σ n0 bf).1 8031) 287 = .ok (.iconst 1, 1) := zd zm_8031 (by decide +kernel)
theorem d_8031_288 {σ : Nat → Nat} {n0 : Nat} {bf : ab_B} : decode (ab_code (zx σ n0 bf).1 8031) 288 = .ok (.if_icmp .ne 7, 3) := zd zm_8031 (by decide +kernel)
theorem d_8031_291 {σ : Nat → Nat} {n0 : Nat} {bf : ab_B} : decode (ab_code (zx σ n0 bf).1 8031) 291 = .ok (.iconst 1, 1) := zd zm_8031 (by decide +kernel)
theorem d_8031_292 {σ : Nat → Nat} {n0 : Nat} {bf : ab_B} : decode (ab_code (zx σ n0 bf).1 8031) 292 = .ok (.goto 4, 3) := zd zm_8031 (by decide +kernel)
theorem d_8031_295 {σ : Nat → Nat} {n0 : Nat} {bf : ab_B} : decode (ab_code (zx σ n0 bf).1 8031) 295 = .ok (.iconst 0, 1) := zd zm_8031 (by decide +kernel)
theorem d_8031_296 {σ : Nat → Nat} {n0 : Nat} {bf : ab_B} : decode (ab_code (zx σ n0 bf).1 8031) 296 = .ok (.invokevirtual 767, 3) := zd zm_8031 (by decide +kernel)
theorem d_8031_299 {σ : Nat → Nat} {n0 : Nat} {bf : ab_B} : decode (ab_code (zx σ n0 bf).1 8031) 299 = .ok (.goto 55, 3) := zd zm_8031 (by decide +kernel)
theorem d_8031_302 {σ : Nat → Nat} {n0 : Nat} {bf : ab_B} : decode (ab_code (zx σ n0 bf).1 8031) 302 = .ok (.aload_n 0, 1) := zd zm_8031 (by decide +kernel)
theorem d_8031_303 {σ : Nat → Nat} {n0 : Nat} {bf : ab_B} : decode (ab_code (zx σ n0 bf).1 8031) 303 = .ok (.invokevirtual 1032, 3) := zd zm_8031 (by decide +kernel)
theorem d_8031_306 {σ : Nat → Nat} {n0 : Nat} {bf : ab_B} : decode (ab_code (zx σ n0 bf).1 8031) 306 = .ok (.goto 48, 3) := zd zm_8031 (by decide +kernel)
theorem d_8031_309 {σ : Nat → Nat} {n0 : Nat} {bf : ab_B} : decode (ab_code (zx σ n0 bf).1 8031) 309 = .ok (.aload_n 0, 1) := zd zm_8031 (by decide +kernel)
theorem d_8031_310 {σ : Nat → Nat} {n0 : Nat} {bf : ab_B} : decode (ab_code (zx σ n0 bf).1 8031) 310 = .ok (.iload_n 2, 1) := zd zm_8031 (by decide +kernel)
theorem d_8031_311 {σ : Nat → Nat} {n0 : Nat} {bf : ab_B} : decode (ab_code (zx σ n0 bf).1 8031) 311 = .ok (.invokevirtual 1035, 3) := zd zm_8031 (by decide +kernel)
theorem d_8031_314 {σ : Nat → Nat} {n0 : Nat} {bf : ab_B} : decode (ab_code (zx σ n0 bf).1 8031) 314 = .ok (.goto 40, 3) := zd zm_8031 (by decide +kernel)
theorem d_8031_317 {σ : Nat → Nat} {n0 : Nat} {bf : ab_B} : decode (ab_code (zx σ n0 bf).1 8031) 317 = .ok (.aload_n 0, 1) := zd zm_8031 (by decide +kernel)
theorem d_8031_318 {σ : Nat → Nat} {n0 : Nat} {bf : ab_B} : decode (ab_code (zx σ n0 bf).1 8031) 318 = .ok (.iload_n 2, 1) := zd zm_8031 (by decide +kernel)
theorem d_8031_319 {σ : Nat → Nat} {n0 : Nat} {bf : ab_B} : decode (ab_code (zx σ n0 bf).1 8031) 319 = .ok (.iload_n 3, 1) := zd zm_8031 (by decide +kernel)
theorem d_8031_320 {σ : Nat → Nat} {n0 : Nat} {bf : ab_B} : decode (ab_code (zx σ n0 bf).1 8031) 320 = .ok (.iload 4, 2) := zd zm_8031 (by decide +kernel)
theorem d_8031_322 {σ : Nat → Nat} {n0 : Nat} {bf : ab_B} : decode (ab_code (zx σ n0 bf).1 8031) 322 = .ok (.invokevirtual 1038, 3) := zd zm_8031 (by decide +kernel)
theorem d_8031_325 {σ : Nat → Nat} {n0 : Nat} {bf : ab_B} : decode (ab_code (zx σ n0 bf).1 8031) 325 = .ok (.goto 29, 3) := zd zm_8031 (by decide +kernel)
theorem d_8031_328 {σ : Nat → Nat} {n0 : Nat} {bf : ab_B} : decode (ab_code (zx σ n0 bf).1 8031) 328 = .ok (.aload_n 0, 1) := zd zm_8031 (by decide +kernel)
theorem d_8031_329 {σ : Nat → Nat} {n0 : Nat} {bf : ab_B} : decode (ab_code (zx σ n0 bf).1 8031) 329 = .ok (.iload_n 2, 1) := zd zm_8031 (by decide +kernel)
theorem d_8031_330 {σ : Nat → Nat} {n0 : Nat} {bf : ab_B} : decode (ab_code (zx σ n0 bf).1 8031) 330 = .ok (.iload_n 3, 1) := zd zm_8031 (by decide +kernel)
theorem d_8031_331 {σ : Nat → Nat} {n0 : Nat} {bf : ab_B} : decode (ab_code (zx σ n0 bf).1 8031) 331 = .ok (.iload 4, 2) := zd zm_8031 (by decide +kernel)
theorem d_8031_333 {σ : Nat → Nat} {n0 : Nat} {bf : ab_B} : decode (ab_code (zx σ n0 bf).1 8031) 333 = .ok (.invokevirtual 1041, 3) := zd zm_8031 (by decide +kernel)
theorem d_8031_336 {σ : Nat → Nat} {n0 : Nat} {bf : ab_B} : decode (ab_code (zx σ n0 bf).1 8031) 336 = .ok (.goto 18, 3) := zd zm_8031 (by decide +kernel)
theorem d_8031_339 {σ : Nat → Nat} {n0 : Nat} {bf : ab_B} : decode (ab_code (zx σ n0 bf).1 8031) 339 = .ok (.aload_n 0, 1) := zd zm_8031 (by decide +kernel)
theorem d_8031_340 {σ : Nat → Nat} {n0 : Nat} {bf : ab_B} : decode (ab_code (zx σ n0 bf).1 8031) 340 = .ok (.iload_n 2, 1) := zd zm_8031 (by decide +kernel)
theorem d_8031_341 {σ : Nat → Nat} {n0 : Nat} {bf : ab_B} : decode (ab_code (zx σ n0 bf).1 8031) 341 = .ok (.iload_n 3, 1) := zd zm_8031 (by decide +kernel)
theorem d_8031_342 {σ : Nat → Nat} {n0 : Nat} {bf : ab_B} : decode (ab_code (zx σ n0 bf).1 8031) 342 = .ok (.invokevirtual 1044, 3) := zd zm_8031 (by decide +kernel)
theorem d_8031_345 {σ : Nat → Nat} {n0 : Nat} {bf : ab_B} : decode (ab_code (zx σ n0 bf).1 8031) 345 = .ok (.goto 9, 3) := zd zm_8031 (by decide +kernel)
theorem d_8031_348 {σ : Nat → Nat} {n0 : Nat} {bf : ab_B} : decode (ab_code (zx σ n0 bf).1 8031) 348 = .ok (.aload_n 0, 1) := zd zm_8031 (by decide +kernel)
theorem d_8031_349 {σ : Nat → Nat} {n0 : Nat} {bf : ab_B} : decode (ab_code (zx σ n0 bf).1 8031) 349 = .ok (.iload_n 2, 1) := zd zm_8031 (by decide +kernel)
theorem d_8031_350 {σ : Nat → Nat} {n0 : Nat} {bf : ab_B} : decode (ab_code (zx σ n0 bf).1 8031) 350 = .ok (.iload_n 3, 1) := zd zm_8031 (by decide +kernel)
theorem d_8031_351 {σ : Nat → Nat} {n0 : Nat} {bf : ab_B} : decode (ab_code (zx σ n0 bf).1 8031) 351 = .ok (.invokevirtual 1047, 3) := zd zm_8031 (by decide +kernel)
theorem d_8031_354 {σ : Nat → Nat} {n0 : Nat} {bf : ab_B} : decode (ab_code (zx σ n0 bf).1 8031) 354 = .ok (.return_, 1) := zd zm_8031 (by decide +kernel)
def w_X9_sumGoal_266 (X : zs_X) (d : Nat)  (S : zs_T) (Q : zs_Q) : Prop :=
  (Q (.returned none) S)
theorem u_X9_sumGoal_266 {σ : Nat → Nat} {n0 : Nat} {bf : ab_B} {d : Nat}  {S : zs_T} {Q : zs_Q} (hB : zt_B bf) (h : w_X9_sumGoal_266 (zx σ n0 bf) d  S Q) : zs_U (zx σ n0 bf) d 8031 266 [] [] S Q := by
  unfold w_X9_sumGoal_266 at h
  refine zu_goto (t := 354) d_8031_266 rfl ?_
  exact zu_vret d_8031_354 zr_8031 h
def w_X9_sumGoal_296 (X : zs_X) (d : Nat) (q0 : Option Nat) (q1 : Int32) (q2 : Int32) (S : zs_T) (Q : zs_Q) : Prop :=
  (∃ b1, q0 = some b1 ∧ zs_K S b1 = some (.inl 8) ∧ zs_C X d 8071 [.ref b1, .int q1, .int q2] S (zs_kV (fun S4 => (Q (.returned none) S4)) Q))
theorem u_X9_sumGoal_296 {σ : Nat → Nat} {n0 : Nat} {bf : ab_B} {d : Nat} {q0 : Option Nat} {q1 : Int32} {q2 : Int32} {S : zs_T} {Q : zs_Q} (hB : zt_B bf) (h : w_X9_sumGoal_296 (zx σ n0 bf) d q0 q1 q2 S Q) : zs_U (zx σ n0 bf) d 8031 296 [] [.int q2, .int q1, va_rf q0] S Q := by
  unfold w_X9_sumGoal_296 at h
  obtain ⟨b1, e2, h⟩ := h
  refine zs_stk2 (zs_rfe e2) ?_
  obtain ⟨k3, h⟩ := h
  refine zc_8_767 (x0 := q1) (x1 := q2) hB rfl k3 d_8031_296 (Nat.le_of_ble_eq_true rfl) h (fun S4 h => ?_)
  refine zu_goto (t := 354) d_8031_299 rfl ?_
  exact zu_vret d_8031_354 zr_8031 h
def w_X9_sumGoal (X : zs_X) (d : Nat) (p0 : Nat) (p1 : Int32) (p2 : Int32) (p3 : Int32) (p4 : Int32) (S : zs_T) (Q : zs_Q) : Prop :=
  (((p1.toInt < 1 ∨ 22 < p1.toInt → (zs_K S p0 = some (.inl 8) ∧ zs_C X d 8087 [.ref p0, .int p2, .int p3] S (zs_kV (fun S3 => (Q (.returned none) S3)) Q))) ∧ (p1.toInt = 1 → (zs_K S p0 = some (.inl 8) ∧ ab_n0 X.1 ≤ p0 ∧ ∀ S7, S7 = zs_sI S 8090 p0 ((zs_I S 8090 p0) - (1 : Int32)) → Q (.returned none) S7)) ∧ (p1.toInt = 2 → (zs_K S p0 = some (.inl 8) ∧ zs_C X d 8030 [.ref p0, .int (3 : Int32), .int (0 : Int32), .int (0 : Int32), .int (0 : Int32)] S (zs_kV (fun S11 => (zs_K S11 p0 = some (.inl 8) ∧ zs_C X d 8032 [.ref p0] S11 (zs_kV (fun S14 => (Q (.returned none) S14)) Q))) Q))) ∧ (p1.toInt = 3 → (zs_K S p0 = some (.inl 8) ∧ zs_C X d 8033 [.ref p0] S (zs_kV (fun S17 => (Q (.returned none) S17)) Q))) ∧ (p1.toInt = 4 → (zs_K S p0 = some (.inl 8) ∧ zs_C X d 8038 [.ref p0, .int p2, .int p3] S (zs_kV (fun S20 => (Q (.returned none) S20)) Q))) ∧ (p1.toInt = 5 → (zs_K S p0 = some (.inl 8) ∧ zs_C X d 8032 [.ref p0] S (zs_kV (fun S23 => (Q (.returned none) S23)) Q))) ∧ (p1.toInt = 6 → (zs_K S p0 = some (.inl 8) ∧ zs_C X d 8050 [.ref p0, .int p2, .int p3] S (zs_kV (fun S26 => (Q (.returned none) S26)) Q))) ∧ (p1.toInt = 7 → (zs_K S p0 = some (.inl 8) ∧ zs_C X d 8052 [.ref p0] S (zs_kV (fun S29 => (Q (.returned none) S29)) Q))) ∧ (p1.toInt = 8 → (zs_K S p0 = some (.inl 8) ∧ zs_C X d 8053 [.ref p0, .int p2, .int p3] S (zs_kV (fun S32 => (Q (.returned none) S32)) Q))) ∧ (p1.toInt = 9 → (zs_K S p0 = some (.inl 8) ∧ zs_C X d 8030 [.ref p0, .int (10 : Int32), .int (0 : Int32), .int (0 : Int32), .int (0 : Int32)] S (zs_kV (fun S35 => (zs_K S35 p0 = some (.inl 8) ∧ zs_C X d 8030 [.ref p0, .int (12 : Int32), .int (0 : Int32), .int (0 : Int32), .int (0 : Int32)] S35 (zs_kV (fun S38 => (Q (.returned none) S38)) Q))) Q))) ∧ (p1.toInt = 10 → (zs_K S p0 = some (.inl 8) ∧ zs_C X d 8055 [.ref p0] S (zs_kV (fun S41 => (Q (.returned none) S41)) Q))) ∧ (p1.toInt = 11 → (zs_K S p0 = some (.inl 8) ∧ zs_C X d 8056 [.ref p0, .int p2, .int p3] S (zs_kV (fun S44 => (Q (.returned none) S44)) Q))) ∧ (p1.toInt = 12 → (zs_K S p0 = some (.inl 8) ∧ zs_C X d 8057 [.ref p0] S (zs_kV (fun S47 => (Q (.returned none) S47)) Q))) ∧ (p1.toInt = 13 → (zs_K S p0 = some (.inl 8) ∧ zs_C X d 8066 [.ref p0, .int p2] S (zs_kV (fun S50 => (Q (.returned none) S50)) Q))) ∧ (p1.toInt = 14 → (zs_K S p0 = some (.inl 8) ∧ zs_C X d 8028 [.ref p0, .int (9 : Int32)] S (zs_kV (fun S53 => (zs_K S53 p0 = some (.inl 8) ∧ ∃ b56, (zs_R S53 8094 p0) = some b56 ∧ zs_A S53 b56 0 ((zs_I S53 8097 p0) - (1 : Int32)) ∧ ab_n0 X.1 ≤ b56 ∧ ∀ S60, S60 = zs_si S53 b56 ((zs_I S53 8097 p0) - (1 : Int32)).toNatClampNeg (((zs_i S53 b56 ((zs_I S53 8097 p0) - (1 : Int32)).toNatClampNeg) &&& (-33 : Int32)) ||| (8 : Int32)) → w_X9_sumGoal_266 X d  S60 Q)) Q))) ∧ (p1.toInt = 15 → (zs_K S p0 = some (.inl 8) ∧ zs_C X d 8067 [.ref p0] S (zs_kV (fun S64 => (Q (.returned none) S64)) Q))) ∧ (p1.toInt = 16 → (zs_K S p0 = some (.inl 8) ∧ zs_C X d 8068 [.ref p0, .int p2] S (zs_kV (fun S67 => (Q (.returned none) S67)) Q))) ∧ (p1.toInt = 17 → (((¬ p3 = (1 : Int32) → (w_X9_sumGoal_296 X d (some p0) p2 (0 : Int32) S Q)) ∧ (¬ (¬ p3 = (1 : Int32)) → (w_X9_sumGoal_296 X d (some p0) p2 (1 : Int32) S Q))))) ∧ (p1.toInt = 18 → (zs_K S p0 = some (.inl 8) ∧ zs_C X d 8072 [.ref p0] S (zs_kV (fun S71 => (Q (.returned none) S71)) Q))) ∧ (p1.toInt = 19 → (zs_K S p0 = some (.inl 8) ∧ zs_C X d 8079 [.ref p0, .int p2] S (zs_kV (fun S74 => (Q (.returned none) S74)) Q))) ∧ (p1.toInt = 20 → (zs_K S p0 = some (.inl 8) ∧ zs_C X d 8080 [.ref p0, .int p2, .int p3, .int p4] S (zs_kV (fun S77 => (Q (.returned none) S77)) Q))) ∧ (p1.toInt = 21 → (zs_K S p0 = some (.inl 8) ∧ zs_C X d 8084 [.ref p0, .int p2, .int p3, .int p4] S (zs_kV (fun S80 => (Q (.returned none) S80)) Q))) ∧ (p1.toInt = 22 → (zs_K S p0 = some (.inl 8) ∧ zs_C X d 8085 [.ref p0, .int p2, .int p3] S (zs_kV (fun S83 => (Q (.returned none) S83)) Q)))))
theorem u_X9_sumGoal {σ : Nat → Nat} {n0 : Nat} {bf : ab_B} {d : Nat} {p0 : Nat} {p1 : Int32} {p2 : Int32} {p3 : Int32} {p4 : Int32} {S : zs_T} {Q : zs_Q} (hB : zt_B bf) (hd : 1 ≤ d) (h : w_X9_sumGoal (zx σ n0 bf) (d - 1) p0 p1 p2 p3 p4 S Q) : zs_C (zx σ n0 bf) d 8031 [.ref p0, .int p1, .int p2, .int p3, .int p4] S Q := by
  have hL : lv_args 0 [.ref p0, .int p1, .int p2, .int p3, .int p4] = [(0, .ref p0), (1, .int p1), (2, .int p2), (3, .int p3), (4, .int p4)] := rfl
  refine zs_C.of1 (hB.2 8031 (by decide) (by decide)) hd (by rw [hL]; exact zs_sub_self _ (by exact ⟨rfl, rfl, rfl, rfl, rfl, trivial⟩)) ?_
  rw [hL]
  clear hL
  unfold w_X9_sumGoal at h
  refine zu_iload_n d_8031_0 rfl ?_
  refine zu_tsw (td := 348) d_8031_1 (by decide) rfl (fun c1 => ?_) ⟨fun c1 => ⟨by decide, ?_⟩, fun c1 => ⟨by decide, ?_⟩, fun c1 => ⟨by decide, ?_⟩, fun c1 => ⟨by decide, ?_⟩, fun c1 => ⟨by decide, ?_⟩, fun c1 => ⟨by decide, ?_⟩, fun c1 => ⟨by decide, ?_⟩, fun c1 => ⟨by decide, ?_⟩, fun c1 => ⟨by decide, ?_⟩, fun c1 => ⟨by decide, ?_⟩, fun c1 => ⟨by decide, ?_⟩, fun c1 => ⟨by decide, ?_⟩, fun c1 => ⟨by decide, ?_⟩, fun c1 => ⟨by decide, ?_⟩, fun c1 => ⟨by decide, ?_⟩, fun c1 => ⟨by decide, ?_⟩, fun c1 => ⟨by decide, ?_⟩, fun c1 => ⟨by decide, ?_⟩, fun c1 => ⟨by decide, ?_⟩, fun c1 => ⟨by decide, ?_⟩, fun c1 => ⟨by decide, ?_⟩, fun c1 => ⟨by decide, ?_⟩, trivial⟩
  · have h := h.1 c1
    refine zu_aload_n d_8031_348 rfl (zs_ra _) ?_
    refine zu_iload_n d_8031_349 rfl ?_
    refine zu_iload_n d_8031_350 rfl ?_
    obtain ⟨k2, h⟩ := h
    refine zc_8_1047 (x0 := p2) (x1 := p3) hB rfl k2 d_8031_351 (Nat.le_of_ble_eq_true rfl) h (fun S3 h => ?_)
    exact zu_vret d_8031_354 zr_8031 h
  · have h := h.2.1 c1
    show zs_U _ _ _ 104 _ _ _ _
    refine zu_aload_n d_8031_104 rfl (zs_ra _) ?_
    refine zu_dup d_8031_105 rfl ?_
    obtain ⟨k5, h⟩ := h
    refine zg_8_646 rfl d_8031_106 k5 ?_
    refine zu_iconst d_8031_109 zi_1 ?_
    refine zu_stk d_8031_110 rfl rfl ?_
    obtain ⟨k6, h⟩ := h
    refine zp_8_646 (v := ((zs_I S 8090 p0) - (1 : Int32))) rfl d_8031_111 k5 k6 ?_
    generalize e8 : zs_sI S 8090 p0 ((zs_I S 8090 p0) - (1 : Int32)) = S7
    have h := h S7 e8.symm
    have K9 : ∀ b, zs_K S7 b = zs_K S b := zs_Kt e8 (zs_KsI _ _ _ _) (fun _ => rfl)
    refine zu_goto (t := 354) d_8031_114 rfl ?_
    exact zu_vret d_8031_354 zr_8031 h
  · have h := h.2.2.1 c1
    show zs_U _ _ _ 117 _ _ _ _
    refine zu_aload_n d_8031_117 rfl (zs_ra _) ?_
    refine zu_iconst d_8031_118 zi_3 ?_
    refine zu_iconst d_8031_119 zi_0 ?_
    refine zu_iconst d_8031_120 zi_0 ?_
    refine zu_iconst d_8031_121 zi_0 ?_
    obtain ⟨k10, h⟩ := h
    refine zc_8_649 (x0 := (3 : Int32)) (x1 := (0 : Int32)) (x2 := (0 : Int32)) (x3 := (0 : Int32)) hB rfl k10 d_8031_122 (Nat.le_of_ble_eq_true rfl) h (fun S11 h => ?_)
    refine zu_aload_n d_8031_125 rfl (zs_ra _) ?_
    obtain ⟨k13, h⟩ := h
    refine zc_8_996  hB rfl k13 d_8031_126 (Nat.le_of_ble_eq_true rfl) h (fun S14 h => ?_)
    refine zu_goto (t := 354) d_8031_129 rfl ?_
    exact zu_vret d_8031_354 zr_8031 h
  · have h := h.2.2.2.1 c1
    show zs_U _ _ _ 132 _ _ _ _
    refine zu_aload_n d_8031_132 rfl (zs_ra _) ?_
    obtain ⟨k16, h⟩ := h
    refine zc_8_999  hB rfl k16 d_8031_133 (Nat.le_of_ble_eq_true rfl) h (fun S17 h => ?_)
    refine zu_goto (t := 354) d_8031_136 rfl ?_
    exact zu_vret d_8031_354 zr_8031 h
  · have h := h.2.2.2.2.1 c1
    show zs_U _ _ _ 139 _ _ _ _
    refine zu_aload_n d_8031_139 rfl (zs_ra _) ?_
    refine zu_iload_n d_8031_140 rfl ?_
    refine zu_iload_n d_8031_141 rfl ?_
    obtain ⟨k19, h⟩ := h
    refine zc_8_1002 (x0 := p2) (x1 := p3) hB rfl k19 d_8031_142 (Nat.le_of_ble_eq_true rfl) h (fun S20 h => ?_)
    refine zu_goto (t := 354) d_8031_145 rfl ?_
    exact zu_vret d_8031_354 zr_8031 h
  · have h := h.2.2.2.2.2.1 c1
    show zs_U _ _ _ 148 _ _ _ _
    refine zu_aload_n d_8031_148 rfl (zs_ra _) ?_
    obtain ⟨k22, h⟩ := h
    refine zc_8_996  hB rfl k22 d_8031_149 (Nat.le_of_ble_eq_true rfl) h (fun S23 h => ?_)
    refine zu_goto (t := 354) d_8031_152 rfl ?_
    exact zu_vret d_8031_354 zr_8031 h
  · have h := h.2.2.2.2.2.2.1 c1
    show zs_U _ _ _ 155 _ _ _ _
    refine zu_aload_n d_8031_155 rfl (zs_ra _) ?_
    refine zu_iload_n d_8031_156 rfl ?_
    refine zu_iload_n d_8031_157 rfl ?_
    obtain ⟨k25, h⟩ := h
    refine zc_8_1005 (x0 := p2) (x1 := p3) hB rfl k25 d_8031_158 (Nat.le_of_ble_eq_true rfl) h (fun S26 h => ?_)
    refine zu_goto (t := 354) d_8031_161 rfl ?_
    exact zu_vret d_8031_354 zr_8031 h
  · have h := h.2.2.2.2.2.2.2.1 c1
    show zs_U _ _ _ 164 _ _ _ _
    refine zu_aload_n d_8031_164 rfl (zs_ra _) ?_
    obtain ⟨k28, h⟩ := h
    refine zc_8_1008  hB rfl k28 d_8031_165 (Nat.le_of_ble_eq_true rfl) h (fun S29 h => ?_)
    refine zu_goto (t := 354) d_8031_168 rfl ?_
    exact zu_vret d_8031_354 zr_8031 h
  · have h := h.2.2.2.2.2.2.2.2.1 c1
    show zs_U _ _ _ 171 _ _ _ _
    refine zu_aload_n d_8031_171 rfl (zs_ra _) ?_
    refine zu_iload_n d_8031_172 rfl ?_
    refine zu_iload_n d_8031_173 rfl ?_
    obtain ⟨k31, h⟩ := h
    refine zc_8_1011 (x0 := p2) (x1 := p3) hB rfl k31 d_8031_174 (Nat.le_of_ble_eq_true rfl) h (fun S32 h => ?_)
    refine zu_goto (t := 354) d_8031_177 rfl ?_
    exact zu_vret d_8031_354 zr_8031 h
  · have h := h.2.2.2.2.2.2.2.2.2.1 c1
    show zs_U _ _ _ 180 _ _ _ _
    refine zu_aload_n d_8031_180 rfl (zs_ra _) ?_
    refine zu_bipush d_8031_181 zj_10 ?_
    refine zu_iconst d_8031_183 zi_0 ?_
    refine zu_iconst d_8031_184 zi_0 ?_
    refine zu_iconst d_8031_185 zi_0 ?_
    obtain ⟨k34, h⟩ := h
    refine zc_8_649 (x0 := (10 : Int32)) (x1 := (0 : Int32)) (x2 := (0 : Int32)) (x3 := (0 : Int32)) hB rfl k34 d_8031_186 (Nat.le_of_ble_eq_true rfl) h (fun S35 h => ?_)
    refine zu_aload_n d_8031_189 rfl (zs_ra _) ?_
    refine zu_bipush d_8031_190 zj_12 ?_
    refine zu_iconst d_8031_192 zi_0 ?_
    refine zu_iconst d_8031_193 zi_0 ?_
    refine zu_iconst d_8031_194 zi_0 ?_
    obtain ⟨k37, h⟩ := h
    refine zc_8_649 (x0 := (12 : Int32)) (x1 := (0 : Int32)) (x2 := (0 : Int32)) (x3 := (0 : Int32)) hB rfl k37 d_8031_195 (Nat.le_of_ble_eq_true rfl) h (fun S38 h => ?_)
    refine zu_goto (t := 354) d_8031_198 rfl ?_
    exact zu_vret d_8031_354 zr_8031 h
  · have h := h.2.2.2.2.2.2.2.2.2.2.1 c1
    show zs_U _ _ _ 201 _ _ _ _
    refine zu_aload_n d_8031_201 rfl (zs_ra _) ?_
    obtain ⟨k40, h⟩ := h
    refine zc_8_1014  hB rfl k40 d_8031_202 (Nat.le_of_ble_eq_true rfl) h (fun S41 h => ?_)
    refine zu_goto (t := 354) d_8031_205 rfl ?_
    exact zu_vret d_8031_354 zr_8031 h
  · have h := h.2.2.2.2.2.2.2.2.2.2.2.1 c1
    show zs_U _ _ _ 208 _ _ _ _
    refine zu_aload_n d_8031_208 rfl (zs_ra _) ?_
    refine zu_iload_n d_8031_209 rfl ?_
    refine zu_iload_n d_8031_210 rfl ?_
    obtain ⟨k43, h⟩ := h
    refine zc_8_1017 (x0 := p2) (x1 := p3) hB rfl k43 d_8031_211 (Nat.le_of_ble_eq_true rfl) h (fun S44 h => ?_)
    refine zu_goto (t := 354) d_8031_214 rfl ?_
    exact zu_vret d_8031_354 zr_8031 h
  · have h := h.2.2.2.2.2.2.2.2.2.2.2.2.1 c1
    show zs_U _ _ _ 217 _ _ _ _
    refine zu_aload_n d_8031_217 rfl (zs_ra _) ?_
    obtain ⟨k46, h⟩ := h
    refine zc_8_1020  hB rfl k46 d_8031_218 (Nat.le_of_ble_eq_true rfl) h (fun S47 h => ?_)
    refine zu_goto (t := 354) d_8031_221 rfl ?_
    exact zu_vret d_8031_354 zr_8031 h
  · have h := h.2.2.2.2.2.2.2.2.2.2.2.2.2.1 c1
    show zs_U _ _ _ 224 _ _ _ _
    refine zu_aload_n d_8031_224 rfl (zs_ra _) ?_
    refine zu_iload_n d_8031_225 rfl ?_
    obtain ⟨k49, h⟩ := h
    refine zc_8_1023 (x0 := p2) hB rfl k49 d_8031_226 (Nat.le_of_ble_eq_true rfl) h (fun S50 h => ?_)
    refine zu_goto (t := 354) d_8031_229 rfl ?_
    exact zu_vret d_8031_354 zr_8031 h
  · have h := h.2.2.2.2.2.2.2.2.2.2.2.2.2.2.1 c1
    show zs_U _ _ _ 232 _ _ _ _
    refine zu_aload_n d_8031_232 rfl (zs_ra _) ?_
    refine zu_bipush d_8031_233 zj_9 ?_
    obtain ⟨k52, h⟩ := h
    refine zc_8_746 (x0 := (9 : Int32)) hB rfl k52 d_8031_235 (Nat.le_of_ble_eq_true rfl) h (fun S53 h => ?_)
    refine zu_aload_n d_8031_238 rfl (zs_ra _) ?_
    obtain ⟨k55, h⟩ := h
    refine zg_8_200 rfl d_8031_239 k55 ?_
    refine zu_aload_n d_8031_242 rfl (zs_ra _) ?_
    refine zg_8_653 rfl d_8031_243 k55 ?_
    refine zu_iconst d_8031_246 zi_1 ?_
    refine zu_stk d_8031_247 rfl rfl ?_
    refine zu_aload_n d_8031_248 rfl (zs_ra _) ?_
    refine zg_8_200 rfl d_8031_249 k55 ?_
    refine zu_aload_n d_8031_252 rfl (zs_ra _) ?_
    refine zg_8_653 rfl d_8031_253 k55 ?_
    refine zu_iconst d_8031_256 zi_1 ?_
    refine zu_stk d_8031_257 rfl rfl ?_
    obtain ⟨b56, e57, h⟩ := h
    refine zs_stk1 (zs_rfe e57) ?_
    obtain ⟨k58, h⟩ := h
    refine zu_iald (k := 0) d_8031_258 rfl rfl k58 ?_
    refine zu_bipush d_8031_259 zj_m33 ?_
    refine zu_stk d_8031_261 rfl rfl ?_
    refine zu_bipush d_8031_262 zj_8 ?_
    refine zu_stk d_8031_264 rfl rfl ?_
    refine zs_stk2 (zs_rfe e57) ?_
    obtain ⟨k59, h⟩ := h
    refine zu_iast (k := 0) d_8031_265 rfl rfl k59 k58 ?_
    generalize e61 : zs_si S53 b56 ((zs_I S53 8097 p0) - (1 : Int32)).toNatClampNeg (((zs_i S53 b56 ((zs_I S53 8097 p0) - (1 : Int32)).toNatClampNeg) &&& (-33 : Int32)) ||| (8 : Int32)) = S60
    have h := h S60 e61.symm
    have K62 : ∀ b, zs_K S60 b = zs_K S53 b := zs_Kt e61 (zs_Ksi _ _ _ _) (fun _ => rfl)
    exact (u_X9_sumGoal_266 hB h).weak trivial
  · have h := h.2.2.2.2.2.2.2.2.2.2.2.2.2.2.2.1 c1
    show zs_U _ _ _ 269 _ _ _ _
    refine zu_aload_n d_8031_269 rfl (zs_ra _) ?_
    obtain ⟨k63, h⟩ := h
    refine zc_8_1026  hB rfl k63 d_8031_270 (Nat.le_of_ble_eq_true rfl) h (fun S64 h => ?_)
    refine zu_goto (t := 354) d_8031_273 rfl ?_
    exact zu_vret d_8031_354 zr_8031 h
  · have h := h.2.2.2.2.2.2.2.2.2.2.2.2.2.2.2.2.1 c1
    show zs_U _ _ _ 276 _ _ _ _
    refine zu_aload_n d_8031_276 rfl (zs_ra _) ?_
    refine zu_iload_n d_8031_277 rfl ?_
    obtain ⟨k66, h⟩ := h
    refine zc_8_1029 (x0 := p2) hB rfl k66 d_8031_278 (Nat.le_of_ble_eq_true rfl) h (fun S67 h => ?_)
    refine zu_goto (t := 354) d_8031_281 rfl ?_
    exact zu_vret d_8031_354 zr_8031 h
  · have h := h.2.2.2.2.2.2.2.2.2.2.2.2.2.2.2.2.2.1 c1
    show zs_U _ _ _ 284 _ _ _ _
    refine zu_aload_n d_8031_284 rfl (zs_ra _) ?_
    refine zu_iload_n d_8031_285 rfl ?_
    refine zu_iload_n d_8031_286 rfl ?_
    refine zu_iconst d_8031_287 zi_1 ?_
    refine zu_cmpne (t := 295) d_8031_288 rfl (fun c69 => ?_) (fun c69 => ?_)
    · have h := h.1 c69
      refine zu_iconst d_8031_295 zi_0 ?_
      exact (u_X9_sumGoal_296 hB h).weak trivial
    · have h := h.2 c69
      refine zu_iconst d_8031_291 zi_1 ?_
      refine zu_goto (t := 296) d_8031_292 rfl ?_
      exact (u_X9_sumGoal_296 hB h).weak trivial
  · have h := h.2.2.2.2.2.2.2.2.2.2.2.2.2.2.2.2.2.2.1 c1
    show zs_U _ _ _ 302 _ _ _ _
    refine zu_aload_n d_8031_302 rfl (zs_ra _) ?_
    obtain ⟨k70, h⟩ := h
    refine zc_8_1032  hB rfl k70 d_8031_303 (Nat.le_of_ble_eq_true rfl) h (fun S71 h => ?_)
    refine zu_goto (t := 354) d_8031_306 rfl ?_
    exact zu_vret d_8031_354 zr_8031 h
  · have h := h.2.2.2.2.2.2.2.2.2.2.2.2.2.2.2.2.2.2.2.1 c1
    show zs_U _ _ _ 309 _ _ _ _
    refine zu_aload_n d_8031_309 rfl (zs_ra _) ?_
    refine zu_iload_n d_8031_310 rfl ?_
    obtain ⟨k73, h⟩ := h
    refine zc_8_1035 (x0 := p2) hB rfl k73 d_8031_311 (Nat.le_of_ble_eq_true rfl) h (fun S74 h => ?_)
    refine zu_goto (t := 354) d_8031_314 rfl ?_
    exact zu_vret d_8031_354 zr_8031 h
  · have h := h.2.2.2.2.2.2.2.2.2.2.2.2.2.2.2.2.2.2.2.2.1 c1
    show zs_U _ _ _ 317 _ _ _ _
    refine zu_aload_n d_8031_317 rfl (zs_ra _) ?_
    refine zu_iload_n d_8031_318 rfl ?_
    refine zu_iload_n d_8031_319 rfl ?_
    refine zu_iload d_8031_320 rfl ?_
    obtain ⟨k76, h⟩ := h
    refine zc_8_1038 (x0 := p2) (x1 := p3) (x2 := p4) hB rfl k76 d_8031_322 (Nat.le_of_ble_eq_true rfl) h (fun S77 h => ?_)
    refine zu_goto (t := 354) d_8031_325 rfl ?_
    exact zu_vret d_8031_354 zr_8031 h
  · have h := h.2.2.2.2.2.2.2.2.2.2.2.2.2.2.2.2.2.2.2.2.2.1 c1
    show zs_U _ _ _ 328 _ _ _ _
    refine zu_aload_n d_8031_328 rfl (zs_ra _) ?_
    refine zu_iload_n d_8031_329 rfl ?_
    refine zu_iload_n d_8031_330 rfl ?_
    refine zu_iload d_8031_331 rfl ?_
    obtain ⟨k79, h⟩ := h
    refine zc_8_1041 (x0 := p2) (x1 := p3) (x2 := p4) hB rfl k79 d_8031_333 (Nat.le_of_ble_eq_true rfl) h (fun S80 h => ?_)
    refine zu_goto (t := 354) d_8031_336 rfl ?_
    exact zu_vret d_8031_354 zr_8031 h
  · have h := h.2.2.2.2.2.2.2.2.2.2.2.2.2.2.2.2.2.2.2.2.2.2 c1
    show zs_U _ _ _ 339 _ _ _ _
    refine zu_aload_n d_8031_339 rfl (zs_ra _) ?_
    refine zu_iload_n d_8031_340 rfl ?_
    refine zu_iload_n d_8031_341 rfl ?_
    obtain ⟨k82, h⟩ := h
    refine zc_8_1044 (x0 := p2) (x1 := p3) hB rfl k82 d_8031_342 (Nat.le_of_ble_eq_true rfl) h (fun S83 h => ?_)
    refine zu_goto (t := 354) d_8031_345 rfl ?_
    exact zu_vret d_8031_354 zr_8031 h
/-! SchemaPascalModel.sum()V -/
theorem zm_8032 {σ : Nat → Nat} {n0 : Nat} {bf : ab_B} : ab_code (zx σ n0 bf).1 8032 = prog_17_method_59_code := rfl
theorem zq_8032 {σ : Nat → Nat} {n0 : Nat} {bf : ab_B} : ab_maxL (zx σ n0 bf).1 8032 = 1 := rfl
theorem zr_8032 {σ : Nat → Nat} {n0 : Nat} {bf : ab_B} : ab_ret (zx σ n0 bf).1 8032 = (Option.none : Option Jvm.ClassFile.FieldType) := rfl
theorem d_8032_0 {σ : Nat → Nat} {n0 : Nat} {bf : ab_B} : decode (ab_code (zx σ n0 bf).1 8032) 0 = .ok (.aload_n 0, 1) := zd zm_8032 (by decide +kernel)
theorem d_8032_1 {σ : Nat → Nat} {n0 : Nat} {bf : ab_B} : decode (ab_code (zx σ n0 bf).1 8032) 1 = .ok (.iconst 1, 1) := zd zm_8032 (by decide +kernel)
theorem d_8032_2 {σ : Nat → Nat} {n0 : Nat} {bf : ab_B} : decode (ab_code (zx σ n0 bf).1 8032) 2 = .ok (.invokevirtual 535, 3) := zd zm_8032 (by decide +kernel)
theorem d_8032_5 {σ : Nat → Nat} {n0 : Nat} {bf : ab_B} : decode (ab_code (zx σ n0 bf).1 8032) 5 = .ok (.ifCond .ne 11, 3) := zd zm_8032 (by decide +kernel)
theorem d_8032_8 {σ : Nat → Nat} {n0 : Nat} {bf : ab_B} : decode (ab_code (zx σ n0 bf).1 8032) 8 = .ok (.aload_n 0, 1) := zd zm_8032 (by decide +kernel)
theorem d_8032_9 {σ : Nat → Nat} {n0 : Nat} {bf : ab_B} : decode (ab_code (zx σ n0 bf).1 8032) 9 = .ok (.iconst 2, 1) := zd zm_8032 (by decide +kernel)
theorem d_8032_10 {σ : Nat → Nat} {n0 : Nat} {bf : ab_B} : decode (ab_code (zx σ n0 bf).1 8032) 10 = .ok (.invokevirtual 535, 3) := zd zm_8032 (by decide +kernel)
theorem d_8032_13 {σ : Nat → Nat} {n0 : Nat} {bf : ab_B} : decode (ab_code (zx σ n0 bf).1 8032) 13 = .ok (.ifCond .eq 43, 3) := zd zm_8032 (by decide +kernel)
theorem d_8032_16 {σ : Nat → Nat} {n0 : Nat} {bf : ab_B} : decode (ab_code (zx σ n0 bf).1 8032) 16 = .ok (.aload_n 0, 1) := zd zm_8032 (by decide +kernel)
theorem d_8032_17 {σ : Nat → Nat} {n0 : Nat} {bf : ab_B} : decode (ab_code (zx σ n0 bf).1 8032) 17 = .ok (.bipush 7, 2) := zd zm_8032 (by decide +kernel)
theorem d_8032_19 {σ : Nat → Nat} {n0 : Nat} {bf : ab_B} : decode (ab_code (zx σ n0 bf).1 8032) 19 = .ok (.iconst 0, 1) := zd zm_8032 (by decide +kernel)
theorem d_8032_20 {σ : Nat → Nat} {n0 : Nat} {bf : ab_B} : decode (ab_code (zx σ n0 bf).1 8032) 20 = .ok (.iconst 0, 1) := zd zm_8032 (by decide +kernel)
theorem d_8032_21 {σ : Nat → Nat} {n0 : Nat} {bf : ab_B} : decode (ab_code (zx σ n0 bf).1 8032) 21 = .ok (.iconst 0, 1) := zd zm_8032 (by decide +kernel)
theorem d_8032_22 {σ : Nat → Nat} {n0 : Nat} {bf : ab_B} : decode (ab_code (zx σ n0 bf).1 8032) 22 = .ok (.invokevirtual 649, 3) := zd zm_8032 (by decide +kernel)
theorem d_8032_25 {σ : Nat → Nat} {n0 : Nat} {bf : ab_B} : decode (ab_code (zx σ n0 bf).1 8032) 25 = .ok (.aload_n 0, 1) := zd zm_8032 (by decide +kernel)
theorem d_8032_26 {σ : Nat → Nat} {n0 : Nat} {bf : ab_B} : decode (ab_code (zx σ n0 bf).1 8032) 26 = .ok (.bipush 6, 2) := zd zm_8032 (by decide +kernel)
theorem d_8032_28 {σ : Nat → Nat} {n0 : Nat} {bf : ab_B} : decode (ab_code (zx σ n0 bf).1 8032) 28 = .ok (.aload_n 0, 1) := zd zm_8032 (by decide +kernel)
theorem d_8032_29 {σ : Nat → Nat} {n0 : Nat} {bf : ab_B} : decode (ab_code (zx σ n0 bf).1 8032) 29 = .ok (.getfield 494, 3) := zd zm_8032 (by decide +kernel)
theorem d_8032_32 {σ : Nat → Nat} {n0 : Nat} {bf : ab_B} : decode (ab_code (zx σ n0 bf).1 8032) 32 = .ok (.aload_n 0, 1) := zd zm_8032 (by decide +kernel)
theorem d_8032_33 {σ : Nat → Nat} {n0 : Nat} {bf : ab_B} : decode (ab_code (zx σ n0 bf).1 8032) 33 = .ok (.getfield 450, 3) := zd zm_8032 (by decide +kernel)
theorem d_8032_36 {σ : Nat → Nat} {n0 : Nat} {bf : ab_B} : decode (ab_code (zx σ n0 bf).1 8032) 36 = .ok (.iconst 0, 1) := zd zm_8032 (by decide +kernel)
theorem d_8032_37 {σ : Nat → Nat} {n0 : Nat} {bf : ab_B} : decode (ab_code (zx σ n0 bf).1 8032) 37 = .ok (.invokevirtual 649, 3) := zd zm_8032 (by decide +kernel)
theorem d_8032_40 {σ : Nat → Nat} {n0 : Nat} {bf : ab_B} : decode (ab_code (zx σ n0 bf).1 8032) 40 = .ok (.aload_n 0, 1) := zd zm_8032 (by decide +kernel)
theorem d_8032_41 {σ : Nat → Nat} {n0 : Nat} {bf : ab_B} : decode (ab_code (zx σ n0 bf).1 8032) 41 = .ok (.bipush 9, 2) := zd zm_8032 (by decide +kernel)
theorem d_8032_43 {σ : Nat → Nat} {n0 : Nat} {bf : ab_B} : decode (ab_code (zx σ n0 bf).1 8032) 43 = .ok (.iconst 0, 1) := zd zm_8032 (by decide +kernel)
theorem d_8032_44 {σ : Nat → Nat} {n0 : Nat} {bf : ab_B} : decode (ab_code (zx σ n0 bf).1 8032) 44 = .ok (.iconst 0, 1) := zd zm_8032 (by decide +kernel)
theorem d_8032_45 {σ : Nat → Nat} {n0 : Nat} {bf : ab_B} : decode (ab_code (zx σ n0 bf).1 8032) 45 = .ok (.iconst 0, 1) := zd zm_8032 (by decide +kernel)
theorem d_8032_46 {σ : Nat → Nat} {n0 : Nat} {bf : ab_B} : decode (ab_code (zx σ n0 bf).1 8032) 46 = .ok (.invokevirtual 649, 3) := zd zm_8032 (by decide +kernel)
theorem d_8032_49 {σ : Nat → Nat} {n0 : Nat} {bf : ab_B} : decode (ab_code (zx σ n0 bf).1 8032) 49 = .ok (.aload_n 0, 1) := zd zm_8032 (by decide +kernel)
theorem d_8032_50 {σ : Nat → Nat} {n0 : Nat} {bf : ab_B} : decode (ab_code (zx σ n0 bf).1 8032) 50 = .ok (.invokevirtual 538, 3) := zd zm_8032 (by decide +kernel)
theorem d_8032_53 {σ : Nat → Nat} {n0 : Nat} {bf : ab_B} : decode (ab_code (zx σ n0 bf).1 8032) 53 = .ok (.goto 21, 3) := zd zm_8032 (by decide +kernel)
theorem d_8032_56 {σ : Nat → Nat} {n0 : Nat} {bf : ab_B} : decode (ab_code (zx σ n0 bf).1 8032) 56 = .ok (.aload_n 0, 1) := zd zm_8032 (by decide +kernel)
theorem d_8032_57 {σ : Nat → Nat} {n0 : Nat} {bf : ab_B} : decode (ab_code (zx σ n0 bf).1 8032) 57 = .ok (.bipush 7, 2) := zd zm_8032 (by decide +kernel)
theorem d_8032_59 {σ : Nat → Nat} {n0 : Nat} {bf : ab_B} : decode (ab_code (zx σ n0 bf).1 8032) 59 = .ok (.iconst 0, 1) := zd zm_8032 (by decide +kernel)
theorem d_8032_60 {σ : Nat → Nat} {n0 : Nat} {bf : ab_B} : decode (ab_code (zx σ n0 bf).1 8032) 60 = .ok (.iconst 0, 1) := zd zm_8032 (by decide +kernel)
theorem d_8032_61 {σ : Nat → Nat} {n0 : Nat} {bf : ab_B} : decode (ab_code (zx σ n0 bf).1 8032) 61 = .ok (.iconst 0, 1) := zd zm_8032 (by decide +kernel)
theorem d_8032_62 {σ : Nat → Nat} {n0 : Nat} {bf : ab_B} : decode (ab_code (zx σ n0 bf).1 8032) 62 = .ok (.invokevirtual 649, 3) := zd zm_8032 (by decide +kernel)
theorem d_8032_65 {σ : Nat → Nat} {n0 : Nat} {bf : ab_B} : decode (ab_code (zx σ n0 bf).1 8032) 65 = .ok (.aload_n 0, 1) := zd zm_8032 (by decide +kernel)
theorem d_8032_66 {σ : Nat → Nat} {n0 : Nat} {bf : ab_B} : decode (ab_code (zx σ n0 bf).1 8032) 66 = .ok (.bipush 9, 2) := zd zm_8032 (by decide +kernel)
theorem d_8032_68 {σ : Nat → Nat} {n0 : Nat} {bf : ab_B} : decode (ab_code (zx σ n0 bf).1 8032) 68 = .ok (.iconst 0, 1) := zd zm_8032 (by decide +kernel)
theorem d_8032_69 {σ : Nat → Nat} {n0 : Nat} {bf : ab_B} : decode (ab_code (zx σ n0 bf).1 8032) 69 = .ok (.iconst 0, 1) := zd zm_8032 (by decide +kernel)
theorem d_8032_70 {σ : Nat → Nat} {n0 : Nat} {bf : ab_B} : decode (ab_code (zx σ n0 bf).1 8032) 70 = .ok (.iconst 0, 1) := zd zm_8032 (by decide +kernel)
theorem d_8032_71 {σ : Nat → Nat} {n0 : Nat} {bf : ab_B} : decode (ab_code (zx σ n0 bf).1 8032) 71 = .ok (.invokevirtual 649, 3) := zd zm_8032 (by decide +kernel)
theorem d_8032_74 {σ : Nat → Nat} {n0 : Nat} {bf : ab_B} : decode (ab_code (zx σ n0 bf).1 8032) 74 = .ok (.return_, 1) := zd zm_8032 (by decide +kernel)
def w_X9_sum_74 (X : zs_X) (d : Nat)  (S : zs_T) (Q : zs_Q) : Prop :=
  (Q (.returned none) S)
theorem u_X9_sum_74 {σ : Nat → Nat} {n0 : Nat} {bf : ab_B} {d : Nat}  {S : zs_T} {Q : zs_Q} (hB : zt_B bf) (h : w_X9_sum_74 (zx σ n0 bf) d  S Q) : zs_U (zx σ n0 bf) d 8032 74 [] [] S Q := by
  unfold w_X9_sum_74 at h
  exact zu_vret d_8032_74 zr_8032 h
def w_X9_sum_49 (X : zs_X) (d : Nat) (p0 : Nat) (S : zs_T) (Q : zs_Q) : Prop :=
  (zs_K S p0 = some (.inl 8) ∧ zs_C X d 8014 [.ref p0] S (zs_kV (fun S2 => (w_X9_sum_74 X d  S2 Q)) Q))
theorem u_X9_sum_49 {σ : Nat → Nat} {n0 : Nat} {bf : ab_B} {d : Nat} {p0 : Nat} {S : zs_T} {Q : zs_Q} (hB : zt_B bf) (h : w_X9_sum_49 (zx σ n0 bf) d p0 S Q) : zs_U (zx σ n0 bf) d 8032 49 [(0, .ref p0)] [] S Q := by
  unfold w_X9_sum_49 at h
  refine zu_aload_n d_8032_49 rfl (zs_ra _) ?_
  obtain ⟨k1, h⟩ := h
  refine zc_8_538  hB rfl k1 d_8032_50 (Nat.le_of_ble_eq_true rfl) h (fun S2 h => ?_)
  refine zu_goto (t := 74) d_8032_53 rfl ?_
  exact (u_X9_sum_74 hB h).weak trivial
def w_X9_sum_16 (X : zs_X) (d : Nat) (p0 : Nat) (S : zs_T) (Q : zs_Q) : Prop :=
  (zs_K S p0 = some (.inl 8) ∧ zs_C X d 8030 [.ref p0, .int (7 : Int32), .int (0 : Int32), .int (0 : Int32), .int (0 : Int32)] S (zs_kV (fun S2 => (zs_K S2 p0 = some (.inl 8) ∧ zs_C X d 8030 [.ref p0, .int (6 : Int32), .int (zs_I S2 8009 p0), .int (zs_I S2 8007 p0), .int (0 : Int32)] S2 (zs_kV (fun S5 => (zs_K S5 p0 = some (.inl 8) ∧ zs_C X d 8030 [.ref p0, .int (9 : Int32), .int (0 : Int32), .int (0 : Int32), .int (0 : Int32)] S5 (zs_kV (fun S8 => w_X9_sum_49 X d p0 S8 Q) Q))) Q))) Q))
theorem u_X9_sum_16 {σ : Nat → Nat} {n0 : Nat} {bf : ab_B} {d : Nat} {p0 : Nat} {S : zs_T} {Q : zs_Q} (hB : zt_B bf) (h : w_X9_sum_16 (zx σ n0 bf) d p0 S Q) : zs_U (zx σ n0 bf) d 8032 16 [(0, .ref p0)] [] S Q := by
  unfold w_X9_sum_16 at h
  refine zu_aload_n d_8032_16 rfl (zs_ra _) ?_
  refine zu_bipush d_8032_17 zj_7 ?_
  refine zu_iconst d_8032_19 zi_0 ?_
  refine zu_iconst d_8032_20 zi_0 ?_
  refine zu_iconst d_8032_21 zi_0 ?_
  obtain ⟨k1, h⟩ := h
  refine zc_8_649 (x0 := (7 : Int32)) (x1 := (0 : Int32)) (x2 := (0 : Int32)) (x3 := (0 : Int32)) hB rfl k1 d_8032_22 (Nat.le_of_ble_eq_true rfl) h (fun S2 h => ?_)
  refine zu_aload_n d_8032_25 rfl (zs_ra _) ?_
  refine zu_bipush d_8032_26 zj_6 ?_
  refine zu_aload_n d_8032_28 rfl (zs_ra _) ?_
  obtain ⟨k4, h⟩ := h
  refine zg_8_494 rfl d_8032_29 k4 ?_
  refine zu_aload_n d_8032_32 rfl (zs_ra _) ?_
  refine zg_8_450 rfl d_8032_33 k4 ?_
  refine zu_iconst d_8032_36 zi_0 ?_
  refine zc_8_649 (x0 := (6 : Int32)) (x1 := (zs_I S2 8009 p0)) (x2 := (zs_I S2 8007 p0)) (x3 := (0 : Int32)) hB rfl k4 d_8032_37 (Nat.le_of_ble_eq_true rfl) h (fun S5 h => ?_)
  refine zu_aload_n d_8032_40 rfl (zs_ra _) ?_
  refine zu_bipush d_8032_41 zj_9 ?_
  refine zu_iconst d_8032_43 zi_0 ?_
  refine zu_iconst d_8032_44 zi_0 ?_
  refine zu_iconst d_8032_45 zi_0 ?_
  obtain ⟨k7, h⟩ := h
  refine zc_8_649 (x0 := (9 : Int32)) (x1 := (0 : Int32)) (x2 := (0 : Int32)) (x3 := (0 : Int32)) hB rfl k7 d_8032_46 (Nat.le_of_ble_eq_true rfl) h (fun S8 h => ?_)
  exact (u_X9_sum_49 hB h).weak ⟨rfl, trivial⟩
def w_X9_sum (X : zs_X) (d : Nat) (p0 : Nat) (S : zs_T) (Q : zs_Q) : Prop :=
  (zs_K S p0 = some (.inl 8) ∧ zs_C X d 8029 [.ref p0, .int (1 : Int32)] S (zs_kI (fun v3 S2 => (((¬ v3 = 0 → w_X9_sum_16 X d p0 S2 Q) ∧ (¬ (¬ v3 = 0) → (zs_K S2 p0 = some (.inl 8) ∧ zs_C X d 8029 [.ref p0, .int (2 : Int32)] S2 (zs_kI (fun v7 S6 => (((v7 = 0 → (zs_K S6 p0 = some (.inl 8) ∧ zs_C X d 8030 [.ref p0, .int (7 : Int32), .int (0 : Int32), .int (0 : Int32), .int (0 : Int32)] S6 (zs_kV (fun S10 => (zs_K S10 p0 = some (.inl 8) ∧ zs_C X d 8030 [.ref p0, .int (9 : Int32), .int (0 : Int32), .int (0 : Int32), .int (0 : Int32)] S10 (zs_kV (fun S13 => w_X9_sum_74 X d  S13 Q) Q))) Q))) ∧ (¬ (v7 = 0) → w_X9_sum_16 X d p0 S6 Q)))) Q)))))) Q))
theorem u_X9_sum {σ : Nat → Nat} {n0 : Nat} {bf : ab_B} {d : Nat} {p0 : Nat} {S : zs_T} {Q : zs_Q} (hB : zt_B bf) (hd : 1 ≤ d) (h : w_X9_sum (zx σ n0 bf) (d - 1) p0 S Q) : zs_C (zx σ n0 bf) d 8032 [.ref p0] S Q := by
  have hL : lv_args 0 [.ref p0] = [(0, .ref p0)] := rfl
  refine zs_C.of1 (hB.2 8032 (by decide) (by decide)) hd (by rw [hL]; exact zs_sub_self _ (by exact ⟨rfl, trivial⟩)) ?_
  rw [hL]
  clear hL
  unfold w_X9_sum at h
  refine zu_aload_n d_8032_0 rfl (zs_ra _) ?_
  refine zu_iconst d_8032_1 zi_1 ?_
  obtain ⟨k1, h⟩ := h
  refine zc_8_535 (x0 := (1 : Int32)) hB rfl k1 d_8032_2 (Nat.le_of_ble_eq_true rfl) h (fun v3 S2 h => ?_)
  refine zu_ifne (t := 16) d_8032_5 rfl (fun c4 => ?_) (fun c4 => ?_)
  · have h := h.1 c4
    exact (u_X9_sum_16 hB h).weak ⟨rfl, trivial⟩
  · have h := h.2 c4
    refine zu_aload_n d_8032_8 rfl (zs_ra _) ?_
    refine zu_iconst d_8032_9 zi_2 ?_
    obtain ⟨k5, h⟩ := h
    refine zc_8_535 (x0 := (2 : Int32)) hB rfl k5 d_8032_10 (Nat.le_of_ble_eq_true rfl) h (fun v7 S6 h => ?_)
    refine zu_ifeq (t := 56) d_8032_13 rfl (fun c8 => ?_) (fun c8 => ?_)
    · have h := h.1 c8
      refine zu_aload_n d_8032_56 rfl (zs_ra _) ?_
      refine zu_bipush d_8032_57 zj_7 ?_
      refine zu_iconst d_8032_59 zi_0 ?_
      refine zu_iconst d_8032_60 zi_0 ?_
      refine zu_iconst d_8032_61 zi_0 ?_
      obtain ⟨k9, h⟩ := h
      refine zc_8_649 (x0 := (7 : Int32)) (x1 := (0 : Int32)) (x2 := (0 : Int32)) (x3 := (0 : Int32)) hB rfl k9 d_8032_62 (Nat.le_of_ble_eq_true rfl) h (fun S10 h => ?_)
      refine zu_aload_n d_8032_65 rfl (zs_ra _) ?_
      refine zu_bipush d_8032_66 zj_9 ?_
      refine zu_iconst d_8032_68 zi_0 ?_
      refine zu_iconst d_8032_69 zi_0 ?_
      refine zu_iconst d_8032_70 zi_0 ?_
      obtain ⟨k12, h⟩ := h
      refine zc_8_649 (x0 := (9 : Int32)) (x1 := (0 : Int32)) (x2 := (0 : Int32)) (x3 := (0 : Int32)) hB rfl k12 d_8032_71 (Nat.le_of_ble_eq_true rfl) h (fun S13 h => ?_)
      exact (u_X9_sum_74 hB h).weak trivial
    · have h := h.2 c8
      exact (u_X9_sum_16 hB h).weak ⟨rfl, trivial⟩
/-! SchemaPascalModel.relate()V -/
theorem zm_8033 {σ : Nat → Nat} {n0 : Nat} {bf : ab_B} : ab_code (zx σ n0 bf).1 8033 = prog_17_method_55_code := rfl
theorem zq_8033 {σ : Nat → Nat} {n0 : Nat} {bf : ab_B} : ab_maxL (zx σ n0 bf).1 8033 = 2 := rfl
theorem zr_8033 {σ : Nat → Nat} {n0 : Nat} {bf : ab_B} : ab_ret (zx σ n0 bf).1 8033 = (Option.none : Option Jvm.ClassFile.FieldType) := rfl
theorem d_8033_0 {σ : Nat → Nat} {n0 : Nat} {bf : ab_B} : decode (ab_code (zx σ n0 bf).1 8033) 0 = .ok (.aload_n 0, 1) := zd zm_8033 (by decide +kernel)
theorem d_8033_1 {σ : Nat → Nat} {n0 : Nat} {bf : ab_B} : decode (ab_code (zx σ n0 bf).1 8033) 1 = .ok (.invokevirtual 663, 3) := zd zm_8033 (by decide +kernel)
theorem d_8033_4 {σ : Nat → Nat} {n0 : Nat} {bf : ab_B} : decode (ab_code (zx σ n0 bf).1 8033) 4 = .ok (.istore_n 1, 1) := zd zm_8033 (by decide +kernel)
theorem d_8033_5 {σ : Nat → Nat} {n0 : Nat} {bf : ab_B} : decode (ab_code (zx σ n0 bf).1 8033) 5 = .ok (.aload_n 0, 1) := zd zm_8033 (by decide +kernel)
theorem d_8033_6 {σ : Nat → Nat} {n0 : Nat} {bf : ab_B} : decode (ab_code (zx σ n0 bf).1 8033) 6 = .ok (.getfield 444, 3) := zd zm_8033 (by decide +kernel)
theorem d_8033_9 {σ : Nat → Nat} {n0 : Nat} {bf : ab_B} : decode (ab_code (zx σ n0 bf).1 8033) 9 = .ok (.ifCond .gt 7, 3) := zd zm_8033 (by decide +kernel)
theorem d_8033_12 {σ : Nat → Nat} {n0 : Nat} {bf : ab_B} : decode (ab_code (zx σ n0 bf).1 8033) 12 = .ok (.iload_n 1, 1) := zd zm_8033 (by decide +kernel)
theorem d_8033_13 {σ : Nat → Nat} {n0 : Nat} {bf : ab_B} : decode (ab_code (zx σ n0 bf).1 8033) 13 = .ok (.ifCond .ne 4, 3) := zd zm_8033 (by decide +kernel)
theorem d_8033_16 {σ : Nat → Nat} {n0 : Nat} {bf : ab_B} : decode (ab_code (zx σ n0 bf).1 8033) 16 = .ok (.return_, 1) := zd zm_8033 (by decide +kernel)
theorem d_8033_17 {σ : Nat → Nat} {n0 : Nat} {bf : ab_B} : decode (ab_code (zx σ n0 bf).1 8033) 17 = .ok (.aload_n 0, 1) := zd zm_8033 (by decide +kernel)
theorem d_8033_18 {σ : Nat → Nat} {n0 : Nat} {bf : ab_B} : decode (ab_code (zx σ n0 bf).1 8033) 18 = .ok (.invokevirtual 667, 3) := zd zm_8033 (by decide +kernel)
theorem d_8033_21 {σ : Nat → Nat} {n0 : Nat} {bf : ab_B} : decode (ab_code (zx σ n0 bf).1 8033) 21 = .ok (.aload_n 0, 1) := zd zm_8033 (by decide +kernel)
theorem d_8033_22 {σ : Nat → Nat} {n0 : Nat} {bf : ab_B} : decode (ab_code (zx σ n0 bf).1 8033) 22 = .ok (.iconst 4, 1) := zd zm_8033 (by decide +kernel)
theorem d_8033_23 {σ : Nat → Nat} {n0 : Nat} {bf : ab_B} : decode (ab_code (zx σ n0 bf).1 8033) 23 = .ok (.iload_n 1, 1) := zd zm_8033 (by decide +kernel)
theorem d_8033_24 {σ : Nat → Nat} {n0 : Nat} {bf : ab_B} : decode (ab_code (zx σ n0 bf).1 8033) 24 = .ok (.aload_n 0, 1) := zd zm_8033 (by decide +kernel)
theorem d_8033_25 {σ : Nat → Nat} {n0 : Nat} {bf : ab_B} : decode (ab_code (zx σ n0 bf).1 8033) 25 = .ok (.getfield 450, 3) := zd zm_8033 (by decide +kernel)
theorem d_8033_28 {σ : Nat → Nat} {n0 : Nat} {bf : ab_B} : decode (ab_code (zx σ n0 bf).1 8033) 28 = .ok (.iconst 0, 1) := zd zm_8033 (by decide +kernel)
theorem d_8033_29 {σ : Nat → Nat} {n0 : Nat} {bf : ab_B} : decode (ab_code (zx σ n0 bf).1 8033) 29 = .ok (.invokevirtual 649, 3) := zd zm_8033 (by decide +kernel)
theorem d_8033_32 {σ : Nat → Nat} {n0 : Nat} {bf : ab_B} : decode (ab_code (zx σ n0 bf).1 8033) 32 = .ok (.aload_n 0, 1) := zd zm_8033 (by decide +kernel)
theorem d_8033_33 {σ : Nat → Nat} {n0 : Nat} {bf : ab_B} : decode (ab_code (zx σ n0 bf).1 8033) 33 = .ok (.iconst 5, 1) := zd zm_8033 (by decide +kernel)
theorem d_8033_34 {σ : Nat → Nat} {n0 : Nat} {bf : ab_B} : decode (ab_code (zx σ n0 bf).1 8033) 34 = .ok (.iconst 0, 1) := zd zm_8033 (by decide +kernel)
theorem d_8033_35 {σ : Nat → Nat} {n0 : Nat} {bf : ab_B} : decode (ab_code (zx σ n0 bf).1 8033) 35 = .ok (.iconst 0, 1) := zd zm_8033 (by decide +kernel)
theorem d_8033_36 {σ : Nat → Nat} {n0 : Nat} {bf : ab_B} : decode (ab_code (zx σ n0 bf).1 8033) 36 = .ok (.iconst 0, 1) := zd zm_8033 (by decide +kernel)
theorem d_8033_37 {σ : Nat → Nat} {n0 : Nat} {bf : ab_B} : decode (ab_code (zx σ n0 bf).1 8033) 37 = .ok (.invokevirtual 649, 3) := zd zm_8033 (by decide +kernel)
theorem d_8033_40 {σ : Nat → Nat} {n0 : Nat} {bf : ab_B} : decode (ab_code (zx σ n0 bf).1 8033) 40 = .ok (.aload_n 0, 1) := zd zm_8033 (by decide +kernel)
theorem d_8033_41 {σ : Nat → Nat} {n0 : Nat} {bf : ab_B} : decode (ab_code (zx σ n0 bf).1 8033) 41 = .ok (.invokevirtual 538, 3) := zd zm_8033 (by decide +kernel)
theorem d_8033_44 {σ : Nat → Nat} {n0 : Nat} {bf : ab_B} : decode (ab_code (zx σ n0 bf).1 8033) 44 = .ok (.return_, 1) := zd zm_8033 (by decide +kernel)
def w_X9_relate_32 (X : zs_X) (d : Nat) (p0 : Nat) (S : zs_T) (Q : zs_Q) : Prop :=
  (zs_K S p0 = some (.inl 8) ∧ zs_C X d 8030 [.ref p0, .int (5 : Int32), .int (0 : Int32), .int (0 : Int32), .int (0 : Int32)] S (zs_kV (fun S2 => (zs_K S2 p0 = some (.inl 8) ∧ zs_C X d 8014 [.ref p0] S2 (zs_kV (fun S5 => (Q (.returned none) S5)) Q))) Q))
theorem u_X9_relate_32 {σ : Nat → Nat} {n0 : Nat} {bf : ab_B} {d : Nat} {p0 : Nat} {S : zs_T} {Q : zs_Q} (hB : zt_B bf) (h : w_X9_relate_32 (zx σ n0 bf) d p0 S Q) : zs_U (zx σ n0 bf) d 8033 32 [(0, .ref p0)] [] S Q := by
  unfold w_X9_relate_32 at h
  refine zu_aload_n d_8033_32 rfl (zs_ra _) ?_
  refine zu_iconst d_8033_33 zi_5 ?_
  refine zu_iconst d_8033_34 zi_0 ?_
  refine zu_iconst d_8033_35 zi_0 ?_
  refine zu_iconst d_8033_36 zi_0 ?_
  obtain ⟨k1, h⟩ := h
  refine zc_8_649 (x0 := (5 : Int32)) (x1 := (0 : Int32)) (x2 := (0 : Int32)) (x3 := (0 : Int32)) hB rfl k1 d_8033_37 (Nat.le_of_ble_eq_true rfl) h (fun S2 h => ?_)
  refine zu_aload_n d_8033_40 rfl (zs_ra _) ?_
  obtain ⟨k4, h⟩ := h
  refine zc_8_538  hB rfl k4 d_8033_41 (Nat.le_of_ble_eq_true rfl) h (fun S5 h => ?_)
  exact zu_vret d_8033_44 zr_8033 h
def w_X9_relate (X : zs_X) (d : Nat) (p0 : Nat) (S : zs_T) (Q : zs_Q) : Prop :=
  (zs_K S p0 = some (.inl 8) ∧ zs_C X d 8034 [.ref p0] S (zs_kI (fun v3 S2 => (zs_K S2 p0 = some (.inl 8) ∧ ((0 < (zs_I S2 8010 p0) → (Q (.returned none) S2)) ∧ (¬ (0 < (zs_I S2 8010 p0)) → (((¬ v3 = 0 → (zs_C X d 8035 [.ref p0] S2 (zs_kV (fun S7 => (zs_K S7 p0 = some (.inl 8) ∧ zs_C X d 8030 [.ref p0, .int (4 : Int32), .int v3, .int (zs_I S7 8007 p0), .int (0 : Int32)] S7 (zs_kV (fun S10 => w_X9_relate_32 X d p0 S10 Q) Q))) Q))) ∧ (¬ (¬ v3 = 0) → (Q (.returned none) S2)))))))) Q))
theorem u_X9_relate {σ : Nat → Nat} {n0 : Nat} {bf : ab_B} {d : Nat} {p0 : Nat} {S : zs_T} {Q : zs_Q} (hB : zt_B bf) (hd : 1 ≤ d) (h : w_X9_relate (zx σ n0 bf) (d - 1) p0 S Q) : zs_C (zx σ n0 bf) d 8033 [.ref p0] S Q := by
  have hL : lv_args 0 [.ref p0] = [(0, .ref p0)] := rfl
  refine zs_C.of1 (hB.2 8033 (by decide) (by decide)) hd (by rw [hL]; exact zs_sub_self _ (by exact ⟨rfl, trivial⟩)) ?_
  rw [hL]
  clear hL
  unfold w_X9_relate at h
  refine zu_aload_n d_8033_0 rfl (zs_ra _) ?_
  obtain ⟨k1, h⟩ := h
  refine zc_8_663  hB rfl k1 d_8033_1 (Nat.le_of_ble_eq_true rfl) h (fun v3 S2 h => ?_)
  refine zu_istore_n d_8033_4 (zs_lt zq_8033 rfl) ?_
  refine zu_aload_n d_8033_5 rfl (zs_ra _) ?_
  obtain ⟨k4, h⟩ := h
  refine zg_8_444 rfl d_8033_6 k4 ?_
  refine zu_ifgt (t := 16) d_8033_9 rfl (fun c5 => ?_) (fun c5 => ?_)
  · have h := h.1 c5
    exact zu_vret d_8033_16 zr_8033 h
  · have h := h.2 c5
    refine zu_iload_n d_8033_12 rfl ?_
    refine zu_ifne (t := 17) d_8033_13 rfl (fun c6 => ?_) (fun c6 => ?_)
    · have h := h.1 c6
      refine zu_aload_n d_8033_17 rfl (zs_ra _) ?_
      refine zc_8_667  hB rfl k4 d_8033_18 (Nat.le_of_ble_eq_true rfl) h (fun S7 h => ?_)
      refine zu_aload_n d_8033_21 rfl (zs_ra _) ?_
      refine zu_iconst d_8033_22 zi_4 ?_
      refine zu_iload_n d_8033_23 rfl ?_
      refine zu_aload_n d_8033_24 rfl (zs_ra _) ?_
      obtain ⟨k9, h⟩ := h
      refine zg_8_450 rfl d_8033_25 k9 ?_
      refine zu_iconst d_8033_28 zi_0 ?_
      refine zc_8_649 (x0 := (4 : Int32)) (x1 := v3) (x2 := (zs_I S7 8007 p0)) (x3 := (0 : Int32)) hB rfl k9 d_8033_29 (Nat.le_of_ble_eq_true rfl) h (fun S10 h => ?_)
      exact (u_X9_relate_32 hB h).weak ⟨rfl, trivial⟩
    · have h := h.2 c6
      exact zu_vret d_8033_16 zr_8033 h
/-! SchemaPascalModel.wordOp()I -/
theorem zm_8034 {σ : Nat → Nat} {n0 : Nat} {bf : ab_B} : ab_code (zx σ n0 bf).1 8034 = prog_17_method_54_code := rfl
theorem zq_8034 {σ : Nat → Nat} {n0 : Nat} {bf : ab_B} : ab_maxL (zx σ n0 bf).1 8034 = 1 := rfl
theorem zr_8034 {σ : Nat → Nat} {n0 : Nat} {bf : ab_B} : ab_ret (zx σ n0 bf).1 8034 = (Option.some Jvm.ClassFile.FieldType.int) := rfl
theorem d_8034_0 {σ : Nat → Nat} {n0 : Nat} {bf : ab_B} : decode (ab_code (zx σ n0 bf).1 8034) 0 = .ok (.aload_n 0, 1) := zd zm_8034 (by decide +kernel)
theorem d_8034_1 {σ : Nat → Nat} {n0 : Nat} {bf : ab_B} : decode (ab_code (zx σ n0 bf).1 8034) 1 = .ok (.getfield 484, 3) := zd zm_8034 (by decide +kernel)
theorem d_8034_4 {σ : Nat → Nat} {n0 : Nat} {bf : ab_B} : decode (ab_code (zx σ n0 bf).1 8034) 4 = .ok (.iconst 5, 1) := zd zm_8034 (by decide +kernel)
theorem d_8034_5 {σ : Nat → Nat} {n0 : Nat} {bf : ab_B} : decode (ab_code (zx σ n0 bf).1 8034) 5 = .ok (.if_icmp .ne 88, 3) := zd zm_8034 (by decide +kernel)
theorem d_8034_8 {σ : Nat → Nat} {n0 : Nat} {bf : ab_B} : decode (ab_code (zx σ n0 bf).1 8034) 8 = .ok (.aload_n 0, 1) := zd zm_8034 (by decide +kernel)
theorem d_8034_9 {σ : Nat → Nat} {n0 : Nat} {bf : ab_B} : decode (ab_code (zx σ n0 bf).1 8034) 9 = .ok (.getfield 494, 3) := zd zm_8034 (by decide +kernel)
theorem d_8034_12 {σ : Nat → Nat} {n0 : Nat} {bf : ab_B} : decode (ab_code (zx σ n0 bf).1 8034) 12 = .ok (.iconst 5, 1) := zd zm_8034 (by decide +kernel)
theorem d_8034_13 {σ : Nat → Nat} {n0 : Nat} {bf : ab_B} : decode (ab_code (zx σ n0 bf).1 8034) 13 = .ok (.if_icmp .ne 8, 3) := zd zm_8034 (by decide +kernel)
theorem d_8034_16 {σ : Nat → Nat} {n0 : Nat} {bf : ab_B} : decode (ab_code (zx σ n0 bf).1 8034) 16 = .ok (.bipush 12, 2) := zd zm_8034 (by decide +kernel)
theorem d_8034_18 {σ : Nat → Nat} {n0 : Nat} {bf : ab_B} : decode (ab_code (zx σ n0 bf).1 8034) 18 = .ok (.goto 74, 3) := zd zm_8034 (by decide +kernel)
theorem d_8034_21 {σ : Nat → Nat} {n0 : Nat} {bf : ab_B} : decode (ab_code (zx σ n0 bf).1 8034) 21 = .ok (.aload_n 0, 1) := zd zm_8034 (by decide +kernel)
theorem d_8034_22 {σ : Nat → Nat} {n0 : Nat} {bf : ab_B} : decode (ab_code (zx σ n0 bf).1 8034) 22 = .ok (.getfield 494, 3) := zd zm_8034 (by decide +kernel)
theorem d_8034_25 {σ : Nat → Nat} {n0 : Nat} {bf : ab_B} : decode (ab_code (zx σ n0 bf).1 8034) 25 = .ok (.bipush 17, 2) := zd zm_8034 (by decide +kernel)
theorem d_8034_27 {σ : Nat → Nat} {n0 : Nat} {bf : ab_B} : decode (ab_code (zx σ n0 bf).1 8034) 27 = .ok (.if_icmp .ne 8, 3) := zd zm_8034 (by decide +kernel)
theorem d_8034_30 {σ : Nat → Nat} {n0 : Nat} {bf : ab_B} : decode (ab_code (zx σ n0 bf).1 8034) 30 = .ok (.bipush 13, 2) := zd zm_8034 (by decide +kernel)
theorem d_8034_32 {σ : Nat → Nat} {n0 : Nat} {bf : ab_B} : decode (ab_code (zx σ n0 bf).1 8034) 32 = .ok (.goto 60, 3) := zd zm_8034 (by decide +kernel)
theorem d_8034_35 {σ : Nat → Nat} {n0 : Nat} {bf : ab_B} : decode (ab_code (zx σ n0 bf).1 8034) 35 = .ok (.aload_n 0, 1) := zd zm_8034 (by decide +kernel)
theorem d_8034_36 {σ : Nat → Nat} {n0 : Nat} {bf : ab_B} : decode (ab_code (zx σ n0 bf).1 8034) 36 = .ok (.getfield 494, 3) := zd zm_8034 (by decide +kernel)
theorem d_8034_39 {σ : Nat → Nat} {n0 : Nat} {bf : ab_B} : decode (ab_code (zx σ n0 bf).1 8034) 39 = .ok (.bipush 6, 2) := zd zm_8034 (by decide +kernel)
theorem d_8034_41 {σ : Nat → Nat} {n0 : Nat} {bf : ab_B} : decode (ab_code (zx σ n0 bf).1 8034) 41 = .ok (.if_icmp .ne 8, 3) := zd zm_8034 (by decide +kernel)
theorem d_8034_44 {σ : Nat → Nat} {n0 : Nat} {bf : ab_B} : decode (ab_code (zx σ n0 bf).1 8034) 44 = .ok (.bipush 14, 2) := zd zm_8034 (by decide +kernel)
theorem d_8034_46 {σ : Nat → Nat} {n0 : Nat} {bf : ab_B} : decode (ab_code (zx σ n0 bf).1 8034) 46 = .ok (.goto 46, 3) := zd zm_8034 (by decide +kernel)
theorem d_8034_49 {σ : Nat → Nat} {n0 : Nat} {bf : ab_B} : decode (ab_code (zx σ n0 bf).1 8034) 49 = .ok (.aload_n 0, 1) := zd zm_8034 (by decide +kernel)
theorem d_8034_50 {σ : Nat → Nat} {n0 : Nat} {bf : ab_B} : decode (ab_code (zx σ n0 bf).1 8034) 50 = .ok (.getfield 494, 3) := zd zm_8034 (by decide +kernel)
theorem d_8034_53 {σ : Nat → Nat} {n0 : Nat} {bf : ab_B} : decode (ab_code (zx σ n0 bf).1 8034) 53 = .ok (.bipush 7, 2) := zd zm_8034 (by decide +kernel)
theorem d_8034_55 {σ : Nat → Nat} {n0 : Nat} {bf : ab_B} : decode (ab_code (zx σ n0 bf).1 8034) 55 = .ok (.if_icmp .ne 8, 3) := zd zm_8034 (by decide +kernel)
theorem d_8034_58 {σ : Nat → Nat} {n0 : Nat} {bf : ab_B} : decode (ab_code (zx σ n0 bf).1 8034) 58 = .ok (.bipush 15, 2) := zd zm_8034 (by decide +kernel)
theorem d_8034_60 {σ : Nat → Nat} {n0 : Nat} {bf : ab_B} : decode (ab_code (zx σ n0 bf).1 8034) 60 = .ok (.goto 32, 3) := zd zm_8034 (by decide +kernel)
theorem d_8034_63 {σ : Nat → Nat} {n0 : Nat} {bf : ab_B} : decode (ab_code (zx σ n0 bf).1 8034) 63 = .ok (.aload_n 0, 1) := zd zm_8034 (by decide +kernel)
theorem d_8034_64 {σ : Nat → Nat} {n0 : Nat} {bf : ab_B} : decode (ab_code (zx σ n0 bf).1 8034) 64 = .ok (.getfield 494, 3) := zd zm_8034 (by decide +kernel)
theorem d_8034_67 {σ : Nat → Nat} {n0 : Nat} {bf : ab_B} : decode (ab_code (zx σ n0 bf).1 8034) 67 = .ok (.bipush 18, 2) := zd zm_8034 (by decide +kernel)
theorem d_8034_69 {σ : Nat → Nat} {n0 : Nat} {bf : ab_B} : decode (ab_code (zx σ n0 bf).1 8034) 69 = .ok (.if_icmp .ne 8, 3) := zd zm_8034 (by decide +kernel)
theorem d_8034_72 {σ : Nat → Nat} {n0 : Nat} {bf : ab_B} : decode (ab_code (zx σ n0 bf).1 8034) 72 = .ok (.bipush 16, 2) := zd zm_8034 (by decide +kernel)
theorem d_8034_74 {σ : Nat → Nat} {n0 : Nat} {bf : ab_B} : decode (ab_code (zx σ n0 bf).1 8034) 74 = .ok (.goto 18, 3) := zd zm_8034 (by decide +kernel)
theorem d_8034_77 {σ : Nat → Nat} {n0 : Nat} {bf : ab_B} : decode (ab_code (zx σ n0 bf).1 8034) 77 = .ok (.aload_n 0, 1) := zd zm_8034 (by decide +kernel)
theorem d_8034_78 {σ : Nat → Nat} {n0 : Nat} {bf : ab_B} : decode (ab_code (zx σ n0 bf).1 8034) 78 = .ok (.getfield 494, 3) := zd zm_8034 (by decide +kernel)
theorem d_8034_81 {σ : Nat → Nat} {n0 : Nat} {bf : ab_B} : decode (ab_code (zx σ n0 bf).1 8034) 81 = .ok (.bipush 19, 2) := zd zm_8034 (by decide +kernel)
theorem d_8034_83 {σ : Nat → Nat} {n0 : Nat} {bf : ab_B} : decode (ab_code (zx σ n0 bf).1 8034) 83 = .ok (.if_icmp .ne 8, 3) := zd zm_8034 (by decide +kernel)
theorem d_8034_86 {σ : Nat → Nat} {n0 : Nat} {bf : ab_B} : decode (ab_code (zx σ n0 bf).1 8034) 86 = .ok (.bipush 17, 2) := zd zm_8034 (by decide +kernel)
theorem d_8034_88 {σ : Nat → Nat} {n0 : Nat} {bf : ab_B} : decode (ab_code (zx σ n0 bf).1 8034) 88 = .ok (.goto 4, 3) := zd zm_8034 (by decide +kernel)
theorem d_8034_91 {σ : Nat → Nat} {n0 : Nat} {bf : ab_B} : decode (ab_code (zx σ n0 bf).1 8034) 91 = .ok (.iconst 0, 1) := zd zm_8034 (by decide +kernel)
theorem d_8034_92 {σ : Nat → Nat} {n0 : Nat} {bf : ab_B} : decode (ab_code (zx σ n0 bf).1 8034) 92 = .ok (.ireturn, 1) := zd zm_8034 (by decide +kernel)
theorem d_8034_93 {σ : Nat → Nat} {n0 : Nat} {bf : ab_B} : decode (ab_code (zx σ n0 bf).1 8034) 93 = .ok (.aload_n 0, 1) := zd zm_8034 (by decide +kernel)
theorem d_8034_94 {σ : Nat → Nat} {n0 : Nat} {bf : ab_B} : decode (ab_code (zx σ n0 bf).1 8034) 94 = .ok (.getfield 484, 3) := zd zm_8034 (by decide +kernel)
theorem d_8034_97 {σ : Nat → Nat} {n0 : Nat} {bf : ab_B} : decode (ab_code (zx σ n0 bf).1 8034) 97 = .ok (.iconst 2, 1) := zd zm_8034 (by decide +kernel)
theorem d_8034_98 {σ : Nat → Nat} {n0 : Nat} {bf : ab_B} : decode (ab_code (zx σ n0 bf).1 8034) 98 = .ok (.if_icmp .ne 17, 3) := zd zm_8034 (by decide +kernel)
theorem d_8034_101 {σ : Nat → Nat} {n0 : Nat} {bf : ab_B} : decode (ab_code (zx σ n0 bf).1 8034) 101 = .ok (.aload_n 0, 1) := zd zm_8034 (by decide +kernel)
theorem d_8034_102 {σ : Nat → Nat} {n0 : Nat} {bf : ab_B} : decode (ab_code (zx σ n0 bf).1 8034) 102 = .ok (.getfield 494, 3) := zd zm_8034 (by decide +kernel)
theorem d_8034_105 {σ : Nat → Nat} {n0 : Nat} {bf : ab_B} : decode (ab_code (zx σ n0 bf).1 8034) 105 = .ok (.bipush 34, 2) := zd zm_8034 (by decide +kernel)
theorem d_8034_107 {σ : Nat → Nat} {n0 : Nat} {bf : ab_B} : decode (ab_code (zx σ n0 bf).1 8034) 107 = .ok (.if_icmp .ne 8, 3) := zd zm_8034 (by decide +kernel)
theorem d_8034_110 {σ : Nat → Nat} {n0 : Nat} {bf : ab_B} : decode (ab_code (zx σ n0 bf).1 8034) 110 = .ok (.bipush 99, 2) := zd zm_8034 (by decide +kernel)
theorem d_8034_112 {σ : Nat → Nat} {n0 : Nat} {bf : ab_B} : decode (ab_code (zx σ n0 bf).1 8034) 112 = .ok (.goto 4, 3) := zd zm_8034 (by decide +kernel)
theorem d_8034_115 {σ : Nat → Nat} {n0 : Nat} {bf : ab_B} : decode (ab_code (zx σ n0 bf).1 8034) 115 = .ok (.iconst 0, 1) := zd zm_8034 (by decide +kernel)
theorem d_8034_116 {σ : Nat → Nat} {n0 : Nat} {bf : ab_B} : decode (ab_code (zx σ n0 bf).1 8034) 116 = .ok (.ireturn, 1) := zd zm_8034 (by decide +kernel)
def w_X9_wordOp_44 (X : zs_X) (d : Nat)  (S : zs_T) (Q : zs_Q) : Prop :=
  (Q (.returned (some (.int (14 : Int32)))) S)
theorem u_X9_wordOp_44 {σ : Nat → Nat} {n0 : Nat} {bf : ab_B} {d : Nat}  {S : zs_T} {Q : zs_Q} (hB : zt_B bf) (h : w_X9_wordOp_44 (zx σ n0 bf) d  S Q) : zs_U (zx σ n0 bf) d 8034 44 [] [] S Q := by
  unfold w_X9_wordOp_44 at h
  refine zu_bipush d_8034_44 zj_14 ?_
  refine zu_goto (t := 92) d_8034_46 rfl ?_
  exact zu_iret d_8034_92 zr_8034 rfl h
def w_X9_wordOp_49 (X : zs_X) (d : Nat) (p0 : Nat) (S : zs_T) (Q : zs_Q) : Prop :=
  (zs_K S p0 = some (.inl 8) ∧ ((¬ (zs_I S 8009 p0) = (7 : Int32) → (((¬ (zs_I S 8009 p0) = (18 : Int32) → (((¬ (zs_I S 8009 p0) = (19 : Int32) → (Q (.returned (some (.int (0 : Int32)))) S)) ∧ (¬ (¬ (zs_I S 8009 p0) = (19 : Int32)) → (Q (.returned (some (.int (17 : Int32)))) S))))) ∧ (¬ (¬ (zs_I S 8009 p0) = (18 : Int32)) → (Q (.returned (some (.int (16 : Int32)))) S))))) ∧ (¬ (¬ (zs_I S 8009 p0) = (7 : Int32)) → (Q (.returned (some (.int (15 : Int32)))) S))))
theorem u_X9_wordOp_49 {σ : Nat → Nat} {n0 : Nat} {bf : ab_B} {d : Nat} {p0 : Nat} {S : zs_T} {Q : zs_Q} (hB : zt_B bf) (h : w_X9_wordOp_49 (zx σ n0 bf) d p0 S Q) : zs_U (zx σ n0 bf) d 8034 49 [(0, .ref p0)] [] S Q := by
  unfold w_X9_wordOp_49 at h
  refine zu_aload_n d_8034_49 rfl (zs_ra _) ?_
  obtain ⟨k1, h⟩ := h
  refine zg_8_494 rfl d_8034_50 k1 ?_
  refine zu_bipush d_8034_53 zj_7 ?_
  refine zu_cmpne (t := 63) d_8034_55 rfl (fun c2 => ?_) (fun c2 => ?_)
  · have h := h.1 c2
    refine zu_aload_n d_8034_63 rfl (zs_ra _) ?_
    refine zg_8_494 rfl d_8034_64 k1 ?_
    refine zu_bipush d_8034_67 zj_18 ?_
    refine zu_cmpne (t := 77) d_8034_69 rfl (fun c3 => ?_) (fun c3 => ?_)
    · have h := h.1 c3
      refine zu_aload_n d_8034_77 rfl (zs_ra _) ?_
      refine zg_8_494 rfl d_8034_78 k1 ?_
      refine zu_bipush d_8034_81 zj_19 ?_
      refine zu_cmpne (t := 91) d_8034_83 rfl (fun c4 => ?_) (fun c4 => ?_)
      · have h := h.1 c4
        refine zu_iconst d_8034_91 zi_0 ?_
        exact zu_iret d_8034_92 zr_8034 rfl h
      · have h := h.2 c4
        refine zu_bipush d_8034_86 zj_17 ?_
        refine zu_goto (t := 92) d_8034_88 rfl ?_
        exact zu_iret d_8034_92 zr_8034 rfl h
    · have h := h.2 c3
      refine zu_bipush d_8034_72 zj_16 ?_
      refine zu_goto (t := 92) d_8034_74 rfl ?_
      exact zu_iret d_8034_92 zr_8034 rfl h
  · have h := h.2 c2
    refine zu_bipush d_8034_58 zj_15 ?_
    refine zu_goto (t := 92) d_8034_60 rfl ?_
    exact zu_iret d_8034_92 zr_8034 rfl h
def w_X9_wordOp (X : zs_X) (d : Nat) (p0 : Nat) (S : zs_T) (Q : zs_Q) : Prop :=
  (zs_K S p0 = some (.inl 8) ∧ ((¬ (zs_I S 8006 p0) = (5 : Int32) → (((¬ (zs_I S 8006 p0) = (2 : Int32) → (Q (.returned (some (.int (0 : Int32)))) S)) ∧ (¬ (¬ (zs_I S 8006 p0) = (2 : Int32)) → (((¬ (zs_I S 8009 p0) = (34 : Int32) → (Q (.returned (some (.int (0 : Int32)))) S)) ∧ (¬ (¬ (zs_I S 8009 p0) = (34 : Int32)) → (Q (.returned (some (.int (99 : Int32)))) S)))))))) ∧ (¬ (¬ (zs_I S 8006 p0) = (5 : Int32)) → (((¬ (zs_I S 8009 p0) = (5 : Int32) → (((¬ (zs_I S 8009 p0) = (17 : Int32) → (((¬ (zs_I S 8009 p0) = (6 : Int32) → w_X9_wordOp_49 X d p0 S Q) ∧ (¬ (¬ (zs_I S 8009 p0) = (6 : Int32)) → w_X9_wordOp_44 X d  S Q)))) ∧ (¬ (¬ (zs_I S 8009 p0) = (17 : Int32)) → (Q (.returned (some (.int (13 : Int32)))) S))))) ∧ (¬ (¬ (zs_I S 8009 p0) = (5 : Int32)) → (Q (.returned (some (.int (12 : Int32)))) S)))))))
theorem u_X9_wordOp {σ : Nat → Nat} {n0 : Nat} {bf : ab_B} {d : Nat} {p0 : Nat} {S : zs_T} {Q : zs_Q} (hB : zt_B bf) (hd : 1 ≤ d) (h : w_X9_wordOp (zx σ n0 bf) (d - 1) p0 S Q) : zs_C (zx σ n0 bf) d 8034 [.ref p0] S Q := by
  have hL : lv_args 0 [.ref p0] = [(0, .ref p0)] := rfl
  refine zs_C.of1 (hB.2 8034 (by decide) (by decide)) hd (by rw [hL]; exact zs_sub_self _ (by exact ⟨rfl, trivial⟩)) ?_
  rw [hL]
  clear hL
  unfold w_X9_wordOp at h
  refine zu_aload_n d_8034_0 rfl (zs_ra _) ?_
  obtain ⟨k1, h⟩ := h
  refine zg_8_484 rfl d_8034_1 k1 ?_
  refine zu_iconst d_8034_4 zi_5 ?_
  refine zu_cmpne (t := 93) d_8034_5 rfl (fun c2 => ?_) (fun c2 => ?_)
  · have h := h.1 c2
    refine zu_aload_n d_8034_93 rfl (zs_ra _) ?_
    refine zg_8_484 rfl d_8034_94 k1 ?_
    refine zu_iconst d_8034_97 zi_2 ?_
    refine zu_cmpne (t := 115) d_8034_98 rfl (fun c3 => ?_) (fun c3 => ?_)
    · have h := h.1 c3
      refine zu_iconst d_8034_115 zi_0 ?_
      exact zu_iret d_8034_116 zr_8034 rfl h
    · have h := h.2 c3
      refine zu_aload_n d_8034_101 rfl (zs_ra _) ?_
      refine zg_8_494 rfl d_8034_102 k1 ?_
      refine zu_bipush d_8034_105 zj_34 ?_
      refine zu_cmpne (t := 115) d_8034_107 rfl (fun c4 => ?_) (fun c4 => ?_)
      · have h := h.1 c4
        refine zu_iconst d_8034_115 zi_0 ?_
        exact zu_iret d_8034_116 zr_8034 rfl h
      · have h := h.2 c4
        refine zu_bipush d_8034_110 zj_99 ?_
        refine zu_goto (t := 116) d_8034_112 rfl ?_
        exact zu_iret d_8034_116 zr_8034 rfl h
  · have h := h.2 c2
    refine zu_aload_n d_8034_8 rfl (zs_ra _) ?_
    refine zg_8_494 rfl d_8034_9 k1 ?_
    refine zu_iconst d_8034_12 zi_5 ?_
    refine zu_cmpne (t := 21) d_8034_13 rfl (fun c5 => ?_) (fun c5 => ?_)
    · have h := h.1 c5
      refine zu_aload_n d_8034_21 rfl (zs_ra _) ?_
      refine zg_8_494 rfl d_8034_22 k1 ?_
      refine zu_bipush d_8034_25 zj_17 ?_
      refine zu_cmpne (t := 35) d_8034_27 rfl (fun c6 => ?_) (fun c6 => ?_)
      · have h := h.1 c6
        refine zu_aload_n d_8034_35 rfl (zs_ra _) ?_
        refine zg_8_494 rfl d_8034_36 k1 ?_
        refine zu_bipush d_8034_39 zj_6 ?_
        refine zu_cmpne (t := 49) d_8034_41 rfl (fun c7 => ?_) (fun c7 => ?_)
        · have h := h.1 c7
          exact (u_X9_wordOp_49 hB h).weak ⟨rfl, trivial⟩
        · have h := h.2 c7
          exact (u_X9_wordOp_44 hB h).weak trivial
      · have h := h.2 c6
        refine zu_bipush d_8034_30 zj_13 ?_
        refine zu_goto (t := 92) d_8034_32 rfl ?_
        exact zu_iret d_8034_92 zr_8034 rfl h
    · have h := h.2 c5
      refine zu_bipush d_8034_16 zj_12 ?_
      refine zu_goto (t := 92) d_8034_18 rfl ?_
      exact zu_iret d_8034_92 zr_8034 rfl h
/-! SchemaPascalModel.loadLeft()V -/
theorem zm_8035 {σ : Nat → Nat} {n0 : Nat} {bf : ab_B} : ab_code (zx σ n0 bf).1 8035 = prog_17_method_52_code := rfl
theorem zq_8035 {σ : Nat → Nat} {n0 : Nat} {bf : ab_B} : ab_maxL (zx σ n0 bf).1 8035 = 2 := rfl
theorem zr_8035 {σ : Nat → Nat} {n0 : Nat} {bf : ab_B} : ab_ret (zx σ n0 bf).1 8035 = (Option.none : Option Jvm.ClassFile.FieldType) := rfl
theorem d_8035_0 {σ : Nat → Nat} {n0 : Nat} {bf : ab_B} : decode (ab_code (zx σ n0 bf).1 8035) 0 = .ok (.aload_n 0, 1) := zd zm_8035 (by decide +kernel)
theorem d_8035_1 {σ : Nat → Nat} {n0 : Nat} {bf : ab_B} : decode (ab_code (zx σ n0 bf).1 8035) 1 = .ok (.getfield 191, 3) := zd zm_8035 (by decide +kernel)
theorem d_8035_4 {σ : Nat → Nat} {n0 : Nat} {bf : ab_B} : decode (ab_code (zx σ n0 bf).1 8035) 4 = .ok (.aload_n 0, 1) := zd zm_8035 (by decide +kernel)
theorem d_8035_5 {σ : Nat → Nat} {n0 : Nat} {bf : ab_B} : decode (ab_code (zx σ n0 bf).1 8035) 5 = .ok (.getfield 653, 3) := zd zm_8035 (by decide +kernel)
theorem d_8035_8 {σ : Nat → Nat} {n0 : Nat} {bf : ab_B} : decode (ab_code (zx σ n0 bf).1 8035) 8 = .ok (.iconst 1, 1) := zd zm_8035 (by decide +kernel)
theorem d_8035_9 {σ : Nat → Nat} {n0 : Nat} {bf : ab_B} : decode (ab_code (zx σ n0 bf).1 8035) 9 = .ok (.isub, 1) := zd zm_8035 (by decide +kernel)
theorem d_8035_10 {σ : Nat → Nat} {n0 : Nat} {bf : ab_B} : decode (ab_code (zx σ n0 bf).1 8035) 10 = .ok (.iaload, 1) := zd zm_8035 (by decide +kernel)
theorem d_8035_11 {σ : Nat → Nat} {n0 : Nat} {bf : ab_B} : decode (ab_code (zx σ n0 bf).1 8035) 11 = .ok (.istore_n 1, 1) := zd zm_8035 (by decide +kernel)
theorem d_8035_12 {σ : Nat → Nat} {n0 : Nat} {bf : ab_B} : decode (ab_code (zx σ n0 bf).1 8035) 12 = .ok (.aload_n 0, 1) := zd zm_8035 (by decide +kernel)
theorem d_8035_13 {σ : Nat → Nat} {n0 : Nat} {bf : ab_B} : decode (ab_code (zx σ n0 bf).1 8035) 13 = .ok (.iload_n 1, 1) := zd zm_8035 (by decide +kernel)
theorem d_8035_14 {σ : Nat → Nat} {n0 : Nat} {bf : ab_B} : decode (ab_code (zx σ n0 bf).1 8035) 14 = .ok (.invokevirtual 564, 3) := zd zm_8035 (by decide +kernel)
theorem d_8035_17 {σ : Nat → Nat} {n0 : Nat} {bf : ab_B} : decode (ab_code (zx σ n0 bf).1 8035) 17 = .ok (.ifCond .ne 36, 3) := zd zm_8035 (by decide +kernel)
theorem d_8035_20 {σ : Nat → Nat} {n0 : Nat} {bf : ab_B} : decode (ab_code (zx σ n0 bf).1 8035) 20 = .ok (.aload_n 0, 1) := zd zm_8035 (by decide +kernel)
theorem d_8035_21 {σ : Nat → Nat} {n0 : Nat} {bf : ab_B} : decode (ab_code (zx σ n0 bf).1 8035) 21 = .ok (.getfield 90, 3) := zd zm_8035 (by decide +kernel)
theorem d_8035_24 {σ : Nat → Nat} {n0 : Nat} {bf : ab_B} : decode (ab_code (zx σ n0 bf).1 8035) 24 = .ok (.iload_n 1, 1) := zd zm_8035 (by decide +kernel)
theorem d_8035_25 {σ : Nat → Nat} {n0 : Nat} {bf : ab_B} : decode (ab_code (zx σ n0 bf).1 8035) 25 = .ok (.baload, 1) := zd zm_8035 (by decide +kernel)
theorem d_8035_26 {σ : Nat → Nat} {n0 : Nat} {bf : ab_B} : decode (ab_code (zx σ n0 bf).1 8035) 26 = .ok (.bipush 7, 2) := zd zm_8035 (by decide +kernel)
theorem d_8035_28 {σ : Nat → Nat} {n0 : Nat} {bf : ab_B} : decode (ab_code (zx σ n0 bf).1 8035) 28 = .ok (.if_icmp .eq 25, 3) := zd zm_8035 (by decide +kernel)
theorem d_8035_31 {σ : Nat → Nat} {n0 : Nat} {bf : ab_B} : decode (ab_code (zx σ n0 bf).1 8035) 31 = .ok (.aload_n 0, 1) := zd zm_8035 (by decide +kernel)
theorem d_8035_32 {σ : Nat → Nat} {n0 : Nat} {bf : ab_B} : decode (ab_code (zx σ n0 bf).1 8035) 32 = .ok (.getfield 90, 3) := zd zm_8035 (by decide +kernel)
theorem d_8035_35 {σ : Nat → Nat} {n0 : Nat} {bf : ab_B} : decode (ab_code (zx σ n0 bf).1 8035) 35 = .ok (.iload_n 1, 1) := zd zm_8035 (by decide +kernel)
theorem d_8035_36 {σ : Nat → Nat} {n0 : Nat} {bf : ab_B} : decode (ab_code (zx σ n0 bf).1 8035) 36 = .ok (.baload, 1) := zd zm_8035 (by decide +kernel)
theorem d_8035_37 {σ : Nat → Nat} {n0 : Nat} {bf : ab_B} : decode (ab_code (zx σ n0 bf).1 8035) 37 = .ok (.bipush 6, 2) := zd zm_8035 (by decide +kernel)
theorem d_8035_39 {σ : Nat → Nat} {n0 : Nat} {bf : ab_B} : decode (ab_code (zx σ n0 bf).1 8035) 39 = .ok (.if_icmp .eq 14, 3) := zd zm_8035 (by decide +kernel)
theorem d_8035_42 {σ : Nat → Nat} {n0 : Nat} {bf : ab_B} : decode (ab_code (zx σ n0 bf).1 8035) 42 = .ok (.aload_n 0, 1) := zd zm_8035 (by decide +kernel)
theorem d_8035_43 {σ : Nat → Nat} {n0 : Nat} {bf : ab_B} : decode (ab_code (zx σ n0 bf).1 8035) 43 = .ok (.getfield 90, 3) := zd zm_8035 (by decide +kernel)
theorem d_8035_46 {σ : Nat → Nat} {n0 : Nat} {bf : ab_B} : decode (ab_code (zx σ n0 bf).1 8035) 46 = .ok (.iload_n 1, 1) := zd zm_8035 (by decide +kernel)
theorem d_8035_47 {σ : Nat → Nat} {n0 : Nat} {bf : ab_B} : decode (ab_code (zx σ n0 bf).1 8035) 47 = .ok (.baload, 1) := zd zm_8035 (by decide +kernel)
theorem d_8035_48 {σ : Nat → Nat} {n0 : Nat} {bf : ab_B} : decode (ab_code (zx σ n0 bf).1 8035) 48 = .ok (.bipush 10, 2) := zd zm_8035 (by decide +kernel)
theorem d_8035_50 {σ : Nat → Nat} {n0 : Nat} {bf : ab_B} : decode (ab_code (zx σ n0 bf).1 8035) 50 = .ok (.if_icmp .ne 7, 3) := zd zm_8035 (by decide +kernel)
theorem d_8035_53 {σ : Nat → Nat} {n0 : Nat} {bf : ab_B} : decode (ab_code (zx σ n0 bf).1 8035) 53 = .ok (.aload_n 0, 1) := zd zm_8035 (by decide +kernel)
theorem d_8035_54 {σ : Nat → Nat} {n0 : Nat} {bf : ab_B} : decode (ab_code (zx σ n0 bf).1 8035) 54 = .ok (.invokevirtual 660, 3) := zd zm_8035 (by decide +kernel)
theorem d_8035_57 {σ : Nat → Nat} {n0 : Nat} {bf : ab_B} : decode (ab_code (zx σ n0 bf).1 8035) 57 = .ok (.return_, 1) := zd zm_8035 (by decide +kernel)
def w_X9_loadLeft_53 (X : zs_X) (d : Nat) (p0 : Nat) (S : zs_T) (Q : zs_Q) : Prop :=
  (zs_K S p0 = some (.inl 8) ∧ zs_C X d 8037 [.ref p0] S (zs_kV (fun S2 => (Q (.returned none) S2)) Q))
theorem u_X9_loadLeft_53 {σ : Nat → Nat} {n0 : Nat} {bf : ab_B} {d : Nat} {p0 : Nat} {S : zs_T} {Q : zs_Q} (hB : zt_B bf) (h : w_X9_loadLeft_53 (zx σ n0 bf) d p0 S Q) : zs_U (zx σ n0 bf) d 8035 53 [(0, .ref p0)] [] S Q := by
  unfold w_X9_loadLeft_53 at h
  refine zu_aload_n d_8035_53 rfl (zs_ra _) ?_
  obtain ⟨k1, h⟩ := h
  refine zc_8_660  hB rfl k1 d_8035_54 (Nat.le_of_ble_eq_true rfl) h (fun S2 h => ?_)
  exact zu_vret d_8035_57 zr_8035 h
def w_X9_loadLeft_31 (X : zs_X) (d : Nat) (p0 : Nat) (p1 : Int32) (S : zs_T) (Q : zs_Q) : Prop :=
  (zs_K S p0 = some (.inl 8) ∧ ∃ b2, (zs_R S 8044 p0) = some b2 ∧ zs_A S b2 1 p1 ∧ (((zs_i S b2 p1.toNatClampNeg) = (6 : Int32) → w_X9_loadLeft_53 X d p0 S Q) ∧ (¬ ((zs_i S b2 p1.toNatClampNeg) = (6 : Int32)) → (((¬ (zs_i S b2 p1.toNatClampNeg) = (10 : Int32) → (Q (.returned none) S)) ∧ (¬ (¬ (zs_i S b2 p1.toNatClampNeg) = (10 : Int32)) → w_X9_loadLeft_53 X d p0 S Q))))))
theorem u_X9_loadLeft_31 {σ : Nat → Nat} {n0 : Nat} {bf : ab_B} {d : Nat} {p0 : Nat} {p1 : Int32} {S : zs_T} {Q : zs_Q} (hB : zt_B bf) (h : w_X9_loadLeft_31 (zx σ n0 bf) d p0 p1 S Q) : zs_U (zx σ n0 bf) d 8035 31 [(0, .ref p0), (1, .int p1)] [] S Q := by
  unfold w_X9_loadLeft_31 at h
  refine zu_aload_n d_8035_31 rfl (zs_ra _) ?_
  obtain ⟨k1, h⟩ := h
  refine zg_8_90 rfl d_8035_32 k1 ?_
  refine zu_iload_n d_8035_35 rfl ?_
  obtain ⟨b2, e3, h⟩ := h
  refine zs_stk1 (zs_rfe e3) ?_
  obtain ⟨k4, h⟩ := h
  refine zu_bald (k := 1) d_8035_36 rfl (Or.inl rfl) k4 ?_
  refine zu_bipush d_8035_37 zj_6 ?_
  refine zu_cmpeq (t := 53) d_8035_39 rfl (fun c5 => ?_) (fun c5 => ?_)
  · have h := h.1 c5
    exact (u_X9_loadLeft_53 hB h).weak ⟨rfl, trivial⟩
  · have h := h.2 c5
    refine zu_aload_n d_8035_42 rfl (zs_ra _) ?_
    refine zg_8_90 rfl d_8035_43 k1 ?_
    refine zu_iload_n d_8035_46 rfl ?_
    refine zs_stk1 (zs_rfe e3) ?_
    refine zu_bald (k := 1) d_8035_47 rfl (Or.inl rfl) k4 ?_
    refine zu_bipush d_8035_48 zj_10 ?_
    refine zu_cmpne (t := 57) d_8035_50 rfl (fun c6 => ?_) (fun c6 => ?_)
    · have h := h.1 c6
      exact zu_vret d_8035_57 zr_8035 h
    · have h := h.2 c6
      exact (u_X9_loadLeft_53 hB h).weak ⟨rfl, trivial⟩
def w_X9_loadLeft (X : zs_X) (d : Nat) (p0 : Nat) (S : zs_T) (Q : zs_Q) : Prop :=
  (zs_K S p0 = some (.inl 8) ∧ ∃ b2, (zs_R S 8091 p0) = some b2 ∧ zs_A S b2 0 ((zs_I S 8097 p0) - (1 : Int32)) ∧ zs_C X d 8036 [.ref p0, .int (zs_i S b2 ((zs_I S 8097 p0) - (1 : Int32)).toNatClampNeg)] S (zs_kI (fun v6 S5 => (((¬ v6 = 0 → w_X9_loadLeft_53 X d p0 S5 Q) ∧ (¬ (¬ v6 = 0) → (zs_K S5 p0 = some (.inl 8) ∧ ∃ b9, (zs_R S5 8044 p0) = some b9 ∧ zs_A S5 b9 1 (zs_i S b2 ((zs_I S 8097 p0) - (1 : Int32)).toNatClampNeg) ∧ (((zs_i S5 b9 (zs_i S b2 ((zs_I S 8097 p0) - (1 : Int32)).toNatClampNeg).toNatClampNeg) = (7 : Int32) → w_X9_loadLeft_53 X d p0 S5 Q) ∧ (¬ ((zs_i S5 b9 (zs_i S b2 ((zs_I S 8097 p0) - (1 : Int32)).toNatClampNeg).toNatClampNeg) = (7 : Int32)) → w_X9_loadLeft_31 X d p0 (zs_i S b2 ((zs_I S 8097 p0) - (1 : Int32)).toNatClampNeg) S5 Q))))))) Q))
theorem u_X9_loadLeft {σ : Nat → Nat} {n0 : Nat} {bf : ab_B} {d : Nat} {p0 : Nat} {S : zs_T} {Q : zs_Q} (hB : zt_B bf) (hd : 1 ≤ d) (h : w_X9_loadLeft (zx σ n0 bf) (d - 1) p0 S Q) : zs_C (zx σ n0 bf) d 8035 [.ref p0] S Q := by
  have hL : lv_args 0 [.ref p0] = [(0, .ref p0)] := rfl
  refine zs_C.of1 (hB.2 8035 (by decide) (by decide)) hd (by rw [hL]; exact zs_sub_self _ (by exact ⟨rfl, trivial⟩)) ?_
  rw [hL]
  clear hL
  unfold w_X9_loadLeft at h
  refine zu_aload_n d_8035_0 rfl (zs_ra _) ?_
  obtain ⟨k1, h⟩ := h
  refine zg_8_191 rfl d_8035_1 k1 ?_
  refine zu_aload_n d_8035_4 rfl (zs_ra _) ?_
  refine zg_8_653 rfl d_8035_5 k1 ?_
  refine zu_iconst d_8035_8 zi_1 ?_
  refine zu_stk d_8035_9 rfl rfl ?_
  obtain ⟨b2, e3, h⟩ := h
  refine zs_stk1 (zs_rfe e3) ?_
  obtain ⟨k4, h⟩ := h
  refine zu_iald (k := 0) d_8035_10 rfl rfl k4 ?_
  refine zu_istore_n d_8035_11 (zs_lt zq_8035 rfl) ?_
  refine zu_aload_n d_8035_12 rfl (zs_ra _) ?_
  refine zu_iload_n d_8035_13 rfl ?_
  refine zc_8_564 (x0 := (zs_i S b2 ((zs_I S 8097 p0) - (1 : Int32)).toNatClampNeg)) hB rfl k1 d_8035_14 (Nat.le_of_ble_eq_true rfl) h (fun v6 S5 h => ?_)
  refine zu_ifne (t := 53) d_8035_17 rfl (fun c7 => ?_) (fun c7 => ?_)
  · have h := h.1 c7
    exact (u_X9_loadLeft_53 hB h).weak ⟨rfl, trivial⟩
  · have h := h.2 c7
    refine zu_aload_n d_8035_20 rfl (zs_ra _) ?_
    obtain ⟨k8, h⟩ := h
    refine zg_8_90 rfl d_8035_21 k8 ?_
    refine zu_iload_n d_8035_24 rfl ?_
    obtain ⟨b9, e10, h⟩ := h
    refine zs_stk1 (zs_rfe e10) ?_
    obtain ⟨k11, h⟩ := h
    refine zu_bald (k := 1) d_8035_25 rfl (Or.inl rfl) k11 ?_
    refine zu_bipush d_8035_26 zj_7 ?_
    refine zu_cmpeq (t := 53) d_8035_28 rfl (fun c12 => ?_) (fun c12 => ?_)
    · have h := h.1 c12
      exact (u_X9_loadLeft_53 hB h).weak ⟨rfl, trivial⟩
    · have h := h.2 c12
      exact (u_X9_loadLeft_31 hB h).weak ⟨rfl, rfl, trivial⟩
/-! SchemaPascalModel.isOrdinal(I)Z -/
theorem zm_8036 {σ : Nat → Nat} {n0 : Nat} {bf : ab_B} : ab_code (zx σ n0 bf).1 8036 = prog_17_method_29_code := rfl
theorem zq_8036 {σ : Nat → Nat} {n0 : Nat} {bf : ab_B} : ab_maxL (zx σ n0 bf).1 8036 = 2 := rfl
theorem zr_8036 {σ : Nat → Nat} {n0 : Nat} {bf : ab_B} : ab_ret (zx σ n0 bf).1 8036 = (Option.some Jvm.ClassFile.FieldType.boolean) := rfl
theorem d_8036_0 {σ : Nat → Nat} {n0 : Nat} {bf : ab_B} : decode (ab_code (zx σ n0 bf).1 8036) 0 = .ok (.iload_n 1, 1) := zd zm_8036 (by decide +kernel)
theorem d_8036_1 {σ : Nat → Nat} {n0 : Nat} {bf : ab_B} : decode (ab_code (zx σ n0 bf).1 8036) 1 = .ok (.ifCond .le 17, 3) := zd zm_8036 (by decide +kernel)
theorem d_8036_4 {σ : Nat → Nat} {n0 : Nat} {bf : ab_B} : decode (ab_code (zx σ n0 bf).1 8036) 4 = .ok (.aload_n 0, 1) := zd zm_8036 (by decide +kernel)
theorem d_8036_5 {σ : Nat → Nat} {n0 : Nat} {bf : ab_B} : decode (ab_code (zx σ n0 bf).1 8036) 5 = .ok (.getfield 90, 3) := zd zm_8036 (by decide +kernel)
theorem d_8036_8 {σ : Nat → Nat} {n0 : Nat} {bf : ab_B} : decode (ab_code (zx σ n0 bf).1 8036) 8 = .ok (.iload_n 1, 1) := zd zm_8036 (by decide +kernel)
theorem d_8036_9 {σ : Nat → Nat} {n0 : Nat} {bf : ab_B} : decode (ab_code (zx σ n0 bf).1 8036) 9 = .ok (.baload, 1) := zd zm_8036 (by decide +kernel)
theorem d_8036_10 {σ : Nat → Nat} {n0 : Nat} {bf : ab_B} : decode (ab_code (zx σ n0 bf).1 8036) 10 = .ok (.iconst 5, 1) := zd zm_8036 (by decide +kernel)
theorem d_8036_11 {σ : Nat → Nat} {n0 : Nat} {bf : ab_B} : decode (ab_code (zx σ n0 bf).1 8036) 11 = .ok (.if_icmp .gt 7, 3) := zd zm_8036 (by decide +kernel)
theorem d_8036_14 {σ : Nat → Nat} {n0 : Nat} {bf : ab_B} : decode (ab_code (zx σ n0 bf).1 8036) 14 = .ok (.iconst 1, 1) := zd zm_8036 (by decide +kernel)
theorem d_8036_15 {σ : Nat → Nat} {n0 : Nat} {bf : ab_B} : decode (ab_code (zx σ n0 bf).1 8036) 15 = .ok (.goto 4, 3) := zd zm_8036 (by decide +kernel)
theorem d_8036_18 {σ : Nat → Nat} {n0 : Nat} {bf : ab_B} : decode (ab_code (zx σ n0 bf).1 8036) 18 = .ok (.iconst 0, 1) := zd zm_8036 (by decide +kernel)
theorem d_8036_19 {σ : Nat → Nat} {n0 : Nat} {bf : ab_B} : decode (ab_code (zx σ n0 bf).1 8036) 19 = .ok (.ireturn, 1) := zd zm_8036 (by decide +kernel)
def w_X9_isOrdinal (X : zs_X) (d : Nat) (p0 : Nat) (p1 : Int32) (S : zs_T) (Q : zs_Q) : Prop :=
  (((p1 ≤ 0 → (Q (.returned (some (.int (0 : Int32)))) S)) ∧ (¬ (p1 ≤ 0) → (zs_K S p0 = some (.inl 8) ∧ ∃ b3, (zs_R S 8044 p0) = some b3 ∧ zs_A S b3 1 p1 ∧ (((5 : Int32) < (zs_i S b3 p1.toNatClampNeg) → (Q (.returned (some (.int (0 : Int32)))) S)) ∧ (¬ ((5 : Int32) < (zs_i S b3 p1.toNatClampNeg)) → (Q (.returned (some (.int (1 : Int32)))) S)))))))
theorem u_X9_isOrdinal {σ : Nat → Nat} {n0 : Nat} {bf : ab_B} {d : Nat} {p0 : Nat} {p1 : Int32} {S : zs_T} {Q : zs_Q} (hB : zt_B bf) (hd : 1 ≤ d) (h : w_X9_isOrdinal (zx σ n0 bf) (d - 1) p0 p1 S Q) : zs_C (zx σ n0 bf) d 8036 [.ref p0, .int p1] S Q := by
  have hL : lv_args 0 [.ref p0, .int p1] = [(0, .ref p0), (1, .int p1)] := rfl
  refine zs_C.of1 (hB.2 8036 (by decide) (by decide)) hd (by rw [hL]; exact zs_sub_self _ (by exact ⟨rfl, rfl, trivial⟩)) ?_
  rw [hL]
  clear hL
  unfold w_X9_isOrdinal at h
  refine zu_iload_n d_8036_0 rfl ?_
  refine zu_ifle (t := 18) d_8036_1 rfl (fun c1 => ?_) (fun c1 => ?_)
  · have h := h.1 c1
    refine zu_iconst d_8036_18 zi_0 ?_
    exact zu_iret d_8036_19 zr_8036 (zs_b_n (Or.inl rfl)) h
  · have h := h.2 c1
    refine zu_aload_n d_8036_4 rfl (zs_ra _) ?_
    obtain ⟨k2, h⟩ := h
    refine zg_8_90 rfl d_8036_5 k2 ?_
    refine zu_iload_n d_8036_8 rfl ?_
    obtain ⟨b3, e4, h⟩ := h
    refine zs_stk1 (zs_rfe e4) ?_
    obtain ⟨k5, h⟩ := h
    refine zu_bald (k := 1) d_8036_9 rfl (Or.inl rfl) k5 ?_
    refine zu_iconst d_8036_10 zi_5 ?_
    refine zu_cmpgt (t := 18) d_8036_11 rfl (fun c6 => ?_) (fun c6 => ?_)
    · have h := h.1 c6
      refine zu_iconst d_8036_18 zi_0 ?_
      exact zu_iret d_8036_19 zr_8036 (zs_b_n (Or.inl rfl)) h
    · have h := h.2 c6
      refine zu_iconst d_8036_14 zi_1 ?_
      refine zu_goto (t := 19) d_8036_15 rfl ?_
      exact zu_iret d_8036_19 zr_8036 (zs_b_n (Or.inr rfl)) h
/-! SchemaPascalModel.load()V -/
theorem zm_8037 {σ : Nat → Nat} {n0 : Nat} {bf : ab_B} : ab_code (zx σ n0 bf).1 8037 = prog_17_method_51_code := rfl
theorem zq_8037 {σ : Nat → Nat} {n0 : Nat} {bf : ab_B} : ab_maxL (zx σ n0 bf).1 8037 = 4 := rfl
theorem zr_8037 {σ : Nat → Nat} {n0 : Nat} {bf : ab_B} : ab_ret (zx σ n0 bf).1 8037 = (Option.none : Option Jvm.ClassFile.FieldType) := rfl
theorem d_8037_0 {σ : Nat → Nat} {n0 : Nat} {bf : ab_B} : decode (ab_code (zx σ n0 bf).1 8037) 0 = .ok (.aload_n 0, 1) := zd zm_8037 (by decide +kernel)
theorem d_8037_1 {σ : Nat → Nat} {n0 : Nat} {bf : ab_B} : decode (ab_code (zx σ n0 bf).1 8037) 1 = .ok (.getfield 653, 3) := zd zm_8037 (by decide +kernel)
theorem d_8037_4 {σ : Nat → Nat} {n0 : Nat} {bf : ab_B} : decode (ab_code (zx σ n0 bf).1 8037) 4 = .ok (.iconst 1, 1) := zd zm_8037 (by decide +kernel)
theorem d_8037_5 {σ : Nat → Nat} {n0 : Nat} {bf : ab_B} : decode (ab_code (zx σ n0 bf).1 8037) 5 = .ok (.isub, 1) := zd zm_8037 (by decide +kernel)
theorem d_8037_6 {σ : Nat → Nat} {n0 : Nat} {bf : ab_B} : decode (ab_code (zx σ n0 bf).1 8037) 6 = .ok (.istore_n 1, 1) := zd zm_8037 (by decide +kernel)
theorem d_8037_7 {σ : Nat → Nat} {n0 : Nat} {bf : ab_B} : decode (ab_code (zx σ n0 bf).1 8037) 7 = .ok (.aload_n 0, 1) := zd zm_8037 (by decide +kernel)
theorem d_8037_8 {σ : Nat → Nat} {n0 : Nat} {bf : ab_B} : decode (ab_code (zx σ n0 bf).1 8037) 8 = .ok (.getfield 191, 3) := zd zm_8037 (by decide +kernel)
theorem d_8037_11 {σ : Nat → Nat} {n0 : Nat} {bf : ab_B} : decode (ab_code (zx σ n0 bf).1 8037) 11 = .ok (.iload_n 1, 1) := zd zm_8037 (by decide +kernel)
theorem d_8037_12 {σ : Nat → Nat} {n0 : Nat} {bf : ab_B} : decode (ab_code (zx σ n0 bf).1 8037) 12 = .ok (.iaload, 1) := zd zm_8037 (by decide +kernel)
theorem d_8037_13 {σ : Nat → Nat} {n0 : Nat} {bf : ab_B} : decode (ab_code (zx σ n0 bf).1 8037) 13 = .ok (.istore_n 2, 1) := zd zm_8037 (by decide +kernel)
theorem d_8037_14 {σ : Nat → Nat} {n0 : Nat} {bf : ab_B} : decode (ab_code (zx σ n0 bf).1 8037) 14 = .ok (.aload_n 0, 1) := zd zm_8037 (by decide +kernel)
theorem d_8037_15 {σ : Nat → Nat} {n0 : Nat} {bf : ab_B} : decode (ab_code (zx σ n0 bf).1 8037) 15 = .ok (.getfield 444, 3) := zd zm_8037 (by decide +kernel)
theorem d_8037_18 {σ : Nat → Nat} {n0 : Nat} {bf : ab_B} : decode (ab_code (zx σ n0 bf).1 8037) 18 = .ok (.ifCond .gt 12, 3) := zd zm_8037 (by decide +kernel)
theorem d_8037_21 {σ : Nat → Nat} {n0 : Nat} {bf : ab_B} : decode (ab_code (zx σ n0 bf).1 8037) 21 = .ok (.aload_n 0, 1) := zd zm_8037 (by decide +kernel)
theorem d_8037_22 {σ : Nat → Nat} {n0 : Nat} {bf : ab_B} : decode (ab_code (zx σ n0 bf).1 8037) 22 = .ok (.getfield 194, 3) := zd zm_8037 (by decide +kernel)
theorem d_8037_25 {σ : Nat → Nat} {n0 : Nat} {bf : ab_B} : decode (ab_code (zx σ n0 bf).1 8037) 25 = .ok (.iload_n 1, 1) := zd zm_8037 (by decide +kernel)
theorem d_8037_26 {σ : Nat → Nat} {n0 : Nat} {bf : ab_B} : decode (ab_code (zx σ n0 bf).1 8037) 26 = .ok (.baload, 1) := zd zm_8037 (by decide +kernel)
theorem d_8037_27 {σ : Nat → Nat} {n0 : Nat} {bf : ab_B} : decode (ab_code (zx σ n0 bf).1 8037) 27 = .ok (.ifCond .ne 4, 3) := zd zm_8037 (by decide +kernel)
theorem d_8037_30 {σ : Nat → Nat} {n0 : Nat} {bf : ab_B} : decode (ab_code (zx σ n0 bf).1 8037) 30 = .ok (.return_, 1) := zd zm_8037 (by decide +kernel)
theorem d_8037_31 {σ : Nat → Nat} {n0 : Nat} {bf : ab_B} : decode (ab_code (zx σ n0 bf).1 8037) 31 = .ok (.aload_n 0, 1) := zd zm_8037 (by decide +kernel)
theorem d_8037_32 {σ : Nat → Nat} {n0 : Nat} {bf : ab_B} : decode (ab_code (zx σ n0 bf).1 8037) 32 = .ok (.getfield 90, 3) := zd zm_8037 (by decide +kernel)
theorem d_8037_35 {σ : Nat → Nat} {n0 : Nat} {bf : ab_B} : decode (ab_code (zx σ n0 bf).1 8037) 35 = .ok (.iload_n 2, 1) := zd zm_8037 (by decide +kernel)
theorem d_8037_36 {σ : Nat → Nat} {n0 : Nat} {bf : ab_B} : decode (ab_code (zx σ n0 bf).1 8037) 36 = .ok (.baload, 1) := zd zm_8037 (by decide +kernel)
theorem d_8037_37 {σ : Nat → Nat} {n0 : Nat} {bf : ab_B} : decode (ab_code (zx σ n0 bf).1 8037) 37 = .ok (.bipush 7, 2) := zd zm_8037 (by decide +kernel)
theorem d_8037_39 {σ : Nat → Nat} {n0 : Nat} {bf : ab_B} : decode (ab_code (zx σ n0 bf).1 8037) 39 = .ok (.if_icmp .ne 21, 3) := zd zm_8037 (by decide +kernel)
theorem d_8037_42 {σ : Nat → Nat} {n0 : Nat} {bf : ab_B} : decode (ab_code (zx σ n0 bf).1 8037) 42 = .ok (.aload_n 0, 1) := zd zm_8037 (by decide +kernel)
theorem d_8037_43 {σ : Nat → Nat} {n0 : Nat} {bf : ab_B} : decode (ab_code (zx σ n0 bf).1 8037) 43 = .ok (.bipush 9, 2) := zd zm_8037 (by decide +kernel)
theorem d_8037_45 {σ : Nat → Nat} {n0 : Nat} {bf : ab_B} : decode (ab_code (zx σ n0 bf).1 8037) 45 = .ok (.iconst 0, 1) := zd zm_8037 (by decide +kernel)
theorem d_8037_46 {σ : Nat → Nat} {n0 : Nat} {bf : ab_B} : decode (ab_code (zx σ n0 bf).1 8037) 46 = .ok (.iconst 0, 1) := zd zm_8037 (by decide +kernel)
theorem d_8037_47 {σ : Nat → Nat} {n0 : Nat} {bf : ab_B} : decode (ab_code (zx σ n0 bf).1 8037) 47 = .ok (.aload_n 0, 1) := zd zm_8037 (by decide +kernel)
theorem d_8037_48 {σ : Nat → Nat} {n0 : Nat} {bf : ab_B} : decode (ab_code (zx σ n0 bf).1 8037) 48 = .ok (.getfield 206, 3) := zd zm_8037 (by decide +kernel)
theorem d_8037_51 {σ : Nat → Nat} {n0 : Nat} {bf : ab_B} : decode (ab_code (zx σ n0 bf).1 8037) 51 = .ok (.iload_n 1, 1) := zd zm_8037 (by decide +kernel)
theorem d_8037_52 {σ : Nat → Nat} {n0 : Nat} {bf : ab_B} : decode (ab_code (zx σ n0 bf).1 8037) 52 = .ok (.iaload, 1) := zd zm_8037 (by decide +kernel)
theorem d_8037_53 {σ : Nat → Nat} {n0 : Nat} {bf : ab_B} : decode (ab_code (zx σ n0 bf).1 8037) 53 = .ok (.invokevirtual 656, 3) := zd zm_8037 (by decide +kernel)
theorem d_8037_56 {σ : Nat → Nat} {n0 : Nat} {bf : ab_B} : decode (ab_code (zx σ n0 bf).1 8037) 56 = .ok (.istore_n 3, 1) := zd zm_8037 (by decide +kernel)
theorem d_8037_57 {σ : Nat → Nat} {n0 : Nat} {bf : ab_B} : decode (ab_code (zx σ n0 bf).1 8037) 57 = .ok (.goto 56, 3) := zd zm_8037 (by decide +kernel)
theorem d_8037_60 {σ : Nat → Nat} {n0 : Nat} {bf : ab_B} : decode (ab_code (zx σ n0 bf).1 8037) 60 = .ok (.aload_n 0, 1) := zd zm_8037 (by decide +kernel)
theorem d_8037_61 {σ : Nat → Nat} {n0 : Nat} {bf : ab_B} : decode (ab_code (zx σ n0 bf).1 8037) 61 = .ok (.iload_n 2, 1) := zd zm_8037 (by decide +kernel)
theorem d_8037_62 {σ : Nat → Nat} {n0 : Nat} {bf : ab_B} : decode (ab_code (zx σ n0 bf).1 8037) 62 = .ok (.invokevirtual 564, 3) := zd zm_8037 (by decide +kernel)
theorem d_8037_65 {σ : Nat → Nat} {n0 : Nat} {bf : ab_B} : decode (ab_code (zx σ n0 bf).1 8037) 65 = .ok (.ifCond .ne 25, 3) := zd zm_8037 (by decide +kernel)
theorem d_8037_68 {σ : Nat → Nat} {n0 : Nat} {bf : ab_B} : decode (ab_code (zx σ n0 bf).1 8037) 68 = .ok (.aload_n 0, 1) := zd zm_8037 (by decide +kernel)
theorem d_8037_69 {σ : Nat → Nat} {n0 : Nat} {bf : ab_B} : decode (ab_code (zx σ n0 bf).1 8037) 69 = .ok (.getfield 90, 3) := zd zm_8037 (by decide +kernel)
theorem d_8037_72 {σ : Nat → Nat} {n0 : Nat} {bf : ab_B} : decode (ab_code (zx σ n0 bf).1 8037) 72 = .ok (.iload_n 2, 1) := zd zm_8037 (by decide +kernel)
theorem d_8037_73 {σ : Nat → Nat} {n0 : Nat} {bf : ab_B} : decode (ab_code (zx σ n0 bf).1 8037) 73 = .ok (.baload, 1) := zd zm_8037 (by decide +kernel)
theorem d_8037_74 {σ : Nat → Nat} {n0 : Nat} {bf : ab_B} : decode (ab_code (zx σ n0 bf).1 8037) 74 = .ok (.bipush 6, 2) := zd zm_8037 (by decide +kernel)
theorem d_8037_76 {σ : Nat → Nat} {n0 : Nat} {bf : ab_B} : decode (ab_code (zx σ n0 bf).1 8037) 76 = .ok (.if_icmp .eq 14, 3) := zd zm_8037 (by decide +kernel)
theorem d_8037_79 {σ : Nat → Nat} {n0 : Nat} {bf : ab_B} : decode (ab_code (zx σ n0 bf).1 8037) 79 = .ok (.aload_n 0, 1) := zd zm_8037 (by decide +kernel)
theorem d_8037_80 {σ : Nat → Nat} {n0 : Nat} {bf : ab_B} : decode (ab_code (zx σ n0 bf).1 8037) 80 = .ok (.getfield 90, 3) := zd zm_8037 (by decide +kernel)
theorem d_8037_83 {σ : Nat → Nat} {n0 : Nat} {bf : ab_B} : decode (ab_code (zx σ n0 bf).1 8037) 83 = .ok (.iload_n 2, 1) := zd zm_8037 (by decide +kernel)
theorem d_8037_84 {σ : Nat → Nat} {n0 : Nat} {bf : ab_B} : decode (ab_code (zx σ n0 bf).1 8037) 84 = .ok (.baload, 1) := zd zm_8037 (by decide +kernel)
theorem d_8037_85 {σ : Nat → Nat} {n0 : Nat} {bf : ab_B} : decode (ab_code (zx σ n0 bf).1 8037) 85 = .ok (.bipush 10, 2) := zd zm_8037 (by decide +kernel)
theorem d_8037_87 {σ : Nat → Nat} {n0 : Nat} {bf : ab_B} : decode (ab_code (zx σ n0 bf).1 8037) 87 = .ok (.if_icmp .ne 21, 3) := zd zm_8037 (by decide +kernel)
theorem d_8037_90 {σ : Nat → Nat} {n0 : Nat} {bf : ab_B} : decode (ab_code (zx σ n0 bf).1 8037) 90 = .ok (.aload_n 0, 1) := zd zm_8037 (by decide +kernel)
theorem d_8037_91 {σ : Nat → Nat} {n0 : Nat} {bf : ab_B} : decode (ab_code (zx σ n0 bf).1 8037) 91 = .ok (.bipush 8, 2) := zd zm_8037 (by decide +kernel)
theorem d_8037_93 {σ : Nat → Nat} {n0 : Nat} {bf : ab_B} : decode (ab_code (zx σ n0 bf).1 8037) 93 = .ok (.iconst 0, 1) := zd zm_8037 (by decide +kernel)
theorem d_8037_94 {σ : Nat → Nat} {n0 : Nat} {bf : ab_B} : decode (ab_code (zx σ n0 bf).1 8037) 94 = .ok (.iconst 0, 1) := zd zm_8037 (by decide +kernel)
theorem d_8037_95 {σ : Nat → Nat} {n0 : Nat} {bf : ab_B} : decode (ab_code (zx σ n0 bf).1 8037) 95 = .ok (.aload_n 0, 1) := zd zm_8037 (by decide +kernel)
theorem d_8037_96 {σ : Nat → Nat} {n0 : Nat} {bf : ab_B} : decode (ab_code (zx σ n0 bf).1 8037) 96 = .ok (.getfield 206, 3) := zd zm_8037 (by decide +kernel)
theorem d_8037_99 {σ : Nat → Nat} {n0 : Nat} {bf : ab_B} : decode (ab_code (zx σ n0 bf).1 8037) 99 = .ok (.iload_n 1, 1) := zd zm_8037 (by decide +kernel)
theorem d_8037_100 {σ : Nat → Nat} {n0 : Nat} {bf : ab_B} : decode (ab_code (zx σ n0 bf).1 8037) 100 = .ok (.iaload, 1) := zd zm_8037 (by decide +kernel)
theorem d_8037_101 {σ : Nat → Nat} {n0 : Nat} {bf : ab_B} : decode (ab_code (zx σ n0 bf).1 8037) 101 = .ok (.invokevirtual 656, 3) := zd zm_8037 (by decide +kernel)
theorem d_8037_104 {σ : Nat → Nat} {n0 : Nat} {bf : ab_B} : decode (ab_code (zx σ n0 bf).1 8037) 104 = .ok (.istore_n 3, 1) := zd zm_8037 (by decide +kernel)
theorem d_8037_105 {σ : Nat → Nat} {n0 : Nat} {bf : ab_B} : decode (ab_code (zx σ n0 bf).1 8037) 105 = .ok (.goto 8, 3) := zd zm_8037 (by decide +kernel)
theorem d_8037_108 {σ : Nat → Nat} {n0 : Nat} {bf : ab_B} : decode (ab_code (zx σ n0 bf).1 8037) 108 = .ok (.aload_n 0, 1) := zd zm_8037 (by decide +kernel)
theorem d_8037_109 {σ : Nat → Nat} {n0 : Nat} {bf : ab_B} : decode (ab_code (zx σ n0 bf).1 8037) 109 = .ok (.iconst 5, 1) := zd zm_8037 (by decide +kernel)
theorem d_8037_110 {σ : Nat → Nat} {n0 : Nat} {bf : ab_B} : decode (ab_code (zx σ n0 bf).1 8037) 110 = .ok (.invokevirtual 541, 3) := zd zm_8037 (by decide +kernel)
theorem d_8037_113 {σ : Nat → Nat} {n0 : Nat} {bf : ab_B} : decode (ab_code (zx σ n0 bf).1 8037) 113 = .ok (.aload_n 0, 1) := zd zm_8037 (by decide +kernel)
theorem d_8037_114 {σ : Nat → Nat} {n0 : Nat} {bf : ab_B} : decode (ab_code (zx σ n0 bf).1 8037) 114 = .ok (.getfield 194, 3) := zd zm_8037 (by decide +kernel)
theorem d_8037_117 {σ : Nat → Nat} {n0 : Nat} {bf : ab_B} : decode (ab_code (zx σ n0 bf).1 8037) 117 = .ok (.iload_n 1, 1) := zd zm_8037 (by decide +kernel)
theorem d_8037_118 {σ : Nat → Nat} {n0 : Nat} {bf : ab_B} : decode (ab_code (zx σ n0 bf).1 8037) 118 = .ok (.iconst 0, 1) := zd zm_8037 (by decide +kernel)
theorem d_8037_119 {σ : Nat → Nat} {n0 : Nat} {bf : ab_B} : decode (ab_code (zx σ n0 bf).1 8037) 119 = .ok (.bastore, 1) := zd zm_8037 (by decide +kernel)
theorem d_8037_120 {σ : Nat → Nat} {n0 : Nat} {bf : ab_B} : decode (ab_code (zx σ n0 bf).1 8037) 120 = .ok (.return_, 1) := zd zm_8037 (by decide +kernel)
def w_X9_load_30 (X : zs_X) (d : Nat)  (S : zs_T) (Q : zs_Q) : Prop :=
  (Q (.returned none) S)
theorem u_X9_load_30 {σ : Nat → Nat} {n0 : Nat} {bf : ab_B} {d : Nat}  {S : zs_T} {Q : zs_Q} (hB : zt_B bf) (h : w_X9_load_30 (zx σ n0 bf) d  S Q) : zs_U (zx σ n0 bf) d 8037 30 [] [] S Q := by
  unfold w_X9_load_30 at h
  exact zu_vret d_8037_30 zr_8037 h
def w_X9_load_113 (X : zs_X) (d : Nat) (p0 : Nat) (p1 : Int32) (S : zs_T) (Q : zs_Q) : Prop :=
  (zs_K S p0 = some (.inl 8) ∧ ∃ b2, (zs_R S 8092 p0) = some b2 ∧ zs_A S b2 2 p1 ∧ ab_n0 X.1 ≤ b2 ∧ ∀ S6, S6 = zs_si S b2 p1.toNatClampNeg (vp_nar .boolean (0 : Int32)) → Q (.returned none) S6)
theorem u_X9_load_113 {σ : Nat → Nat} {n0 : Nat} {bf : ab_B} {d : Nat} {p0 : Nat} {p1 : Int32} {S : zs_T} {Q : zs_Q} (hB : zt_B bf) (h : w_X9_load_113 (zx σ n0 bf) d p0 p1 S Q) : zs_U (zx σ n0 bf) d 8037 113 [(0, .ref p0), (1, .int p1)] [] S Q := by
  unfold w_X9_load_113 at h
  refine zu_aload_n d_8037_113 rfl (zs_ra _) ?_
  obtain ⟨k1, h⟩ := h
  refine zg_8_194 rfl d_8037_114 k1 ?_
  refine zu_iload_n d_8037_117 rfl ?_
  refine zu_iconst d_8037_118 zi_0 ?_
  obtain ⟨b2, e3, h⟩ := h
  refine zs_stk2 (zs_rfe e3) ?_
  obtain ⟨k4, h⟩ := h
  obtain ⟨k5, h⟩ := h
  refine zu_bast_bool (k := 2) d_8037_119 rfl rfl k5 k4 ?_
  generalize e7 : zs_si S b2 p1.toNatClampNeg (vp_nar .boolean (0 : Int32)) = S6
  have h := h S6 e7.symm
  have K8 : ∀ b, zs_K S6 b = zs_K S b := zs_Kt e7 (zs_Ksi _ _ _ _) (fun _ => rfl)
  exact zu_vret d_8037_120 zr_8037 h
def w_X9_load_90 (X : zs_X) (d : Nat) (p0 : Nat) (p1 : Int32) (S : zs_T) (Q : zs_Q) : Prop :=
  (zs_K S p0 = some (.inl 8) ∧ ∃ b2, (zs_R S 8096 p0) = some b2 ∧ zs_A S b2 0 p1 ∧ zs_C X d 8012 [.ref p0, .int (8 : Int32), .int (0 : Int32), .int (0 : Int32), .int (zs_i S b2 p1.toNatClampNeg)] S (zs_kI (fun v6 S5 => (w_X9_load_113 X d p0 p1 S5 Q)) Q))
theorem u_X9_load_90 {σ : Nat → Nat} {n0 : Nat} {bf : ab_B} {d : Nat} {p0 : Nat} {p1 : Int32} {S : zs_T} {Q : zs_Q} (hB : zt_B bf) (h : w_X9_load_90 (zx σ n0 bf) d p0 p1 S Q) : zs_U (zx σ n0 bf) d 8037 90 [(0, .ref p0), (1, .int p1)] [] S Q := by
  unfold w_X9_load_90 at h
  refine zu_aload_n d_8037_90 rfl (zs_ra _) ?_
  refine zu_bipush d_8037_91 zj_8 ?_
  refine zu_iconst d_8037_93 zi_0 ?_
  refine zu_iconst d_8037_94 zi_0 ?_
  refine zu_aload_n d_8037_95 rfl (zs_ra _) ?_
  obtain ⟨k1, h⟩ := h
  refine zg_8_206 rfl d_8037_96 k1 ?_
  refine zu_iload_n d_8037_99 rfl ?_
  obtain ⟨b2, e3, h⟩ := h
  refine zs_stk1 (zs_rfe e3) ?_
  obtain ⟨k4, h⟩ := h
  refine zu_iald (k := 0) d_8037_100 rfl rfl k4 ?_
  refine zc_8_656 (x0 := (8 : Int32)) (x1 := (0 : Int32)) (x2 := (0 : Int32)) (x3 := (zs_i S b2 p1.toNatClampNeg)) hB rfl k1 d_8037_101 (Nat.le_of_ble_eq_true rfl) h (fun v6 S5 h => ?_)
  refine zu_istore_n d_8037_104 (zs_lt zq_8037 rfl) ?_
  refine zu_goto (t := 113) d_8037_105 rfl ?_
  exact (u_X9_load_113 hB h).weak ⟨rfl, rfl, trivial⟩
def w_X9_load_79 (X : zs_X) (d : Nat) (p0 : Nat) (p1 : Int32) (p2 : Int32) (S : zs_T) (Q : zs_Q) : Prop :=
  (zs_K S p0 = some (.inl 8) ∧ ∃ b2, (zs_R S 8044 p0) = some b2 ∧ zs_A S b2 1 p2 ∧ ((¬ (zs_i S b2 p2.toNatClampNeg) = (10 : Int32) → (zs_C X d 8027 [.ref p0, .int (5 : Int32)] S (zs_kV (fun S6 => w_X9_load_113 X d p0 p1 S6 Q) Q))) ∧ (¬ (¬ (zs_i S b2 p2.toNatClampNeg) = (10 : Int32)) → w_X9_load_90 X d p0 p1 S Q)))
theorem u_X9_load_79 {σ : Nat → Nat} {n0 : Nat} {bf : ab_B} {d : Nat} {p0 : Nat} {p1 : Int32} {p2 : Int32} {S : zs_T} {Q : zs_Q} (hB : zt_B bf) (h : w_X9_load_79 (zx σ n0 bf) d p0 p1 p2 S Q) : zs_U (zx σ n0 bf) d 8037 79 [(0, .ref p0), (1, .int p1), (2, .int p2)] [] S Q := by
  unfold w_X9_load_79 at h
  refine zu_aload_n d_8037_79 rfl (zs_ra _) ?_
  obtain ⟨k1, h⟩ := h
  refine zg_8_90 rfl d_8037_80 k1 ?_
  refine zu_iload_n d_8037_83 rfl ?_
  obtain ⟨b2, e3, h⟩ := h
  refine zs_stk1 (zs_rfe e3) ?_
  obtain ⟨k4, h⟩ := h
  refine zu_bald (k := 1) d_8037_84 rfl (Or.inl rfl) k4 ?_
  refine zu_bipush d_8037_85 zj_10 ?_
  refine zu_cmpne (t := 108) d_8037_87 rfl (fun c5 => ?_) (fun c5 => ?_)
  · have h := h.1 c5
    refine zu_aload_n d_8037_108 rfl (zs_ra _) ?_
    refine zu_iconst d_8037_109 zi_5 ?_
    refine zc_8_541 (x0 := (5 : Int32)) hB rfl k1 d_8037_110 (Nat.le_of_ble_eq_true rfl) h (fun S6 h => ?_)
    exact (u_X9_load_113 hB h).weak ⟨rfl, rfl, trivial⟩
  · have h := h.2 c5
    exact (u_X9_load_90 hB h).weak ⟨rfl, rfl, trivial⟩
def w_X9_load_57 (X : zs_X) (d : Nat) (p0 : Nat) (p1 : Int32) (S : zs_T) (Q : zs_Q) : Prop :=
  (w_X9_load_113 X d p0 p1 S Q)
theorem u_X9_load_57 {σ : Nat → Nat} {n0 : Nat} {bf : ab_B} {d : Nat} {p0 : Nat} {p1 : Int32} {S : zs_T} {Q : zs_Q} (hB : zt_B bf) (h : w_X9_load_57 (zx σ n0 bf) d p0 p1 S Q) : zs_U (zx σ n0 bf) d 8037 57 [(0, .ref p0), (1, .int p1)] [] S Q := by
  unfold w_X9_load_57 at h
  refine zu_goto (t := 113) d_8037_57 rfl ?_
  exact (u_X9_load_113 hB h).weak ⟨rfl, rfl, trivial⟩
def w_X9_load_31 (X : zs_X) (d : Nat) (p0 : Nat) (p1 : Int32) (p2 : Int32) (S : zs_T) (Q : zs_Q) : Prop :=
  (zs_K S p0 = some (.inl 8) ∧ ∃ b2, (zs_R S 8044 p0) = some b2 ∧ zs_A S b2 1 p2 ∧ ((¬ (zs_i S b2 p2.toNatClampNeg) = (7 : Int32) → (zs_C X d 8036 [.ref p0, .int p2] S (zs_kI (fun v7 S6 => (((¬ v7 = 0 → w_X9_load_90 X d p0 p1 S6 Q) ∧ (¬ (¬ v7 = 0) → (zs_K S6 p0 = some (.inl 8) ∧ ∃ b10, (zs_R S6 8044 p0) = some b10 ∧ zs_A S6 b10 1 p2 ∧ (((zs_i S6 b10 p2.toNatClampNeg) = (6 : Int32) → w_X9_load_90 X d p0 p1 S6 Q) ∧ (¬ ((zs_i S6 b10 p2.toNatClampNeg) = (6 : Int32)) → w_X9_load_79 X d p0 p1 p2 S6 Q))))))) Q))) ∧ (¬ (¬ (zs_i S b2 p2.toNatClampNeg) = (7 : Int32)) → (∃ b14, (zs_R S 8096 p0) = some b14 ∧ zs_A S b14 0 p1 ∧ zs_C X d 8012 [.ref p0, .int (9 : Int32), .int (0 : Int32), .int (0 : Int32), .int (zs_i S b14 p1.toNatClampNeg)] S (zs_kI (fun v18 S17 => (w_X9_load_57 X d p0 p1 S17 Q)) Q)))))
theorem u_X9_load_31 {σ : Nat → Nat} {n0 : Nat} {bf : ab_B} {d : Nat} {p0 : Nat} {p1 : Int32} {p2 : Int32} {S : zs_T} {Q : zs_Q} (hB : zt_B bf) (h : w_X9_load_31 (zx σ n0 bf) d p0 p1 p2 S Q) : zs_U (zx σ n0 bf) d 8037 31 [(0, .ref p0), (1, .int p1), (2, .int p2)] [] S Q := by
  unfold w_X9_load_31 at h
  refine zu_aload_n d_8037_31 rfl (zs_ra _) ?_
  obtain ⟨k1, h⟩ := h
  refine zg_8_90 rfl d_8037_32 k1 ?_
  refine zu_iload_n d_8037_35 rfl ?_
  obtain ⟨b2, e3, h⟩ := h
  refine zs_stk1 (zs_rfe e3) ?_
  obtain ⟨k4, h⟩ := h
  refine zu_bald (k := 1) d_8037_36 rfl (Or.inl rfl) k4 ?_
  refine zu_bipush d_8037_37 zj_7 ?_
  refine zu_cmpne (t := 60) d_8037_39 rfl (fun c5 => ?_) (fun c5 => ?_)
  · have h := h.1 c5
    refine zu_aload_n d_8037_60 rfl (zs_ra _) ?_
    refine zu_iload_n d_8037_61 rfl ?_
    refine zc_8_564 (x0 := p2) hB rfl k1 d_8037_62 (Nat.le_of_ble_eq_true rfl) h (fun v7 S6 h => ?_)
    refine zu_ifne (t := 90) d_8037_65 rfl (fun c8 => ?_) (fun c8 => ?_)
    · have h := h.1 c8
      exact (u_X9_load_90 hB h).weak ⟨rfl, rfl, trivial⟩
    · have h := h.2 c8
      refine zu_aload_n d_8037_68 rfl (zs_ra _) ?_
      obtain ⟨k9, h⟩ := h
      refine zg_8_90 rfl d_8037_69 k9 ?_
      refine zu_iload_n d_8037_72 rfl ?_
      obtain ⟨b10, e11, h⟩ := h
      refine zs_stk1 (zs_rfe e11) ?_
      obtain ⟨k12, h⟩ := h
      refine zu_bald (k := 1) d_8037_73 rfl (Or.inl rfl) k12 ?_
      refine zu_bipush d_8037_74 zj_6 ?_
      refine zu_cmpeq (t := 90) d_8037_76 rfl (fun c13 => ?_) (fun c13 => ?_)
      · have h := h.1 c13
        exact (u_X9_load_90 hB h).weak ⟨rfl, rfl, trivial⟩
      · have h := h.2 c13
        exact (u_X9_load_79 hB h).weak ⟨rfl, rfl, rfl, trivial⟩
  · have h := h.2 c5
    refine zu_aload_n d_8037_42 rfl (zs_ra _) ?_
    refine zu_bipush d_8037_43 zj_9 ?_
    refine zu_iconst d_8037_45 zi_0 ?_
    refine zu_iconst d_8037_46 zi_0 ?_
    refine zu_aload_n d_8037_47 rfl (zs_ra _) ?_
    refine zg_8_206 rfl d_8037_48 k1 ?_
    refine zu_iload_n d_8037_51 rfl ?_
    obtain ⟨b14, e15, h⟩ := h
    refine zs_stk1 (zs_rfe e15) ?_
    obtain ⟨k16, h⟩ := h
    refine zu_iald (k := 0) d_8037_52 rfl rfl k16 ?_
    refine zc_8_656 (x0 := (9 : Int32)) (x1 := (0 : Int32)) (x2 := (0 : Int32)) (x3 := (zs_i S b14 p1.toNatClampNeg)) hB rfl k1 d_8037_53 (Nat.le_of_ble_eq_true rfl) h (fun v18 S17 h => ?_)
    refine zu_istore_n d_8037_56 (zs_lt zq_8037 rfl) ?_
    exact (u_X9_load_57 hB h).weak ⟨rfl, rfl, trivial⟩
def w_X9_load (X : zs_X) (d : Nat) (p0 : Nat) (S : zs_T) (Q : zs_Q) : Prop :=
  (zs_K S p0 = some (.inl 8) ∧ ∃ b2, (zs_R S 8091 p0) = some b2 ∧ zs_A S b2 0 ((zs_I S 8097 p0) - (1 : Int32)) ∧ ((0 < (zs_I S 8010 p0) → w_X9_load_30 X d  S Q) ∧ (¬ (0 < (zs_I S 8010 p0)) → (∃ b6, (zs_R S 8092 p0) = some b6 ∧ zs_A S b6 2 ((zs_I S 8097 p0) - (1 : Int32)) ∧ ((¬ (zs_i S b6 ((zs_I S 8097 p0) - (1 : Int32)).toNatClampNeg) = 0 → w_X9_load_31 X d p0 ((zs_I S 8097 p0) - (1 : Int32)) (zs_i S b2 ((zs_I S 8097 p0) - (1 : Int32)).toNatClampNeg) S Q) ∧ (¬ (¬ (zs_i S b6 ((zs_I S 8097 p0) - (1 : Int32)).toNatClampNeg) = 0) → w_X9_load_30 X d  S Q))))))
theorem u_X9_load {σ : Nat → Nat} {n0 : Nat} {bf : ab_B} {d : Nat} {p0 : Nat} {S : zs_T} {Q : zs_Q} (hB : zt_B bf) (hd : 1 ≤ d) (h : w_X9_load (zx σ n0 bf) (d - 1) p0 S Q) : zs_C (zx σ n0 bf) d 8037 [.ref p0] S Q := by
  have hL : lv_args 0 [.ref p0] = [(0, .ref p0)] := rfl
  refine zs_C.of1 (hB.2 8037 (by decide) (by decide)) hd (by rw [hL]; exact zs_sub_self _ (by exact ⟨rfl, trivial⟩)) ?_
  rw [hL]
  clear hL
  unfold w_X9_load at h
  refine zu_aload_n d_8037_0 rfl (zs_ra _) ?_
  obtain ⟨k1, h⟩ := h
  refine zg_8_653 rfl d_8037_1 k1 ?_
  refine zu_iconst d_8037_4 zi_1 ?_
  refine zu_stk d_8037_5 rfl rfl ?_
  refine zu_istore_n d_8037_6 (zs_lt zq_8037 rfl) ?_
  refine zu_aload_n d_8037_7 rfl (zs_ra _) ?_
  refine zg_8_191 rfl d_8037_8 k1 ?_
  refine zu_iload_n d_8037_11 rfl ?_
  obtain ⟨b2, e3, h⟩ := h
  refine zs_stk1 (zs_rfe e3) ?_
  obtain ⟨k4, h⟩ := h
  refine zu_iald (k := 0) d_8037_12 rfl rfl k4 ?_
  refine zu_istore_n d_8037_13 (zs_lt zq_8037 rfl) ?_
  refine zu_aload_n d_8037_14 rfl (zs_ra _) ?_
  refine zg_8_444 rfl d_8037_15 k1 ?_
  refine zu_ifgt (t := 30) d_8037_18 rfl (fun c5 => ?_) (fun c5 => ?_)
  · have h := h.1 c5
    exact (u_X9_load_30 hB h).weak trivial
  · have h := h.2 c5
    refine zu_aload_n d_8037_21 rfl (zs_ra _) ?_
    refine zg_8_194 rfl d_8037_22 k1 ?_
    refine zu_iload_n d_8037_25 rfl ?_
    obtain ⟨b6, e7, h⟩ := h
    refine zs_stk1 (zs_rfe e7) ?_
    obtain ⟨k8, h⟩ := h
    refine zu_bald (k := 2) d_8037_26 rfl (Or.inr rfl) k8 ?_
    refine zu_ifne (t := 31) d_8037_27 rfl (fun c9 => ?_) (fun c9 => ?_)
    · have h := h.1 c9
      exact (u_X9_load_31 hB h).weak ⟨rfl, rfl, rfl, trivial⟩
    · have h := h.2 c9
      exact (u_X9_load_30 hB h).weak trivial
/-! SchemaPascalModel.related(II)V -/
theorem zm_8038 {σ : Nat → Nat} {n0 : Nat} {bf : ab_B} : ab_code (zx σ n0 bf).1 8038 = prog_17_method_57_code := rfl
theorem zq_8038 {σ : Nat → Nat} {n0 : Nat} {bf : ab_B} : ab_maxL (zx σ n0 bf).1 8038 = 7 := rfl
theorem zr_8038 {σ : Nat → Nat} {n0 : Nat} {bf : ab_B} : ab_ret (zx σ n0 bf).1 8038 = (Option.none : Option Jvm.ClassFile.FieldType) := rfl
theorem d_8038_0 {σ : Nat → Nat} {n0 : Nat} {bf : ab_B} : decode (ab_code (zx σ n0 bf).1 8038) 0 = .ok (.aload_n 0, 1) := zd zm_8038 (by decide +kernel)
theorem d_8038_1 {σ : Nat → Nat} {n0 : Nat} {bf : ab_B} : decode (ab_code (zx σ n0 bf).1 8038) 1 = .ok (.invokevirtual 670, 3) := zd zm_8038 (by decide +kernel)
theorem d_8038_4 {σ : Nat → Nat} {n0 : Nat} {bf : ab_B} : decode (ab_code (zx σ n0 bf).1 8038) 4 = .ok (.aload_n 0, 1) := zd zm_8038 (by decide +kernel)
theorem d_8038_5 {σ : Nat → Nat} {n0 : Nat} {bf : ab_B} : decode (ab_code (zx σ n0 bf).1 8038) 5 = .ok (.getfield 444, 3) := zd zm_8038 (by decide +kernel)
theorem d_8038_8 {σ : Nat → Nat} {n0 : Nat} {bf : ab_B} : decode (ab_code (zx σ n0 bf).1 8038) 8 = .ok (.ifCond .le 4, 3) := zd zm_8038 (by decide +kernel)
theorem d_8038_11 {σ : Nat → Nat} {n0 : Nat} {bf : ab_B} : decode (ab_code (zx σ n0 bf).1 8038) 11 = .ok (.return_, 1) := zd zm_8038 (by decide +kernel)
theorem d_8038_12 {σ : Nat → Nat} {n0 : Nat} {bf : ab_B} : decode (ab_code (zx σ n0 bf).1 8038) 12 = .ok (.aload_n 0, 1) := zd zm_8038 (by decide +kernel)
theorem d_8038_13 {σ : Nat → Nat} {n0 : Nat} {bf : ab_B} : decode (ab_code (zx σ n0 bf).1 8038) 13 = .ok (.dup, 1) := zd zm_8038 (by decide +kernel)
theorem d_8038_14 {σ : Nat → Nat} {n0 : Nat} {bf : ab_B} : decode (ab_code (zx σ n0 bf).1 8038) 14 = .ok (.getfield 653, 3) := zd zm_8038 (by decide +kernel)
theorem d_8038_17 {σ : Nat → Nat} {n0 : Nat} {bf : ab_B} : decode (ab_code (zx σ n0 bf).1 8038) 17 = .ok (.iconst 1, 1) := zd zm_8038 (by decide +kernel)
theorem d_8038_18 {σ : Nat → Nat} {n0 : Nat} {bf : ab_B} : decode (ab_code (zx σ n0 bf).1 8038) 18 = .ok (.isub, 1) := zd zm_8038 (by decide +kernel)
theorem d_8038_19 {σ : Nat → Nat} {n0 : Nat} {bf : ab_B} : decode (ab_code (zx σ n0 bf).1 8038) 19 = .ok (.putfield 653, 3) := zd zm_8038 (by decide +kernel)
theorem d_8038_22 {σ : Nat → Nat} {n0 : Nat} {bf : ab_B} : decode (ab_code (zx σ n0 bf).1 8038) 22 = .ok (.aload_n 0, 1) := zd zm_8038 (by decide +kernel)
theorem d_8038_23 {σ : Nat → Nat} {n0 : Nat} {bf : ab_B} : decode (ab_code (zx σ n0 bf).1 8038) 23 = .ok (.getfield 191, 3) := zd zm_8038 (by decide +kernel)
theorem d_8038_26 {σ : Nat → Nat} {n0 : Nat} {bf : ab_B} : decode (ab_code (zx σ n0 bf).1 8038) 26 = .ok (.aload_n 0, 1) := zd zm_8038 (by decide +kernel)
theorem d_8038_27 {σ : Nat → Nat} {n0 : Nat} {bf : ab_B} : decode (ab_code (zx σ n0 bf).1 8038) 27 = .ok (.getfield 653, 3) := zd zm_8038 (by decide +kernel)
theorem d_8038_30 {σ : Nat → Nat} {n0 : Nat} {bf : ab_B} : decode (ab_code (zx σ n0 bf).1 8038) 30 = .ok (.iconst 1, 1) := zd zm_8038 (by decide +kernel)
theorem d_8038_31 {σ : Nat → Nat} {n0 : Nat} {bf : ab_B} : decode (ab_code (zx σ n0 bf).1 8038) 31 = .ok (.isub, 1) := zd zm_8038 (by decide +kernel)
theorem d_8038_32 {σ : Nat → Nat} {n0 : Nat} {bf : ab_B} : decode (ab_code (zx σ n0 bf).1 8038) 32 = .ok (.iaload, 1) := zd zm_8038 (by decide +kernel)
theorem d_8038_33 {σ : Nat → Nat} {n0 : Nat} {bf : ab_B} : decode (ab_code (zx σ n0 bf).1 8038) 33 = .ok (.istore_n 3, 1) := zd zm_8038 (by decide +kernel)
theorem d_8038_34 {σ : Nat → Nat} {n0 : Nat} {bf : ab_B} : decode (ab_code (zx σ n0 bf).1 8038) 34 = .ok (.aload_n 0, 1) := zd zm_8038 (by decide +kernel)
theorem d_8038_35 {σ : Nat → Nat} {n0 : Nat} {bf : ab_B} : decode (ab_code (zx σ n0 bf).1 8038) 35 = .ok (.getfield 191, 3) := zd zm_8038 (by decide +kernel)
theorem d_8038_38 {σ : Nat → Nat} {n0 : Nat} {bf : ab_B} : decode (ab_code (zx σ n0 bf).1 8038) 38 = .ok (.aload_n 0, 1) := zd zm_8038 (by decide +kernel)
theorem d_8038_39 {σ : Nat → Nat} {n0 : Nat} {bf : ab_B} : decode (ab_code (zx σ n0 bf).1 8038) 39 = .ok (.getfield 653, 3) := zd zm_8038 (by decide +kernel)
theorem d_8038_42 {σ : Nat → Nat} {n0 : Nat} {bf : ab_B} : decode (ab_code (zx σ n0 bf).1 8038) 42 = .ok (.iaload, 1) := zd zm_8038 (by decide +kernel)
theorem d_8038_43 {σ : Nat → Nat} {n0 : Nat} {bf : ab_B} : decode (ab_code (zx σ n0 bf).1 8038) 43 = .ok (.istore 4, 2) := zd zm_8038 (by decide +kernel)
theorem d_8038_45 {σ : Nat → Nat} {n0 : Nat} {bf : ab_B} : decode (ab_code (zx σ n0 bf).1 8038) 45 = .ok (.aload_n 0, 1) := zd zm_8038 (by decide +kernel)
theorem d_8038_46 {σ : Nat → Nat} {n0 : Nat} {bf : ab_B} : decode (ab_code (zx σ n0 bf).1 8038) 46 = .ok (.getfield 197, 3) := zd zm_8038 (by decide +kernel)
theorem d_8038_49 {σ : Nat → Nat} {n0 : Nat} {bf : ab_B} : decode (ab_code (zx σ n0 bf).1 8038) 49 = .ok (.aload_n 0, 1) := zd zm_8038 (by decide +kernel)
theorem d_8038_50 {σ : Nat → Nat} {n0 : Nat} {bf : ab_B} : decode (ab_code (zx σ n0 bf).1 8038) 50 = .ok (.getfield 653, 3) := zd zm_8038 (by decide +kernel)
theorem d_8038_53 {σ : Nat → Nat} {n0 : Nat} {bf : ab_B} : decode (ab_code (zx σ n0 bf).1 8038) 53 = .ok (.iconst 1, 1) := zd zm_8038 (by decide +kernel)
theorem d_8038_54 {σ : Nat → Nat} {n0 : Nat} {bf : ab_B} : decode (ab_code (zx σ n0 bf).1 8038) 54 = .ok (.isub, 1) := zd zm_8038 (by decide +kernel)
theorem d_8038_55 {σ : Nat → Nat} {n0 : Nat} {bf : ab_B} : decode (ab_code (zx σ n0 bf).1 8038) 55 = .ok (.baload, 1) := zd zm_8038 (by decide +kernel)
theorem d_8038_56 {σ : Nat → Nat} {n0 : Nat} {bf : ab_B} : decode (ab_code (zx σ n0 bf).1 8038) 56 = .ok (.ifCond .eq 19, 3) := zd zm_8038 (by decide +kernel)
theorem d_8038_59 {σ : Nat → Nat} {n0 : Nat} {bf : ab_B} : decode (ab_code (zx σ n0 bf).1 8038) 59 = .ok (.aload_n 0, 1) := zd zm_8038 (by decide +kernel)
theorem d_8038_60 {σ : Nat → Nat} {n0 : Nat} {bf : ab_B} : decode (ab_code (zx σ n0 bf).1 8038) 60 = .ok (.getfield 197, 3) := zd zm_8038 (by decide +kernel)
theorem d_8038_63 {σ : Nat → Nat} {n0 : Nat} {bf : ab_B} : decode (ab_code (zx σ n0 bf).1 8038) 63 = .ok (.aload_n 0, 1) := zd zm_8038 (by decide +kernel)
theorem d_8038_64 {σ : Nat → Nat} {n0 : Nat} {bf : ab_B} : decode (ab_code (zx σ n0 bf).1 8038) 64 = .ok (.getfield 653, 3) := zd zm_8038 (by decide +kernel)
theorem d_8038_67 {σ : Nat → Nat} {n0 : Nat} {bf : ab_B} : decode (ab_code (zx σ n0 bf).1 8038) 67 = .ok (.baload, 1) := zd zm_8038 (by decide +kernel)
theorem d_8038_68 {σ : Nat → Nat} {n0 : Nat} {bf : ab_B} : decode (ab_code (zx σ n0 bf).1 8038) 68 = .ok (.ifCond .eq 7, 3) := zd zm_8038 (by decide +kernel)
theorem d_8038_71 {σ : Nat → Nat} {n0 : Nat} {bf : ab_B} : decode (ab_code (zx σ n0 bf).1 8038) 71 = .ok (.iconst 1, 1) := zd zm_8038 (by decide +kernel)
theorem d_8038_72 {σ : Nat → Nat} {n0 : Nat} {bf : ab_B} : decode (ab_code (zx σ n0 bf).1 8038) 72 = .ok (.goto 4, 3) := zd zm_8038 (by decide +kernel)
theorem d_8038_75 {σ : Nat → Nat} {n0 : Nat} {bf : ab_B} : decode (ab_code (zx σ n0 bf).1 8038) 75 = .ok (.iconst 0, 1) := zd zm_8038 (by decide +kernel)
theorem d_8038_76 {σ : Nat → Nat} {n0 : Nat} {bf : ab_B} : decode (ab_code (zx σ n0 bf).1 8038) 76 = .ok (.istore 5, 2) := zd zm_8038 (by decide +kernel)
theorem d_8038_78 {σ : Nat → Nat} {n0 : Nat} {bf : ab_B} : decode (ab_code (zx σ n0 bf).1 8038) 78 = .ok (.iload_n 1, 1) := zd zm_8038 (by decide +kernel)
theorem d_8038_79 {σ : Nat → Nat} {n0 : Nat} {bf : ab_B} : decode (ab_code (zx σ n0 bf).1 8038) 79 = .ok (.bipush 99, 2) := zd zm_8038 (by decide +kernel)
theorem d_8038_81 {σ : Nat → Nat} {n0 : Nat} {bf : ab_B} : decode (ab_code (zx σ n0 bf).1 8038) 81 = .ok (.if_icmp .ne 68, 3) := zd zm_8038 (by decide +kernel)
theorem d_8038_84 {σ : Nat → Nat} {n0 : Nat} {bf : ab_B} : decode (ab_code (zx σ n0 bf).1 8038) 84 = .ok (.aload_n 0, 1) := zd zm_8038 (by decide +kernel)
theorem d_8038_85 {σ : Nat → Nat} {n0 : Nat} {bf : ab_B} : decode (ab_code (zx σ n0 bf).1 8038) 85 = .ok (.iload_n 3, 1) := zd zm_8038 (by decide +kernel)
theorem d_8038_86 {σ : Nat → Nat} {n0 : Nat} {bf : ab_B} : decode (ab_code (zx σ n0 bf).1 8038) 86 = .ok (.invokevirtual 564, 3) := zd zm_8038 (by decide +kernel)
theorem d_8038_89 {σ : Nat → Nat} {n0 : Nat} {bf : ab_B} : decode (ab_code (zx σ n0 bf).1 8038) 89 = .ok (.ifCond .eq 38, 3) := zd zm_8038 (by decide +kernel)
theorem d_8038_92 {σ : Nat → Nat} {n0 : Nat} {bf : ab_B} : decode (ab_code (zx σ n0 bf).1 8038) 92 = .ok (.aload_n 0, 1) := zd zm_8038 (by decide +kernel)
theorem d_8038_93 {σ : Nat → Nat} {n0 : Nat} {bf : ab_B} : decode (ab_code (zx σ n0 bf).1 8038) 93 = .ok (.getfield 90, 3) := zd zm_8038 (by decide +kernel)
theorem d_8038_96 {σ : Nat → Nat} {n0 : Nat} {bf : ab_B} : decode (ab_code (zx σ n0 bf).1 8038) 96 = .ok (.iload 4, 2) := zd zm_8038 (by decide +kernel)
theorem d_8038_98 {σ : Nat → Nat} {n0 : Nat} {bf : ab_B} : decode (ab_code (zx σ n0 bf).1 8038) 98 = .ok (.baload, 1) := zd zm_8038 (by decide +kernel)
theorem d_8038_99 {σ : Nat → Nat} {n0 : Nat} {bf : ab_B} : decode (ab_code (zx σ n0 bf).1 8038) 99 = .ok (.bipush 13, 2) := zd zm_8038 (by decide +kernel)
theorem d_8038_101 {σ : Nat → Nat} {n0 : Nat} {bf : ab_B} : decode (ab_code (zx σ n0 bf).1 8038) 101 = .ok (.if_icmp .eq 31, 3) := zd zm_8038 (by decide +kernel)
theorem d_8038_104 {σ : Nat → Nat} {n0 : Nat} {bf : ab_B} : decode (ab_code (zx σ n0 bf).1 8038) 104 = .ok (.aload_n 0, 1) := zd zm_8038 (by decide +kernel)
theorem d_8038_105 {σ : Nat → Nat} {n0 : Nat} {bf : ab_B} : decode (ab_code (zx σ n0 bf).1 8038) 105 = .ok (.iload 4, 2) := zd zm_8038 (by decide +kernel)
theorem d_8038_107 {σ : Nat → Nat} {n0 : Nat} {bf : ab_B} : decode (ab_code (zx σ n0 bf).1 8038) 107 = .ok (.invokevirtual 567, 3) := zd zm_8038 (by decide +kernel)
theorem d_8038_110 {σ : Nat → Nat} {n0 : Nat} {bf : ab_B} : decode (ab_code (zx σ n0 bf).1 8038) 110 = .ok (.ifCond .eq 17, 3) := zd zm_8038 (by decide +kernel)
theorem d_8038_113 {σ : Nat → Nat} {n0 : Nat} {bf : ab_B} : decode (ab_code (zx σ n0 bf).1 8038) 113 = .ok (.aload_n 0, 1) := zd zm_8038 (by decide +kernel)
theorem d_8038_114 {σ : Nat → Nat} {n0 : Nat} {bf : ab_B} : decode (ab_code (zx σ n0 bf).1 8038) 114 = .ok (.iload 4, 2) := zd zm_8038 (by decide +kernel)
theorem d_8038_116 {σ : Nat → Nat} {n0 : Nat} {bf : ab_B} : decode (ab_code (zx σ n0 bf).1 8038) 116 = .ok (.invokevirtual 570, 3) := zd zm_8038 (by decide +kernel)
theorem d_8038_119 {σ : Nat → Nat} {n0 : Nat} {bf : ab_B} : decode (ab_code (zx σ n0 bf).1 8038) 119 = .ok (.aload_n 0, 1) := zd zm_8038 (by decide +kernel)
theorem d_8038_120 {σ : Nat → Nat} {n0 : Nat} {bf : ab_B} : decode (ab_code (zx σ n0 bf).1 8038) 120 = .ok (.iload_n 3, 1) := zd zm_8038 (by decide +kernel)
theorem d_8038_121 {σ : Nat → Nat} {n0 : Nat} {bf : ab_B} : decode (ab_code (zx σ n0 bf).1 8038) 121 = .ok (.invokevirtual 561, 3) := zd zm_8038 (by decide +kernel)
theorem d_8038_124 {σ : Nat → Nat} {n0 : Nat} {bf : ab_B} : decode (ab_code (zx σ n0 bf).1 8038) 124 = .ok (.if_icmp .eq 8, 3) := zd zm_8038 (by decide +kernel)
theorem d_8038_127 {σ : Nat → Nat} {n0 : Nat} {bf : ab_B} : decode (ab_code (zx σ n0 bf).1 8038) 127 = .ok (.aload_n 0, 1) := zd zm_8038 (by decide +kernel)
theorem d_8038_128 {σ : Nat → Nat} {n0 : Nat} {bf : ab_B} : decode (ab_code (zx σ n0 bf).1 8038) 128 = .ok (.iconst 5, 1) := zd zm_8038 (by decide +kernel)
theorem d_8038_129 {σ : Nat → Nat} {n0 : Nat} {bf : ab_B} : decode (ab_code (zx σ n0 bf).1 8038) 129 = .ok (.invokevirtual 541, 3) := zd zm_8038 (by decide +kernel)
theorem d_8038_132 {σ : Nat → Nat} {n0 : Nat} {bf : ab_B} : decode (ab_code (zx σ n0 bf).1 8038) 132 = .ok (.aload_n 0, 1) := zd zm_8038 (by decide +kernel)
theorem d_8038_133 {σ : Nat → Nat} {n0 : Nat} {bf : ab_B} : decode (ab_code (zx σ n0 bf).1 8038) 133 = .ok (.bipush 54, 2) := zd zm_8038 (by decide +kernel)
theorem d_8038_135 {σ : Nat → Nat} {n0 : Nat} {bf : ab_B} : decode (ab_code (zx σ n0 bf).1 8038) 135 = .ok (.iconst 0, 1) := zd zm_8038 (by decide +kernel)
theorem d_8038_136 {σ : Nat → Nat} {n0 : Nat} {bf : ab_B} : decode (ab_code (zx σ n0 bf).1 8038) 136 = .ok (.iconst 0, 1) := zd zm_8038 (by decide +kernel)
theorem d_8038_137 {σ : Nat → Nat} {n0 : Nat} {bf : ab_B} : decode (ab_code (zx σ n0 bf).1 8038) 137 = .ok (.iload_n 2, 1) := zd zm_8038 (by decide +kernel)
theorem d_8038_138 {σ : Nat → Nat} {n0 : Nat} {bf : ab_B} : decode (ab_code (zx σ n0 bf).1 8038) 138 = .ok (.invokevirtual 656, 3) := zd zm_8038 (by decide +kernel)
theorem d_8038_141 {σ : Nat → Nat} {n0 : Nat} {bf : ab_B} : decode (ab_code (zx σ n0 bf).1 8038) 141 = .ok (.istore 6, 2) := zd zm_8038 (by decide +kernel)
theorem d_8038_143 {σ : Nat → Nat} {n0 : Nat} {bf : ab_B} : decode (ab_code (zx σ n0 bf).1 8038) 143 = .ok (.iconst 0, 1) := zd zm_8038 (by decide +kernel)
theorem d_8038_144 {σ : Nat → Nat} {n0 : Nat} {bf : ab_B} : decode (ab_code (zx σ n0 bf).1 8038) 144 = .ok (.istore 5, 2) := zd zm_8038 (by decide +kernel)
theorem d_8038_146 {σ : Nat → Nat} {n0 : Nat} {bf : ab_B} : decode (ab_code (zx σ n0 bf).1 8038) 146 = .ok (.goto 203, 3) := zd zm_8038 (by decide +kernel)
theorem d_8038_149 {σ : Nat → Nat} {n0 : Nat} {bf : ab_B} : decode (ab_code (zx σ n0 bf).1 8038) 149 = .ok (.aload_n 0, 1) := zd zm_8038 (by decide +kernel)
theorem d_8038_150 {σ : Nat → Nat} {n0 : Nat} {bf : ab_B} : decode (ab_code (zx σ n0 bf).1 8038) 150 = .ok (.iload_n 3, 1) := zd zm_8038 (by decide +kernel)
theorem d_8038_151 {σ : Nat → Nat} {n0 : Nat} {bf : ab_B} : decode (ab_code (zx σ n0 bf).1 8038) 151 = .ok (.invokevirtual 564, 3) := zd zm_8038 (by decide +kernel)
theorem d_8038_154 {σ : Nat → Nat} {n0 : Nat} {bf : ab_B} : decode (ab_code (zx σ n0 bf).1 8038) 154 = .ok (.ifCond .eq 42, 3) := zd zm_8038 (by decide +kernel)
theorem d_8038_157 {σ : Nat → Nat} {n0 : Nat} {bf : ab_B} : decode (ab_code (zx σ n0 bf).1 8038) 157 = .ok (.aload_n 0, 1) := zd zm_8038 (by decide +kernel)
theorem d_8038_158 {σ : Nat → Nat} {n0 : Nat} {bf : ab_B} : decode (ab_code (zx σ n0 bf).1 8038) 158 = .ok (.iload 4, 2) := zd zm_8038 (by decide +kernel)
theorem d_8038_160 {σ : Nat → Nat} {n0 : Nat} {bf : ab_B} : decode (ab_code (zx σ n0 bf).1 8038) 160 = .ok (.invokevirtual 564, 3) := zd zm_8038 (by decide +kernel)
theorem d_8038_163 {σ : Nat → Nat} {n0 : Nat} {bf : ab_B} : decode (ab_code (zx σ n0 bf).1 8038) 163 = .ok (.ifCond .eq 33, 3) := zd zm_8038 (by decide +kernel)
theorem d_8038_166 {σ : Nat → Nat} {n0 : Nat} {bf : ab_B} : decode (ab_code (zx σ n0 bf).1 8038) 166 = .ok (.aload_n 0, 1) := zd zm_8038 (by decide +kernel)
theorem d_8038_167 {σ : Nat → Nat} {n0 : Nat} {bf : ab_B} : decode (ab_code (zx σ n0 bf).1 8038) 167 = .ok (.iload_n 3, 1) := zd zm_8038 (by decide +kernel)
theorem d_8038_168 {σ : Nat → Nat} {n0 : Nat} {bf : ab_B} : decode (ab_code (zx σ n0 bf).1 8038) 168 = .ok (.invokevirtual 561, 3) := zd zm_8038 (by decide +kernel)
theorem d_8038_171 {σ : Nat → Nat} {n0 : Nat} {bf : ab_B} : decode (ab_code (zx σ n0 bf).1 8038) 171 = .ok (.aload_n 0, 1) := zd zm_8038 (by decide +kernel)
theorem d_8038_172 {σ : Nat → Nat} {n0 : Nat} {bf : ab_B} : decode (ab_code (zx σ n0 bf).1 8038) 172 = .ok (.iload 4, 2) := zd zm_8038 (by decide +kernel)
theorem d_8038_174 {σ : Nat → Nat} {n0 : Nat} {bf : ab_B} : decode (ab_code (zx σ n0 bf).1 8038) 174 = .ok (.invokevirtual 561, 3) := zd zm_8038 (by decide +kernel)
theorem d_8038_177 {σ : Nat → Nat} {n0 : Nat} {bf : ab_B} : decode (ab_code (zx σ n0 bf).1 8038) 177 = .ok (.if_icmp .ne 19, 3) := zd zm_8038 (by decide +kernel)
theorem d_8038_180 {σ : Nat → Nat} {n0 : Nat} {bf : ab_B} : decode (ab_code (zx σ n0 bf).1 8038) 180 = .ok (.aload_n 0, 1) := zd zm_8038 (by decide +kernel)
theorem d_8038_181 {σ : Nat → Nat} {n0 : Nat} {bf : ab_B} : decode (ab_code (zx σ n0 bf).1 8038) 181 = .ok (.bipush 20, 2) := zd zm_8038 (by decide +kernel)
theorem d_8038_183 {σ : Nat → Nat} {n0 : Nat} {bf : ab_B} : decode (ab_code (zx σ n0 bf).1 8038) 183 = .ok (.iload_n 1, 1) := zd zm_8038 (by decide +kernel)
theorem d_8038_184 {σ : Nat → Nat} {n0 : Nat} {bf : ab_B} : decode (ab_code (zx σ n0 bf).1 8038) 184 = .ok (.iadd, 1) := zd zm_8038 (by decide +kernel)
theorem d_8038_185 {σ : Nat → Nat} {n0 : Nat} {bf : ab_B} : decode (ab_code (zx σ n0 bf).1 8038) 185 = .ok (.iconst 0, 1) := zd zm_8038 (by decide +kernel)
theorem d_8038_186 {σ : Nat → Nat} {n0 : Nat} {bf : ab_B} : decode (ab_code (zx σ n0 bf).1 8038) 186 = .ok (.iconst 0, 1) := zd zm_8038 (by decide +kernel)
theorem d_8038_187 {σ : Nat → Nat} {n0 : Nat} {bf : ab_B} : decode (ab_code (zx σ n0 bf).1 8038) 187 = .ok (.iload_n 2, 1) := zd zm_8038 (by decide +kernel)
theorem d_8038_188 {σ : Nat → Nat} {n0 : Nat} {bf : ab_B} : decode (ab_code (zx σ n0 bf).1 8038) 188 = .ok (.invokevirtual 656, 3) := zd zm_8038 (by decide +kernel)
theorem d_8038_191 {σ : Nat → Nat} {n0 : Nat} {bf : ab_B} : decode (ab_code (zx σ n0 bf).1 8038) 191 = .ok (.istore 6, 2) := zd zm_8038 (by decide +kernel)
theorem d_8038_193 {σ : Nat → Nat} {n0 : Nat} {bf : ab_B} : decode (ab_code (zx σ n0 bf).1 8038) 193 = .ok (.goto 156, 3) := zd zm_8038 (by decide +kernel)
theorem d_8038_196 {σ : Nat → Nat} {n0 : Nat} {bf : ab_B} : decode (ab_code (zx σ n0 bf).1 8038) 196 = .ok (.aload_n 0, 1) := zd zm_8038 (by decide +kernel)
theorem d_8038_197 {σ : Nat → Nat} {n0 : Nat} {bf : ab_B} : decode (ab_code (zx σ n0 bf).1 8038) 197 = .ok (.iload_n 3, 1) := zd zm_8038 (by decide +kernel)
theorem d_8038_198 {σ : Nat → Nat} {n0 : Nat} {bf : ab_B} : decode (ab_code (zx σ n0 bf).1 8038) 198 = .ok (.invokevirtual 673, 3) := zd zm_8038 (by decide +kernel)
theorem d_8038_201 {σ : Nat → Nat} {n0 : Nat} {bf : ab_B} : decode (ab_code (zx σ n0 bf).1 8038) 201 = .ok (.ifCond .eq 69, 3) := zd zm_8038 (by decide +kernel)
theorem d_8038_204 {σ : Nat → Nat} {n0 : Nat} {bf : ab_B} : decode (ab_code (zx σ n0 bf).1 8038) 204 = .ok (.aload_n 0, 1) := zd zm_8038 (by decide +kernel)
theorem d_8038_205 {σ : Nat → Nat} {n0 : Nat} {bf : ab_B} : decode (ab_code (zx σ n0 bf).1 8038) 205 = .ok (.iload 4, 2) := zd zm_8038 (by decide +kernel)
theorem d_8038_207 {σ : Nat → Nat} {n0 : Nat} {bf : ab_B} : decode (ab_code (zx σ n0 bf).1 8038) 207 = .ok (.invokevirtual 673, 3) := zd zm_8038 (by decide +kernel)
theorem d_8038_210 {σ : Nat → Nat} {n0 : Nat} {bf : ab_B} : decode (ab_code (zx σ n0 bf).1 8038) 210 = .ok (.ifCond .eq 60, 3) := zd zm_8038 (by decide +kernel)
theorem d_8038_213 {σ : Nat → Nat} {n0 : Nat} {bf : ab_B} : decode (ab_code (zx σ n0 bf).1 8038) 213 = .ok (.aload_n 0, 1) := zd zm_8038 (by decide +kernel)
theorem d_8038_214 {σ : Nat → Nat} {n0 : Nat} {bf : ab_B} : decode (ab_code (zx σ n0 bf).1 8038) 214 = .ok (.iload_n 3, 1) := zd zm_8038 (by decide +kernel)
theorem d_8038_215 {σ : Nat → Nat} {n0 : Nat} {bf : ab_B} : decode (ab_code (zx σ n0 bf).1 8038) 215 = .ok (.invokevirtual 676, 3) := zd zm_8038 (by decide +kernel)
theorem d_8038_218 {σ : Nat → Nat} {n0 : Nat} {bf : ab_B} : decode (ab_code (zx σ n0 bf).1 8038) 218 = .ok (.ifCond .ne 7, 3) := zd zm_8038 (by decide +kernel)
theorem d_8038_221 {σ : Nat → Nat} {n0 : Nat} {bf : ab_B} : decode (ab_code (zx σ n0 bf).1 8038) 221 = .ok (.aload_n 0, 1) := zd zm_8038 (by decide +kernel)
theorem d_8038_222 {σ : Nat → Nat} {n0 : Nat} {bf : ab_B} : decode (ab_code (zx σ n0 bf).1 8038) 222 = .ok (.invokevirtual 679, 3) := zd zm_8038 (by decide +kernel)
theorem d_8038_225 {σ : Nat → Nat} {n0 : Nat} {bf : ab_B} : decode (ab_code (zx σ n0 bf).1 8038) 225 = .ok (.aload_n 0, 1) := zd zm_8038 (by decide +kernel)
theorem d_8038_226 {σ : Nat → Nat} {n0 : Nat} {bf : ab_B} : decode (ab_code (zx σ n0 bf).1 8038) 226 = .ok (.iload 4, 2) := zd zm_8038 (by decide +kernel)
theorem d_8038_228 {σ : Nat → Nat} {n0 : Nat} {bf : ab_B} : decode (ab_code (zx σ n0 bf).1 8038) 228 = .ok (.invokevirtual 676, 3) := zd zm_8038 (by decide +kernel)
theorem d_8038_231 {σ : Nat → Nat} {n0 : Nat} {bf : ab_B} : decode (ab_code (zx σ n0 bf).1 8038) 231 = .ok (.ifCond .ne 22, 3) := zd zm_8038 (by decide +kernel)
theorem d_8038_234 {σ : Nat → Nat} {n0 : Nat} {bf : ab_B} : decode (ab_code (zx σ n0 bf).1 8038) 234 = .ok (.aload_n 0, 1) := zd zm_8038 (by decide +kernel)
theorem d_8038_235 {σ : Nat → Nat} {n0 : Nat} {bf : ab_B} : decode (ab_code (zx σ n0 bf).1 8038) 235 = .ok (.bipush 10, 2) := zd zm_8038 (by decide +kernel)
theorem d_8038_237 {σ : Nat → Nat} {n0 : Nat} {bf : ab_B} : decode (ab_code (zx σ n0 bf).1 8038) 237 = .ok (.iconst 0, 1) := zd zm_8038 (by decide +kernel)
theorem d_8038_238 {σ : Nat → Nat} {n0 : Nat} {bf : ab_B} : decode (ab_code (zx σ n0 bf).1 8038) 238 = .ok (.iconst 0, 1) := zd zm_8038 (by decide +kernel)
theorem d_8038_239 {σ : Nat → Nat} {n0 : Nat} {bf : ab_B} : decode (ab_code (zx σ n0 bf).1 8038) 239 = .ok (.aload_n 0, 1) := zd zm_8038 (by decide +kernel)
theorem d_8038_240 {σ : Nat → Nat} {n0 : Nat} {bf : ab_B} : decode (ab_code (zx σ n0 bf).1 8038) 240 = .ok (.getfield 206, 3) := zd zm_8038 (by decide +kernel)
theorem d_8038_243 {σ : Nat → Nat} {n0 : Nat} {bf : ab_B} : decode (ab_code (zx σ n0 bf).1 8038) 243 = .ok (.aload_n 0, 1) := zd zm_8038 (by decide +kernel)
theorem d_8038_244 {σ : Nat → Nat} {n0 : Nat} {bf : ab_B} : decode (ab_code (zx σ n0 bf).1 8038) 244 = .ok (.getfield 653, 3) := zd zm_8038 (by decide +kernel)
theorem d_8038_247 {σ : Nat → Nat} {n0 : Nat} {bf : ab_B} : decode (ab_code (zx σ n0 bf).1 8038) 247 = .ok (.iaload, 1) := zd zm_8038 (by decide +kernel)
theorem d_8038_248 {σ : Nat → Nat} {n0 : Nat} {bf : ab_B} : decode (ab_code (zx σ n0 bf).1 8038) 248 = .ok (.invokevirtual 656, 3) := zd zm_8038 (by decide +kernel)
theorem d_8038_251 {σ : Nat → Nat} {n0 : Nat} {bf : ab_B} : decode (ab_code (zx σ n0 bf).1 8038) 251 = .ok (.istore 6, 2) := zd zm_8038 (by decide +kernel)
theorem d_8038_253 {σ : Nat → Nat} {n0 : Nat} {bf : ab_B} : decode (ab_code (zx σ n0 bf).1 8038) 253 = .ok (.aload_n 0, 1) := zd zm_8038 (by decide +kernel)
theorem d_8038_254 {σ : Nat → Nat} {n0 : Nat} {bf : ab_B} : decode (ab_code (zx σ n0 bf).1 8038) 254 = .ok (.bipush 58, 2) := zd zm_8038 (by decide +kernel)
theorem d_8038_256 {σ : Nat → Nat} {n0 : Nat} {bf : ab_B} : decode (ab_code (zx σ n0 bf).1 8038) 256 = .ok (.iload_n 1, 1) := zd zm_8038 (by decide +kernel)
theorem d_8038_257 {σ : Nat → Nat} {n0 : Nat} {bf : ab_B} : decode (ab_code (zx σ n0 bf).1 8038) 257 = .ok (.iconst 0, 1) := zd zm_8038 (by decide +kernel)
theorem d_8038_258 {σ : Nat → Nat} {n0 : Nat} {bf : ab_B} : decode (ab_code (zx σ n0 bf).1 8038) 258 = .ok (.iload_n 2, 1) := zd zm_8038 (by decide +kernel)
theorem d_8038_259 {σ : Nat → Nat} {n0 : Nat} {bf : ab_B} : decode (ab_code (zx σ n0 bf).1 8038) 259 = .ok (.invokevirtual 656, 3) := zd zm_8038 (by decide +kernel)
theorem d_8038_262 {σ : Nat → Nat} {n0 : Nat} {bf : ab_B} : decode (ab_code (zx σ n0 bf).1 8038) 262 = .ok (.istore 6, 2) := zd zm_8038 (by decide +kernel)
theorem d_8038_264 {σ : Nat → Nat} {n0 : Nat} {bf : ab_B} : decode (ab_code (zx σ n0 bf).1 8038) 264 = .ok (.iconst 0, 1) := zd zm_8038 (by decide +kernel)
theorem d_8038_265 {σ : Nat → Nat} {n0 : Nat} {bf : ab_B} : decode (ab_code (zx σ n0 bf).1 8038) 265 = .ok (.istore 5, 2) := zd zm_8038 (by decide +kernel)
theorem d_8038_267 {σ : Nat → Nat} {n0 : Nat} {bf : ab_B} : decode (ab_code (zx σ n0 bf).1 8038) 267 = .ok (.goto 82, 3) := zd zm_8038 (by decide +kernel)
theorem d_8038_270 {σ : Nat → Nat} {n0 : Nat} {bf : ab_B} : decode (ab_code (zx σ n0 bf).1 8038) 270 = .ok (.aload_n 0, 1) := zd zm_8038 (by decide +kernel)
theorem d_8038_271 {σ : Nat → Nat} {n0 : Nat} {bf : ab_B} : decode (ab_code (zx σ n0 bf).1 8038) 271 = .ok (.iload_n 3, 1) := zd zm_8038 (by decide +kernel)
theorem d_8038_272 {σ : Nat → Nat} {n0 : Nat} {bf : ab_B} : decode (ab_code (zx σ n0 bf).1 8038) 272 = .ok (.iload 4, 2) := zd zm_8038 (by decide +kernel)
theorem d_8038_274 {σ : Nat → Nat} {n0 : Nat} {bf : ab_B} : decode (ab_code (zx σ n0 bf).1 8038) 274 = .ok (.invokevirtual 682, 3) := zd zm_8038 (by decide +kernel)
theorem d_8038_277 {σ : Nat → Nat} {n0 : Nat} {bf : ab_B} : decode (ab_code (zx σ n0 bf).1 8038) 277 = .ok (.ifCond .eq 32, 3) := zd zm_8038 (by decide +kernel)
theorem d_8038_280 {σ : Nat → Nat} {n0 : Nat} {bf : ab_B} : decode (ab_code (zx σ n0 bf).1 8038) 280 = .ok (.iload_n 1, 1) := zd zm_8038 (by decide +kernel)
theorem d_8038_281 {σ : Nat → Nat} {n0 : Nat} {bf : ab_B} : decode (ab_code (zx σ n0 bf).1 8038) 281 = .ok (.bipush 14, 2) := zd zm_8038 (by decide +kernel)
theorem d_8038_283 {σ : Nat → Nat} {n0 : Nat} {bf : ab_B} : decode (ab_code (zx σ n0 bf).1 8038) 283 = .ok (.if_icmp .eq 26, 3) := zd zm_8038 (by decide +kernel)
theorem d_8038_286 {σ : Nat → Nat} {n0 : Nat} {bf : ab_B} : decode (ab_code (zx σ n0 bf).1 8038) 286 = .ok (.iload_n 1, 1) := zd zm_8038 (by decide +kernel)
theorem d_8038_287 {σ : Nat → Nat} {n0 : Nat} {bf : ab_B} : decode (ab_code (zx σ n0 bf).1 8038) 287 = .ok (.bipush 15, 2) := zd zm_8038 (by decide +kernel)
theorem d_8038_289 {σ : Nat → Nat} {n0 : Nat} {bf : ab_B} : decode (ab_code (zx σ n0 bf).1 8038) 289 = .ok (.if_icmp .eq 20, 3) := zd zm_8038 (by decide +kernel)
theorem d_8038_292 {σ : Nat → Nat} {n0 : Nat} {bf : ab_B} : decode (ab_code (zx σ n0 bf).1 8038) 292 = .ok (.aload_n 0, 1) := zd zm_8038 (by decide +kernel)
theorem d_8038_293 {σ : Nat → Nat} {n0 : Nat} {bf : ab_B} : decode (ab_code (zx σ n0 bf).1 8038) 293 = .ok (.bipush 53, 2) := zd zm_8038 (by decide +kernel)
theorem d_8038_295 {σ : Nat → Nat} {n0 : Nat} {bf : ab_B} : decode (ab_code (zx σ n0 bf).1 8038) 295 = .ok (.iload_n 1, 1) := zd zm_8038 (by decide +kernel)
theorem d_8038_296 {σ : Nat → Nat} {n0 : Nat} {bf : ab_B} : decode (ab_code (zx σ n0 bf).1 8038) 296 = .ok (.iconst 0, 1) := zd zm_8038 (by decide +kernel)
theorem d_8038_297 {σ : Nat → Nat} {n0 : Nat} {bf : ab_B} : decode (ab_code (zx σ n0 bf).1 8038) 297 = .ok (.iload_n 2, 1) := zd zm_8038 (by decide +kernel)
theorem d_8038_298 {σ : Nat → Nat} {n0 : Nat} {bf : ab_B} : decode (ab_code (zx σ n0 bf).1 8038) 298 = .ok (.invokevirtual 656, 3) := zd zm_8038 (by decide +kernel)
theorem d_8038_301 {σ : Nat → Nat} {n0 : Nat} {bf : ab_B} : decode (ab_code (zx σ n0 bf).1 8038) 301 = .ok (.istore 6, 2) := zd zm_8038 (by decide +kernel)
theorem d_8038_303 {σ : Nat → Nat} {n0 : Nat} {bf : ab_B} : decode (ab_code (zx σ n0 bf).1 8038) 303 = .ok (.iconst 0, 1) := zd zm_8038 (by decide +kernel)
theorem d_8038_304 {σ : Nat → Nat} {n0 : Nat} {bf : ab_B} : decode (ab_code (zx σ n0 bf).1 8038) 304 = .ok (.istore 5, 2) := zd zm_8038 (by decide +kernel)
theorem d_8038_306 {σ : Nat → Nat} {n0 : Nat} {bf : ab_B} : decode (ab_code (zx σ n0 bf).1 8038) 306 = .ok (.goto 43, 3) := zd zm_8038 (by decide +kernel)
theorem d_8038_309 {σ : Nat → Nat} {n0 : Nat} {bf : ab_B} : decode (ab_code (zx σ n0 bf).1 8038) 309 = .ok (.aload_n 0, 1) := zd zm_8038 (by decide +kernel)
theorem d_8038_310 {σ : Nat → Nat} {n0 : Nat} {bf : ab_B} : decode (ab_code (zx σ n0 bf).1 8038) 310 = .ok (.iload_n 3, 1) := zd zm_8038 (by decide +kernel)
theorem d_8038_311 {σ : Nat → Nat} {n0 : Nat} {bf : ab_B} : decode (ab_code (zx σ n0 bf).1 8038) 311 = .ok (.iload 4, 2) := zd zm_8038 (by decide +kernel)
theorem d_8038_313 {σ : Nat → Nat} {n0 : Nat} {bf : ab_B} : decode (ab_code (zx σ n0 bf).1 8038) 313 = .ok (.invokevirtual 686, 3) := zd zm_8038 (by decide +kernel)
theorem d_8038_316 {σ : Nat → Nat} {n0 : Nat} {bf : ab_B} : decode (ab_code (zx σ n0 bf).1 8038) 316 = .ok (.ifCond .eq 28, 3) := zd zm_8038 (by decide +kernel)
theorem d_8038_319 {σ : Nat → Nat} {n0 : Nat} {bf : ab_B} : decode (ab_code (zx σ n0 bf).1 8038) 319 = .ok (.iload_n 1, 1) := zd zm_8038 (by decide +kernel)
theorem d_8038_320 {σ : Nat → Nat} {n0 : Nat} {bf : ab_B} : decode (ab_code (zx σ n0 bf).1 8038) 320 = .ok (.bipush 13, 2) := zd zm_8038 (by decide +kernel)
theorem d_8038_322 {σ : Nat → Nat} {n0 : Nat} {bf : ab_B} : decode (ab_code (zx σ n0 bf).1 8038) 322 = .ok (.if_icmp .gt 22, 3) := zd zm_8038 (by decide +kernel)
theorem d_8038_325 {σ : Nat → Nat} {n0 : Nat} {bf : ab_B} : decode (ab_code (zx σ n0 bf).1 8038) 325 = .ok (.aload_n 0, 1) := zd zm_8038 (by decide +kernel)
theorem d_8038_326 {σ : Nat → Nat} {n0 : Nat} {bf : ab_B} : decode (ab_code (zx σ n0 bf).1 8038) 326 = .ok (.bipush 20, 2) := zd zm_8038 (by decide +kernel)
theorem d_8038_328 {σ : Nat → Nat} {n0 : Nat} {bf : ab_B} : decode (ab_code (zx σ n0 bf).1 8038) 328 = .ok (.iload_n 1, 1) := zd zm_8038 (by decide +kernel)
theorem d_8038_329 {σ : Nat → Nat} {n0 : Nat} {bf : ab_B} : decode (ab_code (zx σ n0 bf).1 8038) 329 = .ok (.iadd, 1) := zd zm_8038 (by decide +kernel)
theorem d_8038_330 {σ : Nat → Nat} {n0 : Nat} {bf : ab_B} : decode (ab_code (zx σ n0 bf).1 8038) 330 = .ok (.iconst 0, 1) := zd zm_8038 (by decide +kernel)
theorem d_8038_331 {σ : Nat → Nat} {n0 : Nat} {bf : ab_B} : decode (ab_code (zx σ n0 bf).1 8038) 331 = .ok (.iconst 0, 1) := zd zm_8038 (by decide +kernel)
theorem d_8038_332 {σ : Nat → Nat} {n0 : Nat} {bf : ab_B} : decode (ab_code (zx σ n0 bf).1 8038) 332 = .ok (.iload_n 2, 1) := zd zm_8038 (by decide +kernel)
theorem d_8038_333 {σ : Nat → Nat} {n0 : Nat} {bf : ab_B} : decode (ab_code (zx σ n0 bf).1 8038) 333 = .ok (.invokevirtual 656, 3) := zd zm_8038 (by decide +kernel)
theorem d_8038_336 {σ : Nat → Nat} {n0 : Nat} {bf : ab_B} : decode (ab_code (zx σ n0 bf).1 8038) 336 = .ok (.istore 6, 2) := zd zm_8038 (by decide +kernel)
theorem d_8038_338 {σ : Nat → Nat} {n0 : Nat} {bf : ab_B} : decode (ab_code (zx σ n0 bf).1 8038) 338 = .ok (.iconst 0, 1) := zd zm_8038 (by decide +kernel)
theorem d_8038_339 {σ : Nat → Nat} {n0 : Nat} {bf : ab_B} : decode (ab_code (zx σ n0 bf).1 8038) 339 = .ok (.istore 5, 2) := zd zm_8038 (by decide +kernel)
theorem d_8038_341 {σ : Nat → Nat} {n0 : Nat} {bf : ab_B} : decode (ab_code (zx σ n0 bf).1 8038) 341 = .ok (.goto 8, 3) := zd zm_8038 (by decide +kernel)
theorem d_8038_344 {σ : Nat → Nat} {n0 : Nat} {bf : ab_B} : decode (ab_code (zx σ n0 bf).1 8038) 344 = .ok (.aload_n 0, 1) := zd zm_8038 (by decide +kernel)
theorem d_8038_345 {σ : Nat → Nat} {n0 : Nat} {bf : ab_B} : decode (ab_code (zx σ n0 bf).1 8038) 345 = .ok (.iconst 5, 1) := zd zm_8038 (by decide +kernel)
theorem d_8038_346 {σ : Nat → Nat} {n0 : Nat} {bf : ab_B} : decode (ab_code (zx σ n0 bf).1 8038) 346 = .ok (.invokevirtual 541, 3) := zd zm_8038 (by decide +kernel)
theorem d_8038_349 {σ : Nat → Nat} {n0 : Nat} {bf : ab_B} : decode (ab_code (zx σ n0 bf).1 8038) 349 = .ok (.aload_n 0, 1) := zd zm_8038 (by decide +kernel)
theorem d_8038_350 {σ : Nat → Nat} {n0 : Nat} {bf : ab_B} : decode (ab_code (zx σ n0 bf).1 8038) 350 = .ok (.iconst 2, 1) := zd zm_8038 (by decide +kernel)
theorem d_8038_351 {σ : Nat → Nat} {n0 : Nat} {bf : ab_B} : decode (ab_code (zx σ n0 bf).1 8038) 351 = .ok (.iload 5, 2) := zd zm_8038 (by decide +kernel)
theorem d_8038_353 {σ : Nat → Nat} {n0 : Nat} {bf : ab_B} : decode (ab_code (zx σ n0 bf).1 8038) 353 = .ok (.iload_n 2, 1) := zd zm_8038 (by decide +kernel)
theorem d_8038_354 {σ : Nat → Nat} {n0 : Nat} {bf : ab_B} : decode (ab_code (zx σ n0 bf).1 8038) 354 = .ok (.invokevirtual 689, 3) := zd zm_8038 (by decide +kernel)
theorem d_8038_357 {σ : Nat → Nat} {n0 : Nat} {bf : ab_B} : decode (ab_code (zx σ n0 bf).1 8038) 357 = .ok (.return_, 1) := zd zm_8038 (by decide +kernel)
def w_X9_related_349 (X : zs_X) (d : Nat) (p0 : Nat) (p2 : Int32) (p5 : Int32) (S : zs_T) (Q : zs_Q) : Prop :=
  (zs_K S p0 = some (.inl 8) ∧ zs_C X d 8049 [.ref p0, .int (2 : Int32), .int p5, .int p2] S (zs_kV (fun S2 => (Q (.returned none) S2)) Q))
theorem u_X9_related_349 {σ : Nat → Nat} {n0 : Nat} {bf : ab_B} {d : Nat} {p0 : Nat} {p2 : Int32} {p5 : Int32} {S : zs_T} {Q : zs_Q} (hB : zt_B bf) (h : w_X9_related_349 (zx σ n0 bf) d p0 p2 p5 S Q) : zs_U (zx σ n0 bf) d 8038 349 [(0, .ref p0), (2, .int p2), (5, .int p5)] [] S Q := by
  unfold w_X9_related_349 at h
  refine zu_aload_n d_8038_349 rfl (zs_ra _) ?_
  refine zu_iconst d_8038_350 zi_2 ?_
  refine zu_iload d_8038_351 rfl ?_
  refine zu_iload_n d_8038_353 rfl ?_
  obtain ⟨k1, h⟩ := h
  refine zc_8_689 (x0 := (2 : Int32)) (x1 := p5) (x2 := p2) hB rfl k1 d_8038_354 (Nat.le_of_ble_eq_true rfl) h (fun S2 h => ?_)
  exact zu_vret d_8038_357 zr_8038 h
def w_X9_related_344 (X : zs_X) (d : Nat) (p0 : Nat) (p2 : Int32) (p5 : Int32) (S : zs_T) (Q : zs_Q) : Prop :=
  (zs_K S p0 = some (.inl 8) ∧ zs_C X d 8027 [.ref p0, .int (5 : Int32)] S (zs_kV (fun S2 => w_X9_related_349 X d p0 p2 p5 S2 Q) Q))
theorem u_X9_related_344 {σ : Nat → Nat} {n0 : Nat} {bf : ab_B} {d : Nat} {p0 : Nat} {p2 : Int32} {p5 : Int32} {S : zs_T} {Q : zs_Q} (hB : zt_B bf) (h : w_X9_related_344 (zx σ n0 bf) d p0 p2 p5 S Q) : zs_U (zx σ n0 bf) d 8038 344 [(0, .ref p0), (2, .int p2), (5, .int p5)] [] S Q := by
  unfold w_X9_related_344 at h
  refine zu_aload_n d_8038_344 rfl (zs_ra _) ?_
  refine zu_iconst d_8038_345 zi_5 ?_
  obtain ⟨k1, h⟩ := h
  refine zc_8_541 (x0 := (5 : Int32)) hB rfl k1 d_8038_346 (Nat.le_of_ble_eq_true rfl) h (fun S2 h => ?_)
  exact (u_X9_related_349 hB h).weak ⟨rfl, rfl, rfl, trivial⟩
def w_X9_related_338 (X : zs_X) (d : Nat) (p0 : Nat) (p2 : Int32) (S : zs_T) (Q : zs_Q) : Prop :=
  (w_X9_related_349 X d p0 p2 (0 : Int32) S Q)
theorem u_X9_related_338 {σ : Nat → Nat} {n0 : Nat} {bf : ab_B} {d : Nat} {p0 : Nat} {p2 : Int32} {S : zs_T} {Q : zs_Q} (hB : zt_B bf) (h : w_X9_related_338 (zx σ n0 bf) d p0 p2 S Q) : zs_U (zx σ n0 bf) d 8038 338 [(0, .ref p0), (2, .int p2)] [] S Q := by
  unfold w_X9_related_338 at h
  refine zu_iconst d_8038_338 zi_0 ?_
  refine zu_istore d_8038_339 (zs_lt zq_8038 rfl) ?_
  refine zu_goto (t := 349) d_8038_341 rfl ?_
  exact (u_X9_related_349 hB h).weak ⟨rfl, rfl, rfl, trivial⟩
def w_X9_related_309 (X : zs_X) (d : Nat) (p0 : Nat) (p1 : Int32) (p2 : Int32) (p3 : Int32) (p4 : Int32) (p5 : Int32) (S : zs_T) (Q : zs_Q) : Prop :=
  (zs_K S p0 = some (.inl 8) ∧ zs_C X d 8047 [.ref p0, .int p3, .int p4] S (zs_kI (fun v3 S2 => (((v3 = 0 → w_X9_related_344 X d p0 p2 p5 S2 Q) ∧ (¬ (v3 = 0) → ((((13 : Int32) < p1 → w_X9_related_344 X d p0 p2 p5 S2 Q) ∧ (¬ ((13 : Int32) < p1) → (zs_K S2 p0 = some (.inl 8) ∧ zs_C X d 8012 [.ref p0, .int ((20 : Int32) + p1), .int (0 : Int32), .int (0 : Int32), .int p2] S2 (zs_kI (fun v8 S7 => (w_X9_related_338 X d p0 p2 S7 Q)) Q))))))))) Q))
theorem u_X9_related_309 {σ : Nat → Nat} {n0 : Nat} {bf : ab_B} {d : Nat} {p0 : Nat} {p1 : Int32} {p2 : Int32} {p3 : Int32} {p4 : Int32} {p5 : Int32} {S : zs_T} {Q : zs_Q} (hB : zt_B bf) (h : w_X9_related_309 (zx σ n0 bf) d p0 p1 p2 p3 p4 p5 S Q) : zs_U (zx σ n0 bf) d 8038 309 [(0, .ref p0), (1, .int p1), (2, .int p2), (3, .int p3), (4, .int p4), (5, .int p5)] [] S Q := by
  unfold w_X9_related_309 at h
  refine zu_aload_n d_8038_309 rfl (zs_ra _) ?_
  refine zu_iload_n d_8038_310 rfl ?_
  refine zu_iload d_8038_311 rfl ?_
  obtain ⟨k1, h⟩ := h
  refine zc_8_686 (x0 := p3) (x1 := p4) hB rfl k1 d_8038_313 (Nat.le_of_ble_eq_true rfl) h (fun v3 S2 h => ?_)
  refine zu_ifeq (t := 344) d_8038_316 rfl (fun c4 => ?_) (fun c4 => ?_)
  · have h := h.1 c4
    exact (u_X9_related_344 hB h).weak ⟨rfl, rfl, rfl, trivial⟩
  · have h := h.2 c4
    refine zu_iload_n d_8038_319 rfl ?_
    refine zu_bipush d_8038_320 zj_13 ?_
    refine zu_cmpgt (t := 344) d_8038_322 rfl (fun c5 => ?_) (fun c5 => ?_)
    · have h := h.1 c5
      exact (u_X9_related_344 hB h).weak ⟨rfl, rfl, rfl, trivial⟩
    · have h := h.2 c5
      refine zu_aload_n d_8038_325 rfl (zs_ra _) ?_
      refine zu_bipush d_8038_326 zj_20 ?_
      refine zu_iload_n d_8038_328 rfl ?_
      refine zu_stk d_8038_329 rfl rfl ?_
      refine zu_iconst d_8038_330 zi_0 ?_
      refine zu_iconst d_8038_331 zi_0 ?_
      refine zu_iload_n d_8038_332 rfl ?_
      obtain ⟨k6, h⟩ := h
      refine zc_8_656 (x0 := ((20 : Int32) + p1)) (x1 := (0 : Int32)) (x2 := (0 : Int32)) (x3 := p2) hB rfl k6 d_8038_333 (Nat.le_of_ble_eq_true rfl) h (fun v8 S7 h => ?_)
      refine zu_istore d_8038_336 (zs_lt zq_8038 rfl) ?_
      exact (u_X9_related_338 hB h).weak ⟨rfl, rfl, trivial⟩
def w_X9_related_303 (X : zs_X) (d : Nat) (p0 : Nat) (p2 : Int32) (S : zs_T) (Q : zs_Q) : Prop :=
  (w_X9_related_349 X d p0 p2 (0 : Int32) S Q)
theorem u_X9_related_303 {σ : Nat → Nat} {n0 : Nat} {bf : ab_B} {d : Nat} {p0 : Nat} {p2 : Int32} {S : zs_T} {Q : zs_Q} (hB : zt_B bf) (h : w_X9_related_303 (zx σ n0 bf) d p0 p2 S Q) : zs_U (zx σ n0 bf) d 8038 303 [(0, .ref p0), (2, .int p2)] [] S Q := by
  unfold w_X9_related_303 at h
  refine zu_iconst d_8038_303 zi_0 ?_
  refine zu_istore d_8038_304 (zs_lt zq_8038 rfl) ?_
  refine zu_goto (t := 349) d_8038_306 rfl ?_
  exact (u_X9_related_349 hB h).weak ⟨rfl, rfl, rfl, trivial⟩
def w_X9_related_270 (X : zs_X) (d : Nat) (p0 : Nat) (p1 : Int32) (p2 : Int32) (p3 : Int32) (p4 : Int32) (p5 : Int32) (S : zs_T) (Q : zs_Q) : Prop :=
  (zs_K S p0 = some (.inl 8) ∧ zs_C X d 8046 [.ref p0, .int p3, .int p4] S (zs_kI (fun v3 S2 => (((v3 = 0 → w_X9_related_309 X d p0 p1 p2 p3 p4 p5 S2 Q) ∧ (¬ (v3 = 0) → (((p1 = (14 : Int32) → w_X9_related_309 X d p0 p1 p2 p3 p4 p5 S2 Q) ∧ (¬ (p1 = (14 : Int32)) → (((p1 = (15 : Int32) → w_X9_related_309 X d p0 p1 p2 p3 p4 p5 S2 Q) ∧ (¬ (p1 = (15 : Int32)) → (zs_K S2 p0 = some (.inl 8) ∧ zs_C X d 8012 [.ref p0, .int (53 : Int32), .int p1, .int (0 : Int32), .int p2] S2 (zs_kI (fun v9 S8 => (w_X9_related_303 X d p0 p2 S8 Q)) Q)))))))))))) Q))
theorem u_X9_related_270 {σ : Nat → Nat} {n0 : Nat} {bf : ab_B} {d : Nat} {p0 : Nat} {p1 : Int32} {p2 : Int32} {p3 : Int32} {p4 : Int32} {p5 : Int32} {S : zs_T} {Q : zs_Q} (hB : zt_B bf) (h : w_X9_related_270 (zx σ n0 bf) d p0 p1 p2 p3 p4 p5 S Q) : zs_U (zx σ n0 bf) d 8038 270 [(0, .ref p0), (1, .int p1), (2, .int p2), (3, .int p3), (4, .int p4), (5, .int p5)] [] S Q := by
  unfold w_X9_related_270 at h
  refine zu_aload_n d_8038_270 rfl (zs_ra _) ?_
  refine zu_iload_n d_8038_271 rfl ?_
  refine zu_iload d_8038_272 rfl ?_
  obtain ⟨k1, h⟩ := h
  refine zc_8_682 (x0 := p3) (x1 := p4) hB rfl k1 d_8038_274 (Nat.le_of_ble_eq_true rfl) h (fun v3 S2 h => ?_)
  refine zu_ifeq (t := 309) d_8038_277 rfl (fun c4 => ?_) (fun c4 => ?_)
  · have h := h.1 c4
    exact (u_X9_related_309 hB h).weak ⟨rfl, rfl, rfl, rfl, rfl, rfl, trivial⟩
  · have h := h.2 c4
    refine zu_iload_n d_8038_280 rfl ?_
    refine zu_bipush d_8038_281 zj_14 ?_
    refine zu_cmpeq (t := 309) d_8038_283 rfl (fun c5 => ?_) (fun c5 => ?_)
    · have h := h.1 c5
      exact (u_X9_related_309 hB h).weak ⟨rfl, rfl, rfl, rfl, rfl, rfl, trivial⟩
    · have h := h.2 c5
      refine zu_iload_n d_8038_286 rfl ?_
      refine zu_bipush d_8038_287 zj_15 ?_
      refine zu_cmpeq (t := 309) d_8038_289 rfl (fun c6 => ?_) (fun c6 => ?_)
      · have h := h.1 c6
        exact (u_X9_related_309 hB h).weak ⟨rfl, rfl, rfl, rfl, rfl, rfl, trivial⟩
      · have h := h.2 c6
        refine zu_aload_n d_8038_292 rfl (zs_ra _) ?_
        refine zu_bipush d_8038_293 zj_53 ?_
        refine zu_iload_n d_8038_295 rfl ?_
        refine zu_iconst d_8038_296 zi_0 ?_
        refine zu_iload_n d_8038_297 rfl ?_
        obtain ⟨k7, h⟩ := h
        refine zc_8_656 (x0 := (53 : Int32)) (x1 := p1) (x2 := (0 : Int32)) (x3 := p2) hB rfl k7 d_8038_298 (Nat.le_of_ble_eq_true rfl) h (fun v9 S8 h => ?_)
        refine zu_istore d_8038_301 (zs_lt zq_8038 rfl) ?_
        exact (u_X9_related_303 hB h).weak ⟨rfl, rfl, trivial⟩
def w_X9_related_253 (X : zs_X) (d : Nat) (p0 : Nat) (p1 : Int32) (p2 : Int32) (S : zs_T) (Q : zs_Q) : Prop :=
  (zs_K S p0 = some (.inl 8) ∧ zs_C X d 8012 [.ref p0, .int (58 : Int32), .int p1, .int (0 : Int32), .int p2] S (zs_kI (fun v3 S2 => (w_X9_related_349 X d p0 p2 (0 : Int32) S2 Q)) Q))
theorem u_X9_related_253 {σ : Nat → Nat} {n0 : Nat} {bf : ab_B} {d : Nat} {p0 : Nat} {p1 : Int32} {p2 : Int32} {S : zs_T} {Q : zs_Q} (hB : zt_B bf) (h : w_X9_related_253 (zx σ n0 bf) d p0 p1 p2 S Q) : zs_U (zx σ n0 bf) d 8038 253 [(0, .ref p0), (1, .int p1), (2, .int p2)] [] S Q := by
  unfold w_X9_related_253 at h
  refine zu_aload_n d_8038_253 rfl (zs_ra _) ?_
  refine zu_bipush d_8038_254 zj_58 ?_
  refine zu_iload_n d_8038_256 rfl ?_
  refine zu_iconst d_8038_257 zi_0 ?_
  refine zu_iload_n d_8038_258 rfl ?_
  obtain ⟨k1, h⟩ := h
  refine zc_8_656 (x0 := (58 : Int32)) (x1 := p1) (x2 := (0 : Int32)) (x3 := p2) hB rfl k1 d_8038_259 (Nat.le_of_ble_eq_true rfl) h (fun v3 S2 h => ?_)
  refine zu_istore d_8038_262 (zs_lt zq_8038 rfl) ?_
  refine zu_iconst d_8038_264 zi_0 ?_
  refine zu_istore d_8038_265 (zs_lt zq_8038 rfl) ?_
  refine zu_goto (t := 349) d_8038_267 rfl ?_
  exact (u_X9_related_349 hB h).weak ⟨rfl, rfl, rfl, trivial⟩
def w_X9_related_225 (X : zs_X) (d : Nat) (p0 : Nat) (p1 : Int32) (p2 : Int32) (p4 : Int32) (S : zs_T) (Q : zs_Q) : Prop :=
  (zs_K S p0 = some (.inl 8) ∧ zs_C X d 8044 [.ref p0, .int p4] S (zs_kI (fun v3 S2 => (((¬ v3 = 0 → w_X9_related_253 X d p0 p1 p2 S2 Q) ∧ (¬ (¬ v3 = 0) → (zs_K S2 p0 = some (.inl 8) ∧ ∃ b6, (zs_R S2 8096 p0) = some b6 ∧ zs_A S2 b6 0 (zs_I S2 8097 p0) ∧ zs_C X d 8012 [.ref p0, .int (10 : Int32), .int (0 : Int32), .int (0 : Int32), .int (zs_i S2 b6 (zs_I S2 8097 p0).toNatClampNeg)] S2 (zs_kI (fun v10 S9 => (w_X9_related_253 X d p0 p1 p2 S9 Q)) Q)))))) Q))
theorem u_X9_related_225 {σ : Nat → Nat} {n0 : Nat} {bf : ab_B} {d : Nat} {p0 : Nat} {p1 : Int32} {p2 : Int32} {p4 : Int32} {S : zs_T} {Q : zs_Q} (hB : zt_B bf) (h : w_X9_related_225 (zx σ n0 bf) d p0 p1 p2 p4 S Q) : zs_U (zx σ n0 bf) d 8038 225 [(0, .ref p0), (1, .int p1), (2, .int p2), (4, .int p4)] [] S Q := by
  unfold w_X9_related_225 at h
  refine zu_aload_n d_8038_225 rfl (zs_ra _) ?_
  refine zu_iload d_8038_226 rfl ?_
  obtain ⟨k1, h⟩ := h
  refine zc_8_676 (x0 := p4) hB rfl k1 d_8038_228 (Nat.le_of_ble_eq_true rfl) h (fun v3 S2 h => ?_)
  refine zu_ifne (t := 253) d_8038_231 rfl (fun c4 => ?_) (fun c4 => ?_)
  · have h := h.1 c4
    exact (u_X9_related_253 hB h).weak ⟨rfl, rfl, rfl, trivial⟩
  · have h := h.2 c4
    refine zu_aload_n d_8038_234 rfl (zs_ra _) ?_
    refine zu_bipush d_8038_235 zj_10 ?_
    refine zu_iconst d_8038_237 zi_0 ?_
    refine zu_iconst d_8038_238 zi_0 ?_
    refine zu_aload_n d_8038_239 rfl (zs_ra _) ?_
    obtain ⟨k5, h⟩ := h
    refine zg_8_206 rfl d_8038_240 k5 ?_
    refine zu_aload_n d_8038_243 rfl (zs_ra _) ?_
    refine zg_8_653 rfl d_8038_244 k5 ?_
    obtain ⟨b6, e7, h⟩ := h
    refine zs_stk1 (zs_rfe e7) ?_
    obtain ⟨k8, h⟩ := h
    refine zu_iald (k := 0) d_8038_247 rfl rfl k8 ?_
    refine zc_8_656 (x0 := (10 : Int32)) (x1 := (0 : Int32)) (x2 := (0 : Int32)) (x3 := (zs_i S2 b6 (zs_I S2 8097 p0).toNatClampNeg)) hB rfl k5 d_8038_248 (Nat.le_of_ble_eq_true rfl) h (fun v10 S9 h => ?_)
    refine zu_istore d_8038_251 (zs_lt zq_8038 rfl) ?_
    exact (u_X9_related_253 hB h).weak ⟨rfl, rfl, rfl, trivial⟩
def w_X9_related_196 (X : zs_X) (d : Nat) (p0 : Nat) (p1 : Int32) (p2 : Int32) (p3 : Int32) (p4 : Int32) (p5 : Int32) (S : zs_T) (Q : zs_Q) : Prop :=
  (zs_K S p0 = some (.inl 8) ∧ zs_C X d 8043 [.ref p0, .int p3] S (zs_kI (fun v3 S2 => (((v3 = 0 → w_X9_related_270 X d p0 p1 p2 p3 p4 p5 S2 Q) ∧ (¬ (v3 = 0) → (zs_K S2 p0 = some (.inl 8) ∧ zs_C X d 8043 [.ref p0, .int p4] S2 (zs_kI (fun v7 S6 => (((v7 = 0 → w_X9_related_270 X d p0 p1 p2 p3 p4 p5 S6 Q) ∧ (¬ (v7 = 0) → (zs_K S6 p0 = some (.inl 8) ∧ zs_C X d 8044 [.ref p0, .int p3] S6 (zs_kI (fun v11 S10 => (((¬ v11 = 0 → w_X9_related_225 X d p0 p1 p2 p4 S10 Q) ∧ (¬ (¬ v11 = 0) → (zs_K S10 p0 = some (.inl 8) ∧ zs_C X d 8045 [.ref p0] S10 (zs_kV (fun S14 => w_X9_related_225 X d p0 p1 p2 p4 S14 Q) Q)))))) Q)))))) Q)))))) Q))
theorem u_X9_related_196 {σ : Nat → Nat} {n0 : Nat} {bf : ab_B} {d : Nat} {p0 : Nat} {p1 : Int32} {p2 : Int32} {p3 : Int32} {p4 : Int32} {p5 : Int32} {S : zs_T} {Q : zs_Q} (hB : zt_B bf) (h : w_X9_related_196 (zx σ n0 bf) d p0 p1 p2 p3 p4 p5 S Q) : zs_U (zx σ n0 bf) d 8038 196 [(0, .ref p0), (1, .int p1), (2, .int p2), (3, .int p3), (4, .int p4), (5, .int p5)] [] S Q := by
  unfold w_X9_related_196 at h
  refine zu_aload_n d_8038_196 rfl (zs_ra _) ?_
  refine zu_iload_n d_8038_197 rfl ?_
  obtain ⟨k1, h⟩ := h
  refine zc_8_673 (x0 := p3) hB rfl k1 d_8038_198 (Nat.le_of_ble_eq_true rfl) h (fun v3 S2 h => ?_)
  refine zu_ifeq (t := 270) d_8038_201 rfl (fun c4 => ?_) (fun c4 => ?_)
  · have h := h.1 c4
    exact (u_X9_related_270 hB h).weak ⟨rfl, rfl, rfl, rfl, rfl, rfl, trivial⟩
  · have h := h.2 c4
    refine zu_aload_n d_8038_204 rfl (zs_ra _) ?_
    refine zu_iload d_8038_205 rfl ?_
    obtain ⟨k5, h⟩ := h
    refine zc_8_673 (x0 := p4) hB rfl k5 d_8038_207 (Nat.le_of_ble_eq_true rfl) h (fun v7 S6 h => ?_)
    refine zu_ifeq (t := 270) d_8038_210 rfl (fun c8 => ?_) (fun c8 => ?_)
    · have h := h.1 c8
      exact (u_X9_related_270 hB h).weak ⟨rfl, rfl, rfl, rfl, rfl, rfl, trivial⟩
    · have h := h.2 c8
      refine zu_aload_n d_8038_213 rfl (zs_ra _) ?_
      refine zu_iload_n d_8038_214 rfl ?_
      obtain ⟨k9, h⟩ := h
      refine zc_8_676 (x0 := p3) hB rfl k9 d_8038_215 (Nat.le_of_ble_eq_true rfl) h (fun v11 S10 h => ?_)
      refine zu_ifne (t := 225) d_8038_218 rfl (fun c12 => ?_) (fun c12 => ?_)
      · have h := h.1 c12
        exact (u_X9_related_225 hB h).weak ⟨rfl, rfl, rfl, rfl, trivial⟩
      · have h := h.2 c12
        refine zu_aload_n d_8038_221 rfl (zs_ra _) ?_
        obtain ⟨k13, h⟩ := h
        refine zc_8_679  hB rfl k13 d_8038_222 (Nat.le_of_ble_eq_true rfl) h (fun S14 h => ?_)
        exact (u_X9_related_225 hB h).weak ⟨rfl, rfl, rfl, rfl, trivial⟩
def w_X9_related_180 (X : zs_X) (d : Nat) (p0 : Nat) (p1 : Int32) (p2 : Int32) (p5 : Int32) (S : zs_T) (Q : zs_Q) : Prop :=
  (zs_K S p0 = some (.inl 8) ∧ zs_C X d 8012 [.ref p0, .int ((20 : Int32) + p1), .int (0 : Int32), .int (0 : Int32), .int p2] S (zs_kI (fun v3 S2 => (w_X9_related_349 X d p0 p2 p5 S2 Q)) Q))
theorem u_X9_related_180 {σ : Nat → Nat} {n0 : Nat} {bf : ab_B} {d : Nat} {p0 : Nat} {p1 : Int32} {p2 : Int32} {p5 : Int32} {S : zs_T} {Q : zs_Q} (hB : zt_B bf) (h : w_X9_related_180 (zx σ n0 bf) d p0 p1 p2 p5 S Q) : zs_U (zx σ n0 bf) d 8038 180 [(0, .ref p0), (1, .int p1), (2, .int p2), (5, .int p5)] [] S Q := by
  unfold w_X9_related_180 at h
  refine zu_aload_n d_8038_180 rfl (zs_ra _) ?_
  refine zu_bipush d_8038_181 zj_20 ?_
  refine zu_iload_n d_8038_183 rfl ?_
  refine zu_stk d_8038_184 rfl rfl ?_
  refine zu_iconst d_8038_185 zi_0 ?_
  refine zu_iconst d_8038_186 zi_0 ?_
  refine zu_iload_n d_8038_187 rfl ?_
  obtain ⟨k1, h⟩ := h
  refine zc_8_656 (x0 := ((20 : Int32) + p1)) (x1 := (0 : Int32)) (x2 := (0 : Int32)) (x3 := p2) hB rfl k1 d_8038_188 (Nat.le_of_ble_eq_true rfl) h (fun v3 S2 h => ?_)
  refine zu_istore d_8038_191 (zs_lt zq_8038 rfl) ?_
  refine zu_goto (t := 349) d_8038_193 rfl ?_
  exact (u_X9_related_349 hB h).weak ⟨rfl, rfl, rfl, trivial⟩
def w_X9_related_132 (X : zs_X) (d : Nat) (p0 : Nat) (p2 : Int32) (S : zs_T) (Q : zs_Q) : Prop :=
  (zs_K S p0 = some (.inl 8) ∧ zs_C X d 8012 [.ref p0, .int (54 : Int32), .int (0 : Int32), .int (0 : Int32), .int p2] S (zs_kI (fun v3 S2 => (w_X9_related_349 X d p0 p2 (0 : Int32) S2 Q)) Q))
theorem u_X9_related_132 {σ : Nat → Nat} {n0 : Nat} {bf : ab_B} {d : Nat} {p0 : Nat} {p2 : Int32} {S : zs_T} {Q : zs_Q} (hB : zt_B bf) (h : w_X9_related_132 (zx σ n0 bf) d p0 p2 S Q) : zs_U (zx σ n0 bf) d 8038 132 [(0, .ref p0), (2, .int p2)] [] S Q := by
  unfold w_X9_related_132 at h
  refine zu_aload_n d_8038_132 rfl (zs_ra _) ?_
  refine zu_bipush d_8038_133 zj_54 ?_
  refine zu_iconst d_8038_135 zi_0 ?_
  refine zu_iconst d_8038_136 zi_0 ?_
  refine zu_iload_n d_8038_137 rfl ?_
  obtain ⟨k1, h⟩ := h
  refine zc_8_656 (x0 := (54 : Int32)) (x1 := (0 : Int32)) (x2 := (0 : Int32)) (x3 := p2) hB rfl k1 d_8038_138 (Nat.le_of_ble_eq_true rfl) h (fun v3 S2 h => ?_)
  refine zu_istore d_8038_141 (zs_lt zq_8038 rfl) ?_
  refine zu_iconst d_8038_143 zi_0 ?_
  refine zu_istore d_8038_144 (zs_lt zq_8038 rfl) ?_
  refine zu_goto (t := 349) d_8038_146 rfl ?_
  exact (u_X9_related_349 hB h).weak ⟨rfl, rfl, rfl, trivial⟩
def w_X9_related_127 (X : zs_X) (d : Nat) (p0 : Nat) (p2 : Int32) (S : zs_T) (Q : zs_Q) : Prop :=
  (zs_K S p0 = some (.inl 8) ∧ zs_C X d 8027 [.ref p0, .int (5 : Int32)] S (zs_kV (fun S2 => w_X9_related_132 X d p0 p2 S2 Q) Q))
theorem u_X9_related_127 {σ : Nat → Nat} {n0 : Nat} {bf : ab_B} {d : Nat} {p0 : Nat} {p2 : Int32} {S : zs_T} {Q : zs_Q} (hB : zt_B bf) (h : w_X9_related_127 (zx σ n0 bf) d p0 p2 S Q) : zs_U (zx σ n0 bf) d 8038 127 [(0, .ref p0), (2, .int p2)] [] S Q := by
  unfold w_X9_related_127 at h
  refine zu_aload_n d_8038_127 rfl (zs_ra _) ?_
  refine zu_iconst d_8038_128 zi_5 ?_
  obtain ⟨k1, h⟩ := h
  refine zc_8_541 (x0 := (5 : Int32)) hB rfl k1 d_8038_129 (Nat.le_of_ble_eq_true rfl) h (fun S2 h => ?_)
  exact (u_X9_related_132 hB h).weak ⟨rfl, rfl, trivial⟩
def w_X9_related_113 (X : zs_X) (d : Nat) (p0 : Nat) (p2 : Int32) (p3 : Int32) (p4 : Int32) (S : zs_T) (Q : zs_Q) : Prop :=
  (zs_K S p0 = some (.inl 8) ∧ zs_C X d 8041 [.ref p0, .int p4] S (zs_kI (fun v3 S2 => (zs_K S2 p0 = some (.inl 8) ∧ zs_C X d 8042 [.ref p0, .int p3] S2 (zs_kI (fun v6 S5 => (((v3 = v6 → w_X9_related_132 X d p0 p2 S5 Q) ∧ (¬ (v3 = v6) → w_X9_related_127 X d p0 p2 S5 Q)))) Q))) Q))
theorem u_X9_related_113 {σ : Nat → Nat} {n0 : Nat} {bf : ab_B} {d : Nat} {p0 : Nat} {p2 : Int32} {p3 : Int32} {p4 : Int32} {S : zs_T} {Q : zs_Q} (hB : zt_B bf) (h : w_X9_related_113 (zx σ n0 bf) d p0 p2 p3 p4 S Q) : zs_U (zx σ n0 bf) d 8038 113 [(0, .ref p0), (2, .int p2), (3, .int p3), (4, .int p4)] [] S Q := by
  unfold w_X9_related_113 at h
  refine zu_aload_n d_8038_113 rfl (zs_ra _) ?_
  refine zu_iload d_8038_114 rfl ?_
  obtain ⟨k1, h⟩ := h
  refine zc_8_570 (x0 := p4) hB rfl k1 d_8038_116 (Nat.le_of_ble_eq_true rfl) h (fun v3 S2 h => ?_)
  refine zu_aload_n d_8038_119 rfl (zs_ra _) ?_
  refine zu_iload_n d_8038_120 rfl ?_
  obtain ⟨k4, h⟩ := h
  refine zc_8_561 (x0 := p3) hB rfl k4 d_8038_121 (Nat.le_of_ble_eq_true rfl) h (fun v6 S5 h => ?_)
  refine zu_cmpeq (t := 132) d_8038_124 rfl (fun c7 => ?_) (fun c7 => ?_)
  · have h := h.1 c7
    exact (u_X9_related_132 hB h).weak ⟨rfl, rfl, trivial⟩
  · have h := h.2 c7
    exact (u_X9_related_127 hB h).weak ⟨rfl, rfl, trivial⟩
def w_X9_related_76 (X : zs_X) (d : Nat) (p0 : Nat) (p1 : Int32) (p2 : Int32) (p3 : Int32) (p4 : Int32) (q0 : Int32) (S : zs_T) (Q : zs_Q) : Prop :=
  (((¬ p1 = (99 : Int32) → (zs_K S p0 = some (.inl 8) ∧ zs_C X d 8036 [.ref p0, .int p3] S (zs_kI (fun v4 S3 => (((v4 = 0 → w_X9_related_196 X d p0 p1 p2 p3 p4 q0 S3 Q) ∧ (¬ (v4 = 0) → (zs_K S3 p0 = some (.inl 8) ∧ zs_C X d 8036 [.ref p0, .int p4] S3 (zs_kI (fun v8 S7 => (((v8 = 0 → w_X9_related_196 X d p0 p1 p2 p3 p4 q0 S7 Q) ∧ (¬ (v8 = 0) → (zs_K S7 p0 = some (.inl 8) ∧ zs_C X d 8042 [.ref p0, .int p3] S7 (zs_kI (fun v12 S11 => (zs_K S11 p0 = some (.inl 8) ∧ zs_C X d 8042 [.ref p0, .int p4] S11 (zs_kI (fun v15 S14 => (((¬ v12 = v15 → w_X9_related_196 X d p0 p1 p2 p3 p4 q0 S14 Q) ∧ (¬ (¬ v12 = v15) → w_X9_related_180 X d p0 p1 p2 q0 S14 Q)))) Q))) Q)))))) Q)))))) Q))) ∧ (¬ (¬ p1 = (99 : Int32)) → (zs_K S p0 = some (.inl 8) ∧ zs_C X d 8036 [.ref p0, .int p3] S (zs_kI (fun v19 S18 => (((v19 = 0 → w_X9_related_127 X d p0 p2 S18 Q) ∧ (¬ (v19 = 0) → (zs_K S18 p0 = some (.inl 8) ∧ ∃ b22, (zs_R S18 8044 p0) = some b22 ∧ zs_A S18 b22 1 p4 ∧ (((zs_i S18 b22 p4.toNatClampNeg) = (13 : Int32) → w_X9_related_132 X d p0 p2 S18 Q) ∧ (¬ ((zs_i S18 b22 p4.toNatClampNeg) = (13 : Int32)) → (zs_C X d 8040 [.ref p0, .int p4] S18 (zs_kI (fun v27 S26 => (((v27 = 0 → w_X9_related_127 X d p0 p2 S26 Q) ∧ (¬ (v27 = 0) → w_X9_related_113 X d p0 p2 p3 p4 S26 Q)))) Q))))))))) Q)))))
theorem u_X9_related_76 {σ : Nat → Nat} {n0 : Nat} {bf : ab_B} {d : Nat} {p0 : Nat} {p1 : Int32} {p2 : Int32} {p3 : Int32} {p4 : Int32} {q0 : Int32} {S : zs_T} {Q : zs_Q} (hB : zt_B bf) (h : w_X9_related_76 (zx σ n0 bf) d p0 p1 p2 p3 p4 q0 S Q) : zs_U (zx σ n0 bf) d 8038 76 [(0, .ref p0), (1, .int p1), (2, .int p2), (3, .int p3), (4, .int p4)] [.int q0] S Q := by
  unfold w_X9_related_76 at h
  refine zu_istore d_8038_76 (zs_lt zq_8038 rfl) ?_
  refine zu_iload_n d_8038_78 rfl ?_
  refine zu_bipush d_8038_79 zj_99 ?_
  refine zu_cmpne (t := 149) d_8038_81 rfl (fun c1 => ?_) (fun c1 => ?_)
  · have h := h.1 c1
    refine zu_aload_n d_8038_149 rfl (zs_ra _) ?_
    refine zu_iload_n d_8038_150 rfl ?_
    obtain ⟨k2, h⟩ := h
    refine zc_8_564 (x0 := p3) hB rfl k2 d_8038_151 (Nat.le_of_ble_eq_true rfl) h (fun v4 S3 h => ?_)
    refine zu_ifeq (t := 196) d_8038_154 rfl (fun c5 => ?_) (fun c5 => ?_)
    · have h := h.1 c5
      exact (u_X9_related_196 hB h).weak ⟨rfl, rfl, rfl, rfl, rfl, rfl, trivial⟩
    · have h := h.2 c5
      refine zu_aload_n d_8038_157 rfl (zs_ra _) ?_
      refine zu_iload d_8038_158 rfl ?_
      obtain ⟨k6, h⟩ := h
      refine zc_8_564 (x0 := p4) hB rfl k6 d_8038_160 (Nat.le_of_ble_eq_true rfl) h (fun v8 S7 h => ?_)
      refine zu_ifeq (t := 196) d_8038_163 rfl (fun c9 => ?_) (fun c9 => ?_)
      · have h := h.1 c9
        exact (u_X9_related_196 hB h).weak ⟨rfl, rfl, rfl, rfl, rfl, rfl, trivial⟩
      · have h := h.2 c9
        refine zu_aload_n d_8038_166 rfl (zs_ra _) ?_
        refine zu_iload_n d_8038_167 rfl ?_
        obtain ⟨k10, h⟩ := h
        refine zc_8_561 (x0 := p3) hB rfl k10 d_8038_168 (Nat.le_of_ble_eq_true rfl) h (fun v12 S11 h => ?_)
        refine zu_aload_n d_8038_171 rfl (zs_ra _) ?_
        refine zu_iload d_8038_172 rfl ?_
        obtain ⟨k13, h⟩ := h
        refine zc_8_561 (x0 := p4) hB rfl k13 d_8038_174 (Nat.le_of_ble_eq_true rfl) h (fun v15 S14 h => ?_)
        refine zu_cmpne (t := 196) d_8038_177 rfl (fun c16 => ?_) (fun c16 => ?_)
        · have h := h.1 c16
          exact (u_X9_related_196 hB h).weak ⟨rfl, rfl, rfl, rfl, rfl, rfl, trivial⟩
        · have h := h.2 c16
          exact (u_X9_related_180 hB h).weak ⟨rfl, rfl, rfl, rfl, trivial⟩
  · have h := h.2 c1
    refine zu_aload_n d_8038_84 rfl (zs_ra _) ?_
    refine zu_iload_n d_8038_85 rfl ?_
    obtain ⟨k17, h⟩ := h
    refine zc_8_564 (x0 := p3) hB rfl k17 d_8038_86 (Nat.le_of_ble_eq_true rfl) h (fun v19 S18 h => ?_)
    refine zu_ifeq (t := 127) d_8038_89 rfl (fun c20 => ?_) (fun c20 => ?_)
    · have h := h.1 c20
      exact (u_X9_related_127 hB h).weak ⟨rfl, rfl, trivial⟩
    · have h := h.2 c20
      refine zu_aload_n d_8038_92 rfl (zs_ra _) ?_
      obtain ⟨k21, h⟩ := h
      refine zg_8_90 rfl d_8038_93 k21 ?_
      refine zu_iload d_8038_96 rfl ?_
      obtain ⟨b22, e23, h⟩ := h
      refine zs_stk1 (zs_rfe e23) ?_
      obtain ⟨k24, h⟩ := h
      refine zu_bald (k := 1) d_8038_98 rfl (Or.inl rfl) k24 ?_
      refine zu_bipush d_8038_99 zj_13 ?_
      refine zu_cmpeq (t := 132) d_8038_101 rfl (fun c25 => ?_) (fun c25 => ?_)
      · have h := h.1 c25
        exact (u_X9_related_132 hB h).weak ⟨rfl, rfl, trivial⟩
      · have h := h.2 c25
        refine zu_aload_n d_8038_104 rfl (zs_ra _) ?_
        refine zu_iload d_8038_105 rfl ?_
        refine zc_8_567 (x0 := p4) hB rfl k21 d_8038_107 (Nat.le_of_ble_eq_true rfl) h (fun v27 S26 h => ?_)
        refine zu_ifeq (t := 127) d_8038_110 rfl (fun c28 => ?_) (fun c28 => ?_)
        · have h := h.1 c28
          exact (u_X9_related_127 hB h).weak ⟨rfl, rfl, trivial⟩
        · have h := h.2 c28
          exact (u_X9_related_113 hB h).weak ⟨rfl, rfl, rfl, rfl, trivial⟩
def w_X9_related_75 (X : zs_X) (d : Nat) (p0 : Nat) (p1 : Int32) (p2 : Int32) (p3 : Int32) (p4 : Int32) (S : zs_T) (Q : zs_Q) : Prop :=
  (w_X9_related_76 X d p0 p1 p2 p3 p4 (0 : Int32) S Q)
theorem u_X9_related_75 {σ : Nat → Nat} {n0 : Nat} {bf : ab_B} {d : Nat} {p0 : Nat} {p1 : Int32} {p2 : Int32} {p3 : Int32} {p4 : Int32} {S : zs_T} {Q : zs_Q} (hB : zt_B bf) (h : w_X9_related_75 (zx σ n0 bf) d p0 p1 p2 p3 p4 S Q) : zs_U (zx σ n0 bf) d 8038 75 [(0, .ref p0), (1, .int p1), (2, .int p2), (3, .int p3), (4, .int p4)] [] S Q := by
  unfold w_X9_related_75 at h
  refine zu_iconst d_8038_75 zi_0 ?_
  exact (u_X9_related_76 hB h).weak ⟨rfl, rfl, rfl, rfl, rfl, trivial⟩
def w_X9_related_71 (X : zs_X) (d : Nat) (p0 : Nat) (p1 : Int32) (p2 : Int32) (p3 : Int32) (p4 : Int32) (S : zs_T) (Q : zs_Q) : Prop :=
  (w_X9_related_76 X d p0 p1 p2 p3 p4 (1 : Int32) S Q)
theorem u_X9_related_71 {σ : Nat → Nat} {n0 : Nat} {bf : ab_B} {d : Nat} {p0 : Nat} {p1 : Int32} {p2 : Int32} {p3 : Int32} {p4 : Int32} {S : zs_T} {Q : zs_Q} (hB : zt_B bf) (h : w_X9_related_71 (zx σ n0 bf) d p0 p1 p2 p3 p4 S Q) : zs_U (zx σ n0 bf) d 8038 71 [(0, .ref p0), (1, .int p1), (2, .int p2), (3, .int p3), (4, .int p4)] [] S Q := by
  unfold w_X9_related_71 at h
  refine zu_iconst d_8038_71 zi_1 ?_
  refine zu_goto (t := 76) d_8038_72 rfl ?_
  exact (u_X9_related_76 hB h).weak ⟨rfl, rfl, rfl, rfl, rfl, trivial⟩
def w_X9_related_34 (X : zs_X) (d : Nat) (p0 : Nat) (p1 : Int32) (p2 : Int32) (p3 : Int32) (S : zs_T) (Q : zs_Q) : Prop :=
  (zs_K S p0 = some (.inl 8) ∧ ∃ b2, (zs_R S 8091 p0) = some b2 ∧ zs_A S b2 0 (zs_I S 8097 p0) ∧ ∃ b5, (zs_R S 8093 p0) = some b5 ∧ zs_A S b5 2 ((zs_I S 8097 p0) - (1 : Int32)) ∧ (((zs_i S b5 ((zs_I S 8097 p0) - (1 : Int32)).toNatClampNeg) = 0 → w_X9_related_75 X d p0 p1 p2 p3 (zs_i S b2 (zs_I S 8097 p0).toNatClampNeg) S Q) ∧ (¬ ((zs_i S b5 ((zs_I S 8097 p0) - (1 : Int32)).toNatClampNeg) = 0) → (zs_A S b5 2 (zs_I S 8097 p0) ∧ (((zs_i S b5 (zs_I S 8097 p0).toNatClampNeg) = 0 → w_X9_related_75 X d p0 p1 p2 p3 (zs_i S b2 (zs_I S 8097 p0).toNatClampNeg) S Q) ∧ (¬ ((zs_i S b5 (zs_I S 8097 p0).toNatClampNeg) = 0) → w_X9_related_71 X d p0 p1 p2 p3 (zs_i S b2 (zs_I S 8097 p0).toNatClampNeg) S Q))))))
theorem u_X9_related_34 {σ : Nat → Nat} {n0 : Nat} {bf : ab_B} {d : Nat} {p0 : Nat} {p1 : Int32} {p2 : Int32} {p3 : Int32} {S : zs_T} {Q : zs_Q} (hB : zt_B bf) (h : w_X9_related_34 (zx σ n0 bf) d p0 p1 p2 p3 S Q) : zs_U (zx σ n0 bf) d 8038 34 [(0, .ref p0), (1, .int p1), (2, .int p2), (3, .int p3)] [] S Q := by
  unfold w_X9_related_34 at h
  refine zu_aload_n d_8038_34 rfl (zs_ra _) ?_
  obtain ⟨k1, h⟩ := h
  refine zg_8_191 rfl d_8038_35 k1 ?_
  refine zu_aload_n d_8038_38 rfl (zs_ra _) ?_
  refine zg_8_653 rfl d_8038_39 k1 ?_
  obtain ⟨b2, e3, h⟩ := h
  refine zs_stk1 (zs_rfe e3) ?_
  obtain ⟨k4, h⟩ := h
  refine zu_iald (k := 0) d_8038_42 rfl rfl k4 ?_
  refine zu_istore d_8038_43 (zs_lt zq_8038 rfl) ?_
  refine zu_aload_n d_8038_45 rfl (zs_ra _) ?_
  refine zg_8_197 rfl d_8038_46 k1 ?_
  refine zu_aload_n d_8038_49 rfl (zs_ra _) ?_
  refine zg_8_653 rfl d_8038_50 k1 ?_
  refine zu_iconst d_8038_53 zi_1 ?_
  refine zu_stk d_8038_54 rfl rfl ?_
  obtain ⟨b5, e6, h⟩ := h
  refine zs_stk1 (zs_rfe e6) ?_
  obtain ⟨k7, h⟩ := h
  refine zu_bald (k := 2) d_8038_55 rfl (Or.inr rfl) k7 ?_
  refine zu_ifeq (t := 75) d_8038_56 rfl (fun c8 => ?_) (fun c8 => ?_)
  · have h := h.1 c8
    exact (u_X9_related_75 hB h).weak ⟨rfl, rfl, rfl, rfl, rfl, trivial⟩
  · have h := h.2 c8
    refine zu_aload_n d_8038_59 rfl (zs_ra _) ?_
    refine zg_8_197 rfl d_8038_60 k1 ?_
    refine zu_aload_n d_8038_63 rfl (zs_ra _) ?_
    refine zg_8_653 rfl d_8038_64 k1 ?_
    refine zs_stk1 (zs_rfe e6) ?_
    obtain ⟨k9, h⟩ := h
    refine zu_bald (k := 2) d_8038_67 rfl (Or.inr rfl) k9 ?_
    refine zu_ifeq (t := 75) d_8038_68 rfl (fun c10 => ?_) (fun c10 => ?_)
    · have h := h.1 c10
      exact (u_X9_related_75 hB h).weak ⟨rfl, rfl, rfl, rfl, rfl, trivial⟩
    · have h := h.2 c10
      exact (u_X9_related_71 hB h).weak ⟨rfl, rfl, rfl, rfl, rfl, trivial⟩
def w_X9_related (X : zs_X) (d : Nat) (p0 : Nat) (p1 : Int32) (p2 : Int32) (S : zs_T) (Q : zs_Q) : Prop :=
  (zs_K S p0 = some (.inl 8) ∧ zs_C X d 8039 [.ref p0] S (zs_kV (fun S2 => (zs_K S2 p0 = some (.inl 8) ∧ (((zs_I S2 8010 p0) ≤ 0 → (ab_n0 X.1 ≤ p0 ∧ ∀ S7, S7 = zs_sI S2 8097 p0 ((zs_I S2 8097 p0) - (1 : Int32)) → ∃ b10, (zs_R S7 8091 p0) = some b10 ∧ zs_A S2 b10 0 ((zs_I S7 8097 p0) - (1 : Int32)) ∧ w_X9_related_34 X d p0 p1 p2 (zs_i S7 b10 ((zs_I S7 8097 p0) - (1 : Int32)).toNatClampNeg) S7 Q)) ∧ (¬ ((zs_I S2 8010 p0) ≤ 0) → (Q (.returned none) S2))))) Q))
theorem u_X9_related {σ : Nat → Nat} {n0 : Nat} {bf : ab_B} {d : Nat} {p0 : Nat} {p1 : Int32} {p2 : Int32} {S : zs_T} {Q : zs_Q} (hB : zt_B bf) (hd : 1 ≤ d) (h : w_X9_related (zx σ n0 bf) (d - 1) p0 p1 p2 S Q) : zs_C (zx σ n0 bf) d 8038 [.ref p0, .int p1, .int p2] S Q := by
  have hL : lv_args 0 [.ref p0, .int p1, .int p2] = [(0, .ref p0), (1, .int p1), (2, .int p2)] := rfl
  refine zs_C.of1 (hB.2 8038 (by decide) (by decide)) hd (by rw [hL]; exact zs_sub_self _ (by exact ⟨rfl, rfl, rfl, trivial⟩)) ?_
  rw [hL]
  clear hL
  unfold w_X9_related at h
  refine zu_aload_n d_8038_0 rfl (zs_ra _) ?_
  obtain ⟨k1, h⟩ := h
  refine zc_8_670  hB rfl k1 d_8038_1 (Nat.le_of_ble_eq_true rfl) h (fun S2 h => ?_)
  refine zu_aload_n d_8038_4 rfl (zs_ra _) ?_
  obtain ⟨k4, h⟩ := h
  refine zg_8_444 rfl d_8038_5 k4 ?_
  refine zu_ifle (t := 12) d_8038_8 rfl (fun c5 => ?_) (fun c5 => ?_)
  · have h := h.1 c5
    refine zu_aload_n d_8038_12 rfl (zs_ra _) ?_
    refine zu_dup d_8038_13 rfl ?_
    refine zg_8_653 rfl d_8038_14 k4 ?_
    refine zu_iconst d_8038_17 zi_1 ?_
    refine zu_stk d_8038_18 rfl rfl ?_
    obtain ⟨k6, h⟩ := h
    refine zp_8_653 (v := ((zs_I S2 8097 p0) - (1 : Int32))) rfl d_8038_19 k4 k6 ?_
    generalize e8 : zs_sI S2 8097 p0 ((zs_I S2 8097 p0) - (1 : Int32)) = S7
    have h := h S7 e8.symm
    have K9 : ∀ b, zs_K S7 b = zs_K S2 b := zs_Kt e8 (zs_KsI _ _ _ _) (fun _ => rfl)
    refine zu_aload_n d_8038_22 rfl (zs_ra _) ?_
    refine zg_8_191 rfl d_8038_23 ((K9 _).trans k4) ?_
    refine zu_aload_n d_8038_26 rfl (zs_ra _) ?_
    refine zg_8_653 rfl d_8038_27 ((K9 _).trans k4) ?_
    refine zu_iconst d_8038_30 zi_1 ?_
    refine zu_stk d_8038_31 rfl rfl ?_
    obtain ⟨b10, e11, h⟩ := h
    refine zs_stk1 (zs_rfe e11) ?_
    obtain ⟨k12, h⟩ := h
    refine zu_iald (k := 0) d_8038_32 rfl rfl (zs_Ak K9 k12) ?_
    refine zu_istore_n d_8038_33 (zs_lt zq_8038 rfl) ?_
    exact (u_X9_related_34 hB h).weak ⟨rfl, rfl, rfl, rfl, trivial⟩
  · have h := h.2 c5
    exact zu_vret d_8038_11 zr_8038 h
/-! SchemaPascalModel.loadRight()V -/
theorem zm_8039 {σ : Nat → Nat} {n0 : Nat} {bf : ab_B} : ab_code (zx σ n0 bf).1 8039 = prog_17_method_53_code := rfl
theorem zq_8039 {σ : Nat → Nat} {n0 : Nat} {bf : ab_B} : ab_maxL (zx σ n0 bf).1 8039 = 1 := rfl
theorem zr_8039 {σ : Nat → Nat} {n0 : Nat} {bf : ab_B} : ab_ret (zx σ n0 bf).1 8039 = (Option.none : Option Jvm.ClassFile.FieldType) := rfl
theorem d_8039_0 {σ : Nat → Nat} {n0 : Nat} {bf : ab_B} : decode (ab_code (zx σ n0 bf).1 8039) 0 = .ok (.aload_n 0, 1) := zd zm_8039 (by decide +kernel)
theorem d_8039_1 {σ : Nat → Nat} {n0 : Nat} {bf : ab_B} : decode (ab_code (zx σ n0 bf).1 8039) 1 = .ok (.invokevirtual 660, 3) := zd zm_8039 (by decide +kernel)
theorem d_8039_4 {σ : Nat → Nat} {n0 : Nat} {bf : ab_B} : decode (ab_code (zx σ n0 bf).1 8039) 4 = .ok (.aload_n 0, 1) := zd zm_8039 (by decide +kernel)
theorem d_8039_5 {σ : Nat → Nat} {n0 : Nat} {bf : ab_B} : decode (ab_code (zx σ n0 bf).1 8039) 5 = .ok (.getfield 444, 3) := zd zm_8039 (by decide +kernel)
theorem d_8039_8 {σ : Nat → Nat} {n0 : Nat} {bf : ab_B} : decode (ab_code (zx σ n0 bf).1 8039) 8 = .ok (.ifCond .ne 22, 3) := zd zm_8039 (by decide +kernel)
theorem d_8039_11 {σ : Nat → Nat} {n0 : Nat} {bf : ab_B} : decode (ab_code (zx σ n0 bf).1 8039) 11 = .ok (.aload_n 0, 1) := zd zm_8039 (by decide +kernel)
theorem d_8039_12 {σ : Nat → Nat} {n0 : Nat} {bf : ab_B} : decode (ab_code (zx σ n0 bf).1 8039) 12 = .ok (.getfield 194, 3) := zd zm_8039 (by decide +kernel)
theorem d_8039_15 {σ : Nat → Nat} {n0 : Nat} {bf : ab_B} : decode (ab_code (zx σ n0 bf).1 8039) 15 = .ok (.aload_n 0, 1) := zd zm_8039 (by decide +kernel)
theorem d_8039_16 {σ : Nat → Nat} {n0 : Nat} {bf : ab_B} : decode (ab_code (zx σ n0 bf).1 8039) 16 = .ok (.getfield 653, 3) := zd zm_8039 (by decide +kernel)
theorem d_8039_19 {σ : Nat → Nat} {n0 : Nat} {bf : ab_B} : decode (ab_code (zx σ n0 bf).1 8039) 19 = .ok (.iconst 2, 1) := zd zm_8039 (by decide +kernel)
theorem d_8039_20 {σ : Nat → Nat} {n0 : Nat} {bf : ab_B} : decode (ab_code (zx σ n0 bf).1 8039) 20 = .ok (.isub, 1) := zd zm_8039 (by decide +kernel)
theorem d_8039_21 {σ : Nat → Nat} {n0 : Nat} {bf : ab_B} : decode (ab_code (zx σ n0 bf).1 8039) 21 = .ok (.baload, 1) := zd zm_8039 (by decide +kernel)
theorem d_8039_22 {σ : Nat → Nat} {n0 : Nat} {bf : ab_B} : decode (ab_code (zx σ n0 bf).1 8039) 22 = .ok (.ifCond .eq 8, 3) := zd zm_8039 (by decide +kernel)
theorem d_8039_25 {σ : Nat → Nat} {n0 : Nat} {bf : ab_B} : decode (ab_code (zx σ n0 bf).1 8039) 25 = .ok (.aload_n 0, 1) := zd zm_8039 (by decide +kernel)
theorem d_8039_26 {σ : Nat → Nat} {n0 : Nat} {bf : ab_B} : decode (ab_code (zx σ n0 bf).1 8039) 26 = .ok (.iconst 5, 1) := zd zm_8039 (by decide +kernel)
theorem d_8039_27 {σ : Nat → Nat} {n0 : Nat} {bf : ab_B} : decode (ab_code (zx σ n0 bf).1 8039) 27 = .ok (.invokevirtual 541, 3) := zd zm_8039 (by decide +kernel)
theorem d_8039_30 {σ : Nat → Nat} {n0 : Nat} {bf : ab_B} : decode (ab_code (zx σ n0 bf).1 8039) 30 = .ok (.return_, 1) := zd zm_8039 (by decide +kernel)
def w_X9_loadRight_30 (X : zs_X) (d : Nat)  (S : zs_T) (Q : zs_Q) : Prop :=
  (Q (.returned none) S)
theorem u_X9_loadRight_30 {σ : Nat → Nat} {n0 : Nat} {bf : ab_B} {d : Nat}  {S : zs_T} {Q : zs_Q} (hB : zt_B bf) (h : w_X9_loadRight_30 (zx σ n0 bf) d  S Q) : zs_U (zx σ n0 bf) d 8039 30 [] [] S Q := by
  unfold w_X9_loadRight_30 at h
  exact zu_vret d_8039_30 zr_8039 h
def w_X9_loadRight (X : zs_X) (d : Nat) (p0 : Nat) (S : zs_T) (Q : zs_Q) : Prop :=
  (zs_K S p0 = some (.inl 8) ∧ zs_C X d 8037 [.ref p0] S (zs_kV (fun S2 => (zs_K S2 p0 = some (.inl 8) ∧ ((¬ (zs_I S2 8010 p0) = 0 → w_X9_loadRight_30 X d  S2 Q) ∧ (¬ (¬ (zs_I S2 8010 p0) = 0) → (∃ b6, (zs_R S2 8092 p0) = some b6 ∧ zs_A S2 b6 2 ((zs_I S2 8097 p0) - (2 : Int32)) ∧ (((zs_i S2 b6 ((zs_I S2 8097 p0) - (2 : Int32)).toNatClampNeg) = 0 → w_X9_loadRight_30 X d  S2 Q) ∧ (¬ ((zs_i S2 b6 ((zs_I S2 8097 p0) - (2 : Int32)).toNatClampNeg) = 0) → (zs_C X d 8027 [.ref p0, .int (5 : Int32)] S2 (zs_kV (fun S10 => w_X9_loadRight_30 X d  S10 Q) Q))))))))) Q))
theorem u_X9_loadRight {σ : Nat → Nat} {n0 : Nat} {bf : ab_B} {d : Nat} {p0 : Nat} {S : zs_T} {Q : zs_Q} (hB : zt_B bf) (hd : 1 ≤ d) (h : w_X9_loadRight (zx σ n0 bf) (d - 1) p0 S Q) : zs_C (zx σ n0 bf) d 8039 [.ref p0] S Q := by
  have hL : lv_args 0 [.ref p0] = [(0, .ref p0)] := rfl
  refine zs_C.of1 (hB.2 8039 (by decide) (by decide)) hd (by rw [hL]; exact zs_sub_self _ (by exact ⟨rfl, trivial⟩)) ?_
  rw [hL]
  clear hL
  unfold w_X9_loadRight at h
  refine zu_aload_n d_8039_0 rfl (zs_ra _) ?_
  obtain ⟨k1, h⟩ := h
  refine zc_8_660  hB rfl k1 d_8039_1 (Nat.le_of_ble_eq_true rfl) h (fun S2 h => ?_)
  refine zu_aload_n d_8039_4 rfl (zs_ra _) ?_
  obtain ⟨k4, h⟩ := h
  refine zg_8_444 rfl d_8039_5 k4 ?_
  refine zu_ifne (t := 30) d_8039_8 rfl (fun c5 => ?_) (fun c5 => ?_)
  · have h := h.1 c5
    exact (u_X9_loadRight_30 hB h).weak trivial
  · have h := h.2 c5
    refine zu_aload_n d_8039_11 rfl (zs_ra _) ?_
    refine zg_8_194 rfl d_8039_12 k4 ?_
    refine zu_aload_n d_8039_15 rfl (zs_ra _) ?_
    refine zg_8_653 rfl d_8039_16 k4 ?_
    refine zu_iconst d_8039_19 zi_2 ?_
    refine zu_stk d_8039_20 rfl rfl ?_
    obtain ⟨b6, e7, h⟩ := h
    refine zs_stk1 (zs_rfe e7) ?_
    obtain ⟨k8, h⟩ := h
    refine zu_bald (k := 2) d_8039_21 rfl (Or.inr rfl) k8 ?_
    refine zu_ifeq (t := 30) d_8039_22 rfl (fun c9 => ?_) (fun c9 => ?_)
    · have h := h.1 c9
      exact (u_X9_loadRight_30 hB h).weak trivial
    · have h := h.2 c9
      refine zu_aload_n d_8039_25 rfl (zs_ra _) ?_
      refine zu_iconst d_8039_26 zi_5 ?_
      refine zc_8_541 (x0 := (5 : Int32)) hB rfl k4 d_8039_27 (Nat.le_of_ble_eq_true rfl) h (fun S10 h => ?_)
      exact (u_X9_loadRight_30 hB h).weak trivial
/-! SchemaPascalModel.isSet(I)Z -/
theorem zm_8040 {σ : Nat → Nat} {n0 : Nat} {bf : ab_B} : ab_code (zx σ n0 bf).1 8040 = prog_17_method_35_code := rfl
theorem zq_8040 {σ : Nat → Nat} {n0 : Nat} {bf : ab_B} : ab_maxL (zx σ n0 bf).1 8040 = 2 := rfl
theorem zr_8040 {σ : Nat → Nat} {n0 : Nat} {bf : ab_B} : ab_ret (zx σ n0 bf).1 8040 = (Option.some Jvm.ClassFile.FieldType.boolean) := rfl
theorem d_8040_0 {σ : Nat → Nat} {n0 : Nat} {bf : ab_B} : decode (ab_code (zx σ n0 bf).1 8040) 0 = .ok (.iload_n 1, 1) := zd zm_8040 (by decide +kernel)
theorem d_8040_1 {σ : Nat → Nat} {n0 : Nat} {bf : ab_B} : decode (ab_code (zx σ n0 bf).1 8040) 1 = .ok (.ifCond .le 29, 3) := zd zm_8040 (by decide +kernel)
theorem d_8040_4 {σ : Nat → Nat} {n0 : Nat} {bf : ab_B} : decode (ab_code (zx σ n0 bf).1 8040) 4 = .ok (.aload_n 0, 1) := zd zm_8040 (by decide +kernel)
theorem d_8040_5 {σ : Nat → Nat} {n0 : Nat} {bf : ab_B} : decode (ab_code (zx σ n0 bf).1 8040) 5 = .ok (.getfield 90, 3) := zd zm_8040 (by decide +kernel)
theorem d_8040_8 {σ : Nat → Nat} {n0 : Nat} {bf : ab_B} : decode (ab_code (zx σ n0 bf).1 8040) 8 = .ok (.iload_n 1, 1) := zd zm_8040 (by decide +kernel)
theorem d_8040_9 {σ : Nat → Nat} {n0 : Nat} {bf : ab_B} : decode (ab_code (zx σ n0 bf).1 8040) 9 = .ok (.baload, 1) := zd zm_8040 (by decide +kernel)
theorem d_8040_10 {σ : Nat → Nat} {n0 : Nat} {bf : ab_B} : decode (ab_code (zx σ n0 bf).1 8040) 10 = .ok (.bipush 6, 2) := zd zm_8040 (by decide +kernel)
theorem d_8040_12 {σ : Nat → Nat} {n0 : Nat} {bf : ab_B} : decode (ab_code (zx σ n0 bf).1 8040) 12 = .ok (.if_icmp .eq 14, 3) := zd zm_8040 (by decide +kernel)
theorem d_8040_15 {σ : Nat → Nat} {n0 : Nat} {bf : ab_B} : decode (ab_code (zx σ n0 bf).1 8040) 15 = .ok (.aload_n 0, 1) := zd zm_8040 (by decide +kernel)
theorem d_8040_16 {σ : Nat → Nat} {n0 : Nat} {bf : ab_B} : decode (ab_code (zx σ n0 bf).1 8040) 16 = .ok (.getfield 90, 3) := zd zm_8040 (by decide +kernel)
theorem d_8040_19 {σ : Nat → Nat} {n0 : Nat} {bf : ab_B} : decode (ab_code (zx σ n0 bf).1 8040) 19 = .ok (.iload_n 1, 1) := zd zm_8040 (by decide +kernel)
theorem d_8040_20 {σ : Nat → Nat} {n0 : Nat} {bf : ab_B} : decode (ab_code (zx σ n0 bf).1 8040) 20 = .ok (.baload, 1) := zd zm_8040 (by decide +kernel)
theorem d_8040_21 {σ : Nat → Nat} {n0 : Nat} {bf : ab_B} : decode (ab_code (zx σ n0 bf).1 8040) 21 = .ok (.bipush 13, 2) := zd zm_8040 (by decide +kernel)
theorem d_8040_23 {σ : Nat → Nat} {n0 : Nat} {bf : ab_B} : decode (ab_code (zx σ n0 bf).1 8040) 23 = .ok (.if_icmp .ne 7, 3) := zd zm_8040 (by decide +kernel)
theorem d_8040_26 {σ : Nat → Nat} {n0 : Nat} {bf : ab_B} : decode (ab_code (zx σ n0 bf).1 8040) 26 = .ok (.iconst 1, 1) := zd zm_8040 (by decide +kernel)
theorem d_8040_27 {σ : Nat → Nat} {n0 : Nat} {bf : ab_B} : decode (ab_code (zx σ n0 bf).1 8040) 27 = .ok (.goto 4, 3) := zd zm_8040 (by decide +kernel)
theorem d_8040_30 {σ : Nat → Nat} {n0 : Nat} {bf : ab_B} : decode (ab_code (zx σ n0 bf).1 8040) 30 = .ok (.iconst 0, 1) := zd zm_8040 (by decide +kernel)
theorem d_8040_31 {σ : Nat → Nat} {n0 : Nat} {bf : ab_B} : decode (ab_code (zx σ n0 bf).1 8040) 31 = .ok (.ireturn, 1) := zd zm_8040 (by decide +kernel)
def w_X9_isSet (X : zs_X) (d : Nat) (p0 : Nat) (p1 : Int32) (S : zs_T) (Q : zs_Q) : Prop :=
  (((p1 ≤ 0 → (Q (.returned (some (.int (0 : Int32)))) S)) ∧ (¬ (p1 ≤ 0) → (zs_K S p0 = some (.inl 8) ∧ ∃ b3, (zs_R S 8044 p0) = some b3 ∧ zs_A S b3 1 p1 ∧ (((zs_i S b3 p1.toNatClampNeg) = (6 : Int32) → (Q (.returned (some (.int (1 : Int32)))) S)) ∧ (¬ ((zs_i S b3 p1.toNatClampNeg) = (6 : Int32)) → (((¬ (zs_i S b3 p1.toNatClampNeg) = (13 : Int32) → (Q (.returned (some (.int (0 : Int32)))) S)) ∧ (¬ (¬ (zs_i S b3 p1.toNatClampNeg) = (13 : Int32)) → (Q (.returned (some (.int (1 : Int32)))) S))))))))))
theorem u_X9_isSet {σ : Nat → Nat} {n0 : Nat} {bf : ab_B} {d : Nat} {p0 : Nat} {p1 : Int32} {S : zs_T} {Q : zs_Q} (hB : zt_B bf) (hd : 1 ≤ d) (h : w_X9_isSet (zx σ n0 bf) (d - 1) p0 p1 S Q) : zs_C (zx σ n0 bf) d 8040 [.ref p0, .int p1] S Q := by
  have hL : lv_args 0 [.ref p0, .int p1] = [(0, .ref p0), (1, .int p1)] := rfl
  refine zs_C.of1 (hB.2 8040 (by decide) (by decide)) hd (by rw [hL]; exact zs_sub_self _ (by exact ⟨rfl, rfl, trivial⟩)) ?_
  rw [hL]
  clear hL
  unfold w_X9_isSet at h
  refine zu_iload_n d_8040_0 rfl ?_
  refine zu_ifle (t := 30) d_8040_1 rfl (fun c1 => ?_) (fun c1 => ?_)
  · have h := h.1 c1
    refine zu_iconst d_8040_30 zi_0 ?_
    exact zu_iret d_8040_31 zr_8040 (zs_b_n (Or.inl rfl)) h
  · have h := h.2 c1
    refine zu_aload_n d_8040_4 rfl (zs_ra _) ?_
    obtain ⟨k2, h⟩ := h
    refine zg_8_90 rfl d_8040_5 k2 ?_
    refine zu_iload_n d_8040_8 rfl ?_
    obtain ⟨b3, e4, h⟩ := h
    refine zs_stk1 (zs_rfe e4) ?_
    obtain ⟨k5, h⟩ := h
    refine zu_bald (k := 1) d_8040_9 rfl (Or.inl rfl) k5 ?_
    refine zu_bipush d_8040_10 zj_6 ?_
    refine zu_cmpeq (t := 26) d_8040_12 rfl (fun c6 => ?_) (fun c6 => ?_)
    · have h := h.1 c6
      refine zu_iconst d_8040_26 zi_1 ?_
      refine zu_goto (t := 31) d_8040_27 rfl ?_
      exact zu_iret d_8040_31 zr_8040 (zs_b_n (Or.inr rfl)) h
    · have h := h.2 c6
      refine zu_aload_n d_8040_15 rfl (zs_ra _) ?_
      refine zg_8_90 rfl d_8040_16 k2 ?_
      refine zu_iload_n d_8040_19 rfl ?_
      refine zs_stk1 (zs_rfe e4) ?_
      refine zu_bald (k := 1) d_8040_20 rfl (Or.inl rfl) k5 ?_
      refine zu_bipush d_8040_21 zj_13 ?_
      refine zu_cmpne (t := 30) d_8040_23 rfl (fun c7 => ?_) (fun c7 => ?_)
      · have h := h.1 c7
        refine zu_iconst d_8040_30 zi_0 ?_
        exact zu_iret d_8040_31 zr_8040 (zs_b_n (Or.inl rfl)) h
      · have h := h.2 c7
        refine zu_iconst d_8040_26 zi_1 ?_
        refine zu_goto (t := 31) d_8040_27 rfl ?_
        exact zu_iret d_8040_31 zr_8040 (zs_b_n (Or.inr rfl)) h
/-! SchemaPascalModel.memberHost(I)I -/
theorem zm_8041 {σ : Nat → Nat} {n0 : Nat} {bf : ab_B} : ab_code (zx σ n0 bf).1 8041 = prog_17_method_37_code := rfl
theorem zq_8041 {σ : Nat → Nat} {n0 : Nat} {bf : ab_B} : ab_maxL (zx σ n0 bf).1 8041 = 2 := rfl
theorem zr_8041 {σ : Nat → Nat} {n0 : Nat} {bf : ab_B} : ab_ret (zx σ n0 bf).1 8041 = (Option.some Jvm.ClassFile.FieldType.int) := rfl
theorem d_8041_0 {σ : Nat → Nat} {n0 : Nat} {bf : ab_B} : decode (ab_code (zx σ n0 bf).1 8041) 0 = .ok (.aload_n 0, 1) := zd zm_8041 (by decide +kernel)
theorem d_8041_1 {σ : Nat → Nat} {n0 : Nat} {bf : ab_B} : decode (ab_code (zx σ n0 bf).1 8041) 1 = .ok (.getfield 90, 3) := zd zm_8041 (by decide +kernel)
theorem d_8041_4 {σ : Nat → Nat} {n0 : Nat} {bf : ab_B} : decode (ab_code (zx σ n0 bf).1 8041) 4 = .ok (.iload_n 1, 1) := zd zm_8041 (by decide +kernel)
theorem d_8041_5 {σ : Nat → Nat} {n0 : Nat} {bf : ab_B} : decode (ab_code (zx σ n0 bf).1 8041) 5 = .ok (.baload, 1) := zd zm_8041 (by decide +kernel)
theorem d_8041_6 {σ : Nat → Nat} {n0 : Nat} {bf : ab_B} : decode (ab_code (zx σ n0 bf).1 8041) 6 = .ok (.bipush 13, 2) := zd zm_8041 (by decide +kernel)
theorem d_8041_8 {σ : Nat → Nat} {n0 : Nat} {bf : ab_B} : decode (ab_code (zx σ n0 bf).1 8041) 8 = .ok (.if_icmp .ne 7, 3) := zd zm_8041 (by decide +kernel)
theorem d_8041_11 {σ : Nat → Nat} {n0 : Nat} {bf : ab_B} : decode (ab_code (zx σ n0 bf).1 8041) 11 = .ok (.iconst 0, 1) := zd zm_8041 (by decide +kernel)
theorem d_8041_12 {σ : Nat → Nat} {n0 : Nat} {bf : ab_B} : decode (ab_code (zx σ n0 bf).1 8041) 12 = .ok (.goto 13, 3) := zd zm_8041 (by decide +kernel)
theorem d_8041_15 {σ : Nat → Nat} {n0 : Nat} {bf : ab_B} : decode (ab_code (zx σ n0 bf).1 8041) 15 = .ok (.aload_n 0, 1) := zd zm_8041 (by decide +kernel)
theorem d_8041_16 {σ : Nat → Nat} {n0 : Nat} {bf : ab_B} : decode (ab_code (zx σ n0 bf).1 8041) 16 = .ok (.aload_n 0, 1) := zd zm_8041 (by decide +kernel)
theorem d_8041_17 {σ : Nat → Nat} {n0 : Nat} {bf : ab_B} : decode (ab_code (zx σ n0 bf).1 8041) 17 = .ok (.getfield 93, 3) := zd zm_8041 (by decide +kernel)
theorem d_8041_20 {σ : Nat → Nat} {n0 : Nat} {bf : ab_B} : decode (ab_code (zx σ n0 bf).1 8041) 20 = .ok (.iload_n 1, 1) := zd zm_8041 (by decide +kernel)
theorem d_8041_21 {σ : Nat → Nat} {n0 : Nat} {bf : ab_B} : decode (ab_code (zx σ n0 bf).1 8041) 21 = .ok (.iaload, 1) := zd zm_8041 (by decide +kernel)
theorem d_8041_22 {σ : Nat → Nat} {n0 : Nat} {bf : ab_B} : decode (ab_code (zx σ n0 bf).1 8041) 22 = .ok (.invokevirtual 561, 3) := zd zm_8041 (by decide +kernel)
theorem d_8041_25 {σ : Nat → Nat} {n0 : Nat} {bf : ab_B} : decode (ab_code (zx σ n0 bf).1 8041) 25 = .ok (.ireturn, 1) := zd zm_8041 (by decide +kernel)
def w_X9_memberHost (X : zs_X) (d : Nat) (p0 : Nat) (p1 : Int32) (S : zs_T) (Q : zs_Q) : Prop :=
  (zs_K S p0 = some (.inl 8) ∧ ∃ b2, (zs_R S 8044 p0) = some b2 ∧ zs_A S b2 1 p1 ∧ ((¬ (zs_i S b2 p1.toNatClampNeg) = (13 : Int32) → (∃ b6, (zs_R S 8045 p0) = some b6 ∧ zs_A S b6 0 p1 ∧ zs_C X d 8042 [.ref p0, .int (zs_i S b6 p1.toNatClampNeg)] S (zs_kI (fun v10 S9 => (Q (.returned (some (.int v10))) S9)) Q))) ∧ (¬ (¬ (zs_i S b2 p1.toNatClampNeg) = (13 : Int32)) → (Q (.returned (some (.int (0 : Int32)))) S))))
theorem u_X9_memberHost {σ : Nat → Nat} {n0 : Nat} {bf : ab_B} {d : Nat} {p0 : Nat} {p1 : Int32} {S : zs_T} {Q : zs_Q} (hB : zt_B bf) (hd : 1 ≤ d) (h : w_X9_memberHost (zx σ n0 bf) (d - 1) p0 p1 S Q) : zs_C (zx σ n0 bf) d 8041 [.ref p0, .int p1] S Q := by
  have hL : lv_args 0 [.ref p0, .int p1] = [(0, .ref p0), (1, .int p1)] := rfl
  refine zs_C.of1 (hB.2 8041 (by decide) (by decide)) hd (by rw [hL]; exact zs_sub_self _ (by exact ⟨rfl, rfl, trivial⟩)) ?_
  rw [hL]
  clear hL
  unfold w_X9_memberHost at h
  refine zu_aload_n d_8041_0 rfl (zs_ra _) ?_
  obtain ⟨k1, h⟩ := h
  refine zg_8_90 rfl d_8041_1 k1 ?_
  refine zu_iload_n d_8041_4 rfl ?_
  obtain ⟨b2, e3, h⟩ := h
  refine zs_stk1 (zs_rfe e3) ?_
  obtain ⟨k4, h⟩ := h
  refine zu_bald (k := 1) d_8041_5 rfl (Or.inl rfl) k4 ?_
  refine zu_bipush d_8041_6 zj_13 ?_
  refine zu_cmpne (t := 15) d_8041_8 rfl (fun c5 => ?_) (fun c5 => ?_)
  · have h := h.1 c5
    refine zu_aload_n d_8041_15 rfl (zs_ra _) ?_
    refine zu_aload_n d_8041_16 rfl (zs_ra _) ?_
    refine zg_8_93 rfl d_8041_17 k1 ?_
    refine zu_iload_n d_8041_20 rfl ?_
    obtain ⟨b6, e7, h⟩ := h
    refine zs_stk1 (zs_rfe e7) ?_
    obtain ⟨k8, h⟩ := h
    refine zu_iald (k := 0) d_8041_21 rfl rfl k8 ?_
    refine zc_8_561 (x0 := (zs_i S b6 p1.toNatClampNeg)) hB rfl k1 d_8041_22 (Nat.le_of_ble_eq_true rfl) h (fun v10 S9 h => ?_)
    exact zu_iret d_8041_25 zr_8041 rfl h
  · have h := h.2 c5
    refine zu_iconst d_8041_11 zi_0 ?_
    refine zu_goto (t := 25) d_8041_12 rfl ?_
    exact zu_iret d_8041_25 zr_8041 rfl h
/-! SchemaPascalModel.host(I)I -/
theorem zm_8042 {σ : Nat → Nat} {n0 : Nat} {bf : ab_B} : ab_code (zx σ n0 bf).1 8042 = prog_17_method_30_code := rfl
theorem zq_8042 {σ : Nat → Nat} {n0 : Nat} {bf : ab_B} : ab_maxL (zx σ n0 bf).1 8042 = 2 := rfl
theorem zr_8042 {σ : Nat → Nat} {n0 : Nat} {bf : ab_B} : ab_ret (zx σ n0 bf).1 8042 = (Option.some Jvm.ClassFile.FieldType.int) := rfl
theorem d_8042_0 {σ : Nat → Nat} {n0 : Nat} {bf : ab_B} : decode (ab_code (zx σ n0 bf).1 8042) 0 = .ok (.aload_n 0, 1) := zd zm_8042 (by decide +kernel)
theorem d_8042_1 {σ : Nat → Nat} {n0 : Nat} {bf : ab_B} : decode (ab_code (zx σ n0 bf).1 8042) 1 = .ok (.getfield 90, 3) := zd zm_8042 (by decide +kernel)
theorem d_8042_4 {σ : Nat → Nat} {n0 : Nat} {bf : ab_B} : decode (ab_code (zx σ n0 bf).1 8042) 4 = .ok (.iload_n 1, 1) := zd zm_8042 (by decide +kernel)
theorem d_8042_5 {σ : Nat → Nat} {n0 : Nat} {bf : ab_B} : decode (ab_code (zx σ n0 bf).1 8042) 5 = .ok (.baload, 1) := zd zm_8042 (by decide +kernel)
theorem d_8042_6 {σ : Nat → Nat} {n0 : Nat} {bf : ab_B} : decode (ab_code (zx σ n0 bf).1 8042) 6 = .ok (.iconst 5, 1) := zd zm_8042 (by decide +kernel)
theorem d_8042_7 {σ : Nat → Nat} {n0 : Nat} {bf : ab_B} : decode (ab_code (zx σ n0 bf).1 8042) 7 = .ok (.if_icmp .ne 12, 3) := zd zm_8042 (by decide +kernel)
theorem d_8042_10 {σ : Nat → Nat} {n0 : Nat} {bf : ab_B} : decode (ab_code (zx σ n0 bf).1 8042) 10 = .ok (.aload_n 0, 1) := zd zm_8042 (by decide +kernel)
theorem d_8042_11 {σ : Nat → Nat} {n0 : Nat} {bf : ab_B} : decode (ab_code (zx σ n0 bf).1 8042) 11 = .ok (.getfield 93, 3) := zd zm_8042 (by decide +kernel)
theorem d_8042_14 {σ : Nat → Nat} {n0 : Nat} {bf : ab_B} : decode (ab_code (zx σ n0 bf).1 8042) 14 = .ok (.iload_n 1, 1) := zd zm_8042 (by decide +kernel)
theorem d_8042_15 {σ : Nat → Nat} {n0 : Nat} {bf : ab_B} : decode (ab_code (zx σ n0 bf).1 8042) 15 = .ok (.iaload, 1) := zd zm_8042 (by decide +kernel)
theorem d_8042_16 {σ : Nat → Nat} {n0 : Nat} {bf : ab_B} : decode (ab_code (zx σ n0 bf).1 8042) 16 = .ok (.goto 4, 3) := zd zm_8042 (by decide +kernel)
theorem d_8042_19 {σ : Nat → Nat} {n0 : Nat} {bf : ab_B} : decode (ab_code (zx σ n0 bf).1 8042) 19 = .ok (.iload_n 1, 1) := zd zm_8042 (by decide +kernel)
theorem d_8042_20 {σ : Nat → Nat} {n0 : Nat} {bf : ab_B} : decode (ab_code (zx σ n0 bf).1 8042) 20 = .ok (.ireturn, 1) := zd zm_8042 (by decide +kernel)
def w_X9_host (X : zs_X) (d : Nat) (p0 : Nat) (p1 : Int32) (S : zs_T) (Q : zs_Q) : Prop :=
  (zs_K S p0 = some (.inl 8) ∧ ∃ b2, (zs_R S 8044 p0) = some b2 ∧ zs_A S b2 1 p1 ∧ ((¬ (zs_i S b2 p1.toNatClampNeg) = (5 : Int32) → (Q (.returned (some (.int p1))) S)) ∧ (¬ (¬ (zs_i S b2 p1.toNatClampNeg) = (5 : Int32)) → (∃ b6, (zs_R S 8045 p0) = some b6 ∧ zs_A S b6 0 p1 ∧ Q (.returned (some (.int (zs_i S b6 p1.toNatClampNeg)))) S))))
theorem u_X9_host {σ : Nat → Nat} {n0 : Nat} {bf : ab_B} {d : Nat} {p0 : Nat} {p1 : Int32} {S : zs_T} {Q : zs_Q} (hB : zt_B bf) (hd : 1 ≤ d) (h : w_X9_host (zx σ n0 bf) (d - 1) p0 p1 S Q) : zs_C (zx σ n0 bf) d 8042 [.ref p0, .int p1] S Q := by
  have hL : lv_args 0 [.ref p0, .int p1] = [(0, .ref p0), (1, .int p1)] := rfl
  refine zs_C.of1 (hB.2 8042 (by decide) (by decide)) hd (by rw [hL]; exact zs_sub_self _ (by exact ⟨rfl, rfl, trivial⟩)) ?_
  rw [hL]
  clear hL
  unfold w_X9_host at h
  refine zu_aload_n d_8042_0 rfl (zs_ra _) ?_
  obtain ⟨k1, h⟩ := h
  refine zg_8_90 rfl d_8042_1 k1 ?_
  refine zu_iload_n d_8042_4 rfl ?_
  obtain ⟨b2, e3, h⟩ := h
  refine zs_stk1 (zs_rfe e3) ?_
  obtain ⟨k4, h⟩ := h
  refine zu_bald (k := 1) d_8042_5 rfl (Or.inl rfl) k4 ?_
  refine zu_iconst d_8042_6 zi_5 ?_
  refine zu_cmpne (t := 19) d_8042_7 rfl (fun c5 => ?_) (fun c5 => ?_)
  · have h := h.1 c5
    refine zu_iload_n d_8042_19 rfl ?_
    exact zu_iret d_8042_20 zr_8042 rfl h
  · have h := h.2 c5
    refine zu_aload_n d_8042_10 rfl (zs_ra _) ?_
    refine zg_8_93 rfl d_8042_11 k1 ?_
    refine zu_iload_n d_8042_14 rfl ?_
    obtain ⟨b6, e7, h⟩ := h
    refine zs_stk1 (zs_rfe e7) ?_
    obtain ⟨k8, h⟩ := h
    refine zu_iald (k := 0) d_8042_15 rfl rfl k8 ?_
    refine zu_goto (t := 20) d_8042_16 rfl ?_
    exact zu_iret d_8042_20 zr_8042 rfl h
/-! SchemaPascalModel.isText(I)Z -/
theorem zm_8043 {σ : Nat → Nat} {n0 : Nat} {bf : ab_B} : ab_code (zx σ n0 bf).1 8043 = prog_17_method_31_code := rfl
theorem zq_8043 {σ : Nat → Nat} {n0 : Nat} {bf : ab_B} : ab_maxL (zx σ n0 bf).1 8043 = 2 := rfl
theorem zr_8043 {σ : Nat → Nat} {n0 : Nat} {bf : ab_B} : ab_ret (zx σ n0 bf).1 8043 = (Option.some Jvm.ClassFile.FieldType.boolean) := rfl
theorem d_8043_0 {σ : Nat → Nat} {n0 : Nat} {bf : ab_B} : decode (ab_code (zx σ n0 bf).1 8043) 0 = .ok (.iload_n 1, 1) := zd zm_8043 (by decide +kernel)
theorem d_8043_1 {σ : Nat → Nat} {n0 : Nat} {bf : ab_B} : decode (ab_code (zx σ n0 bf).1 8043) 1 = .ok (.ifCond .le 48, 3) := zd zm_8043 (by decide +kernel)
theorem d_8043_4 {σ : Nat → Nat} {n0 : Nat} {bf : ab_B} : decode (ab_code (zx σ n0 bf).1 8043) 4 = .ok (.aload_n 0, 1) := zd zm_8043 (by decide +kernel)
theorem d_8043_5 {σ : Nat → Nat} {n0 : Nat} {bf : ab_B} : decode (ab_code (zx σ n0 bf).1 8043) 5 = .ok (.getfield 90, 3) := zd zm_8043 (by decide +kernel)
theorem d_8043_8 {σ : Nat → Nat} {n0 : Nat} {bf : ab_B} : decode (ab_code (zx σ n0 bf).1 8043) 8 = .ok (.iload_n 1, 1) := zd zm_8043 (by decide +kernel)
theorem d_8043_9 {σ : Nat → Nat} {n0 : Nat} {bf : ab_B} : decode (ab_code (zx σ n0 bf).1 8043) 9 = .ok (.baload, 1) := zd zm_8043 (by decide +kernel)
theorem d_8043_10 {σ : Nat → Nat} {n0 : Nat} {bf : ab_B} : decode (ab_code (zx σ n0 bf).1 8043) 10 = .ok (.bipush 7, 2) := zd zm_8043 (by decide +kernel)
theorem d_8043_12 {σ : Nat → Nat} {n0 : Nat} {bf : ab_B} : decode (ab_code (zx σ n0 bf).1 8043) 12 = .ok (.if_icmp .eq 33, 3) := zd zm_8043 (by decide +kernel)
theorem d_8043_15 {σ : Nat → Nat} {n0 : Nat} {bf : ab_B} : decode (ab_code (zx σ n0 bf).1 8043) 15 = .ok (.aload_n 0, 1) := zd zm_8043 (by decide +kernel)
theorem d_8043_16 {σ : Nat → Nat} {n0 : Nat} {bf : ab_B} : decode (ab_code (zx σ n0 bf).1 8043) 16 = .ok (.getfield 90, 3) := zd zm_8043 (by decide +kernel)
theorem d_8043_19 {σ : Nat → Nat} {n0 : Nat} {bf : ab_B} : decode (ab_code (zx σ n0 bf).1 8043) 19 = .ok (.iload_n 1, 1) := zd zm_8043 (by decide +kernel)
theorem d_8043_20 {σ : Nat → Nat} {n0 : Nat} {bf : ab_B} : decode (ab_code (zx σ n0 bf).1 8043) 20 = .ok (.baload, 1) := zd zm_8043 (by decide +kernel)
theorem d_8043_21 {σ : Nat → Nat} {n0 : Nat} {bf : ab_B} : decode (ab_code (zx σ n0 bf).1 8043) 21 = .ok (.bipush 14, 2) := zd zm_8043 (by decide +kernel)
theorem d_8043_23 {σ : Nat → Nat} {n0 : Nat} {bf : ab_B} : decode (ab_code (zx σ n0 bf).1 8043) 23 = .ok (.if_icmp .eq 22, 3) := zd zm_8043 (by decide +kernel)
theorem d_8043_26 {σ : Nat → Nat} {n0 : Nat} {bf : ab_B} : decode (ab_code (zx σ n0 bf).1 8043) 26 = .ok (.aload_n 0, 1) := zd zm_8043 (by decide +kernel)
theorem d_8043_27 {σ : Nat → Nat} {n0 : Nat} {bf : ab_B} : decode (ab_code (zx σ n0 bf).1 8043) 27 = .ok (.getfield 90, 3) := zd zm_8043 (by decide +kernel)
theorem d_8043_30 {σ : Nat → Nat} {n0 : Nat} {bf : ab_B} : decode (ab_code (zx σ n0 bf).1 8043) 30 = .ok (.iload_n 1, 1) := zd zm_8043 (by decide +kernel)
theorem d_8043_31 {σ : Nat → Nat} {n0 : Nat} {bf : ab_B} : decode (ab_code (zx σ n0 bf).1 8043) 31 = .ok (.baload, 1) := zd zm_8043 (by decide +kernel)
theorem d_8043_32 {σ : Nat → Nat} {n0 : Nat} {bf : ab_B} : decode (ab_code (zx σ n0 bf).1 8043) 32 = .ok (.iconst 5, 1) := zd zm_8043 (by decide +kernel)
theorem d_8043_33 {σ : Nat → Nat} {n0 : Nat} {bf : ab_B} : decode (ab_code (zx σ n0 bf).1 8043) 33 = .ok (.if_icmp .gt 16, 3) := zd zm_8043 (by decide +kernel)
theorem d_8043_36 {σ : Nat → Nat} {n0 : Nat} {bf : ab_B} : decode (ab_code (zx σ n0 bf).1 8043) 36 = .ok (.aload_n 0, 1) := zd zm_8043 (by decide +kernel)
theorem d_8043_37 {σ : Nat → Nat} {n0 : Nat} {bf : ab_B} : decode (ab_code (zx σ n0 bf).1 8043) 37 = .ok (.iload_n 1, 1) := zd zm_8043 (by decide +kernel)
theorem d_8043_38 {σ : Nat → Nat} {n0 : Nat} {bf : ab_B} : decode (ab_code (zx σ n0 bf).1 8043) 38 = .ok (.invokevirtual 561, 3) := zd zm_8043 (by decide +kernel)
theorem d_8043_41 {σ : Nat → Nat} {n0 : Nat} {bf : ab_B} : decode (ab_code (zx σ n0 bf).1 8043) 41 = .ok (.iconst 3, 1) := zd zm_8043 (by decide +kernel)
theorem d_8043_42 {σ : Nat → Nat} {n0 : Nat} {bf : ab_B} : decode (ab_code (zx σ n0 bf).1 8043) 42 = .ok (.if_icmp .ne 7, 3) := zd zm_8043 (by decide +kernel)
theorem d_8043_45 {σ : Nat → Nat} {n0 : Nat} {bf : ab_B} : decode (ab_code (zx σ n0 bf).1 8043) 45 = .ok (.iconst 1, 1) := zd zm_8043 (by decide +kernel)
theorem d_8043_46 {σ : Nat → Nat} {n0 : Nat} {bf : ab_B} : decode (ab_code (zx σ n0 bf).1 8043) 46 = .ok (.goto 4, 3) := zd zm_8043 (by decide +kernel)
theorem d_8043_49 {σ : Nat → Nat} {n0 : Nat} {bf : ab_B} : decode (ab_code (zx σ n0 bf).1 8043) 49 = .ok (.iconst 0, 1) := zd zm_8043 (by decide +kernel)
theorem d_8043_50 {σ : Nat → Nat} {n0 : Nat} {bf : ab_B} : decode (ab_code (zx σ n0 bf).1 8043) 50 = .ok (.ireturn, 1) := zd zm_8043 (by decide +kernel)
def w_X9_isText_49 (X : zs_X) (d : Nat)  (S : zs_T) (Q : zs_Q) : Prop :=
  (Q (.returned (some (.int (0 : Int32)))) S)
theorem u_X9_isText_49 {σ : Nat → Nat} {n0 : Nat} {bf : ab_B} {d : Nat}  {S : zs_T} {Q : zs_Q} (hB : zt_B bf) (h : w_X9_isText_49 (zx σ n0 bf) d  S Q) : zs_U (zx σ n0 bf) d 8043 49 [] [] S Q := by
  unfold w_X9_isText_49 at h
  refine zu_iconst d_8043_49 zi_0 ?_
  exact zu_iret d_8043_50 zr_8043 (zs_b_n (Or.inl rfl)) h
def w_X9_isText_36 (X : zs_X) (d : Nat) (p0 : Nat) (p1 : Int32) (S : zs_T) (Q : zs_Q) : Prop :=
  (zs_K S p0 = some (.inl 8) ∧ zs_C X d 8042 [.ref p0, .int p1] S (zs_kI (fun v3 S2 => (((¬ v3 = (3 : Int32) → w_X9_isText_49 X d  S2 Q) ∧ (¬ (¬ v3 = (3 : Int32)) → (Q (.returned (some (.int (1 : Int32)))) S2))))) Q))
theorem u_X9_isText_36 {σ : Nat → Nat} {n0 : Nat} {bf : ab_B} {d : Nat} {p0 : Nat} {p1 : Int32} {S : zs_T} {Q : zs_Q} (hB : zt_B bf) (h : w_X9_isText_36 (zx σ n0 bf) d p0 p1 S Q) : zs_U (zx σ n0 bf) d 8043 36 [(0, .ref p0), (1, .int p1)] [] S Q := by
  unfold w_X9_isText_36 at h
  refine zu_aload_n d_8043_36 rfl (zs_ra _) ?_
  refine zu_iload_n d_8043_37 rfl ?_
  obtain ⟨k1, h⟩ := h
  refine zc_8_561 (x0 := p1) hB rfl k1 d_8043_38 (Nat.le_of_ble_eq_true rfl) h (fun v3 S2 h => ?_)
  refine zu_iconst d_8043_41 zi_3 ?_
  refine zu_cmpne (t := 49) d_8043_42 rfl (fun c4 => ?_) (fun c4 => ?_)
  · have h := h.1 c4
    exact (u_X9_isText_49 hB h).weak trivial
  · have h := h.2 c4
    refine zu_iconst d_8043_45 zi_1 ?_
    refine zu_goto (t := 50) d_8043_46 rfl ?_
    exact zu_iret d_8043_50 zr_8043 (zs_b_n (Or.inr rfl)) h
def w_X9_isText (X : zs_X) (d : Nat) (p0 : Nat) (p1 : Int32) (S : zs_T) (Q : zs_Q) : Prop :=
  (((p1 ≤ 0 → w_X9_isText_49 X d  S Q) ∧ (¬ (p1 ≤ 0) → (zs_K S p0 = some (.inl 8) ∧ ∃ b3, (zs_R S 8044 p0) = some b3 ∧ zs_A S b3 1 p1 ∧ (((zs_i S b3 p1.toNatClampNeg) = (7 : Int32) → (Q (.returned (some (.int (1 : Int32)))) S)) ∧ (¬ ((zs_i S b3 p1.toNatClampNeg) = (7 : Int32)) → ((((zs_i S b3 p1.toNatClampNeg) = (14 : Int32) → (Q (.returned (some (.int (1 : Int32)))) S)) ∧ (¬ ((zs_i S b3 p1.toNatClampNeg) = (14 : Int32)) → ((((5 : Int32) < (zs_i S b3 p1.toNatClampNeg) → w_X9_isText_49 X d  S Q) ∧ (¬ ((5 : Int32) < (zs_i S b3 p1.toNatClampNeg)) → w_X9_isText_36 X d p0 p1 S Q))))))))))))
theorem u_X9_isText {σ : Nat → Nat} {n0 : Nat} {bf : ab_B} {d : Nat} {p0 : Nat} {p1 : Int32} {S : zs_T} {Q : zs_Q} (hB : zt_B bf) (hd : 1 ≤ d) (h : w_X9_isText (zx σ n0 bf) (d - 1) p0 p1 S Q) : zs_C (zx σ n0 bf) d 8043 [.ref p0, .int p1] S Q := by
  have hL : lv_args 0 [.ref p0, .int p1] = [(0, .ref p0), (1, .int p1)] := rfl
  refine zs_C.of1 (hB.2 8043 (by decide) (by decide)) hd (by rw [hL]; exact zs_sub_self _ (by exact ⟨rfl, rfl, trivial⟩)) ?_
  rw [hL]
  clear hL
  unfold w_X9_isText at h
  refine zu_iload_n d_8043_0 rfl ?_
  refine zu_ifle (t := 49) d_8043_1 rfl (fun c1 => ?_) (fun c1 => ?_)
  · have h := h.1 c1
    exact (u_X9_isText_49 hB h).weak trivial
  · have h := h.2 c1
    refine zu_aload_n d_8043_4 rfl (zs_ra _) ?_
    obtain ⟨k2, h⟩ := h
    refine zg_8_90 rfl d_8043_5 k2 ?_
    refine zu_iload_n d_8043_8 rfl ?_
    obtain ⟨b3, e4, h⟩ := h
    refine zs_stk1 (zs_rfe e4) ?_
    obtain ⟨k5, h⟩ := h
    refine zu_bald (k := 1) d_8043_9 rfl (Or.inl rfl) k5 ?_
    refine zu_bipush d_8043_10 zj_7 ?_
    refine zu_cmpeq (t := 45) d_8043_12 rfl (fun c6 => ?_) (fun c6 => ?_)
    · have h := h.1 c6
      refine zu_iconst d_8043_45 zi_1 ?_
      refine zu_goto (t := 50) d_8043_46 rfl ?_
      exact zu_iret d_8043_50 zr_8043 (zs_b_n (Or.inr rfl)) h
    · have h := h.2 c6
      refine zu_aload_n d_8043_15 rfl (zs_ra _) ?_
      refine zg_8_90 rfl d_8043_16 k2 ?_
      refine zu_iload_n d_8043_19 rfl ?_
      refine zs_stk1 (zs_rfe e4) ?_
      refine zu_bald (k := 1) d_8043_20 rfl (Or.inl rfl) k5 ?_
      refine zu_bipush d_8043_21 zj_14 ?_
      refine zu_cmpeq (t := 45) d_8043_23 rfl (fun c7 => ?_) (fun c7 => ?_)
      · have h := h.1 c7
        refine zu_iconst d_8043_45 zi_1 ?_
        refine zu_goto (t := 50) d_8043_46 rfl ?_
        exact zu_iret d_8043_50 zr_8043 (zs_b_n (Or.inr rfl)) h
      · have h := h.2 c7
        refine zu_aload_n d_8043_26 rfl (zs_ra _) ?_
        refine zg_8_90 rfl d_8043_27 k2 ?_
        refine zu_iload_n d_8043_30 rfl ?_
        refine zs_stk1 (zs_rfe e4) ?_
        refine zu_bald (k := 1) d_8043_31 rfl (Or.inl rfl) k5 ?_
        refine zu_iconst d_8043_32 zi_5 ?_
        refine zu_cmpgt (t := 49) d_8043_33 rfl (fun c8 => ?_) (fun c8 => ?_)
        · have h := h.1 c8
          exact (u_X9_isText_49 hB h).weak trivial
        · have h := h.2 c8
          exact (u_X9_isText_36 hB h).weak ⟨rfl, rfl, trivial⟩
/-! SchemaPascalModel.isString(I)Z -/
theorem zm_8044 {σ : Nat → Nat} {n0 : Nat} {bf : ab_B} : ab_code (zx σ n0 bf).1 8044 = prog_17_method_32_code := rfl
theorem zq_8044 {σ : Nat → Nat} {n0 : Nat} {bf : ab_B} : ab_maxL (zx σ n0 bf).1 8044 = 2 := rfl
theorem zr_8044 {σ : Nat → Nat} {n0 : Nat} {bf : ab_B} : ab_ret (zx σ n0 bf).1 8044 = (Option.some Jvm.ClassFile.FieldType.boolean) := rfl
theorem d_8044_0 {σ : Nat → Nat} {n0 : Nat} {bf : ab_B} : decode (ab_code (zx σ n0 bf).1 8044) 0 = .ok (.iload_n 1, 1) := zd zm_8044 (by decide +kernel)
theorem d_8044_1 {σ : Nat → Nat} {n0 : Nat} {bf : ab_B} : decode (ab_code (zx σ n0 bf).1 8044) 1 = .ok (.ifCond .le 29, 3) := zd zm_8044 (by decide +kernel)
theorem d_8044_4 {σ : Nat → Nat} {n0 : Nat} {bf : ab_B} : decode (ab_code (zx σ n0 bf).1 8044) 4 = .ok (.aload_n 0, 1) := zd zm_8044 (by decide +kernel)
theorem d_8044_5 {σ : Nat → Nat} {n0 : Nat} {bf : ab_B} : decode (ab_code (zx σ n0 bf).1 8044) 5 = .ok (.getfield 90, 3) := zd zm_8044 (by decide +kernel)
theorem d_8044_8 {σ : Nat → Nat} {n0 : Nat} {bf : ab_B} : decode (ab_code (zx σ n0 bf).1 8044) 8 = .ok (.iload_n 1, 1) := zd zm_8044 (by decide +kernel)
theorem d_8044_9 {σ : Nat → Nat} {n0 : Nat} {bf : ab_B} : decode (ab_code (zx σ n0 bf).1 8044) 9 = .ok (.baload, 1) := zd zm_8044 (by decide +kernel)
theorem d_8044_10 {σ : Nat → Nat} {n0 : Nat} {bf : ab_B} : decode (ab_code (zx σ n0 bf).1 8044) 10 = .ok (.bipush 7, 2) := zd zm_8044 (by decide +kernel)
theorem d_8044_12 {σ : Nat → Nat} {n0 : Nat} {bf : ab_B} : decode (ab_code (zx σ n0 bf).1 8044) 12 = .ok (.if_icmp .eq 14, 3) := zd zm_8044 (by decide +kernel)
theorem d_8044_15 {σ : Nat → Nat} {n0 : Nat} {bf : ab_B} : decode (ab_code (zx σ n0 bf).1 8044) 15 = .ok (.aload_n 0, 1) := zd zm_8044 (by decide +kernel)
theorem d_8044_16 {σ : Nat → Nat} {n0 : Nat} {bf : ab_B} : decode (ab_code (zx σ n0 bf).1 8044) 16 = .ok (.getfield 90, 3) := zd zm_8044 (by decide +kernel)
theorem d_8044_19 {σ : Nat → Nat} {n0 : Nat} {bf : ab_B} : decode (ab_code (zx σ n0 bf).1 8044) 19 = .ok (.iload_n 1, 1) := zd zm_8044 (by decide +kernel)
theorem d_8044_20 {σ : Nat → Nat} {n0 : Nat} {bf : ab_B} : decode (ab_code (zx σ n0 bf).1 8044) 20 = .ok (.baload, 1) := zd zm_8044 (by decide +kernel)
theorem d_8044_21 {σ : Nat → Nat} {n0 : Nat} {bf : ab_B} : decode (ab_code (zx σ n0 bf).1 8044) 21 = .ok (.bipush 14, 2) := zd zm_8044 (by decide +kernel)
theorem d_8044_23 {σ : Nat → Nat} {n0 : Nat} {bf : ab_B} : decode (ab_code (zx σ n0 bf).1 8044) 23 = .ok (.if_icmp .ne 7, 3) := zd zm_8044 (by decide +kernel)
theorem d_8044_26 {σ : Nat → Nat} {n0 : Nat} {bf : ab_B} : decode (ab_code (zx σ n0 bf).1 8044) 26 = .ok (.iconst 1, 1) := zd zm_8044 (by decide +kernel)
theorem d_8044_27 {σ : Nat → Nat} {n0 : Nat} {bf : ab_B} : decode (ab_code (zx σ n0 bf).1 8044) 27 = .ok (.goto 4, 3) := zd zm_8044 (by decide +kernel)
theorem d_8044_30 {σ : Nat → Nat} {n0 : Nat} {bf : ab_B} : decode (ab_code (zx σ n0 bf).1 8044) 30 = .ok (.iconst 0, 1) := zd zm_8044 (by decide +kernel)
theorem d_8044_31 {σ : Nat → Nat} {n0 : Nat} {bf : ab_B} : decode (ab_code (zx σ n0 bf).1 8044) 31 = .ok (.ireturn, 1) := zd zm_8044 (by decide +kernel)
def w_X9_isString (X : zs_X) (d : Nat) (p0 : Nat) (p1 : Int32) (S : zs_T) (Q : zs_Q) : Prop :=
  (((p1 ≤ 0 → (Q (.returned (some (.int (0 : Int32)))) S)) ∧ (¬ (p1 ≤ 0) → (zs_K S p0 = some (.inl 8) ∧ ∃ b3, (zs_R S 8044 p0) = some b3 ∧ zs_A S b3 1 p1 ∧ (((zs_i S b3 p1.toNatClampNeg) = (7 : Int32) → (Q (.returned (some (.int (1 : Int32)))) S)) ∧ (¬ ((zs_i S b3 p1.toNatClampNeg) = (7 : Int32)) → (((¬ (zs_i S b3 p1.toNatClampNeg) = (14 : Int32) → (Q (.returned (some (.int (0 : Int32)))) S)) ∧ (¬ (¬ (zs_i S b3 p1.toNatClampNeg) = (14 : Int32)) → (Q (.returned (some (.int (1 : Int32)))) S))))))))))
theorem u_X9_isString {σ : Nat → Nat} {n0 : Nat} {bf : ab_B} {d : Nat} {p0 : Nat} {p1 : Int32} {S : zs_T} {Q : zs_Q} (hB : zt_B bf) (hd : 1 ≤ d) (h : w_X9_isString (zx σ n0 bf) (d - 1) p0 p1 S Q) : zs_C (zx σ n0 bf) d 8044 [.ref p0, .int p1] S Q := by
  have hL : lv_args 0 [.ref p0, .int p1] = [(0, .ref p0), (1, .int p1)] := rfl
  refine zs_C.of1 (hB.2 8044 (by decide) (by decide)) hd (by rw [hL]; exact zs_sub_self _ (by exact ⟨rfl, rfl, trivial⟩)) ?_
  rw [hL]
  clear hL
  unfold w_X9_isString at h
  refine zu_iload_n d_8044_0 rfl ?_
  refine zu_ifle (t := 30) d_8044_1 rfl (fun c1 => ?_) (fun c1 => ?_)
  · have h := h.1 c1
    refine zu_iconst d_8044_30 zi_0 ?_
    exact zu_iret d_8044_31 zr_8044 (zs_b_n (Or.inl rfl)) h
  · have h := h.2 c1
    refine zu_aload_n d_8044_4 rfl (zs_ra _) ?_
    obtain ⟨k2, h⟩ := h
    refine zg_8_90 rfl d_8044_5 k2 ?_
    refine zu_iload_n d_8044_8 rfl ?_
    obtain ⟨b3, e4, h⟩ := h
    refine zs_stk1 (zs_rfe e4) ?_
    obtain ⟨k5, h⟩ := h
    refine zu_bald (k := 1) d_8044_9 rfl (Or.inl rfl) k5 ?_
    refine zu_bipush d_8044_10 zj_7 ?_
    refine zu_cmpeq (t := 26) d_8044_12 rfl (fun c6 => ?_) (fun c6 => ?_)
    · have h := h.1 c6
      refine zu_iconst d_8044_26 zi_1 ?_
      refine zu_goto (t := 31) d_8044_27 rfl ?_
      exact zu_iret d_8044_31 zr_8044 (zs_b_n (Or.inr rfl)) h
    · have h := h.2 c6
      refine zu_aload_n d_8044_15 rfl (zs_ra _) ?_
      refine zg_8_90 rfl d_8044_16 k2 ?_
      refine zu_iload_n d_8044_19 rfl ?_
      refine zs_stk1 (zs_rfe e4) ?_
      refine zu_bald (k := 1) d_8044_20 rfl (Or.inl rfl) k5 ?_
      refine zu_bipush d_8044_21 zj_14 ?_
      refine zu_cmpne (t := 30) d_8044_23 rfl (fun c7 => ?_) (fun c7 => ?_)
      · have h := h.1 c7
        refine zu_iconst d_8044_30 zi_0 ?_
        exact zu_iret d_8044_31 zr_8044 (zs_b_n (Or.inl rfl)) h
      · have h := h.2 c7
        refine zu_iconst d_8044_26 zi_1 ?_
        refine zu_goto (t := 31) d_8044_27 rfl ?_
        exact zu_iret d_8044_31 zr_8044 (zs_b_n (Or.inr rfl)) h
/-! SchemaPascalModel.insertText()V -/
theorem zm_8045 {σ : Nat → Nat} {n0 : Nat} {bf : ab_B} : ab_code (zx σ n0 bf).1 8045 = prog_17_method_56_code := rfl
theorem zq_8045 {σ : Nat → Nat} {n0 : Nat} {bf : ab_B} : ab_maxL (zx σ n0 bf).1 8045 = 3 := rfl
theorem zr_8045 {σ : Nat → Nat} {n0 : Nat} {bf : ab_B} : ab_ret (zx σ n0 bf).1 8045 = (Option.none : Option Jvm.ClassFile.FieldType) := rfl
theorem d_8045_0 {σ : Nat → Nat} {n0 : Nat} {bf : ab_B} : decode (ab_code (zx σ n0 bf).1 8045) 0 = .ok (.aload_n 0, 1) := zd zm_8045 (by decide +kernel)
theorem d_8045_1 {σ : Nat → Nat} {n0 : Nat} {bf : ab_B} : decode (ab_code (zx σ n0 bf).1 8045) 1 = .ok (.iconst 0, 1) := zd zm_8045 (by decide +kernel)
theorem d_8045_2 {σ : Nat → Nat} {n0 : Nat} {bf : ab_B} : decode (ab_code (zx σ n0 bf).1 8045) 2 = .ok (.iconst 0, 1) := zd zm_8045 (by decide +kernel)
theorem d_8045_3 {σ : Nat → Nat} {n0 : Nat} {bf : ab_B} : decode (ab_code (zx σ n0 bf).1 8045) 3 = .ok (.iconst 0, 1) := zd zm_8045 (by decide +kernel)
theorem d_8045_4 {σ : Nat → Nat} {n0 : Nat} {bf : ab_B} : decode (ab_code (zx σ n0 bf).1 8045) 4 = .ok (.iconst 0, 1) := zd zm_8045 (by decide +kernel)
theorem d_8045_5 {σ : Nat → Nat} {n0 : Nat} {bf : ab_B} : decode (ab_code (zx σ n0 bf).1 8045) 5 = .ok (.invokevirtual 656, 3) := zd zm_8045 (by decide +kernel)
theorem d_8045_8 {σ : Nat → Nat} {n0 : Nat} {bf : ab_B} : decode (ab_code (zx σ n0 bf).1 8045) 8 = .ok (.istore_n 1, 1) := zd zm_8045 (by decide +kernel)
theorem d_8045_9 {σ : Nat → Nat} {n0 : Nat} {bf : ab_B} : decode (ab_code (zx σ n0 bf).1 8045) 9 = .ok (.iload_n 1, 1) := zd zm_8045 (by decide +kernel)
theorem d_8045_10 {σ : Nat → Nat} {n0 : Nat} {bf : ab_B} : decode (ab_code (zx σ n0 bf).1 8045) 10 = .ok (.istore_n 2, 1) := zd zm_8045 (by decide +kernel)
theorem d_8045_11 {σ : Nat → Nat} {n0 : Nat} {bf : ab_B} : decode (ab_code (zx σ n0 bf).1 8045) 11 = .ok (.iload_n 2, 1) := zd zm_8045 (by decide +kernel)
theorem d_8045_12 {σ : Nat → Nat} {n0 : Nat} {bf : ab_B} : decode (ab_code (zx σ n0 bf).1 8045) 12 = .ok (.aload_n 0, 1) := zd zm_8045 (by decide +kernel)
theorem d_8045_13 {σ : Nat → Nat} {n0 : Nat} {bf : ab_B} : decode (ab_code (zx σ n0 bf).1 8045) 13 = .ok (.getfield 203, 3) := zd zm_8045 (by decide +kernel)
theorem d_8045_16 {σ : Nat → Nat} {n0 : Nat} {bf : ab_B} : decode (ab_code (zx σ n0 bf).1 8045) 16 = .ok (.aload_n 0, 1) := zd zm_8045 (by decide +kernel)
theorem d_8045_17 {σ : Nat → Nat} {n0 : Nat} {bf : ab_B} : decode (ab_code (zx σ n0 bf).1 8045) 17 = .ok (.getfield 653, 3) := zd zm_8045 (by decide +kernel)
theorem d_8045_20 {σ : Nat → Nat} {n0 : Nat} {bf : ab_B} : decode (ab_code (zx σ n0 bf).1 8045) 20 = .ok (.iaload, 1) := zd zm_8045 (by decide +kernel)
theorem d_8045_21 {σ : Nat → Nat} {n0 : Nat} {bf : ab_B} : decode (ab_code (zx σ n0 bf).1 8045) 21 = .ok (.if_icmp .le 65, 3) := zd zm_8045 (by decide +kernel)
theorem d_8045_24 {σ : Nat → Nat} {n0 : Nat} {bf : ab_B} : decode (ab_code (zx σ n0 bf).1 8045) 24 = .ok (.aload_n 0, 1) := zd zm_8045 (by decide +kernel)
theorem d_8045_25 {σ : Nat → Nat} {n0 : Nat} {bf : ab_B} : decode (ab_code (zx σ n0 bf).1 8045) 25 = .ok (.getfield 72, 3) := zd zm_8045 (by decide +kernel)
theorem d_8045_28 {σ : Nat → Nat} {n0 : Nat} {bf : ab_B} : decode (ab_code (zx σ n0 bf).1 8045) 28 = .ok (.iload_n 2, 1) := zd zm_8045 (by decide +kernel)
theorem d_8045_29 {σ : Nat → Nat} {n0 : Nat} {bf : ab_B} : decode (ab_code (zx σ n0 bf).1 8045) 29 = .ok (.aload_n 0, 1) := zd zm_8045 (by decide +kernel)
theorem d_8045_30 {σ : Nat → Nat} {n0 : Nat} {bf : ab_B} : decode (ab_code (zx σ n0 bf).1 8045) 30 = .ok (.getfield 72, 3) := zd zm_8045 (by decide +kernel)
theorem d_8045_33 {σ : Nat → Nat} {n0 : Nat} {bf : ab_B} : decode (ab_code (zx σ n0 bf).1 8045) 33 = .ok (.iload_n 2, 1) := zd zm_8045 (by decide +kernel)
theorem d_8045_34 {σ : Nat → Nat} {n0 : Nat} {bf : ab_B} : decode (ab_code (zx σ n0 bf).1 8045) 34 = .ok (.iconst 1, 1) := zd zm_8045 (by decide +kernel)
theorem d_8045_35 {σ : Nat → Nat} {n0 : Nat} {bf : ab_B} : decode (ab_code (zx σ n0 bf).1 8045) 35 = .ok (.isub, 1) := zd zm_8045 (by decide +kernel)
theorem d_8045_36 {σ : Nat → Nat} {n0 : Nat} {bf : ab_B} : decode (ab_code (zx σ n0 bf).1 8045) 36 = .ok (.iaload, 1) := zd zm_8045 (by decide +kernel)
theorem d_8045_37 {σ : Nat → Nat} {n0 : Nat} {bf : ab_B} : decode (ab_code (zx σ n0 bf).1 8045) 37 = .ok (.iastore, 1) := zd zm_8045 (by decide +kernel)
theorem d_8045_38 {σ : Nat → Nat} {n0 : Nat} {bf : ab_B} : decode (ab_code (zx σ n0 bf).1 8045) 38 = .ok (.aload_n 0, 1) := zd zm_8045 (by decide +kernel)
theorem d_8045_39 {σ : Nat → Nat} {n0 : Nat} {bf : ab_B} : decode (ab_code (zx σ n0 bf).1 8045) 39 = .ok (.getfield 75, 3) := zd zm_8045 (by decide +kernel)
theorem d_8045_42 {σ : Nat → Nat} {n0 : Nat} {bf : ab_B} : decode (ab_code (zx σ n0 bf).1 8045) 42 = .ok (.iload_n 2, 1) := zd zm_8045 (by decide +kernel)
theorem d_8045_43 {σ : Nat → Nat} {n0 : Nat} {bf : ab_B} : decode (ab_code (zx σ n0 bf).1 8045) 43 = .ok (.aload_n 0, 1) := zd zm_8045 (by decide +kernel)
theorem d_8045_44 {σ : Nat → Nat} {n0 : Nat} {bf : ab_B} : decode (ab_code (zx σ n0 bf).1 8045) 44 = .ok (.getfield 75, 3) := zd zm_8045 (by decide +kernel)
theorem d_8045_47 {σ : Nat → Nat} {n0 : Nat} {bf : ab_B} : decode (ab_code (zx σ n0 bf).1 8045) 47 = .ok (.iload_n 2, 1) := zd zm_8045 (by decide +kernel)
theorem d_8045_48 {σ : Nat → Nat} {n0 : Nat} {bf : ab_B} : decode (ab_code (zx σ n0 bf).1 8045) 48 = .ok (.iconst 1, 1) := zd zm_8045 (by decide +kernel)
theorem d_8045_49 {σ : Nat → Nat} {n0 : Nat} {bf : ab_B} : decode (ab_code (zx σ n0 bf).1 8045) 49 = .ok (.isub, 1) := zd zm_8045 (by decide +kernel)
theorem d_8045_50 {σ : Nat → Nat} {n0 : Nat} {bf : ab_B} : decode (ab_code (zx σ n0 bf).1 8045) 50 = .ok (.iaload, 1) := zd zm_8045 (by decide +kernel)
theorem d_8045_51 {σ : Nat → Nat} {n0 : Nat} {bf : ab_B} : decode (ab_code (zx σ n0 bf).1 8045) 51 = .ok (.iastore, 1) := zd zm_8045 (by decide +kernel)
theorem d_8045_52 {σ : Nat → Nat} {n0 : Nat} {bf : ab_B} : decode (ab_code (zx σ n0 bf).1 8045) 52 = .ok (.aload_n 0, 1) := zd zm_8045 (by decide +kernel)
theorem d_8045_53 {σ : Nat → Nat} {n0 : Nat} {bf : ab_B} : decode (ab_code (zx σ n0 bf).1 8045) 53 = .ok (.getfield 78, 3) := zd zm_8045 (by decide +kernel)
theorem d_8045_56 {σ : Nat → Nat} {n0 : Nat} {bf : ab_B} : decode (ab_code (zx σ n0 bf).1 8045) 56 = .ok (.iload_n 2, 1) := zd zm_8045 (by decide +kernel)
theorem d_8045_57 {σ : Nat → Nat} {n0 : Nat} {bf : ab_B} : decode (ab_code (zx σ n0 bf).1 8045) 57 = .ok (.aload_n 0, 1) := zd zm_8045 (by decide +kernel)
theorem d_8045_58 {σ : Nat → Nat} {n0 : Nat} {bf : ab_B} : decode (ab_code (zx σ n0 bf).1 8045) 58 = .ok (.getfield 78, 3) := zd zm_8045 (by decide +kernel)
theorem d_8045_61 {σ : Nat → Nat} {n0 : Nat} {bf : ab_B} : decode (ab_code (zx σ n0 bf).1 8045) 61 = .ok (.iload_n 2, 1) := zd zm_8045 (by decide +kernel)
theorem d_8045_62 {σ : Nat → Nat} {n0 : Nat} {bf : ab_B} : decode (ab_code (zx σ n0 bf).1 8045) 62 = .ok (.iconst 1, 1) := zd zm_8045 (by decide +kernel)
theorem d_8045_63 {σ : Nat → Nat} {n0 : Nat} {bf : ab_B} : decode (ab_code (zx σ n0 bf).1 8045) 63 = .ok (.isub, 1) := zd zm_8045 (by decide +kernel)
theorem d_8045_64 {σ : Nat → Nat} {n0 : Nat} {bf : ab_B} : decode (ab_code (zx σ n0 bf).1 8045) 64 = .ok (.iaload, 1) := zd zm_8045 (by decide +kernel)
theorem d_8045_65 {σ : Nat → Nat} {n0 : Nat} {bf : ab_B} : decode (ab_code (zx σ n0 bf).1 8045) 65 = .ok (.iastore, 1) := zd zm_8045 (by decide +kernel)
theorem d_8045_66 {σ : Nat → Nat} {n0 : Nat} {bf : ab_B} : decode (ab_code (zx σ n0 bf).1 8045) 66 = .ok (.aload_n 0, 1) := zd zm_8045 (by decide +kernel)
theorem d_8045_67 {σ : Nat → Nat} {n0 : Nat} {bf : ab_B} : decode (ab_code (zx σ n0 bf).1 8045) 67 = .ok (.getfield 81, 3) := zd zm_8045 (by decide +kernel)
theorem d_8045_70 {σ : Nat → Nat} {n0 : Nat} {bf : ab_B} : decode (ab_code (zx σ n0 bf).1 8045) 70 = .ok (.iload_n 2, 1) := zd zm_8045 (by decide +kernel)
theorem d_8045_71 {σ : Nat → Nat} {n0 : Nat} {bf : ab_B} : decode (ab_code (zx σ n0 bf).1 8045) 71 = .ok (.aload_n 0, 1) := zd zm_8045 (by decide +kernel)
theorem d_8045_72 {σ : Nat → Nat} {n0 : Nat} {bf : ab_B} : decode (ab_code (zx σ n0 bf).1 8045) 72 = .ok (.getfield 81, 3) := zd zm_8045 (by decide +kernel)
theorem d_8045_75 {σ : Nat → Nat} {n0 : Nat} {bf : ab_B} : decode (ab_code (zx σ n0 bf).1 8045) 75 = .ok (.iload_n 2, 1) := zd zm_8045 (by decide +kernel)
theorem d_8045_76 {σ : Nat → Nat} {n0 : Nat} {bf : ab_B} : decode (ab_code (zx σ n0 bf).1 8045) 76 = .ok (.iconst 1, 1) := zd zm_8045 (by decide +kernel)
theorem d_8045_77 {σ : Nat → Nat} {n0 : Nat} {bf : ab_B} : decode (ab_code (zx σ n0 bf).1 8045) 77 = .ok (.isub, 1) := zd zm_8045 (by decide +kernel)
theorem d_8045_78 {σ : Nat → Nat} {n0 : Nat} {bf : ab_B} : decode (ab_code (zx σ n0 bf).1 8045) 78 = .ok (.iaload, 1) := zd zm_8045 (by decide +kernel)
theorem d_8045_79 {σ : Nat → Nat} {n0 : Nat} {bf : ab_B} : decode (ab_code (zx σ n0 bf).1 8045) 79 = .ok (.iastore, 1) := zd zm_8045 (by decide +kernel)
theorem d_8045_80 {σ : Nat → Nat} {n0 : Nat} {bf : ab_B} : decode (ab_code (zx σ n0 bf).1 8045) 80 = .ok (.iinc 2 (-1), 3) := zd zm_8045 (by decide +kernel)
theorem d_8045_83 {σ : Nat → Nat} {n0 : Nat} {bf : ab_B} : decode (ab_code (zx σ n0 bf).1 8045) 83 = .ok (.goto (-72), 3) := zd zm_8045 (by decide +kernel)
theorem d_8045_86 {σ : Nat → Nat} {n0 : Nat} {bf : ab_B} : decode (ab_code (zx σ n0 bf).1 8045) 86 = .ok (.aload_n 0, 1) := zd zm_8045 (by decide +kernel)
theorem d_8045_87 {σ : Nat → Nat} {n0 : Nat} {bf : ab_B} : decode (ab_code (zx σ n0 bf).1 8045) 87 = .ok (.getfield 72, 3) := zd zm_8045 (by decide +kernel)
theorem d_8045_90 {σ : Nat → Nat} {n0 : Nat} {bf : ab_B} : decode (ab_code (zx σ n0 bf).1 8045) 90 = .ok (.aload_n 0, 1) := zd zm_8045 (by decide +kernel)
theorem d_8045_91 {σ : Nat → Nat} {n0 : Nat} {bf : ab_B} : decode (ab_code (zx σ n0 bf).1 8045) 91 = .ok (.getfield 203, 3) := zd zm_8045 (by decide +kernel)
theorem d_8045_94 {σ : Nat → Nat} {n0 : Nat} {bf : ab_B} : decode (ab_code (zx σ n0 bf).1 8045) 94 = .ok (.aload_n 0, 1) := zd zm_8045 (by decide +kernel)
theorem d_8045_95 {σ : Nat → Nat} {n0 : Nat} {bf : ab_B} : decode (ab_code (zx σ n0 bf).1 8045) 95 = .ok (.getfield 653, 3) := zd zm_8045 (by decide +kernel)
theorem d_8045_98 {σ : Nat → Nat} {n0 : Nat} {bf : ab_B} : decode (ab_code (zx σ n0 bf).1 8045) 98 = .ok (.iaload, 1) := zd zm_8045 (by decide +kernel)
theorem d_8045_99 {σ : Nat → Nat} {n0 : Nat} {bf : ab_B} : decode (ab_code (zx σ n0 bf).1 8045) 99 = .ok (.bipush 10, 2) := zd zm_8045 (by decide +kernel)
theorem d_8045_101 {σ : Nat → Nat} {n0 : Nat} {bf : ab_B} : decode (ab_code (zx σ n0 bf).1 8045) 101 = .ok (.iastore, 1) := zd zm_8045 (by decide +kernel)
theorem d_8045_102 {σ : Nat → Nat} {n0 : Nat} {bf : ab_B} : decode (ab_code (zx σ n0 bf).1 8045) 102 = .ok (.aload_n 0, 1) := zd zm_8045 (by decide +kernel)
theorem d_8045_103 {σ : Nat → Nat} {n0 : Nat} {bf : ab_B} : decode (ab_code (zx σ n0 bf).1 8045) 103 = .ok (.getfield 81, 3) := zd zm_8045 (by decide +kernel)
theorem d_8045_106 {σ : Nat → Nat} {n0 : Nat} {bf : ab_B} : decode (ab_code (zx σ n0 bf).1 8045) 106 = .ok (.aload_n 0, 1) := zd zm_8045 (by decide +kernel)
theorem d_8045_107 {σ : Nat → Nat} {n0 : Nat} {bf : ab_B} : decode (ab_code (zx σ n0 bf).1 8045) 107 = .ok (.getfield 203, 3) := zd zm_8045 (by decide +kernel)
theorem d_8045_110 {σ : Nat → Nat} {n0 : Nat} {bf : ab_B} : decode (ab_code (zx σ n0 bf).1 8045) 110 = .ok (.aload_n 0, 1) := zd zm_8045 (by decide +kernel)
theorem d_8045_111 {σ : Nat → Nat} {n0 : Nat} {bf : ab_B} : decode (ab_code (zx σ n0 bf).1 8045) 111 = .ok (.getfield 653, 3) := zd zm_8045 (by decide +kernel)
theorem d_8045_114 {σ : Nat → Nat} {n0 : Nat} {bf : ab_B} : decode (ab_code (zx σ n0 bf).1 8045) 114 = .ok (.iaload, 1) := zd zm_8045 (by decide +kernel)
theorem d_8045_115 {σ : Nat → Nat} {n0 : Nat} {bf : ab_B} : decode (ab_code (zx σ n0 bf).1 8045) 115 = .ok (.aload_n 0, 1) := zd zm_8045 (by decide +kernel)
theorem d_8045_116 {σ : Nat → Nat} {n0 : Nat} {bf : ab_B} : decode (ab_code (zx σ n0 bf).1 8045) 116 = .ok (.getfield 206, 3) := zd zm_8045 (by decide +kernel)
theorem d_8045_119 {σ : Nat → Nat} {n0 : Nat} {bf : ab_B} : decode (ab_code (zx σ n0 bf).1 8045) 119 = .ok (.aload_n 0, 1) := zd zm_8045 (by decide +kernel)
theorem d_8045_120 {σ : Nat → Nat} {n0 : Nat} {bf : ab_B} : decode (ab_code (zx σ n0 bf).1 8045) 120 = .ok (.getfield 653, 3) := zd zm_8045 (by decide +kernel)
theorem d_8045_123 {σ : Nat → Nat} {n0 : Nat} {bf : ab_B} : decode (ab_code (zx σ n0 bf).1 8045) 123 = .ok (.iconst 1, 1) := zd zm_8045 (by decide +kernel)
theorem d_8045_124 {σ : Nat → Nat} {n0 : Nat} {bf : ab_B} : decode (ab_code (zx σ n0 bf).1 8045) 124 = .ok (.isub, 1) := zd zm_8045 (by decide +kernel)
theorem d_8045_125 {σ : Nat → Nat} {n0 : Nat} {bf : ab_B} : decode (ab_code (zx σ n0 bf).1 8045) 125 = .ok (.iaload, 1) := zd zm_8045 (by decide +kernel)
theorem d_8045_126 {σ : Nat → Nat} {n0 : Nat} {bf : ab_B} : decode (ab_code (zx σ n0 bf).1 8045) 126 = .ok (.iastore, 1) := zd zm_8045 (by decide +kernel)
theorem d_8045_127 {σ : Nat → Nat} {n0 : Nat} {bf : ab_B} : decode (ab_code (zx σ n0 bf).1 8045) 127 = .ok (.return_, 1) := zd zm_8045 (by decide +kernel)
def w_X9_insertText_102 (X : zs_X) (d : Nat) (p0 : Nat) (S : zs_T) (Q : zs_Q) : Prop :=
  (zs_K S p0 = some (.inl 8) ∧ ∃ b2, (zs_R S 8095 p0) = some b2 ∧ zs_A S b2 0 (zs_I S 8097 p0) ∧ ∃ b5, (zs_R S 8096 p0) = some b5 ∧ zs_A S b5 0 ((zs_I S 8097 p0) - (1 : Int32)) ∧ ∃ b8, (zs_R S 8039 p0) = some b8 ∧ zs_A S b8 0 (zs_i S b2 (zs_I S 8097 p0).toNatClampNeg) ∧ ab_n0 X.1 ≤ b8 ∧ ∀ S12, S12 = zs_si S b8 (zs_i S b2 (zs_I S 8097 p0).toNatClampNeg).toNatClampNeg (zs_i S b5 ((zs_I S 8097 p0) - (1 : Int32)).toNatClampNeg) → Q (.returned none) S12)
theorem u_X9_insertText_102 {σ : Nat → Nat} {n0 : Nat} {bf : ab_B} {d : Nat} {p0 : Nat} {S : zs_T} {Q : zs_Q} (hB : zt_B bf) (h : w_X9_insertText_102 (zx σ n0 bf) d p0 S Q) : zs_U (zx σ n0 bf) d 8045 102 [(0, .ref p0)] [] S Q := by
  unfold w_X9_insertText_102 at h
  refine zu_aload_n d_8045_102 rfl (zs_ra _) ?_
  obtain ⟨k1, h⟩ := h
  refine zg_8_81 rfl d_8045_103 k1 ?_
  refine zu_aload_n d_8045_106 rfl (zs_ra _) ?_
  refine zg_8_203 rfl d_8045_107 k1 ?_
  refine zu_aload_n d_8045_110 rfl (zs_ra _) ?_
  refine zg_8_653 rfl d_8045_111 k1 ?_
  obtain ⟨b2, e3, h⟩ := h
  refine zs_stk1 (zs_rfe e3) ?_
  obtain ⟨k4, h⟩ := h
  refine zu_iald (k := 0) d_8045_114 rfl rfl k4 ?_
  refine zu_aload_n d_8045_115 rfl (zs_ra _) ?_
  refine zg_8_206 rfl d_8045_116 k1 ?_
  refine zu_aload_n d_8045_119 rfl (zs_ra _) ?_
  refine zg_8_653 rfl d_8045_120 k1 ?_
  refine zu_iconst d_8045_123 zi_1 ?_
  refine zu_stk d_8045_124 rfl rfl ?_
  obtain ⟨b5, e6, h⟩ := h
  refine zs_stk1 (zs_rfe e6) ?_
  obtain ⟨k7, h⟩ := h
  refine zu_iald (k := 0) d_8045_125 rfl rfl k7 ?_
  obtain ⟨b8, e9, h⟩ := h
  refine zs_stk2 (zs_rfe e9) ?_
  obtain ⟨k10, h⟩ := h
  obtain ⟨k11, h⟩ := h
  refine zu_iast (k := 0) d_8045_126 rfl rfl k11 k10 ?_
  generalize e13 : zs_si S b8 (zs_i S b2 (zs_I S 8097 p0).toNatClampNeg).toNatClampNeg (zs_i S b5 ((zs_I S 8097 p0) - (1 : Int32)).toNatClampNeg) = S12
  have h := h S12 e13.symm
  have K14 : ∀ b, zs_K S12 b = zs_K S b := zs_Kt e13 (zs_Ksi _ _ _ _) (fun _ => rfl)
  exact zu_vret d_8045_127 zr_8045 h
def w_X9_insertText_66 (X : zs_X) (d : Nat) (p0 : Nat) (p2 : Int32) (S : zs_T) (Q : zs_Q) : Prop :=
  (zs_K S p0 = some (.inl 8) ∧ ∃ b2, (zs_R S 8039 p0) = some b2 ∧ zs_A S b2 0 (p2 - (1 : Int32)) ∧ zs_A S b2 0 p2 ∧ ab_n0 X.1 ≤ b2 ∧ ∀ S7, S7 = zs_si S b2 p2.toNatClampNeg (zs_i S b2 (p2 - (1 : Int32)).toNatClampNeg) → zs_U X d 8045 11 [(0, .ref p0), (2, .int (p2 + (-1 : Int32)))] [] S7 Q)
theorem u_X9_insertText_66 {σ : Nat → Nat} {n0 : Nat} {bf : ab_B} {d : Nat} {p0 : Nat} {p2 : Int32} {S : zs_T} {Q : zs_Q} (hB : zt_B bf) (h : w_X9_insertText_66 (zx σ n0 bf) d p0 p2 S Q) : zs_U (zx σ n0 bf) d 8045 66 [(0, .ref p0), (2, .int p2)] [] S Q := by
  unfold w_X9_insertText_66 at h
  refine zu_aload_n d_8045_66 rfl (zs_ra _) ?_
  obtain ⟨k1, h⟩ := h
  refine zg_8_81 rfl d_8045_67 k1 ?_
  refine zu_iload_n d_8045_70 rfl ?_
  refine zu_aload_n d_8045_71 rfl (zs_ra _) ?_
  refine zg_8_81 rfl d_8045_72 k1 ?_
  refine zu_iload_n d_8045_75 rfl ?_
  refine zu_iconst d_8045_76 zi_1 ?_
  refine zu_stk d_8045_77 rfl rfl ?_
  obtain ⟨b2, e3, h⟩ := h
  refine zs_stk1 (zs_rfe e3) ?_
  obtain ⟨k4, h⟩ := h
  refine zu_iald (k := 0) d_8045_78 rfl rfl k4 ?_
  refine zs_stk2 (zs_rfe e3) ?_
  obtain ⟨k5, h⟩ := h
  obtain ⟨k6, h⟩ := h
  refine zu_iast (k := 0) d_8045_79 rfl rfl k6 k5 ?_
  generalize e8 : zs_si S b2 p2.toNatClampNeg (zs_i S b2 (p2 - (1 : Int32)).toNatClampNeg) = S7
  have h := h S7 e8.symm
  have K9 : ∀ b, zs_K S7 b = zs_K S b := zs_Kt e8 (zs_Ksi _ _ _ _) (fun _ => rfl)
  refine zu_iinc d_8045_80 rfl zi_m1 (zs_lt zq_8045 rfl) ?_
  refine zu_goto (t := 11) d_8045_83 rfl ?_
  exact h.weak ⟨rfl, rfl, trivial⟩
def w_X9_insertText_38 (X : zs_X) (d : Nat) (p0 : Nat) (p2 : Int32) (S : zs_T) (Q : zs_Q) : Prop :=
  (zs_K S p0 = some (.inl 8) ∧ ∃ b2, (zs_R S 8037 p0) = some b2 ∧ zs_A S b2 0 (p2 - (1 : Int32)) ∧ zs_A S b2 0 p2 ∧ ab_n0 X.1 ≤ b2 ∧ ∀ S7, S7 = zs_si S b2 p2.toNatClampNeg (zs_i S b2 (p2 - (1 : Int32)).toNatClampNeg) → ∃ b10, (zs_R S7 8038 p0) = some b10 ∧ zs_A S b10 0 (p2 - (1 : Int32)) ∧ zs_A S b10 0 p2 ∧ ab_n0 X.1 ≤ b10 ∧ ∀ S15, S15 = zs_si S7 b10 p2.toNatClampNeg (zs_i S7 b10 (p2 - (1 : Int32)).toNatClampNeg) → w_X9_insertText_66 X d p0 p2 S15 Q)
theorem u_X9_insertText_38 {σ : Nat → Nat} {n0 : Nat} {bf : ab_B} {d : Nat} {p0 : Nat} {p2 : Int32} {S : zs_T} {Q : zs_Q} (hB : zt_B bf) (h : w_X9_insertText_38 (zx σ n0 bf) d p0 p2 S Q) : zs_U (zx σ n0 bf) d 8045 38 [(0, .ref p0), (2, .int p2)] [] S Q := by
  unfold w_X9_insertText_38 at h
  refine zu_aload_n d_8045_38 rfl (zs_ra _) ?_
  obtain ⟨k1, h⟩ := h
  refine zg_8_75 rfl d_8045_39 k1 ?_
  refine zu_iload_n d_8045_42 rfl ?_
  refine zu_aload_n d_8045_43 rfl (zs_ra _) ?_
  refine zg_8_75 rfl d_8045_44 k1 ?_
  refine zu_iload_n d_8045_47 rfl ?_
  refine zu_iconst d_8045_48 zi_1 ?_
  refine zu_stk d_8045_49 rfl rfl ?_
  obtain ⟨b2, e3, h⟩ := h
  refine zs_stk1 (zs_rfe e3) ?_
  obtain ⟨k4, h⟩ := h
  refine zu_iald (k := 0) d_8045_50 rfl rfl k4 ?_
  refine zs_stk2 (zs_rfe e3) ?_
  obtain ⟨k5, h⟩ := h
  obtain ⟨k6, h⟩ := h
  refine zu_iast (k := 0) d_8045_51 rfl rfl k6 k5 ?_
  generalize e8 : zs_si S b2 p2.toNatClampNeg (zs_i S b2 (p2 - (1 : Int32)).toNatClampNeg) = S7
  have h := h S7 e8.symm
  have K9 : ∀ b, zs_K S7 b = zs_K S b := zs_Kt e8 (zs_Ksi _ _ _ _) (fun _ => rfl)
  refine zu_aload_n d_8045_52 rfl (zs_ra _) ?_
  refine zg_8_78 rfl d_8045_53 ((K9 _).trans k1) ?_
  refine zu_iload_n d_8045_56 rfl ?_
  refine zu_aload_n d_8045_57 rfl (zs_ra _) ?_
  refine zg_8_78 rfl d_8045_58 ((K9 _).trans k1) ?_
  refine zu_iload_n d_8045_61 rfl ?_
  refine zu_iconst d_8045_62 zi_1 ?_
  refine zu_stk d_8045_63 rfl rfl ?_
  obtain ⟨b10, e11, h⟩ := h
  refine zs_stk1 (zs_rfe e11) ?_
  obtain ⟨k12, h⟩ := h
  refine zu_iald (k := 0) d_8045_64 rfl rfl (zs_Ak K9 k12) ?_
  refine zs_stk2 (zs_rfe e11) ?_
  obtain ⟨k13, h⟩ := h
  obtain ⟨k14, h⟩ := h
  refine zu_iast (k := 0) d_8045_65 rfl rfl k14 (zs_Ak K9 k13) ?_
  generalize e16 : zs_si S7 b10 p2.toNatClampNeg (zs_i S7 b10 (p2 - (1 : Int32)).toNatClampNeg) = S15
  have h := h S15 e16.symm
  have K17 : ∀ b, zs_K S15 b = zs_K S b := zs_Kt e16 (zs_Ksi _ _ _ _) K9
  exact (u_X9_insertText_66 hB h).weak ⟨rfl, rfl, trivial⟩
def w_X9_insertText_11 (X : zs_X) (d : Nat) (p0 : Nat) (p2 : Int32) (S : zs_T) (Q : zs_Q) : Prop :=
  (zs_K S p0 = some (.inl 8) ∧ ∃ b2, (zs_R S 8095 p0) = some b2 ∧ zs_A S b2 0 (zs_I S 8097 p0) ∧ ((p2 ≤ (zs_i S b2 (zs_I S 8097 p0).toNatClampNeg) → (∃ b6, (zs_R S 8036 p0) = some b6 ∧ zs_A S b6 0 (zs_i S b2 (zs_I S 8097 p0).toNatClampNeg) ∧ ab_n0 X.1 ≤ b6 ∧ ∀ S10, S10 = zs_si S b6 (zs_i S b2 (zs_I S 8097 p0).toNatClampNeg).toNatClampNeg (10 : Int32) → w_X9_insertText_102 X d p0 S10 Q)) ∧ (¬ (p2 ≤ (zs_i S b2 (zs_I S 8097 p0).toNatClampNeg)) → (∃ b13, (zs_R S 8036 p0) = some b13 ∧ zs_A S b13 0 (p2 - (1 : Int32)) ∧ zs_A S b13 0 p2 ∧ ab_n0 X.1 ≤ b13 ∧ ∀ S18, S18 = zs_si S b13 p2.toNatClampNeg (zs_i S b13 (p2 - (1 : Int32)).toNatClampNeg) → w_X9_insertText_38 X d p0 p2 S18 Q))))
theorem u_X9_insertText_11 {σ : Nat → Nat} {n0 : Nat} {bf : ab_B} {d : Nat} {p0 : Nat} {p2 : Int32} {S : zs_T} {Q : zs_Q} (hB : zt_B bf) (h : w_X9_insertText_11 (zx σ n0 bf) d p0 p2 S Q) : zs_U (zx σ n0 bf) d 8045 11 [(0, .ref p0), (2, .int p2)] [] S Q := by
  unfold w_X9_insertText_11 at h
  refine zu_iload_n d_8045_11 rfl ?_
  refine zu_aload_n d_8045_12 rfl (zs_ra _) ?_
  obtain ⟨k1, h⟩ := h
  refine zg_8_203 rfl d_8045_13 k1 ?_
  refine zu_aload_n d_8045_16 rfl (zs_ra _) ?_
  refine zg_8_653 rfl d_8045_17 k1 ?_
  obtain ⟨b2, e3, h⟩ := h
  refine zs_stk1 (zs_rfe e3) ?_
  obtain ⟨k4, h⟩ := h
  refine zu_iald (k := 0) d_8045_20 rfl rfl k4 ?_
  refine zu_cmple (t := 86) d_8045_21 rfl (fun c5 => ?_) (fun c5 => ?_)
  · have h := h.1 c5
    refine zu_aload_n d_8045_86 rfl (zs_ra _) ?_
    refine zg_8_72 rfl d_8045_87 k1 ?_
    refine zu_aload_n d_8045_90 rfl (zs_ra _) ?_
    refine zg_8_203 rfl d_8045_91 k1 ?_
    refine zu_aload_n d_8045_94 rfl (zs_ra _) ?_
    refine zg_8_653 rfl d_8045_95 k1 ?_
    refine zs_stk1 (zs_rfe e3) ?_
    refine zu_iald (k := 0) d_8045_98 rfl rfl k4 ?_
    refine zu_bipush d_8045_99 zj_10 ?_
    obtain ⟨b6, e7, h⟩ := h
    refine zs_stk2 (zs_rfe e7) ?_
    obtain ⟨k8, h⟩ := h
    obtain ⟨k9, h⟩ := h
    refine zu_iast (k := 0) d_8045_101 rfl rfl k9 k8 ?_
    generalize e11 : zs_si S b6 (zs_i S b2 (zs_I S 8097 p0).toNatClampNeg).toNatClampNeg (10 : Int32) = S10
    have h := h S10 e11.symm
    have K12 : ∀ b, zs_K S10 b = zs_K S b := zs_Kt e11 (zs_Ksi _ _ _ _) (fun _ => rfl)
    exact (u_X9_insertText_102 hB h).weak ⟨rfl, trivial⟩
  · have h := h.2 c5
    refine zu_aload_n d_8045_24 rfl (zs_ra _) ?_
    refine zg_8_72 rfl d_8045_25 k1 ?_
    refine zu_iload_n d_8045_28 rfl ?_
    refine zu_aload_n d_8045_29 rfl (zs_ra _) ?_
    refine zg_8_72 rfl d_8045_30 k1 ?_
    refine zu_iload_n d_8045_33 rfl ?_
    refine zu_iconst d_8045_34 zi_1 ?_
    refine zu_stk d_8045_35 rfl rfl ?_
    obtain ⟨b13, e14, h⟩ := h
    refine zs_stk1 (zs_rfe e14) ?_
    obtain ⟨k15, h⟩ := h
    refine zu_iald (k := 0) d_8045_36 rfl rfl k15 ?_
    refine zs_stk2 (zs_rfe e14) ?_
    obtain ⟨k16, h⟩ := h
    obtain ⟨k17, h⟩ := h
    refine zu_iast (k := 0) d_8045_37 rfl rfl k17 k16 ?_
    generalize e19 : zs_si S b13 p2.toNatClampNeg (zs_i S b13 (p2 - (1 : Int32)).toNatClampNeg) = S18
    have h := h S18 e19.symm
    have K20 : ∀ b, zs_K S18 b = zs_K S b := zs_Kt e19 (zs_Ksi _ _ _ _) (fun _ => rfl)
    exact (u_X9_insertText_38 hB h).weak ⟨rfl, rfl, trivial⟩
def w_X9_insertText (X : zs_X) (d : Nat) (p0 : Nat) (S : zs_T) (Q : zs_Q) : Prop :=
  (zs_K S p0 = some (.inl 8) ∧ zs_C X d 8012 [.ref p0, .int (0 : Int32), .int (0 : Int32), .int (0 : Int32), .int (0 : Int32)] S (zs_kI (fun v3 S2 => (zs_U X d 8045 11 [(0, .ref p0), (2, .int v3)] [] S2 Q)) Q))
theorem u_X9_insertText {σ : Nat → Nat} {n0 : Nat} {bf : ab_B} {d : Nat} {p0 : Nat} {S : zs_T} {Q : zs_Q} (hB : zt_B bf) (hd : 1 ≤ d) (h : w_X9_insertText (zx σ n0 bf) (d - 1) p0 S Q) : zs_C (zx σ n0 bf) d 8045 [.ref p0] S Q := by
  have hL : lv_args 0 [.ref p0] = [(0, .ref p0)] := rfl
  refine zs_C.of1 (hB.2 8045 (by decide) (by decide)) hd (by rw [hL]; exact zs_sub_self _ (by exact ⟨rfl, trivial⟩)) ?_
  rw [hL]
  clear hL
  unfold w_X9_insertText at h
  refine zu_aload_n d_8045_0 rfl (zs_ra _) ?_
  refine zu_iconst d_8045_1 zi_0 ?_
  refine zu_iconst d_8045_2 zi_0 ?_
  refine zu_iconst d_8045_3 zi_0 ?_
  refine zu_iconst d_8045_4 zi_0 ?_
  obtain ⟨k1, h⟩ := h
  refine zc_8_656 (x0 := (0 : Int32)) (x1 := (0 : Int32)) (x2 := (0 : Int32)) (x3 := (0 : Int32)) hB rfl k1 d_8045_5 (Nat.le_of_ble_eq_true rfl) h (fun v3 S2 h => ?_)
  refine zu_istore_n d_8045_8 (zs_lt zq_8045 rfl) ?_
  refine zu_iload_n d_8045_9 rfl ?_
  refine zu_istore_n d_8045_10 (zs_lt zq_8045 rfl) ?_
  exact h.weak ⟨rfl, rfl, trivial⟩
