/-! printed by gen_all.py: what the methods compute -/
set_option maxRecDepth 100000
/-! SchemaPascalModel.<init>()V -/
theorem zm_8000 {σ : Nat → Nat} {n0 : Nat} {bf : ab_B} : ab_code (zx σ n0 bf).1 8000 = prog_17_method_1_code := rfl
theorem zq_8000 {σ : Nat → Nat} {n0 : Nat} {bf : ab_B} : ab_maxL (zx σ n0 bf).1 8000 = 1 := rfl
theorem zr_8000 {σ : Nat → Nat} {n0 : Nat} {bf : ab_B} : ab_ret (zx σ n0 bf).1 8000 = (Option.none : Option Jvm.ClassFile.FieldType) := rfl
theorem d_8000_0 {σ : Nat → Nat} {n0 : Nat} {bf : ab_B} : decode (ab_code (zx σ n0 bf).1 8000) 0 = .ok (.aload_n 0, 1) := zd zm_8000 (by decide +kernel)
theorem d_8000_1 {σ : Nat → Nat} {n0 : Nat} {bf : ab_B} : decode (ab_code (zx σ n0 bf).1 8000) 1 = .ok (.invokespecial 1, 3) := zd zm_8000 (by decide +kernel)
theorem d_8000_4 {σ : Nat → Nat} {n0 : Nat} {bf : ab_B} : decode (ab_code (zx σ n0 bf).1 8000) 4 = .ok (.aload_n 0, 1) := zd zm_8000 (by decide +kernel)
theorem d_8000_5 {σ : Nat → Nat} {n0 : Nat} {bf : ab_B} : decode (ab_code (zx σ n0 bf).1 8000) 5 = .ok (.ldc 7, 2) := zd zm_8000 (by decide +kernel)
theorem d_8000_7 {σ : Nat → Nat} {n0 : Nat} {bf : ab_B} : decode (ab_code (zx σ n0 bf).1 8000) 7 = .ok (.newarray .byte, 2) := zd zm_8000 (by decide +kernel)
theorem d_8000_9 {σ : Nat → Nat} {n0 : Nat} {bf : ab_B} : decode (ab_code (zx σ n0 bf).1 8000) 9 = .ok (.putfield 8, 3) := zd zm_8000 (by decide +kernel)
theorem d_8000_12 {σ : Nat → Nat} {n0 : Nat} {bf : ab_B} : decode (ab_code (zx σ n0 bf).1 8000) 12 = .ok (.aload_n 0, 1) := zd zm_8000 (by decide +kernel)
theorem d_8000_13 {σ : Nat → Nat} {n0 : Nat} {bf : ab_B} : decode (ab_code (zx σ n0 bf).1 8000) 13 = .ok (.ldc 7, 2) := zd zm_8000 (by decide +kernel)
theorem d_8000_15 {σ : Nat → Nat} {n0 : Nat} {bf : ab_B} : decode (ab_code (zx σ n0 bf).1 8000) 15 = .ok (.newarray .byte, 2) := zd zm_8000 (by decide +kernel)
theorem d_8000_17 {σ : Nat → Nat} {n0 : Nat} {bf : ab_B} : decode (ab_code (zx σ n0 bf).1 8000) 17 = .ok (.putfield 14, 3) := zd zm_8000 (by decide +kernel)
theorem d_8000_20 {σ : Nat → Nat} {n0 : Nat} {bf : ab_B} : decode (ab_code (zx σ n0 bf).1 8000) 20 = .ok (.aload_n 0, 1) := zd zm_8000 (by decide +kernel)
theorem d_8000_21 {σ : Nat → Nat} {n0 : Nat} {bf : ab_B} : decode (ab_code (zx σ n0 bf).1 8000) 21 = .ok (.sipush 332, 3) := zd zm_8000 (by decide +kernel)
theorem d_8000_24 {σ : Nat → Nat} {n0 : Nat} {bf : ab_B} : decode (ab_code (zx σ n0 bf).1 8000) 24 = .ok (.newarray .byte, 2) := zd zm_8000 (by decide +kernel)
theorem d_8000_26 {σ : Nat → Nat} {n0 : Nat} {bf : ab_B} : decode (ab_code (zx σ n0 bf).1 8000) 26 = .ok (.dup, 1) := zd zm_8000 (by decide +kernel)
theorem d_8000_27 {σ : Nat → Nat} {n0 : Nat} {bf : ab_B} : decode (ab_code (zx σ n0 bf).1 8000) 27 = .ok (.iconst 0, 1) := zd zm_8000 (by decide +kernel)
theorem d_8000_28 {σ : Nat → Nat} {n0 : Nat} {bf : ab_B} : decode (ab_code (zx σ n0 bf).1 8000) 28 = .ok (.bipush 112, 2) := zd zm_8000 (by decide +kernel)
theorem d_8000_30 {σ : Nat → Nat} {n0 : Nat} {bf : ab_B} : decode (ab_code (zx σ n0 bf).1 8000) 30 = .ok (.bastore, 1) := zd zm_8000 (by decide +kernel)
theorem d_8000_31 {σ : Nat → Nat} {n0 : Nat} {bf : ab_B} : decode (ab_code (zx σ n0 bf).1 8000) 31 = .ok (.dup, 1) := zd zm_8000 (by decide +kernel)
theorem d_8000_32 {σ : Nat → Nat} {n0 : Nat} {bf : ab_B} : decode (ab_code (zx σ n0 bf).1 8000) 32 = .ok (.iconst 1, 1) := zd zm_8000 (by decide +kernel)
theorem d_8000_33 {σ : Nat → Nat} {n0 : Nat} {bf : ab_B} : decode (ab_code (zx σ n0 bf).1 8000) 33 = .ok (.bipush 114, 2) := zd zm_8000 (by decide +kernel)
theorem d_8000_35 {σ : Nat → Nat} {n0 : Nat} {bf : ab_B} : decode (ab_code (zx σ n0 bf).1 8000) 35 = .ok (.bastore, 1) := zd zm_8000 (by decide +kernel)
theorem d_8000_36 {σ : Nat → Nat} {n0 : Nat} {bf : ab_B} : decode (ab_code (zx σ n0 bf).1 8000) 36 = .ok (.dup, 1) := zd zm_8000 (by decide +kernel)
theorem d_8000_37 {σ : Nat → Nat} {n0 : Nat} {bf : ab_B} : decode (ab_code (zx σ n0 bf).1 8000) 37 = .ok (.iconst 2, 1) := zd zm_8000 (by decide +kernel)
theorem d_8000_38 {σ : Nat → Nat} {n0 : Nat} {bf : ab_B} : decode (ab_code (zx σ n0 bf).1 8000) 38 = .ok (.bipush 111, 2) := zd zm_8000 (by decide +kernel)
theorem d_8000_40 {σ : Nat → Nat} {n0 : Nat} {bf : ab_B} : decode (ab_code (zx σ n0 bf).1 8000) 40 = .ok (.bastore, 1) := zd zm_8000 (by decide +kernel)
theorem d_8000_41 {σ : Nat → Nat} {n0 : Nat} {bf : ab_B} : decode (ab_code (zx σ n0 bf).1 8000) 41 = .ok (.dup, 1) := zd zm_8000 (by decide +kernel)
theorem d_8000_42 {σ : Nat → Nat} {n0 : Nat} {bf : ab_B} : decode (ab_code (zx σ n0 bf).1 8000) 42 = .ok (.iconst 3, 1) := zd zm_8000 (by decide +kernel)
theorem d_8000_43 {σ : Nat → Nat} {n0 : Nat} {bf : ab_B} : decode (ab_code (zx σ n0 bf).1 8000) 43 = .ok (.bipush 103, 2) := zd zm_8000 (by decide +kernel)
theorem d_8000_45 {σ : Nat → Nat} {n0 : Nat} {bf : ab_B} : decode (ab_code (zx σ n0 bf).1 8000) 45 = .ok (.bastore, 1) := zd zm_8000 (by decide +kernel)
theorem d_8000_46 {σ : Nat → Nat} {n0 : Nat} {bf : ab_B} : decode (ab_code (zx σ n0 bf).1 8000) 46 = .ok (.dup, 1) := zd zm_8000 (by decide +kernel)
theorem d_8000_47 {σ : Nat → Nat} {n0 : Nat} {bf : ab_B} : decode (ab_code (zx σ n0 bf).1 8000) 47 = .ok (.iconst 4, 1) := zd zm_8000 (by decide +kernel)
theorem d_8000_48 {σ : Nat → Nat} {n0 : Nat} {bf : ab_B} : decode (ab_code (zx σ n0 bf).1 8000) 48 = .ok (.bipush 114, 2) := zd zm_8000 (by decide +kernel)
theorem d_8000_50 {σ : Nat → Nat} {n0 : Nat} {bf : ab_B} : decode (ab_code (zx σ n0 bf).1 8000) 50 = .ok (.bastore, 1) := zd zm_8000 (by decide +kernel)
theorem d_8000_51 {σ : Nat → Nat} {n0 : Nat} {bf : ab_B} : decode (ab_code (zx σ n0 bf).1 8000) 51 = .ok (.dup, 1) := zd zm_8000 (by decide +kernel)
theorem d_8000_52 {σ : Nat → Nat} {n0 : Nat} {bf : ab_B} : decode (ab_code (zx σ n0 bf).1 8000) 52 = .ok (.iconst 5, 1) := zd zm_8000 (by decide +kernel)
theorem d_8000_53 {σ : Nat → Nat} {n0 : Nat} {bf : ab_B} : decode (ab_code (zx σ n0 bf).1 8000) 53 = .ok (.bipush 97, 2) := zd zm_8000 (by decide +kernel)
theorem d_8000_55 {σ : Nat → Nat} {n0 : Nat} {bf : ab_B} : decode (ab_code (zx σ n0 bf).1 8000) 55 = .ok (.bastore, 1) := zd zm_8000 (by decide +kernel)
theorem d_8000_56 {σ : Nat → Nat} {n0 : Nat} {bf : ab_B} : decode (ab_code (zx σ n0 bf).1 8000) 56 = .ok (.dup, 1) := zd zm_8000 (by decide +kernel)
theorem d_8000_57 {σ : Nat → Nat} {n0 : Nat} {bf : ab_B} : decode (ab_code (zx σ n0 bf).1 8000) 57 = .ok (.bipush 6, 2) := zd zm_8000 (by decide +kernel)
theorem d_8000_59 {σ : Nat → Nat} {n0 : Nat} {bf : ab_B} : decode (ab_code (zx σ n0 bf).1 8000) 59 = .ok (.bipush 109, 2) := zd zm_8000 (by decide +kernel)
theorem d_8000_61 {σ : Nat → Nat} {n0 : Nat} {bf : ab_B} : decode (ab_code (zx σ n0 bf).1 8000) 61 = .ok (.bastore, 1) := zd zm_8000 (by decide +kernel)
theorem d_8000_62 {σ : Nat → Nat} {n0 : Nat} {bf : ab_B} : decode (ab_code (zx σ n0 bf).1 8000) 62 = .ok (.dup, 1) := zd zm_8000 (by decide +kernel)
theorem d_8000_63 {σ : Nat → Nat} {n0 : Nat} {bf : ab_B} : decode (ab_code (zx σ n0 bf).1 8000) 63 = .ok (.bipush 7, 2) := zd zm_8000 (by decide +kernel)
theorem d_8000_65 {σ : Nat → Nat} {n0 : Nat} {bf : ab_B} : decode (ab_code (zx σ n0 bf).1 8000) 65 = .ok (.bipush 32, 2) := zd zm_8000 (by decide +kernel)
theorem d_8000_67 {σ : Nat → Nat} {n0 : Nat} {bf : ab_B} : decode (ab_code (zx σ n0 bf).1 8000) 67 = .ok (.bastore, 1) := zd zm_8000 (by decide +kernel)
theorem d_8000_68 {σ : Nat → Nat} {n0 : Nat} {bf : ab_B} : decode (ab_code (zx σ n0 bf).1 8000) 68 = .ok (.dup, 1) := zd zm_8000 (by decide +kernel)
theorem d_8000_69 {σ : Nat → Nat} {n0 : Nat} {bf : ab_B} : decode (ab_code (zx σ n0 bf).1 8000) 69 = .ok (.bipush 8, 2) := zd zm_8000 (by decide +kernel)
theorem d_8000_71 {σ : Nat → Nat} {n0 : Nat} {bf : ab_B} : decode (ab_code (zx σ n0 bf).1 8000) 71 = .ok (.bipush 99, 2) := zd zm_8000 (by decide +kernel)
theorem d_8000_73 {σ : Nat → Nat} {n0 : Nat} {bf : ab_B} : decode (ab_code (zx σ n0 bf).1 8000) 73 = .ok (.bastore, 1) := zd zm_8000 (by decide +kernel)
theorem d_8000_74 {σ : Nat → Nat} {n0 : Nat} {bf : ab_B} : decode (ab_code (zx σ n0 bf).1 8000) 74 = .ok (.dup, 1) := zd zm_8000 (by decide +kernel)
theorem d_8000_75 {σ : Nat → Nat} {n0 : Nat} {bf : ab_B} : decode (ab_code (zx σ n0 bf).1 8000) 75 = .ok (.bipush 9, 2) := zd zm_8000 (by decide +kernel)
theorem d_8000_77 {σ : Nat → Nat} {n0 : Nat} {bf : ab_B} : decode (ab_code (zx σ n0 bf).1 8000) 77 = .ok (.bipush 111, 2) := zd zm_8000 (by decide +kernel)
theorem d_8000_79 {σ : Nat → Nat} {n0 : Nat} {bf : ab_B} : decode (ab_code (zx σ n0 bf).1 8000) 79 = .ok (.bastore, 1) := zd zm_8000 (by decide +kernel)
theorem d_8000_80 {σ : Nat → Nat} {n0 : Nat} {bf : ab_B} : decode (ab_code (zx σ n0 bf).1 8000) 80 = .ok (.dup, 1) := zd zm_8000 (by decide +kernel)
theorem d_8000_81 {σ : Nat → Nat} {n0 : Nat} {bf : ab_B} : decode (ab_code (zx σ n0 bf).1 8000) 81 = .ok (.bipush 10, 2) := zd zm_8000 (by decide +kernel)
theorem d_8000_83 {σ : Nat → Nat} {n0 : Nat} {bf : ab_B} : decode (ab_code (zx σ n0 bf).1 8000) 83 = .ok (.bipush 110, 2) := zd zm_8000 (by decide +kernel)
theorem d_8000_85 {σ : Nat → Nat} {n0 : Nat} {bf : ab_B} : decode (ab_code (zx σ n0 bf).1 8000) 85 = .ok (.bastore, 1) := zd zm_8000 (by decide +kernel)
theorem d_8000_86 {σ : Nat → Nat} {n0 : Nat} {bf : ab_B} : decode (ab_code (zx σ n0 bf).1 8000) 86 = .ok (.dup, 1) := zd zm_8000 (by decide +kernel)
theorem d_8000_87 {σ : Nat → Nat} {n0 : Nat} {bf : ab_B} : decode (ab_code (zx σ n0 bf).1 8000) 87 = .ok (.bipush 11, 2) := zd zm_8000 (by decide +kernel)
theorem d_8000_89 {σ : Nat → Nat} {n0 : Nat} {bf : ab_B} : decode (ab_code (zx σ n0 bf).1 8000) 89 = .ok (.bipush 115, 2) := zd zm_8000 (by decide +kernel)
theorem d_8000_91 {σ : Nat → Nat} {n0 : Nat} {bf : ab_B} : decode (ab_code (zx σ n0 bf).1 8000) 91 = .ok (.bastore, 1) := zd zm_8000 (by decide +kernel)
theorem d_8000_92 {σ : Nat → Nat} {n0 : Nat} {bf : ab_B} : decode (ab_code (zx σ n0 bf).1 8000) 92 = .ok (.dup, 1) := zd zm_8000 (by decide +kernel)
theorem d_8000_93 {σ : Nat → Nat} {n0 : Nat} {bf : ab_B} : decode (ab_code (zx σ n0 bf).1 8000) 93 = .ok (.bipush 12, 2) := zd zm_8000 (by decide +kernel)
theorem d_8000_95 {σ : Nat → Nat} {n0 : Nat} {bf : ab_B} : decode (ab_code (zx σ n0 bf).1 8000) 95 = .ok (.bipush 116, 2) := zd zm_8000 (by decide +kernel)
theorem d_8000_97 {σ : Nat → Nat} {n0 : Nat} {bf : ab_B} : decode (ab_code (zx σ n0 bf).1 8000) 97 = .ok (.bastore, 1) := zd zm_8000 (by decide +kernel)
theorem d_8000_98 {σ : Nat → Nat} {n0 : Nat} {bf : ab_B} : decode (ab_code (zx σ n0 bf).1 8000) 98 = .ok (.dup, 1) := zd zm_8000 (by decide +kernel)
theorem d_8000_99 {σ : Nat → Nat} {n0 : Nat} {bf : ab_B} : decode (ab_code (zx σ n0 bf).1 8000) 99 = .ok (.bipush 13, 2) := zd zm_8000 (by decide +kernel)
theorem d_8000_101 {σ : Nat → Nat} {n0 : Nat} {bf : ab_B} : decode (ab_code (zx σ n0 bf).1 8000) 101 = .ok (.bipush 32, 2) := zd zm_8000 (by decide +kernel)
theorem d_8000_103 {σ : Nat → Nat} {n0 : Nat} {bf : ab_B} : decode (ab_code (zx σ n0 bf).1 8000) 103 = .ok (.bastore, 1) := zd zm_8000 (by decide +kernel)
theorem d_8000_104 {σ : Nat → Nat} {n0 : Nat} {bf : ab_B} : decode (ab_code (zx σ n0 bf).1 8000) 104 = .ok (.dup, 1) := zd zm_8000 (by decide +kernel)
theorem d_8000_105 {σ : Nat → Nat} {n0 : Nat} {bf : ab_B} : decode (ab_code (zx σ n0 bf).1 8000) 105 = .ok (.bipush 14, 2) := zd zm_8000 (by decide +kernel)
theorem d_8000_107 {σ : Nat → Nat} {n0 : Nat} {bf : ab_B} : decode (ab_code (zx σ n0 bf).1 8000) 107 = .ok (.bipush 116, 2) := zd zm_8000 (by decide +kernel)
theorem d_8000_109 {σ : Nat → Nat} {n0 : Nat} {bf : ab_B} : decode (ab_code (zx σ n0 bf).1 8000) 109 = .ok (.bastore, 1) := zd zm_8000 (by decide +kernel)
theorem d_8000_110 {σ : Nat → Nat} {n0 : Nat} {bf : ab_B} : decode (ab_code (zx σ n0 bf).1 8000) 110 = .ok (.dup, 1) := zd zm_8000 (by decide +kernel)
theorem d_8000_111 {σ : Nat → Nat} {n0 : Nat} {bf : ab_B} : decode (ab_code (zx σ n0 bf).1 8000) 111 = .ok (.bipush 15, 2) := zd zm_8000 (by decide +kernel)
theorem d_8000_113 {σ : Nat → Nat} {n0 : Nat} {bf : ab_B} : decode (ab_code (zx σ n0 bf).1 8000) 113 = .ok (.bipush 121, 2) := zd zm_8000 (by decide +kernel)
theorem d_8000_115 {σ : Nat → Nat} {n0 : Nat} {bf : ab_B} : decode (ab_code (zx σ n0 bf).1 8000) 115 = .ok (.bastore, 1) := zd zm_8000 (by decide +kernel)
theorem d_8000_116 {σ : Nat → Nat} {n0 : Nat} {bf : ab_B} : decode (ab_code (zx σ n0 bf).1 8000) 116 = .ok (.dup, 1) := zd zm_8000 (by decide +kernel)
theorem d_8000_117 {σ : Nat → Nat} {n0 : Nat} {bf : ab_B} : decode (ab_code (zx σ n0 bf).1 8000) 117 = .ok (.bipush 16, 2) := zd zm_8000 (by decide +kernel)
theorem d_8000_119 {σ : Nat → Nat} {n0 : Nat} {bf : ab_B} : decode (ab_code (zx σ n0 bf).1 8000) 119 = .ok (.bipush 112, 2) := zd zm_8000 (by decide +kernel)
theorem d_8000_121 {σ : Nat → Nat} {n0 : Nat} {bf : ab_B} : decode (ab_code (zx σ n0 bf).1 8000) 121 = .ok (.bastore, 1) := zd zm_8000 (by decide +kernel)
theorem d_8000_122 {σ : Nat → Nat} {n0 : Nat} {bf : ab_B} : decode (ab_code (zx σ n0 bf).1 8000) 122 = .ok (.dup, 1) := zd zm_8000 (by decide +kernel)
theorem d_8000_123 {σ : Nat → Nat} {n0 : Nat} {bf : ab_B} : decode (ab_code (zx σ n0 bf).1 8000) 123 = .ok (.bipush 17, 2) := zd zm_8000 (by decide +kernel)
theorem d_8000_125 {σ : Nat → Nat} {n0 : Nat} {bf : ab_B} : decode (ab_code (zx σ n0 bf).1 8000) 125 = .ok (.bipush 101, 2) := zd zm_8000 (by decide +kernel)
theorem d_8000_127 {σ : Nat → Nat} {n0 : Nat} {bf : ab_B} : decode (ab_code (zx σ n0 bf).1 8000) 127 = .ok (.bastore, 1) := zd zm_8000 (by decide +kernel)
theorem d_8000_128 {σ : Nat → Nat} {n0 : Nat} {bf : ab_B} : decode (ab_code (zx σ n0 bf).1 8000) 128 = .ok (.dup, 1) := zd zm_8000 (by decide +kernel)
theorem d_8000_129 {σ : Nat → Nat} {n0 : Nat} {bf : ab_B} : decode (ab_code (zx σ n0 bf).1 8000) 129 = .ok (.bipush 18, 2) := zd zm_8000 (by decide +kernel)
theorem d_8000_131 {σ : Nat → Nat} {n0 : Nat} {bf : ab_B} : decode (ab_code (zx σ n0 bf).1 8000) 131 = .ok (.bipush 32, 2) := zd zm_8000 (by decide +kernel)
theorem d_8000_133 {σ : Nat → Nat} {n0 : Nat} {bf : ab_B} : decode (ab_code (zx σ n0 bf).1 8000) 133 = .ok (.bastore, 1) := zd zm_8000 (by decide +kernel)
theorem d_8000_134 {σ : Nat → Nat} {n0 : Nat} {bf : ab_B} : decode (ab_code (zx σ n0 bf).1 8000) 134 = .ok (.dup, 1) := zd zm_8000 (by decide +kernel)
theorem d_8000_135 {σ : Nat → Nat} {n0 : Nat} {bf : ab_B} : decode (ab_code (zx σ n0 bf).1 8000) 135 = .ok (.bipush 19, 2) := zd zm_8000 (by decide +kernel)
theorem d_8000_137 {σ : Nat → Nat} {n0 : Nat} {bf : ab_B} : decode (ab_code (zx σ n0 bf).1 8000) 137 = .ok (.bipush 118, 2) := zd zm_8000 (by decide +kernel)
theorem d_8000_139 {σ : Nat → Nat} {n0 : Nat} {bf : ab_B} : decode (ab_code (zx σ n0 bf).1 8000) 139 = .ok (.bastore, 1) := zd zm_8000 (by decide +kernel)
theorem d_8000_140 {σ : Nat → Nat} {n0 : Nat} {bf : ab_B} : decode (ab_code (zx σ n0 bf).1 8000) 140 = .ok (.dup, 1) := zd zm_8000 (by decide +kernel)
theorem d_8000_141 {σ : Nat → Nat} {n0 : Nat} {bf : ab_B} : decode (ab_code (zx σ n0 bf).1 8000) 141 = .ok (.bipush 20, 2) := zd zm_8000 (by decide +kernel)
theorem d_8000_143 {σ : Nat → Nat} {n0 : Nat} {bf : ab_B} : decode (ab_code (zx σ n0 bf).1 8000) 143 = .ok (.bipush 97, 2) := zd zm_8000 (by decide +kernel)
theorem d_8000_145 {σ : Nat → Nat} {n0 : Nat} {bf : ab_B} : decode (ab_code (zx σ n0 bf).1 8000) 145 = .ok (.bastore, 1) := zd zm_8000 (by decide +kernel)
theorem d_8000_146 {σ : Nat → Nat} {n0 : Nat} {bf : ab_B} : decode (ab_code (zx σ n0 bf).1 8000) 146 = .ok (.dup, 1) := zd zm_8000 (by decide +kernel)
theorem d_8000_147 {σ : Nat → Nat} {n0 : Nat} {bf : ab_B} : decode (ab_code (zx σ n0 bf).1 8000) 147 = .ok (.bipush 21, 2) := zd zm_8000 (by decide +kernel)
theorem d_8000_149 {σ : Nat → Nat} {n0 : Nat} {bf : ab_B} : decode (ab_code (zx σ n0 bf).1 8000) 149 = .ok (.bipush 114, 2) := zd zm_8000 (by decide +kernel)
theorem d_8000_151 {σ : Nat → Nat} {n0 : Nat} {bf : ab_B} : decode (ab_code (zx σ n0 bf).1 8000) 151 = .ok (.bastore, 1) := zd zm_8000 (by decide +kernel)
theorem d_8000_152 {σ : Nat → Nat} {n0 : Nat} {bf : ab_B} : decode (ab_code (zx σ n0 bf).1 8000) 152 = .ok (.dup, 1) := zd zm_8000 (by decide +kernel)
theorem d_8000_153 {σ : Nat → Nat} {n0 : Nat} {bf : ab_B} : decode (ab_code (zx σ n0 bf).1 8000) 153 = .ok (.bipush 22, 2) := zd zm_8000 (by decide +kernel)
theorem d_8000_155 {σ : Nat → Nat} {n0 : Nat} {bf : ab_B} : decode (ab_code (zx σ n0 bf).1 8000) 155 = .ok (.bipush 32, 2) := zd zm_8000 (by decide +kernel)
theorem d_8000_157 {σ : Nat → Nat} {n0 : Nat} {bf : ab_B} : decode (ab_code (zx σ n0 bf).1 8000) 157 = .ok (.bastore, 1) := zd zm_8000 (by decide +kernel)
theorem d_8000_158 {σ : Nat → Nat} {n0 : Nat} {bf : ab_B} : decode (ab_code (zx σ n0 bf).1 8000) 158 = .ok (.dup, 1) := zd zm_8000 (by decide +kernel)
theorem d_8000_159 {σ : Nat → Nat} {n0 : Nat} {bf : ab_B} : decode (ab_code (zx σ n0 bf).1 8000) 159 = .ok (.bipush 23, 2) := zd zm_8000 (by decide +kernel)
theorem d_8000_161 {σ : Nat → Nat} {n0 : Nat} {bf : ab_B} : decode (ab_code (zx σ n0 bf).1 8000) 161 = .ok (.bipush 112, 2) := zd zm_8000 (by decide +kernel)
theorem d_8000_163 {σ : Nat → Nat} {n0 : Nat} {bf : ab_B} : decode (ab_code (zx σ n0 bf).1 8000) 163 = .ok (.bastore, 1) := zd zm_8000 (by decide +kernel)
theorem d_8000_164 {σ : Nat → Nat} {n0 : Nat} {bf : ab_B} : decode (ab_code (zx σ n0 bf).1 8000) 164 = .ok (.dup, 1) := zd zm_8000 (by decide +kernel)
theorem d_8000_165 {σ : Nat → Nat} {n0 : Nat} {bf : ab_B} : decode (ab_code (zx σ n0 bf).1 8000) 165 = .ok (.bipush 24, 2) := zd zm_8000 (by decide +kernel)
theorem d_8000_167 {σ : Nat → Nat} {n0 : Nat} {bf : ab_B} : decode (ab_code (zx σ n0 bf).1 8000) 167 = .ok (.bipush 114, 2) := zd zm_8000 (by decide +kernel)
theorem d_8000_169 {σ : Nat → Nat} {n0 : Nat} {bf : ab_B} : decode (ab_code (zx σ n0 bf).1 8000) 169 = .ok (.bastore, 1) := zd zm_8000 (by decide +kernel)
theorem d_8000_170 {σ : Nat → Nat} {n0 : Nat} {bf : ab_B} : decode (ab_code (zx σ n0 bf).1 8000) 170 = .ok (.dup, 1) := zd zm_8000 (by decide +kernel)
theorem d_8000_171 {σ : Nat → Nat} {n0 : Nat} {bf : ab_B} : decode (ab_code (zx σ n0 bf).1 8000) 171 = .ok (.bipush 25, 2) := zd zm_8000 (by decide +kernel)
theorem d_8000_173 {σ : Nat → Nat} {n0 : Nat} {bf : ab_B} : decode (ab_code (zx σ n0 bf).1 8000) 173 = .ok (.bipush 111, 2) := zd zm_8000 (by decide +kernel)
theorem d_8000_175 {σ : Nat → Nat} {n0 : Nat} {bf : ab_B} : decode (ab_code (zx σ n0 bf).1 8000) 175 = .ok (.bastore, 1) := zd zm_8000 (by decide +kernel)
theorem d_8000_176 {σ : Nat → Nat} {n0 : Nat} {bf : ab_B} : decode (ab_code (zx σ n0 bf).1 8000) 176 = .ok (.dup, 1) := zd zm_8000 (by decide +kernel)
theorem d_8000_177 {σ : Nat → Nat} {n0 : Nat} {bf : ab_B} : decode (ab_code (zx σ n0 bf).1 8000) 177 = .ok (.bipush 26, 2) := zd zm_8000 (by decide +kernel)
theorem d_8000_179 {σ : Nat → Nat} {n0 : Nat} {bf : ab_B} : decode (ab_code (zx σ n0 bf).1 8000) 179 = .ok (.bipush 99, 2) := zd zm_8000 (by decide +kernel)
theorem d_8000_181 {σ : Nat → Nat} {n0 : Nat} {bf : ab_B} : decode (ab_code (zx σ n0 bf).1 8000) 181 = .ok (.bastore, 1) := zd zm_8000 (by decide +kernel)
theorem d_8000_182 {σ : Nat → Nat} {n0 : Nat} {bf : ab_B} : decode (ab_code (zx σ n0 bf).1 8000) 182 = .ok (.dup, 1) := zd zm_8000 (by decide +kernel)
theorem d_8000_183 {σ : Nat → Nat} {n0 : Nat} {bf : ab_B} : decode (ab_code (zx σ n0 bf).1 8000) 183 = .ok (.bipush 27, 2) := zd zm_8000 (by decide +kernel)
theorem d_8000_185 {σ : Nat → Nat} {n0 : Nat} {bf : ab_B} : decode (ab_code (zx σ n0 bf).1 8000) 185 = .ok (.bipush 101, 2) := zd zm_8000 (by decide +kernel)
theorem d_8000_187 {σ : Nat → Nat} {n0 : Nat} {bf : ab_B} : decode (ab_code (zx σ n0 bf).1 8000) 187 = .ok (.bastore, 1) := zd zm_8000 (by decide +kernel)
theorem d_8000_188 {σ : Nat → Nat} {n0 : Nat} {bf : ab_B} : decode (ab_code (zx σ n0 bf).1 8000) 188 = .ok (.dup, 1) := zd zm_8000 (by decide +kernel)
theorem d_8000_189 {σ : Nat → Nat} {n0 : Nat} {bf : ab_B} : decode (ab_code (zx σ n0 bf).1 8000) 189 = .ok (.bipush 28, 2) := zd zm_8000 (by decide +kernel)
theorem d_8000_191 {σ : Nat → Nat} {n0 : Nat} {bf : ab_B} : decode (ab_code (zx σ n0 bf).1 8000) 191 = .ok (.bipush 100, 2) := zd zm_8000 (by decide +kernel)
theorem d_8000_193 {σ : Nat → Nat} {n0 : Nat} {bf : ab_B} : decode (ab_code (zx σ n0 bf).1 8000) 193 = .ok (.bastore, 1) := zd zm_8000 (by decide +kernel)
theorem d_8000_194 {σ : Nat → Nat} {n0 : Nat} {bf : ab_B} : decode (ab_code (zx σ n0 bf).1 8000) 194 = .ok (.dup, 1) := zd zm_8000 (by decide +kernel)
theorem d_8000_195 {σ : Nat → Nat} {n0 : Nat} {bf : ab_B} : decode (ab_code (zx σ n0 bf).1 8000) 195 = .ok (.bipush 29, 2) := zd zm_8000 (by decide +kernel)
theorem d_8000_197 {σ : Nat → Nat} {n0 : Nat} {bf : ab_B} : decode (ab_code (zx σ n0 bf).1 8000) 197 = .ok (.bipush 117, 2) := zd zm_8000 (by decide +kernel)
theorem d_8000_199 {σ : Nat → Nat} {n0 : Nat} {bf : ab_B} : decode (ab_code (zx σ n0 bf).1 8000) 199 = .ok (.bastore, 1) := zd zm_8000 (by decide +kernel)
theorem d_8000_200 {σ : Nat → Nat} {n0 : Nat} {bf : ab_B} : decode (ab_code (zx σ n0 bf).1 8000) 200 = .ok (.dup, 1) := zd zm_8000 (by decide +kernel)
theorem d_8000_201 {σ : Nat → Nat} {n0 : Nat} {bf : ab_B} : decode (ab_code (zx σ n0 bf).1 8000) 201 = .ok (.bipush 30, 2) := zd zm_8000 (by decide +kernel)
theorem d_8000_203 {σ : Nat → Nat} {n0 : Nat} {bf : ab_B} : decode (ab_code (zx σ n0 bf).1 8000) 203 = .ok (.bipush 114, 2) := zd zm_8000 (by decide +kernel)
theorem d_8000_205 {σ : Nat → Nat} {n0 : Nat} {bf : ab_B} : decode (ab_code (zx σ n0 bf).1 8000) 205 = .ok (.bastore, 1) := zd zm_8000 (by decide +kernel)
theorem d_8000_206 {σ : Nat → Nat} {n0 : Nat} {bf : ab_B} : decode (ab_code (zx σ n0 bf).1 8000) 206 = .ok (.dup, 1) := zd zm_8000 (by decide +kernel)
theorem d_8000_207 {σ : Nat → Nat} {n0 : Nat} {bf : ab_B} : decode (ab_code (zx σ n0 bf).1 8000) 207 = .ok (.bipush 31, 2) := zd zm_8000 (by decide +kernel)
theorem d_8000_209 {σ : Nat → Nat} {n0 : Nat} {bf : ab_B} : decode (ab_code (zx σ n0 bf).1 8000) 209 = .ok (.bipush 101, 2) := zd zm_8000 (by decide +kernel)
theorem d_8000_211 {σ : Nat → Nat} {n0 : Nat} {bf : ab_B} : decode (ab_code (zx σ n0 bf).1 8000) 211 = .ok (.bastore, 1) := zd zm_8000 (by decide +kernel)
theorem d_8000_212 {σ : Nat → Nat} {n0 : Nat} {bf : ab_B} : decode (ab_code (zx σ n0 bf).1 8000) 212 = .ok (.dup, 1) := zd zm_8000 (by decide +kernel)
theorem d_8000_213 {σ : Nat → Nat} {n0 : Nat} {bf : ab_B} : decode (ab_code (zx σ n0 bf).1 8000) 213 = .ok (.bipush 32, 2) := zd zm_8000 (by decide +kernel)
theorem d_8000_215 {σ : Nat → Nat} {n0 : Nat} {bf : ab_B} : decode (ab_code (zx σ n0 bf).1 8000) 215 = .ok (.bipush 32, 2) := zd zm_8000 (by decide +kernel)
theorem d_8000_217 {σ : Nat → Nat} {n0 : Nat} {bf : ab_B} : decode (ab_code (zx σ n0 bf).1 8000) 217 = .ok (.bastore, 1) := zd zm_8000 (by decide +kernel)
theorem d_8000_218 {σ : Nat → Nat} {n0 : Nat} {bf : ab_B} : decode (ab_code (zx σ n0 bf).1 8000) 218 = .ok (.dup, 1) := zd zm_8000 (by decide +kernel)
theorem d_8000_219 {σ : Nat → Nat} {n0 : Nat} {bf : ab_B} : decode (ab_code (zx σ n0 bf).1 8000) 219 = .ok (.bipush 33, 2) := zd zm_8000 (by decide +kernel)
theorem d_8000_221 {σ : Nat → Nat} {n0 : Nat} {bf : ab_B} : decode (ab_code (zx σ n0 bf).1 8000) 221 = .ok (.bipush 102, 2) := zd zm_8000 (by decide +kernel)
theorem d_8000_223 {σ : Nat → Nat} {n0 : Nat} {bf : ab_B} : decode (ab_code (zx σ n0 bf).1 8000) 223 = .ok (.bastore, 1) := zd zm_8000 (by decide +kernel)
theorem d_8000_224 {σ : Nat → Nat} {n0 : Nat} {bf : ab_B} : decode (ab_code (zx σ n0 bf).1 8000) 224 = .ok (.dup, 1) := zd zm_8000 (by decide +kernel)
theorem d_8000_225 {σ : Nat → Nat} {n0 : Nat} {bf : ab_B} : decode (ab_code (zx σ n0 bf).1 8000) 225 = .ok (.bipush 34, 2) := zd zm_8000 (by decide +kernel)
theorem d_8000_227 {σ : Nat → Nat} {n0 : Nat} {bf : ab_B} : decode (ab_code (zx σ n0 bf).1 8000) 227 = .ok (.bipush 117, 2) := zd zm_8000 (by decide +kernel)
theorem d_8000_229 {σ : Nat → Nat} {n0 : Nat} {bf : ab_B} : decode (ab_code (zx σ n0 bf).1 8000) 229 = .ok (.bastore, 1) := zd zm_8000 (by decide +kernel)
theorem d_8000_230 {σ : Nat → Nat} {n0 : Nat} {bf : ab_B} : decode (ab_code (zx σ n0 bf).1 8000) 230 = .ok (.dup, 1) := zd zm_8000 (by decide +kernel)
theorem d_8000_231 {σ : Nat → Nat} {n0 : Nat} {bf : ab_B} : decode (ab_code (zx σ n0 bf).1 8000) 231 = .ok (.bipush 35, 2) := zd zm_8000 (by decide +kernel)
theorem d_8000_233 {σ : Nat → Nat} {n0 : Nat} {bf : ab_B} : decode (ab_code (zx σ n0 bf).1 8000) 233 = .ok (.bipush 110, 2) := zd zm_8000 (by decide +kernel)
theorem d_8000_235 {σ : Nat → Nat} {n0 : Nat} {bf : ab_B} : decode (ab_code (zx σ n0 bf).1 8000) 235 = .ok (.bastore, 1) := zd zm_8000 (by decide +kernel)
theorem d_8000_236 {σ : Nat → Nat} {n0 : Nat} {bf : ab_B} : decode (ab_code (zx σ n0 bf).1 8000) 236 = .ok (.dup, 1) := zd zm_8000 (by decide +kernel)
theorem d_8000_237 {σ : Nat → Nat} {n0 : Nat} {bf : ab_B} : decode (ab_code (zx σ n0 bf).1 8000) 237 = .ok (.bipush 36, 2) := zd zm_8000 (by decide +kernel)
theorem d_8000_239 {σ : Nat → Nat} {n0 : Nat} {bf : ab_B} : decode (ab_code (zx σ n0 bf).1 8000) 239 = .ok (.bipush 99, 2) := zd zm_8000 (by decide +kernel)
theorem d_8000_241 {σ : Nat → Nat} {n0 : Nat} {bf : ab_B} : decode (ab_code (zx σ n0 bf).1 8000) 241 = .ok (.bastore, 1) := zd zm_8000 (by decide +kernel)
theorem d_8000_242 {σ : Nat → Nat} {n0 : Nat} {bf : ab_B} : decode (ab_code (zx σ n0 bf).1 8000) 242 = .ok (.dup, 1) := zd zm_8000 (by decide +kernel)
theorem d_8000_243 {σ : Nat → Nat} {n0 : Nat} {bf : ab_B} : decode (ab_code (zx σ n0 bf).1 8000) 243 = .ok (.bipush 37, 2) := zd zm_8000 (by decide +kernel)
theorem d_8000_245 {σ : Nat → Nat} {n0 : Nat} {bf : ab_B} : decode (ab_code (zx σ n0 bf).1 8000) 245 = .ok (.bipush 116, 2) := zd zm_8000 (by decide +kernel)
theorem d_8000_247 {σ : Nat → Nat} {n0 : Nat} {bf : ab_B} : decode (ab_code (zx σ n0 bf).1 8000) 247 = .ok (.bastore, 1) := zd zm_8000 (by decide +kernel)
theorem d_8000_248 {σ : Nat → Nat} {n0 : Nat} {bf : ab_B} : decode (ab_code (zx σ n0 bf).1 8000) 248 = .ok (.dup, 1) := zd zm_8000 (by decide +kernel)
theorem d_8000_249 {σ : Nat → Nat} {n0 : Nat} {bf : ab_B} : decode (ab_code (zx σ n0 bf).1 8000) 249 = .ok (.bipush 38, 2) := zd zm_8000 (by decide +kernel)
theorem d_8000_251 {σ : Nat → Nat} {n0 : Nat} {bf : ab_B} : decode (ab_code (zx σ n0 bf).1 8000) 251 = .ok (.bipush 105, 2) := zd zm_8000 (by decide +kernel)
theorem d_8000_253 {σ : Nat → Nat} {n0 : Nat} {bf : ab_B} : decode (ab_code (zx σ n0 bf).1 8000) 253 = .ok (.bastore, 1) := zd zm_8000 (by decide +kernel)
theorem d_8000_254 {σ : Nat → Nat} {n0 : Nat} {bf : ab_B} : decode (ab_code (zx σ n0 bf).1 8000) 254 = .ok (.dup, 1) := zd zm_8000 (by decide +kernel)
theorem d_8000_255 {σ : Nat → Nat} {n0 : Nat} {bf : ab_B} : decode (ab_code (zx σ n0 bf).1 8000) 255 = .ok (.bipush 39, 2) := zd zm_8000 (by decide +kernel)
theorem d_8000_257 {σ : Nat → Nat} {n0 : Nat} {bf : ab_B} : decode (ab_code (zx σ n0 bf).1 8000) 257 = .ok (.bipush 111, 2) := zd zm_8000 (by decide +kernel)
theorem d_8000_259 {σ : Nat → Nat} {n0 : Nat} {bf : ab_B} : decode (ab_code (zx σ n0 bf).1 8000) 259 = .ok (.bastore, 1) := zd zm_8000 (by decide +kernel)
theorem d_8000_260 {σ : Nat → Nat} {n0 : Nat} {bf : ab_B} : decode (ab_code (zx σ n0 bf).1 8000) 260 = .ok (.dup, 1) := zd zm_8000 (by decide +kernel)
theorem d_8000_261 {σ : Nat → Nat} {n0 : Nat} {bf : ab_B} : decode (ab_code (zx σ n0 bf).1 8000) 261 = .ok (.bipush 40, 2) := zd zm_8000 (by decide +kernel)
theorem d_8000_263 {σ : Nat → Nat} {n0 : Nat} {bf : ab_B} : decode (ab_code (zx σ n0 bf).1 8000) 263 = .ok (.bipush 110, 2) := zd zm_8000 (by decide +kernel)
theorem d_8000_265 {σ : Nat → Nat} {n0 : Nat} {bf : ab_B} : decode (ab_code (zx σ n0 bf).1 8000) 265 = .ok (.bastore, 1) := zd zm_8000 (by decide +kernel)
theorem d_8000_266 {σ : Nat → Nat} {n0 : Nat} {bf : ab_B} : decode (ab_code (zx σ n0 bf).1 8000) 266 = .ok (.dup, 1) := zd zm_8000 (by decide +kernel)
theorem d_8000_267 {σ : Nat → Nat} {n0 : Nat} {bf : ab_B} : decode (ab_code (zx σ n0 bf).1 8000) 267 = .ok (.bipush 41, 2) := zd zm_8000 (by decide +kernel)
theorem d_8000_269 {σ : Nat → Nat} {n0 : Nat} {bf : ab_B} : decode (ab_code (zx σ n0 bf).1 8000) 269 = .ok (.bipush 32, 2) := zd zm_8000 (by decide +kernel)
theorem d_8000_271 {σ : Nat → Nat} {n0 : Nat} {bf : ab_B} : decode (ab_code (zx σ n0 bf).1 8000) 271 = .ok (.bastore, 1) := zd zm_8000 (by decide +kernel)
theorem d_8000_272 {σ : Nat → Nat} {n0 : Nat} {bf : ab_B} : decode (ab_code (zx σ n0 bf).1 8000) 272 = .ok (.dup, 1) := zd zm_8000 (by decide +kernel)
theorem d_8000_273 {σ : Nat → Nat} {n0 : Nat} {bf : ab_B} : decode (ab_code (zx σ n0 bf).1 8000) 273 = .ok (.bipush 42, 2) := zd zm_8000 (by decide +kernel)
theorem d_8000_275 {σ : Nat → Nat} {n0 : Nat} {bf : ab_B} : decode (ab_code (zx σ n0 bf).1 8000) 275 = .ok (.bipush 102, 2) := zd zm_8000 (by decide +kernel)
theorem d_8000_277 {σ : Nat → Nat} {n0 : Nat} {bf : ab_B} : decode (ab_code (zx σ n0 bf).1 8000) 277 = .ok (.bastore, 1) := zd zm_8000 (by decide +kernel)
theorem d_8000_278 {σ : Nat → Nat} {n0 : Nat} {bf : ab_B} : decode (ab_code (zx σ n0 bf).1 8000) 278 = .ok (.dup, 1) := zd zm_8000 (by decide +kernel)
theorem d_8000_279 {σ : Nat → Nat} {n0 : Nat} {bf : ab_B} : decode (ab_code (zx σ n0 bf).1 8000) 279 = .ok (.bipush 43, 2) := zd zm_8000 (by decide +kernel)
theorem d_8000_281 {σ : Nat → Nat} {n0 : Nat} {bf : ab_B} : decode (ab_code (zx σ n0 bf).1 8000) 281 = .ok (.bipush 111, 2) := zd zm_8000 (by decide +kernel)
theorem d_8000_283 {σ : Nat → Nat} {n0 : Nat} {bf : ab_B} : decode (ab_code (zx σ n0 bf).1 8000) 283 = .ok (.bastore, 1) := zd zm_8000 (by decide +kernel)
theorem d_8000_284 {σ : Nat → Nat} {n0 : Nat} {bf : ab_B} : decode (ab_code (zx σ n0 bf).1 8000) 284 = .ok (.dup, 1) := zd zm_8000 (by decide +kernel)
theorem d_8000_285 {σ : Nat → Nat} {n0 : Nat} {bf : ab_B} : decode (ab_code (zx σ n0 bf).1 8000) 285 = .ok (.bipush 44, 2) := zd zm_8000 (by decide +kernel)
theorem d_8000_287 {σ : Nat → Nat} {n0 : Nat} {bf : ab_B} : decode (ab_code (zx σ n0 bf).1 8000) 287 = .ok (.bipush 114, 2) := zd zm_8000 (by decide +kernel)
theorem d_8000_289 {σ : Nat → Nat} {n0 : Nat} {bf : ab_B} : decode (ab_code (zx σ n0 bf).1 8000) 289 = .ok (.bastore, 1) := zd zm_8000 (by decide +kernel)
theorem d_8000_290 {σ : Nat → Nat} {n0 : Nat} {bf : ab_B} : decode (ab_code (zx σ n0 bf).1 8000) 290 = .ok (.dup, 1) := zd zm_8000 (by decide +kernel)
theorem d_8000_291 {σ : Nat → Nat} {n0 : Nat} {bf : ab_B} : decode (ab_code (zx σ n0 bf).1 8000) 291 = .ok (.bipush 45, 2) := zd zm_8000 (by decide +kernel)
theorem d_8000_293 {σ : Nat → Nat} {n0 : Nat} {bf : ab_B} : decode (ab_code (zx σ n0 bf).1 8000) 293 = .ok (.bipush 119, 2) := zd zm_8000 (by decide +kernel)
theorem d_8000_295 {σ : Nat → Nat} {n0 : Nat} {bf : ab_B} : decode (ab_code (zx σ n0 bf).1 8000) 295 = .ok (.bastore, 1) := zd zm_8000 (by decide +kernel)
theorem d_8000_296 {σ : Nat → Nat} {n0 : Nat} {bf : ab_B} : decode (ab_code (zx σ n0 bf).1 8000) 296 = .ok (.dup, 1) := zd zm_8000 (by decide +kernel)
theorem d_8000_297 {σ : Nat → Nat} {n0 : Nat} {bf : ab_B} : decode (ab_code (zx σ n0 bf).1 8000) 297 = .ok (.bipush 46, 2) := zd zm_8000 (by decide +kernel)
theorem d_8000_299 {σ : Nat → Nat} {n0 : Nat} {bf : ab_B} : decode (ab_code (zx σ n0 bf).1 8000) 299 = .ok (.bipush 97, 2) := zd zm_8000 (by decide +kernel)
theorem d_8000_301 {σ : Nat → Nat} {n0 : Nat} {bf : ab_B} : decode (ab_code (zx σ n0 bf).1 8000) 301 = .ok (.bastore, 1) := zd zm_8000 (by decide +kernel)
theorem d_8000_302 {σ : Nat → Nat} {n0 : Nat} {bf : ab_B} : decode (ab_code (zx σ n0 bf).1 8000) 302 = .ok (.dup, 1) := zd zm_8000 (by decide +kernel)
theorem d_8000_303 {σ : Nat → Nat} {n0 : Nat} {bf : ab_B} : decode (ab_code (zx σ n0 bf).1 8000) 303 = .ok (.bipush 47, 2) := zd zm_8000 (by decide +kernel)
theorem d_8000_305 {σ : Nat → Nat} {n0 : Nat} {bf : ab_B} : decode (ab_code (zx σ n0 bf).1 8000) 305 = .ok (.bipush 114, 2) := zd zm_8000 (by decide +kernel)
theorem d_8000_307 {σ : Nat → Nat} {n0 : Nat} {bf : ab_B} : decode (ab_code (zx σ n0 bf).1 8000) 307 = .ok (.bastore, 1) := zd zm_8000 (by decide +kernel)
theorem d_8000_308 {σ : Nat → Nat} {n0 : Nat} {bf : ab_B} : decode (ab_code (zx σ n0 bf).1 8000) 308 = .ok (.dup, 1) := zd zm_8000 (by decide +kernel)
theorem d_8000_309 {σ : Nat → Nat} {n0 : Nat} {bf : ab_B} : decode (ab_code (zx σ n0 bf).1 8000) 309 = .ok (.bipush 48, 2) := zd zm_8000 (by decide +kernel)
theorem d_8000_311 {σ : Nat → Nat} {n0 : Nat} {bf : ab_B} : decode (ab_code (zx σ n0 bf).1 8000) 311 = .ok (.bipush 100, 2) := zd zm_8000 (by decide +kernel)
theorem d_8000_313 {σ : Nat → Nat} {n0 : Nat} {bf : ab_B} : decode (ab_code (zx σ n0 bf).1 8000) 313 = .ok (.bastore, 1) := zd zm_8000 (by decide +kernel)
theorem d_8000_314 {σ : Nat → Nat} {n0 : Nat} {bf : ab_B} : decode (ab_code (zx σ n0 bf).1 8000) 314 = .ok (.dup, 1) := zd zm_8000 (by decide +kernel)
theorem d_8000_315 {σ : Nat → Nat} {n0 : Nat} {bf : ab_B} : decode (ab_code (zx σ n0 bf).1 8000) 315 = .ok (.bipush 49, 2) := zd zm_8000 (by decide +kernel)
theorem d_8000_317 {σ : Nat → Nat} {n0 : Nat} {bf : ab_B} : decode (ab_code (zx σ n0 bf).1 8000) 317 = .ok (.bipush 32, 2) := zd zm_8000 (by decide +kernel)
theorem d_8000_319 {σ : Nat → Nat} {n0 : Nat} {bf : ab_B} : decode (ab_code (zx σ n0 bf).1 8000) 319 = .ok (.bastore, 1) := zd zm_8000 (by decide +kernel)
theorem d_8000_320 {σ : Nat → Nat} {n0 : Nat} {bf : ab_B} : decode (ab_code (zx σ n0 bf).1 8000) 320 = .ok (.dup, 1) := zd zm_8000 (by decide +kernel)
theorem d_8000_321 {σ : Nat → Nat} {n0 : Nat} {bf : ab_B} : decode (ab_code (zx σ n0 bf).1 8000) 321 = .ok (.bipush 50, 2) := zd zm_8000 (by decide +kernel)
theorem d_8000_323 {σ : Nat → Nat} {n0 : Nat} {bf : ab_B} : decode (ab_code (zx σ n0 bf).1 8000) 323 = .ok (.bipush 98, 2) := zd zm_8000 (by decide +kernel)
theorem d_8000_325 {σ : Nat → Nat} {n0 : Nat} {bf : ab_B} : decode (ab_code (zx σ n0 bf).1 8000) 325 = .ok (.bastore, 1) := zd zm_8000 (by decide +kernel)
theorem d_8000_326 {σ : Nat → Nat} {n0 : Nat} {bf : ab_B} : decode (ab_code (zx σ n0 bf).1 8000) 326 = .ok (.dup, 1) := zd zm_8000 (by decide +kernel)
theorem d_8000_327 {σ : Nat → Nat} {n0 : Nat} {bf : ab_B} : decode (ab_code (zx σ n0 bf).1 8000) 327 = .ok (.bipush 51, 2) := zd zm_8000 (by decide +kernel)
theorem d_8000_329 {σ : Nat → Nat} {n0 : Nat} {bf : ab_B} : decode (ab_code (zx σ n0 bf).1 8000) 329 = .ok (.bipush 101, 2) := zd zm_8000 (by decide +kernel)
theorem d_8000_331 {σ : Nat → Nat} {n0 : Nat} {bf : ab_B} : decode (ab_code (zx σ n0 bf).1 8000) 331 = .ok (.bastore, 1) := zd zm_8000 (by decide +kernel)
theorem d_8000_332 {σ : Nat → Nat} {n0 : Nat} {bf : ab_B} : decode (ab_code (zx σ n0 bf).1 8000) 332 = .ok (.dup, 1) := zd zm_8000 (by decide +kernel)
theorem d_8000_333 {σ : Nat → Nat} {n0 : Nat} {bf : ab_B} : decode (ab_code (zx σ n0 bf).1 8000) 333 = .ok (.bipush 52, 2) := zd zm_8000 (by decide +kernel)
theorem d_8000_335 {σ : Nat → Nat} {n0 : Nat} {bf : ab_B} : decode (ab_code (zx σ n0 bf).1 8000) 335 = .ok (.bipush 103, 2) := zd zm_8000 (by decide +kernel)
theorem d_8000_337 {σ : Nat → Nat} {n0 : Nat} {bf : ab_B} : decode (ab_code (zx σ n0 bf).1 8000) 337 = .ok (.bastore, 1) := zd zm_8000 (by decide +kernel)
theorem d_8000_338 {σ : Nat → Nat} {n0 : Nat} {bf : ab_B} : decode (ab_code (zx σ n0 bf).1 8000) 338 = .ok (.dup, 1) := zd zm_8000 (by decide +kernel)
theorem d_8000_339 {σ : Nat → Nat} {n0 : Nat} {bf : ab_B} : decode (ab_code (zx σ n0 bf).1 8000) 339 = .ok (.bipush 53, 2) := zd zm_8000 (by decide +kernel)
theorem d_8000_341 {σ : Nat → Nat} {n0 : Nat} {bf : ab_B} : decode (ab_code (zx σ n0 bf).1 8000) 341 = .ok (.bipush 105, 2) := zd zm_8000 (by decide +kernel)
theorem d_8000_343 {σ : Nat → Nat} {n0 : Nat} {bf : ab_B} : decode (ab_code (zx σ n0 bf).1 8000) 343 = .ok (.bastore, 1) := zd zm_8000 (by decide +kernel)
theorem d_8000_344 {σ : Nat → Nat} {n0 : Nat} {bf : ab_B} : decode (ab_code (zx σ n0 bf).1 8000) 344 = .ok (.dup, 1) := zd zm_8000 (by decide +kernel)
theorem d_8000_345 {σ : Nat → Nat} {n0 : Nat} {bf : ab_B} : decode (ab_code (zx σ n0 bf).1 8000) 345 = .ok (.bipush 54, 2) := zd zm_8000 (by decide +kernel)
theorem d_8000_347 {σ : Nat → Nat} {n0 : Nat} {bf : ab_B} : decode (ab_code (zx σ n0 bf).1 8000) 347 = .ok (.bipush 110, 2) := zd zm_8000 (by decide +kernel)
theorem d_8000_349 {σ : Nat → Nat} {n0 : Nat} {bf : ab_B} : decode (ab_code (zx σ n0 bf).1 8000) 349 = .ok (.bastore, 1) := zd zm_8000 (by decide +kernel)
theorem d_8000_350 {σ : Nat → Nat} {n0 : Nat} {bf : ab_B} : decode (ab_code (zx σ n0 bf).1 8000) 350 = .ok (.dup, 1) := zd zm_8000 (by decide +kernel)
theorem d_8000_351 {σ : Nat → Nat} {n0 : Nat} {bf : ab_B} : decode (ab_code (zx σ n0 bf).1 8000) 351 = .ok (.bipush 55, 2) := zd zm_8000 (by decide +kernel)
theorem d_8000_353 {σ : Nat → Nat} {n0 : Nat} {bf : ab_B} : decode (ab_code (zx σ n0 bf).1 8000) 353 = .ok (.bipush 32, 2) := zd zm_8000 (by decide +kernel)
theorem d_8000_355 {σ : Nat → Nat} {n0 : Nat} {bf : ab_B} : decode (ab_code (zx σ n0 bf).1 8000) 355 = .ok (.bastore, 1) := zd zm_8000 (by decide +kernel)
theorem d_8000_356 {σ : Nat → Nat} {n0 : Nat} {bf : ab_B} : decode (ab_code (zx σ n0 bf).1 8000) 356 = .ok (.dup, 1) := zd zm_8000 (by decide +kernel)
theorem d_8000_357 {σ : Nat → Nat} {n0 : Nat} {bf : ab_B} : decode (ab_code (zx σ n0 bf).1 8000) 357 = .ok (.bipush 56, 2) := zd zm_8000 (by decide +kernel)
theorem d_8000_359 {σ : Nat → Nat} {n0 : Nat} {bf : ab_B} : decode (ab_code (zx σ n0 bf).1 8000) 359 = .ok (.bipush 101, 2) := zd zm_8000 (by decide +kernel)
theorem d_8000_361 {σ : Nat → Nat} {n0 : Nat} {bf : ab_B} : decode (ab_code (zx σ n0 bf).1 8000) 361 = .ok (.bastore, 1) := zd zm_8000 (by decide +kernel)
theorem d_8000_362 {σ : Nat → Nat} {n0 : Nat} {bf : ab_B} : decode (ab_code (zx σ n0 bf).1 8000) 362 = .ok (.dup, 1) := zd zm_8000 (by decide +kernel)
theorem d_8000_363 {σ : Nat → Nat} {n0 : Nat} {bf : ab_B} : decode (ab_code (zx σ n0 bf).1 8000) 363 = .ok (.bipush 57, 2) := zd zm_8000 (by decide +kernel)
theorem d_8000_365 {σ : Nat → Nat} {n0 : Nat} {bf : ab_B} : decode (ab_code (zx σ n0 bf).1 8000) 365 = .ok (.bipush 110, 2) := zd zm_8000 (by decide +kernel)
theorem d_8000_367 {σ : Nat → Nat} {n0 : Nat} {bf : ab_B} : decode (ab_code (zx σ n0 bf).1 8000) 367 = .ok (.bastore, 1) := zd zm_8000 (by decide +kernel)
theorem d_8000_368 {σ : Nat → Nat} {n0 : Nat} {bf : ab_B} : decode (ab_code (zx σ n0 bf).1 8000) 368 = .ok (.dup, 1) := zd zm_8000 (by decide +kernel)
theorem d_8000_369 {σ : Nat → Nat} {n0 : Nat} {bf : ab_B} : decode (ab_code (zx σ n0 bf).1 8000) 369 = .ok (.bipush 58, 2) := zd zm_8000 (by decide +kernel)
theorem d_8000_371 {σ : Nat → Nat} {n0 : Nat} {bf : ab_B} : decode (ab_code (zx σ n0 bf).1 8000) 371 = .ok (.bipush 100, 2) := zd zm_8000 (by decide +kernel)
theorem d_8000_373 {σ : Nat → Nat} {n0 : Nat} {bf : ab_B} : decode (ab_code (zx σ n0 bf).1 8000) 373 = .ok (.bastore, 1) := zd zm_8000 (by decide +kernel)
theorem d_8000_374 {σ : Nat → Nat} {n0 : Nat} {bf : ab_B} : decode (ab_code (zx σ n0 bf).1 8000) 374 = .ok (.dup, 1) := zd zm_8000 (by decide +kernel)
theorem d_8000_375 {σ : Nat → Nat} {n0 : Nat} {bf : ab_B} : decode (ab_code (zx σ n0 bf).1 8000) 375 = .ok (.bipush 59, 2) := zd zm_8000 (by decide +kernel)
theorem d_8000_377 {σ : Nat → Nat} {n0 : Nat} {bf : ab_B} : decode (ab_code (zx σ n0 bf).1 8000) 377 = .ok (.bipush 32, 2) := zd zm_8000 (by decide +kernel)
theorem d_8000_379 {σ : Nat → Nat} {n0 : Nat} {bf : ab_B} : decode (ab_code (zx σ n0 bf).1 8000) 379 = .ok (.bastore, 1) := zd zm_8000 (by decide +kernel)
theorem d_8000_380 {σ : Nat → Nat} {n0 : Nat} {bf : ab_B} : decode (ab_code (zx σ n0 bf).1 8000) 380 = .ok (.dup, 1) := zd zm_8000 (by decide +kernel)
theorem d_8000_381 {σ : Nat → Nat} {n0 : Nat} {bf : ab_B} : decode (ab_code (zx σ n0 bf).1 8000) 381 = .ok (.bipush 60, 2) := zd zm_8000 (by decide +kernel)
theorem d_8000_383 {σ : Nat → Nat} {n0 : Nat} {bf : ab_B} : decode (ab_code (zx σ n0 bf).1 8000) 383 = .ok (.bipush 105, 2) := zd zm_8000 (by decide +kernel)
theorem d_8000_385 {σ : Nat → Nat} {n0 : Nat} {bf : ab_B} : decode (ab_code (zx σ n0 bf).1 8000) 385 = .ok (.bastore, 1) := zd zm_8000 (by decide +kernel)
theorem d_8000_386 {σ : Nat → Nat} {n0 : Nat} {bf : ab_B} : decode (ab_code (zx σ n0 bf).1 8000) 386 = .ok (.dup, 1) := zd zm_8000 (by decide +kernel)
theorem d_8000_387 {σ : Nat → Nat} {n0 : Nat} {bf : ab_B} : decode (ab_code (zx σ n0 bf).1 8000) 387 = .ok (.bipush 61, 2) := zd zm_8000 (by decide +kernel)
theorem d_8000_389 {σ : Nat → Nat} {n0 : Nat} {bf : ab_B} : decode (ab_code (zx σ n0 bf).1 8000) 389 = .ok (.bipush 102, 2) := zd zm_8000 (by decide +kernel)
theorem d_8000_391 {σ : Nat → Nat} {n0 : Nat} {bf : ab_B} : decode (ab_code (zx σ n0 bf).1 8000) 391 = .ok (.bastore, 1) := zd zm_8000 (by decide +kernel)
theorem d_8000_392 {σ : Nat → Nat} {n0 : Nat} {bf : ab_B} : decode (ab_code (zx σ n0 bf).1 8000) 392 = .ok (.dup, 1) := zd zm_8000 (by decide +kernel)
theorem d_8000_393 {σ : Nat → Nat} {n0 : Nat} {bf : ab_B} : decode (ab_code (zx σ n0 bf).1 8000) 393 = .ok (.bipush 62, 2) := zd zm_8000 (by decide +kernel)
theorem d_8000_395 {σ : Nat → Nat} {n0 : Nat} {bf : ab_B} : decode (ab_code (zx σ n0 bf).1 8000) 395 = .ok (.bipush 32, 2) := zd zm_8000 (by decide +kernel)
theorem d_8000_397 {σ : Nat → Nat} {n0 : Nat} {bf : ab_B} : decode (ab_code (zx σ n0 bf).1 8000) 397 = .ok (.bastore, 1) := zd zm_8000 (by decide +kernel)
theorem d_8000_398 {σ : Nat → Nat} {n0 : Nat} {bf : ab_B} : decode (ab_code (zx σ n0 bf).1 8000) 398 = .ok (.dup, 1) := zd zm_8000 (by decide +kernel)
theorem d_8000_399 {σ : Nat → Nat} {n0 : Nat} {bf : ab_B} : decode (ab_code (zx σ n0 bf).1 8000) 399 = .ok (.bipush 63, 2) := zd zm_8000 (by decide +kernel)
theorem d_8000_401 {σ : Nat → Nat} {n0 : Nat} {bf : ab_B} : decode (ab_code (zx σ n0 bf).1 8000) 401 = .ok (.bipush 116, 2) := zd zm_8000 (by decide +kernel)
theorem d_8000_403 {σ : Nat → Nat} {n0 : Nat} {bf : ab_B} : decode (ab_code (zx σ n0 bf).1 8000) 403 = .ok (.bastore, 1) := zd zm_8000 (by decide +kernel)
theorem d_8000_404 {σ : Nat → Nat} {n0 : Nat} {bf : ab_B} : decode (ab_code (zx σ n0 bf).1 8000) 404 = .ok (.dup, 1) := zd zm_8000 (by decide +kernel)
theorem d_8000_405 {σ : Nat → Nat} {n0 : Nat} {bf : ab_B} : decode (ab_code (zx σ n0 bf).1 8000) 405 = .ok (.bipush 64, 2) := zd zm_8000 (by decide +kernel)
theorem d_8000_407 {σ : Nat → Nat} {n0 : Nat} {bf : ab_B} : decode (ab_code (zx σ n0 bf).1 8000) 407 = .ok (.bipush 104, 2) := zd zm_8000 (by decide +kernel)
theorem d_8000_409 {σ : Nat → Nat} {n0 : Nat} {bf : ab_B} : decode (ab_code (zx σ n0 bf).1 8000) 409 = .ok (.bastore, 1) := zd zm_8000 (by decide +kernel)
theorem d_8000_410 {σ : Nat → Nat} {n0 : Nat} {bf : ab_B} : decode (ab_code (zx σ n0 bf).1 8000) 410 = .ok (.dup, 1) := zd zm_8000 (by decide +kernel)
theorem d_8000_411 {σ : Nat → Nat} {n0 : Nat} {bf : ab_B} : decode (ab_code (zx σ n0 bf).1 8000) 411 = .ok (.bipush 65, 2) := zd zm_8000 (by decide +kernel)
theorem d_8000_413 {σ : Nat → Nat} {n0 : Nat} {bf : ab_B} : decode (ab_code (zx σ n0 bf).1 8000) 413 = .ok (.bipush 101, 2) := zd zm_8000 (by decide +kernel)
theorem d_8000_415 {σ : Nat → Nat} {n0 : Nat} {bf : ab_B} : decode (ab_code (zx σ n0 bf).1 8000) 415 = .ok (.bastore, 1) := zd zm_8000 (by decide +kernel)
theorem d_8000_416 {σ : Nat → Nat} {n0 : Nat} {bf : ab_B} : decode (ab_code (zx σ n0 bf).1 8000) 416 = .ok (.dup, 1) := zd zm_8000 (by decide +kernel)
theorem d_8000_417 {σ : Nat → Nat} {n0 : Nat} {bf : ab_B} : decode (ab_code (zx σ n0 bf).1 8000) 417 = .ok (.bipush 66, 2) := zd zm_8000 (by decide +kernel)
theorem d_8000_419 {σ : Nat → Nat} {n0 : Nat} {bf : ab_B} : decode (ab_code (zx σ n0 bf).1 8000) 419 = .ok (.bipush 110, 2) := zd zm_8000 (by decide +kernel)
theorem d_8000_421 {σ : Nat → Nat} {n0 : Nat} {bf : ab_B} : decode (ab_code (zx σ n0 bf).1 8000) 421 = .ok (.bastore, 1) := zd zm_8000 (by decide +kernel)
theorem d_8000_422 {σ : Nat → Nat} {n0 : Nat} {bf : ab_B} : decode (ab_code (zx σ n0 bf).1 8000) 422 = .ok (.dup, 1) := zd zm_8000 (by decide +kernel)
theorem d_8000_423 {σ : Nat → Nat} {n0 : Nat} {bf : ab_B} : decode (ab_code (zx σ n0 bf).1 8000) 423 = .ok (.bipush 67, 2) := zd zm_8000 (by decide +kernel)
theorem d_8000_425 {σ : Nat → Nat} {n0 : Nat} {bf : ab_B} : decode (ab_code (zx σ n0 bf).1 8000) 425 = .ok (.bipush 32, 2) := zd zm_8000 (by decide +kernel)
theorem d_8000_427 {σ : Nat → Nat} {n0 : Nat} {bf : ab_B} : decode (ab_code (zx σ n0 bf).1 8000) 427 = .ok (.bastore, 1) := zd zm_8000 (by decide +kernel)
theorem d_8000_428 {σ : Nat → Nat} {n0 : Nat} {bf : ab_B} : decode (ab_code (zx σ n0 bf).1 8000) 428 = .ok (.dup, 1) := zd zm_8000 (by decide +kernel)
theorem d_8000_429 {σ : Nat → Nat} {n0 : Nat} {bf : ab_B} : decode (ab_code (zx σ n0 bf).1 8000) 429 = .ok (.bipush 68, 2) := zd zm_8000 (by decide +kernel)
theorem d_8000_431 {σ : Nat → Nat} {n0 : Nat} {bf : ab_B} : decode (ab_code (zx σ n0 bf).1 8000) 431 = .ok (.bipush 101, 2) := zd zm_8000 (by decide +kernel)
theorem d_8000_433 {σ : Nat → Nat} {n0 : Nat} {bf : ab_B} : decode (ab_code (zx σ n0 bf).1 8000) 433 = .ok (.bastore, 1) := zd zm_8000 (by decide +kernel)
theorem d_8000_434 {σ : Nat → Nat} {n0 : Nat} {bf : ab_B} : decode (ab_code (zx σ n0 bf).1 8000) 434 = .ok (.dup, 1) := zd zm_8000 (by decide +kernel)
theorem d_8000_435 {σ : Nat → Nat} {n0 : Nat} {bf : ab_B} : decode (ab_code (zx σ n0 bf).1 8000) 435 = .ok (.bipush 69, 2) := zd zm_8000 (by decide +kernel)
theorem d_8000_437 {σ : Nat → Nat} {n0 : Nat} {bf : ab_B} : decode (ab_code (zx σ n0 bf).1 8000) 437 = .ok (.bipush 108, 2) := zd zm_8000 (by decide +kernel)
theorem d_8000_439 {σ : Nat → Nat} {n0 : Nat} {bf : ab_B} : decode (ab_code (zx σ n0 bf).1 8000) 439 = .ok (.bastore, 1) := zd zm_8000 (by decide +kernel)
theorem d_8000_440 {σ : Nat → Nat} {n0 : Nat} {bf : ab_B} : decode (ab_code (zx σ n0 bf).1 8000) 440 = .ok (.dup, 1) := zd zm_8000 (by decide +kernel)
theorem d_8000_441 {σ : Nat → Nat} {n0 : Nat} {bf : ab_B} : decode (ab_code (zx σ n0 bf).1 8000) 441 = .ok (.bipush 70, 2) := zd zm_8000 (by decide +kernel)
theorem d_8000_443 {σ : Nat → Nat} {n0 : Nat} {bf : ab_B} : decode (ab_code (zx σ n0 bf).1 8000) 443 = .ok (.bipush 115, 2) := zd zm_8000 (by decide +kernel)
theorem d_8000_445 {σ : Nat → Nat} {n0 : Nat} {bf : ab_B} : decode (ab_code (zx σ n0 bf).1 8000) 445 = .ok (.bastore, 1) := zd zm_8000 (by decide +kernel)
theorem d_8000_446 {σ : Nat → Nat} {n0 : Nat} {bf : ab_B} : decode (ab_code (zx σ n0 bf).1 8000) 446 = .ok (.dup, 1) := zd zm_8000 (by decide +kernel)
theorem d_8000_447 {σ : Nat → Nat} {n0 : Nat} {bf : ab_B} : decode (ab_code (zx σ n0 bf).1 8000) 447 = .ok (.bipush 71, 2) := zd zm_8000 (by decide +kernel)
theorem d_8000_449 {σ : Nat → Nat} {n0 : Nat} {bf : ab_B} : decode (ab_code (zx σ n0 bf).1 8000) 449 = .ok (.bipush 101, 2) := zd zm_8000 (by decide +kernel)
theorem d_8000_451 {σ : Nat → Nat} {n0 : Nat} {bf : ab_B} : decode (ab_code (zx σ n0 bf).1 8000) 451 = .ok (.bastore, 1) := zd zm_8000 (by decide +kernel)
theorem d_8000_452 {σ : Nat → Nat} {n0 : Nat} {bf : ab_B} : decode (ab_code (zx σ n0 bf).1 8000) 452 = .ok (.dup, 1) := zd zm_8000 (by decide +kernel)
theorem d_8000_453 {σ : Nat → Nat} {n0 : Nat} {bf : ab_B} : decode (ab_code (zx σ n0 bf).1 8000) 453 = .ok (.bipush 72, 2) := zd zm_8000 (by decide +kernel)
theorem d_8000_455 {σ : Nat → Nat} {n0 : Nat} {bf : ab_B} : decode (ab_code (zx σ n0 bf).1 8000) 455 = .ok (.bipush 32, 2) := zd zm_8000 (by decide +kernel)
theorem d_8000_457 {σ : Nat → Nat} {n0 : Nat} {bf : ab_B} : decode (ab_code (zx σ n0 bf).1 8000) 457 = .ok (.bastore, 1) := zd zm_8000 (by decide +kernel)
theorem d_8000_458 {σ : Nat → Nat} {n0 : Nat} {bf : ab_B} : decode (ab_code (zx σ n0 bf).1 8000) 458 = .ok (.dup, 1) := zd zm_8000 (by decide +kernel)
theorem d_8000_459 {σ : Nat → Nat} {n0 : Nat} {bf : ab_B} : decode (ab_code (zx σ n0 bf).1 8000) 459 = .ok (.bipush 73, 2) := zd zm_8000 (by decide +kernel)
theorem d_8000_461 {σ : Nat → Nat} {n0 : Nat} {bf : ab_B} : decode (ab_code (zx σ n0 bf).1 8000) 461 = .ok (.bipush 119, 2) := zd zm_8000 (by decide +kernel)
theorem d_8000_463 {σ : Nat → Nat} {n0 : Nat} {bf : ab_B} : decode (ab_code (zx σ n0 bf).1 8000) 463 = .ok (.bastore, 1) := zd zm_8000 (by decide +kernel)
theorem d_8000_464 {σ : Nat → Nat} {n0 : Nat} {bf : ab_B} : decode (ab_code (zx σ n0 bf).1 8000) 464 = .ok (.dup, 1) := zd zm_8000 (by decide +kernel)
theorem d_8000_465 {σ : Nat → Nat} {n0 : Nat} {bf : ab_B} : decode (ab_code (zx σ n0 bf).1 8000) 465 = .ok (.bipush 74, 2) := zd zm_8000 (by decide +kernel)
theorem d_8000_467 {σ : Nat → Nat} {n0 : Nat} {bf : ab_B} : decode (ab_code (zx σ n0 bf).1 8000) 467 = .ok (.bipush 104, 2) := zd zm_8000 (by decide +kernel)
theorem d_8000_469 {σ : Nat → Nat} {n0 : Nat} {bf : ab_B} : decode (ab_code (zx σ n0 bf).1 8000) 469 = .ok (.bastore, 1) := zd zm_8000 (by decide +kernel)
theorem d_8000_470 {σ : Nat → Nat} {n0 : Nat} {bf : ab_B} : decode (ab_code (zx σ n0 bf).1 8000) 470 = .ok (.dup, 1) := zd zm_8000 (by decide +kernel)
theorem d_8000_471 {σ : Nat → Nat} {n0 : Nat} {bf : ab_B} : decode (ab_code (zx σ n0 bf).1 8000) 471 = .ok (.bipush 75, 2) := zd zm_8000 (by decide +kernel)
theorem d_8000_473 {σ : Nat → Nat} {n0 : Nat} {bf : ab_B} : decode (ab_code (zx σ n0 bf).1 8000) 473 = .ok (.bipush 105, 2) := zd zm_8000 (by decide +kernel)
theorem d_8000_475 {σ : Nat → Nat} {n0 : Nat} {bf : ab_B} : decode (ab_code (zx σ n0 bf).1 8000) 475 = .ok (.bastore, 1) := zd zm_8000 (by decide +kernel)
theorem d_8000_476 {σ : Nat → Nat} {n0 : Nat} {bf : ab_B} : decode (ab_code (zx σ n0 bf).1 8000) 476 = .ok (.dup, 1) := zd zm_8000 (by decide +kernel)
theorem d_8000_477 {σ : Nat → Nat} {n0 : Nat} {bf : ab_B} : decode (ab_code (zx σ n0 bf).1 8000) 477 = .ok (.bipush 76, 2) := zd zm_8000 (by decide +kernel)
theorem d_8000_479 {σ : Nat → Nat} {n0 : Nat} {bf : ab_B} : decode (ab_code (zx σ n0 bf).1 8000) 479 = .ok (.bipush 108, 2) := zd zm_8000 (by decide +kernel)
theorem d_8000_481 {σ : Nat → Nat} {n0 : Nat} {bf : ab_B} : decode (ab_code (zx σ n0 bf).1 8000) 481 = .ok (.bastore, 1) := zd zm_8000 (by decide +kernel)
theorem d_8000_482 {σ : Nat → Nat} {n0 : Nat} {bf : ab_B} : decode (ab_code (zx σ n0 bf).1 8000) 482 = .ok (.dup, 1) := zd zm_8000 (by decide +kernel)
theorem d_8000_483 {σ : Nat → Nat} {n0 : Nat} {bf : ab_B} : decode (ab_code (zx σ n0 bf).1 8000) 483 = .ok (.bipush 77, 2) := zd zm_8000 (by decide +kernel)
theorem d_8000_485 {σ : Nat → Nat} {n0 : Nat} {bf : ab_B} : decode (ab_code (zx σ n0 bf).1 8000) 485 = .ok (.bipush 101, 2) := zd zm_8000 (by decide +kernel)
theorem d_8000_487 {σ : Nat → Nat} {n0 : Nat} {bf : ab_B} : decode (ab_code (zx σ n0 bf).1 8000) 487 = .ok (.bastore, 1) := zd zm_8000 (by decide +kernel)
theorem d_8000_488 {σ : Nat → Nat} {n0 : Nat} {bf : ab_B} : decode (ab_code (zx σ n0 bf).1 8000) 488 = .ok (.dup, 1) := zd zm_8000 (by decide +kernel)
theorem d_8000_489 {σ : Nat → Nat} {n0 : Nat} {bf : ab_B} : decode (ab_code (zx σ n0 bf).1 8000) 489 = .ok (.bipush 78, 2) := zd zm_8000 (by decide +kernel)
theorem d_8000_491 {σ : Nat → Nat} {n0 : Nat} {bf : ab_B} : decode (ab_code (zx σ n0 bf).1 8000) 491 = .ok (.bipush 32, 2) := zd zm_8000 (by decide +kernel)
theorem d_8000_493 {σ : Nat → Nat} {n0 : Nat} {bf : ab_B} : decode (ab_code (zx σ n0 bf).1 8000) 493 = .ok (.bastore, 1) := zd zm_8000 (by decide +kernel)
theorem d_8000_494 {σ : Nat → Nat} {n0 : Nat} {bf : ab_B} : decode (ab_code (zx σ n0 bf).1 8000) 494 = .ok (.dup, 1) := zd zm_8000 (by decide +kernel)
theorem d_8000_495 {σ : Nat → Nat} {n0 : Nat} {bf : ab_B} : decode (ab_code (zx σ n0 bf).1 8000) 495 = .ok (.bipush 79, 2) := zd zm_8000 (by decide +kernel)
theorem d_8000_497 {σ : Nat → Nat} {n0 : Nat} {bf : ab_B} : decode (ab_code (zx σ n0 bf).1 8000) 497 = .ok (.bipush 100, 2) := zd zm_8000 (by decide +kernel)
theorem d_8000_499 {σ : Nat → Nat} {n0 : Nat} {bf : ab_B} : decode (ab_code (zx σ n0 bf).1 8000) 499 = .ok (.bastore, 1) := zd zm_8000 (by decide +kernel)
theorem d_8000_500 {σ : Nat → Nat} {n0 : Nat} {bf : ab_B} : decode (ab_code (zx σ n0 bf).1 8000) 500 = .ok (.dup, 1) := zd zm_8000 (by decide +kernel)
theorem d_8000_501 {σ : Nat → Nat} {n0 : Nat} {bf : ab_B} : decode (ab_code (zx σ n0 bf).1 8000) 501 = .ok (.bipush 80, 2) := zd zm_8000 (by decide +kernel)
theorem d_8000_503 {σ : Nat → Nat} {n0 : Nat} {bf : ab_B} : decode (ab_code (zx σ n0 bf).1 8000) 503 = .ok (.bipush 111, 2) := zd zm_8000 (by decide +kernel)
theorem d_8000_505 {σ : Nat → Nat} {n0 : Nat} {bf : ab_B} : decode (ab_code (zx σ n0 bf).1 8000) 505 = .ok (.bastore, 1) := zd zm_8000 (by decide +kernel)
theorem d_8000_506 {σ : Nat → Nat} {n0 : Nat} {bf : ab_B} : decode (ab_code (zx σ n0 bf).1 8000) 506 = .ok (.dup, 1) := zd zm_8000 (by decide +kernel)
theorem d_8000_507 {σ : Nat → Nat} {n0 : Nat} {bf : ab_B} : decode (ab_code (zx σ n0 bf).1 8000) 507 = .ok (.bipush 81, 2) := zd zm_8000 (by decide +kernel)
theorem d_8000_509 {σ : Nat → Nat} {n0 : Nat} {bf : ab_B} : decode (ab_code (zx σ n0 bf).1 8000) 509 = .ok (.bipush 32, 2) := zd zm_8000 (by decide +kernel)
theorem d_8000_511 {σ : Nat → Nat} {n0 : Nat} {bf : ab_B} : decode (ab_code (zx σ n0 bf).1 8000) 511 = .ok (.bastore, 1) := zd zm_8000 (by decide +kernel)
theorem d_8000_512 {σ : Nat → Nat} {n0 : Nat} {bf : ab_B} : decode (ab_code (zx σ n0 bf).1 8000) 512 = .ok (.dup, 1) := zd zm_8000 (by decide +kernel)
theorem d_8000_513 {σ : Nat → Nat} {n0 : Nat} {bf : ab_B} : decode (ab_code (zx σ n0 bf).1 8000) 513 = .ok (.bipush 82, 2) := zd zm_8000 (by decide +kernel)
theorem d_8000_515 {σ : Nat → Nat} {n0 : Nat} {bf : ab_B} : decode (ab_code (zx σ n0 bf).1 8000) 515 = .ok (.bipush 114, 2) := zd zm_8000 (by decide +kernel)
theorem d_8000_517 {σ : Nat → Nat} {n0 : Nat} {bf : ab_B} : decode (ab_code (zx σ n0 bf).1 8000) 517 = .ok (.bastore, 1) := zd zm_8000 (by decide +kernel)
theorem d_8000_518 {σ : Nat → Nat} {n0 : Nat} {bf : ab_B} : decode (ab_code (zx σ n0 bf).1 8000) 518 = .ok (.dup, 1) := zd zm_8000 (by decide +kernel)
theorem d_8000_519 {σ : Nat → Nat} {n0 : Nat} {bf : ab_B} : decode (ab_code (zx σ n0 bf).1 8000) 519 = .ok (.bipush 83, 2) := zd zm_8000 (by decide +kernel)
theorem d_8000_521 {σ : Nat → Nat} {n0 : Nat} {bf : ab_B} : decode (ab_code (zx σ n0 bf).1 8000) 521 = .ok (.bipush 101, 2) := zd zm_8000 (by decide +kernel)
theorem d_8000_523 {σ : Nat → Nat} {n0 : Nat} {bf : ab_B} : decode (ab_code (zx σ n0 bf).1 8000) 523 = .ok (.bastore, 1) := zd zm_8000 (by decide +kernel)
theorem d_8000_524 {σ : Nat → Nat} {n0 : Nat} {bf : ab_B} : decode (ab_code (zx σ n0 bf).1 8000) 524 = .ok (.dup, 1) := zd zm_8000 (by decide +kernel)
theorem d_8000_525 {σ : Nat → Nat} {n0 : Nat} {bf : ab_B} : decode (ab_code (zx σ n0 bf).1 8000) 525 = .ok (.bipush 84, 2) := zd zm_8000 (by decide +kernel)
theorem d_8000_527 {σ : Nat → Nat} {n0 : Nat} {bf : ab_B} : decode (ab_code (zx σ n0 bf).1 8000) 527 = .ok (.bipush 112, 2) := zd zm_8000 (by decide +kernel)
theorem d_8000_529 {σ : Nat → Nat} {n0 : Nat} {bf : ab_B} : decode (ab_code (zx σ n0 bf).1 8000) 529 = .ok (.bastore, 1) := zd zm_8000 (by decide +kernel)
theorem d_8000_530 {σ : Nat → Nat} {n0 : Nat} {bf : ab_B} : decode (ab_code (zx σ n0 bf).1 8000) 530 = .ok (.dup, 1) := zd zm_8000 (by decide +kernel)
theorem d_8000_531 {σ : Nat → Nat} {n0 : Nat} {bf : ab_B} : decode (ab_code (zx σ n0 bf).1 8000) 531 = .ok (.bipush 85, 2) := zd zm_8000 (by decide +kernel)
theorem d_8000_533 {σ : Nat → Nat} {n0 : Nat} {bf : ab_B} : decode (ab_code (zx σ n0 bf).1 8000) 533 = .ok (.bipush 101, 2) := zd zm_8000 (by decide +kernel)
theorem d_8000_535 {σ : Nat → Nat} {n0 : Nat} {bf : ab_B} : decode (ab_code (zx σ n0 bf).1 8000) 535 = .ok (.bastore, 1) := zd zm_8000 (by decide +kernel)
theorem d_8000_536 {σ : Nat → Nat} {n0 : Nat} {bf : ab_B} : decode (ab_code (zx σ n0 bf).1 8000) 536 = .ok (.dup, 1) := zd zm_8000 (by decide +kernel)
theorem d_8000_537 {σ : Nat → Nat} {n0 : Nat} {bf : ab_B} : decode (ab_code (zx σ n0 bf).1 8000) 537 = .ok (.bipush 86, 2) := zd zm_8000 (by decide +kernel)
theorem d_8000_539 {σ : Nat → Nat} {n0 : Nat} {bf : ab_B} : decode (ab_code (zx σ n0 bf).1 8000) 539 = .ok (.bipush 97, 2) := zd zm_8000 (by decide +kernel)
theorem d_8000_541 {σ : Nat → Nat} {n0 : Nat} {bf : ab_B} : decode (ab_code (zx σ n0 bf).1 8000) 541 = .ok (.bastore, 1) := zd zm_8000 (by decide +kernel)
theorem d_8000_542 {σ : Nat → Nat} {n0 : Nat} {bf : ab_B} : decode (ab_code (zx σ n0 bf).1 8000) 542 = .ok (.dup, 1) := zd zm_8000 (by decide +kernel)
theorem d_8000_543 {σ : Nat → Nat} {n0 : Nat} {bf : ab_B} : decode (ab_code (zx σ n0 bf).1 8000) 543 = .ok (.bipush 87, 2) := zd zm_8000 (by decide +kernel)
theorem d_8000_545 {σ : Nat → Nat} {n0 : Nat} {bf : ab_B} : decode (ab_code (zx σ n0 bf).1 8000) 545 = .ok (.bipush 116, 2) := zd zm_8000 (by decide +kernel)
theorem d_8000_547 {σ : Nat → Nat} {n0 : Nat} {bf : ab_B} : decode (ab_code (zx σ n0 bf).1 8000) 547 = .ok (.bastore, 1) := zd zm_8000 (by decide +kernel)
theorem d_8000_548 {σ : Nat → Nat} {n0 : Nat} {bf : ab_B} : decode (ab_code (zx σ n0 bf).1 8000) 548 = .ok (.dup, 1) := zd zm_8000 (by decide +kernel)
theorem d_8000_549 {σ : Nat → Nat} {n0 : Nat} {bf : ab_B} : decode (ab_code (zx σ n0 bf).1 8000) 549 = .ok (.bipush 88, 2) := zd zm_8000 (by decide +kernel)
theorem d_8000_551 {σ : Nat → Nat} {n0 : Nat} {bf : ab_B} : decode (ab_code (zx σ n0 bf).1 8000) 551 = .ok (.bipush 32, 2) := zd zm_8000 (by decide +kernel)
theorem d_8000_553 {σ : Nat → Nat} {n0 : Nat} {bf : ab_B} : decode (ab_code (zx σ n0 bf).1 8000) 553 = .ok (.bastore, 1) := zd zm_8000 (by decide +kernel)
theorem d_8000_554 {σ : Nat → Nat} {n0 : Nat} {bf : ab_B} : decode (ab_code (zx σ n0 bf).1 8000) 554 = .ok (.dup, 1) := zd zm_8000 (by decide +kernel)
theorem d_8000_555 {σ : Nat → Nat} {n0 : Nat} {bf : ab_B} : decode (ab_code (zx σ n0 bf).1 8000) 555 = .ok (.bipush 89, 2) := zd zm_8000 (by decide +kernel)
theorem d_8000_557 {σ : Nat → Nat} {n0 : Nat} {bf : ab_B} : decode (ab_code (zx σ n0 bf).1 8000) 557 = .ok (.bipush 117, 2) := zd zm_8000 (by decide +kernel)
theorem d_8000_559 {σ : Nat → Nat} {n0 : Nat} {bf : ab_B} : decode (ab_code (zx σ n0 bf).1 8000) 559 = .ok (.bastore, 1) := zd zm_8000 (by decide +kernel)
theorem d_8000_560 {σ : Nat → Nat} {n0 : Nat} {bf : ab_B} : decode (ab_code (zx σ n0 bf).1 8000) 560 = .ok (.dup, 1) := zd zm_8000 (by decide +kernel)
theorem d_8000_561 {σ : Nat → Nat} {n0 : Nat} {bf : ab_B} : decode (ab_code (zx σ n0 bf).1 8000) 561 = .ok (.bipush 90, 2) := zd zm_8000 (by decide +kernel)
theorem d_8000_563 {σ : Nat → Nat} {n0 : Nat} {bf : ab_B} : decode (ab_code (zx σ n0 bf).1 8000) 563 = .ok (.bipush 110, 2) := zd zm_8000 (by decide +kernel)
theorem d_8000_565 {σ : Nat → Nat} {n0 : Nat} {bf : ab_B} : decode (ab_code (zx σ n0 bf).1 8000) 565 = .ok (.bastore, 1) := zd zm_8000 (by decide +kernel)
theorem d_8000_566 {σ : Nat → Nat} {n0 : Nat} {bf : ab_B} : decode (ab_code (zx σ n0 bf).1 8000) 566 = .ok (.dup, 1) := zd zm_8000 (by decide +kernel)
theorem d_8000_567 {σ : Nat → Nat} {n0 : Nat} {bf : ab_B} : decode (ab_code (zx σ n0 bf).1 8000) 567 = .ok (.bipush 91, 2) := zd zm_8000 (by decide +kernel)
theorem d_8000_569 {σ : Nat → Nat} {n0 : Nat} {bf : ab_B} : decode (ab_code (zx σ n0 bf).1 8000) 569 = .ok (.bipush 116, 2) := zd zm_8000 (by decide +kernel)
theorem d_8000_571 {σ : Nat → Nat} {n0 : Nat} {bf : ab_B} : decode (ab_code (zx σ n0 bf).1 8000) 571 = .ok (.bastore, 1) := zd zm_8000 (by decide +kernel)
theorem d_8000_572 {σ : Nat → Nat} {n0 : Nat} {bf : ab_B} : decode (ab_code (zx σ n0 bf).1 8000) 572 = .ok (.dup, 1) := zd zm_8000 (by decide +kernel)
theorem d_8000_573 {σ : Nat → Nat} {n0 : Nat} {bf : ab_B} : decode (ab_code (zx σ n0 bf).1 8000) 573 = .ok (.bipush 92, 2) := zd zm_8000 (by decide +kernel)
theorem d_8000_575 {σ : Nat → Nat} {n0 : Nat} {bf : ab_B} : decode (ab_code (zx σ n0 bf).1 8000) 575 = .ok (.bipush 105, 2) := zd zm_8000 (by decide +kernel)
theorem d_8000_577 {σ : Nat → Nat} {n0 : Nat} {bf : ab_B} : decode (ab_code (zx σ n0 bf).1 8000) 577 = .ok (.bastore, 1) := zd zm_8000 (by decide +kernel)
theorem d_8000_578 {σ : Nat → Nat} {n0 : Nat} {bf : ab_B} : decode (ab_code (zx σ n0 bf).1 8000) 578 = .ok (.dup, 1) := zd zm_8000 (by decide +kernel)
theorem d_8000_579 {σ : Nat → Nat} {n0 : Nat} {bf : ab_B} : decode (ab_code (zx σ n0 bf).1 8000) 579 = .ok (.bipush 93, 2) := zd zm_8000 (by decide +kernel)
theorem d_8000_581 {σ : Nat → Nat} {n0 : Nat} {bf : ab_B} : decode (ab_code (zx σ n0 bf).1 8000) 581 = .ok (.bipush 108, 2) := zd zm_8000 (by decide +kernel)
theorem d_8000_583 {σ : Nat → Nat} {n0 : Nat} {bf : ab_B} : decode (ab_code (zx σ n0 bf).1 8000) 583 = .ok (.bastore, 1) := zd zm_8000 (by decide +kernel)
theorem d_8000_584 {σ : Nat → Nat} {n0 : Nat} {bf : ab_B} : decode (ab_code (zx σ n0 bf).1 8000) 584 = .ok (.dup, 1) := zd zm_8000 (by decide +kernel)
theorem d_8000_585 {σ : Nat → Nat} {n0 : Nat} {bf : ab_B} : decode (ab_code (zx σ n0 bf).1 8000) 585 = .ok (.bipush 94, 2) := zd zm_8000 (by decide +kernel)
theorem d_8000_587 {σ : Nat → Nat} {n0 : Nat} {bf : ab_B} : decode (ab_code (zx σ n0 bf).1 8000) 587 = .ok (.bipush 32, 2) := zd zm_8000 (by decide +kernel)
theorem d_8000_589 {σ : Nat → Nat} {n0 : Nat} {bf : ab_B} : decode (ab_code (zx σ n0 bf).1 8000) 589 = .ok (.bastore, 1) := zd zm_8000 (by decide +kernel)
theorem d_8000_590 {σ : Nat → Nat} {n0 : Nat} {bf : ab_B} : decode (ab_code (zx σ n0 bf).1 8000) 590 = .ok (.dup, 1) := zd zm_8000 (by decide +kernel)
theorem d_8000_591 {σ : Nat → Nat} {n0 : Nat} {bf : ab_B} : decode (ab_code (zx σ n0 bf).1 8000) 591 = .ok (.bipush 95, 2) := zd zm_8000 (by decide +kernel)
theorem d_8000_593 {σ : Nat → Nat} {n0 : Nat} {bf : ab_B} : decode (ab_code (zx σ n0 bf).1 8000) 593 = .ok (.bipush 102, 2) := zd zm_8000 (by decide +kernel)
theorem d_8000_595 {σ : Nat → Nat} {n0 : Nat} {bf : ab_B} : decode (ab_code (zx σ n0 bf).1 8000) 595 = .ok (.bastore, 1) := zd zm_8000 (by decide +kernel)
theorem d_8000_596 {σ : Nat → Nat} {n0 : Nat} {bf : ab_B} : decode (ab_code (zx σ n0 bf).1 8000) 596 = .ok (.dup, 1) := zd zm_8000 (by decide +kernel)
theorem d_8000_597 {σ : Nat → Nat} {n0 : Nat} {bf : ab_B} : decode (ab_code (zx σ n0 bf).1 8000) 597 = .ok (.bipush 96, 2) := zd zm_8000 (by decide +kernel)
theorem d_8000_599 {σ : Nat → Nat} {n0 : Nat} {bf : ab_B} : decode (ab_code (zx σ n0 bf).1 8000) 599 = .ok (.bipush 111, 2) := zd zm_8000 (by decide +kernel)
theorem d_8000_601 {σ : Nat → Nat} {n0 : Nat} {bf : ab_B} : decode (ab_code (zx σ n0 bf).1 8000) 601 = .ok (.bastore, 1) := zd zm_8000 (by decide +kernel)
theorem d_8000_602 {σ : Nat → Nat} {n0 : Nat} {bf : ab_B} : decode (ab_code (zx σ n0 bf).1 8000) 602 = .ok (.dup, 1) := zd zm_8000 (by decide +kernel)
theorem d_8000_603 {σ : Nat → Nat} {n0 : Nat} {bf : ab_B} : decode (ab_code (zx σ n0 bf).1 8000) 603 = .ok (.bipush 97, 2) := zd zm_8000 (by decide +kernel)
theorem d_8000_605 {σ : Nat → Nat} {n0 : Nat} {bf : ab_B} : decode (ab_code (zx σ n0 bf).1 8000) 605 = .ok (.bipush 114, 2) := zd zm_8000 (by decide +kernel)
theorem d_8000_607 {σ : Nat → Nat} {n0 : Nat} {bf : ab_B} : decode (ab_code (zx σ n0 bf).1 8000) 607 = .ok (.bastore, 1) := zd zm_8000 (by decide +kernel)
theorem d_8000_608 {σ : Nat → Nat} {n0 : Nat} {bf : ab_B} : decode (ab_code (zx σ n0 bf).1 8000) 608 = .ok (.dup, 1) := zd zm_8000 (by decide +kernel)
theorem d_8000_609 {σ : Nat → Nat} {n0 : Nat} {bf : ab_B} : decode (ab_code (zx σ n0 bf).1 8000) 609 = .ok (.bipush 98, 2) := zd zm_8000 (by decide +kernel)
theorem d_8000_611 {σ : Nat → Nat} {n0 : Nat} {bf : ab_B} : decode (ab_code (zx σ n0 bf).1 8000) 611 = .ok (.bipush 32, 2) := zd zm_8000 (by decide +kernel)
theorem d_8000_613 {σ : Nat → Nat} {n0 : Nat} {bf : ab_B} : decode (ab_code (zx σ n0 bf).1 8000) 613 = .ok (.bastore, 1) := zd zm_8000 (by decide +kernel)
theorem d_8000_614 {σ : Nat → Nat} {n0 : Nat} {bf : ab_B} : decode (ab_code (zx σ n0 bf).1 8000) 614 = .ok (.dup, 1) := zd zm_8000 (by decide +kernel)
theorem d_8000_615 {σ : Nat → Nat} {n0 : Nat} {bf : ab_B} : decode (ab_code (zx σ n0 bf).1 8000) 615 = .ok (.bipush 99, 2) := zd zm_8000 (by decide +kernel)
theorem d_8000_617 {σ : Nat → Nat} {n0 : Nat} {bf : ab_B} : decode (ab_code (zx σ n0 bf).1 8000) 617 = .ok (.bipush 116, 2) := zd zm_8000 (by decide +kernel)
theorem d_8000_619 {σ : Nat → Nat} {n0 : Nat} {bf : ab_B} : decode (ab_code (zx σ n0 bf).1 8000) 619 = .ok (.bastore, 1) := zd zm_8000 (by decide +kernel)
theorem d_8000_620 {σ : Nat → Nat} {n0 : Nat} {bf : ab_B} : decode (ab_code (zx σ n0 bf).1 8000) 620 = .ok (.dup, 1) := zd zm_8000 (by decide +kernel)
theorem d_8000_621 {σ : Nat → Nat} {n0 : Nat} {bf : ab_B} : decode (ab_code (zx σ n0 bf).1 8000) 621 = .ok (.bipush 100, 2) := zd zm_8000 (by decide +kernel)
theorem d_8000_623 {σ : Nat → Nat} {n0 : Nat} {bf : ab_B} : decode (ab_code (zx σ n0 bf).1 8000) 623 = .ok (.bipush 111, 2) := zd zm_8000 (by decide +kernel)
theorem d_8000_625 {σ : Nat → Nat} {n0 : Nat} {bf : ab_B} : decode (ab_code (zx σ n0 bf).1 8000) 625 = .ok (.bastore, 1) := zd zm_8000 (by decide +kernel)
theorem d_8000_626 {σ : Nat → Nat} {n0 : Nat} {bf : ab_B} : decode (ab_code (zx σ n0 bf).1 8000) 626 = .ok (.dup, 1) := zd zm_8000 (by decide +kernel)
theorem d_8000_627 {σ : Nat → Nat} {n0 : Nat} {bf : ab_B} : decode (ab_code (zx σ n0 bf).1 8000) 627 = .ok (.bipush 101, 2) := zd zm_8000 (by decide +kernel)
theorem d_8000_629 {σ : Nat → Nat} {n0 : Nat} {bf : ab_B} : decode (ab_code (zx σ n0 bf).1 8000) 629 = .ok (.bipush 32, 2) := zd zm_8000 (by decide +kernel)
theorem d_8000_631 {σ : Nat → Nat} {n0 : Nat} {bf : ab_B} : decode (ab_code (zx σ n0 bf).1 8000) 631 = .ok (.bastore, 1) := zd zm_8000 (by decide +kernel)
theorem d_8000_632 {σ : Nat → Nat} {n0 : Nat} {bf : ab_B} : decode (ab_code (zx σ n0 bf).1 8000) 632 = .ok (.dup, 1) := zd zm_8000 (by decide +kernel)
theorem d_8000_633 {σ : Nat → Nat} {n0 : Nat} {bf : ab_B} : decode (ab_code (zx σ n0 bf).1 8000) 633 = .ok (.bipush 102, 2) := zd zm_8000 (by decide +kernel)
theorem d_8000_635 {σ : Nat → Nat} {n0 : Nat} {bf : ab_B} : decode (ab_code (zx σ n0 bf).1 8000) 635 = .ok (.bipush 100, 2) := zd zm_8000 (by decide +kernel)
theorem d_8000_637 {σ : Nat → Nat} {n0 : Nat} {bf : ab_B} : decode (ab_code (zx σ n0 bf).1 8000) 637 = .ok (.bastore, 1) := zd zm_8000 (by decide +kernel)
theorem d_8000_638 {σ : Nat → Nat} {n0 : Nat} {bf : ab_B} : decode (ab_code (zx σ n0 bf).1 8000) 638 = .ok (.dup, 1) := zd zm_8000 (by decide +kernel)
theorem d_8000_639 {σ : Nat → Nat} {n0 : Nat} {bf : ab_B} : decode (ab_code (zx σ n0 bf).1 8000) 639 = .ok (.bipush 103, 2) := zd zm_8000 (by decide +kernel)
theorem d_8000_641 {σ : Nat → Nat} {n0 : Nat} {bf : ab_B} : decode (ab_code (zx σ n0 bf).1 8000) 641 = .ok (.bipush 111, 2) := zd zm_8000 (by decide +kernel)
theorem d_8000_643 {σ : Nat → Nat} {n0 : Nat} {bf : ab_B} : decode (ab_code (zx σ n0 bf).1 8000) 643 = .ok (.bastore, 1) := zd zm_8000 (by decide +kernel)
theorem d_8000_644 {σ : Nat → Nat} {n0 : Nat} {bf : ab_B} : decode (ab_code (zx σ n0 bf).1 8000) 644 = .ok (.dup, 1) := zd zm_8000 (by decide +kernel)
theorem d_8000_645 {σ : Nat → Nat} {n0 : Nat} {bf : ab_B} : decode (ab_code (zx σ n0 bf).1 8000) 645 = .ok (.bipush 104, 2) := zd zm_8000 (by decide +kernel)
theorem d_8000_647 {σ : Nat → Nat} {n0 : Nat} {bf : ab_B} : decode (ab_code (zx σ n0 bf).1 8000) 647 = .ok (.bipush 119, 2) := zd zm_8000 (by decide +kernel)
theorem d_8000_649 {σ : Nat → Nat} {n0 : Nat} {bf : ab_B} : decode (ab_code (zx σ n0 bf).1 8000) 649 = .ok (.bastore, 1) := zd zm_8000 (by decide +kernel)
theorem d_8000_650 {σ : Nat → Nat} {n0 : Nat} {bf : ab_B} : decode (ab_code (zx σ n0 bf).1 8000) 650 = .ok (.dup, 1) := zd zm_8000 (by decide +kernel)
theorem d_8000_651 {σ : Nat → Nat} {n0 : Nat} {bf : ab_B} : decode (ab_code (zx σ n0 bf).1 8000) 651 = .ok (.bipush 105, 2) := zd zm_8000 (by decide +kernel)
theorem d_8000_653 {σ : Nat → Nat} {n0 : Nat} {bf : ab_B} : decode (ab_code (zx σ n0 bf).1 8000) 653 = .ok (.bipush 110, 2) := zd zm_8000 (by decide +kernel)
theorem d_8000_655 {σ : Nat → Nat} {n0 : Nat} {bf : ab_B} : decode (ab_code (zx σ n0 bf).1 8000) 655 = .ok (.bastore, 1) := zd zm_8000 (by decide +kernel)
theorem d_8000_656 {σ : Nat → Nat} {n0 : Nat} {bf : ab_B} : decode (ab_code (zx σ n0 bf).1 8000) 656 = .ok (.dup, 1) := zd zm_8000 (by decide +kernel)
theorem d_8000_657 {σ : Nat → Nat} {n0 : Nat} {bf : ab_B} : decode (ab_code (zx σ n0 bf).1 8000) 657 = .ok (.bipush 106, 2) := zd zm_8000 (by decide +kernel)
theorem d_8000_659 {σ : Nat → Nat} {n0 : Nat} {bf : ab_B} : decode (ab_code (zx σ n0 bf).1 8000) 659 = .ok (.bipush 116, 2) := zd zm_8000 (by decide +kernel)
theorem d_8000_661 {σ : Nat → Nat} {n0 : Nat} {bf : ab_B} : decode (ab_code (zx σ n0 bf).1 8000) 661 = .ok (.bastore, 1) := zd zm_8000 (by decide +kernel)
theorem d_8000_662 {σ : Nat → Nat} {n0 : Nat} {bf : ab_B} : decode (ab_code (zx σ n0 bf).1 8000) 662 = .ok (.dup, 1) := zd zm_8000 (by decide +kernel)
theorem d_8000_663 {σ : Nat → Nat} {n0 : Nat} {bf : ab_B} : decode (ab_code (zx σ n0 bf).1 8000) 663 = .ok (.bipush 107, 2) := zd zm_8000 (by decide +kernel)
theorem d_8000_665 {σ : Nat → Nat} {n0 : Nat} {bf : ab_B} : decode (ab_code (zx σ n0 bf).1 8000) 665 = .ok (.bipush 111, 2) := zd zm_8000 (by decide +kernel)
theorem d_8000_667 {σ : Nat → Nat} {n0 : Nat} {bf : ab_B} : decode (ab_code (zx σ n0 bf).1 8000) 667 = .ok (.bastore, 1) := zd zm_8000 (by decide +kernel)
theorem d_8000_668 {σ : Nat → Nat} {n0 : Nat} {bf : ab_B} : decode (ab_code (zx σ n0 bf).1 8000) 668 = .ok (.dup, 1) := zd zm_8000 (by decide +kernel)
theorem d_8000_669 {σ : Nat → Nat} {n0 : Nat} {bf : ab_B} : decode (ab_code (zx σ n0 bf).1 8000) 669 = .ok (.bipush 108, 2) := zd zm_8000 (by decide +kernel)
theorem d_8000_671 {σ : Nat → Nat} {n0 : Nat} {bf : ab_B} : decode (ab_code (zx σ n0 bf).1 8000) 671 = .ok (.bipush 32, 2) := zd zm_8000 (by decide +kernel)
theorem d_8000_673 {σ : Nat → Nat} {n0 : Nat} {bf : ab_B} : decode (ab_code (zx σ n0 bf).1 8000) 673 = .ok (.bastore, 1) := zd zm_8000 (by decide +kernel)
theorem d_8000_674 {σ : Nat → Nat} {n0 : Nat} {bf : ab_B} : decode (ab_code (zx σ n0 bf).1 8000) 674 = .ok (.dup, 1) := zd zm_8000 (by decide +kernel)
theorem d_8000_675 {σ : Nat → Nat} {n0 : Nat} {bf : ab_B} : decode (ab_code (zx σ n0 bf).1 8000) 675 = .ok (.bipush 109, 2) := zd zm_8000 (by decide +kernel)
theorem d_8000_677 {σ : Nat → Nat} {n0 : Nat} {bf : ab_B} : decode (ab_code (zx σ n0 bf).1 8000) 677 = .ok (.bipush 99, 2) := zd zm_8000 (by decide +kernel)
theorem d_8000_679 {σ : Nat → Nat} {n0 : Nat} {bf : ab_B} : decode (ab_code (zx σ n0 bf).1 8000) 679 = .ok (.bastore, 1) := zd zm_8000 (by decide +kernel)
theorem d_8000_680 {σ : Nat → Nat} {n0 : Nat} {bf : ab_B} : decode (ab_code (zx σ n0 bf).1 8000) 680 = .ok (.dup, 1) := zd zm_8000 (by decide +kernel)
theorem d_8000_681 {σ : Nat → Nat} {n0 : Nat} {bf : ab_B} : decode (ab_code (zx σ n0 bf).1 8000) 681 = .ok (.bipush 110, 2) := zd zm_8000 (by decide +kernel)
theorem d_8000_683 {σ : Nat → Nat} {n0 : Nat} {bf : ab_B} : decode (ab_code (zx σ n0 bf).1 8000) 683 = .ok (.bipush 97, 2) := zd zm_8000 (by decide +kernel)
theorem d_8000_685 {σ : Nat → Nat} {n0 : Nat} {bf : ab_B} : decode (ab_code (zx σ n0 bf).1 8000) 685 = .ok (.bastore, 1) := zd zm_8000 (by decide +kernel)
theorem d_8000_686 {σ : Nat → Nat} {n0 : Nat} {bf : ab_B} : decode (ab_code (zx σ n0 bf).1 8000) 686 = .ok (.dup, 1) := zd zm_8000 (by decide +kernel)
theorem d_8000_687 {σ : Nat → Nat} {n0 : Nat} {bf : ab_B} : decode (ab_code (zx σ n0 bf).1 8000) 687 = .ok (.bipush 111, 2) := zd zm_8000 (by decide +kernel)
theorem d_8000_689 {σ : Nat → Nat} {n0 : Nat} {bf : ab_B} : decode (ab_code (zx σ n0 bf).1 8000) 689 = .ok (.bipush 115, 2) := zd zm_8000 (by decide +kernel)
theorem d_8000_691 {σ : Nat → Nat} {n0 : Nat} {bf : ab_B} : decode (ab_code (zx σ n0 bf).1 8000) 691 = .ok (.bastore, 1) := zd zm_8000 (by decide +kernel)
theorem d_8000_692 {σ : Nat → Nat} {n0 : Nat} {bf : ab_B} : decode (ab_code (zx σ n0 bf).1 8000) 692 = .ok (.dup, 1) := zd zm_8000 (by decide +kernel)
theorem d_8000_693 {σ : Nat → Nat} {n0 : Nat} {bf : ab_B} : decode (ab_code (zx σ n0 bf).1 8000) 693 = .ok (.bipush 112, 2) := zd zm_8000 (by decide +kernel)
theorem d_8000_695 {σ : Nat → Nat} {n0 : Nat} {bf : ab_B} : decode (ab_code (zx σ n0 bf).1 8000) 695 = .ok (.bipush 101, 2) := zd zm_8000 (by decide +kernel)
theorem d_8000_697 {σ : Nat → Nat} {n0 : Nat} {bf : ab_B} : decode (ab_code (zx σ n0 bf).1 8000) 697 = .ok (.bastore, 1) := zd zm_8000 (by decide +kernel)
theorem d_8000_698 {σ : Nat → Nat} {n0 : Nat} {bf : ab_B} : decode (ab_code (zx σ n0 bf).1 8000) 698 = .ok (.dup, 1) := zd zm_8000 (by decide +kernel)
theorem d_8000_699 {σ : Nat → Nat} {n0 : Nat} {bf : ab_B} : decode (ab_code (zx σ n0 bf).1 8000) 699 = .ok (.bipush 113, 2) := zd zm_8000 (by decide +kernel)
theorem d_8000_701 {σ : Nat → Nat} {n0 : Nat} {bf : ab_B} : decode (ab_code (zx σ n0 bf).1 8000) 701 = .ok (.bipush 32, 2) := zd zm_8000 (by decide +kernel)
theorem d_8000_703 {σ : Nat → Nat} {n0 : Nat} {bf : ab_B} : decode (ab_code (zx σ n0 bf).1 8000) 703 = .ok (.bastore, 1) := zd zm_8000 (by decide +kernel)
theorem d_8000_704 {σ : Nat → Nat} {n0 : Nat} {bf : ab_B} : decode (ab_code (zx σ n0 bf).1 8000) 704 = .ok (.dup, 1) := zd zm_8000 (by decide +kernel)
theorem d_8000_705 {σ : Nat → Nat} {n0 : Nat} {bf : ab_B} : decode (ab_code (zx σ n0 bf).1 8000) 705 = .ok (.bipush 114, 2) := zd zm_8000 (by decide +kernel)
theorem d_8000_707 {σ : Nat → Nat} {n0 : Nat} {bf : ab_B} : decode (ab_code (zx σ n0 bf).1 8000) 707 = .ok (.bipush 111, 2) := zd zm_8000 (by decide +kernel)
theorem d_8000_709 {σ : Nat → Nat} {n0 : Nat} {bf : ab_B} : decode (ab_code (zx σ n0 bf).1 8000) 709 = .ok (.bastore, 1) := zd zm_8000 (by decide +kernel)
theorem d_8000_710 {σ : Nat → Nat} {n0 : Nat} {bf : ab_B} : decode (ab_code (zx σ n0 bf).1 8000) 710 = .ok (.dup, 1) := zd zm_8000 (by decide +kernel)
theorem d_8000_711 {σ : Nat → Nat} {n0 : Nat} {bf : ab_B} : decode (ab_code (zx σ n0 bf).1 8000) 711 = .ok (.bipush 115, 2) := zd zm_8000 (by decide +kernel)
theorem d_8000_713 {σ : Nat → Nat} {n0 : Nat} {bf : ab_B} : decode (ab_code (zx σ n0 bf).1 8000) 713 = .ok (.bipush 102, 2) := zd zm_8000 (by decide +kernel)
theorem d_8000_715 {σ : Nat → Nat} {n0 : Nat} {bf : ab_B} : decode (ab_code (zx σ n0 bf).1 8000) 715 = .ok (.bastore, 1) := zd zm_8000 (by decide +kernel)
theorem d_8000_716 {σ : Nat → Nat} {n0 : Nat} {bf : ab_B} : decode (ab_code (zx σ n0 bf).1 8000) 716 = .ok (.dup, 1) := zd zm_8000 (by decide +kernel)
theorem d_8000_717 {σ : Nat → Nat} {n0 : Nat} {bf : ab_B} : decode (ab_code (zx σ n0 bf).1 8000) 717 = .ok (.bipush 116, 2) := zd zm_8000 (by decide +kernel)
theorem d_8000_719 {σ : Nat → Nat} {n0 : Nat} {bf : ab_B} : decode (ab_code (zx σ n0 bf).1 8000) 719 = .ok (.bipush 32, 2) := zd zm_8000 (by decide +kernel)
theorem d_8000_721 {σ : Nat → Nat} {n0 : Nat} {bf : ab_B} : decode (ab_code (zx σ n0 bf).1 8000) 721 = .ok (.bastore, 1) := zd zm_8000 (by decide +kernel)
theorem d_8000_722 {σ : Nat → Nat} {n0 : Nat} {bf : ab_B} : decode (ab_code (zx σ n0 bf).1 8000) 722 = .ok (.dup, 1) := zd zm_8000 (by decide +kernel)
theorem d_8000_723 {σ : Nat → Nat} {n0 : Nat} {bf : ab_B} : decode (ab_code (zx σ n0 bf).1 8000) 723 = .ok (.bipush 117, 2) := zd zm_8000 (by decide +kernel)
theorem d_8000_725 {σ : Nat → Nat} {n0 : Nat} {bf : ab_B} : decode (ab_code (zx σ n0 bf).1 8000) 725 = .ok (.bipush 111, 2) := zd zm_8000 (by decide +kernel)
theorem d_8000_727 {σ : Nat → Nat} {n0 : Nat} {bf : ab_B} : decode (ab_code (zx σ n0 bf).1 8000) 727 = .ok (.bastore, 1) := zd zm_8000 (by decide +kernel)
theorem d_8000_728 {σ : Nat → Nat} {n0 : Nat} {bf : ab_B} : decode (ab_code (zx σ n0 bf).1 8000) 728 = .ok (.dup, 1) := zd zm_8000 (by decide +kernel)
theorem d_8000_729 {σ : Nat → Nat} {n0 : Nat} {bf : ab_B} : decode (ab_code (zx σ n0 bf).1 8000) 729 = .ok (.bipush 118, 2) := zd zm_8000 (by decide +kernel)
theorem d_8000_731 {σ : Nat → Nat} {n0 : Nat} {bf : ab_B} : decode (ab_code (zx σ n0 bf).1 8000) 731 = .ok (.bipush 116, 2) := zd zm_8000 (by decide +kernel)
theorem d_8000_733 {σ : Nat → Nat} {n0 : Nat} {bf : ab_B} : decode (ab_code (zx σ n0 bf).1 8000) 733 = .ok (.bastore, 1) := zd zm_8000 (by decide +kernel)
theorem d_8000_734 {σ : Nat → Nat} {n0 : Nat} {bf : ab_B} : decode (ab_code (zx σ n0 bf).1 8000) 734 = .ok (.dup, 1) := zd zm_8000 (by decide +kernel)
theorem d_8000_735 {σ : Nat → Nat} {n0 : Nat} {bf : ab_B} : decode (ab_code (zx σ n0 bf).1 8000) 735 = .ok (.bipush 119, 2) := zd zm_8000 (by decide +kernel)
theorem d_8000_737 {σ : Nat → Nat} {n0 : Nat} {bf : ab_B} : decode (ab_code (zx σ n0 bf).1 8000) 737 = .ok (.bipush 104, 2) := zd zm_8000 (by decide +kernel)
theorem d_8000_739 {σ : Nat → Nat} {n0 : Nat} {bf : ab_B} : decode (ab_code (zx σ n0 bf).1 8000) 739 = .ok (.bastore, 1) := zd zm_8000 (by decide +kernel)
theorem d_8000_740 {σ : Nat → Nat} {n0 : Nat} {bf : ab_B} : decode (ab_code (zx σ n0 bf).1 8000) 740 = .ok (.dup, 1) := zd zm_8000 (by decide +kernel)
theorem d_8000_741 {σ : Nat → Nat} {n0 : Nat} {bf : ab_B} : decode (ab_code (zx σ n0 bf).1 8000) 741 = .ok (.bipush 120, 2) := zd zm_8000 (by decide +kernel)
theorem d_8000_743 {σ : Nat → Nat} {n0 : Nat} {bf : ab_B} : decode (ab_code (zx σ n0 bf).1 8000) 743 = .ok (.bipush 101, 2) := zd zm_8000 (by decide +kernel)
theorem d_8000_745 {σ : Nat → Nat} {n0 : Nat} {bf : ab_B} : decode (ab_code (zx σ n0 bf).1 8000) 745 = .ok (.bastore, 1) := zd zm_8000 (by decide +kernel)
theorem d_8000_746 {σ : Nat → Nat} {n0 : Nat} {bf : ab_B} : decode (ab_code (zx σ n0 bf).1 8000) 746 = .ok (.dup, 1) := zd zm_8000 (by decide +kernel)
theorem d_8000_747 {σ : Nat → Nat} {n0 : Nat} {bf : ab_B} : decode (ab_code (zx σ n0 bf).1 8000) 747 = .ok (.bipush 121, 2) := zd zm_8000 (by decide +kernel)
theorem d_8000_749 {σ : Nat → Nat} {n0 : Nat} {bf : ab_B} : decode (ab_code (zx σ n0 bf).1 8000) 749 = .ok (.bipush 114, 2) := zd zm_8000 (by decide +kernel)
theorem d_8000_751 {σ : Nat → Nat} {n0 : Nat} {bf : ab_B} : decode (ab_code (zx σ n0 bf).1 8000) 751 = .ok (.bastore, 1) := zd zm_8000 (by decide +kernel)
theorem d_8000_752 {σ : Nat → Nat} {n0 : Nat} {bf : ab_B} : decode (ab_code (zx σ n0 bf).1 8000) 752 = .ok (.dup, 1) := zd zm_8000 (by decide +kernel)
theorem d_8000_753 {σ : Nat → Nat} {n0 : Nat} {bf : ab_B} : decode (ab_code (zx σ n0 bf).1 8000) 753 = .ok (.bipush 122, 2) := zd zm_8000 (by decide +kernel)
theorem d_8000_755 {σ : Nat → Nat} {n0 : Nat} {bf : ab_B} : decode (ab_code (zx σ n0 bf).1 8000) 755 = .ok (.bipush 119, 2) := zd zm_8000 (by decide +kernel)
theorem d_8000_757 {σ : Nat → Nat} {n0 : Nat} {bf : ab_B} : decode (ab_code (zx σ n0 bf).1 8000) 757 = .ok (.bastore, 1) := zd zm_8000 (by decide +kernel)
theorem d_8000_758 {σ : Nat → Nat} {n0 : Nat} {bf : ab_B} : decode (ab_code (zx σ n0 bf).1 8000) 758 = .ok (.dup, 1) := zd zm_8000 (by decide +kernel)
theorem d_8000_759 {σ : Nat → Nat} {n0 : Nat} {bf : ab_B} : decode (ab_code (zx σ n0 bf).1 8000) 759 = .ok (.bipush 123, 2) := zd zm_8000 (by decide +kernel)
theorem d_8000_761 {σ : Nat → Nat} {n0 : Nat} {bf : ab_B} : decode (ab_code (zx σ n0 bf).1 8000) 761 = .ok (.bipush 105, 2) := zd zm_8000 (by decide +kernel)
theorem d_8000_763 {σ : Nat → Nat} {n0 : Nat} {bf : ab_B} : decode (ab_code (zx σ n0 bf).1 8000) 763 = .ok (.bastore, 1) := zd zm_8000 (by decide +kernel)
theorem d_8000_764 {σ : Nat → Nat} {n0 : Nat} {bf : ab_B} : decode (ab_code (zx σ n0 bf).1 8000) 764 = .ok (.dup, 1) := zd zm_8000 (by decide +kernel)
theorem d_8000_765 {σ : Nat → Nat} {n0 : Nat} {bf : ab_B} : decode (ab_code (zx σ n0 bf).1 8000) 765 = .ok (.bipush 124, 2) := zd zm_8000 (by decide +kernel)
theorem d_8000_767 {σ : Nat → Nat} {n0 : Nat} {bf : ab_B} : decode (ab_code (zx σ n0 bf).1 8000) 767 = .ok (.bipush 115, 2) := zd zm_8000 (by decide +kernel)
theorem d_8000_769 {σ : Nat → Nat} {n0 : Nat} {bf : ab_B} : decode (ab_code (zx σ n0 bf).1 8000) 769 = .ok (.bastore, 1) := zd zm_8000 (by decide +kernel)
theorem d_8000_770 {σ : Nat → Nat} {n0 : Nat} {bf : ab_B} : decode (ab_code (zx σ n0 bf).1 8000) 770 = .ok (.dup, 1) := zd zm_8000 (by decide +kernel)
theorem d_8000_771 {σ : Nat → Nat} {n0 : Nat} {bf : ab_B} : decode (ab_code (zx σ n0 bf).1 8000) 771 = .ok (.bipush 125, 2) := zd zm_8000 (by decide +kernel)
theorem d_8000_773 {σ : Nat → Nat} {n0 : Nat} {bf : ab_B} : decode (ab_code (zx σ n0 bf).1 8000) 773 = .ok (.bipush 101, 2) := zd zm_8000 (by decide +kernel)
theorem d_8000_775 {σ : Nat → Nat} {n0 : Nat} {bf : ab_B} : decode (ab_code (zx σ n0 bf).1 8000) 775 = .ok (.bastore, 1) := zd zm_8000 (by decide +kernel)
theorem d_8000_776 {σ : Nat → Nat} {n0 : Nat} {bf : ab_B} : decode (ab_code (zx σ n0 bf).1 8000) 776 = .ok (.dup, 1) := zd zm_8000 (by decide +kernel)
theorem d_8000_777 {σ : Nat → Nat} {n0 : Nat} {bf : ab_B} : decode (ab_code (zx σ n0 bf).1 8000) 777 = .ok (.bipush 126, 2) := zd zm_8000 (by decide +kernel)
theorem d_8000_779 {σ : Nat → Nat} {n0 : Nat} {bf : ab_B} : decode (ab_code (zx σ n0 bf).1 8000) 779 = .ok (.bipush 32, 2) := zd zm_8000 (by decide +kernel)
theorem d_8000_781 {σ : Nat → Nat} {n0 : Nat} {bf : ab_B} : decode (ab_code (zx σ n0 bf).1 8000) 781 = .ok (.bastore, 1) := zd zm_8000 (by decide +kernel)
theorem d_8000_782 {σ : Nat → Nat} {n0 : Nat} {bf : ab_B} : decode (ab_code (zx σ n0 bf).1 8000) 782 = .ok (.dup, 1) := zd zm_8000 (by decide +kernel)
theorem d_8000_783 {σ : Nat → Nat} {n0 : Nat} {bf : ab_B} : decode (ab_code (zx σ n0 bf).1 8000) 783 = .ok (.bipush 127, 2) := zd zm_8000 (by decide +kernel)
theorem d_8000_785 {σ : Nat → Nat} {n0 : Nat} {bf : ab_B} : decode (ab_code (zx σ n0 bf).1 8000) 785 = .ok (.bipush 119, 2) := zd zm_8000 (by decide +kernel)
theorem d_8000_787 {σ : Nat → Nat} {n0 : Nat} {bf : ab_B} : decode (ab_code (zx σ n0 bf).1 8000) 787 = .ok (.bastore, 1) := zd zm_8000 (by decide +kernel)
theorem d_8000_788 {σ : Nat → Nat} {n0 : Nat} {bf : ab_B} : decode (ab_code (zx σ n0 bf).1 8000) 788 = .ok (.dup, 1) := zd zm_8000 (by decide +kernel)
theorem d_8000_789 {σ : Nat → Nat} {n0 : Nat} {bf : ab_B} : decode (ab_code (zx σ n0 bf).1 8000) 789 = .ok (.sipush 128, 3) := zd zm_8000 (by decide +kernel)
theorem d_8000_792 {σ : Nat → Nat} {n0 : Nat} {bf : ab_B} : decode (ab_code (zx σ n0 bf).1 8000) 792 = .ok (.bipush 105, 2) := zd zm_8000 (by decide +kernel)
theorem d_8000_794 {σ : Nat → Nat} {n0 : Nat} {bf : ab_B} : decode (ab_code (zx σ n0 bf).1 8000) 794 = .ok (.bastore, 1) := zd zm_8000 (by decide +kernel)
theorem d_8000_795 {σ : Nat → Nat} {n0 : Nat} {bf : ab_B} : decode (ab_code (zx σ n0 bf).1 8000) 795 = .ok (.dup, 1) := zd zm_8000 (by decide +kernel)
theorem d_8000_796 {σ : Nat → Nat} {n0 : Nat} {bf : ab_B} : decode (ab_code (zx σ n0 bf).1 8000) 796 = .ok (.sipush 129, 3) := zd zm_8000 (by decide +kernel)
theorem d_8000_799 {σ : Nat → Nat} {n0 : Nat} {bf : ab_B} : decode (ab_code (zx σ n0 bf).1 8000) 799 = .ok (.bipush 116, 2) := zd zm_8000 (by decide +kernel)
theorem d_8000_801 {σ : Nat → Nat} {n0 : Nat} {bf : ab_B} : decode (ab_code (zx σ n0 bf).1 8000) 801 = .ok (.bastore, 1) := zd zm_8000 (by decide +kernel)
theorem d_8000_802 {σ : Nat → Nat} {n0 : Nat} {bf : ab_B} : decode (ab_code (zx σ n0 bf).1 8000) 802 = .ok (.dup, 1) := zd zm_8000 (by decide +kernel)
theorem d_8000_803 {σ : Nat → Nat} {n0 : Nat} {bf : ab_B} : decode (ab_code (zx σ n0 bf).1 8000) 803 = .ok (.sipush 130, 3) := zd zm_8000 (by decide +kernel)
theorem d_8000_806 {σ : Nat → Nat} {n0 : Nat} {bf : ab_B} : decode (ab_code (zx σ n0 bf).1 8000) 806 = .ok (.bipush 104, 2) := zd zm_8000 (by decide +kernel)
theorem d_8000_808 {σ : Nat → Nat} {n0 : Nat} {bf : ab_B} : decode (ab_code (zx σ n0 bf).1 8000) 808 = .ok (.bastore, 1) := zd zm_8000 (by decide +kernel)
theorem d_8000_809 {σ : Nat → Nat} {n0 : Nat} {bf : ab_B} : decode (ab_code (zx σ n0 bf).1 8000) 809 = .ok (.dup, 1) := zd zm_8000 (by decide +kernel)
theorem d_8000_810 {σ : Nat → Nat} {n0 : Nat} {bf : ab_B} : decode (ab_code (zx σ n0 bf).1 8000) 810 = .ok (.sipush 131, 3) := zd zm_8000 (by decide +kernel)
theorem d_8000_813 {σ : Nat → Nat} {n0 : Nat} {bf : ab_B} : decode (ab_code (zx σ n0 bf).1 8000) 813 = .ok (.bipush 32, 2) := zd zm_8000 (by decide +kernel)
theorem d_8000_815 {σ : Nat → Nat} {n0 : Nat} {bf : ab_B} : decode (ab_code (zx σ n0 bf).1 8000) 815 = .ok (.bastore, 1) := zd zm_8000 (by decide +kernel)
theorem d_8000_816 {σ : Nat → Nat} {n0 : Nat} {bf : ab_B} : decode (ab_code (zx σ n0 bf).1 8000) 816 = .ok (.dup, 1) := zd zm_8000 (by decide +kernel)
theorem d_8000_817 {σ : Nat → Nat} {n0 : Nat} {bf : ab_B} : decode (ab_code (zx σ n0 bf).1 8000) 817 = .ok (.sipush 132, 3) := zd zm_8000 (by decide +kernel)
theorem d_8000_820 {σ : Nat → Nat} {n0 : Nat} {bf : ab_B} : decode (ab_code (zx σ n0 bf).1 8000) 820 = .ok (.bipush 97, 2) := zd zm_8000 (by decide +kernel)
theorem d_8000_822 {σ : Nat → Nat} {n0 : Nat} {bf : ab_B} : decode (ab_code (zx σ n0 bf).1 8000) 822 = .ok (.bastore, 1) := zd zm_8000 (by decide +kernel)
theorem d_8000_823 {σ : Nat → Nat} {n0 : Nat} {bf : ab_B} : decode (ab_code (zx σ n0 bf).1 8000) 823 = .ok (.dup, 1) := zd zm_8000 (by decide +kernel)
theorem d_8000_824 {σ : Nat → Nat} {n0 : Nat} {bf : ab_B} : decode (ab_code (zx σ n0 bf).1 8000) 824 = .ok (.sipush 133, 3) := zd zm_8000 (by decide +kernel)
theorem d_8000_827 {σ : Nat → Nat} {n0 : Nat} {bf : ab_B} : decode (ab_code (zx σ n0 bf).1 8000) 827 = .ok (.bipush 114, 2) := zd zm_8000 (by decide +kernel)
theorem d_8000_829 {σ : Nat → Nat} {n0 : Nat} {bf : ab_B} : decode (ab_code (zx σ n0 bf).1 8000) 829 = .ok (.bastore, 1) := zd zm_8000 (by decide +kernel)
theorem d_8000_830 {σ : Nat → Nat} {n0 : Nat} {bf : ab_B} : decode (ab_code (zx σ n0 bf).1 8000) 830 = .ok (.dup, 1) := zd zm_8000 (by decide +kernel)
theorem d_8000_831 {σ : Nat → Nat} {n0 : Nat} {bf : ab_B} : decode (ab_code (zx σ n0 bf).1 8000) 831 = .ok (.sipush 134, 3) := zd zm_8000 (by decide +kernel)
theorem d_8000_834 {σ : Nat → Nat} {n0 : Nat} {bf : ab_B} : decode (ab_code (zx σ n0 bf).1 8000) 834 = .ok (.bipush 114, 2) := zd zm_8000 (by decide +kernel)
theorem d_8000_836 {σ : Nat → Nat} {n0 : Nat} {bf : ab_B} : decode (ab_code (zx σ n0 bf).1 8000) 836 = .ok (.bastore, 1) := zd zm_8000 (by decide +kernel)
theorem d_8000_837 {σ : Nat → Nat} {n0 : Nat} {bf : ab_B} : decode (ab_code (zx σ n0 bf).1 8000) 837 = .ok (.dup, 1) := zd zm_8000 (by decide +kernel)
theorem d_8000_838 {σ : Nat → Nat} {n0 : Nat} {bf : ab_B} : decode (ab_code (zx σ n0 bf).1 8000) 838 = .ok (.sipush 135, 3) := zd zm_8000 (by decide +kernel)
theorem d_8000_841 {σ : Nat → Nat} {n0 : Nat} {bf : ab_B} : decode (ab_code (zx σ n0 bf).1 8000) 841 = .ok (.bipush 97, 2) := zd zm_8000 (by decide +kernel)
theorem d_8000_843 {σ : Nat → Nat} {n0 : Nat} {bf : ab_B} : decode (ab_code (zx σ n0 bf).1 8000) 843 = .ok (.bastore, 1) := zd zm_8000 (by decide +kernel)
theorem d_8000_844 {σ : Nat → Nat} {n0 : Nat} {bf : ab_B} : decode (ab_code (zx σ n0 bf).1 8000) 844 = .ok (.dup, 1) := zd zm_8000 (by decide +kernel)
theorem d_8000_845 {σ : Nat → Nat} {n0 : Nat} {bf : ab_B} : decode (ab_code (zx σ n0 bf).1 8000) 845 = .ok (.sipush 136, 3) := zd zm_8000 (by decide +kernel)
theorem d_8000_848 {σ : Nat → Nat} {n0 : Nat} {bf : ab_B} : decode (ab_code (zx σ n0 bf).1 8000) 848 = .ok (.bipush 121, 2) := zd zm_8000 (by decide +kernel)
theorem d_8000_850 {σ : Nat → Nat} {n0 : Nat} {bf : ab_B} : decode (ab_code (zx σ n0 bf).1 8000) 850 = .ok (.bastore, 1) := zd zm_8000 (by decide +kernel)
theorem d_8000_851 {σ : Nat → Nat} {n0 : Nat} {bf : ab_B} : decode (ab_code (zx σ n0 bf).1 8000) 851 = .ok (.dup, 1) := zd zm_8000 (by decide +kernel)
theorem d_8000_852 {σ : Nat → Nat} {n0 : Nat} {bf : ab_B} : decode (ab_code (zx σ n0 bf).1 8000) 852 = .ok (.sipush 137, 3) := zd zm_8000 (by decide +kernel)
theorem d_8000_855 {σ : Nat → Nat} {n0 : Nat} {bf : ab_B} : decode (ab_code (zx σ n0 bf).1 8000) 855 = .ok (.bipush 32, 2) := zd zm_8000 (by decide +kernel)
theorem d_8000_857 {σ : Nat → Nat} {n0 : Nat} {bf : ab_B} : decode (ab_code (zx σ n0 bf).1 8000) 857 = .ok (.bastore, 1) := zd zm_8000 (by decide +kernel)
theorem d_8000_858 {σ : Nat → Nat} {n0 : Nat} {bf : ab_B} : decode (ab_code (zx σ n0 bf).1 8000) 858 = .ok (.dup, 1) := zd zm_8000 (by decide +kernel)
theorem d_8000_859 {σ : Nat → Nat} {n0 : Nat} {bf : ab_B} : decode (ab_code (zx σ n0 bf).1 8000) 859 = .ok (.sipush 138, 3) := zd zm_8000 (by decide +kernel)
theorem d_8000_862 {σ : Nat → Nat} {n0 : Nat} {bf : ab_B} : decode (ab_code (zx σ n0 bf).1 8000) 862 = .ok (.bipush 114, 2) := zd zm_8000 (by decide +kernel)
theorem d_8000_864 {σ : Nat → Nat} {n0 : Nat} {bf : ab_B} : decode (ab_code (zx σ n0 bf).1 8000) 864 = .ok (.bastore, 1) := zd zm_8000 (by decide +kernel)
theorem d_8000_865 {σ : Nat → Nat} {n0 : Nat} {bf : ab_B} : decode (ab_code (zx σ n0 bf).1 8000) 865 = .ok (.dup, 1) := zd zm_8000 (by decide +kernel)
theorem d_8000_866 {σ : Nat → Nat} {n0 : Nat} {bf : ab_B} : decode (ab_code (zx σ n0 bf).1 8000) 866 = .ok (.sipush 139, 3) := zd zm_8000 (by decide +kernel)
theorem d_8000_869 {σ : Nat → Nat} {n0 : Nat} {bf : ab_B} : decode (ab_code (zx σ n0 bf).1 8000) 869 = .ok (.bipush 101, 2) := zd zm_8000 (by decide +kernel)
theorem d_8000_871 {σ : Nat → Nat} {n0 : Nat} {bf : ab_B} : decode (ab_code (zx σ n0 bf).1 8000) 871 = .ok (.bastore, 1) := zd zm_8000 (by decide +kernel)
theorem d_8000_872 {σ : Nat → Nat} {n0 : Nat} {bf : ab_B} : decode (ab_code (zx σ n0 bf).1 8000) 872 = .ok (.dup, 1) := zd zm_8000 (by decide +kernel)
theorem d_8000_873 {σ : Nat → Nat} {n0 : Nat} {bf : ab_B} : decode (ab_code (zx σ n0 bf).1 8000) 873 = .ok (.sipush 140, 3) := zd zm_8000 (by decide +kernel)
theorem d_8000_876 {σ : Nat → Nat} {n0 : Nat} {bf : ab_B} : decode (ab_code (zx σ n0 bf).1 8000) 876 = .ok (.bipush 99, 2) := zd zm_8000 (by decide +kernel)
theorem d_8000_878 {σ : Nat → Nat} {n0 : Nat} {bf : ab_B} : decode (ab_code (zx σ n0 bf).1 8000) 878 = .ok (.bastore, 1) := zd zm_8000 (by decide +kernel)
theorem d_8000_879 {σ : Nat → Nat} {n0 : Nat} {bf : ab_B} : decode (ab_code (zx σ n0 bf).1 8000) 879 = .ok (.dup, 1) := zd zm_8000 (by decide +kernel)
theorem d_8000_880 {σ : Nat → Nat} {n0 : Nat} {bf : ab_B} : decode (ab_code (zx σ n0 bf).1 8000) 880 = .ok (.sipush 141, 3) := zd zm_8000 (by decide +kernel)
theorem d_8000_883 {σ : Nat → Nat} {n0 : Nat} {bf : ab_B} : decode (ab_code (zx σ n0 bf).1 8000) 883 = .ok (.bipush 111, 2) := zd zm_8000 (by decide +kernel)
theorem d_8000_885 {σ : Nat → Nat} {n0 : Nat} {bf : ab_B} : decode (ab_code (zx σ n0 bf).1 8000) 885 = .ok (.bastore, 1) := zd zm_8000 (by decide +kernel)
theorem d_8000_886 {σ : Nat → Nat} {n0 : Nat} {bf : ab_B} : decode (ab_code (zx σ n0 bf).1 8000) 886 = .ok (.dup, 1) := zd zm_8000 (by decide +kernel)
theorem d_8000_887 {σ : Nat → Nat} {n0 : Nat} {bf : ab_B} : decode (ab_code (zx σ n0 bf).1 8000) 887 = .ok (.sipush 142, 3) := zd zm_8000 (by decide +kernel)
theorem d_8000_890 {σ : Nat → Nat} {n0 : Nat} {bf : ab_B} : decode (ab_code (zx σ n0 bf).1 8000) 890 = .ok (.bipush 114, 2) := zd zm_8000 (by decide +kernel)
theorem d_8000_892 {σ : Nat → Nat} {n0 : Nat} {bf : ab_B} : decode (ab_code (zx σ n0 bf).1 8000) 892 = .ok (.bastore, 1) := zd zm_8000 (by decide +kernel)
theorem d_8000_893 {σ : Nat → Nat} {n0 : Nat} {bf : ab_B} : decode (ab_code (zx σ n0 bf).1 8000) 893 = .ok (.dup, 1) := zd zm_8000 (by decide +kernel)
theorem d_8000_894 {σ : Nat → Nat} {n0 : Nat} {bf : ab_B} : decode (ab_code (zx σ n0 bf).1 8000) 894 = .ok (.sipush 143, 3) := zd zm_8000 (by decide +kernel)
theorem d_8000_897 {σ : Nat → Nat} {n0 : Nat} {bf : ab_B} : decode (ab_code (zx σ n0 bf).1 8000) 897 = .ok (.bipush 100, 2) := zd zm_8000 (by decide +kernel)
theorem d_8000_899 {σ : Nat → Nat} {n0 : Nat} {bf : ab_B} : decode (ab_code (zx σ n0 bf).1 8000) 899 = .ok (.bastore, 1) := zd zm_8000 (by decide +kernel)
theorem d_8000_900 {σ : Nat → Nat} {n0 : Nat} {bf : ab_B} : decode (ab_code (zx σ n0 bf).1 8000) 900 = .ok (.dup, 1) := zd zm_8000 (by decide +kernel)
theorem d_8000_901 {σ : Nat → Nat} {n0 : Nat} {bf : ab_B} : decode (ab_code (zx σ n0 bf).1 8000) 901 = .ok (.sipush 144, 3) := zd zm_8000 (by decide +kernel)
theorem d_8000_904 {σ : Nat → Nat} {n0 : Nat} {bf : ab_B} : decode (ab_code (zx σ n0 bf).1 8000) 904 = .ok (.bipush 32, 2) := zd zm_8000 (by decide +kernel)
theorem d_8000_906 {σ : Nat → Nat} {n0 : Nat} {bf : ab_B} : decode (ab_code (zx σ n0 bf).1 8000) 906 = .ok (.bastore, 1) := zd zm_8000 (by decide +kernel)
theorem d_8000_907 {σ : Nat → Nat} {n0 : Nat} {bf : ab_B} : decode (ab_code (zx σ n0 bf).1 8000) 907 = .ok (.dup, 1) := zd zm_8000 (by decide +kernel)
theorem d_8000_908 {σ : Nat → Nat} {n0 : Nat} {bf : ab_B} : decode (ab_code (zx σ n0 bf).1 8000) 908 = .ok (.sipush 145, 3) := zd zm_8000 (by decide +kernel)
theorem d_8000_911 {σ : Nat → Nat} {n0 : Nat} {bf : ab_B} : decode (ab_code (zx σ n0 bf).1 8000) 911 = .ok (.bipush 115, 2) := zd zm_8000 (by decide +kernel)
theorem d_8000_913 {σ : Nat → Nat} {n0 : Nat} {bf : ab_B} : decode (ab_code (zx σ n0 bf).1 8000) 913 = .ok (.bastore, 1) := zd zm_8000 (by decide +kernel)
theorem d_8000_914 {σ : Nat → Nat} {n0 : Nat} {bf : ab_B} : decode (ab_code (zx σ n0 bf).1 8000) 914 = .ok (.dup, 1) := zd zm_8000 (by decide +kernel)
theorem d_8000_915 {σ : Nat → Nat} {n0 : Nat} {bf : ab_B} : decode (ab_code (zx σ n0 bf).1 8000) 915 = .ok (.sipush 146, 3) := zd zm_8000 (by decide +kernel)
theorem d_8000_918 {σ : Nat → Nat} {n0 : Nat} {bf : ab_B} : decode (ab_code (zx σ n0 bf).1 8000) 918 = .ok (.bipush 101, 2) := zd zm_8000 (by decide +kernel)
theorem d_8000_920 {σ : Nat → Nat} {n0 : Nat} {bf : ab_B} : decode (ab_code (zx σ n0 bf).1 8000) 920 = .ok (.bastore, 1) := zd zm_8000 (by decide +kernel)
theorem d_8000_921 {σ : Nat → Nat} {n0 : Nat} {bf : ab_B} : decode (ab_code (zx σ n0 bf).1 8000) 921 = .ok (.dup, 1) := zd zm_8000 (by decide +kernel)
theorem d_8000_922 {σ : Nat → Nat} {n0 : Nat} {bf : ab_B} : decode (ab_code (zx σ n0 bf).1 8000) 922 = .ok (.sipush 147, 3) := zd zm_8000 (by decide +kernel)
theorem d_8000_925 {σ : Nat → Nat} {n0 : Nat} {bf : ab_B} : decode (ab_code (zx σ n0 bf).1 8000) 925 = .ok (.bipush 116, 2) := zd zm_8000 (by decide +kernel)
theorem d_8000_927 {σ : Nat → Nat} {n0 : Nat} {bf : ab_B} : decode (ab_code (zx σ n0 bf).1 8000) 927 = .ok (.bastore, 1) := zd zm_8000 (by decide +kernel)
theorem d_8000_928 {σ : Nat → Nat} {n0 : Nat} {bf : ab_B} : decode (ab_code (zx σ n0 bf).1 8000) 928 = .ok (.dup, 1) := zd zm_8000 (by decide +kernel)
theorem d_8000_929 {σ : Nat → Nat} {n0 : Nat} {bf : ab_B} : decode (ab_code (zx σ n0 bf).1 8000) 929 = .ok (.sipush 148, 3) := zd zm_8000 (by decide +kernel)
theorem d_8000_932 {σ : Nat → Nat} {n0 : Nat} {bf : ab_B} : decode (ab_code (zx σ n0 bf).1 8000) 932 = .ok (.bipush 32, 2) := zd zm_8000 (by decide +kernel)
theorem d_8000_934 {σ : Nat → Nat} {n0 : Nat} {bf : ab_B} : decode (ab_code (zx σ n0 bf).1 8000) 934 = .ok (.bastore, 1) := zd zm_8000 (by decide +kernel)
theorem d_8000_935 {σ : Nat → Nat} {n0 : Nat} {bf : ab_B} : decode (ab_code (zx σ n0 bf).1 8000) 935 = .ok (.dup, 1) := zd zm_8000 (by decide +kernel)
theorem d_8000_936 {σ : Nat → Nat} {n0 : Nat} {bf : ab_B} : decode (ab_code (zx σ n0 bf).1 8000) 936 = .ok (.sipush 149, 3) := zd zm_8000 (by decide +kernel)
theorem d_8000_939 {σ : Nat → Nat} {n0 : Nat} {bf : ab_B} : decode (ab_code (zx σ n0 bf).1 8000) 939 = .ok (.bipush 115, 2) := zd zm_8000 (by decide +kernel)
theorem d_8000_941 {σ : Nat → Nat} {n0 : Nat} {bf : ab_B} : decode (ab_code (zx σ n0 bf).1 8000) 941 = .ok (.bastore, 1) := zd zm_8000 (by decide +kernel)
theorem d_8000_942 {σ : Nat → Nat} {n0 : Nat} {bf : ab_B} : decode (ab_code (zx σ n0 bf).1 8000) 942 = .ok (.dup, 1) := zd zm_8000 (by decide +kernel)
theorem d_8000_943 {σ : Nat → Nat} {n0 : Nat} {bf : ab_B} : decode (ab_code (zx σ n0 bf).1 8000) 943 = .ok (.sipush 150, 3) := zd zm_8000 (by decide +kernel)
theorem d_8000_946 {σ : Nat → Nat} {n0 : Nat} {bf : ab_B} : decode (ab_code (zx σ n0 bf).1 8000) 946 = .ok (.bipush 116, 2) := zd zm_8000 (by decide +kernel)
theorem d_8000_948 {σ : Nat → Nat} {n0 : Nat} {bf : ab_B} : decode (ab_code (zx σ n0 bf).1 8000) 948 = .ok (.bastore, 1) := zd zm_8000 (by decide +kernel)
theorem d_8000_949 {σ : Nat → Nat} {n0 : Nat} {bf : ab_B} : decode (ab_code (zx σ n0 bf).1 8000) 949 = .ok (.dup, 1) := zd zm_8000 (by decide +kernel)
theorem d_8000_950 {σ : Nat → Nat} {n0 : Nat} {bf : ab_B} : decode (ab_code (zx σ n0 bf).1 8000) 950 = .ok (.sipush 151, 3) := zd zm_8000 (by decide +kernel)
theorem d_8000_953 {σ : Nat → Nat} {n0 : Nat} {bf : ab_B} : decode (ab_code (zx σ n0 bf).1 8000) 953 = .ok (.bipush 114, 2) := zd zm_8000 (by decide +kernel)
theorem d_8000_955 {σ : Nat → Nat} {n0 : Nat} {bf : ab_B} : decode (ab_code (zx σ n0 bf).1 8000) 955 = .ok (.bastore, 1) := zd zm_8000 (by decide +kernel)
theorem d_8000_956 {σ : Nat → Nat} {n0 : Nat} {bf : ab_B} : decode (ab_code (zx σ n0 bf).1 8000) 956 = .ok (.dup, 1) := zd zm_8000 (by decide +kernel)
theorem d_8000_957 {σ : Nat → Nat} {n0 : Nat} {bf : ab_B} : decode (ab_code (zx σ n0 bf).1 8000) 957 = .ok (.sipush 152, 3) := zd zm_8000 (by decide +kernel)
theorem d_8000_960 {σ : Nat → Nat} {n0 : Nat} {bf : ab_B} : decode (ab_code (zx σ n0 bf).1 8000) 960 = .ok (.bipush 105, 2) := zd zm_8000 (by decide +kernel)
theorem d_8000_962 {σ : Nat → Nat} {n0 : Nat} {bf : ab_B} : decode (ab_code (zx σ n0 bf).1 8000) 962 = .ok (.bastore, 1) := zd zm_8000 (by decide +kernel)
theorem d_8000_963 {σ : Nat → Nat} {n0 : Nat} {bf : ab_B} : decode (ab_code (zx σ n0 bf).1 8000) 963 = .ok (.dup, 1) := zd zm_8000 (by decide +kernel)
theorem d_8000_964 {σ : Nat → Nat} {n0 : Nat} {bf : ab_B} : decode (ab_code (zx σ n0 bf).1 8000) 964 = .ok (.sipush 153, 3) := zd zm_8000 (by decide +kernel)
theorem d_8000_967 {σ : Nat → Nat} {n0 : Nat} {bf : ab_B} : decode (ab_code (zx σ n0 bf).1 8000) 967 = .ok (.bipush 110, 2) := zd zm_8000 (by decide +kernel)
theorem d_8000_969 {σ : Nat → Nat} {n0 : Nat} {bf : ab_B} : decode (ab_code (zx σ n0 bf).1 8000) 969 = .ok (.bastore, 1) := zd zm_8000 (by decide +kernel)
theorem d_8000_970 {σ : Nat → Nat} {n0 : Nat} {bf : ab_B} : decode (ab_code (zx σ n0 bf).1 8000) 970 = .ok (.dup, 1) := zd zm_8000 (by decide +kernel)
theorem d_8000_971 {σ : Nat → Nat} {n0 : Nat} {bf : ab_B} : decode (ab_code (zx σ n0 bf).1 8000) 971 = .ok (.sipush 154, 3) := zd zm_8000 (by decide +kernel)
theorem d_8000_974 {σ : Nat → Nat} {n0 : Nat} {bf : ab_B} : decode (ab_code (zx σ n0 bf).1 8000) 974 = .ok (.bipush 103, 2) := zd zm_8000 (by decide +kernel)
theorem d_8000_976 {σ : Nat → Nat} {n0 : Nat} {bf : ab_B} : decode (ab_code (zx σ n0 bf).1 8000) 976 = .ok (.bastore, 1) := zd zm_8000 (by decide +kernel)
theorem d_8000_977 {σ : Nat → Nat} {n0 : Nat} {bf : ab_B} : decode (ab_code (zx σ n0 bf).1 8000) 977 = .ok (.dup, 1) := zd zm_8000 (by decide +kernel)
theorem d_8000_978 {σ : Nat → Nat} {n0 : Nat} {bf : ab_B} : decode (ab_code (zx σ n0 bf).1 8000) 978 = .ok (.sipush 155, 3) := zd zm_8000 (by decide +kernel)
theorem d_8000_981 {σ : Nat → Nat} {n0 : Nat} {bf : ab_B} : decode (ab_code (zx σ n0 bf).1 8000) 981 = .ok (.bipush 32, 2) := zd zm_8000 (by decide +kernel)
theorem d_8000_983 {σ : Nat → Nat} {n0 : Nat} {bf : ab_B} : decode (ab_code (zx σ n0 bf).1 8000) 983 = .ok (.bastore, 1) := zd zm_8000 (by decide +kernel)
theorem d_8000_984 {σ : Nat → Nat} {n0 : Nat} {bf : ab_B} : decode (ab_code (zx σ n0 bf).1 8000) 984 = .ok (.dup, 1) := zd zm_8000 (by decide +kernel)
theorem d_8000_985 {σ : Nat → Nat} {n0 : Nat} {bf : ab_B} : decode (ab_code (zx σ n0 bf).1 8000) 985 = .ok (.sipush 156, 3) := zd zm_8000 (by decide +kernel)
theorem d_8000_988 {σ : Nat → Nat} {n0 : Nat} {bf : ab_B} : decode (ab_code (zx σ n0 bf).1 8000) 988 = .ok (.bipush 110, 2) := zd zm_8000 (by decide +kernel)
theorem d_8000_990 {σ : Nat → Nat} {n0 : Nat} {bf : ab_B} : decode (ab_code (zx σ n0 bf).1 8000) 990 = .ok (.bastore, 1) := zd zm_8000 (by decide +kernel)
theorem d_8000_991 {σ : Nat → Nat} {n0 : Nat} {bf : ab_B} : decode (ab_code (zx σ n0 bf).1 8000) 991 = .ok (.dup, 1) := zd zm_8000 (by decide +kernel)
theorem d_8000_992 {σ : Nat → Nat} {n0 : Nat} {bf : ab_B} : decode (ab_code (zx σ n0 bf).1 8000) 992 = .ok (.sipush 157, 3) := zd zm_8000 (by decide +kernel)
theorem d_8000_995 {σ : Nat → Nat} {n0 : Nat} {bf : ab_B} : decode (ab_code (zx σ n0 bf).1 8000) 995 = .ok (.bipush 105, 2) := zd zm_8000 (by decide +kernel)
theorem d_8000_997 {σ : Nat → Nat} {n0 : Nat} {bf : ab_B} : decode (ab_code (zx σ n0 bf).1 8000) 997 = .ok (.bastore, 1) := zd zm_8000 (by decide +kernel)
theorem d_8000_998 {σ : Nat → Nat} {n0 : Nat} {bf : ab_B} : decode (ab_code (zx σ n0 bf).1 8000) 998 = .ok (.dup, 1) := zd zm_8000 (by decide +kernel)
theorem d_8000_999 {σ : Nat → Nat} {n0 : Nat} {bf : ab_B} : decode (ab_code (zx σ n0 bf).1 8000) 999 = .ok (.sipush 158, 3) := zd zm_8000 (by decide +kernel)
theorem d_8000_1002 {σ : Nat → Nat} {n0 : Nat} {bf : ab_B} : decode (ab_code (zx σ n0 bf).1 8000) 1002 = .ok (.bipush 108, 2) := zd zm_8000 (by decide +kernel)
theorem d_8000_1004 {σ : Nat → Nat} {n0 : Nat} {bf : ab_B} : decode (ab_code (zx σ n0 bf).1 8000) 1004 = .ok (.bastore, 1) := zd zm_8000 (by decide +kernel)
theorem d_8000_1005 {σ : Nat → Nat} {n0 : Nat} {bf : ab_B} : decode (ab_code (zx σ n0 bf).1 8000) 1005 = .ok (.dup, 1) := zd zm_8000 (by decide +kernel)
theorem d_8000_1006 {σ : Nat → Nat} {n0 : Nat} {bf : ab_B} : decode (ab_code (zx σ n0 bf).1 8000) 1006 = .ok (.sipush 159, 3) := zd zm_8000 (by decide +kernel)
theorem d_8000_1009 {σ : Nat → Nat} {n0 : Nat} {bf : ab_B} : decode (ab_code (zx σ n0 bf).1 8000) 1009 = .ok (.bipush 32, 2) := zd zm_8000 (by decide +kernel)
theorem d_8000_1011 {σ : Nat → Nat} {n0 : Nat} {bf : ab_B} : decode (ab_code (zx σ n0 bf).1 8000) 1011 = .ok (.bastore, 1) := zd zm_8000 (by decide +kernel)
theorem d_8000_1012 {σ : Nat → Nat} {n0 : Nat} {bf : ab_B} : decode (ab_code (zx σ n0 bf).1 8000) 1012 = .ok (.dup, 1) := zd zm_8000 (by decide +kernel)
theorem d_8000_1013 {σ : Nat → Nat} {n0 : Nat} {bf : ab_B} : decode (ab_code (zx σ n0 bf).1 8000) 1013 = .ok (.sipush 160, 3) := zd zm_8000 (by decide +kernel)
theorem d_8000_1016 {σ : Nat → Nat} {n0 : Nat} {bf : ab_B} : decode (ab_code (zx σ n0 bf).1 8000) 1016 = .ok (.bipush 100, 2) := zd zm_8000 (by decide +kernel)
theorem d_8000_1018 {σ : Nat → Nat} {n0 : Nat} {bf : ab_B} : decode (ab_code (zx σ n0 bf).1 8000) 1018 = .ok (.bastore, 1) := zd zm_8000 (by decide +kernel)
theorem d_8000_1019 {σ : Nat → Nat} {n0 : Nat} {bf : ab_B} : decode (ab_code (zx σ n0 bf).1 8000) 1019 = .ok (.dup, 1) := zd zm_8000 (by decide +kernel)
theorem d_8000_1020 {σ : Nat → Nat} {n0 : Nat} {bf : ab_B} : decode (ab_code (zx σ n0 bf).1 8000) 1020 = .ok (.sipush 161, 3) := zd zm_8000 (by decide +kernel)
theorem d_8000_1023 {σ : Nat → Nat} {n0 : Nat} {bf : ab_B} : decode (ab_code (zx σ n0 bf).1 8000) 1023 = .ok (.bipush 105, 2) := zd zm_8000 (by decide +kernel)
theorem d_8000_1025 {σ : Nat → Nat} {n0 : Nat} {bf : ab_B} : decode (ab_code (zx σ n0 bf).1 8000) 1025 = .ok (.bastore, 1) := zd zm_8000 (by decide +kernel)
theorem d_8000_1026 {σ : Nat → Nat} {n0 : Nat} {bf : ab_B} : decode (ab_code (zx σ n0 bf).1 8000) 1026 = .ok (.dup, 1) := zd zm_8000 (by decide +kernel)
theorem d_8000_1027 {σ : Nat → Nat} {n0 : Nat} {bf : ab_B} : decode (ab_code (zx σ n0 bf).1 8000) 1027 = .ok (.sipush 162, 3) := zd zm_8000 (by decide +kernel)
theorem d_8000_1030 {σ : Nat → Nat} {n0 : Nat} {bf : ab_B} : decode (ab_code (zx σ n0 bf).1 8000) 1030 = .ok (.bipush 118, 2) := zd zm_8000 (by decide +kernel)
theorem d_8000_1032 {σ : Nat → Nat} {n0 : Nat} {bf : ab_B} : decode (ab_code (zx σ n0 bf).1 8000) 1032 = .ok (.bastore, 1) := zd zm_8000 (by decide +kernel)
theorem d_8000_1033 {σ : Nat → Nat} {n0 : Nat} {bf : ab_B} : decode (ab_code (zx σ n0 bf).1 8000) 1033 = .ok (.dup, 1) := zd zm_8000 (by decide +kernel)
theorem d_8000_1034 {σ : Nat → Nat} {n0 : Nat} {bf : ab_B} : decode (ab_code (zx σ n0 bf).1 8000) 1034 = .ok (.sipush 163, 3) := zd zm_8000 (by decide +kernel)
theorem d_8000_1037 {σ : Nat → Nat} {n0 : Nat} {bf : ab_B} : decode (ab_code (zx σ n0 bf).1 8000) 1037 = .ok (.bipush 32, 2) := zd zm_8000 (by decide +kernel)
theorem d_8000_1039 {σ : Nat → Nat} {n0 : Nat} {bf : ab_B} : decode (ab_code (zx σ n0 bf).1 8000) 1039 = .ok (.bastore, 1) := zd zm_8000 (by decide +kernel)
theorem d_8000_1040 {σ : Nat → Nat} {n0 : Nat} {bf : ab_B} : decode (ab_code (zx σ n0 bf).1 8000) 1040 = .ok (.dup, 1) := zd zm_8000 (by decide +kernel)
theorem d_8000_1041 {σ : Nat → Nat} {n0 : Nat} {bf : ab_B} : decode (ab_code (zx σ n0 bf).1 8000) 1041 = .ok (.sipush 164, 3) := zd zm_8000 (by decide +kernel)
theorem d_8000_1044 {σ : Nat → Nat} {n0 : Nat} {bf : ab_B} : decode (ab_code (zx σ n0 bf).1 8000) 1044 = .ok (.bipush 109, 2) := zd zm_8000 (by decide +kernel)
theorem d_8000_1046 {σ : Nat → Nat} {n0 : Nat} {bf : ab_B} : decode (ab_code (zx σ n0 bf).1 8000) 1046 = .ok (.bastore, 1) := zd zm_8000 (by decide +kernel)
theorem d_8000_1047 {σ : Nat → Nat} {n0 : Nat} {bf : ab_B} : decode (ab_code (zx σ n0 bf).1 8000) 1047 = .ok (.dup, 1) := zd zm_8000 (by decide +kernel)
theorem d_8000_1048 {σ : Nat → Nat} {n0 : Nat} {bf : ab_B} : decode (ab_code (zx σ n0 bf).1 8000) 1048 = .ok (.sipush 165, 3) := zd zm_8000 (by decide +kernel)
theorem d_8000_1051 {σ : Nat → Nat} {n0 : Nat} {bf : ab_B} : decode (ab_code (zx σ n0 bf).1 8000) 1051 = .ok (.bipush 111, 2) := zd zm_8000 (by decide +kernel)
theorem d_8000_1053 {σ : Nat → Nat} {n0 : Nat} {bf : ab_B} : decode (ab_code (zx σ n0 bf).1 8000) 1053 = .ok (.bastore, 1) := zd zm_8000 (by decide +kernel)
theorem d_8000_1054 {σ : Nat → Nat} {n0 : Nat} {bf : ab_B} : decode (ab_code (zx σ n0 bf).1 8000) 1054 = .ok (.dup, 1) := zd zm_8000 (by decide +kernel)
theorem d_8000_1055 {σ : Nat → Nat} {n0 : Nat} {bf : ab_B} : decode (ab_code (zx σ n0 bf).1 8000) 1055 = .ok (.sipush 166, 3) := zd zm_8000 (by decide +kernel)
theorem d_8000_1058 {σ : Nat → Nat} {n0 : Nat} {bf : ab_B} : decode (ab_code (zx σ n0 bf).1 8000) 1058 = .ok (.bipush 100, 2) := zd zm_8000 (by decide +kernel)
theorem d_8000_1060 {σ : Nat → Nat} {n0 : Nat} {bf : ab_B} : decode (ab_code (zx σ n0 bf).1 8000) 1060 = .ok (.bastore, 1) := zd zm_8000 (by decide +kernel)
theorem d_8000_1061 {σ : Nat → Nat} {n0 : Nat} {bf : ab_B} : decode (ab_code (zx σ n0 bf).1 8000) 1061 = .ok (.dup, 1) := zd zm_8000 (by decide +kernel)
theorem d_8000_1062 {σ : Nat → Nat} {n0 : Nat} {bf : ab_B} : decode (ab_code (zx σ n0 bf).1 8000) 1062 = .ok (.sipush 167, 3) := zd zm_8000 (by decide +kernel)
theorem d_8000_1065 {σ : Nat → Nat} {n0 : Nat} {bf : ab_B} : decode (ab_code (zx σ n0 bf).1 8000) 1065 = .ok (.bipush 32, 2) := zd zm_8000 (by decide +kernel)
theorem d_8000_1067 {σ : Nat → Nat} {n0 : Nat} {bf : ab_B} : decode (ab_code (zx σ n0 bf).1 8000) 1067 = .ok (.bastore, 1) := zd zm_8000 (by decide +kernel)
theorem d_8000_1068 {σ : Nat → Nat} {n0 : Nat} {bf : ab_B} : decode (ab_code (zx σ n0 bf).1 8000) 1068 = .ok (.dup, 1) := zd zm_8000 (by decide +kernel)
theorem d_8000_1069 {σ : Nat → Nat} {n0 : Nat} {bf : ab_B} : decode (ab_code (zx σ n0 bf).1 8000) 1069 = .ok (.sipush 168, 3) := zd zm_8000 (by decide +kernel)
theorem d_8000_1072 {σ : Nat → Nat} {n0 : Nat} {bf : ab_B} : decode (ab_code (zx σ n0 bf).1 8000) 1072 = .ok (.bipush 97, 2) := zd zm_8000 (by decide +kernel)
theorem d_8000_1074 {σ : Nat → Nat} {n0 : Nat} {bf : ab_B} : decode (ab_code (zx σ n0 bf).1 8000) 1074 = .ok (.bastore, 1) := zd zm_8000 (by decide +kernel)
theorem d_8000_1075 {σ : Nat → Nat} {n0 : Nat} {bf : ab_B} : decode (ab_code (zx σ n0 bf).1 8000) 1075 = .ok (.dup, 1) := zd zm_8000 (by decide +kernel)
theorem d_8000_1076 {σ : Nat → Nat} {n0 : Nat} {bf : ab_B} : decode (ab_code (zx σ n0 bf).1 8000) 1076 = .ok (.sipush 169, 3) := zd zm_8000 (by decide +kernel)
theorem d_8000_1079 {σ : Nat → Nat} {n0 : Nat} {bf : ab_B} : decode (ab_code (zx σ n0 bf).1 8000) 1079 = .ok (.bipush 110, 2) := zd zm_8000 (by decide +kernel)
theorem d_8000_1081 {σ : Nat → Nat} {n0 : Nat} {bf : ab_B} : decode (ab_code (zx σ n0 bf).1 8000) 1081 = .ok (.bastore, 1) := zd zm_8000 (by decide +kernel)
theorem d_8000_1082 {σ : Nat → Nat} {n0 : Nat} {bf : ab_B} : decode (ab_code (zx σ n0 bf).1 8000) 1082 = .ok (.dup, 1) := zd zm_8000 (by decide +kernel)
theorem d_8000_1083 {σ : Nat → Nat} {n0 : Nat} {bf : ab_B} : decode (ab_code (zx σ n0 bf).1 8000) 1083 = .ok (.sipush 170, 3) := zd zm_8000 (by decide +kernel)
theorem d_8000_1086 {σ : Nat → Nat} {n0 : Nat} {bf : ab_B} : decode (ab_code (zx σ n0 bf).1 8000) 1086 = .ok (.bipush 100, 2) := zd zm_8000 (by decide +kernel)
theorem d_8000_1088 {σ : Nat → Nat} {n0 : Nat} {bf : ab_B} : decode (ab_code (zx σ n0 bf).1 8000) 1088 = .ok (.bastore, 1) := zd zm_8000 (by decide +kernel)
theorem d_8000_1089 {σ : Nat → Nat} {n0 : Nat} {bf : ab_B} : decode (ab_code (zx σ n0 bf).1 8000) 1089 = .ok (.dup, 1) := zd zm_8000 (by decide +kernel)
theorem d_8000_1090 {σ : Nat → Nat} {n0 : Nat} {bf : ab_B} : decode (ab_code (zx σ n0 bf).1 8000) 1090 = .ok (.sipush 171, 3) := zd zm_8000 (by decide +kernel)
theorem d_8000_1093 {σ : Nat → Nat} {n0 : Nat} {bf : ab_B} : decode (ab_code (zx σ n0 bf).1 8000) 1093 = .ok (.bipush 32, 2) := zd zm_8000 (by decide +kernel)
theorem d_8000_1095 {σ : Nat → Nat} {n0 : Nat} {bf : ab_B} : decode (ab_code (zx σ n0 bf).1 8000) 1095 = .ok (.bastore, 1) := zd zm_8000 (by decide +kernel)
theorem d_8000_1096 {σ : Nat → Nat} {n0 : Nat} {bf : ab_B} : decode (ab_code (zx σ n0 bf).1 8000) 1096 = .ok (.dup, 1) := zd zm_8000 (by decide +kernel)
theorem d_8000_1097 {σ : Nat → Nat} {n0 : Nat} {bf : ab_B} : decode (ab_code (zx σ n0 bf).1 8000) 1097 = .ok (.sipush 172, 3) := zd zm_8000 (by decide +kernel)
theorem d_8000_1100 {σ : Nat → Nat} {n0 : Nat} {bf : ab_B} : decode (ab_code (zx σ n0 bf).1 8000) 1100 = .ok (.bipush 111, 2) := zd zm_8000 (by decide +kernel)
theorem d_8000_1102 {σ : Nat → Nat} {n0 : Nat} {bf : ab_B} : decode (ab_code (zx σ n0 bf).1 8000) 1102 = .ok (.bastore, 1) := zd zm_8000 (by decide +kernel)
theorem d_8000_1103 {σ : Nat → Nat} {n0 : Nat} {bf : ab_B} : decode (ab_code (zx σ n0 bf).1 8000) 1103 = .ok (.dup, 1) := zd zm_8000 (by decide +kernel)
theorem d_8000_1104 {σ : Nat → Nat} {n0 : Nat} {bf : ab_B} : decode (ab_code (zx σ n0 bf).1 8000) 1104 = .ok (.sipush 173, 3) := zd zm_8000 (by decide +kernel)
theorem d_8000_1107 {σ : Nat → Nat} {n0 : Nat} {bf : ab_B} : decode (ab_code (zx σ n0 bf).1 8000) 1107 = .ok (.bipush 114, 2) := zd zm_8000 (by decide +kernel)
theorem d_8000_1109 {σ : Nat → Nat} {n0 : Nat} {bf : ab_B} : decode (ab_code (zx σ n0 bf).1 8000) 1109 = .ok (.bastore, 1) := zd zm_8000 (by decide +kernel)
theorem d_8000_1110 {σ : Nat → Nat} {n0 : Nat} {bf : ab_B} : decode (ab_code (zx σ n0 bf).1 8000) 1110 = .ok (.dup, 1) := zd zm_8000 (by decide +kernel)
theorem d_8000_1111 {σ : Nat → Nat} {n0 : Nat} {bf : ab_B} : decode (ab_code (zx σ n0 bf).1 8000) 1111 = .ok (.sipush 174, 3) := zd zm_8000 (by decide +kernel)
theorem d_8000_1114 {σ : Nat → Nat} {n0 : Nat} {bf : ab_B} : decode (ab_code (zx σ n0 bf).1 8000) 1114 = .ok (.bipush 32, 2) := zd zm_8000 (by decide +kernel)
theorem d_8000_1116 {σ : Nat → Nat} {n0 : Nat} {bf : ab_B} : decode (ab_code (zx σ n0 bf).1 8000) 1116 = .ok (.bastore, 1) := zd zm_8000 (by decide +kernel)
theorem d_8000_1117 {σ : Nat → Nat} {n0 : Nat} {bf : ab_B} : decode (ab_code (zx σ n0 bf).1 8000) 1117 = .ok (.dup, 1) := zd zm_8000 (by decide +kernel)
theorem d_8000_1118 {σ : Nat → Nat} {n0 : Nat} {bf : ab_B} : decode (ab_code (zx σ n0 bf).1 8000) 1118 = .ok (.sipush 175, 3) := zd zm_8000 (by decide +kernel)
theorem d_8000_1121 {σ : Nat → Nat} {n0 : Nat} {bf : ab_B} : decode (ab_code (zx σ n0 bf).1 8000) 1121 = .ok (.bipush 110, 2) := zd zm_8000 (by decide +kernel)
theorem d_8000_1123 {σ : Nat → Nat} {n0 : Nat} {bf : ab_B} : decode (ab_code (zx σ n0 bf).1 8000) 1123 = .ok (.bastore, 1) := zd zm_8000 (by decide +kernel)
theorem d_8000_1124 {σ : Nat → Nat} {n0 : Nat} {bf : ab_B} : decode (ab_code (zx σ n0 bf).1 8000) 1124 = .ok (.dup, 1) := zd zm_8000 (by decide +kernel)
theorem d_8000_1125 {σ : Nat → Nat} {n0 : Nat} {bf : ab_B} : decode (ab_code (zx σ n0 bf).1 8000) 1125 = .ok (.sipush 176, 3) := zd zm_8000 (by decide +kernel)
theorem d_8000_1128 {σ : Nat → Nat} {n0 : Nat} {bf : ab_B} : decode (ab_code (zx σ n0 bf).1 8000) 1128 = .ok (.bipush 111, 2) := zd zm_8000 (by decide +kernel)
theorem d_8000_1130 {σ : Nat → Nat} {n0 : Nat} {bf : ab_B} : decode (ab_code (zx σ n0 bf).1 8000) 1130 = .ok (.bastore, 1) := zd zm_8000 (by decide +kernel)
theorem d_8000_1131 {σ : Nat → Nat} {n0 : Nat} {bf : ab_B} : decode (ab_code (zx σ n0 bf).1 8000) 1131 = .ok (.dup, 1) := zd zm_8000 (by decide +kernel)
theorem d_8000_1132 {σ : Nat → Nat} {n0 : Nat} {bf : ab_B} : decode (ab_code (zx σ n0 bf).1 8000) 1132 = .ok (.sipush 177, 3) := zd zm_8000 (by decide +kernel)
theorem d_8000_1135 {σ : Nat → Nat} {n0 : Nat} {bf : ab_B} : decode (ab_code (zx σ n0 bf).1 8000) 1135 = .ok (.bipush 116, 2) := zd zm_8000 (by decide +kernel)
theorem d_8000_1137 {σ : Nat → Nat} {n0 : Nat} {bf : ab_B} : decode (ab_code (zx σ n0 bf).1 8000) 1137 = .ok (.bastore, 1) := zd zm_8000 (by decide +kernel)
theorem d_8000_1138 {σ : Nat → Nat} {n0 : Nat} {bf : ab_B} : decode (ab_code (zx σ n0 bf).1 8000) 1138 = .ok (.dup, 1) := zd zm_8000 (by decide +kernel)
theorem d_8000_1139 {σ : Nat → Nat} {n0 : Nat} {bf : ab_B} : decode (ab_code (zx σ n0 bf).1 8000) 1139 = .ok (.sipush 178, 3) := zd zm_8000 (by decide +kernel)
theorem d_8000_1142 {σ : Nat → Nat} {n0 : Nat} {bf : ab_B} : decode (ab_code (zx σ n0 bf).1 8000) 1142 = .ok (.bipush 32, 2) := zd zm_8000 (by decide +kernel)
theorem d_8000_1144 {σ : Nat → Nat} {n0 : Nat} {bf : ab_B} : decode (ab_code (zx σ n0 bf).1 8000) 1144 = .ok (.bastore, 1) := zd zm_8000 (by decide +kernel)
theorem d_8000_1145 {σ : Nat → Nat} {n0 : Nat} {bf : ab_B} : decode (ab_code (zx σ n0 bf).1 8000) 1145 = .ok (.dup, 1) := zd zm_8000 (by decide +kernel)
theorem d_8000_1146 {σ : Nat → Nat} {n0 : Nat} {bf : ab_B} : decode (ab_code (zx σ n0 bf).1 8000) 1146 = .ok (.sipush 179, 3) := zd zm_8000 (by decide +kernel)
theorem d_8000_1149 {σ : Nat → Nat} {n0 : Nat} {bf : ab_B} : decode (ab_code (zx σ n0 bf).1 8000) 1149 = .ok (.bipush 105, 2) := zd zm_8000 (by decide +kernel)
theorem d_8000_1151 {σ : Nat → Nat} {n0 : Nat} {bf : ab_B} : decode (ab_code (zx σ n0 bf).1 8000) 1151 = .ok (.bastore, 1) := zd zm_8000 (by decide +kernel)
theorem d_8000_1152 {σ : Nat → Nat} {n0 : Nat} {bf : ab_B} : decode (ab_code (zx σ n0 bf).1 8000) 1152 = .ok (.dup, 1) := zd zm_8000 (by decide +kernel)
theorem d_8000_1153 {σ : Nat → Nat} {n0 : Nat} {bf : ab_B} : decode (ab_code (zx σ n0 bf).1 8000) 1153 = .ok (.sipush 180, 3) := zd zm_8000 (by decide +kernel)
theorem d_8000_1156 {σ : Nat → Nat} {n0 : Nat} {bf : ab_B} : decode (ab_code (zx σ n0 bf).1 8000) 1156 = .ok (.bipush 110, 2) := zd zm_8000 (by decide +kernel)
theorem d_8000_1158 {σ : Nat → Nat} {n0 : Nat} {bf : ab_B} : decode (ab_code (zx σ n0 bf).1 8000) 1158 = .ok (.bastore, 1) := zd zm_8000 (by decide +kernel)
theorem d_8000_1159 {σ : Nat → Nat} {n0 : Nat} {bf : ab_B} : decode (ab_code (zx σ n0 bf).1 8000) 1159 = .ok (.dup, 1) := zd zm_8000 (by decide +kernel)
theorem d_8000_1160 {σ : Nat → Nat} {n0 : Nat} {bf : ab_B} : decode (ab_code (zx σ n0 bf).1 8000) 1160 = .ok (.sipush 181, 3) := zd zm_8000 (by decide +kernel)
theorem d_8000_1163 {σ : Nat → Nat} {n0 : Nat} {bf : ab_B} : decode (ab_code (zx σ n0 bf).1 8000) 1163 = .ok (.bipush 32, 2) := zd zm_8000 (by decide +kernel)
theorem d_8000_1165 {σ : Nat → Nat} {n0 : Nat} {bf : ab_B} : decode (ab_code (zx σ n0 bf).1 8000) 1165 = .ok (.bastore, 1) := zd zm_8000 (by decide +kernel)
theorem d_8000_1166 {σ : Nat → Nat} {n0 : Nat} {bf : ab_B} : decode (ab_code (zx σ n0 bf).1 8000) 1166 = .ok (.dup, 1) := zd zm_8000 (by decide +kernel)
theorem d_8000_1167 {σ : Nat → Nat} {n0 : Nat} {bf : ab_B} : decode (ab_code (zx σ n0 bf).1 8000) 1167 = .ok (.sipush 182, 3) := zd zm_8000 (by decide +kernel)
theorem d_8000_1170 {σ : Nat → Nat} {n0 : Nat} {bf : ab_B} : decode (ab_code (zx σ n0 bf).1 8000) 1170 = .ok (.bipush 112, 2) := zd zm_8000 (by decide +kernel)
theorem d_8000_1172 {σ : Nat → Nat} {n0 : Nat} {bf : ab_B} : decode (ab_code (zx σ n0 bf).1 8000) 1172 = .ok (.bastore, 1) := zd zm_8000 (by decide +kernel)
theorem d_8000_1173 {σ : Nat → Nat} {n0 : Nat} {bf : ab_B} : decode (ab_code (zx σ n0 bf).1 8000) 1173 = .ok (.dup, 1) := zd zm_8000 (by decide +kernel)
theorem d_8000_1174 {σ : Nat → Nat} {n0 : Nat} {bf : ab_B} : decode (ab_code (zx σ n0 bf).1 8000) 1174 = .ok (.sipush 183, 3) := zd zm_8000 (by decide +kernel)
theorem d_8000_1177 {σ : Nat → Nat} {n0 : Nat} {bf : ab_B} : decode (ab_code (zx σ n0 bf).1 8000) 1177 = .ok (.bipush 114, 2) := zd zm_8000 (by decide +kernel)
theorem d_8000_1179 {σ : Nat → Nat} {n0 : Nat} {bf : ab_B} : decode (ab_code (zx σ n0 bf).1 8000) 1179 = .ok (.bastore, 1) := zd zm_8000 (by decide +kernel)
theorem d_8000_1180 {σ : Nat → Nat} {n0 : Nat} {bf : ab_B} : decode (ab_code (zx σ n0 bf).1 8000) 1180 = .ok (.dup, 1) := zd zm_8000 (by decide +kernel)
theorem d_8000_1181 {σ : Nat → Nat} {n0 : Nat} {bf : ab_B} : decode (ab_code (zx σ n0 bf).1 8000) 1181 = .ok (.sipush 184, 3) := zd zm_8000 (by decide +kernel)
theorem d_8000_1184 {σ : Nat → Nat} {n0 : Nat} {bf : ab_B} : decode (ab_code (zx σ n0 bf).1 8000) 1184 = .ok (.bipush 111, 2) := zd zm_8000 (by decide +kernel)
theorem d_8000_1186 {σ : Nat → Nat} {n0 : Nat} {bf : ab_B} : decode (ab_code (zx σ n0 bf).1 8000) 1186 = .ok (.bastore, 1) := zd zm_8000 (by decide +kernel)
theorem d_8000_1187 {σ : Nat → Nat} {n0 : Nat} {bf : ab_B} : decode (ab_code (zx σ n0 bf).1 8000) 1187 = .ok (.dup, 1) := zd zm_8000 (by decide +kernel)
theorem d_8000_1188 {σ : Nat → Nat} {n0 : Nat} {bf : ab_B} : decode (ab_code (zx σ n0 bf).1 8000) 1188 = .ok (.sipush 185, 3) := zd zm_8000 (by decide +kernel)
theorem d_8000_1191 {σ : Nat → Nat} {n0 : Nat} {bf : ab_B} : decode (ab_code (zx σ n0 bf).1 8000) 1191 = .ok (.bipush 116, 2) := zd zm_8000 (by decide +kernel)
theorem d_8000_1193 {σ : Nat → Nat} {n0 : Nat} {bf : ab_B} : decode (ab_code (zx σ n0 bf).1 8000) 1193 = .ok (.bastore, 1) := zd zm_8000 (by decide +kernel)
theorem d_8000_1194 {σ : Nat → Nat} {n0 : Nat} {bf : ab_B} : decode (ab_code (zx σ n0 bf).1 8000) 1194 = .ok (.dup, 1) := zd zm_8000 (by decide +kernel)
theorem d_8000_1195 {σ : Nat → Nat} {n0 : Nat} {bf : ab_B} : decode (ab_code (zx σ n0 bf).1 8000) 1195 = .ok (.sipush 186, 3) := zd zm_8000 (by decide +kernel)
theorem d_8000_1198 {σ : Nat → Nat} {n0 : Nat} {bf : ab_B} : decode (ab_code (zx σ n0 bf).1 8000) 1198 = .ok (.bipush 101, 2) := zd zm_8000 (by decide +kernel)
theorem d_8000_1200 {σ : Nat → Nat} {n0 : Nat} {bf : ab_B} : decode (ab_code (zx σ n0 bf).1 8000) 1200 = .ok (.bastore, 1) := zd zm_8000 (by decide +kernel)
theorem d_8000_1201 {σ : Nat → Nat} {n0 : Nat} {bf : ab_B} : decode (ab_code (zx σ n0 bf).1 8000) 1201 = .ok (.dup, 1) := zd zm_8000 (by decide +kernel)
theorem d_8000_1202 {σ : Nat → Nat} {n0 : Nat} {bf : ab_B} : decode (ab_code (zx σ n0 bf).1 8000) 1202 = .ok (.sipush 187, 3) := zd zm_8000 (by decide +kernel)
theorem d_8000_1205 {σ : Nat → Nat} {n0 : Nat} {bf : ab_B} : decode (ab_code (zx σ n0 bf).1 8000) 1205 = .ok (.bipush 99, 2) := zd zm_8000 (by decide +kernel)
theorem d_8000_1207 {σ : Nat → Nat} {n0 : Nat} {bf : ab_B} : decode (ab_code (zx σ n0 bf).1 8000) 1207 = .ok (.bastore, 1) := zd zm_8000 (by decide +kernel)
theorem d_8000_1208 {σ : Nat → Nat} {n0 : Nat} {bf : ab_B} : decode (ab_code (zx σ n0 bf).1 8000) 1208 = .ok (.dup, 1) := zd zm_8000 (by decide +kernel)
theorem d_8000_1209 {σ : Nat → Nat} {n0 : Nat} {bf : ab_B} : decode (ab_code (zx σ n0 bf).1 8000) 1209 = .ok (.sipush 188, 3) := zd zm_8000 (by decide +kernel)
theorem d_8000_1212 {σ : Nat → Nat} {n0 : Nat} {bf : ab_B} : decode (ab_code (zx σ n0 bf).1 8000) 1212 = .ok (.bipush 116, 2) := zd zm_8000 (by decide +kernel)
theorem d_8000_1214 {σ : Nat → Nat} {n0 : Nat} {bf : ab_B} : decode (ab_code (zx σ n0 bf).1 8000) 1214 = .ok (.bastore, 1) := zd zm_8000 (by decide +kernel)
theorem d_8000_1215 {σ : Nat → Nat} {n0 : Nat} {bf : ab_B} : decode (ab_code (zx σ n0 bf).1 8000) 1215 = .ok (.dup, 1) := zd zm_8000 (by decide +kernel)
theorem d_8000_1216 {σ : Nat → Nat} {n0 : Nat} {bf : ab_B} : decode (ab_code (zx σ n0 bf).1 8000) 1216 = .ok (.sipush 189, 3) := zd zm_8000 (by decide +kernel)
theorem d_8000_1219 {σ : Nat → Nat} {n0 : Nat} {bf : ab_B} : decode (ab_code (zx σ n0 bf).1 8000) 1219 = .ok (.bipush 101, 2) := zd zm_8000 (by decide +kernel)
theorem d_8000_1221 {σ : Nat → Nat} {n0 : Nat} {bf : ab_B} : decode (ab_code (zx σ n0 bf).1 8000) 1221 = .ok (.bastore, 1) := zd zm_8000 (by decide +kernel)
theorem d_8000_1222 {σ : Nat → Nat} {n0 : Nat} {bf : ab_B} : decode (ab_code (zx σ n0 bf).1 8000) 1222 = .ok (.dup, 1) := zd zm_8000 (by decide +kernel)
theorem d_8000_1223 {σ : Nat → Nat} {n0 : Nat} {bf : ab_B} : decode (ab_code (zx σ n0 bf).1 8000) 1223 = .ok (.sipush 190, 3) := zd zm_8000 (by decide +kernel)
theorem d_8000_1226 {σ : Nat → Nat} {n0 : Nat} {bf : ab_B} : decode (ab_code (zx σ n0 bf).1 8000) 1226 = .ok (.bipush 100, 2) := zd zm_8000 (by decide +kernel)
theorem d_8000_1228 {σ : Nat → Nat} {n0 : Nat} {bf : ab_B} : decode (ab_code (zx σ n0 bf).1 8000) 1228 = .ok (.bastore, 1) := zd zm_8000 (by decide +kernel)
theorem d_8000_1229 {σ : Nat → Nat} {n0 : Nat} {bf : ab_B} : decode (ab_code (zx σ n0 bf).1 8000) 1229 = .ok (.dup, 1) := zd zm_8000 (by decide +kernel)
theorem d_8000_1230 {σ : Nat → Nat} {n0 : Nat} {bf : ab_B} : decode (ab_code (zx σ n0 bf).1 8000) 1230 = .ok (.sipush 191, 3) := zd zm_8000 (by decide +kernel)
theorem d_8000_1233 {σ : Nat → Nat} {n0 : Nat} {bf : ab_B} : decode (ab_code (zx σ n0 bf).1 8000) 1233 = .ok (.bipush 32, 2) := zd zm_8000 (by decide +kernel)
theorem d_8000_1235 {σ : Nat → Nat} {n0 : Nat} {bf : ab_B} : decode (ab_code (zx σ n0 bf).1 8000) 1235 = .ok (.bastore, 1) := zd zm_8000 (by decide +kernel)
theorem d_8000_1236 {σ : Nat → Nat} {n0 : Nat} {bf : ab_B} : decode (ab_code (zx σ n0 bf).1 8000) 1236 = .ok (.dup, 1) := zd zm_8000 (by decide +kernel)
theorem d_8000_1237 {σ : Nat → Nat} {n0 : Nat} {bf : ab_B} : decode (ab_code (zx σ n0 bf).1 8000) 1237 = .ok (.sipush 192, 3) := zd zm_8000 (by decide +kernel)
theorem d_8000_1240 {σ : Nat → Nat} {n0 : Nat} {bf : ab_B} : decode (ab_code (zx σ n0 bf).1 8000) 1240 = .ok (.bipush 118, 2) := zd zm_8000 (by decide +kernel)
theorem d_8000_1242 {σ : Nat → Nat} {n0 : Nat} {bf : ab_B} : decode (ab_code (zx σ n0 bf).1 8000) 1242 = .ok (.bastore, 1) := zd zm_8000 (by decide +kernel)
theorem d_8000_1243 {σ : Nat → Nat} {n0 : Nat} {bf : ab_B} : decode (ab_code (zx σ n0 bf).1 8000) 1243 = .ok (.dup, 1) := zd zm_8000 (by decide +kernel)
theorem d_8000_1244 {σ : Nat → Nat} {n0 : Nat} {bf : ab_B} : decode (ab_code (zx σ n0 bf).1 8000) 1244 = .ok (.sipush 193, 3) := zd zm_8000 (by decide +kernel)
theorem d_8000_1247 {σ : Nat → Nat} {n0 : Nat} {bf : ab_B} : decode (ab_code (zx σ n0 bf).1 8000) 1247 = .ok (.bipush 97, 2) := zd zm_8000 (by decide +kernel)
theorem d_8000_1249 {σ : Nat → Nat} {n0 : Nat} {bf : ab_B} : decode (ab_code (zx σ n0 bf).1 8000) 1249 = .ok (.bastore, 1) := zd zm_8000 (by decide +kernel)
theorem d_8000_1250 {σ : Nat → Nat} {n0 : Nat} {bf : ab_B} : decode (ab_code (zx σ n0 bf).1 8000) 1250 = .ok (.dup, 1) := zd zm_8000 (by decide +kernel)
theorem d_8000_1251 {σ : Nat → Nat} {n0 : Nat} {bf : ab_B} : decode (ab_code (zx σ n0 bf).1 8000) 1251 = .ok (.sipush 194, 3) := zd zm_8000 (by decide +kernel)
theorem d_8000_1254 {σ : Nat → Nat} {n0 : Nat} {bf : ab_B} : decode (ab_code (zx σ n0 bf).1 8000) 1254 = .ok (.bipush 108, 2) := zd zm_8000 (by decide +kernel)
theorem d_8000_1256 {σ : Nat → Nat} {n0 : Nat} {bf : ab_B} : decode (ab_code (zx σ n0 bf).1 8000) 1256 = .ok (.bastore, 1) := zd zm_8000 (by decide +kernel)
theorem d_8000_1257 {σ : Nat → Nat} {n0 : Nat} {bf : ab_B} : decode (ab_code (zx σ n0 bf).1 8000) 1257 = .ok (.dup, 1) := zd zm_8000 (by decide +kernel)
theorem d_8000_1258 {σ : Nat → Nat} {n0 : Nat} {bf : ab_B} : decode (ab_code (zx σ n0 bf).1 8000) 1258 = .ok (.sipush 195, 3) := zd zm_8000 (by decide +kernel)
theorem d_8000_1261 {σ : Nat → Nat} {n0 : Nat} {bf : ab_B} : decode (ab_code (zx σ n0 bf).1 8000) 1261 = .ok (.bipush 117, 2) := zd zm_8000 (by decide +kernel)
theorem d_8000_1263 {σ : Nat → Nat} {n0 : Nat} {bf : ab_B} : decode (ab_code (zx σ n0 bf).1 8000) 1263 = .ok (.bastore, 1) := zd zm_8000 (by decide +kernel)
theorem d_8000_1264 {σ : Nat → Nat} {n0 : Nat} {bf : ab_B} : decode (ab_code (zx σ n0 bf).1 8000) 1264 = .ok (.dup, 1) := zd zm_8000 (by decide +kernel)
theorem d_8000_1265 {σ : Nat → Nat} {n0 : Nat} {bf : ab_B} : decode (ab_code (zx σ n0 bf).1 8000) 1265 = .ok (.sipush 196, 3) := zd zm_8000 (by decide +kernel)
theorem d_8000_1268 {σ : Nat → Nat} {n0 : Nat} {bf : ab_B} : decode (ab_code (zx σ n0 bf).1 8000) 1268 = .ok (.bipush 101, 2) := zd zm_8000 (by decide +kernel)
theorem d_8000_1270 {σ : Nat → Nat} {n0 : Nat} {bf : ab_B} : decode (ab_code (zx σ n0 bf).1 8000) 1270 = .ok (.bastore, 1) := zd zm_8000 (by decide +kernel)
theorem d_8000_1271 {σ : Nat → Nat} {n0 : Nat} {bf : ab_B} : decode (ab_code (zx σ n0 bf).1 8000) 1271 = .ok (.dup, 1) := zd zm_8000 (by decide +kernel)
theorem d_8000_1272 {σ : Nat → Nat} {n0 : Nat} {bf : ab_B} : decode (ab_code (zx σ n0 bf).1 8000) 1272 = .ok (.sipush 197, 3) := zd zm_8000 (by decide +kernel)
theorem d_8000_1275 {σ : Nat → Nat} {n0 : Nat} {bf : ab_B} : decode (ab_code (zx σ n0 bf).1 8000) 1275 = .ok (.bipush 32, 2) := zd zm_8000 (by decide +kernel)
theorem d_8000_1277 {σ : Nat → Nat} {n0 : Nat} {bf : ab_B} : decode (ab_code (zx σ n0 bf).1 8000) 1277 = .ok (.bastore, 1) := zd zm_8000 (by decide +kernel)
theorem d_8000_1278 {σ : Nat → Nat} {n0 : Nat} {bf : ab_B} : decode (ab_code (zx σ n0 bf).1 8000) 1278 = .ok (.dup, 1) := zd zm_8000 (by decide +kernel)
theorem d_8000_1279 {σ : Nat → Nat} {n0 : Nat} {bf : ab_B} : decode (ab_code (zx σ n0 bf).1 8000) 1279 = .ok (.sipush 198, 3) := zd zm_8000 (by decide +kernel)
theorem d_8000_1282 {σ : Nat → Nat} {n0 : Nat} {bf : ab_B} : decode (ab_code (zx σ n0 bf).1 8000) 1282 = .ok (.bipush 105, 2) := zd zm_8000 (by decide +kernel)
theorem d_8000_1284 {σ : Nat → Nat} {n0 : Nat} {bf : ab_B} : decode (ab_code (zx σ n0 bf).1 8000) 1284 = .ok (.bastore, 1) := zd zm_8000 (by decide +kernel)
theorem d_8000_1285 {σ : Nat → Nat} {n0 : Nat} {bf : ab_B} : decode (ab_code (zx σ n0 bf).1 8000) 1285 = .ok (.dup, 1) := zd zm_8000 (by decide +kernel)
theorem d_8000_1286 {σ : Nat → Nat} {n0 : Nat} {bf : ab_B} : decode (ab_code (zx σ n0 bf).1 8000) 1286 = .ok (.sipush 199, 3) := zd zm_8000 (by decide +kernel)
theorem d_8000_1289 {σ : Nat → Nat} {n0 : Nat} {bf : ab_B} : decode (ab_code (zx σ n0 bf).1 8000) 1289 = .ok (.bipush 110, 2) := zd zm_8000 (by decide +kernel)
theorem d_8000_1291 {σ : Nat → Nat} {n0 : Nat} {bf : ab_B} : decode (ab_code (zx σ n0 bf).1 8000) 1291 = .ok (.bastore, 1) := zd zm_8000 (by decide +kernel)
theorem d_8000_1292 {σ : Nat → Nat} {n0 : Nat} {bf : ab_B} : decode (ab_code (zx σ n0 bf).1 8000) 1292 = .ok (.dup, 1) := zd zm_8000 (by decide +kernel)
theorem d_8000_1293 {σ : Nat → Nat} {n0 : Nat} {bf : ab_B} : decode (ab_code (zx σ n0 bf).1 8000) 1293 = .ok (.sipush 200, 3) := zd zm_8000 (by decide +kernel)
theorem d_8000_1296 {σ : Nat → Nat} {n0 : Nat} {bf : ab_B} : decode (ab_code (zx σ n0 bf).1 8000) 1296 = .ok (.bipush 116, 2) := zd zm_8000 (by decide +kernel)
theorem d_8000_1298 {σ : Nat → Nat} {n0 : Nat} {bf : ab_B} : decode (ab_code (zx σ n0 bf).1 8000) 1298 = .ok (.bastore, 1) := zd zm_8000 (by decide +kernel)
theorem d_8000_1299 {σ : Nat → Nat} {n0 : Nat} {bf : ab_B} : decode (ab_code (zx σ n0 bf).1 8000) 1299 = .ok (.dup, 1) := zd zm_8000 (by decide +kernel)
theorem d_8000_1300 {σ : Nat → Nat} {n0 : Nat} {bf : ab_B} : decode (ab_code (zx σ n0 bf).1 8000) 1300 = .ok (.sipush 201, 3) := zd zm_8000 (by decide +kernel)
theorem d_8000_1303 {σ : Nat → Nat} {n0 : Nat} {bf : ab_B} : decode (ab_code (zx σ n0 bf).1 8000) 1303 = .ok (.bipush 101, 2) := zd zm_8000 (by decide +kernel)
theorem d_8000_1305 {σ : Nat → Nat} {n0 : Nat} {bf : ab_B} : decode (ab_code (zx σ n0 bf).1 8000) 1305 = .ok (.bastore, 1) := zd zm_8000 (by decide +kernel)
theorem d_8000_1306 {σ : Nat → Nat} {n0 : Nat} {bf : ab_B} : decode (ab_code (zx σ n0 bf).1 8000) 1306 = .ok (.dup, 1) := zd zm_8000 (by decide +kernel)
theorem d_8000_1307 {σ : Nat → Nat} {n0 : Nat} {bf : ab_B} : decode (ab_code (zx σ n0 bf).1 8000) 1307 = .ok (.sipush 202, 3) := zd zm_8000 (by decide +kernel)
theorem d_8000_1310 {σ : Nat → Nat} {n0 : Nat} {bf : ab_B} : decode (ab_code (zx σ n0 bf).1 8000) 1310 = .ok (.bipush 103, 2) := zd zm_8000 (by decide +kernel)
theorem d_8000_1312 {σ : Nat → Nat} {n0 : Nat} {bf : ab_B} : decode (ab_code (zx σ n0 bf).1 8000) 1312 = .ok (.bastore, 1) := zd zm_8000 (by decide +kernel)
theorem d_8000_1313 {σ : Nat → Nat} {n0 : Nat} {bf : ab_B} : decode (ab_code (zx σ n0 bf).1 8000) 1313 = .ok (.dup, 1) := zd zm_8000 (by decide +kernel)
theorem d_8000_1314 {σ : Nat → Nat} {n0 : Nat} {bf : ab_B} : decode (ab_code (zx σ n0 bf).1 8000) 1314 = .ok (.sipush 203, 3) := zd zm_8000 (by decide +kernel)
theorem d_8000_1317 {σ : Nat → Nat} {n0 : Nat} {bf : ab_B} : decode (ab_code (zx σ n0 bf).1 8000) 1317 = .ok (.bipush 101, 2) := zd zm_8000 (by decide +kernel)
theorem d_8000_1319 {σ : Nat → Nat} {n0 : Nat} {bf : ab_B} : decode (ab_code (zx σ n0 bf).1 8000) 1319 = .ok (.bastore, 1) := zd zm_8000 (by decide +kernel)
theorem d_8000_1320 {σ : Nat → Nat} {n0 : Nat} {bf : ab_B} : decode (ab_code (zx σ n0 bf).1 8000) 1320 = .ok (.dup, 1) := zd zm_8000 (by decide +kernel)
theorem d_8000_1321 {σ : Nat → Nat} {n0 : Nat} {bf : ab_B} : decode (ab_code (zx σ n0 bf).1 8000) 1321 = .ok (.sipush 204, 3) := zd zm_8000 (by decide +kernel)
theorem d_8000_1324 {σ : Nat → Nat} {n0 : Nat} {bf : ab_B} : decode (ab_code (zx σ n0 bf).1 8000) 1324 = .ok (.bipush 114, 2) := zd zm_8000 (by decide +kernel)
theorem d_8000_1326 {σ : Nat → Nat} {n0 : Nat} {bf : ab_B} : decode (ab_code (zx σ n0 bf).1 8000) 1326 = .ok (.bastore, 1) := zd zm_8000 (by decide +kernel)
theorem d_8000_1327 {σ : Nat → Nat} {n0 : Nat} {bf : ab_B} : decode (ab_code (zx σ n0 bf).1 8000) 1327 = .ok (.dup, 1) := zd zm_8000 (by decide +kernel)
theorem d_8000_1328 {σ : Nat → Nat} {n0 : Nat} {bf : ab_B} : decode (ab_code (zx σ n0 bf).1 8000) 1328 = .ok (.sipush 205, 3) := zd zm_8000 (by decide +kernel)
theorem d_8000_1331 {σ : Nat → Nat} {n0 : Nat} {bf : ab_B} : decode (ab_code (zx σ n0 bf).1 8000) 1331 = .ok (.bipush 32, 2) := zd zm_8000 (by decide +kernel)
theorem d_8000_1333 {σ : Nat → Nat} {n0 : Nat} {bf : ab_B} : decode (ab_code (zx σ n0 bf).1 8000) 1333 = .ok (.bastore, 1) := zd zm_8000 (by decide +kernel)
theorem d_8000_1334 {σ : Nat → Nat} {n0 : Nat} {bf : ab_B} : decode (ab_code (zx σ n0 bf).1 8000) 1334 = .ok (.dup, 1) := zd zm_8000 (by decide +kernel)
theorem d_8000_1335 {σ : Nat → Nat} {n0 : Nat} {bf : ab_B} : decode (ab_code (zx σ n0 bf).1 8000) 1335 = .ok (.sipush 206, 3) := zd zm_8000 (by decide +kernel)
theorem d_8000_1338 {σ : Nat → Nat} {n0 : Nat} {bf : ab_B} : decode (ab_code (zx σ n0 bf).1 8000) 1338 = .ok (.bipush 98, 2) := zd zm_8000 (by decide +kernel)
theorem d_8000_1340 {σ : Nat → Nat} {n0 : Nat} {bf : ab_B} : decode (ab_code (zx σ n0 bf).1 8000) 1340 = .ok (.bastore, 1) := zd zm_8000 (by decide +kernel)
theorem d_8000_1341 {σ : Nat → Nat} {n0 : Nat} {bf : ab_B} : decode (ab_code (zx σ n0 bf).1 8000) 1341 = .ok (.dup, 1) := zd zm_8000 (by decide +kernel)
theorem d_8000_1342 {σ : Nat → Nat} {n0 : Nat} {bf : ab_B} : decode (ab_code (zx σ n0 bf).1 8000) 1342 = .ok (.sipush 207, 3) := zd zm_8000 (by decide +kernel)
theorem d_8000_1345 {σ : Nat → Nat} {n0 : Nat} {bf : ab_B} : decode (ab_code (zx σ n0 bf).1 8000) 1345 = .ok (.bipush 111, 2) := zd zm_8000 (by decide +kernel)
theorem d_8000_1347 {σ : Nat → Nat} {n0 : Nat} {bf : ab_B} : decode (ab_code (zx σ n0 bf).1 8000) 1347 = .ok (.bastore, 1) := zd zm_8000 (by decide +kernel)
theorem d_8000_1348 {σ : Nat → Nat} {n0 : Nat} {bf : ab_B} : decode (ab_code (zx σ n0 bf).1 8000) 1348 = .ok (.dup, 1) := zd zm_8000 (by decide +kernel)
theorem d_8000_1349 {σ : Nat → Nat} {n0 : Nat} {bf : ab_B} : decode (ab_code (zx σ n0 bf).1 8000) 1349 = .ok (.sipush 208, 3) := zd zm_8000 (by decide +kernel)
theorem d_8000_1352 {σ : Nat → Nat} {n0 : Nat} {bf : ab_B} : decode (ab_code (zx σ n0 bf).1 8000) 1352 = .ok (.bipush 111, 2) := zd zm_8000 (by decide +kernel)
theorem d_8000_1354 {σ : Nat → Nat} {n0 : Nat} {bf : ab_B} : decode (ab_code (zx σ n0 bf).1 8000) 1354 = .ok (.bastore, 1) := zd zm_8000 (by decide +kernel)
theorem d_8000_1355 {σ : Nat → Nat} {n0 : Nat} {bf : ab_B} : decode (ab_code (zx σ n0 bf).1 8000) 1355 = .ok (.dup, 1) := zd zm_8000 (by decide +kernel)
theorem d_8000_1356 {σ : Nat → Nat} {n0 : Nat} {bf : ab_B} : decode (ab_code (zx σ n0 bf).1 8000) 1356 = .ok (.sipush 209, 3) := zd zm_8000 (by decide +kernel)
theorem d_8000_1359 {σ : Nat → Nat} {n0 : Nat} {bf : ab_B} : decode (ab_code (zx σ n0 bf).1 8000) 1359 = .ok (.bipush 108, 2) := zd zm_8000 (by decide +kernel)
theorem d_8000_1361 {σ : Nat → Nat} {n0 : Nat} {bf : ab_B} : decode (ab_code (zx σ n0 bf).1 8000) 1361 = .ok (.bastore, 1) := zd zm_8000 (by decide +kernel)
theorem d_8000_1362 {σ : Nat → Nat} {n0 : Nat} {bf : ab_B} : decode (ab_code (zx σ n0 bf).1 8000) 1362 = .ok (.dup, 1) := zd zm_8000 (by decide +kernel)
theorem d_8000_1363 {σ : Nat → Nat} {n0 : Nat} {bf : ab_B} : decode (ab_code (zx σ n0 bf).1 8000) 1363 = .ok (.sipush 210, 3) := zd zm_8000 (by decide +kernel)
theorem d_8000_1366 {σ : Nat → Nat} {n0 : Nat} {bf : ab_B} : decode (ab_code (zx σ n0 bf).1 8000) 1366 = .ok (.bipush 101, 2) := zd zm_8000 (by decide +kernel)
theorem d_8000_1368 {σ : Nat → Nat} {n0 : Nat} {bf : ab_B} : decode (ab_code (zx σ n0 bf).1 8000) 1368 = .ok (.bastore, 1) := zd zm_8000 (by decide +kernel)
theorem d_8000_1369 {σ : Nat → Nat} {n0 : Nat} {bf : ab_B} : decode (ab_code (zx σ n0 bf).1 8000) 1369 = .ok (.dup, 1) := zd zm_8000 (by decide +kernel)
theorem d_8000_1370 {σ : Nat → Nat} {n0 : Nat} {bf : ab_B} : decode (ab_code (zx σ n0 bf).1 8000) 1370 = .ok (.sipush 211, 3) := zd zm_8000 (by decide +kernel)
theorem d_8000_1373 {σ : Nat → Nat} {n0 : Nat} {bf : ab_B} : decode (ab_code (zx σ n0 bf).1 8000) 1373 = .ok (.bipush 97, 2) := zd zm_8000 (by decide +kernel)
theorem d_8000_1375 {σ : Nat → Nat} {n0 : Nat} {bf : ab_B} : decode (ab_code (zx σ n0 bf).1 8000) 1375 = .ok (.bastore, 1) := zd zm_8000 (by decide +kernel)
theorem d_8000_1376 {σ : Nat → Nat} {n0 : Nat} {bf : ab_B} : decode (ab_code (zx σ n0 bf).1 8000) 1376 = .ok (.dup, 1) := zd zm_8000 (by decide +kernel)
theorem d_8000_1377 {σ : Nat → Nat} {n0 : Nat} {bf : ab_B} : decode (ab_code (zx σ n0 bf).1 8000) 1377 = .ok (.sipush 212, 3) := zd zm_8000 (by decide +kernel)
theorem d_8000_1380 {σ : Nat → Nat} {n0 : Nat} {bf : ab_B} : decode (ab_code (zx σ n0 bf).1 8000) 1380 = .ok (.bipush 110, 2) := zd zm_8000 (by decide +kernel)
theorem d_8000_1382 {σ : Nat → Nat} {n0 : Nat} {bf : ab_B} : decode (ab_code (zx σ n0 bf).1 8000) 1382 = .ok (.bastore, 1) := zd zm_8000 (by decide +kernel)
theorem d_8000_1383 {σ : Nat → Nat} {n0 : Nat} {bf : ab_B} : decode (ab_code (zx σ n0 bf).1 8000) 1383 = .ok (.dup, 1) := zd zm_8000 (by decide +kernel)
theorem d_8000_1384 {σ : Nat → Nat} {n0 : Nat} {bf : ab_B} : decode (ab_code (zx σ n0 bf).1 8000) 1384 = .ok (.sipush 213, 3) := zd zm_8000 (by decide +kernel)
theorem d_8000_1387 {σ : Nat → Nat} {n0 : Nat} {bf : ab_B} : decode (ab_code (zx σ n0 bf).1 8000) 1387 = .ok (.bipush 32, 2) := zd zm_8000 (by decide +kernel)
theorem d_8000_1389 {σ : Nat → Nat} {n0 : Nat} {bf : ab_B} : decode (ab_code (zx σ n0 bf).1 8000) 1389 = .ok (.bastore, 1) := zd zm_8000 (by decide +kernel)
theorem d_8000_1390 {σ : Nat → Nat} {n0 : Nat} {bf : ab_B} : decode (ab_code (zx σ n0 bf).1 8000) 1390 = .ok (.dup, 1) := zd zm_8000 (by decide +kernel)
theorem d_8000_1391 {σ : Nat → Nat} {n0 : Nat} {bf : ab_B} : decode (ab_code (zx σ n0 bf).1 8000) 1391 = .ok (.sipush 214, 3) := zd zm_8000 (by decide +kernel)
theorem d_8000_1394 {σ : Nat → Nat} {n0 : Nat} {bf : ab_B} : decode (ab_code (zx σ n0 bf).1 8000) 1394 = .ok (.bipush 99, 2) := zd zm_8000 (by decide +kernel)
theorem d_8000_1396 {σ : Nat → Nat} {n0 : Nat} {bf : ab_B} : decode (ab_code (zx σ n0 bf).1 8000) 1396 = .ok (.bastore, 1) := zd zm_8000 (by decide +kernel)
theorem d_8000_1397 {σ : Nat → Nat} {n0 : Nat} {bf : ab_B} : decode (ab_code (zx σ n0 bf).1 8000) 1397 = .ok (.dup, 1) := zd zm_8000 (by decide +kernel)
theorem d_8000_1398 {σ : Nat → Nat} {n0 : Nat} {bf : ab_B} : decode (ab_code (zx σ n0 bf).1 8000) 1398 = .ok (.sipush 215, 3) := zd zm_8000 (by decide +kernel)
theorem d_8000_1401 {σ : Nat → Nat} {n0 : Nat} {bf : ab_B} : decode (ab_code (zx σ n0 bf).1 8000) 1401 = .ok (.bipush 104, 2) := zd zm_8000 (by decide +kernel)
theorem d_8000_1403 {σ : Nat → Nat} {n0 : Nat} {bf : ab_B} : decode (ab_code (zx σ n0 bf).1 8000) 1403 = .ok (.bastore, 1) := zd zm_8000 (by decide +kernel)
theorem d_8000_1404 {σ : Nat → Nat} {n0 : Nat} {bf : ab_B} : decode (ab_code (zx σ n0 bf).1 8000) 1404 = .ok (.dup, 1) := zd zm_8000 (by decide +kernel)
theorem d_8000_1405 {σ : Nat → Nat} {n0 : Nat} {bf : ab_B} : decode (ab_code (zx σ n0 bf).1 8000) 1405 = .ok (.sipush 216, 3) := zd zm_8000 (by decide +kernel)
theorem d_8000_1408 {σ : Nat → Nat} {n0 : Nat} {bf : ab_B} : decode (ab_code (zx σ n0 bf).1 8000) 1408 = .ok (.bipush 97, 2) := zd zm_8000 (by decide +kernel)
theorem d_8000_1410 {σ : Nat → Nat} {n0 : Nat} {bf : ab_B} : decode (ab_code (zx σ n0 bf).1 8000) 1410 = .ok (.bastore, 1) := zd zm_8000 (by decide +kernel)
theorem d_8000_1411 {σ : Nat → Nat} {n0 : Nat} {bf : ab_B} : decode (ab_code (zx σ n0 bf).1 8000) 1411 = .ok (.dup, 1) := zd zm_8000 (by decide +kernel)
theorem d_8000_1412 {σ : Nat → Nat} {n0 : Nat} {bf : ab_B} : decode (ab_code (zx σ n0 bf).1 8000) 1412 = .ok (.sipush 217, 3) := zd zm_8000 (by decide +kernel)
theorem d_8000_1415 {σ : Nat → Nat} {n0 : Nat} {bf : ab_B} : decode (ab_code (zx σ n0 bf).1 8000) 1415 = .ok (.bipush 114, 2) := zd zm_8000 (by decide +kernel)
theorem d_8000_1417 {σ : Nat → Nat} {n0 : Nat} {bf : ab_B} : decode (ab_code (zx σ n0 bf).1 8000) 1417 = .ok (.bastore, 1) := zd zm_8000 (by decide +kernel)
theorem d_8000_1418 {σ : Nat → Nat} {n0 : Nat} {bf : ab_B} : decode (ab_code (zx σ n0 bf).1 8000) 1418 = .ok (.dup, 1) := zd zm_8000 (by decide +kernel)
theorem d_8000_1419 {σ : Nat → Nat} {n0 : Nat} {bf : ab_B} : decode (ab_code (zx σ n0 bf).1 8000) 1419 = .ok (.sipush 218, 3) := zd zm_8000 (by decide +kernel)
theorem d_8000_1422 {σ : Nat → Nat} {n0 : Nat} {bf : ab_B} : decode (ab_code (zx σ n0 bf).1 8000) 1422 = .ok (.bipush 32, 2) := zd zm_8000 (by decide +kernel)
theorem d_8000_1424 {σ : Nat → Nat} {n0 : Nat} {bf : ab_B} : decode (ab_code (zx σ n0 bf).1 8000) 1424 = .ok (.bastore, 1) := zd zm_8000 (by decide +kernel)
theorem d_8000_1425 {σ : Nat → Nat} {n0 : Nat} {bf : ab_B} : decode (ab_code (zx σ n0 bf).1 8000) 1425 = .ok (.dup, 1) := zd zm_8000 (by decide +kernel)
theorem d_8000_1426 {σ : Nat → Nat} {n0 : Nat} {bf : ab_B} : decode (ab_code (zx σ n0 bf).1 8000) 1426 = .ok (.sipush 219, 3) := zd zm_8000 (by decide +kernel)
theorem d_8000_1429 {σ : Nat → Nat} {n0 : Nat} {bf : ab_B} : decode (ab_code (zx σ n0 bf).1 8000) 1429 = .ok (.bipush 116, 2) := zd zm_8000 (by decide +kernel)
theorem d_8000_1431 {σ : Nat → Nat} {n0 : Nat} {bf : ab_B} : decode (ab_code (zx σ n0 bf).1 8000) 1431 = .ok (.bastore, 1) := zd zm_8000 (by decide +kernel)
theorem d_8000_1432 {σ : Nat → Nat} {n0 : Nat} {bf : ab_B} : decode (ab_code (zx σ n0 bf).1 8000) 1432 = .ok (.dup, 1) := zd zm_8000 (by decide +kernel)
theorem d_8000_1433 {σ : Nat → Nat} {n0 : Nat} {bf : ab_B} : decode (ab_code (zx σ n0 bf).1 8000) 1433 = .ok (.sipush 220, 3) := zd zm_8000 (by decide +kernel)
theorem d_8000_1436 {σ : Nat → Nat} {n0 : Nat} {bf : ab_B} : decode (ab_code (zx σ n0 bf).1 8000) 1436 = .ok (.bipush 114, 2) := zd zm_8000 (by decide +kernel)
theorem d_8000_1438 {σ : Nat → Nat} {n0 : Nat} {bf : ab_B} : decode (ab_code (zx σ n0 bf).1 8000) 1438 = .ok (.bastore, 1) := zd zm_8000 (by decide +kernel)
theorem d_8000_1439 {σ : Nat → Nat} {n0 : Nat} {bf : ab_B} : decode (ab_code (zx σ n0 bf).1 8000) 1439 = .ok (.dup, 1) := zd zm_8000 (by decide +kernel)
theorem d_8000_1440 {σ : Nat → Nat} {n0 : Nat} {bf : ab_B} : decode (ab_code (zx σ n0 bf).1 8000) 1440 = .ok (.sipush 221, 3) := zd zm_8000 (by decide +kernel)
theorem d_8000_1443 {σ : Nat → Nat} {n0 : Nat} {bf : ab_B} : decode (ab_code (zx σ n0 bf).1 8000) 1443 = .ok (.bipush 117, 2) := zd zm_8000 (by decide +kernel)
theorem d_8000_1445 {σ : Nat → Nat} {n0 : Nat} {bf : ab_B} : decode (ab_code (zx σ n0 bf).1 8000) 1445 = .ok (.bastore, 1) := zd zm_8000 (by decide +kernel)
theorem d_8000_1446 {σ : Nat → Nat} {n0 : Nat} {bf : ab_B} : decode (ab_code (zx σ n0 bf).1 8000) 1446 = .ok (.dup, 1) := zd zm_8000 (by decide +kernel)
theorem d_8000_1447 {σ : Nat → Nat} {n0 : Nat} {bf : ab_B} : decode (ab_code (zx σ n0 bf).1 8000) 1447 = .ok (.sipush 222, 3) := zd zm_8000 (by decide +kernel)
theorem d_8000_1450 {σ : Nat → Nat} {n0 : Nat} {bf : ab_B} : decode (ab_code (zx σ n0 bf).1 8000) 1450 = .ok (.bipush 101, 2) := zd zm_8000 (by decide +kernel)
theorem d_8000_1452 {σ : Nat → Nat} {n0 : Nat} {bf : ab_B} : decode (ab_code (zx σ n0 bf).1 8000) 1452 = .ok (.bastore, 1) := zd zm_8000 (by decide +kernel)
theorem d_8000_1453 {σ : Nat → Nat} {n0 : Nat} {bf : ab_B} : decode (ab_code (zx σ n0 bf).1 8000) 1453 = .ok (.dup, 1) := zd zm_8000 (by decide +kernel)
theorem d_8000_1454 {σ : Nat → Nat} {n0 : Nat} {bf : ab_B} : decode (ab_code (zx σ n0 bf).1 8000) 1454 = .ok (.sipush 223, 3) := zd zm_8000 (by decide +kernel)
theorem d_8000_1457 {σ : Nat → Nat} {n0 : Nat} {bf : ab_B} : decode (ab_code (zx σ n0 bf).1 8000) 1457 = .ok (.bipush 32, 2) := zd zm_8000 (by decide +kernel)
theorem d_8000_1459 {σ : Nat → Nat} {n0 : Nat} {bf : ab_B} : decode (ab_code (zx σ n0 bf).1 8000) 1459 = .ok (.bastore, 1) := zd zm_8000 (by decide +kernel)
theorem d_8000_1460 {σ : Nat → Nat} {n0 : Nat} {bf : ab_B} : decode (ab_code (zx σ n0 bf).1 8000) 1460 = .ok (.dup, 1) := zd zm_8000 (by decide +kernel)
theorem d_8000_1461 {σ : Nat → Nat} {n0 : Nat} {bf : ab_B} : decode (ab_code (zx σ n0 bf).1 8000) 1461 = .ok (.sipush 224, 3) := zd zm_8000 (by decide +kernel)
theorem d_8000_1464 {σ : Nat → Nat} {n0 : Nat} {bf : ab_B} : decode (ab_code (zx σ n0 bf).1 8000) 1464 = .ok (.bipush 102, 2) := zd zm_8000 (by decide +kernel)
theorem d_8000_1466 {σ : Nat → Nat} {n0 : Nat} {bf : ab_B} : decode (ab_code (zx σ n0 bf).1 8000) 1466 = .ok (.bastore, 1) := zd zm_8000 (by decide +kernel)
theorem d_8000_1467 {σ : Nat → Nat} {n0 : Nat} {bf : ab_B} : decode (ab_code (zx σ n0 bf).1 8000) 1467 = .ok (.dup, 1) := zd zm_8000 (by decide +kernel)
theorem d_8000_1468 {σ : Nat → Nat} {n0 : Nat} {bf : ab_B} : decode (ab_code (zx σ n0 bf).1 8000) 1468 = .ok (.sipush 225, 3) := zd zm_8000 (by decide +kernel)
theorem d_8000_1471 {σ : Nat → Nat} {n0 : Nat} {bf : ab_B} : decode (ab_code (zx σ n0 bf).1 8000) 1471 = .ok (.bipush 97, 2) := zd zm_8000 (by decide +kernel)
theorem d_8000_1473 {σ : Nat → Nat} {n0 : Nat} {bf : ab_B} : decode (ab_code (zx σ n0 bf).1 8000) 1473 = .ok (.bastore, 1) := zd zm_8000 (by decide +kernel)
theorem d_8000_1474 {σ : Nat → Nat} {n0 : Nat} {bf : ab_B} : decode (ab_code (zx σ n0 bf).1 8000) 1474 = .ok (.dup, 1) := zd zm_8000 (by decide +kernel)
theorem d_8000_1475 {σ : Nat → Nat} {n0 : Nat} {bf : ab_B} : decode (ab_code (zx σ n0 bf).1 8000) 1475 = .ok (.sipush 226, 3) := zd zm_8000 (by decide +kernel)
theorem d_8000_1478 {σ : Nat → Nat} {n0 : Nat} {bf : ab_B} : decode (ab_code (zx σ n0 bf).1 8000) 1478 = .ok (.bipush 108, 2) := zd zm_8000 (by decide +kernel)
theorem d_8000_1480 {σ : Nat → Nat} {n0 : Nat} {bf : ab_B} : decode (ab_code (zx σ n0 bf).1 8000) 1480 = .ok (.bastore, 1) := zd zm_8000 (by decide +kernel)
theorem d_8000_1481 {σ : Nat → Nat} {n0 : Nat} {bf : ab_B} : decode (ab_code (zx σ n0 bf).1 8000) 1481 = .ok (.dup, 1) := zd zm_8000 (by decide +kernel)
theorem d_8000_1482 {σ : Nat → Nat} {n0 : Nat} {bf : ab_B} : decode (ab_code (zx σ n0 bf).1 8000) 1482 = .ok (.sipush 227, 3) := zd zm_8000 (by decide +kernel)
theorem d_8000_1485 {σ : Nat → Nat} {n0 : Nat} {bf : ab_B} : decode (ab_code (zx σ n0 bf).1 8000) 1485 = .ok (.bipush 115, 2) := zd zm_8000 (by decide +kernel)
theorem d_8000_1487 {σ : Nat → Nat} {n0 : Nat} {bf : ab_B} : decode (ab_code (zx σ n0 bf).1 8000) 1487 = .ok (.bastore, 1) := zd zm_8000 (by decide +kernel)
theorem d_8000_1488 {σ : Nat → Nat} {n0 : Nat} {bf : ab_B} : decode (ab_code (zx σ n0 bf).1 8000) 1488 = .ok (.dup, 1) := zd zm_8000 (by decide +kernel)
theorem d_8000_1489 {σ : Nat → Nat} {n0 : Nat} {bf : ab_B} : decode (ab_code (zx σ n0 bf).1 8000) 1489 = .ok (.sipush 228, 3) := zd zm_8000 (by decide +kernel)
theorem d_8000_1492 {σ : Nat → Nat} {n0 : Nat} {bf : ab_B} : decode (ab_code (zx σ n0 bf).1 8000) 1492 = .ok (.bipush 101, 2) := zd zm_8000 (by decide +kernel)
theorem d_8000_1494 {σ : Nat → Nat} {n0 : Nat} {bf : ab_B} : decode (ab_code (zx σ n0 bf).1 8000) 1494 = .ok (.bastore, 1) := zd zm_8000 (by decide +kernel)
theorem d_8000_1495 {σ : Nat → Nat} {n0 : Nat} {bf : ab_B} : decode (ab_code (zx σ n0 bf).1 8000) 1495 = .ok (.dup, 1) := zd zm_8000 (by decide +kernel)
theorem d_8000_1496 {σ : Nat → Nat} {n0 : Nat} {bf : ab_B} : decode (ab_code (zx σ n0 bf).1 8000) 1496 = .ok (.sipush 229, 3) := zd zm_8000 (by decide +kernel)
theorem d_8000_1499 {σ : Nat → Nat} {n0 : Nat} {bf : ab_B} : decode (ab_code (zx σ n0 bf).1 8000) 1499 = .ok (.bipush 32, 2) := zd zm_8000 (by decide +kernel)
theorem d_8000_1501 {σ : Nat → Nat} {n0 : Nat} {bf : ab_B} : decode (ab_code (zx σ n0 bf).1 8000) 1501 = .ok (.bastore, 1) := zd zm_8000 (by decide +kernel)
theorem d_8000_1502 {σ : Nat → Nat} {n0 : Nat} {bf : ab_B} : decode (ab_code (zx σ n0 bf).1 8000) 1502 = .ok (.dup, 1) := zd zm_8000 (by decide +kernel)
theorem d_8000_1503 {σ : Nat → Nat} {n0 : Nat} {bf : ab_B} : decode (ab_code (zx σ n0 bf).1 8000) 1503 = .ok (.sipush 230, 3) := zd zm_8000 (by decide +kernel)
theorem d_8000_1506 {σ : Nat → Nat} {n0 : Nat} {bf : ab_B} : decode (ab_code (zx σ n0 bf).1 8000) 1506 = .ok (.bipush 109, 2) := zd zm_8000 (by decide +kernel)
theorem d_8000_1508 {σ : Nat → Nat} {n0 : Nat} {bf : ab_B} : decode (ab_code (zx σ n0 bf).1 8000) 1508 = .ok (.bastore, 1) := zd zm_8000 (by decide +kernel)
theorem d_8000_1509 {σ : Nat → Nat} {n0 : Nat} {bf : ab_B} : decode (ab_code (zx σ n0 bf).1 8000) 1509 = .ok (.dup, 1) := zd zm_8000 (by decide +kernel)
theorem d_8000_1510 {σ : Nat → Nat} {n0 : Nat} {bf : ab_B} : decode (ab_code (zx σ n0 bf).1 8000) 1510 = .ok (.sipush 231, 3) := zd zm_8000 (by decide +kernel)
theorem d_8000_1513 {σ : Nat → Nat} {n0 : Nat} {bf : ab_B} : decode (ab_code (zx σ n0 bf).1 8000) 1513 = .ok (.bipush 97, 2) := zd zm_8000 (by decide +kernel)
theorem d_8000_1515 {σ : Nat → Nat} {n0 : Nat} {bf : ab_B} : decode (ab_code (zx σ n0 bf).1 8000) 1515 = .ok (.bastore, 1) := zd zm_8000 (by decide +kernel)
theorem d_8000_1516 {σ : Nat → Nat} {n0 : Nat} {bf : ab_B} : decode (ab_code (zx σ n0 bf).1 8000) 1516 = .ok (.dup, 1) := zd zm_8000 (by decide +kernel)
theorem d_8000_1517 {σ : Nat → Nat} {n0 : Nat} {bf : ab_B} : decode (ab_code (zx σ n0 bf).1 8000) 1517 = .ok (.sipush 232, 3) := zd zm_8000 (by decide +kernel)
theorem d_8000_1520 {σ : Nat → Nat} {n0 : Nat} {bf : ab_B} : decode (ab_code (zx σ n0 bf).1 8000) 1520 = .ok (.bipush 120, 2) := zd zm_8000 (by decide +kernel)
theorem d_8000_1522 {σ : Nat → Nat} {n0 : Nat} {bf : ab_B} : decode (ab_code (zx σ n0 bf).1 8000) 1522 = .ok (.bastore, 1) := zd zm_8000 (by decide +kernel)
theorem d_8000_1523 {σ : Nat → Nat} {n0 : Nat} {bf : ab_B} : decode (ab_code (zx σ n0 bf).1 8000) 1523 = .ok (.dup, 1) := zd zm_8000 (by decide +kernel)
theorem d_8000_1524 {σ : Nat → Nat} {n0 : Nat} {bf : ab_B} : decode (ab_code (zx σ n0 bf).1 8000) 1524 = .ok (.sipush 233, 3) := zd zm_8000 (by decide +kernel)
theorem d_8000_1527 {σ : Nat → Nat} {n0 : Nat} {bf : ab_B} : decode (ab_code (zx σ n0 bf).1 8000) 1527 = .ok (.bipush 105, 2) := zd zm_8000 (by decide +kernel)
theorem d_8000_1529 {σ : Nat → Nat} {n0 : Nat} {bf : ab_B} : decode (ab_code (zx σ n0 bf).1 8000) 1529 = .ok (.bastore, 1) := zd zm_8000 (by decide +kernel)
theorem d_8000_1530 {σ : Nat → Nat} {n0 : Nat} {bf : ab_B} : decode (ab_code (zx σ n0 bf).1 8000) 1530 = .ok (.dup, 1) := zd zm_8000 (by decide +kernel)
theorem d_8000_1531 {σ : Nat → Nat} {n0 : Nat} {bf : ab_B} : decode (ab_code (zx σ n0 bf).1 8000) 1531 = .ok (.sipush 234, 3) := zd zm_8000 (by decide +kernel)
theorem d_8000_1534 {σ : Nat → Nat} {n0 : Nat} {bf : ab_B} : decode (ab_code (zx σ n0 bf).1 8000) 1534 = .ok (.bipush 110, 2) := zd zm_8000 (by decide +kernel)
theorem d_8000_1536 {σ : Nat → Nat} {n0 : Nat} {bf : ab_B} : decode (ab_code (zx σ n0 bf).1 8000) 1536 = .ok (.bastore, 1) := zd zm_8000 (by decide +kernel)
theorem d_8000_1537 {σ : Nat → Nat} {n0 : Nat} {bf : ab_B} : decode (ab_code (zx σ n0 bf).1 8000) 1537 = .ok (.dup, 1) := zd zm_8000 (by decide +kernel)
theorem d_8000_1538 {σ : Nat → Nat} {n0 : Nat} {bf : ab_B} : decode (ab_code (zx σ n0 bf).1 8000) 1538 = .ok (.sipush 235, 3) := zd zm_8000 (by decide +kernel)
theorem d_8000_1541 {σ : Nat → Nat} {n0 : Nat} {bf : ab_B} : decode (ab_code (zx σ n0 bf).1 8000) 1541 = .ok (.bipush 116, 2) := zd zm_8000 (by decide +kernel)
theorem d_8000_1543 {σ : Nat → Nat} {n0 : Nat} {bf : ab_B} : decode (ab_code (zx σ n0 bf).1 8000) 1543 = .ok (.bastore, 1) := zd zm_8000 (by decide +kernel)
theorem d_8000_1544 {σ : Nat → Nat} {n0 : Nat} {bf : ab_B} : decode (ab_code (zx σ n0 bf).1 8000) 1544 = .ok (.dup, 1) := zd zm_8000 (by decide +kernel)
theorem d_8000_1545 {σ : Nat → Nat} {n0 : Nat} {bf : ab_B} : decode (ab_code (zx σ n0 bf).1 8000) 1545 = .ok (.sipush 236, 3) := zd zm_8000 (by decide +kernel)
theorem d_8000_1548 {σ : Nat → Nat} {n0 : Nat} {bf : ab_B} : decode (ab_code (zx σ n0 bf).1 8000) 1548 = .ok (.bipush 32, 2) := zd zm_8000 (by decide +kernel)
theorem d_8000_1550 {σ : Nat → Nat} {n0 : Nat} {bf : ab_B} : decode (ab_code (zx σ n0 bf).1 8000) 1550 = .ok (.bastore, 1) := zd zm_8000 (by decide +kernel)
theorem d_8000_1551 {σ : Nat → Nat} {n0 : Nat} {bf : ab_B} : decode (ab_code (zx σ n0 bf).1 8000) 1551 = .ok (.dup, 1) := zd zm_8000 (by decide +kernel)
theorem d_8000_1552 {σ : Nat → Nat} {n0 : Nat} {bf : ab_B} : decode (ab_code (zx σ n0 bf).1 8000) 1552 = .ok (.sipush 237, 3) := zd zm_8000 (by decide +kernel)
theorem d_8000_1555 {σ : Nat → Nat} {n0 : Nat} {bf : ab_B} : decode (ab_code (zx σ n0 bf).1 8000) 1555 = .ok (.bipush 97, 2) := zd zm_8000 (by decide +kernel)
theorem d_8000_1557 {σ : Nat → Nat} {n0 : Nat} {bf : ab_B} : decode (ab_code (zx σ n0 bf).1 8000) 1557 = .ok (.bastore, 1) := zd zm_8000 (by decide +kernel)
theorem d_8000_1558 {σ : Nat → Nat} {n0 : Nat} {bf : ab_B} : decode (ab_code (zx σ n0 bf).1 8000) 1558 = .ok (.dup, 1) := zd zm_8000 (by decide +kernel)
theorem d_8000_1559 {σ : Nat → Nat} {n0 : Nat} {bf : ab_B} : decode (ab_code (zx σ n0 bf).1 8000) 1559 = .ok (.sipush 238, 3) := zd zm_8000 (by decide +kernel)
theorem d_8000_1562 {σ : Nat → Nat} {n0 : Nat} {bf : ab_B} : decode (ab_code (zx σ n0 bf).1 8000) 1562 = .ok (.bipush 98, 2) := zd zm_8000 (by decide +kernel)
theorem d_8000_1564 {σ : Nat → Nat} {n0 : Nat} {bf : ab_B} : decode (ab_code (zx σ n0 bf).1 8000) 1564 = .ok (.bastore, 1) := zd zm_8000 (by decide +kernel)
theorem d_8000_1565 {σ : Nat → Nat} {n0 : Nat} {bf : ab_B} : decode (ab_code (zx σ n0 bf).1 8000) 1565 = .ok (.dup, 1) := zd zm_8000 (by decide +kernel)
theorem d_8000_1566 {σ : Nat → Nat} {n0 : Nat} {bf : ab_B} : decode (ab_code (zx σ n0 bf).1 8000) 1566 = .ok (.sipush 239, 3) := zd zm_8000 (by decide +kernel)
theorem d_8000_1569 {σ : Nat → Nat} {n0 : Nat} {bf : ab_B} : decode (ab_code (zx σ n0 bf).1 8000) 1569 = .ok (.bipush 115, 2) := zd zm_8000 (by decide +kernel)
theorem d_8000_1571 {σ : Nat → Nat} {n0 : Nat} {bf : ab_B} : decode (ab_code (zx σ n0 bf).1 8000) 1571 = .ok (.bastore, 1) := zd zm_8000 (by decide +kernel)
theorem d_8000_1572 {σ : Nat → Nat} {n0 : Nat} {bf : ab_B} : decode (ab_code (zx σ n0 bf).1 8000) 1572 = .ok (.dup, 1) := zd zm_8000 (by decide +kernel)
theorem d_8000_1573 {σ : Nat → Nat} {n0 : Nat} {bf : ab_B} : decode (ab_code (zx σ n0 bf).1 8000) 1573 = .ok (.sipush 240, 3) := zd zm_8000 (by decide +kernel)
theorem d_8000_1576 {σ : Nat → Nat} {n0 : Nat} {bf : ab_B} : decode (ab_code (zx σ n0 bf).1 8000) 1576 = .ok (.bipush 32, 2) := zd zm_8000 (by decide +kernel)
theorem d_8000_1578 {σ : Nat → Nat} {n0 : Nat} {bf : ab_B} : decode (ab_code (zx σ n0 bf).1 8000) 1578 = .ok (.bastore, 1) := zd zm_8000 (by decide +kernel)
theorem d_8000_1579 {σ : Nat → Nat} {n0 : Nat} {bf : ab_B} : decode (ab_code (zx σ n0 bf).1 8000) 1579 = .ok (.dup, 1) := zd zm_8000 (by decide +kernel)
theorem d_8000_1580 {σ : Nat → Nat} {n0 : Nat} {bf : ab_B} : decode (ab_code (zx σ n0 bf).1 8000) 1580 = .ok (.sipush 241, 3) := zd zm_8000 (by decide +kernel)
theorem d_8000_1583 {σ : Nat → Nat} {n0 : Nat} {bf : ab_B} : decode (ab_code (zx σ n0 bf).1 8000) 1583 = .ok (.bipush 115, 2) := zd zm_8000 (by decide +kernel)
theorem d_8000_1585 {σ : Nat → Nat} {n0 : Nat} {bf : ab_B} : decode (ab_code (zx σ n0 bf).1 8000) 1585 = .ok (.bastore, 1) := zd zm_8000 (by decide +kernel)
theorem d_8000_1586 {σ : Nat → Nat} {n0 : Nat} {bf : ab_B} : decode (ab_code (zx σ n0 bf).1 8000) 1586 = .ok (.dup, 1) := zd zm_8000 (by decide +kernel)
theorem d_8000_1587 {σ : Nat → Nat} {n0 : Nat} {bf : ab_B} : decode (ab_code (zx σ n0 bf).1 8000) 1587 = .ok (.sipush 242, 3) := zd zm_8000 (by decide +kernel)
theorem d_8000_1590 {σ : Nat → Nat} {n0 : Nat} {bf : ab_B} : decode (ab_code (zx σ n0 bf).1 8000) 1590 = .ok (.bipush 113, 2) := zd zm_8000 (by decide +kernel)
theorem d_8000_1592 {σ : Nat → Nat} {n0 : Nat} {bf : ab_B} : decode (ab_code (zx σ n0 bf).1 8000) 1592 = .ok (.bastore, 1) := zd zm_8000 (by decide +kernel)
theorem d_8000_1593 {σ : Nat → Nat} {n0 : Nat} {bf : ab_B} : decode (ab_code (zx σ n0 bf).1 8000) 1593 = .ok (.dup, 1) := zd zm_8000 (by decide +kernel)
theorem d_8000_1594 {σ : Nat → Nat} {n0 : Nat} {bf : ab_B} : decode (ab_code (zx σ n0 bf).1 8000) 1594 = .ok (.sipush 243, 3) := zd zm_8000 (by decide +kernel)
theorem d_8000_1597 {σ : Nat → Nat} {n0 : Nat} {bf : ab_B} : decode (ab_code (zx σ n0 bf).1 8000) 1597 = .ok (.bipush 114, 2) := zd zm_8000 (by decide +kernel)
theorem d_8000_1599 {σ : Nat → Nat} {n0 : Nat} {bf : ab_B} : decode (ab_code (zx σ n0 bf).1 8000) 1599 = .ok (.bastore, 1) := zd zm_8000 (by decide +kernel)
theorem d_8000_1600 {σ : Nat → Nat} {n0 : Nat} {bf : ab_B} : decode (ab_code (zx σ n0 bf).1 8000) 1600 = .ok (.dup, 1) := zd zm_8000 (by decide +kernel)
theorem d_8000_1601 {σ : Nat → Nat} {n0 : Nat} {bf : ab_B} : decode (ab_code (zx σ n0 bf).1 8000) 1601 = .ok (.sipush 244, 3) := zd zm_8000 (by decide +kernel)
theorem d_8000_1604 {σ : Nat → Nat} {n0 : Nat} {bf : ab_B} : decode (ab_code (zx σ n0 bf).1 8000) 1604 = .ok (.bipush 32, 2) := zd zm_8000 (by decide +kernel)
theorem d_8000_1606 {σ : Nat → Nat} {n0 : Nat} {bf : ab_B} : decode (ab_code (zx σ n0 bf).1 8000) 1606 = .ok (.bastore, 1) := zd zm_8000 (by decide +kernel)
theorem d_8000_1607 {σ : Nat → Nat} {n0 : Nat} {bf : ab_B} : decode (ab_code (zx σ n0 bf).1 8000) 1607 = .ok (.dup, 1) := zd zm_8000 (by decide +kernel)
theorem d_8000_1608 {σ : Nat → Nat} {n0 : Nat} {bf : ab_B} : decode (ab_code (zx σ n0 bf).1 8000) 1608 = .ok (.sipush 245, 3) := zd zm_8000 (by decide +kernel)
theorem d_8000_1611 {σ : Nat → Nat} {n0 : Nat} {bf : ab_B} : decode (ab_code (zx σ n0 bf).1 8000) 1611 = .ok (.bipush 111, 2) := zd zm_8000 (by decide +kernel)
theorem d_8000_1613 {σ : Nat → Nat} {n0 : Nat} {bf : ab_B} : decode (ab_code (zx σ n0 bf).1 8000) 1613 = .ok (.bastore, 1) := zd zm_8000 (by decide +kernel)
theorem d_8000_1614 {σ : Nat → Nat} {n0 : Nat} {bf : ab_B} : decode (ab_code (zx σ n0 bf).1 8000) 1614 = .ok (.dup, 1) := zd zm_8000 (by decide +kernel)
theorem d_8000_1615 {σ : Nat → Nat} {n0 : Nat} {bf : ab_B} : decode (ab_code (zx σ n0 bf).1 8000) 1615 = .ok (.sipush 246, 3) := zd zm_8000 (by decide +kernel)
theorem d_8000_1618 {σ : Nat → Nat} {n0 : Nat} {bf : ab_B} : decode (ab_code (zx σ n0 bf).1 8000) 1618 = .ok (.bipush 100, 2) := zd zm_8000 (by decide +kernel)
theorem d_8000_1620 {σ : Nat → Nat} {n0 : Nat} {bf : ab_B} : decode (ab_code (zx σ n0 bf).1 8000) 1620 = .ok (.bastore, 1) := zd zm_8000 (by decide +kernel)
theorem d_8000_1621 {σ : Nat → Nat} {n0 : Nat} {bf : ab_B} : decode (ab_code (zx σ n0 bf).1 8000) 1621 = .ok (.dup, 1) := zd zm_8000 (by decide +kernel)
theorem d_8000_1622 {σ : Nat → Nat} {n0 : Nat} {bf : ab_B} : decode (ab_code (zx σ n0 bf).1 8000) 1622 = .ok (.sipush 247, 3) := zd zm_8000 (by decide +kernel)
theorem d_8000_1625 {σ : Nat → Nat} {n0 : Nat} {bf : ab_B} : decode (ab_code (zx σ n0 bf).1 8000) 1625 = .ok (.bipush 100, 2) := zd zm_8000 (by decide +kernel)
theorem d_8000_1627 {σ : Nat → Nat} {n0 : Nat} {bf : ab_B} : decode (ab_code (zx σ n0 bf).1 8000) 1627 = .ok (.bastore, 1) := zd zm_8000 (by decide +kernel)
theorem d_8000_1628 {σ : Nat → Nat} {n0 : Nat} {bf : ab_B} : decode (ab_code (zx σ n0 bf).1 8000) 1628 = .ok (.dup, 1) := zd zm_8000 (by decide +kernel)
theorem d_8000_1629 {σ : Nat → Nat} {n0 : Nat} {bf : ab_B} : decode (ab_code (zx σ n0 bf).1 8000) 1629 = .ok (.sipush 248, 3) := zd zm_8000 (by decide +kernel)
theorem d_8000_1632 {σ : Nat → Nat} {n0 : Nat} {bf : ab_B} : decode (ab_code (zx σ n0 bf).1 8000) 1632 = .ok (.bipush 32, 2) := zd zm_8000 (by decide +kernel)
theorem d_8000_1634 {σ : Nat → Nat} {n0 : Nat} {bf : ab_B} : decode (ab_code (zx σ n0 bf).1 8000) 1634 = .ok (.bastore, 1) := zd zm_8000 (by decide +kernel)
theorem d_8000_1635 {σ : Nat → Nat} {n0 : Nat} {bf : ab_B} : decode (ab_code (zx σ n0 bf).1 8000) 1635 = .ok (.dup, 1) := zd zm_8000 (by decide +kernel)
theorem d_8000_1636 {σ : Nat → Nat} {n0 : Nat} {bf : ab_B} : decode (ab_code (zx σ n0 bf).1 8000) 1636 = .ok (.sipush 249, 3) := zd zm_8000 (by decide +kernel)
theorem d_8000_1639 {σ : Nat → Nat} {n0 : Nat} {bf : ab_B} : decode (ab_code (zx σ n0 bf).1 8000) 1639 = .ok (.bipush 111, 2) := zd zm_8000 (by decide +kernel)
theorem d_8000_1641 {σ : Nat → Nat} {n0 : Nat} {bf : ab_B} : decode (ab_code (zx σ n0 bf).1 8000) 1641 = .ok (.bastore, 1) := zd zm_8000 (by decide +kernel)
theorem d_8000_1642 {σ : Nat → Nat} {n0 : Nat} {bf : ab_B} : decode (ab_code (zx σ n0 bf).1 8000) 1642 = .ok (.dup, 1) := zd zm_8000 (by decide +kernel)
theorem d_8000_1643 {σ : Nat → Nat} {n0 : Nat} {bf : ab_B} : decode (ab_code (zx σ n0 bf).1 8000) 1643 = .ok (.sipush 250, 3) := zd zm_8000 (by decide +kernel)
theorem d_8000_1646 {σ : Nat → Nat} {n0 : Nat} {bf : ab_B} : decode (ab_code (zx σ n0 bf).1 8000) 1646 = .ok (.bipush 114, 2) := zd zm_8000 (by decide +kernel)
theorem d_8000_1648 {σ : Nat → Nat} {n0 : Nat} {bf : ab_B} : decode (ab_code (zx σ n0 bf).1 8000) 1648 = .ok (.bastore, 1) := zd zm_8000 (by decide +kernel)
theorem d_8000_1649 {σ : Nat → Nat} {n0 : Nat} {bf : ab_B} : decode (ab_code (zx σ n0 bf).1 8000) 1649 = .ok (.dup, 1) := zd zm_8000 (by decide +kernel)
theorem d_8000_1650 {σ : Nat → Nat} {n0 : Nat} {bf : ab_B} : decode (ab_code (zx σ n0 bf).1 8000) 1650 = .ok (.sipush 251, 3) := zd zm_8000 (by decide +kernel)
theorem d_8000_1653 {σ : Nat → Nat} {n0 : Nat} {bf : ab_B} : decode (ab_code (zx σ n0 bf).1 8000) 1653 = .ok (.bipush 100, 2) := zd zm_8000 (by decide +kernel)
theorem d_8000_1655 {σ : Nat → Nat} {n0 : Nat} {bf : ab_B} : decode (ab_code (zx σ n0 bf).1 8000) 1655 = .ok (.bastore, 1) := zd zm_8000 (by decide +kernel)
theorem d_8000_1656 {σ : Nat → Nat} {n0 : Nat} {bf : ab_B} : decode (ab_code (zx σ n0 bf).1 8000) 1656 = .ok (.dup, 1) := zd zm_8000 (by decide +kernel)
theorem d_8000_1657 {σ : Nat → Nat} {n0 : Nat} {bf : ab_B} : decode (ab_code (zx σ n0 bf).1 8000) 1657 = .ok (.sipush 252, 3) := zd zm_8000 (by decide +kernel)
theorem d_8000_1660 {σ : Nat → Nat} {n0 : Nat} {bf : ab_B} : decode (ab_code (zx σ n0 bf).1 8000) 1660 = .ok (.bipush 32, 2) := zd zm_8000 (by decide +kernel)
theorem d_8000_1662 {σ : Nat → Nat} {n0 : Nat} {bf : ab_B} : decode (ab_code (zx σ n0 bf).1 8000) 1662 = .ok (.bastore, 1) := zd zm_8000 (by decide +kernel)
theorem d_8000_1663 {σ : Nat → Nat} {n0 : Nat} {bf : ab_B} : decode (ab_code (zx σ n0 bf).1 8000) 1663 = .ok (.dup, 1) := zd zm_8000 (by decide +kernel)
theorem d_8000_1664 {σ : Nat → Nat} {n0 : Nat} {bf : ab_B} : decode (ab_code (zx σ n0 bf).1 8000) 1664 = .ok (.sipush 253, 3) := zd zm_8000 (by decide +kernel)
theorem d_8000_1667 {σ : Nat → Nat} {n0 : Nat} {bf : ab_B} : decode (ab_code (zx σ n0 bf).1 8000) 1667 = .ok (.bipush 99, 2) := zd zm_8000 (by decide +kernel)
theorem d_8000_1669 {σ : Nat → Nat} {n0 : Nat} {bf : ab_B} : decode (ab_code (zx σ n0 bf).1 8000) 1669 = .ok (.bastore, 1) := zd zm_8000 (by decide +kernel)
theorem d_8000_1670 {σ : Nat → Nat} {n0 : Nat} {bf : ab_B} : decode (ab_code (zx σ n0 bf).1 8000) 1670 = .ok (.dup, 1) := zd zm_8000 (by decide +kernel)
theorem d_8000_1671 {σ : Nat → Nat} {n0 : Nat} {bf : ab_B} : decode (ab_code (zx σ n0 bf).1 8000) 1671 = .ok (.sipush 254, 3) := zd zm_8000 (by decide +kernel)
theorem d_8000_1674 {σ : Nat → Nat} {n0 : Nat} {bf : ab_B} : decode (ab_code (zx σ n0 bf).1 8000) 1674 = .ok (.bipush 104, 2) := zd zm_8000 (by decide +kernel)
theorem d_8000_1676 {σ : Nat → Nat} {n0 : Nat} {bf : ab_B} : decode (ab_code (zx σ n0 bf).1 8000) 1676 = .ok (.bastore, 1) := zd zm_8000 (by decide +kernel)
theorem d_8000_1677 {σ : Nat → Nat} {n0 : Nat} {bf : ab_B} : decode (ab_code (zx σ n0 bf).1 8000) 1677 = .ok (.dup, 1) := zd zm_8000 (by decide +kernel)
theorem d_8000_1678 {σ : Nat → Nat} {n0 : Nat} {bf : ab_B} : decode (ab_code (zx σ n0 bf).1 8000) 1678 = .ok (.sipush 255, 3) := zd zm_8000 (by decide +kernel)
theorem d_8000_1681 {σ : Nat → Nat} {n0 : Nat} {bf : ab_B} : decode (ab_code (zx σ n0 bf).1 8000) 1681 = .ok (.bipush 114, 2) := zd zm_8000 (by decide +kernel)
theorem d_8000_1683 {σ : Nat → Nat} {n0 : Nat} {bf : ab_B} : decode (ab_code (zx σ n0 bf).1 8000) 1683 = .ok (.bastore, 1) := zd zm_8000 (by decide +kernel)
theorem d_8000_1684 {σ : Nat → Nat} {n0 : Nat} {bf : ab_B} : decode (ab_code (zx σ n0 bf).1 8000) 1684 = .ok (.dup, 1) := zd zm_8000 (by decide +kernel)
theorem d_8000_1685 {σ : Nat → Nat} {n0 : Nat} {bf : ab_B} : decode (ab_code (zx σ n0 bf).1 8000) 1685 = .ok (.sipush 256, 3) := zd zm_8000 (by decide +kernel)
theorem d_8000_1688 {σ : Nat → Nat} {n0 : Nat} {bf : ab_B} : decode (ab_code (zx σ n0 bf).1 8000) 1688 = .ok (.bipush 32, 2) := zd zm_8000 (by decide +kernel)
theorem d_8000_1690 {σ : Nat → Nat} {n0 : Nat} {bf : ab_B} : decode (ab_code (zx σ n0 bf).1 8000) 1690 = .ok (.bastore, 1) := zd zm_8000 (by decide +kernel)
theorem d_8000_1691 {σ : Nat → Nat} {n0 : Nat} {bf : ab_B} : decode (ab_code (zx σ n0 bf).1 8000) 1691 = .ok (.dup, 1) := zd zm_8000 (by decide +kernel)
theorem d_8000_1692 {σ : Nat → Nat} {n0 : Nat} {bf : ab_B} : decode (ab_code (zx σ n0 bf).1 8000) 1692 = .ok (.sipush 257, 3) := zd zm_8000 (by decide +kernel)
theorem d_8000_1695 {σ : Nat → Nat} {n0 : Nat} {bf : ab_B} : decode (ab_code (zx σ n0 bf).1 8000) 1695 = .ok (.bipush 115, 2) := zd zm_8000 (by decide +kernel)
theorem d_8000_1697 {σ : Nat → Nat} {n0 : Nat} {bf : ab_B} : decode (ab_code (zx σ n0 bf).1 8000) 1697 = .ok (.bastore, 1) := zd zm_8000 (by decide +kernel)
theorem d_8000_1698 {σ : Nat → Nat} {n0 : Nat} {bf : ab_B} : decode (ab_code (zx σ n0 bf).1 8000) 1698 = .ok (.dup, 1) := zd zm_8000 (by decide +kernel)
theorem d_8000_1699 {σ : Nat → Nat} {n0 : Nat} {bf : ab_B} : decode (ab_code (zx σ n0 bf).1 8000) 1699 = .ok (.sipush 258, 3) := zd zm_8000 (by decide +kernel)
theorem d_8000_1702 {σ : Nat → Nat} {n0 : Nat} {bf : ab_B} : decode (ab_code (zx σ n0 bf).1 8000) 1702 = .ok (.bipush 117, 2) := zd zm_8000 (by decide +kernel)
theorem d_8000_1704 {σ : Nat → Nat} {n0 : Nat} {bf : ab_B} : decode (ab_code (zx σ n0 bf).1 8000) 1704 = .ok (.bastore, 1) := zd zm_8000 (by decide +kernel)
theorem d_8000_1705 {σ : Nat → Nat} {n0 : Nat} {bf : ab_B} : decode (ab_code (zx σ n0 bf).1 8000) 1705 = .ok (.dup, 1) := zd zm_8000 (by decide +kernel)
theorem d_8000_1706 {σ : Nat → Nat} {n0 : Nat} {bf : ab_B} : decode (ab_code (zx σ n0 bf).1 8000) 1706 = .ok (.sipush 259, 3) := zd zm_8000 (by decide +kernel)
theorem d_8000_1709 {σ : Nat → Nat} {n0 : Nat} {bf : ab_B} : decode (ab_code (zx σ n0 bf).1 8000) 1709 = .ok (.bipush 99, 2) := zd zm_8000 (by decide +kernel)
theorem d_8000_1711 {σ : Nat → Nat} {n0 : Nat} {bf : ab_B} : decode (ab_code (zx σ n0 bf).1 8000) 1711 = .ok (.bastore, 1) := zd zm_8000 (by decide +kernel)
theorem d_8000_1712 {σ : Nat → Nat} {n0 : Nat} {bf : ab_B} : decode (ab_code (zx σ n0 bf).1 8000) 1712 = .ok (.dup, 1) := zd zm_8000 (by decide +kernel)
theorem d_8000_1713 {σ : Nat → Nat} {n0 : Nat} {bf : ab_B} : decode (ab_code (zx σ n0 bf).1 8000) 1713 = .ok (.sipush 260, 3) := zd zm_8000 (by decide +kernel)
theorem d_8000_1716 {σ : Nat → Nat} {n0 : Nat} {bf : ab_B} : decode (ab_code (zx σ n0 bf).1 8000) 1716 = .ok (.bipush 99, 2) := zd zm_8000 (by decide +kernel)
theorem d_8000_1718 {σ : Nat → Nat} {n0 : Nat} {bf : ab_B} : decode (ab_code (zx σ n0 bf).1 8000) 1718 = .ok (.bastore, 1) := zd zm_8000 (by decide +kernel)
theorem d_8000_1719 {σ : Nat → Nat} {n0 : Nat} {bf : ab_B} : decode (ab_code (zx σ n0 bf).1 8000) 1719 = .ok (.dup, 1) := zd zm_8000 (by decide +kernel)
theorem d_8000_1720 {σ : Nat → Nat} {n0 : Nat} {bf : ab_B} : decode (ab_code (zx σ n0 bf).1 8000) 1720 = .ok (.sipush 261, 3) := zd zm_8000 (by decide +kernel)
theorem d_8000_1723 {σ : Nat → Nat} {n0 : Nat} {bf : ab_B} : decode (ab_code (zx σ n0 bf).1 8000) 1723 = .ok (.bipush 32, 2) := zd zm_8000 (by decide +kernel)
theorem d_8000_1725 {σ : Nat → Nat} {n0 : Nat} {bf : ab_B} : decode (ab_code (zx σ n0 bf).1 8000) 1725 = .ok (.bastore, 1) := zd zm_8000 (by decide +kernel)
theorem d_8000_1726 {σ : Nat → Nat} {n0 : Nat} {bf : ab_B} : decode (ab_code (zx σ n0 bf).1 8000) 1726 = .ok (.dup, 1) := zd zm_8000 (by decide +kernel)
theorem d_8000_1727 {σ : Nat → Nat} {n0 : Nat} {bf : ab_B} : decode (ab_code (zx σ n0 bf).1 8000) 1727 = .ok (.sipush 262, 3) := zd zm_8000 (by decide +kernel)
theorem d_8000_1730 {σ : Nat → Nat} {n0 : Nat} {bf : ab_B} : decode (ab_code (zx σ n0 bf).1 8000) 1730 = .ok (.bipush 112, 2) := zd zm_8000 (by decide +kernel)
theorem d_8000_1732 {σ : Nat → Nat} {n0 : Nat} {bf : ab_B} : decode (ab_code (zx σ n0 bf).1 8000) 1732 = .ok (.bastore, 1) := zd zm_8000 (by decide +kernel)
theorem d_8000_1733 {σ : Nat → Nat} {n0 : Nat} {bf : ab_B} : decode (ab_code (zx σ n0 bf).1 8000) 1733 = .ok (.dup, 1) := zd zm_8000 (by decide +kernel)
theorem d_8000_1734 {σ : Nat → Nat} {n0 : Nat} {bf : ab_B} : decode (ab_code (zx σ n0 bf).1 8000) 1734 = .ok (.sipush 263, 3) := zd zm_8000 (by decide +kernel)
theorem d_8000_1737 {σ : Nat → Nat} {n0 : Nat} {bf : ab_B} : decode (ab_code (zx σ n0 bf).1 8000) 1737 = .ok (.bipush 114, 2) := zd zm_8000 (by decide +kernel)
theorem d_8000_1739 {σ : Nat → Nat} {n0 : Nat} {bf : ab_B} : decode (ab_code (zx σ n0 bf).1 8000) 1739 = .ok (.bastore, 1) := zd zm_8000 (by decide +kernel)
theorem d_8000_1740 {σ : Nat → Nat} {n0 : Nat} {bf : ab_B} : decode (ab_code (zx σ n0 bf).1 8000) 1740 = .ok (.dup, 1) := zd zm_8000 (by decide +kernel)
theorem d_8000_1741 {σ : Nat → Nat} {n0 : Nat} {bf : ab_B} : decode (ab_code (zx σ n0 bf).1 8000) 1741 = .ok (.sipush 264, 3) := zd zm_8000 (by decide +kernel)
theorem d_8000_1744 {σ : Nat → Nat} {n0 : Nat} {bf : ab_B} : decode (ab_code (zx σ n0 bf).1 8000) 1744 = .ok (.bipush 101, 2) := zd zm_8000 (by decide +kernel)
theorem d_8000_1746 {σ : Nat → Nat} {n0 : Nat} {bf : ab_B} : decode (ab_code (zx σ n0 bf).1 8000) 1746 = .ok (.bastore, 1) := zd zm_8000 (by decide +kernel)
theorem d_8000_1747 {σ : Nat → Nat} {n0 : Nat} {bf : ab_B} : decode (ab_code (zx σ n0 bf).1 8000) 1747 = .ok (.dup, 1) := zd zm_8000 (by decide +kernel)
theorem d_8000_1748 {σ : Nat → Nat} {n0 : Nat} {bf : ab_B} : decode (ab_code (zx σ n0 bf).1 8000) 1748 = .ok (.sipush 265, 3) := zd zm_8000 (by decide +kernel)
theorem d_8000_1751 {σ : Nat → Nat} {n0 : Nat} {bf : ab_B} : decode (ab_code (zx σ n0 bf).1 8000) 1751 = .ok (.bipush 100, 2) := zd zm_8000 (by decide +kernel)
theorem d_8000_1753 {σ : Nat → Nat} {n0 : Nat} {bf : ab_B} : decode (ab_code (zx σ n0 bf).1 8000) 1753 = .ok (.bastore, 1) := zd zm_8000 (by decide +kernel)
theorem d_8000_1754 {σ : Nat → Nat} {n0 : Nat} {bf : ab_B} : decode (ab_code (zx σ n0 bf).1 8000) 1754 = .ok (.dup, 1) := zd zm_8000 (by decide +kernel)
theorem d_8000_1755 {σ : Nat → Nat} {n0 : Nat} {bf : ab_B} : decode (ab_code (zx σ n0 bf).1 8000) 1755 = .ok (.sipush 266, 3) := zd zm_8000 (by decide +kernel)
theorem d_8000_1758 {σ : Nat → Nat} {n0 : Nat} {bf : ab_B} : decode (ab_code (zx σ n0 bf).1 8000) 1758 = .ok (.bipush 32, 2) := zd zm_8000 (by decide +kernel)
theorem d_8000_1760 {σ : Nat → Nat} {n0 : Nat} {bf : ab_B} : decode (ab_code (zx σ n0 bf).1 8000) 1760 = .ok (.bastore, 1) := zd zm_8000 (by decide +kernel)
theorem d_8000_1761 {σ : Nat → Nat} {n0 : Nat} {bf : ab_B} : decode (ab_code (zx σ n0 bf).1 8000) 1761 = .ok (.dup, 1) := zd zm_8000 (by decide +kernel)
theorem d_8000_1762 {σ : Nat → Nat} {n0 : Nat} {bf : ab_B} : decode (ab_code (zx σ n0 bf).1 8000) 1762 = .ok (.sipush 267, 3) := zd zm_8000 (by decide +kernel)
theorem d_8000_1765 {σ : Nat → Nat} {n0 : Nat} {bf : ab_B} : decode (ab_code (zx σ n0 bf).1 8000) 1765 = .ok (.bipush 108, 2) := zd zm_8000 (by decide +kernel)
theorem d_8000_1767 {σ : Nat → Nat} {n0 : Nat} {bf : ab_B} : decode (ab_code (zx σ n0 bf).1 8000) 1767 = .ok (.bastore, 1) := zd zm_8000 (by decide +kernel)
theorem d_8000_1768 {σ : Nat → Nat} {n0 : Nat} {bf : ab_B} : decode (ab_code (zx σ n0 bf).1 8000) 1768 = .ok (.dup, 1) := zd zm_8000 (by decide +kernel)
theorem d_8000_1769 {σ : Nat → Nat} {n0 : Nat} {bf : ab_B} : decode (ab_code (zx σ n0 bf).1 8000) 1769 = .ok (.sipush 268, 3) := zd zm_8000 (by decide +kernel)
theorem d_8000_1772 {σ : Nat → Nat} {n0 : Nat} {bf : ab_B} : decode (ab_code (zx σ n0 bf).1 8000) 1772 = .ok (.bipush 101, 2) := zd zm_8000 (by decide +kernel)
theorem d_8000_1774 {σ : Nat → Nat} {n0 : Nat} {bf : ab_B} : decode (ab_code (zx σ n0 bf).1 8000) 1774 = .ok (.bastore, 1) := zd zm_8000 (by decide +kernel)
theorem d_8000_1775 {σ : Nat → Nat} {n0 : Nat} {bf : ab_B} : decode (ab_code (zx σ n0 bf).1 8000) 1775 = .ok (.dup, 1) := zd zm_8000 (by decide +kernel)
theorem d_8000_1776 {σ : Nat → Nat} {n0 : Nat} {bf : ab_B} : decode (ab_code (zx σ n0 bf).1 8000) 1776 = .ok (.sipush 269, 3) := zd zm_8000 (by decide +kernel)
theorem d_8000_1779 {σ : Nat → Nat} {n0 : Nat} {bf : ab_B} : decode (ab_code (zx σ n0 bf).1 8000) 1779 = .ok (.bipush 110, 2) := zd zm_8000 (by decide +kernel)
theorem d_8000_1781 {σ : Nat → Nat} {n0 : Nat} {bf : ab_B} : decode (ab_code (zx σ n0 bf).1 8000) 1781 = .ok (.bastore, 1) := zd zm_8000 (by decide +kernel)
theorem d_8000_1782 {σ : Nat → Nat} {n0 : Nat} {bf : ab_B} : decode (ab_code (zx σ n0 bf).1 8000) 1782 = .ok (.dup, 1) := zd zm_8000 (by decide +kernel)
theorem d_8000_1783 {σ : Nat → Nat} {n0 : Nat} {bf : ab_B} : decode (ab_code (zx σ n0 bf).1 8000) 1783 = .ok (.sipush 270, 3) := zd zm_8000 (by decide +kernel)
theorem d_8000_1786 {σ : Nat → Nat} {n0 : Nat} {bf : ab_B} : decode (ab_code (zx σ n0 bf).1 8000) 1786 = .ok (.bipush 103, 2) := zd zm_8000 (by decide +kernel)
theorem d_8000_1788 {σ : Nat → Nat} {n0 : Nat} {bf : ab_B} : decode (ab_code (zx σ n0 bf).1 8000) 1788 = .ok (.bastore, 1) := zd zm_8000 (by decide +kernel)
theorem d_8000_1789 {σ : Nat → Nat} {n0 : Nat} {bf : ab_B} : decode (ab_code (zx σ n0 bf).1 8000) 1789 = .ok (.dup, 1) := zd zm_8000 (by decide +kernel)
theorem d_8000_1790 {σ : Nat → Nat} {n0 : Nat} {bf : ab_B} : decode (ab_code (zx σ n0 bf).1 8000) 1790 = .ok (.sipush 271, 3) := zd zm_8000 (by decide +kernel)
theorem d_8000_1793 {σ : Nat → Nat} {n0 : Nat} {bf : ab_B} : decode (ab_code (zx σ n0 bf).1 8000) 1793 = .ok (.bipush 116, 2) := zd zm_8000 (by decide +kernel)
theorem d_8000_1795 {σ : Nat → Nat} {n0 : Nat} {bf : ab_B} : decode (ab_code (zx σ n0 bf).1 8000) 1795 = .ok (.bastore, 1) := zd zm_8000 (by decide +kernel)
theorem d_8000_1796 {σ : Nat → Nat} {n0 : Nat} {bf : ab_B} : decode (ab_code (zx σ n0 bf).1 8000) 1796 = .ok (.dup, 1) := zd zm_8000 (by decide +kernel)
theorem d_8000_1797 {σ : Nat → Nat} {n0 : Nat} {bf : ab_B} : decode (ab_code (zx σ n0 bf).1 8000) 1797 = .ok (.sipush 272, 3) := zd zm_8000 (by decide +kernel)
theorem d_8000_1800 {σ : Nat → Nat} {n0 : Nat} {bf : ab_B} : decode (ab_code (zx σ n0 bf).1 8000) 1800 = .ok (.bipush 104, 2) := zd zm_8000 (by decide +kernel)
theorem d_8000_1802 {σ : Nat → Nat} {n0 : Nat} {bf : ab_B} : decode (ab_code (zx σ n0 bf).1 8000) 1802 = .ok (.bastore, 1) := zd zm_8000 (by decide +kernel)
theorem d_8000_1803 {σ : Nat → Nat} {n0 : Nat} {bf : ab_B} : decode (ab_code (zx σ n0 bf).1 8000) 1803 = .ok (.dup, 1) := zd zm_8000 (by decide +kernel)
theorem d_8000_1804 {σ : Nat → Nat} {n0 : Nat} {bf : ab_B} : decode (ab_code (zx σ n0 bf).1 8000) 1804 = .ok (.sipush 273, 3) := zd zm_8000 (by decide +kernel)
theorem d_8000_1807 {σ : Nat → Nat} {n0 : Nat} {bf : ab_B} : decode (ab_code (zx σ n0 bf).1 8000) 1807 = .ok (.bipush 32, 2) := zd zm_8000 (by decide +kernel)
theorem d_8000_1809 {σ : Nat → Nat} {n0 : Nat} {bf : ab_B} : decode (ab_code (zx σ n0 bf).1 8000) 1809 = .ok (.bastore, 1) := zd zm_8000 (by decide +kernel)
theorem d_8000_1810 {σ : Nat → Nat} {n0 : Nat} {bf : ab_B} : decode (ab_code (zx σ n0 bf).1 8000) 1810 = .ok (.dup, 1) := zd zm_8000 (by decide +kernel)
theorem d_8000_1811 {σ : Nat → Nat} {n0 : Nat} {bf : ab_B} : decode (ab_code (zx σ n0 bf).1 8000) 1811 = .ok (.sipush 274, 3) := zd zm_8000 (by decide +kernel)
theorem d_8000_1814 {σ : Nat → Nat} {n0 : Nat} {bf : ab_B} : decode (ab_code (zx σ n0 bf).1 8000) 1814 = .ok (.bipush 99, 2) := zd zm_8000 (by decide +kernel)
theorem d_8000_1816 {σ : Nat → Nat} {n0 : Nat} {bf : ab_B} : decode (ab_code (zx σ n0 bf).1 8000) 1816 = .ok (.bastore, 1) := zd zm_8000 (by decide +kernel)
theorem d_8000_1817 {σ : Nat → Nat} {n0 : Nat} {bf : ab_B} : decode (ab_code (zx σ n0 bf).1 8000) 1817 = .ok (.dup, 1) := zd zm_8000 (by decide +kernel)
theorem d_8000_1818 {σ : Nat → Nat} {n0 : Nat} {bf : ab_B} : decode (ab_code (zx σ n0 bf).1 8000) 1818 = .ok (.sipush 275, 3) := zd zm_8000 (by decide +kernel)
theorem d_8000_1821 {σ : Nat → Nat} {n0 : Nat} {bf : ab_B} : decode (ab_code (zx σ n0 bf).1 8000) 1821 = .ok (.bipush 97, 2) := zd zm_8000 (by decide +kernel)
theorem d_8000_1823 {σ : Nat → Nat} {n0 : Nat} {bf : ab_B} : decode (ab_code (zx σ n0 bf).1 8000) 1823 = .ok (.bastore, 1) := zd zm_8000 (by decide +kernel)
theorem d_8000_1824 {σ : Nat → Nat} {n0 : Nat} {bf : ab_B} : decode (ab_code (zx σ n0 bf).1 8000) 1824 = .ok (.dup, 1) := zd zm_8000 (by decide +kernel)
theorem d_8000_1825 {σ : Nat → Nat} {n0 : Nat} {bf : ab_B} : decode (ab_code (zx σ n0 bf).1 8000) 1825 = .ok (.sipush 276, 3) := zd zm_8000 (by decide +kernel)
theorem d_8000_1828 {σ : Nat → Nat} {n0 : Nat} {bf : ab_B} : decode (ab_code (zx σ n0 bf).1 8000) 1828 = .ok (.bipush 114, 2) := zd zm_8000 (by decide +kernel)
theorem d_8000_1830 {σ : Nat → Nat} {n0 : Nat} {bf : ab_B} : decode (ab_code (zx σ n0 bf).1 8000) 1830 = .ok (.bastore, 1) := zd zm_8000 (by decide +kernel)
theorem d_8000_1831 {σ : Nat → Nat} {n0 : Nat} {bf : ab_B} : decode (ab_code (zx σ n0 bf).1 8000) 1831 = .ok (.dup, 1) := zd zm_8000 (by decide +kernel)
theorem d_8000_1832 {σ : Nat → Nat} {n0 : Nat} {bf : ab_B} : decode (ab_code (zx σ n0 bf).1 8000) 1832 = .ok (.sipush 277, 3) := zd zm_8000 (by decide +kernel)
theorem d_8000_1835 {σ : Nat → Nat} {n0 : Nat} {bf : ab_B} : decode (ab_code (zx σ n0 bf).1 8000) 1835 = .ok (.bipush 100, 2) := zd zm_8000 (by decide +kernel)
theorem d_8000_1837 {σ : Nat → Nat} {n0 : Nat} {bf : ab_B} : decode (ab_code (zx σ n0 bf).1 8000) 1837 = .ok (.bastore, 1) := zd zm_8000 (by decide +kernel)
theorem d_8000_1838 {σ : Nat → Nat} {n0 : Nat} {bf : ab_B} : decode (ab_code (zx σ n0 bf).1 8000) 1838 = .ok (.dup, 1) := zd zm_8000 (by decide +kernel)
theorem d_8000_1839 {σ : Nat → Nat} {n0 : Nat} {bf : ab_B} : decode (ab_code (zx σ n0 bf).1 8000) 1839 = .ok (.sipush 278, 3) := zd zm_8000 (by decide +kernel)
theorem d_8000_1842 {σ : Nat → Nat} {n0 : Nat} {bf : ab_B} : decode (ab_code (zx σ n0 bf).1 8000) 1842 = .ok (.bipush 32, 2) := zd zm_8000 (by decide +kernel)
theorem d_8000_1844 {σ : Nat → Nat} {n0 : Nat} {bf : ab_B} : decode (ab_code (zx σ n0 bf).1 8000) 1844 = .ok (.bastore, 1) := zd zm_8000 (by decide +kernel)
theorem d_8000_1845 {σ : Nat → Nat} {n0 : Nat} {bf : ab_B} : decode (ab_code (zx σ n0 bf).1 8000) 1845 = .ok (.dup, 1) := zd zm_8000 (by decide +kernel)
theorem d_8000_1846 {σ : Nat → Nat} {n0 : Nat} {bf : ab_B} : decode (ab_code (zx σ n0 bf).1 8000) 1846 = .ok (.sipush 279, 3) := zd zm_8000 (by decide +kernel)
theorem d_8000_1849 {σ : Nat → Nat} {n0 : Nat} {bf : ab_B} : decode (ab_code (zx σ n0 bf).1 8000) 1849 = .ok (.bipush 105, 2) := zd zm_8000 (by decide +kernel)
theorem d_8000_1851 {σ : Nat → Nat} {n0 : Nat} {bf : ab_B} : decode (ab_code (zx σ n0 bf).1 8000) 1851 = .ok (.bastore, 1) := zd zm_8000 (by decide +kernel)
theorem d_8000_1852 {σ : Nat → Nat} {n0 : Nat} {bf : ab_B} : decode (ab_code (zx σ n0 bf).1 8000) 1852 = .ok (.dup, 1) := zd zm_8000 (by decide +kernel)
theorem d_8000_1853 {σ : Nat → Nat} {n0 : Nat} {bf : ab_B} : decode (ab_code (zx σ n0 bf).1 8000) 1853 = .ok (.sipush 280, 3) := zd zm_8000 (by decide +kernel)
theorem d_8000_1856 {σ : Nat → Nat} {n0 : Nat} {bf : ab_B} : decode (ab_code (zx σ n0 bf).1 8000) 1856 = .ok (.bipush 110, 2) := zd zm_8000 (by decide +kernel)
theorem d_8000_1858 {σ : Nat → Nat} {n0 : Nat} {bf : ab_B} : decode (ab_code (zx σ n0 bf).1 8000) 1858 = .ok (.bastore, 1) := zd zm_8000 (by decide +kernel)
theorem d_8000_1859 {σ : Nat → Nat} {n0 : Nat} {bf : ab_B} : decode (ab_code (zx σ n0 bf).1 8000) 1859 = .ok (.dup, 1) := zd zm_8000 (by decide +kernel)
theorem d_8000_1860 {σ : Nat → Nat} {n0 : Nat} {bf : ab_B} : decode (ab_code (zx σ n0 bf).1 8000) 1860 = .ok (.sipush 281, 3) := zd zm_8000 (by decide +kernel)
theorem d_8000_1863 {σ : Nat → Nat} {n0 : Nat} {bf : ab_B} : decode (ab_code (zx σ n0 bf).1 8000) 1863 = .ok (.bipush 100, 2) := zd zm_8000 (by decide +kernel)
theorem d_8000_1865 {σ : Nat → Nat} {n0 : Nat} {bf : ab_B} : decode (ab_code (zx σ n0 bf).1 8000) 1865 = .ok (.bastore, 1) := zd zm_8000 (by decide +kernel)
theorem d_8000_1866 {σ : Nat → Nat} {n0 : Nat} {bf : ab_B} : decode (ab_code (zx σ n0 bf).1 8000) 1866 = .ok (.dup, 1) := zd zm_8000 (by decide +kernel)
theorem d_8000_1867 {σ : Nat → Nat} {n0 : Nat} {bf : ab_B} : decode (ab_code (zx σ n0 bf).1 8000) 1867 = .ok (.sipush 282, 3) := zd zm_8000 (by decide +kernel)
theorem d_8000_1870 {σ : Nat → Nat} {n0 : Nat} {bf : ab_B} : decode (ab_code (zx σ n0 bf).1 8000) 1870 = .ok (.bipush 101, 2) := zd zm_8000 (by decide +kernel)
theorem d_8000_1872 {σ : Nat → Nat} {n0 : Nat} {bf : ab_B} : decode (ab_code (zx σ n0 bf).1 8000) 1872 = .ok (.bastore, 1) := zd zm_8000 (by decide +kernel)
theorem d_8000_1873 {σ : Nat → Nat} {n0 : Nat} {bf : ab_B} : decode (ab_code (zx σ n0 bf).1 8000) 1873 = .ok (.dup, 1) := zd zm_8000 (by decide +kernel)
theorem d_8000_1874 {σ : Nat → Nat} {n0 : Nat} {bf : ab_B} : decode (ab_code (zx σ n0 bf).1 8000) 1874 = .ok (.sipush 283, 3) := zd zm_8000 (by decide +kernel)
theorem d_8000_1877 {σ : Nat → Nat} {n0 : Nat} {bf : ab_B} : decode (ab_code (zx σ n0 bf).1 8000) 1877 = .ok (.bipush 120, 2) := zd zm_8000 (by decide +kernel)
theorem d_8000_1879 {σ : Nat → Nat} {n0 : Nat} {bf : ab_B} : decode (ab_code (zx σ n0 bf).1 8000) 1879 = .ok (.bastore, 1) := zd zm_8000 (by decide +kernel)
theorem d_8000_1880 {σ : Nat → Nat} {n0 : Nat} {bf : ab_B} : decode (ab_code (zx σ n0 bf).1 8000) 1880 = .ok (.dup, 1) := zd zm_8000 (by decide +kernel)
theorem d_8000_1881 {σ : Nat → Nat} {n0 : Nat} {bf : ab_B} : decode (ab_code (zx σ n0 bf).1 8000) 1881 = .ok (.sipush 284, 3) := zd zm_8000 (by decide +kernel)
theorem d_8000_1884 {σ : Nat → Nat} {n0 : Nat} {bf : ab_B} : decode (ab_code (zx σ n0 bf).1 8000) 1884 = .ok (.bipush 32, 2) := zd zm_8000 (by decide +kernel)
theorem d_8000_1886 {σ : Nat → Nat} {n0 : Nat} {bf : ab_B} : decode (ab_code (zx σ n0 bf).1 8000) 1886 = .ok (.bastore, 1) := zd zm_8000 (by decide +kernel)
theorem d_8000_1887 {σ : Nat → Nat} {n0 : Nat} {bf : ab_B} : decode (ab_code (zx σ n0 bf).1 8000) 1887 = .ok (.dup, 1) := zd zm_8000 (by decide +kernel)
theorem d_8000_1888 {σ : Nat → Nat} {n0 : Nat} {bf : ab_B} : decode (ab_code (zx σ n0 bf).1 8000) 1888 = .ok (.sipush 285, 3) := zd zm_8000 (by decide +kernel)
theorem d_8000_1891 {σ : Nat → Nat} {n0 : Nat} {bf : ab_B} : decode (ab_code (zx σ n0 bf).1 8000) 1891 = .ok (.bipush 115, 2) := zd zm_8000 (by decide +kernel)
theorem d_8000_1893 {σ : Nat → Nat} {n0 : Nat} {bf : ab_B} : decode (ab_code (zx σ n0 bf).1 8000) 1893 = .ok (.bastore, 1) := zd zm_8000 (by decide +kernel)
theorem d_8000_1894 {σ : Nat → Nat} {n0 : Nat} {bf : ab_B} : decode (ab_code (zx σ n0 bf).1 8000) 1894 = .ok (.dup, 1) := zd zm_8000 (by decide +kernel)
theorem d_8000_1895 {σ : Nat → Nat} {n0 : Nat} {bf : ab_B} : decode (ab_code (zx σ n0 bf).1 8000) 1895 = .ok (.sipush 286, 3) := zd zm_8000 (by decide +kernel)
theorem d_8000_1898 {σ : Nat → Nat} {n0 : Nat} {bf : ab_B} : decode (ab_code (zx σ n0 bf).1 8000) 1898 = .ok (.bipush 117, 2) := zd zm_8000 (by decide +kernel)
theorem d_8000_1900 {σ : Nat → Nat} {n0 : Nat} {bf : ab_B} : decode (ab_code (zx σ n0 bf).1 8000) 1900 = .ok (.bastore, 1) := zd zm_8000 (by decide +kernel)
theorem d_8000_1901 {σ : Nat → Nat} {n0 : Nat} {bf : ab_B} : decode (ab_code (zx σ n0 bf).1 8000) 1901 = .ok (.dup, 1) := zd zm_8000 (by decide +kernel)
theorem d_8000_1902 {σ : Nat → Nat} {n0 : Nat} {bf : ab_B} : decode (ab_code (zx σ n0 bf).1 8000) 1902 = .ok (.sipush 287, 3) := zd zm_8000 (by decide +kernel)
theorem d_8000_1905 {σ : Nat → Nat} {n0 : Nat} {bf : ab_B} : decode (ab_code (zx σ n0 bf).1 8000) 1905 = .ok (.bipush 98, 2) := zd zm_8000 (by decide +kernel)
theorem d_8000_1907 {σ : Nat → Nat} {n0 : Nat} {bf : ab_B} : decode (ab_code (zx σ n0 bf).1 8000) 1907 = .ok (.bastore, 1) := zd zm_8000 (by decide +kernel)
theorem d_8000_1908 {σ : Nat → Nat} {n0 : Nat} {bf : ab_B} : decode (ab_code (zx σ n0 bf).1 8000) 1908 = .ok (.dup, 1) := zd zm_8000 (by decide +kernel)
theorem d_8000_1909 {σ : Nat → Nat} {n0 : Nat} {bf : ab_B} : decode (ab_code (zx σ n0 bf).1 8000) 1909 = .ok (.sipush 288, 3) := zd zm_8000 (by decide +kernel)
theorem d_8000_1912 {σ : Nat → Nat} {n0 : Nat} {bf : ab_B} : decode (ab_code (zx σ n0 bf).1 8000) 1912 = .ok (.bipush 115, 2) := zd zm_8000 (by decide +kernel)
theorem d_8000_1914 {σ : Nat → Nat} {n0 : Nat} {bf : ab_B} : decode (ab_code (zx σ n0 bf).1 8000) 1914 = .ok (.bastore, 1) := zd zm_8000 (by decide +kernel)
theorem d_8000_1915 {σ : Nat → Nat} {n0 : Nat} {bf : ab_B} : decode (ab_code (zx σ n0 bf).1 8000) 1915 = .ok (.dup, 1) := zd zm_8000 (by decide +kernel)
theorem d_8000_1916 {σ : Nat → Nat} {n0 : Nat} {bf : ab_B} : decode (ab_code (zx σ n0 bf).1 8000) 1916 = .ok (.sipush 289, 3) := zd zm_8000 (by decide +kernel)
theorem d_8000_1919 {σ : Nat → Nat} {n0 : Nat} {bf : ab_B} : decode (ab_code (zx σ n0 bf).1 8000) 1919 = .ok (.bipush 116, 2) := zd zm_8000 (by decide +kernel)
theorem d_8000_1921 {σ : Nat → Nat} {n0 : Nat} {bf : ab_B} : decode (ab_code (zx σ n0 bf).1 8000) 1921 = .ok (.bastore, 1) := zd zm_8000 (by decide +kernel)
theorem d_8000_1922 {σ : Nat → Nat} {n0 : Nat} {bf : ab_B} : decode (ab_code (zx σ n0 bf).1 8000) 1922 = .ok (.dup, 1) := zd zm_8000 (by decide +kernel)
theorem d_8000_1923 {σ : Nat → Nat} {n0 : Nat} {bf : ab_B} : decode (ab_code (zx σ n0 bf).1 8000) 1923 = .ok (.sipush 290, 3) := zd zm_8000 (by decide +kernel)
theorem d_8000_1926 {σ : Nat → Nat} {n0 : Nat} {bf : ab_B} : decode (ab_code (zx σ n0 bf).1 8000) 1926 = .ok (.bipush 114, 2) := zd zm_8000 (by decide +kernel)
theorem d_8000_1928 {σ : Nat → Nat} {n0 : Nat} {bf : ab_B} : decode (ab_code (zx σ n0 bf).1 8000) 1928 = .ok (.bastore, 1) := zd zm_8000 (by decide +kernel)
theorem d_8000_1929 {σ : Nat → Nat} {n0 : Nat} {bf : ab_B} : decode (ab_code (zx σ n0 bf).1 8000) 1929 = .ok (.dup, 1) := zd zm_8000 (by decide +kernel)
theorem d_8000_1930 {σ : Nat → Nat} {n0 : Nat} {bf : ab_B} : decode (ab_code (zx σ n0 bf).1 8000) 1930 = .ok (.sipush 291, 3) := zd zm_8000 (by decide +kernel)
theorem d_8000_1933 {σ : Nat → Nat} {n0 : Nat} {bf : ab_B} : decode (ab_code (zx σ n0 bf).1 8000) 1933 = .ok (.bipush 32, 2) := zd zm_8000 (by decide +kernel)
theorem d_8000_1935 {σ : Nat → Nat} {n0 : Nat} {bf : ab_B} : decode (ab_code (zx σ n0 bf).1 8000) 1935 = .ok (.bastore, 1) := zd zm_8000 (by decide +kernel)
theorem d_8000_1936 {σ : Nat → Nat} {n0 : Nat} {bf : ab_B} : decode (ab_code (zx σ n0 bf).1 8000) 1936 = .ok (.dup, 1) := zd zm_8000 (by decide +kernel)
theorem d_8000_1937 {σ : Nat → Nat} {n0 : Nat} {bf : ab_B} : decode (ab_code (zx σ n0 bf).1 8000) 1937 = .ok (.sipush 292, 3) := zd zm_8000 (by decide +kernel)
theorem d_8000_1940 {σ : Nat → Nat} {n0 : Nat} {bf : ab_B} : decode (ab_code (zx σ n0 bf).1 8000) 1940 = .ok (.bipush 101, 2) := zd zm_8000 (by decide +kernel)
theorem d_8000_1942 {σ : Nat → Nat} {n0 : Nat} {bf : ab_B} : decode (ab_code (zx σ n0 bf).1 8000) 1942 = .ok (.bastore, 1) := zd zm_8000 (by decide +kernel)
theorem d_8000_1943 {σ : Nat → Nat} {n0 : Nat} {bf : ab_B} : decode (ab_code (zx σ n0 bf).1 8000) 1943 = .ok (.dup, 1) := zd zm_8000 (by decide +kernel)
theorem d_8000_1944 {σ : Nat → Nat} {n0 : Nat} {bf : ab_B} : decode (ab_code (zx σ n0 bf).1 8000) 1944 = .ok (.sipush 293, 3) := zd zm_8000 (by decide +kernel)
theorem d_8000_1947 {σ : Nat → Nat} {n0 : Nat} {bf : ab_B} : decode (ab_code (zx σ n0 bf).1 8000) 1947 = .ok (.bipush 111, 2) := zd zm_8000 (by decide +kernel)
theorem d_8000_1949 {σ : Nat → Nat} {n0 : Nat} {bf : ab_B} : decode (ab_code (zx σ n0 bf).1 8000) 1949 = .ok (.bastore, 1) := zd zm_8000 (by decide +kernel)
theorem d_8000_1950 {σ : Nat → Nat} {n0 : Nat} {bf : ab_B} : decode (ab_code (zx σ n0 bf).1 8000) 1950 = .ok (.dup, 1) := zd zm_8000 (by decide +kernel)
theorem d_8000_1951 {σ : Nat → Nat} {n0 : Nat} {bf : ab_B} : decode (ab_code (zx σ n0 bf).1 8000) 1951 = .ok (.sipush 294, 3) := zd zm_8000 (by decide +kernel)
theorem d_8000_1954 {σ : Nat → Nat} {n0 : Nat} {bf : ab_B} : decode (ab_code (zx σ n0 bf).1 8000) 1954 = .ok (.bipush 102, 2) := zd zm_8000 (by decide +kernel)
theorem d_8000_1956 {σ : Nat → Nat} {n0 : Nat} {bf : ab_B} : decode (ab_code (zx σ n0 bf).1 8000) 1956 = .ok (.bastore, 1) := zd zm_8000 (by decide +kernel)
theorem d_8000_1957 {σ : Nat → Nat} {n0 : Nat} {bf : ab_B} : decode (ab_code (zx σ n0 bf).1 8000) 1957 = .ok (.dup, 1) := zd zm_8000 (by decide +kernel)
theorem d_8000_1958 {σ : Nat → Nat} {n0 : Nat} {bf : ab_B} : decode (ab_code (zx σ n0 bf).1 8000) 1958 = .ok (.sipush 295, 3) := zd zm_8000 (by decide +kernel)
theorem d_8000_1961 {σ : Nat → Nat} {n0 : Nat} {bf : ab_B} : decode (ab_code (zx σ n0 bf).1 8000) 1961 = .ok (.bipush 32, 2) := zd zm_8000 (by decide +kernel)
theorem d_8000_1963 {σ : Nat → Nat} {n0 : Nat} {bf : ab_B} : decode (ab_code (zx σ n0 bf).1 8000) 1963 = .ok (.bastore, 1) := zd zm_8000 (by decide +kernel)
theorem d_8000_1964 {σ : Nat → Nat} {n0 : Nat} {bf : ab_B} : decode (ab_code (zx σ n0 bf).1 8000) 1964 = .ok (.dup, 1) := zd zm_8000 (by decide +kernel)
theorem d_8000_1965 {σ : Nat → Nat} {n0 : Nat} {bf : ab_B} : decode (ab_code (zx σ n0 bf).1 8000) 1965 = .ok (.sipush 296, 3) := zd zm_8000 (by decide +kernel)
theorem d_8000_1968 {σ : Nat → Nat} {n0 : Nat} {bf : ab_B} : decode (ab_code (zx σ n0 bf).1 8000) 1968 = .ok (.bipush 110, 2) := zd zm_8000 (by decide +kernel)
theorem d_8000_1970 {σ : Nat → Nat} {n0 : Nat} {bf : ab_B} : decode (ab_code (zx σ n0 bf).1 8000) 1970 = .ok (.bastore, 1) := zd zm_8000 (by decide +kernel)
theorem d_8000_1971 {σ : Nat → Nat} {n0 : Nat} {bf : ab_B} : decode (ab_code (zx σ n0 bf).1 8000) 1971 = .ok (.dup, 1) := zd zm_8000 (by decide +kernel)
theorem d_8000_1972 {σ : Nat → Nat} {n0 : Nat} {bf : ab_B} : decode (ab_code (zx σ n0 bf).1 8000) 1972 = .ok (.sipush 297, 3) := zd zm_8000 (by decide +kernel)
theorem d_8000_1975 {σ : Nat → Nat} {n0 : Nat} {bf : ab_B} : decode (ab_code (zx σ n0 bf).1 8000) 1975 = .ok (.bipush 101, 2) := zd zm_8000 (by decide +kernel)
theorem d_8000_1977 {σ : Nat → Nat} {n0 : Nat} {bf : ab_B} : decode (ab_code (zx σ n0 bf).1 8000) 1977 = .ok (.bastore, 1) := zd zm_8000 (by decide +kernel)
theorem d_8000_1978 {σ : Nat → Nat} {n0 : Nat} {bf : ab_B} : decode (ab_code (zx σ n0 bf).1 8000) 1978 = .ok (.dup, 1) := zd zm_8000 (by decide +kernel)
theorem d_8000_1979 {σ : Nat → Nat} {n0 : Nat} {bf : ab_B} : decode (ab_code (zx σ n0 bf).1 8000) 1979 = .ok (.sipush 298, 3) := zd zm_8000 (by decide +kernel)
theorem d_8000_1982 {σ : Nat → Nat} {n0 : Nat} {bf : ab_B} : decode (ab_code (zx σ n0 bf).1 8000) 1982 = .ok (.bipush 119, 2) := zd zm_8000 (by decide +kernel)
theorem d_8000_1984 {σ : Nat → Nat} {n0 : Nat} {bf : ab_B} : decode (ab_code (zx σ n0 bf).1 8000) 1984 = .ok (.bastore, 1) := zd zm_8000 (by decide +kernel)
theorem d_8000_1985 {σ : Nat → Nat} {n0 : Nat} {bf : ab_B} : decode (ab_code (zx σ n0 bf).1 8000) 1985 = .ok (.dup, 1) := zd zm_8000 (by decide +kernel)
theorem d_8000_1986 {σ : Nat → Nat} {n0 : Nat} {bf : ab_B} : decode (ab_code (zx σ n0 bf).1 8000) 1986 = .ok (.sipush 299, 3) := zd zm_8000 (by decide +kernel)
theorem d_8000_1989 {σ : Nat → Nat} {n0 : Nat} {bf : ab_B} : decode (ab_code (zx σ n0 bf).1 8000) 1989 = .ok (.bipush 32, 2) := zd zm_8000 (by decide +kernel)
theorem d_8000_1991 {σ : Nat → Nat} {n0 : Nat} {bf : ab_B} : decode (ab_code (zx σ n0 bf).1 8000) 1991 = .ok (.bastore, 1) := zd zm_8000 (by decide +kernel)
theorem d_8000_1992 {σ : Nat → Nat} {n0 : Nat} {bf : ab_B} : decode (ab_code (zx σ n0 bf).1 8000) 1992 = .ok (.dup, 1) := zd zm_8000 (by decide +kernel)
theorem d_8000_1993 {σ : Nat → Nat} {n0 : Nat} {bf : ab_B} : decode (ab_code (zx σ n0 bf).1 8000) 1993 = .ok (.sipush 300, 3) := zd zm_8000 (by decide +kernel)
theorem d_8000_1996 {σ : Nat → Nat} {n0 : Nat} {bf : ab_B} : decode (ab_code (zx σ n0 bf).1 8000) 1996 = .ok (.bipush 100, 2) := zd zm_8000 (by decide +kernel)
theorem d_8000_1998 {σ : Nat → Nat} {n0 : Nat} {bf : ab_B} : decode (ab_code (zx σ n0 bf).1 8000) 1998 = .ok (.bastore, 1) := zd zm_8000 (by decide +kernel)
theorem d_8000_1999 {σ : Nat → Nat} {n0 : Nat} {bf : ab_B} : decode (ab_code (zx σ n0 bf).1 8000) 1999 = .ok (.dup, 1) := zd zm_8000 (by decide +kernel)
theorem d_8000_2000 {σ : Nat → Nat} {n0 : Nat} {bf : ab_B} : decode (ab_code (zx σ n0 bf).1 8000) 2000 = .ok (.sipush 301, 3) := zd zm_8000 (by decide +kernel)
theorem d_8000_2003 {σ : Nat → Nat} {n0 : Nat} {bf : ab_B} : decode (ab_code (zx σ n0 bf).1 8000) 2003 = .ok (.bipush 105, 2) := zd zm_8000 (by decide +kernel)
theorem d_8000_2005 {σ : Nat → Nat} {n0 : Nat} {bf : ab_B} : decode (ab_code (zx σ n0 bf).1 8000) 2005 = .ok (.bastore, 1) := zd zm_8000 (by decide +kernel)
theorem d_8000_2006 {σ : Nat → Nat} {n0 : Nat} {bf : ab_B} : decode (ab_code (zx σ n0 bf).1 8000) 2006 = .ok (.dup, 1) := zd zm_8000 (by decide +kernel)
theorem d_8000_2007 {σ : Nat → Nat} {n0 : Nat} {bf : ab_B} : decode (ab_code (zx σ n0 bf).1 8000) 2007 = .ok (.sipush 302, 3) := zd zm_8000 (by decide +kernel)
theorem d_8000_2010 {σ : Nat → Nat} {n0 : Nat} {bf : ab_B} : decode (ab_code (zx σ n0 bf).1 8000) 2010 = .ok (.bipush 115, 2) := zd zm_8000 (by decide +kernel)
theorem d_8000_2012 {σ : Nat → Nat} {n0 : Nat} {bf : ab_B} : decode (ab_code (zx σ n0 bf).1 8000) 2012 = .ok (.bastore, 1) := zd zm_8000 (by decide +kernel)
theorem d_8000_2013 {σ : Nat → Nat} {n0 : Nat} {bf : ab_B} : decode (ab_code (zx σ n0 bf).1 8000) 2013 = .ok (.dup, 1) := zd zm_8000 (by decide +kernel)
theorem d_8000_2014 {σ : Nat → Nat} {n0 : Nat} {bf : ab_B} : decode (ab_code (zx σ n0 bf).1 8000) 2014 = .ok (.sipush 303, 3) := zd zm_8000 (by decide +kernel)
theorem d_8000_2017 {σ : Nat → Nat} {n0 : Nat} {bf : ab_B} : decode (ab_code (zx σ n0 bf).1 8000) 2017 = .ok (.bipush 112, 2) := zd zm_8000 (by decide +kernel)
theorem d_8000_2019 {σ : Nat → Nat} {n0 : Nat} {bf : ab_B} : decode (ab_code (zx σ n0 bf).1 8000) 2019 = .ok (.bastore, 1) := zd zm_8000 (by decide +kernel)
theorem d_8000_2020 {σ : Nat → Nat} {n0 : Nat} {bf : ab_B} : decode (ab_code (zx σ n0 bf).1 8000) 2020 = .ok (.dup, 1) := zd zm_8000 (by decide +kernel)
theorem d_8000_2021 {σ : Nat → Nat} {n0 : Nat} {bf : ab_B} : decode (ab_code (zx σ n0 bf).1 8000) 2021 = .ok (.sipush 304, 3) := zd zm_8000 (by decide +kernel)
theorem d_8000_2024 {σ : Nat → Nat} {n0 : Nat} {bf : ab_B} : decode (ab_code (zx σ n0 bf).1 8000) 2024 = .ok (.bipush 111, 2) := zd zm_8000 (by decide +kernel)
theorem d_8000_2026 {σ : Nat → Nat} {n0 : Nat} {bf : ab_B} : decode (ab_code (zx σ n0 bf).1 8000) 2026 = .ok (.bastore, 1) := zd zm_8000 (by decide +kernel)
theorem d_8000_2027 {σ : Nat → Nat} {n0 : Nat} {bf : ab_B} : decode (ab_code (zx σ n0 bf).1 8000) 2027 = .ok (.dup, 1) := zd zm_8000 (by decide +kernel)
theorem d_8000_2028 {σ : Nat → Nat} {n0 : Nat} {bf : ab_B} : decode (ab_code (zx σ n0 bf).1 8000) 2028 = .ok (.sipush 305, 3) := zd zm_8000 (by decide +kernel)
theorem d_8000_2031 {σ : Nat → Nat} {n0 : Nat} {bf : ab_B} : decode (ab_code (zx σ n0 bf).1 8000) 2031 = .ok (.bipush 115, 2) := zd zm_8000 (by decide +kernel)
theorem d_8000_2033 {σ : Nat → Nat} {n0 : Nat} {bf : ab_B} : decode (ab_code (zx σ n0 bf).1 8000) 2033 = .ok (.bastore, 1) := zd zm_8000 (by decide +kernel)
theorem d_8000_2034 {σ : Nat → Nat} {n0 : Nat} {bf : ab_B} : decode (ab_code (zx σ n0 bf).1 8000) 2034 = .ok (.dup, 1) := zd zm_8000 (by decide +kernel)
theorem d_8000_2035 {σ : Nat → Nat} {n0 : Nat} {bf : ab_B} : decode (ab_code (zx σ n0 bf).1 8000) 2035 = .ok (.sipush 306, 3) := zd zm_8000 (by decide +kernel)
theorem d_8000_2038 {σ : Nat → Nat} {n0 : Nat} {bf : ab_B} : decode (ab_code (zx σ n0 bf).1 8000) 2038 = .ok (.bipush 101, 2) := zd zm_8000 (by decide +kernel)
theorem d_8000_2040 {σ : Nat → Nat} {n0 : Nat} {bf : ab_B} : decode (ab_code (zx σ n0 bf).1 8000) 2040 = .ok (.bastore, 1) := zd zm_8000 (by decide +kernel)
theorem d_8000_2041 {σ : Nat → Nat} {n0 : Nat} {bf : ab_B} : decode (ab_code (zx σ n0 bf).1 8000) 2041 = .ok (.dup, 1) := zd zm_8000 (by decide +kernel)
theorem d_8000_2042 {σ : Nat → Nat} {n0 : Nat} {bf : ab_B} : decode (ab_code (zx σ n0 bf).1 8000) 2042 = .ok (.sipush 307, 3) := zd zm_8000 (by decide +kernel)
theorem d_8000_2045 {σ : Nat → Nat} {n0 : Nat} {bf : ab_B} : decode (ab_code (zx σ n0 bf).1 8000) 2045 = .ok (.bipush 32, 2) := zd zm_8000 (by decide +kernel)
theorem d_8000_2047 {σ : Nat → Nat} {n0 : Nat} {bf : ab_B} : decode (ab_code (zx σ n0 bf).1 8000) 2047 = .ok (.bastore, 1) := zd zm_8000 (by decide +kernel)
theorem d_8000_2048 {σ : Nat → Nat} {n0 : Nat} {bf : ab_B} : decode (ab_code (zx σ n0 bf).1 8000) 2048 = .ok (.dup, 1) := zd zm_8000 (by decide +kernel)
theorem d_8000_2049 {σ : Nat → Nat} {n0 : Nat} {bf : ab_B} : decode (ab_code (zx σ n0 bf).1 8000) 2049 = .ok (.sipush 308, 3) := zd zm_8000 (by decide +kernel)
theorem d_8000_2052 {σ : Nat → Nat} {n0 : Nat} {bf : ab_B} : decode (ab_code (zx σ n0 bf).1 8000) 2052 = .ok (.bipush 114, 2) := zd zm_8000 (by decide +kernel)
theorem d_8000_2054 {σ : Nat → Nat} {n0 : Nat} {bf : ab_B} : decode (ab_code (zx σ n0 bf).1 8000) 2054 = .ok (.bastore, 1) := zd zm_8000 (by decide +kernel)
theorem d_8000_2055 {σ : Nat → Nat} {n0 : Nat} {bf : ab_B} : decode (ab_code (zx σ n0 bf).1 8000) 2055 = .ok (.dup, 1) := zd zm_8000 (by decide +kernel)
theorem d_8000_2056 {σ : Nat → Nat} {n0 : Nat} {bf : ab_B} : decode (ab_code (zx σ n0 bf).1 8000) 2056 = .ok (.sipush 309, 3) := zd zm_8000 (by decide +kernel)
theorem d_8000_2059 {σ : Nat → Nat} {n0 : Nat} {bf : ab_B} : decode (ab_code (zx σ n0 bf).1 8000) 2059 = .ok (.bipush 101, 2) := zd zm_8000 (by decide +kernel)
theorem d_8000_2061 {σ : Nat → Nat} {n0 : Nat} {bf : ab_B} : decode (ab_code (zx σ n0 bf).1 8000) 2061 = .ok (.bastore, 1) := zd zm_8000 (by decide +kernel)
theorem d_8000_2062 {σ : Nat → Nat} {n0 : Nat} {bf : ab_B} : decode (ab_code (zx σ n0 bf).1 8000) 2062 = .ok (.dup, 1) := zd zm_8000 (by decide +kernel)
theorem d_8000_2063 {σ : Nat → Nat} {n0 : Nat} {bf : ab_B} : decode (ab_code (zx σ n0 bf).1 8000) 2063 = .ok (.sipush 310, 3) := zd zm_8000 (by decide +kernel)
theorem d_8000_2066 {σ : Nat → Nat} {n0 : Nat} {bf : ab_B} : decode (ab_code (zx σ n0 bf).1 8000) 2066 = .ok (.bipush 97, 2) := zd zm_8000 (by decide +kernel)
theorem d_8000_2068 {σ : Nat → Nat} {n0 : Nat} {bf : ab_B} : decode (ab_code (zx σ n0 bf).1 8000) 2068 = .ok (.bastore, 1) := zd zm_8000 (by decide +kernel)
theorem d_8000_2069 {σ : Nat → Nat} {n0 : Nat} {bf : ab_B} : decode (ab_code (zx σ n0 bf).1 8000) 2069 = .ok (.dup, 1) := zd zm_8000 (by decide +kernel)
theorem d_8000_2070 {σ : Nat → Nat} {n0 : Nat} {bf : ab_B} : decode (ab_code (zx σ n0 bf).1 8000) 2070 = .ok (.sipush 311, 3) := zd zm_8000 (by decide +kernel)
theorem d_8000_2073 {σ : Nat → Nat} {n0 : Nat} {bf : ab_B} : decode (ab_code (zx σ n0 bf).1 8000) 2073 = .ok (.bipush 100, 2) := zd zm_8000 (by decide +kernel)
theorem d_8000_2075 {σ : Nat → Nat} {n0 : Nat} {bf : ab_B} : decode (ab_code (zx σ n0 bf).1 8000) 2075 = .ok (.bastore, 1) := zd zm_8000 (by decide +kernel)
theorem d_8000_2076 {σ : Nat → Nat} {n0 : Nat} {bf : ab_B} : decode (ab_code (zx σ n0 bf).1 8000) 2076 = .ok (.dup, 1) := zd zm_8000 (by decide +kernel)
theorem d_8000_2077 {σ : Nat → Nat} {n0 : Nat} {bf : ab_B} : decode (ab_code (zx σ n0 bf).1 8000) 2077 = .ok (.sipush 312, 3) := zd zm_8000 (by decide +kernel)
theorem d_8000_2080 {σ : Nat → Nat} {n0 : Nat} {bf : ab_B} : decode (ab_code (zx σ n0 bf).1 8000) 2080 = .ok (.bipush 32, 2) := zd zm_8000 (by decide +kernel)
theorem d_8000_2082 {σ : Nat → Nat} {n0 : Nat} {bf : ab_B} : decode (ab_code (zx σ n0 bf).1 8000) 2082 = .ok (.bastore, 1) := zd zm_8000 (by decide +kernel)
theorem d_8000_2083 {σ : Nat → Nat} {n0 : Nat} {bf : ab_B} : decode (ab_code (zx σ n0 bf).1 8000) 2083 = .ok (.dup, 1) := zd zm_8000 (by decide +kernel)
theorem d_8000_2084 {σ : Nat → Nat} {n0 : Nat} {bf : ab_B} : decode (ab_code (zx σ n0 bf).1 8000) 2084 = .ok (.sipush 313, 3) := zd zm_8000 (by decide +kernel)
theorem d_8000_2087 {σ : Nat → Nat} {n0 : Nat} {bf : ab_B} : decode (ab_code (zx σ n0 bf).1 8000) 2087 = .ok (.bipush 119, 2) := zd zm_8000 (by decide +kernel)
theorem d_8000_2089 {σ : Nat → Nat} {n0 : Nat} {bf : ab_B} : decode (ab_code (zx σ n0 bf).1 8000) 2089 = .ok (.bastore, 1) := zd zm_8000 (by decide +kernel)
theorem d_8000_2090 {σ : Nat → Nat} {n0 : Nat} {bf : ab_B} : decode (ab_code (zx σ n0 bf).1 8000) 2090 = .ok (.dup, 1) := zd zm_8000 (by decide +kernel)
theorem d_8000_2091 {σ : Nat → Nat} {n0 : Nat} {bf : ab_B} : decode (ab_code (zx σ n0 bf).1 8000) 2091 = .ok (.sipush 314, 3) := zd zm_8000 (by decide +kernel)
theorem d_8000_2094 {σ : Nat → Nat} {n0 : Nat} {bf : ab_B} : decode (ab_code (zx σ n0 bf).1 8000) 2094 = .ok (.bipush 114, 2) := zd zm_8000 (by decide +kernel)
theorem d_8000_2096 {σ : Nat → Nat} {n0 : Nat} {bf : ab_B} : decode (ab_code (zx σ n0 bf).1 8000) 2096 = .ok (.bastore, 1) := zd zm_8000 (by decide +kernel)
theorem d_8000_2097 {σ : Nat → Nat} {n0 : Nat} {bf : ab_B} : decode (ab_code (zx σ n0 bf).1 8000) 2097 = .ok (.dup, 1) := zd zm_8000 (by decide +kernel)
theorem d_8000_2098 {σ : Nat → Nat} {n0 : Nat} {bf : ab_B} : decode (ab_code (zx σ n0 bf).1 8000) 2098 = .ok (.sipush 315, 3) := zd zm_8000 (by decide +kernel)
theorem d_8000_2101 {σ : Nat → Nat} {n0 : Nat} {bf : ab_B} : decode (ab_code (zx σ n0 bf).1 8000) 2101 = .ok (.bipush 105, 2) := zd zm_8000 (by decide +kernel)
theorem d_8000_2103 {σ : Nat → Nat} {n0 : Nat} {bf : ab_B} : decode (ab_code (zx σ n0 bf).1 8000) 2103 = .ok (.bastore, 1) := zd zm_8000 (by decide +kernel)
theorem d_8000_2104 {σ : Nat → Nat} {n0 : Nat} {bf : ab_B} : decode (ab_code (zx σ n0 bf).1 8000) 2104 = .ok (.dup, 1) := zd zm_8000 (by decide +kernel)
theorem d_8000_2105 {σ : Nat → Nat} {n0 : Nat} {bf : ab_B} : decode (ab_code (zx σ n0 bf).1 8000) 2105 = .ok (.sipush 316, 3) := zd zm_8000 (by decide +kernel)
theorem d_8000_2108 {σ : Nat → Nat} {n0 : Nat} {bf : ab_B} : decode (ab_code (zx σ n0 bf).1 8000) 2108 = .ok (.bipush 116, 2) := zd zm_8000 (by decide +kernel)
theorem d_8000_2110 {σ : Nat → Nat} {n0 : Nat} {bf : ab_B} : decode (ab_code (zx σ n0 bf).1 8000) 2110 = .ok (.bastore, 1) := zd zm_8000 (by decide +kernel)
theorem d_8000_2111 {σ : Nat → Nat} {n0 : Nat} {bf : ab_B} : decode (ab_code (zx σ n0 bf).1 8000) 2111 = .ok (.dup, 1) := zd zm_8000 (by decide +kernel)
theorem d_8000_2112 {σ : Nat → Nat} {n0 : Nat} {bf : ab_B} : decode (ab_code (zx σ n0 bf).1 8000) 2112 = .ok (.sipush 317, 3) := zd zm_8000 (by decide +kernel)
theorem d_8000_2115 {σ : Nat → Nat} {n0 : Nat} {bf : ab_B} : decode (ab_code (zx σ n0 bf).1 8000) 2115 = .ok (.bipush 101, 2) := zd zm_8000 (by decide +kernel)
theorem d_8000_2117 {σ : Nat → Nat} {n0 : Nat} {bf : ab_B} : decode (ab_code (zx σ n0 bf).1 8000) 2117 = .ok (.bastore, 1) := zd zm_8000 (by decide +kernel)
theorem d_8000_2118 {σ : Nat → Nat} {n0 : Nat} {bf : ab_B} : decode (ab_code (zx σ n0 bf).1 8000) 2118 = .ok (.dup, 1) := zd zm_8000 (by decide +kernel)
theorem d_8000_2119 {σ : Nat → Nat} {n0 : Nat} {bf : ab_B} : decode (ab_code (zx σ n0 bf).1 8000) 2119 = .ok (.sipush 318, 3) := zd zm_8000 (by decide +kernel)
theorem d_8000_2122 {σ : Nat → Nat} {n0 : Nat} {bf : ab_B} : decode (ab_code (zx σ n0 bf).1 8000) 2122 = .ok (.bipush 32, 2) := zd zm_8000 (by decide +kernel)
theorem d_8000_2124 {σ : Nat → Nat} {n0 : Nat} {bf : ab_B} : decode (ab_code (zx σ n0 bf).1 8000) 2124 = .ok (.bastore, 1) := zd zm_8000 (by decide +kernel)
theorem d_8000_2125 {σ : Nat → Nat} {n0 : Nat} {bf : ab_B} : decode (ab_code (zx σ n0 bf).1 8000) 2125 = .ok (.dup, 1) := zd zm_8000 (by decide +kernel)
theorem d_8000_2126 {σ : Nat → Nat} {n0 : Nat} {bf : ab_B} : decode (ab_code (zx σ n0 bf).1 8000) 2126 = .ok (.sipush 319, 3) := zd zm_8000 (by decide +kernel)
theorem d_8000_2129 {σ : Nat → Nat} {n0 : Nat} {bf : ab_B} : decode (ab_code (zx σ n0 bf).1 8000) 2129 = .ok (.bipush 119, 2) := zd zm_8000 (by decide +kernel)
theorem d_8000_2131 {σ : Nat → Nat} {n0 : Nat} {bf : ab_B} : decode (ab_code (zx σ n0 bf).1 8000) 2131 = .ok (.bastore, 1) := zd zm_8000 (by decide +kernel)
theorem d_8000_2132 {σ : Nat → Nat} {n0 : Nat} {bf : ab_B} : decode (ab_code (zx σ n0 bf).1 8000) 2132 = .ok (.dup, 1) := zd zm_8000 (by decide +kernel)
theorem d_8000_2133 {σ : Nat → Nat} {n0 : Nat} {bf : ab_B} : decode (ab_code (zx σ n0 bf).1 8000) 2133 = .ok (.sipush 320, 3) := zd zm_8000 (by decide +kernel)
theorem d_8000_2136 {σ : Nat → Nat} {n0 : Nat} {bf : ab_B} : decode (ab_code (zx σ n0 bf).1 8000) 2136 = .ok (.bipush 114, 2) := zd zm_8000 (by decide +kernel)
theorem d_8000_2138 {σ : Nat → Nat} {n0 : Nat} {bf : ab_B} : decode (ab_code (zx σ n0 bf).1 8000) 2138 = .ok (.bastore, 1) := zd zm_8000 (by decide +kernel)
theorem d_8000_2139 {σ : Nat → Nat} {n0 : Nat} {bf : ab_B} : decode (ab_code (zx σ n0 bf).1 8000) 2139 = .ok (.dup, 1) := zd zm_8000 (by decide +kernel)
theorem d_8000_2140 {σ : Nat → Nat} {n0 : Nat} {bf : ab_B} : decode (ab_code (zx σ n0 bf).1 8000) 2140 = .ok (.sipush 321, 3) := zd zm_8000 (by decide +kernel)
theorem d_8000_2143 {σ : Nat → Nat} {n0 : Nat} {bf : ab_B} : decode (ab_code (zx σ n0 bf).1 8000) 2143 = .ok (.bipush 105, 2) := zd zm_8000 (by decide +kernel)
theorem d_8000_2145 {σ : Nat → Nat} {n0 : Nat} {bf : ab_B} : decode (ab_code (zx σ n0 bf).1 8000) 2145 = .ok (.bastore, 1) := zd zm_8000 (by decide +kernel)
theorem d_8000_2146 {σ : Nat → Nat} {n0 : Nat} {bf : ab_B} : decode (ab_code (zx σ n0 bf).1 8000) 2146 = .ok (.dup, 1) := zd zm_8000 (by decide +kernel)
theorem d_8000_2147 {σ : Nat → Nat} {n0 : Nat} {bf : ab_B} : decode (ab_code (zx σ n0 bf).1 8000) 2147 = .ok (.sipush 322, 3) := zd zm_8000 (by decide +kernel)
theorem d_8000_2150 {σ : Nat → Nat} {n0 : Nat} {bf : ab_B} : decode (ab_code (zx σ n0 bf).1 8000) 2150 = .ok (.bipush 116, 2) := zd zm_8000 (by decide +kernel)
theorem d_8000_2152 {σ : Nat → Nat} {n0 : Nat} {bf : ab_B} : decode (ab_code (zx σ n0 bf).1 8000) 2152 = .ok (.bastore, 1) := zd zm_8000 (by decide +kernel)
theorem d_8000_2153 {σ : Nat → Nat} {n0 : Nat} {bf : ab_B} : decode (ab_code (zx σ n0 bf).1 8000) 2153 = .ok (.dup, 1) := zd zm_8000 (by decide +kernel)
theorem d_8000_2154 {σ : Nat → Nat} {n0 : Nat} {bf : ab_B} : decode (ab_code (zx σ n0 bf).1 8000) 2154 = .ok (.sipush 323, 3) := zd zm_8000 (by decide +kernel)
theorem d_8000_2157 {σ : Nat → Nat} {n0 : Nat} {bf : ab_B} : decode (ab_code (zx σ n0 bf).1 8000) 2157 = .ok (.bipush 101, 2) := zd zm_8000 (by decide +kernel)
theorem d_8000_2159 {σ : Nat → Nat} {n0 : Nat} {bf : ab_B} : decode (ab_code (zx σ n0 bf).1 8000) 2159 = .ok (.bastore, 1) := zd zm_8000 (by decide +kernel)
theorem d_8000_2160 {σ : Nat → Nat} {n0 : Nat} {bf : ab_B} : decode (ab_code (zx σ n0 bf).1 8000) 2160 = .ok (.dup, 1) := zd zm_8000 (by decide +kernel)
theorem d_8000_2161 {σ : Nat → Nat} {n0 : Nat} {bf : ab_B} : decode (ab_code (zx σ n0 bf).1 8000) 2161 = .ok (.sipush 324, 3) := zd zm_8000 (by decide +kernel)
theorem d_8000_2164 {σ : Nat → Nat} {n0 : Nat} {bf : ab_B} : decode (ab_code (zx σ n0 bf).1 8000) 2164 = .ok (.bipush 108, 2) := zd zm_8000 (by decide +kernel)
theorem d_8000_2166 {σ : Nat → Nat} {n0 : Nat} {bf : ab_B} : decode (ab_code (zx σ n0 bf).1 8000) 2166 = .ok (.bastore, 1) := zd zm_8000 (by decide +kernel)
theorem d_8000_2167 {σ : Nat → Nat} {n0 : Nat} {bf : ab_B} : decode (ab_code (zx σ n0 bf).1 8000) 2167 = .ok (.dup, 1) := zd zm_8000 (by decide +kernel)
theorem d_8000_2168 {σ : Nat → Nat} {n0 : Nat} {bf : ab_B} : decode (ab_code (zx σ n0 bf).1 8000) 2168 = .ok (.sipush 325, 3) := zd zm_8000 (by decide +kernel)
theorem d_8000_2171 {σ : Nat → Nat} {n0 : Nat} {bf : ab_B} : decode (ab_code (zx σ n0 bf).1 8000) 2171 = .ok (.bipush 110, 2) := zd zm_8000 (by decide +kernel)
theorem d_8000_2173 {σ : Nat → Nat} {n0 : Nat} {bf : ab_B} : decode (ab_code (zx σ n0 bf).1 8000) 2173 = .ok (.bastore, 1) := zd zm_8000 (by decide +kernel)
theorem d_8000_2174 {σ : Nat → Nat} {n0 : Nat} {bf : ab_B} : decode (ab_code (zx σ n0 bf).1 8000) 2174 = .ok (.dup, 1) := zd zm_8000 (by decide +kernel)
theorem d_8000_2175 {σ : Nat → Nat} {n0 : Nat} {bf : ab_B} : decode (ab_code (zx σ n0 bf).1 8000) 2175 = .ok (.sipush 326, 3) := zd zm_8000 (by decide +kernel)
theorem d_8000_2178 {σ : Nat → Nat} {n0 : Nat} {bf : ab_B} : decode (ab_code (zx σ n0 bf).1 8000) 2178 = .ok (.bipush 32, 2) := zd zm_8000 (by decide +kernel)
theorem d_8000_2180 {σ : Nat → Nat} {n0 : Nat} {bf : ab_B} : decode (ab_code (zx σ n0 bf).1 8000) 2180 = .ok (.bastore, 1) := zd zm_8000 (by decide +kernel)
theorem d_8000_2181 {σ : Nat → Nat} {n0 : Nat} {bf : ab_B} : decode (ab_code (zx σ n0 bf).1 8000) 2181 = .ok (.dup, 1) := zd zm_8000 (by decide +kernel)
theorem d_8000_2182 {σ : Nat → Nat} {n0 : Nat} {bf : ab_B} : decode (ab_code (zx σ n0 bf).1 8000) 2182 = .ok (.sipush 327, 3) := zd zm_8000 (by decide +kernel)
theorem d_8000_2185 {σ : Nat → Nat} {n0 : Nat} {bf : ab_B} : decode (ab_code (zx σ n0 bf).1 8000) 2185 = .ok (.bipush 104, 2) := zd zm_8000 (by decide +kernel)
theorem d_8000_2187 {σ : Nat → Nat} {n0 : Nat} {bf : ab_B} : decode (ab_code (zx σ n0 bf).1 8000) 2187 = .ok (.bastore, 1) := zd zm_8000 (by decide +kernel)
theorem d_8000_2188 {σ : Nat → Nat} {n0 : Nat} {bf : ab_B} : decode (ab_code (zx σ n0 bf).1 8000) 2188 = .ok (.dup, 1) := zd zm_8000 (by decide +kernel)
theorem d_8000_2189 {σ : Nat → Nat} {n0 : Nat} {bf : ab_B} : decode (ab_code (zx σ n0 bf).1 8000) 2189 = .ok (.sipush 328, 3) := zd zm_8000 (by decide +kernel)
theorem d_8000_2192 {σ : Nat → Nat} {n0 : Nat} {bf : ab_B} : decode (ab_code (zx σ n0 bf).1 8000) 2192 = .ok (.bipush 97, 2) := zd zm_8000 (by decide +kernel)
theorem d_8000_2194 {σ : Nat → Nat} {n0 : Nat} {bf : ab_B} : decode (ab_code (zx σ n0 bf).1 8000) 2194 = .ok (.bastore, 1) := zd zm_8000 (by decide +kernel)
theorem d_8000_2195 {σ : Nat → Nat} {n0 : Nat} {bf : ab_B} : decode (ab_code (zx σ n0 bf).1 8000) 2195 = .ok (.dup, 1) := zd zm_8000 (by decide +kernel)
theorem d_8000_2196 {σ : Nat → Nat} {n0 : Nat} {bf : ab_B} : decode (ab_code (zx σ n0 bf).1 8000) 2196 = .ok (.sipush 329, 3) := zd zm_8000 (by decide +kernel)
theorem d_8000_2199 {σ : Nat → Nat} {n0 : Nat} {bf : ab_B} : decode (ab_code (zx σ n0 bf).1 8000) 2199 = .ok (.bipush 108, 2) := zd zm_8000 (by decide +kernel)
theorem d_8000_2201 {σ : Nat → Nat} {n0 : Nat} {bf : ab_B} : decode (ab_code (zx σ n0 bf).1 8000) 2201 = .ok (.bastore, 1) := zd zm_8000 (by decide +kernel)
theorem d_8000_2202 {σ : Nat → Nat} {n0 : Nat} {bf : ab_B} : decode (ab_code (zx σ n0 bf).1 8000) 2202 = .ok (.dup, 1) := zd zm_8000 (by decide +kernel)
theorem d_8000_2203 {σ : Nat → Nat} {n0 : Nat} {bf : ab_B} : decode (ab_code (zx σ n0 bf).1 8000) 2203 = .ok (.sipush 330, 3) := zd zm_8000 (by decide +kernel)
theorem d_8000_2206 {σ : Nat → Nat} {n0 : Nat} {bf : ab_B} : decode (ab_code (zx σ n0 bf).1 8000) 2206 = .ok (.bipush 116, 2) := zd zm_8000 (by decide +kernel)
theorem d_8000_2208 {σ : Nat → Nat} {n0 : Nat} {bf : ab_B} : decode (ab_code (zx σ n0 bf).1 8000) 2208 = .ok (.bastore, 1) := zd zm_8000 (by decide +kernel)
theorem d_8000_2209 {σ : Nat → Nat} {n0 : Nat} {bf : ab_B} : decode (ab_code (zx σ n0 bf).1 8000) 2209 = .ok (.dup, 1) := zd zm_8000 (by decide +kernel)
theorem d_8000_2210 {σ : Nat → Nat} {n0 : Nat} {bf : ab_B} : decode (ab_code (zx σ n0 bf).1 8000) 2210 = .ok (.sipush 331, 3) := zd zm_8000 (by decide +kernel)
theorem d_8000_2213 {σ : Nat → Nat} {n0 : Nat} {bf : ab_B} : decode (ab_code (zx σ n0 bf).1 8000) 2213 = .ok (.bipush 32, 2) := zd zm_8000 (by decide +kernel)
theorem d_8000_2215 {σ : Nat → Nat} {n0 : Nat} {bf : ab_B} : decode (ab_code (zx σ n0 bf).1 8000) 2215 = .ok (.bastore, 1) := zd zm_8000 (by decide +kernel)
theorem d_8000_2216 {σ : Nat → Nat} {n0 : Nat} {bf : ab_B} : decode (ab_code (zx σ n0 bf).1 8000) 2216 = .ok (.putfield 17, 3) := zd zm_8000 (by decide +kernel)
theorem d_8000_2219 {σ : Nat → Nat} {n0 : Nat} {bf : ab_B} : decode (ab_code (zx σ n0 bf).1 8000) 2219 = .ok (.aload_n 0, 1) := zd zm_8000 (by decide +kernel)
theorem d_8000_2220 {σ : Nat → Nat} {n0 : Nat} {bf : ab_B} : decode (ab_code (zx σ n0 bf).1 8000) 2220 = .ok (.ldc 20, 2) := zd zm_8000 (by decide +kernel)
theorem d_8000_2222 {σ : Nat → Nat} {n0 : Nat} {bf : ab_B} : decode (ab_code (zx σ n0 bf).1 8000) 2222 = .ok (.newarray .byte, 2) := zd zm_8000 (by decide +kernel)
theorem d_8000_2224 {σ : Nat → Nat} {n0 : Nat} {bf : ab_B} : decode (ab_code (zx σ n0 bf).1 8000) 2224 = .ok (.putfield 21, 3) := zd zm_8000 (by decide +kernel)
theorem d_8000_2227 {σ : Nat → Nat} {n0 : Nat} {bf : ab_B} : decode (ab_code (zx σ n0 bf).1 8000) 2227 = .ok (.aload_n 0, 1) := zd zm_8000 (by decide +kernel)
theorem d_8000_2228 {σ : Nat → Nat} {n0 : Nat} {bf : ab_B} : decode (ab_code (zx σ n0 bf).1 8000) 2228 = .ok (.sipush 17000, 3) := zd zm_8000 (by decide +kernel)
theorem d_8000_2231 {σ : Nat → Nat} {n0 : Nat} {bf : ab_B} : decode (ab_code (zx σ n0 bf).1 8000) 2231 = .ok (.newarray .int, 2) := zd zm_8000 (by decide +kernel)
theorem d_8000_2233 {σ : Nat → Nat} {n0 : Nat} {bf : ab_B} : decode (ab_code (zx σ n0 bf).1 8000) 2233 = .ok (.putfield 24, 3) := zd zm_8000 (by decide +kernel)
theorem d_8000_2236 {σ : Nat → Nat} {n0 : Nat} {bf : ab_B} : decode (ab_code (zx σ n0 bf).1 8000) 2236 = .ok (.aload_n 0, 1) := zd zm_8000 (by decide +kernel)
theorem d_8000_2237 {σ : Nat → Nat} {n0 : Nat} {bf : ab_B} : decode (ab_code (zx σ n0 bf).1 8000) 2237 = .ok (.sipush 17000, 3) := zd zm_8000 (by decide +kernel)
theorem d_8000_2240 {σ : Nat → Nat} {n0 : Nat} {bf : ab_B} : decode (ab_code (zx σ n0 bf).1 8000) 2240 = .ok (.newarray .byte, 2) := zd zm_8000 (by decide +kernel)
theorem d_8000_2242 {σ : Nat → Nat} {n0 : Nat} {bf : ab_B} : decode (ab_code (zx σ n0 bf).1 8000) 2242 = .ok (.putfield 28, 3) := zd zm_8000 (by decide +kernel)
theorem d_8000_2245 {σ : Nat → Nat} {n0 : Nat} {bf : ab_B} : decode (ab_code (zx σ n0 bf).1 8000) 2245 = .ok (.aload_n 0, 1) := zd zm_8000 (by decide +kernel)
theorem d_8000_2246 {σ : Nat → Nat} {n0 : Nat} {bf : ab_B} : decode (ab_code (zx σ n0 bf).1 8000) 2246 = .ok (.sipush 17000, 3) := zd zm_8000 (by decide +kernel)
theorem d_8000_2249 {σ : Nat → Nat} {n0 : Nat} {bf : ab_B} : decode (ab_code (zx σ n0 bf).1 8000) 2249 = .ok (.newarray .int, 2) := zd zm_8000 (by decide +kernel)
theorem d_8000_2251 {σ : Nat → Nat} {n0 : Nat} {bf : ab_B} : decode (ab_code (zx σ n0 bf).1 8000) 2251 = .ok (.putfield 31, 3) := zd zm_8000 (by decide +kernel)
theorem d_8000_2254 {σ : Nat → Nat} {n0 : Nat} {bf : ab_B} : decode (ab_code (zx σ n0 bf).1 8000) 2254 = .ok (.aload_n 0, 1) := zd zm_8000 (by decide +kernel)
theorem d_8000_2255 {σ : Nat → Nat} {n0 : Nat} {bf : ab_B} : decode (ab_code (zx σ n0 bf).1 8000) 2255 = .ok (.sipush 4096, 3) := zd zm_8000 (by decide +kernel)
theorem d_8000_2258 {σ : Nat → Nat} {n0 : Nat} {bf : ab_B} : decode (ab_code (zx σ n0 bf).1 8000) 2258 = .ok (.newarray .int, 2) := zd zm_8000 (by decide +kernel)
theorem d_8000_2260 {σ : Nat → Nat} {n0 : Nat} {bf : ab_B} : decode (ab_code (zx σ n0 bf).1 8000) 2260 = .ok (.putfield 34, 3) := zd zm_8000 (by decide +kernel)
theorem d_8000_2263 {σ : Nat → Nat} {n0 : Nat} {bf : ab_B} : decode (ab_code (zx σ n0 bf).1 8000) 2263 = .ok (.aload_n 0, 1) := zd zm_8000 (by decide +kernel)
theorem d_8000_2264 {σ : Nat → Nat} {n0 : Nat} {bf : ab_B} : decode (ab_code (zx σ n0 bf).1 8000) 2264 = .ok (.sipush 17000, 3) := zd zm_8000 (by decide +kernel)
theorem d_8000_2267 {σ : Nat → Nat} {n0 : Nat} {bf : ab_B} : decode (ab_code (zx σ n0 bf).1 8000) 2267 = .ok (.newarray .int, 2) := zd zm_8000 (by decide +kernel)
theorem d_8000_2269 {σ : Nat → Nat} {n0 : Nat} {bf : ab_B} : decode (ab_code (zx σ n0 bf).1 8000) 2269 = .ok (.putfield 37, 3) := zd zm_8000 (by decide +kernel)
theorem d_8000_2272 {σ : Nat → Nat} {n0 : Nat} {bf : ab_B} : decode (ab_code (zx σ n0 bf).1 8000) 2272 = .ok (.aload_n 0, 1) := zd zm_8000 (by decide +kernel)
theorem d_8000_2273 {σ : Nat → Nat} {n0 : Nat} {bf : ab_B} : decode (ab_code (zx σ n0 bf).1 8000) 2273 = .ok (.ldc 40, 2) := zd zm_8000 (by decide +kernel)
theorem d_8000_2275 {σ : Nat → Nat} {n0 : Nat} {bf : ab_B} : decode (ab_code (zx σ n0 bf).1 8000) 2275 = .ok (.newarray .byte, 2) := zd zm_8000 (by decide +kernel)
theorem d_8000_2277 {σ : Nat → Nat} {n0 : Nat} {bf : ab_B} : decode (ab_code (zx σ n0 bf).1 8000) 2277 = .ok (.putfield 41, 3) := zd zm_8000 (by decide +kernel)
theorem d_8000_2280 {σ : Nat → Nat} {n0 : Nat} {bf : ab_B} : decode (ab_code (zx σ n0 bf).1 8000) 2280 = .ok (.aload_n 0, 1) := zd zm_8000 (by decide +kernel)
theorem d_8000_2281 {σ : Nat → Nat} {n0 : Nat} {bf : ab_B} : decode (ab_code (zx σ n0 bf).1 8000) 2281 = .ok (.sipush 20000, 3) := zd zm_8000 (by decide +kernel)
theorem d_8000_2284 {σ : Nat → Nat} {n0 : Nat} {bf : ab_B} : decode (ab_code (zx σ n0 bf).1 8000) 2284 = .ok (.newarray .byte, 2) := zd zm_8000 (by decide +kernel)
theorem d_8000_2286 {σ : Nat → Nat} {n0 : Nat} {bf : ab_B} : decode (ab_code (zx σ n0 bf).1 8000) 2286 = .ok (.putfield 44, 3) := zd zm_8000 (by decide +kernel)
theorem d_8000_2289 {σ : Nat → Nat} {n0 : Nat} {bf : ab_B} : decode (ab_code (zx σ n0 bf).1 8000) 2289 = .ok (.aload_n 0, 1) := zd zm_8000 (by decide +kernel)
theorem d_8000_2290 {σ : Nat → Nat} {n0 : Nat} {bf : ab_B} : decode (ab_code (zx σ n0 bf).1 8000) 2290 = .ok (.sipush 20000, 3) := zd zm_8000 (by decide +kernel)
theorem d_8000_2293 {σ : Nat → Nat} {n0 : Nat} {bf : ab_B} : decode (ab_code (zx σ n0 bf).1 8000) 2293 = .ok (.newarray .int, 2) := zd zm_8000 (by decide +kernel)
theorem d_8000_2295 {σ : Nat → Nat} {n0 : Nat} {bf : ab_B} : decode (ab_code (zx σ n0 bf).1 8000) 2295 = .ok (.putfield 47, 3) := zd zm_8000 (by decide +kernel)
theorem d_8000_2298 {σ : Nat → Nat} {n0 : Nat} {bf : ab_B} : decode (ab_code (zx σ n0 bf).1 8000) 2298 = .ok (.aload_n 0, 1) := zd zm_8000 (by decide +kernel)
theorem d_8000_2299 {σ : Nat → Nat} {n0 : Nat} {bf : ab_B} : decode (ab_code (zx σ n0 bf).1 8000) 2299 = .ok (.sipush 20000, 3) := zd zm_8000 (by decide +kernel)
theorem d_8000_2302 {σ : Nat → Nat} {n0 : Nat} {bf : ab_B} : decode (ab_code (zx σ n0 bf).1 8000) 2302 = .ok (.newarray .int, 2) := zd zm_8000 (by decide +kernel)
theorem d_8000_2304 {σ : Nat → Nat} {n0 : Nat} {bf : ab_B} : decode (ab_code (zx σ n0 bf).1 8000) 2304 = .ok (.putfield 50, 3) := zd zm_8000 (by decide +kernel)
theorem d_8000_2307 {σ : Nat → Nat} {n0 : Nat} {bf : ab_B} : decode (ab_code (zx σ n0 bf).1 8000) 2307 = .ok (.aload_n 0, 1) := zd zm_8000 (by decide +kernel)
theorem d_8000_2308 {σ : Nat → Nat} {n0 : Nat} {bf : ab_B} : decode (ab_code (zx σ n0 bf).1 8000) 2308 = .ok (.sipush 20000, 3) := zd zm_8000 (by decide +kernel)
theorem d_8000_2311 {σ : Nat → Nat} {n0 : Nat} {bf : ab_B} : decode (ab_code (zx σ n0 bf).1 8000) 2311 = .ok (.newarray .int, 2) := zd zm_8000 (by decide +kernel)
theorem d_8000_2313 {σ : Nat → Nat} {n0 : Nat} {bf : ab_B} : decode (ab_code (zx σ n0 bf).1 8000) 2313 = .ok (.putfield 53, 3) := zd zm_8000 (by decide +kernel)
theorem d_8000_2316 {σ : Nat → Nat} {n0 : Nat} {bf : ab_B} : decode (ab_code (zx σ n0 bf).1 8000) 2316 = .ok (.aload_n 0, 1) := zd zm_8000 (by decide +kernel)
theorem d_8000_2317 {σ : Nat → Nat} {n0 : Nat} {bf : ab_B} : decode (ab_code (zx σ n0 bf).1 8000) 2317 = .ok (.sipush 20000, 3) := zd zm_8000 (by decide +kernel)
theorem d_8000_2320 {σ : Nat → Nat} {n0 : Nat} {bf : ab_B} : decode (ab_code (zx σ n0 bf).1 8000) 2320 = .ok (.newarray .int, 2) := zd zm_8000 (by decide +kernel)
theorem d_8000_2322 {σ : Nat → Nat} {n0 : Nat} {bf : ab_B} : decode (ab_code (zx σ n0 bf).1 8000) 2322 = .ok (.putfield 56, 3) := zd zm_8000 (by decide +kernel)
theorem d_8000_2325 {σ : Nat → Nat} {n0 : Nat} {bf : ab_B} : decode (ab_code (zx σ n0 bf).1 8000) 2325 = .ok (.aload_n 0, 1) := zd zm_8000 (by decide +kernel)
theorem d_8000_2326 {σ : Nat → Nat} {n0 : Nat} {bf : ab_B} : decode (ab_code (zx σ n0 bf).1 8000) 2326 = .ok (.sipush 20000, 3) := zd zm_8000 (by decide +kernel)
theorem d_8000_2329 {σ : Nat → Nat} {n0 : Nat} {bf : ab_B} : decode (ab_code (zx σ n0 bf).1 8000) 2329 = .ok (.newarray .int, 2) := zd zm_8000 (by decide +kernel)
theorem d_8000_2331 {σ : Nat → Nat} {n0 : Nat} {bf : ab_B} : decode (ab_code (zx σ n0 bf).1 8000) 2331 = .ok (.putfield 59, 3) := zd zm_8000 (by decide +kernel)
theorem d_8000_2334 {σ : Nat → Nat} {n0 : Nat} {bf : ab_B} : decode (ab_code (zx σ n0 bf).1 8000) 2334 = .ok (.aload_n 0, 1) := zd zm_8000 (by decide +kernel)
theorem d_8000_2335 {σ : Nat → Nat} {n0 : Nat} {bf : ab_B} : decode (ab_code (zx σ n0 bf).1 8000) 2335 = .ok (.sipush 20000, 3) := zd zm_8000 (by decide +kernel)
theorem d_8000_2338 {σ : Nat → Nat} {n0 : Nat} {bf : ab_B} : decode (ab_code (zx σ n0 bf).1 8000) 2338 = .ok (.newarray .int, 2) := zd zm_8000 (by decide +kernel)
theorem d_8000_2340 {σ : Nat → Nat} {n0 : Nat} {bf : ab_B} : decode (ab_code (zx σ n0 bf).1 8000) 2340 = .ok (.putfield 62, 3) := zd zm_8000 (by decide +kernel)
theorem d_8000_2343 {σ : Nat → Nat} {n0 : Nat} {bf : ab_B} : decode (ab_code (zx σ n0 bf).1 8000) 2343 = .ok (.aload_n 0, 1) := zd zm_8000 (by decide +kernel)
theorem d_8000_2344 {σ : Nat → Nat} {n0 : Nat} {bf : ab_B} : decode (ab_code (zx σ n0 bf).1 8000) 2344 = .ok (.bipush 100, 2) := zd zm_8000 (by decide +kernel)
theorem d_8000_2346 {σ : Nat → Nat} {n0 : Nat} {bf : ab_B} : decode (ab_code (zx σ n0 bf).1 8000) 2346 = .ok (.newarray .int, 2) := zd zm_8000 (by decide +kernel)
theorem d_8000_2348 {σ : Nat → Nat} {n0 : Nat} {bf : ab_B} : decode (ab_code (zx σ n0 bf).1 8000) 2348 = .ok (.putfield 65, 3) := zd zm_8000 (by decide +kernel)
theorem d_8000_2351 {σ : Nat → Nat} {n0 : Nat} {bf : ab_B} : decode (ab_code (zx σ n0 bf).1 8000) 2351 = .ok (.aload_n 0, 1) := zd zm_8000 (by decide +kernel)
theorem d_8000_2352 {σ : Nat → Nat} {n0 : Nat} {bf : ab_B} : decode (ab_code (zx σ n0 bf).1 8000) 2352 = .ok (.bipush 100, 2) := zd zm_8000 (by decide +kernel)
theorem d_8000_2354 {σ : Nat → Nat} {n0 : Nat} {bf : ab_B} : decode (ab_code (zx σ n0 bf).1 8000) 2354 = .ok (.newarray .int, 2) := zd zm_8000 (by decide +kernel)
theorem d_8000_2356 {σ : Nat → Nat} {n0 : Nat} {bf : ab_B} : decode (ab_code (zx σ n0 bf).1 8000) 2356 = .ok (.putfield 68, 3) := zd zm_8000 (by decide +kernel)
theorem d_8000_2359 {σ : Nat → Nat} {n0 : Nat} {bf : ab_B} : decode (ab_code (zx σ n0 bf).1 8000) 2359 = .ok (.aload_n 0, 1) := zd zm_8000 (by decide +kernel)
theorem d_8000_2360 {σ : Nat → Nat} {n0 : Nat} {bf : ab_B} : decode (ab_code (zx σ n0 bf).1 8000) 2360 = .ok (.ldc 71, 2) := zd zm_8000 (by decide +kernel)
theorem d_8000_2362 {σ : Nat → Nat} {n0 : Nat} {bf : ab_B} : decode (ab_code (zx σ n0 bf).1 8000) 2362 = .ok (.newarray .int, 2) := zd zm_8000 (by decide +kernel)
theorem d_8000_2364 {σ : Nat → Nat} {n0 : Nat} {bf : ab_B} : decode (ab_code (zx σ n0 bf).1 8000) 2364 = .ok (.putfield 72, 3) := zd zm_8000 (by decide +kernel)
theorem d_8000_2367 {σ : Nat → Nat} {n0 : Nat} {bf : ab_B} : decode (ab_code (zx σ n0 bf).1 8000) 2367 = .ok (.aload_n 0, 1) := zd zm_8000 (by decide +kernel)
theorem d_8000_2368 {σ : Nat → Nat} {n0 : Nat} {bf : ab_B} : decode (ab_code (zx σ n0 bf).1 8000) 2368 = .ok (.ldc 71, 2) := zd zm_8000 (by decide +kernel)
theorem d_8000_2370 {σ : Nat → Nat} {n0 : Nat} {bf : ab_B} : decode (ab_code (zx σ n0 bf).1 8000) 2370 = .ok (.newarray .int, 2) := zd zm_8000 (by decide +kernel)
theorem d_8000_2372 {σ : Nat → Nat} {n0 : Nat} {bf : ab_B} : decode (ab_code (zx σ n0 bf).1 8000) 2372 = .ok (.putfield 75, 3) := zd zm_8000 (by decide +kernel)
theorem d_8000_2375 {σ : Nat → Nat} {n0 : Nat} {bf : ab_B} : decode (ab_code (zx σ n0 bf).1 8000) 2375 = .ok (.aload_n 0, 1) := zd zm_8000 (by decide +kernel)
theorem d_8000_2376 {σ : Nat → Nat} {n0 : Nat} {bf : ab_B} : decode (ab_code (zx σ n0 bf).1 8000) 2376 = .ok (.ldc 71, 2) := zd zm_8000 (by decide +kernel)
theorem d_8000_2378 {σ : Nat → Nat} {n0 : Nat} {bf : ab_B} : decode (ab_code (zx σ n0 bf).1 8000) 2378 = .ok (.newarray .int, 2) := zd zm_8000 (by decide +kernel)
theorem d_8000_2380 {σ : Nat → Nat} {n0 : Nat} {bf : ab_B} : decode (ab_code (zx σ n0 bf).1 8000) 2380 = .ok (.putfield 78, 3) := zd zm_8000 (by decide +kernel)
theorem d_8000_2383 {σ : Nat → Nat} {n0 : Nat} {bf : ab_B} : decode (ab_code (zx σ n0 bf).1 8000) 2383 = .ok (.aload_n 0, 1) := zd zm_8000 (by decide +kernel)
theorem d_8000_2384 {σ : Nat → Nat} {n0 : Nat} {bf : ab_B} : decode (ab_code (zx σ n0 bf).1 8000) 2384 = .ok (.ldc 71, 2) := zd zm_8000 (by decide +kernel)
theorem d_8000_2386 {σ : Nat → Nat} {n0 : Nat} {bf : ab_B} : decode (ab_code (zx σ n0 bf).1 8000) 2386 = .ok (.newarray .int, 2) := zd zm_8000 (by decide +kernel)
theorem d_8000_2388 {σ : Nat → Nat} {n0 : Nat} {bf : ab_B} : decode (ab_code (zx σ n0 bf).1 8000) 2388 = .ok (.putfield 81, 3) := zd zm_8000 (by decide +kernel)
theorem d_8000_2391 {σ : Nat → Nat} {n0 : Nat} {bf : ab_B} : decode (ab_code (zx σ n0 bf).1 8000) 2391 = .ok (.aload_n 0, 1) := zd zm_8000 (by decide +kernel)
theorem d_8000_2392 {σ : Nat → Nat} {n0 : Nat} {bf : ab_B} : decode (ab_code (zx σ n0 bf).1 8000) 2392 = .ok (.ldc 20, 2) := zd zm_8000 (by decide +kernel)
theorem d_8000_2394 {σ : Nat → Nat} {n0 : Nat} {bf : ab_B} : decode (ab_code (zx σ n0 bf).1 8000) 2394 = .ok (.newarray .int, 2) := zd zm_8000 (by decide +kernel)
theorem d_8000_2396 {σ : Nat → Nat} {n0 : Nat} {bf : ab_B} : decode (ab_code (zx σ n0 bf).1 8000) 2396 = .ok (.putfield 84, 3) := zd zm_8000 (by decide +kernel)
theorem d_8000_2399 {σ : Nat → Nat} {n0 : Nat} {bf : ab_B} : decode (ab_code (zx σ n0 bf).1 8000) 2399 = .ok (.aload_n 0, 1) := zd zm_8000 (by decide +kernel)
theorem d_8000_2400 {σ : Nat → Nat} {n0 : Nat} {bf : ab_B} : decode (ab_code (zx σ n0 bf).1 8000) 2400 = .ok (.ldc 20, 2) := zd zm_8000 (by decide +kernel)
theorem d_8000_2402 {σ : Nat → Nat} {n0 : Nat} {bf : ab_B} : decode (ab_code (zx σ n0 bf).1 8000) 2402 = .ok (.newarray .int, 2) := zd zm_8000 (by decide +kernel)
theorem d_8000_2404 {σ : Nat → Nat} {n0 : Nat} {bf : ab_B} : decode (ab_code (zx σ n0 bf).1 8000) 2404 = .ok (.putfield 87, 3) := zd zm_8000 (by decide +kernel)
theorem d_8000_2407 {σ : Nat → Nat} {n0 : Nat} {bf : ab_B} : decode (ab_code (zx σ n0 bf).1 8000) 2407 = .ok (.aload_n 0, 1) := zd zm_8000 (by decide +kernel)
theorem d_8000_2408 {σ : Nat → Nat} {n0 : Nat} {bf : ab_B} : decode (ab_code (zx σ n0 bf).1 8000) 2408 = .ok (.sipush 20000, 3) := zd zm_8000 (by decide +kernel)
theorem d_8000_2411 {σ : Nat → Nat} {n0 : Nat} {bf : ab_B} : decode (ab_code (zx σ n0 bf).1 8000) 2411 = .ok (.newarray .byte, 2) := zd zm_8000 (by decide +kernel)
theorem d_8000_2413 {σ : Nat → Nat} {n0 : Nat} {bf : ab_B} : decode (ab_code (zx σ n0 bf).1 8000) 2413 = .ok (.putfield 90, 3) := zd zm_8000 (by decide +kernel)
theorem d_8000_2416 {σ : Nat → Nat} {n0 : Nat} {bf : ab_B} : decode (ab_code (zx σ n0 bf).1 8000) 2416 = .ok (.aload_n 0, 1) := zd zm_8000 (by decide +kernel)
theorem d_8000_2417 {σ : Nat → Nat} {n0 : Nat} {bf : ab_B} : decode (ab_code (zx σ n0 bf).1 8000) 2417 = .ok (.sipush 20000, 3) := zd zm_8000 (by decide +kernel)
theorem d_8000_2420 {σ : Nat → Nat} {n0 : Nat} {bf : ab_B} : decode (ab_code (zx σ n0 bf).1 8000) 2420 = .ok (.newarray .int, 2) := zd zm_8000 (by decide +kernel)
theorem d_8000_2422 {σ : Nat → Nat} {n0 : Nat} {bf : ab_B} : decode (ab_code (zx σ n0 bf).1 8000) 2422 = .ok (.putfield 93, 3) := zd zm_8000 (by decide +kernel)
theorem d_8000_2425 {σ : Nat → Nat} {n0 : Nat} {bf : ab_B} : decode (ab_code (zx σ n0 bf).1 8000) 2425 = .ok (.aload_n 0, 1) := zd zm_8000 (by decide +kernel)
theorem d_8000_2426 {σ : Nat → Nat} {n0 : Nat} {bf : ab_B} : decode (ab_code (zx σ n0 bf).1 8000) 2426 = .ok (.sipush 20000, 3) := zd zm_8000 (by decide +kernel)
theorem d_8000_2429 {σ : Nat → Nat} {n0 : Nat} {bf : ab_B} : decode (ab_code (zx σ n0 bf).1 8000) 2429 = .ok (.newarray .int, 2) := zd zm_8000 (by decide +kernel)
theorem d_8000_2431 {σ : Nat → Nat} {n0 : Nat} {bf : ab_B} : decode (ab_code (zx σ n0 bf).1 8000) 2431 = .ok (.putfield 96, 3) := zd zm_8000 (by decide +kernel)
theorem d_8000_2434 {σ : Nat → Nat} {n0 : Nat} {bf : ab_B} : decode (ab_code (zx σ n0 bf).1 8000) 2434 = .ok (.aload_n 0, 1) := zd zm_8000 (by decide +kernel)
theorem d_8000_2435 {σ : Nat → Nat} {n0 : Nat} {bf : ab_B} : decode (ab_code (zx σ n0 bf).1 8000) 2435 = .ok (.sipush 20000, 3) := zd zm_8000 (by decide +kernel)
theorem d_8000_2438 {σ : Nat → Nat} {n0 : Nat} {bf : ab_B} : decode (ab_code (zx σ n0 bf).1 8000) 2438 = .ok (.newarray .int, 2) := zd zm_8000 (by decide +kernel)
theorem d_8000_2440 {σ : Nat → Nat} {n0 : Nat} {bf : ab_B} : decode (ab_code (zx σ n0 bf).1 8000) 2440 = .ok (.putfield 99, 3) := zd zm_8000 (by decide +kernel)
theorem d_8000_2443 {σ : Nat → Nat} {n0 : Nat} {bf : ab_B} : decode (ab_code (zx σ n0 bf).1 8000) 2443 = .ok (.aload_n 0, 1) := zd zm_8000 (by decide +kernel)
theorem d_8000_2444 {σ : Nat → Nat} {n0 : Nat} {bf : ab_B} : decode (ab_code (zx σ n0 bf).1 8000) 2444 = .ok (.sipush 20000, 3) := zd zm_8000 (by decide +kernel)
theorem d_8000_2447 {σ : Nat → Nat} {n0 : Nat} {bf : ab_B} : decode (ab_code (zx σ n0 bf).1 8000) 2447 = .ok (.newarray .int, 2) := zd zm_8000 (by decide +kernel)
theorem d_8000_2449 {σ : Nat → Nat} {n0 : Nat} {bf : ab_B} : decode (ab_code (zx σ n0 bf).1 8000) 2449 = .ok (.putfield 102, 3) := zd zm_8000 (by decide +kernel)
theorem d_8000_2452 {σ : Nat → Nat} {n0 : Nat} {bf : ab_B} : decode (ab_code (zx σ n0 bf).1 8000) 2452 = .ok (.aload_n 0, 1) := zd zm_8000 (by decide +kernel)
theorem d_8000_2453 {σ : Nat → Nat} {n0 : Nat} {bf : ab_B} : decode (ab_code (zx σ n0 bf).1 8000) 2453 = .ok (.sipush 20000, 3) := zd zm_8000 (by decide +kernel)
theorem d_8000_2456 {σ : Nat → Nat} {n0 : Nat} {bf : ab_B} : decode (ab_code (zx σ n0 bf).1 8000) 2456 = .ok (.newarray .boolean, 2) := zd zm_8000 (by decide +kernel)
theorem d_8000_2458 {σ : Nat → Nat} {n0 : Nat} {bf : ab_B} : decode (ab_code (zx σ n0 bf).1 8000) 2458 = .ok (.putfield 105, 3) := zd zm_8000 (by decide +kernel)
theorem d_8000_2461 {σ : Nat → Nat} {n0 : Nat} {bf : ab_B} : decode (ab_code (zx σ n0 bf).1 8000) 2461 = .ok (.aload_n 0, 1) := zd zm_8000 (by decide +kernel)
theorem d_8000_2462 {σ : Nat → Nat} {n0 : Nat} {bf : ab_B} : decode (ab_code (zx σ n0 bf).1 8000) 2462 = .ok (.sipush 20000, 3) := zd zm_8000 (by decide +kernel)
theorem d_8000_2465 {σ : Nat → Nat} {n0 : Nat} {bf : ab_B} : decode (ab_code (zx σ n0 bf).1 8000) 2465 = .ok (.newarray .byte, 2) := zd zm_8000 (by decide +kernel)
theorem d_8000_2467 {σ : Nat → Nat} {n0 : Nat} {bf : ab_B} : decode (ab_code (zx σ n0 bf).1 8000) 2467 = .ok (.putfield 109, 3) := zd zm_8000 (by decide +kernel)
theorem d_8000_2470 {σ : Nat → Nat} {n0 : Nat} {bf : ab_B} : decode (ab_code (zx σ n0 bf).1 8000) 2470 = .ok (.aload_n 0, 1) := zd zm_8000 (by decide +kernel)
theorem d_8000_2471 {σ : Nat → Nat} {n0 : Nat} {bf : ab_B} : decode (ab_code (zx σ n0 bf).1 8000) 2471 = .ok (.sipush 20000, 3) := zd zm_8000 (by decide +kernel)
theorem d_8000_2474 {σ : Nat → Nat} {n0 : Nat} {bf : ab_B} : decode (ab_code (zx σ n0 bf).1 8000) 2474 = .ok (.newarray .int, 2) := zd zm_8000 (by decide +kernel)
theorem d_8000_2476 {σ : Nat → Nat} {n0 : Nat} {bf : ab_B} : decode (ab_code (zx σ n0 bf).1 8000) 2476 = .ok (.putfield 112, 3) := zd zm_8000 (by decide +kernel)
theorem d_8000_2479 {σ : Nat → Nat} {n0 : Nat} {bf : ab_B} : decode (ab_code (zx σ n0 bf).1 8000) 2479 = .ok (.aload_n 0, 1) := zd zm_8000 (by decide +kernel)
theorem d_8000_2480 {σ : Nat → Nat} {n0 : Nat} {bf : ab_B} : decode (ab_code (zx σ n0 bf).1 8000) 2480 = .ok (.sipush 20000, 3) := zd zm_8000 (by decide +kernel)
theorem d_8000_2483 {σ : Nat → Nat} {n0 : Nat} {bf : ab_B} : decode (ab_code (zx σ n0 bf).1 8000) 2483 = .ok (.newarray .int, 2) := zd zm_8000 (by decide +kernel)
theorem d_8000_2485 {σ : Nat → Nat} {n0 : Nat} {bf : ab_B} : decode (ab_code (zx σ n0 bf).1 8000) 2485 = .ok (.putfield 115, 3) := zd zm_8000 (by decide +kernel)
theorem d_8000_2488 {σ : Nat → Nat} {n0 : Nat} {bf : ab_B} : decode (ab_code (zx σ n0 bf).1 8000) 2488 = .ok (.aload_n 0, 1) := zd zm_8000 (by decide +kernel)
theorem d_8000_2489 {σ : Nat → Nat} {n0 : Nat} {bf : ab_B} : decode (ab_code (zx σ n0 bf).1 8000) 2489 = .ok (.sipush 20000, 3) := zd zm_8000 (by decide +kernel)
theorem d_8000_2492 {σ : Nat → Nat} {n0 : Nat} {bf : ab_B} : decode (ab_code (zx σ n0 bf).1 8000) 2492 = .ok (.newarray .int, 2) := zd zm_8000 (by decide +kernel)
theorem d_8000_2494 {σ : Nat → Nat} {n0 : Nat} {bf : ab_B} : decode (ab_code (zx σ n0 bf).1 8000) 2494 = .ok (.putfield 118, 3) := zd zm_8000 (by decide +kernel)
theorem d_8000_2497 {σ : Nat → Nat} {n0 : Nat} {bf : ab_B} : decode (ab_code (zx σ n0 bf).1 8000) 2497 = .ok (.aload_n 0, 1) := zd zm_8000 (by decide +kernel)
theorem d_8000_2498 {σ : Nat → Nat} {n0 : Nat} {bf : ab_B} : decode (ab_code (zx σ n0 bf).1 8000) 2498 = .ok (.sipush 20000, 3) := zd zm_8000 (by decide +kernel)
theorem d_8000_2501 {σ : Nat → Nat} {n0 : Nat} {bf : ab_B} : decode (ab_code (zx σ n0 bf).1 8000) 2501 = .ok (.newarray .boolean, 2) := zd zm_8000 (by decide +kernel)
theorem d_8000_2503 {σ : Nat → Nat} {n0 : Nat} {bf : ab_B} : decode (ab_code (zx σ n0 bf).1 8000) 2503 = .ok (.putfield 121, 3) := zd zm_8000 (by decide +kernel)
theorem d_8000_2506 {σ : Nat → Nat} {n0 : Nat} {bf : ab_B} : decode (ab_code (zx σ n0 bf).1 8000) 2506 = .ok (.aload_n 0, 1) := zd zm_8000 (by decide +kernel)
theorem d_8000_2507 {σ : Nat → Nat} {n0 : Nat} {bf : ab_B} : decode (ab_code (zx σ n0 bf).1 8000) 2507 = .ok (.sipush 8000, 3) := zd zm_8000 (by decide +kernel)
theorem d_8000_2510 {σ : Nat → Nat} {n0 : Nat} {bf : ab_B} : decode (ab_code (zx σ n0 bf).1 8000) 2510 = .ok (.newarray .int, 2) := zd zm_8000 (by decide +kernel)
theorem d_8000_2512 {σ : Nat → Nat} {n0 : Nat} {bf : ab_B} : decode (ab_code (zx σ n0 bf).1 8000) 2512 = .ok (.putfield 124, 3) := zd zm_8000 (by decide +kernel)
theorem d_8000_2515 {σ : Nat → Nat} {n0 : Nat} {bf : ab_B} : decode (ab_code (zx σ n0 bf).1 8000) 2515 = .ok (.aload_n 0, 1) := zd zm_8000 (by decide +kernel)
theorem d_8000_2516 {σ : Nat → Nat} {n0 : Nat} {bf : ab_B} : decode (ab_code (zx σ n0 bf).1 8000) 2516 = .ok (.sipush 8000, 3) := zd zm_8000 (by decide +kernel)
theorem d_8000_2519 {σ : Nat → Nat} {n0 : Nat} {bf : ab_B} : decode (ab_code (zx σ n0 bf).1 8000) 2519 = .ok (.newarray .byte, 2) := zd zm_8000 (by decide +kernel)
theorem d_8000_2521 {σ : Nat → Nat} {n0 : Nat} {bf : ab_B} : decode (ab_code (zx σ n0 bf).1 8000) 2521 = .ok (.putfield 127, 3) := zd zm_8000 (by decide +kernel)
theorem d_8000_2524 {σ : Nat → Nat} {n0 : Nat} {bf : ab_B} : decode (ab_code (zx σ n0 bf).1 8000) 2524 = .ok (.aload_n 0, 1) := zd zm_8000 (by decide +kernel)
theorem d_8000_2525 {σ : Nat → Nat} {n0 : Nat} {bf : ab_B} : decode (ab_code (zx σ n0 bf).1 8000) 2525 = .ok (.sipush 8000, 3) := zd zm_8000 (by decide +kernel)
theorem d_8000_2528 {σ : Nat → Nat} {n0 : Nat} {bf : ab_B} : decode (ab_code (zx σ n0 bf).1 8000) 2528 = .ok (.newarray .int, 2) := zd zm_8000 (by decide +kernel)
theorem d_8000_2530 {σ : Nat → Nat} {n0 : Nat} {bf : ab_B} : decode (ab_code (zx σ n0 bf).1 8000) 2530 = .ok (.putfield 130, 3) := zd zm_8000 (by decide +kernel)
theorem d_8000_2533 {σ : Nat → Nat} {n0 : Nat} {bf : ab_B} : decode (ab_code (zx σ n0 bf).1 8000) 2533 = .ok (.aload_n 0, 1) := zd zm_8000 (by decide +kernel)
theorem d_8000_2534 {σ : Nat → Nat} {n0 : Nat} {bf : ab_B} : decode (ab_code (zx σ n0 bf).1 8000) 2534 = .ok (.sipush 32000, 3) := zd zm_8000 (by decide +kernel)
theorem d_8000_2537 {σ : Nat → Nat} {n0 : Nat} {bf : ab_B} : decode (ab_code (zx σ n0 bf).1 8000) 2537 = .ok (.newarray .int, 2) := zd zm_8000 (by decide +kernel)
theorem d_8000_2539 {σ : Nat → Nat} {n0 : Nat} {bf : ab_B} : decode (ab_code (zx σ n0 bf).1 8000) 2539 = .ok (.putfield 133, 3) := zd zm_8000 (by decide +kernel)
theorem d_8000_2542 {σ : Nat → Nat} {n0 : Nat} {bf : ab_B} : decode (ab_code (zx σ n0 bf).1 8000) 2542 = .ok (.aload_n 0, 1) := zd zm_8000 (by decide +kernel)
theorem d_8000_2543 {σ : Nat → Nat} {n0 : Nat} {bf : ab_B} : decode (ab_code (zx σ n0 bf).1 8000) 2543 = .ok (.sipush 32000, 3) := zd zm_8000 (by decide +kernel)
theorem d_8000_2546 {σ : Nat → Nat} {n0 : Nat} {bf : ab_B} : decode (ab_code (zx σ n0 bf).1 8000) 2546 = .ok (.newarray .int, 2) := zd zm_8000 (by decide +kernel)
theorem d_8000_2548 {σ : Nat → Nat} {n0 : Nat} {bf : ab_B} : decode (ab_code (zx σ n0 bf).1 8000) 2548 = .ok (.putfield 136, 3) := zd zm_8000 (by decide +kernel)
theorem d_8000_2551 {σ : Nat → Nat} {n0 : Nat} {bf : ab_B} : decode (ab_code (zx σ n0 bf).1 8000) 2551 = .ok (.aload_n 0, 1) := zd zm_8000 (by decide +kernel)
theorem d_8000_2552 {σ : Nat → Nat} {n0 : Nat} {bf : ab_B} : decode (ab_code (zx σ n0 bf).1 8000) 2552 = .ok (.sipush 16000, 3) := zd zm_8000 (by decide +kernel)
theorem d_8000_2555 {σ : Nat → Nat} {n0 : Nat} {bf : ab_B} : decode (ab_code (zx σ n0 bf).1 8000) 2555 = .ok (.newarray .int, 2) := zd zm_8000 (by decide +kernel)
theorem d_8000_2557 {σ : Nat → Nat} {n0 : Nat} {bf : ab_B} : decode (ab_code (zx σ n0 bf).1 8000) 2557 = .ok (.putfield 139, 3) := zd zm_8000 (by decide +kernel)
theorem d_8000_2560 {σ : Nat → Nat} {n0 : Nat} {bf : ab_B} : decode (ab_code (zx σ n0 bf).1 8000) 2560 = .ok (.aload_n 0, 1) := zd zm_8000 (by decide +kernel)
theorem d_8000_2561 {σ : Nat → Nat} {n0 : Nat} {bf : ab_B} : decode (ab_code (zx σ n0 bf).1 8000) 2561 = .ok (.sipush 16000, 3) := zd zm_8000 (by decide +kernel)
theorem d_8000_2564 {σ : Nat → Nat} {n0 : Nat} {bf : ab_B} : decode (ab_code (zx σ n0 bf).1 8000) 2564 = .ok (.newarray .int, 2) := zd zm_8000 (by decide +kernel)
theorem d_8000_2566 {σ : Nat → Nat} {n0 : Nat} {bf : ab_B} : decode (ab_code (zx σ n0 bf).1 8000) 2566 = .ok (.putfield 142, 3) := zd zm_8000 (by decide +kernel)
theorem d_8000_2569 {σ : Nat → Nat} {n0 : Nat} {bf : ab_B} : decode (ab_code (zx σ n0 bf).1 8000) 2569 = .ok (.aload_n 0, 1) := zd zm_8000 (by decide +kernel)
theorem d_8000_2570 {σ : Nat → Nat} {n0 : Nat} {bf : ab_B} : decode (ab_code (zx σ n0 bf).1 8000) 2570 = .ok (.sipush 16000, 3) := zd zm_8000 (by decide +kernel)
theorem d_8000_2573 {σ : Nat → Nat} {n0 : Nat} {bf : ab_B} : decode (ab_code (zx σ n0 bf).1 8000) 2573 = .ok (.newarray .int, 2) := zd zm_8000 (by decide +kernel)
theorem d_8000_2575 {σ : Nat → Nat} {n0 : Nat} {bf : ab_B} : decode (ab_code (zx σ n0 bf).1 8000) 2575 = .ok (.putfield 145, 3) := zd zm_8000 (by decide +kernel)
theorem d_8000_2578 {σ : Nat → Nat} {n0 : Nat} {bf : ab_B} : decode (ab_code (zx σ n0 bf).1 8000) 2578 = .ok (.aload_n 0, 1) := zd zm_8000 (by decide +kernel)
theorem d_8000_2579 {σ : Nat → Nat} {n0 : Nat} {bf : ab_B} : decode (ab_code (zx σ n0 bf).1 8000) 2579 = .ok (.sipush 16000, 3) := zd zm_8000 (by decide +kernel)
theorem d_8000_2582 {σ : Nat → Nat} {n0 : Nat} {bf : ab_B} : decode (ab_code (zx σ n0 bf).1 8000) 2582 = .ok (.newarray .int, 2) := zd zm_8000 (by decide +kernel)
theorem d_8000_2584 {σ : Nat → Nat} {n0 : Nat} {bf : ab_B} : decode (ab_code (zx σ n0 bf).1 8000) 2584 = .ok (.putfield 148, 3) := zd zm_8000 (by decide +kernel)
theorem d_8000_2587 {σ : Nat → Nat} {n0 : Nat} {bf : ab_B} : decode (ab_code (zx σ n0 bf).1 8000) 2587 = .ok (.aload_n 0, 1) := zd zm_8000 (by decide +kernel)
theorem d_8000_2588 {σ : Nat → Nat} {n0 : Nat} {bf : ab_B} : decode (ab_code (zx σ n0 bf).1 8000) 2588 = .ok (.sipush 16000, 3) := zd zm_8000 (by decide +kernel)
theorem d_8000_2591 {σ : Nat → Nat} {n0 : Nat} {bf : ab_B} : decode (ab_code (zx σ n0 bf).1 8000) 2591 = .ok (.newarray .boolean, 2) := zd zm_8000 (by decide +kernel)
theorem d_8000_2593 {σ : Nat → Nat} {n0 : Nat} {bf : ab_B} : decode (ab_code (zx σ n0 bf).1 8000) 2593 = .ok (.putfield 151, 3) := zd zm_8000 (by decide +kernel)
theorem d_8000_2596 {σ : Nat → Nat} {n0 : Nat} {bf : ab_B} : decode (ab_code (zx σ n0 bf).1 8000) 2596 = .ok (.aload_n 0, 1) := zd zm_8000 (by decide +kernel)
theorem d_8000_2597 {σ : Nat → Nat} {n0 : Nat} {bf : ab_B} : decode (ab_code (zx σ n0 bf).1 8000) 2597 = .ok (.sipush 16000, 3) := zd zm_8000 (by decide +kernel)
theorem d_8000_2600 {σ : Nat → Nat} {n0 : Nat} {bf : ab_B} : decode (ab_code (zx σ n0 bf).1 8000) 2600 = .ok (.newarray .int, 2) := zd zm_8000 (by decide +kernel)
theorem d_8000_2602 {σ : Nat → Nat} {n0 : Nat} {bf : ab_B} : decode (ab_code (zx σ n0 bf).1 8000) 2602 = .ok (.putfield 154, 3) := zd zm_8000 (by decide +kernel)
theorem d_8000_2605 {σ : Nat → Nat} {n0 : Nat} {bf : ab_B} : decode (ab_code (zx σ n0 bf).1 8000) 2605 = .ok (.aload_n 0, 1) := zd zm_8000 (by decide +kernel)
theorem d_8000_2606 {σ : Nat → Nat} {n0 : Nat} {bf : ab_B} : decode (ab_code (zx σ n0 bf).1 8000) 2606 = .ok (.sipush 16000, 3) := zd zm_8000 (by decide +kernel)
theorem d_8000_2609 {σ : Nat → Nat} {n0 : Nat} {bf : ab_B} : decode (ab_code (zx σ n0 bf).1 8000) 2609 = .ok (.newarray .int, 2) := zd zm_8000 (by decide +kernel)
theorem d_8000_2611 {σ : Nat → Nat} {n0 : Nat} {bf : ab_B} : decode (ab_code (zx σ n0 bf).1 8000) 2611 = .ok (.putfield 157, 3) := zd zm_8000 (by decide +kernel)
theorem d_8000_2614 {σ : Nat → Nat} {n0 : Nat} {bf : ab_B} : decode (ab_code (zx σ n0 bf).1 8000) 2614 = .ok (.aload_n 0, 1) := zd zm_8000 (by decide +kernel)
theorem d_8000_2615 {σ : Nat → Nat} {n0 : Nat} {bf : ab_B} : decode (ab_code (zx σ n0 bf).1 8000) 2615 = .ok (.sipush 16000, 3) := zd zm_8000 (by decide +kernel)
theorem d_8000_2618 {σ : Nat → Nat} {n0 : Nat} {bf : ab_B} : decode (ab_code (zx σ n0 bf).1 8000) 2618 = .ok (.newarray .int, 2) := zd zm_8000 (by decide +kernel)
theorem d_8000_2620 {σ : Nat → Nat} {n0 : Nat} {bf : ab_B} : decode (ab_code (zx σ n0 bf).1 8000) 2620 = .ok (.putfield 160, 3) := zd zm_8000 (by decide +kernel)
theorem d_8000_2623 {σ : Nat → Nat} {n0 : Nat} {bf : ab_B} : decode (ab_code (zx σ n0 bf).1 8000) 2623 = .ok (.aload_n 0, 1) := zd zm_8000 (by decide +kernel)
theorem d_8000_2624 {σ : Nat → Nat} {n0 : Nat} {bf : ab_B} : decode (ab_code (zx σ n0 bf).1 8000) 2624 = .ok (.sipush 17000, 3) := zd zm_8000 (by decide +kernel)
theorem d_8000_2627 {σ : Nat → Nat} {n0 : Nat} {bf : ab_B} : decode (ab_code (zx σ n0 bf).1 8000) 2627 = .ok (.newarray .int, 2) := zd zm_8000 (by decide +kernel)
theorem d_8000_2629 {σ : Nat → Nat} {n0 : Nat} {bf : ab_B} : decode (ab_code (zx σ n0 bf).1 8000) 2629 = .ok (.putfield 163, 3) := zd zm_8000 (by decide +kernel)
theorem d_8000_2632 {σ : Nat → Nat} {n0 : Nat} {bf : ab_B} : decode (ab_code (zx σ n0 bf).1 8000) 2632 = .ok (.aload_n 0, 1) := zd zm_8000 (by decide +kernel)
theorem d_8000_2633 {σ : Nat → Nat} {n0 : Nat} {bf : ab_B} : decode (ab_code (zx σ n0 bf).1 8000) 2633 = .ok (.sipush 17000, 3) := zd zm_8000 (by decide +kernel)
theorem d_8000_2636 {σ : Nat → Nat} {n0 : Nat} {bf : ab_B} : decode (ab_code (zx σ n0 bf).1 8000) 2636 = .ok (.newarray .int, 2) := zd zm_8000 (by decide +kernel)
theorem d_8000_2638 {σ : Nat → Nat} {n0 : Nat} {bf : ab_B} : decode (ab_code (zx σ n0 bf).1 8000) 2638 = .ok (.putfield 166, 3) := zd zm_8000 (by decide +kernel)
theorem d_8000_2641 {σ : Nat → Nat} {n0 : Nat} {bf : ab_B} : decode (ab_code (zx σ n0 bf).1 8000) 2641 = .ok (.aload_n 0, 1) := zd zm_8000 (by decide +kernel)
theorem d_8000_2642 {σ : Nat → Nat} {n0 : Nat} {bf : ab_B} : decode (ab_code (zx σ n0 bf).1 8000) 2642 = .ok (.sipush 17000, 3) := zd zm_8000 (by decide +kernel)
theorem d_8000_2645 {σ : Nat → Nat} {n0 : Nat} {bf : ab_B} : decode (ab_code (zx σ n0 bf).1 8000) 2645 = .ok (.newarray .int, 2) := zd zm_8000 (by decide +kernel)
theorem d_8000_2647 {σ : Nat → Nat} {n0 : Nat} {bf : ab_B} : decode (ab_code (zx σ n0 bf).1 8000) 2647 = .ok (.putfield 169, 3) := zd zm_8000 (by decide +kernel)
theorem d_8000_2650 {σ : Nat → Nat} {n0 : Nat} {bf : ab_B} : decode (ab_code (zx σ n0 bf).1 8000) 2650 = .ok (.aload_n 0, 1) := zd zm_8000 (by decide +kernel)
theorem d_8000_2651 {σ : Nat → Nat} {n0 : Nat} {bf : ab_B} : decode (ab_code (zx σ n0 bf).1 8000) 2651 = .ok (.sipush 16000, 3) := zd zm_8000 (by decide +kernel)
theorem d_8000_2654 {σ : Nat → Nat} {n0 : Nat} {bf : ab_B} : decode (ab_code (zx σ n0 bf).1 8000) 2654 = .ok (.newarray .int, 2) := zd zm_8000 (by decide +kernel)
theorem d_8000_2656 {σ : Nat → Nat} {n0 : Nat} {bf : ab_B} : decode (ab_code (zx σ n0 bf).1 8000) 2656 = .ok (.putfield 172, 3) := zd zm_8000 (by decide +kernel)
theorem d_8000_2659 {σ : Nat → Nat} {n0 : Nat} {bf : ab_B} : decode (ab_code (zx σ n0 bf).1 8000) 2659 = .ok (.aload_n 0, 1) := zd zm_8000 (by decide +kernel)
theorem d_8000_2660 {σ : Nat → Nat} {n0 : Nat} {bf : ab_B} : decode (ab_code (zx σ n0 bf).1 8000) 2660 = .ok (.sipush 400, 3) := zd zm_8000 (by decide +kernel)
theorem d_8000_2663 {σ : Nat → Nat} {n0 : Nat} {bf : ab_B} : decode (ab_code (zx σ n0 bf).1 8000) 2663 = .ok (.newarray .long, 2) := zd zm_8000 (by decide +kernel)
theorem d_8000_2665 {σ : Nat → Nat} {n0 : Nat} {bf : ab_B} : decode (ab_code (zx σ n0 bf).1 8000) 2665 = .ok (.putfield 175, 3) := zd zm_8000 (by decide +kernel)
theorem d_8000_2668 {σ : Nat → Nat} {n0 : Nat} {bf : ab_B} : decode (ab_code (zx σ n0 bf).1 8000) 2668 = .ok (.aload_n 0, 1) := zd zm_8000 (by decide +kernel)
theorem d_8000_2669 {σ : Nat → Nat} {n0 : Nat} {bf : ab_B} : decode (ab_code (zx σ n0 bf).1 8000) 2669 = .ok (.sipush 9000, 3) := zd zm_8000 (by decide +kernel)
theorem d_8000_2672 {σ : Nat → Nat} {n0 : Nat} {bf : ab_B} : decode (ab_code (zx σ n0 bf).1 8000) 2672 = .ok (.newarray .int, 2) := zd zm_8000 (by decide +kernel)
theorem d_8000_2674 {σ : Nat → Nat} {n0 : Nat} {bf : ab_B} : decode (ab_code (zx σ n0 bf).1 8000) 2674 = .ok (.putfield 179, 3) := zd zm_8000 (by decide +kernel)
theorem d_8000_2677 {σ : Nat → Nat} {n0 : Nat} {bf : ab_B} : decode (ab_code (zx σ n0 bf).1 8000) 2677 = .ok (.aload_n 0, 1) := zd zm_8000 (by decide +kernel)
theorem d_8000_2678 {σ : Nat → Nat} {n0 : Nat} {bf : ab_B} : decode (ab_code (zx σ n0 bf).1 8000) 2678 = .ok (.sipush 9000, 3) := zd zm_8000 (by decide +kernel)
theorem d_8000_2681 {σ : Nat → Nat} {n0 : Nat} {bf : ab_B} : decode (ab_code (zx σ n0 bf).1 8000) 2681 = .ok (.newarray .int, 2) := zd zm_8000 (by decide +kernel)
theorem d_8000_2683 {σ : Nat → Nat} {n0 : Nat} {bf : ab_B} : decode (ab_code (zx σ n0 bf).1 8000) 2683 = .ok (.putfield 182, 3) := zd zm_8000 (by decide +kernel)
theorem d_8000_2686 {σ : Nat → Nat} {n0 : Nat} {bf : ab_B} : decode (ab_code (zx σ n0 bf).1 8000) 2686 = .ok (.aload_n 0, 1) := zd zm_8000 (by decide +kernel)
theorem d_8000_2687 {σ : Nat → Nat} {n0 : Nat} {bf : ab_B} : decode (ab_code (zx σ n0 bf).1 8000) 2687 = .ok (.sipush 9000, 3) := zd zm_8000 (by decide +kernel)
theorem d_8000_2690 {σ : Nat → Nat} {n0 : Nat} {bf : ab_B} : decode (ab_code (zx σ n0 bf).1 8000) 2690 = .ok (.newarray .int, 2) := zd zm_8000 (by decide +kernel)
theorem d_8000_2692 {σ : Nat → Nat} {n0 : Nat} {bf : ab_B} : decode (ab_code (zx σ n0 bf).1 8000) 2692 = .ok (.putfield 185, 3) := zd zm_8000 (by decide +kernel)
theorem d_8000_2695 {σ : Nat → Nat} {n0 : Nat} {bf : ab_B} : decode (ab_code (zx σ n0 bf).1 8000) 2695 = .ok (.aload_n 0, 1) := zd zm_8000 (by decide +kernel)
theorem d_8000_2696 {σ : Nat → Nat} {n0 : Nat} {bf : ab_B} : decode (ab_code (zx σ n0 bf).1 8000) 2696 = .ok (.sipush 9000, 3) := zd zm_8000 (by decide +kernel)
theorem d_8000_2699 {σ : Nat → Nat} {n0 : Nat} {bf : ab_B} : decode (ab_code (zx σ n0 bf).1 8000) 2699 = .ok (.newarray .int, 2) := zd zm_8000 (by decide +kernel)
theorem d_8000_2701 {σ : Nat → Nat} {n0 : Nat} {bf : ab_B} : decode (ab_code (zx σ n0 bf).1 8000) 2701 = .ok (.putfield 188, 3) := zd zm_8000 (by decide +kernel)
theorem d_8000_2704 {σ : Nat → Nat} {n0 : Nat} {bf : ab_B} : decode (ab_code (zx σ n0 bf).1 8000) 2704 = .ok (.aload_n 0, 1) := zd zm_8000 (by decide +kernel)
theorem d_8000_2705 {σ : Nat → Nat} {n0 : Nat} {bf : ab_B} : decode (ab_code (zx σ n0 bf).1 8000) 2705 = .ok (.sipush 400, 3) := zd zm_8000 (by decide +kernel)
theorem d_8000_2708 {σ : Nat → Nat} {n0 : Nat} {bf : ab_B} : decode (ab_code (zx σ n0 bf).1 8000) 2708 = .ok (.newarray .int, 2) := zd zm_8000 (by decide +kernel)
theorem d_8000_2710 {σ : Nat → Nat} {n0 : Nat} {bf : ab_B} : decode (ab_code (zx σ n0 bf).1 8000) 2710 = .ok (.putfield 191, 3) := zd zm_8000 (by decide +kernel)
theorem d_8000_2713 {σ : Nat → Nat} {n0 : Nat} {bf : ab_B} : decode (ab_code (zx σ n0 bf).1 8000) 2713 = .ok (.aload_n 0, 1) := zd zm_8000 (by decide +kernel)
theorem d_8000_2714 {σ : Nat → Nat} {n0 : Nat} {bf : ab_B} : decode (ab_code (zx σ n0 bf).1 8000) 2714 = .ok (.sipush 400, 3) := zd zm_8000 (by decide +kernel)
theorem d_8000_2717 {σ : Nat → Nat} {n0 : Nat} {bf : ab_B} : decode (ab_code (zx σ n0 bf).1 8000) 2717 = .ok (.newarray .boolean, 2) := zd zm_8000 (by decide +kernel)
theorem d_8000_2719 {σ : Nat → Nat} {n0 : Nat} {bf : ab_B} : decode (ab_code (zx σ n0 bf).1 8000) 2719 = .ok (.putfield 194, 3) := zd zm_8000 (by decide +kernel)
theorem d_8000_2722 {σ : Nat → Nat} {n0 : Nat} {bf : ab_B} : decode (ab_code (zx σ n0 bf).1 8000) 2722 = .ok (.aload_n 0, 1) := zd zm_8000 (by decide +kernel)
theorem d_8000_2723 {σ : Nat → Nat} {n0 : Nat} {bf : ab_B} : decode (ab_code (zx σ n0 bf).1 8000) 2723 = .ok (.sipush 400, 3) := zd zm_8000 (by decide +kernel)
theorem d_8000_2726 {σ : Nat → Nat} {n0 : Nat} {bf : ab_B} : decode (ab_code (zx σ n0 bf).1 8000) 2726 = .ok (.newarray .boolean, 2) := zd zm_8000 (by decide +kernel)
theorem d_8000_2728 {σ : Nat → Nat} {n0 : Nat} {bf : ab_B} : decode (ab_code (zx σ n0 bf).1 8000) 2728 = .ok (.putfield 197, 3) := zd zm_8000 (by decide +kernel)
theorem d_8000_2731 {σ : Nat → Nat} {n0 : Nat} {bf : ab_B} : decode (ab_code (zx σ n0 bf).1 8000) 2731 = .ok (.aload_n 0, 1) := zd zm_8000 (by decide +kernel)
theorem d_8000_2732 {σ : Nat → Nat} {n0 : Nat} {bf : ab_B} : decode (ab_code (zx σ n0 bf).1 8000) 2732 = .ok (.sipush 400, 3) := zd zm_8000 (by decide +kernel)
theorem d_8000_2735 {σ : Nat → Nat} {n0 : Nat} {bf : ab_B} : decode (ab_code (zx σ n0 bf).1 8000) 2735 = .ok (.newarray .int, 2) := zd zm_8000 (by decide +kernel)
theorem d_8000_2737 {σ : Nat → Nat} {n0 : Nat} {bf : ab_B} : decode (ab_code (zx σ n0 bf).1 8000) 2737 = .ok (.putfield 200, 3) := zd zm_8000 (by decide +kernel)
theorem d_8000_2740 {σ : Nat → Nat} {n0 : Nat} {bf : ab_B} : decode (ab_code (zx σ n0 bf).1 8000) 2740 = .ok (.aload_n 0, 1) := zd zm_8000 (by decide +kernel)
theorem d_8000_2741 {σ : Nat → Nat} {n0 : Nat} {bf : ab_B} : decode (ab_code (zx σ n0 bf).1 8000) 2741 = .ok (.sipush 400, 3) := zd zm_8000 (by decide +kernel)
theorem d_8000_2744 {σ : Nat → Nat} {n0 : Nat} {bf : ab_B} : decode (ab_code (zx σ n0 bf).1 8000) 2744 = .ok (.newarray .int, 2) := zd zm_8000 (by decide +kernel)
theorem d_8000_2746 {σ : Nat → Nat} {n0 : Nat} {bf : ab_B} : decode (ab_code (zx σ n0 bf).1 8000) 2746 = .ok (.putfield 203, 3) := zd zm_8000 (by decide +kernel)
theorem d_8000_2749 {σ : Nat → Nat} {n0 : Nat} {bf : ab_B} : decode (ab_code (zx σ n0 bf).1 8000) 2749 = .ok (.aload_n 0, 1) := zd zm_8000 (by decide +kernel)
theorem d_8000_2750 {σ : Nat → Nat} {n0 : Nat} {bf : ab_B} : decode (ab_code (zx σ n0 bf).1 8000) 2750 = .ok (.sipush 400, 3) := zd zm_8000 (by decide +kernel)
theorem d_8000_2753 {σ : Nat → Nat} {n0 : Nat} {bf : ab_B} : decode (ab_code (zx σ n0 bf).1 8000) 2753 = .ok (.newarray .int, 2) := zd zm_8000 (by decide +kernel)
theorem d_8000_2755 {σ : Nat → Nat} {n0 : Nat} {bf : ab_B} : decode (ab_code (zx σ n0 bf).1 8000) 2755 = .ok (.putfield 206, 3) := zd zm_8000 (by decide +kernel)
theorem d_8000_2758 {σ : Nat → Nat} {n0 : Nat} {bf : ab_B} : decode (ab_code (zx σ n0 bf).1 8000) 2758 = .ok (.aload_n 0, 1) := zd zm_8000 (by decide +kernel)
theorem d_8000_2759 {σ : Nat → Nat} {n0 : Nat} {bf : ab_B} : decode (ab_code (zx σ n0 bf).1 8000) 2759 = .ok (.sipush 4200, 3) := zd zm_8000 (by decide +kernel)
theorem d_8000_2762 {σ : Nat → Nat} {n0 : Nat} {bf : ab_B} : decode (ab_code (zx σ n0 bf).1 8000) 2762 = .ok (.newarray .int, 2) := zd zm_8000 (by decide +kernel)
theorem d_8000_2764 {σ : Nat → Nat} {n0 : Nat} {bf : ab_B} : decode (ab_code (zx σ n0 bf).1 8000) 2764 = .ok (.putfield 209, 3) := zd zm_8000 (by decide +kernel)
theorem d_8000_2767 {σ : Nat → Nat} {n0 : Nat} {bf : ab_B} : decode (ab_code (zx σ n0 bf).1 8000) 2767 = .ok (.aload_n 0, 1) := zd zm_8000 (by decide +kernel)
theorem d_8000_2768 {σ : Nat → Nat} {n0 : Nat} {bf : ab_B} : decode (ab_code (zx σ n0 bf).1 8000) 2768 = .ok (.sipush 4200, 3) := zd zm_8000 (by decide +kernel)
theorem d_8000_2771 {σ : Nat → Nat} {n0 : Nat} {bf : ab_B} : decode (ab_code (zx σ n0 bf).1 8000) 2771 = .ok (.newarray .int, 2) := zd zm_8000 (by decide +kernel)
theorem d_8000_2773 {σ : Nat → Nat} {n0 : Nat} {bf : ab_B} : decode (ab_code (zx σ n0 bf).1 8000) 2773 = .ok (.putfield 212, 3) := zd zm_8000 (by decide +kernel)
theorem d_8000_2776 {σ : Nat → Nat} {n0 : Nat} {bf : ab_B} : decode (ab_code (zx σ n0 bf).1 8000) 2776 = .ok (.aload_n 0, 1) := zd zm_8000 (by decide +kernel)
theorem d_8000_2777 {σ : Nat → Nat} {n0 : Nat} {bf : ab_B} : decode (ab_code (zx σ n0 bf).1 8000) 2777 = .ok (.sipush 4200, 3) := zd zm_8000 (by decide +kernel)
theorem d_8000_2780 {σ : Nat → Nat} {n0 : Nat} {bf : ab_B} : decode (ab_code (zx σ n0 bf).1 8000) 2780 = .ok (.newarray .int, 2) := zd zm_8000 (by decide +kernel)
theorem d_8000_2782 {σ : Nat → Nat} {n0 : Nat} {bf : ab_B} : decode (ab_code (zx σ n0 bf).1 8000) 2782 = .ok (.putfield 215, 3) := zd zm_8000 (by decide +kernel)
theorem d_8000_2785 {σ : Nat → Nat} {n0 : Nat} {bf : ab_B} : decode (ab_code (zx σ n0 bf).1 8000) 2785 = .ok (.aload_n 0, 1) := zd zm_8000 (by decide +kernel)
theorem d_8000_2786 {σ : Nat → Nat} {n0 : Nat} {bf : ab_B} : decode (ab_code (zx σ n0 bf).1 8000) 2786 = .ok (.sipush 4200, 3) := zd zm_8000 (by decide +kernel)
theorem d_8000_2789 {σ : Nat → Nat} {n0 : Nat} {bf : ab_B} : decode (ab_code (zx σ n0 bf).1 8000) 2789 = .ok (.newarray .int, 2) := zd zm_8000 (by decide +kernel)
theorem d_8000_2791 {σ : Nat → Nat} {n0 : Nat} {bf : ab_B} : decode (ab_code (zx σ n0 bf).1 8000) 2791 = .ok (.putfield 218, 3) := zd zm_8000 (by decide +kernel)
theorem d_8000_2794 {σ : Nat → Nat} {n0 : Nat} {bf : ab_B} : decode (ab_code (zx σ n0 bf).1 8000) 2794 = .ok (.aload_n 0, 1) := zd zm_8000 (by decide +kernel)
theorem d_8000_2795 {σ : Nat → Nat} {n0 : Nat} {bf : ab_B} : decode (ab_code (zx σ n0 bf).1 8000) 2795 = .ok (.sipush 4200, 3) := zd zm_8000 (by decide +kernel)
theorem d_8000_2798 {σ : Nat → Nat} {n0 : Nat} {bf : ab_B} : decode (ab_code (zx σ n0 bf).1 8000) 2798 = .ok (.newarray .int, 2) := zd zm_8000 (by decide +kernel)
theorem d_8000_2800 {σ : Nat → Nat} {n0 : Nat} {bf : ab_B} : decode (ab_code (zx σ n0 bf).1 8000) 2800 = .ok (.putfield 221, 3) := zd zm_8000 (by decide +kernel)
theorem d_8000_2803 {σ : Nat → Nat} {n0 : Nat} {bf : ab_B} : decode (ab_code (zx σ n0 bf).1 8000) 2803 = .ok (.aload_n 0, 1) := zd zm_8000 (by decide +kernel)
theorem d_8000_2804 {σ : Nat → Nat} {n0 : Nat} {bf : ab_B} : decode (ab_code (zx σ n0 bf).1 8000) 2804 = .ok (.sipush 4200, 3) := zd zm_8000 (by decide +kernel)
theorem d_8000_2807 {σ : Nat → Nat} {n0 : Nat} {bf : ab_B} : decode (ab_code (zx σ n0 bf).1 8000) 2807 = .ok (.newarray .int, 2) := zd zm_8000 (by decide +kernel)
theorem d_8000_2809 {σ : Nat → Nat} {n0 : Nat} {bf : ab_B} : decode (ab_code (zx σ n0 bf).1 8000) 2809 = .ok (.putfield 224, 3) := zd zm_8000 (by decide +kernel)
theorem d_8000_2812 {σ : Nat → Nat} {n0 : Nat} {bf : ab_B} : decode (ab_code (zx σ n0 bf).1 8000) 2812 = .ok (.aload_n 0, 1) := zd zm_8000 (by decide +kernel)
theorem d_8000_2813 {σ : Nat → Nat} {n0 : Nat} {bf : ab_B} : decode (ab_code (zx σ n0 bf).1 8000) 2813 = .ok (.sipush 4200, 3) := zd zm_8000 (by decide +kernel)
theorem d_8000_2816 {σ : Nat → Nat} {n0 : Nat} {bf : ab_B} : decode (ab_code (zx σ n0 bf).1 8000) 2816 = .ok (.newarray .int, 2) := zd zm_8000 (by decide +kernel)
theorem d_8000_2818 {σ : Nat → Nat} {n0 : Nat} {bf : ab_B} : decode (ab_code (zx σ n0 bf).1 8000) 2818 = .ok (.putfield 227, 3) := zd zm_8000 (by decide +kernel)
theorem d_8000_2821 {σ : Nat → Nat} {n0 : Nat} {bf : ab_B} : decode (ab_code (zx σ n0 bf).1 8000) 2821 = .ok (.aload_n 0, 1) := zd zm_8000 (by decide +kernel)
theorem d_8000_2822 {σ : Nat → Nat} {n0 : Nat} {bf : ab_B} : decode (ab_code (zx σ n0 bf).1 8000) 2822 = .ok (.sipush 4200, 3) := zd zm_8000 (by decide +kernel)
theorem d_8000_2825 {σ : Nat → Nat} {n0 : Nat} {bf : ab_B} : decode (ab_code (zx σ n0 bf).1 8000) 2825 = .ok (.newarray .boolean, 2) := zd zm_8000 (by decide +kernel)
theorem d_8000_2827 {σ : Nat → Nat} {n0 : Nat} {bf : ab_B} : decode (ab_code (zx σ n0 bf).1 8000) 2827 = .ok (.putfield 230, 3) := zd zm_8000 (by decide +kernel)
theorem d_8000_2830 {σ : Nat → Nat} {n0 : Nat} {bf : ab_B} : decode (ab_code (zx σ n0 bf).1 8000) 2830 = .ok (.aload_n 0, 1) := zd zm_8000 (by decide +kernel)
theorem d_8000_2831 {σ : Nat → Nat} {n0 : Nat} {bf : ab_B} : decode (ab_code (zx σ n0 bf).1 8000) 2831 = .ok (.sipush 4200, 3) := zd zm_8000 (by decide +kernel)
theorem d_8000_2834 {σ : Nat → Nat} {n0 : Nat} {bf : ab_B} : decode (ab_code (zx σ n0 bf).1 8000) 2834 = .ok (.newarray .int, 2) := zd zm_8000 (by decide +kernel)
theorem d_8000_2836 {σ : Nat → Nat} {n0 : Nat} {bf : ab_B} : decode (ab_code (zx σ n0 bf).1 8000) 2836 = .ok (.putfield 233, 3) := zd zm_8000 (by decide +kernel)
theorem d_8000_2839 {σ : Nat → Nat} {n0 : Nat} {bf : ab_B} : decode (ab_code (zx σ n0 bf).1 8000) 2839 = .ok (.aload_n 0, 1) := zd zm_8000 (by decide +kernel)
theorem d_8000_2840 {σ : Nat → Nat} {n0 : Nat} {bf : ab_B} : decode (ab_code (zx σ n0 bf).1 8000) 2840 = .ok (.sipush 4200, 3) := zd zm_8000 (by decide +kernel)
theorem d_8000_2843 {σ : Nat → Nat} {n0 : Nat} {bf : ab_B} : decode (ab_code (zx σ n0 bf).1 8000) 2843 = .ok (.newarray .int, 2) := zd zm_8000 (by decide +kernel)
theorem d_8000_2845 {σ : Nat → Nat} {n0 : Nat} {bf : ab_B} : decode (ab_code (zx σ n0 bf).1 8000) 2845 = .ok (.putfield 236, 3) := zd zm_8000 (by decide +kernel)
theorem d_8000_2848 {σ : Nat → Nat} {n0 : Nat} {bf : ab_B} : decode (ab_code (zx σ n0 bf).1 8000) 2848 = .ok (.aload_n 0, 1) := zd zm_8000 (by decide +kernel)
theorem d_8000_2849 {σ : Nat → Nat} {n0 : Nat} {bf : ab_B} : decode (ab_code (zx σ n0 bf).1 8000) 2849 = .ok (.sipush 16000, 3) := zd zm_8000 (by decide +kernel)
theorem d_8000_2852 {σ : Nat → Nat} {n0 : Nat} {bf : ab_B} : decode (ab_code (zx σ n0 bf).1 8000) 2852 = .ok (.newarray .int, 2) := zd zm_8000 (by decide +kernel)
theorem d_8000_2854 {σ : Nat → Nat} {n0 : Nat} {bf : ab_B} : decode (ab_code (zx σ n0 bf).1 8000) 2854 = .ok (.putfield 239, 3) := zd zm_8000 (by decide +kernel)
theorem d_8000_2857 {σ : Nat → Nat} {n0 : Nat} {bf : ab_B} : decode (ab_code (zx σ n0 bf).1 8000) 2857 = .ok (.aload_n 0, 1) := zd zm_8000 (by decide +kernel)
theorem d_8000_2858 {σ : Nat → Nat} {n0 : Nat} {bf : ab_B} : decode (ab_code (zx σ n0 bf).1 8000) 2858 = .ok (.sipush 16000, 3) := zd zm_8000 (by decide +kernel)
theorem d_8000_2861 {σ : Nat → Nat} {n0 : Nat} {bf : ab_B} : decode (ab_code (zx σ n0 bf).1 8000) 2861 = .ok (.newarray .byte, 2) := zd zm_8000 (by decide +kernel)
theorem d_8000_2863 {σ : Nat → Nat} {n0 : Nat} {bf : ab_B} : decode (ab_code (zx σ n0 bf).1 8000) 2863 = .ok (.putfield 242, 3) := zd zm_8000 (by decide +kernel)
theorem d_8000_2866 {σ : Nat → Nat} {n0 : Nat} {bf : ab_B} : decode (ab_code (zx σ n0 bf).1 8000) 2866 = .ok (.aload_n 0, 1) := zd zm_8000 (by decide +kernel)
theorem d_8000_2867 {σ : Nat → Nat} {n0 : Nat} {bf : ab_B} : decode (ab_code (zx σ n0 bf).1 8000) 2867 = .ok (.sipush 16000, 3) := zd zm_8000 (by decide +kernel)
theorem d_8000_2870 {σ : Nat → Nat} {n0 : Nat} {bf : ab_B} : decode (ab_code (zx σ n0 bf).1 8000) 2870 = .ok (.newarray .int, 2) := zd zm_8000 (by decide +kernel)
theorem d_8000_2872 {σ : Nat → Nat} {n0 : Nat} {bf : ab_B} : decode (ab_code (zx σ n0 bf).1 8000) 2872 = .ok (.putfield 245, 3) := zd zm_8000 (by decide +kernel)
theorem d_8000_2875 {σ : Nat → Nat} {n0 : Nat} {bf : ab_B} : decode (ab_code (zx σ n0 bf).1 8000) 2875 = .ok (.aload_n 0, 1) := zd zm_8000 (by decide +kernel)
theorem d_8000_2876 {σ : Nat → Nat} {n0 : Nat} {bf : ab_B} : decode (ab_code (zx σ n0 bf).1 8000) 2876 = .ok (.sipush 8000, 3) := zd zm_8000 (by decide +kernel)
theorem d_8000_2879 {σ : Nat → Nat} {n0 : Nat} {bf : ab_B} : decode (ab_code (zx σ n0 bf).1 8000) 2879 = .ok (.newarray .int, 2) := zd zm_8000 (by decide +kernel)
theorem d_8000_2881 {σ : Nat → Nat} {n0 : Nat} {bf : ab_B} : decode (ab_code (zx σ n0 bf).1 8000) 2881 = .ok (.putfield 248, 3) := zd zm_8000 (by decide +kernel)
theorem d_8000_2884 {σ : Nat → Nat} {n0 : Nat} {bf : ab_B} : decode (ab_code (zx σ n0 bf).1 8000) 2884 = .ok (.aload_n 0, 1) := zd zm_8000 (by decide +kernel)
theorem d_8000_2885 {σ : Nat → Nat} {n0 : Nat} {bf : ab_B} : decode (ab_code (zx σ n0 bf).1 8000) 2885 = .ok (.sipush 20000, 3) := zd zm_8000 (by decide +kernel)
theorem d_8000_2888 {σ : Nat → Nat} {n0 : Nat} {bf : ab_B} : decode (ab_code (zx σ n0 bf).1 8000) 2888 = .ok (.newarray .int, 2) := zd zm_8000 (by decide +kernel)
theorem d_8000_2890 {σ : Nat → Nat} {n0 : Nat} {bf : ab_B} : decode (ab_code (zx σ n0 bf).1 8000) 2890 = .ok (.putfield 251, 3) := zd zm_8000 (by decide +kernel)
theorem d_8000_2893 {σ : Nat → Nat} {n0 : Nat} {bf : ab_B} : decode (ab_code (zx σ n0 bf).1 8000) 2893 = .ok (.aload_n 0, 1) := zd zm_8000 (by decide +kernel)
theorem d_8000_2894 {σ : Nat → Nat} {n0 : Nat} {bf : ab_B} : decode (ab_code (zx σ n0 bf).1 8000) 2894 = .ok (.sipush 16000, 3) := zd zm_8000 (by decide +kernel)
theorem d_8000_2897 {σ : Nat → Nat} {n0 : Nat} {bf : ab_B} : decode (ab_code (zx σ n0 bf).1 8000) 2897 = .ok (.newarray .int, 2) := zd zm_8000 (by decide +kernel)
theorem d_8000_2899 {σ : Nat → Nat} {n0 : Nat} {bf : ab_B} : decode (ab_code (zx σ n0 bf).1 8000) 2899 = .ok (.putfield 254, 3) := zd zm_8000 (by decide +kernel)
theorem d_8000_2902 {σ : Nat → Nat} {n0 : Nat} {bf : ab_B} : decode (ab_code (zx σ n0 bf).1 8000) 2902 = .ok (.aload_n 0, 1) := zd zm_8000 (by decide +kernel)
theorem d_8000_2903 {σ : Nat → Nat} {n0 : Nat} {bf : ab_B} : decode (ab_code (zx σ n0 bf).1 8000) 2903 = .ok (.sipush 16000, 3) := zd zm_8000 (by decide +kernel)
theorem d_8000_2906 {σ : Nat → Nat} {n0 : Nat} {bf : ab_B} : decode (ab_code (zx σ n0 bf).1 8000) 2906 = .ok (.newarray .int, 2) := zd zm_8000 (by decide +kernel)
theorem d_8000_2908 {σ : Nat → Nat} {n0 : Nat} {bf : ab_B} : decode (ab_code (zx σ n0 bf).1 8000) 2908 = .ok (.putfield 257, 3) := zd zm_8000 (by decide +kernel)
theorem d_8000_2911 {σ : Nat → Nat} {n0 : Nat} {bf : ab_B} : decode (ab_code (zx σ n0 bf).1 8000) 2911 = .ok (.aload_n 0, 1) := zd zm_8000 (by decide +kernel)
theorem d_8000_2912 {σ : Nat → Nat} {n0 : Nat} {bf : ab_B} : decode (ab_code (zx σ n0 bf).1 8000) 2912 = .ok (.sipush 16000, 3) := zd zm_8000 (by decide +kernel)
theorem d_8000_2915 {σ : Nat → Nat} {n0 : Nat} {bf : ab_B} : decode (ab_code (zx σ n0 bf).1 8000) 2915 = .ok (.newarray .int, 2) := zd zm_8000 (by decide +kernel)
theorem d_8000_2917 {σ : Nat → Nat} {n0 : Nat} {bf : ab_B} : decode (ab_code (zx σ n0 bf).1 8000) 2917 = .ok (.putfield 260, 3) := zd zm_8000 (by decide +kernel)
theorem d_8000_2920 {σ : Nat → Nat} {n0 : Nat} {bf : ab_B} : decode (ab_code (zx σ n0 bf).1 8000) 2920 = .ok (.aload_n 0, 1) := zd zm_8000 (by decide +kernel)
theorem d_8000_2921 {σ : Nat → Nat} {n0 : Nat} {bf : ab_B} : decode (ab_code (zx σ n0 bf).1 8000) 2921 = .ok (.bipush 80, 2) := zd zm_8000 (by decide +kernel)
theorem d_8000_2923 {σ : Nat → Nat} {n0 : Nat} {bf : ab_B} : decode (ab_code (zx σ n0 bf).1 8000) 2923 = .ok (.newarray .int, 2) := zd zm_8000 (by decide +kernel)
theorem d_8000_2925 {σ : Nat → Nat} {n0 : Nat} {bf : ab_B} : decode (ab_code (zx σ n0 bf).1 8000) 2925 = .ok (.putfield 263, 3) := zd zm_8000 (by decide +kernel)
theorem d_8000_2928 {σ : Nat → Nat} {n0 : Nat} {bf : ab_B} : decode (ab_code (zx σ n0 bf).1 8000) 2928 = .ok (.aload_n 0, 1) := zd zm_8000 (by decide +kernel)
theorem d_8000_2929 {σ : Nat → Nat} {n0 : Nat} {bf : ab_B} : decode (ab_code (zx σ n0 bf).1 8000) 2929 = .ok (.sipush 320, 3) := zd zm_8000 (by decide +kernel)
theorem d_8000_2932 {σ : Nat → Nat} {n0 : Nat} {bf : ab_B} : decode (ab_code (zx σ n0 bf).1 8000) 2932 = .ok (.newarray .long, 2) := zd zm_8000 (by decide +kernel)
theorem d_8000_2934 {σ : Nat → Nat} {n0 : Nat} {bf : ab_B} : decode (ab_code (zx σ n0 bf).1 8000) 2934 = .ok (.putfield 266, 3) := zd zm_8000 (by decide +kernel)
theorem d_8000_2937 {σ : Nat → Nat} {n0 : Nat} {bf : ab_B} : decode (ab_code (zx σ n0 bf).1 8000) 2937 = .ok (.aload_n 0, 1) := zd zm_8000 (by decide +kernel)
theorem d_8000_2938 {σ : Nat → Nat} {n0 : Nat} {bf : ab_B} : decode (ab_code (zx σ n0 bf).1 8000) 2938 = .ok (.bipush 80, 2) := zd zm_8000 (by decide +kernel)
theorem d_8000_2940 {σ : Nat → Nat} {n0 : Nat} {bf : ab_B} : decode (ab_code (zx σ n0 bf).1 8000) 2940 = .ok (.newarray .int, 2) := zd zm_8000 (by decide +kernel)
theorem d_8000_2942 {σ : Nat → Nat} {n0 : Nat} {bf : ab_B} : decode (ab_code (zx σ n0 bf).1 8000) 2942 = .ok (.putfield 269, 3) := zd zm_8000 (by decide +kernel)
theorem d_8000_2945 {σ : Nat → Nat} {n0 : Nat} {bf : ab_B} : decode (ab_code (zx σ n0 bf).1 8000) 2945 = .ok (.aload_n 0, 1) := zd zm_8000 (by decide +kernel)
theorem d_8000_2946 {σ : Nat → Nat} {n0 : Nat} {bf : ab_B} : decode (ab_code (zx σ n0 bf).1 8000) 2946 = .ok (.bipush 80, 2) := zd zm_8000 (by decide +kernel)
theorem d_8000_2948 {σ : Nat → Nat} {n0 : Nat} {bf : ab_B} : decode (ab_code (zx σ n0 bf).1 8000) 2948 = .ok (.newarray .int, 2) := zd zm_8000 (by decide +kernel)
theorem d_8000_2950 {σ : Nat → Nat} {n0 : Nat} {bf : ab_B} : decode (ab_code (zx σ n0 bf).1 8000) 2950 = .ok (.putfield 272, 3) := zd zm_8000 (by decide +kernel)
theorem d_8000_2953 {σ : Nat → Nat} {n0 : Nat} {bf : ab_B} : decode (ab_code (zx σ n0 bf).1 8000) 2953 = .ok (.aload_n 0, 1) := zd zm_8000 (by decide +kernel)
theorem d_8000_2954 {σ : Nat → Nat} {n0 : Nat} {bf : ab_B} : decode (ab_code (zx σ n0 bf).1 8000) 2954 = .ok (.iconst 4, 1) := zd zm_8000 (by decide +kernel)
theorem d_8000_2955 {σ : Nat → Nat} {n0 : Nat} {bf : ab_B} : decode (ab_code (zx σ n0 bf).1 8000) 2955 = .ok (.newarray .long, 2) := zd zm_8000 (by decide +kernel)
theorem d_8000_2957 {σ : Nat → Nat} {n0 : Nat} {bf : ab_B} : decode (ab_code (zx σ n0 bf).1 8000) 2957 = .ok (.putfield 275, 3) := zd zm_8000 (by decide +kernel)
theorem d_8000_2960 {σ : Nat → Nat} {n0 : Nat} {bf : ab_B} : decode (ab_code (zx σ n0 bf).1 8000) 2960 = .ok (.aload_n 0, 1) := zd zm_8000 (by decide +kernel)
theorem d_8000_2961 {σ : Nat → Nat} {n0 : Nat} {bf : ab_B} : decode (ab_code (zx σ n0 bf).1 8000) 2961 = .ok (.sipush 200, 3) := zd zm_8000 (by decide +kernel)
theorem d_8000_2964 {σ : Nat → Nat} {n0 : Nat} {bf : ab_B} : decode (ab_code (zx σ n0 bf).1 8000) 2964 = .ok (.newarray .int, 2) := zd zm_8000 (by decide +kernel)
theorem d_8000_2966 {σ : Nat → Nat} {n0 : Nat} {bf : ab_B} : decode (ab_code (zx σ n0 bf).1 8000) 2966 = .ok (.putfield 278, 3) := zd zm_8000 (by decide +kernel)
theorem d_8000_2969 {σ : Nat → Nat} {n0 : Nat} {bf : ab_B} : decode (ab_code (zx σ n0 bf).1 8000) 2969 = .ok (.aload_n 0, 1) := zd zm_8000 (by decide +kernel)
theorem d_8000_2970 {σ : Nat → Nat} {n0 : Nat} {bf : ab_B} : decode (ab_code (zx σ n0 bf).1 8000) 2970 = .ok (.sipush 16400, 3) := zd zm_8000 (by decide +kernel)
theorem d_8000_2973 {σ : Nat → Nat} {n0 : Nat} {bf : ab_B} : decode (ab_code (zx σ n0 bf).1 8000) 2973 = .ok (.newarray .int, 2) := zd zm_8000 (by decide +kernel)
theorem d_8000_2975 {σ : Nat → Nat} {n0 : Nat} {bf : ab_B} : decode (ab_code (zx σ n0 bf).1 8000) 2975 = .ok (.putfield 281, 3) := zd zm_8000 (by decide +kernel)
theorem d_8000_2978 {σ : Nat → Nat} {n0 : Nat} {bf : ab_B} : decode (ab_code (zx σ n0 bf).1 8000) 2978 = .ok (.aload_n 0, 1) := zd zm_8000 (by decide +kernel)
theorem d_8000_2979 {σ : Nat → Nat} {n0 : Nat} {bf : ab_B} : decode (ab_code (zx σ n0 bf).1 8000) 2979 = .ok (.sipush 16000, 3) := zd zm_8000 (by decide +kernel)
theorem d_8000_2982 {σ : Nat → Nat} {n0 : Nat} {bf : ab_B} : decode (ab_code (zx σ n0 bf).1 8000) 2982 = .ok (.newarray .int, 2) := zd zm_8000 (by decide +kernel)
theorem d_8000_2984 {σ : Nat → Nat} {n0 : Nat} {bf : ab_B} : decode (ab_code (zx σ n0 bf).1 8000) 2984 = .ok (.putfield 284, 3) := zd zm_8000 (by decide +kernel)
theorem d_8000_2987 {σ : Nat → Nat} {n0 : Nat} {bf : ab_B} : decode (ab_code (zx σ n0 bf).1 8000) 2987 = .ok (.aload_n 0, 1) := zd zm_8000 (by decide +kernel)
theorem d_8000_2988 {σ : Nat → Nat} {n0 : Nat} {bf : ab_B} : decode (ab_code (zx σ n0 bf).1 8000) 2988 = .ok (.sipush 16000, 3) := zd zm_8000 (by decide +kernel)
theorem d_8000_2991 {σ : Nat → Nat} {n0 : Nat} {bf : ab_B} : decode (ab_code (zx σ n0 bf).1 8000) 2991 = .ok (.newarray .int, 2) := zd zm_8000 (by decide +kernel)
theorem d_8000_2993 {σ : Nat → Nat} {n0 : Nat} {bf : ab_B} : decode (ab_code (zx σ n0 bf).1 8000) 2993 = .ok (.putfield 287, 3) := zd zm_8000 (by decide +kernel)
theorem d_8000_2996 {σ : Nat → Nat} {n0 : Nat} {bf : ab_B} : decode (ab_code (zx σ n0 bf).1 8000) 2996 = .ok (.aload_n 0, 1) := zd zm_8000 (by decide +kernel)
theorem d_8000_2997 {σ : Nat → Nat} {n0 : Nat} {bf : ab_B} : decode (ab_code (zx σ n0 bf).1 8000) 2997 = .ok (.sipush 16000, 3) := zd zm_8000 (by decide +kernel)
theorem d_8000_3000 {σ : Nat → Nat} {n0 : Nat} {bf : ab_B} : decode (ab_code (zx σ n0 bf).1 8000) 3000 = .ok (.newarray .int, 2) := zd zm_8000 (by decide +kernel)
theorem d_8000_3002 {σ : Nat → Nat} {n0 : Nat} {bf : ab_B} : decode (ab_code (zx σ n0 bf).1 8000) 3002 = .ok (.putfield 290, 3) := zd zm_8000 (by decide +kernel)
theorem d_8000_3005 {σ : Nat → Nat} {n0 : Nat} {bf : ab_B} : decode (ab_code (zx σ n0 bf).1 8000) 3005 = .ok (.aload_n 0, 1) := zd zm_8000 (by decide +kernel)
theorem d_8000_3006 {σ : Nat → Nat} {n0 : Nat} {bf : ab_B} : decode (ab_code (zx σ n0 bf).1 8000) 3006 = .ok (.sipush 16000, 3) := zd zm_8000 (by decide +kernel)
theorem d_8000_3009 {σ : Nat → Nat} {n0 : Nat} {bf : ab_B} : decode (ab_code (zx σ n0 bf).1 8000) 3009 = .ok (.newarray .int, 2) := zd zm_8000 (by decide +kernel)
theorem d_8000_3011 {σ : Nat → Nat} {n0 : Nat} {bf : ab_B} : decode (ab_code (zx σ n0 bf).1 8000) 3011 = .ok (.putfield 293, 3) := zd zm_8000 (by decide +kernel)
theorem d_8000_3014 {σ : Nat → Nat} {n0 : Nat} {bf : ab_B} : decode (ab_code (zx σ n0 bf).1 8000) 3014 = .ok (.aload_n 0, 1) := zd zm_8000 (by decide +kernel)
theorem d_8000_3015 {σ : Nat → Nat} {n0 : Nat} {bf : ab_B} : decode (ab_code (zx σ n0 bf).1 8000) 3015 = .ok (.sipush 16000, 3) := zd zm_8000 (by decide +kernel)
theorem d_8000_3018 {σ : Nat → Nat} {n0 : Nat} {bf : ab_B} : decode (ab_code (zx σ n0 bf).1 8000) 3018 = .ok (.newarray .boolean, 2) := zd zm_8000 (by decide +kernel)
theorem d_8000_3020 {σ : Nat → Nat} {n0 : Nat} {bf : ab_B} : decode (ab_code (zx σ n0 bf).1 8000) 3020 = .ok (.putfield 296, 3) := zd zm_8000 (by decide +kernel)
theorem d_8000_3023 {σ : Nat → Nat} {n0 : Nat} {bf : ab_B} : decode (ab_code (zx σ n0 bf).1 8000) 3023 = .ok (.aload_n 0, 1) := zd zm_8000 (by decide +kernel)
theorem d_8000_3024 {σ : Nat → Nat} {n0 : Nat} {bf : ab_B} : decode (ab_code (zx σ n0 bf).1 8000) 3024 = .ok (.sipush 20000, 3) := zd zm_8000 (by decide +kernel)
theorem d_8000_3027 {σ : Nat → Nat} {n0 : Nat} {bf : ab_B} : decode (ab_code (zx σ n0 bf).1 8000) 3027 = .ok (.newarray .boolean, 2) := zd zm_8000 (by decide +kernel)
theorem d_8000_3029 {σ : Nat → Nat} {n0 : Nat} {bf : ab_B} : decode (ab_code (zx σ n0 bf).1 8000) 3029 = .ok (.putfield 299, 3) := zd zm_8000 (by decide +kernel)
theorem d_8000_3032 {σ : Nat → Nat} {n0 : Nat} {bf : ab_B} : decode (ab_code (zx σ n0 bf).1 8000) 3032 = .ok (.aload_n 0, 1) := zd zm_8000 (by decide +kernel)
theorem d_8000_3033 {σ : Nat → Nat} {n0 : Nat} {bf : ab_B} : decode (ab_code (zx σ n0 bf).1 8000) 3033 = .ok (.sipush 20000, 3) := zd zm_8000 (by decide +kernel)
theorem d_8000_3036 {σ : Nat → Nat} {n0 : Nat} {bf : ab_B} : decode (ab_code (zx σ n0 bf).1 8000) 3036 = .ok (.newarray .boolean, 2) := zd zm_8000 (by decide +kernel)
theorem d_8000_3038 {σ : Nat → Nat} {n0 : Nat} {bf : ab_B} : decode (ab_code (zx σ n0 bf).1 8000) 3038 = .ok (.putfield 302, 3) := zd zm_8000 (by decide +kernel)
theorem d_8000_3041 {σ : Nat → Nat} {n0 : Nat} {bf : ab_B} : decode (ab_code (zx σ n0 bf).1 8000) 3041 = .ok (.aload_n 0, 1) := zd zm_8000 (by decide +kernel)
theorem d_8000_3042 {σ : Nat → Nat} {n0 : Nat} {bf : ab_B} : decode (ab_code (zx σ n0 bf).1 8000) 3042 = .ok (.sipush 16400, 3) := zd zm_8000 (by decide +kernel)
theorem d_8000_3045 {σ : Nat → Nat} {n0 : Nat} {bf : ab_B} : decode (ab_code (zx σ n0 bf).1 8000) 3045 = .ok (.newarray .int, 2) := zd zm_8000 (by decide +kernel)
theorem d_8000_3047 {σ : Nat → Nat} {n0 : Nat} {bf : ab_B} : decode (ab_code (zx σ n0 bf).1 8000) 3047 = .ok (.putfield 305, 3) := zd zm_8000 (by decide +kernel)
theorem d_8000_3050 {σ : Nat → Nat} {n0 : Nat} {bf : ab_B} : decode (ab_code (zx σ n0 bf).1 8000) 3050 = .ok (.aload_n 0, 1) := zd zm_8000 (by decide +kernel)
theorem d_8000_3051 {σ : Nat → Nat} {n0 : Nat} {bf : ab_B} : decode (ab_code (zx σ n0 bf).1 8000) 3051 = .ok (.sipush 4200, 3) := zd zm_8000 (by decide +kernel)
theorem d_8000_3054 {σ : Nat → Nat} {n0 : Nat} {bf : ab_B} : decode (ab_code (zx σ n0 bf).1 8000) 3054 = .ok (.newarray .int, 2) := zd zm_8000 (by decide +kernel)
theorem d_8000_3056 {σ : Nat → Nat} {n0 : Nat} {bf : ab_B} : decode (ab_code (zx σ n0 bf).1 8000) 3056 = .ok (.putfield 308, 3) := zd zm_8000 (by decide +kernel)
theorem d_8000_3059 {σ : Nat → Nat} {n0 : Nat} {bf : ab_B} : decode (ab_code (zx σ n0 bf).1 8000) 3059 = .ok (.aload_n 0, 1) := zd zm_8000 (by decide +kernel)
theorem d_8000_3060 {σ : Nat → Nat} {n0 : Nat} {bf : ab_B} : decode (ab_code (zx σ n0 bf).1 8000) 3060 = .ok (.sipush 4200, 3) := zd zm_8000 (by decide +kernel)
theorem d_8000_3063 {σ : Nat → Nat} {n0 : Nat} {bf : ab_B} : decode (ab_code (zx σ n0 bf).1 8000) 3063 = .ok (.newarray .int, 2) := zd zm_8000 (by decide +kernel)
theorem d_8000_3065 {σ : Nat → Nat} {n0 : Nat} {bf : ab_B} : decode (ab_code (zx σ n0 bf).1 8000) 3065 = .ok (.putfield 311, 3) := zd zm_8000 (by decide +kernel)
theorem d_8000_3068 {σ : Nat → Nat} {n0 : Nat} {bf : ab_B} : decode (ab_code (zx σ n0 bf).1 8000) 3068 = .ok (.aload_n 0, 1) := zd zm_8000 (by decide +kernel)
theorem d_8000_3069 {σ : Nat → Nat} {n0 : Nat} {bf : ab_B} : decode (ab_code (zx σ n0 bf).1 8000) 3069 = .ok (.bipush 50, 2) := zd zm_8000 (by decide +kernel)
theorem d_8000_3071 {σ : Nat → Nat} {n0 : Nat} {bf : ab_B} : decode (ab_code (zx σ n0 bf).1 8000) 3071 = .ok (.newarray .int, 2) := zd zm_8000 (by decide +kernel)
theorem d_8000_3073 {σ : Nat → Nat} {n0 : Nat} {bf : ab_B} : decode (ab_code (zx σ n0 bf).1 8000) 3073 = .ok (.putfield 314, 3) := zd zm_8000 (by decide +kernel)
theorem d_8000_3076 {σ : Nat → Nat} {n0 : Nat} {bf : ab_B} : decode (ab_code (zx σ n0 bf).1 8000) 3076 = .ok (.aload_n 0, 1) := zd zm_8000 (by decide +kernel)
theorem d_8000_3077 {σ : Nat → Nat} {n0 : Nat} {bf : ab_B} : decode (ab_code (zx σ n0 bf).1 8000) 3077 = .ok (.bipush 50, 2) := zd zm_8000 (by decide +kernel)
theorem d_8000_3079 {σ : Nat → Nat} {n0 : Nat} {bf : ab_B} : decode (ab_code (zx σ n0 bf).1 8000) 3079 = .ok (.newarray .int, 2) := zd zm_8000 (by decide +kernel)
theorem d_8000_3081 {σ : Nat → Nat} {n0 : Nat} {bf : ab_B} : decode (ab_code (zx σ n0 bf).1 8000) 3081 = .ok (.putfield 317, 3) := zd zm_8000 (by decide +kernel)
theorem d_8000_3084 {σ : Nat → Nat} {n0 : Nat} {bf : ab_B} : decode (ab_code (zx σ n0 bf).1 8000) 3084 = .ok (.aload_n 0, 1) := zd zm_8000 (by decide +kernel)
theorem d_8000_3085 {σ : Nat → Nat} {n0 : Nat} {bf : ab_B} : decode (ab_code (zx σ n0 bf).1 8000) 3085 = .ok (.bipush 50, 2) := zd zm_8000 (by decide +kernel)
theorem d_8000_3087 {σ : Nat → Nat} {n0 : Nat} {bf : ab_B} : decode (ab_code (zx σ n0 bf).1 8000) 3087 = .ok (.newarray .int, 2) := zd zm_8000 (by decide +kernel)
theorem d_8000_3089 {σ : Nat → Nat} {n0 : Nat} {bf : ab_B} : decode (ab_code (zx σ n0 bf).1 8000) 3089 = .ok (.putfield 320, 3) := zd zm_8000 (by decide +kernel)
theorem d_8000_3092 {σ : Nat → Nat} {n0 : Nat} {bf : ab_B} : decode (ab_code (zx σ n0 bf).1 8000) 3092 = .ok (.aload_n 0, 1) := zd zm_8000 (by decide +kernel)
theorem d_8000_3093 {σ : Nat → Nat} {n0 : Nat} {bf : ab_B} : decode (ab_code (zx σ n0 bf).1 8000) 3093 = .ok (.bipush 50, 2) := zd zm_8000 (by decide +kernel)
theorem d_8000_3095 {σ : Nat → Nat} {n0 : Nat} {bf : ab_B} : decode (ab_code (zx σ n0 bf).1 8000) 3095 = .ok (.newarray .int, 2) := zd zm_8000 (by decide +kernel)
theorem d_8000_3097 {σ : Nat → Nat} {n0 : Nat} {bf : ab_B} : decode (ab_code (zx σ n0 bf).1 8000) 3097 = .ok (.putfield 323, 3) := zd zm_8000 (by decide +kernel)
theorem d_8000_3100 {σ : Nat → Nat} {n0 : Nat} {bf : ab_B} : decode (ab_code (zx σ n0 bf).1 8000) 3100 = .ok (.aload_n 0, 1) := zd zm_8000 (by decide +kernel)
theorem d_8000_3101 {σ : Nat → Nat} {n0 : Nat} {bf : ab_B} : decode (ab_code (zx σ n0 bf).1 8000) 3101 = .ok (.bipush 50, 2) := zd zm_8000 (by decide +kernel)
theorem d_8000_3103 {σ : Nat → Nat} {n0 : Nat} {bf : ab_B} : decode (ab_code (zx σ n0 bf).1 8000) 3103 = .ok (.newarray .int, 2) := zd zm_8000 (by decide +kernel)
theorem d_8000_3105 {σ : Nat → Nat} {n0 : Nat} {bf : ab_B} : decode (ab_code (zx σ n0 bf).1 8000) 3105 = .ok (.putfield 326, 3) := zd zm_8000 (by decide +kernel)
theorem d_8000_3108 {σ : Nat → Nat} {n0 : Nat} {bf : ab_B} : decode (ab_code (zx σ n0 bf).1 8000) 3108 = .ok (.aload_n 0, 1) := zd zm_8000 (by decide +kernel)
theorem d_8000_3109 {σ : Nat → Nat} {n0 : Nat} {bf : ab_B} : decode (ab_code (zx σ n0 bf).1 8000) 3109 = .ok (.bipush 50, 2) := zd zm_8000 (by decide +kernel)
theorem d_8000_3111 {σ : Nat → Nat} {n0 : Nat} {bf : ab_B} : decode (ab_code (zx σ n0 bf).1 8000) 3111 = .ok (.newarray .int, 2) := zd zm_8000 (by decide +kernel)
theorem d_8000_3113 {σ : Nat → Nat} {n0 : Nat} {bf : ab_B} : decode (ab_code (zx σ n0 bf).1 8000) 3113 = .ok (.putfield 329, 3) := zd zm_8000 (by decide +kernel)
theorem d_8000_3116 {σ : Nat → Nat} {n0 : Nat} {bf : ab_B} : decode (ab_code (zx σ n0 bf).1 8000) 3116 = .ok (.aload_n 0, 1) := zd zm_8000 (by decide +kernel)
theorem d_8000_3117 {σ : Nat → Nat} {n0 : Nat} {bf : ab_B} : decode (ab_code (zx σ n0 bf).1 8000) 3117 = .ok (.bipush 50, 2) := zd zm_8000 (by decide +kernel)
theorem d_8000_3119 {σ : Nat → Nat} {n0 : Nat} {bf : ab_B} : decode (ab_code (zx σ n0 bf).1 8000) 3119 = .ok (.newarray .boolean, 2) := zd zm_8000 (by decide +kernel)
theorem d_8000_3121 {σ : Nat → Nat} {n0 : Nat} {bf : ab_B} : decode (ab_code (zx σ n0 bf).1 8000) 3121 = .ok (.putfield 332, 3) := zd zm_8000 (by decide +kernel)
theorem d_8000_3124 {σ : Nat → Nat} {n0 : Nat} {bf : ab_B} : decode (ab_code (zx σ n0 bf).1 8000) 3124 = .ok (.aload_n 0, 1) := zd zm_8000 (by decide +kernel)
theorem d_8000_3125 {σ : Nat → Nat} {n0 : Nat} {bf : ab_B} : decode (ab_code (zx σ n0 bf).1 8000) 3125 = .ok (.bipush 101, 2) := zd zm_8000 (by decide +kernel)
theorem d_8000_3127 {σ : Nat → Nat} {n0 : Nat} {bf : ab_B} : decode (ab_code (zx σ n0 bf).1 8000) 3127 = .ok (.newarray .int, 2) := zd zm_8000 (by decide +kernel)
theorem d_8000_3129 {σ : Nat → Nat} {n0 : Nat} {bf : ab_B} : decode (ab_code (zx σ n0 bf).1 8000) 3129 = .ok (.putfield 335, 3) := zd zm_8000 (by decide +kernel)
theorem d_8000_3132 {σ : Nat → Nat} {n0 : Nat} {bf : ab_B} : decode (ab_code (zx σ n0 bf).1 8000) 3132 = .ok (.aload_n 0, 1) := zd zm_8000 (by decide +kernel)
theorem d_8000_3133 {σ : Nat → Nat} {n0 : Nat} {bf : ab_B} : decode (ab_code (zx σ n0 bf).1 8000) 3133 = .ok (.bipush 101, 2) := zd zm_8000 (by decide +kernel)
theorem d_8000_3135 {σ : Nat → Nat} {n0 : Nat} {bf : ab_B} : decode (ab_code (zx σ n0 bf).1 8000) 3135 = .ok (.newarray .int, 2) := zd zm_8000 (by decide +kernel)
theorem d_8000_3137 {σ : Nat → Nat} {n0 : Nat} {bf : ab_B} : decode (ab_code (zx σ n0 bf).1 8000) 3137 = .ok (.putfield 338, 3) := zd zm_8000 (by decide +kernel)
theorem d_8000_3140 {σ : Nat → Nat} {n0 : Nat} {bf : ab_B} : decode (ab_code (zx σ n0 bf).1 8000) 3140 = .ok (.aload_n 0, 1) := zd zm_8000 (by decide +kernel)
theorem d_8000_3141 {σ : Nat → Nat} {n0 : Nat} {bf : ab_B} : decode (ab_code (zx σ n0 bf).1 8000) 3141 = .ok (.bipush 101, 2) := zd zm_8000 (by decide +kernel)
theorem d_8000_3143 {σ : Nat → Nat} {n0 : Nat} {bf : ab_B} : decode (ab_code (zx σ n0 bf).1 8000) 3143 = .ok (.newarray .int, 2) := zd zm_8000 (by decide +kernel)
theorem d_8000_3145 {σ : Nat → Nat} {n0 : Nat} {bf : ab_B} : decode (ab_code (zx σ n0 bf).1 8000) 3145 = .ok (.putfield 341, 3) := zd zm_8000 (by decide +kernel)
theorem d_8000_3148 {σ : Nat → Nat} {n0 : Nat} {bf : ab_B} : decode (ab_code (zx σ n0 bf).1 8000) 3148 = .ok (.aload_n 0, 1) := zd zm_8000 (by decide +kernel)
theorem d_8000_3149 {σ : Nat → Nat} {n0 : Nat} {bf : ab_B} : decode (ab_code (zx σ n0 bf).1 8000) 3149 = .ok (.bipush 101, 2) := zd zm_8000 (by decide +kernel)
theorem d_8000_3151 {σ : Nat → Nat} {n0 : Nat} {bf : ab_B} : decode (ab_code (zx σ n0 bf).1 8000) 3151 = .ok (.newarray .int, 2) := zd zm_8000 (by decide +kernel)
theorem d_8000_3153 {σ : Nat → Nat} {n0 : Nat} {bf : ab_B} : decode (ab_code (zx σ n0 bf).1 8000) 3153 = .ok (.putfield 344, 3) := zd zm_8000 (by decide +kernel)
theorem d_8000_3156 {σ : Nat → Nat} {n0 : Nat} {bf : ab_B} : decode (ab_code (zx σ n0 bf).1 8000) 3156 = .ok (.aload_n 0, 1) := zd zm_8000 (by decide +kernel)
theorem d_8000_3157 {σ : Nat → Nat} {n0 : Nat} {bf : ab_B} : decode (ab_code (zx σ n0 bf).1 8000) 3157 = .ok (.bipush 101, 2) := zd zm_8000 (by decide +kernel)
theorem d_8000_3159 {σ : Nat → Nat} {n0 : Nat} {bf : ab_B} : decode (ab_code (zx σ n0 bf).1 8000) 3159 = .ok (.newarray .int, 2) := zd zm_8000 (by decide +kernel)
theorem d_8000_3161 {σ : Nat → Nat} {n0 : Nat} {bf : ab_B} : decode (ab_code (zx σ n0 bf).1 8000) 3161 = .ok (.putfield 347, 3) := zd zm_8000 (by decide +kernel)
theorem d_8000_3164 {σ : Nat → Nat} {n0 : Nat} {bf : ab_B} : decode (ab_code (zx σ n0 bf).1 8000) 3164 = .ok (.aload_n 0, 1) := zd zm_8000 (by decide +kernel)
theorem d_8000_3165 {σ : Nat → Nat} {n0 : Nat} {bf : ab_B} : decode (ab_code (zx σ n0 bf).1 8000) 3165 = .ok (.bipush 101, 2) := zd zm_8000 (by decide +kernel)
theorem d_8000_3167 {σ : Nat → Nat} {n0 : Nat} {bf : ab_B} : decode (ab_code (zx σ n0 bf).1 8000) 3167 = .ok (.newarray .int, 2) := zd zm_8000 (by decide +kernel)
theorem d_8000_3169 {σ : Nat → Nat} {n0 : Nat} {bf : ab_B} : decode (ab_code (zx σ n0 bf).1 8000) 3169 = .ok (.putfield 350, 3) := zd zm_8000 (by decide +kernel)
theorem d_8000_3172 {σ : Nat → Nat} {n0 : Nat} {bf : ab_B} : decode (ab_code (zx σ n0 bf).1 8000) 3172 = .ok (.aload_n 0, 1) := zd zm_8000 (by decide +kernel)
theorem d_8000_3173 {σ : Nat → Nat} {n0 : Nat} {bf : ab_B} : decode (ab_code (zx σ n0 bf).1 8000) 3173 = .ok (.bipush 101, 2) := zd zm_8000 (by decide +kernel)
theorem d_8000_3175 {σ : Nat → Nat} {n0 : Nat} {bf : ab_B} : decode (ab_code (zx σ n0 bf).1 8000) 3175 = .ok (.newarray .int, 2) := zd zm_8000 (by decide +kernel)
theorem d_8000_3177 {σ : Nat → Nat} {n0 : Nat} {bf : ab_B} : decode (ab_code (zx σ n0 bf).1 8000) 3177 = .ok (.putfield 353, 3) := zd zm_8000 (by decide +kernel)
theorem d_8000_3180 {σ : Nat → Nat} {n0 : Nat} {bf : ab_B} : decode (ab_code (zx σ n0 bf).1 8000) 3180 = .ok (.aload_n 0, 1) := zd zm_8000 (by decide +kernel)
theorem d_8000_3181 {σ : Nat → Nat} {n0 : Nat} {bf : ab_B} : decode (ab_code (zx σ n0 bf).1 8000) 3181 = .ok (.bipush 101, 2) := zd zm_8000 (by decide +kernel)
theorem d_8000_3183 {σ : Nat → Nat} {n0 : Nat} {bf : ab_B} : decode (ab_code (zx σ n0 bf).1 8000) 3183 = .ok (.newarray .int, 2) := zd zm_8000 (by decide +kernel)
theorem d_8000_3185 {σ : Nat → Nat} {n0 : Nat} {bf : ab_B} : decode (ab_code (zx σ n0 bf).1 8000) 3185 = .ok (.putfield 356, 3) := zd zm_8000 (by decide +kernel)
theorem d_8000_3188 {σ : Nat → Nat} {n0 : Nat} {bf : ab_B} : decode (ab_code (zx σ n0 bf).1 8000) 3188 = .ok (.aload_n 0, 1) := zd zm_8000 (by decide +kernel)
theorem d_8000_3189 {σ : Nat → Nat} {n0 : Nat} {bf : ab_B} : decode (ab_code (zx σ n0 bf).1 8000) 3189 = .ok (.bipush 101, 2) := zd zm_8000 (by decide +kernel)
theorem d_8000_3191 {σ : Nat → Nat} {n0 : Nat} {bf : ab_B} : decode (ab_code (zx σ n0 bf).1 8000) 3191 = .ok (.newarray .int, 2) := zd zm_8000 (by decide +kernel)
theorem d_8000_3193 {σ : Nat → Nat} {n0 : Nat} {bf : ab_B} : decode (ab_code (zx σ n0 bf).1 8000) 3193 = .ok (.putfield 359, 3) := zd zm_8000 (by decide +kernel)
theorem d_8000_3196 {σ : Nat → Nat} {n0 : Nat} {bf : ab_B} : decode (ab_code (zx σ n0 bf).1 8000) 3196 = .ok (.aload_n 0, 1) := zd zm_8000 (by decide +kernel)
theorem d_8000_3197 {σ : Nat → Nat} {n0 : Nat} {bf : ab_B} : decode (ab_code (zx σ n0 bf).1 8000) 3197 = .ok (.sipush 21000, 3) := zd zm_8000 (by decide +kernel)
theorem d_8000_3200 {σ : Nat → Nat} {n0 : Nat} {bf : ab_B} : decode (ab_code (zx σ n0 bf).1 8000) 3200 = .ok (.newarray .int, 2) := zd zm_8000 (by decide +kernel)
theorem d_8000_3202 {σ : Nat → Nat} {n0 : Nat} {bf : ab_B} : decode (ab_code (zx σ n0 bf).1 8000) 3202 = .ok (.putfield 362, 3) := zd zm_8000 (by decide +kernel)
theorem d_8000_3205 {σ : Nat → Nat} {n0 : Nat} {bf : ab_B} : decode (ab_code (zx σ n0 bf).1 8000) 3205 = .ok (.aload_n 0, 1) := zd zm_8000 (by decide +kernel)
theorem d_8000_3206 {σ : Nat → Nat} {n0 : Nat} {bf : ab_B} : decode (ab_code (zx σ n0 bf).1 8000) 3206 = .ok (.sipush 21000, 3) := zd zm_8000 (by decide +kernel)
theorem d_8000_3209 {σ : Nat → Nat} {n0 : Nat} {bf : ab_B} : decode (ab_code (zx σ n0 bf).1 8000) 3209 = .ok (.newarray .int, 2) := zd zm_8000 (by decide +kernel)
theorem d_8000_3211 {σ : Nat → Nat} {n0 : Nat} {bf : ab_B} : decode (ab_code (zx σ n0 bf).1 8000) 3211 = .ok (.putfield 365, 3) := zd zm_8000 (by decide +kernel)
theorem d_8000_3214 {σ : Nat → Nat} {n0 : Nat} {bf : ab_B} : decode (ab_code (zx σ n0 bf).1 8000) 3214 = .ok (.aload_n 0, 1) := zd zm_8000 (by decide +kernel)
theorem d_8000_3215 {σ : Nat → Nat} {n0 : Nat} {bf : ab_B} : decode (ab_code (zx σ n0 bf).1 8000) 3215 = .ok (.ldc_w 368, 3) := zd zm_8000 (by decide +kernel)
theorem d_8000_3218 {σ : Nat → Nat} {n0 : Nat} {bf : ab_B} : decode (ab_code (zx σ n0 bf).1 8000) 3218 = .ok (.newarray .long, 2) := zd zm_8000 (by decide +kernel)
theorem d_8000_3220 {σ : Nat → Nat} {n0 : Nat} {bf : ab_B} : decode (ab_code (zx σ n0 bf).1 8000) 3220 = .ok (.putfield 369, 3) := zd zm_8000 (by decide +kernel)
theorem d_8000_3223 {σ : Nat → Nat} {n0 : Nat} {bf : ab_B} : decode (ab_code (zx σ n0 bf).1 8000) 3223 = .ok (.aload_n 0, 1) := zd zm_8000 (by decide +kernel)
theorem d_8000_3224 {σ : Nat → Nat} {n0 : Nat} {bf : ab_B} : decode (ab_code (zx σ n0 bf).1 8000) 3224 = .ok (.ldc_w 372, 3) := zd zm_8000 (by decide +kernel)
theorem d_8000_3227 {σ : Nat → Nat} {n0 : Nat} {bf : ab_B} : decode (ab_code (zx σ n0 bf).1 8000) 3227 = .ok (.newarray .long, 2) := zd zm_8000 (by decide +kernel)
theorem d_8000_3229 {σ : Nat → Nat} {n0 : Nat} {bf : ab_B} : decode (ab_code (zx σ n0 bf).1 8000) 3229 = .ok (.putfield 373, 3) := zd zm_8000 (by decide +kernel)
theorem d_8000_3232 {σ : Nat → Nat} {n0 : Nat} {bf : ab_B} : decode (ab_code (zx σ n0 bf).1 8000) 3232 = .ok (.aload_n 0, 1) := zd zm_8000 (by decide +kernel)
theorem d_8000_3233 {σ : Nat → Nat} {n0 : Nat} {bf : ab_B} : decode (ab_code (zx σ n0 bf).1 8000) 3233 = .ok (.ldc_w 372, 3) := zd zm_8000 (by decide +kernel)
theorem d_8000_3236 {σ : Nat → Nat} {n0 : Nat} {bf : ab_B} : decode (ab_code (zx σ n0 bf).1 8000) 3236 = .ok (.newarray .boolean, 2) := zd zm_8000 (by decide +kernel)
theorem d_8000_3238 {σ : Nat → Nat} {n0 : Nat} {bf : ab_B} : decode (ab_code (zx σ n0 bf).1 8000) 3238 = .ok (.putfield 376, 3) := zd zm_8000 (by decide +kernel)
theorem d_8000_3241 {σ : Nat → Nat} {n0 : Nat} {bf : ab_B} : decode (ab_code (zx σ n0 bf).1 8000) 3241 = .ok (.aload_n 0, 1) := zd zm_8000 (by decide +kernel)
theorem d_8000_3242 {σ : Nat → Nat} {n0 : Nat} {bf : ab_B} : decode (ab_code (zx σ n0 bf).1 8000) 3242 = .ok (.ldc_w 372, 3) := zd zm_8000 (by decide +kernel)
theorem d_8000_3245 {σ : Nat → Nat} {n0 : Nat} {bf : ab_B} : decode (ab_code (zx σ n0 bf).1 8000) 3245 = .ok (.newarray .int, 2) := zd zm_8000 (by decide +kernel)
theorem d_8000_3247 {σ : Nat → Nat} {n0 : Nat} {bf : ab_B} : decode (ab_code (zx σ n0 bf).1 8000) 3247 = .ok (.putfield 379, 3) := zd zm_8000 (by decide +kernel)
theorem d_8000_3250 {σ : Nat → Nat} {n0 : Nat} {bf : ab_B} : decode (ab_code (zx σ n0 bf).1 8000) 3250 = .ok (.aload_n 0, 1) := zd zm_8000 (by decide +kernel)
theorem d_8000_3251 {σ : Nat → Nat} {n0 : Nat} {bf : ab_B} : decode (ab_code (zx σ n0 bf).1 8000) 3251 = .ok (.sipush 20100, 3) := zd zm_8000 (by decide +kernel)
theorem d_8000_3254 {σ : Nat → Nat} {n0 : Nat} {bf : ab_B} : decode (ab_code (zx σ n0 bf).1 8000) 3254 = .ok (.newarray .int, 2) := zd zm_8000 (by decide +kernel)
theorem d_8000_3256 {σ : Nat → Nat} {n0 : Nat} {bf : ab_B} : decode (ab_code (zx σ n0 bf).1 8000) 3256 = .ok (.putfield 382, 3) := zd zm_8000 (by decide +kernel)
theorem d_8000_3259 {σ : Nat → Nat} {n0 : Nat} {bf : ab_B} : decode (ab_code (zx σ n0 bf).1 8000) 3259 = .ok (.aload_n 0, 1) := zd zm_8000 (by decide +kernel)
theorem d_8000_3260 {σ : Nat → Nat} {n0 : Nat} {bf : ab_B} : decode (ab_code (zx σ n0 bf).1 8000) 3260 = .ok (.sipush 20100, 3) := zd zm_8000 (by decide +kernel)
theorem d_8000_3263 {σ : Nat → Nat} {n0 : Nat} {bf : ab_B} : decode (ab_code (zx σ n0 bf).1 8000) 3263 = .ok (.newarray .int, 2) := zd zm_8000 (by decide +kernel)
theorem d_8000_3265 {σ : Nat → Nat} {n0 : Nat} {bf : ab_B} : decode (ab_code (zx σ n0 bf).1 8000) 3265 = .ok (.putfield 385, 3) := zd zm_8000 (by decide +kernel)
theorem d_8000_3268 {σ : Nat → Nat} {n0 : Nat} {bf : ab_B} : decode (ab_code (zx σ n0 bf).1 8000) 3268 = .ok (.aload_n 0, 1) := zd zm_8000 (by decide +kernel)
theorem d_8000_3269 {σ : Nat → Nat} {n0 : Nat} {bf : ab_B} : decode (ab_code (zx σ n0 bf).1 8000) 3269 = .ok (.sipush 20100, 3) := zd zm_8000 (by decide +kernel)
theorem d_8000_3272 {σ : Nat → Nat} {n0 : Nat} {bf : ab_B} : decode (ab_code (zx σ n0 bf).1 8000) 3272 = .ok (.newarray .int, 2) := zd zm_8000 (by decide +kernel)
theorem d_8000_3274 {σ : Nat → Nat} {n0 : Nat} {bf : ab_B} : decode (ab_code (zx σ n0 bf).1 8000) 3274 = .ok (.putfield 388, 3) := zd zm_8000 (by decide +kernel)
theorem d_8000_3277 {σ : Nat → Nat} {n0 : Nat} {bf : ab_B} : decode (ab_code (zx σ n0 bf).1 8000) 3277 = .ok (.aload_n 0, 1) := zd zm_8000 (by decide +kernel)
theorem d_8000_3278 {σ : Nat → Nat} {n0 : Nat} {bf : ab_B} : decode (ab_code (zx σ n0 bf).1 8000) 3278 = .ok (.ldc_w 391, 3) := zd zm_8000 (by decide +kernel)
theorem d_8000_3281 {σ : Nat → Nat} {n0 : Nat} {bf : ab_B} : decode (ab_code (zx σ n0 bf).1 8000) 3281 = .ok (.newarray .long, 2) := zd zm_8000 (by decide +kernel)
theorem d_8000_3283 {σ : Nat → Nat} {n0 : Nat} {bf : ab_B} : decode (ab_code (zx σ n0 bf).1 8000) 3283 = .ok (.putfield 392, 3) := zd zm_8000 (by decide +kernel)
theorem d_8000_3286 {σ : Nat → Nat} {n0 : Nat} {bf : ab_B} : decode (ab_code (zx σ n0 bf).1 8000) 3286 = .ok (.aload_n 0, 1) := zd zm_8000 (by decide +kernel)
theorem d_8000_3287 {σ : Nat → Nat} {n0 : Nat} {bf : ab_B} : decode (ab_code (zx σ n0 bf).1 8000) 3287 = .ok (.sipush 20100, 3) := zd zm_8000 (by decide +kernel)
theorem d_8000_3290 {σ : Nat → Nat} {n0 : Nat} {bf : ab_B} : decode (ab_code (zx σ n0 bf).1 8000) 3290 = .ok (.newarray .boolean, 2) := zd zm_8000 (by decide +kernel)
theorem d_8000_3292 {σ : Nat → Nat} {n0 : Nat} {bf : ab_B} : decode (ab_code (zx σ n0 bf).1 8000) 3292 = .ok (.putfield 395, 3) := zd zm_8000 (by decide +kernel)
theorem d_8000_3295 {σ : Nat → Nat} {n0 : Nat} {bf : ab_B} : decode (ab_code (zx σ n0 bf).1 8000) 3295 = .ok (.aload_n 0, 1) := zd zm_8000 (by decide +kernel)
theorem d_8000_3296 {σ : Nat → Nat} {n0 : Nat} {bf : ab_B} : decode (ab_code (zx σ n0 bf).1 8000) 3296 = .ok (.ldc_w 398, 3) := zd zm_8000 (by decide +kernel)
theorem d_8000_3299 {σ : Nat → Nat} {n0 : Nat} {bf : ab_B} : decode (ab_code (zx σ n0 bf).1 8000) 3299 = .ok (.newarray .long, 2) := zd zm_8000 (by decide +kernel)
theorem d_8000_3301 {σ : Nat → Nat} {n0 : Nat} {bf : ab_B} : decode (ab_code (zx σ n0 bf).1 8000) 3301 = .ok (.putfield 399, 3) := zd zm_8000 (by decide +kernel)
theorem d_8000_3304 {σ : Nat → Nat} {n0 : Nat} {bf : ab_B} : decode (ab_code (zx σ n0 bf).1 8000) 3304 = .ok (.aload_n 0, 1) := zd zm_8000 (by decide +kernel)
theorem d_8000_3305 {σ : Nat → Nat} {n0 : Nat} {bf : ab_B} : decode (ab_code (zx σ n0 bf).1 8000) 3305 = .ok (.sipush 20400, 3) := zd zm_8000 (by decide +kernel)
theorem d_8000_3308 {σ : Nat → Nat} {n0 : Nat} {bf : ab_B} : decode (ab_code (zx σ n0 bf).1 8000) 3308 = .ok (.newarray .byte, 2) := zd zm_8000 (by decide +kernel)
theorem d_8000_3310 {σ : Nat → Nat} {n0 : Nat} {bf : ab_B} : decode (ab_code (zx σ n0 bf).1 8000) 3310 = .ok (.putfield 402, 3) := zd zm_8000 (by decide +kernel)
theorem d_8000_3313 {σ : Nat → Nat} {n0 : Nat} {bf : ab_B} : decode (ab_code (zx σ n0 bf).1 8000) 3313 = .ok (.aload_n 0, 1) := zd zm_8000 (by decide +kernel)
theorem d_8000_3314 {σ : Nat → Nat} {n0 : Nat} {bf : ab_B} : decode (ab_code (zx σ n0 bf).1 8000) 3314 = .ok (.ldc_w 398, 3) := zd zm_8000 (by decide +kernel)
theorem d_8000_3317 {σ : Nat → Nat} {n0 : Nat} {bf : ab_B} : decode (ab_code (zx σ n0 bf).1 8000) 3317 = .ok (.newarray .int, 2) := zd zm_8000 (by decide +kernel)
theorem d_8000_3319 {σ : Nat → Nat} {n0 : Nat} {bf : ab_B} : decode (ab_code (zx σ n0 bf).1 8000) 3319 = .ok (.putfield 405, 3) := zd zm_8000 (by decide +kernel)
theorem d_8000_3322 {σ : Nat → Nat} {n0 : Nat} {bf : ab_B} : decode (ab_code (zx σ n0 bf).1 8000) 3322 = .ok (.aload_n 0, 1) := zd zm_8000 (by decide +kernel)
theorem d_8000_3323 {σ : Nat → Nat} {n0 : Nat} {bf : ab_B} : decode (ab_code (zx σ n0 bf).1 8000) 3323 = .ok (.ldc_w 408, 3) := zd zm_8000 (by decide +kernel)
theorem d_8000_3326 {σ : Nat → Nat} {n0 : Nat} {bf : ab_B} : decode (ab_code (zx σ n0 bf).1 8000) 3326 = .ok (.newarray .int, 2) := zd zm_8000 (by decide +kernel)
theorem d_8000_3328 {σ : Nat → Nat} {n0 : Nat} {bf : ab_B} : decode (ab_code (zx σ n0 bf).1 8000) 3328 = .ok (.putfield 409, 3) := zd zm_8000 (by decide +kernel)
theorem d_8000_3331 {σ : Nat → Nat} {n0 : Nat} {bf : ab_B} : decode (ab_code (zx σ n0 bf).1 8000) 3331 = .ok (.aload_n 0, 1) := zd zm_8000 (by decide +kernel)
theorem d_8000_3332 {σ : Nat → Nat} {n0 : Nat} {bf : ab_B} : decode (ab_code (zx σ n0 bf).1 8000) 3332 = .ok (.ldc_w 408, 3) := zd zm_8000 (by decide +kernel)
theorem d_8000_3335 {σ : Nat → Nat} {n0 : Nat} {bf : ab_B} : decode (ab_code (zx σ n0 bf).1 8000) 3335 = .ok (.newarray .int, 2) := zd zm_8000 (by decide +kernel)
theorem d_8000_3337 {σ : Nat → Nat} {n0 : Nat} {bf : ab_B} : decode (ab_code (zx σ n0 bf).1 8000) 3337 = .ok (.putfield 412, 3) := zd zm_8000 (by decide +kernel)
theorem d_8000_3340 {σ : Nat → Nat} {n0 : Nat} {bf : ab_B} : decode (ab_code (zx σ n0 bf).1 8000) 3340 = .ok (.aload_n 0, 1) := zd zm_8000 (by decide +kernel)
theorem d_8000_3341 {σ : Nat → Nat} {n0 : Nat} {bf : ab_B} : decode (ab_code (zx σ n0 bf).1 8000) 3341 = .ok (.ldc_w 415, 3) := zd zm_8000 (by decide +kernel)
theorem d_8000_3344 {σ : Nat → Nat} {n0 : Nat} {bf : ab_B} : decode (ab_code (zx σ n0 bf).1 8000) 3344 = .ok (.newarray .long, 2) := zd zm_8000 (by decide +kernel)
theorem d_8000_3346 {σ : Nat → Nat} {n0 : Nat} {bf : ab_B} : decode (ab_code (zx σ n0 bf).1 8000) 3346 = .ok (.putfield 416, 3) := zd zm_8000 (by decide +kernel)
theorem d_8000_3349 {σ : Nat → Nat} {n0 : Nat} {bf : ab_B} : decode (ab_code (zx σ n0 bf).1 8000) 3349 = .ok (.aload_n 0, 1) := zd zm_8000 (by decide +kernel)
theorem d_8000_3350 {σ : Nat → Nat} {n0 : Nat} {bf : ab_B} : decode (ab_code (zx σ n0 bf).1 8000) 3350 = .ok (.ldc_w 408, 3) := zd zm_8000 (by decide +kernel)
theorem d_8000_3353 {σ : Nat → Nat} {n0 : Nat} {bf : ab_B} : decode (ab_code (zx σ n0 bf).1 8000) 3353 = .ok (.newarray .int, 2) := zd zm_8000 (by decide +kernel)
theorem d_8000_3355 {σ : Nat → Nat} {n0 : Nat} {bf : ab_B} : decode (ab_code (zx σ n0 bf).1 8000) 3355 = .ok (.putfield 419, 3) := zd zm_8000 (by decide +kernel)
theorem d_8000_3358 {σ : Nat → Nat} {n0 : Nat} {bf : ab_B} : decode (ab_code (zx σ n0 bf).1 8000) 3358 = .ok (.aload_n 0, 1) := zd zm_8000 (by decide +kernel)
theorem d_8000_3359 {σ : Nat → Nat} {n0 : Nat} {bf : ab_B} : decode (ab_code (zx σ n0 bf).1 8000) 3359 = .ok (.ldc_w 408, 3) := zd zm_8000 (by decide +kernel)
theorem d_8000_3362 {σ : Nat → Nat} {n0 : Nat} {bf : ab_B} : decode (ab_code (zx σ n0 bf).1 8000) 3362 = .ok (.newarray .int, 2) := zd zm_8000 (by decide +kernel)
theorem d_8000_3364 {σ : Nat → Nat} {n0 : Nat} {bf : ab_B} : decode (ab_code (zx σ n0 bf).1 8000) 3364 = .ok (.putfield 422, 3) := zd zm_8000 (by decide +kernel)
theorem d_8000_3367 {σ : Nat → Nat} {n0 : Nat} {bf : ab_B} : decode (ab_code (zx σ n0 bf).1 8000) 3367 = .ok (.aload_n 0, 1) := zd zm_8000 (by decide +kernel)
theorem d_8000_3368 {σ : Nat → Nat} {n0 : Nat} {bf : ab_B} : decode (ab_code (zx σ n0 bf).1 8000) 3368 = .ok (.ldc_w 408, 3) := zd zm_8000 (by decide +kernel)
theorem d_8000_3371 {σ : Nat → Nat} {n0 : Nat} {bf : ab_B} : decode (ab_code (zx σ n0 bf).1 8000) 3371 = .ok (.newarray .int, 2) := zd zm_8000 (by decide +kernel)
theorem d_8000_3373 {σ : Nat → Nat} {n0 : Nat} {bf : ab_B} : decode (ab_code (zx σ n0 bf).1 8000) 3373 = .ok (.putfield 425, 3) := zd zm_8000 (by decide +kernel)
theorem d_8000_3376 {σ : Nat → Nat} {n0 : Nat} {bf : ab_B} : decode (ab_code (zx σ n0 bf).1 8000) 3376 = .ok (.aload_n 0, 1) := zd zm_8000 (by decide +kernel)
theorem d_8000_3377 {σ : Nat → Nat} {n0 : Nat} {bf : ab_B} : decode (ab_code (zx σ n0 bf).1 8000) 3377 = .ok (.iconst (-1), 1) := zd zm_8000 (by decide +kernel)
theorem d_8000_3378 {σ : Nat → Nat} {n0 : Nat} {bf : ab_B} : decode (ab_code (zx σ n0 bf).1 8000) 3378 = .ok (.putfield 428, 3) := zd zm_8000 (by decide +kernel)
theorem d_8000_3381 {σ : Nat → Nat} {n0 : Nat} {bf : ab_B} : decode (ab_code (zx σ n0 bf).1 8000) 3381 = .ok (.aload_n 0, 1) := zd zm_8000 (by decide +kernel)
theorem d_8000_3382 {σ : Nat → Nat} {n0 : Nat} {bf : ab_B} : decode (ab_code (zx σ n0 bf).1 8000) 3382 = .ok (.sipush 1000, 3) := zd zm_8000 (by decide +kernel)
theorem d_8000_3385 {σ : Nat → Nat} {n0 : Nat} {bf : ab_B} : decode (ab_code (zx σ n0 bf).1 8000) 3385 = .ok (.newarray .int, 2) := zd zm_8000 (by decide +kernel)
theorem d_8000_3387 {σ : Nat → Nat} {n0 : Nat} {bf : ab_B} : decode (ab_code (zx σ n0 bf).1 8000) 3387 = .ok (.putfield 432, 3) := zd zm_8000 (by decide +kernel)
theorem d_8000_3390 {σ : Nat → Nat} {n0 : Nat} {bf : ab_B} : decode (ab_code (zx σ n0 bf).1 8000) 3390 = .ok (.aload_n 0, 1) := zd zm_8000 (by decide +kernel)
theorem d_8000_3391 {σ : Nat → Nat} {n0 : Nat} {bf : ab_B} : decode (ab_code (zx σ n0 bf).1 8000) 3391 = .ok (.sipush 20000, 3) := zd zm_8000 (by decide +kernel)
theorem d_8000_3394 {σ : Nat → Nat} {n0 : Nat} {bf : ab_B} : decode (ab_code (zx σ n0 bf).1 8000) 3394 = .ok (.newarray .byte, 2) := zd zm_8000 (by decide +kernel)
theorem d_8000_3396 {σ : Nat → Nat} {n0 : Nat} {bf : ab_B} : decode (ab_code (zx σ n0 bf).1 8000) 3396 = .ok (.putfield 435, 3) := zd zm_8000 (by decide +kernel)
theorem d_8000_3399 {σ : Nat → Nat} {n0 : Nat} {bf : ab_B} : decode (ab_code (zx σ n0 bf).1 8000) 3399 = .ok (.aload_n 0, 1) := zd zm_8000 (by decide +kernel)
theorem d_8000_3400 {σ : Nat → Nat} {n0 : Nat} {bf : ab_B} : decode (ab_code (zx σ n0 bf).1 8000) 3400 = .ok (.bipush 64, 2) := zd zm_8000 (by decide +kernel)
theorem d_8000_3402 {σ : Nat → Nat} {n0 : Nat} {bf : ab_B} : decode (ab_code (zx σ n0 bf).1 8000) 3402 = .ok (.newarray .int, 2) := zd zm_8000 (by decide +kernel)
theorem d_8000_3404 {σ : Nat → Nat} {n0 : Nat} {bf : ab_B} : decode (ab_code (zx σ n0 bf).1 8000) 3404 = .ok (.putfield 438, 3) := zd zm_8000 (by decide +kernel)
theorem d_8000_3407 {σ : Nat → Nat} {n0 : Nat} {bf : ab_B} : decode (ab_code (zx σ n0 bf).1 8000) 3407 = .ok (.return_, 1) := zd zm_8000 (by decide +kernel)
def w_X9_init_3376 (X : zs_X) (d : Nat) (p0 : Nat) (S : zs_T) (Q : zs_Q) : Prop :=
  (zs_K S p0 = some (.inl 8) ∧ ab_n0 X.1 ≤ p0 ∧ ∀ S3, S3 = zs_sI S 8198 p0 (-1 : Int32) → ∀ a6 S7, a6 = zs_N S3 → S7 = zs_nw S3 (.inr (0, (1000 : Int32).toNatClampNeg)) (1000 : Int32).toNatClampNeg → zs_K S7 p0 = some (.inl 8) ∧ ∀ S12, S12 = zs_sR S7 8202 p0 (some a6) → ∀ a15 S16, a15 = zs_N S12 → S16 = zs_nw S12 (.inr (1, (20000 : Int32).toNatClampNeg)) (20000 : Int32).toNatClampNeg → zs_K S16 p0 = some (.inl 8) ∧ ∀ S21, S21 = zs_sR S16 8204 p0 (some a15) → ∀ a24 S25, a24 = zs_N S21 → S25 = zs_nw S21 (.inr (0, (64 : Int32).toNatClampNeg)) (64 : Int32).toNatClampNeg → zs_K S25 p0 = some (.inl 8) ∧ ∀ S30, S30 = zs_sR S25 8206 p0 (some a24) → Q (.returned none) S30)
theorem u_X9_init_3376 {σ : Nat → Nat} {n0 : Nat} {bf : ab_B} {d : Nat} {p0 : Nat} {S : zs_T} {Q : zs_Q} (hB : zt_B bf) (h : w_X9_init_3376 (zx σ n0 bf) d p0 S Q) : zs_U (zx σ n0 bf) d 8000 3376 [(0, .ref p0)] [] S Q := by
  unfold w_X9_init_3376 at h
  refine zu_aload_n d_8000_3376 rfl (zs_ra _) ?_
  refine zu_iconst d_8000_3377 zi_m1 ?_
  obtain ⟨k1, h⟩ := h
  obtain ⟨k2, h⟩ := h
  refine zp_8_428 (v := (-1 : Int32)) rfl d_8000_3378 k1 k2 ?_
  generalize e4 : zs_sI S 8198 p0 (-1 : Int32) = S3
  have h := h S3 e4.symm
  have K5 : ∀ b, zs_K S3 b = zs_K S b := zs_Kt e4 (zs_KsI _ _ _ _) (fun _ => rfl)
  refine zu_aload_n d_8000_3381 rfl (zs_ra _) ?_
  refine zu_sipush d_8000_3382 zh_1000 ?_
  refine zu_newa0 (k := 0) d_8000_3385 rfl rfl (fun _ => rfl) (by decide) (by decide) ?_
  generalize e9 : zs_nw S3 (.inr (0, (1000 : Int32).toNatClampNeg)) (1000 : Int32).toNatClampNeg = S7
  generalize e8 : zs_N S3 = a6
  have h := h a6 S7 e8.symm e9.symm
  have k10 := zs_kn e8 e9
  obtain ⟨k11, h⟩ := h
  refine zp_8_432 (v := (some a6)) rfl d_8000_3387 k11 k2 ?_
  generalize e13 : zs_sR S7 8202 p0 (some a6) = S12
  have h := h S12 e13.symm
  have K14 : ∀ b, zs_K S12 b = zs_K S7 b := zs_Kt e13 (zs_KsR _ _ _ _) (fun _ => rfl)
  refine zu_aload_n d_8000_3390 rfl (zs_ra _) ?_
  refine zu_sipush d_8000_3391 zh_20000 ?_
  refine zu_newa0 (k := 1) d_8000_3394 rfl rfl (fun _ => rfl) (by decide) (by decide) ?_
  generalize e18 : zs_nw S12 (.inr (1, (20000 : Int32).toNatClampNeg)) (20000 : Int32).toNatClampNeg = S16
  generalize e17 : zs_N S12 = a15
  have h := h a15 S16 e17.symm e18.symm
  have k19 := zs_kn e17 e18
  obtain ⟨k20, h⟩ := h
  refine zp_8_435 (v := (some a15)) rfl d_8000_3396 k20 k2 ?_
  generalize e22 : zs_sR S16 8204 p0 (some a15) = S21
  have h := h S21 e22.symm
  have K23 : ∀ b, zs_K S21 b = zs_K S16 b := zs_Kt e22 (zs_KsR _ _ _ _) (fun _ => rfl)
  refine zu_aload_n d_8000_3399 rfl (zs_ra _) ?_
  refine zu_bipush d_8000_3400 zj_64 ?_
  refine zu_newa0 (k := 0) d_8000_3402 rfl rfl (fun _ => rfl) (by decide) (by decide) ?_
  generalize e27 : zs_nw S21 (.inr (0, (64 : Int32).toNatClampNeg)) (64 : Int32).toNatClampNeg = S25
  generalize e26 : zs_N S21 = a24
  have h := h a24 S25 e26.symm e27.symm
  have k28 := zs_kn e26 e27
  obtain ⟨k29, h⟩ := h
  refine zp_8_438 (v := (some a24)) rfl d_8000_3404 k29 k2 ?_
  generalize e31 : zs_sR S25 8206 p0 (some a24) = S30
  have h := h S30 e31.symm
  have K32 : ∀ b, zs_K S30 b = zs_K S25 b := zs_Kt e31 (zs_KsR _ _ _ _) (fun _ => rfl)
  exact zu_vret d_8000_3407 zr_8000 h
def w_X9_init_3340 (X : zs_X) (d : Nat) (p0 : Nat) (S : zs_T) (Q : zs_Q) : Prop :=
  (∀ a1 S2, a1 = zs_N S → S2 = zs_nw S (.inr (3, (240000 : Int32).toNatClampNeg)) (240000 : Int32).toNatClampNeg → zs_K S2 p0 = some (.inl 8) ∧ ab_n0 X.1 ≤ p0 ∧ ∀ S8, S8 = zs_sR S2 8191 p0 (some a1) → ∀ a11 S12, a11 = zs_N S8 → S12 = zs_nw S8 (.inr (0, (60000 : Int32).toNatClampNeg)) (60000 : Int32).toNatClampNeg → zs_K S12 p0 = some (.inl 8) ∧ ∀ S17, S17 = zs_sR S12 8192 p0 (some a11) → ∀ a20 S21, a20 = zs_N S17 → S21 = zs_nw S17 (.inr (0, (60000 : Int32).toNatClampNeg)) (60000 : Int32).toNatClampNeg → zs_K S21 p0 = some (.inl 8) ∧ ∀ S26, S26 = zs_sR S21 8193 p0 (some a20) → ∀ a29 S30, a29 = zs_N S26 → S30 = zs_nw S26 (.inr (0, (60000 : Int32).toNatClampNeg)) (60000 : Int32).toNatClampNeg → zs_K S30 p0 = some (.inl 8) ∧ ∀ S35, S35 = zs_sR S30 8194 p0 (some a29) → w_X9_init_3376 X d p0 S35 Q)
theorem u_X9_init_3340 {σ : Nat → Nat} {n0 : Nat} {bf : ab_B} {d : Nat} {p0 : Nat} {S : zs_T} {Q : zs_Q} (hB : zt_B bf) (h : w_X9_init_3340 (zx σ n0 bf) d p0 S Q) : zs_U (zx σ n0 bf) d 8000 3340 [(0, .ref p0)] [] S Q := by
  unfold w_X9_init_3340 at h
  refine zu_aload_n d_8000_3340 rfl (zs_ra _) ?_
  refine zlw_8_415 rfl d_8000_3341 ?_
  refine zu_newa1 (k := 3) d_8000_3344 rfl rfl (fun _ => rfl) (by decide) (by decide) ?_
  generalize e4 : zs_nw S (.inr (3, (240000 : Int32).toNatClampNeg)) (240000 : Int32).toNatClampNeg = S2
  generalize e3 : zs_N S = a1
  have h := h a1 S2 e3.symm e4.symm
  have k5 := zs_kn e3 e4
  obtain ⟨k6, h⟩ := h
  obtain ⟨k7, h⟩ := h
  refine zp_8_416 (v := (some a1)) rfl d_8000_3346 k6 k7 ?_
  generalize e9 : zs_sR S2 8191 p0 (some a1) = S8
  have h := h S8 e9.symm
  have K10 : ∀ b, zs_K S8 b = zs_K S2 b := zs_Kt e9 (zs_KsR _ _ _ _) (fun _ => rfl)
  refine zu_aload_n d_8000_3349 rfl (zs_ra _) ?_
  refine zlw_8_408 rfl d_8000_3350 ?_
  refine zu_newa0 (k := 0) d_8000_3353 rfl rfl (fun _ => rfl) (by decide) (by decide) ?_
  generalize e14 : zs_nw S8 (.inr (0, (60000 : Int32).toNatClampNeg)) (60000 : Int32).toNatClampNeg = S12
  generalize e13 : zs_N S8 = a11
  have h := h a11 S12 e13.symm e14.symm
  have k15 := zs_kn e13 e14
  obtain ⟨k16, h⟩ := h
  refine zp_8_419 (v := (some a11)) rfl d_8000_3355 k16 k7 ?_
  generalize e18 : zs_sR S12 8192 p0 (some a11) = S17
  have h := h S17 e18.symm
  have K19 : ∀ b, zs_K S17 b = zs_K S12 b := zs_Kt e18 (zs_KsR _ _ _ _) (fun _ => rfl)
  refine zu_aload_n d_8000_3358 rfl (zs_ra _) ?_
  refine zlw_8_408 rfl d_8000_3359 ?_
  refine zu_newa0 (k := 0) d_8000_3362 rfl rfl (fun _ => rfl) (by decide) (by decide) ?_
  generalize e23 : zs_nw S17 (.inr (0, (60000 : Int32).toNatClampNeg)) (60000 : Int32).toNatClampNeg = S21
  generalize e22 : zs_N S17 = a20
  have h := h a20 S21 e22.symm e23.symm
  have k24 := zs_kn e22 e23
  obtain ⟨k25, h⟩ := h
  refine zp_8_422 (v := (some a20)) rfl d_8000_3364 k25 k7 ?_
  generalize e27 : zs_sR S21 8193 p0 (some a20) = S26
  have h := h S26 e27.symm
  have K28 : ∀ b, zs_K S26 b = zs_K S21 b := zs_Kt e27 (zs_KsR _ _ _ _) (fun _ => rfl)
  refine zu_aload_n d_8000_3367 rfl (zs_ra _) ?_
  refine zlw_8_408 rfl d_8000_3368 ?_
  refine zu_newa0 (k := 0) d_8000_3371 rfl rfl (fun _ => rfl) (by decide) (by decide) ?_
  generalize e32 : zs_nw S26 (.inr (0, (60000 : Int32).toNatClampNeg)) (60000 : Int32).toNatClampNeg = S30
  generalize e31 : zs_N S26 = a29
  have h := h a29 S30 e31.symm e32.symm
  have k33 := zs_kn e31 e32
  obtain ⟨k34, h⟩ := h
  refine zp_8_425 (v := (some a29)) rfl d_8000_3373 k34 k7 ?_
  generalize e36 : zs_sR S30 8194 p0 (some a29) = S35
  have h := h S35 e36.symm
  have K37 : ∀ b, zs_K S35 b = zs_K S30 b := zs_Kt e36 (zs_KsR _ _ _ _) (fun _ => rfl)
  exact (u_X9_init_3376 hB h).weak ⟨rfl, trivial⟩
def w_X9_init_3304 (X : zs_X) (d : Nat) (p0 : Nat) (S : zs_T) (Q : zs_Q) : Prop :=
  (∀ a1 S2, a1 = zs_N S → S2 = zs_nw S (.inr (1, (20400 : Int32).toNatClampNeg)) (20400 : Int32).toNatClampNeg → zs_K S2 p0 = some (.inl 8) ∧ ab_n0 X.1 ≤ p0 ∧ ∀ S8, S8 = zs_sR S2 8185 p0 (some a1) → ∀ a11 S12, a11 = zs_N S8 → S12 = zs_nw S8 (.inr (0, (70000 : Int32).toNatClampNeg)) (70000 : Int32).toNatClampNeg → zs_K S12 p0 = some (.inl 8) ∧ ∀ S17, S17 = zs_sR S12 8186 p0 (some a11) → ∀ a20 S21, a20 = zs_N S17 → S21 = zs_nw S17 (.inr (0, (60000 : Int32).toNatClampNeg)) (60000 : Int32).toNatClampNeg → zs_K S21 p0 = some (.inl 8) ∧ ∀ S26, S26 = zs_sR S21 8189 p0 (some a20) → ∀ a29 S30, a29 = zs_N S26 → S30 = zs_nw S26 (.inr (0, (60000 : Int32).toNatClampNeg)) (60000 : Int32).toNatClampNeg → zs_K S30 p0 = some (.inl 8) ∧ ∀ S35, S35 = zs_sR S30 8190 p0 (some a29) → w_X9_init_3340 X d p0 S35 Q)
theorem u_X9_init_3304 {σ : Nat → Nat} {n0 : Nat} {bf : ab_B} {d : Nat} {p0 : Nat} {S : zs_T} {Q : zs_Q} (hB : zt_B bf) (h : w_X9_init_3304 (zx σ n0 bf) d p0 S Q) : zs_U (zx σ n0 bf) d 8000 3304 [(0, .ref p0)] [] S Q := by
  unfold w_X9_init_3304 at h
  refine zu_aload_n d_8000_3304 rfl (zs_ra _) ?_
  refine zu_sipush d_8000_3305 zh_20400 ?_
  refine zu_newa0 (k := 1) d_8000_3308 rfl rfl (fun _ => rfl) (by decide) (by decide) ?_
  generalize e4 : zs_nw S (.inr (1, (20400 : Int32).toNatClampNeg)) (20400 : Int32).toNatClampNeg = S2
  generalize e3 : zs_N S = a1
  have h := h a1 S2 e3.symm e4.symm
  have k5 := zs_kn e3 e4
  obtain ⟨k6, h⟩ := h
  obtain ⟨k7, h⟩ := h
  refine zp_8_402 (v := (some a1)) rfl d_8000_3310 k6 k7 ?_
  generalize e9 : zs_sR S2 8185 p0 (some a1) = S8
  have h := h S8 e9.symm
  have K10 : ∀ b, zs_K S8 b = zs_K S2 b := zs_Kt e9 (zs_KsR _ _ _ _) (fun _ => rfl)
  refine zu_aload_n d_8000_3313 rfl (zs_ra _) ?_
  refine zlw_8_398 rfl d_8000_3314 ?_
  refine zu_newa0 (k := 0) d_8000_3317 rfl rfl (fun _ => rfl) (by decide) (by decide) ?_
  generalize e14 : zs_nw S8 (.inr (0, (70000 : Int32).toNatClampNeg)) (70000 : Int32).toNatClampNeg = S12
  generalize e13 : zs_N S8 = a11
  have h := h a11 S12 e13.symm e14.symm
  have k15 := zs_kn e13 e14
  obtain ⟨k16, h⟩ := h
  refine zp_8_405 (v := (some a11)) rfl d_8000_3319 k16 k7 ?_
  generalize e18 : zs_sR S12 8186 p0 (some a11) = S17
  have h := h S17 e18.symm
  have K19 : ∀ b, zs_K S17 b = zs_K S12 b := zs_Kt e18 (zs_KsR _ _ _ _) (fun _ => rfl)
  refine zu_aload_n d_8000_3322 rfl (zs_ra _) ?_
  refine zlw_8_408 rfl d_8000_3323 ?_
  refine zu_newa0 (k := 0) d_8000_3326 rfl rfl (fun _ => rfl) (by decide) (by decide) ?_
  generalize e23 : zs_nw S17 (.inr (0, (60000 : Int32).toNatClampNeg)) (60000 : Int32).toNatClampNeg = S21
  generalize e22 : zs_N S17 = a20
  have h := h a20 S21 e22.symm e23.symm
  have k24 := zs_kn e22 e23
  obtain ⟨k25, h⟩ := h
  refine zp_8_409 (v := (some a20)) rfl d_8000_3328 k25 k7 ?_
  generalize e27 : zs_sR S21 8189 p0 (some a20) = S26
  have h := h S26 e27.symm
  have K28 : ∀ b, zs_K S26 b = zs_K S21 b := zs_Kt e27 (zs_KsR _ _ _ _) (fun _ => rfl)
  refine zu_aload_n d_8000_3331 rfl (zs_ra _) ?_
  refine zlw_8_408 rfl d_8000_3332 ?_
  refine zu_newa0 (k := 0) d_8000_3335 rfl rfl (fun _ => rfl) (by decide) (by decide) ?_
  generalize e32 : zs_nw S26 (.inr (0, (60000 : Int32).toNatClampNeg)) (60000 : Int32).toNatClampNeg = S30
  generalize e31 : zs_N S26 = a29
  have h := h a29 S30 e31.symm e32.symm
  have k33 := zs_kn e31 e32
  obtain ⟨k34, h⟩ := h
  refine zp_8_412 (v := (some a29)) rfl d_8000_3337 k34 k7 ?_
  generalize e36 : zs_sR S30 8190 p0 (some a29) = S35
  have h := h S35 e36.symm
  have K37 : ∀ b, zs_K S35 b = zs_K S30 b := zs_Kt e36 (zs_KsR _ _ _ _) (fun _ => rfl)
  exact (u_X9_init_3340 hB h).weak ⟨rfl, trivial⟩
def w_X9_init_3268 (X : zs_X) (d : Nat) (p0 : Nat) (S : zs_T) (Q : zs_Q) : Prop :=
  (∀ a1 S2, a1 = zs_N S → S2 = zs_nw S (.inr (0, (20100 : Int32).toNatClampNeg)) (20100 : Int32).toNatClampNeg → zs_K S2 p0 = some (.inl 8) ∧ ab_n0 X.1 ≤ p0 ∧ ∀ S8, S8 = zs_sR S2 8178 p0 (some a1) → ∀ a11 S12, a11 = zs_N S8 → S12 = zs_nw S8 (.inr (3, (80400 : Int32).toNatClampNeg)) (80400 : Int32).toNatClampNeg → zs_K S12 p0 = some (.inl 8) ∧ ∀ S17, S17 = zs_sR S12 8179 p0 (some a11) → ∀ a20 S21, a20 = zs_N S17 → S21 = zs_nw S17 (.inr (2, (20100 : Int32).toNatClampNeg)) (20100 : Int32).toNatClampNeg → zs_K S21 p0 = some (.inl 8) ∧ ∀ S26, S26 = zs_sR S21 8180 p0 (some a20) → ∀ a29 S30, a29 = zs_N S26 → S30 = zs_nw S26 (.inr (3, (70000 : Int32).toNatClampNeg)) (70000 : Int32).toNatClampNeg → zs_K S30 p0 = some (.inl 8) ∧ ∀ S35, S35 = zs_sR S30 8183 p0 (some a29) → w_X9_init_3304 X d p0 S35 Q)
theorem u_X9_init_3268 {σ : Nat → Nat} {n0 : Nat} {bf : ab_B} {d : Nat} {p0 : Nat} {S : zs_T} {Q : zs_Q} (hB : zt_B bf) (h : w_X9_init_3268 (zx σ n0 bf) d p0 S Q) : zs_U (zx σ n0 bf) d 8000 3268 [(0, .ref p0)] [] S Q := by
  unfold w_X9_init_3268 at h
  refine zu_aload_n d_8000_3268 rfl (zs_ra _) ?_
  refine zu_sipush d_8000_3269 zh_20100 ?_
  refine zu_newa0 (k := 0) d_8000_3272 rfl rfl (fun _ => rfl) (by decide) (by decide) ?_
  generalize e4 : zs_nw S (.inr (0, (20100 : Int32).toNatClampNeg)) (20100 : Int32).toNatClampNeg = S2
  generalize e3 : zs_N S = a1
  have h := h a1 S2 e3.symm e4.symm
  have k5 := zs_kn e3 e4
  obtain ⟨k6, h⟩ := h
  obtain ⟨k7, h⟩ := h
  refine zp_8_388 (v := (some a1)) rfl d_8000_3274 k6 k7 ?_
  generalize e9 : zs_sR S2 8178 p0 (some a1) = S8
  have h := h S8 e9.symm
  have K10 : ∀ b, zs_K S8 b = zs_K S2 b := zs_Kt e9 (zs_KsR _ _ _ _) (fun _ => rfl)
  refine zu_aload_n d_8000_3277 rfl (zs_ra _) ?_
  refine zlw_8_391 rfl d_8000_3278 ?_
  refine zu_newa1 (k := 3) d_8000_3281 rfl rfl (fun _ => rfl) (by decide) (by decide) ?_
  generalize e14 : zs_nw S8 (.inr (3, (80400 : Int32).toNatClampNeg)) (80400 : Int32).toNatClampNeg = S12
  generalize e13 : zs_N S8 = a11
  have h := h a11 S12 e13.symm e14.symm
  have k15 := zs_kn e13 e14
  obtain ⟨k16, h⟩ := h
  refine zp_8_392 (v := (some a11)) rfl d_8000_3283 k16 k7 ?_
  generalize e18 : zs_sR S12 8179 p0 (some a11) = S17
  have h := h S17 e18.symm
  have K19 : ∀ b, zs_K S17 b = zs_K S12 b := zs_Kt e18 (zs_KsR _ _ _ _) (fun _ => rfl)
  refine zu_aload_n d_8000_3286 rfl (zs_ra _) ?_
  refine zu_sipush d_8000_3287 zh_20100 ?_
  refine zu_newa0 (k := 2) d_8000_3290 rfl rfl (fun _ => rfl) (by decide) (by decide) ?_
  generalize e23 : zs_nw S17 (.inr (2, (20100 : Int32).toNatClampNeg)) (20100 : Int32).toNatClampNeg = S21
  generalize e22 : zs_N S17 = a20
  have h := h a20 S21 e22.symm e23.symm
  have k24 := zs_kn e22 e23
  obtain ⟨k25, h⟩ := h
  refine zp_8_395 (v := (some a20)) rfl d_8000_3292 k25 k7 ?_
  generalize e27 : zs_sR S21 8180 p0 (some a20) = S26
  have h := h S26 e27.symm
  have K28 : ∀ b, zs_K S26 b = zs_K S21 b := zs_Kt e27 (zs_KsR _ _ _ _) (fun _ => rfl)
  refine zu_aload_n d_8000_3295 rfl (zs_ra _) ?_
  refine zlw_8_398 rfl d_8000_3296 ?_
  refine zu_newa1 (k := 3) d_8000_3299 rfl rfl (fun _ => rfl) (by decide) (by decide) ?_
  generalize e32 : zs_nw S26 (.inr (3, (70000 : Int32).toNatClampNeg)) (70000 : Int32).toNatClampNeg = S30
  generalize e31 : zs_N S26 = a29
  have h := h a29 S30 e31.symm e32.symm
  have k33 := zs_kn e31 e32
  obtain ⟨k34, h⟩ := h
  refine zp_8_399 (v := (some a29)) rfl d_8000_3301 k34 k7 ?_
  generalize e36 : zs_sR S30 8183 p0 (some a29) = S35
  have h := h S35 e36.symm
  have K37 : ∀ b, zs_K S35 b = zs_K S30 b := zs_Kt e36 (zs_KsR _ _ _ _) (fun _ => rfl)
  exact (u_X9_init_3304 hB h).weak ⟨rfl, trivial⟩
def w_X9_init_3232 (X : zs_X) (d : Nat) (p0 : Nat) (S : zs_T) (Q : zs_Q) : Prop :=
  (∀ a1 S2, a1 = zs_N S → S2 = zs_nw S (.inr (2, (40100 : Int32).toNatClampNeg)) (40100 : Int32).toNatClampNeg → zs_K S2 p0 = some (.inl 8) ∧ ab_n0 X.1 ≤ p0 ∧ ∀ S8, S8 = zs_sR S2 8171 p0 (some a1) → ∀ a11 S12, a11 = zs_N S8 → S12 = zs_nw S8 (.inr (0, (40100 : Int32).toNatClampNeg)) (40100 : Int32).toNatClampNeg → zs_K S12 p0 = some (.inl 8) ∧ ∀ S17, S17 = zs_sR S12 8172 p0 (some a11) → ∀ a20 S21, a20 = zs_N S17 → S21 = zs_nw S17 (.inr (0, (20100 : Int32).toNatClampNeg)) (20100 : Int32).toNatClampNeg → zs_K S21 p0 = some (.inl 8) ∧ ∀ S26, S26 = zs_sR S21 8176 p0 (some a20) → ∀ a29 S30, a29 = zs_N S26 → S30 = zs_nw S26 (.inr (0, (20100 : Int32).toNatClampNeg)) (20100 : Int32).toNatClampNeg → zs_K S30 p0 = some (.inl 8) ∧ ∀ S35, S35 = zs_sR S30 8177 p0 (some a29) → w_X9_init_3268 X d p0 S35 Q)
theorem u_X9_init_3232 {σ : Nat → Nat} {n0 : Nat} {bf : ab_B} {d : Nat} {p0 : Nat} {S : zs_T} {Q : zs_Q} (hB : zt_B bf) (h : w_X9_init_3232 (zx σ n0 bf) d p0 S Q) : zs_U (zx σ n0 bf) d 8000 3232 [(0, .ref p0)] [] S Q := by
  unfold w_X9_init_3232 at h
  refine zu_aload_n d_8000_3232 rfl (zs_ra _) ?_
  refine zlw_8_372 rfl d_8000_3233 ?_
  refine zu_newa0 (k := 2) d_8000_3236 rfl rfl (fun _ => rfl) (by decide) (by decide) ?_
  generalize e4 : zs_nw S (.inr (2, (40100 : Int32).toNatClampNeg)) (40100 : Int32).toNatClampNeg = S2
  generalize e3 : zs_N S = a1
  have h := h a1 S2 e3.symm e4.symm
  have k5 := zs_kn e3 e4
  obtain ⟨k6, h⟩ := h
  obtain ⟨k7, h⟩ := h
  refine zp_8_376 (v := (some a1)) rfl d_8000_3238 k6 k7 ?_
  generalize e9 : zs_sR S2 8171 p0 (some a1) = S8
  have h := h S8 e9.symm
  have K10 : ∀ b, zs_K S8 b = zs_K S2 b := zs_Kt e9 (zs_KsR _ _ _ _) (fun _ => rfl)
  refine zu_aload_n d_8000_3241 rfl (zs_ra _) ?_
  refine zlw_8_372 rfl d_8000_3242 ?_
  refine zu_newa0 (k := 0) d_8000_3245 rfl rfl (fun _ => rfl) (by decide) (by decide) ?_
  generalize e14 : zs_nw S8 (.inr (0, (40100 : Int32).toNatClampNeg)) (40100 : Int32).toNatClampNeg = S12
  generalize e13 : zs_N S8 = a11
  have h := h a11 S12 e13.symm e14.symm
  have k15 := zs_kn e13 e14
  obtain ⟨k16, h⟩ := h
  refine zp_8_379 (v := (some a11)) rfl d_8000_3247 k16 k7 ?_
  generalize e18 : zs_sR S12 8172 p0 (some a11) = S17
  have h := h S17 e18.symm
  have K19 : ∀ b, zs_K S17 b = zs_K S12 b := zs_Kt e18 (zs_KsR _ _ _ _) (fun _ => rfl)
  refine zu_aload_n d_8000_3250 rfl (zs_ra _) ?_
  refine zu_sipush d_8000_3251 zh_20100 ?_
  refine zu_newa0 (k := 0) d_8000_3254 rfl rfl (fun _ => rfl) (by decide) (by decide) ?_
  generalize e23 : zs_nw S17 (.inr (0, (20100 : Int32).toNatClampNeg)) (20100 : Int32).toNatClampNeg = S21
  generalize e22 : zs_N S17 = a20
  have h := h a20 S21 e22.symm e23.symm
  have k24 := zs_kn e22 e23
  obtain ⟨k25, h⟩ := h
  refine zp_8_382 (v := (some a20)) rfl d_8000_3256 k25 k7 ?_
  generalize e27 : zs_sR S21 8176 p0 (some a20) = S26
  have h := h S26 e27.symm
  have K28 : ∀ b, zs_K S26 b = zs_K S21 b := zs_Kt e27 (zs_KsR _ _ _ _) (fun _ => rfl)
  refine zu_aload_n d_8000_3259 rfl (zs_ra _) ?_
  refine zu_sipush d_8000_3260 zh_20100 ?_
  refine zu_newa0 (k := 0) d_8000_3263 rfl rfl (fun _ => rfl) (by decide) (by decide) ?_
  generalize e32 : zs_nw S26 (.inr (0, (20100 : Int32).toNatClampNeg)) (20100 : Int32).toNatClampNeg = S30
  generalize e31 : zs_N S26 = a29
  have h := h a29 S30 e31.symm e32.symm
  have k33 := zs_kn e31 e32
  obtain ⟨k34, h⟩ := h
  refine zp_8_385 (v := (some a29)) rfl d_8000_3265 k34 k7 ?_
  generalize e36 : zs_sR S30 8177 p0 (some a29) = S35
  have h := h S35 e36.symm
  have K37 : ∀ b, zs_K S35 b = zs_K S30 b := zs_Kt e36 (zs_KsR _ _ _ _) (fun _ => rfl)
  exact (u_X9_init_3268 hB h).weak ⟨rfl, trivial⟩
def w_X9_init_3196 (X : zs_X) (d : Nat) (p0 : Nat) (S : zs_T) (Q : zs_Q) : Prop :=
  (∀ a1 S2, a1 = zs_N S → S2 = zs_nw S (.inr (0, (21000 : Int32).toNatClampNeg)) (21000 : Int32).toNatClampNeg → zs_K S2 p0 = some (.inl 8) ∧ ab_n0 X.1 ≤ p0 ∧ ∀ S8, S8 = zs_sR S2 8167 p0 (some a1) → ∀ a11 S12, a11 = zs_N S8 → S12 = zs_nw S8 (.inr (0, (21000 : Int32).toNatClampNeg)) (21000 : Int32).toNatClampNeg → zs_K S12 p0 = some (.inl 8) ∧ ∀ S17, S17 = zs_sR S12 8168 p0 (some a11) → ∀ a20 S21, a20 = zs_N S17 → S21 = zs_nw S17 (.inr (3, (84000 : Int32).toNatClampNeg)) (84000 : Int32).toNatClampNeg → zs_K S21 p0 = some (.inl 8) ∧ ∀ S26, S26 = zs_sR S21 8169 p0 (some a20) → ∀ a29 S30, a29 = zs_N S26 → S30 = zs_nw S26 (.inr (3, (40100 : Int32).toNatClampNeg)) (40100 : Int32).toNatClampNeg → zs_K S30 p0 = some (.inl 8) ∧ ∀ S35, S35 = zs_sR S30 8170 p0 (some a29) → w_X9_init_3232 X d p0 S35 Q)
theorem u_X9_init_3196 {σ : Nat → Nat} {n0 : Nat} {bf : ab_B} {d : Nat} {p0 : Nat} {S : zs_T} {Q : zs_Q} (hB : zt_B bf) (h : w_X9_init_3196 (zx σ n0 bf) d p0 S Q) : zs_U (zx σ n0 bf) d 8000 3196 [(0, .ref p0)] [] S Q := by
  unfold w_X9_init_3196 at h
  refine zu_aload_n d_8000_3196 rfl (zs_ra _) ?_
  refine zu_sipush d_8000_3197 zh_21000 ?_
  refine zu_newa0 (k := 0) d_8000_3200 rfl rfl (fun _ => rfl) (by decide) (by decide) ?_
  generalize e4 : zs_nw S (.inr (0, (21000 : Int32).toNatClampNeg)) (21000 : Int32).toNatClampNeg = S2
  generalize e3 : zs_N S = a1
  have h := h a1 S2 e3.symm e4.symm
  have k5 := zs_kn e3 e4
  obtain ⟨k6, h⟩ := h
  obtain ⟨k7, h⟩ := h
  refine zp_8_362 (v := (some a1)) rfl d_8000_3202 k6 k7 ?_
  generalize e9 : zs_sR S2 8167 p0 (some a1) = S8
  have h := h S8 e9.symm
  have K10 : ∀ b, zs_K S8 b = zs_K S2 b := zs_Kt e9 (zs_KsR _ _ _ _) (fun _ => rfl)
  refine zu_aload_n d_8000_3205 rfl (zs_ra _) ?_
  refine zu_sipush d_8000_3206 zh_21000 ?_
  refine zu_newa0 (k := 0) d_8000_3209 rfl rfl (fun _ => rfl) (by decide) (by decide) ?_
  generalize e14 : zs_nw S8 (.inr (0, (21000 : Int32).toNatClampNeg)) (21000 : Int32).toNatClampNeg = S12
  generalize e13 : zs_N S8 = a11
  have h := h a11 S12 e13.symm e14.symm
  have k15 := zs_kn e13 e14
  obtain ⟨k16, h⟩ := h
  refine zp_8_365 (v := (some a11)) rfl d_8000_3211 k16 k7 ?_
  generalize e18 : zs_sR S12 8168 p0 (some a11) = S17
  have h := h S17 e18.symm
  have K19 : ∀ b, zs_K S17 b = zs_K S12 b := zs_Kt e18 (zs_KsR _ _ _ _) (fun _ => rfl)
  refine zu_aload_n d_8000_3214 rfl (zs_ra _) ?_
  refine zlw_8_368 rfl d_8000_3215 ?_
  refine zu_newa1 (k := 3) d_8000_3218 rfl rfl (fun _ => rfl) (by decide) (by decide) ?_
  generalize e23 : zs_nw S17 (.inr (3, (84000 : Int32).toNatClampNeg)) (84000 : Int32).toNatClampNeg = S21
  generalize e22 : zs_N S17 = a20
  have h := h a20 S21 e22.symm e23.symm
  have k24 := zs_kn e22 e23
  obtain ⟨k25, h⟩ := h
  refine zp_8_369 (v := (some a20)) rfl d_8000_3220 k25 k7 ?_
  generalize e27 : zs_sR S21 8169 p0 (some a20) = S26
  have h := h S26 e27.symm
  have K28 : ∀ b, zs_K S26 b = zs_K S21 b := zs_Kt e27 (zs_KsR _ _ _ _) (fun _ => rfl)
  refine zu_aload_n d_8000_3223 rfl (zs_ra _) ?_
  refine zlw_8_372 rfl d_8000_3224 ?_
  refine zu_newa1 (k := 3) d_8000_3227 rfl rfl (fun _ => rfl) (by decide) (by decide) ?_
  generalize e32 : zs_nw S26 (.inr (3, (40100 : Int32).toNatClampNeg)) (40100 : Int32).toNatClampNeg = S30
  generalize e31 : zs_N S26 = a29
  have h := h a29 S30 e31.symm e32.symm
  have k33 := zs_kn e31 e32
  obtain ⟨k34, h⟩ := h
  refine zp_8_373 (v := (some a29)) rfl d_8000_3229 k34 k7 ?_
  generalize e36 : zs_sR S30 8170 p0 (some a29) = S35
  have h := h S35 e36.symm
  have K37 : ∀ b, zs_K S35 b = zs_K S30 b := zs_Kt e36 (zs_KsR _ _ _ _) (fun _ => rfl)
  exact (u_X9_init_3232 hB h).weak ⟨rfl, trivial⟩
def w_X9_init_3164 (X : zs_X) (d : Nat) (p0 : Nat) (S : zs_T) (Q : zs_Q) : Prop :=
  (∀ a1 S2, a1 = zs_N S → S2 = zs_nw S (.inr (0, (101 : Int32).toNatClampNeg)) (101 : Int32).toNatClampNeg → zs_K S2 p0 = some (.inl 8) ∧ ab_n0 X.1 ≤ p0 ∧ ∀ S8, S8 = zs_sR S2 8161 p0 (some a1) → ∀ a11 S12, a11 = zs_N S8 → S12 = zs_nw S8 (.inr (0, (101 : Int32).toNatClampNeg)) (101 : Int32).toNatClampNeg → zs_K S12 p0 = some (.inl 8) ∧ ∀ S17, S17 = zs_sR S12 8162 p0 (some a11) → ∀ a20 S21, a20 = zs_N S17 → S21 = zs_nw S17 (.inr (0, (101 : Int32).toNatClampNeg)) (101 : Int32).toNatClampNeg → zs_K S21 p0 = some (.inl 8) ∧ ∀ S26, S26 = zs_sR S21 8163 p0 (some a20) → ∀ a29 S30, a29 = zs_N S26 → S30 = zs_nw S26 (.inr (0, (101 : Int32).toNatClampNeg)) (101 : Int32).toNatClampNeg → zs_K S30 p0 = some (.inl 8) ∧ ∀ S35, S35 = zs_sR S30 8164 p0 (some a29) → w_X9_init_3196 X d p0 S35 Q)
theorem u_X9_init_3164 {σ : Nat → Nat} {n0 : Nat} {bf : ab_B} {d : Nat} {p0 : Nat} {S : zs_T} {Q : zs_Q} (hB : zt_B bf) (h : w_X9_init_3164 (zx σ n0 bf) d p0 S Q) : zs_U (zx σ n0 bf) d 8000 3164 [(0, .ref p0)] [] S Q := by
  unfold w_X9_init_3164 at h
  refine zu_aload_n d_8000_3164 rfl (zs_ra _) ?_
  refine zu_bipush d_8000_3165 zj_101 ?_
  refine zu_newa0 (k := 0) d_8000_3167 rfl rfl (fun _ => rfl) (by decide) (by decide) ?_
  generalize e4 : zs_nw S (.inr (0, (101 : Int32).toNatClampNeg)) (101 : Int32).toNatClampNeg = S2
  generalize e3 : zs_N S = a1
  have h := h a1 S2 e3.symm e4.symm
  have k5 := zs_kn e3 e4
  obtain ⟨k6, h⟩ := h
  obtain ⟨k7, h⟩ := h
  refine zp_8_350 (v := (some a1)) rfl d_8000_3169 k6 k7 ?_
  generalize e9 : zs_sR S2 8161 p0 (some a1) = S8
  have h := h S8 e9.symm
  have K10 : ∀ b, zs_K S8 b = zs_K S2 b := zs_Kt e9 (zs_KsR _ _ _ _) (fun _ => rfl)
  refine zu_aload_n d_8000_3172 rfl (zs_ra _) ?_
  refine zu_bipush d_8000_3173 zj_101 ?_
  refine zu_newa0 (k := 0) d_8000_3175 rfl rfl (fun _ => rfl) (by decide) (by decide) ?_
  generalize e14 : zs_nw S8 (.inr (0, (101 : Int32).toNatClampNeg)) (101 : Int32).toNatClampNeg = S12
  generalize e13 : zs_N S8 = a11
  have h := h a11 S12 e13.symm e14.symm
  have k15 := zs_kn e13 e14
  obtain ⟨k16, h⟩ := h
  refine zp_8_353 (v := (some a11)) rfl d_8000_3177 k16 k7 ?_
  generalize e18 : zs_sR S12 8162 p0 (some a11) = S17
  have h := h S17 e18.symm
  have K19 : ∀ b, zs_K S17 b = zs_K S12 b := zs_Kt e18 (zs_KsR _ _ _ _) (fun _ => rfl)
  refine zu_aload_n d_8000_3180 rfl (zs_ra _) ?_
  refine zu_bipush d_8000_3181 zj_101 ?_
  refine zu_newa0 (k := 0) d_8000_3183 rfl rfl (fun _ => rfl) (by decide) (by decide) ?_
  generalize e23 : zs_nw S17 (.inr (0, (101 : Int32).toNatClampNeg)) (101 : Int32).toNatClampNeg = S21
  generalize e22 : zs_N S17 = a20
  have h := h a20 S21 e22.symm e23.symm
  have k24 := zs_kn e22 e23
  obtain ⟨k25, h⟩ := h
  refine zp_8_356 (v := (some a20)) rfl d_8000_3185 k25 k7 ?_
  generalize e27 : zs_sR S21 8163 p0 (some a20) = S26
  have h := h S26 e27.symm
  have K28 : ∀ b, zs_K S26 b = zs_K S21 b := zs_Kt e27 (zs_KsR _ _ _ _) (fun _ => rfl)
  refine zu_aload_n d_8000_3188 rfl (zs_ra _) ?_
  refine zu_bipush d_8000_3189 zj_101 ?_
  refine zu_newa0 (k := 0) d_8000_3191 rfl rfl (fun _ => rfl) (by decide) (by decide) ?_
  generalize e32 : zs_nw S26 (.inr (0, (101 : Int32).toNatClampNeg)) (101 : Int32).toNatClampNeg = S30
  generalize e31 : zs_N S26 = a29
  have h := h a29 S30 e31.symm e32.symm
  have k33 := zs_kn e31 e32
  obtain ⟨k34, h⟩ := h
  refine zp_8_359 (v := (some a29)) rfl d_8000_3193 k34 k7 ?_
  generalize e36 : zs_sR S30 8164 p0 (some a29) = S35
  have h := h S35 e36.symm
  have K37 : ∀ b, zs_K S35 b = zs_K S30 b := zs_Kt e36 (zs_KsR _ _ _ _) (fun _ => rfl)
  exact (u_X9_init_3196 hB h).weak ⟨rfl, trivial⟩
def w_X9_init_3132 (X : zs_X) (d : Nat) (p0 : Nat) (S : zs_T) (Q : zs_Q) : Prop :=
  (∀ a1 S2, a1 = zs_N S → S2 = zs_nw S (.inr (0, (101 : Int32).toNatClampNeg)) (101 : Int32).toNatClampNeg → zs_K S2 p0 = some (.inl 8) ∧ ab_n0 X.1 ≤ p0 ∧ ∀ S8, S8 = zs_sR S2 8157 p0 (some a1) → ∀ a11 S12, a11 = zs_N S8 → S12 = zs_nw S8 (.inr (0, (101 : Int32).toNatClampNeg)) (101 : Int32).toNatClampNeg → zs_K S12 p0 = some (.inl 8) ∧ ∀ S17, S17 = zs_sR S12 8158 p0 (some a11) → ∀ a20 S21, a20 = zs_N S17 → S21 = zs_nw S17 (.inr (0, (101 : Int32).toNatClampNeg)) (101 : Int32).toNatClampNeg → zs_K S21 p0 = some (.inl 8) ∧ ∀ S26, S26 = zs_sR S21 8159 p0 (some a20) → ∀ a29 S30, a29 = zs_N S26 → S30 = zs_nw S26 (.inr (0, (101 : Int32).toNatClampNeg)) (101 : Int32).toNatClampNeg → zs_K S30 p0 = some (.inl 8) ∧ ∀ S35, S35 = zs_sR S30 8160 p0 (some a29) → w_X9_init_3164 X d p0 S35 Q)
theorem u_X9_init_3132 {σ : Nat → Nat} {n0 : Nat} {bf : ab_B} {d : Nat} {p0 : Nat} {S : zs_T} {Q : zs_Q} (hB : zt_B bf) (h : w_X9_init_3132 (zx σ n0 bf) d p0 S Q) : zs_U (zx σ n0 bf) d 8000 3132 [(0, .ref p0)] [] S Q := by
  unfold w_X9_init_3132 at h
  refine zu_aload_n d_8000_3132 rfl (zs_ra _) ?_
  refine zu_bipush d_8000_3133 zj_101 ?_
  refine zu_newa0 (k := 0) d_8000_3135 rfl rfl (fun _ => rfl) (by decide) (by decide) ?_
  generalize e4 : zs_nw S (.inr (0, (101 : Int32).toNatClampNeg)) (101 : Int32).toNatClampNeg = S2
  generalize e3 : zs_N S = a1
  have h := h a1 S2 e3.symm e4.symm
  have k5 := zs_kn e3 e4
  obtain ⟨k6, h⟩ := h
  obtain ⟨k7, h⟩ := h
  refine zp_8_338 (v := (some a1)) rfl d_8000_3137 k6 k7 ?_
  generalize e9 : zs_sR S2 8157 p0 (some a1) = S8
  have h := h S8 e9.symm
  have K10 : ∀ b, zs_K S8 b = zs_K S2 b := zs_Kt e9 (zs_KsR _ _ _ _) (fun _ => rfl)
  refine zu_aload_n d_8000_3140 rfl (zs_ra _) ?_
  refine zu_bipush d_8000_3141 zj_101 ?_
  refine zu_newa0 (k := 0) d_8000_3143 rfl rfl (fun _ => rfl) (by decide) (by decide) ?_
  generalize e14 : zs_nw S8 (.inr (0, (101 : Int32).toNatClampNeg)) (101 : Int32).toNatClampNeg = S12
  generalize e13 : zs_N S8 = a11
  have h := h a11 S12 e13.symm e14.symm
  have k15 := zs_kn e13 e14
  obtain ⟨k16, h⟩ := h
  refine zp_8_341 (v := (some a11)) rfl d_8000_3145 k16 k7 ?_
  generalize e18 : zs_sR S12 8158 p0 (some a11) = S17
  have h := h S17 e18.symm
  have K19 : ∀ b, zs_K S17 b = zs_K S12 b := zs_Kt e18 (zs_KsR _ _ _ _) (fun _ => rfl)
  refine zu_aload_n d_8000_3148 rfl (zs_ra _) ?_
  refine zu_bipush d_8000_3149 zj_101 ?_
  refine zu_newa0 (k := 0) d_8000_3151 rfl rfl (fun _ => rfl) (by decide) (by decide) ?_
  generalize e23 : zs_nw S17 (.inr (0, (101 : Int32).toNatClampNeg)) (101 : Int32).toNatClampNeg = S21
  generalize e22 : zs_N S17 = a20
  have h := h a20 S21 e22.symm e23.symm
  have k24 := zs_kn e22 e23
  obtain ⟨k25, h⟩ := h
  refine zp_8_344 (v := (some a20)) rfl d_8000_3153 k25 k7 ?_
  generalize e27 : zs_sR S21 8159 p0 (some a20) = S26
  have h := h S26 e27.symm
  have K28 : ∀ b, zs_K S26 b = zs_K S21 b := zs_Kt e27 (zs_KsR _ _ _ _) (fun _ => rfl)
  refine zu_aload_n d_8000_3156 rfl (zs_ra _) ?_
  refine zu_bipush d_8000_3157 zj_101 ?_
  refine zu_newa0 (k := 0) d_8000_3159 rfl rfl (fun _ => rfl) (by decide) (by decide) ?_
  generalize e32 : zs_nw S26 (.inr (0, (101 : Int32).toNatClampNeg)) (101 : Int32).toNatClampNeg = S30
  generalize e31 : zs_N S26 = a29
  have h := h a29 S30 e31.symm e32.symm
  have k33 := zs_kn e31 e32
  obtain ⟨k34, h⟩ := h
  refine zp_8_347 (v := (some a29)) rfl d_8000_3161 k34 k7 ?_
  generalize e36 : zs_sR S30 8160 p0 (some a29) = S35
  have h := h S35 e36.symm
  have K37 : ∀ b, zs_K S35 b = zs_K S30 b := zs_Kt e36 (zs_KsR _ _ _ _) (fun _ => rfl)
  exact (u_X9_init_3164 hB h).weak ⟨rfl, trivial⟩
def w_X9_init_3100 (X : zs_X) (d : Nat) (p0 : Nat) (S : zs_T) (Q : zs_Q) : Prop :=
  (∀ a1 S2, a1 = zs_N S → S2 = zs_nw S (.inr (0, (50 : Int32).toNatClampNeg)) (50 : Int32).toNatClampNeg → zs_K S2 p0 = some (.inl 8) ∧ ab_n0 X.1 ≤ p0 ∧ ∀ S8, S8 = zs_sR S2 8150 p0 (some a1) → ∀ a11 S12, a11 = zs_N S8 → S12 = zs_nw S8 (.inr (0, (50 : Int32).toNatClampNeg)) (50 : Int32).toNatClampNeg → zs_K S12 p0 = some (.inl 8) ∧ ∀ S17, S17 = zs_sR S12 8151 p0 (some a11) → ∀ a20 S21, a20 = zs_N S17 → S21 = zs_nw S17 (.inr (2, (50 : Int32).toNatClampNeg)) (50 : Int32).toNatClampNeg → zs_K S21 p0 = some (.inl 8) ∧ ∀ S26, S26 = zs_sR S21 8152 p0 (some a20) → ∀ a29 S30, a29 = zs_N S26 → S30 = zs_nw S26 (.inr (0, (101 : Int32).toNatClampNeg)) (101 : Int32).toNatClampNeg → zs_K S30 p0 = some (.inl 8) ∧ ∀ S35, S35 = zs_sR S30 8156 p0 (some a29) → w_X9_init_3132 X d p0 S35 Q)
theorem u_X9_init_3100 {σ : Nat → Nat} {n0 : Nat} {bf : ab_B} {d : Nat} {p0 : Nat} {S : zs_T} {Q : zs_Q} (hB : zt_B bf) (h : w_X9_init_3100 (zx σ n0 bf) d p0 S Q) : zs_U (zx σ n0 bf) d 8000 3100 [(0, .ref p0)] [] S Q := by
  unfold w_X9_init_3100 at h
  refine zu_aload_n d_8000_3100 rfl (zs_ra _) ?_
  refine zu_bipush d_8000_3101 zj_50 ?_
  refine zu_newa0 (k := 0) d_8000_3103 rfl rfl (fun _ => rfl) (by decide) (by decide) ?_
  generalize e4 : zs_nw S (.inr (0, (50 : Int32).toNatClampNeg)) (50 : Int32).toNatClampNeg = S2
  generalize e3 : zs_N S = a1
  have h := h a1 S2 e3.symm e4.symm
  have k5 := zs_kn e3 e4
  obtain ⟨k6, h⟩ := h
  obtain ⟨k7, h⟩ := h
  refine zp_8_326 (v := (some a1)) rfl d_8000_3105 k6 k7 ?_
  generalize e9 : zs_sR S2 8150 p0 (some a1) = S8
  have h := h S8 e9.symm
  have K10 : ∀ b, zs_K S8 b = zs_K S2 b := zs_Kt e9 (zs_KsR _ _ _ _) (fun _ => rfl)
  refine zu_aload_n d_8000_3108 rfl (zs_ra _) ?_
  refine zu_bipush d_8000_3109 zj_50 ?_
  refine zu_newa0 (k := 0) d_8000_3111 rfl rfl (fun _ => rfl) (by decide) (by decide) ?_
  generalize e14 : zs_nw S8 (.inr (0, (50 : Int32).toNatClampNeg)) (50 : Int32).toNatClampNeg = S12
  generalize e13 : zs_N S8 = a11
  have h := h a11 S12 e13.symm e14.symm
  have k15 := zs_kn e13 e14
  obtain ⟨k16, h⟩ := h
  refine zp_8_329 (v := (some a11)) rfl d_8000_3113 k16 k7 ?_
  generalize e18 : zs_sR S12 8151 p0 (some a11) = S17
  have h := h S17 e18.symm
  have K19 : ∀ b, zs_K S17 b = zs_K S12 b := zs_Kt e18 (zs_KsR _ _ _ _) (fun _ => rfl)
  refine zu_aload_n d_8000_3116 rfl (zs_ra _) ?_
  refine zu_bipush d_8000_3117 zj_50 ?_
  refine zu_newa0 (k := 2) d_8000_3119 rfl rfl (fun _ => rfl) (by decide) (by decide) ?_
  generalize e23 : zs_nw S17 (.inr (2, (50 : Int32).toNatClampNeg)) (50 : Int32).toNatClampNeg = S21
  generalize e22 : zs_N S17 = a20
  have h := h a20 S21 e22.symm e23.symm
  have k24 := zs_kn e22 e23
  obtain ⟨k25, h⟩ := h
  refine zp_8_332 (v := (some a20)) rfl d_8000_3121 k25 k7 ?_
  generalize e27 : zs_sR S21 8152 p0 (some a20) = S26
  have h := h S26 e27.symm
  have K28 : ∀ b, zs_K S26 b = zs_K S21 b := zs_Kt e27 (zs_KsR _ _ _ _) (fun _ => rfl)
  refine zu_aload_n d_8000_3124 rfl (zs_ra _) ?_
  refine zu_bipush d_8000_3125 zj_101 ?_
  refine zu_newa0 (k := 0) d_8000_3127 rfl rfl (fun _ => rfl) (by decide) (by decide) ?_
  generalize e32 : zs_nw S26 (.inr (0, (101 : Int32).toNatClampNeg)) (101 : Int32).toNatClampNeg = S30
  generalize e31 : zs_N S26 = a29
  have h := h a29 S30 e31.symm e32.symm
  have k33 := zs_kn e31 e32
  obtain ⟨k34, h⟩ := h
  refine zp_8_335 (v := (some a29)) rfl d_8000_3129 k34 k7 ?_
  generalize e36 : zs_sR S30 8156 p0 (some a29) = S35
  have h := h S35 e36.symm
  have K37 : ∀ b, zs_K S35 b = zs_K S30 b := zs_Kt e36 (zs_KsR _ _ _ _) (fun _ => rfl)
  exact (u_X9_init_3132 hB h).weak ⟨rfl, trivial⟩
def w_X9_init_3068 (X : zs_X) (d : Nat) (p0 : Nat) (S : zs_T) (Q : zs_Q) : Prop :=
  (∀ a1 S2, a1 = zs_N S → S2 = zs_nw S (.inr (0, (50 : Int32).toNatClampNeg)) (50 : Int32).toNatClampNeg → zs_K S2 p0 = some (.inl 8) ∧ ab_n0 X.1 ≤ p0 ∧ ∀ S8, S8 = zs_sR S2 8146 p0 (some a1) → ∀ a11 S12, a11 = zs_N S8 → S12 = zs_nw S8 (.inr (0, (50 : Int32).toNatClampNeg)) (50 : Int32).toNatClampNeg → zs_K S12 p0 = some (.inl 8) ∧ ∀ S17, S17 = zs_sR S12 8147 p0 (some a11) → ∀ a20 S21, a20 = zs_N S17 → S21 = zs_nw S17 (.inr (0, (50 : Int32).toNatClampNeg)) (50 : Int32).toNatClampNeg → zs_K S21 p0 = some (.inl 8) ∧ ∀ S26, S26 = zs_sR S21 8148 p0 (some a20) → ∀ a29 S30, a29 = zs_N S26 → S30 = zs_nw S26 (.inr (0, (50 : Int32).toNatClampNeg)) (50 : Int32).toNatClampNeg → zs_K S30 p0 = some (.inl 8) ∧ ∀ S35, S35 = zs_sR S30 8149 p0 (some a29) → w_X9_init_3100 X d p0 S35 Q)
theorem u_X9_init_3068 {σ : Nat → Nat} {n0 : Nat} {bf : ab_B} {d : Nat} {p0 : Nat} {S : zs_T} {Q : zs_Q} (hB : zt_B bf) (h : w_X9_init_3068 (zx σ n0 bf) d p0 S Q) : zs_U (zx σ n0 bf) d 8000 3068 [(0, .ref p0)] [] S Q := by
  unfold w_X9_init_3068 at h
  refine zu_aload_n d_8000_3068 rfl (zs_ra _) ?_
  refine zu_bipush d_8000_3069 zj_50 ?_
  refine zu_newa0 (k := 0) d_8000_3071 rfl rfl (fun _ => rfl) (by decide) (by decide) ?_
  generalize e4 : zs_nw S (.inr (0, (50 : Int32).toNatClampNeg)) (50 : Int32).toNatClampNeg = S2
  generalize e3 : zs_N S = a1
  have h := h a1 S2 e3.symm e4.symm
  have k5 := zs_kn e3 e4
  obtain ⟨k6, h⟩ := h
  obtain ⟨k7, h⟩ := h
  refine zp_8_314 (v := (some a1)) rfl d_8000_3073 k6 k7 ?_
  generalize e9 : zs_sR S2 8146 p0 (some a1) = S8
  have h := h S8 e9.symm
  have K10 : ∀ b, zs_K S8 b = zs_K S2 b := zs_Kt e9 (zs_KsR _ _ _ _) (fun _ => rfl)
  refine zu_aload_n d_8000_3076 rfl (zs_ra _) ?_
  refine zu_bipush d_8000_3077 zj_50 ?_
  refine zu_newa0 (k := 0) d_8000_3079 rfl rfl (fun _ => rfl) (by decide) (by decide) ?_
  generalize e14 : zs_nw S8 (.inr (0, (50 : Int32).toNatClampNeg)) (50 : Int32).toNatClampNeg = S12
  generalize e13 : zs_N S8 = a11
  have h := h a11 S12 e13.symm e14.symm
  have k15 := zs_kn e13 e14
  obtain ⟨k16, h⟩ := h
  refine zp_8_317 (v := (some a11)) rfl d_8000_3081 k16 k7 ?_
  generalize e18 : zs_sR S12 8147 p0 (some a11) = S17
  have h := h S17 e18.symm
  have K19 : ∀ b, zs_K S17 b = zs_K S12 b := zs_Kt e18 (zs_KsR _ _ _ _) (fun _ => rfl)
  refine zu_aload_n d_8000_3084 rfl (zs_ra _) ?_
  refine zu_bipush d_8000_3085 zj_50 ?_
  refine zu_newa0 (k := 0) d_8000_3087 rfl rfl (fun _ => rfl) (by decide) (by decide) ?_
  generalize e23 : zs_nw S17 (.inr (0, (50 : Int32).toNatClampNeg)) (50 : Int32).toNatClampNeg = S21
  generalize e22 : zs_N S17 = a20
  have h := h a20 S21 e22.symm e23.symm
  have k24 := zs_kn e22 e23
  obtain ⟨k25, h⟩ := h
  refine zp_8_320 (v := (some a20)) rfl d_8000_3089 k25 k7 ?_
  generalize e27 : zs_sR S21 8148 p0 (some a20) = S26
  have h := h S26 e27.symm
  have K28 : ∀ b, zs_K S26 b = zs_K S21 b := zs_Kt e27 (zs_KsR _ _ _ _) (fun _ => rfl)
  refine zu_aload_n d_8000_3092 rfl (zs_ra _) ?_
  refine zu_bipush d_8000_3093 zj_50 ?_
  refine zu_newa0 (k := 0) d_8000_3095 rfl rfl (fun _ => rfl) (by decide) (by decide) ?_
  generalize e32 : zs_nw S26 (.inr (0, (50 : Int32).toNatClampNeg)) (50 : Int32).toNatClampNeg = S30
  generalize e31 : zs_N S26 = a29
  have h := h a29 S30 e31.symm e32.symm
  have k33 := zs_kn e31 e32
  obtain ⟨k34, h⟩ := h
  refine zp_8_323 (v := (some a29)) rfl d_8000_3097 k34 k7 ?_
  generalize e36 : zs_sR S30 8149 p0 (some a29) = S35
  have h := h S35 e36.symm
  have K37 : ∀ b, zs_K S35 b = zs_K S30 b := zs_Kt e36 (zs_KsR _ _ _ _) (fun _ => rfl)
  exact (u_X9_init_3100 hB h).weak ⟨rfl, trivial⟩
def w_X9_init_3032 (X : zs_X) (d : Nat) (p0 : Nat) (S : zs_T) (Q : zs_Q) : Prop :=
  (∀ a1 S2, a1 = zs_N S → S2 = zs_nw S (.inr (2, (20000 : Int32).toNatClampNeg)) (20000 : Int32).toNatClampNeg → zs_K S2 p0 = some (.inl 8) ∧ ab_n0 X.1 ≤ p0 ∧ ∀ S8, S8 = zs_sR S2 8142 p0 (some a1) → ∀ a11 S12, a11 = zs_N S8 → S12 = zs_nw S8 (.inr (0, (16400 : Int32).toNatClampNeg)) (16400 : Int32).toNatClampNeg → zs_K S12 p0 = some (.inl 8) ∧ ∀ S17, S17 = zs_sR S12 8143 p0 (some a11) → ∀ a20 S21, a20 = zs_N S17 → S21 = zs_nw S17 (.inr (0, (4200 : Int32).toNatClampNeg)) (4200 : Int32).toNatClampNeg → zs_K S21 p0 = some (.inl 8) ∧ ∀ S26, S26 = zs_sR S21 8144 p0 (some a20) → ∀ a29 S30, a29 = zs_N S26 → S30 = zs_nw S26 (.inr (0, (4200 : Int32).toNatClampNeg)) (4200 : Int32).toNatClampNeg → zs_K S30 p0 = some (.inl 8) ∧ ∀ S35, S35 = zs_sR S30 8145 p0 (some a29) → w_X9_init_3068 X d p0 S35 Q)
theorem u_X9_init_3032 {σ : Nat → Nat} {n0 : Nat} {bf : ab_B} {d : Nat} {p0 : Nat} {S : zs_T} {Q : zs_Q} (hB : zt_B bf) (h : w_X9_init_3032 (zx σ n0 bf) d p0 S Q) : zs_U (zx σ n0 bf) d 8000 3032 [(0, .ref p0)] [] S Q := by
  unfold w_X9_init_3032 at h
  refine zu_aload_n d_8000_3032 rfl (zs_ra _) ?_
  refine zu_sipush d_8000_3033 zh_20000 ?_
  refine zu_newa0 (k := 2) d_8000_3036 rfl rfl (fun _ => rfl) (by decide) (by decide) ?_
  generalize e4 : zs_nw S (.inr (2, (20000 : Int32).toNatClampNeg)) (20000 : Int32).toNatClampNeg = S2
  generalize e3 : zs_N S = a1
  have h := h a1 S2 e3.symm e4.symm
  have k5 := zs_kn e3 e4
  obtain ⟨k6, h⟩ := h
  obtain ⟨k7, h⟩ := h
  refine zp_8_302 (v := (some a1)) rfl d_8000_3038 k6 k7 ?_
  generalize e9 : zs_sR S2 8142 p0 (some a1) = S8
  have h := h S8 e9.symm
  have K10 : ∀ b, zs_K S8 b = zs_K S2 b := zs_Kt e9 (zs_KsR _ _ _ _) (fun _ => rfl)
  refine zu_aload_n d_8000_3041 rfl (zs_ra _) ?_
  refine zu_sipush d_8000_3042 zh_16400 ?_
  refine zu_newa0 (k := 0) d_8000_3045 rfl rfl (fun _ => rfl) (by decide) (by decide) ?_
  generalize e14 : zs_nw S8 (.inr (0, (16400 : Int32).toNatClampNeg)) (16400 : Int32).toNatClampNeg = S12
  generalize e13 : zs_N S8 = a11
  have h := h a11 S12 e13.symm e14.symm
  have k15 := zs_kn e13 e14
  obtain ⟨k16, h⟩ := h
  refine zp_8_305 (v := (some a11)) rfl d_8000_3047 k16 k7 ?_
  generalize e18 : zs_sR S12 8143 p0 (some a11) = S17
  have h := h S17 e18.symm
  have K19 : ∀ b, zs_K S17 b = zs_K S12 b := zs_Kt e18 (zs_KsR _ _ _ _) (fun _ => rfl)
  refine zu_aload_n d_8000_3050 rfl (zs_ra _) ?_
  refine zu_sipush d_8000_3051 zh_4200 ?_
  refine zu_newa0 (k := 0) d_8000_3054 rfl rfl (fun _ => rfl) (by decide) (by decide) ?_
  generalize e23 : zs_nw S17 (.inr (0, (4200 : Int32).toNatClampNeg)) (4200 : Int32).toNatClampNeg = S21
  generalize e22 : zs_N S17 = a20
  have h := h a20 S21 e22.symm e23.symm
  have k24 := zs_kn e22 e23
  obtain ⟨k25, h⟩ := h
  refine zp_8_308 (v := (some a20)) rfl d_8000_3056 k25 k7 ?_
  generalize e27 : zs_sR S21 8144 p0 (some a20) = S26
  have h := h S26 e27.symm
  have K28 : ∀ b, zs_K S26 b = zs_K S21 b := zs_Kt e27 (zs_KsR _ _ _ _) (fun _ => rfl)
  refine zu_aload_n d_8000_3059 rfl (zs_ra _) ?_
  refine zu_sipush d_8000_3060 zh_4200 ?_
  refine zu_newa0 (k := 0) d_8000_3063 rfl rfl (fun _ => rfl) (by decide) (by decide) ?_
  generalize e32 : zs_nw S26 (.inr (0, (4200 : Int32).toNatClampNeg)) (4200 : Int32).toNatClampNeg = S30
  generalize e31 : zs_N S26 = a29
  have h := h a29 S30 e31.symm e32.symm
  have k33 := zs_kn e31 e32
  obtain ⟨k34, h⟩ := h
  refine zp_8_311 (v := (some a29)) rfl d_8000_3065 k34 k7 ?_
  generalize e36 : zs_sR S30 8145 p0 (some a29) = S35
  have h := h S35 e36.symm
  have K37 : ∀ b, zs_K S35 b = zs_K S30 b := zs_Kt e36 (zs_KsR _ _ _ _) (fun _ => rfl)
  exact (u_X9_init_3068 hB h).weak ⟨rfl, trivial⟩
def w_X9_init_2996 (X : zs_X) (d : Nat) (p0 : Nat) (S : zs_T) (Q : zs_Q) : Prop :=
  (∀ a1 S2, a1 = zs_N S → S2 = zs_nw S (.inr (0, (16000 : Int32).toNatClampNeg)) (16000 : Int32).toNatClampNeg → zs_K S2 p0 = some (.inl 8) ∧ ab_n0 X.1 ≤ p0 ∧ ∀ S8, S8 = zs_sR S2 8135 p0 (some a1) → ∀ a11 S12, a11 = zs_N S8 → S12 = zs_nw S8 (.inr (0, (16000 : Int32).toNatClampNeg)) (16000 : Int32).toNatClampNeg → zs_K S12 p0 = some (.inl 8) ∧ ∀ S17, S17 = zs_sR S12 8139 p0 (some a11) → ∀ a20 S21, a20 = zs_N S17 → S21 = zs_nw S17 (.inr (2, (16000 : Int32).toNatClampNeg)) (16000 : Int32).toNatClampNeg → zs_K S21 p0 = some (.inl 8) ∧ ∀ S26, S26 = zs_sR S21 8140 p0 (some a20) → ∀ a29 S30, a29 = zs_N S26 → S30 = zs_nw S26 (.inr (2, (20000 : Int32).toNatClampNeg)) (20000 : Int32).toNatClampNeg → zs_K S30 p0 = some (.inl 8) ∧ ∀ S35, S35 = zs_sR S30 8141 p0 (some a29) → w_X9_init_3032 X d p0 S35 Q)
theorem u_X9_init_2996 {σ : Nat → Nat} {n0 : Nat} {bf : ab_B} {d : Nat} {p0 : Nat} {S : zs_T} {Q : zs_Q} (hB : zt_B bf) (h : w_X9_init_2996 (zx σ n0 bf) d p0 S Q) : zs_U (zx σ n0 bf) d 8000 2996 [(0, .ref p0)] [] S Q := by
  unfold w_X9_init_2996 at h
  refine zu_aload_n d_8000_2996 rfl (zs_ra _) ?_
  refine zu_sipush d_8000_2997 zh_16000 ?_
  refine zu_newa0 (k := 0) d_8000_3000 rfl rfl (fun _ => rfl) (by decide) (by decide) ?_
  generalize e4 : zs_nw S (.inr (0, (16000 : Int32).toNatClampNeg)) (16000 : Int32).toNatClampNeg = S2
  generalize e3 : zs_N S = a1
  have h := h a1 S2 e3.symm e4.symm
  have k5 := zs_kn e3 e4
  obtain ⟨k6, h⟩ := h
  obtain ⟨k7, h⟩ := h
  refine zp_8_290 (v := (some a1)) rfl d_8000_3002 k6 k7 ?_
  generalize e9 : zs_sR S2 8135 p0 (some a1) = S8
  have h := h S8 e9.symm
  have K10 : ∀ b, zs_K S8 b = zs_K S2 b := zs_Kt e9 (zs_KsR _ _ _ _) (fun _ => rfl)
  refine zu_aload_n d_8000_3005 rfl (zs_ra _) ?_
  refine zu_sipush d_8000_3006 zh_16000 ?_
  refine zu_newa0 (k := 0) d_8000_3009 rfl rfl (fun _ => rfl) (by decide) (by decide) ?_
  generalize e14 : zs_nw S8 (.inr (0, (16000 : Int32).toNatClampNeg)) (16000 : Int32).toNatClampNeg = S12
  generalize e13 : zs_N S8 = a11
  have h := h a11 S12 e13.symm e14.symm
  have k15 := zs_kn e13 e14
  obtain ⟨k16, h⟩ := h
  refine zp_8_293 (v := (some a11)) rfl d_8000_3011 k16 k7 ?_
  generalize e18 : zs_sR S12 8139 p0 (some a11) = S17
  have h := h S17 e18.symm
  have K19 : ∀ b, zs_K S17 b = zs_K S12 b := zs_Kt e18 (zs_KsR _ _ _ _) (fun _ => rfl)
  refine zu_aload_n d_8000_3014 rfl (zs_ra _) ?_
  refine zu_sipush d_8000_3015 zh_16000 ?_
  refine zu_newa0 (k := 2) d_8000_3018 rfl rfl (fun _ => rfl) (by decide) (by decide) ?_
  generalize e23 : zs_nw S17 (.inr (2, (16000 : Int32).toNatClampNeg)) (16000 : Int32).toNatClampNeg = S21
  generalize e22 : zs_N S17 = a20
  have h := h a20 S21 e22.symm e23.symm
  have k24 := zs_kn e22 e23
  obtain ⟨k25, h⟩ := h
  refine zp_8_296 (v := (some a20)) rfl d_8000_3020 k25 k7 ?_
  generalize e27 : zs_sR S21 8140 p0 (some a20) = S26
  have h := h S26 e27.symm
  have K28 : ∀ b, zs_K S26 b = zs_K S21 b := zs_Kt e27 (zs_KsR _ _ _ _) (fun _ => rfl)
  refine zu_aload_n d_8000_3023 rfl (zs_ra _) ?_
  refine zu_sipush d_8000_3024 zh_20000 ?_
  refine zu_newa0 (k := 2) d_8000_3027 rfl rfl (fun _ => rfl) (by decide) (by decide) ?_
  generalize e32 : zs_nw S26 (.inr (2, (20000 : Int32).toNatClampNeg)) (20000 : Int32).toNatClampNeg = S30
  generalize e31 : zs_N S26 = a29
  have h := h a29 S30 e31.symm e32.symm
  have k33 := zs_kn e31 e32
  obtain ⟨k34, h⟩ := h
  refine zp_8_299 (v := (some a29)) rfl d_8000_3029 k34 k7 ?_
  generalize e36 : zs_sR S30 8141 p0 (some a29) = S35
  have h := h S35 e36.symm
  have K37 : ∀ b, zs_K S35 b = zs_K S30 b := zs_Kt e36 (zs_KsR _ _ _ _) (fun _ => rfl)
  exact (u_X9_init_3032 hB h).weak ⟨rfl, trivial⟩
def w_X9_init_2960 (X : zs_X) (d : Nat) (p0 : Nat) (S : zs_T) (Q : zs_Q) : Prop :=
  (∀ a1 S2, a1 = zs_N S → S2 = zs_nw S (.inr (0, (200 : Int32).toNatClampNeg)) (200 : Int32).toNatClampNeg → zs_K S2 p0 = some (.inl 8) ∧ ab_n0 X.1 ≤ p0 ∧ ∀ S8, S8 = zs_sR S2 8128 p0 (some a1) → ∀ a11 S12, a11 = zs_N S8 → S12 = zs_nw S8 (.inr (0, (16400 : Int32).toNatClampNeg)) (16400 : Int32).toNatClampNeg → zs_K S12 p0 = some (.inl 8) ∧ ∀ S17, S17 = zs_sR S12 8131 p0 (some a11) → ∀ a20 S21, a20 = zs_N S17 → S21 = zs_nw S17 (.inr (0, (16000 : Int32).toNatClampNeg)) (16000 : Int32).toNatClampNeg → zs_K S21 p0 = some (.inl 8) ∧ ∀ S26, S26 = zs_sR S21 8133 p0 (some a20) → ∀ a29 S30, a29 = zs_N S26 → S30 = zs_nw S26 (.inr (0, (16000 : Int32).toNatClampNeg)) (16000 : Int32).toNatClampNeg → zs_K S30 p0 = some (.inl 8) ∧ ∀ S35, S35 = zs_sR S30 8134 p0 (some a29) → w_X9_init_2996 X d p0 S35 Q)
theorem u_X9_init_2960 {σ : Nat → Nat} {n0 : Nat} {bf : ab_B} {d : Nat} {p0 : Nat} {S : zs_T} {Q : zs_Q} (hB : zt_B bf) (h : w_X9_init_2960 (zx σ n0 bf) d p0 S Q) : zs_U (zx σ n0 bf) d 8000 2960 [(0, .ref p0)] [] S Q := by
  unfold w_X9_init_2960 at h
  refine zu_aload_n d_8000_2960 rfl (zs_ra _) ?_
  refine zu_sipush d_8000_2961 zh_200 ?_
  refine zu_newa0 (k := 0) d_8000_2964 rfl rfl (fun _ => rfl) (by decide) (by decide) ?_
  generalize e4 : zs_nw S (.inr (0, (200 : Int32).toNatClampNeg)) (200 : Int32).toNatClampNeg = S2
  generalize e3 : zs_N S = a1
  have h := h a1 S2 e3.symm e4.symm
  have k5 := zs_kn e3 e4
  obtain ⟨k6, h⟩ := h
  obtain ⟨k7, h⟩ := h
  refine zp_8_278 (v := (some a1)) rfl d_8000_2966 k6 k7 ?_
  generalize e9 : zs_sR S2 8128 p0 (some a1) = S8
  have h := h S8 e9.symm
  have K10 : ∀ b, zs_K S8 b = zs_K S2 b := zs_Kt e9 (zs_KsR _ _ _ _) (fun _ => rfl)
  refine zu_aload_n d_8000_2969 rfl (zs_ra _) ?_
  refine zu_sipush d_8000_2970 zh_16400 ?_
  refine zu_newa0 (k := 0) d_8000_2973 rfl rfl (fun _ => rfl) (by decide) (by decide) ?_
  generalize e14 : zs_nw S8 (.inr (0, (16400 : Int32).toNatClampNeg)) (16400 : Int32).toNatClampNeg = S12
  generalize e13 : zs_N S8 = a11
  have h := h a11 S12 e13.symm e14.symm
  have k15 := zs_kn e13 e14
  obtain ⟨k16, h⟩ := h
  refine zp_8_281 (v := (some a11)) rfl d_8000_2975 k16 k7 ?_
  generalize e18 : zs_sR S12 8131 p0 (some a11) = S17
  have h := h S17 e18.symm
  have K19 : ∀ b, zs_K S17 b = zs_K S12 b := zs_Kt e18 (zs_KsR _ _ _ _) (fun _ => rfl)
  refine zu_aload_n d_8000_2978 rfl (zs_ra _) ?_
  refine zu_sipush d_8000_2979 zh_16000 ?_
  refine zu_newa0 (k := 0) d_8000_2982 rfl rfl (fun _ => rfl) (by decide) (by decide) ?_
  generalize e23 : zs_nw S17 (.inr (0, (16000 : Int32).toNatClampNeg)) (16000 : Int32).toNatClampNeg = S21
  generalize e22 : zs_N S17 = a20
  have h := h a20 S21 e22.symm e23.symm
  have k24 := zs_kn e22 e23
  obtain ⟨k25, h⟩ := h
  refine zp_8_284 (v := (some a20)) rfl d_8000_2984 k25 k7 ?_
  generalize e27 : zs_sR S21 8133 p0 (some a20) = S26
  have h := h S26 e27.symm
  have K28 : ∀ b, zs_K S26 b = zs_K S21 b := zs_Kt e27 (zs_KsR _ _ _ _) (fun _ => rfl)
  refine zu_aload_n d_8000_2987 rfl (zs_ra _) ?_
  refine zu_sipush d_8000_2988 zh_16000 ?_
  refine zu_newa0 (k := 0) d_8000_2991 rfl rfl (fun _ => rfl) (by decide) (by decide) ?_
  generalize e32 : zs_nw S26 (.inr (0, (16000 : Int32).toNatClampNeg)) (16000 : Int32).toNatClampNeg = S30
  generalize e31 : zs_N S26 = a29
  have h := h a29 S30 e31.symm e32.symm
  have k33 := zs_kn e31 e32
  obtain ⟨k34, h⟩ := h
  refine zp_8_287 (v := (some a29)) rfl d_8000_2993 k34 k7 ?_
  generalize e36 : zs_sR S30 8134 p0 (some a29) = S35
  have h := h S35 e36.symm
  have K37 : ∀ b, zs_K S35 b = zs_K S30 b := zs_Kt e36 (zs_KsR _ _ _ _) (fun _ => rfl)
  exact (u_X9_init_2996 hB h).weak ⟨rfl, trivial⟩
def w_X9_init_2928 (X : zs_X) (d : Nat) (p0 : Nat) (S : zs_T) (Q : zs_Q) : Prop :=
  (∀ a1 S2, a1 = zs_N S → S2 = zs_nw S (.inr (3, (320 : Int32).toNatClampNeg)) (320 : Int32).toNatClampNeg → zs_K S2 p0 = some (.inl 8) ∧ ab_n0 X.1 ≤ p0 ∧ ∀ S8, S8 = zs_sR S2 8121 p0 (some a1) → ∀ a11 S12, a11 = zs_N S8 → S12 = zs_nw S8 (.inr (0, (80 : Int32).toNatClampNeg)) (80 : Int32).toNatClampNeg → zs_K S12 p0 = some (.inl 8) ∧ ∀ S17, S17 = zs_sR S12 8122 p0 (some a11) → ∀ a20 S21, a20 = zs_N S17 → S21 = zs_nw S17 (.inr (0, (80 : Int32).toNatClampNeg)) (80 : Int32).toNatClampNeg → zs_K S21 p0 = some (.inl 8) ∧ ∀ S26, S26 = zs_sR S21 8123 p0 (some a20) → ∀ a29 S30, a29 = zs_N S26 → S30 = zs_nw S26 (.inr (3, (4 : Int32).toNatClampNeg)) (4 : Int32).toNatClampNeg → zs_K S30 p0 = some (.inl 8) ∧ ∀ S35, S35 = zs_sR S30 8127 p0 (some a29) → w_X9_init_2960 X d p0 S35 Q)
theorem u_X9_init_2928 {σ : Nat → Nat} {n0 : Nat} {bf : ab_B} {d : Nat} {p0 : Nat} {S : zs_T} {Q : zs_Q} (hB : zt_B bf) (h : w_X9_init_2928 (zx σ n0 bf) d p0 S Q) : zs_U (zx σ n0 bf) d 8000 2928 [(0, .ref p0)] [] S Q := by
  unfold w_X9_init_2928 at h
  refine zu_aload_n d_8000_2928 rfl (zs_ra _) ?_
  refine zu_sipush d_8000_2929 zh_320 ?_
  refine zu_newa1 (k := 3) d_8000_2932 rfl rfl (fun _ => rfl) (by decide) (by decide) ?_
  generalize e4 : zs_nw S (.inr (3, (320 : Int32).toNatClampNeg)) (320 : Int32).toNatClampNeg = S2
  generalize e3 : zs_N S = a1
  have h := h a1 S2 e3.symm e4.symm
  have k5 := zs_kn e3 e4
  obtain ⟨k6, h⟩ := h
  obtain ⟨k7, h⟩ := h
  refine zp_8_266 (v := (some a1)) rfl d_8000_2934 k6 k7 ?_
  generalize e9 : zs_sR S2 8121 p0 (some a1) = S8
  have h := h S8 e9.symm
  have K10 : ∀ b, zs_K S8 b = zs_K S2 b := zs_Kt e9 (zs_KsR _ _ _ _) (fun _ => rfl)
  refine zu_aload_n d_8000_2937 rfl (zs_ra _) ?_
  refine zu_bipush d_8000_2938 zj_80 ?_
  refine zu_newa0 (k := 0) d_8000_2940 rfl rfl (fun _ => rfl) (by decide) (by decide) ?_
  generalize e14 : zs_nw S8 (.inr (0, (80 : Int32).toNatClampNeg)) (80 : Int32).toNatClampNeg = S12
  generalize e13 : zs_N S8 = a11
  have h := h a11 S12 e13.symm e14.symm
  have k15 := zs_kn e13 e14
  obtain ⟨k16, h⟩ := h
  refine zp_8_269 (v := (some a11)) rfl d_8000_2942 k16 k7 ?_
  generalize e18 : zs_sR S12 8122 p0 (some a11) = S17
  have h := h S17 e18.symm
  have K19 : ∀ b, zs_K S17 b = zs_K S12 b := zs_Kt e18 (zs_KsR _ _ _ _) (fun _ => rfl)
  refine zu_aload_n d_8000_2945 rfl (zs_ra _) ?_
  refine zu_bipush d_8000_2946 zj_80 ?_
  refine zu_newa0 (k := 0) d_8000_2948 rfl rfl (fun _ => rfl) (by decide) (by decide) ?_
  generalize e23 : zs_nw S17 (.inr (0, (80 : Int32).toNatClampNeg)) (80 : Int32).toNatClampNeg = S21
  generalize e22 : zs_N S17 = a20
  have h := h a20 S21 e22.symm e23.symm
  have k24 := zs_kn e22 e23
  obtain ⟨k25, h⟩ := h
  refine zp_8_272 (v := (some a20)) rfl d_8000_2950 k25 k7 ?_
  generalize e27 : zs_sR S21 8123 p0 (some a20) = S26
  have h := h S26 e27.symm
  have K28 : ∀ b, zs_K S26 b = zs_K S21 b := zs_Kt e27 (zs_KsR _ _ _ _) (fun _ => rfl)
  refine zu_aload_n d_8000_2953 rfl (zs_ra _) ?_
  refine zu_iconst d_8000_2954 zi_4 ?_
  refine zu_newa1 (k := 3) d_8000_2955 rfl rfl (fun _ => rfl) (by decide) (by decide) ?_
  generalize e32 : zs_nw S26 (.inr (3, (4 : Int32).toNatClampNeg)) (4 : Int32).toNatClampNeg = S30
  generalize e31 : zs_N S26 = a29
  have h := h a29 S30 e31.symm e32.symm
  have k33 := zs_kn e31 e32
  obtain ⟨k34, h⟩ := h
  refine zp_8_275 (v := (some a29)) rfl d_8000_2957 k34 k7 ?_
  generalize e36 : zs_sR S30 8127 p0 (some a29) = S35
  have h := h S35 e36.symm
  have K37 : ∀ b, zs_K S35 b = zs_K S30 b := zs_Kt e36 (zs_KsR _ _ _ _) (fun _ => rfl)
  exact (u_X9_init_2960 hB h).weak ⟨rfl, trivial⟩
def w_X9_init_2893 (X : zs_X) (d : Nat) (p0 : Nat) (S : zs_T) (Q : zs_Q) : Prop :=
  (∀ a1 S2, a1 = zs_N S → S2 = zs_nw S (.inr (0, (16000 : Int32).toNatClampNeg)) (16000 : Int32).toNatClampNeg → zs_K S2 p0 = some (.inl 8) ∧ ab_n0 X.1 ≤ p0 ∧ ∀ S8, S8 = zs_sR S2 8117 p0 (some a1) → ∀ a11 S12, a11 = zs_N S8 → S12 = zs_nw S8 (.inr (0, (16000 : Int32).toNatClampNeg)) (16000 : Int32).toNatClampNeg → zs_K S12 p0 = some (.inl 8) ∧ ∀ S17, S17 = zs_sR S12 8118 p0 (some a11) → ∀ a20 S21, a20 = zs_N S17 → S21 = zs_nw S17 (.inr (0, (16000 : Int32).toNatClampNeg)) (16000 : Int32).toNatClampNeg → zs_K S21 p0 = some (.inl 8) ∧ ∀ S26, S26 = zs_sR S21 8119 p0 (some a20) → ∀ a29 S30, a29 = zs_N S26 → S30 = zs_nw S26 (.inr (0, (80 : Int32).toNatClampNeg)) (80 : Int32).toNatClampNeg → zs_K S30 p0 = some (.inl 8) ∧ ∀ S35, S35 = zs_sR S30 8120 p0 (some a29) → w_X9_init_2928 X d p0 S35 Q)
theorem u_X9_init_2893 {σ : Nat → Nat} {n0 : Nat} {bf : ab_B} {d : Nat} {p0 : Nat} {S : zs_T} {Q : zs_Q} (hB : zt_B bf) (h : w_X9_init_2893 (zx σ n0 bf) d p0 S Q) : zs_U (zx σ n0 bf) d 8000 2893 [(0, .ref p0)] [] S Q := by
  unfold w_X9_init_2893 at h
  refine zu_aload_n d_8000_2893 rfl (zs_ra _) ?_
  refine zu_sipush d_8000_2894 zh_16000 ?_
  refine zu_newa0 (k := 0) d_8000_2897 rfl rfl (fun _ => rfl) (by decide) (by decide) ?_
  generalize e4 : zs_nw S (.inr (0, (16000 : Int32).toNatClampNeg)) (16000 : Int32).toNatClampNeg = S2
  generalize e3 : zs_N S = a1
  have h := h a1 S2 e3.symm e4.symm
  have k5 := zs_kn e3 e4
  obtain ⟨k6, h⟩ := h
  obtain ⟨k7, h⟩ := h
  refine zp_8_254 (v := (some a1)) rfl d_8000_2899 k6 k7 ?_
  generalize e9 : zs_sR S2 8117 p0 (some a1) = S8
  have h := h S8 e9.symm
  have K10 : ∀ b, zs_K S8 b = zs_K S2 b := zs_Kt e9 (zs_KsR _ _ _ _) (fun _ => rfl)
  refine zu_aload_n d_8000_2902 rfl (zs_ra _) ?_
  refine zu_sipush d_8000_2903 zh_16000 ?_
  refine zu_newa0 (k := 0) d_8000_2906 rfl rfl (fun _ => rfl) (by decide) (by decide) ?_
  generalize e14 : zs_nw S8 (.inr (0, (16000 : Int32).toNatClampNeg)) (16000 : Int32).toNatClampNeg = S12
  generalize e13 : zs_N S8 = a11
  have h := h a11 S12 e13.symm e14.symm
  have k15 := zs_kn e13 e14
  obtain ⟨k16, h⟩ := h
  refine zp_8_257 (v := (some a11)) rfl d_8000_2908 k16 k7 ?_
  generalize e18 : zs_sR S12 8118 p0 (some a11) = S17
  have h := h S17 e18.symm
  have K19 : ∀ b, zs_K S17 b = zs_K S12 b := zs_Kt e18 (zs_KsR _ _ _ _) (fun _ => rfl)
  refine zu_aload_n d_8000_2911 rfl (zs_ra _) ?_
  refine zu_sipush d_8000_2912 zh_16000 ?_
  refine zu_newa0 (k := 0) d_8000_2915 rfl rfl (fun _ => rfl) (by decide) (by decide) ?_
  generalize e23 : zs_nw S17 (.inr (0, (16000 : Int32).toNatClampNeg)) (16000 : Int32).toNatClampNeg = S21
  generalize e22 : zs_N S17 = a20
  have h := h a20 S21 e22.symm e23.symm
  have k24 := zs_kn e22 e23
  obtain ⟨k25, h⟩ := h
  refine zp_8_260 (v := (some a20)) rfl d_8000_2917 k25 k7 ?_
  generalize e27 : zs_sR S21 8119 p0 (some a20) = S26
  have h := h S26 e27.symm
  have K28 : ∀ b, zs_K S26 b = zs_K S21 b := zs_Kt e27 (zs_KsR _ _ _ _) (fun _ => rfl)
  refine zu_aload_n d_8000_2920 rfl (zs_ra _) ?_
  refine zu_bipush d_8000_2921 zj_80 ?_
  refine zu_newa0 (k := 0) d_8000_2923 rfl rfl (fun _ => rfl) (by decide) (by decide) ?_
  generalize e32 : zs_nw S26 (.inr (0, (80 : Int32).toNatClampNeg)) (80 : Int32).toNatClampNeg = S30
  generalize e31 : zs_N S26 = a29
  have h := h a29 S30 e31.symm e32.symm
  have k33 := zs_kn e31 e32
  obtain ⟨k34, h⟩ := h
  refine zp_8_263 (v := (some a29)) rfl d_8000_2925 k34 k7 ?_
  generalize e36 : zs_sR S30 8120 p0 (some a29) = S35
  have h := h S35 e36.symm
  have K37 : ∀ b, zs_K S35 b = zs_K S30 b := zs_Kt e36 (zs_KsR _ _ _ _) (fun _ => rfl)
  exact (u_X9_init_2928 hB h).weak ⟨rfl, trivial⟩
def w_X9_init_2857 (X : zs_X) (d : Nat) (p0 : Nat) (S : zs_T) (Q : zs_Q) : Prop :=
  (∀ a1 S2, a1 = zs_N S → S2 = zs_nw S (.inr (1, (16000 : Int32).toNatClampNeg)) (16000 : Int32).toNatClampNeg → zs_K S2 p0 = some (.inl 8) ∧ ab_n0 X.1 ≤ p0 ∧ ∀ S8, S8 = zs_sR S2 8110 p0 (some a1) → ∀ a11 S12, a11 = zs_N S8 → S12 = zs_nw S8 (.inr (0, (16000 : Int32).toNatClampNeg)) (16000 : Int32).toNatClampNeg → zs_K S12 p0 = some (.inl 8) ∧ ∀ S17, S17 = zs_sR S12 8111 p0 (some a11) → ∀ a20 S21, a20 = zs_N S17 → S21 = zs_nw S17 (.inr (0, (8000 : Int32).toNatClampNeg)) (8000 : Int32).toNatClampNeg → zs_K S21 p0 = some (.inl 8) ∧ ∀ S26, S26 = zs_sR S21 8115 p0 (some a20) → ∀ a29 S30, a29 = zs_N S26 → S30 = zs_nw S26 (.inr (0, (20000 : Int32).toNatClampNeg)) (20000 : Int32).toNatClampNeg → zs_K S30 p0 = some (.inl 8) ∧ ∀ S35, S35 = zs_sR S30 8116 p0 (some a29) → w_X9_init_2893 X d p0 S35 Q)
theorem u_X9_init_2857 {σ : Nat → Nat} {n0 : Nat} {bf : ab_B} {d : Nat} {p0 : Nat} {S : zs_T} {Q : zs_Q} (hB : zt_B bf) (h : w_X9_init_2857 (zx σ n0 bf) d p0 S Q) : zs_U (zx σ n0 bf) d 8000 2857 [(0, .ref p0)] [] S Q := by
  unfold w_X9_init_2857 at h
  refine zu_aload_n d_8000_2857 rfl (zs_ra _) ?_
  refine zu_sipush d_8000_2858 zh_16000 ?_
  refine zu_newa0 (k := 1) d_8000_2861 rfl rfl (fun _ => rfl) (by decide) (by decide) ?_
  generalize e4 : zs_nw S (.inr (1, (16000 : Int32).toNatClampNeg)) (16000 : Int32).toNatClampNeg = S2
  generalize e3 : zs_N S = a1
  have h := h a1 S2 e3.symm e4.symm
  have k5 := zs_kn e3 e4
  obtain ⟨k6, h⟩ := h
  obtain ⟨k7, h⟩ := h
  refine zp_8_242 (v := (some a1)) rfl d_8000_2863 k6 k7 ?_
  generalize e9 : zs_sR S2 8110 p0 (some a1) = S8
  have h := h S8 e9.symm
  have K10 : ∀ b, zs_K S8 b = zs_K S2 b := zs_Kt e9 (zs_KsR _ _ _ _) (fun _ => rfl)
  refine zu_aload_n d_8000_2866 rfl (zs_ra _) ?_
  refine zu_sipush d_8000_2867 zh_16000 ?_
  refine zu_newa0 (k := 0) d_8000_2870 rfl rfl (fun _ => rfl) (by decide) (by decide) ?_
  generalize e14 : zs_nw S8 (.inr (0, (16000 : Int32).toNatClampNeg)) (16000 : Int32).toNatClampNeg = S12
  generalize e13 : zs_N S8 = a11
  have h := h a11 S12 e13.symm e14.symm
  have k15 := zs_kn e13 e14
  obtain ⟨k16, h⟩ := h
  refine zp_8_245 (v := (some a11)) rfl d_8000_2872 k16 k7 ?_
  generalize e18 : zs_sR S12 8111 p0 (some a11) = S17
  have h := h S17 e18.symm
  have K19 : ∀ b, zs_K S17 b = zs_K S12 b := zs_Kt e18 (zs_KsR _ _ _ _) (fun _ => rfl)
  refine zu_aload_n d_8000_2875 rfl (zs_ra _) ?_
  refine zu_sipush d_8000_2876 zh_8000 ?_
  refine zu_newa0 (k := 0) d_8000_2879 rfl rfl (fun _ => rfl) (by decide) (by decide) ?_
  generalize e23 : zs_nw S17 (.inr (0, (8000 : Int32).toNatClampNeg)) (8000 : Int32).toNatClampNeg = S21
  generalize e22 : zs_N S17 = a20
  have h := h a20 S21 e22.symm e23.symm
  have k24 := zs_kn e22 e23
  obtain ⟨k25, h⟩ := h
  refine zp_8_248 (v := (some a20)) rfl d_8000_2881 k25 k7 ?_
  generalize e27 : zs_sR S21 8115 p0 (some a20) = S26
  have h := h S26 e27.symm
  have K28 : ∀ b, zs_K S26 b = zs_K S21 b := zs_Kt e27 (zs_KsR _ _ _ _) (fun _ => rfl)
  refine zu_aload_n d_8000_2884 rfl (zs_ra _) ?_
  refine zu_sipush d_8000_2885 zh_20000 ?_
  refine zu_newa0 (k := 0) d_8000_2888 rfl rfl (fun _ => rfl) (by decide) (by decide) ?_
  generalize e32 : zs_nw S26 (.inr (0, (20000 : Int32).toNatClampNeg)) (20000 : Int32).toNatClampNeg = S30
  generalize e31 : zs_N S26 = a29
  have h := h a29 S30 e31.symm e32.symm
  have k33 := zs_kn e31 e32
  obtain ⟨k34, h⟩ := h
  refine zp_8_251 (v := (some a29)) rfl d_8000_2890 k34 k7 ?_
  generalize e36 : zs_sR S30 8116 p0 (some a29) = S35
  have h := h S35 e36.symm
  have K37 : ∀ b, zs_K S35 b = zs_K S30 b := zs_Kt e36 (zs_KsR _ _ _ _) (fun _ => rfl)
  exact (u_X9_init_2893 hB h).weak ⟨rfl, trivial⟩
def w_X9_init_2821 (X : zs_X) (d : Nat) (p0 : Nat) (S : zs_T) (Q : zs_Q) : Prop :=
  (∀ a1 S2, a1 = zs_N S → S2 = zs_nw S (.inr (2, (4200 : Int32).toNatClampNeg)) (4200 : Int32).toNatClampNeg → zs_K S2 p0 = some (.inl 8) ∧ ab_n0 X.1 ≤ p0 ∧ ∀ S8, S8 = zs_sR S2 8105 p0 (some a1) → ∀ a11 S12, a11 = zs_N S8 → S12 = zs_nw S8 (.inr (0, (4200 : Int32).toNatClampNeg)) (4200 : Int32).toNatClampNeg → zs_K S12 p0 = some (.inl 8) ∧ ∀ S17, S17 = zs_sR S12 8106 p0 (some a11) → ∀ a20 S21, a20 = zs_N S17 → S21 = zs_nw S17 (.inr (0, (4200 : Int32).toNatClampNeg)) (4200 : Int32).toNatClampNeg → zs_K S21 p0 = some (.inl 8) ∧ ∀ S26, S26 = zs_sR S21 8107 p0 (some a20) → ∀ a29 S30, a29 = zs_N S26 → S30 = zs_nw S26 (.inr (0, (16000 : Int32).toNatClampNeg)) (16000 : Int32).toNatClampNeg → zs_K S30 p0 = some (.inl 8) ∧ ∀ S35, S35 = zs_sR S30 8109 p0 (some a29) → w_X9_init_2857 X d p0 S35 Q)
theorem u_X9_init_2821 {σ : Nat → Nat} {n0 : Nat} {bf : ab_B} {d : Nat} {p0 : Nat} {S : zs_T} {Q : zs_Q} (hB : zt_B bf) (h : w_X9_init_2821 (zx σ n0 bf) d p0 S Q) : zs_U (zx σ n0 bf) d 8000 2821 [(0, .ref p0)] [] S Q := by
  unfold w_X9_init_2821 at h
  refine zu_aload_n d_8000_2821 rfl (zs_ra _) ?_
  refine zu_sipush d_8000_2822 zh_4200 ?_
  refine zu_newa0 (k := 2) d_8000_2825 rfl rfl (fun _ => rfl) (by decide) (by decide) ?_
  generalize e4 : zs_nw S (.inr (2, (4200 : Int32).toNatClampNeg)) (4200 : Int32).toNatClampNeg = S2
  generalize e3 : zs_N S = a1
  have h := h a1 S2 e3.symm e4.symm
  have k5 := zs_kn e3 e4
  obtain ⟨k6, h⟩ := h
  obtain ⟨k7, h⟩ := h
  refine zp_8_230 (v := (some a1)) rfl d_8000_2827 k6 k7 ?_
  generalize e9 : zs_sR S2 8105 p0 (some a1) = S8
  have h := h S8 e9.symm
  have K10 : ∀ b, zs_K S8 b = zs_K S2 b := zs_Kt e9 (zs_KsR _ _ _ _) (fun _ => rfl)
  refine zu_aload_n d_8000_2830 rfl (zs_ra _) ?_
  refine zu_sipush d_8000_2831 zh_4200 ?_
  refine zu_newa0 (k := 0) d_8000_2834 rfl rfl (fun _ => rfl) (by decide) (by decide) ?_
  generalize e14 : zs_nw S8 (.inr (0, (4200 : Int32).toNatClampNeg)) (4200 : Int32).toNatClampNeg = S12
  generalize e13 : zs_N S8 = a11
  have h := h a11 S12 e13.symm e14.symm
  have k15 := zs_kn e13 e14
  obtain ⟨k16, h⟩ := h
  refine zp_8_233 (v := (some a11)) rfl d_8000_2836 k16 k7 ?_
  generalize e18 : zs_sR S12 8106 p0 (some a11) = S17
  have h := h S17 e18.symm
  have K19 : ∀ b, zs_K S17 b = zs_K S12 b := zs_Kt e18 (zs_KsR _ _ _ _) (fun _ => rfl)
  refine zu_aload_n d_8000_2839 rfl (zs_ra _) ?_
  refine zu_sipush d_8000_2840 zh_4200 ?_
  refine zu_newa0 (k := 0) d_8000_2843 rfl rfl (fun _ => rfl) (by decide) (by decide) ?_
  generalize e23 : zs_nw S17 (.inr (0, (4200 : Int32).toNatClampNeg)) (4200 : Int32).toNatClampNeg = S21
  generalize e22 : zs_N S17 = a20
  have h := h a20 S21 e22.symm e23.symm
  have k24 := zs_kn e22 e23
  obtain ⟨k25, h⟩ := h
  refine zp_8_236 (v := (some a20)) rfl d_8000_2845 k25 k7 ?_
  generalize e27 : zs_sR S21 8107 p0 (some a20) = S26
  have h := h S26 e27.symm
  have K28 : ∀ b, zs_K S26 b = zs_K S21 b := zs_Kt e27 (zs_KsR _ _ _ _) (fun _ => rfl)
  refine zu_aload_n d_8000_2848 rfl (zs_ra _) ?_
  refine zu_sipush d_8000_2849 zh_16000 ?_
  refine zu_newa0 (k := 0) d_8000_2852 rfl rfl (fun _ => rfl) (by decide) (by decide) ?_
  generalize e32 : zs_nw S26 (.inr (0, (16000 : Int32).toNatClampNeg)) (16000 : Int32).toNatClampNeg = S30
  generalize e31 : zs_N S26 = a29
  have h := h a29 S30 e31.symm e32.symm
  have k33 := zs_kn e31 e32
  obtain ⟨k34, h⟩ := h
  refine zp_8_239 (v := (some a29)) rfl d_8000_2854 k34 k7 ?_
  generalize e36 : zs_sR S30 8109 p0 (some a29) = S35
  have h := h S35 e36.symm
  have K37 : ∀ b, zs_K S35 b = zs_K S30 b := zs_Kt e36 (zs_KsR _ _ _ _) (fun _ => rfl)
  exact (u_X9_init_2857 hB h).weak ⟨rfl, trivial⟩
def w_X9_init_2785 (X : zs_X) (d : Nat) (p0 : Nat) (S : zs_T) (Q : zs_Q) : Prop :=
  (∀ a1 S2, a1 = zs_N S → S2 = zs_nw S (.inr (0, (4200 : Int32).toNatClampNeg)) (4200 : Int32).toNatClampNeg → zs_K S2 p0 = some (.inl 8) ∧ ab_n0 X.1 ≤ p0 ∧ ∀ S8, S8 = zs_sR S2 8101 p0 (some a1) → ∀ a11 S12, a11 = zs_N S8 → S12 = zs_nw S8 (.inr (0, (4200 : Int32).toNatClampNeg)) (4200 : Int32).toNatClampNeg → zs_K S12 p0 = some (.inl 8) ∧ ∀ S17, S17 = zs_sR S12 8102 p0 (some a11) → ∀ a20 S21, a20 = zs_N S17 → S21 = zs_nw S17 (.inr (0, (4200 : Int32).toNatClampNeg)) (4200 : Int32).toNatClampNeg → zs_K S21 p0 = some (.inl 8) ∧ ∀ S26, S26 = zs_sR S21 8103 p0 (some a20) → ∀ a29 S30, a29 = zs_N S26 → S30 = zs_nw S26 (.inr (0, (4200 : Int32).toNatClampNeg)) (4200 : Int32).toNatClampNeg → zs_K S30 p0 = some (.inl 8) ∧ ∀ S35, S35 = zs_sR S30 8104 p0 (some a29) → w_X9_init_2821 X d p0 S35 Q)
theorem u_X9_init_2785 {σ : Nat → Nat} {n0 : Nat} {bf : ab_B} {d : Nat} {p0 : Nat} {S : zs_T} {Q : zs_Q} (hB : zt_B bf) (h : w_X9_init_2785 (zx σ n0 bf) d p0 S Q) : zs_U (zx σ n0 bf) d 8000 2785 [(0, .ref p0)] [] S Q := by
  unfold w_X9_init_2785 at h
  refine zu_aload_n d_8000_2785 rfl (zs_ra _) ?_
  refine zu_sipush d_8000_2786 zh_4200 ?_
  refine zu_newa0 (k := 0) d_8000_2789 rfl rfl (fun _ => rfl) (by decide) (by decide) ?_
  generalize e4 : zs_nw S (.inr (0, (4200 : Int32).toNatClampNeg)) (4200 : Int32).toNatClampNeg = S2
  generalize e3 : zs_N S = a1
  have h := h a1 S2 e3.symm e4.symm
  have k5 := zs_kn e3 e4
  obtain ⟨k6, h⟩ := h
  obtain ⟨k7, h⟩ := h
  refine zp_8_218 (v := (some a1)) rfl d_8000_2791 k6 k7 ?_
  generalize e9 : zs_sR S2 8101 p0 (some a1) = S8
  have h := h S8 e9.symm
  have K10 : ∀ b, zs_K S8 b = zs_K S2 b := zs_Kt e9 (zs_KsR _ _ _ _) (fun _ => rfl)
  refine zu_aload_n d_8000_2794 rfl (zs_ra _) ?_
  refine zu_sipush d_8000_2795 zh_4200 ?_
  refine zu_newa0 (k := 0) d_8000_2798 rfl rfl (fun _ => rfl) (by decide) (by decide) ?_
  generalize e14 : zs_nw S8 (.inr (0, (4200 : Int32).toNatClampNeg)) (4200 : Int32).toNatClampNeg = S12
  generalize e13 : zs_N S8 = a11
  have h := h a11 S12 e13.symm e14.symm
  have k15 := zs_kn e13 e14
  obtain ⟨k16, h⟩ := h
  refine zp_8_221 (v := (some a11)) rfl d_8000_2800 k16 k7 ?_
  generalize e18 : zs_sR S12 8102 p0 (some a11) = S17
  have h := h S17 e18.symm
  have K19 : ∀ b, zs_K S17 b = zs_K S12 b := zs_Kt e18 (zs_KsR _ _ _ _) (fun _ => rfl)
  refine zu_aload_n d_8000_2803 rfl (zs_ra _) ?_
  refine zu_sipush d_8000_2804 zh_4200 ?_
  refine zu_newa0 (k := 0) d_8000_2807 rfl rfl (fun _ => rfl) (by decide) (by decide) ?_
  generalize e23 : zs_nw S17 (.inr (0, (4200 : Int32).toNatClampNeg)) (4200 : Int32).toNatClampNeg = S21
  generalize e22 : zs_N S17 = a20
  have h := h a20 S21 e22.symm e23.symm
  have k24 := zs_kn e22 e23
  obtain ⟨k25, h⟩ := h
  refine zp_8_224 (v := (some a20)) rfl d_8000_2809 k25 k7 ?_
  generalize e27 : zs_sR S21 8103 p0 (some a20) = S26
  have h := h S26 e27.symm
  have K28 : ∀ b, zs_K S26 b = zs_K S21 b := zs_Kt e27 (zs_KsR _ _ _ _) (fun _ => rfl)
  refine zu_aload_n d_8000_2812 rfl (zs_ra _) ?_
  refine zu_sipush d_8000_2813 zh_4200 ?_
  refine zu_newa0 (k := 0) d_8000_2816 rfl rfl (fun _ => rfl) (by decide) (by decide) ?_
  generalize e32 : zs_nw S26 (.inr (0, (4200 : Int32).toNatClampNeg)) (4200 : Int32).toNatClampNeg = S30
  generalize e31 : zs_N S26 = a29
  have h := h a29 S30 e31.symm e32.symm
  have k33 := zs_kn e31 e32
  obtain ⟨k34, h⟩ := h
  refine zp_8_227 (v := (some a29)) rfl d_8000_2818 k34 k7 ?_
  generalize e36 : zs_sR S30 8104 p0 (some a29) = S35
  have h := h S35 e36.symm
  have K37 : ∀ b, zs_K S35 b = zs_K S30 b := zs_Kt e36 (zs_KsR _ _ _ _) (fun _ => rfl)
  exact (u_X9_init_2821 hB h).weak ⟨rfl, trivial⟩
def w_X9_init_2749 (X : zs_X) (d : Nat) (p0 : Nat) (S : zs_T) (Q : zs_Q) : Prop :=
  (∀ a1 S2, a1 = zs_N S → S2 = zs_nw S (.inr (0, (400 : Int32).toNatClampNeg)) (400 : Int32).toNatClampNeg → zs_K S2 p0 = some (.inl 8) ∧ ab_n0 X.1 ≤ p0 ∧ ∀ S8, S8 = zs_sR S2 8096 p0 (some a1) → ∀ a11 S12, a11 = zs_N S8 → S12 = zs_nw S8 (.inr (0, (4200 : Int32).toNatClampNeg)) (4200 : Int32).toNatClampNeg → zs_K S12 p0 = some (.inl 8) ∧ ∀ S17, S17 = zs_sR S12 8098 p0 (some a11) → ∀ a20 S21, a20 = zs_N S17 → S21 = zs_nw S17 (.inr (0, (4200 : Int32).toNatClampNeg)) (4200 : Int32).toNatClampNeg → zs_K S21 p0 = some (.inl 8) ∧ ∀ S26, S26 = zs_sR S21 8099 p0 (some a20) → ∀ a29 S30, a29 = zs_N S26 → S30 = zs_nw S26 (.inr (0, (4200 : Int32).toNatClampNeg)) (4200 : Int32).toNatClampNeg → zs_K S30 p0 = some (.inl 8) ∧ ∀ S35, S35 = zs_sR S30 8100 p0 (some a29) → w_X9_init_2785 X d p0 S35 Q)
theorem u_X9_init_2749 {σ : Nat → Nat} {n0 : Nat} {bf : ab_B} {d : Nat} {p0 : Nat} {S : zs_T} {Q : zs_Q} (hB : zt_B bf) (h : w_X9_init_2749 (zx σ n0 bf) d p0 S Q) : zs_U (zx σ n0 bf) d 8000 2749 [(0, .ref p0)] [] S Q := by
  unfold w_X9_init_2749 at h
  refine zu_aload_n d_8000_2749 rfl (zs_ra _) ?_
  refine zu_sipush d_8000_2750 zh_400 ?_
  refine zu_newa0 (k := 0) d_8000_2753 rfl rfl (fun _ => rfl) (by decide) (by decide) ?_
  generalize e4 : zs_nw S (.inr (0, (400 : Int32).toNatClampNeg)) (400 : Int32).toNatClampNeg = S2
  generalize e3 : zs_N S = a1
  have h := h a1 S2 e3.symm e4.symm
  have k5 := zs_kn e3 e4
  obtain ⟨k6, h⟩ := h
  obtain ⟨k7, h⟩ := h
  refine zp_8_206 (v := (some a1)) rfl d_8000_2755 k6 k7 ?_
  generalize e9 : zs_sR S2 8096 p0 (some a1) = S8
  have h := h S8 e9.symm
  have K10 : ∀ b, zs_K S8 b = zs_K S2 b := zs_Kt e9 (zs_KsR _ _ _ _) (fun _ => rfl)
  refine zu_aload_n d_8000_2758 rfl (zs_ra _) ?_
  refine zu_sipush d_8000_2759 zh_4200 ?_
  refine zu_newa0 (k := 0) d_8000_2762 rfl rfl (fun _ => rfl) (by decide) (by decide) ?_
  generalize e14 : zs_nw S8 (.inr (0, (4200 : Int32).toNatClampNeg)) (4200 : Int32).toNatClampNeg = S12
  generalize e13 : zs_N S8 = a11
  have h := h a11 S12 e13.symm e14.symm
  have k15 := zs_kn e13 e14
  obtain ⟨k16, h⟩ := h
  refine zp_8_209 (v := (some a11)) rfl d_8000_2764 k16 k7 ?_
  generalize e18 : zs_sR S12 8098 p0 (some a11) = S17
  have h := h S17 e18.symm
  have K19 : ∀ b, zs_K S17 b = zs_K S12 b := zs_Kt e18 (zs_KsR _ _ _ _) (fun _ => rfl)
  refine zu_aload_n d_8000_2767 rfl (zs_ra _) ?_
  refine zu_sipush d_8000_2768 zh_4200 ?_
  refine zu_newa0 (k := 0) d_8000_2771 rfl rfl (fun _ => rfl) (by decide) (by decide) ?_
  generalize e23 : zs_nw S17 (.inr (0, (4200 : Int32).toNatClampNeg)) (4200 : Int32).toNatClampNeg = S21
  generalize e22 : zs_N S17 = a20
  have h := h a20 S21 e22.symm e23.symm
  have k24 := zs_kn e22 e23
  obtain ⟨k25, h⟩ := h
  refine zp_8_212 (v := (some a20)) rfl d_8000_2773 k25 k7 ?_
  generalize e27 : zs_sR S21 8099 p0 (some a20) = S26
  have h := h S26 e27.symm
  have K28 : ∀ b, zs_K S26 b = zs_K S21 b := zs_Kt e27 (zs_KsR _ _ _ _) (fun _ => rfl)
  refine zu_aload_n d_8000_2776 rfl (zs_ra _) ?_
  refine zu_sipush d_8000_2777 zh_4200 ?_
  refine zu_newa0 (k := 0) d_8000_2780 rfl rfl (fun _ => rfl) (by decide) (by decide) ?_
  generalize e32 : zs_nw S26 (.inr (0, (4200 : Int32).toNatClampNeg)) (4200 : Int32).toNatClampNeg = S30
  generalize e31 : zs_N S26 = a29
  have h := h a29 S30 e31.symm e32.symm
  have k33 := zs_kn e31 e32
  obtain ⟨k34, h⟩ := h
  refine zp_8_215 (v := (some a29)) rfl d_8000_2782 k34 k7 ?_
  generalize e36 : zs_sR S30 8100 p0 (some a29) = S35
  have h := h S35 e36.symm
  have K37 : ∀ b, zs_K S35 b = zs_K S30 b := zs_Kt e36 (zs_KsR _ _ _ _) (fun _ => rfl)
  exact (u_X9_init_2785 hB h).weak ⟨rfl, trivial⟩
def w_X9_init_2713 (X : zs_X) (d : Nat) (p0 : Nat) (S : zs_T) (Q : zs_Q) : Prop :=
  (∀ a1 S2, a1 = zs_N S → S2 = zs_nw S (.inr (2, (400 : Int32).toNatClampNeg)) (400 : Int32).toNatClampNeg → zs_K S2 p0 = some (.inl 8) ∧ ab_n0 X.1 ≤ p0 ∧ ∀ S8, S8 = zs_sR S2 8092 p0 (some a1) → ∀ a11 S12, a11 = zs_N S8 → S12 = zs_nw S8 (.inr (2, (400 : Int32).toNatClampNeg)) (400 : Int32).toNatClampNeg → zs_K S12 p0 = some (.inl 8) ∧ ∀ S17, S17 = zs_sR S12 8093 p0 (some a11) → ∀ a20 S21, a20 = zs_N S17 → S21 = zs_nw S17 (.inr (0, (400 : Int32).toNatClampNeg)) (400 : Int32).toNatClampNeg → zs_K S21 p0 = some (.inl 8) ∧ ∀ S26, S26 = zs_sR S21 8094 p0 (some a20) → ∀ a29 S30, a29 = zs_N S26 → S30 = zs_nw S26 (.inr (0, (400 : Int32).toNatClampNeg)) (400 : Int32).toNatClampNeg → zs_K S30 p0 = some (.inl 8) ∧ ∀ S35, S35 = zs_sR S30 8095 p0 (some a29) → w_X9_init_2749 X d p0 S35 Q)
theorem u_X9_init_2713 {σ : Nat → Nat} {n0 : Nat} {bf : ab_B} {d : Nat} {p0 : Nat} {S : zs_T} {Q : zs_Q} (hB : zt_B bf) (h : w_X9_init_2713 (zx σ n0 bf) d p0 S Q) : zs_U (zx σ n0 bf) d 8000 2713 [(0, .ref p0)] [] S Q := by
  unfold w_X9_init_2713 at h
  refine zu_aload_n d_8000_2713 rfl (zs_ra _) ?_
  refine zu_sipush d_8000_2714 zh_400 ?_
  refine zu_newa0 (k := 2) d_8000_2717 rfl rfl (fun _ => rfl) (by decide) (by decide) ?_
  generalize e4 : zs_nw S (.inr (2, (400 : Int32).toNatClampNeg)) (400 : Int32).toNatClampNeg = S2
  generalize e3 : zs_N S = a1
  have h := h a1 S2 e3.symm e4.symm
  have k5 := zs_kn e3 e4
  obtain ⟨k6, h⟩ := h
  obtain ⟨k7, h⟩ := h
  refine zp_8_194 (v := (some a1)) rfl d_8000_2719 k6 k7 ?_
  generalize e9 : zs_sR S2 8092 p0 (some a1) = S8
  have h := h S8 e9.symm
  have K10 : ∀ b, zs_K S8 b = zs_K S2 b := zs_Kt e9 (zs_KsR _ _ _ _) (fun _ => rfl)
  refine zu_aload_n d_8000_2722 rfl (zs_ra _) ?_
  refine zu_sipush d_8000_2723 zh_400 ?_
  refine zu_newa0 (k := 2) d_8000_2726 rfl rfl (fun _ => rfl) (by decide) (by decide) ?_
  generalize e14 : zs_nw S8 (.inr (2, (400 : Int32).toNatClampNeg)) (400 : Int32).toNatClampNeg = S12
  generalize e13 : zs_N S8 = a11
  have h := h a11 S12 e13.symm e14.symm
  have k15 := zs_kn e13 e14
  obtain ⟨k16, h⟩ := h
  refine zp_8_197 (v := (some a11)) rfl d_8000_2728 k16 k7 ?_
  generalize e18 : zs_sR S12 8093 p0 (some a11) = S17
  have h := h S17 e18.symm
  have K19 : ∀ b, zs_K S17 b = zs_K S12 b := zs_Kt e18 (zs_KsR _ _ _ _) (fun _ => rfl)
  refine zu_aload_n d_8000_2731 rfl (zs_ra _) ?_
  refine zu_sipush d_8000_2732 zh_400 ?_
  refine zu_newa0 (k := 0) d_8000_2735 rfl rfl (fun _ => rfl) (by decide) (by decide) ?_
  generalize e23 : zs_nw S17 (.inr (0, (400 : Int32).toNatClampNeg)) (400 : Int32).toNatClampNeg = S21
  generalize e22 : zs_N S17 = a20
  have h := h a20 S21 e22.symm e23.symm
  have k24 := zs_kn e22 e23
  obtain ⟨k25, h⟩ := h
  refine zp_8_200 (v := (some a20)) rfl d_8000_2737 k25 k7 ?_
  generalize e27 : zs_sR S21 8094 p0 (some a20) = S26
  have h := h S26 e27.symm
  have K28 : ∀ b, zs_K S26 b = zs_K S21 b := zs_Kt e27 (zs_KsR _ _ _ _) (fun _ => rfl)
  refine zu_aload_n d_8000_2740 rfl (zs_ra _) ?_
  refine zu_sipush d_8000_2741 zh_400 ?_
  refine zu_newa0 (k := 0) d_8000_2744 rfl rfl (fun _ => rfl) (by decide) (by decide) ?_
  generalize e32 : zs_nw S26 (.inr (0, (400 : Int32).toNatClampNeg)) (400 : Int32).toNatClampNeg = S30
  generalize e31 : zs_N S26 = a29
  have h := h a29 S30 e31.symm e32.symm
  have k33 := zs_kn e31 e32
  obtain ⟨k34, h⟩ := h
  refine zp_8_203 (v := (some a29)) rfl d_8000_2746 k34 k7 ?_
  generalize e36 : zs_sR S30 8095 p0 (some a29) = S35
  have h := h S35 e36.symm
  have K37 : ∀ b, zs_K S35 b = zs_K S30 b := zs_Kt e36 (zs_KsR _ _ _ _) (fun _ => rfl)
  exact (u_X9_init_2749 hB h).weak ⟨rfl, trivial⟩
def w_X9_init_2677 (X : zs_X) (d : Nat) (p0 : Nat) (S : zs_T) (Q : zs_Q) : Prop :=
  (∀ a1 S2, a1 = zs_N S → S2 = zs_nw S (.inr (0, (9000 : Int32).toNatClampNeg)) (9000 : Int32).toNatClampNeg → zs_K S2 p0 = some (.inl 8) ∧ ab_n0 X.1 ≤ p0 ∧ ∀ S8, S8 = zs_sR S2 8086 p0 (some a1) → ∀ a11 S12, a11 = zs_N S8 → S12 = zs_nw S8 (.inr (0, (9000 : Int32).toNatClampNeg)) (9000 : Int32).toNatClampNeg → zs_K S12 p0 = some (.inl 8) ∧ ∀ S17, S17 = zs_sR S12 8087 p0 (some a11) → ∀ a20 S21, a20 = zs_N S17 → S21 = zs_nw S17 (.inr (0, (9000 : Int32).toNatClampNeg)) (9000 : Int32).toNatClampNeg → zs_K S21 p0 = some (.inl 8) ∧ ∀ S26, S26 = zs_sR S21 8088 p0 (some a20) → ∀ a29 S30, a29 = zs_N S26 → S30 = zs_nw S26 (.inr (0, (400 : Int32).toNatClampNeg)) (400 : Int32).toNatClampNeg → zs_K S30 p0 = some (.inl 8) ∧ ∀ S35, S35 = zs_sR S30 8091 p0 (some a29) → w_X9_init_2713 X d p0 S35 Q)
theorem u_X9_init_2677 {σ : Nat → Nat} {n0 : Nat} {bf : ab_B} {d : Nat} {p0 : Nat} {S : zs_T} {Q : zs_Q} (hB : zt_B bf) (h : w_X9_init_2677 (zx σ n0 bf) d p0 S Q) : zs_U (zx σ n0 bf) d 8000 2677 [(0, .ref p0)] [] S Q := by
  unfold w_X9_init_2677 at h
  refine zu_aload_n d_8000_2677 rfl (zs_ra _) ?_
  refine zu_sipush d_8000_2678 zh_9000 ?_
  refine zu_newa0 (k := 0) d_8000_2681 rfl rfl (fun _ => rfl) (by decide) (by decide) ?_
  generalize e4 : zs_nw S (.inr (0, (9000 : Int32).toNatClampNeg)) (9000 : Int32).toNatClampNeg = S2
  generalize e3 : zs_N S = a1
  have h := h a1 S2 e3.symm e4.symm
  have k5 := zs_kn e3 e4
  obtain ⟨k6, h⟩ := h
  obtain ⟨k7, h⟩ := h
  refine zp_8_182 (v := (some a1)) rfl d_8000_2683 k6 k7 ?_
  generalize e9 : zs_sR S2 8086 p0 (some a1) = S8
  have h := h S8 e9.symm
  have K10 : ∀ b, zs_K S8 b = zs_K S2 b := zs_Kt e9 (zs_KsR _ _ _ _) (fun _ => rfl)
  refine zu_aload_n d_8000_2686 rfl (zs_ra _) ?_
  refine zu_sipush d_8000_2687 zh_9000 ?_
  refine zu_newa0 (k := 0) d_8000_2690 rfl rfl (fun _ => rfl) (by decide) (by decide) ?_
  generalize e14 : zs_nw S8 (.inr (0, (9000 : Int32).toNatClampNeg)) (9000 : Int32).toNatClampNeg = S12
  generalize e13 : zs_N S8 = a11
  have h := h a11 S12 e13.symm e14.symm
  have k15 := zs_kn e13 e14
  obtain ⟨k16, h⟩ := h
  refine zp_8_185 (v := (some a11)) rfl d_8000_2692 k16 k7 ?_
  generalize e18 : zs_sR S12 8087 p0 (some a11) = S17
  have h := h S17 e18.symm
  have K19 : ∀ b, zs_K S17 b = zs_K S12 b := zs_Kt e18 (zs_KsR _ _ _ _) (fun _ => rfl)
  refine zu_aload_n d_8000_2695 rfl (zs_ra _) ?_
  refine zu_sipush d_8000_2696 zh_9000 ?_
  refine zu_newa0 (k := 0) d_8000_2699 rfl rfl (fun _ => rfl) (by decide) (by decide) ?_
  generalize e23 : zs_nw S17 (.inr (0, (9000 : Int32).toNatClampNeg)) (9000 : Int32).toNatClampNeg = S21
  generalize e22 : zs_N S17 = a20
  have h := h a20 S21 e22.symm e23.symm
  have k24 := zs_kn e22 e23
  obtain ⟨k25, h⟩ := h
  refine zp_8_188 (v := (some a20)) rfl d_8000_2701 k25 k7 ?_
  generalize e27 : zs_sR S21 8088 p0 (some a20) = S26
  have h := h S26 e27.symm
  have K28 : ∀ b, zs_K S26 b = zs_K S21 b := zs_Kt e27 (zs_KsR _ _ _ _) (fun _ => rfl)
  refine zu_aload_n d_8000_2704 rfl (zs_ra _) ?_
  refine zu_sipush d_8000_2705 zh_400 ?_
  refine zu_newa0 (k := 0) d_8000_2708 rfl rfl (fun _ => rfl) (by decide) (by decide) ?_
  generalize e32 : zs_nw S26 (.inr (0, (400 : Int32).toNatClampNeg)) (400 : Int32).toNatClampNeg = S30
  generalize e31 : zs_N S26 = a29
  have h := h a29 S30 e31.symm e32.symm
  have k33 := zs_kn e31 e32
  obtain ⟨k34, h⟩ := h
  refine zp_8_191 (v := (some a29)) rfl d_8000_2710 k34 k7 ?_
  generalize e36 : zs_sR S30 8091 p0 (some a29) = S35
  have h := h S35 e36.symm
  have K37 : ∀ b, zs_K S35 b = zs_K S30 b := zs_Kt e36 (zs_KsR _ _ _ _) (fun _ => rfl)
  exact (u_X9_init_2713 hB h).weak ⟨rfl, trivial⟩
def w_X9_init_2641 (X : zs_X) (d : Nat) (p0 : Nat) (S : zs_T) (Q : zs_Q) : Prop :=
  (∀ a1 S2, a1 = zs_N S → S2 = zs_nw S (.inr (0, (17000 : Int32).toNatClampNeg)) (17000 : Int32).toNatClampNeg → zs_K S2 p0 = some (.inl 8) ∧ ab_n0 X.1 ≤ p0 ∧ ∀ S8, S8 = zs_sR S2 8076 p0 (some a1) → ∀ a11 S12, a11 = zs_N S8 → S12 = zs_nw S8 (.inr (0, (16000 : Int32).toNatClampNeg)) (16000 : Int32).toNatClampNeg → zs_K S12 p0 = some (.inl 8) ∧ ∀ S17, S17 = zs_sR S12 8078 p0 (some a11) → ∀ a20 S21, a20 = zs_N S17 → S21 = zs_nw S17 (.inr (3, (400 : Int32).toNatClampNeg)) (400 : Int32).toNatClampNeg → zs_K S21 p0 = some (.inl 8) ∧ ∀ S26, S26 = zs_sR S21 8079 p0 (some a20) → ∀ a29 S30, a29 = zs_N S26 → S30 = zs_nw S26 (.inr (0, (9000 : Int32).toNatClampNeg)) (9000 : Int32).toNatClampNeg → zs_K S30 p0 = some (.inl 8) ∧ ∀ S35, S35 = zs_sR S30 8085 p0 (some a29) → w_X9_init_2677 X d p0 S35 Q)
theorem u_X9_init_2641 {σ : Nat → Nat} {n0 : Nat} {bf : ab_B} {d : Nat} {p0 : Nat} {S : zs_T} {Q : zs_Q} (hB : zt_B bf) (h : w_X9_init_2641 (zx σ n0 bf) d p0 S Q) : zs_U (zx σ n0 bf) d 8000 2641 [(0, .ref p0)] [] S Q := by
  unfold w_X9_init_2641 at h
  refine zu_aload_n d_8000_2641 rfl (zs_ra _) ?_
  refine zu_sipush d_8000_2642 zh_17000 ?_
  refine zu_newa0 (k := 0) d_8000_2645 rfl rfl (fun _ => rfl) (by decide) (by decide) ?_
  generalize e4 : zs_nw S (.inr (0, (17000 : Int32).toNatClampNeg)) (17000 : Int32).toNatClampNeg = S2
  generalize e3 : zs_N S = a1
  have h := h a1 S2 e3.symm e4.symm
  have k5 := zs_kn e3 e4
  obtain ⟨k6, h⟩ := h
  obtain ⟨k7, h⟩ := h
  refine zp_8_169 (v := (some a1)) rfl d_8000_2647 k6 k7 ?_
  generalize e9 : zs_sR S2 8076 p0 (some a1) = S8
  have h := h S8 e9.symm
  have K10 : ∀ b, zs_K S8 b = zs_K S2 b := zs_Kt e9 (zs_KsR _ _ _ _) (fun _ => rfl)
  refine zu_aload_n d_8000_2650 rfl (zs_ra _) ?_
  refine zu_sipush d_8000_2651 zh_16000 ?_
  refine zu_newa0 (k := 0) d_8000_2654 rfl rfl (fun _ => rfl) (by decide) (by decide) ?_
  generalize e14 : zs_nw S8 (.inr (0, (16000 : Int32).toNatClampNeg)) (16000 : Int32).toNatClampNeg = S12
  generalize e13 : zs_N S8 = a11
  have h := h a11 S12 e13.symm e14.symm
  have k15 := zs_kn e13 e14
  obtain ⟨k16, h⟩ := h
  refine zp_8_172 (v := (some a11)) rfl d_8000_2656 k16 k7 ?_
  generalize e18 : zs_sR S12 8078 p0 (some a11) = S17
  have h := h S17 e18.symm
  have K19 : ∀ b, zs_K S17 b = zs_K S12 b := zs_Kt e18 (zs_KsR _ _ _ _) (fun _ => rfl)
  refine zu_aload_n d_8000_2659 rfl (zs_ra _) ?_
  refine zu_sipush d_8000_2660 zh_400 ?_
  refine zu_newa1 (k := 3) d_8000_2663 rfl rfl (fun _ => rfl) (by decide) (by decide) ?_
  generalize e23 : zs_nw S17 (.inr (3, (400 : Int32).toNatClampNeg)) (400 : Int32).toNatClampNeg = S21
  generalize e22 : zs_N S17 = a20
  have h := h a20 S21 e22.symm e23.symm
  have k24 := zs_kn e22 e23
  obtain ⟨k25, h⟩ := h
  refine zp_8_175 (v := (some a20)) rfl d_8000_2665 k25 k7 ?_
  generalize e27 : zs_sR S21 8079 p0 (some a20) = S26
  have h := h S26 e27.symm
  have K28 : ∀ b, zs_K S26 b = zs_K S21 b := zs_Kt e27 (zs_KsR _ _ _ _) (fun _ => rfl)
  refine zu_aload_n d_8000_2668 rfl (zs_ra _) ?_
  refine zu_sipush d_8000_2669 zh_9000 ?_
  refine zu_newa0 (k := 0) d_8000_2672 rfl rfl (fun _ => rfl) (by decide) (by decide) ?_
  generalize e32 : zs_nw S26 (.inr (0, (9000 : Int32).toNatClampNeg)) (9000 : Int32).toNatClampNeg = S30
  generalize e31 : zs_N S26 = a29
  have h := h a29 S30 e31.symm e32.symm
  have k33 := zs_kn e31 e32
  obtain ⟨k34, h⟩ := h
  refine zp_8_179 (v := (some a29)) rfl d_8000_2674 k34 k7 ?_
  generalize e36 : zs_sR S30 8085 p0 (some a29) = S35
  have h := h S35 e36.symm
  have K37 : ∀ b, zs_K S35 b = zs_K S30 b := zs_Kt e36 (zs_KsR _ _ _ _) (fun _ => rfl)
  exact (u_X9_init_2677 hB h).weak ⟨rfl, trivial⟩
def w_X9_init_2605 (X : zs_X) (d : Nat) (p0 : Nat) (S : zs_T) (Q : zs_Q) : Prop :=
  (∀ a1 S2, a1 = zs_N S → S2 = zs_nw S (.inr (0, (16000 : Int32).toNatClampNeg)) (16000 : Int32).toNatClampNeg → zs_K S2 p0 = some (.inl 8) ∧ ab_n0 X.1 ≤ p0 ∧ ∀ S8, S8 = zs_sR S2 8071 p0 (some a1) → ∀ a11 S12, a11 = zs_N S8 → S12 = zs_nw S8 (.inr (0, (16000 : Int32).toNatClampNeg)) (16000 : Int32).toNatClampNeg → zs_K S12 p0 = some (.inl 8) ∧ ∀ S17, S17 = zs_sR S12 8072 p0 (some a11) → ∀ a20 S21, a20 = zs_N S17 → S21 = zs_nw S17 (.inr (0, (17000 : Int32).toNatClampNeg)) (17000 : Int32).toNatClampNeg → zs_K S21 p0 = some (.inl 8) ∧ ∀ S26, S26 = zs_sR S21 8074 p0 (some a20) → ∀ a29 S30, a29 = zs_N S26 → S30 = zs_nw S26 (.inr (0, (17000 : Int32).toNatClampNeg)) (17000 : Int32).toNatClampNeg → zs_K S30 p0 = some (.inl 8) ∧ ∀ S35, S35 = zs_sR S30 8075 p0 (some a29) → w_X9_init_2641 X d p0 S35 Q)
theorem u_X9_init_2605 {σ : Nat → Nat} {n0 : Nat} {bf : ab_B} {d : Nat} {p0 : Nat} {S : zs_T} {Q : zs_Q} (hB : zt_B bf) (h : w_X9_init_2605 (zx σ n0 bf) d p0 S Q) : zs_U (zx σ n0 bf) d 8000 2605 [(0, .ref p0)] [] S Q := by
  unfold w_X9_init_2605 at h
  refine zu_aload_n d_8000_2605 rfl (zs_ra _) ?_
  refine zu_sipush d_8000_2606 zh_16000 ?_
  refine zu_newa0 (k := 0) d_8000_2609 rfl rfl (fun _ => rfl) (by decide) (by decide) ?_
  generalize e4 : zs_nw S (.inr (0, (16000 : Int32).toNatClampNeg)) (16000 : Int32).toNatClampNeg = S2
  generalize e3 : zs_N S = a1
  have h := h a1 S2 e3.symm e4.symm
  have k5 := zs_kn e3 e4
  obtain ⟨k6, h⟩ := h
  obtain ⟨k7, h⟩ := h
  refine zp_8_157 (v := (some a1)) rfl d_8000_2611 k6 k7 ?_
  generalize e9 : zs_sR S2 8071 p0 (some a1) = S8
  have h := h S8 e9.symm
  have K10 : ∀ b, zs_K S8 b = zs_K S2 b := zs_Kt e9 (zs_KsR _ _ _ _) (fun _ => rfl)
  refine zu_aload_n d_8000_2614 rfl (zs_ra _) ?_
  refine zu_sipush d_8000_2615 zh_16000 ?_
  refine zu_newa0 (k := 0) d_8000_2618 rfl rfl (fun _ => rfl) (by decide) (by decide) ?_
  generalize e14 : zs_nw S8 (.inr (0, (16000 : Int32).toNatClampNeg)) (16000 : Int32).toNatClampNeg = S12
  generalize e13 : zs_N S8 = a11
  have h := h a11 S12 e13.symm e14.symm
  have k15 := zs_kn e13 e14
  obtain ⟨k16, h⟩ := h
  refine zp_8_160 (v := (some a11)) rfl d_8000_2620 k16 k7 ?_
  generalize e18 : zs_sR S12 8072 p0 (some a11) = S17
  have h := h S17 e18.symm
  have K19 : ∀ b, zs_K S17 b = zs_K S12 b := zs_Kt e18 (zs_KsR _ _ _ _) (fun _ => rfl)
  refine zu_aload_n d_8000_2623 rfl (zs_ra _) ?_
  refine zu_sipush d_8000_2624 zh_17000 ?_
  refine zu_newa0 (k := 0) d_8000_2627 rfl rfl (fun _ => rfl) (by decide) (by decide) ?_
  generalize e23 : zs_nw S17 (.inr (0, (17000 : Int32).toNatClampNeg)) (17000 : Int32).toNatClampNeg = S21
  generalize e22 : zs_N S17 = a20
  have h := h a20 S21 e22.symm e23.symm
  have k24 := zs_kn e22 e23
  obtain ⟨k25, h⟩ := h
  refine zp_8_163 (v := (some a20)) rfl d_8000_2629 k25 k7 ?_
  generalize e27 : zs_sR S21 8074 p0 (some a20) = S26
  have h := h S26 e27.symm
  have K28 : ∀ b, zs_K S26 b = zs_K S21 b := zs_Kt e27 (zs_KsR _ _ _ _) (fun _ => rfl)
  refine zu_aload_n d_8000_2632 rfl (zs_ra _) ?_
  refine zu_sipush d_8000_2633 zh_17000 ?_
  refine zu_newa0 (k := 0) d_8000_2636 rfl rfl (fun _ => rfl) (by decide) (by decide) ?_
  generalize e32 : zs_nw S26 (.inr (0, (17000 : Int32).toNatClampNeg)) (17000 : Int32).toNatClampNeg = S30
  generalize e31 : zs_N S26 = a29
  have h := h a29 S30 e31.symm e32.symm
  have k33 := zs_kn e31 e32
  obtain ⟨k34, h⟩ := h
  refine zp_8_166 (v := (some a29)) rfl d_8000_2638 k34 k7 ?_
  generalize e36 : zs_sR S30 8075 p0 (some a29) = S35
  have h := h S35 e36.symm
  have K37 : ∀ b, zs_K S35 b = zs_K S30 b := zs_Kt e36 (zs_KsR _ _ _ _) (fun _ => rfl)
  exact (u_X9_init_2641 hB h).weak ⟨rfl, trivial⟩
def w_X9_init_2569 (X : zs_X) (d : Nat) (p0 : Nat) (S : zs_T) (Q : zs_Q) : Prop :=
  (∀ a1 S2, a1 = zs_N S → S2 = zs_nw S (.inr (0, (16000 : Int32).toNatClampNeg)) (16000 : Int32).toNatClampNeg → zs_K S2 p0 = some (.inl 8) ∧ ab_n0 X.1 ≤ p0 ∧ ∀ S8, S8 = zs_sR S2 8066 p0 (some a1) → ∀ a11 S12, a11 = zs_N S8 → S12 = zs_nw S8 (.inr (0, (16000 : Int32).toNatClampNeg)) (16000 : Int32).toNatClampNeg → zs_K S12 p0 = some (.inl 8) ∧ ∀ S17, S17 = zs_sR S12 8067 p0 (some a11) → ∀ a20 S21, a20 = zs_N S17 → S21 = zs_nw S17 (.inr (2, (16000 : Int32).toNatClampNeg)) (16000 : Int32).toNatClampNeg → zs_K S21 p0 = some (.inl 8) ∧ ∀ S26, S26 = zs_sR S21 8068 p0 (some a20) → ∀ a29 S30, a29 = zs_N S26 → S30 = zs_nw S26 (.inr (0, (16000 : Int32).toNatClampNeg)) (16000 : Int32).toNatClampNeg → zs_K S30 p0 = some (.inl 8) ∧ ∀ S35, S35 = zs_sR S30 8070 p0 (some a29) → w_X9_init_2605 X d p0 S35 Q)
theorem u_X9_init_2569 {σ : Nat → Nat} {n0 : Nat} {bf : ab_B} {d : Nat} {p0 : Nat} {S : zs_T} {Q : zs_Q} (hB : zt_B bf) (h : w_X9_init_2569 (zx σ n0 bf) d p0 S Q) : zs_U (zx σ n0 bf) d 8000 2569 [(0, .ref p0)] [] S Q := by
  unfold w_X9_init_2569 at h
  refine zu_aload_n d_8000_2569 rfl (zs_ra _) ?_
  refine zu_sipush d_8000_2570 zh_16000 ?_
  refine zu_newa0 (k := 0) d_8000_2573 rfl rfl (fun _ => rfl) (by decide) (by decide) ?_
  generalize e4 : zs_nw S (.inr (0, (16000 : Int32).toNatClampNeg)) (16000 : Int32).toNatClampNeg = S2
  generalize e3 : zs_N S = a1
  have h := h a1 S2 e3.symm e4.symm
  have k5 := zs_kn e3 e4
  obtain ⟨k6, h⟩ := h
  obtain ⟨k7, h⟩ := h
  refine zp_8_145 (v := (some a1)) rfl d_8000_2575 k6 k7 ?_
  generalize e9 : zs_sR S2 8066 p0 (some a1) = S8
  have h := h S8 e9.symm
  have K10 : ∀ b, zs_K S8 b = zs_K S2 b := zs_Kt e9 (zs_KsR _ _ _ _) (fun _ => rfl)
  refine zu_aload_n d_8000_2578 rfl (zs_ra _) ?_
  refine zu_sipush d_8000_2579 zh_16000 ?_
  refine zu_newa0 (k := 0) d_8000_2582 rfl rfl (fun _ => rfl) (by decide) (by decide) ?_
  generalize e14 : zs_nw S8 (.inr (0, (16000 : Int32).toNatClampNeg)) (16000 : Int32).toNatClampNeg = S12
  generalize e13 : zs_N S8 = a11
  have h := h a11 S12 e13.symm e14.symm
  have k15 := zs_kn e13 e14
  obtain ⟨k16, h⟩ := h
  refine zp_8_148 (v := (some a11)) rfl d_8000_2584 k16 k7 ?_
  generalize e18 : zs_sR S12 8067 p0 (some a11) = S17
  have h := h S17 e18.symm
  have K19 : ∀ b, zs_K S17 b = zs_K S12 b := zs_Kt e18 (zs_KsR _ _ _ _) (fun _ => rfl)
  refine zu_aload_n d_8000_2587 rfl (zs_ra _) ?_
  refine zu_sipush d_8000_2588 zh_16000 ?_
  refine zu_newa0 (k := 2) d_8000_2591 rfl rfl (fun _ => rfl) (by decide) (by decide) ?_
  generalize e23 : zs_nw S17 (.inr (2, (16000 : Int32).toNatClampNeg)) (16000 : Int32).toNatClampNeg = S21
  generalize e22 : zs_N S17 = a20
  have h := h a20 S21 e22.symm e23.symm
  have k24 := zs_kn e22 e23
  obtain ⟨k25, h⟩ := h
  refine zp_8_151 (v := (some a20)) rfl d_8000_2593 k25 k7 ?_
  generalize e27 : zs_sR S21 8068 p0 (some a20) = S26
  have h := h S26 e27.symm
  have K28 : ∀ b, zs_K S26 b = zs_K S21 b := zs_Kt e27 (zs_KsR _ _ _ _) (fun _ => rfl)
  refine zu_aload_n d_8000_2596 rfl (zs_ra _) ?_
  refine zu_sipush d_8000_2597 zh_16000 ?_
  refine zu_newa0 (k := 0) d_8000_2600 rfl rfl (fun _ => rfl) (by decide) (by decide) ?_
  generalize e32 : zs_nw S26 (.inr (0, (16000 : Int32).toNatClampNeg)) (16000 : Int32).toNatClampNeg = S30
  generalize e31 : zs_N S26 = a29
  have h := h a29 S30 e31.symm e32.symm
  have k33 := zs_kn e31 e32
  obtain ⟨k34, h⟩ := h
  refine zp_8_154 (v := (some a29)) rfl d_8000_2602 k34 k7 ?_
  generalize e36 : zs_sR S30 8070 p0 (some a29) = S35
  have h := h S35 e36.symm
  have K37 : ∀ b, zs_K S35 b = zs_K S30 b := zs_Kt e36 (zs_KsR _ _ _ _) (fun _ => rfl)
  exact (u_X9_init_2605 hB h).weak ⟨rfl, trivial⟩
def w_X9_init_2533 (X : zs_X) (d : Nat) (p0 : Nat) (S : zs_T) (Q : zs_Q) : Prop :=
  (∀ a1 S2, a1 = zs_N S → S2 = zs_nw S (.inr (0, (32000 : Int32).toNatClampNeg)) (32000 : Int32).toNatClampNeg → zs_K S2 p0 = some (.inl 8) ∧ ab_n0 X.1 ≤ p0 ∧ ∀ S8, S8 = zs_sR S2 8061 p0 (some a1) → ∀ a11 S12, a11 = zs_N S8 → S12 = zs_nw S8 (.inr (0, (32000 : Int32).toNatClampNeg)) (32000 : Int32).toNatClampNeg → zs_K S12 p0 = some (.inl 8) ∧ ∀ S17, S17 = zs_sR S12 8062 p0 (some a11) → ∀ a20 S21, a20 = zs_N S17 → S21 = zs_nw S17 (.inr (0, (16000 : Int32).toNatClampNeg)) (16000 : Int32).toNatClampNeg → zs_K S21 p0 = some (.inl 8) ∧ ∀ S26, S26 = zs_sR S21 8064 p0 (some a20) → ∀ a29 S30, a29 = zs_N S26 → S30 = zs_nw S26 (.inr (0, (16000 : Int32).toNatClampNeg)) (16000 : Int32).toNatClampNeg → zs_K S30 p0 = some (.inl 8) ∧ ∀ S35, S35 = zs_sR S30 8065 p0 (some a29) → w_X9_init_2569 X d p0 S35 Q)
theorem u_X9_init_2533 {σ : Nat → Nat} {n0 : Nat} {bf : ab_B} {d : Nat} {p0 : Nat} {S : zs_T} {Q : zs_Q} (hB : zt_B bf) (h : w_X9_init_2533 (zx σ n0 bf) d p0 S Q) : zs_U (zx σ n0 bf) d 8000 2533 [(0, .ref p0)] [] S Q := by
  unfold w_X9_init_2533 at h
  refine zu_aload_n d_8000_2533 rfl (zs_ra _) ?_
  refine zu_sipush d_8000_2534 zh_32000 ?_
  refine zu_newa0 (k := 0) d_8000_2537 rfl rfl (fun _ => rfl) (by decide) (by decide) ?_
  generalize e4 : zs_nw S (.inr (0, (32000 : Int32).toNatClampNeg)) (32000 : Int32).toNatClampNeg = S2
  generalize e3 : zs_N S = a1
  have h := h a1 S2 e3.symm e4.symm
  have k5 := zs_kn e3 e4
  obtain ⟨k6, h⟩ := h
  obtain ⟨k7, h⟩ := h
  refine zp_8_133 (v := (some a1)) rfl d_8000_2539 k6 k7 ?_
  generalize e9 : zs_sR S2 8061 p0 (some a1) = S8
  have h := h S8 e9.symm
  have K10 : ∀ b, zs_K S8 b = zs_K S2 b := zs_Kt e9 (zs_KsR _ _ _ _) (fun _ => rfl)
  refine zu_aload_n d_8000_2542 rfl (zs_ra _) ?_
  refine zu_sipush d_8000_2543 zh_32000 ?_
  refine zu_newa0 (k := 0) d_8000_2546 rfl rfl (fun _ => rfl) (by decide) (by decide) ?_
  generalize e14 : zs_nw S8 (.inr (0, (32000 : Int32).toNatClampNeg)) (32000 : Int32).toNatClampNeg = S12
  generalize e13 : zs_N S8 = a11
  have h := h a11 S12 e13.symm e14.symm
  have k15 := zs_kn e13 e14
  obtain ⟨k16, h⟩ := h
  refine zp_8_136 (v := (some a11)) rfl d_8000_2548 k16 k7 ?_
  generalize e18 : zs_sR S12 8062 p0 (some a11) = S17
  have h := h S17 e18.symm
  have K19 : ∀ b, zs_K S17 b = zs_K S12 b := zs_Kt e18 (zs_KsR _ _ _ _) (fun _ => rfl)
  refine zu_aload_n d_8000_2551 rfl (zs_ra _) ?_
  refine zu_sipush d_8000_2552 zh_16000 ?_
  refine zu_newa0 (k := 0) d_8000_2555 rfl rfl (fun _ => rfl) (by decide) (by decide) ?_
  generalize e23 : zs_nw S17 (.inr (0, (16000 : Int32).toNatClampNeg)) (16000 : Int32).toNatClampNeg = S21
  generalize e22 : zs_N S17 = a20
  have h := h a20 S21 e22.symm e23.symm
  have k24 := zs_kn e22 e23
  obtain ⟨k25, h⟩ := h
  refine zp_8_139 (v := (some a20)) rfl d_8000_2557 k25 k7 ?_
  generalize e27 : zs_sR S21 8064 p0 (some a20) = S26
  have h := h S26 e27.symm
  have K28 : ∀ b, zs_K S26 b = zs_K S21 b := zs_Kt e27 (zs_KsR _ _ _ _) (fun _ => rfl)
  refine zu_aload_n d_8000_2560 rfl (zs_ra _) ?_
  refine zu_sipush d_8000_2561 zh_16000 ?_
  refine zu_newa0 (k := 0) d_8000_2564 rfl rfl (fun _ => rfl) (by decide) (by decide) ?_
  generalize e32 : zs_nw S26 (.inr (0, (16000 : Int32).toNatClampNeg)) (16000 : Int32).toNatClampNeg = S30
  generalize e31 : zs_N S26 = a29
  have h := h a29 S30 e31.symm e32.symm
  have k33 := zs_kn e31 e32
  obtain ⟨k34, h⟩ := h
  refine zp_8_142 (v := (some a29)) rfl d_8000_2566 k34 k7 ?_
  generalize e36 : zs_sR S30 8065 p0 (some a29) = S35
  have h := h S35 e36.symm
  have K37 : ∀ b, zs_K S35 b = zs_K S30 b := zs_Kt e36 (zs_KsR _ _ _ _) (fun _ => rfl)
  exact (u_X9_init_2569 hB h).weak ⟨rfl, trivial⟩
def w_X9_init_2497 (X : zs_X) (d : Nat) (p0 : Nat) (S : zs_T) (Q : zs_Q) : Prop :=
  (∀ a1 S2, a1 = zs_N S → S2 = zs_nw S (.inr (2, (20000 : Int32).toNatClampNeg)) (20000 : Int32).toNatClampNeg → zs_K S2 p0 = some (.inl 8) ∧ ab_n0 X.1 ≤ p0 ∧ ∀ S8, S8 = zs_sR S2 8055 p0 (some a1) → ∀ a11 S12, a11 = zs_N S8 → S12 = zs_nw S8 (.inr (0, (8000 : Int32).toNatClampNeg)) (8000 : Int32).toNatClampNeg → zs_K S12 p0 = some (.inl 8) ∧ ∀ S17, S17 = zs_sR S12 8057 p0 (some a11) → ∀ a20 S21, a20 = zs_N S17 → S21 = zs_nw S17 (.inr (1, (8000 : Int32).toNatClampNeg)) (8000 : Int32).toNatClampNeg → zs_K S21 p0 = some (.inl 8) ∧ ∀ S26, S26 = zs_sR S21 8058 p0 (some a20) → ∀ a29 S30, a29 = zs_N S26 → S30 = zs_nw S26 (.inr (0, (8000 : Int32).toNatClampNeg)) (8000 : Int32).toNatClampNeg → zs_K S30 p0 = some (.inl 8) ∧ ∀ S35, S35 = zs_sR S30 8059 p0 (some a29) → w_X9_init_2533 X d p0 S35 Q)
theorem u_X9_init_2497 {σ : Nat → Nat} {n0 : Nat} {bf : ab_B} {d : Nat} {p0 : Nat} {S : zs_T} {Q : zs_Q} (hB : zt_B bf) (h : w_X9_init_2497 (zx σ n0 bf) d p0 S Q) : zs_U (zx σ n0 bf) d 8000 2497 [(0, .ref p0)] [] S Q := by
  unfold w_X9_init_2497 at h
  refine zu_aload_n d_8000_2497 rfl (zs_ra _) ?_
  refine zu_sipush d_8000_2498 zh_20000 ?_
  refine zu_newa0 (k := 2) d_8000_2501 rfl rfl (fun _ => rfl) (by decide) (by decide) ?_
  generalize e4 : zs_nw S (.inr (2, (20000 : Int32).toNatClampNeg)) (20000 : Int32).toNatClampNeg = S2
  generalize e3 : zs_N S = a1
  have h := h a1 S2 e3.symm e4.symm
  have k5 := zs_kn e3 e4
  obtain ⟨k6, h⟩ := h
  obtain ⟨k7, h⟩ := h
  refine zp_8_121 (v := (some a1)) rfl d_8000_2503 k6 k7 ?_
  generalize e9 : zs_sR S2 8055 p0 (some a1) = S8
  have h := h S8 e9.symm
  have K10 : ∀ b, zs_K S8 b = zs_K S2 b := zs_Kt e9 (zs_KsR _ _ _ _) (fun _ => rfl)
  refine zu_aload_n d_8000_2506 rfl (zs_ra _) ?_
  refine zu_sipush d_8000_2507 zh_8000 ?_
  refine zu_newa0 (k := 0) d_8000_2510 rfl rfl (fun _ => rfl) (by decide) (by decide) ?_
  generalize e14 : zs_nw S8 (.inr (0, (8000 : Int32).toNatClampNeg)) (8000 : Int32).toNatClampNeg = S12
  generalize e13 : zs_N S8 = a11
  have h := h a11 S12 e13.symm e14.symm
  have k15 := zs_kn e13 e14
  obtain ⟨k16, h⟩ := h
  refine zp_8_124 (v := (some a11)) rfl d_8000_2512 k16 k7 ?_
  generalize e18 : zs_sR S12 8057 p0 (some a11) = S17
  have h := h S17 e18.symm
  have K19 : ∀ b, zs_K S17 b = zs_K S12 b := zs_Kt e18 (zs_KsR _ _ _ _) (fun _ => rfl)
  refine zu_aload_n d_8000_2515 rfl (zs_ra _) ?_
  refine zu_sipush d_8000_2516 zh_8000 ?_
  refine zu_newa0 (k := 1) d_8000_2519 rfl rfl (fun _ => rfl) (by decide) (by decide) ?_
  generalize e23 : zs_nw S17 (.inr (1, (8000 : Int32).toNatClampNeg)) (8000 : Int32).toNatClampNeg = S21
  generalize e22 : zs_N S17 = a20
  have h := h a20 S21 e22.symm e23.symm
  have k24 := zs_kn e22 e23
  obtain ⟨k25, h⟩ := h
  refine zp_8_127 (v := (some a20)) rfl d_8000_2521 k25 k7 ?_
  generalize e27 : zs_sR S21 8058 p0 (some a20) = S26
  have h := h S26 e27.symm
  have K28 : ∀ b, zs_K S26 b = zs_K S21 b := zs_Kt e27 (zs_KsR _ _ _ _) (fun _ => rfl)
  refine zu_aload_n d_8000_2524 rfl (zs_ra _) ?_
  refine zu_sipush d_8000_2525 zh_8000 ?_
  refine zu_newa0 (k := 0) d_8000_2528 rfl rfl (fun _ => rfl) (by decide) (by decide) ?_
  generalize e32 : zs_nw S26 (.inr (0, (8000 : Int32).toNatClampNeg)) (8000 : Int32).toNatClampNeg = S30
  generalize e31 : zs_N S26 = a29
  have h := h a29 S30 e31.symm e32.symm
  have k33 := zs_kn e31 e32
  obtain ⟨k34, h⟩ := h
  refine zp_8_130 (v := (some a29)) rfl d_8000_2530 k34 k7 ?_
  generalize e36 : zs_sR S30 8059 p0 (some a29) = S35
  have h := h S35 e36.symm
  have K37 : ∀ b, zs_K S35 b = zs_K S30 b := zs_Kt e36 (zs_KsR _ _ _ _) (fun _ => rfl)
  exact (u_X9_init_2533 hB h).weak ⟨rfl, trivial⟩
def w_X9_init_2461 (X : zs_X) (d : Nat) (p0 : Nat) (S : zs_T) (Q : zs_Q) : Prop :=
  (∀ a1 S2, a1 = zs_N S → S2 = zs_nw S (.inr (1, (20000 : Int32).toNatClampNeg)) (20000 : Int32).toNatClampNeg → zs_K S2 p0 = some (.inl 8) ∧ ab_n0 X.1 ≤ p0 ∧ ∀ S8, S8 = zs_sR S2 8050 p0 (some a1) → ∀ a11 S12, a11 = zs_N S8 → S12 = zs_nw S8 (.inr (0, (20000 : Int32).toNatClampNeg)) (20000 : Int32).toNatClampNeg → zs_K S12 p0 = some (.inl 8) ∧ ∀ S17, S17 = zs_sR S12 8051 p0 (some a11) → ∀ a20 S21, a20 = zs_N S17 → S21 = zs_nw S17 (.inr (0, (20000 : Int32).toNatClampNeg)) (20000 : Int32).toNatClampNeg → zs_K S21 p0 = some (.inl 8) ∧ ∀ S26, S26 = zs_sR S21 8052 p0 (some a20) → ∀ a29 S30, a29 = zs_N S26 → S30 = zs_nw S26 (.inr (0, (20000 : Int32).toNatClampNeg)) (20000 : Int32).toNatClampNeg → zs_K S30 p0 = some (.inl 8) ∧ ∀ S35, S35 = zs_sR S30 8054 p0 (some a29) → w_X9_init_2497 X d p0 S35 Q)
theorem u_X9_init_2461 {σ : Nat → Nat} {n0 : Nat} {bf : ab_B} {d : Nat} {p0 : Nat} {S : zs_T} {Q : zs_Q} (hB : zt_B bf) (h : w_X9_init_2461 (zx σ n0 bf) d p0 S Q) : zs_U (zx σ n0 bf) d 8000 2461 [(0, .ref p0)] [] S Q := by
  unfold w_X9_init_2461 at h
  refine zu_aload_n d_8000_2461 rfl (zs_ra _) ?_
  refine zu_sipush d_8000_2462 zh_20000 ?_
  refine zu_newa0 (k := 1) d_8000_2465 rfl rfl (fun _ => rfl) (by decide) (by decide) ?_
  generalize e4 : zs_nw S (.inr (1, (20000 : Int32).toNatClampNeg)) (20000 : Int32).toNatClampNeg = S2
  generalize e3 : zs_N S = a1
  have h := h a1 S2 e3.symm e4.symm
  have k5 := zs_kn e3 e4
  obtain ⟨k6, h⟩ := h
  obtain ⟨k7, h⟩ := h
  refine zp_8_109 (v := (some a1)) rfl d_8000_2467 k6 k7 ?_
  generalize e9 : zs_sR S2 8050 p0 (some a1) = S8
  have h := h S8 e9.symm
  have K10 : ∀ b, zs_K S8 b = zs_K S2 b := zs_Kt e9 (zs_KsR _ _ _ _) (fun _ => rfl)
  refine zu_aload_n d_8000_2470 rfl (zs_ra _) ?_
  refine zu_sipush d_8000_2471 zh_20000 ?_
  refine zu_newa0 (k := 0) d_8000_2474 rfl rfl (fun _ => rfl) (by decide) (by decide) ?_
  generalize e14 : zs_nw S8 (.inr (0, (20000 : Int32).toNatClampNeg)) (20000 : Int32).toNatClampNeg = S12
  generalize e13 : zs_N S8 = a11
  have h := h a11 S12 e13.symm e14.symm
  have k15 := zs_kn e13 e14
  obtain ⟨k16, h⟩ := h
  refine zp_8_112 (v := (some a11)) rfl d_8000_2476 k16 k7 ?_
  generalize e18 : zs_sR S12 8051 p0 (some a11) = S17
  have h := h S17 e18.symm
  have K19 : ∀ b, zs_K S17 b = zs_K S12 b := zs_Kt e18 (zs_KsR _ _ _ _) (fun _ => rfl)
  refine zu_aload_n d_8000_2479 rfl (zs_ra _) ?_
  refine zu_sipush d_8000_2480 zh_20000 ?_
  refine zu_newa0 (k := 0) d_8000_2483 rfl rfl (fun _ => rfl) (by decide) (by decide) ?_
  generalize e23 : zs_nw S17 (.inr (0, (20000 : Int32).toNatClampNeg)) (20000 : Int32).toNatClampNeg = S21
  generalize e22 : zs_N S17 = a20
  have h := h a20 S21 e22.symm e23.symm
  have k24 := zs_kn e22 e23
  obtain ⟨k25, h⟩ := h
  refine zp_8_115 (v := (some a20)) rfl d_8000_2485 k25 k7 ?_
  generalize e27 : zs_sR S21 8052 p0 (some a20) = S26
  have h := h S26 e27.symm
  have K28 : ∀ b, zs_K S26 b = zs_K S21 b := zs_Kt e27 (zs_KsR _ _ _ _) (fun _ => rfl)
  refine zu_aload_n d_8000_2488 rfl (zs_ra _) ?_
  refine zu_sipush d_8000_2489 zh_20000 ?_
  refine zu_newa0 (k := 0) d_8000_2492 rfl rfl (fun _ => rfl) (by decide) (by decide) ?_
  generalize e32 : zs_nw S26 (.inr (0, (20000 : Int32).toNatClampNeg)) (20000 : Int32).toNatClampNeg = S30
  generalize e31 : zs_N S26 = a29
  have h := h a29 S30 e31.symm e32.symm
  have k33 := zs_kn e31 e32
  obtain ⟨k34, h⟩ := h
  refine zp_8_118 (v := (some a29)) rfl d_8000_2494 k34 k7 ?_
  generalize e36 : zs_sR S30 8054 p0 (some a29) = S35
  have h := h S35 e36.symm
  have K37 : ∀ b, zs_K S35 b = zs_K S30 b := zs_Kt e36 (zs_KsR _ _ _ _) (fun _ => rfl)
  exact (u_X9_init_2497 hB h).weak ⟨rfl, trivial⟩
def w_X9_init_2425 (X : zs_X) (d : Nat) (p0 : Nat) (S : zs_T) (Q : zs_Q) : Prop :=
  (∀ a1 S2, a1 = zs_N S → S2 = zs_nw S (.inr (0, (20000 : Int32).toNatClampNeg)) (20000 : Int32).toNatClampNeg → zs_K S2 p0 = some (.inl 8) ∧ ab_n0 X.1 ≤ p0 ∧ ∀ S8, S8 = zs_sR S2 8046 p0 (some a1) → ∀ a11 S12, a11 = zs_N S8 → S12 = zs_nw S8 (.inr (0, (20000 : Int32).toNatClampNeg)) (20000 : Int32).toNatClampNeg → zs_K S12 p0 = some (.inl 8) ∧ ∀ S17, S17 = zs_sR S12 8047 p0 (some a11) → ∀ a20 S21, a20 = zs_N S17 → S21 = zs_nw S17 (.inr (0, (20000 : Int32).toNatClampNeg)) (20000 : Int32).toNatClampNeg → zs_K S21 p0 = some (.inl 8) ∧ ∀ S26, S26 = zs_sR S21 8048 p0 (some a20) → ∀ a29 S30, a29 = zs_N S26 → S30 = zs_nw S26 (.inr (2, (20000 : Int32).toNatClampNeg)) (20000 : Int32).toNatClampNeg → zs_K S30 p0 = some (.inl 8) ∧ ∀ S35, S35 = zs_sR S30 8049 p0 (some a29) → w_X9_init_2461 X d p0 S35 Q)
theorem u_X9_init_2425 {σ : Nat → Nat} {n0 : Nat} {bf : ab_B} {d : Nat} {p0 : Nat} {S : zs_T} {Q : zs_Q} (hB : zt_B bf) (h : w_X9_init_2425 (zx σ n0 bf) d p0 S Q) : zs_U (zx σ n0 bf) d 8000 2425 [(0, .ref p0)] [] S Q := by
  unfold w_X9_init_2425 at h
  refine zu_aload_n d_8000_2425 rfl (zs_ra _) ?_
  refine zu_sipush d_8000_2426 zh_20000 ?_
  refine zu_newa0 (k := 0) d_8000_2429 rfl rfl (fun _ => rfl) (by decide) (by decide) ?_
  generalize e4 : zs_nw S (.inr (0, (20000 : Int32).toNatClampNeg)) (20000 : Int32).toNatClampNeg = S2
  generalize e3 : zs_N S = a1
  have h := h a1 S2 e3.symm e4.symm
  have k5 := zs_kn e3 e4
  obtain ⟨k6, h⟩ := h
  obtain ⟨k7, h⟩ := h
  refine zp_8_96 (v := (some a1)) rfl d_8000_2431 k6 k7 ?_
  generalize e9 : zs_sR S2 8046 p0 (some a1) = S8
  have h := h S8 e9.symm
  have K10 : ∀ b, zs_K S8 b = zs_K S2 b := zs_Kt e9 (zs_KsR _ _ _ _) (fun _ => rfl)
  refine zu_aload_n d_8000_2434 rfl (zs_ra _) ?_
  refine zu_sipush d_8000_2435 zh_20000 ?_
  refine zu_newa0 (k := 0) d_8000_2438 rfl rfl (fun _ => rfl) (by decide) (by decide) ?_
  generalize e14 : zs_nw S8 (.inr (0, (20000 : Int32).toNatClampNeg)) (20000 : Int32).toNatClampNeg = S12
  generalize e13 : zs_N S8 = a11
  have h := h a11 S12 e13.symm e14.symm
  have k15 := zs_kn e13 e14
  obtain ⟨k16, h⟩ := h
  refine zp_8_99 (v := (some a11)) rfl d_8000_2440 k16 k7 ?_
  generalize e18 : zs_sR S12 8047 p0 (some a11) = S17
  have h := h S17 e18.symm
  have K19 : ∀ b, zs_K S17 b = zs_K S12 b := zs_Kt e18 (zs_KsR _ _ _ _) (fun _ => rfl)
  refine zu_aload_n d_8000_2443 rfl (zs_ra _) ?_
  refine zu_sipush d_8000_2444 zh_20000 ?_
  refine zu_newa0 (k := 0) d_8000_2447 rfl rfl (fun _ => rfl) (by decide) (by decide) ?_
  generalize e23 : zs_nw S17 (.inr (0, (20000 : Int32).toNatClampNeg)) (20000 : Int32).toNatClampNeg = S21
  generalize e22 : zs_N S17 = a20
  have h := h a20 S21 e22.symm e23.symm
  have k24 := zs_kn e22 e23
  obtain ⟨k25, h⟩ := h
  refine zp_8_102 (v := (some a20)) rfl d_8000_2449 k25 k7 ?_
  generalize e27 : zs_sR S21 8048 p0 (some a20) = S26
  have h := h S26 e27.symm
  have K28 : ∀ b, zs_K S26 b = zs_K S21 b := zs_Kt e27 (zs_KsR _ _ _ _) (fun _ => rfl)
  refine zu_aload_n d_8000_2452 rfl (zs_ra _) ?_
  refine zu_sipush d_8000_2453 zh_20000 ?_
  refine zu_newa0 (k := 2) d_8000_2456 rfl rfl (fun _ => rfl) (by decide) (by decide) ?_
  generalize e32 : zs_nw S26 (.inr (2, (20000 : Int32).toNatClampNeg)) (20000 : Int32).toNatClampNeg = S30
  generalize e31 : zs_N S26 = a29
  have h := h a29 S30 e31.symm e32.symm
  have k33 := zs_kn e31 e32
  obtain ⟨k34, h⟩ := h
  refine zp_8_105 (v := (some a29)) rfl d_8000_2458 k34 k7 ?_
  generalize e36 : zs_sR S30 8049 p0 (some a29) = S35
  have h := h S35 e36.symm
  have K37 : ∀ b, zs_K S35 b = zs_K S30 b := zs_Kt e36 (zs_KsR _ _ _ _) (fun _ => rfl)
  exact (u_X9_init_2461 hB h).weak ⟨rfl, trivial⟩
def w_X9_init_2391 (X : zs_X) (d : Nat) (p0 : Nat) (S : zs_T) (Q : zs_Q) : Prop :=
  (∀ a1 S2, a1 = zs_N S → S2 = zs_nw S (.inr (0, (40000 : Int32).toNatClampNeg)) (40000 : Int32).toNatClampNeg → zs_K S2 p0 = some (.inl 8) ∧ ab_n0 X.1 ≤ p0 ∧ ∀ S8, S8 = zs_sR S2 8041 p0 (some a1) → ∀ a11 S12, a11 = zs_N S8 → S12 = zs_nw S8 (.inr (0, (40000 : Int32).toNatClampNeg)) (40000 : Int32).toNatClampNeg → zs_K S12 p0 = some (.inl 8) ∧ ∀ S17, S17 = zs_sR S12 8042 p0 (some a11) → ∀ a20 S21, a20 = zs_N S17 → S21 = zs_nw S17 (.inr (1, (20000 : Int32).toNatClampNeg)) (20000 : Int32).toNatClampNeg → zs_K S21 p0 = some (.inl 8) ∧ ∀ S26, S26 = zs_sR S21 8044 p0 (some a20) → ∀ a29 S30, a29 = zs_N S26 → S30 = zs_nw S26 (.inr (0, (20000 : Int32).toNatClampNeg)) (20000 : Int32).toNatClampNeg → zs_K S30 p0 = some (.inl 8) ∧ ∀ S35, S35 = zs_sR S30 8045 p0 (some a29) → w_X9_init_2425 X d p0 S35 Q)
theorem u_X9_init_2391 {σ : Nat → Nat} {n0 : Nat} {bf : ab_B} {d : Nat} {p0 : Nat} {S : zs_T} {Q : zs_Q} (hB : zt_B bf) (h : w_X9_init_2391 (zx σ n0 bf) d p0 S Q) : zs_U (zx σ n0 bf) d 8000 2391 [(0, .ref p0)] [] S Q := by
  unfold w_X9_init_2391 at h
  refine zu_aload_n d_8000_2391 rfl (zs_ra _) ?_
  refine zl_8_20 rfl d_8000_2392 ?_
  refine zu_newa0 (k := 0) d_8000_2394 rfl rfl (fun _ => rfl) (by decide) (by decide) ?_
  generalize e4 : zs_nw S (.inr (0, (40000 : Int32).toNatClampNeg)) (40000 : Int32).toNatClampNeg = S2
  generalize e3 : zs_N S = a1
  have h := h a1 S2 e3.symm e4.symm
  have k5 := zs_kn e3 e4
  obtain ⟨k6, h⟩ := h
  obtain ⟨k7, h⟩ := h
  refine zp_8_84 (v := (some a1)) rfl d_8000_2396 k6 k7 ?_
  generalize e9 : zs_sR S2 8041 p0 (some a1) = S8
  have h := h S8 e9.symm
  have K10 : ∀ b, zs_K S8 b = zs_K S2 b := zs_Kt e9 (zs_KsR _ _ _ _) (fun _ => rfl)
  refine zu_aload_n d_8000_2399 rfl (zs_ra _) ?_
  refine zl_8_20 rfl d_8000_2400 ?_
  refine zu_newa0 (k := 0) d_8000_2402 rfl rfl (fun _ => rfl) (by decide) (by decide) ?_
  generalize e14 : zs_nw S8 (.inr (0, (40000 : Int32).toNatClampNeg)) (40000 : Int32).toNatClampNeg = S12
  generalize e13 : zs_N S8 = a11
  have h := h a11 S12 e13.symm e14.symm
  have k15 := zs_kn e13 e14
  obtain ⟨k16, h⟩ := h
  refine zp_8_87 (v := (some a11)) rfl d_8000_2404 k16 k7 ?_
  generalize e18 : zs_sR S12 8042 p0 (some a11) = S17
  have h := h S17 e18.symm
  have K19 : ∀ b, zs_K S17 b = zs_K S12 b := zs_Kt e18 (zs_KsR _ _ _ _) (fun _ => rfl)
  refine zu_aload_n d_8000_2407 rfl (zs_ra _) ?_
  refine zu_sipush d_8000_2408 zh_20000 ?_
  refine zu_newa0 (k := 1) d_8000_2411 rfl rfl (fun _ => rfl) (by decide) (by decide) ?_
  generalize e23 : zs_nw S17 (.inr (1, (20000 : Int32).toNatClampNeg)) (20000 : Int32).toNatClampNeg = S21
  generalize e22 : zs_N S17 = a20
  have h := h a20 S21 e22.symm e23.symm
  have k24 := zs_kn e22 e23
  obtain ⟨k25, h⟩ := h
  refine zp_8_90 (v := (some a20)) rfl d_8000_2413 k25 k7 ?_
  generalize e27 : zs_sR S21 8044 p0 (some a20) = S26
  have h := h S26 e27.symm
  have K28 : ∀ b, zs_K S26 b = zs_K S21 b := zs_Kt e27 (zs_KsR _ _ _ _) (fun _ => rfl)
  refine zu_aload_n d_8000_2416 rfl (zs_ra _) ?_
  refine zu_sipush d_8000_2417 zh_20000 ?_
  refine zu_newa0 (k := 0) d_8000_2420 rfl rfl (fun _ => rfl) (by decide) (by decide) ?_
  generalize e32 : zs_nw S26 (.inr (0, (20000 : Int32).toNatClampNeg)) (20000 : Int32).toNatClampNeg = S30
  generalize e31 : zs_N S26 = a29
  have h := h a29 S30 e31.symm e32.symm
  have k33 := zs_kn e31 e32
  obtain ⟨k34, h⟩ := h
  refine zp_8_93 (v := (some a29)) rfl d_8000_2422 k34 k7 ?_
  generalize e36 : zs_sR S30 8045 p0 (some a29) = S35
  have h := h S35 e36.symm
  have K37 : ∀ b, zs_K S35 b = zs_K S30 b := zs_Kt e36 (zs_KsR _ _ _ _) (fun _ => rfl)
  exact (u_X9_init_2425 hB h).weak ⟨rfl, trivial⟩
def w_X9_init_2359 (X : zs_X) (d : Nat) (p0 : Nat) (S : zs_T) (Q : zs_Q) : Prop :=
  (∀ a1 S2, a1 = zs_N S → S2 = zs_nw S (.inr (0, (150000 : Int32).toNatClampNeg)) (150000 : Int32).toNatClampNeg → zs_K S2 p0 = some (.inl 8) ∧ ab_n0 X.1 ≤ p0 ∧ ∀ S8, S8 = zs_sR S2 8036 p0 (some a1) → ∀ a11 S12, a11 = zs_N S8 → S12 = zs_nw S8 (.inr (0, (150000 : Int32).toNatClampNeg)) (150000 : Int32).toNatClampNeg → zs_K S12 p0 = some (.inl 8) ∧ ∀ S17, S17 = zs_sR S12 8037 p0 (some a11) → ∀ a20 S21, a20 = zs_N S17 → S21 = zs_nw S17 (.inr (0, (150000 : Int32).toNatClampNeg)) (150000 : Int32).toNatClampNeg → zs_K S21 p0 = some (.inl 8) ∧ ∀ S26, S26 = zs_sR S21 8038 p0 (some a20) → ∀ a29 S30, a29 = zs_N S26 → S30 = zs_nw S26 (.inr (0, (150000 : Int32).toNatClampNeg)) (150000 : Int32).toNatClampNeg → zs_K S30 p0 = some (.inl 8) ∧ ∀ S35, S35 = zs_sR S30 8039 p0 (some a29) → w_X9_init_2391 X d p0 S35 Q)
theorem u_X9_init_2359 {σ : Nat → Nat} {n0 : Nat} {bf : ab_B} {d : Nat} {p0 : Nat} {S : zs_T} {Q : zs_Q} (hB : zt_B bf) (h : w_X9_init_2359 (zx σ n0 bf) d p0 S Q) : zs_U (zx σ n0 bf) d 8000 2359 [(0, .ref p0)] [] S Q := by
  unfold w_X9_init_2359 at h
  refine zu_aload_n d_8000_2359 rfl (zs_ra _) ?_
  refine zl_8_71 rfl d_8000_2360 ?_
  refine zu_newa0 (k := 0) d_8000_2362 rfl rfl (fun _ => rfl) (by decide) (by decide) ?_
  generalize e4 : zs_nw S (.inr (0, (150000 : Int32).toNatClampNeg)) (150000 : Int32).toNatClampNeg = S2
  generalize e3 : zs_N S = a1
  have h := h a1 S2 e3.symm e4.symm
  have k5 := zs_kn e3 e4
  obtain ⟨k6, h⟩ := h
  obtain ⟨k7, h⟩ := h
  refine zp_8_72 (v := (some a1)) rfl d_8000_2364 k6 k7 ?_
  generalize e9 : zs_sR S2 8036 p0 (some a1) = S8
  have h := h S8 e9.symm
  have K10 : ∀ b, zs_K S8 b = zs_K S2 b := zs_Kt e9 (zs_KsR _ _ _ _) (fun _ => rfl)
  refine zu_aload_n d_8000_2367 rfl (zs_ra _) ?_
  refine zl_8_71 rfl d_8000_2368 ?_
  refine zu_newa0 (k := 0) d_8000_2370 rfl rfl (fun _ => rfl) (by decide) (by decide) ?_
  generalize e14 : zs_nw S8 (.inr (0, (150000 : Int32).toNatClampNeg)) (150000 : Int32).toNatClampNeg = S12
  generalize e13 : zs_N S8 = a11
  have h := h a11 S12 e13.symm e14.symm
  have k15 := zs_kn e13 e14
  obtain ⟨k16, h⟩ := h
  refine zp_8_75 (v := (some a11)) rfl d_8000_2372 k16 k7 ?_
  generalize e18 : zs_sR S12 8037 p0 (some a11) = S17
  have h := h S17 e18.symm
  have K19 : ∀ b, zs_K S17 b = zs_K S12 b := zs_Kt e18 (zs_KsR _ _ _ _) (fun _ => rfl)
  refine zu_aload_n d_8000_2375 rfl (zs_ra _) ?_
  refine zl_8_71 rfl d_8000_2376 ?_
  refine zu_newa0 (k := 0) d_8000_2378 rfl rfl (fun _ => rfl) (by decide) (by decide) ?_
  generalize e23 : zs_nw S17 (.inr (0, (150000 : Int32).toNatClampNeg)) (150000 : Int32).toNatClampNeg = S21
  generalize e22 : zs_N S17 = a20
  have h := h a20 S21 e22.symm e23.symm
  have k24 := zs_kn e22 e23
  obtain ⟨k25, h⟩ := h
  refine zp_8_78 (v := (some a20)) rfl d_8000_2380 k25 k7 ?_
  generalize e27 : zs_sR S21 8038 p0 (some a20) = S26
  have h := h S26 e27.symm
  have K28 : ∀ b, zs_K S26 b = zs_K S21 b := zs_Kt e27 (zs_KsR _ _ _ _) (fun _ => rfl)
  refine zu_aload_n d_8000_2383 rfl (zs_ra _) ?_
  refine zl_8_71 rfl d_8000_2384 ?_
  refine zu_newa0 (k := 0) d_8000_2386 rfl rfl (fun _ => rfl) (by decide) (by decide) ?_
  generalize e32 : zs_nw S26 (.inr (0, (150000 : Int32).toNatClampNeg)) (150000 : Int32).toNatClampNeg = S30
  generalize e31 : zs_N S26 = a29
  have h := h a29 S30 e31.symm e32.symm
  have k33 := zs_kn e31 e32
  obtain ⟨k34, h⟩ := h
  refine zp_8_81 (v := (some a29)) rfl d_8000_2388 k34 k7 ?_
  generalize e36 : zs_sR S30 8039 p0 (some a29) = S35
  have h := h S35 e36.symm
  have K37 : ∀ b, zs_K S35 b = zs_K S30 b := zs_Kt e36 (zs_KsR _ _ _ _) (fun _ => rfl)
  exact (u_X9_init_2391 hB h).weak ⟨rfl, trivial⟩
def w_X9_init_2325 (X : zs_X) (d : Nat) (p0 : Nat) (S : zs_T) (Q : zs_Q) : Prop :=
  (∀ a1 S2, a1 = zs_N S → S2 = zs_nw S (.inr (0, (20000 : Int32).toNatClampNeg)) (20000 : Int32).toNatClampNeg → zs_K S2 p0 = some (.inl 8) ∧ ab_n0 X.1 ≤ p0 ∧ ∀ S8, S8 = zs_sR S2 8029 p0 (some a1) → ∀ a11 S12, a11 = zs_N S8 → S12 = zs_nw S8 (.inr (0, (20000 : Int32).toNatClampNeg)) (20000 : Int32).toNatClampNeg → zs_K S12 p0 = some (.inl 8) ∧ ∀ S17, S17 = zs_sR S12 8030 p0 (some a11) → ∀ a20 S21, a20 = zs_N S17 → S21 = zs_nw S17 (.inr (0, (100 : Int32).toNatClampNeg)) (100 : Int32).toNatClampNeg → zs_K S21 p0 = some (.inl 8) ∧ ∀ S26, S26 = zs_sR S21 8032 p0 (some a20) → ∀ a29 S30, a29 = zs_N S26 → S30 = zs_nw S26 (.inr (0, (100 : Int32).toNatClampNeg)) (100 : Int32).toNatClampNeg → zs_K S30 p0 = some (.inl 8) ∧ ∀ S35, S35 = zs_sR S30 8033 p0 (some a29) → w_X9_init_2359 X d p0 S35 Q)
theorem u_X9_init_2325 {σ : Nat → Nat} {n0 : Nat} {bf : ab_B} {d : Nat} {p0 : Nat} {S : zs_T} {Q : zs_Q} (hB : zt_B bf) (h : w_X9_init_2325 (zx σ n0 bf) d p0 S Q) : zs_U (zx σ n0 bf) d 8000 2325 [(0, .ref p0)] [] S Q := by
  unfold w_X9_init_2325 at h
  refine zu_aload_n d_8000_2325 rfl (zs_ra _) ?_
  refine zu_sipush d_8000_2326 zh_20000 ?_
  refine zu_newa0 (k := 0) d_8000_2329 rfl rfl (fun _ => rfl) (by decide) (by decide) ?_
  generalize e4 : zs_nw S (.inr (0, (20000 : Int32).toNatClampNeg)) (20000 : Int32).toNatClampNeg = S2
  generalize e3 : zs_N S = a1
  have h := h a1 S2 e3.symm e4.symm
  have k5 := zs_kn e3 e4
  obtain ⟨k6, h⟩ := h
  obtain ⟨k7, h⟩ := h
  refine zp_8_59 (v := (some a1)) rfl d_8000_2331 k6 k7 ?_
  generalize e9 : zs_sR S2 8029 p0 (some a1) = S8
  have h := h S8 e9.symm
  have K10 : ∀ b, zs_K S8 b = zs_K S2 b := zs_Kt e9 (zs_KsR _ _ _ _) (fun _ => rfl)
  refine zu_aload_n d_8000_2334 rfl (zs_ra _) ?_
  refine zu_sipush d_8000_2335 zh_20000 ?_
  refine zu_newa0 (k := 0) d_8000_2338 rfl rfl (fun _ => rfl) (by decide) (by decide) ?_
  generalize e14 : zs_nw S8 (.inr (0, (20000 : Int32).toNatClampNeg)) (20000 : Int32).toNatClampNeg = S12
  generalize e13 : zs_N S8 = a11
  have h := h a11 S12 e13.symm e14.symm
  have k15 := zs_kn e13 e14
  obtain ⟨k16, h⟩ := h
  refine zp_8_62 (v := (some a11)) rfl d_8000_2340 k16 k7 ?_
  generalize e18 : zs_sR S12 8030 p0 (some a11) = S17
  have h := h S17 e18.symm
  have K19 : ∀ b, zs_K S17 b = zs_K S12 b := zs_Kt e18 (zs_KsR _ _ _ _) (fun _ => rfl)
  refine zu_aload_n d_8000_2343 rfl (zs_ra _) ?_
  refine zu_bipush d_8000_2344 zj_100 ?_
  refine zu_newa0 (k := 0) d_8000_2346 rfl rfl (fun _ => rfl) (by decide) (by decide) ?_
  generalize e23 : zs_nw S17 (.inr (0, (100 : Int32).toNatClampNeg)) (100 : Int32).toNatClampNeg = S21
  generalize e22 : zs_N S17 = a20
  have h := h a20 S21 e22.symm e23.symm
  have k24 := zs_kn e22 e23
  obtain ⟨k25, h⟩ := h
  refine zp_8_65 (v := (some a20)) rfl d_8000_2348 k25 k7 ?_
  generalize e27 : zs_sR S21 8032 p0 (some a20) = S26
  have h := h S26 e27.symm
  have K28 : ∀ b, zs_K S26 b = zs_K S21 b := zs_Kt e27 (zs_KsR _ _ _ _) (fun _ => rfl)
  refine zu_aload_n d_8000_2351 rfl (zs_ra _) ?_
  refine zu_bipush d_8000_2352 zj_100 ?_
  refine zu_newa0 (k := 0) d_8000_2354 rfl rfl (fun _ => rfl) (by decide) (by decide) ?_
  generalize e32 : zs_nw S26 (.inr (0, (100 : Int32).toNatClampNeg)) (100 : Int32).toNatClampNeg = S30
  generalize e31 : zs_N S26 = a29
  have h := h a29 S30 e31.symm e32.symm
  have k33 := zs_kn e31 e32
  obtain ⟨k34, h⟩ := h
  refine zp_8_68 (v := (some a29)) rfl d_8000_2356 k34 k7 ?_
  generalize e36 : zs_sR S30 8033 p0 (some a29) = S35
  have h := h S35 e36.symm
  have K37 : ∀ b, zs_K S35 b = zs_K S30 b := zs_Kt e36 (zs_KsR _ _ _ _) (fun _ => rfl)
  exact (u_X9_init_2359 hB h).weak ⟨rfl, trivial⟩
def w_X9_init_2289 (X : zs_X) (d : Nat) (p0 : Nat) (S : zs_T) (Q : zs_Q) : Prop :=
  (∀ a1 S2, a1 = zs_N S → S2 = zs_nw S (.inr (0, (20000 : Int32).toNatClampNeg)) (20000 : Int32).toNatClampNeg → zs_K S2 p0 = some (.inl 8) ∧ ab_n0 X.1 ≤ p0 ∧ ∀ S8, S8 = zs_sR S2 8025 p0 (some a1) → ∀ a11 S12, a11 = zs_N S8 → S12 = zs_nw S8 (.inr (0, (20000 : Int32).toNatClampNeg)) (20000 : Int32).toNatClampNeg → zs_K S12 p0 = some (.inl 8) ∧ ∀ S17, S17 = zs_sR S12 8026 p0 (some a11) → ∀ a20 S21, a20 = zs_N S17 → S21 = zs_nw S17 (.inr (0, (20000 : Int32).toNatClampNeg)) (20000 : Int32).toNatClampNeg → zs_K S21 p0 = some (.inl 8) ∧ ∀ S26, S26 = zs_sR S21 8027 p0 (some a20) → ∀ a29 S30, a29 = zs_N S26 → S30 = zs_nw S26 (.inr (0, (20000 : Int32).toNatClampNeg)) (20000 : Int32).toNatClampNeg → zs_K S30 p0 = some (.inl 8) ∧ ∀ S35, S35 = zs_sR S30 8028 p0 (some a29) → w_X9_init_2325 X d p0 S35 Q)
theorem u_X9_init_2289 {σ : Nat → Nat} {n0 : Nat} {bf : ab_B} {d : Nat} {p0 : Nat} {S : zs_T} {Q : zs_Q} (hB : zt_B bf) (h : w_X9_init_2289 (zx σ n0 bf) d p0 S Q) : zs_U (zx σ n0 bf) d 8000 2289 [(0, .ref p0)] [] S Q := by
  unfold w_X9_init_2289 at h
  refine zu_aload_n d_8000_2289 rfl (zs_ra _) ?_
  refine zu_sipush d_8000_2290 zh_20000 ?_
  refine zu_newa0 (k := 0) d_8000_2293 rfl rfl (fun _ => rfl) (by decide) (by decide) ?_
  generalize e4 : zs_nw S (.inr (0, (20000 : Int32).toNatClampNeg)) (20000 : Int32).toNatClampNeg = S2
  generalize e3 : zs_N S = a1
  have h := h a1 S2 e3.symm e4.symm
  have k5 := zs_kn e3 e4
  obtain ⟨k6, h⟩ := h
  obtain ⟨k7, h⟩ := h
  refine zp_8_47 (v := (some a1)) rfl d_8000_2295 k6 k7 ?_
  generalize e9 : zs_sR S2 8025 p0 (some a1) = S8
  have h := h S8 e9.symm
  have K10 : ∀ b, zs_K S8 b = zs_K S2 b := zs_Kt e9 (zs_KsR _ _ _ _) (fun _ => rfl)
  refine zu_aload_n d_8000_2298 rfl (zs_ra _) ?_
  refine zu_sipush d_8000_2299 zh_20000 ?_
  refine zu_newa0 (k := 0) d_8000_2302 rfl rfl (fun _ => rfl) (by decide) (by decide) ?_
  generalize e14 : zs_nw S8 (.inr (0, (20000 : Int32).toNatClampNeg)) (20000 : Int32).toNatClampNeg = S12
  generalize e13 : zs_N S8 = a11
  have h := h a11 S12 e13.symm e14.symm
  have k15 := zs_kn e13 e14
  obtain ⟨k16, h⟩ := h
  refine zp_8_50 (v := (some a11)) rfl d_8000_2304 k16 k7 ?_
  generalize e18 : zs_sR S12 8026 p0 (some a11) = S17
  have h := h S17 e18.symm
  have K19 : ∀ b, zs_K S17 b = zs_K S12 b := zs_Kt e18 (zs_KsR _ _ _ _) (fun _ => rfl)
  refine zu_aload_n d_8000_2307 rfl (zs_ra _) ?_
  refine zu_sipush d_8000_2308 zh_20000 ?_
  refine zu_newa0 (k := 0) d_8000_2311 rfl rfl (fun _ => rfl) (by decide) (by decide) ?_
  generalize e23 : zs_nw S17 (.inr (0, (20000 : Int32).toNatClampNeg)) (20000 : Int32).toNatClampNeg = S21
  generalize e22 : zs_N S17 = a20
  have h := h a20 S21 e22.symm e23.symm
  have k24 := zs_kn e22 e23
  obtain ⟨k25, h⟩ := h
  refine zp_8_53 (v := (some a20)) rfl d_8000_2313 k25 k7 ?_
  generalize e27 : zs_sR S21 8027 p0 (some a20) = S26
  have h := h S26 e27.symm
  have K28 : ∀ b, zs_K S26 b = zs_K S21 b := zs_Kt e27 (zs_KsR _ _ _ _) (fun _ => rfl)
  refine zu_aload_n d_8000_2316 rfl (zs_ra _) ?_
  refine zu_sipush d_8000_2317 zh_20000 ?_
  refine zu_newa0 (k := 0) d_8000_2320 rfl rfl (fun _ => rfl) (by decide) (by decide) ?_
  generalize e32 : zs_nw S26 (.inr (0, (20000 : Int32).toNatClampNeg)) (20000 : Int32).toNatClampNeg = S30
  generalize e31 : zs_N S26 = a29
  have h := h a29 S30 e31.symm e32.symm
  have k33 := zs_kn e31 e32
  obtain ⟨k34, h⟩ := h
  refine zp_8_56 (v := (some a29)) rfl d_8000_2322 k34 k7 ?_
  generalize e36 : zs_sR S30 8028 p0 (some a29) = S35
  have h := h S35 e36.symm
  have K37 : ∀ b, zs_K S35 b = zs_K S30 b := zs_Kt e36 (zs_KsR _ _ _ _) (fun _ => rfl)
  exact (u_X9_init_2325 hB h).weak ⟨rfl, trivial⟩
def w_X9_init_2254 (X : zs_X) (d : Nat) (p0 : Nat) (S : zs_T) (Q : zs_Q) : Prop :=
  (∀ a1 S2, a1 = zs_N S → S2 = zs_nw S (.inr (0, (4096 : Int32).toNatClampNeg)) (4096 : Int32).toNatClampNeg → zs_K S2 p0 = some (.inl 8) ∧ ab_n0 X.1 ≤ p0 ∧ ∀ S8, S8 = zs_sR S2 8018 p0 (some a1) → ∀ a11 S12, a11 = zs_N S8 → S12 = zs_nw S8 (.inr (0, (17000 : Int32).toNatClampNeg)) (17000 : Int32).toNatClampNeg → zs_K S12 p0 = some (.inl 8) ∧ ∀ S17, S17 = zs_sR S12 8019 p0 (some a11) → ∀ a20 S21, a20 = zs_N S17 → S21 = zs_nw S17 (.inr (1, (33000 : Int32).toNatClampNeg)) (33000 : Int32).toNatClampNeg → zs_K S21 p0 = some (.inl 8) ∧ ∀ S26, S26 = zs_sR S21 8021 p0 (some a20) → ∀ a29 S30, a29 = zs_N S26 → S30 = zs_nw S26 (.inr (1, (20000 : Int32).toNatClampNeg)) (20000 : Int32).toNatClampNeg → zs_K S30 p0 = some (.inl 8) ∧ ∀ S35, S35 = zs_sR S30 8024 p0 (some a29) → w_X9_init_2289 X d p0 S35 Q)
theorem u_X9_init_2254 {σ : Nat → Nat} {n0 : Nat} {bf : ab_B} {d : Nat} {p0 : Nat} {S : zs_T} {Q : zs_Q} (hB : zt_B bf) (h : w_X9_init_2254 (zx σ n0 bf) d p0 S Q) : zs_U (zx σ n0 bf) d 8000 2254 [(0, .ref p0)] [] S Q := by
  unfold w_X9_init_2254 at h
  refine zu_aload_n d_8000_2254 rfl (zs_ra _) ?_
  refine zu_sipush d_8000_2255 zh_4096 ?_
  refine zu_newa0 (k := 0) d_8000_2258 rfl rfl (fun _ => rfl) (by decide) (by decide) ?_
  generalize e4 : zs_nw S (.inr (0, (4096 : Int32).toNatClampNeg)) (4096 : Int32).toNatClampNeg = S2
  generalize e3 : zs_N S = a1
  have h := h a1 S2 e3.symm e4.symm
  have k5 := zs_kn e3 e4
  obtain ⟨k6, h⟩ := h
  obtain ⟨k7, h⟩ := h
  refine zp_8_34 (v := (some a1)) rfl d_8000_2260 k6 k7 ?_
  generalize e9 : zs_sR S2 8018 p0 (some a1) = S8
  have h := h S8 e9.symm
  have K10 : ∀ b, zs_K S8 b = zs_K S2 b := zs_Kt e9 (zs_KsR _ _ _ _) (fun _ => rfl)
  refine zu_aload_n d_8000_2263 rfl (zs_ra _) ?_
  refine zu_sipush d_8000_2264 zh_17000 ?_
  refine zu_newa0 (k := 0) d_8000_2267 rfl rfl (fun _ => rfl) (by decide) (by decide) ?_
  generalize e14 : zs_nw S8 (.inr (0, (17000 : Int32).toNatClampNeg)) (17000 : Int32).toNatClampNeg = S12
  generalize e13 : zs_N S8 = a11
  have h := h a11 S12 e13.symm e14.symm
  have k15 := zs_kn e13 e14
  obtain ⟨k16, h⟩ := h
  refine zp_8_37 (v := (some a11)) rfl d_8000_2269 k16 k7 ?_
  generalize e18 : zs_sR S12 8019 p0 (some a11) = S17
  have h := h S17 e18.symm
  have K19 : ∀ b, zs_K S17 b = zs_K S12 b := zs_Kt e18 (zs_KsR _ _ _ _) (fun _ => rfl)
  refine zu_aload_n d_8000_2272 rfl (zs_ra _) ?_
  refine zl_8_40 rfl d_8000_2273 ?_
  refine zu_newa0 (k := 1) d_8000_2275 rfl rfl (fun _ => rfl) (by decide) (by decide) ?_
  generalize e23 : zs_nw S17 (.inr (1, (33000 : Int32).toNatClampNeg)) (33000 : Int32).toNatClampNeg = S21
  generalize e22 : zs_N S17 = a20
  have h := h a20 S21 e22.symm e23.symm
  have k24 := zs_kn e22 e23
  obtain ⟨k25, h⟩ := h
  refine zp_8_41 (v := (some a20)) rfl d_8000_2277 k25 k7 ?_
  generalize e27 : zs_sR S21 8021 p0 (some a20) = S26
  have h := h S26 e27.symm
  have K28 : ∀ b, zs_K S26 b = zs_K S21 b := zs_Kt e27 (zs_KsR _ _ _ _) (fun _ => rfl)
  refine zu_aload_n d_8000_2280 rfl (zs_ra _) ?_
  refine zu_sipush d_8000_2281 zh_20000 ?_
  refine zu_newa0 (k := 1) d_8000_2284 rfl rfl (fun _ => rfl) (by decide) (by decide) ?_
  generalize e32 : zs_nw S26 (.inr (1, (20000 : Int32).toNatClampNeg)) (20000 : Int32).toNatClampNeg = S30
  generalize e31 : zs_N S26 = a29
  have h := h a29 S30 e31.symm e32.symm
  have k33 := zs_kn e31 e32
  obtain ⟨k34, h⟩ := h
  refine zp_8_44 (v := (some a29)) rfl d_8000_2286 k34 k7 ?_
  generalize e36 : zs_sR S30 8024 p0 (some a29) = S35
  have h := h S35 e36.symm
  have K37 : ∀ b, zs_K S35 b = zs_K S30 b := zs_Kt e36 (zs_KsR _ _ _ _) (fun _ => rfl)
  exact (u_X9_init_2289 hB h).weak ⟨rfl, trivial⟩
def w_X9_init_2219 (X : zs_X) (d : Nat) (p0 : Nat) (S : zs_T) (Q : zs_Q) : Prop :=
  (∀ a1 S2, a1 = zs_N S → S2 = zs_nw S (.inr (1, (40000 : Int32).toNatClampNeg)) (40000 : Int32).toNatClampNeg → zs_K S2 p0 = some (.inl 8) ∧ ab_n0 X.1 ≤ p0 ∧ ∀ S8, S8 = zs_sR S2 8013 p0 (some a1) → ∀ a11 S12, a11 = zs_N S8 → S12 = zs_nw S8 (.inr (0, (17000 : Int32).toNatClampNeg)) (17000 : Int32).toNatClampNeg → zs_K S12 p0 = some (.inl 8) ∧ ∀ S17, S17 = zs_sR S12 8015 p0 (some a11) → ∀ a20 S21, a20 = zs_N S17 → S21 = zs_nw S17 (.inr (1, (17000 : Int32).toNatClampNeg)) (17000 : Int32).toNatClampNeg → zs_K S21 p0 = some (.inl 8) ∧ ∀ S26, S26 = zs_sR S21 8016 p0 (some a20) → ∀ a29 S30, a29 = zs_N S26 → S30 = zs_nw S26 (.inr (0, (17000 : Int32).toNatClampNeg)) (17000 : Int32).toNatClampNeg → zs_K S30 p0 = some (.inl 8) ∧ ∀ S35, S35 = zs_sR S30 8017 p0 (some a29) → w_X9_init_2254 X d p0 S35 Q)
theorem u_X9_init_2219 {σ : Nat → Nat} {n0 : Nat} {bf : ab_B} {d : Nat} {p0 : Nat} {S : zs_T} {Q : zs_Q} (hB : zt_B bf) (h : w_X9_init_2219 (zx σ n0 bf) d p0 S Q) : zs_U (zx σ n0 bf) d 8000 2219 [(0, .ref p0)] [] S Q := by
  unfold w_X9_init_2219 at h
  refine zu_aload_n d_8000_2219 rfl (zs_ra _) ?_
  refine zl_8_20 rfl d_8000_2220 ?_
  refine zu_newa0 (k := 1) d_8000_2222 rfl rfl (fun _ => rfl) (by decide) (by decide) ?_
  generalize e4 : zs_nw S (.inr (1, (40000 : Int32).toNatClampNeg)) (40000 : Int32).toNatClampNeg = S2
  generalize e3 : zs_N S = a1
  have h := h a1 S2 e3.symm e4.symm
  have k5 := zs_kn e3 e4
  obtain ⟨k6, h⟩ := h
  obtain ⟨k7, h⟩ := h
  refine zp_8_21 (v := (some a1)) rfl d_8000_2224 k6 k7 ?_
  generalize e9 : zs_sR S2 8013 p0 (some a1) = S8
  have h := h S8 e9.symm
  have K10 : ∀ b, zs_K S8 b = zs_K S2 b := zs_Kt e9 (zs_KsR _ _ _ _) (fun _ => rfl)
  refine zu_aload_n d_8000_2227 rfl (zs_ra _) ?_
  refine zu_sipush d_8000_2228 zh_17000 ?_
  refine zu_newa0 (k := 0) d_8000_2231 rfl rfl (fun _ => rfl) (by decide) (by decide) ?_
  generalize e14 : zs_nw S8 (.inr (0, (17000 : Int32).toNatClampNeg)) (17000 : Int32).toNatClampNeg = S12
  generalize e13 : zs_N S8 = a11
  have h := h a11 S12 e13.symm e14.symm
  have k15 := zs_kn e13 e14
  obtain ⟨k16, h⟩ := h
  refine zp_8_24 (v := (some a11)) rfl d_8000_2233 k16 k7 ?_
  generalize e18 : zs_sR S12 8015 p0 (some a11) = S17
  have h := h S17 e18.symm
  have K19 : ∀ b, zs_K S17 b = zs_K S12 b := zs_Kt e18 (zs_KsR _ _ _ _) (fun _ => rfl)
  refine zu_aload_n d_8000_2236 rfl (zs_ra _) ?_
  refine zu_sipush d_8000_2237 zh_17000 ?_
  refine zu_newa0 (k := 1) d_8000_2240 rfl rfl (fun _ => rfl) (by decide) (by decide) ?_
  generalize e23 : zs_nw S17 (.inr (1, (17000 : Int32).toNatClampNeg)) (17000 : Int32).toNatClampNeg = S21
  generalize e22 : zs_N S17 = a20
  have h := h a20 S21 e22.symm e23.symm
  have k24 := zs_kn e22 e23
  obtain ⟨k25, h⟩ := h
  refine zp_8_28 (v := (some a20)) rfl d_8000_2242 k25 k7 ?_
  generalize e27 : zs_sR S21 8016 p0 (some a20) = S26
  have h := h S26 e27.symm
  have K28 : ∀ b, zs_K S26 b = zs_K S21 b := zs_Kt e27 (zs_KsR _ _ _ _) (fun _ => rfl)
  refine zu_aload_n d_8000_2245 rfl (zs_ra _) ?_
  refine zu_sipush d_8000_2246 zh_17000 ?_
  refine zu_newa0 (k := 0) d_8000_2249 rfl rfl (fun _ => rfl) (by decide) (by decide) ?_
  generalize e32 : zs_nw S26 (.inr (0, (17000 : Int32).toNatClampNeg)) (17000 : Int32).toNatClampNeg = S30
  generalize e31 : zs_N S26 = a29
  have h := h a29 S30 e31.symm e32.symm
  have k33 := zs_kn e31 e32
  obtain ⟨k34, h⟩ := h
  refine zp_8_31 (v := (some a29)) rfl d_8000_2251 k34 k7 ?_
  generalize e36 : zs_sR S30 8017 p0 (some a29) = S35
  have h := h S35 e36.symm
  have K37 : ∀ b, zs_K S35 b = zs_K S30 b := zs_Kt e36 (zs_KsR _ _ _ _) (fun _ => rfl)
  exact (u_X9_init_2254 hB h).weak ⟨rfl, trivial⟩
def w_X9_init_2181 (X : zs_X) (d : Nat) (p0 : Nat) (q0 : Option Nat) (q1 : Option Nat) (S : zs_T) (Q : zs_Q) : Prop :=
  (∃ b1, q1 = some b1 ∧ zs_A S b1 1 (327 : Int32) ∧ ab_n0 X.1 ≤ b1 ∧ ∀ S5, S5 = zs_si S b1 (327 : Int32).toNatClampNeg (vp_nar .byte (104 : Int32)) → zs_A S b1 1 (328 : Int32) ∧ ∀ S9, S9 = zs_si S5 b1 (328 : Int32).toNatClampNeg (vp_nar .byte (97 : Int32)) → zs_A S b1 1 (329 : Int32) ∧ ∀ S13, S13 = zs_si S9 b1 (329 : Int32).toNatClampNeg (vp_nar .byte (108 : Int32)) → zs_A S b1 1 (330 : Int32) ∧ ∀ S17, S17 = zs_si S13 b1 (330 : Int32).toNatClampNeg (vp_nar .byte (116 : Int32)) → zs_A S b1 1 (331 : Int32) ∧ ∀ S21, S21 = zs_si S17 b1 (331 : Int32).toNatClampNeg (vp_nar .byte (32 : Int32)) → ∃ b24, q0 = some b24 ∧ zs_K S b24 = some (.inl 8) ∧ ab_n0 X.1 ≤ b24 ∧ ∀ S28, S28 = zs_sR S21 8012 b24 q1 → w_X9_init_2219 X d p0 S28 Q)
theorem u_X9_init_2181 {σ : Nat → Nat} {n0 : Nat} {bf : ab_B} {d : Nat} {p0 : Nat} {q0 : Option Nat} {q1 : Option Nat} {S : zs_T} {Q : zs_Q} (hB : zt_B bf) (h : w_X9_init_2181 (zx σ n0 bf) d p0 q0 q1 S Q) : zs_U (zx σ n0 bf) d 8000 2181 [(0, .ref p0)] [va_rf q1, va_rf q0] S Q := by
  unfold w_X9_init_2181 at h
  refine zu_dup d_8000_2181 (zs_cat _) ?_
  refine zu_sipush d_8000_2182 zh_327 ?_
  refine zu_bipush d_8000_2185 zj_104 ?_
  obtain ⟨b1, e2, h⟩ := h
  refine zs_stk2 (zs_rfe e2) ?_
  obtain ⟨k3, h⟩ := h
  obtain ⟨k4, h⟩ := h
  refine zu_bast_byte (k := 1) d_8000_2187 rfl rfl k4 k3 ?_
  generalize e6 : zs_si S b1 (327 : Int32).toNatClampNeg (vp_nar .byte (104 : Int32)) = S5
  have h := h S5 e6.symm
  have K7 : ∀ b, zs_K S5 b = zs_K S b := zs_Kt e6 (zs_Ksi _ _ _ _) (fun _ => rfl)
  refine zu_dup d_8000_2188 (zs_cat _) ?_
  refine zu_sipush d_8000_2189 zh_328 ?_
  refine zu_bipush d_8000_2192 zj_97 ?_
  refine zs_stk2 (zs_rfe e2) ?_
  obtain ⟨k8, h⟩ := h
  refine zu_bast_byte (k := 1) d_8000_2194 rfl rfl k4 (zs_Ak K7 k8) ?_
  generalize e10 : zs_si S5 b1 (328 : Int32).toNatClampNeg (vp_nar .byte (97 : Int32)) = S9
  have h := h S9 e10.symm
  have K11 : ∀ b, zs_K S9 b = zs_K S b := zs_Kt e10 (zs_Ksi _ _ _ _) K7
  refine zu_dup d_8000_2195 (zs_cat _) ?_
  refine zu_sipush d_8000_2196 zh_329 ?_
  refine zu_bipush d_8000_2199 zj_108 ?_
  refine zs_stk2 (zs_rfe e2) ?_
  obtain ⟨k12, h⟩ := h
  refine zu_bast_byte (k := 1) d_8000_2201 rfl rfl k4 (zs_Ak K11 k12) ?_
  generalize e14 : zs_si S9 b1 (329 : Int32).toNatClampNeg (vp_nar .byte (108 : Int32)) = S13
  have h := h S13 e14.symm
  have K15 : ∀ b, zs_K S13 b = zs_K S b := zs_Kt e14 (zs_Ksi _ _ _ _) K11
  refine zu_dup d_8000_2202 (zs_cat _) ?_
  refine zu_sipush d_8000_2203 zh_330 ?_
  refine zu_bipush d_8000_2206 zj_116 ?_
  refine zs_stk2 (zs_rfe e2) ?_
  obtain ⟨k16, h⟩ := h
  refine zu_bast_byte (k := 1) d_8000_2208 rfl rfl k4 (zs_Ak K15 k16) ?_
  generalize e18 : zs_si S13 b1 (330 : Int32).toNatClampNeg (vp_nar .byte (116 : Int32)) = S17
  have h := h S17 e18.symm
  have K19 : ∀ b, zs_K S17 b = zs_K S b := zs_Kt e18 (zs_Ksi _ _ _ _) K15
  refine zu_dup d_8000_2209 (zs_cat _) ?_
  refine zu_sipush d_8000_2210 zh_331 ?_
  refine zu_bipush d_8000_2213 zj_32 ?_
  refine zs_stk2 (zs_rfe e2) ?_
  obtain ⟨k20, h⟩ := h
  refine zu_bast_byte (k := 1) d_8000_2215 rfl rfl k4 (zs_Ak K19 k20) ?_
  generalize e22 : zs_si S17 b1 (331 : Int32).toNatClampNeg (vp_nar .byte (32 : Int32)) = S21
  have h := h S21 e22.symm
  have K23 : ∀ b, zs_K S21 b = zs_K S b := zs_Kt e22 (zs_Ksi _ _ _ _) K19
  obtain ⟨b24, e25, h⟩ := h
  refine zs_stk1 (zs_rfe e25) ?_
  obtain ⟨k26, h⟩ := h
  obtain ⟨k27, h⟩ := h
  refine zp_8_17 (v := q1) rfl d_8000_2216 ((K23 _).trans k26) k27 ?_
  generalize e29 : zs_sR S21 8012 b24 q1 = S28
  have h := h S28 e29.symm
  have K30 : ∀ b, zs_K S28 b = zs_K S b := zs_Kt e29 (zs_KsR _ _ _ _) K23
  exact (u_X9_init_2219 hB h).weak ⟨rfl, trivial⟩
def w_X9_init_2111 (X : zs_X) (d : Nat) (p0 : Nat) (q0 : Option Nat) (q1 : Option Nat) (S : zs_T) (Q : zs_Q) : Prop :=
  (∃ b1, q1 = some b1 ∧ zs_A S b1 1 (317 : Int32) ∧ ab_n0 X.1 ≤ b1 ∧ ∀ S5, S5 = zs_si S b1 (317 : Int32).toNatClampNeg (vp_nar .byte (101 : Int32)) → zs_A S b1 1 (318 : Int32) ∧ ∀ S9, S9 = zs_si S5 b1 (318 : Int32).toNatClampNeg (vp_nar .byte (32 : Int32)) → zs_A S b1 1 (319 : Int32) ∧ ∀ S13, S13 = zs_si S9 b1 (319 : Int32).toNatClampNeg (vp_nar .byte (119 : Int32)) → zs_A S b1 1 (320 : Int32) ∧ ∀ S17, S17 = zs_si S13 b1 (320 : Int32).toNatClampNeg (vp_nar .byte (114 : Int32)) → zs_A S b1 1 (321 : Int32) ∧ ∀ S21, S21 = zs_si S17 b1 (321 : Int32).toNatClampNeg (vp_nar .byte (105 : Int32)) → zs_A S b1 1 (322 : Int32) ∧ ∀ S25, S25 = zs_si S21 b1 (322 : Int32).toNatClampNeg (vp_nar .byte (116 : Int32)) → zs_A S b1 1 (323 : Int32) ∧ ∀ S29, S29 = zs_si S25 b1 (323 : Int32).toNatClampNeg (vp_nar .byte (101 : Int32)) → zs_A S b1 1 (324 : Int32) ∧ ∀ S33, S33 = zs_si S29 b1 (324 : Int32).toNatClampNeg (vp_nar .byte (108 : Int32)) → zs_A S b1 1 (325 : Int32) ∧ ∀ S37, S37 = zs_si S33 b1 (325 : Int32).toNatClampNeg (vp_nar .byte (110 : Int32)) → zs_A S b1 1 (326 : Int32) ∧ ∀ S41, S41 = zs_si S37 b1 (326 : Int32).toNatClampNeg (vp_nar .byte (32 : Int32)) → w_X9_init_2181 X d p0 q0 q1 S41 Q)
theorem u_X9_init_2111 {σ : Nat → Nat} {n0 : Nat} {bf : ab_B} {d : Nat} {p0 : Nat} {q0 : Option Nat} {q1 : Option Nat} {S : zs_T} {Q : zs_Q} (hB : zt_B bf) (h : w_X9_init_2111 (zx σ n0 bf) d p0 q0 q1 S Q) : zs_U (zx σ n0 bf) d 8000 2111 [(0, .ref p0)] [va_rf q1, va_rf q0] S Q := by
  unfold w_X9_init_2111 at h
  refine zu_dup d_8000_2111 (zs_cat _) ?_
  refine zu_sipush d_8000_2112 zh_317 ?_
  refine zu_bipush d_8000_2115 zj_101 ?_
  obtain ⟨b1, e2, h⟩ := h
  refine zs_stk2 (zs_rfe e2) ?_
  obtain ⟨k3, h⟩ := h
  obtain ⟨k4, h⟩ := h
  refine zu_bast_byte (k := 1) d_8000_2117 rfl rfl k4 k3 ?_
  generalize e6 : zs_si S b1 (317 : Int32).toNatClampNeg (vp_nar .byte (101 : Int32)) = S5
  have h := h S5 e6.symm
  have K7 : ∀ b, zs_K S5 b = zs_K S b := zs_Kt e6 (zs_Ksi _ _ _ _) (fun _ => rfl)
  refine zu_dup d_8000_2118 (zs_cat _) ?_
  refine zu_sipush d_8000_2119 zh_318 ?_
  refine zu_bipush d_8000_2122 zj_32 ?_
  refine zs_stk2 (zs_rfe e2) ?_
  obtain ⟨k8, h⟩ := h
  refine zu_bast_byte (k := 1) d_8000_2124 rfl rfl k4 (zs_Ak K7 k8) ?_
  generalize e10 : zs_si S5 b1 (318 : Int32).toNatClampNeg (vp_nar .byte (32 : Int32)) = S9
  have h := h S9 e10.symm
  have K11 : ∀ b, zs_K S9 b = zs_K S b := zs_Kt e10 (zs_Ksi _ _ _ _) K7
  refine zu_dup d_8000_2125 (zs_cat _) ?_
  refine zu_sipush d_8000_2126 zh_319 ?_
  refine zu_bipush d_8000_2129 zj_119 ?_
  refine zs_stk2 (zs_rfe e2) ?_
  obtain ⟨k12, h⟩ := h
  refine zu_bast_byte (k := 1) d_8000_2131 rfl rfl k4 (zs_Ak K11 k12) ?_
  generalize e14 : zs_si S9 b1 (319 : Int32).toNatClampNeg (vp_nar .byte (119 : Int32)) = S13
  have h := h S13 e14.symm
  have K15 : ∀ b, zs_K S13 b = zs_K S b := zs_Kt e14 (zs_Ksi _ _ _ _) K11
  refine zu_dup d_8000_2132 (zs_cat _) ?_
  refine zu_sipush d_8000_2133 zh_320 ?_
  refine zu_bipush d_8000_2136 zj_114 ?_
  refine zs_stk2 (zs_rfe e2) ?_
  obtain ⟨k16, h⟩ := h
  refine zu_bast_byte (k := 1) d_8000_2138 rfl rfl k4 (zs_Ak K15 k16) ?_
  generalize e18 : zs_si S13 b1 (320 : Int32).toNatClampNeg (vp_nar .byte (114 : Int32)) = S17
  have h := h S17 e18.symm
  have K19 : ∀ b, zs_K S17 b = zs_K S b := zs_Kt e18 (zs_Ksi _ _ _ _) K15
  refine zu_dup d_8000_2139 (zs_cat _) ?_
  refine zu_sipush d_8000_2140 zh_321 ?_
  refine zu_bipush d_8000_2143 zj_105 ?_
  refine zs_stk2 (zs_rfe e2) ?_
  obtain ⟨k20, h⟩ := h
  refine zu_bast_byte (k := 1) d_8000_2145 rfl rfl k4 (zs_Ak K19 k20) ?_
  generalize e22 : zs_si S17 b1 (321 : Int32).toNatClampNeg (vp_nar .byte (105 : Int32)) = S21
  have h := h S21 e22.symm
  have K23 : ∀ b, zs_K S21 b = zs_K S b := zs_Kt e22 (zs_Ksi _ _ _ _) K19
  refine zu_dup d_8000_2146 (zs_cat _) ?_
  refine zu_sipush d_8000_2147 zh_322 ?_
  refine zu_bipush d_8000_2150 zj_116 ?_
  refine zs_stk2 (zs_rfe e2) ?_
  obtain ⟨k24, h⟩ := h
  refine zu_bast_byte (k := 1) d_8000_2152 rfl rfl k4 (zs_Ak K23 k24) ?_
  generalize e26 : zs_si S21 b1 (322 : Int32).toNatClampNeg (vp_nar .byte (116 : Int32)) = S25
  have h := h S25 e26.symm
  have K27 : ∀ b, zs_K S25 b = zs_K S b := zs_Kt e26 (zs_Ksi _ _ _ _) K23
  refine zu_dup d_8000_2153 (zs_cat _) ?_
  refine zu_sipush d_8000_2154 zh_323 ?_
  refine zu_bipush d_8000_2157 zj_101 ?_
  refine zs_stk2 (zs_rfe e2) ?_
  obtain ⟨k28, h⟩ := h
  refine zu_bast_byte (k := 1) d_8000_2159 rfl rfl k4 (zs_Ak K27 k28) ?_
  generalize e30 : zs_si S25 b1 (323 : Int32).toNatClampNeg (vp_nar .byte (101 : Int32)) = S29
  have h := h S29 e30.symm
  have K31 : ∀ b, zs_K S29 b = zs_K S b := zs_Kt e30 (zs_Ksi _ _ _ _) K27
  refine zu_dup d_8000_2160 (zs_cat _) ?_
  refine zu_sipush d_8000_2161 zh_324 ?_
  refine zu_bipush d_8000_2164 zj_108 ?_
  refine zs_stk2 (zs_rfe e2) ?_
  obtain ⟨k32, h⟩ := h
  refine zu_bast_byte (k := 1) d_8000_2166 rfl rfl k4 (zs_Ak K31 k32) ?_
  generalize e34 : zs_si S29 b1 (324 : Int32).toNatClampNeg (vp_nar .byte (108 : Int32)) = S33
  have h := h S33 e34.symm
  have K35 : ∀ b, zs_K S33 b = zs_K S b := zs_Kt e34 (zs_Ksi _ _ _ _) K31
  refine zu_dup d_8000_2167 (zs_cat _) ?_
  refine zu_sipush d_8000_2168 zh_325 ?_
  refine zu_bipush d_8000_2171 zj_110 ?_
  refine zs_stk2 (zs_rfe e2) ?_
  obtain ⟨k36, h⟩ := h
  refine zu_bast_byte (k := 1) d_8000_2173 rfl rfl k4 (zs_Ak K35 k36) ?_
  generalize e38 : zs_si S33 b1 (325 : Int32).toNatClampNeg (vp_nar .byte (110 : Int32)) = S37
  have h := h S37 e38.symm
  have K39 : ∀ b, zs_K S37 b = zs_K S b := zs_Kt e38 (zs_Ksi _ _ _ _) K35
  refine zu_dup d_8000_2174 (zs_cat _) ?_
  refine zu_sipush d_8000_2175 zh_326 ?_
  refine zu_bipush d_8000_2178 zj_32 ?_
  refine zs_stk2 (zs_rfe e2) ?_
  obtain ⟨k40, h⟩ := h
  refine zu_bast_byte (k := 1) d_8000_2180 rfl rfl k4 (zs_Ak K39 k40) ?_
  generalize e42 : zs_si S37 b1 (326 : Int32).toNatClampNeg (vp_nar .byte (32 : Int32)) = S41
  have h := h S41 e42.symm
  have K43 : ∀ b, zs_K S41 b = zs_K S b := zs_Kt e42 (zs_Ksi _ _ _ _) K39
  exact (u_X9_init_2181 hB h).weak ⟨rfl, trivial⟩
def w_X9_init_2041 (X : zs_X) (d : Nat) (p0 : Nat) (q0 : Option Nat) (q1 : Option Nat) (S : zs_T) (Q : zs_Q) : Prop :=
  (∃ b1, q1 = some b1 ∧ zs_A S b1 1 (307 : Int32) ∧ ab_n0 X.1 ≤ b1 ∧ ∀ S5, S5 = zs_si S b1 (307 : Int32).toNatClampNeg (vp_nar .byte (32 : Int32)) → zs_A S b1 1 (308 : Int32) ∧ ∀ S9, S9 = zs_si S5 b1 (308 : Int32).toNatClampNeg (vp_nar .byte (114 : Int32)) → zs_A S b1 1 (309 : Int32) ∧ ∀ S13, S13 = zs_si S9 b1 (309 : Int32).toNatClampNeg (vp_nar .byte (101 : Int32)) → zs_A S b1 1 (310 : Int32) ∧ ∀ S17, S17 = zs_si S13 b1 (310 : Int32).toNatClampNeg (vp_nar .byte (97 : Int32)) → zs_A S b1 1 (311 : Int32) ∧ ∀ S21, S21 = zs_si S17 b1 (311 : Int32).toNatClampNeg (vp_nar .byte (100 : Int32)) → zs_A S b1 1 (312 : Int32) ∧ ∀ S25, S25 = zs_si S21 b1 (312 : Int32).toNatClampNeg (vp_nar .byte (32 : Int32)) → zs_A S b1 1 (313 : Int32) ∧ ∀ S29, S29 = zs_si S25 b1 (313 : Int32).toNatClampNeg (vp_nar .byte (119 : Int32)) → zs_A S b1 1 (314 : Int32) ∧ ∀ S33, S33 = zs_si S29 b1 (314 : Int32).toNatClampNeg (vp_nar .byte (114 : Int32)) → zs_A S b1 1 (315 : Int32) ∧ ∀ S37, S37 = zs_si S33 b1 (315 : Int32).toNatClampNeg (vp_nar .byte (105 : Int32)) → zs_A S b1 1 (316 : Int32) ∧ ∀ S41, S41 = zs_si S37 b1 (316 : Int32).toNatClampNeg (vp_nar .byte (116 : Int32)) → w_X9_init_2111 X d p0 q0 q1 S41 Q)
theorem u_X9_init_2041 {σ : Nat → Nat} {n0 : Nat} {bf : ab_B} {d : Nat} {p0 : Nat} {q0 : Option Nat} {q1 : Option Nat} {S : zs_T} {Q : zs_Q} (hB : zt_B bf) (h : w_X9_init_2041 (zx σ n0 bf) d p0 q0 q1 S Q) : zs_U (zx σ n0 bf) d 8000 2041 [(0, .ref p0)] [va_rf q1, va_rf q0] S Q := by
  unfold w_X9_init_2041 at h
  refine zu_dup d_8000_2041 (zs_cat _) ?_
  refine zu_sipush d_8000_2042 zh_307 ?_
  refine zu_bipush d_8000_2045 zj_32 ?_
  obtain ⟨b1, e2, h⟩ := h
  refine zs_stk2 (zs_rfe e2) ?_
  obtain ⟨k3, h⟩ := h
  obtain ⟨k4, h⟩ := h
  refine zu_bast_byte (k := 1) d_8000_2047 rfl rfl k4 k3 ?_
  generalize e6 : zs_si S b1 (307 : Int32).toNatClampNeg (vp_nar .byte (32 : Int32)) = S5
  have h := h S5 e6.symm
  have K7 : ∀ b, zs_K S5 b = zs_K S b := zs_Kt e6 (zs_Ksi _ _ _ _) (fun _ => rfl)
  refine zu_dup d_8000_2048 (zs_cat _) ?_
  refine zu_sipush d_8000_2049 zh_308 ?_
  refine zu_bipush d_8000_2052 zj_114 ?_
  refine zs_stk2 (zs_rfe e2) ?_
  obtain ⟨k8, h⟩ := h
  refine zu_bast_byte (k := 1) d_8000_2054 rfl rfl k4 (zs_Ak K7 k8) ?_
  generalize e10 : zs_si S5 b1 (308 : Int32).toNatClampNeg (vp_nar .byte (114 : Int32)) = S9
  have h := h S9 e10.symm
  have K11 : ∀ b, zs_K S9 b = zs_K S b := zs_Kt e10 (zs_Ksi _ _ _ _) K7
  refine zu_dup d_8000_2055 (zs_cat _) ?_
  refine zu_sipush d_8000_2056 zh_309 ?_
  refine zu_bipush d_8000_2059 zj_101 ?_
  refine zs_stk2 (zs_rfe e2) ?_
  obtain ⟨k12, h⟩ := h
  refine zu_bast_byte (k := 1) d_8000_2061 rfl rfl k4 (zs_Ak K11 k12) ?_
  generalize e14 : zs_si S9 b1 (309 : Int32).toNatClampNeg (vp_nar .byte (101 : Int32)) = S13
  have h := h S13 e14.symm
  have K15 : ∀ b, zs_K S13 b = zs_K S b := zs_Kt e14 (zs_Ksi _ _ _ _) K11
  refine zu_dup d_8000_2062 (zs_cat _) ?_
  refine zu_sipush d_8000_2063 zh_310 ?_
  refine zu_bipush d_8000_2066 zj_97 ?_
  refine zs_stk2 (zs_rfe e2) ?_
  obtain ⟨k16, h⟩ := h
  refine zu_bast_byte (k := 1) d_8000_2068 rfl rfl k4 (zs_Ak K15 k16) ?_
  generalize e18 : zs_si S13 b1 (310 : Int32).toNatClampNeg (vp_nar .byte (97 : Int32)) = S17
  have h := h S17 e18.symm
  have K19 : ∀ b, zs_K S17 b = zs_K S b := zs_Kt e18 (zs_Ksi _ _ _ _) K15
  refine zu_dup d_8000_2069 (zs_cat _) ?_
  refine zu_sipush d_8000_2070 zh_311 ?_
  refine zu_bipush d_8000_2073 zj_100 ?_
  refine zs_stk2 (zs_rfe e2) ?_
  obtain ⟨k20, h⟩ := h
  refine zu_bast_byte (k := 1) d_8000_2075 rfl rfl k4 (zs_Ak K19 k20) ?_
  generalize e22 : zs_si S17 b1 (311 : Int32).toNatClampNeg (vp_nar .byte (100 : Int32)) = S21
  have h := h S21 e22.symm
  have K23 : ∀ b, zs_K S21 b = zs_K S b := zs_Kt e22 (zs_Ksi _ _ _ _) K19
  refine zu_dup d_8000_2076 (zs_cat _) ?_
  refine zu_sipush d_8000_2077 zh_312 ?_
  refine zu_bipush d_8000_2080 zj_32 ?_
  refine zs_stk2 (zs_rfe e2) ?_
  obtain ⟨k24, h⟩ := h
  refine zu_bast_byte (k := 1) d_8000_2082 rfl rfl k4 (zs_Ak K23 k24) ?_
  generalize e26 : zs_si S21 b1 (312 : Int32).toNatClampNeg (vp_nar .byte (32 : Int32)) = S25
  have h := h S25 e26.symm
  have K27 : ∀ b, zs_K S25 b = zs_K S b := zs_Kt e26 (zs_Ksi _ _ _ _) K23
  refine zu_dup d_8000_2083 (zs_cat _) ?_
  refine zu_sipush d_8000_2084 zh_313 ?_
  refine zu_bipush d_8000_2087 zj_119 ?_
  refine zs_stk2 (zs_rfe e2) ?_
  obtain ⟨k28, h⟩ := h
  refine zu_bast_byte (k := 1) d_8000_2089 rfl rfl k4 (zs_Ak K27 k28) ?_
  generalize e30 : zs_si S25 b1 (313 : Int32).toNatClampNeg (vp_nar .byte (119 : Int32)) = S29
  have h := h S29 e30.symm
  have K31 : ∀ b, zs_K S29 b = zs_K S b := zs_Kt e30 (zs_Ksi _ _ _ _) K27
  refine zu_dup d_8000_2090 (zs_cat _) ?_
  refine zu_sipush d_8000_2091 zh_314 ?_
  refine zu_bipush d_8000_2094 zj_114 ?_
  refine zs_stk2 (zs_rfe e2) ?_
  obtain ⟨k32, h⟩ := h
  refine zu_bast_byte (k := 1) d_8000_2096 rfl rfl k4 (zs_Ak K31 k32) ?_
  generalize e34 : zs_si S29 b1 (314 : Int32).toNatClampNeg (vp_nar .byte (114 : Int32)) = S33
  have h := h S33 e34.symm
  have K35 : ∀ b, zs_K S33 b = zs_K S b := zs_Kt e34 (zs_Ksi _ _ _ _) K31
  refine zu_dup d_8000_2097 (zs_cat _) ?_
  refine zu_sipush d_8000_2098 zh_315 ?_
  refine zu_bipush d_8000_2101 zj_105 ?_
  refine zs_stk2 (zs_rfe e2) ?_
  obtain ⟨k36, h⟩ := h
  refine zu_bast_byte (k := 1) d_8000_2103 rfl rfl k4 (zs_Ak K35 k36) ?_
  generalize e38 : zs_si S33 b1 (315 : Int32).toNatClampNeg (vp_nar .byte (105 : Int32)) = S37
  have h := h S37 e38.symm
  have K39 : ∀ b, zs_K S37 b = zs_K S b := zs_Kt e38 (zs_Ksi _ _ _ _) K35
  refine zu_dup d_8000_2104 (zs_cat _) ?_
  refine zu_sipush d_8000_2105 zh_316 ?_
  refine zu_bipush d_8000_2108 zj_116 ?_
  refine zs_stk2 (zs_rfe e2) ?_
  obtain ⟨k40, h⟩ := h
  refine zu_bast_byte (k := 1) d_8000_2110 rfl rfl k4 (zs_Ak K39 k40) ?_
  generalize e42 : zs_si S37 b1 (316 : Int32).toNatClampNeg (vp_nar .byte (116 : Int32)) = S41
  have h := h S41 e42.symm
  have K43 : ∀ b, zs_K S41 b = zs_K S b := zs_Kt e42 (zs_Ksi _ _ _ _) K39
  exact (u_X9_init_2111 hB h).weak ⟨rfl, trivial⟩
def w_X9_init_1971 (X : zs_X) (d : Nat) (p0 : Nat) (q0 : Option Nat) (q1 : Option Nat) (S : zs_T) (Q : zs_Q) : Prop :=
  (∃ b1, q1 = some b1 ∧ zs_A S b1 1 (297 : Int32) ∧ ab_n0 X.1 ≤ b1 ∧ ∀ S5, S5 = zs_si S b1 (297 : Int32).toNatClampNeg (vp_nar .byte (101 : Int32)) → zs_A S b1 1 (298 : Int32) ∧ ∀ S9, S9 = zs_si S5 b1 (298 : Int32).toNatClampNeg (vp_nar .byte (119 : Int32)) → zs_A S b1 1 (299 : Int32) ∧ ∀ S13, S13 = zs_si S9 b1 (299 : Int32).toNatClampNeg (vp_nar .byte (32 : Int32)) → zs_A S b1 1 (300 : Int32) ∧ ∀ S17, S17 = zs_si S13 b1 (300 : Int32).toNatClampNeg (vp_nar .byte (100 : Int32)) → zs_A S b1 1 (301 : Int32) ∧ ∀ S21, S21 = zs_si S17 b1 (301 : Int32).toNatClampNeg (vp_nar .byte (105 : Int32)) → zs_A S b1 1 (302 : Int32) ∧ ∀ S25, S25 = zs_si S21 b1 (302 : Int32).toNatClampNeg (vp_nar .byte (115 : Int32)) → zs_A S b1 1 (303 : Int32) ∧ ∀ S29, S29 = zs_si S25 b1 (303 : Int32).toNatClampNeg (vp_nar .byte (112 : Int32)) → zs_A S b1 1 (304 : Int32) ∧ ∀ S33, S33 = zs_si S29 b1 (304 : Int32).toNatClampNeg (vp_nar .byte (111 : Int32)) → zs_A S b1 1 (305 : Int32) ∧ ∀ S37, S37 = zs_si S33 b1 (305 : Int32).toNatClampNeg (vp_nar .byte (115 : Int32)) → zs_A S b1 1 (306 : Int32) ∧ ∀ S41, S41 = zs_si S37 b1 (306 : Int32).toNatClampNeg (vp_nar .byte (101 : Int32)) → w_X9_init_2041 X d p0 q0 q1 S41 Q)
theorem u_X9_init_1971 {σ : Nat → Nat} {n0 : Nat} {bf : ab_B} {d : Nat} {p0 : Nat} {q0 : Option Nat} {q1 : Option Nat} {S : zs_T} {Q : zs_Q} (hB : zt_B bf) (h : w_X9_init_1971 (zx σ n0 bf) d p0 q0 q1 S Q) : zs_U (zx σ n0 bf) d 8000 1971 [(0, .ref p0)] [va_rf q1, va_rf q0] S Q := by
  unfold w_X9_init_1971 at h
  refine zu_dup d_8000_1971 (zs_cat _) ?_
  refine zu_sipush d_8000_1972 zh_297 ?_
  refine zu_bipush d_8000_1975 zj_101 ?_
  obtain ⟨b1, e2, h⟩ := h
  refine zs_stk2 (zs_rfe e2) ?_
  obtain ⟨k3, h⟩ := h
  obtain ⟨k4, h⟩ := h
  refine zu_bast_byte (k := 1) d_8000_1977 rfl rfl k4 k3 ?_
  generalize e6 : zs_si S b1 (297 : Int32).toNatClampNeg (vp_nar .byte (101 : Int32)) = S5
  have h := h S5 e6.symm
  have K7 : ∀ b, zs_K S5 b = zs_K S b := zs_Kt e6 (zs_Ksi _ _ _ _) (fun _ => rfl)
  refine zu_dup d_8000_1978 (zs_cat _) ?_
  refine zu_sipush d_8000_1979 zh_298 ?_
  refine zu_bipush d_8000_1982 zj_119 ?_
  refine zs_stk2 (zs_rfe e2) ?_
  obtain ⟨k8, h⟩ := h
  refine zu_bast_byte (k := 1) d_8000_1984 rfl rfl k4 (zs_Ak K7 k8) ?_
  generalize e10 : zs_si S5 b1 (298 : Int32).toNatClampNeg (vp_nar .byte (119 : Int32)) = S9
  have h := h S9 e10.symm
  have K11 : ∀ b, zs_K S9 b = zs_K S b := zs_Kt e10 (zs_Ksi _ _ _ _) K7
  refine zu_dup d_8000_1985 (zs_cat _) ?_
  refine zu_sipush d_8000_1986 zh_299 ?_
  refine zu_bipush d_8000_1989 zj_32 ?_
  refine zs_stk2 (zs_rfe e2) ?_
  obtain ⟨k12, h⟩ := h
  refine zu_bast_byte (k := 1) d_8000_1991 rfl rfl k4 (zs_Ak K11 k12) ?_
  generalize e14 : zs_si S9 b1 (299 : Int32).toNatClampNeg (vp_nar .byte (32 : Int32)) = S13
  have h := h S13 e14.symm
  have K15 : ∀ b, zs_K S13 b = zs_K S b := zs_Kt e14 (zs_Ksi _ _ _ _) K11
  refine zu_dup d_8000_1992 (zs_cat _) ?_
  refine zu_sipush d_8000_1993 zh_300 ?_
  refine zu_bipush d_8000_1996 zj_100 ?_
  refine zs_stk2 (zs_rfe e2) ?_
  obtain ⟨k16, h⟩ := h
  refine zu_bast_byte (k := 1) d_8000_1998 rfl rfl k4 (zs_Ak K15 k16) ?_
  generalize e18 : zs_si S13 b1 (300 : Int32).toNatClampNeg (vp_nar .byte (100 : Int32)) = S17
  have h := h S17 e18.symm
  have K19 : ∀ b, zs_K S17 b = zs_K S b := zs_Kt e18 (zs_Ksi _ _ _ _) K15
  refine zu_dup d_8000_1999 (zs_cat _) ?_
  refine zu_sipush d_8000_2000 zh_301 ?_
  refine zu_bipush d_8000_2003 zj_105 ?_
  refine zs_stk2 (zs_rfe e2) ?_
  obtain ⟨k20, h⟩ := h
  refine zu_bast_byte (k := 1) d_8000_2005 rfl rfl k4 (zs_Ak K19 k20) ?_
  generalize e22 : zs_si S17 b1 (301 : Int32).toNatClampNeg (vp_nar .byte (105 : Int32)) = S21
  have h := h S21 e22.symm
  have K23 : ∀ b, zs_K S21 b = zs_K S b := zs_Kt e22 (zs_Ksi _ _ _ _) K19
  refine zu_dup d_8000_2006 (zs_cat _) ?_
  refine zu_sipush d_8000_2007 zh_302 ?_
  refine zu_bipush d_8000_2010 zj_115 ?_
  refine zs_stk2 (zs_rfe e2) ?_
  obtain ⟨k24, h⟩ := h
  refine zu_bast_byte (k := 1) d_8000_2012 rfl rfl k4 (zs_Ak K23 k24) ?_
  generalize e26 : zs_si S21 b1 (302 : Int32).toNatClampNeg (vp_nar .byte (115 : Int32)) = S25
  have h := h S25 e26.symm
  have K27 : ∀ b, zs_K S25 b = zs_K S b := zs_Kt e26 (zs_Ksi _ _ _ _) K23
  refine zu_dup d_8000_2013 (zs_cat _) ?_
  refine zu_sipush d_8000_2014 zh_303 ?_
  refine zu_bipush d_8000_2017 zj_112 ?_
  refine zs_stk2 (zs_rfe e2) ?_
  obtain ⟨k28, h⟩ := h
  refine zu_bast_byte (k := 1) d_8000_2019 rfl rfl k4 (zs_Ak K27 k28) ?_
  generalize e30 : zs_si S25 b1 (303 : Int32).toNatClampNeg (vp_nar .byte (112 : Int32)) = S29
  have h := h S29 e30.symm
  have K31 : ∀ b, zs_K S29 b = zs_K S b := zs_Kt e30 (zs_Ksi _ _ _ _) K27
  refine zu_dup d_8000_2020 (zs_cat _) ?_
  refine zu_sipush d_8000_2021 zh_304 ?_
  refine zu_bipush d_8000_2024 zj_111 ?_
  refine zs_stk2 (zs_rfe e2) ?_
  obtain ⟨k32, h⟩ := h
  refine zu_bast_byte (k := 1) d_8000_2026 rfl rfl k4 (zs_Ak K31 k32) ?_
  generalize e34 : zs_si S29 b1 (304 : Int32).toNatClampNeg (vp_nar .byte (111 : Int32)) = S33
  have h := h S33 e34.symm
  have K35 : ∀ b, zs_K S33 b = zs_K S b := zs_Kt e34 (zs_Ksi _ _ _ _) K31
  refine zu_dup d_8000_2027 (zs_cat _) ?_
  refine zu_sipush d_8000_2028 zh_305 ?_
  refine zu_bipush d_8000_2031 zj_115 ?_
  refine zs_stk2 (zs_rfe e2) ?_
  obtain ⟨k36, h⟩ := h
  refine zu_bast_byte (k := 1) d_8000_2033 rfl rfl k4 (zs_Ak K35 k36) ?_
  generalize e38 : zs_si S33 b1 (305 : Int32).toNatClampNeg (vp_nar .byte (115 : Int32)) = S37
  have h := h S37 e38.symm
  have K39 : ∀ b, zs_K S37 b = zs_K S b := zs_Kt e38 (zs_Ksi _ _ _ _) K35
  refine zu_dup d_8000_2034 (zs_cat _) ?_
  refine zu_sipush d_8000_2035 zh_306 ?_
  refine zu_bipush d_8000_2038 zj_101 ?_
  refine zs_stk2 (zs_rfe e2) ?_
  obtain ⟨k40, h⟩ := h
  refine zu_bast_byte (k := 1) d_8000_2040 rfl rfl k4 (zs_Ak K39 k40) ?_
  generalize e42 : zs_si S37 b1 (306 : Int32).toNatClampNeg (vp_nar .byte (101 : Int32)) = S41
  have h := h S41 e42.symm
  have K43 : ∀ b, zs_K S41 b = zs_K S b := zs_Kt e42 (zs_Ksi _ _ _ _) K39
  exact (u_X9_init_2041 hB h).weak ⟨rfl, trivial⟩
def w_X9_init_1901 (X : zs_X) (d : Nat) (p0 : Nat) (q0 : Option Nat) (q1 : Option Nat) (S : zs_T) (Q : zs_Q) : Prop :=
  (∃ b1, q1 = some b1 ∧ zs_A S b1 1 (287 : Int32) ∧ ab_n0 X.1 ≤ b1 ∧ ∀ S5, S5 = zs_si S b1 (287 : Int32).toNatClampNeg (vp_nar .byte (98 : Int32)) → zs_A S b1 1 (288 : Int32) ∧ ∀ S9, S9 = zs_si S5 b1 (288 : Int32).toNatClampNeg (vp_nar .byte (115 : Int32)) → zs_A S b1 1 (289 : Int32) ∧ ∀ S13, S13 = zs_si S9 b1 (289 : Int32).toNatClampNeg (vp_nar .byte (116 : Int32)) → zs_A S b1 1 (290 : Int32) ∧ ∀ S17, S17 = zs_si S13 b1 (290 : Int32).toNatClampNeg (vp_nar .byte (114 : Int32)) → zs_A S b1 1 (291 : Int32) ∧ ∀ S21, S21 = zs_si S17 b1 (291 : Int32).toNatClampNeg (vp_nar .byte (32 : Int32)) → zs_A S b1 1 (292 : Int32) ∧ ∀ S25, S25 = zs_si S21 b1 (292 : Int32).toNatClampNeg (vp_nar .byte (101 : Int32)) → zs_A S b1 1 (293 : Int32) ∧ ∀ S29, S29 = zs_si S25 b1 (293 : Int32).toNatClampNeg (vp_nar .byte (111 : Int32)) → zs_A S b1 1 (294 : Int32) ∧ ∀ S33, S33 = zs_si S29 b1 (294 : Int32).toNatClampNeg (vp_nar .byte (102 : Int32)) → zs_A S b1 1 (295 : Int32) ∧ ∀ S37, S37 = zs_si S33 b1 (295 : Int32).toNatClampNeg (vp_nar .byte (32 : Int32)) → zs_A S b1 1 (296 : Int32) ∧ ∀ S41, S41 = zs_si S37 b1 (296 : Int32).toNatClampNeg (vp_nar .byte (110 : Int32)) → w_X9_init_1971 X d p0 q0 q1 S41 Q)
theorem u_X9_init_1901 {σ : Nat → Nat} {n0 : Nat} {bf : ab_B} {d : Nat} {p0 : Nat} {q0 : Option Nat} {q1 : Option Nat} {S : zs_T} {Q : zs_Q} (hB : zt_B bf) (h : w_X9_init_1901 (zx σ n0 bf) d p0 q0 q1 S Q) : zs_U (zx σ n0 bf) d 8000 1901 [(0, .ref p0)] [va_rf q1, va_rf q0] S Q := by
  unfold w_X9_init_1901 at h
  refine zu_dup d_8000_1901 (zs_cat _) ?_
  refine zu_sipush d_8000_1902 zh_287 ?_
  refine zu_bipush d_8000_1905 zj_98 ?_
  obtain ⟨b1, e2, h⟩ := h
  refine zs_stk2 (zs_rfe e2) ?_
  obtain ⟨k3, h⟩ := h
  obtain ⟨k4, h⟩ := h
  refine zu_bast_byte (k := 1) d_8000_1907 rfl rfl k4 k3 ?_
  generalize e6 : zs_si S b1 (287 : Int32).toNatClampNeg (vp_nar .byte (98 : Int32)) = S5
  have h := h S5 e6.symm
  have K7 : ∀ b, zs_K S5 b = zs_K S b := zs_Kt e6 (zs_Ksi _ _ _ _) (fun _ => rfl)
  refine zu_dup d_8000_1908 (zs_cat _) ?_
  refine zu_sipush d_8000_1909 zh_288 ?_
  refine zu_bipush d_8000_1912 zj_115 ?_
  refine zs_stk2 (zs_rfe e2) ?_
  obtain ⟨k8, h⟩ := h
  refine zu_bast_byte (k := 1) d_8000_1914 rfl rfl k4 (zs_Ak K7 k8) ?_
  generalize e10 : zs_si S5 b1 (288 : Int32).toNatClampNeg (vp_nar .byte (115 : Int32)) = S9
  have h := h S9 e10.symm
  have K11 : ∀ b, zs_K S9 b = zs_K S b := zs_Kt e10 (zs_Ksi _ _ _ _) K7
  refine zu_dup d_8000_1915 (zs_cat _) ?_
  refine zu_sipush d_8000_1916 zh_289 ?_
  refine zu_bipush d_8000_1919 zj_116 ?_
  refine zs_stk2 (zs_rfe e2) ?_
  obtain ⟨k12, h⟩ := h
  refine zu_bast_byte (k := 1) d_8000_1921 rfl rfl k4 (zs_Ak K11 k12) ?_
  generalize e14 : zs_si S9 b1 (289 : Int32).toNatClampNeg (vp_nar .byte (116 : Int32)) = S13
  have h := h S13 e14.symm
  have K15 : ∀ b, zs_K S13 b = zs_K S b := zs_Kt e14 (zs_Ksi _ _ _ _) K11
  refine zu_dup d_8000_1922 (zs_cat _) ?_
  refine zu_sipush d_8000_1923 zh_290 ?_
  refine zu_bipush d_8000_1926 zj_114 ?_
  refine zs_stk2 (zs_rfe e2) ?_
  obtain ⟨k16, h⟩ := h
  refine zu_bast_byte (k := 1) d_8000_1928 rfl rfl k4 (zs_Ak K15 k16) ?_
  generalize e18 : zs_si S13 b1 (290 : Int32).toNatClampNeg (vp_nar .byte (114 : Int32)) = S17
  have h := h S17 e18.symm
  have K19 : ∀ b, zs_K S17 b = zs_K S b := zs_Kt e18 (zs_Ksi _ _ _ _) K15
  refine zu_dup d_8000_1929 (zs_cat _) ?_
  refine zu_sipush d_8000_1930 zh_291 ?_
  refine zu_bipush d_8000_1933 zj_32 ?_
  refine zs_stk2 (zs_rfe e2) ?_
  obtain ⟨k20, h⟩ := h
  refine zu_bast_byte (k := 1) d_8000_1935 rfl rfl k4 (zs_Ak K19 k20) ?_
  generalize e22 : zs_si S17 b1 (291 : Int32).toNatClampNeg (vp_nar .byte (32 : Int32)) = S21
  have h := h S21 e22.symm
  have K23 : ∀ b, zs_K S21 b = zs_K S b := zs_Kt e22 (zs_Ksi _ _ _ _) K19
  refine zu_dup d_8000_1936 (zs_cat _) ?_
  refine zu_sipush d_8000_1937 zh_292 ?_
  refine zu_bipush d_8000_1940 zj_101 ?_
  refine zs_stk2 (zs_rfe e2) ?_
  obtain ⟨k24, h⟩ := h
  refine zu_bast_byte (k := 1) d_8000_1942 rfl rfl k4 (zs_Ak K23 k24) ?_
  generalize e26 : zs_si S21 b1 (292 : Int32).toNatClampNeg (vp_nar .byte (101 : Int32)) = S25
  have h := h S25 e26.symm
  have K27 : ∀ b, zs_K S25 b = zs_K S b := zs_Kt e26 (zs_Ksi _ _ _ _) K23
  refine zu_dup d_8000_1943 (zs_cat _) ?_
  refine zu_sipush d_8000_1944 zh_293 ?_
  refine zu_bipush d_8000_1947 zj_111 ?_
  refine zs_stk2 (zs_rfe e2) ?_
  obtain ⟨k28, h⟩ := h
  refine zu_bast_byte (k := 1) d_8000_1949 rfl rfl k4 (zs_Ak K27 k28) ?_
  generalize e30 : zs_si S25 b1 (293 : Int32).toNatClampNeg (vp_nar .byte (111 : Int32)) = S29
  have h := h S29 e30.symm
  have K31 : ∀ b, zs_K S29 b = zs_K S b := zs_Kt e30 (zs_Ksi _ _ _ _) K27
  refine zu_dup d_8000_1950 (zs_cat _) ?_
  refine zu_sipush d_8000_1951 zh_294 ?_
  refine zu_bipush d_8000_1954 zj_102 ?_
  refine zs_stk2 (zs_rfe e2) ?_
  obtain ⟨k32, h⟩ := h
  refine zu_bast_byte (k := 1) d_8000_1956 rfl rfl k4 (zs_Ak K31 k32) ?_
  generalize e34 : zs_si S29 b1 (294 : Int32).toNatClampNeg (vp_nar .byte (102 : Int32)) = S33
  have h := h S33 e34.symm
  have K35 : ∀ b, zs_K S33 b = zs_K S b := zs_Kt e34 (zs_Ksi _ _ _ _) K31
  refine zu_dup d_8000_1957 (zs_cat _) ?_
  refine zu_sipush d_8000_1958 zh_295 ?_
  refine zu_bipush d_8000_1961 zj_32 ?_
  refine zs_stk2 (zs_rfe e2) ?_
  obtain ⟨k36, h⟩ := h
  refine zu_bast_byte (k := 1) d_8000_1963 rfl rfl k4 (zs_Ak K35 k36) ?_
  generalize e38 : zs_si S33 b1 (295 : Int32).toNatClampNeg (vp_nar .byte (32 : Int32)) = S37
  have h := h S37 e38.symm
  have K39 : ∀ b, zs_K S37 b = zs_K S b := zs_Kt e38 (zs_Ksi _ _ _ _) K35
  refine zu_dup d_8000_1964 (zs_cat _) ?_
  refine zu_sipush d_8000_1965 zh_296 ?_
  refine zu_bipush d_8000_1968 zj_110 ?_
  refine zs_stk2 (zs_rfe e2) ?_
  obtain ⟨k40, h⟩ := h
  refine zu_bast_byte (k := 1) d_8000_1970 rfl rfl k4 (zs_Ak K39 k40) ?_
  generalize e42 : zs_si S37 b1 (296 : Int32).toNatClampNeg (vp_nar .byte (110 : Int32)) = S41
  have h := h S41 e42.symm
  have K43 : ∀ b, zs_K S41 b = zs_K S b := zs_Kt e42 (zs_Ksi _ _ _ _) K39
  exact (u_X9_init_1971 hB h).weak ⟨rfl, trivial⟩
def w_X9_init_1831 (X : zs_X) (d : Nat) (p0 : Nat) (q0 : Option Nat) (q1 : Option Nat) (S : zs_T) (Q : zs_Q) : Prop :=
  (∃ b1, q1 = some b1 ∧ zs_A S b1 1 (277 : Int32) ∧ ab_n0 X.1 ≤ b1 ∧ ∀ S5, S5 = zs_si S b1 (277 : Int32).toNatClampNeg (vp_nar .byte (100 : Int32)) → zs_A S b1 1 (278 : Int32) ∧ ∀ S9, S9 = zs_si S5 b1 (278 : Int32).toNatClampNeg (vp_nar .byte (32 : Int32)) → zs_A S b1 1 (279 : Int32) ∧ ∀ S13, S13 = zs_si S9 b1 (279 : Int32).toNatClampNeg (vp_nar .byte (105 : Int32)) → zs_A S b1 1 (280 : Int32) ∧ ∀ S17, S17 = zs_si S13 b1 (280 : Int32).toNatClampNeg (vp_nar .byte (110 : Int32)) → zs_A S b1 1 (281 : Int32) ∧ ∀ S21, S21 = zs_si S17 b1 (281 : Int32).toNatClampNeg (vp_nar .byte (100 : Int32)) → zs_A S b1 1 (282 : Int32) ∧ ∀ S25, S25 = zs_si S21 b1 (282 : Int32).toNatClampNeg (vp_nar .byte (101 : Int32)) → zs_A S b1 1 (283 : Int32) ∧ ∀ S29, S29 = zs_si S25 b1 (283 : Int32).toNatClampNeg (vp_nar .byte (120 : Int32)) → zs_A S b1 1 (284 : Int32) ∧ ∀ S33, S33 = zs_si S29 b1 (284 : Int32).toNatClampNeg (vp_nar .byte (32 : Int32)) → zs_A S b1 1 (285 : Int32) ∧ ∀ S37, S37 = zs_si S33 b1 (285 : Int32).toNatClampNeg (vp_nar .byte (115 : Int32)) → zs_A S b1 1 (286 : Int32) ∧ ∀ S41, S41 = zs_si S37 b1 (286 : Int32).toNatClampNeg (vp_nar .byte (117 : Int32)) → w_X9_init_1901 X d p0 q0 q1 S41 Q)
theorem u_X9_init_1831 {σ : Nat → Nat} {n0 : Nat} {bf : ab_B} {d : Nat} {p0 : Nat} {q0 : Option Nat} {q1 : Option Nat} {S : zs_T} {Q : zs_Q} (hB : zt_B bf) (h : w_X9_init_1831 (zx σ n0 bf) d p0 q0 q1 S Q) : zs_U (zx σ n0 bf) d 8000 1831 [(0, .ref p0)] [va_rf q1, va_rf q0] S Q := by
  unfold w_X9_init_1831 at h
  refine zu_dup d_8000_1831 (zs_cat _) ?_
  refine zu_sipush d_8000_1832 zh_277 ?_
  refine zu_bipush d_8000_1835 zj_100 ?_
  obtain ⟨b1, e2, h⟩ := h
  refine zs_stk2 (zs_rfe e2) ?_
  obtain ⟨k3, h⟩ := h
  obtain ⟨k4, h⟩ := h
  refine zu_bast_byte (k := 1) d_8000_1837 rfl rfl k4 k3 ?_
  generalize e6 : zs_si S b1 (277 : Int32).toNatClampNeg (vp_nar .byte (100 : Int32)) = S5
  have h := h S5 e6.symm
  have K7 : ∀ b, zs_K S5 b = zs_K S b := zs_Kt e6 (zs_Ksi _ _ _ _) (fun _ => rfl)
  refine zu_dup d_8000_1838 (zs_cat _) ?_
  refine zu_sipush d_8000_1839 zh_278 ?_
  refine zu_bipush d_8000_1842 zj_32 ?_
  refine zs_stk2 (zs_rfe e2) ?_
  obtain ⟨k8, h⟩ := h
  refine zu_bast_byte (k := 1) d_8000_1844 rfl rfl k4 (zs_Ak K7 k8) ?_
  generalize e10 : zs_si S5 b1 (278 : Int32).toNatClampNeg (vp_nar .byte (32 : Int32)) = S9
  have h := h S9 e10.symm
  have K11 : ∀ b, zs_K S9 b = zs_K S b := zs_Kt e10 (zs_Ksi _ _ _ _) K7
  refine zu_dup d_8000_1845 (zs_cat _) ?_
  refine zu_sipush d_8000_1846 zh_279 ?_
  refine zu_bipush d_8000_1849 zj_105 ?_
  refine zs_stk2 (zs_rfe e2) ?_
  obtain ⟨k12, h⟩ := h
  refine zu_bast_byte (k := 1) d_8000_1851 rfl rfl k4 (zs_Ak K11 k12) ?_
  generalize e14 : zs_si S9 b1 (279 : Int32).toNatClampNeg (vp_nar .byte (105 : Int32)) = S13
  have h := h S13 e14.symm
  have K15 : ∀ b, zs_K S13 b = zs_K S b := zs_Kt e14 (zs_Ksi _ _ _ _) K11
  refine zu_dup d_8000_1852 (zs_cat _) ?_
  refine zu_sipush d_8000_1853 zh_280 ?_
  refine zu_bipush d_8000_1856 zj_110 ?_
  refine zs_stk2 (zs_rfe e2) ?_
  obtain ⟨k16, h⟩ := h
  refine zu_bast_byte (k := 1) d_8000_1858 rfl rfl k4 (zs_Ak K15 k16) ?_
  generalize e18 : zs_si S13 b1 (280 : Int32).toNatClampNeg (vp_nar .byte (110 : Int32)) = S17
  have h := h S17 e18.symm
  have K19 : ∀ b, zs_K S17 b = zs_K S b := zs_Kt e18 (zs_Ksi _ _ _ _) K15
  refine zu_dup d_8000_1859 (zs_cat _) ?_
  refine zu_sipush d_8000_1860 zh_281 ?_
  refine zu_bipush d_8000_1863 zj_100 ?_
  refine zs_stk2 (zs_rfe e2) ?_
  obtain ⟨k20, h⟩ := h
  refine zu_bast_byte (k := 1) d_8000_1865 rfl rfl k4 (zs_Ak K19 k20) ?_
  generalize e22 : zs_si S17 b1 (281 : Int32).toNatClampNeg (vp_nar .byte (100 : Int32)) = S21
  have h := h S21 e22.symm
  have K23 : ∀ b, zs_K S21 b = zs_K S b := zs_Kt e22 (zs_Ksi _ _ _ _) K19
  refine zu_dup d_8000_1866 (zs_cat _) ?_
  refine zu_sipush d_8000_1867 zh_282 ?_
  refine zu_bipush d_8000_1870 zj_101 ?_
  refine zs_stk2 (zs_rfe e2) ?_
  obtain ⟨k24, h⟩ := h
  refine zu_bast_byte (k := 1) d_8000_1872 rfl rfl k4 (zs_Ak K23 k24) ?_
  generalize e26 : zs_si S21 b1 (282 : Int32).toNatClampNeg (vp_nar .byte (101 : Int32)) = S25
  have h := h S25 e26.symm
  have K27 : ∀ b, zs_K S25 b = zs_K S b := zs_Kt e26 (zs_Ksi _ _ _ _) K23
  refine zu_dup d_8000_1873 (zs_cat _) ?_
  refine zu_sipush d_8000_1874 zh_283 ?_
  refine zu_bipush d_8000_1877 zj_120 ?_
  refine zs_stk2 (zs_rfe e2) ?_
  obtain ⟨k28, h⟩ := h
  refine zu_bast_byte (k := 1) d_8000_1879 rfl rfl k4 (zs_Ak K27 k28) ?_
  generalize e30 : zs_si S25 b1 (283 : Int32).toNatClampNeg (vp_nar .byte (120 : Int32)) = S29
  have h := h S29 e30.symm
  have K31 : ∀ b, zs_K S29 b = zs_K S b := zs_Kt e30 (zs_Ksi _ _ _ _) K27
  refine zu_dup d_8000_1880 (zs_cat _) ?_
  refine zu_sipush d_8000_1881 zh_284 ?_
  refine zu_bipush d_8000_1884 zj_32 ?_
  refine zs_stk2 (zs_rfe e2) ?_
  obtain ⟨k32, h⟩ := h
  refine zu_bast_byte (k := 1) d_8000_1886 rfl rfl k4 (zs_Ak K31 k32) ?_
  generalize e34 : zs_si S29 b1 (284 : Int32).toNatClampNeg (vp_nar .byte (32 : Int32)) = S33
  have h := h S33 e34.symm
  have K35 : ∀ b, zs_K S33 b = zs_K S b := zs_Kt e34 (zs_Ksi _ _ _ _) K31
  refine zu_dup d_8000_1887 (zs_cat _) ?_
  refine zu_sipush d_8000_1888 zh_285 ?_
  refine zu_bipush d_8000_1891 zj_115 ?_
  refine zs_stk2 (zs_rfe e2) ?_
  obtain ⟨k36, h⟩ := h
  refine zu_bast_byte (k := 1) d_8000_1893 rfl rfl k4 (zs_Ak K35 k36) ?_
  generalize e38 : zs_si S33 b1 (285 : Int32).toNatClampNeg (vp_nar .byte (115 : Int32)) = S37
  have h := h S37 e38.symm
  have K39 : ∀ b, zs_K S37 b = zs_K S b := zs_Kt e38 (zs_Ksi _ _ _ _) K35
  refine zu_dup d_8000_1894 (zs_cat _) ?_
  refine zu_sipush d_8000_1895 zh_286 ?_
  refine zu_bipush d_8000_1898 zj_117 ?_
  refine zs_stk2 (zs_rfe e2) ?_
  obtain ⟨k40, h⟩ := h
  refine zu_bast_byte (k := 1) d_8000_1900 rfl rfl k4 (zs_Ak K39 k40) ?_
  generalize e42 : zs_si S37 b1 (286 : Int32).toNatClampNeg (vp_nar .byte (117 : Int32)) = S41
  have h := h S41 e42.symm
  have K43 : ∀ b, zs_K S41 b = zs_K S b := zs_Kt e42 (zs_Ksi _ _ _ _) K39
  exact (u_X9_init_1901 hB h).weak ⟨rfl, trivial⟩
def w_X9_init_1761 (X : zs_X) (d : Nat) (p0 : Nat) (q0 : Option Nat) (q1 : Option Nat) (S : zs_T) (Q : zs_Q) : Prop :=
  (∃ b1, q1 = some b1 ∧ zs_A S b1 1 (267 : Int32) ∧ ab_n0 X.1 ≤ b1 ∧ ∀ S5, S5 = zs_si S b1 (267 : Int32).toNatClampNeg (vp_nar .byte (108 : Int32)) → zs_A S b1 1 (268 : Int32) ∧ ∀ S9, S9 = zs_si S5 b1 (268 : Int32).toNatClampNeg (vp_nar .byte (101 : Int32)) → zs_A S b1 1 (269 : Int32) ∧ ∀ S13, S13 = zs_si S9 b1 (269 : Int32).toNatClampNeg (vp_nar .byte (110 : Int32)) → zs_A S b1 1 (270 : Int32) ∧ ∀ S17, S17 = zs_si S13 b1 (270 : Int32).toNatClampNeg (vp_nar .byte (103 : Int32)) → zs_A S b1 1 (271 : Int32) ∧ ∀ S21, S21 = zs_si S17 b1 (271 : Int32).toNatClampNeg (vp_nar .byte (116 : Int32)) → zs_A S b1 1 (272 : Int32) ∧ ∀ S25, S25 = zs_si S21 b1 (272 : Int32).toNatClampNeg (vp_nar .byte (104 : Int32)) → zs_A S b1 1 (273 : Int32) ∧ ∀ S29, S29 = zs_si S25 b1 (273 : Int32).toNatClampNeg (vp_nar .byte (32 : Int32)) → zs_A S b1 1 (274 : Int32) ∧ ∀ S33, S33 = zs_si S29 b1 (274 : Int32).toNatClampNeg (vp_nar .byte (99 : Int32)) → zs_A S b1 1 (275 : Int32) ∧ ∀ S37, S37 = zs_si S33 b1 (275 : Int32).toNatClampNeg (vp_nar .byte (97 : Int32)) → zs_A S b1 1 (276 : Int32) ∧ ∀ S41, S41 = zs_si S37 b1 (276 : Int32).toNatClampNeg (vp_nar .byte (114 : Int32)) → w_X9_init_1831 X d p0 q0 q1 S41 Q)
theorem u_X9_init_1761 {σ : Nat → Nat} {n0 : Nat} {bf : ab_B} {d : Nat} {p0 : Nat} {q0 : Option Nat} {q1 : Option Nat} {S : zs_T} {Q : zs_Q} (hB : zt_B bf) (h : w_X9_init_1761 (zx σ n0 bf) d p0 q0 q1 S Q) : zs_U (zx σ n0 bf) d 8000 1761 [(0, .ref p0)] [va_rf q1, va_rf q0] S Q := by
  unfold w_X9_init_1761 at h
  refine zu_dup d_8000_1761 (zs_cat _) ?_
  refine zu_sipush d_8000_1762 zh_267 ?_
  refine zu_bipush d_8000_1765 zj_108 ?_
  obtain ⟨b1, e2, h⟩ := h
  refine zs_stk2 (zs_rfe e2) ?_
  obtain ⟨k3, h⟩ := h
  obtain ⟨k4, h⟩ := h
  refine zu_bast_byte (k := 1) d_8000_1767 rfl rfl k4 k3 ?_
  generalize e6 : zs_si S b1 (267 : Int32).toNatClampNeg (vp_nar .byte (108 : Int32)) = S5
  have h := h S5 e6.symm
  have K7 : ∀ b, zs_K S5 b = zs_K S b := zs_Kt e6 (zs_Ksi _ _ _ _) (fun _ => rfl)
  refine zu_dup d_8000_1768 (zs_cat _) ?_
  refine zu_sipush d_8000_1769 zh_268 ?_
  refine zu_bipush d_8000_1772 zj_101 ?_
  refine zs_stk2 (zs_rfe e2) ?_
  obtain ⟨k8, h⟩ := h
  refine zu_bast_byte (k := 1) d_8000_1774 rfl rfl k4 (zs_Ak K7 k8) ?_
  generalize e10 : zs_si S5 b1 (268 : Int32).toNatClampNeg (vp_nar .byte (101 : Int32)) = S9
  have h := h S9 e10.symm
  have K11 : ∀ b, zs_K S9 b = zs_K S b := zs_Kt e10 (zs_Ksi _ _ _ _) K7
  refine zu_dup d_8000_1775 (zs_cat _) ?_
  refine zu_sipush d_8000_1776 zh_269 ?_
  refine zu_bipush d_8000_1779 zj_110 ?_
  refine zs_stk2 (zs_rfe e2) ?_
  obtain ⟨k12, h⟩ := h
  refine zu_bast_byte (k := 1) d_8000_1781 rfl rfl k4 (zs_Ak K11 k12) ?_
  generalize e14 : zs_si S9 b1 (269 : Int32).toNatClampNeg (vp_nar .byte (110 : Int32)) = S13
  have h := h S13 e14.symm
  have K15 : ∀ b, zs_K S13 b = zs_K S b := zs_Kt e14 (zs_Ksi _ _ _ _) K11
  refine zu_dup d_8000_1782 (zs_cat _) ?_
  refine zu_sipush d_8000_1783 zh_270 ?_
  refine zu_bipush d_8000_1786 zj_103 ?_
  refine zs_stk2 (zs_rfe e2) ?_
  obtain ⟨k16, h⟩ := h
  refine zu_bast_byte (k := 1) d_8000_1788 rfl rfl k4 (zs_Ak K15 k16) ?_
  generalize e18 : zs_si S13 b1 (270 : Int32).toNatClampNeg (vp_nar .byte (103 : Int32)) = S17
  have h := h S17 e18.symm
  have K19 : ∀ b, zs_K S17 b = zs_K S b := zs_Kt e18 (zs_Ksi _ _ _ _) K15
  refine zu_dup d_8000_1789 (zs_cat _) ?_
  refine zu_sipush d_8000_1790 zh_271 ?_
  refine zu_bipush d_8000_1793 zj_116 ?_
  refine zs_stk2 (zs_rfe e2) ?_
  obtain ⟨k20, h⟩ := h
  refine zu_bast_byte (k := 1) d_8000_1795 rfl rfl k4 (zs_Ak K19 k20) ?_
  generalize e22 : zs_si S17 b1 (271 : Int32).toNatClampNeg (vp_nar .byte (116 : Int32)) = S21
  have h := h S21 e22.symm
  have K23 : ∀ b, zs_K S21 b = zs_K S b := zs_Kt e22 (zs_Ksi _ _ _ _) K19
  refine zu_dup d_8000_1796 (zs_cat _) ?_
  refine zu_sipush d_8000_1797 zh_272 ?_
  refine zu_bipush d_8000_1800 zj_104 ?_
  refine zs_stk2 (zs_rfe e2) ?_
  obtain ⟨k24, h⟩ := h
  refine zu_bast_byte (k := 1) d_8000_1802 rfl rfl k4 (zs_Ak K23 k24) ?_
  generalize e26 : zs_si S21 b1 (272 : Int32).toNatClampNeg (vp_nar .byte (104 : Int32)) = S25
  have h := h S25 e26.symm
  have K27 : ∀ b, zs_K S25 b = zs_K S b := zs_Kt e26 (zs_Ksi _ _ _ _) K23
  refine zu_dup d_8000_1803 (zs_cat _) ?_
  refine zu_sipush d_8000_1804 zh_273 ?_
  refine zu_bipush d_8000_1807 zj_32 ?_
  refine zs_stk2 (zs_rfe e2) ?_
  obtain ⟨k28, h⟩ := h
  refine zu_bast_byte (k := 1) d_8000_1809 rfl rfl k4 (zs_Ak K27 k28) ?_
  generalize e30 : zs_si S25 b1 (273 : Int32).toNatClampNeg (vp_nar .byte (32 : Int32)) = S29
  have h := h S29 e30.symm
  have K31 : ∀ b, zs_K S29 b = zs_K S b := zs_Kt e30 (zs_Ksi _ _ _ _) K27
  refine zu_dup d_8000_1810 (zs_cat _) ?_
  refine zu_sipush d_8000_1811 zh_274 ?_
  refine zu_bipush d_8000_1814 zj_99 ?_
  refine zs_stk2 (zs_rfe e2) ?_
  obtain ⟨k32, h⟩ := h
  refine zu_bast_byte (k := 1) d_8000_1816 rfl rfl k4 (zs_Ak K31 k32) ?_
  generalize e34 : zs_si S29 b1 (274 : Int32).toNatClampNeg (vp_nar .byte (99 : Int32)) = S33
  have h := h S33 e34.symm
  have K35 : ∀ b, zs_K S33 b = zs_K S b := zs_Kt e34 (zs_Ksi _ _ _ _) K31
  refine zu_dup d_8000_1817 (zs_cat _) ?_
  refine zu_sipush d_8000_1818 zh_275 ?_
  refine zu_bipush d_8000_1821 zj_97 ?_
  refine zs_stk2 (zs_rfe e2) ?_
  obtain ⟨k36, h⟩ := h
  refine zu_bast_byte (k := 1) d_8000_1823 rfl rfl k4 (zs_Ak K35 k36) ?_
  generalize e38 : zs_si S33 b1 (275 : Int32).toNatClampNeg (vp_nar .byte (97 : Int32)) = S37
  have h := h S37 e38.symm
  have K39 : ∀ b, zs_K S37 b = zs_K S b := zs_Kt e38 (zs_Ksi _ _ _ _) K35
  refine zu_dup d_8000_1824 (zs_cat _) ?_
  refine zu_sipush d_8000_1825 zh_276 ?_
  refine zu_bipush d_8000_1828 zj_114 ?_
  refine zs_stk2 (zs_rfe e2) ?_
  obtain ⟨k40, h⟩ := h
  refine zu_bast_byte (k := 1) d_8000_1830 rfl rfl k4 (zs_Ak K39 k40) ?_
  generalize e42 : zs_si S37 b1 (276 : Int32).toNatClampNeg (vp_nar .byte (114 : Int32)) = S41
  have h := h S41 e42.symm
  have K43 : ∀ b, zs_K S41 b = zs_K S b := zs_Kt e42 (zs_Ksi _ _ _ _) K39
  exact (u_X9_init_1831 hB h).weak ⟨rfl, trivial⟩
def w_X9_init_1691 (X : zs_X) (d : Nat) (p0 : Nat) (q0 : Option Nat) (q1 : Option Nat) (S : zs_T) (Q : zs_Q) : Prop :=
  (∃ b1, q1 = some b1 ∧ zs_A S b1 1 (257 : Int32) ∧ ab_n0 X.1 ≤ b1 ∧ ∀ S5, S5 = zs_si S b1 (257 : Int32).toNatClampNeg (vp_nar .byte (115 : Int32)) → zs_A S b1 1 (258 : Int32) ∧ ∀ S9, S9 = zs_si S5 b1 (258 : Int32).toNatClampNeg (vp_nar .byte (117 : Int32)) → zs_A S b1 1 (259 : Int32) ∧ ∀ S13, S13 = zs_si S9 b1 (259 : Int32).toNatClampNeg (vp_nar .byte (99 : Int32)) → zs_A S b1 1 (260 : Int32) ∧ ∀ S17, S17 = zs_si S13 b1 (260 : Int32).toNatClampNeg (vp_nar .byte (99 : Int32)) → zs_A S b1 1 (261 : Int32) ∧ ∀ S21, S21 = zs_si S17 b1 (261 : Int32).toNatClampNeg (vp_nar .byte (32 : Int32)) → zs_A S b1 1 (262 : Int32) ∧ ∀ S25, S25 = zs_si S21 b1 (262 : Int32).toNatClampNeg (vp_nar .byte (112 : Int32)) → zs_A S b1 1 (263 : Int32) ∧ ∀ S29, S29 = zs_si S25 b1 (263 : Int32).toNatClampNeg (vp_nar .byte (114 : Int32)) → zs_A S b1 1 (264 : Int32) ∧ ∀ S33, S33 = zs_si S29 b1 (264 : Int32).toNatClampNeg (vp_nar .byte (101 : Int32)) → zs_A S b1 1 (265 : Int32) ∧ ∀ S37, S37 = zs_si S33 b1 (265 : Int32).toNatClampNeg (vp_nar .byte (100 : Int32)) → zs_A S b1 1 (266 : Int32) ∧ ∀ S41, S41 = zs_si S37 b1 (266 : Int32).toNatClampNeg (vp_nar .byte (32 : Int32)) → w_X9_init_1761 X d p0 q0 q1 S41 Q)
theorem u_X9_init_1691 {σ : Nat → Nat} {n0 : Nat} {bf : ab_B} {d : Nat} {p0 : Nat} {q0 : Option Nat} {q1 : Option Nat} {S : zs_T} {Q : zs_Q} (hB : zt_B bf) (h : w_X9_init_1691 (zx σ n0 bf) d p0 q0 q1 S Q) : zs_U (zx σ n0 bf) d 8000 1691 [(0, .ref p0)] [va_rf q1, va_rf q0] S Q := by
  unfold w_X9_init_1691 at h
  refine zu_dup d_8000_1691 (zs_cat _) ?_
  refine zu_sipush d_8000_1692 zh_257 ?_
  refine zu_bipush d_8000_1695 zj_115 ?_
  obtain ⟨b1, e2, h⟩ := h
  refine zs_stk2 (zs_rfe e2) ?_
  obtain ⟨k3, h⟩ := h
  obtain ⟨k4, h⟩ := h
  refine zu_bast_byte (k := 1) d_8000_1697 rfl rfl k4 k3 ?_
  generalize e6 : zs_si S b1 (257 : Int32).toNatClampNeg (vp_nar .byte (115 : Int32)) = S5
  have h := h S5 e6.symm
  have K7 : ∀ b, zs_K S5 b = zs_K S b := zs_Kt e6 (zs_Ksi _ _ _ _) (fun _ => rfl)
  refine zu_dup d_8000_1698 (zs_cat _) ?_
  refine zu_sipush d_8000_1699 zh_258 ?_
  refine zu_bipush d_8000_1702 zj_117 ?_
  refine zs_stk2 (zs_rfe e2) ?_
  obtain ⟨k8, h⟩ := h
  refine zu_bast_byte (k := 1) d_8000_1704 rfl rfl k4 (zs_Ak K7 k8) ?_
  generalize e10 : zs_si S5 b1 (258 : Int32).toNatClampNeg (vp_nar .byte (117 : Int32)) = S9
  have h := h S9 e10.symm
  have K11 : ∀ b, zs_K S9 b = zs_K S b := zs_Kt e10 (zs_Ksi _ _ _ _) K7
  refine zu_dup d_8000_1705 (zs_cat _) ?_
  refine zu_sipush d_8000_1706 zh_259 ?_
  refine zu_bipush d_8000_1709 zj_99 ?_
  refine zs_stk2 (zs_rfe e2) ?_
  obtain ⟨k12, h⟩ := h
  refine zu_bast_byte (k := 1) d_8000_1711 rfl rfl k4 (zs_Ak K11 k12) ?_
  generalize e14 : zs_si S9 b1 (259 : Int32).toNatClampNeg (vp_nar .byte (99 : Int32)) = S13
  have h := h S13 e14.symm
  have K15 : ∀ b, zs_K S13 b = zs_K S b := zs_Kt e14 (zs_Ksi _ _ _ _) K11
  refine zu_dup d_8000_1712 (zs_cat _) ?_
  refine zu_sipush d_8000_1713 zh_260 ?_
  refine zu_bipush d_8000_1716 zj_99 ?_
  refine zs_stk2 (zs_rfe e2) ?_
  obtain ⟨k16, h⟩ := h
  refine zu_bast_byte (k := 1) d_8000_1718 rfl rfl k4 (zs_Ak K15 k16) ?_
  generalize e18 : zs_si S13 b1 (260 : Int32).toNatClampNeg (vp_nar .byte (99 : Int32)) = S17
  have h := h S17 e18.symm
  have K19 : ∀ b, zs_K S17 b = zs_K S b := zs_Kt e18 (zs_Ksi _ _ _ _) K15
  refine zu_dup d_8000_1719 (zs_cat _) ?_
  refine zu_sipush d_8000_1720 zh_261 ?_
  refine zu_bipush d_8000_1723 zj_32 ?_
  refine zs_stk2 (zs_rfe e2) ?_
  obtain ⟨k20, h⟩ := h
  refine zu_bast_byte (k := 1) d_8000_1725 rfl rfl k4 (zs_Ak K19 k20) ?_
  generalize e22 : zs_si S17 b1 (261 : Int32).toNatClampNeg (vp_nar .byte (32 : Int32)) = S21
  have h := h S21 e22.symm
  have K23 : ∀ b, zs_K S21 b = zs_K S b := zs_Kt e22 (zs_Ksi _ _ _ _) K19
  refine zu_dup d_8000_1726 (zs_cat _) ?_
  refine zu_sipush d_8000_1727 zh_262 ?_
  refine zu_bipush d_8000_1730 zj_112 ?_
  refine zs_stk2 (zs_rfe e2) ?_
  obtain ⟨k24, h⟩ := h
  refine zu_bast_byte (k := 1) d_8000_1732 rfl rfl k4 (zs_Ak K23 k24) ?_
  generalize e26 : zs_si S21 b1 (262 : Int32).toNatClampNeg (vp_nar .byte (112 : Int32)) = S25
  have h := h S25 e26.symm
  have K27 : ∀ b, zs_K S25 b = zs_K S b := zs_Kt e26 (zs_Ksi _ _ _ _) K23
  refine zu_dup d_8000_1733 (zs_cat _) ?_
  refine zu_sipush d_8000_1734 zh_263 ?_
  refine zu_bipush d_8000_1737 zj_114 ?_
  refine zs_stk2 (zs_rfe e2) ?_
  obtain ⟨k28, h⟩ := h
  refine zu_bast_byte (k := 1) d_8000_1739 rfl rfl k4 (zs_Ak K27 k28) ?_
  generalize e30 : zs_si S25 b1 (263 : Int32).toNatClampNeg (vp_nar .byte (114 : Int32)) = S29
  have h := h S29 e30.symm
  have K31 : ∀ b, zs_K S29 b = zs_K S b := zs_Kt e30 (zs_Ksi _ _ _ _) K27
  refine zu_dup d_8000_1740 (zs_cat _) ?_
  refine zu_sipush d_8000_1741 zh_264 ?_
  refine zu_bipush d_8000_1744 zj_101 ?_
  refine zs_stk2 (zs_rfe e2) ?_
  obtain ⟨k32, h⟩ := h
  refine zu_bast_byte (k := 1) d_8000_1746 rfl rfl k4 (zs_Ak K31 k32) ?_
  generalize e34 : zs_si S29 b1 (264 : Int32).toNatClampNeg (vp_nar .byte (101 : Int32)) = S33
  have h := h S33 e34.symm
  have K35 : ∀ b, zs_K S33 b = zs_K S b := zs_Kt e34 (zs_Ksi _ _ _ _) K31
  refine zu_dup d_8000_1747 (zs_cat _) ?_
  refine zu_sipush d_8000_1748 zh_265 ?_
  refine zu_bipush d_8000_1751 zj_100 ?_
  refine zs_stk2 (zs_rfe e2) ?_
  obtain ⟨k36, h⟩ := h
  refine zu_bast_byte (k := 1) d_8000_1753 rfl rfl k4 (zs_Ak K35 k36) ?_
  generalize e38 : zs_si S33 b1 (265 : Int32).toNatClampNeg (vp_nar .byte (100 : Int32)) = S37
  have h := h S37 e38.symm
  have K39 : ∀ b, zs_K S37 b = zs_K S b := zs_Kt e38 (zs_Ksi _ _ _ _) K35
  refine zu_dup d_8000_1754 (zs_cat _) ?_
  refine zu_sipush d_8000_1755 zh_266 ?_
  refine zu_bipush d_8000_1758 zj_32 ?_
  refine zs_stk2 (zs_rfe e2) ?_
  obtain ⟨k40, h⟩ := h
  refine zu_bast_byte (k := 1) d_8000_1760 rfl rfl k4 (zs_Ak K39 k40) ?_
  generalize e42 : zs_si S37 b1 (266 : Int32).toNatClampNeg (vp_nar .byte (32 : Int32)) = S41
  have h := h S41 e42.symm
  have K43 : ∀ b, zs_K S41 b = zs_K S b := zs_Kt e42 (zs_Ksi _ _ _ _) K39
  exact (u_X9_init_1761 hB h).weak ⟨rfl, trivial⟩
def w_X9_init_1621 (X : zs_X) (d : Nat) (p0 : Nat) (q0 : Option Nat) (q1 : Option Nat) (S : zs_T) (Q : zs_Q) : Prop :=
  (∃ b1, q1 = some b1 ∧ zs_A S b1 1 (247 : Int32) ∧ ab_n0 X.1 ≤ b1 ∧ ∀ S5, S5 = zs_si S b1 (247 : Int32).toNatClampNeg (vp_nar .byte (100 : Int32)) → zs_A S b1 1 (248 : Int32) ∧ ∀ S9, S9 = zs_si S5 b1 (248 : Int32).toNatClampNeg (vp_nar .byte (32 : Int32)) → zs_A S b1 1 (249 : Int32) ∧ ∀ S13, S13 = zs_si S9 b1 (249 : Int32).toNatClampNeg (vp_nar .byte (111 : Int32)) → zs_A S b1 1 (250 : Int32) ∧ ∀ S17, S17 = zs_si S13 b1 (250 : Int32).toNatClampNeg (vp_nar .byte (114 : Int32)) → zs_A S b1 1 (251 : Int32) ∧ ∀ S21, S21 = zs_si S17 b1 (251 : Int32).toNatClampNeg (vp_nar .byte (100 : Int32)) → zs_A S b1 1 (252 : Int32) ∧ ∀ S25, S25 = zs_si S21 b1 (252 : Int32).toNatClampNeg (vp_nar .byte (32 : Int32)) → zs_A S b1 1 (253 : Int32) ∧ ∀ S29, S29 = zs_si S25 b1 (253 : Int32).toNatClampNeg (vp_nar .byte (99 : Int32)) → zs_A S b1 1 (254 : Int32) ∧ ∀ S33, S33 = zs_si S29 b1 (254 : Int32).toNatClampNeg (vp_nar .byte (104 : Int32)) → zs_A S b1 1 (255 : Int32) ∧ ∀ S37, S37 = zs_si S33 b1 (255 : Int32).toNatClampNeg (vp_nar .byte (114 : Int32)) → zs_A S b1 1 (256 : Int32) ∧ ∀ S41, S41 = zs_si S37 b1 (256 : Int32).toNatClampNeg (vp_nar .byte (32 : Int32)) → w_X9_init_1691 X d p0 q0 q1 S41 Q)
theorem u_X9_init_1621 {σ : Nat → Nat} {n0 : Nat} {bf : ab_B} {d : Nat} {p0 : Nat} {q0 : Option Nat} {q1 : Option Nat} {S : zs_T} {Q : zs_Q} (hB : zt_B bf) (h : w_X9_init_1621 (zx σ n0 bf) d p0 q0 q1 S Q) : zs_U (zx σ n0 bf) d 8000 1621 [(0, .ref p0)] [va_rf q1, va_rf q0] S Q := by
  unfold w_X9_init_1621 at h
  refine zu_dup d_8000_1621 (zs_cat _) ?_
  refine zu_sipush d_8000_1622 zh_247 ?_
  refine zu_bipush d_8000_1625 zj_100 ?_
  obtain ⟨b1, e2, h⟩ := h
  refine zs_stk2 (zs_rfe e2) ?_
  obtain ⟨k3, h⟩ := h
  obtain ⟨k4, h⟩ := h
  refine zu_bast_byte (k := 1) d_8000_1627 rfl rfl k4 k3 ?_
  generalize e6 : zs_si S b1 (247 : Int32).toNatClampNeg (vp_nar .byte (100 : Int32)) = S5
  have h := h S5 e6.symm
  have K7 : ∀ b, zs_K S5 b = zs_K S b := zs_Kt e6 (zs_Ksi _ _ _ _) (fun _ => rfl)
  refine zu_dup d_8000_1628 (zs_cat _) ?_
  refine zu_sipush d_8000_1629 zh_248 ?_
  refine zu_bipush d_8000_1632 zj_32 ?_
  refine zs_stk2 (zs_rfe e2) ?_
  obtain ⟨k8, h⟩ := h
  refine zu_bast_byte (k := 1) d_8000_1634 rfl rfl k4 (zs_Ak K7 k8) ?_
  generalize e10 : zs_si S5 b1 (248 : Int32).toNatClampNeg (vp_nar .byte (32 : Int32)) = S9
  have h := h S9 e10.symm
  have K11 : ∀ b, zs_K S9 b = zs_K S b := zs_Kt e10 (zs_Ksi _ _ _ _) K7
  refine zu_dup d_8000_1635 (zs_cat _) ?_
  refine zu_sipush d_8000_1636 zh_249 ?_
  refine zu_bipush d_8000_1639 zj_111 ?_
  refine zs_stk2 (zs_rfe e2) ?_
  obtain ⟨k12, h⟩ := h
  refine zu_bast_byte (k := 1) d_8000_1641 rfl rfl k4 (zs_Ak K11 k12) ?_
  generalize e14 : zs_si S9 b1 (249 : Int32).toNatClampNeg (vp_nar .byte (111 : Int32)) = S13
  have h := h S13 e14.symm
  have K15 : ∀ b, zs_K S13 b = zs_K S b := zs_Kt e14 (zs_Ksi _ _ _ _) K11
  refine zu_dup d_8000_1642 (zs_cat _) ?_
  refine zu_sipush d_8000_1643 zh_250 ?_
  refine zu_bipush d_8000_1646 zj_114 ?_
  refine zs_stk2 (zs_rfe e2) ?_
  obtain ⟨k16, h⟩ := h
  refine zu_bast_byte (k := 1) d_8000_1648 rfl rfl k4 (zs_Ak K15 k16) ?_
  generalize e18 : zs_si S13 b1 (250 : Int32).toNatClampNeg (vp_nar .byte (114 : Int32)) = S17
  have h := h S17 e18.symm
  have K19 : ∀ b, zs_K S17 b = zs_K S b := zs_Kt e18 (zs_Ksi _ _ _ _) K15
  refine zu_dup d_8000_1649 (zs_cat _) ?_
  refine zu_sipush d_8000_1650 zh_251 ?_
  refine zu_bipush d_8000_1653 zj_100 ?_
  refine zs_stk2 (zs_rfe e2) ?_
  obtain ⟨k20, h⟩ := h
  refine zu_bast_byte (k := 1) d_8000_1655 rfl rfl k4 (zs_Ak K19 k20) ?_
  generalize e22 : zs_si S17 b1 (251 : Int32).toNatClampNeg (vp_nar .byte (100 : Int32)) = S21
  have h := h S21 e22.symm
  have K23 : ∀ b, zs_K S21 b = zs_K S b := zs_Kt e22 (zs_Ksi _ _ _ _) K19
  refine zu_dup d_8000_1656 (zs_cat _) ?_
  refine zu_sipush d_8000_1657 zh_252 ?_
  refine zu_bipush d_8000_1660 zj_32 ?_
  refine zs_stk2 (zs_rfe e2) ?_
  obtain ⟨k24, h⟩ := h
  refine zu_bast_byte (k := 1) d_8000_1662 rfl rfl k4 (zs_Ak K23 k24) ?_
  generalize e26 : zs_si S21 b1 (252 : Int32).toNatClampNeg (vp_nar .byte (32 : Int32)) = S25
  have h := h S25 e26.symm
  have K27 : ∀ b, zs_K S25 b = zs_K S b := zs_Kt e26 (zs_Ksi _ _ _ _) K23
  refine zu_dup d_8000_1663 (zs_cat _) ?_
  refine zu_sipush d_8000_1664 zh_253 ?_
  refine zu_bipush d_8000_1667 zj_99 ?_
  refine zs_stk2 (zs_rfe e2) ?_
  obtain ⟨k28, h⟩ := h
  refine zu_bast_byte (k := 1) d_8000_1669 rfl rfl k4 (zs_Ak K27 k28) ?_
  generalize e30 : zs_si S25 b1 (253 : Int32).toNatClampNeg (vp_nar .byte (99 : Int32)) = S29
  have h := h S29 e30.symm
  have K31 : ∀ b, zs_K S29 b = zs_K S b := zs_Kt e30 (zs_Ksi _ _ _ _) K27
  refine zu_dup d_8000_1670 (zs_cat _) ?_
  refine zu_sipush d_8000_1671 zh_254 ?_
  refine zu_bipush d_8000_1674 zj_104 ?_
  refine zs_stk2 (zs_rfe e2) ?_
  obtain ⟨k32, h⟩ := h
  refine zu_bast_byte (k := 1) d_8000_1676 rfl rfl k4 (zs_Ak K31 k32) ?_
  generalize e34 : zs_si S29 b1 (254 : Int32).toNatClampNeg (vp_nar .byte (104 : Int32)) = S33
  have h := h S33 e34.symm
  have K35 : ∀ b, zs_K S33 b = zs_K S b := zs_Kt e34 (zs_Ksi _ _ _ _) K31
  refine zu_dup d_8000_1677 (zs_cat _) ?_
  refine zu_sipush d_8000_1678 zh_255 ?_
  refine zu_bipush d_8000_1681 zj_114 ?_
  refine zs_stk2 (zs_rfe e2) ?_
  obtain ⟨k36, h⟩ := h
  refine zu_bast_byte (k := 1) d_8000_1683 rfl rfl k4 (zs_Ak K35 k36) ?_
  generalize e38 : zs_si S33 b1 (255 : Int32).toNatClampNeg (vp_nar .byte (114 : Int32)) = S37
  have h := h S37 e38.symm
  have K39 : ∀ b, zs_K S37 b = zs_K S b := zs_Kt e38 (zs_Ksi _ _ _ _) K35
  refine zu_dup d_8000_1684 (zs_cat _) ?_
  refine zu_sipush d_8000_1685 zh_256 ?_
  refine zu_bipush d_8000_1688 zj_32 ?_
  refine zs_stk2 (zs_rfe e2) ?_
  obtain ⟨k40, h⟩ := h
  refine zu_bast_byte (k := 1) d_8000_1690 rfl rfl k4 (zs_Ak K39 k40) ?_
  generalize e42 : zs_si S37 b1 (256 : Int32).toNatClampNeg (vp_nar .byte (32 : Int32)) = S41
  have h := h S41 e42.symm
  have K43 : ∀ b, zs_K S41 b = zs_K S b := zs_Kt e42 (zs_Ksi _ _ _ _) K39
  exact (u_X9_init_1691 hB h).weak ⟨rfl, trivial⟩
def w_X9_init_1551 (X : zs_X) (d : Nat) (p0 : Nat) (q0 : Option Nat) (q1 : Option Nat) (S : zs_T) (Q : zs_Q) : Prop :=
  (∃ b1, q1 = some b1 ∧ zs_A S b1 1 (237 : Int32) ∧ ab_n0 X.1 ≤ b1 ∧ ∀ S5, S5 = zs_si S b1 (237 : Int32).toNatClampNeg (vp_nar .byte (97 : Int32)) → zs_A S b1 1 (238 : Int32) ∧ ∀ S9, S9 = zs_si S5 b1 (238 : Int32).toNatClampNeg (vp_nar .byte (98 : Int32)) → zs_A S b1 1 (239 : Int32) ∧ ∀ S13, S13 = zs_si S9 b1 (239 : Int32).toNatClampNeg (vp_nar .byte (115 : Int32)) → zs_A S b1 1 (240 : Int32) ∧ ∀ S17, S17 = zs_si S13 b1 (240 : Int32).toNatClampNeg (vp_nar .byte (32 : Int32)) → zs_A S b1 1 (241 : Int32) ∧ ∀ S21, S21 = zs_si S17 b1 (241 : Int32).toNatClampNeg (vp_nar .byte (115 : Int32)) → zs_A S b1 1 (242 : Int32) ∧ ∀ S25, S25 = zs_si S21 b1 (242 : Int32).toNatClampNeg (vp_nar .byte (113 : Int32)) → zs_A S b1 1 (243 : Int32) ∧ ∀ S29, S29 = zs_si S25 b1 (243 : Int32).toNatClampNeg (vp_nar .byte (114 : Int32)) → zs_A S b1 1 (244 : Int32) ∧ ∀ S33, S33 = zs_si S29 b1 (244 : Int32).toNatClampNeg (vp_nar .byte (32 : Int32)) → zs_A S b1 1 (245 : Int32) ∧ ∀ S37, S37 = zs_si S33 b1 (245 : Int32).toNatClampNeg (vp_nar .byte (111 : Int32)) → zs_A S b1 1 (246 : Int32) ∧ ∀ S41, S41 = zs_si S37 b1 (246 : Int32).toNatClampNeg (vp_nar .byte (100 : Int32)) → w_X9_init_1621 X d p0 q0 q1 S41 Q)
theorem u_X9_init_1551 {σ : Nat → Nat} {n0 : Nat} {bf : ab_B} {d : Nat} {p0 : Nat} {q0 : Option Nat} {q1 : Option Nat} {S : zs_T} {Q : zs_Q} (hB : zt_B bf) (h : w_X9_init_1551 (zx σ n0 bf) d p0 q0 q1 S Q) : zs_U (zx σ n0 bf) d 8000 1551 [(0, .ref p0)] [va_rf q1, va_rf q0] S Q := by
  unfold w_X9_init_1551 at h
  refine zu_dup d_8000_1551 (zs_cat _) ?_
  refine zu_sipush d_8000_1552 zh_237 ?_
  refine zu_bipush d_8000_1555 zj_97 ?_
  obtain ⟨b1, e2, h⟩ := h
  refine zs_stk2 (zs_rfe e2) ?_
  obtain ⟨k3, h⟩ := h
  obtain ⟨k4, h⟩ := h
  refine zu_bast_byte (k := 1) d_8000_1557 rfl rfl k4 k3 ?_
  generalize e6 : zs_si S b1 (237 : Int32).toNatClampNeg (vp_nar .byte (97 : Int32)) = S5
  have h := h S5 e6.symm
  have K7 : ∀ b, zs_K S5 b = zs_K S b := zs_Kt e6 (zs_Ksi _ _ _ _) (fun _ => rfl)
  refine zu_dup d_8000_1558 (zs_cat _) ?_
  refine zu_sipush d_8000_1559 zh_238 ?_
  refine zu_bipush d_8000_1562 zj_98 ?_
  refine zs_stk2 (zs_rfe e2) ?_
  obtain ⟨k8, h⟩ := h
  refine zu_bast_byte (k := 1) d_8000_1564 rfl rfl k4 (zs_Ak K7 k8) ?_
  generalize e10 : zs_si S5 b1 (238 : Int32).toNatClampNeg (vp_nar .byte (98 : Int32)) = S9
  have h := h S9 e10.symm
  have K11 : ∀ b, zs_K S9 b = zs_K S b := zs_Kt e10 (zs_Ksi _ _ _ _) K7
  refine zu_dup d_8000_1565 (zs_cat _) ?_
  refine zu_sipush d_8000_1566 zh_239 ?_
  refine zu_bipush d_8000_1569 zj_115 ?_
  refine zs_stk2 (zs_rfe e2) ?_
  obtain ⟨k12, h⟩ := h
  refine zu_bast_byte (k := 1) d_8000_1571 rfl rfl k4 (zs_Ak K11 k12) ?_
  generalize e14 : zs_si S9 b1 (239 : Int32).toNatClampNeg (vp_nar .byte (115 : Int32)) = S13
  have h := h S13 e14.symm
  have K15 : ∀ b, zs_K S13 b = zs_K S b := zs_Kt e14 (zs_Ksi _ _ _ _) K11
  refine zu_dup d_8000_1572 (zs_cat _) ?_
  refine zu_sipush d_8000_1573 zh_240 ?_
  refine zu_bipush d_8000_1576 zj_32 ?_
  refine zs_stk2 (zs_rfe e2) ?_
  obtain ⟨k16, h⟩ := h
  refine zu_bast_byte (k := 1) d_8000_1578 rfl rfl k4 (zs_Ak K15 k16) ?_
  generalize e18 : zs_si S13 b1 (240 : Int32).toNatClampNeg (vp_nar .byte (32 : Int32)) = S17
  have h := h S17 e18.symm
  have K19 : ∀ b, zs_K S17 b = zs_K S b := zs_Kt e18 (zs_Ksi _ _ _ _) K15
  refine zu_dup d_8000_1579 (zs_cat _) ?_
  refine zu_sipush d_8000_1580 zh_241 ?_
  refine zu_bipush d_8000_1583 zj_115 ?_
  refine zs_stk2 (zs_rfe e2) ?_
  obtain ⟨k20, h⟩ := h
  refine zu_bast_byte (k := 1) d_8000_1585 rfl rfl k4 (zs_Ak K19 k20) ?_
  generalize e22 : zs_si S17 b1 (241 : Int32).toNatClampNeg (vp_nar .byte (115 : Int32)) = S21
  have h := h S21 e22.symm
  have K23 : ∀ b, zs_K S21 b = zs_K S b := zs_Kt e22 (zs_Ksi _ _ _ _) K19
  refine zu_dup d_8000_1586 (zs_cat _) ?_
  refine zu_sipush d_8000_1587 zh_242 ?_
  refine zu_bipush d_8000_1590 zj_113 ?_
  refine zs_stk2 (zs_rfe e2) ?_
  obtain ⟨k24, h⟩ := h
  refine zu_bast_byte (k := 1) d_8000_1592 rfl rfl k4 (zs_Ak K23 k24) ?_
  generalize e26 : zs_si S21 b1 (242 : Int32).toNatClampNeg (vp_nar .byte (113 : Int32)) = S25
  have h := h S25 e26.symm
  have K27 : ∀ b, zs_K S25 b = zs_K S b := zs_Kt e26 (zs_Ksi _ _ _ _) K23
  refine zu_dup d_8000_1593 (zs_cat _) ?_
  refine zu_sipush d_8000_1594 zh_243 ?_
  refine zu_bipush d_8000_1597 zj_114 ?_
  refine zs_stk2 (zs_rfe e2) ?_
  obtain ⟨k28, h⟩ := h
  refine zu_bast_byte (k := 1) d_8000_1599 rfl rfl k4 (zs_Ak K27 k28) ?_
  generalize e30 : zs_si S25 b1 (243 : Int32).toNatClampNeg (vp_nar .byte (114 : Int32)) = S29
  have h := h S29 e30.symm
  have K31 : ∀ b, zs_K S29 b = zs_K S b := zs_Kt e30 (zs_Ksi _ _ _ _) K27
  refine zu_dup d_8000_1600 (zs_cat _) ?_
  refine zu_sipush d_8000_1601 zh_244 ?_
  refine zu_bipush d_8000_1604 zj_32 ?_
  refine zs_stk2 (zs_rfe e2) ?_
  obtain ⟨k32, h⟩ := h
  refine zu_bast_byte (k := 1) d_8000_1606 rfl rfl k4 (zs_Ak K31 k32) ?_
  generalize e34 : zs_si S29 b1 (244 : Int32).toNatClampNeg (vp_nar .byte (32 : Int32)) = S33
  have h := h S33 e34.symm
  have K35 : ∀ b, zs_K S33 b = zs_K S b := zs_Kt e34 (zs_Ksi _ _ _ _) K31
  refine zu_dup d_8000_1607 (zs_cat _) ?_
  refine zu_sipush d_8000_1608 zh_245 ?_
  refine zu_bipush d_8000_1611 zj_111 ?_
  refine zs_stk2 (zs_rfe e2) ?_
  obtain ⟨k36, h⟩ := h
  refine zu_bast_byte (k := 1) d_8000_1613 rfl rfl k4 (zs_Ak K35 k36) ?_
  generalize e38 : zs_si S33 b1 (245 : Int32).toNatClampNeg (vp_nar .byte (111 : Int32)) = S37
  have h := h S37 e38.symm
  have K39 : ∀ b, zs_K S37 b = zs_K S b := zs_Kt e38 (zs_Ksi _ _ _ _) K35
  refine zu_dup d_8000_1614 (zs_cat _) ?_
  refine zu_sipush d_8000_1615 zh_246 ?_
  refine zu_bipush d_8000_1618 zj_100 ?_
  refine zs_stk2 (zs_rfe e2) ?_
  obtain ⟨k40, h⟩ := h
  refine zu_bast_byte (k := 1) d_8000_1620 rfl rfl k4 (zs_Ak K39 k40) ?_
  generalize e42 : zs_si S37 b1 (246 : Int32).toNatClampNeg (vp_nar .byte (100 : Int32)) = S41
  have h := h S41 e42.symm
  have K43 : ∀ b, zs_K S41 b = zs_K S b := zs_Kt e42 (zs_Ksi _ _ _ _) K39
  exact (u_X9_init_1621 hB h).weak ⟨rfl, trivial⟩
def w_X9_init_1481 (X : zs_X) (d : Nat) (p0 : Nat) (q0 : Option Nat) (q1 : Option Nat) (S : zs_T) (Q : zs_Q) : Prop :=
  (∃ b1, q1 = some b1 ∧ zs_A S b1 1 (227 : Int32) ∧ ab_n0 X.1 ≤ b1 ∧ ∀ S5, S5 = zs_si S b1 (227 : Int32).toNatClampNeg (vp_nar .byte (115 : Int32)) → zs_A S b1 1 (228 : Int32) ∧ ∀ S9, S9 = zs_si S5 b1 (228 : Int32).toNatClampNeg (vp_nar .byte (101 : Int32)) → zs_A S b1 1 (229 : Int32) ∧ ∀ S13, S13 = zs_si S9 b1 (229 : Int32).toNatClampNeg (vp_nar .byte (32 : Int32)) → zs_A S b1 1 (230 : Int32) ∧ ∀ S17, S17 = zs_si S13 b1 (230 : Int32).toNatClampNeg (vp_nar .byte (109 : Int32)) → zs_A S b1 1 (231 : Int32) ∧ ∀ S21, S21 = zs_si S17 b1 (231 : Int32).toNatClampNeg (vp_nar .byte (97 : Int32)) → zs_A S b1 1 (232 : Int32) ∧ ∀ S25, S25 = zs_si S21 b1 (232 : Int32).toNatClampNeg (vp_nar .byte (120 : Int32)) → zs_A S b1 1 (233 : Int32) ∧ ∀ S29, S29 = zs_si S25 b1 (233 : Int32).toNatClampNeg (vp_nar .byte (105 : Int32)) → zs_A S b1 1 (234 : Int32) ∧ ∀ S33, S33 = zs_si S29 b1 (234 : Int32).toNatClampNeg (vp_nar .byte (110 : Int32)) → zs_A S b1 1 (235 : Int32) ∧ ∀ S37, S37 = zs_si S33 b1 (235 : Int32).toNatClampNeg (vp_nar .byte (116 : Int32)) → zs_A S b1 1 (236 : Int32) ∧ ∀ S41, S41 = zs_si S37 b1 (236 : Int32).toNatClampNeg (vp_nar .byte (32 : Int32)) → w_X9_init_1551 X d p0 q0 q1 S41 Q)
theorem u_X9_init_1481 {σ : Nat → Nat} {n0 : Nat} {bf : ab_B} {d : Nat} {p0 : Nat} {q0 : Option Nat} {q1 : Option Nat} {S : zs_T} {Q : zs_Q} (hB : zt_B bf) (h : w_X9_init_1481 (zx σ n0 bf) d p0 q0 q1 S Q) : zs_U (zx σ n0 bf) d 8000 1481 [(0, .ref p0)] [va_rf q1, va_rf q0] S Q := by
  unfold w_X9_init_1481 at h
  refine zu_dup d_8000_1481 (zs_cat _) ?_
  refine zu_sipush d_8000_1482 zh_227 ?_
  refine zu_bipush d_8000_1485 zj_115 ?_
  obtain ⟨b1, e2, h⟩ := h
  refine zs_stk2 (zs_rfe e2) ?_
  obtain ⟨k3, h⟩ := h
  obtain ⟨k4, h⟩ := h
  refine zu_bast_byte (k := 1) d_8000_1487 rfl rfl k4 k3 ?_
  generalize e6 : zs_si S b1 (227 : Int32).toNatClampNeg (vp_nar .byte (115 : Int32)) = S5
  have h := h S5 e6.symm
  have K7 : ∀ b, zs_K S5 b = zs_K S b := zs_Kt e6 (zs_Ksi _ _ _ _) (fun _ => rfl)
  refine zu_dup d_8000_1488 (zs_cat _) ?_
  refine zu_sipush d_8000_1489 zh_228 ?_
  refine zu_bipush d_8000_1492 zj_101 ?_
  refine zs_stk2 (zs_rfe e2) ?_
  obtain ⟨k8, h⟩ := h
  refine zu_bast_byte (k := 1) d_8000_1494 rfl rfl k4 (zs_Ak K7 k8) ?_
  generalize e10 : zs_si S5 b1 (228 : Int32).toNatClampNeg (vp_nar .byte (101 : Int32)) = S9
  have h := h S9 e10.symm
  have K11 : ∀ b, zs_K S9 b = zs_K S b := zs_Kt e10 (zs_Ksi _ _ _ _) K7
  refine zu_dup d_8000_1495 (zs_cat _) ?_
  refine zu_sipush d_8000_1496 zh_229 ?_
  refine zu_bipush d_8000_1499 zj_32 ?_
  refine zs_stk2 (zs_rfe e2) ?_
  obtain ⟨k12, h⟩ := h
  refine zu_bast_byte (k := 1) d_8000_1501 rfl rfl k4 (zs_Ak K11 k12) ?_
  generalize e14 : zs_si S9 b1 (229 : Int32).toNatClampNeg (vp_nar .byte (32 : Int32)) = S13
  have h := h S13 e14.symm
  have K15 : ∀ b, zs_K S13 b = zs_K S b := zs_Kt e14 (zs_Ksi _ _ _ _) K11
  refine zu_dup d_8000_1502 (zs_cat _) ?_
  refine zu_sipush d_8000_1503 zh_230 ?_
  refine zu_bipush d_8000_1506 zj_109 ?_
  refine zs_stk2 (zs_rfe e2) ?_
  obtain ⟨k16, h⟩ := h
  refine zu_bast_byte (k := 1) d_8000_1508 rfl rfl k4 (zs_Ak K15 k16) ?_
  generalize e18 : zs_si S13 b1 (230 : Int32).toNatClampNeg (vp_nar .byte (109 : Int32)) = S17
  have h := h S17 e18.symm
  have K19 : ∀ b, zs_K S17 b = zs_K S b := zs_Kt e18 (zs_Ksi _ _ _ _) K15
  refine zu_dup d_8000_1509 (zs_cat _) ?_
  refine zu_sipush d_8000_1510 zh_231 ?_
  refine zu_bipush d_8000_1513 zj_97 ?_
  refine zs_stk2 (zs_rfe e2) ?_
  obtain ⟨k20, h⟩ := h
  refine zu_bast_byte (k := 1) d_8000_1515 rfl rfl k4 (zs_Ak K19 k20) ?_
  generalize e22 : zs_si S17 b1 (231 : Int32).toNatClampNeg (vp_nar .byte (97 : Int32)) = S21
  have h := h S21 e22.symm
  have K23 : ∀ b, zs_K S21 b = zs_K S b := zs_Kt e22 (zs_Ksi _ _ _ _) K19
  refine zu_dup d_8000_1516 (zs_cat _) ?_
  refine zu_sipush d_8000_1517 zh_232 ?_
  refine zu_bipush d_8000_1520 zj_120 ?_
  refine zs_stk2 (zs_rfe e2) ?_
  obtain ⟨k24, h⟩ := h
  refine zu_bast_byte (k := 1) d_8000_1522 rfl rfl k4 (zs_Ak K23 k24) ?_
  generalize e26 : zs_si S21 b1 (232 : Int32).toNatClampNeg (vp_nar .byte (120 : Int32)) = S25
  have h := h S25 e26.symm
  have K27 : ∀ b, zs_K S25 b = zs_K S b := zs_Kt e26 (zs_Ksi _ _ _ _) K23
  refine zu_dup d_8000_1523 (zs_cat _) ?_
  refine zu_sipush d_8000_1524 zh_233 ?_
  refine zu_bipush d_8000_1527 zj_105 ?_
  refine zs_stk2 (zs_rfe e2) ?_
  obtain ⟨k28, h⟩ := h
  refine zu_bast_byte (k := 1) d_8000_1529 rfl rfl k4 (zs_Ak K27 k28) ?_
  generalize e30 : zs_si S25 b1 (233 : Int32).toNatClampNeg (vp_nar .byte (105 : Int32)) = S29
  have h := h S29 e30.symm
  have K31 : ∀ b, zs_K S29 b = zs_K S b := zs_Kt e30 (zs_Ksi _ _ _ _) K27
  refine zu_dup d_8000_1530 (zs_cat _) ?_
  refine zu_sipush d_8000_1531 zh_234 ?_
  refine zu_bipush d_8000_1534 zj_110 ?_
  refine zs_stk2 (zs_rfe e2) ?_
  obtain ⟨k32, h⟩ := h
  refine zu_bast_byte (k := 1) d_8000_1536 rfl rfl k4 (zs_Ak K31 k32) ?_
  generalize e34 : zs_si S29 b1 (234 : Int32).toNatClampNeg (vp_nar .byte (110 : Int32)) = S33
  have h := h S33 e34.symm
  have K35 : ∀ b, zs_K S33 b = zs_K S b := zs_Kt e34 (zs_Ksi _ _ _ _) K31
  refine zu_dup d_8000_1537 (zs_cat _) ?_
  refine zu_sipush d_8000_1538 zh_235 ?_
  refine zu_bipush d_8000_1541 zj_116 ?_
  refine zs_stk2 (zs_rfe e2) ?_
  obtain ⟨k36, h⟩ := h
  refine zu_bast_byte (k := 1) d_8000_1543 rfl rfl k4 (zs_Ak K35 k36) ?_
  generalize e38 : zs_si S33 b1 (235 : Int32).toNatClampNeg (vp_nar .byte (116 : Int32)) = S37
  have h := h S37 e38.symm
  have K39 : ∀ b, zs_K S37 b = zs_K S b := zs_Kt e38 (zs_Ksi _ _ _ _) K35
  refine zu_dup d_8000_1544 (zs_cat _) ?_
  refine zu_sipush d_8000_1545 zh_236 ?_
  refine zu_bipush d_8000_1548 zj_32 ?_
  refine zs_stk2 (zs_rfe e2) ?_
  obtain ⟨k40, h⟩ := h
  refine zu_bast_byte (k := 1) d_8000_1550 rfl rfl k4 (zs_Ak K39 k40) ?_
  generalize e42 : zs_si S37 b1 (236 : Int32).toNatClampNeg (vp_nar .byte (32 : Int32)) = S41
  have h := h S41 e42.symm
  have K43 : ∀ b, zs_K S41 b = zs_K S b := zs_Kt e42 (zs_Ksi _ _ _ _) K39
  exact (u_X9_init_1551 hB h).weak ⟨rfl, trivial⟩
def w_X9_init_1411 (X : zs_X) (d : Nat) (p0 : Nat) (q0 : Option Nat) (q1 : Option Nat) (S : zs_T) (Q : zs_Q) : Prop :=
  (∃ b1, q1 = some b1 ∧ zs_A S b1 1 (217 : Int32) ∧ ab_n0 X.1 ≤ b1 ∧ ∀ S5, S5 = zs_si S b1 (217 : Int32).toNatClampNeg (vp_nar .byte (114 : Int32)) → zs_A S b1 1 (218 : Int32) ∧ ∀ S9, S9 = zs_si S5 b1 (218 : Int32).toNatClampNeg (vp_nar .byte (32 : Int32)) → zs_A S b1 1 (219 : Int32) ∧ ∀ S13, S13 = zs_si S9 b1 (219 : Int32).toNatClampNeg (vp_nar .byte (116 : Int32)) → zs_A S b1 1 (220 : Int32) ∧ ∀ S17, S17 = zs_si S13 b1 (220 : Int32).toNatClampNeg (vp_nar .byte (114 : Int32)) → zs_A S b1 1 (221 : Int32) ∧ ∀ S21, S21 = zs_si S17 b1 (221 : Int32).toNatClampNeg (vp_nar .byte (117 : Int32)) → zs_A S b1 1 (222 : Int32) ∧ ∀ S25, S25 = zs_si S21 b1 (222 : Int32).toNatClampNeg (vp_nar .byte (101 : Int32)) → zs_A S b1 1 (223 : Int32) ∧ ∀ S29, S29 = zs_si S25 b1 (223 : Int32).toNatClampNeg (vp_nar .byte (32 : Int32)) → zs_A S b1 1 (224 : Int32) ∧ ∀ S33, S33 = zs_si S29 b1 (224 : Int32).toNatClampNeg (vp_nar .byte (102 : Int32)) → zs_A S b1 1 (225 : Int32) ∧ ∀ S37, S37 = zs_si S33 b1 (225 : Int32).toNatClampNeg (vp_nar .byte (97 : Int32)) → zs_A S b1 1 (226 : Int32) ∧ ∀ S41, S41 = zs_si S37 b1 (226 : Int32).toNatClampNeg (vp_nar .byte (108 : Int32)) → w_X9_init_1481 X d p0 q0 q1 S41 Q)
theorem u_X9_init_1411 {σ : Nat → Nat} {n0 : Nat} {bf : ab_B} {d : Nat} {p0 : Nat} {q0 : Option Nat} {q1 : Option Nat} {S : zs_T} {Q : zs_Q} (hB : zt_B bf) (h : w_X9_init_1411 (zx σ n0 bf) d p0 q0 q1 S Q) : zs_U (zx σ n0 bf) d 8000 1411 [(0, .ref p0)] [va_rf q1, va_rf q0] S Q := by
  unfold w_X9_init_1411 at h
  refine zu_dup d_8000_1411 (zs_cat _) ?_
  refine zu_sipush d_8000_1412 zh_217 ?_
  refine zu_bipush d_8000_1415 zj_114 ?_
  obtain ⟨b1, e2, h⟩ := h
  refine zs_stk2 (zs_rfe e2) ?_
  obtain ⟨k3, h⟩ := h
  obtain ⟨k4, h⟩ := h
  refine zu_bast_byte (k := 1) d_8000_1417 rfl rfl k4 k3 ?_
  generalize e6 : zs_si S b1 (217 : Int32).toNatClampNeg (vp_nar .byte (114 : Int32)) = S5
  have h := h S5 e6.symm
  have K7 : ∀ b, zs_K S5 b = zs_K S b := zs_Kt e6 (zs_Ksi _ _ _ _) (fun _ => rfl)
  refine zu_dup d_8000_1418 (zs_cat _) ?_
  refine zu_sipush d_8000_1419 zh_218 ?_
  refine zu_bipush d_8000_1422 zj_32 ?_
  refine zs_stk2 (zs_rfe e2) ?_
  obtain ⟨k8, h⟩ := h
  refine zu_bast_byte (k := 1) d_8000_1424 rfl rfl k4 (zs_Ak K7 k8) ?_
  generalize e10 : zs_si S5 b1 (218 : Int32).toNatClampNeg (vp_nar .byte (32 : Int32)) = S9
  have h := h S9 e10.symm
  have K11 : ∀ b, zs_K S9 b = zs_K S b := zs_Kt e10 (zs_Ksi _ _ _ _) K7
  refine zu_dup d_8000_1425 (zs_cat _) ?_
  refine zu_sipush d_8000_1426 zh_219 ?_
  refine zu_bipush d_8000_1429 zj_116 ?_
  refine zs_stk2 (zs_rfe e2) ?_
  obtain ⟨k12, h⟩ := h
  refine zu_bast_byte (k := 1) d_8000_1431 rfl rfl k4 (zs_Ak K11 k12) ?_
  generalize e14 : zs_si S9 b1 (219 : Int32).toNatClampNeg (vp_nar .byte (116 : Int32)) = S13
  have h := h S13 e14.symm
  have K15 : ∀ b, zs_K S13 b = zs_K S b := zs_Kt e14 (zs_Ksi _ _ _ _) K11
  refine zu_dup d_8000_1432 (zs_cat _) ?_
  refine zu_sipush d_8000_1433 zh_220 ?_
  refine zu_bipush d_8000_1436 zj_114 ?_
  refine zs_stk2 (zs_rfe e2) ?_
  obtain ⟨k16, h⟩ := h
  refine zu_bast_byte (k := 1) d_8000_1438 rfl rfl k4 (zs_Ak K15 k16) ?_
  generalize e18 : zs_si S13 b1 (220 : Int32).toNatClampNeg (vp_nar .byte (114 : Int32)) = S17
  have h := h S17 e18.symm
  have K19 : ∀ b, zs_K S17 b = zs_K S b := zs_Kt e18 (zs_Ksi _ _ _ _) K15
  refine zu_dup d_8000_1439 (zs_cat _) ?_
  refine zu_sipush d_8000_1440 zh_221 ?_
  refine zu_bipush d_8000_1443 zj_117 ?_
  refine zs_stk2 (zs_rfe e2) ?_
  obtain ⟨k20, h⟩ := h
  refine zu_bast_byte (k := 1) d_8000_1445 rfl rfl k4 (zs_Ak K19 k20) ?_
  generalize e22 : zs_si S17 b1 (221 : Int32).toNatClampNeg (vp_nar .byte (117 : Int32)) = S21
  have h := h S21 e22.symm
  have K23 : ∀ b, zs_K S21 b = zs_K S b := zs_Kt e22 (zs_Ksi _ _ _ _) K19
  refine zu_dup d_8000_1446 (zs_cat _) ?_
  refine zu_sipush d_8000_1447 zh_222 ?_
  refine zu_bipush d_8000_1450 zj_101 ?_
  refine zs_stk2 (zs_rfe e2) ?_
  obtain ⟨k24, h⟩ := h
  refine zu_bast_byte (k := 1) d_8000_1452 rfl rfl k4 (zs_Ak K23 k24) ?_
  generalize e26 : zs_si S21 b1 (222 : Int32).toNatClampNeg (vp_nar .byte (101 : Int32)) = S25
  have h := h S25 e26.symm
  have K27 : ∀ b, zs_K S25 b = zs_K S b := zs_Kt e26 (zs_Ksi _ _ _ _) K23
  refine zu_dup d_8000_1453 (zs_cat _) ?_
  refine zu_sipush d_8000_1454 zh_223 ?_
  refine zu_bipush d_8000_1457 zj_32 ?_
  refine zs_stk2 (zs_rfe e2) ?_
  obtain ⟨k28, h⟩ := h
  refine zu_bast_byte (k := 1) d_8000_1459 rfl rfl k4 (zs_Ak K27 k28) ?_
  generalize e30 : zs_si S25 b1 (223 : Int32).toNatClampNeg (vp_nar .byte (32 : Int32)) = S29
  have h := h S29 e30.symm
  have K31 : ∀ b, zs_K S29 b = zs_K S b := zs_Kt e30 (zs_Ksi _ _ _ _) K27
  refine zu_dup d_8000_1460 (zs_cat _) ?_
  refine zu_sipush d_8000_1461 zh_224 ?_
  refine zu_bipush d_8000_1464 zj_102 ?_
  refine zs_stk2 (zs_rfe e2) ?_
  obtain ⟨k32, h⟩ := h
  refine zu_bast_byte (k := 1) d_8000_1466 rfl rfl k4 (zs_Ak K31 k32) ?_
  generalize e34 : zs_si S29 b1 (224 : Int32).toNatClampNeg (vp_nar .byte (102 : Int32)) = S33
  have h := h S33 e34.symm
  have K35 : ∀ b, zs_K S33 b = zs_K S b := zs_Kt e34 (zs_Ksi _ _ _ _) K31
  refine zu_dup d_8000_1467 (zs_cat _) ?_
  refine zu_sipush d_8000_1468 zh_225 ?_
  refine zu_bipush d_8000_1471 zj_97 ?_
  refine zs_stk2 (zs_rfe e2) ?_
  obtain ⟨k36, h⟩ := h
  refine zu_bast_byte (k := 1) d_8000_1473 rfl rfl k4 (zs_Ak K35 k36) ?_
  generalize e38 : zs_si S33 b1 (225 : Int32).toNatClampNeg (vp_nar .byte (97 : Int32)) = S37
  have h := h S37 e38.symm
  have K39 : ∀ b, zs_K S37 b = zs_K S b := zs_Kt e38 (zs_Ksi _ _ _ _) K35
  refine zu_dup d_8000_1474 (zs_cat _) ?_
  refine zu_sipush d_8000_1475 zh_226 ?_
  refine zu_bipush d_8000_1478 zj_108 ?_
  refine zs_stk2 (zs_rfe e2) ?_
  obtain ⟨k40, h⟩ := h
  refine zu_bast_byte (k := 1) d_8000_1480 rfl rfl k4 (zs_Ak K39 k40) ?_
  generalize e42 : zs_si S37 b1 (226 : Int32).toNatClampNeg (vp_nar .byte (108 : Int32)) = S41
  have h := h S41 e42.symm
  have K43 : ∀ b, zs_K S41 b = zs_K S b := zs_Kt e42 (zs_Ksi _ _ _ _) K39
  exact (u_X9_init_1481 hB h).weak ⟨rfl, trivial⟩
def w_X9_init_1341 (X : zs_X) (d : Nat) (p0 : Nat) (q0 : Option Nat) (q1 : Option Nat) (S : zs_T) (Q : zs_Q) : Prop :=
  (∃ b1, q1 = some b1 ∧ zs_A S b1 1 (207 : Int32) ∧ ab_n0 X.1 ≤ b1 ∧ ∀ S5, S5 = zs_si S b1 (207 : Int32).toNatClampNeg (vp_nar .byte (111 : Int32)) → zs_A S b1 1 (208 : Int32) ∧ ∀ S9, S9 = zs_si S5 b1 (208 : Int32).toNatClampNeg (vp_nar .byte (111 : Int32)) → zs_A S b1 1 (209 : Int32) ∧ ∀ S13, S13 = zs_si S9 b1 (209 : Int32).toNatClampNeg (vp_nar .byte (108 : Int32)) → zs_A S b1 1 (210 : Int32) ∧ ∀ S17, S17 = zs_si S13 b1 (210 : Int32).toNatClampNeg (vp_nar .byte (101 : Int32)) → zs_A S b1 1 (211 : Int32) ∧ ∀ S21, S21 = zs_si S17 b1 (211 : Int32).toNatClampNeg (vp_nar .byte (97 : Int32)) → zs_A S b1 1 (212 : Int32) ∧ ∀ S25, S25 = zs_si S21 b1 (212 : Int32).toNatClampNeg (vp_nar .byte (110 : Int32)) → zs_A S b1 1 (213 : Int32) ∧ ∀ S29, S29 = zs_si S25 b1 (213 : Int32).toNatClampNeg (vp_nar .byte (32 : Int32)) → zs_A S b1 1 (214 : Int32) ∧ ∀ S33, S33 = zs_si S29 b1 (214 : Int32).toNatClampNeg (vp_nar .byte (99 : Int32)) → zs_A S b1 1 (215 : Int32) ∧ ∀ S37, S37 = zs_si S33 b1 (215 : Int32).toNatClampNeg (vp_nar .byte (104 : Int32)) → zs_A S b1 1 (216 : Int32) ∧ ∀ S41, S41 = zs_si S37 b1 (216 : Int32).toNatClampNeg (vp_nar .byte (97 : Int32)) → w_X9_init_1411 X d p0 q0 q1 S41 Q)
theorem u_X9_init_1341 {σ : Nat → Nat} {n0 : Nat} {bf : ab_B} {d : Nat} {p0 : Nat} {q0 : Option Nat} {q1 : Option Nat} {S : zs_T} {Q : zs_Q} (hB : zt_B bf) (h : w_X9_init_1341 (zx σ n0 bf) d p0 q0 q1 S Q) : zs_U (zx σ n0 bf) d 8000 1341 [(0, .ref p0)] [va_rf q1, va_rf q0] S Q := by
  unfold w_X9_init_1341 at h
  refine zu_dup d_8000_1341 (zs_cat _) ?_
  refine zu_sipush d_8000_1342 zh_207 ?_
  refine zu_bipush d_8000_1345 zj_111 ?_
  obtain ⟨b1, e2, h⟩ := h
  refine zs_stk2 (zs_rfe e2) ?_
  obtain ⟨k3, h⟩ := h
  obtain ⟨k4, h⟩ := h
  refine zu_bast_byte (k := 1) d_8000_1347 rfl rfl k4 k3 ?_
  generalize e6 : zs_si S b1 (207 : Int32).toNatClampNeg (vp_nar .byte (111 : Int32)) = S5
  have h := h S5 e6.symm
  have K7 : ∀ b, zs_K S5 b = zs_K S b := zs_Kt e6 (zs_Ksi _ _ _ _) (fun _ => rfl)
  refine zu_dup d_8000_1348 (zs_cat _) ?_
  refine zu_sipush d_8000_1349 zh_208 ?_
  refine zu_bipush d_8000_1352 zj_111 ?_
  refine zs_stk2 (zs_rfe e2) ?_
  obtain ⟨k8, h⟩ := h
  refine zu_bast_byte (k := 1) d_8000_1354 rfl rfl k4 (zs_Ak K7 k8) ?_
  generalize e10 : zs_si S5 b1 (208 : Int32).toNatClampNeg (vp_nar .byte (111 : Int32)) = S9
  have h := h S9 e10.symm
  have K11 : ∀ b, zs_K S9 b = zs_K S b := zs_Kt e10 (zs_Ksi _ _ _ _) K7
  refine zu_dup d_8000_1355 (zs_cat _) ?_
  refine zu_sipush d_8000_1356 zh_209 ?_
  refine zu_bipush d_8000_1359 zj_108 ?_
  refine zs_stk2 (zs_rfe e2) ?_
  obtain ⟨k12, h⟩ := h
  refine zu_bast_byte (k := 1) d_8000_1361 rfl rfl k4 (zs_Ak K11 k12) ?_
  generalize e14 : zs_si S9 b1 (209 : Int32).toNatClampNeg (vp_nar .byte (108 : Int32)) = S13
  have h := h S13 e14.symm
  have K15 : ∀ b, zs_K S13 b = zs_K S b := zs_Kt e14 (zs_Ksi _ _ _ _) K11
  refine zu_dup d_8000_1362 (zs_cat _) ?_
  refine zu_sipush d_8000_1363 zh_210 ?_
  refine zu_bipush d_8000_1366 zj_101 ?_
  refine zs_stk2 (zs_rfe e2) ?_
  obtain ⟨k16, h⟩ := h
  refine zu_bast_byte (k := 1) d_8000_1368 rfl rfl k4 (zs_Ak K15 k16) ?_
  generalize e18 : zs_si S13 b1 (210 : Int32).toNatClampNeg (vp_nar .byte (101 : Int32)) = S17
  have h := h S17 e18.symm
  have K19 : ∀ b, zs_K S17 b = zs_K S b := zs_Kt e18 (zs_Ksi _ _ _ _) K15
  refine zu_dup d_8000_1369 (zs_cat _) ?_
  refine zu_sipush d_8000_1370 zh_211 ?_
  refine zu_bipush d_8000_1373 zj_97 ?_
  refine zs_stk2 (zs_rfe e2) ?_
  obtain ⟨k20, h⟩ := h
  refine zu_bast_byte (k := 1) d_8000_1375 rfl rfl k4 (zs_Ak K19 k20) ?_
  generalize e22 : zs_si S17 b1 (211 : Int32).toNatClampNeg (vp_nar .byte (97 : Int32)) = S21
  have h := h S21 e22.symm
  have K23 : ∀ b, zs_K S21 b = zs_K S b := zs_Kt e22 (zs_Ksi _ _ _ _) K19
  refine zu_dup d_8000_1376 (zs_cat _) ?_
  refine zu_sipush d_8000_1377 zh_212 ?_
  refine zu_bipush d_8000_1380 zj_110 ?_
  refine zs_stk2 (zs_rfe e2) ?_
  obtain ⟨k24, h⟩ := h
  refine zu_bast_byte (k := 1) d_8000_1382 rfl rfl k4 (zs_Ak K23 k24) ?_
  generalize e26 : zs_si S21 b1 (212 : Int32).toNatClampNeg (vp_nar .byte (110 : Int32)) = S25
  have h := h S25 e26.symm
  have K27 : ∀ b, zs_K S25 b = zs_K S b := zs_Kt e26 (zs_Ksi _ _ _ _) K23
  refine zu_dup d_8000_1383 (zs_cat _) ?_
  refine zu_sipush d_8000_1384 zh_213 ?_
  refine zu_bipush d_8000_1387 zj_32 ?_
  refine zs_stk2 (zs_rfe e2) ?_
  obtain ⟨k28, h⟩ := h
  refine zu_bast_byte (k := 1) d_8000_1389 rfl rfl k4 (zs_Ak K27 k28) ?_
  generalize e30 : zs_si S25 b1 (213 : Int32).toNatClampNeg (vp_nar .byte (32 : Int32)) = S29
  have h := h S29 e30.symm
  have K31 : ∀ b, zs_K S29 b = zs_K S b := zs_Kt e30 (zs_Ksi _ _ _ _) K27
  refine zu_dup d_8000_1390 (zs_cat _) ?_
  refine zu_sipush d_8000_1391 zh_214 ?_
  refine zu_bipush d_8000_1394 zj_99 ?_
  refine zs_stk2 (zs_rfe e2) ?_
  obtain ⟨k32, h⟩ := h
  refine zu_bast_byte (k := 1) d_8000_1396 rfl rfl k4 (zs_Ak K31 k32) ?_
  generalize e34 : zs_si S29 b1 (214 : Int32).toNatClampNeg (vp_nar .byte (99 : Int32)) = S33
  have h := h S33 e34.symm
  have K35 : ∀ b, zs_K S33 b = zs_K S b := zs_Kt e34 (zs_Ksi _ _ _ _) K31
  refine zu_dup d_8000_1397 (zs_cat _) ?_
  refine zu_sipush d_8000_1398 zh_215 ?_
  refine zu_bipush d_8000_1401 zj_104 ?_
  refine zs_stk2 (zs_rfe e2) ?_
  obtain ⟨k36, h⟩ := h
  refine zu_bast_byte (k := 1) d_8000_1403 rfl rfl k4 (zs_Ak K35 k36) ?_
  generalize e38 : zs_si S33 b1 (215 : Int32).toNatClampNeg (vp_nar .byte (104 : Int32)) = S37
  have h := h S37 e38.symm
  have K39 : ∀ b, zs_K S37 b = zs_K S b := zs_Kt e38 (zs_Ksi _ _ _ _) K35
  refine zu_dup d_8000_1404 (zs_cat _) ?_
  refine zu_sipush d_8000_1405 zh_216 ?_
  refine zu_bipush d_8000_1408 zj_97 ?_
  refine zs_stk2 (zs_rfe e2) ?_
  obtain ⟨k40, h⟩ := h
  refine zu_bast_byte (k := 1) d_8000_1410 rfl rfl k4 (zs_Ak K39 k40) ?_
  generalize e42 : zs_si S37 b1 (216 : Int32).toNatClampNeg (vp_nar .byte (97 : Int32)) = S41
  have h := h S41 e42.symm
  have K43 : ∀ b, zs_K S41 b = zs_K S b := zs_Kt e42 (zs_Ksi _ _ _ _) K39
  exact (u_X9_init_1411 hB h).weak ⟨rfl, trivial⟩
def w_X9_init_1271 (X : zs_X) (d : Nat) (p0 : Nat) (q0 : Option Nat) (q1 : Option Nat) (S : zs_T) (Q : zs_Q) : Prop :=
  (∃ b1, q1 = some b1 ∧ zs_A S b1 1 (197 : Int32) ∧ ab_n0 X.1 ≤ b1 ∧ ∀ S5, S5 = zs_si S b1 (197 : Int32).toNatClampNeg (vp_nar .byte (32 : Int32)) → zs_A S b1 1 (198 : Int32) ∧ ∀ S9, S9 = zs_si S5 b1 (198 : Int32).toNatClampNeg (vp_nar .byte (105 : Int32)) → zs_A S b1 1 (199 : Int32) ∧ ∀ S13, S13 = zs_si S9 b1 (199 : Int32).toNatClampNeg (vp_nar .byte (110 : Int32)) → zs_A S b1 1 (200 : Int32) ∧ ∀ S17, S17 = zs_si S13 b1 (200 : Int32).toNatClampNeg (vp_nar .byte (116 : Int32)) → zs_A S b1 1 (201 : Int32) ∧ ∀ S21, S21 = zs_si S17 b1 (201 : Int32).toNatClampNeg (vp_nar .byte (101 : Int32)) → zs_A S b1 1 (202 : Int32) ∧ ∀ S25, S25 = zs_si S21 b1 (202 : Int32).toNatClampNeg (vp_nar .byte (103 : Int32)) → zs_A S b1 1 (203 : Int32) ∧ ∀ S29, S29 = zs_si S25 b1 (203 : Int32).toNatClampNeg (vp_nar .byte (101 : Int32)) → zs_A S b1 1 (204 : Int32) ∧ ∀ S33, S33 = zs_si S29 b1 (204 : Int32).toNatClampNeg (vp_nar .byte (114 : Int32)) → zs_A S b1 1 (205 : Int32) ∧ ∀ S37, S37 = zs_si S33 b1 (205 : Int32).toNatClampNeg (vp_nar .byte (32 : Int32)) → zs_A S b1 1 (206 : Int32) ∧ ∀ S41, S41 = zs_si S37 b1 (206 : Int32).toNatClampNeg (vp_nar .byte (98 : Int32)) → w_X9_init_1341 X d p0 q0 q1 S41 Q)
theorem u_X9_init_1271 {σ : Nat → Nat} {n0 : Nat} {bf : ab_B} {d : Nat} {p0 : Nat} {q0 : Option Nat} {q1 : Option Nat} {S : zs_T} {Q : zs_Q} (hB : zt_B bf) (h : w_X9_init_1271 (zx σ n0 bf) d p0 q0 q1 S Q) : zs_U (zx σ n0 bf) d 8000 1271 [(0, .ref p0)] [va_rf q1, va_rf q0] S Q := by
  unfold w_X9_init_1271 at h
  refine zu_dup d_8000_1271 (zs_cat _) ?_
  refine zu_sipush d_8000_1272 zh_197 ?_
  refine zu_bipush d_8000_1275 zj_32 ?_
  obtain ⟨b1, e2, h⟩ := h
  refine zs_stk2 (zs_rfe e2) ?_
  obtain ⟨k3, h⟩ := h
  obtain ⟨k4, h⟩ := h
  refine zu_bast_byte (k := 1) d_8000_1277 rfl rfl k4 k3 ?_
  generalize e6 : zs_si S b1 (197 : Int32).toNatClampNeg (vp_nar .byte (32 : Int32)) = S5
  have h := h S5 e6.symm
  have K7 : ∀ b, zs_K S5 b = zs_K S b := zs_Kt e6 (zs_Ksi _ _ _ _) (fun _ => rfl)
  refine zu_dup d_8000_1278 (zs_cat _) ?_
  refine zu_sipush d_8000_1279 zh_198 ?_
  refine zu_bipush d_8000_1282 zj_105 ?_
  refine zs_stk2 (zs_rfe e2) ?_
  obtain ⟨k8, h⟩ := h
  refine zu_bast_byte (k := 1) d_8000_1284 rfl rfl k4 (zs_Ak K7 k8) ?_
  generalize e10 : zs_si S5 b1 (198 : Int32).toNatClampNeg (vp_nar .byte (105 : Int32)) = S9
  have h := h S9 e10.symm
  have K11 : ∀ b, zs_K S9 b = zs_K S b := zs_Kt e10 (zs_Ksi _ _ _ _) K7
  refine zu_dup d_8000_1285 (zs_cat _) ?_
  refine zu_sipush d_8000_1286 zh_199 ?_
  refine zu_bipush d_8000_1289 zj_110 ?_
  refine zs_stk2 (zs_rfe e2) ?_
  obtain ⟨k12, h⟩ := h
  refine zu_bast_byte (k := 1) d_8000_1291 rfl rfl k4 (zs_Ak K11 k12) ?_
  generalize e14 : zs_si S9 b1 (199 : Int32).toNatClampNeg (vp_nar .byte (110 : Int32)) = S13
  have h := h S13 e14.symm
  have K15 : ∀ b, zs_K S13 b = zs_K S b := zs_Kt e14 (zs_Ksi _ _ _ _) K11
  refine zu_dup d_8000_1292 (zs_cat _) ?_
  refine zu_sipush d_8000_1293 zh_200 ?_
  refine zu_bipush d_8000_1296 zj_116 ?_
  refine zs_stk2 (zs_rfe e2) ?_
  obtain ⟨k16, h⟩ := h
  refine zu_bast_byte (k := 1) d_8000_1298 rfl rfl k4 (zs_Ak K15 k16) ?_
  generalize e18 : zs_si S13 b1 (200 : Int32).toNatClampNeg (vp_nar .byte (116 : Int32)) = S17
  have h := h S17 e18.symm
  have K19 : ∀ b, zs_K S17 b = zs_K S b := zs_Kt e18 (zs_Ksi _ _ _ _) K15
  refine zu_dup d_8000_1299 (zs_cat _) ?_
  refine zu_sipush d_8000_1300 zh_201 ?_
  refine zu_bipush d_8000_1303 zj_101 ?_
  refine zs_stk2 (zs_rfe e2) ?_
  obtain ⟨k20, h⟩ := h
  refine zu_bast_byte (k := 1) d_8000_1305 rfl rfl k4 (zs_Ak K19 k20) ?_
  generalize e22 : zs_si S17 b1 (201 : Int32).toNatClampNeg (vp_nar .byte (101 : Int32)) = S21
  have h := h S21 e22.symm
  have K23 : ∀ b, zs_K S21 b = zs_K S b := zs_Kt e22 (zs_Ksi _ _ _ _) K19
  refine zu_dup d_8000_1306 (zs_cat _) ?_
  refine zu_sipush d_8000_1307 zh_202 ?_
  refine zu_bipush d_8000_1310 zj_103 ?_
  refine zs_stk2 (zs_rfe e2) ?_
  obtain ⟨k24, h⟩ := h
  refine zu_bast_byte (k := 1) d_8000_1312 rfl rfl k4 (zs_Ak K23 k24) ?_
  generalize e26 : zs_si S21 b1 (202 : Int32).toNatClampNeg (vp_nar .byte (103 : Int32)) = S25
  have h := h S25 e26.symm
  have K27 : ∀ b, zs_K S25 b = zs_K S b := zs_Kt e26 (zs_Ksi _ _ _ _) K23
  refine zu_dup d_8000_1313 (zs_cat _) ?_
  refine zu_sipush d_8000_1314 zh_203 ?_
  refine zu_bipush d_8000_1317 zj_101 ?_
  refine zs_stk2 (zs_rfe e2) ?_
  obtain ⟨k28, h⟩ := h
  refine zu_bast_byte (k := 1) d_8000_1319 rfl rfl k4 (zs_Ak K27 k28) ?_
  generalize e30 : zs_si S25 b1 (203 : Int32).toNatClampNeg (vp_nar .byte (101 : Int32)) = S29
  have h := h S29 e30.symm
  have K31 : ∀ b, zs_K S29 b = zs_K S b := zs_Kt e30 (zs_Ksi _ _ _ _) K27
  refine zu_dup d_8000_1320 (zs_cat _) ?_
  refine zu_sipush d_8000_1321 zh_204 ?_
  refine zu_bipush d_8000_1324 zj_114 ?_
  refine zs_stk2 (zs_rfe e2) ?_
  obtain ⟨k32, h⟩ := h
  refine zu_bast_byte (k := 1) d_8000_1326 rfl rfl k4 (zs_Ak K31 k32) ?_
  generalize e34 : zs_si S29 b1 (204 : Int32).toNatClampNeg (vp_nar .byte (114 : Int32)) = S33
  have h := h S33 e34.symm
  have K35 : ∀ b, zs_K S33 b = zs_K S b := zs_Kt e34 (zs_Ksi _ _ _ _) K31
  refine zu_dup d_8000_1327 (zs_cat _) ?_
  refine zu_sipush d_8000_1328 zh_205 ?_
  refine zu_bipush d_8000_1331 zj_32 ?_
  refine zs_stk2 (zs_rfe e2) ?_
  obtain ⟨k36, h⟩ := h
  refine zu_bast_byte (k := 1) d_8000_1333 rfl rfl k4 (zs_Ak K35 k36) ?_
  generalize e38 : zs_si S33 b1 (205 : Int32).toNatClampNeg (vp_nar .byte (32 : Int32)) = S37
  have h := h S37 e38.symm
  have K39 : ∀ b, zs_K S37 b = zs_K S b := zs_Kt e38 (zs_Ksi _ _ _ _) K35
  refine zu_dup d_8000_1334 (zs_cat _) ?_
  refine zu_sipush d_8000_1335 zh_206 ?_
  refine zu_bipush d_8000_1338 zj_98 ?_
  refine zs_stk2 (zs_rfe e2) ?_
  obtain ⟨k40, h⟩ := h
  refine zu_bast_byte (k := 1) d_8000_1340 rfl rfl k4 (zs_Ak K39 k40) ?_
  generalize e42 : zs_si S37 b1 (206 : Int32).toNatClampNeg (vp_nar .byte (98 : Int32)) = S41
  have h := h S41 e42.symm
  have K43 : ∀ b, zs_K S41 b = zs_K S b := zs_Kt e42 (zs_Ksi _ _ _ _) K39
  exact (u_X9_init_1341 hB h).weak ⟨rfl, trivial⟩
def w_X9_init_1201 (X : zs_X) (d : Nat) (p0 : Nat) (q0 : Option Nat) (q1 : Option Nat) (S : zs_T) (Q : zs_Q) : Prop :=
  (∃ b1, q1 = some b1 ∧ zs_A S b1 1 (187 : Int32) ∧ ab_n0 X.1 ≤ b1 ∧ ∀ S5, S5 = zs_si S b1 (187 : Int32).toNatClampNeg (vp_nar .byte (99 : Int32)) → zs_A S b1 1 (188 : Int32) ∧ ∀ S9, S9 = zs_si S5 b1 (188 : Int32).toNatClampNeg (vp_nar .byte (116 : Int32)) → zs_A S b1 1 (189 : Int32) ∧ ∀ S13, S13 = zs_si S9 b1 (189 : Int32).toNatClampNeg (vp_nar .byte (101 : Int32)) → zs_A S b1 1 (190 : Int32) ∧ ∀ S17, S17 = zs_si S13 b1 (190 : Int32).toNatClampNeg (vp_nar .byte (100 : Int32)) → zs_A S b1 1 (191 : Int32) ∧ ∀ S21, S21 = zs_si S17 b1 (191 : Int32).toNatClampNeg (vp_nar .byte (32 : Int32)) → zs_A S b1 1 (192 : Int32) ∧ ∀ S25, S25 = zs_si S21 b1 (192 : Int32).toNatClampNeg (vp_nar .byte (118 : Int32)) → zs_A S b1 1 (193 : Int32) ∧ ∀ S29, S29 = zs_si S25 b1 (193 : Int32).toNatClampNeg (vp_nar .byte (97 : Int32)) → zs_A S b1 1 (194 : Int32) ∧ ∀ S33, S33 = zs_si S29 b1 (194 : Int32).toNatClampNeg (vp_nar .byte (108 : Int32)) → zs_A S b1 1 (195 : Int32) ∧ ∀ S37, S37 = zs_si S33 b1 (195 : Int32).toNatClampNeg (vp_nar .byte (117 : Int32)) → zs_A S b1 1 (196 : Int32) ∧ ∀ S41, S41 = zs_si S37 b1 (196 : Int32).toNatClampNeg (vp_nar .byte (101 : Int32)) → w_X9_init_1271 X d p0 q0 q1 S41 Q)
theorem u_X9_init_1201 {σ : Nat → Nat} {n0 : Nat} {bf : ab_B} {d : Nat} {p0 : Nat} {q0 : Option Nat} {q1 : Option Nat} {S : zs_T} {Q : zs_Q} (hB : zt_B bf) (h : w_X9_init_1201 (zx σ n0 bf) d p0 q0 q1 S Q) : zs_U (zx σ n0 bf) d 8000 1201 [(0, .ref p0)] [va_rf q1, va_rf q0] S Q := by
  unfold w_X9_init_1201 at h
  refine zu_dup d_8000_1201 (zs_cat _) ?_
  refine zu_sipush d_8000_1202 zh_187 ?_
  refine zu_bipush d_8000_1205 zj_99 ?_
  obtain ⟨b1, e2, h⟩ := h
  refine zs_stk2 (zs_rfe e2) ?_
  obtain ⟨k3, h⟩ := h
  obtain ⟨k4, h⟩ := h
  refine zu_bast_byte (k := 1) d_8000_1207 rfl rfl k4 k3 ?_
  generalize e6 : zs_si S b1 (187 : Int32).toNatClampNeg (vp_nar .byte (99 : Int32)) = S5
  have h := h S5 e6.symm
  have K7 : ∀ b, zs_K S5 b = zs_K S b := zs_Kt e6 (zs_Ksi _ _ _ _) (fun _ => rfl)
  refine zu_dup d_8000_1208 (zs_cat _) ?_
  refine zu_sipush d_8000_1209 zh_188 ?_
  refine zu_bipush d_8000_1212 zj_116 ?_
  refine zs_stk2 (zs_rfe e2) ?_
  obtain ⟨k8, h⟩ := h
  refine zu_bast_byte (k := 1) d_8000_1214 rfl rfl k4 (zs_Ak K7 k8) ?_
  generalize e10 : zs_si S5 b1 (188 : Int32).toNatClampNeg (vp_nar .byte (116 : Int32)) = S9
  have h := h S9 e10.symm
  have K11 : ∀ b, zs_K S9 b = zs_K S b := zs_Kt e10 (zs_Ksi _ _ _ _) K7
  refine zu_dup d_8000_1215 (zs_cat _) ?_
  refine zu_sipush d_8000_1216 zh_189 ?_
  refine zu_bipush d_8000_1219 zj_101 ?_
  refine zs_stk2 (zs_rfe e2) ?_
  obtain ⟨k12, h⟩ := h
  refine zu_bast_byte (k := 1) d_8000_1221 rfl rfl k4 (zs_Ak K11 k12) ?_
  generalize e14 : zs_si S9 b1 (189 : Int32).toNatClampNeg (vp_nar .byte (101 : Int32)) = S13
  have h := h S13 e14.symm
  have K15 : ∀ b, zs_K S13 b = zs_K S b := zs_Kt e14 (zs_Ksi _ _ _ _) K11
  refine zu_dup d_8000_1222 (zs_cat _) ?_
  refine zu_sipush d_8000_1223 zh_190 ?_
  refine zu_bipush d_8000_1226 zj_100 ?_
  refine zs_stk2 (zs_rfe e2) ?_
  obtain ⟨k16, h⟩ := h
  refine zu_bast_byte (k := 1) d_8000_1228 rfl rfl k4 (zs_Ak K15 k16) ?_
  generalize e18 : zs_si S13 b1 (190 : Int32).toNatClampNeg (vp_nar .byte (100 : Int32)) = S17
  have h := h S17 e18.symm
  have K19 : ∀ b, zs_K S17 b = zs_K S b := zs_Kt e18 (zs_Ksi _ _ _ _) K15
  refine zu_dup d_8000_1229 (zs_cat _) ?_
  refine zu_sipush d_8000_1230 zh_191 ?_
  refine zu_bipush d_8000_1233 zj_32 ?_
  refine zs_stk2 (zs_rfe e2) ?_
  obtain ⟨k20, h⟩ := h
  refine zu_bast_byte (k := 1) d_8000_1235 rfl rfl k4 (zs_Ak K19 k20) ?_
  generalize e22 : zs_si S17 b1 (191 : Int32).toNatClampNeg (vp_nar .byte (32 : Int32)) = S21
  have h := h S21 e22.symm
  have K23 : ∀ b, zs_K S21 b = zs_K S b := zs_Kt e22 (zs_Ksi _ _ _ _) K19
  refine zu_dup d_8000_1236 (zs_cat _) ?_
  refine zu_sipush d_8000_1237 zh_192 ?_
  refine zu_bipush d_8000_1240 zj_118 ?_
  refine zs_stk2 (zs_rfe e2) ?_
  obtain ⟨k24, h⟩ := h
  refine zu_bast_byte (k := 1) d_8000_1242 rfl rfl k4 (zs_Ak K23 k24) ?_
  generalize e26 : zs_si S21 b1 (192 : Int32).toNatClampNeg (vp_nar .byte (118 : Int32)) = S25
  have h := h S25 e26.symm
  have K27 : ∀ b, zs_K S25 b = zs_K S b := zs_Kt e26 (zs_Ksi _ _ _ _) K23
  refine zu_dup d_8000_1243 (zs_cat _) ?_
  refine zu_sipush d_8000_1244 zh_193 ?_
  refine zu_bipush d_8000_1247 zj_97 ?_
  refine zs_stk2 (zs_rfe e2) ?_
  obtain ⟨k28, h⟩ := h
  refine zu_bast_byte (k := 1) d_8000_1249 rfl rfl k4 (zs_Ak K27 k28) ?_
  generalize e30 : zs_si S25 b1 (193 : Int32).toNatClampNeg (vp_nar .byte (97 : Int32)) = S29
  have h := h S29 e30.symm
  have K31 : ∀ b, zs_K S29 b = zs_K S b := zs_Kt e30 (zs_Ksi _ _ _ _) K27
  refine zu_dup d_8000_1250 (zs_cat _) ?_
  refine zu_sipush d_8000_1251 zh_194 ?_
  refine zu_bipush d_8000_1254 zj_108 ?_
  refine zs_stk2 (zs_rfe e2) ?_
  obtain ⟨k32, h⟩ := h
  refine zu_bast_byte (k := 1) d_8000_1256 rfl rfl k4 (zs_Ak K31 k32) ?_
  generalize e34 : zs_si S29 b1 (194 : Int32).toNatClampNeg (vp_nar .byte (108 : Int32)) = S33
  have h := h S33 e34.symm
  have K35 : ∀ b, zs_K S33 b = zs_K S b := zs_Kt e34 (zs_Ksi _ _ _ _) K31
  refine zu_dup d_8000_1257 (zs_cat _) ?_
  refine zu_sipush d_8000_1258 zh_195 ?_
  refine zu_bipush d_8000_1261 zj_117 ?_
  refine zs_stk2 (zs_rfe e2) ?_
  obtain ⟨k36, h⟩ := h
  refine zu_bast_byte (k := 1) d_8000_1263 rfl rfl k4 (zs_Ak K35 k36) ?_
  generalize e38 : zs_si S33 b1 (195 : Int32).toNatClampNeg (vp_nar .byte (117 : Int32)) = S37
  have h := h S37 e38.symm
  have K39 : ∀ b, zs_K S37 b = zs_K S b := zs_Kt e38 (zs_Ksi _ _ _ _) K35
  refine zu_dup d_8000_1264 (zs_cat _) ?_
  refine zu_sipush d_8000_1265 zh_196 ?_
  refine zu_bipush d_8000_1268 zj_101 ?_
  refine zs_stk2 (zs_rfe e2) ?_
  obtain ⟨k40, h⟩ := h
  refine zu_bast_byte (k := 1) d_8000_1270 rfl rfl k4 (zs_Ak K39 k40) ?_
  generalize e42 : zs_si S37 b1 (196 : Int32).toNatClampNeg (vp_nar .byte (101 : Int32)) = S41
  have h := h S41 e42.symm
  have K43 : ∀ b, zs_K S41 b = zs_K S b := zs_Kt e42 (zs_Ksi _ _ _ _) K39
  exact (u_X9_init_1271 hB h).weak ⟨rfl, trivial⟩
def w_X9_init_1131 (X : zs_X) (d : Nat) (p0 : Nat) (q0 : Option Nat) (q1 : Option Nat) (S : zs_T) (Q : zs_Q) : Prop :=
  (∃ b1, q1 = some b1 ∧ zs_A S b1 1 (177 : Int32) ∧ ab_n0 X.1 ≤ b1 ∧ ∀ S5, S5 = zs_si S b1 (177 : Int32).toNatClampNeg (vp_nar .byte (116 : Int32)) → zs_A S b1 1 (178 : Int32) ∧ ∀ S9, S9 = zs_si S5 b1 (178 : Int32).toNatClampNeg (vp_nar .byte (32 : Int32)) → zs_A S b1 1 (179 : Int32) ∧ ∀ S13, S13 = zs_si S9 b1 (179 : Int32).toNatClampNeg (vp_nar .byte (105 : Int32)) → zs_A S b1 1 (180 : Int32) ∧ ∀ S17, S17 = zs_si S13 b1 (180 : Int32).toNatClampNeg (vp_nar .byte (110 : Int32)) → zs_A S b1 1 (181 : Int32) ∧ ∀ S21, S21 = zs_si S17 b1 (181 : Int32).toNatClampNeg (vp_nar .byte (32 : Int32)) → zs_A S b1 1 (182 : Int32) ∧ ∀ S25, S25 = zs_si S21 b1 (182 : Int32).toNatClampNeg (vp_nar .byte (112 : Int32)) → zs_A S b1 1 (183 : Int32) ∧ ∀ S29, S29 = zs_si S25 b1 (183 : Int32).toNatClampNeg (vp_nar .byte (114 : Int32)) → zs_A S b1 1 (184 : Int32) ∧ ∀ S33, S33 = zs_si S29 b1 (184 : Int32).toNatClampNeg (vp_nar .byte (111 : Int32)) → zs_A S b1 1 (185 : Int32) ∧ ∀ S37, S37 = zs_si S33 b1 (185 : Int32).toNatClampNeg (vp_nar .byte (116 : Int32)) → zs_A S b1 1 (186 : Int32) ∧ ∀ S41, S41 = zs_si S37 b1 (186 : Int32).toNatClampNeg (vp_nar .byte (101 : Int32)) → w_X9_init_1201 X d p0 q0 q1 S41 Q)
theorem u_X9_init_1131 {σ : Nat → Nat} {n0 : Nat} {bf : ab_B} {d : Nat} {p0 : Nat} {q0 : Option Nat} {q1 : Option Nat} {S : zs_T} {Q : zs_Q} (hB : zt_B bf) (h : w_X9_init_1131 (zx σ n0 bf) d p0 q0 q1 S Q) : zs_U (zx σ n0 bf) d 8000 1131 [(0, .ref p0)] [va_rf q1, va_rf q0] S Q := by
  unfold w_X9_init_1131 at h
  refine zu_dup d_8000_1131 (zs_cat _) ?_
  refine zu_sipush d_8000_1132 zh_177 ?_
  refine zu_bipush d_8000_1135 zj_116 ?_
  obtain ⟨b1, e2, h⟩ := h
  refine zs_stk2 (zs_rfe e2) ?_
  obtain ⟨k3, h⟩ := h
  obtain ⟨k4, h⟩ := h
  refine zu_bast_byte (k := 1) d_8000_1137 rfl rfl k4 k3 ?_
  generalize e6 : zs_si S b1 (177 : Int32).toNatClampNeg (vp_nar .byte (116 : Int32)) = S5
  have h := h S5 e6.symm
  have K7 : ∀ b, zs_K S5 b = zs_K S b := zs_Kt e6 (zs_Ksi _ _ _ _) (fun _ => rfl)
  refine zu_dup d_8000_1138 (zs_cat _) ?_
  refine zu_sipush d_8000_1139 zh_178 ?_
  refine zu_bipush d_8000_1142 zj_32 ?_
  refine zs_stk2 (zs_rfe e2) ?_
  obtain ⟨k8, h⟩ := h
  refine zu_bast_byte (k := 1) d_8000_1144 rfl rfl k4 (zs_Ak K7 k8) ?_
  generalize e10 : zs_si S5 b1 (178 : Int32).toNatClampNeg (vp_nar .byte (32 : Int32)) = S9
  have h := h S9 e10.symm
  have K11 : ∀ b, zs_K S9 b = zs_K S b := zs_Kt e10 (zs_Ksi _ _ _ _) K7
  refine zu_dup d_8000_1145 (zs_cat _) ?_
  refine zu_sipush d_8000_1146 zh_179 ?_
  refine zu_bipush d_8000_1149 zj_105 ?_
  refine zs_stk2 (zs_rfe e2) ?_
  obtain ⟨k12, h⟩ := h
  refine zu_bast_byte (k := 1) d_8000_1151 rfl rfl k4 (zs_Ak K11 k12) ?_
  generalize e14 : zs_si S9 b1 (179 : Int32).toNatClampNeg (vp_nar .byte (105 : Int32)) = S13
  have h := h S13 e14.symm
  have K15 : ∀ b, zs_K S13 b = zs_K S b := zs_Kt e14 (zs_Ksi _ _ _ _) K11
  refine zu_dup d_8000_1152 (zs_cat _) ?_
  refine zu_sipush d_8000_1153 zh_180 ?_
  refine zu_bipush d_8000_1156 zj_110 ?_
  refine zs_stk2 (zs_rfe e2) ?_
  obtain ⟨k16, h⟩ := h
  refine zu_bast_byte (k := 1) d_8000_1158 rfl rfl k4 (zs_Ak K15 k16) ?_
  generalize e18 : zs_si S13 b1 (180 : Int32).toNatClampNeg (vp_nar .byte (110 : Int32)) = S17
  have h := h S17 e18.symm
  have K19 : ∀ b, zs_K S17 b = zs_K S b := zs_Kt e18 (zs_Ksi _ _ _ _) K15
  refine zu_dup d_8000_1159 (zs_cat _) ?_
  refine zu_sipush d_8000_1160 zh_181 ?_
  refine zu_bipush d_8000_1163 zj_32 ?_
  refine zs_stk2 (zs_rfe e2) ?_
  obtain ⟨k20, h⟩ := h
  refine zu_bast_byte (k := 1) d_8000_1165 rfl rfl k4 (zs_Ak K19 k20) ?_
  generalize e22 : zs_si S17 b1 (181 : Int32).toNatClampNeg (vp_nar .byte (32 : Int32)) = S21
  have h := h S21 e22.symm
  have K23 : ∀ b, zs_K S21 b = zs_K S b := zs_Kt e22 (zs_Ksi _ _ _ _) K19
  refine zu_dup d_8000_1166 (zs_cat _) ?_
  refine zu_sipush d_8000_1167 zh_182 ?_
  refine zu_bipush d_8000_1170 zj_112 ?_
  refine zs_stk2 (zs_rfe e2) ?_
  obtain ⟨k24, h⟩ := h
  refine zu_bast_byte (k := 1) d_8000_1172 rfl rfl k4 (zs_Ak K23 k24) ?_
  generalize e26 : zs_si S21 b1 (182 : Int32).toNatClampNeg (vp_nar .byte (112 : Int32)) = S25
  have h := h S25 e26.symm
  have K27 : ∀ b, zs_K S25 b = zs_K S b := zs_Kt e26 (zs_Ksi _ _ _ _) K23
  refine zu_dup d_8000_1173 (zs_cat _) ?_
  refine zu_sipush d_8000_1174 zh_183 ?_
  refine zu_bipush d_8000_1177 zj_114 ?_
  refine zs_stk2 (zs_rfe e2) ?_
  obtain ⟨k28, h⟩ := h
  refine zu_bast_byte (k := 1) d_8000_1179 rfl rfl k4 (zs_Ak K27 k28) ?_
  generalize e30 : zs_si S25 b1 (183 : Int32).toNatClampNeg (vp_nar .byte (114 : Int32)) = S29
  have h := h S29 e30.symm
  have K31 : ∀ b, zs_K S29 b = zs_K S b := zs_Kt e30 (zs_Ksi _ _ _ _) K27
  refine zu_dup d_8000_1180 (zs_cat _) ?_
  refine zu_sipush d_8000_1181 zh_184 ?_
  refine zu_bipush d_8000_1184 zj_111 ?_
  refine zs_stk2 (zs_rfe e2) ?_
  obtain ⟨k32, h⟩ := h
  refine zu_bast_byte (k := 1) d_8000_1186 rfl rfl k4 (zs_Ak K31 k32) ?_
  generalize e34 : zs_si S29 b1 (184 : Int32).toNatClampNeg (vp_nar .byte (111 : Int32)) = S33
  have h := h S33 e34.symm
  have K35 : ∀ b, zs_K S33 b = zs_K S b := zs_Kt e34 (zs_Ksi _ _ _ _) K31
  refine zu_dup d_8000_1187 (zs_cat _) ?_
  refine zu_sipush d_8000_1188 zh_185 ?_
  refine zu_bipush d_8000_1191 zj_116 ?_
  refine zs_stk2 (zs_rfe e2) ?_
  obtain ⟨k36, h⟩ := h
  refine zu_bast_byte (k := 1) d_8000_1193 rfl rfl k4 (zs_Ak K35 k36) ?_
  generalize e38 : zs_si S33 b1 (185 : Int32).toNatClampNeg (vp_nar .byte (116 : Int32)) = S37
  have h := h S37 e38.symm
  have K39 : ∀ b, zs_K S37 b = zs_K S b := zs_Kt e38 (zs_Ksi _ _ _ _) K35
  refine zu_dup d_8000_1194 (zs_cat _) ?_
  refine zu_sipush d_8000_1195 zh_186 ?_
  refine zu_bipush d_8000_1198 zj_101 ?_
  refine zs_stk2 (zs_rfe e2) ?_
  obtain ⟨k40, h⟩ := h
  refine zu_bast_byte (k := 1) d_8000_1200 rfl rfl k4 (zs_Ak K39 k40) ?_
  generalize e42 : zs_si S37 b1 (186 : Int32).toNatClampNeg (vp_nar .byte (101 : Int32)) = S41
  have h := h S41 e42.symm
  have K43 : ∀ b, zs_K S41 b = zs_K S b := zs_Kt e42 (zs_Ksi _ _ _ _) K39
  exact (u_X9_init_1201 hB h).weak ⟨rfl, trivial⟩
def w_X9_init_1061 (X : zs_X) (d : Nat) (p0 : Nat) (q0 : Option Nat) (q1 : Option Nat) (S : zs_T) (Q : zs_Q) : Prop :=
  (∃ b1, q1 = some b1 ∧ zs_A S b1 1 (167 : Int32) ∧ ab_n0 X.1 ≤ b1 ∧ ∀ S5, S5 = zs_si S b1 (167 : Int32).toNatClampNeg (vp_nar .byte (32 : Int32)) → zs_A S b1 1 (168 : Int32) ∧ ∀ S9, S9 = zs_si S5 b1 (168 : Int32).toNatClampNeg (vp_nar .byte (97 : Int32)) → zs_A S b1 1 (169 : Int32) ∧ ∀ S13, S13 = zs_si S9 b1 (169 : Int32).toNatClampNeg (vp_nar .byte (110 : Int32)) → zs_A S b1 1 (170 : Int32) ∧ ∀ S17, S17 = zs_si S13 b1 (170 : Int32).toNatClampNeg (vp_nar .byte (100 : Int32)) → zs_A S b1 1 (171 : Int32) ∧ ∀ S21, S21 = zs_si S17 b1 (171 : Int32).toNatClampNeg (vp_nar .byte (32 : Int32)) → zs_A S b1 1 (172 : Int32) ∧ ∀ S25, S25 = zs_si S21 b1 (172 : Int32).toNatClampNeg (vp_nar .byte (111 : Int32)) → zs_A S b1 1 (173 : Int32) ∧ ∀ S29, S29 = zs_si S25 b1 (173 : Int32).toNatClampNeg (vp_nar .byte (114 : Int32)) → zs_A S b1 1 (174 : Int32) ∧ ∀ S33, S33 = zs_si S29 b1 (174 : Int32).toNatClampNeg (vp_nar .byte (32 : Int32)) → zs_A S b1 1 (175 : Int32) ∧ ∀ S37, S37 = zs_si S33 b1 (175 : Int32).toNatClampNeg (vp_nar .byte (110 : Int32)) → zs_A S b1 1 (176 : Int32) ∧ ∀ S41, S41 = zs_si S37 b1 (176 : Int32).toNatClampNeg (vp_nar .byte (111 : Int32)) → w_X9_init_1131 X d p0 q0 q1 S41 Q)
theorem u_X9_init_1061 {σ : Nat → Nat} {n0 : Nat} {bf : ab_B} {d : Nat} {p0 : Nat} {q0 : Option Nat} {q1 : Option Nat} {S : zs_T} {Q : zs_Q} (hB : zt_B bf) (h : w_X9_init_1061 (zx σ n0 bf) d p0 q0 q1 S Q) : zs_U (zx σ n0 bf) d 8000 1061 [(0, .ref p0)] [va_rf q1, va_rf q0] S Q := by
  unfold w_X9_init_1061 at h
  refine zu_dup d_8000_1061 (zs_cat _) ?_
  refine zu_sipush d_8000_1062 zh_167 ?_
  refine zu_bipush d_8000_1065 zj_32 ?_
  obtain ⟨b1, e2, h⟩ := h
  refine zs_stk2 (zs_rfe e2) ?_
  obtain ⟨k3, h⟩ := h
  obtain ⟨k4, h⟩ := h
  refine zu_bast_byte (k := 1) d_8000_1067 rfl rfl k4 k3 ?_
  generalize e6 : zs_si S b1 (167 : Int32).toNatClampNeg (vp_nar .byte (32 : Int32)) = S5
  have h := h S5 e6.symm
  have K7 : ∀ b, zs_K S5 b = zs_K S b := zs_Kt e6 (zs_Ksi _ _ _ _) (fun _ => rfl)
  refine zu_dup d_8000_1068 (zs_cat _) ?_
  refine zu_sipush d_8000_1069 zh_168 ?_
  refine zu_bipush d_8000_1072 zj_97 ?_
  refine zs_stk2 (zs_rfe e2) ?_
  obtain ⟨k8, h⟩ := h
  refine zu_bast_byte (k := 1) d_8000_1074 rfl rfl k4 (zs_Ak K7 k8) ?_
  generalize e10 : zs_si S5 b1 (168 : Int32).toNatClampNeg (vp_nar .byte (97 : Int32)) = S9
  have h := h S9 e10.symm
  have K11 : ∀ b, zs_K S9 b = zs_K S b := zs_Kt e10 (zs_Ksi _ _ _ _) K7
  refine zu_dup d_8000_1075 (zs_cat _) ?_
  refine zu_sipush d_8000_1076 zh_169 ?_
  refine zu_bipush d_8000_1079 zj_110 ?_
  refine zs_stk2 (zs_rfe e2) ?_
  obtain ⟨k12, h⟩ := h
  refine zu_bast_byte (k := 1) d_8000_1081 rfl rfl k4 (zs_Ak K11 k12) ?_
  generalize e14 : zs_si S9 b1 (169 : Int32).toNatClampNeg (vp_nar .byte (110 : Int32)) = S13
  have h := h S13 e14.symm
  have K15 : ∀ b, zs_K S13 b = zs_K S b := zs_Kt e14 (zs_Ksi _ _ _ _) K11
  refine zu_dup d_8000_1082 (zs_cat _) ?_
  refine zu_sipush d_8000_1083 zh_170 ?_
  refine zu_bipush d_8000_1086 zj_100 ?_
  refine zs_stk2 (zs_rfe e2) ?_
  obtain ⟨k16, h⟩ := h
  refine zu_bast_byte (k := 1) d_8000_1088 rfl rfl k4 (zs_Ak K15 k16) ?_
  generalize e18 : zs_si S13 b1 (170 : Int32).toNatClampNeg (vp_nar .byte (100 : Int32)) = S17
  have h := h S17 e18.symm
  have K19 : ∀ b, zs_K S17 b = zs_K S b := zs_Kt e18 (zs_Ksi _ _ _ _) K15
  refine zu_dup d_8000_1089 (zs_cat _) ?_
  refine zu_sipush d_8000_1090 zh_171 ?_
  refine zu_bipush d_8000_1093 zj_32 ?_
  refine zs_stk2 (zs_rfe e2) ?_
  obtain ⟨k20, h⟩ := h
  refine zu_bast_byte (k := 1) d_8000_1095 rfl rfl k4 (zs_Ak K19 k20) ?_
  generalize e22 : zs_si S17 b1 (171 : Int32).toNatClampNeg (vp_nar .byte (32 : Int32)) = S21
  have h := h S21 e22.symm
  have K23 : ∀ b, zs_K S21 b = zs_K S b := zs_Kt e22 (zs_Ksi _ _ _ _) K19
  refine zu_dup d_8000_1096 (zs_cat _) ?_
  refine zu_sipush d_8000_1097 zh_172 ?_
  refine zu_bipush d_8000_1100 zj_111 ?_
  refine zs_stk2 (zs_rfe e2) ?_
  obtain ⟨k24, h⟩ := h
  refine zu_bast_byte (k := 1) d_8000_1102 rfl rfl k4 (zs_Ak K23 k24) ?_
  generalize e26 : zs_si S21 b1 (172 : Int32).toNatClampNeg (vp_nar .byte (111 : Int32)) = S25
  have h := h S25 e26.symm
  have K27 : ∀ b, zs_K S25 b = zs_K S b := zs_Kt e26 (zs_Ksi _ _ _ _) K23
  refine zu_dup d_8000_1103 (zs_cat _) ?_
  refine zu_sipush d_8000_1104 zh_173 ?_
  refine zu_bipush d_8000_1107 zj_114 ?_
  refine zs_stk2 (zs_rfe e2) ?_
  obtain ⟨k28, h⟩ := h
  refine zu_bast_byte (k := 1) d_8000_1109 rfl rfl k4 (zs_Ak K27 k28) ?_
  generalize e30 : zs_si S25 b1 (173 : Int32).toNatClampNeg (vp_nar .byte (114 : Int32)) = S29
  have h := h S29 e30.symm
  have K31 : ∀ b, zs_K S29 b = zs_K S b := zs_Kt e30 (zs_Ksi _ _ _ _) K27
  refine zu_dup d_8000_1110 (zs_cat _) ?_
  refine zu_sipush d_8000_1111 zh_174 ?_
  refine zu_bipush d_8000_1114 zj_32 ?_
  refine zs_stk2 (zs_rfe e2) ?_
  obtain ⟨k32, h⟩ := h
  refine zu_bast_byte (k := 1) d_8000_1116 rfl rfl k4 (zs_Ak K31 k32) ?_
  generalize e34 : zs_si S29 b1 (174 : Int32).toNatClampNeg (vp_nar .byte (32 : Int32)) = S33
  have h := h S33 e34.symm
  have K35 : ∀ b, zs_K S33 b = zs_K S b := zs_Kt e34 (zs_Ksi _ _ _ _) K31
  refine zu_dup d_8000_1117 (zs_cat _) ?_
  refine zu_sipush d_8000_1118 zh_175 ?_
  refine zu_bipush d_8000_1121 zj_110 ?_
  refine zs_stk2 (zs_rfe e2) ?_
  obtain ⟨k36, h⟩ := h
  refine zu_bast_byte (k := 1) d_8000_1123 rfl rfl k4 (zs_Ak K35 k36) ?_
  generalize e38 : zs_si S33 b1 (175 : Int32).toNatClampNeg (vp_nar .byte (110 : Int32)) = S37
  have h := h S37 e38.symm
  have K39 : ∀ b, zs_K S37 b = zs_K S b := zs_Kt e38 (zs_Ksi _ _ _ _) K35
  refine zu_dup d_8000_1124 (zs_cat _) ?_
  refine zu_sipush d_8000_1125 zh_176 ?_
  refine zu_bipush d_8000_1128 zj_111 ?_
  refine zs_stk2 (zs_rfe e2) ?_
  obtain ⟨k40, h⟩ := h
  refine zu_bast_byte (k := 1) d_8000_1130 rfl rfl k4 (zs_Ak K39 k40) ?_
  generalize e42 : zs_si S37 b1 (176 : Int32).toNatClampNeg (vp_nar .byte (111 : Int32)) = S41
  have h := h S41 e42.symm
  have K43 : ∀ b, zs_K S41 b = zs_K S b := zs_Kt e42 (zs_Ksi _ _ _ _) K39
  exact (u_X9_init_1131 hB h).weak ⟨rfl, trivial⟩
def w_X9_init_991 (X : zs_X) (d : Nat) (p0 : Nat) (q0 : Option Nat) (q1 : Option Nat) (S : zs_T) (Q : zs_Q) : Prop :=
  (∃ b1, q1 = some b1 ∧ zs_A S b1 1 (157 : Int32) ∧ ab_n0 X.1 ≤ b1 ∧ ∀ S5, S5 = zs_si S b1 (157 : Int32).toNatClampNeg (vp_nar .byte (105 : Int32)) → zs_A S b1 1 (158 : Int32) ∧ ∀ S9, S9 = zs_si S5 b1 (158 : Int32).toNatClampNeg (vp_nar .byte (108 : Int32)) → zs_A S b1 1 (159 : Int32) ∧ ∀ S13, S13 = zs_si S9 b1 (159 : Int32).toNatClampNeg (vp_nar .byte (32 : Int32)) → zs_A S b1 1 (160 : Int32) ∧ ∀ S17, S17 = zs_si S13 b1 (160 : Int32).toNatClampNeg (vp_nar .byte (100 : Int32)) → zs_A S b1 1 (161 : Int32) ∧ ∀ S21, S21 = zs_si S17 b1 (161 : Int32).toNatClampNeg (vp_nar .byte (105 : Int32)) → zs_A S b1 1 (162 : Int32) ∧ ∀ S25, S25 = zs_si S21 b1 (162 : Int32).toNatClampNeg (vp_nar .byte (118 : Int32)) → zs_A S b1 1 (163 : Int32) ∧ ∀ S29, S29 = zs_si S25 b1 (163 : Int32).toNatClampNeg (vp_nar .byte (32 : Int32)) → zs_A S b1 1 (164 : Int32) ∧ ∀ S33, S33 = zs_si S29 b1 (164 : Int32).toNatClampNeg (vp_nar .byte (109 : Int32)) → zs_A S b1 1 (165 : Int32) ∧ ∀ S37, S37 = zs_si S33 b1 (165 : Int32).toNatClampNeg (vp_nar .byte (111 : Int32)) → zs_A S b1 1 (166 : Int32) ∧ ∀ S41, S41 = zs_si S37 b1 (166 : Int32).toNatClampNeg (vp_nar .byte (100 : Int32)) → w_X9_init_1061 X d p0 q0 q1 S41 Q)
theorem u_X9_init_991 {σ : Nat → Nat} {n0 : Nat} {bf : ab_B} {d : Nat} {p0 : Nat} {q0 : Option Nat} {q1 : Option Nat} {S : zs_T} {Q : zs_Q} (hB : zt_B bf) (h : w_X9_init_991 (zx σ n0 bf) d p0 q0 q1 S Q) : zs_U (zx σ n0 bf) d 8000 991 [(0, .ref p0)] [va_rf q1, va_rf q0] S Q := by
  unfold w_X9_init_991 at h
  refine zu_dup d_8000_991 (zs_cat _) ?_
  refine zu_sipush d_8000_992 zh_157 ?_
  refine zu_bipush d_8000_995 zj_105 ?_
  obtain ⟨b1, e2, h⟩ := h
  refine zs_stk2 (zs_rfe e2) ?_
  obtain ⟨k3, h⟩ := h
  obtain ⟨k4, h⟩ := h
  refine zu_bast_byte (k := 1) d_8000_997 rfl rfl k4 k3 ?_
  generalize e6 : zs_si S b1 (157 : Int32).toNatClampNeg (vp_nar .byte (105 : Int32)) = S5
  have h := h S5 e6.symm
  have K7 : ∀ b, zs_K S5 b = zs_K S b := zs_Kt e6 (zs_Ksi _ _ _ _) (fun _ => rfl)
  refine zu_dup d_8000_998 (zs_cat _) ?_
  refine zu_sipush d_8000_999 zh_158 ?_
  refine zu_bipush d_8000_1002 zj_108 ?_
  refine zs_stk2 (zs_rfe e2) ?_
  obtain ⟨k8, h⟩ := h
  refine zu_bast_byte (k := 1) d_8000_1004 rfl rfl k4 (zs_Ak K7 k8) ?_
  generalize e10 : zs_si S5 b1 (158 : Int32).toNatClampNeg (vp_nar .byte (108 : Int32)) = S9
  have h := h S9 e10.symm
  have K11 : ∀ b, zs_K S9 b = zs_K S b := zs_Kt e10 (zs_Ksi _ _ _ _) K7
  refine zu_dup d_8000_1005 (zs_cat _) ?_
  refine zu_sipush d_8000_1006 zh_159 ?_
  refine zu_bipush d_8000_1009 zj_32 ?_
  refine zs_stk2 (zs_rfe e2) ?_
  obtain ⟨k12, h⟩ := h
  refine zu_bast_byte (k := 1) d_8000_1011 rfl rfl k4 (zs_Ak K11 k12) ?_
  generalize e14 : zs_si S9 b1 (159 : Int32).toNatClampNeg (vp_nar .byte (32 : Int32)) = S13
  have h := h S13 e14.symm
  have K15 : ∀ b, zs_K S13 b = zs_K S b := zs_Kt e14 (zs_Ksi _ _ _ _) K11
  refine zu_dup d_8000_1012 (zs_cat _) ?_
  refine zu_sipush d_8000_1013 zh_160 ?_
  refine zu_bipush d_8000_1016 zj_100 ?_
  refine zs_stk2 (zs_rfe e2) ?_
  obtain ⟨k16, h⟩ := h
  refine zu_bast_byte (k := 1) d_8000_1018 rfl rfl k4 (zs_Ak K15 k16) ?_
  generalize e18 : zs_si S13 b1 (160 : Int32).toNatClampNeg (vp_nar .byte (100 : Int32)) = S17
  have h := h S17 e18.symm
  have K19 : ∀ b, zs_K S17 b = zs_K S b := zs_Kt e18 (zs_Ksi _ _ _ _) K15
  refine zu_dup d_8000_1019 (zs_cat _) ?_
  refine zu_sipush d_8000_1020 zh_161 ?_
  refine zu_bipush d_8000_1023 zj_105 ?_
  refine zs_stk2 (zs_rfe e2) ?_
  obtain ⟨k20, h⟩ := h
  refine zu_bast_byte (k := 1) d_8000_1025 rfl rfl k4 (zs_Ak K19 k20) ?_
  generalize e22 : zs_si S17 b1 (161 : Int32).toNatClampNeg (vp_nar .byte (105 : Int32)) = S21
  have h := h S21 e22.symm
  have K23 : ∀ b, zs_K S21 b = zs_K S b := zs_Kt e22 (zs_Ksi _ _ _ _) K19
  refine zu_dup d_8000_1026 (zs_cat _) ?_
  refine zu_sipush d_8000_1027 zh_162 ?_
  refine zu_bipush d_8000_1030 zj_118 ?_
  refine zs_stk2 (zs_rfe e2) ?_
  obtain ⟨k24, h⟩ := h
  refine zu_bast_byte (k := 1) d_8000_1032 rfl rfl k4 (zs_Ak K23 k24) ?_
  generalize e26 : zs_si S21 b1 (162 : Int32).toNatClampNeg (vp_nar .byte (118 : Int32)) = S25
  have h := h S25 e26.symm
  have K27 : ∀ b, zs_K S25 b = zs_K S b := zs_Kt e26 (zs_Ksi _ _ _ _) K23
  refine zu_dup d_8000_1033 (zs_cat _) ?_
  refine zu_sipush d_8000_1034 zh_163 ?_
  refine zu_bipush d_8000_1037 zj_32 ?_
  refine zs_stk2 (zs_rfe e2) ?_
  obtain ⟨k28, h⟩ := h
  refine zu_bast_byte (k := 1) d_8000_1039 rfl rfl k4 (zs_Ak K27 k28) ?_
  generalize e30 : zs_si S25 b1 (163 : Int32).toNatClampNeg (vp_nar .byte (32 : Int32)) = S29
  have h := h S29 e30.symm
  have K31 : ∀ b, zs_K S29 b = zs_K S b := zs_Kt e30 (zs_Ksi _ _ _ _) K27
  refine zu_dup d_8000_1040 (zs_cat _) ?_
  refine zu_sipush d_8000_1041 zh_164 ?_
  refine zu_bipush d_8000_1044 zj_109 ?_
  refine zs_stk2 (zs_rfe e2) ?_
  obtain ⟨k32, h⟩ := h
  refine zu_bast_byte (k := 1) d_8000_1046 rfl rfl k4 (zs_Ak K31 k32) ?_
  generalize e34 : zs_si S29 b1 (164 : Int32).toNatClampNeg (vp_nar .byte (109 : Int32)) = S33
  have h := h S33 e34.symm
  have K35 : ∀ b, zs_K S33 b = zs_K S b := zs_Kt e34 (zs_Ksi _ _ _ _) K31
  refine zu_dup d_8000_1047 (zs_cat _) ?_
  refine zu_sipush d_8000_1048 zh_165 ?_
  refine zu_bipush d_8000_1051 zj_111 ?_
  refine zs_stk2 (zs_rfe e2) ?_
  obtain ⟨k36, h⟩ := h
  refine zu_bast_byte (k := 1) d_8000_1053 rfl rfl k4 (zs_Ak K35 k36) ?_
  generalize e38 : zs_si S33 b1 (165 : Int32).toNatClampNeg (vp_nar .byte (111 : Int32)) = S37
  have h := h S37 e38.symm
  have K39 : ∀ b, zs_K S37 b = zs_K S b := zs_Kt e38 (zs_Ksi _ _ _ _) K35
  refine zu_dup d_8000_1054 (zs_cat _) ?_
  refine zu_sipush d_8000_1055 zh_166 ?_
  refine zu_bipush d_8000_1058 zj_100 ?_
  refine zs_stk2 (zs_rfe e2) ?_
  obtain ⟨k40, h⟩ := h
  refine zu_bast_byte (k := 1) d_8000_1060 rfl rfl k4 (zs_Ak K39 k40) ?_
  generalize e42 : zs_si S37 b1 (166 : Int32).toNatClampNeg (vp_nar .byte (100 : Int32)) = S41
  have h := h S41 e42.symm
  have K43 : ∀ b, zs_K S41 b = zs_K S b := zs_Kt e42 (zs_Ksi _ _ _ _) K39
  exact (u_X9_init_1061 hB h).weak ⟨rfl, trivial⟩
def w_X9_init_921 (X : zs_X) (d : Nat) (p0 : Nat) (q0 : Option Nat) (q1 : Option Nat) (S : zs_T) (Q : zs_Q) : Prop :=
  (∃ b1, q1 = some b1 ∧ zs_A S b1 1 (147 : Int32) ∧ ab_n0 X.1 ≤ b1 ∧ ∀ S5, S5 = zs_si S b1 (147 : Int32).toNatClampNeg (vp_nar .byte (116 : Int32)) → zs_A S b1 1 (148 : Int32) ∧ ∀ S9, S9 = zs_si S5 b1 (148 : Int32).toNatClampNeg (vp_nar .byte (32 : Int32)) → zs_A S b1 1 (149 : Int32) ∧ ∀ S13, S13 = zs_si S9 b1 (149 : Int32).toNatClampNeg (vp_nar .byte (115 : Int32)) → zs_A S b1 1 (150 : Int32) ∧ ∀ S17, S17 = zs_si S13 b1 (150 : Int32).toNatClampNeg (vp_nar .byte (116 : Int32)) → zs_A S b1 1 (151 : Int32) ∧ ∀ S21, S21 = zs_si S17 b1 (151 : Int32).toNatClampNeg (vp_nar .byte (114 : Int32)) → zs_A S b1 1 (152 : Int32) ∧ ∀ S25, S25 = zs_si S21 b1 (152 : Int32).toNatClampNeg (vp_nar .byte (105 : Int32)) → zs_A S b1 1 (153 : Int32) ∧ ∀ S29, S29 = zs_si S25 b1 (153 : Int32).toNatClampNeg (vp_nar .byte (110 : Int32)) → zs_A S b1 1 (154 : Int32) ∧ ∀ S33, S33 = zs_si S29 b1 (154 : Int32).toNatClampNeg (vp_nar .byte (103 : Int32)) → zs_A S b1 1 (155 : Int32) ∧ ∀ S37, S37 = zs_si S33 b1 (155 : Int32).toNatClampNeg (vp_nar .byte (32 : Int32)) → zs_A S b1 1 (156 : Int32) ∧ ∀ S41, S41 = zs_si S37 b1 (156 : Int32).toNatClampNeg (vp_nar .byte (110 : Int32)) → w_X9_init_991 X d p0 q0 q1 S41 Q)
theorem u_X9_init_921 {σ : Nat → Nat} {n0 : Nat} {bf : ab_B} {d : Nat} {p0 : Nat} {q0 : Option Nat} {q1 : Option Nat} {S : zs_T} {Q : zs_Q} (hB : zt_B bf) (h : w_X9_init_921 (zx σ n0 bf) d p0 q0 q1 S Q) : zs_U (zx σ n0 bf) d 8000 921 [(0, .ref p0)] [va_rf q1, va_rf q0] S Q := by
  unfold w_X9_init_921 at h
  refine zu_dup d_8000_921 (zs_cat _) ?_
  refine zu_sipush d_8000_922 zh_147 ?_
  refine zu_bipush d_8000_925 zj_116 ?_
  obtain ⟨b1, e2, h⟩ := h
  refine zs_stk2 (zs_rfe e2) ?_
  obtain ⟨k3, h⟩ := h
  obtain ⟨k4, h⟩ := h
  refine zu_bast_byte (k := 1) d_8000_927 rfl rfl k4 k3 ?_
  generalize e6 : zs_si S b1 (147 : Int32).toNatClampNeg (vp_nar .byte (116 : Int32)) = S5
  have h := h S5 e6.symm
  have K7 : ∀ b, zs_K S5 b = zs_K S b := zs_Kt e6 (zs_Ksi _ _ _ _) (fun _ => rfl)
  refine zu_dup d_8000_928 (zs_cat _) ?_
  refine zu_sipush d_8000_929 zh_148 ?_
  refine zu_bipush d_8000_932 zj_32 ?_
  refine zs_stk2 (zs_rfe e2) ?_
  obtain ⟨k8, h⟩ := h
  refine zu_bast_byte (k := 1) d_8000_934 rfl rfl k4 (zs_Ak K7 k8) ?_
  generalize e10 : zs_si S5 b1 (148 : Int32).toNatClampNeg (vp_nar .byte (32 : Int32)) = S9
  have h := h S9 e10.symm
  have K11 : ∀ b, zs_K S9 b = zs_K S b := zs_Kt e10 (zs_Ksi _ _ _ _) K7
  refine zu_dup d_8000_935 (zs_cat _) ?_
  refine zu_sipush d_8000_936 zh_149 ?_
  refine zu_bipush d_8000_939 zj_115 ?_
  refine zs_stk2 (zs_rfe e2) ?_
  obtain ⟨k12, h⟩ := h
  refine zu_bast_byte (k := 1) d_8000_941 rfl rfl k4 (zs_Ak K11 k12) ?_
  generalize e14 : zs_si S9 b1 (149 : Int32).toNatClampNeg (vp_nar .byte (115 : Int32)) = S13
  have h := h S13 e14.symm
  have K15 : ∀ b, zs_K S13 b = zs_K S b := zs_Kt e14 (zs_Ksi _ _ _ _) K11
  refine zu_dup d_8000_942 (zs_cat _) ?_
  refine zu_sipush d_8000_943 zh_150 ?_
  refine zu_bipush d_8000_946 zj_116 ?_
  refine zs_stk2 (zs_rfe e2) ?_
  obtain ⟨k16, h⟩ := h
  refine zu_bast_byte (k := 1) d_8000_948 rfl rfl k4 (zs_Ak K15 k16) ?_
  generalize e18 : zs_si S13 b1 (150 : Int32).toNatClampNeg (vp_nar .byte (116 : Int32)) = S17
  have h := h S17 e18.symm
  have K19 : ∀ b, zs_K S17 b = zs_K S b := zs_Kt e18 (zs_Ksi _ _ _ _) K15
  refine zu_dup d_8000_949 (zs_cat _) ?_
  refine zu_sipush d_8000_950 zh_151 ?_
  refine zu_bipush d_8000_953 zj_114 ?_
  refine zs_stk2 (zs_rfe e2) ?_
  obtain ⟨k20, h⟩ := h
  refine zu_bast_byte (k := 1) d_8000_955 rfl rfl k4 (zs_Ak K19 k20) ?_
  generalize e22 : zs_si S17 b1 (151 : Int32).toNatClampNeg (vp_nar .byte (114 : Int32)) = S21
  have h := h S21 e22.symm
  have K23 : ∀ b, zs_K S21 b = zs_K S b := zs_Kt e22 (zs_Ksi _ _ _ _) K19
  refine zu_dup d_8000_956 (zs_cat _) ?_
  refine zu_sipush d_8000_957 zh_152 ?_
  refine zu_bipush d_8000_960 zj_105 ?_
  refine zs_stk2 (zs_rfe e2) ?_
  obtain ⟨k24, h⟩ := h
  refine zu_bast_byte (k := 1) d_8000_962 rfl rfl k4 (zs_Ak K23 k24) ?_
  generalize e26 : zs_si S21 b1 (152 : Int32).toNatClampNeg (vp_nar .byte (105 : Int32)) = S25
  have h := h S25 e26.symm
  have K27 : ∀ b, zs_K S25 b = zs_K S b := zs_Kt e26 (zs_Ksi _ _ _ _) K23
  refine zu_dup d_8000_963 (zs_cat _) ?_
  refine zu_sipush d_8000_964 zh_153 ?_
  refine zu_bipush d_8000_967 zj_110 ?_
  refine zs_stk2 (zs_rfe e2) ?_
  obtain ⟨k28, h⟩ := h
  refine zu_bast_byte (k := 1) d_8000_969 rfl rfl k4 (zs_Ak K27 k28) ?_
  generalize e30 : zs_si S25 b1 (153 : Int32).toNatClampNeg (vp_nar .byte (110 : Int32)) = S29
  have h := h S29 e30.symm
  have K31 : ∀ b, zs_K S29 b = zs_K S b := zs_Kt e30 (zs_Ksi _ _ _ _) K27
  refine zu_dup d_8000_970 (zs_cat _) ?_
  refine zu_sipush d_8000_971 zh_154 ?_
  refine zu_bipush d_8000_974 zj_103 ?_
  refine zs_stk2 (zs_rfe e2) ?_
  obtain ⟨k32, h⟩ := h
  refine zu_bast_byte (k := 1) d_8000_976 rfl rfl k4 (zs_Ak K31 k32) ?_
  generalize e34 : zs_si S29 b1 (154 : Int32).toNatClampNeg (vp_nar .byte (103 : Int32)) = S33
  have h := h S33 e34.symm
  have K35 : ∀ b, zs_K S33 b = zs_K S b := zs_Kt e34 (zs_Ksi _ _ _ _) K31
  refine zu_dup d_8000_977 (zs_cat _) ?_
  refine zu_sipush d_8000_978 zh_155 ?_
  refine zu_bipush d_8000_981 zj_32 ?_
  refine zs_stk2 (zs_rfe e2) ?_
  obtain ⟨k36, h⟩ := h
  refine zu_bast_byte (k := 1) d_8000_983 rfl rfl k4 (zs_Ak K35 k36) ?_
  generalize e38 : zs_si S33 b1 (155 : Int32).toNatClampNeg (vp_nar .byte (32 : Int32)) = S37
  have h := h S37 e38.symm
  have K39 : ∀ b, zs_K S37 b = zs_K S b := zs_Kt e38 (zs_Ksi _ _ _ _) K35
  refine zu_dup d_8000_984 (zs_cat _) ?_
  refine zu_sipush d_8000_985 zh_156 ?_
  refine zu_bipush d_8000_988 zj_110 ?_
  refine zs_stk2 (zs_rfe e2) ?_
  obtain ⟨k40, h⟩ := h
  refine zu_bast_byte (k := 1) d_8000_990 rfl rfl k4 (zs_Ak K39 k40) ?_
  generalize e42 : zs_si S37 b1 (156 : Int32).toNatClampNeg (vp_nar .byte (110 : Int32)) = S41
  have h := h S41 e42.symm
  have K43 : ∀ b, zs_K S41 b = zs_K S b := zs_Kt e42 (zs_Ksi _ _ _ _) K39
  exact (u_X9_init_991 hB h).weak ⟨rfl, trivial⟩
def w_X9_init_851 (X : zs_X) (d : Nat) (p0 : Nat) (q0 : Option Nat) (q1 : Option Nat) (S : zs_T) (Q : zs_Q) : Prop :=
  (∃ b1, q1 = some b1 ∧ zs_A S b1 1 (137 : Int32) ∧ ab_n0 X.1 ≤ b1 ∧ ∀ S5, S5 = zs_si S b1 (137 : Int32).toNatClampNeg (vp_nar .byte (32 : Int32)) → zs_A S b1 1 (138 : Int32) ∧ ∀ S9, S9 = zs_si S5 b1 (138 : Int32).toNatClampNeg (vp_nar .byte (114 : Int32)) → zs_A S b1 1 (139 : Int32) ∧ ∀ S13, S13 = zs_si S9 b1 (139 : Int32).toNatClampNeg (vp_nar .byte (101 : Int32)) → zs_A S b1 1 (140 : Int32) ∧ ∀ S17, S17 = zs_si S13 b1 (140 : Int32).toNatClampNeg (vp_nar .byte (99 : Int32)) → zs_A S b1 1 (141 : Int32) ∧ ∀ S21, S21 = zs_si S17 b1 (141 : Int32).toNatClampNeg (vp_nar .byte (111 : Int32)) → zs_A S b1 1 (142 : Int32) ∧ ∀ S25, S25 = zs_si S21 b1 (142 : Int32).toNatClampNeg (vp_nar .byte (114 : Int32)) → zs_A S b1 1 (143 : Int32) ∧ ∀ S29, S29 = zs_si S25 b1 (143 : Int32).toNatClampNeg (vp_nar .byte (100 : Int32)) → zs_A S b1 1 (144 : Int32) ∧ ∀ S33, S33 = zs_si S29 b1 (144 : Int32).toNatClampNeg (vp_nar .byte (32 : Int32)) → zs_A S b1 1 (145 : Int32) ∧ ∀ S37, S37 = zs_si S33 b1 (145 : Int32).toNatClampNeg (vp_nar .byte (115 : Int32)) → zs_A S b1 1 (146 : Int32) ∧ ∀ S41, S41 = zs_si S37 b1 (146 : Int32).toNatClampNeg (vp_nar .byte (101 : Int32)) → w_X9_init_921 X d p0 q0 q1 S41 Q)
theorem u_X9_init_851 {σ : Nat → Nat} {n0 : Nat} {bf : ab_B} {d : Nat} {p0 : Nat} {q0 : Option Nat} {q1 : Option Nat} {S : zs_T} {Q : zs_Q} (hB : zt_B bf) (h : w_X9_init_851 (zx σ n0 bf) d p0 q0 q1 S Q) : zs_U (zx σ n0 bf) d 8000 851 [(0, .ref p0)] [va_rf q1, va_rf q0] S Q := by
  unfold w_X9_init_851 at h
  refine zu_dup d_8000_851 (zs_cat _) ?_
  refine zu_sipush d_8000_852 zh_137 ?_
  refine zu_bipush d_8000_855 zj_32 ?_
  obtain ⟨b1, e2, h⟩ := h
  refine zs_stk2 (zs_rfe e2) ?_
  obtain ⟨k3, h⟩ := h
  obtain ⟨k4, h⟩ := h
  refine zu_bast_byte (k := 1) d_8000_857 rfl rfl k4 k3 ?_
  generalize e6 : zs_si S b1 (137 : Int32).toNatClampNeg (vp_nar .byte (32 : Int32)) = S5
  have h := h S5 e6.symm
  have K7 : ∀ b, zs_K S5 b = zs_K S b := zs_Kt e6 (zs_Ksi _ _ _ _) (fun _ => rfl)
  refine zu_dup d_8000_858 (zs_cat _) ?_
  refine zu_sipush d_8000_859 zh_138 ?_
  refine zu_bipush d_8000_862 zj_114 ?_
  refine zs_stk2 (zs_rfe e2) ?_
  obtain ⟨k8, h⟩ := h
  refine zu_bast_byte (k := 1) d_8000_864 rfl rfl k4 (zs_Ak K7 k8) ?_
  generalize e10 : zs_si S5 b1 (138 : Int32).toNatClampNeg (vp_nar .byte (114 : Int32)) = S9
  have h := h S9 e10.symm
  have K11 : ∀ b, zs_K S9 b = zs_K S b := zs_Kt e10 (zs_Ksi _ _ _ _) K7
  refine zu_dup d_8000_865 (zs_cat _) ?_
  refine zu_sipush d_8000_866 zh_139 ?_
  refine zu_bipush d_8000_869 zj_101 ?_
  refine zs_stk2 (zs_rfe e2) ?_
  obtain ⟨k12, h⟩ := h
  refine zu_bast_byte (k := 1) d_8000_871 rfl rfl k4 (zs_Ak K11 k12) ?_
  generalize e14 : zs_si S9 b1 (139 : Int32).toNatClampNeg (vp_nar .byte (101 : Int32)) = S13
  have h := h S13 e14.symm
  have K15 : ∀ b, zs_K S13 b = zs_K S b := zs_Kt e14 (zs_Ksi _ _ _ _) K11
  refine zu_dup d_8000_872 (zs_cat _) ?_
  refine zu_sipush d_8000_873 zh_140 ?_
  refine zu_bipush d_8000_876 zj_99 ?_
  refine zs_stk2 (zs_rfe e2) ?_
  obtain ⟨k16, h⟩ := h
  refine zu_bast_byte (k := 1) d_8000_878 rfl rfl k4 (zs_Ak K15 k16) ?_
  generalize e18 : zs_si S13 b1 (140 : Int32).toNatClampNeg (vp_nar .byte (99 : Int32)) = S17
  have h := h S17 e18.symm
  have K19 : ∀ b, zs_K S17 b = zs_K S b := zs_Kt e18 (zs_Ksi _ _ _ _) K15
  refine zu_dup d_8000_879 (zs_cat _) ?_
  refine zu_sipush d_8000_880 zh_141 ?_
  refine zu_bipush d_8000_883 zj_111 ?_
  refine zs_stk2 (zs_rfe e2) ?_
  obtain ⟨k20, h⟩ := h
  refine zu_bast_byte (k := 1) d_8000_885 rfl rfl k4 (zs_Ak K19 k20) ?_
  generalize e22 : zs_si S17 b1 (141 : Int32).toNatClampNeg (vp_nar .byte (111 : Int32)) = S21
  have h := h S21 e22.symm
  have K23 : ∀ b, zs_K S21 b = zs_K S b := zs_Kt e22 (zs_Ksi _ _ _ _) K19
  refine zu_dup d_8000_886 (zs_cat _) ?_
  refine zu_sipush d_8000_887 zh_142 ?_
  refine zu_bipush d_8000_890 zj_114 ?_
  refine zs_stk2 (zs_rfe e2) ?_
  obtain ⟨k24, h⟩ := h
  refine zu_bast_byte (k := 1) d_8000_892 rfl rfl k4 (zs_Ak K23 k24) ?_
  generalize e26 : zs_si S21 b1 (142 : Int32).toNatClampNeg (vp_nar .byte (114 : Int32)) = S25
  have h := h S25 e26.symm
  have K27 : ∀ b, zs_K S25 b = zs_K S b := zs_Kt e26 (zs_Ksi _ _ _ _) K23
  refine zu_dup d_8000_893 (zs_cat _) ?_
  refine zu_sipush d_8000_894 zh_143 ?_
  refine zu_bipush d_8000_897 zj_100 ?_
  refine zs_stk2 (zs_rfe e2) ?_
  obtain ⟨k28, h⟩ := h
  refine zu_bast_byte (k := 1) d_8000_899 rfl rfl k4 (zs_Ak K27 k28) ?_
  generalize e30 : zs_si S25 b1 (143 : Int32).toNatClampNeg (vp_nar .byte (100 : Int32)) = S29
  have h := h S29 e30.symm
  have K31 : ∀ b, zs_K S29 b = zs_K S b := zs_Kt e30 (zs_Ksi _ _ _ _) K27
  refine zu_dup d_8000_900 (zs_cat _) ?_
  refine zu_sipush d_8000_901 zh_144 ?_
  refine zu_bipush d_8000_904 zj_32 ?_
  refine zs_stk2 (zs_rfe e2) ?_
  obtain ⟨k32, h⟩ := h
  refine zu_bast_byte (k := 1) d_8000_906 rfl rfl k4 (zs_Ak K31 k32) ?_
  generalize e34 : zs_si S29 b1 (144 : Int32).toNatClampNeg (vp_nar .byte (32 : Int32)) = S33
  have h := h S33 e34.symm
  have K35 : ∀ b, zs_K S33 b = zs_K S b := zs_Kt e34 (zs_Ksi _ _ _ _) K31
  refine zu_dup d_8000_907 (zs_cat _) ?_
  refine zu_sipush d_8000_908 zh_145 ?_
  refine zu_bipush d_8000_911 zj_115 ?_
  refine zs_stk2 (zs_rfe e2) ?_
  obtain ⟨k36, h⟩ := h
  refine zu_bast_byte (k := 1) d_8000_913 rfl rfl k4 (zs_Ak K35 k36) ?_
  generalize e38 : zs_si S33 b1 (145 : Int32).toNatClampNeg (vp_nar .byte (115 : Int32)) = S37
  have h := h S37 e38.symm
  have K39 : ∀ b, zs_K S37 b = zs_K S b := zs_Kt e38 (zs_Ksi _ _ _ _) K35
  refine zu_dup d_8000_914 (zs_cat _) ?_
  refine zu_sipush d_8000_915 zh_146 ?_
  refine zu_bipush d_8000_918 zj_101 ?_
  refine zs_stk2 (zs_rfe e2) ?_
  obtain ⟨k40, h⟩ := h
  refine zu_bast_byte (k := 1) d_8000_920 rfl rfl k4 (zs_Ak K39 k40) ?_
  generalize e42 : zs_si S37 b1 (146 : Int32).toNatClampNeg (vp_nar .byte (101 : Int32)) = S41
  have h := h S41 e42.symm
  have K43 : ∀ b, zs_K S41 b = zs_K S b := zs_Kt e42 (zs_Ksi _ _ _ _) K39
  exact (u_X9_init_921 hB h).weak ⟨rfl, trivial⟩
def w_X9_init_782 (X : zs_X) (d : Nat) (p0 : Nat) (q0 : Option Nat) (q1 : Option Nat) (S : zs_T) (Q : zs_Q) : Prop :=
  (∃ b1, q1 = some b1 ∧ zs_A S b1 1 (127 : Int32) ∧ ab_n0 X.1 ≤ b1 ∧ ∀ S5, S5 = zs_si S b1 (127 : Int32).toNatClampNeg (vp_nar .byte (119 : Int32)) → zs_A S b1 1 (128 : Int32) ∧ ∀ S9, S9 = zs_si S5 b1 (128 : Int32).toNatClampNeg (vp_nar .byte (105 : Int32)) → zs_A S b1 1 (129 : Int32) ∧ ∀ S13, S13 = zs_si S9 b1 (129 : Int32).toNatClampNeg (vp_nar .byte (116 : Int32)) → zs_A S b1 1 (130 : Int32) ∧ ∀ S17, S17 = zs_si S13 b1 (130 : Int32).toNatClampNeg (vp_nar .byte (104 : Int32)) → zs_A S b1 1 (131 : Int32) ∧ ∀ S21, S21 = zs_si S17 b1 (131 : Int32).toNatClampNeg (vp_nar .byte (32 : Int32)) → zs_A S b1 1 (132 : Int32) ∧ ∀ S25, S25 = zs_si S21 b1 (132 : Int32).toNatClampNeg (vp_nar .byte (97 : Int32)) → zs_A S b1 1 (133 : Int32) ∧ ∀ S29, S29 = zs_si S25 b1 (133 : Int32).toNatClampNeg (vp_nar .byte (114 : Int32)) → zs_A S b1 1 (134 : Int32) ∧ ∀ S33, S33 = zs_si S29 b1 (134 : Int32).toNatClampNeg (vp_nar .byte (114 : Int32)) → zs_A S b1 1 (135 : Int32) ∧ ∀ S37, S37 = zs_si S33 b1 (135 : Int32).toNatClampNeg (vp_nar .byte (97 : Int32)) → zs_A S b1 1 (136 : Int32) ∧ ∀ S41, S41 = zs_si S37 b1 (136 : Int32).toNatClampNeg (vp_nar .byte (121 : Int32)) → w_X9_init_851 X d p0 q0 q1 S41 Q)
theorem u_X9_init_782 {σ : Nat → Nat} {n0 : Nat} {bf : ab_B} {d : Nat} {p0 : Nat} {q0 : Option Nat} {q1 : Option Nat} {S : zs_T} {Q : zs_Q} (hB : zt_B bf) (h : w_X9_init_782 (zx σ n0 bf) d p0 q0 q1 S Q) : zs_U (zx σ n0 bf) d 8000 782 [(0, .ref p0)] [va_rf q1, va_rf q0] S Q := by
  unfold w_X9_init_782 at h
  refine zu_dup d_8000_782 (zs_cat _) ?_
  refine zu_bipush d_8000_783 zj_127 ?_
  refine zu_bipush d_8000_785 zj_119 ?_
  obtain ⟨b1, e2, h⟩ := h
  refine zs_stk2 (zs_rfe e2) ?_
  obtain ⟨k3, h⟩ := h
  obtain ⟨k4, h⟩ := h
  refine zu_bast_byte (k := 1) d_8000_787 rfl rfl k4 k3 ?_
  generalize e6 : zs_si S b1 (127 : Int32).toNatClampNeg (vp_nar .byte (119 : Int32)) = S5
  have h := h S5 e6.symm
  have K7 : ∀ b, zs_K S5 b = zs_K S b := zs_Kt e6 (zs_Ksi _ _ _ _) (fun _ => rfl)
  refine zu_dup d_8000_788 (zs_cat _) ?_
  refine zu_sipush d_8000_789 zh_128 ?_
  refine zu_bipush d_8000_792 zj_105 ?_
  refine zs_stk2 (zs_rfe e2) ?_
  obtain ⟨k8, h⟩ := h
  refine zu_bast_byte (k := 1) d_8000_794 rfl rfl k4 (zs_Ak K7 k8) ?_
  generalize e10 : zs_si S5 b1 (128 : Int32).toNatClampNeg (vp_nar .byte (105 : Int32)) = S9
  have h := h S9 e10.symm
  have K11 : ∀ b, zs_K S9 b = zs_K S b := zs_Kt e10 (zs_Ksi _ _ _ _) K7
  refine zu_dup d_8000_795 (zs_cat _) ?_
  refine zu_sipush d_8000_796 zh_129 ?_
  refine zu_bipush d_8000_799 zj_116 ?_
  refine zs_stk2 (zs_rfe e2) ?_
  obtain ⟨k12, h⟩ := h
  refine zu_bast_byte (k := 1) d_8000_801 rfl rfl k4 (zs_Ak K11 k12) ?_
  generalize e14 : zs_si S9 b1 (129 : Int32).toNatClampNeg (vp_nar .byte (116 : Int32)) = S13
  have h := h S13 e14.symm
  have K15 : ∀ b, zs_K S13 b = zs_K S b := zs_Kt e14 (zs_Ksi _ _ _ _) K11
  refine zu_dup d_8000_802 (zs_cat _) ?_
  refine zu_sipush d_8000_803 zh_130 ?_
  refine zu_bipush d_8000_806 zj_104 ?_
  refine zs_stk2 (zs_rfe e2) ?_
  obtain ⟨k16, h⟩ := h
  refine zu_bast_byte (k := 1) d_8000_808 rfl rfl k4 (zs_Ak K15 k16) ?_
  generalize e18 : zs_si S13 b1 (130 : Int32).toNatClampNeg (vp_nar .byte (104 : Int32)) = S17
  have h := h S17 e18.symm
  have K19 : ∀ b, zs_K S17 b = zs_K S b := zs_Kt e18 (zs_Ksi _ _ _ _) K15
  refine zu_dup d_8000_809 (zs_cat _) ?_
  refine zu_sipush d_8000_810 zh_131 ?_
  refine zu_bipush d_8000_813 zj_32 ?_
  refine zs_stk2 (zs_rfe e2) ?_
  obtain ⟨k20, h⟩ := h
  refine zu_bast_byte (k := 1) d_8000_815 rfl rfl k4 (zs_Ak K19 k20) ?_
  generalize e22 : zs_si S17 b1 (131 : Int32).toNatClampNeg (vp_nar .byte (32 : Int32)) = S21
  have h := h S21 e22.symm
  have K23 : ∀ b, zs_K S21 b = zs_K S b := zs_Kt e22 (zs_Ksi _ _ _ _) K19
  refine zu_dup d_8000_816 (zs_cat _) ?_
  refine zu_sipush d_8000_817 zh_132 ?_
  refine zu_bipush d_8000_820 zj_97 ?_
  refine zs_stk2 (zs_rfe e2) ?_
  obtain ⟨k24, h⟩ := h
  refine zu_bast_byte (k := 1) d_8000_822 rfl rfl k4 (zs_Ak K23 k24) ?_
  generalize e26 : zs_si S21 b1 (132 : Int32).toNatClampNeg (vp_nar .byte (97 : Int32)) = S25
  have h := h S25 e26.symm
  have K27 : ∀ b, zs_K S25 b = zs_K S b := zs_Kt e26 (zs_Ksi _ _ _ _) K23
  refine zu_dup d_8000_823 (zs_cat _) ?_
  refine zu_sipush d_8000_824 zh_133 ?_
  refine zu_bipush d_8000_827 zj_114 ?_
  refine zs_stk2 (zs_rfe e2) ?_
  obtain ⟨k28, h⟩ := h
  refine zu_bast_byte (k := 1) d_8000_829 rfl rfl k4 (zs_Ak K27 k28) ?_
  generalize e30 : zs_si S25 b1 (133 : Int32).toNatClampNeg (vp_nar .byte (114 : Int32)) = S29
  have h := h S29 e30.symm
  have K31 : ∀ b, zs_K S29 b = zs_K S b := zs_Kt e30 (zs_Ksi _ _ _ _) K27
  refine zu_dup d_8000_830 (zs_cat _) ?_
  refine zu_sipush d_8000_831 zh_134 ?_
  refine zu_bipush d_8000_834 zj_114 ?_
  refine zs_stk2 (zs_rfe e2) ?_
  obtain ⟨k32, h⟩ := h
  refine zu_bast_byte (k := 1) d_8000_836 rfl rfl k4 (zs_Ak K31 k32) ?_
  generalize e34 : zs_si S29 b1 (134 : Int32).toNatClampNeg (vp_nar .byte (114 : Int32)) = S33
  have h := h S33 e34.symm
  have K35 : ∀ b, zs_K S33 b = zs_K S b := zs_Kt e34 (zs_Ksi _ _ _ _) K31
  refine zu_dup d_8000_837 (zs_cat _) ?_
  refine zu_sipush d_8000_838 zh_135 ?_
  refine zu_bipush d_8000_841 zj_97 ?_
  refine zs_stk2 (zs_rfe e2) ?_
  obtain ⟨k36, h⟩ := h
  refine zu_bast_byte (k := 1) d_8000_843 rfl rfl k4 (zs_Ak K35 k36) ?_
  generalize e38 : zs_si S33 b1 (135 : Int32).toNatClampNeg (vp_nar .byte (97 : Int32)) = S37
  have h := h S37 e38.symm
  have K39 : ∀ b, zs_K S37 b = zs_K S b := zs_Kt e38 (zs_Ksi _ _ _ _) K35
  refine zu_dup d_8000_844 (zs_cat _) ?_
  refine zu_sipush d_8000_845 zh_136 ?_
  refine zu_bipush d_8000_848 zj_121 ?_
  refine zs_stk2 (zs_rfe e2) ?_
  obtain ⟨k40, h⟩ := h
  refine zu_bast_byte (k := 1) d_8000_850 rfl rfl k4 (zs_Ak K39 k40) ?_
  generalize e42 : zs_si S37 b1 (136 : Int32).toNatClampNeg (vp_nar .byte (121 : Int32)) = S41
  have h := h S41 e42.symm
  have K43 : ∀ b, zs_K S41 b = zs_K S b := zs_Kt e42 (zs_Ksi _ _ _ _) K39
  exact (u_X9_init_851 hB h).weak ⟨rfl, trivial⟩
def w_X9_init_722 (X : zs_X) (d : Nat) (p0 : Nat) (q0 : Option Nat) (q1 : Option Nat) (S : zs_T) (Q : zs_Q) : Prop :=
  (∃ b1, q1 = some b1 ∧ zs_A S b1 1 (117 : Int32) ∧ ab_n0 X.1 ≤ b1 ∧ ∀ S5, S5 = zs_si S b1 (117 : Int32).toNatClampNeg (vp_nar .byte (111 : Int32)) → zs_A S b1 1 (118 : Int32) ∧ ∀ S9, S9 = zs_si S5 b1 (118 : Int32).toNatClampNeg (vp_nar .byte (116 : Int32)) → zs_A S b1 1 (119 : Int32) ∧ ∀ S13, S13 = zs_si S9 b1 (119 : Int32).toNatClampNeg (vp_nar .byte (104 : Int32)) → zs_A S b1 1 (120 : Int32) ∧ ∀ S17, S17 = zs_si S13 b1 (120 : Int32).toNatClampNeg (vp_nar .byte (101 : Int32)) → zs_A S b1 1 (121 : Int32) ∧ ∀ S21, S21 = zs_si S17 b1 (121 : Int32).toNatClampNeg (vp_nar .byte (114 : Int32)) → zs_A S b1 1 (122 : Int32) ∧ ∀ S25, S25 = zs_si S21 b1 (122 : Int32).toNatClampNeg (vp_nar .byte (119 : Int32)) → zs_A S b1 1 (123 : Int32) ∧ ∀ S29, S29 = zs_si S25 b1 (123 : Int32).toNatClampNeg (vp_nar .byte (105 : Int32)) → zs_A S b1 1 (124 : Int32) ∧ ∀ S33, S33 = zs_si S29 b1 (124 : Int32).toNatClampNeg (vp_nar .byte (115 : Int32)) → zs_A S b1 1 (125 : Int32) ∧ ∀ S37, S37 = zs_si S33 b1 (125 : Int32).toNatClampNeg (vp_nar .byte (101 : Int32)) → zs_A S b1 1 (126 : Int32) ∧ ∀ S41, S41 = zs_si S37 b1 (126 : Int32).toNatClampNeg (vp_nar .byte (32 : Int32)) → w_X9_init_782 X d p0 q0 q1 S41 Q)
theorem u_X9_init_722 {σ : Nat → Nat} {n0 : Nat} {bf : ab_B} {d : Nat} {p0 : Nat} {q0 : Option Nat} {q1 : Option Nat} {S : zs_T} {Q : zs_Q} (hB : zt_B bf) (h : w_X9_init_722 (zx σ n0 bf) d p0 q0 q1 S Q) : zs_U (zx σ n0 bf) d 8000 722 [(0, .ref p0)] [va_rf q1, va_rf q0] S Q := by
  unfold w_X9_init_722 at h
  refine zu_dup d_8000_722 (zs_cat _) ?_
  refine zu_bipush d_8000_723 zj_117 ?_
  refine zu_bipush d_8000_725 zj_111 ?_
  obtain ⟨b1, e2, h⟩ := h
  refine zs_stk2 (zs_rfe e2) ?_
  obtain ⟨k3, h⟩ := h
  obtain ⟨k4, h⟩ := h
  refine zu_bast_byte (k := 1) d_8000_727 rfl rfl k4 k3 ?_
  generalize e6 : zs_si S b1 (117 : Int32).toNatClampNeg (vp_nar .byte (111 : Int32)) = S5
  have h := h S5 e6.symm
  have K7 : ∀ b, zs_K S5 b = zs_K S b := zs_Kt e6 (zs_Ksi _ _ _ _) (fun _ => rfl)
  refine zu_dup d_8000_728 (zs_cat _) ?_
  refine zu_bipush d_8000_729 zj_118 ?_
  refine zu_bipush d_8000_731 zj_116 ?_
  refine zs_stk2 (zs_rfe e2) ?_
  obtain ⟨k8, h⟩ := h
  refine zu_bast_byte (k := 1) d_8000_733 rfl rfl k4 (zs_Ak K7 k8) ?_
  generalize e10 : zs_si S5 b1 (118 : Int32).toNatClampNeg (vp_nar .byte (116 : Int32)) = S9
  have h := h S9 e10.symm
  have K11 : ∀ b, zs_K S9 b = zs_K S b := zs_Kt e10 (zs_Ksi _ _ _ _) K7
  refine zu_dup d_8000_734 (zs_cat _) ?_
  refine zu_bipush d_8000_735 zj_119 ?_
  refine zu_bipush d_8000_737 zj_104 ?_
  refine zs_stk2 (zs_rfe e2) ?_
  obtain ⟨k12, h⟩ := h
  refine zu_bast_byte (k := 1) d_8000_739 rfl rfl k4 (zs_Ak K11 k12) ?_
  generalize e14 : zs_si S9 b1 (119 : Int32).toNatClampNeg (vp_nar .byte (104 : Int32)) = S13
  have h := h S13 e14.symm
  have K15 : ∀ b, zs_K S13 b = zs_K S b := zs_Kt e14 (zs_Ksi _ _ _ _) K11
  refine zu_dup d_8000_740 (zs_cat _) ?_
  refine zu_bipush d_8000_741 zj_120 ?_
  refine zu_bipush d_8000_743 zj_101 ?_
  refine zs_stk2 (zs_rfe e2) ?_
  obtain ⟨k16, h⟩ := h
  refine zu_bast_byte (k := 1) d_8000_745 rfl rfl k4 (zs_Ak K15 k16) ?_
  generalize e18 : zs_si S13 b1 (120 : Int32).toNatClampNeg (vp_nar .byte (101 : Int32)) = S17
  have h := h S17 e18.symm
  have K19 : ∀ b, zs_K S17 b = zs_K S b := zs_Kt e18 (zs_Ksi _ _ _ _) K15
  refine zu_dup d_8000_746 (zs_cat _) ?_
  refine zu_bipush d_8000_747 zj_121 ?_
  refine zu_bipush d_8000_749 zj_114 ?_
  refine zs_stk2 (zs_rfe e2) ?_
  obtain ⟨k20, h⟩ := h
  refine zu_bast_byte (k := 1) d_8000_751 rfl rfl k4 (zs_Ak K19 k20) ?_
  generalize e22 : zs_si S17 b1 (121 : Int32).toNatClampNeg (vp_nar .byte (114 : Int32)) = S21
  have h := h S21 e22.symm
  have K23 : ∀ b, zs_K S21 b = zs_K S b := zs_Kt e22 (zs_Ksi _ _ _ _) K19
  refine zu_dup d_8000_752 (zs_cat _) ?_
  refine zu_bipush d_8000_753 zj_122 ?_
  refine zu_bipush d_8000_755 zj_119 ?_
  refine zs_stk2 (zs_rfe e2) ?_
  obtain ⟨k24, h⟩ := h
  refine zu_bast_byte (k := 1) d_8000_757 rfl rfl k4 (zs_Ak K23 k24) ?_
  generalize e26 : zs_si S21 b1 (122 : Int32).toNatClampNeg (vp_nar .byte (119 : Int32)) = S25
  have h := h S25 e26.symm
  have K27 : ∀ b, zs_K S25 b = zs_K S b := zs_Kt e26 (zs_Ksi _ _ _ _) K23
  refine zu_dup d_8000_758 (zs_cat _) ?_
  refine zu_bipush d_8000_759 zj_123 ?_
  refine zu_bipush d_8000_761 zj_105 ?_
  refine zs_stk2 (zs_rfe e2) ?_
  obtain ⟨k28, h⟩ := h
  refine zu_bast_byte (k := 1) d_8000_763 rfl rfl k4 (zs_Ak K27 k28) ?_
  generalize e30 : zs_si S25 b1 (123 : Int32).toNatClampNeg (vp_nar .byte (105 : Int32)) = S29
  have h := h S29 e30.symm
  have K31 : ∀ b, zs_K S29 b = zs_K S b := zs_Kt e30 (zs_Ksi _ _ _ _) K27
  refine zu_dup d_8000_764 (zs_cat _) ?_
  refine zu_bipush d_8000_765 zj_124 ?_
  refine zu_bipush d_8000_767 zj_115 ?_
  refine zs_stk2 (zs_rfe e2) ?_
  obtain ⟨k32, h⟩ := h
  refine zu_bast_byte (k := 1) d_8000_769 rfl rfl k4 (zs_Ak K31 k32) ?_
  generalize e34 : zs_si S29 b1 (124 : Int32).toNatClampNeg (vp_nar .byte (115 : Int32)) = S33
  have h := h S33 e34.symm
  have K35 : ∀ b, zs_K S33 b = zs_K S b := zs_Kt e34 (zs_Ksi _ _ _ _) K31
  refine zu_dup d_8000_770 (zs_cat _) ?_
  refine zu_bipush d_8000_771 zj_125 ?_
  refine zu_bipush d_8000_773 zj_101 ?_
  refine zs_stk2 (zs_rfe e2) ?_
  obtain ⟨k36, h⟩ := h
  refine zu_bast_byte (k := 1) d_8000_775 rfl rfl k4 (zs_Ak K35 k36) ?_
  generalize e38 : zs_si S33 b1 (125 : Int32).toNatClampNeg (vp_nar .byte (101 : Int32)) = S37
  have h := h S37 e38.symm
  have K39 : ∀ b, zs_K S37 b = zs_K S b := zs_Kt e38 (zs_Ksi _ _ _ _) K35
  refine zu_dup d_8000_776 (zs_cat _) ?_
  refine zu_bipush d_8000_777 zj_126 ?_
  refine zu_bipush d_8000_779 zj_32 ?_
  refine zs_stk2 (zs_rfe e2) ?_
  obtain ⟨k40, h⟩ := h
  refine zu_bast_byte (k := 1) d_8000_781 rfl rfl k4 (zs_Ak K39 k40) ?_
  generalize e42 : zs_si S37 b1 (126 : Int32).toNatClampNeg (vp_nar .byte (32 : Int32)) = S41
  have h := h S41 e42.symm
  have K43 : ∀ b, zs_K S41 b = zs_K S b := zs_Kt e42 (zs_Ksi _ _ _ _) K39
  exact (u_X9_init_782 hB h).weak ⟨rfl, trivial⟩
def w_X9_init_662 (X : zs_X) (d : Nat) (p0 : Nat) (q0 : Option Nat) (q1 : Option Nat) (S : zs_T) (Q : zs_Q) : Prop :=
  (∃ b1, q1 = some b1 ∧ zs_A S b1 1 (107 : Int32) ∧ ab_n0 X.1 ≤ b1 ∧ ∀ S5, S5 = zs_si S b1 (107 : Int32).toNatClampNeg (vp_nar .byte (111 : Int32)) → zs_A S b1 1 (108 : Int32) ∧ ∀ S9, S9 = zs_si S5 b1 (108 : Int32).toNatClampNeg (vp_nar .byte (32 : Int32)) → zs_A S b1 1 (109 : Int32) ∧ ∀ S13, S13 = zs_si S9 b1 (109 : Int32).toNatClampNeg (vp_nar .byte (99 : Int32)) → zs_A S b1 1 (110 : Int32) ∧ ∀ S17, S17 = zs_si S13 b1 (110 : Int32).toNatClampNeg (vp_nar .byte (97 : Int32)) → zs_A S b1 1 (111 : Int32) ∧ ∀ S21, S21 = zs_si S17 b1 (111 : Int32).toNatClampNeg (vp_nar .byte (115 : Int32)) → zs_A S b1 1 (112 : Int32) ∧ ∀ S25, S25 = zs_si S21 b1 (112 : Int32).toNatClampNeg (vp_nar .byte (101 : Int32)) → zs_A S b1 1 (113 : Int32) ∧ ∀ S29, S29 = zs_si S25 b1 (113 : Int32).toNatClampNeg (vp_nar .byte (32 : Int32)) → zs_A S b1 1 (114 : Int32) ∧ ∀ S33, S33 = zs_si S29 b1 (114 : Int32).toNatClampNeg (vp_nar .byte (111 : Int32)) → zs_A S b1 1 (115 : Int32) ∧ ∀ S37, S37 = zs_si S33 b1 (115 : Int32).toNatClampNeg (vp_nar .byte (102 : Int32)) → zs_A S b1 1 (116 : Int32) ∧ ∀ S41, S41 = zs_si S37 b1 (116 : Int32).toNatClampNeg (vp_nar .byte (32 : Int32)) → w_X9_init_722 X d p0 q0 q1 S41 Q)
theorem u_X9_init_662 {σ : Nat → Nat} {n0 : Nat} {bf : ab_B} {d : Nat} {p0 : Nat} {q0 : Option Nat} {q1 : Option Nat} {S : zs_T} {Q : zs_Q} (hB : zt_B bf) (h : w_X9_init_662 (zx σ n0 bf) d p0 q0 q1 S Q) : zs_U (zx σ n0 bf) d 8000 662 [(0, .ref p0)] [va_rf q1, va_rf q0] S Q := by
  unfold w_X9_init_662 at h
  refine zu_dup d_8000_662 (zs_cat _) ?_
  refine zu_bipush d_8000_663 zj_107 ?_
  refine zu_bipush d_8000_665 zj_111 ?_
  obtain ⟨b1, e2, h⟩ := h
  refine zs_stk2 (zs_rfe e2) ?_
  obtain ⟨k3, h⟩ := h
  obtain ⟨k4, h⟩ := h
  refine zu_bast_byte (k := 1) d_8000_667 rfl rfl k4 k3 ?_
  generalize e6 : zs_si S b1 (107 : Int32).toNatClampNeg (vp_nar .byte (111 : Int32)) = S5
  have h := h S5 e6.symm
  have K7 : ∀ b, zs_K S5 b = zs_K S b := zs_Kt e6 (zs_Ksi _ _ _ _) (fun _ => rfl)
  refine zu_dup d_8000_668 (zs_cat _) ?_
  refine zu_bipush d_8000_669 zj_108 ?_
  refine zu_bipush d_8000_671 zj_32 ?_
  refine zs_stk2 (zs_rfe e2) ?_
  obtain ⟨k8, h⟩ := h
  refine zu_bast_byte (k := 1) d_8000_673 rfl rfl k4 (zs_Ak K7 k8) ?_
  generalize e10 : zs_si S5 b1 (108 : Int32).toNatClampNeg (vp_nar .byte (32 : Int32)) = S9
  have h := h S9 e10.symm
  have K11 : ∀ b, zs_K S9 b = zs_K S b := zs_Kt e10 (zs_Ksi _ _ _ _) K7
  refine zu_dup d_8000_674 (zs_cat _) ?_
  refine zu_bipush d_8000_675 zj_109 ?_
  refine zu_bipush d_8000_677 zj_99 ?_
  refine zs_stk2 (zs_rfe e2) ?_
  obtain ⟨k12, h⟩ := h
  refine zu_bast_byte (k := 1) d_8000_679 rfl rfl k4 (zs_Ak K11 k12) ?_
  generalize e14 : zs_si S9 b1 (109 : Int32).toNatClampNeg (vp_nar .byte (99 : Int32)) = S13
  have h := h S13 e14.symm
  have K15 : ∀ b, zs_K S13 b = zs_K S b := zs_Kt e14 (zs_Ksi _ _ _ _) K11
  refine zu_dup d_8000_680 (zs_cat _) ?_
  refine zu_bipush d_8000_681 zj_110 ?_
  refine zu_bipush d_8000_683 zj_97 ?_
  refine zs_stk2 (zs_rfe e2) ?_
  obtain ⟨k16, h⟩ := h
  refine zu_bast_byte (k := 1) d_8000_685 rfl rfl k4 (zs_Ak K15 k16) ?_
  generalize e18 : zs_si S13 b1 (110 : Int32).toNatClampNeg (vp_nar .byte (97 : Int32)) = S17
  have h := h S17 e18.symm
  have K19 : ∀ b, zs_K S17 b = zs_K S b := zs_Kt e18 (zs_Ksi _ _ _ _) K15
  refine zu_dup d_8000_686 (zs_cat _) ?_
  refine zu_bipush d_8000_687 zj_111 ?_
  refine zu_bipush d_8000_689 zj_115 ?_
  refine zs_stk2 (zs_rfe e2) ?_
  obtain ⟨k20, h⟩ := h
  refine zu_bast_byte (k := 1) d_8000_691 rfl rfl k4 (zs_Ak K19 k20) ?_
  generalize e22 : zs_si S17 b1 (111 : Int32).toNatClampNeg (vp_nar .byte (115 : Int32)) = S21
  have h := h S21 e22.symm
  have K23 : ∀ b, zs_K S21 b = zs_K S b := zs_Kt e22 (zs_Ksi _ _ _ _) K19
  refine zu_dup d_8000_692 (zs_cat _) ?_
  refine zu_bipush d_8000_693 zj_112 ?_
  refine zu_bipush d_8000_695 zj_101 ?_
  refine zs_stk2 (zs_rfe e2) ?_
  obtain ⟨k24, h⟩ := h
  refine zu_bast_byte (k := 1) d_8000_697 rfl rfl k4 (zs_Ak K23 k24) ?_
  generalize e26 : zs_si S21 b1 (112 : Int32).toNatClampNeg (vp_nar .byte (101 : Int32)) = S25
  have h := h S25 e26.symm
  have K27 : ∀ b, zs_K S25 b = zs_K S b := zs_Kt e26 (zs_Ksi _ _ _ _) K23
  refine zu_dup d_8000_698 (zs_cat _) ?_
  refine zu_bipush d_8000_699 zj_113 ?_
  refine zu_bipush d_8000_701 zj_32 ?_
  refine zs_stk2 (zs_rfe e2) ?_
  obtain ⟨k28, h⟩ := h
  refine zu_bast_byte (k := 1) d_8000_703 rfl rfl k4 (zs_Ak K27 k28) ?_
  generalize e30 : zs_si S25 b1 (113 : Int32).toNatClampNeg (vp_nar .byte (32 : Int32)) = S29
  have h := h S29 e30.symm
  have K31 : ∀ b, zs_K S29 b = zs_K S b := zs_Kt e30 (zs_Ksi _ _ _ _) K27
  refine zu_dup d_8000_704 (zs_cat _) ?_
  refine zu_bipush d_8000_705 zj_114 ?_
  refine zu_bipush d_8000_707 zj_111 ?_
  refine zs_stk2 (zs_rfe e2) ?_
  obtain ⟨k32, h⟩ := h
  refine zu_bast_byte (k := 1) d_8000_709 rfl rfl k4 (zs_Ak K31 k32) ?_
  generalize e34 : zs_si S29 b1 (114 : Int32).toNatClampNeg (vp_nar .byte (111 : Int32)) = S33
  have h := h S33 e34.symm
  have K35 : ∀ b, zs_K S33 b = zs_K S b := zs_Kt e34 (zs_Ksi _ _ _ _) K31
  refine zu_dup d_8000_710 (zs_cat _) ?_
  refine zu_bipush d_8000_711 zj_115 ?_
  refine zu_bipush d_8000_713 zj_102 ?_
  refine zs_stk2 (zs_rfe e2) ?_
  obtain ⟨k36, h⟩ := h
  refine zu_bast_byte (k := 1) d_8000_715 rfl rfl k4 (zs_Ak K35 k36) ?_
  generalize e38 : zs_si S33 b1 (115 : Int32).toNatClampNeg (vp_nar .byte (102 : Int32)) = S37
  have h := h S37 e38.symm
  have K39 : ∀ b, zs_K S37 b = zs_K S b := zs_Kt e38 (zs_Ksi _ _ _ _) K35
  refine zu_dup d_8000_716 (zs_cat _) ?_
  refine zu_bipush d_8000_717 zj_116 ?_
  refine zu_bipush d_8000_719 zj_32 ?_
  refine zs_stk2 (zs_rfe e2) ?_
  obtain ⟨k40, h⟩ := h
  refine zu_bast_byte (k := 1) d_8000_721 rfl rfl k4 (zs_Ak K39 k40) ?_
  generalize e42 : zs_si S37 b1 (116 : Int32).toNatClampNeg (vp_nar .byte (32 : Int32)) = S41
  have h := h S41 e42.symm
  have K43 : ∀ b, zs_K S41 b = zs_K S b := zs_Kt e42 (zs_Ksi _ _ _ _) K39
  exact (u_X9_init_722 hB h).weak ⟨rfl, trivial⟩
def w_X9_init_602 (X : zs_X) (d : Nat) (p0 : Nat) (q0 : Option Nat) (q1 : Option Nat) (S : zs_T) (Q : zs_Q) : Prop :=
  (∃ b1, q1 = some b1 ∧ zs_A S b1 1 (97 : Int32) ∧ ab_n0 X.1 ≤ b1 ∧ ∀ S5, S5 = zs_si S b1 (97 : Int32).toNatClampNeg (vp_nar .byte (114 : Int32)) → zs_A S b1 1 (98 : Int32) ∧ ∀ S9, S9 = zs_si S5 b1 (98 : Int32).toNatClampNeg (vp_nar .byte (32 : Int32)) → zs_A S b1 1 (99 : Int32) ∧ ∀ S13, S13 = zs_si S9 b1 (99 : Int32).toNatClampNeg (vp_nar .byte (116 : Int32)) → zs_A S b1 1 (100 : Int32) ∧ ∀ S17, S17 = zs_si S13 b1 (100 : Int32).toNatClampNeg (vp_nar .byte (111 : Int32)) → zs_A S b1 1 (101 : Int32) ∧ ∀ S21, S21 = zs_si S17 b1 (101 : Int32).toNatClampNeg (vp_nar .byte (32 : Int32)) → zs_A S b1 1 (102 : Int32) ∧ ∀ S25, S25 = zs_si S21 b1 (102 : Int32).toNatClampNeg (vp_nar .byte (100 : Int32)) → zs_A S b1 1 (103 : Int32) ∧ ∀ S29, S29 = zs_si S25 b1 (103 : Int32).toNatClampNeg (vp_nar .byte (111 : Int32)) → zs_A S b1 1 (104 : Int32) ∧ ∀ S33, S33 = zs_si S29 b1 (104 : Int32).toNatClampNeg (vp_nar .byte (119 : Int32)) → zs_A S b1 1 (105 : Int32) ∧ ∀ S37, S37 = zs_si S33 b1 (105 : Int32).toNatClampNeg (vp_nar .byte (110 : Int32)) → zs_A S b1 1 (106 : Int32) ∧ ∀ S41, S41 = zs_si S37 b1 (106 : Int32).toNatClampNeg (vp_nar .byte (116 : Int32)) → w_X9_init_662 X d p0 q0 q1 S41 Q)
theorem u_X9_init_602 {σ : Nat → Nat} {n0 : Nat} {bf : ab_B} {d : Nat} {p0 : Nat} {q0 : Option Nat} {q1 : Option Nat} {S : zs_T} {Q : zs_Q} (hB : zt_B bf) (h : w_X9_init_602 (zx σ n0 bf) d p0 q0 q1 S Q) : zs_U (zx σ n0 bf) d 8000 602 [(0, .ref p0)] [va_rf q1, va_rf q0] S Q := by
  unfold w_X9_init_602 at h
  refine zu_dup d_8000_602 (zs_cat _) ?_
  refine zu_bipush d_8000_603 zj_97 ?_
  refine zu_bipush d_8000_605 zj_114 ?_
  obtain ⟨b1, e2, h⟩ := h
  refine zs_stk2 (zs_rfe e2) ?_
  obtain ⟨k3, h⟩ := h
  obtain ⟨k4, h⟩ := h
  refine zu_bast_byte (k := 1) d_8000_607 rfl rfl k4 k3 ?_
  generalize e6 : zs_si S b1 (97 : Int32).toNatClampNeg (vp_nar .byte (114 : Int32)) = S5
  have h := h S5 e6.symm
  have K7 : ∀ b, zs_K S5 b = zs_K S b := zs_Kt e6 (zs_Ksi _ _ _ _) (fun _ => rfl)
  refine zu_dup d_8000_608 (zs_cat _) ?_
  refine zu_bipush d_8000_609 zj_98 ?_
  refine zu_bipush d_8000_611 zj_32 ?_
  refine zs_stk2 (zs_rfe e2) ?_
  obtain ⟨k8, h⟩ := h
  refine zu_bast_byte (k := 1) d_8000_613 rfl rfl k4 (zs_Ak K7 k8) ?_
  generalize e10 : zs_si S5 b1 (98 : Int32).toNatClampNeg (vp_nar .byte (32 : Int32)) = S9
  have h := h S9 e10.symm
  have K11 : ∀ b, zs_K S9 b = zs_K S b := zs_Kt e10 (zs_Ksi _ _ _ _) K7
  refine zu_dup d_8000_614 (zs_cat _) ?_
  refine zu_bipush d_8000_615 zj_99 ?_
  refine zu_bipush d_8000_617 zj_116 ?_
  refine zs_stk2 (zs_rfe e2) ?_
  obtain ⟨k12, h⟩ := h
  refine zu_bast_byte (k := 1) d_8000_619 rfl rfl k4 (zs_Ak K11 k12) ?_
  generalize e14 : zs_si S9 b1 (99 : Int32).toNatClampNeg (vp_nar .byte (116 : Int32)) = S13
  have h := h S13 e14.symm
  have K15 : ∀ b, zs_K S13 b = zs_K S b := zs_Kt e14 (zs_Ksi _ _ _ _) K11
  refine zu_dup d_8000_620 (zs_cat _) ?_
  refine zu_bipush d_8000_621 zj_100 ?_
  refine zu_bipush d_8000_623 zj_111 ?_
  refine zs_stk2 (zs_rfe e2) ?_
  obtain ⟨k16, h⟩ := h
  refine zu_bast_byte (k := 1) d_8000_625 rfl rfl k4 (zs_Ak K15 k16) ?_
  generalize e18 : zs_si S13 b1 (100 : Int32).toNatClampNeg (vp_nar .byte (111 : Int32)) = S17
  have h := h S17 e18.symm
  have K19 : ∀ b, zs_K S17 b = zs_K S b := zs_Kt e18 (zs_Ksi _ _ _ _) K15
  refine zu_dup d_8000_626 (zs_cat _) ?_
  refine zu_bipush d_8000_627 zj_101 ?_
  refine zu_bipush d_8000_629 zj_32 ?_
  refine zs_stk2 (zs_rfe e2) ?_
  obtain ⟨k20, h⟩ := h
  refine zu_bast_byte (k := 1) d_8000_631 rfl rfl k4 (zs_Ak K19 k20) ?_
  generalize e22 : zs_si S17 b1 (101 : Int32).toNatClampNeg (vp_nar .byte (32 : Int32)) = S21
  have h := h S21 e22.symm
  have K23 : ∀ b, zs_K S21 b = zs_K S b := zs_Kt e22 (zs_Ksi _ _ _ _) K19
  refine zu_dup d_8000_632 (zs_cat _) ?_
  refine zu_bipush d_8000_633 zj_102 ?_
  refine zu_bipush d_8000_635 zj_100 ?_
  refine zs_stk2 (zs_rfe e2) ?_
  obtain ⟨k24, h⟩ := h
  refine zu_bast_byte (k := 1) d_8000_637 rfl rfl k4 (zs_Ak K23 k24) ?_
  generalize e26 : zs_si S21 b1 (102 : Int32).toNatClampNeg (vp_nar .byte (100 : Int32)) = S25
  have h := h S25 e26.symm
  have K27 : ∀ b, zs_K S25 b = zs_K S b := zs_Kt e26 (zs_Ksi _ _ _ _) K23
  refine zu_dup d_8000_638 (zs_cat _) ?_
  refine zu_bipush d_8000_639 zj_103 ?_
  refine zu_bipush d_8000_641 zj_111 ?_
  refine zs_stk2 (zs_rfe e2) ?_
  obtain ⟨k28, h⟩ := h
  refine zu_bast_byte (k := 1) d_8000_643 rfl rfl k4 (zs_Ak K27 k28) ?_
  generalize e30 : zs_si S25 b1 (103 : Int32).toNatClampNeg (vp_nar .byte (111 : Int32)) = S29
  have h := h S29 e30.symm
  have K31 : ∀ b, zs_K S29 b = zs_K S b := zs_Kt e30 (zs_Ksi _ _ _ _) K27
  refine zu_dup d_8000_644 (zs_cat _) ?_
  refine zu_bipush d_8000_645 zj_104 ?_
  refine zu_bipush d_8000_647 zj_119 ?_
  refine zs_stk2 (zs_rfe e2) ?_
  obtain ⟨k32, h⟩ := h
  refine zu_bast_byte (k := 1) d_8000_649 rfl rfl k4 (zs_Ak K31 k32) ?_
  generalize e34 : zs_si S29 b1 (104 : Int32).toNatClampNeg (vp_nar .byte (119 : Int32)) = S33
  have h := h S33 e34.symm
  have K35 : ∀ b, zs_K S33 b = zs_K S b := zs_Kt e34 (zs_Ksi _ _ _ _) K31
  refine zu_dup d_8000_650 (zs_cat _) ?_
  refine zu_bipush d_8000_651 zj_105 ?_
  refine zu_bipush d_8000_653 zj_110 ?_
  refine zs_stk2 (zs_rfe e2) ?_
  obtain ⟨k36, h⟩ := h
  refine zu_bast_byte (k := 1) d_8000_655 rfl rfl k4 (zs_Ak K35 k36) ?_
  generalize e38 : zs_si S33 b1 (105 : Int32).toNatClampNeg (vp_nar .byte (110 : Int32)) = S37
  have h := h S37 e38.symm
  have K39 : ∀ b, zs_K S37 b = zs_K S b := zs_Kt e38 (zs_Ksi _ _ _ _) K35
  refine zu_dup d_8000_656 (zs_cat _) ?_
  refine zu_bipush d_8000_657 zj_106 ?_
  refine zu_bipush d_8000_659 zj_116 ?_
  refine zs_stk2 (zs_rfe e2) ?_
  obtain ⟨k40, h⟩ := h
  refine zu_bast_byte (k := 1) d_8000_661 rfl rfl k4 (zs_Ak K39 k40) ?_
  generalize e42 : zs_si S37 b1 (106 : Int32).toNatClampNeg (vp_nar .byte (116 : Int32)) = S41
  have h := h S41 e42.symm
  have K43 : ∀ b, zs_K S41 b = zs_K S b := zs_Kt e42 (zs_Ksi _ _ _ _) K39
  exact (u_X9_init_662 hB h).weak ⟨rfl, trivial⟩
def w_X9_init_542 (X : zs_X) (d : Nat) (p0 : Nat) (q0 : Option Nat) (q1 : Option Nat) (S : zs_T) (Q : zs_Q) : Prop :=
  (∃ b1, q1 = some b1 ∧ zs_A S b1 1 (87 : Int32) ∧ ab_n0 X.1 ≤ b1 ∧ ∀ S5, S5 = zs_si S b1 (87 : Int32).toNatClampNeg (vp_nar .byte (116 : Int32)) → zs_A S b1 1 (88 : Int32) ∧ ∀ S9, S9 = zs_si S5 b1 (88 : Int32).toNatClampNeg (vp_nar .byte (32 : Int32)) → zs_A S b1 1 (89 : Int32) ∧ ∀ S13, S13 = zs_si S9 b1 (89 : Int32).toNatClampNeg (vp_nar .byte (117 : Int32)) → zs_A S b1 1 (90 : Int32) ∧ ∀ S17, S17 = zs_si S13 b1 (90 : Int32).toNatClampNeg (vp_nar .byte (110 : Int32)) → zs_A S b1 1 (91 : Int32) ∧ ∀ S21, S21 = zs_si S17 b1 (91 : Int32).toNatClampNeg (vp_nar .byte (116 : Int32)) → zs_A S b1 1 (92 : Int32) ∧ ∀ S25, S25 = zs_si S21 b1 (92 : Int32).toNatClampNeg (vp_nar .byte (105 : Int32)) → zs_A S b1 1 (93 : Int32) ∧ ∀ S29, S29 = zs_si S25 b1 (93 : Int32).toNatClampNeg (vp_nar .byte (108 : Int32)) → zs_A S b1 1 (94 : Int32) ∧ ∀ S33, S33 = zs_si S29 b1 (94 : Int32).toNatClampNeg (vp_nar .byte (32 : Int32)) → zs_A S b1 1 (95 : Int32) ∧ ∀ S37, S37 = zs_si S33 b1 (95 : Int32).toNatClampNeg (vp_nar .byte (102 : Int32)) → zs_A S b1 1 (96 : Int32) ∧ ∀ S41, S41 = zs_si S37 b1 (96 : Int32).toNatClampNeg (vp_nar .byte (111 : Int32)) → w_X9_init_602 X d p0 q0 q1 S41 Q)
theorem u_X9_init_542 {σ : Nat → Nat} {n0 : Nat} {bf : ab_B} {d : Nat} {p0 : Nat} {q0 : Option Nat} {q1 : Option Nat} {S : zs_T} {Q : zs_Q} (hB : zt_B bf) (h : w_X9_init_542 (zx σ n0 bf) d p0 q0 q1 S Q) : zs_U (zx σ n0 bf) d 8000 542 [(0, .ref p0)] [va_rf q1, va_rf q0] S Q := by
  unfold w_X9_init_542 at h
  refine zu_dup d_8000_542 (zs_cat _) ?_
  refine zu_bipush d_8000_543 zj_87 ?_
  refine zu_bipush d_8000_545 zj_116 ?_
  obtain ⟨b1, e2, h⟩ := h
  refine zs_stk2 (zs_rfe e2) ?_
  obtain ⟨k3, h⟩ := h
  obtain ⟨k4, h⟩ := h
  refine zu_bast_byte (k := 1) d_8000_547 rfl rfl k4 k3 ?_
  generalize e6 : zs_si S b1 (87 : Int32).toNatClampNeg (vp_nar .byte (116 : Int32)) = S5
  have h := h S5 e6.symm
  have K7 : ∀ b, zs_K S5 b = zs_K S b := zs_Kt e6 (zs_Ksi _ _ _ _) (fun _ => rfl)
  refine zu_dup d_8000_548 (zs_cat _) ?_
  refine zu_bipush d_8000_549 zj_88 ?_
  refine zu_bipush d_8000_551 zj_32 ?_
  refine zs_stk2 (zs_rfe e2) ?_
  obtain ⟨k8, h⟩ := h
  refine zu_bast_byte (k := 1) d_8000_553 rfl rfl k4 (zs_Ak K7 k8) ?_
  generalize e10 : zs_si S5 b1 (88 : Int32).toNatClampNeg (vp_nar .byte (32 : Int32)) = S9
  have h := h S9 e10.symm
  have K11 : ∀ b, zs_K S9 b = zs_K S b := zs_Kt e10 (zs_Ksi _ _ _ _) K7
  refine zu_dup d_8000_554 (zs_cat _) ?_
  refine zu_bipush d_8000_555 zj_89 ?_
  refine zu_bipush d_8000_557 zj_117 ?_
  refine zs_stk2 (zs_rfe e2) ?_
  obtain ⟨k12, h⟩ := h
  refine zu_bast_byte (k := 1) d_8000_559 rfl rfl k4 (zs_Ak K11 k12) ?_
  generalize e14 : zs_si S9 b1 (89 : Int32).toNatClampNeg (vp_nar .byte (117 : Int32)) = S13
  have h := h S13 e14.symm
  have K15 : ∀ b, zs_K S13 b = zs_K S b := zs_Kt e14 (zs_Ksi _ _ _ _) K11
  refine zu_dup d_8000_560 (zs_cat _) ?_
  refine zu_bipush d_8000_561 zj_90 ?_
  refine zu_bipush d_8000_563 zj_110 ?_
  refine zs_stk2 (zs_rfe e2) ?_
  obtain ⟨k16, h⟩ := h
  refine zu_bast_byte (k := 1) d_8000_565 rfl rfl k4 (zs_Ak K15 k16) ?_
  generalize e18 : zs_si S13 b1 (90 : Int32).toNatClampNeg (vp_nar .byte (110 : Int32)) = S17
  have h := h S17 e18.symm
  have K19 : ∀ b, zs_K S17 b = zs_K S b := zs_Kt e18 (zs_Ksi _ _ _ _) K15
  refine zu_dup d_8000_566 (zs_cat _) ?_
  refine zu_bipush d_8000_567 zj_91 ?_
  refine zu_bipush d_8000_569 zj_116 ?_
  refine zs_stk2 (zs_rfe e2) ?_
  obtain ⟨k20, h⟩ := h
  refine zu_bast_byte (k := 1) d_8000_571 rfl rfl k4 (zs_Ak K19 k20) ?_
  generalize e22 : zs_si S17 b1 (91 : Int32).toNatClampNeg (vp_nar .byte (116 : Int32)) = S21
  have h := h S21 e22.symm
  have K23 : ∀ b, zs_K S21 b = zs_K S b := zs_Kt e22 (zs_Ksi _ _ _ _) K19
  refine zu_dup d_8000_572 (zs_cat _) ?_
  refine zu_bipush d_8000_573 zj_92 ?_
  refine zu_bipush d_8000_575 zj_105 ?_
  refine zs_stk2 (zs_rfe e2) ?_
  obtain ⟨k24, h⟩ := h
  refine zu_bast_byte (k := 1) d_8000_577 rfl rfl k4 (zs_Ak K23 k24) ?_
  generalize e26 : zs_si S21 b1 (92 : Int32).toNatClampNeg (vp_nar .byte (105 : Int32)) = S25
  have h := h S25 e26.symm
  have K27 : ∀ b, zs_K S25 b = zs_K S b := zs_Kt e26 (zs_Ksi _ _ _ _) K23
  refine zu_dup d_8000_578 (zs_cat _) ?_
  refine zu_bipush d_8000_579 zj_93 ?_
  refine zu_bipush d_8000_581 zj_108 ?_
  refine zs_stk2 (zs_rfe e2) ?_
  obtain ⟨k28, h⟩ := h
  refine zu_bast_byte (k := 1) d_8000_583 rfl rfl k4 (zs_Ak K27 k28) ?_
  generalize e30 : zs_si S25 b1 (93 : Int32).toNatClampNeg (vp_nar .byte (108 : Int32)) = S29
  have h := h S29 e30.symm
  have K31 : ∀ b, zs_K S29 b = zs_K S b := zs_Kt e30 (zs_Ksi _ _ _ _) K27
  refine zu_dup d_8000_584 (zs_cat _) ?_
  refine zu_bipush d_8000_585 zj_94 ?_
  refine zu_bipush d_8000_587 zj_32 ?_
  refine zs_stk2 (zs_rfe e2) ?_
  obtain ⟨k32, h⟩ := h
  refine zu_bast_byte (k := 1) d_8000_589 rfl rfl k4 (zs_Ak K31 k32) ?_
  generalize e34 : zs_si S29 b1 (94 : Int32).toNatClampNeg (vp_nar .byte (32 : Int32)) = S33
  have h := h S33 e34.symm
  have K35 : ∀ b, zs_K S33 b = zs_K S b := zs_Kt e34 (zs_Ksi _ _ _ _) K31
  refine zu_dup d_8000_590 (zs_cat _) ?_
  refine zu_bipush d_8000_591 zj_95 ?_
  refine zu_bipush d_8000_593 zj_102 ?_
  refine zs_stk2 (zs_rfe e2) ?_
  obtain ⟨k36, h⟩ := h
  refine zu_bast_byte (k := 1) d_8000_595 rfl rfl k4 (zs_Ak K35 k36) ?_
  generalize e38 : zs_si S33 b1 (95 : Int32).toNatClampNeg (vp_nar .byte (102 : Int32)) = S37
  have h := h S37 e38.symm
  have K39 : ∀ b, zs_K S37 b = zs_K S b := zs_Kt e38 (zs_Ksi _ _ _ _) K35
  refine zu_dup d_8000_596 (zs_cat _) ?_
  refine zu_bipush d_8000_597 zj_96 ?_
  refine zu_bipush d_8000_599 zj_111 ?_
  refine zs_stk2 (zs_rfe e2) ?_
  obtain ⟨k40, h⟩ := h
  refine zu_bast_byte (k := 1) d_8000_601 rfl rfl k4 (zs_Ak K39 k40) ?_
  generalize e42 : zs_si S37 b1 (96 : Int32).toNatClampNeg (vp_nar .byte (111 : Int32)) = S41
  have h := h S41 e42.symm
  have K43 : ∀ b, zs_K S41 b = zs_K S b := zs_Kt e42 (zs_Ksi _ _ _ _) K39
  exact (u_X9_init_602 hB h).weak ⟨rfl, trivial⟩
def w_X9_init_482 (X : zs_X) (d : Nat) (p0 : Nat) (q0 : Option Nat) (q1 : Option Nat) (S : zs_T) (Q : zs_Q) : Prop :=
  (∃ b1, q1 = some b1 ∧ zs_A S b1 1 (77 : Int32) ∧ ab_n0 X.1 ≤ b1 ∧ ∀ S5, S5 = zs_si S b1 (77 : Int32).toNatClampNeg (vp_nar .byte (101 : Int32)) → zs_A S b1 1 (78 : Int32) ∧ ∀ S9, S9 = zs_si S5 b1 (78 : Int32).toNatClampNeg (vp_nar .byte (32 : Int32)) → zs_A S b1 1 (79 : Int32) ∧ ∀ S13, S13 = zs_si S9 b1 (79 : Int32).toNatClampNeg (vp_nar .byte (100 : Int32)) → zs_A S b1 1 (80 : Int32) ∧ ∀ S17, S17 = zs_si S13 b1 (80 : Int32).toNatClampNeg (vp_nar .byte (111 : Int32)) → zs_A S b1 1 (81 : Int32) ∧ ∀ S21, S21 = zs_si S17 b1 (81 : Int32).toNatClampNeg (vp_nar .byte (32 : Int32)) → zs_A S b1 1 (82 : Int32) ∧ ∀ S25, S25 = zs_si S21 b1 (82 : Int32).toNatClampNeg (vp_nar .byte (114 : Int32)) → zs_A S b1 1 (83 : Int32) ∧ ∀ S29, S29 = zs_si S25 b1 (83 : Int32).toNatClampNeg (vp_nar .byte (101 : Int32)) → zs_A S b1 1 (84 : Int32) ∧ ∀ S33, S33 = zs_si S29 b1 (84 : Int32).toNatClampNeg (vp_nar .byte (112 : Int32)) → zs_A S b1 1 (85 : Int32) ∧ ∀ S37, S37 = zs_si S33 b1 (85 : Int32).toNatClampNeg (vp_nar .byte (101 : Int32)) → zs_A S b1 1 (86 : Int32) ∧ ∀ S41, S41 = zs_si S37 b1 (86 : Int32).toNatClampNeg (vp_nar .byte (97 : Int32)) → w_X9_init_542 X d p0 q0 q1 S41 Q)
theorem u_X9_init_482 {σ : Nat → Nat} {n0 : Nat} {bf : ab_B} {d : Nat} {p0 : Nat} {q0 : Option Nat} {q1 : Option Nat} {S : zs_T} {Q : zs_Q} (hB : zt_B bf) (h : w_X9_init_482 (zx σ n0 bf) d p0 q0 q1 S Q) : zs_U (zx σ n0 bf) d 8000 482 [(0, .ref p0)] [va_rf q1, va_rf q0] S Q := by
  unfold w_X9_init_482 at h
  refine zu_dup d_8000_482 (zs_cat _) ?_
  refine zu_bipush d_8000_483 zj_77 ?_
  refine zu_bipush d_8000_485 zj_101 ?_
  obtain ⟨b1, e2, h⟩ := h
  refine zs_stk2 (zs_rfe e2) ?_
  obtain ⟨k3, h⟩ := h
  obtain ⟨k4, h⟩ := h
  refine zu_bast_byte (k := 1) d_8000_487 rfl rfl k4 k3 ?_
  generalize e6 : zs_si S b1 (77 : Int32).toNatClampNeg (vp_nar .byte (101 : Int32)) = S5
  have h := h S5 e6.symm
  have K7 : ∀ b, zs_K S5 b = zs_K S b := zs_Kt e6 (zs_Ksi _ _ _ _) (fun _ => rfl)
  refine zu_dup d_8000_488 (zs_cat _) ?_
  refine zu_bipush d_8000_489 zj_78 ?_
  refine zu_bipush d_8000_491 zj_32 ?_
  refine zs_stk2 (zs_rfe e2) ?_
  obtain ⟨k8, h⟩ := h
  refine zu_bast_byte (k := 1) d_8000_493 rfl rfl k4 (zs_Ak K7 k8) ?_
  generalize e10 : zs_si S5 b1 (78 : Int32).toNatClampNeg (vp_nar .byte (32 : Int32)) = S9
  have h := h S9 e10.symm
  have K11 : ∀ b, zs_K S9 b = zs_K S b := zs_Kt e10 (zs_Ksi _ _ _ _) K7
  refine zu_dup d_8000_494 (zs_cat _) ?_
  refine zu_bipush d_8000_495 zj_79 ?_
  refine zu_bipush d_8000_497 zj_100 ?_
  refine zs_stk2 (zs_rfe e2) ?_
  obtain ⟨k12, h⟩ := h
  refine zu_bast_byte (k := 1) d_8000_499 rfl rfl k4 (zs_Ak K11 k12) ?_
  generalize e14 : zs_si S9 b1 (79 : Int32).toNatClampNeg (vp_nar .byte (100 : Int32)) = S13
  have h := h S13 e14.symm
  have K15 : ∀ b, zs_K S13 b = zs_K S b := zs_Kt e14 (zs_Ksi _ _ _ _) K11
  refine zu_dup d_8000_500 (zs_cat _) ?_
  refine zu_bipush d_8000_501 zj_80 ?_
  refine zu_bipush d_8000_503 zj_111 ?_
  refine zs_stk2 (zs_rfe e2) ?_
  obtain ⟨k16, h⟩ := h
  refine zu_bast_byte (k := 1) d_8000_505 rfl rfl k4 (zs_Ak K15 k16) ?_
  generalize e18 : zs_si S13 b1 (80 : Int32).toNatClampNeg (vp_nar .byte (111 : Int32)) = S17
  have h := h S17 e18.symm
  have K19 : ∀ b, zs_K S17 b = zs_K S b := zs_Kt e18 (zs_Ksi _ _ _ _) K15
  refine zu_dup d_8000_506 (zs_cat _) ?_
  refine zu_bipush d_8000_507 zj_81 ?_
  refine zu_bipush d_8000_509 zj_32 ?_
  refine zs_stk2 (zs_rfe e2) ?_
  obtain ⟨k20, h⟩ := h
  refine zu_bast_byte (k := 1) d_8000_511 rfl rfl k4 (zs_Ak K19 k20) ?_
  generalize e22 : zs_si S17 b1 (81 : Int32).toNatClampNeg (vp_nar .byte (32 : Int32)) = S21
  have h := h S21 e22.symm
  have K23 : ∀ b, zs_K S21 b = zs_K S b := zs_Kt e22 (zs_Ksi _ _ _ _) K19
  refine zu_dup d_8000_512 (zs_cat _) ?_
  refine zu_bipush d_8000_513 zj_82 ?_
  refine zu_bipush d_8000_515 zj_114 ?_
  refine zs_stk2 (zs_rfe e2) ?_
  obtain ⟨k24, h⟩ := h
  refine zu_bast_byte (k := 1) d_8000_517 rfl rfl k4 (zs_Ak K23 k24) ?_
  generalize e26 : zs_si S21 b1 (82 : Int32).toNatClampNeg (vp_nar .byte (114 : Int32)) = S25
  have h := h S25 e26.symm
  have K27 : ∀ b, zs_K S25 b = zs_K S b := zs_Kt e26 (zs_Ksi _ _ _ _) K23
  refine zu_dup d_8000_518 (zs_cat _) ?_
  refine zu_bipush d_8000_519 zj_83 ?_
  refine zu_bipush d_8000_521 zj_101 ?_
  refine zs_stk2 (zs_rfe e2) ?_
  obtain ⟨k28, h⟩ := h
  refine zu_bast_byte (k := 1) d_8000_523 rfl rfl k4 (zs_Ak K27 k28) ?_
  generalize e30 : zs_si S25 b1 (83 : Int32).toNatClampNeg (vp_nar .byte (101 : Int32)) = S29
  have h := h S29 e30.symm
  have K31 : ∀ b, zs_K S29 b = zs_K S b := zs_Kt e30 (zs_Ksi _ _ _ _) K27
  refine zu_dup d_8000_524 (zs_cat _) ?_
  refine zu_bipush d_8000_525 zj_84 ?_
  refine zu_bipush d_8000_527 zj_112 ?_
  refine zs_stk2 (zs_rfe e2) ?_
  obtain ⟨k32, h⟩ := h
  refine zu_bast_byte (k := 1) d_8000_529 rfl rfl k4 (zs_Ak K31 k32) ?_
  generalize e34 : zs_si S29 b1 (84 : Int32).toNatClampNeg (vp_nar .byte (112 : Int32)) = S33
  have h := h S33 e34.symm
  have K35 : ∀ b, zs_K S33 b = zs_K S b := zs_Kt e34 (zs_Ksi _ _ _ _) K31
  refine zu_dup d_8000_530 (zs_cat _) ?_
  refine zu_bipush d_8000_531 zj_85 ?_
  refine zu_bipush d_8000_533 zj_101 ?_
  refine zs_stk2 (zs_rfe e2) ?_
  obtain ⟨k36, h⟩ := h
  refine zu_bast_byte (k := 1) d_8000_535 rfl rfl k4 (zs_Ak K35 k36) ?_
  generalize e38 : zs_si S33 b1 (85 : Int32).toNatClampNeg (vp_nar .byte (101 : Int32)) = S37
  have h := h S37 e38.symm
  have K39 : ∀ b, zs_K S37 b = zs_K S b := zs_Kt e38 (zs_Ksi _ _ _ _) K35
  refine zu_dup d_8000_536 (zs_cat _) ?_
  refine zu_bipush d_8000_537 zj_86 ?_
  refine zu_bipush d_8000_539 zj_97 ?_
  refine zs_stk2 (zs_rfe e2) ?_
  obtain ⟨k40, h⟩ := h
  refine zu_bast_byte (k := 1) d_8000_541 rfl rfl k4 (zs_Ak K39 k40) ?_
  generalize e42 : zs_si S37 b1 (86 : Int32).toNatClampNeg (vp_nar .byte (97 : Int32)) = S41
  have h := h S41 e42.symm
  have K43 : ∀ b, zs_K S41 b = zs_K S b := zs_Kt e42 (zs_Ksi _ _ _ _) K39
  exact (u_X9_init_542 hB h).weak ⟨rfl, trivial⟩
def w_X9_init_422 (X : zs_X) (d : Nat) (p0 : Nat) (q0 : Option Nat) (q1 : Option Nat) (S : zs_T) (Q : zs_Q) : Prop :=
  (∃ b1, q1 = some b1 ∧ zs_A S b1 1 (67 : Int32) ∧ ab_n0 X.1 ≤ b1 ∧ ∀ S5, S5 = zs_si S b1 (67 : Int32).toNatClampNeg (vp_nar .byte (32 : Int32)) → zs_A S b1 1 (68 : Int32) ∧ ∀ S9, S9 = zs_si S5 b1 (68 : Int32).toNatClampNeg (vp_nar .byte (101 : Int32)) → zs_A S b1 1 (69 : Int32) ∧ ∀ S13, S13 = zs_si S9 b1 (69 : Int32).toNatClampNeg (vp_nar .byte (108 : Int32)) → zs_A S b1 1 (70 : Int32) ∧ ∀ S17, S17 = zs_si S13 b1 (70 : Int32).toNatClampNeg (vp_nar .byte (115 : Int32)) → zs_A S b1 1 (71 : Int32) ∧ ∀ S21, S21 = zs_si S17 b1 (71 : Int32).toNatClampNeg (vp_nar .byte (101 : Int32)) → zs_A S b1 1 (72 : Int32) ∧ ∀ S25, S25 = zs_si S21 b1 (72 : Int32).toNatClampNeg (vp_nar .byte (32 : Int32)) → zs_A S b1 1 (73 : Int32) ∧ ∀ S29, S29 = zs_si S25 b1 (73 : Int32).toNatClampNeg (vp_nar .byte (119 : Int32)) → zs_A S b1 1 (74 : Int32) ∧ ∀ S33, S33 = zs_si S29 b1 (74 : Int32).toNatClampNeg (vp_nar .byte (104 : Int32)) → zs_A S b1 1 (75 : Int32) ∧ ∀ S37, S37 = zs_si S33 b1 (75 : Int32).toNatClampNeg (vp_nar .byte (105 : Int32)) → zs_A S b1 1 (76 : Int32) ∧ ∀ S41, S41 = zs_si S37 b1 (76 : Int32).toNatClampNeg (vp_nar .byte (108 : Int32)) → w_X9_init_482 X d p0 q0 q1 S41 Q)
theorem u_X9_init_422 {σ : Nat → Nat} {n0 : Nat} {bf : ab_B} {d : Nat} {p0 : Nat} {q0 : Option Nat} {q1 : Option Nat} {S : zs_T} {Q : zs_Q} (hB : zt_B bf) (h : w_X9_init_422 (zx σ n0 bf) d p0 q0 q1 S Q) : zs_U (zx σ n0 bf) d 8000 422 [(0, .ref p0)] [va_rf q1, va_rf q0] S Q := by
  unfold w_X9_init_422 at h
  refine zu_dup d_8000_422 (zs_cat _) ?_
  refine zu_bipush d_8000_423 zj_67 ?_
  refine zu_bipush d_8000_425 zj_32 ?_
  obtain ⟨b1, e2, h⟩ := h
  refine zs_stk2 (zs_rfe e2) ?_
  obtain ⟨k3, h⟩ := h
  obtain ⟨k4, h⟩ := h
  refine zu_bast_byte (k := 1) d_8000_427 rfl rfl k4 k3 ?_
  generalize e6 : zs_si S b1 (67 : Int32).toNatClampNeg (vp_nar .byte (32 : Int32)) = S5
  have h := h S5 e6.symm
  have K7 : ∀ b, zs_K S5 b = zs_K S b := zs_Kt e6 (zs_Ksi _ _ _ _) (fun _ => rfl)
  refine zu_dup d_8000_428 (zs_cat _) ?_
  refine zu_bipush d_8000_429 zj_68 ?_
  refine zu_bipush d_8000_431 zj_101 ?_
  refine zs_stk2 (zs_rfe e2) ?_
  obtain ⟨k8, h⟩ := h
  refine zu_bast_byte (k := 1) d_8000_433 rfl rfl k4 (zs_Ak K7 k8) ?_
  generalize e10 : zs_si S5 b1 (68 : Int32).toNatClampNeg (vp_nar .byte (101 : Int32)) = S9
  have h := h S9 e10.symm
  have K11 : ∀ b, zs_K S9 b = zs_K S b := zs_Kt e10 (zs_Ksi _ _ _ _) K7
  refine zu_dup d_8000_434 (zs_cat _) ?_
  refine zu_bipush d_8000_435 zj_69 ?_
  refine zu_bipush d_8000_437 zj_108 ?_
  refine zs_stk2 (zs_rfe e2) ?_
  obtain ⟨k12, h⟩ := h
  refine zu_bast_byte (k := 1) d_8000_439 rfl rfl k4 (zs_Ak K11 k12) ?_
  generalize e14 : zs_si S9 b1 (69 : Int32).toNatClampNeg (vp_nar .byte (108 : Int32)) = S13
  have h := h S13 e14.symm
  have K15 : ∀ b, zs_K S13 b = zs_K S b := zs_Kt e14 (zs_Ksi _ _ _ _) K11
  refine zu_dup d_8000_440 (zs_cat _) ?_
  refine zu_bipush d_8000_441 zj_70 ?_
  refine zu_bipush d_8000_443 zj_115 ?_
  refine zs_stk2 (zs_rfe e2) ?_
  obtain ⟨k16, h⟩ := h
  refine zu_bast_byte (k := 1) d_8000_445 rfl rfl k4 (zs_Ak K15 k16) ?_
  generalize e18 : zs_si S13 b1 (70 : Int32).toNatClampNeg (vp_nar .byte (115 : Int32)) = S17
  have h := h S17 e18.symm
  have K19 : ∀ b, zs_K S17 b = zs_K S b := zs_Kt e18 (zs_Ksi _ _ _ _) K15
  refine zu_dup d_8000_446 (zs_cat _) ?_
  refine zu_bipush d_8000_447 zj_71 ?_
  refine zu_bipush d_8000_449 zj_101 ?_
  refine zs_stk2 (zs_rfe e2) ?_
  obtain ⟨k20, h⟩ := h
  refine zu_bast_byte (k := 1) d_8000_451 rfl rfl k4 (zs_Ak K19 k20) ?_
  generalize e22 : zs_si S17 b1 (71 : Int32).toNatClampNeg (vp_nar .byte (101 : Int32)) = S21
  have h := h S21 e22.symm
  have K23 : ∀ b, zs_K S21 b = zs_K S b := zs_Kt e22 (zs_Ksi _ _ _ _) K19
  refine zu_dup d_8000_452 (zs_cat _) ?_
  refine zu_bipush d_8000_453 zj_72 ?_
  refine zu_bipush d_8000_455 zj_32 ?_
  refine zs_stk2 (zs_rfe e2) ?_
  obtain ⟨k24, h⟩ := h
  refine zu_bast_byte (k := 1) d_8000_457 rfl rfl k4 (zs_Ak K23 k24) ?_
  generalize e26 : zs_si S21 b1 (72 : Int32).toNatClampNeg (vp_nar .byte (32 : Int32)) = S25
  have h := h S25 e26.symm
  have K27 : ∀ b, zs_K S25 b = zs_K S b := zs_Kt e26 (zs_Ksi _ _ _ _) K23
  refine zu_dup d_8000_458 (zs_cat _) ?_
  refine zu_bipush d_8000_459 zj_73 ?_
  refine zu_bipush d_8000_461 zj_119 ?_
  refine zs_stk2 (zs_rfe e2) ?_
  obtain ⟨k28, h⟩ := h
  refine zu_bast_byte (k := 1) d_8000_463 rfl rfl k4 (zs_Ak K27 k28) ?_
  generalize e30 : zs_si S25 b1 (73 : Int32).toNatClampNeg (vp_nar .byte (119 : Int32)) = S29
  have h := h S29 e30.symm
  have K31 : ∀ b, zs_K S29 b = zs_K S b := zs_Kt e30 (zs_Ksi _ _ _ _) K27
  refine zu_dup d_8000_464 (zs_cat _) ?_
  refine zu_bipush d_8000_465 zj_74 ?_
  refine zu_bipush d_8000_467 zj_104 ?_
  refine zs_stk2 (zs_rfe e2) ?_
  obtain ⟨k32, h⟩ := h
  refine zu_bast_byte (k := 1) d_8000_469 rfl rfl k4 (zs_Ak K31 k32) ?_
  generalize e34 : zs_si S29 b1 (74 : Int32).toNatClampNeg (vp_nar .byte (104 : Int32)) = S33
  have h := h S33 e34.symm
  have K35 : ∀ b, zs_K S33 b = zs_K S b := zs_Kt e34 (zs_Ksi _ _ _ _) K31
  refine zu_dup d_8000_470 (zs_cat _) ?_
  refine zu_bipush d_8000_471 zj_75 ?_
  refine zu_bipush d_8000_473 zj_105 ?_
  refine zs_stk2 (zs_rfe e2) ?_
  obtain ⟨k36, h⟩ := h
  refine zu_bast_byte (k := 1) d_8000_475 rfl rfl k4 (zs_Ak K35 k36) ?_
  generalize e38 : zs_si S33 b1 (75 : Int32).toNatClampNeg (vp_nar .byte (105 : Int32)) = S37
  have h := h S37 e38.symm
  have K39 : ∀ b, zs_K S37 b = zs_K S b := zs_Kt e38 (zs_Ksi _ _ _ _) K35
  refine zu_dup d_8000_476 (zs_cat _) ?_
  refine zu_bipush d_8000_477 zj_76 ?_
  refine zu_bipush d_8000_479 zj_108 ?_
  refine zs_stk2 (zs_rfe e2) ?_
  obtain ⟨k40, h⟩ := h
  refine zu_bast_byte (k := 1) d_8000_481 rfl rfl k4 (zs_Ak K39 k40) ?_
  generalize e42 : zs_si S37 b1 (76 : Int32).toNatClampNeg (vp_nar .byte (108 : Int32)) = S41
  have h := h S41 e42.symm
  have K43 : ∀ b, zs_K S41 b = zs_K S b := zs_Kt e42 (zs_Ksi _ _ _ _) K39
  exact (u_X9_init_482 hB h).weak ⟨rfl, trivial⟩
def w_X9_init_362 (X : zs_X) (d : Nat) (p0 : Nat) (q0 : Option Nat) (q1 : Option Nat) (S : zs_T) (Q : zs_Q) : Prop :=
  (∃ b1, q1 = some b1 ∧ zs_A S b1 1 (57 : Int32) ∧ ab_n0 X.1 ≤ b1 ∧ ∀ S5, S5 = zs_si S b1 (57 : Int32).toNatClampNeg (vp_nar .byte (110 : Int32)) → zs_A S b1 1 (58 : Int32) ∧ ∀ S9, S9 = zs_si S5 b1 (58 : Int32).toNatClampNeg (vp_nar .byte (100 : Int32)) → zs_A S b1 1 (59 : Int32) ∧ ∀ S13, S13 = zs_si S9 b1 (59 : Int32).toNatClampNeg (vp_nar .byte (32 : Int32)) → zs_A S b1 1 (60 : Int32) ∧ ∀ S17, S17 = zs_si S13 b1 (60 : Int32).toNatClampNeg (vp_nar .byte (105 : Int32)) → zs_A S b1 1 (61 : Int32) ∧ ∀ S21, S21 = zs_si S17 b1 (61 : Int32).toNatClampNeg (vp_nar .byte (102 : Int32)) → zs_A S b1 1 (62 : Int32) ∧ ∀ S25, S25 = zs_si S21 b1 (62 : Int32).toNatClampNeg (vp_nar .byte (32 : Int32)) → zs_A S b1 1 (63 : Int32) ∧ ∀ S29, S29 = zs_si S25 b1 (63 : Int32).toNatClampNeg (vp_nar .byte (116 : Int32)) → zs_A S b1 1 (64 : Int32) ∧ ∀ S33, S33 = zs_si S29 b1 (64 : Int32).toNatClampNeg (vp_nar .byte (104 : Int32)) → zs_A S b1 1 (65 : Int32) ∧ ∀ S37, S37 = zs_si S33 b1 (65 : Int32).toNatClampNeg (vp_nar .byte (101 : Int32)) → zs_A S b1 1 (66 : Int32) ∧ ∀ S41, S41 = zs_si S37 b1 (66 : Int32).toNatClampNeg (vp_nar .byte (110 : Int32)) → w_X9_init_422 X d p0 q0 q1 S41 Q)
theorem u_X9_init_362 {σ : Nat → Nat} {n0 : Nat} {bf : ab_B} {d : Nat} {p0 : Nat} {q0 : Option Nat} {q1 : Option Nat} {S : zs_T} {Q : zs_Q} (hB : zt_B bf) (h : w_X9_init_362 (zx σ n0 bf) d p0 q0 q1 S Q) : zs_U (zx σ n0 bf) d 8000 362 [(0, .ref p0)] [va_rf q1, va_rf q0] S Q := by
  unfold w_X9_init_362 at h
  refine zu_dup d_8000_362 (zs_cat _) ?_
  refine zu_bipush d_8000_363 zj_57 ?_
  refine zu_bipush d_8000_365 zj_110 ?_
  obtain ⟨b1, e2, h⟩ := h
  refine zs_stk2 (zs_rfe e2) ?_
  obtain ⟨k3, h⟩ := h
  obtain ⟨k4, h⟩ := h
  refine zu_bast_byte (k := 1) d_8000_367 rfl rfl k4 k3 ?_
  generalize e6 : zs_si S b1 (57 : Int32).toNatClampNeg (vp_nar .byte (110 : Int32)) = S5
  have h := h S5 e6.symm
  have K7 : ∀ b, zs_K S5 b = zs_K S b := zs_Kt e6 (zs_Ksi _ _ _ _) (fun _ => rfl)
  refine zu_dup d_8000_368 (zs_cat _) ?_
  refine zu_bipush d_8000_369 zj_58 ?_
  refine zu_bipush d_8000_371 zj_100 ?_
  refine zs_stk2 (zs_rfe e2) ?_
  obtain ⟨k8, h⟩ := h
  refine zu_bast_byte (k := 1) d_8000_373 rfl rfl k4 (zs_Ak K7 k8) ?_
  generalize e10 : zs_si S5 b1 (58 : Int32).toNatClampNeg (vp_nar .byte (100 : Int32)) = S9
  have h := h S9 e10.symm
  have K11 : ∀ b, zs_K S9 b = zs_K S b := zs_Kt e10 (zs_Ksi _ _ _ _) K7
  refine zu_dup d_8000_374 (zs_cat _) ?_
  refine zu_bipush d_8000_375 zj_59 ?_
  refine zu_bipush d_8000_377 zj_32 ?_
  refine zs_stk2 (zs_rfe e2) ?_
  obtain ⟨k12, h⟩ := h
  refine zu_bast_byte (k := 1) d_8000_379 rfl rfl k4 (zs_Ak K11 k12) ?_
  generalize e14 : zs_si S9 b1 (59 : Int32).toNatClampNeg (vp_nar .byte (32 : Int32)) = S13
  have h := h S13 e14.symm
  have K15 : ∀ b, zs_K S13 b = zs_K S b := zs_Kt e14 (zs_Ksi _ _ _ _) K11
  refine zu_dup d_8000_380 (zs_cat _) ?_
  refine zu_bipush d_8000_381 zj_60 ?_
  refine zu_bipush d_8000_383 zj_105 ?_
  refine zs_stk2 (zs_rfe e2) ?_
  obtain ⟨k16, h⟩ := h
  refine zu_bast_byte (k := 1) d_8000_385 rfl rfl k4 (zs_Ak K15 k16) ?_
  generalize e18 : zs_si S13 b1 (60 : Int32).toNatClampNeg (vp_nar .byte (105 : Int32)) = S17
  have h := h S17 e18.symm
  have K19 : ∀ b, zs_K S17 b = zs_K S b := zs_Kt e18 (zs_Ksi _ _ _ _) K15
  refine zu_dup d_8000_386 (zs_cat _) ?_
  refine zu_bipush d_8000_387 zj_61 ?_
  refine zu_bipush d_8000_389 zj_102 ?_
  refine zs_stk2 (zs_rfe e2) ?_
  obtain ⟨k20, h⟩ := h
  refine zu_bast_byte (k := 1) d_8000_391 rfl rfl k4 (zs_Ak K19 k20) ?_
  generalize e22 : zs_si S17 b1 (61 : Int32).toNatClampNeg (vp_nar .byte (102 : Int32)) = S21
  have h := h S21 e22.symm
  have K23 : ∀ b, zs_K S21 b = zs_K S b := zs_Kt e22 (zs_Ksi _ _ _ _) K19
  refine zu_dup d_8000_392 (zs_cat _) ?_
  refine zu_bipush d_8000_393 zj_62 ?_
  refine zu_bipush d_8000_395 zj_32 ?_
  refine zs_stk2 (zs_rfe e2) ?_
  obtain ⟨k24, h⟩ := h
  refine zu_bast_byte (k := 1) d_8000_397 rfl rfl k4 (zs_Ak K23 k24) ?_
  generalize e26 : zs_si S21 b1 (62 : Int32).toNatClampNeg (vp_nar .byte (32 : Int32)) = S25
  have h := h S25 e26.symm
  have K27 : ∀ b, zs_K S25 b = zs_K S b := zs_Kt e26 (zs_Ksi _ _ _ _) K23
  refine zu_dup d_8000_398 (zs_cat _) ?_
  refine zu_bipush d_8000_399 zj_63 ?_
  refine zu_bipush d_8000_401 zj_116 ?_
  refine zs_stk2 (zs_rfe e2) ?_
  obtain ⟨k28, h⟩ := h
  refine zu_bast_byte (k := 1) d_8000_403 rfl rfl k4 (zs_Ak K27 k28) ?_
  generalize e30 : zs_si S25 b1 (63 : Int32).toNatClampNeg (vp_nar .byte (116 : Int32)) = S29
  have h := h S29 e30.symm
  have K31 : ∀ b, zs_K S29 b = zs_K S b := zs_Kt e30 (zs_Ksi _ _ _ _) K27
  refine zu_dup d_8000_404 (zs_cat _) ?_
  refine zu_bipush d_8000_405 zj_64 ?_
  refine zu_bipush d_8000_407 zj_104 ?_
  refine zs_stk2 (zs_rfe e2) ?_
  obtain ⟨k32, h⟩ := h
  refine zu_bast_byte (k := 1) d_8000_409 rfl rfl k4 (zs_Ak K31 k32) ?_
  generalize e34 : zs_si S29 b1 (64 : Int32).toNatClampNeg (vp_nar .byte (104 : Int32)) = S33
  have h := h S33 e34.symm
  have K35 : ∀ b, zs_K S33 b = zs_K S b := zs_Kt e34 (zs_Ksi _ _ _ _) K31
  refine zu_dup d_8000_410 (zs_cat _) ?_
  refine zu_bipush d_8000_411 zj_65 ?_
  refine zu_bipush d_8000_413 zj_101 ?_
  refine zs_stk2 (zs_rfe e2) ?_
  obtain ⟨k36, h⟩ := h
  refine zu_bast_byte (k := 1) d_8000_415 rfl rfl k4 (zs_Ak K35 k36) ?_
  generalize e38 : zs_si S33 b1 (65 : Int32).toNatClampNeg (vp_nar .byte (101 : Int32)) = S37
  have h := h S37 e38.symm
  have K39 : ∀ b, zs_K S37 b = zs_K S b := zs_Kt e38 (zs_Ksi _ _ _ _) K35
  refine zu_dup d_8000_416 (zs_cat _) ?_
  refine zu_bipush d_8000_417 zj_66 ?_
  refine zu_bipush d_8000_419 zj_110 ?_
  refine zs_stk2 (zs_rfe e2) ?_
  obtain ⟨k40, h⟩ := h
  refine zu_bast_byte (k := 1) d_8000_421 rfl rfl k4 (zs_Ak K39 k40) ?_
  generalize e42 : zs_si S37 b1 (66 : Int32).toNatClampNeg (vp_nar .byte (110 : Int32)) = S41
  have h := h S41 e42.symm
  have K43 : ∀ b, zs_K S41 b = zs_K S b := zs_Kt e42 (zs_Ksi _ _ _ _) K39
  exact (u_X9_init_422 hB h).weak ⟨rfl, trivial⟩
def w_X9_init_302 (X : zs_X) (d : Nat) (p0 : Nat) (q0 : Option Nat) (q1 : Option Nat) (S : zs_T) (Q : zs_Q) : Prop :=
  (∃ b1, q1 = some b1 ∧ zs_A S b1 1 (47 : Int32) ∧ ab_n0 X.1 ≤ b1 ∧ ∀ S5, S5 = zs_si S b1 (47 : Int32).toNatClampNeg (vp_nar .byte (114 : Int32)) → zs_A S b1 1 (48 : Int32) ∧ ∀ S9, S9 = zs_si S5 b1 (48 : Int32).toNatClampNeg (vp_nar .byte (100 : Int32)) → zs_A S b1 1 (49 : Int32) ∧ ∀ S13, S13 = zs_si S9 b1 (49 : Int32).toNatClampNeg (vp_nar .byte (32 : Int32)) → zs_A S b1 1 (50 : Int32) ∧ ∀ S17, S17 = zs_si S13 b1 (50 : Int32).toNatClampNeg (vp_nar .byte (98 : Int32)) → zs_A S b1 1 (51 : Int32) ∧ ∀ S21, S21 = zs_si S17 b1 (51 : Int32).toNatClampNeg (vp_nar .byte (101 : Int32)) → zs_A S b1 1 (52 : Int32) ∧ ∀ S25, S25 = zs_si S21 b1 (52 : Int32).toNatClampNeg (vp_nar .byte (103 : Int32)) → zs_A S b1 1 (53 : Int32) ∧ ∀ S29, S29 = zs_si S25 b1 (53 : Int32).toNatClampNeg (vp_nar .byte (105 : Int32)) → zs_A S b1 1 (54 : Int32) ∧ ∀ S33, S33 = zs_si S29 b1 (54 : Int32).toNatClampNeg (vp_nar .byte (110 : Int32)) → zs_A S b1 1 (55 : Int32) ∧ ∀ S37, S37 = zs_si S33 b1 (55 : Int32).toNatClampNeg (vp_nar .byte (32 : Int32)) → zs_A S b1 1 (56 : Int32) ∧ ∀ S41, S41 = zs_si S37 b1 (56 : Int32).toNatClampNeg (vp_nar .byte (101 : Int32)) → w_X9_init_362 X d p0 q0 q1 S41 Q)
theorem u_X9_init_302 {σ : Nat → Nat} {n0 : Nat} {bf : ab_B} {d : Nat} {p0 : Nat} {q0 : Option Nat} {q1 : Option Nat} {S : zs_T} {Q : zs_Q} (hB : zt_B bf) (h : w_X9_init_302 (zx σ n0 bf) d p0 q0 q1 S Q) : zs_U (zx σ n0 bf) d 8000 302 [(0, .ref p0)] [va_rf q1, va_rf q0] S Q := by
  unfold w_X9_init_302 at h
  refine zu_dup d_8000_302 (zs_cat _) ?_
  refine zu_bipush d_8000_303 zj_47 ?_
  refine zu_bipush d_8000_305 zj_114 ?_
  obtain ⟨b1, e2, h⟩ := h
  refine zs_stk2 (zs_rfe e2) ?_
  obtain ⟨k3, h⟩ := h
  obtain ⟨k4, h⟩ := h
  refine zu_bast_byte (k := 1) d_8000_307 rfl rfl k4 k3 ?_
  generalize e6 : zs_si S b1 (47 : Int32).toNatClampNeg (vp_nar .byte (114 : Int32)) = S5
  have h := h S5 e6.symm
  have K7 : ∀ b, zs_K S5 b = zs_K S b := zs_Kt e6 (zs_Ksi _ _ _ _) (fun _ => rfl)
  refine zu_dup d_8000_308 (zs_cat _) ?_
  refine zu_bipush d_8000_309 zj_48 ?_
  refine zu_bipush d_8000_311 zj_100 ?_
  refine zs_stk2 (zs_rfe e2) ?_
  obtain ⟨k8, h⟩ := h
  refine zu_bast_byte (k := 1) d_8000_313 rfl rfl k4 (zs_Ak K7 k8) ?_
  generalize e10 : zs_si S5 b1 (48 : Int32).toNatClampNeg (vp_nar .byte (100 : Int32)) = S9
  have h := h S9 e10.symm
  have K11 : ∀ b, zs_K S9 b = zs_K S b := zs_Kt e10 (zs_Ksi _ _ _ _) K7
  refine zu_dup d_8000_314 (zs_cat _) ?_
  refine zu_bipush d_8000_315 zj_49 ?_
  refine zu_bipush d_8000_317 zj_32 ?_
  refine zs_stk2 (zs_rfe e2) ?_
  obtain ⟨k12, h⟩ := h
  refine zu_bast_byte (k := 1) d_8000_319 rfl rfl k4 (zs_Ak K11 k12) ?_
  generalize e14 : zs_si S9 b1 (49 : Int32).toNatClampNeg (vp_nar .byte (32 : Int32)) = S13
  have h := h S13 e14.symm
  have K15 : ∀ b, zs_K S13 b = zs_K S b := zs_Kt e14 (zs_Ksi _ _ _ _) K11
  refine zu_dup d_8000_320 (zs_cat _) ?_
  refine zu_bipush d_8000_321 zj_50 ?_
  refine zu_bipush d_8000_323 zj_98 ?_
  refine zs_stk2 (zs_rfe e2) ?_
  obtain ⟨k16, h⟩ := h
  refine zu_bast_byte (k := 1) d_8000_325 rfl rfl k4 (zs_Ak K15 k16) ?_
  generalize e18 : zs_si S13 b1 (50 : Int32).toNatClampNeg (vp_nar .byte (98 : Int32)) = S17
  have h := h S17 e18.symm
  have K19 : ∀ b, zs_K S17 b = zs_K S b := zs_Kt e18 (zs_Ksi _ _ _ _) K15
  refine zu_dup d_8000_326 (zs_cat _) ?_
  refine zu_bipush d_8000_327 zj_51 ?_
  refine zu_bipush d_8000_329 zj_101 ?_
  refine zs_stk2 (zs_rfe e2) ?_
  obtain ⟨k20, h⟩ := h
  refine zu_bast_byte (k := 1) d_8000_331 rfl rfl k4 (zs_Ak K19 k20) ?_
  generalize e22 : zs_si S17 b1 (51 : Int32).toNatClampNeg (vp_nar .byte (101 : Int32)) = S21
  have h := h S21 e22.symm
  have K23 : ∀ b, zs_K S21 b = zs_K S b := zs_Kt e22 (zs_Ksi _ _ _ _) K19
  refine zu_dup d_8000_332 (zs_cat _) ?_
  refine zu_bipush d_8000_333 zj_52 ?_
  refine zu_bipush d_8000_335 zj_103 ?_
  refine zs_stk2 (zs_rfe e2) ?_
  obtain ⟨k24, h⟩ := h
  refine zu_bast_byte (k := 1) d_8000_337 rfl rfl k4 (zs_Ak K23 k24) ?_
  generalize e26 : zs_si S21 b1 (52 : Int32).toNatClampNeg (vp_nar .byte (103 : Int32)) = S25
  have h := h S25 e26.symm
  have K27 : ∀ b, zs_K S25 b = zs_K S b := zs_Kt e26 (zs_Ksi _ _ _ _) K23
  refine zu_dup d_8000_338 (zs_cat _) ?_
  refine zu_bipush d_8000_339 zj_53 ?_
  refine zu_bipush d_8000_341 zj_105 ?_
  refine zs_stk2 (zs_rfe e2) ?_
  obtain ⟨k28, h⟩ := h
  refine zu_bast_byte (k := 1) d_8000_343 rfl rfl k4 (zs_Ak K27 k28) ?_
  generalize e30 : zs_si S25 b1 (53 : Int32).toNatClampNeg (vp_nar .byte (105 : Int32)) = S29
  have h := h S29 e30.symm
  have K31 : ∀ b, zs_K S29 b = zs_K S b := zs_Kt e30 (zs_Ksi _ _ _ _) K27
  refine zu_dup d_8000_344 (zs_cat _) ?_
  refine zu_bipush d_8000_345 zj_54 ?_
  refine zu_bipush d_8000_347 zj_110 ?_
  refine zs_stk2 (zs_rfe e2) ?_
  obtain ⟨k32, h⟩ := h
  refine zu_bast_byte (k := 1) d_8000_349 rfl rfl k4 (zs_Ak K31 k32) ?_
  generalize e34 : zs_si S29 b1 (54 : Int32).toNatClampNeg (vp_nar .byte (110 : Int32)) = S33
  have h := h S33 e34.symm
  have K35 : ∀ b, zs_K S33 b = zs_K S b := zs_Kt e34 (zs_Ksi _ _ _ _) K31
  refine zu_dup d_8000_350 (zs_cat _) ?_
  refine zu_bipush d_8000_351 zj_55 ?_
  refine zu_bipush d_8000_353 zj_32 ?_
  refine zs_stk2 (zs_rfe e2) ?_
  obtain ⟨k36, h⟩ := h
  refine zu_bast_byte (k := 1) d_8000_355 rfl rfl k4 (zs_Ak K35 k36) ?_
  generalize e38 : zs_si S33 b1 (55 : Int32).toNatClampNeg (vp_nar .byte (32 : Int32)) = S37
  have h := h S37 e38.symm
  have K39 : ∀ b, zs_K S37 b = zs_K S b := zs_Kt e38 (zs_Ksi _ _ _ _) K35
  refine zu_dup d_8000_356 (zs_cat _) ?_
  refine zu_bipush d_8000_357 zj_56 ?_
  refine zu_bipush d_8000_359 zj_101 ?_
  refine zs_stk2 (zs_rfe e2) ?_
  obtain ⟨k40, h⟩ := h
  refine zu_bast_byte (k := 1) d_8000_361 rfl rfl k4 (zs_Ak K39 k40) ?_
  generalize e42 : zs_si S37 b1 (56 : Int32).toNatClampNeg (vp_nar .byte (101 : Int32)) = S41
  have h := h S41 e42.symm
  have K43 : ∀ b, zs_K S41 b = zs_K S b := zs_Kt e42 (zs_Ksi _ _ _ _) K39
  exact (u_X9_init_362 hB h).weak ⟨rfl, trivial⟩
def w_X9_init_242 (X : zs_X) (d : Nat) (p0 : Nat) (q0 : Option Nat) (q1 : Option Nat) (S : zs_T) (Q : zs_Q) : Prop :=
  (∃ b1, q1 = some b1 ∧ zs_A S b1 1 (37 : Int32) ∧ ab_n0 X.1 ≤ b1 ∧ ∀ S5, S5 = zs_si S b1 (37 : Int32).toNatClampNeg (vp_nar .byte (116 : Int32)) → zs_A S b1 1 (38 : Int32) ∧ ∀ S9, S9 = zs_si S5 b1 (38 : Int32).toNatClampNeg (vp_nar .byte (105 : Int32)) → zs_A S b1 1 (39 : Int32) ∧ ∀ S13, S13 = zs_si S9 b1 (39 : Int32).toNatClampNeg (vp_nar .byte (111 : Int32)) → zs_A S b1 1 (40 : Int32) ∧ ∀ S17, S17 = zs_si S13 b1 (40 : Int32).toNatClampNeg (vp_nar .byte (110 : Int32)) → zs_A S b1 1 (41 : Int32) ∧ ∀ S21, S21 = zs_si S17 b1 (41 : Int32).toNatClampNeg (vp_nar .byte (32 : Int32)) → zs_A S b1 1 (42 : Int32) ∧ ∀ S25, S25 = zs_si S21 b1 (42 : Int32).toNatClampNeg (vp_nar .byte (102 : Int32)) → zs_A S b1 1 (43 : Int32) ∧ ∀ S29, S29 = zs_si S25 b1 (43 : Int32).toNatClampNeg (vp_nar .byte (111 : Int32)) → zs_A S b1 1 (44 : Int32) ∧ ∀ S33, S33 = zs_si S29 b1 (44 : Int32).toNatClampNeg (vp_nar .byte (114 : Int32)) → zs_A S b1 1 (45 : Int32) ∧ ∀ S37, S37 = zs_si S33 b1 (45 : Int32).toNatClampNeg (vp_nar .byte (119 : Int32)) → zs_A S b1 1 (46 : Int32) ∧ ∀ S41, S41 = zs_si S37 b1 (46 : Int32).toNatClampNeg (vp_nar .byte (97 : Int32)) → w_X9_init_302 X d p0 q0 q1 S41 Q)
theorem u_X9_init_242 {σ : Nat → Nat} {n0 : Nat} {bf : ab_B} {d : Nat} {p0 : Nat} {q0 : Option Nat} {q1 : Option Nat} {S : zs_T} {Q : zs_Q} (hB : zt_B bf) (h : w_X9_init_242 (zx σ n0 bf) d p0 q0 q1 S Q) : zs_U (zx σ n0 bf) d 8000 242 [(0, .ref p0)] [va_rf q1, va_rf q0] S Q := by
  unfold w_X9_init_242 at h
  refine zu_dup d_8000_242 (zs_cat _) ?_
  refine zu_bipush d_8000_243 zj_37 ?_
  refine zu_bipush d_8000_245 zj_116 ?_
  obtain ⟨b1, e2, h⟩ := h
  refine zs_stk2 (zs_rfe e2) ?_
  obtain ⟨k3, h⟩ := h
  obtain ⟨k4, h⟩ := h
  refine zu_bast_byte (k := 1) d_8000_247 rfl rfl k4 k3 ?_
  generalize e6 : zs_si S b1 (37 : Int32).toNatClampNeg (vp_nar .byte (116 : Int32)) = S5
  have h := h S5 e6.symm
  have K7 : ∀ b, zs_K S5 b = zs_K S b := zs_Kt e6 (zs_Ksi _ _ _ _) (fun _ => rfl)
  refine zu_dup d_8000_248 (zs_cat _) ?_
  refine zu_bipush d_8000_249 zj_38 ?_
  refine zu_bipush d_8000_251 zj_105 ?_
  refine zs_stk2 (zs_rfe e2) ?_
  obtain ⟨k8, h⟩ := h
  refine zu_bast_byte (k := 1) d_8000_253 rfl rfl k4 (zs_Ak K7 k8) ?_
  generalize e10 : zs_si S5 b1 (38 : Int32).toNatClampNeg (vp_nar .byte (105 : Int32)) = S9
  have h := h S9 e10.symm
  have K11 : ∀ b, zs_K S9 b = zs_K S b := zs_Kt e10 (zs_Ksi _ _ _ _) K7
  refine zu_dup d_8000_254 (zs_cat _) ?_
  refine zu_bipush d_8000_255 zj_39 ?_
  refine zu_bipush d_8000_257 zj_111 ?_
  refine zs_stk2 (zs_rfe e2) ?_
  obtain ⟨k12, h⟩ := h
  refine zu_bast_byte (k := 1) d_8000_259 rfl rfl k4 (zs_Ak K11 k12) ?_
  generalize e14 : zs_si S9 b1 (39 : Int32).toNatClampNeg (vp_nar .byte (111 : Int32)) = S13
  have h := h S13 e14.symm
  have K15 : ∀ b, zs_K S13 b = zs_K S b := zs_Kt e14 (zs_Ksi _ _ _ _) K11
  refine zu_dup d_8000_260 (zs_cat _) ?_
  refine zu_bipush d_8000_261 zj_40 ?_
  refine zu_bipush d_8000_263 zj_110 ?_
  refine zs_stk2 (zs_rfe e2) ?_
  obtain ⟨k16, h⟩ := h
  refine zu_bast_byte (k := 1) d_8000_265 rfl rfl k4 (zs_Ak K15 k16) ?_
  generalize e18 : zs_si S13 b1 (40 : Int32).toNatClampNeg (vp_nar .byte (110 : Int32)) = S17
  have h := h S17 e18.symm
  have K19 : ∀ b, zs_K S17 b = zs_K S b := zs_Kt e18 (zs_Ksi _ _ _ _) K15
  refine zu_dup d_8000_266 (zs_cat _) ?_
  refine zu_bipush d_8000_267 zj_41 ?_
  refine zu_bipush d_8000_269 zj_32 ?_
  refine zs_stk2 (zs_rfe e2) ?_
  obtain ⟨k20, h⟩ := h
  refine zu_bast_byte (k := 1) d_8000_271 rfl rfl k4 (zs_Ak K19 k20) ?_
  generalize e22 : zs_si S17 b1 (41 : Int32).toNatClampNeg (vp_nar .byte (32 : Int32)) = S21
  have h := h S21 e22.symm
  have K23 : ∀ b, zs_K S21 b = zs_K S b := zs_Kt e22 (zs_Ksi _ _ _ _) K19
  refine zu_dup d_8000_272 (zs_cat _) ?_
  refine zu_bipush d_8000_273 zj_42 ?_
  refine zu_bipush d_8000_275 zj_102 ?_
  refine zs_stk2 (zs_rfe e2) ?_
  obtain ⟨k24, h⟩ := h
  refine zu_bast_byte (k := 1) d_8000_277 rfl rfl k4 (zs_Ak K23 k24) ?_
  generalize e26 : zs_si S21 b1 (42 : Int32).toNatClampNeg (vp_nar .byte (102 : Int32)) = S25
  have h := h S25 e26.symm
  have K27 : ∀ b, zs_K S25 b = zs_K S b := zs_Kt e26 (zs_Ksi _ _ _ _) K23
  refine zu_dup d_8000_278 (zs_cat _) ?_
  refine zu_bipush d_8000_279 zj_43 ?_
  refine zu_bipush d_8000_281 zj_111 ?_
  refine zs_stk2 (zs_rfe e2) ?_
  obtain ⟨k28, h⟩ := h
  refine zu_bast_byte (k := 1) d_8000_283 rfl rfl k4 (zs_Ak K27 k28) ?_
  generalize e30 : zs_si S25 b1 (43 : Int32).toNatClampNeg (vp_nar .byte (111 : Int32)) = S29
  have h := h S29 e30.symm
  have K31 : ∀ b, zs_K S29 b = zs_K S b := zs_Kt e30 (zs_Ksi _ _ _ _) K27
  refine zu_dup d_8000_284 (zs_cat _) ?_
  refine zu_bipush d_8000_285 zj_44 ?_
  refine zu_bipush d_8000_287 zj_114 ?_
  refine zs_stk2 (zs_rfe e2) ?_
  obtain ⟨k32, h⟩ := h
  refine zu_bast_byte (k := 1) d_8000_289 rfl rfl k4 (zs_Ak K31 k32) ?_
  generalize e34 : zs_si S29 b1 (44 : Int32).toNatClampNeg (vp_nar .byte (114 : Int32)) = S33
  have h := h S33 e34.symm
  have K35 : ∀ b, zs_K S33 b = zs_K S b := zs_Kt e34 (zs_Ksi _ _ _ _) K31
  refine zu_dup d_8000_290 (zs_cat _) ?_
  refine zu_bipush d_8000_291 zj_45 ?_
  refine zu_bipush d_8000_293 zj_119 ?_
  refine zs_stk2 (zs_rfe e2) ?_
  obtain ⟨k36, h⟩ := h
  refine zu_bast_byte (k := 1) d_8000_295 rfl rfl k4 (zs_Ak K35 k36) ?_
  generalize e38 : zs_si S33 b1 (45 : Int32).toNatClampNeg (vp_nar .byte (119 : Int32)) = S37
  have h := h S37 e38.symm
  have K39 : ∀ b, zs_K S37 b = zs_K S b := zs_Kt e38 (zs_Ksi _ _ _ _) K35
  refine zu_dup d_8000_296 (zs_cat _) ?_
  refine zu_bipush d_8000_297 zj_46 ?_
  refine zu_bipush d_8000_299 zj_97 ?_
  refine zs_stk2 (zs_rfe e2) ?_
  obtain ⟨k40, h⟩ := h
  refine zu_bast_byte (k := 1) d_8000_301 rfl rfl k4 (zs_Ak K39 k40) ?_
  generalize e42 : zs_si S37 b1 (46 : Int32).toNatClampNeg (vp_nar .byte (97 : Int32)) = S41
  have h := h S41 e42.symm
  have K43 : ∀ b, zs_K S41 b = zs_K S b := zs_Kt e42 (zs_Ksi _ _ _ _) K39
  exact (u_X9_init_302 hB h).weak ⟨rfl, trivial⟩
def w_X9_init_182 (X : zs_X) (d : Nat) (p0 : Nat) (q0 : Option Nat) (q1 : Option Nat) (S : zs_T) (Q : zs_Q) : Prop :=
  (∃ b1, q1 = some b1 ∧ zs_A S b1 1 (27 : Int32) ∧ ab_n0 X.1 ≤ b1 ∧ ∀ S5, S5 = zs_si S b1 (27 : Int32).toNatClampNeg (vp_nar .byte (101 : Int32)) → zs_A S b1 1 (28 : Int32) ∧ ∀ S9, S9 = zs_si S5 b1 (28 : Int32).toNatClampNeg (vp_nar .byte (100 : Int32)) → zs_A S b1 1 (29 : Int32) ∧ ∀ S13, S13 = zs_si S9 b1 (29 : Int32).toNatClampNeg (vp_nar .byte (117 : Int32)) → zs_A S b1 1 (30 : Int32) ∧ ∀ S17, S17 = zs_si S13 b1 (30 : Int32).toNatClampNeg (vp_nar .byte (114 : Int32)) → zs_A S b1 1 (31 : Int32) ∧ ∀ S21, S21 = zs_si S17 b1 (31 : Int32).toNatClampNeg (vp_nar .byte (101 : Int32)) → zs_A S b1 1 (32 : Int32) ∧ ∀ S25, S25 = zs_si S21 b1 (32 : Int32).toNatClampNeg (vp_nar .byte (32 : Int32)) → zs_A S b1 1 (33 : Int32) ∧ ∀ S29, S29 = zs_si S25 b1 (33 : Int32).toNatClampNeg (vp_nar .byte (102 : Int32)) → zs_A S b1 1 (34 : Int32) ∧ ∀ S33, S33 = zs_si S29 b1 (34 : Int32).toNatClampNeg (vp_nar .byte (117 : Int32)) → zs_A S b1 1 (35 : Int32) ∧ ∀ S37, S37 = zs_si S33 b1 (35 : Int32).toNatClampNeg (vp_nar .byte (110 : Int32)) → zs_A S b1 1 (36 : Int32) ∧ ∀ S41, S41 = zs_si S37 b1 (36 : Int32).toNatClampNeg (vp_nar .byte (99 : Int32)) → w_X9_init_242 X d p0 q0 q1 S41 Q)
theorem u_X9_init_182 {σ : Nat → Nat} {n0 : Nat} {bf : ab_B} {d : Nat} {p0 : Nat} {q0 : Option Nat} {q1 : Option Nat} {S : zs_T} {Q : zs_Q} (hB : zt_B bf) (h : w_X9_init_182 (zx σ n0 bf) d p0 q0 q1 S Q) : zs_U (zx σ n0 bf) d 8000 182 [(0, .ref p0)] [va_rf q1, va_rf q0] S Q := by
  unfold w_X9_init_182 at h
  refine zu_dup d_8000_182 (zs_cat _) ?_
  refine zu_bipush d_8000_183 zj_27 ?_
  refine zu_bipush d_8000_185 zj_101 ?_
  obtain ⟨b1, e2, h⟩ := h
  refine zs_stk2 (zs_rfe e2) ?_
  obtain ⟨k3, h⟩ := h
  obtain ⟨k4, h⟩ := h
  refine zu_bast_byte (k := 1) d_8000_187 rfl rfl k4 k3 ?_
  generalize e6 : zs_si S b1 (27 : Int32).toNatClampNeg (vp_nar .byte (101 : Int32)) = S5
  have h := h S5 e6.symm
  have K7 : ∀ b, zs_K S5 b = zs_K S b := zs_Kt e6 (zs_Ksi _ _ _ _) (fun _ => rfl)
  refine zu_dup d_8000_188 (zs_cat _) ?_
  refine zu_bipush d_8000_189 zj_28 ?_
  refine zu_bipush d_8000_191 zj_100 ?_
  refine zs_stk2 (zs_rfe e2) ?_
  obtain ⟨k8, h⟩ := h
  refine zu_bast_byte (k := 1) d_8000_193 rfl rfl k4 (zs_Ak K7 k8) ?_
  generalize e10 : zs_si S5 b1 (28 : Int32).toNatClampNeg (vp_nar .byte (100 : Int32)) = S9
  have h := h S9 e10.symm
  have K11 : ∀ b, zs_K S9 b = zs_K S b := zs_Kt e10 (zs_Ksi _ _ _ _) K7
  refine zu_dup d_8000_194 (zs_cat _) ?_
  refine zu_bipush d_8000_195 zj_29 ?_
  refine zu_bipush d_8000_197 zj_117 ?_
  refine zs_stk2 (zs_rfe e2) ?_
  obtain ⟨k12, h⟩ := h
  refine zu_bast_byte (k := 1) d_8000_199 rfl rfl k4 (zs_Ak K11 k12) ?_
  generalize e14 : zs_si S9 b1 (29 : Int32).toNatClampNeg (vp_nar .byte (117 : Int32)) = S13
  have h := h S13 e14.symm
  have K15 : ∀ b, zs_K S13 b = zs_K S b := zs_Kt e14 (zs_Ksi _ _ _ _) K11
  refine zu_dup d_8000_200 (zs_cat _) ?_
  refine zu_bipush d_8000_201 zj_30 ?_
  refine zu_bipush d_8000_203 zj_114 ?_
  refine zs_stk2 (zs_rfe e2) ?_
  obtain ⟨k16, h⟩ := h
  refine zu_bast_byte (k := 1) d_8000_205 rfl rfl k4 (zs_Ak K15 k16) ?_
  generalize e18 : zs_si S13 b1 (30 : Int32).toNatClampNeg (vp_nar .byte (114 : Int32)) = S17
  have h := h S17 e18.symm
  have K19 : ∀ b, zs_K S17 b = zs_K S b := zs_Kt e18 (zs_Ksi _ _ _ _) K15
  refine zu_dup d_8000_206 (zs_cat _) ?_
  refine zu_bipush d_8000_207 zj_31 ?_
  refine zu_bipush d_8000_209 zj_101 ?_
  refine zs_stk2 (zs_rfe e2) ?_
  obtain ⟨k20, h⟩ := h
  refine zu_bast_byte (k := 1) d_8000_211 rfl rfl k4 (zs_Ak K19 k20) ?_
  generalize e22 : zs_si S17 b1 (31 : Int32).toNatClampNeg (vp_nar .byte (101 : Int32)) = S21
  have h := h S21 e22.symm
  have K23 : ∀ b, zs_K S21 b = zs_K S b := zs_Kt e22 (zs_Ksi _ _ _ _) K19
  refine zu_dup d_8000_212 (zs_cat _) ?_
  refine zu_bipush d_8000_213 zj_32 ?_
  refine zu_bipush d_8000_215 zj_32 ?_
  refine zs_stk2 (zs_rfe e2) ?_
  obtain ⟨k24, h⟩ := h
  refine zu_bast_byte (k := 1) d_8000_217 rfl rfl k4 (zs_Ak K23 k24) ?_
  generalize e26 : zs_si S21 b1 (32 : Int32).toNatClampNeg (vp_nar .byte (32 : Int32)) = S25
  have h := h S25 e26.symm
  have K27 : ∀ b, zs_K S25 b = zs_K S b := zs_Kt e26 (zs_Ksi _ _ _ _) K23
  refine zu_dup d_8000_218 (zs_cat _) ?_
  refine zu_bipush d_8000_219 zj_33 ?_
  refine zu_bipush d_8000_221 zj_102 ?_
  refine zs_stk2 (zs_rfe e2) ?_
  obtain ⟨k28, h⟩ := h
  refine zu_bast_byte (k := 1) d_8000_223 rfl rfl k4 (zs_Ak K27 k28) ?_
  generalize e30 : zs_si S25 b1 (33 : Int32).toNatClampNeg (vp_nar .byte (102 : Int32)) = S29
  have h := h S29 e30.symm
  have K31 : ∀ b, zs_K S29 b = zs_K S b := zs_Kt e30 (zs_Ksi _ _ _ _) K27
  refine zu_dup d_8000_224 (zs_cat _) ?_
  refine zu_bipush d_8000_225 zj_34 ?_
  refine zu_bipush d_8000_227 zj_117 ?_
  refine zs_stk2 (zs_rfe e2) ?_
  obtain ⟨k32, h⟩ := h
  refine zu_bast_byte (k := 1) d_8000_229 rfl rfl k4 (zs_Ak K31 k32) ?_
  generalize e34 : zs_si S29 b1 (34 : Int32).toNatClampNeg (vp_nar .byte (117 : Int32)) = S33
  have h := h S33 e34.symm
  have K35 : ∀ b, zs_K S33 b = zs_K S b := zs_Kt e34 (zs_Ksi _ _ _ _) K31
  refine zu_dup d_8000_230 (zs_cat _) ?_
  refine zu_bipush d_8000_231 zj_35 ?_
  refine zu_bipush d_8000_233 zj_110 ?_
  refine zs_stk2 (zs_rfe e2) ?_
  obtain ⟨k36, h⟩ := h
  refine zu_bast_byte (k := 1) d_8000_235 rfl rfl k4 (zs_Ak K35 k36) ?_
  generalize e38 : zs_si S33 b1 (35 : Int32).toNatClampNeg (vp_nar .byte (110 : Int32)) = S37
  have h := h S37 e38.symm
  have K39 : ∀ b, zs_K S37 b = zs_K S b := zs_Kt e38 (zs_Ksi _ _ _ _) K35
  refine zu_dup d_8000_236 (zs_cat _) ?_
  refine zu_bipush d_8000_237 zj_36 ?_
  refine zu_bipush d_8000_239 zj_99 ?_
  refine zs_stk2 (zs_rfe e2) ?_
  obtain ⟨k40, h⟩ := h
  refine zu_bast_byte (k := 1) d_8000_241 rfl rfl k4 (zs_Ak K39 k40) ?_
  generalize e42 : zs_si S37 b1 (36 : Int32).toNatClampNeg (vp_nar .byte (99 : Int32)) = S41
  have h := h S41 e42.symm
  have K43 : ∀ b, zs_K S41 b = zs_K S b := zs_Kt e42 (zs_Ksi _ _ _ _) K39
  exact (u_X9_init_242 hB h).weak ⟨rfl, trivial⟩
def w_X9_init_122 (X : zs_X) (d : Nat) (p0 : Nat) (q0 : Option Nat) (q1 : Option Nat) (S : zs_T) (Q : zs_Q) : Prop :=
  (∃ b1, q1 = some b1 ∧ zs_A S b1 1 (17 : Int32) ∧ ab_n0 X.1 ≤ b1 ∧ ∀ S5, S5 = zs_si S b1 (17 : Int32).toNatClampNeg (vp_nar .byte (101 : Int32)) → zs_A S b1 1 (18 : Int32) ∧ ∀ S9, S9 = zs_si S5 b1 (18 : Int32).toNatClampNeg (vp_nar .byte (32 : Int32)) → zs_A S b1 1 (19 : Int32) ∧ ∀ S13, S13 = zs_si S9 b1 (19 : Int32).toNatClampNeg (vp_nar .byte (118 : Int32)) → zs_A S b1 1 (20 : Int32) ∧ ∀ S17, S17 = zs_si S13 b1 (20 : Int32).toNatClampNeg (vp_nar .byte (97 : Int32)) → zs_A S b1 1 (21 : Int32) ∧ ∀ S21, S21 = zs_si S17 b1 (21 : Int32).toNatClampNeg (vp_nar .byte (114 : Int32)) → zs_A S b1 1 (22 : Int32) ∧ ∀ S25, S25 = zs_si S21 b1 (22 : Int32).toNatClampNeg (vp_nar .byte (32 : Int32)) → zs_A S b1 1 (23 : Int32) ∧ ∀ S29, S29 = zs_si S25 b1 (23 : Int32).toNatClampNeg (vp_nar .byte (112 : Int32)) → zs_A S b1 1 (24 : Int32) ∧ ∀ S33, S33 = zs_si S29 b1 (24 : Int32).toNatClampNeg (vp_nar .byte (114 : Int32)) → zs_A S b1 1 (25 : Int32) ∧ ∀ S37, S37 = zs_si S33 b1 (25 : Int32).toNatClampNeg (vp_nar .byte (111 : Int32)) → zs_A S b1 1 (26 : Int32) ∧ ∀ S41, S41 = zs_si S37 b1 (26 : Int32).toNatClampNeg (vp_nar .byte (99 : Int32)) → w_X9_init_182 X d p0 q0 q1 S41 Q)
theorem u_X9_init_122 {σ : Nat → Nat} {n0 : Nat} {bf : ab_B} {d : Nat} {p0 : Nat} {q0 : Option Nat} {q1 : Option Nat} {S : zs_T} {Q : zs_Q} (hB : zt_B bf) (h : w_X9_init_122 (zx σ n0 bf) d p0 q0 q1 S Q) : zs_U (zx σ n0 bf) d 8000 122 [(0, .ref p0)] [va_rf q1, va_rf q0] S Q := by
  unfold w_X9_init_122 at h
  refine zu_dup d_8000_122 (zs_cat _) ?_
  refine zu_bipush d_8000_123 zj_17 ?_
  refine zu_bipush d_8000_125 zj_101 ?_
  obtain ⟨b1, e2, h⟩ := h
  refine zs_stk2 (zs_rfe e2) ?_
  obtain ⟨k3, h⟩ := h
  obtain ⟨k4, h⟩ := h
  refine zu_bast_byte (k := 1) d_8000_127 rfl rfl k4 k3 ?_
  generalize e6 : zs_si S b1 (17 : Int32).toNatClampNeg (vp_nar .byte (101 : Int32)) = S5
  have h := h S5 e6.symm
  have K7 : ∀ b, zs_K S5 b = zs_K S b := zs_Kt e6 (zs_Ksi _ _ _ _) (fun _ => rfl)
  refine zu_dup d_8000_128 (zs_cat _) ?_
  refine zu_bipush d_8000_129 zj_18 ?_
  refine zu_bipush d_8000_131 zj_32 ?_
  refine zs_stk2 (zs_rfe e2) ?_
  obtain ⟨k8, h⟩ := h
  refine zu_bast_byte (k := 1) d_8000_133 rfl rfl k4 (zs_Ak K7 k8) ?_
  generalize e10 : zs_si S5 b1 (18 : Int32).toNatClampNeg (vp_nar .byte (32 : Int32)) = S9
  have h := h S9 e10.symm
  have K11 : ∀ b, zs_K S9 b = zs_K S b := zs_Kt e10 (zs_Ksi _ _ _ _) K7
  refine zu_dup d_8000_134 (zs_cat _) ?_
  refine zu_bipush d_8000_135 zj_19 ?_
  refine zu_bipush d_8000_137 zj_118 ?_
  refine zs_stk2 (zs_rfe e2) ?_
  obtain ⟨k12, h⟩ := h
  refine zu_bast_byte (k := 1) d_8000_139 rfl rfl k4 (zs_Ak K11 k12) ?_
  generalize e14 : zs_si S9 b1 (19 : Int32).toNatClampNeg (vp_nar .byte (118 : Int32)) = S13
  have h := h S13 e14.symm
  have K15 : ∀ b, zs_K S13 b = zs_K S b := zs_Kt e14 (zs_Ksi _ _ _ _) K11
  refine zu_dup d_8000_140 (zs_cat _) ?_
  refine zu_bipush d_8000_141 zj_20 ?_
  refine zu_bipush d_8000_143 zj_97 ?_
  refine zs_stk2 (zs_rfe e2) ?_
  obtain ⟨k16, h⟩ := h
  refine zu_bast_byte (k := 1) d_8000_145 rfl rfl k4 (zs_Ak K15 k16) ?_
  generalize e18 : zs_si S13 b1 (20 : Int32).toNatClampNeg (vp_nar .byte (97 : Int32)) = S17
  have h := h S17 e18.symm
  have K19 : ∀ b, zs_K S17 b = zs_K S b := zs_Kt e18 (zs_Ksi _ _ _ _) K15
  refine zu_dup d_8000_146 (zs_cat _) ?_
  refine zu_bipush d_8000_147 zj_21 ?_
  refine zu_bipush d_8000_149 zj_114 ?_
  refine zs_stk2 (zs_rfe e2) ?_
  obtain ⟨k20, h⟩ := h
  refine zu_bast_byte (k := 1) d_8000_151 rfl rfl k4 (zs_Ak K19 k20) ?_
  generalize e22 : zs_si S17 b1 (21 : Int32).toNatClampNeg (vp_nar .byte (114 : Int32)) = S21
  have h := h S21 e22.symm
  have K23 : ∀ b, zs_K S21 b = zs_K S b := zs_Kt e22 (zs_Ksi _ _ _ _) K19
  refine zu_dup d_8000_152 (zs_cat _) ?_
  refine zu_bipush d_8000_153 zj_22 ?_
  refine zu_bipush d_8000_155 zj_32 ?_
  refine zs_stk2 (zs_rfe e2) ?_
  obtain ⟨k24, h⟩ := h
  refine zu_bast_byte (k := 1) d_8000_157 rfl rfl k4 (zs_Ak K23 k24) ?_
  generalize e26 : zs_si S21 b1 (22 : Int32).toNatClampNeg (vp_nar .byte (32 : Int32)) = S25
  have h := h S25 e26.symm
  have K27 : ∀ b, zs_K S25 b = zs_K S b := zs_Kt e26 (zs_Ksi _ _ _ _) K23
  refine zu_dup d_8000_158 (zs_cat _) ?_
  refine zu_bipush d_8000_159 zj_23 ?_
  refine zu_bipush d_8000_161 zj_112 ?_
  refine zs_stk2 (zs_rfe e2) ?_
  obtain ⟨k28, h⟩ := h
  refine zu_bast_byte (k := 1) d_8000_163 rfl rfl k4 (zs_Ak K27 k28) ?_
  generalize e30 : zs_si S25 b1 (23 : Int32).toNatClampNeg (vp_nar .byte (112 : Int32)) = S29
  have h := h S29 e30.symm
  have K31 : ∀ b, zs_K S29 b = zs_K S b := zs_Kt e30 (zs_Ksi _ _ _ _) K27
  refine zu_dup d_8000_164 (zs_cat _) ?_
  refine zu_bipush d_8000_165 zj_24 ?_
  refine zu_bipush d_8000_167 zj_114 ?_
  refine zs_stk2 (zs_rfe e2) ?_
  obtain ⟨k32, h⟩ := h
  refine zu_bast_byte (k := 1) d_8000_169 rfl rfl k4 (zs_Ak K31 k32) ?_
  generalize e34 : zs_si S29 b1 (24 : Int32).toNatClampNeg (vp_nar .byte (114 : Int32)) = S33
  have h := h S33 e34.symm
  have K35 : ∀ b, zs_K S33 b = zs_K S b := zs_Kt e34 (zs_Ksi _ _ _ _) K31
  refine zu_dup d_8000_170 (zs_cat _) ?_
  refine zu_bipush d_8000_171 zj_25 ?_
  refine zu_bipush d_8000_173 zj_111 ?_
  refine zs_stk2 (zs_rfe e2) ?_
  obtain ⟨k36, h⟩ := h
  refine zu_bast_byte (k := 1) d_8000_175 rfl rfl k4 (zs_Ak K35 k36) ?_
  generalize e38 : zs_si S33 b1 (25 : Int32).toNatClampNeg (vp_nar .byte (111 : Int32)) = S37
  have h := h S37 e38.symm
  have K39 : ∀ b, zs_K S37 b = zs_K S b := zs_Kt e38 (zs_Ksi _ _ _ _) K35
  refine zu_dup d_8000_176 (zs_cat _) ?_
  refine zu_bipush d_8000_177 zj_26 ?_
  refine zu_bipush d_8000_179 zj_99 ?_
  refine zs_stk2 (zs_rfe e2) ?_
  obtain ⟨k40, h⟩ := h
  refine zu_bast_byte (k := 1) d_8000_181 rfl rfl k4 (zs_Ak K39 k40) ?_
  generalize e42 : zs_si S37 b1 (26 : Int32).toNatClampNeg (vp_nar .byte (99 : Int32)) = S41
  have h := h S41 e42.symm
  have K43 : ∀ b, zs_K S41 b = zs_K S b := zs_Kt e42 (zs_Ksi _ _ _ _) K39
  exact (u_X9_init_182 hB h).weak ⟨rfl, trivial⟩
def w_X9_init_62 (X : zs_X) (d : Nat) (p0 : Nat) (q0 : Option Nat) (q1 : Option Nat) (S : zs_T) (Q : zs_Q) : Prop :=
  (∃ b1, q1 = some b1 ∧ zs_A S b1 1 (7 : Int32) ∧ ab_n0 X.1 ≤ b1 ∧ ∀ S5, S5 = zs_si S b1 (7 : Int32).toNatClampNeg (vp_nar .byte (32 : Int32)) → zs_A S b1 1 (8 : Int32) ∧ ∀ S9, S9 = zs_si S5 b1 (8 : Int32).toNatClampNeg (vp_nar .byte (99 : Int32)) → zs_A S b1 1 (9 : Int32) ∧ ∀ S13, S13 = zs_si S9 b1 (9 : Int32).toNatClampNeg (vp_nar .byte (111 : Int32)) → zs_A S b1 1 (10 : Int32) ∧ ∀ S17, S17 = zs_si S13 b1 (10 : Int32).toNatClampNeg (vp_nar .byte (110 : Int32)) → zs_A S b1 1 (11 : Int32) ∧ ∀ S21, S21 = zs_si S17 b1 (11 : Int32).toNatClampNeg (vp_nar .byte (115 : Int32)) → zs_A S b1 1 (12 : Int32) ∧ ∀ S25, S25 = zs_si S21 b1 (12 : Int32).toNatClampNeg (vp_nar .byte (116 : Int32)) → zs_A S b1 1 (13 : Int32) ∧ ∀ S29, S29 = zs_si S25 b1 (13 : Int32).toNatClampNeg (vp_nar .byte (32 : Int32)) → zs_A S b1 1 (14 : Int32) ∧ ∀ S33, S33 = zs_si S29 b1 (14 : Int32).toNatClampNeg (vp_nar .byte (116 : Int32)) → zs_A S b1 1 (15 : Int32) ∧ ∀ S37, S37 = zs_si S33 b1 (15 : Int32).toNatClampNeg (vp_nar .byte (121 : Int32)) → zs_A S b1 1 (16 : Int32) ∧ ∀ S41, S41 = zs_si S37 b1 (16 : Int32).toNatClampNeg (vp_nar .byte (112 : Int32)) → w_X9_init_122 X d p0 q0 q1 S41 Q)
theorem u_X9_init_62 {σ : Nat → Nat} {n0 : Nat} {bf : ab_B} {d : Nat} {p0 : Nat} {q0 : Option Nat} {q1 : Option Nat} {S : zs_T} {Q : zs_Q} (hB : zt_B bf) (h : w_X9_init_62 (zx σ n0 bf) d p0 q0 q1 S Q) : zs_U (zx σ n0 bf) d 8000 62 [(0, .ref p0)] [va_rf q1, va_rf q0] S Q := by
  unfold w_X9_init_62 at h
  refine zu_dup d_8000_62 (zs_cat _) ?_
  refine zu_bipush d_8000_63 zj_7 ?_
  refine zu_bipush d_8000_65 zj_32 ?_
  obtain ⟨b1, e2, h⟩ := h
  refine zs_stk2 (zs_rfe e2) ?_
  obtain ⟨k3, h⟩ := h
  obtain ⟨k4, h⟩ := h
  refine zu_bast_byte (k := 1) d_8000_67 rfl rfl k4 k3 ?_
  generalize e6 : zs_si S b1 (7 : Int32).toNatClampNeg (vp_nar .byte (32 : Int32)) = S5
  have h := h S5 e6.symm
  have K7 : ∀ b, zs_K S5 b = zs_K S b := zs_Kt e6 (zs_Ksi _ _ _ _) (fun _ => rfl)
  refine zu_dup d_8000_68 (zs_cat _) ?_
  refine zu_bipush d_8000_69 zj_8 ?_
  refine zu_bipush d_8000_71 zj_99 ?_
  refine zs_stk2 (zs_rfe e2) ?_
  obtain ⟨k8, h⟩ := h
  refine zu_bast_byte (k := 1) d_8000_73 rfl rfl k4 (zs_Ak K7 k8) ?_
  generalize e10 : zs_si S5 b1 (8 : Int32).toNatClampNeg (vp_nar .byte (99 : Int32)) = S9
  have h := h S9 e10.symm
  have K11 : ∀ b, zs_K S9 b = zs_K S b := zs_Kt e10 (zs_Ksi _ _ _ _) K7
  refine zu_dup d_8000_74 (zs_cat _) ?_
  refine zu_bipush d_8000_75 zj_9 ?_
  refine zu_bipush d_8000_77 zj_111 ?_
  refine zs_stk2 (zs_rfe e2) ?_
  obtain ⟨k12, h⟩ := h
  refine zu_bast_byte (k := 1) d_8000_79 rfl rfl k4 (zs_Ak K11 k12) ?_
  generalize e14 : zs_si S9 b1 (9 : Int32).toNatClampNeg (vp_nar .byte (111 : Int32)) = S13
  have h := h S13 e14.symm
  have K15 : ∀ b, zs_K S13 b = zs_K S b := zs_Kt e14 (zs_Ksi _ _ _ _) K11
  refine zu_dup d_8000_80 (zs_cat _) ?_
  refine zu_bipush d_8000_81 zj_10 ?_
  refine zu_bipush d_8000_83 zj_110 ?_
  refine zs_stk2 (zs_rfe e2) ?_
  obtain ⟨k16, h⟩ := h
  refine zu_bast_byte (k := 1) d_8000_85 rfl rfl k4 (zs_Ak K15 k16) ?_
  generalize e18 : zs_si S13 b1 (10 : Int32).toNatClampNeg (vp_nar .byte (110 : Int32)) = S17
  have h := h S17 e18.symm
  have K19 : ∀ b, zs_K S17 b = zs_K S b := zs_Kt e18 (zs_Ksi _ _ _ _) K15
  refine zu_dup d_8000_86 (zs_cat _) ?_
  refine zu_bipush d_8000_87 zj_11 ?_
  refine zu_bipush d_8000_89 zj_115 ?_
  refine zs_stk2 (zs_rfe e2) ?_
  obtain ⟨k20, h⟩ := h
  refine zu_bast_byte (k := 1) d_8000_91 rfl rfl k4 (zs_Ak K19 k20) ?_
  generalize e22 : zs_si S17 b1 (11 : Int32).toNatClampNeg (vp_nar .byte (115 : Int32)) = S21
  have h := h S21 e22.symm
  have K23 : ∀ b, zs_K S21 b = zs_K S b := zs_Kt e22 (zs_Ksi _ _ _ _) K19
  refine zu_dup d_8000_92 (zs_cat _) ?_
  refine zu_bipush d_8000_93 zj_12 ?_
  refine zu_bipush d_8000_95 zj_116 ?_
  refine zs_stk2 (zs_rfe e2) ?_
  obtain ⟨k24, h⟩ := h
  refine zu_bast_byte (k := 1) d_8000_97 rfl rfl k4 (zs_Ak K23 k24) ?_
  generalize e26 : zs_si S21 b1 (12 : Int32).toNatClampNeg (vp_nar .byte (116 : Int32)) = S25
  have h := h S25 e26.symm
  have K27 : ∀ b, zs_K S25 b = zs_K S b := zs_Kt e26 (zs_Ksi _ _ _ _) K23
  refine zu_dup d_8000_98 (zs_cat _) ?_
  refine zu_bipush d_8000_99 zj_13 ?_
  refine zu_bipush d_8000_101 zj_32 ?_
  refine zs_stk2 (zs_rfe e2) ?_
  obtain ⟨k28, h⟩ := h
  refine zu_bast_byte (k := 1) d_8000_103 rfl rfl k4 (zs_Ak K27 k28) ?_
  generalize e30 : zs_si S25 b1 (13 : Int32).toNatClampNeg (vp_nar .byte (32 : Int32)) = S29
  have h := h S29 e30.symm
  have K31 : ∀ b, zs_K S29 b = zs_K S b := zs_Kt e30 (zs_Ksi _ _ _ _) K27
  refine zu_dup d_8000_104 (zs_cat _) ?_
  refine zu_bipush d_8000_105 zj_14 ?_
  refine zu_bipush d_8000_107 zj_116 ?_
  refine zs_stk2 (zs_rfe e2) ?_
  obtain ⟨k32, h⟩ := h
  refine zu_bast_byte (k := 1) d_8000_109 rfl rfl k4 (zs_Ak K31 k32) ?_
  generalize e34 : zs_si S29 b1 (14 : Int32).toNatClampNeg (vp_nar .byte (116 : Int32)) = S33
  have h := h S33 e34.symm
  have K35 : ∀ b, zs_K S33 b = zs_K S b := zs_Kt e34 (zs_Ksi _ _ _ _) K31
  refine zu_dup d_8000_110 (zs_cat _) ?_
  refine zu_bipush d_8000_111 zj_15 ?_
  refine zu_bipush d_8000_113 zj_121 ?_
  refine zs_stk2 (zs_rfe e2) ?_
  obtain ⟨k36, h⟩ := h
  refine zu_bast_byte (k := 1) d_8000_115 rfl rfl k4 (zs_Ak K35 k36) ?_
  generalize e38 : zs_si S33 b1 (15 : Int32).toNatClampNeg (vp_nar .byte (121 : Int32)) = S37
  have h := h S37 e38.symm
  have K39 : ∀ b, zs_K S37 b = zs_K S b := zs_Kt e38 (zs_Ksi _ _ _ _) K35
  refine zu_dup d_8000_116 (zs_cat _) ?_
  refine zu_bipush d_8000_117 zj_16 ?_
  refine zu_bipush d_8000_119 zj_112 ?_
  refine zs_stk2 (zs_rfe e2) ?_
  obtain ⟨k40, h⟩ := h
  refine zu_bast_byte (k := 1) d_8000_121 rfl rfl k4 (zs_Ak K39 k40) ?_
  generalize e42 : zs_si S37 b1 (16 : Int32).toNatClampNeg (vp_nar .byte (112 : Int32)) = S41
  have h := h S41 e42.symm
  have K43 : ∀ b, zs_K S41 b = zs_K S b := zs_Kt e42 (zs_Ksi _ _ _ _) K39
  exact (u_X9_init_122 hB h).weak ⟨rfl, trivial⟩
def w_X9_init (X : zs_X) (d : Nat) (p0 : Nat) (S : zs_T) (Q : zs_Q) : Prop :=
  (zs_C X d 39000 [.ref p0] S (zs_kV (fun S1 => (∀ a3 S4, a3 = zs_N S1 → S4 = zs_nw S1 (.inr (1, (32768 : Int32).toNatClampNeg)) (32768 : Int32).toNatClampNeg → zs_K S4 p0 = some (.inl 8) ∧ ab_n0 X.1 ≤ p0 ∧ ∀ S10, S10 = zs_sR S4 8001 p0 (some a3) → ∀ a13 S14, a13 = zs_N S10 → S14 = zs_nw S10 (.inr (1, (32768 : Int32).toNatClampNeg)) (32768 : Int32).toNatClampNeg → zs_K S14 p0 = some (.inl 8) ∧ ∀ S19, S19 = zs_sR S14 8003 p0 (some a13) → ∀ a22 S23, a22 = zs_N S19 → S23 = zs_nw S19 (.inr (1, (332 : Int32).toNatClampNeg)) (332 : Int32).toNatClampNeg → zs_A S23 a22 1 (0 : Int32) ∧ ab_n0 X.1 ≤ a22 ∧ ∀ S29, S29 = zs_si S23 a22 (0 : Int32).toNatClampNeg (vp_nar .byte (112 : Int32)) → zs_A S23 a22 1 (1 : Int32) ∧ ∀ S33, S33 = zs_si S29 a22 (1 : Int32).toNatClampNeg (vp_nar .byte (114 : Int32)) → zs_A S23 a22 1 (2 : Int32) ∧ ∀ S37, S37 = zs_si S33 a22 (2 : Int32).toNatClampNeg (vp_nar .byte (111 : Int32)) → zs_A S23 a22 1 (3 : Int32) ∧ ∀ S41, S41 = zs_si S37 a22 (3 : Int32).toNatClampNeg (vp_nar .byte (103 : Int32)) → zs_A S23 a22 1 (4 : Int32) ∧ ∀ S45, S45 = zs_si S41 a22 (4 : Int32).toNatClampNeg (vp_nar .byte (114 : Int32)) → zs_A S23 a22 1 (5 : Int32) ∧ ∀ S49, S49 = zs_si S45 a22 (5 : Int32).toNatClampNeg (vp_nar .byte (97 : Int32)) → zs_A S23 a22 1 (6 : Int32) ∧ ∀ S53, S53 = zs_si S49 a22 (6 : Int32).toNatClampNeg (vp_nar .byte (109 : Int32)) → w_X9_init_62 X d p0 (some p0) (some a22) S53 Q)) Q))
theorem u_X9_init {σ : Nat → Nat} {n0 : Nat} {bf : ab_B} {d : Nat} {p0 : Nat} {S : zs_T} {Q : zs_Q} (hB : zt_B bf) (hd : 1 ≤ d) (h : w_X9_init (zx σ n0 bf) (d - 1) p0 S Q) : zs_C (zx σ n0 bf) d 8000 [.ref p0] S Q := by
  have hL : lv_args 0 [.ref p0] = [(0, .ref p0)] := rfl
  refine zs_C.of1 (hB.2 8000 (by decide) (by decide)) hd (by rw [hL]; exact zs_sub_self _ (by exact ⟨rfl, trivial⟩)) ?_
  rw [hL]
  clear hL
  unfold w_X9_init at h
  refine zu_aload_n d_8000_0 rfl (zs_ra _) ?_
  refine zc_8_1  hB rfl d_8000_1 (Nat.le_of_ble_eq_true rfl) h (fun S1 h => ?_)
  refine zu_aload_n d_8000_4 rfl (zs_ra _) ?_
  refine zl_8_7 rfl d_8000_5 ?_
  refine zu_newa0 (k := 1) d_8000_7 rfl rfl (fun _ => rfl) (by decide) (by decide) ?_
  generalize e6 : zs_nw S1 (.inr (1, (32768 : Int32).toNatClampNeg)) (32768 : Int32).toNatClampNeg = S4
  generalize e5 : zs_N S1 = a3
  have h := h a3 S4 e5.symm e6.symm
  have k7 := zs_kn e5 e6
  obtain ⟨k8, h⟩ := h
  obtain ⟨k9, h⟩ := h
  refine zp_8_8 (v := (some a3)) rfl d_8000_9 k8 k9 ?_
  generalize e11 : zs_sR S4 8001 p0 (some a3) = S10
  have h := h S10 e11.symm
  have K12 : ∀ b, zs_K S10 b = zs_K S4 b := zs_Kt e11 (zs_KsR _ _ _ _) (fun _ => rfl)
  refine zu_aload_n d_8000_12 rfl (zs_ra _) ?_
  refine zl_8_7 rfl d_8000_13 ?_
  refine zu_newa0 (k := 1) d_8000_15 rfl rfl (fun _ => rfl) (by decide) (by decide) ?_
  generalize e16 : zs_nw S10 (.inr (1, (32768 : Int32).toNatClampNeg)) (32768 : Int32).toNatClampNeg = S14
  generalize e15 : zs_N S10 = a13
  have h := h a13 S14 e15.symm e16.symm
  have k17 := zs_kn e15 e16
  obtain ⟨k18, h⟩ := h
  refine zp_8_14 (v := (some a13)) rfl d_8000_17 k18 k9 ?_
  generalize e20 : zs_sR S14 8003 p0 (some a13) = S19
  have h := h S19 e20.symm
  have K21 : ∀ b, zs_K S19 b = zs_K S14 b := zs_Kt e20 (zs_KsR _ _ _ _) (fun _ => rfl)
  refine zu_aload_n d_8000_20 rfl (zs_ra _) ?_
  refine zu_sipush d_8000_21 zh_332 ?_
  refine zu_newa0 (k := 1) d_8000_24 rfl rfl (fun _ => rfl) (by decide) (by decide) ?_
  generalize e25 : zs_nw S19 (.inr (1, (332 : Int32).toNatClampNeg)) (332 : Int32).toNatClampNeg = S23
  generalize e24 : zs_N S19 = a22
  have h := h a22 S23 e24.symm e25.symm
  have k26 := zs_kn e24 e25
  refine zu_dup d_8000_26 rfl ?_
  refine zu_iconst d_8000_27 zi_0 ?_
  refine zu_bipush d_8000_28 zj_112 ?_
  obtain ⟨k27, h⟩ := h
  obtain ⟨k28, h⟩ := h
  refine zu_bast_byte (k := 1) d_8000_30 rfl rfl k28 k27 ?_
  generalize e30 : zs_si S23 a22 (0 : Int32).toNatClampNeg (vp_nar .byte (112 : Int32)) = S29
  have h := h S29 e30.symm
  have K31 : ∀ b, zs_K S29 b = zs_K S23 b := zs_Kt e30 (zs_Ksi _ _ _ _) (fun _ => rfl)
  refine zu_dup d_8000_31 rfl ?_
  refine zu_iconst d_8000_32 zi_1 ?_
  refine zu_bipush d_8000_33 zj_114 ?_
  obtain ⟨k32, h⟩ := h
  refine zu_bast_byte (k := 1) d_8000_35 rfl rfl k28 (zs_Ak K31 k32) ?_
  generalize e34 : zs_si S29 a22 (1 : Int32).toNatClampNeg (vp_nar .byte (114 : Int32)) = S33
  have h := h S33 e34.symm
  have K35 : ∀ b, zs_K S33 b = zs_K S23 b := zs_Kt e34 (zs_Ksi _ _ _ _) K31
  refine zu_dup d_8000_36 rfl ?_
  refine zu_iconst d_8000_37 zi_2 ?_
  refine zu_bipush d_8000_38 zj_111 ?_
  obtain ⟨k36, h⟩ := h
  refine zu_bast_byte (k := 1) d_8000_40 rfl rfl k28 (zs_Ak K35 k36) ?_
  generalize e38 : zs_si S33 a22 (2 : Int32).toNatClampNeg (vp_nar .byte (111 : Int32)) = S37
  have h := h S37 e38.symm
  have K39 : ∀ b, zs_K S37 b = zs_K S23 b := zs_Kt e38 (zs_Ksi _ _ _ _) K35
  refine zu_dup d_8000_41 rfl ?_
  refine zu_iconst d_8000_42 zi_3 ?_
  refine zu_bipush d_8000_43 zj_103 ?_
  obtain ⟨k40, h⟩ := h
  refine zu_bast_byte (k := 1) d_8000_45 rfl rfl k28 (zs_Ak K39 k40) ?_
  generalize e42 : zs_si S37 a22 (3 : Int32).toNatClampNeg (vp_nar .byte (103 : Int32)) = S41
  have h := h S41 e42.symm
  have K43 : ∀ b, zs_K S41 b = zs_K S23 b := zs_Kt e42 (zs_Ksi _ _ _ _) K39
  refine zu_dup d_8000_46 rfl ?_
  refine zu_iconst d_8000_47 zi_4 ?_
  refine zu_bipush d_8000_48 zj_114 ?_
  obtain ⟨k44, h⟩ := h
  refine zu_bast_byte (k := 1) d_8000_50 rfl rfl k28 (zs_Ak K43 k44) ?_
  generalize e46 : zs_si S41 a22 (4 : Int32).toNatClampNeg (vp_nar .byte (114 : Int32)) = S45
  have h := h S45 e46.symm
  have K47 : ∀ b, zs_K S45 b = zs_K S23 b := zs_Kt e46 (zs_Ksi _ _ _ _) K43
  refine zu_dup d_8000_51 rfl ?_
  refine zu_iconst d_8000_52 zi_5 ?_
  refine zu_bipush d_8000_53 zj_97 ?_
  obtain ⟨k48, h⟩ := h
  refine zu_bast_byte (k := 1) d_8000_55 rfl rfl k28 (zs_Ak K47 k48) ?_
  generalize e50 : zs_si S45 a22 (5 : Int32).toNatClampNeg (vp_nar .byte (97 : Int32)) = S49
  have h := h S49 e50.symm
  have K51 : ∀ b, zs_K S49 b = zs_K S23 b := zs_Kt e50 (zs_Ksi _ _ _ _) K47
  refine zu_dup d_8000_56 rfl ?_
  refine zu_bipush d_8000_57 zj_6 ?_
  refine zu_bipush d_8000_59 zj_109 ?_
  obtain ⟨k52, h⟩ := h
  refine zu_bast_byte (k := 1) d_8000_61 rfl rfl k28 (zs_Ak K51 k52) ?_
  generalize e54 : zs_si S49 a22 (6 : Int32).toNatClampNeg (vp_nar .byte (109 : Int32)) = S53
  have h := h S53 e54.symm
  have K55 : ∀ b, zs_K S53 b = zs_K S23 b := zs_Kt e54 (zs_Ksi _ _ _ _) K51
  exact (u_X9_init_62 hB h).weak ⟨rfl, trivial⟩
