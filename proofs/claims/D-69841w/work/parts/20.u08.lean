/-! printed by gen_all.py: what the methods compute -/
set_option maxRecDepth 100000
/-! SchemaPascal$Reader.suffixes(LSchemaPascal$Node;)LSchemaPascal$Node; -/
theorem zm_4049 {σ : Nat → Nat} {n0 : Nat} {bf : ab_B} : ab_code (zx σ n0 bf).1 4049 = prog_9_method_76_code := rfl
theorem zq_4049 {σ : Nat → Nat} {n0 : Nat} {bf : ab_B} : ab_maxL (zx σ n0 bf).1 4049 = 5 := rfl
theorem zr_4049 {σ : Nat → Nat} {n0 : Nat} {bf : ab_B} : ab_ret (zx σ n0 bf).1 4049 = (Option.some (Jvm.ClassFile.FieldType.object "SchemaPascal$Node")) := rfl
theorem d_4049_0 {σ : Nat → Nat} {n0 : Nat} {bf : ab_B} : decode (ab_code (zx σ n0 bf).1 4049) 0 = .ok (.aload_n 1, 1) := zd zm_4049 (by decide +kernel)
theorem d_4049_1 {σ : Nat → Nat} {n0 : Nat} {bf : ab_B} : decode (ab_code (zx σ n0 bf).1 4049) 1 = .ok (.astore_n 2, 1) := zd zm_4049 (by decide +kernel)
theorem d_4049_2 {σ : Nat → Nat} {n0 : Nat} {bf : ab_B} : decode (ab_code (zx σ n0 bf).1 4049) 2 = .ok (.aload_n 0, 1) := zd zm_4049 (by decide +kernel)
theorem d_4049_3 {σ : Nat → Nat} {n0 : Nat} {bf : ab_B} : decode (ab_code (zx σ n0 bf).1 4049) 3 = .ok (.getfield 5, 3) := zd zm_4049 (by decide +kernel)
theorem d_4049_6 {σ : Nat → Nat} {n0 : Nat} {bf : ab_B} : decode (ab_code (zx σ n0 bf).1 4049) 6 = .ok (.bipush 46, 2) := zd zm_4049 (by decide +kernel)
theorem d_4049_8 {σ : Nat → Nat} {n0 : Nat} {bf : ab_B} : decode (ab_code (zx σ n0 bf).1 4049) 8 = .ok (.invokevirtual 21, 3) := zd zm_4049 (by decide +kernel)
theorem d_4049_11 {σ : Nat → Nat} {n0 : Nat} {bf : ab_B} : decode (ab_code (zx σ n0 bf).1 4049) 11 = .ok (.ifCond .ne 27, 3) := zd zm_4049 (by decide +kernel)
theorem d_4049_14 {σ : Nat → Nat} {n0 : Nat} {bf : ab_B} : decode (ab_code (zx σ n0 bf).1 4049) 14 = .ok (.aload_n 0, 1) := zd zm_4049 (by decide +kernel)
theorem d_4049_15 {σ : Nat → Nat} {n0 : Nat} {bf : ab_B} : decode (ab_code (zx σ n0 bf).1 4049) 15 = .ok (.getfield 5, 3) := zd zm_4049 (by decide +kernel)
theorem d_4049_18 {σ : Nat → Nat} {n0 : Nat} {bf : ab_B} : decode (ab_code (zx σ n0 bf).1 4049) 18 = .ok (.bipush 91, 2) := zd zm_4049 (by decide +kernel)
theorem d_4049_20 {σ : Nat → Nat} {n0 : Nat} {bf : ab_B} : decode (ab_code (zx σ n0 bf).1 4049) 20 = .ok (.invokevirtual 21, 3) := zd zm_4049 (by decide +kernel)
theorem d_4049_23 {σ : Nat → Nat} {n0 : Nat} {bf : ab_B} : decode (ab_code (zx σ n0 bf).1 4049) 23 = .ok (.ifCond .ne 15, 3) := zd zm_4049 (by decide +kernel)
theorem d_4049_26 {σ : Nat → Nat} {n0 : Nat} {bf : ab_B} : decode (ab_code (zx σ n0 bf).1 4049) 26 = .ok (.aload_n 0, 1) := zd zm_4049 (by decide +kernel)
theorem d_4049_27 {σ : Nat → Nat} {n0 : Nat} {bf : ab_B} : decode (ab_code (zx σ n0 bf).1 4049) 27 = .ok (.getfield 5, 3) := zd zm_4049 (by decide +kernel)
theorem d_4049_30 {σ : Nat → Nat} {n0 : Nat} {bf : ab_B} : decode (ab_code (zx σ n0 bf).1 4049) 30 = .ok (.bipush 94, 2) := zd zm_4049 (by decide +kernel)
theorem d_4049_32 {σ : Nat → Nat} {n0 : Nat} {bf : ab_B} : decode (ab_code (zx σ n0 bf).1 4049) 32 = .ok (.invokevirtual 21, 3) := zd zm_4049 (by decide +kernel)
theorem d_4049_35 {σ : Nat → Nat} {n0 : Nat} {bf : ab_B} : decode (ab_code (zx σ n0 bf).1 4049) 35 = .ok (.ifCond .eq 144, 3) := zd zm_4049 (by decide +kernel)
theorem d_4049_38 {σ : Nat → Nat} {n0 : Nat} {bf : ab_B} : decode (ab_code (zx σ n0 bf).1 4049) 38 = .ok (.aload_n 2, 1) := zd zm_4049 (by decide +kernel)
theorem d_4049_39 {σ : Nat → Nat} {n0 : Nat} {bf : ab_B} : decode (ab_code (zx σ n0 bf).1 4049) 39 = .ok (.getfield 297, 3) := zd zm_4049 (by decide +kernel)
theorem d_4049_42 {σ : Nat → Nat} {n0 : Nat} {bf : ab_B} : decode (ab_code (zx σ n0 bf).1 4049) 42 = .ok (.invokevirtual 69, 3) := zd zm_4049 (by decide +kernel)
theorem d_4049_45 {σ : Nat → Nat} {n0 : Nat} {bf : ab_B} : decode (ab_code (zx σ n0 bf).1 4049) 45 = .ok (.astore_n 3, 1) := zd zm_4049 (by decide +kernel)
theorem d_4049_46 {σ : Nat → Nat} {n0 : Nat} {bf : ab_B} : decode (ab_code (zx σ n0 bf).1 4049) 46 = .ok (.aload_n 0, 1) := zd zm_4049 (by decide +kernel)
theorem d_4049_47 {σ : Nat → Nat} {n0 : Nat} {bf : ab_B} : decode (ab_code (zx σ n0 bf).1 4049) 47 = .ok (.getfield 5, 3) := zd zm_4049 (by decide +kernel)
theorem d_4049_50 {σ : Nat → Nat} {n0 : Nat} {bf : ab_B} : decode (ab_code (zx σ n0 bf).1 4049) 50 = .ok (.bipush 46, 2) := zd zm_4049 (by decide +kernel)
theorem d_4049_52 {σ : Nat → Nat} {n0 : Nat} {bf : ab_B} : decode (ab_code (zx σ n0 bf).1 4049) 52 = .ok (.invokevirtual 21, 3) := zd zm_4049 (by decide +kernel)
theorem d_4049_55 {σ : Nat → Nat} {n0 : Nat} {bf : ab_B} : decode (ab_code (zx σ n0 bf).1 4049) 55 = .ok (.ifCond .eq 44, 3) := zd zm_4049 (by decide +kernel)
theorem d_4049_58 {σ : Nat → Nat} {n0 : Nat} {bf : ab_B} : decode (ab_code (zx σ n0 bf).1 4049) 58 = .ok (.aload_n 2, 1) := zd zm_4049 (by decide +kernel)
theorem d_4049_59 {σ : Nat → Nat} {n0 : Nat} {bf : ab_B} : decode (ab_code (zx σ n0 bf).1 4049) 59 = .ok (.getfield 297, 3) := zd zm_4049 (by decide +kernel)
theorem d_4049_62 {σ : Nat → Nat} {n0 : Nat} {bf : ab_B} : decode (ab_code (zx σ n0 bf).1 4049) 62 = .ok (.invokevirtual 671, 3) := zd zm_4049 (by decide +kernel)
theorem d_4049_65 {σ : Nat → Nat} {n0 : Nat} {bf : ab_B} : decode (ab_code (zx σ n0 bf).1 4049) 65 = .ok (.ifCond .ne 18, 3) := zd zm_4049 (by decide +kernel)
theorem d_4049_68 {σ : Nat → Nat} {n0 : Nat} {bf : ab_B} : decode (ab_code (zx σ n0 bf).1 4049) 68 = .ok (.aload_n 3, 1) := zd zm_4049 (by decide +kernel)
theorem d_4049_69 {σ : Nat → Nat} {n0 : Nat} {bf : ab_B} : decode (ab_code (zx σ n0 bf).1 4049) 69 = .ok (.getfield 369, 3) := zd zm_4049 (by decide +kernel)
theorem d_4049_72 {σ : Nat → Nat} {n0 : Nat} {bf : ab_B} : decode (ab_code (zx σ n0 bf).1 4049) 72 = .ok (.bipush 8, 2) := zd zm_4049 (by decide +kernel)
theorem d_4049_74 {σ : Nat → Nat} {n0 : Nat} {bf : ab_B} : decode (ab_code (zx σ n0 bf).1 4049) 74 = .ok (.if_icmp .eq 9, 3) := zd zm_4049 (by decide +kernel)
theorem d_4049_77 {σ : Nat → Nat} {n0 : Nat} {bf : ab_B} : decode (ab_code (zx σ n0 bf).1 4049) 77 = .ok (.aload_n 0, 1) := zd zm_4049 (by decide +kernel)
theorem d_4049_78 {σ : Nat → Nat} {n0 : Nat} {bf : ab_B} : decode (ab_code (zx σ n0 bf).1 4049) 78 = .ok (.iconst 5, 1) := zd zm_4049 (by decide +kernel)
theorem d_4049_79 {σ : Nat → Nat} {n0 : Nat} {bf : ab_B} : decode (ab_code (zx σ n0 bf).1 4049) 79 = .ok (.invokevirtual 25, 3) := zd zm_4049 (by decide +kernel)
theorem d_4049_82 {σ : Nat → Nat} {n0 : Nat} {bf : ab_B} : decode (ab_code (zx σ n0 bf).1 4049) 82 = .ok (.athrow, 1) := zd zm_4049 (by decide +kernel)
theorem d_4049_83 {σ : Nat → Nat} {n0 : Nat} {bf : ab_B} : decode (ab_code (zx σ n0 bf).1 4049) 83 = .ok (.aload_n 0, 1) := zd zm_4049 (by decide +kernel)
theorem d_4049_84 {σ : Nat → Nat} {n0 : Nat} {bf : ab_B} : decode (ab_code (zx σ n0 bf).1 4049) 84 = .ok (.aload_n 2, 1) := zd zm_4049 (by decide +kernel)
theorem d_4049_85 {σ : Nat → Nat} {n0 : Nat} {bf : ab_B} : decode (ab_code (zx σ n0 bf).1 4049) 85 = .ok (.aload_n 3, 1) := zd zm_4049 (by decide +kernel)
theorem d_4049_86 {σ : Nat → Nat} {n0 : Nat} {bf : ab_B} : decode (ab_code (zx σ n0 bf).1 4049) 86 = .ok (.invokevirtual 674, 3) := zd zm_4049 (by decide +kernel)
theorem d_4049_89 {σ : Nat → Nat} {n0 : Nat} {bf : ab_B} : decode (ab_code (zx σ n0 bf).1 4049) 89 = .ok (.astore_n 2, 1) := zd zm_4049 (by decide +kernel)
theorem d_4049_90 {σ : Nat → Nat} {n0 : Nat} {bf : ab_B} : decode (ab_code (zx σ n0 bf).1 4049) 90 = .ok (.aload_n 2, 1) := zd zm_4049 (by decide +kernel)
theorem d_4049_91 {σ : Nat → Nat} {n0 : Nat} {bf : ab_B} : decode (ab_code (zx σ n0 bf).1 4049) 91 = .ok (.invokevirtual 625, 3) := zd zm_4049 (by decide +kernel)
theorem d_4049_94 {σ : Nat → Nat} {n0 : Nat} {bf : ab_B} : decode (ab_code (zx σ n0 bf).1 4049) 94 = .ok (.ifCond .ne 82, 3) := zd zm_4049 (by decide +kernel)
theorem d_4049_97 {σ : Nat → Nat} {n0 : Nat} {bf : ab_B} : decode (ab_code (zx σ n0 bf).1 4049) 97 = .ok (.aload_n 2, 1) := zd zm_4049 (by decide +kernel)
theorem d_4049_98 {σ : Nat → Nat} {n0 : Nat} {bf : ab_B} : decode (ab_code (zx σ n0 bf).1 4049) 98 = .ok (.areturn, 1) := zd zm_4049 (by decide +kernel)
theorem d_4049_99 {σ : Nat → Nat} {n0 : Nat} {bf : ab_B} : decode (ab_code (zx σ n0 bf).1 4049) 99 = .ok (.aload_n 0, 1) := zd zm_4049 (by decide +kernel)
theorem d_4049_100 {σ : Nat → Nat} {n0 : Nat} {bf : ab_B} : decode (ab_code (zx σ n0 bf).1 4049) 100 = .ok (.getfield 5, 3) := zd zm_4049 (by decide +kernel)
theorem d_4049_103 {σ : Nat → Nat} {n0 : Nat} {bf : ab_B} : decode (ab_code (zx σ n0 bf).1 4049) 103 = .ok (.bipush 94, 2) := zd zm_4049 (by decide +kernel)
theorem d_4049_105 {σ : Nat → Nat} {n0 : Nat} {bf : ab_B} : decode (ab_code (zx σ n0 bf).1 4049) 105 = .ok (.invokevirtual 21, 3) := zd zm_4049 (by decide +kernel)
theorem d_4049_108 {σ : Nat → Nat} {n0 : Nat} {bf : ab_B} : decode (ab_code (zx σ n0 bf).1 4049) 108 = .ok (.ifCond .eq 61, 3) := zd zm_4049 (by decide +kernel)
theorem d_4049_111 {σ : Nat → Nat} {n0 : Nat} {bf : ab_B} : decode (ab_code (zx σ n0 bf).1 4049) 111 = .ok (.aload_n 2, 1) := zd zm_4049 (by decide +kernel)
theorem d_4049_112 {σ : Nat → Nat} {n0 : Nat} {bf : ab_B} : decode (ab_code (zx σ n0 bf).1 4049) 112 = .ok (.getfield 297, 3) := zd zm_4049 (by decide +kernel)
theorem d_4049_115 {σ : Nat → Nat} {n0 : Nat} {bf : ab_B} : decode (ab_code (zx σ n0 bf).1 4049) 115 = .ok (.getfield 369, 3) := zd zm_4049 (by decide +kernel)
theorem d_4049_118 {σ : Nat → Nat} {n0 : Nat} {bf : ab_B} : decode (ab_code (zx σ n0 bf).1 4049) 118 = .ok (.bipush 9, 2) := zd zm_4049 (by decide +kernel)
theorem d_4049_120 {σ : Nat → Nat} {n0 : Nat} {bf : ab_B} : decode (ab_code (zx σ n0 bf).1 4049) 120 = .ok (.if_icmp .eq 9, 3) := zd zm_4049 (by decide +kernel)
theorem d_4049_123 {σ : Nat → Nat} {n0 : Nat} {bf : ab_B} : decode (ab_code (zx σ n0 bf).1 4049) 123 = .ok (.aload_n 0, 1) := zd zm_4049 (by decide +kernel)
theorem d_4049_124 {σ : Nat → Nat} {n0 : Nat} {bf : ab_B} : decode (ab_code (zx σ n0 bf).1 4049) 124 = .ok (.iconst 5, 1) := zd zm_4049 (by decide +kernel)
theorem d_4049_125 {σ : Nat → Nat} {n0 : Nat} {bf : ab_B} : decode (ab_code (zx σ n0 bf).1 4049) 125 = .ok (.invokevirtual 25, 3) := zd zm_4049 (by decide +kernel)
theorem d_4049_128 {σ : Nat → Nat} {n0 : Nat} {bf : ab_B} : decode (ab_code (zx σ n0 bf).1 4049) 128 = .ok (.athrow, 1) := zd zm_4049 (by decide +kernel)
theorem d_4049_129 {σ : Nat → Nat} {n0 : Nat} {bf : ab_B} : decode (ab_code (zx σ n0 bf).1 4049) 129 = .ok (.aload_n 0, 1) := zd zm_4049 (by decide +kernel)
theorem d_4049_130 {σ : Nat → Nat} {n0 : Nat} {bf : ab_B} : decode (ab_code (zx σ n0 bf).1 4049) 130 = .ok (.iconst 5, 1) := zd zm_4049 (by decide +kernel)
theorem d_4049_131 {σ : Nat → Nat} {n0 : Nat} {bf : ab_B} : decode (ab_code (zx σ n0 bf).1 4049) 131 = .ok (.aload_n 0, 1) := zd zm_4049 (by decide +kernel)
theorem d_4049_132 {σ : Nat → Nat} {n0 : Nat} {bf : ab_B} : decode (ab_code (zx σ n0 bf).1 4049) 132 = .ok (.getfield 5, 3) := zd zm_4049 (by decide +kernel)
theorem d_4049_135 {σ : Nat → Nat} {n0 : Nat} {bf : ab_B} : decode (ab_code (zx σ n0 bf).1 4049) 135 = .ok (.getfield 11, 3) := zd zm_4049 (by decide +kernel)
theorem d_4049_138 {σ : Nat → Nat} {n0 : Nat} {bf : ab_B} : decode (ab_code (zx σ n0 bf).1 4049) 138 = .ok (.aload_n 2, 1) := zd zm_4049 (by decide +kernel)
theorem d_4049_139 {σ : Nat → Nat} {n0 : Nat} {bf : ab_B} : decode (ab_code (zx σ n0 bf).1 4049) 139 = .ok (.getfield 297, 3) := zd zm_4049 (by decide +kernel)
theorem d_4049_142 {σ : Nat → Nat} {n0 : Nat} {bf : ab_B} : decode (ab_code (zx σ n0 bf).1 4049) 142 = .ok (.getfield 320, 3) := zd zm_4049 (by decide +kernel)
theorem d_4049_145 {σ : Nat → Nat} {n0 : Nat} {bf : ab_B} : decode (ab_code (zx σ n0 bf).1 4049) 145 = .ok (.invokevirtual 572, 3) := zd zm_4049 (by decide +kernel)
theorem d_4049_148 {σ : Nat → Nat} {n0 : Nat} {bf : ab_B} : decode (ab_code (zx σ n0 bf).1 4049) 148 = .ok (.astore 4, 2) := zd zm_4049 (by decide +kernel)
theorem d_4049_150 {σ : Nat → Nat} {n0 : Nat} {bf : ab_B} : decode (ab_code (zx σ n0 bf).1 4049) 150 = .ok (.aload 4, 2) := zd zm_4049 (by decide +kernel)
theorem d_4049_152 {σ : Nat → Nat} {n0 : Nat} {bf : ab_B} : decode (ab_code (zx σ n0 bf).1 4049) 152 = .ok (.aload_n 2, 1) := zd zm_4049 (by decide +kernel)
theorem d_4049_153 {σ : Nat → Nat} {n0 : Nat} {bf : ab_B} : decode (ab_code (zx σ n0 bf).1 4049) 153 = .ok (.putfield 539, 3) := zd zm_4049 (by decide +kernel)
theorem d_4049_156 {σ : Nat → Nat} {n0 : Nat} {bf : ab_B} : decode (ab_code (zx σ n0 bf).1 4049) 156 = .ok (.aload_n 0, 1) := zd zm_4049 (by decide +kernel)
theorem d_4049_157 {σ : Nat → Nat} {n0 : Nat} {bf : ab_B} : decode (ab_code (zx σ n0 bf).1 4049) 157 = .ok (.getfield 5, 3) := zd zm_4049 (by decide +kernel)
theorem d_4049_160 {σ : Nat → Nat} {n0 : Nat} {bf : ab_B} : decode (ab_code (zx σ n0 bf).1 4049) 160 = .ok (.invokevirtual 29, 3) := zd zm_4049 (by decide +kernel)
theorem d_4049_163 {σ : Nat → Nat} {n0 : Nat} {bf : ab_B} : decode (ab_code (zx σ n0 bf).1 4049) 163 = .ok (.aload 4, 2) := zd zm_4049 (by decide +kernel)
theorem d_4049_165 {σ : Nat → Nat} {n0 : Nat} {bf : ab_B} : decode (ab_code (zx σ n0 bf).1 4049) 165 = .ok (.astore_n 2, 1) := zd zm_4049 (by decide +kernel)
theorem d_4049_166 {σ : Nat → Nat} {n0 : Nat} {bf : ab_B} : decode (ab_code (zx σ n0 bf).1 4049) 166 = .ok (.goto 10, 3) := zd zm_4049 (by decide +kernel)
theorem d_4049_169 {σ : Nat → Nat} {n0 : Nat} {bf : ab_B} : decode (ab_code (zx σ n0 bf).1 4049) 169 = .ok (.aload_n 0, 1) := zd zm_4049 (by decide +kernel)
theorem d_4049_170 {σ : Nat → Nat} {n0 : Nat} {bf : ab_B} : decode (ab_code (zx σ n0 bf).1 4049) 170 = .ok (.aload_n 2, 1) := zd zm_4049 (by decide +kernel)
theorem d_4049_171 {σ : Nat → Nat} {n0 : Nat} {bf : ab_B} : decode (ab_code (zx σ n0 bf).1 4049) 171 = .ok (.aload_n 3, 1) := zd zm_4049 (by decide +kernel)
theorem d_4049_172 {σ : Nat → Nat} {n0 : Nat} {bf : ab_B} : decode (ab_code (zx σ n0 bf).1 4049) 172 = .ok (.invokevirtual 678, 3) := zd zm_4049 (by decide +kernel)
theorem d_4049_175 {σ : Nat → Nat} {n0 : Nat} {bf : ab_B} : decode (ab_code (zx σ n0 bf).1 4049) 175 = .ok (.astore_n 2, 1) := zd zm_4049 (by decide +kernel)
theorem d_4049_176 {σ : Nat → Nat} {n0 : Nat} {bf : ab_B} : decode (ab_code (zx σ n0 bf).1 4049) 176 = .ok (.goto (-174), 3) := zd zm_4049 (by decide +kernel)
theorem d_4049_179 {σ : Nat → Nat} {n0 : Nat} {bf : ab_B} : decode (ab_code (zx σ n0 bf).1 4049) 179 = .ok (.aload_n 2, 1) := zd zm_4049 (by decide +kernel)
theorem d_4049_180 {σ : Nat → Nat} {n0 : Nat} {bf : ab_B} : decode (ab_code (zx σ n0 bf).1 4049) 180 = .ok (.areturn, 1) := zd zm_4049 (by decide +kernel)
def w_X5_suffixes_176 (X : zs_X) (d : Nat) (p0 : Nat) (p2 : Option Nat) (S : zs_T) (Q : zs_Q) : Prop :=
  (zs_U X d 4049 2 [(0, .ref p0), (2, va_rf p2)] [] S Q)
theorem u_X5_suffixes_176 {σ : Nat → Nat} {n0 : Nat} {bf : ab_B} {d : Nat} {p0 : Nat} {p2 : Option Nat} {S : zs_T} {Q : zs_Q} (hB : zt_B bf) (h : w_X5_suffixes_176 (zx σ n0 bf) d p0 p2 S Q) : zs_U (zx σ n0 bf) d 4049 176 [(0, .ref p0), (2, va_rf p2)] [] S Q := by
  unfold w_X5_suffixes_176 at h
  refine zu_goto (t := 2) d_4049_176 rfl ?_
  exact h.weak ⟨rfl, rfl, trivial⟩
def w_X5_suffixes_163 (X : zs_X) (d : Nat) (p0 : Nat) (p4 : Option Nat) (S : zs_T) (Q : zs_Q) : Prop :=
  (w_X5_suffixes_176 X d p0 p4 S Q)
theorem u_X5_suffixes_163 {σ : Nat → Nat} {n0 : Nat} {bf : ab_B} {d : Nat} {p0 : Nat} {p4 : Option Nat} {S : zs_T} {Q : zs_Q} (hB : zt_B bf) (h : w_X5_suffixes_163 (zx σ n0 bf) d p0 p4 S Q) : zs_U (zx σ n0 bf) d 4049 163 [(0, .ref p0), (4, va_rf p4)] [] S Q := by
  unfold w_X5_suffixes_163 at h
  refine zu_aload d_4049_163 rfl (zs_rr _) ?_
  refine zu_astore_n d_4049_165 (zs_rr _) (zs_lt zq_4049 rfl) ?_
  refine zu_goto (t := 176) d_4049_166 rfl ?_
  exact (u_X5_suffixes_176 hB h).weak ⟨rfl, rfl, trivial⟩
def w_X5_suffixes_129 (X : zs_X) (d : Nat) (p0 : Nat) (p2 : Option Nat) (S : zs_T) (Q : zs_Q) : Prop :=
  (zs_K S p0 = some (.inl 4) ∧ ∃ b2, (zs_R S 4000 p0) = some b2 ∧ zs_K S b2 = some (.inl 5) ∧ ∃ b5, p2 = some b5 ∧ zs_K S b5 = some (.inl 11) ∧ ∃ b8, (zs_R S 11002 b5) = some b8 ∧ zs_K S b8 = some (.inl 6) ∧ zs_C X d 4016 [.ref p0, .int (5 : Int32), .int (zs_I S 5005 b2), va_rf (zs_R S 6002 b8)] S (zs_kR (fun v12 S11 => (∃ b13, v12 = some b13 ∧ zs_K S11 b13 = some (.inl 11) ∧ ab_n0 X.1 ≤ b13 ∧ ∀ S17, S17 = zs_sR S11 11005 b13 p2 → zs_K S11 p0 = some (.inl 4) ∧ ∃ b21, (zs_R S17 4000 p0) = some b21 ∧ zs_K S11 b21 = some (.inl 5) ∧ zs_C X d 5004 [.ref b21] S17 (zs_kV (fun S24 => w_X5_suffixes_163 X d p0 v12 S24 Q) Q))) Q))
theorem u_X5_suffixes_129 {σ : Nat → Nat} {n0 : Nat} {bf : ab_B} {d : Nat} {p0 : Nat} {p2 : Option Nat} {S : zs_T} {Q : zs_Q} (hB : zt_B bf) (h : w_X5_suffixes_129 (zx σ n0 bf) d p0 p2 S Q) : zs_U (zx σ n0 bf) d 4049 129 [(0, .ref p0), (2, va_rf p2)] [] S Q := by
  unfold w_X5_suffixes_129 at h
  refine zu_aload_n d_4049_129 rfl (zs_ra _) ?_
  refine zu_iconst d_4049_130 zi_5 ?_
  refine zu_aload_n d_4049_131 rfl (zs_ra _) ?_
  obtain ⟨k1, h⟩ := h
  refine zg_4_5 rfl d_4049_132 k1 ?_
  obtain ⟨b2, e3, h⟩ := h
  refine zs_stk0 (zs_rfe e3) ?_
  obtain ⟨k4, h⟩ := h
  refine zg_4_11 rfl d_4049_135 k4 ?_
  refine zu_aload_n d_4049_138 rfl (zs_rr _) ?_
  obtain ⟨b5, e6, h⟩ := h
  refine zs_stk0 (zs_rfe e6) ?_
  obtain ⟨k7, h⟩ := h
  refine zg_4_297 rfl d_4049_139 k7 ?_
  obtain ⟨b8, e9, h⟩ := h
  refine zs_stk0 (zs_rfe e9) ?_
  obtain ⟨k10, h⟩ := h
  refine zg_4_320 rfl d_4049_142 k10 ?_
  refine zc_4_572 (x0 := (5 : Int32)) (x1 := (zs_I S 5005 b2)) (x2 := (zs_R S 6002 b8)) hB rfl k1 d_4049_145 (Nat.le_of_ble_eq_true rfl) h (fun v12 S11 h => ?_)
  refine zu_astore d_4049_148 (zs_rr _) (zs_lt zq_4049 rfl) ?_
  refine zu_aload d_4049_150 rfl (zs_rr _) ?_
  refine zu_aload_n d_4049_152 rfl (zs_rr _) ?_
  obtain ⟨b13, e14, h⟩ := h
  refine zs_stk1 (zs_rfe e14) ?_
  obtain ⟨k15, h⟩ := h
  obtain ⟨k16, h⟩ := h
  refine zp_4_539 (v := p2) rfl d_4049_153 k15 k16 ?_
  generalize e18 : zs_sR S11 11005 b13 p2 = S17
  have h := h S17 e18.symm
  have K19 : ∀ b, zs_K S17 b = zs_K S11 b := zs_Kt e18 (zs_KsR _ _ _ _) (fun _ => rfl)
  refine zu_aload_n d_4049_156 rfl (zs_ra _) ?_
  obtain ⟨k20, h⟩ := h
  refine zg_4_5 rfl d_4049_157 ((K19 _).trans k20) ?_
  obtain ⟨b21, e22, h⟩ := h
  refine zs_stk0 (zs_rfe e22) ?_
  obtain ⟨k23, h⟩ := h
  refine zc_4_29  hB rfl ((K19 _).trans k23) d_4049_160 (Nat.le_of_ble_eq_true rfl) h (fun S24 h => ?_)
  exact (u_X5_suffixes_163 hB h).weak ⟨rfl, rfl, trivial⟩
def w_X5_suffixes_123 (X : zs_X) (d : Nat) (p0 : Nat) (S : zs_T) (Q : zs_Q) : Prop :=
  (zs_K S p0 = some (.inl 4) ∧ zs_C X d 4006 [.ref p0, .int (5 : Int32)] S (zs_kR (fun v3 S2 => (∃ b4, v3 = some b4 ∧ Q (.threw b4) S2)) Q))
theorem u_X5_suffixes_123 {σ : Nat → Nat} {n0 : Nat} {bf : ab_B} {d : Nat} {p0 : Nat} {S : zs_T} {Q : zs_Q} (hB : zt_B bf) (h : w_X5_suffixes_123 (zx σ n0 bf) d p0 S Q) : zs_U (zx σ n0 bf) d 4049 123 [(0, .ref p0)] [] S Q := by
  unfold w_X5_suffixes_123 at h
  refine zu_aload_n d_4049_123 rfl (zs_ra _) ?_
  refine zu_iconst d_4049_124 zi_5 ?_
  obtain ⟨k1, h⟩ := h
  refine zc_4_25 (x0 := (5 : Int32)) hB rfl k1 d_4049_125 (Nat.le_of_ble_eq_true rfl) h (fun v3 S2 h => ?_)
  obtain ⟨b4, e5, h⟩ := h
  refine zs_stk0 (zs_rfe e5) ?_
  exact zu_throw d_4049_128 h
def w_X5_suffixes_83 (X : zs_X) (d : Nat) (p0 : Nat) (p2 : Option Nat) (p3 : Option Nat) (S : zs_T) (Q : zs_Q) : Prop :=
  (zs_K S p0 = some (.inl 4) ∧ zs_C X d 4050 [.ref p0, va_rf p2, va_rf p3] S (zs_kR (fun v3 S2 => (∃ b4, v3 = some b4 ∧ zs_K S2 b4 = some (.inl 11) ∧ zs_C X d 11001 [.ref b4] S2 (zs_kI (fun v8 S7 => (((¬ v8 = 0 → w_X5_suffixes_176 X d p0 v3 S7 Q) ∧ (¬ (¬ v8 = 0) → (Q (.returned (some (va_rf v3))) S7))))) Q))) Q))
theorem u_X5_suffixes_83 {σ : Nat → Nat} {n0 : Nat} {bf : ab_B} {d : Nat} {p0 : Nat} {p2 : Option Nat} {p3 : Option Nat} {S : zs_T} {Q : zs_Q} (hB : zt_B bf) (h : w_X5_suffixes_83 (zx σ n0 bf) d p0 p2 p3 S Q) : zs_U (zx σ n0 bf) d 4049 83 [(0, .ref p0), (2, va_rf p2), (3, va_rf p3)] [] S Q := by
  unfold w_X5_suffixes_83 at h
  refine zu_aload_n d_4049_83 rfl (zs_ra _) ?_
  refine zu_aload_n d_4049_84 rfl (zs_rr _) ?_
  refine zu_aload_n d_4049_85 rfl (zs_rr _) ?_
  obtain ⟨k1, h⟩ := h
  refine zc_4_674 (x0 := p2) (x1 := p3) hB rfl k1 d_4049_86 (Nat.le_of_ble_eq_true rfl) h (fun v3 S2 h => ?_)
  refine zu_astore_n d_4049_89 (zs_rr _) (zs_lt zq_4049 rfl) ?_
  refine zu_aload_n d_4049_90 rfl (zs_rr _) ?_
  obtain ⟨b4, e5, h⟩ := h
  refine zs_stk0 (zs_rfe e5) ?_
  obtain ⟨k6, h⟩ := h
  refine zc_4_625  hB rfl k6 d_4049_91 (Nat.le_of_ble_eq_true rfl) h (fun v8 S7 h => ?_)
  refine zu_ifne (t := 176) d_4049_94 rfl (fun c9 => ?_) (fun c9 => ?_)
  · have h := h.1 c9
    exact (u_X5_suffixes_176 hB h).weak ⟨rfl, rfl, trivial⟩
  · have h := h.2 c9
    refine zu_aload_n d_4049_97 rfl (zs_rr _) ?_
    exact zu_aret d_4049_98 zr_4049 (zs_rr _) h
def w_X5_suffixes_77 (X : zs_X) (d : Nat) (p0 : Nat) (S : zs_T) (Q : zs_Q) : Prop :=
  (zs_K S p0 = some (.inl 4) ∧ zs_C X d 4006 [.ref p0, .int (5 : Int32)] S (zs_kR (fun v3 S2 => (∃ b4, v3 = some b4 ∧ Q (.threw b4) S2)) Q))
theorem u_X5_suffixes_77 {σ : Nat → Nat} {n0 : Nat} {bf : ab_B} {d : Nat} {p0 : Nat} {S : zs_T} {Q : zs_Q} (hB : zt_B bf) (h : w_X5_suffixes_77 (zx σ n0 bf) d p0 S Q) : zs_U (zx σ n0 bf) d 4049 77 [(0, .ref p0)] [] S Q := by
  unfold w_X5_suffixes_77 at h
  refine zu_aload_n d_4049_77 rfl (zs_ra _) ?_
  refine zu_iconst d_4049_78 zi_5 ?_
  obtain ⟨k1, h⟩ := h
  refine zc_4_25 (x0 := (5 : Int32)) hB rfl k1 d_4049_79 (Nat.le_of_ble_eq_true rfl) h (fun v3 S2 h => ?_)
  obtain ⟨b4, e5, h⟩ := h
  refine zs_stk0 (zs_rfe e5) ?_
  exact zu_throw d_4049_82 h
def w_X5_suffixes_38 (X : zs_X) (d : Nat) (p0 : Nat) (p2 : Option Nat) (S : zs_T) (Q : zs_Q) : Prop :=
  (∃ b1, p2 = some b1 ∧ zs_K S b1 = some (.inl 11) ∧ ∃ b4, (zs_R S 11002 b1) = some b4 ∧ zs_K S b4 = some (.inl 6) ∧ zs_C X d 6003 [.ref b4] S (zs_kR (fun v8 S7 => (zs_K S7 p0 = some (.inl 4) ∧ ∃ b10, (zs_R S7 4000 p0) = some b10 ∧ zs_K S7 b10 = some (.inl 5) ∧ zs_C X d 5017 [.ref b10, .int (46 : Int32)] S7 (zs_kI (fun v14 S13 => (((v14 = 0 → (zs_K S13 p0 = some (.inl 4) ∧ ∃ b17, (zs_R S13 4000 p0) = some b17 ∧ zs_K S13 b17 = some (.inl 5) ∧ zs_C X d 5017 [.ref b17, .int (94 : Int32)] S13 (zs_kI (fun v21 S20 => (((v21 = 0 → (zs_K S20 p0 = some (.inl 4) ∧ zs_C X d 4051 [.ref p0, va_rf p2, va_rf v8] S20 (zs_kR (fun v25 S24 => (w_X5_suffixes_176 X d p0 v25 S24 Q)) Q))) ∧ (¬ (v21 = 0) → (zs_K S20 b1 = some (.inl 11) ∧ ∃ b27, (zs_R S20 11002 b1) = some b27 ∧ zs_K S20 b27 = some (.inl 6) ∧ (((zs_I S20 6000 b27) = (9 : Int32) → w_X5_suffixes_129 X d p0 p2 S20 Q) ∧ (¬ ((zs_I S20 6000 b27) = (9 : Int32)) → w_X5_suffixes_123 X d p0 S20 Q))))))) Q))) ∧ (¬ (v14 = 0) → (zs_K S13 b1 = some (.inl 11) ∧ ∃ b32, (zs_R S13 11002 b1) = some b32 ∧ zs_K S13 b32 = some (.inl 6) ∧ zs_C X d 6004 [.ref b32] S13 (zs_kI (fun v36 S35 => (((¬ v36 = 0 → w_X5_suffixes_83 X d p0 p2 v8 S35 Q) ∧ (¬ (¬ v36 = 0) → (∃ b38, v8 = some b38 ∧ zs_K S35 b38 = some (.inl 6) ∧ (((zs_I S35 6000 b38) = (8 : Int32) → w_X5_suffixes_83 X d p0 p2 v8 S35 Q) ∧ (¬ ((zs_I S35 6000 b38) = (8 : Int32)) → w_X5_suffixes_77 X d p0 S35 Q))))))) Q)))))) Q))) Q))
theorem u_X5_suffixes_38 {σ : Nat → Nat} {n0 : Nat} {bf : ab_B} {d : Nat} {p0 : Nat} {p2 : Option Nat} {S : zs_T} {Q : zs_Q} (hB : zt_B bf) (h : w_X5_suffixes_38 (zx σ n0 bf) d p0 p2 S Q) : zs_U (zx σ n0 bf) d 4049 38 [(0, .ref p0), (2, va_rf p2)] [] S Q := by
  unfold w_X5_suffixes_38 at h
  refine zu_aload_n d_4049_38 rfl (zs_rr _) ?_
  obtain ⟨b1, e2, h⟩ := h
  refine zs_stk0 (zs_rfe e2) ?_
  obtain ⟨k3, h⟩ := h
  refine zg_4_297 rfl d_4049_39 k3 ?_
  obtain ⟨b4, e5, h⟩ := h
  refine zs_stk0 (zs_rfe e5) ?_
  obtain ⟨k6, h⟩ := h
  refine zc_4_69  hB rfl k6 d_4049_42 (Nat.le_of_ble_eq_true rfl) h (fun v8 S7 h => ?_)
  refine zu_astore_n d_4049_45 (zs_rr _) (zs_lt zq_4049 rfl) ?_
  refine zs_U.weak (L1 := [(3, va_rf v8), (0, .ref p0), (2, va_rf p2)]) ?_ ⟨rfl, zs_gp1 rfl (Or.inl rfl) rfl, zs_gp1 rfl (Or.inl (zs_cat _)) rfl, trivial⟩
  refine zu_aload_n d_4049_46 rfl (zs_ra _) ?_
  obtain ⟨k9, h⟩ := h
  refine zg_4_5 rfl d_4049_47 k9 ?_
  refine zu_bipush d_4049_50 zj_46 ?_
  obtain ⟨b10, e11, h⟩ := h
  refine zs_stk1 (zs_rfe e11) ?_
  obtain ⟨k12, h⟩ := h
  refine zc_4_21 (x0 := (46 : Int32)) hB rfl k12 d_4049_52 (Nat.le_of_ble_eq_true rfl) h (fun v14 S13 h => ?_)
  refine zu_ifeq (t := 99) d_4049_55 rfl (fun c15 => ?_) (fun c15 => ?_)
  · have h := h.1 c15
    refine zu_aload_n d_4049_99 rfl (zs_ra _) ?_
    obtain ⟨k16, h⟩ := h
    refine zg_4_5 rfl d_4049_100 k16 ?_
    refine zu_bipush d_4049_103 zj_94 ?_
    obtain ⟨b17, e18, h⟩ := h
    refine zs_stk1 (zs_rfe e18) ?_
    obtain ⟨k19, h⟩ := h
    refine zc_4_21 (x0 := (94 : Int32)) hB rfl k19 d_4049_105 (Nat.le_of_ble_eq_true rfl) h (fun v21 S20 h => ?_)
    refine zu_ifeq (t := 169) d_4049_108 rfl (fun c22 => ?_) (fun c22 => ?_)
    · have h := h.1 c22
      refine zu_aload_n d_4049_169 rfl (zs_ra _) ?_
      refine zu_aload_n d_4049_170 rfl (zs_rr _) ?_
      refine zu_aload_n d_4049_171 rfl (zs_rr _) ?_
      obtain ⟨k23, h⟩ := h
      refine zc_4_678 (x0 := p2) (x1 := v8) hB rfl k23 d_4049_172 (Nat.le_of_ble_eq_true rfl) h (fun v25 S24 h => ?_)
      refine zu_astore_n d_4049_175 (zs_rr _) (zs_lt zq_4049 rfl) ?_
      exact (u_X5_suffixes_176 hB h).weak ⟨rfl, rfl, trivial⟩
    · have h := h.2 c22
      refine zu_aload_n d_4049_111 rfl (zs_rr _) ?_
      refine zs_stk0 (zs_rfe e2) ?_
      obtain ⟨k26, h⟩ := h
      refine zg_4_297 rfl d_4049_112 k26 ?_
      obtain ⟨b27, e28, h⟩ := h
      refine zs_stk0 (zs_rfe e28) ?_
      obtain ⟨k29, h⟩ := h
      refine zg_4_369 rfl d_4049_115 k29 ?_
      refine zu_bipush d_4049_118 zj_9 ?_
      refine zu_cmpeq (t := 129) d_4049_120 rfl (fun c30 => ?_) (fun c30 => ?_)
      · have h := h.1 c30
        exact (u_X5_suffixes_129 hB h).weak ⟨rfl, rfl, trivial⟩
      · have h := h.2 c30
        exact (u_X5_suffixes_123 hB h).weak ⟨rfl, trivial⟩
  · have h := h.2 c15
    refine zu_aload_n d_4049_58 rfl (zs_rr _) ?_
    refine zs_stk0 (zs_rfe e2) ?_
    obtain ⟨k31, h⟩ := h
    refine zg_4_297 rfl d_4049_59 k31 ?_
    obtain ⟨b32, e33, h⟩ := h
    refine zs_stk0 (zs_rfe e33) ?_
    obtain ⟨k34, h⟩ := h
    refine zc_4_671  hB rfl k34 d_4049_62 (Nat.le_of_ble_eq_true rfl) h (fun v36 S35 h => ?_)
    refine zu_ifne (t := 83) d_4049_65 rfl (fun c37 => ?_) (fun c37 => ?_)
    · have h := h.1 c37
      exact (u_X5_suffixes_83 hB h).weak ⟨rfl, rfl, rfl, trivial⟩
    · have h := h.2 c37
      refine zu_aload_n d_4049_68 rfl (zs_rr _) ?_
      obtain ⟨b38, e39, h⟩ := h
      refine zs_stk0 (zs_rfe e39) ?_
      obtain ⟨k40, h⟩ := h
      refine zg_4_369 rfl d_4049_69 k40 ?_
      refine zu_bipush d_4049_72 zj_8 ?_
      refine zu_cmpeq (t := 83) d_4049_74 rfl (fun c41 => ?_) (fun c41 => ?_)
      · have h := h.1 c41
        exact (u_X5_suffixes_83 hB h).weak ⟨rfl, rfl, rfl, trivial⟩
      · have h := h.2 c41
        exact (u_X5_suffixes_77 hB h).weak ⟨rfl, trivial⟩
def w_X5_suffixes_2 (X : zs_X) (d : Nat) (p0 : Nat) (p2 : Option Nat) (S : zs_T) (Q : zs_Q) : Prop :=
  (zs_K S p0 = some (.inl 4) ∧ ∃ b2, (zs_R S 4000 p0) = some b2 ∧ zs_K S b2 = some (.inl 5) ∧ zs_C X d 5017 [.ref b2, .int (46 : Int32)] S (zs_kI (fun v6 S5 => (((¬ v6 = 0 → w_X5_suffixes_38 X d p0 p2 S5 Q) ∧ (¬ (¬ v6 = 0) → (zs_K S5 p0 = some (.inl 4) ∧ ∃ b9, (zs_R S5 4000 p0) = some b9 ∧ zs_K S5 b9 = some (.inl 5) ∧ zs_C X d 5017 [.ref b9, .int (91 : Int32)] S5 (zs_kI (fun v13 S12 => (((¬ v13 = 0 → w_X5_suffixes_38 X d p0 p2 S12 Q) ∧ (¬ (¬ v13 = 0) → (zs_K S12 p0 = some (.inl 4) ∧ ∃ b16, (zs_R S12 4000 p0) = some b16 ∧ zs_K S12 b16 = some (.inl 5) ∧ zs_C X d 5017 [.ref b16, .int (94 : Int32)] S12 (zs_kI (fun v20 S19 => (((v20 = 0 → (Q (.returned (some (va_rf p2))) S19)) ∧ (¬ (v20 = 0) → w_X5_suffixes_38 X d p0 p2 S19 Q)))) Q)))))) Q)))))) Q))
theorem u_X5_suffixes_2 {σ : Nat → Nat} {n0 : Nat} {bf : ab_B} {d : Nat} {p0 : Nat} {p2 : Option Nat} {S : zs_T} {Q : zs_Q} (hB : zt_B bf) (h : w_X5_suffixes_2 (zx σ n0 bf) d p0 p2 S Q) : zs_U (zx σ n0 bf) d 4049 2 [(0, .ref p0), (2, va_rf p2)] [] S Q := by
  unfold w_X5_suffixes_2 at h
  refine zu_aload_n d_4049_2 rfl (zs_ra _) ?_
  obtain ⟨k1, h⟩ := h
  refine zg_4_5 rfl d_4049_3 k1 ?_
  refine zu_bipush d_4049_6 zj_46 ?_
  obtain ⟨b2, e3, h⟩ := h
  refine zs_stk1 (zs_rfe e3) ?_
  obtain ⟨k4, h⟩ := h
  refine zc_4_21 (x0 := (46 : Int32)) hB rfl k4 d_4049_8 (Nat.le_of_ble_eq_true rfl) h (fun v6 S5 h => ?_)
  refine zu_ifne (t := 38) d_4049_11 rfl (fun c7 => ?_) (fun c7 => ?_)
  · have h := h.1 c7
    exact (u_X5_suffixes_38 hB h).weak ⟨rfl, rfl, trivial⟩
  · have h := h.2 c7
    refine zu_aload_n d_4049_14 rfl (zs_ra _) ?_
    obtain ⟨k8, h⟩ := h
    refine zg_4_5 rfl d_4049_15 k8 ?_
    refine zu_bipush d_4049_18 zj_91 ?_
    obtain ⟨b9, e10, h⟩ := h
    refine zs_stk1 (zs_rfe e10) ?_
    obtain ⟨k11, h⟩ := h
    refine zc_4_21 (x0 := (91 : Int32)) hB rfl k11 d_4049_20 (Nat.le_of_ble_eq_true rfl) h (fun v13 S12 h => ?_)
    refine zu_ifne (t := 38) d_4049_23 rfl (fun c14 => ?_) (fun c14 => ?_)
    · have h := h.1 c14
      exact (u_X5_suffixes_38 hB h).weak ⟨rfl, rfl, trivial⟩
    · have h := h.2 c14
      refine zu_aload_n d_4049_26 rfl (zs_ra _) ?_
      obtain ⟨k15, h⟩ := h
      refine zg_4_5 rfl d_4049_27 k15 ?_
      refine zu_bipush d_4049_30 zj_94 ?_
      obtain ⟨b16, e17, h⟩ := h
      refine zs_stk1 (zs_rfe e17) ?_
      obtain ⟨k18, h⟩ := h
      refine zc_4_21 (x0 := (94 : Int32)) hB rfl k18 d_4049_32 (Nat.le_of_ble_eq_true rfl) h (fun v20 S19 h => ?_)
      refine zu_ifeq (t := 179) d_4049_35 rfl (fun c21 => ?_) (fun c21 => ?_)
      · have h := h.1 c21
        refine zu_aload_n d_4049_179 rfl (zs_rr _) ?_
        exact zu_aret d_4049_180 zr_4049 (zs_rr _) h
      · have h := h.2 c21
        exact (u_X5_suffixes_38 hB h).weak ⟨rfl, rfl, trivial⟩
def w_X5_suffixes (X : zs_X) (d : Nat) (p0 : Nat) (p1 : Option Nat) (S : zs_T) (Q : zs_Q) : Prop :=
  (zs_U X d 4049 2 [(0, .ref p0), (2, va_rf p1)] [] S Q)
theorem u_X5_suffixes {σ : Nat → Nat} {n0 : Nat} {bf : ab_B} {d : Nat} {p0 : Nat} {p1 : Option Nat} {S : zs_T} {Q : zs_Q} (hB : zt_B bf) (hd : 1 ≤ d) (h : w_X5_suffixes (zx σ n0 bf) (d - 1) p0 p1 S Q) : zs_C (zx σ n0 bf) d 4049 [.ref p0, va_rf p1] S Q := by
  have hL : lv_args 0 [.ref p0, va_rf p1] = [(0, .ref p0), (1, va_rf p1)] := by simp [lv_args, zs_cat, zs_cI, zs_cJ, zs_cA]
  refine zs_C.of1 (hB.2 4049 (by decide) (by decide)) hd (by rw [hL]; exact zs_sub_self _ (by exact ⟨rfl, rfl, trivial⟩)) ?_
  rw [hL]
  clear hL
  unfold w_X5_suffixes at h
  refine zu_aload_n d_4049_0 rfl (zs_rr _) ?_
  refine zu_astore_n d_4049_1 (zs_rr _) (zs_lt zq_4049 rfl) ?_
  refine zs_U.weak (L1 := [(2, va_rf p1), (0, .ref p0), (1, va_rf p1)]) ?_ ⟨rfl, zs_gp1 rfl (Or.inl rfl) rfl, zs_gp1 rfl (Or.inl (zs_cat _)) rfl, trivial⟩
  exact h.weak ⟨rfl, rfl, trivial⟩
/-! SchemaPascal$Reader.dot(LSchemaPascal$Node;LSchemaPascal$Type;)LSchemaPascal$Node; -/
theorem zm_4050 {σ : Nat → Nat} {n0 : Nat} {bf : ab_B} : ab_code (zx σ n0 bf).1 4050 = prog_9_method_77_code := rfl
theorem zq_4050 {σ : Nat → Nat} {n0 : Nat} {bf : ab_B} : ab_maxL (zx σ n0 bf).1 4050 = 7 := rfl
theorem zr_4050 {σ : Nat → Nat} {n0 : Nat} {bf : ab_B} : ab_ret (zx σ n0 bf).1 4050 = (Option.some (Jvm.ClassFile.FieldType.object "SchemaPascal$Node")) := rfl
theorem d_4050_0 {σ : Nat → Nat} {n0 : Nat} {bf : ab_B} : decode (ab_code (zx σ n0 bf).1 4050) 0 = .ok (.aload_n 0, 1) := zd zm_4050 (by decide +kernel)
theorem d_4050_1 {σ : Nat → Nat} {n0 : Nat} {bf : ab_B} : decode (ab_code (zx σ n0 bf).1 4050) 1 = .ok (.getfield 5, 3) := zd zm_4050 (by decide +kernel)
theorem d_4050_4 {σ : Nat → Nat} {n0 : Nat} {bf : ab_B} : decode (ab_code (zx σ n0 bf).1 4050) 4 = .ok (.getfield 11, 3) := zd zm_4050 (by decide +kernel)
theorem d_4050_7 {σ : Nat → Nat} {n0 : Nat} {bf : ab_B} : decode (ab_code (zx σ n0 bf).1 4050) 7 = .ok (.istore_n 3, 1) := zd zm_4050 (by decide +kernel)
theorem d_4050_8 {σ : Nat → Nat} {n0 : Nat} {bf : ab_B} : decode (ab_code (zx σ n0 bf).1 4050) 8 = .ok (.aload_n 0, 1) := zd zm_4050 (by decide +kernel)
theorem d_4050_9 {σ : Nat → Nat} {n0 : Nat} {bf : ab_B} : decode (ab_code (zx σ n0 bf).1 4050) 9 = .ok (.getfield 5, 3) := zd zm_4050 (by decide +kernel)
theorem d_4050_12 {σ : Nat → Nat} {n0 : Nat} {bf : ab_B} : decode (ab_code (zx σ n0 bf).1 4050) 12 = .ok (.invokevirtual 29, 3) := zd zm_4050 (by decide +kernel)
theorem d_4050_15 {σ : Nat → Nat} {n0 : Nat} {bf : ab_B} : decode (ab_code (zx σ n0 bf).1 4050) 15 = .ok (.aload_n 0, 1) := zd zm_4050 (by decide +kernel)
theorem d_4050_16 {σ : Nat → Nat} {n0 : Nat} {bf : ab_B} : decode (ab_code (zx σ n0 bf).1 4050) 16 = .ok (.getfield 5, 3) := zd zm_4050 (by decide +kernel)
theorem d_4050_19 {σ : Nat → Nat} {n0 : Nat} {bf : ab_B} : decode (ab_code (zx σ n0 bf).1 4050) 19 = .ok (.invokevirtual 36, 3) := zd zm_4050 (by decide +kernel)
theorem d_4050_22 {σ : Nat → Nat} {n0 : Nat} {bf : ab_B} : decode (ab_code (zx σ n0 bf).1 4050) 22 = .ok (.ifCond .ne 9, 3) := zd zm_4050 (by decide +kernel)
theorem d_4050_25 {σ : Nat → Nat} {n0 : Nat} {bf : ab_B} : decode (ab_code (zx σ n0 bf).1 4050) 25 = .ok (.aload_n 0, 1) := zd zm_4050 (by decide +kernel)
theorem d_4050_26 {σ : Nat → Nat} {n0 : Nat} {bf : ab_B} : decode (ab_code (zx σ n0 bf).1 4050) 26 = .ok (.iconst 2, 1) := zd zm_4050 (by decide +kernel)
theorem d_4050_27 {σ : Nat → Nat} {n0 : Nat} {bf : ab_B} : decode (ab_code (zx σ n0 bf).1 4050) 27 = .ok (.invokevirtual 25, 3) := zd zm_4050 (by decide +kernel)
theorem d_4050_30 {σ : Nat → Nat} {n0 : Nat} {bf : ab_B} : decode (ab_code (zx σ n0 bf).1 4050) 30 = .ok (.athrow, 1) := zd zm_4050 (by decide +kernel)
theorem d_4050_31 {σ : Nat → Nat} {n0 : Nat} {bf : ab_B} : decode (ab_code (zx σ n0 bf).1 4050) 31 = .ok (.aload_n 1, 1) := zd zm_4050 (by decide +kernel)
theorem d_4050_32 {σ : Nat → Nat} {n0 : Nat} {bf : ab_B} : decode (ab_code (zx σ n0 bf).1 4050) 32 = .ok (.getfield 297, 3) := zd zm_4050 (by decide +kernel)
theorem d_4050_35 {σ : Nat → Nat} {n0 : Nat} {bf : ab_B} : decode (ab_code (zx σ n0 bf).1 4050) 35 = .ok (.invokevirtual 681, 3) := zd zm_4050 (by decide +kernel)
theorem d_4050_38 {σ : Nat → Nat} {n0 : Nat} {bf : ab_B} : decode (ab_code (zx σ n0 bf).1 4050) 38 = .ok (.astore 4, 2) := zd zm_4050 (by decide +kernel)
theorem d_4050_40 {σ : Nat → Nat} {n0 : Nat} {bf : ab_B} : decode (ab_code (zx σ n0 bf).1 4050) 40 = .ok (.iconst 0, 1) := zd zm_4050 (by decide +kernel)
theorem d_4050_41 {σ : Nat → Nat} {n0 : Nat} {bf : ab_B} : decode (ab_code (zx σ n0 bf).1 4050) 41 = .ok (.istore 5, 2) := zd zm_4050 (by decide +kernel)
theorem d_4050_43 {σ : Nat → Nat} {n0 : Nat} {bf : ab_B} : decode (ab_code (zx σ n0 bf).1 4050) 43 = .ok (.aload_n 1, 1) := zd zm_4050 (by decide +kernel)
theorem d_4050_44 {σ : Nat → Nat} {n0 : Nat} {bf : ab_B} : decode (ab_code (zx σ n0 bf).1 4050) 44 = .ok (.getfield 297, 3) := zd zm_4050 (by decide +kernel)
theorem d_4050_47 {σ : Nat → Nat} {n0 : Nat} {bf : ab_B} : decode (ab_code (zx σ n0 bf).1 4050) 47 = .ok (.invokevirtual 671, 3) := zd zm_4050 (by decide +kernel)
theorem d_4050_50 {σ : Nat → Nat} {n0 : Nat} {bf : ab_B} : decode (ab_code (zx σ n0 bf).1 4050) 50 = .ok (.ifCond .eq 100, 3) := zd zm_4050 (by decide +kernel)
theorem d_4050_53 {σ : Nat → Nat} {n0 : Nat} {bf : ab_B} : decode (ab_code (zx σ n0 bf).1 4050) 53 = .ok (.iload 5, 2) := zd zm_4050 (by decide +kernel)
theorem d_4050_55 {σ : Nat → Nat} {n0 : Nat} {bf : ab_B} : decode (ab_code (zx σ n0 bf).1 4050) 55 = .ok (.aload 4, 2) := zd zm_4050 (by decide +kernel)
theorem d_4050_57 {σ : Nat → Nat} {n0 : Nat} {bf : ab_B} : decode (ab_code (zx σ n0 bf).1 4050) 57 = .ok (.getfield 323, 3) := zd zm_4050 (by decide +kernel)
theorem d_4050_60 {σ : Nat → Nat} {n0 : Nat} {bf : ab_B} : decode (ab_code (zx σ n0 bf).1 4050) 60 = .ok (.invokevirtual 50, 3) := zd zm_4050 (by decide +kernel)
theorem d_4050_63 {σ : Nat → Nat} {n0 : Nat} {bf : ab_B} : decode (ab_code (zx σ n0 bf).1 4050) 63 = .ok (.if_icmp .ge 87, 3) := zd zm_4050 (by decide +kernel)
theorem d_4050_66 {σ : Nat → Nat} {n0 : Nat} {bf : ab_B} : decode (ab_code (zx σ n0 bf).1 4050) 66 = .ok (.aload 4, 2) := zd zm_4050 (by decide +kernel)
theorem d_4050_68 {σ : Nat → Nat} {n0 : Nat} {bf : ab_B} : decode (ab_code (zx σ n0 bf).1 4050) 68 = .ok (.getfield 323, 3) := zd zm_4050 (by decide +kernel)
theorem d_4050_71 {σ : Nat → Nat} {n0 : Nat} {bf : ab_B} : decode (ab_code (zx σ n0 bf).1 4050) 71 = .ok (.iload 5, 2) := zd zm_4050 (by decide +kernel)
theorem d_4050_73 {σ : Nat → Nat} {n0 : Nat} {bf : ab_B} : decode (ab_code (zx σ n0 bf).1 4050) 73 = .ok (.invokevirtual 56, 3) := zd zm_4050 (by decide +kernel)
theorem d_4050_76 {σ : Nat → Nat} {n0 : Nat} {bf : ab_B} : decode (ab_code (zx σ n0 bf).1 4050) 76 = .ok (.checkcast 93, 3) := zd zm_4050 (by decide +kernel)
theorem d_4050_79 {σ : Nat → Nat} {n0 : Nat} {bf : ab_B} : decode (ab_code (zx σ n0 bf).1 4050) 79 = .ok (.getfield 92, 3) := zd zm_4050 (by decide +kernel)
theorem d_4050_82 {σ : Nat → Nat} {n0 : Nat} {bf : ab_B} : decode (ab_code (zx σ n0 bf).1 4050) 82 = .ok (.aload_n 0, 1) := zd zm_4050 (by decide +kernel)
theorem d_4050_83 {σ : Nat → Nat} {n0 : Nat} {bf : ab_B} : decode (ab_code (zx σ n0 bf).1 4050) 83 = .ok (.getfield 5, 3) := zd zm_4050 (by decide +kernel)
theorem d_4050_86 {σ : Nat → Nat} {n0 : Nat} {bf : ab_B} : decode (ab_code (zx σ n0 bf).1 4050) 86 = .ok (.getfield 40, 3) := zd zm_4050 (by decide +kernel)
theorem d_4050_89 {σ : Nat → Nat} {n0 : Nat} {bf : ab_B} : decode (ab_code (zx σ n0 bf).1 4050) 89 = .ok (.if_icmp .eq 6, 3) := zd zm_4050 (by decide +kernel)
theorem d_4050_92 {σ : Nat → Nat} {n0 : Nat} {bf : ab_B} : decode (ab_code (zx σ n0 bf).1 4050) 92 = .ok (.goto 52, 3) := zd zm_4050 (by decide +kernel)
theorem d_4050_95 {σ : Nat → Nat} {n0 : Nat} {bf : ab_B} : decode (ab_code (zx σ n0 bf).1 4050) 95 = .ok (.aload_n 0, 1) := zd zm_4050 (by decide +kernel)
theorem d_4050_96 {σ : Nat → Nat} {n0 : Nat} {bf : ab_B} : decode (ab_code (zx σ n0 bf).1 4050) 96 = .ok (.bipush 11, 2) := zd zm_4050 (by decide +kernel)
theorem d_4050_98 {σ : Nat → Nat} {n0 : Nat} {bf : ab_B} : decode (ab_code (zx σ n0 bf).1 4050) 98 = .ok (.iload_n 3, 1) := zd zm_4050 (by decide +kernel)
theorem d_4050_99 {σ : Nat → Nat} {n0 : Nat} {bf : ab_B} : decode (ab_code (zx σ n0 bf).1 4050) 99 = .ok (.aload 4, 2) := zd zm_4050 (by decide +kernel)
theorem d_4050_101 {σ : Nat → Nat} {n0 : Nat} {bf : ab_B} : decode (ab_code (zx σ n0 bf).1 4050) 101 = .ok (.getfield 323, 3) := zd zm_4050 (by decide +kernel)
theorem d_4050_104 {σ : Nat → Nat} {n0 : Nat} {bf : ab_B} : decode (ab_code (zx σ n0 bf).1 4050) 104 = .ok (.iload 5, 2) := zd zm_4050 (by decide +kernel)
theorem d_4050_106 {σ : Nat → Nat} {n0 : Nat} {bf : ab_B} : decode (ab_code (zx σ n0 bf).1 4050) 106 = .ok (.invokevirtual 56, 3) := zd zm_4050 (by decide +kernel)
theorem d_4050_109 {σ : Nat → Nat} {n0 : Nat} {bf : ab_B} : decode (ab_code (zx σ n0 bf).1 4050) 109 = .ok (.checkcast 93, 3) := zd zm_4050 (by decide +kernel)
theorem d_4050_112 {σ : Nat → Nat} {n0 : Nat} {bf : ab_B} : decode (ab_code (zx σ n0 bf).1 4050) 112 = .ok (.getfield 96, 3) := zd zm_4050 (by decide +kernel)
theorem d_4050_115 {σ : Nat → Nat} {n0 : Nat} {bf : ab_B} : decode (ab_code (zx σ n0 bf).1 4050) 115 = .ok (.invokevirtual 572, 3) := zd zm_4050 (by decide +kernel)
theorem d_4050_118 {σ : Nat → Nat} {n0 : Nat} {bf : ab_B} : decode (ab_code (zx σ n0 bf).1 4050) 118 = .ok (.astore 6, 2) := zd zm_4050 (by decide +kernel)
theorem d_4050_120 {σ : Nat → Nat} {n0 : Nat} {bf : ab_B} : decode (ab_code (zx σ n0 bf).1 4050) 120 = .ok (.aload 6, 2) := zd zm_4050 (by decide +kernel)
theorem d_4050_122 {σ : Nat → Nat} {n0 : Nat} {bf : ab_B} : decode (ab_code (zx σ n0 bf).1 4050) 122 = .ok (.aload_n 1, 1) := zd zm_4050 (by decide +kernel)
theorem d_4050_123 {σ : Nat → Nat} {n0 : Nat} {bf : ab_B} : decode (ab_code (zx σ n0 bf).1 4050) 123 = .ok (.putfield 539, 3) := zd zm_4050 (by decide +kernel)
theorem d_4050_126 {σ : Nat → Nat} {n0 : Nat} {bf : ab_B} : decode (ab_code (zx σ n0 bf).1 4050) 126 = .ok (.aload 6, 2) := zd zm_4050 (by decide +kernel)
theorem d_4050_128 {σ : Nat → Nat} {n0 : Nat} {bf : ab_B} : decode (ab_code (zx σ n0 bf).1 4050) 128 = .ok (.iload 5, 2) := zd zm_4050 (by decide +kernel)
theorem d_4050_130 {σ : Nat → Nat} {n0 : Nat} {bf : ab_B} : decode (ab_code (zx σ n0 bf).1 4050) 130 = .ok (.i2l, 1) := zd zm_4050 (by decide +kernel)
theorem d_4050_131 {σ : Nat → Nat} {n0 : Nat} {bf : ab_B} : decode (ab_code (zx σ n0 bf).1 4050) 131 = .ok (.putfield 300, 3) := zd zm_4050 (by decide +kernel)
theorem d_4050_134 {σ : Nat → Nat} {n0 : Nat} {bf : ab_B} : decode (ab_code (zx σ n0 bf).1 4050) 134 = .ok (.aload_n 0, 1) := zd zm_4050 (by decide +kernel)
theorem d_4050_135 {σ : Nat → Nat} {n0 : Nat} {bf : ab_B} : decode (ab_code (zx σ n0 bf).1 4050) 135 = .ok (.getfield 5, 3) := zd zm_4050 (by decide +kernel)
theorem d_4050_138 {σ : Nat → Nat} {n0 : Nat} {bf : ab_B} : decode (ab_code (zx σ n0 bf).1 4050) 138 = .ok (.invokevirtual 29, 3) := zd zm_4050 (by decide +kernel)
theorem d_4050_141 {σ : Nat → Nat} {n0 : Nat} {bf : ab_B} : decode (ab_code (zx σ n0 bf).1 4050) 141 = .ok (.aload 6, 2) := zd zm_4050 (by decide +kernel)
theorem d_4050_143 {σ : Nat → Nat} {n0 : Nat} {bf : ab_B} : decode (ab_code (zx σ n0 bf).1 4050) 143 = .ok (.areturn, 1) := zd zm_4050 (by decide +kernel)
theorem d_4050_144 {σ : Nat → Nat} {n0 : Nat} {bf : ab_B} : decode (ab_code (zx σ n0 bf).1 4050) 144 = .ok (.iinc 5 1, 3) := zd zm_4050 (by decide +kernel)
theorem d_4050_147 {σ : Nat → Nat} {n0 : Nat} {bf : ab_B} : decode (ab_code (zx σ n0 bf).1 4050) 147 = .ok (.goto (-104), 3) := zd zm_4050 (by decide +kernel)
theorem d_4050_150 {σ : Nat → Nat} {n0 : Nat} {bf : ab_B} : decode (ab_code (zx σ n0 bf).1 4050) 150 = .ok (.aload_n 2, 1) := zd zm_4050 (by decide +kernel)
theorem d_4050_151 {σ : Nat → Nat} {n0 : Nat} {bf : ab_B} : decode (ab_code (zx σ n0 bf).1 4050) 151 = .ok (.getfield 369, 3) := zd zm_4050 (by decide +kernel)
theorem d_4050_154 {σ : Nat → Nat} {n0 : Nat} {bf : ab_B} : decode (ab_code (zx σ n0 bf).1 4050) 154 = .ok (.bipush 8, 2) := zd zm_4050 (by decide +kernel)
theorem d_4050_156 {σ : Nat → Nat} {n0 : Nat} {bf : ab_B} : decode (ab_code (zx σ n0 bf).1 4050) 156 = .ok (.if_icmp .ne 20, 3) := zd zm_4050 (by decide +kernel)
theorem d_4050_159 {σ : Nat → Nat} {n0 : Nat} {bf : ab_B} : decode (ab_code (zx σ n0 bf).1 4050) 159 = .ok (.aload_n 2, 1) := zd zm_4050 (by decide +kernel)
theorem d_4050_160 {σ : Nat → Nat} {n0 : Nat} {bf : ab_B} : decode (ab_code (zx σ n0 bf).1 4050) 160 = .ok (.getfield 75, 3) := zd zm_4050 (by decide +kernel)
theorem d_4050_163 {σ : Nat → Nat} {n0 : Nat} {bf : ab_B} : decode (ab_code (zx σ n0 bf).1 4050) 163 = .ok (.aload_n 0, 1) := zd zm_4050 (by decide +kernel)
theorem d_4050_164 {σ : Nat → Nat} {n0 : Nat} {bf : ab_B} : decode (ab_code (zx σ n0 bf).1 4050) 164 = .ok (.getfield 5, 3) := zd zm_4050 (by decide +kernel)
theorem d_4050_167 {σ : Nat → Nat} {n0 : Nat} {bf : ab_B} : decode (ab_code (zx σ n0 bf).1 4050) 167 = .ok (.getfield 40, 3) := zd zm_4050 (by decide +kernel)
theorem d_4050_170 {σ : Nat → Nat} {n0 : Nat} {bf : ab_B} : decode (ab_code (zx σ n0 bf).1 4050) 170 = .ok (.invokevirtual 79, 3) := zd zm_4050 (by decide +kernel)
theorem d_4050_173 {σ : Nat → Nat} {n0 : Nat} {bf : ab_B} : decode (ab_code (zx σ n0 bf).1 4050) 173 = .ok (.goto 4, 3) := zd zm_4050 (by decide +kernel)
theorem d_4050_176 {σ : Nat → Nat} {n0 : Nat} {bf : ab_B} : decode (ab_code (zx σ n0 bf).1 4050) 176 = .ok (.aconst_null, 1) := zd zm_4050 (by decide +kernel)
theorem d_4050_177 {σ : Nat → Nat} {n0 : Nat} {bf : ab_B} : decode (ab_code (zx σ n0 bf).1 4050) 177 = .ok (.astore 5, 2) := zd zm_4050 (by decide +kernel)
theorem d_4050_179 {σ : Nat → Nat} {n0 : Nat} {bf : ab_B} : decode (ab_code (zx σ n0 bf).1 4050) 179 = .ok (.aload 5, 2) := zd zm_4050 (by decide +kernel)
theorem d_4050_181 {σ : Nat → Nat} {n0 : Nat} {bf : ab_B} : decode (ab_code (zx σ n0 bf).1 4050) 181 = .ok (.ifnonnull 9, 3) := zd zm_4050 (by decide +kernel)
theorem d_4050_184 {σ : Nat → Nat} {n0 : Nat} {bf : ab_B} : decode (ab_code (zx σ n0 bf).1 4050) 184 = .ok (.aload_n 0, 1) := zd zm_4050 (by decide +kernel)
theorem d_4050_185 {σ : Nat → Nat} {n0 : Nat} {bf : ab_B} : decode (ab_code (zx σ n0 bf).1 4050) 185 = .ok (.iconst 3, 1) := zd zm_4050 (by decide +kernel)
theorem d_4050_186 {σ : Nat → Nat} {n0 : Nat} {bf : ab_B} : decode (ab_code (zx σ n0 bf).1 4050) 186 = .ok (.invokevirtual 25, 3) := zd zm_4050 (by decide +kernel)
theorem d_4050_189 {σ : Nat → Nat} {n0 : Nat} {bf : ab_B} : decode (ab_code (zx σ n0 bf).1 4050) 189 = .ok (.athrow, 1) := zd zm_4050 (by decide +kernel)
theorem d_4050_190 {σ : Nat → Nat} {n0 : Nat} {bf : ab_B} : decode (ab_code (zx σ n0 bf).1 4050) 190 = .ok (.aload_n 0, 1) := zd zm_4050 (by decide +kernel)
theorem d_4050_191 {σ : Nat → Nat} {n0 : Nat} {bf : ab_B} : decode (ab_code (zx σ n0 bf).1 4050) 191 = .ok (.getfield 5, 3) := zd zm_4050 (by decide +kernel)
theorem d_4050_194 {σ : Nat → Nat} {n0 : Nat} {bf : ab_B} : decode (ab_code (zx σ n0 bf).1 4050) 194 = .ok (.invokevirtual 29, 3) := zd zm_4050 (by decide +kernel)
theorem d_4050_197 {σ : Nat → Nat} {n0 : Nat} {bf : ab_B} : decode (ab_code (zx σ n0 bf).1 4050) 197 = .ok (.aload_n 0, 1) := zd zm_4050 (by decide +kernel)
theorem d_4050_198 {σ : Nat → Nat} {n0 : Nat} {bf : ab_B} : decode (ab_code (zx σ n0 bf).1 4050) 198 = .ok (.aload_n 1, 1) := zd zm_4050 (by decide +kernel)
theorem d_4050_199 {σ : Nat → Nat} {n0 : Nat} {bf : ab_B} : decode (ab_code (zx σ n0 bf).1 4050) 199 = .ok (.aload 5, 2) := zd zm_4050 (by decide +kernel)
theorem d_4050_201 {σ : Nat → Nat} {n0 : Nat} {bf : ab_B} : decode (ab_code (zx σ n0 bf).1 4050) 201 = .ok (.iload_n 3, 1) := zd zm_4050 (by decide +kernel)
theorem d_4050_202 {σ : Nat → Nat} {n0 : Nat} {bf : ab_B} : decode (ab_code (zx σ n0 bf).1 4050) 202 = .ok (.invokevirtual 667, 3) := zd zm_4050 (by decide +kernel)
theorem d_4050_205 {σ : Nat → Nat} {n0 : Nat} {bf : ab_B} : decode (ab_code (zx σ n0 bf).1 4050) 205 = .ok (.areturn, 1) := zd zm_4050 (by decide +kernel)
def w_X5_dot_177 (X : zs_X) (d : Nat) (p0 : Nat) (p1 : Option Nat) (p3 : Int32) (q0 : Option Nat) (S : zs_T) (Q : zs_Q) : Prop :=
  (((q0 = none → (zs_K S p0 = some (.inl 4) ∧ zs_C X d 4006 [.ref p0, .int (3 : Int32)] S (zs_kR (fun v5 S4 => (∃ b6, v5 = some b6 ∧ Q (.threw b6) S4)) Q))) ∧ (∀ b1, q0 = some b1 → (zs_K S p0 = some (.inl 4) ∧ ∃ b9, (zs_R S 4000 p0) = some b9 ∧ zs_K S b9 = some (.inl 5) ∧ zs_C X d 5004 [.ref b9] S (zs_kV (fun S12 => (zs_K S12 p0 = some (.inl 4) ∧ zs_C X d 4048 [.ref p0, va_rf p1, va_rf q0, .int p3] S12 (zs_kR (fun v16 S15 => (Q (.returned (some (va_rf v16))) S15)) Q))) Q)))))
theorem u_X5_dot_177 {σ : Nat → Nat} {n0 : Nat} {bf : ab_B} {d : Nat} {p0 : Nat} {p1 : Option Nat} {p3 : Int32} {q0 : Option Nat} {S : zs_T} {Q : zs_Q} (hB : zt_B bf) (h : w_X5_dot_177 (zx σ n0 bf) d p0 p1 p3 q0 S Q) : zs_U (zx σ n0 bf) d 4050 177 [(0, .ref p0), (1, va_rf p1), (3, .int p3)] [va_rf q0] S Q := by
  unfold w_X5_dot_177 at h
  refine zu_astore d_4050_177 (zs_rr _) (zs_lt zq_4050 rfl) ?_
  refine zu_aload d_4050_179 rfl (zs_rr _) ?_
  refine zu_ifnonnull (u := q0) (t := 190) d_4050_181 rfl rfl (fun b1 e2 => ?_) (fun e2 => ?_)
  · have h := h.2 b1 e2
    refine zu_aload_n d_4050_190 rfl (zs_ra _) ?_
    obtain ⟨k8, h⟩ := h
    refine zg_4_5 rfl d_4050_191 k8 ?_
    obtain ⟨b9, e10, h⟩ := h
    refine zs_stk0 (zs_rfe e10) ?_
    obtain ⟨k11, h⟩ := h
    refine zc_4_29  hB rfl k11 d_4050_194 (Nat.le_of_ble_eq_true rfl) h (fun S12 h => ?_)
    refine zu_aload_n d_4050_197 rfl (zs_ra _) ?_
    refine zu_aload_n d_4050_198 rfl (zs_rr _) ?_
    refine zu_aload d_4050_199 rfl (zs_rr _) ?_
    refine zu_iload_n d_4050_201 rfl ?_
    obtain ⟨k14, h⟩ := h
    refine zc_4_667 (x0 := p1) (x1 := q0) (x2 := p3) hB rfl k14 d_4050_202 (Nat.le_of_ble_eq_true rfl) h (fun v16 S15 h => ?_)
    exact zu_aret d_4050_205 zr_4050 (zs_rr _) h
  · have h := h.1 e2
    refine zu_aload_n d_4050_184 rfl (zs_ra _) ?_
    refine zu_iconst d_4050_185 zi_3 ?_
    obtain ⟨k3, h⟩ := h
    refine zc_4_25 (x0 := (3 : Int32)) hB rfl k3 d_4050_186 (Nat.le_of_ble_eq_true rfl) h (fun v5 S4 h => ?_)
    obtain ⟨b6, e7, h⟩ := h
    refine zs_stk0 (zs_rfe e7) ?_
    exact zu_throw d_4050_189 h
def w_X5_dot_150 (X : zs_X) (d : Nat) (p0 : Nat) (p1 : Option Nat) (p2 : Option Nat) (p3 : Int32) (S : zs_T) (Q : zs_Q) : Prop :=
  (∃ b1, p2 = some b1 ∧ zs_K S b1 = some (.inl 6) ∧ ((¬ (zs_I S 6000 b1) = (8 : Int32) → (w_X5_dot_177 X d p0 p1 p3 none S Q)) ∧ (¬ (¬ (zs_I S 6000 b1) = (8 : Int32)) → (zs_K S p0 = some (.inl 4) ∧ ∃ b6, (zs_R S 4000 p0) = some b6 ∧ zs_K S b6 = some (.inl 5) ∧ ∃ b9, (zs_R S 6006 b1) = some b9 ∧ zs_K S b9 = some (.inl 13) ∧ zs_C X d 13000 [.ref b9, .int (zs_I S 5004 b6)] S (zs_kR (fun v13 S12 => (w_X5_dot_177 X d p0 p1 p3 v13 S12 Q)) Q)))))
theorem u_X5_dot_150 {σ : Nat → Nat} {n0 : Nat} {bf : ab_B} {d : Nat} {p0 : Nat} {p1 : Option Nat} {p2 : Option Nat} {p3 : Int32} {S : zs_T} {Q : zs_Q} (hB : zt_B bf) (h : w_X5_dot_150 (zx σ n0 bf) d p0 p1 p2 p3 S Q) : zs_U (zx σ n0 bf) d 4050 150 [(0, .ref p0), (1, va_rf p1), (2, va_rf p2), (3, .int p3)] [] S Q := by
  unfold w_X5_dot_150 at h
  refine zu_aload_n d_4050_150 rfl (zs_rr _) ?_
  obtain ⟨b1, e2, h⟩ := h
  refine zs_stk0 (zs_rfe e2) ?_
  obtain ⟨k3, h⟩ := h
  refine zg_4_369 rfl d_4050_151 k3 ?_
  refine zu_bipush d_4050_154 zj_8 ?_
  refine zu_cmpne (t := 176) d_4050_156 rfl (fun c4 => ?_) (fun c4 => ?_)
  · have h := h.1 c4
    refine zu_stk d_4050_176 rfl rfl ?_
    exact (u_X5_dot_177 hB h).weak ⟨rfl, rfl, rfl, trivial⟩
  · have h := h.2 c4
    refine zu_aload_n d_4050_159 rfl (zs_rr _) ?_
    refine zs_stk0 (zs_rfe e2) ?_
    refine zg_4_75 rfl d_4050_160 k3 ?_
    refine zu_aload_n d_4050_163 rfl (zs_ra _) ?_
    obtain ⟨k5, h⟩ := h
    refine zg_4_5 rfl d_4050_164 k5 ?_
    obtain ⟨b6, e7, h⟩ := h
    refine zs_stk0 (zs_rfe e7) ?_
    obtain ⟨k8, h⟩ := h
    refine zg_4_40 rfl d_4050_167 k8 ?_
    obtain ⟨b9, e10, h⟩ := h
    refine zs_stk1 (zs_rfe e10) ?_
    obtain ⟨k11, h⟩ := h
    refine zc_4_79 (x0 := (zs_I S 5004 b6)) hB rfl k11 d_4050_170 (Nat.le_of_ble_eq_true rfl) h (fun v13 S12 h => ?_)
    refine zu_goto (t := 177) d_4050_173 rfl ?_
    exact (u_X5_dot_177 hB h).weak ⟨rfl, rfl, rfl, trivial⟩
def w_X5_dot_134 (X : zs_X) (d : Nat) (p0 : Nat) (p6 : Option Nat) (S : zs_T) (Q : zs_Q) : Prop :=
  (zs_K S p0 = some (.inl 4) ∧ ∃ b2, (zs_R S 4000 p0) = some b2 ∧ zs_K S b2 = some (.inl 5) ∧ zs_C X d 5004 [.ref b2] S (zs_kV (fun S5 => (Q (.returned (some (va_rf p6))) S5)) Q))
theorem u_X5_dot_134 {σ : Nat → Nat} {n0 : Nat} {bf : ab_B} {d : Nat} {p0 : Nat} {p6 : Option Nat} {S : zs_T} {Q : zs_Q} (hB : zt_B bf) (h : w_X5_dot_134 (zx σ n0 bf) d p0 p6 S Q) : zs_U (zx σ n0 bf) d 4050 134 [(0, .ref p0), (6, va_rf p6)] [] S Q := by
  unfold w_X5_dot_134 at h
  refine zu_aload_n d_4050_134 rfl (zs_ra _) ?_
  obtain ⟨k1, h⟩ := h
  refine zg_4_5 rfl d_4050_135 k1 ?_
  obtain ⟨b2, e3, h⟩ := h
  refine zs_stk0 (zs_rfe e3) ?_
  obtain ⟨k4, h⟩ := h
  refine zc_4_29  hB rfl k4 d_4050_138 (Nat.le_of_ble_eq_true rfl) h (fun S5 h => ?_)
  refine zu_aload d_4050_141 rfl (zs_rr _) ?_
  exact zu_aret d_4050_143 zr_4050 (zs_rr _) h
def w_X5_dot_95 (X : zs_X) (d : Nat) (p0 : Nat) (p1 : Option Nat) (p3 : Int32) (p4 : Option Nat) (p5 : Int32) (S : zs_T) (Q : zs_Q) : Prop :=
  (∃ b1, p4 = some b1 ∧ zs_K S b1 = some (.inl 6) ∧ ∃ b4, (zs_R S 6007 b1) = some b4 ∧ zs_K S b4 = some (.inl 16) ∧ zs_C X d 16009 [.ref b4, .int p5] S (zs_kR (fun v8 S7 => ((∀ a, v8 = some a → zs_K S7 a = some (.inl 12)) ∧ ∃ b10, v8 = some b10 ∧ zs_K S7 b10 = some (.inl 12) ∧ zs_K S7 p0 = some (.inl 4) ∧ zs_C X d 4016 [.ref p0, .int (11 : Int32), .int p3, va_rf (zs_R S7 12001 b10)] S7 (zs_kR (fun v15 S14 => (∃ b16, v15 = some b16 ∧ zs_K S14 b16 = some (.inl 11) ∧ ab_n0 X.1 ≤ b16 ∧ ∀ S20, S20 = zs_sR S14 11005 b16 p1 → ∀ S23, S23 = zs_sJ S20 11004 b16 ((p5).toInt64) → w_X5_dot_134 X d p0 v15 S23 Q)) Q))) Q))
theorem u_X5_dot_95 {σ : Nat → Nat} {n0 : Nat} {bf : ab_B} {d : Nat} {p0 : Nat} {p1 : Option Nat} {p3 : Int32} {p4 : Option Nat} {p5 : Int32} {S : zs_T} {Q : zs_Q} (hB : zt_B bf) (h : w_X5_dot_95 (zx σ n0 bf) d p0 p1 p3 p4 p5 S Q) : zs_U (zx σ n0 bf) d 4050 95 [(0, .ref p0), (1, va_rf p1), (3, .int p3), (4, va_rf p4), (5, .int p5)] [] S Q := by
  unfold w_X5_dot_95 at h
  refine zu_aload_n d_4050_95 rfl (zs_ra _) ?_
  refine zu_bipush d_4050_96 zj_11 ?_
  refine zu_iload_n d_4050_98 rfl ?_
  refine zu_aload d_4050_99 rfl (zs_rr _) ?_
  obtain ⟨b1, e2, h⟩ := h
  refine zs_stk0 (zs_rfe e2) ?_
  obtain ⟨k3, h⟩ := h
  refine zg_4_323 rfl d_4050_101 k3 ?_
  refine zu_iload d_4050_104 rfl ?_
  obtain ⟨b4, e5, h⟩ := h
  refine zs_stk1 (zs_rfe e5) ?_
  obtain ⟨k6, h⟩ := h
  refine zc_4_56 (x0 := p5) hB rfl k6 d_4050_106 (Nat.le_of_ble_eq_true rfl) h (fun v8 S7 h => ?_)
  obtain ⟨k9, h⟩ := h
  refine zk_4_93 (o := v8) rfl d_4050_109 k9 ?_
  obtain ⟨b10, e11, h⟩ := h
  refine zs_stk0 (zs_rfe e11) ?_
  obtain ⟨k12, h⟩ := h
  refine zg_4_96 rfl d_4050_112 k12 ?_
  obtain ⟨k13, h⟩ := h
  refine zc_4_572 (x0 := (11 : Int32)) (x1 := p3) (x2 := (zs_R S7 12001 b10)) hB rfl k13 d_4050_115 (Nat.le_of_ble_eq_true rfl) h (fun v15 S14 h => ?_)
  refine zu_astore d_4050_118 (zs_rr _) (zs_lt zq_4050 rfl) ?_
  refine zu_aload d_4050_120 rfl (zs_rr _) ?_
  refine zu_aload_n d_4050_122 rfl (zs_rr _) ?_
  obtain ⟨b16, e17, h⟩ := h
  refine zs_stk1 (zs_rfe e17) ?_
  obtain ⟨k18, h⟩ := h
  obtain ⟨k19, h⟩ := h
  refine zp_4_539 (v := p1) rfl d_4050_123 k18 k19 ?_
  generalize e21 : zs_sR S14 11005 b16 p1 = S20
  have h := h S20 e21.symm
  have K22 : ∀ b, zs_K S20 b = zs_K S14 b := zs_Kt e21 (zs_KsR _ _ _ _) (fun _ => rfl)
  refine zu_aload d_4050_126 rfl (zs_rr _) ?_
  refine zu_iload d_4050_128 rfl ?_
  refine zu_stk d_4050_130 rfl rfl ?_
  refine zs_stk1 (zs_rfe e17) ?_
  refine zp_4_300 (v := ((p5).toInt64)) rfl d_4050_131 ((K22 _).trans k18) k19 ?_
  generalize e24 : zs_sJ S20 11004 b16 ((p5).toInt64) = S23
  have h := h S23 e24.symm
  have K25 : ∀ b, zs_K S23 b = zs_K S14 b := zs_Kt e24 (zs_KsJ _ _ _ _) K22
  exact (u_X5_dot_134 hB h).weak ⟨rfl, rfl, trivial⟩
def w_X5_dot_92 (X : zs_X) (d : Nat) (p0 : Nat) (p1 : Option Nat) (p2 : Option Nat) (p3 : Int32) (p4 : Option Nat) (p5 : Int32) (S : zs_T) (Q : zs_Q) : Prop :=
  (zs_U X d 4050 43 [(0, .ref p0), (1, va_rf p1), (2, va_rf p2), (3, .int p3), (4, va_rf p4), (5, .int (p5 + (1 : Int32)))] [] S Q)
theorem u_X5_dot_92 {σ : Nat → Nat} {n0 : Nat} {bf : ab_B} {d : Nat} {p0 : Nat} {p1 : Option Nat} {p2 : Option Nat} {p3 : Int32} {p4 : Option Nat} {p5 : Int32} {S : zs_T} {Q : zs_Q} (hB : zt_B bf) (h : w_X5_dot_92 (zx σ n0 bf) d p0 p1 p2 p3 p4 p5 S Q) : zs_U (zx σ n0 bf) d 4050 92 [(0, .ref p0), (1, va_rf p1), (2, va_rf p2), (3, .int p3), (4, va_rf p4), (5, .int p5)] [] S Q := by
  unfold w_X5_dot_92 at h
  refine zu_goto (t := 144) d_4050_92 rfl ?_
  refine zu_iinc d_4050_144 rfl zi_1 (zs_lt zq_4050 rfl) ?_
  refine zs_U.weak (L1 := [(5, .int (p5 + (1 : Int32))), (0, .ref p0), (1, va_rf p1), (2, va_rf p2), (3, .int p3), (4, va_rf p4)]) ?_ ⟨rfl, zs_gp1 rfl (Or.inl rfl) rfl, zs_gp1 rfl (Or.inl (zs_cat _)) rfl, zs_gp1 rfl (Or.inl (zs_cat _)) rfl, zs_gp1 rfl (Or.inl rfl) rfl, zs_gp1 rfl (Or.inl (zs_cat _)) rfl, trivial⟩
  refine zu_goto (t := 43) d_4050_147 rfl ?_
  exact h.weak ⟨rfl, rfl, rfl, rfl, rfl, rfl, trivial⟩
def w_X5_dot_43 (X : zs_X) (d : Nat) (p0 : Nat) (p1 : Option Nat) (p2 : Option Nat) (p3 : Int32) (p4 : Option Nat) (p5 : Int32) (S : zs_T) (Q : zs_Q) : Prop :=
  (∃ b1, p1 = some b1 ∧ zs_K S b1 = some (.inl 11) ∧ ∃ b4, (zs_R S 11002 b1) = some b4 ∧ zs_K S b4 = some (.inl 6) ∧ zs_C X d 6004 [.ref b4] S (zs_kI (fun v8 S7 => (((v8 = 0 → w_X5_dot_150 X d p0 p1 p2 p3 S7 Q) ∧ (¬ (v8 = 0) → (∃ b10, p4 = some b10 ∧ zs_K S7 b10 = some (.inl 6) ∧ ∃ b13, (zs_R S7 6007 b10) = some b13 ∧ zs_K S7 b13 = some (.inl 16) ∧ zs_C X d 16001 [.ref b13] S7 (zs_kI (fun v17 S16 => (((v17 ≤ p5 → w_X5_dot_150 X d p0 p1 p2 p3 S16 Q) ∧ (¬ (v17 ≤ p5) → (zs_K S16 b10 = some (.inl 6) ∧ ∃ b20, (zs_R S16 6007 b10) = some b20 ∧ zs_K S16 b20 = some (.inl 16) ∧ zs_C X d 16009 [.ref b20, .int p5] S16 (zs_kR (fun v24 S23 => ((∀ a, v24 = some a → zs_K S23 a = some (.inl 12)) ∧ ∃ b26, v24 = some b26 ∧ zs_K S23 b26 = some (.inl 12) ∧ zs_K S23 p0 = some (.inl 4) ∧ ∃ b30, (zs_R S23 4000 p0) = some b30 ∧ zs_K S23 b30 = some (.inl 5) ∧ (((zs_I S23 12000 b26) = (zs_I S23 5004 b30) → w_X5_dot_95 X d p0 p1 p3 p4 p5 S23 Q) ∧ (¬ ((zs_I S23 12000 b26) = (zs_I S23 5004 b30)) → w_X5_dot_92 X d p0 p1 p2 p3 p4 p5 S23 Q)))) Q)))))) Q)))))) Q))
theorem u_X5_dot_43 {σ : Nat → Nat} {n0 : Nat} {bf : ab_B} {d : Nat} {p0 : Nat} {p1 : Option Nat} {p2 : Option Nat} {p3 : Int32} {p4 : Option Nat} {p5 : Int32} {S : zs_T} {Q : zs_Q} (hB : zt_B bf) (h : w_X5_dot_43 (zx σ n0 bf) d p0 p1 p2 p3 p4 p5 S Q) : zs_U (zx σ n0 bf) d 4050 43 [(0, .ref p0), (1, va_rf p1), (2, va_rf p2), (3, .int p3), (4, va_rf p4), (5, .int p5)] [] S Q := by
  unfold w_X5_dot_43 at h
  refine zu_aload_n d_4050_43 rfl (zs_rr _) ?_
  obtain ⟨b1, e2, h⟩ := h
  refine zs_stk0 (zs_rfe e2) ?_
  obtain ⟨k3, h⟩ := h
  refine zg_4_297 rfl d_4050_44 k3 ?_
  obtain ⟨b4, e5, h⟩ := h
  refine zs_stk0 (zs_rfe e5) ?_
  obtain ⟨k6, h⟩ := h
  refine zc_4_671  hB rfl k6 d_4050_47 (Nat.le_of_ble_eq_true rfl) h (fun v8 S7 h => ?_)
  refine zu_ifeq (t := 150) d_4050_50 rfl (fun c9 => ?_) (fun c9 => ?_)
  · have h := h.1 c9
    exact (u_X5_dot_150 hB h).weak ⟨rfl, rfl, rfl, rfl, trivial⟩
  · have h := h.2 c9
    refine zu_iload d_4050_53 rfl ?_
    refine zu_aload d_4050_55 rfl (zs_rr _) ?_
    obtain ⟨b10, e11, h⟩ := h
    refine zs_stk0 (zs_rfe e11) ?_
    obtain ⟨k12, h⟩ := h
    refine zg_4_323 rfl d_4050_57 k12 ?_
    obtain ⟨b13, e14, h⟩ := h
    refine zs_stk0 (zs_rfe e14) ?_
    obtain ⟨k15, h⟩ := h
    refine zc_4_50  hB rfl k15 d_4050_60 (Nat.le_of_ble_eq_true rfl) h (fun v17 S16 h => ?_)
    refine zu_cmpge (t := 150) d_4050_63 rfl (fun c18 => ?_) (fun c18 => ?_)
    · have h := h.1 c18
      exact (u_X5_dot_150 hB h).weak ⟨rfl, rfl, rfl, rfl, trivial⟩
    · have h := h.2 c18
      refine zu_aload d_4050_66 rfl (zs_rr _) ?_
      refine zs_stk0 (zs_rfe e11) ?_
      obtain ⟨k19, h⟩ := h
      refine zg_4_323 rfl d_4050_68 k19 ?_
      refine zu_iload d_4050_71 rfl ?_
      obtain ⟨b20, e21, h⟩ := h
      refine zs_stk1 (zs_rfe e21) ?_
      obtain ⟨k22, h⟩ := h
      refine zc_4_56 (x0 := p5) hB rfl k22 d_4050_73 (Nat.le_of_ble_eq_true rfl) h (fun v24 S23 h => ?_)
      obtain ⟨k25, h⟩ := h
      refine zk_4_93 (o := v24) rfl d_4050_76 k25 ?_
      obtain ⟨b26, e27, h⟩ := h
      refine zs_stk0 (zs_rfe e27) ?_
      obtain ⟨k28, h⟩ := h
      refine zg_4_92 rfl d_4050_79 k28 ?_
      refine zu_aload_n d_4050_82 rfl (zs_ra _) ?_
      obtain ⟨k29, h⟩ := h
      refine zg_4_5 rfl d_4050_83 k29 ?_
      obtain ⟨b30, e31, h⟩ := h
      refine zs_stk0 (zs_rfe e31) ?_
      obtain ⟨k32, h⟩ := h
      refine zg_4_40 rfl d_4050_86 k32 ?_
      refine zu_cmpeq (t := 95) d_4050_89 rfl (fun c33 => ?_) (fun c33 => ?_)
      · have h := h.1 c33
        exact (u_X5_dot_95 hB h).weak ⟨rfl, rfl, rfl, rfl, rfl, trivial⟩
      · have h := h.2 c33
        exact (u_X5_dot_92 hB h).weak ⟨rfl, rfl, rfl, rfl, rfl, rfl, trivial⟩
def w_X5_dot (X : zs_X) (d : Nat) (p0 : Nat) (p1 : Option Nat) (p2 : Option Nat) (S : zs_T) (Q : zs_Q) : Prop :=
  (zs_K S p0 = some (.inl 4) ∧ ∃ b2, (zs_R S 4000 p0) = some b2 ∧ zs_K S b2 = some (.inl 5) ∧ zs_C X d 5004 [.ref b2] S (zs_kV (fun S5 => (zs_K S5 p0 = some (.inl 4) ∧ ∃ b8, (zs_R S5 4000 p0) = some b8 ∧ zs_K S5 b8 = some (.inl 5) ∧ zs_C X d 5016 [.ref b8] S5 (zs_kI (fun v12 S11 => (((¬ v12 = 0 → (∃ b14, p1 = some b14 ∧ zs_K S11 b14 = some (.inl 11) ∧ ∃ b17, (zs_R S11 11002 b14) = some b17 ∧ zs_K S11 b17 = some (.inl 6) ∧ zs_C X d 6005 [.ref b17] S11 (zs_kR (fun v21 S20 => (zs_U X d 4050 43 [(0, .ref p0), (1, va_rf p1), (2, va_rf p2), (3, .int (zs_I S 5005 b2)), (4, va_rf v21), (5, .int (0 : Int32))] [] S20 Q)) Q))) ∧ (¬ (¬ v12 = 0) → (zs_K S11 p0 = some (.inl 4) ∧ zs_C X d 4006 [.ref p0, .int (2 : Int32)] S11 (zs_kR (fun v24 S23 => (∃ b25, v24 = some b25 ∧ Q (.threw b25) S23)) Q)))))) Q))) Q))
theorem u_X5_dot {σ : Nat → Nat} {n0 : Nat} {bf : ab_B} {d : Nat} {p0 : Nat} {p1 : Option Nat} {p2 : Option Nat} {S : zs_T} {Q : zs_Q} (hB : zt_B bf) (hd : 1 ≤ d) (h : w_X5_dot (zx σ n0 bf) (d - 1) p0 p1 p2 S Q) : zs_C (zx σ n0 bf) d 4050 [.ref p0, va_rf p1, va_rf p2] S Q := by
  have hL : lv_args 0 [.ref p0, va_rf p1, va_rf p2] = [(0, .ref p0), (1, va_rf p1), (2, va_rf p2)] := by simp [lv_args, zs_cat, zs_cI, zs_cJ, zs_cA]
  refine zs_C.of1 (hB.2 4050 (by decide) (by decide)) hd (by rw [hL]; exact zs_sub_self _ (by exact ⟨rfl, rfl, rfl, trivial⟩)) ?_
  rw [hL]
  clear hL
  unfold w_X5_dot at h
  refine zu_aload_n d_4050_0 rfl (zs_ra _) ?_
  obtain ⟨k1, h⟩ := h
  refine zg_4_5 rfl d_4050_1 k1 ?_
  obtain ⟨b2, e3, h⟩ := h
  refine zs_stk0 (zs_rfe e3) ?_
  obtain ⟨k4, h⟩ := h
  refine zg_4_11 rfl d_4050_4 k4 ?_
  refine zu_istore_n d_4050_7 (zs_lt zq_4050 rfl) ?_
  refine zs_U.weak (L1 := [(3, .int (zs_I S 5005 b2)), (0, .ref p0), (1, va_rf p1), (2, va_rf p2)]) ?_ ⟨rfl, zs_gp1 rfl (Or.inl rfl) rfl, zs_gp1 rfl (Or.inl (zs_cat _)) rfl, zs_gp1 rfl (Or.inl (zs_cat _)) rfl, trivial⟩
  refine zu_aload_n d_4050_8 rfl (zs_ra _) ?_
  refine zg_4_5 rfl d_4050_9 k1 ?_
  refine zs_stk0 (zs_rfe e3) ?_
  refine zc_4_29  hB rfl k4 d_4050_12 (Nat.le_of_ble_eq_true rfl) h (fun S5 h => ?_)
  refine zu_aload_n d_4050_15 rfl (zs_ra _) ?_
  obtain ⟨k7, h⟩ := h
  refine zg_4_5 rfl d_4050_16 k7 ?_
  obtain ⟨b8, e9, h⟩ := h
  refine zs_stk0 (zs_rfe e9) ?_
  obtain ⟨k10, h⟩ := h
  refine zc_4_36  hB rfl k10 d_4050_19 (Nat.le_of_ble_eq_true rfl) h (fun v12 S11 h => ?_)
  refine zu_ifne (t := 31) d_4050_22 rfl (fun c13 => ?_) (fun c13 => ?_)
  · have h := h.1 c13
    refine zu_aload_n d_4050_31 rfl (zs_rr _) ?_
    obtain ⟨b14, e15, h⟩ := h
    refine zs_stk0 (zs_rfe e15) ?_
    obtain ⟨k16, h⟩ := h
    refine zg_4_297 rfl d_4050_32 k16 ?_
    obtain ⟨b17, e18, h⟩ := h
    refine zs_stk0 (zs_rfe e18) ?_
    obtain ⟨k19, h⟩ := h
    refine zc_4_681  hB rfl k19 d_4050_35 (Nat.le_of_ble_eq_true rfl) h (fun v21 S20 h => ?_)
    refine zu_astore d_4050_38 (zs_rr _) (zs_lt zq_4050 rfl) ?_
    refine zu_iconst d_4050_40 zi_0 ?_
    refine zu_istore d_4050_41 (zs_lt zq_4050 rfl) ?_
    refine zs_U.weak (L1 := [(5, .int (0 : Int32)), (0, .ref p0), (1, va_rf p1), (2, va_rf p2), (3, .int (zs_I S 5005 b2)), (4, va_rf v21)]) ?_ ⟨rfl, zs_gp1 rfl (Or.inl rfl) rfl, zs_gp1 rfl (Or.inl (zs_cat _)) rfl, zs_gp1 rfl (Or.inl (zs_cat _)) rfl, zs_gp1 rfl (Or.inl rfl) rfl, zs_gp1 rfl (Or.inl (zs_cat _)) rfl, trivial⟩
    exact h.weak ⟨rfl, rfl, rfl, rfl, rfl, rfl, trivial⟩
  · have h := h.2 c13
    refine zu_aload_n d_4050_25 rfl (zs_ra _) ?_
    refine zu_iconst d_4050_26 zi_2 ?_
    obtain ⟨k22, h⟩ := h
    refine zc_4_25 (x0 := (2 : Int32)) hB rfl k22 d_4050_27 (Nat.le_of_ble_eq_true rfl) h (fun v24 S23 h => ?_)
    obtain ⟨b25, e26, h⟩ := h
    refine zs_stk0 (zs_rfe e26) ?_
    exact zu_throw d_4050_30 h
/-! SchemaPascal$Reader.indexed(LSchemaPascal$Node;LSchemaPascal$Type;)LSchemaPascal$Node; -/
theorem zm_4051 {σ : Nat → Nat} {n0 : Nat} {bf : ab_B} : ab_code (zx σ n0 bf).1 4051 = prog_9_method_78_code := rfl
theorem zq_4051 {σ : Nat → Nat} {n0 : Nat} {bf : ab_B} : ab_maxL (zx σ n0 bf).1 4051 = 6 := rfl
theorem zr_4051 {σ : Nat → Nat} {n0 : Nat} {bf : ab_B} : ab_ret (zx σ n0 bf).1 4051 = (Option.some (Jvm.ClassFile.FieldType.object "SchemaPascal$Node")) := rfl
theorem d_4051_0 {σ : Nat → Nat} {n0 : Nat} {bf : ab_B} : decode (ab_code (zx σ n0 bf).1 4051) 0 = .ok (.aload_n 1, 1) := zd zm_4051 (by decide +kernel)
theorem d_4051_1 {σ : Nat → Nat} {n0 : Nat} {bf : ab_B} : decode (ab_code (zx σ n0 bf).1 4051) 1 = .ok (.astore_n 3, 1) := zd zm_4051 (by decide +kernel)
theorem d_4051_2 {σ : Nat → Nat} {n0 : Nat} {bf : ab_B} : decode (ab_code (zx σ n0 bf).1 4051) 2 = .ok (.aload_n 2, 1) := zd zm_4051 (by decide +kernel)
theorem d_4051_3 {σ : Nat → Nat} {n0 : Nat} {bf : ab_B} : decode (ab_code (zx σ n0 bf).1 4051) 3 = .ok (.astore 4, 2) := zd zm_4051 (by decide +kernel)
theorem d_4051_5 {σ : Nat → Nat} {n0 : Nat} {bf : ab_B} : decode (ab_code (zx σ n0 bf).1 4051) 5 = .ok (.aload_n 0, 1) := zd zm_4051 (by decide +kernel)
theorem d_4051_6 {σ : Nat → Nat} {n0 : Nat} {bf : ab_B} : decode (ab_code (zx σ n0 bf).1 4051) 6 = .ok (.invokevirtual 357, 3) := zd zm_4051 (by decide +kernel)
theorem d_4051_9 {σ : Nat → Nat} {n0 : Nat} {bf : ab_B} : decode (ab_code (zx σ n0 bf).1 4051) 9 = .ok (.aload 4, 2) := zd zm_4051 (by decide +kernel)
theorem d_4051_11 {σ : Nat → Nat} {n0 : Nat} {bf : ab_B} : decode (ab_code (zx σ n0 bf).1 4051) 11 = .ok (.getfield 369, 3) := zd zm_4051 (by decide +kernel)
theorem d_4051_14 {σ : Nat → Nat} {n0 : Nat} {bf : ab_B} : decode (ab_code (zx σ n0 bf).1 4051) 14 = .ok (.bipush 7, 2) := zd zm_4051 (by decide +kernel)
theorem d_4051_16 {σ : Nat → Nat} {n0 : Nat} {bf : ab_B} : decode (ab_code (zx σ n0 bf).1 4051) 16 = .ok (.if_icmp .eq 9, 3) := zd zm_4051 (by decide +kernel)
theorem d_4051_19 {σ : Nat → Nat} {n0 : Nat} {bf : ab_B} : decode (ab_code (zx σ n0 bf).1 4051) 19 = .ok (.aload_n 0, 1) := zd zm_4051 (by decide +kernel)
theorem d_4051_20 {σ : Nat → Nat} {n0 : Nat} {bf : ab_B} : decode (ab_code (zx σ n0 bf).1 4051) 20 = .ok (.iconst 5, 1) := zd zm_4051 (by decide +kernel)
theorem d_4051_21 {σ : Nat → Nat} {n0 : Nat} {bf : ab_B} : decode (ab_code (zx σ n0 bf).1 4051) 21 = .ok (.invokevirtual 25, 3) := zd zm_4051 (by decide +kernel)
theorem d_4051_24 {σ : Nat → Nat} {n0 : Nat} {bf : ab_B} : decode (ab_code (zx σ n0 bf).1 4051) 24 = .ok (.athrow, 1) := zd zm_4051 (by decide +kernel)
theorem d_4051_25 {σ : Nat → Nat} {n0 : Nat} {bf : ab_B} : decode (ab_code (zx σ n0 bf).1 4051) 25 = .ok (.aload_n 0, 1) := zd zm_4051 (by decide +kernel)
theorem d_4051_26 {σ : Nat → Nat} {n0 : Nat} {bf : ab_B} : decode (ab_code (zx σ n0 bf).1 4051) 26 = .ok (.iconst 3, 1) := zd zm_4051 (by decide +kernel)
theorem d_4051_27 {σ : Nat → Nat} {n0 : Nat} {bf : ab_B} : decode (ab_code (zx σ n0 bf).1 4051) 27 = .ok (.aload_n 0, 1) := zd zm_4051 (by decide +kernel)
theorem d_4051_28 {σ : Nat → Nat} {n0 : Nat} {bf : ab_B} : decode (ab_code (zx σ n0 bf).1 4051) 28 = .ok (.getfield 5, 3) := zd zm_4051 (by decide +kernel)
theorem d_4051_31 {σ : Nat → Nat} {n0 : Nat} {bf : ab_B} : decode (ab_code (zx σ n0 bf).1 4051) 31 = .ok (.getfield 11, 3) := zd zm_4051 (by decide +kernel)
theorem d_4051_34 {σ : Nat → Nat} {n0 : Nat} {bf : ab_B} : decode (ab_code (zx σ n0 bf).1 4051) 34 = .ok (.aload 4, 2) := zd zm_4051 (by decide +kernel)
theorem d_4051_36 {σ : Nat → Nat} {n0 : Nat} {bf : ab_B} : decode (ab_code (zx σ n0 bf).1 4051) 36 = .ok (.getfield 320, 3) := zd zm_4051 (by decide +kernel)
theorem d_4051_39 {σ : Nat → Nat} {n0 : Nat} {bf : ab_B} : decode (ab_code (zx σ n0 bf).1 4051) 39 = .ok (.invokevirtual 572, 3) := zd zm_4051 (by decide +kernel)
theorem d_4051_42 {σ : Nat → Nat} {n0 : Nat} {bf : ab_B} : decode (ab_code (zx σ n0 bf).1 4051) 42 = .ok (.astore 5, 2) := zd zm_4051 (by decide +kernel)
theorem d_4051_44 {σ : Nat → Nat} {n0 : Nat} {bf : ab_B} : decode (ab_code (zx σ n0 bf).1 4051) 44 = .ok (.aload_n 0, 1) := zd zm_4051 (by decide +kernel)
theorem d_4051_45 {σ : Nat → Nat} {n0 : Nat} {bf : ab_B} : decode (ab_code (zx σ n0 bf).1 4051) 45 = .ok (.getfield 5, 3) := zd zm_4051 (by decide +kernel)
theorem d_4051_48 {σ : Nat → Nat} {n0 : Nat} {bf : ab_B} : decode (ab_code (zx σ n0 bf).1 4051) 48 = .ok (.invokevirtual 29, 3) := zd zm_4051 (by decide +kernel)
theorem d_4051_51 {σ : Nat → Nat} {n0 : Nat} {bf : ab_B} : decode (ab_code (zx σ n0 bf).1 4051) 51 = .ok (.aload 5, 2) := zd zm_4051 (by decide +kernel)
theorem d_4051_53 {σ : Nat → Nat} {n0 : Nat} {bf : ab_B} : decode (ab_code (zx σ n0 bf).1 4051) 53 = .ok (.aload_n 3, 1) := zd zm_4051 (by decide +kernel)
theorem d_4051_54 {σ : Nat → Nat} {n0 : Nat} {bf : ab_B} : decode (ab_code (zx σ n0 bf).1 4051) 54 = .ok (.putfield 539, 3) := zd zm_4051 (by decide +kernel)
theorem d_4051_57 {σ : Nat → Nat} {n0 : Nat} {bf : ab_B} : decode (ab_code (zx σ n0 bf).1 4051) 57 = .ok (.aload 5, 2) := zd zm_4051 (by decide +kernel)
theorem d_4051_59 {σ : Nat → Nat} {n0 : Nat} {bf : ab_B} : decode (ab_code (zx σ n0 bf).1 4051) 59 = .ok (.aload_n 0, 1) := zd zm_4051 (by decide +kernel)
theorem d_4051_60 {σ : Nat → Nat} {n0 : Nat} {bf : ab_B} : decode (ab_code (zx σ n0 bf).1 4051) 60 = .ok (.invokevirtual 569, 3) := zd zm_4051 (by decide +kernel)
theorem d_4051_63 {σ : Nat → Nat} {n0 : Nat} {bf : ab_B} : decode (ab_code (zx σ n0 bf).1 4051) 63 = .ok (.putfield 536, 3) := zd zm_4051 (by decide +kernel)
theorem d_4051_66 {σ : Nat → Nat} {n0 : Nat} {bf : ab_B} : decode (ab_code (zx σ n0 bf).1 4051) 66 = .ok (.aload 5, 2) := zd zm_4051 (by decide +kernel)
theorem d_4051_68 {σ : Nat → Nat} {n0 : Nat} {bf : ab_B} : decode (ab_code (zx σ n0 bf).1 4051) 68 = .ok (.getfield 536, 3) := zd zm_4051 (by decide +kernel)
theorem d_4051_71 {σ : Nat → Nat} {n0 : Nat} {bf : ab_B} : decode (ab_code (zx σ n0 bf).1 4051) 71 = .ok (.getfield 297, 3) := zd zm_4051 (by decide +kernel)
theorem d_4051_74 {σ : Nat → Nat} {n0 : Nat} {bf : ab_B} : decode (ab_code (zx σ n0 bf).1 4051) 74 = .ok (.invokevirtual 335, 3) := zd zm_4051 (by decide +kernel)
theorem d_4051_77 {σ : Nat → Nat} {n0 : Nat} {bf : ab_B} : decode (ab_code (zx σ n0 bf).1 4051) 77 = .ok (.ifCond .eq 25, 3) := zd zm_4051 (by decide +kernel)
theorem d_4051_80 {σ : Nat → Nat} {n0 : Nat} {bf : ab_B} : decode (ab_code (zx σ n0 bf).1 4051) 80 = .ok (.aload 5, 2) := zd zm_4051 (by decide +kernel)
theorem d_4051_82 {σ : Nat → Nat} {n0 : Nat} {bf : ab_B} : decode (ab_code (zx σ n0 bf).1 4051) 82 = .ok (.getfield 536, 3) := zd zm_4051 (by decide +kernel)
theorem d_4051_85 {σ : Nat → Nat} {n0 : Nat} {bf : ab_B} : decode (ab_code (zx σ n0 bf).1 4051) 85 = .ok (.getfield 297, 3) := zd zm_4051 (by decide +kernel)
theorem d_4051_88 {σ : Nat → Nat} {n0 : Nat} {bf : ab_B} : decode (ab_code (zx σ n0 bf).1 4051) 88 = .ok (.invokevirtual 450, 3) := zd zm_4051 (by decide +kernel)
theorem d_4051_91 {σ : Nat → Nat} {n0 : Nat} {bf : ab_B} : decode (ab_code (zx σ n0 bf).1 4051) 91 = .ok (.aload 4, 2) := zd zm_4051 (by decide +kernel)
theorem d_4051_93 {σ : Nat → Nat} {n0 : Nat} {bf : ab_B} : decode (ab_code (zx σ n0 bf).1 4051) 93 = .ok (.getfield 399, 3) := zd zm_4051 (by decide +kernel)
theorem d_4051_96 {σ : Nat → Nat} {n0 : Nat} {bf : ab_B} : decode (ab_code (zx σ n0 bf).1 4051) 96 = .ok (.invokevirtual 450, 3) := zd zm_4051 (by decide +kernel)
theorem d_4051_99 {σ : Nat → Nat} {n0 : Nat} {bf : ab_B} : decode (ab_code (zx σ n0 bf).1 4051) 99 = .ok (.if_acmp .eq 9, 3) := zd zm_4051 (by decide +kernel)
theorem d_4051_102 {σ : Nat → Nat} {n0 : Nat} {bf : ab_B} : decode (ab_code (zx σ n0 bf).1 4051) 102 = .ok (.aload_n 0, 1) := zd zm_4051 (by decide +kernel)
theorem d_4051_103 {σ : Nat → Nat} {n0 : Nat} {bf : ab_B} : decode (ab_code (zx σ n0 bf).1 4051) 103 = .ok (.iconst 5, 1) := zd zm_4051 (by decide +kernel)
theorem d_4051_104 {σ : Nat → Nat} {n0 : Nat} {bf : ab_B} : decode (ab_code (zx σ n0 bf).1 4051) 104 = .ok (.invokevirtual 25, 3) := zd zm_4051 (by decide +kernel)
theorem d_4051_107 {σ : Nat → Nat} {n0 : Nat} {bf : ab_B} : decode (ab_code (zx σ n0 bf).1 4051) 107 = .ok (.athrow, 1) := zd zm_4051 (by decide +kernel)
theorem d_4051_108 {σ : Nat → Nat} {n0 : Nat} {bf : ab_B} : decode (ab_code (zx σ n0 bf).1 4051) 108 = .ok (.aload 5, 2) := zd zm_4051 (by decide +kernel)
theorem d_4051_110 {σ : Nat → Nat} {n0 : Nat} {bf : ab_B} : decode (ab_code (zx σ n0 bf).1 4051) 110 = .ok (.astore_n 3, 1) := zd zm_4051 (by decide +kernel)
theorem d_4051_111 {σ : Nat → Nat} {n0 : Nat} {bf : ab_B} : decode (ab_code (zx σ n0 bf).1 4051) 111 = .ok (.aload_n 3, 1) := zd zm_4051 (by decide +kernel)
theorem d_4051_112 {σ : Nat → Nat} {n0 : Nat} {bf : ab_B} : decode (ab_code (zx σ n0 bf).1 4051) 112 = .ok (.getfield 297, 3) := zd zm_4051 (by decide +kernel)
theorem d_4051_115 {σ : Nat → Nat} {n0 : Nat} {bf : ab_B} : decode (ab_code (zx σ n0 bf).1 4051) 115 = .ok (.invokevirtual 69, 3) := zd zm_4051 (by decide +kernel)
theorem d_4051_118 {σ : Nat → Nat} {n0 : Nat} {bf : ab_B} : decode (ab_code (zx σ n0 bf).1 4051) 118 = .ok (.astore 4, 2) := zd zm_4051 (by decide +kernel)
theorem d_4051_120 {σ : Nat → Nat} {n0 : Nat} {bf : ab_B} : decode (ab_code (zx σ n0 bf).1 4051) 120 = .ok (.aload_n 0, 1) := zd zm_4051 (by decide +kernel)
theorem d_4051_121 {σ : Nat → Nat} {n0 : Nat} {bf : ab_B} : decode (ab_code (zx σ n0 bf).1 4051) 121 = .ok (.getfield 5, 3) := zd zm_4051 (by decide +kernel)
theorem d_4051_124 {σ : Nat → Nat} {n0 : Nat} {bf : ab_B} : decode (ab_code (zx σ n0 bf).1 4051) 124 = .ok (.bipush 44, 2) := zd zm_4051 (by decide +kernel)
theorem d_4051_126 {σ : Nat → Nat} {n0 : Nat} {bf : ab_B} : decode (ab_code (zx σ n0 bf).1 4051) 126 = .ok (.invokevirtual 21, 3) := zd zm_4051 (by decide +kernel)
theorem d_4051_129 {σ : Nat → Nat} {n0 : Nat} {bf : ab_B} : decode (ab_code (zx σ n0 bf).1 4051) 129 = .ok (.ifCond .ne (-120), 3) := zd zm_4051 (by decide +kernel)
theorem d_4051_132 {σ : Nat → Nat} {n0 : Nat} {bf : ab_B} : decode (ab_code (zx σ n0 bf).1 4051) 132 = .ok (.aload_n 0, 1) := zd zm_4051 (by decide +kernel)
theorem d_4051_133 {σ : Nat → Nat} {n0 : Nat} {bf : ab_B} : decode (ab_code (zx σ n0 bf).1 4051) 133 = .ok (.bipush 93, 2) := zd zm_4051 (by decide +kernel)
theorem d_4051_135 {σ : Nat → Nat} {n0 : Nat} {bf : ab_B} : decode (ab_code (zx σ n0 bf).1 4051) 135 = .ok (.invokevirtual 224, 3) := zd zm_4051 (by decide +kernel)
theorem d_4051_138 {σ : Nat → Nat} {n0 : Nat} {bf : ab_B} : decode (ab_code (zx σ n0 bf).1 4051) 138 = .ok (.aload_n 0, 1) := zd zm_4051 (by decide +kernel)
theorem d_4051_139 {σ : Nat → Nat} {n0 : Nat} {bf : ab_B} : decode (ab_code (zx σ n0 bf).1 4051) 139 = .ok (.dup, 1) := zd zm_4051 (by decide +kernel)
theorem d_4051_140 {σ : Nat → Nat} {n0 : Nat} {bf : ab_B} : decode (ab_code (zx σ n0 bf).1 4051) 140 = .ok (.getfield 43, 3) := zd zm_4051 (by decide +kernel)
theorem d_4051_143 {σ : Nat → Nat} {n0 : Nat} {bf : ab_B} : decode (ab_code (zx σ n0 bf).1 4051) 143 = .ok (.iconst 1, 1) := zd zm_4051 (by decide +kernel)
theorem d_4051_144 {σ : Nat → Nat} {n0 : Nat} {bf : ab_B} : decode (ab_code (zx σ n0 bf).1 4051) 144 = .ok (.isub, 1) := zd zm_4051 (by decide +kernel)
theorem d_4051_145 {σ : Nat → Nat} {n0 : Nat} {bf : ab_B} : decode (ab_code (zx σ n0 bf).1 4051) 145 = .ok (.putfield 43, 3) := zd zm_4051 (by decide +kernel)
theorem d_4051_148 {σ : Nat → Nat} {n0 : Nat} {bf : ab_B} : decode (ab_code (zx σ n0 bf).1 4051) 148 = .ok (.aload_n 3, 1) := zd zm_4051 (by decide +kernel)
theorem d_4051_149 {σ : Nat → Nat} {n0 : Nat} {bf : ab_B} : decode (ab_code (zx σ n0 bf).1 4051) 149 = .ok (.areturn, 1) := zd zm_4051 (by decide +kernel)
def w_X5_indexed_102 (X : zs_X) (d : Nat) (p0 : Nat) (S : zs_T) (Q : zs_Q) : Prop :=
  (zs_K S p0 = some (.inl 4) ∧ zs_C X d 4006 [.ref p0, .int (5 : Int32)] S (zs_kR (fun v3 S2 => (∃ b4, v3 = some b4 ∧ Q (.threw b4) S2)) Q))
theorem u_X5_indexed_102 {σ : Nat → Nat} {n0 : Nat} {bf : ab_B} {d : Nat} {p0 : Nat} {S : zs_T} {Q : zs_Q} (hB : zt_B bf) (h : w_X5_indexed_102 (zx σ n0 bf) d p0 S Q) : zs_U (zx σ n0 bf) d 4051 102 [(0, .ref p0)] [] S Q := by
  unfold w_X5_indexed_102 at h
  refine zu_aload_n d_4051_102 rfl (zs_ra _) ?_
  refine zu_iconst d_4051_103 zi_5 ?_
  obtain ⟨k1, h⟩ := h
  refine zc_4_25 (x0 := (5 : Int32)) hB rfl k1 d_4051_104 (Nat.le_of_ble_eq_true rfl) h (fun v3 S2 h => ?_)
  obtain ⟨b4, e5, h⟩ := h
  refine zs_stk0 (zs_rfe e5) ?_
  exact zu_throw d_4051_107 h
def w_X5_indexed_148 (X : zs_X) (d : Nat) (p3 : Option Nat) (S : zs_T) (Q : zs_Q) : Prop :=
  (Q (.returned (some (va_rf p3))) S)
theorem u_X5_indexed_148 {σ : Nat → Nat} {n0 : Nat} {bf : ab_B} {d : Nat} {p3 : Option Nat} {S : zs_T} {Q : zs_Q} (hB : zt_B bf) (h : w_X5_indexed_148 (zx σ n0 bf) d p3 S Q) : zs_U (zx σ n0 bf) d 4051 148 [(3, va_rf p3)] [] S Q := by
  unfold w_X5_indexed_148 at h
  refine zu_aload_n d_4051_148 rfl (zs_rr _) ?_
  exact zu_aret d_4051_149 zr_4051 (zs_rr _) h
def w_X5_indexed_108 (X : zs_X) (d : Nat) (p0 : Nat) (p5 : Option Nat) (S : zs_T) (Q : zs_Q) : Prop :=
  (∃ b1, p5 = some b1 ∧ zs_K S b1 = some (.inl 11) ∧ ∃ b4, (zs_R S 11002 b1) = some b4 ∧ zs_K S b4 = some (.inl 6) ∧ zs_C X d 6003 [.ref b4] S (zs_kR (fun v8 S7 => (zs_K S7 p0 = some (.inl 4) ∧ ∃ b10, (zs_R S7 4000 p0) = some b10 ∧ zs_K S7 b10 = some (.inl 5) ∧ zs_C X d 5017 [.ref b10, .int (44 : Int32)] S7 (zs_kI (fun v14 S13 => (((¬ v14 = 0 → zs_U X d 4051 9 [(0, .ref p0), (3, va_rf p5), (4, va_rf v8)] [] S13 Q) ∧ (¬ (¬ v14 = 0) → (zs_K S13 p0 = some (.inl 4) ∧ zs_C X d 4008 [.ref p0, .int (93 : Int32)] S13 (zs_kV (fun S17 => (zs_K S17 p0 = some (.inl 4) ∧ ab_n0 X.1 ≤ p0 ∧ ∀ S21, S21 = zs_sI S17 4011 p0 ((zs_I S17 4011 p0) - (1 : Int32)) → w_X5_indexed_148 X d p5 S21 Q)) Q)))))) Q))) Q))
theorem u_X5_indexed_108 {σ : Nat → Nat} {n0 : Nat} {bf : ab_B} {d : Nat} {p0 : Nat} {p5 : Option Nat} {S : zs_T} {Q : zs_Q} (hB : zt_B bf) (h : w_X5_indexed_108 (zx σ n0 bf) d p0 p5 S Q) : zs_U (zx σ n0 bf) d 4051 108 [(0, .ref p0), (5, va_rf p5)] [] S Q := by
  unfold w_X5_indexed_108 at h
  refine zu_aload d_4051_108 rfl (zs_rr _) ?_
  refine zu_astore_n d_4051_110 (zs_rr _) (zs_lt zq_4051 rfl) ?_
  refine zu_aload_n d_4051_111 rfl (zs_rr _) ?_
  obtain ⟨b1, e2, h⟩ := h
  refine zs_stk0 (zs_rfe e2) ?_
  obtain ⟨k3, h⟩ := h
  refine zg_4_297 rfl d_4051_112 k3 ?_
  obtain ⟨b4, e5, h⟩ := h
  refine zs_stk0 (zs_rfe e5) ?_
  obtain ⟨k6, h⟩ := h
  refine zc_4_69  hB rfl k6 d_4051_115 (Nat.le_of_ble_eq_true rfl) h (fun v8 S7 h => ?_)
  refine zu_astore d_4051_118 (zs_rr _) (zs_lt zq_4051 rfl) ?_
  refine zs_U.weak (L1 := [(4, va_rf v8), (0, .ref p0), (5, va_rf p5), (3, va_rf p5)]) ?_ ⟨rfl, zs_gp1 rfl (Or.inl rfl) rfl, zs_gp1 rfl (Or.inl (zs_cat _)) rfl, zs_gp1 rfl (Or.inl (zs_cat _)) rfl, trivial⟩
  refine zu_aload_n d_4051_120 rfl (zs_ra _) ?_
  obtain ⟨k9, h⟩ := h
  refine zg_4_5 rfl d_4051_121 k9 ?_
  refine zu_bipush d_4051_124 zj_44 ?_
  obtain ⟨b10, e11, h⟩ := h
  refine zs_stk1 (zs_rfe e11) ?_
  obtain ⟨k12, h⟩ := h
  refine zc_4_21 (x0 := (44 : Int32)) hB rfl k12 d_4051_126 (Nat.le_of_ble_eq_true rfl) h (fun v14 S13 h => ?_)
  refine zu_ifne (t := 9) d_4051_129 rfl (fun c15 => ?_) (fun c15 => ?_)
  · have h := h.1 c15
    exact h.weak ⟨rfl, rfl, rfl, trivial⟩
  · have h := h.2 c15
    refine zu_aload_n d_4051_132 rfl (zs_ra _) ?_
    refine zu_bipush d_4051_133 zj_93 ?_
    obtain ⟨k16, h⟩ := h
    refine zc_4_224 (x0 := (93 : Int32)) hB rfl k16 d_4051_135 (Nat.le_of_ble_eq_true rfl) h (fun S17 h => ?_)
    refine zu_aload_n d_4051_138 rfl (zs_ra _) ?_
    refine zu_dup d_4051_139 rfl ?_
    obtain ⟨k19, h⟩ := h
    refine zg_4_43 rfl d_4051_140 k19 ?_
    refine zu_iconst d_4051_143 zi_1 ?_
    refine zu_stk d_4051_144 rfl rfl ?_
    obtain ⟨k20, h⟩ := h
    refine zp_4_43 (v := ((zs_I S17 4011 p0) - (1 : Int32))) rfl d_4051_145 k19 k20 ?_
    generalize e22 : zs_sI S17 4011 p0 ((zs_I S17 4011 p0) - (1 : Int32)) = S21
    have h := h S21 e22.symm
    have K23 : ∀ b, zs_K S21 b = zs_K S17 b := zs_Kt e22 (zs_KsI _ _ _ _) (fun _ => rfl)
    exact (u_X5_indexed_148 hB h).weak ⟨rfl, trivial⟩
def w_X5_indexed_51 (X : zs_X) (d : Nat) (p0 : Nat) (p3 : Option Nat) (p4 : Option Nat) (p5 : Option Nat) (S : zs_T) (Q : zs_Q) : Prop :=
  (∃ b1, p5 = some b1 ∧ zs_K S b1 = some (.inl 11) ∧ ab_n0 X.1 ≤ b1 ∧ ∀ S5, S5 = zs_sR S 11005 b1 p3 → zs_K S p0 = some (.inl 4) ∧ zs_C X d 4014 [.ref p0] S5 (zs_kR (fun v10 S9 => (zs_K S9 b1 = some (.inl 11) ∧ ∀ S12, S12 = zs_sR S9 11006 b1 v10 → ∃ b15, (zs_R S12 11006 b1) = some b15 ∧ zs_K S9 b15 = some (.inl 11) ∧ ∃ b18, (zs_R S12 11002 b15) = some b18 ∧ zs_K S9 b18 = some (.inl 6) ∧ zs_C X d 6002 [.ref b18] S12 (zs_kI (fun v22 S21 => (((v22 = 0 → w_X5_indexed_102 X d p0 S21 Q) ∧ (¬ (v22 = 0) → (zs_K S21 b1 = some (.inl 11) ∧ ∃ b25, (zs_R S21 11006 b1) = some b25 ∧ zs_K S21 b25 = some (.inl 11) ∧ ∃ b28, (zs_R S21 11002 b25) = some b28 ∧ zs_K S21 b28 = some (.inl 6) ∧ zs_C X d 6001 [.ref b28] S21 (zs_kR (fun v32 S31 => (∃ b33, p4 = some b33 ∧ zs_K S31 b33 = some (.inl 6) ∧ ∃ b36, (zs_R S31 6003 b33) = some b36 ∧ zs_K S31 b36 = some (.inl 6) ∧ zs_C X d 6001 [.ref b36] S31 (zs_kR (fun v40 S39 => (((v32 = v40 → w_X5_indexed_108 X d p0 p5 S39 Q) ∧ (¬ (v32 = v40) → w_X5_indexed_102 X d p0 S39 Q)))) Q))) Q)))))) Q))) Q))
theorem u_X5_indexed_51 {σ : Nat → Nat} {n0 : Nat} {bf : ab_B} {d : Nat} {p0 : Nat} {p3 : Option Nat} {p4 : Option Nat} {p5 : Option Nat} {S : zs_T} {Q : zs_Q} (hB : zt_B bf) (h : w_X5_indexed_51 (zx σ n0 bf) d p0 p3 p4 p5 S Q) : zs_U (zx σ n0 bf) d 4051 51 [(0, .ref p0), (3, va_rf p3), (4, va_rf p4), (5, va_rf p5)] [] S Q := by
  unfold w_X5_indexed_51 at h
  refine zu_aload d_4051_51 rfl (zs_rr _) ?_
  refine zu_aload_n d_4051_53 rfl (zs_rr _) ?_
  obtain ⟨b1, e2, h⟩ := h
  refine zs_stk1 (zs_rfe e2) ?_
  obtain ⟨k3, h⟩ := h
  obtain ⟨k4, h⟩ := h
  refine zp_4_539 (v := p3) rfl d_4051_54 k3 k4 ?_
  generalize e6 : zs_sR S 11005 b1 p3 = S5
  have h := h S5 e6.symm
  have K7 : ∀ b, zs_K S5 b = zs_K S b := zs_Kt e6 (zs_KsR _ _ _ _) (fun _ => rfl)
  refine zu_aload d_4051_57 rfl (zs_rr _) ?_
  refine zu_aload_n d_4051_59 rfl (zs_ra _) ?_
  obtain ⟨k8, h⟩ := h
  refine zc_4_569  hB rfl ((K7 _).trans k8) d_4051_60 (by simp only [List.map_cons, List.map_nil, List.sum_cons, List.sum_nil, zs_cat, zs_cI, zs_cJ, zs_cA]; exact Nat.le_of_ble_eq_true rfl) h (fun v10 S9 h => ?_)
  refine zs_stk1 (zs_rfe e2) ?_
  obtain ⟨k11, h⟩ := h
  refine zp_4_536 (v := v10) rfl d_4051_63 k11 k4 ?_
  generalize e13 : zs_sR S9 11006 b1 v10 = S12
  have h := h S12 e13.symm
  have K14 : ∀ b, zs_K S12 b = zs_K S9 b := zs_Kt e13 (zs_KsR _ _ _ _) (fun _ => rfl)
  refine zu_aload d_4051_66 rfl (zs_rr _) ?_
  refine zs_stk0 (zs_rfe e2) ?_
  refine zg_4_536 rfl d_4051_68 ((K14 _).trans k11) ?_
  obtain ⟨b15, e16, h⟩ := h
  refine zs_stk0 (zs_rfe e16) ?_
  obtain ⟨k17, h⟩ := h
  refine zg_4_297 rfl d_4051_71 ((K14 _).trans k17) ?_
  obtain ⟨b18, e19, h⟩ := h
  refine zs_stk0 (zs_rfe e19) ?_
  obtain ⟨k20, h⟩ := h
  refine zc_4_335  hB rfl ((K14 _).trans k20) d_4051_74 (Nat.le_of_ble_eq_true rfl) h (fun v22 S21 h => ?_)
  refine zu_ifeq (t := 102) d_4051_77 rfl (fun c23 => ?_) (fun c23 => ?_)
  · have h := h.1 c23
    exact (u_X5_indexed_102 hB h).weak ⟨rfl, trivial⟩
  · have h := h.2 c23
    refine zu_aload d_4051_80 rfl (zs_rr _) ?_
    refine zs_stk0 (zs_rfe e2) ?_
    obtain ⟨k24, h⟩ := h
    refine zg_4_536 rfl d_4051_82 k24 ?_
    obtain ⟨b25, e26, h⟩ := h
    refine zs_stk0 (zs_rfe e26) ?_
    obtain ⟨k27, h⟩ := h
    refine zg_4_297 rfl d_4051_85 k27 ?_
    obtain ⟨b28, e29, h⟩ := h
    refine zs_stk0 (zs_rfe e29) ?_
    obtain ⟨k30, h⟩ := h
    refine zc_4_450  hB rfl k30 d_4051_88 (Nat.le_of_ble_eq_true rfl) h (fun v32 S31 h => ?_)
    refine zu_aload d_4051_91 rfl (zs_rr _) ?_
    obtain ⟨b33, e34, h⟩ := h
    refine zs_stk0 (zs_rfe e34) ?_
    obtain ⟨k35, h⟩ := h
    refine zg_4_399 rfl d_4051_93 k35 ?_
    obtain ⟨b36, e37, h⟩ := h
    refine zs_stk0 (zs_rfe e37) ?_
    obtain ⟨k38, h⟩ := h
    refine zc_4_450  hB rfl k38 d_4051_96 (by simp only [List.map_cons, List.map_nil, List.sum_cons, List.sum_nil, zs_cat, zs_cI, zs_cJ, zs_cA]; exact Nat.le_of_ble_eq_true rfl) h (fun v40 S39 h => ?_)
    refine zu_acmpeq (u := v32) (w := v40) (t := 108) d_4051_99 rfl rfl rfl (fun c41 => ?_) (fun c41 => ?_)
    · have h := h.1 c41
      exact (u_X5_indexed_108 hB h).weak ⟨rfl, rfl, trivial⟩
    · have h := h.2 c41
      exact (u_X5_indexed_102 hB h).weak ⟨rfl, trivial⟩
def w_X5_indexed_9 (X : zs_X) (d : Nat) (p0 : Nat) (p3 : Option Nat) (p4 : Option Nat) (S : zs_T) (Q : zs_Q) : Prop :=
  (∃ b1, p4 = some b1 ∧ zs_K S b1 = some (.inl 6) ∧ (((zs_I S 6000 b1) = (7 : Int32) → (zs_K S p0 = some (.inl 4) ∧ ∃ b6, (zs_R S 4000 p0) = some b6 ∧ zs_K S b6 = some (.inl 5) ∧ zs_C X d 4016 [.ref p0, .int (3 : Int32), .int (zs_I S 5005 b6), va_rf (zs_R S 6002 b1)] S (zs_kR (fun v10 S9 => (zs_K S9 p0 = some (.inl 4) ∧ ∃ b12, (zs_R S9 4000 p0) = some b12 ∧ zs_K S9 b12 = some (.inl 5) ∧ zs_C X d 5004 [.ref b12] S9 (zs_kV (fun S15 => w_X5_indexed_51 X d p0 p3 p4 v10 S15 Q) Q))) Q))) ∧ (¬ ((zs_I S 6000 b1) = (7 : Int32)) → (zs_K S p0 = some (.inl 4) ∧ zs_C X d 4006 [.ref p0, .int (5 : Int32)] S (zs_kR (fun v19 S18 => (∃ b20, v19 = some b20 ∧ Q (.threw b20) S18)) Q)))))
theorem u_X5_indexed_9 {σ : Nat → Nat} {n0 : Nat} {bf : ab_B} {d : Nat} {p0 : Nat} {p3 : Option Nat} {p4 : Option Nat} {S : zs_T} {Q : zs_Q} (hB : zt_B bf) (h : w_X5_indexed_9 (zx σ n0 bf) d p0 p3 p4 S Q) : zs_U (zx σ n0 bf) d 4051 9 [(0, .ref p0), (3, va_rf p3), (4, va_rf p4)] [] S Q := by
  unfold w_X5_indexed_9 at h
  refine zu_aload d_4051_9 rfl (zs_rr _) ?_
  obtain ⟨b1, e2, h⟩ := h
  refine zs_stk0 (zs_rfe e2) ?_
  obtain ⟨k3, h⟩ := h
  refine zg_4_369 rfl d_4051_11 k3 ?_
  refine zu_bipush d_4051_14 zj_7 ?_
  refine zu_cmpeq (t := 25) d_4051_16 rfl (fun c4 => ?_) (fun c4 => ?_)
  · have h := h.1 c4
    refine zu_aload_n d_4051_25 rfl (zs_ra _) ?_
    refine zu_iconst d_4051_26 zi_3 ?_
    refine zu_aload_n d_4051_27 rfl (zs_ra _) ?_
    obtain ⟨k5, h⟩ := h
    refine zg_4_5 rfl d_4051_28 k5 ?_
    obtain ⟨b6, e7, h⟩ := h
    refine zs_stk0 (zs_rfe e7) ?_
    obtain ⟨k8, h⟩ := h
    refine zg_4_11 rfl d_4051_31 k8 ?_
    refine zu_aload d_4051_34 rfl (zs_rr _) ?_
    refine zs_stk0 (zs_rfe e2) ?_
    refine zg_4_320 rfl d_4051_36 k3 ?_
    refine zc_4_572 (x0 := (3 : Int32)) (x1 := (zs_I S 5005 b6)) (x2 := (zs_R S 6002 b1)) hB rfl k5 d_4051_39 (Nat.le_of_ble_eq_true rfl) h (fun v10 S9 h => ?_)
    refine zu_astore d_4051_42 (zs_rr _) (zs_lt zq_4051 rfl) ?_
    refine zs_U.weak (L1 := [(5, va_rf v10), (0, .ref p0), (3, va_rf p3), (4, va_rf p4)]) ?_ ⟨rfl, zs_gp1 rfl (Or.inl rfl) rfl, zs_gp1 rfl (Or.inl (zs_cat _)) rfl, zs_gp1 rfl (Or.inl (zs_cat _)) rfl, trivial⟩
    refine zu_aload_n d_4051_44 rfl (zs_ra _) ?_
    obtain ⟨k11, h⟩ := h
    refine zg_4_5 rfl d_4051_45 k11 ?_
    obtain ⟨b12, e13, h⟩ := h
    refine zs_stk0 (zs_rfe e13) ?_
    obtain ⟨k14, h⟩ := h
    refine zc_4_29  hB rfl k14 d_4051_48 (Nat.le_of_ble_eq_true rfl) h (fun S15 h => ?_)
    exact (u_X5_indexed_51 hB h).weak ⟨rfl, rfl, rfl, rfl, trivial⟩
  · have h := h.2 c4
    refine zu_aload_n d_4051_19 rfl (zs_ra _) ?_
    refine zu_iconst d_4051_20 zi_5 ?_
    obtain ⟨k17, h⟩ := h
    refine zc_4_25 (x0 := (5 : Int32)) hB rfl k17 d_4051_21 (Nat.le_of_ble_eq_true rfl) h (fun v19 S18 h => ?_)
    obtain ⟨b20, e21, h⟩ := h
    refine zs_stk0 (zs_rfe e21) ?_
    exact zu_throw d_4051_24 h
def w_X5_indexed (X : zs_X) (d : Nat) (p0 : Nat) (p1 : Option Nat) (p2 : Option Nat) (S : zs_T) (Q : zs_Q) : Prop :=
  (zs_K S p0 = some (.inl 4) ∧ zs_C X d 4021 [.ref p0] S (zs_kV (fun S2 => zs_U X d 4051 9 [(0, .ref p0), (3, va_rf p1), (4, va_rf p2)] [] S2 Q) Q))
theorem u_X5_indexed {σ : Nat → Nat} {n0 : Nat} {bf : ab_B} {d : Nat} {p0 : Nat} {p1 : Option Nat} {p2 : Option Nat} {S : zs_T} {Q : zs_Q} (hB : zt_B bf) (hd : 1 ≤ d) (h : w_X5_indexed (zx σ n0 bf) (d - 1) p0 p1 p2 S Q) : zs_C (zx σ n0 bf) d 4051 [.ref p0, va_rf p1, va_rf p2] S Q := by
  have hL : lv_args 0 [.ref p0, va_rf p1, va_rf p2] = [(0, .ref p0), (1, va_rf p1), (2, va_rf p2)] := by simp [lv_args, zs_cat, zs_cI, zs_cJ, zs_cA]
  refine zs_C.of1 (hB.2 4051 (by decide) (by decide)) hd (by rw [hL]; exact zs_sub_self _ (by exact ⟨rfl, rfl, rfl, trivial⟩)) ?_
  rw [hL]
  clear hL
  unfold w_X5_indexed at h
  refine zu_aload_n d_4051_0 rfl (zs_rr _) ?_
  refine zu_astore_n d_4051_1 (zs_rr _) (zs_lt zq_4051 rfl) ?_
  refine zs_U.weak (L1 := [(3, va_rf p1), (0, .ref p0), (1, va_rf p1), (2, va_rf p2)]) ?_ ⟨rfl, zs_gp1 rfl (Or.inl rfl) rfl, zs_gp1 rfl (Or.inl (zs_cat _)) rfl, zs_gp1 rfl (Or.inl (zs_cat _)) rfl, trivial⟩
  refine zu_aload_n d_4051_2 rfl (zs_rr _) ?_
  refine zu_astore d_4051_3 (zs_rr _) (zs_lt zq_4051 rfl) ?_
  refine zs_U.weak (L1 := [(4, va_rf p2), (0, .ref p0), (1, va_rf p1), (2, va_rf p2), (3, va_rf p1)]) ?_ ⟨rfl, zs_gp1 rfl (Or.inl rfl) rfl, zs_gp1 rfl (Or.inl (zs_cat _)) rfl, zs_gp1 rfl (Or.inl (zs_cat _)) rfl, zs_gp1 rfl (Or.inl (zs_cat _)) rfl, trivial⟩
  refine zu_aload_n d_4051_5 rfl (zs_ra _) ?_
  obtain ⟨k1, h⟩ := h
  refine zc_4_357  hB rfl k1 d_4051_6 (Nat.le_of_ble_eq_true rfl) h (fun S2 h => ?_)
  exact h.weak ⟨rfl, rfl, rfl, trivial⟩
/-! SchemaPascal$Reader.logic(LSchemaPascal$Node;LSchemaPascal$Node;)LSchemaPascal$Type; -/
theorem zm_4052 {σ : Nat → Nat} {n0 : Nat} {bf : ab_B} : ab_code (zx σ n0 bf).1 4052 = prog_9_method_62_code := rfl
theorem zq_4052 {σ : Nat → Nat} {n0 : Nat} {bf : ab_B} : ab_maxL (zx σ n0 bf).1 4052 = 3 := rfl
theorem zr_4052 {σ : Nat → Nat} {n0 : Nat} {bf : ab_B} : ab_ret (zx σ n0 bf).1 4052 = (Option.some (Jvm.ClassFile.FieldType.object "SchemaPascal$Type")) := rfl
theorem d_4052_0 {σ : Nat → Nat} {n0 : Nat} {bf : ab_B} : decode (ab_code (zx σ n0 bf).1 4052) 0 = .ok (.aload_n 1, 1) := zd zm_4052 (by decide +kernel)
theorem d_4052_1 {σ : Nat → Nat} {n0 : Nat} {bf : ab_B} : decode (ab_code (zx σ n0 bf).1 4052) 1 = .ok (.getfield 297, 3) := zd zm_4052 (by decide +kernel)
theorem d_4052_4 {σ : Nat → Nat} {n0 : Nat} {bf : ab_B} : decode (ab_code (zx σ n0 bf).1 4052) 4 = .ok (.invokevirtual 450, 3) := zd zm_4052 (by decide +kernel)
theorem d_4052_7 {σ : Nat → Nat} {n0 : Nat} {bf : ab_B} : decode (ab_code (zx σ n0 bf).1 4052) 7 = .ok (.aload_n 0, 1) := zd zm_4052 (by decide +kernel)
theorem d_4052_8 {σ : Nat → Nat} {n0 : Nat} {bf : ab_B} : decode (ab_code (zx σ n0 bf).1 4052) 8 = .ok (.getfield 150, 3) := zd zm_4052 (by decide +kernel)
theorem d_4052_11 {σ : Nat → Nat} {n0 : Nat} {bf : ab_B} : decode (ab_code (zx σ n0 bf).1 4052) 11 = .ok (.if_acmp .ne 17, 3) := zd zm_4052 (by decide +kernel)
theorem d_4052_14 {σ : Nat → Nat} {n0 : Nat} {bf : ab_B} : decode (ab_code (zx σ n0 bf).1 4052) 14 = .ok (.aload_n 2, 1) := zd zm_4052 (by decide +kernel)
theorem d_4052_15 {σ : Nat → Nat} {n0 : Nat} {bf : ab_B} : decode (ab_code (zx σ n0 bf).1 4052) 15 = .ok (.getfield 297, 3) := zd zm_4052 (by decide +kernel)
theorem d_4052_18 {σ : Nat → Nat} {n0 : Nat} {bf : ab_B} : decode (ab_code (zx σ n0 bf).1 4052) 18 = .ok (.invokevirtual 450, 3) := zd zm_4052 (by decide +kernel)
theorem d_4052_21 {σ : Nat → Nat} {n0 : Nat} {bf : ab_B} : decode (ab_code (zx σ n0 bf).1 4052) 21 = .ok (.aload_n 0, 1) := zd zm_4052 (by decide +kernel)
theorem d_4052_22 {σ : Nat → Nat} {n0 : Nat} {bf : ab_B} : decode (ab_code (zx σ n0 bf).1 4052) 22 = .ok (.getfield 150, 3) := zd zm_4052 (by decide +kernel)
theorem d_4052_25 {σ : Nat → Nat} {n0 : Nat} {bf : ab_B} : decode (ab_code (zx σ n0 bf).1 4052) 25 = .ok (.if_acmp .eq 9, 3) := zd zm_4052 (by decide +kernel)
theorem d_4052_28 {σ : Nat → Nat} {n0 : Nat} {bf : ab_B} : decode (ab_code (zx σ n0 bf).1 4052) 28 = .ok (.aload_n 0, 1) := zd zm_4052 (by decide +kernel)
theorem d_4052_29 {σ : Nat → Nat} {n0 : Nat} {bf : ab_B} : decode (ab_code (zx σ n0 bf).1 4052) 29 = .ok (.iconst 5, 1) := zd zm_4052 (by decide +kernel)
theorem d_4052_30 {σ : Nat → Nat} {n0 : Nat} {bf : ab_B} : decode (ab_code (zx σ n0 bf).1 4052) 30 = .ok (.invokevirtual 25, 3) := zd zm_4052 (by decide +kernel)
theorem d_4052_33 {σ : Nat → Nat} {n0 : Nat} {bf : ab_B} : decode (ab_code (zx σ n0 bf).1 4052) 33 = .ok (.athrow, 1) := zd zm_4052 (by decide +kernel)
theorem d_4052_34 {σ : Nat → Nat} {n0 : Nat} {bf : ab_B} : decode (ab_code (zx σ n0 bf).1 4052) 34 = .ok (.aload_n 0, 1) := zd zm_4052 (by decide +kernel)
theorem d_4052_35 {σ : Nat → Nat} {n0 : Nat} {bf : ab_B} : decode (ab_code (zx σ n0 bf).1 4052) 35 = .ok (.getfield 150, 3) := zd zm_4052 (by decide +kernel)
theorem d_4052_38 {σ : Nat → Nat} {n0 : Nat} {bf : ab_B} : decode (ab_code (zx σ n0 bf).1 4052) 38 = .ok (.areturn, 1) := zd zm_4052 (by decide +kernel)
def w_X5_logic_28 (X : zs_X) (d : Nat) (p0 : Nat) (S : zs_T) (Q : zs_Q) : Prop :=
  (zs_K S p0 = some (.inl 4) ∧ zs_C X d 4006 [.ref p0, .int (5 : Int32)] S (zs_kR (fun v3 S2 => (∃ b4, v3 = some b4 ∧ Q (.threw b4) S2)) Q))
theorem u_X5_logic_28 {σ : Nat → Nat} {n0 : Nat} {bf : ab_B} {d : Nat} {p0 : Nat} {S : zs_T} {Q : zs_Q} (hB : zt_B bf) (h : w_X5_logic_28 (zx σ n0 bf) d p0 S Q) : zs_U (zx σ n0 bf) d 4052 28 [(0, .ref p0)] [] S Q := by
  unfold w_X5_logic_28 at h
  refine zu_aload_n d_4052_28 rfl (zs_ra _) ?_
  refine zu_iconst d_4052_29 zi_5 ?_
  obtain ⟨k1, h⟩ := h
  refine zc_4_25 (x0 := (5 : Int32)) hB rfl k1 d_4052_30 (Nat.le_of_ble_eq_true rfl) h (fun v3 S2 h => ?_)
  obtain ⟨b4, e5, h⟩ := h
  refine zs_stk0 (zs_rfe e5) ?_
  exact zu_throw d_4052_33 h
def w_X5_logic (X : zs_X) (d : Nat) (p0 : Nat) (p1 : Option Nat) (p2 : Option Nat) (S : zs_T) (Q : zs_Q) : Prop :=
  (∃ b1, p1 = some b1 ∧ zs_K S b1 = some (.inl 11) ∧ ∃ b4, (zs_R S 11002 b1) = some b4 ∧ zs_K S b4 = some (.inl 6) ∧ zs_C X d 6001 [.ref b4] S (zs_kR (fun v8 S7 => (zs_K S7 p0 = some (.inl 4) ∧ ((¬ v8 = (zs_R S7 4003 p0) → w_X5_logic_28 X d p0 S7 Q) ∧ (¬ (¬ v8 = (zs_R S7 4003 p0)) → (∃ b11, p2 = some b11 ∧ zs_K S7 b11 = some (.inl 11) ∧ ∃ b14, (zs_R S7 11002 b11) = some b14 ∧ zs_K S7 b14 = some (.inl 6) ∧ zs_C X d 6001 [.ref b14] S7 (zs_kR (fun v18 S17 => (zs_K S17 p0 = some (.inl 4) ∧ ((v18 = (zs_R S17 4003 p0) → (Q (.returned (some (va_rf (zs_R S17 4003 p0)))) S17)) ∧ (¬ (v18 = (zs_R S17 4003 p0)) → w_X5_logic_28 X d p0 S17 Q)))) Q)))))) Q))
theorem u_X5_logic {σ : Nat → Nat} {n0 : Nat} {bf : ab_B} {d : Nat} {p0 : Nat} {p1 : Option Nat} {p2 : Option Nat} {S : zs_T} {Q : zs_Q} (hB : zt_B bf) (hd : 1 ≤ d) (h : w_X5_logic (zx σ n0 bf) (d - 1) p0 p1 p2 S Q) : zs_C (zx σ n0 bf) d 4052 [.ref p0, va_rf p1, va_rf p2] S Q := by
  have hL : lv_args 0 [.ref p0, va_rf p1, va_rf p2] = [(0, .ref p0), (1, va_rf p1), (2, va_rf p2)] := by simp [lv_args, zs_cat, zs_cI, zs_cJ, zs_cA]
  refine zs_C.of1 (hB.2 4052 (by decide) (by decide)) hd (by rw [hL]; exact zs_sub_self _ (by exact ⟨rfl, rfl, rfl, trivial⟩)) ?_
  rw [hL]
  clear hL
  unfold w_X5_logic at h
  refine zu_aload_n d_4052_0 rfl (zs_rr _) ?_
  obtain ⟨b1, e2, h⟩ := h
  refine zs_stk0 (zs_rfe e2) ?_
  obtain ⟨k3, h⟩ := h
  refine zg_4_297 rfl d_4052_1 k3 ?_
  obtain ⟨b4, e5, h⟩ := h
  refine zs_stk0 (zs_rfe e5) ?_
  obtain ⟨k6, h⟩ := h
  refine zc_4_450  hB rfl k6 d_4052_4 (Nat.le_of_ble_eq_true rfl) h (fun v8 S7 h => ?_)
  refine zu_aload_n d_4052_7 rfl (zs_ra _) ?_
  obtain ⟨k9, h⟩ := h
  refine zg_4_150 rfl d_4052_8 k9 ?_
  refine zu_acmpne (u := v8) (w := (zs_R S7 4003 p0)) (t := 28) d_4052_11 rfl rfl rfl (fun c10 => ?_) (fun c10 => ?_)
  · have h := h.1 c10
    exact (u_X5_logic_28 hB h).weak ⟨rfl, trivial⟩
  · have h := h.2 c10
    refine zu_aload_n d_4052_14 rfl (zs_rr _) ?_
    obtain ⟨b11, e12, h⟩ := h
    refine zs_stk0 (zs_rfe e12) ?_
    obtain ⟨k13, h⟩ := h
    refine zg_4_297 rfl d_4052_15 k13 ?_
    obtain ⟨b14, e15, h⟩ := h
    refine zs_stk0 (zs_rfe e15) ?_
    obtain ⟨k16, h⟩ := h
    refine zc_4_450  hB rfl k16 d_4052_18 (Nat.le_of_ble_eq_true rfl) h (fun v18 S17 h => ?_)
    refine zu_aload_n d_4052_21 rfl (zs_ra _) ?_
    obtain ⟨k19, h⟩ := h
    refine zg_4_150 rfl d_4052_22 k19 ?_
    refine zu_acmpeq (u := v18) (w := (zs_R S17 4003 p0)) (t := 34) d_4052_25 rfl rfl rfl (fun c20 => ?_) (fun c20 => ?_)
    · have h := h.1 c20
      refine zu_aload_n d_4052_34 rfl (zs_ra _) ?_
      refine zg_4_150 rfl d_4052_35 k19 ?_
      exact zu_aret d_4052_38 zr_4052 (zs_rr _) h
    · have h := h.2 c20
      exact (u_X5_logic_28 hB h).weak ⟨rfl, trivial⟩
/-! SchemaPascal$Reader.plain(LSchemaPascal$Node;)LSchemaPascal$Node; -/
theorem zm_4053 {σ : Nat → Nat} {n0 : Nat} {bf : ab_B} : ab_code (zx σ n0 bf).1 4053 = prog_9_method_61_code := rfl
theorem zq_4053 {σ : Nat → Nat} {n0 : Nat} {bf : ab_B} : ab_maxL (zx σ n0 bf).1 4053 = 3 := rfl
theorem zr_4053 {σ : Nat → Nat} {n0 : Nat} {bf : ab_B} : ab_ret (zx σ n0 bf).1 4053 = (Option.some (Jvm.ClassFile.FieldType.object "SchemaPascal$Node")) := rfl
theorem d_4053_0 {σ : Nat → Nat} {n0 : Nat} {bf : ab_B} : decode (ab_code (zx σ n0 bf).1 4053) 0 = .ok (.aload_n 0, 1) := zd zm_4053 (by decide +kernel)
theorem d_4053_1 {σ : Nat → Nat} {n0 : Nat} {bf : ab_B} : decode (ab_code (zx σ n0 bf).1 4053) 1 = .ok (.bipush 7, 2) := zd zm_4053 (by decide +kernel)
theorem d_4053_3 {σ : Nat → Nat} {n0 : Nat} {bf : ab_B} : decode (ab_code (zx σ n0 bf).1 4053) 3 = .ok (.aload_n 1, 1) := zd zm_4053 (by decide +kernel)
theorem d_4053_4 {σ : Nat → Nat} {n0 : Nat} {bf : ab_B} : decode (ab_code (zx σ n0 bf).1 4053) 4 = .ok (.getfield 469, 3) := zd zm_4053 (by decide +kernel)
theorem d_4053_7 {σ : Nat → Nat} {n0 : Nat} {bf : ab_B} : decode (ab_code (zx σ n0 bf).1 4053) 7 = .ok (.aload_n 0, 1) := zd zm_4053 (by decide +kernel)
theorem d_4053_8 {σ : Nat → Nat} {n0 : Nat} {bf : ab_B} : decode (ab_code (zx σ n0 bf).1 4053) 8 = .ok (.getfield 147, 3) := zd zm_4053 (by decide +kernel)
theorem d_4053_11 {σ : Nat → Nat} {n0 : Nat} {bf : ab_B} : decode (ab_code (zx σ n0 bf).1 4053) 11 = .ok (.invokevirtual 572, 3) := zd zm_4053 (by decide +kernel)
theorem d_4053_14 {σ : Nat → Nat} {n0 : Nat} {bf : ab_B} : decode (ab_code (zx σ n0 bf).1 4053) 14 = .ok (.astore_n 2, 1) := zd zm_4053 (by decide +kernel)
theorem d_4053_15 {σ : Nat → Nat} {n0 : Nat} {bf : ab_B} : decode (ab_code (zx σ n0 bf).1 4053) 15 = .ok (.aload_n 2, 1) := zd zm_4053 (by decide +kernel)
theorem d_4053_16 {σ : Nat → Nat} {n0 : Nat} {bf : ab_B} : decode (ab_code (zx σ n0 bf).1 4053) 16 = .ok (.bipush 43, 2) := zd zm_4053 (by decide +kernel)
theorem d_4053_18 {σ : Nat → Nat} {n0 : Nat} {bf : ab_B} : decode (ab_code (zx σ n0 bf).1 4053) 18 = .ok (.putfield 542, 3) := zd zm_4053 (by decide +kernel)
theorem d_4053_21 {σ : Nat → Nat} {n0 : Nat} {bf : ab_B} : decode (ab_code (zx σ n0 bf).1 4053) 21 = .ok (.aload_n 2, 1) := zd zm_4053 (by decide +kernel)
theorem d_4053_22 {σ : Nat → Nat} {n0 : Nat} {bf : ab_B} : decode (ab_code (zx σ n0 bf).1 4053) 22 = .ok (.aload_n 1, 1) := zd zm_4053 (by decide +kernel)
theorem d_4053_23 {σ : Nat → Nat} {n0 : Nat} {bf : ab_B} : decode (ab_code (zx σ n0 bf).1 4053) 23 = .ok (.putfield 539, 3) := zd zm_4053 (by decide +kernel)
theorem d_4053_26 {σ : Nat → Nat} {n0 : Nat} {bf : ab_B} : decode (ab_code (zx σ n0 bf).1 4053) 26 = .ok (.aload_n 2, 1) := zd zm_4053 (by decide +kernel)
theorem d_4053_27 {σ : Nat → Nat} {n0 : Nat} {bf : ab_B} : decode (ab_code (zx σ n0 bf).1 4053) 27 = .ok (.areturn, 1) := zd zm_4053 (by decide +kernel)
def w_X5_plain (X : zs_X) (d : Nat) (p0 : Nat) (p1 : Option Nat) (S : zs_T) (Q : zs_Q) : Prop :=
  (∃ b1, p1 = some b1 ∧ zs_K S b1 = some (.inl 11) ∧ zs_K S p0 = some (.inl 4) ∧ zs_C X d 4016 [.ref p0, .int (7 : Int32), .int (zs_I S 11001 b1), va_rf (zs_R S 4002 p0)] S (zs_kR (fun v6 S5 => (∃ b7, v6 = some b7 ∧ zs_K S5 b7 = some (.inl 11) ∧ ab_n0 X.1 ≤ b7 ∧ ∀ S11, S11 = zs_sI S5 11003 b7 (43 : Int32) → ∀ S14, S14 = zs_sR S11 11005 b7 p1 → Q (.returned (some (va_rf v6))) S14)) Q))
theorem u_X5_plain {σ : Nat → Nat} {n0 : Nat} {bf : ab_B} {d : Nat} {p0 : Nat} {p1 : Option Nat} {S : zs_T} {Q : zs_Q} (hB : zt_B bf) (hd : 1 ≤ d) (h : w_X5_plain (zx σ n0 bf) (d - 1) p0 p1 S Q) : zs_C (zx σ n0 bf) d 4053 [.ref p0, va_rf p1] S Q := by
  have hL : lv_args 0 [.ref p0, va_rf p1] = [(0, .ref p0), (1, va_rf p1)] := by simp [lv_args, zs_cat, zs_cI, zs_cJ, zs_cA]
  refine zs_C.of1 (hB.2 4053 (by decide) (by decide)) hd (by rw [hL]; exact zs_sub_self _ (by exact ⟨rfl, rfl, trivial⟩)) ?_
  rw [hL]
  clear hL
  unfold w_X5_plain at h
  refine zu_aload_n d_4053_0 rfl (zs_ra _) ?_
  refine zu_bipush d_4053_1 zj_7 ?_
  refine zu_aload_n d_4053_3 rfl (zs_rr _) ?_
  obtain ⟨b1, e2, h⟩ := h
  refine zs_stk0 (zs_rfe e2) ?_
  obtain ⟨k3, h⟩ := h
  refine zg_4_469 rfl d_4053_4 k3 ?_
  refine zu_aload_n d_4053_7 rfl (zs_ra _) ?_
  obtain ⟨k4, h⟩ := h
  refine zg_4_147 rfl d_4053_8 k4 ?_
  refine zc_4_572 (x0 := (7 : Int32)) (x1 := (zs_I S 11001 b1)) (x2 := (zs_R S 4002 p0)) hB rfl k4 d_4053_11 (Nat.le_of_ble_eq_true rfl) h (fun v6 S5 h => ?_)
  refine zu_astore_n d_4053_14 (zs_rr _) (zs_lt zq_4053 rfl) ?_
  refine zs_U.weak (L1 := [(2, va_rf v6), (0, .ref p0), (1, va_rf p1)]) ?_ ⟨rfl, zs_gp1 rfl (Or.inl rfl) rfl, zs_gp1 rfl (Or.inl (zs_cat _)) rfl, trivial⟩
  refine zu_aload_n d_4053_15 rfl (zs_rr _) ?_
  refine zu_bipush d_4053_16 zj_43 ?_
  obtain ⟨b7, e8, h⟩ := h
  refine zs_stk1 (zs_rfe e8) ?_
  obtain ⟨k9, h⟩ := h
  obtain ⟨k10, h⟩ := h
  refine zp_4_542 (v := (43 : Int32)) rfl d_4053_18 k9 k10 ?_
  generalize e12 : zs_sI S5 11003 b7 (43 : Int32) = S11
  have h := h S11 e12.symm
  have K13 : ∀ b, zs_K S11 b = zs_K S5 b := zs_Kt e12 (zs_KsI _ _ _ _) (fun _ => rfl)
  refine zu_aload_n d_4053_21 rfl (zs_rr _) ?_
  refine zu_aload_n d_4053_22 rfl (zs_rr _) ?_
  refine zs_stk1 (zs_rfe e8) ?_
  refine zp_4_539 (v := p1) rfl d_4053_23 ((K13 _).trans k9) k10 ?_
  generalize e15 : zs_sR S11 11005 b7 p1 = S14
  have h := h S14 e15.symm
  have K16 : ∀ b, zs_K S14 b = zs_K S5 b := zs_Kt e15 (zs_KsR _ _ _ _) K13
  refine zu_aload_n d_4053_26 rfl (zs_rr _) ?_
  exact zu_aret d_4053_27 zr_4053 (zs_rr _) h
/-! SchemaPascal$Reader.added(ILSchemaPascal$Node;LSchemaPascal$Node;)LSchemaPascal$Type; -/
theorem zm_4054 {σ : Nat → Nat} {n0 : Nat} {bf : ab_B} : ab_code (zx σ n0 bf).1 4054 = prog_9_method_63_code := rfl
theorem zq_4054 {σ : Nat → Nat} {n0 : Nat} {bf : ab_B} : ab_maxL (zx σ n0 bf).1 4054 = 4 := rfl
theorem zr_4054 {σ : Nat → Nat} {n0 : Nat} {bf : ab_B} : ab_ret (zx σ n0 bf).1 4054 = (Option.some (Jvm.ClassFile.FieldType.object "SchemaPascal$Type")) := rfl
theorem d_4054_0 {σ : Nat → Nat} {n0 : Nat} {bf : ab_B} : decode (ab_code (zx σ n0 bf).1 4054) 0 = .ok (.aload_n 2, 1) := zd zm_4054 (by decide +kernel)
theorem d_4054_1 {σ : Nat → Nat} {n0 : Nat} {bf : ab_B} : decode (ab_code (zx σ n0 bf).1 4054) 1 = .ok (.getfield 297, 3) := zd zm_4054 (by decide +kernel)
theorem d_4054_4 {σ : Nat → Nat} {n0 : Nat} {bf : ab_B} : decode (ab_code (zx σ n0 bf).1 4054) 4 = .ok (.invokevirtual 450, 3) := zd zm_4054 (by decide +kernel)
theorem d_4054_7 {σ : Nat → Nat} {n0 : Nat} {bf : ab_B} : decode (ab_code (zx σ n0 bf).1 4054) 7 = .ok (.aload_n 0, 1) := zd zm_4054 (by decide +kernel)
theorem d_4054_8 {σ : Nat → Nat} {n0 : Nat} {bf : ab_B} : decode (ab_code (zx σ n0 bf).1 4054) 8 = .ok (.getfield 147, 3) := zd zm_4054 (by decide +kernel)
theorem d_4054_11 {σ : Nat → Nat} {n0 : Nat} {bf : ab_B} : decode (ab_code (zx σ n0 bf).1 4054) 11 = .ok (.if_acmp .ne 22, 3) := zd zm_4054 (by decide +kernel)
theorem d_4054_14 {σ : Nat → Nat} {n0 : Nat} {bf : ab_B} : decode (ab_code (zx σ n0 bf).1 4054) 14 = .ok (.aload_n 3, 1) := zd zm_4054 (by decide +kernel)
theorem d_4054_15 {σ : Nat → Nat} {n0 : Nat} {bf : ab_B} : decode (ab_code (zx σ n0 bf).1 4054) 15 = .ok (.getfield 297, 3) := zd zm_4054 (by decide +kernel)
theorem d_4054_18 {σ : Nat → Nat} {n0 : Nat} {bf : ab_B} : decode (ab_code (zx σ n0 bf).1 4054) 18 = .ok (.invokevirtual 450, 3) := zd zm_4054 (by decide +kernel)
theorem d_4054_21 {σ : Nat → Nat} {n0 : Nat} {bf : ab_B} : decode (ab_code (zx σ n0 bf).1 4054) 21 = .ok (.aload_n 0, 1) := zd zm_4054 (by decide +kernel)
theorem d_4054_22 {σ : Nat → Nat} {n0 : Nat} {bf : ab_B} : decode (ab_code (zx σ n0 bf).1 4054) 22 = .ok (.getfield 147, 3) := zd zm_4054 (by decide +kernel)
theorem d_4054_25 {σ : Nat → Nat} {n0 : Nat} {bf : ab_B} : decode (ab_code (zx σ n0 bf).1 4054) 25 = .ok (.if_acmp .ne 8, 3) := zd zm_4054 (by decide +kernel)
theorem d_4054_28 {σ : Nat → Nat} {n0 : Nat} {bf : ab_B} : decode (ab_code (zx σ n0 bf).1 4054) 28 = .ok (.aload_n 0, 1) := zd zm_4054 (by decide +kernel)
theorem d_4054_29 {σ : Nat → Nat} {n0 : Nat} {bf : ab_B} : decode (ab_code (zx σ n0 bf).1 4054) 29 = .ok (.getfield 147, 3) := zd zm_4054 (by decide +kernel)
theorem d_4054_32 {σ : Nat → Nat} {n0 : Nat} {bf : ab_B} : decode (ab_code (zx σ n0 bf).1 4054) 32 = .ok (.areturn, 1) := zd zm_4054 (by decide +kernel)
theorem d_4054_33 {σ : Nat → Nat} {n0 : Nat} {bf : ab_B} : decode (ab_code (zx σ n0 bf).1 4054) 33 = .ok (.aload_n 2, 1) := zd zm_4054 (by decide +kernel)
theorem d_4054_34 {σ : Nat → Nat} {n0 : Nat} {bf : ab_B} : decode (ab_code (zx σ n0 bf).1 4054) 34 = .ok (.getfield 297, 3) := zd zm_4054 (by decide +kernel)
theorem d_4054_37 {σ : Nat → Nat} {n0 : Nat} {bf : ab_B} : decode (ab_code (zx σ n0 bf).1 4054) 37 = .ok (.aload_n 3, 1) := zd zm_4054 (by decide +kernel)
theorem d_4054_38 {σ : Nat → Nat} {n0 : Nat} {bf : ab_B} : decode (ab_code (zx σ n0 bf).1 4054) 38 = .ok (.getfield 297, 3) := zd zm_4054 (by decide +kernel)
theorem d_4054_41 {σ : Nat → Nat} {n0 : Nat} {bf : ab_B} : decode (ab_code (zx σ n0 bf).1 4054) 41 = .ok (.invokestatic 590, 3) := zd zm_4054 (by decide +kernel)
theorem d_4054_44 {σ : Nat → Nat} {n0 : Nat} {bf : ab_B} : decode (ab_code (zx σ n0 bf).1 4054) 44 = .ok (.ifCond .eq 26, 3) := zd zm_4054 (by decide +kernel)
theorem d_4054_47 {σ : Nat → Nat} {n0 : Nat} {bf : ab_B} : decode (ab_code (zx σ n0 bf).1 4054) 47 = .ok (.aload_n 2, 1) := zd zm_4054 (by decide +kernel)
theorem d_4054_48 {σ : Nat → Nat} {n0 : Nat} {bf : ab_B} : decode (ab_code (zx σ n0 bf).1 4054) 48 = .ok (.getfield 297, 3) := zd zm_4054 (by decide +kernel)
theorem d_4054_51 {σ : Nat → Nat} {n0 : Nat} {bf : ab_B} : decode (ab_code (zx σ n0 bf).1 4054) 51 = .ok (.getfield 369, 3) := zd zm_4054 (by decide +kernel)
theorem d_4054_54 {σ : Nat → Nat} {n0 : Nat} {bf : ab_B} : decode (ab_code (zx σ n0 bf).1 4054) 54 = .ok (.iconst 5, 1) := zd zm_4054 (by decide +kernel)
theorem d_4054_55 {σ : Nat → Nat} {n0 : Nat} {bf : ab_B} : decode (ab_code (zx σ n0 bf).1 4054) 55 = .ok (.if_icmp .ne 10, 3) := zd zm_4054 (by decide +kernel)
theorem d_4054_58 {σ : Nat → Nat} {n0 : Nat} {bf : ab_B} : decode (ab_code (zx σ n0 bf).1 4054) 58 = .ok (.aload_n 2, 1) := zd zm_4054 (by decide +kernel)
theorem d_4054_59 {σ : Nat → Nat} {n0 : Nat} {bf : ab_B} : decode (ab_code (zx σ n0 bf).1 4054) 59 = .ok (.getfield 297, 3) := zd zm_4054 (by decide +kernel)
theorem d_4054_62 {σ : Nat → Nat} {n0 : Nat} {bf : ab_B} : decode (ab_code (zx σ n0 bf).1 4054) 62 = .ok (.goto 7, 3) := zd zm_4054 (by decide +kernel)
theorem d_4054_65 {σ : Nat → Nat} {n0 : Nat} {bf : ab_B} : decode (ab_code (zx σ n0 bf).1 4054) 65 = .ok (.aload_n 3, 1) := zd zm_4054 (by decide +kernel)
theorem d_4054_66 {σ : Nat → Nat} {n0 : Nat} {bf : ab_B} : decode (ab_code (zx σ n0 bf).1 4054) 66 = .ok (.getfield 297, 3) := zd zm_4054 (by decide +kernel)
theorem d_4054_69 {σ : Nat → Nat} {n0 : Nat} {bf : ab_B} : decode (ab_code (zx σ n0 bf).1 4054) 69 = .ok (.areturn, 1) := zd zm_4054 (by decide +kernel)
theorem d_4054_70 {σ : Nat → Nat} {n0 : Nat} {bf : ab_B} : decode (ab_code (zx σ n0 bf).1 4054) 70 = .ok (.iload_n 1, 1) := zd zm_4054 (by decide +kernel)
theorem d_4054_71 {σ : Nat → Nat} {n0 : Nat} {bf : ab_B} : decode (ab_code (zx σ n0 bf).1 4054) 71 = .ok (.bipush 43, 2) := zd zm_4054 (by decide +kernel)
theorem d_4054_73 {σ : Nat → Nat} {n0 : Nat} {bf : ab_B} : decode (ab_code (zx σ n0 bf).1 4054) 73 = .ok (.if_icmp .ne 28, 3) := zd zm_4054 (by decide +kernel)
theorem d_4054_76 {σ : Nat → Nat} {n0 : Nat} {bf : ab_B} : decode (ab_code (zx σ n0 bf).1 4054) 76 = .ok (.aload_n 2, 1) := zd zm_4054 (by decide +kernel)
theorem d_4054_77 {σ : Nat → Nat} {n0 : Nat} {bf : ab_B} : decode (ab_code (zx σ n0 bf).1 4054) 77 = .ok (.getfield 297, 3) := zd zm_4054 (by decide +kernel)
theorem d_4054_80 {σ : Nat → Nat} {n0 : Nat} {bf : ab_B} : decode (ab_code (zx σ n0 bf).1 4054) 80 = .ok (.invokestatic 587, 3) := zd zm_4054 (by decide +kernel)
theorem d_4054_83 {σ : Nat → Nat} {n0 : Nat} {bf : ab_B} : decode (ab_code (zx σ n0 bf).1 4054) 83 = .ok (.ifCond .eq 18, 3) := zd zm_4054 (by decide +kernel)
theorem d_4054_86 {σ : Nat → Nat} {n0 : Nat} {bf : ab_B} : decode (ab_code (zx σ n0 bf).1 4054) 86 = .ok (.aload_n 3, 1) := zd zm_4054 (by decide +kernel)
theorem d_4054_87 {σ : Nat → Nat} {n0 : Nat} {bf : ab_B} : decode (ab_code (zx σ n0 bf).1 4054) 87 = .ok (.getfield 297, 3) := zd zm_4054 (by decide +kernel)
theorem d_4054_90 {σ : Nat → Nat} {n0 : Nat} {bf : ab_B} : decode (ab_code (zx σ n0 bf).1 4054) 90 = .ok (.invokestatic 587, 3) := zd zm_4054 (by decide +kernel)
theorem d_4054_93 {σ : Nat → Nat} {n0 : Nat} {bf : ab_B} : decode (ab_code (zx σ n0 bf).1 4054) 93 = .ok (.ifCond .eq 8, 3) := zd zm_4054 (by decide +kernel)
theorem d_4054_96 {σ : Nat → Nat} {n0 : Nat} {bf : ab_B} : decode (ab_code (zx σ n0 bf).1 4054) 96 = .ok (.aload_n 0, 1) := zd zm_4054 (by decide +kernel)
theorem d_4054_97 {σ : Nat → Nat} {n0 : Nat} {bf : ab_B} : decode (ab_code (zx σ n0 bf).1 4054) 97 = .ok (.getfield 156, 3) := zd zm_4054 (by decide +kernel)
theorem d_4054_100 {σ : Nat → Nat} {n0 : Nat} {bf : ab_B} : decode (ab_code (zx σ n0 bf).1 4054) 100 = .ok (.areturn, 1) := zd zm_4054 (by decide +kernel)
theorem d_4054_101 {σ : Nat → Nat} {n0 : Nat} {bf : ab_B} : decode (ab_code (zx σ n0 bf).1 4054) 101 = .ok (.aload_n 0, 1) := zd zm_4054 (by decide +kernel)
theorem d_4054_102 {σ : Nat → Nat} {n0 : Nat} {bf : ab_B} : decode (ab_code (zx σ n0 bf).1 4054) 102 = .ok (.iconst 5, 1) := zd zm_4054 (by decide +kernel)
theorem d_4054_103 {σ : Nat → Nat} {n0 : Nat} {bf : ab_B} : decode (ab_code (zx σ n0 bf).1 4054) 103 = .ok (.invokevirtual 25, 3) := zd zm_4054 (by decide +kernel)
theorem d_4054_106 {σ : Nat → Nat} {n0 : Nat} {bf : ab_B} : decode (ab_code (zx σ n0 bf).1 4054) 106 = .ok (.athrow, 1) := zd zm_4054 (by decide +kernel)
def w_X5_added_101 (X : zs_X) (d : Nat) (p0 : Nat) (S : zs_T) (Q : zs_Q) : Prop :=
  (zs_K S p0 = some (.inl 4) ∧ zs_C X d 4006 [.ref p0, .int (5 : Int32)] S (zs_kR (fun v3 S2 => (∃ b4, v3 = some b4 ∧ Q (.threw b4) S2)) Q))
theorem u_X5_added_101 {σ : Nat → Nat} {n0 : Nat} {bf : ab_B} {d : Nat} {p0 : Nat} {S : zs_T} {Q : zs_Q} (hB : zt_B bf) (h : w_X5_added_101 (zx σ n0 bf) d p0 S Q) : zs_U (zx σ n0 bf) d 4054 101 [(0, .ref p0)] [] S Q := by
  unfold w_X5_added_101 at h
  refine zu_aload_n d_4054_101 rfl (zs_ra _) ?_
  refine zu_iconst d_4054_102 zi_5 ?_
  obtain ⟨k1, h⟩ := h
  refine zc_4_25 (x0 := (5 : Int32)) hB rfl k1 d_4054_103 (Nat.le_of_ble_eq_true rfl) h (fun v3 S2 h => ?_)
  obtain ⟨b4, e5, h⟩ := h
  refine zs_stk0 (zs_rfe e5) ?_
  exact zu_throw d_4054_106 h
def w_X5_added_96 (X : zs_X) (d : Nat) (p0 : Nat) (S : zs_T) (Q : zs_Q) : Prop :=
  (zs_K S p0 = some (.inl 4) ∧ Q (.returned (some (va_rf (zs_R S 4005 p0)))) S)
theorem u_X5_added_96 {σ : Nat → Nat} {n0 : Nat} {bf : ab_B} {d : Nat} {p0 : Nat} {S : zs_T} {Q : zs_Q} (hB : zt_B bf) (h : w_X5_added_96 (zx σ n0 bf) d p0 S Q) : zs_U (zx σ n0 bf) d 4054 96 [(0, .ref p0)] [] S Q := by
  unfold w_X5_added_96 at h
  refine zu_aload_n d_4054_96 rfl (zs_ra _) ?_
  obtain ⟨k1, h⟩ := h
  refine zg_4_156 rfl d_4054_97 k1 ?_
  exact zu_aret d_4054_100 zr_4054 (zs_rr _) h
def w_X5_added_33 (X : zs_X) (d : Nat) (p0 : Nat) (p1 : Int32) (p2 : Option Nat) (p3 : Option Nat) (S : zs_T) (Q : zs_Q) : Prop :=
  (∃ b1, p2 = some b1 ∧ zs_K S b1 = some (.inl 11) ∧ ∃ b4, p3 = some b4 ∧ zs_K S b4 = some (.inl 11) ∧ zs_C X d 4034 [va_rf (zs_R S 11002 b1), va_rf (zs_R S 11002 b4)] S (zs_kI (fun v8 S7 => (((v8 = 0 → (((¬ p1 = (43 : Int32) → w_X5_added_101 X d p0 S7 Q) ∧ (¬ (¬ p1 = (43 : Int32)) → (zs_K S7 b1 = some (.inl 11) ∧ zs_C X d 4036 [va_rf (zs_R S7 11002 b1)] S7 (zs_kI (fun v13 S12 => (((v13 = 0 → w_X5_added_101 X d p0 S12 Q) ∧ (¬ (v13 = 0) → (zs_K S12 b4 = some (.inl 11) ∧ zs_C X d 4036 [va_rf (zs_R S12 11002 b4)] S12 (zs_kI (fun v17 S16 => (((v17 = 0 → w_X5_added_101 X d p0 S16 Q) ∧ (¬ (v17 = 0) → w_X5_added_96 X d p0 S16 Q)))) Q)))))) Q)))))) ∧ (¬ (v8 = 0) → (zs_K S7 b1 = some (.inl 11) ∧ ∃ b20, (zs_R S7 11002 b1) = some b20 ∧ zs_K S7 b20 = some (.inl 6) ∧ ((¬ (zs_I S7 6000 b20) = (5 : Int32) → (zs_K S7 b4 = some (.inl 11) ∧ Q (.returned (some (va_rf (zs_R S7 11002 b4)))) S7)) ∧ (¬ (¬ (zs_I S7 6000 b20) = (5 : Int32)) → (Q (.returned (some (va_rf (zs_R S7 11002 b1)))) S7)))))))) Q))
theorem u_X5_added_33 {σ : Nat → Nat} {n0 : Nat} {bf : ab_B} {d : Nat} {p0 : Nat} {p1 : Int32} {p2 : Option Nat} {p3 : Option Nat} {S : zs_T} {Q : zs_Q} (hB : zt_B bf) (h : w_X5_added_33 (zx σ n0 bf) d p0 p1 p2 p3 S Q) : zs_U (zx σ n0 bf) d 4054 33 [(0, .ref p0), (1, .int p1), (2, va_rf p2), (3, va_rf p3)] [] S Q := by
  unfold w_X5_added_33 at h
  refine zu_aload_n d_4054_33 rfl (zs_rr _) ?_
  obtain ⟨b1, e2, h⟩ := h
  refine zs_stk0 (zs_rfe e2) ?_
  obtain ⟨k3, h⟩ := h
  refine zg_4_297 rfl d_4054_34 k3 ?_
  refine zu_aload_n d_4054_37 rfl (zs_rr _) ?_
  obtain ⟨b4, e5, h⟩ := h
  refine zs_stk0 (zs_rfe e5) ?_
  obtain ⟨k6, h⟩ := h
  refine zg_4_297 rfl d_4054_38 k6 ?_
  refine zc_4_590 (x0 := (zs_R S 11002 b1)) (x1 := (zs_R S 11002 b4)) hB rfl d_4054_41 (Nat.le_of_ble_eq_true rfl) h (fun v8 S7 h => ?_)
  refine zu_ifeq (t := 70) d_4054_44 rfl (fun c9 => ?_) (fun c9 => ?_)
  · have h := h.1 c9
    refine zu_iload_n d_4054_70 rfl ?_
    refine zu_bipush d_4054_71 zj_43 ?_
    refine zu_cmpne (t := 101) d_4054_73 rfl (fun c10 => ?_) (fun c10 => ?_)
    · have h := h.1 c10
      exact (u_X5_added_101 hB h).weak ⟨rfl, trivial⟩
    · have h := h.2 c10
      refine zu_aload_n d_4054_76 rfl (zs_rr _) ?_
      refine zs_stk0 (zs_rfe e2) ?_
      obtain ⟨k11, h⟩ := h
      refine zg_4_297 rfl d_4054_77 k11 ?_
      refine zc_4_587 (x0 := (zs_R S7 11002 b1)) hB rfl d_4054_80 (Nat.le_of_ble_eq_true rfl) h (fun v13 S12 h => ?_)
      refine zu_ifeq (t := 101) d_4054_83 rfl (fun c14 => ?_) (fun c14 => ?_)
      · have h := h.1 c14
        exact (u_X5_added_101 hB h).weak ⟨rfl, trivial⟩
      · have h := h.2 c14
        refine zu_aload_n d_4054_86 rfl (zs_rr _) ?_
        refine zs_stk0 (zs_rfe e5) ?_
        obtain ⟨k15, h⟩ := h
        refine zg_4_297 rfl d_4054_87 k15 ?_
        refine zc_4_587 (x0 := (zs_R S12 11002 b4)) hB rfl d_4054_90 (Nat.le_of_ble_eq_true rfl) h (fun v17 S16 h => ?_)
        refine zu_ifeq (t := 101) d_4054_93 rfl (fun c18 => ?_) (fun c18 => ?_)
        · have h := h.1 c18
          exact (u_X5_added_101 hB h).weak ⟨rfl, trivial⟩
        · have h := h.2 c18
          exact (u_X5_added_96 hB h).weak ⟨rfl, trivial⟩
  · have h := h.2 c9
    refine zu_aload_n d_4054_47 rfl (zs_rr _) ?_
    refine zs_stk0 (zs_rfe e2) ?_
    obtain ⟨k19, h⟩ := h
    refine zg_4_297 rfl d_4054_48 k19 ?_
    obtain ⟨b20, e21, h⟩ := h
    refine zs_stk0 (zs_rfe e21) ?_
    obtain ⟨k22, h⟩ := h
    refine zg_4_369 rfl d_4054_51 k22 ?_
    refine zu_iconst d_4054_54 zi_5 ?_
    refine zu_cmpne (t := 65) d_4054_55 rfl (fun c23 => ?_) (fun c23 => ?_)
    · have h := h.1 c23
      refine zu_aload_n d_4054_65 rfl (zs_rr _) ?_
      refine zs_stk0 (zs_rfe e5) ?_
      obtain ⟨k24, h⟩ := h
      refine zg_4_297 rfl d_4054_66 k24 ?_
      exact zu_aret d_4054_69 zr_4054 (zs_rr _) h
    · have h := h.2 c23
      refine zu_aload_n d_4054_58 rfl (zs_rr _) ?_
      refine zs_stk0 (zs_rfe e2) ?_
      refine zg_4_297 rfl d_4054_59 k19 ?_
      refine zu_goto (t := 69) d_4054_62 rfl ?_
      exact zu_aret d_4054_69 zr_4054 (zs_rr _) h
def w_X5_added (X : zs_X) (d : Nat) (p0 : Nat) (p1 : Int32) (p2 : Option Nat) (p3 : Option Nat) (S : zs_T) (Q : zs_Q) : Prop :=
  (∃ b1, p2 = some b1 ∧ zs_K S b1 = some (.inl 11) ∧ ∃ b4, (zs_R S 11002 b1) = some b4 ∧ zs_K S b4 = some (.inl 6) ∧ zs_C X d 6001 [.ref b4] S (zs_kR (fun v8 S7 => (zs_K S7 p0 = some (.inl 4) ∧ ((¬ v8 = (zs_R S7 4002 p0) → w_X5_added_33 X d p0 p1 p2 p3 S7 Q) ∧ (¬ (¬ v8 = (zs_R S7 4002 p0)) → (∃ b11, p3 = some b11 ∧ zs_K S7 b11 = some (.inl 11) ∧ ∃ b14, (zs_R S7 11002 b11) = some b14 ∧ zs_K S7 b14 = some (.inl 6) ∧ zs_C X d 6001 [.ref b14] S7 (zs_kR (fun v18 S17 => (zs_K S17 p0 = some (.inl 4) ∧ ((¬ v18 = (zs_R S17 4002 p0) → w_X5_added_33 X d p0 p1 p2 p3 S17 Q) ∧ (¬ (¬ v18 = (zs_R S17 4002 p0)) → (Q (.returned (some (va_rf (zs_R S17 4002 p0)))) S17))))) Q)))))) Q))
theorem u_X5_added {σ : Nat → Nat} {n0 : Nat} {bf : ab_B} {d : Nat} {p0 : Nat} {p1 : Int32} {p2 : Option Nat} {p3 : Option Nat} {S : zs_T} {Q : zs_Q} (hB : zt_B bf) (hd : 1 ≤ d) (h : w_X5_added (zx σ n0 bf) (d - 1) p0 p1 p2 p3 S Q) : zs_C (zx σ n0 bf) d 4054 [.ref p0, .int p1, va_rf p2, va_rf p3] S Q := by
  have hL : lv_args 0 [.ref p0, .int p1, va_rf p2, va_rf p3] = [(0, .ref p0), (1, .int p1), (2, va_rf p2), (3, va_rf p3)] := by simp [lv_args, zs_cat, zs_cI, zs_cJ, zs_cA]
  refine zs_C.of1 (hB.2 4054 (by decide) (by decide)) hd (by rw [hL]; exact zs_sub_self _ (by exact ⟨rfl, rfl, rfl, rfl, trivial⟩)) ?_
  rw [hL]
  clear hL
  unfold w_X5_added at h
  refine zu_aload_n d_4054_0 rfl (zs_rr _) ?_
  obtain ⟨b1, e2, h⟩ := h
  refine zs_stk0 (zs_rfe e2) ?_
  obtain ⟨k3, h⟩ := h
  refine zg_4_297 rfl d_4054_1 k3 ?_
  obtain ⟨b4, e5, h⟩ := h
  refine zs_stk0 (zs_rfe e5) ?_
  obtain ⟨k6, h⟩ := h
  refine zc_4_450  hB rfl k6 d_4054_4 (Nat.le_of_ble_eq_true rfl) h (fun v8 S7 h => ?_)
  refine zu_aload_n d_4054_7 rfl (zs_ra _) ?_
  obtain ⟨k9, h⟩ := h
  refine zg_4_147 rfl d_4054_8 k9 ?_
  refine zu_acmpne (u := v8) (w := (zs_R S7 4002 p0)) (t := 33) d_4054_11 rfl rfl rfl (fun c10 => ?_) (fun c10 => ?_)
  · have h := h.1 c10
    exact (u_X5_added_33 hB h).weak ⟨rfl, rfl, rfl, rfl, trivial⟩
  · have h := h.2 c10
    refine zu_aload_n d_4054_14 rfl (zs_rr _) ?_
    obtain ⟨b11, e12, h⟩ := h
    refine zs_stk0 (zs_rfe e12) ?_
    obtain ⟨k13, h⟩ := h
    refine zg_4_297 rfl d_4054_15 k13 ?_
    obtain ⟨b14, e15, h⟩ := h
    refine zs_stk0 (zs_rfe e15) ?_
    obtain ⟨k16, h⟩ := h
    refine zc_4_450  hB rfl k16 d_4054_18 (Nat.le_of_ble_eq_true rfl) h (fun v18 S17 h => ?_)
    refine zu_aload_n d_4054_21 rfl (zs_ra _) ?_
    obtain ⟨k19, h⟩ := h
    refine zg_4_147 rfl d_4054_22 k19 ?_
    refine zu_acmpne (u := v18) (w := (zs_R S17 4002 p0)) (t := 33) d_4054_25 rfl rfl rfl (fun c20 => ?_) (fun c20 => ?_)
    · have h := h.1 c20
      exact (u_X5_added_33 hB h).weak ⟨rfl, rfl, rfl, rfl, trivial⟩
    · have h := h.2 c20
      refine zu_aload_n d_4054_28 rfl (zs_ra _) ?_
      refine zg_4_147 rfl d_4054_29 k19 ?_
      exact zu_aret d_4054_32 zr_4054 (zs_rr _) h
/-! SchemaPascal$Reader.goesIn(LSchemaPascal$Type;LSchemaPascal$Type;)Z -/
theorem zm_4055 {σ : Nat → Nat} {n0 : Nat} {bf : ab_B} : ab_code (zx σ n0 bf).1 4055 = prog_9_method_57_code := rfl
theorem zq_4055 {σ : Nat → Nat} {n0 : Nat} {bf : ab_B} : ab_maxL (zx σ n0 bf).1 4055 = 2 := rfl
theorem zr_4055 {σ : Nat → Nat} {n0 : Nat} {bf : ab_B} : ab_ret (zx σ n0 bf).1 4055 = (Option.some Jvm.ClassFile.FieldType.boolean) := rfl
theorem d_4055_0 {σ : Nat → Nat} {n0 : Nat} {bf : ab_B} : decode (ab_code (zx σ n0 bf).1 4055) 0 = .ok (.aload_n 0, 1) := zd zm_4055 (by decide +kernel)
theorem d_4055_1 {σ : Nat → Nat} {n0 : Nat} {bf : ab_B} : decode (ab_code (zx σ n0 bf).1 4055) 1 = .ok (.invokevirtual 335, 3) := zd zm_4055 (by decide +kernel)
theorem d_4055_4 {σ : Nat → Nat} {n0 : Nat} {bf : ab_B} : decode (ab_code (zx σ n0 bf).1 4055) 4 = .ok (.ifCond .eq 38, 3) := zd zm_4055 (by decide +kernel)
theorem d_4055_7 {σ : Nat → Nat} {n0 : Nat} {bf : ab_B} : decode (ab_code (zx σ n0 bf).1 4055) 7 = .ok (.aload_n 1, 1) := zd zm_4055 (by decide +kernel)
theorem d_4055_8 {σ : Nat → Nat} {n0 : Nat} {bf : ab_B} : decode (ab_code (zx σ n0 bf).1 4055) 8 = .ok (.getfield 369, 3) := zd zm_4055 (by decide +kernel)
theorem d_4055_11 {σ : Nat → Nat} {n0 : Nat} {bf : ab_B} : decode (ab_code (zx σ n0 bf).1 4055) 11 = .ok (.bipush 13, 2) := zd zm_4055 (by decide +kernel)
theorem d_4055_13 {σ : Nat → Nat} {n0 : Nat} {bf : ab_B} : decode (ab_code (zx σ n0 bf).1 4055) 13 = .ok (.if_icmp .eq 25, 3) := zd zm_4055 (by decide +kernel)
theorem d_4055_16 {σ : Nat → Nat} {n0 : Nat} {bf : ab_B} : decode (ab_code (zx σ n0 bf).1 4055) 16 = .ok (.aload_n 1, 1) := zd zm_4055 (by decide +kernel)
theorem d_4055_17 {σ : Nat → Nat} {n0 : Nat} {bf : ab_B} : decode (ab_code (zx σ n0 bf).1 4055) 17 = .ok (.getfield 369, 3) := zd zm_4055 (by decide +kernel)
theorem d_4055_20 {σ : Nat → Nat} {n0 : Nat} {bf : ab_B} : decode (ab_code (zx σ n0 bf).1 4055) 20 = .ok (.iconst 5, 1) := zd zm_4055 (by decide +kernel)
theorem d_4055_21 {σ : Nat → Nat} {n0 : Nat} {bf : ab_B} : decode (ab_code (zx σ n0 bf).1 4055) 21 = .ok (.if_icmp .ne 21, 3) := zd zm_4055 (by decide +kernel)
theorem d_4055_24 {σ : Nat → Nat} {n0 : Nat} {bf : ab_B} : decode (ab_code (zx σ n0 bf).1 4055) 24 = .ok (.aload_n 1, 1) := zd zm_4055 (by decide +kernel)
theorem d_4055_25 {σ : Nat → Nat} {n0 : Nat} {bf : ab_B} : decode (ab_code (zx σ n0 bf).1 4055) 25 = .ok (.getfield 320, 3) := zd zm_4055 (by decide +kernel)
theorem d_4055_28 {σ : Nat → Nat} {n0 : Nat} {bf : ab_B} : decode (ab_code (zx σ n0 bf).1 4055) 28 = .ok (.invokevirtual 450, 3) := zd zm_4055 (by decide +kernel)
theorem d_4055_31 {σ : Nat → Nat} {n0 : Nat} {bf : ab_B} : decode (ab_code (zx σ n0 bf).1 4055) 31 = .ok (.aload_n 0, 1) := zd zm_4055 (by decide +kernel)
theorem d_4055_32 {σ : Nat → Nat} {n0 : Nat} {bf : ab_B} : decode (ab_code (zx σ n0 bf).1 4055) 32 = .ok (.invokevirtual 450, 3) := zd zm_4055 (by decide +kernel)
theorem d_4055_35 {σ : Nat → Nat} {n0 : Nat} {bf : ab_B} : decode (ab_code (zx σ n0 bf).1 4055) 35 = .ok (.if_acmp .ne 7, 3) := zd zm_4055 (by decide +kernel)
theorem d_4055_38 {σ : Nat → Nat} {n0 : Nat} {bf : ab_B} : decode (ab_code (zx σ n0 bf).1 4055) 38 = .ok (.iconst 1, 1) := zd zm_4055 (by decide +kernel)
theorem d_4055_39 {σ : Nat → Nat} {n0 : Nat} {bf : ab_B} : decode (ab_code (zx σ n0 bf).1 4055) 39 = .ok (.goto 4, 3) := zd zm_4055 (by decide +kernel)
theorem d_4055_42 {σ : Nat → Nat} {n0 : Nat} {bf : ab_B} : decode (ab_code (zx σ n0 bf).1 4055) 42 = .ok (.iconst 0, 1) := zd zm_4055 (by decide +kernel)
theorem d_4055_43 {σ : Nat → Nat} {n0 : Nat} {bf : ab_B} : decode (ab_code (zx σ n0 bf).1 4055) 43 = .ok (.ireturn, 1) := zd zm_4055 (by decide +kernel)
def w_X5_goesIn_38 (X : zs_X) (d : Nat)  (S : zs_T) (Q : zs_Q) : Prop :=
  (Q (.returned (some (.int (1 : Int32)))) S)
theorem u_X5_goesIn_38 {σ : Nat → Nat} {n0 : Nat} {bf : ab_B} {d : Nat}  {S : zs_T} {Q : zs_Q} (hB : zt_B bf) (h : w_X5_goesIn_38 (zx σ n0 bf) d  S Q) : zs_U (zx σ n0 bf) d 4055 38 [] [] S Q := by
  unfold w_X5_goesIn_38 at h
  refine zu_iconst d_4055_38 zi_1 ?_
  refine zu_goto (t := 43) d_4055_39 rfl ?_
  exact zu_iret d_4055_43 zr_4055 (zs_b_n (Or.inr rfl)) h
def w_X5_goesIn_42 (X : zs_X) (d : Nat)  (S : zs_T) (Q : zs_Q) : Prop :=
  (Q (.returned (some (.int (0 : Int32)))) S)
theorem u_X5_goesIn_42 {σ : Nat → Nat} {n0 : Nat} {bf : ab_B} {d : Nat}  {S : zs_T} {Q : zs_Q} (hB : zt_B bf) (h : w_X5_goesIn_42 (zx σ n0 bf) d  S Q) : zs_U (zx σ n0 bf) d 4055 42 [] [] S Q := by
  unfold w_X5_goesIn_42 at h
  refine zu_iconst d_4055_42 zi_0 ?_
  exact zu_iret d_4055_43 zr_4055 (zs_b_n (Or.inl rfl)) h
def w_X5_goesIn (X : zs_X) (d : Nat) (p0 : Option Nat) (p1 : Option Nat) (S : zs_T) (Q : zs_Q) : Prop :=
  (∃ b1, p0 = some b1 ∧ zs_K S b1 = some (.inl 6) ∧ zs_C X d 6002 [.ref b1] S (zs_kI (fun v5 S4 => (((v5 = 0 → w_X5_goesIn_42 X d  S4 Q) ∧ (¬ (v5 = 0) → (∃ b7, p1 = some b7 ∧ zs_K S4 b7 = some (.inl 6) ∧ (((zs_I S4 6000 b7) = (13 : Int32) → w_X5_goesIn_38 X d  S4 Q) ∧ (¬ ((zs_I S4 6000 b7) = (13 : Int32)) → (((¬ (zs_I S4 6000 b7) = (5 : Int32) → w_X5_goesIn_42 X d  S4 Q) ∧ (¬ (¬ (zs_I S4 6000 b7) = (5 : Int32)) → (∃ b12, (zs_R S4 6002 b7) = some b12 ∧ zs_K S4 b12 = some (.inl 6) ∧ zs_C X d 6001 [.ref b12] S4 (zs_kR (fun v16 S15 => (zs_K S15 b1 = some (.inl 6) ∧ zs_C X d 6001 [.ref b1] S15 (zs_kR (fun v19 S18 => (((¬ v16 = v19 → w_X5_goesIn_42 X d  S18 Q) ∧ (¬ (¬ v16 = v19) → w_X5_goesIn_38 X d  S18 Q)))) Q))) Q)))))))))))) Q))
theorem u_X5_goesIn {σ : Nat → Nat} {n0 : Nat} {bf : ab_B} {d : Nat} {p0 : Option Nat} {p1 : Option Nat} {S : zs_T} {Q : zs_Q} (hB : zt_B bf) (hd : 1 ≤ d) (h : w_X5_goesIn (zx σ n0 bf) (d - 1) p0 p1 S Q) : zs_C (zx σ n0 bf) d 4055 [va_rf p0, va_rf p1] S Q := by
  have hL : lv_args 0 [va_rf p0, va_rf p1] = [(0, va_rf p0), (1, va_rf p1)] := by simp [lv_args, zs_cat, zs_cI, zs_cJ, zs_cA]
  refine zs_C.of1 (hB.2 4055 (by decide) (by decide)) hd (by rw [hL]; exact zs_sub_self _ (by exact ⟨rfl, rfl, trivial⟩)) ?_
  rw [hL]
  clear hL
  unfold w_X5_goesIn at h
  refine zu_aload_n d_4055_0 rfl (zs_rr _) ?_
  obtain ⟨b1, e2, h⟩ := h
  refine zs_stk0 (zs_rfe e2) ?_
  obtain ⟨k3, h⟩ := h
  refine zc_4_335  hB rfl k3 d_4055_1 (Nat.le_of_ble_eq_true rfl) h (fun v5 S4 h => ?_)
  refine zu_ifeq (t := 42) d_4055_4 rfl (fun c6 => ?_) (fun c6 => ?_)
  · have h := h.1 c6
    exact (u_X5_goesIn_42 hB h).weak trivial
  · have h := h.2 c6
    refine zu_aload_n d_4055_7 rfl (zs_rr _) ?_
    obtain ⟨b7, e8, h⟩ := h
    refine zs_stk0 (zs_rfe e8) ?_
    obtain ⟨k9, h⟩ := h
    refine zg_4_369 rfl d_4055_8 k9 ?_
    refine zu_bipush d_4055_11 zj_13 ?_
    refine zu_cmpeq (t := 38) d_4055_13 rfl (fun c10 => ?_) (fun c10 => ?_)
    · have h := h.1 c10
      exact (u_X5_goesIn_38 hB h).weak trivial
    · have h := h.2 c10
      refine zu_aload_n d_4055_16 rfl (zs_rr _) ?_
      refine zs_stk0 (zs_rfe e8) ?_
      refine zg_4_369 rfl d_4055_17 k9 ?_
      refine zu_iconst d_4055_20 zi_5 ?_
      refine zu_cmpne (t := 42) d_4055_21 rfl (fun c11 => ?_) (fun c11 => ?_)
      · have h := h.1 c11
        exact (u_X5_goesIn_42 hB h).weak trivial
      · have h := h.2 c11
        refine zu_aload_n d_4055_24 rfl (zs_rr _) ?_
        refine zs_stk0 (zs_rfe e8) ?_
        refine zg_4_320 rfl d_4055_25 k9 ?_
        obtain ⟨b12, e13, h⟩ := h
        refine zs_stk0 (zs_rfe e13) ?_
        obtain ⟨k14, h⟩ := h
        refine zc_4_450  hB rfl k14 d_4055_28 (Nat.le_of_ble_eq_true rfl) h (fun v16 S15 h => ?_)
        refine zu_aload_n d_4055_31 rfl (zs_rr _) ?_
        refine zs_stk0 (zs_rfe e2) ?_
        obtain ⟨k17, h⟩ := h
        refine zc_4_450  hB rfl k17 d_4055_32 (by simp only [List.map_cons, List.map_nil, List.sum_cons, List.sum_nil, zs_cat, zs_cI, zs_cJ, zs_cA]; exact Nat.le_of_ble_eq_true rfl) h (fun v19 S18 h => ?_)
        refine zu_acmpne (u := v16) (w := v19) (t := 42) d_4055_35 rfl rfl rfl (fun c20 => ?_) (fun c20 => ?_)
        · have h := h.1 c20
          exact (u_X5_goesIn_42 hB h).weak trivial
        · have h := h.2 c20
          exact (u_X5_goesIn_38 hB h).weak trivial
/-! SchemaPascal$Reader.compares(ILSchemaPascal$Type;LSchemaPascal$Type;)Z -/
theorem zm_4056 {σ : Nat → Nat} {n0 : Nat} {bf : ab_B} : ab_code (zx σ n0 bf).1 4056 = prog_9_method_59_code := rfl
theorem zq_4056 {σ : Nat → Nat} {n0 : Nat} {bf : ab_B} : ab_maxL (zx σ n0 bf).1 4056 = 4 := rfl
theorem zr_4056 {σ : Nat → Nat} {n0 : Nat} {bf : ab_B} : ab_ret (zx σ n0 bf).1 4056 = (Option.some Jvm.ClassFile.FieldType.boolean) := rfl
theorem d_4056_0 {σ : Nat → Nat} {n0 : Nat} {bf : ab_B} : decode (ab_code (zx σ n0 bf).1 4056) 0 = .ok (.aload_n 1, 1) := zd zm_4056 (by decide +kernel)
theorem d_4056_1 {σ : Nat → Nat} {n0 : Nat} {bf : ab_B} : decode (ab_code (zx σ n0 bf).1 4056) 1 = .ok (.invokevirtual 335, 3) := zd zm_4056 (by decide +kernel)
theorem d_4056_4 {σ : Nat → Nat} {n0 : Nat} {bf : ab_B} : decode (ab_code (zx σ n0 bf).1 4056) 4 = .ok (.ifCond .eq 23, 3) := zd zm_4056 (by decide +kernel)
theorem d_4056_7 {σ : Nat → Nat} {n0 : Nat} {bf : ab_B} : decode (ab_code (zx σ n0 bf).1 4056) 7 = .ok (.aload_n 2, 1) := zd zm_4056 (by decide +kernel)
theorem d_4056_8 {σ : Nat → Nat} {n0 : Nat} {bf : ab_B} : decode (ab_code (zx σ n0 bf).1 4056) 8 = .ok (.invokevirtual 335, 3) := zd zm_4056 (by decide +kernel)
theorem d_4056_11 {σ : Nat → Nat} {n0 : Nat} {bf : ab_B} : decode (ab_code (zx σ n0 bf).1 4056) 11 = .ok (.ifCond .eq 16, 3) := zd zm_4056 (by decide +kernel)
theorem d_4056_14 {σ : Nat → Nat} {n0 : Nat} {bf : ab_B} : decode (ab_code (zx σ n0 bf).1 4056) 14 = .ok (.aload_n 1, 1) := zd zm_4056 (by decide +kernel)
theorem d_4056_15 {σ : Nat → Nat} {n0 : Nat} {bf : ab_B} : decode (ab_code (zx σ n0 bf).1 4056) 15 = .ok (.invokevirtual 450, 3) := zd zm_4056 (by decide +kernel)
theorem d_4056_18 {σ : Nat → Nat} {n0 : Nat} {bf : ab_B} : decode (ab_code (zx σ n0 bf).1 4056) 18 = .ok (.aload_n 2, 1) := zd zm_4056 (by decide +kernel)
theorem d_4056_19 {σ : Nat → Nat} {n0 : Nat} {bf : ab_B} : decode (ab_code (zx σ n0 bf).1 4056) 19 = .ok (.invokevirtual 450, 3) := zd zm_4056 (by decide +kernel)
theorem d_4056_22 {σ : Nat → Nat} {n0 : Nat} {bf : ab_B} : decode (ab_code (zx σ n0 bf).1 4056) 22 = .ok (.if_acmp .ne 5, 3) := zd zm_4056 (by decide +kernel)
theorem d_4056_25 {σ : Nat → Nat} {n0 : Nat} {bf : ab_B} : decode (ab_code (zx σ n0 bf).1 4056) 25 = .ok (.iconst 1, 1) := zd zm_4056 (by decide +kernel)
theorem d_4056_26 {σ : Nat → Nat} {n0 : Nat} {bf : ab_B} : decode (ab_code (zx σ n0 bf).1 4056) 26 = .ok (.ireturn, 1) := zd zm_4056 (by decide +kernel)
theorem d_4056_27 {σ : Nat → Nat} {n0 : Nat} {bf : ab_B} : decode (ab_code (zx σ n0 bf).1 4056) 27 = .ok (.aload_n 1, 1) := zd zm_4056 (by decide +kernel)
theorem d_4056_28 {σ : Nat → Nat} {n0 : Nat} {bf : ab_B} : decode (ab_code (zx σ n0 bf).1 4056) 28 = .ok (.invokestatic 587, 3) := zd zm_4056 (by decide +kernel)
theorem d_4056_31 {σ : Nat → Nat} {n0 : Nat} {bf : ab_B} : decode (ab_code (zx σ n0 bf).1 4056) 31 = .ok (.ifCond .eq 12, 3) := zd zm_4056 (by decide +kernel)
theorem d_4056_34 {σ : Nat → Nat} {n0 : Nat} {bf : ab_B} : decode (ab_code (zx σ n0 bf).1 4056) 34 = .ok (.aload_n 2, 1) := zd zm_4056 (by decide +kernel)
theorem d_4056_35 {σ : Nat → Nat} {n0 : Nat} {bf : ab_B} : decode (ab_code (zx σ n0 bf).1 4056) 35 = .ok (.invokestatic 587, 3) := zd zm_4056 (by decide +kernel)
theorem d_4056_38 {σ : Nat → Nat} {n0 : Nat} {bf : ab_B} : decode (ab_code (zx σ n0 bf).1 4056) 38 = .ok (.ifCond .eq 5, 3) := zd zm_4056 (by decide +kernel)
theorem d_4056_41 {σ : Nat → Nat} {n0 : Nat} {bf : ab_B} : decode (ab_code (zx σ n0 bf).1 4056) 41 = .ok (.iconst 1, 1) := zd zm_4056 (by decide +kernel)
theorem d_4056_42 {σ : Nat → Nat} {n0 : Nat} {bf : ab_B} : decode (ab_code (zx σ n0 bf).1 4056) 42 = .ok (.ireturn, 1) := zd zm_4056 (by decide +kernel)
theorem d_4056_43 {σ : Nat → Nat} {n0 : Nat} {bf : ab_B} : decode (ab_code (zx σ n0 bf).1 4056) 43 = .ok (.aload_n 1, 1) := zd zm_4056 (by decide +kernel)
theorem d_4056_44 {σ : Nat → Nat} {n0 : Nat} {bf : ab_B} : decode (ab_code (zx σ n0 bf).1 4056) 44 = .ok (.aload_n 2, 1) := zd zm_4056 (by decide +kernel)
theorem d_4056_45 {σ : Nat → Nat} {n0 : Nat} {bf : ab_B} : decode (ab_code (zx σ n0 bf).1 4056) 45 = .ok (.invokestatic 590, 3) := zd zm_4056 (by decide +kernel)
theorem d_4056_48 {σ : Nat → Nat} {n0 : Nat} {bf : ab_B} : decode (ab_code (zx σ n0 bf).1 4056) 48 = .ok (.ifCond .eq 21, 3) := zd zm_4056 (by decide +kernel)
theorem d_4056_51 {σ : Nat → Nat} {n0 : Nat} {bf : ab_B} : decode (ab_code (zx σ n0 bf).1 4056) 51 = .ok (.iload_n 0, 1) := zd zm_4056 (by decide +kernel)
theorem d_4056_52 {σ : Nat → Nat} {n0 : Nat} {bf : ab_B} : decode (ab_code (zx σ n0 bf).1 4056) 52 = .ok (.bipush 60, 2) := zd zm_4056 (by decide +kernel)
theorem d_4056_54 {σ : Nat → Nat} {n0 : Nat} {bf : ab_B} : decode (ab_code (zx σ n0 bf).1 4056) 54 = .ok (.if_icmp .eq 13, 3) := zd zm_4056 (by decide +kernel)
theorem d_4056_57 {σ : Nat → Nat} {n0 : Nat} {bf : ab_B} : decode (ab_code (zx σ n0 bf).1 4056) 57 = .ok (.iload_n 0, 1) := zd zm_4056 (by decide +kernel)
theorem d_4056_58 {σ : Nat → Nat} {n0 : Nat} {bf : ab_B} : decode (ab_code (zx σ n0 bf).1 4056) 58 = .ok (.bipush 62, 2) := zd zm_4056 (by decide +kernel)
theorem d_4056_60 {σ : Nat → Nat} {n0 : Nat} {bf : ab_B} : decode (ab_code (zx σ n0 bf).1 4056) 60 = .ok (.if_icmp .eq 7, 3) := zd zm_4056 (by decide +kernel)
theorem d_4056_63 {σ : Nat → Nat} {n0 : Nat} {bf : ab_B} : decode (ab_code (zx σ n0 bf).1 4056) 63 = .ok (.iconst 1, 1) := zd zm_4056 (by decide +kernel)
theorem d_4056_64 {σ : Nat → Nat} {n0 : Nat} {bf : ab_B} : decode (ab_code (zx σ n0 bf).1 4056) 64 = .ok (.goto 4, 3) := zd zm_4056 (by decide +kernel)
theorem d_4056_67 {σ : Nat → Nat} {n0 : Nat} {bf : ab_B} : decode (ab_code (zx σ n0 bf).1 4056) 67 = .ok (.iconst 0, 1) := zd zm_4056 (by decide +kernel)
theorem d_4056_68 {σ : Nat → Nat} {n0 : Nat} {bf : ab_B} : decode (ab_code (zx σ n0 bf).1 4056) 68 = .ok (.ireturn, 1) := zd zm_4056 (by decide +kernel)
theorem d_4056_69 {σ : Nat → Nat} {n0 : Nat} {bf : ab_B} : decode (ab_code (zx σ n0 bf).1 4056) 69 = .ok (.aload_n 1, 1) := zd zm_4056 (by decide +kernel)
theorem d_4056_70 {σ : Nat → Nat} {n0 : Nat} {bf : ab_B} : decode (ab_code (zx σ n0 bf).1 4056) 70 = .ok (.getfield 369, 3) := zd zm_4056 (by decide +kernel)
theorem d_4056_73 {σ : Nat → Nat} {n0 : Nat} {bf : ab_B} : decode (ab_code (zx σ n0 bf).1 4056) 73 = .ok (.bipush 9, 2) := zd zm_4056 (by decide +kernel)
theorem d_4056_75 {σ : Nat → Nat} {n0 : Nat} {bf : ab_B} : decode (ab_code (zx σ n0 bf).1 4056) 75 = .ok (.if_icmp .eq 12, 3) := zd zm_4056 (by decide +kernel)
theorem d_4056_78 {σ : Nat → Nat} {n0 : Nat} {bf : ab_B} : decode (ab_code (zx σ n0 bf).1 4056) 78 = .ok (.aload_n 1, 1) := zd zm_4056 (by decide +kernel)
theorem d_4056_79 {σ : Nat → Nat} {n0 : Nat} {bf : ab_B} : decode (ab_code (zx σ n0 bf).1 4056) 79 = .ok (.getfield 369, 3) := zd zm_4056 (by decide +kernel)
theorem d_4056_82 {σ : Nat → Nat} {n0 : Nat} {bf : ab_B} : decode (ab_code (zx σ n0 bf).1 4056) 82 = .ok (.bipush 12, 2) := zd zm_4056 (by decide +kernel)
theorem d_4056_84 {σ : Nat → Nat} {n0 : Nat} {bf : ab_B} : decode (ab_code (zx σ n0 bf).1 4056) 84 = .ok (.if_icmp .ne 48, 3) := zd zm_4056 (by decide +kernel)
theorem d_4056_87 {σ : Nat → Nat} {n0 : Nat} {bf : ab_B} : decode (ab_code (zx σ n0 bf).1 4056) 87 = .ok (.aload_n 2, 1) := zd zm_4056 (by decide +kernel)
theorem d_4056_88 {σ : Nat → Nat} {n0 : Nat} {bf : ab_B} : decode (ab_code (zx σ n0 bf).1 4056) 88 = .ok (.getfield 369, 3) := zd zm_4056 (by decide +kernel)
theorem d_4056_91 {σ : Nat → Nat} {n0 : Nat} {bf : ab_B} : decode (ab_code (zx σ n0 bf).1 4056) 91 = .ok (.bipush 9, 2) := zd zm_4056 (by decide +kernel)
theorem d_4056_93 {σ : Nat → Nat} {n0 : Nat} {bf : ab_B} : decode (ab_code (zx σ n0 bf).1 4056) 93 = .ok (.if_icmp .eq 12, 3) := zd zm_4056 (by decide +kernel)
theorem d_4056_96 {σ : Nat → Nat} {n0 : Nat} {bf : ab_B} : decode (ab_code (zx σ n0 bf).1 4056) 96 = .ok (.aload_n 2, 1) := zd zm_4056 (by decide +kernel)
theorem d_4056_97 {σ : Nat → Nat} {n0 : Nat} {bf : ab_B} : decode (ab_code (zx σ n0 bf).1 4056) 97 = .ok (.getfield 369, 3) := zd zm_4056 (by decide +kernel)
theorem d_4056_100 {σ : Nat → Nat} {n0 : Nat} {bf : ab_B} : decode (ab_code (zx σ n0 bf).1 4056) 100 = .ok (.bipush 12, 2) := zd zm_4056 (by decide +kernel)
theorem d_4056_102 {σ : Nat → Nat} {n0 : Nat} {bf : ab_B} : decode (ab_code (zx σ n0 bf).1 4056) 102 = .ok (.if_icmp .ne 30, 3) := zd zm_4056 (by decide +kernel)
theorem d_4056_105 {σ : Nat → Nat} {n0 : Nat} {bf : ab_B} : decode (ab_code (zx σ n0 bf).1 4056) 105 = .ok (.aload_n 1, 1) := zd zm_4056 (by decide +kernel)
theorem d_4056_106 {σ : Nat → Nat} {n0 : Nat} {bf : ab_B} : decode (ab_code (zx σ n0 bf).1 4056) 106 = .ok (.getfield 369, 3) := zd zm_4056 (by decide +kernel)
theorem d_4056_109 {σ : Nat → Nat} {n0 : Nat} {bf : ab_B} : decode (ab_code (zx σ n0 bf).1 4056) 109 = .ok (.bipush 12, 2) := zd zm_4056 (by decide +kernel)
theorem d_4056_111 {σ : Nat → Nat} {n0 : Nat} {bf : ab_B} : decode (ab_code (zx σ n0 bf).1 4056) 111 = .ok (.if_icmp .eq 17, 3) := zd zm_4056 (by decide +kernel)
theorem d_4056_114 {σ : Nat → Nat} {n0 : Nat} {bf : ab_B} : decode (ab_code (zx σ n0 bf).1 4056) 114 = .ok (.aload_n 2, 1) := zd zm_4056 (by decide +kernel)
theorem d_4056_115 {σ : Nat → Nat} {n0 : Nat} {bf : ab_B} : decode (ab_code (zx σ n0 bf).1 4056) 115 = .ok (.getfield 369, 3) := zd zm_4056 (by decide +kernel)
theorem d_4056_118 {σ : Nat → Nat} {n0 : Nat} {bf : ab_B} : decode (ab_code (zx σ n0 bf).1 4056) 118 = .ok (.bipush 12, 2) := zd zm_4056 (by decide +kernel)
theorem d_4056_120 {σ : Nat → Nat} {n0 : Nat} {bf : ab_B} : decode (ab_code (zx σ n0 bf).1 4056) 120 = .ok (.if_icmp .eq 8, 3) := zd zm_4056 (by decide +kernel)
theorem d_4056_123 {σ : Nat → Nat} {n0 : Nat} {bf : ab_B} : decode (ab_code (zx σ n0 bf).1 4056) 123 = .ok (.aload_n 1, 1) := zd zm_4056 (by decide +kernel)
theorem d_4056_124 {σ : Nat → Nat} {n0 : Nat} {bf : ab_B} : decode (ab_code (zx σ n0 bf).1 4056) 124 = .ok (.aload_n 2, 1) := zd zm_4056 (by decide +kernel)
theorem d_4056_125 {σ : Nat → Nat} {n0 : Nat} {bf : ab_B} : decode (ab_code (zx σ n0 bf).1 4056) 125 = .ok (.if_acmp .ne 7, 3) := zd zm_4056 (by decide +kernel)
theorem d_4056_128 {σ : Nat → Nat} {n0 : Nat} {bf : ab_B} : decode (ab_code (zx σ n0 bf).1 4056) 128 = .ok (.iconst 1, 1) := zd zm_4056 (by decide +kernel)
theorem d_4056_129 {σ : Nat → Nat} {n0 : Nat} {bf : ab_B} : decode (ab_code (zx σ n0 bf).1 4056) 129 = .ok (.goto 4, 3) := zd zm_4056 (by decide +kernel)
theorem d_4056_132 {σ : Nat → Nat} {n0 : Nat} {bf : ab_B} : decode (ab_code (zx σ n0 bf).1 4056) 132 = .ok (.iconst 0, 1) := zd zm_4056 (by decide +kernel)
theorem d_4056_133 {σ : Nat → Nat} {n0 : Nat} {bf : ab_B} : decode (ab_code (zx σ n0 bf).1 4056) 133 = .ok (.istore_n 3, 1) := zd zm_4056 (by decide +kernel)
theorem d_4056_134 {σ : Nat → Nat} {n0 : Nat} {bf : ab_B} : decode (ab_code (zx σ n0 bf).1 4056) 134 = .ok (.iload_n 3, 1) := zd zm_4056 (by decide +kernel)
theorem d_4056_135 {σ : Nat → Nat} {n0 : Nat} {bf : ab_B} : decode (ab_code (zx σ n0 bf).1 4056) 135 = .ok (.ifCond .eq 20, 3) := zd zm_4056 (by decide +kernel)
theorem d_4056_138 {σ : Nat → Nat} {n0 : Nat} {bf : ab_B} : decode (ab_code (zx σ n0 bf).1 4056) 138 = .ok (.iload_n 0, 1) := zd zm_4056 (by decide +kernel)
theorem d_4056_139 {σ : Nat → Nat} {n0 : Nat} {bf : ab_B} : decode (ab_code (zx σ n0 bf).1 4056) 139 = .ok (.bipush 61, 2) := zd zm_4056 (by decide +kernel)
theorem d_4056_141 {σ : Nat → Nat} {n0 : Nat} {bf : ab_B} : decode (ab_code (zx σ n0 bf).1 4056) 141 = .ok (.if_icmp .eq 10, 3) := zd zm_4056 (by decide +kernel)
theorem d_4056_144 {σ : Nat → Nat} {n0 : Nat} {bf : ab_B} : decode (ab_code (zx σ n0 bf).1 4056) 144 = .ok (.iload_n 0, 1) := zd zm_4056 (by decide +kernel)
theorem d_4056_145 {σ : Nat → Nat} {n0 : Nat} {bf : ab_B} : decode (ab_code (zx σ n0 bf).1 4056) 145 = .ok (.sipush 256, 3) := zd zm_4056 (by decide +kernel)
theorem d_4056_148 {σ : Nat → Nat} {n0 : Nat} {bf : ab_B} : decode (ab_code (zx σ n0 bf).1 4056) 148 = .ok (.if_icmp .ne 7, 3) := zd zm_4056 (by decide +kernel)
theorem d_4056_151 {σ : Nat → Nat} {n0 : Nat} {bf : ab_B} : decode (ab_code (zx σ n0 bf).1 4056) 151 = .ok (.iconst 1, 1) := zd zm_4056 (by decide +kernel)
theorem d_4056_152 {σ : Nat → Nat} {n0 : Nat} {bf : ab_B} : decode (ab_code (zx σ n0 bf).1 4056) 152 = .ok (.goto 4, 3) := zd zm_4056 (by decide +kernel)
theorem d_4056_155 {σ : Nat → Nat} {n0 : Nat} {bf : ab_B} : decode (ab_code (zx σ n0 bf).1 4056) 155 = .ok (.iconst 0, 1) := zd zm_4056 (by decide +kernel)
theorem d_4056_156 {σ : Nat → Nat} {n0 : Nat} {bf : ab_B} : decode (ab_code (zx σ n0 bf).1 4056) 156 = .ok (.ireturn, 1) := zd zm_4056 (by decide +kernel)
def w_X5_compares_133 (X : zs_X) (d : Nat) (p0 : Int32) (q0 : Int32) (S : zs_T) (Q : zs_Q) : Prop :=
  (((q0 = 0 → (Q (.returned (some (.int (0 : Int32)))) S)) ∧ (¬ (q0 = 0) → (((p0 = (61 : Int32) → (Q (.returned (some (.int (1 : Int32)))) S)) ∧ (¬ (p0 = (61 : Int32)) → (((¬ p0 = (256 : Int32) → (Q (.returned (some (.int (0 : Int32)))) S)) ∧ (¬ (¬ p0 = (256 : Int32)) → (Q (.returned (some (.int (1 : Int32)))) S))))))))))
theorem u_X5_compares_133 {σ : Nat → Nat} {n0 : Nat} {bf : ab_B} {d : Nat} {p0 : Int32} {q0 : Int32} {S : zs_T} {Q : zs_Q} (hB : zt_B bf) (h : w_X5_compares_133 (zx σ n0 bf) d p0 q0 S Q) : zs_U (zx σ n0 bf) d 4056 133 [(0, .int p0)] [.int q0] S Q := by
  unfold w_X5_compares_133 at h
  refine zu_istore_n d_4056_133 (zs_lt zq_4056 rfl) ?_
  refine zu_iload_n d_4056_134 rfl ?_
  refine zu_ifeq (t := 155) d_4056_135 rfl (fun c1 => ?_) (fun c1 => ?_)
  · have h := h.1 c1
    refine zu_iconst d_4056_155 zi_0 ?_
    exact zu_iret d_4056_156 zr_4056 (zs_b_n (Or.inl rfl)) h
  · have h := h.2 c1
    refine zu_iload_n d_4056_138 rfl ?_
    refine zu_bipush d_4056_139 zj_61 ?_
    refine zu_cmpeq (t := 151) d_4056_141 rfl (fun c2 => ?_) (fun c2 => ?_)
    · have h := h.1 c2
      refine zu_iconst d_4056_151 zi_1 ?_
      refine zu_goto (t := 156) d_4056_152 rfl ?_
      exact zu_iret d_4056_156 zr_4056 (zs_b_n (Or.inr rfl)) h
    · have h := h.2 c2
      refine zu_iload_n d_4056_144 rfl ?_
      refine zu_sipush d_4056_145 zh_256 ?_
      refine zu_cmpne (t := 155) d_4056_148 rfl (fun c3 => ?_) (fun c3 => ?_)
      · have h := h.1 c3
        refine zu_iconst d_4056_155 zi_0 ?_
        exact zu_iret d_4056_156 zr_4056 (zs_b_n (Or.inl rfl)) h
      · have h := h.2 c3
        refine zu_iconst d_4056_151 zi_1 ?_
        refine zu_goto (t := 156) d_4056_152 rfl ?_
        exact zu_iret d_4056_156 zr_4056 (zs_b_n (Or.inr rfl)) h
def w_X5_compares_128 (X : zs_X) (d : Nat) (p0 : Int32) (S : zs_T) (Q : zs_Q) : Prop :=
  (w_X5_compares_133 X d p0 (1 : Int32) S Q)
theorem u_X5_compares_128 {σ : Nat → Nat} {n0 : Nat} {bf : ab_B} {d : Nat} {p0 : Int32} {S : zs_T} {Q : zs_Q} (hB : zt_B bf) (h : w_X5_compares_128 (zx σ n0 bf) d p0 S Q) : zs_U (zx σ n0 bf) d 4056 128 [(0, .int p0)] [] S Q := by
  unfold w_X5_compares_128 at h
  refine zu_iconst d_4056_128 zi_1 ?_
  refine zu_goto (t := 133) d_4056_129 rfl ?_
  exact (u_X5_compares_133 hB h).weak ⟨rfl, trivial⟩
def w_X5_compares_132 (X : zs_X) (d : Nat) (p0 : Int32) (S : zs_T) (Q : zs_Q) : Prop :=
  (w_X5_compares_133 X d p0 (0 : Int32) S Q)
theorem u_X5_compares_132 {σ : Nat → Nat} {n0 : Nat} {bf : ab_B} {d : Nat} {p0 : Int32} {S : zs_T} {Q : zs_Q} (hB : zt_B bf) (h : w_X5_compares_132 (zx σ n0 bf) d p0 S Q) : zs_U (zx σ n0 bf) d 4056 132 [(0, .int p0)] [] S Q := by
  unfold w_X5_compares_132 at h
  refine zu_iconst d_4056_132 zi_0 ?_
  exact (u_X5_compares_133 hB h).weak ⟨rfl, trivial⟩
def w_X5_compares_105 (X : zs_X) (d : Nat) (p0 : Int32) (p1 : Option Nat) (p2 : Option Nat) (S : zs_T) (Q : zs_Q) : Prop :=
  (∃ b1, p1 = some b1 ∧ zs_K S b1 = some (.inl 6) ∧ (((zs_I S 6000 b1) = (12 : Int32) → w_X5_compares_128 X d p0 S Q) ∧ (¬ ((zs_I S 6000 b1) = (12 : Int32)) → (∃ b5, p2 = some b5 ∧ zs_K S b5 = some (.inl 6) ∧ (((zs_I S 6000 b5) = (12 : Int32) → w_X5_compares_128 X d p0 S Q) ∧ (¬ ((zs_I S 6000 b5) = (12 : Int32)) → (((¬ p1 = p2 → w_X5_compares_132 X d p0 S Q) ∧ (¬ (¬ p1 = p2) → w_X5_compares_128 X d p0 S Q)))))))))
theorem u_X5_compares_105 {σ : Nat → Nat} {n0 : Nat} {bf : ab_B} {d : Nat} {p0 : Int32} {p1 : Option Nat} {p2 : Option Nat} {S : zs_T} {Q : zs_Q} (hB : zt_B bf) (h : w_X5_compares_105 (zx σ n0 bf) d p0 p1 p2 S Q) : zs_U (zx σ n0 bf) d 4056 105 [(0, .int p0), (1, va_rf p1), (2, va_rf p2)] [] S Q := by
  unfold w_X5_compares_105 at h
  refine zu_aload_n d_4056_105 rfl (zs_rr _) ?_
  obtain ⟨b1, e2, h⟩ := h
  refine zs_stk0 (zs_rfe e2) ?_
  obtain ⟨k3, h⟩ := h
  refine zg_4_369 rfl d_4056_106 k3 ?_
  refine zu_bipush d_4056_109 zj_12 ?_
  refine zu_cmpeq (t := 128) d_4056_111 rfl (fun c4 => ?_) (fun c4 => ?_)
  · have h := h.1 c4
    exact (u_X5_compares_128 hB h).weak ⟨rfl, trivial⟩
  · have h := h.2 c4
    refine zu_aload_n d_4056_114 rfl (zs_rr _) ?_
    obtain ⟨b5, e6, h⟩ := h
    refine zs_stk0 (zs_rfe e6) ?_
    obtain ⟨k7, h⟩ := h
    refine zg_4_369 rfl d_4056_115 k7 ?_
    refine zu_bipush d_4056_118 zj_12 ?_
    refine zu_cmpeq (t := 128) d_4056_120 rfl (fun c8 => ?_) (fun c8 => ?_)
    · have h := h.1 c8
      exact (u_X5_compares_128 hB h).weak ⟨rfl, trivial⟩
    · have h := h.2 c8
      refine zu_aload_n d_4056_123 rfl (zs_rr _) ?_
      refine zu_aload_n d_4056_124 rfl (zs_rr _) ?_
      refine zu_acmpne (u := p1) (w := p2) (t := 132) d_4056_125 rfl rfl rfl (fun c9 => ?_) (fun c9 => ?_)
      · have h := h.1 c9
        exact (u_X5_compares_132 hB h).weak ⟨rfl, trivial⟩
      · have h := h.2 c9
        exact (u_X5_compares_128 hB h).weak ⟨rfl, trivial⟩
def w_X5_compares_87 (X : zs_X) (d : Nat) (p0 : Int32) (p1 : Option Nat) (p2 : Option Nat) (S : zs_T) (Q : zs_Q) : Prop :=
  (∃ b1, p2 = some b1 ∧ zs_K S b1 = some (.inl 6) ∧ (((zs_I S 6000 b1) = (9 : Int32) → w_X5_compares_105 X d p0 p1 p2 S Q) ∧ (¬ ((zs_I S 6000 b1) = (9 : Int32)) → (((¬ (zs_I S 6000 b1) = (12 : Int32) → w_X5_compares_132 X d p0 S Q) ∧ (¬ (¬ (zs_I S 6000 b1) = (12 : Int32)) → w_X5_compares_105 X d p0 p1 p2 S Q))))))
theorem u_X5_compares_87 {σ : Nat → Nat} {n0 : Nat} {bf : ab_B} {d : Nat} {p0 : Int32} {p1 : Option Nat} {p2 : Option Nat} {S : zs_T} {Q : zs_Q} (hB : zt_B bf) (h : w_X5_compares_87 (zx σ n0 bf) d p0 p1 p2 S Q) : zs_U (zx σ n0 bf) d 4056 87 [(0, .int p0), (1, va_rf p1), (2, va_rf p2)] [] S Q := by
  unfold w_X5_compares_87 at h
  refine zu_aload_n d_4056_87 rfl (zs_rr _) ?_
  obtain ⟨b1, e2, h⟩ := h
  refine zs_stk0 (zs_rfe e2) ?_
  obtain ⟨k3, h⟩ := h
  refine zg_4_369 rfl d_4056_88 k3 ?_
  refine zu_bipush d_4056_91 zj_9 ?_
  refine zu_cmpeq (t := 105) d_4056_93 rfl (fun c4 => ?_) (fun c4 => ?_)
  · have h := h.1 c4
    exact (u_X5_compares_105 hB h).weak ⟨rfl, rfl, rfl, trivial⟩
  · have h := h.2 c4
    refine zu_aload_n d_4056_96 rfl (zs_rr _) ?_
    refine zs_stk0 (zs_rfe e2) ?_
    refine zg_4_369 rfl d_4056_97 k3 ?_
    refine zu_bipush d_4056_100 zj_12 ?_
    refine zu_cmpne (t := 132) d_4056_102 rfl (fun c5 => ?_) (fun c5 => ?_)
    · have h := h.1 c5
      exact (u_X5_compares_132 hB h).weak ⟨rfl, trivial⟩
    · have h := h.2 c5
      exact (u_X5_compares_105 hB h).weak ⟨rfl, rfl, rfl, trivial⟩
def w_X5_compares_43 (X : zs_X) (d : Nat) (p0 : Int32) (p1 : Option Nat) (p2 : Option Nat) (S : zs_T) (Q : zs_Q) : Prop :=
  (zs_C X d 4034 [va_rf p1, va_rf p2] S (zs_kI (fun v2 S1 => (((v2 = 0 → (∃ b4, p1 = some b4 ∧ zs_K S1 b4 = some (.inl 6) ∧ (((zs_I S1 6000 b4) = (9 : Int32) → w_X5_compares_87 X d p0 p1 p2 S1 Q) ∧ (¬ ((zs_I S1 6000 b4) = (9 : Int32)) → (((¬ (zs_I S1 6000 b4) = (12 : Int32) → w_X5_compares_132 X d p0 S1 Q) ∧ (¬ (¬ (zs_I S1 6000 b4) = (12 : Int32)) → w_X5_compares_87 X d p0 p1 p2 S1 Q))))))) ∧ (¬ (v2 = 0) → (((p0 = (60 : Int32) → (Q (.returned (some (.int (0 : Int32)))) S1)) ∧ (¬ (p0 = (60 : Int32)) → (((p0 = (62 : Int32) → (Q (.returned (some (.int (0 : Int32)))) S1)) ∧ (¬ (p0 = (62 : Int32)) → (Q (.returned (some (.int (1 : Int32)))) S1))))))))))) Q))
theorem u_X5_compares_43 {σ : Nat → Nat} {n0 : Nat} {bf : ab_B} {d : Nat} {p0 : Int32} {p1 : Option Nat} {p2 : Option Nat} {S : zs_T} {Q : zs_Q} (hB : zt_B bf) (h : w_X5_compares_43 (zx σ n0 bf) d p0 p1 p2 S Q) : zs_U (zx σ n0 bf) d 4056 43 [(0, .int p0), (1, va_rf p1), (2, va_rf p2)] [] S Q := by
  unfold w_X5_compares_43 at h
  refine zu_aload_n d_4056_43 rfl (zs_rr _) ?_
  refine zu_aload_n d_4056_44 rfl (zs_rr _) ?_
  refine zc_4_590 (x0 := p1) (x1 := p2) hB rfl d_4056_45 (Nat.le_of_ble_eq_true rfl) h (fun v2 S1 h => ?_)
  refine zu_ifeq (t := 69) d_4056_48 rfl (fun c3 => ?_) (fun c3 => ?_)
  · have h := h.1 c3
    refine zu_aload_n d_4056_69 rfl (zs_rr _) ?_
    obtain ⟨b4, e5, h⟩ := h
    refine zs_stk0 (zs_rfe e5) ?_
    obtain ⟨k6, h⟩ := h
    refine zg_4_369 rfl d_4056_70 k6 ?_
    refine zu_bipush d_4056_73 zj_9 ?_
    refine zu_cmpeq (t := 87) d_4056_75 rfl (fun c7 => ?_) (fun c7 => ?_)
    · have h := h.1 c7
      exact (u_X5_compares_87 hB h).weak ⟨rfl, rfl, rfl, trivial⟩
    · have h := h.2 c7
      refine zu_aload_n d_4056_78 rfl (zs_rr _) ?_
      refine zs_stk0 (zs_rfe e5) ?_
      refine zg_4_369 rfl d_4056_79 k6 ?_
      refine zu_bipush d_4056_82 zj_12 ?_
      refine zu_cmpne (t := 132) d_4056_84 rfl (fun c8 => ?_) (fun c8 => ?_)
      · have h := h.1 c8
        exact (u_X5_compares_132 hB h).weak ⟨rfl, trivial⟩
      · have h := h.2 c8
        exact (u_X5_compares_87 hB h).weak ⟨rfl, rfl, rfl, trivial⟩
  · have h := h.2 c3
    refine zu_iload_n d_4056_51 rfl ?_
    refine zu_bipush d_4056_52 zj_60 ?_
    refine zu_cmpeq (t := 67) d_4056_54 rfl (fun c9 => ?_) (fun c9 => ?_)
    · have h := h.1 c9
      refine zu_iconst d_4056_67 zi_0 ?_
      exact zu_iret d_4056_68 zr_4056 (zs_b_n (Or.inl rfl)) h
    · have h := h.2 c9
      refine zu_iload_n d_4056_57 rfl ?_
      refine zu_bipush d_4056_58 zj_62 ?_
      refine zu_cmpeq (t := 67) d_4056_60 rfl (fun c10 => ?_) (fun c10 => ?_)
      · have h := h.1 c10
        refine zu_iconst d_4056_67 zi_0 ?_
        exact zu_iret d_4056_68 zr_4056 (zs_b_n (Or.inl rfl)) h
      · have h := h.2 c10
        refine zu_iconst d_4056_63 zi_1 ?_
        refine zu_goto (t := 68) d_4056_64 rfl ?_
        exact zu_iret d_4056_68 zr_4056 (zs_b_n (Or.inr rfl)) h
def w_X5_compares_27 (X : zs_X) (d : Nat) (p0 : Int32) (p1 : Option Nat) (p2 : Option Nat) (S : zs_T) (Q : zs_Q) : Prop :=
  (zs_C X d 4036 [va_rf p1] S (zs_kI (fun v2 S1 => (((v2 = 0 → w_X5_compares_43 X d p0 p1 p2 S1 Q) ∧ (¬ (v2 = 0) → (zs_C X d 4036 [va_rf p2] S1 (zs_kI (fun v5 S4 => (((v5 = 0 → w_X5_compares_43 X d p0 p1 p2 S4 Q) ∧ (¬ (v5 = 0) → (Q (.returned (some (.int (1 : Int32)))) S4))))) Q)))))) Q))
theorem u_X5_compares_27 {σ : Nat → Nat} {n0 : Nat} {bf : ab_B} {d : Nat} {p0 : Int32} {p1 : Option Nat} {p2 : Option Nat} {S : zs_T} {Q : zs_Q} (hB : zt_B bf) (h : w_X5_compares_27 (zx σ n0 bf) d p0 p1 p2 S Q) : zs_U (zx σ n0 bf) d 4056 27 [(0, .int p0), (1, va_rf p1), (2, va_rf p2)] [] S Q := by
  unfold w_X5_compares_27 at h
  refine zu_aload_n d_4056_27 rfl (zs_rr _) ?_
  refine zc_4_587 (x0 := p1) hB rfl d_4056_28 (Nat.le_of_ble_eq_true rfl) h (fun v2 S1 h => ?_)
  refine zu_ifeq (t := 43) d_4056_31 rfl (fun c3 => ?_) (fun c3 => ?_)
  · have h := h.1 c3
    exact (u_X5_compares_43 hB h).weak ⟨rfl, rfl, rfl, trivial⟩
  · have h := h.2 c3
    refine zu_aload_n d_4056_34 rfl (zs_rr _) ?_
    refine zc_4_587 (x0 := p2) hB rfl d_4056_35 (Nat.le_of_ble_eq_true rfl) h (fun v5 S4 h => ?_)
    refine zu_ifeq (t := 43) d_4056_38 rfl (fun c6 => ?_) (fun c6 => ?_)
    · have h := h.1 c6
      exact (u_X5_compares_43 hB h).weak ⟨rfl, rfl, rfl, trivial⟩
    · have h := h.2 c6
      refine zu_iconst d_4056_41 zi_1 ?_
      exact zu_iret d_4056_42 zr_4056 (zs_b_n (Or.inr rfl)) h
def w_X5_compares (X : zs_X) (d : Nat) (p0 : Int32) (p1 : Option Nat) (p2 : Option Nat) (S : zs_T) (Q : zs_Q) : Prop :=
  (∃ b1, p1 = some b1 ∧ zs_K S b1 = some (.inl 6) ∧ zs_C X d 6002 [.ref b1] S (zs_kI (fun v5 S4 => (((v5 = 0 → w_X5_compares_27 X d p0 p1 p2 S4 Q) ∧ (¬ (v5 = 0) → (∃ b7, p2 = some b7 ∧ zs_K S4 b7 = some (.inl 6) ∧ zs_C X d 6002 [.ref b7] S4 (zs_kI (fun v11 S10 => (((v11 = 0 → w_X5_compares_27 X d p0 p1 p2 S10 Q) ∧ (¬ (v11 = 0) → (zs_K S10 b1 = some (.inl 6) ∧ zs_C X d 6001 [.ref b1] S10 (zs_kR (fun v15 S14 => (zs_K S14 b7 = some (.inl 6) ∧ zs_C X d 6001 [.ref b7] S14 (zs_kR (fun v18 S17 => (((¬ v15 = v18 → w_X5_compares_27 X d p0 p1 p2 S17 Q) ∧ (¬ (¬ v15 = v18) → (Q (.returned (some (.int (1 : Int32)))) S17))))) Q))) Q)))))) Q)))))) Q))
theorem u_X5_compares {σ : Nat → Nat} {n0 : Nat} {bf : ab_B} {d : Nat} {p0 : Int32} {p1 : Option Nat} {p2 : Option Nat} {S : zs_T} {Q : zs_Q} (hB : zt_B bf) (hd : 1 ≤ d) (h : w_X5_compares (zx σ n0 bf) (d - 1) p0 p1 p2 S Q) : zs_C (zx σ n0 bf) d 4056 [.int p0, va_rf p1, va_rf p2] S Q := by
  have hL : lv_args 0 [.int p0, va_rf p1, va_rf p2] = [(0, .int p0), (1, va_rf p1), (2, va_rf p2)] := by simp [lv_args, zs_cat, zs_cI, zs_cJ, zs_cA]
  refine zs_C.of1 (hB.2 4056 (by decide) (by decide)) hd (by rw [hL]; exact zs_sub_self _ (by exact ⟨rfl, rfl, rfl, trivial⟩)) ?_
  rw [hL]
  clear hL
  unfold w_X5_compares at h
  refine zu_aload_n d_4056_0 rfl (zs_rr _) ?_
  obtain ⟨b1, e2, h⟩ := h
  refine zs_stk0 (zs_rfe e2) ?_
  obtain ⟨k3, h⟩ := h
  refine zc_4_335  hB rfl k3 d_4056_1 (Nat.le_of_ble_eq_true rfl) h (fun v5 S4 h => ?_)
  refine zu_ifeq (t := 27) d_4056_4 rfl (fun c6 => ?_) (fun c6 => ?_)
  · have h := h.1 c6
    exact (u_X5_compares_27 hB h).weak ⟨rfl, rfl, rfl, trivial⟩
  · have h := h.2 c6
    refine zu_aload_n d_4056_7 rfl (zs_rr _) ?_
    obtain ⟨b7, e8, h⟩ := h
    refine zs_stk0 (zs_rfe e8) ?_
    obtain ⟨k9, h⟩ := h
    refine zc_4_335  hB rfl k9 d_4056_8 (Nat.le_of_ble_eq_true rfl) h (fun v11 S10 h => ?_)
    refine zu_ifeq (t := 27) d_4056_11 rfl (fun c12 => ?_) (fun c12 => ?_)
    · have h := h.1 c12
      exact (u_X5_compares_27 hB h).weak ⟨rfl, rfl, rfl, trivial⟩
    · have h := h.2 c12
      refine zu_aload_n d_4056_14 rfl (zs_rr _) ?_
      refine zs_stk0 (zs_rfe e2) ?_
      obtain ⟨k13, h⟩ := h
      refine zc_4_450  hB rfl k13 d_4056_15 (Nat.le_of_ble_eq_true rfl) h (fun v15 S14 h => ?_)
      refine zu_aload_n d_4056_18 rfl (zs_rr _) ?_
      refine zs_stk0 (zs_rfe e8) ?_
      obtain ⟨k16, h⟩ := h
      refine zc_4_450  hB rfl k16 d_4056_19 (by simp only [List.map_cons, List.map_nil, List.sum_cons, List.sum_nil, zs_cat, zs_cI, zs_cJ, zs_cA]; exact Nat.le_of_ble_eq_true rfl) h (fun v18 S17 h => ?_)
      refine zu_acmpne (u := v15) (w := v18) (t := 27) d_4056_22 rfl rfl rfl (fun c19 => ?_) (fun c19 => ?_)
      · have h := h.1 c19
        exact (u_X5_compares_27 hB h).weak ⟨rfl, rfl, rfl, trivial⟩
      · have h := h.2 c19
        refine zu_iconst d_4056_25 zi_1 ?_
        exact zu_iret d_4056_26 zr_4056 (zs_b_n (Or.inr rfl)) h
/-! SchemaPascal$Reader.value(LSchemaPascal$Node;)J -/
theorem zm_4057 {σ : Nat → Nat} {n0 : Nat} {bf : ab_B} : ab_code (zx σ n0 bf).1 4057 = prog_9_method_50_code := rfl
theorem zq_4057 {σ : Nat → Nat} {n0 : Nat} {bf : ab_B} : ab_maxL (zx σ n0 bf).1 4057 = 4 := rfl
theorem zr_4057 {σ : Nat → Nat} {n0 : Nat} {bf : ab_B} : ab_ret (zx σ n0 bf).1 4057 = (Option.some Jvm.ClassFile.FieldType.long) := rfl
theorem d_4057_0 {σ : Nat → Nat} {n0 : Nat} {bf : ab_B} : decode (ab_code (zx σ n0 bf).1 4057) 0 = .ok (.aload_n 0, 1) := zd zm_4057 (by decide +kernel)
theorem d_4057_1 {σ : Nat → Nat} {n0 : Nat} {bf : ab_B} : decode (ab_code (zx σ n0 bf).1 4057) 1 = .ok (.getfield 384, 3) := zd zm_4057 (by decide +kernel)
theorem d_4057_4 {σ : Nat → Nat} {n0 : Nat} {bf : ab_B} : decode (ab_code (zx σ n0 bf).1 4057) 4 = .ok (.aload_n 1, 1) := zd zm_4057 (by decide +kernel)
theorem d_4057_5 {σ : Nat → Nat} {n0 : Nat} {bf : ab_B} : decode (ab_code (zx σ n0 bf).1 4057) 5 = .ok (.iconst (-1), 1) := zd zm_4057 (by decide +kernel)
theorem d_4057_6 {σ : Nat → Nat} {n0 : Nat} {bf : ab_B} : decode (ab_code (zx σ n0 bf).1 4057) 6 = .ok (.invokevirtual 563, 3) := zd zm_4057 (by decide +kernel)
theorem d_4057_9 {σ : Nat → Nat} {n0 : Nat} {bf : ab_B} : decode (ab_code (zx σ n0 bf).1 4057) 9 = .ok (.lstore_n 2, 1) := zd zm_4057 (by decide +kernel)
theorem d_4057_10 {σ : Nat → Nat} {n0 : Nat} {bf : ab_B} : decode (ab_code (zx σ n0 bf).1 4057) 10 = .ok (.lload_n 2, 1) := zd zm_4057 (by decide +kernel)
theorem d_4057_11 {σ : Nat → Nat} {n0 : Nat} {bf : ab_B} : decode (ab_code (zx σ n0 bf).1 4057) 11 = .ok (.ldc2_w 566, 3) := zd zm_4057 (by decide +kernel)
theorem d_4057_14 {σ : Nat → Nat} {n0 : Nat} {bf : ab_B} : decode (ab_code (zx σ n0 bf).1 4057) 14 = .ok (.lcmp, 1) := zd zm_4057 (by decide +kernel)
theorem d_4057_15 {σ : Nat → Nat} {n0 : Nat} {bf : ab_B} : decode (ab_code (zx σ n0 bf).1 4057) 15 = .ok (.ifCond .ne 10, 3) := zd zm_4057 (by decide +kernel)
theorem d_4057_18 {σ : Nat → Nat} {n0 : Nat} {bf : ab_B} : decode (ab_code (zx σ n0 bf).1 4057) 18 = .ok (.aload_n 0, 1) := zd zm_4057 (by decide +kernel)
theorem d_4057_19 {σ : Nat → Nat} {n0 : Nat} {bf : ab_B} : decode (ab_code (zx σ n0 bf).1 4057) 19 = .ok (.bipush 7, 2) := zd zm_4057 (by decide +kernel)
theorem d_4057_21 {σ : Nat → Nat} {n0 : Nat} {bf : ab_B} : decode (ab_code (zx σ n0 bf).1 4057) 21 = .ok (.invokevirtual 25, 3) := zd zm_4057 (by decide +kernel)
theorem d_4057_24 {σ : Nat → Nat} {n0 : Nat} {bf : ab_B} : decode (ab_code (zx σ n0 bf).1 4057) 24 = .ok (.athrow, 1) := zd zm_4057 (by decide +kernel)
theorem d_4057_25 {σ : Nat → Nat} {n0 : Nat} {bf : ab_B} : decode (ab_code (zx σ n0 bf).1 4057) 25 = .ok (.lload_n 2, 1) := zd zm_4057 (by decide +kernel)
theorem d_4057_26 {σ : Nat → Nat} {n0 : Nat} {bf : ab_B} : decode (ab_code (zx σ n0 bf).1 4057) 26 = .ok (.lreturn, 1) := zd zm_4057 (by decide +kernel)
def w_X5_value (X : zs_X) (d : Nat) (p0 : Nat) (p1 : Option Nat) (S : zs_T) (Q : zs_Q) : Prop :=
  (zs_K S p0 = some (.inl 4) ∧ ∃ b2, (zs_R S 4018 p0) = some b2 ∧ zs_K S b2 = some (.inl 2) ∧ zs_C X d 2001 [.ref b2, va_rf p1, .int (-1 : Int32)] S (zs_kJ (fun v6 S5 => (((¬ v6 = (-9223372036854775808 : Int64) → (Q (.returned (some (.long v6))) S5)) ∧ (¬ (¬ v6 = (-9223372036854775808 : Int64)) → (zs_K S5 p0 = some (.inl 4) ∧ zs_C X d 4006 [.ref p0, .int (7 : Int32)] S5 (zs_kR (fun v10 S9 => (∃ b11, v10 = some b11 ∧ Q (.threw b11) S9)) Q)))))) Q))
theorem u_X5_value {σ : Nat → Nat} {n0 : Nat} {bf : ab_B} {d : Nat} {p0 : Nat} {p1 : Option Nat} {S : zs_T} {Q : zs_Q} (hB : zt_B bf) (hd : 1 ≤ d) (h : w_X5_value (zx σ n0 bf) (d - 1) p0 p1 S Q) : zs_C (zx σ n0 bf) d 4057 [.ref p0, va_rf p1] S Q := by
  have hL : lv_args 0 [.ref p0, va_rf p1] = [(0, .ref p0), (1, va_rf p1)] := by simp [lv_args, zs_cat, zs_cI, zs_cJ, zs_cA]
  refine zs_C.of1 (hB.2 4057 (by decide) (by decide)) hd (by rw [hL]; exact zs_sub_self _ (by exact ⟨rfl, rfl, trivial⟩)) ?_
  rw [hL]
  clear hL
  unfold w_X5_value at h
  refine zu_aload_n d_4057_0 rfl (zs_ra _) ?_
  obtain ⟨k1, h⟩ := h
  refine zg_4_384 rfl d_4057_1 k1 ?_
  refine zu_aload_n d_4057_4 rfl (zs_rr _) ?_
  refine zu_iconst d_4057_5 zi_m1 ?_
  obtain ⟨b2, e3, h⟩ := h
  refine zs_stk2 (zs_rfe e3) ?_
  obtain ⟨k4, h⟩ := h
  refine zc_4_563 (x0 := p1) (x1 := (-1 : Int32)) hB rfl k4 d_4057_6 (Nat.le_of_ble_eq_true rfl) h (fun v6 S5 h => ?_)
  refine zu_lstore_n d_4057_9 (zs_lt zq_4057 rfl) ?_
  refine zs_U.weak (L1 := [(2, .long v6), (0, .ref p0), (1, va_rf p1)]) ?_ ⟨rfl, zs_gp2 rfl rfl (Or.inl rfl) rfl, zs_gp2 rfl rfl (Or.inl (zs_cat _)) rfl, trivial⟩
  refine zu_lload_n d_4057_10 rfl ?_
  refine zl2_4_566 rfl d_4057_11 ?_
  refine zu_lne (t := 25) d_4057_14 d_4057_15 rfl (fun c7 => ?_) (fun c7 => ?_)
  · have h := h.1 c7
    refine zu_lload_n d_4057_25 rfl ?_
    exact zu_lret d_4057_26 zr_4057 h
  · have h := h.2 c7
    refine zu_aload_n d_4057_18 rfl (zs_ra _) ?_
    refine zu_bipush d_4057_19 zj_7 ?_
    obtain ⟨k8, h⟩ := h
    refine zc_4_25 (x0 := (7 : Int32)) hB rfl k8 d_4057_21 (Nat.le_of_ble_eq_true rfl) h (fun v10 S9 h => ?_)
    obtain ⟨b11, e12, h⟩ := h
    refine zs_stk0 (zs_rfe e12) ?_
    exact zu_throw d_4057_24 h
/-! SchemaPascal$Reader.types()V -/
theorem zm_4058 {σ : Nat → Nat} {n0 : Nat} {bf : ab_B} : ab_code (zx σ n0 bf).1 4058 = prog_9_method_16_code := rfl
theorem zq_4058 {σ : Nat → Nat} {n0 : Nat} {bf : ab_B} : ab_maxL (zx σ n0 bf).1 4058 = 3 := rfl
theorem zr_4058 {σ : Nat → Nat} {n0 : Nat} {bf : ab_B} : ab_ret (zx σ n0 bf).1 4058 = (Option.none : Option Jvm.ClassFile.FieldType) := rfl
theorem d_4058_0 {σ : Nat → Nat} {n0 : Nat} {bf : ab_B} : decode (ab_code (zx σ n0 bf).1 4058) 0 = .ok (.aload_n 0, 1) := zd zm_4058 (by decide +kernel)
theorem d_4058_1 {σ : Nat → Nat} {n0 : Nat} {bf : ab_B} : decode (ab_code (zx σ n0 bf).1 4058) 1 = .ok (.getfield 5, 3) := zd zm_4058 (by decide +kernel)
theorem d_4058_4 {σ : Nat → Nat} {n0 : Nat} {bf : ab_B} : decode (ab_code (zx σ n0 bf).1 4058) 4 = .ok (.invokevirtual 29, 3) := zd zm_4058 (by decide +kernel)
theorem d_4058_7 {σ : Nat → Nat} {n0 : Nat} {bf : ab_B} : decode (ab_code (zx σ n0 bf).1 4058) 7 = .ok (.aload_n 0, 1) := zd zm_4058 (by decide +kernel)
theorem d_4058_8 {σ : Nat → Nat} {n0 : Nat} {bf : ab_B} : decode (ab_code (zx σ n0 bf).1 4058) 8 = .ok (.iconst 1, 1) := zd zm_4058 (by decide +kernel)
theorem d_4058_9 {σ : Nat → Nat} {n0 : Nat} {bf : ab_B} : decode (ab_code (zx σ n0 bf).1 4058) 9 = .ok (.putfield 203, 3) := zd zm_4058 (by decide +kernel)
theorem d_4058_12 {σ : Nat → Nat} {n0 : Nat} {bf : ab_B} : decode (ab_code (zx σ n0 bf).1 4058) 12 = .ok (.aload_n 0, 1) := zd zm_4058 (by decide +kernel)
theorem d_4058_13 {σ : Nat → Nat} {n0 : Nat} {bf : ab_B} : decode (ab_code (zx σ n0 bf).1 4058) 13 = .ok (.invokevirtual 290, 3) := zd zm_4058 (by decide +kernel)
theorem d_4058_16 {σ : Nat → Nat} {n0 : Nat} {bf : ab_B} : decode (ab_code (zx σ n0 bf).1 4058) 16 = .ok (.istore_n 1, 1) := zd zm_4058 (by decide +kernel)
theorem d_4058_17 {σ : Nat → Nat} {n0 : Nat} {bf : ab_B} : decode (ab_code (zx σ n0 bf).1 4058) 17 = .ok (.aload_n 0, 1) := zd zm_4058 (by decide +kernel)
theorem d_4058_18 {σ : Nat → Nat} {n0 : Nat} {bf : ab_B} : decode (ab_code (zx σ n0 bf).1 4058) 18 = .ok (.getfield 5, 3) := zd zm_4058 (by decide +kernel)
theorem d_4058_21 {σ : Nat → Nat} {n0 : Nat} {bf : ab_B} : decode (ab_code (zx σ n0 bf).1 4058) 21 = .ok (.bipush 40, 2) := zd zm_4058 (by decide +kernel)
theorem d_4058_23 {σ : Nat → Nat} {n0 : Nat} {bf : ab_B} : decode (ab_code (zx σ n0 bf).1 4058) 23 = .ok (.invokevirtual 21, 3) := zd zm_4058 (by decide +kernel)
theorem d_4058_26 {σ : Nat → Nat} {n0 : Nat} {bf : ab_B} : decode (ab_code (zx σ n0 bf).1 4058) 26 = .ok (.ifCond .eq 11, 3) := zd zm_4058 (by decide +kernel)
theorem d_4058_29 {σ : Nat → Nat} {n0 : Nat} {bf : ab_B} : decode (ab_code (zx σ n0 bf).1 4058) 29 = .ok (.aload_n 0, 1) := zd zm_4058 (by decide +kernel)
theorem d_4058_30 {σ : Nat → Nat} {n0 : Nat} {bf : ab_B} : decode (ab_code (zx σ n0 bf).1 4058) 30 = .ok (.iload_n 1, 1) := zd zm_4058 (by decide +kernel)
theorem d_4058_31 {σ : Nat → Nat} {n0 : Nat} {bf : ab_B} : decode (ab_code (zx σ n0 bf).1 4058) 31 = .ok (.invokevirtual 307, 3) := zd zm_4058 (by decide +kernel)
theorem d_4058_34 {σ : Nat → Nat} {n0 : Nat} {bf : ab_B} : decode (ab_code (zx σ n0 bf).1 4058) 34 = .ok (.goto 37, 3) := zd zm_4058 (by decide +kernel)
theorem d_4058_37 {σ : Nat → Nat} {n0 : Nat} {bf : ab_B} : decode (ab_code (zx σ n0 bf).1 4058) 37 = .ok (.aload_n 0, 1) := zd zm_4058 (by decide +kernel)
theorem d_4058_38 {σ : Nat → Nat} {n0 : Nat} {bf : ab_B} : decode (ab_code (zx σ n0 bf).1 4058) 38 = .ok (.bipush 61, 2) := zd zm_4058 (by decide +kernel)
theorem d_4058_40 {σ : Nat → Nat} {n0 : Nat} {bf : ab_B} : decode (ab_code (zx σ n0 bf).1 4058) 40 = .ok (.invokevirtual 224, 3) := zd zm_4058 (by decide +kernel)
theorem d_4058_43 {σ : Nat → Nat} {n0 : Nat} {bf : ab_B} : decode (ab_code (zx σ n0 bf).1 4058) 43 = .ok (.aload_n 0, 1) := zd zm_4058 (by decide +kernel)
theorem d_4058_44 {σ : Nat → Nat} {n0 : Nat} {bf : ab_B} : decode (ab_code (zx σ n0 bf).1 4058) 44 = .ok (.iconst 0, 1) := zd zm_4058 (by decide +kernel)
theorem d_4058_45 {σ : Nat → Nat} {n0 : Nat} {bf : ab_B} : decode (ab_code (zx σ n0 bf).1 4058) 45 = .ok (.invokevirtual 309, 3) := zd zm_4058 (by decide +kernel)
theorem d_4058_48 {σ : Nat → Nat} {n0 : Nat} {bf : ab_B} : decode (ab_code (zx σ n0 bf).1 4058) 48 = .ok (.astore_n 2, 1) := zd zm_4058 (by decide +kernel)
theorem d_4058_49 {σ : Nat → Nat} {n0 : Nat} {bf : ab_B} : decode (ab_code (zx σ n0 bf).1 4058) 49 = .ok (.aload_n 0, 1) := zd zm_4058 (by decide +kernel)
theorem d_4058_50 {σ : Nat → Nat} {n0 : Nat} {bf : ab_B} : decode (ab_code (zx σ n0 bf).1 4058) 50 = .ok (.iload_n 1, 1) := zd zm_4058 (by decide +kernel)
theorem d_4058_51 {σ : Nat → Nat} {n0 : Nat} {bf : ab_B} : decode (ab_code (zx σ n0 bf).1 4058) 51 = .ok (.invokevirtual 118, 3) := zd zm_4058 (by decide +kernel)
theorem d_4058_54 {σ : Nat → Nat} {n0 : Nat} {bf : ab_B} : decode (ab_code (zx σ n0 bf).1 4058) 54 = .ok (.ifnull 9, 3) := zd zm_4058 (by decide +kernel)
theorem d_4058_57 {σ : Nat → Nat} {n0 : Nat} {bf : ab_B} : decode (ab_code (zx σ n0 bf).1 4058) 57 = .ok (.aload_n 0, 1) := zd zm_4058 (by decide +kernel)
theorem d_4058_58 {σ : Nat → Nat} {n0 : Nat} {bf : ab_B} : decode (ab_code (zx σ n0 bf).1 4058) 58 = .ok (.iconst 4, 1) := zd zm_4058 (by decide +kernel)
theorem d_4058_59 {σ : Nat → Nat} {n0 : Nat} {bf : ab_B} : decode (ab_code (zx σ n0 bf).1 4058) 59 = .ok (.invokevirtual 25, 3) := zd zm_4058 (by decide +kernel)
theorem d_4058_62 {σ : Nat → Nat} {n0 : Nat} {bf : ab_B} : decode (ab_code (zx σ n0 bf).1 4058) 62 = .ok (.athrow, 1) := zd zm_4058 (by decide +kernel)
theorem d_4058_63 {σ : Nat → Nat} {n0 : Nat} {bf : ab_B} : decode (ab_code (zx σ n0 bf).1 4058) 63 = .ok (.aload_n 0, 1) := zd zm_4058 (by decide +kernel)
theorem d_4058_64 {σ : Nat → Nat} {n0 : Nat} {bf : ab_B} : decode (ab_code (zx σ n0 bf).1 4058) 64 = .ok (.iload_n 1, 1) := zd zm_4058 (by decide +kernel)
theorem d_4058_65 {σ : Nat → Nat} {n0 : Nat} {bf : ab_B} : decode (ab_code (zx σ n0 bf).1 4058) 65 = .ok (.iconst 1, 1) := zd zm_4058 (by decide +kernel)
theorem d_4058_66 {σ : Nat → Nat} {n0 : Nat} {bf : ab_B} : decode (ab_code (zx σ n0 bf).1 4058) 66 = .ok (.aload_n 2, 1) := zd zm_4058 (by decide +kernel)
theorem d_4058_67 {σ : Nat → Nat} {n0 : Nat} {bf : ab_B} : decode (ab_code (zx σ n0 bf).1 4058) 67 = .ok (.invokevirtual 165, 3) := zd zm_4058 (by decide +kernel)
theorem d_4058_70 {σ : Nat → Nat} {n0 : Nat} {bf : ab_B} : decode (ab_code (zx σ n0 bf).1 4058) 70 = .ok (.pop, 1) := zd zm_4058 (by decide +kernel)
theorem d_4058_71 {σ : Nat → Nat} {n0 : Nat} {bf : ab_B} : decode (ab_code (zx σ n0 bf).1 4058) 71 = .ok (.aload_n 0, 1) := zd zm_4058 (by decide +kernel)
theorem d_4058_72 {σ : Nat → Nat} {n0 : Nat} {bf : ab_B} : decode (ab_code (zx σ n0 bf).1 4058) 72 = .ok (.bipush 59, 2) := zd zm_4058 (by decide +kernel)
theorem d_4058_74 {σ : Nat → Nat} {n0 : Nat} {bf : ab_B} : decode (ab_code (zx σ n0 bf).1 4058) 74 = .ok (.invokevirtual 224, 3) := zd zm_4058 (by decide +kernel)
theorem d_4058_77 {σ : Nat → Nat} {n0 : Nat} {bf : ab_B} : decode (ab_code (zx σ n0 bf).1 4058) 77 = .ok (.aload_n 0, 1) := zd zm_4058 (by decide +kernel)
theorem d_4058_78 {σ : Nat → Nat} {n0 : Nat} {bf : ab_B} : decode (ab_code (zx σ n0 bf).1 4058) 78 = .ok (.getfield 5, 3) := zd zm_4058 (by decide +kernel)
theorem d_4058_81 {σ : Nat → Nat} {n0 : Nat} {bf : ab_B} : decode (ab_code (zx σ n0 bf).1 4058) 81 = .ok (.invokevirtual 36, 3) := zd zm_4058 (by decide +kernel)
theorem d_4058_84 {σ : Nat → Nat} {n0 : Nat} {bf : ab_B} : decode (ab_code (zx σ n0 bf).1 4058) 84 = .ok (.ifCond .ne (-72), 3) := zd zm_4058 (by decide +kernel)
theorem d_4058_87 {σ : Nat → Nat} {n0 : Nat} {bf : ab_B} : decode (ab_code (zx σ n0 bf).1 4058) 87 = .ok (.iconst 0, 1) := zd zm_4058 (by decide +kernel)
theorem d_4058_88 {σ : Nat → Nat} {n0 : Nat} {bf : ab_B} : decode (ab_code (zx σ n0 bf).1 4058) 88 = .ok (.istore_n 1, 1) := zd zm_4058 (by decide +kernel)
theorem d_4058_89 {σ : Nat → Nat} {n0 : Nat} {bf : ab_B} : decode (ab_code (zx σ n0 bf).1 4058) 89 = .ok (.iload_n 1, 1) := zd zm_4058 (by decide +kernel)
theorem d_4058_90 {σ : Nat → Nat} {n0 : Nat} {bf : ab_B} : decode (ab_code (zx σ n0 bf).1 4058) 90 = .ok (.aload_n 0, 1) := zd zm_4058 (by decide +kernel)
theorem d_4058_91 {σ : Nat → Nat} {n0 : Nat} {bf : ab_B} : decode (ab_code (zx σ n0 bf).1 4058) 91 = .ok (.getfield 186, 3) := zd zm_4058 (by decide +kernel)
theorem d_4058_94 {σ : Nat → Nat} {n0 : Nat} {bf : ab_B} : decode (ab_code (zx σ n0 bf).1 4058) 94 = .ok (.invokevirtual 50, 3) := zd zm_4058 (by decide +kernel)
theorem d_4058_97 {σ : Nat → Nat} {n0 : Nat} {bf : ab_B} : decode (ab_code (zx σ n0 bf).1 4058) 97 = .ok (.if_icmp .ge 81, 3) := zd zm_4058 (by decide +kernel)
theorem d_4058_100 {σ : Nat → Nat} {n0 : Nat} {bf : ab_B} : decode (ab_code (zx σ n0 bf).1 4058) 100 = .ok (.aload_n 0, 1) := zd zm_4058 (by decide +kernel)
theorem d_4058_101 {σ : Nat → Nat} {n0 : Nat} {bf : ab_B} : decode (ab_code (zx σ n0 bf).1 4058) 101 = .ok (.aload_n 0, 1) := zd zm_4058 (by decide +kernel)
theorem d_4058_102 {σ : Nat → Nat} {n0 : Nat} {bf : ab_B} : decode (ab_code (zx σ n0 bf).1 4058) 102 = .ok (.getfield 191, 3) := zd zm_4058 (by decide +kernel)
theorem d_4058_105 {σ : Nat → Nat} {n0 : Nat} {bf : ab_B} : decode (ab_code (zx σ n0 bf).1 4058) 105 = .ok (.iload_n 1, 1) := zd zm_4058 (by decide +kernel)
theorem d_4058_106 {σ : Nat → Nat} {n0 : Nat} {bf : ab_B} : decode (ab_code (zx σ n0 bf).1 4058) 106 = .ok (.invokevirtual 56, 3) := zd zm_4058 (by decide +kernel)
theorem d_4058_109 {σ : Nat → Nat} {n0 : Nat} {bf : ab_B} : decode (ab_code (zx σ n0 bf).1 4058) 109 = .ok (.checkcast 313, 3) := zd zm_4058 (by decide +kernel)
theorem d_4058_112 {σ : Nat → Nat} {n0 : Nat} {bf : ab_B} : decode (ab_code (zx σ n0 bf).1 4058) 112 = .ok (.invokevirtual 315, 3) := zd zm_4058 (by decide +kernel)
theorem d_4058_115 {σ : Nat → Nat} {n0 : Nat} {bf : ab_B} : decode (ab_code (zx σ n0 bf).1 4058) 115 = .ok (.invokevirtual 318, 3) := zd zm_4058 (by decide +kernel)
theorem d_4058_118 {σ : Nat → Nat} {n0 : Nat} {bf : ab_B} : decode (ab_code (zx σ n0 bf).1 4058) 118 = .ok (.astore_n 2, 1) := zd zm_4058 (by decide +kernel)
theorem d_4058_119 {σ : Nat → Nat} {n0 : Nat} {bf : ab_B} : decode (ab_code (zx σ n0 bf).1 4058) 119 = .ok (.aload_n 2, 1) := zd zm_4058 (by decide +kernel)
theorem d_4058_120 {σ : Nat → Nat} {n0 : Nat} {bf : ab_B} : decode (ab_code (zx σ n0 bf).1 4058) 120 = .ok (.ifnull 11, 3) := zd zm_4058 (by decide +kernel)
theorem d_4058_123 {σ : Nat → Nat} {n0 : Nat} {bf : ab_B} : decode (ab_code (zx σ n0 bf).1 4058) 123 = .ok (.aload_n 2, 1) := zd zm_4058 (by decide +kernel)
theorem d_4058_124 {σ : Nat → Nat} {n0 : Nat} {bf : ab_B} : decode (ab_code (zx σ n0 bf).1 4058) 124 = .ok (.getfield 62, 3) := zd zm_4058 (by decide +kernel)
theorem d_4058_127 {σ : Nat → Nat} {n0 : Nat} {bf : ab_B} : decode (ab_code (zx σ n0 bf).1 4058) 127 = .ok (.iconst 1, 1) := zd zm_4058 (by decide +kernel)
theorem d_4058_128 {σ : Nat → Nat} {n0 : Nat} {bf : ab_B} : decode (ab_code (zx σ n0 bf).1 4058) 128 = .ok (.if_icmp .eq 26, 3) := zd zm_4058 (by decide +kernel)
theorem d_4058_131 {σ : Nat → Nat} {n0 : Nat} {bf : ab_B} : decode (ab_code (zx σ n0 bf).1 4058) 131 = .ok (.new 3, 3) := zd zm_4058 (by decide +kernel)
theorem d_4058_134 {σ : Nat → Nat} {n0 : Nat} {bf : ab_B} : decode (ab_code (zx σ n0 bf).1 4058) 134 = .ok (.dup, 1) := zd zm_4058 (by decide +kernel)
theorem d_4058_135 {σ : Nat → Nat} {n0 : Nat} {bf : ab_B} : decode (ab_code (zx σ n0 bf).1 4058) 135 = .ok (.iconst 3, 1) := zd zm_4058 (by decide +kernel)
theorem d_4058_136 {σ : Nat → Nat} {n0 : Nat} {bf : ab_B} : decode (ab_code (zx σ n0 bf).1 4058) 136 = .ok (.aload_n 0, 1) := zd zm_4058 (by decide +kernel)
theorem d_4058_137 {σ : Nat → Nat} {n0 : Nat} {bf : ab_B} : decode (ab_code (zx σ n0 bf).1 4058) 137 = .ok (.getfield 194, 3) := zd zm_4058 (by decide +kernel)
theorem d_4058_140 {σ : Nat → Nat} {n0 : Nat} {bf : ab_B} : decode (ab_code (zx σ n0 bf).1 4058) 140 = .ok (.iload_n 1, 1) := zd zm_4058 (by decide +kernel)
theorem d_4058_141 {σ : Nat → Nat} {n0 : Nat} {bf : ab_B} : decode (ab_code (zx σ n0 bf).1 4058) 141 = .ok (.invokevirtual 56, 3) := zd zm_4058 (by decide +kernel)
theorem d_4058_144 {σ : Nat → Nat} {n0 : Nat} {bf : ab_B} : decode (ab_code (zx σ n0 bf).1 4058) 144 = .ok (.checkcast 313, 3) := zd zm_4058 (by decide +kernel)
theorem d_4058_147 {σ : Nat → Nat} {n0 : Nat} {bf : ab_B} : decode (ab_code (zx σ n0 bf).1 4058) 147 = .ok (.invokevirtual 315, 3) := zd zm_4058 (by decide +kernel)
theorem d_4058_150 {σ : Nat → Nat} {n0 : Nat} {bf : ab_B} : decode (ab_code (zx σ n0 bf).1 4058) 150 = .ok (.invokespecial 17, 3) := zd zm_4058 (by decide +kernel)
theorem d_4058_153 {σ : Nat → Nat} {n0 : Nat} {bf : ab_B} : decode (ab_code (zx σ n0 bf).1 4058) 153 = .ok (.athrow, 1) := zd zm_4058 (by decide +kernel)
theorem d_4058_154 {σ : Nat → Nat} {n0 : Nat} {bf : ab_B} : decode (ab_code (zx σ n0 bf).1 4058) 154 = .ok (.aload_n 0, 1) := zd zm_4058 (by decide +kernel)
theorem d_4058_155 {σ : Nat → Nat} {n0 : Nat} {bf : ab_B} : decode (ab_code (zx σ n0 bf).1 4058) 155 = .ok (.getfield 186, 3) := zd zm_4058 (by decide +kernel)
theorem d_4058_158 {σ : Nat → Nat} {n0 : Nat} {bf : ab_B} : decode (ab_code (zx σ n0 bf).1 4058) 158 = .ok (.iload_n 1, 1) := zd zm_4058 (by decide +kernel)
theorem d_4058_159 {σ : Nat → Nat} {n0 : Nat} {bf : ab_B} : decode (ab_code (zx σ n0 bf).1 4058) 159 = .ok (.invokevirtual 56, 3) := zd zm_4058 (by decide +kernel)
theorem d_4058_162 {σ : Nat → Nat} {n0 : Nat} {bf : ab_B} : decode (ab_code (zx σ n0 bf).1 4058) 162 = .ok (.checkcast 70, 3) := zd zm_4058 (by decide +kernel)
theorem d_4058_165 {σ : Nat → Nat} {n0 : Nat} {bf : ab_B} : decode (ab_code (zx σ n0 bf).1 4058) 165 = .ok (.aload_n 2, 1) := zd zm_4058 (by decide +kernel)
theorem d_4058_166 {σ : Nat → Nat} {n0 : Nat} {bf : ab_B} : decode (ab_code (zx σ n0 bf).1 4058) 166 = .ok (.getfield 65, 3) := zd zm_4058 (by decide +kernel)
theorem d_4058_169 {σ : Nat → Nat} {n0 : Nat} {bf : ab_B} : decode (ab_code (zx σ n0 bf).1 4058) 169 = .ok (.putfield 320, 3) := zd zm_4058 (by decide +kernel)
theorem d_4058_172 {σ : Nat → Nat} {n0 : Nat} {bf : ab_B} : decode (ab_code (zx σ n0 bf).1 4058) 172 = .ok (.iinc 1 1, 3) := zd zm_4058 (by decide +kernel)
theorem d_4058_175 {σ : Nat → Nat} {n0 : Nat} {bf : ab_B} : decode (ab_code (zx σ n0 bf).1 4058) 175 = .ok (.goto (-86), 3) := zd zm_4058 (by decide +kernel)
theorem d_4058_178 {σ : Nat → Nat} {n0 : Nat} {bf : ab_B} : decode (ab_code (zx σ n0 bf).1 4058) 178 = .ok (.aload_n 0, 1) := zd zm_4058 (by decide +kernel)
theorem d_4058_179 {σ : Nat → Nat} {n0 : Nat} {bf : ab_B} : decode (ab_code (zx σ n0 bf).1 4058) 179 = .ok (.getfield 186, 3) := zd zm_4058 (by decide +kernel)
theorem d_4058_182 {σ : Nat → Nat} {n0 : Nat} {bf : ab_B} : decode (ab_code (zx σ n0 bf).1 4058) 182 = .ok (.invokevirtual 189, 3) := zd zm_4058 (by decide +kernel)
theorem d_4058_185 {σ : Nat → Nat} {n0 : Nat} {bf : ab_B} : decode (ab_code (zx σ n0 bf).1 4058) 185 = .ok (.aload_n 0, 1) := zd zm_4058 (by decide +kernel)
theorem d_4058_186 {σ : Nat → Nat} {n0 : Nat} {bf : ab_B} : decode (ab_code (zx σ n0 bf).1 4058) 186 = .ok (.getfield 191, 3) := zd zm_4058 (by decide +kernel)
theorem d_4058_189 {σ : Nat → Nat} {n0 : Nat} {bf : ab_B} : decode (ab_code (zx σ n0 bf).1 4058) 189 = .ok (.invokevirtual 189, 3) := zd zm_4058 (by decide +kernel)
theorem d_4058_192 {σ : Nat → Nat} {n0 : Nat} {bf : ab_B} : decode (ab_code (zx σ n0 bf).1 4058) 192 = .ok (.aload_n 0, 1) := zd zm_4058 (by decide +kernel)
theorem d_4058_193 {σ : Nat → Nat} {n0 : Nat} {bf : ab_B} : decode (ab_code (zx σ n0 bf).1 4058) 193 = .ok (.getfield 194, 3) := zd zm_4058 (by decide +kernel)
theorem d_4058_196 {σ : Nat → Nat} {n0 : Nat} {bf : ab_B} : decode (ab_code (zx σ n0 bf).1 4058) 196 = .ok (.invokevirtual 189, 3) := zd zm_4058 (by decide +kernel)
theorem d_4058_199 {σ : Nat → Nat} {n0 : Nat} {bf : ab_B} : decode (ab_code (zx σ n0 bf).1 4058) 199 = .ok (.aload_n 0, 1) := zd zm_4058 (by decide +kernel)
theorem d_4058_200 {σ : Nat → Nat} {n0 : Nat} {bf : ab_B} : decode (ab_code (zx σ n0 bf).1 4058) 200 = .ok (.iconst 0, 1) := zd zm_4058 (by decide +kernel)
theorem d_4058_201 {σ : Nat → Nat} {n0 : Nat} {bf : ab_B} : decode (ab_code (zx σ n0 bf).1 4058) 201 = .ok (.putfield 203, 3) := zd zm_4058 (by decide +kernel)
theorem d_4058_204 {σ : Nat → Nat} {n0 : Nat} {bf : ab_B} : decode (ab_code (zx σ n0 bf).1 4058) 204 = .ok (.return_, 1) := zd zm_4058 (by decide +kernel)
def w_X5_types_71 (X : zs_X) (d : Nat) (p0 : Nat) (S : zs_T) (Q : zs_Q) : Prop :=
  (zs_K S p0 = some (.inl 4) ∧ zs_C X d 4008 [.ref p0, .int (59 : Int32)] S (zs_kV (fun S2 => (zs_K S2 p0 = some (.inl 4) ∧ ∃ b5, (zs_R S2 4000 p0) = some b5 ∧ zs_K S2 b5 = some (.inl 5) ∧ zs_C X d 5016 [.ref b5] S2 (zs_kI (fun v9 S8 => (((¬ v9 = 0 → zs_U X d 4058 12 [(0, .ref p0)] [] S8 Q) ∧ (¬ (¬ v9 = 0) → (zs_U X d 4058 89 [(0, .ref p0), (1, .int (0 : Int32))] [] S8 Q))))) Q))) Q))
theorem u_X5_types_71 {σ : Nat → Nat} {n0 : Nat} {bf : ab_B} {d : Nat} {p0 : Nat} {S : zs_T} {Q : zs_Q} (hB : zt_B bf) (h : w_X5_types_71 (zx σ n0 bf) d p0 S Q) : zs_U (zx σ n0 bf) d 4058 71 [(0, .ref p0)] [] S Q := by
  unfold w_X5_types_71 at h
  refine zu_aload_n d_4058_71 rfl (zs_ra _) ?_
  refine zu_bipush d_4058_72 zj_59 ?_
  obtain ⟨k1, h⟩ := h
  refine zc_4_224 (x0 := (59 : Int32)) hB rfl k1 d_4058_74 (Nat.le_of_ble_eq_true rfl) h (fun S2 h => ?_)
  refine zu_aload_n d_4058_77 rfl (zs_ra _) ?_
  obtain ⟨k4, h⟩ := h
  refine zg_4_5 rfl d_4058_78 k4 ?_
  obtain ⟨b5, e6, h⟩ := h
  refine zs_stk0 (zs_rfe e6) ?_
  obtain ⟨k7, h⟩ := h
  refine zc_4_36  hB rfl k7 d_4058_81 (Nat.le_of_ble_eq_true rfl) h (fun v9 S8 h => ?_)
  refine zu_ifne (t := 12) d_4058_84 rfl (fun c10 => ?_) (fun c10 => ?_)
  · have h := h.1 c10
    exact h.weak ⟨rfl, trivial⟩
  · have h := h.2 c10
    refine zu_iconst d_4058_87 zi_0 ?_
    refine zu_istore_n d_4058_88 (zs_lt zq_4058 rfl) ?_
    exact h.weak ⟨rfl, rfl, trivial⟩
def w_X5_types_63 (X : zs_X) (d : Nat) (p0 : Nat) (p1 : Int32) (p2 : Option Nat) (S : zs_T) (Q : zs_Q) : Prop :=
  (zs_K S p0 = some (.inl 4) ∧ zs_C X d 4003 [.ref p0, .int p1, .int (1 : Int32), va_rf p2] S (zs_kR (fun v3 S2 => (w_X5_types_71 X d p0 S2 Q)) Q))
theorem u_X5_types_63 {σ : Nat → Nat} {n0 : Nat} {bf : ab_B} {d : Nat} {p0 : Nat} {p1 : Int32} {p2 : Option Nat} {S : zs_T} {Q : zs_Q} (hB : zt_B bf) (h : w_X5_types_63 (zx σ n0 bf) d p0 p1 p2 S Q) : zs_U (zx σ n0 bf) d 4058 63 [(0, .ref p0), (1, .int p1), (2, va_rf p2)] [] S Q := by
  unfold w_X5_types_63 at h
  refine zu_aload_n d_4058_63 rfl (zs_ra _) ?_
  refine zu_iload_n d_4058_64 rfl ?_
  refine zu_iconst d_4058_65 zi_1 ?_
  refine zu_aload_n d_4058_66 rfl (zs_rr _) ?_
  obtain ⟨k1, h⟩ := h
  refine zc_4_165 (x0 := p1) (x1 := (1 : Int32)) (x2 := p2) hB rfl k1 d_4058_67 (Nat.le_of_ble_eq_true rfl) h (fun v3 S2 h => ?_)
  refine zu_pop d_4058_70 (zs_cat _) ?_
  exact (u_X5_types_71 hB h).weak ⟨rfl, trivial⟩
def w_X5_types_57 (X : zs_X) (d : Nat) (p0 : Nat) (S : zs_T) (Q : zs_Q) : Prop :=
  (zs_K S p0 = some (.inl 4) ∧ zs_C X d 4006 [.ref p0, .int (4 : Int32)] S (zs_kR (fun v3 S2 => (∃ b4, v3 = some b4 ∧ Q (.threw b4) S2)) Q))
theorem u_X5_types_57 {σ : Nat → Nat} {n0 : Nat} {bf : ab_B} {d : Nat} {p0 : Nat} {S : zs_T} {Q : zs_Q} (hB : zt_B bf) (h : w_X5_types_57 (zx σ n0 bf) d p0 S Q) : zs_U (zx σ n0 bf) d 4058 57 [(0, .ref p0)] [] S Q := by
  unfold w_X5_types_57 at h
  refine zu_aload_n d_4058_57 rfl (zs_ra _) ?_
  refine zu_iconst d_4058_58 zi_4 ?_
  obtain ⟨k1, h⟩ := h
  refine zc_4_25 (x0 := (4 : Int32)) hB rfl k1 d_4058_59 (Nat.le_of_ble_eq_true rfl) h (fun v3 S2 h => ?_)
  obtain ⟨b4, e5, h⟩ := h
  refine zs_stk0 (zs_rfe e5) ?_
  exact zu_throw d_4058_62 h
def w_X5_types_12 (X : zs_X) (d : Nat) (p0 : Nat) (S : zs_T) (Q : zs_Q) : Prop :=
  (zs_K S p0 = some (.inl 4) ∧ zs_C X d 4011 [.ref p0] S (zs_kI (fun v3 S2 => (zs_K S2 p0 = some (.inl 4) ∧ ∃ b5, (zs_R S2 4000 p0) = some b5 ∧ zs_K S2 b5 = some (.inl 5) ∧ zs_C X d 5017 [.ref b5, .int (40 : Int32)] S2 (zs_kI (fun v9 S8 => (((v9 = 0 → (zs_K S8 p0 = some (.inl 4) ∧ zs_C X d 4008 [.ref p0, .int (61 : Int32)] S8 (zs_kV (fun S12 => (zs_K S12 p0 = some (.inl 4) ∧ zs_C X d 4077 [.ref p0, .int (0 : Int32)] S12 (zs_kR (fun v16 S15 => (zs_K S15 p0 = some (.inl 4) ∧ zs_C X d 4012 [.ref p0, .int v3] S15 (zs_kR (fun v19 S18 => (((v19 = none → w_X5_types_63 X d p0 v3 v16 S18 Q) ∧ (∀ b20, v19 = some b20 → w_X5_types_57 X d p0 S18 Q)))) Q))) Q))) Q))) ∧ (¬ (v9 = 0) → (zs_K S8 p0 = some (.inl 4) ∧ zs_C X d 4059 [.ref p0, .int v3] S8 (zs_kV (fun S23 => (w_X5_types_71 X d p0 S23 Q)) Q)))))) Q))) Q))
theorem u_X5_types_12 {σ : Nat → Nat} {n0 : Nat} {bf : ab_B} {d : Nat} {p0 : Nat} {S : zs_T} {Q : zs_Q} (hB : zt_B bf) (h : w_X5_types_12 (zx σ n0 bf) d p0 S Q) : zs_U (zx σ n0 bf) d 4058 12 [(0, .ref p0)] [] S Q := by
  unfold w_X5_types_12 at h
  refine zu_aload_n d_4058_12 rfl (zs_ra _) ?_
  obtain ⟨k1, h⟩ := h
  refine zc_4_290  hB rfl k1 d_4058_13 (Nat.le_of_ble_eq_true rfl) h (fun v3 S2 h => ?_)
  refine zu_istore_n d_4058_16 (zs_lt zq_4058 rfl) ?_
  refine zu_aload_n d_4058_17 rfl (zs_ra _) ?_
  obtain ⟨k4, h⟩ := h
  refine zg_4_5 rfl d_4058_18 k4 ?_
  refine zu_bipush d_4058_21 zj_40 ?_
  obtain ⟨b5, e6, h⟩ := h
  refine zs_stk1 (zs_rfe e6) ?_
  obtain ⟨k7, h⟩ := h
  refine zc_4_21 (x0 := (40 : Int32)) hB rfl k7 d_4058_23 (Nat.le_of_ble_eq_true rfl) h (fun v9 S8 h => ?_)
  refine zu_ifeq (t := 37) d_4058_26 rfl (fun c10 => ?_) (fun c10 => ?_)
  · have h := h.1 c10
    refine zu_aload_n d_4058_37 rfl (zs_ra _) ?_
    refine zu_bipush d_4058_38 zj_61 ?_
    obtain ⟨k11, h⟩ := h
    refine zc_4_224 (x0 := (61 : Int32)) hB rfl k11 d_4058_40 (Nat.le_of_ble_eq_true rfl) h (fun S12 h => ?_)
    refine zu_aload_n d_4058_43 rfl (zs_ra _) ?_
    refine zu_iconst d_4058_44 zi_0 ?_
    obtain ⟨k14, h⟩ := h
    refine zc_4_309 (x0 := (0 : Int32)) hB rfl k14 d_4058_45 (Nat.le_of_ble_eq_true rfl) h (fun v16 S15 h => ?_)
    refine zu_astore_n d_4058_48 (zs_rr _) (zs_lt zq_4058 rfl) ?_
    refine zu_aload_n d_4058_49 rfl (zs_ra _) ?_
    refine zu_iload_n d_4058_50 rfl ?_
    obtain ⟨k17, h⟩ := h
    refine zc_4_118 (x0 := v3) hB rfl k17 d_4058_51 (Nat.le_of_ble_eq_true rfl) h (fun v19 S18 h => ?_)
    refine zu_ifnull (u := v19) (t := 63) d_4058_54 rfl rfl (fun e21 => ?_) (fun b20 e21 => ?_)
    · have h := h.1 e21
      exact (u_X5_types_63 hB h).weak ⟨rfl, rfl, rfl, trivial⟩
    · have h := h.2 b20 e21
      exact (u_X5_types_57 hB h).weak ⟨rfl, trivial⟩
  · have h := h.2 c10
    refine zu_aload_n d_4058_29 rfl (zs_ra _) ?_
    refine zu_iload_n d_4058_30 rfl ?_
    obtain ⟨k22, h⟩ := h
    refine zc_4_307 (x0 := v3) hB rfl k22 d_4058_31 (Nat.le_of_ble_eq_true rfl) h (fun S23 h => ?_)
    refine zu_goto (t := 71) d_4058_34 rfl ?_
    exact (u_X5_types_71 hB h).weak ⟨rfl, trivial⟩
def w_X5_types_204 (X : zs_X) (d : Nat)  (S : zs_T) (Q : zs_Q) : Prop :=
  (Q (.returned none) S)
theorem u_X5_types_204 {σ : Nat → Nat} {n0 : Nat} {bf : ab_B} {d : Nat}  {S : zs_T} {Q : zs_Q} (hB : zt_B bf) (h : w_X5_types_204 (zx σ n0 bf) d  S Q) : zs_U (zx σ n0 bf) d 4058 204 [] [] S Q := by
  unfold w_X5_types_204 at h
  exact zu_vret d_4058_204 zr_4058 h
def w_X5_types_131 (X : zs_X) (d : Nat) (p0 : Nat) (p1 : Int32) (S : zs_T) (Q : zs_Q) : Prop :=
  (∀ a1 S2, a1 = zs_N S → S2 = zs_nw S (.inl 9) 8 → zs_K S2 p0 = some (.inl 4) ∧ ∃ b7, (zs_R S2 4015 p0) = some b7 ∧ zs_K S2 b7 = some (.inl 16) ∧ zs_C X d 16009 [.ref b7, .int p1] S2 (zs_kR (fun v11 S10 => ((∀ a, v11 = some a → zs_K S10 a = some (.inl 21)) ∧ ∃ b13, v11 = some b13 ∧ zs_K S10 b13 = some (.inl 21) ∧ zs_C X d 21000 [.ref b13] S10 (zs_kI (fun v17 S16 => (zs_C X d 9000 [.ref a1, .int (3 : Int32), .int v17] S16 (zs_kV (fun S18 => (Q (.threw a1) S18)) Q))) Q))) Q))
theorem u_X5_types_131 {σ : Nat → Nat} {n0 : Nat} {bf : ab_B} {d : Nat} {p0 : Nat} {p1 : Int32} {S : zs_T} {Q : zs_Q} (hB : zt_B bf) (h : w_X5_types_131 (zx σ n0 bf) d p0 p1 S Q) : zs_U (zx σ n0 bf) d 4058 131 [(0, .ref p0), (1, .int p1)] [] S Q := by
  unfold w_X5_types_131 at h
  refine zn_4_3 rfl d_4058_131 ?_
  generalize e4 : zs_nw S (.inl 9) 8 = S2
  generalize e3 : zs_N S = a1
  have h := h a1 S2 e3.symm e4.symm
  have k5 := zs_kn e3 e4
  refine zu_dup d_4058_134 rfl ?_
  refine zu_iconst d_4058_135 zi_3 ?_
  refine zu_aload_n d_4058_136 rfl (zs_ra _) ?_
  obtain ⟨k6, h⟩ := h
  refine zg_4_194 rfl d_4058_137 k6 ?_
  refine zu_iload_n d_4058_140 rfl ?_
  obtain ⟨b7, e8, h⟩ := h
  refine zs_stk1 (zs_rfe e8) ?_
  obtain ⟨k9, h⟩ := h
  refine zc_4_56 (x0 := p1) hB rfl k9 d_4058_141 (Nat.le_of_ble_eq_true rfl) h (fun v11 S10 h => ?_)
  obtain ⟨k12, h⟩ := h
  refine zk_4_313 (o := v11) rfl d_4058_144 k12 ?_
  obtain ⟨b13, e14, h⟩ := h
  refine zs_stk0 (zs_rfe e14) ?_
  obtain ⟨k15, h⟩ := h
  refine zc_4_315  hB rfl k15 d_4058_147 (Nat.le_of_ble_eq_true rfl) h (fun v17 S16 h => ?_)
  refine zc_4_17 (x0 := (3 : Int32)) (x1 := v17) hB rfl d_4058_150 (Nat.le_of_ble_eq_true rfl) h (fun S18 h => ?_)
  exact zu_throw d_4058_153 h
def w_X5_types_123 (X : zs_X) (d : Nat) (p0 : Nat) (p1 : Int32) (p2 : Option Nat) (S : zs_T) (Q : zs_Q) : Prop :=
  (∃ b1, p2 = some b1 ∧ zs_K S b1 = some (.inl 7) ∧ (((zs_I S 7001 b1) = (1 : Int32) → (zs_K S p0 = some (.inl 4) ∧ ∃ b6, (zs_R S 4013 p0) = some b6 ∧ zs_K S b6 = some (.inl 16) ∧ zs_C X d 16009 [.ref b6, .int p1] S (zs_kR (fun v10 S9 => ((∀ a, v10 = some a → zs_K S9 a = some (.inl 6)) ∧ zs_K S9 b1 = some (.inl 7) ∧ ∃ b13, v10 = some b13 ∧ zs_K S9 b13 = some (.inl 6) ∧ ab_n0 X.1 ≤ b13 ∧ ∀ S17, S17 = zs_sR S9 6002 b13 (zs_R S9 7002 b1) → zs_U X d 4058 89 [(0, .ref p0), (1, .int (p1 + (1 : Int32)))] [] S17 Q)) Q))) ∧ (¬ ((zs_I S 7001 b1) = (1 : Int32)) → w_X5_types_131 X d p0 p1 S Q)))
theorem u_X5_types_123 {σ : Nat → Nat} {n0 : Nat} {bf : ab_B} {d : Nat} {p0 : Nat} {p1 : Int32} {p2 : Option Nat} {S : zs_T} {Q : zs_Q} (hB : zt_B bf) (h : w_X5_types_123 (zx σ n0 bf) d p0 p1 p2 S Q) : zs_U (zx σ n0 bf) d 4058 123 [(0, .ref p0), (1, .int p1), (2, va_rf p2)] [] S Q := by
  unfold w_X5_types_123 at h
  refine zu_aload_n d_4058_123 rfl (zs_rr _) ?_
  obtain ⟨b1, e2, h⟩ := h
  refine zs_stk0 (zs_rfe e2) ?_
  obtain ⟨k3, h⟩ := h
  refine zg_4_62 rfl d_4058_124 k3 ?_
  refine zu_iconst d_4058_127 zi_1 ?_
  refine zu_cmpeq (t := 154) d_4058_128 rfl (fun c4 => ?_) (fun c4 => ?_)
  · have h := h.1 c4
    refine zu_aload_n d_4058_154 rfl (zs_ra _) ?_
    obtain ⟨k5, h⟩ := h
    refine zg_4_186 rfl d_4058_155 k5 ?_
    refine zu_iload_n d_4058_158 rfl ?_
    obtain ⟨b6, e7, h⟩ := h
    refine zs_stk1 (zs_rfe e7) ?_
    obtain ⟨k8, h⟩ := h
    refine zc_4_56 (x0 := p1) hB rfl k8 d_4058_159 (Nat.le_of_ble_eq_true rfl) h (fun v10 S9 h => ?_)
    obtain ⟨k11, h⟩ := h
    refine zk_4_70 (o := v10) rfl d_4058_162 k11 ?_
    refine zu_aload_n d_4058_165 rfl (zs_rr _) ?_
    refine zs_stk0 (zs_rfe e2) ?_
    obtain ⟨k12, h⟩ := h
    refine zg_4_65 rfl d_4058_166 k12 ?_
    obtain ⟨b13, e14, h⟩ := h
    refine zs_stk1 (zs_rfe e14) ?_
    obtain ⟨k15, h⟩ := h
    obtain ⟨k16, h⟩ := h
    refine zp_4_320 (v := (zs_R S9 7002 b1)) rfl d_4058_169 k15 k16 ?_
    generalize e18 : zs_sR S9 6002 b13 (zs_R S9 7002 b1) = S17
    have h := h S17 e18.symm
    have K19 : ∀ b, zs_K S17 b = zs_K S9 b := zs_Kt e18 (zs_KsR _ _ _ _) (fun _ => rfl)
    refine zu_iinc d_4058_172 rfl zi_1 (zs_lt zq_4058 rfl) ?_
    refine zu_goto (t := 89) d_4058_175 rfl ?_
    exact h.weak ⟨rfl, rfl, trivial⟩
  · have h := h.2 c4
    exact (u_X5_types_131 hB h).weak ⟨rfl, rfl, trivial⟩
def w_X5_types_89 (X : zs_X) (d : Nat) (p0 : Nat) (p1 : Int32) (S : zs_T) (Q : zs_Q) : Prop :=
  (zs_K S p0 = some (.inl 4) ∧ ∃ b2, (zs_R S 4013 p0) = some b2 ∧ zs_K S b2 = some (.inl 16) ∧ zs_C X d 16001 [.ref b2] S (zs_kI (fun v6 S5 => (((v6 ≤ p1 → (zs_K S5 p0 = some (.inl 4) ∧ ∃ b9, (zs_R S5 4013 p0) = some b9 ∧ zs_K S5 b9 = some (.inl 16) ∧ zs_C X d 16006 [.ref b9] S5 (zs_kV (fun S12 => (zs_K S12 p0 = some (.inl 4) ∧ ∃ b15, (zs_R S12 4014 p0) = some b15 ∧ zs_K S12 b15 = some (.inl 16) ∧ zs_C X d 16006 [.ref b15] S12 (zs_kV (fun S18 => (zs_K S18 p0 = some (.inl 4) ∧ ∃ b21, (zs_R S18 4015 p0) = some b21 ∧ zs_K S18 b21 = some (.inl 16) ∧ zs_C X d 16006 [.ref b21] S18 (zs_kV (fun S24 => (zs_K S24 p0 = some (.inl 4) ∧ ab_n0 X.1 ≤ p0 ∧ ∀ S28, S28 = zs_sI S24 4017 p0 (0 : Int32) → w_X5_types_204 X d  S28 Q)) Q))) Q))) Q))) ∧ (¬ (v6 ≤ p1) → (zs_K S5 p0 = some (.inl 4) ∧ ∃ b32, (zs_R S5 4014 p0) = some b32 ∧ zs_K S5 b32 = some (.inl 16) ∧ zs_C X d 16009 [.ref b32, .int p1] S5 (zs_kR (fun v36 S35 => ((∀ a, v36 = some a → zs_K S35 a = some (.inl 21)) ∧ ∃ b38, v36 = some b38 ∧ zs_K S35 b38 = some (.inl 21) ∧ zs_C X d 21000 [.ref b38] S35 (zs_kI (fun v42 S41 => (zs_K S41 p0 = some (.inl 4) ∧ zs_C X d 4028 [.ref p0, .int v42] S41 (zs_kR (fun v45 S44 => (((v45 = none → w_X5_types_131 X d p0 p1 S44 Q) ∧ (∀ b46, v45 = some b46 → w_X5_types_123 X d p0 p1 v45 S44 Q)))) Q))) Q))) Q)))))) Q))
theorem u_X5_types_89 {σ : Nat → Nat} {n0 : Nat} {bf : ab_B} {d : Nat} {p0 : Nat} {p1 : Int32} {S : zs_T} {Q : zs_Q} (hB : zt_B bf) (h : w_X5_types_89 (zx σ n0 bf) d p0 p1 S Q) : zs_U (zx σ n0 bf) d 4058 89 [(0, .ref p0), (1, .int p1)] [] S Q := by
  unfold w_X5_types_89 at h
  refine zu_iload_n d_4058_89 rfl ?_
  refine zu_aload_n d_4058_90 rfl (zs_ra _) ?_
  obtain ⟨k1, h⟩ := h
  refine zg_4_186 rfl d_4058_91 k1 ?_
  obtain ⟨b2, e3, h⟩ := h
  refine zs_stk0 (zs_rfe e3) ?_
  obtain ⟨k4, h⟩ := h
  refine zc_4_50  hB rfl k4 d_4058_94 (Nat.le_of_ble_eq_true rfl) h (fun v6 S5 h => ?_)
  refine zu_cmpge (t := 178) d_4058_97 rfl (fun c7 => ?_) (fun c7 => ?_)
  · have h := h.1 c7
    refine zu_aload_n d_4058_178 rfl (zs_ra _) ?_
    obtain ⟨k8, h⟩ := h
    refine zg_4_186 rfl d_4058_179 k8 ?_
    obtain ⟨b9, e10, h⟩ := h
    refine zs_stk0 (zs_rfe e10) ?_
    obtain ⟨k11, h⟩ := h
    refine zc_4_189  hB rfl k11 d_4058_182 (Nat.le_of_ble_eq_true rfl) h (fun S12 h => ?_)
    refine zu_aload_n d_4058_185 rfl (zs_ra _) ?_
    obtain ⟨k14, h⟩ := h
    refine zg_4_191 rfl d_4058_186 k14 ?_
    obtain ⟨b15, e16, h⟩ := h
    refine zs_stk0 (zs_rfe e16) ?_
    obtain ⟨k17, h⟩ := h
    refine zc_4_189  hB rfl k17 d_4058_189 (Nat.le_of_ble_eq_true rfl) h (fun S18 h => ?_)
    refine zu_aload_n d_4058_192 rfl (zs_ra _) ?_
    obtain ⟨k20, h⟩ := h
    refine zg_4_194 rfl d_4058_193 k20 ?_
    obtain ⟨b21, e22, h⟩ := h
    refine zs_stk0 (zs_rfe e22) ?_
    obtain ⟨k23, h⟩ := h
    refine zc_4_189  hB rfl k23 d_4058_196 (Nat.le_of_ble_eq_true rfl) h (fun S24 h => ?_)
    refine zu_aload_n d_4058_199 rfl (zs_ra _) ?_
    refine zu_iconst d_4058_200 zi_0 ?_
    obtain ⟨k26, h⟩ := h
    obtain ⟨k27, h⟩ := h
    refine zp_4_203 (v := (0 : Int32)) rfl d_4058_201 k26 k27 (Or.inl rfl) ?_
    generalize e29 : zs_sI S24 4017 p0 (0 : Int32) = S28
    have h := h S28 e29.symm
    have K30 : ∀ b, zs_K S28 b = zs_K S24 b := zs_Kt e29 (zs_KsI _ _ _ _) (fun _ => rfl)
    exact (u_X5_types_204 hB h).weak trivial
  · have h := h.2 c7
    refine zu_aload_n d_4058_100 rfl (zs_ra _) ?_
    refine zu_aload_n d_4058_101 rfl (zs_ra _) ?_
    obtain ⟨k31, h⟩ := h
    refine zg_4_191 rfl d_4058_102 k31 ?_
    refine zu_iload_n d_4058_105 rfl ?_
    obtain ⟨b32, e33, h⟩ := h
    refine zs_stk1 (zs_rfe e33) ?_
    obtain ⟨k34, h⟩ := h
    refine zc_4_56 (x0 := p1) hB rfl k34 d_4058_106 (Nat.le_of_ble_eq_true rfl) h (fun v36 S35 h => ?_)
    obtain ⟨k37, h⟩ := h
    refine zk_4_313 (o := v36) rfl d_4058_109 k37 ?_
    obtain ⟨b38, e39, h⟩ := h
    refine zs_stk0 (zs_rfe e39) ?_
    obtain ⟨k40, h⟩ := h
    refine zc_4_315  hB rfl k40 d_4058_112 (Nat.le_of_ble_eq_true rfl) h (fun v42 S41 h => ?_)
    obtain ⟨k43, h⟩ := h
    refine zc_4_318 (x0 := v42) hB rfl k43 d_4058_115 (Nat.le_of_ble_eq_true rfl) h (fun v45 S44 h => ?_)
    refine zu_astore_n d_4058_118 (zs_rr _) (zs_lt zq_4058 rfl) ?_
    refine zu_aload_n d_4058_119 rfl (zs_rr _) ?_
    refine zu_ifnull (u := v45) (t := 131) d_4058_120 rfl rfl (fun e47 => ?_) (fun b46 e47 => ?_)
    · have h := h.1 e47
      exact (u_X5_types_131 hB h).weak ⟨rfl, rfl, trivial⟩
    · have h := h.2 b46 e47
      exact (u_X5_types_123 hB h).weak ⟨rfl, rfl, rfl, trivial⟩
def w_X5_types (X : zs_X) (d : Nat) (p0 : Nat) (S : zs_T) (Q : zs_Q) : Prop :=
  (zs_K S p0 = some (.inl 4) ∧ ∃ b2, (zs_R S 4000 p0) = some b2 ∧ zs_K S b2 = some (.inl 5) ∧ zs_C X d 5004 [.ref b2] S (zs_kV (fun S5 => (zs_K S5 p0 = some (.inl 4) ∧ ab_n0 X.1 ≤ p0 ∧ ∀ S9, S9 = zs_sI S5 4017 p0 (1 : Int32) → zs_U X d 4058 12 [(0, .ref p0)] [] S9 Q)) Q))
theorem u_X5_types {σ : Nat → Nat} {n0 : Nat} {bf : ab_B} {d : Nat} {p0 : Nat} {S : zs_T} {Q : zs_Q} (hB : zt_B bf) (hd : 1 ≤ d) (h : w_X5_types (zx σ n0 bf) (d - 1) p0 S Q) : zs_C (zx σ n0 bf) d 4058 [.ref p0] S Q := by
  have hL : lv_args 0 [.ref p0] = [(0, .ref p0)] := rfl
  refine zs_C.of1 (hB.2 4058 (by decide) (by decide)) hd (by rw [hL]; exact zs_sub_self _ (by exact ⟨rfl, trivial⟩)) ?_
  rw [hL]
  clear hL
  unfold w_X5_types at h
  refine zu_aload_n d_4058_0 rfl (zs_ra _) ?_
  obtain ⟨k1, h⟩ := h
  refine zg_4_5 rfl d_4058_1 k1 ?_
  obtain ⟨b2, e3, h⟩ := h
  refine zs_stk0 (zs_rfe e3) ?_
  obtain ⟨k4, h⟩ := h
  refine zc_4_29  hB rfl k4 d_4058_4 (Nat.le_of_ble_eq_true rfl) h (fun S5 h => ?_)
  refine zu_aload_n d_4058_7 rfl (zs_ra _) ?_
  refine zu_iconst d_4058_8 zi_1 ?_
  obtain ⟨k7, h⟩ := h
  obtain ⟨k8, h⟩ := h
  refine zp_4_203 (v := (1 : Int32)) rfl d_4058_9 k7 k8 (Or.inr rfl) ?_
  generalize e10 : zs_sI S5 4017 p0 (1 : Int32) = S9
  have h := h S9 e10.symm
  have K11 : ∀ b, zs_K S9 b = zs_K S5 b := zs_Kt e10 (zs_KsI _ _ _ _) (fun _ => rfl)
  exact h.weak ⟨rfl, trivial⟩
/-! SchemaPascal$Reader.schema(I)V -/
theorem zm_4059 {σ : Nat → Nat} {n0 : Nat} {bf : ab_B} : ab_code (zx σ n0 bf).1 4059 = prog_9_method_17_code := rfl
theorem zq_4059 {σ : Nat → Nat} {n0 : Nat} {bf : ab_B} : ab_maxL (zx σ n0 bf).1 4059 = 9 := rfl
theorem zr_4059 {σ : Nat → Nat} {n0 : Nat} {bf : ab_B} : ab_ret (zx σ n0 bf).1 4059 = (Option.none : Option Jvm.ClassFile.FieldType) := rfl
theorem d_4059_0 {σ : Nat → Nat} {n0 : Nat} {bf : ab_B} : decode (ab_code (zx σ n0 bf).1 4059) 0 = .ok (.aload_n 0, 1) := zd zm_4059 (by decide +kernel)
theorem d_4059_1 {σ : Nat → Nat} {n0 : Nat} {bf : ab_B} : decode (ab_code (zx σ n0 bf).1 4059) 1 = .ok (.bipush 10, 2) := zd zm_4059 (by decide +kernel)
theorem d_4059_3 {σ : Nat → Nat} {n0 : Nat} {bf : ab_B} : decode (ab_code (zx σ n0 bf).1 4059) 3 = .ok (.invokevirtual 144, 3) := zd zm_4059 (by decide +kernel)
theorem d_4059_6 {σ : Nat → Nat} {n0 : Nat} {bf : ab_B} : decode (ab_code (zx σ n0 bf).1 4059) 6 = .ok (.astore_n 2, 1) := zd zm_4059 (by decide +kernel)
theorem d_4059_7 {σ : Nat → Nat} {n0 : Nat} {bf : ab_B} : decode (ab_code (zx σ n0 bf).1 4059) 7 = .ok (.aload_n 0, 1) := zd zm_4059 (by decide +kernel)
theorem d_4059_8 {σ : Nat → Nat} {n0 : Nat} {bf : ab_B} : decode (ab_code (zx σ n0 bf).1 4059) 8 = .ok (.getfield 5, 3) := zd zm_4059 (by decide +kernel)
theorem d_4059_11 {σ : Nat → Nat} {n0 : Nat} {bf : ab_B} : decode (ab_code (zx σ n0 bf).1 4059) 11 = .ok (.invokevirtual 29, 3) := zd zm_4059 (by decide +kernel)
theorem d_4059_14 {σ : Nat → Nat} {n0 : Nat} {bf : ab_B} : decode (ab_code (zx σ n0 bf).1 4059) 14 = .ok (.aload_n 0, 1) := zd zm_4059 (by decide +kernel)
theorem d_4059_15 {σ : Nat → Nat} {n0 : Nat} {bf : ab_B} : decode (ab_code (zx σ n0 bf).1 4059) 15 = .ok (.getfield 46, 3) := zd zm_4059 (by decide +kernel)
theorem d_4059_18 {σ : Nat → Nat} {n0 : Nat} {bf : ab_B} : decode (ab_code (zx σ n0 bf).1 4059) 18 = .ok (.invokevirtual 50, 3) := zd zm_4059 (by decide +kernel)
theorem d_4059_21 {σ : Nat → Nat} {n0 : Nat} {bf : ab_B} : decode (ab_code (zx σ n0 bf).1 4059) 21 = .ok (.istore_n 3, 1) := zd zm_4059 (by decide +kernel)
theorem d_4059_22 {σ : Nat → Nat} {n0 : Nat} {bf : ab_B} : decode (ab_code (zx σ n0 bf).1 4059) 22 = .ok (.iconst 1, 1) := zd zm_4059 (by decide +kernel)
theorem d_4059_23 {σ : Nat → Nat} {n0 : Nat} {bf : ab_B} : decode (ab_code (zx σ n0 bf).1 4059) 23 = .ok (.istore 4, 2) := zd zm_4059 (by decide +kernel)
theorem d_4059_25 {σ : Nat → Nat} {n0 : Nat} {bf : ab_B} : decode (ab_code (zx σ n0 bf).1 4059) 25 = .ok (.iload 4, 2) := zd zm_4059 (by decide +kernel)
theorem d_4059_27 {σ : Nat → Nat} {n0 : Nat} {bf : ab_B} : decode (ab_code (zx σ n0 bf).1 4059) 27 = .ok (.ifCond .eq 149, 3) := zd zm_4059 (by decide +kernel)
theorem d_4059_30 {σ : Nat → Nat} {n0 : Nat} {bf : ab_B} : decode (ab_code (zx σ n0 bf).1 4059) 30 = .ok (.aload_n 2, 1) := zd zm_4059 (by decide +kernel)
theorem d_4059_31 {σ : Nat → Nat} {n0 : Nat} {bf : ab_B} : decode (ab_code (zx σ n0 bf).1 4059) 31 = .ok (.getfield 323, 3) := zd zm_4059 (by decide +kernel)
theorem d_4059_34 {σ : Nat → Nat} {n0 : Nat} {bf : ab_B} : decode (ab_code (zx σ n0 bf).1 4059) 34 = .ok (.invokevirtual 50, 3) := zd zm_4059 (by decide +kernel)
theorem d_4059_37 {σ : Nat → Nat} {n0 : Nat} {bf : ab_B} : decode (ab_code (zx σ n0 bf).1 4059) 37 = .ok (.istore 5, 2) := zd zm_4059 (by decide +kernel)
theorem d_4059_39 {σ : Nat → Nat} {n0 : Nat} {bf : ab_B} : decode (ab_code (zx σ n0 bf).1 4059) 39 = .ok (.new 51, 3) := zd zm_4059 (by decide +kernel)
theorem d_4059_42 {σ : Nat → Nat} {n0 : Nat} {bf : ab_B} : decode (ab_code (zx σ n0 bf).1 4059) 42 = .ok (.dup, 1) := zd zm_4059 (by decide +kernel)
theorem d_4059_43 {σ : Nat → Nat} {n0 : Nat} {bf : ab_B} : decode (ab_code (zx σ n0 bf).1 4059) 43 = .ok (.invokespecial 326, 3) := zd zm_4059 (by decide +kernel)
theorem d_4059_46 {σ : Nat → Nat} {n0 : Nat} {bf : ab_B} : decode (ab_code (zx σ n0 bf).1 4059) 46 = .ok (.astore 6, 2) := zd zm_4059 (by decide +kernel)
theorem d_4059_48 {σ : Nat → Nat} {n0 : Nat} {bf : ab_B} : decode (ab_code (zx σ n0 bf).1 4059) 48 = .ok (.aload_n 0, 1) := zd zm_4059 (by decide +kernel)
theorem d_4059_49 {σ : Nat → Nat} {n0 : Nat} {bf : ab_B} : decode (ab_code (zx σ n0 bf).1 4059) 49 = .ok (.aload 6, 2) := zd zm_4059 (by decide +kernel)
theorem d_4059_51 {σ : Nat → Nat} {n0 : Nat} {bf : ab_B} : decode (ab_code (zx σ n0 bf).1 4059) 51 = .ok (.aload_n 2, 1) := zd zm_4059 (by decide +kernel)
theorem d_4059_52 {σ : Nat → Nat} {n0 : Nat} {bf : ab_B} : decode (ab_code (zx σ n0 bf).1 4059) 52 = .ok (.invokevirtual 328, 3) := zd zm_4059 (by decide +kernel)
theorem d_4059_55 {σ : Nat → Nat} {n0 : Nat} {bf : ab_B} : decode (ab_code (zx σ n0 bf).1 4059) 55 = .ok (.aload_n 0, 1) := zd zm_4059 (by decide +kernel)
theorem d_4059_56 {σ : Nat → Nat} {n0 : Nat} {bf : ab_B} : decode (ab_code (zx σ n0 bf).1 4059) 56 = .ok (.bipush 58, 2) := zd zm_4059 (by decide +kernel)
theorem d_4059_58 {σ : Nat → Nat} {n0 : Nat} {bf : ab_B} : decode (ab_code (zx σ n0 bf).1 4059) 58 = .ok (.invokevirtual 224, 3) := zd zm_4059 (by decide +kernel)
theorem d_4059_61 {σ : Nat → Nat} {n0 : Nat} {bf : ab_B} : decode (ab_code (zx σ n0 bf).1 4059) 61 = .ok (.aload_n 0, 1) := zd zm_4059 (by decide +kernel)
theorem d_4059_62 {σ : Nat → Nat} {n0 : Nat} {bf : ab_B} : decode (ab_code (zx σ n0 bf).1 4059) 62 = .ok (.invokevirtual 332, 3) := zd zm_4059 (by decide +kernel)
theorem d_4059_65 {σ : Nat → Nat} {n0 : Nat} {bf : ab_B} : decode (ab_code (zx σ n0 bf).1 4059) 65 = .ok (.astore 7, 2) := zd zm_4059 (by decide +kernel)
theorem d_4059_67 {σ : Nat → Nat} {n0 : Nat} {bf : ab_B} : decode (ab_code (zx σ n0 bf).1 4059) 67 = .ok (.iload 5, 2) := zd zm_4059 (by decide +kernel)
theorem d_4059_69 {σ : Nat → Nat} {n0 : Nat} {bf : ab_B} : decode (ab_code (zx σ n0 bf).1 4059) 69 = .ok (.aload 6, 2) := zd zm_4059 (by decide +kernel)
theorem d_4059_71 {σ : Nat → Nat} {n0 : Nat} {bf : ab_B} : decode (ab_code (zx σ n0 bf).1 4059) 71 = .ok (.invokevirtual 50, 3) := zd zm_4059 (by decide +kernel)
theorem d_4059_74 {σ : Nat → Nat} {n0 : Nat} {bf : ab_B} : decode (ab_code (zx σ n0 bf).1 4059) 74 = .ok (.iadd, 1) := zd zm_4059 (by decide +kernel)
theorem d_4059_75 {σ : Nat → Nat} {n0 : Nat} {bf : ab_B} : decode (ab_code (zx σ n0 bf).1 4059) 75 = .ok (.iconst 4, 1) := zd zm_4059 (by decide +kernel)
theorem d_4059_76 {σ : Nat → Nat} {n0 : Nat} {bf : ab_B} : decode (ab_code (zx σ n0 bf).1 4059) 76 = .ok (.if_icmp .le 10, 3) := zd zm_4059 (by decide +kernel)
theorem d_4059_79 {σ : Nat → Nat} {n0 : Nat} {bf : ab_B} : decode (ab_code (zx σ n0 bf).1 4059) 79 = .ok (.aload_n 0, 1) := zd zm_4059 (by decide +kernel)
theorem d_4059_80 {σ : Nat → Nat} {n0 : Nat} {bf : ab_B} : decode (ab_code (zx σ n0 bf).1 4059) 80 = .ok (.bipush 8, 2) := zd zm_4059 (by decide +kernel)
theorem d_4059_82 {σ : Nat → Nat} {n0 : Nat} {bf : ab_B} : decode (ab_code (zx σ n0 bf).1 4059) 82 = .ok (.invokevirtual 25, 3) := zd zm_4059 (by decide +kernel)
theorem d_4059_85 {σ : Nat → Nat} {n0 : Nat} {bf : ab_B} : decode (ab_code (zx σ n0 bf).1 4059) 85 = .ok (.athrow, 1) := zd zm_4059 (by decide +kernel)
theorem d_4059_86 {σ : Nat → Nat} {n0 : Nat} {bf : ab_B} : decode (ab_code (zx σ n0 bf).1 4059) 86 = .ok (.aload 7, 2) := zd zm_4059 (by decide +kernel)
theorem d_4059_88 {σ : Nat → Nat} {n0 : Nat} {bf : ab_B} : decode (ab_code (zx σ n0 bf).1 4059) 88 = .ok (.invokevirtual 335, 3) := zd zm_4059 (by decide +kernel)
theorem d_4059_91 {σ : Nat → Nat} {n0 : Nat} {bf : ab_B} : decode (ab_code (zx σ n0 bf).1 4059) 91 = .ok (.ifCond .ne 9, 3) := zd zm_4059 (by decide +kernel)
theorem d_4059_94 {σ : Nat → Nat} {n0 : Nat} {bf : ab_B} : decode (ab_code (zx σ n0 bf).1 4059) 94 = .ok (.aload_n 0, 1) := zd zm_4059 (by decide +kernel)
theorem d_4059_95 {σ : Nat → Nat} {n0 : Nat} {bf : ab_B} : decode (ab_code (zx σ n0 bf).1 4059) 95 = .ok (.iconst 5, 1) := zd zm_4059 (by decide +kernel)
theorem d_4059_96 {σ : Nat → Nat} {n0 : Nat} {bf : ab_B} : decode (ab_code (zx σ n0 bf).1 4059) 96 = .ok (.invokevirtual 25, 3) := zd zm_4059 (by decide +kernel)
theorem d_4059_99 {σ : Nat → Nat} {n0 : Nat} {bf : ab_B} : decode (ab_code (zx σ n0 bf).1 4059) 99 = .ok (.athrow, 1) := zd zm_4059 (by decide +kernel)
theorem d_4059_100 {σ : Nat → Nat} {n0 : Nat} {bf : ab_B} : decode (ab_code (zx σ n0 bf).1 4059) 100 = .ok (.iconst 0, 1) := zd zm_4059 (by decide +kernel)
theorem d_4059_101 {σ : Nat → Nat} {n0 : Nat} {bf : ab_B} : decode (ab_code (zx σ n0 bf).1 4059) 101 = .ok (.istore 8, 2) := zd zm_4059 (by decide +kernel)
theorem d_4059_103 {σ : Nat → Nat} {n0 : Nat} {bf : ab_B} : decode (ab_code (zx σ n0 bf).1 4059) 103 = .ok (.iload 8, 2) := zd zm_4059 (by decide +kernel)
theorem d_4059_105 {σ : Nat → Nat} {n0 : Nat} {bf : ab_B} : decode (ab_code (zx σ n0 bf).1 4059) 105 = .ok (.aload 6, 2) := zd zm_4059 (by decide +kernel)
theorem d_4059_107 {σ : Nat → Nat} {n0 : Nat} {bf : ab_B} : decode (ab_code (zx σ n0 bf).1 4059) 107 = .ok (.invokevirtual 50, 3) := zd zm_4059 (by decide +kernel)
theorem d_4059_110 {σ : Nat → Nat} {n0 : Nat} {bf : ab_B} : decode (ab_code (zx σ n0 bf).1 4059) 110 = .ok (.if_icmp .ge 40, 3) := zd zm_4059 (by decide +kernel)
theorem d_4059_113 {σ : Nat → Nat} {n0 : Nat} {bf : ab_B} : decode (ab_code (zx σ n0 bf).1 4059) 113 = .ok (.aload_n 2, 1) := zd zm_4059 (by decide +kernel)
theorem d_4059_114 {σ : Nat → Nat} {n0 : Nat} {bf : ab_B} : decode (ab_code (zx σ n0 bf).1 4059) 114 = .ok (.getfield 323, 3) := zd zm_4059 (by decide +kernel)
theorem d_4059_117 {σ : Nat → Nat} {n0 : Nat} {bf : ab_B} : decode (ab_code (zx σ n0 bf).1 4059) 117 = .ok (.new 93, 3) := zd zm_4059 (by decide +kernel)
theorem d_4059_120 {σ : Nat → Nat} {n0 : Nat} {bf : ab_B} : decode (ab_code (zx σ n0 bf).1 4059) 120 = .ok (.dup, 1) := zd zm_4059 (by decide +kernel)
theorem d_4059_121 {σ : Nat → Nat} {n0 : Nat} {bf : ab_B} : decode (ab_code (zx σ n0 bf).1 4059) 121 = .ok (.aload 6, 2) := zd zm_4059 (by decide +kernel)
theorem d_4059_123 {σ : Nat → Nat} {n0 : Nat} {bf : ab_B} : decode (ab_code (zx σ n0 bf).1 4059) 123 = .ok (.iload 8, 2) := zd zm_4059 (by decide +kernel)
theorem d_4059_125 {σ : Nat → Nat} {n0 : Nat} {bf : ab_B} : decode (ab_code (zx σ n0 bf).1 4059) 125 = .ok (.invokevirtual 56, 3) := zd zm_4059 (by decide +kernel)
theorem d_4059_128 {σ : Nat → Nat} {n0 : Nat} {bf : ab_B} : decode (ab_code (zx σ n0 bf).1 4059) 128 = .ok (.checkcast 313, 3) := zd zm_4059 (by decide +kernel)
theorem d_4059_131 {σ : Nat → Nat} {n0 : Nat} {bf : ab_B} : decode (ab_code (zx σ n0 bf).1 4059) 131 = .ok (.invokevirtual 315, 3) := zd zm_4059 (by decide +kernel)
theorem d_4059_134 {σ : Nat → Nat} {n0 : Nat} {bf : ab_B} : decode (ab_code (zx σ n0 bf).1 4059) 134 = .ok (.aload 7, 2) := zd zm_4059 (by decide +kernel)
theorem d_4059_136 {σ : Nat → Nat} {n0 : Nat} {bf : ab_B} : decode (ab_code (zx σ n0 bf).1 4059) 136 = .ok (.aconst_null, 1) := zd zm_4059 (by decide +kernel)
theorem d_4059_137 {σ : Nat → Nat} {n0 : Nat} {bf : ab_B} : decode (ab_code (zx σ n0 bf).1 4059) 137 = .ok (.invokespecial 338, 3) := zd zm_4059 (by decide +kernel)
theorem d_4059_140 {σ : Nat → Nat} {n0 : Nat} {bf : ab_B} : decode (ab_code (zx σ n0 bf).1 4059) 140 = .ok (.invokevirtual 140, 3) := zd zm_4059 (by decide +kernel)
theorem d_4059_143 {σ : Nat → Nat} {n0 : Nat} {bf : ab_B} : decode (ab_code (zx σ n0 bf).1 4059) 143 = .ok (.pop, 1) := zd zm_4059 (by decide +kernel)
theorem d_4059_144 {σ : Nat → Nat} {n0 : Nat} {bf : ab_B} : decode (ab_code (zx σ n0 bf).1 4059) 144 = .ok (.iinc 8 1, 3) := zd zm_4059 (by decide +kernel)
theorem d_4059_147 {σ : Nat → Nat} {n0 : Nat} {bf : ab_B} : decode (ab_code (zx σ n0 bf).1 4059) 147 = .ok (.goto (-44), 3) := zd zm_4059 (by decide +kernel)
theorem d_4059_150 {σ : Nat → Nat} {n0 : Nat} {bf : ab_B} : decode (ab_code (zx σ n0 bf).1 4059) 150 = .ok (.aload_n 0, 1) := zd zm_4059 (by decide +kernel)
theorem d_4059_151 {σ : Nat → Nat} {n0 : Nat} {bf : ab_B} : decode (ab_code (zx σ n0 bf).1 4059) 151 = .ok (.getfield 5, 3) := zd zm_4059 (by decide +kernel)
theorem d_4059_154 {σ : Nat → Nat} {n0 : Nat} {bf : ab_B} : decode (ab_code (zx σ n0 bf).1 4059) 154 = .ok (.bipush 59, 2) := zd zm_4059 (by decide +kernel)
theorem d_4059_156 {σ : Nat → Nat} {n0 : Nat} {bf : ab_B} : decode (ab_code (zx σ n0 bf).1 4059) 156 = .ok (.invokevirtual 21, 3) := zd zm_4059 (by decide +kernel)
theorem d_4059_159 {σ : Nat → Nat} {n0 : Nat} {bf : ab_B} : decode (ab_code (zx σ n0 bf).1 4059) 159 = .ok (.istore 4, 2) := zd zm_4059 (by decide +kernel)
theorem d_4059_161 {σ : Nat → Nat} {n0 : Nat} {bf : ab_B} : decode (ab_code (zx σ n0 bf).1 4059) 161 = .ok (.iload 4, 2) := zd zm_4059 (by decide +kernel)
theorem d_4059_163 {σ : Nat → Nat} {n0 : Nat} {bf : ab_B} : decode (ab_code (zx σ n0 bf).1 4059) 163 = .ok (.ifCond .eq 10, 3) := zd zm_4059 (by decide +kernel)
theorem d_4059_166 {σ : Nat → Nat} {n0 : Nat} {bf : ab_B} : decode (ab_code (zx σ n0 bf).1 4059) 166 = .ok (.aload_n 0, 1) := zd zm_4059 (by decide +kernel)
theorem d_4059_167 {σ : Nat → Nat} {n0 : Nat} {bf : ab_B} : decode (ab_code (zx σ n0 bf).1 4059) 167 = .ok (.getfield 5, 3) := zd zm_4059 (by decide +kernel)
theorem d_4059_170 {σ : Nat → Nat} {n0 : Nat} {bf : ab_B} : decode (ab_code (zx σ n0 bf).1 4059) 170 = .ok (.invokevirtual 29, 3) := zd zm_4059 (by decide +kernel)
theorem d_4059_173 {σ : Nat → Nat} {n0 : Nat} {bf : ab_B} : decode (ab_code (zx σ n0 bf).1 4059) 173 = .ok (.goto (-148), 3) := zd zm_4059 (by decide +kernel)
theorem d_4059_176 {σ : Nat → Nat} {n0 : Nat} {bf : ab_B} : decode (ab_code (zx σ n0 bf).1 4059) 176 = .ok (.aload_n 0, 1) := zd zm_4059 (by decide +kernel)
theorem d_4059_177 {σ : Nat → Nat} {n0 : Nat} {bf : ab_B} : decode (ab_code (zx σ n0 bf).1 4059) 177 = .ok (.bipush 41, 2) := zd zm_4059 (by decide +kernel)
theorem d_4059_179 {σ : Nat → Nat} {n0 : Nat} {bf : ab_B} : decode (ab_code (zx σ n0 bf).1 4059) 179 = .ok (.invokevirtual 224, 3) := zd zm_4059 (by decide +kernel)
theorem d_4059_182 {σ : Nat → Nat} {n0 : Nat} {bf : ab_B} : decode (ab_code (zx σ n0 bf).1 4059) 182 = .ok (.aload_n 0, 1) := zd zm_4059 (by decide +kernel)
theorem d_4059_183 {σ : Nat → Nat} {n0 : Nat} {bf : ab_B} : decode (ab_code (zx σ n0 bf).1 4059) 183 = .ok (.bipush 61, 2) := zd zm_4059 (by decide +kernel)
theorem d_4059_185 {σ : Nat → Nat} {n0 : Nat} {bf : ab_B} : decode (ab_code (zx σ n0 bf).1 4059) 185 = .ok (.invokevirtual 224, 3) := zd zm_4059 (by decide +kernel)
theorem d_4059_188 {σ : Nat → Nat} {n0 : Nat} {bf : ab_B} : decode (ab_code (zx σ n0 bf).1 4059) 188 = .ok (.aload_n 0, 1) := zd zm_4059 (by decide +kernel)
theorem d_4059_189 {σ : Nat → Nat} {n0 : Nat} {bf : ab_B} : decode (ab_code (zx σ n0 bf).1 4059) 189 = .ok (.aload_n 2, 1) := zd zm_4059 (by decide +kernel)
theorem d_4059_190 {σ : Nat → Nat} {n0 : Nat} {bf : ab_B} : decode (ab_code (zx σ n0 bf).1 4059) 190 = .ok (.putfield 200, 3) := zd zm_4059 (by decide +kernel)
theorem d_4059_193 {σ : Nat → Nat} {n0 : Nat} {bf : ab_B} : decode (ab_code (zx σ n0 bf).1 4059) 193 = .ok (.aload_n 0, 1) := zd zm_4059 (by decide +kernel)
theorem d_4059_194 {σ : Nat → Nat} {n0 : Nat} {bf : ab_B} : decode (ab_code (zx σ n0 bf).1 4059) 194 = .ok (.iconst 0, 1) := zd zm_4059 (by decide +kernel)
theorem d_4059_195 {σ : Nat → Nat} {n0 : Nat} {bf : ab_B} : decode (ab_code (zx σ n0 bf).1 4059) 195 = .ok (.iconst 2, 1) := zd zm_4059 (by decide +kernel)
theorem d_4059_196 {σ : Nat → Nat} {n0 : Nat} {bf : ab_B} : decode (ab_code (zx σ n0 bf).1 4059) 196 = .ok (.invokevirtual 341, 3) := zd zm_4059 (by decide +kernel)
theorem d_4059_199 {σ : Nat → Nat} {n0 : Nat} {bf : ab_B} : decode (ab_code (zx σ n0 bf).1 4059) 199 = .ok (.astore 5, 2) := zd zm_4059 (by decide +kernel)
theorem d_4059_201 {σ : Nat → Nat} {n0 : Nat} {bf : ab_B} : decode (ab_code (zx σ n0 bf).1 4059) 201 = .ok (.aload_n 0, 1) := zd zm_4059 (by decide +kernel)
theorem d_4059_202 {σ : Nat → Nat} {n0 : Nat} {bf : ab_B} : decode (ab_code (zx σ n0 bf).1 4059) 202 = .ok (.aconst_null, 1) := zd zm_4059 (by decide +kernel)
theorem d_4059_203 {σ : Nat → Nat} {n0 : Nat} {bf : ab_B} : decode (ab_code (zx σ n0 bf).1 4059) 203 = .ok (.putfield 200, 3) := zd zm_4059 (by decide +kernel)
theorem d_4059_206 {σ : Nat → Nat} {n0 : Nat} {bf : ab_B} : decode (ab_code (zx σ n0 bf).1 4059) 206 = .ok (.aload_n 2, 1) := zd zm_4059 (by decide +kernel)
theorem d_4059_207 {σ : Nat → Nat} {n0 : Nat} {bf : ab_B} : decode (ab_code (zx σ n0 bf).1 4059) 207 = .ok (.aload 5, 2) := zd zm_4059 (by decide +kernel)
theorem d_4059_209 {σ : Nat → Nat} {n0 : Nat} {bf : ab_B} : decode (ab_code (zx σ n0 bf).1 4059) 209 = .ok (.putfield 320, 3) := zd zm_4059 (by decide +kernel)
theorem d_4059_212 {σ : Nat → Nat} {n0 : Nat} {bf : ab_B} : decode (ab_code (zx σ n0 bf).1 4059) 212 = .ok (.aload_n 2, 1) := zd zm_4059 (by decide +kernel)
theorem d_4059_213 {σ : Nat → Nat} {n0 : Nat} {bf : ab_B} : decode (ab_code (zx σ n0 bf).1 4059) 213 = .ok (.iconst 1, 1) := zd zm_4059 (by decide +kernel)
theorem d_4059_214 {σ : Nat → Nat} {n0 : Nat} {bf : ab_B} : decode (ab_code (zx σ n0 bf).1 4059) 214 = .ok (.aload 5, 2) := zd zm_4059 (by decide +kernel)
theorem d_4059_216 {σ : Nat → Nat} {n0 : Nat} {bf : ab_B} : decode (ab_code (zx σ n0 bf).1 4059) 216 = .ok (.getfield 344, 3) := zd zm_4059 (by decide +kernel)
theorem d_4059_219 {σ : Nat → Nat} {n0 : Nat} {bf : ab_B} : decode (ab_code (zx σ n0 bf).1 4059) 219 = .ok (.iadd, 1) := zd zm_4059 (by decide +kernel)
theorem d_4059_220 {σ : Nat → Nat} {n0 : Nat} {bf : ab_B} : decode (ab_code (zx σ n0 bf).1 4059) 220 = .ok (.putfield 344, 3) := zd zm_4059 (by decide +kernel)
theorem d_4059_223 {σ : Nat → Nat} {n0 : Nat} {bf : ab_B} : decode (ab_code (zx σ n0 bf).1 4059) 223 = .ok (.aload_n 2, 1) := zd zm_4059 (by decide +kernel)
theorem d_4059_224 {σ : Nat → Nat} {n0 : Nat} {bf : ab_B} : decode (ab_code (zx σ n0 bf).1 4059) 224 = .ok (.aload 5, 2) := zd zm_4059 (by decide +kernel)
theorem d_4059_226 {σ : Nat → Nat} {n0 : Nat} {bf : ab_B} : decode (ab_code (zx σ n0 bf).1 4059) 226 = .ok (.getfield 347, 3) := zd zm_4059 (by decide +kernel)
theorem d_4059_229 {σ : Nat → Nat} {n0 : Nat} {bf : ab_B} : decode (ab_code (zx σ n0 bf).1 4059) 229 = .ok (.putfield 347, 3) := zd zm_4059 (by decide +kernel)
theorem d_4059_232 {σ : Nat → Nat} {n0 : Nat} {bf : ab_B} : decode (ab_code (zx σ n0 bf).1 4059) 232 = .ok (.aload_n 0, 1) := zd zm_4059 (by decide +kernel)
theorem d_4059_233 {σ : Nat → Nat} {n0 : Nat} {bf : ab_B} : decode (ab_code (zx σ n0 bf).1 4059) 233 = .ok (.iload_n 1, 1) := zd zm_4059 (by decide +kernel)
theorem d_4059_234 {σ : Nat → Nat} {n0 : Nat} {bf : ab_B} : decode (ab_code (zx σ n0 bf).1 4059) 234 = .ok (.invokevirtual 118, 3) := zd zm_4059 (by decide +kernel)
theorem d_4059_237 {σ : Nat → Nat} {n0 : Nat} {bf : ab_B} : decode (ab_code (zx σ n0 bf).1 4059) 237 = .ok (.ifnull 9, 3) := zd zm_4059 (by decide +kernel)
theorem d_4059_240 {σ : Nat → Nat} {n0 : Nat} {bf : ab_B} : decode (ab_code (zx σ n0 bf).1 4059) 240 = .ok (.aload_n 0, 1) := zd zm_4059 (by decide +kernel)
theorem d_4059_241 {σ : Nat → Nat} {n0 : Nat} {bf : ab_B} : decode (ab_code (zx σ n0 bf).1 4059) 241 = .ok (.iconst 4, 1) := zd zm_4059 (by decide +kernel)
theorem d_4059_242 {σ : Nat → Nat} {n0 : Nat} {bf : ab_B} : decode (ab_code (zx σ n0 bf).1 4059) 242 = .ok (.invokevirtual 25, 3) := zd zm_4059 (by decide +kernel)
theorem d_4059_245 {σ : Nat → Nat} {n0 : Nat} {bf : ab_B} : decode (ab_code (zx σ n0 bf).1 4059) 245 = .ok (.athrow, 1) := zd zm_4059 (by decide +kernel)
theorem d_4059_246 {σ : Nat → Nat} {n0 : Nat} {bf : ab_B} : decode (ab_code (zx σ n0 bf).1 4059) 246 = .ok (.aload_n 0, 1) := zd zm_4059 (by decide +kernel)
theorem d_4059_247 {σ : Nat → Nat} {n0 : Nat} {bf : ab_B} : decode (ab_code (zx σ n0 bf).1 4059) 247 = .ok (.iload_n 1, 1) := zd zm_4059 (by decide +kernel)
theorem d_4059_248 {σ : Nat → Nat} {n0 : Nat} {bf : ab_B} : decode (ab_code (zx σ n0 bf).1 4059) 248 = .ok (.iconst 1, 1) := zd zm_4059 (by decide +kernel)
theorem d_4059_249 {σ : Nat → Nat} {n0 : Nat} {bf : ab_B} : decode (ab_code (zx σ n0 bf).1 4059) 249 = .ok (.aload_n 2, 1) := zd zm_4059 (by decide +kernel)
theorem d_4059_250 {σ : Nat → Nat} {n0 : Nat} {bf : ab_B} : decode (ab_code (zx σ n0 bf).1 4059) 250 = .ok (.invokevirtual 165, 3) := zd zm_4059 (by decide +kernel)
theorem d_4059_253 {σ : Nat → Nat} {n0 : Nat} {bf : ab_B} : decode (ab_code (zx σ n0 bf).1 4059) 253 = .ok (.pop, 1) := zd zm_4059 (by decide +kernel)
theorem d_4059_254 {σ : Nat → Nat} {n0 : Nat} {bf : ab_B} : decode (ab_code (zx σ n0 bf).1 4059) 254 = .ok (.return_, 1) := zd zm_4059 (by decide +kernel)
def w_X5_schema_232 (X : zs_X) (d : Nat) (p0 : Nat) (p1 : Int32) (p2 : Option Nat) (S : zs_T) (Q : zs_Q) : Prop :=
  (zs_K S p0 = some (.inl 4) ∧ zs_C X d 4012 [.ref p0, .int p1] S (zs_kR (fun v3 S2 => (((v3 = none → (zs_K S2 p0 = some (.inl 4) ∧ zs_C X d 4003 [.ref p0, .int p1, .int (1 : Int32), va_rf p2] S2 (zs_kR (fun v8 S7 => (Q (.returned none) S7)) Q))) ∧ (∀ b4, v3 = some b4 → (zs_K S2 p0 = some (.inl 4) ∧ zs_C X d 4006 [.ref p0, .int (4 : Int32)] S2 (zs_kR (fun v11 S10 => (∃ b12, v11 = some b12 ∧ Q (.threw b12) S10)) Q)))))) Q))
theorem u_X5_schema_232 {σ : Nat → Nat} {n0 : Nat} {bf : ab_B} {d : Nat} {p0 : Nat} {p1 : Int32} {p2 : Option Nat} {S : zs_T} {Q : zs_Q} (hB : zt_B bf) (h : w_X5_schema_232 (zx σ n0 bf) d p0 p1 p2 S Q) : zs_U (zx σ n0 bf) d 4059 232 [(0, .ref p0), (1, .int p1), (2, va_rf p2)] [] S Q := by
  unfold w_X5_schema_232 at h
  refine zu_aload_n d_4059_232 rfl (zs_ra _) ?_
  refine zu_iload_n d_4059_233 rfl ?_
  obtain ⟨k1, h⟩ := h
  refine zc_4_118 (x0 := p1) hB rfl k1 d_4059_234 (Nat.le_of_ble_eq_true rfl) h (fun v3 S2 h => ?_)
  refine zu_ifnull (u := v3) (t := 246) d_4059_237 rfl rfl (fun e5 => ?_) (fun b4 e5 => ?_)
  · have h := h.1 e5
    refine zu_aload_n d_4059_246 rfl (zs_ra _) ?_
    refine zu_iload_n d_4059_247 rfl ?_
    refine zu_iconst d_4059_248 zi_1 ?_
    refine zu_aload_n d_4059_249 rfl (zs_rr _) ?_
    obtain ⟨k6, h⟩ := h
    refine zc_4_165 (x0 := p1) (x1 := (1 : Int32)) (x2 := p2) hB rfl k6 d_4059_250 (Nat.le_of_ble_eq_true rfl) h (fun v8 S7 h => ?_)
    refine zu_pop d_4059_253 (zs_cat _) ?_
    exact zu_vret d_4059_254 zr_4059 h
  · have h := h.2 b4 e5
    refine zu_aload_n d_4059_240 rfl (zs_ra _) ?_
    refine zu_iconst d_4059_241 zi_4 ?_
    obtain ⟨k9, h⟩ := h
    refine zc_4_25 (x0 := (4 : Int32)) hB rfl k9 d_4059_242 (Nat.le_of_ble_eq_true rfl) h (fun v11 S10 h => ?_)
    obtain ⟨b12, e13, h⟩ := h
    refine zs_stk0 (zs_rfe e13) ?_
    exact zu_throw d_4059_245 h
def w_X5_schema_201 (X : zs_X) (d : Nat) (p0 : Nat) (p1 : Int32) (p2 : Option Nat) (p5 : Option Nat) (S : zs_T) (Q : zs_Q) : Prop :=
  (zs_K S p0 = some (.inl 4) ∧ ab_n0 X.1 ≤ p0 ∧ ∀ S3, S3 = zs_sR S 4016 p0 none → ∃ b6, p2 = some b6 ∧ zs_K S b6 = some (.inl 6) ∧ ab_n0 X.1 ≤ b6 ∧ ∀ S10, S10 = zs_sR S3 6002 b6 p5 → ∃ b13, p5 = some b13 ∧ zs_K S b13 = some (.inl 6) ∧ ∀ S16, S16 = zs_sI S10 6009 b6 ((1 : Int32) + (zs_I S10 6009 b13)) → ∀ S19, S19 = zs_sI S16 6010 b6 (zs_I S16 6010 b13) → w_X5_schema_232 X d p0 p1 p2 S19 Q)
theorem u_X5_schema_201 {σ : Nat → Nat} {n0 : Nat} {bf : ab_B} {d : Nat} {p0 : Nat} {p1 : Int32} {p2 : Option Nat} {p5 : Option Nat} {S : zs_T} {Q : zs_Q} (hB : zt_B bf) (h : w_X5_schema_201 (zx σ n0 bf) d p0 p1 p2 p5 S Q) : zs_U (zx σ n0 bf) d 4059 201 [(0, .ref p0), (1, .int p1), (2, va_rf p2), (5, va_rf p5)] [] S Q := by
  unfold w_X5_schema_201 at h
  refine zu_aload_n d_4059_201 rfl (zs_ra _) ?_
  refine zu_stk d_4059_202 rfl rfl ?_
  obtain ⟨k1, h⟩ := h
  obtain ⟨k2, h⟩ := h
  refine zp_4_200 (v := none) rfl d_4059_203 k1 k2 ?_
  generalize e4 : zs_sR S 4016 p0 none = S3
  have h := h S3 e4.symm
  have K5 : ∀ b, zs_K S3 b = zs_K S b := zs_Kt e4 (zs_KsR _ _ _ _) (fun _ => rfl)
  refine zu_aload_n d_4059_206 rfl (zs_rr _) ?_
  refine zu_aload d_4059_207 rfl (zs_rr _) ?_
  obtain ⟨b6, e7, h⟩ := h
  refine zs_stk1 (zs_rfe e7) ?_
  obtain ⟨k8, h⟩ := h
  obtain ⟨k9, h⟩ := h
  refine zp_4_320 (v := p5) rfl d_4059_209 ((K5 _).trans k8) k9 ?_
  generalize e11 : zs_sR S3 6002 b6 p5 = S10
  have h := h S10 e11.symm
  have K12 : ∀ b, zs_K S10 b = zs_K S b := zs_Kt e11 (zs_KsR _ _ _ _) K5
  refine zu_aload_n d_4059_212 rfl (zs_rr _) ?_
  refine zu_iconst d_4059_213 zi_1 ?_
  refine zu_aload d_4059_214 rfl (zs_rr _) ?_
  obtain ⟨b13, e14, h⟩ := h
  refine zs_stk0 (zs_rfe e14) ?_
  obtain ⟨k15, h⟩ := h
  refine zg_4_344 rfl d_4059_216 ((K12 _).trans k15) ?_
  refine zu_stk d_4059_219 rfl rfl ?_
  refine zs_stk1 (zs_rfe e7) ?_
  refine zp_4_344 (v := ((1 : Int32) + (zs_I S10 6009 b13))) rfl d_4059_220 ((K12 _).trans k8) k9 ?_
  generalize e17 : zs_sI S10 6009 b6 ((1 : Int32) + (zs_I S10 6009 b13)) = S16
  have h := h S16 e17.symm
  have K18 : ∀ b, zs_K S16 b = zs_K S b := zs_Kt e17 (zs_KsI _ _ _ _) K12
  refine zu_aload_n d_4059_223 rfl (zs_rr _) ?_
  refine zu_aload d_4059_224 rfl (zs_rr _) ?_
  refine zs_stk0 (zs_rfe e14) ?_
  refine zg_4_347 rfl d_4059_226 ((K18 _).trans k15) ?_
  refine zs_stk1 (zs_rfe e7) ?_
  refine zp_4_347 (v := (zs_I S16 6010 b13)) rfl d_4059_229 ((K18 _).trans k8) k9 ?_
  generalize e20 : zs_sI S16 6010 b6 (zs_I S16 6010 b13) = S19
  have h := h S19 e20.symm
  have K21 : ∀ b, zs_K S19 b = zs_K S b := zs_Kt e20 (zs_KsI _ _ _ _) K18
  exact (u_X5_schema_232 hB h).weak ⟨rfl, rfl, rfl, trivial⟩
def w_X5_schema_61 (X : zs_X) (d : Nat) (p0 : Nat) (p1 : Int32) (p2 : Option Nat) (p5 : Int32) (p6 : Option Nat) (S : zs_T) (Q : zs_Q) : Prop :=
  (zs_K S p0 = some (.inl 4) ∧ zs_C X d 4061 [.ref p0] S (zs_kR (fun v3 S2 => (∃ b4, p6 = some b4 ∧ zs_K S2 b4 = some (.inl 16) ∧ zs_C X d 16001 [.ref b4] S2 (zs_kI (fun v8 S7 => ((((p5 + v8) ≤ (4 : Int32) → (∃ b10, v3 = some b10 ∧ zs_K S7 b10 = some (.inl 6) ∧ zs_C X d 6002 [.ref b10] S7 (zs_kI (fun v14 S13 => (((¬ v14 = 0 → (zs_U X d 4059 103 [(0, .ref p0), (1, .int p1), (2, va_rf p2), (6, va_rf p6), (7, va_rf v3), (8, .int (0 : Int32))] [] S13 Q)) ∧ (¬ (¬ v14 = 0) → (zs_K S13 p0 = some (.inl 4) ∧ zs_C X d 4006 [.ref p0, .int (5 : Int32)] S13 (zs_kR (fun v18 S17 => (∃ b19, v18 = some b19 ∧ Q (.threw b19) S17)) Q)))))) Q))) ∧ (¬ ((p5 + v8) ≤ (4 : Int32)) → (zs_K S7 p0 = some (.inl 4) ∧ zs_C X d 4006 [.ref p0, .int (8 : Int32)] S7 (zs_kR (fun v23 S22 => (∃ b24, v23 = some b24 ∧ Q (.threw b24) S22)) Q)))))) Q))) Q))
theorem u_X5_schema_61 {σ : Nat → Nat} {n0 : Nat} {bf : ab_B} {d : Nat} {p0 : Nat} {p1 : Int32} {p2 : Option Nat} {p5 : Int32} {p6 : Option Nat} {S : zs_T} {Q : zs_Q} (hB : zt_B bf) (h : w_X5_schema_61 (zx σ n0 bf) d p0 p1 p2 p5 p6 S Q) : zs_U (zx σ n0 bf) d 4059 61 [(0, .ref p0), (1, .int p1), (2, va_rf p2), (5, .int p5), (6, va_rf p6)] [] S Q := by
  unfold w_X5_schema_61 at h
  refine zu_aload_n d_4059_61 rfl (zs_ra _) ?_
  obtain ⟨k1, h⟩ := h
  refine zc_4_332  hB rfl k1 d_4059_62 (Nat.le_of_ble_eq_true rfl) h (fun v3 S2 h => ?_)
  refine zu_astore d_4059_65 (zs_rr _) (zs_lt zq_4059 rfl) ?_
  refine zs_U.weak (L1 := [(7, va_rf v3), (0, .ref p0), (1, .int p1), (2, va_rf p2), (5, .int p5), (6, va_rf p6)]) ?_ ⟨rfl, zs_gp1 rfl (Or.inl rfl) rfl, zs_gp1 rfl (Or.inl rfl) rfl, zs_gp1 rfl (Or.inl (zs_cat _)) rfl, zs_gp1 rfl (Or.inl rfl) rfl, zs_gp1 rfl (Or.inl (zs_cat _)) rfl, trivial⟩
  refine zu_iload d_4059_67 rfl ?_
  refine zu_aload d_4059_69 rfl (zs_rr _) ?_
  obtain ⟨b4, e5, h⟩ := h
  refine zs_stk0 (zs_rfe e5) ?_
  obtain ⟨k6, h⟩ := h
  refine zc_4_50  hB rfl k6 d_4059_71 (Nat.le_of_ble_eq_true rfl) h (fun v8 S7 h => ?_)
  refine zu_stk d_4059_74 rfl rfl ?_
  refine zu_iconst d_4059_75 zi_4 ?_
  refine zu_cmple (t := 86) d_4059_76 rfl (fun c9 => ?_) (fun c9 => ?_)
  · have h := h.1 c9
    refine zu_aload d_4059_86 rfl (zs_rr _) ?_
    obtain ⟨b10, e11, h⟩ := h
    refine zs_stk0 (zs_rfe e11) ?_
    obtain ⟨k12, h⟩ := h
    refine zc_4_335  hB rfl k12 d_4059_88 (Nat.le_of_ble_eq_true rfl) h (fun v14 S13 h => ?_)
    refine zu_ifne (t := 100) d_4059_91 rfl (fun c15 => ?_) (fun c15 => ?_)
    · have h := h.1 c15
      refine zu_iconst d_4059_100 zi_0 ?_
      refine zu_istore d_4059_101 (zs_lt zq_4059 rfl) ?_
      refine zs_U.weak (L1 := [(8, .int (0 : Int32)), (0, .ref p0), (1, .int p1), (2, va_rf p2), (5, .int p5), (6, va_rf p6), (7, va_rf v3)]) ?_ ⟨rfl, zs_gp1 rfl (Or.inl rfl) rfl, zs_gp1 rfl (Or.inl rfl) rfl, zs_gp1 rfl (Or.inl (zs_cat _)) rfl, zs_gp1 rfl (Or.inl rfl) rfl, zs_gp1 rfl (Or.inl (zs_cat _)) rfl, zs_gp1 rfl (Or.inl (zs_cat _)) rfl, trivial⟩
      exact h.weak ⟨rfl, rfl, rfl, rfl, rfl, rfl, trivial⟩
    · have h := h.2 c15
      refine zu_aload_n d_4059_94 rfl (zs_ra _) ?_
      refine zu_iconst d_4059_95 zi_5 ?_
      obtain ⟨k16, h⟩ := h
      refine zc_4_25 (x0 := (5 : Int32)) hB rfl k16 d_4059_96 (Nat.le_of_ble_eq_true rfl) h (fun v18 S17 h => ?_)
      obtain ⟨b19, e20, h⟩ := h
      refine zs_stk0 (zs_rfe e20) ?_
      exact zu_throw d_4059_99 h
  · have h := h.2 c9
    refine zu_aload_n d_4059_79 rfl (zs_ra _) ?_
    refine zu_bipush d_4059_80 zj_8 ?_
    obtain ⟨k21, h⟩ := h
    refine zc_4_25 (x0 := (8 : Int32)) hB rfl k21 d_4059_82 (Nat.le_of_ble_eq_true rfl) h (fun v23 S22 h => ?_)
    obtain ⟨b24, e25, h⟩ := h
    refine zs_stk0 (zs_rfe e25) ?_
    exact zu_throw d_4059_85 h
def w_X5_schema_25 (X : zs_X) (d : Nat) (p0 : Nat) (p1 : Int32) (p2 : Option Nat) (p4 : Int32) (S : zs_T) (Q : zs_Q) : Prop :=
  (((p4 = 0 → (zs_K S p0 = some (.inl 4) ∧ zs_C X d 4008 [.ref p0, .int (41 : Int32)] S (zs_kV (fun S3 => (zs_K S3 p0 = some (.inl 4) ∧ zs_C X d 4008 [.ref p0, .int (61 : Int32)] S3 (zs_kV (fun S6 => (zs_K S6 p0 = some (.inl 4) ∧ ab_n0 X.1 ≤ p0 ∧ ∀ S10, S10 = zs_sR S6 4016 p0 p2 → zs_C X d 4063 [.ref p0, .int (0 : Int32), .int (2 : Int32)] S10 (zs_kR (fun v14 S13 => (w_X5_schema_201 X d p0 p1 p2 v14 S13 Q)) Q))) Q))) Q))) ∧ (¬ (p4 = 0) → (∃ b15, p2 = some b15 ∧ zs_K S b15 = some (.inl 6) ∧ ∃ b18, (zs_R S 6007 b15) = some b18 ∧ zs_K S b18 = some (.inl 16) ∧ zs_C X d 16001 [.ref b18] S (zs_kI (fun v22 S21 => (∀ a23 S24, a23 = zs_N S21 → S24 = zs_nw S21 (.inl 16) 3 → zs_C X d 16000 [.ref a23] S24 (zs_kV (fun S28 => (zs_K S28 p0 = some (.inl 4) ∧ zs_C X d 4060 [.ref p0, va_rf (some a23), va_rf p2] S28 (zs_kV (fun S31 => (zs_K S31 p0 = some (.inl 4) ∧ zs_C X d 4008 [.ref p0, .int (58 : Int32)] S31 (zs_kV (fun S34 => w_X5_schema_61 X d p0 p1 p2 v22 (some a23) S34 Q) Q))) Q))) Q))) Q)))))
theorem u_X5_schema_25 {σ : Nat → Nat} {n0 : Nat} {bf : ab_B} {d : Nat} {p0 : Nat} {p1 : Int32} {p2 : Option Nat} {p4 : Int32} {S : zs_T} {Q : zs_Q} (hB : zt_B bf) (h : w_X5_schema_25 (zx σ n0 bf) d p0 p1 p2 p4 S Q) : zs_U (zx σ n0 bf) d 4059 25 [(0, .ref p0), (1, .int p1), (2, va_rf p2), (4, .int p4)] [] S Q := by
  unfold w_X5_schema_25 at h
  refine zu_iload d_4059_25 rfl ?_
  refine zu_ifeq (t := 176) d_4059_27 rfl (fun c1 => ?_) (fun c1 => ?_)
  · have h := h.1 c1
    refine zu_aload_n d_4059_176 rfl (zs_ra _) ?_
    refine zu_bipush d_4059_177 zj_41 ?_
    obtain ⟨k2, h⟩ := h
    refine zc_4_224 (x0 := (41 : Int32)) hB rfl k2 d_4059_179 (Nat.le_of_ble_eq_true rfl) h (fun S3 h => ?_)
    refine zu_aload_n d_4059_182 rfl (zs_ra _) ?_
    refine zu_bipush d_4059_183 zj_61 ?_
    obtain ⟨k5, h⟩ := h
    refine zc_4_224 (x0 := (61 : Int32)) hB rfl k5 d_4059_185 (Nat.le_of_ble_eq_true rfl) h (fun S6 h => ?_)
    refine zu_aload_n d_4059_188 rfl (zs_ra _) ?_
    refine zu_aload_n d_4059_189 rfl (zs_rr _) ?_
    obtain ⟨k8, h⟩ := h
    obtain ⟨k9, h⟩ := h
    refine zp_4_200 (v := p2) rfl d_4059_190 k8 k9 ?_
    generalize e11 : zs_sR S6 4016 p0 p2 = S10
    have h := h S10 e11.symm
    have K12 : ∀ b, zs_K S10 b = zs_K S6 b := zs_Kt e11 (zs_KsR _ _ _ _) (fun _ => rfl)
    refine zu_aload_n d_4059_193 rfl (zs_ra _) ?_
    refine zu_iconst d_4059_194 zi_0 ?_
    refine zu_iconst d_4059_195 zi_2 ?_
    refine zc_4_341 (x0 := (0 : Int32)) (x1 := (2 : Int32)) hB rfl ((K12 _).trans k8) d_4059_196 (Nat.le_of_ble_eq_true rfl) h (fun v14 S13 h => ?_)
    refine zu_astore d_4059_199 (zs_rr _) (zs_lt zq_4059 rfl) ?_
    exact (u_X5_schema_201 hB h).weak ⟨rfl, rfl, rfl, rfl, trivial⟩
  · have h := h.2 c1
    refine zu_aload_n d_4059_30 rfl (zs_rr _) ?_
    obtain ⟨b15, e16, h⟩ := h
    refine zs_stk0 (zs_rfe e16) ?_
    obtain ⟨k17, h⟩ := h
    refine zg_4_323 rfl d_4059_31 k17 ?_
    obtain ⟨b18, e19, h⟩ := h
    refine zs_stk0 (zs_rfe e19) ?_
    obtain ⟨k20, h⟩ := h
    refine zc_4_50  hB rfl k20 d_4059_34 (Nat.le_of_ble_eq_true rfl) h (fun v22 S21 h => ?_)
    refine zu_istore d_4059_37 (zs_lt zq_4059 rfl) ?_
    refine zn_4_51 rfl d_4059_39 ?_
    generalize e26 : zs_nw S21 (.inl 16) 3 = S24
    generalize e25 : zs_N S21 = a23
    have h := h a23 S24 e25.symm e26.symm
    have k27 := zs_kn e25 e26
    refine zu_dup d_4059_42 rfl ?_
    refine zc_4_326  hB rfl d_4059_43 (Nat.le_of_ble_eq_true rfl) h (fun S28 h => ?_)
    refine zu_astore d_4059_46 (zs_ra _) (zs_lt zq_4059 rfl) ?_
    refine zu_aload_n d_4059_48 rfl (zs_ra _) ?_
    refine zu_aload d_4059_49 rfl (zs_ra _) ?_
    refine zu_aload_n d_4059_51 rfl (zs_rr _) ?_
    obtain ⟨k30, h⟩ := h
    refine zc_4_328 (x0 := (some a23)) (x1 := p2) hB rfl k30 d_4059_52 (Nat.le_of_ble_eq_true rfl) h (fun S31 h => ?_)
    refine zu_aload_n d_4059_55 rfl (zs_ra _) ?_
    refine zu_bipush d_4059_56 zj_58 ?_
    obtain ⟨k33, h⟩ := h
    refine zc_4_224 (x0 := (58 : Int32)) hB rfl k33 d_4059_58 (Nat.le_of_ble_eq_true rfl) h (fun S34 h => ?_)
    exact (u_X5_schema_61 hB h).weak ⟨rfl, rfl, rfl, rfl, rfl, trivial⟩
def w_X5_schema_144 (X : zs_X) (d : Nat) (p0 : Nat) (p1 : Int32) (p2 : Option Nat) (p6 : Option Nat) (p7 : Option Nat) (p8 : Int32) (S : zs_T) (Q : zs_Q) : Prop :=
  (zs_U X d 4059 103 [(0, .ref p0), (1, .int p1), (2, va_rf p2), (6, va_rf p6), (7, va_rf p7), (8, .int (p8 + (1 : Int32)))] [] S Q)
theorem u_X5_schema_144 {σ : Nat → Nat} {n0 : Nat} {bf : ab_B} {d : Nat} {p0 : Nat} {p1 : Int32} {p2 : Option Nat} {p6 : Option Nat} {p7 : Option Nat} {p8 : Int32} {S : zs_T} {Q : zs_Q} (hB : zt_B bf) (h : w_X5_schema_144 (zx σ n0 bf) d p0 p1 p2 p6 p7 p8 S Q) : zs_U (zx σ n0 bf) d 4059 144 [(0, .ref p0), (1, .int p1), (2, va_rf p2), (6, va_rf p6), (7, va_rf p7), (8, .int p8)] [] S Q := by
  unfold w_X5_schema_144 at h
  refine zu_iinc d_4059_144 rfl zi_1 (zs_lt zq_4059 rfl) ?_
  refine zs_U.weak (L1 := [(8, .int (p8 + (1 : Int32))), (0, .ref p0), (1, .int p1), (2, va_rf p2), (6, va_rf p6), (7, va_rf p7)]) ?_ ⟨rfl, zs_gp1 rfl (Or.inl rfl) rfl, zs_gp1 rfl (Or.inl rfl) rfl, zs_gp1 rfl (Or.inl (zs_cat _)) rfl, zs_gp1 rfl (Or.inl (zs_cat _)) rfl, zs_gp1 rfl (Or.inl (zs_cat _)) rfl, trivial⟩
  refine zu_goto (t := 103) d_4059_147 rfl ?_
  exact h.weak ⟨rfl, rfl, rfl, rfl, rfl, rfl, trivial⟩
def w_X5_schema_103 (X : zs_X) (d : Nat) (p0 : Nat) (p1 : Int32) (p2 : Option Nat) (p6 : Option Nat) (p7 : Option Nat) (p8 : Int32) (S : zs_T) (Q : zs_Q) : Prop :=
  (∃ b1, p6 = some b1 ∧ zs_K S b1 = some (.inl 16) ∧ zs_C X d 16001 [.ref b1] S (zs_kI (fun v5 S4 => (((v5 ≤ p8 → (zs_K S4 p0 = some (.inl 4) ∧ ∃ b8, (zs_R S4 4000 p0) = some b8 ∧ zs_K S4 b8 = some (.inl 5) ∧ zs_C X d 5017 [.ref b8, .int (59 : Int32)] S4 (zs_kI (fun v12 S11 => (((v12 = 0 → (zs_U X d 4059 25 [(0, .ref p0), (1, .int p1), (2, va_rf p2), (4, .int v12)] [] S11 Q)) ∧ (¬ (v12 = 0) → (zs_K S11 p0 = some (.inl 4) ∧ ∃ b15, (zs_R S11 4000 p0) = some b15 ∧ zs_K S11 b15 = some (.inl 5) ∧ zs_C X d 5004 [.ref b15] S11 (zs_kV (fun S18 => (zs_U X d 4059 25 [(0, .ref p0), (1, .int p1), (2, va_rf p2), (4, .int v12)] [] S18 Q)) Q)))))) Q))) ∧ (¬ (v5 ≤ p8) → (∃ b20, p2 = some b20 ∧ zs_K S4 b20 = some (.inl 6) ∧ ∀ a23 S24, a23 = zs_N S4 → S24 = zs_nw S4 (.inl 12) 4 → zs_K S24 b1 = some (.inl 16) ∧ zs_C X d 16009 [.ref b1, .int p8] S24 (zs_kR (fun v30 S29 => ((∀ a, v30 = some a → zs_K S29 a = some (.inl 21)) ∧ ∃ b32, v30 = some b32 ∧ zs_K S29 b32 = some (.inl 21) ∧ zs_C X d 21000 [.ref b32] S29 (zs_kI (fun v36 S35 => (zs_C X d 12000 [.ref a23, .int v36, va_rf p7, va_rf none] S35 (zs_kV (fun S37 => (∃ b39, (zs_R S4 6007 b20) = some b39 ∧ zs_K S37 b39 = some (.inl 16) ∧ zs_C X d 16002 [.ref b39, va_rf (some a23)] S37 (zs_kI (fun v43 S42 => (w_X5_schema_144 X d p0 p1 p2 p6 p7 p8 S42 Q)) Q))) Q))) Q))) Q)))))) Q))
theorem u_X5_schema_103 {σ : Nat → Nat} {n0 : Nat} {bf : ab_B} {d : Nat} {p0 : Nat} {p1 : Int32} {p2 : Option Nat} {p6 : Option Nat} {p7 : Option Nat} {p8 : Int32} {S : zs_T} {Q : zs_Q} (hB : zt_B bf) (h : w_X5_schema_103 (zx σ n0 bf) d p0 p1 p2 p6 p7 p8 S Q) : zs_U (zx σ n0 bf) d 4059 103 [(0, .ref p0), (1, .int p1), (2, va_rf p2), (6, va_rf p6), (7, va_rf p7), (8, .int p8)] [] S Q := by
  unfold w_X5_schema_103 at h
  refine zu_iload d_4059_103 rfl ?_
  refine zu_aload d_4059_105 rfl (zs_rr _) ?_
  obtain ⟨b1, e2, h⟩ := h
  refine zs_stk0 (zs_rfe e2) ?_
  obtain ⟨k3, h⟩ := h
  refine zc_4_50  hB rfl k3 d_4059_107 (Nat.le_of_ble_eq_true rfl) h (fun v5 S4 h => ?_)
  refine zu_cmpge (t := 150) d_4059_110 rfl (fun c6 => ?_) (fun c6 => ?_)
  · have h := h.1 c6
    refine zu_aload_n d_4059_150 rfl (zs_ra _) ?_
    obtain ⟨k7, h⟩ := h
    refine zg_4_5 rfl d_4059_151 k7 ?_
    refine zu_bipush d_4059_154 zj_59 ?_
    obtain ⟨b8, e9, h⟩ := h
    refine zs_stk1 (zs_rfe e9) ?_
    obtain ⟨k10, h⟩ := h
    refine zc_4_21 (x0 := (59 : Int32)) hB rfl k10 d_4059_156 (Nat.le_of_ble_eq_true rfl) h (fun v12 S11 h => ?_)
    refine zu_istore d_4059_159 (zs_lt zq_4059 rfl) ?_
    refine zu_iload d_4059_161 rfl ?_
    refine zu_ifeq (t := 173) d_4059_163 rfl (fun c13 => ?_) (fun c13 => ?_)
    · have h := h.1 c13
      refine zu_goto (t := 25) d_4059_173 rfl ?_
      exact h.weak ⟨rfl, rfl, rfl, rfl, trivial⟩
    · have h := h.2 c13
      refine zu_aload_n d_4059_166 rfl (zs_ra _) ?_
      obtain ⟨k14, h⟩ := h
      refine zg_4_5 rfl d_4059_167 k14 ?_
      obtain ⟨b15, e16, h⟩ := h
      refine zs_stk0 (zs_rfe e16) ?_
      obtain ⟨k17, h⟩ := h
      refine zc_4_29  hB rfl k17 d_4059_170 (Nat.le_of_ble_eq_true rfl) h (fun S18 h => ?_)
      refine zu_goto (t := 25) d_4059_173 rfl ?_
      exact h.weak ⟨rfl, rfl, rfl, rfl, trivial⟩
  · have h := h.2 c6
    refine zu_aload_n d_4059_113 rfl (zs_rr _) ?_
    obtain ⟨b20, e21, h⟩ := h
    refine zs_stk0 (zs_rfe e21) ?_
    obtain ⟨k22, h⟩ := h
    refine zg_4_323 rfl d_4059_114 k22 ?_
    refine zn_4_93 rfl d_4059_117 ?_
    generalize e26 : zs_nw S4 (.inl 12) 4 = S24
    generalize e25 : zs_N S4 = a23
    have h := h a23 S24 e25.symm e26.symm
    have k27 := zs_kn e25 e26
    refine zu_dup d_4059_120 rfl ?_
    refine zu_aload d_4059_121 rfl (zs_rr _) ?_
    refine zu_iload d_4059_123 rfl ?_
    refine zs_stk1 (zs_rfe e2) ?_
    obtain ⟨k28, h⟩ := h
    refine zc_4_56 (x0 := p8) hB rfl k28 d_4059_125 (by simp only [List.map_cons, List.map_nil, List.sum_cons, List.sum_nil, zs_cat, zs_cI, zs_cJ, zs_cA]; exact Nat.le_of_ble_eq_true rfl) h (fun v30 S29 h => ?_)
    obtain ⟨k31, h⟩ := h
    refine zk_4_313 (o := v30) rfl d_4059_128 k31 ?_
    obtain ⟨b32, e33, h⟩ := h
    refine zs_stk0 (zs_rfe e33) ?_
    obtain ⟨k34, h⟩ := h
    refine zc_4_315  hB rfl k34 d_4059_131 (by simp only [List.map_cons, List.map_nil, List.sum_cons, List.sum_nil, zs_cat, zs_cI, zs_cJ, zs_cA]; exact Nat.le_of_ble_eq_true rfl) h (fun v36 S35 h => ?_)
    refine zu_aload d_4059_134 rfl (zs_rr _) ?_
    refine zu_stk d_4059_136 rfl rfl ?_
    refine zc_4_338 (x0 := v36) (x1 := p7) (x2 := none) hB rfl d_4059_137 (by simp only [List.map_cons, List.map_nil, List.sum_cons, List.sum_nil, zs_cat, zs_cI, zs_cJ, zs_cA]; exact Nat.le_of_ble_eq_true rfl) h (fun S37 h => ?_)
    obtain ⟨b39, e40, h⟩ := h
    refine zs_stk1 (zs_rfe e40) ?_
    obtain ⟨k41, h⟩ := h
    refine zc_4_140 (x0 := (some a23)) hB rfl k41 d_4059_140 (Nat.le_of_ble_eq_true rfl) h (fun v43 S42 h => ?_)
    refine zu_pop d_4059_143 rfl ?_
    exact (u_X5_schema_144 hB h).weak ⟨rfl, rfl, rfl, rfl, rfl, rfl, trivial⟩
def w_X5_schema (X : zs_X) (d : Nat) (p0 : Nat) (p1 : Int32) (S : zs_T) (Q : zs_Q) : Prop :=
  (zs_K S p0 = some (.inl 4) ∧ zs_C X d 4002 [.ref p0, .int (10 : Int32)] S (zs_kR (fun v3 S2 => (zs_K S2 p0 = some (.inl 4) ∧ ∃ b5, (zs_R S2 4000 p0) = some b5 ∧ zs_K S2 b5 = some (.inl 5) ∧ zs_C X d 5004 [.ref b5] S2 (zs_kV (fun S8 => (zs_K S8 p0 = some (.inl 4) ∧ ∃ b11, (zs_R S8 4008 p0) = some b11 ∧ zs_K S8 b11 = some (.inl 16) ∧ zs_C X d 16001 [.ref b11] S8 (zs_kI (fun v15 S14 => (zs_U X d 4059 25 [(0, .ref p0), (1, .int p1), (2, va_rf v3), (4, .int (1 : Int32))] [] S14 Q)) Q))) Q))) Q))
theorem u_X5_schema {σ : Nat → Nat} {n0 : Nat} {bf : ab_B} {d : Nat} {p0 : Nat} {p1 : Int32} {S : zs_T} {Q : zs_Q} (hB : zt_B bf) (hd : 1 ≤ d) (h : w_X5_schema (zx σ n0 bf) (d - 1) p0 p1 S Q) : zs_C (zx σ n0 bf) d 4059 [.ref p0, .int p1] S Q := by
  have hL : lv_args 0 [.ref p0, .int p1] = [(0, .ref p0), (1, .int p1)] := rfl
  refine zs_C.of1 (hB.2 4059 (by decide) (by decide)) hd (by rw [hL]; exact zs_sub_self _ (by exact ⟨rfl, rfl, trivial⟩)) ?_
  rw [hL]
  clear hL
  unfold w_X5_schema at h
  refine zu_aload_n d_4059_0 rfl (zs_ra _) ?_
  refine zu_bipush d_4059_1 zj_10 ?_
  obtain ⟨k1, h⟩ := h
  refine zc_4_144 (x0 := (10 : Int32)) hB rfl k1 d_4059_3 (Nat.le_of_ble_eq_true rfl) h (fun v3 S2 h => ?_)
  refine zu_astore_n d_4059_6 (zs_rr _) (zs_lt zq_4059 rfl) ?_
  refine zu_aload_n d_4059_7 rfl (zs_ra _) ?_
  obtain ⟨k4, h⟩ := h
  refine zg_4_5 rfl d_4059_8 k4 ?_
  obtain ⟨b5, e6, h⟩ := h
  refine zs_stk0 (zs_rfe e6) ?_
  obtain ⟨k7, h⟩ := h
  refine zc_4_29  hB rfl k7 d_4059_11 (Nat.le_of_ble_eq_true rfl) h (fun S8 h => ?_)
  refine zu_aload_n d_4059_14 rfl (zs_ra _) ?_
  obtain ⟨k10, h⟩ := h
  refine zg_4_46 rfl d_4059_15 k10 ?_
  obtain ⟨b11, e12, h⟩ := h
  refine zs_stk0 (zs_rfe e12) ?_
  obtain ⟨k13, h⟩ := h
  refine zc_4_50  hB rfl k13 d_4059_18 (Nat.le_of_ble_eq_true rfl) h (fun v15 S14 h => ?_)
  refine zu_istore_n d_4059_21 (zs_lt zq_4059 rfl) ?_
  refine zs_U.weak (L1 := [(3, .int v15), (0, .ref p0), (1, .int p1), (2, va_rf v3)]) ?_ ⟨rfl, zs_gp1 rfl (Or.inl rfl) rfl, zs_gp1 rfl (Or.inl rfl) rfl, zs_gp1 rfl (Or.inl (zs_cat _)) rfl, trivial⟩
  refine zu_iconst d_4059_22 zi_1 ?_
  refine zu_istore d_4059_23 (zs_lt zq_4059 rfl) ?_
  exact h.weak ⟨rfl, rfl, rfl, rfl, trivial⟩
/-! SchemaPascal$Reader.names(Ljava/util/ArrayList;LSchemaPascal$Type;)V -/
theorem zm_4060 {σ : Nat → Nat} {n0 : Nat} {bf : ab_B} : ab_code (zx σ n0 bf).1 4060 = prog_9_method_18_code := rfl
theorem zq_4060 {σ : Nat → Nat} {n0 : Nat} {bf : ab_B} : ab_maxL (zx σ n0 bf).1 4060 = 6 := rfl
theorem zr_4060 {σ : Nat → Nat} {n0 : Nat} {bf : ab_B} : ab_ret (zx σ n0 bf).1 4060 = (Option.none : Option Jvm.ClassFile.FieldType) := rfl
theorem d_4060_0 {σ : Nat → Nat} {n0 : Nat} {bf : ab_B} : decode (ab_code (zx σ n0 bf).1 4060) 0 = .ok (.iconst 1, 1) := zd zm_4060 (by decide +kernel)
theorem d_4060_1 {σ : Nat → Nat} {n0 : Nat} {bf : ab_B} : decode (ab_code (zx σ n0 bf).1 4060) 1 = .ok (.istore_n 3, 1) := zd zm_4060 (by decide +kernel)
theorem d_4060_2 {σ : Nat → Nat} {n0 : Nat} {bf : ab_B} : decode (ab_code (zx σ n0 bf).1 4060) 2 = .ok (.iload_n 3, 1) := zd zm_4060 (by decide +kernel)
theorem d_4060_3 {σ : Nat → Nat} {n0 : Nat} {bf : ab_B} : decode (ab_code (zx σ n0 bf).1 4060) 3 = .ok (.ifCond .eq 189, 3) := zd zm_4060 (by decide +kernel)
theorem d_4060_6 {σ : Nat → Nat} {n0 : Nat} {bf : ab_B} : decode (ab_code (zx σ n0 bf).1 4060) 6 = .ok (.aload_n 0, 1) := zd zm_4060 (by decide +kernel)
theorem d_4060_7 {σ : Nat → Nat} {n0 : Nat} {bf : ab_B} : decode (ab_code (zx σ n0 bf).1 4060) 7 = .ok (.getfield 5, 3) := zd zm_4060 (by decide +kernel)
theorem d_4060_10 {σ : Nat → Nat} {n0 : Nat} {bf : ab_B} : decode (ab_code (zx σ n0 bf).1 4060) 10 = .ok (.invokevirtual 36, 3) := zd zm_4060 (by decide +kernel)
theorem d_4060_13 {σ : Nat → Nat} {n0 : Nat} {bf : ab_B} : decode (ab_code (zx σ n0 bf).1 4060) 13 = .ok (.ifCond .ne 9, 3) := zd zm_4060 (by decide +kernel)
theorem d_4060_16 {σ : Nat → Nat} {n0 : Nat} {bf : ab_B} : decode (ab_code (zx σ n0 bf).1 4060) 16 = .ok (.aload_n 0, 1) := zd zm_4060 (by decide +kernel)
theorem d_4060_17 {σ : Nat → Nat} {n0 : Nat} {bf : ab_B} : decode (ab_code (zx σ n0 bf).1 4060) 17 = .ok (.iconst 2, 1) := zd zm_4060 (by decide +kernel)
theorem d_4060_18 {σ : Nat → Nat} {n0 : Nat} {bf : ab_B} : decode (ab_code (zx σ n0 bf).1 4060) 18 = .ok (.invokevirtual 25, 3) := zd zm_4060 (by decide +kernel)
theorem d_4060_21 {σ : Nat → Nat} {n0 : Nat} {bf : ab_B} : decode (ab_code (zx σ n0 bf).1 4060) 21 = .ok (.athrow, 1) := zd zm_4060 (by decide +kernel)
theorem d_4060_22 {σ : Nat → Nat} {n0 : Nat} {bf : ab_B} : decode (ab_code (zx σ n0 bf).1 4060) 22 = .ok (.iconst 0, 1) := zd zm_4060 (by decide +kernel)
theorem d_4060_23 {σ : Nat → Nat} {n0 : Nat} {bf : ab_B} : decode (ab_code (zx σ n0 bf).1 4060) 23 = .ok (.istore 4, 2) := zd zm_4060 (by decide +kernel)
theorem d_4060_25 {σ : Nat → Nat} {n0 : Nat} {bf : ab_B} : decode (ab_code (zx σ n0 bf).1 4060) 25 = .ok (.iconst 0, 1) := zd zm_4060 (by decide +kernel)
theorem d_4060_26 {σ : Nat → Nat} {n0 : Nat} {bf : ab_B} : decode (ab_code (zx σ n0 bf).1 4060) 26 = .ok (.istore 5, 2) := zd zm_4060 (by decide +kernel)
theorem d_4060_28 {σ : Nat → Nat} {n0 : Nat} {bf : ab_B} : decode (ab_code (zx σ n0 bf).1 4060) 28 = .ok (.iload 5, 2) := zd zm_4060 (by decide +kernel)
theorem d_4060_30 {σ : Nat → Nat} {n0 : Nat} {bf : ab_B} : decode (ab_code (zx σ n0 bf).1 4060) 30 = .ok (.aload_n 1, 1) := zd zm_4060 (by decide +kernel)
theorem d_4060_31 {σ : Nat → Nat} {n0 : Nat} {bf : ab_B} : decode (ab_code (zx σ n0 bf).1 4060) 31 = .ok (.invokevirtual 50, 3) := zd zm_4060 (by decide +kernel)
theorem d_4060_34 {σ : Nat → Nat} {n0 : Nat} {bf : ab_B} : decode (ab_code (zx σ n0 bf).1 4060) 34 = .ok (.if_icmp .ge 41, 3) := zd zm_4060 (by decide +kernel)
theorem d_4060_37 {σ : Nat → Nat} {n0 : Nat} {bf : ab_B} : decode (ab_code (zx σ n0 bf).1 4060) 37 = .ok (.iload 4, 2) := zd zm_4060 (by decide +kernel)
theorem d_4060_39 {σ : Nat → Nat} {n0 : Nat} {bf : ab_B} : decode (ab_code (zx σ n0 bf).1 4060) 39 = .ok (.aload_n 1, 1) := zd zm_4060 (by decide +kernel)
theorem d_4060_40 {σ : Nat → Nat} {n0 : Nat} {bf : ab_B} : decode (ab_code (zx σ n0 bf).1 4060) 40 = .ok (.iload 5, 2) := zd zm_4060 (by decide +kernel)
theorem d_4060_42 {σ : Nat → Nat} {n0 : Nat} {bf : ab_B} : decode (ab_code (zx σ n0 bf).1 4060) 42 = .ok (.invokevirtual 56, 3) := zd zm_4060 (by decide +kernel)
theorem d_4060_45 {σ : Nat → Nat} {n0 : Nat} {bf : ab_B} : decode (ab_code (zx σ n0 bf).1 4060) 45 = .ok (.checkcast 313, 3) := zd zm_4060 (by decide +kernel)
theorem d_4060_48 {σ : Nat → Nat} {n0 : Nat} {bf : ab_B} : decode (ab_code (zx σ n0 bf).1 4060) 48 = .ok (.invokevirtual 315, 3) := zd zm_4060 (by decide +kernel)
theorem d_4060_51 {σ : Nat → Nat} {n0 : Nat} {bf : ab_B} : decode (ab_code (zx σ n0 bf).1 4060) 51 = .ok (.aload_n 0, 1) := zd zm_4060 (by decide +kernel)
theorem d_4060_52 {σ : Nat → Nat} {n0 : Nat} {bf : ab_B} : decode (ab_code (zx σ n0 bf).1 4060) 52 = .ok (.getfield 5, 3) := zd zm_4060 (by decide +kernel)
theorem d_4060_55 {σ : Nat → Nat} {n0 : Nat} {bf : ab_B} : decode (ab_code (zx σ n0 bf).1 4060) 55 = .ok (.getfield 40, 3) := zd zm_4060 (by decide +kernel)
theorem d_4060_58 {σ : Nat → Nat} {n0 : Nat} {bf : ab_B} : decode (ab_code (zx σ n0 bf).1 4060) 58 = .ok (.if_icmp .ne 7, 3) := zd zm_4060 (by decide +kernel)
theorem d_4060_61 {σ : Nat → Nat} {n0 : Nat} {bf : ab_B} : decode (ab_code (zx σ n0 bf).1 4060) 61 = .ok (.iconst 1, 1) := zd zm_4060 (by decide +kernel)
theorem d_4060_62 {σ : Nat → Nat} {n0 : Nat} {bf : ab_B} : decode (ab_code (zx σ n0 bf).1 4060) 62 = .ok (.goto 4, 3) := zd zm_4060 (by decide +kernel)
theorem d_4060_65 {σ : Nat → Nat} {n0 : Nat} {bf : ab_B} : decode (ab_code (zx σ n0 bf).1 4060) 65 = .ok (.iconst 0, 1) := zd zm_4060 (by decide +kernel)
theorem d_4060_66 {σ : Nat → Nat} {n0 : Nat} {bf : ab_B} : decode (ab_code (zx σ n0 bf).1 4060) 66 = .ok (.ior, 1) := zd zm_4060 (by decide +kernel)
theorem d_4060_67 {σ : Nat → Nat} {n0 : Nat} {bf : ab_B} : decode (ab_code (zx σ n0 bf).1 4060) 67 = .ok (.istore 4, 2) := zd zm_4060 (by decide +kernel)
theorem d_4060_69 {σ : Nat → Nat} {n0 : Nat} {bf : ab_B} : decode (ab_code (zx σ n0 bf).1 4060) 69 = .ok (.iinc 5 1, 3) := zd zm_4060 (by decide +kernel)
theorem d_4060_72 {σ : Nat → Nat} {n0 : Nat} {bf : ab_B} : decode (ab_code (zx σ n0 bf).1 4060) 72 = .ok (.goto (-44), 3) := zd zm_4060 (by decide +kernel)
theorem d_4060_75 {σ : Nat → Nat} {n0 : Nat} {bf : ab_B} : decode (ab_code (zx σ n0 bf).1 4060) 75 = .ok (.iconst 0, 1) := zd zm_4060 (by decide +kernel)
theorem d_4060_76 {σ : Nat → Nat} {n0 : Nat} {bf : ab_B} : decode (ab_code (zx σ n0 bf).1 4060) 76 = .ok (.istore 5, 2) := zd zm_4060 (by decide +kernel)
theorem d_4060_78 {σ : Nat → Nat} {n0 : Nat} {bf : ab_B} : decode (ab_code (zx σ n0 bf).1 4060) 78 = .ok (.aload_n 2, 1) := zd zm_4060 (by decide +kernel)
theorem d_4060_79 {σ : Nat → Nat} {n0 : Nat} {bf : ab_B} : decode (ab_code (zx σ n0 bf).1 4060) 79 = .ok (.ifnull 56, 3) := zd zm_4060 (by decide +kernel)
theorem d_4060_82 {σ : Nat → Nat} {n0 : Nat} {bf : ab_B} : decode (ab_code (zx σ n0 bf).1 4060) 82 = .ok (.iload 5, 2) := zd zm_4060 (by decide +kernel)
theorem d_4060_84 {σ : Nat → Nat} {n0 : Nat} {bf : ab_B} : decode (ab_code (zx σ n0 bf).1 4060) 84 = .ok (.aload_n 2, 1) := zd zm_4060 (by decide +kernel)
theorem d_4060_85 {σ : Nat → Nat} {n0 : Nat} {bf : ab_B} : decode (ab_code (zx σ n0 bf).1 4060) 85 = .ok (.getfield 323, 3) := zd zm_4060 (by decide +kernel)
theorem d_4060_88 {σ : Nat → Nat} {n0 : Nat} {bf : ab_B} : decode (ab_code (zx σ n0 bf).1 4060) 88 = .ok (.invokevirtual 50, 3) := zd zm_4060 (by decide +kernel)
theorem d_4060_91 {σ : Nat → Nat} {n0 : Nat} {bf : ab_B} : decode (ab_code (zx σ n0 bf).1 4060) 91 = .ok (.if_icmp .ge 44, 3) := zd zm_4060 (by decide +kernel)
theorem d_4060_94 {σ : Nat → Nat} {n0 : Nat} {bf : ab_B} : decode (ab_code (zx σ n0 bf).1 4060) 94 = .ok (.iload 4, 2) := zd zm_4060 (by decide +kernel)
theorem d_4060_96 {σ : Nat → Nat} {n0 : Nat} {bf : ab_B} : decode (ab_code (zx σ n0 bf).1 4060) 96 = .ok (.aload_n 2, 1) := zd zm_4060 (by decide +kernel)
theorem d_4060_97 {σ : Nat → Nat} {n0 : Nat} {bf : ab_B} : decode (ab_code (zx σ n0 bf).1 4060) 97 = .ok (.getfield 323, 3) := zd zm_4060 (by decide +kernel)
theorem d_4060_100 {σ : Nat → Nat} {n0 : Nat} {bf : ab_B} : decode (ab_code (zx σ n0 bf).1 4060) 100 = .ok (.iload 5, 2) := zd zm_4060 (by decide +kernel)
theorem d_4060_102 {σ : Nat → Nat} {n0 : Nat} {bf : ab_B} : decode (ab_code (zx σ n0 bf).1 4060) 102 = .ok (.invokevirtual 56, 3) := zd zm_4060 (by decide +kernel)
theorem d_4060_105 {σ : Nat → Nat} {n0 : Nat} {bf : ab_B} : decode (ab_code (zx σ n0 bf).1 4060) 105 = .ok (.checkcast 93, 3) := zd zm_4060 (by decide +kernel)
theorem d_4060_108 {σ : Nat → Nat} {n0 : Nat} {bf : ab_B} : decode (ab_code (zx σ n0 bf).1 4060) 108 = .ok (.getfield 92, 3) := zd zm_4060 (by decide +kernel)
theorem d_4060_111 {σ : Nat → Nat} {n0 : Nat} {bf : ab_B} : decode (ab_code (zx σ n0 bf).1 4060) 111 = .ok (.aload_n 0, 1) := zd zm_4060 (by decide +kernel)
theorem d_4060_112 {σ : Nat → Nat} {n0 : Nat} {bf : ab_B} : decode (ab_code (zx σ n0 bf).1 4060) 112 = .ok (.getfield 5, 3) := zd zm_4060 (by decide +kernel)
theorem d_4060_115 {σ : Nat → Nat} {n0 : Nat} {bf : ab_B} : decode (ab_code (zx σ n0 bf).1 4060) 115 = .ok (.getfield 40, 3) := zd zm_4060 (by decide +kernel)
theorem d_4060_118 {σ : Nat → Nat} {n0 : Nat} {bf : ab_B} : decode (ab_code (zx σ n0 bf).1 4060) 118 = .ok (.if_icmp .ne 7, 3) := zd zm_4060 (by decide +kernel)
theorem d_4060_121 {σ : Nat → Nat} {n0 : Nat} {bf : ab_B} : decode (ab_code (zx σ n0 bf).1 4060) 121 = .ok (.iconst 1, 1) := zd zm_4060 (by decide +kernel)
theorem d_4060_122 {σ : Nat → Nat} {n0 : Nat} {bf : ab_B} : decode (ab_code (zx σ n0 bf).1 4060) 122 = .ok (.goto 4, 3) := zd zm_4060 (by decide +kernel)
theorem d_4060_125 {σ : Nat → Nat} {n0 : Nat} {bf : ab_B} : decode (ab_code (zx σ n0 bf).1 4060) 125 = .ok (.iconst 0, 1) := zd zm_4060 (by decide +kernel)
theorem d_4060_126 {σ : Nat → Nat} {n0 : Nat} {bf : ab_B} : decode (ab_code (zx σ n0 bf).1 4060) 126 = .ok (.ior, 1) := zd zm_4060 (by decide +kernel)
theorem d_4060_127 {σ : Nat → Nat} {n0 : Nat} {bf : ab_B} : decode (ab_code (zx σ n0 bf).1 4060) 127 = .ok (.istore 4, 2) := zd zm_4060 (by decide +kernel)
theorem d_4060_129 {σ : Nat → Nat} {n0 : Nat} {bf : ab_B} : decode (ab_code (zx σ n0 bf).1 4060) 129 = .ok (.iinc 5 1, 3) := zd zm_4060 (by decide +kernel)
theorem d_4060_132 {σ : Nat → Nat} {n0 : Nat} {bf : ab_B} : decode (ab_code (zx σ n0 bf).1 4060) 132 = .ok (.goto (-54), 3) := zd zm_4060 (by decide +kernel)
theorem d_4060_135 {σ : Nat → Nat} {n0 : Nat} {bf : ab_B} : decode (ab_code (zx σ n0 bf).1 4060) 135 = .ok (.iload 4, 2) := zd zm_4060 (by decide +kernel)
theorem d_4060_137 {σ : Nat → Nat} {n0 : Nat} {bf : ab_B} : decode (ab_code (zx σ n0 bf).1 4060) 137 = .ok (.ifCond .eq 9, 3) := zd zm_4060 (by decide +kernel)
theorem d_4060_140 {σ : Nat → Nat} {n0 : Nat} {bf : ab_B} : decode (ab_code (zx σ n0 bf).1 4060) 140 = .ok (.aload_n 0, 1) := zd zm_4060 (by decide +kernel)
theorem d_4060_141 {σ : Nat → Nat} {n0 : Nat} {bf : ab_B} : decode (ab_code (zx σ n0 bf).1 4060) 141 = .ok (.iconst 4, 1) := zd zm_4060 (by decide +kernel)
theorem d_4060_142 {σ : Nat → Nat} {n0 : Nat} {bf : ab_B} : decode (ab_code (zx σ n0 bf).1 4060) 142 = .ok (.invokevirtual 25, 3) := zd zm_4060 (by decide +kernel)
theorem d_4060_145 {σ : Nat → Nat} {n0 : Nat} {bf : ab_B} : decode (ab_code (zx σ n0 bf).1 4060) 145 = .ok (.athrow, 1) := zd zm_4060 (by decide +kernel)
theorem d_4060_146 {σ : Nat → Nat} {n0 : Nat} {bf : ab_B} : decode (ab_code (zx σ n0 bf).1 4060) 146 = .ok (.aload_n 1, 1) := zd zm_4060 (by decide +kernel)
theorem d_4060_147 {σ : Nat → Nat} {n0 : Nat} {bf : ab_B} : decode (ab_code (zx σ n0 bf).1 4060) 147 = .ok (.aload_n 0, 1) := zd zm_4060 (by decide +kernel)
theorem d_4060_148 {σ : Nat → Nat} {n0 : Nat} {bf : ab_B} : decode (ab_code (zx σ n0 bf).1 4060) 148 = .ok (.getfield 5, 3) := zd zm_4060 (by decide +kernel)
theorem d_4060_151 {σ : Nat → Nat} {n0 : Nat} {bf : ab_B} : decode (ab_code (zx σ n0 bf).1 4060) 151 = .ok (.getfield 40, 3) := zd zm_4060 (by decide +kernel)
theorem d_4060_154 {σ : Nat → Nat} {n0 : Nat} {bf : ab_B} : decode (ab_code (zx σ n0 bf).1 4060) 154 = .ok (.invokestatic 350, 3) := zd zm_4060 (by decide +kernel)
theorem d_4060_157 {σ : Nat → Nat} {n0 : Nat} {bf : ab_B} : decode (ab_code (zx σ n0 bf).1 4060) 157 = .ok (.invokevirtual 140, 3) := zd zm_4060 (by decide +kernel)
theorem d_4060_160 {σ : Nat → Nat} {n0 : Nat} {bf : ab_B} : decode (ab_code (zx σ n0 bf).1 4060) 160 = .ok (.pop, 1) := zd zm_4060 (by decide +kernel)
theorem d_4060_161 {σ : Nat → Nat} {n0 : Nat} {bf : ab_B} : decode (ab_code (zx σ n0 bf).1 4060) 161 = .ok (.aload_n 0, 1) := zd zm_4060 (by decide +kernel)
theorem d_4060_162 {σ : Nat → Nat} {n0 : Nat} {bf : ab_B} : decode (ab_code (zx σ n0 bf).1 4060) 162 = .ok (.getfield 5, 3) := zd zm_4060 (by decide +kernel)
theorem d_4060_165 {σ : Nat → Nat} {n0 : Nat} {bf : ab_B} : decode (ab_code (zx σ n0 bf).1 4060) 165 = .ok (.invokevirtual 29, 3) := zd zm_4060 (by decide +kernel)
theorem d_4060_168 {σ : Nat → Nat} {n0 : Nat} {bf : ab_B} : decode (ab_code (zx σ n0 bf).1 4060) 168 = .ok (.aload_n 0, 1) := zd zm_4060 (by decide +kernel)
theorem d_4060_169 {σ : Nat → Nat} {n0 : Nat} {bf : ab_B} : decode (ab_code (zx σ n0 bf).1 4060) 169 = .ok (.getfield 5, 3) := zd zm_4060 (by decide +kernel)
theorem d_4060_172 {σ : Nat → Nat} {n0 : Nat} {bf : ab_B} : decode (ab_code (zx σ n0 bf).1 4060) 172 = .ok (.bipush 44, 2) := zd zm_4060 (by decide +kernel)
theorem d_4060_174 {σ : Nat → Nat} {n0 : Nat} {bf : ab_B} : decode (ab_code (zx σ n0 bf).1 4060) 174 = .ok (.invokevirtual 21, 3) := zd zm_4060 (by decide +kernel)
theorem d_4060_177 {σ : Nat → Nat} {n0 : Nat} {bf : ab_B} : decode (ab_code (zx σ n0 bf).1 4060) 177 = .ok (.istore_n 3, 1) := zd zm_4060 (by decide +kernel)
theorem d_4060_178 {σ : Nat → Nat} {n0 : Nat} {bf : ab_B} : decode (ab_code (zx σ n0 bf).1 4060) 178 = .ok (.iload_n 3, 1) := zd zm_4060 (by decide +kernel)
theorem d_4060_179 {σ : Nat → Nat} {n0 : Nat} {bf : ab_B} : decode (ab_code (zx σ n0 bf).1 4060) 179 = .ok (.ifCond .eq 10, 3) := zd zm_4060 (by decide +kernel)
theorem d_4060_182 {σ : Nat → Nat} {n0 : Nat} {bf : ab_B} : decode (ab_code (zx σ n0 bf).1 4060) 182 = .ok (.aload_n 0, 1) := zd zm_4060 (by decide +kernel)
theorem d_4060_183 {σ : Nat → Nat} {n0 : Nat} {bf : ab_B} : decode (ab_code (zx σ n0 bf).1 4060) 183 = .ok (.getfield 5, 3) := zd zm_4060 (by decide +kernel)
theorem d_4060_186 {σ : Nat → Nat} {n0 : Nat} {bf : ab_B} : decode (ab_code (zx σ n0 bf).1 4060) 186 = .ok (.invokevirtual 29, 3) := zd zm_4060 (by decide +kernel)
theorem d_4060_189 {σ : Nat → Nat} {n0 : Nat} {bf : ab_B} : decode (ab_code (zx σ n0 bf).1 4060) 189 = .ok (.goto (-187), 3) := zd zm_4060 (by decide +kernel)
theorem d_4060_192 {σ : Nat → Nat} {n0 : Nat} {bf : ab_B} : decode (ab_code (zx σ n0 bf).1 4060) 192 = .ok (.return_, 1) := zd zm_4060 (by decide +kernel)
def w_X5_names_2 (X : zs_X) (d : Nat) (p0 : Nat) (p1 : Option Nat) (p2 : Option Nat) (p3 : Int32) (S : zs_T) (Q : zs_Q) : Prop :=
  (((p3 = 0 → (Q (.returned none) S)) ∧ (¬ (p3 = 0) → (zs_K S p0 = some (.inl 4) ∧ ∃ b3, (zs_R S 4000 p0) = some b3 ∧ zs_K S b3 = some (.inl 5) ∧ zs_C X d 5016 [.ref b3] S (zs_kI (fun v7 S6 => (((¬ v7 = 0 → (zs_U X d 4060 28 [(0, .ref p0), (1, va_rf p1), (2, va_rf p2), (4, .int (0 : Int32)), (5, .int (0 : Int32))] [] S6 Q)) ∧ (¬ (¬ v7 = 0) → (zs_K S6 p0 = some (.inl 4) ∧ zs_C X d 4006 [.ref p0, .int (2 : Int32)] S6 (zs_kR (fun v11 S10 => (∃ b12, v11 = some b12 ∧ Q (.threw b12) S10)) Q)))))) Q)))))
theorem u_X5_names_2 {σ : Nat → Nat} {n0 : Nat} {bf : ab_B} {d : Nat} {p0 : Nat} {p1 : Option Nat} {p2 : Option Nat} {p3 : Int32} {S : zs_T} {Q : zs_Q} (hB : zt_B bf) (h : w_X5_names_2 (zx σ n0 bf) d p0 p1 p2 p3 S Q) : zs_U (zx σ n0 bf) d 4060 2 [(0, .ref p0), (1, va_rf p1), (2, va_rf p2), (3, .int p3)] [] S Q := by
  unfold w_X5_names_2 at h
  refine zu_iload_n d_4060_2 rfl ?_
  refine zu_ifeq (t := 192) d_4060_3 rfl (fun c1 => ?_) (fun c1 => ?_)
  · have h := h.1 c1
    exact zu_vret d_4060_192 zr_4060 h
  · have h := h.2 c1
    refine zu_aload_n d_4060_6 rfl (zs_ra _) ?_
    obtain ⟨k2, h⟩ := h
    refine zg_4_5 rfl d_4060_7 k2 ?_
    obtain ⟨b3, e4, h⟩ := h
    refine zs_stk0 (zs_rfe e4) ?_
    obtain ⟨k5, h⟩ := h
    refine zc_4_36  hB rfl k5 d_4060_10 (Nat.le_of_ble_eq_true rfl) h (fun v7 S6 h => ?_)
    refine zu_ifne (t := 22) d_4060_13 rfl (fun c8 => ?_) (fun c8 => ?_)
    · have h := h.1 c8
      refine zu_iconst d_4060_22 zi_0 ?_
      refine zu_istore d_4060_23 (zs_lt zq_4060 rfl) ?_
      refine zu_iconst d_4060_25 zi_0 ?_
      refine zu_istore d_4060_26 (zs_lt zq_4060 rfl) ?_
      exact h.weak ⟨rfl, rfl, rfl, rfl, rfl, trivial⟩
    · have h := h.2 c8
      refine zu_aload_n d_4060_16 rfl (zs_ra _) ?_
      refine zu_iconst d_4060_17 zi_2 ?_
      obtain ⟨k9, h⟩ := h
      refine zc_4_25 (x0 := (2 : Int32)) hB rfl k9 d_4060_18 (Nat.le_of_ble_eq_true rfl) h (fun v11 S10 h => ?_)
      obtain ⟨b12, e13, h⟩ := h
      refine zs_stk0 (zs_rfe e13) ?_
      exact zu_throw d_4060_21 h
def w_X5_names_66 (X : zs_X) (d : Nat) (p0 : Nat) (p1 : Option Nat) (p2 : Option Nat) (p5 : Int32) (q0 : Int32) (q1 : Int32) (S : zs_T) (Q : zs_Q) : Prop :=
  (zs_U X d 4060 28 [(0, .ref p0), (1, va_rf p1), (2, va_rf p2), (4, .int (q0 ||| q1)), (5, .int (p5 + (1 : Int32)))] [] S Q)
theorem u_X5_names_66 {σ : Nat → Nat} {n0 : Nat} {bf : ab_B} {d : Nat} {p0 : Nat} {p1 : Option Nat} {p2 : Option Nat} {p5 : Int32} {q0 : Int32} {q1 : Int32} {S : zs_T} {Q : zs_Q} (hB : zt_B bf) (h : w_X5_names_66 (zx σ n0 bf) d p0 p1 p2 p5 q0 q1 S Q) : zs_U (zx σ n0 bf) d 4060 66 [(0, .ref p0), (1, va_rf p1), (2, va_rf p2), (5, .int p5)] [.int q1, .int q0] S Q := by
  unfold w_X5_names_66 at h
  refine zu_stk d_4060_66 rfl rfl ?_
  refine zu_istore d_4060_67 (zs_lt zq_4060 rfl) ?_
  refine zu_iinc d_4060_69 rfl zi_1 (zs_lt zq_4060 rfl) ?_
  refine zu_goto (t := 28) d_4060_72 rfl ?_
  exact h.weak ⟨rfl, rfl, rfl, rfl, rfl, trivial⟩
def w_X5_names_28 (X : zs_X) (d : Nat) (p0 : Nat) (p1 : Option Nat) (p2 : Option Nat) (p4 : Int32) (p5 : Int32) (S : zs_T) (Q : zs_Q) : Prop :=
  (∃ b1, p1 = some b1 ∧ zs_K S b1 = some (.inl 16) ∧ zs_C X d 16001 [.ref b1] S (zs_kI (fun v5 S4 => (((v5 ≤ p5 → (zs_U X d 4060 78 [(0, .ref p0), (1, va_rf p1), (2, va_rf p2), (4, .int p4), (5, .int (0 : Int32))] [] S4 Q)) ∧ (¬ (v5 ≤ p5) → (zs_K S4 b1 = some (.inl 16) ∧ zs_C X d 16009 [.ref b1, .int p5] S4 (zs_kR (fun v9 S8 => ((∀ a, v9 = some a → zs_K S8 a = some (.inl 21)) ∧ ∃ b11, v9 = some b11 ∧ zs_K S8 b11 = some (.inl 21) ∧ zs_C X d 21000 [.ref b11] S8 (zs_kI (fun v15 S14 => (zs_K S14 p0 = some (.inl 4) ∧ ∃ b17, (zs_R S14 4000 p0) = some b17 ∧ zs_K S14 b17 = some (.inl 5) ∧ ((¬ v15 = (zs_I S14 5004 b17) → (w_X5_names_66 X d p0 p1 p2 p5 p4 (0 : Int32) S14 Q)) ∧ (¬ (¬ v15 = (zs_I S14 5004 b17)) → (w_X5_names_66 X d p0 p1 p2 p5 p4 (1 : Int32) S14 Q))))) Q))) Q)))))) Q))
theorem u_X5_names_28 {σ : Nat → Nat} {n0 : Nat} {bf : ab_B} {d : Nat} {p0 : Nat} {p1 : Option Nat} {p2 : Option Nat} {p4 : Int32} {p5 : Int32} {S : zs_T} {Q : zs_Q} (hB : zt_B bf) (h : w_X5_names_28 (zx σ n0 bf) d p0 p1 p2 p4 p5 S Q) : zs_U (zx σ n0 bf) d 4060 28 [(0, .ref p0), (1, va_rf p1), (2, va_rf p2), (4, .int p4), (5, .int p5)] [] S Q := by
  unfold w_X5_names_28 at h
  refine zu_iload d_4060_28 rfl ?_
  refine zu_aload_n d_4060_30 rfl (zs_rr _) ?_
  obtain ⟨b1, e2, h⟩ := h
  refine zs_stk0 (zs_rfe e2) ?_
  obtain ⟨k3, h⟩ := h
  refine zc_4_50  hB rfl k3 d_4060_31 (Nat.le_of_ble_eq_true rfl) h (fun v5 S4 h => ?_)
  refine zu_cmpge (t := 75) d_4060_34 rfl (fun c6 => ?_) (fun c6 => ?_)
  · have h := h.1 c6
    refine zu_iconst d_4060_75 zi_0 ?_
    refine zu_istore d_4060_76 (zs_lt zq_4060 rfl) ?_
    exact h.weak ⟨rfl, rfl, rfl, rfl, rfl, trivial⟩
  · have h := h.2 c6
    refine zu_iload d_4060_37 rfl ?_
    refine zu_aload_n d_4060_39 rfl (zs_rr _) ?_
    refine zu_iload d_4060_40 rfl ?_
    refine zs_stk1 (zs_rfe e2) ?_
    obtain ⟨k7, h⟩ := h
    refine zc_4_56 (x0 := p5) hB rfl k7 d_4060_42 (Nat.le_of_ble_eq_true rfl) h (fun v9 S8 h => ?_)
    obtain ⟨k10, h⟩ := h
    refine zk_4_313 (o := v9) rfl d_4060_45 k10 ?_
    obtain ⟨b11, e12, h⟩ := h
    refine zs_stk0 (zs_rfe e12) ?_
    obtain ⟨k13, h⟩ := h
    refine zc_4_315  hB rfl k13 d_4060_48 (Nat.le_of_ble_eq_true rfl) h (fun v15 S14 h => ?_)
    refine zu_aload_n d_4060_51 rfl (zs_ra _) ?_
    obtain ⟨k16, h⟩ := h
    refine zg_4_5 rfl d_4060_52 k16 ?_
    obtain ⟨b17, e18, h⟩ := h
    refine zs_stk0 (zs_rfe e18) ?_
    obtain ⟨k19, h⟩ := h
    refine zg_4_40 rfl d_4060_55 k19 ?_
    refine zu_cmpne (t := 65) d_4060_58 rfl (fun c20 => ?_) (fun c20 => ?_)
    · have h := h.1 c20
      refine zu_iconst d_4060_65 zi_0 ?_
      exact (u_X5_names_66 hB h).weak ⟨rfl, rfl, rfl, rfl, trivial⟩
    · have h := h.2 c20
      refine zu_iconst d_4060_61 zi_1 ?_
      refine zu_goto (t := 66) d_4060_62 rfl ?_
      exact (u_X5_names_66 hB h).weak ⟨rfl, rfl, rfl, rfl, trivial⟩
def w_X5_names_178 (X : zs_X) (d : Nat) (p0 : Nat) (p1 : Option Nat) (p2 : Option Nat) (p3 : Int32) (S : zs_T) (Q : zs_Q) : Prop :=
  (((p3 = 0 → (zs_U X d 4060 2 [(0, .ref p0), (1, va_rf p1), (2, va_rf p2), (3, .int p3)] [] S Q)) ∧ (¬ (p3 = 0) → (zs_K S p0 = some (.inl 4) ∧ ∃ b3, (zs_R S 4000 p0) = some b3 ∧ zs_K S b3 = some (.inl 5) ∧ zs_C X d 5004 [.ref b3] S (zs_kV (fun S6 => (zs_U X d 4060 2 [(0, .ref p0), (1, va_rf p1), (2, va_rf p2), (3, .int p3)] [] S6 Q)) Q)))))
theorem u_X5_names_178 {σ : Nat → Nat} {n0 : Nat} {bf : ab_B} {d : Nat} {p0 : Nat} {p1 : Option Nat} {p2 : Option Nat} {p3 : Int32} {S : zs_T} {Q : zs_Q} (hB : zt_B bf) (h : w_X5_names_178 (zx σ n0 bf) d p0 p1 p2 p3 S Q) : zs_U (zx σ n0 bf) d 4060 178 [(0, .ref p0), (1, va_rf p1), (2, va_rf p2), (3, .int p3)] [] S Q := by
  unfold w_X5_names_178 at h
  refine zu_iload_n d_4060_178 rfl ?_
  refine zu_ifeq (t := 189) d_4060_179 rfl (fun c1 => ?_) (fun c1 => ?_)
  · have h := h.1 c1
    refine zu_goto (t := 2) d_4060_189 rfl ?_
    exact h.weak ⟨rfl, rfl, rfl, rfl, trivial⟩
  · have h := h.2 c1
    refine zu_aload_n d_4060_182 rfl (zs_ra _) ?_
    obtain ⟨k2, h⟩ := h
    refine zg_4_5 rfl d_4060_183 k2 ?_
    obtain ⟨b3, e4, h⟩ := h
    refine zs_stk0 (zs_rfe e4) ?_
    obtain ⟨k5, h⟩ := h
    refine zc_4_29  hB rfl k5 d_4060_186 (Nat.le_of_ble_eq_true rfl) h (fun S6 h => ?_)
    refine zu_goto (t := 2) d_4060_189 rfl ?_
    exact h.weak ⟨rfl, rfl, rfl, rfl, trivial⟩
def w_X5_names_135 (X : zs_X) (d : Nat) (p0 : Nat) (p1 : Option Nat) (p2 : Option Nat) (p4 : Int32) (S : zs_T) (Q : zs_Q) : Prop :=
  (((p4 = 0 → (zs_K S p0 = some (.inl 4) ∧ ∃ b3, (zs_R S 4000 p0) = some b3 ∧ zs_K S b3 = some (.inl 5) ∧ zs_C X d 21001 [.int (zs_I S 5004 b3)] S (zs_kR (fun v7 S6 => (∃ b8, p1 = some b8 ∧ zs_K S6 b8 = some (.inl 16) ∧ zs_C X d 16002 [.ref b8, va_rf v7] S6 (zs_kI (fun v12 S11 => (zs_K S11 p0 = some (.inl 4) ∧ ∃ b14, (zs_R S11 4000 p0) = some b14 ∧ zs_K S11 b14 = some (.inl 5) ∧ zs_C X d 5004 [.ref b14] S11 (zs_kV (fun S17 => (zs_K S17 p0 = some (.inl 4) ∧ ∃ b20, (zs_R S17 4000 p0) = some b20 ∧ zs_K S17 b20 = some (.inl 5) ∧ zs_C X d 5017 [.ref b20, .int (44 : Int32)] S17 (zs_kI (fun v24 S23 => (w_X5_names_178 X d p0 p1 p2 v24 S23 Q)) Q))) Q))) Q))) Q))) ∧ (¬ (p4 = 0) → (zs_K S p0 = some (.inl 4) ∧ zs_C X d 4006 [.ref p0, .int (4 : Int32)] S (zs_kR (fun v27 S26 => (∃ b28, v27 = some b28 ∧ Q (.threw b28) S26)) Q)))))
theorem u_X5_names_135 {σ : Nat → Nat} {n0 : Nat} {bf : ab_B} {d : Nat} {p0 : Nat} {p1 : Option Nat} {p2 : Option Nat} {p4 : Int32} {S : zs_T} {Q : zs_Q} (hB : zt_B bf) (h : w_X5_names_135 (zx σ n0 bf) d p0 p1 p2 p4 S Q) : zs_U (zx σ n0 bf) d 4060 135 [(0, .ref p0), (1, va_rf p1), (2, va_rf p2), (4, .int p4)] [] S Q := by
  unfold w_X5_names_135 at h
  refine zu_iload d_4060_135 rfl ?_
  refine zu_ifeq (t := 146) d_4060_137 rfl (fun c1 => ?_) (fun c1 => ?_)
  · have h := h.1 c1
    refine zu_aload_n d_4060_146 rfl (zs_rr _) ?_
    refine zu_aload_n d_4060_147 rfl (zs_ra _) ?_
    obtain ⟨k2, h⟩ := h
    refine zg_4_5 rfl d_4060_148 k2 ?_
    obtain ⟨b3, e4, h⟩ := h
    refine zs_stk0 (zs_rfe e4) ?_
    obtain ⟨k5, h⟩ := h
    refine zg_4_40 rfl d_4060_151 k5 ?_
    refine zc_4_350 (x0 := (zs_I S 5004 b3)) hB rfl d_4060_154 (by simp only [List.map_cons, List.map_nil, List.sum_cons, List.sum_nil, zs_cat, zs_cI, zs_cJ, zs_cA]; exact Nat.le_of_ble_eq_true rfl) h (fun v7 S6 h => ?_)
    obtain ⟨b8, e9, h⟩ := h
    refine zs_stk1 (zs_rfe e9) ?_
    obtain ⟨k10, h⟩ := h
    refine zc_4_140 (x0 := v7) hB rfl k10 d_4060_157 (Nat.le_of_ble_eq_true rfl) h (fun v12 S11 h => ?_)
    refine zu_pop d_4060_160 rfl ?_
    refine zu_aload_n d_4060_161 rfl (zs_ra _) ?_
    obtain ⟨k13, h⟩ := h
    refine zg_4_5 rfl d_4060_162 k13 ?_
    obtain ⟨b14, e15, h⟩ := h
    refine zs_stk0 (zs_rfe e15) ?_
    obtain ⟨k16, h⟩ := h
    refine zc_4_29  hB rfl k16 d_4060_165 (Nat.le_of_ble_eq_true rfl) h (fun S17 h => ?_)
    refine zu_aload_n d_4060_168 rfl (zs_ra _) ?_
    obtain ⟨k19, h⟩ := h
    refine zg_4_5 rfl d_4060_169 k19 ?_
    refine zu_bipush d_4060_172 zj_44 ?_
    obtain ⟨b20, e21, h⟩ := h
    refine zs_stk1 (zs_rfe e21) ?_
    obtain ⟨k22, h⟩ := h
    refine zc_4_21 (x0 := (44 : Int32)) hB rfl k22 d_4060_174 (Nat.le_of_ble_eq_true rfl) h (fun v24 S23 h => ?_)
    refine zu_istore_n d_4060_177 (zs_lt zq_4060 rfl) ?_
    refine zs_U.weak (L1 := [(3, .int v24), (0, .ref p0), (1, va_rf p1), (2, va_rf p2), (4, .int p4)]) ?_ ⟨rfl, zs_gp1 rfl (Or.inl rfl) rfl, zs_gp1 rfl (Or.inl (zs_cat _)) rfl, zs_gp1 rfl (Or.inl (zs_cat _)) rfl, zs_gp1 rfl (Or.inl rfl) rfl, trivial⟩
    exact (u_X5_names_178 hB h).weak ⟨rfl, rfl, rfl, rfl, trivial⟩
  · have h := h.2 c1
    refine zu_aload_n d_4060_140 rfl (zs_ra _) ?_
    refine zu_iconst d_4060_141 zi_4 ?_
    obtain ⟨k25, h⟩ := h
    refine zc_4_25 (x0 := (4 : Int32)) hB rfl k25 d_4060_142 (Nat.le_of_ble_eq_true rfl) h (fun v27 S26 h => ?_)
    obtain ⟨b28, e29, h⟩ := h
    refine zs_stk0 (zs_rfe e29) ?_
    exact zu_throw d_4060_145 h
def w_X5_names_126 (X : zs_X) (d : Nat) (p0 : Nat) (p1 : Option Nat) (p2 : Option Nat) (p5 : Int32) (q0 : Int32) (q1 : Int32) (S : zs_T) (Q : zs_Q) : Prop :=
  (zs_U X d 4060 78 [(0, .ref p0), (1, va_rf p1), (2, va_rf p2), (4, .int (q0 ||| q1)), (5, .int (p5 + (1 : Int32)))] [] S Q)
theorem u_X5_names_126 {σ : Nat → Nat} {n0 : Nat} {bf : ab_B} {d : Nat} {p0 : Nat} {p1 : Option Nat} {p2 : Option Nat} {p5 : Int32} {q0 : Int32} {q1 : Int32} {S : zs_T} {Q : zs_Q} (hB : zt_B bf) (h : w_X5_names_126 (zx σ n0 bf) d p0 p1 p2 p5 q0 q1 S Q) : zs_U (zx σ n0 bf) d 4060 126 [(0, .ref p0), (1, va_rf p1), (2, va_rf p2), (5, .int p5)] [.int q1, .int q0] S Q := by
  unfold w_X5_names_126 at h
  refine zu_stk d_4060_126 rfl rfl ?_
  refine zu_istore d_4060_127 (zs_lt zq_4060 rfl) ?_
  refine zu_iinc d_4060_129 rfl zi_1 (zs_lt zq_4060 rfl) ?_
  refine zu_goto (t := 78) d_4060_132 rfl ?_
  exact h.weak ⟨rfl, rfl, rfl, rfl, rfl, trivial⟩
def w_X5_names_78 (X : zs_X) (d : Nat) (p0 : Nat) (p1 : Option Nat) (p2 : Option Nat) (p4 : Int32) (p5 : Int32) (S : zs_T) (Q : zs_Q) : Prop :=
  (((p2 = none → w_X5_names_135 X d p0 p1 p2 p4 S Q) ∧ (∀ b1, p2 = some b1 → (zs_K S b1 = some (.inl 6) ∧ ∃ b4, (zs_R S 6007 b1) = some b4 ∧ zs_K S b4 = some (.inl 16) ∧ zs_C X d 16001 [.ref b4] S (zs_kI (fun v8 S7 => (((v8 ≤ p5 → w_X5_names_135 X d p0 p1 p2 p4 S7 Q) ∧ (¬ (v8 ≤ p5) → (zs_K S7 b1 = some (.inl 6) ∧ ∃ b11, (zs_R S7 6007 b1) = some b11 ∧ zs_K S7 b11 = some (.inl 16) ∧ zs_C X d 16009 [.ref b11, .int p5] S7 (zs_kR (fun v15 S14 => ((∀ a, v15 = some a → zs_K S14 a = some (.inl 12)) ∧ ∃ b17, v15 = some b17 ∧ zs_K S14 b17 = some (.inl 12) ∧ zs_K S14 p0 = some (.inl 4) ∧ ∃ b21, (zs_R S14 4000 p0) = some b21 ∧ zs_K S14 b21 = some (.inl 5) ∧ ((¬ (zs_I S14 12000 b17) = (zs_I S14 5004 b21) → (w_X5_names_126 X d p0 p1 p2 p5 p4 (0 : Int32) S14 Q)) ∧ (¬ (¬ (zs_I S14 12000 b17) = (zs_I S14 5004 b21)) → (w_X5_names_126 X d p0 p1 p2 p5 p4 (1 : Int32) S14 Q))))) Q)))))) Q)))))
theorem u_X5_names_78 {σ : Nat → Nat} {n0 : Nat} {bf : ab_B} {d : Nat} {p0 : Nat} {p1 : Option Nat} {p2 : Option Nat} {p4 : Int32} {p5 : Int32} {S : zs_T} {Q : zs_Q} (hB : zt_B bf) (h : w_X5_names_78 (zx σ n0 bf) d p0 p1 p2 p4 p5 S Q) : zs_U (zx σ n0 bf) d 4060 78 [(0, .ref p0), (1, va_rf p1), (2, va_rf p2), (4, .int p4), (5, .int p5)] [] S Q := by
  unfold w_X5_names_78 at h
  refine zu_aload_n d_4060_78 rfl (zs_rr _) ?_
  refine zu_ifnull (u := p2) (t := 135) d_4060_79 rfl rfl (fun e2 => ?_) (fun b1 e2 => ?_)
  · have h := h.1 e2
    exact (u_X5_names_135 hB h).weak ⟨rfl, rfl, rfl, rfl, trivial⟩
  · have h := h.2 b1 e2
    refine zu_iload d_4060_82 rfl ?_
    refine zu_aload_n d_4060_84 rfl (zs_rr _) ?_
    refine zs_stk0 (zs_rfe e2) ?_
    obtain ⟨k3, h⟩ := h
    refine zg_4_323 rfl d_4060_85 k3 ?_
    obtain ⟨b4, e5, h⟩ := h
    refine zs_stk0 (zs_rfe e5) ?_
    obtain ⟨k6, h⟩ := h
    refine zc_4_50  hB rfl k6 d_4060_88 (Nat.le_of_ble_eq_true rfl) h (fun v8 S7 h => ?_)
    refine zu_cmpge (t := 135) d_4060_91 rfl (fun c9 => ?_) (fun c9 => ?_)
    · have h := h.1 c9
      exact (u_X5_names_135 hB h).weak ⟨rfl, rfl, rfl, rfl, trivial⟩
    · have h := h.2 c9
      refine zu_iload d_4060_94 rfl ?_
      refine zu_aload_n d_4060_96 rfl (zs_rr _) ?_
      refine zs_stk0 (zs_rfe e2) ?_
      obtain ⟨k10, h⟩ := h
      refine zg_4_323 rfl d_4060_97 k10 ?_
      refine zu_iload d_4060_100 rfl ?_
      obtain ⟨b11, e12, h⟩ := h
      refine zs_stk1 (zs_rfe e12) ?_
      obtain ⟨k13, h⟩ := h
      refine zc_4_56 (x0 := p5) hB rfl k13 d_4060_102 (Nat.le_of_ble_eq_true rfl) h (fun v15 S14 h => ?_)
      obtain ⟨k16, h⟩ := h
      refine zk_4_93 (o := v15) rfl d_4060_105 k16 ?_
      obtain ⟨b17, e18, h⟩ := h
      refine zs_stk0 (zs_rfe e18) ?_
      obtain ⟨k19, h⟩ := h
      refine zg_4_92 rfl d_4060_108 k19 ?_
      refine zu_aload_n d_4060_111 rfl (zs_ra _) ?_
      obtain ⟨k20, h⟩ := h
      refine zg_4_5 rfl d_4060_112 k20 ?_
      obtain ⟨b21, e22, h⟩ := h
      refine zs_stk0 (zs_rfe e22) ?_
      obtain ⟨k23, h⟩ := h
      refine zg_4_40 rfl d_4060_115 k23 ?_
      refine zu_cmpne (t := 125) d_4060_118 rfl (fun c24 => ?_) (fun c24 => ?_)
      · have h := h.1 c24
        refine zu_iconst d_4060_125 zi_0 ?_
        exact (u_X5_names_126 hB h).weak ⟨rfl, rfl, rfl, rfl, trivial⟩
      · have h := h.2 c24
        refine zu_iconst d_4060_121 zi_1 ?_
        refine zu_goto (t := 126) d_4060_122 rfl ?_
        exact (u_X5_names_126 hB h).weak ⟨rfl, rfl, rfl, rfl, trivial⟩
def w_X5_names (X : zs_X) (d : Nat) (p0 : Nat) (p1 : Option Nat) (p2 : Option Nat) (S : zs_T) (Q : zs_Q) : Prop :=
  (zs_U X d 4060 2 [(0, .ref p0), (1, va_rf p1), (2, va_rf p2), (3, .int (1 : Int32))] [] S Q)
theorem u_X5_names {σ : Nat → Nat} {n0 : Nat} {bf : ab_B} {d : Nat} {p0 : Nat} {p1 : Option Nat} {p2 : Option Nat} {S : zs_T} {Q : zs_Q} (hB : zt_B bf) (hd : 1 ≤ d) (h : w_X5_names (zx σ n0 bf) (d - 1) p0 p1 p2 S Q) : zs_C (zx σ n0 bf) d 4060 [.ref p0, va_rf p1, va_rf p2] S Q := by
  have hL : lv_args 0 [.ref p0, va_rf p1, va_rf p2] = [(0, .ref p0), (1, va_rf p1), (2, va_rf p2)] := by simp [lv_args, zs_cat, zs_cI, zs_cJ, zs_cA]
  refine zs_C.of1 (hB.2 4060 (by decide) (by decide)) hd (by rw [hL]; exact zs_sub_self _ (by exact ⟨rfl, rfl, rfl, trivial⟩)) ?_
  rw [hL]
  clear hL
  unfold w_X5_names at h
  refine zu_iconst d_4060_0 zi_1 ?_
  refine zu_istore_n d_4060_1 (zs_lt zq_4060 rfl) ?_
  refine zs_U.weak (L1 := [(3, .int (1 : Int32)), (0, .ref p0), (1, va_rf p1), (2, va_rf p2)]) ?_ ⟨rfl, zs_gp1 rfl (Or.inl rfl) rfl, zs_gp1 rfl (Or.inl (zs_cat _)) rfl, zs_gp1 rfl (Or.inl (zs_cat _)) rfl, trivial⟩
  exact h.weak ⟨rfl, rfl, rfl, rfl, trivial⟩
/-! SchemaPascal$Reader.typeName()LSchemaPascal$Type; -/
theorem zm_4061 {σ : Nat → Nat} {n0 : Nat} {bf : ab_B} : ab_code (zx σ n0 bf).1 4061 = prog_9_method_19_code := rfl
theorem zq_4061 {σ : Nat → Nat} {n0 : Nat} {bf : ab_B} : ab_maxL (zx σ n0 bf).1 4061 = 2 := rfl
theorem zr_4061 {σ : Nat → Nat} {n0 : Nat} {bf : ab_B} : ab_ret (zx σ n0 bf).1 4061 = (Option.some (Jvm.ClassFile.FieldType.object "SchemaPascal$Type")) := rfl
theorem d_4061_0 {σ : Nat → Nat} {n0 : Nat} {bf : ab_B} : decode (ab_code (zx σ n0 bf).1 4061) 0 = .ok (.aload_n 0, 1) := zd zm_4061 (by decide +kernel)
theorem d_4061_1 {σ : Nat → Nat} {n0 : Nat} {bf : ab_B} : decode (ab_code (zx σ n0 bf).1 4061) 1 = .ok (.getfield 5, 3) := zd zm_4061 (by decide +kernel)
theorem d_4061_4 {σ : Nat → Nat} {n0 : Nat} {bf : ab_B} : decode (ab_code (zx σ n0 bf).1 4061) 4 = .ok (.invokevirtual 36, 3) := zd zm_4061 (by decide +kernel)
theorem d_4061_7 {σ : Nat → Nat} {n0 : Nat} {bf : ab_B} : decode (ab_code (zx σ n0 bf).1 4061) 7 = .ok (.ifCond .ne 9, 3) := zd zm_4061 (by decide +kernel)
theorem d_4061_10 {σ : Nat → Nat} {n0 : Nat} {bf : ab_B} : decode (ab_code (zx σ n0 bf).1 4061) 10 = .ok (.aload_n 0, 1) := zd zm_4061 (by decide +kernel)
theorem d_4061_11 {σ : Nat → Nat} {n0 : Nat} {bf : ab_B} : decode (ab_code (zx σ n0 bf).1 4061) 11 = .ok (.iconst 2, 1) := zd zm_4061 (by decide +kernel)
theorem d_4061_12 {σ : Nat → Nat} {n0 : Nat} {bf : ab_B} : decode (ab_code (zx σ n0 bf).1 4061) 12 = .ok (.invokevirtual 25, 3) := zd zm_4061 (by decide +kernel)
theorem d_4061_15 {σ : Nat → Nat} {n0 : Nat} {bf : ab_B} : decode (ab_code (zx σ n0 bf).1 4061) 15 = .ok (.athrow, 1) := zd zm_4061 (by decide +kernel)
theorem d_4061_16 {σ : Nat → Nat} {n0 : Nat} {bf : ab_B} : decode (ab_code (zx σ n0 bf).1 4061) 16 = .ok (.aload_n 0, 1) := zd zm_4061 (by decide +kernel)
theorem d_4061_17 {σ : Nat → Nat} {n0 : Nat} {bf : ab_B} : decode (ab_code (zx σ n0 bf).1 4061) 17 = .ok (.invokevirtual 354, 3) := zd zm_4061 (by decide +kernel)
theorem d_4061_20 {σ : Nat → Nat} {n0 : Nat} {bf : ab_B} : decode (ab_code (zx σ n0 bf).1 4061) 20 = .ok (.ifCond .eq 7, 3) := zd zm_4061 (by decide +kernel)
theorem d_4061_23 {σ : Nat → Nat} {n0 : Nat} {bf : ab_B} : decode (ab_code (zx σ n0 bf).1 4061) 23 = .ok (.aconst_null, 1) := zd zm_4061 (by decide +kernel)
theorem d_4061_24 {σ : Nat → Nat} {n0 : Nat} {bf : ab_B} : decode (ab_code (zx σ n0 bf).1 4061) 24 = .ok (.goto 14, 3) := zd zm_4061 (by decide +kernel)
theorem d_4061_27 {σ : Nat → Nat} {n0 : Nat} {bf : ab_B} : decode (ab_code (zx σ n0 bf).1 4061) 27 = .ok (.aload_n 0, 1) := zd zm_4061 (by decide +kernel)
theorem d_4061_28 {σ : Nat → Nat} {n0 : Nat} {bf : ab_B} : decode (ab_code (zx σ n0 bf).1 4061) 28 = .ok (.aload_n 0, 1) := zd zm_4061 (by decide +kernel)
theorem d_4061_29 {σ : Nat → Nat} {n0 : Nat} {bf : ab_B} : decode (ab_code (zx σ n0 bf).1 4061) 29 = .ok (.getfield 5, 3) := zd zm_4061 (by decide +kernel)
theorem d_4061_32 {σ : Nat → Nat} {n0 : Nat} {bf : ab_B} : decode (ab_code (zx σ n0 bf).1 4061) 32 = .ok (.getfield 40, 3) := zd zm_4061 (by decide +kernel)
theorem d_4061_35 {σ : Nat → Nat} {n0 : Nat} {bf : ab_B} : decode (ab_code (zx σ n0 bf).1 4061) 35 = .ok (.invokevirtual 318, 3) := zd zm_4061 (by decide +kernel)
theorem d_4061_38 {σ : Nat → Nat} {n0 : Nat} {bf : ab_B} : decode (ab_code (zx σ n0 bf).1 4061) 38 = .ok (.astore_n 1, 1) := zd zm_4061 (by decide +kernel)
theorem d_4061_39 {σ : Nat → Nat} {n0 : Nat} {bf : ab_B} : decode (ab_code (zx σ n0 bf).1 4061) 39 = .ok (.aload_n 1, 1) := zd zm_4061 (by decide +kernel)
theorem d_4061_40 {σ : Nat → Nat} {n0 : Nat} {bf : ab_B} : decode (ab_code (zx σ n0 bf).1 4061) 40 = .ok (.ifnull 11, 3) := zd zm_4061 (by decide +kernel)
theorem d_4061_43 {σ : Nat → Nat} {n0 : Nat} {bf : ab_B} : decode (ab_code (zx σ n0 bf).1 4061) 43 = .ok (.aload_n 1, 1) := zd zm_4061 (by decide +kernel)
theorem d_4061_44 {σ : Nat → Nat} {n0 : Nat} {bf : ab_B} : decode (ab_code (zx σ n0 bf).1 4061) 44 = .ok (.getfield 62, 3) := zd zm_4061 (by decide +kernel)
theorem d_4061_47 {σ : Nat → Nat} {n0 : Nat} {bf : ab_B} : decode (ab_code (zx σ n0 bf).1 4061) 47 = .ok (.iconst 1, 1) := zd zm_4061 (by decide +kernel)
theorem d_4061_48 {σ : Nat → Nat} {n0 : Nat} {bf : ab_B} : decode (ab_code (zx σ n0 bf).1 4061) 48 = .ok (.if_icmp .eq 9, 3) := zd zm_4061 (by decide +kernel)
theorem d_4061_51 {σ : Nat → Nat} {n0 : Nat} {bf : ab_B} : decode (ab_code (zx σ n0 bf).1 4061) 51 = .ok (.aload_n 0, 1) := zd zm_4061 (by decide +kernel)
theorem d_4061_52 {σ : Nat → Nat} {n0 : Nat} {bf : ab_B} : decode (ab_code (zx σ n0 bf).1 4061) 52 = .ok (.iconst 3, 1) := zd zm_4061 (by decide +kernel)
theorem d_4061_53 {σ : Nat → Nat} {n0 : Nat} {bf : ab_B} : decode (ab_code (zx σ n0 bf).1 4061) 53 = .ok (.invokevirtual 25, 3) := zd zm_4061 (by decide +kernel)
theorem d_4061_56 {σ : Nat → Nat} {n0 : Nat} {bf : ab_B} : decode (ab_code (zx σ n0 bf).1 4061) 56 = .ok (.athrow, 1) := zd zm_4061 (by decide +kernel)
theorem d_4061_57 {σ : Nat → Nat} {n0 : Nat} {bf : ab_B} : decode (ab_code (zx σ n0 bf).1 4061) 57 = .ok (.aload_n 0, 1) := zd zm_4061 (by decide +kernel)
theorem d_4061_58 {σ : Nat → Nat} {n0 : Nat} {bf : ab_B} : decode (ab_code (zx σ n0 bf).1 4061) 58 = .ok (.getfield 5, 3) := zd zm_4061 (by decide +kernel)
theorem d_4061_61 {σ : Nat → Nat} {n0 : Nat} {bf : ab_B} : decode (ab_code (zx σ n0 bf).1 4061) 61 = .ok (.invokevirtual 29, 3) := zd zm_4061 (by decide +kernel)
theorem d_4061_64 {σ : Nat → Nat} {n0 : Nat} {bf : ab_B} : decode (ab_code (zx σ n0 bf).1 4061) 64 = .ok (.aload_n 1, 1) := zd zm_4061 (by decide +kernel)
theorem d_4061_65 {σ : Nat → Nat} {n0 : Nat} {bf : ab_B} : decode (ab_code (zx σ n0 bf).1 4061) 65 = .ok (.getfield 65, 3) := zd zm_4061 (by decide +kernel)
theorem d_4061_68 {σ : Nat → Nat} {n0 : Nat} {bf : ab_B} : decode (ab_code (zx σ n0 bf).1 4061) 68 = .ok (.areturn, 1) := zd zm_4061 (by decide +kernel)
def w_X5_typeName_51 (X : zs_X) (d : Nat) (p0 : Nat) (S : zs_T) (Q : zs_Q) : Prop :=
  (zs_K S p0 = some (.inl 4) ∧ zs_C X d 4006 [.ref p0, .int (3 : Int32)] S (zs_kR (fun v3 S2 => (∃ b4, v3 = some b4 ∧ Q (.threw b4) S2)) Q))
theorem u_X5_typeName_51 {σ : Nat → Nat} {n0 : Nat} {bf : ab_B} {d : Nat} {p0 : Nat} {S : zs_T} {Q : zs_Q} (hB : zt_B bf) (h : w_X5_typeName_51 (zx σ n0 bf) d p0 S Q) : zs_U (zx σ n0 bf) d 4061 51 [(0, .ref p0)] [] S Q := by
  unfold w_X5_typeName_51 at h
  refine zu_aload_n d_4061_51 rfl (zs_ra _) ?_
  refine zu_iconst d_4061_52 zi_3 ?_
  obtain ⟨k1, h⟩ := h
  refine zc_4_25 (x0 := (3 : Int32)) hB rfl k1 d_4061_53 (Nat.le_of_ble_eq_true rfl) h (fun v3 S2 h => ?_)
  obtain ⟨b4, e5, h⟩ := h
  refine zs_stk0 (zs_rfe e5) ?_
  exact zu_throw d_4061_56 h
def w_X5_typeName_38 (X : zs_X) (d : Nat) (p0 : Nat) (q0 : Option Nat) (S : zs_T) (Q : zs_Q) : Prop :=
  (((q0 = none → w_X5_typeName_51 X d p0 S Q) ∧ (∀ b1, q0 = some b1 → (zs_K S b1 = some (.inl 7) ∧ (((zs_I S 7001 b1) = (1 : Int32) → (zs_K S p0 = some (.inl 4) ∧ ∃ b6, (zs_R S 4000 p0) = some b6 ∧ zs_K S b6 = some (.inl 5) ∧ zs_C X d 5004 [.ref b6] S (zs_kV (fun S9 => (zs_K S9 b1 = some (.inl 7) ∧ Q (.returned (some (va_rf (zs_R S9 7002 b1)))) S9)) Q))) ∧ (¬ ((zs_I S 7001 b1) = (1 : Int32)) → w_X5_typeName_51 X d p0 S Q))))))
theorem u_X5_typeName_38 {σ : Nat → Nat} {n0 : Nat} {bf : ab_B} {d : Nat} {p0 : Nat} {q0 : Option Nat} {S : zs_T} {Q : zs_Q} (hB : zt_B bf) (h : w_X5_typeName_38 (zx σ n0 bf) d p0 q0 S Q) : zs_U (zx σ n0 bf) d 4061 38 [(0, .ref p0)] [va_rf q0] S Q := by
  unfold w_X5_typeName_38 at h
  refine zu_astore_n d_4061_38 (zs_rr _) (zs_lt zq_4061 rfl) ?_
  refine zu_aload_n d_4061_39 rfl (zs_rr _) ?_
  refine zu_ifnull (u := q0) (t := 51) d_4061_40 rfl rfl (fun e2 => ?_) (fun b1 e2 => ?_)
  · have h := h.1 e2
    exact (u_X5_typeName_51 hB h).weak ⟨rfl, trivial⟩
  · have h := h.2 b1 e2
    refine zu_aload_n d_4061_43 rfl (zs_rr _) ?_
    refine zs_stk0 (zs_rfe e2) ?_
    obtain ⟨k3, h⟩ := h
    refine zg_4_62 rfl d_4061_44 k3 ?_
    refine zu_iconst d_4061_47 zi_1 ?_
    refine zu_cmpeq (t := 57) d_4061_48 rfl (fun c4 => ?_) (fun c4 => ?_)
    · have h := h.1 c4
      refine zu_aload_n d_4061_57 rfl (zs_ra _) ?_
      obtain ⟨k5, h⟩ := h
      refine zg_4_5 rfl d_4061_58 k5 ?_
      obtain ⟨b6, e7, h⟩ := h
      refine zs_stk0 (zs_rfe e7) ?_
      obtain ⟨k8, h⟩ := h
      refine zc_4_29  hB rfl k8 d_4061_61 (Nat.le_of_ble_eq_true rfl) h (fun S9 h => ?_)
      refine zu_aload_n d_4061_64 rfl (zs_rr _) ?_
      refine zs_stk0 (zs_rfe e2) ?_
      obtain ⟨k11, h⟩ := h
      refine zg_4_65 rfl d_4061_65 k11 ?_
      exact zu_aret d_4061_68 zr_4061 (zs_rr _) h
    · have h := h.2 c4
      exact (u_X5_typeName_51 hB h).weak ⟨rfl, trivial⟩
def w_X5_typeName (X : zs_X) (d : Nat) (p0 : Nat) (S : zs_T) (Q : zs_Q) : Prop :=
  (zs_K S p0 = some (.inl 4) ∧ ∃ b2, (zs_R S 4000 p0) = some b2 ∧ zs_K S b2 = some (.inl 5) ∧ zs_C X d 5016 [.ref b2] S (zs_kI (fun v6 S5 => (((¬ v6 = 0 → (zs_K S5 p0 = some (.inl 4) ∧ zs_C X d 4062 [.ref p0] S5 (zs_kI (fun v10 S9 => (((v10 = 0 → (zs_K S9 p0 = some (.inl 4) ∧ ∃ b13, (zs_R S9 4000 p0) = some b13 ∧ zs_K S9 b13 = some (.inl 5) ∧ zs_C X d 4028 [.ref p0, .int (zs_I S9 5004 b13)] S9 (zs_kR (fun v17 S16 => w_X5_typeName_38 X d p0 v17 S16 Q) Q))) ∧ (¬ (v10 = 0) → (w_X5_typeName_38 X d p0 none S9 Q))))) Q))) ∧ (¬ (¬ v6 = 0) → (zs_K S5 p0 = some (.inl 4) ∧ zs_C X d 4006 [.ref p0, .int (2 : Int32)] S5 (zs_kR (fun v20 S19 => (∃ b21, v20 = some b21 ∧ Q (.threw b21) S19)) Q)))))) Q))
theorem u_X5_typeName {σ : Nat → Nat} {n0 : Nat} {bf : ab_B} {d : Nat} {p0 : Nat} {S : zs_T} {Q : zs_Q} (hB : zt_B bf) (hd : 1 ≤ d) (h : w_X5_typeName (zx σ n0 bf) (d - 1) p0 S Q) : zs_C (zx σ n0 bf) d 4061 [.ref p0] S Q := by
  have hL : lv_args 0 [.ref p0] = [(0, .ref p0)] := rfl
  refine zs_C.of1 (hB.2 4061 (by decide) (by decide)) hd (by rw [hL]; exact zs_sub_self _ (by exact ⟨rfl, trivial⟩)) ?_
  rw [hL]
  clear hL
  unfold w_X5_typeName at h
  refine zu_aload_n d_4061_0 rfl (zs_ra _) ?_
  obtain ⟨k1, h⟩ := h
  refine zg_4_5 rfl d_4061_1 k1 ?_
  obtain ⟨b2, e3, h⟩ := h
  refine zs_stk0 (zs_rfe e3) ?_
  obtain ⟨k4, h⟩ := h
  refine zc_4_36  hB rfl k4 d_4061_4 (Nat.le_of_ble_eq_true rfl) h (fun v6 S5 h => ?_)
  refine zu_ifne (t := 16) d_4061_7 rfl (fun c7 => ?_) (fun c7 => ?_)
  · have h := h.1 c7
    refine zu_aload_n d_4061_16 rfl (zs_ra _) ?_
    obtain ⟨k8, h⟩ := h
    refine zc_4_354  hB rfl k8 d_4061_17 (Nat.le_of_ble_eq_true rfl) h (fun v10 S9 h => ?_)
    refine zu_ifeq (t := 27) d_4061_20 rfl (fun c11 => ?_) (fun c11 => ?_)
    · have h := h.1 c11
      refine zu_aload_n d_4061_27 rfl (zs_ra _) ?_
      refine zu_aload_n d_4061_28 rfl (zs_ra _) ?_
      obtain ⟨k12, h⟩ := h
      refine zg_4_5 rfl d_4061_29 k12 ?_
      obtain ⟨b13, e14, h⟩ := h
      refine zs_stk0 (zs_rfe e14) ?_
      obtain ⟨k15, h⟩ := h
      refine zg_4_40 rfl d_4061_32 k15 ?_
      refine zc_4_318 (x0 := (zs_I S9 5004 b13)) hB rfl k12 d_4061_35 (Nat.le_of_ble_eq_true rfl) h (fun v17 S16 h => ?_)
      exact (u_X5_typeName_38 hB h).weak ⟨rfl, trivial⟩
    · have h := h.2 c11
      refine zu_stk d_4061_23 rfl rfl ?_
      refine zu_goto (t := 38) d_4061_24 rfl ?_
      exact (u_X5_typeName_38 hB h).weak ⟨rfl, trivial⟩
  · have h := h.2 c7
    refine zu_aload_n d_4061_10 rfl (zs_ra _) ?_
    refine zu_iconst d_4061_11 zi_2 ?_
    obtain ⟨k18, h⟩ := h
    refine zc_4_25 (x0 := (2 : Int32)) hB rfl k18 d_4061_12 (Nat.le_of_ble_eq_true rfl) h (fun v20 S19 h => ?_)
    obtain ⟨b21, e22, h⟩ := h
    refine zs_stk0 (zs_rfe e22) ?_
    exact zu_throw d_4061_15 h
/-! SchemaPascal$Reader.isDiscriminant()Z -/
theorem zm_4062 {σ : Nat → Nat} {n0 : Nat} {bf : ab_B} : ab_code (zx σ n0 bf).1 4062 = prog_9_method_72_code := rfl
theorem zq_4062 {σ : Nat → Nat} {n0 : Nat} {bf : ab_B} : ab_maxL (zx σ n0 bf).1 4062 = 3 := rfl
theorem zr_4062 {σ : Nat → Nat} {n0 : Nat} {bf : ab_B} : ab_ret (zx σ n0 bf).1 4062 = (Option.some Jvm.ClassFile.FieldType.boolean) := rfl
theorem d_4062_0 {σ : Nat → Nat} {n0 : Nat} {bf : ab_B} : decode (ab_code (zx σ n0 bf).1 4062) 0 = .ok (.iconst 0, 1) := zd zm_4062 (by decide +kernel)
theorem d_4062_1 {σ : Nat → Nat} {n0 : Nat} {bf : ab_B} : decode (ab_code (zx σ n0 bf).1 4062) 1 = .ok (.istore_n 1, 1) := zd zm_4062 (by decide +kernel)
theorem d_4062_2 {σ : Nat → Nat} {n0 : Nat} {bf : ab_B} : decode (ab_code (zx σ n0 bf).1 4062) 2 = .ok (.iconst 0, 1) := zd zm_4062 (by decide +kernel)
theorem d_4062_3 {σ : Nat → Nat} {n0 : Nat} {bf : ab_B} : decode (ab_code (zx σ n0 bf).1 4062) 3 = .ok (.istore_n 2, 1) := zd zm_4062 (by decide +kernel)
theorem d_4062_4 {σ : Nat → Nat} {n0 : Nat} {bf : ab_B} : decode (ab_code (zx σ n0 bf).1 4062) 4 = .ok (.aload_n 0, 1) := zd zm_4062 (by decide +kernel)
theorem d_4062_5 {σ : Nat → Nat} {n0 : Nat} {bf : ab_B} : decode (ab_code (zx σ n0 bf).1 4062) 5 = .ok (.getfield 200, 3) := zd zm_4062 (by decide +kernel)
theorem d_4062_8 {σ : Nat → Nat} {n0 : Nat} {bf : ab_B} : decode (ab_code (zx σ n0 bf).1 4062) 8 = .ok (.ifnull 58, 3) := zd zm_4062 (by decide +kernel)
theorem d_4062_11 {σ : Nat → Nat} {n0 : Nat} {bf : ab_B} : decode (ab_code (zx σ n0 bf).1 4062) 11 = .ok (.iload_n 2, 1) := zd zm_4062 (by decide +kernel)
theorem d_4062_12 {σ : Nat → Nat} {n0 : Nat} {bf : ab_B} : decode (ab_code (zx σ n0 bf).1 4062) 12 = .ok (.aload_n 0, 1) := zd zm_4062 (by decide +kernel)
theorem d_4062_13 {σ : Nat → Nat} {n0 : Nat} {bf : ab_B} : decode (ab_code (zx σ n0 bf).1 4062) 13 = .ok (.getfield 200, 3) := zd zm_4062 (by decide +kernel)
theorem d_4062_16 {σ : Nat → Nat} {n0 : Nat} {bf : ab_B} : decode (ab_code (zx σ n0 bf).1 4062) 16 = .ok (.getfield 323, 3) := zd zm_4062 (by decide +kernel)
theorem d_4062_19 {σ : Nat → Nat} {n0 : Nat} {bf : ab_B} : decode (ab_code (zx σ n0 bf).1 4062) 19 = .ok (.invokevirtual 50, 3) := zd zm_4062 (by decide +kernel)
theorem d_4062_22 {σ : Nat → Nat} {n0 : Nat} {bf : ab_B} : decode (ab_code (zx σ n0 bf).1 4062) 22 = .ok (.if_icmp .ge 44, 3) := zd zm_4062 (by decide +kernel)
theorem d_4062_25 {σ : Nat → Nat} {n0 : Nat} {bf : ab_B} : decode (ab_code (zx σ n0 bf).1 4062) 25 = .ok (.iload_n 1, 1) := zd zm_4062 (by decide +kernel)
theorem d_4062_26 {σ : Nat → Nat} {n0 : Nat} {bf : ab_B} : decode (ab_code (zx σ n0 bf).1 4062) 26 = .ok (.aload_n 0, 1) := zd zm_4062 (by decide +kernel)
theorem d_4062_27 {σ : Nat → Nat} {n0 : Nat} {bf : ab_B} : decode (ab_code (zx σ n0 bf).1 4062) 27 = .ok (.getfield 200, 3) := zd zm_4062 (by decide +kernel)
theorem d_4062_30 {σ : Nat → Nat} {n0 : Nat} {bf : ab_B} : decode (ab_code (zx σ n0 bf).1 4062) 30 = .ok (.getfield 323, 3) := zd zm_4062 (by decide +kernel)
theorem d_4062_33 {σ : Nat → Nat} {n0 : Nat} {bf : ab_B} : decode (ab_code (zx σ n0 bf).1 4062) 33 = .ok (.iload_n 2, 1) := zd zm_4062 (by decide +kernel)
theorem d_4062_34 {σ : Nat → Nat} {n0 : Nat} {bf : ab_B} : decode (ab_code (zx σ n0 bf).1 4062) 34 = .ok (.invokevirtual 56, 3) := zd zm_4062 (by decide +kernel)
theorem d_4062_37 {σ : Nat → Nat} {n0 : Nat} {bf : ab_B} : decode (ab_code (zx σ n0 bf).1 4062) 37 = .ok (.checkcast 93, 3) := zd zm_4062 (by decide +kernel)
theorem d_4062_40 {σ : Nat → Nat} {n0 : Nat} {bf : ab_B} : decode (ab_code (zx σ n0 bf).1 4062) 40 = .ok (.getfield 92, 3) := zd zm_4062 (by decide +kernel)
theorem d_4062_43 {σ : Nat → Nat} {n0 : Nat} {bf : ab_B} : decode (ab_code (zx σ n0 bf).1 4062) 43 = .ok (.aload_n 0, 1) := zd zm_4062 (by decide +kernel)
theorem d_4062_44 {σ : Nat → Nat} {n0 : Nat} {bf : ab_B} : decode (ab_code (zx σ n0 bf).1 4062) 44 = .ok (.getfield 5, 3) := zd zm_4062 (by decide +kernel)
theorem d_4062_47 {σ : Nat → Nat} {n0 : Nat} {bf : ab_B} : decode (ab_code (zx σ n0 bf).1 4062) 47 = .ok (.getfield 40, 3) := zd zm_4062 (by decide +kernel)
theorem d_4062_50 {σ : Nat → Nat} {n0 : Nat} {bf : ab_B} : decode (ab_code (zx σ n0 bf).1 4062) 50 = .ok (.if_icmp .ne 7, 3) := zd zm_4062 (by decide +kernel)
theorem d_4062_53 {σ : Nat → Nat} {n0 : Nat} {bf : ab_B} : decode (ab_code (zx σ n0 bf).1 4062) 53 = .ok (.iconst 1, 1) := zd zm_4062 (by decide +kernel)
theorem d_4062_54 {σ : Nat → Nat} {n0 : Nat} {bf : ab_B} : decode (ab_code (zx σ n0 bf).1 4062) 54 = .ok (.goto 4, 3) := zd zm_4062 (by decide +kernel)
theorem d_4062_57 {σ : Nat → Nat} {n0 : Nat} {bf : ab_B} : decode (ab_code (zx σ n0 bf).1 4062) 57 = .ok (.iconst 0, 1) := zd zm_4062 (by decide +kernel)
theorem d_4062_58 {σ : Nat → Nat} {n0 : Nat} {bf : ab_B} : decode (ab_code (zx σ n0 bf).1 4062) 58 = .ok (.ior, 1) := zd zm_4062 (by decide +kernel)
theorem d_4062_59 {σ : Nat → Nat} {n0 : Nat} {bf : ab_B} : decode (ab_code (zx σ n0 bf).1 4062) 59 = .ok (.istore_n 1, 1) := zd zm_4062 (by decide +kernel)
theorem d_4062_60 {σ : Nat → Nat} {n0 : Nat} {bf : ab_B} : decode (ab_code (zx σ n0 bf).1 4062) 60 = .ok (.iinc 2 1, 3) := zd zm_4062 (by decide +kernel)
theorem d_4062_63 {σ : Nat → Nat} {n0 : Nat} {bf : ab_B} : decode (ab_code (zx σ n0 bf).1 4062) 63 = .ok (.goto (-59), 3) := zd zm_4062 (by decide +kernel)
theorem d_4062_66 {σ : Nat → Nat} {n0 : Nat} {bf : ab_B} : decode (ab_code (zx σ n0 bf).1 4062) 66 = .ok (.iload_n 1, 1) := zd zm_4062 (by decide +kernel)
theorem d_4062_67 {σ : Nat → Nat} {n0 : Nat} {bf : ab_B} : decode (ab_code (zx σ n0 bf).1 4062) 67 = .ok (.ireturn, 1) := zd zm_4062 (by decide +kernel)
def w_X5_isDiscriminant_58 (X : zs_X) (d : Nat) (p0 : Nat) (p2 : Int32) (q0 : Int32) (q1 : Int32) (S : zs_T) (Q : zs_Q) : Prop :=
  (zs_U X d 4062 4 [(0, .ref p0), (1, .int (q0 ||| q1)), (2, .int (p2 + (1 : Int32)))] [] S Q)
theorem u_X5_isDiscriminant_58 {σ : Nat → Nat} {n0 : Nat} {bf : ab_B} {d : Nat} {p0 : Nat} {p2 : Int32} {q0 : Int32} {q1 : Int32} {S : zs_T} {Q : zs_Q} (hB : zt_B bf) (h : w_X5_isDiscriminant_58 (zx σ n0 bf) d p0 p2 q0 q1 S Q) : zs_U (zx σ n0 bf) d 4062 58 [(0, .ref p0), (2, .int p2)] [.int q1, .int q0] S Q := by
  unfold w_X5_isDiscriminant_58 at h
  refine zu_stk d_4062_58 rfl rfl ?_
  refine zu_istore_n d_4062_59 (zs_lt zq_4062 rfl) ?_
  refine zu_iinc d_4062_60 rfl zi_1 (zs_lt zq_4062 rfl) ?_
  refine zu_goto (t := 4) d_4062_63 rfl ?_
  exact h.weak ⟨rfl, rfl, rfl, trivial⟩
def w_X5_isDiscriminant_4 (X : zs_X) (d : Nat) (p0 : Nat) (p1 : Int32) (p2 : Int32) (S : zs_T) (Q : zs_Q) : Prop :=
  (zs_K S p0 = some (.inl 4) ∧ (((zs_R S 4016 p0) = none → (zs_b p1 ∧ Q (.returned (some (.int p1))) S)) ∧ (∀ b2, (zs_R S 4016 p0) = some b2 → (zs_K S b2 = some (.inl 6) ∧ ∃ b6, (zs_R S 6007 b2) = some b6 ∧ zs_K S b6 = some (.inl 16) ∧ zs_C X d 16001 [.ref b6] S (zs_kI (fun v10 S9 => (((v10 ≤ p2 → (zs_b p1 ∧ Q (.returned (some (.int p1))) S9)) ∧ (¬ (v10 ≤ p2) → (zs_K S9 p0 = some (.inl 4) ∧ ∃ b14, (zs_R S9 4016 p0) = some b14 ∧ zs_K S9 b14 = some (.inl 6) ∧ ∃ b17, (zs_R S9 6007 b14) = some b17 ∧ zs_K S9 b17 = some (.inl 16) ∧ zs_C X d 16009 [.ref b17, .int p2] S9 (zs_kR (fun v21 S20 => ((∀ a, v21 = some a → zs_K S20 a = some (.inl 12)) ∧ ∃ b23, v21 = some b23 ∧ zs_K S20 b23 = some (.inl 12) ∧ zs_K S20 p0 = some (.inl 4) ∧ ∃ b27, (zs_R S20 4000 p0) = some b27 ∧ zs_K S20 b27 = some (.inl 5) ∧ ((¬ (zs_I S20 12000 b23) = (zs_I S20 5004 b27) → (w_X5_isDiscriminant_58 X d p0 p2 p1 (0 : Int32) S20 Q)) ∧ (¬ (¬ (zs_I S20 12000 b23) = (zs_I S20 5004 b27)) → (w_X5_isDiscriminant_58 X d p0 p2 p1 (1 : Int32) S20 Q))))) Q)))))) Q)))))
theorem u_X5_isDiscriminant_4 {σ : Nat → Nat} {n0 : Nat} {bf : ab_B} {d : Nat} {p0 : Nat} {p1 : Int32} {p2 : Int32} {S : zs_T} {Q : zs_Q} (hB : zt_B bf) (h : w_X5_isDiscriminant_4 (zx σ n0 bf) d p0 p1 p2 S Q) : zs_U (zx σ n0 bf) d 4062 4 [(0, .ref p0), (1, .int p1), (2, .int p2)] [] S Q := by
  unfold w_X5_isDiscriminant_4 at h
  refine zu_aload_n d_4062_4 rfl (zs_ra _) ?_
  obtain ⟨k1, h⟩ := h
  refine zg_4_200 rfl d_4062_5 k1 ?_
  refine zu_ifnull (u := (zs_R S 4016 p0)) (t := 66) d_4062_8 rfl rfl (fun e3 => ?_) (fun b2 e3 => ?_)
  · have h := h.1 e3
    refine zu_iload_n d_4062_66 rfl ?_
    obtain ⟨k4, h⟩ := h
    exact zu_iret d_4062_67 zr_4062 (zs_b_n k4) h
  · have h := h.2 b2 e3
    refine zu_iload_n d_4062_11 rfl ?_
    refine zu_aload_n d_4062_12 rfl (zs_ra _) ?_
    refine zg_4_200 rfl d_4062_13 k1 ?_
    refine zs_stk0 (zs_rfe e3) ?_
    obtain ⟨k5, h⟩ := h
    refine zg_4_323 rfl d_4062_16 k5 ?_
    obtain ⟨b6, e7, h⟩ := h
    refine zs_stk0 (zs_rfe e7) ?_
    obtain ⟨k8, h⟩ := h
    refine zc_4_50  hB rfl k8 d_4062_19 (Nat.le_of_ble_eq_true rfl) h (fun v10 S9 h => ?_)
    refine zu_cmpge (t := 66) d_4062_22 rfl (fun c11 => ?_) (fun c11 => ?_)
    · have h := h.1 c11
      refine zu_iload_n d_4062_66 rfl ?_
      obtain ⟨k12, h⟩ := h
      exact zu_iret d_4062_67 zr_4062 (zs_b_n k12) h
    · have h := h.2 c11
      refine zu_iload_n d_4062_25 rfl ?_
      refine zu_aload_n d_4062_26 rfl (zs_ra _) ?_
      obtain ⟨k13, h⟩ := h
      refine zg_4_200 rfl d_4062_27 k13 ?_
      obtain ⟨b14, e15, h⟩ := h
      refine zs_stk0 (zs_rfe e15) ?_
      obtain ⟨k16, h⟩ := h
      refine zg_4_323 rfl d_4062_30 k16 ?_
      refine zu_iload_n d_4062_33 rfl ?_
      obtain ⟨b17, e18, h⟩ := h
      refine zs_stk1 (zs_rfe e18) ?_
      obtain ⟨k19, h⟩ := h
      refine zc_4_56 (x0 := p2) hB rfl k19 d_4062_34 (Nat.le_of_ble_eq_true rfl) h (fun v21 S20 h => ?_)
      obtain ⟨k22, h⟩ := h
      refine zk_4_93 (o := v21) rfl d_4062_37 k22 ?_
      obtain ⟨b23, e24, h⟩ := h
      refine zs_stk0 (zs_rfe e24) ?_
      obtain ⟨k25, h⟩ := h
      refine zg_4_92 rfl d_4062_40 k25 ?_
      refine zu_aload_n d_4062_43 rfl (zs_ra _) ?_
      obtain ⟨k26, h⟩ := h
      refine zg_4_5 rfl d_4062_44 k26 ?_
      obtain ⟨b27, e28, h⟩ := h
      refine zs_stk0 (zs_rfe e28) ?_
      obtain ⟨k29, h⟩ := h
      refine zg_4_40 rfl d_4062_47 k29 ?_
      refine zu_cmpne (t := 57) d_4062_50 rfl (fun c30 => ?_) (fun c30 => ?_)
      · have h := h.1 c30
        refine zu_iconst d_4062_57 zi_0 ?_
        exact (u_X5_isDiscriminant_58 hB h).weak ⟨rfl, rfl, trivial⟩
      · have h := h.2 c30
        refine zu_iconst d_4062_53 zi_1 ?_
        refine zu_goto (t := 58) d_4062_54 rfl ?_
        exact (u_X5_isDiscriminant_58 hB h).weak ⟨rfl, rfl, trivial⟩
def w_X5_isDiscriminant (X : zs_X) (d : Nat) (p0 : Nat) (S : zs_T) (Q : zs_Q) : Prop :=
  (zs_U X d 4062 4 [(0, .ref p0), (1, .int (0 : Int32)), (2, .int (0 : Int32))] [] S Q)
theorem u_X5_isDiscriminant {σ : Nat → Nat} {n0 : Nat} {bf : ab_B} {d : Nat} {p0 : Nat} {S : zs_T} {Q : zs_Q} (hB : zt_B bf) (hd : 1 ≤ d) (h : w_X5_isDiscriminant (zx σ n0 bf) (d - 1) p0 S Q) : zs_C (zx σ n0 bf) d 4062 [.ref p0] S Q := by
  have hL : lv_args 0 [.ref p0] = [(0, .ref p0)] := rfl
  refine zs_C.of1 (hB.2 4062 (by decide) (by decide)) hd (by rw [hL]; exact zs_sub_self _ (by exact ⟨rfl, trivial⟩)) ?_
  rw [hL]
  clear hL
  unfold w_X5_isDiscriminant at h
  refine zu_iconst d_4062_0 zi_0 ?_
  refine zu_istore_n d_4062_1 (zs_lt zq_4062 rfl) ?_
  refine zu_iconst d_4062_2 zi_0 ?_
  refine zu_istore_n d_4062_3 (zs_lt zq_4062 rfl) ?_
  exact h.weak ⟨rfl, rfl, rfl, trivial⟩
/-! SchemaPascal$Reader.typeOf(ZI)LSchemaPascal$Type; -/
theorem zm_4063 {σ : Nat → Nat} {n0 : Nat} {bf : ab_B} : ab_code (zx σ n0 bf).1 4063 = prog_9_method_21_code := rfl
theorem zq_4063 {σ : Nat → Nat} {n0 : Nat} {bf : ab_B} : ab_maxL (zx σ n0 bf).1 4063 = 4 := rfl
theorem zr_4063 {σ : Nat → Nat} {n0 : Nat} {bf : ab_B} : ab_ret (zx σ n0 bf).1 4063 = (Option.some (Jvm.ClassFile.FieldType.object "SchemaPascal$Type")) := rfl
theorem d_4063_0 {σ : Nat → Nat} {n0 : Nat} {bf : ab_B} : decode (ab_code (zx σ n0 bf).1 4063) 0 = .ok (.aload_n 0, 1) := zd zm_4063 (by decide +kernel)
theorem d_4063_1 {σ : Nat → Nat} {n0 : Nat} {bf : ab_B} : decode (ab_code (zx σ n0 bf).1 4063) 1 = .ok (.invokevirtual 357, 3) := zd zm_4063 (by decide +kernel)
theorem d_4063_4 {σ : Nat → Nat} {n0 : Nat} {bf : ab_B} : decode (ab_code (zx σ n0 bf).1 4063) 4 = .ok (.aload_n 0, 1) := zd zm_4063 (by decide +kernel)
theorem d_4063_5 {σ : Nat → Nat} {n0 : Nat} {bf : ab_B} : decode (ab_code (zx σ n0 bf).1 4063) 5 = .ok (.iload_n 1, 1) := zd zm_4063 (by decide +kernel)
theorem d_4063_6 {σ : Nat → Nat} {n0 : Nat} {bf : ab_B} : decode (ab_code (zx σ n0 bf).1 4063) 6 = .ok (.invokevirtual 360, 3) := zd zm_4063 (by decide +kernel)
theorem d_4063_9 {σ : Nat → Nat} {n0 : Nat} {bf : ab_B} : decode (ab_code (zx σ n0 bf).1 4063) 9 = .ok (.astore_n 3, 1) := zd zm_4063 (by decide +kernel)
theorem d_4063_10 {σ : Nat → Nat} {n0 : Nat} {bf : ab_B} : decode (ab_code (zx σ n0 bf).1 4063) 10 = .ok (.aload_n 0, 1) := zd zm_4063 (by decide +kernel)
theorem d_4063_11 {σ : Nat → Nat} {n0 : Nat} {bf : ab_B} : decode (ab_code (zx σ n0 bf).1 4063) 11 = .ok (.dup, 1) := zd zm_4063 (by decide +kernel)
theorem d_4063_12 {σ : Nat → Nat} {n0 : Nat} {bf : ab_B} : decode (ab_code (zx σ n0 bf).1 4063) 12 = .ok (.getfield 43, 3) := zd zm_4063 (by decide +kernel)
theorem d_4063_15 {σ : Nat → Nat} {n0 : Nat} {bf : ab_B} : decode (ab_code (zx σ n0 bf).1 4063) 15 = .ok (.iconst 1, 1) := zd zm_4063 (by decide +kernel)
theorem d_4063_16 {σ : Nat → Nat} {n0 : Nat} {bf : ab_B} : decode (ab_code (zx σ n0 bf).1 4063) 16 = .ok (.isub, 1) := zd zm_4063 (by decide +kernel)
theorem d_4063_17 {σ : Nat → Nat} {n0 : Nat} {bf : ab_B} : decode (ab_code (zx σ n0 bf).1 4063) 17 = .ok (.putfield 43, 3) := zd zm_4063 (by decide +kernel)
theorem d_4063_20 {σ : Nat → Nat} {n0 : Nat} {bf : ab_B} : decode (ab_code (zx σ n0 bf).1 4063) 20 = .ok (.aload_n 3, 1) := zd zm_4063 (by decide +kernel)
theorem d_4063_21 {σ : Nat → Nat} {n0 : Nat} {bf : ab_B} : decode (ab_code (zx σ n0 bf).1 4063) 21 = .ok (.getfield 344, 3) := zd zm_4063 (by decide +kernel)
theorem d_4063_24 {σ : Nat → Nat} {n0 : Nat} {bf : ab_B} : decode (ab_code (zx σ n0 bf).1 4063) 24 = .ok (.iconst 1, 1) := zd zm_4063 (by decide +kernel)
theorem d_4063_25 {σ : Nat → Nat} {n0 : Nat} {bf : ab_B} : decode (ab_code (zx σ n0 bf).1 4063) 25 = .ok (.if_icmp .ne 11, 3) := zd zm_4063 (by decide +kernel)
theorem d_4063_28 {σ : Nat → Nat} {n0 : Nat} {bf : ab_B} : decode (ab_code (zx σ n0 bf).1 4063) 28 = .ok (.aload_n 3, 1) := zd zm_4063 (by decide +kernel)
theorem d_4063_29 {σ : Nat → Nat} {n0 : Nat} {bf : ab_B} : decode (ab_code (zx σ n0 bf).1 4063) 29 = .ok (.aload_n 3, 1) := zd zm_4063 (by decide +kernel)
theorem d_4063_30 {σ : Nat → Nat} {n0 : Nat} {bf : ab_B} : decode (ab_code (zx σ n0 bf).1 4063) 30 = .ok (.invokestatic 363, 3) := zd zm_4063 (by decide +kernel)
theorem d_4063_33 {σ : Nat → Nat} {n0 : Nat} {bf : ab_B} : decode (ab_code (zx σ n0 bf).1 4063) 33 = .ok (.putfield 344, 3) := zd zm_4063 (by decide +kernel)
theorem d_4063_36 {σ : Nat → Nat} {n0 : Nat} {bf : ab_B} : decode (ab_code (zx σ n0 bf).1 4063) 36 = .ok (.aload_n 3, 1) := zd zm_4063 (by decide +kernel)
theorem d_4063_37 {σ : Nat → Nat} {n0 : Nat} {bf : ab_B} : decode (ab_code (zx σ n0 bf).1 4063) 37 = .ok (.getfield 347, 3) := zd zm_4063 (by decide +kernel)
theorem d_4063_40 {σ : Nat → Nat} {n0 : Nat} {bf : ab_B} : decode (ab_code (zx σ n0 bf).1 4063) 40 = .ok (.ifCond .ne 11, 3) := zd zm_4063 (by decide +kernel)
theorem d_4063_43 {σ : Nat → Nat} {n0 : Nat} {bf : ab_B} : decode (ab_code (zx σ n0 bf).1 4063) 43 = .ok (.aload_n 3, 1) := zd zm_4063 (by decide +kernel)
theorem d_4063_44 {σ : Nat → Nat} {n0 : Nat} {bf : ab_B} : decode (ab_code (zx σ n0 bf).1 4063) 44 = .ok (.aload_n 3, 1) := zd zm_4063 (by decide +kernel)
theorem d_4063_45 {σ : Nat → Nat} {n0 : Nat} {bf : ab_B} : decode (ab_code (zx σ n0 bf).1 4063) 45 = .ok (.invokestatic 367, 3) := zd zm_4063 (by decide +kernel)
theorem d_4063_48 {σ : Nat → Nat} {n0 : Nat} {bf : ab_B} : decode (ab_code (zx σ n0 bf).1 4063) 48 = .ok (.putfield 347, 3) := zd zm_4063 (by decide +kernel)
theorem d_4063_51 {σ : Nat → Nat} {n0 : Nat} {bf : ab_B} : decode (ab_code (zx σ n0 bf).1 4063) 51 = .ok (.aload_n 3, 1) := zd zm_4063 (by decide +kernel)
theorem d_4063_52 {σ : Nat → Nat} {n0 : Nat} {bf : ab_B} : decode (ab_code (zx σ n0 bf).1 4063) 52 = .ok (.getfield 344, 3) := zd zm_4063 (by decide +kernel)
theorem d_4063_55 {σ : Nat → Nat} {n0 : Nat} {bf : ab_B} : decode (ab_code (zx σ n0 bf).1 4063) 55 = .ok (.bipush 60, 2) := zd zm_4063 (by decide +kernel)
theorem d_4063_57 {σ : Nat → Nat} {n0 : Nat} {bf : ab_B} : decode (ab_code (zx σ n0 bf).1 4063) 57 = .ok (.if_icmp .gt 13, 3) := zd zm_4063 (by decide +kernel)
theorem d_4063_60 {σ : Nat → Nat} {n0 : Nat} {bf : ab_B} : decode (ab_code (zx σ n0 bf).1 4063) 60 = .ok (.aload_n 3, 1) := zd zm_4063 (by decide +kernel)
theorem d_4063_61 {σ : Nat → Nat} {n0 : Nat} {bf : ab_B} : decode (ab_code (zx σ n0 bf).1 4063) 61 = .ok (.getfield 347, 3) := zd zm_4063 (by decide +kernel)
theorem d_4063_64 {σ : Nat → Nat} {n0 : Nat} {bf : ab_B} : decode (ab_code (zx σ n0 bf).1 4063) 64 = .ok (.sipush 4000, 3) := zd zm_4063 (by decide +kernel)
theorem d_4063_67 {σ : Nat → Nat} {n0 : Nat} {bf : ab_B} : decode (ab_code (zx σ n0 bf).1 4063) 67 = .ok (.if_icmp .le 10, 3) := zd zm_4063 (by decide +kernel)
theorem d_4063_70 {σ : Nat → Nat} {n0 : Nat} {bf : ab_B} : decode (ab_code (zx σ n0 bf).1 4063) 70 = .ok (.aload_n 0, 1) := zd zm_4063 (by decide +kernel)
theorem d_4063_71 {σ : Nat → Nat} {n0 : Nat} {bf : ab_B} : decode (ab_code (zx σ n0 bf).1 4063) 71 = .ok (.bipush 8, 2) := zd zm_4063 (by decide +kernel)
theorem d_4063_73 {σ : Nat → Nat} {n0 : Nat} {bf : ab_B} : decode (ab_code (zx σ n0 bf).1 4063) 73 = .ok (.invokevirtual 25, 3) := zd zm_4063 (by decide +kernel)
theorem d_4063_76 {σ : Nat → Nat} {n0 : Nat} {bf : ab_B} : decode (ab_code (zx σ n0 bf).1 4063) 76 = .ok (.athrow, 1) := zd zm_4063 (by decide +kernel)
theorem d_4063_77 {σ : Nat → Nat} {n0 : Nat} {bf : ab_B} : decode (ab_code (zx σ n0 bf).1 4063) 77 = .ok (.iload_n 2, 1) := zd zm_4063 (by decide +kernel)
theorem d_4063_78 {σ : Nat → Nat} {n0 : Nat} {bf : ab_B} : decode (ab_code (zx σ n0 bf).1 4063) 78 = .ok (.iconst 1, 1) := zd zm_4063 (by decide +kernel)
theorem d_4063_79 {σ : Nat → Nat} {n0 : Nat} {bf : ab_B} : decode (ab_code (zx σ n0 bf).1 4063) 79 = .ok (.if_icmp .ne 10, 3) := zd zm_4063 (by decide +kernel)
theorem d_4063_82 {σ : Nat → Nat} {n0 : Nat} {bf : ab_B} : decode (ab_code (zx σ n0 bf).1 4063) 82 = .ok (.aload_n 3, 1) := zd zm_4063 (by decide +kernel)
theorem d_4063_83 {σ : Nat → Nat} {n0 : Nat} {bf : ab_B} : decode (ab_code (zx σ n0 bf).1 4063) 83 = .ok (.invokevirtual 335, 3) := zd zm_4063 (by decide +kernel)
theorem d_4063_86 {σ : Nat → Nat} {n0 : Nat} {bf : ab_B} : decode (ab_code (zx σ n0 bf).1 4063) 86 = .ok (.ifCond .eq 26, 3) := zd zm_4063 (by decide +kernel)
theorem d_4063_89 {σ : Nat → Nat} {n0 : Nat} {bf : ab_B} : decode (ab_code (zx σ n0 bf).1 4063) 89 = .ok (.iload_n 2, 1) := zd zm_4063 (by decide +kernel)
theorem d_4063_90 {σ : Nat → Nat} {n0 : Nat} {bf : ab_B} : decode (ab_code (zx σ n0 bf).1 4063) 90 = .ok (.iconst 2, 1) := zd zm_4063 (by decide +kernel)
theorem d_4063_91 {σ : Nat → Nat} {n0 : Nat} {bf : ab_B} : decode (ab_code (zx σ n0 bf).1 4063) 91 = .ok (.if_icmp .ne 27, 3) := zd zm_4063 (by decide +kernel)
theorem d_4063_94 {σ : Nat → Nat} {n0 : Nat} {bf : ab_B} : decode (ab_code (zx σ n0 bf).1 4063) 94 = .ok (.aload_n 3, 1) := zd zm_4063 (by decide +kernel)
theorem d_4063_95 {σ : Nat → Nat} {n0 : Nat} {bf : ab_B} : decode (ab_code (zx σ n0 bf).1 4063) 95 = .ok (.getfield 369, 3) := zd zm_4063 (by decide +kernel)
theorem d_4063_98 {σ : Nat → Nat} {n0 : Nat} {bf : ab_B} : decode (ab_code (zx σ n0 bf).1 4063) 98 = .ok (.bipush 7, 2) := zd zm_4063 (by decide +kernel)
theorem d_4063_100 {σ : Nat → Nat} {n0 : Nat} {bf : ab_B} : decode (ab_code (zx σ n0 bf).1 4063) 100 = .ok (.if_icmp .eq 18, 3) := zd zm_4063 (by decide +kernel)
theorem d_4063_103 {σ : Nat → Nat} {n0 : Nat} {bf : ab_B} : decode (ab_code (zx σ n0 bf).1 4063) 103 = .ok (.aload_n 3, 1) := zd zm_4063 (by decide +kernel)
theorem d_4063_104 {σ : Nat → Nat} {n0 : Nat} {bf : ab_B} : decode (ab_code (zx σ n0 bf).1 4063) 104 = .ok (.getfield 369, 3) := zd zm_4063 (by decide +kernel)
theorem d_4063_107 {σ : Nat → Nat} {n0 : Nat} {bf : ab_B} : decode (ab_code (zx σ n0 bf).1 4063) 107 = .ok (.bipush 8, 2) := zd zm_4063 (by decide +kernel)
theorem d_4063_109 {σ : Nat → Nat} {n0 : Nat} {bf : ab_B} : decode (ab_code (zx σ n0 bf).1 4063) 109 = .ok (.if_icmp .eq 9, 3) := zd zm_4063 (by decide +kernel)
theorem d_4063_112 {σ : Nat → Nat} {n0 : Nat} {bf : ab_B} : decode (ab_code (zx σ n0 bf).1 4063) 112 = .ok (.aload_n 0, 1) := zd zm_4063 (by decide +kernel)
theorem d_4063_113 {σ : Nat → Nat} {n0 : Nat} {bf : ab_B} : decode (ab_code (zx σ n0 bf).1 4063) 113 = .ok (.iconst 5, 1) := zd zm_4063 (by decide +kernel)
theorem d_4063_114 {σ : Nat → Nat} {n0 : Nat} {bf : ab_B} : decode (ab_code (zx σ n0 bf).1 4063) 114 = .ok (.invokevirtual 25, 3) := zd zm_4063 (by decide +kernel)
theorem d_4063_117 {σ : Nat → Nat} {n0 : Nat} {bf : ab_B} : decode (ab_code (zx σ n0 bf).1 4063) 117 = .ok (.athrow, 1) := zd zm_4063 (by decide +kernel)
theorem d_4063_118 {σ : Nat → Nat} {n0 : Nat} {bf : ab_B} : decode (ab_code (zx σ n0 bf).1 4063) 118 = .ok (.aload_n 3, 1) := zd zm_4063 (by decide +kernel)
theorem d_4063_119 {σ : Nat → Nat} {n0 : Nat} {bf : ab_B} : decode (ab_code (zx σ n0 bf).1 4063) 119 = .ok (.getfield 370, 3) := zd zm_4063 (by decide +kernel)
theorem d_4063_122 {σ : Nat → Nat} {n0 : Nat} {bf : ab_B} : decode (ab_code (zx σ n0 bf).1 4063) 122 = .ok (.iconst (-1), 1) := zd zm_4063 (by decide +kernel)
theorem d_4063_123 {σ : Nat → Nat} {n0 : Nat} {bf : ab_B} : decode (ab_code (zx σ n0 bf).1 4063) 123 = .ok (.if_icmp .ne 8, 3) := zd zm_4063 (by decide +kernel)
theorem d_4063_126 {σ : Nat → Nat} {n0 : Nat} {bf : ab_B} : decode (ab_code (zx σ n0 bf).1 4063) 126 = .ok (.aload_n 0, 1) := zd zm_4063 (by decide +kernel)
theorem d_4063_127 {σ : Nat → Nat} {n0 : Nat} {bf : ab_B} : decode (ab_code (zx σ n0 bf).1 4063) 127 = .ok (.aload_n 3, 1) := zd zm_4063 (by decide +kernel)
theorem d_4063_128 {σ : Nat → Nat} {n0 : Nat} {bf : ab_B} : decode (ab_code (zx σ n0 bf).1 4063) 128 = .ok (.invokevirtual 373, 3) := zd zm_4063 (by decide +kernel)
theorem d_4063_131 {σ : Nat → Nat} {n0 : Nat} {bf : ab_B} : decode (ab_code (zx σ n0 bf).1 4063) 131 = .ok (.aload_n 3, 1) := zd zm_4063 (by decide +kernel)
theorem d_4063_132 {σ : Nat → Nat} {n0 : Nat} {bf : ab_B} : decode (ab_code (zx σ n0 bf).1 4063) 132 = .ok (.areturn, 1) := zd zm_4063 (by decide +kernel)
def w_X5_typeOf_70 (X : zs_X) (d : Nat) (p0 : Nat) (S : zs_T) (Q : zs_Q) : Prop :=
  (zs_K S p0 = some (.inl 4) ∧ zs_C X d 4006 [.ref p0, .int (8 : Int32)] S (zs_kR (fun v3 S2 => (∃ b4, v3 = some b4 ∧ Q (.threw b4) S2)) Q))
theorem u_X5_typeOf_70 {σ : Nat → Nat} {n0 : Nat} {bf : ab_B} {d : Nat} {p0 : Nat} {S : zs_T} {Q : zs_Q} (hB : zt_B bf) (h : w_X5_typeOf_70 (zx σ n0 bf) d p0 S Q) : zs_U (zx σ n0 bf) d 4063 70 [(0, .ref p0)] [] S Q := by
  unfold w_X5_typeOf_70 at h
  refine zu_aload_n d_4063_70 rfl (zs_ra _) ?_
  refine zu_bipush d_4063_71 zj_8 ?_
  obtain ⟨k1, h⟩ := h
  refine zc_4_25 (x0 := (8 : Int32)) hB rfl k1 d_4063_73 (Nat.le_of_ble_eq_true rfl) h (fun v3 S2 h => ?_)
  obtain ⟨b4, e5, h⟩ := h
  refine zs_stk0 (zs_rfe e5) ?_
  exact zu_throw d_4063_76 h
def w_X5_typeOf_118 (X : zs_X) (d : Nat) (p0 : Nat) (p3 : Option Nat) (S : zs_T) (Q : zs_Q) : Prop :=
  (∃ b1, p3 = some b1 ∧ zs_K S b1 = some (.inl 6) ∧ ((¬ (zs_I S 6011 b1) = (-1 : Int32) → (Q (.returned (some (va_rf p3))) S)) ∧ (¬ (¬ (zs_I S 6011 b1) = (-1 : Int32)) → (zs_K S p0 = some (.inl 4) ∧ zs_C X d 4085 [.ref p0, va_rf p3] S (zs_kV (fun S6 => (Q (.returned (some (va_rf p3))) S6)) Q)))))
theorem u_X5_typeOf_118 {σ : Nat → Nat} {n0 : Nat} {bf : ab_B} {d : Nat} {p0 : Nat} {p3 : Option Nat} {S : zs_T} {Q : zs_Q} (hB : zt_B bf) (h : w_X5_typeOf_118 (zx σ n0 bf) d p0 p3 S Q) : zs_U (zx σ n0 bf) d 4063 118 [(0, .ref p0), (3, va_rf p3)] [] S Q := by
  unfold w_X5_typeOf_118 at h
  refine zu_aload_n d_4063_118 rfl (zs_rr _) ?_
  obtain ⟨b1, e2, h⟩ := h
  refine zs_stk0 (zs_rfe e2) ?_
  obtain ⟨k3, h⟩ := h
  refine zg_4_370 rfl d_4063_119 k3 ?_
  refine zu_iconst d_4063_122 zi_m1 ?_
  refine zu_cmpne (t := 131) d_4063_123 rfl (fun c4 => ?_) (fun c4 => ?_)
  · have h := h.1 c4
    refine zu_aload_n d_4063_131 rfl (zs_rr _) ?_
    exact zu_aret d_4063_132 zr_4063 (zs_rr _) h
  · have h := h.2 c4
    refine zu_aload_n d_4063_126 rfl (zs_ra _) ?_
    refine zu_aload_n d_4063_127 rfl (zs_rr _) ?_
    obtain ⟨k5, h⟩ := h
    refine zc_4_373 (x0 := p3) hB rfl k5 d_4063_128 (Nat.le_of_ble_eq_true rfl) h (fun S6 h => ?_)
    refine zu_aload_n d_4063_131 rfl (zs_rr _) ?_
    exact zu_aret d_4063_132 zr_4063 (zs_rr _) h
def w_X5_typeOf_112 (X : zs_X) (d : Nat) (p0 : Nat) (S : zs_T) (Q : zs_Q) : Prop :=
  (zs_K S p0 = some (.inl 4) ∧ zs_C X d 4006 [.ref p0, .int (5 : Int32)] S (zs_kR (fun v3 S2 => (∃ b4, v3 = some b4 ∧ Q (.threw b4) S2)) Q))
theorem u_X5_typeOf_112 {σ : Nat → Nat} {n0 : Nat} {bf : ab_B} {d : Nat} {p0 : Nat} {S : zs_T} {Q : zs_Q} (hB : zt_B bf) (h : w_X5_typeOf_112 (zx σ n0 bf) d p0 S Q) : zs_U (zx σ n0 bf) d 4063 112 [(0, .ref p0)] [] S Q := by
  unfold w_X5_typeOf_112 at h
  refine zu_aload_n d_4063_112 rfl (zs_ra _) ?_
  refine zu_iconst d_4063_113 zi_5 ?_
  obtain ⟨k1, h⟩ := h
  refine zc_4_25 (x0 := (5 : Int32)) hB rfl k1 d_4063_114 (Nat.le_of_ble_eq_true rfl) h (fun v3 S2 h => ?_)
  obtain ⟨b4, e5, h⟩ := h
  refine zs_stk0 (zs_rfe e5) ?_
  exact zu_throw d_4063_117 h
def w_X5_typeOf_89 (X : zs_X) (d : Nat) (p0 : Nat) (p2 : Int32) (p3 : Option Nat) (S : zs_T) (Q : zs_Q) : Prop :=
  (((¬ p2 = (2 : Int32) → w_X5_typeOf_118 X d p0 p3 S Q) ∧ (¬ (¬ p2 = (2 : Int32)) → (∃ b2, p3 = some b2 ∧ zs_K S b2 = some (.inl 6) ∧ (((zs_I S 6000 b2) = (7 : Int32) → w_X5_typeOf_118 X d p0 p3 S Q) ∧ (¬ ((zs_I S 6000 b2) = (7 : Int32)) → ((((zs_I S 6000 b2) = (8 : Int32) → w_X5_typeOf_118 X d p0 p3 S Q) ∧ (¬ ((zs_I S 6000 b2) = (8 : Int32)) → w_X5_typeOf_112 X d p0 S Q)))))))))
theorem u_X5_typeOf_89 {σ : Nat → Nat} {n0 : Nat} {bf : ab_B} {d : Nat} {p0 : Nat} {p2 : Int32} {p3 : Option Nat} {S : zs_T} {Q : zs_Q} (hB : zt_B bf) (h : w_X5_typeOf_89 (zx σ n0 bf) d p0 p2 p3 S Q) : zs_U (zx σ n0 bf) d 4063 89 [(0, .ref p0), (2, .int p2), (3, va_rf p3)] [] S Q := by
  unfold w_X5_typeOf_89 at h
  refine zu_iload_n d_4063_89 rfl ?_
  refine zu_iconst d_4063_90 zi_2 ?_
  refine zu_cmpne (t := 118) d_4063_91 rfl (fun c1 => ?_) (fun c1 => ?_)
  · have h := h.1 c1
    exact (u_X5_typeOf_118 hB h).weak ⟨rfl, rfl, trivial⟩
  · have h := h.2 c1
    refine zu_aload_n d_4063_94 rfl (zs_rr _) ?_
    obtain ⟨b2, e3, h⟩ := h
    refine zs_stk0 (zs_rfe e3) ?_
    obtain ⟨k4, h⟩ := h
    refine zg_4_369 rfl d_4063_95 k4 ?_
    refine zu_bipush d_4063_98 zj_7 ?_
    refine zu_cmpeq (t := 118) d_4063_100 rfl (fun c5 => ?_) (fun c5 => ?_)
    · have h := h.1 c5
      exact (u_X5_typeOf_118 hB h).weak ⟨rfl, rfl, trivial⟩
    · have h := h.2 c5
      refine zu_aload_n d_4063_103 rfl (zs_rr _) ?_
      refine zs_stk0 (zs_rfe e3) ?_
      refine zg_4_369 rfl d_4063_104 k4 ?_
      refine zu_bipush d_4063_107 zj_8 ?_
      refine zu_cmpeq (t := 118) d_4063_109 rfl (fun c6 => ?_) (fun c6 => ?_)
      · have h := h.1 c6
        exact (u_X5_typeOf_118 hB h).weak ⟨rfl, rfl, trivial⟩
      · have h := h.2 c6
        exact (u_X5_typeOf_112 hB h).weak ⟨rfl, trivial⟩
def w_X5_typeOf_51 (X : zs_X) (d : Nat) (p0 : Nat) (p2 : Int32) (p3 : Option Nat) (S : zs_T) (Q : zs_Q) : Prop :=
  (∃ b1, p3 = some b1 ∧ zs_K S b1 = some (.inl 6) ∧ (((60 : Int32) < (zs_I S 6009 b1) → w_X5_typeOf_70 X d p0 S Q) ∧ (¬ ((60 : Int32) < (zs_I S 6009 b1)) → ((((zs_I S 6010 b1) ≤ (4000 : Int32) → (((¬ p2 = (1 : Int32) → w_X5_typeOf_89 X d p0 p2 p3 S Q) ∧ (¬ (¬ p2 = (1 : Int32)) → (zs_C X d 6002 [.ref b1] S (zs_kI (fun v8 S7 => (((v8 = 0 → w_X5_typeOf_112 X d p0 S7 Q) ∧ (¬ (v8 = 0) → w_X5_typeOf_89 X d p0 p2 p3 S7 Q)))) Q)))))) ∧ (¬ ((zs_I S 6010 b1) ≤ (4000 : Int32)) → w_X5_typeOf_70 X d p0 S Q))))))
theorem u_X5_typeOf_51 {σ : Nat → Nat} {n0 : Nat} {bf : ab_B} {d : Nat} {p0 : Nat} {p2 : Int32} {p3 : Option Nat} {S : zs_T} {Q : zs_Q} (hB : zt_B bf) (h : w_X5_typeOf_51 (zx σ n0 bf) d p0 p2 p3 S Q) : zs_U (zx σ n0 bf) d 4063 51 [(0, .ref p0), (2, .int p2), (3, va_rf p3)] [] S Q := by
  unfold w_X5_typeOf_51 at h
  refine zu_aload_n d_4063_51 rfl (zs_rr _) ?_
  obtain ⟨b1, e2, h⟩ := h
  refine zs_stk0 (zs_rfe e2) ?_
  obtain ⟨k3, h⟩ := h
  refine zg_4_344 rfl d_4063_52 k3 ?_
  refine zu_bipush d_4063_55 zj_60 ?_
  refine zu_cmpgt (t := 70) d_4063_57 rfl (fun c4 => ?_) (fun c4 => ?_)
  · have h := h.1 c4
    exact (u_X5_typeOf_70 hB h).weak ⟨rfl, trivial⟩
  · have h := h.2 c4
    refine zu_aload_n d_4063_60 rfl (zs_rr _) ?_
    refine zs_stk0 (zs_rfe e2) ?_
    refine zg_4_347 rfl d_4063_61 k3 ?_
    refine zu_sipush d_4063_64 zh_4000 ?_
    refine zu_cmple (t := 77) d_4063_67 rfl (fun c5 => ?_) (fun c5 => ?_)
    · have h := h.1 c5
      refine zu_iload_n d_4063_77 rfl ?_
      refine zu_iconst d_4063_78 zi_1 ?_
      refine zu_cmpne (t := 89) d_4063_79 rfl (fun c6 => ?_) (fun c6 => ?_)
      · have h := h.1 c6
        exact (u_X5_typeOf_89 hB h).weak ⟨rfl, rfl, rfl, trivial⟩
      · have h := h.2 c6
        refine zu_aload_n d_4063_82 rfl (zs_rr _) ?_
        refine zs_stk0 (zs_rfe e2) ?_
        refine zc_4_335  hB rfl k3 d_4063_83 (Nat.le_of_ble_eq_true rfl) h (fun v8 S7 h => ?_)
        refine zu_ifeq (t := 112) d_4063_86 rfl (fun c9 => ?_) (fun c9 => ?_)
        · have h := h.1 c9
          exact (u_X5_typeOf_112 hB h).weak ⟨rfl, trivial⟩
        · have h := h.2 c9
          exact (u_X5_typeOf_89 hB h).weak ⟨rfl, rfl, rfl, trivial⟩
    · have h := h.2 c5
      exact (u_X5_typeOf_70 hB h).weak ⟨rfl, trivial⟩
def w_X5_typeOf_36 (X : zs_X) (d : Nat) (p0 : Nat) (p2 : Int32) (p3 : Option Nat) (S : zs_T) (Q : zs_Q) : Prop :=
  (∃ b1, p3 = some b1 ∧ zs_K S b1 = some (.inl 6) ∧ ((¬ (zs_I S 6010 b1) = 0 → w_X5_typeOf_51 X d p0 p2 p3 S Q) ∧ (¬ (¬ (zs_I S 6010 b1) = 0) → (zs_C X d 4075 [va_rf p3] S (zs_kI (fun v6 S5 => (zs_K S5 b1 = some (.inl 6) ∧ ab_n0 X.1 ≤ b1 ∧ ∀ S9, S9 = zs_sI S5 6010 b1 v6 → w_X5_typeOf_51 X d p0 p2 p3 S9 Q)) Q)))))
theorem u_X5_typeOf_36 {σ : Nat → Nat} {n0 : Nat} {bf : ab_B} {d : Nat} {p0 : Nat} {p2 : Int32} {p3 : Option Nat} {S : zs_T} {Q : zs_Q} (hB : zt_B bf) (h : w_X5_typeOf_36 (zx σ n0 bf) d p0 p2 p3 S Q) : zs_U (zx σ n0 bf) d 4063 36 [(0, .ref p0), (2, .int p2), (3, va_rf p3)] [] S Q := by
  unfold w_X5_typeOf_36 at h
  refine zu_aload_n d_4063_36 rfl (zs_rr _) ?_
  obtain ⟨b1, e2, h⟩ := h
  refine zs_stk0 (zs_rfe e2) ?_
  obtain ⟨k3, h⟩ := h
  refine zg_4_347 rfl d_4063_37 k3 ?_
  refine zu_ifne (t := 51) d_4063_40 rfl (fun c4 => ?_) (fun c4 => ?_)
  · have h := h.1 c4
    exact (u_X5_typeOf_51 hB h).weak ⟨rfl, rfl, rfl, trivial⟩
  · have h := h.2 c4
    refine zu_aload_n d_4063_43 rfl (zs_rr _) ?_
    refine zu_aload_n d_4063_44 rfl (zs_rr _) ?_
    refine zc_4_367 (x0 := p3) hB rfl d_4063_45 (by simp only [List.map_cons, List.map_nil, List.sum_cons, List.sum_nil, zs_cat, zs_cI, zs_cJ, zs_cA]; exact Nat.le_of_ble_eq_true rfl) h (fun v6 S5 h => ?_)
    refine zs_stk1 (zs_rfe e2) ?_
    obtain ⟨k7, h⟩ := h
    obtain ⟨k8, h⟩ := h
    refine zp_4_347 (v := v6) rfl d_4063_48 k7 k8 ?_
    generalize e10 : zs_sI S5 6010 b1 v6 = S9
    have h := h S9 e10.symm
    have K11 : ∀ b, zs_K S9 b = zs_K S5 b := zs_Kt e10 (zs_KsI _ _ _ _) (fun _ => rfl)
    exact (u_X5_typeOf_51 hB h).weak ⟨rfl, rfl, rfl, trivial⟩
def w_X5_typeOf_28 (X : zs_X) (d : Nat) (p0 : Nat) (p2 : Int32) (p3 : Option Nat) (S : zs_T) (Q : zs_Q) : Prop :=
  (zs_C X d 4073 [va_rf p3] S (zs_kI (fun v2 S1 => (∃ b3, p3 = some b3 ∧ zs_K S1 b3 = some (.inl 6) ∧ ab_n0 X.1 ≤ b3 ∧ ∀ S7, S7 = zs_sI S1 6009 b3 v2 → w_X5_typeOf_36 X d p0 p2 p3 S7 Q)) Q))
theorem u_X5_typeOf_28 {σ : Nat → Nat} {n0 : Nat} {bf : ab_B} {d : Nat} {p0 : Nat} {p2 : Int32} {p3 : Option Nat} {S : zs_T} {Q : zs_Q} (hB : zt_B bf) (h : w_X5_typeOf_28 (zx σ n0 bf) d p0 p2 p3 S Q) : zs_U (zx σ n0 bf) d 4063 28 [(0, .ref p0), (2, .int p2), (3, va_rf p3)] [] S Q := by
  unfold w_X5_typeOf_28 at h
  refine zu_aload_n d_4063_28 rfl (zs_rr _) ?_
  refine zu_aload_n d_4063_29 rfl (zs_rr _) ?_
  refine zc_4_363 (x0 := p3) hB rfl d_4063_30 (by simp only [List.map_cons, List.map_nil, List.sum_cons, List.sum_nil, zs_cat, zs_cI, zs_cJ, zs_cA]; exact Nat.le_of_ble_eq_true rfl) h (fun v2 S1 h => ?_)
  obtain ⟨b3, e4, h⟩ := h
  refine zs_stk1 (zs_rfe e4) ?_
  obtain ⟨k5, h⟩ := h
  obtain ⟨k6, h⟩ := h
  refine zp_4_344 (v := v2) rfl d_4063_33 k5 k6 ?_
  generalize e8 : zs_sI S1 6009 b3 v2 = S7
  have h := h S7 e8.symm
  have K9 : ∀ b, zs_K S7 b = zs_K S1 b := zs_Kt e8 (zs_KsI _ _ _ _) (fun _ => rfl)
  exact (u_X5_typeOf_36 hB h).weak ⟨rfl, rfl, rfl, trivial⟩
def w_X5_typeOf (X : zs_X) (d : Nat) (p0 : Nat) (p1 : Int32) (p2 : Int32) (S : zs_T) (Q : zs_Q) : Prop :=
  (zs_K S p0 = some (.inl 4) ∧ zs_C X d 4021 [.ref p0] S (zs_kV (fun S2 => (zs_K S2 p0 = some (.inl 4) ∧ zs_C X d 4064 [.ref p0, .int p1] S2 (zs_kR (fun v6 S5 => (zs_K S5 p0 = some (.inl 4) ∧ ab_n0 X.1 ≤ p0 ∧ ∀ S9, S9 = zs_sI S5 4011 p0 ((zs_I S5 4011 p0) - (1 : Int32)) → ∃ b12, v6 = some b12 ∧ zs_K S5 b12 = some (.inl 6) ∧ ((¬ (zs_I S9 6009 b12) = (1 : Int32) → w_X5_typeOf_36 X d p0 p2 v6 S9 Q) ∧ (¬ (¬ (zs_I S9 6009 b12) = (1 : Int32)) → w_X5_typeOf_28 X d p0 p2 v6 S9 Q)))) Q))) Q))
theorem u_X5_typeOf {σ : Nat → Nat} {n0 : Nat} {bf : ab_B} {d : Nat} {p0 : Nat} {p1 : Int32} {p2 : Int32} {S : zs_T} {Q : zs_Q} (hB : zt_B bf) (hd : 1 ≤ d) (h : w_X5_typeOf (zx σ n0 bf) (d - 1) p0 p1 p2 S Q) : zs_C (zx σ n0 bf) d 4063 [.ref p0, .int p1, .int p2] S Q := by
  have hL : lv_args 0 [.ref p0, .int p1, .int p2] = [(0, .ref p0), (1, .int p1), (2, .int p2)] := rfl
  refine zs_C.of1 (hB.2 4063 (by decide) (by decide)) hd (by rw [hL]; exact zs_sub_self _ (by exact ⟨rfl, rfl, rfl, trivial⟩)) ?_
  rw [hL]
  clear hL
  unfold w_X5_typeOf at h
  refine zu_aload_n d_4063_0 rfl (zs_ra _) ?_
  obtain ⟨k1, h⟩ := h
  refine zc_4_357  hB rfl k1 d_4063_1 (Nat.le_of_ble_eq_true rfl) h (fun S2 h => ?_)
  refine zu_aload_n d_4063_4 rfl (zs_ra _) ?_
  refine zu_iload_n d_4063_5 rfl ?_
  obtain ⟨k4, h⟩ := h
  refine zc_4_360 (x0 := p1) hB rfl k4 d_4063_6 (Nat.le_of_ble_eq_true rfl) h (fun v6 S5 h => ?_)
  refine zu_astore_n d_4063_9 (zs_rr _) (zs_lt zq_4063 rfl) ?_
  refine zu_aload_n d_4063_10 rfl (zs_ra _) ?_
  refine zu_dup d_4063_11 rfl ?_
  obtain ⟨k7, h⟩ := h
  refine zg_4_43 rfl d_4063_12 k7 ?_
  refine zu_iconst d_4063_15 zi_1 ?_
  refine zu_stk d_4063_16 rfl rfl ?_
  obtain ⟨k8, h⟩ := h
  refine zp_4_43 (v := ((zs_I S5 4011 p0) - (1 : Int32))) rfl d_4063_17 k7 k8 ?_
  generalize e10 : zs_sI S5 4011 p0 ((zs_I S5 4011 p0) - (1 : Int32)) = S9
  have h := h S9 e10.symm
  have K11 : ∀ b, zs_K S9 b = zs_K S5 b := zs_Kt e10 (zs_KsI _ _ _ _) (fun _ => rfl)
  refine zu_aload_n d_4063_20 rfl (zs_rr _) ?_
  obtain ⟨b12, e13, h⟩ := h
  refine zs_stk0 (zs_rfe e13) ?_
  obtain ⟨k14, h⟩ := h
  refine zg_4_344 rfl d_4063_21 ((K11 _).trans k14) ?_
  refine zu_iconst d_4063_24 zi_1 ?_
  refine zu_cmpne (t := 36) d_4063_25 rfl (fun c15 => ?_) (fun c15 => ?_)
  · have h := h.1 c15
    exact (u_X5_typeOf_36 hB h).weak ⟨rfl, rfl, rfl, trivial⟩
  · have h := h.2 c15
    exact (u_X5_typeOf_28 hB h).weak ⟨rfl, rfl, rfl, trivial⟩
/-! SchemaPascal$Reader.typeIn(Z)LSchemaPascal$Type; -/
theorem zm_4064 {σ : Nat → Nat} {n0 : Nat} {bf : ab_B} : ab_code (zx σ n0 bf).1 4064 = prog_9_method_27_code := rfl
theorem zq_4064 {σ : Nat → Nat} {n0 : Nat} {bf : ab_B} : ab_maxL (zx σ n0 bf).1 4064 = 4 := rfl
theorem zr_4064 {σ : Nat → Nat} {n0 : Nat} {bf : ab_B} : ab_ret (zx σ n0 bf).1 4064 = (Option.some (Jvm.ClassFile.FieldType.object "SchemaPascal$Type")) := rfl
theorem d_4064_0 {σ : Nat → Nat} {n0 : Nat} {bf : ab_B} : decode (ab_code (zx σ n0 bf).1 4064) 0 = .ok (.aload_n 0, 1) := zd zm_4064 (by decide +kernel)
theorem d_4064_1 {σ : Nat → Nat} {n0 : Nat} {bf : ab_B} : decode (ab_code (zx σ n0 bf).1 4064) 1 = .ok (.getfield 5, 3) := zd zm_4064 (by decide +kernel)
theorem d_4064_4 {σ : Nat → Nat} {n0 : Nat} {bf : ab_B} : decode (ab_code (zx σ n0 bf).1 4064) 4 = .ok (.invokevirtual 36, 3) := zd zm_4064 (by decide +kernel)
theorem d_4064_7 {σ : Nat → Nat} {n0 : Nat} {bf : ab_B} : decode (ab_code (zx σ n0 bf).1 4064) 7 = .ok (.ifCond .eq 24, 3) := zd zm_4064 (by decide +kernel)
theorem d_4064_10 {σ : Nat → Nat} {n0 : Nat} {bf : ab_B} : decode (ab_code (zx σ n0 bf).1 4064) 10 = .ok (.aload_n 0, 1) := zd zm_4064 (by decide +kernel)
theorem d_4064_11 {σ : Nat → Nat} {n0 : Nat} {bf : ab_B} : decode (ab_code (zx σ n0 bf).1 4064) 11 = .ok (.invokevirtual 354, 3) := zd zm_4064 (by decide +kernel)
theorem d_4064_14 {σ : Nat → Nat} {n0 : Nat} {bf : ab_B} : decode (ab_code (zx σ n0 bf).1 4064) 14 = .ok (.ifCond .ne 17, 3) := zd zm_4064 (by decide +kernel)
theorem d_4064_17 {σ : Nat → Nat} {n0 : Nat} {bf : ab_B} : decode (ab_code (zx σ n0 bf).1 4064) 17 = .ok (.aload_n 0, 1) := zd zm_4064 (by decide +kernel)
theorem d_4064_18 {σ : Nat → Nat} {n0 : Nat} {bf : ab_B} : decode (ab_code (zx σ n0 bf).1 4064) 18 = .ok (.aload_n 0, 1) := zd zm_4064 (by decide +kernel)
theorem d_4064_19 {σ : Nat → Nat} {n0 : Nat} {bf : ab_B} : decode (ab_code (zx σ n0 bf).1 4064) 19 = .ok (.getfield 5, 3) := zd zm_4064 (by decide +kernel)
theorem d_4064_22 {σ : Nat → Nat} {n0 : Nat} {bf : ab_B} : decode (ab_code (zx σ n0 bf).1 4064) 22 = .ok (.getfield 40, 3) := zd zm_4064 (by decide +kernel)
theorem d_4064_25 {σ : Nat → Nat} {n0 : Nat} {bf : ab_B} : decode (ab_code (zx σ n0 bf).1 4064) 25 = .ok (.invokevirtual 318, 3) := zd zm_4064 (by decide +kernel)
theorem d_4064_28 {σ : Nat → Nat} {n0 : Nat} {bf : ab_B} : decode (ab_code (zx σ n0 bf).1 4064) 28 = .ok (.goto 4, 3) := zd zm_4064 (by decide +kernel)
theorem d_4064_31 {σ : Nat → Nat} {n0 : Nat} {bf : ab_B} : decode (ab_code (zx σ n0 bf).1 4064) 31 = .ok (.aconst_null, 1) := zd zm_4064 (by decide +kernel)
theorem d_4064_32 {σ : Nat → Nat} {n0 : Nat} {bf : ab_B} : decode (ab_code (zx σ n0 bf).1 4064) 32 = .ok (.astore_n 2, 1) := zd zm_4064 (by decide +kernel)
theorem d_4064_33 {σ : Nat → Nat} {n0 : Nat} {bf : ab_B} : decode (ab_code (zx σ n0 bf).1 4064) 33 = .ok (.aload_n 2, 1) := zd zm_4064 (by decide +kernel)
theorem d_4064_34 {σ : Nat → Nat} {n0 : Nat} {bf : ab_B} : decode (ab_code (zx σ n0 bf).1 4064) 34 = .ok (.ifnull 47, 3) := zd zm_4064 (by decide +kernel)
theorem d_4064_37 {σ : Nat → Nat} {n0 : Nat} {bf : ab_B} : decode (ab_code (zx σ n0 bf).1 4064) 37 = .ok (.aload_n 2, 1) := zd zm_4064 (by decide +kernel)
theorem d_4064_38 {σ : Nat → Nat} {n0 : Nat} {bf : ab_B} : decode (ab_code (zx σ n0 bf).1 4064) 38 = .ok (.getfield 62, 3) := zd zm_4064 (by decide +kernel)
theorem d_4064_41 {σ : Nat → Nat} {n0 : Nat} {bf : ab_B} : decode (ab_code (zx σ n0 bf).1 4064) 41 = .ok (.iconst 1, 1) := zd zm_4064 (by decide +kernel)
theorem d_4064_42 {σ : Nat → Nat} {n0 : Nat} {bf : ab_B} : decode (ab_code (zx σ n0 bf).1 4064) 42 = .ok (.if_icmp .ne 39, 3) := zd zm_4064 (by decide +kernel)
theorem d_4064_45 {σ : Nat → Nat} {n0 : Nat} {bf : ab_B} : decode (ab_code (zx σ n0 bf).1 4064) 45 = .ok (.aload_n 0, 1) := zd zm_4064 (by decide +kernel)
theorem d_4064_46 {σ : Nat → Nat} {n0 : Nat} {bf : ab_B} : decode (ab_code (zx σ n0 bf).1 4064) 46 = .ok (.getfield 5, 3) := zd zm_4064 (by decide +kernel)
theorem d_4064_49 {σ : Nat → Nat} {n0 : Nat} {bf : ab_B} : decode (ab_code (zx σ n0 bf).1 4064) 49 = .ok (.invokevirtual 29, 3) := zd zm_4064 (by decide +kernel)
theorem d_4064_52 {σ : Nat → Nat} {n0 : Nat} {bf : ab_B} : decode (ab_code (zx σ n0 bf).1 4064) 52 = .ok (.aload_n 2, 1) := zd zm_4064 (by decide +kernel)
theorem d_4064_53 {σ : Nat → Nat} {n0 : Nat} {bf : ab_B} : decode (ab_code (zx σ n0 bf).1 4064) 53 = .ok (.getfield 65, 3) := zd zm_4064 (by decide +kernel)
theorem d_4064_56 {σ : Nat → Nat} {n0 : Nat} {bf : ab_B} : decode (ab_code (zx σ n0 bf).1 4064) 56 = .ok (.getfield 369, 3) := zd zm_4064 (by decide +kernel)
theorem d_4064_59 {σ : Nat → Nat} {n0 : Nat} {bf : ab_B} : decode (ab_code (zx σ n0 bf).1 4064) 59 = .ok (.bipush 10, 2) := zd zm_4064 (by decide +kernel)
theorem d_4064_61 {σ : Nat → Nat} {n0 : Nat} {bf : ab_B} : decode (ab_code (zx σ n0 bf).1 4064) 61 = .ok (.if_icmp .ne 15, 3) := zd zm_4064 (by decide +kernel)
theorem d_4064_64 {σ : Nat → Nat} {n0 : Nat} {bf : ab_B} : decode (ab_code (zx σ n0 bf).1 4064) 64 = .ok (.aload_n 0, 1) := zd zm_4064 (by decide +kernel)
theorem d_4064_65 {σ : Nat → Nat} {n0 : Nat} {bf : ab_B} : decode (ab_code (zx σ n0 bf).1 4064) 65 = .ok (.aload_n 2, 1) := zd zm_4064 (by decide +kernel)
theorem d_4064_66 {σ : Nat → Nat} {n0 : Nat} {bf : ab_B} : decode (ab_code (zx σ n0 bf).1 4064) 66 = .ok (.getfield 65, 3) := zd zm_4064 (by decide +kernel)
theorem d_4064_69 {σ : Nat → Nat} {n0 : Nat} {bf : ab_B} : decode (ab_code (zx σ n0 bf).1 4064) 69 = .ok (.iload_n 1, 1) := zd zm_4064 (by decide +kernel)
theorem d_4064_70 {σ : Nat → Nat} {n0 : Nat} {bf : ab_B} : decode (ab_code (zx σ n0 bf).1 4064) 70 = .ok (.invokevirtual 427, 3) := zd zm_4064 (by decide +kernel)
theorem d_4064_73 {σ : Nat → Nat} {n0 : Nat} {bf : ab_B} : decode (ab_code (zx σ n0 bf).1 4064) 73 = .ok (.goto 7, 3) := zd zm_4064 (by decide +kernel)
theorem d_4064_76 {σ : Nat → Nat} {n0 : Nat} {bf : ab_B} : decode (ab_code (zx σ n0 bf).1 4064) 76 = .ok (.aload_n 2, 1) := zd zm_4064 (by decide +kernel)
theorem d_4064_77 {σ : Nat → Nat} {n0 : Nat} {bf : ab_B} : decode (ab_code (zx σ n0 bf).1 4064) 77 = .ok (.getfield 65, 3) := zd zm_4064 (by decide +kernel)
theorem d_4064_80 {σ : Nat → Nat} {n0 : Nat} {bf : ab_B} : decode (ab_code (zx σ n0 bf).1 4064) 80 = .ok (.areturn, 1) := zd zm_4064 (by decide +kernel)
theorem d_4064_81 {σ : Nat → Nat} {n0 : Nat} {bf : ab_B} : decode (ab_code (zx σ n0 bf).1 4064) 81 = .ok (.aload_n 0, 1) := zd zm_4064 (by decide +kernel)
theorem d_4064_82 {σ : Nat → Nat} {n0 : Nat} {bf : ab_B} : decode (ab_code (zx σ n0 bf).1 4064) 82 = .ok (.getfield 5, 3) := zd zm_4064 (by decide +kernel)
theorem d_4064_85 {σ : Nat → Nat} {n0 : Nat} {bf : ab_B} : decode (ab_code (zx σ n0 bf).1 4064) 85 = .ok (.bipush 40, 2) := zd zm_4064 (by decide +kernel)
theorem d_4064_87 {σ : Nat → Nat} {n0 : Nat} {bf : ab_B} : decode (ab_code (zx σ n0 bf).1 4064) 87 = .ok (.invokevirtual 21, 3) := zd zm_4064 (by decide +kernel)
theorem d_4064_90 {σ : Nat → Nat} {n0 : Nat} {bf : ab_B} : decode (ab_code (zx σ n0 bf).1 4064) 90 = .ok (.ifCond .eq 8, 3) := zd zm_4064 (by decide +kernel)
theorem d_4064_93 {σ : Nat → Nat} {n0 : Nat} {bf : ab_B} : decode (ab_code (zx σ n0 bf).1 4064) 93 = .ok (.aload_n 0, 1) := zd zm_4064 (by decide +kernel)
theorem d_4064_94 {σ : Nat → Nat} {n0 : Nat} {bf : ab_B} : decode (ab_code (zx σ n0 bf).1 4064) 94 = .ok (.invokevirtual 431, 3) := zd zm_4064 (by decide +kernel)
theorem d_4064_97 {σ : Nat → Nat} {n0 : Nat} {bf : ab_B} : decode (ab_code (zx σ n0 bf).1 4064) 97 = .ok (.areturn, 1) := zd zm_4064 (by decide +kernel)
theorem d_4064_98 {σ : Nat → Nat} {n0 : Nat} {bf : ab_B} : decode (ab_code (zx σ n0 bf).1 4064) 98 = .ok (.aload_n 0, 1) := zd zm_4064 (by decide +kernel)
theorem d_4064_99 {σ : Nat → Nat} {n0 : Nat} {bf : ab_B} : decode (ab_code (zx σ n0 bf).1 4064) 99 = .ok (.getfield 5, 3) := zd zm_4064 (by decide +kernel)
theorem d_4064_102 {σ : Nat → Nat} {n0 : Nat} {bf : ab_B} : decode (ab_code (zx σ n0 bf).1 4064) 102 = .ok (.bipush 23, 2) := zd zm_4064 (by decide +kernel)
theorem d_4064_104 {σ : Nat → Nat} {n0 : Nat} {bf : ab_B} : decode (ab_code (zx σ n0 bf).1 4064) 104 = .ok (.invokevirtual 33, 3) := zd zm_4064 (by decide +kernel)
theorem d_4064_107 {σ : Nat → Nat} {n0 : Nat} {bf : ab_B} : decode (ab_code (zx σ n0 bf).1 4064) 107 = .ok (.ifCond .eq 21, 3) := zd zm_4064 (by decide +kernel)
theorem d_4064_110 {σ : Nat → Nat} {n0 : Nat} {bf : ab_B} : decode (ab_code (zx σ n0 bf).1 4064) 110 = .ok (.aload_n 0, 1) := zd zm_4064 (by decide +kernel)
theorem d_4064_111 {σ : Nat → Nat} {n0 : Nat} {bf : ab_B} : decode (ab_code (zx σ n0 bf).1 4064) 111 = .ok (.getfield 5, 3) := zd zm_4064 (by decide +kernel)
theorem d_4064_114 {σ : Nat → Nat} {n0 : Nat} {bf : ab_B} : decode (ab_code (zx σ n0 bf).1 4064) 114 = .ok (.invokevirtual 29, 3) := zd zm_4064 (by decide +kernel)
theorem d_4064_117 {σ : Nat → Nat} {n0 : Nat} {bf : ab_B} : decode (ab_code (zx σ n0 bf).1 4064) 117 = .ok (.aload_n 0, 1) := zd zm_4064 (by decide +kernel)
theorem d_4064_118 {σ : Nat → Nat} {n0 : Nat} {bf : ab_B} : decode (ab_code (zx σ n0 bf).1 4064) 118 = .ok (.bipush 91, 2) := zd zm_4064 (by decide +kernel)
theorem d_4064_120 {σ : Nat → Nat} {n0 : Nat} {bf : ab_B} : decode (ab_code (zx σ n0 bf).1 4064) 120 = .ok (.invokevirtual 224, 3) := zd zm_4064 (by decide +kernel)
theorem d_4064_123 {σ : Nat → Nat} {n0 : Nat} {bf : ab_B} : decode (ab_code (zx σ n0 bf).1 4064) 123 = .ok (.aload_n 0, 1) := zd zm_4064 (by decide +kernel)
theorem d_4064_124 {σ : Nat → Nat} {n0 : Nat} {bf : ab_B} : decode (ab_code (zx σ n0 bf).1 4064) 124 = .ok (.invokevirtual 434, 3) := zd zm_4064 (by decide +kernel)
theorem d_4064_127 {σ : Nat → Nat} {n0 : Nat} {bf : ab_B} : decode (ab_code (zx σ n0 bf).1 4064) 127 = .ok (.areturn, 1) := zd zm_4064 (by decide +kernel)
theorem d_4064_128 {σ : Nat → Nat} {n0 : Nat} {bf : ab_B} : decode (ab_code (zx σ n0 bf).1 4064) 128 = .ok (.aload_n 0, 1) := zd zm_4064 (by decide +kernel)
theorem d_4064_129 {σ : Nat → Nat} {n0 : Nat} {bf : ab_B} : decode (ab_code (zx σ n0 bf).1 4064) 129 = .ok (.getfield 5, 3) := zd zm_4064 (by decide +kernel)
theorem d_4064_132 {σ : Nat → Nat} {n0 : Nat} {bf : ab_B} : decode (ab_code (zx σ n0 bf).1 4064) 132 = .ok (.bipush 24, 2) := zd zm_4064 (by decide +kernel)
theorem d_4064_134 {σ : Nat → Nat} {n0 : Nat} {bf : ab_B} : decode (ab_code (zx σ n0 bf).1 4064) 134 = .ok (.invokevirtual 33, 3) := zd zm_4064 (by decide +kernel)
theorem d_4064_137 {σ : Nat → Nat} {n0 : Nat} {bf : ab_B} : decode (ab_code (zx σ n0 bf).1 4064) 137 = .ok (.ifCond .eq 8, 3) := zd zm_4064 (by decide +kernel)
theorem d_4064_140 {σ : Nat → Nat} {n0 : Nat} {bf : ab_B} : decode (ab_code (zx σ n0 bf).1 4064) 140 = .ok (.aload_n 0, 1) := zd zm_4064 (by decide +kernel)
theorem d_4064_141 {σ : Nat → Nat} {n0 : Nat} {bf : ab_B} : decode (ab_code (zx σ n0 bf).1 4064) 141 = .ok (.invokevirtual 437, 3) := zd zm_4064 (by decide +kernel)
theorem d_4064_144 {σ : Nat → Nat} {n0 : Nat} {bf : ab_B} : decode (ab_code (zx σ n0 bf).1 4064) 144 = .ok (.areturn, 1) := zd zm_4064 (by decide +kernel)
theorem d_4064_145 {σ : Nat → Nat} {n0 : Nat} {bf : ab_B} : decode (ab_code (zx σ n0 bf).1 4064) 145 = .ok (.aload_n 0, 1) := zd zm_4064 (by decide +kernel)
theorem d_4064_146 {σ : Nat → Nat} {n0 : Nat} {bf : ab_B} : decode (ab_code (zx σ n0 bf).1 4064) 146 = .ok (.getfield 5, 3) := zd zm_4064 (by decide +kernel)
theorem d_4064_149 {σ : Nat → Nat} {n0 : Nat} {bf : ab_B} : decode (ab_code (zx σ n0 bf).1 4064) 149 = .ok (.bipush 25, 2) := zd zm_4064 (by decide +kernel)
theorem d_4064_151 {σ : Nat → Nat} {n0 : Nat} {bf : ab_B} : decode (ab_code (zx σ n0 bf).1 4064) 151 = .ok (.invokevirtual 33, 3) := zd zm_4064 (by decide +kernel)
theorem d_4064_154 {σ : Nat → Nat} {n0 : Nat} {bf : ab_B} : decode (ab_code (zx σ n0 bf).1 4064) 154 = .ok (.ifCond .eq 34, 3) := zd zm_4064 (by decide +kernel)
theorem d_4064_157 {σ : Nat → Nat} {n0 : Nat} {bf : ab_B} : decode (ab_code (zx σ n0 bf).1 4064) 157 = .ok (.aload_n 0, 1) := zd zm_4064 (by decide +kernel)
theorem d_4064_158 {σ : Nat → Nat} {n0 : Nat} {bf : ab_B} : decode (ab_code (zx σ n0 bf).1 4064) 158 = .ok (.getfield 5, 3) := zd zm_4064 (by decide +kernel)
theorem d_4064_161 {σ : Nat → Nat} {n0 : Nat} {bf : ab_B} : decode (ab_code (zx σ n0 bf).1 4064) 161 = .ok (.invokevirtual 29, 3) := zd zm_4064 (by decide +kernel)
theorem d_4064_164 {σ : Nat → Nat} {n0 : Nat} {bf : ab_B} : decode (ab_code (zx σ n0 bf).1 4064) 164 = .ok (.aload_n 0, 1) := zd zm_4064 (by decide +kernel)
theorem d_4064_165 {σ : Nat → Nat} {n0 : Nat} {bf : ab_B} : decode (ab_code (zx σ n0 bf).1 4064) 165 = .ok (.bipush 20, 2) := zd zm_4064 (by decide +kernel)
theorem d_4064_167 {σ : Nat → Nat} {n0 : Nat} {bf : ab_B} : decode (ab_code (zx σ n0 bf).1 4064) 167 = .ok (.invokevirtual 221, 3) := zd zm_4064 (by decide +kernel)
theorem d_4064_170 {σ : Nat → Nat} {n0 : Nat} {bf : ab_B} : decode (ab_code (zx σ n0 bf).1 4064) 170 = .ok (.aload_n 0, 1) := zd zm_4064 (by decide +kernel)
theorem d_4064_171 {σ : Nat → Nat} {n0 : Nat} {bf : ab_B} : decode (ab_code (zx σ n0 bf).1 4064) 171 = .ok (.iconst 5, 1) := zd zm_4064 (by decide +kernel)
theorem d_4064_172 {σ : Nat → Nat} {n0 : Nat} {bf : ab_B} : decode (ab_code (zx σ n0 bf).1 4064) 172 = .ok (.invokevirtual 144, 3) := zd zm_4064 (by decide +kernel)
theorem d_4064_175 {σ : Nat → Nat} {n0 : Nat} {bf : ab_B} : decode (ab_code (zx σ n0 bf).1 4064) 175 = .ok (.astore_n 3, 1) := zd zm_4064 (by decide +kernel)
theorem d_4064_176 {σ : Nat → Nat} {n0 : Nat} {bf : ab_B} : decode (ab_code (zx σ n0 bf).1 4064) 176 = .ok (.aload_n 3, 1) := zd zm_4064 (by decide +kernel)
theorem d_4064_177 {σ : Nat → Nat} {n0 : Nat} {bf : ab_B} : decode (ab_code (zx σ n0 bf).1 4064) 177 = .ok (.aload_n 0, 1) := zd zm_4064 (by decide +kernel)
theorem d_4064_178 {σ : Nat → Nat} {n0 : Nat} {bf : ab_B} : decode (ab_code (zx σ n0 bf).1 4064) 178 = .ok (.iconst 0, 1) := zd zm_4064 (by decide +kernel)
theorem d_4064_179 {σ : Nat → Nat} {n0 : Nat} {bf : ab_B} : decode (ab_code (zx σ n0 bf).1 4064) 179 = .ok (.iconst 1, 1) := zd zm_4064 (by decide +kernel)
theorem d_4064_180 {σ : Nat → Nat} {n0 : Nat} {bf : ab_B} : decode (ab_code (zx σ n0 bf).1 4064) 180 = .ok (.invokevirtual 341, 3) := zd zm_4064 (by decide +kernel)
theorem d_4064_183 {σ : Nat → Nat} {n0 : Nat} {bf : ab_B} : decode (ab_code (zx σ n0 bf).1 4064) 183 = .ok (.putfield 320, 3) := zd zm_4064 (by decide +kernel)
theorem d_4064_186 {σ : Nat → Nat} {n0 : Nat} {bf : ab_B} : decode (ab_code (zx σ n0 bf).1 4064) 186 = .ok (.aload_n 3, 1) := zd zm_4064 (by decide +kernel)
theorem d_4064_187 {σ : Nat → Nat} {n0 : Nat} {bf : ab_B} : decode (ab_code (zx σ n0 bf).1 4064) 187 = .ok (.areturn, 1) := zd zm_4064 (by decide +kernel)
theorem d_4064_188 {σ : Nat → Nat} {n0 : Nat} {bf : ab_B} : decode (ab_code (zx σ n0 bf).1 4064) 188 = .ok (.aload_n 0, 1) := zd zm_4064 (by decide +kernel)
theorem d_4064_189 {σ : Nat → Nat} {n0 : Nat} {bf : ab_B} : decode (ab_code (zx σ n0 bf).1 4064) 189 = .ok (.getfield 5, 3) := zd zm_4064 (by decide +kernel)
theorem d_4064_192 {σ : Nat → Nat} {n0 : Nat} {bf : ab_B} : decode (ab_code (zx σ n0 bf).1 4064) 192 = .ok (.bipush 94, 2) := zd zm_4064 (by decide +kernel)
theorem d_4064_194 {σ : Nat → Nat} {n0 : Nat} {bf : ab_B} : decode (ab_code (zx σ n0 bf).1 4064) 194 = .ok (.invokevirtual 21, 3) := zd zm_4064 (by decide +kernel)
theorem d_4064_197 {σ : Nat → Nat} {n0 : Nat} {bf : ab_B} : decode (ab_code (zx σ n0 bf).1 4064) 197 = .ok (.ifCond .eq 8, 3) := zd zm_4064 (by decide +kernel)
theorem d_4064_200 {σ : Nat → Nat} {n0 : Nat} {bf : ab_B} : decode (ab_code (zx σ n0 bf).1 4064) 200 = .ok (.aload_n 0, 1) := zd zm_4064 (by decide +kernel)
theorem d_4064_201 {σ : Nat → Nat} {n0 : Nat} {bf : ab_B} : decode (ab_code (zx σ n0 bf).1 4064) 201 = .ok (.invokevirtual 439, 3) := zd zm_4064 (by decide +kernel)
theorem d_4064_204 {σ : Nat → Nat} {n0 : Nat} {bf : ab_B} : decode (ab_code (zx σ n0 bf).1 4064) 204 = .ok (.areturn, 1) := zd zm_4064 (by decide +kernel)
theorem d_4064_205 {σ : Nat → Nat} {n0 : Nat} {bf : ab_B} : decode (ab_code (zx σ n0 bf).1 4064) 205 = .ok (.aload_n 0, 1) := zd zm_4064 (by decide +kernel)
theorem d_4064_206 {σ : Nat → Nat} {n0 : Nat} {bf : ab_B} : decode (ab_code (zx σ n0 bf).1 4064) 206 = .ok (.getfield 5, 3) := zd zm_4064 (by decide +kernel)
theorem d_4064_209 {σ : Nat → Nat} {n0 : Nat} {bf : ab_B} : decode (ab_code (zx σ n0 bf).1 4064) 209 = .ok (.bipush 26, 2) := zd zm_4064 (by decide +kernel)
theorem d_4064_211 {σ : Nat → Nat} {n0 : Nat} {bf : ab_B} : decode (ab_code (zx σ n0 bf).1 4064) 211 = .ok (.invokevirtual 33, 3) := zd zm_4064 (by decide +kernel)
theorem d_4064_214 {σ : Nat → Nat} {n0 : Nat} {bf : ab_B} : decode (ab_code (zx σ n0 bf).1 4064) 214 = .ok (.ifCond .eq 43, 3) := zd zm_4064 (by decide +kernel)
theorem d_4064_217 {σ : Nat → Nat} {n0 : Nat} {bf : ab_B} : decode (ab_code (zx σ n0 bf).1 4064) 217 = .ok (.aload_n 0, 1) := zd zm_4064 (by decide +kernel)
theorem d_4064_218 {σ : Nat → Nat} {n0 : Nat} {bf : ab_B} : decode (ab_code (zx σ n0 bf).1 4064) 218 = .ok (.getfield 5, 3) := zd zm_4064 (by decide +kernel)
theorem d_4064_221 {σ : Nat → Nat} {n0 : Nat} {bf : ab_B} : decode (ab_code (zx σ n0 bf).1 4064) 221 = .ok (.invokevirtual 29, 3) := zd zm_4064 (by decide +kernel)
theorem d_4064_224 {σ : Nat → Nat} {n0 : Nat} {bf : ab_B} : decode (ab_code (zx σ n0 bf).1 4064) 224 = .ok (.aload_n 0, 1) := zd zm_4064 (by decide +kernel)
theorem d_4064_225 {σ : Nat → Nat} {n0 : Nat} {bf : ab_B} : decode (ab_code (zx σ n0 bf).1 4064) 225 = .ok (.bipush 40, 2) := zd zm_4064 (by decide +kernel)
theorem d_4064_227 {σ : Nat → Nat} {n0 : Nat} {bf : ab_B} : decode (ab_code (zx σ n0 bf).1 4064) 227 = .ok (.invokevirtual 224, 3) := zd zm_4064 (by decide +kernel)
theorem d_4064_230 {σ : Nat → Nat} {n0 : Nat} {bf : ab_B} : decode (ab_code (zx σ n0 bf).1 4064) 230 = .ok (.aload_n 0, 1) := zd zm_4064 (by decide +kernel)
theorem d_4064_231 {σ : Nat → Nat} {n0 : Nat} {bf : ab_B} : decode (ab_code (zx σ n0 bf).1 4064) 231 = .ok (.bipush 6, 2) := zd zm_4064 (by decide +kernel)
theorem d_4064_233 {σ : Nat → Nat} {n0 : Nat} {bf : ab_B} : decode (ab_code (zx σ n0 bf).1 4064) 233 = .ok (.invokevirtual 144, 3) := zd zm_4064 (by decide +kernel)
theorem d_4064_236 {σ : Nat → Nat} {n0 : Nat} {bf : ab_B} : decode (ab_code (zx σ n0 bf).1 4064) 236 = .ok (.astore_n 3, 1) := zd zm_4064 (by decide +kernel)
theorem d_4064_237 {σ : Nat → Nat} {n0 : Nat} {bf : ab_B} : decode (ab_code (zx σ n0 bf).1 4064) 237 = .ok (.aload_n 3, 1) := zd zm_4064 (by decide +kernel)
theorem d_4064_238 {σ : Nat → Nat} {n0 : Nat} {bf : ab_B} : decode (ab_code (zx σ n0 bf).1 4064) 238 = .ok (.aload_n 0, 1) := zd zm_4064 (by decide +kernel)
theorem d_4064_239 {σ : Nat → Nat} {n0 : Nat} {bf : ab_B} : decode (ab_code (zx σ n0 bf).1 4064) 239 = .ok (.aload_n 0, 1) := zd zm_4064 (by decide +kernel)
theorem d_4064_240 {σ : Nat → Nat} {n0 : Nat} {bf : ab_B} : decode (ab_code (zx σ n0 bf).1 4064) 240 = .ok (.getfield 147, 3) := zd zm_4064 (by decide +kernel)
theorem d_4064_243 {σ : Nat → Nat} {n0 : Nat} {bf : ab_B} : decode (ab_code (zx σ n0 bf).1 4064) 243 = .ok (.invokevirtual 442, 3) := zd zm_4064 (by decide +kernel)
theorem d_4064_246 {σ : Nat → Nat} {n0 : Nat} {bf : ab_B} : decode (ab_code (zx σ n0 bf).1 4064) 246 = .ok (.putfield 446, 3) := zd zm_4064 (by decide +kernel)
theorem d_4064_249 {σ : Nat → Nat} {n0 : Nat} {bf : ab_B} : decode (ab_code (zx σ n0 bf).1 4064) 249 = .ok (.aload_n 0, 1) := zd zm_4064 (by decide +kernel)
theorem d_4064_250 {σ : Nat → Nat} {n0 : Nat} {bf : ab_B} : decode (ab_code (zx σ n0 bf).1 4064) 250 = .ok (.bipush 41, 2) := zd zm_4064 (by decide +kernel)
theorem d_4064_252 {σ : Nat → Nat} {n0 : Nat} {bf : ab_B} : decode (ab_code (zx σ n0 bf).1 4064) 252 = .ok (.invokevirtual 224, 3) := zd zm_4064 (by decide +kernel)
theorem d_4064_255 {σ : Nat → Nat} {n0 : Nat} {bf : ab_B} : decode (ab_code (zx σ n0 bf).1 4064) 255 = .ok (.aload_n 3, 1) := zd zm_4064 (by decide +kernel)
theorem d_4064_256 {σ : Nat → Nat} {n0 : Nat} {bf : ab_B} : decode (ab_code (zx σ n0 bf).1 4064) 256 = .ok (.areturn, 1) := zd zm_4064 (by decide +kernel)
theorem d_4064_257 {σ : Nat → Nat} {n0 : Nat} {bf : ab_B} : decode (ab_code (zx σ n0 bf).1 4064) 257 = .ok (.aload_n 0, 1) := zd zm_4064 (by decide +kernel)
theorem d_4064_258 {σ : Nat → Nat} {n0 : Nat} {bf : ab_B} : decode (ab_code (zx σ n0 bf).1 4064) 258 = .ok (.iconst 4, 1) := zd zm_4064 (by decide +kernel)
theorem d_4064_259 {σ : Nat → Nat} {n0 : Nat} {bf : ab_B} : decode (ab_code (zx σ n0 bf).1 4064) 259 = .ok (.invokevirtual 144, 3) := zd zm_4064 (by decide +kernel)
theorem d_4064_262 {σ : Nat → Nat} {n0 : Nat} {bf : ab_B} : decode (ab_code (zx σ n0 bf).1 4064) 262 = .ok (.astore_n 3, 1) := zd zm_4064 (by decide +kernel)
theorem d_4064_263 {σ : Nat → Nat} {n0 : Nat} {bf : ab_B} : decode (ab_code (zx σ n0 bf).1 4064) 263 = .ok (.aload_n 3, 1) := zd zm_4064 (by decide +kernel)
theorem d_4064_264 {σ : Nat → Nat} {n0 : Nat} {bf : ab_B} : decode (ab_code (zx σ n0 bf).1 4064) 264 = .ok (.aload_n 0, 1) := zd zm_4064 (by decide +kernel)
theorem d_4064_265 {σ : Nat → Nat} {n0 : Nat} {bf : ab_B} : decode (ab_code (zx σ n0 bf).1 4064) 265 = .ok (.aconst_null, 1) := zd zm_4064 (by decide +kernel)
theorem d_4064_266 {σ : Nat → Nat} {n0 : Nat} {bf : ab_B} : decode (ab_code (zx σ n0 bf).1 4064) 266 = .ok (.invokevirtual 442, 3) := zd zm_4064 (by decide +kernel)
theorem d_4064_269 {σ : Nat → Nat} {n0 : Nat} {bf : ab_B} : decode (ab_code (zx σ n0 bf).1 4064) 269 = .ok (.putfield 446, 3) := zd zm_4064 (by decide +kernel)
theorem d_4064_272 {σ : Nat → Nat} {n0 : Nat} {bf : ab_B} : decode (ab_code (zx σ n0 bf).1 4064) 272 = .ok (.aload_n 3, 1) := zd zm_4064 (by decide +kernel)
theorem d_4064_273 {σ : Nat → Nat} {n0 : Nat} {bf : ab_B} : decode (ab_code (zx σ n0 bf).1 4064) 273 = .ok (.aload_n 3, 1) := zd zm_4064 (by decide +kernel)
theorem d_4064_274 {σ : Nat → Nat} {n0 : Nat} {bf : ab_B} : decode (ab_code (zx σ n0 bf).1 4064) 274 = .ok (.getfield 446, 3) := zd zm_4064 (by decide +kernel)
theorem d_4064_277 {σ : Nat → Nat} {n0 : Nat} {bf : ab_B} : decode (ab_code (zx σ n0 bf).1 4064) 277 = .ok (.getfield 297, 3) := zd zm_4064 (by decide +kernel)
theorem d_4064_280 {σ : Nat → Nat} {n0 : Nat} {bf : ab_B} : decode (ab_code (zx σ n0 bf).1 4064) 280 = .ok (.invokevirtual 450, 3) := zd zm_4064 (by decide +kernel)
theorem d_4064_283 {σ : Nat → Nat} {n0 : Nat} {bf : ab_B} : decode (ab_code (zx σ n0 bf).1 4064) 283 = .ok (.putfield 320, 3) := zd zm_4064 (by decide +kernel)
theorem d_4064_286 {σ : Nat → Nat} {n0 : Nat} {bf : ab_B} : decode (ab_code (zx σ n0 bf).1 4064) 286 = .ok (.aload_n 0, 1) := zd zm_4064 (by decide +kernel)
theorem d_4064_287 {σ : Nat → Nat} {n0 : Nat} {bf : ab_B} : decode (ab_code (zx σ n0 bf).1 4064) 287 = .ok (.sipush 260, 3) := zd zm_4064 (by decide +kernel)
theorem d_4064_290 {σ : Nat → Nat} {n0 : Nat} {bf : ab_B} : decode (ab_code (zx σ n0 bf).1 4064) 290 = .ok (.invokevirtual 224, 3) := zd zm_4064 (by decide +kernel)
theorem d_4064_293 {σ : Nat → Nat} {n0 : Nat} {bf : ab_B} : decode (ab_code (zx σ n0 bf).1 4064) 293 = .ok (.aload_n 3, 1) := zd zm_4064 (by decide +kernel)
theorem d_4064_294 {σ : Nat → Nat} {n0 : Nat} {bf : ab_B} : decode (ab_code (zx σ n0 bf).1 4064) 294 = .ok (.aload_n 0, 1) := zd zm_4064 (by decide +kernel)
theorem d_4064_295 {σ : Nat → Nat} {n0 : Nat} {bf : ab_B} : decode (ab_code (zx σ n0 bf).1 4064) 295 = .ok (.aload_n 3, 1) := zd zm_4064 (by decide +kernel)
theorem d_4064_296 {σ : Nat → Nat} {n0 : Nat} {bf : ab_B} : decode (ab_code (zx σ n0 bf).1 4064) 296 = .ok (.getfield 320, 3) := zd zm_4064 (by decide +kernel)
theorem d_4064_299 {σ : Nat → Nat} {n0 : Nat} {bf : ab_B} : decode (ab_code (zx σ n0 bf).1 4064) 299 = .ok (.invokevirtual 442, 3) := zd zm_4064 (by decide +kernel)
theorem d_4064_302 {σ : Nat → Nat} {n0 : Nat} {bf : ab_B} : decode (ab_code (zx σ n0 bf).1 4064) 302 = .ok (.putfield 453, 3) := zd zm_4064 (by decide +kernel)
theorem d_4064_305 {σ : Nat → Nat} {n0 : Nat} {bf : ab_B} : decode (ab_code (zx σ n0 bf).1 4064) 305 = .ok (.aload_n 3, 1) := zd zm_4064 (by decide +kernel)
theorem d_4064_306 {σ : Nat → Nat} {n0 : Nat} {bf : ab_B} : decode (ab_code (zx σ n0 bf).1 4064) 306 = .ok (.areturn, 1) := zd zm_4064 (by decide +kernel)
def w_X5_typeIn_272 (X : zs_X) (d : Nat) (p0 : Nat) (p3 : Option Nat) (S : zs_T) (Q : zs_Q) : Prop :=
  (∃ b1, p3 = some b1 ∧ zs_K S b1 = some (.inl 6) ∧ ∃ b4, (zs_R S 6004 b1) = some b4 ∧ zs_K S b4 = some (.inl 11) ∧ ∃ b7, (zs_R S 11002 b4) = some b7 ∧ zs_K S b7 = some (.inl 6) ∧ zs_C X d 6001 [.ref b7] S (zs_kR (fun v11 S10 => (zs_K S10 b1 = some (.inl 6) ∧ ab_n0 X.1 ≤ b1 ∧ ∀ S14, S14 = zs_sR S10 6002 b1 v11 → zs_K S10 p0 = some (.inl 4) ∧ zs_C X d 4008 [.ref p0, .int (260 : Int32)] S14 (zs_kV (fun S18 => (zs_K S18 b1 = some (.inl 6) ∧ zs_K S18 p0 = some (.inl 4) ∧ zs_C X d 4067 [.ref p0, va_rf (zs_R S18 6002 b1)] S18 (zs_kR (fun v23 S22 => (zs_K S22 b1 = some (.inl 6) ∧ ∀ S25, S25 = zs_sR S22 6005 b1 v23 → Q (.returned (some (va_rf p3))) S25)) Q))) Q))) Q))
theorem u_X5_typeIn_272 {σ : Nat → Nat} {n0 : Nat} {bf : ab_B} {d : Nat} {p0 : Nat} {p3 : Option Nat} {S : zs_T} {Q : zs_Q} (hB : zt_B bf) (h : w_X5_typeIn_272 (zx σ n0 bf) d p0 p3 S Q) : zs_U (zx σ n0 bf) d 4064 272 [(0, .ref p0), (3, va_rf p3)] [] S Q := by
  unfold w_X5_typeIn_272 at h
  refine zu_aload_n d_4064_272 rfl (zs_rr _) ?_
  refine zu_aload_n d_4064_273 rfl (zs_rr _) ?_
  obtain ⟨b1, e2, h⟩ := h
  refine zs_stk0 (zs_rfe e2) ?_
  obtain ⟨k3, h⟩ := h
  refine zg_4_446 rfl d_4064_274 k3 ?_
  obtain ⟨b4, e5, h⟩ := h
  refine zs_stk0 (zs_rfe e5) ?_
  obtain ⟨k6, h⟩ := h
  refine zg_4_297 rfl d_4064_277 k6 ?_
  obtain ⟨b7, e8, h⟩ := h
  refine zs_stk0 (zs_rfe e8) ?_
  obtain ⟨k9, h⟩ := h
  refine zc_4_450  hB rfl k9 d_4064_280 (by simp only [List.map_cons, List.map_nil, List.sum_cons, List.sum_nil, zs_cat, zs_cI, zs_cJ, zs_cA]; exact Nat.le_of_ble_eq_true rfl) h (fun v11 S10 h => ?_)
  refine zs_stk1 (zs_rfe e2) ?_
  obtain ⟨k12, h⟩ := h
  obtain ⟨k13, h⟩ := h
  refine zp_4_320 (v := v11) rfl d_4064_283 k12 k13 ?_
  generalize e15 : zs_sR S10 6002 b1 v11 = S14
  have h := h S14 e15.symm
  have K16 : ∀ b, zs_K S14 b = zs_K S10 b := zs_Kt e15 (zs_KsR _ _ _ _) (fun _ => rfl)
  refine zu_aload_n d_4064_286 rfl (zs_ra _) ?_
  refine zu_sipush d_4064_287 zh_260 ?_
  obtain ⟨k17, h⟩ := h
  refine zc_4_224 (x0 := (260 : Int32)) hB rfl ((K16 _).trans k17) d_4064_290 (Nat.le_of_ble_eq_true rfl) h (fun S18 h => ?_)
  refine zu_aload_n d_4064_293 rfl (zs_rr _) ?_
  refine zu_aload_n d_4064_294 rfl (zs_ra _) ?_
  refine zu_aload_n d_4064_295 rfl (zs_rr _) ?_
  refine zs_stk0 (zs_rfe e2) ?_
  obtain ⟨k20, h⟩ := h
  refine zg_4_320 rfl d_4064_296 k20 ?_
  obtain ⟨k21, h⟩ := h
  refine zc_4_442 (x0 := (zs_R S18 6002 b1)) hB rfl k21 d_4064_299 (by simp only [List.map_cons, List.map_nil, List.sum_cons, List.sum_nil, zs_cat, zs_cI, zs_cJ, zs_cA]; exact Nat.le_of_ble_eq_true rfl) h (fun v23 S22 h => ?_)
  refine zs_stk1 (zs_rfe e2) ?_
  obtain ⟨k24, h⟩ := h
  refine zp_4_453 (v := v23) rfl d_4064_302 k24 k13 ?_
  generalize e26 : zs_sR S22 6005 b1 v23 = S25
  have h := h S25 e26.symm
  have K27 : ∀ b, zs_K S25 b = zs_K S22 b := zs_Kt e26 (zs_KsR _ _ _ _) (fun _ => rfl)
  refine zu_aload_n d_4064_305 rfl (zs_rr _) ?_
  exact zu_aret d_4064_306 zr_4064 (zs_rr _) h
def w_X5_typeIn_230 (X : zs_X) (d : Nat) (p0 : Nat) (S : zs_T) (Q : zs_Q) : Prop :=
  (zs_K S p0 = some (.inl 4) ∧ zs_C X d 4002 [.ref p0, .int (6 : Int32)] S (zs_kR (fun v3 S2 => (zs_K S2 p0 = some (.inl 4) ∧ zs_C X d 4067 [.ref p0, va_rf (zs_R S2 4002 p0)] S2 (zs_kR (fun v6 S5 => (∃ b7, v3 = some b7 ∧ zs_K S5 b7 = some (.inl 6) ∧ ab_n0 X.1 ≤ b7 ∧ ∀ S11, S11 = zs_sR S5 6004 b7 v6 → zs_K S5 p0 = some (.inl 4) ∧ zs_C X d 4008 [.ref p0, .int (41 : Int32)] S11 (zs_kV (fun S15 => (Q (.returned (some (va_rf v3))) S15)) Q))) Q))) Q))
theorem u_X5_typeIn_230 {σ : Nat → Nat} {n0 : Nat} {bf : ab_B} {d : Nat} {p0 : Nat} {S : zs_T} {Q : zs_Q} (hB : zt_B bf) (h : w_X5_typeIn_230 (zx σ n0 bf) d p0 S Q) : zs_U (zx σ n0 bf) d 4064 230 [(0, .ref p0)] [] S Q := by
  unfold w_X5_typeIn_230 at h
  refine zu_aload_n d_4064_230 rfl (zs_ra _) ?_
  refine zu_bipush d_4064_231 zj_6 ?_
  obtain ⟨k1, h⟩ := h
  refine zc_4_144 (x0 := (6 : Int32)) hB rfl k1 d_4064_233 (Nat.le_of_ble_eq_true rfl) h (fun v3 S2 h => ?_)
  refine zu_astore_n d_4064_236 (zs_rr _) (zs_lt zq_4064 rfl) ?_
  refine zu_aload_n d_4064_237 rfl (zs_rr _) ?_
  refine zu_aload_n d_4064_238 rfl (zs_ra _) ?_
  refine zu_aload_n d_4064_239 rfl (zs_ra _) ?_
  obtain ⟨k4, h⟩ := h
  refine zg_4_147 rfl d_4064_240 k4 ?_
  refine zc_4_442 (x0 := (zs_R S2 4002 p0)) hB rfl k4 d_4064_243 (by simp only [List.map_cons, List.map_nil, List.sum_cons, List.sum_nil, zs_cat, zs_cI, zs_cJ, zs_cA]; exact Nat.le_of_ble_eq_true rfl) h (fun v6 S5 h => ?_)
  obtain ⟨b7, e8, h⟩ := h
  refine zs_stk1 (zs_rfe e8) ?_
  obtain ⟨k9, h⟩ := h
  obtain ⟨k10, h⟩ := h
  refine zp_4_446 (v := v6) rfl d_4064_246 k9 k10 ?_
  generalize e12 : zs_sR S5 6004 b7 v6 = S11
  have h := h S11 e12.symm
  have K13 : ∀ b, zs_K S11 b = zs_K S5 b := zs_Kt e12 (zs_KsR _ _ _ _) (fun _ => rfl)
  refine zu_aload_n d_4064_249 rfl (zs_ra _) ?_
  refine zu_bipush d_4064_250 zj_41 ?_
  obtain ⟨k14, h⟩ := h
  refine zc_4_224 (x0 := (41 : Int32)) hB rfl ((K13 _).trans k14) d_4064_252 (Nat.le_of_ble_eq_true rfl) h (fun S15 h => ?_)
  refine zu_aload_n d_4064_255 rfl (zs_rr _) ?_
  exact zu_aret d_4064_256 zr_4064 (zs_rr _) h
def w_X5_typeIn_188 (X : zs_X) (d : Nat) (p0 : Nat) (S : zs_T) (Q : zs_Q) : Prop :=
  (zs_K S p0 = some (.inl 4) ∧ ∃ b2, (zs_R S 4000 p0) = some b2 ∧ zs_K S b2 = some (.inl 5) ∧ zs_C X d 5017 [.ref b2, .int (94 : Int32)] S (zs_kI (fun v6 S5 => (((v6 = 0 → (zs_K S5 p0 = some (.inl 4) ∧ ∃ b9, (zs_R S5 4000 p0) = some b9 ∧ zs_K S5 b9 = some (.inl 5) ∧ zs_C X d 5015 [.ref b9, .int (26 : Int32)] S5 (zs_kI (fun v13 S12 => (((v13 = 0 → (zs_K S12 p0 = some (.inl 4) ∧ zs_C X d 4002 [.ref p0, .int (4 : Int32)] S12 (zs_kR (fun v17 S16 => (zs_K S16 p0 = some (.inl 4) ∧ zs_C X d 4067 [.ref p0, va_rf none] S16 (zs_kR (fun v20 S19 => (∃ b21, v17 = some b21 ∧ zs_K S19 b21 = some (.inl 6) ∧ ab_n0 X.1 ≤ b21 ∧ ∀ S25, S25 = zs_sR S19 6004 b21 v20 → w_X5_typeIn_272 X d p0 v17 S25 Q)) Q))) Q))) ∧ (¬ (v13 = 0) → (zs_K S12 p0 = some (.inl 4) ∧ ∃ b29, (zs_R S12 4000 p0) = some b29 ∧ zs_K S12 b29 = some (.inl 5) ∧ zs_C X d 5004 [.ref b29] S12 (zs_kV (fun S32 => (zs_K S32 p0 = some (.inl 4) ∧ zs_C X d 4008 [.ref p0, .int (40 : Int32)] S32 (zs_kV (fun S35 => w_X5_typeIn_230 X d p0 S35 Q) Q))) Q)))))) Q))) ∧ (¬ (v6 = 0) → (zs_K S5 p0 = some (.inl 4) ∧ zs_C X d 4084 [.ref p0] S5 (zs_kR (fun v39 S38 => (Q (.returned (some (va_rf v39))) S38)) Q)))))) Q))
theorem u_X5_typeIn_188 {σ : Nat → Nat} {n0 : Nat} {bf : ab_B} {d : Nat} {p0 : Nat} {S : zs_T} {Q : zs_Q} (hB : zt_B bf) (h : w_X5_typeIn_188 (zx σ n0 bf) d p0 S Q) : zs_U (zx σ n0 bf) d 4064 188 [(0, .ref p0)] [] S Q := by
  unfold w_X5_typeIn_188 at h
  refine zu_aload_n d_4064_188 rfl (zs_ra _) ?_
  obtain ⟨k1, h⟩ := h
  refine zg_4_5 rfl d_4064_189 k1 ?_
  refine zu_bipush d_4064_192 zj_94 ?_
  obtain ⟨b2, e3, h⟩ := h
  refine zs_stk1 (zs_rfe e3) ?_
  obtain ⟨k4, h⟩ := h
  refine zc_4_21 (x0 := (94 : Int32)) hB rfl k4 d_4064_194 (Nat.le_of_ble_eq_true rfl) h (fun v6 S5 h => ?_)
  refine zu_ifeq (t := 205) d_4064_197 rfl (fun c7 => ?_) (fun c7 => ?_)
  · have h := h.1 c7
    refine zu_aload_n d_4064_205 rfl (zs_ra _) ?_
    obtain ⟨k8, h⟩ := h
    refine zg_4_5 rfl d_4064_206 k8 ?_
    refine zu_bipush d_4064_209 zj_26 ?_
    obtain ⟨b9, e10, h⟩ := h
    refine zs_stk1 (zs_rfe e10) ?_
    obtain ⟨k11, h⟩ := h
    refine zc_4_33 (x0 := (26 : Int32)) hB rfl k11 d_4064_211 (Nat.le_of_ble_eq_true rfl) h (fun v13 S12 h => ?_)
    refine zu_ifeq (t := 257) d_4064_214 rfl (fun c14 => ?_) (fun c14 => ?_)
    · have h := h.1 c14
      refine zu_aload_n d_4064_257 rfl (zs_ra _) ?_
      refine zu_iconst d_4064_258 zi_4 ?_
      obtain ⟨k15, h⟩ := h
      refine zc_4_144 (x0 := (4 : Int32)) hB rfl k15 d_4064_259 (Nat.le_of_ble_eq_true rfl) h (fun v17 S16 h => ?_)
      refine zu_astore_n d_4064_262 (zs_rr _) (zs_lt zq_4064 rfl) ?_
      refine zu_aload_n d_4064_263 rfl (zs_rr _) ?_
      refine zu_aload_n d_4064_264 rfl (zs_ra _) ?_
      refine zu_stk d_4064_265 rfl rfl ?_
      obtain ⟨k18, h⟩ := h
      refine zc_4_442 (x0 := none) hB rfl k18 d_4064_266 (by simp only [List.map_cons, List.map_nil, List.sum_cons, List.sum_nil, zs_cat, zs_cI, zs_cJ, zs_cA]; exact Nat.le_of_ble_eq_true rfl) h (fun v20 S19 h => ?_)
      obtain ⟨b21, e22, h⟩ := h
      refine zs_stk1 (zs_rfe e22) ?_
      obtain ⟨k23, h⟩ := h
      obtain ⟨k24, h⟩ := h
      refine zp_4_446 (v := v20) rfl d_4064_269 k23 k24 ?_
      generalize e26 : zs_sR S19 6004 b21 v20 = S25
      have h := h S25 e26.symm
      have K27 : ∀ b, zs_K S25 b = zs_K S19 b := zs_Kt e26 (zs_KsR _ _ _ _) (fun _ => rfl)
      exact (u_X5_typeIn_272 hB h).weak ⟨rfl, rfl, trivial⟩
    · have h := h.2 c14
      refine zu_aload_n d_4064_217 rfl (zs_ra _) ?_
      obtain ⟨k28, h⟩ := h
      refine zg_4_5 rfl d_4064_218 k28 ?_
      obtain ⟨b29, e30, h⟩ := h
      refine zs_stk0 (zs_rfe e30) ?_
      obtain ⟨k31, h⟩ := h
      refine zc_4_29  hB rfl k31 d_4064_221 (Nat.le_of_ble_eq_true rfl) h (fun S32 h => ?_)
      refine zu_aload_n d_4064_224 rfl (zs_ra _) ?_
      refine zu_bipush d_4064_225 zj_40 ?_
      obtain ⟨k34, h⟩ := h
      refine zc_4_224 (x0 := (40 : Int32)) hB rfl k34 d_4064_227 (Nat.le_of_ble_eq_true rfl) h (fun S35 h => ?_)
      exact (u_X5_typeIn_230 hB h).weak ⟨rfl, trivial⟩
  · have h := h.2 c7
    refine zu_aload_n d_4064_200 rfl (zs_ra _) ?_
    obtain ⟨k37, h⟩ := h
    refine zc_4_439  hB rfl k37 d_4064_201 (Nat.le_of_ble_eq_true rfl) h (fun v39 S38 h => ?_)
    exact zu_aret d_4064_204 zr_4064 (zs_rr _) h
def w_X5_typeIn_186 (X : zs_X) (d : Nat) (p3 : Option Nat) (S : zs_T) (Q : zs_Q) : Prop :=
  (Q (.returned (some (va_rf p3))) S)
theorem u_X5_typeIn_186 {σ : Nat → Nat} {n0 : Nat} {bf : ab_B} {d : Nat} {p3 : Option Nat} {S : zs_T} {Q : zs_Q} (hB : zt_B bf) (h : w_X5_typeIn_186 (zx σ n0 bf) d p3 S Q) : zs_U (zx σ n0 bf) d 4064 186 [(3, va_rf p3)] [] S Q := by
  unfold w_X5_typeIn_186 at h
  refine zu_aload_n d_4064_186 rfl (zs_rr _) ?_
  exact zu_aret d_4064_187 zr_4064 (zs_rr _) h
def w_X5_typeIn_157 (X : zs_X) (d : Nat) (p0 : Nat) (S : zs_T) (Q : zs_Q) : Prop :=
  (zs_K S p0 = some (.inl 4) ∧ ∃ b2, (zs_R S 4000 p0) = some b2 ∧ zs_K S b2 = some (.inl 5) ∧ zs_C X d 5004 [.ref b2] S (zs_kV (fun S5 => (zs_K S5 p0 = some (.inl 4) ∧ zs_C X d 4005 [.ref p0, .int (20 : Int32)] S5 (zs_kV (fun S8 => (zs_K S8 p0 = some (.inl 4) ∧ zs_C X d 4002 [.ref p0, .int (5 : Int32)] S8 (zs_kR (fun v12 S11 => (zs_K S11 p0 = some (.inl 4) ∧ zs_C X d 4063 [.ref p0, .int (0 : Int32), .int (1 : Int32)] S11 (zs_kR (fun v15 S14 => (∃ b16, v12 = some b16 ∧ zs_K S14 b16 = some (.inl 6) ∧ ab_n0 X.1 ≤ b16 ∧ ∀ S20, S20 = zs_sR S14 6002 b16 v15 → w_X5_typeIn_186 X d v12 S20 Q)) Q))) Q))) Q))) Q))
theorem u_X5_typeIn_157 {σ : Nat → Nat} {n0 : Nat} {bf : ab_B} {d : Nat} {p0 : Nat} {S : zs_T} {Q : zs_Q} (hB : zt_B bf) (h : w_X5_typeIn_157 (zx σ n0 bf) d p0 S Q) : zs_U (zx σ n0 bf) d 4064 157 [(0, .ref p0)] [] S Q := by
  unfold w_X5_typeIn_157 at h
  refine zu_aload_n d_4064_157 rfl (zs_ra _) ?_
  obtain ⟨k1, h⟩ := h
  refine zg_4_5 rfl d_4064_158 k1 ?_
  obtain ⟨b2, e3, h⟩ := h
  refine zs_stk0 (zs_rfe e3) ?_
  obtain ⟨k4, h⟩ := h
  refine zc_4_29  hB rfl k4 d_4064_161 (Nat.le_of_ble_eq_true rfl) h (fun S5 h => ?_)
  refine zu_aload_n d_4064_164 rfl (zs_ra _) ?_
  refine zu_bipush d_4064_165 zj_20 ?_
  obtain ⟨k7, h⟩ := h
  refine zc_4_221 (x0 := (20 : Int32)) hB rfl k7 d_4064_167 (Nat.le_of_ble_eq_true rfl) h (fun S8 h => ?_)
  refine zu_aload_n d_4064_170 rfl (zs_ra _) ?_
  refine zu_iconst d_4064_171 zi_5 ?_
  obtain ⟨k10, h⟩ := h
  refine zc_4_144 (x0 := (5 : Int32)) hB rfl k10 d_4064_172 (Nat.le_of_ble_eq_true rfl) h (fun v12 S11 h => ?_)
  refine zu_astore_n d_4064_175 (zs_rr _) (zs_lt zq_4064 rfl) ?_
  refine zu_aload_n d_4064_176 rfl (zs_rr _) ?_
  refine zu_aload_n d_4064_177 rfl (zs_ra _) ?_
  refine zu_iconst d_4064_178 zi_0 ?_
  refine zu_iconst d_4064_179 zi_1 ?_
  obtain ⟨k13, h⟩ := h
  refine zc_4_341 (x0 := (0 : Int32)) (x1 := (1 : Int32)) hB rfl k13 d_4064_180 (by simp only [List.map_cons, List.map_nil, List.sum_cons, List.sum_nil, zs_cat, zs_cI, zs_cJ, zs_cA]; exact Nat.le_of_ble_eq_true rfl) h (fun v15 S14 h => ?_)
  obtain ⟨b16, e17, h⟩ := h
  refine zs_stk1 (zs_rfe e17) ?_
  obtain ⟨k18, h⟩ := h
  obtain ⟨k19, h⟩ := h
  refine zp_4_320 (v := v15) rfl d_4064_183 k18 k19 ?_
  generalize e21 : zs_sR S14 6002 b16 v15 = S20
  have h := h S20 e21.symm
  have K22 : ∀ b, zs_K S20 b = zs_K S14 b := zs_Kt e21 (zs_KsR _ _ _ _) (fun _ => rfl)
  exact (u_X5_typeIn_186 hB h).weak ⟨rfl, trivial⟩
def w_X5_typeIn_123 (X : zs_X) (d : Nat) (p0 : Nat) (S : zs_T) (Q : zs_Q) : Prop :=
  (zs_K S p0 = some (.inl 4) ∧ zs_C X d 4070 [.ref p0] S (zs_kR (fun v3 S2 => (Q (.returned (some (va_rf v3))) S2)) Q))
theorem u_X5_typeIn_123 {σ : Nat → Nat} {n0 : Nat} {bf : ab_B} {d : Nat} {p0 : Nat} {S : zs_T} {Q : zs_Q} (hB : zt_B bf) (h : w_X5_typeIn_123 (zx σ n0 bf) d p0 S Q) : zs_U (zx σ n0 bf) d 4064 123 [(0, .ref p0)] [] S Q := by
  unfold w_X5_typeIn_123 at h
  refine zu_aload_n d_4064_123 rfl (zs_ra _) ?_
  obtain ⟨k1, h⟩ := h
  refine zc_4_434  hB rfl k1 d_4064_124 (Nat.le_of_ble_eq_true rfl) h (fun v3 S2 h => ?_)
  exact zu_aret d_4064_127 zr_4064 (zs_rr _) h
def w_X5_typeIn_81 (X : zs_X) (d : Nat) (p0 : Nat) (S : zs_T) (Q : zs_Q) : Prop :=
  (zs_K S p0 = some (.inl 4) ∧ ∃ b2, (zs_R S 4000 p0) = some b2 ∧ zs_K S b2 = some (.inl 5) ∧ zs_C X d 5017 [.ref b2, .int (40 : Int32)] S (zs_kI (fun v6 S5 => (((v6 = 0 → (zs_K S5 p0 = some (.inl 4) ∧ ∃ b9, (zs_R S5 4000 p0) = some b9 ∧ zs_K S5 b9 = some (.inl 5) ∧ zs_C X d 5015 [.ref b9, .int (23 : Int32)] S5 (zs_kI (fun v13 S12 => (((v13 = 0 → (zs_K S12 p0 = some (.inl 4) ∧ ∃ b16, (zs_R S12 4000 p0) = some b16 ∧ zs_K S12 b16 = some (.inl 5) ∧ zs_C X d 5015 [.ref b16, .int (24 : Int32)] S12 (zs_kI (fun v20 S19 => (((v20 = 0 → (zs_K S19 p0 = some (.inl 4) ∧ ∃ b23, (zs_R S19 4000 p0) = some b23 ∧ zs_K S19 b23 = some (.inl 5) ∧ zs_C X d 5015 [.ref b23, .int (25 : Int32)] S19 (zs_kI (fun v27 S26 => (((v27 = 0 → w_X5_typeIn_188 X d p0 S26 Q) ∧ (¬ (v27 = 0) → w_X5_typeIn_157 X d p0 S26 Q)))) Q))) ∧ (¬ (v20 = 0) → (zs_K S19 p0 = some (.inl 4) ∧ zs_C X d 4078 [.ref p0] S19 (zs_kR (fun v31 S30 => (Q (.returned (some (va_rf v31))) S30)) Q)))))) Q))) ∧ (¬ (v13 = 0) → (zs_K S12 p0 = some (.inl 4) ∧ ∃ b33, (zs_R S12 4000 p0) = some b33 ∧ zs_K S12 b33 = some (.inl 5) ∧ zs_C X d 5004 [.ref b33] S12 (zs_kV (fun S36 => (zs_K S36 p0 = some (.inl 4) ∧ zs_C X d 4008 [.ref p0, .int (91 : Int32)] S36 (zs_kV (fun S39 => w_X5_typeIn_123 X d p0 S39 Q) Q))) Q)))))) Q))) ∧ (¬ (v6 = 0) → (zs_K S5 p0 = some (.inl 4) ∧ zs_C X d 4069 [.ref p0] S5 (zs_kR (fun v43 S42 => (Q (.returned (some (va_rf v43))) S42)) Q)))))) Q))
theorem u_X5_typeIn_81 {σ : Nat → Nat} {n0 : Nat} {bf : ab_B} {d : Nat} {p0 : Nat} {S : zs_T} {Q : zs_Q} (hB : zt_B bf) (h : w_X5_typeIn_81 (zx σ n0 bf) d p0 S Q) : zs_U (zx σ n0 bf) d 4064 81 [(0, .ref p0)] [] S Q := by
  unfold w_X5_typeIn_81 at h
  refine zu_aload_n d_4064_81 rfl (zs_ra _) ?_
  obtain ⟨k1, h⟩ := h
  refine zg_4_5 rfl d_4064_82 k1 ?_
  refine zu_bipush d_4064_85 zj_40 ?_
  obtain ⟨b2, e3, h⟩ := h
  refine zs_stk1 (zs_rfe e3) ?_
  obtain ⟨k4, h⟩ := h
  refine zc_4_21 (x0 := (40 : Int32)) hB rfl k4 d_4064_87 (Nat.le_of_ble_eq_true rfl) h (fun v6 S5 h => ?_)
  refine zu_ifeq (t := 98) d_4064_90 rfl (fun c7 => ?_) (fun c7 => ?_)
  · have h := h.1 c7
    refine zu_aload_n d_4064_98 rfl (zs_ra _) ?_
    obtain ⟨k8, h⟩ := h
    refine zg_4_5 rfl d_4064_99 k8 ?_
    refine zu_bipush d_4064_102 zj_23 ?_
    obtain ⟨b9, e10, h⟩ := h
    refine zs_stk1 (zs_rfe e10) ?_
    obtain ⟨k11, h⟩ := h
    refine zc_4_33 (x0 := (23 : Int32)) hB rfl k11 d_4064_104 (Nat.le_of_ble_eq_true rfl) h (fun v13 S12 h => ?_)
    refine zu_ifeq (t := 128) d_4064_107 rfl (fun c14 => ?_) (fun c14 => ?_)
    · have h := h.1 c14
      refine zu_aload_n d_4064_128 rfl (zs_ra _) ?_
      obtain ⟨k15, h⟩ := h
      refine zg_4_5 rfl d_4064_129 k15 ?_
      refine zu_bipush d_4064_132 zj_24 ?_
      obtain ⟨b16, e17, h⟩ := h
      refine zs_stk1 (zs_rfe e17) ?_
      obtain ⟨k18, h⟩ := h
      refine zc_4_33 (x0 := (24 : Int32)) hB rfl k18 d_4064_134 (Nat.le_of_ble_eq_true rfl) h (fun v20 S19 h => ?_)
      refine zu_ifeq (t := 145) d_4064_137 rfl (fun c21 => ?_) (fun c21 => ?_)
      · have h := h.1 c21
        refine zu_aload_n d_4064_145 rfl (zs_ra _) ?_
        obtain ⟨k22, h⟩ := h
        refine zg_4_5 rfl d_4064_146 k22 ?_
        refine zu_bipush d_4064_149 zj_25 ?_
        obtain ⟨b23, e24, h⟩ := h
        refine zs_stk1 (zs_rfe e24) ?_
        obtain ⟨k25, h⟩ := h
        refine zc_4_33 (x0 := (25 : Int32)) hB rfl k25 d_4064_151 (Nat.le_of_ble_eq_true rfl) h (fun v27 S26 h => ?_)
        refine zu_ifeq (t := 188) d_4064_154 rfl (fun c28 => ?_) (fun c28 => ?_)
        · have h := h.1 c28
          exact (u_X5_typeIn_188 hB h).weak ⟨rfl, trivial⟩
        · have h := h.2 c28
          exact (u_X5_typeIn_157 hB h).weak ⟨rfl, trivial⟩
      · have h := h.2 c21
        refine zu_aload_n d_4064_140 rfl (zs_ra _) ?_
        obtain ⟨k29, h⟩ := h
        refine zc_4_437  hB rfl k29 d_4064_141 (Nat.le_of_ble_eq_true rfl) h (fun v31 S30 h => ?_)
        exact zu_aret d_4064_144 zr_4064 (zs_rr _) h
    · have h := h.2 c14
      refine zu_aload_n d_4064_110 rfl (zs_ra _) ?_
      obtain ⟨k32, h⟩ := h
      refine zg_4_5 rfl d_4064_111 k32 ?_
      obtain ⟨b33, e34, h⟩ := h
      refine zs_stk0 (zs_rfe e34) ?_
      obtain ⟨k35, h⟩ := h
      refine zc_4_29  hB rfl k35 d_4064_114 (Nat.le_of_ble_eq_true rfl) h (fun S36 h => ?_)
      refine zu_aload_n d_4064_117 rfl (zs_ra _) ?_
      refine zu_bipush d_4064_118 zj_91 ?_
      obtain ⟨k38, h⟩ := h
      refine zc_4_224 (x0 := (91 : Int32)) hB rfl k38 d_4064_120 (Nat.le_of_ble_eq_true rfl) h (fun S39 h => ?_)
      exact (u_X5_typeIn_123 hB h).weak ⟨rfl, trivial⟩
  · have h := h.2 c7
    refine zu_aload_n d_4064_93 rfl (zs_ra _) ?_
    obtain ⟨k41, h⟩ := h
    refine zc_4_431  hB rfl k41 d_4064_94 (Nat.le_of_ble_eq_true rfl) h (fun v43 S42 h => ?_)
    exact zu_aret d_4064_97 zr_4064 (zs_rr _) h
def w_X5_typeIn_32 (X : zs_X) (d : Nat) (p0 : Nat) (p1 : Int32) (q0 : Option Nat) (S : zs_T) (Q : zs_Q) : Prop :=
  (((q0 = none → w_X5_typeIn_81 X d p0 S Q) ∧ (∀ b1, q0 = some b1 → (zs_K S b1 = some (.inl 7) ∧ ((¬ (zs_I S 7001 b1) = (1 : Int32) → w_X5_typeIn_81 X d p0 S Q) ∧ (¬ (¬ (zs_I S 7001 b1) = (1 : Int32)) → (zs_K S p0 = some (.inl 4) ∧ ∃ b6, (zs_R S 4000 p0) = some b6 ∧ zs_K S b6 = some (.inl 5) ∧ zs_C X d 5004 [.ref b6] S (zs_kV (fun S9 => (zs_K S9 b1 = some (.inl 7) ∧ ∃ b12, (zs_R S9 7002 b1) = some b12 ∧ zs_K S9 b12 = some (.inl 6) ∧ ((¬ (zs_I S9 6000 b12) = (10 : Int32) → (Q (.returned (some (va_rf (zs_R S9 7002 b1)))) S9)) ∧ (¬ (¬ (zs_I S9 6000 b12) = (10 : Int32)) → (zs_K S9 p0 = some (.inl 4) ∧ zs_C X d 4065 [.ref p0, va_rf (zs_R S9 7002 b1), .int p1] S9 (zs_kR (fun v18 S17 => (Q (.returned (some (va_rf v18))) S17)) Q)))))) Q))))))))
theorem u_X5_typeIn_32 {σ : Nat → Nat} {n0 : Nat} {bf : ab_B} {d : Nat} {p0 : Nat} {p1 : Int32} {q0 : Option Nat} {S : zs_T} {Q : zs_Q} (hB : zt_B bf) (h : w_X5_typeIn_32 (zx σ n0 bf) d p0 p1 q0 S Q) : zs_U (zx σ n0 bf) d 4064 32 [(0, .ref p0), (1, .int p1)] [va_rf q0] S Q := by
  unfold w_X5_typeIn_32 at h
  refine zu_astore_n d_4064_32 (zs_rr _) (zs_lt zq_4064 rfl) ?_
  refine zu_aload_n d_4064_33 rfl (zs_rr _) ?_
  refine zu_ifnull (u := q0) (t := 81) d_4064_34 rfl rfl (fun e2 => ?_) (fun b1 e2 => ?_)
  · have h := h.1 e2
    exact (u_X5_typeIn_81 hB h).weak ⟨rfl, trivial⟩
  · have h := h.2 b1 e2
    refine zu_aload_n d_4064_37 rfl (zs_rr _) ?_
    refine zs_stk0 (zs_rfe e2) ?_
    obtain ⟨k3, h⟩ := h
    refine zg_4_62 rfl d_4064_38 k3 ?_
    refine zu_iconst d_4064_41 zi_1 ?_
    refine zu_cmpne (t := 81) d_4064_42 rfl (fun c4 => ?_) (fun c4 => ?_)
    · have h := h.1 c4
      exact (u_X5_typeIn_81 hB h).weak ⟨rfl, trivial⟩
    · have h := h.2 c4
      refine zu_aload_n d_4064_45 rfl (zs_ra _) ?_
      obtain ⟨k5, h⟩ := h
      refine zg_4_5 rfl d_4064_46 k5 ?_
      obtain ⟨b6, e7, h⟩ := h
      refine zs_stk0 (zs_rfe e7) ?_
      obtain ⟨k8, h⟩ := h
      refine zc_4_29  hB rfl k8 d_4064_49 (Nat.le_of_ble_eq_true rfl) h (fun S9 h => ?_)
      refine zu_aload_n d_4064_52 rfl (zs_rr _) ?_
      refine zs_stk0 (zs_rfe e2) ?_
      obtain ⟨k11, h⟩ := h
      refine zg_4_65 rfl d_4064_53 k11 ?_
      obtain ⟨b12, e13, h⟩ := h
      refine zs_stk0 (zs_rfe e13) ?_
      obtain ⟨k14, h⟩ := h
      refine zg_4_369 rfl d_4064_56 k14 ?_
      refine zu_bipush d_4064_59 zj_10 ?_
      refine zu_cmpne (t := 76) d_4064_61 rfl (fun c15 => ?_) (fun c15 => ?_)
      · have h := h.1 c15
        refine zu_aload_n d_4064_76 rfl (zs_rr _) ?_
        refine zs_stk0 (zs_rfe e2) ?_
        refine zg_4_65 rfl d_4064_77 k11 ?_
        exact zu_aret d_4064_80 zr_4064 (zs_rr _) h
      · have h := h.2 c15
        refine zu_aload_n d_4064_64 rfl (zs_ra _) ?_
        refine zu_aload_n d_4064_65 rfl (zs_rr _) ?_
        refine zs_stk0 (zs_rfe e2) ?_
        refine zg_4_65 rfl d_4064_66 k11 ?_
        refine zu_iload_n d_4064_69 rfl ?_
        obtain ⟨k16, h⟩ := h
        refine zc_4_427 (x0 := (zs_R S9 7002 b1)) (x1 := p1) hB rfl k16 d_4064_70 (Nat.le_of_ble_eq_true rfl) h (fun v18 S17 h => ?_)
        refine zu_goto (t := 80) d_4064_73 rfl ?_
        exact zu_aret d_4064_80 zr_4064 (zs_rr _) h
def w_X5_typeIn_31 (X : zs_X) (d : Nat) (p0 : Nat) (p1 : Int32) (S : zs_T) (Q : zs_Q) : Prop :=
  (w_X5_typeIn_32 X d p0 p1 none S Q)
theorem u_X5_typeIn_31 {σ : Nat → Nat} {n0 : Nat} {bf : ab_B} {d : Nat} {p0 : Nat} {p1 : Int32} {S : zs_T} {Q : zs_Q} (hB : zt_B bf) (h : w_X5_typeIn_31 (zx σ n0 bf) d p0 p1 S Q) : zs_U (zx σ n0 bf) d 4064 31 [(0, .ref p0), (1, .int p1)] [] S Q := by
  unfold w_X5_typeIn_31 at h
  refine zu_stk d_4064_31 rfl rfl ?_
  exact (u_X5_typeIn_32 hB h).weak ⟨rfl, rfl, trivial⟩
def w_X5_typeIn (X : zs_X) (d : Nat) (p0 : Nat) (p1 : Int32) (S : zs_T) (Q : zs_Q) : Prop :=
  (zs_K S p0 = some (.inl 4) ∧ ∃ b2, (zs_R S 4000 p0) = some b2 ∧ zs_K S b2 = some (.inl 5) ∧ zs_C X d 5016 [.ref b2] S (zs_kI (fun v6 S5 => (((v6 = 0 → w_X5_typeIn_31 X d p0 p1 S5 Q) ∧ (¬ (v6 = 0) → (zs_K S5 p0 = some (.inl 4) ∧ zs_C X d 4062 [.ref p0] S5 (zs_kI (fun v10 S9 => (((¬ v10 = 0 → w_X5_typeIn_31 X d p0 p1 S9 Q) ∧ (¬ (¬ v10 = 0) → (zs_K S9 p0 = some (.inl 4) ∧ ∃ b13, (zs_R S9 4000 p0) = some b13 ∧ zs_K S9 b13 = some (.inl 5) ∧ zs_C X d 4028 [.ref p0, .int (zs_I S9 5004 b13)] S9 (zs_kR (fun v17 S16 => (w_X5_typeIn_32 X d p0 p1 v17 S16 Q)) Q)))))) Q)))))) Q))
theorem u_X5_typeIn {σ : Nat → Nat} {n0 : Nat} {bf : ab_B} {d : Nat} {p0 : Nat} {p1 : Int32} {S : zs_T} {Q : zs_Q} (hB : zt_B bf) (hd : 1 ≤ d) (h : w_X5_typeIn (zx σ n0 bf) (d - 1) p0 p1 S Q) : zs_C (zx σ n0 bf) d 4064 [.ref p0, .int p1] S Q := by
  have hL : lv_args 0 [.ref p0, .int p1] = [(0, .ref p0), (1, .int p1)] := rfl
  refine zs_C.of1 (hB.2 4064 (by decide) (by decide)) hd (by rw [hL]; exact zs_sub_self _ (by exact ⟨rfl, rfl, trivial⟩)) ?_
  rw [hL]
  clear hL
  unfold w_X5_typeIn at h
  refine zu_aload_n d_4064_0 rfl (zs_ra _) ?_
  obtain ⟨k1, h⟩ := h
  refine zg_4_5 rfl d_4064_1 k1 ?_
  obtain ⟨b2, e3, h⟩ := h
  refine zs_stk0 (zs_rfe e3) ?_
  obtain ⟨k4, h⟩ := h
  refine zc_4_36  hB rfl k4 d_4064_4 (Nat.le_of_ble_eq_true rfl) h (fun v6 S5 h => ?_)
  refine zu_ifeq (t := 31) d_4064_7 rfl (fun c7 => ?_) (fun c7 => ?_)
  · have h := h.1 c7
    exact (u_X5_typeIn_31 hB h).weak ⟨rfl, rfl, trivial⟩
  · have h := h.2 c7
    refine zu_aload_n d_4064_10 rfl (zs_ra _) ?_
    obtain ⟨k8, h⟩ := h
    refine zc_4_354  hB rfl k8 d_4064_11 (Nat.le_of_ble_eq_true rfl) h (fun v10 S9 h => ?_)
    refine zu_ifne (t := 31) d_4064_14 rfl (fun c11 => ?_) (fun c11 => ?_)
    · have h := h.1 c11
      exact (u_X5_typeIn_31 hB h).weak ⟨rfl, rfl, trivial⟩
    · have h := h.2 c11
      refine zu_aload_n d_4064_17 rfl (zs_ra _) ?_
      refine zu_aload_n d_4064_18 rfl (zs_ra _) ?_
      obtain ⟨k12, h⟩ := h
      refine zg_4_5 rfl d_4064_19 k12 ?_
      obtain ⟨b13, e14, h⟩ := h
      refine zs_stk0 (zs_rfe e14) ?_
      obtain ⟨k15, h⟩ := h
      refine zg_4_40 rfl d_4064_22 k15 ?_
      refine zc_4_318 (x0 := (zs_I S9 5004 b13)) hB rfl k12 d_4064_25 (Nat.le_of_ble_eq_true rfl) h (fun v17 S16 h => ?_)
      refine zu_goto (t := 32) d_4064_28 rfl ?_
      exact (u_X5_typeIn_32 hB h).weak ⟨rfl, rfl, trivial⟩
/-! SchemaPascal$Reader.given(LSchemaPascal$Type;Z)LSchemaPascal$Type; -/
theorem zm_4065 {σ : Nat → Nat} {n0 : Nat} {bf : ab_B} : ab_code (zx σ n0 bf).1 4065 = prog_9_method_32_code := rfl
theorem zq_4065 {σ : Nat → Nat} {n0 : Nat} {bf : ab_B} : ab_maxL (zx σ n0 bf).1 4065 = 4 := rfl
theorem zr_4065 {σ : Nat → Nat} {n0 : Nat} {bf : ab_B} : ab_ret (zx σ n0 bf).1 4065 = (Option.some (Jvm.ClassFile.FieldType.object "SchemaPascal$Type")) := rfl
theorem d_4065_0 {σ : Nat → Nat} {n0 : Nat} {bf : ab_B} : decode (ab_code (zx σ n0 bf).1 4065) 0 = .ok (.aload_n 0, 1) := zd zm_4065 (by decide +kernel)
theorem d_4065_1 {σ : Nat → Nat} {n0 : Nat} {bf : ab_B} : decode (ab_code (zx σ n0 bf).1 4065) 1 = .ok (.getfield 5, 3) := zd zm_4065 (by decide +kernel)
theorem d_4065_4 {σ : Nat → Nat} {n0 : Nat} {bf : ab_B} : decode (ab_code (zx σ n0 bf).1 4065) 4 = .ok (.bipush 40, 2) := zd zm_4065 (by decide +kernel)
theorem d_4065_6 {σ : Nat → Nat} {n0 : Nat} {bf : ab_B} : decode (ab_code (zx σ n0 bf).1 4065) 6 = .ok (.invokevirtual 21, 3) := zd zm_4065 (by decide +kernel)
theorem d_4065_9 {σ : Nat → Nat} {n0 : Nat} {bf : ab_B} : decode (ab_code (zx σ n0 bf).1 4065) 9 = .ok (.ifCond .ne 9, 3) := zd zm_4065 (by decide +kernel)
theorem d_4065_12 {σ : Nat → Nat} {n0 : Nat} {bf : ab_B} : decode (ab_code (zx σ n0 bf).1 4065) 12 = .ok (.aload_n 0, 1) := zd zm_4065 (by decide +kernel)
theorem d_4065_13 {σ : Nat → Nat} {n0 : Nat} {bf : ab_B} : decode (ab_code (zx σ n0 bf).1 4065) 13 = .ok (.iconst 5, 1) := zd zm_4065 (by decide +kernel)
theorem d_4065_14 {σ : Nat → Nat} {n0 : Nat} {bf : ab_B} : decode (ab_code (zx σ n0 bf).1 4065) 14 = .ok (.invokevirtual 25, 3) := zd zm_4065 (by decide +kernel)
theorem d_4065_17 {σ : Nat → Nat} {n0 : Nat} {bf : ab_B} : decode (ab_code (zx σ n0 bf).1 4065) 17 = .ok (.athrow, 1) := zd zm_4065 (by decide +kernel)
theorem d_4065_18 {σ : Nat → Nat} {n0 : Nat} {bf : ab_B} : decode (ab_code (zx σ n0 bf).1 4065) 18 = .ok (.aload_n 0, 1) := zd zm_4065 (by decide +kernel)
theorem d_4065_19 {σ : Nat → Nat} {n0 : Nat} {bf : ab_B} : decode (ab_code (zx σ n0 bf).1 4065) 19 = .ok (.bipush 11, 2) := zd zm_4065 (by decide +kernel)
theorem d_4065_21 {σ : Nat → Nat} {n0 : Nat} {bf : ab_B} : decode (ab_code (zx σ n0 bf).1 4065) 21 = .ok (.invokevirtual 144, 3) := zd zm_4065 (by decide +kernel)
theorem d_4065_24 {σ : Nat → Nat} {n0 : Nat} {bf : ab_B} : decode (ab_code (zx σ n0 bf).1 4065) 24 = .ok (.astore_n 3, 1) := zd zm_4065 (by decide +kernel)
theorem d_4065_25 {σ : Nat → Nat} {n0 : Nat} {bf : ab_B} : decode (ab_code (zx σ n0 bf).1 4065) 25 = .ok (.aload_n 3, 1) := zd zm_4065 (by decide +kernel)
theorem d_4065_26 {σ : Nat → Nat} {n0 : Nat} {bf : ab_B} : decode (ab_code (zx σ n0 bf).1 4065) 26 = .ok (.aload_n 1, 1) := zd zm_4065 (by decide +kernel)
theorem d_4065_27 {σ : Nat → Nat} {n0 : Nat} {bf : ab_B} : decode (ab_code (zx σ n0 bf).1 4065) 27 = .ok (.putfield 320, 3) := zd zm_4065 (by decide +kernel)
theorem d_4065_30 {σ : Nat → Nat} {n0 : Nat} {bf : ab_B} : decode (ab_code (zx σ n0 bf).1 4065) 30 = .ok (.aload_n 3, 1) := zd zm_4065 (by decide +kernel)
theorem d_4065_31 {σ : Nat → Nat} {n0 : Nat} {bf : ab_B} : decode (ab_code (zx σ n0 bf).1 4065) 31 = .ok (.aload_n 0, 1) := zd zm_4065 (by decide +kernel)
theorem d_4065_32 {σ : Nat → Nat} {n0 : Nat} {bf : ab_B} : decode (ab_code (zx σ n0 bf).1 4065) 32 = .ok (.aload_n 1, 1) := zd zm_4065 (by decide +kernel)
theorem d_4065_33 {σ : Nat → Nat} {n0 : Nat} {bf : ab_B} : decode (ab_code (zx σ n0 bf).1 4065) 33 = .ok (.iload_n 2, 1) := zd zm_4065 (by decide +kernel)
theorem d_4065_34 {σ : Nat → Nat} {n0 : Nat} {bf : ab_B} : decode (ab_code (zx σ n0 bf).1 4065) 34 = .ok (.ifCond .ne 7, 3) := zd zm_4065 (by decide +kernel)
theorem d_4065_37 {σ : Nat → Nat} {n0 : Nat} {bf : ab_B} : decode (ab_code (zx σ n0 bf).1 4065) 37 = .ok (.iconst 1, 1) := zd zm_4065 (by decide +kernel)
theorem d_4065_38 {σ : Nat → Nat} {n0 : Nat} {bf : ab_B} : decode (ab_code (zx σ n0 bf).1 4065) 38 = .ok (.goto 4, 3) := zd zm_4065 (by decide +kernel)
theorem d_4065_41 {σ : Nat → Nat} {n0 : Nat} {bf : ab_B} : decode (ab_code (zx σ n0 bf).1 4065) 41 = .ok (.iconst 0, 1) := zd zm_4065 (by decide +kernel)
theorem d_4065_42 {σ : Nat → Nat} {n0 : Nat} {bf : ab_B} : decode (ab_code (zx σ n0 bf).1 4065) 42 = .ok (.invokevirtual 480, 3) := zd zm_4065 (by decide +kernel)
theorem d_4065_45 {σ : Nat → Nat} {n0 : Nat} {bf : ab_B} : decode (ab_code (zx σ n0 bf).1 4065) 45 = .ok (.putfield 484, 3) := zd zm_4065 (by decide +kernel)
theorem d_4065_48 {σ : Nat → Nat} {n0 : Nat} {bf : ab_B} : decode (ab_code (zx σ n0 bf).1 4065) 48 = .ok (.aload_n 3, 1) := zd zm_4065 (by decide +kernel)
theorem d_4065_49 {σ : Nat → Nat} {n0 : Nat} {bf : ab_B} : decode (ab_code (zx σ n0 bf).1 4065) 49 = .ok (.areturn, 1) := zd zm_4065 (by decide +kernel)
def w_X5_given_42 (X : zs_X) (d : Nat) (p3 : Option Nat) (q0 : Option Nat) (q1 : Option Nat) (q2 : Option Nat) (q3 : Int32) (S : zs_T) (Q : zs_Q) : Prop :=
  (∃ b1, q1 = some b1 ∧ zs_K S b1 = some (.inl 4) ∧ zs_C X d 4066 [.ref b1, va_rf q2, .int q3] S (zs_kR (fun v5 S4 => (∃ b6, q0 = some b6 ∧ zs_K S4 b6 = some (.inl 6) ∧ ab_n0 X.1 ≤ b6 ∧ ∀ S10, S10 = zs_sR S4 6008 b6 v5 → Q (.returned (some (va_rf p3))) S10)) Q))
theorem u_X5_given_42 {σ : Nat → Nat} {n0 : Nat} {bf : ab_B} {d : Nat} {p3 : Option Nat} {q0 : Option Nat} {q1 : Option Nat} {q2 : Option Nat} {q3 : Int32} {S : zs_T} {Q : zs_Q} (hB : zt_B bf) (h : w_X5_given_42 (zx σ n0 bf) d p3 q0 q1 q2 q3 S Q) : zs_U (zx σ n0 bf) d 4065 42 [(3, va_rf p3)] [.int q3, va_rf q2, va_rf q1, va_rf q0] S Q := by
  unfold w_X5_given_42 at h
  obtain ⟨b1, e2, h⟩ := h
  refine zs_stk2 (zs_rfe e2) ?_
  obtain ⟨k3, h⟩ := h
  refine zc_4_480 (x0 := q2) (x1 := q3) hB rfl k3 d_4065_42 (by simp only [List.map_cons, List.map_nil, List.sum_cons, List.sum_nil, zs_cat, zs_cI, zs_cJ, zs_cA]; exact Nat.le_of_ble_eq_true rfl) h (fun v5 S4 h => ?_)
  obtain ⟨b6, e7, h⟩ := h
  refine zs_stk1 (zs_rfe e7) ?_
  obtain ⟨k8, h⟩ := h
  obtain ⟨k9, h⟩ := h
  refine zp_4_484 (v := v5) rfl d_4065_45 k8 k9 ?_
  generalize e11 : zs_sR S4 6008 b6 v5 = S10
  have h := h S10 e11.symm
  have K12 : ∀ b, zs_K S10 b = zs_K S4 b := zs_Kt e11 (zs_KsR _ _ _ _) (fun _ => rfl)
  refine zu_aload_n d_4065_48 rfl (zs_rr _) ?_
  exact zu_aret d_4065_49 zr_4065 (zs_rr _) h
def w_X5_given (X : zs_X) (d : Nat) (p0 : Nat) (p1 : Option Nat) (p2 : Int32) (S : zs_T) (Q : zs_Q) : Prop :=
  (zs_K S p0 = some (.inl 4) ∧ ∃ b2, (zs_R S 4000 p0) = some b2 ∧ zs_K S b2 = some (.inl 5) ∧ zs_C X d 5017 [.ref b2, .int (40 : Int32)] S (zs_kI (fun v6 S5 => (((¬ v6 = 0 → (zs_K S5 p0 = some (.inl 4) ∧ zs_C X d 4002 [.ref p0, .int (11 : Int32)] S5 (zs_kR (fun v10 S9 => (∃ b11, v10 = some b11 ∧ zs_K S9 b11 = some (.inl 6) ∧ ab_n0 X.1 ≤ b11 ∧ ∀ S15, S15 = zs_sR S9 6002 b11 p1 → ((¬ p2 = 0 → (w_X5_given_42 X d v10 v10 (some p0) p1 (0 : Int32) S15 Q)) ∧ (¬ (¬ p2 = 0) → (w_X5_given_42 X d v10 v10 (some p0) p1 (1 : Int32) S15 Q))))) Q))) ∧ (¬ (¬ v6 = 0) → (zs_K S5 p0 = some (.inl 4) ∧ zs_C X d 4006 [.ref p0, .int (5 : Int32)] S5 (zs_kR (fun v21 S20 => (∃ b22, v21 = some b22 ∧ Q (.threw b22) S20)) Q)))))) Q))
theorem u_X5_given {σ : Nat → Nat} {n0 : Nat} {bf : ab_B} {d : Nat} {p0 : Nat} {p1 : Option Nat} {p2 : Int32} {S : zs_T} {Q : zs_Q} (hB : zt_B bf) (hd : 1 ≤ d) (h : w_X5_given (zx σ n0 bf) (d - 1) p0 p1 p2 S Q) : zs_C (zx σ n0 bf) d 4065 [.ref p0, va_rf p1, .int p2] S Q := by
  have hL : lv_args 0 [.ref p0, va_rf p1, .int p2] = [(0, .ref p0), (1, va_rf p1), (2, .int p2)] := by simp [lv_args, zs_cat, zs_cI, zs_cJ, zs_cA]
  refine zs_C.of1 (hB.2 4065 (by decide) (by decide)) hd (by rw [hL]; exact zs_sub_self _ (by exact ⟨rfl, rfl, rfl, trivial⟩)) ?_
  rw [hL]
  clear hL
  unfold w_X5_given at h
  refine zu_aload_n d_4065_0 rfl (zs_ra _) ?_
  obtain ⟨k1, h⟩ := h
  refine zg_4_5 rfl d_4065_1 k1 ?_
  refine zu_bipush d_4065_4 zj_40 ?_
  obtain ⟨b2, e3, h⟩ := h
  refine zs_stk1 (zs_rfe e3) ?_
  obtain ⟨k4, h⟩ := h
  refine zc_4_21 (x0 := (40 : Int32)) hB rfl k4 d_4065_6 (Nat.le_of_ble_eq_true rfl) h (fun v6 S5 h => ?_)
  refine zu_ifne (t := 18) d_4065_9 rfl (fun c7 => ?_) (fun c7 => ?_)
  · have h := h.1 c7
    refine zu_aload_n d_4065_18 rfl (zs_ra _) ?_
    refine zu_bipush d_4065_19 zj_11 ?_
    obtain ⟨k8, h⟩ := h
    refine zc_4_144 (x0 := (11 : Int32)) hB rfl k8 d_4065_21 (Nat.le_of_ble_eq_true rfl) h (fun v10 S9 h => ?_)
    refine zu_astore_n d_4065_24 (zs_rr _) (zs_lt zq_4065 rfl) ?_
    refine zu_aload_n d_4065_25 rfl (zs_rr _) ?_
    refine zu_aload_n d_4065_26 rfl (zs_rr _) ?_
    obtain ⟨b11, e12, h⟩ := h
    refine zs_stk1 (zs_rfe e12) ?_
    obtain ⟨k13, h⟩ := h
    obtain ⟨k14, h⟩ := h
    refine zp_4_320 (v := p1) rfl d_4065_27 k13 k14 ?_
    generalize e16 : zs_sR S9 6002 b11 p1 = S15
    have h := h S15 e16.symm
    have K17 : ∀ b, zs_K S15 b = zs_K S9 b := zs_Kt e16 (zs_KsR _ _ _ _) (fun _ => rfl)
    refine zu_aload_n d_4065_30 rfl (zs_rr _) ?_
    refine zu_aload_n d_4065_31 rfl (zs_ra _) ?_
    refine zu_aload_n d_4065_32 rfl (zs_rr _) ?_
    refine zu_iload_n d_4065_33 rfl ?_
    refine zu_ifne (t := 41) d_4065_34 rfl (fun c18 => ?_) (fun c18 => ?_)
    · have h := h.1 c18
      refine zu_iconst d_4065_41 zi_0 ?_
      exact (u_X5_given_42 hB h).weak ⟨rfl, trivial⟩
    · have h := h.2 c18
      refine zu_iconst d_4065_37 zi_1 ?_
      refine zu_goto (t := 42) d_4065_38 rfl ?_
      exact (u_X5_given_42 hB h).weak ⟨rfl, trivial⟩
  · have h := h.2 c7
    refine zu_aload_n d_4065_12 rfl (zs_ra _) ?_
    refine zu_iconst d_4065_13 zi_5 ?_
    obtain ⟨k19, h⟩ := h
    refine zc_4_25 (x0 := (5 : Int32)) hB rfl k19 d_4065_14 (Nat.le_of_ble_eq_true rfl) h (fun v21 S20 h => ?_)
    obtain ⟨b22, e23, h⟩ := h
    refine zs_stk0 (zs_rfe e23) ?_
    exact zu_throw d_4065_17 h
/-! SchemaPascal$Reader.valuesOf(LSchemaPascal$Type;Z)LSchemaPascal$Node; -/
theorem zm_4066 {σ : Nat → Nat} {n0 : Nat} {bf : ab_B} : ab_code (zx σ n0 bf).1 4066 = prog_9_method_33_code := rfl
theorem zq_4066 {σ : Nat → Nat} {n0 : Nat} {bf : ab_B} : ab_maxL (zx σ n0 bf).1 4066 = 8 := rfl
theorem zr_4066 {σ : Nat → Nat} {n0 : Nat} {bf : ab_B} : ab_ret (zx σ n0 bf).1 4066 = (Option.some (Jvm.ClassFile.FieldType.object "SchemaPascal$Node")) := rfl
theorem d_4066_0 {σ : Nat → Nat} {n0 : Nat} {bf : ab_B} : decode (ab_code (zx σ n0 bf).1 4066) 0 = .ok (.aconst_null, 1) := zd zm_4066 (by decide +kernel)
theorem d_4066_1 {σ : Nat → Nat} {n0 : Nat} {bf : ab_B} : decode (ab_code (zx σ n0 bf).1 4066) 1 = .ok (.astore_n 3, 1) := zd zm_4066 (by decide +kernel)
theorem d_4066_2 {σ : Nat → Nat} {n0 : Nat} {bf : ab_B} : decode (ab_code (zx σ n0 bf).1 4066) 2 = .ok (.aconst_null, 1) := zd zm_4066 (by decide +kernel)
theorem d_4066_3 {σ : Nat → Nat} {n0 : Nat} {bf : ab_B} : decode (ab_code (zx σ n0 bf).1 4066) 3 = .ok (.astore 4, 2) := zd zm_4066 (by decide +kernel)
theorem d_4066_5 {σ : Nat → Nat} {n0 : Nat} {bf : ab_B} : decode (ab_code (zx σ n0 bf).1 4066) 5 = .ok (.iconst 0, 1) := zd zm_4066 (by decide +kernel)
theorem d_4066_6 {σ : Nat → Nat} {n0 : Nat} {bf : ab_B} : decode (ab_code (zx σ n0 bf).1 4066) 6 = .ok (.istore 5, 2) := zd zm_4066 (by decide +kernel)
theorem d_4066_8 {σ : Nat → Nat} {n0 : Nat} {bf : ab_B} : decode (ab_code (zx σ n0 bf).1 4066) 8 = .ok (.iload 5, 2) := zd zm_4066 (by decide +kernel)
theorem d_4066_10 {σ : Nat → Nat} {n0 : Nat} {bf : ab_B} : decode (ab_code (zx σ n0 bf).1 4066) 10 = .ok (.aload_n 1, 1) := zd zm_4066 (by decide +kernel)
theorem d_4066_11 {σ : Nat → Nat} {n0 : Nat} {bf : ab_B} : decode (ab_code (zx σ n0 bf).1 4066) 11 = .ok (.getfield 323, 3) := zd zm_4066 (by decide +kernel)
theorem d_4066_14 {σ : Nat → Nat} {n0 : Nat} {bf : ab_B} : decode (ab_code (zx σ n0 bf).1 4066) 14 = .ok (.invokevirtual 50, 3) := zd zm_4066 (by decide +kernel)
theorem d_4066_17 {σ : Nat → Nat} {n0 : Nat} {bf : ab_B} : decode (ab_code (zx σ n0 bf).1 4066) 17 = .ok (.if_icmp .ge 197, 3) := zd zm_4066 (by decide +kernel)
theorem d_4066_20 {σ : Nat → Nat} {n0 : Nat} {bf : ab_B} : decode (ab_code (zx σ n0 bf).1 4066) 20 = .ok (.aload_n 0, 1) := zd zm_4066 (by decide +kernel)
theorem d_4066_21 {σ : Nat → Nat} {n0 : Nat} {bf : ab_B} : decode (ab_code (zx σ n0 bf).1 4066) 21 = .ok (.getfield 5, 3) := zd zm_4066 (by decide +kernel)
theorem d_4066_24 {σ : Nat → Nat} {n0 : Nat} {bf : ab_B} : decode (ab_code (zx σ n0 bf).1 4066) 24 = .ok (.invokevirtual 29, 3) := zd zm_4066 (by decide +kernel)
theorem d_4066_27 {σ : Nat → Nat} {n0 : Nat} {bf : ab_B} : decode (ab_code (zx σ n0 bf).1 4066) 27 = .ok (.aload_n 1, 1) := zd zm_4066 (by decide +kernel)
theorem d_4066_28 {σ : Nat → Nat} {n0 : Nat} {bf : ab_B} : decode (ab_code (zx σ n0 bf).1 4066) 28 = .ok (.getfield 323, 3) := zd zm_4066 (by decide +kernel)
theorem d_4066_31 {σ : Nat → Nat} {n0 : Nat} {bf : ab_B} : decode (ab_code (zx σ n0 bf).1 4066) 31 = .ok (.iload 5, 2) := zd zm_4066 (by decide +kernel)
theorem d_4066_33 {σ : Nat → Nat} {n0 : Nat} {bf : ab_B} : decode (ab_code (zx σ n0 bf).1 4066) 33 = .ok (.invokevirtual 56, 3) := zd zm_4066 (by decide +kernel)
theorem d_4066_36 {σ : Nat → Nat} {n0 : Nat} {bf : ab_B} : decode (ab_code (zx σ n0 bf).1 4066) 36 = .ok (.checkcast 93, 3) := zd zm_4066 (by decide +kernel)
theorem d_4066_39 {σ : Nat → Nat} {n0 : Nat} {bf : ab_B} : decode (ab_code (zx σ n0 bf).1 4066) 39 = .ok (.getfield 96, 3) := zd zm_4066 (by decide +kernel)
theorem d_4066_42 {σ : Nat → Nat} {n0 : Nat} {bf : ab_B} : decode (ab_code (zx σ n0 bf).1 4066) 42 = .ok (.invokevirtual 450, 3) := zd zm_4066 (by decide +kernel)
theorem d_4066_45 {σ : Nat → Nat} {n0 : Nat} {bf : ab_B} : decode (ab_code (zx σ n0 bf).1 4066) 45 = .ok (.astore 6, 2) := zd zm_4066 (by decide +kernel)
theorem d_4066_47 {σ : Nat → Nat} {n0 : Nat} {bf : ab_B} : decode (ab_code (zx σ n0 bf).1 4066) 47 = .ok (.iload_n 2, 1) := zd zm_4066 (by decide +kernel)
theorem d_4066_48 {σ : Nat → Nat} {n0 : Nat} {bf : ab_B} : decode (ab_code (zx σ n0 bf).1 4066) 48 = .ok (.ifCond .eq 12, 3) := zd zm_4066 (by decide +kernel)
theorem d_4066_51 {σ : Nat → Nat} {n0 : Nat} {bf : ab_B} : decode (ab_code (zx σ n0 bf).1 4066) 51 = .ok (.aload_n 0, 1) := zd zm_4066 (by decide +kernel)
theorem d_4066_52 {σ : Nat → Nat} {n0 : Nat} {bf : ab_B} : decode (ab_code (zx σ n0 bf).1 4066) 52 = .ok (.aload 6, 2) := zd zm_4066 (by decide +kernel)
theorem d_4066_54 {σ : Nat → Nat} {n0 : Nat} {bf : ab_B} : decode (ab_code (zx σ n0 bf).1 4066) 54 = .ok (.invokevirtual 442, 3) := zd zm_4066 (by decide +kernel)
theorem d_4066_57 {σ : Nat → Nat} {n0 : Nat} {bf : ab_B} : decode (ab_code (zx σ n0 bf).1 4066) 57 = .ok (.goto 7, 3) := zd zm_4066 (by decide +kernel)
theorem d_4066_60 {σ : Nat → Nat} {n0 : Nat} {bf : ab_B} : decode (ab_code (zx σ n0 bf).1 4066) 60 = .ok (.aload_n 0, 1) := zd zm_4066 (by decide +kernel)
theorem d_4066_61 {σ : Nat → Nat} {n0 : Nat} {bf : ab_B} : decode (ab_code (zx σ n0 bf).1 4066) 61 = .ok (.invokevirtual 456, 3) := zd zm_4066 (by decide +kernel)
theorem d_4066_64 {σ : Nat → Nat} {n0 : Nat} {bf : ab_B} : decode (ab_code (zx σ n0 bf).1 4066) 64 = .ok (.astore 7, 2) := zd zm_4066 (by decide +kernel)
theorem d_4066_66 {σ : Nat → Nat} {n0 : Nat} {bf : ab_B} : decode (ab_code (zx σ n0 bf).1 4066) 66 = .ok (.aload 7, 2) := zd zm_4066 (by decide +kernel)
theorem d_4066_68 {σ : Nat → Nat} {n0 : Nat} {bf : ab_B} : decode (ab_code (zx σ n0 bf).1 4066) 68 = .ok (.getfield 297, 3) := zd zm_4066 (by decide +kernel)
theorem d_4066_71 {σ : Nat → Nat} {n0 : Nat} {bf : ab_B} : decode (ab_code (zx σ n0 bf).1 4066) 71 = .ok (.invokevirtual 335, 3) := zd zm_4066 (by decide +kernel)
theorem d_4066_74 {σ : Nat → Nat} {n0 : Nat} {bf : ab_B} : decode (ab_code (zx σ n0 bf).1 4066) 74 = .ok (.ifCond .ne 9, 3) := zd zm_4066 (by decide +kernel)
theorem d_4066_77 {σ : Nat → Nat} {n0 : Nat} {bf : ab_B} : decode (ab_code (zx σ n0 bf).1 4066) 77 = .ok (.aload_n 0, 1) := zd zm_4066 (by decide +kernel)
theorem d_4066_78 {σ : Nat → Nat} {n0 : Nat} {bf : ab_B} : decode (ab_code (zx σ n0 bf).1 4066) 78 = .ok (.iconst 5, 1) := zd zm_4066 (by decide +kernel)
theorem d_4066_79 {σ : Nat → Nat} {n0 : Nat} {bf : ab_B} : decode (ab_code (zx σ n0 bf).1 4066) 79 = .ok (.invokevirtual 25, 3) := zd zm_4066 (by decide +kernel)
theorem d_4066_82 {σ : Nat → Nat} {n0 : Nat} {bf : ab_B} : decode (ab_code (zx σ n0 bf).1 4066) 82 = .ok (.athrow, 1) := zd zm_4066 (by decide +kernel)
theorem d_4066_83 {σ : Nat → Nat} {n0 : Nat} {bf : ab_B} : decode (ab_code (zx σ n0 bf).1 4066) 83 = .ok (.iload_n 2, 1) := zd zm_4066 (by decide +kernel)
theorem d_4066_84 {σ : Nat → Nat} {n0 : Nat} {bf : ab_B} : decode (ab_code (zx σ n0 bf).1 4066) 84 = .ok (.ifCond .ne 18, 3) := zd zm_4066 (by decide +kernel)
theorem d_4066_87 {σ : Nat → Nat} {n0 : Nat} {bf : ab_B} : decode (ab_code (zx σ n0 bf).1 4066) 87 = .ok (.aload 7, 2) := zd zm_4066 (by decide +kernel)
theorem d_4066_89 {σ : Nat → Nat} {n0 : Nat} {bf : ab_B} : decode (ab_code (zx σ n0 bf).1 4066) 89 = .ok (.invokestatic 459, 3) := zd zm_4066 (by decide +kernel)
theorem d_4066_92 {σ : Nat → Nat} {n0 : Nat} {bf : ab_B} : decode (ab_code (zx σ n0 bf).1 4066) 92 = .ok (.ifCond .eq 10, 3) := zd zm_4066 (by decide +kernel)
theorem d_4066_95 {σ : Nat → Nat} {n0 : Nat} {bf : ab_B} : decode (ab_code (zx σ n0 bf).1 4066) 95 = .ok (.aload_n 0, 1) := zd zm_4066 (by decide +kernel)
theorem d_4066_96 {σ : Nat → Nat} {n0 : Nat} {bf : ab_B} : decode (ab_code (zx σ n0 bf).1 4066) 96 = .ok (.aload 7, 2) := zd zm_4066 (by decide +kernel)
theorem d_4066_98 {σ : Nat → Nat} {n0 : Nat} {bf : ab_B} : decode (ab_code (zx σ n0 bf).1 4066) 98 = .ok (.invokevirtual 465, 3) := zd zm_4066 (by decide +kernel)
theorem d_4066_101 {σ : Nat → Nat} {n0 : Nat} {bf : ab_B} : decode (ab_code (zx σ n0 bf).1 4066) 101 = .ok (.pop2, 1) := zd zm_4066 (by decide +kernel)
theorem d_4066_102 {σ : Nat → Nat} {n0 : Nat} {bf : ab_B} : decode (ab_code (zx σ n0 bf).1 4066) 102 = .ok (.aload 7, 2) := zd zm_4066 (by decide +kernel)
theorem d_4066_104 {σ : Nat → Nat} {n0 : Nat} {bf : ab_B} : decode (ab_code (zx σ n0 bf).1 4066) 104 = .ok (.getfield 297, 3) := zd zm_4066 (by decide +kernel)
theorem d_4066_107 {σ : Nat → Nat} {n0 : Nat} {bf : ab_B} : decode (ab_code (zx σ n0 bf).1 4066) 107 = .ok (.invokevirtual 450, 3) := zd zm_4066 (by decide +kernel)
theorem d_4066_110 {σ : Nat → Nat} {n0 : Nat} {bf : ab_B} : decode (ab_code (zx σ n0 bf).1 4066) 110 = .ok (.aload 6, 2) := zd zm_4066 (by decide +kernel)
theorem d_4066_112 {σ : Nat → Nat} {n0 : Nat} {bf : ab_B} : decode (ab_code (zx σ n0 bf).1 4066) 112 = .ok (.if_acmp .eq 9, 3) := zd zm_4066 (by decide +kernel)
theorem d_4066_115 {σ : Nat → Nat} {n0 : Nat} {bf : ab_B} : decode (ab_code (zx σ n0 bf).1 4066) 115 = .ok (.aload_n 0, 1) := zd zm_4066 (by decide +kernel)
theorem d_4066_116 {σ : Nat → Nat} {n0 : Nat} {bf : ab_B} : decode (ab_code (zx σ n0 bf).1 4066) 116 = .ok (.iconst 5, 1) := zd zm_4066 (by decide +kernel)
theorem d_4066_117 {σ : Nat → Nat} {n0 : Nat} {bf : ab_B} : decode (ab_code (zx σ n0 bf).1 4066) 117 = .ok (.invokevirtual 25, 3) := zd zm_4066 (by decide +kernel)
theorem d_4066_120 {σ : Nat → Nat} {n0 : Nat} {bf : ab_B} : decode (ab_code (zx σ n0 bf).1 4066) 120 = .ok (.athrow, 1) := zd zm_4066 (by decide +kernel)
theorem d_4066_121 {σ : Nat → Nat} {n0 : Nat} {bf : ab_B} : decode (ab_code (zx σ n0 bf).1 4066) 121 = .ok (.iload 5, 2) := zd zm_4066 (by decide +kernel)
theorem d_4066_123 {σ : Nat → Nat} {n0 : Nat} {bf : ab_B} : decode (ab_code (zx σ n0 bf).1 4066) 123 = .ok (.ifCond .ne 9, 3) := zd zm_4066 (by decide +kernel)
theorem d_4066_126 {σ : Nat → Nat} {n0 : Nat} {bf : ab_B} : decode (ab_code (zx σ n0 bf).1 4066) 126 = .ok (.aload 7, 2) := zd zm_4066 (by decide +kernel)
theorem d_4066_128 {σ : Nat → Nat} {n0 : Nat} {bf : ab_B} : decode (ab_code (zx σ n0 bf).1 4066) 128 = .ok (.astore_n 3, 1) := zd zm_4066 (by decide +kernel)
theorem d_4066_129 {σ : Nat → Nat} {n0 : Nat} {bf : ab_B} : decode (ab_code (zx σ n0 bf).1 4066) 129 = .ok (.goto 10, 3) := zd zm_4066 (by decide +kernel)
theorem d_4066_132 {σ : Nat → Nat} {n0 : Nat} {bf : ab_B} : decode (ab_code (zx σ n0 bf).1 4066) 132 = .ok (.aload 4, 2) := zd zm_4066 (by decide +kernel)
theorem d_4066_134 {σ : Nat → Nat} {n0 : Nat} {bf : ab_B} : decode (ab_code (zx σ n0 bf).1 4066) 134 = .ok (.aload 7, 2) := zd zm_4066 (by decide +kernel)
theorem d_4066_136 {σ : Nat → Nat} {n0 : Nat} {bf : ab_B} : decode (ab_code (zx σ n0 bf).1 4066) 136 = .ok (.putfield 487, 3) := zd zm_4066 (by decide +kernel)
theorem d_4066_139 {σ : Nat → Nat} {n0 : Nat} {bf : ab_B} : decode (ab_code (zx σ n0 bf).1 4066) 139 = .ok (.aload 7, 2) := zd zm_4066 (by decide +kernel)
theorem d_4066_141 {σ : Nat → Nat} {n0 : Nat} {bf : ab_B} : decode (ab_code (zx σ n0 bf).1 4066) 141 = .ok (.astore 4, 2) := zd zm_4066 (by decide +kernel)
theorem d_4066_143 {σ : Nat → Nat} {n0 : Nat} {bf : ab_B} : decode (ab_code (zx σ n0 bf).1 4066) 143 = .ok (.aload_n 0, 1) := zd zm_4066 (by decide +kernel)
theorem d_4066_144 {σ : Nat → Nat} {n0 : Nat} {bf : ab_B} : decode (ab_code (zx σ n0 bf).1 4066) 144 = .ok (.getfield 5, 3) := zd zm_4066 (by decide +kernel)
theorem d_4066_147 {σ : Nat → Nat} {n0 : Nat} {bf : ab_B} : decode (ab_code (zx σ n0 bf).1 4066) 147 = .ok (.iload 5, 2) := zd zm_4066 (by decide +kernel)
theorem d_4066_149 {σ : Nat → Nat} {n0 : Nat} {bf : ab_B} : decode (ab_code (zx σ n0 bf).1 4066) 149 = .ok (.iconst 1, 1) := zd zm_4066 (by decide +kernel)
theorem d_4066_150 {σ : Nat → Nat} {n0 : Nat} {bf : ab_B} : decode (ab_code (zx σ n0 bf).1 4066) 150 = .ok (.iadd, 1) := zd zm_4066 (by decide +kernel)
theorem d_4066_151 {σ : Nat → Nat} {n0 : Nat} {bf : ab_B} : decode (ab_code (zx σ n0 bf).1 4066) 151 = .ok (.aload_n 1, 1) := zd zm_4066 (by decide +kernel)
theorem d_4066_152 {σ : Nat → Nat} {n0 : Nat} {bf : ab_B} : decode (ab_code (zx σ n0 bf).1 4066) 152 = .ok (.getfield 323, 3) := zd zm_4066 (by decide +kernel)
theorem d_4066_155 {σ : Nat → Nat} {n0 : Nat} {bf : ab_B} : decode (ab_code (zx σ n0 bf).1 4066) 155 = .ok (.invokevirtual 50, 3) := zd zm_4066 (by decide +kernel)
theorem d_4066_158 {σ : Nat → Nat} {n0 : Nat} {bf : ab_B} : decode (ab_code (zx σ n0 bf).1 4066) 158 = .ok (.if_icmp .ne 8, 3) := zd zm_4066 (by decide +kernel)
theorem d_4066_161 {σ : Nat → Nat} {n0 : Nat} {bf : ab_B} : decode (ab_code (zx σ n0 bf).1 4066) 161 = .ok (.bipush 41, 2) := zd zm_4066 (by decide +kernel)
theorem d_4066_163 {σ : Nat → Nat} {n0 : Nat} {bf : ab_B} : decode (ab_code (zx σ n0 bf).1 4066) 163 = .ok (.goto 5, 3) := zd zm_4066 (by decide +kernel)
theorem d_4066_166 {σ : Nat → Nat} {n0 : Nat} {bf : ab_B} : decode (ab_code (zx σ n0 bf).1 4066) 166 = .ok (.bipush 44, 2) := zd zm_4066 (by decide +kernel)
theorem d_4066_168 {σ : Nat → Nat} {n0 : Nat} {bf : ab_B} : decode (ab_code (zx σ n0 bf).1 4066) 168 = .ok (.invokevirtual 21, 3) := zd zm_4066 (by decide +kernel)
theorem d_4066_171 {σ : Nat → Nat} {n0 : Nat} {bf : ab_B} : decode (ab_code (zx σ n0 bf).1 4066) 171 = .ok (.ifCond .ne 37, 3) := zd zm_4066 (by decide +kernel)
theorem d_4066_174 {σ : Nat → Nat} {n0 : Nat} {bf : ab_B} : decode (ab_code (zx σ n0 bf).1 4066) 174 = .ok (.aload_n 0, 1) := zd zm_4066 (by decide +kernel)
theorem d_4066_175 {σ : Nat → Nat} {n0 : Nat} {bf : ab_B} : decode (ab_code (zx σ n0 bf).1 4066) 175 = .ok (.aload_n 0, 1) := zd zm_4066 (by decide +kernel)
theorem d_4066_176 {σ : Nat → Nat} {n0 : Nat} {bf : ab_B} : decode (ab_code (zx σ n0 bf).1 4066) 176 = .ok (.getfield 5, 3) := zd zm_4066 (by decide +kernel)
theorem d_4066_179 {σ : Nat → Nat} {n0 : Nat} {bf : ab_B} : decode (ab_code (zx σ n0 bf).1 4066) 179 = .ok (.bipush 44, 2) := zd zm_4066 (by decide +kernel)
theorem d_4066_181 {σ : Nat → Nat} {n0 : Nat} {bf : ab_B} : decode (ab_code (zx σ n0 bf).1 4066) 181 = .ok (.invokevirtual 21, 3) := zd zm_4066 (by decide +kernel)
theorem d_4066_184 {σ : Nat → Nat} {n0 : Nat} {bf : ab_B} : decode (ab_code (zx σ n0 bf).1 4066) 184 = .ok (.ifCond .ne 15, 3) := zd zm_4066 (by decide +kernel)
theorem d_4066_187 {σ : Nat → Nat} {n0 : Nat} {bf : ab_B} : decode (ab_code (zx σ n0 bf).1 4066) 187 = .ok (.aload_n 0, 1) := zd zm_4066 (by decide +kernel)
theorem d_4066_188 {σ : Nat → Nat} {n0 : Nat} {bf : ab_B} : decode (ab_code (zx σ n0 bf).1 4066) 188 = .ok (.getfield 5, 3) := zd zm_4066 (by decide +kernel)
theorem d_4066_191 {σ : Nat → Nat} {n0 : Nat} {bf : ab_B} : decode (ab_code (zx σ n0 bf).1 4066) 191 = .ok (.bipush 41, 2) := zd zm_4066 (by decide +kernel)
theorem d_4066_193 {σ : Nat → Nat} {n0 : Nat} {bf : ab_B} : decode (ab_code (zx σ n0 bf).1 4066) 193 = .ok (.invokevirtual 21, 3) := zd zm_4066 (by decide +kernel)
theorem d_4066_196 {σ : Nat → Nat} {n0 : Nat} {bf : ab_B} : decode (ab_code (zx σ n0 bf).1 4066) 196 = .ok (.ifCond .eq 7, 3) := zd zm_4066 (by decide +kernel)
theorem d_4066_199 {σ : Nat → Nat} {n0 : Nat} {bf : ab_B} : decode (ab_code (zx σ n0 bf).1 4066) 199 = .ok (.iconst 5, 1) := zd zm_4066 (by decide +kernel)
theorem d_4066_200 {σ : Nat → Nat} {n0 : Nat} {bf : ab_B} : decode (ab_code (zx σ n0 bf).1 4066) 200 = .ok (.goto 4, 3) := zd zm_4066 (by decide +kernel)
theorem d_4066_203 {σ : Nat → Nat} {n0 : Nat} {bf : ab_B} : decode (ab_code (zx σ n0 bf).1 4066) 203 = .ok (.iconst 2, 1) := zd zm_4066 (by decide +kernel)
theorem d_4066_204 {σ : Nat → Nat} {n0 : Nat} {bf : ab_B} : decode (ab_code (zx σ n0 bf).1 4066) 204 = .ok (.invokevirtual 25, 3) := zd zm_4066 (by decide +kernel)
theorem d_4066_207 {σ : Nat → Nat} {n0 : Nat} {bf : ab_B} : decode (ab_code (zx σ n0 bf).1 4066) 207 = .ok (.athrow, 1) := zd zm_4066 (by decide +kernel)
theorem d_4066_208 {σ : Nat → Nat} {n0 : Nat} {bf : ab_B} : decode (ab_code (zx σ n0 bf).1 4066) 208 = .ok (.iinc 5 1, 3) := zd zm_4066 (by decide +kernel)
theorem d_4066_211 {σ : Nat → Nat} {n0 : Nat} {bf : ab_B} : decode (ab_code (zx σ n0 bf).1 4066) 211 = .ok (.goto (-203), 3) := zd zm_4066 (by decide +kernel)
theorem d_4066_214 {σ : Nat → Nat} {n0 : Nat} {bf : ab_B} : decode (ab_code (zx σ n0 bf).1 4066) 214 = .ok (.aload_n 0, 1) := zd zm_4066 (by decide +kernel)
theorem d_4066_215 {σ : Nat → Nat} {n0 : Nat} {bf : ab_B} : decode (ab_code (zx σ n0 bf).1 4066) 215 = .ok (.getfield 5, 3) := zd zm_4066 (by decide +kernel)
theorem d_4066_218 {σ : Nat → Nat} {n0 : Nat} {bf : ab_B} : decode (ab_code (zx σ n0 bf).1 4066) 218 = .ok (.invokevirtual 29, 3) := zd zm_4066 (by decide +kernel)
theorem d_4066_221 {σ : Nat → Nat} {n0 : Nat} {bf : ab_B} : decode (ab_code (zx σ n0 bf).1 4066) 221 = .ok (.aload_n 3, 1) := zd zm_4066 (by decide +kernel)
theorem d_4066_222 {σ : Nat → Nat} {n0 : Nat} {bf : ab_B} : decode (ab_code (zx σ n0 bf).1 4066) 222 = .ok (.areturn, 1) := zd zm_4066 (by decide +kernel)
def w_X5_valuesOf_204 (X : zs_X) (d : Nat) (q0 : Option Nat) (q1 : Int32) (S : zs_T) (Q : zs_Q) : Prop :=
  (∃ b1, q0 = some b1 ∧ zs_K S b1 = some (.inl 4) ∧ zs_C X d 4006 [.ref b1, .int q1] S (zs_kR (fun v5 S4 => (∃ b6, v5 = some b6 ∧ Q (.threw b6) S4)) Q))
theorem u_X5_valuesOf_204 {σ : Nat → Nat} {n0 : Nat} {bf : ab_B} {d : Nat} {q0 : Option Nat} {q1 : Int32} {S : zs_T} {Q : zs_Q} (hB : zt_B bf) (h : w_X5_valuesOf_204 (zx σ n0 bf) d q0 q1 S Q) : zs_U (zx σ n0 bf) d 4066 204 [] [.int q1, va_rf q0] S Q := by
  unfold w_X5_valuesOf_204 at h
  obtain ⟨b1, e2, h⟩ := h
  refine zs_stk1 (zs_rfe e2) ?_
  obtain ⟨k3, h⟩ := h
  refine zc_4_25 (x0 := q1) hB rfl k3 d_4066_204 (Nat.le_of_ble_eq_true rfl) h (fun v5 S4 h => ?_)
  obtain ⟨b6, e7, h⟩ := h
  refine zs_stk0 (zs_rfe e7) ?_
  exact zu_throw d_4066_207 h
def w_X5_valuesOf_199 (X : zs_X) (d : Nat) (q0 : Option Nat) (S : zs_T) (Q : zs_Q) : Prop :=
  (w_X5_valuesOf_204 X d q0 (5 : Int32) S Q)
theorem u_X5_valuesOf_199 {σ : Nat → Nat} {n0 : Nat} {bf : ab_B} {d : Nat} {q0 : Option Nat} {S : zs_T} {Q : zs_Q} (hB : zt_B bf) (h : w_X5_valuesOf_199 (zx σ n0 bf) d q0 S Q) : zs_U (zx σ n0 bf) d 4066 199 [] [va_rf q0] S Q := by
  unfold w_X5_valuesOf_199 at h
  refine zu_iconst d_4066_199 zi_5 ?_
  refine zu_goto (t := 204) d_4066_200 rfl ?_
  exact (u_X5_valuesOf_204 hB h).weak trivial
def w_X5_valuesOf_168 (X : zs_X) (d : Nat) (p0 : Nat) (p1 : Option Nat) (p2 : Int32) (p3 : Option Nat) (p4 : Option Nat) (p5 : Int32) (q0 : Option Nat) (q1 : Int32) (S : zs_T) (Q : zs_Q) : Prop :=
  (∃ b1, q0 = some b1 ∧ zs_K S b1 = some (.inl 5) ∧ zs_C X d 5017 [.ref b1, .int q1] S (zs_kI (fun v5 S4 => (((¬ v5 = 0 → (zs_U X d 4066 8 [(0, .ref p0), (1, va_rf p1), (2, .int p2), (3, va_rf p3), (4, va_rf p4), (5, .int (p5 + (1 : Int32)))] [] S4 Q)) ∧ (¬ (¬ v5 = 0) → (zs_K S4 p0 = some (.inl 4) ∧ ∃ b8, (zs_R S4 4000 p0) = some b8 ∧ zs_K S4 b8 = some (.inl 5) ∧ zs_C X d 5017 [.ref b8, .int (44 : Int32)] S4 (zs_kI (fun v12 S11 => (((¬ v12 = 0 → w_X5_valuesOf_199 X d (some p0) S11 Q) ∧ (¬ (¬ v12 = 0) → (zs_K S11 p0 = some (.inl 4) ∧ ∃ b15, (zs_R S11 4000 p0) = some b15 ∧ zs_K S11 b15 = some (.inl 5) ∧ zs_C X d 5017 [.ref b15, .int (41 : Int32)] S11 (zs_kI (fun v19 S18 => (((v19 = 0 → (w_X5_valuesOf_204 X d (some p0) (2 : Int32) S18 Q)) ∧ (¬ (v19 = 0) → w_X5_valuesOf_199 X d (some p0) S18 Q)))) Q)))))) Q)))))) Q))
theorem u_X5_valuesOf_168 {σ : Nat → Nat} {n0 : Nat} {bf : ab_B} {d : Nat} {p0 : Nat} {p1 : Option Nat} {p2 : Int32} {p3 : Option Nat} {p4 : Option Nat} {p5 : Int32} {q0 : Option Nat} {q1 : Int32} {S : zs_T} {Q : zs_Q} (hB : zt_B bf) (h : w_X5_valuesOf_168 (zx σ n0 bf) d p0 p1 p2 p3 p4 p5 q0 q1 S Q) : zs_U (zx σ n0 bf) d 4066 168 [(0, .ref p0), (1, va_rf p1), (2, .int p2), (3, va_rf p3), (4, va_rf p4), (5, .int p5)] [.int q1, va_rf q0] S Q := by
  unfold w_X5_valuesOf_168 at h
  obtain ⟨b1, e2, h⟩ := h
  refine zs_stk1 (zs_rfe e2) ?_
  obtain ⟨k3, h⟩ := h
  refine zc_4_21 (x0 := q1) hB rfl k3 d_4066_168 (Nat.le_of_ble_eq_true rfl) h (fun v5 S4 h => ?_)
  refine zu_ifne (t := 208) d_4066_171 rfl (fun c6 => ?_) (fun c6 => ?_)
  · have h := h.1 c6
    refine zu_iinc d_4066_208 rfl zi_1 (zs_lt zq_4066 rfl) ?_
    refine zs_U.weak (L1 := [(5, .int (p5 + (1 : Int32))), (0, .ref p0), (1, va_rf p1), (2, .int p2), (3, va_rf p3), (4, va_rf p4)]) ?_ ⟨rfl, zs_gp1 rfl (Or.inl rfl) rfl, zs_gp1 rfl (Or.inl (zs_cat _)) rfl, zs_gp1 rfl (Or.inl rfl) rfl, zs_gp1 rfl (Or.inl (zs_cat _)) rfl, zs_gp1 rfl (Or.inl (zs_cat _)) rfl, trivial⟩
    refine zu_goto (t := 8) d_4066_211 rfl ?_
    exact h.weak ⟨rfl, rfl, rfl, rfl, rfl, rfl, trivial⟩
  · have h := h.2 c6
    refine zu_aload_n d_4066_174 rfl (zs_ra _) ?_
    refine zu_aload_n d_4066_175 rfl (zs_ra _) ?_
    obtain ⟨k7, h⟩ := h
    refine zg_4_5 rfl d_4066_176 k7 ?_
    refine zu_bipush d_4066_179 zj_44 ?_
    obtain ⟨b8, e9, h⟩ := h
    refine zs_stk1 (zs_rfe e9) ?_
    obtain ⟨k10, h⟩ := h
    refine zc_4_21 (x0 := (44 : Int32)) hB rfl k10 d_4066_181 (Nat.le_of_ble_eq_true rfl) h (fun v12 S11 h => ?_)
    refine zu_ifne (t := 199) d_4066_184 rfl (fun c13 => ?_) (fun c13 => ?_)
    · have h := h.1 c13
      exact (u_X5_valuesOf_199 hB h).weak trivial
    · have h := h.2 c13
      refine zu_aload_n d_4066_187 rfl (zs_ra _) ?_
      obtain ⟨k14, h⟩ := h
      refine zg_4_5 rfl d_4066_188 k14 ?_
      refine zu_bipush d_4066_191 zj_41 ?_
      obtain ⟨b15, e16, h⟩ := h
      refine zs_stk1 (zs_rfe e16) ?_
      obtain ⟨k17, h⟩ := h
      refine zc_4_21 (x0 := (41 : Int32)) hB rfl k17 d_4066_193 (Nat.le_of_ble_eq_true rfl) h (fun v19 S18 h => ?_)
      refine zu_ifeq (t := 203) d_4066_196 rfl (fun c20 => ?_) (fun c20 => ?_)
      · have h := h.1 c20
        refine zu_iconst d_4066_203 zi_2 ?_
        exact (u_X5_valuesOf_204 hB h).weak trivial
      · have h := h.2 c20
        exact (u_X5_valuesOf_199 hB h).weak trivial
def w_X5_valuesOf_139 (X : zs_X) (d : Nat) (p0 : Nat) (p1 : Option Nat) (p2 : Int32) (p3 : Option Nat) (p5 : Int32) (p7 : Option Nat) (S : zs_T) (Q : zs_Q) : Prop :=
  (zs_K S p0 = some (.inl 4) ∧ ∃ b2, p1 = some b2 ∧ zs_K S b2 = some (.inl 6) ∧ ∃ b5, (zs_R S 6007 b2) = some b5 ∧ zs_K S b5 = some (.inl 16) ∧ zs_C X d 16001 [.ref b5] S (zs_kI (fun v9 S8 => (((¬ (p5 + (1 : Int32)) = v9 → (w_X5_valuesOf_168 X d p0 p1 p2 p3 p7 p5 (zs_R S 4000 p0) (44 : Int32) S8 Q)) ∧ (¬ (¬ (p5 + (1 : Int32)) = v9) → (w_X5_valuesOf_168 X d p0 p1 p2 p3 p7 p5 (zs_R S 4000 p0) (41 : Int32) S8 Q))))) Q))
theorem u_X5_valuesOf_139 {σ : Nat → Nat} {n0 : Nat} {bf : ab_B} {d : Nat} {p0 : Nat} {p1 : Option Nat} {p2 : Int32} {p3 : Option Nat} {p5 : Int32} {p7 : Option Nat} {S : zs_T} {Q : zs_Q} (hB : zt_B bf) (h : w_X5_valuesOf_139 (zx σ n0 bf) d p0 p1 p2 p3 p5 p7 S Q) : zs_U (zx σ n0 bf) d 4066 139 [(0, .ref p0), (1, va_rf p1), (2, .int p2), (3, va_rf p3), (5, .int p5), (7, va_rf p7)] [] S Q := by
  unfold w_X5_valuesOf_139 at h
  refine zu_aload d_4066_139 rfl (zs_rr _) ?_
  refine zu_astore d_4066_141 (zs_rr _) (zs_lt zq_4066 rfl) ?_
  refine zs_U.weak (L1 := [(4, va_rf p7), (0, .ref p0), (1, va_rf p1), (2, .int p2), (3, va_rf p3), (5, .int p5), (7, va_rf p7)]) ?_ ⟨rfl, zs_gp1 rfl (Or.inl rfl) rfl, zs_gp1 rfl (Or.inl (zs_cat _)) rfl, zs_gp1 rfl (Or.inl rfl) rfl, zs_gp1 rfl (Or.inl (zs_cat _)) rfl, zs_gp1 rfl (Or.inl rfl) rfl, zs_gp1 rfl (Or.inl (zs_cat _)) rfl, trivial⟩
  refine zu_aload_n d_4066_143 rfl (zs_ra _) ?_
  obtain ⟨k1, h⟩ := h
  refine zg_4_5 rfl d_4066_144 k1 ?_
  refine zu_iload d_4066_147 rfl ?_
  refine zu_iconst d_4066_149 zi_1 ?_
  refine zu_stk d_4066_150 rfl rfl ?_
  refine zu_aload_n d_4066_151 rfl (zs_rr _) ?_
  obtain ⟨b2, e3, h⟩ := h
  refine zs_stk0 (zs_rfe e3) ?_
  obtain ⟨k4, h⟩ := h
  refine zg_4_323 rfl d_4066_152 k4 ?_
  obtain ⟨b5, e6, h⟩ := h
  refine zs_stk0 (zs_rfe e6) ?_
  obtain ⟨k7, h⟩ := h
  refine zc_4_50  hB rfl k7 d_4066_155 (by simp only [List.map_cons, List.map_nil, List.sum_cons, List.sum_nil, zs_cat, zs_cI, zs_cJ, zs_cA]; exact Nat.le_of_ble_eq_true rfl) h (fun v9 S8 h => ?_)
  refine zu_cmpne (t := 166) d_4066_158 rfl (fun c10 => ?_) (fun c10 => ?_)
  · have h := h.1 c10
    refine zu_bipush d_4066_166 zj_44 ?_
    exact (u_X5_valuesOf_168 hB h).weak ⟨rfl, rfl, rfl, rfl, rfl, rfl, trivial⟩
  · have h := h.2 c10
    refine zu_bipush d_4066_161 zj_41 ?_
    refine zu_goto (t := 168) d_4066_163 rfl ?_
    exact (u_X5_valuesOf_168 hB h).weak ⟨rfl, rfl, rfl, rfl, rfl, rfl, trivial⟩
def w_X5_valuesOf_102 (X : zs_X) (d : Nat) (p0 : Nat) (p1 : Option Nat) (p2 : Int32) (p3 : Option Nat) (p4 : Option Nat) (p5 : Int32) (p6 : Option Nat) (p7 : Option Nat) (S : zs_T) (Q : zs_Q) : Prop :=
  (∃ b1, p7 = some b1 ∧ zs_K S b1 = some (.inl 11) ∧ ∃ b4, (zs_R S 11002 b1) = some b4 ∧ zs_K S b4 = some (.inl 6) ∧ zs_C X d 6001 [.ref b4] S (zs_kR (fun v8 S7 => (((v8 = p6 → (((¬ p5 = 0 → (∃ b11, p4 = some b11 ∧ zs_K S7 b11 = some (.inl 11) ∧ ab_n0 X.1 ≤ b11 ∧ ∀ S15, S15 = zs_sR S7 11007 b11 p7 → w_X5_valuesOf_139 X d p0 p1 p2 p3 p5 p7 S15 Q)) ∧ (¬ (¬ p5 = 0) → (w_X5_valuesOf_139 X d p0 p1 p2 p7 p5 p7 S7 Q))))) ∧ (¬ (v8 = p6) → (zs_K S7 p0 = some (.inl 4) ∧ zs_C X d 4006 [.ref p0, .int (5 : Int32)] S7 (zs_kR (fun v20 S19 => (∃ b21, v20 = some b21 ∧ Q (.threw b21) S19)) Q)))))) Q))
theorem u_X5_valuesOf_102 {σ : Nat → Nat} {n0 : Nat} {bf : ab_B} {d : Nat} {p0 : Nat} {p1 : Option Nat} {p2 : Int32} {p3 : Option Nat} {p4 : Option Nat} {p5 : Int32} {p6 : Option Nat} {p7 : Option Nat} {S : zs_T} {Q : zs_Q} (hB : zt_B bf) (h : w_X5_valuesOf_102 (zx σ n0 bf) d p0 p1 p2 p3 p4 p5 p6 p7 S Q) : zs_U (zx σ n0 bf) d 4066 102 [(0, .ref p0), (1, va_rf p1), (2, .int p2), (3, va_rf p3), (4, va_rf p4), (5, .int p5), (6, va_rf p6), (7, va_rf p7)] [] S Q := by
  unfold w_X5_valuesOf_102 at h
  refine zu_aload d_4066_102 rfl (zs_rr _) ?_
  obtain ⟨b1, e2, h⟩ := h
  refine zs_stk0 (zs_rfe e2) ?_
  obtain ⟨k3, h⟩ := h
  refine zg_4_297 rfl d_4066_104 k3 ?_
  obtain ⟨b4, e5, h⟩ := h
  refine zs_stk0 (zs_rfe e5) ?_
  obtain ⟨k6, h⟩ := h
  refine zc_4_450  hB rfl k6 d_4066_107 (Nat.le_of_ble_eq_true rfl) h (fun v8 S7 h => ?_)
  refine zu_aload d_4066_110 rfl (zs_rr _) ?_
  refine zu_acmpeq (u := v8) (w := p6) (t := 121) d_4066_112 rfl rfl rfl (fun c9 => ?_) (fun c9 => ?_)
  · have h := h.1 c9
    refine zu_iload d_4066_121 rfl ?_
    refine zu_ifne (t := 132) d_4066_123 rfl (fun c10 => ?_) (fun c10 => ?_)
    · have h := h.1 c10
      refine zu_aload d_4066_132 rfl (zs_rr _) ?_
      refine zu_aload d_4066_134 rfl (zs_rr _) ?_
      obtain ⟨b11, e12, h⟩ := h
      refine zs_stk1 (zs_rfe e12) ?_
      obtain ⟨k13, h⟩ := h
      obtain ⟨k14, h⟩ := h
      refine zp_4_487 (v := p7) rfl d_4066_136 k13 k14 ?_
      generalize e16 : zs_sR S7 11007 b11 p7 = S15
      have h := h S15 e16.symm
      have K17 : ∀ b, zs_K S15 b = zs_K S7 b := zs_Kt e16 (zs_KsR _ _ _ _) (fun _ => rfl)
      exact (u_X5_valuesOf_139 hB h).weak ⟨rfl, rfl, rfl, rfl, rfl, rfl, trivial⟩
    · have h := h.2 c10
      refine zu_aload d_4066_126 rfl (zs_rr _) ?_
      refine zu_astore_n d_4066_128 (zs_rr _) (zs_lt zq_4066 rfl) ?_
      refine zu_goto (t := 139) d_4066_129 rfl ?_
      exact (u_X5_valuesOf_139 hB h).weak ⟨rfl, rfl, rfl, rfl, rfl, rfl, trivial⟩
  · have h := h.2 c9
    refine zu_aload_n d_4066_115 rfl (zs_ra _) ?_
    refine zu_iconst d_4066_116 zi_5 ?_
    obtain ⟨k18, h⟩ := h
    refine zc_4_25 (x0 := (5 : Int32)) hB rfl k18 d_4066_117 (Nat.le_of_ble_eq_true rfl) h (fun v20 S19 h => ?_)
    obtain ⟨b21, e22, h⟩ := h
    refine zs_stk0 (zs_rfe e22) ?_
    exact zu_throw d_4066_120 h
def w_X5_valuesOf_64 (X : zs_X) (d : Nat) (p0 : Nat) (p1 : Option Nat) (p2 : Int32) (p3 : Option Nat) (p4 : Option Nat) (p5 : Int32) (p6 : Option Nat) (q0 : Option Nat) (S : zs_T) (Q : zs_Q) : Prop :=
  (∃ b1, q0 = some b1 ∧ zs_K S b1 = some (.inl 11) ∧ ∃ b4, (zs_R S 11002 b1) = some b4 ∧ zs_K S b4 = some (.inl 6) ∧ zs_C X d 6002 [.ref b4] S (zs_kI (fun v8 S7 => (((¬ v8 = 0 → (((¬ p2 = 0 → w_X5_valuesOf_102 X d p0 p1 p2 p3 p4 p5 p6 q0 S7 Q) ∧ (¬ (¬ p2 = 0) → (zs_C X d 4039 [va_rf q0] S7 (zs_kI (fun v12 S11 => (((v12 = 0 → w_X5_valuesOf_102 X d p0 p1 p2 p3 p4 p5 p6 q0 S11 Q) ∧ (¬ (v12 = 0) → (zs_K S11 p0 = some (.inl 4) ∧ zs_C X d 4057 [.ref p0, va_rf q0] S11 (zs_kJ (fun v16 S15 => (w_X5_valuesOf_102 X d p0 p1 p2 p3 p4 p5 p6 q0 S15 Q)) Q)))))) Q)))))) ∧ (¬ (¬ v8 = 0) → (zs_K S7 p0 = some (.inl 4) ∧ zs_C X d 4006 [.ref p0, .int (5 : Int32)] S7 (zs_kR (fun v19 S18 => (∃ b20, v19 = some b20 ∧ Q (.threw b20) S18)) Q)))))) Q))
theorem u_X5_valuesOf_64 {σ : Nat → Nat} {n0 : Nat} {bf : ab_B} {d : Nat} {p0 : Nat} {p1 : Option Nat} {p2 : Int32} {p3 : Option Nat} {p4 : Option Nat} {p5 : Int32} {p6 : Option Nat} {q0 : Option Nat} {S : zs_T} {Q : zs_Q} (hB : zt_B bf) (h : w_X5_valuesOf_64 (zx σ n0 bf) d p0 p1 p2 p3 p4 p5 p6 q0 S Q) : zs_U (zx σ n0 bf) d 4066 64 [(0, .ref p0), (1, va_rf p1), (2, .int p2), (3, va_rf p3), (4, va_rf p4), (5, .int p5), (6, va_rf p6)] [va_rf q0] S Q := by
  unfold w_X5_valuesOf_64 at h
  refine zu_astore d_4066_64 (zs_rr _) (zs_lt zq_4066 rfl) ?_
  refine zs_U.weak (L1 := [(7, va_rf q0), (0, .ref p0), (1, va_rf p1), (2, .int p2), (3, va_rf p3), (4, va_rf p4), (5, .int p5), (6, va_rf p6)]) ?_ ⟨rfl, zs_gp1 rfl (Or.inl rfl) rfl, zs_gp1 rfl (Or.inl (zs_cat _)) rfl, zs_gp1 rfl (Or.inl rfl) rfl, zs_gp1 rfl (Or.inl (zs_cat _)) rfl, zs_gp1 rfl (Or.inl (zs_cat _)) rfl, zs_gp1 rfl (Or.inl rfl) rfl, zs_gp1 rfl (Or.inl (zs_cat _)) rfl, trivial⟩
  refine zu_aload d_4066_66 rfl (zs_rr _) ?_
  obtain ⟨b1, e2, h⟩ := h
  refine zs_stk0 (zs_rfe e2) ?_
  obtain ⟨k3, h⟩ := h
  refine zg_4_297 rfl d_4066_68 k3 ?_
  obtain ⟨b4, e5, h⟩ := h
  refine zs_stk0 (zs_rfe e5) ?_
  obtain ⟨k6, h⟩ := h
  refine zc_4_335  hB rfl k6 d_4066_71 (Nat.le_of_ble_eq_true rfl) h (fun v8 S7 h => ?_)
  refine zu_ifne (t := 83) d_4066_74 rfl (fun c9 => ?_) (fun c9 => ?_)
  · have h := h.1 c9
    refine zu_iload_n d_4066_83 rfl ?_
    refine zu_ifne (t := 102) d_4066_84 rfl (fun c10 => ?_) (fun c10 => ?_)
    · have h := h.1 c10
      exact (u_X5_valuesOf_102 hB h).weak ⟨rfl, rfl, rfl, rfl, rfl, rfl, rfl, rfl, trivial⟩
    · have h := h.2 c10
      refine zu_aload d_4066_87 rfl (zs_rr _) ?_
      refine zc_4_459 (x0 := q0) hB rfl d_4066_89 (Nat.le_of_ble_eq_true rfl) h (fun v12 S11 h => ?_)
      refine zu_ifeq (t := 102) d_4066_92 rfl (fun c13 => ?_) (fun c13 => ?_)
      · have h := h.1 c13
        exact (u_X5_valuesOf_102 hB h).weak ⟨rfl, rfl, rfl, rfl, rfl, rfl, rfl, rfl, trivial⟩
      · have h := h.2 c13
        refine zu_aload_n d_4066_95 rfl (zs_ra _) ?_
        refine zu_aload d_4066_96 rfl (zs_rr _) ?_
        obtain ⟨k14, h⟩ := h
        refine zc_4_465 (x0 := q0) hB rfl k14 d_4066_98 (Nat.le_of_ble_eq_true rfl) h (fun v16 S15 h => ?_)
        refine zu_pop2 d_4066_101 rfl ?_
        exact (u_X5_valuesOf_102 hB h).weak ⟨rfl, rfl, rfl, rfl, rfl, rfl, rfl, rfl, trivial⟩
  · have h := h.2 c9
    refine zu_aload_n d_4066_77 rfl (zs_ra _) ?_
    refine zu_iconst d_4066_78 zi_5 ?_
    obtain ⟨k17, h⟩ := h
    refine zc_4_25 (x0 := (5 : Int32)) hB rfl k17 d_4066_79 (Nat.le_of_ble_eq_true rfl) h (fun v19 S18 h => ?_)
    obtain ⟨b20, e21, h⟩ := h
    refine zs_stk0 (zs_rfe e21) ?_
    exact zu_throw d_4066_82 h
def w_X5_valuesOf_47 (X : zs_X) (d : Nat) (p0 : Nat) (p1 : Option Nat) (p2 : Int32) (p3 : Option Nat) (p4 : Option Nat) (p5 : Int32) (p6 : Option Nat) (S : zs_T) (Q : zs_Q) : Prop :=
  (((p2 = 0 → (zs_K S p0 = some (.inl 4) ∧ zs_C X d 4015 [.ref p0] S (zs_kR (fun v4 S3 => w_X5_valuesOf_64 X d p0 p1 p2 p3 p4 p5 p6 v4 S3 Q) Q))) ∧ (¬ (p2 = 0) → (zs_K S p0 = some (.inl 4) ∧ zs_C X d 4067 [.ref p0, va_rf p6] S (zs_kR (fun v7 S6 => (w_X5_valuesOf_64 X d p0 p1 p2 p3 p4 p5 p6 v7 S6 Q)) Q)))))
theorem u_X5_valuesOf_47 {σ : Nat → Nat} {n0 : Nat} {bf : ab_B} {d : Nat} {p0 : Nat} {p1 : Option Nat} {p2 : Int32} {p3 : Option Nat} {p4 : Option Nat} {p5 : Int32} {p6 : Option Nat} {S : zs_T} {Q : zs_Q} (hB : zt_B bf) (h : w_X5_valuesOf_47 (zx σ n0 bf) d p0 p1 p2 p3 p4 p5 p6 S Q) : zs_U (zx σ n0 bf) d 4066 47 [(0, .ref p0), (1, va_rf p1), (2, .int p2), (3, va_rf p3), (4, va_rf p4), (5, .int p5), (6, va_rf p6)] [] S Q := by
  unfold w_X5_valuesOf_47 at h
  refine zu_iload_n d_4066_47 rfl ?_
  refine zu_ifeq (t := 60) d_4066_48 rfl (fun c1 => ?_) (fun c1 => ?_)
  · have h := h.1 c1
    refine zu_aload_n d_4066_60 rfl (zs_ra _) ?_
    obtain ⟨k2, h⟩ := h
    refine zc_4_456  hB rfl k2 d_4066_61 (Nat.le_of_ble_eq_true rfl) h (fun v4 S3 h => ?_)
    exact (u_X5_valuesOf_64 hB h).weak ⟨rfl, rfl, rfl, rfl, rfl, rfl, rfl, trivial⟩
  · have h := h.2 c1
    refine zu_aload_n d_4066_51 rfl (zs_ra _) ?_
    refine zu_aload d_4066_52 rfl (zs_rr _) ?_
    obtain ⟨k5, h⟩ := h
    refine zc_4_442 (x0 := p6) hB rfl k5 d_4066_54 (Nat.le_of_ble_eq_true rfl) h (fun v7 S6 h => ?_)
    refine zu_goto (t := 64) d_4066_57 rfl ?_
    exact (u_X5_valuesOf_64 hB h).weak ⟨rfl, rfl, rfl, rfl, rfl, rfl, rfl, trivial⟩
def w_X5_valuesOf_8 (X : zs_X) (d : Nat) (p0 : Nat) (p1 : Option Nat) (p2 : Int32) (p3 : Option Nat) (p4 : Option Nat) (p5 : Int32) (S : zs_T) (Q : zs_Q) : Prop :=
  (∃ b1, p1 = some b1 ∧ zs_K S b1 = some (.inl 6) ∧ ∃ b4, (zs_R S 6007 b1) = some b4 ∧ zs_K S b4 = some (.inl 16) ∧ zs_C X d 16001 [.ref b4] S (zs_kI (fun v8 S7 => (((v8 ≤ p5 → (zs_K S7 p0 = some (.inl 4) ∧ ∃ b11, (zs_R S7 4000 p0) = some b11 ∧ zs_K S7 b11 = some (.inl 5) ∧ zs_C X d 5004 [.ref b11] S7 (zs_kV (fun S14 => (Q (.returned (some (va_rf p3))) S14)) Q))) ∧ (¬ (v8 ≤ p5) → (zs_K S7 p0 = some (.inl 4) ∧ ∃ b17, (zs_R S7 4000 p0) = some b17 ∧ zs_K S7 b17 = some (.inl 5) ∧ zs_C X d 5004 [.ref b17] S7 (zs_kV (fun S20 => (zs_K S20 b1 = some (.inl 6) ∧ ∃ b23, (zs_R S20 6007 b1) = some b23 ∧ zs_K S20 b23 = some (.inl 16) ∧ zs_C X d 16009 [.ref b23, .int p5] S20 (zs_kR (fun v27 S26 => ((∀ a, v27 = some a → zs_K S26 a = some (.inl 12)) ∧ ∃ b29, v27 = some b29 ∧ zs_K S26 b29 = some (.inl 12) ∧ ∃ b32, (zs_R S26 12001 b29) = some b32 ∧ zs_K S26 b32 = some (.inl 6) ∧ zs_C X d 6001 [.ref b32] S26 (zs_kR (fun v36 S35 => (w_X5_valuesOf_47 X d p0 p1 p2 p3 p4 p5 v36 S35 Q)) Q))) Q))) Q)))))) Q))
theorem u_X5_valuesOf_8 {σ : Nat → Nat} {n0 : Nat} {bf : ab_B} {d : Nat} {p0 : Nat} {p1 : Option Nat} {p2 : Int32} {p3 : Option Nat} {p4 : Option Nat} {p5 : Int32} {S : zs_T} {Q : zs_Q} (hB : zt_B bf) (h : w_X5_valuesOf_8 (zx σ n0 bf) d p0 p1 p2 p3 p4 p5 S Q) : zs_U (zx σ n0 bf) d 4066 8 [(0, .ref p0), (1, va_rf p1), (2, .int p2), (3, va_rf p3), (4, va_rf p4), (5, .int p5)] [] S Q := by
  unfold w_X5_valuesOf_8 at h
  refine zu_iload d_4066_8 rfl ?_
  refine zu_aload_n d_4066_10 rfl (zs_rr _) ?_
  obtain ⟨b1, e2, h⟩ := h
  refine zs_stk0 (zs_rfe e2) ?_
  obtain ⟨k3, h⟩ := h
  refine zg_4_323 rfl d_4066_11 k3 ?_
  obtain ⟨b4, e5, h⟩ := h
  refine zs_stk0 (zs_rfe e5) ?_
  obtain ⟨k6, h⟩ := h
  refine zc_4_50  hB rfl k6 d_4066_14 (Nat.le_of_ble_eq_true rfl) h (fun v8 S7 h => ?_)
  refine zu_cmpge (t := 214) d_4066_17 rfl (fun c9 => ?_) (fun c9 => ?_)
  · have h := h.1 c9
    refine zu_aload_n d_4066_214 rfl (zs_ra _) ?_
    obtain ⟨k10, h⟩ := h
    refine zg_4_5 rfl d_4066_215 k10 ?_
    obtain ⟨b11, e12, h⟩ := h
    refine zs_stk0 (zs_rfe e12) ?_
    obtain ⟨k13, h⟩ := h
    refine zc_4_29  hB rfl k13 d_4066_218 (Nat.le_of_ble_eq_true rfl) h (fun S14 h => ?_)
    refine zu_aload_n d_4066_221 rfl (zs_rr _) ?_
    exact zu_aret d_4066_222 zr_4066 (zs_rr _) h
  · have h := h.2 c9
    refine zu_aload_n d_4066_20 rfl (zs_ra _) ?_
    obtain ⟨k16, h⟩ := h
    refine zg_4_5 rfl d_4066_21 k16 ?_
    obtain ⟨b17, e18, h⟩ := h
    refine zs_stk0 (zs_rfe e18) ?_
    obtain ⟨k19, h⟩ := h
    refine zc_4_29  hB rfl k19 d_4066_24 (Nat.le_of_ble_eq_true rfl) h (fun S20 h => ?_)
    refine zu_aload_n d_4066_27 rfl (zs_rr _) ?_
    refine zs_stk0 (zs_rfe e2) ?_
    obtain ⟨k22, h⟩ := h
    refine zg_4_323 rfl d_4066_28 k22 ?_
    refine zu_iload d_4066_31 rfl ?_
    obtain ⟨b23, e24, h⟩ := h
    refine zs_stk1 (zs_rfe e24) ?_
    obtain ⟨k25, h⟩ := h
    refine zc_4_56 (x0 := p5) hB rfl k25 d_4066_33 (Nat.le_of_ble_eq_true rfl) h (fun v27 S26 h => ?_)
    obtain ⟨k28, h⟩ := h
    refine zk_4_93 (o := v27) rfl d_4066_36 k28 ?_
    obtain ⟨b29, e30, h⟩ := h
    refine zs_stk0 (zs_rfe e30) ?_
    obtain ⟨k31, h⟩ := h
    refine zg_4_96 rfl d_4066_39 k31 ?_
    obtain ⟨b32, e33, h⟩ := h
    refine zs_stk0 (zs_rfe e33) ?_
    obtain ⟨k34, h⟩ := h
    refine zc_4_450  hB rfl k34 d_4066_42 (Nat.le_of_ble_eq_true rfl) h (fun v36 S35 h => ?_)
    refine zu_astore d_4066_45 (zs_rr _) (zs_lt zq_4066 rfl) ?_
    exact (u_X5_valuesOf_47 hB h).weak ⟨rfl, rfl, rfl, rfl, rfl, rfl, rfl, trivial⟩
def w_X5_valuesOf (X : zs_X) (d : Nat) (p0 : Nat) (p1 : Option Nat) (p2 : Int32) (S : zs_T) (Q : zs_Q) : Prop :=
  (zs_U X d 4066 8 [(0, .ref p0), (1, va_rf p1), (2, .int p2), (3, va_rf none), (4, va_rf none), (5, .int (0 : Int32))] [] S Q)
theorem u_X5_valuesOf {σ : Nat → Nat} {n0 : Nat} {bf : ab_B} {d : Nat} {p0 : Nat} {p1 : Option Nat} {p2 : Int32} {S : zs_T} {Q : zs_Q} (hB : zt_B bf) (hd : 1 ≤ d) (h : w_X5_valuesOf (zx σ n0 bf) (d - 1) p0 p1 p2 S Q) : zs_C (zx σ n0 bf) d 4066 [.ref p0, va_rf p1, .int p2] S Q := by
  have hL : lv_args 0 [.ref p0, va_rf p1, .int p2] = [(0, .ref p0), (1, va_rf p1), (2, .int p2)] := by simp [lv_args, zs_cat, zs_cI, zs_cJ, zs_cA]
  refine zs_C.of1 (hB.2 4066 (by decide) (by decide)) hd (by rw [hL]; exact zs_sub_self _ (by exact ⟨rfl, rfl, rfl, trivial⟩)) ?_
  rw [hL]
  clear hL
  unfold w_X5_valuesOf at h
  refine zu_stk d_4066_0 rfl rfl ?_
  refine zu_astore_n d_4066_1 zs_r0 (zs_lt zq_4066 rfl) ?_
  refine zu_stk d_4066_2 rfl rfl ?_
  refine zu_astore d_4066_3 zs_r0 (zs_lt zq_4066 rfl) ?_
  refine zu_iconst d_4066_5 zi_0 ?_
  refine zu_istore d_4066_6 (zs_lt zq_4066 rfl) ?_
  exact h.weak ⟨rfl, rfl, rfl, rfl, rfl, rfl, trivial⟩
/-! SchemaPascal$Reader.bound(LSchemaPascal$Type;)LSchemaPascal$Node; -/
theorem zm_4067 {σ : Nat → Nat} {n0 : Nat} {bf : ab_B} : ab_code (zx σ n0 bf).1 4067 = prog_9_method_28_code := rfl
theorem zq_4067 {σ : Nat → Nat} {n0 : Nat} {bf : ab_B} : ab_maxL (zx σ n0 bf).1 4067 = 4 := rfl
theorem zr_4067 {σ : Nat → Nat} {n0 : Nat} {bf : ab_B} : ab_ret (zx σ n0 bf).1 4067 = (Option.some (Jvm.ClassFile.FieldType.object "SchemaPascal$Node")) := rfl
theorem d_4067_0 {σ : Nat → Nat} {n0 : Nat} {bf : ab_B} : decode (ab_code (zx σ n0 bf).1 4067) 0 = .ok (.aload_n 0, 1) := zd zm_4067 (by decide +kernel)
theorem d_4067_1 {σ : Nat → Nat} {n0 : Nat} {bf : ab_B} : decode (ab_code (zx σ n0 bf).1 4067) 1 = .ok (.invokevirtual 456, 3) := zd zm_4067 (by decide +kernel)
theorem d_4067_4 {σ : Nat → Nat} {n0 : Nat} {bf : ab_B} : decode (ab_code (zx σ n0 bf).1 4067) 4 = .ok (.astore_n 2, 1) := zd zm_4067 (by decide +kernel)
theorem d_4067_5 {σ : Nat → Nat} {n0 : Nat} {bf : ab_B} : decode (ab_code (zx σ n0 bf).1 4067) 5 = .ok (.aload_n 2, 1) := zd zm_4067 (by decide +kernel)
theorem d_4067_6 {σ : Nat → Nat} {n0 : Nat} {bf : ab_B} : decode (ab_code (zx σ n0 bf).1 4067) 6 = .ok (.getfield 297, 3) := zd zm_4067 (by decide +kernel)
theorem d_4067_9 {σ : Nat → Nat} {n0 : Nat} {bf : ab_B} : decode (ab_code (zx σ n0 bf).1 4067) 9 = .ok (.invokevirtual 335, 3) := zd zm_4067 (by decide +kernel)
theorem d_4067_12 {σ : Nat → Nat} {n0 : Nat} {bf : ab_B} : decode (ab_code (zx σ n0 bf).1 4067) 12 = .ok (.ifCond .eq 17, 3) := zd zm_4067 (by decide +kernel)
theorem d_4067_15 {σ : Nat → Nat} {n0 : Nat} {bf : ab_B} : decode (ab_code (zx σ n0 bf).1 4067) 15 = .ok (.aload_n 2, 1) := zd zm_4067 (by decide +kernel)
theorem d_4067_16 {σ : Nat → Nat} {n0 : Nat} {bf : ab_B} : decode (ab_code (zx σ n0 bf).1 4067) 16 = .ok (.invokestatic 459, 3) := zd zm_4067 (by decide +kernel)
theorem d_4067_19 {σ : Nat → Nat} {n0 : Nat} {bf : ab_B} : decode (ab_code (zx σ n0 bf).1 4067) 19 = .ok (.ifCond .ne 16, 3) := zd zm_4067 (by decide +kernel)
theorem d_4067_22 {σ : Nat → Nat} {n0 : Nat} {bf : ab_B} : decode (ab_code (zx σ n0 bf).1 4067) 22 = .ok (.aload_n 2, 1) := zd zm_4067 (by decide +kernel)
theorem d_4067_23 {σ : Nat → Nat} {n0 : Nat} {bf : ab_B} : decode (ab_code (zx σ n0 bf).1 4067) 23 = .ok (.invokestatic 462, 3) := zd zm_4067 (by decide +kernel)
theorem d_4067_26 {σ : Nat → Nat} {n0 : Nat} {bf : ab_B} : decode (ab_code (zx σ n0 bf).1 4067) 26 = .ok (.ifCond .ne 9, 3) := zd zm_4067 (by decide +kernel)
theorem d_4067_29 {σ : Nat → Nat} {n0 : Nat} {bf : ab_B} : decode (ab_code (zx σ n0 bf).1 4067) 29 = .ok (.aload_n 0, 1) := zd zm_4067 (by decide +kernel)
theorem d_4067_30 {σ : Nat → Nat} {n0 : Nat} {bf : ab_B} : decode (ab_code (zx σ n0 bf).1 4067) 30 = .ok (.iconst 5, 1) := zd zm_4067 (by decide +kernel)
theorem d_4067_31 {σ : Nat → Nat} {n0 : Nat} {bf : ab_B} : decode (ab_code (zx σ n0 bf).1 4067) 31 = .ok (.invokevirtual 25, 3) := zd zm_4067 (by decide +kernel)
theorem d_4067_34 {σ : Nat → Nat} {n0 : Nat} {bf : ab_B} : decode (ab_code (zx σ n0 bf).1 4067) 34 = .ok (.athrow, 1) := zd zm_4067 (by decide +kernel)
theorem d_4067_35 {σ : Nat → Nat} {n0 : Nat} {bf : ab_B} : decode (ab_code (zx σ n0 bf).1 4067) 35 = .ok (.aload_n 2, 1) := zd zm_4067 (by decide +kernel)
theorem d_4067_36 {σ : Nat → Nat} {n0 : Nat} {bf : ab_B} : decode (ab_code (zx σ n0 bf).1 4067) 36 = .ok (.invokestatic 459, 3) := zd zm_4067 (by decide +kernel)
theorem d_4067_39 {σ : Nat → Nat} {n0 : Nat} {bf : ab_B} : decode (ab_code (zx σ n0 bf).1 4067) 39 = .ok (.ifCond .eq 22, 3) := zd zm_4067 (by decide +kernel)
theorem d_4067_42 {σ : Nat → Nat} {n0 : Nat} {bf : ab_B} : decode (ab_code (zx σ n0 bf).1 4067) 42 = .ok (.aload_n 0, 1) := zd zm_4067 (by decide +kernel)
theorem d_4067_43 {σ : Nat → Nat} {n0 : Nat} {bf : ab_B} : decode (ab_code (zx σ n0 bf).1 4067) 43 = .ok (.aload_n 2, 1) := zd zm_4067 (by decide +kernel)
theorem d_4067_44 {σ : Nat → Nat} {n0 : Nat} {bf : ab_B} : decode (ab_code (zx σ n0 bf).1 4067) 44 = .ok (.invokevirtual 465, 3) := zd zm_4067 (by decide +kernel)
theorem d_4067_47 {σ : Nat → Nat} {n0 : Nat} {bf : ab_B} : decode (ab_code (zx σ n0 bf).1 4067) 47 = .ok (.aload_n 2, 1) := zd zm_4067 (by decide +kernel)
theorem d_4067_48 {σ : Nat → Nat} {n0 : Nat} {bf : ab_B} : decode (ab_code (zx σ n0 bf).1 4067) 48 = .ok (.getfield 297, 3) := zd zm_4067 (by decide +kernel)
theorem d_4067_51 {σ : Nat → Nat} {n0 : Nat} {bf : ab_B} : decode (ab_code (zx σ n0 bf).1 4067) 51 = .ok (.aload_n 2, 1) := zd zm_4067 (by decide +kernel)
theorem d_4067_52 {σ : Nat → Nat} {n0 : Nat} {bf : ab_B} : decode (ab_code (zx σ n0 bf).1 4067) 52 = .ok (.getfield 469, 3) := zd zm_4067 (by decide +kernel)
theorem d_4067_55 {σ : Nat → Nat} {n0 : Nat} {bf : ab_B} : decode (ab_code (zx σ n0 bf).1 4067) 55 = .ok (.invokestatic 470, 3) := zd zm_4067 (by decide +kernel)
theorem d_4067_58 {σ : Nat → Nat} {n0 : Nat} {bf : ab_B} : decode (ab_code (zx σ n0 bf).1 4067) 58 = .ok (.goto 4, 3) := zd zm_4067 (by decide +kernel)
theorem d_4067_61 {σ : Nat → Nat} {n0 : Nat} {bf : ab_B} : decode (ab_code (zx σ n0 bf).1 4067) 61 = .ok (.aload_n 2, 1) := zd zm_4067 (by decide +kernel)
theorem d_4067_62 {σ : Nat → Nat} {n0 : Nat} {bf : ab_B} : decode (ab_code (zx σ n0 bf).1 4067) 62 = .ok (.astore_n 3, 1) := zd zm_4067 (by decide +kernel)
theorem d_4067_63 {σ : Nat → Nat} {n0 : Nat} {bf : ab_B} : decode (ab_code (zx σ n0 bf).1 4067) 63 = .ok (.aload_n 1, 1) := zd zm_4067 (by decide +kernel)
theorem d_4067_64 {σ : Nat → Nat} {n0 : Nat} {bf : ab_B} : decode (ab_code (zx σ n0 bf).1 4067) 64 = .ok (.ifnull 20, 3) := zd zm_4067 (by decide +kernel)
theorem d_4067_67 {σ : Nat → Nat} {n0 : Nat} {bf : ab_B} : decode (ab_code (zx σ n0 bf).1 4067) 67 = .ok (.aload_n 2, 1) := zd zm_4067 (by decide +kernel)
theorem d_4067_68 {σ : Nat → Nat} {n0 : Nat} {bf : ab_B} : decode (ab_code (zx σ n0 bf).1 4067) 68 = .ok (.getfield 297, 3) := zd zm_4067 (by decide +kernel)
theorem d_4067_71 {σ : Nat → Nat} {n0 : Nat} {bf : ab_B} : decode (ab_code (zx σ n0 bf).1 4067) 71 = .ok (.invokevirtual 450, 3) := zd zm_4067 (by decide +kernel)
theorem d_4067_74 {σ : Nat → Nat} {n0 : Nat} {bf : ab_B} : decode (ab_code (zx σ n0 bf).1 4067) 74 = .ok (.aload_n 1, 1) := zd zm_4067 (by decide +kernel)
theorem d_4067_75 {σ : Nat → Nat} {n0 : Nat} {bf : ab_B} : decode (ab_code (zx σ n0 bf).1 4067) 75 = .ok (.if_acmp .eq 9, 3) := zd zm_4067 (by decide +kernel)
theorem d_4067_78 {σ : Nat → Nat} {n0 : Nat} {bf : ab_B} : decode (ab_code (zx σ n0 bf).1 4067) 78 = .ok (.aload_n 0, 1) := zd zm_4067 (by decide +kernel)
theorem d_4067_79 {σ : Nat → Nat} {n0 : Nat} {bf : ab_B} : decode (ab_code (zx σ n0 bf).1 4067) 79 = .ok (.iconst 5, 1) := zd zm_4067 (by decide +kernel)
theorem d_4067_80 {σ : Nat → Nat} {n0 : Nat} {bf : ab_B} : decode (ab_code (zx σ n0 bf).1 4067) 80 = .ok (.invokevirtual 25, 3) := zd zm_4067 (by decide +kernel)
theorem d_4067_83 {σ : Nat → Nat} {n0 : Nat} {bf : ab_B} : decode (ab_code (zx σ n0 bf).1 4067) 83 = .ok (.athrow, 1) := zd zm_4067 (by decide +kernel)
theorem d_4067_84 {σ : Nat → Nat} {n0 : Nat} {bf : ab_B} : decode (ab_code (zx σ n0 bf).1 4067) 84 = .ok (.aload_n 3, 1) := zd zm_4067 (by decide +kernel)
theorem d_4067_85 {σ : Nat → Nat} {n0 : Nat} {bf : ab_B} : decode (ab_code (zx σ n0 bf).1 4067) 85 = .ok (.areturn, 1) := zd zm_4067 (by decide +kernel)
def w_X5_bound_29 (X : zs_X) (d : Nat) (p0 : Nat) (S : zs_T) (Q : zs_Q) : Prop :=
  (zs_K S p0 = some (.inl 4) ∧ zs_C X d 4006 [.ref p0, .int (5 : Int32)] S (zs_kR (fun v3 S2 => (∃ b4, v3 = some b4 ∧ Q (.threw b4) S2)) Q))
theorem u_X5_bound_29 {σ : Nat → Nat} {n0 : Nat} {bf : ab_B} {d : Nat} {p0 : Nat} {S : zs_T} {Q : zs_Q} (hB : zt_B bf) (h : w_X5_bound_29 (zx σ n0 bf) d p0 S Q) : zs_U (zx σ n0 bf) d 4067 29 [(0, .ref p0)] [] S Q := by
  unfold w_X5_bound_29 at h
  refine zu_aload_n d_4067_29 rfl (zs_ra _) ?_
  refine zu_iconst d_4067_30 zi_5 ?_
  obtain ⟨k1, h⟩ := h
  refine zc_4_25 (x0 := (5 : Int32)) hB rfl k1 d_4067_31 (Nat.le_of_ble_eq_true rfl) h (fun v3 S2 h => ?_)
  obtain ⟨b4, e5, h⟩ := h
  refine zs_stk0 (zs_rfe e5) ?_
  exact zu_throw d_4067_34 h
def w_X5_bound_62 (X : zs_X) (d : Nat) (p0 : Nat) (p1 : Option Nat) (p2 : Option Nat) (q0 : Option Nat) (S : zs_T) (Q : zs_Q) : Prop :=
  (((p1 = none → (Q (.returned (some (va_rf q0))) S)) ∧ (∀ b1, p1 = some b1 → (∃ b3, p2 = some b3 ∧ zs_K S b3 = some (.inl 11) ∧ ∃ b6, (zs_R S 11002 b3) = some b6 ∧ zs_K S b6 = some (.inl 6) ∧ zs_C X d 6001 [.ref b6] S (zs_kR (fun v10 S9 => (((v10 = p1 → (Q (.returned (some (va_rf q0))) S9)) ∧ (¬ (v10 = p1) → (zs_K S9 p0 = some (.inl 4) ∧ zs_C X d 4006 [.ref p0, .int (5 : Int32)] S9 (zs_kR (fun v14 S13 => (∃ b15, v14 = some b15 ∧ Q (.threw b15) S13)) Q)))))) Q)))))
theorem u_X5_bound_62 {σ : Nat → Nat} {n0 : Nat} {bf : ab_B} {d : Nat} {p0 : Nat} {p1 : Option Nat} {p2 : Option Nat} {q0 : Option Nat} {S : zs_T} {Q : zs_Q} (hB : zt_B bf) (h : w_X5_bound_62 (zx σ n0 bf) d p0 p1 p2 q0 S Q) : zs_U (zx σ n0 bf) d 4067 62 [(0, .ref p0), (1, va_rf p1), (2, va_rf p2)] [va_rf q0] S Q := by
  unfold w_X5_bound_62 at h
  refine zu_astore_n d_4067_62 (zs_rr _) (zs_lt zq_4067 rfl) ?_
  refine zs_U.weak (L1 := [(3, va_rf q0), (0, .ref p0), (1, va_rf p1), (2, va_rf p2)]) ?_ ⟨rfl, zs_gp1 rfl (Or.inl rfl) rfl, zs_gp1 rfl (Or.inl (zs_cat _)) rfl, zs_gp1 rfl (Or.inl (zs_cat _)) rfl, trivial⟩
  refine zu_aload_n d_4067_63 rfl (zs_rr _) ?_
  refine zu_ifnull (u := p1) (t := 84) d_4067_64 rfl rfl (fun e2 => ?_) (fun b1 e2 => ?_)
  · have h := h.1 e2
    refine zu_aload_n d_4067_84 rfl (zs_rr _) ?_
    exact zu_aret d_4067_85 zr_4067 (zs_rr _) h
  · have h := h.2 b1 e2
    refine zu_aload_n d_4067_67 rfl (zs_rr _) ?_
    obtain ⟨b3, e4, h⟩ := h
    refine zs_stk0 (zs_rfe e4) ?_
    obtain ⟨k5, h⟩ := h
    refine zg_4_297 rfl d_4067_68 k5 ?_
    obtain ⟨b6, e7, h⟩ := h
    refine zs_stk0 (zs_rfe e7) ?_
    obtain ⟨k8, h⟩ := h
    refine zc_4_450  hB rfl k8 d_4067_71 (Nat.le_of_ble_eq_true rfl) h (fun v10 S9 h => ?_)
    refine zu_aload_n d_4067_74 rfl (zs_rr _) ?_
    refine zu_acmpeq (u := v10) (w := p1) (t := 84) d_4067_75 rfl rfl rfl (fun c11 => ?_) (fun c11 => ?_)
    · have h := h.1 c11
      refine zu_aload_n d_4067_84 rfl (zs_rr _) ?_
      exact zu_aret d_4067_85 zr_4067 (zs_rr _) h
    · have h := h.2 c11
      refine zu_aload_n d_4067_78 rfl (zs_ra _) ?_
      refine zu_iconst d_4067_79 zi_5 ?_
      obtain ⟨k12, h⟩ := h
      refine zc_4_25 (x0 := (5 : Int32)) hB rfl k12 d_4067_80 (Nat.le_of_ble_eq_true rfl) h (fun v14 S13 h => ?_)
      obtain ⟨b15, e16, h⟩ := h
      refine zs_stk0 (zs_rfe e16) ?_
      exact zu_throw d_4067_83 h
def w_X5_bound_35 (X : zs_X) (d : Nat) (p0 : Nat) (p1 : Option Nat) (p2 : Option Nat) (S : zs_T) (Q : zs_Q) : Prop :=
  (zs_C X d 4039 [va_rf p2] S (zs_kI (fun v2 S1 => (((v2 = 0 → (w_X5_bound_62 X d p0 p1 p2 p2 S1 Q)) ∧ (¬ (v2 = 0) → (zs_K S1 p0 = some (.inl 4) ∧ zs_C X d 4057 [.ref p0, va_rf p2] S1 (zs_kJ (fun v6 S5 => (∃ b7, p2 = some b7 ∧ zs_K S5 b7 = some (.inl 11) ∧ zs_C X d 4019 [.long v6, va_rf (zs_R S5 11002 b7), .int (zs_I S5 11001 b7)] S5 (zs_kR (fun v11 S10 => (w_X5_bound_62 X d p0 p1 p2 v11 S10 Q)) Q))) Q)))))) Q))
theorem u_X5_bound_35 {σ : Nat → Nat} {n0 : Nat} {bf : ab_B} {d : Nat} {p0 : Nat} {p1 : Option Nat} {p2 : Option Nat} {S : zs_T} {Q : zs_Q} (hB : zt_B bf) (h : w_X5_bound_35 (zx σ n0 bf) d p0 p1 p2 S Q) : zs_U (zx σ n0 bf) d 4067 35 [(0, .ref p0), (1, va_rf p1), (2, va_rf p2)] [] S Q := by
  unfold w_X5_bound_35 at h
  refine zu_aload_n d_4067_35 rfl (zs_rr _) ?_
  refine zc_4_459 (x0 := p2) hB rfl d_4067_36 (Nat.le_of_ble_eq_true rfl) h (fun v2 S1 h => ?_)
  refine zu_ifeq (t := 61) d_4067_39 rfl (fun c3 => ?_) (fun c3 => ?_)
  · have h := h.1 c3
    refine zu_aload_n d_4067_61 rfl (zs_rr _) ?_
    exact (u_X5_bound_62 hB h).weak ⟨rfl, rfl, rfl, trivial⟩
  · have h := h.2 c3
    refine zu_aload_n d_4067_42 rfl (zs_ra _) ?_
    refine zu_aload_n d_4067_43 rfl (zs_rr _) ?_
    obtain ⟨k4, h⟩ := h
    refine zc_4_465 (x0 := p2) hB rfl k4 d_4067_44 (Nat.le_of_ble_eq_true rfl) h (fun v6 S5 h => ?_)
    refine zu_aload_n d_4067_47 rfl (zs_rr _) ?_
    obtain ⟨b7, e8, h⟩ := h
    refine zs_stk0 (zs_rfe e8) ?_
    obtain ⟨k9, h⟩ := h
    refine zg_4_297 rfl d_4067_48 k9 ?_
    refine zu_aload_n d_4067_51 rfl (zs_rr _) ?_
    refine zs_stk0 (zs_rfe e8) ?_
    refine zg_4_469 rfl d_4067_52 k9 ?_
    refine zc_4_470 (x0 := v6) (x1 := (zs_R S5 11002 b7)) (x2 := (zs_I S5 11001 b7)) hB rfl d_4067_55 (Nat.le_of_ble_eq_true rfl) h (fun v11 S10 h => ?_)
    refine zu_goto (t := 62) d_4067_58 rfl ?_
    exact (u_X5_bound_62 hB h).weak ⟨rfl, rfl, rfl, trivial⟩
def w_X5_bound (X : zs_X) (d : Nat) (p0 : Nat) (p1 : Option Nat) (S : zs_T) (Q : zs_Q) : Prop :=
  (zs_K S p0 = some (.inl 4) ∧ zs_C X d 4015 [.ref p0] S (zs_kR (fun v3 S2 => (∃ b4, v3 = some b4 ∧ zs_K S2 b4 = some (.inl 11) ∧ ∃ b7, (zs_R S2 11002 b4) = some b7 ∧ zs_K S2 b7 = some (.inl 6) ∧ zs_C X d 6002 [.ref b7] S2 (zs_kI (fun v11 S10 => (((v11 = 0 → w_X5_bound_29 X d p0 S10 Q) ∧ (¬ (v11 = 0) → (zs_C X d 4039 [va_rf v3] S10 (zs_kI (fun v14 S13 => (((¬ v14 = 0 → w_X5_bound_35 X d p0 p1 v3 S13 Q) ∧ (¬ (¬ v14 = 0) → (zs_C X d 4068 [va_rf v3] S13 (zs_kI (fun v17 S16 => (((¬ v17 = 0 → w_X5_bound_35 X d p0 p1 v3 S16 Q) ∧ (¬ (¬ v17 = 0) → w_X5_bound_29 X d p0 S16 Q)))) Q)))))) Q)))))) Q))) Q))
theorem u_X5_bound {σ : Nat → Nat} {n0 : Nat} {bf : ab_B} {d : Nat} {p0 : Nat} {p1 : Option Nat} {S : zs_T} {Q : zs_Q} (hB : zt_B bf) (hd : 1 ≤ d) (h : w_X5_bound (zx σ n0 bf) (d - 1) p0 p1 S Q) : zs_C (zx σ n0 bf) d 4067 [.ref p0, va_rf p1] S Q := by
  have hL : lv_args 0 [.ref p0, va_rf p1] = [(0, .ref p0), (1, va_rf p1)] := by simp [lv_args, zs_cat, zs_cI, zs_cJ, zs_cA]
  refine zs_C.of1 (hB.2 4067 (by decide) (by decide)) hd (by rw [hL]; exact zs_sub_self _ (by exact ⟨rfl, rfl, trivial⟩)) ?_
  rw [hL]
  clear hL
  unfold w_X5_bound at h
  refine zu_aload_n d_4067_0 rfl (zs_ra _) ?_
  obtain ⟨k1, h⟩ := h
  refine zc_4_456  hB rfl k1 d_4067_1 (Nat.le_of_ble_eq_true rfl) h (fun v3 S2 h => ?_)
  refine zu_astore_n d_4067_4 (zs_rr _) (zs_lt zq_4067 rfl) ?_
  refine zs_U.weak (L1 := [(2, va_rf v3), (0, .ref p0), (1, va_rf p1)]) ?_ ⟨rfl, zs_gp1 rfl (Or.inl rfl) rfl, zs_gp1 rfl (Or.inl (zs_cat _)) rfl, trivial⟩
  refine zu_aload_n d_4067_5 rfl (zs_rr _) ?_
  obtain ⟨b4, e5, h⟩ := h
  refine zs_stk0 (zs_rfe e5) ?_
  obtain ⟨k6, h⟩ := h
  refine zg_4_297 rfl d_4067_6 k6 ?_
  obtain ⟨b7, e8, h⟩ := h
  refine zs_stk0 (zs_rfe e8) ?_
  obtain ⟨k9, h⟩ := h
  refine zc_4_335  hB rfl k9 d_4067_9 (Nat.le_of_ble_eq_true rfl) h (fun v11 S10 h => ?_)
  refine zu_ifeq (t := 29) d_4067_12 rfl (fun c12 => ?_) (fun c12 => ?_)
  · have h := h.1 c12
    exact (u_X5_bound_29 hB h).weak ⟨rfl, trivial⟩
  · have h := h.2 c12
    refine zu_aload_n d_4067_15 rfl (zs_rr _) ?_
    refine zc_4_459 (x0 := v3) hB rfl d_4067_16 (Nat.le_of_ble_eq_true rfl) h (fun v14 S13 h => ?_)
    refine zu_ifne (t := 35) d_4067_19 rfl (fun c15 => ?_) (fun c15 => ?_)
    · have h := h.1 c15
      exact (u_X5_bound_35 hB h).weak ⟨rfl, rfl, rfl, trivial⟩
    · have h := h.2 c15
      refine zu_aload_n d_4067_22 rfl (zs_rr _) ?_
      refine zc_4_462 (x0 := v3) hB rfl d_4067_23 (Nat.le_of_ble_eq_true rfl) h (fun v17 S16 h => ?_)
      refine zu_ifne (t := 35) d_4067_26 rfl (fun c18 => ?_) (fun c18 => ?_)
      · have h := h.1 c18
        exact (u_X5_bound_35 hB h).weak ⟨rfl, rfl, rfl, trivial⟩
      · have h := h.2 c18
        exact (u_X5_bound_29 hB h).weak ⟨rfl, trivial⟩
/-! SchemaPascal$Reader.hangs(LSchemaPascal$Node;)Z -/
theorem zm_4068 {σ : Nat → Nat} {n0 : Nat} {bf : ab_B} : ab_code (zx σ n0 bf).1 4068 = prog_9_method_44_code := rfl
theorem zq_4068 {σ : Nat → Nat} {n0 : Nat} {bf : ab_B} : ab_maxL (zx σ n0 bf).1 4068 = 1 := rfl
theorem zr_4068 {σ : Nat → Nat} {n0 : Nat} {bf : ab_B} : ab_ret (zx σ n0 bf).1 4068 = (Option.some Jvm.ClassFile.FieldType.boolean) := rfl
theorem d_4068_0 {σ : Nat → Nat} {n0 : Nat} {bf : ab_B} : decode (ab_code (zx σ n0 bf).1 4068) 0 = .ok (.aload_n 0, 1) := zd zm_4068 (by decide +kernel)
theorem d_4068_1 {σ : Nat → Nat} {n0 : Nat} {bf : ab_B} : decode (ab_code (zx σ n0 bf).1 4068) 1 = .ok (.iconst 1, 1) := zd zm_4068 (by decide +kernel)
theorem d_4068_2 {σ : Nat → Nat} {n0 : Nat} {bf : ab_B} : decode (ab_code (zx σ n0 bf).1 4068) 2 = .ok (.invokestatic 532, 3) := zd zm_4068 (by decide +kernel)
theorem d_4068_5 {σ : Nat → Nat} {n0 : Nat} {bf : ab_B} : decode (ab_code (zx σ n0 bf).1 4068) 5 = .ok (.ireturn, 1) := zd zm_4068 (by decide +kernel)
def w_X5_hangs (X : zs_X) (d : Nat) (p0 : Option Nat) (S : zs_T) (Q : zs_Q) : Prop :=
  (zs_C X d 4040 [va_rf p0, .int (1 : Int32)] S (zs_kI (fun v2 S1 => (zs_b v2 ∧ Q (.returned (some (.int v2))) S1)) Q))
theorem u_X5_hangs {σ : Nat → Nat} {n0 : Nat} {bf : ab_B} {d : Nat} {p0 : Option Nat} {S : zs_T} {Q : zs_Q} (hB : zt_B bf) (hd : 1 ≤ d) (h : w_X5_hangs (zx σ n0 bf) (d - 1) p0 S Q) : zs_C (zx σ n0 bf) d 4068 [va_rf p0] S Q := by
  have hL : lv_args 0 [va_rf p0] = [(0, va_rf p0)] := by simp [lv_args, zs_cat, zs_cI, zs_cJ, zs_cA]
  refine zs_C.of1 (hB.2 4068 (by decide) (by decide)) hd (by rw [hL]; exact zs_sub_self _ (by exact ⟨rfl, trivial⟩)) ?_
  rw [hL]
  clear hL
  unfold w_X5_hangs at h
  refine zu_aload_n d_4068_0 rfl (zs_rr _) ?_
  refine zu_iconst d_4068_1 zi_1 ?_
  refine zc_4_532 (x0 := p0) (x1 := (1 : Int32)) hB rfl d_4068_2 (Nat.le_of_ble_eq_true rfl) h (fun v2 S1 h => ?_)
  obtain ⟨k3, h⟩ := h
  exact zu_iret d_4068_5 zr_4068 (zs_b_n k3) h
