/-! printed by gen_all.py: what the methods compute -/
set_option maxRecDepth 100000
/-! SchemaPascalModel.variantOf(IJ)I -/
theorem zm_8239 {σ : Nat → Nat} {n0 : Nat} {bf : ab_B} : ab_code (zx σ n0 bf).1 8239 = prog_17_method_216_code := rfl
theorem zq_8239 {σ : Nat → Nat} {n0 : Nat} {bf : ab_B} : ab_maxL (zx σ n0 bf).1 8239 = 5 := rfl
theorem zr_8239 {σ : Nat → Nat} {n0 : Nat} {bf : ab_B} : ab_ret (zx σ n0 bf).1 8239 = (Option.some Jvm.ClassFile.FieldType.int) := rfl
theorem d_8239_0 {σ : Nat → Nat} {n0 : Nat} {bf : ab_B} : decode (ab_code (zx σ n0 bf).1 8239) 0 = .ok (.aload_n 0, 1) := zd zm_8239 (by decide +kernel)
theorem d_8239_1 {σ : Nat → Nat} {n0 : Nat} {bf : ab_B} : decode (ab_code (zx σ n0 bf).1 8239) 1 = .ok (.getfield 172, 3) := zd zm_8239 (by decide +kernel)
theorem d_8239_4 {σ : Nat → Nat} {n0 : Nat} {bf : ab_B} : decode (ab_code (zx σ n0 bf).1 8239) 4 = .ok (.iload_n 1, 1) := zd zm_8239 (by decide +kernel)
theorem d_8239_5 {σ : Nat → Nat} {n0 : Nat} {bf : ab_B} : decode (ab_code (zx σ n0 bf).1 8239) 5 = .ok (.iaload, 1) := zd zm_8239 (by decide +kernel)
theorem d_8239_6 {σ : Nat → Nat} {n0 : Nat} {bf : ab_B} : decode (ab_code (zx σ n0 bf).1 8239) 6 = .ok (.istore 4, 2) := zd zm_8239 (by decide +kernel)
theorem d_8239_8 {σ : Nat → Nat} {n0 : Nat} {bf : ab_B} : decode (ab_code (zx σ n0 bf).1 8239) 8 = .ok (.iload 4, 2) := zd zm_8239 (by decide +kernel)
theorem d_8239_10 {σ : Nat → Nat} {n0 : Nat} {bf : ab_B} : decode (ab_code (zx σ n0 bf).1 8239) 10 = .ok (.ifCond .le 34, 3) := zd zm_8239 (by decide +kernel)
theorem d_8239_13 {σ : Nat → Nat} {n0 : Nat} {bf : ab_B} : decode (ab_code (zx σ n0 bf).1 8239) 13 = .ok (.aload_n 0, 1) := zd zm_8239 (by decide +kernel)
theorem d_8239_14 {σ : Nat → Nat} {n0 : Nat} {bf : ab_B} : decode (ab_code (zx σ n0 bf).1 8239) 14 = .ok (.aload_n 0, 1) := zd zm_8239 (by decide +kernel)
theorem d_8239_15 {σ : Nat → Nat} {n0 : Nat} {bf : ab_B} : decode (ab_code (zx σ n0 bf).1 8239) 15 = .ok (.getfield 160, 3) := zd zm_8239 (by decide +kernel)
theorem d_8239_18 {σ : Nat → Nat} {n0 : Nat} {bf : ab_B} : decode (ab_code (zx σ n0 bf).1 8239) 18 = .ok (.iload 4, 2) := zd zm_8239 (by decide +kernel)
theorem d_8239_20 {σ : Nat → Nat} {n0 : Nat} {bf : ab_B} : decode (ab_code (zx σ n0 bf).1 8239) 20 = .ok (.iaload, 1) := zd zm_8239 (by decide +kernel)
theorem d_8239_21 {σ : Nat → Nat} {n0 : Nat} {bf : ab_B} : decode (ab_code (zx σ n0 bf).1 8239) 21 = .ok (.lload_n 2, 1) := zd zm_8239 (by decide +kernel)
theorem d_8239_22 {σ : Nat → Nat} {n0 : Nat} {bf : ab_B} : decode (ab_code (zx σ n0 bf).1 8239) 22 = .ok (.lload_n 2, 1) := zd zm_8239 (by decide +kernel)
theorem d_8239_23 {σ : Nat → Nat} {n0 : Nat} {bf : ab_B} : decode (ab_code (zx σ n0 bf).1 8239) 23 = .ok (.invokevirtual 915, 3) := zd zm_8239 (by decide +kernel)
theorem d_8239_26 {σ : Nat → Nat} {n0 : Nat} {bf : ab_B} : decode (ab_code (zx σ n0 bf).1 8239) 26 = .ok (.ifCond .eq 6, 3) := zd zm_8239 (by decide +kernel)
theorem d_8239_29 {σ : Nat → Nat} {n0 : Nat} {bf : ab_B} : decode (ab_code (zx σ n0 bf).1 8239) 29 = .ok (.iload 4, 2) := zd zm_8239 (by decide +kernel)
theorem d_8239_31 {σ : Nat → Nat} {n0 : Nat} {bf : ab_B} : decode (ab_code (zx σ n0 bf).1 8239) 31 = .ok (.ireturn, 1) := zd zm_8239 (by decide +kernel)
theorem d_8239_32 {σ : Nat → Nat} {n0 : Nat} {bf : ab_B} : decode (ab_code (zx σ n0 bf).1 8239) 32 = .ok (.aload_n 0, 1) := zd zm_8239 (by decide +kernel)
theorem d_8239_33 {σ : Nat → Nat} {n0 : Nat} {bf : ab_B} : decode (ab_code (zx σ n0 bf).1 8239) 33 = .ok (.getfield 157, 3) := zd zm_8239 (by decide +kernel)
theorem d_8239_36 {σ : Nat → Nat} {n0 : Nat} {bf : ab_B} : decode (ab_code (zx σ n0 bf).1 8239) 36 = .ok (.iload 4, 2) := zd zm_8239 (by decide +kernel)
theorem d_8239_38 {σ : Nat → Nat} {n0 : Nat} {bf : ab_B} : decode (ab_code (zx σ n0 bf).1 8239) 38 = .ok (.iaload, 1) := zd zm_8239 (by decide +kernel)
theorem d_8239_39 {σ : Nat → Nat} {n0 : Nat} {bf : ab_B} : decode (ab_code (zx σ n0 bf).1 8239) 39 = .ok (.istore 4, 2) := zd zm_8239 (by decide +kernel)
theorem d_8239_41 {σ : Nat → Nat} {n0 : Nat} {bf : ab_B} : decode (ab_code (zx σ n0 bf).1 8239) 41 = .ok (.goto (-33), 3) := zd zm_8239 (by decide +kernel)
theorem d_8239_44 {σ : Nat → Nat} {n0 : Nat} {bf : ab_B} : decode (ab_code (zx σ n0 bf).1 8239) 44 = .ok (.iconst 0, 1) := zd zm_8239 (by decide +kernel)
theorem d_8239_45 {σ : Nat → Nat} {n0 : Nat} {bf : ab_B} : decode (ab_code (zx σ n0 bf).1 8239) 45 = .ok (.ireturn, 1) := zd zm_8239 (by decide +kernel)
def w_X9_variantOf_41 (X : zs_X) (d : Nat) (p0 : Nat) (p2 : Int64) (p4 : Int32) (S : zs_T) (Q : zs_Q) : Prop :=
  (zs_U X d 8239 8 [(0, .ref p0), (2, .long p2), (4, .int p4)] [] S Q)
theorem u_X9_variantOf_41 {σ : Nat → Nat} {n0 : Nat} {bf : ab_B} {d : Nat} {p0 : Nat} {p2 : Int64} {p4 : Int32} {S : zs_T} {Q : zs_Q} (hB : zt_B bf) (h : w_X9_variantOf_41 (zx σ n0 bf) d p0 p2 p4 S Q) : zs_U (zx σ n0 bf) d 8239 41 [(0, .ref p0), (2, .long p2), (4, .int p4)] [] S Q := by
  unfold w_X9_variantOf_41 at h
  refine zu_goto (t := 8) d_8239_41 rfl ?_
  exact h.weak ⟨rfl, rfl, rfl, trivial⟩
def w_X9_variantOf_8 (X : zs_X) (d : Nat) (p0 : Nat) (p2 : Int64) (p4 : Int32) (S : zs_T) (Q : zs_Q) : Prop :=
  (((p4 ≤ 0 → (Q (.returned (some (.int (0 : Int32)))) S)) ∧ (¬ (p4 ≤ 0) → (zs_K S p0 = some (.inl 8) ∧ ∃ b3, (zs_R S 8072 p0) = some b3 ∧ zs_A S b3 0 p4 ∧ zs_C X d 8139 [.ref p0, .int (zs_i S b3 p4.toNatClampNeg), .long p2, .long p2] S (zs_kI (fun v7 S6 => (((v7 = 0 → (zs_K S6 p0 = some (.inl 8) ∧ ∃ b10, (zs_R S6 8071 p0) = some b10 ∧ zs_A S6 b10 0 p4 ∧ w_X9_variantOf_41 X d p0 p2 (zs_i S6 b10 p4.toNatClampNeg) S6 Q)) ∧ (¬ (v7 = 0) → (Q (.returned (some (.int p4))) S6))))) Q)))))
theorem u_X9_variantOf_8 {σ : Nat → Nat} {n0 : Nat} {bf : ab_B} {d : Nat} {p0 : Nat} {p2 : Int64} {p4 : Int32} {S : zs_T} {Q : zs_Q} (hB : zt_B bf) (h : w_X9_variantOf_8 (zx σ n0 bf) d p0 p2 p4 S Q) : zs_U (zx σ n0 bf) d 8239 8 [(0, .ref p0), (2, .long p2), (4, .int p4)] [] S Q := by
  unfold w_X9_variantOf_8 at h
  refine zu_iload d_8239_8 rfl ?_
  refine zu_ifle (t := 44) d_8239_10 rfl (fun c1 => ?_) (fun c1 => ?_)
  · have h := h.1 c1
    refine zu_iconst d_8239_44 zi_0 ?_
    exact zu_iret d_8239_45 zr_8239 rfl h
  · have h := h.2 c1
    refine zu_aload_n d_8239_13 rfl (zs_ra _) ?_
    refine zu_aload_n d_8239_14 rfl (zs_ra _) ?_
    obtain ⟨k2, h⟩ := h
    refine zg_8_160 rfl d_8239_15 k2 ?_
    refine zu_iload d_8239_18 rfl ?_
    obtain ⟨b3, e4, h⟩ := h
    refine zs_stk1 (zs_rfe e4) ?_
    obtain ⟨k5, h⟩ := h
    refine zu_iald (k := 0) d_8239_20 rfl rfl k5 ?_
    refine zu_lload_n d_8239_21 rfl ?_
    refine zu_lload_n d_8239_22 rfl ?_
    refine zc_8_915 (x0 := (zs_i S b3 p4.toNatClampNeg)) (x1 := p2) (x2 := p2) hB rfl k2 d_8239_23 (Nat.le_of_ble_eq_true rfl) h (fun v7 S6 h => ?_)
    refine zu_ifeq (t := 32) d_8239_26 rfl (fun c8 => ?_) (fun c8 => ?_)
    · have h := h.1 c8
      refine zu_aload_n d_8239_32 rfl (zs_ra _) ?_
      obtain ⟨k9, h⟩ := h
      refine zg_8_157 rfl d_8239_33 k9 ?_
      refine zu_iload d_8239_36 rfl ?_
      obtain ⟨b10, e11, h⟩ := h
      refine zs_stk1 (zs_rfe e11) ?_
      obtain ⟨k12, h⟩ := h
      refine zu_iald (k := 0) d_8239_38 rfl rfl k12 ?_
      refine zu_istore d_8239_39 (zs_lt zq_8239 rfl) ?_
      exact (u_X9_variantOf_41 hB h).weak ⟨rfl, rfl, rfl, trivial⟩
    · have h := h.2 c8
      refine zu_iload d_8239_29 rfl ?_
      exact zu_iret d_8239_31 zr_8239 rfl h
def w_X9_variantOf (X : zs_X) (d : Nat) (p0 : Nat) (p1 : Int32) (p2 : Int64) (S : zs_T) (Q : zs_Q) : Prop :=
  (zs_K S p0 = some (.inl 8) ∧ ∃ b2, (zs_R S 8078 p0) = some b2 ∧ zs_A S b2 0 p1 ∧ zs_U X d 8239 8 [(0, .ref p0), (2, .long p2), (4, .int (zs_i S b2 p1.toNatClampNeg))] [] S Q)
theorem u_X9_variantOf {σ : Nat → Nat} {n0 : Nat} {bf : ab_B} {d : Nat} {p0 : Nat} {p1 : Int32} {p2 : Int64} {S : zs_T} {Q : zs_Q} (hB : zt_B bf) (hd : 1 ≤ d) (h : w_X9_variantOf (zx σ n0 bf) (d - 1) p0 p1 p2 S Q) : zs_C (zx σ n0 bf) d 8239 [.ref p0, .int p1, .long p2] S Q := by
  have hL : lv_args 0 [.ref p0, .int p1, .long p2] = [(0, .ref p0), (1, .int p1), (2, .long p2)] := rfl
  refine zs_C.of1 (hB.2 8239 (by decide) (by decide)) hd (by rw [hL]; exact zs_sub_self _ (by exact ⟨rfl, rfl, rfl, trivial⟩)) ?_
  rw [hL]
  clear hL
  unfold w_X9_variantOf at h
  refine zu_aload_n d_8239_0 rfl (zs_ra _) ?_
  obtain ⟨k1, h⟩ := h
  refine zg_8_172 rfl d_8239_1 k1 ?_
  refine zu_iload_n d_8239_4 rfl ?_
  obtain ⟨b2, e3, h⟩ := h
  refine zs_stk1 (zs_rfe e3) ?_
  obtain ⟨k4, h⟩ := h
  refine zu_iald (k := 0) d_8239_5 rfl rfl k4 ?_
  refine zu_istore d_8239_6 (zs_lt zq_8239 rfl) ?_
  exact h.weak ⟨rfl, rfl, rfl, trivial⟩
/-! SchemaPascalModel.goTo(II)V -/
theorem zm_8240 {σ : Nat → Nat} {n0 : Nat} {bf : ab_B} : ab_code (zx σ n0 bf).1 8240 = prog_17_method_215_code := rfl
theorem zq_8240 {σ : Nat → Nat} {n0 : Nat} {bf : ab_B} : ab_maxL (zx σ n0 bf).1 8240 = 5 := rfl
theorem zr_8240 {σ : Nat → Nat} {n0 : Nat} {bf : ab_B} : ab_ret (zx σ n0 bf).1 8240 = (Option.none : Option Jvm.ClassFile.FieldType) := rfl
theorem d_8240_0 {σ : Nat → Nat} {n0 : Nat} {bf : ab_B} : decode (ab_code (zx σ n0 bf).1 8240) 0 = .ok (.aload_n 0, 1) := zd zm_8240 (by decide +kernel)
theorem d_8240_1 {σ : Nat → Nat} {n0 : Nat} {bf : ab_B} : decode (ab_code (zx σ n0 bf).1 8240) 1 = .ok (.getfield 1270, 3) := zd zm_8240 (by decide +kernel)
theorem d_8240_4 {σ : Nat → Nat} {n0 : Nat} {bf : ab_B} : decode (ab_code (zx σ n0 bf).1 8240) 4 = .ok (.iconst 1, 1) := zd zm_8240 (by decide +kernel)
theorem d_8240_5 {σ : Nat → Nat} {n0 : Nat} {bf : ab_B} : decode (ab_code (zx σ n0 bf).1 8240) 5 = .ok (.isub, 1) := zd zm_8240 (by decide +kernel)
theorem d_8240_6 {σ : Nat → Nat} {n0 : Nat} {bf : ab_B} : decode (ab_code (zx σ n0 bf).1 8240) 6 = .ok (.istore_n 3, 1) := zd zm_8240 (by decide +kernel)
theorem d_8240_7 {σ : Nat → Nat} {n0 : Nat} {bf : ab_B} : decode (ab_code (zx σ n0 bf).1 8240) 7 = .ok (.aload_n 0, 1) := zd zm_8240 (by decide +kernel)
theorem d_8240_8 {σ : Nat → Nat} {n0 : Nat} {bf : ab_B} : decode (ab_code (zx σ n0 bf).1 8240) 8 = .ok (.getfield 409, 3) := zd zm_8240 (by decide +kernel)
theorem d_8240_11 {σ : Nat → Nat} {n0 : Nat} {bf : ab_B} : decode (ab_code (zx σ n0 bf).1 8240) 11 = .ok (.iload_n 3, 1) := zd zm_8240 (by decide +kernel)
theorem d_8240_12 {σ : Nat → Nat} {n0 : Nat} {bf : ab_B} : decode (ab_code (zx σ n0 bf).1 8240) 12 = .ok (.iload_n 1, 1) := zd zm_8240 (by decide +kernel)
theorem d_8240_13 {σ : Nat → Nat} {n0 : Nat} {bf : ab_B} : decode (ab_code (zx σ n0 bf).1 8240) 13 = .ok (.iastore, 1) := zd zm_8240 (by decide +kernel)
theorem d_8240_14 {σ : Nat → Nat} {n0 : Nat} {bf : ab_B} : decode (ab_code (zx σ n0 bf).1 8240) 14 = .ok (.aload_n 0, 1) := zd zm_8240 (by decide +kernel)
theorem d_8240_15 {σ : Nat → Nat} {n0 : Nat} {bf : ab_B} : decode (ab_code (zx σ n0 bf).1 8240) 15 = .ok (.getfield 412, 3) := zd zm_8240 (by decide +kernel)
theorem d_8240_18 {σ : Nat → Nat} {n0 : Nat} {bf : ab_B} : decode (ab_code (zx σ n0 bf).1 8240) 18 = .ok (.iload_n 3, 1) := zd zm_8240 (by decide +kernel)
theorem d_8240_19 {σ : Nat → Nat} {n0 : Nat} {bf : ab_B} : decode (ab_code (zx σ n0 bf).1 8240) 19 = .ok (.iload_n 2, 1) := zd zm_8240 (by decide +kernel)
theorem d_8240_20 {σ : Nat → Nat} {n0 : Nat} {bf : ab_B} : decode (ab_code (zx σ n0 bf).1 8240) 20 = .ok (.iastore, 1) := zd zm_8240 (by decide +kernel)
theorem d_8240_21 {σ : Nat → Nat} {n0 : Nat} {bf : ab_B} : decode (ab_code (zx σ n0 bf).1 8240) 21 = .ok (.aload_n 0, 1) := zd zm_8240 (by decide +kernel)
theorem d_8240_22 {σ : Nat → Nat} {n0 : Nat} {bf : ab_B} : decode (ab_code (zx σ n0 bf).1 8240) 22 = .ok (.getfield 90, 3) := zd zm_8240 (by decide +kernel)
theorem d_8240_25 {σ : Nat → Nat} {n0 : Nat} {bf : ab_B} : decode (ab_code (zx σ n0 bf).1 8240) 25 = .ok (.iload_n 2, 1) := zd zm_8240 (by decide +kernel)
theorem d_8240_26 {σ : Nat → Nat} {n0 : Nat} {bf : ab_B} : decode (ab_code (zx σ n0 bf).1 8240) 26 = .ok (.baload, 1) := zd zm_8240 (by decide +kernel)
theorem d_8240_27 {σ : Nat → Nat} {n0 : Nat} {bf : ab_B} : decode (ab_code (zx σ n0 bf).1 8240) 27 = .ok (.bipush 11, 2) := zd zm_8240 (by decide +kernel)
theorem d_8240_29 {σ : Nat → Nat} {n0 : Nat} {bf : ab_B} : decode (ab_code (zx σ n0 bf).1 8240) 29 = .ok (.if_icmp .ne 15, 3) := zd zm_8240 (by decide +kernel)
theorem d_8240_32 {σ : Nat → Nat} {n0 : Nat} {bf : ab_B} : decode (ab_code (zx σ n0 bf).1 8240) 32 = .ok (.aload_n 0, 1) := zd zm_8240 (by decide +kernel)
theorem d_8240_33 {σ : Nat → Nat} {n0 : Nat} {bf : ab_B} : decode (ab_code (zx σ n0 bf).1 8240) 33 = .ok (.iload_n 2, 1) := zd zm_8240 (by decide +kernel)
theorem d_8240_34 {σ : Nat → Nat} {n0 : Nat} {bf : ab_B} : decode (ab_code (zx σ n0 bf).1 8240) 34 = .ok (.invokevirtual 825, 3) := zd zm_8240 (by decide +kernel)
theorem d_8240_37 {σ : Nat → Nat} {n0 : Nat} {bf : ab_B} : decode (ab_code (zx σ n0 bf).1 8240) 37 = .ok (.istore 4, 2) := zd zm_8240 (by decide +kernel)
theorem d_8240_39 {σ : Nat → Nat} {n0 : Nat} {bf : ab_B} : decode (ab_code (zx σ n0 bf).1 8240) 39 = .ok (.aload_n 0, 1) := zd zm_8240 (by decide +kernel)
theorem d_8240_40 {σ : Nat → Nat} {n0 : Nat} {bf : ab_B} : decode (ab_code (zx σ n0 bf).1 8240) 40 = .ok (.iload_n 3, 1) := zd zm_8240 (by decide +kernel)
theorem d_8240_41 {σ : Nat → Nat} {n0 : Nat} {bf : ab_B} : decode (ab_code (zx σ n0 bf).1 8240) 41 = .ok (.invokevirtual 1285, 3) := zd zm_8240 (by decide +kernel)
theorem d_8240_44 {σ : Nat → Nat} {n0 : Nat} {bf : ab_B} : decode (ab_code (zx σ n0 bf).1 8240) 44 = .ok (.return_, 1) := zd zm_8240 (by decide +kernel)
def w_X9_goTo_44 (X : zs_X) (d : Nat)  (S : zs_T) (Q : zs_Q) : Prop :=
  (Q (.returned none) S)
theorem u_X9_goTo_44 {σ : Nat → Nat} {n0 : Nat} {bf : ab_B} {d : Nat}  {S : zs_T} {Q : zs_Q} (hB : zt_B bf) (h : w_X9_goTo_44 (zx σ n0 bf) d  S Q) : zs_U (zx σ n0 bf) d 8240 44 [] [] S Q := by
  unfold w_X9_goTo_44 at h
  exact zu_vret d_8240_44 zr_8240 h
def w_X9_goTo_32 (X : zs_X) (d : Nat) (p0 : Nat) (p2 : Int32) (p3 : Int32) (S : zs_T) (Q : zs_Q) : Prop :=
  (zs_K S p0 = some (.inl 8) ∧ zs_C X d 8125 [.ref p0, .int p2] S (zs_kI (fun v3 S2 => (zs_K S2 p0 = some (.inl 8) ∧ zs_C X d 8236 [.ref p0, .int p3] S2 (zs_kV (fun S5 => w_X9_goTo_44 X d  S5 Q) Q))) Q))
theorem u_X9_goTo_32 {σ : Nat → Nat} {n0 : Nat} {bf : ab_B} {d : Nat} {p0 : Nat} {p2 : Int32} {p3 : Int32} {S : zs_T} {Q : zs_Q} (hB : zt_B bf) (h : w_X9_goTo_32 (zx σ n0 bf) d p0 p2 p3 S Q) : zs_U (zx σ n0 bf) d 8240 32 [(0, .ref p0), (2, .int p2), (3, .int p3)] [] S Q := by
  unfold w_X9_goTo_32 at h
  refine zu_aload_n d_8240_32 rfl (zs_ra _) ?_
  refine zu_iload_n d_8240_33 rfl ?_
  obtain ⟨k1, h⟩ := h
  refine zc_8_825 (x0 := p2) hB rfl k1 d_8240_34 (Nat.le_of_ble_eq_true rfl) h (fun v3 S2 h => ?_)
  refine zu_istore d_8240_37 (zs_lt zq_8240 rfl) ?_
  refine zu_aload_n d_8240_39 rfl (zs_ra _) ?_
  refine zu_iload_n d_8240_40 rfl ?_
  obtain ⟨k4, h⟩ := h
  refine zc_8_1285 (x0 := p3) hB rfl k4 d_8240_41 (Nat.le_of_ble_eq_true rfl) h (fun S5 h => ?_)
  exact (u_X9_goTo_44 hB h).weak trivial
def w_X9_goTo (X : zs_X) (d : Nat) (p0 : Nat) (p1 : Int32) (p2 : Int32) (S : zs_T) (Q : zs_Q) : Prop :=
  (zs_K S p0 = some (.inl 8) ∧ ∃ b2, (zs_R S 8189 p0) = some b2 ∧ zs_A S b2 0 ((zs_I S 8195 p0) - (1 : Int32)) ∧ ab_n0 X.1 ≤ b2 ∧ ∀ S6, S6 = zs_si S b2 ((zs_I S 8195 p0) - (1 : Int32)).toNatClampNeg p1 → ∃ b9, (zs_R S6 8190 p0) = some b9 ∧ zs_A S b9 0 ((zs_I S 8195 p0) - (1 : Int32)) ∧ ab_n0 X.1 ≤ b9 ∧ ∀ S13, S13 = zs_si S6 b9 ((zs_I S 8195 p0) - (1 : Int32)).toNatClampNeg p2 → ∃ b16, (zs_R S13 8044 p0) = some b16 ∧ zs_A S b16 1 p2 ∧ ((¬ (zs_i S13 b16 p2.toNatClampNeg) = (11 : Int32) → w_X9_goTo_44 X d  S13 Q) ∧ (¬ (¬ (zs_i S13 b16 p2.toNatClampNeg) = (11 : Int32)) → w_X9_goTo_32 X d p0 p2 ((zs_I S 8195 p0) - (1 : Int32)) S13 Q)))
theorem u_X9_goTo {σ : Nat → Nat} {n0 : Nat} {bf : ab_B} {d : Nat} {p0 : Nat} {p1 : Int32} {p2 : Int32} {S : zs_T} {Q : zs_Q} (hB : zt_B bf) (hd : 1 ≤ d) (h : w_X9_goTo (zx σ n0 bf) (d - 1) p0 p1 p2 S Q) : zs_C (zx σ n0 bf) d 8240 [.ref p0, .int p1, .int p2] S Q := by
  have hL : lv_args 0 [.ref p0, .int p1, .int p2] = [(0, .ref p0), (1, .int p1), (2, .int p2)] := rfl
  refine zs_C.of1 (hB.2 8240 (by decide) (by decide)) hd (by rw [hL]; exact zs_sub_self _ (by exact ⟨rfl, rfl, rfl, trivial⟩)) ?_
  rw [hL]
  clear hL
  unfold w_X9_goTo at h
  refine zu_aload_n d_8240_0 rfl (zs_ra _) ?_
  obtain ⟨k1, h⟩ := h
  refine zg_8_1270 rfl d_8240_1 k1 ?_
  refine zu_iconst d_8240_4 zi_1 ?_
  refine zu_stk d_8240_5 rfl rfl ?_
  refine zu_istore_n d_8240_6 (zs_lt zq_8240 rfl) ?_
  refine zu_aload_n d_8240_7 rfl (zs_ra _) ?_
  refine zg_8_409 rfl d_8240_8 k1 ?_
  refine zu_iload_n d_8240_11 rfl ?_
  refine zu_iload_n d_8240_12 rfl ?_
  obtain ⟨b2, e3, h⟩ := h
  refine zs_stk2 (zs_rfe e3) ?_
  obtain ⟨k4, h⟩ := h
  obtain ⟨k5, h⟩ := h
  refine zu_iast (k := 0) d_8240_13 rfl rfl k5 k4 ?_
  generalize e7 : zs_si S b2 ((zs_I S 8195 p0) - (1 : Int32)).toNatClampNeg p1 = S6
  have h := h S6 e7.symm
  have K8 : ∀ b, zs_K S6 b = zs_K S b := zs_Kt e7 (zs_Ksi _ _ _ _) (fun _ => rfl)
  refine zu_aload_n d_8240_14 rfl (zs_ra _) ?_
  refine zg_8_412 rfl d_8240_15 ((K8 _).trans k1) ?_
  refine zu_iload_n d_8240_18 rfl ?_
  refine zu_iload_n d_8240_19 rfl ?_
  obtain ⟨b9, e10, h⟩ := h
  refine zs_stk2 (zs_rfe e10) ?_
  obtain ⟨k11, h⟩ := h
  obtain ⟨k12, h⟩ := h
  refine zu_iast (k := 0) d_8240_20 rfl rfl k12 (zs_Ak K8 k11) ?_
  generalize e14 : zs_si S6 b9 ((zs_I S 8195 p0) - (1 : Int32)).toNatClampNeg p2 = S13
  have h := h S13 e14.symm
  have K15 : ∀ b, zs_K S13 b = zs_K S b := zs_Kt e14 (zs_Ksi _ _ _ _) K8
  refine zu_aload_n d_8240_21 rfl (zs_ra _) ?_
  refine zg_8_90 rfl d_8240_22 ((K15 _).trans k1) ?_
  refine zu_iload_n d_8240_25 rfl ?_
  obtain ⟨b16, e17, h⟩ := h
  refine zs_stk1 (zs_rfe e17) ?_
  obtain ⟨k18, h⟩ := h
  refine zu_bald (k := 1) d_8240_26 rfl (Or.inl rfl) (zs_Ak K15 k18) ?_
  refine zu_bipush d_8240_27 zj_11 ?_
  refine zu_cmpne (t := 44) d_8240_29 rfl (fun c19 => ?_) (fun c19 => ?_)
  · have h := h.1 c19
    exact (u_X9_goTo_44 hB h).weak trivial
  · have h := h.2 c19
    exact (u_X9_goTo_32 hB h).weak ⟨rfl, rfl, rfl, trivial⟩
/-! SchemaPascalModel.index(I)V -/
theorem zm_8241 {σ : Nat → Nat} {n0 : Nat} {bf : ab_B} : ab_code (zx σ n0 bf).1 8241 = prog_17_method_218_code := rfl
theorem zq_8241 {σ : Nat → Nat} {n0 : Nat} {bf : ab_B} : ab_maxL (zx σ n0 bf).1 8241 = 11 := rfl
theorem zr_8241 {σ : Nat → Nat} {n0 : Nat} {bf : ab_B} : ab_ret (zx σ n0 bf).1 8241 = (Option.none : Option Jvm.ClassFile.FieldType) := rfl
theorem d_8241_0 {σ : Nat → Nat} {n0 : Nat} {bf : ab_B} : decode (ab_code (zx σ n0 bf).1 8241) 0 = .ok (.aload_n 0, 1) := zd zm_8241 (by decide +kernel)
theorem d_8241_1 {σ : Nat → Nat} {n0 : Nat} {bf : ab_B} : decode (ab_code (zx σ n0 bf).1 8241) 1 = .ok (.getfield 1270, 3) := zd zm_8241 (by decide +kernel)
theorem d_8241_4 {σ : Nat → Nat} {n0 : Nat} {bf : ab_B} : decode (ab_code (zx σ n0 bf).1 8241) 4 = .ok (.iconst 1, 1) := zd zm_8241 (by decide +kernel)
theorem d_8241_5 {σ : Nat → Nat} {n0 : Nat} {bf : ab_B} : decode (ab_code (zx σ n0 bf).1 8241) 5 = .ok (.isub, 1) := zd zm_8241 (by decide +kernel)
theorem d_8241_6 {σ : Nat → Nat} {n0 : Nat} {bf : ab_B} : decode (ab_code (zx σ n0 bf).1 8241) 6 = .ok (.istore_n 2, 1) := zd zm_8241 (by decide +kernel)
theorem d_8241_7 {σ : Nat → Nat} {n0 : Nat} {bf : ab_B} : decode (ab_code (zx σ n0 bf).1 8241) 7 = .ok (.aload_n 0, 1) := zd zm_8241 (by decide +kernel)
theorem d_8241_8 {σ : Nat → Nat} {n0 : Nat} {bf : ab_B} : decode (ab_code (zx σ n0 bf).1 8241) 8 = .ok (.invokevirtual 1307, 3) := zd zm_8241 (by decide +kernel)
theorem d_8241_11 {σ : Nat → Nat} {n0 : Nat} {bf : ab_B} : decode (ab_code (zx σ n0 bf).1 8241) 11 = .ok (.lstore_n 3, 1) := zd zm_8241 (by decide +kernel)
theorem d_8241_12 {σ : Nat → Nat} {n0 : Nat} {bf : ab_B} : decode (ab_code (zx σ n0 bf).1 8241) 12 = .ok (.aload_n 0, 1) := zd zm_8241 (by decide +kernel)
theorem d_8241_13 {σ : Nat → Nat} {n0 : Nat} {bf : ab_B} : decode (ab_code (zx σ n0 bf).1 8241) 13 = .ok (.aload_n 0, 1) := zd zm_8241 (by decide +kernel)
theorem d_8241_14 {σ : Nat → Nat} {n0 : Nat} {bf : ab_B} : decode (ab_code (zx σ n0 bf).1 8241) 14 = .ok (.getfield 412, 3) := zd zm_8241 (by decide +kernel)
theorem d_8241_17 {σ : Nat → Nat} {n0 : Nat} {bf : ab_B} : decode (ab_code (zx σ n0 bf).1 8241) 17 = .ok (.iload_n 2, 1) := zd zm_8241 (by decide +kernel)
theorem d_8241_18 {σ : Nat → Nat} {n0 : Nat} {bf : ab_B} : decode (ab_code (zx σ n0 bf).1 8241) 18 = .ok (.iaload, 1) := zd zm_8241 (by decide +kernel)
theorem d_8241_19 {σ : Nat → Nat} {n0 : Nat} {bf : ab_B} : decode (ab_code (zx σ n0 bf).1 8241) 19 = .ok (.invokevirtual 730, 3) := zd zm_8241 (by decide +kernel)
theorem d_8241_22 {σ : Nat → Nat} {n0 : Nat} {bf : ab_B} : decode (ab_code (zx σ n0 bf).1 8241) 22 = .ok (.istore 5, 2) := zd zm_8241 (by decide +kernel)
theorem d_8241_24 {σ : Nat → Nat} {n0 : Nat} {bf : ab_B} : decode (ab_code (zx σ n0 bf).1 8241) 24 = .ok (.aload_n 0, 1) := zd zm_8241 (by decide +kernel)
theorem d_8241_25 {σ : Nat → Nat} {n0 : Nat} {bf : ab_B} : decode (ab_code (zx σ n0 bf).1 8241) 25 = .ok (.iload_n 2, 1) := zd zm_8241 (by decide +kernel)
theorem d_8241_26 {σ : Nat → Nat} {n0 : Nat} {bf : ab_B} : decode (ab_code (zx σ n0 bf).1 8241) 26 = .ok (.invokevirtual 1291, 3) := zd zm_8241 (by decide +kernel)
theorem d_8241_29 {σ : Nat → Nat} {n0 : Nat} {bf : ab_B} : decode (ab_code (zx σ n0 bf).1 8241) 29 = .ok (.aload_n 0, 1) := zd zm_8241 (by decide +kernel)
theorem d_8241_30 {σ : Nat → Nat} {n0 : Nat} {bf : ab_B} : decode (ab_code (zx σ n0 bf).1 8241) 30 = .ok (.aload_n 0, 1) := zd zm_8241 (by decide +kernel)
theorem d_8241_31 {σ : Nat → Nat} {n0 : Nat} {bf : ab_B} : decode (ab_code (zx σ n0 bf).1 8241) 31 = .ok (.getfield 96, 3) := zd zm_8241 (by decide +kernel)
theorem d_8241_34 {σ : Nat → Nat} {n0 : Nat} {bf : ab_B} : decode (ab_code (zx σ n0 bf).1 8241) 34 = .ok (.iload 5, 2) := zd zm_8241 (by decide +kernel)
theorem d_8241_36 {σ : Nat → Nat} {n0 : Nat} {bf : ab_B} : decode (ab_code (zx σ n0 bf).1 8241) 36 = .ok (.iaload, 1) := zd zm_8241 (by decide +kernel)
theorem d_8241_37 {σ : Nat → Nat} {n0 : Nat} {bf : ab_B} : decode (ab_code (zx σ n0 bf).1 8241) 37 = .ok (.invokevirtual 792, 3) := zd zm_8241 (by decide +kernel)
theorem d_8241_40 {σ : Nat → Nat} {n0 : Nat} {bf : ab_B} : decode (ab_code (zx σ n0 bf).1 8241) 40 = .ok (.istore 6, 2) := zd zm_8241 (by decide +kernel)
theorem d_8241_42 {σ : Nat → Nat} {n0 : Nat} {bf : ab_B} : decode (ab_code (zx σ n0 bf).1 8241) 42 = .ok (.aload_n 0, 1) := zd zm_8241 (by decide +kernel)
theorem d_8241_43 {σ : Nat → Nat} {n0 : Nat} {bf : ab_B} : decode (ab_code (zx σ n0 bf).1 8241) 43 = .ok (.getfield 783, 3) := zd zm_8241 (by decide +kernel)
theorem d_8241_46 {σ : Nat → Nat} {n0 : Nat} {bf : ab_B} : decode (ab_code (zx σ n0 bf).1 8241) 46 = .ok (.lstore 7, 2) := zd zm_8241 (by decide +kernel)
theorem d_8241_48 {σ : Nat → Nat} {n0 : Nat} {bf : ab_B} : decode (ab_code (zx σ n0 bf).1 8241) 48 = .ok (.lload_n 3, 1) := zd zm_8241 (by decide +kernel)
theorem d_8241_49 {σ : Nat → Nat} {n0 : Nat} {bf : ab_B} : decode (ab_code (zx σ n0 bf).1 8241) 49 = .ok (.lload 7, 2) := zd zm_8241 (by decide +kernel)
theorem d_8241_51 {σ : Nat → Nat} {n0 : Nat} {bf : ab_B} : decode (ab_code (zx σ n0 bf).1 8241) 51 = .ok (.lcmp, 1) := zd zm_8241 (by decide +kernel)
theorem d_8241_52 {σ : Nat → Nat} {n0 : Nat} {bf : ab_B} : decode (ab_code (zx σ n0 bf).1 8241) 52 = .ok (.ifCond .lt 12, 3) := zd zm_8241 (by decide +kernel)
theorem d_8241_55 {σ : Nat → Nat} {n0 : Nat} {bf : ab_B} : decode (ab_code (zx σ n0 bf).1 8241) 55 = .ok (.lload_n 3, 1) := zd zm_8241 (by decide +kernel)
theorem d_8241_56 {σ : Nat → Nat} {n0 : Nat} {bf : ab_B} : decode (ab_code (zx σ n0 bf).1 8241) 56 = .ok (.aload_n 0, 1) := zd zm_8241 (by decide +kernel)
theorem d_8241_57 {σ : Nat → Nat} {n0 : Nat} {bf : ab_B} : decode (ab_code (zx σ n0 bf).1 8241) 57 = .ok (.getfield 786, 3) := zd zm_8241 (by decide +kernel)
theorem d_8241_60 {σ : Nat → Nat} {n0 : Nat} {bf : ab_B} : decode (ab_code (zx σ n0 bf).1 8241) 60 = .ok (.lcmp, 1) := zd zm_8241 (by decide +kernel)
theorem d_8241_61 {σ : Nat → Nat} {n0 : Nat} {bf : ab_B} : decode (ab_code (zx σ n0 bf).1 8241) 61 = .ok (.ifCond .le 10, 3) := zd zm_8241 (by decide +kernel)
theorem d_8241_64 {σ : Nat → Nat} {n0 : Nat} {bf : ab_B} : decode (ab_code (zx σ n0 bf).1 8241) 64 = .ok (.aload_n 0, 1) := zd zm_8241 (by decide +kernel)
theorem d_8241_65 {σ : Nat → Nat} {n0 : Nat} {bf : ab_B} : decode (ab_code (zx σ n0 bf).1 8241) 65 = .ok (.iconst 2, 1) := zd zm_8241 (by decide +kernel)
theorem d_8241_66 {σ : Nat → Nat} {n0 : Nat} {bf : ab_B} : decode (ab_code (zx σ n0 bf).1 8241) 66 = .ok (.iload_n 1, 1) := zd zm_8241 (by decide +kernel)
theorem d_8241_67 {σ : Nat → Nat} {n0 : Nat} {bf : ab_B} : decode (ab_code (zx σ n0 bf).1 8241) 67 = .ok (.invokevirtual 1297, 3) := zd zm_8241 (by decide +kernel)
theorem d_8241_70 {σ : Nat → Nat} {n0 : Nat} {bf : ab_B} : decode (ab_code (zx σ n0 bf).1 8241) 70 = .ok (.return_, 1) := zd zm_8241 (by decide +kernel)
theorem d_8241_71 {σ : Nat → Nat} {n0 : Nat} {bf : ab_B} : decode (ab_code (zx σ n0 bf).1 8241) 71 = .ok (.aload_n 0, 1) := zd zm_8241 (by decide +kernel)
theorem d_8241_72 {σ : Nat → Nat} {n0 : Nat} {bf : ab_B} : decode (ab_code (zx σ n0 bf).1 8241) 72 = .ok (.getfield 93, 3) := zd zm_8241 (by decide +kernel)
theorem d_8241_75 {σ : Nat → Nat} {n0 : Nat} {bf : ab_B} : decode (ab_code (zx σ n0 bf).1 8241) 75 = .ok (.iload 5, 2) := zd zm_8241 (by decide +kernel)
theorem d_8241_77 {σ : Nat → Nat} {n0 : Nat} {bf : ab_B} : decode (ab_code (zx σ n0 bf).1 8241) 77 = .ok (.iaload, 1) := zd zm_8241 (by decide +kernel)
theorem d_8241_78 {σ : Nat → Nat} {n0 : Nat} {bf : ab_B} : decode (ab_code (zx σ n0 bf).1 8241) 78 = .ok (.istore 9, 2) := zd zm_8241 (by decide +kernel)
theorem d_8241_80 {σ : Nat → Nat} {n0 : Nat} {bf : ab_B} : decode (ab_code (zx σ n0 bf).1 8241) 80 = .ok (.aload_n 0, 1) := zd zm_8241 (by decide +kernel)
theorem d_8241_81 {σ : Nat → Nat} {n0 : Nat} {bf : ab_B} : decode (ab_code (zx σ n0 bf).1 8241) 81 = .ok (.getfield 105, 3) := zd zm_8241 (by decide +kernel)
theorem d_8241_84 {σ : Nat → Nat} {n0 : Nat} {bf : ab_B} : decode (ab_code (zx σ n0 bf).1 8241) 84 = .ok (.iload 9, 2) := zd zm_8241 (by decide +kernel)
theorem d_8241_86 {σ : Nat → Nat} {n0 : Nat} {bf : ab_B} : decode (ab_code (zx σ n0 bf).1 8241) 86 = .ok (.baload, 1) := zd zm_8241 (by decide +kernel)
theorem d_8241_87 {σ : Nat → Nat} {n0 : Nat} {bf : ab_B} : decode (ab_code (zx σ n0 bf).1 8241) 87 = .ok (.ifCond .eq 12, 3) := zd zm_8241 (by decide +kernel)
theorem d_8241_90 {σ : Nat → Nat} {n0 : Nat} {bf : ab_B} : decode (ab_code (zx σ n0 bf).1 8241) 90 = .ok (.aload_n 0, 1) := zd zm_8241 (by decide +kernel)
theorem d_8241_91 {σ : Nat → Nat} {n0 : Nat} {bf : ab_B} : decode (ab_code (zx σ n0 bf).1 8241) 91 = .ok (.iload 9, 2) := zd zm_8241 (by decide +kernel)
theorem d_8241_93 {σ : Nat → Nat} {n0 : Nat} {bf : ab_B} : decode (ab_code (zx σ n0 bf).1 8241) 93 = .ok (.invokevirtual 837, 3) := zd zm_8241 (by decide +kernel)
theorem d_8241_96 {σ : Nat → Nat} {n0 : Nat} {bf : ab_B} : decode (ab_code (zx σ n0 bf).1 8241) 96 = .ok (.goto 10, 3) := zd zm_8241 (by decide +kernel)
theorem d_8241_99 {σ : Nat → Nat} {n0 : Nat} {bf : ab_B} : decode (ab_code (zx σ n0 bf).1 8241) 99 = .ok (.aload_n 0, 1) := zd zm_8241 (by decide +kernel)
theorem d_8241_100 {σ : Nat → Nat} {n0 : Nat} {bf : ab_B} : decode (ab_code (zx σ n0 bf).1 8241) 100 = .ok (.getfield 115, 3) := zd zm_8241 (by decide +kernel)
theorem d_8241_103 {σ : Nat → Nat} {n0 : Nat} {bf : ab_B} : decode (ab_code (zx σ n0 bf).1 8241) 103 = .ok (.iload 9, 2) := zd zm_8241 (by decide +kernel)
theorem d_8241_105 {σ : Nat → Nat} {n0 : Nat} {bf : ab_B} : decode (ab_code (zx σ n0 bf).1 8241) 105 = .ok (.iaload, 1) := zd zm_8241 (by decide +kernel)
theorem d_8241_106 {σ : Nat → Nat} {n0 : Nat} {bf : ab_B} : decode (ab_code (zx σ n0 bf).1 8241) 106 = .ok (.istore 10, 2) := zd zm_8241 (by decide +kernel)
theorem d_8241_108 {σ : Nat → Nat} {n0 : Nat} {bf : ab_B} : decode (ab_code (zx σ n0 bf).1 8241) 108 = .ok (.aload_n 0, 1) := zd zm_8241 (by decide +kernel)
theorem d_8241_109 {σ : Nat → Nat} {n0 : Nat} {bf : ab_B} : decode (ab_code (zx σ n0 bf).1 8241) 109 = .ok (.getfield 419, 3) := zd zm_8241 (by decide +kernel)
theorem d_8241_112 {σ : Nat → Nat} {n0 : Nat} {bf : ab_B} : decode (ab_code (zx σ n0 bf).1 8241) 112 = .ok (.iload_n 2, 1) := zd zm_8241 (by decide +kernel)
theorem d_8241_113 {σ : Nat → Nat} {n0 : Nat} {bf : ab_B} : decode (ab_code (zx σ n0 bf).1 8241) 113 = .ok (.iconst 0, 1) := zd zm_8241 (by decide +kernel)
theorem d_8241_114 {σ : Nat → Nat} {n0 : Nat} {bf : ab_B} : decode (ab_code (zx σ n0 bf).1 8241) 114 = .ok (.iastore, 1) := zd zm_8241 (by decide +kernel)
theorem d_8241_115 {σ : Nat → Nat} {n0 : Nat} {bf : ab_B} : decode (ab_code (zx σ n0 bf).1 8241) 115 = .ok (.aload_n 0, 1) := zd zm_8241 (by decide +kernel)
theorem d_8241_116 {σ : Nat → Nat} {n0 : Nat} {bf : ab_B} : decode (ab_code (zx σ n0 bf).1 8241) 116 = .ok (.aload_n 0, 1) := zd zm_8241 (by decide +kernel)
theorem d_8241_117 {σ : Nat → Nat} {n0 : Nat} {bf : ab_B} : decode (ab_code (zx σ n0 bf).1 8241) 117 = .ok (.getfield 409, 3) := zd zm_8241 (by decide +kernel)
theorem d_8241_120 {σ : Nat → Nat} {n0 : Nat} {bf : ab_B} : decode (ab_code (zx σ n0 bf).1 8241) 120 = .ok (.iload_n 2, 1) := zd zm_8241 (by decide +kernel)
theorem d_8241_121 {σ : Nat → Nat} {n0 : Nat} {bf : ab_B} : decode (ab_code (zx σ n0 bf).1 8241) 121 = .ok (.iaload, 1) := zd zm_8241 (by decide +kernel)
theorem d_8241_122 {σ : Nat → Nat} {n0 : Nat} {bf : ab_B} : decode (ab_code (zx σ n0 bf).1 8241) 122 = .ok (.lload_n 3, 1) := zd zm_8241 (by decide +kernel)
theorem d_8241_123 {σ : Nat → Nat} {n0 : Nat} {bf : ab_B} : decode (ab_code (zx σ n0 bf).1 8241) 123 = .ok (.lload 7, 2) := zd zm_8241 (by decide +kernel)
theorem d_8241_125 {σ : Nat → Nat} {n0 : Nat} {bf : ab_B} : decode (ab_code (zx σ n0 bf).1 8241) 125 = .ok (.lsub, 1) := zd zm_8241 (by decide +kernel)
theorem d_8241_126 {σ : Nat → Nat} {n0 : Nat} {bf : ab_B} : decode (ab_code (zx σ n0 bf).1 8241) 126 = .ok (.l2i, 1) := zd zm_8241 (by decide +kernel)
theorem d_8241_127 {σ : Nat → Nat} {n0 : Nat} {bf : ab_B} : decode (ab_code (zx σ n0 bf).1 8241) 127 = .ok (.iload 10, 2) := zd zm_8241 (by decide +kernel)
theorem d_8241_129 {σ : Nat → Nat} {n0 : Nat} {bf : ab_B} : decode (ab_code (zx σ n0 bf).1 8241) 129 = .ok (.imul, 1) := zd zm_8241 (by decide +kernel)
theorem d_8241_130 {σ : Nat → Nat} {n0 : Nat} {bf : ab_B} : decode (ab_code (zx σ n0 bf).1 8241) 130 = .ok (.iadd, 1) := zd zm_8241 (by decide +kernel)
theorem d_8241_131 {σ : Nat → Nat} {n0 : Nat} {bf : ab_B} : decode (ab_code (zx σ n0 bf).1 8241) 131 = .ok (.iload 9, 2) := zd zm_8241 (by decide +kernel)
theorem d_8241_133 {σ : Nat → Nat} {n0 : Nat} {bf : ab_B} : decode (ab_code (zx σ n0 bf).1 8241) 133 = .ok (.invokevirtual 1304, 3) := zd zm_8241 (by decide +kernel)
theorem d_8241_136 {σ : Nat → Nat} {n0 : Nat} {bf : ab_B} : decode (ab_code (zx σ n0 bf).1 8241) 136 = .ok (.return_, 1) := zd zm_8241 (by decide +kernel)
def w_X9_index_64 (X : zs_X) (d : Nat) (p0 : Nat) (p1 : Int32) (S : zs_T) (Q : zs_Q) : Prop :=
  (zs_K S p0 = some (.inl 8) ∧ zs_C X d 8208 [.ref p0, .int (2 : Int32), .int p1] S (zs_kV (fun S2 => (Q (.returned none) S2)) Q))
theorem u_X9_index_64 {σ : Nat → Nat} {n0 : Nat} {bf : ab_B} {d : Nat} {p0 : Nat} {p1 : Int32} {S : zs_T} {Q : zs_Q} (hB : zt_B bf) (h : w_X9_index_64 (zx σ n0 bf) d p0 p1 S Q) : zs_U (zx σ n0 bf) d 8241 64 [(0, .ref p0), (1, .int p1)] [] S Q := by
  unfold w_X9_index_64 at h
  refine zu_aload_n d_8241_64 rfl (zs_ra _) ?_
  refine zu_iconst d_8241_65 zi_2 ?_
  refine zu_iload_n d_8241_66 rfl ?_
  obtain ⟨k1, h⟩ := h
  refine zc_8_1297 (x0 := (2 : Int32)) (x1 := p1) hB rfl k1 d_8241_67 (Nat.le_of_ble_eq_true rfl) h (fun S2 h => ?_)
  exact zu_vret d_8241_70 zr_8241 h
def w_X9_index_136 (X : zs_X) (d : Nat)  (S : zs_T) (Q : zs_Q) : Prop :=
  (Q (.returned none) S)
theorem u_X9_index_136 {σ : Nat → Nat} {n0 : Nat} {bf : ab_B} {d : Nat}  {S : zs_T} {Q : zs_Q} (hB : zt_B bf) (h : w_X9_index_136 (zx σ n0 bf) d  S Q) : zs_U (zx σ n0 bf) d 8241 136 [] [] S Q := by
  unfold w_X9_index_136 at h
  exact zu_vret d_8241_136 zr_8241 h
def w_X9_index_106 (X : zs_X) (d : Nat) (p0 : Nat) (p2 : Int32) (p3 : Int64) (p7 : Int64) (p9 : Int32) (q0 : Int32) (S : zs_T) (Q : zs_Q) : Prop :=
  (zs_K S p0 = some (.inl 8) ∧ ∃ b2, (zs_R S 8192 p0) = some b2 ∧ zs_A S b2 0 p2 ∧ ab_n0 X.1 ≤ b2 ∧ ∀ S6, S6 = zs_si S b2 p2.toNatClampNeg (0 : Int32) → ∃ b9, (zs_R S6 8189 p0) = some b9 ∧ zs_A S b9 0 p2 ∧ zs_C X d 8240 [.ref p0, .int ((zs_i S6 b9 p2.toNatClampNeg) + ((((p3 - p7)).toInt32) * q0)), .int p9] S6 (zs_kV (fun S12 => w_X9_index_136 X d  S12 Q) Q))
theorem u_X9_index_106 {σ : Nat → Nat} {n0 : Nat} {bf : ab_B} {d : Nat} {p0 : Nat} {p2 : Int32} {p3 : Int64} {p7 : Int64} {p9 : Int32} {q0 : Int32} {S : zs_T} {Q : zs_Q} (hB : zt_B bf) (h : w_X9_index_106 (zx σ n0 bf) d p0 p2 p3 p7 p9 q0 S Q) : zs_U (zx σ n0 bf) d 8241 106 [(0, .ref p0), (2, .int p2), (3, .long p3), (7, .long p7), (9, .int p9)] [.int q0] S Q := by
  unfold w_X9_index_106 at h
  refine zu_istore d_8241_106 (zs_lt zq_8241 rfl) ?_
  refine zu_aload_n d_8241_108 rfl (zs_ra _) ?_
  obtain ⟨k1, h⟩ := h
  refine zg_8_419 rfl d_8241_109 k1 ?_
  refine zu_iload_n d_8241_112 rfl ?_
  refine zu_iconst d_8241_113 zi_0 ?_
  obtain ⟨b2, e3, h⟩ := h
  refine zs_stk2 (zs_rfe e3) ?_
  obtain ⟨k4, h⟩ := h
  obtain ⟨k5, h⟩ := h
  refine zu_iast (k := 0) d_8241_114 rfl rfl k5 k4 ?_
  generalize e7 : zs_si S b2 p2.toNatClampNeg (0 : Int32) = S6
  have h := h S6 e7.symm
  have K8 : ∀ b, zs_K S6 b = zs_K S b := zs_Kt e7 (zs_Ksi _ _ _ _) (fun _ => rfl)
  refine zu_aload_n d_8241_115 rfl (zs_ra _) ?_
  refine zu_aload_n d_8241_116 rfl (zs_ra _) ?_
  refine zg_8_409 rfl d_8241_117 ((K8 _).trans k1) ?_
  refine zu_iload_n d_8241_120 rfl ?_
  obtain ⟨b9, e10, h⟩ := h
  refine zs_stk1 (zs_rfe e10) ?_
  obtain ⟨k11, h⟩ := h
  refine zu_iald (k := 0) d_8241_121 rfl rfl (zs_Ak K8 k11) ?_
  refine zu_lload_n d_8241_122 rfl ?_
  refine zu_lload d_8241_123 rfl ?_
  refine zu_stk d_8241_125 rfl rfl ?_
  refine zu_stk d_8241_126 rfl rfl ?_
  refine zu_iload d_8241_127 rfl ?_
  refine zu_stk d_8241_129 rfl rfl ?_
  refine zu_stk d_8241_130 rfl rfl ?_
  refine zu_iload d_8241_131 rfl ?_
  refine zc_8_1304 (x0 := ((zs_i S6 b9 p2.toNatClampNeg) + ((((p3 - p7)).toInt32) * q0))) (x1 := p9) hB rfl ((K8 _).trans k1) d_8241_133 (Nat.le_of_ble_eq_true rfl) h (fun S12 h => ?_)
  exact (u_X9_index_136 hB h).weak trivial
def w_X9_index_71 (X : zs_X) (d : Nat) (p0 : Nat) (p2 : Int32) (p3 : Int64) (p5 : Int32) (p7 : Int64) (S : zs_T) (Q : zs_Q) : Prop :=
  (zs_K S p0 = some (.inl 8) ∧ ∃ b2, (zs_R S 8045 p0) = some b2 ∧ zs_A S b2 0 p5 ∧ ∃ b5, (zs_R S 8049 p0) = some b5 ∧ zs_A S b5 2 (zs_i S b2 p5.toNatClampNeg) ∧ (((zs_i S b5 (zs_i S b2 p5.toNatClampNeg).toNatClampNeg) = 0 → (∃ b9, (zs_R S 8052 p0) = some b9 ∧ zs_A S b9 0 (zs_i S b2 p5.toNatClampNeg) ∧ w_X9_index_106 X d p0 p2 p3 p7 (zs_i S b2 p5.toNatClampNeg) (zs_i S b9 (zs_i S b2 p5.toNatClampNeg).toNatClampNeg) S Q)) ∧ (¬ ((zs_i S b5 (zs_i S b2 p5.toNatClampNeg).toNatClampNeg) = 0) → (zs_C X d 8115 [.ref p0, .int (zs_i S b2 p5.toNatClampNeg)] S (zs_kI (fun v13 S12 => (w_X9_index_106 X d p0 p2 p3 p7 (zs_i S b2 p5.toNatClampNeg) v13 S12 Q)) Q)))))
theorem u_X9_index_71 {σ : Nat → Nat} {n0 : Nat} {bf : ab_B} {d : Nat} {p0 : Nat} {p2 : Int32} {p3 : Int64} {p5 : Int32} {p7 : Int64} {S : zs_T} {Q : zs_Q} (hB : zt_B bf) (h : w_X9_index_71 (zx σ n0 bf) d p0 p2 p3 p5 p7 S Q) : zs_U (zx σ n0 bf) d 8241 71 [(0, .ref p0), (2, .int p2), (3, .long p3), (5, .int p5), (7, .long p7)] [] S Q := by
  unfold w_X9_index_71 at h
  refine zu_aload_n d_8241_71 rfl (zs_ra _) ?_
  obtain ⟨k1, h⟩ := h
  refine zg_8_93 rfl d_8241_72 k1 ?_
  refine zu_iload d_8241_75 rfl ?_
  obtain ⟨b2, e3, h⟩ := h
  refine zs_stk1 (zs_rfe e3) ?_
  obtain ⟨k4, h⟩ := h
  refine zu_iald (k := 0) d_8241_77 rfl rfl k4 ?_
  refine zu_istore d_8241_78 (zs_lt zq_8241 rfl) ?_
  refine zu_aload_n d_8241_80 rfl (zs_ra _) ?_
  refine zg_8_105 rfl d_8241_81 k1 ?_
  refine zu_iload d_8241_84 rfl ?_
  obtain ⟨b5, e6, h⟩ := h
  refine zs_stk1 (zs_rfe e6) ?_
  obtain ⟨k7, h⟩ := h
  refine zu_bald (k := 2) d_8241_86 rfl (Or.inr rfl) k7 ?_
  refine zu_ifeq (t := 99) d_8241_87 rfl (fun c8 => ?_) (fun c8 => ?_)
  · have h := h.1 c8
    refine zu_aload_n d_8241_99 rfl (zs_ra _) ?_
    refine zg_8_115 rfl d_8241_100 k1 ?_
    refine zu_iload d_8241_103 rfl ?_
    obtain ⟨b9, e10, h⟩ := h
    refine zs_stk1 (zs_rfe e10) ?_
    obtain ⟨k11, h⟩ := h
    refine zu_iald (k := 0) d_8241_105 rfl rfl k11 ?_
    exact (u_X9_index_106 hB h).weak ⟨rfl, rfl, rfl, rfl, rfl, trivial⟩
  · have h := h.2 c8
    refine zu_aload_n d_8241_90 rfl (zs_ra _) ?_
    refine zu_iload d_8241_91 rfl ?_
    refine zc_8_837 (x0 := (zs_i S b2 p5.toNatClampNeg)) hB rfl k1 d_8241_93 (Nat.le_of_ble_eq_true rfl) h (fun v13 S12 h => ?_)
    refine zu_goto (t := 106) d_8241_96 rfl ?_
    exact (u_X9_index_106 hB h).weak ⟨rfl, rfl, rfl, rfl, rfl, trivial⟩
def w_X9_index_29 (X : zs_X) (d : Nat) (p0 : Nat) (p1 : Int32) (p2 : Int32) (p3 : Int64) (p5 : Int32) (S : zs_T) (Q : zs_Q) : Prop :=
  (zs_K S p0 = some (.inl 8) ∧ ∃ b2, (zs_R S 8046 p0) = some b2 ∧ zs_A S b2 0 p5 ∧ zs_C X d 8123 [.ref p0, .int (zs_i S b2 p5.toNatClampNeg)] S (zs_kI (fun v6 S5 => (zs_K S5 p0 = some (.inl 8) ∧ ((p3 < (zs_J S5 8125 p0) → w_X9_index_64 X d p0 p1 S5 Q) ∧ (¬ (p3 < (zs_J S5 8125 p0)) → (((p3 ≤ (zs_J S5 8126 p0) → w_X9_index_71 X d p0 p2 p3 p5 (zs_J S5 8125 p0) S5 Q) ∧ (¬ (p3 ≤ (zs_J S5 8126 p0)) → w_X9_index_64 X d p0 p1 S5 Q))))))) Q))
theorem u_X9_index_29 {σ : Nat → Nat} {n0 : Nat} {bf : ab_B} {d : Nat} {p0 : Nat} {p1 : Int32} {p2 : Int32} {p3 : Int64} {p5 : Int32} {S : zs_T} {Q : zs_Q} (hB : zt_B bf) (h : w_X9_index_29 (zx σ n0 bf) d p0 p1 p2 p3 p5 S Q) : zs_U (zx σ n0 bf) d 8241 29 [(0, .ref p0), (1, .int p1), (2, .int p2), (3, .long p3), (5, .int p5)] [] S Q := by
  unfold w_X9_index_29 at h
  refine zu_aload_n d_8241_29 rfl (zs_ra _) ?_
  refine zu_aload_n d_8241_30 rfl (zs_ra _) ?_
  obtain ⟨k1, h⟩ := h
  refine zg_8_96 rfl d_8241_31 k1 ?_
  refine zu_iload d_8241_34 rfl ?_
  obtain ⟨b2, e3, h⟩ := h
  refine zs_stk1 (zs_rfe e3) ?_
  obtain ⟨k4, h⟩ := h
  refine zu_iald (k := 0) d_8241_36 rfl rfl k4 ?_
  refine zc_8_792 (x0 := (zs_i S b2 p5.toNatClampNeg)) hB rfl k1 d_8241_37 (Nat.le_of_ble_eq_true rfl) h (fun v6 S5 h => ?_)
  refine zu_istore d_8241_40 (zs_lt zq_8241 rfl) ?_
  refine zu_aload_n d_8241_42 rfl (zs_ra _) ?_
  obtain ⟨k7, h⟩ := h
  refine zg_8_783 rfl d_8241_43 k7 ?_
  refine zu_lstore d_8241_46 (zs_lt zq_8241 rfl) ?_
  refine zu_lload_n d_8241_48 rfl ?_
  refine zu_lload d_8241_49 rfl ?_
  refine zu_llt (t := 64) d_8241_51 d_8241_52 rfl (fun c8 => ?_) (fun c8 => ?_)
  · have h := h.1 c8
    exact (u_X9_index_64 hB h).weak ⟨rfl, rfl, trivial⟩
  · have h := h.2 c8
    refine zu_lload_n d_8241_55 rfl ?_
    refine zu_aload_n d_8241_56 rfl (zs_ra _) ?_
    refine zg_8_786 rfl d_8241_57 k7 ?_
    refine zu_lle (t := 71) d_8241_60 d_8241_61 rfl (fun c9 => ?_) (fun c9 => ?_)
    · have h := h.1 c9
      exact (u_X9_index_71 hB h).weak ⟨rfl, rfl, rfl, rfl, rfl, trivial⟩
    · have h := h.2 c9
      exact (u_X9_index_64 hB h).weak ⟨rfl, rfl, trivial⟩
def w_X9_index (X : zs_X) (d : Nat) (p0 : Nat) (p1 : Int32) (S : zs_T) (Q : zs_Q) : Prop :=
  (zs_K S p0 = some (.inl 8) ∧ zs_C X d 8242 [.ref p0] S (zs_kJ (fun v3 S2 => (zs_K S2 p0 = some (.inl 8) ∧ ∃ b5, (zs_R S2 8190 p0) = some b5 ∧ zs_A S2 b5 0 ((zs_I S 8195 p0) - (1 : Int32)) ∧ zs_C X d 8073 [.ref p0, .int (zs_i S2 b5 ((zs_I S 8195 p0) - (1 : Int32)).toNatClampNeg)] S2 (zs_kI (fun v9 S8 => (zs_K S8 p0 = some (.inl 8) ∧ zs_C X d 8226 [.ref p0, .int ((zs_I S 8195 p0) - (1 : Int32))] S8 (zs_kV (fun S11 => w_X9_index_29 X d p0 p1 ((zs_I S 8195 p0) - (1 : Int32)) v3 v9 S11 Q) Q))) Q))) Q))
theorem u_X9_index {σ : Nat → Nat} {n0 : Nat} {bf : ab_B} {d : Nat} {p0 : Nat} {p1 : Int32} {S : zs_T} {Q : zs_Q} (hB : zt_B bf) (hd : 1 ≤ d) (h : w_X9_index (zx σ n0 bf) (d - 1) p0 p1 S Q) : zs_C (zx σ n0 bf) d 8241 [.ref p0, .int p1] S Q := by
  have hL : lv_args 0 [.ref p0, .int p1] = [(0, .ref p0), (1, .int p1)] := rfl
  refine zs_C.of1 (hB.2 8241 (by decide) (by decide)) hd (by rw [hL]; exact zs_sub_self _ (by exact ⟨rfl, rfl, trivial⟩)) ?_
  rw [hL]
  clear hL
  unfold w_X9_index at h
  refine zu_aload_n d_8241_0 rfl (zs_ra _) ?_
  obtain ⟨k1, h⟩ := h
  refine zg_8_1270 rfl d_8241_1 k1 ?_
  refine zu_iconst d_8241_4 zi_1 ?_
  refine zu_stk d_8241_5 rfl rfl ?_
  refine zu_istore_n d_8241_6 (zs_lt zq_8241 rfl) ?_
  refine zu_aload_n d_8241_7 rfl (zs_ra _) ?_
  refine zc_8_1307  hB rfl k1 d_8241_8 (Nat.le_of_ble_eq_true rfl) h (fun v3 S2 h => ?_)
  refine zu_lstore_n d_8241_11 (zs_lt zq_8241 rfl) ?_
  refine zu_aload_n d_8241_12 rfl (zs_ra _) ?_
  refine zu_aload_n d_8241_13 rfl (zs_ra _) ?_
  obtain ⟨k4, h⟩ := h
  refine zg_8_412 rfl d_8241_14 k4 ?_
  refine zu_iload_n d_8241_17 rfl ?_
  obtain ⟨b5, e6, h⟩ := h
  refine zs_stk1 (zs_rfe e6) ?_
  obtain ⟨k7, h⟩ := h
  refine zu_iald (k := 0) d_8241_18 rfl rfl k7 ?_
  refine zc_8_730 (x0 := (zs_i S2 b5 ((zs_I S 8195 p0) - (1 : Int32)).toNatClampNeg)) hB rfl k4 d_8241_19 (Nat.le_of_ble_eq_true rfl) h (fun v9 S8 h => ?_)
  refine zu_istore d_8241_22 (zs_lt zq_8241 rfl) ?_
  refine zu_aload_n d_8241_24 rfl (zs_ra _) ?_
  refine zu_iload_n d_8241_25 rfl ?_
  obtain ⟨k10, h⟩ := h
  refine zc_8_1291 (x0 := ((zs_I S 8195 p0) - (1 : Int32))) hB rfl k10 d_8241_26 (Nat.le_of_ble_eq_true rfl) h (fun S11 h => ?_)
  exact (u_X9_index_29 hB h).weak ⟨rfl, rfl, rfl, rfl, rfl, trivial⟩
/-! SchemaPascalModel.pop()J -/
theorem zm_8242 {σ : Nat → Nat} {n0 : Nat} {bf : ab_B} : ab_code (zx σ n0 bf).1 8242 = prog_17_method_206_code := rfl
theorem zq_8242 {σ : Nat → Nat} {n0 : Nat} {bf : ab_B} : ab_maxL (zx σ n0 bf).1 8242 = 1 := rfl
theorem zr_8242 {σ : Nat → Nat} {n0 : Nat} {bf : ab_B} : ab_ret (zx σ n0 bf).1 8242 = (Option.some Jvm.ClassFile.FieldType.long) := rfl
theorem d_8242_0 {σ : Nat → Nat} {n0 : Nat} {bf : ab_B} : decode (ab_code (zx σ n0 bf).1 8242) 0 = .ok (.aload_n 0, 1) := zd zm_8242 (by decide +kernel)
theorem d_8242_1 {σ : Nat → Nat} {n0 : Nat} {bf : ab_B} : decode (ab_code (zx σ n0 bf).1 8242) 1 = .ok (.dup, 1) := zd zm_8242 (by decide +kernel)
theorem d_8242_2 {σ : Nat → Nat} {n0 : Nat} {bf : ab_B} : decode (ab_code (zx σ n0 bf).1 8242) 2 = .ok (.getfield 1261, 3) := zd zm_8242 (by decide +kernel)
theorem d_8242_5 {σ : Nat → Nat} {n0 : Nat} {bf : ab_B} : decode (ab_code (zx σ n0 bf).1 8242) 5 = .ok (.iconst 1, 1) := zd zm_8242 (by decide +kernel)
theorem d_8242_6 {σ : Nat → Nat} {n0 : Nat} {bf : ab_B} : decode (ab_code (zx σ n0 bf).1 8242) 6 = .ok (.isub, 1) := zd zm_8242 (by decide +kernel)
theorem d_8242_7 {σ : Nat → Nat} {n0 : Nat} {bf : ab_B} : decode (ab_code (zx σ n0 bf).1 8242) 7 = .ok (.putfield 1261, 3) := zd zm_8242 (by decide +kernel)
theorem d_8242_10 {σ : Nat → Nat} {n0 : Nat} {bf : ab_B} : decode (ab_code (zx σ n0 bf).1 8242) 10 = .ok (.aload_n 0, 1) := zd zm_8242 (by decide +kernel)
theorem d_8242_11 {σ : Nat → Nat} {n0 : Nat} {bf : ab_B} : decode (ab_code (zx σ n0 bf).1 8242) 11 = .ok (.getfield 399, 3) := zd zm_8242 (by decide +kernel)
theorem d_8242_14 {σ : Nat → Nat} {n0 : Nat} {bf : ab_B} : decode (ab_code (zx σ n0 bf).1 8242) 14 = .ok (.aload_n 0, 1) := zd zm_8242 (by decide +kernel)
theorem d_8242_15 {σ : Nat → Nat} {n0 : Nat} {bf : ab_B} : decode (ab_code (zx σ n0 bf).1 8242) 15 = .ok (.getfield 1261, 3) := zd zm_8242 (by decide +kernel)
theorem d_8242_18 {σ : Nat → Nat} {n0 : Nat} {bf : ab_B} : decode (ab_code (zx σ n0 bf).1 8242) 18 = .ok (.laload, 1) := zd zm_8242 (by decide +kernel)
theorem d_8242_19 {σ : Nat → Nat} {n0 : Nat} {bf : ab_B} : decode (ab_code (zx σ n0 bf).1 8242) 19 = .ok (.lreturn, 1) := zd zm_8242 (by decide +kernel)
def w_X9_pop (X : zs_X) (d : Nat) (p0 : Nat) (S : zs_T) (Q : zs_Q) : Prop :=
  (zs_K S p0 = some (.inl 8) ∧ ab_n0 X.1 ≤ p0 ∧ ∀ S3, S3 = zs_sI S 8184 p0 ((zs_I S 8184 p0) - (1 : Int32)) → ∃ b6, (zs_R S3 8183 p0) = some b6 ∧ zs_A S b6 3 (zs_I S3 8184 p0) ∧ Q (.returned (some (.long (zs_j S3 b6 (zs_I S3 8184 p0).toNatClampNeg)))) S3)
theorem u_X9_pop {σ : Nat → Nat} {n0 : Nat} {bf : ab_B} {d : Nat} {p0 : Nat} {S : zs_T} {Q : zs_Q} (hB : zt_B bf) (hd : 1 ≤ d) (h : w_X9_pop (zx σ n0 bf) (d - 1) p0 S Q) : zs_C (zx σ n0 bf) d 8242 [.ref p0] S Q := by
  have hL : lv_args 0 [.ref p0] = [(0, .ref p0)] := rfl
  refine zs_C.of1 (hB.2 8242 (by decide) (by decide)) hd (by rw [hL]; exact zs_sub_self _ (by exact ⟨rfl, trivial⟩)) ?_
  rw [hL]
  clear hL
  unfold w_X9_pop at h
  refine zu_aload_n d_8242_0 rfl (zs_ra _) ?_
  refine zu_dup d_8242_1 rfl ?_
  obtain ⟨k1, h⟩ := h
  refine zg_8_1261 rfl d_8242_2 k1 ?_
  refine zu_iconst d_8242_5 zi_1 ?_
  refine zu_stk d_8242_6 rfl rfl ?_
  obtain ⟨k2, h⟩ := h
  refine zp_8_1261 (v := ((zs_I S 8184 p0) - (1 : Int32))) rfl d_8242_7 k1 k2 ?_
  generalize e4 : zs_sI S 8184 p0 ((zs_I S 8184 p0) - (1 : Int32)) = S3
  have h := h S3 e4.symm
  have K5 : ∀ b, zs_K S3 b = zs_K S b := zs_Kt e4 (zs_KsI _ _ _ _) (fun _ => rfl)
  refine zu_aload_n d_8242_10 rfl (zs_ra _) ?_
  refine zg_8_399 rfl d_8242_11 ((K5 _).trans k1) ?_
  refine zu_aload_n d_8242_14 rfl (zs_ra _) ?_
  refine zg_8_1261 rfl d_8242_15 ((K5 _).trans k1) ?_
  obtain ⟨b6, e7, h⟩ := h
  refine zs_stk1 (zs_rfe e7) ?_
  obtain ⟨k8, h⟩ := h
  refine zu_lald (k := 3) d_8242_18 rfl rfl (zs_Ak K5 k8) ?_
  exact zu_lret d_8242_19 zr_8242 h
/-! SchemaPascalModel.deref(I)V -/
theorem zm_8243 {σ : Nat → Nat} {n0 : Nat} {bf : ab_B} : ab_code (zx σ n0 bf).1 8243 = prog_17_method_219_code := rfl
theorem zq_8243 {σ : Nat → Nat} {n0 : Nat} {bf : ab_B} : ab_maxL (zx σ n0 bf).1 8243 = 3 := rfl
theorem zr_8243 {σ : Nat → Nat} {n0 : Nat} {bf : ab_B} : ab_ret (zx σ n0 bf).1 8243 = (Option.none : Option Jvm.ClassFile.FieldType) := rfl
theorem d_8243_0 {σ : Nat → Nat} {n0 : Nat} {bf : ab_B} : decode (ab_code (zx σ n0 bf).1 8243) 0 = .ok (.aload_n 0, 1) := zd zm_8243 (by decide +kernel)
theorem d_8243_1 {σ : Nat → Nat} {n0 : Nat} {bf : ab_B} : decode (ab_code (zx σ n0 bf).1 8243) 1 = .ok (.invokevirtual 1307, 3) := zd zm_8243 (by decide +kernel)
theorem d_8243_4 {σ : Nat → Nat} {n0 : Nat} {bf : ab_B} : decode (ab_code (zx σ n0 bf).1 8243) 4 = .ok (.l2i, 1) := zd zm_8243 (by decide +kernel)
theorem d_8243_5 {σ : Nat → Nat} {n0 : Nat} {bf : ab_B} : decode (ab_code (zx σ n0 bf).1 8243) 5 = .ok (.istore_n 2, 1) := zd zm_8243 (by decide +kernel)
theorem d_8243_6 {σ : Nat → Nat} {n0 : Nat} {bf : ab_B} : decode (ab_code (zx σ n0 bf).1 8243) 6 = .ok (.iload_n 2, 1) := zd zm_8243 (by decide +kernel)
theorem d_8243_7 {σ : Nat → Nat} {n0 : Nat} {bf : ab_B} : decode (ab_code (zx σ n0 bf).1 8243) 7 = .ok (.ifCond .eq 12, 3) := zd zm_8243 (by decide +kernel)
theorem d_8243_10 {σ : Nat → Nat} {n0 : Nat} {bf : ab_B} : decode (ab_code (zx σ n0 bf).1 8243) 10 = .ok (.aload_n 0, 1) := zd zm_8243 (by decide +kernel)
theorem d_8243_11 {σ : Nat → Nat} {n0 : Nat} {bf : ab_B} : decode (ab_code (zx σ n0 bf).1 8243) 11 = .ok (.getfield 395, 3) := zd zm_8243 (by decide +kernel)
theorem d_8243_14 {σ : Nat → Nat} {n0 : Nat} {bf : ab_B} : decode (ab_code (zx σ n0 bf).1 8243) 14 = .ok (.iload_n 2, 1) := zd zm_8243 (by decide +kernel)
theorem d_8243_15 {σ : Nat → Nat} {n0 : Nat} {bf : ab_B} : decode (ab_code (zx σ n0 bf).1 8243) 15 = .ok (.baload, 1) := zd zm_8243 (by decide +kernel)
theorem d_8243_16 {σ : Nat → Nat} {n0 : Nat} {bf : ab_B} : decode (ab_code (zx σ n0 bf).1 8243) 16 = .ok (.ifCond .ne 18, 3) := zd zm_8243 (by decide +kernel)
theorem d_8243_19 {σ : Nat → Nat} {n0 : Nat} {bf : ab_B} : decode (ab_code (zx σ n0 bf).1 8243) 19 = .ok (.aload_n 0, 1) := zd zm_8243 (by decide +kernel)
theorem d_8243_20 {σ : Nat → Nat} {n0 : Nat} {bf : ab_B} : decode (ab_code (zx σ n0 bf).1 8243) 20 = .ok (.iload_n 2, 1) := zd zm_8243 (by decide +kernel)
theorem d_8243_21 {σ : Nat → Nat} {n0 : Nat} {bf : ab_B} : decode (ab_code (zx σ n0 bf).1 8243) 21 = .ok (.ifCond .ne 7, 3) := zd zm_8243 (by decide +kernel)
theorem d_8243_24 {σ : Nat → Nat} {n0 : Nat} {bf : ab_B} : decode (ab_code (zx σ n0 bf).1 8243) 24 = .ok (.iconst 4, 1) := zd zm_8243 (by decide +kernel)
theorem d_8243_25 {σ : Nat → Nat} {n0 : Nat} {bf : ab_B} : decode (ab_code (zx σ n0 bf).1 8243) 25 = .ok (.goto 4, 3) := zd zm_8243 (by decide +kernel)
theorem d_8243_28 {σ : Nat → Nat} {n0 : Nat} {bf : ab_B} : decode (ab_code (zx σ n0 bf).1 8243) 28 = .ok (.iconst 5, 1) := zd zm_8243 (by decide +kernel)
theorem d_8243_29 {σ : Nat → Nat} {n0 : Nat} {bf : ab_B} : decode (ab_code (zx σ n0 bf).1 8243) 29 = .ok (.iload_n 1, 1) := zd zm_8243 (by decide +kernel)
theorem d_8243_30 {σ : Nat → Nat} {n0 : Nat} {bf : ab_B} : decode (ab_code (zx σ n0 bf).1 8243) 30 = .ok (.invokevirtual 1297, 3) := zd zm_8243 (by decide +kernel)
theorem d_8243_33 {σ : Nat → Nat} {n0 : Nat} {bf : ab_B} : decode (ab_code (zx σ n0 bf).1 8243) 33 = .ok (.return_, 1) := zd zm_8243 (by decide +kernel)
theorem d_8243_34 {σ : Nat → Nat} {n0 : Nat} {bf : ab_B} : decode (ab_code (zx σ n0 bf).1 8243) 34 = .ok (.aload_n 0, 1) := zd zm_8243 (by decide +kernel)
theorem d_8243_35 {σ : Nat → Nat} {n0 : Nat} {bf : ab_B} : decode (ab_code (zx σ n0 bf).1 8243) 35 = .ok (.aload_n 0, 1) := zd zm_8243 (by decide +kernel)
theorem d_8243_36 {σ : Nat → Nat} {n0 : Nat} {bf : ab_B} : decode (ab_code (zx σ n0 bf).1 8243) 36 = .ok (.getfield 392, 3) := zd zm_8243 (by decide +kernel)
theorem d_8243_39 {σ : Nat → Nat} {n0 : Nat} {bf : ab_B} : decode (ab_code (zx σ n0 bf).1 8243) 39 = .ok (.iconst 4, 1) := zd zm_8243 (by decide +kernel)
theorem d_8243_40 {σ : Nat → Nat} {n0 : Nat} {bf : ab_B} : decode (ab_code (zx σ n0 bf).1 8243) 40 = .ok (.iload_n 2, 1) := zd zm_8243 (by decide +kernel)
theorem d_8243_41 {σ : Nat → Nat} {n0 : Nat} {bf : ab_B} : decode (ab_code (zx σ n0 bf).1 8243) 41 = .ok (.imul, 1) := zd zm_8243 (by decide +kernel)
theorem d_8243_42 {σ : Nat → Nat} {n0 : Nat} {bf : ab_B} : decode (ab_code (zx σ n0 bf).1 8243) 42 = .ok (.laload, 1) := zd zm_8243 (by decide +kernel)
theorem d_8243_43 {σ : Nat → Nat} {n0 : Nat} {bf : ab_B} : decode (ab_code (zx σ n0 bf).1 8243) 43 = .ok (.putfield 610, 3) := zd zm_8243 (by decide +kernel)
theorem d_8243_46 {σ : Nat → Nat} {n0 : Nat} {bf : ab_B} : decode (ab_code (zx σ n0 bf).1 8243) 46 = .ok (.aload_n 0, 1) := zd zm_8243 (by decide +kernel)
theorem d_8243_47 {σ : Nat → Nat} {n0 : Nat} {bf : ab_B} : decode (ab_code (zx σ n0 bf).1 8243) 47 = .ok (.aload_n 0, 1) := zd zm_8243 (by decide +kernel)
theorem d_8243_48 {σ : Nat → Nat} {n0 : Nat} {bf : ab_B} : decode (ab_code (zx σ n0 bf).1 8243) 48 = .ok (.getfield 392, 3) := zd zm_8243 (by decide +kernel)
theorem d_8243_51 {σ : Nat → Nat} {n0 : Nat} {bf : ab_B} : decode (ab_code (zx σ n0 bf).1 8243) 51 = .ok (.iconst 4, 1) := zd zm_8243 (by decide +kernel)
theorem d_8243_52 {σ : Nat → Nat} {n0 : Nat} {bf : ab_B} : decode (ab_code (zx σ n0 bf).1 8243) 52 = .ok (.iload_n 2, 1) := zd zm_8243 (by decide +kernel)
theorem d_8243_53 {σ : Nat → Nat} {n0 : Nat} {bf : ab_B} : decode (ab_code (zx σ n0 bf).1 8243) 53 = .ok (.imul, 1) := zd zm_8243 (by decide +kernel)
theorem d_8243_54 {σ : Nat → Nat} {n0 : Nat} {bf : ab_B} : decode (ab_code (zx σ n0 bf).1 8243) 54 = .ok (.iconst 1, 1) := zd zm_8243 (by decide +kernel)
theorem d_8243_55 {σ : Nat → Nat} {n0 : Nat} {bf : ab_B} : decode (ab_code (zx σ n0 bf).1 8243) 55 = .ok (.iadd, 1) := zd zm_8243 (by decide +kernel)
theorem d_8243_56 {σ : Nat → Nat} {n0 : Nat} {bf : ab_B} : decode (ab_code (zx σ n0 bf).1 8243) 56 = .ok (.laload, 1) := zd zm_8243 (by decide +kernel)
theorem d_8243_57 {σ : Nat → Nat} {n0 : Nat} {bf : ab_B} : decode (ab_code (zx σ n0 bf).1 8243) 57 = .ok (.putfield 614, 3) := zd zm_8243 (by decide +kernel)
theorem d_8243_60 {σ : Nat → Nat} {n0 : Nat} {bf : ab_B} : decode (ab_code (zx σ n0 bf).1 8243) 60 = .ok (.aload_n 0, 1) := zd zm_8243 (by decide +kernel)
theorem d_8243_61 {σ : Nat → Nat} {n0 : Nat} {bf : ab_B} : decode (ab_code (zx σ n0 bf).1 8243) 61 = .ok (.aload_n 0, 1) := zd zm_8243 (by decide +kernel)
theorem d_8243_62 {σ : Nat → Nat} {n0 : Nat} {bf : ab_B} : decode (ab_code (zx σ n0 bf).1 8243) 62 = .ok (.getfield 392, 3) := zd zm_8243 (by decide +kernel)
theorem d_8243_65 {σ : Nat → Nat} {n0 : Nat} {bf : ab_B} : decode (ab_code (zx σ n0 bf).1 8243) 65 = .ok (.iconst 4, 1) := zd zm_8243 (by decide +kernel)
theorem d_8243_66 {σ : Nat → Nat} {n0 : Nat} {bf : ab_B} : decode (ab_code (zx σ n0 bf).1 8243) 66 = .ok (.iload_n 2, 1) := zd zm_8243 (by decide +kernel)
theorem d_8243_67 {σ : Nat → Nat} {n0 : Nat} {bf : ab_B} : decode (ab_code (zx σ n0 bf).1 8243) 67 = .ok (.imul, 1) := zd zm_8243 (by decide +kernel)
theorem d_8243_68 {σ : Nat → Nat} {n0 : Nat} {bf : ab_B} : decode (ab_code (zx σ n0 bf).1 8243) 68 = .ok (.iconst 2, 1) := zd zm_8243 (by decide +kernel)
theorem d_8243_69 {σ : Nat → Nat} {n0 : Nat} {bf : ab_B} : decode (ab_code (zx σ n0 bf).1 8243) 69 = .ok (.iadd, 1) := zd zm_8243 (by decide +kernel)
theorem d_8243_70 {σ : Nat → Nat} {n0 : Nat} {bf : ab_B} : decode (ab_code (zx σ n0 bf).1 8243) 70 = .ok (.laload, 1) := zd zm_8243 (by decide +kernel)
theorem d_8243_71 {σ : Nat → Nat} {n0 : Nat} {bf : ab_B} : decode (ab_code (zx σ n0 bf).1 8243) 71 = .ok (.putfield 617, 3) := zd zm_8243 (by decide +kernel)
theorem d_8243_74 {σ : Nat → Nat} {n0 : Nat} {bf : ab_B} : decode (ab_code (zx σ n0 bf).1 8243) 74 = .ok (.aload_n 0, 1) := zd zm_8243 (by decide +kernel)
theorem d_8243_75 {σ : Nat → Nat} {n0 : Nat} {bf : ab_B} : decode (ab_code (zx σ n0 bf).1 8243) 75 = .ok (.aload_n 0, 1) := zd zm_8243 (by decide +kernel)
theorem d_8243_76 {σ : Nat → Nat} {n0 : Nat} {bf : ab_B} : decode (ab_code (zx σ n0 bf).1 8243) 76 = .ok (.getfield 392, 3) := zd zm_8243 (by decide +kernel)
theorem d_8243_79 {σ : Nat → Nat} {n0 : Nat} {bf : ab_B} : decode (ab_code (zx σ n0 bf).1 8243) 79 = .ok (.iconst 4, 1) := zd zm_8243 (by decide +kernel)
theorem d_8243_80 {σ : Nat → Nat} {n0 : Nat} {bf : ab_B} : decode (ab_code (zx σ n0 bf).1 8243) 80 = .ok (.iload_n 2, 1) := zd zm_8243 (by decide +kernel)
theorem d_8243_81 {σ : Nat → Nat} {n0 : Nat} {bf : ab_B} : decode (ab_code (zx σ n0 bf).1 8243) 81 = .ok (.imul, 1) := zd zm_8243 (by decide +kernel)
theorem d_8243_82 {σ : Nat → Nat} {n0 : Nat} {bf : ab_B} : decode (ab_code (zx σ n0 bf).1 8243) 82 = .ok (.iconst 3, 1) := zd zm_8243 (by decide +kernel)
theorem d_8243_83 {σ : Nat → Nat} {n0 : Nat} {bf : ab_B} : decode (ab_code (zx σ n0 bf).1 8243) 83 = .ok (.iadd, 1) := zd zm_8243 (by decide +kernel)
theorem d_8243_84 {σ : Nat → Nat} {n0 : Nat} {bf : ab_B} : decode (ab_code (zx σ n0 bf).1 8243) 84 = .ok (.laload, 1) := zd zm_8243 (by decide +kernel)
theorem d_8243_85 {σ : Nat → Nat} {n0 : Nat} {bf : ab_B} : decode (ab_code (zx σ n0 bf).1 8243) 85 = .ok (.putfield 620, 3) := zd zm_8243 (by decide +kernel)
theorem d_8243_88 {σ : Nat → Nat} {n0 : Nat} {bf : ab_B} : decode (ab_code (zx σ n0 bf).1 8243) 88 = .ok (.aload_n 0, 1) := zd zm_8243 (by decide +kernel)
theorem d_8243_89 {σ : Nat → Nat} {n0 : Nat} {bf : ab_B} : decode (ab_code (zx σ n0 bf).1 8243) 89 = .ok (.aload_n 0, 1) := zd zm_8243 (by decide +kernel)
theorem d_8243_90 {σ : Nat → Nat} {n0 : Nat} {bf : ab_B} : decode (ab_code (zx σ n0 bf).1 8243) 90 = .ok (.getfield 382, 3) := zd zm_8243 (by decide +kernel)
theorem d_8243_93 {σ : Nat → Nat} {n0 : Nat} {bf : ab_B} : decode (ab_code (zx σ n0 bf).1 8243) 93 = .ok (.iload_n 2, 1) := zd zm_8243 (by decide +kernel)
theorem d_8243_94 {σ : Nat → Nat} {n0 : Nat} {bf : ab_B} : decode (ab_code (zx σ n0 bf).1 8243) 94 = .ok (.iaload, 1) := zd zm_8243 (by decide +kernel)
theorem d_8243_95 {σ : Nat → Nat} {n0 : Nat} {bf : ab_B} : decode (ab_code (zx σ n0 bf).1 8243) 95 = .ok (.aload_n 0, 1) := zd zm_8243 (by decide +kernel)
theorem d_8243_96 {σ : Nat → Nat} {n0 : Nat} {bf : ab_B} : decode (ab_code (zx σ n0 bf).1 8243) 96 = .ok (.getfield 385, 3) := zd zm_8243 (by decide +kernel)
theorem d_8243_99 {σ : Nat → Nat} {n0 : Nat} {bf : ab_B} : decode (ab_code (zx σ n0 bf).1 8243) 99 = .ok (.iload_n 2, 1) := zd zm_8243 (by decide +kernel)
theorem d_8243_100 {σ : Nat → Nat} {n0 : Nat} {bf : ab_B} : decode (ab_code (zx σ n0 bf).1 8243) 100 = .ok (.iaload, 1) := zd zm_8243 (by decide +kernel)
theorem d_8243_101 {σ : Nat → Nat} {n0 : Nat} {bf : ab_B} : decode (ab_code (zx σ n0 bf).1 8243) 101 = .ok (.invokevirtual 1288, 3) := zd zm_8243 (by decide +kernel)
theorem d_8243_104 {σ : Nat → Nat} {n0 : Nat} {bf : ab_B} : decode (ab_code (zx σ n0 bf).1 8243) 104 = .ok (.return_, 1) := zd zm_8243 (by decide +kernel)
def w_X9_deref_29 (X : zs_X) (d : Nat) (p1 : Int32) (q0 : Option Nat) (q1 : Int32) (S : zs_T) (Q : zs_Q) : Prop :=
  (∃ b1, q0 = some b1 ∧ zs_K S b1 = some (.inl 8) ∧ zs_C X d 8208 [.ref b1, .int q1, .int p1] S (zs_kV (fun S4 => (Q (.returned none) S4)) Q))
theorem u_X9_deref_29 {σ : Nat → Nat} {n0 : Nat} {bf : ab_B} {d : Nat} {p1 : Int32} {q0 : Option Nat} {q1 : Int32} {S : zs_T} {Q : zs_Q} (hB : zt_B bf) (h : w_X9_deref_29 (zx σ n0 bf) d p1 q0 q1 S Q) : zs_U (zx σ n0 bf) d 8243 29 [(1, .int p1)] [.int q1, va_rf q0] S Q := by
  unfold w_X9_deref_29 at h
  refine zu_iload_n d_8243_29 rfl ?_
  obtain ⟨b1, e2, h⟩ := h
  refine zs_stk2 (zs_rfe e2) ?_
  obtain ⟨k3, h⟩ := h
  refine zc_8_1297 (x0 := q1) (x1 := p1) hB rfl k3 d_8243_30 (Nat.le_of_ble_eq_true rfl) h (fun S4 h => ?_)
  exact zu_vret d_8243_33 zr_8243 h
def w_X9_deref_19 (X : zs_X) (d : Nat) (p0 : Nat) (p1 : Int32) (p2 : Int32) (S : zs_T) (Q : zs_Q) : Prop :=
  (((¬ p2 = 0 → (w_X9_deref_29 X d p1 (some p0) (5 : Int32) S Q)) ∧ (¬ (¬ p2 = 0) → (w_X9_deref_29 X d p1 (some p0) (4 : Int32) S Q))))
theorem u_X9_deref_19 {σ : Nat → Nat} {n0 : Nat} {bf : ab_B} {d : Nat} {p0 : Nat} {p1 : Int32} {p2 : Int32} {S : zs_T} {Q : zs_Q} (hB : zt_B bf) (h : w_X9_deref_19 (zx σ n0 bf) d p0 p1 p2 S Q) : zs_U (zx σ n0 bf) d 8243 19 [(0, .ref p0), (1, .int p1), (2, .int p2)] [] S Q := by
  unfold w_X9_deref_19 at h
  refine zu_aload_n d_8243_19 rfl (zs_ra _) ?_
  refine zu_iload_n d_8243_20 rfl ?_
  refine zu_ifne (t := 28) d_8243_21 rfl (fun c1 => ?_) (fun c1 => ?_)
  · have h := h.1 c1
    refine zu_iconst d_8243_28 zi_5 ?_
    exact (u_X9_deref_29 hB h).weak ⟨rfl, trivial⟩
  · have h := h.2 c1
    refine zu_iconst d_8243_24 zi_4 ?_
    refine zu_goto (t := 29) d_8243_25 rfl ?_
    exact (u_X9_deref_29 hB h).weak ⟨rfl, trivial⟩
def w_X9_deref_104 (X : zs_X) (d : Nat)  (S : zs_T) (Q : zs_Q) : Prop :=
  (Q (.returned none) S)
theorem u_X9_deref_104 {σ : Nat → Nat} {n0 : Nat} {bf : ab_B} {d : Nat}  {S : zs_T} {Q : zs_Q} (hB : zt_B bf) (h : w_X9_deref_104 (zx σ n0 bf) d  S Q) : zs_U (zx σ n0 bf) d 8243 104 [] [] S Q := by
  unfold w_X9_deref_104 at h
  exact zu_vret d_8243_104 zr_8243 h
def w_X9_deref_74 (X : zs_X) (d : Nat) (p0 : Nat) (p2 : Int32) (S : zs_T) (Q : zs_Q) : Prop :=
  (zs_K S p0 = some (.inl 8) ∧ ∃ b2, (zs_R S 8179 p0) = some b2 ∧ zs_A S b2 3 (((4 : Int32) * p2) + (3 : Int32)) ∧ ab_n0 X.1 ≤ p0 ∧ ∀ S6, S6 = zs_sJ S 8084 p0 (zs_j S b2 (((4 : Int32) * p2) + (3 : Int32)).toNatClampNeg) → ∃ b9, (zs_R S6 8176 p0) = some b9 ∧ zs_A S b9 0 p2 ∧ ∃ b12, (zs_R S6 8177 p0) = some b12 ∧ zs_A S b12 0 p2 ∧ zs_C X d 8235 [.ref p0, .int (zs_i S6 b9 p2.toNatClampNeg), .int (zs_i S6 b12 p2.toNatClampNeg)] S6 (zs_kV (fun S15 => w_X9_deref_104 X d  S15 Q) Q))
theorem u_X9_deref_74 {σ : Nat → Nat} {n0 : Nat} {bf : ab_B} {d : Nat} {p0 : Nat} {p2 : Int32} {S : zs_T} {Q : zs_Q} (hB : zt_B bf) (h : w_X9_deref_74 (zx σ n0 bf) d p0 p2 S Q) : zs_U (zx σ n0 bf) d 8243 74 [(0, .ref p0), (2, .int p2)] [] S Q := by
  unfold w_X9_deref_74 at h
  refine zu_aload_n d_8243_74 rfl (zs_ra _) ?_
  refine zu_aload_n d_8243_75 rfl (zs_ra _) ?_
  obtain ⟨k1, h⟩ := h
  refine zg_8_392 rfl d_8243_76 k1 ?_
  refine zu_iconst d_8243_79 zi_4 ?_
  refine zu_iload_n d_8243_80 rfl ?_
  refine zu_stk d_8243_81 rfl rfl ?_
  refine zu_iconst d_8243_82 zi_3 ?_
  refine zu_stk d_8243_83 rfl rfl ?_
  obtain ⟨b2, e3, h⟩ := h
  refine zs_stk1 (zs_rfe e3) ?_
  obtain ⟨k4, h⟩ := h
  refine zu_lald (k := 3) d_8243_84 rfl rfl k4 ?_
  obtain ⟨k5, h⟩ := h
  refine zp_8_620 (v := (zs_j S b2 (((4 : Int32) * p2) + (3 : Int32)).toNatClampNeg)) rfl d_8243_85 k1 k5 ?_
  generalize e7 : zs_sJ S 8084 p0 (zs_j S b2 (((4 : Int32) * p2) + (3 : Int32)).toNatClampNeg) = S6
  have h := h S6 e7.symm
  have K8 : ∀ b, zs_K S6 b = zs_K S b := zs_Kt e7 (zs_KsJ _ _ _ _) (fun _ => rfl)
  refine zu_aload_n d_8243_88 rfl (zs_ra _) ?_
  refine zu_aload_n d_8243_89 rfl (zs_ra _) ?_
  refine zg_8_382 rfl d_8243_90 ((K8 _).trans k1) ?_
  refine zu_iload_n d_8243_93 rfl ?_
  obtain ⟨b9, e10, h⟩ := h
  refine zs_stk1 (zs_rfe e10) ?_
  obtain ⟨k11, h⟩ := h
  refine zu_iald (k := 0) d_8243_94 rfl rfl (zs_Ak K8 k11) ?_
  refine zu_aload_n d_8243_95 rfl (zs_ra _) ?_
  refine zg_8_385 rfl d_8243_96 ((K8 _).trans k1) ?_
  refine zu_iload_n d_8243_99 rfl ?_
  obtain ⟨b12, e13, h⟩ := h
  refine zs_stk1 (zs_rfe e13) ?_
  obtain ⟨k14, h⟩ := h
  refine zu_iald (k := 0) d_8243_100 rfl rfl (zs_Ak K8 k14) ?_
  refine zc_8_1288 (x0 := (zs_i S6 b9 p2.toNatClampNeg)) (x1 := (zs_i S6 b12 p2.toNatClampNeg)) hB rfl ((K8 _).trans k1) d_8243_101 (Nat.le_of_ble_eq_true rfl) h (fun S15 h => ?_)
  exact (u_X9_deref_104 hB h).weak trivial
def w_X9_deref_46 (X : zs_X) (d : Nat) (p0 : Nat) (p2 : Int32) (S : zs_T) (Q : zs_Q) : Prop :=
  (zs_K S p0 = some (.inl 8) ∧ ∃ b2, (zs_R S 8179 p0) = some b2 ∧ zs_A S b2 3 (((4 : Int32) * p2) + (1 : Int32)) ∧ ab_n0 X.1 ≤ p0 ∧ ∀ S6, S6 = zs_sJ S 8082 p0 (zs_j S b2 (((4 : Int32) * p2) + (1 : Int32)).toNatClampNeg) → ∃ b9, (zs_R S6 8179 p0) = some b9 ∧ zs_A S b9 3 (((4 : Int32) * p2) + (2 : Int32)) ∧ ∀ S12, S12 = zs_sJ S6 8083 p0 (zs_j S6 b9 (((4 : Int32) * p2) + (2 : Int32)).toNatClampNeg) → w_X9_deref_74 X d p0 p2 S12 Q)
theorem u_X9_deref_46 {σ : Nat → Nat} {n0 : Nat} {bf : ab_B} {d : Nat} {p0 : Nat} {p2 : Int32} {S : zs_T} {Q : zs_Q} (hB : zt_B bf) (h : w_X9_deref_46 (zx σ n0 bf) d p0 p2 S Q) : zs_U (zx σ n0 bf) d 8243 46 [(0, .ref p0), (2, .int p2)] [] S Q := by
  unfold w_X9_deref_46 at h
  refine zu_aload_n d_8243_46 rfl (zs_ra _) ?_
  refine zu_aload_n d_8243_47 rfl (zs_ra _) ?_
  obtain ⟨k1, h⟩ := h
  refine zg_8_392 rfl d_8243_48 k1 ?_
  refine zu_iconst d_8243_51 zi_4 ?_
  refine zu_iload_n d_8243_52 rfl ?_
  refine zu_stk d_8243_53 rfl rfl ?_
  refine zu_iconst d_8243_54 zi_1 ?_
  refine zu_stk d_8243_55 rfl rfl ?_
  obtain ⟨b2, e3, h⟩ := h
  refine zs_stk1 (zs_rfe e3) ?_
  obtain ⟨k4, h⟩ := h
  refine zu_lald (k := 3) d_8243_56 rfl rfl k4 ?_
  obtain ⟨k5, h⟩ := h
  refine zp_8_614 (v := (zs_j S b2 (((4 : Int32) * p2) + (1 : Int32)).toNatClampNeg)) rfl d_8243_57 k1 k5 ?_
  generalize e7 : zs_sJ S 8082 p0 (zs_j S b2 (((4 : Int32) * p2) + (1 : Int32)).toNatClampNeg) = S6
  have h := h S6 e7.symm
  have K8 : ∀ b, zs_K S6 b = zs_K S b := zs_Kt e7 (zs_KsJ _ _ _ _) (fun _ => rfl)
  refine zu_aload_n d_8243_60 rfl (zs_ra _) ?_
  refine zu_aload_n d_8243_61 rfl (zs_ra _) ?_
  refine zg_8_392 rfl d_8243_62 ((K8 _).trans k1) ?_
  refine zu_iconst d_8243_65 zi_4 ?_
  refine zu_iload_n d_8243_66 rfl ?_
  refine zu_stk d_8243_67 rfl rfl ?_
  refine zu_iconst d_8243_68 zi_2 ?_
  refine zu_stk d_8243_69 rfl rfl ?_
  obtain ⟨b9, e10, h⟩ := h
  refine zs_stk1 (zs_rfe e10) ?_
  obtain ⟨k11, h⟩ := h
  refine zu_lald (k := 3) d_8243_70 rfl rfl (zs_Ak K8 k11) ?_
  refine zp_8_617 (v := (zs_j S6 b9 (((4 : Int32) * p2) + (2 : Int32)).toNatClampNeg)) rfl d_8243_71 ((K8 _).trans k1) k5 ?_
  generalize e13 : zs_sJ S6 8083 p0 (zs_j S6 b9 (((4 : Int32) * p2) + (2 : Int32)).toNatClampNeg) = S12
  have h := h S12 e13.symm
  have K14 : ∀ b, zs_K S12 b = zs_K S b := zs_Kt e13 (zs_KsJ _ _ _ _) K8
  exact (u_X9_deref_74 hB h).weak ⟨rfl, rfl, trivial⟩
def w_X9_deref (X : zs_X) (d : Nat) (p0 : Nat) (p1 : Int32) (S : zs_T) (Q : zs_Q) : Prop :=
  (zs_K S p0 = some (.inl 8) ∧ zs_C X d 8242 [.ref p0] S (zs_kJ (fun v3 S2 => (((((v3).toInt32) = 0 → w_X9_deref_19 X d p0 p1 ((v3).toInt32) S2 Q) ∧ (¬ (((v3).toInt32) = 0) → (zs_K S2 p0 = some (.inl 8) ∧ ∃ b6, (zs_R S2 8180 p0) = some b6 ∧ zs_A S2 b6 2 ((v3).toInt32) ∧ ((¬ (zs_i S2 b6 ((v3).toInt32).toNatClampNeg) = 0 → (∃ b10, (zs_R S2 8179 p0) = some b10 ∧ zs_A S2 b10 3 ((4 : Int32) * ((v3).toInt32)) ∧ ab_n0 X.1 ≤ p0 ∧ ∀ S14, S14 = zs_sJ S2 8081 p0 (zs_j S2 b10 ((4 : Int32) * ((v3).toInt32)).toNatClampNeg) → w_X9_deref_46 X d p0 ((v3).toInt32) S14 Q)) ∧ (¬ (¬ (zs_i S2 b6 ((v3).toInt32).toNatClampNeg) = 0) → w_X9_deref_19 X d p0 p1 ((v3).toInt32) S2 Q))))))) Q))
theorem u_X9_deref {σ : Nat → Nat} {n0 : Nat} {bf : ab_B} {d : Nat} {p0 : Nat} {p1 : Int32} {S : zs_T} {Q : zs_Q} (hB : zt_B bf) (hd : 1 ≤ d) (h : w_X9_deref (zx σ n0 bf) (d - 1) p0 p1 S Q) : zs_C (zx σ n0 bf) d 8243 [.ref p0, .int p1] S Q := by
  have hL : lv_args 0 [.ref p0, .int p1] = [(0, .ref p0), (1, .int p1)] := rfl
  refine zs_C.of1 (hB.2 8243 (by decide) (by decide)) hd (by rw [hL]; exact zs_sub_self _ (by exact ⟨rfl, rfl, trivial⟩)) ?_
  rw [hL]
  clear hL
  unfold w_X9_deref at h
  refine zu_aload_n d_8243_0 rfl (zs_ra _) ?_
  obtain ⟨k1, h⟩ := h
  refine zc_8_1307  hB rfl k1 d_8243_1 (Nat.le_of_ble_eq_true rfl) h (fun v3 S2 h => ?_)
  refine zu_stk d_8243_4 rfl rfl ?_
  refine zu_istore_n d_8243_5 (zs_lt zq_8243 rfl) ?_
  refine zu_iload_n d_8243_6 rfl ?_
  refine zu_ifeq (t := 19) d_8243_7 rfl (fun c4 => ?_) (fun c4 => ?_)
  · have h := h.1 c4
    exact (u_X9_deref_19 hB h).weak ⟨rfl, rfl, rfl, trivial⟩
  · have h := h.2 c4
    refine zu_aload_n d_8243_10 rfl (zs_ra _) ?_
    obtain ⟨k5, h⟩ := h
    refine zg_8_395 rfl d_8243_11 k5 ?_
    refine zu_iload_n d_8243_14 rfl ?_
    obtain ⟨b6, e7, h⟩ := h
    refine zs_stk1 (zs_rfe e7) ?_
    obtain ⟨k8, h⟩ := h
    refine zu_bald (k := 2) d_8243_15 rfl (Or.inr rfl) k8 ?_
    refine zu_ifne (t := 34) d_8243_16 rfl (fun c9 => ?_) (fun c9 => ?_)
    · have h := h.1 c9
      refine zu_aload_n d_8243_34 rfl (zs_ra _) ?_
      refine zu_aload_n d_8243_35 rfl (zs_ra _) ?_
      refine zg_8_392 rfl d_8243_36 k5 ?_
      refine zu_iconst d_8243_39 zi_4 ?_
      refine zu_iload_n d_8243_40 rfl ?_
      refine zu_stk d_8243_41 rfl rfl ?_
      obtain ⟨b10, e11, h⟩ := h
      refine zs_stk1 (zs_rfe e11) ?_
      obtain ⟨k12, h⟩ := h
      refine zu_lald (k := 3) d_8243_42 rfl rfl k12 ?_
      obtain ⟨k13, h⟩ := h
      refine zp_8_610 (v := (zs_j S2 b10 ((4 : Int32) * ((v3).toInt32)).toNatClampNeg)) rfl d_8243_43 k5 k13 ?_
      generalize e15 : zs_sJ S2 8081 p0 (zs_j S2 b10 ((4 : Int32) * ((v3).toInt32)).toNatClampNeg) = S14
      have h := h S14 e15.symm
      have K16 : ∀ b, zs_K S14 b = zs_K S2 b := zs_Kt e15 (zs_KsJ _ _ _ _) (fun _ => rfl)
      exact (u_X9_deref_46 hB h).weak ⟨rfl, rfl, trivial⟩
    · have h := h.2 c9
      exact (u_X9_deref_19 hB h).weak ⟨rfl, rfl, rfl, trivial⟩
/-! SchemaPascalModel.loadValue(I)V -/
theorem zm_8244 {σ : Nat → Nat} {n0 : Nat} {bf : ab_B} : ab_code (zx σ n0 bf).1 8244 = prog_17_method_266_code := rfl
theorem zq_8244 {σ : Nat → Nat} {n0 : Nat} {bf : ab_B} : ab_maxL (zx σ n0 bf).1 8244 = 3 := rfl
theorem zr_8244 {σ : Nat → Nat} {n0 : Nat} {bf : ab_B} : ab_ret (zx σ n0 bf).1 8244 = (Option.none : Option Jvm.ClassFile.FieldType) := rfl
theorem d_8244_0 {σ : Nat → Nat} {n0 : Nat} {bf : ab_B} : decode (ab_code (zx σ n0 bf).1 8244) 0 = .ok (.aload_n 0, 1) := zd zm_8244 (by decide +kernel)
theorem d_8244_1 {σ : Nat → Nat} {n0 : Nat} {bf : ab_B} : decode (ab_code (zx σ n0 bf).1 8244) 1 = .ok (.dup, 1) := zd zm_8244 (by decide +kernel)
theorem d_8244_2 {σ : Nat → Nat} {n0 : Nat} {bf : ab_B} : decode (ab_code (zx σ n0 bf).1 8244) 2 = .ok (.getfield 1270, 3) := zd zm_8244 (by decide +kernel)
theorem d_8244_5 {σ : Nat → Nat} {n0 : Nat} {bf : ab_B} : decode (ab_code (zx σ n0 bf).1 8244) 5 = .ok (.iconst 1, 1) := zd zm_8244 (by decide +kernel)
theorem d_8244_6 {σ : Nat → Nat} {n0 : Nat} {bf : ab_B} : decode (ab_code (zx σ n0 bf).1 8244) 6 = .ok (.isub, 1) := zd zm_8244 (by decide +kernel)
theorem d_8244_7 {σ : Nat → Nat} {n0 : Nat} {bf : ab_B} : decode (ab_code (zx σ n0 bf).1 8244) 7 = .ok (.putfield 1270, 3) := zd zm_8244 (by decide +kernel)
theorem d_8244_10 {σ : Nat → Nat} {n0 : Nat} {bf : ab_B} : decode (ab_code (zx σ n0 bf).1 8244) 10 = .ok (.aload_n 0, 1) := zd zm_8244 (by decide +kernel)
theorem d_8244_11 {σ : Nat → Nat} {n0 : Nat} {bf : ab_B} : decode (ab_code (zx σ n0 bf).1 8244) 11 = .ok (.aload_n 0, 1) := zd zm_8244 (by decide +kernel)
theorem d_8244_12 {σ : Nat → Nat} {n0 : Nat} {bf : ab_B} : decode (ab_code (zx σ n0 bf).1 8244) 12 = .ok (.getfield 1270, 3) := zd zm_8244 (by decide +kernel)
theorem d_8244_15 {σ : Nat → Nat} {n0 : Nat} {bf : ab_B} : decode (ab_code (zx σ n0 bf).1 8244) 15 = .ok (.invokevirtual 1291, 3) := zd zm_8244 (by decide +kernel)
theorem d_8244_18 {σ : Nat → Nat} {n0 : Nat} {bf : ab_B} : decode (ab_code (zx σ n0 bf).1 8244) 18 = .ok (.aload_n 0, 1) := zd zm_8244 (by decide +kernel)
theorem d_8244_19 {σ : Nat → Nat} {n0 : Nat} {bf : ab_B} : decode (ab_code (zx σ n0 bf).1 8244) 19 = .ok (.getfield 412, 3) := zd zm_8244 (by decide +kernel)
theorem d_8244_22 {σ : Nat → Nat} {n0 : Nat} {bf : ab_B} : decode (ab_code (zx σ n0 bf).1 8244) 22 = .ok (.aload_n 0, 1) := zd zm_8244 (by decide +kernel)
theorem d_8244_23 {σ : Nat → Nat} {n0 : Nat} {bf : ab_B} : decode (ab_code (zx σ n0 bf).1 8244) 23 = .ok (.getfield 1270, 3) := zd zm_8244 (by decide +kernel)
theorem d_8244_26 {σ : Nat → Nat} {n0 : Nat} {bf : ab_B} : decode (ab_code (zx σ n0 bf).1 8244) 26 = .ok (.iaload, 1) := zd zm_8244 (by decide +kernel)
theorem d_8244_27 {σ : Nat → Nat} {n0 : Nat} {bf : ab_B} : decode (ab_code (zx σ n0 bf).1 8244) 27 = .ok (.istore_n 2, 1) := zd zm_8244 (by decide +kernel)
theorem d_8244_28 {σ : Nat → Nat} {n0 : Nat} {bf : ab_B} : decode (ab_code (zx σ n0 bf).1 8244) 28 = .ok (.aload_n 0, 1) := zd zm_8244 (by decide +kernel)
theorem d_8244_29 {σ : Nat → Nat} {n0 : Nat} {bf : ab_B} : decode (ab_code (zx σ n0 bf).1 8244) 29 = .ok (.aload_n 0, 1) := zd zm_8244 (by decide +kernel)
theorem d_8244_30 {σ : Nat → Nat} {n0 : Nat} {bf : ab_B} : decode (ab_code (zx σ n0 bf).1 8244) 30 = .ok (.getfield 409, 3) := zd zm_8244 (by decide +kernel)
theorem d_8244_33 {σ : Nat → Nat} {n0 : Nat} {bf : ab_B} : decode (ab_code (zx σ n0 bf).1 8244) 33 = .ok (.aload_n 0, 1) := zd zm_8244 (by decide +kernel)
theorem d_8244_34 {σ : Nat → Nat} {n0 : Nat} {bf : ab_B} : decode (ab_code (zx σ n0 bf).1 8244) 34 = .ok (.getfield 1270, 3) := zd zm_8244 (by decide +kernel)
theorem d_8244_37 {σ : Nat → Nat} {n0 : Nat} {bf : ab_B} : decode (ab_code (zx σ n0 bf).1 8244) 37 = .ok (.iaload, 1) := zd zm_8244 (by decide +kernel)
theorem d_8244_38 {σ : Nat → Nat} {n0 : Nat} {bf : ab_B} : decode (ab_code (zx σ n0 bf).1 8244) 38 = .ok (.iload_n 2, 1) := zd zm_8244 (by decide +kernel)
theorem d_8244_39 {σ : Nat → Nat} {n0 : Nat} {bf : ab_B} : decode (ab_code (zx σ n0 bf).1 8244) 39 = .ok (.invokevirtual 1294, 3) := zd zm_8244 (by decide +kernel)
theorem d_8244_42 {σ : Nat → Nat} {n0 : Nat} {bf : ab_B} : decode (ab_code (zx σ n0 bf).1 8244) 42 = .ok (.ifCond .ne 12, 3) := zd zm_8244 (by decide +kernel)
theorem d_8244_45 {σ : Nat → Nat} {n0 : Nat} {bf : ab_B} : decode (ab_code (zx σ n0 bf).1 8244) 45 = .ok (.aload_n 0, 1) := zd zm_8244 (by decide +kernel)
theorem d_8244_46 {σ : Nat → Nat} {n0 : Nat} {bf : ab_B} : decode (ab_code (zx σ n0 bf).1 8244) 46 = .ok (.iconst 1, 1) := zd zm_8244 (by decide +kernel)
theorem d_8244_47 {σ : Nat → Nat} {n0 : Nat} {bf : ab_B} : decode (ab_code (zx σ n0 bf).1 8244) 47 = .ok (.iload_n 1, 1) := zd zm_8244 (by decide +kernel)
theorem d_8244_48 {σ : Nat → Nat} {n0 : Nat} {bf : ab_B} : decode (ab_code (zx σ n0 bf).1 8244) 48 = .ok (.invokevirtual 1297, 3) := zd zm_8244 (by decide +kernel)
theorem d_8244_51 {σ : Nat → Nat} {n0 : Nat} {bf : ab_B} : decode (ab_code (zx σ n0 bf).1 8244) 51 = .ok (.goto 21, 3) := zd zm_8244 (by decide +kernel)
theorem d_8244_54 {σ : Nat → Nat} {n0 : Nat} {bf : ab_B} : decode (ab_code (zx σ n0 bf).1 8244) 54 = .ok (.aload_n 0, 1) := zd zm_8244 (by decide +kernel)
theorem d_8244_55 {σ : Nat → Nat} {n0 : Nat} {bf : ab_B} : decode (ab_code (zx σ n0 bf).1 8244) 55 = .ok (.aload_n 0, 1) := zd zm_8244 (by decide +kernel)
theorem d_8244_56 {σ : Nat → Nat} {n0 : Nat} {bf : ab_B} : decode (ab_code (zx σ n0 bf).1 8244) 56 = .ok (.getfield 373, 3) := zd zm_8244 (by decide +kernel)
theorem d_8244_59 {σ : Nat → Nat} {n0 : Nat} {bf : ab_B} : decode (ab_code (zx σ n0 bf).1 8244) 59 = .ok (.aload_n 0, 1) := zd zm_8244 (by decide +kernel)
theorem d_8244_60 {σ : Nat → Nat} {n0 : Nat} {bf : ab_B} : decode (ab_code (zx σ n0 bf).1 8244) 60 = .ok (.getfield 409, 3) := zd zm_8244 (by decide +kernel)
theorem d_8244_63 {σ : Nat → Nat} {n0 : Nat} {bf : ab_B} : decode (ab_code (zx σ n0 bf).1 8244) 63 = .ok (.aload_n 0, 1) := zd zm_8244 (by decide +kernel)
theorem d_8244_64 {σ : Nat → Nat} {n0 : Nat} {bf : ab_B} : decode (ab_code (zx σ n0 bf).1 8244) 64 = .ok (.getfield 1270, 3) := zd zm_8244 (by decide +kernel)
theorem d_8244_67 {σ : Nat → Nat} {n0 : Nat} {bf : ab_B} : decode (ab_code (zx σ n0 bf).1 8244) 67 = .ok (.iaload, 1) := zd zm_8244 (by decide +kernel)
theorem d_8244_68 {σ : Nat → Nat} {n0 : Nat} {bf : ab_B} : decode (ab_code (zx σ n0 bf).1 8244) 68 = .ok (.laload, 1) := zd zm_8244 (by decide +kernel)
theorem d_8244_69 {σ : Nat → Nat} {n0 : Nat} {bf : ab_B} : decode (ab_code (zx σ n0 bf).1 8244) 69 = .ok (.invokevirtual 1326, 3) := zd zm_8244 (by decide +kernel)
theorem d_8244_72 {σ : Nat → Nat} {n0 : Nat} {bf : ab_B} : decode (ab_code (zx σ n0 bf).1 8244) 72 = .ok (.return_, 1) := zd zm_8244 (by decide +kernel)
def w_X9_loadValue_72 (X : zs_X) (d : Nat)  (S : zs_T) (Q : zs_Q) : Prop :=
  (Q (.returned none) S)
theorem u_X9_loadValue_72 {σ : Nat → Nat} {n0 : Nat} {bf : ab_B} {d : Nat}  {S : zs_T} {Q : zs_Q} (hB : zt_B bf) (h : w_X9_loadValue_72 (zx σ n0 bf) d  S Q) : zs_U (zx σ n0 bf) d 8244 72 [] [] S Q := by
  unfold w_X9_loadValue_72 at h
  exact zu_vret d_8244_72 zr_8244 h
def w_X9_loadValue_28 (X : zs_X) (d : Nat) (p0 : Nat) (p1 : Int32) (p2 : Int32) (S : zs_T) (Q : zs_Q) : Prop :=
  (zs_K S p0 = some (.inl 8) ∧ ∃ b2, (zs_R S 8189 p0) = some b2 ∧ zs_A S b2 0 (zs_I S 8195 p0) ∧ zs_C X d 8238 [.ref p0, .int (zs_i S b2 (zs_I S 8195 p0).toNatClampNeg), .int p2] S (zs_kI (fun v6 S5 => (((¬ v6 = 0 → (zs_K S5 p0 = some (.inl 8) ∧ ∃ b9, (zs_R S5 8189 p0) = some b9 ∧ zs_A S5 b9 0 (zs_I S5 8195 p0) ∧ ∃ b12, (zs_R S5 8170 p0) = some b12 ∧ zs_A S5 b12 3 (zs_i S5 b9 (zs_I S5 8195 p0).toNatClampNeg) ∧ zs_C X d 8231 [.ref p0, .long (zs_j S5 b12 (zs_i S5 b9 (zs_I S5 8195 p0).toNatClampNeg).toNatClampNeg)] S5 (zs_kV (fun S15 => w_X9_loadValue_72 X d  S15 Q) Q))) ∧ (¬ (¬ v6 = 0) → (zs_K S5 p0 = some (.inl 8) ∧ zs_C X d 8208 [.ref p0, .int (1 : Int32), .int p1] S5 (zs_kV (fun S18 => (w_X9_loadValue_72 X d  S18 Q)) Q)))))) Q))
theorem u_X9_loadValue_28 {σ : Nat → Nat} {n0 : Nat} {bf : ab_B} {d : Nat} {p0 : Nat} {p1 : Int32} {p2 : Int32} {S : zs_T} {Q : zs_Q} (hB : zt_B bf) (h : w_X9_loadValue_28 (zx σ n0 bf) d p0 p1 p2 S Q) : zs_U (zx σ n0 bf) d 8244 28 [(0, .ref p0), (1, .int p1), (2, .int p2)] [] S Q := by
  unfold w_X9_loadValue_28 at h
  refine zu_aload_n d_8244_28 rfl (zs_ra _) ?_
  refine zu_aload_n d_8244_29 rfl (zs_ra _) ?_
  obtain ⟨k1, h⟩ := h
  refine zg_8_409 rfl d_8244_30 k1 ?_
  refine zu_aload_n d_8244_33 rfl (zs_ra _) ?_
  refine zg_8_1270 rfl d_8244_34 k1 ?_
  obtain ⟨b2, e3, h⟩ := h
  refine zs_stk1 (zs_rfe e3) ?_
  obtain ⟨k4, h⟩ := h
  refine zu_iald (k := 0) d_8244_37 rfl rfl k4 ?_
  refine zu_iload_n d_8244_38 rfl ?_
  refine zc_8_1294 (x0 := (zs_i S b2 (zs_I S 8195 p0).toNatClampNeg)) (x1 := p2) hB rfl k1 d_8244_39 (Nat.le_of_ble_eq_true rfl) h (fun v6 S5 h => ?_)
  refine zu_ifne (t := 54) d_8244_42 rfl (fun c7 => ?_) (fun c7 => ?_)
  · have h := h.1 c7
    refine zu_aload_n d_8244_54 rfl (zs_ra _) ?_
    refine zu_aload_n d_8244_55 rfl (zs_ra _) ?_
    obtain ⟨k8, h⟩ := h
    refine zg_8_373 rfl d_8244_56 k8 ?_
    refine zu_aload_n d_8244_59 rfl (zs_ra _) ?_
    refine zg_8_409 rfl d_8244_60 k8 ?_
    refine zu_aload_n d_8244_63 rfl (zs_ra _) ?_
    refine zg_8_1270 rfl d_8244_64 k8 ?_
    obtain ⟨b9, e10, h⟩ := h
    refine zs_stk1 (zs_rfe e10) ?_
    obtain ⟨k11, h⟩ := h
    refine zu_iald (k := 0) d_8244_67 rfl rfl k11 ?_
    obtain ⟨b12, e13, h⟩ := h
    refine zs_stk1 (zs_rfe e13) ?_
    obtain ⟨k14, h⟩ := h
    refine zu_lald (k := 3) d_8244_68 rfl rfl k14 ?_
    refine zc_8_1326 (x0 := (zs_j S5 b12 (zs_i S5 b9 (zs_I S5 8195 p0).toNatClampNeg).toNatClampNeg)) hB rfl k8 d_8244_69 (Nat.le_of_ble_eq_true rfl) h (fun S15 h => ?_)
    exact (u_X9_loadValue_72 hB h).weak trivial
  · have h := h.2 c7
    refine zu_aload_n d_8244_45 rfl (zs_ra _) ?_
    refine zu_iconst d_8244_46 zi_1 ?_
    refine zu_iload_n d_8244_47 rfl ?_
    obtain ⟨k17, h⟩ := h
    refine zc_8_1297 (x0 := (1 : Int32)) (x1 := p1) hB rfl k17 d_8244_48 (Nat.le_of_ble_eq_true rfl) h (fun S18 h => ?_)
    refine zu_goto (t := 72) d_8244_51 rfl ?_
    exact (u_X9_loadValue_72 hB h).weak trivial
def w_X9_loadValue (X : zs_X) (d : Nat) (p0 : Nat) (p1 : Int32) (S : zs_T) (Q : zs_Q) : Prop :=
  (zs_K S p0 = some (.inl 8) ∧ ab_n0 X.1 ≤ p0 ∧ ∀ S3, S3 = zs_sI S 8195 p0 ((zs_I S 8195 p0) - (1 : Int32)) → zs_C X d 8226 [.ref p0, .int (zs_I S3 8195 p0)] S3 (zs_kV (fun S6 => (zs_K S6 p0 = some (.inl 8) ∧ ∃ b9, (zs_R S6 8190 p0) = some b9 ∧ zs_A S6 b9 0 (zs_I S6 8195 p0) ∧ w_X9_loadValue_28 X d p0 p1 (zs_i S6 b9 (zs_I S6 8195 p0).toNatClampNeg) S6 Q)) Q))
theorem u_X9_loadValue {σ : Nat → Nat} {n0 : Nat} {bf : ab_B} {d : Nat} {p0 : Nat} {p1 : Int32} {S : zs_T} {Q : zs_Q} (hB : zt_B bf) (hd : 1 ≤ d) (h : w_X9_loadValue (zx σ n0 bf) (d - 1) p0 p1 S Q) : zs_C (zx σ n0 bf) d 8244 [.ref p0, .int p1] S Q := by
  have hL : lv_args 0 [.ref p0, .int p1] = [(0, .ref p0), (1, .int p1)] := rfl
  refine zs_C.of1 (hB.2 8244 (by decide) (by decide)) hd (by rw [hL]; exact zs_sub_self _ (by exact ⟨rfl, rfl, trivial⟩)) ?_
  rw [hL]
  clear hL
  unfold w_X9_loadValue at h
  refine zu_aload_n d_8244_0 rfl (zs_ra _) ?_
  refine zu_dup d_8244_1 rfl ?_
  obtain ⟨k1, h⟩ := h
  refine zg_8_1270 rfl d_8244_2 k1 ?_
  refine zu_iconst d_8244_5 zi_1 ?_
  refine zu_stk d_8244_6 rfl rfl ?_
  obtain ⟨k2, h⟩ := h
  refine zp_8_1270 (v := ((zs_I S 8195 p0) - (1 : Int32))) rfl d_8244_7 k1 k2 ?_
  generalize e4 : zs_sI S 8195 p0 ((zs_I S 8195 p0) - (1 : Int32)) = S3
  have h := h S3 e4.symm
  have K5 : ∀ b, zs_K S3 b = zs_K S b := zs_Kt e4 (zs_KsI _ _ _ _) (fun _ => rfl)
  refine zu_aload_n d_8244_10 rfl (zs_ra _) ?_
  refine zu_aload_n d_8244_11 rfl (zs_ra _) ?_
  refine zg_8_1270 rfl d_8244_12 ((K5 _).trans k1) ?_
  refine zc_8_1291 (x0 := (zs_I S3 8195 p0)) hB rfl ((K5 _).trans k1) d_8244_15 (Nat.le_of_ble_eq_true rfl) h (fun S6 h => ?_)
  refine zu_aload_n d_8244_18 rfl (zs_ra _) ?_
  obtain ⟨k8, h⟩ := h
  refine zg_8_412 rfl d_8244_19 k8 ?_
  refine zu_aload_n d_8244_22 rfl (zs_ra _) ?_
  refine zg_8_1270 rfl d_8244_23 k8 ?_
  obtain ⟨b9, e10, h⟩ := h
  refine zs_stk1 (zs_rfe e10) ?_
  obtain ⟨k11, h⟩ := h
  refine zu_iald (k := 0) d_8244_26 rfl rfl k11 ?_
  refine zu_istore_n d_8244_27 (zs_lt zq_8244 rfl) ?_
  exact (u_X9_loadValue_28 hB h).weak ⟨rfl, rfl, rfl, trivial⟩
/-! SchemaPascalModel.loadText(IIII)V -/
theorem zm_8245 {σ : Nat → Nat} {n0 : Nat} {bf : ab_B} : ab_code (zx σ n0 bf).1 8245 = prog_17_method_224_code := rfl
theorem zq_8245 {σ : Nat → Nat} {n0 : Nat} {bf : ab_B} : ab_maxL (zx σ n0 bf).1 8245 = 7 := rfl
theorem zr_8245 {σ : Nat → Nat} {n0 : Nat} {bf : ab_B} : ab_ret (zx σ n0 bf).1 8245 = (Option.none : Option Jvm.ClassFile.FieldType) := rfl
theorem d_8245_0 {σ : Nat → Nat} {n0 : Nat} {bf : ab_B} : decode (ab_code (zx σ n0 bf).1 8245) 0 = .ok (.aload_n 0, 1) := zd zm_8245 (by decide +kernel)
theorem d_8245_1 {σ : Nat → Nat} {n0 : Nat} {bf : ab_B} : decode (ab_code (zx σ n0 bf).1 8245) 1 = .ok (.iload_n 2, 1) := zd zm_8245 (by decide +kernel)
theorem d_8245_2 {σ : Nat → Nat} {n0 : Nat} {bf : ab_B} : decode (ab_code (zx σ n0 bf).1 8245) 2 = .ok (.iload_n 1, 1) := zd zm_8245 (by decide +kernel)
theorem d_8245_3 {σ : Nat → Nat} {n0 : Nat} {bf : ab_B} : decode (ab_code (zx σ n0 bf).1 8245) 3 = .ok (.invokevirtual 1294, 3) := zd zm_8245 (by decide +kernel)
theorem d_8245_6 {σ : Nat → Nat} {n0 : Nat} {bf : ab_B} : decode (ab_code (zx σ n0 bf).1 8245) 6 = .ok (.ifCond .ne 11, 3) := zd zm_8245 (by decide +kernel)
theorem d_8245_9 {σ : Nat → Nat} {n0 : Nat} {bf : ab_B} : decode (ab_code (zx σ n0 bf).1 8245) 9 = .ok (.aload_n 0, 1) := zd zm_8245 (by decide +kernel)
theorem d_8245_10 {σ : Nat → Nat} {n0 : Nat} {bf : ab_B} : decode (ab_code (zx σ n0 bf).1 8245) 10 = .ok (.iload 4, 2) := zd zm_8245 (by decide +kernel)
theorem d_8245_12 {σ : Nat → Nat} {n0 : Nat} {bf : ab_B} : decode (ab_code (zx σ n0 bf).1 8245) 12 = .ok (.iload_n 3, 1) := zd zm_8245 (by decide +kernel)
theorem d_8245_13 {σ : Nat → Nat} {n0 : Nat} {bf : ab_B} : decode (ab_code (zx σ n0 bf).1 8245) 13 = .ok (.invokevirtual 1297, 3) := zd zm_8245 (by decide +kernel)
theorem d_8245_16 {σ : Nat → Nat} {n0 : Nat} {bf : ab_B} : decode (ab_code (zx σ n0 bf).1 8245) 16 = .ok (.return_, 1) := zd zm_8245 (by decide +kernel)
theorem d_8245_17 {σ : Nat → Nat} {n0 : Nat} {bf : ab_B} : decode (ab_code (zx σ n0 bf).1 8245) 17 = .ok (.aload_n 0, 1) := zd zm_8245 (by decide +kernel)
theorem d_8245_18 {σ : Nat → Nat} {n0 : Nat} {bf : ab_B} : decode (ab_code (zx σ n0 bf).1 8245) 18 = .ok (.getfield 373, 3) := zd zm_8245 (by decide +kernel)
theorem d_8245_21 {σ : Nat → Nat} {n0 : Nat} {bf : ab_B} : decode (ab_code (zx σ n0 bf).1 8245) 21 = .ok (.iload_n 2, 1) := zd zm_8245 (by decide +kernel)
theorem d_8245_22 {σ : Nat → Nat} {n0 : Nat} {bf : ab_B} : decode (ab_code (zx σ n0 bf).1 8245) 22 = .ok (.laload, 1) := zd zm_8245 (by decide +kernel)
theorem d_8245_23 {σ : Nat → Nat} {n0 : Nat} {bf : ab_B} : decode (ab_code (zx σ n0 bf).1 8245) 23 = .ok (.l2i, 1) := zd zm_8245 (by decide +kernel)
theorem d_8245_24 {σ : Nat → Nat} {n0 : Nat} {bf : ab_B} : decode (ab_code (zx σ n0 bf).1 8245) 24 = .ok (.istore 5, 2) := zd zm_8245 (by decide +kernel)
theorem d_8245_26 {σ : Nat → Nat} {n0 : Nat} {bf : ab_B} : decode (ab_code (zx σ n0 bf).1 8245) 26 = .ok (.aload_n 0, 1) := zd zm_8245 (by decide +kernel)
theorem d_8245_27 {σ : Nat → Nat} {n0 : Nat} {bf : ab_B} : decode (ab_code (zx σ n0 bf).1 8245) 27 = .ok (.invokevirtual 1310, 3) := zd zm_8245 (by decide +kernel)
theorem d_8245_30 {σ : Nat → Nat} {n0 : Nat} {bf : ab_B} : decode (ab_code (zx σ n0 bf).1 8245) 30 = .ok (.iconst 0, 1) := zd zm_8245 (by decide +kernel)
theorem d_8245_31 {σ : Nat → Nat} {n0 : Nat} {bf : ab_B} : decode (ab_code (zx σ n0 bf).1 8245) 31 = .ok (.istore 6, 2) := zd zm_8245 (by decide +kernel)
theorem d_8245_33 {σ : Nat → Nat} {n0 : Nat} {bf : ab_B} : decode (ab_code (zx σ n0 bf).1 8245) 33 = .ok (.iload 6, 2) := zd zm_8245 (by decide +kernel)
theorem d_8245_35 {σ : Nat → Nat} {n0 : Nat} {bf : ab_B} : decode (ab_code (zx σ n0 bf).1 8245) 35 = .ok (.iload 5, 2) := zd zm_8245 (by decide +kernel)
theorem d_8245_37 {σ : Nat → Nat} {n0 : Nat} {bf : ab_B} : decode (ab_code (zx σ n0 bf).1 8245) 37 = .ok (.if_icmp .ge 32, 3) := zd zm_8245 (by decide +kernel)
theorem d_8245_40 {σ : Nat → Nat} {n0 : Nat} {bf : ab_B} : decode (ab_code (zx σ n0 bf).1 8245) 40 = .ok (.aload_n 0, 1) := zd zm_8245 (by decide +kernel)
theorem d_8245_41 {σ : Nat → Nat} {n0 : Nat} {bf : ab_B} : decode (ab_code (zx σ n0 bf).1 8245) 41 = .ok (.getfield 1273, 3) := zd zm_8245 (by decide +kernel)
theorem d_8245_44 {σ : Nat → Nat} {n0 : Nat} {bf : ab_B} : decode (ab_code (zx σ n0 bf).1 8245) 44 = .ok (.ifCond .ne 25, 3) := zd zm_8245 (by decide +kernel)
theorem d_8245_47 {σ : Nat → Nat} {n0 : Nat} {bf : ab_B} : decode (ab_code (zx σ n0 bf).1 8245) 47 = .ok (.aload_n 0, 1) := zd zm_8245 (by decide +kernel)
theorem d_8245_48 {σ : Nat → Nat} {n0 : Nat} {bf : ab_B} : decode (ab_code (zx σ n0 bf).1 8245) 48 = .ok (.aload_n 0, 1) := zd zm_8245 (by decide +kernel)
theorem d_8245_49 {σ : Nat → Nat} {n0 : Nat} {bf : ab_B} : decode (ab_code (zx σ n0 bf).1 8245) 49 = .ok (.getfield 373, 3) := zd zm_8245 (by decide +kernel)
theorem d_8245_52 {σ : Nat → Nat} {n0 : Nat} {bf : ab_B} : decode (ab_code (zx σ n0 bf).1 8245) 52 = .ok (.iload_n 2, 1) := zd zm_8245 (by decide +kernel)
theorem d_8245_53 {σ : Nat → Nat} {n0 : Nat} {bf : ab_B} : decode (ab_code (zx σ n0 bf).1 8245) 53 = .ok (.iconst 1, 1) := zd zm_8245 (by decide +kernel)
theorem d_8245_54 {σ : Nat → Nat} {n0 : Nat} {bf : ab_B} : decode (ab_code (zx σ n0 bf).1 8245) 54 = .ok (.iadd, 1) := zd zm_8245 (by decide +kernel)
theorem d_8245_55 {σ : Nat → Nat} {n0 : Nat} {bf : ab_B} : decode (ab_code (zx σ n0 bf).1 8245) 55 = .ok (.iload 6, 2) := zd zm_8245 (by decide +kernel)
theorem d_8245_57 {σ : Nat → Nat} {n0 : Nat} {bf : ab_B} : decode (ab_code (zx σ n0 bf).1 8245) 57 = .ok (.iadd, 1) := zd zm_8245 (by decide +kernel)
theorem d_8245_58 {σ : Nat → Nat} {n0 : Nat} {bf : ab_B} : decode (ab_code (zx σ n0 bf).1 8245) 58 = .ok (.laload, 1) := zd zm_8245 (by decide +kernel)
theorem d_8245_59 {σ : Nat → Nat} {n0 : Nat} {bf : ab_B} : decode (ab_code (zx σ n0 bf).1 8245) 59 = .ok (.iload_n 3, 1) := zd zm_8245 (by decide +kernel)
theorem d_8245_60 {σ : Nat → Nat} {n0 : Nat} {bf : ab_B} : decode (ab_code (zx σ n0 bf).1 8245) 60 = .ok (.invokevirtual 1313, 3) := zd zm_8245 (by decide +kernel)
theorem d_8245_63 {σ : Nat → Nat} {n0 : Nat} {bf : ab_B} : decode (ab_code (zx σ n0 bf).1 8245) 63 = .ok (.iinc 6 1, 3) := zd zm_8245 (by decide +kernel)
theorem d_8245_66 {σ : Nat → Nat} {n0 : Nat} {bf : ab_B} : decode (ab_code (zx σ n0 bf).1 8245) 66 = .ok (.goto (-33), 3) := zd zm_8245 (by decide +kernel)
theorem d_8245_69 {σ : Nat → Nat} {n0 : Nat} {bf : ab_B} : decode (ab_code (zx σ n0 bf).1 8245) 69 = .ok (.return_, 1) := zd zm_8245 (by decide +kernel)
def w_X9_loadText_63 (X : zs_X) (d : Nat) (p0 : Nat) (p2 : Int32) (p3 : Int32) (p5 : Int32) (p6 : Int32) (S : zs_T) (Q : zs_Q) : Prop :=
  (zs_U X d 8245 33 [(0, .ref p0), (2, .int p2), (3, .int p3), (5, .int p5), (6, .int (p6 + (1 : Int32)))] [] S Q)
theorem u_X9_loadText_63 {σ : Nat → Nat} {n0 : Nat} {bf : ab_B} {d : Nat} {p0 : Nat} {p2 : Int32} {p3 : Int32} {p5 : Int32} {p6 : Int32} {S : zs_T} {Q : zs_Q} (hB : zt_B bf) (h : w_X9_loadText_63 (zx σ n0 bf) d p0 p2 p3 p5 p6 S Q) : zs_U (zx σ n0 bf) d 8245 63 [(0, .ref p0), (2, .int p2), (3, .int p3), (5, .int p5), (6, .int p6)] [] S Q := by
  unfold w_X9_loadText_63 at h
  refine zu_iinc d_8245_63 rfl zi_1 (zs_lt zq_8245 rfl) ?_
  refine zu_goto (t := 33) d_8245_66 rfl ?_
  exact h.weak ⟨rfl, rfl, rfl, rfl, rfl, trivial⟩
def w_X9_loadText_33 (X : zs_X) (d : Nat) (p0 : Nat) (p2 : Int32) (p3 : Int32) (p5 : Int32) (p6 : Int32) (S : zs_T) (Q : zs_Q) : Prop :=
  (((p5 ≤ p6 → (Q (.returned none) S)) ∧ (¬ (p5 ≤ p6) → (zs_K S p0 = some (.inl 8) ∧ ((¬ (zs_I S 8197 p0) = 0 → (Q (.returned none) S)) ∧ (¬ (¬ (zs_I S 8197 p0) = 0) → (∃ b4, (zs_R S 8170 p0) = some b4 ∧ zs_A S b4 3 ((p2 + (1 : Int32)) + p6) ∧ zs_C X d 8233 [.ref p0, .long (zs_j S b4 ((p2 + (1 : Int32)) + p6).toNatClampNeg), .int p3] S (zs_kV (fun S7 => w_X9_loadText_63 X d p0 p2 p3 p5 p6 S7 Q) Q))))))))
theorem u_X9_loadText_33 {σ : Nat → Nat} {n0 : Nat} {bf : ab_B} {d : Nat} {p0 : Nat} {p2 : Int32} {p3 : Int32} {p5 : Int32} {p6 : Int32} {S : zs_T} {Q : zs_Q} (hB : zt_B bf) (h : w_X9_loadText_33 (zx σ n0 bf) d p0 p2 p3 p5 p6 S Q) : zs_U (zx σ n0 bf) d 8245 33 [(0, .ref p0), (2, .int p2), (3, .int p3), (5, .int p5), (6, .int p6)] [] S Q := by
  unfold w_X9_loadText_33 at h
  refine zu_iload d_8245_33 rfl ?_
  refine zu_iload d_8245_35 rfl ?_
  refine zu_cmpge (t := 69) d_8245_37 rfl (fun c1 => ?_) (fun c1 => ?_)
  · have h := h.1 c1
    exact zu_vret d_8245_69 zr_8245 h
  · have h := h.2 c1
    refine zu_aload_n d_8245_40 rfl (zs_ra _) ?_
    obtain ⟨k2, h⟩ := h
    refine zg_8_1273 rfl d_8245_41 k2 ?_
    refine zu_ifne (t := 69) d_8245_44 rfl (fun c3 => ?_) (fun c3 => ?_)
    · have h := h.1 c3
      exact zu_vret d_8245_69 zr_8245 h
    · have h := h.2 c3
      refine zu_aload_n d_8245_47 rfl (zs_ra _) ?_
      refine zu_aload_n d_8245_48 rfl (zs_ra _) ?_
      refine zg_8_373 rfl d_8245_49 k2 ?_
      refine zu_iload_n d_8245_52 rfl ?_
      refine zu_iconst d_8245_53 zi_1 ?_
      refine zu_stk d_8245_54 rfl rfl ?_
      refine zu_iload d_8245_55 rfl ?_
      refine zu_stk d_8245_57 rfl rfl ?_
      obtain ⟨b4, e5, h⟩ := h
      refine zs_stk1 (zs_rfe e5) ?_
      obtain ⟨k6, h⟩ := h
      refine zu_lald (k := 3) d_8245_58 rfl rfl k6 ?_
      refine zu_iload_n d_8245_59 rfl ?_
      refine zc_8_1313 (x0 := (zs_j S b4 ((p2 + (1 : Int32)) + p6).toNatClampNeg)) (x1 := p3) hB rfl k2 d_8245_60 (Nat.le_of_ble_eq_true rfl) h (fun S7 h => ?_)
      exact (u_X9_loadText_63 hB h).weak ⟨rfl, rfl, rfl, rfl, rfl, trivial⟩
def w_X9_loadText (X : zs_X) (d : Nat) (p0 : Nat) (p1 : Int32) (p2 : Int32) (p3 : Int32) (p4 : Int32) (S : zs_T) (Q : zs_Q) : Prop :=
  (zs_K S p0 = some (.inl 8) ∧ zs_C X d 8238 [.ref p0, .int p2, .int p1] S (zs_kI (fun v3 S2 => (((¬ v3 = 0 → (zs_K S2 p0 = some (.inl 8) ∧ ∃ b6, (zs_R S2 8170 p0) = some b6 ∧ zs_A S2 b6 3 p2 ∧ zs_C X d 8232 [.ref p0] S2 (zs_kV (fun S9 => (zs_U X d 8245 33 [(0, .ref p0), (2, .int p2), (3, .int p3), (5, .int (((zs_j S2 b6 p2.toNatClampNeg)).toInt32)), (6, .int (0 : Int32))] [] S9 Q)) Q))) ∧ (¬ (¬ v3 = 0) → (zs_K S2 p0 = some (.inl 8) ∧ zs_C X d 8208 [.ref p0, .int p4, .int p3] S2 (zs_kV (fun S12 => (Q (.returned none) S12)) Q)))))) Q))
theorem u_X9_loadText {σ : Nat → Nat} {n0 : Nat} {bf : ab_B} {d : Nat} {p0 : Nat} {p1 : Int32} {p2 : Int32} {p3 : Int32} {p4 : Int32} {S : zs_T} {Q : zs_Q} (hB : zt_B bf) (hd : 1 ≤ d) (h : w_X9_loadText (zx σ n0 bf) (d - 1) p0 p1 p2 p3 p4 S Q) : zs_C (zx σ n0 bf) d 8245 [.ref p0, .int p1, .int p2, .int p3, .int p4] S Q := by
  have hL : lv_args 0 [.ref p0, .int p1, .int p2, .int p3, .int p4] = [(0, .ref p0), (1, .int p1), (2, .int p2), (3, .int p3), (4, .int p4)] := rfl
  refine zs_C.of1 (hB.2 8245 (by decide) (by decide)) hd (by rw [hL]; exact zs_sub_self _ (by exact ⟨rfl, rfl, rfl, rfl, rfl, trivial⟩)) ?_
  rw [hL]
  clear hL
  unfold w_X9_loadText at h
  refine zu_aload_n d_8245_0 rfl (zs_ra _) ?_
  refine zu_iload_n d_8245_1 rfl ?_
  refine zu_iload_n d_8245_2 rfl ?_
  obtain ⟨k1, h⟩ := h
  refine zc_8_1294 (x0 := p2) (x1 := p1) hB rfl k1 d_8245_3 (Nat.le_of_ble_eq_true rfl) h (fun v3 S2 h => ?_)
  refine zu_ifne (t := 17) d_8245_6 rfl (fun c4 => ?_) (fun c4 => ?_)
  · have h := h.1 c4
    refine zu_aload_n d_8245_17 rfl (zs_ra _) ?_
    obtain ⟨k5, h⟩ := h
    refine zg_8_373 rfl d_8245_18 k5 ?_
    refine zu_iload_n d_8245_21 rfl ?_
    obtain ⟨b6, e7, h⟩ := h
    refine zs_stk1 (zs_rfe e7) ?_
    obtain ⟨k8, h⟩ := h
    refine zu_lald (k := 3) d_8245_22 rfl rfl k8 ?_
    refine zu_stk d_8245_23 rfl rfl ?_
    refine zu_istore d_8245_24 (zs_lt zq_8245 rfl) ?_
    refine zu_aload_n d_8245_26 rfl (zs_ra _) ?_
    refine zc_8_1310  hB rfl k5 d_8245_27 (Nat.le_of_ble_eq_true rfl) h (fun S9 h => ?_)
    refine zu_iconst d_8245_30 zi_0 ?_
    refine zu_istore d_8245_31 (zs_lt zq_8245 rfl) ?_
    exact h.weak ⟨rfl, rfl, rfl, rfl, rfl, trivial⟩
  · have h := h.2 c4
    refine zu_aload_n d_8245_9 rfl (zs_ra _) ?_
    refine zu_iload d_8245_10 rfl ?_
    refine zu_iload_n d_8245_12 rfl ?_
    obtain ⟨k11, h⟩ := h
    refine zc_8_1297 (x0 := p4) (x1 := p3) hB rfl k11 d_8245_13 (Nat.le_of_ble_eq_true rfl) h (fun S12 h => ?_)
    exact zu_vret d_8245_16 zr_8245 h
/-! SchemaPascalModel.reckon(III)V -/
theorem zm_8246 {σ : Nat → Nat} {n0 : Nat} {bf : ab_B} : ab_code (zx σ n0 bf).1 8246 = prog_17_method_255_code := rfl
theorem zq_8246 {σ : Nat → Nat} {n0 : Nat} {bf : ab_B} : ab_maxL (zx σ n0 bf).1 8246 = 10 := rfl
theorem zr_8246 {σ : Nat → Nat} {n0 : Nat} {bf : ab_B} : ab_ret (zx σ n0 bf).1 8246 = (Option.none : Option Jvm.ClassFile.FieldType) := rfl
theorem d_8246_0 {σ : Nat → Nat} {n0 : Nat} {bf : ab_B} : decode (ab_code (zx σ n0 bf).1 8246) 0 = .ok (.iload_n 1, 1) := zd zm_8246 (by decide +kernel)
theorem d_8246_1 {σ : Nat → Nat} {n0 : Nat} {bf : ab_B} : decode (ab_code (zx σ n0 bf).1 8246) 1 = .ok (.bipush 10, 2) := zd zm_8246 (by decide +kernel)
theorem d_8246_3 {σ : Nat → Nat} {n0 : Nat} {bf : ab_B} : decode (ab_code (zx σ n0 bf).1 8246) 3 = .ok (.if_icmp .eq 9, 3) := zd zm_8246 (by decide +kernel)
theorem d_8246_6 {σ : Nat → Nat} {n0 : Nat} {bf : ab_B} : decode (ab_code (zx σ n0 bf).1 8246) 6 = .ok (.iload_n 1, 1) := zd zm_8246 (by decide +kernel)
theorem d_8246_7 {σ : Nat → Nat} {n0 : Nat} {bf : ab_B} : decode (ab_code (zx σ n0 bf).1 8246) 7 = .ok (.bipush 11, 2) := zd zm_8246 (by decide +kernel)
theorem d_8246_9 {σ : Nat → Nat} {n0 : Nat} {bf : ab_B} : decode (ab_code (zx σ n0 bf).1 8246) 9 = .ok (.if_icmp .ne 30, 3) := zd zm_8246 (by decide +kernel)
theorem d_8246_12 {σ : Nat → Nat} {n0 : Nat} {bf : ab_B} : decode (ab_code (zx σ n0 bf).1 8246) 12 = .ok (.aload_n 0, 1) := zd zm_8246 (by decide +kernel)
theorem d_8246_13 {σ : Nat → Nat} {n0 : Nat} {bf : ab_B} : decode (ab_code (zx σ n0 bf).1 8246) 13 = .ok (.invokevirtual 1307, 3) := zd zm_8246 (by decide +kernel)
theorem d_8246_16 {σ : Nat → Nat} {n0 : Nat} {bf : ab_B} : decode (ab_code (zx σ n0 bf).1 8246) 16 = .ok (.lstore 4, 2) := zd zm_8246 (by decide +kernel)
theorem d_8246_18 {σ : Nat → Nat} {n0 : Nat} {bf : ab_B} : decode (ab_code (zx σ n0 bf).1 8246) 18 = .ok (.aload_n 0, 1) := zd zm_8246 (by decide +kernel)
theorem d_8246_19 {σ : Nat → Nat} {n0 : Nat} {bf : ab_B} : decode (ab_code (zx σ n0 bf).1 8246) 19 = .ok (.iload_n 1, 1) := zd zm_8246 (by decide +kernel)
theorem d_8246_20 {σ : Nat → Nat} {n0 : Nat} {bf : ab_B} : decode (ab_code (zx σ n0 bf).1 8246) 20 = .ok (.bipush 10, 2) := zd zm_8246 (by decide +kernel)
theorem d_8246_22 {σ : Nat → Nat} {n0 : Nat} {bf : ab_B} : decode (ab_code (zx σ n0 bf).1 8246) 22 = .ok (.if_icmp .ne 10, 3) := zd zm_8246 (by decide +kernel)
theorem d_8246_25 {σ : Nat → Nat} {n0 : Nat} {bf : ab_B} : decode (ab_code (zx σ n0 bf).1 8246) 25 = .ok (.lconst 1, 1) := zd zm_8246 (by decide +kernel)
theorem d_8246_26 {σ : Nat → Nat} {n0 : Nat} {bf : ab_B} : decode (ab_code (zx σ n0 bf).1 8246) 26 = .ok (.lload 4, 2) := zd zm_8246 (by decide +kernel)
theorem d_8246_28 {σ : Nat → Nat} {n0 : Nat} {bf : ab_B} : decode (ab_code (zx σ n0 bf).1 8246) 28 = .ok (.lsub, 1) := zd zm_8246 (by decide +kernel)
theorem d_8246_29 {σ : Nat → Nat} {n0 : Nat} {bf : ab_B} : decode (ab_code (zx σ n0 bf).1 8246) 29 = .ok (.goto 6, 3) := zd zm_8246 (by decide +kernel)
theorem d_8246_32 {σ : Nat → Nat} {n0 : Nat} {bf : ab_B} : decode (ab_code (zx σ n0 bf).1 8246) 32 = .ok (.lload 4, 2) := zd zm_8246 (by decide +kernel)
theorem d_8246_34 {σ : Nat → Nat} {n0 : Nat} {bf : ab_B} : decode (ab_code (zx σ n0 bf).1 8246) 34 = .ok (.lneg, 1) := zd zm_8246 (by decide +kernel)
theorem d_8246_35 {σ : Nat → Nat} {n0 : Nat} {bf : ab_B} : decode (ab_code (zx σ n0 bf).1 8246) 35 = .ok (.invokevirtual 1326, 3) := zd zm_8246 (by decide +kernel)
theorem d_8246_38 {σ : Nat → Nat} {n0 : Nat} {bf : ab_B} : decode (ab_code (zx σ n0 bf).1 8246) 38 = .ok (.return_, 1) := zd zm_8246 (by decide +kernel)
theorem d_8246_39 {σ : Nat → Nat} {n0 : Nat} {bf : ab_B} : decode (ab_code (zx σ n0 bf).1 8246) 39 = .ok (.iload_n 1, 1) := zd zm_8246 (by decide +kernel)
theorem d_8246_40 {σ : Nat → Nat} {n0 : Nat} {bf : ab_B} : decode (ab_code (zx σ n0 bf).1 8246) 40 = .ok (.bipush 18, 2) := zd zm_8246 (by decide +kernel)
theorem d_8246_42 {σ : Nat → Nat} {n0 : Nat} {bf : ab_B} : decode (ab_code (zx σ n0 bf).1 8246) 42 = .ok (.if_icmp .lt 74, 3) := zd zm_8246 (by decide +kernel)
theorem d_8246_45 {σ : Nat → Nat} {n0 : Nat} {bf : ab_B} : decode (ab_code (zx σ n0 bf).1 8246) 45 = .ok (.aload_n 0, 1) := zd zm_8246 (by decide +kernel)
theorem d_8246_46 {σ : Nat → Nat} {n0 : Nat} {bf : ab_B} : decode (ab_code (zx σ n0 bf).1 8246) 46 = .ok (.invokevirtual 1307, 3) := zd zm_8246 (by decide +kernel)
theorem d_8246_49 {σ : Nat → Nat} {n0 : Nat} {bf : ab_B} : decode (ab_code (zx σ n0 bf).1 8246) 49 = .ok (.iload_n 1, 1) := zd zm_8246 (by decide +kernel)
theorem d_8246_50 {σ : Nat → Nat} {n0 : Nat} {bf : ab_B} : decode (ab_code (zx σ n0 bf).1 8246) 50 = .ok (.bipush 19, 2) := zd zm_8246 (by decide +kernel)
theorem d_8246_52 {σ : Nat → Nat} {n0 : Nat} {bf : ab_B} : decode (ab_code (zx σ n0 bf).1 8246) 52 = .ok (.if_icmp .ne 7, 3) := zd zm_8246 (by decide +kernel)
theorem d_8246_55 {σ : Nat → Nat} {n0 : Nat} {bf : ab_B} : decode (ab_code (zx σ n0 bf).1 8246) 55 = .ok (.lconst 1, 1) := zd zm_8246 (by decide +kernel)
theorem d_8246_56 {σ : Nat → Nat} {n0 : Nat} {bf : ab_B} : decode (ab_code (zx σ n0 bf).1 8246) 56 = .ok (.goto 16, 3) := zd zm_8246 (by decide +kernel)
theorem d_8246_59 {σ : Nat → Nat} {n0 : Nat} {bf : ab_B} : decode (ab_code (zx σ n0 bf).1 8246) 59 = .ok (.iload_n 1, 1) := zd zm_8246 (by decide +kernel)
theorem d_8246_60 {σ : Nat → Nat} {n0 : Nat} {bf : ab_B} : decode (ab_code (zx σ n0 bf).1 8246) 60 = .ok (.bipush 20, 2) := zd zm_8246 (by decide +kernel)
theorem d_8246_62 {σ : Nat → Nat} {n0 : Nat} {bf : ab_B} : decode (ab_code (zx σ n0 bf).1 8246) 62 = .ok (.if_icmp .ne 9, 3) := zd zm_8246 (by decide +kernel)
theorem d_8246_65 {σ : Nat → Nat} {n0 : Nat} {bf : ab_B} : decode (ab_code (zx σ n0 bf).1 8246) 65 = .ok (.ldc2_w 631, 3) := zd zm_8246 (by decide +kernel)
theorem d_8246_68 {σ : Nat → Nat} {n0 : Nat} {bf : ab_B} : decode (ab_code (zx σ n0 bf).1 8246) 68 = .ok (.goto 4, 3) := zd zm_8246 (by decide +kernel)
theorem d_8246_71 {σ : Nat → Nat} {n0 : Nat} {bf : ab_B} : decode (ab_code (zx σ n0 bf).1 8246) 71 = .ok (.lconst 0, 1) := zd zm_8246 (by decide +kernel)
theorem d_8246_72 {σ : Nat → Nat} {n0 : Nat} {bf : ab_B} : decode (ab_code (zx σ n0 bf).1 8246) 72 = .ok (.ladd, 1) := zd zm_8246 (by decide +kernel)
theorem d_8246_73 {σ : Nat → Nat} {n0 : Nat} {bf : ab_B} : decode (ab_code (zx σ n0 bf).1 8246) 73 = .ok (.lstore 4, 2) := zd zm_8246 (by decide +kernel)
theorem d_8246_75 {σ : Nat → Nat} {n0 : Nat} {bf : ab_B} : decode (ab_code (zx σ n0 bf).1 8246) 75 = .ok (.lload 4, 2) := zd zm_8246 (by decide +kernel)
theorem d_8246_77 {σ : Nat → Nat} {n0 : Nat} {bf : ab_B} : decode (ab_code (zx σ n0 bf).1 8246) 77 = .ok (.iload_n 2, 1) := zd zm_8246 (by decide +kernel)
theorem d_8246_78 {σ : Nat → Nat} {n0 : Nat} {bf : ab_B} : decode (ab_code (zx σ n0 bf).1 8246) 78 = .ok (.i2l, 1) := zd zm_8246 (by decide +kernel)
theorem d_8246_79 {σ : Nat → Nat} {n0 : Nat} {bf : ab_B} : decode (ab_code (zx σ n0 bf).1 8246) 79 = .ok (.lcmp, 1) := zd zm_8246 (by decide +kernel)
theorem d_8246_80 {σ : Nat → Nat} {n0 : Nat} {bf : ab_B} : decode (ab_code (zx σ n0 bf).1 8246) 80 = .ok (.ifCond .gt 23, 3) := zd zm_8246 (by decide +kernel)
theorem d_8246_83 {σ : Nat → Nat} {n0 : Nat} {bf : ab_B} : decode (ab_code (zx σ n0 bf).1 8246) 83 = .ok (.lload 4, 2) := zd zm_8246 (by decide +kernel)
theorem d_8246_85 {σ : Nat → Nat} {n0 : Nat} {bf : ab_B} : decode (ab_code (zx σ n0 bf).1 8246) 85 = .ok (.iload_n 2, 1) := zd zm_8246 (by decide +kernel)
theorem d_8246_86 {σ : Nat → Nat} {n0 : Nat} {bf : ab_B} : decode (ab_code (zx σ n0 bf).1 8246) 86 = .ok (.ldc_w 577, 3) := zd zm_8246 (by decide +kernel)
theorem d_8246_89 {σ : Nat → Nat} {n0 : Nat} {bf : ab_B} : decode (ab_code (zx σ n0 bf).1 8246) 89 = .ok (.if_icmp .ne 9, 3) := zd zm_8246 (by decide +kernel)
theorem d_8246_92 {σ : Nat → Nat} {n0 : Nat} {bf : ab_B} : decode (ab_code (zx σ n0 bf).1 8246) 92 = .ok (.ldc2_w 633, 3) := zd zm_8246 (by decide +kernel)
theorem d_8246_95 {σ : Nat → Nat} {n0 : Nat} {bf : ab_B} : decode (ab_code (zx σ n0 bf).1 8246) 95 = .ok (.goto 4, 3) := zd zm_8246 (by decide +kernel)
theorem d_8246_98 {σ : Nat → Nat} {n0 : Nat} {bf : ab_B} : decode (ab_code (zx σ n0 bf).1 8246) 98 = .ok (.lconst 0, 1) := zd zm_8246 (by decide +kernel)
theorem d_8246_99 {σ : Nat → Nat} {n0 : Nat} {bf : ab_B} : decode (ab_code (zx σ n0 bf).1 8246) 99 = .ok (.lcmp, 1) := zd zm_8246 (by decide +kernel)
theorem d_8246_100 {σ : Nat → Nat} {n0 : Nat} {bf : ab_B} : decode (ab_code (zx σ n0 bf).1 8246) 100 = .ok (.ifCond .ge 9, 3) := zd zm_8246 (by decide +kernel)
theorem d_8246_103 {σ : Nat → Nat} {n0 : Nat} {bf : ab_B} : decode (ab_code (zx σ n0 bf).1 8246) 103 = .ok (.aload_n 0, 1) := zd zm_8246 (by decide +kernel)
theorem d_8246_104 {σ : Nat → Nat} {n0 : Nat} {bf : ab_B} : decode (ab_code (zx σ n0 bf).1 8246) 104 = .ok (.iconst 2, 1) := zd zm_8246 (by decide +kernel)
theorem d_8246_105 {σ : Nat → Nat} {n0 : Nat} {bf : ab_B} : decode (ab_code (zx σ n0 bf).1 8246) 105 = .ok (.iload_n 3, 1) := zd zm_8246 (by decide +kernel)
theorem d_8246_106 {σ : Nat → Nat} {n0 : Nat} {bf : ab_B} : decode (ab_code (zx σ n0 bf).1 8246) 106 = .ok (.invokevirtual 1297, 3) := zd zm_8246 (by decide +kernel)
theorem d_8246_109 {σ : Nat → Nat} {n0 : Nat} {bf : ab_B} : decode (ab_code (zx σ n0 bf).1 8246) 109 = .ok (.aload_n 0, 1) := zd zm_8246 (by decide +kernel)
theorem d_8246_110 {σ : Nat → Nat} {n0 : Nat} {bf : ab_B} : decode (ab_code (zx σ n0 bf).1 8246) 110 = .ok (.lload 4, 2) := zd zm_8246 (by decide +kernel)
theorem d_8246_112 {σ : Nat → Nat} {n0 : Nat} {bf : ab_B} : decode (ab_code (zx σ n0 bf).1 8246) 112 = .ok (.invokevirtual 1326, 3) := zd zm_8246 (by decide +kernel)
theorem d_8246_115 {σ : Nat → Nat} {n0 : Nat} {bf : ab_B} : decode (ab_code (zx σ n0 bf).1 8246) 115 = .ok (.return_, 1) := zd zm_8246 (by decide +kernel)
theorem d_8246_116 {σ : Nat → Nat} {n0 : Nat} {bf : ab_B} : decode (ab_code (zx σ n0 bf).1 8246) 116 = .ok (.aload_n 0, 1) := zd zm_8246 (by decide +kernel)
theorem d_8246_117 {σ : Nat → Nat} {n0 : Nat} {bf : ab_B} : decode (ab_code (zx σ n0 bf).1 8246) 117 = .ok (.invokevirtual 1307, 3) := zd zm_8246 (by decide +kernel)
theorem d_8246_120 {σ : Nat → Nat} {n0 : Nat} {bf : ab_B} : decode (ab_code (zx σ n0 bf).1 8246) 120 = .ok (.lstore 4, 2) := zd zm_8246 (by decide +kernel)
theorem d_8246_122 {σ : Nat → Nat} {n0 : Nat} {bf : ab_B} : decode (ab_code (zx σ n0 bf).1 8246) 122 = .ok (.aload_n 0, 1) := zd zm_8246 (by decide +kernel)
theorem d_8246_123 {σ : Nat → Nat} {n0 : Nat} {bf : ab_B} : decode (ab_code (zx σ n0 bf).1 8246) 123 = .ok (.invokevirtual 1307, 3) := zd zm_8246 (by decide +kernel)
theorem d_8246_126 {σ : Nat → Nat} {n0 : Nat} {bf : ab_B} : decode (ab_code (zx σ n0 bf).1 8246) 126 = .ok (.lstore 6, 2) := zd zm_8246 (by decide +kernel)
theorem d_8246_128 {σ : Nat → Nat} {n0 : Nat} {bf : ab_B} : decode (ab_code (zx σ n0 bf).1 8246) 128 = .ok (.iload_n 1, 1) := zd zm_8246 (by decide +kernel)
theorem d_8246_129 {σ : Nat → Nat} {n0 : Nat} {bf : ab_B} : decode (ab_code (zx σ n0 bf).1 8246) 129 = .ok (.bipush 6, 2) := zd zm_8246 (by decide +kernel)
theorem d_8246_131 {σ : Nat → Nat} {n0 : Nat} {bf : ab_B} : decode (ab_code (zx σ n0 bf).1 8246) 131 = .ok (.if_icmp .ne 10, 3) := zd zm_8246 (by decide +kernel)
theorem d_8246_134 {σ : Nat → Nat} {n0 : Nat} {bf : ab_B} : decode (ab_code (zx σ n0 bf).1 8246) 134 = .ok (.lload 4, 2) := zd zm_8246 (by decide +kernel)
theorem d_8246_136 {σ : Nat → Nat} {n0 : Nat} {bf : ab_B} : decode (ab_code (zx σ n0 bf).1 8246) 136 = .ok (.lconst 0, 1) := zd zm_8246 (by decide +kernel)
theorem d_8246_137 {σ : Nat → Nat} {n0 : Nat} {bf : ab_B} : decode (ab_code (zx σ n0 bf).1 8246) 137 = .ok (.lcmp, 1) := zd zm_8246 (by decide +kernel)
theorem d_8246_138 {σ : Nat → Nat} {n0 : Nat} {bf : ab_B} : decode (ab_code (zx σ n0 bf).1 8246) 138 = .ok (.ifCond .eq 16, 3) := zd zm_8246 (by decide +kernel)
theorem d_8246_141 {σ : Nat → Nat} {n0 : Nat} {bf : ab_B} : decode (ab_code (zx σ n0 bf).1 8246) 141 = .ok (.iload_n 1, 1) := zd zm_8246 (by decide +kernel)
theorem d_8246_142 {σ : Nat → Nat} {n0 : Nat} {bf : ab_B} : decode (ab_code (zx σ n0 bf).1 8246) 142 = .ok (.bipush 7, 2) := zd zm_8246 (by decide +kernel)
theorem d_8246_144 {σ : Nat → Nat} {n0 : Nat} {bf : ab_B} : decode (ab_code (zx σ n0 bf).1 8246) 144 = .ok (.if_icmp .ne 18, 3) := zd zm_8246 (by decide +kernel)
theorem d_8246_147 {σ : Nat → Nat} {n0 : Nat} {bf : ab_B} : decode (ab_code (zx σ n0 bf).1 8246) 147 = .ok (.lload 4, 2) := zd zm_8246 (by decide +kernel)
theorem d_8246_149 {σ : Nat → Nat} {n0 : Nat} {bf : ab_B} : decode (ab_code (zx σ n0 bf).1 8246) 149 = .ok (.lconst 0, 1) := zd zm_8246 (by decide +kernel)
theorem d_8246_150 {σ : Nat → Nat} {n0 : Nat} {bf : ab_B} : decode (ab_code (zx σ n0 bf).1 8246) 150 = .ok (.lcmp, 1) := zd zm_8246 (by decide +kernel)
theorem d_8246_151 {σ : Nat → Nat} {n0 : Nat} {bf : ab_B} : decode (ab_code (zx σ n0 bf).1 8246) 151 = .ok (.ifCond .gt 11, 3) := zd zm_8246 (by decide +kernel)
theorem d_8246_154 {σ : Nat → Nat} {n0 : Nat} {bf : ab_B} : decode (ab_code (zx σ n0 bf).1 8246) 154 = .ok (.aload_n 0, 1) := zd zm_8246 (by decide +kernel)
theorem d_8246_155 {σ : Nat → Nat} {n0 : Nat} {bf : ab_B} : decode (ab_code (zx σ n0 bf).1 8246) 155 = .ok (.bipush 7, 2) := zd zm_8246 (by decide +kernel)
theorem d_8246_157 {σ : Nat → Nat} {n0 : Nat} {bf : ab_B} : decode (ab_code (zx σ n0 bf).1 8246) 157 = .ok (.iload_n 3, 1) := zd zm_8246 (by decide +kernel)
theorem d_8246_158 {σ : Nat → Nat} {n0 : Nat} {bf : ab_B} : decode (ab_code (zx σ n0 bf).1 8246) 158 = .ok (.invokevirtual 1297, 3) := zd zm_8246 (by decide +kernel)
theorem d_8246_161 {σ : Nat → Nat} {n0 : Nat} {bf : ab_B} : decode (ab_code (zx σ n0 bf).1 8246) 161 = .ok (.return_, 1) := zd zm_8246 (by decide +kernel)
theorem d_8246_162 {σ : Nat → Nat} {n0 : Nat} {bf : ab_B} : decode (ab_code (zx σ n0 bf).1 8246) 162 = .ok (.iload_n 1, 1) := zd zm_8246 (by decide +kernel)
theorem d_8246_163 {σ : Nat → Nat} {n0 : Nat} {bf : ab_B} : decode (ab_code (zx σ n0 bf).1 8246) 163 = .ok (.bipush 6, 2) := zd zm_8246 (by decide +kernel)
theorem d_8246_165 {σ : Nat → Nat} {n0 : Nat} {bf : ab_B} : decode (ab_code (zx σ n0 bf).1 8246) 165 = .ok (.if_icmp .eq 9, 3) := zd zm_8246 (by decide +kernel)
theorem d_8246_168 {σ : Nat → Nat} {n0 : Nat} {bf : ab_B} : decode (ab_code (zx σ n0 bf).1 8246) 168 = .ok (.iload_n 1, 1) := zd zm_8246 (by decide +kernel)
theorem d_8246_169 {σ : Nat → Nat} {n0 : Nat} {bf : ab_B} : decode (ab_code (zx σ n0 bf).1 8246) 169 = .ok (.bipush 7, 2) := zd zm_8246 (by decide +kernel)
theorem d_8246_171 {σ : Nat → Nat} {n0 : Nat} {bf : ab_B} : decode (ab_code (zx σ n0 bf).1 8246) 171 = .ok (.if_icmp .ne 24, 3) := zd zm_8246 (by decide +kernel)
theorem d_8246_174 {σ : Nat → Nat} {n0 : Nat} {bf : ab_B} : decode (ab_code (zx σ n0 bf).1 8246) 174 = .ok (.lload 6, 2) := zd zm_8246 (by decide +kernel)
theorem d_8246_176 {σ : Nat → Nat} {n0 : Nat} {bf : ab_B} : decode (ab_code (zx σ n0 bf).1 8246) 176 = .ok (.lload 4, 2) := zd zm_8246 (by decide +kernel)
theorem d_8246_178 {σ : Nat → Nat} {n0 : Nat} {bf : ab_B} : decode (ab_code (zx σ n0 bf).1 8246) 178 = .ok (.iload_n 1, 1) := zd zm_8246 (by decide +kernel)
theorem d_8246_179 {σ : Nat → Nat} {n0 : Nat} {bf : ab_B} : decode (ab_code (zx σ n0 bf).1 8246) 179 = .ok (.bipush 7, 2) := zd zm_8246 (by decide +kernel)
theorem d_8246_181 {σ : Nat → Nat} {n0 : Nat} {bf : ab_B} : decode (ab_code (zx σ n0 bf).1 8246) 181 = .ok (.if_icmp .ne 7, 3) := zd zm_8246 (by decide +kernel)
theorem d_8246_184 {σ : Nat → Nat} {n0 : Nat} {bf : ab_B} : decode (ab_code (zx σ n0 bf).1 8246) 184 = .ok (.iconst 1, 1) := zd zm_8246 (by decide +kernel)
theorem d_8246_185 {σ : Nat → Nat} {n0 : Nat} {bf : ab_B} : decode (ab_code (zx σ n0 bf).1 8246) 185 = .ok (.goto 4, 3) := zd zm_8246 (by decide +kernel)
theorem d_8246_188 {σ : Nat → Nat} {n0 : Nat} {bf : ab_B} : decode (ab_code (zx σ n0 bf).1 8246) 188 = .ok (.iconst 0, 1) := zd zm_8246 (by decide +kernel)
theorem d_8246_189 {σ : Nat → Nat} {n0 : Nat} {bf : ab_B} : decode (ab_code (zx σ n0 bf).1 8246) 189 = .ok (.invokestatic 635, 3) := zd zm_8246 (by decide +kernel)
theorem d_8246_192 {σ : Nat → Nat} {n0 : Nat} {bf : ab_B} : decode (ab_code (zx σ n0 bf).1 8246) 192 = .ok (.goto 11, 3) := zd zm_8246 (by decide +kernel)
theorem d_8246_195 {σ : Nat → Nat} {n0 : Nat} {bf : ab_B} : decode (ab_code (zx σ n0 bf).1 8246) 195 = .ok (.iload_n 1, 1) := zd zm_8246 (by decide +kernel)
theorem d_8246_196 {σ : Nat → Nat} {n0 : Nat} {bf : ab_B} : decode (ab_code (zx σ n0 bf).1 8246) 196 = .ok (.lload 6, 2) := zd zm_8246 (by decide +kernel)
theorem d_8246_198 {σ : Nat → Nat} {n0 : Nat} {bf : ab_B} : decode (ab_code (zx σ n0 bf).1 8246) 198 = .ok (.lload 4, 2) := zd zm_8246 (by decide +kernel)
theorem d_8246_200 {σ : Nat → Nat} {n0 : Nat} {bf : ab_B} : decode (ab_code (zx σ n0 bf).1 8246) 200 = .ok (.invokestatic 639, 3) := zd zm_8246 (by decide +kernel)
theorem d_8246_203 {σ : Nat → Nat} {n0 : Nat} {bf : ab_B} : decode (ab_code (zx σ n0 bf).1 8246) 203 = .ok (.lstore 8, 2) := zd zm_8246 (by decide +kernel)
theorem d_8246_205 {σ : Nat → Nat} {n0 : Nat} {bf : ab_B} : decode (ab_code (zx σ n0 bf).1 8246) 205 = .ok (.iload_n 1, 1) := zd zm_8246 (by decide +kernel)
theorem d_8246_206 {σ : Nat → Nat} {n0 : Nat} {bf : ab_B} : decode (ab_code (zx σ n0 bf).1 8246) 206 = .ok (.bipush 6, 2) := zd zm_8246 (by decide +kernel)
theorem d_8246_208 {σ : Nat → Nat} {n0 : Nat} {bf : ab_B} : decode (ab_code (zx σ n0 bf).1 8246) 208 = .ok (.if_icmp .gt 33, 3) := zd zm_8246 (by decide +kernel)
theorem d_8246_211 {σ : Nat → Nat} {n0 : Nat} {bf : ab_B} : decode (ab_code (zx σ n0 bf).1 8246) 211 = .ok (.iload_n 1, 1) := zd zm_8246 (by decide +kernel)
theorem d_8246_212 {σ : Nat → Nat} {n0 : Nat} {bf : ab_B} : decode (ab_code (zx σ n0 bf).1 8246) 212 = .ok (.iconst 3, 1) := zd zm_8246 (by decide +kernel)
theorem d_8246_213 {σ : Nat → Nat} {n0 : Nat} {bf : ab_B} : decode (ab_code (zx σ n0 bf).1 8246) 213 = .ok (.if_icmp .lt 28, 3) := zd zm_8246 (by decide +kernel)
theorem d_8246_216 {σ : Nat → Nat} {n0 : Nat} {bf : ab_B} : decode (ab_code (zx σ n0 bf).1 8246) 216 = .ok (.lload 8, 2) := zd zm_8246 (by decide +kernel)
theorem d_8246_218 {σ : Nat → Nat} {n0 : Nat} {bf : ab_B} : decode (ab_code (zx σ n0 bf).1 8246) 218 = .ok (.ldc2_w 497, 3) := zd zm_8246 (by decide +kernel)
theorem d_8246_221 {σ : Nat → Nat} {n0 : Nat} {bf : ab_B} : decode (ab_code (zx σ n0 bf).1 8246) 221 = .ok (.lcmp, 1) := zd zm_8246 (by decide +kernel)
theorem d_8246_222 {σ : Nat → Nat} {n0 : Nat} {bf : ab_B} : decode (ab_code (zx σ n0 bf).1 8246) 222 = .ok (.ifCond .gt 12, 3) := zd zm_8246 (by decide +kernel)
theorem d_8246_225 {σ : Nat → Nat} {n0 : Nat} {bf : ab_B} : decode (ab_code (zx σ n0 bf).1 8246) 225 = .ok (.lload 8, 2) := zd zm_8246 (by decide +kernel)
theorem d_8246_227 {σ : Nat → Nat} {n0 : Nat} {bf : ab_B} : decode (ab_code (zx σ n0 bf).1 8246) 227 = .ok (.ldc2_w 633, 3) := zd zm_8246 (by decide +kernel)
theorem d_8246_230 {σ : Nat → Nat} {n0 : Nat} {bf : ab_B} : decode (ab_code (zx σ n0 bf).1 8246) 230 = .ok (.lcmp, 1) := zd zm_8246 (by decide +kernel)
theorem d_8246_231 {σ : Nat → Nat} {n0 : Nat} {bf : ab_B} : decode (ab_code (zx σ n0 bf).1 8246) 231 = .ok (.ifCond .ge 10, 3) := zd zm_8246 (by decide +kernel)
theorem d_8246_234 {σ : Nat → Nat} {n0 : Nat} {bf : ab_B} : decode (ab_code (zx σ n0 bf).1 8246) 234 = .ok (.aload_n 0, 1) := zd zm_8246 (by decide +kernel)
theorem d_8246_235 {σ : Nat → Nat} {n0 : Nat} {bf : ab_B} : decode (ab_code (zx σ n0 bf).1 8246) 235 = .ok (.bipush 6, 2) := zd zm_8246 (by decide +kernel)
theorem d_8246_237 {σ : Nat → Nat} {n0 : Nat} {bf : ab_B} : decode (ab_code (zx σ n0 bf).1 8246) 237 = .ok (.iload_n 3, 1) := zd zm_8246 (by decide +kernel)
theorem d_8246_238 {σ : Nat → Nat} {n0 : Nat} {bf : ab_B} : decode (ab_code (zx σ n0 bf).1 8246) 238 = .ok (.invokevirtual 1297, 3) := zd zm_8246 (by decide +kernel)
theorem d_8246_241 {σ : Nat → Nat} {n0 : Nat} {bf : ab_B} : decode (ab_code (zx σ n0 bf).1 8246) 241 = .ok (.aload_n 0, 1) := zd zm_8246 (by decide +kernel)
theorem d_8246_242 {σ : Nat → Nat} {n0 : Nat} {bf : ab_B} : decode (ab_code (zx σ n0 bf).1 8246) 242 = .ok (.lload 8, 2) := zd zm_8246 (by decide +kernel)
theorem d_8246_244 {σ : Nat → Nat} {n0 : Nat} {bf : ab_B} : decode (ab_code (zx σ n0 bf).1 8246) 244 = .ok (.invokevirtual 1326, 3) := zd zm_8246 (by decide +kernel)
theorem d_8246_247 {σ : Nat → Nat} {n0 : Nat} {bf : ab_B} : decode (ab_code (zx σ n0 bf).1 8246) 247 = .ok (.return_, 1) := zd zm_8246 (by decide +kernel)
def w_X9_reckon_35 (X : zs_X) (d : Nat) (q0 : Option Nat) (q1 : Int64) (S : zs_T) (Q : zs_Q) : Prop :=
  (∃ b1, q0 = some b1 ∧ zs_K S b1 = some (.inl 8) ∧ zs_C X d 8231 [.ref b1, .long q1] S (zs_kV (fun S4 => (Q (.returned none) S4)) Q))
theorem u_X9_reckon_35 {σ : Nat → Nat} {n0 : Nat} {bf : ab_B} {d : Nat} {q0 : Option Nat} {q1 : Int64} {S : zs_T} {Q : zs_Q} (hB : zt_B bf) (h : w_X9_reckon_35 (zx σ n0 bf) d q0 q1 S Q) : zs_U (zx σ n0 bf) d 8246 35 [] [.long q1, va_rf q0] S Q := by
  unfold w_X9_reckon_35 at h
  obtain ⟨b1, e2, h⟩ := h
  refine zs_stk1 (zs_rfe e2) ?_
  obtain ⟨k3, h⟩ := h
  refine zc_8_1326 (x0 := q1) hB rfl k3 d_8246_35 (Nat.le_of_ble_eq_true rfl) h (fun S4 h => ?_)
  exact zu_vret d_8246_38 zr_8246 h
def w_X9_reckon_12 (X : zs_X) (d : Nat) (p0 : Nat) (p1 : Int32) (S : zs_T) (Q : zs_Q) : Prop :=
  (zs_K S p0 = some (.inl 8) ∧ zs_C X d 8242 [.ref p0] S (zs_kJ (fun v3 S2 => (((¬ p1 = (10 : Int32) → (w_X9_reckon_35 X d (some p0) ((-v3)) S2 Q)) ∧ (¬ (¬ p1 = (10 : Int32)) → (w_X9_reckon_35 X d (some p0) ((1 : Int64) - v3) S2 Q))))) Q))
theorem u_X9_reckon_12 {σ : Nat → Nat} {n0 : Nat} {bf : ab_B} {d : Nat} {p0 : Nat} {p1 : Int32} {S : zs_T} {Q : zs_Q} (hB : zt_B bf) (h : w_X9_reckon_12 (zx σ n0 bf) d p0 p1 S Q) : zs_U (zx σ n0 bf) d 8246 12 [(0, .ref p0), (1, .int p1)] [] S Q := by
  unfold w_X9_reckon_12 at h
  refine zu_aload_n d_8246_12 rfl (zs_ra _) ?_
  obtain ⟨k1, h⟩ := h
  refine zc_8_1307  hB rfl k1 d_8246_13 (Nat.le_of_ble_eq_true rfl) h (fun v3 S2 h => ?_)
  refine zu_lstore d_8246_16 (zs_lt zq_8246 rfl) ?_
  refine zu_aload_n d_8246_18 rfl (zs_ra _) ?_
  refine zu_iload_n d_8246_19 rfl ?_
  refine zu_bipush d_8246_20 zj_10 ?_
  refine zu_cmpne (t := 32) d_8246_22 rfl (fun c4 => ?_) (fun c4 => ?_)
  · have h := h.1 c4
    refine zu_lload d_8246_32 rfl ?_
    refine zu_stk d_8246_34 rfl rfl ?_
    exact (u_X9_reckon_35 hB h).weak trivial
  · have h := h.2 c4
    refine zu_lconst (v := 1) d_8246_25 rfl ?_
    refine zu_lload d_8246_26 rfl ?_
    refine zu_stk d_8246_28 rfl rfl ?_
    refine zu_goto (t := 35) d_8246_29 rfl ?_
    exact (u_X9_reckon_35 hB h).weak trivial
def w_X9_reckon_109 (X : zs_X) (d : Nat) (p0 : Nat) (p4 : Int64) (S : zs_T) (Q : zs_Q) : Prop :=
  (zs_K S p0 = some (.inl 8) ∧ zs_C X d 8231 [.ref p0, .long p4] S (zs_kV (fun S2 => (Q (.returned none) S2)) Q))
theorem u_X9_reckon_109 {σ : Nat → Nat} {n0 : Nat} {bf : ab_B} {d : Nat} {p0 : Nat} {p4 : Int64} {S : zs_T} {Q : zs_Q} (hB : zt_B bf) (h : w_X9_reckon_109 (zx σ n0 bf) d p0 p4 S Q) : zs_U (zx σ n0 bf) d 8246 109 [(0, .ref p0), (4, .long p4)] [] S Q := by
  unfold w_X9_reckon_109 at h
  refine zu_aload_n d_8246_109 rfl (zs_ra _) ?_
  refine zu_lload d_8246_110 rfl ?_
  obtain ⟨k1, h⟩ := h
  refine zc_8_1326 (x0 := p4) hB rfl k1 d_8246_112 (Nat.le_of_ble_eq_true rfl) h (fun S2 h => ?_)
  exact zu_vret d_8246_115 zr_8246 h
def w_X9_reckon_103 (X : zs_X) (d : Nat) (p0 : Nat) (p3 : Int32) (p4 : Int64) (S : zs_T) (Q : zs_Q) : Prop :=
  (zs_K S p0 = some (.inl 8) ∧ zs_C X d 8208 [.ref p0, .int (2 : Int32), .int p3] S (zs_kV (fun S2 => w_X9_reckon_109 X d p0 p4 S2 Q) Q))
theorem u_X9_reckon_103 {σ : Nat → Nat} {n0 : Nat} {bf : ab_B} {d : Nat} {p0 : Nat} {p3 : Int32} {p4 : Int64} {S : zs_T} {Q : zs_Q} (hB : zt_B bf) (h : w_X9_reckon_103 (zx σ n0 bf) d p0 p3 p4 S Q) : zs_U (zx σ n0 bf) d 8246 103 [(0, .ref p0), (3, .int p3), (4, .long p4)] [] S Q := by
  unfold w_X9_reckon_103 at h
  refine zu_aload_n d_8246_103 rfl (zs_ra _) ?_
  refine zu_iconst d_8246_104 zi_2 ?_
  refine zu_iload_n d_8246_105 rfl ?_
  obtain ⟨k1, h⟩ := h
  refine zc_8_1297 (x0 := (2 : Int32)) (x1 := p3) hB rfl k1 d_8246_106 (Nat.le_of_ble_eq_true rfl) h (fun S2 h => ?_)
  exact (u_X9_reckon_109 hB h).weak ⟨rfl, rfl, trivial⟩
def w_X9_reckon_99 (X : zs_X) (d : Nat) (p0 : Nat) (p3 : Int32) (p4 : Int64) (q0 : Int64) (q1 : Int64) (S : zs_T) (Q : zs_Q) : Prop :=
  (((q1 ≤ q0 → w_X9_reckon_109 X d p0 p4 S Q) ∧ (¬ (q1 ≤ q0) → w_X9_reckon_103 X d p0 p3 p4 S Q)))
theorem u_X9_reckon_99 {σ : Nat → Nat} {n0 : Nat} {bf : ab_B} {d : Nat} {p0 : Nat} {p3 : Int32} {p4 : Int64} {q0 : Int64} {q1 : Int64} {S : zs_T} {Q : zs_Q} (hB : zt_B bf) (h : w_X9_reckon_99 (zx σ n0 bf) d p0 p3 p4 q0 q1 S Q) : zs_U (zx σ n0 bf) d 8246 99 [(0, .ref p0), (3, .int p3), (4, .long p4)] [.long q1, .long q0] S Q := by
  unfold w_X9_reckon_99 at h
  refine zu_lge (t := 109) d_8246_99 d_8246_100 rfl (fun c1 => ?_) (fun c1 => ?_)
  · have h := h.1 c1
    exact (u_X9_reckon_109 hB h).weak ⟨rfl, rfl, trivial⟩
  · have h := h.2 c1
    exact (u_X9_reckon_103 hB h).weak ⟨rfl, rfl, rfl, trivial⟩
def w_X9_reckon_72 (X : zs_X) (d : Nat) (p0 : Nat) (p2 : Int32) (p3 : Int32) (q0 : Int64) (q1 : Int64) (S : zs_T) (Q : zs_Q) : Prop :=
  (((((p2).toInt64) < (q0 + q1) → w_X9_reckon_103 X d p0 p3 (q0 + q1) S Q) ∧ (¬ (((p2).toInt64) < (q0 + q1)) → (((¬ p2 = (2147483647 : Int32) → (w_X9_reckon_99 X d p0 p3 (q0 + q1) (q0 + q1) (0 : Int64) S Q)) ∧ (¬ (¬ p2 = (2147483647 : Int32)) → (w_X9_reckon_99 X d p0 p3 (q0 + q1) (q0 + q1) (-2147483647 : Int64) S Q)))))))
theorem u_X9_reckon_72 {σ : Nat → Nat} {n0 : Nat} {bf : ab_B} {d : Nat} {p0 : Nat} {p2 : Int32} {p3 : Int32} {q0 : Int64} {q1 : Int64} {S : zs_T} {Q : zs_Q} (hB : zt_B bf) (h : w_X9_reckon_72 (zx σ n0 bf) d p0 p2 p3 q0 q1 S Q) : zs_U (zx σ n0 bf) d 8246 72 [(0, .ref p0), (2, .int p2), (3, .int p3)] [.long q1, .long q0] S Q := by
  unfold w_X9_reckon_72 at h
  refine zu_stk d_8246_72 rfl rfl ?_
  refine zu_lstore d_8246_73 (zs_lt zq_8246 rfl) ?_
  refine zu_lload d_8246_75 rfl ?_
  refine zu_iload_n d_8246_77 rfl ?_
  refine zu_stk d_8246_78 rfl rfl ?_
  refine zu_lgt (t := 103) d_8246_79 d_8246_80 rfl (fun c1 => ?_) (fun c1 => ?_)
  · have h := h.1 c1
    exact (u_X9_reckon_103 hB h).weak ⟨rfl, rfl, rfl, trivial⟩
  · have h := h.2 c1
    refine zu_lload d_8246_83 rfl ?_
    refine zu_iload_n d_8246_85 rfl ?_
    refine zlw_8_577 rfl d_8246_86 ?_
    refine zu_cmpne (t := 98) d_8246_89 rfl (fun c2 => ?_) (fun c2 => ?_)
    · have h := h.1 c2
      refine zu_lconst (v := 0) d_8246_98 rfl ?_
      exact (u_X9_reckon_99 hB h).weak ⟨rfl, rfl, rfl, trivial⟩
    · have h := h.2 c2
      refine zl2_8_633 rfl d_8246_92 ?_
      refine zu_goto (t := 99) d_8246_95 rfl ?_
      exact (u_X9_reckon_99 hB h).weak ⟨rfl, rfl, rfl, trivial⟩
def w_X9_reckon_154 (X : zs_X) (d : Nat) (p0 : Nat) (p3 : Int32) (S : zs_T) (Q : zs_Q) : Prop :=
  (zs_K S p0 = some (.inl 8) ∧ zs_C X d 8208 [.ref p0, .int (7 : Int32), .int p3] S (zs_kV (fun S2 => (Q (.returned none) S2)) Q))
theorem u_X9_reckon_154 {σ : Nat → Nat} {n0 : Nat} {bf : ab_B} {d : Nat} {p0 : Nat} {p3 : Int32} {S : zs_T} {Q : zs_Q} (hB : zt_B bf) (h : w_X9_reckon_154 (zx σ n0 bf) d p0 p3 S Q) : zs_U (zx σ n0 bf) d 8246 154 [(0, .ref p0), (3, .int p3)] [] S Q := by
  unfold w_X9_reckon_154 at h
  refine zu_aload_n d_8246_154 rfl (zs_ra _) ?_
  refine zu_bipush d_8246_155 zj_7 ?_
  refine zu_iload_n d_8246_157 rfl ?_
  obtain ⟨k1, h⟩ := h
  refine zc_8_1297 (x0 := (7 : Int32)) (x1 := p3) hB rfl k1 d_8246_158 (Nat.le_of_ble_eq_true rfl) h (fun S2 h => ?_)
  exact zu_vret d_8246_161 zr_8246 h
def w_X9_reckon_241 (X : zs_X) (d : Nat) (p0 : Nat) (p8 : Int64) (S : zs_T) (Q : zs_Q) : Prop :=
  (zs_K S p0 = some (.inl 8) ∧ zs_C X d 8231 [.ref p0, .long p8] S (zs_kV (fun S2 => (Q (.returned none) S2)) Q))
theorem u_X9_reckon_241 {σ : Nat → Nat} {n0 : Nat} {bf : ab_B} {d : Nat} {p0 : Nat} {p8 : Int64} {S : zs_T} {Q : zs_Q} (hB : zt_B bf) (h : w_X9_reckon_241 (zx σ n0 bf) d p0 p8 S Q) : zs_U (zx σ n0 bf) d 8246 241 [(0, .ref p0), (8, .long p8)] [] S Q := by
  unfold w_X9_reckon_241 at h
  refine zu_aload_n d_8246_241 rfl (zs_ra _) ?_
  refine zu_lload d_8246_242 rfl ?_
  obtain ⟨k1, h⟩ := h
  refine zc_8_1326 (x0 := p8) hB rfl k1 d_8246_244 (Nat.le_of_ble_eq_true rfl) h (fun S2 h => ?_)
  exact zu_vret d_8246_247 zr_8246 h
def w_X9_reckon_234 (X : zs_X) (d : Nat) (p0 : Nat) (p3 : Int32) (p8 : Int64) (S : zs_T) (Q : zs_Q) : Prop :=
  (zs_K S p0 = some (.inl 8) ∧ zs_C X d 8208 [.ref p0, .int (6 : Int32), .int p3] S (zs_kV (fun S2 => w_X9_reckon_241 X d p0 p8 S2 Q) Q))
theorem u_X9_reckon_234 {σ : Nat → Nat} {n0 : Nat} {bf : ab_B} {d : Nat} {p0 : Nat} {p3 : Int32} {p8 : Int64} {S : zs_T} {Q : zs_Q} (hB : zt_B bf) (h : w_X9_reckon_234 (zx σ n0 bf) d p0 p3 p8 S Q) : zs_U (zx σ n0 bf) d 8246 234 [(0, .ref p0), (3, .int p3), (8, .long p8)] [] S Q := by
  unfold w_X9_reckon_234 at h
  refine zu_aload_n d_8246_234 rfl (zs_ra _) ?_
  refine zu_bipush d_8246_235 zj_6 ?_
  refine zu_iload_n d_8246_237 rfl ?_
  obtain ⟨k1, h⟩ := h
  refine zc_8_1297 (x0 := (6 : Int32)) (x1 := p3) hB rfl k1 d_8246_238 (Nat.le_of_ble_eq_true rfl) h (fun S2 h => ?_)
  exact (u_X9_reckon_241 hB h).weak ⟨rfl, rfl, trivial⟩
def w_X9_reckon_203 (X : zs_X) (d : Nat) (p0 : Nat) (p1 : Int32) (p3 : Int32) (q0 : Int64) (S : zs_T) (Q : zs_Q) : Prop :=
  ((((6 : Int32) < p1 → w_X9_reckon_241 X d p0 q0 S Q) ∧ (¬ ((6 : Int32) < p1) → (((p1 < (3 : Int32) → w_X9_reckon_241 X d p0 q0 S Q) ∧ (¬ (p1 < (3 : Int32)) → ((((2147483647 : Int64) < q0 → w_X9_reckon_234 X d p0 p3 q0 S Q) ∧ (¬ ((2147483647 : Int64) < q0) → ((((-2147483647 : Int64) ≤ q0 → w_X9_reckon_241 X d p0 q0 S Q) ∧ (¬ ((-2147483647 : Int64) ≤ q0) → w_X9_reckon_234 X d p0 p3 q0 S Q))))))))))))
theorem u_X9_reckon_203 {σ : Nat → Nat} {n0 : Nat} {bf : ab_B} {d : Nat} {p0 : Nat} {p1 : Int32} {p3 : Int32} {q0 : Int64} {S : zs_T} {Q : zs_Q} (hB : zt_B bf) (h : w_X9_reckon_203 (zx σ n0 bf) d p0 p1 p3 q0 S Q) : zs_U (zx σ n0 bf) d 8246 203 [(0, .ref p0), (1, .int p1), (3, .int p3)] [.long q0] S Q := by
  unfold w_X9_reckon_203 at h
  refine zu_lstore d_8246_203 (zs_lt zq_8246 rfl) ?_
  refine zu_iload_n d_8246_205 rfl ?_
  refine zu_bipush d_8246_206 zj_6 ?_
  refine zu_cmpgt (t := 241) d_8246_208 rfl (fun c1 => ?_) (fun c1 => ?_)
  · have h := h.1 c1
    exact (u_X9_reckon_241 hB h).weak ⟨rfl, rfl, trivial⟩
  · have h := h.2 c1
    refine zu_iload_n d_8246_211 rfl ?_
    refine zu_iconst d_8246_212 zi_3 ?_
    refine zu_cmplt (t := 241) d_8246_213 rfl (fun c2 => ?_) (fun c2 => ?_)
    · have h := h.1 c2
      exact (u_X9_reckon_241 hB h).weak ⟨rfl, rfl, trivial⟩
    · have h := h.2 c2
      refine zu_lload d_8246_216 rfl ?_
      refine zl2_8_497 rfl d_8246_218 ?_
      refine zu_lgt (t := 234) d_8246_221 d_8246_222 rfl (fun c3 => ?_) (fun c3 => ?_)
      · have h := h.1 c3
        exact (u_X9_reckon_234 hB h).weak ⟨rfl, rfl, rfl, trivial⟩
      · have h := h.2 c3
        refine zu_lload d_8246_225 rfl ?_
        refine zl2_8_633 rfl d_8246_227 ?_
        refine zu_lge (t := 241) d_8246_230 d_8246_231 rfl (fun c4 => ?_) (fun c4 => ?_)
        · have h := h.1 c4
          exact (u_X9_reckon_241 hB h).weak ⟨rfl, rfl, trivial⟩
        · have h := h.2 c4
          exact (u_X9_reckon_234 hB h).weak ⟨rfl, rfl, rfl, trivial⟩
def w_X9_reckon_189 (X : zs_X) (d : Nat) (p0 : Nat) (p1 : Int32) (p3 : Int32) (q0 : Int64) (q1 : Int64) (q2 : Int32) (S : zs_T) (Q : zs_Q) : Prop :=
  (zs_C X d 8106 [.long q0, .long q1, .int q2] S (zs_kJ (fun v2 S1 => (w_X9_reckon_203 X d p0 p1 p3 v2 S1 Q)) Q))
theorem u_X9_reckon_189 {σ : Nat → Nat} {n0 : Nat} {bf : ab_B} {d : Nat} {p0 : Nat} {p1 : Int32} {p3 : Int32} {q0 : Int64} {q1 : Int64} {q2 : Int32} {S : zs_T} {Q : zs_Q} (hB : zt_B bf) (h : w_X9_reckon_189 (zx σ n0 bf) d p0 p1 p3 q0 q1 q2 S Q) : zs_U (zx σ n0 bf) d 8246 189 [(0, .ref p0), (1, .int p1), (3, .int p3)] [.int q2, .long q1, .long q0] S Q := by
  unfold w_X9_reckon_189 at h
  refine zc_8_635 (x0 := q0) (x1 := q1) (x2 := q2) hB rfl d_8246_189 (Nat.le_of_ble_eq_true rfl) h (fun v2 S1 h => ?_)
  refine zu_goto (t := 203) d_8246_192 rfl ?_
  exact (u_X9_reckon_203 hB h).weak ⟨rfl, rfl, rfl, trivial⟩
def w_X9_reckon_174 (X : zs_X) (d : Nat) (p0 : Nat) (p1 : Int32) (p3 : Int32) (p4 : Int64) (p6 : Int64) (S : zs_T) (Q : zs_Q) : Prop :=
  (((¬ p1 = (7 : Int32) → (w_X9_reckon_189 X d p0 p1 p3 p6 p4 (0 : Int32) S Q)) ∧ (¬ (¬ p1 = (7 : Int32)) → (w_X9_reckon_189 X d p0 p1 p3 p6 p4 (1 : Int32) S Q))))
theorem u_X9_reckon_174 {σ : Nat → Nat} {n0 : Nat} {bf : ab_B} {d : Nat} {p0 : Nat} {p1 : Int32} {p3 : Int32} {p4 : Int64} {p6 : Int64} {S : zs_T} {Q : zs_Q} (hB : zt_B bf) (h : w_X9_reckon_174 (zx σ n0 bf) d p0 p1 p3 p4 p6 S Q) : zs_U (zx σ n0 bf) d 8246 174 [(0, .ref p0), (1, .int p1), (3, .int p3), (4, .long p4), (6, .long p6)] [] S Q := by
  unfold w_X9_reckon_174 at h
  refine zu_lload d_8246_174 rfl ?_
  refine zu_lload d_8246_176 rfl ?_
  refine zu_iload_n d_8246_178 rfl ?_
  refine zu_bipush d_8246_179 zj_7 ?_
  refine zu_cmpne (t := 188) d_8246_181 rfl (fun c1 => ?_) (fun c1 => ?_)
  · have h := h.1 c1
    refine zu_iconst d_8246_188 zi_0 ?_
    exact (u_X9_reckon_189 hB h).weak ⟨rfl, rfl, rfl, trivial⟩
  · have h := h.2 c1
    refine zu_iconst d_8246_184 zi_1 ?_
    refine zu_goto (t := 189) d_8246_185 rfl ?_
    exact (u_X9_reckon_189 hB h).weak ⟨rfl, rfl, rfl, trivial⟩
def w_X9_reckon_162 (X : zs_X) (d : Nat) (p0 : Nat) (p1 : Int32) (p3 : Int32) (p4 : Int64) (p6 : Int64) (S : zs_T) (Q : zs_Q) : Prop :=
  (((p1 = (6 : Int32) → w_X9_reckon_174 X d p0 p1 p3 p4 p6 S Q) ∧ (¬ (p1 = (6 : Int32)) → (((¬ p1 = (7 : Int32) → (zs_C X d 8107 [.int p1, .long p6, .long p4] S (zs_kJ (fun v4 S3 => w_X9_reckon_203 X d p0 p1 p3 v4 S3 Q) Q))) ∧ (¬ (¬ p1 = (7 : Int32)) → w_X9_reckon_174 X d p0 p1 p3 p4 p6 S Q))))))
theorem u_X9_reckon_162 {σ : Nat → Nat} {n0 : Nat} {bf : ab_B} {d : Nat} {p0 : Nat} {p1 : Int32} {p3 : Int32} {p4 : Int64} {p6 : Int64} {S : zs_T} {Q : zs_Q} (hB : zt_B bf) (h : w_X9_reckon_162 (zx σ n0 bf) d p0 p1 p3 p4 p6 S Q) : zs_U (zx σ n0 bf) d 8246 162 [(0, .ref p0), (1, .int p1), (3, .int p3), (4, .long p4), (6, .long p6)] [] S Q := by
  unfold w_X9_reckon_162 at h
  refine zu_iload_n d_8246_162 rfl ?_
  refine zu_bipush d_8246_163 zj_6 ?_
  refine zu_cmpeq (t := 174) d_8246_165 rfl (fun c1 => ?_) (fun c1 => ?_)
  · have h := h.1 c1
    exact (u_X9_reckon_174 hB h).weak ⟨rfl, rfl, rfl, rfl, rfl, trivial⟩
  · have h := h.2 c1
    refine zu_iload_n d_8246_168 rfl ?_
    refine zu_bipush d_8246_169 zj_7 ?_
    refine zu_cmpne (t := 195) d_8246_171 rfl (fun c2 => ?_) (fun c2 => ?_)
    · have h := h.1 c2
      refine zu_iload_n d_8246_195 rfl ?_
      refine zu_lload d_8246_196 rfl ?_
      refine zu_lload d_8246_198 rfl ?_
      refine zc_8_639 (x0 := p1) (x1 := p6) (x2 := p4) hB rfl d_8246_200 (Nat.le_of_ble_eq_true rfl) h (fun v4 S3 h => ?_)
      exact (u_X9_reckon_203 hB h).weak ⟨rfl, rfl, rfl, trivial⟩
    · have h := h.2 c2
      exact (u_X9_reckon_174 hB h).weak ⟨rfl, rfl, rfl, rfl, rfl, trivial⟩
def w_X9_reckon_141 (X : zs_X) (d : Nat) (p0 : Nat) (p1 : Int32) (p3 : Int32) (p4 : Int64) (p6 : Int64) (S : zs_T) (Q : zs_Q) : Prop :=
  (((¬ p1 = (7 : Int32) → w_X9_reckon_162 X d p0 p1 p3 p4 p6 S Q) ∧ (¬ (¬ p1 = (7 : Int32)) → ((((0 : Int64) < p4 → w_X9_reckon_162 X d p0 p1 p3 p4 p6 S Q) ∧ (¬ ((0 : Int64) < p4) → w_X9_reckon_154 X d p0 p3 S Q))))))
theorem u_X9_reckon_141 {σ : Nat → Nat} {n0 : Nat} {bf : ab_B} {d : Nat} {p0 : Nat} {p1 : Int32} {p3 : Int32} {p4 : Int64} {p6 : Int64} {S : zs_T} {Q : zs_Q} (hB : zt_B bf) (h : w_X9_reckon_141 (zx σ n0 bf) d p0 p1 p3 p4 p6 S Q) : zs_U (zx σ n0 bf) d 8246 141 [(0, .ref p0), (1, .int p1), (3, .int p3), (4, .long p4), (6, .long p6)] [] S Q := by
  unfold w_X9_reckon_141 at h
  refine zu_iload_n d_8246_141 rfl ?_
  refine zu_bipush d_8246_142 zj_7 ?_
  refine zu_cmpne (t := 162) d_8246_144 rfl (fun c1 => ?_) (fun c1 => ?_)
  · have h := h.1 c1
    exact (u_X9_reckon_162 hB h).weak ⟨rfl, rfl, rfl, rfl, rfl, trivial⟩
  · have h := h.2 c1
    refine zu_lload d_8246_147 rfl ?_
    refine zu_lconst (v := 0) d_8246_149 rfl ?_
    refine zu_lgt (t := 162) d_8246_150 d_8246_151 rfl (fun c2 => ?_) (fun c2 => ?_)
    · have h := h.1 c2
      exact (u_X9_reckon_162 hB h).weak ⟨rfl, rfl, rfl, rfl, rfl, trivial⟩
    · have h := h.2 c2
      exact (u_X9_reckon_154 hB h).weak ⟨rfl, rfl, trivial⟩
def w_X9_reckon_134 (X : zs_X) (d : Nat) (p0 : Nat) (p1 : Int32) (p3 : Int32) (p4 : Int64) (p6 : Int64) (S : zs_T) (Q : zs_Q) : Prop :=
  (((p4 = (0 : Int64) → w_X9_reckon_154 X d p0 p3 S Q) ∧ (¬ (p4 = (0 : Int64)) → w_X9_reckon_141 X d p0 p1 p3 p4 p6 S Q)))
theorem u_X9_reckon_134 {σ : Nat → Nat} {n0 : Nat} {bf : ab_B} {d : Nat} {p0 : Nat} {p1 : Int32} {p3 : Int32} {p4 : Int64} {p6 : Int64} {S : zs_T} {Q : zs_Q} (hB : zt_B bf) (h : w_X9_reckon_134 (zx σ n0 bf) d p0 p1 p3 p4 p6 S Q) : zs_U (zx σ n0 bf) d 8246 134 [(0, .ref p0), (1, .int p1), (3, .int p3), (4, .long p4), (6, .long p6)] [] S Q := by
  unfold w_X9_reckon_134 at h
  refine zu_lload d_8246_134 rfl ?_
  refine zu_lconst (v := 0) d_8246_136 rfl ?_
  refine zu_leq (t := 154) d_8246_137 d_8246_138 rfl (fun c1 => ?_) (fun c1 => ?_)
  · have h := h.1 c1
    exact (u_X9_reckon_154 hB h).weak ⟨rfl, rfl, trivial⟩
  · have h := h.2 c1
    exact (u_X9_reckon_141 hB h).weak ⟨rfl, rfl, rfl, rfl, rfl, trivial⟩
def w_X9_reckon (X : zs_X) (d : Nat) (p0 : Nat) (p1 : Int32) (p2 : Int32) (p3 : Int32) (S : zs_T) (Q : zs_Q) : Prop :=
  (((p1 = (10 : Int32) → w_X9_reckon_12 X d p0 p1 S Q) ∧ (¬ (p1 = (10 : Int32)) → (((¬ p1 = (11 : Int32) → (((p1 < (18 : Int32) → (zs_K S p0 = some (.inl 8) ∧ zs_C X d 8242 [.ref p0] S (zs_kJ (fun v6 S5 => (zs_K S5 p0 = some (.inl 8) ∧ zs_C X d 8242 [.ref p0] S5 (zs_kJ (fun v9 S8 => (((¬ p1 = (6 : Int32) → w_X9_reckon_141 X d p0 p1 p3 v6 v9 S8 Q) ∧ (¬ (¬ p1 = (6 : Int32)) → w_X9_reckon_134 X d p0 p1 p3 v6 v9 S8 Q)))) Q))) Q))) ∧ (¬ (p1 < (18 : Int32)) → (zs_K S p0 = some (.inl 8) ∧ zs_C X d 8242 [.ref p0] S (zs_kJ (fun v13 S12 => (((¬ p1 = (19 : Int32) → (((¬ p1 = (20 : Int32) → (w_X9_reckon_72 X d p0 p2 p3 v13 (0 : Int64) S12 Q)) ∧ (¬ (¬ p1 = (20 : Int32)) → (w_X9_reckon_72 X d p0 p2 p3 v13 (-1 : Int64) S12 Q))))) ∧ (¬ (¬ p1 = (19 : Int32)) → (w_X9_reckon_72 X d p0 p2 p3 v13 (1 : Int64) S12 Q))))) Q)))))) ∧ (¬ (¬ p1 = (11 : Int32)) → w_X9_reckon_12 X d p0 p1 S Q))))))
theorem u_X9_reckon {σ : Nat → Nat} {n0 : Nat} {bf : ab_B} {d : Nat} {p0 : Nat} {p1 : Int32} {p2 : Int32} {p3 : Int32} {S : zs_T} {Q : zs_Q} (hB : zt_B bf) (hd : 1 ≤ d) (h : w_X9_reckon (zx σ n0 bf) (d - 1) p0 p1 p2 p3 S Q) : zs_C (zx σ n0 bf) d 8246 [.ref p0, .int p1, .int p2, .int p3] S Q := by
  have hL : lv_args 0 [.ref p0, .int p1, .int p2, .int p3] = [(0, .ref p0), (1, .int p1), (2, .int p2), (3, .int p3)] := rfl
  refine zs_C.of1 (hB.2 8246 (by decide) (by decide)) hd (by rw [hL]; exact zs_sub_self _ (by exact ⟨rfl, rfl, rfl, rfl, trivial⟩)) ?_
  rw [hL]
  clear hL
  unfold w_X9_reckon at h
  refine zu_iload_n d_8246_0 rfl ?_
  refine zu_bipush d_8246_1 zj_10 ?_
  refine zu_cmpeq (t := 12) d_8246_3 rfl (fun c1 => ?_) (fun c1 => ?_)
  · have h := h.1 c1
    exact (u_X9_reckon_12 hB h).weak ⟨rfl, rfl, trivial⟩
  · have h := h.2 c1
    refine zu_iload_n d_8246_6 rfl ?_
    refine zu_bipush d_8246_7 zj_11 ?_
    refine zu_cmpne (t := 39) d_8246_9 rfl (fun c2 => ?_) (fun c2 => ?_)
    · have h := h.1 c2
      refine zu_iload_n d_8246_39 rfl ?_
      refine zu_bipush d_8246_40 zj_18 ?_
      refine zu_cmplt (t := 116) d_8246_42 rfl (fun c3 => ?_) (fun c3 => ?_)
      · have h := h.1 c3
        refine zu_aload_n d_8246_116 rfl (zs_ra _) ?_
        obtain ⟨k4, h⟩ := h
        refine zc_8_1307  hB rfl k4 d_8246_117 (Nat.le_of_ble_eq_true rfl) h (fun v6 S5 h => ?_)
        refine zu_lstore d_8246_120 (zs_lt zq_8246 rfl) ?_
        refine zu_aload_n d_8246_122 rfl (zs_ra _) ?_
        obtain ⟨k7, h⟩ := h
        refine zc_8_1307  hB rfl k7 d_8246_123 (Nat.le_of_ble_eq_true rfl) h (fun v9 S8 h => ?_)
        refine zu_lstore d_8246_126 (zs_lt zq_8246 rfl) ?_
        refine zu_iload_n d_8246_128 rfl ?_
        refine zu_bipush d_8246_129 zj_6 ?_
        refine zu_cmpne (t := 141) d_8246_131 rfl (fun c10 => ?_) (fun c10 => ?_)
        · have h := h.1 c10
          exact (u_X9_reckon_141 hB h).weak ⟨rfl, rfl, rfl, rfl, rfl, trivial⟩
        · have h := h.2 c10
          exact (u_X9_reckon_134 hB h).weak ⟨rfl, rfl, rfl, rfl, rfl, trivial⟩
      · have h := h.2 c3
        refine zu_aload_n d_8246_45 rfl (zs_ra _) ?_
        obtain ⟨k11, h⟩ := h
        refine zc_8_1307  hB rfl k11 d_8246_46 (Nat.le_of_ble_eq_true rfl) h (fun v13 S12 h => ?_)
        refine zu_iload_n d_8246_49 rfl ?_
        refine zu_bipush d_8246_50 zj_19 ?_
        refine zu_cmpne (t := 59) d_8246_52 rfl (fun c14 => ?_) (fun c14 => ?_)
        · have h := h.1 c14
          refine zu_iload_n d_8246_59 rfl ?_
          refine zu_bipush d_8246_60 zj_20 ?_
          refine zu_cmpne (t := 71) d_8246_62 rfl (fun c15 => ?_) (fun c15 => ?_)
          · have h := h.1 c15
            refine zu_lconst (v := 0) d_8246_71 rfl ?_
            exact (u_X9_reckon_72 hB h).weak ⟨rfl, rfl, rfl, trivial⟩
          · have h := h.2 c15
            refine zl2_8_631 rfl d_8246_65 ?_
            refine zu_goto (t := 72) d_8246_68 rfl ?_
            exact (u_X9_reckon_72 hB h).weak ⟨rfl, rfl, rfl, trivial⟩
        · have h := h.2 c14
          refine zu_lconst (v := 1) d_8246_55 rfl ?_
          refine zu_goto (t := 72) d_8246_56 rfl ?_
          exact (u_X9_reckon_72 hB h).weak ⟨rfl, rfl, rfl, trivial⟩
    · have h := h.2 c2
      exact (u_X9_reckon_12 hB h).weak ⟨rfl, rfl, trivial⟩
/-! SchemaPascalModel.valueWork(IIII)V -/
theorem zm_8247 {σ : Nat → Nat} {n0 : Nat} {bf : ab_B} : ab_code (zx σ n0 bf).1 8247 = prog_17_method_268_code := rfl
theorem zq_8247 {σ : Nat → Nat} {n0 : Nat} {bf : ab_B} : ab_maxL (zx σ n0 bf).1 8247 = 5 := rfl
theorem zr_8247 {σ : Nat → Nat} {n0 : Nat} {bf : ab_B} : ab_ret (zx σ n0 bf).1 8247 = (Option.none : Option Jvm.ClassFile.FieldType) := rfl
theorem d_8247_0 {σ : Nat → Nat} {n0 : Nat} {bf : ab_B} : decode (ab_code (zx σ n0 bf).1 8247) 0 = .ok (.iload_n 1, 1) := zd zm_8247 (by decide +kernel)
theorem d_8247_1 {σ : Nat → Nat} {n0 : Nat} {bf : ab_B} : decode (ab_code (zx σ n0 bf).1 8247) 1 = .ok (.tableswitch 215 56 74 #[91, 100, 109, 215, 117, 127, 215, 215, 215, 215, 215, 215, 215, 215, 137, 148, 197, 215, 208], 91) := zd zm_8247 (by decide +kernel)
theorem d_8247_92 {σ : Nat → Nat} {n0 : Nat} {bf : ab_B} : decode (ab_code (zx σ n0 bf).1 8247) 92 = .ok (.aload_n 0, 1) := zd zm_8247 (by decide +kernel)
theorem d_8247_93 {σ : Nat → Nat} {n0 : Nat} {bf : ab_B} : decode (ab_code (zx σ n0 bf).1 8247) 93 = .ok (.iload 4, 2) := zd zm_8247 (by decide +kernel)
theorem d_8247_95 {σ : Nat → Nat} {n0 : Nat} {bf : ab_B} : decode (ab_code (zx σ n0 bf).1 8247) 95 = .ok (.invokevirtual 1444, 3) := zd zm_8247 (by decide +kernel)
theorem d_8247_98 {σ : Nat → Nat} {n0 : Nat} {bf : ab_B} : decode (ab_code (zx σ n0 bf).1 8247) 98 = .ok (.goto 126, 3) := zd zm_8247 (by decide +kernel)
theorem d_8247_101 {σ : Nat → Nat} {n0 : Nat} {bf : ab_B} : decode (ab_code (zx σ n0 bf).1 8247) 101 = .ok (.aload_n 0, 1) := zd zm_8247 (by decide +kernel)
theorem d_8247_102 {σ : Nat → Nat} {n0 : Nat} {bf : ab_B} : decode (ab_code (zx σ n0 bf).1 8247) 102 = .ok (.iload 4, 2) := zd zm_8247 (by decide +kernel)
theorem d_8247_104 {σ : Nat → Nat} {n0 : Nat} {bf : ab_B} : decode (ab_code (zx σ n0 bf).1 8247) 104 = .ok (.invokevirtual 1446, 3) := zd zm_8247 (by decide +kernel)
theorem d_8247_107 {σ : Nat → Nat} {n0 : Nat} {bf : ab_B} : decode (ab_code (zx σ n0 bf).1 8247) 107 = .ok (.goto 117, 3) := zd zm_8247 (by decide +kernel)
theorem d_8247_110 {σ : Nat → Nat} {n0 : Nat} {bf : ab_B} : decode (ab_code (zx σ n0 bf).1 8247) 110 = .ok (.aload_n 0, 1) := zd zm_8247 (by decide +kernel)
theorem d_8247_111 {σ : Nat → Nat} {n0 : Nat} {bf : ab_B} : decode (ab_code (zx σ n0 bf).1 8247) 111 = .ok (.iload_n 2, 1) := zd zm_8247 (by decide +kernel)
theorem d_8247_112 {σ : Nat → Nat} {n0 : Nat} {bf : ab_B} : decode (ab_code (zx σ n0 bf).1 8247) 112 = .ok (.invokevirtual 1449, 3) := zd zm_8247 (by decide +kernel)
theorem d_8247_115 {σ : Nat → Nat} {n0 : Nat} {bf : ab_B} : decode (ab_code (zx σ n0 bf).1 8247) 115 = .ok (.goto 109, 3) := zd zm_8247 (by decide +kernel)
theorem d_8247_118 {σ : Nat → Nat} {n0 : Nat} {bf : ab_B} : decode (ab_code (zx σ n0 bf).1 8247) 118 = .ok (.aload_n 0, 1) := zd zm_8247 (by decide +kernel)
theorem d_8247_119 {σ : Nat → Nat} {n0 : Nat} {bf : ab_B} : decode (ab_code (zx σ n0 bf).1 8247) 119 = .ok (.iload_n 2, 1) := zd zm_8247 (by decide +kernel)
theorem d_8247_120 {σ : Nat → Nat} {n0 : Nat} {bf : ab_B} : decode (ab_code (zx σ n0 bf).1 8247) 120 = .ok (.iload 4, 2) := zd zm_8247 (by decide +kernel)
theorem d_8247_122 {σ : Nat → Nat} {n0 : Nat} {bf : ab_B} : decode (ab_code (zx σ n0 bf).1 8247) 122 = .ok (.invokevirtual 1452, 3) := zd zm_8247 (by decide +kernel)
theorem d_8247_125 {σ : Nat → Nat} {n0 : Nat} {bf : ab_B} : decode (ab_code (zx σ n0 bf).1 8247) 125 = .ok (.goto 99, 3) := zd zm_8247 (by decide +kernel)
theorem d_8247_128 {σ : Nat → Nat} {n0 : Nat} {bf : ab_B} : decode (ab_code (zx σ n0 bf).1 8247) 128 = .ok (.aload_n 0, 1) := zd zm_8247 (by decide +kernel)
theorem d_8247_129 {σ : Nat → Nat} {n0 : Nat} {bf : ab_B} : decode (ab_code (zx σ n0 bf).1 8247) 129 = .ok (.iload_n 2, 1) := zd zm_8247 (by decide +kernel)
theorem d_8247_130 {σ : Nat → Nat} {n0 : Nat} {bf : ab_B} : decode (ab_code (zx σ n0 bf).1 8247) 130 = .ok (.iload 4, 2) := zd zm_8247 (by decide +kernel)
theorem d_8247_132 {σ : Nat → Nat} {n0 : Nat} {bf : ab_B} : decode (ab_code (zx σ n0 bf).1 8247) 132 = .ok (.invokevirtual 1454, 3) := zd zm_8247 (by decide +kernel)
theorem d_8247_135 {σ : Nat → Nat} {n0 : Nat} {bf : ab_B} : decode (ab_code (zx σ n0 bf).1 8247) 135 = .ok (.goto 89, 3) := zd zm_8247 (by decide +kernel)
theorem d_8247_138 {σ : Nat → Nat} {n0 : Nat} {bf : ab_B} : decode (ab_code (zx σ n0 bf).1 8247) 138 = .ok (.aload_n 0, 1) := zd zm_8247 (by decide +kernel)
theorem d_8247_139 {σ : Nat → Nat} {n0 : Nat} {bf : ab_B} : decode (ab_code (zx σ n0 bf).1 8247) 139 = .ok (.iload_n 2, 1) := zd zm_8247 (by decide +kernel)
theorem d_8247_140 {σ : Nat → Nat} {n0 : Nat} {bf : ab_B} : decode (ab_code (zx σ n0 bf).1 8247) 140 = .ok (.iload_n 3, 1) := zd zm_8247 (by decide +kernel)
theorem d_8247_141 {σ : Nat → Nat} {n0 : Nat} {bf : ab_B} : decode (ab_code (zx σ n0 bf).1 8247) 141 = .ok (.iload 4, 2) := zd zm_8247 (by decide +kernel)
theorem d_8247_143 {σ : Nat → Nat} {n0 : Nat} {bf : ab_B} : decode (ab_code (zx σ n0 bf).1 8247) 143 = .ok (.invokevirtual 1457, 3) := zd zm_8247 (by decide +kernel)
theorem d_8247_146 {σ : Nat → Nat} {n0 : Nat} {bf : ab_B} : decode (ab_code (zx σ n0 bf).1 8247) 146 = .ok (.goto 78, 3) := zd zm_8247 (by decide +kernel)
theorem d_8247_149 {σ : Nat → Nat} {n0 : Nat} {bf : ab_B} : decode (ab_code (zx σ n0 bf).1 8247) 149 = .ok (.aload_n 0, 1) := zd zm_8247 (by decide +kernel)
theorem d_8247_150 {σ : Nat → Nat} {n0 : Nat} {bf : ab_B} : decode (ab_code (zx σ n0 bf).1 8247) 150 = .ok (.aload_n 0, 1) := zd zm_8247 (by decide +kernel)
theorem d_8247_151 {σ : Nat → Nat} {n0 : Nat} {bf : ab_B} : decode (ab_code (zx σ n0 bf).1 8247) 151 = .ok (.getfield 362, 3) := zd zm_8247 (by decide +kernel)
theorem d_8247_154 {σ : Nat → Nat} {n0 : Nat} {bf : ab_B} : decode (ab_code (zx σ n0 bf).1 8247) 154 = .ok (.aload_n 0, 1) := zd zm_8247 (by decide +kernel)
theorem d_8247_155 {σ : Nat → Nat} {n0 : Nat} {bf : ab_B} : decode (ab_code (zx σ n0 bf).1 8247) 155 = .ok (.getfield 347, 3) := zd zm_8247 (by decide +kernel)
theorem d_8247_158 {σ : Nat → Nat} {n0 : Nat} {bf : ab_B} : decode (ab_code (zx σ n0 bf).1 8247) 158 = .ok (.aload_n 0, 1) := zd zm_8247 (by decide +kernel)
theorem d_8247_159 {σ : Nat → Nat} {n0 : Nat} {bf : ab_B} : decode (ab_code (zx σ n0 bf).1 8247) 159 = .ok (.getfield 1240, 3) := zd zm_8247 (by decide +kernel)
theorem d_8247_162 {σ : Nat → Nat} {n0 : Nat} {bf : ab_B} : decode (ab_code (zx σ n0 bf).1 8247) 162 = .ok (.iconst 1, 1) := zd zm_8247 (by decide +kernel)
theorem d_8247_163 {σ : Nat → Nat} {n0 : Nat} {bf : ab_B} : decode (ab_code (zx σ n0 bf).1 8247) 163 = .ok (.isub, 1) := zd zm_8247 (by decide +kernel)
theorem d_8247_164 {σ : Nat → Nat} {n0 : Nat} {bf : ab_B} : decode (ab_code (zx σ n0 bf).1 8247) 164 = .ok (.iaload, 1) := zd zm_8247 (by decide +kernel)
theorem d_8247_165 {σ : Nat → Nat} {n0 : Nat} {bf : ab_B} : decode (ab_code (zx σ n0 bf).1 8247) 165 = .ok (.iload_n 2, 1) := zd zm_8247 (by decide +kernel)
theorem d_8247_166 {σ : Nat → Nat} {n0 : Nat} {bf : ab_B} : decode (ab_code (zx σ n0 bf).1 8247) 166 = .ok (.iadd, 1) := zd zm_8247 (by decide +kernel)
theorem d_8247_167 {σ : Nat → Nat} {n0 : Nat} {bf : ab_B} : decode (ab_code (zx σ n0 bf).1 8247) 167 = .ok (.iaload, 1) := zd zm_8247 (by decide +kernel)
theorem d_8247_168 {σ : Nat → Nat} {n0 : Nat} {bf : ab_B} : decode (ab_code (zx σ n0 bf).1 8247) 168 = .ok (.iload_n 3, 1) := zd zm_8247 (by decide +kernel)
theorem d_8247_169 {σ : Nat → Nat} {n0 : Nat} {bf : ab_B} : decode (ab_code (zx σ n0 bf).1 8247) 169 = .ok (.i2l, 1) := zd zm_8247 (by decide +kernel)
theorem d_8247_170 {σ : Nat → Nat} {n0 : Nat} {bf : ab_B} : decode (ab_code (zx σ n0 bf).1 8247) 170 = .ok (.aload_n 0, 1) := zd zm_8247 (by decide +kernel)
theorem d_8247_171 {σ : Nat → Nat} {n0 : Nat} {bf : ab_B} : decode (ab_code (zx σ n0 bf).1 8247) 171 = .ok (.aload_n 0, 1) := zd zm_8247 (by decide +kernel)
theorem d_8247_172 {σ : Nat → Nat} {n0 : Nat} {bf : ab_B} : decode (ab_code (zx σ n0 bf).1 8247) 172 = .ok (.getfield 365, 3) := zd zm_8247 (by decide +kernel)
theorem d_8247_175 {σ : Nat → Nat} {n0 : Nat} {bf : ab_B} : decode (ab_code (zx σ n0 bf).1 8247) 175 = .ok (.aload_n 0, 1) := zd zm_8247 (by decide +kernel)
theorem d_8247_176 {σ : Nat → Nat} {n0 : Nat} {bf : ab_B} : decode (ab_code (zx σ n0 bf).1 8247) 176 = .ok (.getfield 347, 3) := zd zm_8247 (by decide +kernel)
theorem d_8247_179 {σ : Nat → Nat} {n0 : Nat} {bf : ab_B} : decode (ab_code (zx σ n0 bf).1 8247) 179 = .ok (.aload_n 0, 1) := zd zm_8247 (by decide +kernel)
theorem d_8247_180 {σ : Nat → Nat} {n0 : Nat} {bf : ab_B} : decode (ab_code (zx σ n0 bf).1 8247) 180 = .ok (.getfield 1240, 3) := zd zm_8247 (by decide +kernel)
theorem d_8247_183 {σ : Nat → Nat} {n0 : Nat} {bf : ab_B} : decode (ab_code (zx σ n0 bf).1 8247) 183 = .ok (.iconst 1, 1) := zd zm_8247 (by decide +kernel)
theorem d_8247_184 {σ : Nat → Nat} {n0 : Nat} {bf : ab_B} : decode (ab_code (zx σ n0 bf).1 8247) 184 = .ok (.isub, 1) := zd zm_8247 (by decide +kernel)
theorem d_8247_185 {σ : Nat → Nat} {n0 : Nat} {bf : ab_B} : decode (ab_code (zx σ n0 bf).1 8247) 185 = .ok (.iaload, 1) := zd zm_8247 (by decide +kernel)
theorem d_8247_186 {σ : Nat → Nat} {n0 : Nat} {bf : ab_B} : decode (ab_code (zx σ n0 bf).1 8247) 186 = .ok (.iload_n 2, 1) := zd zm_8247 (by decide +kernel)
theorem d_8247_187 {σ : Nat → Nat} {n0 : Nat} {bf : ab_B} : decode (ab_code (zx σ n0 bf).1 8247) 187 = .ok (.iadd, 1) := zd zm_8247 (by decide +kernel)
theorem d_8247_188 {σ : Nat → Nat} {n0 : Nat} {bf : ab_B} : decode (ab_code (zx σ n0 bf).1 8247) 188 = .ok (.iaload, 1) := zd zm_8247 (by decide +kernel)
theorem d_8247_189 {σ : Nat → Nat} {n0 : Nat} {bf : ab_B} : decode (ab_code (zx σ n0 bf).1 8247) 189 = .ok (.invokevirtual 1332, 3) := zd zm_8247 (by decide +kernel)
theorem d_8247_192 {σ : Nat → Nat} {n0 : Nat} {bf : ab_B} : decode (ab_code (zx σ n0 bf).1 8247) 192 = .ok (.invokevirtual 1341, 3) := zd zm_8247 (by decide +kernel)
theorem d_8247_195 {σ : Nat → Nat} {n0 : Nat} {bf : ab_B} : decode (ab_code (zx σ n0 bf).1 8247) 195 = .ok (.goto 29, 3) := zd zm_8247 (by decide +kernel)
theorem d_8247_198 {σ : Nat → Nat} {n0 : Nat} {bf : ab_B} : decode (ab_code (zx σ n0 bf).1 8247) 198 = .ok (.aload_n 0, 1) := zd zm_8247 (by decide +kernel)
theorem d_8247_199 {σ : Nat → Nat} {n0 : Nat} {bf : ab_B} : decode (ab_code (zx σ n0 bf).1 8247) 199 = .ok (.iload_n 2, 1) := zd zm_8247 (by decide +kernel)
theorem d_8247_200 {σ : Nat → Nat} {n0 : Nat} {bf : ab_B} : decode (ab_code (zx σ n0 bf).1 8247) 200 = .ok (.iload_n 3, 1) := zd zm_8247 (by decide +kernel)
theorem d_8247_201 {σ : Nat → Nat} {n0 : Nat} {bf : ab_B} : decode (ab_code (zx σ n0 bf).1 8247) 201 = .ok (.iload 4, 2) := zd zm_8247 (by decide +kernel)
theorem d_8247_203 {σ : Nat → Nat} {n0 : Nat} {bf : ab_B} : decode (ab_code (zx σ n0 bf).1 8247) 203 = .ok (.invokevirtual 1460, 3) := zd zm_8247 (by decide +kernel)
theorem d_8247_206 {σ : Nat → Nat} {n0 : Nat} {bf : ab_B} : decode (ab_code (zx σ n0 bf).1 8247) 206 = .ok (.goto 18, 3) := zd zm_8247 (by decide +kernel)
theorem d_8247_209 {σ : Nat → Nat} {n0 : Nat} {bf : ab_B} : decode (ab_code (zx σ n0 bf).1 8247) 209 = .ok (.aload_n 0, 1) := zd zm_8247 (by decide +kernel)
theorem d_8247_210 {σ : Nat → Nat} {n0 : Nat} {bf : ab_B} : decode (ab_code (zx σ n0 bf).1 8247) 210 = .ok (.invokevirtual 1463, 3) := zd zm_8247 (by decide +kernel)
theorem d_8247_213 {σ : Nat → Nat} {n0 : Nat} {bf : ab_B} : decode (ab_code (zx σ n0 bf).1 8247) 213 = .ok (.goto 11, 3) := zd zm_8247 (by decide +kernel)
theorem d_8247_216 {σ : Nat → Nat} {n0 : Nat} {bf : ab_B} : decode (ab_code (zx σ n0 bf).1 8247) 216 = .ok (.aload_n 0, 1) := zd zm_8247 (by decide +kernel)
theorem d_8247_217 {σ : Nat → Nat} {n0 : Nat} {bf : ab_B} : decode (ab_code (zx σ n0 bf).1 8247) 217 = .ok (.iload_n 1, 1) := zd zm_8247 (by decide +kernel)
theorem d_8247_218 {σ : Nat → Nat} {n0 : Nat} {bf : ab_B} : decode (ab_code (zx σ n0 bf).1 8247) 218 = .ok (.iload_n 2, 1) := zd zm_8247 (by decide +kernel)
theorem d_8247_219 {σ : Nat → Nat} {n0 : Nat} {bf : ab_B} : decode (ab_code (zx σ n0 bf).1 8247) 219 = .ok (.iload 4, 2) := zd zm_8247 (by decide +kernel)
theorem d_8247_221 {σ : Nat → Nat} {n0 : Nat} {bf : ab_B} : decode (ab_code (zx σ n0 bf).1 8247) 221 = .ok (.invokevirtual 1466, 3) := zd zm_8247 (by decide +kernel)
theorem d_8247_224 {σ : Nat → Nat} {n0 : Nat} {bf : ab_B} : decode (ab_code (zx σ n0 bf).1 8247) 224 = .ok (.return_, 1) := zd zm_8247 (by decide +kernel)
def w_X9_valueWork_195 (X : zs_X) (d : Nat)  (S : zs_T) (Q : zs_Q) : Prop :=
  (Q (.returned none) S)
theorem u_X9_valueWork_195 {σ : Nat → Nat} {n0 : Nat} {bf : ab_B} {d : Nat}  {S : zs_T} {Q : zs_Q} (hB : zt_B bf) (h : w_X9_valueWork_195 (zx σ n0 bf) d  S Q) : zs_U (zx σ n0 bf) d 8247 195 [] [] S Q := by
  unfold w_X9_valueWork_195 at h
  refine zu_goto (t := 224) d_8247_195 rfl ?_
  exact zu_vret d_8247_224 zr_8247 h
def w_X9_valueWork_216 (X : zs_X) (d : Nat) (p0 : Nat) (p1 : Int32) (p2 : Int32) (p4 : Int32) (S : zs_T) (Q : zs_Q) : Prop :=
  (zs_K S p0 = some (.inl 8) ∧ zs_C X d 8260 [.ref p0, .int p1, .int p2, .int p4] S (zs_kV (fun S2 => (Q (.returned none) S2)) Q))
theorem u_X9_valueWork_216 {σ : Nat → Nat} {n0 : Nat} {bf : ab_B} {d : Nat} {p0 : Nat} {p1 : Int32} {p2 : Int32} {p4 : Int32} {S : zs_T} {Q : zs_Q} (hB : zt_B bf) (h : w_X9_valueWork_216 (zx σ n0 bf) d p0 p1 p2 p4 S Q) : zs_U (zx σ n0 bf) d 8247 216 [(0, .ref p0), (1, .int p1), (2, .int p2), (4, .int p4)] [] S Q := by
  unfold w_X9_valueWork_216 at h
  refine zu_aload_n d_8247_216 rfl (zs_ra _) ?_
  refine zu_iload_n d_8247_217 rfl ?_
  refine zu_iload_n d_8247_218 rfl ?_
  refine zu_iload d_8247_219 rfl ?_
  obtain ⟨k1, h⟩ := h
  refine zc_8_1466 (x0 := p1) (x1 := p2) (x2 := p4) hB rfl k1 d_8247_221 (Nat.le_of_ble_eq_true rfl) h (fun S2 h => ?_)
  exact zu_vret d_8247_224 zr_8247 h
def w_X9_valueWork (X : zs_X) (d : Nat) (p0 : Nat) (p1 : Int32) (p2 : Int32) (p3 : Int32) (p4 : Int32) (S : zs_T) (Q : zs_Q) : Prop :=
  (((p1.toInt < 56 ∨ 74 < p1.toInt → w_X9_valueWork_216 X d p0 p1 p2 p4 S Q) ∧ (p1.toInt = 56 → (zs_K S p0 = some (.inl 8) ∧ zs_C X d 8248 [.ref p0, .int p4] S (zs_kV (fun S3 => (Q (.returned none) S3)) Q))) ∧ (p1.toInt = 57 → (zs_K S p0 = some (.inl 8) ∧ zs_C X d 8249 [.ref p0, .int p4] S (zs_kV (fun S6 => (Q (.returned none) S6)) Q))) ∧ (p1.toInt = 58 → (zs_K S p0 = some (.inl 8) ∧ zs_C X d 8250 [.ref p0, .int p2] S (zs_kV (fun S9 => (Q (.returned none) S9)) Q))) ∧ (p1.toInt = 59 → w_X9_valueWork_216 X d p0 p1 p2 p4 S Q) ∧ (p1.toInt = 60 → (zs_K S p0 = some (.inl 8) ∧ zs_C X d 8207 [.ref p0, .int p2, .int p4] S (zs_kV (fun S12 => (Q (.returned none) S12)) Q))) ∧ (p1.toInt = 61 → (zs_K S p0 = some (.inl 8) ∧ zs_C X d 8252 [.ref p0, .int p2, .int p4] S (zs_kV (fun S15 => (Q (.returned none) S15)) Q))) ∧ (p1.toInt = 62 → w_X9_valueWork_216 X d p0 p1 p2 p4 S Q) ∧ (p1.toInt = 63 → w_X9_valueWork_216 X d p0 p1 p2 p4 S Q) ∧ (p1.toInt = 64 → w_X9_valueWork_216 X d p0 p1 p2 p4 S Q) ∧ (p1.toInt = 65 → w_X9_valueWork_216 X d p0 p1 p2 p4 S Q) ∧ (p1.toInt = 66 → w_X9_valueWork_216 X d p0 p1 p2 p4 S Q) ∧ (p1.toInt = 67 → w_X9_valueWork_216 X d p0 p1 p2 p4 S Q) ∧ (p1.toInt = 68 → w_X9_valueWork_216 X d p0 p1 p2 p4 S Q) ∧ (p1.toInt = 69 → w_X9_valueWork_216 X d p0 p1 p2 p4 S Q) ∧ (p1.toInt = 70 → (zs_K S p0 = some (.inl 8) ∧ zs_C X d 8256 [.ref p0, .int p2, .int p3, .int p4] S (zs_kV (fun S18 => (Q (.returned none) S18)) Q))) ∧ (p1.toInt = 71 → (zs_K S p0 = some (.inl 8) ∧ ∃ b21, (zs_R S 8160 p0) = some b21 ∧ zs_A S b21 0 ((zs_I S 8165 p0) - (1 : Int32)) ∧ ∃ b24, (zs_R S 8167 p0) = some b24 ∧ zs_A S b24 0 ((zs_i S b21 ((zs_I S 8165 p0) - (1 : Int32)).toNatClampNeg) + p2) ∧ ∃ b27, (zs_R S 8168 p0) = some b27 ∧ zs_A S b27 0 ((zs_i S b21 ((zs_I S 8165 p0) - (1 : Int32)).toNatClampNeg) + p2) ∧ zs_C X d 8220 [.ref p0, .int (zs_i S b27 ((zs_i S b21 ((zs_I S 8165 p0) - (1 : Int32)).toNatClampNeg) + p2).toNatClampNeg)] S (zs_kI (fun v31 S30 => (zs_K S30 p0 = some (.inl 8) ∧ zs_C X d 8221 [.ref p0, .int (zs_i S b24 ((zs_i S b21 ((zs_I S 8165 p0) - (1 : Int32)).toNatClampNeg) + p2).toNatClampNeg), .long ((p3).toInt64), .int v31] S30 (zs_kV (fun S33 => w_X9_valueWork_195 X d  S33 Q) Q))) Q))) ∧ (p1.toInt = 72 → (zs_K S p0 = some (.inl 8) ∧ zs_C X d 8257 [.ref p0, .int p2, .int p3, .int p4] S (zs_kV (fun S36 => (Q (.returned none) S36)) Q))) ∧ (p1.toInt = 73 → w_X9_valueWork_216 X d p0 p1 p2 p4 S Q) ∧ (p1.toInt = 74 → (zs_K S p0 = some (.inl 8) ∧ zs_C X d 8258 [.ref p0] S (zs_kV (fun S39 => (Q (.returned none) S39)) Q)))))
theorem u_X9_valueWork {σ : Nat → Nat} {n0 : Nat} {bf : ab_B} {d : Nat} {p0 : Nat} {p1 : Int32} {p2 : Int32} {p3 : Int32} {p4 : Int32} {S : zs_T} {Q : zs_Q} (hB : zt_B bf) (hd : 1 ≤ d) (h : w_X9_valueWork (zx σ n0 bf) (d - 1) p0 p1 p2 p3 p4 S Q) : zs_C (zx σ n0 bf) d 8247 [.ref p0, .int p1, .int p2, .int p3, .int p4] S Q := by
  have hL : lv_args 0 [.ref p0, .int p1, .int p2, .int p3, .int p4] = [(0, .ref p0), (1, .int p1), (2, .int p2), (3, .int p3), (4, .int p4)] := rfl
  refine zs_C.of1 (hB.2 8247 (by decide) (by decide)) hd (by rw [hL]; exact zs_sub_self _ (by exact ⟨rfl, rfl, rfl, rfl, rfl, trivial⟩)) ?_
  rw [hL]
  clear hL
  unfold w_X9_valueWork at h
  refine zu_iload_n d_8247_0 rfl ?_
  refine zu_tsw (td := 216) d_8247_1 (by decide) rfl (fun c1 => ?_) ⟨fun c1 => ⟨by decide, ?_⟩, fun c1 => ⟨by decide, ?_⟩, fun c1 => ⟨by decide, ?_⟩, fun c1 => ⟨by decide, ?_⟩, fun c1 => ⟨by decide, ?_⟩, fun c1 => ⟨by decide, ?_⟩, fun c1 => ⟨by decide, ?_⟩, fun c1 => ⟨by decide, ?_⟩, fun c1 => ⟨by decide, ?_⟩, fun c1 => ⟨by decide, ?_⟩, fun c1 => ⟨by decide, ?_⟩, fun c1 => ⟨by decide, ?_⟩, fun c1 => ⟨by decide, ?_⟩, fun c1 => ⟨by decide, ?_⟩, fun c1 => ⟨by decide, ?_⟩, fun c1 => ⟨by decide, ?_⟩, fun c1 => ⟨by decide, ?_⟩, fun c1 => ⟨by decide, ?_⟩, fun c1 => ⟨by decide, ?_⟩, trivial⟩
  · have h := h.1 c1
    exact (u_X9_valueWork_216 hB h).weak ⟨rfl, rfl, rfl, rfl, trivial⟩
  · have h := h.2.1 c1
    show zs_U _ _ _ 92 _ _ _ _
    refine zu_aload_n d_8247_92 rfl (zs_ra _) ?_
    refine zu_iload d_8247_93 rfl ?_
    obtain ⟨k2, h⟩ := h
    refine zc_8_1444 (x0 := p4) hB rfl k2 d_8247_95 (Nat.le_of_ble_eq_true rfl) h (fun S3 h => ?_)
    refine zu_goto (t := 224) d_8247_98 rfl ?_
    exact zu_vret d_8247_224 zr_8247 h
  · have h := h.2.2.1 c1
    show zs_U _ _ _ 101 _ _ _ _
    refine zu_aload_n d_8247_101 rfl (zs_ra _) ?_
    refine zu_iload d_8247_102 rfl ?_
    obtain ⟨k5, h⟩ := h
    refine zc_8_1446 (x0 := p4) hB rfl k5 d_8247_104 (Nat.le_of_ble_eq_true rfl) h (fun S6 h => ?_)
    refine zu_goto (t := 224) d_8247_107 rfl ?_
    exact zu_vret d_8247_224 zr_8247 h
  · have h := h.2.2.2.1 c1
    show zs_U _ _ _ 110 _ _ _ _
    refine zu_aload_n d_8247_110 rfl (zs_ra _) ?_
    refine zu_iload_n d_8247_111 rfl ?_
    obtain ⟨k8, h⟩ := h
    refine zc_8_1449 (x0 := p2) hB rfl k8 d_8247_112 (Nat.le_of_ble_eq_true rfl) h (fun S9 h => ?_)
    refine zu_goto (t := 224) d_8247_115 rfl ?_
    exact zu_vret d_8247_224 zr_8247 h
  · have h := h.2.2.2.2.1 c1
    show zs_U _ _ _ 216 _ _ _ _
    exact (u_X9_valueWork_216 hB h).weak ⟨rfl, rfl, rfl, rfl, trivial⟩
  · have h := h.2.2.2.2.2.1 c1
    show zs_U _ _ _ 118 _ _ _ _
    refine zu_aload_n d_8247_118 rfl (zs_ra _) ?_
    refine zu_iload_n d_8247_119 rfl ?_
    refine zu_iload d_8247_120 rfl ?_
    obtain ⟨k11, h⟩ := h
    refine zc_8_1452 (x0 := p2) (x1 := p4) hB rfl k11 d_8247_122 (Nat.le_of_ble_eq_true rfl) h (fun S12 h => ?_)
    refine zu_goto (t := 224) d_8247_125 rfl ?_
    exact zu_vret d_8247_224 zr_8247 h
  · have h := h.2.2.2.2.2.2.1 c1
    show zs_U _ _ _ 128 _ _ _ _
    refine zu_aload_n d_8247_128 rfl (zs_ra _) ?_
    refine zu_iload_n d_8247_129 rfl ?_
    refine zu_iload d_8247_130 rfl ?_
    obtain ⟨k14, h⟩ := h
    refine zc_8_1454 (x0 := p2) (x1 := p4) hB rfl k14 d_8247_132 (Nat.le_of_ble_eq_true rfl) h (fun S15 h => ?_)
    refine zu_goto (t := 224) d_8247_135 rfl ?_
    exact zu_vret d_8247_224 zr_8247 h
  · have h := h.2.2.2.2.2.2.2.1 c1
    show zs_U _ _ _ 216 _ _ _ _
    exact (u_X9_valueWork_216 hB h).weak ⟨rfl, rfl, rfl, rfl, trivial⟩
  · have h := h.2.2.2.2.2.2.2.2.1 c1
    show zs_U _ _ _ 216 _ _ _ _
    exact (u_X9_valueWork_216 hB h).weak ⟨rfl, rfl, rfl, rfl, trivial⟩
  · have h := h.2.2.2.2.2.2.2.2.2.1 c1
    show zs_U _ _ _ 216 _ _ _ _
    exact (u_X9_valueWork_216 hB h).weak ⟨rfl, rfl, rfl, rfl, trivial⟩
  · have h := h.2.2.2.2.2.2.2.2.2.2.1 c1
    show zs_U _ _ _ 216 _ _ _ _
    exact (u_X9_valueWork_216 hB h).weak ⟨rfl, rfl, rfl, rfl, trivial⟩
  · have h := h.2.2.2.2.2.2.2.2.2.2.2.1 c1
    show zs_U _ _ _ 216 _ _ _ _
    exact (u_X9_valueWork_216 hB h).weak ⟨rfl, rfl, rfl, rfl, trivial⟩
  · have h := h.2.2.2.2.2.2.2.2.2.2.2.2.1 c1
    show zs_U _ _ _ 216 _ _ _ _
    exact (u_X9_valueWork_216 hB h).weak ⟨rfl, rfl, rfl, rfl, trivial⟩
  · have h := h.2.2.2.2.2.2.2.2.2.2.2.2.2.1 c1
    show zs_U _ _ _ 216 _ _ _ _
    exact (u_X9_valueWork_216 hB h).weak ⟨rfl, rfl, rfl, rfl, trivial⟩
  · have h := h.2.2.2.2.2.2.2.2.2.2.2.2.2.2.1 c1
    show zs_U _ _ _ 216 _ _ _ _
    exact (u_X9_valueWork_216 hB h).weak ⟨rfl, rfl, rfl, rfl, trivial⟩
  · have h := h.2.2.2.2.2.2.2.2.2.2.2.2.2.2.2.1 c1
    show zs_U _ _ _ 138 _ _ _ _
    refine zu_aload_n d_8247_138 rfl (zs_ra _) ?_
    refine zu_iload_n d_8247_139 rfl ?_
    refine zu_iload_n d_8247_140 rfl ?_
    refine zu_iload d_8247_141 rfl ?_
    obtain ⟨k17, h⟩ := h
    refine zc_8_1457 (x0 := p2) (x1 := p3) (x2 := p4) hB rfl k17 d_8247_143 (Nat.le_of_ble_eq_true rfl) h (fun S18 h => ?_)
    refine zu_goto (t := 224) d_8247_146 rfl ?_
    exact zu_vret d_8247_224 zr_8247 h
  · have h := h.2.2.2.2.2.2.2.2.2.2.2.2.2.2.2.2.1 c1
    show zs_U _ _ _ 149 _ _ _ _
    refine zu_aload_n d_8247_149 rfl (zs_ra _) ?_
    refine zu_aload_n d_8247_150 rfl (zs_ra _) ?_
    obtain ⟨k20, h⟩ := h
    refine zg_8_362 rfl d_8247_151 k20 ?_
    refine zu_aload_n d_8247_154 rfl (zs_ra _) ?_
    refine zg_8_347 rfl d_8247_155 k20 ?_
    refine zu_aload_n d_8247_158 rfl (zs_ra _) ?_
    refine zg_8_1240 rfl d_8247_159 k20 ?_
    refine zu_iconst d_8247_162 zi_1 ?_
    refine zu_stk d_8247_163 rfl rfl ?_
    obtain ⟨b21, e22, h⟩ := h
    refine zs_stk1 (zs_rfe e22) ?_
    obtain ⟨k23, h⟩ := h
    refine zu_iald (k := 0) d_8247_164 rfl rfl k23 ?_
    refine zu_iload_n d_8247_165 rfl ?_
    refine zu_stk d_8247_166 rfl rfl ?_
    obtain ⟨b24, e25, h⟩ := h
    refine zs_stk1 (zs_rfe e25) ?_
    obtain ⟨k26, h⟩ := h
    refine zu_iald (k := 0) d_8247_167 rfl rfl k26 ?_
    refine zu_iload_n d_8247_168 rfl ?_
    refine zu_stk d_8247_169 rfl rfl ?_
    refine zu_aload_n d_8247_170 rfl (zs_ra _) ?_
    refine zu_aload_n d_8247_171 rfl (zs_ra _) ?_
    refine zg_8_365 rfl d_8247_172 k20 ?_
    refine zu_aload_n d_8247_175 rfl (zs_ra _) ?_
    refine zg_8_347 rfl d_8247_176 k20 ?_
    refine zu_aload_n d_8247_179 rfl (zs_ra _) ?_
    refine zg_8_1240 rfl d_8247_180 k20 ?_
    refine zu_iconst d_8247_183 zi_1 ?_
    refine zu_stk d_8247_184 rfl rfl ?_
    refine zs_stk1 (zs_rfe e22) ?_
    refine zu_iald (k := 0) d_8247_185 rfl rfl k23 ?_
    refine zu_iload_n d_8247_186 rfl ?_
    refine zu_stk d_8247_187 rfl rfl ?_
    obtain ⟨b27, e28, h⟩ := h
    refine zs_stk1 (zs_rfe e28) ?_
    obtain ⟨k29, h⟩ := h
    refine zu_iald (k := 0) d_8247_188 rfl rfl k29 ?_
    refine zc_8_1332 (x0 := (zs_i S b27 ((zs_i S b21 ((zs_I S 8165 p0) - (1 : Int32)).toNatClampNeg) + p2).toNatClampNeg)) hB rfl k20 d_8247_189 (Nat.le_of_ble_eq_true rfl) h (fun v31 S30 h => ?_)
    obtain ⟨k32, h⟩ := h
    refine zc_8_1341 (x0 := (zs_i S b24 ((zs_i S b21 ((zs_I S 8165 p0) - (1 : Int32)).toNatClampNeg) + p2).toNatClampNeg)) (x1 := ((p3).toInt64)) (x2 := v31) hB rfl k32 d_8247_192 (Nat.le_of_ble_eq_true rfl) h (fun S33 h => ?_)
    exact (u_X9_valueWork_195 hB h).weak trivial
  · have h := h.2.2.2.2.2.2.2.2.2.2.2.2.2.2.2.2.2.1 c1
    show zs_U _ _ _ 198 _ _ _ _
    refine zu_aload_n d_8247_198 rfl (zs_ra _) ?_
    refine zu_iload_n d_8247_199 rfl ?_
    refine zu_iload_n d_8247_200 rfl ?_
    refine zu_iload d_8247_201 rfl ?_
    obtain ⟨k35, h⟩ := h
    refine zc_8_1460 (x0 := p2) (x1 := p3) (x2 := p4) hB rfl k35 d_8247_203 (Nat.le_of_ble_eq_true rfl) h (fun S36 h => ?_)
    refine zu_goto (t := 224) d_8247_206 rfl ?_
    exact zu_vret d_8247_224 zr_8247 h
  · have h := h.2.2.2.2.2.2.2.2.2.2.2.2.2.2.2.2.2.2.1 c1
    show zs_U _ _ _ 216 _ _ _ _
    exact (u_X9_valueWork_216 hB h).weak ⟨rfl, rfl, rfl, rfl, trivial⟩
  · have h := h.2.2.2.2.2.2.2.2.2.2.2.2.2.2.2.2.2.2.2 c1
    show zs_U _ _ _ 209 _ _ _ _
    refine zu_aload_n d_8247_209 rfl (zs_ra _) ?_
    obtain ⟨k38, h⟩ := h
    refine zc_8_1463  hB rfl k38 d_8247_210 (Nat.le_of_ble_eq_true rfl) h (fun S39 h => ?_)
    refine zu_goto (t := 224) d_8247_213 rfl ?_
    exact zu_vret d_8247_224 zr_8247 h
/-! SchemaPascalModel.members(I)V -/
theorem zm_8248 {σ : Nat → Nat} {n0 : Nat} {bf : ab_B} : ab_code (zx σ n0 bf).1 8248 = prog_17_method_257_code := rfl
theorem zq_8248 {σ : Nat → Nat} {n0 : Nat} {bf : ab_B} : ab_maxL (zx σ n0 bf).1 8248 = 10 := rfl
theorem zr_8248 {σ : Nat → Nat} {n0 : Nat} {bf : ab_B} : ab_ret (zx σ n0 bf).1 8248 = (Option.none : Option Jvm.ClassFile.FieldType) := rfl
theorem d_8248_0 {σ : Nat → Nat} {n0 : Nat} {bf : ab_B} : decode (ab_code (zx σ n0 bf).1 8248) 0 = .ok (.aload_n 0, 1) := zd zm_8248 (by decide +kernel)
theorem d_8248_1 {σ : Nat → Nat} {n0 : Nat} {bf : ab_B} : decode (ab_code (zx σ n0 bf).1 8248) 1 = .ok (.invokevirtual 1307, 3) := zd zm_8248 (by decide +kernel)
theorem d_8248_4 {σ : Nat → Nat} {n0 : Nat} {bf : ab_B} : decode (ab_code (zx σ n0 bf).1 8248) 4 = .ok (.lstore_n 2, 1) := zd zm_8248 (by decide +kernel)
theorem d_8248_5 {σ : Nat → Nat} {n0 : Nat} {bf : ab_B} : decode (ab_code (zx σ n0 bf).1 8248) 5 = .ok (.aload_n 0, 1) := zd zm_8248 (by decide +kernel)
theorem d_8248_6 {σ : Nat → Nat} {n0 : Nat} {bf : ab_B} : decode (ab_code (zx σ n0 bf).1 8248) 6 = .ok (.invokevirtual 1307, 3) := zd zm_8248 (by decide +kernel)
theorem d_8248_9 {σ : Nat → Nat} {n0 : Nat} {bf : ab_B} : decode (ab_code (zx σ n0 bf).1 8248) 9 = .ok (.lstore 4, 2) := zd zm_8248 (by decide +kernel)
theorem d_8248_11 {σ : Nat → Nat} {n0 : Nat} {bf : ab_B} : decode (ab_code (zx σ n0 bf).1 8248) 11 = .ok (.aload_n 0, 1) := zd zm_8248 (by decide +kernel)
theorem d_8248_12 {σ : Nat → Nat} {n0 : Nat} {bf : ab_B} : decode (ab_code (zx σ n0 bf).1 8248) 12 = .ok (.invokevirtual 1307, 3) := zd zm_8248 (by decide +kernel)
theorem d_8248_15 {σ : Nat → Nat} {n0 : Nat} {bf : ab_B} : decode (ab_code (zx σ n0 bf).1 8248) 15 = .ok (.lstore 6, 2) := zd zm_8248 (by decide +kernel)
theorem d_8248_17 {σ : Nat → Nat} {n0 : Nat} {bf : ab_B} : decode (ab_code (zx σ n0 bf).1 8248) 17 = .ok (.lload 4, 2) := zd zm_8248 (by decide +kernel)
theorem d_8248_19 {σ : Nat → Nat} {n0 : Nat} {bf : ab_B} : decode (ab_code (zx σ n0 bf).1 8248) 19 = .ok (.lload_n 2, 1) := zd zm_8248 (by decide +kernel)
theorem d_8248_20 {σ : Nat → Nat} {n0 : Nat} {bf : ab_B} : decode (ab_code (zx σ n0 bf).1 8248) 20 = .ok (.lcmp, 1) := zd zm_8248 (by decide +kernel)
theorem d_8248_21 {σ : Nat → Nat} {n0 : Nat} {bf : ab_B} : decode (ab_code (zx σ n0 bf).1 8248) 21 = .ok (.ifCond .gt 25, 3) := zd zm_8248 (by decide +kernel)
theorem d_8248_24 {σ : Nat → Nat} {n0 : Nat} {bf : ab_B} : decode (ab_code (zx σ n0 bf).1 8248) 24 = .ok (.lload 4, 2) := zd zm_8248 (by decide +kernel)
theorem d_8248_26 {σ : Nat → Nat} {n0 : Nat} {bf : ab_B} : decode (ab_code (zx σ n0 bf).1 8248) 26 = .ok (.lconst 0, 1) := zd zm_8248 (by decide +kernel)
theorem d_8248_27 {σ : Nat → Nat} {n0 : Nat} {bf : ab_B} : decode (ab_code (zx σ n0 bf).1 8248) 27 = .ok (.lcmp, 1) := zd zm_8248 (by decide +kernel)
theorem d_8248_28 {σ : Nat → Nat} {n0 : Nat} {bf : ab_B} : decode (ab_code (zx σ n0 bf).1 8248) 28 = .ok (.ifCond .lt 11, 3) := zd zm_8248 (by decide +kernel)
theorem d_8248_31 {σ : Nat → Nat} {n0 : Nat} {bf : ab_B} : decode (ab_code (zx σ n0 bf).1 8248) 31 = .ok (.lload_n 2, 1) := zd zm_8248 (by decide +kernel)
theorem d_8248_32 {σ : Nat → Nat} {n0 : Nat} {bf : ab_B} : decode (ab_code (zx σ n0 bf).1 8248) 32 = .ok (.ldc2_w 800, 3) := zd zm_8248 (by decide +kernel)
theorem d_8248_35 {σ : Nat → Nat} {n0 : Nat} {bf : ab_B} : decode (ab_code (zx σ n0 bf).1 8248) 35 = .ok (.lcmp, 1) := zd zm_8248 (by decide +kernel)
theorem d_8248_36 {σ : Nat → Nat} {n0 : Nat} {bf : ab_B} : decode (ab_code (zx σ n0 bf).1 8248) 36 = .ok (.ifCond .le 10, 3) := zd zm_8248 (by decide +kernel)
theorem d_8248_39 {σ : Nat → Nat} {n0 : Nat} {bf : ab_B} : decode (ab_code (zx σ n0 bf).1 8248) 39 = .ok (.aload_n 0, 1) := zd zm_8248 (by decide +kernel)
theorem d_8248_40 {σ : Nat → Nat} {n0 : Nat} {bf : ab_B} : decode (ab_code (zx σ n0 bf).1 8248) 40 = .ok (.iconst 2, 1) := zd zm_8248 (by decide +kernel)
theorem d_8248_41 {σ : Nat → Nat} {n0 : Nat} {bf : ab_B} : decode (ab_code (zx σ n0 bf).1 8248) 41 = .ok (.iload_n 1, 1) := zd zm_8248 (by decide +kernel)
theorem d_8248_42 {σ : Nat → Nat} {n0 : Nat} {bf : ab_B} : decode (ab_code (zx σ n0 bf).1 8248) 42 = .ok (.invokevirtual 1297, 3) := zd zm_8248 (by decide +kernel)
theorem d_8248_45 {σ : Nat → Nat} {n0 : Nat} {bf : ab_B} : decode (ab_code (zx σ n0 bf).1 8248) 45 = .ok (.return_, 1) := zd zm_8248 (by decide +kernel)
theorem d_8248_46 {σ : Nat → Nat} {n0 : Nat} {bf : ab_B} : decode (ab_code (zx σ n0 bf).1 8248) 46 = .ok (.lload 4, 2) := zd zm_8248 (by decide +kernel)
theorem d_8248_48 {σ : Nat → Nat} {n0 : Nat} {bf : ab_B} : decode (ab_code (zx σ n0 bf).1 8248) 48 = .ok (.lstore 8, 2) := zd zm_8248 (by decide +kernel)
theorem d_8248_50 {σ : Nat → Nat} {n0 : Nat} {bf : ab_B} : decode (ab_code (zx σ n0 bf).1 8248) 50 = .ok (.lload 8, 2) := zd zm_8248 (by decide +kernel)
theorem d_8248_52 {σ : Nat → Nat} {n0 : Nat} {bf : ab_B} : decode (ab_code (zx σ n0 bf).1 8248) 52 = .ok (.lload_n 2, 1) := zd zm_8248 (by decide +kernel)
theorem d_8248_53 {σ : Nat → Nat} {n0 : Nat} {bf : ab_B} : decode (ab_code (zx σ n0 bf).1 8248) 53 = .ok (.lcmp, 1) := zd zm_8248 (by decide +kernel)
theorem d_8248_54 {σ : Nat → Nat} {n0 : Nat} {bf : ab_B} : decode (ab_code (zx σ n0 bf).1 8248) 54 = .ok (.ifCond .gt 22, 3) := zd zm_8248 (by decide +kernel)
theorem d_8248_57 {σ : Nat → Nat} {n0 : Nat} {bf : ab_B} : decode (ab_code (zx σ n0 bf).1 8248) 57 = .ok (.lload 6, 2) := zd zm_8248 (by decide +kernel)
theorem d_8248_59 {σ : Nat → Nat} {n0 : Nat} {bf : ab_B} : decode (ab_code (zx σ n0 bf).1 8248) 59 = .ok (.lconst 1, 1) := zd zm_8248 (by decide +kernel)
theorem d_8248_60 {σ : Nat → Nat} {n0 : Nat} {bf : ab_B} : decode (ab_code (zx σ n0 bf).1 8248) 60 = .ok (.lload 8, 2) := zd zm_8248 (by decide +kernel)
theorem d_8248_62 {σ : Nat → Nat} {n0 : Nat} {bf : ab_B} : decode (ab_code (zx σ n0 bf).1 8248) 62 = .ok (.l2i, 1) := zd zm_8248 (by decide +kernel)
theorem d_8248_63 {σ : Nat → Nat} {n0 : Nat} {bf : ab_B} : decode (ab_code (zx σ n0 bf).1 8248) 63 = .ok (.lshl, 1) := zd zm_8248 (by decide +kernel)
theorem d_8248_64 {σ : Nat → Nat} {n0 : Nat} {bf : ab_B} : decode (ab_code (zx σ n0 bf).1 8248) 64 = .ok (.lor, 1) := zd zm_8248 (by decide +kernel)
theorem d_8248_65 {σ : Nat → Nat} {n0 : Nat} {bf : ab_B} : decode (ab_code (zx σ n0 bf).1 8248) 65 = .ok (.lstore 6, 2) := zd zm_8248 (by decide +kernel)
theorem d_8248_67 {σ : Nat → Nat} {n0 : Nat} {bf : ab_B} : decode (ab_code (zx σ n0 bf).1 8248) 67 = .ok (.lload 8, 2) := zd zm_8248 (by decide +kernel)
theorem d_8248_69 {σ : Nat → Nat} {n0 : Nat} {bf : ab_B} : decode (ab_code (zx σ n0 bf).1 8248) 69 = .ok (.lconst 1, 1) := zd zm_8248 (by decide +kernel)
theorem d_8248_70 {σ : Nat → Nat} {n0 : Nat} {bf : ab_B} : decode (ab_code (zx σ n0 bf).1 8248) 70 = .ok (.ladd, 1) := zd zm_8248 (by decide +kernel)
theorem d_8248_71 {σ : Nat → Nat} {n0 : Nat} {bf : ab_B} : decode (ab_code (zx σ n0 bf).1 8248) 71 = .ok (.lstore 8, 2) := zd zm_8248 (by decide +kernel)
theorem d_8248_73 {σ : Nat → Nat} {n0 : Nat} {bf : ab_B} : decode (ab_code (zx σ n0 bf).1 8248) 73 = .ok (.goto (-23), 3) := zd zm_8248 (by decide +kernel)
theorem d_8248_76 {σ : Nat → Nat} {n0 : Nat} {bf : ab_B} : decode (ab_code (zx σ n0 bf).1 8248) 76 = .ok (.aload_n 0, 1) := zd zm_8248 (by decide +kernel)
theorem d_8248_77 {σ : Nat → Nat} {n0 : Nat} {bf : ab_B} : decode (ab_code (zx σ n0 bf).1 8248) 77 = .ok (.lload 6, 2) := zd zm_8248 (by decide +kernel)
theorem d_8248_79 {σ : Nat → Nat} {n0 : Nat} {bf : ab_B} : decode (ab_code (zx σ n0 bf).1 8248) 79 = .ok (.invokevirtual 1326, 3) := zd zm_8248 (by decide +kernel)
theorem d_8248_82 {σ : Nat → Nat} {n0 : Nat} {bf : ab_B} : decode (ab_code (zx σ n0 bf).1 8248) 82 = .ok (.return_, 1) := zd zm_8248 (by decide +kernel)
def w_X9_members_2_39 (X : zs_X) (d : Nat) (p0 : Nat) (p1 : Int32) (S : zs_T) (Q : zs_Q) : Prop :=
  (zs_K S p0 = some (.inl 8) ∧ zs_C X d 8208 [.ref p0, .int (2 : Int32), .int p1] S (zs_kV (fun S2 => (Q (.returned none) S2)) Q))
theorem u_X9_members_2_39 {σ : Nat → Nat} {n0 : Nat} {bf : ab_B} {d : Nat} {p0 : Nat} {p1 : Int32} {S : zs_T} {Q : zs_Q} (hB : zt_B bf) (h : w_X9_members_2_39 (zx σ n0 bf) d p0 p1 S Q) : zs_U (zx σ n0 bf) d 8248 39 [(0, .ref p0), (1, .int p1)] [] S Q := by
  unfold w_X9_members_2_39 at h
  refine zu_aload_n d_8248_39 rfl (zs_ra _) ?_
  refine zu_iconst d_8248_40 zi_2 ?_
  refine zu_iload_n d_8248_41 rfl ?_
  obtain ⟨k1, h⟩ := h
  refine zc_8_1297 (x0 := (2 : Int32)) (x1 := p1) hB rfl k1 d_8248_42 (Nat.le_of_ble_eq_true rfl) h (fun S2 h => ?_)
  exact zu_vret d_8248_45 zr_8248 h
def w_X9_members_2_31 (X : zs_X) (d : Nat) (p0 : Nat) (p1 : Int32) (p2 : Int64) (p4 : Int64) (p6 : Int64) (S : zs_T) (Q : zs_Q) : Prop :=
  (((p2 ≤ (63 : Int64) → (zs_U X d 8248 50 [(0, .ref p0), (2, .long p2), (6, .long p6), (8, .long p4)] [] S Q)) ∧ (¬ (p2 ≤ (63 : Int64)) → w_X9_members_2_39 X d p0 p1 S Q)))
theorem u_X9_members_2_31 {σ : Nat → Nat} {n0 : Nat} {bf : ab_B} {d : Nat} {p0 : Nat} {p1 : Int32} {p2 : Int64} {p4 : Int64} {p6 : Int64} {S : zs_T} {Q : zs_Q} (hB : zt_B bf) (h : w_X9_members_2_31 (zx σ n0 bf) d p0 p1 p2 p4 p6 S Q) : zs_U (zx σ n0 bf) d 8248 31 [(0, .ref p0), (1, .int p1), (2, .long p2), (4, .long p4), (6, .long p6)] [] S Q := by
  unfold w_X9_members_2_31 at h
  refine zu_lload_n d_8248_31 rfl ?_
  refine zl2_8_800 rfl d_8248_32 ?_
  refine zu_lle (t := 46) d_8248_35 d_8248_36 rfl (fun c1 => ?_) (fun c1 => ?_)
  · have h := h.1 c1
    refine zu_lload d_8248_46 rfl ?_
    refine zu_lstore d_8248_48 (zs_lt zq_8248 rfl) ?_
    exact h.weak ⟨rfl, rfl, rfl, rfl, trivial⟩
  · have h := h.2 c1
    exact (u_X9_members_2_39 hB h).weak ⟨rfl, rfl, trivial⟩
def w_X9_members_2_50 (X : zs_X) (d : Nat) (p0 : Nat) (p2 : Int64) (p6 : Int64) (p8 : Int64) (S : zs_T) (Q : zs_Q) : Prop :=
  (((p2 < p8 → (zs_K S p0 = some (.inl 8) ∧ zs_C X d 8231 [.ref p0, .long p6] S (zs_kV (fun S3 => (Q (.returned none) S3)) Q))) ∧ (¬ (p2 < p8) → (zs_U X d 8248 50 [(0, .ref p0), (2, .long p2), (6, .long (p6 ||| ((1 : Int64) <<< ((((p8).toInt32)).toInt64 &&& 63)))), (8, .long (p8 + (1 : Int64)))] [] S Q))))
theorem u_X9_members_2_50 {σ : Nat → Nat} {n0 : Nat} {bf : ab_B} {d : Nat} {p0 : Nat} {p2 : Int64} {p6 : Int64} {p8 : Int64} {S : zs_T} {Q : zs_Q} (hB : zt_B bf) (h : w_X9_members_2_50 (zx σ n0 bf) d p0 p2 p6 p8 S Q) : zs_U (zx σ n0 bf) d 8248 50 [(0, .ref p0), (2, .long p2), (6, .long p6), (8, .long p8)] [] S Q := by
  unfold w_X9_members_2_50 at h
  refine zu_lload d_8248_50 rfl ?_
  refine zu_lload_n d_8248_52 rfl ?_
  refine zu_lgt (t := 76) d_8248_53 d_8248_54 rfl (fun c1 => ?_) (fun c1 => ?_)
  · have h := h.1 c1
    refine zu_aload_n d_8248_76 rfl (zs_ra _) ?_
    refine zu_lload d_8248_77 rfl ?_
    obtain ⟨k2, h⟩ := h
    refine zc_8_1326 (x0 := p6) hB rfl k2 d_8248_79 (Nat.le_of_ble_eq_true rfl) h (fun S3 h => ?_)
    exact zu_vret d_8248_82 zr_8248 h
  · have h := h.2 c1
    refine zu_lload d_8248_57 rfl ?_
    refine zu_lconst (v := 1) d_8248_59 rfl ?_
    refine zu_lload d_8248_60 rfl ?_
    refine zu_stk d_8248_62 rfl rfl ?_
    refine zu_stk d_8248_63 rfl rfl ?_
    refine zu_stk d_8248_64 rfl rfl ?_
    refine zu_lstore d_8248_65 (zs_lt zq_8248 rfl) ?_
    refine zu_lload d_8248_67 rfl ?_
    refine zu_lconst (v := 1) d_8248_69 rfl ?_
    refine zu_stk d_8248_70 rfl rfl ?_
    refine zu_lstore d_8248_71 (zs_lt zq_8248 rfl) ?_
    refine zu_goto (t := 50) d_8248_73 rfl ?_
    exact h.weak ⟨rfl, rfl, rfl, rfl, trivial⟩
def w_X9_members_2 (X : zs_X) (d : Nat) (p0 : Nat) (p1 : Int32) (S : zs_T) (Q : zs_Q) : Prop :=
  (zs_K S p0 = some (.inl 8) ∧ zs_C X d 8242 [.ref p0] S (zs_kJ (fun v3 S2 => (zs_K S2 p0 = some (.inl 8) ∧ zs_C X d 8242 [.ref p0] S2 (zs_kJ (fun v6 S5 => (zs_K S5 p0 = some (.inl 8) ∧ zs_C X d 8242 [.ref p0] S5 (zs_kJ (fun v9 S8 => (((v3 < v6 → (zs_U X d 8248 50 [(0, .ref p0), (2, .long v3), (6, .long v9), (8, .long v6)] [] S8 Q)) ∧ (¬ (v3 < v6) → (((v6 < (0 : Int64) → w_X9_members_2_39 X d p0 p1 S8 Q) ∧ (¬ (v6 < (0 : Int64)) → w_X9_members_2_31 X d p0 p1 v3 v6 v9 S8 Q))))))) Q))) Q))) Q))
theorem u_X9_members_2 {σ : Nat → Nat} {n0 : Nat} {bf : ab_B} {d : Nat} {p0 : Nat} {p1 : Int32} {S : zs_T} {Q : zs_Q} (hB : zt_B bf) (hd : 1 ≤ d) (h : w_X9_members_2 (zx σ n0 bf) (d - 1) p0 p1 S Q) : zs_C (zx σ n0 bf) d 8248 [.ref p0, .int p1] S Q := by
  have hL : lv_args 0 [.ref p0, .int p1] = [(0, .ref p0), (1, .int p1)] := rfl
  refine zs_C.of1 (hB.2 8248 (by decide) (by decide)) hd (by rw [hL]; exact zs_sub_self _ (by exact ⟨rfl, rfl, trivial⟩)) ?_
  rw [hL]
  clear hL
  unfold w_X9_members_2 at h
  refine zu_aload_n d_8248_0 rfl (zs_ra _) ?_
  obtain ⟨k1, h⟩ := h
  refine zc_8_1307  hB rfl k1 d_8248_1 (Nat.le_of_ble_eq_true rfl) h (fun v3 S2 h => ?_)
  refine zu_lstore_n d_8248_4 (zs_lt zq_8248 rfl) ?_
  refine zu_aload_n d_8248_5 rfl (zs_ra _) ?_
  obtain ⟨k4, h⟩ := h
  refine zc_8_1307  hB rfl k4 d_8248_6 (Nat.le_of_ble_eq_true rfl) h (fun v6 S5 h => ?_)
  refine zu_lstore d_8248_9 (zs_lt zq_8248 rfl) ?_
  refine zu_aload_n d_8248_11 rfl (zs_ra _) ?_
  obtain ⟨k7, h⟩ := h
  refine zc_8_1307  hB rfl k7 d_8248_12 (Nat.le_of_ble_eq_true rfl) h (fun v9 S8 h => ?_)
  refine zu_lstore d_8248_15 (zs_lt zq_8248 rfl) ?_
  refine zu_lload d_8248_17 rfl ?_
  refine zu_lload_n d_8248_19 rfl ?_
  refine zu_lgt (t := 46) d_8248_20 d_8248_21 rfl (fun c10 => ?_) (fun c10 => ?_)
  · have h := h.1 c10
    refine zu_lload d_8248_46 rfl ?_
    refine zu_lstore d_8248_48 (zs_lt zq_8248 rfl) ?_
    exact h.weak ⟨rfl, rfl, rfl, rfl, trivial⟩
  · have h := h.2 c10
    refine zu_lload d_8248_24 rfl ?_
    refine zu_lconst (v := 0) d_8248_26 rfl ?_
    refine zu_llt (t := 39) d_8248_27 d_8248_28 rfl (fun c11 => ?_) (fun c11 => ?_)
    · have h := h.1 c11
      exact (u_X9_members_2_39 hB h).weak ⟨rfl, rfl, trivial⟩
    · have h := h.2 c11
      exact (u_X9_members_2_31 hB h).weak ⟨rfl, rfl, rfl, rfl, rfl, trivial⟩
/-! SchemaPascalModel.join(I)V -/
theorem zm_8249 {σ : Nat → Nat} {n0 : Nat} {bf : ab_B} : ab_code (zx σ n0 bf).1 8249 = prog_17_method_258_code := rfl
theorem zq_8249 {σ : Nat → Nat} {n0 : Nat} {bf : ab_B} : ab_maxL (zx σ n0 bf).1 8249 = 3 := rfl
theorem zr_8249 {σ : Nat → Nat} {n0 : Nat} {bf : ab_B} : ab_ret (zx σ n0 bf).1 8249 = (Option.none : Option Jvm.ClassFile.FieldType) := rfl
theorem d_8249_0 {σ : Nat → Nat} {n0 : Nat} {bf : ab_B} : decode (ab_code (zx σ n0 bf).1 8249) 0 = .ok (.aload_n 0, 1) := zd zm_8249 (by decide +kernel)
theorem d_8249_1 {σ : Nat → Nat} {n0 : Nat} {bf : ab_B} : decode (ab_code (zx σ n0 bf).1 8249) 1 = .ok (.aload_n 0, 1) := zd zm_8249 (by decide +kernel)
theorem d_8249_2 {σ : Nat → Nat} {n0 : Nat} {bf : ab_B} : decode (ab_code (zx σ n0 bf).1 8249) 2 = .ok (.getfield 1264, 3) := zd zm_8249 (by decide +kernel)
theorem d_8249_5 {σ : Nat → Nat} {n0 : Nat} {bf : ab_B} : decode (ab_code (zx σ n0 bf).1 8249) 5 = .ok (.iconst 2, 1) := zd zm_8249 (by decide +kernel)
theorem d_8249_6 {σ : Nat → Nat} {n0 : Nat} {bf : ab_B} : decode (ab_code (zx σ n0 bf).1 8249) 6 = .ok (.isub, 1) := zd zm_8249 (by decide +kernel)
theorem d_8249_7 {σ : Nat → Nat} {n0 : Nat} {bf : ab_B} : decode (ab_code (zx σ n0 bf).1 8249) 7 = .ok (.invokevirtual 1317, 3) := zd zm_8249 (by decide +kernel)
theorem d_8249_10 {σ : Nat → Nat} {n0 : Nat} {bf : ab_B} : decode (ab_code (zx σ n0 bf).1 8249) 10 = .ok (.aload_n 0, 1) := zd zm_8249 (by decide +kernel)
theorem d_8249_11 {σ : Nat → Nat} {n0 : Nat} {bf : ab_B} : decode (ab_code (zx σ n0 bf).1 8249) 11 = .ok (.aload_n 0, 1) := zd zm_8249 (by decide +kernel)
theorem d_8249_12 {σ : Nat → Nat} {n0 : Nat} {bf : ab_B} : decode (ab_code (zx σ n0 bf).1 8249) 12 = .ok (.getfield 1264, 3) := zd zm_8249 (by decide +kernel)
theorem d_8249_15 {σ : Nat → Nat} {n0 : Nat} {bf : ab_B} : decode (ab_code (zx σ n0 bf).1 8249) 15 = .ok (.iconst 1, 1) := zd zm_8249 (by decide +kernel)
theorem d_8249_16 {σ : Nat → Nat} {n0 : Nat} {bf : ab_B} : decode (ab_code (zx σ n0 bf).1 8249) 16 = .ok (.isub, 1) := zd zm_8249 (by decide +kernel)
theorem d_8249_17 {σ : Nat → Nat} {n0 : Nat} {bf : ab_B} : decode (ab_code (zx σ n0 bf).1 8249) 17 = .ok (.invokevirtual 1317, 3) := zd zm_8249 (by decide +kernel)
theorem d_8249_20 {σ : Nat → Nat} {n0 : Nat} {bf : ab_B} : decode (ab_code (zx σ n0 bf).1 8249) 20 = .ok (.iadd, 1) := zd zm_8249 (by decide +kernel)
theorem d_8249_21 {σ : Nat → Nat} {n0 : Nat} {bf : ab_B} : decode (ab_code (zx σ n0 bf).1 8249) 21 = .ok (.istore_n 2, 1) := zd zm_8249 (by decide +kernel)
theorem d_8249_22 {σ : Nat → Nat} {n0 : Nat} {bf : ab_B} : decode (ab_code (zx σ n0 bf).1 8249) 22 = .ok (.aload_n 0, 1) := zd zm_8249 (by decide +kernel)
theorem d_8249_23 {σ : Nat → Nat} {n0 : Nat} {bf : ab_B} : decode (ab_code (zx σ n0 bf).1 8249) 23 = .ok (.dup, 1) := zd zm_8249 (by decide +kernel)
theorem d_8249_24 {σ : Nat → Nat} {n0 : Nat} {bf : ab_B} : decode (ab_code (zx σ n0 bf).1 8249) 24 = .ok (.getfield 1264, 3) := zd zm_8249 (by decide +kernel)
theorem d_8249_27 {σ : Nat → Nat} {n0 : Nat} {bf : ab_B} : decode (ab_code (zx σ n0 bf).1 8249) 27 = .ok (.iconst 1, 1) := zd zm_8249 (by decide +kernel)
theorem d_8249_28 {σ : Nat → Nat} {n0 : Nat} {bf : ab_B} : decode (ab_code (zx σ n0 bf).1 8249) 28 = .ok (.isub, 1) := zd zm_8249 (by decide +kernel)
theorem d_8249_29 {σ : Nat → Nat} {n0 : Nat} {bf : ab_B} : decode (ab_code (zx σ n0 bf).1 8249) 29 = .ok (.putfield 1264, 3) := zd zm_8249 (by decide +kernel)
theorem d_8249_32 {σ : Nat → Nat} {n0 : Nat} {bf : ab_B} : decode (ab_code (zx σ n0 bf).1 8249) 32 = .ok (.iload_n 2, 1) := zd zm_8249 (by decide +kernel)
theorem d_8249_33 {σ : Nat → Nat} {n0 : Nat} {bf : ab_B} : decode (ab_code (zx σ n0 bf).1 8249) 33 = .ok (.bipush 80, 2) := zd zm_8249 (by decide +kernel)
theorem d_8249_35 {σ : Nat → Nat} {n0 : Nat} {bf : ab_B} : decode (ab_code (zx σ n0 bf).1 8249) 35 = .ok (.if_icmp .le 9, 3) := zd zm_8249 (by decide +kernel)
theorem d_8249_38 {σ : Nat → Nat} {n0 : Nat} {bf : ab_B} : decode (ab_code (zx σ n0 bf).1 8249) 38 = .ok (.aload_n 0, 1) := zd zm_8249 (by decide +kernel)
theorem d_8249_39 {σ : Nat → Nat} {n0 : Nat} {bf : ab_B} : decode (ab_code (zx σ n0 bf).1 8249) 39 = .ok (.iconst 2, 1) := zd zm_8249 (by decide +kernel)
theorem d_8249_40 {σ : Nat → Nat} {n0 : Nat} {bf : ab_B} : decode (ab_code (zx σ n0 bf).1 8249) 40 = .ok (.iload_n 1, 1) := zd zm_8249 (by decide +kernel)
theorem d_8249_41 {σ : Nat → Nat} {n0 : Nat} {bf : ab_B} : decode (ab_code (zx σ n0 bf).1 8249) 41 = .ok (.invokevirtual 1297, 3) := zd zm_8249 (by decide +kernel)
theorem d_8249_44 {σ : Nat → Nat} {n0 : Nat} {bf : ab_B} : decode (ab_code (zx σ n0 bf).1 8249) 44 = .ok (.return_, 1) := zd zm_8249 (by decide +kernel)
def w_X9_join_32 (X : zs_X) (d : Nat) (p0 : Nat) (p1 : Int32) (p2 : Int32) (S : zs_T) (Q : zs_Q) : Prop :=
  (((p2 ≤ (80 : Int32) → (Q (.returned none) S)) ∧ (¬ (p2 ≤ (80 : Int32)) → (zs_K S p0 = some (.inl 8) ∧ zs_C X d 8208 [.ref p0, .int (2 : Int32), .int p1] S (zs_kV (fun S3 => (Q (.returned none) S3)) Q)))))
theorem u_X9_join_32 {σ : Nat → Nat} {n0 : Nat} {bf : ab_B} {d : Nat} {p0 : Nat} {p1 : Int32} {p2 : Int32} {S : zs_T} {Q : zs_Q} (hB : zt_B bf) (h : w_X9_join_32 (zx σ n0 bf) d p0 p1 p2 S Q) : zs_U (zx σ n0 bf) d 8249 32 [(0, .ref p0), (1, .int p1), (2, .int p2)] [] S Q := by
  unfold w_X9_join_32 at h
  refine zu_iload_n d_8249_32 rfl ?_
  refine zu_bipush d_8249_33 zj_80 ?_
  refine zu_cmple (t := 44) d_8249_35 rfl (fun c1 => ?_) (fun c1 => ?_)
  · have h := h.1 c1
    exact zu_vret d_8249_44 zr_8249 h
  · have h := h.2 c1
    refine zu_aload_n d_8249_38 rfl (zs_ra _) ?_
    refine zu_iconst d_8249_39 zi_2 ?_
    refine zu_iload_n d_8249_40 rfl ?_
    obtain ⟨k2, h⟩ := h
    refine zc_8_1297 (x0 := (2 : Int32)) (x1 := p1) hB rfl k2 d_8249_41 (Nat.le_of_ble_eq_true rfl) h (fun S3 h => ?_)
    exact zu_vret d_8249_44 zr_8249 h
def w_X9_join (X : zs_X) (d : Nat) (p0 : Nat) (p1 : Int32) (S : zs_T) (Q : zs_Q) : Prop :=
  (zs_K S p0 = some (.inl 8) ∧ zs_C X d 8223 [.ref p0, .int ((zs_I S 8187 p0) - (2 : Int32))] S (zs_kI (fun v3 S2 => (zs_K S2 p0 = some (.inl 8) ∧ zs_C X d 8223 [.ref p0, .int ((zs_I S2 8187 p0) - (1 : Int32))] S2 (zs_kI (fun v6 S5 => (zs_K S5 p0 = some (.inl 8) ∧ ab_n0 X.1 ≤ p0 ∧ ∀ S9, S9 = zs_sI S5 8187 p0 ((zs_I S5 8187 p0) - (1 : Int32)) → w_X9_join_32 X d p0 p1 (v3 + v6) S9 Q)) Q))) Q))
theorem u_X9_join {σ : Nat → Nat} {n0 : Nat} {bf : ab_B} {d : Nat} {p0 : Nat} {p1 : Int32} {S : zs_T} {Q : zs_Q} (hB : zt_B bf) (hd : 1 ≤ d) (h : w_X9_join (zx σ n0 bf) (d - 1) p0 p1 S Q) : zs_C (zx σ n0 bf) d 8249 [.ref p0, .int p1] S Q := by
  have hL : lv_args 0 [.ref p0, .int p1] = [(0, .ref p0), (1, .int p1)] := rfl
  refine zs_C.of1 (hB.2 8249 (by decide) (by decide)) hd (by rw [hL]; exact zs_sub_self _ (by exact ⟨rfl, rfl, trivial⟩)) ?_
  rw [hL]
  clear hL
  unfold w_X9_join at h
  refine zu_aload_n d_8249_0 rfl (zs_ra _) ?_
  refine zu_aload_n d_8249_1 rfl (zs_ra _) ?_
  obtain ⟨k1, h⟩ := h
  refine zg_8_1264 rfl d_8249_2 k1 ?_
  refine zu_iconst d_8249_5 zi_2 ?_
  refine zu_stk d_8249_6 rfl rfl ?_
  refine zc_8_1317 (x0 := ((zs_I S 8187 p0) - (2 : Int32))) hB rfl k1 d_8249_7 (Nat.le_of_ble_eq_true rfl) h (fun v3 S2 h => ?_)
  refine zu_aload_n d_8249_10 rfl (zs_ra _) ?_
  refine zu_aload_n d_8249_11 rfl (zs_ra _) ?_
  obtain ⟨k4, h⟩ := h
  refine zg_8_1264 rfl d_8249_12 k4 ?_
  refine zu_iconst d_8249_15 zi_1 ?_
  refine zu_stk d_8249_16 rfl rfl ?_
  refine zc_8_1317 (x0 := ((zs_I S2 8187 p0) - (1 : Int32))) hB rfl k4 d_8249_17 (Nat.le_of_ble_eq_true rfl) h (fun v6 S5 h => ?_)
  refine zu_stk d_8249_20 rfl rfl ?_
  refine zu_istore_n d_8249_21 (zs_lt zq_8249 rfl) ?_
  refine zu_aload_n d_8249_22 rfl (zs_ra _) ?_
  refine zu_dup d_8249_23 rfl ?_
  obtain ⟨k7, h⟩ := h
  refine zg_8_1264 rfl d_8249_24 k7 ?_
  refine zu_iconst d_8249_27 zi_1 ?_
  refine zu_stk d_8249_28 rfl rfl ?_
  obtain ⟨k8, h⟩ := h
  refine zp_8_1264 (v := ((zs_I S5 8187 p0) - (1 : Int32))) rfl d_8249_29 k7 k8 ?_
  generalize e10 : zs_sI S5 8187 p0 ((zs_I S5 8187 p0) - (1 : Int32)) = S9
  have h := h S9 e10.symm
  have K11 : ∀ b, zs_K S9 b = zs_K S5 b := zs_Kt e10 (zs_KsI _ _ _ _) (fun _ => rfl)
  exact (u_X9_join_32 hB h).weak ⟨rfl, rfl, rfl, trivial⟩
/-! SchemaPascalModel.relateTexts(I)V -/
theorem zm_8250 {σ : Nat → Nat} {n0 : Nat} {bf : ab_B} : ab_code (zx σ n0 bf).1 8250 = prog_17_method_226_code := rfl
theorem zq_8250 {σ : Nat → Nat} {n0 : Nat} {bf : ab_B} : ab_maxL (zx σ n0 bf).1 8250 = 3 := rfl
theorem zr_8250 {σ : Nat → Nat} {n0 : Nat} {bf : ab_B} : ab_ret (zx σ n0 bf).1 8250 = (Option.none : Option Jvm.ClassFile.FieldType) := rfl
theorem d_8250_0 {σ : Nat → Nat} {n0 : Nat} {bf : ab_B} : decode (ab_code (zx σ n0 bf).1 8250) 0 = .ok (.aload_n 0, 1) := zd zm_8250 (by decide +kernel)
theorem d_8250_1 {σ : Nat → Nat} {n0 : Nat} {bf : ab_B} : decode (ab_code (zx σ n0 bf).1 8250) 1 = .ok (.aload_n 0, 1) := zd zm_8250 (by decide +kernel)
theorem d_8250_2 {σ : Nat → Nat} {n0 : Nat} {bf : ab_B} : decode (ab_code (zx σ n0 bf).1 8250) 2 = .ok (.getfield 1264, 3) := zd zm_8250 (by decide +kernel)
theorem d_8250_5 {σ : Nat → Nat} {n0 : Nat} {bf : ab_B} : decode (ab_code (zx σ n0 bf).1 8250) 5 = .ok (.iconst 2, 1) := zd zm_8250 (by decide +kernel)
theorem d_8250_6 {σ : Nat → Nat} {n0 : Nat} {bf : ab_B} : decode (ab_code (zx σ n0 bf).1 8250) 6 = .ok (.isub, 1) := zd zm_8250 (by decide +kernel)
theorem d_8250_7 {σ : Nat → Nat} {n0 : Nat} {bf : ab_B} : decode (ab_code (zx σ n0 bf).1 8250) 7 = .ok (.aload_n 0, 1) := zd zm_8250 (by decide +kernel)
theorem d_8250_8 {σ : Nat → Nat} {n0 : Nat} {bf : ab_B} : decode (ab_code (zx σ n0 bf).1 8250) 8 = .ok (.getfield 1264, 3) := zd zm_8250 (by decide +kernel)
theorem d_8250_11 {σ : Nat → Nat} {n0 : Nat} {bf : ab_B} : decode (ab_code (zx σ n0 bf).1 8250) 11 = .ok (.iconst 1, 1) := zd zm_8250 (by decide +kernel)
theorem d_8250_12 {σ : Nat → Nat} {n0 : Nat} {bf : ab_B} : decode (ab_code (zx σ n0 bf).1 8250) 12 = .ok (.isub, 1) := zd zm_8250 (by decide +kernel)
theorem d_8250_13 {σ : Nat → Nat} {n0 : Nat} {bf : ab_B} : decode (ab_code (zx σ n0 bf).1 8250) 13 = .ok (.invokevirtual 1320, 3) := zd zm_8250 (by decide +kernel)
theorem d_8250_16 {σ : Nat → Nat} {n0 : Nat} {bf : ab_B} : decode (ab_code (zx σ n0 bf).1 8250) 16 = .ok (.istore_n 2, 1) := zd zm_8250 (by decide +kernel)
theorem d_8250_17 {σ : Nat → Nat} {n0 : Nat} {bf : ab_B} : decode (ab_code (zx σ n0 bf).1 8250) 17 = .ok (.aload_n 0, 1) := zd zm_8250 (by decide +kernel)
theorem d_8250_18 {σ : Nat → Nat} {n0 : Nat} {bf : ab_B} : decode (ab_code (zx σ n0 bf).1 8250) 18 = .ok (.invokevirtual 1323, 3) := zd zm_8250 (by decide +kernel)
theorem d_8250_21 {σ : Nat → Nat} {n0 : Nat} {bf : ab_B} : decode (ab_code (zx σ n0 bf).1 8250) 21 = .ok (.aload_n 0, 1) := zd zm_8250 (by decide +kernel)
theorem d_8250_22 {σ : Nat → Nat} {n0 : Nat} {bf : ab_B} : decode (ab_code (zx σ n0 bf).1 8250) 22 = .ok (.invokevirtual 1323, 3) := zd zm_8250 (by decide +kernel)
theorem d_8250_25 {σ : Nat → Nat} {n0 : Nat} {bf : ab_B} : decode (ab_code (zx σ n0 bf).1 8250) 25 = .ok (.aload_n 0, 1) := zd zm_8250 (by decide +kernel)
theorem d_8250_26 {σ : Nat → Nat} {n0 : Nat} {bf : ab_B} : decode (ab_code (zx σ n0 bf).1 8250) 26 = .ok (.iload_n 1, 1) := zd zm_8250 (by decide +kernel)
theorem d_8250_27 {σ : Nat → Nat} {n0 : Nat} {bf : ab_B} : decode (ab_code (zx σ n0 bf).1 8250) 27 = .ok (.iload_n 2, 1) := zd zm_8250 (by decide +kernel)
theorem d_8250_28 {σ : Nat → Nat} {n0 : Nat} {bf : ab_B} : decode (ab_code (zx σ n0 bf).1 8250) 28 = .ok (.i2l, 1) := zd zm_8250 (by decide +kernel)
theorem d_8250_29 {σ : Nat → Nat} {n0 : Nat} {bf : ab_B} : decode (ab_code (zx σ n0 bf).1 8250) 29 = .ok (.lconst 0, 1) := zd zm_8250 (by decide +kernel)
theorem d_8250_30 {σ : Nat → Nat} {n0 : Nat} {bf : ab_B} : decode (ab_code (zx σ n0 bf).1 8250) 30 = .ok (.invokestatic 639, 3) := zd zm_8250 (by decide +kernel)
theorem d_8250_33 {σ : Nat → Nat} {n0 : Nat} {bf : ab_B} : decode (ab_code (zx σ n0 bf).1 8250) 33 = .ok (.invokevirtual 1326, 3) := zd zm_8250 (by decide +kernel)
theorem d_8250_36 {σ : Nat → Nat} {n0 : Nat} {bf : ab_B} : decode (ab_code (zx σ n0 bf).1 8250) 36 = .ok (.return_, 1) := zd zm_8250 (by decide +kernel)
def w_X9_relateTexts_36 (X : zs_X) (d : Nat)  (S : zs_T) (Q : zs_Q) : Prop :=
  (Q (.returned none) S)
theorem u_X9_relateTexts_36 {σ : Nat → Nat} {n0 : Nat} {bf : ab_B} {d : Nat}  {S : zs_T} {Q : zs_Q} (hB : zt_B bf) (h : w_X9_relateTexts_36 (zx σ n0 bf) d  S Q) : zs_U (zx σ n0 bf) d 8250 36 [] [] S Q := by
  unfold w_X9_relateTexts_36 at h
  exact zu_vret d_8250_36 zr_8250 h
def w_X9_relateTexts (X : zs_X) (d : Nat) (p0 : Nat) (p1 : Int32) (S : zs_T) (Q : zs_Q) : Prop :=
  (zs_K S p0 = some (.inl 8) ∧ zs_C X d 8251 [.ref p0, .int ((zs_I S 8187 p0) - (2 : Int32)), .int ((zs_I S 8187 p0) - (1 : Int32))] S (zs_kI (fun v3 S2 => (zs_K S2 p0 = some (.inl 8) ∧ zs_C X d 8228 [.ref p0] S2 (zs_kV (fun S5 => (zs_K S5 p0 = some (.inl 8) ∧ zs_C X d 8228 [.ref p0] S5 (zs_kV (fun S8 => (zs_C X d 8107 [.int p1, .long ((v3).toInt64), .long (0 : Int64)] S8 (zs_kJ (fun v11 S10 => (zs_K S10 p0 = some (.inl 8) ∧ zs_C X d 8231 [.ref p0, .long v11] S10 (zs_kV (fun S13 => w_X9_relateTexts_36 X d  S13 Q) Q))) Q))) Q))) Q))) Q))
theorem u_X9_relateTexts {σ : Nat → Nat} {n0 : Nat} {bf : ab_B} {d : Nat} {p0 : Nat} {p1 : Int32} {S : zs_T} {Q : zs_Q} (hB : zt_B bf) (hd : 1 ≤ d) (h : w_X9_relateTexts (zx σ n0 bf) (d - 1) p0 p1 S Q) : zs_C (zx σ n0 bf) d 8250 [.ref p0, .int p1] S Q := by
  have hL : lv_args 0 [.ref p0, .int p1] = [(0, .ref p0), (1, .int p1)] := rfl
  refine zs_C.of1 (hB.2 8250 (by decide) (by decide)) hd (by rw [hL]; exact zs_sub_self _ (by exact ⟨rfl, rfl, trivial⟩)) ?_
  rw [hL]
  clear hL
  unfold w_X9_relateTexts at h
  refine zu_aload_n d_8250_0 rfl (zs_ra _) ?_
  refine zu_aload_n d_8250_1 rfl (zs_ra _) ?_
  obtain ⟨k1, h⟩ := h
  refine zg_8_1264 rfl d_8250_2 k1 ?_
  refine zu_iconst d_8250_5 zi_2 ?_
  refine zu_stk d_8250_6 rfl rfl ?_
  refine zu_aload_n d_8250_7 rfl (zs_ra _) ?_
  refine zg_8_1264 rfl d_8250_8 k1 ?_
  refine zu_iconst d_8250_11 zi_1 ?_
  refine zu_stk d_8250_12 rfl rfl ?_
  refine zc_8_1320 (x0 := ((zs_I S 8187 p0) - (2 : Int32))) (x1 := ((zs_I S 8187 p0) - (1 : Int32))) hB rfl k1 d_8250_13 (Nat.le_of_ble_eq_true rfl) h (fun v3 S2 h => ?_)
  refine zu_istore_n d_8250_16 (zs_lt zq_8250 rfl) ?_
  refine zu_aload_n d_8250_17 rfl (zs_ra _) ?_
  obtain ⟨k4, h⟩ := h
  refine zc_8_1323  hB rfl k4 d_8250_18 (Nat.le_of_ble_eq_true rfl) h (fun S5 h => ?_)
  refine zu_aload_n d_8250_21 rfl (zs_ra _) ?_
  obtain ⟨k7, h⟩ := h
  refine zc_8_1323  hB rfl k7 d_8250_22 (Nat.le_of_ble_eq_true rfl) h (fun S8 h => ?_)
  refine zu_aload_n d_8250_25 rfl (zs_ra _) ?_
  refine zu_iload_n d_8250_26 rfl ?_
  refine zu_iload_n d_8250_27 rfl ?_
  refine zu_stk d_8250_28 rfl rfl ?_
  refine zu_lconst (v := 0) d_8250_29 rfl ?_
  refine zc_8_639 (x0 := p1) (x1 := ((v3).toInt64)) (x2 := (0 : Int64)) hB rfl d_8250_30 (Nat.le_of_ble_eq_true rfl) h (fun v11 S10 h => ?_)
  obtain ⟨k12, h⟩ := h
  refine zc_8_1326 (x0 := v11) hB rfl k12 d_8250_33 (Nat.le_of_ble_eq_true rfl) h (fun S13 h => ?_)
  exact (u_X9_relateTexts_36 hB h).weak trivial
/-! SchemaPascalModel.compareTexts(II)I -/
theorem zm_8251 {σ : Nat → Nat} {n0 : Nat} {bf : ab_B} : ab_code (zx σ n0 bf).1 8251 = prog_17_method_225_code := rfl
theorem zq_8251 {σ : Nat → Nat} {n0 : Nat} {bf : ab_B} : ab_maxL (zx σ n0 bf).1 8251 = 7 := rfl
theorem zr_8251 {σ : Nat → Nat} {n0 : Nat} {bf : ab_B} : ab_ret (zx σ n0 bf).1 8251 = (Option.some Jvm.ClassFile.FieldType.int) := rfl
theorem d_8251_0 {σ : Nat → Nat} {n0 : Nat} {bf : ab_B} : decode (ab_code (zx σ n0 bf).1 8251) 0 = .ok (.aload_n 0, 1) := zd zm_8251 (by decide +kernel)
theorem d_8251_1 {σ : Nat → Nat} {n0 : Nat} {bf : ab_B} : decode (ab_code (zx σ n0 bf).1 8251) 1 = .ok (.iload_n 1, 1) := zd zm_8251 (by decide +kernel)
theorem d_8251_2 {σ : Nat → Nat} {n0 : Nat} {bf : ab_B} : decode (ab_code (zx σ n0 bf).1 8251) 2 = .ok (.invokevirtual 1317, 3) := zd zm_8251 (by decide +kernel)
theorem d_8251_5 {σ : Nat → Nat} {n0 : Nat} {bf : ab_B} : decode (ab_code (zx σ n0 bf).1 8251) 5 = .ok (.istore_n 3, 1) := zd zm_8251 (by decide +kernel)
theorem d_8251_6 {σ : Nat → Nat} {n0 : Nat} {bf : ab_B} : decode (ab_code (zx σ n0 bf).1 8251) 6 = .ok (.aload_n 0, 1) := zd zm_8251 (by decide +kernel)
theorem d_8251_7 {σ : Nat → Nat} {n0 : Nat} {bf : ab_B} : decode (ab_code (zx σ n0 bf).1 8251) 7 = .ok (.iload_n 2, 1) := zd zm_8251 (by decide +kernel)
theorem d_8251_8 {σ : Nat → Nat} {n0 : Nat} {bf : ab_B} : decode (ab_code (zx σ n0 bf).1 8251) 8 = .ok (.invokevirtual 1317, 3) := zd zm_8251 (by decide +kernel)
theorem d_8251_11 {σ : Nat → Nat} {n0 : Nat} {bf : ab_B} : decode (ab_code (zx σ n0 bf).1 8251) 11 = .ok (.istore 4, 2) := zd zm_8251 (by decide +kernel)
theorem d_8251_13 {σ : Nat → Nat} {n0 : Nat} {bf : ab_B} : decode (ab_code (zx σ n0 bf).1 8251) 13 = .ok (.iconst 0, 1) := zd zm_8251 (by decide +kernel)
theorem d_8251_14 {σ : Nat → Nat} {n0 : Nat} {bf : ab_B} : decode (ab_code (zx σ n0 bf).1 8251) 14 = .ok (.istore 5, 2) := zd zm_8251 (by decide +kernel)
theorem d_8251_16 {σ : Nat → Nat} {n0 : Nat} {bf : ab_B} : decode (ab_code (zx σ n0 bf).1 8251) 16 = .ok (.iload 5, 2) := zd zm_8251 (by decide +kernel)
theorem d_8251_18 {σ : Nat → Nat} {n0 : Nat} {bf : ab_B} : decode (ab_code (zx σ n0 bf).1 8251) 18 = .ok (.iload_n 3, 1) := zd zm_8251 (by decide +kernel)
theorem d_8251_19 {σ : Nat → Nat} {n0 : Nat} {bf : ab_B} : decode (ab_code (zx σ n0 bf).1 8251) 19 = .ok (.if_icmp .ge 63, 3) := zd zm_8251 (by decide +kernel)
theorem d_8251_22 {σ : Nat → Nat} {n0 : Nat} {bf : ab_B} : decode (ab_code (zx σ n0 bf).1 8251) 22 = .ok (.iload 5, 2) := zd zm_8251 (by decide +kernel)
theorem d_8251_24 {σ : Nat → Nat} {n0 : Nat} {bf : ab_B} : decode (ab_code (zx σ n0 bf).1 8251) 24 = .ok (.iload 4, 2) := zd zm_8251 (by decide +kernel)
theorem d_8251_26 {σ : Nat → Nat} {n0 : Nat} {bf : ab_B} : decode (ab_code (zx σ n0 bf).1 8251) 26 = .ok (.if_icmp .ge 56, 3) := zd zm_8251 (by decide +kernel)
theorem d_8251_29 {σ : Nat → Nat} {n0 : Nat} {bf : ab_B} : decode (ab_code (zx σ n0 bf).1 8251) 29 = .ok (.aload_n 0, 1) := zd zm_8251 (by decide +kernel)
theorem d_8251_30 {σ : Nat → Nat} {n0 : Nat} {bf : ab_B} : decode (ab_code (zx σ n0 bf).1 8251) 30 = .ok (.getfield 402, 3) := zd zm_8251 (by decide +kernel)
theorem d_8251_33 {σ : Nat → Nat} {n0 : Nat} {bf : ab_B} : decode (ab_code (zx σ n0 bf).1 8251) 33 = .ok (.aload_n 0, 1) := zd zm_8251 (by decide +kernel)
theorem d_8251_34 {σ : Nat → Nat} {n0 : Nat} {bf : ab_B} : decode (ab_code (zx σ n0 bf).1 8251) 34 = .ok (.getfield 405, 3) := zd zm_8251 (by decide +kernel)
theorem d_8251_37 {σ : Nat → Nat} {n0 : Nat} {bf : ab_B} : decode (ab_code (zx σ n0 bf).1 8251) 37 = .ok (.iload_n 1, 1) := zd zm_8251 (by decide +kernel)
theorem d_8251_38 {σ : Nat → Nat} {n0 : Nat} {bf : ab_B} : decode (ab_code (zx σ n0 bf).1 8251) 38 = .ok (.iaload, 1) := zd zm_8251 (by decide +kernel)
theorem d_8251_39 {σ : Nat → Nat} {n0 : Nat} {bf : ab_B} : decode (ab_code (zx σ n0 bf).1 8251) 39 = .ok (.iload 5, 2) := zd zm_8251 (by decide +kernel)
theorem d_8251_41 {σ : Nat → Nat} {n0 : Nat} {bf : ab_B} : decode (ab_code (zx σ n0 bf).1 8251) 41 = .ok (.iadd, 1) := zd zm_8251 (by decide +kernel)
theorem d_8251_42 {σ : Nat → Nat} {n0 : Nat} {bf : ab_B} : decode (ab_code (zx σ n0 bf).1 8251) 42 = .ok (.baload, 1) := zd zm_8251 (by decide +kernel)
theorem d_8251_43 {σ : Nat → Nat} {n0 : Nat} {bf : ab_B} : decode (ab_code (zx σ n0 bf).1 8251) 43 = .ok (.sipush 255, 3) := zd zm_8251 (by decide +kernel)
theorem d_8251_46 {σ : Nat → Nat} {n0 : Nat} {bf : ab_B} : decode (ab_code (zx σ n0 bf).1 8251) 46 = .ok (.iand, 1) := zd zm_8251 (by decide +kernel)
theorem d_8251_47 {σ : Nat → Nat} {n0 : Nat} {bf : ab_B} : decode (ab_code (zx σ n0 bf).1 8251) 47 = .ok (.aload_n 0, 1) := zd zm_8251 (by decide +kernel)
theorem d_8251_48 {σ : Nat → Nat} {n0 : Nat} {bf : ab_B} : decode (ab_code (zx σ n0 bf).1 8251) 48 = .ok (.getfield 402, 3) := zd zm_8251 (by decide +kernel)
theorem d_8251_51 {σ : Nat → Nat} {n0 : Nat} {bf : ab_B} : decode (ab_code (zx σ n0 bf).1 8251) 51 = .ok (.aload_n 0, 1) := zd zm_8251 (by decide +kernel)
theorem d_8251_52 {σ : Nat → Nat} {n0 : Nat} {bf : ab_B} : decode (ab_code (zx σ n0 bf).1 8251) 52 = .ok (.getfield 405, 3) := zd zm_8251 (by decide +kernel)
theorem d_8251_55 {σ : Nat → Nat} {n0 : Nat} {bf : ab_B} : decode (ab_code (zx σ n0 bf).1 8251) 55 = .ok (.iload_n 2, 1) := zd zm_8251 (by decide +kernel)
theorem d_8251_56 {σ : Nat → Nat} {n0 : Nat} {bf : ab_B} : decode (ab_code (zx σ n0 bf).1 8251) 56 = .ok (.iaload, 1) := zd zm_8251 (by decide +kernel)
theorem d_8251_57 {σ : Nat → Nat} {n0 : Nat} {bf : ab_B} : decode (ab_code (zx σ n0 bf).1 8251) 57 = .ok (.iload 5, 2) := zd zm_8251 (by decide +kernel)
theorem d_8251_59 {σ : Nat → Nat} {n0 : Nat} {bf : ab_B} : decode (ab_code (zx σ n0 bf).1 8251) 59 = .ok (.iadd, 1) := zd zm_8251 (by decide +kernel)
theorem d_8251_60 {σ : Nat → Nat} {n0 : Nat} {bf : ab_B} : decode (ab_code (zx σ n0 bf).1 8251) 60 = .ok (.baload, 1) := zd zm_8251 (by decide +kernel)
theorem d_8251_61 {σ : Nat → Nat} {n0 : Nat} {bf : ab_B} : decode (ab_code (zx σ n0 bf).1 8251) 61 = .ok (.sipush 255, 3) := zd zm_8251 (by decide +kernel)
theorem d_8251_64 {σ : Nat → Nat} {n0 : Nat} {bf : ab_B} : decode (ab_code (zx σ n0 bf).1 8251) 64 = .ok (.iand, 1) := zd zm_8251 (by decide +kernel)
theorem d_8251_65 {σ : Nat → Nat} {n0 : Nat} {bf : ab_B} : decode (ab_code (zx σ n0 bf).1 8251) 65 = .ok (.isub, 1) := zd zm_8251 (by decide +kernel)
theorem d_8251_66 {σ : Nat → Nat} {n0 : Nat} {bf : ab_B} : decode (ab_code (zx σ n0 bf).1 8251) 66 = .ok (.istore 6, 2) := zd zm_8251 (by decide +kernel)
theorem d_8251_68 {σ : Nat → Nat} {n0 : Nat} {bf : ab_B} : decode (ab_code (zx σ n0 bf).1 8251) 68 = .ok (.iload 6, 2) := zd zm_8251 (by decide +kernel)
theorem d_8251_70 {σ : Nat → Nat} {n0 : Nat} {bf : ab_B} : decode (ab_code (zx σ n0 bf).1 8251) 70 = .ok (.ifCond .eq 6, 3) := zd zm_8251 (by decide +kernel)
theorem d_8251_73 {σ : Nat → Nat} {n0 : Nat} {bf : ab_B} : decode (ab_code (zx σ n0 bf).1 8251) 73 = .ok (.iload 6, 2) := zd zm_8251 (by decide +kernel)
theorem d_8251_75 {σ : Nat → Nat} {n0 : Nat} {bf : ab_B} : decode (ab_code (zx σ n0 bf).1 8251) 75 = .ok (.ireturn, 1) := zd zm_8251 (by decide +kernel)
theorem d_8251_76 {σ : Nat → Nat} {n0 : Nat} {bf : ab_B} : decode (ab_code (zx σ n0 bf).1 8251) 76 = .ok (.iinc 5 1, 3) := zd zm_8251 (by decide +kernel)
theorem d_8251_79 {σ : Nat → Nat} {n0 : Nat} {bf : ab_B} : decode (ab_code (zx σ n0 bf).1 8251) 79 = .ok (.goto (-63), 3) := zd zm_8251 (by decide +kernel)
theorem d_8251_82 {σ : Nat → Nat} {n0 : Nat} {bf : ab_B} : decode (ab_code (zx σ n0 bf).1 8251) 82 = .ok (.iload_n 3, 1) := zd zm_8251 (by decide +kernel)
theorem d_8251_83 {σ : Nat → Nat} {n0 : Nat} {bf : ab_B} : decode (ab_code (zx σ n0 bf).1 8251) 83 = .ok (.iload 4, 2) := zd zm_8251 (by decide +kernel)
theorem d_8251_85 {σ : Nat → Nat} {n0 : Nat} {bf : ab_B} : decode (ab_code (zx σ n0 bf).1 8251) 85 = .ok (.isub, 1) := zd zm_8251 (by decide +kernel)
theorem d_8251_86 {σ : Nat → Nat} {n0 : Nat} {bf : ab_B} : decode (ab_code (zx σ n0 bf).1 8251) 86 = .ok (.ireturn, 1) := zd zm_8251 (by decide +kernel)
def w_X9_compareTexts_68 (X : zs_X) (d : Nat) (p0 : Nat) (p1 : Int32) (p2 : Int32) (p3 : Int32) (p4 : Int32) (p5 : Int32) (p6 : Int32) (S : zs_T) (Q : zs_Q) : Prop :=
  (((p6 = 0 → (zs_U X d 8251 16 [(0, .ref p0), (1, .int p1), (2, .int p2), (3, .int p3), (4, .int p4), (5, .int (p5 + (1 : Int32)))] [] S Q)) ∧ (¬ (p6 = 0) → (Q (.returned (some (.int p6))) S))))
theorem u_X9_compareTexts_68 {σ : Nat → Nat} {n0 : Nat} {bf : ab_B} {d : Nat} {p0 : Nat} {p1 : Int32} {p2 : Int32} {p3 : Int32} {p4 : Int32} {p5 : Int32} {p6 : Int32} {S : zs_T} {Q : zs_Q} (hB : zt_B bf) (h : w_X9_compareTexts_68 (zx σ n0 bf) d p0 p1 p2 p3 p4 p5 p6 S Q) : zs_U (zx σ n0 bf) d 8251 68 [(0, .ref p0), (1, .int p1), (2, .int p2), (3, .int p3), (4, .int p4), (5, .int p5), (6, .int p6)] [] S Q := by
  unfold w_X9_compareTexts_68 at h
  refine zu_iload d_8251_68 rfl ?_
  refine zu_ifeq (t := 76) d_8251_70 rfl (fun c1 => ?_) (fun c1 => ?_)
  · have h := h.1 c1
    refine zu_iinc d_8251_76 rfl zi_1 (zs_lt zq_8251 rfl) ?_
    refine zu_goto (t := 16) d_8251_79 rfl ?_
    exact h.weak ⟨rfl, rfl, rfl, rfl, rfl, rfl, trivial⟩
  · have h := h.2 c1
    refine zu_iload d_8251_73 rfl ?_
    exact zu_iret d_8251_75 zr_8251 rfl h
def w_X9_compareTexts_16 (X : zs_X) (d : Nat) (p0 : Nat) (p1 : Int32) (p2 : Int32) (p3 : Int32) (p4 : Int32) (p5 : Int32) (S : zs_T) (Q : zs_Q) : Prop :=
  (((p3 ≤ p5 → (Q (.returned (some (.int (p3 - p4)))) S)) ∧ (¬ (p3 ≤ p5) → (((p4 ≤ p5 → (Q (.returned (some (.int (p3 - p4)))) S)) ∧ (¬ (p4 ≤ p5) → (zs_K S p0 = some (.inl 8) ∧ ∃ b4, (zs_R S 8186 p0) = some b4 ∧ zs_A S b4 0 p1 ∧ ∃ b7, (zs_R S 8185 p0) = some b7 ∧ zs_A S b7 1 ((zs_i S b4 p1.toNatClampNeg) + p5) ∧ zs_A S b4 0 p2 ∧ zs_A S b7 1 ((zs_i S b4 p2.toNatClampNeg) + p5) ∧ w_X9_compareTexts_68 X d p0 p1 p2 p3 p4 p5 (((zs_i S b7 ((zs_i S b4 p1.toNatClampNeg) + p5).toNatClampNeg) &&& (255 : Int32)) - ((zs_i S b7 ((zs_i S b4 p2.toNatClampNeg) + p5).toNatClampNeg) &&& (255 : Int32))) S Q)))))))
theorem u_X9_compareTexts_16 {σ : Nat → Nat} {n0 : Nat} {bf : ab_B} {d : Nat} {p0 : Nat} {p1 : Int32} {p2 : Int32} {p3 : Int32} {p4 : Int32} {p5 : Int32} {S : zs_T} {Q : zs_Q} (hB : zt_B bf) (h : w_X9_compareTexts_16 (zx σ n0 bf) d p0 p1 p2 p3 p4 p5 S Q) : zs_U (zx σ n0 bf) d 8251 16 [(0, .ref p0), (1, .int p1), (2, .int p2), (3, .int p3), (4, .int p4), (5, .int p5)] [] S Q := by
  unfold w_X9_compareTexts_16 at h
  refine zu_iload d_8251_16 rfl ?_
  refine zu_iload_n d_8251_18 rfl ?_
  refine zu_cmpge (t := 82) d_8251_19 rfl (fun c1 => ?_) (fun c1 => ?_)
  · have h := h.1 c1
    refine zu_iload_n d_8251_82 rfl ?_
    refine zu_iload d_8251_83 rfl ?_
    refine zu_stk d_8251_85 rfl rfl ?_
    exact zu_iret d_8251_86 zr_8251 rfl h
  · have h := h.2 c1
    refine zu_iload d_8251_22 rfl ?_
    refine zu_iload d_8251_24 rfl ?_
    refine zu_cmpge (t := 82) d_8251_26 rfl (fun c2 => ?_) (fun c2 => ?_)
    · have h := h.1 c2
      refine zu_iload_n d_8251_82 rfl ?_
      refine zu_iload d_8251_83 rfl ?_
      refine zu_stk d_8251_85 rfl rfl ?_
      exact zu_iret d_8251_86 zr_8251 rfl h
    · have h := h.2 c2
      refine zu_aload_n d_8251_29 rfl (zs_ra _) ?_
      obtain ⟨k3, h⟩ := h
      refine zg_8_402 rfl d_8251_30 k3 ?_
      refine zu_aload_n d_8251_33 rfl (zs_ra _) ?_
      refine zg_8_405 rfl d_8251_34 k3 ?_
      refine zu_iload_n d_8251_37 rfl ?_
      obtain ⟨b4, e5, h⟩ := h
      refine zs_stk1 (zs_rfe e5) ?_
      obtain ⟨k6, h⟩ := h
      refine zu_iald (k := 0) d_8251_38 rfl rfl k6 ?_
      refine zu_iload d_8251_39 rfl ?_
      refine zu_stk d_8251_41 rfl rfl ?_
      obtain ⟨b7, e8, h⟩ := h
      refine zs_stk1 (zs_rfe e8) ?_
      obtain ⟨k9, h⟩ := h
      refine zu_bald (k := 1) d_8251_42 rfl (Or.inl rfl) k9 ?_
      refine zu_sipush d_8251_43 zh_255 ?_
      refine zu_stk d_8251_46 rfl rfl ?_
      refine zu_aload_n d_8251_47 rfl (zs_ra _) ?_
      refine zg_8_402 rfl d_8251_48 k3 ?_
      refine zu_aload_n d_8251_51 rfl (zs_ra _) ?_
      refine zg_8_405 rfl d_8251_52 k3 ?_
      refine zu_iload_n d_8251_55 rfl ?_
      refine zs_stk1 (zs_rfe e5) ?_
      obtain ⟨k10, h⟩ := h
      refine zu_iald (k := 0) d_8251_56 rfl rfl k10 ?_
      refine zu_iload d_8251_57 rfl ?_
      refine zu_stk d_8251_59 rfl rfl ?_
      refine zs_stk1 (zs_rfe e8) ?_
      obtain ⟨k11, h⟩ := h
      refine zu_bald (k := 1) d_8251_60 rfl (Or.inl rfl) k11 ?_
      refine zu_sipush d_8251_61 zh_255 ?_
      refine zu_stk d_8251_64 rfl rfl ?_
      refine zu_stk d_8251_65 rfl rfl ?_
      refine zu_istore d_8251_66 (zs_lt zq_8251 rfl) ?_
      exact (u_X9_compareTexts_68 hB h).weak ⟨rfl, rfl, rfl, rfl, rfl, rfl, rfl, trivial⟩
def w_X9_compareTexts (X : zs_X) (d : Nat) (p0 : Nat) (p1 : Int32) (p2 : Int32) (S : zs_T) (Q : zs_Q) : Prop :=
  (zs_K S p0 = some (.inl 8) ∧ zs_C X d 8223 [.ref p0, .int p1] S (zs_kI (fun v3 S2 => (zs_K S2 p0 = some (.inl 8) ∧ zs_C X d 8223 [.ref p0, .int p2] S2 (zs_kI (fun v6 S5 => (zs_U X d 8251 16 [(0, .ref p0), (1, .int p1), (2, .int p2), (3, .int v3), (4, .int v6), (5, .int (0 : Int32))] [] S5 Q)) Q))) Q))
theorem u_X9_compareTexts {σ : Nat → Nat} {n0 : Nat} {bf : ab_B} {d : Nat} {p0 : Nat} {p1 : Int32} {p2 : Int32} {S : zs_T} {Q : zs_Q} (hB : zt_B bf) (hd : 1 ≤ d) (h : w_X9_compareTexts (zx σ n0 bf) (d - 1) p0 p1 p2 S Q) : zs_C (zx σ n0 bf) d 8251 [.ref p0, .int p1, .int p2] S Q := by
  have hL : lv_args 0 [.ref p0, .int p1, .int p2] = [(0, .ref p0), (1, .int p1), (2, .int p2)] := rfl
  refine zs_C.of1 (hB.2 8251 (by decide) (by decide)) hd (by rw [hL]; exact zs_sub_self _ (by exact ⟨rfl, rfl, rfl, trivial⟩)) ?_
  rw [hL]
  clear hL
  unfold w_X9_compareTexts at h
  refine zu_aload_n d_8251_0 rfl (zs_ra _) ?_
  refine zu_iload_n d_8251_1 rfl ?_
  obtain ⟨k1, h⟩ := h
  refine zc_8_1317 (x0 := p1) hB rfl k1 d_8251_2 (Nat.le_of_ble_eq_true rfl) h (fun v3 S2 h => ?_)
  refine zu_istore_n d_8251_5 (zs_lt zq_8251 rfl) ?_
  refine zu_aload_n d_8251_6 rfl (zs_ra _) ?_
  refine zu_iload_n d_8251_7 rfl ?_
  obtain ⟨k4, h⟩ := h
  refine zc_8_1317 (x0 := p2) hB rfl k4 d_8251_8 (Nat.le_of_ble_eq_true rfl) h (fun v6 S5 h => ?_)
  refine zu_istore d_8251_11 (zs_lt zq_8251 rfl) ?_
  refine zu_iconst d_8251_13 zi_0 ?_
  refine zu_istore d_8251_14 (zs_lt zq_8251 rfl) ?_
  exact h.weak ⟨rfl, rfl, rfl, rfl, rfl, rfl, trivial⟩
/-! SchemaPascalModel.knownWork(II)V -/
theorem zm_8252 {σ : Nat → Nat} {n0 : Nat} {bf : ab_B} : ab_code (zx σ n0 bf).1 8252 = prog_17_method_259_code := rfl
theorem zq_8252 {σ : Nat → Nat} {n0 : Nat} {bf : ab_B} : ab_maxL (zx σ n0 bf).1 8252 = 7 := rfl
theorem zr_8252 {σ : Nat → Nat} {n0 : Nat} {bf : ab_B} : ab_ret (zx σ n0 bf).1 8252 = (Option.none : Option Jvm.ClassFile.FieldType) := rfl
theorem d_8252_0 {σ : Nat → Nat} {n0 : Nat} {bf : ab_B} : decode (ab_code (zx σ n0 bf).1 8252) 0 = .ok (.iload_n 1, 1) := zd zm_8252 (by decide +kernel)
theorem d_8252_1 {σ : Nat → Nat} {n0 : Nat} {bf : ab_B} : decode (ab_code (zx σ n0 bf).1 8252) 1 = .ok (.bipush 18, 2) := zd zm_8252 (by decide +kernel)
theorem d_8252_3 {σ : Nat → Nat} {n0 : Nat} {bf : ab_B} : decode (ab_code (zx σ n0 bf).1 8252) 3 = .ok (.if_icmp .ne 22, 3) := zd zm_8252 (by decide +kernel)
theorem d_8252_6 {σ : Nat → Nat} {n0 : Nat} {bf : ab_B} : decode (ab_code (zx σ n0 bf).1 8252) 6 = .ok (.aload_n 0, 1) := zd zm_8252 (by decide +kernel)
theorem d_8252_7 {σ : Nat → Nat} {n0 : Nat} {bf : ab_B} : decode (ab_code (zx σ n0 bf).1 8252) 7 = .ok (.aload_n 0, 1) := zd zm_8252 (by decide +kernel)
theorem d_8252_8 {σ : Nat → Nat} {n0 : Nat} {bf : ab_B} : decode (ab_code (zx σ n0 bf).1 8252) 8 = .ok (.getfield 1409, 3) := zd zm_8252 (by decide +kernel)
theorem d_8252_11 {σ : Nat → Nat} {n0 : Nat} {bf : ab_B} : decode (ab_code (zx σ n0 bf).1 8252) 11 = .ok (.ifCond .ne 7, 3) := zd zm_8252 (by decide +kernel)
theorem d_8252_14 {σ : Nat → Nat} {n0 : Nat} {bf : ab_B} : decode (ab_code (zx σ n0 bf).1 8252) 14 = .ok (.lconst 1, 1) := zd zm_8252 (by decide +kernel)
theorem d_8252_15 {σ : Nat → Nat} {n0 : Nat} {bf : ab_B} : decode (ab_code (zx σ n0 bf).1 8252) 15 = .ok (.goto 4, 3) := zd zm_8252 (by decide +kernel)
theorem d_8252_18 {σ : Nat → Nat} {n0 : Nat} {bf : ab_B} : decode (ab_code (zx σ n0 bf).1 8252) 18 = .ok (.lconst 0, 1) := zd zm_8252 (by decide +kernel)
theorem d_8252_19 {σ : Nat → Nat} {n0 : Nat} {bf : ab_B} : decode (ab_code (zx σ n0 bf).1 8252) 19 = .ok (.invokevirtual 1326, 3) := zd zm_8252 (by decide +kernel)
theorem d_8252_22 {σ : Nat → Nat} {n0 : Nat} {bf : ab_B} : decode (ab_code (zx σ n0 bf).1 8252) 22 = .ok (.goto 143, 3) := zd zm_8252 (by decide +kernel)
theorem d_8252_25 {σ : Nat → Nat} {n0 : Nat} {bf : ab_B} : decode (ab_code (zx σ n0 bf).1 8252) 25 = .ok (.iload_n 1, 1) := zd zm_8252 (by decide +kernel)
theorem d_8252_26 {σ : Nat → Nat} {n0 : Nat} {bf : ab_B} : decode (ab_code (zx σ n0 bf).1 8252) 26 = .ok (.bipush 14, 2) := zd zm_8252 (by decide +kernel)
theorem d_8252_28 {σ : Nat → Nat} {n0 : Nat} {bf : ab_B} : decode (ab_code (zx σ n0 bf).1 8252) 28 = .ok (.if_icmp .ne 25, 3) := zd zm_8252 (by decide +kernel)
theorem d_8252_31 {σ : Nat → Nat} {n0 : Nat} {bf : ab_B} : decode (ab_code (zx σ n0 bf).1 8252) 31 = .ok (.aload_n 0, 1) := zd zm_8252 (by decide +kernel)
theorem d_8252_32 {σ : Nat → Nat} {n0 : Nat} {bf : ab_B} : decode (ab_code (zx σ n0 bf).1 8252) 32 = .ok (.aload_n 0, 1) := zd zm_8252 (by decide +kernel)
theorem d_8252_33 {σ : Nat → Nat} {n0 : Nat} {bf : ab_B} : decode (ab_code (zx σ n0 bf).1 8252) 33 = .ok (.aload_n 0, 1) := zd zm_8252 (by decide +kernel)
theorem d_8252_34 {σ : Nat → Nat} {n0 : Nat} {bf : ab_B} : decode (ab_code (zx σ n0 bf).1 8252) 34 = .ok (.getfield 1264, 3) := zd zm_8252 (by decide +kernel)
theorem d_8252_37 {σ : Nat → Nat} {n0 : Nat} {bf : ab_B} : decode (ab_code (zx σ n0 bf).1 8252) 37 = .ok (.iconst 1, 1) := zd zm_8252 (by decide +kernel)
theorem d_8252_38 {σ : Nat → Nat} {n0 : Nat} {bf : ab_B} : decode (ab_code (zx σ n0 bf).1 8252) 38 = .ok (.isub, 1) := zd zm_8252 (by decide +kernel)
theorem d_8252_39 {σ : Nat → Nat} {n0 : Nat} {bf : ab_B} : decode (ab_code (zx σ n0 bf).1 8252) 39 = .ok (.invokevirtual 1317, 3) := zd zm_8252 (by decide +kernel)
theorem d_8252_42 {σ : Nat → Nat} {n0 : Nat} {bf : ab_B} : decode (ab_code (zx σ n0 bf).1 8252) 42 = .ok (.i2l, 1) := zd zm_8252 (by decide +kernel)
theorem d_8252_43 {σ : Nat → Nat} {n0 : Nat} {bf : ab_B} : decode (ab_code (zx σ n0 bf).1 8252) 43 = .ok (.invokevirtual 1326, 3) := zd zm_8252 (by decide +kernel)
theorem d_8252_46 {σ : Nat → Nat} {n0 : Nat} {bf : ab_B} : decode (ab_code (zx σ n0 bf).1 8252) 46 = .ok (.aload_n 0, 1) := zd zm_8252 (by decide +kernel)
theorem d_8252_47 {σ : Nat → Nat} {n0 : Nat} {bf : ab_B} : decode (ab_code (zx σ n0 bf).1 8252) 47 = .ok (.invokevirtual 1323, 3) := zd zm_8252 (by decide +kernel)
theorem d_8252_50 {σ : Nat → Nat} {n0 : Nat} {bf : ab_B} : decode (ab_code (zx σ n0 bf).1 8252) 50 = .ok (.goto 115, 3) := zd zm_8252 (by decide +kernel)
theorem d_8252_53 {σ : Nat → Nat} {n0 : Nat} {bf : ab_B} : decode (ab_code (zx σ n0 bf).1 8252) 53 = .ok (.iload_n 1, 1) := zd zm_8252 (by decide +kernel)
theorem d_8252_54 {σ : Nat → Nat} {n0 : Nat} {bf : ab_B} : decode (ab_code (zx σ n0 bf).1 8252) 54 = .ok (.bipush 16, 2) := zd zm_8252 (by decide +kernel)
theorem d_8252_56 {σ : Nat → Nat} {n0 : Nat} {bf : ab_B} : decode (ab_code (zx σ n0 bf).1 8252) 56 = .ok (.if_icmp .ne 10, 3) := zd zm_8252 (by decide +kernel)
theorem d_8252_59 {σ : Nat → Nat} {n0 : Nat} {bf : ab_B} : decode (ab_code (zx σ n0 bf).1 8252) 59 = .ok (.aload_n 0, 1) := zd zm_8252 (by decide +kernel)
theorem d_8252_60 {σ : Nat → Nat} {n0 : Nat} {bf : ab_B} : decode (ab_code (zx σ n0 bf).1 8252) 60 = .ok (.invokevirtual 1412, 3) := zd zm_8252 (by decide +kernel)
theorem d_8252_63 {σ : Nat → Nat} {n0 : Nat} {bf : ab_B} : decode (ab_code (zx σ n0 bf).1 8252) 63 = .ok (.goto 102, 3) := zd zm_8252 (by decide +kernel)
theorem d_8252_66 {σ : Nat → Nat} {n0 : Nat} {bf : ab_B} : decode (ab_code (zx σ n0 bf).1 8252) 66 = .ok (.iload_n 1, 1) := zd zm_8252 (by decide +kernel)
theorem d_8252_67 {σ : Nat → Nat} {n0 : Nat} {bf : ab_B} : decode (ab_code (zx σ n0 bf).1 8252) 67 = .ok (.bipush 17, 2) := zd zm_8252 (by decide +kernel)
theorem d_8252_69 {σ : Nat → Nat} {n0 : Nat} {bf : ab_B} : decode (ab_code (zx σ n0 bf).1 8252) 69 = .ok (.if_icmp .ne 11, 3) := zd zm_8252 (by decide +kernel)
theorem d_8252_72 {σ : Nat → Nat} {n0 : Nat} {bf : ab_B} : decode (ab_code (zx σ n0 bf).1 8252) 72 = .ok (.aload_n 0, 1) := zd zm_8252 (by decide +kernel)
theorem d_8252_73 {σ : Nat → Nat} {n0 : Nat} {bf : ab_B} : decode (ab_code (zx σ n0 bf).1 8252) 73 = .ok (.iload_n 2, 1) := zd zm_8252 (by decide +kernel)
theorem d_8252_74 {σ : Nat → Nat} {n0 : Nat} {bf : ab_B} : decode (ab_code (zx σ n0 bf).1 8252) 74 = .ok (.invokevirtual 1415, 3) := zd zm_8252 (by decide +kernel)
theorem d_8252_77 {σ : Nat → Nat} {n0 : Nat} {bf : ab_B} : decode (ab_code (zx σ n0 bf).1 8252) 77 = .ok (.goto 88, 3) := zd zm_8252 (by decide +kernel)
theorem d_8252_80 {σ : Nat → Nat} {n0 : Nat} {bf : ab_B} : decode (ab_code (zx σ n0 bf).1 8252) 80 = .ok (.aload_n 0, 1) := zd zm_8252 (by decide +kernel)
theorem d_8252_81 {σ : Nat → Nat} {n0 : Nat} {bf : ab_B} : decode (ab_code (zx σ n0 bf).1 8252) 81 = .ok (.invokevirtual 1307, 3) := zd zm_8252 (by decide +kernel)
theorem d_8252_84 {σ : Nat → Nat} {n0 : Nat} {bf : ab_B} : decode (ab_code (zx σ n0 bf).1 8252) 84 = .ok (.lstore_n 3, 1) := zd zm_8252 (by decide +kernel)
theorem d_8252_85 {σ : Nat → Nat} {n0 : Nat} {bf : ab_B} : decode (ab_code (zx σ n0 bf).1 8252) 85 = .ok (.iload_n 1, 1) := zd zm_8252 (by decide +kernel)
theorem d_8252_86 {σ : Nat → Nat} {n0 : Nat} {bf : ab_B} : decode (ab_code (zx σ n0 bf).1 8252) 86 = .ok (.bipush 7, 2) := zd zm_8252 (by decide +kernel)
theorem d_8252_88 {σ : Nat → Nat} {n0 : Nat} {bf : ab_B} : decode (ab_code (zx σ n0 bf).1 8252) 88 = .ok (.if_icmp .ne 18, 3) := zd zm_8252 (by decide +kernel)
theorem d_8252_91 {σ : Nat → Nat} {n0 : Nat} {bf : ab_B} : decode (ab_code (zx σ n0 bf).1 8252) 91 = .ok (.lload_n 3, 1) := zd zm_8252 (by decide +kernel)
theorem d_8252_92 {σ : Nat → Nat} {n0 : Nat} {bf : ab_B} : decode (ab_code (zx σ n0 bf).1 8252) 92 = .ok (.lconst 0, 1) := zd zm_8252 (by decide +kernel)
theorem d_8252_93 {σ : Nat → Nat} {n0 : Nat} {bf : ab_B} : decode (ab_code (zx σ n0 bf).1 8252) 93 = .ok (.lcmp, 1) := zd zm_8252 (by decide +kernel)
theorem d_8252_94 {σ : Nat → Nat} {n0 : Nat} {bf : ab_B} : decode (ab_code (zx σ n0 bf).1 8252) 94 = .ok (.ifCond .ge 8, 3) := zd zm_8252 (by decide +kernel)
theorem d_8252_97 {σ : Nat → Nat} {n0 : Nat} {bf : ab_B} : decode (ab_code (zx σ n0 bf).1 8252) 97 = .ok (.lload_n 3, 1) := zd zm_8252 (by decide +kernel)
theorem d_8252_98 {σ : Nat → Nat} {n0 : Nat} {bf : ab_B} : decode (ab_code (zx σ n0 bf).1 8252) 98 = .ok (.lneg, 1) := zd zm_8252 (by decide +kernel)
theorem d_8252_99 {σ : Nat → Nat} {n0 : Nat} {bf : ab_B} : decode (ab_code (zx σ n0 bf).1 8252) 99 = .ok (.goto 36, 3) := zd zm_8252 (by decide +kernel)
theorem d_8252_102 {σ : Nat → Nat} {n0 : Nat} {bf : ab_B} : decode (ab_code (zx σ n0 bf).1 8252) 102 = .ok (.lload_n 3, 1) := zd zm_8252 (by decide +kernel)
theorem d_8252_103 {σ : Nat → Nat} {n0 : Nat} {bf : ab_B} : decode (ab_code (zx σ n0 bf).1 8252) 103 = .ok (.goto 32, 3) := zd zm_8252 (by decide +kernel)
theorem d_8252_106 {σ : Nat → Nat} {n0 : Nat} {bf : ab_B} : decode (ab_code (zx σ n0 bf).1 8252) 106 = .ok (.iload_n 1, 1) := zd zm_8252 (by decide +kernel)
theorem d_8252_107 {σ : Nat → Nat} {n0 : Nat} {bf : ab_B} : decode (ab_code (zx σ n0 bf).1 8252) 107 = .ok (.bipush 8, 2) := zd zm_8252 (by decide +kernel)
theorem d_8252_109 {σ : Nat → Nat} {n0 : Nat} {bf : ab_B} : decode (ab_code (zx σ n0 bf).1 8252) 109 = .ok (.if_icmp .ne 9, 3) := zd zm_8252 (by decide +kernel)
theorem d_8252_112 {σ : Nat → Nat} {n0 : Nat} {bf : ab_B} : decode (ab_code (zx σ n0 bf).1 8252) 112 = .ok (.lload_n 3, 1) := zd zm_8252 (by decide +kernel)
theorem d_8252_113 {σ : Nat → Nat} {n0 : Nat} {bf : ab_B} : decode (ab_code (zx σ n0 bf).1 8252) 113 = .ok (.lload_n 3, 1) := zd zm_8252 (by decide +kernel)
theorem d_8252_114 {σ : Nat → Nat} {n0 : Nat} {bf : ab_B} : decode (ab_code (zx σ n0 bf).1 8252) 114 = .ok (.lmul, 1) := zd zm_8252 (by decide +kernel)
theorem d_8252_115 {σ : Nat → Nat} {n0 : Nat} {bf : ab_B} : decode (ab_code (zx σ n0 bf).1 8252) 115 = .ok (.goto 20, 3) := zd zm_8252 (by decide +kernel)
theorem d_8252_118 {σ : Nat → Nat} {n0 : Nat} {bf : ab_B} : decode (ab_code (zx σ n0 bf).1 8252) 118 = .ok (.iload_n 1, 1) := zd zm_8252 (by decide +kernel)
theorem d_8252_119 {σ : Nat → Nat} {n0 : Nat} {bf : ab_B} : decode (ab_code (zx σ n0 bf).1 8252) 119 = .ok (.bipush 9, 2) := zd zm_8252 (by decide +kernel)
theorem d_8252_121 {σ : Nat → Nat} {n0 : Nat} {bf : ab_B} : decode (ab_code (zx σ n0 bf).1 8252) 121 = .ok (.if_icmp .ne 9, 3) := zd zm_8252 (by decide +kernel)
theorem d_8252_124 {σ : Nat → Nat} {n0 : Nat} {bf : ab_B} : decode (ab_code (zx σ n0 bf).1 8252) 124 = .ok (.lload_n 3, 1) := zd zm_8252 (by decide +kernel)
theorem d_8252_125 {σ : Nat → Nat} {n0 : Nat} {bf : ab_B} : decode (ab_code (zx σ n0 bf).1 8252) 125 = .ok (.lconst 1, 1) := zd zm_8252 (by decide +kernel)
theorem d_8252_126 {σ : Nat → Nat} {n0 : Nat} {bf : ab_B} : decode (ab_code (zx σ n0 bf).1 8252) 126 = .ok (.land, 1) := zd zm_8252 (by decide +kernel)
theorem d_8252_127 {σ : Nat → Nat} {n0 : Nat} {bf : ab_B} : decode (ab_code (zx σ n0 bf).1 8252) 127 = .ok (.goto 8, 3) := zd zm_8252 (by decide +kernel)
theorem d_8252_130 {σ : Nat → Nat} {n0 : Nat} {bf : ab_B} : decode (ab_code (zx σ n0 bf).1 8252) 130 = .ok (.lload_n 3, 1) := zd zm_8252 (by decide +kernel)
theorem d_8252_131 {σ : Nat → Nat} {n0 : Nat} {bf : ab_B} : decode (ab_code (zx σ n0 bf).1 8252) 131 = .ok (.invokestatic 1418, 3) := zd zm_8252 (by decide +kernel)
theorem d_8252_134 {σ : Nat → Nat} {n0 : Nat} {bf : ab_B} : decode (ab_code (zx σ n0 bf).1 8252) 134 = .ok (.i2l, 1) := zd zm_8252 (by decide +kernel)
theorem d_8252_135 {σ : Nat → Nat} {n0 : Nat} {bf : ab_B} : decode (ab_code (zx σ n0 bf).1 8252) 135 = .ok (.lstore 5, 2) := zd zm_8252 (by decide +kernel)
theorem d_8252_137 {σ : Nat → Nat} {n0 : Nat} {bf : ab_B} : decode (ab_code (zx σ n0 bf).1 8252) 137 = .ok (.iload_n 1, 1) := zd zm_8252 (by decide +kernel)
theorem d_8252_138 {σ : Nat → Nat} {n0 : Nat} {bf : ab_B} : decode (ab_code (zx σ n0 bf).1 8252) 138 = .ok (.bipush 8, 2) := zd zm_8252 (by decide +kernel)
theorem d_8252_140 {σ : Nat → Nat} {n0 : Nat} {bf : ab_B} : decode (ab_code (zx σ n0 bf).1 8252) 140 = .ok (.if_icmp .ne 19, 3) := zd zm_8252 (by decide +kernel)
theorem d_8252_143 {σ : Nat → Nat} {n0 : Nat} {bf : ab_B} : decode (ab_code (zx σ n0 bf).1 8252) 143 = .ok (.lload 5, 2) := zd zm_8252 (by decide +kernel)
theorem d_8252_145 {σ : Nat → Nat} {n0 : Nat} {bf : ab_B} : decode (ab_code (zx σ n0 bf).1 8252) 145 = .ok (.ldc2_w 497, 3) := zd zm_8252 (by decide +kernel)
theorem d_8252_148 {σ : Nat → Nat} {n0 : Nat} {bf : ab_B} : decode (ab_code (zx σ n0 bf).1 8252) 148 = .ok (.lcmp, 1) := zd zm_8252 (by decide +kernel)
theorem d_8252_149 {σ : Nat → Nat} {n0 : Nat} {bf : ab_B} : decode (ab_code (zx σ n0 bf).1 8252) 149 = .ok (.ifCond .le 10, 3) := zd zm_8252 (by decide +kernel)
theorem d_8252_152 {σ : Nat → Nat} {n0 : Nat} {bf : ab_B} : decode (ab_code (zx σ n0 bf).1 8252) 152 = .ok (.aload_n 0, 1) := zd zm_8252 (by decide +kernel)
theorem d_8252_153 {σ : Nat → Nat} {n0 : Nat} {bf : ab_B} : decode (ab_code (zx σ n0 bf).1 8252) 153 = .ok (.bipush 6, 2) := zd zm_8252 (by decide +kernel)
theorem d_8252_155 {σ : Nat → Nat} {n0 : Nat} {bf : ab_B} : decode (ab_code (zx σ n0 bf).1 8252) 155 = .ok (.iload_n 2, 1) := zd zm_8252 (by decide +kernel)
theorem d_8252_156 {σ : Nat → Nat} {n0 : Nat} {bf : ab_B} : decode (ab_code (zx σ n0 bf).1 8252) 156 = .ok (.invokevirtual 1297, 3) := zd zm_8252 (by decide +kernel)
theorem d_8252_159 {σ : Nat → Nat} {n0 : Nat} {bf : ab_B} : decode (ab_code (zx σ n0 bf).1 8252) 159 = .ok (.aload_n 0, 1) := zd zm_8252 (by decide +kernel)
theorem d_8252_160 {σ : Nat → Nat} {n0 : Nat} {bf : ab_B} : decode (ab_code (zx σ n0 bf).1 8252) 160 = .ok (.lload 5, 2) := zd zm_8252 (by decide +kernel)
theorem d_8252_162 {σ : Nat → Nat} {n0 : Nat} {bf : ab_B} : decode (ab_code (zx σ n0 bf).1 8252) 162 = .ok (.invokevirtual 1326, 3) := zd zm_8252 (by decide +kernel)
theorem d_8252_165 {σ : Nat → Nat} {n0 : Nat} {bf : ab_B} : decode (ab_code (zx σ n0 bf).1 8252) 165 = .ok (.return_, 1) := zd zm_8252 (by decide +kernel)
def w_X9_knownWork_165 (X : zs_X) (d : Nat)  (S : zs_T) (Q : zs_Q) : Prop :=
  (Q (.returned none) S)
theorem u_X9_knownWork_165 {σ : Nat → Nat} {n0 : Nat} {bf : ab_B} {d : Nat}  {S : zs_T} {Q : zs_Q} (hB : zt_B bf) (h : w_X9_knownWork_165 (zx σ n0 bf) d  S Q) : zs_U (zx σ n0 bf) d 8252 165 [] [] S Q := by
  unfold w_X9_knownWork_165 at h
  exact zu_vret d_8252_165 zr_8252 h
def w_X9_knownWork_19 (X : zs_X) (d : Nat) (q0 : Option Nat) (q1 : Int64) (S : zs_T) (Q : zs_Q) : Prop :=
  (∃ b1, q0 = some b1 ∧ zs_K S b1 = some (.inl 8) ∧ zs_C X d 8231 [.ref b1, .long q1] S (zs_kV (fun S4 => (w_X9_knownWork_165 X d  S4 Q)) Q))
theorem u_X9_knownWork_19 {σ : Nat → Nat} {n0 : Nat} {bf : ab_B} {d : Nat} {q0 : Option Nat} {q1 : Int64} {S : zs_T} {Q : zs_Q} (hB : zt_B bf) (h : w_X9_knownWork_19 (zx σ n0 bf) d q0 q1 S Q) : zs_U (zx σ n0 bf) d 8252 19 [] [.long q1, va_rf q0] S Q := by
  unfold w_X9_knownWork_19 at h
  obtain ⟨b1, e2, h⟩ := h
  refine zs_stk1 (zs_rfe e2) ?_
  obtain ⟨k3, h⟩ := h
  refine zc_8_1326 (x0 := q1) hB rfl k3 d_8252_19 (Nat.le_of_ble_eq_true rfl) h (fun S4 h => ?_)
  refine zu_goto (t := 165) d_8252_22 rfl ?_
  exact (u_X9_knownWork_165 hB h).weak trivial
def w_X9_knownWork_50 (X : zs_X) (d : Nat)  (S : zs_T) (Q : zs_Q) : Prop :=
  (w_X9_knownWork_165 X d  S Q)
theorem u_X9_knownWork_50 {σ : Nat → Nat} {n0 : Nat} {bf : ab_B} {d : Nat}  {S : zs_T} {Q : zs_Q} (hB : zt_B bf) (h : w_X9_knownWork_50 (zx σ n0 bf) d  S Q) : zs_U (zx σ n0 bf) d 8252 50 [] [] S Q := by
  unfold w_X9_knownWork_50 at h
  refine zu_goto (t := 165) d_8252_50 rfl ?_
  exact (u_X9_knownWork_165 hB h).weak trivial
def w_X9_knownWork_159 (X : zs_X) (d : Nat) (p0 : Nat) (p5 : Int64) (S : zs_T) (Q : zs_Q) : Prop :=
  (zs_K S p0 = some (.inl 8) ∧ zs_C X d 8231 [.ref p0, .long p5] S (zs_kV (fun S2 => w_X9_knownWork_165 X d  S2 Q) Q))
theorem u_X9_knownWork_159 {σ : Nat → Nat} {n0 : Nat} {bf : ab_B} {d : Nat} {p0 : Nat} {p5 : Int64} {S : zs_T} {Q : zs_Q} (hB : zt_B bf) (h : w_X9_knownWork_159 (zx σ n0 bf) d p0 p5 S Q) : zs_U (zx σ n0 bf) d 8252 159 [(0, .ref p0), (5, .long p5)] [] S Q := by
  unfold w_X9_knownWork_159 at h
  refine zu_aload_n d_8252_159 rfl (zs_ra _) ?_
  refine zu_lload d_8252_160 rfl ?_
  obtain ⟨k1, h⟩ := h
  refine zc_8_1326 (x0 := p5) hB rfl k1 d_8252_162 (Nat.le_of_ble_eq_true rfl) h (fun S2 h => ?_)
  exact (u_X9_knownWork_165 hB h).weak trivial
def w_X9_knownWork_135 (X : zs_X) (d : Nat) (p0 : Nat) (p1 : Int32) (p2 : Int32) (q0 : Int64) (S : zs_T) (Q : zs_Q) : Prop :=
  (((¬ p1 = (8 : Int32) → w_X9_knownWork_159 X d p0 q0 S Q) ∧ (¬ (¬ p1 = (8 : Int32)) → (((q0 ≤ (2147483647 : Int64) → w_X9_knownWork_159 X d p0 q0 S Q) ∧ (¬ (q0 ≤ (2147483647 : Int64)) → (zs_K S p0 = some (.inl 8) ∧ zs_C X d 8208 [.ref p0, .int (6 : Int32), .int p2] S (zs_kV (fun S4 => w_X9_knownWork_159 X d p0 q0 S4 Q) Q))))))))
theorem u_X9_knownWork_135 {σ : Nat → Nat} {n0 : Nat} {bf : ab_B} {d : Nat} {p0 : Nat} {p1 : Int32} {p2 : Int32} {q0 : Int64} {S : zs_T} {Q : zs_Q} (hB : zt_B bf) (h : w_X9_knownWork_135 (zx σ n0 bf) d p0 p1 p2 q0 S Q) : zs_U (zx σ n0 bf) d 8252 135 [(0, .ref p0), (1, .int p1), (2, .int p2)] [.long q0] S Q := by
  unfold w_X9_knownWork_135 at h
  refine zu_lstore d_8252_135 (zs_lt zq_8252 rfl) ?_
  refine zu_iload_n d_8252_137 rfl ?_
  refine zu_bipush d_8252_138 zj_8 ?_
  refine zu_cmpne (t := 159) d_8252_140 rfl (fun c1 => ?_) (fun c1 => ?_)
  · have h := h.1 c1
    exact (u_X9_knownWork_159 hB h).weak ⟨rfl, rfl, trivial⟩
  · have h := h.2 c1
    refine zu_lload d_8252_143 rfl ?_
    refine zl2_8_497 rfl d_8252_145 ?_
    refine zu_lle (t := 159) d_8252_148 d_8252_149 rfl (fun c2 => ?_) (fun c2 => ?_)
    · have h := h.1 c2
      exact (u_X9_knownWork_159 hB h).weak ⟨rfl, rfl, trivial⟩
    · have h := h.2 c2
      refine zu_aload_n d_8252_152 rfl (zs_ra _) ?_
      refine zu_bipush d_8252_153 zj_6 ?_
      refine zu_iload_n d_8252_155 rfl ?_
      obtain ⟨k3, h⟩ := h
      refine zc_8_1297 (x0 := (6 : Int32)) (x1 := p2) hB rfl k3 d_8252_156 (Nat.le_of_ble_eq_true rfl) h (fun S4 h => ?_)
      exact (u_X9_knownWork_159 hB h).weak ⟨rfl, rfl, trivial⟩
def w_X9_knownWork_91 (X : zs_X) (d : Nat) (p0 : Nat) (p1 : Int32) (p2 : Int32) (p3 : Int64) (S : zs_T) (Q : zs_Q) : Prop :=
  ((((0 : Int64) ≤ p3 → (w_X9_knownWork_135 X d p0 p1 p2 p3 S Q)) ∧ (¬ ((0 : Int64) ≤ p3) → (w_X9_knownWork_135 X d p0 p1 p2 ((-p3)) S Q))))
theorem u_X9_knownWork_91 {σ : Nat → Nat} {n0 : Nat} {bf : ab_B} {d : Nat} {p0 : Nat} {p1 : Int32} {p2 : Int32} {p3 : Int64} {S : zs_T} {Q : zs_Q} (hB : zt_B bf) (h : w_X9_knownWork_91 (zx σ n0 bf) d p0 p1 p2 p3 S Q) : zs_U (zx σ n0 bf) d 8252 91 [(0, .ref p0), (1, .int p1), (2, .int p2), (3, .long p3)] [] S Q := by
  unfold w_X9_knownWork_91 at h
  refine zu_lload_n d_8252_91 rfl ?_
  refine zu_lconst (v := 0) d_8252_92 rfl ?_
  refine zu_lge (t := 102) d_8252_93 d_8252_94 rfl (fun c1 => ?_) (fun c1 => ?_)
  · have h := h.1 c1
    refine zu_lload_n d_8252_102 rfl ?_
    refine zu_goto (t := 135) d_8252_103 rfl ?_
    exact (u_X9_knownWork_135 hB h).weak ⟨rfl, rfl, rfl, trivial⟩
  · have h := h.2 c1
    refine zu_lload_n d_8252_97 rfl ?_
    refine zu_stk d_8252_98 rfl rfl ?_
    refine zu_goto (t := 135) d_8252_99 rfl ?_
    exact (u_X9_knownWork_135 hB h).weak ⟨rfl, rfl, rfl, trivial⟩
def w_X9_knownWork_106 (X : zs_X) (d : Nat) (p0 : Nat) (p1 : Int32) (p2 : Int32) (p3 : Int64) (S : zs_T) (Q : zs_Q) : Prop :=
  (((¬ p1 = (8 : Int32) → (((¬ p1 = (9 : Int32) → (zs_C X d 8255 [.long p3] S (zs_kI (fun v4 S3 => (w_X9_knownWork_135 X d p0 p1 p2 ((v4).toInt64) S3 Q)) Q))) ∧ (¬ (¬ p1 = (9 : Int32)) → (w_X9_knownWork_135 X d p0 p1 p2 (p3 &&& (1 : Int64)) S Q))))) ∧ (¬ (¬ p1 = (8 : Int32)) → (w_X9_knownWork_135 X d p0 p1 p2 (p3 * p3) S Q))))
theorem u_X9_knownWork_106 {σ : Nat → Nat} {n0 : Nat} {bf : ab_B} {d : Nat} {p0 : Nat} {p1 : Int32} {p2 : Int32} {p3 : Int64} {S : zs_T} {Q : zs_Q} (hB : zt_B bf) (h : w_X9_knownWork_106 (zx σ n0 bf) d p0 p1 p2 p3 S Q) : zs_U (zx σ n0 bf) d 8252 106 [(0, .ref p0), (1, .int p1), (2, .int p2), (3, .long p3)] [] S Q := by
  unfold w_X9_knownWork_106 at h
  refine zu_iload_n d_8252_106 rfl ?_
  refine zu_bipush d_8252_107 zj_8 ?_
  refine zu_cmpne (t := 118) d_8252_109 rfl (fun c1 => ?_) (fun c1 => ?_)
  · have h := h.1 c1
    refine zu_iload_n d_8252_118 rfl ?_
    refine zu_bipush d_8252_119 zj_9 ?_
    refine zu_cmpne (t := 130) d_8252_121 rfl (fun c2 => ?_) (fun c2 => ?_)
    · have h := h.1 c2
      refine zu_lload_n d_8252_130 rfl ?_
      refine zc_8_1418 (x0 := p3) hB rfl d_8252_131 (Nat.le_of_ble_eq_true rfl) h (fun v4 S3 h => ?_)
      refine zu_stk d_8252_134 rfl rfl ?_
      exact (u_X9_knownWork_135 hB h).weak ⟨rfl, rfl, rfl, trivial⟩
    · have h := h.2 c2
      refine zu_lload_n d_8252_124 rfl ?_
      refine zu_lconst (v := 1) d_8252_125 rfl ?_
      refine zu_stk d_8252_126 rfl rfl ?_
      refine zu_goto (t := 135) d_8252_127 rfl ?_
      exact (u_X9_knownWork_135 hB h).weak ⟨rfl, rfl, rfl, trivial⟩
  · have h := h.2 c1
    refine zu_lload_n d_8252_112 rfl ?_
    refine zu_lload_n d_8252_113 rfl ?_
    refine zu_stk d_8252_114 rfl rfl ?_
    refine zu_goto (t := 135) d_8252_115 rfl ?_
    exact (u_X9_knownWork_135 hB h).weak ⟨rfl, rfl, rfl, trivial⟩
def w_X9_knownWork (X : zs_X) (d : Nat) (p0 : Nat) (p1 : Int32) (p2 : Int32) (S : zs_T) (Q : zs_Q) : Prop :=
  (((¬ p1 = (18 : Int32) → (((¬ p1 = (14 : Int32) → (((¬ p1 = (16 : Int32) → (((¬ p1 = (17 : Int32) → (zs_K S p0 = some (.inl 8) ∧ zs_C X d 8242 [.ref p0] S (zs_kJ (fun v7 S6 => (((¬ p1 = (7 : Int32) → w_X9_knownWork_106 X d p0 p1 p2 v7 S6 Q) ∧ (¬ (¬ p1 = (7 : Int32)) → w_X9_knownWork_91 X d p0 p1 p2 v7 S6 Q)))) Q))) ∧ (¬ (¬ p1 = (17 : Int32)) → (zs_K S p0 = some (.inl 8) ∧ zs_C X d 8254 [.ref p0, .int p2] S (zs_kV (fun S10 => (w_X9_knownWork_165 X d  S10 Q)) Q)))))) ∧ (¬ (¬ p1 = (16 : Int32)) → (zs_K S p0 = some (.inl 8) ∧ zs_C X d 8253 [.ref p0] S (zs_kV (fun S13 => (w_X9_knownWork_165 X d  S13 Q)) Q)))))) ∧ (¬ (¬ p1 = (14 : Int32)) → (zs_K S p0 = some (.inl 8) ∧ zs_C X d 8223 [.ref p0, .int ((zs_I S 8187 p0) - (1 : Int32))] S (zs_kI (fun v17 S16 => (zs_K S16 p0 = some (.inl 8) ∧ zs_C X d 8231 [.ref p0, .long ((v17).toInt64)] S16 (zs_kV (fun S19 => (zs_K S19 p0 = some (.inl 8) ∧ zs_C X d 8228 [.ref p0] S19 (zs_kV (fun S22 => w_X9_knownWork_50 X d  S22 Q) Q))) Q))) Q)))))) ∧ (¬ (¬ p1 = (18 : Int32)) → (zs_K S p0 = some (.inl 8) ∧ ((¬ (zs_I S 8203 p0) = 0 → (w_X9_knownWork_19 X d (some p0) (0 : Int64) S Q)) ∧ (¬ (¬ (zs_I S 8203 p0) = 0) → (w_X9_knownWork_19 X d (some p0) (1 : Int64) S Q)))))))
theorem u_X9_knownWork {σ : Nat → Nat} {n0 : Nat} {bf : ab_B} {d : Nat} {p0 : Nat} {p1 : Int32} {p2 : Int32} {S : zs_T} {Q : zs_Q} (hB : zt_B bf) (hd : 1 ≤ d) (h : w_X9_knownWork (zx σ n0 bf) (d - 1) p0 p1 p2 S Q) : zs_C (zx σ n0 bf) d 8252 [.ref p0, .int p1, .int p2] S Q := by
  have hL : lv_args 0 [.ref p0, .int p1, .int p2] = [(0, .ref p0), (1, .int p1), (2, .int p2)] := rfl
  refine zs_C.of1 (hB.2 8252 (by decide) (by decide)) hd (by rw [hL]; exact zs_sub_self _ (by exact ⟨rfl, rfl, rfl, trivial⟩)) ?_
  rw [hL]
  clear hL
  unfold w_X9_knownWork at h
  refine zu_iload_n d_8252_0 rfl ?_
  refine zu_bipush d_8252_1 zj_18 ?_
  refine zu_cmpne (t := 25) d_8252_3 rfl (fun c1 => ?_) (fun c1 => ?_)
  · have h := h.1 c1
    refine zu_iload_n d_8252_25 rfl ?_
    refine zu_bipush d_8252_26 zj_14 ?_
    refine zu_cmpne (t := 53) d_8252_28 rfl (fun c2 => ?_) (fun c2 => ?_)
    · have h := h.1 c2
      refine zu_iload_n d_8252_53 rfl ?_
      refine zu_bipush d_8252_54 zj_16 ?_
      refine zu_cmpne (t := 66) d_8252_56 rfl (fun c3 => ?_) (fun c3 => ?_)
      · have h := h.1 c3
        refine zu_iload_n d_8252_66 rfl ?_
        refine zu_bipush d_8252_67 zj_17 ?_
        refine zu_cmpne (t := 80) d_8252_69 rfl (fun c4 => ?_) (fun c4 => ?_)
        · have h := h.1 c4
          refine zu_aload_n d_8252_80 rfl (zs_ra _) ?_
          obtain ⟨k5, h⟩ := h
          refine zc_8_1307  hB rfl k5 d_8252_81 (Nat.le_of_ble_eq_true rfl) h (fun v7 S6 h => ?_)
          refine zu_lstore_n d_8252_84 (zs_lt zq_8252 rfl) ?_
          refine zu_iload_n d_8252_85 rfl ?_
          refine zu_bipush d_8252_86 zj_7 ?_
          refine zu_cmpne (t := 106) d_8252_88 rfl (fun c8 => ?_) (fun c8 => ?_)
          · have h := h.1 c8
            exact (u_X9_knownWork_106 hB h).weak ⟨rfl, rfl, rfl, rfl, trivial⟩
          · have h := h.2 c8
            exact (u_X9_knownWork_91 hB h).weak ⟨rfl, rfl, rfl, rfl, trivial⟩
        · have h := h.2 c4
          refine zu_aload_n d_8252_72 rfl (zs_ra _) ?_
          refine zu_iload_n d_8252_73 rfl ?_
          obtain ⟨k9, h⟩ := h
          refine zc_8_1415 (x0 := p2) hB rfl k9 d_8252_74 (Nat.le_of_ble_eq_true rfl) h (fun S10 h => ?_)
          refine zu_goto (t := 165) d_8252_77 rfl ?_
          exact (u_X9_knownWork_165 hB h).weak trivial
      · have h := h.2 c3
        refine zu_aload_n d_8252_59 rfl (zs_ra _) ?_
        obtain ⟨k12, h⟩ := h
        refine zc_8_1412  hB rfl k12 d_8252_60 (Nat.le_of_ble_eq_true rfl) h (fun S13 h => ?_)
        refine zu_goto (t := 165) d_8252_63 rfl ?_
        exact (u_X9_knownWork_165 hB h).weak trivial
    · have h := h.2 c2
      refine zu_aload_n d_8252_31 rfl (zs_ra _) ?_
      refine zu_aload_n d_8252_32 rfl (zs_ra _) ?_
      refine zu_aload_n d_8252_33 rfl (zs_ra _) ?_
      obtain ⟨k15, h⟩ := h
      refine zg_8_1264 rfl d_8252_34 k15 ?_
      refine zu_iconst d_8252_37 zi_1 ?_
      refine zu_stk d_8252_38 rfl rfl ?_
      refine zc_8_1317 (x0 := ((zs_I S 8187 p0) - (1 : Int32))) hB rfl k15 d_8252_39 (Nat.le_of_ble_eq_true rfl) h (fun v17 S16 h => ?_)
      refine zu_stk d_8252_42 rfl rfl ?_
      obtain ⟨k18, h⟩ := h
      refine zc_8_1326 (x0 := ((v17).toInt64)) hB rfl k18 d_8252_43 (Nat.le_of_ble_eq_true rfl) h (fun S19 h => ?_)
      refine zu_aload_n d_8252_46 rfl (zs_ra _) ?_
      obtain ⟨k21, h⟩ := h
      refine zc_8_1323  hB rfl k21 d_8252_47 (Nat.le_of_ble_eq_true rfl) h (fun S22 h => ?_)
      exact (u_X9_knownWork_50 hB h).weak trivial
  · have h := h.2 c1
    refine zu_aload_n d_8252_6 rfl (zs_ra _) ?_
    refine zu_aload_n d_8252_7 rfl (zs_ra _) ?_
    obtain ⟨k24, h⟩ := h
    refine zg_8_1409 rfl d_8252_8 k24 ?_
    refine zu_ifne (t := 18) d_8252_11 rfl (fun c25 => ?_) (fun c25 => ?_)
    · have h := h.1 c25
      refine zu_lconst (v := 0) d_8252_18 rfl ?_
      exact (u_X9_knownWork_19 hB h).weak trivial
    · have h := h.2 c25
      refine zu_lconst (v := 1) d_8252_14 rfl ?_
      refine zu_goto (t := 19) d_8252_15 rfl ?_
      exact (u_X9_knownWork_19 hB h).weak trivial
/-! SchemaPascalModel.seekText()V -/
theorem zm_8253 {σ : Nat → Nat} {n0 : Nat} {bf : ab_B} : ab_code (zx σ n0 bf).1 8253 = prog_17_method_261_code := rfl
theorem zq_8253 {σ : Nat → Nat} {n0 : Nat} {bf : ab_B} : ab_maxL (zx σ n0 bf).1 8253 = 9 := rfl
theorem zr_8253 {σ : Nat → Nat} {n0 : Nat} {bf : ab_B} : ab_ret (zx σ n0 bf).1 8253 = (Option.none : Option Jvm.ClassFile.FieldType) := rfl
theorem d_8253_0 {σ : Nat → Nat} {n0 : Nat} {bf : ab_B} : decode (ab_code (zx σ n0 bf).1 8253) 0 = .ok (.aload_n 0, 1) := zd zm_8253 (by decide +kernel)
theorem d_8253_1 {σ : Nat → Nat} {n0 : Nat} {bf : ab_B} : decode (ab_code (zx σ n0 bf).1 8253) 1 = .ok (.getfield 405, 3) := zd zm_8253 (by decide +kernel)
theorem d_8253_4 {σ : Nat → Nat} {n0 : Nat} {bf : ab_B} : decode (ab_code (zx σ n0 bf).1 8253) 4 = .ok (.aload_n 0, 1) := zd zm_8253 (by decide +kernel)
theorem d_8253_5 {σ : Nat → Nat} {n0 : Nat} {bf : ab_B} : decode (ab_code (zx σ n0 bf).1 8253) 5 = .ok (.getfield 1264, 3) := zd zm_8253 (by decide +kernel)
theorem d_8253_8 {σ : Nat → Nat} {n0 : Nat} {bf : ab_B} : decode (ab_code (zx σ n0 bf).1 8253) 8 = .ok (.iconst 2, 1) := zd zm_8253 (by decide +kernel)
theorem d_8253_9 {σ : Nat → Nat} {n0 : Nat} {bf : ab_B} : decode (ab_code (zx σ n0 bf).1 8253) 9 = .ok (.isub, 1) := zd zm_8253 (by decide +kernel)
theorem d_8253_10 {σ : Nat → Nat} {n0 : Nat} {bf : ab_B} : decode (ab_code (zx σ n0 bf).1 8253) 10 = .ok (.iaload, 1) := zd zm_8253 (by decide +kernel)
theorem d_8253_11 {σ : Nat → Nat} {n0 : Nat} {bf : ab_B} : decode (ab_code (zx σ n0 bf).1 8253) 11 = .ok (.istore_n 1, 1) := zd zm_8253 (by decide +kernel)
theorem d_8253_12 {σ : Nat → Nat} {n0 : Nat} {bf : ab_B} : decode (ab_code (zx σ n0 bf).1 8253) 12 = .ok (.aload_n 0, 1) := zd zm_8253 (by decide +kernel)
theorem d_8253_13 {σ : Nat → Nat} {n0 : Nat} {bf : ab_B} : decode (ab_code (zx σ n0 bf).1 8253) 13 = .ok (.aload_n 0, 1) := zd zm_8253 (by decide +kernel)
theorem d_8253_14 {σ : Nat → Nat} {n0 : Nat} {bf : ab_B} : decode (ab_code (zx σ n0 bf).1 8253) 14 = .ok (.getfield 1264, 3) := zd zm_8253 (by decide +kernel)
theorem d_8253_17 {σ : Nat → Nat} {n0 : Nat} {bf : ab_B} : decode (ab_code (zx σ n0 bf).1 8253) 17 = .ok (.iconst 2, 1) := zd zm_8253 (by decide +kernel)
theorem d_8253_18 {σ : Nat → Nat} {n0 : Nat} {bf : ab_B} : decode (ab_code (zx σ n0 bf).1 8253) 18 = .ok (.isub, 1) := zd zm_8253 (by decide +kernel)
theorem d_8253_19 {σ : Nat → Nat} {n0 : Nat} {bf : ab_B} : decode (ab_code (zx σ n0 bf).1 8253) 19 = .ok (.invokevirtual 1317, 3) := zd zm_8253 (by decide +kernel)
theorem d_8253_22 {σ : Nat → Nat} {n0 : Nat} {bf : ab_B} : decode (ab_code (zx σ n0 bf).1 8253) 22 = .ok (.istore_n 2, 1) := zd zm_8253 (by decide +kernel)
theorem d_8253_23 {σ : Nat → Nat} {n0 : Nat} {bf : ab_B} : decode (ab_code (zx σ n0 bf).1 8253) 23 = .ok (.aload_n 0, 1) := zd zm_8253 (by decide +kernel)
theorem d_8253_24 {σ : Nat → Nat} {n0 : Nat} {bf : ab_B} : decode (ab_code (zx σ n0 bf).1 8253) 24 = .ok (.getfield 405, 3) := zd zm_8253 (by decide +kernel)
theorem d_8253_27 {σ : Nat → Nat} {n0 : Nat} {bf : ab_B} : decode (ab_code (zx σ n0 bf).1 8253) 27 = .ok (.aload_n 0, 1) := zd zm_8253 (by decide +kernel)
theorem d_8253_28 {σ : Nat → Nat} {n0 : Nat} {bf : ab_B} : decode (ab_code (zx σ n0 bf).1 8253) 28 = .ok (.getfield 1264, 3) := zd zm_8253 (by decide +kernel)
theorem d_8253_31 {σ : Nat → Nat} {n0 : Nat} {bf : ab_B} : decode (ab_code (zx σ n0 bf).1 8253) 31 = .ok (.iconst 1, 1) := zd zm_8253 (by decide +kernel)
theorem d_8253_32 {σ : Nat → Nat} {n0 : Nat} {bf : ab_B} : decode (ab_code (zx σ n0 bf).1 8253) 32 = .ok (.isub, 1) := zd zm_8253 (by decide +kernel)
theorem d_8253_33 {σ : Nat → Nat} {n0 : Nat} {bf : ab_B} : decode (ab_code (zx σ n0 bf).1 8253) 33 = .ok (.iaload, 1) := zd zm_8253 (by decide +kernel)
theorem d_8253_34 {σ : Nat → Nat} {n0 : Nat} {bf : ab_B} : decode (ab_code (zx σ n0 bf).1 8253) 34 = .ok (.istore_n 3, 1) := zd zm_8253 (by decide +kernel)
theorem d_8253_35 {σ : Nat → Nat} {n0 : Nat} {bf : ab_B} : decode (ab_code (zx σ n0 bf).1 8253) 35 = .ok (.aload_n 0, 1) := zd zm_8253 (by decide +kernel)
theorem d_8253_36 {σ : Nat → Nat} {n0 : Nat} {bf : ab_B} : decode (ab_code (zx σ n0 bf).1 8253) 36 = .ok (.aload_n 0, 1) := zd zm_8253 (by decide +kernel)
theorem d_8253_37 {σ : Nat → Nat} {n0 : Nat} {bf : ab_B} : decode (ab_code (zx σ n0 bf).1 8253) 37 = .ok (.getfield 1264, 3) := zd zm_8253 (by decide +kernel)
theorem d_8253_40 {σ : Nat → Nat} {n0 : Nat} {bf : ab_B} : decode (ab_code (zx σ n0 bf).1 8253) 40 = .ok (.iconst 1, 1) := zd zm_8253 (by decide +kernel)
theorem d_8253_41 {σ : Nat → Nat} {n0 : Nat} {bf : ab_B} : decode (ab_code (zx σ n0 bf).1 8253) 41 = .ok (.isub, 1) := zd zm_8253 (by decide +kernel)
theorem d_8253_42 {σ : Nat → Nat} {n0 : Nat} {bf : ab_B} : decode (ab_code (zx σ n0 bf).1 8253) 42 = .ok (.invokevirtual 1317, 3) := zd zm_8253 (by decide +kernel)
theorem d_8253_45 {σ : Nat → Nat} {n0 : Nat} {bf : ab_B} : decode (ab_code (zx σ n0 bf).1 8253) 45 = .ok (.istore 4, 2) := zd zm_8253 (by decide +kernel)
theorem d_8253_47 {σ : Nat → Nat} {n0 : Nat} {bf : ab_B} : decode (ab_code (zx σ n0 bf).1 8253) 47 = .ok (.iconst 0, 1) := zd zm_8253 (by decide +kernel)
theorem d_8253_48 {σ : Nat → Nat} {n0 : Nat} {bf : ab_B} : decode (ab_code (zx σ n0 bf).1 8253) 48 = .ok (.istore 5, 2) := zd zm_8253 (by decide +kernel)
theorem d_8253_50 {σ : Nat → Nat} {n0 : Nat} {bf : ab_B} : decode (ab_code (zx σ n0 bf).1 8253) 50 = .ok (.iconst 0, 1) := zd zm_8253 (by decide +kernel)
theorem d_8253_51 {σ : Nat → Nat} {n0 : Nat} {bf : ab_B} : decode (ab_code (zx σ n0 bf).1 8253) 51 = .ok (.istore 6, 2) := zd zm_8253 (by decide +kernel)
theorem d_8253_53 {σ : Nat → Nat} {n0 : Nat} {bf : ab_B} : decode (ab_code (zx σ n0 bf).1 8253) 53 = .ok (.iload 6, 2) := zd zm_8253 (by decide +kernel)
theorem d_8253_55 {σ : Nat → Nat} {n0 : Nat} {bf : ab_B} : decode (ab_code (zx σ n0 bf).1 8253) 55 = .ok (.iload 4, 2) := zd zm_8253 (by decide +kernel)
theorem d_8253_57 {σ : Nat → Nat} {n0 : Nat} {bf : ab_B} : decode (ab_code (zx σ n0 bf).1 8253) 57 = .ok (.iadd, 1) := zd zm_8253 (by decide +kernel)
theorem d_8253_58 {σ : Nat → Nat} {n0 : Nat} {bf : ab_B} : decode (ab_code (zx σ n0 bf).1 8253) 58 = .ok (.iload_n 2, 1) := zd zm_8253 (by decide +kernel)
theorem d_8253_59 {σ : Nat → Nat} {n0 : Nat} {bf : ab_B} : decode (ab_code (zx σ n0 bf).1 8253) 59 = .ok (.if_icmp .gt 84, 3) := zd zm_8253 (by decide +kernel)
theorem d_8253_62 {σ : Nat → Nat} {n0 : Nat} {bf : ab_B} : decode (ab_code (zx σ n0 bf).1 8253) 62 = .ok (.iload 5, 2) := zd zm_8253 (by decide +kernel)
theorem d_8253_64 {σ : Nat → Nat} {n0 : Nat} {bf : ab_B} : decode (ab_code (zx σ n0 bf).1 8253) 64 = .ok (.ifCond .ne 79, 3) := zd zm_8253 (by decide +kernel)
theorem d_8253_67 {σ : Nat → Nat} {n0 : Nat} {bf : ab_B} : decode (ab_code (zx σ n0 bf).1 8253) 67 = .ok (.iconst 1, 1) := zd zm_8253 (by decide +kernel)
theorem d_8253_68 {σ : Nat → Nat} {n0 : Nat} {bf : ab_B} : decode (ab_code (zx σ n0 bf).1 8253) 68 = .ok (.istore 7, 2) := zd zm_8253 (by decide +kernel)
theorem d_8253_70 {σ : Nat → Nat} {n0 : Nat} {bf : ab_B} : decode (ab_code (zx σ n0 bf).1 8253) 70 = .ok (.iconst 0, 1) := zd zm_8253 (by decide +kernel)
theorem d_8253_71 {σ : Nat → Nat} {n0 : Nat} {bf : ab_B} : decode (ab_code (zx σ n0 bf).1 8253) 71 = .ok (.istore 8, 2) := zd zm_8253 (by decide +kernel)
theorem d_8253_73 {σ : Nat → Nat} {n0 : Nat} {bf : ab_B} : decode (ab_code (zx σ n0 bf).1 8253) 73 = .ok (.iload 8, 2) := zd zm_8253 (by decide +kernel)
theorem d_8253_75 {σ : Nat → Nat} {n0 : Nat} {bf : ab_B} : decode (ab_code (zx σ n0 bf).1 8253) 75 = .ok (.iload 4, 2) := zd zm_8253 (by decide +kernel)
theorem d_8253_77 {σ : Nat → Nat} {n0 : Nat} {bf : ab_B} : decode (ab_code (zx σ n0 bf).1 8253) 77 = .ok (.if_icmp .ge 45, 3) := zd zm_8253 (by decide +kernel)
theorem d_8253_80 {σ : Nat → Nat} {n0 : Nat} {bf : ab_B} : decode (ab_code (zx σ n0 bf).1 8253) 80 = .ok (.iload 7, 2) := zd zm_8253 (by decide +kernel)
theorem d_8253_82 {σ : Nat → Nat} {n0 : Nat} {bf : ab_B} : decode (ab_code (zx σ n0 bf).1 8253) 82 = .ok (.ifCond .eq 40, 3) := zd zm_8253 (by decide +kernel)
theorem d_8253_85 {σ : Nat → Nat} {n0 : Nat} {bf : ab_B} : decode (ab_code (zx σ n0 bf).1 8253) 85 = .ok (.aload_n 0, 1) := zd zm_8253 (by decide +kernel)
theorem d_8253_86 {σ : Nat → Nat} {n0 : Nat} {bf : ab_B} : decode (ab_code (zx σ n0 bf).1 8253) 86 = .ok (.getfield 402, 3) := zd zm_8253 (by decide +kernel)
theorem d_8253_89 {σ : Nat → Nat} {n0 : Nat} {bf : ab_B} : decode (ab_code (zx σ n0 bf).1 8253) 89 = .ok (.iload_n 1, 1) := zd zm_8253 (by decide +kernel)
theorem d_8253_90 {σ : Nat → Nat} {n0 : Nat} {bf : ab_B} : decode (ab_code (zx σ n0 bf).1 8253) 90 = .ok (.iload 6, 2) := zd zm_8253 (by decide +kernel)
theorem d_8253_92 {σ : Nat → Nat} {n0 : Nat} {bf : ab_B} : decode (ab_code (zx σ n0 bf).1 8253) 92 = .ok (.iadd, 1) := zd zm_8253 (by decide +kernel)
theorem d_8253_93 {σ : Nat → Nat} {n0 : Nat} {bf : ab_B} : decode (ab_code (zx σ n0 bf).1 8253) 93 = .ok (.iload 8, 2) := zd zm_8253 (by decide +kernel)
theorem d_8253_95 {σ : Nat → Nat} {n0 : Nat} {bf : ab_B} : decode (ab_code (zx σ n0 bf).1 8253) 95 = .ok (.iadd, 1) := zd zm_8253 (by decide +kernel)
theorem d_8253_96 {σ : Nat → Nat} {n0 : Nat} {bf : ab_B} : decode (ab_code (zx σ n0 bf).1 8253) 96 = .ok (.baload, 1) := zd zm_8253 (by decide +kernel)
theorem d_8253_97 {σ : Nat → Nat} {n0 : Nat} {bf : ab_B} : decode (ab_code (zx σ n0 bf).1 8253) 97 = .ok (.aload_n 0, 1) := zd zm_8253 (by decide +kernel)
theorem d_8253_98 {σ : Nat → Nat} {n0 : Nat} {bf : ab_B} : decode (ab_code (zx σ n0 bf).1 8253) 98 = .ok (.getfield 402, 3) := zd zm_8253 (by decide +kernel)
theorem d_8253_101 {σ : Nat → Nat} {n0 : Nat} {bf : ab_B} : decode (ab_code (zx σ n0 bf).1 8253) 101 = .ok (.iload_n 3, 1) := zd zm_8253 (by decide +kernel)
theorem d_8253_102 {σ : Nat → Nat} {n0 : Nat} {bf : ab_B} : decode (ab_code (zx σ n0 bf).1 8253) 102 = .ok (.iload 8, 2) := zd zm_8253 (by decide +kernel)
theorem d_8253_104 {σ : Nat → Nat} {n0 : Nat} {bf : ab_B} : decode (ab_code (zx σ n0 bf).1 8253) 104 = .ok (.iadd, 1) := zd zm_8253 (by decide +kernel)
theorem d_8253_105 {σ : Nat → Nat} {n0 : Nat} {bf : ab_B} : decode (ab_code (zx σ n0 bf).1 8253) 105 = .ok (.baload, 1) := zd zm_8253 (by decide +kernel)
theorem d_8253_106 {σ : Nat → Nat} {n0 : Nat} {bf : ab_B} : decode (ab_code (zx σ n0 bf).1 8253) 106 = .ok (.if_icmp .ne 7, 3) := zd zm_8253 (by decide +kernel)
theorem d_8253_109 {σ : Nat → Nat} {n0 : Nat} {bf : ab_B} : decode (ab_code (zx σ n0 bf).1 8253) 109 = .ok (.iconst 1, 1) := zd zm_8253 (by decide +kernel)
theorem d_8253_110 {σ : Nat → Nat} {n0 : Nat} {bf : ab_B} : decode (ab_code (zx σ n0 bf).1 8253) 110 = .ok (.goto 4, 3) := zd zm_8253 (by decide +kernel)
theorem d_8253_113 {σ : Nat → Nat} {n0 : Nat} {bf : ab_B} : decode (ab_code (zx σ n0 bf).1 8253) 113 = .ok (.iconst 0, 1) := zd zm_8253 (by decide +kernel)
theorem d_8253_114 {σ : Nat → Nat} {n0 : Nat} {bf : ab_B} : decode (ab_code (zx σ n0 bf).1 8253) 114 = .ok (.istore 7, 2) := zd zm_8253 (by decide +kernel)
theorem d_8253_116 {σ : Nat → Nat} {n0 : Nat} {bf : ab_B} : decode (ab_code (zx σ n0 bf).1 8253) 116 = .ok (.iinc 8 1, 3) := zd zm_8253 (by decide +kernel)
theorem d_8253_119 {σ : Nat → Nat} {n0 : Nat} {bf : ab_B} : decode (ab_code (zx σ n0 bf).1 8253) 119 = .ok (.goto (-46), 3) := zd zm_8253 (by decide +kernel)
theorem d_8253_122 {σ : Nat → Nat} {n0 : Nat} {bf : ab_B} : decode (ab_code (zx σ n0 bf).1 8253) 122 = .ok (.iload 7, 2) := zd zm_8253 (by decide +kernel)
theorem d_8253_124 {σ : Nat → Nat} {n0 : Nat} {bf : ab_B} : decode (ab_code (zx σ n0 bf).1 8253) 124 = .ok (.ifCond .eq 10, 3) := zd zm_8253 (by decide +kernel)
theorem d_8253_127 {σ : Nat → Nat} {n0 : Nat} {bf : ab_B} : decode (ab_code (zx σ n0 bf).1 8253) 127 = .ok (.iload 6, 2) := zd zm_8253 (by decide +kernel)
theorem d_8253_129 {σ : Nat → Nat} {n0 : Nat} {bf : ab_B} : decode (ab_code (zx σ n0 bf).1 8253) 129 = .ok (.iconst 1, 1) := zd zm_8253 (by decide +kernel)
theorem d_8253_130 {σ : Nat → Nat} {n0 : Nat} {bf : ab_B} : decode (ab_code (zx σ n0 bf).1 8253) 130 = .ok (.iadd, 1) := zd zm_8253 (by decide +kernel)
theorem d_8253_131 {σ : Nat → Nat} {n0 : Nat} {bf : ab_B} : decode (ab_code (zx σ n0 bf).1 8253) 131 = .ok (.goto 4, 3) := zd zm_8253 (by decide +kernel)
theorem d_8253_134 {σ : Nat → Nat} {n0 : Nat} {bf : ab_B} : decode (ab_code (zx σ n0 bf).1 8253) 134 = .ok (.iconst 0, 1) := zd zm_8253 (by decide +kernel)
theorem d_8253_135 {σ : Nat → Nat} {n0 : Nat} {bf : ab_B} : decode (ab_code (zx σ n0 bf).1 8253) 135 = .ok (.istore 5, 2) := zd zm_8253 (by decide +kernel)
theorem d_8253_137 {σ : Nat → Nat} {n0 : Nat} {bf : ab_B} : decode (ab_code (zx σ n0 bf).1 8253) 137 = .ok (.iinc 6 1, 3) := zd zm_8253 (by decide +kernel)
theorem d_8253_140 {σ : Nat → Nat} {n0 : Nat} {bf : ab_B} : decode (ab_code (zx σ n0 bf).1 8253) 140 = .ok (.goto (-87), 3) := zd zm_8253 (by decide +kernel)
theorem d_8253_143 {σ : Nat → Nat} {n0 : Nat} {bf : ab_B} : decode (ab_code (zx σ n0 bf).1 8253) 143 = .ok (.aload_n 0, 1) := zd zm_8253 (by decide +kernel)
theorem d_8253_144 {σ : Nat → Nat} {n0 : Nat} {bf : ab_B} : decode (ab_code (zx σ n0 bf).1 8253) 144 = .ok (.invokevirtual 1323, 3) := zd zm_8253 (by decide +kernel)
theorem d_8253_147 {σ : Nat → Nat} {n0 : Nat} {bf : ab_B} : decode (ab_code (zx σ n0 bf).1 8253) 147 = .ok (.aload_n 0, 1) := zd zm_8253 (by decide +kernel)
theorem d_8253_148 {σ : Nat → Nat} {n0 : Nat} {bf : ab_B} : decode (ab_code (zx σ n0 bf).1 8253) 148 = .ok (.invokevirtual 1323, 3) := zd zm_8253 (by decide +kernel)
theorem d_8253_151 {σ : Nat → Nat} {n0 : Nat} {bf : ab_B} : decode (ab_code (zx σ n0 bf).1 8253) 151 = .ok (.aload_n 0, 1) := zd zm_8253 (by decide +kernel)
theorem d_8253_152 {σ : Nat → Nat} {n0 : Nat} {bf : ab_B} : decode (ab_code (zx σ n0 bf).1 8253) 152 = .ok (.iload 5, 2) := zd zm_8253 (by decide +kernel)
theorem d_8253_154 {σ : Nat → Nat} {n0 : Nat} {bf : ab_B} : decode (ab_code (zx σ n0 bf).1 8253) 154 = .ok (.i2l, 1) := zd zm_8253 (by decide +kernel)
theorem d_8253_155 {σ : Nat → Nat} {n0 : Nat} {bf : ab_B} : decode (ab_code (zx σ n0 bf).1 8253) 155 = .ok (.invokevirtual 1326, 3) := zd zm_8253 (by decide +kernel)
theorem d_8253_158 {σ : Nat → Nat} {n0 : Nat} {bf : ab_B} : decode (ab_code (zx σ n0 bf).1 8253) 158 = .ok (.return_, 1) := zd zm_8253 (by decide +kernel)
def w_X9_seekText_35 (X : zs_X) (d : Nat) (p0 : Nat) (p1 : Int32) (p2 : Int32) (p3 : Int32) (S : zs_T) (Q : zs_Q) : Prop :=
  (zs_K S p0 = some (.inl 8) ∧ zs_C X d 8223 [.ref p0, .int ((zs_I S 8187 p0) - (1 : Int32))] S (zs_kI (fun v3 S2 => (zs_U X d 8253 53 [(0, .ref p0), (1, .int p1), (2, .int p2), (3, .int p3), (4, .int v3), (5, .int (0 : Int32)), (6, .int (0 : Int32))] [] S2 Q)) Q))
theorem u_X9_seekText_35 {σ : Nat → Nat} {n0 : Nat} {bf : ab_B} {d : Nat} {p0 : Nat} {p1 : Int32} {p2 : Int32} {p3 : Int32} {S : zs_T} {Q : zs_Q} (hB : zt_B bf) (h : w_X9_seekText_35 (zx σ n0 bf) d p0 p1 p2 p3 S Q) : zs_U (zx σ n0 bf) d 8253 35 [(0, .ref p0), (1, .int p1), (2, .int p2), (3, .int p3)] [] S Q := by
  unfold w_X9_seekText_35 at h
  refine zu_aload_n d_8253_35 rfl (zs_ra _) ?_
  refine zu_aload_n d_8253_36 rfl (zs_ra _) ?_
  obtain ⟨k1, h⟩ := h
  refine zg_8_1264 rfl d_8253_37 k1 ?_
  refine zu_iconst d_8253_40 zi_1 ?_
  refine zu_stk d_8253_41 rfl rfl ?_
  refine zc_8_1317 (x0 := ((zs_I S 8187 p0) - (1 : Int32))) hB rfl k1 d_8253_42 (Nat.le_of_ble_eq_true rfl) h (fun v3 S2 h => ?_)
  refine zu_istore d_8253_45 (zs_lt zq_8253 rfl) ?_
  refine zu_iconst d_8253_47 zi_0 ?_
  refine zu_istore d_8253_48 (zs_lt zq_8253 rfl) ?_
  refine zu_iconst d_8253_50 zi_0 ?_
  refine zu_istore d_8253_51 (zs_lt zq_8253 rfl) ?_
  exact h.weak ⟨rfl, rfl, rfl, rfl, rfl, rfl, rfl, trivial⟩
def w_X9_seekText_143 (X : zs_X) (d : Nat) (p0 : Nat) (p5 : Int32) (S : zs_T) (Q : zs_Q) : Prop :=
  (zs_K S p0 = some (.inl 8) ∧ zs_C X d 8228 [.ref p0] S (zs_kV (fun S2 => (zs_K S2 p0 = some (.inl 8) ∧ zs_C X d 8228 [.ref p0] S2 (zs_kV (fun S5 => (zs_K S5 p0 = some (.inl 8) ∧ zs_C X d 8231 [.ref p0, .long ((p5).toInt64)] S5 (zs_kV (fun S8 => (Q (.returned none) S8)) Q))) Q))) Q))
theorem u_X9_seekText_143 {σ : Nat → Nat} {n0 : Nat} {bf : ab_B} {d : Nat} {p0 : Nat} {p5 : Int32} {S : zs_T} {Q : zs_Q} (hB : zt_B bf) (h : w_X9_seekText_143 (zx σ n0 bf) d p0 p5 S Q) : zs_U (zx σ n0 bf) d 8253 143 [(0, .ref p0), (5, .int p5)] [] S Q := by
  unfold w_X9_seekText_143 at h
  refine zu_aload_n d_8253_143 rfl (zs_ra _) ?_
  obtain ⟨k1, h⟩ := h
  refine zc_8_1323  hB rfl k1 d_8253_144 (Nat.le_of_ble_eq_true rfl) h (fun S2 h => ?_)
  refine zu_aload_n d_8253_147 rfl (zs_ra _) ?_
  obtain ⟨k4, h⟩ := h
  refine zc_8_1323  hB rfl k4 d_8253_148 (Nat.le_of_ble_eq_true rfl) h (fun S5 h => ?_)
  refine zu_aload_n d_8253_151 rfl (zs_ra _) ?_
  refine zu_iload d_8253_152 rfl ?_
  refine zu_stk d_8253_154 rfl rfl ?_
  obtain ⟨k7, h⟩ := h
  refine zc_8_1326 (x0 := ((p5).toInt64)) hB rfl k7 d_8253_155 (Nat.le_of_ble_eq_true rfl) h (fun S8 h => ?_)
  exact zu_vret d_8253_158 zr_8253 h
def w_X9_seekText_53 (X : zs_X) (d : Nat) (p0 : Nat) (p1 : Int32) (p2 : Int32) (p3 : Int32) (p4 : Int32) (p5 : Int32) (p6 : Int32) (S : zs_T) (Q : zs_Q) : Prop :=
  (((p2 < (p6 + p4) → w_X9_seekText_143 X d p0 p5 S Q) ∧ (¬ (p2 < (p6 + p4)) → (((¬ p5 = 0 → w_X9_seekText_143 X d p0 p5 S Q) ∧ (¬ (¬ p5 = 0) → (zs_U X d 8253 73 [(0, .ref p0), (1, .int p1), (2, .int p2), (3, .int p3), (4, .int p4), (6, .int p6), (7, .int (1 : Int32)), (8, .int (0 : Int32))] [] S Q)))))))
theorem u_X9_seekText_53 {σ : Nat → Nat} {n0 : Nat} {bf : ab_B} {d : Nat} {p0 : Nat} {p1 : Int32} {p2 : Int32} {p3 : Int32} {p4 : Int32} {p5 : Int32} {p6 : Int32} {S : zs_T} {Q : zs_Q} (hB : zt_B bf) (h : w_X9_seekText_53 (zx σ n0 bf) d p0 p1 p2 p3 p4 p5 p6 S Q) : zs_U (zx σ n0 bf) d 8253 53 [(0, .ref p0), (1, .int p1), (2, .int p2), (3, .int p3), (4, .int p4), (5, .int p5), (6, .int p6)] [] S Q := by
  unfold w_X9_seekText_53 at h
  refine zu_iload d_8253_53 rfl ?_
  refine zu_iload d_8253_55 rfl ?_
  refine zu_stk d_8253_57 rfl rfl ?_
  refine zu_iload_n d_8253_58 rfl ?_
  refine zu_cmpgt (t := 143) d_8253_59 rfl (fun c1 => ?_) (fun c1 => ?_)
  · have h := h.1 c1
    exact (u_X9_seekText_143 hB h).weak ⟨rfl, rfl, trivial⟩
  · have h := h.2 c1
    refine zu_iload d_8253_62 rfl ?_
    refine zu_ifne (t := 143) d_8253_64 rfl (fun c2 => ?_) (fun c2 => ?_)
    · have h := h.1 c2
      exact (u_X9_seekText_143 hB h).weak ⟨rfl, rfl, trivial⟩
    · have h := h.2 c2
      refine zu_iconst d_8253_67 zi_1 ?_
      refine zu_istore d_8253_68 (zs_lt zq_8253 rfl) ?_
      refine zu_iconst d_8253_70 zi_0 ?_
      refine zu_istore d_8253_71 (zs_lt zq_8253 rfl) ?_
      exact h.weak ⟨rfl, rfl, rfl, rfl, rfl, rfl, rfl, rfl, trivial⟩
def w_X9_seekText_122 (X : zs_X) (d : Nat) (p0 : Nat) (p1 : Int32) (p2 : Int32) (p3 : Int32) (p4 : Int32) (p6 : Int32) (p7 : Int32) (S : zs_T) (Q : zs_Q) : Prop :=
  (((p7 = 0 → (zs_U X d 8253 53 [(0, .ref p0), (1, .int p1), (2, .int p2), (3, .int p3), (4, .int p4), (5, .int (0 : Int32)), (6, .int (p6 + (1 : Int32)))] [] S Q)) ∧ (¬ (p7 = 0) → (zs_U X d 8253 53 [(0, .ref p0), (1, .int p1), (2, .int p2), (3, .int p3), (4, .int p4), (5, .int (p6 + (1 : Int32))), (6, .int (p6 + (1 : Int32)))] [] S Q))))
theorem u_X9_seekText_122 {σ : Nat → Nat} {n0 : Nat} {bf : ab_B} {d : Nat} {p0 : Nat} {p1 : Int32} {p2 : Int32} {p3 : Int32} {p4 : Int32} {p6 : Int32} {p7 : Int32} {S : zs_T} {Q : zs_Q} (hB : zt_B bf) (h : w_X9_seekText_122 (zx σ n0 bf) d p0 p1 p2 p3 p4 p6 p7 S Q) : zs_U (zx σ n0 bf) d 8253 122 [(0, .ref p0), (1, .int p1), (2, .int p2), (3, .int p3), (4, .int p4), (6, .int p6), (7, .int p7)] [] S Q := by
  unfold w_X9_seekText_122 at h
  refine zu_iload d_8253_122 rfl ?_
  refine zu_ifeq (t := 134) d_8253_124 rfl (fun c1 => ?_) (fun c1 => ?_)
  · have h := h.1 c1
    refine zu_iconst d_8253_134 zi_0 ?_
    refine zu_istore d_8253_135 (zs_lt zq_8253 rfl) ?_
    refine zu_iinc d_8253_137 rfl zi_1 (zs_lt zq_8253 rfl) ?_
    refine zu_goto (t := 53) d_8253_140 rfl ?_
    exact h.weak ⟨rfl, rfl, rfl, rfl, rfl, rfl, rfl, trivial⟩
  · have h := h.2 c1
    refine zu_iload d_8253_127 rfl ?_
    refine zu_iconst d_8253_129 zi_1 ?_
    refine zu_stk d_8253_130 rfl rfl ?_
    refine zu_goto (t := 135) d_8253_131 rfl ?_
    refine zu_istore d_8253_135 (zs_lt zq_8253 rfl) ?_
    refine zu_iinc d_8253_137 rfl zi_1 (zs_lt zq_8253 rfl) ?_
    refine zu_goto (t := 53) d_8253_140 rfl ?_
    exact h.weak ⟨rfl, rfl, rfl, rfl, rfl, rfl, rfl, trivial⟩
def w_X9_seekText_113 (X : zs_X) (d : Nat) (p0 : Nat) (p1 : Int32) (p2 : Int32) (p3 : Int32) (p4 : Int32) (p6 : Int32) (p8 : Int32) (S : zs_T) (Q : zs_Q) : Prop :=
  (zs_U X d 8253 73 [(0, .ref p0), (1, .int p1), (2, .int p2), (3, .int p3), (4, .int p4), (6, .int p6), (7, .int (0 : Int32)), (8, .int (p8 + (1 : Int32)))] [] S Q)
theorem u_X9_seekText_113 {σ : Nat → Nat} {n0 : Nat} {bf : ab_B} {d : Nat} {p0 : Nat} {p1 : Int32} {p2 : Int32} {p3 : Int32} {p4 : Int32} {p6 : Int32} {p8 : Int32} {S : zs_T} {Q : zs_Q} (hB : zt_B bf) (h : w_X9_seekText_113 (zx σ n0 bf) d p0 p1 p2 p3 p4 p6 p8 S Q) : zs_U (zx σ n0 bf) d 8253 113 [(0, .ref p0), (1, .int p1), (2, .int p2), (3, .int p3), (4, .int p4), (6, .int p6), (8, .int p8)] [] S Q := by
  unfold w_X9_seekText_113 at h
  refine zu_iconst d_8253_113 zi_0 ?_
  refine zu_istore d_8253_114 (zs_lt zq_8253 rfl) ?_
  refine zu_iinc d_8253_116 rfl zi_1 (zs_lt zq_8253 rfl) ?_
  refine zu_goto (t := 73) d_8253_119 rfl ?_
  exact h.weak ⟨rfl, rfl, rfl, rfl, rfl, rfl, rfl, rfl, trivial⟩
def w_X9_seekText_109 (X : zs_X) (d : Nat) (p0 : Nat) (p1 : Int32) (p2 : Int32) (p3 : Int32) (p4 : Int32) (p6 : Int32) (p8 : Int32) (S : zs_T) (Q : zs_Q) : Prop :=
  (zs_U X d 8253 73 [(0, .ref p0), (1, .int p1), (2, .int p2), (3, .int p3), (4, .int p4), (6, .int p6), (7, .int (1 : Int32)), (8, .int (p8 + (1 : Int32)))] [] S Q)
theorem u_X9_seekText_109 {σ : Nat → Nat} {n0 : Nat} {bf : ab_B} {d : Nat} {p0 : Nat} {p1 : Int32} {p2 : Int32} {p3 : Int32} {p4 : Int32} {p6 : Int32} {p8 : Int32} {S : zs_T} {Q : zs_Q} (hB : zt_B bf) (h : w_X9_seekText_109 (zx σ n0 bf) d p0 p1 p2 p3 p4 p6 p8 S Q) : zs_U (zx σ n0 bf) d 8253 109 [(0, .ref p0), (1, .int p1), (2, .int p2), (3, .int p3), (4, .int p4), (6, .int p6), (8, .int p8)] [] S Q := by
  unfold w_X9_seekText_109 at h
  refine zu_iconst d_8253_109 zi_1 ?_
  refine zu_goto (t := 114) d_8253_110 rfl ?_
  refine zu_istore d_8253_114 (zs_lt zq_8253 rfl) ?_
  refine zu_iinc d_8253_116 rfl zi_1 (zs_lt zq_8253 rfl) ?_
  refine zu_goto (t := 73) d_8253_119 rfl ?_
  exact h.weak ⟨rfl, rfl, rfl, rfl, rfl, rfl, rfl, rfl, trivial⟩
def w_X9_seekText_73 (X : zs_X) (d : Nat) (p0 : Nat) (p1 : Int32) (p2 : Int32) (p3 : Int32) (p4 : Int32) (p6 : Int32) (p7 : Int32) (p8 : Int32) (S : zs_T) (Q : zs_Q) : Prop :=
  (((p4 ≤ p8 → w_X9_seekText_122 X d p0 p1 p2 p3 p4 p6 p7 S Q) ∧ (¬ (p4 ≤ p8) → (((p7 = 0 → w_X9_seekText_122 X d p0 p1 p2 p3 p4 p6 p7 S Q) ∧ (¬ (p7 = 0) → (zs_K S p0 = some (.inl 8) ∧ ∃ b4, (zs_R S 8185 p0) = some b4 ∧ zs_A S b4 1 ((p1 + p6) + p8) ∧ zs_A S b4 1 (p3 + p8) ∧ ((¬ (zs_i S b4 ((p1 + p6) + p8).toNatClampNeg) = (zs_i S b4 (p3 + p8).toNatClampNeg) → w_X9_seekText_113 X d p0 p1 p2 p3 p4 p6 p8 S Q) ∧ (¬ (¬ (zs_i S b4 ((p1 + p6) + p8).toNatClampNeg) = (zs_i S b4 (p3 + p8).toNatClampNeg)) → w_X9_seekText_109 X d p0 p1 p2 p3 p4 p6 p8 S Q)))))))))
theorem u_X9_seekText_73 {σ : Nat → Nat} {n0 : Nat} {bf : ab_B} {d : Nat} {p0 : Nat} {p1 : Int32} {p2 : Int32} {p3 : Int32} {p4 : Int32} {p6 : Int32} {p7 : Int32} {p8 : Int32} {S : zs_T} {Q : zs_Q} (hB : zt_B bf) (h : w_X9_seekText_73 (zx σ n0 bf) d p0 p1 p2 p3 p4 p6 p7 p8 S Q) : zs_U (zx σ n0 bf) d 8253 73 [(0, .ref p0), (1, .int p1), (2, .int p2), (3, .int p3), (4, .int p4), (6, .int p6), (7, .int p7), (8, .int p8)] [] S Q := by
  unfold w_X9_seekText_73 at h
  refine zu_iload d_8253_73 rfl ?_
  refine zu_iload d_8253_75 rfl ?_
  refine zu_cmpge (t := 122) d_8253_77 rfl (fun c1 => ?_) (fun c1 => ?_)
  · have h := h.1 c1
    exact (u_X9_seekText_122 hB h).weak ⟨rfl, rfl, rfl, rfl, rfl, rfl, rfl, trivial⟩
  · have h := h.2 c1
    refine zu_iload d_8253_80 rfl ?_
    refine zu_ifeq (t := 122) d_8253_82 rfl (fun c2 => ?_) (fun c2 => ?_)
    · have h := h.1 c2
      exact (u_X9_seekText_122 hB h).weak ⟨rfl, rfl, rfl, rfl, rfl, rfl, rfl, trivial⟩
    · have h := h.2 c2
      refine zu_aload_n d_8253_85 rfl (zs_ra _) ?_
      obtain ⟨k3, h⟩ := h
      refine zg_8_402 rfl d_8253_86 k3 ?_
      refine zu_iload_n d_8253_89 rfl ?_
      refine zu_iload d_8253_90 rfl ?_
      refine zu_stk d_8253_92 rfl rfl ?_
      refine zu_iload d_8253_93 rfl ?_
      refine zu_stk d_8253_95 rfl rfl ?_
      obtain ⟨b4, e5, h⟩ := h
      refine zs_stk1 (zs_rfe e5) ?_
      obtain ⟨k6, h⟩ := h
      refine zu_bald (k := 1) d_8253_96 rfl (Or.inl rfl) k6 ?_
      refine zu_aload_n d_8253_97 rfl (zs_ra _) ?_
      refine zg_8_402 rfl d_8253_98 k3 ?_
      refine zu_iload_n d_8253_101 rfl ?_
      refine zu_iload d_8253_102 rfl ?_
      refine zu_stk d_8253_104 rfl rfl ?_
      refine zs_stk1 (zs_rfe e5) ?_
      obtain ⟨k7, h⟩ := h
      refine zu_bald (k := 1) d_8253_105 rfl (Or.inl rfl) k7 ?_
      refine zu_cmpne (t := 113) d_8253_106 rfl (fun c8 => ?_) (fun c8 => ?_)
      · have h := h.1 c8
        exact (u_X9_seekText_113 hB h).weak ⟨rfl, rfl, rfl, rfl, rfl, rfl, rfl, trivial⟩
      · have h := h.2 c8
        exact (u_X9_seekText_109 hB h).weak ⟨rfl, rfl, rfl, rfl, rfl, rfl, rfl, trivial⟩
def w_X9_seekText (X : zs_X) (d : Nat) (p0 : Nat) (S : zs_T) (Q : zs_Q) : Prop :=
  (zs_K S p0 = some (.inl 8) ∧ ∃ b2, (zs_R S 8186 p0) = some b2 ∧ zs_A S b2 0 ((zs_I S 8187 p0) - (2 : Int32)) ∧ zs_C X d 8223 [.ref p0, .int ((zs_I S 8187 p0) - (2 : Int32))] S (zs_kI (fun v6 S5 => (zs_K S5 p0 = some (.inl 8) ∧ ∃ b8, (zs_R S5 8186 p0) = some b8 ∧ zs_A S5 b8 0 ((zs_I S5 8187 p0) - (1 : Int32)) ∧ w_X9_seekText_35 X d p0 (zs_i S b2 ((zs_I S 8187 p0) - (2 : Int32)).toNatClampNeg) v6 (zs_i S5 b8 ((zs_I S5 8187 p0) - (1 : Int32)).toNatClampNeg) S5 Q)) Q))
theorem u_X9_seekText {σ : Nat → Nat} {n0 : Nat} {bf : ab_B} {d : Nat} {p0 : Nat} {S : zs_T} {Q : zs_Q} (hB : zt_B bf) (hd : 1 ≤ d) (h : w_X9_seekText (zx σ n0 bf) (d - 1) p0 S Q) : zs_C (zx σ n0 bf) d 8253 [.ref p0] S Q := by
  have hL : lv_args 0 [.ref p0] = [(0, .ref p0)] := rfl
  refine zs_C.of1 (hB.2 8253 (by decide) (by decide)) hd (by rw [hL]; exact zs_sub_self _ (by exact ⟨rfl, trivial⟩)) ?_
  rw [hL]
  clear hL
  unfold w_X9_seekText at h
  refine zu_aload_n d_8253_0 rfl (zs_ra _) ?_
  obtain ⟨k1, h⟩ := h
  refine zg_8_405 rfl d_8253_1 k1 ?_
  refine zu_aload_n d_8253_4 rfl (zs_ra _) ?_
  refine zg_8_1264 rfl d_8253_5 k1 ?_
  refine zu_iconst d_8253_8 zi_2 ?_
  refine zu_stk d_8253_9 rfl rfl ?_
  obtain ⟨b2, e3, h⟩ := h
  refine zs_stk1 (zs_rfe e3) ?_
  obtain ⟨k4, h⟩ := h
  refine zu_iald (k := 0) d_8253_10 rfl rfl k4 ?_
  refine zu_istore_n d_8253_11 (zs_lt zq_8253 rfl) ?_
  refine zu_aload_n d_8253_12 rfl (zs_ra _) ?_
  refine zu_aload_n d_8253_13 rfl (zs_ra _) ?_
  refine zg_8_1264 rfl d_8253_14 k1 ?_
  refine zu_iconst d_8253_17 zi_2 ?_
  refine zu_stk d_8253_18 rfl rfl ?_
  refine zc_8_1317 (x0 := ((zs_I S 8187 p0) - (2 : Int32))) hB rfl k1 d_8253_19 (Nat.le_of_ble_eq_true rfl) h (fun v6 S5 h => ?_)
  refine zu_istore_n d_8253_22 (zs_lt zq_8253 rfl) ?_
  refine zu_aload_n d_8253_23 rfl (zs_ra _) ?_
  obtain ⟨k7, h⟩ := h
  refine zg_8_405 rfl d_8253_24 k7 ?_
  refine zu_aload_n d_8253_27 rfl (zs_ra _) ?_
  refine zg_8_1264 rfl d_8253_28 k7 ?_
  refine zu_iconst d_8253_31 zi_1 ?_
  refine zu_stk d_8253_32 rfl rfl ?_
  obtain ⟨b8, e9, h⟩ := h
  refine zs_stk1 (zs_rfe e9) ?_
  obtain ⟨k10, h⟩ := h
  refine zu_iald (k := 0) d_8253_33 rfl rfl k10 ?_
  refine zu_istore_n d_8253_34 (zs_lt zq_8253 rfl) ?_
  exact (u_X9_seekText_35 hB h).weak ⟨rfl, rfl, rfl, rfl, trivial⟩
/-! SchemaPascalModel.cutText(I)V -/
theorem zm_8254 {σ : Nat → Nat} {n0 : Nat} {bf : ab_B} : ab_code (zx σ n0 bf).1 8254 = prog_17_method_262_code := rfl
theorem zq_8254 {σ : Nat → Nat} {n0 : Nat} {bf : ab_B} : ab_maxL (zx σ n0 bf).1 8254 = 9 := rfl
theorem zr_8254 {σ : Nat → Nat} {n0 : Nat} {bf : ab_B} : ab_ret (zx σ n0 bf).1 8254 = (Option.none : Option Jvm.ClassFile.FieldType) := rfl
theorem d_8254_0 {σ : Nat → Nat} {n0 : Nat} {bf : ab_B} : decode (ab_code (zx σ n0 bf).1 8254) 0 = .ok (.aload_n 0, 1) := zd zm_8254 (by decide +kernel)
theorem d_8254_1 {σ : Nat → Nat} {n0 : Nat} {bf : ab_B} : decode (ab_code (zx σ n0 bf).1 8254) 1 = .ok (.invokevirtual 1307, 3) := zd zm_8254 (by decide +kernel)
theorem d_8254_4 {σ : Nat → Nat} {n0 : Nat} {bf : ab_B} : decode (ab_code (zx σ n0 bf).1 8254) 4 = .ok (.lstore_n 2, 1) := zd zm_8254 (by decide +kernel)
theorem d_8254_5 {σ : Nat → Nat} {n0 : Nat} {bf : ab_B} : decode (ab_code (zx σ n0 bf).1 8254) 5 = .ok (.aload_n 0, 1) := zd zm_8254 (by decide +kernel)
theorem d_8254_6 {σ : Nat → Nat} {n0 : Nat} {bf : ab_B} : decode (ab_code (zx σ n0 bf).1 8254) 6 = .ok (.invokevirtual 1307, 3) := zd zm_8254 (by decide +kernel)
theorem d_8254_9 {σ : Nat → Nat} {n0 : Nat} {bf : ab_B} : decode (ab_code (zx σ n0 bf).1 8254) 9 = .ok (.lstore 4, 2) := zd zm_8254 (by decide +kernel)
theorem d_8254_11 {σ : Nat → Nat} {n0 : Nat} {bf : ab_B} : decode (ab_code (zx σ n0 bf).1 8254) 11 = .ok (.aload_n 0, 1) := zd zm_8254 (by decide +kernel)
theorem d_8254_12 {σ : Nat → Nat} {n0 : Nat} {bf : ab_B} : decode (ab_code (zx σ n0 bf).1 8254) 12 = .ok (.aload_n 0, 1) := zd zm_8254 (by decide +kernel)
theorem d_8254_13 {σ : Nat → Nat} {n0 : Nat} {bf : ab_B} : decode (ab_code (zx σ n0 bf).1 8254) 13 = .ok (.getfield 1264, 3) := zd zm_8254 (by decide +kernel)
theorem d_8254_16 {σ : Nat → Nat} {n0 : Nat} {bf : ab_B} : decode (ab_code (zx σ n0 bf).1 8254) 16 = .ok (.iconst 1, 1) := zd zm_8254 (by decide +kernel)
theorem d_8254_17 {σ : Nat → Nat} {n0 : Nat} {bf : ab_B} : decode (ab_code (zx σ n0 bf).1 8254) 17 = .ok (.isub, 1) := zd zm_8254 (by decide +kernel)
theorem d_8254_18 {σ : Nat → Nat} {n0 : Nat} {bf : ab_B} : decode (ab_code (zx σ n0 bf).1 8254) 18 = .ok (.invokevirtual 1317, 3) := zd zm_8254 (by decide +kernel)
theorem d_8254_21 {σ : Nat → Nat} {n0 : Nat} {bf : ab_B} : decode (ab_code (zx σ n0 bf).1 8254) 21 = .ok (.istore 6, 2) := zd zm_8254 (by decide +kernel)
theorem d_8254_23 {σ : Nat → Nat} {n0 : Nat} {bf : ab_B} : decode (ab_code (zx σ n0 bf).1 8254) 23 = .ok (.lload 4, 2) := zd zm_8254 (by decide +kernel)
theorem d_8254_25 {σ : Nat → Nat} {n0 : Nat} {bf : ab_B} : decode (ab_code (zx σ n0 bf).1 8254) 25 = .ok (.lconst 1, 1) := zd zm_8254 (by decide +kernel)
theorem d_8254_26 {σ : Nat → Nat} {n0 : Nat} {bf : ab_B} : decode (ab_code (zx σ n0 bf).1 8254) 26 = .ok (.lcmp, 1) := zd zm_8254 (by decide +kernel)
theorem d_8254_27 {σ : Nat → Nat} {n0 : Nat} {bf : ab_B} : decode (ab_code (zx σ n0 bf).1 8254) 27 = .ok (.ifCond .lt 22, 3) := zd zm_8254 (by decide +kernel)
theorem d_8254_30 {σ : Nat → Nat} {n0 : Nat} {bf : ab_B} : decode (ab_code (zx σ n0 bf).1 8254) 30 = .ok (.lload_n 2, 1) := zd zm_8254 (by decide +kernel)
theorem d_8254_31 {σ : Nat → Nat} {n0 : Nat} {bf : ab_B} : decode (ab_code (zx σ n0 bf).1 8254) 31 = .ok (.lconst 0, 1) := zd zm_8254 (by decide +kernel)
theorem d_8254_32 {σ : Nat → Nat} {n0 : Nat} {bf : ab_B} : decode (ab_code (zx σ n0 bf).1 8254) 32 = .ok (.lcmp, 1) := zd zm_8254 (by decide +kernel)
theorem d_8254_33 {σ : Nat → Nat} {n0 : Nat} {bf : ab_B} : decode (ab_code (zx σ n0 bf).1 8254) 33 = .ok (.ifCond .lt 16, 3) := zd zm_8254 (by decide +kernel)
theorem d_8254_36 {σ : Nat → Nat} {n0 : Nat} {bf : ab_B} : decode (ab_code (zx σ n0 bf).1 8254) 36 = .ok (.lload 4, 2) := zd zm_8254 (by decide +kernel)
theorem d_8254_38 {σ : Nat → Nat} {n0 : Nat} {bf : ab_B} : decode (ab_code (zx σ n0 bf).1 8254) 38 = .ok (.lconst 1, 1) := zd zm_8254 (by decide +kernel)
theorem d_8254_39 {σ : Nat → Nat} {n0 : Nat} {bf : ab_B} : decode (ab_code (zx σ n0 bf).1 8254) 39 = .ok (.lsub, 1) := zd zm_8254 (by decide +kernel)
theorem d_8254_40 {σ : Nat → Nat} {n0 : Nat} {bf : ab_B} : decode (ab_code (zx σ n0 bf).1 8254) 40 = .ok (.lload_n 2, 1) := zd zm_8254 (by decide +kernel)
theorem d_8254_41 {σ : Nat → Nat} {n0 : Nat} {bf : ab_B} : decode (ab_code (zx σ n0 bf).1 8254) 41 = .ok (.ladd, 1) := zd zm_8254 (by decide +kernel)
theorem d_8254_42 {σ : Nat → Nat} {n0 : Nat} {bf : ab_B} : decode (ab_code (zx σ n0 bf).1 8254) 42 = .ok (.iload 6, 2) := zd zm_8254 (by decide +kernel)
theorem d_8254_44 {σ : Nat → Nat} {n0 : Nat} {bf : ab_B} : decode (ab_code (zx σ n0 bf).1 8254) 44 = .ok (.i2l, 1) := zd zm_8254 (by decide +kernel)
theorem d_8254_45 {σ : Nat → Nat} {n0 : Nat} {bf : ab_B} : decode (ab_code (zx σ n0 bf).1 8254) 45 = .ok (.lcmp, 1) := zd zm_8254 (by decide +kernel)
theorem d_8254_46 {σ : Nat → Nat} {n0 : Nat} {bf : ab_B} : decode (ab_code (zx σ n0 bf).1 8254) 46 = .ok (.ifCond .le 10, 3) := zd zm_8254 (by decide +kernel)
theorem d_8254_49 {σ : Nat → Nat} {n0 : Nat} {bf : ab_B} : decode (ab_code (zx σ n0 bf).1 8254) 49 = .ok (.aload_n 0, 1) := zd zm_8254 (by decide +kernel)
theorem d_8254_50 {σ : Nat → Nat} {n0 : Nat} {bf : ab_B} : decode (ab_code (zx σ n0 bf).1 8254) 50 = .ok (.iconst 2, 1) := zd zm_8254 (by decide +kernel)
theorem d_8254_51 {σ : Nat → Nat} {n0 : Nat} {bf : ab_B} : decode (ab_code (zx σ n0 bf).1 8254) 51 = .ok (.iload_n 1, 1) := zd zm_8254 (by decide +kernel)
theorem d_8254_52 {σ : Nat → Nat} {n0 : Nat} {bf : ab_B} : decode (ab_code (zx σ n0 bf).1 8254) 52 = .ok (.invokevirtual 1297, 3) := zd zm_8254 (by decide +kernel)
theorem d_8254_55 {σ : Nat → Nat} {n0 : Nat} {bf : ab_B} : decode (ab_code (zx σ n0 bf).1 8254) 55 = .ok (.return_, 1) := zd zm_8254 (by decide +kernel)
theorem d_8254_56 {σ : Nat → Nat} {n0 : Nat} {bf : ab_B} : decode (ab_code (zx σ n0 bf).1 8254) 56 = .ok (.aload_n 0, 1) := zd zm_8254 (by decide +kernel)
theorem d_8254_57 {σ : Nat → Nat} {n0 : Nat} {bf : ab_B} : decode (ab_code (zx σ n0 bf).1 8254) 57 = .ok (.getfield 405, 3) := zd zm_8254 (by decide +kernel)
theorem d_8254_60 {σ : Nat → Nat} {n0 : Nat} {bf : ab_B} : decode (ab_code (zx σ n0 bf).1 8254) 60 = .ok (.aload_n 0, 1) := zd zm_8254 (by decide +kernel)
theorem d_8254_61 {σ : Nat → Nat} {n0 : Nat} {bf : ab_B} : decode (ab_code (zx σ n0 bf).1 8254) 61 = .ok (.getfield 1264, 3) := zd zm_8254 (by decide +kernel)
theorem d_8254_64 {σ : Nat → Nat} {n0 : Nat} {bf : ab_B} : decode (ab_code (zx σ n0 bf).1 8254) 64 = .ok (.iconst 1, 1) := zd zm_8254 (by decide +kernel)
theorem d_8254_65 {σ : Nat → Nat} {n0 : Nat} {bf : ab_B} : decode (ab_code (zx σ n0 bf).1 8254) 65 = .ok (.isub, 1) := zd zm_8254 (by decide +kernel)
theorem d_8254_66 {σ : Nat → Nat} {n0 : Nat} {bf : ab_B} : decode (ab_code (zx σ n0 bf).1 8254) 66 = .ok (.iaload, 1) := zd zm_8254 (by decide +kernel)
theorem d_8254_67 {σ : Nat → Nat} {n0 : Nat} {bf : ab_B} : decode (ab_code (zx σ n0 bf).1 8254) 67 = .ok (.istore 7, 2) := zd zm_8254 (by decide +kernel)
theorem d_8254_69 {σ : Nat → Nat} {n0 : Nat} {bf : ab_B} : decode (ab_code (zx σ n0 bf).1 8254) 69 = .ok (.iconst 0, 1) := zd zm_8254 (by decide +kernel)
theorem d_8254_70 {σ : Nat → Nat} {n0 : Nat} {bf : ab_B} : decode (ab_code (zx σ n0 bf).1 8254) 70 = .ok (.istore 8, 2) := zd zm_8254 (by decide +kernel)
theorem d_8254_72 {σ : Nat → Nat} {n0 : Nat} {bf : ab_B} : decode (ab_code (zx σ n0 bf).1 8254) 72 = .ok (.iload 8, 2) := zd zm_8254 (by decide +kernel)
theorem d_8254_74 {σ : Nat → Nat} {n0 : Nat} {bf : ab_B} : decode (ab_code (zx σ n0 bf).1 8254) 74 = .ok (.i2l, 1) := zd zm_8254 (by decide +kernel)
theorem d_8254_75 {σ : Nat → Nat} {n0 : Nat} {bf : ab_B} : decode (ab_code (zx σ n0 bf).1 8254) 75 = .ok (.lload_n 2, 1) := zd zm_8254 (by decide +kernel)
theorem d_8254_76 {σ : Nat → Nat} {n0 : Nat} {bf : ab_B} : decode (ab_code (zx σ n0 bf).1 8254) 76 = .ok (.lcmp, 1) := zd zm_8254 (by decide +kernel)
theorem d_8254_77 {σ : Nat → Nat} {n0 : Nat} {bf : ab_B} : decode (ab_code (zx σ n0 bf).1 8254) 77 = .ok (.ifCond .ge 35, 3) := zd zm_8254 (by decide +kernel)
theorem d_8254_80 {σ : Nat → Nat} {n0 : Nat} {bf : ab_B} : decode (ab_code (zx σ n0 bf).1 8254) 80 = .ok (.aload_n 0, 1) := zd zm_8254 (by decide +kernel)
theorem d_8254_81 {σ : Nat → Nat} {n0 : Nat} {bf : ab_B} : decode (ab_code (zx σ n0 bf).1 8254) 81 = .ok (.getfield 402, 3) := zd zm_8254 (by decide +kernel)
theorem d_8254_84 {σ : Nat → Nat} {n0 : Nat} {bf : ab_B} : decode (ab_code (zx σ n0 bf).1 8254) 84 = .ok (.iload 7, 2) := zd zm_8254 (by decide +kernel)
theorem d_8254_86 {σ : Nat → Nat} {n0 : Nat} {bf : ab_B} : decode (ab_code (zx σ n0 bf).1 8254) 86 = .ok (.iload 8, 2) := zd zm_8254 (by decide +kernel)
theorem d_8254_88 {σ : Nat → Nat} {n0 : Nat} {bf : ab_B} : decode (ab_code (zx σ n0 bf).1 8254) 88 = .ok (.iadd, 1) := zd zm_8254 (by decide +kernel)
theorem d_8254_89 {σ : Nat → Nat} {n0 : Nat} {bf : ab_B} : decode (ab_code (zx σ n0 bf).1 8254) 89 = .ok (.aload_n 0, 1) := zd zm_8254 (by decide +kernel)
theorem d_8254_90 {σ : Nat → Nat} {n0 : Nat} {bf : ab_B} : decode (ab_code (zx σ n0 bf).1 8254) 90 = .ok (.getfield 402, 3) := zd zm_8254 (by decide +kernel)
theorem d_8254_93 {σ : Nat → Nat} {n0 : Nat} {bf : ab_B} : decode (ab_code (zx σ n0 bf).1 8254) 93 = .ok (.iload 7, 2) := zd zm_8254 (by decide +kernel)
theorem d_8254_95 {σ : Nat → Nat} {n0 : Nat} {bf : ab_B} : decode (ab_code (zx σ n0 bf).1 8254) 95 = .ok (.lload 4, 2) := zd zm_8254 (by decide +kernel)
theorem d_8254_97 {σ : Nat → Nat} {n0 : Nat} {bf : ab_B} : decode (ab_code (zx σ n0 bf).1 8254) 97 = .ok (.l2i, 1) := zd zm_8254 (by decide +kernel)
theorem d_8254_98 {σ : Nat → Nat} {n0 : Nat} {bf : ab_B} : decode (ab_code (zx σ n0 bf).1 8254) 98 = .ok (.iadd, 1) := zd zm_8254 (by decide +kernel)
theorem d_8254_99 {σ : Nat → Nat} {n0 : Nat} {bf : ab_B} : decode (ab_code (zx σ n0 bf).1 8254) 99 = .ok (.iconst 1, 1) := zd zm_8254 (by decide +kernel)
theorem d_8254_100 {σ : Nat → Nat} {n0 : Nat} {bf : ab_B} : decode (ab_code (zx σ n0 bf).1 8254) 100 = .ok (.isub, 1) := zd zm_8254 (by decide +kernel)
theorem d_8254_101 {σ : Nat → Nat} {n0 : Nat} {bf : ab_B} : decode (ab_code (zx σ n0 bf).1 8254) 101 = .ok (.iload 8, 2) := zd zm_8254 (by decide +kernel)
theorem d_8254_103 {σ : Nat → Nat} {n0 : Nat} {bf : ab_B} : decode (ab_code (zx σ n0 bf).1 8254) 103 = .ok (.iadd, 1) := zd zm_8254 (by decide +kernel)
theorem d_8254_104 {σ : Nat → Nat} {n0 : Nat} {bf : ab_B} : decode (ab_code (zx σ n0 bf).1 8254) 104 = .ok (.baload, 1) := zd zm_8254 (by decide +kernel)
theorem d_8254_105 {σ : Nat → Nat} {n0 : Nat} {bf : ab_B} : decode (ab_code (zx σ n0 bf).1 8254) 105 = .ok (.bastore, 1) := zd zm_8254 (by decide +kernel)
theorem d_8254_106 {σ : Nat → Nat} {n0 : Nat} {bf : ab_B} : decode (ab_code (zx σ n0 bf).1 8254) 106 = .ok (.iinc 8 1, 3) := zd zm_8254 (by decide +kernel)
theorem d_8254_109 {σ : Nat → Nat} {n0 : Nat} {bf : ab_B} : decode (ab_code (zx σ n0 bf).1 8254) 109 = .ok (.goto (-37), 3) := zd zm_8254 (by decide +kernel)
theorem d_8254_112 {σ : Nat → Nat} {n0 : Nat} {bf : ab_B} : decode (ab_code (zx σ n0 bf).1 8254) 112 = .ok (.aload_n 0, 1) := zd zm_8254 (by decide +kernel)
theorem d_8254_113 {σ : Nat → Nat} {n0 : Nat} {bf : ab_B} : decode (ab_code (zx σ n0 bf).1 8254) 113 = .ok (.iload 7, 2) := zd zm_8254 (by decide +kernel)
theorem d_8254_115 {σ : Nat → Nat} {n0 : Nat} {bf : ab_B} : decode (ab_code (zx σ n0 bf).1 8254) 115 = .ok (.lload_n 2, 1) := zd zm_8254 (by decide +kernel)
theorem d_8254_116 {σ : Nat → Nat} {n0 : Nat} {bf : ab_B} : decode (ab_code (zx σ n0 bf).1 8254) 116 = .ok (.l2i, 1) := zd zm_8254 (by decide +kernel)
theorem d_8254_117 {σ : Nat → Nat} {n0 : Nat} {bf : ab_B} : decode (ab_code (zx σ n0 bf).1 8254) 117 = .ok (.iadd, 1) := zd zm_8254 (by decide +kernel)
theorem d_8254_118 {σ : Nat → Nat} {n0 : Nat} {bf : ab_B} : decode (ab_code (zx σ n0 bf).1 8254) 118 = .ok (.putfield 1267, 3) := zd zm_8254 (by decide +kernel)
theorem d_8254_121 {σ : Nat → Nat} {n0 : Nat} {bf : ab_B} : decode (ab_code (zx σ n0 bf).1 8254) 121 = .ok (.return_, 1) := zd zm_8254 (by decide +kernel)
def w_X9_cutText_49 (X : zs_X) (d : Nat) (p0 : Nat) (p1 : Int32) (S : zs_T) (Q : zs_Q) : Prop :=
  (zs_K S p0 = some (.inl 8) ∧ zs_C X d 8208 [.ref p0, .int (2 : Int32), .int p1] S (zs_kV (fun S2 => (Q (.returned none) S2)) Q))
theorem u_X9_cutText_49 {σ : Nat → Nat} {n0 : Nat} {bf : ab_B} {d : Nat} {p0 : Nat} {p1 : Int32} {S : zs_T} {Q : zs_Q} (hB : zt_B bf) (h : w_X9_cutText_49 (zx σ n0 bf) d p0 p1 S Q) : zs_U (zx σ n0 bf) d 8254 49 [(0, .ref p0), (1, .int p1)] [] S Q := by
  unfold w_X9_cutText_49 at h
  refine zu_aload_n d_8254_49 rfl (zs_ra _) ?_
  refine zu_iconst d_8254_50 zi_2 ?_
  refine zu_iload_n d_8254_51 rfl ?_
  obtain ⟨k1, h⟩ := h
  refine zc_8_1297 (x0 := (2 : Int32)) (x1 := p1) hB rfl k1 d_8254_52 (Nat.le_of_ble_eq_true rfl) h (fun S2 h => ?_)
  exact zu_vret d_8254_55 zr_8254 h
def w_X9_cutText_69 (X : zs_X) (d : Nat) (p0 : Nat) (p2 : Int64) (p4 : Int64) (p7 : Int32) (S : zs_T) (Q : zs_Q) : Prop :=
  (zs_U X d 8254 72 [(0, .ref p0), (2, .long p2), (4, .long p4), (7, .int p7), (8, .int (0 : Int32))] [] S Q)
theorem u_X9_cutText_69 {σ : Nat → Nat} {n0 : Nat} {bf : ab_B} {d : Nat} {p0 : Nat} {p2 : Int64} {p4 : Int64} {p7 : Int32} {S : zs_T} {Q : zs_Q} (hB : zt_B bf) (h : w_X9_cutText_69 (zx σ n0 bf) d p0 p2 p4 p7 S Q) : zs_U (zx σ n0 bf) d 8254 69 [(0, .ref p0), (2, .long p2), (4, .long p4), (7, .int p7)] [] S Q := by
  unfold w_X9_cutText_69 at h
  refine zu_iconst d_8254_69 zi_0 ?_
  refine zu_istore d_8254_70 (zs_lt zq_8254 rfl) ?_
  exact h.weak ⟨rfl, rfl, rfl, rfl, rfl, trivial⟩
def w_X9_cutText_30 (X : zs_X) (d : Nat) (p0 : Nat) (p1 : Int32) (p2 : Int64) (p4 : Int64) (p6 : Int32) (S : zs_T) (Q : zs_Q) : Prop :=
  (((p2 < (0 : Int64) → w_X9_cutText_49 X d p0 p1 S Q) ∧ (¬ (p2 < (0 : Int64)) → (((((p4 - (1 : Int64)) + p2) ≤ ((p6).toInt64) → (zs_K S p0 = some (.inl 8) ∧ ∃ b4, (zs_R S 8186 p0) = some b4 ∧ zs_A S b4 0 ((zs_I S 8187 p0) - (1 : Int32)) ∧ w_X9_cutText_69 X d p0 p2 p4 (zs_i S b4 ((zs_I S 8187 p0) - (1 : Int32)).toNatClampNeg) S Q)) ∧ (¬ (((p4 - (1 : Int64)) + p2) ≤ ((p6).toInt64)) → w_X9_cutText_49 X d p0 p1 S Q))))))
theorem u_X9_cutText_30 {σ : Nat → Nat} {n0 : Nat} {bf : ab_B} {d : Nat} {p0 : Nat} {p1 : Int32} {p2 : Int64} {p4 : Int64} {p6 : Int32} {S : zs_T} {Q : zs_Q} (hB : zt_B bf) (h : w_X9_cutText_30 (zx σ n0 bf) d p0 p1 p2 p4 p6 S Q) : zs_U (zx σ n0 bf) d 8254 30 [(0, .ref p0), (1, .int p1), (2, .long p2), (4, .long p4), (6, .int p6)] [] S Q := by
  unfold w_X9_cutText_30 at h
  refine zu_lload_n d_8254_30 rfl ?_
  refine zu_lconst (v := 0) d_8254_31 rfl ?_
  refine zu_llt (t := 49) d_8254_32 d_8254_33 rfl (fun c1 => ?_) (fun c1 => ?_)
  · have h := h.1 c1
    exact (u_X9_cutText_49 hB h).weak ⟨rfl, rfl, trivial⟩
  · have h := h.2 c1
    refine zu_lload d_8254_36 rfl ?_
    refine zu_lconst (v := 1) d_8254_38 rfl ?_
    refine zu_stk d_8254_39 rfl rfl ?_
    refine zu_lload_n d_8254_40 rfl ?_
    refine zu_stk d_8254_41 rfl rfl ?_
    refine zu_iload d_8254_42 rfl ?_
    refine zu_stk d_8254_44 rfl rfl ?_
    refine zu_lle (t := 56) d_8254_45 d_8254_46 rfl (fun c2 => ?_) (fun c2 => ?_)
    · have h := h.1 c2
      refine zu_aload_n d_8254_56 rfl (zs_ra _) ?_
      obtain ⟨k3, h⟩ := h
      refine zg_8_405 rfl d_8254_57 k3 ?_
      refine zu_aload_n d_8254_60 rfl (zs_ra _) ?_
      refine zg_8_1264 rfl d_8254_61 k3 ?_
      refine zu_iconst d_8254_64 zi_1 ?_
      refine zu_stk d_8254_65 rfl rfl ?_
      obtain ⟨b4, e5, h⟩ := h
      refine zs_stk1 (zs_rfe e5) ?_
      obtain ⟨k6, h⟩ := h
      refine zu_iald (k := 0) d_8254_66 rfl rfl k6 ?_
      refine zu_istore d_8254_67 (zs_lt zq_8254 rfl) ?_
      exact (u_X9_cutText_69 hB h).weak ⟨rfl, rfl, rfl, rfl, trivial⟩
    · have h := h.2 c2
      exact (u_X9_cutText_49 hB h).weak ⟨rfl, rfl, trivial⟩
def w_X9_cutText_106 (X : zs_X) (d : Nat) (p0 : Nat) (p2 : Int64) (p4 : Int64) (p7 : Int32) (p8 : Int32) (S : zs_T) (Q : zs_Q) : Prop :=
  (zs_U X d 8254 72 [(0, .ref p0), (2, .long p2), (4, .long p4), (7, .int p7), (8, .int (p8 + (1 : Int32)))] [] S Q)
theorem u_X9_cutText_106 {σ : Nat → Nat} {n0 : Nat} {bf : ab_B} {d : Nat} {p0 : Nat} {p2 : Int64} {p4 : Int64} {p7 : Int32} {p8 : Int32} {S : zs_T} {Q : zs_Q} (hB : zt_B bf) (h : w_X9_cutText_106 (zx σ n0 bf) d p0 p2 p4 p7 p8 S Q) : zs_U (zx σ n0 bf) d 8254 106 [(0, .ref p0), (2, .long p2), (4, .long p4), (7, .int p7), (8, .int p8)] [] S Q := by
  unfold w_X9_cutText_106 at h
  refine zu_iinc d_8254_106 rfl zi_1 (zs_lt zq_8254 rfl) ?_
  refine zu_goto (t := 72) d_8254_109 rfl ?_
  exact h.weak ⟨rfl, rfl, rfl, rfl, rfl, trivial⟩
def w_X9_cutText_72 (X : zs_X) (d : Nat) (p0 : Nat) (p2 : Int64) (p4 : Int64) (p7 : Int32) (p8 : Int32) (S : zs_T) (Q : zs_Q) : Prop :=
  (((p2 ≤ ((p8).toInt64) → (zs_K S p0 = some (.inl 8) ∧ ab_n0 X.1 ≤ p0 ∧ ∀ S4, S4 = zs_sI S 8188 p0 (p7 + ((p2).toInt32)) → Q (.returned none) S4)) ∧ (¬ (p2 ≤ ((p8).toInt64)) → (zs_K S p0 = some (.inl 8) ∧ ∃ b8, (zs_R S 8185 p0) = some b8 ∧ zs_A S b8 1 (((p7 + ((p4).toInt32)) - (1 : Int32)) + p8) ∧ zs_A S b8 1 (p7 + p8) ∧ ab_n0 X.1 ≤ b8 ∧ ∀ S13, S13 = zs_si S b8 (p7 + p8).toNatClampNeg (vp_nar .byte (zs_i S b8 (((p7 + ((p4).toInt32)) - (1 : Int32)) + p8).toNatClampNeg)) → w_X9_cutText_106 X d p0 p2 p4 p7 p8 S13 Q))))
theorem u_X9_cutText_72 {σ : Nat → Nat} {n0 : Nat} {bf : ab_B} {d : Nat} {p0 : Nat} {p2 : Int64} {p4 : Int64} {p7 : Int32} {p8 : Int32} {S : zs_T} {Q : zs_Q} (hB : zt_B bf) (h : w_X9_cutText_72 (zx σ n0 bf) d p0 p2 p4 p7 p8 S Q) : zs_U (zx σ n0 bf) d 8254 72 [(0, .ref p0), (2, .long p2), (4, .long p4), (7, .int p7), (8, .int p8)] [] S Q := by
  unfold w_X9_cutText_72 at h
  refine zu_iload d_8254_72 rfl ?_
  refine zu_stk d_8254_74 rfl rfl ?_
  refine zu_lload_n d_8254_75 rfl ?_
  refine zu_lge (t := 112) d_8254_76 d_8254_77 rfl (fun c1 => ?_) (fun c1 => ?_)
  · have h := h.1 c1
    refine zu_aload_n d_8254_112 rfl (zs_ra _) ?_
    refine zu_iload d_8254_113 rfl ?_
    refine zu_lload_n d_8254_115 rfl ?_
    refine zu_stk d_8254_116 rfl rfl ?_
    refine zu_stk d_8254_117 rfl rfl ?_
    obtain ⟨k2, h⟩ := h
    obtain ⟨k3, h⟩ := h
    refine zp_8_1267 (v := (p7 + ((p2).toInt32))) rfl d_8254_118 k2 k3 ?_
    generalize e5 : zs_sI S 8188 p0 (p7 + ((p2).toInt32)) = S4
    have h := h S4 e5.symm
    have K6 : ∀ b, zs_K S4 b = zs_K S b := zs_Kt e5 (zs_KsI _ _ _ _) (fun _ => rfl)
    exact zu_vret d_8254_121 zr_8254 h
  · have h := h.2 c1
    refine zu_aload_n d_8254_80 rfl (zs_ra _) ?_
    obtain ⟨k7, h⟩ := h
    refine zg_8_402 rfl d_8254_81 k7 ?_
    refine zu_iload d_8254_84 rfl ?_
    refine zu_iload d_8254_86 rfl ?_
    refine zu_stk d_8254_88 rfl rfl ?_
    refine zu_aload_n d_8254_89 rfl (zs_ra _) ?_
    refine zg_8_402 rfl d_8254_90 k7 ?_
    refine zu_iload d_8254_93 rfl ?_
    refine zu_lload d_8254_95 rfl ?_
    refine zu_stk d_8254_97 rfl rfl ?_
    refine zu_stk d_8254_98 rfl rfl ?_
    refine zu_iconst d_8254_99 zi_1 ?_
    refine zu_stk d_8254_100 rfl rfl ?_
    refine zu_iload d_8254_101 rfl ?_
    refine zu_stk d_8254_103 rfl rfl ?_
    obtain ⟨b8, e9, h⟩ := h
    refine zs_stk1 (zs_rfe e9) ?_
    obtain ⟨k10, h⟩ := h
    refine zu_bald (k := 1) d_8254_104 rfl (Or.inl rfl) k10 ?_
    refine zs_stk2 (zs_rfe e9) ?_
    obtain ⟨k11, h⟩ := h
    obtain ⟨k12, h⟩ := h
    refine zu_bast_byte (k := 1) d_8254_105 rfl rfl k12 k11 ?_
    generalize e14 : zs_si S b8 (p7 + p8).toNatClampNeg (vp_nar .byte (zs_i S b8 (((p7 + ((p4).toInt32)) - (1 : Int32)) + p8).toNatClampNeg)) = S13
    have h := h S13 e14.symm
    have K15 : ∀ b, zs_K S13 b = zs_K S b := zs_Kt e14 (zs_Ksi _ _ _ _) (fun _ => rfl)
    exact (u_X9_cutText_106 hB h).weak ⟨rfl, rfl, rfl, rfl, rfl, trivial⟩
def w_X9_cutText (X : zs_X) (d : Nat) (p0 : Nat) (p1 : Int32) (S : zs_T) (Q : zs_Q) : Prop :=
  (zs_K S p0 = some (.inl 8) ∧ zs_C X d 8242 [.ref p0] S (zs_kJ (fun v3 S2 => (zs_K S2 p0 = some (.inl 8) ∧ zs_C X d 8242 [.ref p0] S2 (zs_kJ (fun v6 S5 => (zs_K S5 p0 = some (.inl 8) ∧ zs_C X d 8223 [.ref p0, .int ((zs_I S5 8187 p0) - (1 : Int32))] S5 (zs_kI (fun v9 S8 => (((v6 < (1 : Int64) → w_X9_cutText_49 X d p0 p1 S8 Q) ∧ (¬ (v6 < (1 : Int64)) → w_X9_cutText_30 X d p0 p1 v3 v6 v9 S8 Q)))) Q))) Q))) Q))
theorem u_X9_cutText {σ : Nat → Nat} {n0 : Nat} {bf : ab_B} {d : Nat} {p0 : Nat} {p1 : Int32} {S : zs_T} {Q : zs_Q} (hB : zt_B bf) (hd : 1 ≤ d) (h : w_X9_cutText (zx σ n0 bf) (d - 1) p0 p1 S Q) : zs_C (zx σ n0 bf) d 8254 [.ref p0, .int p1] S Q := by
  have hL : lv_args 0 [.ref p0, .int p1] = [(0, .ref p0), (1, .int p1)] := rfl
  refine zs_C.of1 (hB.2 8254 (by decide) (by decide)) hd (by rw [hL]; exact zs_sub_self _ (by exact ⟨rfl, rfl, trivial⟩)) ?_
  rw [hL]
  clear hL
  unfold w_X9_cutText at h
  refine zu_aload_n d_8254_0 rfl (zs_ra _) ?_
  obtain ⟨k1, h⟩ := h
  refine zc_8_1307  hB rfl k1 d_8254_1 (Nat.le_of_ble_eq_true rfl) h (fun v3 S2 h => ?_)
  refine zu_lstore_n d_8254_4 (zs_lt zq_8254 rfl) ?_
  refine zu_aload_n d_8254_5 rfl (zs_ra _) ?_
  obtain ⟨k4, h⟩ := h
  refine zc_8_1307  hB rfl k4 d_8254_6 (Nat.le_of_ble_eq_true rfl) h (fun v6 S5 h => ?_)
  refine zu_lstore d_8254_9 (zs_lt zq_8254 rfl) ?_
  refine zu_aload_n d_8254_11 rfl (zs_ra _) ?_
  refine zu_aload_n d_8254_12 rfl (zs_ra _) ?_
  obtain ⟨k7, h⟩ := h
  refine zg_8_1264 rfl d_8254_13 k7 ?_
  refine zu_iconst d_8254_16 zi_1 ?_
  refine zu_stk d_8254_17 rfl rfl ?_
  refine zc_8_1317 (x0 := ((zs_I S5 8187 p0) - (1 : Int32))) hB rfl k7 d_8254_18 (Nat.le_of_ble_eq_true rfl) h (fun v9 S8 h => ?_)
  refine zu_istore d_8254_21 (zs_lt zq_8254 rfl) ?_
  refine zu_lload d_8254_23 rfl ?_
  refine zu_lconst (v := 1) d_8254_25 rfl ?_
  refine zu_llt (t := 49) d_8254_26 d_8254_27 rfl (fun c10 => ?_) (fun c10 => ?_)
  · have h := h.1 c10
    exact (u_X9_cutText_49 hB h).weak ⟨rfl, rfl, trivial⟩
  · have h := h.2 c10
    exact (u_X9_cutText_30 hB h).weak ⟨rfl, rfl, rfl, rfl, rfl, trivial⟩
/-! SchemaPascalModel.bits(J)I -/
theorem zm_8255 {σ : Nat → Nat} {n0 : Nat} {bf : ab_B} : ab_code (zx σ n0 bf).1 8255 = prog_17_method_260_code := rfl
theorem zq_8255 {σ : Nat → Nat} {n0 : Nat} {bf : ab_B} : ab_maxL (zx σ n0 bf).1 8255 = 4 := rfl
theorem zr_8255 {σ : Nat → Nat} {n0 : Nat} {bf : ab_B} : ab_ret (zx σ n0 bf).1 8255 = (Option.some Jvm.ClassFile.FieldType.int) := rfl
theorem d_8255_0 {σ : Nat → Nat} {n0 : Nat} {bf : ab_B} : decode (ab_code (zx σ n0 bf).1 8255) 0 = .ok (.iconst 0, 1) := zd zm_8255 (by decide +kernel)
theorem d_8255_1 {σ : Nat → Nat} {n0 : Nat} {bf : ab_B} : decode (ab_code (zx σ n0 bf).1 8255) 1 = .ok (.istore_n 2, 1) := zd zm_8255 (by decide +kernel)
theorem d_8255_2 {σ : Nat → Nat} {n0 : Nat} {bf : ab_B} : decode (ab_code (zx σ n0 bf).1 8255) 2 = .ok (.iconst 0, 1) := zd zm_8255 (by decide +kernel)
theorem d_8255_3 {σ : Nat → Nat} {n0 : Nat} {bf : ab_B} : decode (ab_code (zx σ n0 bf).1 8255) 3 = .ok (.istore_n 3, 1) := zd zm_8255 (by decide +kernel)
theorem d_8255_4 {σ : Nat → Nat} {n0 : Nat} {bf : ab_B} : decode (ab_code (zx σ n0 bf).1 8255) 4 = .ok (.iload_n 3, 1) := zd zm_8255 (by decide +kernel)
theorem d_8255_5 {σ : Nat → Nat} {n0 : Nat} {bf : ab_B} : decode (ab_code (zx σ n0 bf).1 8255) 5 = .ok (.bipush 64, 2) := zd zm_8255 (by decide +kernel)
theorem d_8255_7 {σ : Nat → Nat} {n0 : Nat} {bf : ab_B} : decode (ab_code (zx σ n0 bf).1 8255) 7 = .ok (.if_icmp .ge 18, 3) := zd zm_8255 (by decide +kernel)
theorem d_8255_10 {σ : Nat → Nat} {n0 : Nat} {bf : ab_B} : decode (ab_code (zx σ n0 bf).1 8255) 10 = .ok (.iload_n 2, 1) := zd zm_8255 (by decide +kernel)
theorem d_8255_11 {σ : Nat → Nat} {n0 : Nat} {bf : ab_B} : decode (ab_code (zx σ n0 bf).1 8255) 11 = .ok (.lload_n 0, 1) := zd zm_8255 (by decide +kernel)
theorem d_8255_12 {σ : Nat → Nat} {n0 : Nat} {bf : ab_B} : decode (ab_code (zx σ n0 bf).1 8255) 12 = .ok (.iload_n 3, 1) := zd zm_8255 (by decide +kernel)
theorem d_8255_13 {σ : Nat → Nat} {n0 : Nat} {bf : ab_B} : decode (ab_code (zx σ n0 bf).1 8255) 13 = .ok (.lushr, 1) := zd zm_8255 (by decide +kernel)
theorem d_8255_14 {σ : Nat → Nat} {n0 : Nat} {bf : ab_B} : decode (ab_code (zx σ n0 bf).1 8255) 14 = .ok (.lconst 1, 1) := zd zm_8255 (by decide +kernel)
theorem d_8255_15 {σ : Nat → Nat} {n0 : Nat} {bf : ab_B} : decode (ab_code (zx σ n0 bf).1 8255) 15 = .ok (.land, 1) := zd zm_8255 (by decide +kernel)
theorem d_8255_16 {σ : Nat → Nat} {n0 : Nat} {bf : ab_B} : decode (ab_code (zx σ n0 bf).1 8255) 16 = .ok (.l2i, 1) := zd zm_8255 (by decide +kernel)
theorem d_8255_17 {σ : Nat → Nat} {n0 : Nat} {bf : ab_B} : decode (ab_code (zx σ n0 bf).1 8255) 17 = .ok (.iadd, 1) := zd zm_8255 (by decide +kernel)
theorem d_8255_18 {σ : Nat → Nat} {n0 : Nat} {bf : ab_B} : decode (ab_code (zx σ n0 bf).1 8255) 18 = .ok (.istore_n 2, 1) := zd zm_8255 (by decide +kernel)
theorem d_8255_19 {σ : Nat → Nat} {n0 : Nat} {bf : ab_B} : decode (ab_code (zx σ n0 bf).1 8255) 19 = .ok (.iinc 3 1, 3) := zd zm_8255 (by decide +kernel)
theorem d_8255_22 {σ : Nat → Nat} {n0 : Nat} {bf : ab_B} : decode (ab_code (zx σ n0 bf).1 8255) 22 = .ok (.goto (-18), 3) := zd zm_8255 (by decide +kernel)
theorem d_8255_25 {σ : Nat → Nat} {n0 : Nat} {bf : ab_B} : decode (ab_code (zx σ n0 bf).1 8255) 25 = .ok (.iload_n 2, 1) := zd zm_8255 (by decide +kernel)
theorem d_8255_26 {σ : Nat → Nat} {n0 : Nat} {bf : ab_B} : decode (ab_code (zx σ n0 bf).1 8255) 26 = .ok (.ireturn, 1) := zd zm_8255 (by decide +kernel)
def w_X9_bits_4 (X : zs_X) (d : Nat) (p0 : Int64) (p2 : Int32) (p3 : Int32) (S : zs_T) (Q : zs_Q) : Prop :=
  ((((64 : Int32) ≤ p3 → (Q (.returned (some (.int p2))) S)) ∧ (¬ ((64 : Int32) ≤ p3) → (zs_U X d 8255 4 [(0, .long p0), (2, .int (p2 + ((((((p0).toUInt64 >>> ((p3).toInt64.toUInt64 &&& Int64.toUInt64 63)).toInt64) &&& (1 : Int64))).toInt32))), (3, .int (p3 + (1 : Int32)))] [] S Q))))
theorem u_X9_bits_4 {σ : Nat → Nat} {n0 : Nat} {bf : ab_B} {d : Nat} {p0 : Int64} {p2 : Int32} {p3 : Int32} {S : zs_T} {Q : zs_Q} (hB : zt_B bf) (h : w_X9_bits_4 (zx σ n0 bf) d p0 p2 p3 S Q) : zs_U (zx σ n0 bf) d 8255 4 [(0, .long p0), (2, .int p2), (3, .int p3)] [] S Q := by
  unfold w_X9_bits_4 at h
  refine zu_iload_n d_8255_4 rfl ?_
  refine zu_bipush d_8255_5 zj_64 ?_
  refine zu_cmpge (t := 25) d_8255_7 rfl (fun c1 => ?_) (fun c1 => ?_)
  · have h := h.1 c1
    refine zu_iload_n d_8255_25 rfl ?_
    exact zu_iret d_8255_26 zr_8255 rfl h
  · have h := h.2 c1
    refine zu_iload_n d_8255_10 rfl ?_
    refine zu_lload_n d_8255_11 rfl ?_
    refine zu_iload_n d_8255_12 rfl ?_
    refine zu_stk d_8255_13 rfl rfl ?_
    refine zu_lconst (v := 1) d_8255_14 rfl ?_
    refine zu_stk d_8255_15 rfl rfl ?_
    refine zu_stk d_8255_16 rfl rfl ?_
    refine zu_stk d_8255_17 rfl rfl ?_
    refine zu_istore_n d_8255_18 (zs_lt zq_8255 rfl) ?_
    refine zu_iinc d_8255_19 rfl zi_1 (zs_lt zq_8255 rfl) ?_
    refine zu_goto (t := 4) d_8255_22 rfl ?_
    exact h.weak ⟨rfl, rfl, rfl, trivial⟩
def w_X9_bits (X : zs_X) (d : Nat) (p0 : Int64) (S : zs_T) (Q : zs_Q) : Prop :=
  (zs_U X d 8255 4 [(0, .long p0), (2, .int (0 : Int32)), (3, .int (0 : Int32))] [] S Q)
theorem u_X9_bits {σ : Nat → Nat} {n0 : Nat} {bf : ab_B} {d : Nat} {p0 : Int64} {S : zs_T} {Q : zs_Q} (hB : zt_B bf) (hd : 1 ≤ d) (h : w_X9_bits (zx σ n0 bf) (d - 1) p0 S Q) : zs_C (zx σ n0 bf) d 8255 [.long p0] S Q := by
  have hL : lv_args 0 [.long p0] = [(0, .long p0)] := rfl
  refine zs_C.of1 (hB.2 8255 (by decide) (by decide)) hd (by rw [hL]; exact zs_sub_self _ (by exact ⟨rfl, trivial⟩)) ?_
  rw [hL]
  clear hL
  unfold w_X9_bits at h
  refine zu_iconst d_8255_0 zi_0 ?_
  refine zu_istore_n d_8255_1 (zs_lt zq_8255 rfl) ?_
  refine zu_iconst d_8255_2 zi_0 ?_
  refine zu_istore_n d_8255_3 (zs_lt zq_8255 rfl) ?_
  exact h.weak ⟨rfl, rfl, rfl, trivial⟩
/-! SchemaPascalModel.makeVar(III)V -/
theorem zm_8256 {σ : Nat → Nat} {n0 : Nat} {bf : ab_B} : ab_code (zx σ n0 bf).1 8256 = prog_17_method_249_code := rfl
theorem zq_8256 {σ : Nat → Nat} {n0 : Nat} {bf : ab_B} : ab_maxL (zx σ n0 bf).1 8256 = 13 := rfl
theorem zr_8256 {σ : Nat → Nat} {n0 : Nat} {bf : ab_B} : ab_ret (zx σ n0 bf).1 8256 = (Option.none : Option Jvm.ClassFile.FieldType) := rfl
theorem d_8256_0 {σ : Nat → Nat} {n0 : Nat} {bf : ab_B} : decode (ab_code (zx σ n0 bf).1 8256) 0 = .ok (.aload_n 0, 1) := zd zm_8256 (by decide +kernel)
theorem d_8256_1 {σ : Nat → Nat} {n0 : Nat} {bf : ab_B} : decode (ab_code (zx σ n0 bf).1 8256) 1 = .ok (.getfield 1240, 3) := zd zm_8256 (by decide +kernel)
theorem d_8256_4 {σ : Nat → Nat} {n0 : Nat} {bf : ab_B} : decode (ab_code (zx σ n0 bf).1 8256) 4 = .ok (.iconst 1, 1) := zd zm_8256 (by decide +kernel)
theorem d_8256_5 {σ : Nat → Nat} {n0 : Nat} {bf : ab_B} : decode (ab_code (zx σ n0 bf).1 8256) 5 = .ok (.isub, 1) := zd zm_8256 (by decide +kernel)
theorem d_8256_6 {σ : Nat → Nat} {n0 : Nat} {bf : ab_B} : decode (ab_code (zx σ n0 bf).1 8256) 6 = .ok (.istore 4, 2) := zd zm_8256 (by decide +kernel)
theorem d_8256_8 {σ : Nat → Nat} {n0 : Nat} {bf : ab_B} : decode (ab_code (zx σ n0 bf).1 8256) 8 = .ok (.aload_n 0, 1) := zd zm_8256 (by decide +kernel)
theorem d_8256_9 {σ : Nat → Nat} {n0 : Nat} {bf : ab_B} : decode (ab_code (zx σ n0 bf).1 8256) 9 = .ok (.getfield 311, 3) := zd zm_8256 (by decide +kernel)
theorem d_8256_12 {σ : Nat → Nat} {n0 : Nat} {bf : ab_B} : decode (ab_code (zx σ n0 bf).1 8256) 12 = .ok (.aload_n 0, 1) := zd zm_8256 (by decide +kernel)
theorem d_8256_13 {σ : Nat → Nat} {n0 : Nat} {bf : ab_B} : decode (ab_code (zx σ n0 bf).1 8256) 13 = .ok (.getfield 335, 3) := zd zm_8256 (by decide +kernel)
theorem d_8256_16 {σ : Nat → Nat} {n0 : Nat} {bf : ab_B} : decode (ab_code (zx σ n0 bf).1 8256) 16 = .ok (.iload 4, 2) := zd zm_8256 (by decide +kernel)
theorem d_8256_18 {σ : Nat → Nat} {n0 : Nat} {bf : ab_B} : decode (ab_code (zx σ n0 bf).1 8256) 18 = .ok (.iaload, 1) := zd zm_8256 (by decide +kernel)
theorem d_8256_19 {σ : Nat → Nat} {n0 : Nat} {bf : ab_B} : decode (ab_code (zx σ n0 bf).1 8256) 19 = .ok (.iaload, 1) := zd zm_8256 (by decide +kernel)
theorem d_8256_20 {σ : Nat → Nat} {n0 : Nat} {bf : ab_B} : decode (ab_code (zx σ n0 bf).1 8256) 20 = .ok (.istore 5, 2) := zd zm_8256 (by decide +kernel)
theorem d_8256_22 {σ : Nat → Nat} {n0 : Nat} {bf : ab_B} : decode (ab_code (zx σ n0 bf).1 8256) 22 = .ok (.iload_n 3, 1) := zd zm_8256 (by decide +kernel)
theorem d_8256_23 {σ : Nat → Nat} {n0 : Nat} {bf : ab_B} : decode (ab_code (zx σ n0 bf).1 8256) 23 = .ok (.ifCond .ne 11, 3) := zd zm_8256 (by decide +kernel)
theorem d_8256_26 {σ : Nat → Nat} {n0 : Nat} {bf : ab_B} : decode (ab_code (zx σ n0 bf).1 8256) 26 = .ok (.aload_n 0, 1) := zd zm_8256 (by decide +kernel)
theorem d_8256_27 {σ : Nat → Nat} {n0 : Nat} {bf : ab_B} : decode (ab_code (zx σ n0 bf).1 8256) 27 = .ok (.iload_n 2, 1) := zd zm_8256 (by decide +kernel)
theorem d_8256_28 {σ : Nat → Nat} {n0 : Nat} {bf : ab_B} : decode (ab_code (zx σ n0 bf).1 8256) 28 = .ok (.invokevirtual 1395, 3) := zd zm_8256 (by decide +kernel)
theorem d_8256_31 {σ : Nat → Nat} {n0 : Nat} {bf : ab_B} : decode (ab_code (zx σ n0 bf).1 8256) 31 = .ok (.goto 237, 3) := zd zm_8256 (by decide +kernel)
theorem d_8256_34 {σ : Nat → Nat} {n0 : Nat} {bf : ab_B} : decode (ab_code (zx σ n0 bf).1 8256) 34 = .ok (.aload_n 0, 1) := zd zm_8256 (by decide +kernel)
theorem d_8256_35 {σ : Nat → Nat} {n0 : Nat} {bf : ab_B} : decode (ab_code (zx σ n0 bf).1 8256) 35 = .ok (.getfield 93, 3) := zd zm_8256 (by decide +kernel)
theorem d_8256_38 {σ : Nat → Nat} {n0 : Nat} {bf : ab_B} : decode (ab_code (zx σ n0 bf).1 8256) 38 = .ok (.iload_n 2, 1) := zd zm_8256 (by decide +kernel)
theorem d_8256_39 {σ : Nat → Nat} {n0 : Nat} {bf : ab_B} : decode (ab_code (zx σ n0 bf).1 8256) 39 = .ok (.iaload, 1) := zd zm_8256 (by decide +kernel)
theorem d_8256_40 {σ : Nat → Nat} {n0 : Nat} {bf : ab_B} : decode (ab_code (zx σ n0 bf).1 8256) 40 = .ok (.istore 6, 2) := zd zm_8256 (by decide +kernel)
theorem d_8256_42 {σ : Nat → Nat} {n0 : Nat} {bf : ab_B} : decode (ab_code (zx σ n0 bf).1 8256) 42 = .ok (.aload_n 0, 1) := zd zm_8256 (by decide +kernel)
theorem d_8256_43 {σ : Nat → Nat} {n0 : Nat} {bf : ab_B} : decode (ab_code (zx σ n0 bf).1 8256) 43 = .ok (.getfield 127, 3) := zd zm_8256 (by decide +kernel)
theorem d_8256_46 {σ : Nat → Nat} {n0 : Nat} {bf : ab_B} : decode (ab_code (zx σ n0 bf).1 8256) 46 = .ok (.iload 6, 2) := zd zm_8256 (by decide +kernel)
theorem d_8256_48 {σ : Nat → Nat} {n0 : Nat} {bf : ab_B} : decode (ab_code (zx σ n0 bf).1 8256) 48 = .ok (.baload, 1) := zd zm_8256 (by decide +kernel)
theorem d_8256_49 {σ : Nat → Nat} {n0 : Nat} {bf : ab_B} : decode (ab_code (zx σ n0 bf).1 8256) 49 = .ok (.istore 7, 2) := zd zm_8256 (by decide +kernel)
theorem d_8256_51 {σ : Nat → Nat} {n0 : Nat} {bf : ab_B} : decode (ab_code (zx σ n0 bf).1 8256) 51 = .ok (.iconst 1, 1) := zd zm_8256 (by decide +kernel)
theorem d_8256_52 {σ : Nat → Nat} {n0 : Nat} {bf : ab_B} : decode (ab_code (zx σ n0 bf).1 8256) 52 = .ok (.istore 8, 2) := zd zm_8256 (by decide +kernel)
theorem d_8256_54 {σ : Nat → Nat} {n0 : Nat} {bf : ab_B} : decode (ab_code (zx σ n0 bf).1 8256) 54 = .ok (.iconst 0, 1) := zd zm_8256 (by decide +kernel)
theorem d_8256_55 {σ : Nat → Nat} {n0 : Nat} {bf : ab_B} : decode (ab_code (zx σ n0 bf).1 8256) 55 = .ok (.istore 9, 2) := zd zm_8256 (by decide +kernel)
theorem d_8256_57 {σ : Nat → Nat} {n0 : Nat} {bf : ab_B} : decode (ab_code (zx σ n0 bf).1 8256) 57 = .ok (.iload 9, 2) := zd zm_8256 (by decide +kernel)
theorem d_8256_59 {σ : Nat → Nat} {n0 : Nat} {bf : ab_B} : decode (ab_code (zx σ n0 bf).1 8256) 59 = .ok (.iload 7, 2) := zd zm_8256 (by decide +kernel)
theorem d_8256_61 {σ : Nat → Nat} {n0 : Nat} {bf : ab_B} : decode (ab_code (zx σ n0 bf).1 8256) 61 = .ok (.if_icmp .ge 79, 3) := zd zm_8256 (by decide +kernel)
theorem d_8256_64 {σ : Nat → Nat} {n0 : Nat} {bf : ab_B} : decode (ab_code (zx σ n0 bf).1 8256) 64 = .ok (.aload_n 0, 1) := zd zm_8256 (by decide +kernel)
theorem d_8256_65 {σ : Nat → Nat} {n0 : Nat} {bf : ab_B} : decode (ab_code (zx σ n0 bf).1 8256) 65 = .ok (.getfield 399, 3) := zd zm_8256 (by decide +kernel)
theorem d_8256_68 {σ : Nat → Nat} {n0 : Nat} {bf : ab_B} : decode (ab_code (zx σ n0 bf).1 8256) 68 = .ok (.aload_n 0, 1) := zd zm_8256 (by decide +kernel)
theorem d_8256_69 {σ : Nat → Nat} {n0 : Nat} {bf : ab_B} : decode (ab_code (zx σ n0 bf).1 8256) 69 = .ok (.getfield 1261, 3) := zd zm_8256 (by decide +kernel)
theorem d_8256_72 {σ : Nat → Nat} {n0 : Nat} {bf : ab_B} : decode (ab_code (zx σ n0 bf).1 8256) 72 = .ok (.iload 7, 2) := zd zm_8256 (by decide +kernel)
theorem d_8256_74 {σ : Nat → Nat} {n0 : Nat} {bf : ab_B} : decode (ab_code (zx σ n0 bf).1 8256) 74 = .ok (.isub, 1) := zd zm_8256 (by decide +kernel)
theorem d_8256_75 {σ : Nat → Nat} {n0 : Nat} {bf : ab_B} : decode (ab_code (zx σ n0 bf).1 8256) 75 = .ok (.iload 9, 2) := zd zm_8256 (by decide +kernel)
theorem d_8256_77 {σ : Nat → Nat} {n0 : Nat} {bf : ab_B} : decode (ab_code (zx σ n0 bf).1 8256) 77 = .ok (.iadd, 1) := zd zm_8256 (by decide +kernel)
theorem d_8256_78 {σ : Nat → Nat} {n0 : Nat} {bf : ab_B} : decode (ab_code (zx σ n0 bf).1 8256) 78 = .ok (.laload, 1) := zd zm_8256 (by decide +kernel)
theorem d_8256_79 {σ : Nat → Nat} {n0 : Nat} {bf : ab_B} : decode (ab_code (zx σ n0 bf).1 8256) 79 = .ok (.lstore 10, 2) := zd zm_8256 (by decide +kernel)
theorem d_8256_81 {σ : Nat → Nat} {n0 : Nat} {bf : ab_B} : decode (ab_code (zx σ n0 bf).1 8256) 81 = .ok (.aload_n 0, 1) := zd zm_8256 (by decide +kernel)
theorem d_8256_82 {σ : Nat → Nat} {n0 : Nat} {bf : ab_B} : decode (ab_code (zx σ n0 bf).1 8256) 82 = .ok (.aload_n 0, 1) := zd zm_8256 (by decide +kernel)
theorem d_8256_83 {σ : Nat → Nat} {n0 : Nat} {bf : ab_B} : decode (ab_code (zx σ n0 bf).1 8256) 83 = .ok (.getfield 136, 3) := zd zm_8256 (by decide +kernel)
theorem d_8256_86 {σ : Nat → Nat} {n0 : Nat} {bf : ab_B} : decode (ab_code (zx σ n0 bf).1 8256) 86 = .ok (.aload_n 0, 1) := zd zm_8256 (by decide +kernel)
theorem d_8256_87 {σ : Nat → Nat} {n0 : Nat} {bf : ab_B} : decode (ab_code (zx σ n0 bf).1 8256) 87 = .ok (.getfield 124, 3) := zd zm_8256 (by decide +kernel)
theorem d_8256_90 {σ : Nat → Nat} {n0 : Nat} {bf : ab_B} : decode (ab_code (zx σ n0 bf).1 8256) 90 = .ok (.iload 6, 2) := zd zm_8256 (by decide +kernel)
theorem d_8256_92 {σ : Nat → Nat} {n0 : Nat} {bf : ab_B} : decode (ab_code (zx σ n0 bf).1 8256) 92 = .ok (.iaload, 1) := zd zm_8256 (by decide +kernel)
theorem d_8256_93 {σ : Nat → Nat} {n0 : Nat} {bf : ab_B} : decode (ab_code (zx σ n0 bf).1 8256) 93 = .ok (.iload 9, 2) := zd zm_8256 (by decide +kernel)
theorem d_8256_95 {σ : Nat → Nat} {n0 : Nat} {bf : ab_B} : decode (ab_code (zx σ n0 bf).1 8256) 95 = .ok (.iadd, 1) := zd zm_8256 (by decide +kernel)
theorem d_8256_96 {σ : Nat → Nat} {n0 : Nat} {bf : ab_B} : decode (ab_code (zx σ n0 bf).1 8256) 96 = .ok (.iaload, 1) := zd zm_8256 (by decide +kernel)
theorem d_8256_97 {σ : Nat → Nat} {n0 : Nat} {bf : ab_B} : decode (ab_code (zx σ n0 bf).1 8256) 97 = .ok (.invokevirtual 792, 3) := zd zm_8256 (by decide +kernel)
theorem d_8256_100 {σ : Nat → Nat} {n0 : Nat} {bf : ab_B} : decode (ab_code (zx σ n0 bf).1 8256) 100 = .ok (.istore 12, 2) := zd zm_8256 (by decide +kernel)
theorem d_8256_102 {σ : Nat → Nat} {n0 : Nat} {bf : ab_B} : decode (ab_code (zx σ n0 bf).1 8256) 102 = .ok (.iload 8, 2) := zd zm_8256 (by decide +kernel)
theorem d_8256_104 {σ : Nat → Nat} {n0 : Nat} {bf : ab_B} : decode (ab_code (zx σ n0 bf).1 8256) 104 = .ok (.ifCond .eq 27, 3) := zd zm_8256 (by decide +kernel)
theorem d_8256_107 {σ : Nat → Nat} {n0 : Nat} {bf : ab_B} : decode (ab_code (zx σ n0 bf).1 8256) 107 = .ok (.lload 10, 2) := zd zm_8256 (by decide +kernel)
theorem d_8256_109 {σ : Nat → Nat} {n0 : Nat} {bf : ab_B} : decode (ab_code (zx σ n0 bf).1 8256) 109 = .ok (.aload_n 0, 1) := zd zm_8256 (by decide +kernel)
theorem d_8256_110 {σ : Nat → Nat} {n0 : Nat} {bf : ab_B} : decode (ab_code (zx σ n0 bf).1 8256) 110 = .ok (.getfield 783, 3) := zd zm_8256 (by decide +kernel)
theorem d_8256_113 {σ : Nat → Nat} {n0 : Nat} {bf : ab_B} : decode (ab_code (zx σ n0 bf).1 8256) 113 = .ok (.lcmp, 1) := zd zm_8256 (by decide +kernel)
theorem d_8256_114 {σ : Nat → Nat} {n0 : Nat} {bf : ab_B} : decode (ab_code (zx σ n0 bf).1 8256) 114 = .ok (.ifCond .lt 17, 3) := zd zm_8256 (by decide +kernel)
theorem d_8256_117 {σ : Nat → Nat} {n0 : Nat} {bf : ab_B} : decode (ab_code (zx σ n0 bf).1 8256) 117 = .ok (.lload 10, 2) := zd zm_8256 (by decide +kernel)
theorem d_8256_119 {σ : Nat → Nat} {n0 : Nat} {bf : ab_B} : decode (ab_code (zx σ n0 bf).1 8256) 119 = .ok (.aload_n 0, 1) := zd zm_8256 (by decide +kernel)
theorem d_8256_120 {σ : Nat → Nat} {n0 : Nat} {bf : ab_B} : decode (ab_code (zx σ n0 bf).1 8256) 120 = .ok (.getfield 786, 3) := zd zm_8256 (by decide +kernel)
theorem d_8256_123 {σ : Nat → Nat} {n0 : Nat} {bf : ab_B} : decode (ab_code (zx σ n0 bf).1 8256) 123 = .ok (.lcmp, 1) := zd zm_8256 (by decide +kernel)
theorem d_8256_124 {σ : Nat → Nat} {n0 : Nat} {bf : ab_B} : decode (ab_code (zx σ n0 bf).1 8256) 124 = .ok (.ifCond .gt 7, 3) := zd zm_8256 (by decide +kernel)
theorem d_8256_127 {σ : Nat → Nat} {n0 : Nat} {bf : ab_B} : decode (ab_code (zx σ n0 bf).1 8256) 127 = .ok (.iconst 1, 1) := zd zm_8256 (by decide +kernel)
theorem d_8256_128 {σ : Nat → Nat} {n0 : Nat} {bf : ab_B} : decode (ab_code (zx σ n0 bf).1 8256) 128 = .ok (.goto 4, 3) := zd zm_8256 (by decide +kernel)
theorem d_8256_131 {σ : Nat → Nat} {n0 : Nat} {bf : ab_B} : decode (ab_code (zx σ n0 bf).1 8256) 131 = .ok (.iconst 0, 1) := zd zm_8256 (by decide +kernel)
theorem d_8256_132 {σ : Nat → Nat} {n0 : Nat} {bf : ab_B} : decode (ab_code (zx σ n0 bf).1 8256) 132 = .ok (.istore 8, 2) := zd zm_8256 (by decide +kernel)
theorem d_8256_134 {σ : Nat → Nat} {n0 : Nat} {bf : ab_B} : decode (ab_code (zx σ n0 bf).1 8256) 134 = .ok (.iinc 9 1, 3) := zd zm_8256 (by decide +kernel)
theorem d_8256_137 {σ : Nat → Nat} {n0 : Nat} {bf : ab_B} : decode (ab_code (zx σ n0 bf).1 8256) 137 = .ok (.goto (-80), 3) := zd zm_8256 (by decide +kernel)
theorem d_8256_140 {σ : Nat → Nat} {n0 : Nat} {bf : ab_B} : decode (ab_code (zx σ n0 bf).1 8256) 140 = .ok (.aload_n 0, 1) := zd zm_8256 (by decide +kernel)
theorem d_8256_141 {σ : Nat → Nat} {n0 : Nat} {bf : ab_B} : decode (ab_code (zx σ n0 bf).1 8256) 141 = .ok (.invokevirtual 1368, 3) := zd zm_8256 (by decide +kernel)
theorem d_8256_144 {σ : Nat → Nat} {n0 : Nat} {bf : ab_B} : decode (ab_code (zx σ n0 bf).1 8256) 144 = .ok (.aload_n 0, 1) := zd zm_8256 (by decide +kernel)
theorem d_8256_145 {σ : Nat → Nat} {n0 : Nat} {bf : ab_B} : decode (ab_code (zx σ n0 bf).1 8256) 145 = .ok (.aload_n 0, 1) := zd zm_8256 (by decide +kernel)
theorem d_8256_146 {σ : Nat → Nat} {n0 : Nat} {bf : ab_B} : decode (ab_code (zx σ n0 bf).1 8256) 146 = .ok (.getfield 399, 3) := zd zm_8256 (by decide +kernel)
theorem d_8256_149 {σ : Nat → Nat} {n0 : Nat} {bf : ab_B} : decode (ab_code (zx σ n0 bf).1 8256) 149 = .ok (.aload_n 0, 1) := zd zm_8256 (by decide +kernel)
theorem d_8256_150 {σ : Nat → Nat} {n0 : Nat} {bf : ab_B} : decode (ab_code (zx σ n0 bf).1 8256) 150 = .ok (.getfield 1261, 3) := zd zm_8256 (by decide +kernel)
theorem d_8256_153 {σ : Nat → Nat} {n0 : Nat} {bf : ab_B} : decode (ab_code (zx σ n0 bf).1 8256) 153 = .ok (.iload 7, 2) := zd zm_8256 (by decide +kernel)
theorem d_8256_155 {σ : Nat → Nat} {n0 : Nat} {bf : ab_B} : decode (ab_code (zx σ n0 bf).1 8256) 155 = .ok (.isub, 1) := zd zm_8256 (by decide +kernel)
theorem d_8256_156 {σ : Nat → Nat} {n0 : Nat} {bf : ab_B} : decode (ab_code (zx σ n0 bf).1 8256) 156 = .ok (.laload, 1) := zd zm_8256 (by decide +kernel)
theorem d_8256_157 {σ : Nat → Nat} {n0 : Nat} {bf : ab_B} : decode (ab_code (zx σ n0 bf).1 8256) 157 = .ok (.putfield 610, 3) := zd zm_8256 (by decide +kernel)
theorem d_8256_160 {σ : Nat → Nat} {n0 : Nat} {bf : ab_B} : decode (ab_code (zx σ n0 bf).1 8256) 160 = .ok (.aload_n 0, 1) := zd zm_8256 (by decide +kernel)
theorem d_8256_161 {σ : Nat → Nat} {n0 : Nat} {bf : ab_B} : decode (ab_code (zx σ n0 bf).1 8256) 161 = .ok (.iload 7, 2) := zd zm_8256 (by decide +kernel)
theorem d_8256_163 {σ : Nat → Nat} {n0 : Nat} {bf : ab_B} : decode (ab_code (zx σ n0 bf).1 8256) 163 = .ok (.iconst 1, 1) := zd zm_8256 (by decide +kernel)
theorem d_8256_164 {σ : Nat → Nat} {n0 : Nat} {bf : ab_B} : decode (ab_code (zx σ n0 bf).1 8256) 164 = .ok (.if_icmp .le 20, 3) := zd zm_8256 (by decide +kernel)
theorem d_8256_167 {σ : Nat → Nat} {n0 : Nat} {bf : ab_B} : decode (ab_code (zx σ n0 bf).1 8256) 167 = .ok (.aload_n 0, 1) := zd zm_8256 (by decide +kernel)
theorem d_8256_168 {σ : Nat → Nat} {n0 : Nat} {bf : ab_B} : decode (ab_code (zx σ n0 bf).1 8256) 168 = .ok (.getfield 399, 3) := zd zm_8256 (by decide +kernel)
theorem d_8256_171 {σ : Nat → Nat} {n0 : Nat} {bf : ab_B} : decode (ab_code (zx σ n0 bf).1 8256) 171 = .ok (.aload_n 0, 1) := zd zm_8256 (by decide +kernel)
theorem d_8256_172 {σ : Nat → Nat} {n0 : Nat} {bf : ab_B} : decode (ab_code (zx σ n0 bf).1 8256) 172 = .ok (.getfield 1261, 3) := zd zm_8256 (by decide +kernel)
theorem d_8256_175 {σ : Nat → Nat} {n0 : Nat} {bf : ab_B} : decode (ab_code (zx σ n0 bf).1 8256) 175 = .ok (.iload 7, 2) := zd zm_8256 (by decide +kernel)
theorem d_8256_177 {σ : Nat → Nat} {n0 : Nat} {bf : ab_B} : decode (ab_code (zx σ n0 bf).1 8256) 177 = .ok (.isub, 1) := zd zm_8256 (by decide +kernel)
theorem d_8256_178 {σ : Nat → Nat} {n0 : Nat} {bf : ab_B} : decode (ab_code (zx σ n0 bf).1 8256) 178 = .ok (.iconst 1, 1) := zd zm_8256 (by decide +kernel)
theorem d_8256_179 {σ : Nat → Nat} {n0 : Nat} {bf : ab_B} : decode (ab_code (zx σ n0 bf).1 8256) 179 = .ok (.iadd, 1) := zd zm_8256 (by decide +kernel)
theorem d_8256_180 {σ : Nat → Nat} {n0 : Nat} {bf : ab_B} : decode (ab_code (zx σ n0 bf).1 8256) 180 = .ok (.laload, 1) := zd zm_8256 (by decide +kernel)
theorem d_8256_181 {σ : Nat → Nat} {n0 : Nat} {bf : ab_B} : decode (ab_code (zx σ n0 bf).1 8256) 181 = .ok (.goto 4, 3) := zd zm_8256 (by decide +kernel)
theorem d_8256_184 {σ : Nat → Nat} {n0 : Nat} {bf : ab_B} : decode (ab_code (zx σ n0 bf).1 8256) 184 = .ok (.lconst 0, 1) := zd zm_8256 (by decide +kernel)
theorem d_8256_185 {σ : Nat → Nat} {n0 : Nat} {bf : ab_B} : decode (ab_code (zx σ n0 bf).1 8256) 185 = .ok (.putfield 614, 3) := zd zm_8256 (by decide +kernel)
theorem d_8256_188 {σ : Nat → Nat} {n0 : Nat} {bf : ab_B} : decode (ab_code (zx σ n0 bf).1 8256) 188 = .ok (.aload_n 0, 1) := zd zm_8256 (by decide +kernel)
theorem d_8256_189 {σ : Nat → Nat} {n0 : Nat} {bf : ab_B} : decode (ab_code (zx σ n0 bf).1 8256) 189 = .ok (.iload 7, 2) := zd zm_8256 (by decide +kernel)
theorem d_8256_191 {σ : Nat → Nat} {n0 : Nat} {bf : ab_B} : decode (ab_code (zx σ n0 bf).1 8256) 191 = .ok (.iconst 2, 1) := zd zm_8256 (by decide +kernel)
theorem d_8256_192 {σ : Nat → Nat} {n0 : Nat} {bf : ab_B} : decode (ab_code (zx σ n0 bf).1 8256) 192 = .ok (.if_icmp .le 20, 3) := zd zm_8256 (by decide +kernel)
theorem d_8256_195 {σ : Nat → Nat} {n0 : Nat} {bf : ab_B} : decode (ab_code (zx σ n0 bf).1 8256) 195 = .ok (.aload_n 0, 1) := zd zm_8256 (by decide +kernel)
theorem d_8256_196 {σ : Nat → Nat} {n0 : Nat} {bf : ab_B} : decode (ab_code (zx σ n0 bf).1 8256) 196 = .ok (.getfield 399, 3) := zd zm_8256 (by decide +kernel)
theorem d_8256_199 {σ : Nat → Nat} {n0 : Nat} {bf : ab_B} : decode (ab_code (zx σ n0 bf).1 8256) 199 = .ok (.aload_n 0, 1) := zd zm_8256 (by decide +kernel)
theorem d_8256_200 {σ : Nat → Nat} {n0 : Nat} {bf : ab_B} : decode (ab_code (zx σ n0 bf).1 8256) 200 = .ok (.getfield 1261, 3) := zd zm_8256 (by decide +kernel)
theorem d_8256_203 {σ : Nat → Nat} {n0 : Nat} {bf : ab_B} : decode (ab_code (zx σ n0 bf).1 8256) 203 = .ok (.iload 7, 2) := zd zm_8256 (by decide +kernel)
theorem d_8256_205 {σ : Nat → Nat} {n0 : Nat} {bf : ab_B} : decode (ab_code (zx σ n0 bf).1 8256) 205 = .ok (.isub, 1) := zd zm_8256 (by decide +kernel)
theorem d_8256_206 {σ : Nat → Nat} {n0 : Nat} {bf : ab_B} : decode (ab_code (zx σ n0 bf).1 8256) 206 = .ok (.iconst 2, 1) := zd zm_8256 (by decide +kernel)
theorem d_8256_207 {σ : Nat → Nat} {n0 : Nat} {bf : ab_B} : decode (ab_code (zx σ n0 bf).1 8256) 207 = .ok (.iadd, 1) := zd zm_8256 (by decide +kernel)
theorem d_8256_208 {σ : Nat → Nat} {n0 : Nat} {bf : ab_B} : decode (ab_code (zx σ n0 bf).1 8256) 208 = .ok (.laload, 1) := zd zm_8256 (by decide +kernel)
theorem d_8256_209 {σ : Nat → Nat} {n0 : Nat} {bf : ab_B} : decode (ab_code (zx σ n0 bf).1 8256) 209 = .ok (.goto 4, 3) := zd zm_8256 (by decide +kernel)
theorem d_8256_212 {σ : Nat → Nat} {n0 : Nat} {bf : ab_B} : decode (ab_code (zx σ n0 bf).1 8256) 212 = .ok (.lconst 0, 1) := zd zm_8256 (by decide +kernel)
theorem d_8256_213 {σ : Nat → Nat} {n0 : Nat} {bf : ab_B} : decode (ab_code (zx σ n0 bf).1 8256) 213 = .ok (.putfield 617, 3) := zd zm_8256 (by decide +kernel)
theorem d_8256_216 {σ : Nat → Nat} {n0 : Nat} {bf : ab_B} : decode (ab_code (zx σ n0 bf).1 8256) 216 = .ok (.aload_n 0, 1) := zd zm_8256 (by decide +kernel)
theorem d_8256_217 {σ : Nat → Nat} {n0 : Nat} {bf : ab_B} : decode (ab_code (zx σ n0 bf).1 8256) 217 = .ok (.iload 7, 2) := zd zm_8256 (by decide +kernel)
theorem d_8256_219 {σ : Nat → Nat} {n0 : Nat} {bf : ab_B} : decode (ab_code (zx σ n0 bf).1 8256) 219 = .ok (.iconst 3, 1) := zd zm_8256 (by decide +kernel)
theorem d_8256_220 {σ : Nat → Nat} {n0 : Nat} {bf : ab_B} : decode (ab_code (zx σ n0 bf).1 8256) 220 = .ok (.if_icmp .le 20, 3) := zd zm_8256 (by decide +kernel)
theorem d_8256_223 {σ : Nat → Nat} {n0 : Nat} {bf : ab_B} : decode (ab_code (zx σ n0 bf).1 8256) 223 = .ok (.aload_n 0, 1) := zd zm_8256 (by decide +kernel)
theorem d_8256_224 {σ : Nat → Nat} {n0 : Nat} {bf : ab_B} : decode (ab_code (zx σ n0 bf).1 8256) 224 = .ok (.getfield 399, 3) := zd zm_8256 (by decide +kernel)
theorem d_8256_227 {σ : Nat → Nat} {n0 : Nat} {bf : ab_B} : decode (ab_code (zx σ n0 bf).1 8256) 227 = .ok (.aload_n 0, 1) := zd zm_8256 (by decide +kernel)
theorem d_8256_228 {σ : Nat → Nat} {n0 : Nat} {bf : ab_B} : decode (ab_code (zx σ n0 bf).1 8256) 228 = .ok (.getfield 1261, 3) := zd zm_8256 (by decide +kernel)
theorem d_8256_231 {σ : Nat → Nat} {n0 : Nat} {bf : ab_B} : decode (ab_code (zx σ n0 bf).1 8256) 231 = .ok (.iload 7, 2) := zd zm_8256 (by decide +kernel)
theorem d_8256_233 {σ : Nat → Nat} {n0 : Nat} {bf : ab_B} : decode (ab_code (zx σ n0 bf).1 8256) 233 = .ok (.isub, 1) := zd zm_8256 (by decide +kernel)
theorem d_8256_234 {σ : Nat → Nat} {n0 : Nat} {bf : ab_B} : decode (ab_code (zx σ n0 bf).1 8256) 234 = .ok (.iconst 3, 1) := zd zm_8256 (by decide +kernel)
theorem d_8256_235 {σ : Nat → Nat} {n0 : Nat} {bf : ab_B} : decode (ab_code (zx σ n0 bf).1 8256) 235 = .ok (.iadd, 1) := zd zm_8256 (by decide +kernel)
theorem d_8256_236 {σ : Nat → Nat} {n0 : Nat} {bf : ab_B} : decode (ab_code (zx σ n0 bf).1 8256) 236 = .ok (.laload, 1) := zd zm_8256 (by decide +kernel)
theorem d_8256_237 {σ : Nat → Nat} {n0 : Nat} {bf : ab_B} : decode (ab_code (zx σ n0 bf).1 8256) 237 = .ok (.goto 4, 3) := zd zm_8256 (by decide +kernel)
theorem d_8256_240 {σ : Nat → Nat} {n0 : Nat} {bf : ab_B} : decode (ab_code (zx σ n0 bf).1 8256) 240 = .ok (.lconst 0, 1) := zd zm_8256 (by decide +kernel)
theorem d_8256_241 {σ : Nat → Nat} {n0 : Nat} {bf : ab_B} : decode (ab_code (zx σ n0 bf).1 8256) 241 = .ok (.putfield 620, 3) := zd zm_8256 (by decide +kernel)
theorem d_8256_244 {σ : Nat → Nat} {n0 : Nat} {bf : ab_B} : decode (ab_code (zx σ n0 bf).1 8256) 244 = .ok (.aload_n 0, 1) := zd zm_8256 (by decide +kernel)
theorem d_8256_245 {σ : Nat → Nat} {n0 : Nat} {bf : ab_B} : decode (ab_code (zx σ n0 bf).1 8256) 245 = .ok (.dup, 1) := zd zm_8256 (by decide +kernel)
theorem d_8256_246 {σ : Nat → Nat} {n0 : Nat} {bf : ab_B} : decode (ab_code (zx σ n0 bf).1 8256) 246 = .ok (.getfield 1261, 3) := zd zm_8256 (by decide +kernel)
theorem d_8256_249 {σ : Nat → Nat} {n0 : Nat} {bf : ab_B} : decode (ab_code (zx σ n0 bf).1 8256) 249 = .ok (.iload 7, 2) := zd zm_8256 (by decide +kernel)
theorem d_8256_251 {σ : Nat → Nat} {n0 : Nat} {bf : ab_B} : decode (ab_code (zx σ n0 bf).1 8256) 251 = .ok (.isub, 1) := zd zm_8256 (by decide +kernel)
theorem d_8256_252 {σ : Nat → Nat} {n0 : Nat} {bf : ab_B} : decode (ab_code (zx σ n0 bf).1 8256) 252 = .ok (.putfield 1261, 3) := zd zm_8256 (by decide +kernel)
theorem d_8256_255 {σ : Nat → Nat} {n0 : Nat} {bf : ab_B} : decode (ab_code (zx σ n0 bf).1 8256) 255 = .ok (.iload 8, 2) := zd zm_8256 (by decide +kernel)
theorem d_8256_257 {σ : Nat → Nat} {n0 : Nat} {bf : ab_B} : decode (ab_code (zx σ n0 bf).1 8256) 257 = .ok (.ifCond .ne 11, 3) := zd zm_8256 (by decide +kernel)
theorem d_8256_260 {σ : Nat → Nat} {n0 : Nat} {bf : ab_B} : decode (ab_code (zx σ n0 bf).1 8256) 260 = .ok (.aload_n 0, 1) := zd zm_8256 (by decide +kernel)
theorem d_8256_261 {σ : Nat → Nat} {n0 : Nat} {bf : ab_B} : decode (ab_code (zx σ n0 bf).1 8256) 261 = .ok (.iconst 2, 1) := zd zm_8256 (by decide +kernel)
theorem d_8256_262 {σ : Nat → Nat} {n0 : Nat} {bf : ab_B} : decode (ab_code (zx σ n0 bf).1 8256) 262 = .ok (.iload 5, 2) := zd zm_8256 (by decide +kernel)
theorem d_8256_264 {σ : Nat → Nat} {n0 : Nat} {bf : ab_B} : decode (ab_code (zx σ n0 bf).1 8256) 264 = .ok (.invokevirtual 1297, 3) := zd zm_8256 (by decide +kernel)
theorem d_8256_267 {σ : Nat → Nat} {n0 : Nat} {bf : ab_B} : decode (ab_code (zx σ n0 bf).1 8256) 267 = .ok (.return_, 1) := zd zm_8256 (by decide +kernel)
theorem d_8256_268 {σ : Nat → Nat} {n0 : Nat} {bf : ab_B} : decode (ab_code (zx σ n0 bf).1 8256) 268 = .ok (.aload_n 0, 1) := zd zm_8256 (by decide +kernel)
theorem d_8256_269 {σ : Nat → Nat} {n0 : Nat} {bf : ab_B} : decode (ab_code (zx σ n0 bf).1 8256) 269 = .ok (.aload_n 0, 1) := zd zm_8256 (by decide +kernel)
theorem d_8256_270 {σ : Nat → Nat} {n0 : Nat} {bf : ab_B} : decode (ab_code (zx σ n0 bf).1 8256) 270 = .ok (.getfield 347, 3) := zd zm_8256 (by decide +kernel)
theorem d_8256_273 {σ : Nat → Nat} {n0 : Nat} {bf : ab_B} : decode (ab_code (zx σ n0 bf).1 8256) 273 = .ok (.iload 4, 2) := zd zm_8256 (by decide +kernel)
theorem d_8256_275 {σ : Nat → Nat} {n0 : Nat} {bf : ab_B} : decode (ab_code (zx σ n0 bf).1 8256) 275 = .ok (.iaload, 1) := zd zm_8256 (by decide +kernel)
theorem d_8256_276 {σ : Nat → Nat} {n0 : Nat} {bf : ab_B} : decode (ab_code (zx σ n0 bf).1 8256) 276 = .ok (.iload_n 1, 1) := zd zm_8256 (by decide +kernel)
theorem d_8256_277 {σ : Nat → Nat} {n0 : Nat} {bf : ab_B} : decode (ab_code (zx σ n0 bf).1 8256) 277 = .ok (.iadd, 1) := zd zm_8256 (by decide +kernel)
theorem d_8256_278 {σ : Nat → Nat} {n0 : Nat} {bf : ab_B} : decode (ab_code (zx σ n0 bf).1 8256) 278 = .ok (.iload_n 2, 1) := zd zm_8256 (by decide +kernel)
theorem d_8256_279 {σ : Nat → Nat} {n0 : Nat} {bf : ab_B} : decode (ab_code (zx σ n0 bf).1 8256) 279 = .ok (.iload 5, 2) := zd zm_8256 (by decide +kernel)
theorem d_8256_281 {σ : Nat → Nat} {n0 : Nat} {bf : ab_B} : decode (ab_code (zx σ n0 bf).1 8256) 281 = .ok (.invokevirtual 1398, 3) := zd zm_8256 (by decide +kernel)
theorem d_8256_284 {σ : Nat → Nat} {n0 : Nat} {bf : ab_B} : decode (ab_code (zx σ n0 bf).1 8256) 284 = .ok (.istore 6, 2) := zd zm_8256 (by decide +kernel)
theorem d_8256_286 {σ : Nat → Nat} {n0 : Nat} {bf : ab_B} : decode (ab_code (zx σ n0 bf).1 8256) 286 = .ok (.return_, 1) := zd zm_8256 (by decide +kernel)
def w_X9_makeVar_268 (X : zs_X) (d : Nat) (p0 : Nat) (p1 : Int32) (p2 : Int32) (p4 : Int32) (p5 : Int32) (S : zs_T) (Q : zs_Q) : Prop :=
  (zs_K S p0 = some (.inl 8) ∧ ∃ b2, (zs_R S 8160 p0) = some b2 ∧ zs_A S b2 0 p4 ∧ zs_C X d 8215 [.ref p0, .int ((zs_i S b2 p4.toNatClampNeg) + p1), .int p2, .int p5] S (zs_kI (fun v6 S5 => (Q (.returned none) S5)) Q))
theorem u_X9_makeVar_268 {σ : Nat → Nat} {n0 : Nat} {bf : ab_B} {d : Nat} {p0 : Nat} {p1 : Int32} {p2 : Int32} {p4 : Int32} {p5 : Int32} {S : zs_T} {Q : zs_Q} (hB : zt_B bf) (h : w_X9_makeVar_268 (zx σ n0 bf) d p0 p1 p2 p4 p5 S Q) : zs_U (zx σ n0 bf) d 8256 268 [(0, .ref p0), (1, .int p1), (2, .int p2), (4, .int p4), (5, .int p5)] [] S Q := by
  unfold w_X9_makeVar_268 at h
  refine zu_aload_n d_8256_268 rfl (zs_ra _) ?_
  refine zu_aload_n d_8256_269 rfl (zs_ra _) ?_
  obtain ⟨k1, h⟩ := h
  refine zg_8_347 rfl d_8256_270 k1 ?_
  refine zu_iload d_8256_273 rfl ?_
  obtain ⟨b2, e3, h⟩ := h
  refine zs_stk1 (zs_rfe e3) ?_
  obtain ⟨k4, h⟩ := h
  refine zu_iald (k := 0) d_8256_275 rfl rfl k4 ?_
  refine zu_iload_n d_8256_276 rfl ?_
  refine zu_stk d_8256_277 rfl rfl ?_
  refine zu_iload_n d_8256_278 rfl ?_
  refine zu_iload d_8256_279 rfl ?_
  refine zc_8_1398 (x0 := ((zs_i S b2 p4.toNatClampNeg) + p1)) (x1 := p2) (x2 := p5) hB rfl k1 d_8256_281 (Nat.le_of_ble_eq_true rfl) h (fun v6 S5 h => ?_)
  refine zu_istore d_8256_284 (zs_lt zq_8256 rfl) ?_
  exact zu_vret d_8256_286 zr_8256 h
def w_X9_makeVar_31 (X : zs_X) (d : Nat) (p0 : Nat) (p1 : Int32) (p2 : Int32) (p4 : Int32) (p5 : Int32) (S : zs_T) (Q : zs_Q) : Prop :=
  (w_X9_makeVar_268 X d p0 p1 p2 p4 p5 S Q)
theorem u_X9_makeVar_31 {σ : Nat → Nat} {n0 : Nat} {bf : ab_B} {d : Nat} {p0 : Nat} {p1 : Int32} {p2 : Int32} {p4 : Int32} {p5 : Int32} {S : zs_T} {Q : zs_Q} (hB : zt_B bf) (h : w_X9_makeVar_31 (zx σ n0 bf) d p0 p1 p2 p4 p5 S Q) : zs_U (zx σ n0 bf) d 8256 31 [(0, .ref p0), (1, .int p1), (2, .int p2), (4, .int p4), (5, .int p5)] [] S Q := by
  unfold w_X9_makeVar_31 at h
  refine zu_goto (t := 268) d_8256_31 rfl ?_
  exact (u_X9_makeVar_268 hB h).weak ⟨rfl, rfl, rfl, rfl, rfl, trivial⟩
def w_X9_makeVar_42 (X : zs_X) (d : Nat) (p0 : Nat) (p1 : Int32) (p2 : Int32) (p4 : Int32) (p5 : Int32) (p6 : Int32) (S : zs_T) (Q : zs_Q) : Prop :=
  (zs_K S p0 = some (.inl 8) ∧ ∃ b2, (zs_R S 8058 p0) = some b2 ∧ zs_A S b2 1 p6 ∧ zs_U X d 8256 57 [(0, .ref p0), (1, .int p1), (2, .int p2), (4, .int p4), (5, .int p5), (6, .int p6), (7, .int (zs_i S b2 p6.toNatClampNeg)), (8, .int (1 : Int32)), (9, .int (0 : Int32))] [] S Q)
theorem u_X9_makeVar_42 {σ : Nat → Nat} {n0 : Nat} {bf : ab_B} {d : Nat} {p0 : Nat} {p1 : Int32} {p2 : Int32} {p4 : Int32} {p5 : Int32} {p6 : Int32} {S : zs_T} {Q : zs_Q} (hB : zt_B bf) (h : w_X9_makeVar_42 (zx σ n0 bf) d p0 p1 p2 p4 p5 p6 S Q) : zs_U (zx σ n0 bf) d 8256 42 [(0, .ref p0), (1, .int p1), (2, .int p2), (4, .int p4), (5, .int p5), (6, .int p6)] [] S Q := by
  unfold w_X9_makeVar_42 at h
  refine zu_aload_n d_8256_42 rfl (zs_ra _) ?_
  obtain ⟨k1, h⟩ := h
  refine zg_8_127 rfl d_8256_43 k1 ?_
  refine zu_iload d_8256_46 rfl ?_
  obtain ⟨b2, e3, h⟩ := h
  refine zs_stk1 (zs_rfe e3) ?_
  obtain ⟨k4, h⟩ := h
  refine zu_bald (k := 1) d_8256_48 rfl (Or.inl rfl) k4 ?_
  refine zu_istore d_8256_49 (zs_lt zq_8256 rfl) ?_
  refine zu_iconst d_8256_51 zi_1 ?_
  refine zu_istore d_8256_52 (zs_lt zq_8256 rfl) ?_
  refine zu_iconst d_8256_54 zi_0 ?_
  refine zu_istore d_8256_55 (zs_lt zq_8256 rfl) ?_
  exact h.weak ⟨rfl, rfl, rfl, rfl, rfl, rfl, rfl, rfl, rfl, trivial⟩
def w_X9_makeVar_241 (X : zs_X) (d : Nat) (p0 : Nat) (p1 : Int32) (p2 : Int32) (p4 : Int32) (p5 : Int32) (p7 : Int32) (p8 : Int32) (q0 : Option Nat) (q1 : Int64) (S : zs_T) (Q : zs_Q) : Prop :=
  (∃ b1, q0 = some b1 ∧ zs_K S b1 = some (.inl 8) ∧ ab_n0 X.1 ≤ b1 ∧ ∀ S5, S5 = zs_sJ S 8084 b1 q1 → zs_K S p0 = some (.inl 8) ∧ ab_n0 X.1 ≤ p0 ∧ ∀ S10, S10 = zs_sI S5 8184 p0 ((zs_I S5 8184 p0) - p7) → ((¬ p8 = 0 → w_X9_makeVar_268 X d p0 p1 p2 p4 p5 S10 Q) ∧ (¬ (¬ p8 = 0) → (zs_C X d 8208 [.ref p0, .int (2 : Int32), .int p5] S10 (zs_kV (fun S14 => (Q (.returned none) S14)) Q)))))
theorem u_X9_makeVar_241 {σ : Nat → Nat} {n0 : Nat} {bf : ab_B} {d : Nat} {p0 : Nat} {p1 : Int32} {p2 : Int32} {p4 : Int32} {p5 : Int32} {p7 : Int32} {p8 : Int32} {q0 : Option Nat} {q1 : Int64} {S : zs_T} {Q : zs_Q} (hB : zt_B bf) (h : w_X9_makeVar_241 (zx σ n0 bf) d p0 p1 p2 p4 p5 p7 p8 q0 q1 S Q) : zs_U (zx σ n0 bf) d 8256 241 [(0, .ref p0), (1, .int p1), (2, .int p2), (4, .int p4), (5, .int p5), (7, .int p7), (8, .int p8)] [.long q1, va_rf q0] S Q := by
  unfold w_X9_makeVar_241 at h
  obtain ⟨b1, e2, h⟩ := h
  refine zs_stk1 (zs_rfe e2) ?_
  obtain ⟨k3, h⟩ := h
  obtain ⟨k4, h⟩ := h
  refine zp_8_620 (v := q1) rfl d_8256_241 k3 k4 ?_
  generalize e6 : zs_sJ S 8084 b1 q1 = S5
  have h := h S5 e6.symm
  have K7 : ∀ b, zs_K S5 b = zs_K S b := zs_Kt e6 (zs_KsJ _ _ _ _) (fun _ => rfl)
  refine zu_aload_n d_8256_244 rfl (zs_ra _) ?_
  refine zu_dup d_8256_245 rfl ?_
  obtain ⟨k8, h⟩ := h
  refine zg_8_1261 rfl d_8256_246 ((K7 _).trans k8) ?_
  refine zu_iload d_8256_249 rfl ?_
  refine zu_stk d_8256_251 rfl rfl ?_
  obtain ⟨k9, h⟩ := h
  refine zp_8_1261 (v := ((zs_I S5 8184 p0) - p7)) rfl d_8256_252 ((K7 _).trans k8) k9 ?_
  generalize e11 : zs_sI S5 8184 p0 ((zs_I S5 8184 p0) - p7) = S10
  have h := h S10 e11.symm
  have K12 : ∀ b, zs_K S10 b = zs_K S b := zs_Kt e11 (zs_KsI _ _ _ _) K7
  refine zu_iload d_8256_255 rfl ?_
  refine zu_ifne (t := 268) d_8256_257 rfl (fun c13 => ?_) (fun c13 => ?_)
  · have h := h.1 c13
    exact (u_X9_makeVar_268 hB h).weak ⟨rfl, rfl, rfl, rfl, rfl, trivial⟩
  · have h := h.2 c13
    refine zu_aload_n d_8256_260 rfl (zs_ra _) ?_
    refine zu_iconst d_8256_261 zi_2 ?_
    refine zu_iload d_8256_262 rfl ?_
    refine zc_8_1297 (x0 := (2 : Int32)) (x1 := p5) hB rfl ((K12 _).trans k8) d_8256_264 (Nat.le_of_ble_eq_true rfl) h (fun S14 h => ?_)
    exact zu_vret d_8256_267 zr_8256 h
def w_X9_makeVar_213 (X : zs_X) (d : Nat) (p0 : Nat) (p1 : Int32) (p2 : Int32) (p4 : Int32) (p5 : Int32) (p7 : Int32) (p8 : Int32) (q0 : Option Nat) (q1 : Int64) (S : zs_T) (Q : zs_Q) : Prop :=
  (∃ b1, q0 = some b1 ∧ zs_K S b1 = some (.inl 8) ∧ ab_n0 X.1 ≤ b1 ∧ ∀ S5, S5 = zs_sJ S 8083 b1 q1 → ((p7 ≤ (3 : Int32) → (w_X9_makeVar_241 X d p0 p1 p2 p4 p5 p7 p8 (some p0) (0 : Int64) S5 Q)) ∧ (¬ (p7 ≤ (3 : Int32)) → (zs_K S p0 = some (.inl 8) ∧ ∃ b10, (zs_R S5 8183 p0) = some b10 ∧ zs_A S b10 3 (((zs_I S5 8184 p0) - p7) + (3 : Int32)) ∧ w_X9_makeVar_241 X d p0 p1 p2 p4 p5 p7 p8 (some p0) (zs_j S5 b10 (((zs_I S5 8184 p0) - p7) + (3 : Int32)).toNatClampNeg) S5 Q))))
theorem u_X9_makeVar_213 {σ : Nat → Nat} {n0 : Nat} {bf : ab_B} {d : Nat} {p0 : Nat} {p1 : Int32} {p2 : Int32} {p4 : Int32} {p5 : Int32} {p7 : Int32} {p8 : Int32} {q0 : Option Nat} {q1 : Int64} {S : zs_T} {Q : zs_Q} (hB : zt_B bf) (h : w_X9_makeVar_213 (zx σ n0 bf) d p0 p1 p2 p4 p5 p7 p8 q0 q1 S Q) : zs_U (zx σ n0 bf) d 8256 213 [(0, .ref p0), (1, .int p1), (2, .int p2), (4, .int p4), (5, .int p5), (7, .int p7), (8, .int p8)] [.long q1, va_rf q0] S Q := by
  unfold w_X9_makeVar_213 at h
  obtain ⟨b1, e2, h⟩ := h
  refine zs_stk1 (zs_rfe e2) ?_
  obtain ⟨k3, h⟩ := h
  obtain ⟨k4, h⟩ := h
  refine zp_8_617 (v := q1) rfl d_8256_213 k3 k4 ?_
  generalize e6 : zs_sJ S 8083 b1 q1 = S5
  have h := h S5 e6.symm
  have K7 : ∀ b, zs_K S5 b = zs_K S b := zs_Kt e6 (zs_KsJ _ _ _ _) (fun _ => rfl)
  refine zu_aload_n d_8256_216 rfl (zs_ra _) ?_
  refine zu_iload d_8256_217 rfl ?_
  refine zu_iconst d_8256_219 zi_3 ?_
  refine zu_cmple (t := 240) d_8256_220 rfl (fun c8 => ?_) (fun c8 => ?_)
  · have h := h.1 c8
    refine zu_lconst (v := 0) d_8256_240 rfl ?_
    exact (u_X9_makeVar_241 hB h).weak ⟨rfl, rfl, rfl, rfl, rfl, rfl, rfl, trivial⟩
  · have h := h.2 c8
    refine zu_aload_n d_8256_223 rfl (zs_ra _) ?_
    obtain ⟨k9, h⟩ := h
    refine zg_8_399 rfl d_8256_224 ((K7 _).trans k9) ?_
    refine zu_aload_n d_8256_227 rfl (zs_ra _) ?_
    refine zg_8_1261 rfl d_8256_228 ((K7 _).trans k9) ?_
    refine zu_iload d_8256_231 rfl ?_
    refine zu_stk d_8256_233 rfl rfl ?_
    refine zu_iconst d_8256_234 zi_3 ?_
    refine zu_stk d_8256_235 rfl rfl ?_
    obtain ⟨b10, e11, h⟩ := h
    refine zs_stk1 (zs_rfe e11) ?_
    obtain ⟨k12, h⟩ := h
    refine zu_lald (k := 3) d_8256_236 rfl rfl (zs_Ak K7 k12) ?_
    refine zu_goto (t := 241) d_8256_237 rfl ?_
    exact (u_X9_makeVar_241 hB h).weak ⟨rfl, rfl, rfl, rfl, rfl, rfl, rfl, trivial⟩
def w_X9_makeVar_185 (X : zs_X) (d : Nat) (p0 : Nat) (p1 : Int32) (p2 : Int32) (p4 : Int32) (p5 : Int32) (p7 : Int32) (p8 : Int32) (q0 : Option Nat) (q1 : Int64) (S : zs_T) (Q : zs_Q) : Prop :=
  (∃ b1, q0 = some b1 ∧ zs_K S b1 = some (.inl 8) ∧ ab_n0 X.1 ≤ b1 ∧ ∀ S5, S5 = zs_sJ S 8082 b1 q1 → ((p7 ≤ (2 : Int32) → (w_X9_makeVar_213 X d p0 p1 p2 p4 p5 p7 p8 (some p0) (0 : Int64) S5 Q)) ∧ (¬ (p7 ≤ (2 : Int32)) → (zs_K S p0 = some (.inl 8) ∧ ∃ b10, (zs_R S5 8183 p0) = some b10 ∧ zs_A S b10 3 (((zs_I S5 8184 p0) - p7) + (2 : Int32)) ∧ w_X9_makeVar_213 X d p0 p1 p2 p4 p5 p7 p8 (some p0) (zs_j S5 b10 (((zs_I S5 8184 p0) - p7) + (2 : Int32)).toNatClampNeg) S5 Q))))
theorem u_X9_makeVar_185 {σ : Nat → Nat} {n0 : Nat} {bf : ab_B} {d : Nat} {p0 : Nat} {p1 : Int32} {p2 : Int32} {p4 : Int32} {p5 : Int32} {p7 : Int32} {p8 : Int32} {q0 : Option Nat} {q1 : Int64} {S : zs_T} {Q : zs_Q} (hB : zt_B bf) (h : w_X9_makeVar_185 (zx σ n0 bf) d p0 p1 p2 p4 p5 p7 p8 q0 q1 S Q) : zs_U (zx σ n0 bf) d 8256 185 [(0, .ref p0), (1, .int p1), (2, .int p2), (4, .int p4), (5, .int p5), (7, .int p7), (8, .int p8)] [.long q1, va_rf q0] S Q := by
  unfold w_X9_makeVar_185 at h
  obtain ⟨b1, e2, h⟩ := h
  refine zs_stk1 (zs_rfe e2) ?_
  obtain ⟨k3, h⟩ := h
  obtain ⟨k4, h⟩ := h
  refine zp_8_614 (v := q1) rfl d_8256_185 k3 k4 ?_
  generalize e6 : zs_sJ S 8082 b1 q1 = S5
  have h := h S5 e6.symm
  have K7 : ∀ b, zs_K S5 b = zs_K S b := zs_Kt e6 (zs_KsJ _ _ _ _) (fun _ => rfl)
  refine zu_aload_n d_8256_188 rfl (zs_ra _) ?_
  refine zu_iload d_8256_189 rfl ?_
  refine zu_iconst d_8256_191 zi_2 ?_
  refine zu_cmple (t := 212) d_8256_192 rfl (fun c8 => ?_) (fun c8 => ?_)
  · have h := h.1 c8
    refine zu_lconst (v := 0) d_8256_212 rfl ?_
    exact (u_X9_makeVar_213 hB h).weak ⟨rfl, rfl, rfl, rfl, rfl, rfl, rfl, trivial⟩
  · have h := h.2 c8
    refine zu_aload_n d_8256_195 rfl (zs_ra _) ?_
    obtain ⟨k9, h⟩ := h
    refine zg_8_399 rfl d_8256_196 ((K7 _).trans k9) ?_
    refine zu_aload_n d_8256_199 rfl (zs_ra _) ?_
    refine zg_8_1261 rfl d_8256_200 ((K7 _).trans k9) ?_
    refine zu_iload d_8256_203 rfl ?_
    refine zu_stk d_8256_205 rfl rfl ?_
    refine zu_iconst d_8256_206 zi_2 ?_
    refine zu_stk d_8256_207 rfl rfl ?_
    obtain ⟨b10, e11, h⟩ := h
    refine zs_stk1 (zs_rfe e11) ?_
    obtain ⟨k12, h⟩ := h
    refine zu_lald (k := 3) d_8256_208 rfl rfl (zs_Ak K7 k12) ?_
    refine zu_goto (t := 213) d_8256_209 rfl ?_
    exact (u_X9_makeVar_213 hB h).weak ⟨rfl, rfl, rfl, rfl, rfl, rfl, rfl, trivial⟩
def w_X9_makeVar_137 (X : zs_X) (d : Nat) (p0 : Nat) (p1 : Int32) (p2 : Int32) (p4 : Int32) (p5 : Int32) (p6 : Int32) (p7 : Int32) (p8 : Int32) (p9 : Int32) (S : zs_T) (Q : zs_Q) : Prop :=
  (zs_U X d 8256 57 [(0, .ref p0), (1, .int p1), (2, .int p2), (4, .int p4), (5, .int p5), (6, .int p6), (7, .int p7), (8, .int p8), (9, .int p9)] [] S Q)
theorem u_X9_makeVar_137 {σ : Nat → Nat} {n0 : Nat} {bf : ab_B} {d : Nat} {p0 : Nat} {p1 : Int32} {p2 : Int32} {p4 : Int32} {p5 : Int32} {p6 : Int32} {p7 : Int32} {p8 : Int32} {p9 : Int32} {S : zs_T} {Q : zs_Q} (hB : zt_B bf) (h : w_X9_makeVar_137 (zx σ n0 bf) d p0 p1 p2 p4 p5 p6 p7 p8 p9 S Q) : zs_U (zx σ n0 bf) d 8256 137 [(0, .ref p0), (1, .int p1), (2, .int p2), (4, .int p4), (5, .int p5), (6, .int p6), (7, .int p7), (8, .int p8), (9, .int p9)] [] S Q := by
  unfold w_X9_makeVar_137 at h
  refine zu_goto (t := 57) d_8256_137 rfl ?_
  exact h.weak ⟨rfl, rfl, rfl, rfl, rfl, rfl, rfl, rfl, rfl, trivial⟩
def w_X9_makeVar_131 (X : zs_X) (d : Nat) (p0 : Nat) (p1 : Int32) (p2 : Int32) (p4 : Int32) (p5 : Int32) (p6 : Int32) (p7 : Int32) (p9 : Int32) (S : zs_T) (Q : zs_Q) : Prop :=
  (w_X9_makeVar_137 X d p0 p1 p2 p4 p5 p6 p7 (0 : Int32) (p9 + (1 : Int32)) S Q)
theorem u_X9_makeVar_131 {σ : Nat → Nat} {n0 : Nat} {bf : ab_B} {d : Nat} {p0 : Nat} {p1 : Int32} {p2 : Int32} {p4 : Int32} {p5 : Int32} {p6 : Int32} {p7 : Int32} {p9 : Int32} {S : zs_T} {Q : zs_Q} (hB : zt_B bf) (h : w_X9_makeVar_131 (zx σ n0 bf) d p0 p1 p2 p4 p5 p6 p7 p9 S Q) : zs_U (zx σ n0 bf) d 8256 131 [(0, .ref p0), (1, .int p1), (2, .int p2), (4, .int p4), (5, .int p5), (6, .int p6), (7, .int p7), (9, .int p9)] [] S Q := by
  unfold w_X9_makeVar_131 at h
  refine zu_iconst d_8256_131 zi_0 ?_
  refine zu_istore d_8256_132 (zs_lt zq_8256 rfl) ?_
  refine zu_iinc d_8256_134 rfl zi_1 (zs_lt zq_8256 rfl) ?_
  exact (u_X9_makeVar_137 hB h).weak ⟨rfl, rfl, rfl, rfl, rfl, rfl, rfl, rfl, rfl, trivial⟩
def w_X9_makeVar_102 (X : zs_X) (d : Nat) (p0 : Nat) (p1 : Int32) (p2 : Int32) (p4 : Int32) (p5 : Int32) (p6 : Int32) (p7 : Int32) (p8 : Int32) (p9 : Int32) (p10 : Int64) (S : zs_T) (Q : zs_Q) : Prop :=
  (((p8 = 0 → w_X9_makeVar_131 X d p0 p1 p2 p4 p5 p6 p7 p9 S Q) ∧ (¬ (p8 = 0) → (zs_K S p0 = some (.inl 8) ∧ ((p10 < (zs_J S 8125 p0) → w_X9_makeVar_131 X d p0 p1 p2 p4 p5 p6 p7 p9 S Q) ∧ (¬ (p10 < (zs_J S 8125 p0)) → ((((zs_J S 8126 p0) < p10 → w_X9_makeVar_131 X d p0 p1 p2 p4 p5 p6 p7 p9 S Q) ∧ (¬ ((zs_J S 8126 p0) < p10) → (w_X9_makeVar_137 X d p0 p1 p2 p4 p5 p6 p7 (1 : Int32) (p9 + (1 : Int32)) S Q))))))))))
theorem u_X9_makeVar_102 {σ : Nat → Nat} {n0 : Nat} {bf : ab_B} {d : Nat} {p0 : Nat} {p1 : Int32} {p2 : Int32} {p4 : Int32} {p5 : Int32} {p6 : Int32} {p7 : Int32} {p8 : Int32} {p9 : Int32} {p10 : Int64} {S : zs_T} {Q : zs_Q} (hB : zt_B bf) (h : w_X9_makeVar_102 (zx σ n0 bf) d p0 p1 p2 p4 p5 p6 p7 p8 p9 p10 S Q) : zs_U (zx σ n0 bf) d 8256 102 [(0, .ref p0), (1, .int p1), (2, .int p2), (4, .int p4), (5, .int p5), (6, .int p6), (7, .int p7), (8, .int p8), (9, .int p9), (10, .long p10)] [] S Q := by
  unfold w_X9_makeVar_102 at h
  refine zu_iload d_8256_102 rfl ?_
  refine zu_ifeq (t := 131) d_8256_104 rfl (fun c1 => ?_) (fun c1 => ?_)
  · have h := h.1 c1
    exact (u_X9_makeVar_131 hB h).weak ⟨rfl, rfl, rfl, rfl, rfl, rfl, rfl, rfl, trivial⟩
  · have h := h.2 c1
    refine zu_lload d_8256_107 rfl ?_
    refine zu_aload_n d_8256_109 rfl (zs_ra _) ?_
    obtain ⟨k2, h⟩ := h
    refine zg_8_783 rfl d_8256_110 k2 ?_
    refine zu_llt (t := 131) d_8256_113 d_8256_114 rfl (fun c3 => ?_) (fun c3 => ?_)
    · have h := h.1 c3
      exact (u_X9_makeVar_131 hB h).weak ⟨rfl, rfl, rfl, rfl, rfl, rfl, rfl, rfl, trivial⟩
    · have h := h.2 c3
      refine zu_lload d_8256_117 rfl ?_
      refine zu_aload_n d_8256_119 rfl (zs_ra _) ?_
      refine zg_8_786 rfl d_8256_120 k2 ?_
      refine zu_lgt (t := 131) d_8256_123 d_8256_124 rfl (fun c4 => ?_) (fun c4 => ?_)
      · have h := h.1 c4
        exact (u_X9_makeVar_131 hB h).weak ⟨rfl, rfl, rfl, rfl, rfl, rfl, rfl, rfl, trivial⟩
      · have h := h.2 c4
        refine zu_iconst d_8256_127 zi_1 ?_
        refine zu_goto (t := 132) d_8256_128 rfl ?_
        refine zu_istore d_8256_132 (zs_lt zq_8256 rfl) ?_
        refine zu_iinc d_8256_134 rfl zi_1 (zs_lt zq_8256 rfl) ?_
        exact (u_X9_makeVar_137 hB h).weak ⟨rfl, rfl, rfl, rfl, rfl, rfl, rfl, rfl, rfl, trivial⟩
def w_X9_makeVar_57 (X : zs_X) (d : Nat) (p0 : Nat) (p1 : Int32) (p2 : Int32) (p4 : Int32) (p5 : Int32) (p6 : Int32) (p7 : Int32) (p8 : Int32) (p9 : Int32) (S : zs_T) (Q : zs_Q) : Prop :=
  (((p7 ≤ p9 → (zs_K S p0 = some (.inl 8) ∧ zs_C X d 8214 [.ref p0] S (zs_kV (fun S3 => (zs_K S3 p0 = some (.inl 8) ∧ ∃ b6, (zs_R S3 8183 p0) = some b6 ∧ zs_A S3 b6 3 ((zs_I S3 8184 p0) - p7) ∧ ab_n0 X.1 ≤ p0 ∧ ∀ S10, S10 = zs_sJ S3 8081 p0 (zs_j S3 b6 ((zs_I S3 8184 p0) - p7).toNatClampNeg) → ((p7 ≤ (1 : Int32) → (w_X9_makeVar_185 X d p0 p1 p2 p4 p5 p7 p8 (some p0) (0 : Int64) S10 Q)) ∧ (¬ (p7 ≤ (1 : Int32)) → (∃ b14, (zs_R S10 8183 p0) = some b14 ∧ zs_A S3 b14 3 (((zs_I S10 8184 p0) - p7) + (1 : Int32)) ∧ w_X9_makeVar_185 X d p0 p1 p2 p4 p5 p7 p8 (some p0) (zs_j S10 b14 (((zs_I S10 8184 p0) - p7) + (1 : Int32)).toNatClampNeg) S10 Q))))) Q))) ∧ (¬ (p7 ≤ p9) → (zs_K S p0 = some (.inl 8) ∧ ∃ b18, (zs_R S 8183 p0) = some b18 ∧ zs_A S b18 3 (((zs_I S 8184 p0) - p7) + p9) ∧ ∃ b21, (zs_R S 8057 p0) = some b21 ∧ zs_A S b21 0 p6 ∧ ∃ b24, (zs_R S 8062 p0) = some b24 ∧ zs_A S b24 0 ((zs_i S b21 p6.toNatClampNeg) + p9) ∧ zs_C X d 8123 [.ref p0, .int (zs_i S b24 ((zs_i S b21 p6.toNatClampNeg) + p9).toNatClampNeg)] S (zs_kI (fun v28 S27 => (w_X9_makeVar_102 X d p0 p1 p2 p4 p5 p6 p7 p8 p9 (zs_j S b18 (((zs_I S 8184 p0) - p7) + p9).toNatClampNeg) S27 Q)) Q)))))
theorem u_X9_makeVar_57 {σ : Nat → Nat} {n0 : Nat} {bf : ab_B} {d : Nat} {p0 : Nat} {p1 : Int32} {p2 : Int32} {p4 : Int32} {p5 : Int32} {p6 : Int32} {p7 : Int32} {p8 : Int32} {p9 : Int32} {S : zs_T} {Q : zs_Q} (hB : zt_B bf) (h : w_X9_makeVar_57 (zx σ n0 bf) d p0 p1 p2 p4 p5 p6 p7 p8 p9 S Q) : zs_U (zx σ n0 bf) d 8256 57 [(0, .ref p0), (1, .int p1), (2, .int p2), (4, .int p4), (5, .int p5), (6, .int p6), (7, .int p7), (8, .int p8), (9, .int p9)] [] S Q := by
  unfold w_X9_makeVar_57 at h
  refine zu_iload d_8256_57 rfl ?_
  refine zu_iload d_8256_59 rfl ?_
  refine zu_cmpge (t := 140) d_8256_61 rfl (fun c1 => ?_) (fun c1 => ?_)
  · have h := h.1 c1
    refine zu_aload_n d_8256_140 rfl (zs_ra _) ?_
    obtain ⟨k2, h⟩ := h
    refine zc_8_1368  hB rfl k2 d_8256_141 (Nat.le_of_ble_eq_true rfl) h (fun S3 h => ?_)
    refine zu_aload_n d_8256_144 rfl (zs_ra _) ?_
    refine zu_aload_n d_8256_145 rfl (zs_ra _) ?_
    obtain ⟨k5, h⟩ := h
    refine zg_8_399 rfl d_8256_146 k5 ?_
    refine zu_aload_n d_8256_149 rfl (zs_ra _) ?_
    refine zg_8_1261 rfl d_8256_150 k5 ?_
    refine zu_iload d_8256_153 rfl ?_
    refine zu_stk d_8256_155 rfl rfl ?_
    obtain ⟨b6, e7, h⟩ := h
    refine zs_stk1 (zs_rfe e7) ?_
    obtain ⟨k8, h⟩ := h
    refine zu_lald (k := 3) d_8256_156 rfl rfl k8 ?_
    obtain ⟨k9, h⟩ := h
    refine zp_8_610 (v := (zs_j S3 b6 ((zs_I S3 8184 p0) - p7).toNatClampNeg)) rfl d_8256_157 k5 k9 ?_
    generalize e11 : zs_sJ S3 8081 p0 (zs_j S3 b6 ((zs_I S3 8184 p0) - p7).toNatClampNeg) = S10
    have h := h S10 e11.symm
    have K12 : ∀ b, zs_K S10 b = zs_K S3 b := zs_Kt e11 (zs_KsJ _ _ _ _) (fun _ => rfl)
    refine zu_aload_n d_8256_160 rfl (zs_ra _) ?_
    refine zu_iload d_8256_161 rfl ?_
    refine zu_iconst d_8256_163 zi_1 ?_
    refine zu_cmple (t := 184) d_8256_164 rfl (fun c13 => ?_) (fun c13 => ?_)
    · have h := h.1 c13
      refine zu_lconst (v := 0) d_8256_184 rfl ?_
      exact (u_X9_makeVar_185 hB h).weak ⟨rfl, rfl, rfl, rfl, rfl, rfl, rfl, trivial⟩
    · have h := h.2 c13
      refine zu_aload_n d_8256_167 rfl (zs_ra _) ?_
      refine zg_8_399 rfl d_8256_168 ((K12 _).trans k5) ?_
      refine zu_aload_n d_8256_171 rfl (zs_ra _) ?_
      refine zg_8_1261 rfl d_8256_172 ((K12 _).trans k5) ?_
      refine zu_iload d_8256_175 rfl ?_
      refine zu_stk d_8256_177 rfl rfl ?_
      refine zu_iconst d_8256_178 zi_1 ?_
      refine zu_stk d_8256_179 rfl rfl ?_
      obtain ⟨b14, e15, h⟩ := h
      refine zs_stk1 (zs_rfe e15) ?_
      obtain ⟨k16, h⟩ := h
      refine zu_lald (k := 3) d_8256_180 rfl rfl (zs_Ak K12 k16) ?_
      refine zu_goto (t := 185) d_8256_181 rfl ?_
      exact (u_X9_makeVar_185 hB h).weak ⟨rfl, rfl, rfl, rfl, rfl, rfl, rfl, trivial⟩
  · have h := h.2 c1
    refine zu_aload_n d_8256_64 rfl (zs_ra _) ?_
    obtain ⟨k17, h⟩ := h
    refine zg_8_399 rfl d_8256_65 k17 ?_
    refine zu_aload_n d_8256_68 rfl (zs_ra _) ?_
    refine zg_8_1261 rfl d_8256_69 k17 ?_
    refine zu_iload d_8256_72 rfl ?_
    refine zu_stk d_8256_74 rfl rfl ?_
    refine zu_iload d_8256_75 rfl ?_
    refine zu_stk d_8256_77 rfl rfl ?_
    obtain ⟨b18, e19, h⟩ := h
    refine zs_stk1 (zs_rfe e19) ?_
    obtain ⟨k20, h⟩ := h
    refine zu_lald (k := 3) d_8256_78 rfl rfl k20 ?_
    refine zu_lstore d_8256_79 (zs_lt zq_8256 rfl) ?_
    refine zu_aload_n d_8256_81 rfl (zs_ra _) ?_
    refine zu_aload_n d_8256_82 rfl (zs_ra _) ?_
    refine zg_8_136 rfl d_8256_83 k17 ?_
    refine zu_aload_n d_8256_86 rfl (zs_ra _) ?_
    refine zg_8_124 rfl d_8256_87 k17 ?_
    refine zu_iload d_8256_90 rfl ?_
    obtain ⟨b21, e22, h⟩ := h
    refine zs_stk1 (zs_rfe e22) ?_
    obtain ⟨k23, h⟩ := h
    refine zu_iald (k := 0) d_8256_92 rfl rfl k23 ?_
    refine zu_iload d_8256_93 rfl ?_
    refine zu_stk d_8256_95 rfl rfl ?_
    obtain ⟨b24, e25, h⟩ := h
    refine zs_stk1 (zs_rfe e25) ?_
    obtain ⟨k26, h⟩ := h
    refine zu_iald (k := 0) d_8256_96 rfl rfl k26 ?_
    refine zc_8_792 (x0 := (zs_i S b24 ((zs_i S b21 p6.toNatClampNeg) + p9).toNatClampNeg)) hB rfl k17 d_8256_97 (Nat.le_of_ble_eq_true rfl) h (fun v28 S27 h => ?_)
    refine zu_istore d_8256_100 (zs_lt zq_8256 rfl) ?_
    exact (u_X9_makeVar_102 hB h).weak ⟨rfl, rfl, rfl, rfl, rfl, rfl, rfl, rfl, rfl, rfl, trivial⟩
def w_X9_makeVar (X : zs_X) (d : Nat) (p0 : Nat) (p1 : Int32) (p2 : Int32) (p3 : Int32) (S : zs_T) (Q : zs_Q) : Prop :=
  (zs_K S p0 = some (.inl 8) ∧ ∃ b2, (zs_R S 8156 p0) = some b2 ∧ zs_A S b2 0 ((zs_I S 8165 p0) - (1 : Int32)) ∧ ∃ b5, (zs_R S 8145 p0) = some b5 ∧ zs_A S b5 0 (zs_i S b2 ((zs_I S 8165 p0) - (1 : Int32)).toNatClampNeg) ∧ ((¬ p3 = 0 → (∃ b9, (zs_R S 8045 p0) = some b9 ∧ zs_A S b9 0 p2 ∧ w_X9_makeVar_42 X d p0 p1 p2 ((zs_I S 8165 p0) - (1 : Int32)) (zs_i S b5 (zs_i S b2 ((zs_I S 8165 p0) - (1 : Int32)).toNatClampNeg).toNatClampNeg) (zs_i S b9 p2.toNatClampNeg) S Q)) ∧ (¬ (¬ p3 = 0) → (zs_C X d 8225 [.ref p0, .int p2] S (zs_kV (fun S12 => w_X9_makeVar_31 X d p0 p1 p2 ((zs_I S 8165 p0) - (1 : Int32)) (zs_i S b5 (zs_i S b2 ((zs_I S 8165 p0) - (1 : Int32)).toNatClampNeg).toNatClampNeg) S12 Q) Q)))))
theorem u_X9_makeVar {σ : Nat → Nat} {n0 : Nat} {bf : ab_B} {d : Nat} {p0 : Nat} {p1 : Int32} {p2 : Int32} {p3 : Int32} {S : zs_T} {Q : zs_Q} (hB : zt_B bf) (hd : 1 ≤ d) (h : w_X9_makeVar (zx σ n0 bf) (d - 1) p0 p1 p2 p3 S Q) : zs_C (zx σ n0 bf) d 8256 [.ref p0, .int p1, .int p2, .int p3] S Q := by
  have hL : lv_args 0 [.ref p0, .int p1, .int p2, .int p3] = [(0, .ref p0), (1, .int p1), (2, .int p2), (3, .int p3)] := rfl
  refine zs_C.of1 (hB.2 8256 (by decide) (by decide)) hd (by rw [hL]; exact zs_sub_self _ (by exact ⟨rfl, rfl, rfl, rfl, trivial⟩)) ?_
  rw [hL]
  clear hL
  unfold w_X9_makeVar at h
  refine zu_aload_n d_8256_0 rfl (zs_ra _) ?_
  obtain ⟨k1, h⟩ := h
  refine zg_8_1240 rfl d_8256_1 k1 ?_
  refine zu_iconst d_8256_4 zi_1 ?_
  refine zu_stk d_8256_5 rfl rfl ?_
  refine zu_istore d_8256_6 (zs_lt zq_8256 rfl) ?_
  refine zu_aload_n d_8256_8 rfl (zs_ra _) ?_
  refine zg_8_311 rfl d_8256_9 k1 ?_
  refine zu_aload_n d_8256_12 rfl (zs_ra _) ?_
  refine zg_8_335 rfl d_8256_13 k1 ?_
  refine zu_iload d_8256_16 rfl ?_
  obtain ⟨b2, e3, h⟩ := h
  refine zs_stk1 (zs_rfe e3) ?_
  obtain ⟨k4, h⟩ := h
  refine zu_iald (k := 0) d_8256_18 rfl rfl k4 ?_
  obtain ⟨b5, e6, h⟩ := h
  refine zs_stk1 (zs_rfe e6) ?_
  obtain ⟨k7, h⟩ := h
  refine zu_iald (k := 0) d_8256_19 rfl rfl k7 ?_
  refine zu_istore d_8256_20 (zs_lt zq_8256 rfl) ?_
  refine zu_iload_n d_8256_22 rfl ?_
  refine zu_ifne (t := 34) d_8256_23 rfl (fun c8 => ?_) (fun c8 => ?_)
  · have h := h.1 c8
    refine zu_aload_n d_8256_34 rfl (zs_ra _) ?_
    refine zg_8_93 rfl d_8256_35 k1 ?_
    refine zu_iload_n d_8256_38 rfl ?_
    obtain ⟨b9, e10, h⟩ := h
    refine zs_stk1 (zs_rfe e10) ?_
    obtain ⟨k11, h⟩ := h
    refine zu_iald (k := 0) d_8256_39 rfl rfl k11 ?_
    refine zu_istore d_8256_40 (zs_lt zq_8256 rfl) ?_
    exact (u_X9_makeVar_42 hB h).weak ⟨rfl, rfl, rfl, rfl, rfl, rfl, trivial⟩
  · have h := h.2 c8
    refine zu_aload_n d_8256_26 rfl (zs_ra _) ?_
    refine zu_iload_n d_8256_27 rfl ?_
    refine zc_8_1395 (x0 := p2) hB rfl k1 d_8256_28 (Nat.le_of_ble_eq_true rfl) h (fun S12 h => ?_)
    exact (u_X9_makeVar_31 hB h).weak ⟨rfl, rfl, rfl, rfl, rfl, trivial⟩
/-! SchemaPascalModel.initText(III)V -/
theorem zm_8257 {σ : Nat → Nat} {n0 : Nat} {bf : ab_B} : ab_code (zx σ n0 bf).1 8257 = prog_17_method_250_code := rfl
theorem zq_8257 {σ : Nat → Nat} {n0 : Nat} {bf : ab_B} : ab_maxL (zx σ n0 bf).1 8257 = 7 := rfl
theorem zr_8257 {σ : Nat → Nat} {n0 : Nat} {bf : ab_B} : ab_ret (zx σ n0 bf).1 8257 = (Option.none : Option Jvm.ClassFile.FieldType) := rfl
theorem d_8257_0 {σ : Nat → Nat} {n0 : Nat} {bf : ab_B} : decode (ab_code (zx σ n0 bf).1 8257) 0 = .ok (.aload_n 0, 1) := zd zm_8257 (by decide +kernel)
theorem d_8257_1 {σ : Nat → Nat} {n0 : Nat} {bf : ab_B} : decode (ab_code (zx σ n0 bf).1 8257) 1 = .ok (.getfield 362, 3) := zd zm_8257 (by decide +kernel)
theorem d_8257_4 {σ : Nat → Nat} {n0 : Nat} {bf : ab_B} : decode (ab_code (zx σ n0 bf).1 8257) 4 = .ok (.aload_n 0, 1) := zd zm_8257 (by decide +kernel)
theorem d_8257_5 {σ : Nat → Nat} {n0 : Nat} {bf : ab_B} : decode (ab_code (zx σ n0 bf).1 8257) 5 = .ok (.getfield 347, 3) := zd zm_8257 (by decide +kernel)
theorem d_8257_8 {σ : Nat → Nat} {n0 : Nat} {bf : ab_B} : decode (ab_code (zx σ n0 bf).1 8257) 8 = .ok (.aload_n 0, 1) := zd zm_8257 (by decide +kernel)
theorem d_8257_9 {σ : Nat → Nat} {n0 : Nat} {bf : ab_B} : decode (ab_code (zx σ n0 bf).1 8257) 9 = .ok (.getfield 1240, 3) := zd zm_8257 (by decide +kernel)
theorem d_8257_12 {σ : Nat → Nat} {n0 : Nat} {bf : ab_B} : decode (ab_code (zx σ n0 bf).1 8257) 12 = .ok (.iconst 1, 1) := zd zm_8257 (by decide +kernel)
theorem d_8257_13 {σ : Nat → Nat} {n0 : Nat} {bf : ab_B} : decode (ab_code (zx σ n0 bf).1 8257) 13 = .ok (.isub, 1) := zd zm_8257 (by decide +kernel)
theorem d_8257_14 {σ : Nat → Nat} {n0 : Nat} {bf : ab_B} : decode (ab_code (zx σ n0 bf).1 8257) 14 = .ok (.iaload, 1) := zd zm_8257 (by decide +kernel)
theorem d_8257_15 {σ : Nat → Nat} {n0 : Nat} {bf : ab_B} : decode (ab_code (zx σ n0 bf).1 8257) 15 = .ok (.iload_n 1, 1) := zd zm_8257 (by decide +kernel)
theorem d_8257_16 {σ : Nat → Nat} {n0 : Nat} {bf : ab_B} : decode (ab_code (zx σ n0 bf).1 8257) 16 = .ok (.iadd, 1) := zd zm_8257 (by decide +kernel)
theorem d_8257_17 {σ : Nat → Nat} {n0 : Nat} {bf : ab_B} : decode (ab_code (zx σ n0 bf).1 8257) 17 = .ok (.iaload, 1) := zd zm_8257 (by decide +kernel)
theorem d_8257_18 {σ : Nat → Nat} {n0 : Nat} {bf : ab_B} : decode (ab_code (zx σ n0 bf).1 8257) 18 = .ok (.istore 4, 2) := zd zm_8257 (by decide +kernel)
theorem d_8257_20 {σ : Nat → Nat} {n0 : Nat} {bf : ab_B} : decode (ab_code (zx σ n0 bf).1 8257) 20 = .ok (.iload_n 3, 1) := zd zm_8257 (by decide +kernel)
theorem d_8257_21 {σ : Nat → Nat} {n0 : Nat} {bf : ab_B} : decode (ab_code (zx σ n0 bf).1 8257) 21 = .ok (.ifCond .ge 7, 3) := zd zm_8257 (by decide +kernel)
theorem d_8257_24 {σ : Nat → Nat} {n0 : Nat} {bf : ab_B} : decode (ab_code (zx σ n0 bf).1 8257) 24 = .ok (.iconst 1, 1) := zd zm_8257 (by decide +kernel)
theorem d_8257_25 {σ : Nat → Nat} {n0 : Nat} {bf : ab_B} : decode (ab_code (zx σ n0 bf).1 8257) 25 = .ok (.goto 4, 3) := zd zm_8257 (by decide +kernel)
theorem d_8257_28 {σ : Nat → Nat} {n0 : Nat} {bf : ab_B} : decode (ab_code (zx σ n0 bf).1 8257) 28 = .ok (.iload_n 3, 1) := zd zm_8257 (by decide +kernel)
theorem d_8257_29 {σ : Nat → Nat} {n0 : Nat} {bf : ab_B} : decode (ab_code (zx σ n0 bf).1 8257) 29 = .ok (.istore 5, 2) := zd zm_8257 (by decide +kernel)
theorem d_8257_31 {σ : Nat → Nat} {n0 : Nat} {bf : ab_B} : decode (ab_code (zx σ n0 bf).1 8257) 31 = .ok (.aload_n 0, 1) := zd zm_8257 (by decide +kernel)
theorem d_8257_32 {σ : Nat → Nat} {n0 : Nat} {bf : ab_B} : decode (ab_code (zx σ n0 bf).1 8257) 32 = .ok (.iload 4, 2) := zd zm_8257 (by decide +kernel)
theorem d_8257_34 {σ : Nat → Nat} {n0 : Nat} {bf : ab_B} : decode (ab_code (zx σ n0 bf).1 8257) 34 = .ok (.iload 5, 2) := zd zm_8257 (by decide +kernel)
theorem d_8257_36 {σ : Nat → Nat} {n0 : Nat} {bf : ab_B} : decode (ab_code (zx σ n0 bf).1 8257) 36 = .ok (.i2l, 1) := zd zm_8257 (by decide +kernel)
theorem d_8257_37 {σ : Nat → Nat} {n0 : Nat} {bf : ab_B} : decode (ab_code (zx σ n0 bf).1 8257) 37 = .ok (.ldc_w 1339, 3) := zd zm_8257 (by decide +kernel)
theorem d_8257_40 {σ : Nat → Nat} {n0 : Nat} {bf : ab_B} : decode (ab_code (zx σ n0 bf).1 8257) 40 = .ok (.invokevirtual 1341, 3) := zd zm_8257 (by decide +kernel)
theorem d_8257_43 {σ : Nat → Nat} {n0 : Nat} {bf : ab_B} : decode (ab_code (zx σ n0 bf).1 8257) 43 = .ok (.iconst 0, 1) := zd zm_8257 (by decide +kernel)
theorem d_8257_44 {σ : Nat → Nat} {n0 : Nat} {bf : ab_B} : decode (ab_code (zx σ n0 bf).1 8257) 44 = .ok (.istore 6, 2) := zd zm_8257 (by decide +kernel)
theorem d_8257_46 {σ : Nat → Nat} {n0 : Nat} {bf : ab_B} : decode (ab_code (zx σ n0 bf).1 8257) 46 = .ok (.iload 6, 2) := zd zm_8257 (by decide +kernel)
theorem d_8257_48 {σ : Nat → Nat} {n0 : Nat} {bf : ab_B} : decode (ab_code (zx σ n0 bf).1 8257) 48 = .ok (.iload 5, 2) := zd zm_8257 (by decide +kernel)
theorem d_8257_50 {σ : Nat → Nat} {n0 : Nat} {bf : ab_B} : decode (ab_code (zx σ n0 bf).1 8257) 50 = .ok (.if_icmp .ge 46, 3) := zd zm_8257 (by decide +kernel)
theorem d_8257_53 {σ : Nat → Nat} {n0 : Nat} {bf : ab_B} : decode (ab_code (zx σ n0 bf).1 8257) 53 = .ok (.aload_n 0, 1) := zd zm_8257 (by decide +kernel)
theorem d_8257_54 {σ : Nat → Nat} {n0 : Nat} {bf : ab_B} : decode (ab_code (zx σ n0 bf).1 8257) 54 = .ok (.iload 4, 2) := zd zm_8257 (by decide +kernel)
theorem d_8257_56 {σ : Nat → Nat} {n0 : Nat} {bf : ab_B} : decode (ab_code (zx σ n0 bf).1 8257) 56 = .ok (.iconst 1, 1) := zd zm_8257 (by decide +kernel)
theorem d_8257_57 {σ : Nat → Nat} {n0 : Nat} {bf : ab_B} : decode (ab_code (zx σ n0 bf).1 8257) 57 = .ok (.iadd, 1) := zd zm_8257 (by decide +kernel)
theorem d_8257_58 {σ : Nat → Nat} {n0 : Nat} {bf : ab_B} : decode (ab_code (zx σ n0 bf).1 8257) 58 = .ok (.iload 6, 2) := zd zm_8257 (by decide +kernel)
theorem d_8257_60 {σ : Nat → Nat} {n0 : Nat} {bf : ab_B} : decode (ab_code (zx σ n0 bf).1 8257) 60 = .ok (.iadd, 1) := zd zm_8257 (by decide +kernel)
theorem d_8257_61 {σ : Nat → Nat} {n0 : Nat} {bf : ab_B} : decode (ab_code (zx σ n0 bf).1 8257) 61 = .ok (.iload_n 3, 1) := zd zm_8257 (by decide +kernel)
theorem d_8257_62 {σ : Nat → Nat} {n0 : Nat} {bf : ab_B} : decode (ab_code (zx σ n0 bf).1 8257) 62 = .ok (.ifCond .ge 8, 3) := zd zm_8257 (by decide +kernel)
theorem d_8257_65 {σ : Nat → Nat} {n0 : Nat} {bf : ab_B} : decode (ab_code (zx σ n0 bf).1 8257) 65 = .ok (.iload_n 2, 1) := zd zm_8257 (by decide +kernel)
theorem d_8257_66 {σ : Nat → Nat} {n0 : Nat} {bf : ab_B} : decode (ab_code (zx σ n0 bf).1 8257) 66 = .ok (.i2l, 1) := zd zm_8257 (by decide +kernel)
theorem d_8257_67 {σ : Nat → Nat} {n0 : Nat} {bf : ab_B} : decode (ab_code (zx σ n0 bf).1 8257) 67 = .ok (.goto 17, 3) := zd zm_8257 (by decide +kernel)
theorem d_8257_70 {σ : Nat → Nat} {n0 : Nat} {bf : ab_B} : decode (ab_code (zx σ n0 bf).1 8257) 70 = .ok (.aload_n 0, 1) := zd zm_8257 (by decide +kernel)
theorem d_8257_71 {σ : Nat → Nat} {n0 : Nat} {bf : ab_B} : decode (ab_code (zx σ n0 bf).1 8257) 71 = .ok (.getfield 41, 3) := zd zm_8257 (by decide +kernel)
theorem d_8257_74 {σ : Nat → Nat} {n0 : Nat} {bf : ab_B} : decode (ab_code (zx σ n0 bf).1 8257) 74 = .ok (.iload_n 2, 1) := zd zm_8257 (by decide +kernel)
theorem d_8257_75 {σ : Nat → Nat} {n0 : Nat} {bf : ab_B} : decode (ab_code (zx σ n0 bf).1 8257) 75 = .ok (.iload 6, 2) := zd zm_8257 (by decide +kernel)
theorem d_8257_77 {σ : Nat → Nat} {n0 : Nat} {bf : ab_B} : decode (ab_code (zx σ n0 bf).1 8257) 77 = .ok (.iadd, 1) := zd zm_8257 (by decide +kernel)
theorem d_8257_78 {σ : Nat → Nat} {n0 : Nat} {bf : ab_B} : decode (ab_code (zx σ n0 bf).1 8257) 78 = .ok (.baload, 1) := zd zm_8257 (by decide +kernel)
theorem d_8257_79 {σ : Nat → Nat} {n0 : Nat} {bf : ab_B} : decode (ab_code (zx σ n0 bf).1 8257) 79 = .ok (.sipush 255, 3) := zd zm_8257 (by decide +kernel)
theorem d_8257_82 {σ : Nat → Nat} {n0 : Nat} {bf : ab_B} : decode (ab_code (zx σ n0 bf).1 8257) 82 = .ok (.iand, 1) := zd zm_8257 (by decide +kernel)
theorem d_8257_83 {σ : Nat → Nat} {n0 : Nat} {bf : ab_B} : decode (ab_code (zx σ n0 bf).1 8257) 83 = .ok (.i2l, 1) := zd zm_8257 (by decide +kernel)
theorem d_8257_84 {σ : Nat → Nat} {n0 : Nat} {bf : ab_B} : decode (ab_code (zx σ n0 bf).1 8257) 84 = .ok (.ldc_w 1340, 3) := zd zm_8257 (by decide +kernel)
theorem d_8257_87 {σ : Nat → Nat} {n0 : Nat} {bf : ab_B} : decode (ab_code (zx σ n0 bf).1 8257) 87 = .ok (.invokevirtual 1341, 3) := zd zm_8257 (by decide +kernel)
theorem d_8257_90 {σ : Nat → Nat} {n0 : Nat} {bf : ab_B} : decode (ab_code (zx σ n0 bf).1 8257) 90 = .ok (.iinc 6 1, 3) := zd zm_8257 (by decide +kernel)
theorem d_8257_93 {σ : Nat → Nat} {n0 : Nat} {bf : ab_B} : decode (ab_code (zx σ n0 bf).1 8257) 93 = .ok (.goto (-47), 3) := zd zm_8257 (by decide +kernel)
theorem d_8257_96 {σ : Nat → Nat} {n0 : Nat} {bf : ab_B} : decode (ab_code (zx σ n0 bf).1 8257) 96 = .ok (.return_, 1) := zd zm_8257 (by decide +kernel)
def w_X9_initText_29 (X : zs_X) (d : Nat) (p0 : Nat) (p2 : Int32) (p3 : Int32) (p4 : Int32) (q0 : Int32) (S : zs_T) (Q : zs_Q) : Prop :=
  (zs_K S p0 = some (.inl 8) ∧ zs_C X d 8221 [.ref p0, .int p4, .long ((q0).toInt64), .int (300000 : Int32)] S (zs_kV (fun S2 => (zs_U X d 8257 46 [(0, .ref p0), (2, .int p2), (3, .int p3), (4, .int p4), (5, .int q0), (6, .int (0 : Int32))] [] S2 Q)) Q))
theorem u_X9_initText_29 {σ : Nat → Nat} {n0 : Nat} {bf : ab_B} {d : Nat} {p0 : Nat} {p2 : Int32} {p3 : Int32} {p4 : Int32} {q0 : Int32} {S : zs_T} {Q : zs_Q} (hB : zt_B bf) (h : w_X9_initText_29 (zx σ n0 bf) d p0 p2 p3 p4 q0 S Q) : zs_U (zx σ n0 bf) d 8257 29 [(0, .ref p0), (2, .int p2), (3, .int p3), (4, .int p4)] [.int q0] S Q := by
  unfold w_X9_initText_29 at h
  refine zu_istore d_8257_29 (zs_lt zq_8257 rfl) ?_
  refine zu_aload_n d_8257_31 rfl (zs_ra _) ?_
  refine zu_iload d_8257_32 rfl ?_
  refine zu_iload d_8257_34 rfl ?_
  refine zu_stk d_8257_36 rfl rfl ?_
  refine zlw_8_1339 rfl d_8257_37 ?_
  obtain ⟨k1, h⟩ := h
  refine zc_8_1341 (x0 := p4) (x1 := ((q0).toInt64)) (x2 := (300000 : Int32)) hB rfl k1 d_8257_40 (Nat.le_of_ble_eq_true rfl) h (fun S2 h => ?_)
  refine zu_iconst d_8257_43 zi_0 ?_
  refine zu_istore d_8257_44 (zs_lt zq_8257 rfl) ?_
  exact h.weak ⟨rfl, rfl, rfl, rfl, rfl, rfl, trivial⟩
def w_X9_initText_84 (X : zs_X) (d : Nat) (p0 : Nat) (p2 : Int32) (p3 : Int32) (p4 : Int32) (p5 : Int32) (p6 : Int32) (q0 : Option Nat) (q1 : Int32) (q2 : Int64) (S : zs_T) (Q : zs_Q) : Prop :=
  (∃ b1, q0 = some b1 ∧ zs_K S b1 = some (.inl 8) ∧ zs_C X d 8221 [.ref b1, .int q1, .long q2, .int (300001 : Int32)] S (zs_kV (fun S4 => (zs_U X d 8257 46 [(0, .ref p0), (2, .int p2), (3, .int p3), (4, .int p4), (5, .int p5), (6, .int (p6 + (1 : Int32)))] [] S4 Q)) Q))
theorem u_X9_initText_84 {σ : Nat → Nat} {n0 : Nat} {bf : ab_B} {d : Nat} {p0 : Nat} {p2 : Int32} {p3 : Int32} {p4 : Int32} {p5 : Int32} {p6 : Int32} {q0 : Option Nat} {q1 : Int32} {q2 : Int64} {S : zs_T} {Q : zs_Q} (hB : zt_B bf) (h : w_X9_initText_84 (zx σ n0 bf) d p0 p2 p3 p4 p5 p6 q0 q1 q2 S Q) : zs_U (zx σ n0 bf) d 8257 84 [(0, .ref p0), (2, .int p2), (3, .int p3), (4, .int p4), (5, .int p5), (6, .int p6)] [.long q2, .int q1, va_rf q0] S Q := by
  unfold w_X9_initText_84 at h
  refine zlw_8_1340 rfl d_8257_84 ?_
  obtain ⟨b1, e2, h⟩ := h
  refine zs_stk3 (zs_rfe e2) ?_
  obtain ⟨k3, h⟩ := h
  refine zc_8_1341 (x0 := q1) (x1 := q2) (x2 := (300001 : Int32)) hB rfl k3 d_8257_87 (Nat.le_of_ble_eq_true rfl) h (fun S4 h => ?_)
  refine zu_iinc d_8257_90 rfl zi_1 (zs_lt zq_8257 rfl) ?_
  refine zu_goto (t := 46) d_8257_93 rfl ?_
  exact h.weak ⟨rfl, rfl, rfl, rfl, rfl, rfl, trivial⟩
def w_X9_initText_46 (X : zs_X) (d : Nat) (p0 : Nat) (p2 : Int32) (p3 : Int32) (p4 : Int32) (p5 : Int32) (p6 : Int32) (S : zs_T) (Q : zs_Q) : Prop :=
  (((p5 ≤ p6 → (Q (.returned none) S)) ∧ (¬ (p5 ≤ p6) → (((0 ≤ p3 → (zs_K S p0 = some (.inl 8) ∧ ∃ b4, (zs_R S 8021 p0) = some b4 ∧ zs_A S b4 1 (p2 + p6) ∧ w_X9_initText_84 X d p0 p2 p3 p4 p5 p6 (some p0) ((p4 + (1 : Int32)) + p6) ((((zs_i S b4 (p2 + p6).toNatClampNeg) &&& (255 : Int32))).toInt64) S Q)) ∧ (¬ (0 ≤ p3) → (w_X9_initText_84 X d p0 p2 p3 p4 p5 p6 (some p0) ((p4 + (1 : Int32)) + p6) ((p2).toInt64) S Q)))))))
theorem u_X9_initText_46 {σ : Nat → Nat} {n0 : Nat} {bf : ab_B} {d : Nat} {p0 : Nat} {p2 : Int32} {p3 : Int32} {p4 : Int32} {p5 : Int32} {p6 : Int32} {S : zs_T} {Q : zs_Q} (hB : zt_B bf) (h : w_X9_initText_46 (zx σ n0 bf) d p0 p2 p3 p4 p5 p6 S Q) : zs_U (zx σ n0 bf) d 8257 46 [(0, .ref p0), (2, .int p2), (3, .int p3), (4, .int p4), (5, .int p5), (6, .int p6)] [] S Q := by
  unfold w_X9_initText_46 at h
  refine zu_iload d_8257_46 rfl ?_
  refine zu_iload d_8257_48 rfl ?_
  refine zu_cmpge (t := 96) d_8257_50 rfl (fun c1 => ?_) (fun c1 => ?_)
  · have h := h.1 c1
    exact zu_vret d_8257_96 zr_8257 h
  · have h := h.2 c1
    refine zu_aload_n d_8257_53 rfl (zs_ra _) ?_
    refine zu_iload d_8257_54 rfl ?_
    refine zu_iconst d_8257_56 zi_1 ?_
    refine zu_stk d_8257_57 rfl rfl ?_
    refine zu_iload d_8257_58 rfl ?_
    refine zu_stk d_8257_60 rfl rfl ?_
    refine zu_iload_n d_8257_61 rfl ?_
    refine zu_ifge (t := 70) d_8257_62 rfl (fun c2 => ?_) (fun c2 => ?_)
    · have h := h.1 c2
      refine zu_aload_n d_8257_70 rfl (zs_ra _) ?_
      obtain ⟨k3, h⟩ := h
      refine zg_8_41 rfl d_8257_71 k3 ?_
      refine zu_iload_n d_8257_74 rfl ?_
      refine zu_iload d_8257_75 rfl ?_
      refine zu_stk d_8257_77 rfl rfl ?_
      obtain ⟨b4, e5, h⟩ := h
      refine zs_stk1 (zs_rfe e5) ?_
      obtain ⟨k6, h⟩ := h
      refine zu_bald (k := 1) d_8257_78 rfl (Or.inl rfl) k6 ?_
      refine zu_sipush d_8257_79 zh_255 ?_
      refine zu_stk d_8257_82 rfl rfl ?_
      refine zu_stk d_8257_83 rfl rfl ?_
      exact (u_X9_initText_84 hB h).weak ⟨rfl, rfl, rfl, rfl, rfl, rfl, trivial⟩
    · have h := h.2 c2
      refine zu_iload_n d_8257_65 rfl ?_
      refine zu_stk d_8257_66 rfl rfl ?_
      refine zu_goto (t := 84) d_8257_67 rfl ?_
      exact (u_X9_initText_84 hB h).weak ⟨rfl, rfl, rfl, rfl, rfl, rfl, trivial⟩
def w_X9_initText (X : zs_X) (d : Nat) (p0 : Nat) (p1 : Int32) (p2 : Int32) (p3 : Int32) (S : zs_T) (Q : zs_Q) : Prop :=
  (zs_K S p0 = some (.inl 8) ∧ ∃ b2, (zs_R S 8160 p0) = some b2 ∧ zs_A S b2 0 ((zs_I S 8165 p0) - (1 : Int32)) ∧ ∃ b5, (zs_R S 8167 p0) = some b5 ∧ zs_A S b5 0 ((zs_i S b2 ((zs_I S 8165 p0) - (1 : Int32)).toNatClampNeg) + p1) ∧ ((0 ≤ p3 → (w_X9_initText_29 X d p0 p2 p3 (zs_i S b5 ((zs_i S b2 ((zs_I S 8165 p0) - (1 : Int32)).toNatClampNeg) + p1).toNatClampNeg) p3 S Q)) ∧ (¬ (0 ≤ p3) → (w_X9_initText_29 X d p0 p2 p3 (zs_i S b5 ((zs_i S b2 ((zs_I S 8165 p0) - (1 : Int32)).toNatClampNeg) + p1).toNatClampNeg) (1 : Int32) S Q))))
theorem u_X9_initText {σ : Nat → Nat} {n0 : Nat} {bf : ab_B} {d : Nat} {p0 : Nat} {p1 : Int32} {p2 : Int32} {p3 : Int32} {S : zs_T} {Q : zs_Q} (hB : zt_B bf) (hd : 1 ≤ d) (h : w_X9_initText (zx σ n0 bf) (d - 1) p0 p1 p2 p3 S Q) : zs_C (zx σ n0 bf) d 8257 [.ref p0, .int p1, .int p2, .int p3] S Q := by
  have hL : lv_args 0 [.ref p0, .int p1, .int p2, .int p3] = [(0, .ref p0), (1, .int p1), (2, .int p2), (3, .int p3)] := rfl
  refine zs_C.of1 (hB.2 8257 (by decide) (by decide)) hd (by rw [hL]; exact zs_sub_self _ (by exact ⟨rfl, rfl, rfl, rfl, trivial⟩)) ?_
  rw [hL]
  clear hL
  unfold w_X9_initText at h
  refine zu_aload_n d_8257_0 rfl (zs_ra _) ?_
  obtain ⟨k1, h⟩ := h
  refine zg_8_362 rfl d_8257_1 k1 ?_
  refine zu_aload_n d_8257_4 rfl (zs_ra _) ?_
  refine zg_8_347 rfl d_8257_5 k1 ?_
  refine zu_aload_n d_8257_8 rfl (zs_ra _) ?_
  refine zg_8_1240 rfl d_8257_9 k1 ?_
  refine zu_iconst d_8257_12 zi_1 ?_
  refine zu_stk d_8257_13 rfl rfl ?_
  obtain ⟨b2, e3, h⟩ := h
  refine zs_stk1 (zs_rfe e3) ?_
  obtain ⟨k4, h⟩ := h
  refine zu_iald (k := 0) d_8257_14 rfl rfl k4 ?_
  refine zu_iload_n d_8257_15 rfl ?_
  refine zu_stk d_8257_16 rfl rfl ?_
  obtain ⟨b5, e6, h⟩ := h
  refine zs_stk1 (zs_rfe e6) ?_
  obtain ⟨k7, h⟩ := h
  refine zu_iald (k := 0) d_8257_17 rfl rfl k7 ?_
  refine zu_istore d_8257_18 (zs_lt zq_8257 rfl) ?_
  refine zu_iload_n d_8257_20 rfl ?_
  refine zu_ifge (t := 28) d_8257_21 rfl (fun c8 => ?_) (fun c8 => ?_)
  · have h := h.1 c8
    refine zu_iload_n d_8257_28 rfl ?_
    exact (u_X9_initText_29 hB h).weak ⟨rfl, rfl, rfl, rfl, trivial⟩
  · have h := h.2 c8
    refine zu_iconst d_8257_24 zi_1 ?_
    refine zu_goto (t := 29) d_8257_25 rfl ?_
    exact (u_X9_initText_29 hB h).weak ⟨rfl, rfl, rfl, rfl, trivial⟩
/-! SchemaPascalModel.leave()V -/
theorem zm_8258 {σ : Nat → Nat} {n0 : Nat} {bf : ab_B} : ab_code (zx σ n0 bf).1 8258 = prog_17_method_247_code := rfl
theorem zq_8258 {σ : Nat → Nat} {n0 : Nat} {bf : ab_B} : ab_maxL (zx σ n0 bf).1 8258 = 6 := rfl
theorem zr_8258 {σ : Nat → Nat} {n0 : Nat} {bf : ab_B} : ab_ret (zx σ n0 bf).1 8258 = (Option.none : Option Jvm.ClassFile.FieldType) := rfl
theorem d_8258_0 {σ : Nat → Nat} {n0 : Nat} {bf : ab_B} : decode (ab_code (zx σ n0 bf).1 8258) 0 = .ok (.aload_n 0, 1) := zd zm_8258 (by decide +kernel)
theorem d_8258_1 {σ : Nat → Nat} {n0 : Nat} {bf : ab_B} : decode (ab_code (zx σ n0 bf).1 8258) 1 = .ok (.getfield 1240, 3) := zd zm_8258 (by decide +kernel)
theorem d_8258_4 {σ : Nat → Nat} {n0 : Nat} {bf : ab_B} : decode (ab_code (zx σ n0 bf).1 8258) 4 = .ok (.iconst 1, 1) := zd zm_8258 (by decide +kernel)
theorem d_8258_5 {σ : Nat → Nat} {n0 : Nat} {bf : ab_B} : decode (ab_code (zx σ n0 bf).1 8258) 5 = .ok (.isub, 1) := zd zm_8258 (by decide +kernel)
theorem d_8258_6 {σ : Nat → Nat} {n0 : Nat} {bf : ab_B} : decode (ab_code (zx σ n0 bf).1 8258) 6 = .ok (.istore_n 1, 1) := zd zm_8258 (by decide +kernel)
theorem d_8258_7 {σ : Nat → Nat} {n0 : Nat} {bf : ab_B} : decode (ab_code (zx σ n0 bf).1 8258) 7 = .ok (.aload_n 0, 1) := zd zm_8258 (by decide +kernel)
theorem d_8258_8 {σ : Nat → Nat} {n0 : Nat} {bf : ab_B} : decode (ab_code (zx σ n0 bf).1 8258) 8 = .ok (.getfield 335, 3) := zd zm_8258 (by decide +kernel)
theorem d_8258_11 {σ : Nat → Nat} {n0 : Nat} {bf : ab_B} : decode (ab_code (zx σ n0 bf).1 8258) 11 = .ok (.iload_n 1, 1) := zd zm_8258 (by decide +kernel)
theorem d_8258_12 {σ : Nat → Nat} {n0 : Nat} {bf : ab_B} : decode (ab_code (zx σ n0 bf).1 8258) 12 = .ok (.iaload, 1) := zd zm_8258 (by decide +kernel)
theorem d_8258_13 {σ : Nat → Nat} {n0 : Nat} {bf : ab_B} : decode (ab_code (zx σ n0 bf).1 8258) 13 = .ok (.istore_n 2, 1) := zd zm_8258 (by decide +kernel)
theorem d_8258_14 {σ : Nat → Nat} {n0 : Nat} {bf : ab_B} : decode (ab_code (zx σ n0 bf).1 8258) 14 = .ok (.aload_n 0, 1) := zd zm_8258 (by decide +kernel)
theorem d_8258_15 {σ : Nat → Nat} {n0 : Nat} {bf : ab_B} : decode (ab_code (zx σ n0 bf).1 8258) 15 = .ok (.getfield 338, 3) := zd zm_8258 (by decide +kernel)
theorem d_8258_18 {σ : Nat → Nat} {n0 : Nat} {bf : ab_B} : decode (ab_code (zx σ n0 bf).1 8258) 18 = .ok (.iload_n 1, 1) := zd zm_8258 (by decide +kernel)
theorem d_8258_19 {σ : Nat → Nat} {n0 : Nat} {bf : ab_B} : decode (ab_code (zx σ n0 bf).1 8258) 19 = .ok (.iaload, 1) := zd zm_8258 (by decide +kernel)
theorem d_8258_20 {σ : Nat → Nat} {n0 : Nat} {bf : ab_B} : decode (ab_code (zx σ n0 bf).1 8258) 20 = .ok (.istore_n 3, 1) := zd zm_8258 (by decide +kernel)
theorem d_8258_21 {σ : Nat → Nat} {n0 : Nat} {bf : ab_B} : decode (ab_code (zx σ n0 bf).1 8258) 21 = .ok (.iload_n 1, 1) := zd zm_8258 (by decide +kernel)
theorem d_8258_22 {σ : Nat → Nat} {n0 : Nat} {bf : ab_B} : decode (ab_code (zx σ n0 bf).1 8258) 22 = .ok (.ifCond .ne 8, 3) := zd zm_8258 (by decide +kernel)
theorem d_8258_25 {σ : Nat → Nat} {n0 : Nat} {bf : ab_B} : decode (ab_code (zx σ n0 bf).1 8258) 25 = .ok (.aload_n 0, 1) := zd zm_8258 (by decide +kernel)
theorem d_8258_26 {σ : Nat → Nat} {n0 : Nat} {bf : ab_B} : decode (ab_code (zx σ n0 bf).1 8258) 26 = .ok (.invokevirtual 1401, 3) := zd zm_8258 (by decide +kernel)
theorem d_8258_29 {σ : Nat → Nat} {n0 : Nat} {bf : ab_B} : decode (ab_code (zx σ n0 bf).1 8258) 29 = .ok (.return_, 1) := zd zm_8258 (by decide +kernel)
theorem d_8258_30 {σ : Nat → Nat} {n0 : Nat} {bf : ab_B} : decode (ab_code (zx σ n0 bf).1 8258) 30 = .ok (.aload_n 0, 1) := zd zm_8258 (by decide +kernel)
theorem d_8258_31 {σ : Nat → Nat} {n0 : Nat} {bf : ab_B} : decode (ab_code (zx σ n0 bf).1 8258) 31 = .ok (.getfield 215, 3) := zd zm_8258 (by decide +kernel)
theorem d_8258_34 {σ : Nat → Nat} {n0 : Nat} {bf : ab_B} : decode (ab_code (zx σ n0 bf).1 8258) 34 = .ok (.iload_n 2, 1) := zd zm_8258 (by decide +kernel)
theorem d_8258_35 {σ : Nat → Nat} {n0 : Nat} {bf : ab_B} : decode (ab_code (zx σ n0 bf).1 8258) 35 = .ok (.iaload, 1) := zd zm_8258 (by decide +kernel)
theorem d_8258_36 {σ : Nat → Nat} {n0 : Nat} {bf : ab_B} : decode (ab_code (zx σ n0 bf).1 8258) 36 = .ok (.istore 4, 2) := zd zm_8258 (by decide +kernel)
theorem d_8258_38 {σ : Nat → Nat} {n0 : Nat} {bf : ab_B} : decode (ab_code (zx σ n0 bf).1 8258) 38 = .ok (.iload 4, 2) := zd zm_8258 (by decide +kernel)
theorem d_8258_40 {σ : Nat → Nat} {n0 : Nat} {bf : ab_B} : decode (ab_code (zx σ n0 bf).1 8258) 40 = .ok (.ifCond .le 103, 3) := zd zm_8258 (by decide +kernel)
theorem d_8258_43 {σ : Nat → Nat} {n0 : Nat} {bf : ab_B} : decode (ab_code (zx σ n0 bf).1 8258) 43 = .ok (.aload_n 0, 1) := zd zm_8258 (by decide +kernel)
theorem d_8258_44 {σ : Nat → Nat} {n0 : Nat} {bf : ab_B} : decode (ab_code (zx σ n0 bf).1 8258) 44 = .ok (.getfield 347, 3) := zd zm_8258 (by decide +kernel)
theorem d_8258_47 {σ : Nat → Nat} {n0 : Nat} {bf : ab_B} : decode (ab_code (zx σ n0 bf).1 8258) 47 = .ok (.iload_n 1, 1) := zd zm_8258 (by decide +kernel)
theorem d_8258_48 {σ : Nat → Nat} {n0 : Nat} {bf : ab_B} : decode (ab_code (zx σ n0 bf).1 8258) 48 = .ok (.iaload, 1) := zd zm_8258 (by decide +kernel)
theorem d_8258_49 {σ : Nat → Nat} {n0 : Nat} {bf : ab_B} : decode (ab_code (zx σ n0 bf).1 8258) 49 = .ok (.aload_n 0, 1) := zd zm_8258 (by decide +kernel)
theorem d_8258_50 {σ : Nat → Nat} {n0 : Nat} {bf : ab_B} : decode (ab_code (zx σ n0 bf).1 8258) 50 = .ok (.getfield 221, 3) := zd zm_8258 (by decide +kernel)
theorem d_8258_53 {σ : Nat → Nat} {n0 : Nat} {bf : ab_B} : decode (ab_code (zx σ n0 bf).1 8258) 53 = .ok (.iload_n 2, 1) := zd zm_8258 (by decide +kernel)
theorem d_8258_54 {σ : Nat → Nat} {n0 : Nat} {bf : ab_B} : decode (ab_code (zx σ n0 bf).1 8258) 54 = .ok (.iaload, 1) := zd zm_8258 (by decide +kernel)
theorem d_8258_55 {σ : Nat → Nat} {n0 : Nat} {bf : ab_B} : decode (ab_code (zx σ n0 bf).1 8258) 55 = .ok (.iadd, 1) := zd zm_8258 (by decide +kernel)
theorem d_8258_56 {σ : Nat → Nat} {n0 : Nat} {bf : ab_B} : decode (ab_code (zx σ n0 bf).1 8258) 56 = .ok (.istore 5, 2) := zd zm_8258 (by decide +kernel)
theorem d_8258_58 {σ : Nat → Nat} {n0 : Nat} {bf : ab_B} : decode (ab_code (zx σ n0 bf).1 8258) 58 = .ok (.aload_n 0, 1) := zd zm_8258 (by decide +kernel)
theorem d_8258_59 {σ : Nat → Nat} {n0 : Nat} {bf : ab_B} : decode (ab_code (zx σ n0 bf).1 8258) 59 = .ok (.invokevirtual 1368, 3) := zd zm_8258 (by decide +kernel)
theorem d_8258_62 {σ : Nat → Nat} {n0 : Nat} {bf : ab_B} : decode (ab_code (zx σ n0 bf).1 8258) 62 = .ok (.aload_n 0, 1) := zd zm_8258 (by decide +kernel)
theorem d_8258_63 {σ : Nat → Nat} {n0 : Nat} {bf : ab_B} : decode (ab_code (zx σ n0 bf).1 8258) 63 = .ok (.getfield 90, 3) := zd zm_8258 (by decide +kernel)
theorem d_8258_66 {σ : Nat → Nat} {n0 : Nat} {bf : ab_B} : decode (ab_code (zx σ n0 bf).1 8258) 66 = .ok (.iload 4, 2) := zd zm_8258 (by decide +kernel)
theorem d_8258_68 {σ : Nat → Nat} {n0 : Nat} {bf : ab_B} : decode (ab_code (zx σ n0 bf).1 8258) 68 = .ok (.baload, 1) := zd zm_8258 (by decide +kernel)
theorem d_8258_69 {σ : Nat → Nat} {n0 : Nat} {bf : ab_B} : decode (ab_code (zx σ n0 bf).1 8258) 69 = .ok (.bipush 7, 2) := zd zm_8258 (by decide +kernel)
theorem d_8258_71 {σ : Nat → Nat} {n0 : Nat} {bf : ab_B} : decode (ab_code (zx σ n0 bf).1 8258) 71 = .ok (.if_icmp .ne 22, 3) := zd zm_8258 (by decide +kernel)
theorem d_8258_74 {σ : Nat → Nat} {n0 : Nat} {bf : ab_B} : decode (ab_code (zx σ n0 bf).1 8258) 74 = .ok (.aload_n 0, 1) := zd zm_8258 (by decide +kernel)
theorem d_8258_75 {σ : Nat → Nat} {n0 : Nat} {bf : ab_B} : decode (ab_code (zx σ n0 bf).1 8258) 75 = .ok (.iload 4, 2) := zd zm_8258 (by decide +kernel)
theorem d_8258_77 {σ : Nat → Nat} {n0 : Nat} {bf : ab_B} : decode (ab_code (zx σ n0 bf).1 8258) 77 = .ok (.aload_n 0, 1) := zd zm_8258 (by decide +kernel)
theorem d_8258_78 {σ : Nat → Nat} {n0 : Nat} {bf : ab_B} : decode (ab_code (zx σ n0 bf).1 8258) 78 = .ok (.getfield 362, 3) := zd zm_8258 (by decide +kernel)
theorem d_8258_81 {σ : Nat → Nat} {n0 : Nat} {bf : ab_B} : decode (ab_code (zx σ n0 bf).1 8258) 81 = .ok (.iload 5, 2) := zd zm_8258 (by decide +kernel)
theorem d_8258_83 {σ : Nat → Nat} {n0 : Nat} {bf : ab_B} : decode (ab_code (zx σ n0 bf).1 8258) 83 = .ok (.iaload, 1) := zd zm_8258 (by decide +kernel)
theorem d_8258_84 {σ : Nat → Nat} {n0 : Nat} {bf : ab_B} : decode (ab_code (zx σ n0 bf).1 8258) 84 = .ok (.iload_n 3, 1) := zd zm_8258 (by decide +kernel)
theorem d_8258_85 {σ : Nat → Nat} {n0 : Nat} {bf : ab_B} : decode (ab_code (zx σ n0 bf).1 8258) 85 = .ok (.bipush 10, 2) := zd zm_8258 (by decide +kernel)
theorem d_8258_87 {σ : Nat → Nat} {n0 : Nat} {bf : ab_B} : decode (ab_code (zx σ n0 bf).1 8258) 87 = .ok (.invokevirtual 1404, 3) := zd zm_8258 (by decide +kernel)
theorem d_8258_90 {σ : Nat → Nat} {n0 : Nat} {bf : ab_B} : decode (ab_code (zx σ n0 bf).1 8258) 90 = .ok (.goto 45, 3) := zd zm_8258 (by decide +kernel)
theorem d_8258_93 {σ : Nat → Nat} {n0 : Nat} {bf : ab_B} : decode (ab_code (zx σ n0 bf).1 8258) 93 = .ok (.aload_n 0, 1) := zd zm_8258 (by decide +kernel)
theorem d_8258_94 {σ : Nat → Nat} {n0 : Nat} {bf : ab_B} : decode (ab_code (zx σ n0 bf).1 8258) 94 = .ok (.aload_n 0, 1) := zd zm_8258 (by decide +kernel)
theorem d_8258_95 {σ : Nat → Nat} {n0 : Nat} {bf : ab_B} : decode (ab_code (zx σ n0 bf).1 8258) 95 = .ok (.getfield 362, 3) := zd zm_8258 (by decide +kernel)
theorem d_8258_98 {σ : Nat → Nat} {n0 : Nat} {bf : ab_B} : decode (ab_code (zx σ n0 bf).1 8258) 98 = .ok (.iload 5, 2) := zd zm_8258 (by decide +kernel)
theorem d_8258_100 {σ : Nat → Nat} {n0 : Nat} {bf : ab_B} : decode (ab_code (zx σ n0 bf).1 8258) 100 = .ok (.iaload, 1) := zd zm_8258 (by decide +kernel)
theorem d_8258_101 {σ : Nat → Nat} {n0 : Nat} {bf : ab_B} : decode (ab_code (zx σ n0 bf).1 8258) 101 = .ok (.iload 4, 2) := zd zm_8258 (by decide +kernel)
theorem d_8258_103 {σ : Nat → Nat} {n0 : Nat} {bf : ab_B} : decode (ab_code (zx σ n0 bf).1 8258) 103 = .ok (.invokevirtual 1294, 3) := zd zm_8258 (by decide +kernel)
theorem d_8258_106 {σ : Nat → Nat} {n0 : Nat} {bf : ab_B} : decode (ab_code (zx σ n0 bf).1 8258) 106 = .ok (.ifCond .ne 13, 3) := zd zm_8258 (by decide +kernel)
theorem d_8258_109 {σ : Nat → Nat} {n0 : Nat} {bf : ab_B} : decode (ab_code (zx σ n0 bf).1 8258) 109 = .ok (.aload_n 0, 1) := zd zm_8258 (by decide +kernel)
theorem d_8258_110 {σ : Nat → Nat} {n0 : Nat} {bf : ab_B} : decode (ab_code (zx σ n0 bf).1 8258) 110 = .ok (.bipush 10, 2) := zd zm_8258 (by decide +kernel)
theorem d_8258_112 {σ : Nat → Nat} {n0 : Nat} {bf : ab_B} : decode (ab_code (zx σ n0 bf).1 8258) 112 = .ok (.iload_n 3, 1) := zd zm_8258 (by decide +kernel)
theorem d_8258_113 {σ : Nat → Nat} {n0 : Nat} {bf : ab_B} : decode (ab_code (zx σ n0 bf).1 8258) 113 = .ok (.invokevirtual 1297, 3) := zd zm_8258 (by decide +kernel)
theorem d_8258_116 {σ : Nat → Nat} {n0 : Nat} {bf : ab_B} : decode (ab_code (zx σ n0 bf).1 8258) 116 = .ok (.goto 19, 3) := zd zm_8258 (by decide +kernel)
theorem d_8258_119 {σ : Nat → Nat} {n0 : Nat} {bf : ab_B} : decode (ab_code (zx σ n0 bf).1 8258) 119 = .ok (.aload_n 0, 1) := zd zm_8258 (by decide +kernel)
theorem d_8258_120 {σ : Nat → Nat} {n0 : Nat} {bf : ab_B} : decode (ab_code (zx σ n0 bf).1 8258) 120 = .ok (.aload_n 0, 1) := zd zm_8258 (by decide +kernel)
theorem d_8258_121 {σ : Nat → Nat} {n0 : Nat} {bf : ab_B} : decode (ab_code (zx σ n0 bf).1 8258) 121 = .ok (.getfield 373, 3) := zd zm_8258 (by decide +kernel)
theorem d_8258_124 {σ : Nat → Nat} {n0 : Nat} {bf : ab_B} : decode (ab_code (zx σ n0 bf).1 8258) 124 = .ok (.aload_n 0, 1) := zd zm_8258 (by decide +kernel)
theorem d_8258_125 {σ : Nat → Nat} {n0 : Nat} {bf : ab_B} : decode (ab_code (zx σ n0 bf).1 8258) 125 = .ok (.getfield 362, 3) := zd zm_8258 (by decide +kernel)
theorem d_8258_128 {σ : Nat → Nat} {n0 : Nat} {bf : ab_B} : decode (ab_code (zx σ n0 bf).1 8258) 128 = .ok (.iload 5, 2) := zd zm_8258 (by decide +kernel)
theorem d_8258_130 {σ : Nat → Nat} {n0 : Nat} {bf : ab_B} : decode (ab_code (zx σ n0 bf).1 8258) 130 = .ok (.iaload, 1) := zd zm_8258 (by decide +kernel)
theorem d_8258_131 {σ : Nat → Nat} {n0 : Nat} {bf : ab_B} : decode (ab_code (zx σ n0 bf).1 8258) 131 = .ok (.laload, 1) := zd zm_8258 (by decide +kernel)
theorem d_8258_132 {σ : Nat → Nat} {n0 : Nat} {bf : ab_B} : decode (ab_code (zx σ n0 bf).1 8258) 132 = .ok (.invokevirtual 1326, 3) := zd zm_8258 (by decide +kernel)
theorem d_8258_135 {σ : Nat → Nat} {n0 : Nat} {bf : ab_B} : decode (ab_code (zx σ n0 bf).1 8258) 135 = .ok (.aload_n 0, 1) := zd zm_8258 (by decide +kernel)
theorem d_8258_136 {σ : Nat → Nat} {n0 : Nat} {bf : ab_B} : decode (ab_code (zx σ n0 bf).1 8258) 136 = .ok (.getfield 1273, 3) := zd zm_8258 (by decide +kernel)
theorem d_8258_139 {σ : Nat → Nat} {n0 : Nat} {bf : ab_B} : decode (ab_code (zx σ n0 bf).1 8258) 139 = .ok (.ifCond .le 4, 3) := zd zm_8258 (by decide +kernel)
theorem d_8258_142 {σ : Nat → Nat} {n0 : Nat} {bf : ab_B} : decode (ab_code (zx σ n0 bf).1 8258) 142 = .ok (.return_, 1) := zd zm_8258 (by decide +kernel)
theorem d_8258_143 {σ : Nat → Nat} {n0 : Nat} {bf : ab_B} : decode (ab_code (zx σ n0 bf).1 8258) 143 = .ok (.aload_n 0, 1) := zd zm_8258 (by decide +kernel)
theorem d_8258_144 {σ : Nat → Nat} {n0 : Nat} {bf : ab_B} : decode (ab_code (zx σ n0 bf).1 8258) 144 = .ok (.aload_n 0, 1) := zd zm_8258 (by decide +kernel)
theorem d_8258_145 {σ : Nat → Nat} {n0 : Nat} {bf : ab_B} : decode (ab_code (zx σ n0 bf).1 8258) 145 = .ok (.getfield 341, 3) := zd zm_8258 (by decide +kernel)
theorem d_8258_148 {σ : Nat → Nat} {n0 : Nat} {bf : ab_B} : decode (ab_code (zx σ n0 bf).1 8258) 148 = .ok (.iload_n 1, 1) := zd zm_8258 (by decide +kernel)
theorem d_8258_149 {σ : Nat → Nat} {n0 : Nat} {bf : ab_B} : decode (ab_code (zx σ n0 bf).1 8258) 149 = .ok (.iaload, 1) := zd zm_8258 (by decide +kernel)
theorem d_8258_150 {σ : Nat → Nat} {n0 : Nat} {bf : ab_B} : decode (ab_code (zx σ n0 bf).1 8258) 150 = .ok (.putfield 1377, 3) := zd zm_8258 (by decide +kernel)
theorem d_8258_153 {σ : Nat → Nat} {n0 : Nat} {bf : ab_B} : decode (ab_code (zx σ n0 bf).1 8258) 153 = .ok (.aload_n 0, 1) := zd zm_8258 (by decide +kernel)
theorem d_8258_154 {σ : Nat → Nat} {n0 : Nat} {bf : ab_B} : decode (ab_code (zx σ n0 bf).1 8258) 154 = .ok (.dup, 1) := zd zm_8258 (by decide +kernel)
theorem d_8258_155 {σ : Nat → Nat} {n0 : Nat} {bf : ab_B} : decode (ab_code (zx σ n0 bf).1 8258) 155 = .ok (.getfield 1243, 3) := zd zm_8258 (by decide +kernel)
theorem d_8258_158 {σ : Nat → Nat} {n0 : Nat} {bf : ab_B} : decode (ab_code (zx σ n0 bf).1 8258) 158 = .ok (.aload_n 0, 1) := zd zm_8258 (by decide +kernel)
theorem d_8258_159 {σ : Nat → Nat} {n0 : Nat} {bf : ab_B} : decode (ab_code (zx σ n0 bf).1 8258) 159 = .ok (.getfield 353, 3) := zd zm_8258 (by decide +kernel)
theorem d_8258_162 {σ : Nat → Nat} {n0 : Nat} {bf : ab_B} : decode (ab_code (zx σ n0 bf).1 8258) 162 = .ok (.iload_n 1, 1) := zd zm_8258 (by decide +kernel)
theorem d_8258_163 {σ : Nat → Nat} {n0 : Nat} {bf : ab_B} : decode (ab_code (zx σ n0 bf).1 8258) 163 = .ok (.iaload, 1) := zd zm_8258 (by decide +kernel)
theorem d_8258_164 {σ : Nat → Nat} {n0 : Nat} {bf : ab_B} : decode (ab_code (zx σ n0 bf).1 8258) 164 = .ok (.isub, 1) := zd zm_8258 (by decide +kernel)
theorem d_8258_165 {σ : Nat → Nat} {n0 : Nat} {bf : ab_B} : decode (ab_code (zx σ n0 bf).1 8258) 165 = .ok (.putfield 1243, 3) := zd zm_8258 (by decide +kernel)
theorem d_8258_168 {σ : Nat → Nat} {n0 : Nat} {bf : ab_B} : decode (ab_code (zx σ n0 bf).1 8258) 168 = .ok (.aload_n 0, 1) := zd zm_8258 (by decide +kernel)
theorem d_8258_169 {σ : Nat → Nat} {n0 : Nat} {bf : ab_B} : decode (ab_code (zx σ n0 bf).1 8258) 169 = .ok (.aload_n 0, 1) := zd zm_8258 (by decide +kernel)
theorem d_8258_170 {σ : Nat → Nat} {n0 : Nat} {bf : ab_B} : decode (ab_code (zx σ n0 bf).1 8258) 170 = .ok (.getfield 356, 3) := zd zm_8258 (by decide +kernel)
theorem d_8258_173 {σ : Nat → Nat} {n0 : Nat} {bf : ab_B} : decode (ab_code (zx σ n0 bf).1 8258) 173 = .ok (.iload_n 1, 1) := zd zm_8258 (by decide +kernel)
theorem d_8258_174 {σ : Nat → Nat} {n0 : Nat} {bf : ab_B} : decode (ab_code (zx σ n0 bf).1 8258) 174 = .ok (.iaload, 1) := zd zm_8258 (by decide +kernel)
theorem d_8258_175 {σ : Nat → Nat} {n0 : Nat} {bf : ab_B} : decode (ab_code (zx σ n0 bf).1 8258) 175 = .ok (.putfield 1246, 3) := zd zm_8258 (by decide +kernel)
theorem d_8258_178 {σ : Nat → Nat} {n0 : Nat} {bf : ab_B} : decode (ab_code (zx σ n0 bf).1 8258) 178 = .ok (.aload_n 0, 1) := zd zm_8258 (by decide +kernel)
theorem d_8258_179 {σ : Nat → Nat} {n0 : Nat} {bf : ab_B} : decode (ab_code (zx σ n0 bf).1 8258) 179 = .ok (.dup, 1) := zd zm_8258 (by decide +kernel)
theorem d_8258_180 {σ : Nat → Nat} {n0 : Nat} {bf : ab_B} : decode (ab_code (zx σ n0 bf).1 8258) 180 = .ok (.getfield 1240, 3) := zd zm_8258 (by decide +kernel)
theorem d_8258_183 {σ : Nat → Nat} {n0 : Nat} {bf : ab_B} : decode (ab_code (zx σ n0 bf).1 8258) 183 = .ok (.iconst 1, 1) := zd zm_8258 (by decide +kernel)
theorem d_8258_184 {σ : Nat → Nat} {n0 : Nat} {bf : ab_B} : decode (ab_code (zx σ n0 bf).1 8258) 184 = .ok (.isub, 1) := zd zm_8258 (by decide +kernel)
theorem d_8258_185 {σ : Nat → Nat} {n0 : Nat} {bf : ab_B} : decode (ab_code (zx σ n0 bf).1 8258) 185 = .ok (.putfield 1240, 3) := zd zm_8258 (by decide +kernel)
theorem d_8258_188 {σ : Nat → Nat} {n0 : Nat} {bf : ab_B} : decode (ab_code (zx σ n0 bf).1 8258) 188 = .ok (.return_, 1) := zd zm_8258 (by decide +kernel)
def w_X9_leave_25 (X : zs_X) (d : Nat) (p0 : Nat) (S : zs_T) (Q : zs_Q) : Prop :=
  (zs_K S p0 = some (.inl 8) ∧ zs_C X d 8259 [.ref p0] S (zs_kV (fun S2 => (Q (.returned none) S2)) Q))
theorem u_X9_leave_25 {σ : Nat → Nat} {n0 : Nat} {bf : ab_B} {d : Nat} {p0 : Nat} {S : zs_T} {Q : zs_Q} (hB : zt_B bf) (h : w_X9_leave_25 (zx σ n0 bf) d p0 S Q) : zs_U (zx σ n0 bf) d 8258 25 [(0, .ref p0)] [] S Q := by
  unfold w_X9_leave_25 at h
  refine zu_aload_n d_8258_25 rfl (zs_ra _) ?_
  obtain ⟨k1, h⟩ := h
  refine zc_8_1401  hB rfl k1 d_8258_26 (Nat.le_of_ble_eq_true rfl) h (fun S2 h => ?_)
  exact zu_vret d_8258_29 zr_8258 h
def w_X9_leave_178 (X : zs_X) (d : Nat) (p0 : Nat) (S : zs_T) (Q : zs_Q) : Prop :=
  (zs_K S p0 = some (.inl 8) ∧ ab_n0 X.1 ≤ p0 ∧ ∀ S3, S3 = zs_sI S 8165 p0 ((zs_I S 8165 p0) - (1 : Int32)) → Q (.returned none) S3)
theorem u_X9_leave_178 {σ : Nat → Nat} {n0 : Nat} {bf : ab_B} {d : Nat} {p0 : Nat} {S : zs_T} {Q : zs_Q} (hB : zt_B bf) (h : w_X9_leave_178 (zx σ n0 bf) d p0 S Q) : zs_U (zx σ n0 bf) d 8258 178 [(0, .ref p0)] [] S Q := by
  unfold w_X9_leave_178 at h
  refine zu_aload_n d_8258_178 rfl (zs_ra _) ?_
  refine zu_dup d_8258_179 rfl ?_
  obtain ⟨k1, h⟩ := h
  refine zg_8_1240 rfl d_8258_180 k1 ?_
  refine zu_iconst d_8258_183 zi_1 ?_
  refine zu_stk d_8258_184 rfl rfl ?_
  obtain ⟨k2, h⟩ := h
  refine zp_8_1240 (v := ((zs_I S 8165 p0) - (1 : Int32))) rfl d_8258_185 k1 k2 ?_
  generalize e4 : zs_sI S 8165 p0 ((zs_I S 8165 p0) - (1 : Int32)) = S3
  have h := h S3 e4.symm
  have K5 : ∀ b, zs_K S3 b = zs_K S b := zs_Kt e4 (zs_KsI _ _ _ _) (fun _ => rfl)
  exact zu_vret d_8258_188 zr_8258 h
def w_X9_leave_143 (X : zs_X) (d : Nat) (p0 : Nat) (p1 : Int32) (S : zs_T) (Q : zs_Q) : Prop :=
  (zs_K S p0 = some (.inl 8) ∧ ∃ b2, (zs_R S 8158 p0) = some b2 ∧ zs_A S b2 0 p1 ∧ ab_n0 X.1 ≤ p0 ∧ ∀ S6, S6 = zs_sI S 8199 p0 (zs_i S b2 p1.toNatClampNeg) → ∃ b9, (zs_R S6 8162 p0) = some b9 ∧ zs_A S b9 0 p1 ∧ ∀ S12, S12 = zs_sI S6 8166 p0 ((zs_I S6 8166 p0) - (zs_i S6 b9 p1.toNatClampNeg)) → ∃ b15, (zs_R S12 8163 p0) = some b15 ∧ zs_A S b15 0 p1 ∧ ∀ S18, S18 = zs_sI S12 8173 p0 (zs_i S12 b15 p1.toNatClampNeg) → w_X9_leave_178 X d p0 S18 Q)
theorem u_X9_leave_143 {σ : Nat → Nat} {n0 : Nat} {bf : ab_B} {d : Nat} {p0 : Nat} {p1 : Int32} {S : zs_T} {Q : zs_Q} (hB : zt_B bf) (h : w_X9_leave_143 (zx σ n0 bf) d p0 p1 S Q) : zs_U (zx σ n0 bf) d 8258 143 [(0, .ref p0), (1, .int p1)] [] S Q := by
  unfold w_X9_leave_143 at h
  refine zu_aload_n d_8258_143 rfl (zs_ra _) ?_
  refine zu_aload_n d_8258_144 rfl (zs_ra _) ?_
  obtain ⟨k1, h⟩ := h
  refine zg_8_341 rfl d_8258_145 k1 ?_
  refine zu_iload_n d_8258_148 rfl ?_
  obtain ⟨b2, e3, h⟩ := h
  refine zs_stk1 (zs_rfe e3) ?_
  obtain ⟨k4, h⟩ := h
  refine zu_iald (k := 0) d_8258_149 rfl rfl k4 ?_
  obtain ⟨k5, h⟩ := h
  refine zp_8_1377 (v := (zs_i S b2 p1.toNatClampNeg)) rfl d_8258_150 k1 k5 ?_
  generalize e7 : zs_sI S 8199 p0 (zs_i S b2 p1.toNatClampNeg) = S6
  have h := h S6 e7.symm
  have K8 : ∀ b, zs_K S6 b = zs_K S b := zs_Kt e7 (zs_KsI _ _ _ _) (fun _ => rfl)
  refine zu_aload_n d_8258_153 rfl (zs_ra _) ?_
  refine zu_dup d_8258_154 rfl ?_
  refine zg_8_1243 rfl d_8258_155 ((K8 _).trans k1) ?_
  refine zu_aload_n d_8258_158 rfl (zs_ra _) ?_
  refine zg_8_353 rfl d_8258_159 ((K8 _).trans k1) ?_
  refine zu_iload_n d_8258_162 rfl ?_
  obtain ⟨b9, e10, h⟩ := h
  refine zs_stk1 (zs_rfe e10) ?_
  obtain ⟨k11, h⟩ := h
  refine zu_iald (k := 0) d_8258_163 rfl rfl (zs_Ak K8 k11) ?_
  refine zu_stk d_8258_164 rfl rfl ?_
  refine zp_8_1243 (v := ((zs_I S6 8166 p0) - (zs_i S6 b9 p1.toNatClampNeg))) rfl d_8258_165 ((K8 _).trans k1) k5 ?_
  generalize e13 : zs_sI S6 8166 p0 ((zs_I S6 8166 p0) - (zs_i S6 b9 p1.toNatClampNeg)) = S12
  have h := h S12 e13.symm
  have K14 : ∀ b, zs_K S12 b = zs_K S b := zs_Kt e13 (zs_KsI _ _ _ _) K8
  refine zu_aload_n d_8258_168 rfl (zs_ra _) ?_
  refine zu_aload_n d_8258_169 rfl (zs_ra _) ?_
  refine zg_8_356 rfl d_8258_170 ((K14 _).trans k1) ?_
  refine zu_iload_n d_8258_173 rfl ?_
  obtain ⟨b15, e16, h⟩ := h
  refine zs_stk1 (zs_rfe e16) ?_
  obtain ⟨k17, h⟩ := h
  refine zu_iald (k := 0) d_8258_174 rfl rfl (zs_Ak K14 k17) ?_
  refine zp_8_1246 (v := (zs_i S12 b15 p1.toNatClampNeg)) rfl d_8258_175 ((K14 _).trans k1) k5 ?_
  generalize e19 : zs_sI S12 8173 p0 (zs_i S12 b15 p1.toNatClampNeg) = S18
  have h := h S18 e19.symm
  have K20 : ∀ b, zs_K S18 b = zs_K S b := zs_Kt e19 (zs_KsI _ _ _ _) K14
  exact (u_X9_leave_178 hB h).weak ⟨rfl, trivial⟩
def w_X9_leave_135 (X : zs_X) (d : Nat) (p0 : Nat) (p1 : Int32) (S : zs_T) (Q : zs_Q) : Prop :=
  (zs_K S p0 = some (.inl 8) ∧ (((zs_I S 8197 p0) ≤ 0 → w_X9_leave_143 X d p0 p1 S Q) ∧ (¬ ((zs_I S 8197 p0) ≤ 0) → (Q (.returned none) S))))
theorem u_X9_leave_135 {σ : Nat → Nat} {n0 : Nat} {bf : ab_B} {d : Nat} {p0 : Nat} {p1 : Int32} {S : zs_T} {Q : zs_Q} (hB : zt_B bf) (h : w_X9_leave_135 (zx σ n0 bf) d p0 p1 S Q) : zs_U (zx σ n0 bf) d 8258 135 [(0, .ref p0), (1, .int p1)] [] S Q := by
  unfold w_X9_leave_135 at h
  refine zu_aload_n d_8258_135 rfl (zs_ra _) ?_
  obtain ⟨k1, h⟩ := h
  refine zg_8_1273 rfl d_8258_136 k1 ?_
  refine zu_ifle (t := 143) d_8258_139 rfl (fun c2 => ?_) (fun c2 => ?_)
  · have h := h.1 c2
    exact (u_X9_leave_143 hB h).weak ⟨rfl, rfl, trivial⟩
  · have h := h.2 c2
    exact zu_vret d_8258_142 zr_8258 h
def w_X9_leave_119 (X : zs_X) (d : Nat) (p0 : Nat) (p1 : Int32) (p5 : Int32) (S : zs_T) (Q : zs_Q) : Prop :=
  (zs_K S p0 = some (.inl 8) ∧ ∃ b2, (zs_R S 8167 p0) = some b2 ∧ zs_A S b2 0 p5 ∧ ∃ b5, (zs_R S 8170 p0) = some b5 ∧ zs_A S b5 3 (zs_i S b2 p5.toNatClampNeg) ∧ zs_C X d 8231 [.ref p0, .long (zs_j S b5 (zs_i S b2 p5.toNatClampNeg).toNatClampNeg)] S (zs_kV (fun S8 => w_X9_leave_135 X d p0 p1 S8 Q) Q))
theorem u_X9_leave_119 {σ : Nat → Nat} {n0 : Nat} {bf : ab_B} {d : Nat} {p0 : Nat} {p1 : Int32} {p5 : Int32} {S : zs_T} {Q : zs_Q} (hB : zt_B bf) (h : w_X9_leave_119 (zx σ n0 bf) d p0 p1 p5 S Q) : zs_U (zx σ n0 bf) d 8258 119 [(0, .ref p0), (1, .int p1), (5, .int p5)] [] S Q := by
  unfold w_X9_leave_119 at h
  refine zu_aload_n d_8258_119 rfl (zs_ra _) ?_
  refine zu_aload_n d_8258_120 rfl (zs_ra _) ?_
  obtain ⟨k1, h⟩ := h
  refine zg_8_373 rfl d_8258_121 k1 ?_
  refine zu_aload_n d_8258_124 rfl (zs_ra _) ?_
  refine zg_8_362 rfl d_8258_125 k1 ?_
  refine zu_iload d_8258_128 rfl ?_
  obtain ⟨b2, e3, h⟩ := h
  refine zs_stk1 (zs_rfe e3) ?_
  obtain ⟨k4, h⟩ := h
  refine zu_iald (k := 0) d_8258_130 rfl rfl k4 ?_
  obtain ⟨b5, e6, h⟩ := h
  refine zs_stk1 (zs_rfe e6) ?_
  obtain ⟨k7, h⟩ := h
  refine zu_lald (k := 3) d_8258_131 rfl rfl k7 ?_
  refine zc_8_1326 (x0 := (zs_j S b5 (zs_i S b2 p5.toNatClampNeg).toNatClampNeg)) hB rfl k1 d_8258_132 (Nat.le_of_ble_eq_true rfl) h (fun S8 h => ?_)
  exact (u_X9_leave_135 hB h).weak ⟨rfl, rfl, trivial⟩
def w_X9_leave_109 (X : zs_X) (d : Nat) (p0 : Nat) (p1 : Int32) (p3 : Int32) (S : zs_T) (Q : zs_Q) : Prop :=
  (zs_K S p0 = some (.inl 8) ∧ zs_C X d 8208 [.ref p0, .int (10 : Int32), .int p3] S (zs_kV (fun S2 => (w_X9_leave_135 X d p0 p1 S2 Q)) Q))
theorem u_X9_leave_109 {σ : Nat → Nat} {n0 : Nat} {bf : ab_B} {d : Nat} {p0 : Nat} {p1 : Int32} {p3 : Int32} {S : zs_T} {Q : zs_Q} (hB : zt_B bf) (h : w_X9_leave_109 (zx σ n0 bf) d p0 p1 p3 S Q) : zs_U (zx σ n0 bf) d 8258 109 [(0, .ref p0), (1, .int p1), (3, .int p3)] [] S Q := by
  unfold w_X9_leave_109 at h
  refine zu_aload_n d_8258_109 rfl (zs_ra _) ?_
  refine zu_bipush d_8258_110 zj_10 ?_
  refine zu_iload_n d_8258_112 rfl ?_
  obtain ⟨k1, h⟩ := h
  refine zc_8_1297 (x0 := (10 : Int32)) (x1 := p3) hB rfl k1 d_8258_113 (Nat.le_of_ble_eq_true rfl) h (fun S2 h => ?_)
  refine zu_goto (t := 135) d_8258_116 rfl ?_
  exact (u_X9_leave_135 hB h).weak ⟨rfl, rfl, trivial⟩
def w_X9_leave_90 (X : zs_X) (d : Nat) (p0 : Nat) (p1 : Int32) (S : zs_T) (Q : zs_Q) : Prop :=
  (w_X9_leave_135 X d p0 p1 S Q)
theorem u_X9_leave_90 {σ : Nat → Nat} {n0 : Nat} {bf : ab_B} {d : Nat} {p0 : Nat} {p1 : Int32} {S : zs_T} {Q : zs_Q} (hB : zt_B bf) (h : w_X9_leave_90 (zx σ n0 bf) d p0 p1 S Q) : zs_U (zx σ n0 bf) d 8258 90 [(0, .ref p0), (1, .int p1)] [] S Q := by
  unfold w_X9_leave_90 at h
  refine zu_goto (t := 135) d_8258_90 rfl ?_
  exact (u_X9_leave_135 hB h).weak ⟨rfl, rfl, trivial⟩
def w_X9_leave_58 (X : zs_X) (d : Nat) (p0 : Nat) (p1 : Int32) (p3 : Int32) (p4 : Int32) (p5 : Int32) (S : zs_T) (Q : zs_Q) : Prop :=
  (zs_K S p0 = some (.inl 8) ∧ zs_C X d 8214 [.ref p0] S (zs_kV (fun S2 => (zs_K S2 p0 = some (.inl 8) ∧ ∃ b5, (zs_R S2 8044 p0) = some b5 ∧ zs_A S2 b5 1 p4 ∧ ((¬ (zs_i S2 b5 p4.toNatClampNeg) = (7 : Int32) → (∃ b9, (zs_R S2 8167 p0) = some b9 ∧ zs_A S2 b9 0 p5 ∧ zs_C X d 8238 [.ref p0, .int (zs_i S2 b9 p5.toNatClampNeg), .int p4] S2 (zs_kI (fun v13 S12 => (((¬ v13 = 0 → w_X9_leave_119 X d p0 p1 p5 S12 Q) ∧ (¬ (¬ v13 = 0) → w_X9_leave_109 X d p0 p1 p3 S12 Q)))) Q))) ∧ (¬ (¬ (zs_i S2 b5 p4.toNatClampNeg) = (7 : Int32)) → (∃ b15, (zs_R S2 8167 p0) = some b15 ∧ zs_A S2 b15 0 p5 ∧ zs_C X d 8245 [.ref p0, .int p4, .int (zs_i S2 b15 p5.toNatClampNeg), .int p3, .int (10 : Int32)] S2 (zs_kV (fun S18 => w_X9_leave_90 X d p0 p1 S18 Q) Q)))))) Q))
theorem u_X9_leave_58 {σ : Nat → Nat} {n0 : Nat} {bf : ab_B} {d : Nat} {p0 : Nat} {p1 : Int32} {p3 : Int32} {p4 : Int32} {p5 : Int32} {S : zs_T} {Q : zs_Q} (hB : zt_B bf) (h : w_X9_leave_58 (zx σ n0 bf) d p0 p1 p3 p4 p5 S Q) : zs_U (zx σ n0 bf) d 8258 58 [(0, .ref p0), (1, .int p1), (3, .int p3), (4, .int p4), (5, .int p5)] [] S Q := by
  unfold w_X9_leave_58 at h
  refine zu_aload_n d_8258_58 rfl (zs_ra _) ?_
  obtain ⟨k1, h⟩ := h
  refine zc_8_1368  hB rfl k1 d_8258_59 (Nat.le_of_ble_eq_true rfl) h (fun S2 h => ?_)
  refine zu_aload_n d_8258_62 rfl (zs_ra _) ?_
  obtain ⟨k4, h⟩ := h
  refine zg_8_90 rfl d_8258_63 k4 ?_
  refine zu_iload d_8258_66 rfl ?_
  obtain ⟨b5, e6, h⟩ := h
  refine zs_stk1 (zs_rfe e6) ?_
  obtain ⟨k7, h⟩ := h
  refine zu_bald (k := 1) d_8258_68 rfl (Or.inl rfl) k7 ?_
  refine zu_bipush d_8258_69 zj_7 ?_
  refine zu_cmpne (t := 93) d_8258_71 rfl (fun c8 => ?_) (fun c8 => ?_)
  · have h := h.1 c8
    refine zu_aload_n d_8258_93 rfl (zs_ra _) ?_
    refine zu_aload_n d_8258_94 rfl (zs_ra _) ?_
    refine zg_8_362 rfl d_8258_95 k4 ?_
    refine zu_iload d_8258_98 rfl ?_
    obtain ⟨b9, e10, h⟩ := h
    refine zs_stk1 (zs_rfe e10) ?_
    obtain ⟨k11, h⟩ := h
    refine zu_iald (k := 0) d_8258_100 rfl rfl k11 ?_
    refine zu_iload d_8258_101 rfl ?_
    refine zc_8_1294 (x0 := (zs_i S2 b9 p5.toNatClampNeg)) (x1 := p4) hB rfl k4 d_8258_103 (Nat.le_of_ble_eq_true rfl) h (fun v13 S12 h => ?_)
    refine zu_ifne (t := 119) d_8258_106 rfl (fun c14 => ?_) (fun c14 => ?_)
    · have h := h.1 c14
      exact (u_X9_leave_119 hB h).weak ⟨rfl, rfl, rfl, trivial⟩
    · have h := h.2 c14
      exact (u_X9_leave_109 hB h).weak ⟨rfl, rfl, rfl, trivial⟩
  · have h := h.2 c8
    refine zu_aload_n d_8258_74 rfl (zs_ra _) ?_
    refine zu_iload d_8258_75 rfl ?_
    refine zu_aload_n d_8258_77 rfl (zs_ra _) ?_
    refine zg_8_362 rfl d_8258_78 k4 ?_
    refine zu_iload d_8258_81 rfl ?_
    obtain ⟨b15, e16, h⟩ := h
    refine zs_stk1 (zs_rfe e16) ?_
    obtain ⟨k17, h⟩ := h
    refine zu_iald (k := 0) d_8258_83 rfl rfl k17 ?_
    refine zu_iload_n d_8258_84 rfl ?_
    refine zu_bipush d_8258_85 zj_10 ?_
    refine zc_8_1404 (x0 := p4) (x1 := (zs_i S2 b15 p5.toNatClampNeg)) (x2 := p3) (x3 := (10 : Int32)) hB rfl k4 d_8258_87 (Nat.le_of_ble_eq_true rfl) h (fun S18 h => ?_)
    exact (u_X9_leave_90 hB h).weak ⟨rfl, rfl, trivial⟩
def w_X9_leave_30 (X : zs_X) (d : Nat) (p0 : Nat) (p1 : Int32) (p2 : Int32) (p3 : Int32) (S : zs_T) (Q : zs_Q) : Prop :=
  (zs_K S p0 = some (.inl 8) ∧ ∃ b2, (zs_R S 8100 p0) = some b2 ∧ zs_A S b2 0 p2 ∧ (((zs_i S b2 p2.toNatClampNeg) ≤ 0 → w_X9_leave_143 X d p0 p1 S Q) ∧ (¬ ((zs_i S b2 p2.toNatClampNeg) ≤ 0) → (∃ b6, (zs_R S 8160 p0) = some b6 ∧ zs_A S b6 0 p1 ∧ ∃ b9, (zs_R S 8102 p0) = some b9 ∧ zs_A S b9 0 p2 ∧ w_X9_leave_58 X d p0 p1 p3 (zs_i S b2 p2.toNatClampNeg) ((zs_i S b6 p1.toNatClampNeg) + (zs_i S b9 p2.toNatClampNeg)) S Q))))
theorem u_X9_leave_30 {σ : Nat → Nat} {n0 : Nat} {bf : ab_B} {d : Nat} {p0 : Nat} {p1 : Int32} {p2 : Int32} {p3 : Int32} {S : zs_T} {Q : zs_Q} (hB : zt_B bf) (h : w_X9_leave_30 (zx σ n0 bf) d p0 p1 p2 p3 S Q) : zs_U (zx σ n0 bf) d 8258 30 [(0, .ref p0), (1, .int p1), (2, .int p2), (3, .int p3)] [] S Q := by
  unfold w_X9_leave_30 at h
  refine zu_aload_n d_8258_30 rfl (zs_ra _) ?_
  obtain ⟨k1, h⟩ := h
  refine zg_8_215 rfl d_8258_31 k1 ?_
  refine zu_iload_n d_8258_34 rfl ?_
  obtain ⟨b2, e3, h⟩ := h
  refine zs_stk1 (zs_rfe e3) ?_
  obtain ⟨k4, h⟩ := h
  refine zu_iald (k := 0) d_8258_35 rfl rfl k4 ?_
  refine zu_istore d_8258_36 (zs_lt zq_8258 rfl) ?_
  refine zu_iload d_8258_38 rfl ?_
  refine zu_ifle (t := 143) d_8258_40 rfl (fun c5 => ?_) (fun c5 => ?_)
  · have h := h.1 c5
    exact (u_X9_leave_143 hB h).weak ⟨rfl, rfl, trivial⟩
  · have h := h.2 c5
    refine zu_aload_n d_8258_43 rfl (zs_ra _) ?_
    refine zg_8_347 rfl d_8258_44 k1 ?_
    refine zu_iload_n d_8258_47 rfl ?_
    obtain ⟨b6, e7, h⟩ := h
    refine zs_stk1 (zs_rfe e7) ?_
    obtain ⟨k8, h⟩ := h
    refine zu_iald (k := 0) d_8258_48 rfl rfl k8 ?_
    refine zu_aload_n d_8258_49 rfl (zs_ra _) ?_
    refine zg_8_221 rfl d_8258_50 k1 ?_
    refine zu_iload_n d_8258_53 rfl ?_
    obtain ⟨b9, e10, h⟩ := h
    refine zs_stk1 (zs_rfe e10) ?_
    obtain ⟨k11, h⟩ := h
    refine zu_iald (k := 0) d_8258_54 rfl rfl k11 ?_
    refine zu_stk d_8258_55 rfl rfl ?_
    refine zu_istore d_8258_56 (zs_lt zq_8258 rfl) ?_
    exact (u_X9_leave_58 hB h).weak ⟨rfl, rfl, rfl, rfl, rfl, trivial⟩
def w_X9_leave (X : zs_X) (d : Nat) (p0 : Nat) (S : zs_T) (Q : zs_Q) : Prop :=
  (zs_K S p0 = some (.inl 8) ∧ ∃ b2, (zs_R S 8156 p0) = some b2 ∧ zs_A S b2 0 ((zs_I S 8165 p0) - (1 : Int32)) ∧ ∃ b5, (zs_R S 8157 p0) = some b5 ∧ zs_A S b5 0 ((zs_I S 8165 p0) - (1 : Int32)) ∧ ((¬ ((zs_I S 8165 p0) - (1 : Int32)) = 0 → w_X9_leave_30 X d p0 ((zs_I S 8165 p0) - (1 : Int32)) (zs_i S b2 ((zs_I S 8165 p0) - (1 : Int32)).toNatClampNeg) (zs_i S b5 ((zs_I S 8165 p0) - (1 : Int32)).toNatClampNeg) S Q) ∧ (¬ (¬ ((zs_I S 8165 p0) - (1 : Int32)) = 0) → w_X9_leave_25 X d p0 S Q)))
theorem u_X9_leave {σ : Nat → Nat} {n0 : Nat} {bf : ab_B} {d : Nat} {p0 : Nat} {S : zs_T} {Q : zs_Q} (hB : zt_B bf) (hd : 1 ≤ d) (h : w_X9_leave (zx σ n0 bf) (d - 1) p0 S Q) : zs_C (zx σ n0 bf) d 8258 [.ref p0] S Q := by
  have hL : lv_args 0 [.ref p0] = [(0, .ref p0)] := rfl
  refine zs_C.of1 (hB.2 8258 (by decide) (by decide)) hd (by rw [hL]; exact zs_sub_self _ (by exact ⟨rfl, trivial⟩)) ?_
  rw [hL]
  clear hL
  unfold w_X9_leave at h
  refine zu_aload_n d_8258_0 rfl (zs_ra _) ?_
  obtain ⟨k1, h⟩ := h
  refine zg_8_1240 rfl d_8258_1 k1 ?_
  refine zu_iconst d_8258_4 zi_1 ?_
  refine zu_stk d_8258_5 rfl rfl ?_
  refine zu_istore_n d_8258_6 (zs_lt zq_8258 rfl) ?_
  refine zu_aload_n d_8258_7 rfl (zs_ra _) ?_
  refine zg_8_335 rfl d_8258_8 k1 ?_
  refine zu_iload_n d_8258_11 rfl ?_
  obtain ⟨b2, e3, h⟩ := h
  refine zs_stk1 (zs_rfe e3) ?_
  obtain ⟨k4, h⟩ := h
  refine zu_iald (k := 0) d_8258_12 rfl rfl k4 ?_
  refine zu_istore_n d_8258_13 (zs_lt zq_8258 rfl) ?_
  refine zu_aload_n d_8258_14 rfl (zs_ra _) ?_
  refine zg_8_338 rfl d_8258_15 k1 ?_
  refine zu_iload_n d_8258_18 rfl ?_
  obtain ⟨b5, e6, h⟩ := h
  refine zs_stk1 (zs_rfe e6) ?_
  obtain ⟨k7, h⟩ := h
  refine zu_iald (k := 0) d_8258_19 rfl rfl k7 ?_
  refine zu_istore_n d_8258_20 (zs_lt zq_8258 rfl) ?_
  refine zu_iload_n d_8258_21 rfl ?_
  refine zu_ifne (t := 30) d_8258_22 rfl (fun c8 => ?_) (fun c8 => ?_)
  · have h := h.1 c8
    exact (u_X9_leave_30 hB h).weak ⟨rfl, rfl, rfl, rfl, trivial⟩
  · have h := h.2 c8
    exact (u_X9_leave_25 hB h).weak ⟨rfl, trivial⟩
/-! SchemaPascalModel.finish()V -/
theorem zm_8259 {σ : Nat → Nat} {n0 : Nat} {bf : ab_B} : ab_code (zx σ n0 bf).1 8259 = prog_17_method_248_code := rfl
theorem zq_8259 {σ : Nat → Nat} {n0 : Nat} {bf : ab_B} : ab_maxL (zx σ n0 bf).1 8259 = 1 := rfl
theorem zr_8259 {σ : Nat → Nat} {n0 : Nat} {bf : ab_B} : ab_ret (zx σ n0 bf).1 8259 = (Option.none : Option Jvm.ClassFile.FieldType) := rfl
theorem d_8259_0 {σ : Nat → Nat} {n0 : Nat} {bf : ab_B} : decode (ab_code (zx σ n0 bf).1 8259) 0 = .ok (.aload_n 0, 1) := zd zm_8259 (by decide +kernel)
theorem d_8259_1 {σ : Nat → Nat} {n0 : Nat} {bf : ab_B} : decode (ab_code (zx σ n0 bf).1 8259) 1 = .ok (.iconst 1, 1) := zd zm_8259 (by decide +kernel)
theorem d_8259_2 {σ : Nat → Nat} {n0 : Nat} {bf : ab_B} : decode (ab_code (zx σ n0 bf).1 8259) 2 = .ok (.putfield 1282, 3) := zd zm_8259 (by decide +kernel)
theorem d_8259_5 {σ : Nat → Nat} {n0 : Nat} {bf : ab_B} : decode (ab_code (zx σ n0 bf).1 8259) 5 = .ok (.aload_n 0, 1) := zd zm_8259 (by decide +kernel)
theorem d_8259_6 {σ : Nat → Nat} {n0 : Nat} {bf : ab_B} : decode (ab_code (zx σ n0 bf).1 8259) 6 = .ok (.iconst 0, 1) := zd zm_8259 (by decide +kernel)
theorem d_8259_7 {σ : Nat → Nat} {n0 : Nat} {bf : ab_B} : decode (ab_code (zx σ n0 bf).1 8259) 7 = .ok (.putfield 1240, 3) := zd zm_8259 (by decide +kernel)
theorem d_8259_10 {σ : Nat → Nat} {n0 : Nat} {bf : ab_B} : decode (ab_code (zx σ n0 bf).1 8259) 10 = .ok (.aload_n 0, 1) := zd zm_8259 (by decide +kernel)
theorem d_8259_11 {σ : Nat → Nat} {n0 : Nat} {bf : ab_B} : decode (ab_code (zx σ n0 bf).1 8259) 11 = .ok (.iconst 0, 1) := zd zm_8259 (by decide +kernel)
theorem d_8259_12 {σ : Nat → Nat} {n0 : Nat} {bf : ab_B} : decode (ab_code (zx σ n0 bf).1 8259) 12 = .ok (.putfield 1243, 3) := zd zm_8259 (by decide +kernel)
theorem d_8259_15 {σ : Nat → Nat} {n0 : Nat} {bf : ab_B} : decode (ab_code (zx σ n0 bf).1 8259) 15 = .ok (.return_, 1) := zd zm_8259 (by decide +kernel)
def w_X9_finish (X : zs_X) (d : Nat) (p0 : Nat) (S : zs_T) (Q : zs_Q) : Prop :=
  (zs_K S p0 = some (.inl 8) ∧ ab_n0 X.1 ≤ p0 ∧ ∀ S3, S3 = zs_sI S 8201 p0 (1 : Int32) → ∀ S6, S6 = zs_sI S3 8165 p0 (0 : Int32) → ∀ S9, S9 = zs_sI S6 8166 p0 (0 : Int32) → Q (.returned none) S9)
theorem u_X9_finish {σ : Nat → Nat} {n0 : Nat} {bf : ab_B} {d : Nat} {p0 : Nat} {S : zs_T} {Q : zs_Q} (hB : zt_B bf) (hd : 1 ≤ d) (h : w_X9_finish (zx σ n0 bf) (d - 1) p0 S Q) : zs_C (zx σ n0 bf) d 8259 [.ref p0] S Q := by
  have hL : lv_args 0 [.ref p0] = [(0, .ref p0)] := rfl
  refine zs_C.of1 (hB.2 8259 (by decide) (by decide)) hd (by rw [hL]; exact zs_sub_self _ (by exact ⟨rfl, trivial⟩)) ?_
  rw [hL]
  clear hL
  unfold w_X9_finish at h
  refine zu_aload_n d_8259_0 rfl (zs_ra _) ?_
  refine zu_iconst d_8259_1 zi_1 ?_
  obtain ⟨k1, h⟩ := h
  obtain ⟨k2, h⟩ := h
  refine zp_8_1282 (v := (1 : Int32)) rfl d_8259_2 k1 k2 (Or.inr rfl) ?_
  generalize e4 : zs_sI S 8201 p0 (1 : Int32) = S3
  have h := h S3 e4.symm
  have K5 : ∀ b, zs_K S3 b = zs_K S b := zs_Kt e4 (zs_KsI _ _ _ _) (fun _ => rfl)
  refine zu_aload_n d_8259_5 rfl (zs_ra _) ?_
  refine zu_iconst d_8259_6 zi_0 ?_
  refine zp_8_1240 (v := (0 : Int32)) rfl d_8259_7 ((K5 _).trans k1) k2 ?_
  generalize e7 : zs_sI S3 8165 p0 (0 : Int32) = S6
  have h := h S6 e7.symm
  have K8 : ∀ b, zs_K S6 b = zs_K S b := zs_Kt e7 (zs_KsI _ _ _ _) K5
  refine zu_aload_n d_8259_10 rfl (zs_ra _) ?_
  refine zu_iconst d_8259_11 zi_0 ?_
  refine zp_8_1243 (v := (0 : Int32)) rfl d_8259_12 ((K8 _).trans k1) k2 ?_
  generalize e10 : zs_sI S6 8166 p0 (0 : Int32) = S9
  have h := h S9 e10.symm
  have K11 : ∀ b, zs_K S9 b = zs_K S b := zs_Kt e10 (zs_KsI _ _ _ _) K8
  exact zu_vret d_8259_15 zr_8259 h
