/-! printed by gen_all.py: what the methods compute -/
set_option maxRecDepth 100000
/-! SchemaPascalModel.areSets(II)Z -/
theorem zm_8046 {σ : Nat → Nat} {n0 : Nat} {bf : ab_B} : ab_code (zx σ n0 bf).1 8046 = prog_17_method_38_code := rfl
theorem zq_8046 {σ : Nat → Nat} {n0 : Nat} {bf : ab_B} : ab_maxL (zx σ n0 bf).1 8046 = 3 := rfl
theorem zr_8046 {σ : Nat → Nat} {n0 : Nat} {bf : ab_B} : ab_ret (zx σ n0 bf).1 8046 = (Option.some Jvm.ClassFile.FieldType.boolean) := rfl
theorem d_8046_0 {σ : Nat → Nat} {n0 : Nat} {bf : ab_B} : decode (ab_code (zx σ n0 bf).1 8046) 0 = .ok (.aload_n 0, 1) := zd zm_8046 (by decide +kernel)
theorem d_8046_1 {σ : Nat → Nat} {n0 : Nat} {bf : ab_B} : decode (ab_code (zx σ n0 bf).1 8046) 1 = .ok (.iload_n 1, 1) := zd zm_8046 (by decide +kernel)
theorem d_8046_2 {σ : Nat → Nat} {n0 : Nat} {bf : ab_B} : decode (ab_code (zx σ n0 bf).1 8046) 2 = .ok (.invokevirtual 567, 3) := zd zm_8046 (by decide +kernel)
theorem d_8046_5 {σ : Nat → Nat} {n0 : Nat} {bf : ab_B} : decode (ab_code (zx σ n0 bf).1 8046) 5 = .ok (.ifCond .eq 44, 3) := zd zm_8046 (by decide +kernel)
theorem d_8046_8 {σ : Nat → Nat} {n0 : Nat} {bf : ab_B} : decode (ab_code (zx σ n0 bf).1 8046) 8 = .ok (.aload_n 0, 1) := zd zm_8046 (by decide +kernel)
theorem d_8046_9 {σ : Nat → Nat} {n0 : Nat} {bf : ab_B} : decode (ab_code (zx σ n0 bf).1 8046) 9 = .ok (.iload_n 2, 1) := zd zm_8046 (by decide +kernel)
theorem d_8046_10 {σ : Nat → Nat} {n0 : Nat} {bf : ab_B} : decode (ab_code (zx σ n0 bf).1 8046) 10 = .ok (.invokevirtual 567, 3) := zd zm_8046 (by decide +kernel)
theorem d_8046_13 {σ : Nat → Nat} {n0 : Nat} {bf : ab_B} : decode (ab_code (zx σ n0 bf).1 8046) 13 = .ok (.ifCond .eq 36, 3) := zd zm_8046 (by decide +kernel)
theorem d_8046_16 {σ : Nat → Nat} {n0 : Nat} {bf : ab_B} : decode (ab_code (zx σ n0 bf).1 8046) 16 = .ok (.aload_n 0, 1) := zd zm_8046 (by decide +kernel)
theorem d_8046_17 {σ : Nat → Nat} {n0 : Nat} {bf : ab_B} : decode (ab_code (zx σ n0 bf).1 8046) 17 = .ok (.iload_n 1, 1) := zd zm_8046 (by decide +kernel)
theorem d_8046_18 {σ : Nat → Nat} {n0 : Nat} {bf : ab_B} : decode (ab_code (zx σ n0 bf).1 8046) 18 = .ok (.invokevirtual 570, 3) := zd zm_8046 (by decide +kernel)
theorem d_8046_21 {σ : Nat → Nat} {n0 : Nat} {bf : ab_B} : decode (ab_code (zx σ n0 bf).1 8046) 21 = .ok (.ifCond .eq 24, 3) := zd zm_8046 (by decide +kernel)
theorem d_8046_24 {σ : Nat → Nat} {n0 : Nat} {bf : ab_B} : decode (ab_code (zx σ n0 bf).1 8046) 24 = .ok (.aload_n 0, 1) := zd zm_8046 (by decide +kernel)
theorem d_8046_25 {σ : Nat → Nat} {n0 : Nat} {bf : ab_B} : decode (ab_code (zx σ n0 bf).1 8046) 25 = .ok (.iload_n 2, 1) := zd zm_8046 (by decide +kernel)
theorem d_8046_26 {σ : Nat → Nat} {n0 : Nat} {bf : ab_B} : decode (ab_code (zx σ n0 bf).1 8046) 26 = .ok (.invokevirtual 570, 3) := zd zm_8046 (by decide +kernel)
theorem d_8046_29 {σ : Nat → Nat} {n0 : Nat} {bf : ab_B} : decode (ab_code (zx σ n0 bf).1 8046) 29 = .ok (.ifCond .eq 16, 3) := zd zm_8046 (by decide +kernel)
theorem d_8046_32 {σ : Nat → Nat} {n0 : Nat} {bf : ab_B} : decode (ab_code (zx σ n0 bf).1 8046) 32 = .ok (.aload_n 0, 1) := zd zm_8046 (by decide +kernel)
theorem d_8046_33 {σ : Nat → Nat} {n0 : Nat} {bf : ab_B} : decode (ab_code (zx σ n0 bf).1 8046) 33 = .ok (.iload_n 1, 1) := zd zm_8046 (by decide +kernel)
theorem d_8046_34 {σ : Nat → Nat} {n0 : Nat} {bf : ab_B} : decode (ab_code (zx σ n0 bf).1 8046) 34 = .ok (.invokevirtual 570, 3) := zd zm_8046 (by decide +kernel)
theorem d_8046_37 {σ : Nat → Nat} {n0 : Nat} {bf : ab_B} : decode (ab_code (zx σ n0 bf).1 8046) 37 = .ok (.aload_n 0, 1) := zd zm_8046 (by decide +kernel)
theorem d_8046_38 {σ : Nat → Nat} {n0 : Nat} {bf : ab_B} : decode (ab_code (zx σ n0 bf).1 8046) 38 = .ok (.iload_n 2, 1) := zd zm_8046 (by decide +kernel)
theorem d_8046_39 {σ : Nat → Nat} {n0 : Nat} {bf : ab_B} : decode (ab_code (zx σ n0 bf).1 8046) 39 = .ok (.invokevirtual 570, 3) := zd zm_8046 (by decide +kernel)
theorem d_8046_42 {σ : Nat → Nat} {n0 : Nat} {bf : ab_B} : decode (ab_code (zx σ n0 bf).1 8046) 42 = .ok (.if_icmp .ne 7, 3) := zd zm_8046 (by decide +kernel)
theorem d_8046_45 {σ : Nat → Nat} {n0 : Nat} {bf : ab_B} : decode (ab_code (zx σ n0 bf).1 8046) 45 = .ok (.iconst 1, 1) := zd zm_8046 (by decide +kernel)
theorem d_8046_46 {σ : Nat → Nat} {n0 : Nat} {bf : ab_B} : decode (ab_code (zx σ n0 bf).1 8046) 46 = .ok (.goto 4, 3) := zd zm_8046 (by decide +kernel)
theorem d_8046_49 {σ : Nat → Nat} {n0 : Nat} {bf : ab_B} : decode (ab_code (zx σ n0 bf).1 8046) 49 = .ok (.iconst 0, 1) := zd zm_8046 (by decide +kernel)
theorem d_8046_50 {σ : Nat → Nat} {n0 : Nat} {bf : ab_B} : decode (ab_code (zx σ n0 bf).1 8046) 50 = .ok (.ireturn, 1) := zd zm_8046 (by decide +kernel)
def w_X9_areSets_45 (X : zs_X) (d : Nat)  (S : zs_T) (Q : zs_Q) : Prop :=
  (Q (.returned (some (.int (1 : Int32)))) S)
theorem u_X9_areSets_45 {σ : Nat → Nat} {n0 : Nat} {bf : ab_B} {d : Nat}  {S : zs_T} {Q : zs_Q} (hB : zt_B bf) (h : w_X9_areSets_45 (zx σ n0 bf) d  S Q) : zs_U (zx σ n0 bf) d 8046 45 [] [] S Q := by
  unfold w_X9_areSets_45 at h
  refine zu_iconst d_8046_45 zi_1 ?_
  refine zu_goto (t := 50) d_8046_46 rfl ?_
  exact zu_iret d_8046_50 zr_8046 (zs_b_n (Or.inr rfl)) h
def w_X9_areSets_32 (X : zs_X) (d : Nat) (p0 : Nat) (p1 : Int32) (p2 : Int32) (S : zs_T) (Q : zs_Q) : Prop :=
  (zs_K S p0 = some (.inl 8) ∧ zs_C X d 8041 [.ref p0, .int p1] S (zs_kI (fun v3 S2 => (zs_K S2 p0 = some (.inl 8) ∧ zs_C X d 8041 [.ref p0, .int p2] S2 (zs_kI (fun v6 S5 => (((¬ v3 = v6 → (Q (.returned (some (.int (0 : Int32)))) S5)) ∧ (¬ (¬ v3 = v6) → w_X9_areSets_45 X d  S5 Q)))) Q))) Q))
theorem u_X9_areSets_32 {σ : Nat → Nat} {n0 : Nat} {bf : ab_B} {d : Nat} {p0 : Nat} {p1 : Int32} {p2 : Int32} {S : zs_T} {Q : zs_Q} (hB : zt_B bf) (h : w_X9_areSets_32 (zx σ n0 bf) d p0 p1 p2 S Q) : zs_U (zx σ n0 bf) d 8046 32 [(0, .ref p0), (1, .int p1), (2, .int p2)] [] S Q := by
  unfold w_X9_areSets_32 at h
  refine zu_aload_n d_8046_32 rfl (zs_ra _) ?_
  refine zu_iload_n d_8046_33 rfl ?_
  obtain ⟨k1, h⟩ := h
  refine zc_8_570 (x0 := p1) hB rfl k1 d_8046_34 (Nat.le_of_ble_eq_true rfl) h (fun v3 S2 h => ?_)
  refine zu_aload_n d_8046_37 rfl (zs_ra _) ?_
  refine zu_iload_n d_8046_38 rfl ?_
  obtain ⟨k4, h⟩ := h
  refine zc_8_570 (x0 := p2) hB rfl k4 d_8046_39 (Nat.le_of_ble_eq_true rfl) h (fun v6 S5 h => ?_)
  refine zu_cmpne (t := 49) d_8046_42 rfl (fun c7 => ?_) (fun c7 => ?_)
  · have h := h.1 c7
    refine zu_iconst d_8046_49 zi_0 ?_
    exact zu_iret d_8046_50 zr_8046 (zs_b_n (Or.inl rfl)) h
  · have h := h.2 c7
    exact (u_X9_areSets_45 hB h).weak trivial
def w_X9_areSets (X : zs_X) (d : Nat) (p0 : Nat) (p1 : Int32) (p2 : Int32) (S : zs_T) (Q : zs_Q) : Prop :=
  (zs_K S p0 = some (.inl 8) ∧ zs_C X d 8040 [.ref p0, .int p1] S (zs_kI (fun v3 S2 => (((v3 = 0 → (Q (.returned (some (.int (0 : Int32)))) S2)) ∧ (¬ (v3 = 0) → (zs_K S2 p0 = some (.inl 8) ∧ zs_C X d 8040 [.ref p0, .int p2] S2 (zs_kI (fun v7 S6 => (((v7 = 0 → (Q (.returned (some (.int (0 : Int32)))) S6)) ∧ (¬ (v7 = 0) → (zs_K S6 p0 = some (.inl 8) ∧ zs_C X d 8041 [.ref p0, .int p1] S6 (zs_kI (fun v11 S10 => (((v11 = 0 → w_X9_areSets_45 X d  S10 Q) ∧ (¬ (v11 = 0) → (zs_K S10 p0 = some (.inl 8) ∧ zs_C X d 8041 [.ref p0, .int p2] S10 (zs_kI (fun v15 S14 => (((v15 = 0 → w_X9_areSets_45 X d  S14 Q) ∧ (¬ (v15 = 0) → w_X9_areSets_32 X d p0 p1 p2 S14 Q)))) Q)))))) Q)))))) Q)))))) Q))
theorem u_X9_areSets {σ : Nat → Nat} {n0 : Nat} {bf : ab_B} {d : Nat} {p0 : Nat} {p1 : Int32} {p2 : Int32} {S : zs_T} {Q : zs_Q} (hB : zt_B bf) (hd : 1 ≤ d) (h : w_X9_areSets (zx σ n0 bf) (d - 1) p0 p1 p2 S Q) : zs_C (zx σ n0 bf) d 8046 [.ref p0, .int p1, .int p2] S Q := by
  have hL : lv_args 0 [.ref p0, .int p1, .int p2] = [(0, .ref p0), (1, .int p1), (2, .int p2)] := rfl
  refine zs_C.of1 (hB.2 8046 (by decide) (by decide)) hd (by rw [hL]; exact zs_sub_self _ (by exact ⟨rfl, rfl, rfl, trivial⟩)) ?_
  rw [hL]
  clear hL
  unfold w_X9_areSets at h
  refine zu_aload_n d_8046_0 rfl (zs_ra _) ?_
  refine zu_iload_n d_8046_1 rfl ?_
  obtain ⟨k1, h⟩ := h
  refine zc_8_567 (x0 := p1) hB rfl k1 d_8046_2 (Nat.le_of_ble_eq_true rfl) h (fun v3 S2 h => ?_)
  refine zu_ifeq (t := 49) d_8046_5 rfl (fun c4 => ?_) (fun c4 => ?_)
  · have h := h.1 c4
    refine zu_iconst d_8046_49 zi_0 ?_
    exact zu_iret d_8046_50 zr_8046 (zs_b_n (Or.inl rfl)) h
  · have h := h.2 c4
    refine zu_aload_n d_8046_8 rfl (zs_ra _) ?_
    refine zu_iload_n d_8046_9 rfl ?_
    obtain ⟨k5, h⟩ := h
    refine zc_8_567 (x0 := p2) hB rfl k5 d_8046_10 (Nat.le_of_ble_eq_true rfl) h (fun v7 S6 h => ?_)
    refine zu_ifeq (t := 49) d_8046_13 rfl (fun c8 => ?_) (fun c8 => ?_)
    · have h := h.1 c8
      refine zu_iconst d_8046_49 zi_0 ?_
      exact zu_iret d_8046_50 zr_8046 (zs_b_n (Or.inl rfl)) h
    · have h := h.2 c8
      refine zu_aload_n d_8046_16 rfl (zs_ra _) ?_
      refine zu_iload_n d_8046_17 rfl ?_
      obtain ⟨k9, h⟩ := h
      refine zc_8_570 (x0 := p1) hB rfl k9 d_8046_18 (Nat.le_of_ble_eq_true rfl) h (fun v11 S10 h => ?_)
      refine zu_ifeq (t := 45) d_8046_21 rfl (fun c12 => ?_) (fun c12 => ?_)
      · have h := h.1 c12
        exact (u_X9_areSets_45 hB h).weak trivial
      · have h := h.2 c12
        refine zu_aload_n d_8046_24 rfl (zs_ra _) ?_
        refine zu_iload_n d_8046_25 rfl ?_
        obtain ⟨k13, h⟩ := h
        refine zc_8_570 (x0 := p2) hB rfl k13 d_8046_26 (Nat.le_of_ble_eq_true rfl) h (fun v15 S14 h => ?_)
        refine zu_ifeq (t := 45) d_8046_29 rfl (fun c16 => ?_) (fun c16 => ?_)
        · have h := h.1 c16
          exact (u_X9_areSets_45 hB h).weak trivial
        · have h := h.2 c16
          exact (u_X9_areSets_32 hB h).weak ⟨rfl, rfl, rfl, trivial⟩
/-! SchemaPascalModel.arePointers(II)Z -/
theorem zm_8047 {σ : Nat → Nat} {n0 : Nat} {bf : ab_B} : ab_code (zx σ n0 bf).1 8047 = prog_17_method_39_code := rfl
theorem zq_8047 {σ : Nat → Nat} {n0 : Nat} {bf : ab_B} : ab_maxL (zx σ n0 bf).1 8047 = 3 := rfl
theorem zr_8047 {σ : Nat → Nat} {n0 : Nat} {bf : ab_B} : ab_ret (zx σ n0 bf).1 8047 = (Option.some Jvm.ClassFile.FieldType.boolean) := rfl
theorem d_8047_0 {σ : Nat → Nat} {n0 : Nat} {bf : ab_B} : decode (ab_code (zx σ n0 bf).1 8047) 0 = .ok (.aload_n 0, 1) := zd zm_8047 (by decide +kernel)
theorem d_8047_1 {σ : Nat → Nat} {n0 : Nat} {bf : ab_B} : decode (ab_code (zx σ n0 bf).1 8047) 1 = .ok (.iload_n 1, 1) := zd zm_8047 (by decide +kernel)
theorem d_8047_2 {σ : Nat → Nat} {n0 : Nat} {bf : ab_B} : decode (ab_code (zx σ n0 bf).1 8047) 2 = .ok (.invokevirtual 573, 3) := zd zm_8047 (by decide +kernel)
theorem d_8047_5 {σ : Nat → Nat} {n0 : Nat} {bf : ab_B} : decode (ab_code (zx σ n0 bf).1 8047) 5 = .ok (.ifCond .eq 42, 3) := zd zm_8047 (by decide +kernel)
theorem d_8047_8 {σ : Nat → Nat} {n0 : Nat} {bf : ab_B} : decode (ab_code (zx σ n0 bf).1 8047) 8 = .ok (.aload_n 0, 1) := zd zm_8047 (by decide +kernel)
theorem d_8047_9 {σ : Nat → Nat} {n0 : Nat} {bf : ab_B} : decode (ab_code (zx σ n0 bf).1 8047) 9 = .ok (.iload_n 2, 1) := zd zm_8047 (by decide +kernel)
theorem d_8047_10 {σ : Nat → Nat} {n0 : Nat} {bf : ab_B} : decode (ab_code (zx σ n0 bf).1 8047) 10 = .ok (.invokevirtual 573, 3) := zd zm_8047 (by decide +kernel)
theorem d_8047_13 {σ : Nat → Nat} {n0 : Nat} {bf : ab_B} : decode (ab_code (zx σ n0 bf).1 8047) 13 = .ok (.ifCond .eq 34, 3) := zd zm_8047 (by decide +kernel)
theorem d_8047_16 {σ : Nat → Nat} {n0 : Nat} {bf : ab_B} : decode (ab_code (zx σ n0 bf).1 8047) 16 = .ok (.iload_n 1, 1) := zd zm_8047 (by decide +kernel)
theorem d_8047_17 {σ : Nat → Nat} {n0 : Nat} {bf : ab_B} : decode (ab_code (zx σ n0 bf).1 8047) 17 = .ok (.iload_n 2, 1) := zd zm_8047 (by decide +kernel)
theorem d_8047_18 {σ : Nat → Nat} {n0 : Nat} {bf : ab_B} : decode (ab_code (zx σ n0 bf).1 8047) 18 = .ok (.if_icmp .eq 25, 3) := zd zm_8047 (by decide +kernel)
theorem d_8047_21 {σ : Nat → Nat} {n0 : Nat} {bf : ab_B} : decode (ab_code (zx σ n0 bf).1 8047) 21 = .ok (.aload_n 0, 1) := zd zm_8047 (by decide +kernel)
theorem d_8047_22 {σ : Nat → Nat} {n0 : Nat} {bf : ab_B} : decode (ab_code (zx σ n0 bf).1 8047) 22 = .ok (.getfield 90, 3) := zd zm_8047 (by decide +kernel)
theorem d_8047_25 {σ : Nat → Nat} {n0 : Nat} {bf : ab_B} : decode (ab_code (zx σ n0 bf).1 8047) 25 = .ok (.iload_n 1, 1) := zd zm_8047 (by decide +kernel)
theorem d_8047_26 {σ : Nat → Nat} {n0 : Nat} {bf : ab_B} : decode (ab_code (zx σ n0 bf).1 8047) 26 = .ok (.baload, 1) := zd zm_8047 (by decide +kernel)
theorem d_8047_27 {σ : Nat → Nat} {n0 : Nat} {bf : ab_B} : decode (ab_code (zx σ n0 bf).1 8047) 27 = .ok (.bipush 12, 2) := zd zm_8047 (by decide +kernel)
theorem d_8047_29 {σ : Nat → Nat} {n0 : Nat} {bf : ab_B} : decode (ab_code (zx σ n0 bf).1 8047) 29 = .ok (.if_icmp .eq 14, 3) := zd zm_8047 (by decide +kernel)
theorem d_8047_32 {σ : Nat → Nat} {n0 : Nat} {bf : ab_B} : decode (ab_code (zx σ n0 bf).1 8047) 32 = .ok (.aload_n 0, 1) := zd zm_8047 (by decide +kernel)
theorem d_8047_33 {σ : Nat → Nat} {n0 : Nat} {bf : ab_B} : decode (ab_code (zx σ n0 bf).1 8047) 33 = .ok (.getfield 90, 3) := zd zm_8047 (by decide +kernel)
theorem d_8047_36 {σ : Nat → Nat} {n0 : Nat} {bf : ab_B} : decode (ab_code (zx σ n0 bf).1 8047) 36 = .ok (.iload_n 2, 1) := zd zm_8047 (by decide +kernel)
theorem d_8047_37 {σ : Nat → Nat} {n0 : Nat} {bf : ab_B} : decode (ab_code (zx σ n0 bf).1 8047) 37 = .ok (.baload, 1) := zd zm_8047 (by decide +kernel)
theorem d_8047_38 {σ : Nat → Nat} {n0 : Nat} {bf : ab_B} : decode (ab_code (zx σ n0 bf).1 8047) 38 = .ok (.bipush 12, 2) := zd zm_8047 (by decide +kernel)
theorem d_8047_40 {σ : Nat → Nat} {n0 : Nat} {bf : ab_B} : decode (ab_code (zx σ n0 bf).1 8047) 40 = .ok (.if_icmp .ne 7, 3) := zd zm_8047 (by decide +kernel)
theorem d_8047_43 {σ : Nat → Nat} {n0 : Nat} {bf : ab_B} : decode (ab_code (zx σ n0 bf).1 8047) 43 = .ok (.iconst 1, 1) := zd zm_8047 (by decide +kernel)
theorem d_8047_44 {σ : Nat → Nat} {n0 : Nat} {bf : ab_B} : decode (ab_code (zx σ n0 bf).1 8047) 44 = .ok (.goto 4, 3) := zd zm_8047 (by decide +kernel)
theorem d_8047_47 {σ : Nat → Nat} {n0 : Nat} {bf : ab_B} : decode (ab_code (zx σ n0 bf).1 8047) 47 = .ok (.iconst 0, 1) := zd zm_8047 (by decide +kernel)
theorem d_8047_48 {σ : Nat → Nat} {n0 : Nat} {bf : ab_B} : decode (ab_code (zx σ n0 bf).1 8047) 48 = .ok (.ireturn, 1) := zd zm_8047 (by decide +kernel)
def w_X9_arePointers_43 (X : zs_X) (d : Nat)  (S : zs_T) (Q : zs_Q) : Prop :=
  (Q (.returned (some (.int (1 : Int32)))) S)
theorem u_X9_arePointers_43 {σ : Nat → Nat} {n0 : Nat} {bf : ab_B} {d : Nat}  {S : zs_T} {Q : zs_Q} (hB : zt_B bf) (h : w_X9_arePointers_43 (zx σ n0 bf) d  S Q) : zs_U (zx σ n0 bf) d 8047 43 [] [] S Q := by
  unfold w_X9_arePointers_43 at h
  refine zu_iconst d_8047_43 zi_1 ?_
  refine zu_goto (t := 48) d_8047_44 rfl ?_
  exact zu_iret d_8047_48 zr_8047 (zs_b_n (Or.inr rfl)) h
def w_X9_arePointers_32 (X : zs_X) (d : Nat) (p0 : Nat) (p2 : Int32) (S : zs_T) (Q : zs_Q) : Prop :=
  (zs_K S p0 = some (.inl 8) ∧ ∃ b2, (zs_R S 8044 p0) = some b2 ∧ zs_A S b2 1 p2 ∧ ((¬ (zs_i S b2 p2.toNatClampNeg) = (12 : Int32) → (Q (.returned (some (.int (0 : Int32)))) S)) ∧ (¬ (¬ (zs_i S b2 p2.toNatClampNeg) = (12 : Int32)) → w_X9_arePointers_43 X d  S Q)))
theorem u_X9_arePointers_32 {σ : Nat → Nat} {n0 : Nat} {bf : ab_B} {d : Nat} {p0 : Nat} {p2 : Int32} {S : zs_T} {Q : zs_Q} (hB : zt_B bf) (h : w_X9_arePointers_32 (zx σ n0 bf) d p0 p2 S Q) : zs_U (zx σ n0 bf) d 8047 32 [(0, .ref p0), (2, .int p2)] [] S Q := by
  unfold w_X9_arePointers_32 at h
  refine zu_aload_n d_8047_32 rfl (zs_ra _) ?_
  obtain ⟨k1, h⟩ := h
  refine zg_8_90 rfl d_8047_33 k1 ?_
  refine zu_iload_n d_8047_36 rfl ?_
  obtain ⟨b2, e3, h⟩ := h
  refine zs_stk1 (zs_rfe e3) ?_
  obtain ⟨k4, h⟩ := h
  refine zu_bald (k := 1) d_8047_37 rfl (Or.inl rfl) k4 ?_
  refine zu_bipush d_8047_38 zj_12 ?_
  refine zu_cmpne (t := 47) d_8047_40 rfl (fun c5 => ?_) (fun c5 => ?_)
  · have h := h.1 c5
    refine zu_iconst d_8047_47 zi_0 ?_
    exact zu_iret d_8047_48 zr_8047 (zs_b_n (Or.inl rfl)) h
  · have h := h.2 c5
    exact (u_X9_arePointers_43 hB h).weak trivial
def w_X9_arePointers (X : zs_X) (d : Nat) (p0 : Nat) (p1 : Int32) (p2 : Int32) (S : zs_T) (Q : zs_Q) : Prop :=
  (zs_K S p0 = some (.inl 8) ∧ zs_C X d 8048 [.ref p0, .int p1] S (zs_kI (fun v3 S2 => (((v3 = 0 → (Q (.returned (some (.int (0 : Int32)))) S2)) ∧ (¬ (v3 = 0) → (zs_K S2 p0 = some (.inl 8) ∧ zs_C X d 8048 [.ref p0, .int p2] S2 (zs_kI (fun v7 S6 => (((v7 = 0 → (Q (.returned (some (.int (0 : Int32)))) S6)) ∧ (¬ (v7 = 0) → (((p1 = p2 → w_X9_arePointers_43 X d  S6 Q) ∧ (¬ (p1 = p2) → (zs_K S6 p0 = some (.inl 8) ∧ ∃ b11, (zs_R S6 8044 p0) = some b11 ∧ zs_A S6 b11 1 p1 ∧ (((zs_i S6 b11 p1.toNatClampNeg) = (12 : Int32) → w_X9_arePointers_43 X d  S6 Q) ∧ (¬ ((zs_i S6 b11 p1.toNatClampNeg) = (12 : Int32)) → w_X9_arePointers_32 X d p0 p2 S6 Q)))))))))) Q)))))) Q))
theorem u_X9_arePointers {σ : Nat → Nat} {n0 : Nat} {bf : ab_B} {d : Nat} {p0 : Nat} {p1 : Int32} {p2 : Int32} {S : zs_T} {Q : zs_Q} (hB : zt_B bf) (hd : 1 ≤ d) (h : w_X9_arePointers (zx σ n0 bf) (d - 1) p0 p1 p2 S Q) : zs_C (zx σ n0 bf) d 8047 [.ref p0, .int p1, .int p2] S Q := by
  have hL : lv_args 0 [.ref p0, .int p1, .int p2] = [(0, .ref p0), (1, .int p1), (2, .int p2)] := rfl
  refine zs_C.of1 (hB.2 8047 (by decide) (by decide)) hd (by rw [hL]; exact zs_sub_self _ (by exact ⟨rfl, rfl, rfl, trivial⟩)) ?_
  rw [hL]
  clear hL
  unfold w_X9_arePointers at h
  refine zu_aload_n d_8047_0 rfl (zs_ra _) ?_
  refine zu_iload_n d_8047_1 rfl ?_
  obtain ⟨k1, h⟩ := h
  refine zc_8_573 (x0 := p1) hB rfl k1 d_8047_2 (Nat.le_of_ble_eq_true rfl) h (fun v3 S2 h => ?_)
  refine zu_ifeq (t := 47) d_8047_5 rfl (fun c4 => ?_) (fun c4 => ?_)
  · have h := h.1 c4
    refine zu_iconst d_8047_47 zi_0 ?_
    exact zu_iret d_8047_48 zr_8047 (zs_b_n (Or.inl rfl)) h
  · have h := h.2 c4
    refine zu_aload_n d_8047_8 rfl (zs_ra _) ?_
    refine zu_iload_n d_8047_9 rfl ?_
    obtain ⟨k5, h⟩ := h
    refine zc_8_573 (x0 := p2) hB rfl k5 d_8047_10 (Nat.le_of_ble_eq_true rfl) h (fun v7 S6 h => ?_)
    refine zu_ifeq (t := 47) d_8047_13 rfl (fun c8 => ?_) (fun c8 => ?_)
    · have h := h.1 c8
      refine zu_iconst d_8047_47 zi_0 ?_
      exact zu_iret d_8047_48 zr_8047 (zs_b_n (Or.inl rfl)) h
    · have h := h.2 c8
      refine zu_iload_n d_8047_16 rfl ?_
      refine zu_iload_n d_8047_17 rfl ?_
      refine zu_cmpeq (t := 43) d_8047_18 rfl (fun c9 => ?_) (fun c9 => ?_)
      · have h := h.1 c9
        exact (u_X9_arePointers_43 hB h).weak trivial
      · have h := h.2 c9
        refine zu_aload_n d_8047_21 rfl (zs_ra _) ?_
        obtain ⟨k10, h⟩ := h
        refine zg_8_90 rfl d_8047_22 k10 ?_
        refine zu_iload_n d_8047_25 rfl ?_
        obtain ⟨b11, e12, h⟩ := h
        refine zs_stk1 (zs_rfe e12) ?_
        obtain ⟨k13, h⟩ := h
        refine zu_bald (k := 1) d_8047_26 rfl (Or.inl rfl) k13 ?_
        refine zu_bipush d_8047_27 zj_12 ?_
        refine zu_cmpeq (t := 43) d_8047_29 rfl (fun c14 => ?_) (fun c14 => ?_)
        · have h := h.1 c14
          exact (u_X9_arePointers_43 hB h).weak trivial
        · have h := h.2 c14
          exact (u_X9_arePointers_32 hB h).weak ⟨rfl, rfl, trivial⟩
/-! SchemaPascalModel.isPointer(I)Z -/
theorem zm_8048 {σ : Nat → Nat} {n0 : Nat} {bf : ab_B} : ab_code (zx σ n0 bf).1 8048 = prog_17_method_36_code := rfl
theorem zq_8048 {σ : Nat → Nat} {n0 : Nat} {bf : ab_B} : ab_maxL (zx σ n0 bf).1 8048 = 2 := rfl
theorem zr_8048 {σ : Nat → Nat} {n0 : Nat} {bf : ab_B} : ab_ret (zx σ n0 bf).1 8048 = (Option.some Jvm.ClassFile.FieldType.boolean) := rfl
theorem d_8048_0 {σ : Nat → Nat} {n0 : Nat} {bf : ab_B} : decode (ab_code (zx σ n0 bf).1 8048) 0 = .ok (.iload_n 1, 1) := zd zm_8048 (by decide +kernel)
theorem d_8048_1 {σ : Nat → Nat} {n0 : Nat} {bf : ab_B} : decode (ab_code (zx σ n0 bf).1 8048) 1 = .ok (.ifCond .le 29, 3) := zd zm_8048 (by decide +kernel)
theorem d_8048_4 {σ : Nat → Nat} {n0 : Nat} {bf : ab_B} : decode (ab_code (zx σ n0 bf).1 8048) 4 = .ok (.aload_n 0, 1) := zd zm_8048 (by decide +kernel)
theorem d_8048_5 {σ : Nat → Nat} {n0 : Nat} {bf : ab_B} : decode (ab_code (zx σ n0 bf).1 8048) 5 = .ok (.getfield 90, 3) := zd zm_8048 (by decide +kernel)
theorem d_8048_8 {σ : Nat → Nat} {n0 : Nat} {bf : ab_B} : decode (ab_code (zx σ n0 bf).1 8048) 8 = .ok (.iload_n 1, 1) := zd zm_8048 (by decide +kernel)
theorem d_8048_9 {σ : Nat → Nat} {n0 : Nat} {bf : ab_B} : decode (ab_code (zx σ n0 bf).1 8048) 9 = .ok (.baload, 1) := zd zm_8048 (by decide +kernel)
theorem d_8048_10 {σ : Nat → Nat} {n0 : Nat} {bf : ab_B} : decode (ab_code (zx σ n0 bf).1 8048) 10 = .ok (.bipush 10, 2) := zd zm_8048 (by decide +kernel)
theorem d_8048_12 {σ : Nat → Nat} {n0 : Nat} {bf : ab_B} : decode (ab_code (zx σ n0 bf).1 8048) 12 = .ok (.if_icmp .eq 14, 3) := zd zm_8048 (by decide +kernel)
theorem d_8048_15 {σ : Nat → Nat} {n0 : Nat} {bf : ab_B} : decode (ab_code (zx σ n0 bf).1 8048) 15 = .ok (.aload_n 0, 1) := zd zm_8048 (by decide +kernel)
theorem d_8048_16 {σ : Nat → Nat} {n0 : Nat} {bf : ab_B} : decode (ab_code (zx σ n0 bf).1 8048) 16 = .ok (.getfield 90, 3) := zd zm_8048 (by decide +kernel)
theorem d_8048_19 {σ : Nat → Nat} {n0 : Nat} {bf : ab_B} : decode (ab_code (zx σ n0 bf).1 8048) 19 = .ok (.iload_n 1, 1) := zd zm_8048 (by decide +kernel)
theorem d_8048_20 {σ : Nat → Nat} {n0 : Nat} {bf : ab_B} : decode (ab_code (zx σ n0 bf).1 8048) 20 = .ok (.baload, 1) := zd zm_8048 (by decide +kernel)
theorem d_8048_21 {σ : Nat → Nat} {n0 : Nat} {bf : ab_B} : decode (ab_code (zx σ n0 bf).1 8048) 21 = .ok (.bipush 12, 2) := zd zm_8048 (by decide +kernel)
theorem d_8048_23 {σ : Nat → Nat} {n0 : Nat} {bf : ab_B} : decode (ab_code (zx σ n0 bf).1 8048) 23 = .ok (.if_icmp .ne 7, 3) := zd zm_8048 (by decide +kernel)
theorem d_8048_26 {σ : Nat → Nat} {n0 : Nat} {bf : ab_B} : decode (ab_code (zx σ n0 bf).1 8048) 26 = .ok (.iconst 1, 1) := zd zm_8048 (by decide +kernel)
theorem d_8048_27 {σ : Nat → Nat} {n0 : Nat} {bf : ab_B} : decode (ab_code (zx σ n0 bf).1 8048) 27 = .ok (.goto 4, 3) := zd zm_8048 (by decide +kernel)
theorem d_8048_30 {σ : Nat → Nat} {n0 : Nat} {bf : ab_B} : decode (ab_code (zx σ n0 bf).1 8048) 30 = .ok (.iconst 0, 1) := zd zm_8048 (by decide +kernel)
theorem d_8048_31 {σ : Nat → Nat} {n0 : Nat} {bf : ab_B} : decode (ab_code (zx σ n0 bf).1 8048) 31 = .ok (.ireturn, 1) := zd zm_8048 (by decide +kernel)
def w_X9_isPointer (X : zs_X) (d : Nat) (p0 : Nat) (p1 : Int32) (S : zs_T) (Q : zs_Q) : Prop :=
  (((p1 ≤ 0 → (Q (.returned (some (.int (0 : Int32)))) S)) ∧ (¬ (p1 ≤ 0) → (zs_K S p0 = some (.inl 8) ∧ ∃ b3, (zs_R S 8044 p0) = some b3 ∧ zs_A S b3 1 p1 ∧ (((zs_i S b3 p1.toNatClampNeg) = (10 : Int32) → (Q (.returned (some (.int (1 : Int32)))) S)) ∧ (¬ ((zs_i S b3 p1.toNatClampNeg) = (10 : Int32)) → (((¬ (zs_i S b3 p1.toNatClampNeg) = (12 : Int32) → (Q (.returned (some (.int (0 : Int32)))) S)) ∧ (¬ (¬ (zs_i S b3 p1.toNatClampNeg) = (12 : Int32)) → (Q (.returned (some (.int (1 : Int32)))) S))))))))))
theorem u_X9_isPointer {σ : Nat → Nat} {n0 : Nat} {bf : ab_B} {d : Nat} {p0 : Nat} {p1 : Int32} {S : zs_T} {Q : zs_Q} (hB : zt_B bf) (hd : 1 ≤ d) (h : w_X9_isPointer (zx σ n0 bf) (d - 1) p0 p1 S Q) : zs_C (zx σ n0 bf) d 8048 [.ref p0, .int p1] S Q := by
  have hL : lv_args 0 [.ref p0, .int p1] = [(0, .ref p0), (1, .int p1)] := rfl
  refine zs_C.of1 (hB.2 8048 (by decide) (by decide)) hd (by rw [hL]; exact zs_sub_self _ (by exact ⟨rfl, rfl, trivial⟩)) ?_
  rw [hL]
  clear hL
  unfold w_X9_isPointer at h
  refine zu_iload_n d_8048_0 rfl ?_
  refine zu_ifle (t := 30) d_8048_1 rfl (fun c1 => ?_) (fun c1 => ?_)
  · have h := h.1 c1
    refine zu_iconst d_8048_30 zi_0 ?_
    exact zu_iret d_8048_31 zr_8048 (zs_b_n (Or.inl rfl)) h
  · have h := h.2 c1
    refine zu_aload_n d_8048_4 rfl (zs_ra _) ?_
    obtain ⟨k2, h⟩ := h
    refine zg_8_90 rfl d_8048_5 k2 ?_
    refine zu_iload_n d_8048_8 rfl ?_
    obtain ⟨b3, e4, h⟩ := h
    refine zs_stk1 (zs_rfe e4) ?_
    obtain ⟨k5, h⟩ := h
    refine zu_bald (k := 1) d_8048_9 rfl (Or.inl rfl) k5 ?_
    refine zu_bipush d_8048_10 zj_10 ?_
    refine zu_cmpeq (t := 26) d_8048_12 rfl (fun c6 => ?_) (fun c6 => ?_)
    · have h := h.1 c6
      refine zu_iconst d_8048_26 zi_1 ?_
      refine zu_goto (t := 31) d_8048_27 rfl ?_
      exact zu_iret d_8048_31 zr_8048 (zs_b_n (Or.inr rfl)) h
    · have h := h.2 c6
      refine zu_aload_n d_8048_15 rfl (zs_ra _) ?_
      refine zg_8_90 rfl d_8048_16 k2 ?_
      refine zu_iload_n d_8048_19 rfl ?_
      refine zs_stk1 (zs_rfe e4) ?_
      refine zu_bald (k := 1) d_8048_20 rfl (Or.inl rfl) k5 ?_
      refine zu_bipush d_8048_21 zj_12 ?_
      refine zu_cmpne (t := 30) d_8048_23 rfl (fun c7 => ?_) (fun c7 => ?_)
      · have h := h.1 c7
        refine zu_iconst d_8048_30 zi_0 ?_
        exact zu_iret d_8048_31 zr_8048 (zs_b_n (Or.inl rfl)) h
      · have h := h.2 c7
        refine zu_iconst d_8048_26 zi_1 ?_
        refine zu_goto (t := 31) d_8048_27 rfl ?_
        exact zu_iret d_8048_31 zr_8048 (zs_b_n (Or.inr rfl)) h
/-! SchemaPascalModel.result(IZI)V -/
theorem zm_8049 {σ : Nat → Nat} {n0 : Nat} {bf : ab_B} : ab_code (zx σ n0 bf).1 8049 = prog_17_method_58_code := rfl
theorem zq_8049 {σ : Nat → Nat} {n0 : Nat} {bf : ab_B} : ab_maxL (zx σ n0 bf).1 8049 = 4 := rfl
theorem zr_8049 {σ : Nat → Nat} {n0 : Nat} {bf : ab_B} : ab_ret (zx σ n0 bf).1 8049 = (Option.none : Option Jvm.ClassFile.FieldType) := rfl
theorem d_8049_0 {σ : Nat → Nat} {n0 : Nat} {bf : ab_B} : decode (ab_code (zx σ n0 bf).1 8049) 0 = .ok (.aload_n 0, 1) := zd zm_8049 (by decide +kernel)
theorem d_8049_1 {σ : Nat → Nat} {n0 : Nat} {bf : ab_B} : decode (ab_code (zx σ n0 bf).1 8049) 1 = .ok (.getfield 191, 3) := zd zm_8049 (by decide +kernel)
theorem d_8049_4 {σ : Nat → Nat} {n0 : Nat} {bf : ab_B} : decode (ab_code (zx σ n0 bf).1 8049) 4 = .ok (.aload_n 0, 1) := zd zm_8049 (by decide +kernel)
theorem d_8049_5 {σ : Nat → Nat} {n0 : Nat} {bf : ab_B} : decode (ab_code (zx σ n0 bf).1 8049) 5 = .ok (.getfield 653, 3) := zd zm_8049 (by decide +kernel)
theorem d_8049_8 {σ : Nat → Nat} {n0 : Nat} {bf : ab_B} : decode (ab_code (zx σ n0 bf).1 8049) 8 = .ok (.iconst 1, 1) := zd zm_8049 (by decide +kernel)
theorem d_8049_9 {σ : Nat → Nat} {n0 : Nat} {bf : ab_B} : decode (ab_code (zx σ n0 bf).1 8049) 9 = .ok (.isub, 1) := zd zm_8049 (by decide +kernel)
theorem d_8049_10 {σ : Nat → Nat} {n0 : Nat} {bf : ab_B} : decode (ab_code (zx σ n0 bf).1 8049) 10 = .ok (.iload_n 1, 1) := zd zm_8049 (by decide +kernel)
theorem d_8049_11 {σ : Nat → Nat} {n0 : Nat} {bf : ab_B} : decode (ab_code (zx σ n0 bf).1 8049) 11 = .ok (.iastore, 1) := zd zm_8049 (by decide +kernel)
theorem d_8049_12 {σ : Nat → Nat} {n0 : Nat} {bf : ab_B} : decode (ab_code (zx σ n0 bf).1 8049) 12 = .ok (.aload_n 0, 1) := zd zm_8049 (by decide +kernel)
theorem d_8049_13 {σ : Nat → Nat} {n0 : Nat} {bf : ab_B} : decode (ab_code (zx σ n0 bf).1 8049) 13 = .ok (.getfield 194, 3) := zd zm_8049 (by decide +kernel)
theorem d_8049_16 {σ : Nat → Nat} {n0 : Nat} {bf : ab_B} : decode (ab_code (zx σ n0 bf).1 8049) 16 = .ok (.aload_n 0, 1) := zd zm_8049 (by decide +kernel)
theorem d_8049_17 {σ : Nat → Nat} {n0 : Nat} {bf : ab_B} : decode (ab_code (zx σ n0 bf).1 8049) 17 = .ok (.getfield 653, 3) := zd zm_8049 (by decide +kernel)
theorem d_8049_20 {σ : Nat → Nat} {n0 : Nat} {bf : ab_B} : decode (ab_code (zx σ n0 bf).1 8049) 20 = .ok (.iconst 1, 1) := zd zm_8049 (by decide +kernel)
theorem d_8049_21 {σ : Nat → Nat} {n0 : Nat} {bf : ab_B} : decode (ab_code (zx σ n0 bf).1 8049) 21 = .ok (.isub, 1) := zd zm_8049 (by decide +kernel)
theorem d_8049_22 {σ : Nat → Nat} {n0 : Nat} {bf : ab_B} : decode (ab_code (zx σ n0 bf).1 8049) 22 = .ok (.iconst 0, 1) := zd zm_8049 (by decide +kernel)
theorem d_8049_23 {σ : Nat → Nat} {n0 : Nat} {bf : ab_B} : decode (ab_code (zx σ n0 bf).1 8049) 23 = .ok (.bastore, 1) := zd zm_8049 (by decide +kernel)
theorem d_8049_24 {σ : Nat → Nat} {n0 : Nat} {bf : ab_B} : decode (ab_code (zx σ n0 bf).1 8049) 24 = .ok (.aload_n 0, 1) := zd zm_8049 (by decide +kernel)
theorem d_8049_25 {σ : Nat → Nat} {n0 : Nat} {bf : ab_B} : decode (ab_code (zx σ n0 bf).1 8049) 25 = .ok (.getfield 197, 3) := zd zm_8049 (by decide +kernel)
theorem d_8049_28 {σ : Nat → Nat} {n0 : Nat} {bf : ab_B} : decode (ab_code (zx σ n0 bf).1 8049) 28 = .ok (.aload_n 0, 1) := zd zm_8049 (by decide +kernel)
theorem d_8049_29 {σ : Nat → Nat} {n0 : Nat} {bf : ab_B} : decode (ab_code (zx σ n0 bf).1 8049) 29 = .ok (.getfield 653, 3) := zd zm_8049 (by decide +kernel)
theorem d_8049_32 {σ : Nat → Nat} {n0 : Nat} {bf : ab_B} : decode (ab_code (zx σ n0 bf).1 8049) 32 = .ok (.iconst 1, 1) := zd zm_8049 (by decide +kernel)
theorem d_8049_33 {σ : Nat → Nat} {n0 : Nat} {bf : ab_B} : decode (ab_code (zx σ n0 bf).1 8049) 33 = .ok (.isub, 1) := zd zm_8049 (by decide +kernel)
theorem d_8049_34 {σ : Nat → Nat} {n0 : Nat} {bf : ab_B} : decode (ab_code (zx σ n0 bf).1 8049) 34 = .ok (.iload_n 2, 1) := zd zm_8049 (by decide +kernel)
theorem d_8049_35 {σ : Nat → Nat} {n0 : Nat} {bf : ab_B} : decode (ab_code (zx σ n0 bf).1 8049) 35 = .ok (.bastore, 1) := zd zm_8049 (by decide +kernel)
theorem d_8049_36 {σ : Nat → Nat} {n0 : Nat} {bf : ab_B} : decode (ab_code (zx σ n0 bf).1 8049) 36 = .ok (.aload_n 0, 1) := zd zm_8049 (by decide +kernel)
theorem d_8049_37 {σ : Nat → Nat} {n0 : Nat} {bf : ab_B} : decode (ab_code (zx σ n0 bf).1 8049) 37 = .ok (.getfield 200, 3) := zd zm_8049 (by decide +kernel)
theorem d_8049_40 {σ : Nat → Nat} {n0 : Nat} {bf : ab_B} : decode (ab_code (zx σ n0 bf).1 8049) 40 = .ok (.aload_n 0, 1) := zd zm_8049 (by decide +kernel)
theorem d_8049_41 {σ : Nat → Nat} {n0 : Nat} {bf : ab_B} : decode (ab_code (zx σ n0 bf).1 8049) 41 = .ok (.getfield 653, 3) := zd zm_8049 (by decide +kernel)
theorem d_8049_44 {σ : Nat → Nat} {n0 : Nat} {bf : ab_B} : decode (ab_code (zx σ n0 bf).1 8049) 44 = .ok (.iconst 1, 1) := zd zm_8049 (by decide +kernel)
theorem d_8049_45 {σ : Nat → Nat} {n0 : Nat} {bf : ab_B} : decode (ab_code (zx σ n0 bf).1 8049) 45 = .ok (.isub, 1) := zd zm_8049 (by decide +kernel)
theorem d_8049_46 {σ : Nat → Nat} {n0 : Nat} {bf : ab_B} : decode (ab_code (zx σ n0 bf).1 8049) 46 = .ok (.aload_n 0, 1) := zd zm_8049 (by decide +kernel)
theorem d_8049_47 {σ : Nat → Nat} {n0 : Nat} {bf : ab_B} : decode (ab_code (zx σ n0 bf).1 8049) 47 = .ok (.getfield 200, 3) := zd zm_8049 (by decide +kernel)
theorem d_8049_50 {σ : Nat → Nat} {n0 : Nat} {bf : ab_B} : decode (ab_code (zx σ n0 bf).1 8049) 50 = .ok (.aload_n 0, 1) := zd zm_8049 (by decide +kernel)
theorem d_8049_51 {σ : Nat → Nat} {n0 : Nat} {bf : ab_B} : decode (ab_code (zx σ n0 bf).1 8049) 51 = .ok (.getfield 653, 3) := zd zm_8049 (by decide +kernel)
theorem d_8049_54 {σ : Nat → Nat} {n0 : Nat} {bf : ab_B} : decode (ab_code (zx σ n0 bf).1 8049) 54 = .ok (.iconst 1, 1) := zd zm_8049 (by decide +kernel)
theorem d_8049_55 {σ : Nat → Nat} {n0 : Nat} {bf : ab_B} : decode (ab_code (zx σ n0 bf).1 8049) 55 = .ok (.isub, 1) := zd zm_8049 (by decide +kernel)
theorem d_8049_56 {σ : Nat → Nat} {n0 : Nat} {bf : ab_B} : decode (ab_code (zx σ n0 bf).1 8049) 56 = .ok (.iaload, 1) := zd zm_8049 (by decide +kernel)
theorem d_8049_57 {σ : Nat → Nat} {n0 : Nat} {bf : ab_B} : decode (ab_code (zx σ n0 bf).1 8049) 57 = .ok (.aload_n 0, 1) := zd zm_8049 (by decide +kernel)
theorem d_8049_58 {σ : Nat → Nat} {n0 : Nat} {bf : ab_B} : decode (ab_code (zx σ n0 bf).1 8049) 58 = .ok (.getfield 200, 3) := zd zm_8049 (by decide +kernel)
theorem d_8049_61 {σ : Nat → Nat} {n0 : Nat} {bf : ab_B} : decode (ab_code (zx σ n0 bf).1 8049) 61 = .ok (.aload_n 0, 1) := zd zm_8049 (by decide +kernel)
theorem d_8049_62 {σ : Nat → Nat} {n0 : Nat} {bf : ab_B} : decode (ab_code (zx σ n0 bf).1 8049) 62 = .ok (.getfield 653, 3) := zd zm_8049 (by decide +kernel)
theorem d_8049_65 {σ : Nat → Nat} {n0 : Nat} {bf : ab_B} : decode (ab_code (zx σ n0 bf).1 8049) 65 = .ok (.iaload, 1) := zd zm_8049 (by decide +kernel)
theorem d_8049_66 {σ : Nat → Nat} {n0 : Nat} {bf : ab_B} : decode (ab_code (zx σ n0 bf).1 8049) 66 = .ok (.ior, 1) := zd zm_8049 (by decide +kernel)
theorem d_8049_67 {σ : Nat → Nat} {n0 : Nat} {bf : ab_B} : decode (ab_code (zx σ n0 bf).1 8049) 67 = .ok (.bipush 16, 2) := zd zm_8049 (by decide +kernel)
theorem d_8049_69 {σ : Nat → Nat} {n0 : Nat} {bf : ab_B} : decode (ab_code (zx σ n0 bf).1 8049) 69 = .ok (.iand, 1) := zd zm_8049 (by decide +kernel)
theorem d_8049_70 {σ : Nat → Nat} {n0 : Nat} {bf : ab_B} : decode (ab_code (zx σ n0 bf).1 8049) 70 = .ok (.bipush 8, 2) := zd zm_8049 (by decide +kernel)
theorem d_8049_72 {σ : Nat → Nat} {n0 : Nat} {bf : ab_B} : decode (ab_code (zx σ n0 bf).1 8049) 72 = .ok (.ior, 1) := zd zm_8049 (by decide +kernel)
theorem d_8049_73 {σ : Nat → Nat} {n0 : Nat} {bf : ab_B} : decode (ab_code (zx σ n0 bf).1 8049) 73 = .ok (.iastore, 1) := zd zm_8049 (by decide +kernel)
theorem d_8049_74 {σ : Nat → Nat} {n0 : Nat} {bf : ab_B} : decode (ab_code (zx σ n0 bf).1 8049) 74 = .ok (.aload_n 0, 1) := zd zm_8049 (by decide +kernel)
theorem d_8049_75 {σ : Nat → Nat} {n0 : Nat} {bf : ab_B} : decode (ab_code (zx σ n0 bf).1 8049) 75 = .ok (.getfield 206, 3) := zd zm_8049 (by decide +kernel)
theorem d_8049_78 {σ : Nat → Nat} {n0 : Nat} {bf : ab_B} : decode (ab_code (zx σ n0 bf).1 8049) 78 = .ok (.aload_n 0, 1) := zd zm_8049 (by decide +kernel)
theorem d_8049_79 {σ : Nat → Nat} {n0 : Nat} {bf : ab_B} : decode (ab_code (zx σ n0 bf).1 8049) 79 = .ok (.getfield 653, 3) := zd zm_8049 (by decide +kernel)
theorem d_8049_82 {σ : Nat → Nat} {n0 : Nat} {bf : ab_B} : decode (ab_code (zx σ n0 bf).1 8049) 82 = .ok (.iconst 1, 1) := zd zm_8049 (by decide +kernel)
theorem d_8049_83 {σ : Nat → Nat} {n0 : Nat} {bf : ab_B} : decode (ab_code (zx σ n0 bf).1 8049) 83 = .ok (.isub, 1) := zd zm_8049 (by decide +kernel)
theorem d_8049_84 {σ : Nat → Nat} {n0 : Nat} {bf : ab_B} : decode (ab_code (zx σ n0 bf).1 8049) 84 = .ok (.iload_n 3, 1) := zd zm_8049 (by decide +kernel)
theorem d_8049_85 {σ : Nat → Nat} {n0 : Nat} {bf : ab_B} : decode (ab_code (zx σ n0 bf).1 8049) 85 = .ok (.iastore, 1) := zd zm_8049 (by decide +kernel)
theorem d_8049_86 {σ : Nat → Nat} {n0 : Nat} {bf : ab_B} : decode (ab_code (zx σ n0 bf).1 8049) 86 = .ok (.return_, 1) := zd zm_8049 (by decide +kernel)
def w_X9_result_74 (X : zs_X) (d : Nat) (p0 : Nat) (p3 : Int32) (S : zs_T) (Q : zs_Q) : Prop :=
  (zs_K S p0 = some (.inl 8) ∧ ∃ b2, (zs_R S 8096 p0) = some b2 ∧ zs_A S b2 0 ((zs_I S 8097 p0) - (1 : Int32)) ∧ ab_n0 X.1 ≤ b2 ∧ ∀ S6, S6 = zs_si S b2 ((zs_I S 8097 p0) - (1 : Int32)).toNatClampNeg p3 → Q (.returned none) S6)
theorem u_X9_result_74 {σ : Nat → Nat} {n0 : Nat} {bf : ab_B} {d : Nat} {p0 : Nat} {p3 : Int32} {S : zs_T} {Q : zs_Q} (hB : zt_B bf) (h : w_X9_result_74 (zx σ n0 bf) d p0 p3 S Q) : zs_U (zx σ n0 bf) d 8049 74 [(0, .ref p0), (3, .int p3)] [] S Q := by
  unfold w_X9_result_74 at h
  refine zu_aload_n d_8049_74 rfl (zs_ra _) ?_
  obtain ⟨k1, h⟩ := h
  refine zg_8_206 rfl d_8049_75 k1 ?_
  refine zu_aload_n d_8049_78 rfl (zs_ra _) ?_
  refine zg_8_653 rfl d_8049_79 k1 ?_
  refine zu_iconst d_8049_82 zi_1 ?_
  refine zu_stk d_8049_83 rfl rfl ?_
  refine zu_iload_n d_8049_84 rfl ?_
  obtain ⟨b2, e3, h⟩ := h
  refine zs_stk2 (zs_rfe e3) ?_
  obtain ⟨k4, h⟩ := h
  obtain ⟨k5, h⟩ := h
  refine zu_iast (k := 0) d_8049_85 rfl rfl k5 k4 ?_
  generalize e7 : zs_si S b2 ((zs_I S 8097 p0) - (1 : Int32)).toNatClampNeg p3 = S6
  have h := h S6 e7.symm
  have K8 : ∀ b, zs_K S6 b = zs_K S b := zs_Kt e7 (zs_Ksi _ _ _ _) (fun _ => rfl)
  exact zu_vret d_8049_86 zr_8049 h
def w_X9_result_24 (X : zs_X) (d : Nat) (p0 : Nat) (p2 : Int32) (p3 : Int32) (S : zs_T) (Q : zs_Q) : Prop :=
  (zs_K S p0 = some (.inl 8) ∧ ∃ b2, (zs_R S 8093 p0) = some b2 ∧ zs_A S b2 2 ((zs_I S 8097 p0) - (1 : Int32)) ∧ ab_n0 X.1 ≤ b2 ∧ ∀ S6, S6 = zs_si S b2 ((zs_I S 8097 p0) - (1 : Int32)).toNatClampNeg (vp_nar .boolean p2) → ∃ b9, (zs_R S6 8094 p0) = some b9 ∧ zs_A S b9 0 ((zs_I S6 8097 p0) - (1 : Int32)) ∧ zs_A S b9 0 (zs_I S6 8097 p0) ∧ ab_n0 X.1 ≤ b9 ∧ ∀ S14, S14 = zs_si S6 b9 ((zs_I S6 8097 p0) - (1 : Int32)).toNatClampNeg ((((zs_i S6 b9 ((zs_I S6 8097 p0) - (1 : Int32)).toNatClampNeg) ||| (zs_i S6 b9 (zs_I S6 8097 p0).toNatClampNeg)) &&& (16 : Int32)) ||| (8 : Int32)) → w_X9_result_74 X d p0 p3 S14 Q)
theorem u_X9_result_24 {σ : Nat → Nat} {n0 : Nat} {bf : ab_B} {d : Nat} {p0 : Nat} {p2 : Int32} {p3 : Int32} {S : zs_T} {Q : zs_Q} (hB : zt_B bf) (h : w_X9_result_24 (zx σ n0 bf) d p0 p2 p3 S Q) : zs_U (zx σ n0 bf) d 8049 24 [(0, .ref p0), (2, .int p2), (3, .int p3)] [] S Q := by
  unfold w_X9_result_24 at h
  refine zu_aload_n d_8049_24 rfl (zs_ra _) ?_
  obtain ⟨k1, h⟩ := h
  refine zg_8_197 rfl d_8049_25 k1 ?_
  refine zu_aload_n d_8049_28 rfl (zs_ra _) ?_
  refine zg_8_653 rfl d_8049_29 k1 ?_
  refine zu_iconst d_8049_32 zi_1 ?_
  refine zu_stk d_8049_33 rfl rfl ?_
  refine zu_iload_n d_8049_34 rfl ?_
  obtain ⟨b2, e3, h⟩ := h
  refine zs_stk2 (zs_rfe e3) ?_
  obtain ⟨k4, h⟩ := h
  obtain ⟨k5, h⟩ := h
  refine zu_bast_bool (k := 2) d_8049_35 rfl rfl k5 k4 ?_
  generalize e7 : zs_si S b2 ((zs_I S 8097 p0) - (1 : Int32)).toNatClampNeg (vp_nar .boolean p2) = S6
  have h := h S6 e7.symm
  have K8 : ∀ b, zs_K S6 b = zs_K S b := zs_Kt e7 (zs_Ksi _ _ _ _) (fun _ => rfl)
  refine zu_aload_n d_8049_36 rfl (zs_ra _) ?_
  refine zg_8_200 rfl d_8049_37 ((K8 _).trans k1) ?_
  refine zu_aload_n d_8049_40 rfl (zs_ra _) ?_
  refine zg_8_653 rfl d_8049_41 ((K8 _).trans k1) ?_
  refine zu_iconst d_8049_44 zi_1 ?_
  refine zu_stk d_8049_45 rfl rfl ?_
  refine zu_aload_n d_8049_46 rfl (zs_ra _) ?_
  refine zg_8_200 rfl d_8049_47 ((K8 _).trans k1) ?_
  refine zu_aload_n d_8049_50 rfl (zs_ra _) ?_
  refine zg_8_653 rfl d_8049_51 ((K8 _).trans k1) ?_
  refine zu_iconst d_8049_54 zi_1 ?_
  refine zu_stk d_8049_55 rfl rfl ?_
  obtain ⟨b9, e10, h⟩ := h
  refine zs_stk1 (zs_rfe e10) ?_
  obtain ⟨k11, h⟩ := h
  refine zu_iald (k := 0) d_8049_56 rfl rfl (zs_Ak K8 k11) ?_
  refine zu_aload_n d_8049_57 rfl (zs_ra _) ?_
  refine zg_8_200 rfl d_8049_58 ((K8 _).trans k1) ?_
  refine zu_aload_n d_8049_61 rfl (zs_ra _) ?_
  refine zg_8_653 rfl d_8049_62 ((K8 _).trans k1) ?_
  refine zs_stk1 (zs_rfe e10) ?_
  obtain ⟨k12, h⟩ := h
  refine zu_iald (k := 0) d_8049_65 rfl rfl (zs_Ak K8 k12) ?_
  refine zu_stk d_8049_66 rfl rfl ?_
  refine zu_bipush d_8049_67 zj_16 ?_
  refine zu_stk d_8049_69 rfl rfl ?_
  refine zu_bipush d_8049_70 zj_8 ?_
  refine zu_stk d_8049_72 rfl rfl ?_
  refine zs_stk2 (zs_rfe e10) ?_
  obtain ⟨k13, h⟩ := h
  refine zu_iast (k := 0) d_8049_73 rfl rfl k13 (zs_Ak K8 k11) ?_
  generalize e15 : zs_si S6 b9 ((zs_I S6 8097 p0) - (1 : Int32)).toNatClampNeg ((((zs_i S6 b9 ((zs_I S6 8097 p0) - (1 : Int32)).toNatClampNeg) ||| (zs_i S6 b9 (zs_I S6 8097 p0).toNatClampNeg)) &&& (16 : Int32)) ||| (8 : Int32)) = S14
  have h := h S14 e15.symm
  have K16 : ∀ b, zs_K S14 b = zs_K S b := zs_Kt e15 (zs_Ksi _ _ _ _) K8
  exact (u_X9_result_74 hB h).weak ⟨rfl, rfl, trivial⟩
def w_X9_result (X : zs_X) (d : Nat) (p0 : Nat) (p1 : Int32) (p2 : Int32) (p3 : Int32) (S : zs_T) (Q : zs_Q) : Prop :=
  (zs_K S p0 = some (.inl 8) ∧ ∃ b2, (zs_R S 8091 p0) = some b2 ∧ zs_A S b2 0 ((zs_I S 8097 p0) - (1 : Int32)) ∧ ab_n0 X.1 ≤ b2 ∧ ∀ S6, S6 = zs_si S b2 ((zs_I S 8097 p0) - (1 : Int32)).toNatClampNeg p1 → ∃ b9, (zs_R S6 8092 p0) = some b9 ∧ zs_A S b9 2 ((zs_I S6 8097 p0) - (1 : Int32)) ∧ ab_n0 X.1 ≤ b9 ∧ ∀ S13, S13 = zs_si S6 b9 ((zs_I S6 8097 p0) - (1 : Int32)).toNatClampNeg (vp_nar .boolean (0 : Int32)) → w_X9_result_24 X d p0 p2 p3 S13 Q)
theorem u_X9_result {σ : Nat → Nat} {n0 : Nat} {bf : ab_B} {d : Nat} {p0 : Nat} {p1 : Int32} {p2 : Int32} {p3 : Int32} {S : zs_T} {Q : zs_Q} (hB : zt_B bf) (hd : 1 ≤ d) (h : w_X9_result (zx σ n0 bf) (d - 1) p0 p1 p2 p3 S Q) : zs_C (zx σ n0 bf) d 8049 [.ref p0, .int p1, .int p2, .int p3] S Q := by
  have hL : lv_args 0 [.ref p0, .int p1, .int p2, .int p3] = [(0, .ref p0), (1, .int p1), (2, .int p2), (3, .int p3)] := rfl
  refine zs_C.of1 (hB.2 8049 (by decide) (by decide)) hd (by rw [hL]; exact zs_sub_self _ (by exact ⟨rfl, rfl, rfl, rfl, trivial⟩)) ?_
  rw [hL]
  clear hL
  unfold w_X9_result at h
  refine zu_aload_n d_8049_0 rfl (zs_ra _) ?_
  obtain ⟨k1, h⟩ := h
  refine zg_8_191 rfl d_8049_1 k1 ?_
  refine zu_aload_n d_8049_4 rfl (zs_ra _) ?_
  refine zg_8_653 rfl d_8049_5 k1 ?_
  refine zu_iconst d_8049_8 zi_1 ?_
  refine zu_stk d_8049_9 rfl rfl ?_
  refine zu_iload_n d_8049_10 rfl ?_
  obtain ⟨b2, e3, h⟩ := h
  refine zs_stk2 (zs_rfe e3) ?_
  obtain ⟨k4, h⟩ := h
  obtain ⟨k5, h⟩ := h
  refine zu_iast (k := 0) d_8049_11 rfl rfl k5 k4 ?_
  generalize e7 : zs_si S b2 ((zs_I S 8097 p0) - (1 : Int32)).toNatClampNeg p1 = S6
  have h := h S6 e7.symm
  have K8 : ∀ b, zs_K S6 b = zs_K S b := zs_Kt e7 (zs_Ksi _ _ _ _) (fun _ => rfl)
  refine zu_aload_n d_8049_12 rfl (zs_ra _) ?_
  refine zg_8_194 rfl d_8049_13 ((K8 _).trans k1) ?_
  refine zu_aload_n d_8049_16 rfl (zs_ra _) ?_
  refine zg_8_653 rfl d_8049_17 ((K8 _).trans k1) ?_
  refine zu_iconst d_8049_20 zi_1 ?_
  refine zu_stk d_8049_21 rfl rfl ?_
  refine zu_iconst d_8049_22 zi_0 ?_
  obtain ⟨b9, e10, h⟩ := h
  refine zs_stk2 (zs_rfe e10) ?_
  obtain ⟨k11, h⟩ := h
  obtain ⟨k12, h⟩ := h
  refine zu_bast_bool (k := 2) d_8049_23 rfl rfl k12 (zs_Ak K8 k11) ?_
  generalize e14 : zs_si S6 b9 ((zs_I S6 8097 p0) - (1 : Int32)).toNatClampNeg (vp_nar .boolean (0 : Int32)) = S13
  have h := h S13 e14.symm
  have K15 : ∀ b, zs_K S13 b = zs_K S b := zs_Kt e14 (zs_Ksi _ _ _ _) K8
  exact (u_X9_result_24 hB h).weak ⟨rfl, rfl, rfl, trivial⟩
/-! SchemaPascalModel.signed(II)V -/
theorem zm_8050 {σ : Nat → Nat} {n0 : Nat} {bf : ab_B} : ab_code (zx σ n0 bf).1 8050 = prog_17_method_60_code := rfl
theorem zq_8050 {σ : Nat → Nat} {n0 : Nat} {bf : ab_B} : ab_maxL (zx σ n0 bf).1 8050 = 4 := rfl
theorem zr_8050 {σ : Nat → Nat} {n0 : Nat} {bf : ab_B} : ab_ret (zx σ n0 bf).1 8050 = (Option.none : Option Jvm.ClassFile.FieldType) := rfl
theorem d_8050_0 {σ : Nat → Nat} {n0 : Nat} {bf : ab_B} : decode (ab_code (zx σ n0 bf).1 8050) 0 = .ok (.aload_n 0, 1) := zd zm_8050 (by decide +kernel)
theorem d_8050_1 {σ : Nat → Nat} {n0 : Nat} {bf : ab_B} : decode (ab_code (zx σ n0 bf).1 8050) 1 = .ok (.invokevirtual 660, 3) := zd zm_8050 (by decide +kernel)
theorem d_8050_4 {σ : Nat → Nat} {n0 : Nat} {bf : ab_B} : decode (ab_code (zx σ n0 bf).1 8050) 4 = .ok (.aload_n 0, 1) := zd zm_8050 (by decide +kernel)
theorem d_8050_5 {σ : Nat → Nat} {n0 : Nat} {bf : ab_B} : decode (ab_code (zx σ n0 bf).1 8050) 5 = .ok (.getfield 444, 3) := zd zm_8050 (by decide +kernel)
theorem d_8050_8 {σ : Nat → Nat} {n0 : Nat} {bf : ab_B} : decode (ab_code (zx σ n0 bf).1 8050) 8 = .ok (.ifCond .le 4, 3) := zd zm_8050 (by decide +kernel)
theorem d_8050_11 {σ : Nat → Nat} {n0 : Nat} {bf : ab_B} : decode (ab_code (zx σ n0 bf).1 8050) 11 = .ok (.return_, 1) := zd zm_8050 (by decide +kernel)
theorem d_8050_12 {σ : Nat → Nat} {n0 : Nat} {bf : ab_B} : decode (ab_code (zx σ n0 bf).1 8050) 12 = .ok (.aload_n 0, 1) := zd zm_8050 (by decide +kernel)
theorem d_8050_13 {σ : Nat → Nat} {n0 : Nat} {bf : ab_B} : decode (ab_code (zx σ n0 bf).1 8050) 13 = .ok (.aload_n 0, 1) := zd zm_8050 (by decide +kernel)
theorem d_8050_14 {σ : Nat → Nat} {n0 : Nat} {bf : ab_B} : decode (ab_code (zx σ n0 bf).1 8050) 14 = .ok (.getfield 191, 3) := zd zm_8050 (by decide +kernel)
theorem d_8050_17 {σ : Nat → Nat} {n0 : Nat} {bf : ab_B} : decode (ab_code (zx σ n0 bf).1 8050) 17 = .ok (.aload_n 0, 1) := zd zm_8050 (by decide +kernel)
theorem d_8050_18 {σ : Nat → Nat} {n0 : Nat} {bf : ab_B} : decode (ab_code (zx σ n0 bf).1 8050) 18 = .ok (.getfield 653, 3) := zd zm_8050 (by decide +kernel)
theorem d_8050_21 {σ : Nat → Nat} {n0 : Nat} {bf : ab_B} : decode (ab_code (zx σ n0 bf).1 8050) 21 = .ok (.iconst 1, 1) := zd zm_8050 (by decide +kernel)
theorem d_8050_22 {σ : Nat → Nat} {n0 : Nat} {bf : ab_B} : decode (ab_code (zx σ n0 bf).1 8050) 22 = .ok (.isub, 1) := zd zm_8050 (by decide +kernel)
theorem d_8050_23 {σ : Nat → Nat} {n0 : Nat} {bf : ab_B} : decode (ab_code (zx σ n0 bf).1 8050) 23 = .ok (.iaload, 1) := zd zm_8050 (by decide +kernel)
theorem d_8050_24 {σ : Nat → Nat} {n0 : Nat} {bf : ab_B} : decode (ab_code (zx σ n0 bf).1 8050) 24 = .ok (.invokevirtual 693, 3) := zd zm_8050 (by decide +kernel)
theorem d_8050_27 {σ : Nat → Nat} {n0 : Nat} {bf : ab_B} : decode (ab_code (zx σ n0 bf).1 8050) 27 = .ok (.ifCond .ne 8, 3) := zd zm_8050 (by decide +kernel)
theorem d_8050_30 {σ : Nat → Nat} {n0 : Nat} {bf : ab_B} : decode (ab_code (zx σ n0 bf).1 8050) 30 = .ok (.aload_n 0, 1) := zd zm_8050 (by decide +kernel)
theorem d_8050_31 {σ : Nat → Nat} {n0 : Nat} {bf : ab_B} : decode (ab_code (zx σ n0 bf).1 8050) 31 = .ok (.iconst 5, 1) := zd zm_8050 (by decide +kernel)
theorem d_8050_32 {σ : Nat → Nat} {n0 : Nat} {bf : ab_B} : decode (ab_code (zx σ n0 bf).1 8050) 32 = .ok (.invokevirtual 541, 3) := zd zm_8050 (by decide +kernel)
theorem d_8050_35 {σ : Nat → Nat} {n0 : Nat} {bf : ab_B} : decode (ab_code (zx σ n0 bf).1 8050) 35 = .ok (.iload_n 1, 1) := zd zm_8050 (by decide +kernel)
theorem d_8050_36 {σ : Nat → Nat} {n0 : Nat} {bf : ab_B} : decode (ab_code (zx σ n0 bf).1 8050) 36 = .ok (.iconst 2, 1) := zd zm_8050 (by decide +kernel)
theorem d_8050_37 {σ : Nat → Nat} {n0 : Nat} {bf : ab_B} : decode (ab_code (zx σ n0 bf).1 8050) 37 = .ok (.if_icmp .ne 13, 3) := zd zm_8050 (by decide +kernel)
theorem d_8050_40 {σ : Nat → Nat} {n0 : Nat} {bf : ab_B} : decode (ab_code (zx σ n0 bf).1 8050) 40 = .ok (.aload_n 0, 1) := zd zm_8050 (by decide +kernel)
theorem d_8050_41 {σ : Nat → Nat} {n0 : Nat} {bf : ab_B} : decode (ab_code (zx σ n0 bf).1 8050) 41 = .ok (.bipush 31, 2) := zd zm_8050 (by decide +kernel)
theorem d_8050_43 {σ : Nat → Nat} {n0 : Nat} {bf : ab_B} : decode (ab_code (zx σ n0 bf).1 8050) 43 = .ok (.iconst 0, 1) := zd zm_8050 (by decide +kernel)
theorem d_8050_44 {σ : Nat → Nat} {n0 : Nat} {bf : ab_B} : decode (ab_code (zx σ n0 bf).1 8050) 44 = .ok (.iconst 0, 1) := zd zm_8050 (by decide +kernel)
theorem d_8050_45 {σ : Nat → Nat} {n0 : Nat} {bf : ab_B} : decode (ab_code (zx σ n0 bf).1 8050) 45 = .ok (.iload_n 2, 1) := zd zm_8050 (by decide +kernel)
theorem d_8050_46 {σ : Nat → Nat} {n0 : Nat} {bf : ab_B} : decode (ab_code (zx σ n0 bf).1 8050) 46 = .ok (.invokevirtual 656, 3) := zd zm_8050 (by decide +kernel)
theorem d_8050_49 {σ : Nat → Nat} {n0 : Nat} {bf : ab_B} : decode (ab_code (zx σ n0 bf).1 8050) 49 = .ok (.istore_n 3, 1) := zd zm_8050 (by decide +kernel)
theorem d_8050_50 {σ : Nat → Nat} {n0 : Nat} {bf : ab_B} : decode (ab_code (zx σ n0 bf).1 8050) 50 = .ok (.aload_n 0, 1) := zd zm_8050 (by decide +kernel)
theorem d_8050_51 {σ : Nat → Nat} {n0 : Nat} {bf : ab_B} : decode (ab_code (zx σ n0 bf).1 8050) 51 = .ok (.getfield 191, 3) := zd zm_8050 (by decide +kernel)
theorem d_8050_54 {σ : Nat → Nat} {n0 : Nat} {bf : ab_B} : decode (ab_code (zx σ n0 bf).1 8050) 54 = .ok (.aload_n 0, 1) := zd zm_8050 (by decide +kernel)
theorem d_8050_55 {σ : Nat → Nat} {n0 : Nat} {bf : ab_B} : decode (ab_code (zx σ n0 bf).1 8050) 55 = .ok (.getfield 653, 3) := zd zm_8050 (by decide +kernel)
theorem d_8050_58 {σ : Nat → Nat} {n0 : Nat} {bf : ab_B} : decode (ab_code (zx σ n0 bf).1 8050) 58 = .ok (.iconst 1, 1) := zd zm_8050 (by decide +kernel)
theorem d_8050_59 {σ : Nat → Nat} {n0 : Nat} {bf : ab_B} : decode (ab_code (zx σ n0 bf).1 8050) 59 = .ok (.isub, 1) := zd zm_8050 (by decide +kernel)
theorem d_8050_60 {σ : Nat → Nat} {n0 : Nat} {bf : ab_B} : decode (ab_code (zx σ n0 bf).1 8050) 60 = .ok (.iconst 1, 1) := zd zm_8050 (by decide +kernel)
theorem d_8050_61 {σ : Nat → Nat} {n0 : Nat} {bf : ab_B} : decode (ab_code (zx σ n0 bf).1 8050) 61 = .ok (.iastore, 1) := zd zm_8050 (by decide +kernel)
theorem d_8050_62 {σ : Nat → Nat} {n0 : Nat} {bf : ab_B} : decode (ab_code (zx σ n0 bf).1 8050) 62 = .ok (.aload_n 0, 1) := zd zm_8050 (by decide +kernel)
theorem d_8050_63 {σ : Nat → Nat} {n0 : Nat} {bf : ab_B} : decode (ab_code (zx σ n0 bf).1 8050) 63 = .ok (.getfield 200, 3) := zd zm_8050 (by decide +kernel)
theorem d_8050_66 {σ : Nat → Nat} {n0 : Nat} {bf : ab_B} : decode (ab_code (zx σ n0 bf).1 8050) 66 = .ok (.aload_n 0, 1) := zd zm_8050 (by decide +kernel)
theorem d_8050_67 {σ : Nat → Nat} {n0 : Nat} {bf : ab_B} : decode (ab_code (zx σ n0 bf).1 8050) 67 = .ok (.getfield 653, 3) := zd zm_8050 (by decide +kernel)
theorem d_8050_70 {σ : Nat → Nat} {n0 : Nat} {bf : ab_B} : decode (ab_code (zx σ n0 bf).1 8050) 70 = .ok (.iconst 1, 1) := zd zm_8050 (by decide +kernel)
theorem d_8050_71 {σ : Nat → Nat} {n0 : Nat} {bf : ab_B} : decode (ab_code (zx σ n0 bf).1 8050) 71 = .ok (.isub, 1) := zd zm_8050 (by decide +kernel)
theorem d_8050_72 {σ : Nat → Nat} {n0 : Nat} {bf : ab_B} : decode (ab_code (zx σ n0 bf).1 8050) 72 = .ok (.aload_n 0, 1) := zd zm_8050 (by decide +kernel)
theorem d_8050_73 {σ : Nat → Nat} {n0 : Nat} {bf : ab_B} : decode (ab_code (zx σ n0 bf).1 8050) 73 = .ok (.getfield 200, 3) := zd zm_8050 (by decide +kernel)
theorem d_8050_76 {σ : Nat → Nat} {n0 : Nat} {bf : ab_B} : decode (ab_code (zx σ n0 bf).1 8050) 76 = .ok (.aload_n 0, 1) := zd zm_8050 (by decide +kernel)
theorem d_8050_77 {σ : Nat → Nat} {n0 : Nat} {bf : ab_B} : decode (ab_code (zx σ n0 bf).1 8050) 77 = .ok (.getfield 653, 3) := zd zm_8050 (by decide +kernel)
theorem d_8050_80 {σ : Nat → Nat} {n0 : Nat} {bf : ab_B} : decode (ab_code (zx σ n0 bf).1 8050) 80 = .ok (.iconst 1, 1) := zd zm_8050 (by decide +kernel)
theorem d_8050_81 {σ : Nat → Nat} {n0 : Nat} {bf : ab_B} : decode (ab_code (zx σ n0 bf).1 8050) 81 = .ok (.isub, 1) := zd zm_8050 (by decide +kernel)
theorem d_8050_82 {σ : Nat → Nat} {n0 : Nat} {bf : ab_B} : decode (ab_code (zx σ n0 bf).1 8050) 82 = .ok (.iaload, 1) := zd zm_8050 (by decide +kernel)
theorem d_8050_83 {σ : Nat → Nat} {n0 : Nat} {bf : ab_B} : decode (ab_code (zx σ n0 bf).1 8050) 83 = .ok (.bipush 16, 2) := zd zm_8050 (by decide +kernel)
theorem d_8050_85 {σ : Nat → Nat} {n0 : Nat} {bf : ab_B} : decode (ab_code (zx σ n0 bf).1 8050) 85 = .ok (.iand, 1) := zd zm_8050 (by decide +kernel)
theorem d_8050_86 {σ : Nat → Nat} {n0 : Nat} {bf : ab_B} : decode (ab_code (zx σ n0 bf).1 8050) 86 = .ok (.bipush 8, 2) := zd zm_8050 (by decide +kernel)
theorem d_8050_88 {σ : Nat → Nat} {n0 : Nat} {bf : ab_B} : decode (ab_code (zx σ n0 bf).1 8050) 88 = .ok (.ior, 1) := zd zm_8050 (by decide +kernel)
theorem d_8050_89 {σ : Nat → Nat} {n0 : Nat} {bf : ab_B} : decode (ab_code (zx σ n0 bf).1 8050) 89 = .ok (.iastore, 1) := zd zm_8050 (by decide +kernel)
theorem d_8050_90 {σ : Nat → Nat} {n0 : Nat} {bf : ab_B} : decode (ab_code (zx σ n0 bf).1 8050) 90 = .ok (.aload_n 0, 1) := zd zm_8050 (by decide +kernel)
theorem d_8050_91 {σ : Nat → Nat} {n0 : Nat} {bf : ab_B} : decode (ab_code (zx σ n0 bf).1 8050) 91 = .ok (.getfield 206, 3) := zd zm_8050 (by decide +kernel)
theorem d_8050_94 {σ : Nat → Nat} {n0 : Nat} {bf : ab_B} : decode (ab_code (zx σ n0 bf).1 8050) 94 = .ok (.aload_n 0, 1) := zd zm_8050 (by decide +kernel)
theorem d_8050_95 {σ : Nat → Nat} {n0 : Nat} {bf : ab_B} : decode (ab_code (zx σ n0 bf).1 8050) 95 = .ok (.getfield 653, 3) := zd zm_8050 (by decide +kernel)
theorem d_8050_98 {σ : Nat → Nat} {n0 : Nat} {bf : ab_B} : decode (ab_code (zx σ n0 bf).1 8050) 98 = .ok (.iconst 1, 1) := zd zm_8050 (by decide +kernel)
theorem d_8050_99 {σ : Nat → Nat} {n0 : Nat} {bf : ab_B} : decode (ab_code (zx σ n0 bf).1 8050) 99 = .ok (.isub, 1) := zd zm_8050 (by decide +kernel)
theorem d_8050_100 {σ : Nat → Nat} {n0 : Nat} {bf : ab_B} : decode (ab_code (zx σ n0 bf).1 8050) 100 = .ok (.iload_n 2, 1) := zd zm_8050 (by decide +kernel)
theorem d_8050_101 {σ : Nat → Nat} {n0 : Nat} {bf : ab_B} : decode (ab_code (zx σ n0 bf).1 8050) 101 = .ok (.iastore, 1) := zd zm_8050 (by decide +kernel)
theorem d_8050_102 {σ : Nat → Nat} {n0 : Nat} {bf : ab_B} : decode (ab_code (zx σ n0 bf).1 8050) 102 = .ok (.return_, 1) := zd zm_8050 (by decide +kernel)
def w_X9_signed_90 (X : zs_X) (d : Nat) (p0 : Nat) (p2 : Int32) (S : zs_T) (Q : zs_Q) : Prop :=
  (zs_K S p0 = some (.inl 8) ∧ ∃ b2, (zs_R S 8096 p0) = some b2 ∧ zs_A S b2 0 ((zs_I S 8097 p0) - (1 : Int32)) ∧ ab_n0 X.1 ≤ b2 ∧ ∀ S6, S6 = zs_si S b2 ((zs_I S 8097 p0) - (1 : Int32)).toNatClampNeg p2 → Q (.returned none) S6)
theorem u_X9_signed_90 {σ : Nat → Nat} {n0 : Nat} {bf : ab_B} {d : Nat} {p0 : Nat} {p2 : Int32} {S : zs_T} {Q : zs_Q} (hB : zt_B bf) (h : w_X9_signed_90 (zx σ n0 bf) d p0 p2 S Q) : zs_U (zx σ n0 bf) d 8050 90 [(0, .ref p0), (2, .int p2)] [] S Q := by
  unfold w_X9_signed_90 at h
  refine zu_aload_n d_8050_90 rfl (zs_ra _) ?_
  obtain ⟨k1, h⟩ := h
  refine zg_8_206 rfl d_8050_91 k1 ?_
  refine zu_aload_n d_8050_94 rfl (zs_ra _) ?_
  refine zg_8_653 rfl d_8050_95 k1 ?_
  refine zu_iconst d_8050_98 zi_1 ?_
  refine zu_stk d_8050_99 rfl rfl ?_
  refine zu_iload_n d_8050_100 rfl ?_
  obtain ⟨b2, e3, h⟩ := h
  refine zs_stk2 (zs_rfe e3) ?_
  obtain ⟨k4, h⟩ := h
  obtain ⟨k5, h⟩ := h
  refine zu_iast (k := 0) d_8050_101 rfl rfl k5 k4 ?_
  generalize e7 : zs_si S b2 ((zs_I S 8097 p0) - (1 : Int32)).toNatClampNeg p2 = S6
  have h := h S6 e7.symm
  have K8 : ∀ b, zs_K S6 b = zs_K S b := zs_Kt e7 (zs_Ksi _ _ _ _) (fun _ => rfl)
  exact zu_vret d_8050_102 zr_8050 h
def w_X9_signed_50 (X : zs_X) (d : Nat) (p0 : Nat) (p2 : Int32) (S : zs_T) (Q : zs_Q) : Prop :=
  (zs_K S p0 = some (.inl 8) ∧ ∃ b2, (zs_R S 8091 p0) = some b2 ∧ zs_A S b2 0 ((zs_I S 8097 p0) - (1 : Int32)) ∧ ab_n0 X.1 ≤ b2 ∧ ∀ S6, S6 = zs_si S b2 ((zs_I S 8097 p0) - (1 : Int32)).toNatClampNeg (1 : Int32) → ∃ b9, (zs_R S6 8094 p0) = some b9 ∧ zs_A S b9 0 ((zs_I S6 8097 p0) - (1 : Int32)) ∧ ab_n0 X.1 ≤ b9 ∧ ∀ S13, S13 = zs_si S6 b9 ((zs_I S6 8097 p0) - (1 : Int32)).toNatClampNeg (((zs_i S6 b9 ((zs_I S6 8097 p0) - (1 : Int32)).toNatClampNeg) &&& (16 : Int32)) ||| (8 : Int32)) → w_X9_signed_90 X d p0 p2 S13 Q)
theorem u_X9_signed_50 {σ : Nat → Nat} {n0 : Nat} {bf : ab_B} {d : Nat} {p0 : Nat} {p2 : Int32} {S : zs_T} {Q : zs_Q} (hB : zt_B bf) (h : w_X9_signed_50 (zx σ n0 bf) d p0 p2 S Q) : zs_U (zx σ n0 bf) d 8050 50 [(0, .ref p0), (2, .int p2)] [] S Q := by
  unfold w_X9_signed_50 at h
  refine zu_aload_n d_8050_50 rfl (zs_ra _) ?_
  obtain ⟨k1, h⟩ := h
  refine zg_8_191 rfl d_8050_51 k1 ?_
  refine zu_aload_n d_8050_54 rfl (zs_ra _) ?_
  refine zg_8_653 rfl d_8050_55 k1 ?_
  refine zu_iconst d_8050_58 zi_1 ?_
  refine zu_stk d_8050_59 rfl rfl ?_
  refine zu_iconst d_8050_60 zi_1 ?_
  obtain ⟨b2, e3, h⟩ := h
  refine zs_stk2 (zs_rfe e3) ?_
  obtain ⟨k4, h⟩ := h
  obtain ⟨k5, h⟩ := h
  refine zu_iast (k := 0) d_8050_61 rfl rfl k5 k4 ?_
  generalize e7 : zs_si S b2 ((zs_I S 8097 p0) - (1 : Int32)).toNatClampNeg (1 : Int32) = S6
  have h := h S6 e7.symm
  have K8 : ∀ b, zs_K S6 b = zs_K S b := zs_Kt e7 (zs_Ksi _ _ _ _) (fun _ => rfl)
  refine zu_aload_n d_8050_62 rfl (zs_ra _) ?_
  refine zg_8_200 rfl d_8050_63 ((K8 _).trans k1) ?_
  refine zu_aload_n d_8050_66 rfl (zs_ra _) ?_
  refine zg_8_653 rfl d_8050_67 ((K8 _).trans k1) ?_
  refine zu_iconst d_8050_70 zi_1 ?_
  refine zu_stk d_8050_71 rfl rfl ?_
  refine zu_aload_n d_8050_72 rfl (zs_ra _) ?_
  refine zg_8_200 rfl d_8050_73 ((K8 _).trans k1) ?_
  refine zu_aload_n d_8050_76 rfl (zs_ra _) ?_
  refine zg_8_653 rfl d_8050_77 ((K8 _).trans k1) ?_
  refine zu_iconst d_8050_80 zi_1 ?_
  refine zu_stk d_8050_81 rfl rfl ?_
  obtain ⟨b9, e10, h⟩ := h
  refine zs_stk1 (zs_rfe e10) ?_
  obtain ⟨k11, h⟩ := h
  refine zu_iald (k := 0) d_8050_82 rfl rfl (zs_Ak K8 k11) ?_
  refine zu_bipush d_8050_83 zj_16 ?_
  refine zu_stk d_8050_85 rfl rfl ?_
  refine zu_bipush d_8050_86 zj_8 ?_
  refine zu_stk d_8050_88 rfl rfl ?_
  refine zs_stk2 (zs_rfe e10) ?_
  obtain ⟨k12, h⟩ := h
  refine zu_iast (k := 0) d_8050_89 rfl rfl k12 (zs_Ak K8 k11) ?_
  generalize e14 : zs_si S6 b9 ((zs_I S6 8097 p0) - (1 : Int32)).toNatClampNeg (((zs_i S6 b9 ((zs_I S6 8097 p0) - (1 : Int32)).toNatClampNeg) &&& (16 : Int32)) ||| (8 : Int32)) = S13
  have h := h S13 e14.symm
  have K15 : ∀ b, zs_K S13 b = zs_K S b := zs_Kt e14 (zs_Ksi _ _ _ _) K8
  exact (u_X9_signed_90 hB h).weak ⟨rfl, rfl, trivial⟩
def w_X9_signed_35 (X : zs_X) (d : Nat) (p0 : Nat) (p1 : Int32) (p2 : Int32) (S : zs_T) (Q : zs_Q) : Prop :=
  (((¬ p1 = (2 : Int32) → w_X9_signed_50 X d p0 p2 S Q) ∧ (¬ (¬ p1 = (2 : Int32)) → (zs_K S p0 = some (.inl 8) ∧ zs_C X d 8012 [.ref p0, .int (31 : Int32), .int (0 : Int32), .int (0 : Int32), .int p2] S (zs_kI (fun v4 S3 => (w_X9_signed_50 X d p0 p2 S3 Q)) Q)))))
theorem u_X9_signed_35 {σ : Nat → Nat} {n0 : Nat} {bf : ab_B} {d : Nat} {p0 : Nat} {p1 : Int32} {p2 : Int32} {S : zs_T} {Q : zs_Q} (hB : zt_B bf) (h : w_X9_signed_35 (zx σ n0 bf) d p0 p1 p2 S Q) : zs_U (zx σ n0 bf) d 8050 35 [(0, .ref p0), (1, .int p1), (2, .int p2)] [] S Q := by
  unfold w_X9_signed_35 at h
  refine zu_iload_n d_8050_35 rfl ?_
  refine zu_iconst d_8050_36 zi_2 ?_
  refine zu_cmpne (t := 50) d_8050_37 rfl (fun c1 => ?_) (fun c1 => ?_)
  · have h := h.1 c1
    exact (u_X9_signed_50 hB h).weak ⟨rfl, rfl, trivial⟩
  · have h := h.2 c1
    refine zu_aload_n d_8050_40 rfl (zs_ra _) ?_
    refine zu_bipush d_8050_41 zj_31 ?_
    refine zu_iconst d_8050_43 zi_0 ?_
    refine zu_iconst d_8050_44 zi_0 ?_
    refine zu_iload_n d_8050_45 rfl ?_
    obtain ⟨k2, h⟩ := h
    refine zc_8_656 (x0 := (31 : Int32)) (x1 := (0 : Int32)) (x2 := (0 : Int32)) (x3 := p2) hB rfl k2 d_8050_46 (Nat.le_of_ble_eq_true rfl) h (fun v4 S3 h => ?_)
    refine zu_istore_n d_8050_49 (zs_lt zq_8050 rfl) ?_
    exact (u_X9_signed_50 hB h).weak ⟨rfl, rfl, trivial⟩
def w_X9_signed (X : zs_X) (d : Nat) (p0 : Nat) (p1 : Int32) (p2 : Int32) (S : zs_T) (Q : zs_Q) : Prop :=
  (zs_K S p0 = some (.inl 8) ∧ zs_C X d 8037 [.ref p0] S (zs_kV (fun S2 => (zs_K S2 p0 = some (.inl 8) ∧ (((zs_I S2 8010 p0) ≤ 0 → (∃ b6, (zs_R S2 8091 p0) = some b6 ∧ zs_A S2 b6 0 ((zs_I S2 8097 p0) - (1 : Int32)) ∧ zs_C X d 8051 [.ref p0, .int (zs_i S2 b6 ((zs_I S2 8097 p0) - (1 : Int32)).toNatClampNeg)] S2 (zs_kI (fun v10 S9 => (((¬ v10 = 0 → w_X9_signed_35 X d p0 p1 p2 S9 Q) ∧ (¬ (¬ v10 = 0) → (zs_K S9 p0 = some (.inl 8) ∧ zs_C X d 8027 [.ref p0, .int (5 : Int32)] S9 (zs_kV (fun S13 => w_X9_signed_35 X d p0 p1 p2 S13 Q) Q)))))) Q))) ∧ (¬ ((zs_I S2 8010 p0) ≤ 0) → (Q (.returned none) S2))))) Q))
theorem u_X9_signed {σ : Nat → Nat} {n0 : Nat} {bf : ab_B} {d : Nat} {p0 : Nat} {p1 : Int32} {p2 : Int32} {S : zs_T} {Q : zs_Q} (hB : zt_B bf) (hd : 1 ≤ d) (h : w_X9_signed (zx σ n0 bf) (d - 1) p0 p1 p2 S Q) : zs_C (zx σ n0 bf) d 8050 [.ref p0, .int p1, .int p2] S Q := by
  have hL : lv_args 0 [.ref p0, .int p1, .int p2] = [(0, .ref p0), (1, .int p1), (2, .int p2)] := rfl
  refine zs_C.of1 (hB.2 8050 (by decide) (by decide)) hd (by rw [hL]; exact zs_sub_self _ (by exact ⟨rfl, rfl, rfl, trivial⟩)) ?_
  rw [hL]
  clear hL
  unfold w_X9_signed at h
  refine zu_aload_n d_8050_0 rfl (zs_ra _) ?_
  obtain ⟨k1, h⟩ := h
  refine zc_8_660  hB rfl k1 d_8050_1 (Nat.le_of_ble_eq_true rfl) h (fun S2 h => ?_)
  refine zu_aload_n d_8050_4 rfl (zs_ra _) ?_
  obtain ⟨k4, h⟩ := h
  refine zg_8_444 rfl d_8050_5 k4 ?_
  refine zu_ifle (t := 12) d_8050_8 rfl (fun c5 => ?_) (fun c5 => ?_)
  · have h := h.1 c5
    refine zu_aload_n d_8050_12 rfl (zs_ra _) ?_
    refine zu_aload_n d_8050_13 rfl (zs_ra _) ?_
    refine zg_8_191 rfl d_8050_14 k4 ?_
    refine zu_aload_n d_8050_17 rfl (zs_ra _) ?_
    refine zg_8_653 rfl d_8050_18 k4 ?_
    refine zu_iconst d_8050_21 zi_1 ?_
    refine zu_stk d_8050_22 rfl rfl ?_
    obtain ⟨b6, e7, h⟩ := h
    refine zs_stk1 (zs_rfe e7) ?_
    obtain ⟨k8, h⟩ := h
    refine zu_iald (k := 0) d_8050_23 rfl rfl k8 ?_
    refine zc_8_693 (x0 := (zs_i S2 b6 ((zs_I S2 8097 p0) - (1 : Int32)).toNatClampNeg)) hB rfl k4 d_8050_24 (Nat.le_of_ble_eq_true rfl) h (fun v10 S9 h => ?_)
    refine zu_ifne (t := 35) d_8050_27 rfl (fun c11 => ?_) (fun c11 => ?_)
    · have h := h.1 c11
      exact (u_X9_signed_35 hB h).weak ⟨rfl, rfl, rfl, trivial⟩
    · have h := h.2 c11
      refine zu_aload_n d_8050_30 rfl (zs_ra _) ?_
      refine zu_iconst d_8050_31 zi_5 ?_
      obtain ⟨k12, h⟩ := h
      refine zc_8_541 (x0 := (5 : Int32)) hB rfl k12 d_8050_32 (Nat.le_of_ble_eq_true rfl) h (fun S13 h => ?_)
      exact (u_X9_signed_35 hB h).weak ⟨rfl, rfl, rfl, trivial⟩
  · have h := h.2 c5
    exact zu_vret d_8050_11 zr_8050 h
/-! SchemaPascalModel.isInteger(I)Z -/
theorem zm_8051 {σ : Nat → Nat} {n0 : Nat} {bf : ab_B} : ab_code (zx σ n0 bf).1 8051 = prog_17_method_33_code := rfl
theorem zq_8051 {σ : Nat → Nat} {n0 : Nat} {bf : ab_B} : ab_maxL (zx σ n0 bf).1 8051 = 2 := rfl
theorem zr_8051 {σ : Nat → Nat} {n0 : Nat} {bf : ab_B} : ab_ret (zx σ n0 bf).1 8051 = (Option.some Jvm.ClassFile.FieldType.boolean) := rfl
theorem d_8051_0 {σ : Nat → Nat} {n0 : Nat} {bf : ab_B} : decode (ab_code (zx σ n0 bf).1 8051) 0 = .ok (.aload_n 0, 1) := zd zm_8051 (by decide +kernel)
theorem d_8051_1 {σ : Nat → Nat} {n0 : Nat} {bf : ab_B} : decode (ab_code (zx σ n0 bf).1 8051) 1 = .ok (.iload_n 1, 1) := zd zm_8051 (by decide +kernel)
theorem d_8051_2 {σ : Nat → Nat} {n0 : Nat} {bf : ab_B} : decode (ab_code (zx σ n0 bf).1 8051) 2 = .ok (.invokevirtual 564, 3) := zd zm_8051 (by decide +kernel)
theorem d_8051_5 {σ : Nat → Nat} {n0 : Nat} {bf : ab_B} : decode (ab_code (zx σ n0 bf).1 8051) 5 = .ok (.ifCond .eq 16, 3) := zd zm_8051 (by decide +kernel)
theorem d_8051_8 {σ : Nat → Nat} {n0 : Nat} {bf : ab_B} : decode (ab_code (zx σ n0 bf).1 8051) 8 = .ok (.aload_n 0, 1) := zd zm_8051 (by decide +kernel)
theorem d_8051_9 {σ : Nat → Nat} {n0 : Nat} {bf : ab_B} : decode (ab_code (zx σ n0 bf).1 8051) 9 = .ok (.iload_n 1, 1) := zd zm_8051 (by decide +kernel)
theorem d_8051_10 {σ : Nat → Nat} {n0 : Nat} {bf : ab_B} : decode (ab_code (zx σ n0 bf).1 8051) 10 = .ok (.invokevirtual 561, 3) := zd zm_8051 (by decide +kernel)
theorem d_8051_13 {σ : Nat → Nat} {n0 : Nat} {bf : ab_B} : decode (ab_code (zx σ n0 bf).1 8051) 13 = .ok (.iconst 1, 1) := zd zm_8051 (by decide +kernel)
theorem d_8051_14 {σ : Nat → Nat} {n0 : Nat} {bf : ab_B} : decode (ab_code (zx σ n0 bf).1 8051) 14 = .ok (.if_icmp .ne 7, 3) := zd zm_8051 (by decide +kernel)
theorem d_8051_17 {σ : Nat → Nat} {n0 : Nat} {bf : ab_B} : decode (ab_code (zx σ n0 bf).1 8051) 17 = .ok (.iconst 1, 1) := zd zm_8051 (by decide +kernel)
theorem d_8051_18 {σ : Nat → Nat} {n0 : Nat} {bf : ab_B} : decode (ab_code (zx σ n0 bf).1 8051) 18 = .ok (.goto 4, 3) := zd zm_8051 (by decide +kernel)
theorem d_8051_21 {σ : Nat → Nat} {n0 : Nat} {bf : ab_B} : decode (ab_code (zx σ n0 bf).1 8051) 21 = .ok (.iconst 0, 1) := zd zm_8051 (by decide +kernel)
theorem d_8051_22 {σ : Nat → Nat} {n0 : Nat} {bf : ab_B} : decode (ab_code (zx σ n0 bf).1 8051) 22 = .ok (.ireturn, 1) := zd zm_8051 (by decide +kernel)
def w_X9_isInteger (X : zs_X) (d : Nat) (p0 : Nat) (p1 : Int32) (S : zs_T) (Q : zs_Q) : Prop :=
  (zs_K S p0 = some (.inl 8) ∧ zs_C X d 8036 [.ref p0, .int p1] S (zs_kI (fun v3 S2 => (((v3 = 0 → (Q (.returned (some (.int (0 : Int32)))) S2)) ∧ (¬ (v3 = 0) → (zs_K S2 p0 = some (.inl 8) ∧ zs_C X d 8042 [.ref p0, .int p1] S2 (zs_kI (fun v7 S6 => (((¬ v7 = (1 : Int32) → (Q (.returned (some (.int (0 : Int32)))) S6)) ∧ (¬ (¬ v7 = (1 : Int32)) → (Q (.returned (some (.int (1 : Int32)))) S6))))) Q)))))) Q))
theorem u_X9_isInteger {σ : Nat → Nat} {n0 : Nat} {bf : ab_B} {d : Nat} {p0 : Nat} {p1 : Int32} {S : zs_T} {Q : zs_Q} (hB : zt_B bf) (hd : 1 ≤ d) (h : w_X9_isInteger (zx σ n0 bf) (d - 1) p0 p1 S Q) : zs_C (zx σ n0 bf) d 8051 [.ref p0, .int p1] S Q := by
  have hL : lv_args 0 [.ref p0, .int p1] = [(0, .ref p0), (1, .int p1)] := rfl
  refine zs_C.of1 (hB.2 8051 (by decide) (by decide)) hd (by rw [hL]; exact zs_sub_self _ (by exact ⟨rfl, rfl, trivial⟩)) ?_
  rw [hL]
  clear hL
  unfold w_X9_isInteger at h
  refine zu_aload_n d_8051_0 rfl (zs_ra _) ?_
  refine zu_iload_n d_8051_1 rfl ?_
  obtain ⟨k1, h⟩ := h
  refine zc_8_564 (x0 := p1) hB rfl k1 d_8051_2 (Nat.le_of_ble_eq_true rfl) h (fun v3 S2 h => ?_)
  refine zu_ifeq (t := 21) d_8051_5 rfl (fun c4 => ?_) (fun c4 => ?_)
  · have h := h.1 c4
    refine zu_iconst d_8051_21 zi_0 ?_
    exact zu_iret d_8051_22 zr_8051 (zs_b_n (Or.inl rfl)) h
  · have h := h.2 c4
    refine zu_aload_n d_8051_8 rfl (zs_ra _) ?_
    refine zu_iload_n d_8051_9 rfl ?_
    obtain ⟨k5, h⟩ := h
    refine zc_8_561 (x0 := p1) hB rfl k5 d_8051_10 (Nat.le_of_ble_eq_true rfl) h (fun v7 S6 h => ?_)
    refine zu_iconst d_8051_13 zi_1 ?_
    refine zu_cmpne (t := 21) d_8051_14 rfl (fun c8 => ?_) (fun c8 => ?_)
    · have h := h.1 c8
      refine zu_iconst d_8051_21 zi_0 ?_
      exact zu_iret d_8051_22 zr_8051 (zs_b_n (Or.inl rfl)) h
    · have h := h.2 c8
      refine zu_iconst d_8051_17 zi_1 ?_
      refine zu_goto (t := 22) d_8051_18 rfl ?_
      exact zu_iret d_8051_22 zr_8051 (zs_b_n (Or.inr rfl)) h
/-! SchemaPascalModel.adds()V -/
theorem zm_8052 {σ : Nat → Nat} {n0 : Nat} {bf : ab_B} : ab_code (zx σ n0 bf).1 8052 = prog_17_method_61_code := rfl
theorem zq_8052 {σ : Nat → Nat} {n0 : Nat} {bf : ab_B} : ab_maxL (zx σ n0 bf).1 8052 = 4 := rfl
theorem zr_8052 {σ : Nat → Nat} {n0 : Nat} {bf : ab_B} : ab_ret (zx σ n0 bf).1 8052 = (Option.none : Option Jvm.ClassFile.FieldType) := rfl
theorem d_8052_0 {σ : Nat → Nat} {n0 : Nat} {bf : ab_B} : decode (ab_code (zx σ n0 bf).1 8052) 0 = .ok (.aload_n 0, 1) := zd zm_8052 (by decide +kernel)
theorem d_8052_1 {σ : Nat → Nat} {n0 : Nat} {bf : ab_B} : decode (ab_code (zx σ n0 bf).1 8052) 1 = .ok (.iconst 1, 1) := zd zm_8052 (by decide +kernel)
theorem d_8052_2 {σ : Nat → Nat} {n0 : Nat} {bf : ab_B} : decode (ab_code (zx σ n0 bf).1 8052) 2 = .ok (.invokevirtual 535, 3) := zd zm_8052 (by decide +kernel)
theorem d_8052_5 {σ : Nat → Nat} {n0 : Nat} {bf : ab_B} : decode (ab_code (zx σ n0 bf).1 8052) 5 = .ok (.ifCond .eq 7, 3) := zd zm_8052 (by decide +kernel)
theorem d_8052_8 {σ : Nat → Nat} {n0 : Nat} {bf : ab_B} : decode (ab_code (zx σ n0 bf).1 8052) 8 = .ok (.iconst 3, 1) := zd zm_8052 (by decide +kernel)
theorem d_8052_9 {σ : Nat → Nat} {n0 : Nat} {bf : ab_B} : decode (ab_code (zx σ n0 bf).1 8052) 9 = .ok (.goto 30, 3) := zd zm_8052 (by decide +kernel)
theorem d_8052_12 {σ : Nat → Nat} {n0 : Nat} {bf : ab_B} : decode (ab_code (zx σ n0 bf).1 8052) 12 = .ok (.aload_n 0, 1) := zd zm_8052 (by decide +kernel)
theorem d_8052_13 {σ : Nat → Nat} {n0 : Nat} {bf : ab_B} : decode (ab_code (zx σ n0 bf).1 8052) 13 = .ok (.iconst 2, 1) := zd zm_8052 (by decide +kernel)
theorem d_8052_14 {σ : Nat → Nat} {n0 : Nat} {bf : ab_B} : decode (ab_code (zx σ n0 bf).1 8052) 14 = .ok (.invokevirtual 535, 3) := zd zm_8052 (by decide +kernel)
theorem d_8052_17 {σ : Nat → Nat} {n0 : Nat} {bf : ab_B} : decode (ab_code (zx σ n0 bf).1 8052) 17 = .ok (.ifCond .eq 7, 3) := zd zm_8052 (by decide +kernel)
theorem d_8052_20 {σ : Nat → Nat} {n0 : Nat} {bf : ab_B} : decode (ab_code (zx σ n0 bf).1 8052) 20 = .ok (.iconst 4, 1) := zd zm_8052 (by decide +kernel)
theorem d_8052_21 {σ : Nat → Nat} {n0 : Nat} {bf : ab_B} : decode (ab_code (zx σ n0 bf).1 8052) 21 = .ok (.goto 18, 3) := zd zm_8052 (by decide +kernel)
theorem d_8052_24 {σ : Nat → Nat} {n0 : Nat} {bf : ab_B} : decode (ab_code (zx σ n0 bf).1 8052) 24 = .ok (.aload_n 0, 1) := zd zm_8052 (by decide +kernel)
theorem d_8052_25 {σ : Nat → Nat} {n0 : Nat} {bf : ab_B} : decode (ab_code (zx σ n0 bf).1 8052) 25 = .ok (.bipush 32, 2) := zd zm_8052 (by decide +kernel)
theorem d_8052_27 {σ : Nat → Nat} {n0 : Nat} {bf : ab_B} : decode (ab_code (zx σ n0 bf).1 8052) 27 = .ok (.invokevirtual 544, 3) := zd zm_8052 (by decide +kernel)
theorem d_8052_30 {σ : Nat → Nat} {n0 : Nat} {bf : ab_B} : decode (ab_code (zx σ n0 bf).1 8052) 30 = .ok (.ifCond .eq 8, 3) := zd zm_8052 (by decide +kernel)
theorem d_8052_33 {σ : Nat → Nat} {n0 : Nat} {bf : ab_B} : decode (ab_code (zx σ n0 bf).1 8052) 33 = .ok (.bipush 9, 2) := zd zm_8052 (by decide +kernel)
theorem d_8052_35 {σ : Nat → Nat} {n0 : Nat} {bf : ab_B} : decode (ab_code (zx σ n0 bf).1 8052) 35 = .ok (.goto 4, 3) := zd zm_8052 (by decide +kernel)
theorem d_8052_38 {σ : Nat → Nat} {n0 : Nat} {bf : ab_B} : decode (ab_code (zx σ n0 bf).1 8052) 38 = .ok (.iconst 0, 1) := zd zm_8052 (by decide +kernel)
theorem d_8052_39 {σ : Nat → Nat} {n0 : Nat} {bf : ab_B} : decode (ab_code (zx σ n0 bf).1 8052) 39 = .ok (.istore_n 1, 1) := zd zm_8052 (by decide +kernel)
theorem d_8052_40 {σ : Nat → Nat} {n0 : Nat} {bf : ab_B} : decode (ab_code (zx σ n0 bf).1 8052) 40 = .ok (.iload_n 1, 1) := zd zm_8052 (by decide +kernel)
theorem d_8052_41 {σ : Nat → Nat} {n0 : Nat} {bf : ab_B} : decode (ab_code (zx σ n0 bf).1 8052) 41 = .ok (.ifCond .ne 4, 3) := zd zm_8052 (by decide +kernel)
theorem d_8052_44 {σ : Nat → Nat} {n0 : Nat} {bf : ab_B} : decode (ab_code (zx σ n0 bf).1 8052) 44 = .ok (.return_, 1) := zd zm_8052 (by decide +kernel)
theorem d_8052_45 {σ : Nat → Nat} {n0 : Nat} {bf : ab_B} : decode (ab_code (zx σ n0 bf).1 8052) 45 = .ok (.aload_n 0, 1) := zd zm_8052 (by decide +kernel)
theorem d_8052_46 {σ : Nat → Nat} {n0 : Nat} {bf : ab_B} : decode (ab_code (zx σ n0 bf).1 8052) 46 = .ok (.invokevirtual 667, 3) := zd zm_8052 (by decide +kernel)
theorem d_8052_49 {σ : Nat → Nat} {n0 : Nat} {bf : ab_B} : decode (ab_code (zx σ n0 bf).1 8052) 49 = .ok (.aload_n 0, 1) := zd zm_8052 (by decide +kernel)
theorem d_8052_50 {σ : Nat → Nat} {n0 : Nat} {bf : ab_B} : decode (ab_code (zx σ n0 bf).1 8052) 50 = .ok (.getfield 191, 3) := zd zm_8052 (by decide +kernel)
theorem d_8052_53 {σ : Nat → Nat} {n0 : Nat} {bf : ab_B} : decode (ab_code (zx σ n0 bf).1 8052) 53 = .ok (.aload_n 0, 1) := zd zm_8052 (by decide +kernel)
theorem d_8052_54 {σ : Nat → Nat} {n0 : Nat} {bf : ab_B} : decode (ab_code (zx σ n0 bf).1 8052) 54 = .ok (.getfield 653, 3) := zd zm_8052 (by decide +kernel)
theorem d_8052_57 {σ : Nat → Nat} {n0 : Nat} {bf : ab_B} : decode (ab_code (zx σ n0 bf).1 8052) 57 = .ok (.iconst 1, 1) := zd zm_8052 (by decide +kernel)
theorem d_8052_58 {σ : Nat → Nat} {n0 : Nat} {bf : ab_B} : decode (ab_code (zx σ n0 bf).1 8052) 58 = .ok (.isub, 1) := zd zm_8052 (by decide +kernel)
theorem d_8052_59 {σ : Nat → Nat} {n0 : Nat} {bf : ab_B} : decode (ab_code (zx σ n0 bf).1 8052) 59 = .ok (.iaload, 1) := zd zm_8052 (by decide +kernel)
theorem d_8052_60 {σ : Nat → Nat} {n0 : Nat} {bf : ab_B} : decode (ab_code (zx σ n0 bf).1 8052) 60 = .ok (.istore_n 2, 1) := zd zm_8052 (by decide +kernel)
theorem d_8052_61 {σ : Nat → Nat} {n0 : Nat} {bf : ab_B} : decode (ab_code (zx σ n0 bf).1 8052) 61 = .ok (.iload_n 1, 1) := zd zm_8052 (by decide +kernel)
theorem d_8052_62 {σ : Nat → Nat} {n0 : Nat} {bf : ab_B} : decode (ab_code (zx σ n0 bf).1 8052) 62 = .ok (.iconst 3, 1) := zd zm_8052 (by decide +kernel)
theorem d_8052_63 {σ : Nat → Nat} {n0 : Nat} {bf : ab_B} : decode (ab_code (zx σ n0 bf).1 8052) 63 = .ok (.if_icmp .ne 39, 3) := zd zm_8052 (by decide +kernel)
theorem d_8052_66 {σ : Nat → Nat} {n0 : Nat} {bf : ab_B} : decode (ab_code (zx σ n0 bf).1 8052) 66 = .ok (.aload_n 0, 1) := zd zm_8052 (by decide +kernel)
theorem d_8052_67 {σ : Nat → Nat} {n0 : Nat} {bf : ab_B} : decode (ab_code (zx σ n0 bf).1 8052) 67 = .ok (.iload_n 2, 1) := zd zm_8052 (by decide +kernel)
theorem d_8052_68 {σ : Nat → Nat} {n0 : Nat} {bf : ab_B} : decode (ab_code (zx σ n0 bf).1 8052) 68 = .ok (.invokevirtual 673, 3) := zd zm_8052 (by decide +kernel)
theorem d_8052_71 {σ : Nat → Nat} {n0 : Nat} {bf : ab_B} : decode (ab_code (zx σ n0 bf).1 8052) 71 = .ok (.ifCond .eq 31, 3) := zd zm_8052 (by decide +kernel)
theorem d_8052_74 {σ : Nat → Nat} {n0 : Nat} {bf : ab_B} : decode (ab_code (zx σ n0 bf).1 8052) 74 = .ok (.aload_n 0, 1) := zd zm_8052 (by decide +kernel)
theorem d_8052_75 {σ : Nat → Nat} {n0 : Nat} {bf : ab_B} : decode (ab_code (zx σ n0 bf).1 8052) 75 = .ok (.iload_n 2, 1) := zd zm_8052 (by decide +kernel)
theorem d_8052_76 {σ : Nat → Nat} {n0 : Nat} {bf : ab_B} : decode (ab_code (zx σ n0 bf).1 8052) 76 = .ok (.invokevirtual 676, 3) := zd zm_8052 (by decide +kernel)
theorem d_8052_79 {σ : Nat → Nat} {n0 : Nat} {bf : ab_B} : decode (ab_code (zx σ n0 bf).1 8052) 79 = .ok (.ifCond .ne 23, 3) := zd zm_8052 (by decide +kernel)
theorem d_8052_82 {σ : Nat → Nat} {n0 : Nat} {bf : ab_B} : decode (ab_code (zx σ n0 bf).1 8052) 82 = .ok (.aload_n 0, 1) := zd zm_8052 (by decide +kernel)
theorem d_8052_83 {σ : Nat → Nat} {n0 : Nat} {bf : ab_B} : decode (ab_code (zx σ n0 bf).1 8052) 83 = .ok (.bipush 10, 2) := zd zm_8052 (by decide +kernel)
theorem d_8052_85 {σ : Nat → Nat} {n0 : Nat} {bf : ab_B} : decode (ab_code (zx σ n0 bf).1 8052) 85 = .ok (.iconst 0, 1) := zd zm_8052 (by decide +kernel)
theorem d_8052_86 {σ : Nat → Nat} {n0 : Nat} {bf : ab_B} : decode (ab_code (zx σ n0 bf).1 8052) 86 = .ok (.iconst 0, 1) := zd zm_8052 (by decide +kernel)
theorem d_8052_87 {σ : Nat → Nat} {n0 : Nat} {bf : ab_B} : decode (ab_code (zx σ n0 bf).1 8052) 87 = .ok (.aload_n 0, 1) := zd zm_8052 (by decide +kernel)
theorem d_8052_88 {σ : Nat → Nat} {n0 : Nat} {bf : ab_B} : decode (ab_code (zx σ n0 bf).1 8052) 88 = .ok (.getfield 206, 3) := zd zm_8052 (by decide +kernel)
theorem d_8052_91 {σ : Nat → Nat} {n0 : Nat} {bf : ab_B} : decode (ab_code (zx σ n0 bf).1 8052) 91 = .ok (.aload_n 0, 1) := zd zm_8052 (by decide +kernel)
theorem d_8052_92 {σ : Nat → Nat} {n0 : Nat} {bf : ab_B} : decode (ab_code (zx σ n0 bf).1 8052) 92 = .ok (.getfield 653, 3) := zd zm_8052 (by decide +kernel)
theorem d_8052_95 {σ : Nat → Nat} {n0 : Nat} {bf : ab_B} : decode (ab_code (zx σ n0 bf).1 8052) 95 = .ok (.iconst 1, 1) := zd zm_8052 (by decide +kernel)
theorem d_8052_96 {σ : Nat → Nat} {n0 : Nat} {bf : ab_B} : decode (ab_code (zx σ n0 bf).1 8052) 96 = .ok (.isub, 1) := zd zm_8052 (by decide +kernel)
theorem d_8052_97 {σ : Nat → Nat} {n0 : Nat} {bf : ab_B} : decode (ab_code (zx σ n0 bf).1 8052) 97 = .ok (.iaload, 1) := zd zm_8052 (by decide +kernel)
theorem d_8052_98 {σ : Nat → Nat} {n0 : Nat} {bf : ab_B} : decode (ab_code (zx σ n0 bf).1 8052) 98 = .ok (.invokevirtual 656, 3) := zd zm_8052 (by decide +kernel)
theorem d_8052_101 {σ : Nat → Nat} {n0 : Nat} {bf : ab_B} : decode (ab_code (zx σ n0 bf).1 8052) 101 = .ok (.istore_n 3, 1) := zd zm_8052 (by decide +kernel)
theorem d_8052_102 {σ : Nat → Nat} {n0 : Nat} {bf : ab_B} : decode (ab_code (zx σ n0 bf).1 8052) 102 = .ok (.aload_n 0, 1) := zd zm_8052 (by decide +kernel)
theorem d_8052_103 {σ : Nat → Nat} {n0 : Nat} {bf : ab_B} : decode (ab_code (zx σ n0 bf).1 8052) 103 = .ok (.bipush 7, 2) := zd zm_8052 (by decide +kernel)
theorem d_8052_105 {σ : Nat → Nat} {n0 : Nat} {bf : ab_B} : decode (ab_code (zx σ n0 bf).1 8052) 105 = .ok (.iconst 0, 1) := zd zm_8052 (by decide +kernel)
theorem d_8052_106 {σ : Nat → Nat} {n0 : Nat} {bf : ab_B} : decode (ab_code (zx σ n0 bf).1 8052) 106 = .ok (.iconst 0, 1) := zd zm_8052 (by decide +kernel)
theorem d_8052_107 {σ : Nat → Nat} {n0 : Nat} {bf : ab_B} : decode (ab_code (zx σ n0 bf).1 8052) 107 = .ok (.iconst 0, 1) := zd zm_8052 (by decide +kernel)
theorem d_8052_108 {σ : Nat → Nat} {n0 : Nat} {bf : ab_B} : decode (ab_code (zx σ n0 bf).1 8052) 108 = .ok (.invokevirtual 649, 3) := zd zm_8052 (by decide +kernel)
theorem d_8052_111 {σ : Nat → Nat} {n0 : Nat} {bf : ab_B} : decode (ab_code (zx σ n0 bf).1 8052) 111 = .ok (.aload_n 0, 1) := zd zm_8052 (by decide +kernel)
theorem d_8052_112 {σ : Nat → Nat} {n0 : Nat} {bf : ab_B} : decode (ab_code (zx σ n0 bf).1 8052) 112 = .ok (.bipush 8, 2) := zd zm_8052 (by decide +kernel)
theorem d_8052_114 {σ : Nat → Nat} {n0 : Nat} {bf : ab_B} : decode (ab_code (zx σ n0 bf).1 8052) 114 = .ok (.iload_n 1, 1) := zd zm_8052 (by decide +kernel)
theorem d_8052_115 {σ : Nat → Nat} {n0 : Nat} {bf : ab_B} : decode (ab_code (zx σ n0 bf).1 8052) 115 = .ok (.aload_n 0, 1) := zd zm_8052 (by decide +kernel)
theorem d_8052_116 {σ : Nat → Nat} {n0 : Nat} {bf : ab_B} : decode (ab_code (zx σ n0 bf).1 8052) 116 = .ok (.getfield 450, 3) := zd zm_8052 (by decide +kernel)
theorem d_8052_119 {σ : Nat → Nat} {n0 : Nat} {bf : ab_B} : decode (ab_code (zx σ n0 bf).1 8052) 119 = .ok (.iconst 0, 1) := zd zm_8052 (by decide +kernel)
theorem d_8052_120 {σ : Nat → Nat} {n0 : Nat} {bf : ab_B} : decode (ab_code (zx σ n0 bf).1 8052) 120 = .ok (.invokevirtual 649, 3) := zd zm_8052 (by decide +kernel)
theorem d_8052_123 {σ : Nat → Nat} {n0 : Nat} {bf : ab_B} : decode (ab_code (zx σ n0 bf).1 8052) 123 = .ok (.aload_n 0, 1) := zd zm_8052 (by decide +kernel)
theorem d_8052_124 {σ : Nat → Nat} {n0 : Nat} {bf : ab_B} : decode (ab_code (zx σ n0 bf).1 8052) 124 = .ok (.bipush 9, 2) := zd zm_8052 (by decide +kernel)
theorem d_8052_126 {σ : Nat → Nat} {n0 : Nat} {bf : ab_B} : decode (ab_code (zx σ n0 bf).1 8052) 126 = .ok (.iconst 0, 1) := zd zm_8052 (by decide +kernel)
theorem d_8052_127 {σ : Nat → Nat} {n0 : Nat} {bf : ab_B} : decode (ab_code (zx σ n0 bf).1 8052) 127 = .ok (.iconst 0, 1) := zd zm_8052 (by decide +kernel)
theorem d_8052_128 {σ : Nat → Nat} {n0 : Nat} {bf : ab_B} : decode (ab_code (zx σ n0 bf).1 8052) 128 = .ok (.iconst 0, 1) := zd zm_8052 (by decide +kernel)
theorem d_8052_129 {σ : Nat → Nat} {n0 : Nat} {bf : ab_B} : decode (ab_code (zx σ n0 bf).1 8052) 129 = .ok (.invokevirtual 649, 3) := zd zm_8052 (by decide +kernel)
theorem d_8052_132 {σ : Nat → Nat} {n0 : Nat} {bf : ab_B} : decode (ab_code (zx σ n0 bf).1 8052) 132 = .ok (.aload_n 0, 1) := zd zm_8052 (by decide +kernel)
theorem d_8052_133 {σ : Nat → Nat} {n0 : Nat} {bf : ab_B} : decode (ab_code (zx σ n0 bf).1 8052) 133 = .ok (.invokevirtual 538, 3) := zd zm_8052 (by decide +kernel)
theorem d_8052_136 {σ : Nat → Nat} {n0 : Nat} {bf : ab_B} : decode (ab_code (zx σ n0 bf).1 8052) 136 = .ok (.return_, 1) := zd zm_8052 (by decide +kernel)
def w_X9_adds_132 (X : zs_X) (d : Nat) (p0 : Nat) (S : zs_T) (Q : zs_Q) : Prop :=
  (zs_K S p0 = some (.inl 8) ∧ zs_C X d 8014 [.ref p0] S (zs_kV (fun S2 => (Q (.returned none) S2)) Q))
theorem u_X9_adds_132 {σ : Nat → Nat} {n0 : Nat} {bf : ab_B} {d : Nat} {p0 : Nat} {S : zs_T} {Q : zs_Q} (hB : zt_B bf) (h : w_X9_adds_132 (zx σ n0 bf) d p0 S Q) : zs_U (zx σ n0 bf) d 8052 132 [(0, .ref p0)] [] S Q := by
  unfold w_X9_adds_132 at h
  refine zu_aload_n d_8052_132 rfl (zs_ra _) ?_
  obtain ⟨k1, h⟩ := h
  refine zc_8_538  hB rfl k1 d_8052_133 (Nat.le_of_ble_eq_true rfl) h (fun S2 h => ?_)
  exact zu_vret d_8052_136 zr_8052 h
def w_X9_adds_102 (X : zs_X) (d : Nat) (p0 : Nat) (p1 : Int32) (S : zs_T) (Q : zs_Q) : Prop :=
  (zs_K S p0 = some (.inl 8) ∧ zs_C X d 8030 [.ref p0, .int (7 : Int32), .int (0 : Int32), .int (0 : Int32), .int (0 : Int32)] S (zs_kV (fun S2 => (zs_K S2 p0 = some (.inl 8) ∧ zs_C X d 8030 [.ref p0, .int (8 : Int32), .int p1, .int (zs_I S2 8007 p0), .int (0 : Int32)] S2 (zs_kV (fun S5 => (zs_K S5 p0 = some (.inl 8) ∧ zs_C X d 8030 [.ref p0, .int (9 : Int32), .int (0 : Int32), .int (0 : Int32), .int (0 : Int32)] S5 (zs_kV (fun S8 => w_X9_adds_132 X d p0 S8 Q) Q))) Q))) Q))
theorem u_X9_adds_102 {σ : Nat → Nat} {n0 : Nat} {bf : ab_B} {d : Nat} {p0 : Nat} {p1 : Int32} {S : zs_T} {Q : zs_Q} (hB : zt_B bf) (h : w_X9_adds_102 (zx σ n0 bf) d p0 p1 S Q) : zs_U (zx σ n0 bf) d 8052 102 [(0, .ref p0), (1, .int p1)] [] S Q := by
  unfold w_X9_adds_102 at h
  refine zu_aload_n d_8052_102 rfl (zs_ra _) ?_
  refine zu_bipush d_8052_103 zj_7 ?_
  refine zu_iconst d_8052_105 zi_0 ?_
  refine zu_iconst d_8052_106 zi_0 ?_
  refine zu_iconst d_8052_107 zi_0 ?_
  obtain ⟨k1, h⟩ := h
  refine zc_8_649 (x0 := (7 : Int32)) (x1 := (0 : Int32)) (x2 := (0 : Int32)) (x3 := (0 : Int32)) hB rfl k1 d_8052_108 (Nat.le_of_ble_eq_true rfl) h (fun S2 h => ?_)
  refine zu_aload_n d_8052_111 rfl (zs_ra _) ?_
  refine zu_bipush d_8052_112 zj_8 ?_
  refine zu_iload_n d_8052_114 rfl ?_
  refine zu_aload_n d_8052_115 rfl (zs_ra _) ?_
  obtain ⟨k4, h⟩ := h
  refine zg_8_450 rfl d_8052_116 k4 ?_
  refine zu_iconst d_8052_119 zi_0 ?_
  refine zc_8_649 (x0 := (8 : Int32)) (x1 := p1) (x2 := (zs_I S2 8007 p0)) (x3 := (0 : Int32)) hB rfl k4 d_8052_120 (Nat.le_of_ble_eq_true rfl) h (fun S5 h => ?_)
  refine zu_aload_n d_8052_123 rfl (zs_ra _) ?_
  refine zu_bipush d_8052_124 zj_9 ?_
  refine zu_iconst d_8052_126 zi_0 ?_
  refine zu_iconst d_8052_127 zi_0 ?_
  refine zu_iconst d_8052_128 zi_0 ?_
  obtain ⟨k7, h⟩ := h
  refine zc_8_649 (x0 := (9 : Int32)) (x1 := (0 : Int32)) (x2 := (0 : Int32)) (x3 := (0 : Int32)) hB rfl k7 d_8052_129 (Nat.le_of_ble_eq_true rfl) h (fun S8 h => ?_)
  exact (u_X9_adds_132 hB h).weak ⟨rfl, trivial⟩
def w_X9_adds_66 (X : zs_X) (d : Nat) (p0 : Nat) (p1 : Int32) (p2 : Int32) (S : zs_T) (Q : zs_Q) : Prop :=
  (zs_K S p0 = some (.inl 8) ∧ zs_C X d 8043 [.ref p0, .int p2] S (zs_kI (fun v3 S2 => (((v3 = 0 → w_X9_adds_102 X d p0 p1 S2 Q) ∧ (¬ (v3 = 0) → (zs_K S2 p0 = some (.inl 8) ∧ zs_C X d 8044 [.ref p0, .int p2] S2 (zs_kI (fun v7 S6 => (((¬ v7 = 0 → w_X9_adds_102 X d p0 p1 S6 Q) ∧ (¬ (¬ v7 = 0) → (zs_K S6 p0 = some (.inl 8) ∧ ∃ b10, (zs_R S6 8096 p0) = some b10 ∧ zs_A S6 b10 0 ((zs_I S6 8097 p0) - (1 : Int32)) ∧ zs_C X d 8012 [.ref p0, .int (10 : Int32), .int (0 : Int32), .int (0 : Int32), .int (zs_i S6 b10 ((zs_I S6 8097 p0) - (1 : Int32)).toNatClampNeg)] S6 (zs_kI (fun v14 S13 => (w_X9_adds_102 X d p0 p1 S13 Q)) Q)))))) Q)))))) Q))
theorem u_X9_adds_66 {σ : Nat → Nat} {n0 : Nat} {bf : ab_B} {d : Nat} {p0 : Nat} {p1 : Int32} {p2 : Int32} {S : zs_T} {Q : zs_Q} (hB : zt_B bf) (h : w_X9_adds_66 (zx σ n0 bf) d p0 p1 p2 S Q) : zs_U (zx σ n0 bf) d 8052 66 [(0, .ref p0), (1, .int p1), (2, .int p2)] [] S Q := by
  unfold w_X9_adds_66 at h
  refine zu_aload_n d_8052_66 rfl (zs_ra _) ?_
  refine zu_iload_n d_8052_67 rfl ?_
  obtain ⟨k1, h⟩ := h
  refine zc_8_673 (x0 := p2) hB rfl k1 d_8052_68 (Nat.le_of_ble_eq_true rfl) h (fun v3 S2 h => ?_)
  refine zu_ifeq (t := 102) d_8052_71 rfl (fun c4 => ?_) (fun c4 => ?_)
  · have h := h.1 c4
    exact (u_X9_adds_102 hB h).weak ⟨rfl, rfl, trivial⟩
  · have h := h.2 c4
    refine zu_aload_n d_8052_74 rfl (zs_ra _) ?_
    refine zu_iload_n d_8052_75 rfl ?_
    obtain ⟨k5, h⟩ := h
    refine zc_8_676 (x0 := p2) hB rfl k5 d_8052_76 (Nat.le_of_ble_eq_true rfl) h (fun v7 S6 h => ?_)
    refine zu_ifne (t := 102) d_8052_79 rfl (fun c8 => ?_) (fun c8 => ?_)
    · have h := h.1 c8
      exact (u_X9_adds_102 hB h).weak ⟨rfl, rfl, trivial⟩
    · have h := h.2 c8
      refine zu_aload_n d_8052_82 rfl (zs_ra _) ?_
      refine zu_bipush d_8052_83 zj_10 ?_
      refine zu_iconst d_8052_85 zi_0 ?_
      refine zu_iconst d_8052_86 zi_0 ?_
      refine zu_aload_n d_8052_87 rfl (zs_ra _) ?_
      obtain ⟨k9, h⟩ := h
      refine zg_8_206 rfl d_8052_88 k9 ?_
      refine zu_aload_n d_8052_91 rfl (zs_ra _) ?_
      refine zg_8_653 rfl d_8052_92 k9 ?_
      refine zu_iconst d_8052_95 zi_1 ?_
      refine zu_stk d_8052_96 rfl rfl ?_
      obtain ⟨b10, e11, h⟩ := h
      refine zs_stk1 (zs_rfe e11) ?_
      obtain ⟨k12, h⟩ := h
      refine zu_iald (k := 0) d_8052_97 rfl rfl k12 ?_
      refine zc_8_656 (x0 := (10 : Int32)) (x1 := (0 : Int32)) (x2 := (0 : Int32)) (x3 := (zs_i S6 b10 ((zs_I S6 8097 p0) - (1 : Int32)).toNatClampNeg)) hB rfl k9 d_8052_98 (Nat.le_of_ble_eq_true rfl) h (fun v14 S13 h => ?_)
      refine zu_istore_n d_8052_101 (zs_lt zq_8052 rfl) ?_
      exact (u_X9_adds_102 hB h).weak ⟨rfl, rfl, trivial⟩
def w_X9_adds_39 (X : zs_X) (d : Nat) (p0 : Nat) (q0 : Int32) (S : zs_T) (Q : zs_Q) : Prop :=
  (((¬ q0 = 0 → (zs_K S p0 = some (.inl 8) ∧ zs_C X d 8035 [.ref p0] S (zs_kV (fun S3 => (zs_K S3 p0 = some (.inl 8) ∧ ∃ b6, (zs_R S3 8091 p0) = some b6 ∧ zs_A S3 b6 0 ((zs_I S3 8097 p0) - (1 : Int32)) ∧ ((¬ q0 = (3 : Int32) → w_X9_adds_102 X d p0 q0 S3 Q) ∧ (¬ (¬ q0 = (3 : Int32)) → w_X9_adds_66 X d p0 q0 (zs_i S3 b6 ((zs_I S3 8097 p0) - (1 : Int32)).toNatClampNeg) S3 Q)))) Q))) ∧ (¬ (¬ q0 = 0) → (Q (.returned none) S))))
theorem u_X9_adds_39 {σ : Nat → Nat} {n0 : Nat} {bf : ab_B} {d : Nat} {p0 : Nat} {q0 : Int32} {S : zs_T} {Q : zs_Q} (hB : zt_B bf) (h : w_X9_adds_39 (zx σ n0 bf) d p0 q0 S Q) : zs_U (zx σ n0 bf) d 8052 39 [(0, .ref p0)] [.int q0] S Q := by
  unfold w_X9_adds_39 at h
  refine zu_istore_n d_8052_39 (zs_lt zq_8052 rfl) ?_
  refine zu_iload_n d_8052_40 rfl ?_
  refine zu_ifne (t := 45) d_8052_41 rfl (fun c1 => ?_) (fun c1 => ?_)
  · have h := h.1 c1
    refine zu_aload_n d_8052_45 rfl (zs_ra _) ?_
    obtain ⟨k2, h⟩ := h
    refine zc_8_667  hB rfl k2 d_8052_46 (Nat.le_of_ble_eq_true rfl) h (fun S3 h => ?_)
    refine zu_aload_n d_8052_49 rfl (zs_ra _) ?_
    obtain ⟨k5, h⟩ := h
    refine zg_8_191 rfl d_8052_50 k5 ?_
    refine zu_aload_n d_8052_53 rfl (zs_ra _) ?_
    refine zg_8_653 rfl d_8052_54 k5 ?_
    refine zu_iconst d_8052_57 zi_1 ?_
    refine zu_stk d_8052_58 rfl rfl ?_
    obtain ⟨b6, e7, h⟩ := h
    refine zs_stk1 (zs_rfe e7) ?_
    obtain ⟨k8, h⟩ := h
    refine zu_iald (k := 0) d_8052_59 rfl rfl k8 ?_
    refine zu_istore_n d_8052_60 (zs_lt zq_8052 rfl) ?_
    refine zu_iload_n d_8052_61 rfl ?_
    refine zu_iconst d_8052_62 zi_3 ?_
    refine zu_cmpne (t := 102) d_8052_63 rfl (fun c9 => ?_) (fun c9 => ?_)
    · have h := h.1 c9
      exact (u_X9_adds_102 hB h).weak ⟨rfl, rfl, trivial⟩
    · have h := h.2 c9
      exact (u_X9_adds_66 hB h).weak ⟨rfl, rfl, rfl, trivial⟩
  · have h := h.2 c1
    exact zu_vret d_8052_44 zr_8052 h
def w_X9_adds (X : zs_X) (d : Nat) (p0 : Nat) (S : zs_T) (Q : zs_Q) : Prop :=
  (zs_K S p0 = some (.inl 8) ∧ zs_C X d 8029 [.ref p0, .int (1 : Int32)] S (zs_kI (fun v3 S2 => (((v3 = 0 → (zs_K S2 p0 = some (.inl 8) ∧ zs_C X d 8029 [.ref p0, .int (2 : Int32)] S2 (zs_kI (fun v7 S6 => (((v7 = 0 → (zs_K S6 p0 = some (.inl 8) ∧ zs_C X d 8026 [.ref p0, .int (32 : Int32)] S6 (zs_kI (fun v11 S10 => (((v11 = 0 → (w_X9_adds_39 X d p0 (0 : Int32) S10 Q)) ∧ (¬ (v11 = 0) → (w_X9_adds_39 X d p0 (9 : Int32) S10 Q))))) Q))) ∧ (¬ (v7 = 0) → (w_X9_adds_39 X d p0 (4 : Int32) S6 Q))))) Q))) ∧ (¬ (v3 = 0) → (w_X9_adds_39 X d p0 (3 : Int32) S2 Q))))) Q))
theorem u_X9_adds {σ : Nat → Nat} {n0 : Nat} {bf : ab_B} {d : Nat} {p0 : Nat} {S : zs_T} {Q : zs_Q} (hB : zt_B bf) (hd : 1 ≤ d) (h : w_X9_adds (zx σ n0 bf) (d - 1) p0 S Q) : zs_C (zx σ n0 bf) d 8052 [.ref p0] S Q := by
  have hL : lv_args 0 [.ref p0] = [(0, .ref p0)] := rfl
  refine zs_C.of1 (hB.2 8052 (by decide) (by decide)) hd (by rw [hL]; exact zs_sub_self _ (by exact ⟨rfl, trivial⟩)) ?_
  rw [hL]
  clear hL
  unfold w_X9_adds at h
  refine zu_aload_n d_8052_0 rfl (zs_ra _) ?_
  refine zu_iconst d_8052_1 zi_1 ?_
  obtain ⟨k1, h⟩ := h
  refine zc_8_535 (x0 := (1 : Int32)) hB rfl k1 d_8052_2 (Nat.le_of_ble_eq_true rfl) h (fun v3 S2 h => ?_)
  refine zu_ifeq (t := 12) d_8052_5 rfl (fun c4 => ?_) (fun c4 => ?_)
  · have h := h.1 c4
    refine zu_aload_n d_8052_12 rfl (zs_ra _) ?_
    refine zu_iconst d_8052_13 zi_2 ?_
    obtain ⟨k5, h⟩ := h
    refine zc_8_535 (x0 := (2 : Int32)) hB rfl k5 d_8052_14 (Nat.le_of_ble_eq_true rfl) h (fun v7 S6 h => ?_)
    refine zu_ifeq (t := 24) d_8052_17 rfl (fun c8 => ?_) (fun c8 => ?_)
    · have h := h.1 c8
      refine zu_aload_n d_8052_24 rfl (zs_ra _) ?_
      refine zu_bipush d_8052_25 zj_32 ?_
      obtain ⟨k9, h⟩ := h
      refine zc_8_544 (x0 := (32 : Int32)) hB rfl k9 d_8052_27 (Nat.le_of_ble_eq_true rfl) h (fun v11 S10 h => ?_)
      refine zu_ifeq (t := 38) d_8052_30 rfl (fun c12 => ?_) (fun c12 => ?_)
      · have h := h.1 c12
        refine zu_iconst d_8052_38 zi_0 ?_
        exact (u_X9_adds_39 hB h).weak ⟨rfl, trivial⟩
      · have h := h.2 c12
        refine zu_bipush d_8052_33 zj_9 ?_
        refine zu_goto (t := 39) d_8052_35 rfl ?_
        exact (u_X9_adds_39 hB h).weak ⟨rfl, trivial⟩
    · have h := h.2 c8
      refine zu_iconst d_8052_20 zi_4 ?_
      refine zu_goto (t := 39) d_8052_21 rfl ?_
      exact (u_X9_adds_39 hB h).weak ⟨rfl, trivial⟩
  · have h := h.2 c4
    refine zu_iconst d_8052_8 zi_3 ?_
    refine zu_goto (t := 39) d_8052_9 rfl ?_
    exact (u_X9_adds_39 hB h).weak ⟨rfl, trivial⟩
/-! SchemaPascalModel.added(II)V -/
theorem zm_8053 {σ : Nat → Nat} {n0 : Nat} {bf : ab_B} : ab_code (zx σ n0 bf).1 8053 = prog_17_method_62_code := rfl
theorem zq_8053 {σ : Nat → Nat} {n0 : Nat} {bf : ab_B} : ab_maxL (zx σ n0 bf).1 8053 = 7 := rfl
theorem zr_8053 {σ : Nat → Nat} {n0 : Nat} {bf : ab_B} : ab_ret (zx σ n0 bf).1 8053 = (Option.none : Option Jvm.ClassFile.FieldType) := rfl
theorem d_8053_0 {σ : Nat → Nat} {n0 : Nat} {bf : ab_B} : decode (ab_code (zx σ n0 bf).1 8053) 0 = .ok (.aload_n 0, 1) := zd zm_8053 (by decide +kernel)
theorem d_8053_1 {σ : Nat → Nat} {n0 : Nat} {bf : ab_B} : decode (ab_code (zx σ n0 bf).1 8053) 1 = .ok (.invokevirtual 670, 3) := zd zm_8053 (by decide +kernel)
theorem d_8053_4 {σ : Nat → Nat} {n0 : Nat} {bf : ab_B} : decode (ab_code (zx σ n0 bf).1 8053) 4 = .ok (.aload_n 0, 1) := zd zm_8053 (by decide +kernel)
theorem d_8053_5 {σ : Nat → Nat} {n0 : Nat} {bf : ab_B} : decode (ab_code (zx σ n0 bf).1 8053) 5 = .ok (.getfield 444, 3) := zd zm_8053 (by decide +kernel)
theorem d_8053_8 {σ : Nat → Nat} {n0 : Nat} {bf : ab_B} : decode (ab_code (zx σ n0 bf).1 8053) 8 = .ok (.ifCond .le 4, 3) := zd zm_8053 (by decide +kernel)
theorem d_8053_11 {σ : Nat → Nat} {n0 : Nat} {bf : ab_B} : decode (ab_code (zx σ n0 bf).1 8053) 11 = .ok (.return_, 1) := zd zm_8053 (by decide +kernel)
theorem d_8053_12 {σ : Nat → Nat} {n0 : Nat} {bf : ab_B} : decode (ab_code (zx σ n0 bf).1 8053) 12 = .ok (.aload_n 0, 1) := zd zm_8053 (by decide +kernel)
theorem d_8053_13 {σ : Nat → Nat} {n0 : Nat} {bf : ab_B} : decode (ab_code (zx σ n0 bf).1 8053) 13 = .ok (.dup, 1) := zd zm_8053 (by decide +kernel)
theorem d_8053_14 {σ : Nat → Nat} {n0 : Nat} {bf : ab_B} : decode (ab_code (zx σ n0 bf).1 8053) 14 = .ok (.getfield 653, 3) := zd zm_8053 (by decide +kernel)
theorem d_8053_17 {σ : Nat → Nat} {n0 : Nat} {bf : ab_B} : decode (ab_code (zx σ n0 bf).1 8053) 17 = .ok (.iconst 1, 1) := zd zm_8053 (by decide +kernel)
theorem d_8053_18 {σ : Nat → Nat} {n0 : Nat} {bf : ab_B} : decode (ab_code (zx σ n0 bf).1 8053) 18 = .ok (.isub, 1) := zd zm_8053 (by decide +kernel)
theorem d_8053_19 {σ : Nat → Nat} {n0 : Nat} {bf : ab_B} : decode (ab_code (zx σ n0 bf).1 8053) 19 = .ok (.putfield 653, 3) := zd zm_8053 (by decide +kernel)
theorem d_8053_22 {σ : Nat → Nat} {n0 : Nat} {bf : ab_B} : decode (ab_code (zx σ n0 bf).1 8053) 22 = .ok (.aload_n 0, 1) := zd zm_8053 (by decide +kernel)
theorem d_8053_23 {σ : Nat → Nat} {n0 : Nat} {bf : ab_B} : decode (ab_code (zx σ n0 bf).1 8053) 23 = .ok (.getfield 191, 3) := zd zm_8053 (by decide +kernel)
theorem d_8053_26 {σ : Nat → Nat} {n0 : Nat} {bf : ab_B} : decode (ab_code (zx σ n0 bf).1 8053) 26 = .ok (.aload_n 0, 1) := zd zm_8053 (by decide +kernel)
theorem d_8053_27 {σ : Nat → Nat} {n0 : Nat} {bf : ab_B} : decode (ab_code (zx σ n0 bf).1 8053) 27 = .ok (.getfield 653, 3) := zd zm_8053 (by decide +kernel)
theorem d_8053_30 {σ : Nat → Nat} {n0 : Nat} {bf : ab_B} : decode (ab_code (zx σ n0 bf).1 8053) 30 = .ok (.iconst 1, 1) := zd zm_8053 (by decide +kernel)
theorem d_8053_31 {σ : Nat → Nat} {n0 : Nat} {bf : ab_B} : decode (ab_code (zx σ n0 bf).1 8053) 31 = .ok (.isub, 1) := zd zm_8053 (by decide +kernel)
theorem d_8053_32 {σ : Nat → Nat} {n0 : Nat} {bf : ab_B} : decode (ab_code (zx σ n0 bf).1 8053) 32 = .ok (.iaload, 1) := zd zm_8053 (by decide +kernel)
theorem d_8053_33 {σ : Nat → Nat} {n0 : Nat} {bf : ab_B} : decode (ab_code (zx σ n0 bf).1 8053) 33 = .ok (.istore_n 3, 1) := zd zm_8053 (by decide +kernel)
theorem d_8053_34 {σ : Nat → Nat} {n0 : Nat} {bf : ab_B} : decode (ab_code (zx σ n0 bf).1 8053) 34 = .ok (.aload_n 0, 1) := zd zm_8053 (by decide +kernel)
theorem d_8053_35 {σ : Nat → Nat} {n0 : Nat} {bf : ab_B} : decode (ab_code (zx σ n0 bf).1 8053) 35 = .ok (.getfield 191, 3) := zd zm_8053 (by decide +kernel)
theorem d_8053_38 {σ : Nat → Nat} {n0 : Nat} {bf : ab_B} : decode (ab_code (zx σ n0 bf).1 8053) 38 = .ok (.aload_n 0, 1) := zd zm_8053 (by decide +kernel)
theorem d_8053_39 {σ : Nat → Nat} {n0 : Nat} {bf : ab_B} : decode (ab_code (zx σ n0 bf).1 8053) 39 = .ok (.getfield 653, 3) := zd zm_8053 (by decide +kernel)
theorem d_8053_42 {σ : Nat → Nat} {n0 : Nat} {bf : ab_B} : decode (ab_code (zx σ n0 bf).1 8053) 42 = .ok (.iaload, 1) := zd zm_8053 (by decide +kernel)
theorem d_8053_43 {σ : Nat → Nat} {n0 : Nat} {bf : ab_B} : decode (ab_code (zx σ n0 bf).1 8053) 43 = .ok (.istore 4, 2) := zd zm_8053 (by decide +kernel)
theorem d_8053_45 {σ : Nat → Nat} {n0 : Nat} {bf : ab_B} : decode (ab_code (zx σ n0 bf).1 8053) 45 = .ok (.aload_n 0, 1) := zd zm_8053 (by decide +kernel)
theorem d_8053_46 {σ : Nat → Nat} {n0 : Nat} {bf : ab_B} : decode (ab_code (zx σ n0 bf).1 8053) 46 = .ok (.getfield 197, 3) := zd zm_8053 (by decide +kernel)
theorem d_8053_49 {σ : Nat → Nat} {n0 : Nat} {bf : ab_B} : decode (ab_code (zx σ n0 bf).1 8053) 49 = .ok (.aload_n 0, 1) := zd zm_8053 (by decide +kernel)
theorem d_8053_50 {σ : Nat → Nat} {n0 : Nat} {bf : ab_B} : decode (ab_code (zx σ n0 bf).1 8053) 50 = .ok (.getfield 653, 3) := zd zm_8053 (by decide +kernel)
theorem d_8053_53 {σ : Nat → Nat} {n0 : Nat} {bf : ab_B} : decode (ab_code (zx σ n0 bf).1 8053) 53 = .ok (.iconst 1, 1) := zd zm_8053 (by decide +kernel)
theorem d_8053_54 {σ : Nat → Nat} {n0 : Nat} {bf : ab_B} : decode (ab_code (zx σ n0 bf).1 8053) 54 = .ok (.isub, 1) := zd zm_8053 (by decide +kernel)
theorem d_8053_55 {σ : Nat → Nat} {n0 : Nat} {bf : ab_B} : decode (ab_code (zx σ n0 bf).1 8053) 55 = .ok (.baload, 1) := zd zm_8053 (by decide +kernel)
theorem d_8053_56 {σ : Nat → Nat} {n0 : Nat} {bf : ab_B} : decode (ab_code (zx σ n0 bf).1 8053) 56 = .ok (.ifCond .eq 19, 3) := zd zm_8053 (by decide +kernel)
theorem d_8053_59 {σ : Nat → Nat} {n0 : Nat} {bf : ab_B} : decode (ab_code (zx σ n0 bf).1 8053) 59 = .ok (.aload_n 0, 1) := zd zm_8053 (by decide +kernel)
theorem d_8053_60 {σ : Nat → Nat} {n0 : Nat} {bf : ab_B} : decode (ab_code (zx σ n0 bf).1 8053) 60 = .ok (.getfield 197, 3) := zd zm_8053 (by decide +kernel)
theorem d_8053_63 {σ : Nat → Nat} {n0 : Nat} {bf : ab_B} : decode (ab_code (zx σ n0 bf).1 8053) 63 = .ok (.aload_n 0, 1) := zd zm_8053 (by decide +kernel)
theorem d_8053_64 {σ : Nat → Nat} {n0 : Nat} {bf : ab_B} : decode (ab_code (zx σ n0 bf).1 8053) 64 = .ok (.getfield 653, 3) := zd zm_8053 (by decide +kernel)
theorem d_8053_67 {σ : Nat → Nat} {n0 : Nat} {bf : ab_B} : decode (ab_code (zx σ n0 bf).1 8053) 67 = .ok (.baload, 1) := zd zm_8053 (by decide +kernel)
theorem d_8053_68 {σ : Nat → Nat} {n0 : Nat} {bf : ab_B} : decode (ab_code (zx σ n0 bf).1 8053) 68 = .ok (.ifCond .eq 7, 3) := zd zm_8053 (by decide +kernel)
theorem d_8053_71 {σ : Nat → Nat} {n0 : Nat} {bf : ab_B} : decode (ab_code (zx σ n0 bf).1 8053) 71 = .ok (.iconst 1, 1) := zd zm_8053 (by decide +kernel)
theorem d_8053_72 {σ : Nat → Nat} {n0 : Nat} {bf : ab_B} : decode (ab_code (zx σ n0 bf).1 8053) 72 = .ok (.goto 4, 3) := zd zm_8053 (by decide +kernel)
theorem d_8053_75 {σ : Nat → Nat} {n0 : Nat} {bf : ab_B} : decode (ab_code (zx σ n0 bf).1 8053) 75 = .ok (.iconst 0, 1) := zd zm_8053 (by decide +kernel)
theorem d_8053_76 {σ : Nat → Nat} {n0 : Nat} {bf : ab_B} : decode (ab_code (zx σ n0 bf).1 8053) 76 = .ok (.istore 5, 2) := zd zm_8053 (by decide +kernel)
theorem d_8053_78 {σ : Nat → Nat} {n0 : Nat} {bf : ab_B} : decode (ab_code (zx σ n0 bf).1 8053) 78 = .ok (.iload_n 1, 1) := zd zm_8053 (by decide +kernel)
theorem d_8053_79 {σ : Nat → Nat} {n0 : Nat} {bf : ab_B} : decode (ab_code (zx σ n0 bf).1 8053) 79 = .ok (.bipush 9, 2) := zd zm_8053 (by decide +kernel)
theorem d_8053_81 {σ : Nat → Nat} {n0 : Nat} {bf : ab_B} : decode (ab_code (zx σ n0 bf).1 8053) 81 = .ok (.if_icmp .ne 23, 3) := zd zm_8053 (by decide +kernel)
theorem d_8053_84 {σ : Nat → Nat} {n0 : Nat} {bf : ab_B} : decode (ab_code (zx σ n0 bf).1 8053) 84 = .ok (.aload_n 0, 1) := zd zm_8053 (by decide +kernel)
theorem d_8053_85 {σ : Nat → Nat} {n0 : Nat} {bf : ab_B} : decode (ab_code (zx σ n0 bf).1 8053) 85 = .ok (.iload_n 3, 1) := zd zm_8053 (by decide +kernel)
theorem d_8053_86 {σ : Nat → Nat} {n0 : Nat} {bf : ab_B} : decode (ab_code (zx σ n0 bf).1 8053) 86 = .ok (.invokevirtual 696, 3) := zd zm_8053 (by decide +kernel)
theorem d_8053_89 {σ : Nat → Nat} {n0 : Nat} {bf : ab_B} : decode (ab_code (zx σ n0 bf).1 8053) 89 = .ok (.ifCond .eq 66, 3) := zd zm_8053 (by decide +kernel)
theorem d_8053_92 {σ : Nat → Nat} {n0 : Nat} {bf : ab_B} : decode (ab_code (zx σ n0 bf).1 8053) 92 = .ok (.aload_n 0, 1) := zd zm_8053 (by decide +kernel)
theorem d_8053_93 {σ : Nat → Nat} {n0 : Nat} {bf : ab_B} : decode (ab_code (zx σ n0 bf).1 8053) 93 = .ok (.iload 4, 2) := zd zm_8053 (by decide +kernel)
theorem d_8053_95 {σ : Nat → Nat} {n0 : Nat} {bf : ab_B} : decode (ab_code (zx σ n0 bf).1 8053) 95 = .ok (.invokevirtual 696, 3) := zd zm_8053 (by decide +kernel)
theorem d_8053_98 {σ : Nat → Nat} {n0 : Nat} {bf : ab_B} : decode (ab_code (zx σ n0 bf).1 8053) 98 = .ok (.ifCond .eq 57, 3) := zd zm_8053 (by decide +kernel)
theorem d_8053_101 {σ : Nat → Nat} {n0 : Nat} {bf : ab_B} : decode (ab_code (zx σ n0 bf).1 8053) 101 = .ok (.goto 20, 3) := zd zm_8053 (by decide +kernel)
theorem d_8053_104 {σ : Nat → Nat} {n0 : Nat} {bf : ab_B} : decode (ab_code (zx σ n0 bf).1 8053) 104 = .ok (.aload_n 0, 1) := zd zm_8053 (by decide +kernel)
theorem d_8053_105 {σ : Nat → Nat} {n0 : Nat} {bf : ab_B} : decode (ab_code (zx σ n0 bf).1 8053) 105 = .ok (.iload_n 3, 1) := zd zm_8053 (by decide +kernel)
theorem d_8053_106 {σ : Nat → Nat} {n0 : Nat} {bf : ab_B} : decode (ab_code (zx σ n0 bf).1 8053) 106 = .ok (.invokevirtual 693, 3) := zd zm_8053 (by decide +kernel)
theorem d_8053_109 {σ : Nat → Nat} {n0 : Nat} {bf : ab_B} : decode (ab_code (zx σ n0 bf).1 8053) 109 = .ok (.ifCond .eq 46, 3) := zd zm_8053 (by decide +kernel)
theorem d_8053_112 {σ : Nat → Nat} {n0 : Nat} {bf : ab_B} : decode (ab_code (zx σ n0 bf).1 8053) 112 = .ok (.aload_n 0, 1) := zd zm_8053 (by decide +kernel)
theorem d_8053_113 {σ : Nat → Nat} {n0 : Nat} {bf : ab_B} : decode (ab_code (zx σ n0 bf).1 8053) 113 = .ok (.iload 4, 2) := zd zm_8053 (by decide +kernel)
theorem d_8053_115 {σ : Nat → Nat} {n0 : Nat} {bf : ab_B} : decode (ab_code (zx σ n0 bf).1 8053) 115 = .ok (.invokevirtual 693, 3) := zd zm_8053 (by decide +kernel)
theorem d_8053_118 {σ : Nat → Nat} {n0 : Nat} {bf : ab_B} : decode (ab_code (zx σ n0 bf).1 8053) 118 = .ok (.ifCond .eq 37, 3) := zd zm_8053 (by decide +kernel)
theorem d_8053_121 {σ : Nat → Nat} {n0 : Nat} {bf : ab_B} : decode (ab_code (zx σ n0 bf).1 8053) 121 = .ok (.aload_n 0, 1) := zd zm_8053 (by decide +kernel)
theorem d_8053_122 {σ : Nat → Nat} {n0 : Nat} {bf : ab_B} : decode (ab_code (zx σ n0 bf).1 8053) 122 = .ok (.bipush 20, 2) := zd zm_8053 (by decide +kernel)
theorem d_8053_124 {σ : Nat → Nat} {n0 : Nat} {bf : ab_B} : decode (ab_code (zx σ n0 bf).1 8053) 124 = .ok (.iload_n 1, 1) := zd zm_8053 (by decide +kernel)
theorem d_8053_125 {σ : Nat → Nat} {n0 : Nat} {bf : ab_B} : decode (ab_code (zx σ n0 bf).1 8053) 125 = .ok (.iadd, 1) := zd zm_8053 (by decide +kernel)
theorem d_8053_126 {σ : Nat → Nat} {n0 : Nat} {bf : ab_B} : decode (ab_code (zx σ n0 bf).1 8053) 126 = .ok (.iconst 0, 1) := zd zm_8053 (by decide +kernel)
theorem d_8053_127 {σ : Nat → Nat} {n0 : Nat} {bf : ab_B} : decode (ab_code (zx σ n0 bf).1 8053) 127 = .ok (.iconst 0, 1) := zd zm_8053 (by decide +kernel)
theorem d_8053_128 {σ : Nat → Nat} {n0 : Nat} {bf : ab_B} : decode (ab_code (zx σ n0 bf).1 8053) 128 = .ok (.iload_n 2, 1) := zd zm_8053 (by decide +kernel)
theorem d_8053_129 {σ : Nat → Nat} {n0 : Nat} {bf : ab_B} : decode (ab_code (zx σ n0 bf).1 8053) 129 = .ok (.invokevirtual 656, 3) := zd zm_8053 (by decide +kernel)
theorem d_8053_132 {σ : Nat → Nat} {n0 : Nat} {bf : ab_B} : decode (ab_code (zx σ n0 bf).1 8053) 132 = .ok (.istore 6, 2) := zd zm_8053 (by decide +kernel)
theorem d_8053_134 {σ : Nat → Nat} {n0 : Nat} {bf : ab_B} : decode (ab_code (zx σ n0 bf).1 8053) 134 = .ok (.aload_n 0, 1) := zd zm_8053 (by decide +kernel)
theorem d_8053_135 {σ : Nat → Nat} {n0 : Nat} {bf : ab_B} : decode (ab_code (zx σ n0 bf).1 8053) 135 = .ok (.iload_n 1, 1) := zd zm_8053 (by decide +kernel)
theorem d_8053_136 {σ : Nat → Nat} {n0 : Nat} {bf : ab_B} : decode (ab_code (zx σ n0 bf).1 8053) 136 = .ok (.bipush 9, 2) := zd zm_8053 (by decide +kernel)
theorem d_8053_138 {σ : Nat → Nat} {n0 : Nat} {bf : ab_B} : decode (ab_code (zx σ n0 bf).1 8053) 138 = .ok (.if_icmp .ne 7, 3) := zd zm_8053 (by decide +kernel)
theorem d_8053_141 {σ : Nat → Nat} {n0 : Nat} {bf : ab_B} : decode (ab_code (zx σ n0 bf).1 8053) 141 = .ok (.iconst 2, 1) := zd zm_8053 (by decide +kernel)
theorem d_8053_142 {σ : Nat → Nat} {n0 : Nat} {bf : ab_B} : decode (ab_code (zx σ n0 bf).1 8053) 142 = .ok (.goto 4, 3) := zd zm_8053 (by decide +kernel)
theorem d_8053_145 {σ : Nat → Nat} {n0 : Nat} {bf : ab_B} : decode (ab_code (zx σ n0 bf).1 8053) 145 = .ok (.iconst 1, 1) := zd zm_8053 (by decide +kernel)
theorem d_8053_146 {σ : Nat → Nat} {n0 : Nat} {bf : ab_B} : decode (ab_code (zx σ n0 bf).1 8053) 146 = .ok (.iload 5, 2) := zd zm_8053 (by decide +kernel)
theorem d_8053_148 {σ : Nat → Nat} {n0 : Nat} {bf : ab_B} : decode (ab_code (zx σ n0 bf).1 8053) 148 = .ok (.iload_n 2, 1) := zd zm_8053 (by decide +kernel)
theorem d_8053_149 {σ : Nat → Nat} {n0 : Nat} {bf : ab_B} : decode (ab_code (zx σ n0 bf).1 8053) 149 = .ok (.invokevirtual 689, 3) := zd zm_8053 (by decide +kernel)
theorem d_8053_152 {σ : Nat → Nat} {n0 : Nat} {bf : ab_B} : decode (ab_code (zx σ n0 bf).1 8053) 152 = .ok (.goto 143, 3) := zd zm_8053 (by decide +kernel)
theorem d_8053_155 {σ : Nat → Nat} {n0 : Nat} {bf : ab_B} : decode (ab_code (zx σ n0 bf).1 8053) 155 = .ok (.iload_n 1, 1) := zd zm_8053 (by decide +kernel)
theorem d_8053_156 {σ : Nat → Nat} {n0 : Nat} {bf : ab_B} : decode (ab_code (zx σ n0 bf).1 8053) 156 = .ok (.bipush 9, 2) := zd zm_8053 (by decide +kernel)
theorem d_8053_158 {σ : Nat → Nat} {n0 : Nat} {bf : ab_B} : decode (ab_code (zx σ n0 bf).1 8053) 158 = .ok (.if_icmp .eq 60, 3) := zd zm_8053 (by decide +kernel)
theorem d_8053_161 {σ : Nat → Nat} {n0 : Nat} {bf : ab_B} : decode (ab_code (zx σ n0 bf).1 8053) 161 = .ok (.aload_n 0, 1) := zd zm_8053 (by decide +kernel)
theorem d_8053_162 {σ : Nat → Nat} {n0 : Nat} {bf : ab_B} : decode (ab_code (zx σ n0 bf).1 8053) 162 = .ok (.iload_n 3, 1) := zd zm_8053 (by decide +kernel)
theorem d_8053_163 {σ : Nat → Nat} {n0 : Nat} {bf : ab_B} : decode (ab_code (zx σ n0 bf).1 8053) 163 = .ok (.iload 4, 2) := zd zm_8053 (by decide +kernel)
theorem d_8053_165 {σ : Nat → Nat} {n0 : Nat} {bf : ab_B} : decode (ab_code (zx σ n0 bf).1 8053) 165 = .ok (.invokevirtual 682, 3) := zd zm_8053 (by decide +kernel)
theorem d_8053_168 {σ : Nat → Nat} {n0 : Nat} {bf : ab_B} : decode (ab_code (zx σ n0 bf).1 8053) 168 = .ok (.ifCond .eq 50, 3) := zd zm_8053 (by decide +kernel)
theorem d_8053_171 {σ : Nat → Nat} {n0 : Nat} {bf : ab_B} : decode (ab_code (zx σ n0 bf).1 8053) 171 = .ok (.aload_n 0, 1) := zd zm_8053 (by decide +kernel)
theorem d_8053_172 {σ : Nat → Nat} {n0 : Nat} {bf : ab_B} : decode (ab_code (zx σ n0 bf).1 8053) 172 = .ok (.iload_n 1, 1) := zd zm_8053 (by decide +kernel)
theorem d_8053_173 {σ : Nat → Nat} {n0 : Nat} {bf : ab_B} : decode (ab_code (zx σ n0 bf).1 8053) 173 = .ok (.iconst 3, 1) := zd zm_8053 (by decide +kernel)
theorem d_8053_174 {σ : Nat → Nat} {n0 : Nat} {bf : ab_B} : decode (ab_code (zx σ n0 bf).1 8053) 174 = .ok (.if_icmp .ne 8, 3) := zd zm_8053 (by decide +kernel)
theorem d_8053_177 {σ : Nat → Nat} {n0 : Nat} {bf : ab_B} : decode (ab_code (zx σ n0 bf).1 8053) 177 = .ok (.bipush 50, 2) := zd zm_8053 (by decide +kernel)
theorem d_8053_179 {σ : Nat → Nat} {n0 : Nat} {bf : ab_B} : decode (ab_code (zx σ n0 bf).1 8053) 179 = .ok (.goto 5, 3) := zd zm_8053 (by decide +kernel)
theorem d_8053_182 {σ : Nat → Nat} {n0 : Nat} {bf : ab_B} : decode (ab_code (zx σ n0 bf).1 8053) 182 = .ok (.bipush 51, 2) := zd zm_8053 (by decide +kernel)
theorem d_8053_184 {σ : Nat → Nat} {n0 : Nat} {bf : ab_B} : decode (ab_code (zx σ n0 bf).1 8053) 184 = .ok (.iconst 0, 1) := zd zm_8053 (by decide +kernel)
theorem d_8053_185 {σ : Nat → Nat} {n0 : Nat} {bf : ab_B} : decode (ab_code (zx σ n0 bf).1 8053) 185 = .ok (.iconst 0, 1) := zd zm_8053 (by decide +kernel)
theorem d_8053_186 {σ : Nat → Nat} {n0 : Nat} {bf : ab_B} : decode (ab_code (zx σ n0 bf).1 8053) 186 = .ok (.iload_n 2, 1) := zd zm_8053 (by decide +kernel)
theorem d_8053_187 {σ : Nat → Nat} {n0 : Nat} {bf : ab_B} : decode (ab_code (zx σ n0 bf).1 8053) 187 = .ok (.invokevirtual 656, 3) := zd zm_8053 (by decide +kernel)
theorem d_8053_190 {σ : Nat → Nat} {n0 : Nat} {bf : ab_B} : decode (ab_code (zx σ n0 bf).1 8053) 190 = .ok (.istore 6, 2) := zd zm_8053 (by decide +kernel)
theorem d_8053_192 {σ : Nat → Nat} {n0 : Nat} {bf : ab_B} : decode (ab_code (zx σ n0 bf).1 8053) 192 = .ok (.aload_n 0, 1) := zd zm_8053 (by decide +kernel)
theorem d_8053_193 {σ : Nat → Nat} {n0 : Nat} {bf : ab_B} : decode (ab_code (zx σ n0 bf).1 8053) 193 = .ok (.aload_n 0, 1) := zd zm_8053 (by decide +kernel)
theorem d_8053_194 {σ : Nat → Nat} {n0 : Nat} {bf : ab_B} : decode (ab_code (zx σ n0 bf).1 8053) 194 = .ok (.getfield 90, 3) := zd zm_8053 (by decide +kernel)
theorem d_8053_197 {σ : Nat → Nat} {n0 : Nat} {bf : ab_B} : decode (ab_code (zx σ n0 bf).1 8053) 197 = .ok (.iload_n 3, 1) := zd zm_8053 (by decide +kernel)
theorem d_8053_198 {σ : Nat → Nat} {n0 : Nat} {bf : ab_B} : decode (ab_code (zx σ n0 bf).1 8053) 198 = .ok (.baload, 1) := zd zm_8053 (by decide +kernel)
theorem d_8053_199 {σ : Nat → Nat} {n0 : Nat} {bf : ab_B} : decode (ab_code (zx σ n0 bf).1 8053) 199 = .ok (.bipush 13, 2) := zd zm_8053 (by decide +kernel)
theorem d_8053_201 {σ : Nat → Nat} {n0 : Nat} {bf : ab_B} : decode (ab_code (zx σ n0 bf).1 8053) 201 = .ok (.if_icmp .ne 8, 3) := zd zm_8053 (by decide +kernel)
theorem d_8053_204 {σ : Nat → Nat} {n0 : Nat} {bf : ab_B} : decode (ab_code (zx σ n0 bf).1 8053) 204 = .ok (.iload 4, 2) := zd zm_8053 (by decide +kernel)
theorem d_8053_206 {σ : Nat → Nat} {n0 : Nat} {bf : ab_B} : decode (ab_code (zx σ n0 bf).1 8053) 206 = .ok (.goto 4, 3) := zd zm_8053 (by decide +kernel)
theorem d_8053_209 {σ : Nat → Nat} {n0 : Nat} {bf : ab_B} : decode (ab_code (zx σ n0 bf).1 8053) 209 = .ok (.iload_n 3, 1) := zd zm_8053 (by decide +kernel)
theorem d_8053_210 {σ : Nat → Nat} {n0 : Nat} {bf : ab_B} : decode (ab_code (zx σ n0 bf).1 8053) 210 = .ok (.iconst 0, 1) := zd zm_8053 (by decide +kernel)
theorem d_8053_211 {σ : Nat → Nat} {n0 : Nat} {bf : ab_B} : decode (ab_code (zx σ n0 bf).1 8053) 211 = .ok (.iload_n 2, 1) := zd zm_8053 (by decide +kernel)
theorem d_8053_212 {σ : Nat → Nat} {n0 : Nat} {bf : ab_B} : decode (ab_code (zx σ n0 bf).1 8053) 212 = .ok (.invokevirtual 689, 3) := zd zm_8053 (by decide +kernel)
theorem d_8053_215 {σ : Nat → Nat} {n0 : Nat} {bf : ab_B} : decode (ab_code (zx σ n0 bf).1 8053) 215 = .ok (.goto 80, 3) := zd zm_8053 (by decide +kernel)
theorem d_8053_218 {σ : Nat → Nat} {n0 : Nat} {bf : ab_B} : decode (ab_code (zx σ n0 bf).1 8053) 218 = .ok (.iload_n 1, 1) := zd zm_8053 (by decide +kernel)
theorem d_8053_219 {σ : Nat → Nat} {n0 : Nat} {bf : ab_B} : decode (ab_code (zx σ n0 bf).1 8053) 219 = .ok (.iconst 3, 1) := zd zm_8053 (by decide +kernel)
theorem d_8053_220 {σ : Nat → Nat} {n0 : Nat} {bf : ab_B} : decode (ab_code (zx σ n0 bf).1 8053) 220 = .ok (.if_icmp .ne 70, 3) := zd zm_8053 (by decide +kernel)
theorem d_8053_223 {σ : Nat → Nat} {n0 : Nat} {bf : ab_B} : decode (ab_code (zx σ n0 bf).1 8053) 223 = .ok (.aload_n 0, 1) := zd zm_8053 (by decide +kernel)
theorem d_8053_224 {σ : Nat → Nat} {n0 : Nat} {bf : ab_B} : decode (ab_code (zx σ n0 bf).1 8053) 224 = .ok (.iload_n 3, 1) := zd zm_8053 (by decide +kernel)
theorem d_8053_225 {σ : Nat → Nat} {n0 : Nat} {bf : ab_B} : decode (ab_code (zx σ n0 bf).1 8053) 225 = .ok (.invokevirtual 673, 3) := zd zm_8053 (by decide +kernel)
theorem d_8053_228 {σ : Nat → Nat} {n0 : Nat} {bf : ab_B} : decode (ab_code (zx σ n0 bf).1 8053) 228 = .ok (.ifCond .eq 62, 3) := zd zm_8053 (by decide +kernel)
theorem d_8053_231 {σ : Nat → Nat} {n0 : Nat} {bf : ab_B} : decode (ab_code (zx σ n0 bf).1 8053) 231 = .ok (.aload_n 0, 1) := zd zm_8053 (by decide +kernel)
theorem d_8053_232 {σ : Nat → Nat} {n0 : Nat} {bf : ab_B} : decode (ab_code (zx σ n0 bf).1 8053) 232 = .ok (.iload 4, 2) := zd zm_8053 (by decide +kernel)
theorem d_8053_234 {σ : Nat → Nat} {n0 : Nat} {bf : ab_B} : decode (ab_code (zx σ n0 bf).1 8053) 234 = .ok (.invokevirtual 673, 3) := zd zm_8053 (by decide +kernel)
theorem d_8053_237 {σ : Nat → Nat} {n0 : Nat} {bf : ab_B} : decode (ab_code (zx σ n0 bf).1 8053) 237 = .ok (.ifCond .eq 53, 3) := zd zm_8053 (by decide +kernel)
theorem d_8053_240 {σ : Nat → Nat} {n0 : Nat} {bf : ab_B} : decode (ab_code (zx σ n0 bf).1 8053) 240 = .ok (.aload_n 0, 1) := zd zm_8053 (by decide +kernel)
theorem d_8053_241 {σ : Nat → Nat} {n0 : Nat} {bf : ab_B} : decode (ab_code (zx σ n0 bf).1 8053) 241 = .ok (.iload 4, 2) := zd zm_8053 (by decide +kernel)
theorem d_8053_243 {σ : Nat → Nat} {n0 : Nat} {bf : ab_B} : decode (ab_code (zx σ n0 bf).1 8053) 243 = .ok (.invokevirtual 676, 3) := zd zm_8053 (by decide +kernel)
theorem d_8053_246 {σ : Nat → Nat} {n0 : Nat} {bf : ab_B} : decode (ab_code (zx σ n0 bf).1 8053) 246 = .ok (.ifCond .ne 22, 3) := zd zm_8053 (by decide +kernel)
theorem d_8053_249 {σ : Nat → Nat} {n0 : Nat} {bf : ab_B} : decode (ab_code (zx σ n0 bf).1 8053) 249 = .ok (.aload_n 0, 1) := zd zm_8053 (by decide +kernel)
theorem d_8053_250 {σ : Nat → Nat} {n0 : Nat} {bf : ab_B} : decode (ab_code (zx σ n0 bf).1 8053) 250 = .ok (.bipush 10, 2) := zd zm_8053 (by decide +kernel)
theorem d_8053_252 {σ : Nat → Nat} {n0 : Nat} {bf : ab_B} : decode (ab_code (zx σ n0 bf).1 8053) 252 = .ok (.iconst 0, 1) := zd zm_8053 (by decide +kernel)
theorem d_8053_253 {σ : Nat → Nat} {n0 : Nat} {bf : ab_B} : decode (ab_code (zx σ n0 bf).1 8053) 253 = .ok (.iconst 0, 1) := zd zm_8053 (by decide +kernel)
theorem d_8053_254 {σ : Nat → Nat} {n0 : Nat} {bf : ab_B} : decode (ab_code (zx σ n0 bf).1 8053) 254 = .ok (.aload_n 0, 1) := zd zm_8053 (by decide +kernel)
theorem d_8053_255 {σ : Nat → Nat} {n0 : Nat} {bf : ab_B} : decode (ab_code (zx σ n0 bf).1 8053) 255 = .ok (.getfield 206, 3) := zd zm_8053 (by decide +kernel)
theorem d_8053_258 {σ : Nat → Nat} {n0 : Nat} {bf : ab_B} : decode (ab_code (zx σ n0 bf).1 8053) 258 = .ok (.aload_n 0, 1) := zd zm_8053 (by decide +kernel)
theorem d_8053_259 {σ : Nat → Nat} {n0 : Nat} {bf : ab_B} : decode (ab_code (zx σ n0 bf).1 8053) 259 = .ok (.getfield 653, 3) := zd zm_8053 (by decide +kernel)
theorem d_8053_262 {σ : Nat → Nat} {n0 : Nat} {bf : ab_B} : decode (ab_code (zx σ n0 bf).1 8053) 262 = .ok (.iaload, 1) := zd zm_8053 (by decide +kernel)
theorem d_8053_263 {σ : Nat → Nat} {n0 : Nat} {bf : ab_B} : decode (ab_code (zx σ n0 bf).1 8053) 263 = .ok (.invokevirtual 656, 3) := zd zm_8053 (by decide +kernel)
theorem d_8053_266 {σ : Nat → Nat} {n0 : Nat} {bf : ab_B} : decode (ab_code (zx σ n0 bf).1 8053) 266 = .ok (.istore 6, 2) := zd zm_8053 (by decide +kernel)
theorem d_8053_268 {σ : Nat → Nat} {n0 : Nat} {bf : ab_B} : decode (ab_code (zx σ n0 bf).1 8053) 268 = .ok (.aload_n 0, 1) := zd zm_8053 (by decide +kernel)
theorem d_8053_269 {σ : Nat → Nat} {n0 : Nat} {bf : ab_B} : decode (ab_code (zx σ n0 bf).1 8053) 269 = .ok (.bipush 57, 2) := zd zm_8053 (by decide +kernel)
theorem d_8053_271 {σ : Nat → Nat} {n0 : Nat} {bf : ab_B} : decode (ab_code (zx σ n0 bf).1 8053) 271 = .ok (.iconst 0, 1) := zd zm_8053 (by decide +kernel)
theorem d_8053_272 {σ : Nat → Nat} {n0 : Nat} {bf : ab_B} : decode (ab_code (zx σ n0 bf).1 8053) 272 = .ok (.iconst 0, 1) := zd zm_8053 (by decide +kernel)
theorem d_8053_273 {σ : Nat → Nat} {n0 : Nat} {bf : ab_B} : decode (ab_code (zx σ n0 bf).1 8053) 273 = .ok (.iload_n 2, 1) := zd zm_8053 (by decide +kernel)
theorem d_8053_274 {σ : Nat → Nat} {n0 : Nat} {bf : ab_B} : decode (ab_code (zx σ n0 bf).1 8053) 274 = .ok (.invokevirtual 656, 3) := zd zm_8053 (by decide +kernel)
theorem d_8053_277 {σ : Nat → Nat} {n0 : Nat} {bf : ab_B} : decode (ab_code (zx σ n0 bf).1 8053) 277 = .ok (.istore 6, 2) := zd zm_8053 (by decide +kernel)
theorem d_8053_279 {σ : Nat → Nat} {n0 : Nat} {bf : ab_B} : decode (ab_code (zx σ n0 bf).1 8053) 279 = .ok (.aload_n 0, 1) := zd zm_8053 (by decide +kernel)
theorem d_8053_280 {σ : Nat → Nat} {n0 : Nat} {bf : ab_B} : decode (ab_code (zx σ n0 bf).1 8053) 280 = .ok (.bipush 6, 2) := zd zm_8053 (by decide +kernel)
theorem d_8053_282 {σ : Nat → Nat} {n0 : Nat} {bf : ab_B} : decode (ab_code (zx σ n0 bf).1 8053) 282 = .ok (.iconst 0, 1) := zd zm_8053 (by decide +kernel)
theorem d_8053_283 {σ : Nat → Nat} {n0 : Nat} {bf : ab_B} : decode (ab_code (zx σ n0 bf).1 8053) 283 = .ok (.iload_n 2, 1) := zd zm_8053 (by decide +kernel)
theorem d_8053_284 {σ : Nat → Nat} {n0 : Nat} {bf : ab_B} : decode (ab_code (zx σ n0 bf).1 8053) 284 = .ok (.invokevirtual 689, 3) := zd zm_8053 (by decide +kernel)
theorem d_8053_287 {σ : Nat → Nat} {n0 : Nat} {bf : ab_B} : decode (ab_code (zx σ n0 bf).1 8053) 287 = .ok (.goto 8, 3) := zd zm_8053 (by decide +kernel)
theorem d_8053_290 {σ : Nat → Nat} {n0 : Nat} {bf : ab_B} : decode (ab_code (zx σ n0 bf).1 8053) 290 = .ok (.aload_n 0, 1) := zd zm_8053 (by decide +kernel)
theorem d_8053_291 {σ : Nat → Nat} {n0 : Nat} {bf : ab_B} : decode (ab_code (zx σ n0 bf).1 8053) 291 = .ok (.iconst 5, 1) := zd zm_8053 (by decide +kernel)
theorem d_8053_292 {σ : Nat → Nat} {n0 : Nat} {bf : ab_B} : decode (ab_code (zx σ n0 bf).1 8053) 292 = .ok (.invokevirtual 541, 3) := zd zm_8053 (by decide +kernel)
theorem d_8053_295 {σ : Nat → Nat} {n0 : Nat} {bf : ab_B} : decode (ab_code (zx σ n0 bf).1 8053) 295 = .ok (.return_, 1) := zd zm_8053 (by decide +kernel)
def w_X9_added_290 (X : zs_X) (d : Nat) (p0 : Nat) (S : zs_T) (Q : zs_Q) : Prop :=
  (zs_K S p0 = some (.inl 8) ∧ zs_C X d 8027 [.ref p0, .int (5 : Int32)] S (zs_kV (fun S2 => (Q (.returned none) S2)) Q))
theorem u_X9_added_290 {σ : Nat → Nat} {n0 : Nat} {bf : ab_B} {d : Nat} {p0 : Nat} {S : zs_T} {Q : zs_Q} (hB : zt_B bf) (h : w_X9_added_290 (zx σ n0 bf) d p0 S Q) : zs_U (zx σ n0 bf) d 8053 290 [(0, .ref p0)] [] S Q := by
  unfold w_X9_added_290 at h
  refine zu_aload_n d_8053_290 rfl (zs_ra _) ?_
  refine zu_iconst d_8053_291 zi_5 ?_
  obtain ⟨k1, h⟩ := h
  refine zc_8_541 (x0 := (5 : Int32)) hB rfl k1 d_8053_292 (Nat.le_of_ble_eq_true rfl) h (fun S2 h => ?_)
  exact zu_vret d_8053_295 zr_8053 h
def w_X9_added_268 (X : zs_X) (d : Nat) (p0 : Nat) (p2 : Int32) (S : zs_T) (Q : zs_Q) : Prop :=
  (zs_K S p0 = some (.inl 8) ∧ zs_C X d 8012 [.ref p0, .int (57 : Int32), .int (0 : Int32), .int (0 : Int32), .int p2] S (zs_kI (fun v3 S2 => (zs_K S2 p0 = some (.inl 8) ∧ zs_C X d 8049 [.ref p0, .int (6 : Int32), .int (0 : Int32), .int p2] S2 (zs_kV (fun S5 => (Q (.returned none) S5)) Q))) Q))
theorem u_X9_added_268 {σ : Nat → Nat} {n0 : Nat} {bf : ab_B} {d : Nat} {p0 : Nat} {p2 : Int32} {S : zs_T} {Q : zs_Q} (hB : zt_B bf) (h : w_X9_added_268 (zx σ n0 bf) d p0 p2 S Q) : zs_U (zx σ n0 bf) d 8053 268 [(0, .ref p0), (2, .int p2)] [] S Q := by
  unfold w_X9_added_268 at h
  refine zu_aload_n d_8053_268 rfl (zs_ra _) ?_
  refine zu_bipush d_8053_269 zj_57 ?_
  refine zu_iconst d_8053_271 zi_0 ?_
  refine zu_iconst d_8053_272 zi_0 ?_
  refine zu_iload_n d_8053_273 rfl ?_
  obtain ⟨k1, h⟩ := h
  refine zc_8_656 (x0 := (57 : Int32)) (x1 := (0 : Int32)) (x2 := (0 : Int32)) (x3 := p2) hB rfl k1 d_8053_274 (Nat.le_of_ble_eq_true rfl) h (fun v3 S2 h => ?_)
  refine zu_istore d_8053_277 (zs_lt zq_8053 rfl) ?_
  refine zu_aload_n d_8053_279 rfl (zs_ra _) ?_
  refine zu_bipush d_8053_280 zj_6 ?_
  refine zu_iconst d_8053_282 zi_0 ?_
  refine zu_iload_n d_8053_283 rfl ?_
  obtain ⟨k4, h⟩ := h
  refine zc_8_689 (x0 := (6 : Int32)) (x1 := (0 : Int32)) (x2 := p2) hB rfl k4 d_8053_284 (Nat.le_of_ble_eq_true rfl) h (fun S5 h => ?_)
  refine zu_goto (t := 295) d_8053_287 rfl ?_
  exact zu_vret d_8053_295 zr_8053 h
def w_X9_added_218 (X : zs_X) (d : Nat) (p0 : Nat) (p1 : Int32) (p2 : Int32) (p3 : Int32) (p4 : Int32) (S : zs_T) (Q : zs_Q) : Prop :=
  (((¬ p1 = (3 : Int32) → w_X9_added_290 X d p0 S Q) ∧ (¬ (¬ p1 = (3 : Int32)) → (zs_K S p0 = some (.inl 8) ∧ zs_C X d 8043 [.ref p0, .int p3] S (zs_kI (fun v4 S3 => (((v4 = 0 → w_X9_added_290 X d p0 S3 Q) ∧ (¬ (v4 = 0) → (zs_K S3 p0 = some (.inl 8) ∧ zs_C X d 8043 [.ref p0, .int p4] S3 (zs_kI (fun v8 S7 => (((v8 = 0 → w_X9_added_290 X d p0 S7 Q) ∧ (¬ (v8 = 0) → (zs_K S7 p0 = some (.inl 8) ∧ zs_C X d 8044 [.ref p0, .int p4] S7 (zs_kI (fun v12 S11 => (((¬ v12 = 0 → w_X9_added_268 X d p0 p2 S11 Q) ∧ (¬ (¬ v12 = 0) → (zs_K S11 p0 = some (.inl 8) ∧ ∃ b15, (zs_R S11 8096 p0) = some b15 ∧ zs_A S11 b15 0 (zs_I S11 8097 p0) ∧ zs_C X d 8012 [.ref p0, .int (10 : Int32), .int (0 : Int32), .int (0 : Int32), .int (zs_i S11 b15 (zs_I S11 8097 p0).toNatClampNeg)] S11 (zs_kI (fun v19 S18 => (w_X9_added_268 X d p0 p2 S18 Q)) Q)))))) Q)))))) Q)))))) Q)))))
theorem u_X9_added_218 {σ : Nat → Nat} {n0 : Nat} {bf : ab_B} {d : Nat} {p0 : Nat} {p1 : Int32} {p2 : Int32} {p3 : Int32} {p4 : Int32} {S : zs_T} {Q : zs_Q} (hB : zt_B bf) (h : w_X9_added_218 (zx σ n0 bf) d p0 p1 p2 p3 p4 S Q) : zs_U (zx σ n0 bf) d 8053 218 [(0, .ref p0), (1, .int p1), (2, .int p2), (3, .int p3), (4, .int p4)] [] S Q := by
  unfold w_X9_added_218 at h
  refine zu_iload_n d_8053_218 rfl ?_
  refine zu_iconst d_8053_219 zi_3 ?_
  refine zu_cmpne (t := 290) d_8053_220 rfl (fun c1 => ?_) (fun c1 => ?_)
  · have h := h.1 c1
    exact (u_X9_added_290 hB h).weak ⟨rfl, trivial⟩
  · have h := h.2 c1
    refine zu_aload_n d_8053_223 rfl (zs_ra _) ?_
    refine zu_iload_n d_8053_224 rfl ?_
    obtain ⟨k2, h⟩ := h
    refine zc_8_673 (x0 := p3) hB rfl k2 d_8053_225 (Nat.le_of_ble_eq_true rfl) h (fun v4 S3 h => ?_)
    refine zu_ifeq (t := 290) d_8053_228 rfl (fun c5 => ?_) (fun c5 => ?_)
    · have h := h.1 c5
      exact (u_X9_added_290 hB h).weak ⟨rfl, trivial⟩
    · have h := h.2 c5
      refine zu_aload_n d_8053_231 rfl (zs_ra _) ?_
      refine zu_iload d_8053_232 rfl ?_
      obtain ⟨k6, h⟩ := h
      refine zc_8_673 (x0 := p4) hB rfl k6 d_8053_234 (Nat.le_of_ble_eq_true rfl) h (fun v8 S7 h => ?_)
      refine zu_ifeq (t := 290) d_8053_237 rfl (fun c9 => ?_) (fun c9 => ?_)
      · have h := h.1 c9
        exact (u_X9_added_290 hB h).weak ⟨rfl, trivial⟩
      · have h := h.2 c9
        refine zu_aload_n d_8053_240 rfl (zs_ra _) ?_
        refine zu_iload d_8053_241 rfl ?_
        obtain ⟨k10, h⟩ := h
        refine zc_8_676 (x0 := p4) hB rfl k10 d_8053_243 (Nat.le_of_ble_eq_true rfl) h (fun v12 S11 h => ?_)
        refine zu_ifne (t := 268) d_8053_246 rfl (fun c13 => ?_) (fun c13 => ?_)
        · have h := h.1 c13
          exact (u_X9_added_268 hB h).weak ⟨rfl, rfl, trivial⟩
        · have h := h.2 c13
          refine zu_aload_n d_8053_249 rfl (zs_ra _) ?_
          refine zu_bipush d_8053_250 zj_10 ?_
          refine zu_iconst d_8053_252 zi_0 ?_
          refine zu_iconst d_8053_253 zi_0 ?_
          refine zu_aload_n d_8053_254 rfl (zs_ra _) ?_
          obtain ⟨k14, h⟩ := h
          refine zg_8_206 rfl d_8053_255 k14 ?_
          refine zu_aload_n d_8053_258 rfl (zs_ra _) ?_
          refine zg_8_653 rfl d_8053_259 k14 ?_
          obtain ⟨b15, e16, h⟩ := h
          refine zs_stk1 (zs_rfe e16) ?_
          obtain ⟨k17, h⟩ := h
          refine zu_iald (k := 0) d_8053_262 rfl rfl k17 ?_
          refine zc_8_656 (x0 := (10 : Int32)) (x1 := (0 : Int32)) (x2 := (0 : Int32)) (x3 := (zs_i S11 b15 (zs_I S11 8097 p0).toNatClampNeg)) hB rfl k14 d_8053_263 (Nat.le_of_ble_eq_true rfl) h (fun v19 S18 h => ?_)
          refine zu_istore d_8053_266 (zs_lt zq_8053 rfl) ?_
          exact (u_X9_added_268 hB h).weak ⟨rfl, rfl, trivial⟩
def w_X9_added_210 (X : zs_X) (d : Nat) (p2 : Int32) (q0 : Option Nat) (q1 : Int32) (S : zs_T) (Q : zs_Q) : Prop :=
  (∃ b1, q0 = some b1 ∧ zs_K S b1 = some (.inl 8) ∧ zs_C X d 8049 [.ref b1, .int q1, .int (0 : Int32), .int p2] S (zs_kV (fun S4 => (Q (.returned none) S4)) Q))
theorem u_X9_added_210 {σ : Nat → Nat} {n0 : Nat} {bf : ab_B} {d : Nat} {p2 : Int32} {q0 : Option Nat} {q1 : Int32} {S : zs_T} {Q : zs_Q} (hB : zt_B bf) (h : w_X9_added_210 (zx σ n0 bf) d p2 q0 q1 S Q) : zs_U (zx σ n0 bf) d 8053 210 [(2, .int p2)] [.int q1, va_rf q0] S Q := by
  unfold w_X9_added_210 at h
  refine zu_iconst d_8053_210 zi_0 ?_
  refine zu_iload_n d_8053_211 rfl ?_
  obtain ⟨b1, e2, h⟩ := h
  refine zs_stk3 (zs_rfe e2) ?_
  obtain ⟨k3, h⟩ := h
  refine zc_8_689 (x0 := q1) (x1 := (0 : Int32)) (x2 := p2) hB rfl k3 d_8053_212 (Nat.le_of_ble_eq_true rfl) h (fun S4 h => ?_)
  refine zu_goto (t := 295) d_8053_215 rfl ?_
  exact zu_vret d_8053_295 zr_8053 h
def w_X9_added_184 (X : zs_X) (d : Nat) (p0 : Nat) (p2 : Int32) (p3 : Int32) (p4 : Int32) (q0 : Option Nat) (q1 : Int32) (S : zs_T) (Q : zs_Q) : Prop :=
  (∃ b1, q0 = some b1 ∧ zs_K S b1 = some (.inl 8) ∧ zs_C X d 8012 [.ref b1, .int q1, .int (0 : Int32), .int (0 : Int32), .int p2] S (zs_kI (fun v5 S4 => (zs_K S4 p0 = some (.inl 8) ∧ ∃ b7, (zs_R S4 8044 p0) = some b7 ∧ zs_A S4 b7 1 p3 ∧ ((¬ (zs_i S4 b7 p3.toNatClampNeg) = (13 : Int32) → (w_X9_added_210 X d p2 (some p0) p3 S4 Q)) ∧ (¬ (¬ (zs_i S4 b7 p3.toNatClampNeg) = (13 : Int32)) → (w_X9_added_210 X d p2 (some p0) p4 S4 Q))))) Q))
theorem u_X9_added_184 {σ : Nat → Nat} {n0 : Nat} {bf : ab_B} {d : Nat} {p0 : Nat} {p2 : Int32} {p3 : Int32} {p4 : Int32} {q0 : Option Nat} {q1 : Int32} {S : zs_T} {Q : zs_Q} (hB : zt_B bf) (h : w_X9_added_184 (zx σ n0 bf) d p0 p2 p3 p4 q0 q1 S Q) : zs_U (zx σ n0 bf) d 8053 184 [(0, .ref p0), (2, .int p2), (3, .int p3), (4, .int p4)] [.int q1, va_rf q0] S Q := by
  unfold w_X9_added_184 at h
  refine zu_iconst d_8053_184 zi_0 ?_
  refine zu_iconst d_8053_185 zi_0 ?_
  refine zu_iload_n d_8053_186 rfl ?_
  obtain ⟨b1, e2, h⟩ := h
  refine zs_stk4 (zs_rfe e2) ?_
  obtain ⟨k3, h⟩ := h
  refine zc_8_656 (x0 := q1) (x1 := (0 : Int32)) (x2 := (0 : Int32)) (x3 := p2) hB rfl k3 d_8053_187 (Nat.le_of_ble_eq_true rfl) h (fun v5 S4 h => ?_)
  refine zu_istore d_8053_190 (zs_lt zq_8053 rfl) ?_
  refine zu_aload_n d_8053_192 rfl (zs_ra _) ?_
  refine zu_aload_n d_8053_193 rfl (zs_ra _) ?_
  obtain ⟨k6, h⟩ := h
  refine zg_8_90 rfl d_8053_194 k6 ?_
  refine zu_iload_n d_8053_197 rfl ?_
  obtain ⟨b7, e8, h⟩ := h
  refine zs_stk1 (zs_rfe e8) ?_
  obtain ⟨k9, h⟩ := h
  refine zu_bald (k := 1) d_8053_198 rfl (Or.inl rfl) k9 ?_
  refine zu_bipush d_8053_199 zj_13 ?_
  refine zu_cmpne (t := 209) d_8053_201 rfl (fun c10 => ?_) (fun c10 => ?_)
  · have h := h.1 c10
    refine zu_iload_n d_8053_209 rfl ?_
    exact (u_X9_added_210 hB h).weak ⟨rfl, trivial⟩
  · have h := h.2 c10
    refine zu_iload d_8053_204 rfl ?_
    refine zu_goto (t := 210) d_8053_206 rfl ?_
    exact (u_X9_added_210 hB h).weak ⟨rfl, trivial⟩
def w_X9_added_155 (X : zs_X) (d : Nat) (p0 : Nat) (p1 : Int32) (p2 : Int32) (p3 : Int32) (p4 : Int32) (S : zs_T) (Q : zs_Q) : Prop :=
  (((p1 = (9 : Int32) → w_X9_added_218 X d p0 p1 p2 p3 p4 S Q) ∧ (¬ (p1 = (9 : Int32)) → (zs_K S p0 = some (.inl 8) ∧ zs_C X d 8046 [.ref p0, .int p3, .int p4] S (zs_kI (fun v4 S3 => (((v4 = 0 → w_X9_added_218 X d p0 p1 p2 p3 p4 S3 Q) ∧ (¬ (v4 = 0) → (((¬ p1 = (3 : Int32) → (w_X9_added_184 X d p0 p2 p3 p4 (some p0) (51 : Int32) S3 Q)) ∧ (¬ (¬ p1 = (3 : Int32)) → (w_X9_added_184 X d p0 p2 p3 p4 (some p0) (50 : Int32) S3 Q)))))))) Q)))))
theorem u_X9_added_155 {σ : Nat → Nat} {n0 : Nat} {bf : ab_B} {d : Nat} {p0 : Nat} {p1 : Int32} {p2 : Int32} {p3 : Int32} {p4 : Int32} {S : zs_T} {Q : zs_Q} (hB : zt_B bf) (h : w_X9_added_155 (zx σ n0 bf) d p0 p1 p2 p3 p4 S Q) : zs_U (zx σ n0 bf) d 8053 155 [(0, .ref p0), (1, .int p1), (2, .int p2), (3, .int p3), (4, .int p4)] [] S Q := by
  unfold w_X9_added_155 at h
  refine zu_iload_n d_8053_155 rfl ?_
  refine zu_bipush d_8053_156 zj_9 ?_
  refine zu_cmpeq (t := 218) d_8053_158 rfl (fun c1 => ?_) (fun c1 => ?_)
  · have h := h.1 c1
    exact (u_X9_added_218 hB h).weak ⟨rfl, rfl, rfl, rfl, rfl, trivial⟩
  · have h := h.2 c1
    refine zu_aload_n d_8053_161 rfl (zs_ra _) ?_
    refine zu_iload_n d_8053_162 rfl ?_
    refine zu_iload d_8053_163 rfl ?_
    obtain ⟨k2, h⟩ := h
    refine zc_8_682 (x0 := p3) (x1 := p4) hB rfl k2 d_8053_165 (Nat.le_of_ble_eq_true rfl) h (fun v4 S3 h => ?_)
    refine zu_ifeq (t := 218) d_8053_168 rfl (fun c5 => ?_) (fun c5 => ?_)
    · have h := h.1 c5
      exact (u_X9_added_218 hB h).weak ⟨rfl, rfl, rfl, rfl, rfl, trivial⟩
    · have h := h.2 c5
      refine zu_aload_n d_8053_171 rfl (zs_ra _) ?_
      refine zu_iload_n d_8053_172 rfl ?_
      refine zu_iconst d_8053_173 zi_3 ?_
      refine zu_cmpne (t := 182) d_8053_174 rfl (fun c6 => ?_) (fun c6 => ?_)
      · have h := h.1 c6
        refine zu_bipush d_8053_182 zj_51 ?_
        exact (u_X9_added_184 hB h).weak ⟨rfl, rfl, rfl, rfl, trivial⟩
      · have h := h.2 c6
        refine zu_bipush d_8053_177 zj_50 ?_
        refine zu_goto (t := 184) d_8053_179 rfl ?_
        exact (u_X9_added_184 hB h).weak ⟨rfl, rfl, rfl, rfl, trivial⟩
def w_X9_added_146 (X : zs_X) (d : Nat) (p2 : Int32) (p5 : Int32) (q0 : Option Nat) (q1 : Int32) (S : zs_T) (Q : zs_Q) : Prop :=
  (∃ b1, q0 = some b1 ∧ zs_K S b1 = some (.inl 8) ∧ zs_C X d 8049 [.ref b1, .int q1, .int p5, .int p2] S (zs_kV (fun S4 => (Q (.returned none) S4)) Q))
theorem u_X9_added_146 {σ : Nat → Nat} {n0 : Nat} {bf : ab_B} {d : Nat} {p2 : Int32} {p5 : Int32} {q0 : Option Nat} {q1 : Int32} {S : zs_T} {Q : zs_Q} (hB : zt_B bf) (h : w_X9_added_146 (zx σ n0 bf) d p2 p5 q0 q1 S Q) : zs_U (zx σ n0 bf) d 8053 146 [(2, .int p2), (5, .int p5)] [.int q1, va_rf q0] S Q := by
  unfold w_X9_added_146 at h
  refine zu_iload d_8053_146 rfl ?_
  refine zu_iload_n d_8053_148 rfl ?_
  obtain ⟨b1, e2, h⟩ := h
  refine zs_stk3 (zs_rfe e2) ?_
  obtain ⟨k3, h⟩ := h
  refine zc_8_689 (x0 := q1) (x1 := p5) (x2 := p2) hB rfl k3 d_8053_149 (Nat.le_of_ble_eq_true rfl) h (fun S4 h => ?_)
  refine zu_goto (t := 295) d_8053_152 rfl ?_
  exact zu_vret d_8053_295 zr_8053 h
def w_X9_added_121 (X : zs_X) (d : Nat) (p0 : Nat) (p1 : Int32) (p2 : Int32) (p5 : Int32) (S : zs_T) (Q : zs_Q) : Prop :=
  (zs_K S p0 = some (.inl 8) ∧ zs_C X d 8012 [.ref p0, .int ((20 : Int32) + p1), .int (0 : Int32), .int (0 : Int32), .int p2] S (zs_kI (fun v3 S2 => (((¬ p1 = (9 : Int32) → (w_X9_added_146 X d p2 p5 (some p0) (1 : Int32) S2 Q)) ∧ (¬ (¬ p1 = (9 : Int32)) → (w_X9_added_146 X d p2 p5 (some p0) (2 : Int32) S2 Q))))) Q))
theorem u_X9_added_121 {σ : Nat → Nat} {n0 : Nat} {bf : ab_B} {d : Nat} {p0 : Nat} {p1 : Int32} {p2 : Int32} {p5 : Int32} {S : zs_T} {Q : zs_Q} (hB : zt_B bf) (h : w_X9_added_121 (zx σ n0 bf) d p0 p1 p2 p5 S Q) : zs_U (zx σ n0 bf) d 8053 121 [(0, .ref p0), (1, .int p1), (2, .int p2), (5, .int p5)] [] S Q := by
  unfold w_X9_added_121 at h
  refine zu_aload_n d_8053_121 rfl (zs_ra _) ?_
  refine zu_bipush d_8053_122 zj_20 ?_
  refine zu_iload_n d_8053_124 rfl ?_
  refine zu_stk d_8053_125 rfl rfl ?_
  refine zu_iconst d_8053_126 zi_0 ?_
  refine zu_iconst d_8053_127 zi_0 ?_
  refine zu_iload_n d_8053_128 rfl ?_
  obtain ⟨k1, h⟩ := h
  refine zc_8_656 (x0 := ((20 : Int32) + p1)) (x1 := (0 : Int32)) (x2 := (0 : Int32)) (x3 := p2) hB rfl k1 d_8053_129 (Nat.le_of_ble_eq_true rfl) h (fun v3 S2 h => ?_)
  refine zu_istore d_8053_132 (zs_lt zq_8053 rfl) ?_
  refine zu_aload_n d_8053_134 rfl (zs_ra _) ?_
  refine zu_iload_n d_8053_135 rfl ?_
  refine zu_bipush d_8053_136 zj_9 ?_
  refine zu_cmpne (t := 145) d_8053_138 rfl (fun c4 => ?_) (fun c4 => ?_)
  · have h := h.1 c4
    refine zu_iconst d_8053_145 zi_1 ?_
    exact (u_X9_added_146 hB h).weak ⟨rfl, rfl, trivial⟩
  · have h := h.2 c4
    refine zu_iconst d_8053_141 zi_2 ?_
    refine zu_goto (t := 146) d_8053_142 rfl ?_
    exact (u_X9_added_146 hB h).weak ⟨rfl, rfl, trivial⟩
def w_X9_added_76 (X : zs_X) (d : Nat) (p0 : Nat) (p1 : Int32) (p2 : Int32) (p3 : Int32) (p4 : Int32) (q0 : Int32) (S : zs_T) (Q : zs_Q) : Prop :=
  (((¬ p1 = (9 : Int32) → (zs_K S p0 = some (.inl 8) ∧ zs_C X d 8051 [.ref p0, .int p3] S (zs_kI (fun v4 S3 => (((v4 = 0 → w_X9_added_155 X d p0 p1 p2 p3 p4 S3 Q) ∧ (¬ (v4 = 0) → (zs_K S3 p0 = some (.inl 8) ∧ zs_C X d 8051 [.ref p0, .int p4] S3 (zs_kI (fun v8 S7 => (((v8 = 0 → w_X9_added_155 X d p0 p1 p2 p3 p4 S7 Q) ∧ (¬ (v8 = 0) → w_X9_added_121 X d p0 p1 p2 q0 S7 Q)))) Q)))))) Q))) ∧ (¬ (¬ p1 = (9 : Int32)) → (zs_K S p0 = some (.inl 8) ∧ zs_C X d 8054 [.ref p0, .int p3] S (zs_kI (fun v12 S11 => (((v12 = 0 → w_X9_added_155 X d p0 p1 p2 p3 p4 S11 Q) ∧ (¬ (v12 = 0) → (zs_K S11 p0 = some (.inl 8) ∧ zs_C X d 8054 [.ref p0, .int p4] S11 (zs_kI (fun v16 S15 => (((v16 = 0 → w_X9_added_155 X d p0 p1 p2 p3 p4 S15 Q) ∧ (¬ (v16 = 0) → (w_X9_added_121 X d p0 p1 p2 q0 S15 Q))))) Q)))))) Q)))))
theorem u_X9_added_76 {σ : Nat → Nat} {n0 : Nat} {bf : ab_B} {d : Nat} {p0 : Nat} {p1 : Int32} {p2 : Int32} {p3 : Int32} {p4 : Int32} {q0 : Int32} {S : zs_T} {Q : zs_Q} (hB : zt_B bf) (h : w_X9_added_76 (zx σ n0 bf) d p0 p1 p2 p3 p4 q0 S Q) : zs_U (zx σ n0 bf) d 8053 76 [(0, .ref p0), (1, .int p1), (2, .int p2), (3, .int p3), (4, .int p4)] [.int q0] S Q := by
  unfold w_X9_added_76 at h
  refine zu_istore d_8053_76 (zs_lt zq_8053 rfl) ?_
  refine zu_iload_n d_8053_78 rfl ?_
  refine zu_bipush d_8053_79 zj_9 ?_
  refine zu_cmpne (t := 104) d_8053_81 rfl (fun c1 => ?_) (fun c1 => ?_)
  · have h := h.1 c1
    refine zu_aload_n d_8053_104 rfl (zs_ra _) ?_
    refine zu_iload_n d_8053_105 rfl ?_
    obtain ⟨k2, h⟩ := h
    refine zc_8_693 (x0 := p3) hB rfl k2 d_8053_106 (Nat.le_of_ble_eq_true rfl) h (fun v4 S3 h => ?_)
    refine zu_ifeq (t := 155) d_8053_109 rfl (fun c5 => ?_) (fun c5 => ?_)
    · have h := h.1 c5
      exact (u_X9_added_155 hB h).weak ⟨rfl, rfl, rfl, rfl, rfl, trivial⟩
    · have h := h.2 c5
      refine zu_aload_n d_8053_112 rfl (zs_ra _) ?_
      refine zu_iload d_8053_113 rfl ?_
      obtain ⟨k6, h⟩ := h
      refine zc_8_693 (x0 := p4) hB rfl k6 d_8053_115 (Nat.le_of_ble_eq_true rfl) h (fun v8 S7 h => ?_)
      refine zu_ifeq (t := 155) d_8053_118 rfl (fun c9 => ?_) (fun c9 => ?_)
      · have h := h.1 c9
        exact (u_X9_added_155 hB h).weak ⟨rfl, rfl, rfl, rfl, rfl, trivial⟩
      · have h := h.2 c9
        exact (u_X9_added_121 hB h).weak ⟨rfl, rfl, rfl, rfl, trivial⟩
  · have h := h.2 c1
    refine zu_aload_n d_8053_84 rfl (zs_ra _) ?_
    refine zu_iload_n d_8053_85 rfl ?_
    obtain ⟨k10, h⟩ := h
    refine zc_8_696 (x0 := p3) hB rfl k10 d_8053_86 (Nat.le_of_ble_eq_true rfl) h (fun v12 S11 h => ?_)
    refine zu_ifeq (t := 155) d_8053_89 rfl (fun c13 => ?_) (fun c13 => ?_)
    · have h := h.1 c13
      exact (u_X9_added_155 hB h).weak ⟨rfl, rfl, rfl, rfl, rfl, trivial⟩
    · have h := h.2 c13
      refine zu_aload_n d_8053_92 rfl (zs_ra _) ?_
      refine zu_iload d_8053_93 rfl ?_
      obtain ⟨k14, h⟩ := h
      refine zc_8_696 (x0 := p4) hB rfl k14 d_8053_95 (Nat.le_of_ble_eq_true rfl) h (fun v16 S15 h => ?_)
      refine zu_ifeq (t := 155) d_8053_98 rfl (fun c17 => ?_) (fun c17 => ?_)
      · have h := h.1 c17
        exact (u_X9_added_155 hB h).weak ⟨rfl, rfl, rfl, rfl, rfl, trivial⟩
      · have h := h.2 c17
        refine zu_goto (t := 121) d_8053_101 rfl ?_
        exact (u_X9_added_121 hB h).weak ⟨rfl, rfl, rfl, rfl, trivial⟩
def w_X9_added_75 (X : zs_X) (d : Nat) (p0 : Nat) (p1 : Int32) (p2 : Int32) (p3 : Int32) (p4 : Int32) (S : zs_T) (Q : zs_Q) : Prop :=
  (w_X9_added_76 X d p0 p1 p2 p3 p4 (0 : Int32) S Q)
theorem u_X9_added_75 {σ : Nat → Nat} {n0 : Nat} {bf : ab_B} {d : Nat} {p0 : Nat} {p1 : Int32} {p2 : Int32} {p3 : Int32} {p4 : Int32} {S : zs_T} {Q : zs_Q} (hB : zt_B bf) (h : w_X9_added_75 (zx σ n0 bf) d p0 p1 p2 p3 p4 S Q) : zs_U (zx σ n0 bf) d 8053 75 [(0, .ref p0), (1, .int p1), (2, .int p2), (3, .int p3), (4, .int p4)] [] S Q := by
  unfold w_X9_added_75 at h
  refine zu_iconst d_8053_75 zi_0 ?_
  exact (u_X9_added_76 hB h).weak ⟨rfl, rfl, rfl, rfl, rfl, trivial⟩
def w_X9_added_71 (X : zs_X) (d : Nat) (p0 : Nat) (p1 : Int32) (p2 : Int32) (p3 : Int32) (p4 : Int32) (S : zs_T) (Q : zs_Q) : Prop :=
  (w_X9_added_76 X d p0 p1 p2 p3 p4 (1 : Int32) S Q)
theorem u_X9_added_71 {σ : Nat → Nat} {n0 : Nat} {bf : ab_B} {d : Nat} {p0 : Nat} {p1 : Int32} {p2 : Int32} {p3 : Int32} {p4 : Int32} {S : zs_T} {Q : zs_Q} (hB : zt_B bf) (h : w_X9_added_71 (zx σ n0 bf) d p0 p1 p2 p3 p4 S Q) : zs_U (zx σ n0 bf) d 8053 71 [(0, .ref p0), (1, .int p1), (2, .int p2), (3, .int p3), (4, .int p4)] [] S Q := by
  unfold w_X9_added_71 at h
  refine zu_iconst d_8053_71 zi_1 ?_
  refine zu_goto (t := 76) d_8053_72 rfl ?_
  exact (u_X9_added_76 hB h).weak ⟨rfl, rfl, rfl, rfl, rfl, trivial⟩
def w_X9_added_34 (X : zs_X) (d : Nat) (p0 : Nat) (p1 : Int32) (p2 : Int32) (p3 : Int32) (S : zs_T) (Q : zs_Q) : Prop :=
  (zs_K S p0 = some (.inl 8) ∧ ∃ b2, (zs_R S 8091 p0) = some b2 ∧ zs_A S b2 0 (zs_I S 8097 p0) ∧ ∃ b5, (zs_R S 8093 p0) = some b5 ∧ zs_A S b5 2 ((zs_I S 8097 p0) - (1 : Int32)) ∧ (((zs_i S b5 ((zs_I S 8097 p0) - (1 : Int32)).toNatClampNeg) = 0 → w_X9_added_75 X d p0 p1 p2 p3 (zs_i S b2 (zs_I S 8097 p0).toNatClampNeg) S Q) ∧ (¬ ((zs_i S b5 ((zs_I S 8097 p0) - (1 : Int32)).toNatClampNeg) = 0) → (zs_A S b5 2 (zs_I S 8097 p0) ∧ (((zs_i S b5 (zs_I S 8097 p0).toNatClampNeg) = 0 → w_X9_added_75 X d p0 p1 p2 p3 (zs_i S b2 (zs_I S 8097 p0).toNatClampNeg) S Q) ∧ (¬ ((zs_i S b5 (zs_I S 8097 p0).toNatClampNeg) = 0) → w_X9_added_71 X d p0 p1 p2 p3 (zs_i S b2 (zs_I S 8097 p0).toNatClampNeg) S Q))))))
theorem u_X9_added_34 {σ : Nat → Nat} {n0 : Nat} {bf : ab_B} {d : Nat} {p0 : Nat} {p1 : Int32} {p2 : Int32} {p3 : Int32} {S : zs_T} {Q : zs_Q} (hB : zt_B bf) (h : w_X9_added_34 (zx σ n0 bf) d p0 p1 p2 p3 S Q) : zs_U (zx σ n0 bf) d 8053 34 [(0, .ref p0), (1, .int p1), (2, .int p2), (3, .int p3)] [] S Q := by
  unfold w_X9_added_34 at h
  refine zu_aload_n d_8053_34 rfl (zs_ra _) ?_
  obtain ⟨k1, h⟩ := h
  refine zg_8_191 rfl d_8053_35 k1 ?_
  refine zu_aload_n d_8053_38 rfl (zs_ra _) ?_
  refine zg_8_653 rfl d_8053_39 k1 ?_
  obtain ⟨b2, e3, h⟩ := h
  refine zs_stk1 (zs_rfe e3) ?_
  obtain ⟨k4, h⟩ := h
  refine zu_iald (k := 0) d_8053_42 rfl rfl k4 ?_
  refine zu_istore d_8053_43 (zs_lt zq_8053 rfl) ?_
  refine zu_aload_n d_8053_45 rfl (zs_ra _) ?_
  refine zg_8_197 rfl d_8053_46 k1 ?_
  refine zu_aload_n d_8053_49 rfl (zs_ra _) ?_
  refine zg_8_653 rfl d_8053_50 k1 ?_
  refine zu_iconst d_8053_53 zi_1 ?_
  refine zu_stk d_8053_54 rfl rfl ?_
  obtain ⟨b5, e6, h⟩ := h
  refine zs_stk1 (zs_rfe e6) ?_
  obtain ⟨k7, h⟩ := h
  refine zu_bald (k := 2) d_8053_55 rfl (Or.inr rfl) k7 ?_
  refine zu_ifeq (t := 75) d_8053_56 rfl (fun c8 => ?_) (fun c8 => ?_)
  · have h := h.1 c8
    exact (u_X9_added_75 hB h).weak ⟨rfl, rfl, rfl, rfl, rfl, trivial⟩
  · have h := h.2 c8
    refine zu_aload_n d_8053_59 rfl (zs_ra _) ?_
    refine zg_8_197 rfl d_8053_60 k1 ?_
    refine zu_aload_n d_8053_63 rfl (zs_ra _) ?_
    refine zg_8_653 rfl d_8053_64 k1 ?_
    refine zs_stk1 (zs_rfe e6) ?_
    obtain ⟨k9, h⟩ := h
    refine zu_bald (k := 2) d_8053_67 rfl (Or.inr rfl) k9 ?_
    refine zu_ifeq (t := 75) d_8053_68 rfl (fun c10 => ?_) (fun c10 => ?_)
    · have h := h.1 c10
      exact (u_X9_added_75 hB h).weak ⟨rfl, rfl, rfl, rfl, rfl, trivial⟩
    · have h := h.2 c10
      exact (u_X9_added_71 hB h).weak ⟨rfl, rfl, rfl, rfl, rfl, trivial⟩
def w_X9_added (X : zs_X) (d : Nat) (p0 : Nat) (p1 : Int32) (p2 : Int32) (S : zs_T) (Q : zs_Q) : Prop :=
  (zs_K S p0 = some (.inl 8) ∧ zs_C X d 8039 [.ref p0] S (zs_kV (fun S2 => (zs_K S2 p0 = some (.inl 8) ∧ (((zs_I S2 8010 p0) ≤ 0 → (ab_n0 X.1 ≤ p0 ∧ ∀ S7, S7 = zs_sI S2 8097 p0 ((zs_I S2 8097 p0) - (1 : Int32)) → ∃ b10, (zs_R S7 8091 p0) = some b10 ∧ zs_A S2 b10 0 ((zs_I S7 8097 p0) - (1 : Int32)) ∧ w_X9_added_34 X d p0 p1 p2 (zs_i S7 b10 ((zs_I S7 8097 p0) - (1 : Int32)).toNatClampNeg) S7 Q)) ∧ (¬ ((zs_I S2 8010 p0) ≤ 0) → (Q (.returned none) S2))))) Q))
theorem u_X9_added {σ : Nat → Nat} {n0 : Nat} {bf : ab_B} {d : Nat} {p0 : Nat} {p1 : Int32} {p2 : Int32} {S : zs_T} {Q : zs_Q} (hB : zt_B bf) (hd : 1 ≤ d) (h : w_X9_added (zx σ n0 bf) (d - 1) p0 p1 p2 S Q) : zs_C (zx σ n0 bf) d 8053 [.ref p0, .int p1, .int p2] S Q := by
  have hL : lv_args 0 [.ref p0, .int p1, .int p2] = [(0, .ref p0), (1, .int p1), (2, .int p2)] := rfl
  refine zs_C.of1 (hB.2 8053 (by decide) (by decide)) hd (by rw [hL]; exact zs_sub_self _ (by exact ⟨rfl, rfl, rfl, trivial⟩)) ?_
  rw [hL]
  clear hL
  unfold w_X9_added at h
  refine zu_aload_n d_8053_0 rfl (zs_ra _) ?_
  obtain ⟨k1, h⟩ := h
  refine zc_8_670  hB rfl k1 d_8053_1 (Nat.le_of_ble_eq_true rfl) h (fun S2 h => ?_)
  refine zu_aload_n d_8053_4 rfl (zs_ra _) ?_
  obtain ⟨k4, h⟩ := h
  refine zg_8_444 rfl d_8053_5 k4 ?_
  refine zu_ifle (t := 12) d_8053_8 rfl (fun c5 => ?_) (fun c5 => ?_)
  · have h := h.1 c5
    refine zu_aload_n d_8053_12 rfl (zs_ra _) ?_
    refine zu_dup d_8053_13 rfl ?_
    refine zg_8_653 rfl d_8053_14 k4 ?_
    refine zu_iconst d_8053_17 zi_1 ?_
    refine zu_stk d_8053_18 rfl rfl ?_
    obtain ⟨k6, h⟩ := h
    refine zp_8_653 (v := ((zs_I S2 8097 p0) - (1 : Int32))) rfl d_8053_19 k4 k6 ?_
    generalize e8 : zs_sI S2 8097 p0 ((zs_I S2 8097 p0) - (1 : Int32)) = S7
    have h := h S7 e8.symm
    have K9 : ∀ b, zs_K S7 b = zs_K S2 b := zs_Kt e8 (zs_KsI _ _ _ _) (fun _ => rfl)
    refine zu_aload_n d_8053_22 rfl (zs_ra _) ?_
    refine zg_8_191 rfl d_8053_23 ((K9 _).trans k4) ?_
    refine zu_aload_n d_8053_26 rfl (zs_ra _) ?_
    refine zg_8_653 rfl d_8053_27 ((K9 _).trans k4) ?_
    refine zu_iconst d_8053_30 zi_1 ?_
    refine zu_stk d_8053_31 rfl rfl ?_
    obtain ⟨b10, e11, h⟩ := h
    refine zs_stk1 (zs_rfe e11) ?_
    obtain ⟨k12, h⟩ := h
    refine zu_iald (k := 0) d_8053_32 rfl rfl (zs_Ak K9 k12) ?_
    refine zu_istore_n d_8053_33 (zs_lt zq_8053 rfl) ?_
    exact (u_X9_added_34 hB h).weak ⟨rfl, rfl, rfl, rfl, trivial⟩
  · have h := h.2 c5
    exact zu_vret d_8053_11 zr_8053 h
/-! SchemaPascalModel.isBoolean(I)Z -/
theorem zm_8054 {σ : Nat → Nat} {n0 : Nat} {bf : ab_B} : ab_code (zx σ n0 bf).1 8054 = prog_17_method_34_code := rfl
theorem zq_8054 {σ : Nat → Nat} {n0 : Nat} {bf : ab_B} : ab_maxL (zx σ n0 bf).1 8054 = 2 := rfl
theorem zr_8054 {σ : Nat → Nat} {n0 : Nat} {bf : ab_B} : ab_ret (zx σ n0 bf).1 8054 = (Option.some Jvm.ClassFile.FieldType.boolean) := rfl
theorem d_8054_0 {σ : Nat → Nat} {n0 : Nat} {bf : ab_B} : decode (ab_code (zx σ n0 bf).1 8054) 0 = .ok (.aload_n 0, 1) := zd zm_8054 (by decide +kernel)
theorem d_8054_1 {σ : Nat → Nat} {n0 : Nat} {bf : ab_B} : decode (ab_code (zx σ n0 bf).1 8054) 1 = .ok (.iload_n 1, 1) := zd zm_8054 (by decide +kernel)
theorem d_8054_2 {σ : Nat → Nat} {n0 : Nat} {bf : ab_B} : decode (ab_code (zx σ n0 bf).1 8054) 2 = .ok (.invokevirtual 564, 3) := zd zm_8054 (by decide +kernel)
theorem d_8054_5 {σ : Nat → Nat} {n0 : Nat} {bf : ab_B} : decode (ab_code (zx σ n0 bf).1 8054) 5 = .ok (.ifCond .eq 16, 3) := zd zm_8054 (by decide +kernel)
theorem d_8054_8 {σ : Nat → Nat} {n0 : Nat} {bf : ab_B} : decode (ab_code (zx σ n0 bf).1 8054) 8 = .ok (.aload_n 0, 1) := zd zm_8054 (by decide +kernel)
theorem d_8054_9 {σ : Nat → Nat} {n0 : Nat} {bf : ab_B} : decode (ab_code (zx σ n0 bf).1 8054) 9 = .ok (.iload_n 1, 1) := zd zm_8054 (by decide +kernel)
theorem d_8054_10 {σ : Nat → Nat} {n0 : Nat} {bf : ab_B} : decode (ab_code (zx σ n0 bf).1 8054) 10 = .ok (.invokevirtual 561, 3) := zd zm_8054 (by decide +kernel)
theorem d_8054_13 {σ : Nat → Nat} {n0 : Nat} {bf : ab_B} : decode (ab_code (zx σ n0 bf).1 8054) 13 = .ok (.iconst 2, 1) := zd zm_8054 (by decide +kernel)
theorem d_8054_14 {σ : Nat → Nat} {n0 : Nat} {bf : ab_B} : decode (ab_code (zx σ n0 bf).1 8054) 14 = .ok (.if_icmp .ne 7, 3) := zd zm_8054 (by decide +kernel)
theorem d_8054_17 {σ : Nat → Nat} {n0 : Nat} {bf : ab_B} : decode (ab_code (zx σ n0 bf).1 8054) 17 = .ok (.iconst 1, 1) := zd zm_8054 (by decide +kernel)
theorem d_8054_18 {σ : Nat → Nat} {n0 : Nat} {bf : ab_B} : decode (ab_code (zx σ n0 bf).1 8054) 18 = .ok (.goto 4, 3) := zd zm_8054 (by decide +kernel)
theorem d_8054_21 {σ : Nat → Nat} {n0 : Nat} {bf : ab_B} : decode (ab_code (zx σ n0 bf).1 8054) 21 = .ok (.iconst 0, 1) := zd zm_8054 (by decide +kernel)
theorem d_8054_22 {σ : Nat → Nat} {n0 : Nat} {bf : ab_B} : decode (ab_code (zx σ n0 bf).1 8054) 22 = .ok (.ireturn, 1) := zd zm_8054 (by decide +kernel)
def w_X9_isBoolean (X : zs_X) (d : Nat) (p0 : Nat) (p1 : Int32) (S : zs_T) (Q : zs_Q) : Prop :=
  (zs_K S p0 = some (.inl 8) ∧ zs_C X d 8036 [.ref p0, .int p1] S (zs_kI (fun v3 S2 => (((v3 = 0 → (Q (.returned (some (.int (0 : Int32)))) S2)) ∧ (¬ (v3 = 0) → (zs_K S2 p0 = some (.inl 8) ∧ zs_C X d 8042 [.ref p0, .int p1] S2 (zs_kI (fun v7 S6 => (((¬ v7 = (2 : Int32) → (Q (.returned (some (.int (0 : Int32)))) S6)) ∧ (¬ (¬ v7 = (2 : Int32)) → (Q (.returned (some (.int (1 : Int32)))) S6))))) Q)))))) Q))
theorem u_X9_isBoolean {σ : Nat → Nat} {n0 : Nat} {bf : ab_B} {d : Nat} {p0 : Nat} {p1 : Int32} {S : zs_T} {Q : zs_Q} (hB : zt_B bf) (hd : 1 ≤ d) (h : w_X9_isBoolean (zx σ n0 bf) (d - 1) p0 p1 S Q) : zs_C (zx σ n0 bf) d 8054 [.ref p0, .int p1] S Q := by
  have hL : lv_args 0 [.ref p0, .int p1] = [(0, .ref p0), (1, .int p1)] := rfl
  refine zs_C.of1 (hB.2 8054 (by decide) (by decide)) hd (by rw [hL]; exact zs_sub_self _ (by exact ⟨rfl, rfl, trivial⟩)) ?_
  rw [hL]
  clear hL
  unfold w_X9_isBoolean at h
  refine zu_aload_n d_8054_0 rfl (zs_ra _) ?_
  refine zu_iload_n d_8054_1 rfl ?_
  obtain ⟨k1, h⟩ := h
  refine zc_8_564 (x0 := p1) hB rfl k1 d_8054_2 (Nat.le_of_ble_eq_true rfl) h (fun v3 S2 h => ?_)
  refine zu_ifeq (t := 21) d_8054_5 rfl (fun c4 => ?_) (fun c4 => ?_)
  · have h := h.1 c4
    refine zu_iconst d_8054_21 zi_0 ?_
    exact zu_iret d_8054_22 zr_8054 (zs_b_n (Or.inl rfl)) h
  · have h := h.2 c4
    refine zu_aload_n d_8054_8 rfl (zs_ra _) ?_
    refine zu_iload_n d_8054_9 rfl ?_
    obtain ⟨k5, h⟩ := h
    refine zc_8_561 (x0 := p1) hB rfl k5 d_8054_10 (Nat.le_of_ble_eq_true rfl) h (fun v7 S6 h => ?_)
    refine zu_iconst d_8054_13 zi_2 ?_
    refine zu_cmpne (t := 21) d_8054_14 rfl (fun c8 => ?_) (fun c8 => ?_)
    · have h := h.1 c8
      refine zu_iconst d_8054_21 zi_0 ?_
      exact zu_iret d_8054_22 zr_8054 (zs_b_n (Or.inl rfl)) h
    · have h := h.2 c8
      refine zu_iconst d_8054_17 zi_1 ?_
      refine zu_goto (t := 22) d_8054_18 rfl ?_
      exact zu_iret d_8054_22 zr_8054 (zs_b_n (Or.inr rfl)) h
/-! SchemaPascalModel.muls()V -/
theorem zm_8055 {σ : Nat → Nat} {n0 : Nat} {bf : ab_B} : ab_code (zx σ n0 bf).1 8055 = prog_17_method_63_code := rfl
theorem zq_8055 {σ : Nat → Nat} {n0 : Nat} {bf : ab_B} : ab_maxL (zx σ n0 bf).1 8055 = 2 := rfl
theorem zr_8055 {σ : Nat → Nat} {n0 : Nat} {bf : ab_B} : ab_ret (zx σ n0 bf).1 8055 = (Option.none : Option Jvm.ClassFile.FieldType) := rfl
theorem d_8055_0 {σ : Nat → Nat} {n0 : Nat} {bf : ab_B} : decode (ab_code (zx σ n0 bf).1 8055) 0 = .ok (.aload_n 0, 1) := zd zm_8055 (by decide +kernel)
theorem d_8055_1 {σ : Nat → Nat} {n0 : Nat} {bf : ab_B} : decode (ab_code (zx σ n0 bf).1 8055) 1 = .ok (.iconst 3, 1) := zd zm_8055 (by decide +kernel)
theorem d_8055_2 {σ : Nat → Nat} {n0 : Nat} {bf : ab_B} : decode (ab_code (zx σ n0 bf).1 8055) 2 = .ok (.invokevirtual 535, 3) := zd zm_8055 (by decide +kernel)
theorem d_8055_5 {σ : Nat → Nat} {n0 : Nat} {bf : ab_B} : decode (ab_code (zx σ n0 bf).1 8055) 5 = .ok (.ifCond .eq 7, 3) := zd zm_8055 (by decide +kernel)
theorem d_8055_8 {σ : Nat → Nat} {n0 : Nat} {bf : ab_B} : decode (ab_code (zx σ n0 bf).1 8055) 8 = .ok (.iconst 5, 1) := zd zm_8055 (by decide +kernel)
theorem d_8055_9 {σ : Nat → Nat} {n0 : Nat} {bf : ab_B} : decode (ab_code (zx σ n0 bf).1 8055) 9 = .ok (.goto 46, 3) := zd zm_8055 (by decide +kernel)
theorem d_8055_12 {σ : Nat → Nat} {n0 : Nat} {bf : ab_B} : decode (ab_code (zx σ n0 bf).1 8055) 12 = .ok (.aload_n 0, 1) := zd zm_8055 (by decide +kernel)
theorem d_8055_13 {σ : Nat → Nat} {n0 : Nat} {bf : ab_B} : decode (ab_code (zx σ n0 bf).1 8055) 13 = .ok (.bipush 29, 2) := zd zm_8055 (by decide +kernel)
theorem d_8055_15 {σ : Nat → Nat} {n0 : Nat} {bf : ab_B} : decode (ab_code (zx σ n0 bf).1 8055) 15 = .ok (.invokevirtual 544, 3) := zd zm_8055 (by decide +kernel)
theorem d_8055_18 {σ : Nat → Nat} {n0 : Nat} {bf : ab_B} : decode (ab_code (zx σ n0 bf).1 8055) 18 = .ok (.ifCond .eq 8, 3) := zd zm_8055 (by decide +kernel)
theorem d_8055_21 {σ : Nat → Nat} {n0 : Nat} {bf : ab_B} : decode (ab_code (zx σ n0 bf).1 8055) 21 = .ok (.bipush 6, 2) := zd zm_8055 (by decide +kernel)
theorem d_8055_23 {σ : Nat → Nat} {n0 : Nat} {bf : ab_B} : decode (ab_code (zx σ n0 bf).1 8055) 23 = .ok (.goto 32, 3) := zd zm_8055 (by decide +kernel)
theorem d_8055_26 {σ : Nat → Nat} {n0 : Nat} {bf : ab_B} : decode (ab_code (zx σ n0 bf).1 8055) 26 = .ok (.aload_n 0, 1) := zd zm_8055 (by decide +kernel)
theorem d_8055_27 {σ : Nat → Nat} {n0 : Nat} {bf : ab_B} : decode (ab_code (zx σ n0 bf).1 8055) 27 = .ok (.bipush 30, 2) := zd zm_8055 (by decide +kernel)
theorem d_8055_29 {σ : Nat → Nat} {n0 : Nat} {bf : ab_B} : decode (ab_code (zx σ n0 bf).1 8055) 29 = .ok (.invokevirtual 544, 3) := zd zm_8055 (by decide +kernel)
theorem d_8055_32 {σ : Nat → Nat} {n0 : Nat} {bf : ab_B} : decode (ab_code (zx σ n0 bf).1 8055) 32 = .ok (.ifCond .eq 8, 3) := zd zm_8055 (by decide +kernel)
theorem d_8055_35 {σ : Nat → Nat} {n0 : Nat} {bf : ab_B} : decode (ab_code (zx σ n0 bf).1 8055) 35 = .ok (.bipush 7, 2) := zd zm_8055 (by decide +kernel)
theorem d_8055_37 {σ : Nat → Nat} {n0 : Nat} {bf : ab_B} : decode (ab_code (zx σ n0 bf).1 8055) 37 = .ok (.goto 18, 3) := zd zm_8055 (by decide +kernel)
theorem d_8055_40 {σ : Nat → Nat} {n0 : Nat} {bf : ab_B} : decode (ab_code (zx σ n0 bf).1 8055) 40 = .ok (.aload_n 0, 1) := zd zm_8055 (by decide +kernel)
theorem d_8055_41 {σ : Nat → Nat} {n0 : Nat} {bf : ab_B} : decode (ab_code (zx σ n0 bf).1 8055) 41 = .ok (.bipush 31, 2) := zd zm_8055 (by decide +kernel)
theorem d_8055_43 {σ : Nat → Nat} {n0 : Nat} {bf : ab_B} : decode (ab_code (zx σ n0 bf).1 8055) 43 = .ok (.invokevirtual 544, 3) := zd zm_8055 (by decide +kernel)
theorem d_8055_46 {σ : Nat → Nat} {n0 : Nat} {bf : ab_B} : decode (ab_code (zx σ n0 bf).1 8055) 46 = .ok (.ifCond .eq 8, 3) := zd zm_8055 (by decide +kernel)
theorem d_8055_49 {σ : Nat → Nat} {n0 : Nat} {bf : ab_B} : decode (ab_code (zx σ n0 bf).1 8055) 49 = .ok (.bipush 8, 2) := zd zm_8055 (by decide +kernel)
theorem d_8055_51 {σ : Nat → Nat} {n0 : Nat} {bf : ab_B} : decode (ab_code (zx σ n0 bf).1 8055) 51 = .ok (.goto 4, 3) := zd zm_8055 (by decide +kernel)
theorem d_8055_54 {σ : Nat → Nat} {n0 : Nat} {bf : ab_B} : decode (ab_code (zx σ n0 bf).1 8055) 54 = .ok (.iconst 0, 1) := zd zm_8055 (by decide +kernel)
theorem d_8055_55 {σ : Nat → Nat} {n0 : Nat} {bf : ab_B} : decode (ab_code (zx σ n0 bf).1 8055) 55 = .ok (.istore_n 1, 1) := zd zm_8055 (by decide +kernel)
theorem d_8055_56 {σ : Nat → Nat} {n0 : Nat} {bf : ab_B} : decode (ab_code (zx σ n0 bf).1 8055) 56 = .ok (.iload_n 1, 1) := zd zm_8055 (by decide +kernel)
theorem d_8055_57 {σ : Nat → Nat} {n0 : Nat} {bf : ab_B} : decode (ab_code (zx σ n0 bf).1 8055) 57 = .ok (.ifCond .ne 4, 3) := zd zm_8055 (by decide +kernel)
theorem d_8055_60 {σ : Nat → Nat} {n0 : Nat} {bf : ab_B} : decode (ab_code (zx σ n0 bf).1 8055) 60 = .ok (.return_, 1) := zd zm_8055 (by decide +kernel)
theorem d_8055_61 {σ : Nat → Nat} {n0 : Nat} {bf : ab_B} : decode (ab_code (zx σ n0 bf).1 8055) 61 = .ok (.aload_n 0, 1) := zd zm_8055 (by decide +kernel)
theorem d_8055_62 {σ : Nat → Nat} {n0 : Nat} {bf : ab_B} : decode (ab_code (zx σ n0 bf).1 8055) 62 = .ok (.invokevirtual 667, 3) := zd zm_8055 (by decide +kernel)
theorem d_8055_65 {σ : Nat → Nat} {n0 : Nat} {bf : ab_B} : decode (ab_code (zx σ n0 bf).1 8055) 65 = .ok (.aload_n 0, 1) := zd zm_8055 (by decide +kernel)
theorem d_8055_66 {σ : Nat → Nat} {n0 : Nat} {bf : ab_B} : decode (ab_code (zx σ n0 bf).1 8055) 66 = .ok (.bipush 10, 2) := zd zm_8055 (by decide +kernel)
theorem d_8055_68 {σ : Nat → Nat} {n0 : Nat} {bf : ab_B} : decode (ab_code (zx σ n0 bf).1 8055) 68 = .ok (.iconst 0, 1) := zd zm_8055 (by decide +kernel)
theorem d_8055_69 {σ : Nat → Nat} {n0 : Nat} {bf : ab_B} : decode (ab_code (zx σ n0 bf).1 8055) 69 = .ok (.iconst 0, 1) := zd zm_8055 (by decide +kernel)
theorem d_8055_70 {σ : Nat → Nat} {n0 : Nat} {bf : ab_B} : decode (ab_code (zx σ n0 bf).1 8055) 70 = .ok (.iconst 0, 1) := zd zm_8055 (by decide +kernel)
theorem d_8055_71 {σ : Nat → Nat} {n0 : Nat} {bf : ab_B} : decode (ab_code (zx σ n0 bf).1 8055) 71 = .ok (.invokevirtual 649, 3) := zd zm_8055 (by decide +kernel)
theorem d_8055_74 {σ : Nat → Nat} {n0 : Nat} {bf : ab_B} : decode (ab_code (zx σ n0 bf).1 8055) 74 = .ok (.aload_n 0, 1) := zd zm_8055 (by decide +kernel)
theorem d_8055_75 {σ : Nat → Nat} {n0 : Nat} {bf : ab_B} : decode (ab_code (zx σ n0 bf).1 8055) 75 = .ok (.bipush 11, 2) := zd zm_8055 (by decide +kernel)
theorem d_8055_77 {σ : Nat → Nat} {n0 : Nat} {bf : ab_B} : decode (ab_code (zx σ n0 bf).1 8055) 77 = .ok (.iload_n 1, 1) := zd zm_8055 (by decide +kernel)
theorem d_8055_78 {σ : Nat → Nat} {n0 : Nat} {bf : ab_B} : decode (ab_code (zx σ n0 bf).1 8055) 78 = .ok (.aload_n 0, 1) := zd zm_8055 (by decide +kernel)
theorem d_8055_79 {σ : Nat → Nat} {n0 : Nat} {bf : ab_B} : decode (ab_code (zx σ n0 bf).1 8055) 79 = .ok (.getfield 450, 3) := zd zm_8055 (by decide +kernel)
theorem d_8055_82 {σ : Nat → Nat} {n0 : Nat} {bf : ab_B} : decode (ab_code (zx σ n0 bf).1 8055) 82 = .ok (.iconst 0, 1) := zd zm_8055 (by decide +kernel)
theorem d_8055_83 {σ : Nat → Nat} {n0 : Nat} {bf : ab_B} : decode (ab_code (zx σ n0 bf).1 8055) 83 = .ok (.invokevirtual 649, 3) := zd zm_8055 (by decide +kernel)
theorem d_8055_86 {σ : Nat → Nat} {n0 : Nat} {bf : ab_B} : decode (ab_code (zx σ n0 bf).1 8055) 86 = .ok (.aload_n 0, 1) := zd zm_8055 (by decide +kernel)
theorem d_8055_87 {σ : Nat → Nat} {n0 : Nat} {bf : ab_B} : decode (ab_code (zx σ n0 bf).1 8055) 87 = .ok (.bipush 12, 2) := zd zm_8055 (by decide +kernel)
theorem d_8055_89 {σ : Nat → Nat} {n0 : Nat} {bf : ab_B} : decode (ab_code (zx σ n0 bf).1 8055) 89 = .ok (.iconst 0, 1) := zd zm_8055 (by decide +kernel)
theorem d_8055_90 {σ : Nat → Nat} {n0 : Nat} {bf : ab_B} : decode (ab_code (zx σ n0 bf).1 8055) 90 = .ok (.iconst 0, 1) := zd zm_8055 (by decide +kernel)
theorem d_8055_91 {σ : Nat → Nat} {n0 : Nat} {bf : ab_B} : decode (ab_code (zx σ n0 bf).1 8055) 91 = .ok (.iconst 0, 1) := zd zm_8055 (by decide +kernel)
theorem d_8055_92 {σ : Nat → Nat} {n0 : Nat} {bf : ab_B} : decode (ab_code (zx σ n0 bf).1 8055) 92 = .ok (.invokevirtual 649, 3) := zd zm_8055 (by decide +kernel)
theorem d_8055_95 {σ : Nat → Nat} {n0 : Nat} {bf : ab_B} : decode (ab_code (zx σ n0 bf).1 8055) 95 = .ok (.aload_n 0, 1) := zd zm_8055 (by decide +kernel)
theorem d_8055_96 {σ : Nat → Nat} {n0 : Nat} {bf : ab_B} : decode (ab_code (zx σ n0 bf).1 8055) 96 = .ok (.invokevirtual 538, 3) := zd zm_8055 (by decide +kernel)
theorem d_8055_99 {σ : Nat → Nat} {n0 : Nat} {bf : ab_B} : decode (ab_code (zx σ n0 bf).1 8055) 99 = .ok (.return_, 1) := zd zm_8055 (by decide +kernel)
def w_X9_muls_86 (X : zs_X) (d : Nat) (p0 : Nat) (S : zs_T) (Q : zs_Q) : Prop :=
  (zs_K S p0 = some (.inl 8) ∧ zs_C X d 8030 [.ref p0, .int (12 : Int32), .int (0 : Int32), .int (0 : Int32), .int (0 : Int32)] S (zs_kV (fun S2 => (zs_K S2 p0 = some (.inl 8) ∧ zs_C X d 8014 [.ref p0] S2 (zs_kV (fun S5 => (Q (.returned none) S5)) Q))) Q))
theorem u_X9_muls_86 {σ : Nat → Nat} {n0 : Nat} {bf : ab_B} {d : Nat} {p0 : Nat} {S : zs_T} {Q : zs_Q} (hB : zt_B bf) (h : w_X9_muls_86 (zx σ n0 bf) d p0 S Q) : zs_U (zx σ n0 bf) d 8055 86 [(0, .ref p0)] [] S Q := by
  unfold w_X9_muls_86 at h
  refine zu_aload_n d_8055_86 rfl (zs_ra _) ?_
  refine zu_bipush d_8055_87 zj_12 ?_
  refine zu_iconst d_8055_89 zi_0 ?_
  refine zu_iconst d_8055_90 zi_0 ?_
  refine zu_iconst d_8055_91 zi_0 ?_
  obtain ⟨k1, h⟩ := h
  refine zc_8_649 (x0 := (12 : Int32)) (x1 := (0 : Int32)) (x2 := (0 : Int32)) (x3 := (0 : Int32)) hB rfl k1 d_8055_92 (Nat.le_of_ble_eq_true rfl) h (fun S2 h => ?_)
  refine zu_aload_n d_8055_95 rfl (zs_ra _) ?_
  obtain ⟨k4, h⟩ := h
  refine zc_8_538  hB rfl k4 d_8055_96 (Nat.le_of_ble_eq_true rfl) h (fun S5 h => ?_)
  exact zu_vret d_8055_99 zr_8055 h
def w_X9_muls_55 (X : zs_X) (d : Nat) (p0 : Nat) (q0 : Int32) (S : zs_T) (Q : zs_Q) : Prop :=
  (((¬ q0 = 0 → (zs_K S p0 = some (.inl 8) ∧ zs_C X d 8035 [.ref p0] S (zs_kV (fun S3 => (zs_K S3 p0 = some (.inl 8) ∧ zs_C X d 8030 [.ref p0, .int (10 : Int32), .int (0 : Int32), .int (0 : Int32), .int (0 : Int32)] S3 (zs_kV (fun S6 => (zs_K S6 p0 = some (.inl 8) ∧ zs_C X d 8030 [.ref p0, .int (11 : Int32), .int q0, .int (zs_I S6 8007 p0), .int (0 : Int32)] S6 (zs_kV (fun S9 => w_X9_muls_86 X d p0 S9 Q) Q))) Q))) Q))) ∧ (¬ (¬ q0 = 0) → (Q (.returned none) S))))
theorem u_X9_muls_55 {σ : Nat → Nat} {n0 : Nat} {bf : ab_B} {d : Nat} {p0 : Nat} {q0 : Int32} {S : zs_T} {Q : zs_Q} (hB : zt_B bf) (h : w_X9_muls_55 (zx σ n0 bf) d p0 q0 S Q) : zs_U (zx σ n0 bf) d 8055 55 [(0, .ref p0)] [.int q0] S Q := by
  unfold w_X9_muls_55 at h
  refine zu_istore_n d_8055_55 (zs_lt zq_8055 rfl) ?_
  refine zu_iload_n d_8055_56 rfl ?_
  refine zu_ifne (t := 61) d_8055_57 rfl (fun c1 => ?_) (fun c1 => ?_)
  · have h := h.1 c1
    refine zu_aload_n d_8055_61 rfl (zs_ra _) ?_
    obtain ⟨k2, h⟩ := h
    refine zc_8_667  hB rfl k2 d_8055_62 (Nat.le_of_ble_eq_true rfl) h (fun S3 h => ?_)
    refine zu_aload_n d_8055_65 rfl (zs_ra _) ?_
    refine zu_bipush d_8055_66 zj_10 ?_
    refine zu_iconst d_8055_68 zi_0 ?_
    refine zu_iconst d_8055_69 zi_0 ?_
    refine zu_iconst d_8055_70 zi_0 ?_
    obtain ⟨k5, h⟩ := h
    refine zc_8_649 (x0 := (10 : Int32)) (x1 := (0 : Int32)) (x2 := (0 : Int32)) (x3 := (0 : Int32)) hB rfl k5 d_8055_71 (Nat.le_of_ble_eq_true rfl) h (fun S6 h => ?_)
    refine zu_aload_n d_8055_74 rfl (zs_ra _) ?_
    refine zu_bipush d_8055_75 zj_11 ?_
    refine zu_iload_n d_8055_77 rfl ?_
    refine zu_aload_n d_8055_78 rfl (zs_ra _) ?_
    obtain ⟨k8, h⟩ := h
    refine zg_8_450 rfl d_8055_79 k8 ?_
    refine zu_iconst d_8055_82 zi_0 ?_
    refine zc_8_649 (x0 := (11 : Int32)) (x1 := q0) (x2 := (zs_I S6 8007 p0)) (x3 := (0 : Int32)) hB rfl k8 d_8055_83 (Nat.le_of_ble_eq_true rfl) h (fun S9 h => ?_)
    exact (u_X9_muls_86 hB h).weak ⟨rfl, trivial⟩
  · have h := h.2 c1
    exact zu_vret d_8055_60 zr_8055 h
def w_X9_muls_49 (X : zs_X) (d : Nat) (p0 : Nat) (S : zs_T) (Q : zs_Q) : Prop :=
  (w_X9_muls_55 X d p0 (8 : Int32) S Q)
theorem u_X9_muls_49 {σ : Nat → Nat} {n0 : Nat} {bf : ab_B} {d : Nat} {p0 : Nat} {S : zs_T} {Q : zs_Q} (hB : zt_B bf) (h : w_X9_muls_49 (zx σ n0 bf) d p0 S Q) : zs_U (zx σ n0 bf) d 8055 49 [(0, .ref p0)] [] S Q := by
  unfold w_X9_muls_49 at h
  refine zu_bipush d_8055_49 zj_8 ?_
  refine zu_goto (t := 55) d_8055_51 rfl ?_
  exact (u_X9_muls_55 hB h).weak ⟨rfl, trivial⟩
def w_X9_muls_54 (X : zs_X) (d : Nat) (p0 : Nat) (S : zs_T) (Q : zs_Q) : Prop :=
  (w_X9_muls_55 X d p0 (0 : Int32) S Q)
theorem u_X9_muls_54 {σ : Nat → Nat} {n0 : Nat} {bf : ab_B} {d : Nat} {p0 : Nat} {S : zs_T} {Q : zs_Q} (hB : zt_B bf) (h : w_X9_muls_54 (zx σ n0 bf) d p0 S Q) : zs_U (zx σ n0 bf) d 8055 54 [(0, .ref p0)] [] S Q := by
  unfold w_X9_muls_54 at h
  refine zu_iconst d_8055_54 zi_0 ?_
  exact (u_X9_muls_55 hB h).weak ⟨rfl, trivial⟩
def w_X9_muls (X : zs_X) (d : Nat) (p0 : Nat) (S : zs_T) (Q : zs_Q) : Prop :=
  (zs_K S p0 = some (.inl 8) ∧ zs_C X d 8029 [.ref p0, .int (3 : Int32)] S (zs_kI (fun v3 S2 => (((v3 = 0 → (zs_K S2 p0 = some (.inl 8) ∧ zs_C X d 8026 [.ref p0, .int (29 : Int32)] S2 (zs_kI (fun v7 S6 => (((v7 = 0 → (zs_K S6 p0 = some (.inl 8) ∧ zs_C X d 8026 [.ref p0, .int (30 : Int32)] S6 (zs_kI (fun v11 S10 => (((v11 = 0 → (zs_K S10 p0 = some (.inl 8) ∧ zs_C X d 8026 [.ref p0, .int (31 : Int32)] S10 (zs_kI (fun v15 S14 => (((v15 = 0 → w_X9_muls_54 X d p0 S14 Q) ∧ (¬ (v15 = 0) → w_X9_muls_49 X d p0 S14 Q)))) Q))) ∧ (¬ (v11 = 0) → (w_X9_muls_55 X d p0 (7 : Int32) S10 Q))))) Q))) ∧ (¬ (v7 = 0) → (w_X9_muls_55 X d p0 (6 : Int32) S6 Q))))) Q))) ∧ (¬ (v3 = 0) → (w_X9_muls_55 X d p0 (5 : Int32) S2 Q))))) Q))
theorem u_X9_muls {σ : Nat → Nat} {n0 : Nat} {bf : ab_B} {d : Nat} {p0 : Nat} {S : zs_T} {Q : zs_Q} (hB : zt_B bf) (hd : 1 ≤ d) (h : w_X9_muls (zx σ n0 bf) (d - 1) p0 S Q) : zs_C (zx σ n0 bf) d 8055 [.ref p0] S Q := by
  have hL : lv_args 0 [.ref p0] = [(0, .ref p0)] := rfl
  refine zs_C.of1 (hB.2 8055 (by decide) (by decide)) hd (by rw [hL]; exact zs_sub_self _ (by exact ⟨rfl, trivial⟩)) ?_
  rw [hL]
  clear hL
  unfold w_X9_muls at h
  refine zu_aload_n d_8055_0 rfl (zs_ra _) ?_
  refine zu_iconst d_8055_1 zi_3 ?_
  obtain ⟨k1, h⟩ := h
  refine zc_8_535 (x0 := (3 : Int32)) hB rfl k1 d_8055_2 (Nat.le_of_ble_eq_true rfl) h (fun v3 S2 h => ?_)
  refine zu_ifeq (t := 12) d_8055_5 rfl (fun c4 => ?_) (fun c4 => ?_)
  · have h := h.1 c4
    refine zu_aload_n d_8055_12 rfl (zs_ra _) ?_
    refine zu_bipush d_8055_13 zj_29 ?_
    obtain ⟨k5, h⟩ := h
    refine zc_8_544 (x0 := (29 : Int32)) hB rfl k5 d_8055_15 (Nat.le_of_ble_eq_true rfl) h (fun v7 S6 h => ?_)
    refine zu_ifeq (t := 26) d_8055_18 rfl (fun c8 => ?_) (fun c8 => ?_)
    · have h := h.1 c8
      refine zu_aload_n d_8055_26 rfl (zs_ra _) ?_
      refine zu_bipush d_8055_27 zj_30 ?_
      obtain ⟨k9, h⟩ := h
      refine zc_8_544 (x0 := (30 : Int32)) hB rfl k9 d_8055_29 (Nat.le_of_ble_eq_true rfl) h (fun v11 S10 h => ?_)
      refine zu_ifeq (t := 40) d_8055_32 rfl (fun c12 => ?_) (fun c12 => ?_)
      · have h := h.1 c12
        refine zu_aload_n d_8055_40 rfl (zs_ra _) ?_
        refine zu_bipush d_8055_41 zj_31 ?_
        obtain ⟨k13, h⟩ := h
        refine zc_8_544 (x0 := (31 : Int32)) hB rfl k13 d_8055_43 (Nat.le_of_ble_eq_true rfl) h (fun v15 S14 h => ?_)
        refine zu_ifeq (t := 54) d_8055_46 rfl (fun c16 => ?_) (fun c16 => ?_)
        · have h := h.1 c16
          exact (u_X9_muls_54 hB h).weak ⟨rfl, trivial⟩
        · have h := h.2 c16
          exact (u_X9_muls_49 hB h).weak ⟨rfl, trivial⟩
      · have h := h.2 c12
        refine zu_bipush d_8055_35 zj_7 ?_
        refine zu_goto (t := 55) d_8055_37 rfl ?_
        exact (u_X9_muls_55 hB h).weak ⟨rfl, trivial⟩
    · have h := h.2 c8
      refine zu_bipush d_8055_21 zj_6 ?_
      refine zu_goto (t := 55) d_8055_23 rfl ?_
      exact (u_X9_muls_55 hB h).weak ⟨rfl, trivial⟩
  · have h := h.2 c4
    refine zu_iconst d_8055_8 zi_5 ?_
    refine zu_goto (t := 55) d_8055_9 rfl ?_
    exact (u_X9_muls_55 hB h).weak ⟨rfl, trivial⟩
/-! SchemaPascalModel.multiplied(II)V -/
theorem zm_8056 {σ : Nat → Nat} {n0 : Nat} {bf : ab_B} : ab_code (zx σ n0 bf).1 8056 = prog_17_method_64_code := rfl
theorem zq_8056 {σ : Nat → Nat} {n0 : Nat} {bf : ab_B} : ab_maxL (zx σ n0 bf).1 8056 = 7 := rfl
theorem zr_8056 {σ : Nat → Nat} {n0 : Nat} {bf : ab_B} : ab_ret (zx σ n0 bf).1 8056 = (Option.none : Option Jvm.ClassFile.FieldType) := rfl
theorem d_8056_0 {σ : Nat → Nat} {n0 : Nat} {bf : ab_B} : decode (ab_code (zx σ n0 bf).1 8056) 0 = .ok (.aload_n 0, 1) := zd zm_8056 (by decide +kernel)
theorem d_8056_1 {σ : Nat → Nat} {n0 : Nat} {bf : ab_B} : decode (ab_code (zx σ n0 bf).1 8056) 1 = .ok (.invokevirtual 670, 3) := zd zm_8056 (by decide +kernel)
theorem d_8056_4 {σ : Nat → Nat} {n0 : Nat} {bf : ab_B} : decode (ab_code (zx σ n0 bf).1 8056) 4 = .ok (.aload_n 0, 1) := zd zm_8056 (by decide +kernel)
theorem d_8056_5 {σ : Nat → Nat} {n0 : Nat} {bf : ab_B} : decode (ab_code (zx σ n0 bf).1 8056) 5 = .ok (.getfield 444, 3) := zd zm_8056 (by decide +kernel)
theorem d_8056_8 {σ : Nat → Nat} {n0 : Nat} {bf : ab_B} : decode (ab_code (zx σ n0 bf).1 8056) 8 = .ok (.ifCond .le 4, 3) := zd zm_8056 (by decide +kernel)
theorem d_8056_11 {σ : Nat → Nat} {n0 : Nat} {bf : ab_B} : decode (ab_code (zx σ n0 bf).1 8056) 11 = .ok (.return_, 1) := zd zm_8056 (by decide +kernel)
theorem d_8056_12 {σ : Nat → Nat} {n0 : Nat} {bf : ab_B} : decode (ab_code (zx σ n0 bf).1 8056) 12 = .ok (.aload_n 0, 1) := zd zm_8056 (by decide +kernel)
theorem d_8056_13 {σ : Nat → Nat} {n0 : Nat} {bf : ab_B} : decode (ab_code (zx σ n0 bf).1 8056) 13 = .ok (.dup, 1) := zd zm_8056 (by decide +kernel)
theorem d_8056_14 {σ : Nat → Nat} {n0 : Nat} {bf : ab_B} : decode (ab_code (zx σ n0 bf).1 8056) 14 = .ok (.getfield 653, 3) := zd zm_8056 (by decide +kernel)
theorem d_8056_17 {σ : Nat → Nat} {n0 : Nat} {bf : ab_B} : decode (ab_code (zx σ n0 bf).1 8056) 17 = .ok (.iconst 1, 1) := zd zm_8056 (by decide +kernel)
theorem d_8056_18 {σ : Nat → Nat} {n0 : Nat} {bf : ab_B} : decode (ab_code (zx σ n0 bf).1 8056) 18 = .ok (.isub, 1) := zd zm_8056 (by decide +kernel)
theorem d_8056_19 {σ : Nat → Nat} {n0 : Nat} {bf : ab_B} : decode (ab_code (zx σ n0 bf).1 8056) 19 = .ok (.putfield 653, 3) := zd zm_8056 (by decide +kernel)
theorem d_8056_22 {σ : Nat → Nat} {n0 : Nat} {bf : ab_B} : decode (ab_code (zx σ n0 bf).1 8056) 22 = .ok (.aload_n 0, 1) := zd zm_8056 (by decide +kernel)
theorem d_8056_23 {σ : Nat → Nat} {n0 : Nat} {bf : ab_B} : decode (ab_code (zx σ n0 bf).1 8056) 23 = .ok (.getfield 191, 3) := zd zm_8056 (by decide +kernel)
theorem d_8056_26 {σ : Nat → Nat} {n0 : Nat} {bf : ab_B} : decode (ab_code (zx σ n0 bf).1 8056) 26 = .ok (.aload_n 0, 1) := zd zm_8056 (by decide +kernel)
theorem d_8056_27 {σ : Nat → Nat} {n0 : Nat} {bf : ab_B} : decode (ab_code (zx σ n0 bf).1 8056) 27 = .ok (.getfield 653, 3) := zd zm_8056 (by decide +kernel)
theorem d_8056_30 {σ : Nat → Nat} {n0 : Nat} {bf : ab_B} : decode (ab_code (zx σ n0 bf).1 8056) 30 = .ok (.iconst 1, 1) := zd zm_8056 (by decide +kernel)
theorem d_8056_31 {σ : Nat → Nat} {n0 : Nat} {bf : ab_B} : decode (ab_code (zx σ n0 bf).1 8056) 31 = .ok (.isub, 1) := zd zm_8056 (by decide +kernel)
theorem d_8056_32 {σ : Nat → Nat} {n0 : Nat} {bf : ab_B} : decode (ab_code (zx σ n0 bf).1 8056) 32 = .ok (.iaload, 1) := zd zm_8056 (by decide +kernel)
theorem d_8056_33 {σ : Nat → Nat} {n0 : Nat} {bf : ab_B} : decode (ab_code (zx σ n0 bf).1 8056) 33 = .ok (.istore_n 3, 1) := zd zm_8056 (by decide +kernel)
theorem d_8056_34 {σ : Nat → Nat} {n0 : Nat} {bf : ab_B} : decode (ab_code (zx σ n0 bf).1 8056) 34 = .ok (.aload_n 0, 1) := zd zm_8056 (by decide +kernel)
theorem d_8056_35 {σ : Nat → Nat} {n0 : Nat} {bf : ab_B} : decode (ab_code (zx σ n0 bf).1 8056) 35 = .ok (.getfield 191, 3) := zd zm_8056 (by decide +kernel)
theorem d_8056_38 {σ : Nat → Nat} {n0 : Nat} {bf : ab_B} : decode (ab_code (zx σ n0 bf).1 8056) 38 = .ok (.aload_n 0, 1) := zd zm_8056 (by decide +kernel)
theorem d_8056_39 {σ : Nat → Nat} {n0 : Nat} {bf : ab_B} : decode (ab_code (zx σ n0 bf).1 8056) 39 = .ok (.getfield 653, 3) := zd zm_8056 (by decide +kernel)
theorem d_8056_42 {σ : Nat → Nat} {n0 : Nat} {bf : ab_B} : decode (ab_code (zx σ n0 bf).1 8056) 42 = .ok (.iaload, 1) := zd zm_8056 (by decide +kernel)
theorem d_8056_43 {σ : Nat → Nat} {n0 : Nat} {bf : ab_B} : decode (ab_code (zx σ n0 bf).1 8056) 43 = .ok (.istore 4, 2) := zd zm_8056 (by decide +kernel)
theorem d_8056_45 {σ : Nat → Nat} {n0 : Nat} {bf : ab_B} : decode (ab_code (zx σ n0 bf).1 8056) 45 = .ok (.aload_n 0, 1) := zd zm_8056 (by decide +kernel)
theorem d_8056_46 {σ : Nat → Nat} {n0 : Nat} {bf : ab_B} : decode (ab_code (zx σ n0 bf).1 8056) 46 = .ok (.getfield 197, 3) := zd zm_8056 (by decide +kernel)
theorem d_8056_49 {σ : Nat → Nat} {n0 : Nat} {bf : ab_B} : decode (ab_code (zx σ n0 bf).1 8056) 49 = .ok (.aload_n 0, 1) := zd zm_8056 (by decide +kernel)
theorem d_8056_50 {σ : Nat → Nat} {n0 : Nat} {bf : ab_B} : decode (ab_code (zx σ n0 bf).1 8056) 50 = .ok (.getfield 653, 3) := zd zm_8056 (by decide +kernel)
theorem d_8056_53 {σ : Nat → Nat} {n0 : Nat} {bf : ab_B} : decode (ab_code (zx σ n0 bf).1 8056) 53 = .ok (.iconst 1, 1) := zd zm_8056 (by decide +kernel)
theorem d_8056_54 {σ : Nat → Nat} {n0 : Nat} {bf : ab_B} : decode (ab_code (zx σ n0 bf).1 8056) 54 = .ok (.isub, 1) := zd zm_8056 (by decide +kernel)
theorem d_8056_55 {σ : Nat → Nat} {n0 : Nat} {bf : ab_B} : decode (ab_code (zx σ n0 bf).1 8056) 55 = .ok (.baload, 1) := zd zm_8056 (by decide +kernel)
theorem d_8056_56 {σ : Nat → Nat} {n0 : Nat} {bf : ab_B} : decode (ab_code (zx σ n0 bf).1 8056) 56 = .ok (.ifCond .eq 19, 3) := zd zm_8056 (by decide +kernel)
theorem d_8056_59 {σ : Nat → Nat} {n0 : Nat} {bf : ab_B} : decode (ab_code (zx σ n0 bf).1 8056) 59 = .ok (.aload_n 0, 1) := zd zm_8056 (by decide +kernel)
theorem d_8056_60 {σ : Nat → Nat} {n0 : Nat} {bf : ab_B} : decode (ab_code (zx σ n0 bf).1 8056) 60 = .ok (.getfield 197, 3) := zd zm_8056 (by decide +kernel)
theorem d_8056_63 {σ : Nat → Nat} {n0 : Nat} {bf : ab_B} : decode (ab_code (zx σ n0 bf).1 8056) 63 = .ok (.aload_n 0, 1) := zd zm_8056 (by decide +kernel)
theorem d_8056_64 {σ : Nat → Nat} {n0 : Nat} {bf : ab_B} : decode (ab_code (zx σ n0 bf).1 8056) 64 = .ok (.getfield 653, 3) := zd zm_8056 (by decide +kernel)
theorem d_8056_67 {σ : Nat → Nat} {n0 : Nat} {bf : ab_B} : decode (ab_code (zx σ n0 bf).1 8056) 67 = .ok (.baload, 1) := zd zm_8056 (by decide +kernel)
theorem d_8056_68 {σ : Nat → Nat} {n0 : Nat} {bf : ab_B} : decode (ab_code (zx σ n0 bf).1 8056) 68 = .ok (.ifCond .eq 7, 3) := zd zm_8056 (by decide +kernel)
theorem d_8056_71 {σ : Nat → Nat} {n0 : Nat} {bf : ab_B} : decode (ab_code (zx σ n0 bf).1 8056) 71 = .ok (.iconst 1, 1) := zd zm_8056 (by decide +kernel)
theorem d_8056_72 {σ : Nat → Nat} {n0 : Nat} {bf : ab_B} : decode (ab_code (zx σ n0 bf).1 8056) 72 = .ok (.goto 4, 3) := zd zm_8056 (by decide +kernel)
theorem d_8056_75 {σ : Nat → Nat} {n0 : Nat} {bf : ab_B} : decode (ab_code (zx σ n0 bf).1 8056) 75 = .ok (.iconst 0, 1) := zd zm_8056 (by decide +kernel)
theorem d_8056_76 {σ : Nat → Nat} {n0 : Nat} {bf : ab_B} : decode (ab_code (zx σ n0 bf).1 8056) 76 = .ok (.istore 5, 2) := zd zm_8056 (by decide +kernel)
theorem d_8056_78 {σ : Nat → Nat} {n0 : Nat} {bf : ab_B} : decode (ab_code (zx σ n0 bf).1 8056) 78 = .ok (.iload_n 1, 1) := zd zm_8056 (by decide +kernel)
theorem d_8056_79 {σ : Nat → Nat} {n0 : Nat} {bf : ab_B} : decode (ab_code (zx σ n0 bf).1 8056) 79 = .ok (.bipush 8, 2) := zd zm_8056 (by decide +kernel)
theorem d_8056_81 {σ : Nat → Nat} {n0 : Nat} {bf : ab_B} : decode (ab_code (zx σ n0 bf).1 8056) 81 = .ok (.if_icmp .ne 23, 3) := zd zm_8056 (by decide +kernel)
theorem d_8056_84 {σ : Nat → Nat} {n0 : Nat} {bf : ab_B} : decode (ab_code (zx σ n0 bf).1 8056) 84 = .ok (.aload_n 0, 1) := zd zm_8056 (by decide +kernel)
theorem d_8056_85 {σ : Nat → Nat} {n0 : Nat} {bf : ab_B} : decode (ab_code (zx σ n0 bf).1 8056) 85 = .ok (.iload_n 3, 1) := zd zm_8056 (by decide +kernel)
theorem d_8056_86 {σ : Nat → Nat} {n0 : Nat} {bf : ab_B} : decode (ab_code (zx σ n0 bf).1 8056) 86 = .ok (.invokevirtual 696, 3) := zd zm_8056 (by decide +kernel)
theorem d_8056_89 {σ : Nat → Nat} {n0 : Nat} {bf : ab_B} : decode (ab_code (zx σ n0 bf).1 8056) 89 = .ok (.ifCond .eq 66, 3) := zd zm_8056 (by decide +kernel)
theorem d_8056_92 {σ : Nat → Nat} {n0 : Nat} {bf : ab_B} : decode (ab_code (zx σ n0 bf).1 8056) 92 = .ok (.aload_n 0, 1) := zd zm_8056 (by decide +kernel)
theorem d_8056_93 {σ : Nat → Nat} {n0 : Nat} {bf : ab_B} : decode (ab_code (zx σ n0 bf).1 8056) 93 = .ok (.iload 4, 2) := zd zm_8056 (by decide +kernel)
theorem d_8056_95 {σ : Nat → Nat} {n0 : Nat} {bf : ab_B} : decode (ab_code (zx σ n0 bf).1 8056) 95 = .ok (.invokevirtual 696, 3) := zd zm_8056 (by decide +kernel)
theorem d_8056_98 {σ : Nat → Nat} {n0 : Nat} {bf : ab_B} : decode (ab_code (zx σ n0 bf).1 8056) 98 = .ok (.ifCond .eq 57, 3) := zd zm_8056 (by decide +kernel)
theorem d_8056_101 {σ : Nat → Nat} {n0 : Nat} {bf : ab_B} : decode (ab_code (zx σ n0 bf).1 8056) 101 = .ok (.goto 20, 3) := zd zm_8056 (by decide +kernel)
theorem d_8056_104 {σ : Nat → Nat} {n0 : Nat} {bf : ab_B} : decode (ab_code (zx σ n0 bf).1 8056) 104 = .ok (.aload_n 0, 1) := zd zm_8056 (by decide +kernel)
theorem d_8056_105 {σ : Nat → Nat} {n0 : Nat} {bf : ab_B} : decode (ab_code (zx σ n0 bf).1 8056) 105 = .ok (.iload_n 3, 1) := zd zm_8056 (by decide +kernel)
theorem d_8056_106 {σ : Nat → Nat} {n0 : Nat} {bf : ab_B} : decode (ab_code (zx σ n0 bf).1 8056) 106 = .ok (.invokevirtual 693, 3) := zd zm_8056 (by decide +kernel)
theorem d_8056_109 {σ : Nat → Nat} {n0 : Nat} {bf : ab_B} : decode (ab_code (zx σ n0 bf).1 8056) 109 = .ok (.ifCond .eq 46, 3) := zd zm_8056 (by decide +kernel)
theorem d_8056_112 {σ : Nat → Nat} {n0 : Nat} {bf : ab_B} : decode (ab_code (zx σ n0 bf).1 8056) 112 = .ok (.aload_n 0, 1) := zd zm_8056 (by decide +kernel)
theorem d_8056_113 {σ : Nat → Nat} {n0 : Nat} {bf : ab_B} : decode (ab_code (zx σ n0 bf).1 8056) 113 = .ok (.iload 4, 2) := zd zm_8056 (by decide +kernel)
theorem d_8056_115 {σ : Nat → Nat} {n0 : Nat} {bf : ab_B} : decode (ab_code (zx σ n0 bf).1 8056) 115 = .ok (.invokevirtual 693, 3) := zd zm_8056 (by decide +kernel)
theorem d_8056_118 {σ : Nat → Nat} {n0 : Nat} {bf : ab_B} : decode (ab_code (zx σ n0 bf).1 8056) 118 = .ok (.ifCond .eq 37, 3) := zd zm_8056 (by decide +kernel)
theorem d_8056_121 {σ : Nat → Nat} {n0 : Nat} {bf : ab_B} : decode (ab_code (zx σ n0 bf).1 8056) 121 = .ok (.aload_n 0, 1) := zd zm_8056 (by decide +kernel)
theorem d_8056_122 {σ : Nat → Nat} {n0 : Nat} {bf : ab_B} : decode (ab_code (zx σ n0 bf).1 8056) 122 = .ok (.bipush 20, 2) := zd zm_8056 (by decide +kernel)
theorem d_8056_124 {σ : Nat → Nat} {n0 : Nat} {bf : ab_B} : decode (ab_code (zx σ n0 bf).1 8056) 124 = .ok (.iload_n 1, 1) := zd zm_8056 (by decide +kernel)
theorem d_8056_125 {σ : Nat → Nat} {n0 : Nat} {bf : ab_B} : decode (ab_code (zx σ n0 bf).1 8056) 125 = .ok (.iadd, 1) := zd zm_8056 (by decide +kernel)
theorem d_8056_126 {σ : Nat → Nat} {n0 : Nat} {bf : ab_B} : decode (ab_code (zx σ n0 bf).1 8056) 126 = .ok (.iconst 0, 1) := zd zm_8056 (by decide +kernel)
theorem d_8056_127 {σ : Nat → Nat} {n0 : Nat} {bf : ab_B} : decode (ab_code (zx σ n0 bf).1 8056) 127 = .ok (.iconst 0, 1) := zd zm_8056 (by decide +kernel)
theorem d_8056_128 {σ : Nat → Nat} {n0 : Nat} {bf : ab_B} : decode (ab_code (zx σ n0 bf).1 8056) 128 = .ok (.iload_n 2, 1) := zd zm_8056 (by decide +kernel)
theorem d_8056_129 {σ : Nat → Nat} {n0 : Nat} {bf : ab_B} : decode (ab_code (zx σ n0 bf).1 8056) 129 = .ok (.invokevirtual 656, 3) := zd zm_8056 (by decide +kernel)
theorem d_8056_132 {σ : Nat → Nat} {n0 : Nat} {bf : ab_B} : decode (ab_code (zx σ n0 bf).1 8056) 132 = .ok (.istore 6, 2) := zd zm_8056 (by decide +kernel)
theorem d_8056_134 {σ : Nat → Nat} {n0 : Nat} {bf : ab_B} : decode (ab_code (zx σ n0 bf).1 8056) 134 = .ok (.aload_n 0, 1) := zd zm_8056 (by decide +kernel)
theorem d_8056_135 {σ : Nat → Nat} {n0 : Nat} {bf : ab_B} : decode (ab_code (zx σ n0 bf).1 8056) 135 = .ok (.iload_n 1, 1) := zd zm_8056 (by decide +kernel)
theorem d_8056_136 {σ : Nat → Nat} {n0 : Nat} {bf : ab_B} : decode (ab_code (zx σ n0 bf).1 8056) 136 = .ok (.bipush 8, 2) := zd zm_8056 (by decide +kernel)
theorem d_8056_138 {σ : Nat → Nat} {n0 : Nat} {bf : ab_B} : decode (ab_code (zx σ n0 bf).1 8056) 138 = .ok (.if_icmp .ne 7, 3) := zd zm_8056 (by decide +kernel)
theorem d_8056_141 {σ : Nat → Nat} {n0 : Nat} {bf : ab_B} : decode (ab_code (zx σ n0 bf).1 8056) 141 = .ok (.iconst 2, 1) := zd zm_8056 (by decide +kernel)
theorem d_8056_142 {σ : Nat → Nat} {n0 : Nat} {bf : ab_B} : decode (ab_code (zx σ n0 bf).1 8056) 142 = .ok (.goto 4, 3) := zd zm_8056 (by decide +kernel)
theorem d_8056_145 {σ : Nat → Nat} {n0 : Nat} {bf : ab_B} : decode (ab_code (zx σ n0 bf).1 8056) 145 = .ok (.iconst 1, 1) := zd zm_8056 (by decide +kernel)
theorem d_8056_146 {σ : Nat → Nat} {n0 : Nat} {bf : ab_B} : decode (ab_code (zx σ n0 bf).1 8056) 146 = .ok (.iload 5, 2) := zd zm_8056 (by decide +kernel)
theorem d_8056_148 {σ : Nat → Nat} {n0 : Nat} {bf : ab_B} : decode (ab_code (zx σ n0 bf).1 8056) 148 = .ok (.iload_n 2, 1) := zd zm_8056 (by decide +kernel)
theorem d_8056_149 {σ : Nat → Nat} {n0 : Nat} {bf : ab_B} : decode (ab_code (zx σ n0 bf).1 8056) 149 = .ok (.invokevirtual 689, 3) := zd zm_8056 (by decide +kernel)
theorem d_8056_152 {σ : Nat → Nat} {n0 : Nat} {bf : ab_B} : decode (ab_code (zx σ n0 bf).1 8056) 152 = .ok (.goto 60, 3) := zd zm_8056 (by decide +kernel)
theorem d_8056_155 {σ : Nat → Nat} {n0 : Nat} {bf : ab_B} : decode (ab_code (zx σ n0 bf).1 8056) 155 = .ok (.iload_n 1, 1) := zd zm_8056 (by decide +kernel)
theorem d_8056_156 {σ : Nat → Nat} {n0 : Nat} {bf : ab_B} : decode (ab_code (zx σ n0 bf).1 8056) 156 = .ok (.iconst 5, 1) := zd zm_8056 (by decide +kernel)
theorem d_8056_157 {σ : Nat → Nat} {n0 : Nat} {bf : ab_B} : decode (ab_code (zx σ n0 bf).1 8056) 157 = .ok (.if_icmp .ne 50, 3) := zd zm_8056 (by decide +kernel)
theorem d_8056_160 {σ : Nat → Nat} {n0 : Nat} {bf : ab_B} : decode (ab_code (zx σ n0 bf).1 8056) 160 = .ok (.aload_n 0, 1) := zd zm_8056 (by decide +kernel)
theorem d_8056_161 {σ : Nat → Nat} {n0 : Nat} {bf : ab_B} : decode (ab_code (zx σ n0 bf).1 8056) 161 = .ok (.iload_n 3, 1) := zd zm_8056 (by decide +kernel)
theorem d_8056_162 {σ : Nat → Nat} {n0 : Nat} {bf : ab_B} : decode (ab_code (zx σ n0 bf).1 8056) 162 = .ok (.iload 4, 2) := zd zm_8056 (by decide +kernel)
theorem d_8056_164 {σ : Nat → Nat} {n0 : Nat} {bf : ab_B} : decode (ab_code (zx σ n0 bf).1 8056) 164 = .ok (.invokevirtual 682, 3) := zd zm_8056 (by decide +kernel)
theorem d_8056_167 {σ : Nat → Nat} {n0 : Nat} {bf : ab_B} : decode (ab_code (zx σ n0 bf).1 8056) 167 = .ok (.ifCond .eq 40, 3) := zd zm_8056 (by decide +kernel)
theorem d_8056_170 {σ : Nat → Nat} {n0 : Nat} {bf : ab_B} : decode (ab_code (zx σ n0 bf).1 8056) 170 = .ok (.aload_n 0, 1) := zd zm_8056 (by decide +kernel)
theorem d_8056_171 {σ : Nat → Nat} {n0 : Nat} {bf : ab_B} : decode (ab_code (zx σ n0 bf).1 8056) 171 = .ok (.bipush 52, 2) := zd zm_8056 (by decide +kernel)
theorem d_8056_173 {σ : Nat → Nat} {n0 : Nat} {bf : ab_B} : decode (ab_code (zx σ n0 bf).1 8056) 173 = .ok (.iconst 0, 1) := zd zm_8056 (by decide +kernel)
theorem d_8056_174 {σ : Nat → Nat} {n0 : Nat} {bf : ab_B} : decode (ab_code (zx σ n0 bf).1 8056) 174 = .ok (.iconst 0, 1) := zd zm_8056 (by decide +kernel)
theorem d_8056_175 {σ : Nat → Nat} {n0 : Nat} {bf : ab_B} : decode (ab_code (zx σ n0 bf).1 8056) 175 = .ok (.iload_n 2, 1) := zd zm_8056 (by decide +kernel)
theorem d_8056_176 {σ : Nat → Nat} {n0 : Nat} {bf : ab_B} : decode (ab_code (zx σ n0 bf).1 8056) 176 = .ok (.invokevirtual 656, 3) := zd zm_8056 (by decide +kernel)
theorem d_8056_179 {σ : Nat → Nat} {n0 : Nat} {bf : ab_B} : decode (ab_code (zx σ n0 bf).1 8056) 179 = .ok (.istore 6, 2) := zd zm_8056 (by decide +kernel)
theorem d_8056_181 {σ : Nat → Nat} {n0 : Nat} {bf : ab_B} : decode (ab_code (zx σ n0 bf).1 8056) 181 = .ok (.aload_n 0, 1) := zd zm_8056 (by decide +kernel)
theorem d_8056_182 {σ : Nat → Nat} {n0 : Nat} {bf : ab_B} : decode (ab_code (zx σ n0 bf).1 8056) 182 = .ok (.aload_n 0, 1) := zd zm_8056 (by decide +kernel)
theorem d_8056_183 {σ : Nat → Nat} {n0 : Nat} {bf : ab_B} : decode (ab_code (zx σ n0 bf).1 8056) 183 = .ok (.getfield 90, 3) := zd zm_8056 (by decide +kernel)
theorem d_8056_186 {σ : Nat → Nat} {n0 : Nat} {bf : ab_B} : decode (ab_code (zx σ n0 bf).1 8056) 186 = .ok (.iload_n 3, 1) := zd zm_8056 (by decide +kernel)
theorem d_8056_187 {σ : Nat → Nat} {n0 : Nat} {bf : ab_B} : decode (ab_code (zx σ n0 bf).1 8056) 187 = .ok (.baload, 1) := zd zm_8056 (by decide +kernel)
theorem d_8056_188 {σ : Nat → Nat} {n0 : Nat} {bf : ab_B} : decode (ab_code (zx σ n0 bf).1 8056) 188 = .ok (.bipush 13, 2) := zd zm_8056 (by decide +kernel)
theorem d_8056_190 {σ : Nat → Nat} {n0 : Nat} {bf : ab_B} : decode (ab_code (zx σ n0 bf).1 8056) 190 = .ok (.if_icmp .ne 8, 3) := zd zm_8056 (by decide +kernel)
theorem d_8056_193 {σ : Nat → Nat} {n0 : Nat} {bf : ab_B} : decode (ab_code (zx σ n0 bf).1 8056) 193 = .ok (.iload 4, 2) := zd zm_8056 (by decide +kernel)
theorem d_8056_195 {σ : Nat → Nat} {n0 : Nat} {bf : ab_B} : decode (ab_code (zx σ n0 bf).1 8056) 195 = .ok (.goto 4, 3) := zd zm_8056 (by decide +kernel)
theorem d_8056_198 {σ : Nat → Nat} {n0 : Nat} {bf : ab_B} : decode (ab_code (zx σ n0 bf).1 8056) 198 = .ok (.iload_n 3, 1) := zd zm_8056 (by decide +kernel)
theorem d_8056_199 {σ : Nat → Nat} {n0 : Nat} {bf : ab_B} : decode (ab_code (zx σ n0 bf).1 8056) 199 = .ok (.iconst 0, 1) := zd zm_8056 (by decide +kernel)
theorem d_8056_200 {σ : Nat → Nat} {n0 : Nat} {bf : ab_B} : decode (ab_code (zx σ n0 bf).1 8056) 200 = .ok (.iload_n 2, 1) := zd zm_8056 (by decide +kernel)
theorem d_8056_201 {σ : Nat → Nat} {n0 : Nat} {bf : ab_B} : decode (ab_code (zx σ n0 bf).1 8056) 201 = .ok (.invokevirtual 689, 3) := zd zm_8056 (by decide +kernel)
theorem d_8056_204 {σ : Nat → Nat} {n0 : Nat} {bf : ab_B} : decode (ab_code (zx σ n0 bf).1 8056) 204 = .ok (.goto 8, 3) := zd zm_8056 (by decide +kernel)
theorem d_8056_207 {σ : Nat → Nat} {n0 : Nat} {bf : ab_B} : decode (ab_code (zx σ n0 bf).1 8056) 207 = .ok (.aload_n 0, 1) := zd zm_8056 (by decide +kernel)
theorem d_8056_208 {σ : Nat → Nat} {n0 : Nat} {bf : ab_B} : decode (ab_code (zx σ n0 bf).1 8056) 208 = .ok (.iconst 5, 1) := zd zm_8056 (by decide +kernel)
theorem d_8056_209 {σ : Nat → Nat} {n0 : Nat} {bf : ab_B} : decode (ab_code (zx σ n0 bf).1 8056) 209 = .ok (.invokevirtual 541, 3) := zd zm_8056 (by decide +kernel)
theorem d_8056_212 {σ : Nat → Nat} {n0 : Nat} {bf : ab_B} : decode (ab_code (zx σ n0 bf).1 8056) 212 = .ok (.return_, 1) := zd zm_8056 (by decide +kernel)
def w_X9_multiplied_207 (X : zs_X) (d : Nat) (p0 : Nat) (S : zs_T) (Q : zs_Q) : Prop :=
  (zs_K S p0 = some (.inl 8) ∧ zs_C X d 8027 [.ref p0, .int (5 : Int32)] S (zs_kV (fun S2 => (Q (.returned none) S2)) Q))
theorem u_X9_multiplied_207 {σ : Nat → Nat} {n0 : Nat} {bf : ab_B} {d : Nat} {p0 : Nat} {S : zs_T} {Q : zs_Q} (hB : zt_B bf) (h : w_X9_multiplied_207 (zx σ n0 bf) d p0 S Q) : zs_U (zx σ n0 bf) d 8056 207 [(0, .ref p0)] [] S Q := by
  unfold w_X9_multiplied_207 at h
  refine zu_aload_n d_8056_207 rfl (zs_ra _) ?_
  refine zu_iconst d_8056_208 zi_5 ?_
  obtain ⟨k1, h⟩ := h
  refine zc_8_541 (x0 := (5 : Int32)) hB rfl k1 d_8056_209 (Nat.le_of_ble_eq_true rfl) h (fun S2 h => ?_)
  exact zu_vret d_8056_212 zr_8056 h
def w_X9_multiplied_199 (X : zs_X) (d : Nat) (p2 : Int32) (q0 : Option Nat) (q1 : Int32) (S : zs_T) (Q : zs_Q) : Prop :=
  (∃ b1, q0 = some b1 ∧ zs_K S b1 = some (.inl 8) ∧ zs_C X d 8049 [.ref b1, .int q1, .int (0 : Int32), .int p2] S (zs_kV (fun S4 => (Q (.returned none) S4)) Q))
theorem u_X9_multiplied_199 {σ : Nat → Nat} {n0 : Nat} {bf : ab_B} {d : Nat} {p2 : Int32} {q0 : Option Nat} {q1 : Int32} {S : zs_T} {Q : zs_Q} (hB : zt_B bf) (h : w_X9_multiplied_199 (zx σ n0 bf) d p2 q0 q1 S Q) : zs_U (zx σ n0 bf) d 8056 199 [(2, .int p2)] [.int q1, va_rf q0] S Q := by
  unfold w_X9_multiplied_199 at h
  refine zu_iconst d_8056_199 zi_0 ?_
  refine zu_iload_n d_8056_200 rfl ?_
  obtain ⟨b1, e2, h⟩ := h
  refine zs_stk3 (zs_rfe e2) ?_
  obtain ⟨k3, h⟩ := h
  refine zc_8_689 (x0 := q1) (x1 := (0 : Int32)) (x2 := p2) hB rfl k3 d_8056_201 (Nat.le_of_ble_eq_true rfl) h (fun S4 h => ?_)
  refine zu_goto (t := 212) d_8056_204 rfl ?_
  exact zu_vret d_8056_212 zr_8056 h
def w_X9_multiplied_155 (X : zs_X) (d : Nat) (p0 : Nat) (p1 : Int32) (p2 : Int32) (p3 : Int32) (p4 : Int32) (S : zs_T) (Q : zs_Q) : Prop :=
  (((¬ p1 = (5 : Int32) → w_X9_multiplied_207 X d p0 S Q) ∧ (¬ (¬ p1 = (5 : Int32)) → (zs_K S p0 = some (.inl 8) ∧ zs_C X d 8046 [.ref p0, .int p3, .int p4] S (zs_kI (fun v4 S3 => (((v4 = 0 → w_X9_multiplied_207 X d p0 S3 Q) ∧ (¬ (v4 = 0) → (zs_K S3 p0 = some (.inl 8) ∧ zs_C X d 8012 [.ref p0, .int (52 : Int32), .int (0 : Int32), .int (0 : Int32), .int p2] S3 (zs_kI (fun v8 S7 => (zs_K S7 p0 = some (.inl 8) ∧ ∃ b10, (zs_R S7 8044 p0) = some b10 ∧ zs_A S7 b10 1 p3 ∧ ((¬ (zs_i S7 b10 p3.toNatClampNeg) = (13 : Int32) → (w_X9_multiplied_199 X d p2 (some p0) p3 S7 Q)) ∧ (¬ (¬ (zs_i S7 b10 p3.toNatClampNeg) = (13 : Int32)) → (w_X9_multiplied_199 X d p2 (some p0) p4 S7 Q))))) Q)))))) Q)))))
theorem u_X9_multiplied_155 {σ : Nat → Nat} {n0 : Nat} {bf : ab_B} {d : Nat} {p0 : Nat} {p1 : Int32} {p2 : Int32} {p3 : Int32} {p4 : Int32} {S : zs_T} {Q : zs_Q} (hB : zt_B bf) (h : w_X9_multiplied_155 (zx σ n0 bf) d p0 p1 p2 p3 p4 S Q) : zs_U (zx σ n0 bf) d 8056 155 [(0, .ref p0), (1, .int p1), (2, .int p2), (3, .int p3), (4, .int p4)] [] S Q := by
  unfold w_X9_multiplied_155 at h
  refine zu_iload_n d_8056_155 rfl ?_
  refine zu_iconst d_8056_156 zi_5 ?_
  refine zu_cmpne (t := 207) d_8056_157 rfl (fun c1 => ?_) (fun c1 => ?_)
  · have h := h.1 c1
    exact (u_X9_multiplied_207 hB h).weak ⟨rfl, trivial⟩
  · have h := h.2 c1
    refine zu_aload_n d_8056_160 rfl (zs_ra _) ?_
    refine zu_iload_n d_8056_161 rfl ?_
    refine zu_iload d_8056_162 rfl ?_
    obtain ⟨k2, h⟩ := h
    refine zc_8_682 (x0 := p3) (x1 := p4) hB rfl k2 d_8056_164 (Nat.le_of_ble_eq_true rfl) h (fun v4 S3 h => ?_)
    refine zu_ifeq (t := 207) d_8056_167 rfl (fun c5 => ?_) (fun c5 => ?_)
    · have h := h.1 c5
      exact (u_X9_multiplied_207 hB h).weak ⟨rfl, trivial⟩
    · have h := h.2 c5
      refine zu_aload_n d_8056_170 rfl (zs_ra _) ?_
      refine zu_bipush d_8056_171 zj_52 ?_
      refine zu_iconst d_8056_173 zi_0 ?_
      refine zu_iconst d_8056_174 zi_0 ?_
      refine zu_iload_n d_8056_175 rfl ?_
      obtain ⟨k6, h⟩ := h
      refine zc_8_656 (x0 := (52 : Int32)) (x1 := (0 : Int32)) (x2 := (0 : Int32)) (x3 := p2) hB rfl k6 d_8056_176 (Nat.le_of_ble_eq_true rfl) h (fun v8 S7 h => ?_)
      refine zu_istore d_8056_179 (zs_lt zq_8056 rfl) ?_
      refine zu_aload_n d_8056_181 rfl (zs_ra _) ?_
      refine zu_aload_n d_8056_182 rfl (zs_ra _) ?_
      obtain ⟨k9, h⟩ := h
      refine zg_8_90 rfl d_8056_183 k9 ?_
      refine zu_iload_n d_8056_186 rfl ?_
      obtain ⟨b10, e11, h⟩ := h
      refine zs_stk1 (zs_rfe e11) ?_
      obtain ⟨k12, h⟩ := h
      refine zu_bald (k := 1) d_8056_187 rfl (Or.inl rfl) k12 ?_
      refine zu_bipush d_8056_188 zj_13 ?_
      refine zu_cmpne (t := 198) d_8056_190 rfl (fun c13 => ?_) (fun c13 => ?_)
      · have h := h.1 c13
        refine zu_iload_n d_8056_198 rfl ?_
        exact (u_X9_multiplied_199 hB h).weak ⟨rfl, trivial⟩
      · have h := h.2 c13
        refine zu_iload d_8056_193 rfl ?_
        refine zu_goto (t := 199) d_8056_195 rfl ?_
        exact (u_X9_multiplied_199 hB h).weak ⟨rfl, trivial⟩
def w_X9_multiplied_146 (X : zs_X) (d : Nat) (p2 : Int32) (p5 : Int32) (q0 : Option Nat) (q1 : Int32) (S : zs_T) (Q : zs_Q) : Prop :=
  (∃ b1, q0 = some b1 ∧ zs_K S b1 = some (.inl 8) ∧ zs_C X d 8049 [.ref b1, .int q1, .int p5, .int p2] S (zs_kV (fun S4 => (Q (.returned none) S4)) Q))
theorem u_X9_multiplied_146 {σ : Nat → Nat} {n0 : Nat} {bf : ab_B} {d : Nat} {p2 : Int32} {p5 : Int32} {q0 : Option Nat} {q1 : Int32} {S : zs_T} {Q : zs_Q} (hB : zt_B bf) (h : w_X9_multiplied_146 (zx σ n0 bf) d p2 p5 q0 q1 S Q) : zs_U (zx σ n0 bf) d 8056 146 [(2, .int p2), (5, .int p5)] [.int q1, va_rf q0] S Q := by
  unfold w_X9_multiplied_146 at h
  refine zu_iload d_8056_146 rfl ?_
  refine zu_iload_n d_8056_148 rfl ?_
  obtain ⟨b1, e2, h⟩ := h
  refine zs_stk3 (zs_rfe e2) ?_
  obtain ⟨k3, h⟩ := h
  refine zc_8_689 (x0 := q1) (x1 := p5) (x2 := p2) hB rfl k3 d_8056_149 (Nat.le_of_ble_eq_true rfl) h (fun S4 h => ?_)
  refine zu_goto (t := 212) d_8056_152 rfl ?_
  exact zu_vret d_8056_212 zr_8056 h
def w_X9_multiplied_121 (X : zs_X) (d : Nat) (p0 : Nat) (p1 : Int32) (p2 : Int32) (p5 : Int32) (S : zs_T) (Q : zs_Q) : Prop :=
  (zs_K S p0 = some (.inl 8) ∧ zs_C X d 8012 [.ref p0, .int ((20 : Int32) + p1), .int (0 : Int32), .int (0 : Int32), .int p2] S (zs_kI (fun v3 S2 => (((¬ p1 = (8 : Int32) → (w_X9_multiplied_146 X d p2 p5 (some p0) (1 : Int32) S2 Q)) ∧ (¬ (¬ p1 = (8 : Int32)) → (w_X9_multiplied_146 X d p2 p5 (some p0) (2 : Int32) S2 Q))))) Q))
theorem u_X9_multiplied_121 {σ : Nat → Nat} {n0 : Nat} {bf : ab_B} {d : Nat} {p0 : Nat} {p1 : Int32} {p2 : Int32} {p5 : Int32} {S : zs_T} {Q : zs_Q} (hB : zt_B bf) (h : w_X9_multiplied_121 (zx σ n0 bf) d p0 p1 p2 p5 S Q) : zs_U (zx σ n0 bf) d 8056 121 [(0, .ref p0), (1, .int p1), (2, .int p2), (5, .int p5)] [] S Q := by
  unfold w_X9_multiplied_121 at h
  refine zu_aload_n d_8056_121 rfl (zs_ra _) ?_
  refine zu_bipush d_8056_122 zj_20 ?_
  refine zu_iload_n d_8056_124 rfl ?_
  refine zu_stk d_8056_125 rfl rfl ?_
  refine zu_iconst d_8056_126 zi_0 ?_
  refine zu_iconst d_8056_127 zi_0 ?_
  refine zu_iload_n d_8056_128 rfl ?_
  obtain ⟨k1, h⟩ := h
  refine zc_8_656 (x0 := ((20 : Int32) + p1)) (x1 := (0 : Int32)) (x2 := (0 : Int32)) (x3 := p2) hB rfl k1 d_8056_129 (Nat.le_of_ble_eq_true rfl) h (fun v3 S2 h => ?_)
  refine zu_istore d_8056_132 (zs_lt zq_8056 rfl) ?_
  refine zu_aload_n d_8056_134 rfl (zs_ra _) ?_
  refine zu_iload_n d_8056_135 rfl ?_
  refine zu_bipush d_8056_136 zj_8 ?_
  refine zu_cmpne (t := 145) d_8056_138 rfl (fun c4 => ?_) (fun c4 => ?_)
  · have h := h.1 c4
    refine zu_iconst d_8056_145 zi_1 ?_
    exact (u_X9_multiplied_146 hB h).weak ⟨rfl, rfl, trivial⟩
  · have h := h.2 c4
    refine zu_iconst d_8056_141 zi_2 ?_
    refine zu_goto (t := 146) d_8056_142 rfl ?_
    exact (u_X9_multiplied_146 hB h).weak ⟨rfl, rfl, trivial⟩
def w_X9_multiplied_76 (X : zs_X) (d : Nat) (p0 : Nat) (p1 : Int32) (p2 : Int32) (p3 : Int32) (p4 : Int32) (q0 : Int32) (S : zs_T) (Q : zs_Q) : Prop :=
  (((¬ p1 = (8 : Int32) → (zs_K S p0 = some (.inl 8) ∧ zs_C X d 8051 [.ref p0, .int p3] S (zs_kI (fun v4 S3 => (((v4 = 0 → w_X9_multiplied_155 X d p0 p1 p2 p3 p4 S3 Q) ∧ (¬ (v4 = 0) → (zs_K S3 p0 = some (.inl 8) ∧ zs_C X d 8051 [.ref p0, .int p4] S3 (zs_kI (fun v8 S7 => (((v8 = 0 → w_X9_multiplied_155 X d p0 p1 p2 p3 p4 S7 Q) ∧ (¬ (v8 = 0) → w_X9_multiplied_121 X d p0 p1 p2 q0 S7 Q)))) Q)))))) Q))) ∧ (¬ (¬ p1 = (8 : Int32)) → (zs_K S p0 = some (.inl 8) ∧ zs_C X d 8054 [.ref p0, .int p3] S (zs_kI (fun v12 S11 => (((v12 = 0 → w_X9_multiplied_155 X d p0 p1 p2 p3 p4 S11 Q) ∧ (¬ (v12 = 0) → (zs_K S11 p0 = some (.inl 8) ∧ zs_C X d 8054 [.ref p0, .int p4] S11 (zs_kI (fun v16 S15 => (((v16 = 0 → w_X9_multiplied_155 X d p0 p1 p2 p3 p4 S15 Q) ∧ (¬ (v16 = 0) → (w_X9_multiplied_121 X d p0 p1 p2 q0 S15 Q))))) Q)))))) Q)))))
theorem u_X9_multiplied_76 {σ : Nat → Nat} {n0 : Nat} {bf : ab_B} {d : Nat} {p0 : Nat} {p1 : Int32} {p2 : Int32} {p3 : Int32} {p4 : Int32} {q0 : Int32} {S : zs_T} {Q : zs_Q} (hB : zt_B bf) (h : w_X9_multiplied_76 (zx σ n0 bf) d p0 p1 p2 p3 p4 q0 S Q) : zs_U (zx σ n0 bf) d 8056 76 [(0, .ref p0), (1, .int p1), (2, .int p2), (3, .int p3), (4, .int p4)] [.int q0] S Q := by
  unfold w_X9_multiplied_76 at h
  refine zu_istore d_8056_76 (zs_lt zq_8056 rfl) ?_
  refine zu_iload_n d_8056_78 rfl ?_
  refine zu_bipush d_8056_79 zj_8 ?_
  refine zu_cmpne (t := 104) d_8056_81 rfl (fun c1 => ?_) (fun c1 => ?_)
  · have h := h.1 c1
    refine zu_aload_n d_8056_104 rfl (zs_ra _) ?_
    refine zu_iload_n d_8056_105 rfl ?_
    obtain ⟨k2, h⟩ := h
    refine zc_8_693 (x0 := p3) hB rfl k2 d_8056_106 (Nat.le_of_ble_eq_true rfl) h (fun v4 S3 h => ?_)
    refine zu_ifeq (t := 155) d_8056_109 rfl (fun c5 => ?_) (fun c5 => ?_)
    · have h := h.1 c5
      exact (u_X9_multiplied_155 hB h).weak ⟨rfl, rfl, rfl, rfl, rfl, trivial⟩
    · have h := h.2 c5
      refine zu_aload_n d_8056_112 rfl (zs_ra _) ?_
      refine zu_iload d_8056_113 rfl ?_
      obtain ⟨k6, h⟩ := h
      refine zc_8_693 (x0 := p4) hB rfl k6 d_8056_115 (Nat.le_of_ble_eq_true rfl) h (fun v8 S7 h => ?_)
      refine zu_ifeq (t := 155) d_8056_118 rfl (fun c9 => ?_) (fun c9 => ?_)
      · have h := h.1 c9
        exact (u_X9_multiplied_155 hB h).weak ⟨rfl, rfl, rfl, rfl, rfl, trivial⟩
      · have h := h.2 c9
        exact (u_X9_multiplied_121 hB h).weak ⟨rfl, rfl, rfl, rfl, trivial⟩
  · have h := h.2 c1
    refine zu_aload_n d_8056_84 rfl (zs_ra _) ?_
    refine zu_iload_n d_8056_85 rfl ?_
    obtain ⟨k10, h⟩ := h
    refine zc_8_696 (x0 := p3) hB rfl k10 d_8056_86 (Nat.le_of_ble_eq_true rfl) h (fun v12 S11 h => ?_)
    refine zu_ifeq (t := 155) d_8056_89 rfl (fun c13 => ?_) (fun c13 => ?_)
    · have h := h.1 c13
      exact (u_X9_multiplied_155 hB h).weak ⟨rfl, rfl, rfl, rfl, rfl, trivial⟩
    · have h := h.2 c13
      refine zu_aload_n d_8056_92 rfl (zs_ra _) ?_
      refine zu_iload d_8056_93 rfl ?_
      obtain ⟨k14, h⟩ := h
      refine zc_8_696 (x0 := p4) hB rfl k14 d_8056_95 (Nat.le_of_ble_eq_true rfl) h (fun v16 S15 h => ?_)
      refine zu_ifeq (t := 155) d_8056_98 rfl (fun c17 => ?_) (fun c17 => ?_)
      · have h := h.1 c17
        exact (u_X9_multiplied_155 hB h).weak ⟨rfl, rfl, rfl, rfl, rfl, trivial⟩
      · have h := h.2 c17
        refine zu_goto (t := 121) d_8056_101 rfl ?_
        exact (u_X9_multiplied_121 hB h).weak ⟨rfl, rfl, rfl, rfl, trivial⟩
def w_X9_multiplied_75 (X : zs_X) (d : Nat) (p0 : Nat) (p1 : Int32) (p2 : Int32) (p3 : Int32) (p4 : Int32) (S : zs_T) (Q : zs_Q) : Prop :=
  (w_X9_multiplied_76 X d p0 p1 p2 p3 p4 (0 : Int32) S Q)
theorem u_X9_multiplied_75 {σ : Nat → Nat} {n0 : Nat} {bf : ab_B} {d : Nat} {p0 : Nat} {p1 : Int32} {p2 : Int32} {p3 : Int32} {p4 : Int32} {S : zs_T} {Q : zs_Q} (hB : zt_B bf) (h : w_X9_multiplied_75 (zx σ n0 bf) d p0 p1 p2 p3 p4 S Q) : zs_U (zx σ n0 bf) d 8056 75 [(0, .ref p0), (1, .int p1), (2, .int p2), (3, .int p3), (4, .int p4)] [] S Q := by
  unfold w_X9_multiplied_75 at h
  refine zu_iconst d_8056_75 zi_0 ?_
  exact (u_X9_multiplied_76 hB h).weak ⟨rfl, rfl, rfl, rfl, rfl, trivial⟩
def w_X9_multiplied_71 (X : zs_X) (d : Nat) (p0 : Nat) (p1 : Int32) (p2 : Int32) (p3 : Int32) (p4 : Int32) (S : zs_T) (Q : zs_Q) : Prop :=
  (w_X9_multiplied_76 X d p0 p1 p2 p3 p4 (1 : Int32) S Q)
theorem u_X9_multiplied_71 {σ : Nat → Nat} {n0 : Nat} {bf : ab_B} {d : Nat} {p0 : Nat} {p1 : Int32} {p2 : Int32} {p3 : Int32} {p4 : Int32} {S : zs_T} {Q : zs_Q} (hB : zt_B bf) (h : w_X9_multiplied_71 (zx σ n0 bf) d p0 p1 p2 p3 p4 S Q) : zs_U (zx σ n0 bf) d 8056 71 [(0, .ref p0), (1, .int p1), (2, .int p2), (3, .int p3), (4, .int p4)] [] S Q := by
  unfold w_X9_multiplied_71 at h
  refine zu_iconst d_8056_71 zi_1 ?_
  refine zu_goto (t := 76) d_8056_72 rfl ?_
  exact (u_X9_multiplied_76 hB h).weak ⟨rfl, rfl, rfl, rfl, rfl, trivial⟩
def w_X9_multiplied_34 (X : zs_X) (d : Nat) (p0 : Nat) (p1 : Int32) (p2 : Int32) (p3 : Int32) (S : zs_T) (Q : zs_Q) : Prop :=
  (zs_K S p0 = some (.inl 8) ∧ ∃ b2, (zs_R S 8091 p0) = some b2 ∧ zs_A S b2 0 (zs_I S 8097 p0) ∧ ∃ b5, (zs_R S 8093 p0) = some b5 ∧ zs_A S b5 2 ((zs_I S 8097 p0) - (1 : Int32)) ∧ (((zs_i S b5 ((zs_I S 8097 p0) - (1 : Int32)).toNatClampNeg) = 0 → w_X9_multiplied_75 X d p0 p1 p2 p3 (zs_i S b2 (zs_I S 8097 p0).toNatClampNeg) S Q) ∧ (¬ ((zs_i S b5 ((zs_I S 8097 p0) - (1 : Int32)).toNatClampNeg) = 0) → (zs_A S b5 2 (zs_I S 8097 p0) ∧ (((zs_i S b5 (zs_I S 8097 p0).toNatClampNeg) = 0 → w_X9_multiplied_75 X d p0 p1 p2 p3 (zs_i S b2 (zs_I S 8097 p0).toNatClampNeg) S Q) ∧ (¬ ((zs_i S b5 (zs_I S 8097 p0).toNatClampNeg) = 0) → w_X9_multiplied_71 X d p0 p1 p2 p3 (zs_i S b2 (zs_I S 8097 p0).toNatClampNeg) S Q))))))
theorem u_X9_multiplied_34 {σ : Nat → Nat} {n0 : Nat} {bf : ab_B} {d : Nat} {p0 : Nat} {p1 : Int32} {p2 : Int32} {p3 : Int32} {S : zs_T} {Q : zs_Q} (hB : zt_B bf) (h : w_X9_multiplied_34 (zx σ n0 bf) d p0 p1 p2 p3 S Q) : zs_U (zx σ n0 bf) d 8056 34 [(0, .ref p0), (1, .int p1), (2, .int p2), (3, .int p3)] [] S Q := by
  unfold w_X9_multiplied_34 at h
  refine zu_aload_n d_8056_34 rfl (zs_ra _) ?_
  obtain ⟨k1, h⟩ := h
  refine zg_8_191 rfl d_8056_35 k1 ?_
  refine zu_aload_n d_8056_38 rfl (zs_ra _) ?_
  refine zg_8_653 rfl d_8056_39 k1 ?_
  obtain ⟨b2, e3, h⟩ := h
  refine zs_stk1 (zs_rfe e3) ?_
  obtain ⟨k4, h⟩ := h
  refine zu_iald (k := 0) d_8056_42 rfl rfl k4 ?_
  refine zu_istore d_8056_43 (zs_lt zq_8056 rfl) ?_
  refine zu_aload_n d_8056_45 rfl (zs_ra _) ?_
  refine zg_8_197 rfl d_8056_46 k1 ?_
  refine zu_aload_n d_8056_49 rfl (zs_ra _) ?_
  refine zg_8_653 rfl d_8056_50 k1 ?_
  refine zu_iconst d_8056_53 zi_1 ?_
  refine zu_stk d_8056_54 rfl rfl ?_
  obtain ⟨b5, e6, h⟩ := h
  refine zs_stk1 (zs_rfe e6) ?_
  obtain ⟨k7, h⟩ := h
  refine zu_bald (k := 2) d_8056_55 rfl (Or.inr rfl) k7 ?_
  refine zu_ifeq (t := 75) d_8056_56 rfl (fun c8 => ?_) (fun c8 => ?_)
  · have h := h.1 c8
    exact (u_X9_multiplied_75 hB h).weak ⟨rfl, rfl, rfl, rfl, rfl, trivial⟩
  · have h := h.2 c8
    refine zu_aload_n d_8056_59 rfl (zs_ra _) ?_
    refine zg_8_197 rfl d_8056_60 k1 ?_
    refine zu_aload_n d_8056_63 rfl (zs_ra _) ?_
    refine zg_8_653 rfl d_8056_64 k1 ?_
    refine zs_stk1 (zs_rfe e6) ?_
    obtain ⟨k9, h⟩ := h
    refine zu_bald (k := 2) d_8056_67 rfl (Or.inr rfl) k9 ?_
    refine zu_ifeq (t := 75) d_8056_68 rfl (fun c10 => ?_) (fun c10 => ?_)
    · have h := h.1 c10
      exact (u_X9_multiplied_75 hB h).weak ⟨rfl, rfl, rfl, rfl, rfl, trivial⟩
    · have h := h.2 c10
      exact (u_X9_multiplied_71 hB h).weak ⟨rfl, rfl, rfl, rfl, rfl, trivial⟩
def w_X9_multiplied (X : zs_X) (d : Nat) (p0 : Nat) (p1 : Int32) (p2 : Int32) (S : zs_T) (Q : zs_Q) : Prop :=
  (zs_K S p0 = some (.inl 8) ∧ zs_C X d 8039 [.ref p0] S (zs_kV (fun S2 => (zs_K S2 p0 = some (.inl 8) ∧ (((zs_I S2 8010 p0) ≤ 0 → (ab_n0 X.1 ≤ p0 ∧ ∀ S7, S7 = zs_sI S2 8097 p0 ((zs_I S2 8097 p0) - (1 : Int32)) → ∃ b10, (zs_R S7 8091 p0) = some b10 ∧ zs_A S2 b10 0 ((zs_I S7 8097 p0) - (1 : Int32)) ∧ w_X9_multiplied_34 X d p0 p1 p2 (zs_i S7 b10 ((zs_I S7 8097 p0) - (1 : Int32)).toNatClampNeg) S7 Q)) ∧ (¬ ((zs_I S2 8010 p0) ≤ 0) → (Q (.returned none) S2))))) Q))
theorem u_X9_multiplied {σ : Nat → Nat} {n0 : Nat} {bf : ab_B} {d : Nat} {p0 : Nat} {p1 : Int32} {p2 : Int32} {S : zs_T} {Q : zs_Q} (hB : zt_B bf) (hd : 1 ≤ d) (h : w_X9_multiplied (zx σ n0 bf) (d - 1) p0 p1 p2 S Q) : zs_C (zx σ n0 bf) d 8056 [.ref p0, .int p1, .int p2] S Q := by
  have hL : lv_args 0 [.ref p0, .int p1, .int p2] = [(0, .ref p0), (1, .int p1), (2, .int p2)] := rfl
  refine zs_C.of1 (hB.2 8056 (by decide) (by decide)) hd (by rw [hL]; exact zs_sub_self _ (by exact ⟨rfl, rfl, rfl, trivial⟩)) ?_
  rw [hL]
  clear hL
  unfold w_X9_multiplied at h
  refine zu_aload_n d_8056_0 rfl (zs_ra _) ?_
  obtain ⟨k1, h⟩ := h
  refine zc_8_670  hB rfl k1 d_8056_1 (Nat.le_of_ble_eq_true rfl) h (fun S2 h => ?_)
  refine zu_aload_n d_8056_4 rfl (zs_ra _) ?_
  obtain ⟨k4, h⟩ := h
  refine zg_8_444 rfl d_8056_5 k4 ?_
  refine zu_ifle (t := 12) d_8056_8 rfl (fun c5 => ?_) (fun c5 => ?_)
  · have h := h.1 c5
    refine zu_aload_n d_8056_12 rfl (zs_ra _) ?_
    refine zu_dup d_8056_13 rfl ?_
    refine zg_8_653 rfl d_8056_14 k4 ?_
    refine zu_iconst d_8056_17 zi_1 ?_
    refine zu_stk d_8056_18 rfl rfl ?_
    obtain ⟨k6, h⟩ := h
    refine zp_8_653 (v := ((zs_I S2 8097 p0) - (1 : Int32))) rfl d_8056_19 k4 k6 ?_
    generalize e8 : zs_sI S2 8097 p0 ((zs_I S2 8097 p0) - (1 : Int32)) = S7
    have h := h S7 e8.symm
    have K9 : ∀ b, zs_K S7 b = zs_K S2 b := zs_Kt e8 (zs_KsI _ _ _ _) (fun _ => rfl)
    refine zu_aload_n d_8056_22 rfl (zs_ra _) ?_
    refine zg_8_191 rfl d_8056_23 ((K9 _).trans k4) ?_
    refine zu_aload_n d_8056_26 rfl (zs_ra _) ?_
    refine zg_8_653 rfl d_8056_27 ((K9 _).trans k4) ?_
    refine zu_iconst d_8056_30 zi_1 ?_
    refine zu_stk d_8056_31 rfl rfl ?_
    obtain ⟨b10, e11, h⟩ := h
    refine zs_stk1 (zs_rfe e11) ?_
    obtain ⟨k12, h⟩ := h
    refine zu_iald (k := 0) d_8056_32 rfl rfl (zs_Ak K9 k12) ?_
    refine zu_istore_n d_8056_33 (zs_lt zq_8056 rfl) ?_
    exact (u_X9_multiplied_34 hB h).weak ⟨rfl, rfl, rfl, rfl, trivial⟩
  · have h := h.2 c5
    exact zu_vret d_8056_11 zr_8056 h
/-! SchemaPascalModel.factor()V -/
theorem zm_8057 {σ : Nat → Nat} {n0 : Nat} {bf : ab_B} : ab_code (zx σ n0 bf).1 8057 = prog_17_method_66_code := rfl
theorem zq_8057 {σ : Nat → Nat} {n0 : Nat} {bf : ab_B} : ab_maxL (zx σ n0 bf).1 8057 = 2 := rfl
theorem zr_8057 {σ : Nat → Nat} {n0 : Nat} {bf : ab_B} : ab_ret (zx σ n0 bf).1 8057 = (Option.none : Option Jvm.ClassFile.FieldType) := rfl
theorem d_8057_0 {σ : Nat → Nat} {n0 : Nat} {bf : ab_B} : decode (ab_code (zx σ n0 bf).1 8057) 0 = .ok (.aload_n 0, 1) := zd zm_8057 (by decide +kernel)
theorem d_8057_1 {σ : Nat → Nat} {n0 : Nat} {bf : ab_B} : decode (ab_code (zx σ n0 bf).1 8057) 1 = .ok (.getfield 450, 3) := zd zm_8057 (by decide +kernel)
theorem d_8057_4 {σ : Nat → Nat} {n0 : Nat} {bf : ab_B} : decode (ab_code (zx σ n0 bf).1 8057) 4 = .ok (.istore_n 1, 1) := zd zm_8057 (by decide +kernel)
theorem d_8057_5 {σ : Nat → Nat} {n0 : Nat} {bf : ab_B} : decode (ab_code (zx σ n0 bf).1 8057) 5 = .ok (.aload_n 0, 1) := zd zm_8057 (by decide +kernel)
theorem d_8057_6 {σ : Nat → Nat} {n0 : Nat} {bf : ab_B} : decode (ab_code (zx σ n0 bf).1 8057) 6 = .ok (.getfield 444, 3) := zd zm_8057 (by decide +kernel)
theorem d_8057_9 {σ : Nat → Nat} {n0 : Nat} {bf : ab_B} : decode (ab_code (zx σ n0 bf).1 8057) 9 = .ok (.ifCond .le 4, 3) := zd zm_8057 (by decide +kernel)
theorem d_8057_12 {σ : Nat → Nat} {n0 : Nat} {bf : ab_B} : decode (ab_code (zx σ n0 bf).1 8057) 12 = .ok (.return_, 1) := zd zm_8057 (by decide +kernel)
theorem d_8057_13 {σ : Nat → Nat} {n0 : Nat} {bf : ab_B} : decode (ab_code (zx σ n0 bf).1 8057) 13 = .ok (.aload_n 0, 1) := zd zm_8057 (by decide +kernel)
theorem d_8057_14 {σ : Nat → Nat} {n0 : Nat} {bf : ab_B} : decode (ab_code (zx σ n0 bf).1 8057) 14 = .ok (.getfield 484, 3) := zd zm_8057 (by decide +kernel)
theorem d_8057_17 {σ : Nat → Nat} {n0 : Nat} {bf : ab_B} : decode (ab_code (zx σ n0 bf).1 8057) 17 = .ok (.iconst 3, 1) := zd zm_8057 (by decide +kernel)
theorem d_8057_18 {σ : Nat → Nat} {n0 : Nat} {bf : ab_B} : decode (ab_code (zx σ n0 bf).1 8057) 18 = .ok (.if_icmp .ne 31, 3) := zd zm_8057 (by decide +kernel)
theorem d_8057_21 {σ : Nat → Nat} {n0 : Nat} {bf : ab_B} : decode (ab_code (zx σ n0 bf).1 8057) 21 = .ok (.aload_n 0, 1) := zd zm_8057 (by decide +kernel)
theorem d_8057_22 {σ : Nat → Nat} {n0 : Nat} {bf : ab_B} : decode (ab_code (zx σ n0 bf).1 8057) 22 = .ok (.iconst 1, 1) := zd zm_8057 (by decide +kernel)
theorem d_8057_23 {σ : Nat → Nat} {n0 : Nat} {bf : ab_B} : decode (ab_code (zx σ n0 bf).1 8057) 23 = .ok (.iconst 0, 1) := zd zm_8057 (by decide +kernel)
theorem d_8057_24 {σ : Nat → Nat} {n0 : Nat} {bf : ab_B} : decode (ab_code (zx σ n0 bf).1 8057) 24 = .ok (.iconst 1, 1) := zd zm_8057 (by decide +kernel)
theorem d_8057_25 {σ : Nat → Nat} {n0 : Nat} {bf : ab_B} : decode (ab_code (zx σ n0 bf).1 8057) 25 = .ok (.bipush 8, 2) := zd zm_8057 (by decide +kernel)
theorem d_8057_27 {σ : Nat → Nat} {n0 : Nat} {bf : ab_B} : decode (ab_code (zx σ n0 bf).1 8057) 27 = .ok (.aload_n 0, 1) := zd zm_8057 (by decide +kernel)
theorem d_8057_28 {σ : Nat → Nat} {n0 : Nat} {bf : ab_B} : decode (ab_code (zx σ n0 bf).1 8057) 28 = .ok (.iconst 1, 1) := zd zm_8057 (by decide +kernel)
theorem d_8057_29 {σ : Nat → Nat} {n0 : Nat} {bf : ab_B} : decode (ab_code (zx σ n0 bf).1 8057) 29 = .ok (.aload_n 0, 1) := zd zm_8057 (by decide +kernel)
theorem d_8057_30 {σ : Nat → Nat} {n0 : Nat} {bf : ab_B} : decode (ab_code (zx σ n0 bf).1 8057) 30 = .ok (.getfield 494, 3) := zd zm_8057 (by decide +kernel)
theorem d_8057_33 {σ : Nat → Nat} {n0 : Nat} {bf : ab_B} : decode (ab_code (zx σ n0 bf).1 8057) 33 = .ok (.iconst 0, 1) := zd zm_8057 (by decide +kernel)
theorem d_8057_34 {σ : Nat → Nat} {n0 : Nat} {bf : ab_B} : decode (ab_code (zx σ n0 bf).1 8057) 34 = .ok (.iload_n 1, 1) := zd zm_8057 (by decide +kernel)
theorem d_8057_35 {σ : Nat → Nat} {n0 : Nat} {bf : ab_B} : decode (ab_code (zx σ n0 bf).1 8057) 35 = .ok (.invokevirtual 656, 3) := zd zm_8057 (by decide +kernel)
theorem d_8057_38 {σ : Nat → Nat} {n0 : Nat} {bf : ab_B} : decode (ab_code (zx σ n0 bf).1 8057) 38 = .ok (.iload_n 1, 1) := zd zm_8057 (by decide +kernel)
theorem d_8057_39 {σ : Nat → Nat} {n0 : Nat} {bf : ab_B} : decode (ab_code (zx σ n0 bf).1 8057) 39 = .ok (.invokevirtual 699, 3) := zd zm_8057 (by decide +kernel)
theorem d_8057_42 {σ : Nat → Nat} {n0 : Nat} {bf : ab_B} : decode (ab_code (zx σ n0 bf).1 8057) 42 = .ok (.aload_n 0, 1) := zd zm_8057 (by decide +kernel)
theorem d_8057_43 {σ : Nat → Nat} {n0 : Nat} {bf : ab_B} : decode (ab_code (zx σ n0 bf).1 8057) 43 = .ok (.invokevirtual 538, 3) := zd zm_8057 (by decide +kernel)
theorem d_8057_46 {σ : Nat → Nat} {n0 : Nat} {bf : ab_B} : decode (ab_code (zx σ n0 bf).1 8057) 46 = .ok (.goto 196, 3) := zd zm_8057 (by decide +kernel)
theorem d_8057_49 {σ : Nat → Nat} {n0 : Nat} {bf : ab_B} : decode (ab_code (zx σ n0 bf).1 8057) 49 = .ok (.aload_n 0, 1) := zd zm_8057 (by decide +kernel)
theorem d_8057_50 {σ : Nat → Nat} {n0 : Nat} {bf : ab_B} : decode (ab_code (zx σ n0 bf).1 8057) 50 = .ok (.getfield 484, 3) := zd zm_8057 (by decide +kernel)
theorem d_8057_53 {σ : Nat → Nat} {n0 : Nat} {bf : ab_B} : decode (ab_code (zx σ n0 bf).1 8057) 53 = .ok (.iconst 4, 1) := zd zm_8057 (by decide +kernel)
theorem d_8057_54 {σ : Nat → Nat} {n0 : Nat} {bf : ab_B} : decode (ab_code (zx σ n0 bf).1 8057) 54 = .ok (.if_icmp .ne 11, 3) := zd zm_8057 (by decide +kernel)
theorem d_8057_57 {σ : Nat → Nat} {n0 : Nat} {bf : ab_B} : decode (ab_code (zx σ n0 bf).1 8057) 57 = .ok (.aload_n 0, 1) := zd zm_8057 (by decide +kernel)
theorem d_8057_58 {σ : Nat → Nat} {n0 : Nat} {bf : ab_B} : decode (ab_code (zx σ n0 bf).1 8057) 58 = .ok (.iload_n 1, 1) := zd zm_8057 (by decide +kernel)
theorem d_8057_59 {σ : Nat → Nat} {n0 : Nat} {bf : ab_B} : decode (ab_code (zx σ n0 bf).1 8057) 59 = .ok (.invokevirtual 703, 3) := zd zm_8057 (by decide +kernel)
theorem d_8057_62 {σ : Nat → Nat} {n0 : Nat} {bf : ab_B} : decode (ab_code (zx σ n0 bf).1 8057) 62 = .ok (.goto 180, 3) := zd zm_8057 (by decide +kernel)
theorem d_8057_65 {σ : Nat → Nat} {n0 : Nat} {bf : ab_B} : decode (ab_code (zx σ n0 bf).1 8057) 65 = .ok (.aload_n 0, 1) := zd zm_8057 (by decide +kernel)
theorem d_8057_66 {σ : Nat → Nat} {n0 : Nat} {bf : ab_B} : decode (ab_code (zx σ n0 bf).1 8057) 66 = .ok (.bipush 28, 2) := zd zm_8057 (by decide +kernel)
theorem d_8057_68 {σ : Nat → Nat} {n0 : Nat} {bf : ab_B} : decode (ab_code (zx σ n0 bf).1 8057) 68 = .ok (.invokevirtual 544, 3) := zd zm_8057 (by decide +kernel)
theorem d_8057_71 {σ : Nat → Nat} {n0 : Nat} {bf : ab_B} : decode (ab_code (zx σ n0 bf).1 8057) 71 = .ok (.ifCond .eq 28, 3) := zd zm_8057 (by decide +kernel)
theorem d_8057_74 {σ : Nat → Nat} {n0 : Nat} {bf : ab_B} : decode (ab_code (zx σ n0 bf).1 8057) 74 = .ok (.aload_n 0, 1) := zd zm_8057 (by decide +kernel)
theorem d_8057_75 {σ : Nat → Nat} {n0 : Nat} {bf : ab_B} : decode (ab_code (zx σ n0 bf).1 8057) 75 = .ok (.iconst 4, 1) := zd zm_8057 (by decide +kernel)
theorem d_8057_76 {σ : Nat → Nat} {n0 : Nat} {bf : ab_B} : decode (ab_code (zx σ n0 bf).1 8057) 76 = .ok (.iconst 0, 1) := zd zm_8057 (by decide +kernel)
theorem d_8057_77 {σ : Nat → Nat} {n0 : Nat} {bf : ab_B} : decode (ab_code (zx σ n0 bf).1 8057) 77 = .ok (.iconst 0, 1) := zd zm_8057 (by decide +kernel)
theorem d_8057_78 {σ : Nat → Nat} {n0 : Nat} {bf : ab_B} : decode (ab_code (zx σ n0 bf).1 8057) 78 = .ok (.bipush 8, 2) := zd zm_8057 (by decide +kernel)
theorem d_8057_80 {σ : Nat → Nat} {n0 : Nat} {bf : ab_B} : decode (ab_code (zx σ n0 bf).1 8057) 80 = .ok (.aload_n 0, 1) := zd zm_8057 (by decide +kernel)
theorem d_8057_81 {σ : Nat → Nat} {n0 : Nat} {bf : ab_B} : decode (ab_code (zx σ n0 bf).1 8057) 81 = .ok (.iconst 1, 1) := zd zm_8057 (by decide +kernel)
theorem d_8057_82 {σ : Nat → Nat} {n0 : Nat} {bf : ab_B} : decode (ab_code (zx σ n0 bf).1 8057) 82 = .ok (.iconst 0, 1) := zd zm_8057 (by decide +kernel)
theorem d_8057_83 {σ : Nat → Nat} {n0 : Nat} {bf : ab_B} : decode (ab_code (zx σ n0 bf).1 8057) 83 = .ok (.iconst 0, 1) := zd zm_8057 (by decide +kernel)
theorem d_8057_84 {σ : Nat → Nat} {n0 : Nat} {bf : ab_B} : decode (ab_code (zx σ n0 bf).1 8057) 84 = .ok (.iload_n 1, 1) := zd zm_8057 (by decide +kernel)
theorem d_8057_85 {σ : Nat → Nat} {n0 : Nat} {bf : ab_B} : decode (ab_code (zx σ n0 bf).1 8057) 85 = .ok (.invokevirtual 656, 3) := zd zm_8057 (by decide +kernel)
theorem d_8057_88 {σ : Nat → Nat} {n0 : Nat} {bf : ab_B} : decode (ab_code (zx σ n0 bf).1 8057) 88 = .ok (.iload_n 1, 1) := zd zm_8057 (by decide +kernel)
theorem d_8057_89 {σ : Nat → Nat} {n0 : Nat} {bf : ab_B} : decode (ab_code (zx σ n0 bf).1 8057) 89 = .ok (.invokevirtual 699, 3) := zd zm_8057 (by decide +kernel)
theorem d_8057_92 {σ : Nat → Nat} {n0 : Nat} {bf : ab_B} : decode (ab_code (zx σ n0 bf).1 8057) 92 = .ok (.aload_n 0, 1) := zd zm_8057 (by decide +kernel)
theorem d_8057_93 {σ : Nat → Nat} {n0 : Nat} {bf : ab_B} : decode (ab_code (zx σ n0 bf).1 8057) 93 = .ok (.invokevirtual 538, 3) := zd zm_8057 (by decide +kernel)
theorem d_8057_96 {σ : Nat → Nat} {n0 : Nat} {bf : ab_B} : decode (ab_code (zx σ n0 bf).1 8057) 96 = .ok (.goto 146, 3) := zd zm_8057 (by decide +kernel)
theorem d_8057_99 {σ : Nat → Nat} {n0 : Nat} {bf : ab_B} : decode (ab_code (zx σ n0 bf).1 8057) 99 = .ok (.aload_n 0, 1) := zd zm_8057 (by decide +kernel)
theorem d_8057_100 {σ : Nat → Nat} {n0 : Nat} {bf : ab_B} : decode (ab_code (zx σ n0 bf).1 8057) 100 = .ok (.bipush 33, 2) := zd zm_8057 (by decide +kernel)
theorem d_8057_102 {σ : Nat → Nat} {n0 : Nat} {bf : ab_B} : decode (ab_code (zx σ n0 bf).1 8057) 102 = .ok (.invokevirtual 544, 3) := zd zm_8057 (by decide +kernel)
theorem d_8057_105 {σ : Nat → Nat} {n0 : Nat} {bf : ab_B} : decode (ab_code (zx σ n0 bf).1 8057) 105 = .ok (.ifCond .eq 32, 3) := zd zm_8057 (by decide +kernel)
theorem d_8057_108 {σ : Nat → Nat} {n0 : Nat} {bf : ab_B} : decode (ab_code (zx σ n0 bf).1 8057) 108 = .ok (.aload_n 0, 1) := zd zm_8057 (by decide +kernel)
theorem d_8057_109 {σ : Nat → Nat} {n0 : Nat} {bf : ab_B} : decode (ab_code (zx σ n0 bf).1 8057) 109 = .ok (.bipush 13, 2) := zd zm_8057 (by decide +kernel)
theorem d_8057_111 {σ : Nat → Nat} {n0 : Nat} {bf : ab_B} : decode (ab_code (zx σ n0 bf).1 8057) 111 = .ok (.iload_n 1, 1) := zd zm_8057 (by decide +kernel)
theorem d_8057_112 {σ : Nat → Nat} {n0 : Nat} {bf : ab_B} : decode (ab_code (zx σ n0 bf).1 8057) 112 = .ok (.iconst 0, 1) := zd zm_8057 (by decide +kernel)
theorem d_8057_113 {σ : Nat → Nat} {n0 : Nat} {bf : ab_B} : decode (ab_code (zx σ n0 bf).1 8057) 113 = .ok (.iconst 0, 1) := zd zm_8057 (by decide +kernel)
theorem d_8057_114 {σ : Nat → Nat} {n0 : Nat} {bf : ab_B} : decode (ab_code (zx σ n0 bf).1 8057) 114 = .ok (.invokevirtual 649, 3) := zd zm_8057 (by decide +kernel)
theorem d_8057_117 {σ : Nat → Nat} {n0 : Nat} {bf : ab_B} : decode (ab_code (zx σ n0 bf).1 8057) 117 = .ok (.aload_n 0, 1) := zd zm_8057 (by decide +kernel)
theorem d_8057_118 {σ : Nat → Nat} {n0 : Nat} {bf : ab_B} : decode (ab_code (zx σ n0 bf).1 8057) 118 = .ok (.invokevirtual 706, 3) := zd zm_8057 (by decide +kernel)
theorem d_8057_121 {σ : Nat → Nat} {n0 : Nat} {bf : ab_B} : decode (ab_code (zx σ n0 bf).1 8057) 121 = .ok (.aload_n 0, 1) := zd zm_8057 (by decide +kernel)
theorem d_8057_122 {σ : Nat → Nat} {n0 : Nat} {bf : ab_B} : decode (ab_code (zx σ n0 bf).1 8057) 122 = .ok (.bipush 12, 2) := zd zm_8057 (by decide +kernel)
theorem d_8057_124 {σ : Nat → Nat} {n0 : Nat} {bf : ab_B} : decode (ab_code (zx σ n0 bf).1 8057) 124 = .ok (.iconst 0, 1) := zd zm_8057 (by decide +kernel)
theorem d_8057_125 {σ : Nat → Nat} {n0 : Nat} {bf : ab_B} : decode (ab_code (zx σ n0 bf).1 8057) 125 = .ok (.iconst 0, 1) := zd zm_8057 (by decide +kernel)
theorem d_8057_126 {σ : Nat → Nat} {n0 : Nat} {bf : ab_B} : decode (ab_code (zx σ n0 bf).1 8057) 126 = .ok (.iconst 0, 1) := zd zm_8057 (by decide +kernel)
theorem d_8057_127 {σ : Nat → Nat} {n0 : Nat} {bf : ab_B} : decode (ab_code (zx σ n0 bf).1 8057) 127 = .ok (.invokevirtual 649, 3) := zd zm_8057 (by decide +kernel)
theorem d_8057_130 {σ : Nat → Nat} {n0 : Nat} {bf : ab_B} : decode (ab_code (zx σ n0 bf).1 8057) 130 = .ok (.aload_n 0, 1) := zd zm_8057 (by decide +kernel)
theorem d_8057_131 {σ : Nat → Nat} {n0 : Nat} {bf : ab_B} : decode (ab_code (zx σ n0 bf).1 8057) 131 = .ok (.invokevirtual 538, 3) := zd zm_8057 (by decide +kernel)
theorem d_8057_134 {σ : Nat → Nat} {n0 : Nat} {bf : ab_B} : decode (ab_code (zx σ n0 bf).1 8057) 134 = .ok (.goto 108, 3) := zd zm_8057 (by decide +kernel)
theorem d_8057_137 {σ : Nat → Nat} {n0 : Nat} {bf : ab_B} : decode (ab_code (zx σ n0 bf).1 8057) 137 = .ok (.aload_n 0, 1) := zd zm_8057 (by decide +kernel)
theorem d_8057_138 {σ : Nat → Nat} {n0 : Nat} {bf : ab_B} : decode (ab_code (zx σ n0 bf).1 8057) 138 = .ok (.bipush 8, 2) := zd zm_8057 (by decide +kernel)
theorem d_8057_140 {σ : Nat → Nat} {n0 : Nat} {bf : ab_B} : decode (ab_code (zx σ n0 bf).1 8057) 140 = .ok (.invokevirtual 535, 3) := zd zm_8057 (by decide +kernel)
theorem d_8057_143 {σ : Nat → Nat} {n0 : Nat} {bf : ab_B} : decode (ab_code (zx σ n0 bf).1 8057) 143 = .ok (.ifCond .eq 31, 3) := zd zm_8057 (by decide +kernel)
theorem d_8057_146 {σ : Nat → Nat} {n0 : Nat} {bf : ab_B} : decode (ab_code (zx σ n0 bf).1 8057) 146 = .ok (.aload_n 0, 1) := zd zm_8057 (by decide +kernel)
theorem d_8057_147 {σ : Nat → Nat} {n0 : Nat} {bf : ab_B} : decode (ab_code (zx σ n0 bf).1 8057) 147 = .ok (.bipush 14, 2) := zd zm_8057 (by decide +kernel)
theorem d_8057_149 {σ : Nat → Nat} {n0 : Nat} {bf : ab_B} : decode (ab_code (zx σ n0 bf).1 8057) 149 = .ok (.iconst 0, 1) := zd zm_8057 (by decide +kernel)
theorem d_8057_150 {σ : Nat → Nat} {n0 : Nat} {bf : ab_B} : decode (ab_code (zx σ n0 bf).1 8057) 150 = .ok (.iconst 0, 1) := zd zm_8057 (by decide +kernel)
theorem d_8057_151 {σ : Nat → Nat} {n0 : Nat} {bf : ab_B} : decode (ab_code (zx σ n0 bf).1 8057) 151 = .ok (.iconst 0, 1) := zd zm_8057 (by decide +kernel)
theorem d_8057_152 {σ : Nat → Nat} {n0 : Nat} {bf : ab_B} : decode (ab_code (zx σ n0 bf).1 8057) 152 = .ok (.invokevirtual 649, 3) := zd zm_8057 (by decide +kernel)
theorem d_8057_155 {σ : Nat → Nat} {n0 : Nat} {bf : ab_B} : decode (ab_code (zx σ n0 bf).1 8057) 155 = .ok (.aload_n 0, 1) := zd zm_8057 (by decide +kernel)
theorem d_8057_156 {σ : Nat → Nat} {n0 : Nat} {bf : ab_B} : decode (ab_code (zx σ n0 bf).1 8057) 156 = .ok (.invokevirtual 706, 3) := zd zm_8057 (by decide +kernel)
theorem d_8057_159 {σ : Nat → Nat} {n0 : Nat} {bf : ab_B} : decode (ab_code (zx σ n0 bf).1 8057) 159 = .ok (.aload_n 0, 1) := zd zm_8057 (by decide +kernel)
theorem d_8057_160 {σ : Nat → Nat} {n0 : Nat} {bf : ab_B} : decode (ab_code (zx σ n0 bf).1 8057) 160 = .ok (.iconst 2, 1) := zd zm_8057 (by decide +kernel)
theorem d_8057_161 {σ : Nat → Nat} {n0 : Nat} {bf : ab_B} : decode (ab_code (zx σ n0 bf).1 8057) 161 = .ok (.iconst 0, 1) := zd zm_8057 (by decide +kernel)
theorem d_8057_162 {σ : Nat → Nat} {n0 : Nat} {bf : ab_B} : decode (ab_code (zx σ n0 bf).1 8057) 162 = .ok (.iconst 0, 1) := zd zm_8057 (by decide +kernel)
theorem d_8057_163 {σ : Nat → Nat} {n0 : Nat} {bf : ab_B} : decode (ab_code (zx σ n0 bf).1 8057) 163 = .ok (.iconst 0, 1) := zd zm_8057 (by decide +kernel)
theorem d_8057_164 {σ : Nat → Nat} {n0 : Nat} {bf : ab_B} : decode (ab_code (zx σ n0 bf).1 8057) 164 = .ok (.invokevirtual 649, 3) := zd zm_8057 (by decide +kernel)
theorem d_8057_167 {σ : Nat → Nat} {n0 : Nat} {bf : ab_B} : decode (ab_code (zx σ n0 bf).1 8057) 167 = .ok (.aload_n 0, 1) := zd zm_8057 (by decide +kernel)
theorem d_8057_168 {σ : Nat → Nat} {n0 : Nat} {bf : ab_B} : decode (ab_code (zx σ n0 bf).1 8057) 168 = .ok (.invokevirtual 538, 3) := zd zm_8057 (by decide +kernel)
theorem d_8057_171 {σ : Nat → Nat} {n0 : Nat} {bf : ab_B} : decode (ab_code (zx σ n0 bf).1 8057) 171 = .ok (.goto 71, 3) := zd zm_8057 (by decide +kernel)
theorem d_8057_174 {σ : Nat → Nat} {n0 : Nat} {bf : ab_B} : decode (ab_code (zx σ n0 bf).1 8057) 174 = .ok (.aload_n 0, 1) := zd zm_8057 (by decide +kernel)
theorem d_8057_175 {σ : Nat → Nat} {n0 : Nat} {bf : ab_B} : decode (ab_code (zx σ n0 bf).1 8057) 175 = .ok (.bipush 10, 2) := zd zm_8057 (by decide +kernel)
theorem d_8057_177 {σ : Nat → Nat} {n0 : Nat} {bf : ab_B} : decode (ab_code (zx σ n0 bf).1 8057) 177 = .ok (.invokevirtual 535, 3) := zd zm_8057 (by decide +kernel)
theorem d_8057_180 {σ : Nat → Nat} {n0 : Nat} {bf : ab_B} : decode (ab_code (zx σ n0 bf).1 8057) 180 = .ok (.ifCond .eq 41, 3) := zd zm_8057 (by decide +kernel)
theorem d_8057_183 {σ : Nat → Nat} {n0 : Nat} {bf : ab_B} : decode (ab_code (zx σ n0 bf).1 8057) 183 = .ok (.aload_n 0, 1) := zd zm_8057 (by decide +kernel)
theorem d_8057_184 {σ : Nat → Nat} {n0 : Nat} {bf : ab_B} : decode (ab_code (zx σ n0 bf).1 8057) 184 = .ok (.iconst 5, 1) := zd zm_8057 (by decide +kernel)
theorem d_8057_185 {σ : Nat → Nat} {n0 : Nat} {bf : ab_B} : decode (ab_code (zx σ n0 bf).1 8057) 185 = .ok (.iconst 0, 1) := zd zm_8057 (by decide +kernel)
theorem d_8057_186 {σ : Nat → Nat} {n0 : Nat} {bf : ab_B} : decode (ab_code (zx σ n0 bf).1 8057) 186 = .ok (.iconst 0, 1) := zd zm_8057 (by decide +kernel)
theorem d_8057_187 {σ : Nat → Nat} {n0 : Nat} {bf : ab_B} : decode (ab_code (zx σ n0 bf).1 8057) 187 = .ok (.bipush 8, 2) := zd zm_8057 (by decide +kernel)
theorem d_8057_189 {σ : Nat → Nat} {n0 : Nat} {bf : ab_B} : decode (ab_code (zx σ n0 bf).1 8057) 189 = .ok (.aload_n 0, 1) := zd zm_8057 (by decide +kernel)
theorem d_8057_190 {σ : Nat → Nat} {n0 : Nat} {bf : ab_B} : decode (ab_code (zx σ n0 bf).1 8057) 190 = .ok (.iconst 1, 1) := zd zm_8057 (by decide +kernel)
theorem d_8057_191 {σ : Nat → Nat} {n0 : Nat} {bf : ab_B} : decode (ab_code (zx σ n0 bf).1 8057) 191 = .ok (.iconst 0, 1) := zd zm_8057 (by decide +kernel)
theorem d_8057_192 {σ : Nat → Nat} {n0 : Nat} {bf : ab_B} : decode (ab_code (zx σ n0 bf).1 8057) 192 = .ok (.iconst 0, 1) := zd zm_8057 (by decide +kernel)
theorem d_8057_193 {σ : Nat → Nat} {n0 : Nat} {bf : ab_B} : decode (ab_code (zx σ n0 bf).1 8057) 193 = .ok (.iload_n 1, 1) := zd zm_8057 (by decide +kernel)
theorem d_8057_194 {σ : Nat → Nat} {n0 : Nat} {bf : ab_B} : decode (ab_code (zx σ n0 bf).1 8057) 194 = .ok (.invokevirtual 656, 3) := zd zm_8057 (by decide +kernel)
theorem d_8057_197 {σ : Nat → Nat} {n0 : Nat} {bf : ab_B} : decode (ab_code (zx σ n0 bf).1 8057) 197 = .ok (.iload_n 1, 1) := zd zm_8057 (by decide +kernel)
theorem d_8057_198 {σ : Nat → Nat} {n0 : Nat} {bf : ab_B} : decode (ab_code (zx σ n0 bf).1 8057) 198 = .ok (.invokevirtual 699, 3) := zd zm_8057 (by decide +kernel)
theorem d_8057_201 {σ : Nat → Nat} {n0 : Nat} {bf : ab_B} : decode (ab_code (zx σ n0 bf).1 8057) 201 = .ok (.aload_n 0, 1) := zd zm_8057 (by decide +kernel)
theorem d_8057_202 {σ : Nat → Nat} {n0 : Nat} {bf : ab_B} : decode (ab_code (zx σ n0 bf).1 8057) 202 = .ok (.invokevirtual 706, 3) := zd zm_8057 (by decide +kernel)
theorem d_8057_205 {σ : Nat → Nat} {n0 : Nat} {bf : ab_B} : decode (ab_code (zx σ n0 bf).1 8057) 205 = .ok (.aload_n 0, 1) := zd zm_8057 (by decide +kernel)
theorem d_8057_206 {σ : Nat → Nat} {n0 : Nat} {bf : ab_B} : decode (ab_code (zx σ n0 bf).1 8057) 206 = .ok (.bipush 15, 2) := zd zm_8057 (by decide +kernel)
theorem d_8057_208 {σ : Nat → Nat} {n0 : Nat} {bf : ab_B} : decode (ab_code (zx σ n0 bf).1 8057) 208 = .ok (.iconst 0, 1) := zd zm_8057 (by decide +kernel)
theorem d_8057_209 {σ : Nat → Nat} {n0 : Nat} {bf : ab_B} : decode (ab_code (zx σ n0 bf).1 8057) 209 = .ok (.iconst 0, 1) := zd zm_8057 (by decide +kernel)
theorem d_8057_210 {σ : Nat → Nat} {n0 : Nat} {bf : ab_B} : decode (ab_code (zx σ n0 bf).1 8057) 210 = .ok (.iconst 0, 1) := zd zm_8057 (by decide +kernel)
theorem d_8057_211 {σ : Nat → Nat} {n0 : Nat} {bf : ab_B} : decode (ab_code (zx σ n0 bf).1 8057) 211 = .ok (.invokevirtual 649, 3) := zd zm_8057 (by decide +kernel)
theorem d_8057_214 {σ : Nat → Nat} {n0 : Nat} {bf : ab_B} : decode (ab_code (zx σ n0 bf).1 8057) 214 = .ok (.aload_n 0, 1) := zd zm_8057 (by decide +kernel)
theorem d_8057_215 {σ : Nat → Nat} {n0 : Nat} {bf : ab_B} : decode (ab_code (zx σ n0 bf).1 8057) 215 = .ok (.invokevirtual 538, 3) := zd zm_8057 (by decide +kernel)
theorem d_8057_218 {σ : Nat → Nat} {n0 : Nat} {bf : ab_B} : decode (ab_code (zx σ n0 bf).1 8057) 218 = .ok (.goto 24, 3) := zd zm_8057 (by decide +kernel)
theorem d_8057_221 {σ : Nat → Nat} {n0 : Nat} {bf : ab_B} : decode (ab_code (zx σ n0 bf).1 8057) 221 = .ok (.aload_n 0, 1) := zd zm_8057 (by decide +kernel)
theorem d_8057_222 {σ : Nat → Nat} {n0 : Nat} {bf : ab_B} : decode (ab_code (zx σ n0 bf).1 8057) 222 = .ok (.getfield 484, 3) := zd zm_8057 (by decide +kernel)
theorem d_8057_225 {σ : Nat → Nat} {n0 : Nat} {bf : ab_B} : decode (ab_code (zx σ n0 bf).1 8057) 225 = .ok (.iconst 1, 1) := zd zm_8057 (by decide +kernel)
theorem d_8057_226 {σ : Nat → Nat} {n0 : Nat} {bf : ab_B} : decode (ab_code (zx σ n0 bf).1 8057) 226 = .ok (.if_icmp .ne 11, 3) := zd zm_8057 (by decide +kernel)
theorem d_8057_229 {σ : Nat → Nat} {n0 : Nat} {bf : ab_B} : decode (ab_code (zx σ n0 bf).1 8057) 229 = .ok (.aload_n 0, 1) := zd zm_8057 (by decide +kernel)
theorem d_8057_230 {σ : Nat → Nat} {n0 : Nat} {bf : ab_B} : decode (ab_code (zx σ n0 bf).1 8057) 230 = .ok (.iload_n 1, 1) := zd zm_8057 (by decide +kernel)
theorem d_8057_231 {σ : Nat → Nat} {n0 : Nat} {bf : ab_B} : decode (ab_code (zx σ n0 bf).1 8057) 231 = .ok (.invokevirtual 709, 3) := zd zm_8057 (by decide +kernel)
theorem d_8057_234 {σ : Nat → Nat} {n0 : Nat} {bf : ab_B} : decode (ab_code (zx σ n0 bf).1 8057) 234 = .ok (.goto 8, 3) := zd zm_8057 (by decide +kernel)
theorem d_8057_237 {σ : Nat → Nat} {n0 : Nat} {bf : ab_B} : decode (ab_code (zx σ n0 bf).1 8057) 237 = .ok (.aload_n 0, 1) := zd zm_8057 (by decide +kernel)
theorem d_8057_238 {σ : Nat → Nat} {n0 : Nat} {bf : ab_B} : decode (ab_code (zx σ n0 bf).1 8057) 238 = .ok (.iconst 2, 1) := zd zm_8057 (by decide +kernel)
theorem d_8057_239 {σ : Nat → Nat} {n0 : Nat} {bf : ab_B} : decode (ab_code (zx σ n0 bf).1 8057) 239 = .ok (.invokevirtual 541, 3) := zd zm_8057 (by decide +kernel)
theorem d_8057_242 {σ : Nat → Nat} {n0 : Nat} {bf : ab_B} : decode (ab_code (zx σ n0 bf).1 8057) 242 = .ok (.return_, 1) := zd zm_8057 (by decide +kernel)
def w_X9_factor_242 (X : zs_X) (d : Nat)  (S : zs_T) (Q : zs_Q) : Prop :=
  (Q (.returned none) S)
theorem u_X9_factor_242 {σ : Nat → Nat} {n0 : Nat} {bf : ab_B} {d : Nat}  {S : zs_T} {Q : zs_Q} (hB : zt_B bf) (h : w_X9_factor_242 (zx σ n0 bf) d  S Q) : zs_U (zx σ n0 bf) d 8057 242 [] [] S Q := by
  unfold w_X9_factor_242 at h
  exact zu_vret d_8057_242 zr_8057 h
def w_X9_factor_42 (X : zs_X) (d : Nat) (p0 : Nat) (S : zs_T) (Q : zs_Q) : Prop :=
  (zs_K S p0 = some (.inl 8) ∧ zs_C X d 8014 [.ref p0] S (zs_kV (fun S2 => (w_X9_factor_242 X d  S2 Q)) Q))
theorem u_X9_factor_42 {σ : Nat → Nat} {n0 : Nat} {bf : ab_B} {d : Nat} {p0 : Nat} {S : zs_T} {Q : zs_Q} (hB : zt_B bf) (h : w_X9_factor_42 (zx σ n0 bf) d p0 S Q) : zs_U (zx σ n0 bf) d 8057 42 [(0, .ref p0)] [] S Q := by
  unfold w_X9_factor_42 at h
  refine zu_aload_n d_8057_42 rfl (zs_ra _) ?_
  obtain ⟨k1, h⟩ := h
  refine zc_8_538  hB rfl k1 d_8057_43 (Nat.le_of_ble_eq_true rfl) h (fun S2 h => ?_)
  refine zu_goto (t := 242) d_8057_46 rfl ?_
  exact (u_X9_factor_242 hB h).weak trivial
def w_X9_factor_62 (X : zs_X) (d : Nat)  (S : zs_T) (Q : zs_Q) : Prop :=
  (w_X9_factor_242 X d  S Q)
theorem u_X9_factor_62 {σ : Nat → Nat} {n0 : Nat} {bf : ab_B} {d : Nat}  {S : zs_T} {Q : zs_Q} (hB : zt_B bf) (h : w_X9_factor_62 (zx σ n0 bf) d  S Q) : zs_U (zx σ n0 bf) d 8057 62 [] [] S Q := by
  unfold w_X9_factor_62 at h
  refine zu_goto (t := 242) d_8057_62 rfl ?_
  exact (u_X9_factor_242 hB h).weak trivial
def w_X9_factor_74 (X : zs_X) (d : Nat) (p0 : Nat) (p1 : Int32) (S : zs_T) (Q : zs_Q) : Prop :=
  (zs_K S p0 = some (.inl 8) ∧ zs_C X d 8012 [.ref p0, .int (1 : Int32), .int (0 : Int32), .int (0 : Int32), .int p1] S (zs_kI (fun v3 S2 => (zs_K S2 p0 = some (.inl 8) ∧ zs_C X d 8058 [.ref p0, .int (4 : Int32), .int (0 : Int32), .int (0 : Int32), .int (8 : Int32), .int v3, .int p1] S2 (zs_kV (fun S5 => (zs_K S5 p0 = some (.inl 8) ∧ zs_C X d 8014 [.ref p0] S5 (zs_kV (fun S8 => (w_X9_factor_242 X d  S8 Q)) Q))) Q))) Q))
theorem u_X9_factor_74 {σ : Nat → Nat} {n0 : Nat} {bf : ab_B} {d : Nat} {p0 : Nat} {p1 : Int32} {S : zs_T} {Q : zs_Q} (hB : zt_B bf) (h : w_X9_factor_74 (zx σ n0 bf) d p0 p1 S Q) : zs_U (zx σ n0 bf) d 8057 74 [(0, .ref p0), (1, .int p1)] [] S Q := by
  unfold w_X9_factor_74 at h
  refine zu_aload_n d_8057_74 rfl (zs_ra _) ?_
  refine zu_iconst d_8057_75 zi_4 ?_
  refine zu_iconst d_8057_76 zi_0 ?_
  refine zu_iconst d_8057_77 zi_0 ?_
  refine zu_bipush d_8057_78 zj_8 ?_
  refine zu_aload_n d_8057_80 rfl (zs_ra _) ?_
  refine zu_iconst d_8057_81 zi_1 ?_
  refine zu_iconst d_8057_82 zi_0 ?_
  refine zu_iconst d_8057_83 zi_0 ?_
  refine zu_iload_n d_8057_84 rfl ?_
  obtain ⟨k1, h⟩ := h
  refine zc_8_656 (x0 := (1 : Int32)) (x1 := (0 : Int32)) (x2 := (0 : Int32)) (x3 := p1) hB rfl k1 d_8057_85 (Nat.le_of_ble_eq_true rfl) h (fun v3 S2 h => ?_)
  refine zu_iload_n d_8057_88 rfl ?_
  obtain ⟨k4, h⟩ := h
  refine zc_8_699 (x0 := (4 : Int32)) (x1 := (0 : Int32)) (x2 := (0 : Int32)) (x3 := (8 : Int32)) (x4 := v3) (x5 := p1) hB rfl k4 d_8057_89 (Nat.le_of_ble_eq_true rfl) h (fun S5 h => ?_)
  refine zu_aload_n d_8057_92 rfl (zs_ra _) ?_
  obtain ⟨k7, h⟩ := h
  refine zc_8_538  hB rfl k7 d_8057_93 (Nat.le_of_ble_eq_true rfl) h (fun S8 h => ?_)
  refine zu_goto (t := 242) d_8057_96 rfl ?_
  exact (u_X9_factor_242 hB h).weak trivial
def w_X9_factor_237 (X : zs_X) (d : Nat) (p0 : Nat) (S : zs_T) (Q : zs_Q) : Prop :=
  (zs_K S p0 = some (.inl 8) ∧ zs_C X d 8027 [.ref p0, .int (2 : Int32)] S (zs_kV (fun S2 => w_X9_factor_242 X d  S2 Q) Q))
theorem u_X9_factor_237 {σ : Nat → Nat} {n0 : Nat} {bf : ab_B} {d : Nat} {p0 : Nat} {S : zs_T} {Q : zs_Q} (hB : zt_B bf) (h : w_X9_factor_237 (zx σ n0 bf) d p0 S Q) : zs_U (zx σ n0 bf) d 8057 237 [(0, .ref p0)] [] S Q := by
  unfold w_X9_factor_237 at h
  refine zu_aload_n d_8057_237 rfl (zs_ra _) ?_
  refine zu_iconst d_8057_238 zi_2 ?_
  obtain ⟨k1, h⟩ := h
  refine zc_8_541 (x0 := (2 : Int32)) hB rfl k1 d_8057_239 (Nat.le_of_ble_eq_true rfl) h (fun S2 h => ?_)
  exact (u_X9_factor_242 hB h).weak trivial
def w_X9_factor_229 (X : zs_X) (d : Nat) (p0 : Nat) (p1 : Int32) (S : zs_T) (Q : zs_Q) : Prop :=
  (zs_K S p0 = some (.inl 8) ∧ zs_C X d 8061 [.ref p0, .int p1] S (zs_kV (fun S2 => (w_X9_factor_242 X d  S2 Q)) Q))
theorem u_X9_factor_229 {σ : Nat → Nat} {n0 : Nat} {bf : ab_B} {d : Nat} {p0 : Nat} {p1 : Int32} {S : zs_T} {Q : zs_Q} (hB : zt_B bf) (h : w_X9_factor_229 (zx σ n0 bf) d p0 p1 S Q) : zs_U (zx σ n0 bf) d 8057 229 [(0, .ref p0), (1, .int p1)] [] S Q := by
  unfold w_X9_factor_229 at h
  refine zu_aload_n d_8057_229 rfl (zs_ra _) ?_
  refine zu_iload_n d_8057_230 rfl ?_
  obtain ⟨k1, h⟩ := h
  refine zc_8_709 (x0 := p1) hB rfl k1 d_8057_231 (Nat.le_of_ble_eq_true rfl) h (fun S2 h => ?_)
  refine zu_goto (t := 242) d_8057_234 rfl ?_
  exact (u_X9_factor_242 hB h).weak trivial
def w_X9_factor_201 (X : zs_X) (d : Nat) (p0 : Nat) (S : zs_T) (Q : zs_Q) : Prop :=
  (zs_K S p0 = some (.inl 8) ∧ zs_C X d 8060 [.ref p0] S (zs_kV (fun S2 => (zs_K S2 p0 = some (.inl 8) ∧ zs_C X d 8030 [.ref p0, .int (15 : Int32), .int (0 : Int32), .int (0 : Int32), .int (0 : Int32)] S2 (zs_kV (fun S5 => (zs_K S5 p0 = some (.inl 8) ∧ zs_C X d 8014 [.ref p0] S5 (zs_kV (fun S8 => (w_X9_factor_242 X d  S8 Q)) Q))) Q))) Q))
theorem u_X9_factor_201 {σ : Nat → Nat} {n0 : Nat} {bf : ab_B} {d : Nat} {p0 : Nat} {S : zs_T} {Q : zs_Q} (hB : zt_B bf) (h : w_X9_factor_201 (zx σ n0 bf) d p0 S Q) : zs_U (zx σ n0 bf) d 8057 201 [(0, .ref p0)] [] S Q := by
  unfold w_X9_factor_201 at h
  refine zu_aload_n d_8057_201 rfl (zs_ra _) ?_
  obtain ⟨k1, h⟩ := h
  refine zc_8_706  hB rfl k1 d_8057_202 (Nat.le_of_ble_eq_true rfl) h (fun S2 h => ?_)
  refine zu_aload_n d_8057_205 rfl (zs_ra _) ?_
  refine zu_bipush d_8057_206 zj_15 ?_
  refine zu_iconst d_8057_208 zi_0 ?_
  refine zu_iconst d_8057_209 zi_0 ?_
  refine zu_iconst d_8057_210 zi_0 ?_
  obtain ⟨k4, h⟩ := h
  refine zc_8_649 (x0 := (15 : Int32)) (x1 := (0 : Int32)) (x2 := (0 : Int32)) (x3 := (0 : Int32)) hB rfl k4 d_8057_211 (Nat.le_of_ble_eq_true rfl) h (fun S5 h => ?_)
  refine zu_aload_n d_8057_214 rfl (zs_ra _) ?_
  obtain ⟨k7, h⟩ := h
  refine zc_8_538  hB rfl k7 d_8057_215 (Nat.le_of_ble_eq_true rfl) h (fun S8 h => ?_)
  refine zu_goto (t := 242) d_8057_218 rfl ?_
  exact (u_X9_factor_242 hB h).weak trivial
def w_X9_factor_159 (X : zs_X) (d : Nat) (p0 : Nat) (S : zs_T) (Q : zs_Q) : Prop :=
  (zs_K S p0 = some (.inl 8) ∧ zs_C X d 8030 [.ref p0, .int (2 : Int32), .int (0 : Int32), .int (0 : Int32), .int (0 : Int32)] S (zs_kV (fun S2 => (zs_K S2 p0 = some (.inl 8) ∧ zs_C X d 8014 [.ref p0] S2 (zs_kV (fun S5 => (w_X9_factor_242 X d  S5 Q)) Q))) Q))
theorem u_X9_factor_159 {σ : Nat → Nat} {n0 : Nat} {bf : ab_B} {d : Nat} {p0 : Nat} {S : zs_T} {Q : zs_Q} (hB : zt_B bf) (h : w_X9_factor_159 (zx σ n0 bf) d p0 S Q) : zs_U (zx σ n0 bf) d 8057 159 [(0, .ref p0)] [] S Q := by
  unfold w_X9_factor_159 at h
  refine zu_aload_n d_8057_159 rfl (zs_ra _) ?_
  refine zu_iconst d_8057_160 zi_2 ?_
  refine zu_iconst d_8057_161 zi_0 ?_
  refine zu_iconst d_8057_162 zi_0 ?_
  refine zu_iconst d_8057_163 zi_0 ?_
  obtain ⟨k1, h⟩ := h
  refine zc_8_649 (x0 := (2 : Int32)) (x1 := (0 : Int32)) (x2 := (0 : Int32)) (x3 := (0 : Int32)) hB rfl k1 d_8057_164 (Nat.le_of_ble_eq_true rfl) h (fun S2 h => ?_)
  refine zu_aload_n d_8057_167 rfl (zs_ra _) ?_
  obtain ⟨k4, h⟩ := h
  refine zc_8_538  hB rfl k4 d_8057_168 (Nat.le_of_ble_eq_true rfl) h (fun S5 h => ?_)
  refine zu_goto (t := 242) d_8057_171 rfl ?_
  exact (u_X9_factor_242 hB h).weak trivial
def w_X9_factor_130 (X : zs_X) (d : Nat) (p0 : Nat) (S : zs_T) (Q : zs_Q) : Prop :=
  (zs_K S p0 = some (.inl 8) ∧ zs_C X d 8014 [.ref p0] S (zs_kV (fun S2 => (w_X9_factor_242 X d  S2 Q)) Q))
theorem u_X9_factor_130 {σ : Nat → Nat} {n0 : Nat} {bf : ab_B} {d : Nat} {p0 : Nat} {S : zs_T} {Q : zs_Q} (hB : zt_B bf) (h : w_X9_factor_130 (zx σ n0 bf) d p0 S Q) : zs_U (zx σ n0 bf) d 8057 130 [(0, .ref p0)] [] S Q := by
  unfold w_X9_factor_130 at h
  refine zu_aload_n d_8057_130 rfl (zs_ra _) ?_
  obtain ⟨k1, h⟩ := h
  refine zc_8_538  hB rfl k1 d_8057_131 (Nat.le_of_ble_eq_true rfl) h (fun S2 h => ?_)
  refine zu_goto (t := 242) d_8057_134 rfl ?_
  exact (u_X9_factor_242 hB h).weak trivial
def w_X9_factor_99 (X : zs_X) (d : Nat) (p0 : Nat) (p1 : Int32) (S : zs_T) (Q : zs_Q) : Prop :=
  (zs_K S p0 = some (.inl 8) ∧ zs_C X d 8026 [.ref p0, .int (33 : Int32)] S (zs_kI (fun v3 S2 => (((v3 = 0 → (zs_K S2 p0 = some (.inl 8) ∧ zs_C X d 8029 [.ref p0, .int (8 : Int32)] S2 (zs_kI (fun v7 S6 => (((v7 = 0 → (zs_K S6 p0 = some (.inl 8) ∧ zs_C X d 8029 [.ref p0, .int (10 : Int32)] S6 (zs_kI (fun v11 S10 => (((v11 = 0 → (zs_K S10 p0 = some (.inl 8) ∧ ((¬ (zs_I S10 8006 p0) = (1 : Int32) → w_X9_factor_237 X d p0 S10 Q) ∧ (¬ (¬ (zs_I S10 8006 p0) = (1 : Int32)) → w_X9_factor_229 X d p0 p1 S10 Q)))) ∧ (¬ (v11 = 0) → (zs_K S10 p0 = some (.inl 8) ∧ zs_C X d 8012 [.ref p0, .int (1 : Int32), .int (0 : Int32), .int (0 : Int32), .int p1] S10 (zs_kI (fun v17 S16 => (zs_K S16 p0 = some (.inl 8) ∧ zs_C X d 8058 [.ref p0, .int (5 : Int32), .int (0 : Int32), .int (0 : Int32), .int (8 : Int32), .int v17, .int p1] S16 (zs_kV (fun S19 => w_X9_factor_201 X d p0 S19 Q) Q))) Q)))))) Q))) ∧ (¬ (v7 = 0) → (zs_K S6 p0 = some (.inl 8) ∧ zs_C X d 8030 [.ref p0, .int (14 : Int32), .int (0 : Int32), .int (0 : Int32), .int (0 : Int32)] S6 (zs_kV (fun S22 => (zs_K S22 p0 = some (.inl 8) ∧ zs_C X d 8060 [.ref p0] S22 (zs_kV (fun S25 => w_X9_factor_159 X d p0 S25 Q) Q))) Q)))))) Q))) ∧ (¬ (v3 = 0) → (zs_K S2 p0 = some (.inl 8) ∧ zs_C X d 8030 [.ref p0, .int (13 : Int32), .int p1, .int (0 : Int32), .int (0 : Int32)] S2 (zs_kV (fun S28 => (zs_K S28 p0 = some (.inl 8) ∧ zs_C X d 8060 [.ref p0] S28 (zs_kV (fun S31 => (zs_K S31 p0 = some (.inl 8) ∧ zs_C X d 8030 [.ref p0, .int (12 : Int32), .int (0 : Int32), .int (0 : Int32), .int (0 : Int32)] S31 (zs_kV (fun S34 => w_X9_factor_130 X d p0 S34 Q) Q))) Q))) Q)))))) Q))
theorem u_X9_factor_99 {σ : Nat → Nat} {n0 : Nat} {bf : ab_B} {d : Nat} {p0 : Nat} {p1 : Int32} {S : zs_T} {Q : zs_Q} (hB : zt_B bf) (h : w_X9_factor_99 (zx σ n0 bf) d p0 p1 S Q) : zs_U (zx σ n0 bf) d 8057 99 [(0, .ref p0), (1, .int p1)] [] S Q := by
  unfold w_X9_factor_99 at h
  refine zu_aload_n d_8057_99 rfl (zs_ra _) ?_
  refine zu_bipush d_8057_100 zj_33 ?_
  obtain ⟨k1, h⟩ := h
  refine zc_8_544 (x0 := (33 : Int32)) hB rfl k1 d_8057_102 (Nat.le_of_ble_eq_true rfl) h (fun v3 S2 h => ?_)
  refine zu_ifeq (t := 137) d_8057_105 rfl (fun c4 => ?_) (fun c4 => ?_)
  · have h := h.1 c4
    refine zu_aload_n d_8057_137 rfl (zs_ra _) ?_
    refine zu_bipush d_8057_138 zj_8 ?_
    obtain ⟨k5, h⟩ := h
    refine zc_8_535 (x0 := (8 : Int32)) hB rfl k5 d_8057_140 (Nat.le_of_ble_eq_true rfl) h (fun v7 S6 h => ?_)
    refine zu_ifeq (t := 174) d_8057_143 rfl (fun c8 => ?_) (fun c8 => ?_)
    · have h := h.1 c8
      refine zu_aload_n d_8057_174 rfl (zs_ra _) ?_
      refine zu_bipush d_8057_175 zj_10 ?_
      obtain ⟨k9, h⟩ := h
      refine zc_8_535 (x0 := (10 : Int32)) hB rfl k9 d_8057_177 (Nat.le_of_ble_eq_true rfl) h (fun v11 S10 h => ?_)
      refine zu_ifeq (t := 221) d_8057_180 rfl (fun c12 => ?_) (fun c12 => ?_)
      · have h := h.1 c12
        refine zu_aload_n d_8057_221 rfl (zs_ra _) ?_
        obtain ⟨k13, h⟩ := h
        refine zg_8_484 rfl d_8057_222 k13 ?_
        refine zu_iconst d_8057_225 zi_1 ?_
        refine zu_cmpne (t := 237) d_8057_226 rfl (fun c14 => ?_) (fun c14 => ?_)
        · have h := h.1 c14
          exact (u_X9_factor_237 hB h).weak ⟨rfl, trivial⟩
        · have h := h.2 c14
          exact (u_X9_factor_229 hB h).weak ⟨rfl, rfl, trivial⟩
      · have h := h.2 c12
        refine zu_aload_n d_8057_183 rfl (zs_ra _) ?_
        refine zu_iconst d_8057_184 zi_5 ?_
        refine zu_iconst d_8057_185 zi_0 ?_
        refine zu_iconst d_8057_186 zi_0 ?_
        refine zu_bipush d_8057_187 zj_8 ?_
        refine zu_aload_n d_8057_189 rfl (zs_ra _) ?_
        refine zu_iconst d_8057_190 zi_1 ?_
        refine zu_iconst d_8057_191 zi_0 ?_
        refine zu_iconst d_8057_192 zi_0 ?_
        refine zu_iload_n d_8057_193 rfl ?_
        obtain ⟨k15, h⟩ := h
        refine zc_8_656 (x0 := (1 : Int32)) (x1 := (0 : Int32)) (x2 := (0 : Int32)) (x3 := p1) hB rfl k15 d_8057_194 (Nat.le_of_ble_eq_true rfl) h (fun v17 S16 h => ?_)
        refine zu_iload_n d_8057_197 rfl ?_
        obtain ⟨k18, h⟩ := h
        refine zc_8_699 (x0 := (5 : Int32)) (x1 := (0 : Int32)) (x2 := (0 : Int32)) (x3 := (8 : Int32)) (x4 := v17) (x5 := p1) hB rfl k18 d_8057_198 (Nat.le_of_ble_eq_true rfl) h (fun S19 h => ?_)
        exact (u_X9_factor_201 hB h).weak ⟨rfl, trivial⟩
    · have h := h.2 c8
      refine zu_aload_n d_8057_146 rfl (zs_ra _) ?_
      refine zu_bipush d_8057_147 zj_14 ?_
      refine zu_iconst d_8057_149 zi_0 ?_
      refine zu_iconst d_8057_150 zi_0 ?_
      refine zu_iconst d_8057_151 zi_0 ?_
      obtain ⟨k21, h⟩ := h
      refine zc_8_649 (x0 := (14 : Int32)) (x1 := (0 : Int32)) (x2 := (0 : Int32)) (x3 := (0 : Int32)) hB rfl k21 d_8057_152 (Nat.le_of_ble_eq_true rfl) h (fun S22 h => ?_)
      refine zu_aload_n d_8057_155 rfl (zs_ra _) ?_
      obtain ⟨k24, h⟩ := h
      refine zc_8_706  hB rfl k24 d_8057_156 (Nat.le_of_ble_eq_true rfl) h (fun S25 h => ?_)
      exact (u_X9_factor_159 hB h).weak ⟨rfl, trivial⟩
  · have h := h.2 c4
    refine zu_aload_n d_8057_108 rfl (zs_ra _) ?_
    refine zu_bipush d_8057_109 zj_13 ?_
    refine zu_iload_n d_8057_111 rfl ?_
    refine zu_iconst d_8057_112 zi_0 ?_
    refine zu_iconst d_8057_113 zi_0 ?_
    obtain ⟨k27, h⟩ := h
    refine zc_8_649 (x0 := (13 : Int32)) (x1 := p1) (x2 := (0 : Int32)) (x3 := (0 : Int32)) hB rfl k27 d_8057_114 (Nat.le_of_ble_eq_true rfl) h (fun S28 h => ?_)
    refine zu_aload_n d_8057_117 rfl (zs_ra _) ?_
    obtain ⟨k30, h⟩ := h
    refine zc_8_706  hB rfl k30 d_8057_118 (Nat.le_of_ble_eq_true rfl) h (fun S31 h => ?_)
    refine zu_aload_n d_8057_121 rfl (zs_ra _) ?_
    refine zu_bipush d_8057_122 zj_12 ?_
    refine zu_iconst d_8057_124 zi_0 ?_
    refine zu_iconst d_8057_125 zi_0 ?_
    refine zu_iconst d_8057_126 zi_0 ?_
    obtain ⟨k33, h⟩ := h
    refine zc_8_649 (x0 := (12 : Int32)) (x1 := (0 : Int32)) (x2 := (0 : Int32)) (x3 := (0 : Int32)) hB rfl k33 d_8057_127 (Nat.le_of_ble_eq_true rfl) h (fun S34 h => ?_)
    exact (u_X9_factor_130 hB h).weak ⟨rfl, trivial⟩
def w_X9_factor (X : zs_X) (d : Nat) (p0 : Nat) (S : zs_T) (Q : zs_Q) : Prop :=
  (zs_K S p0 = some (.inl 8) ∧ (((zs_I S 8010 p0) ≤ 0 → (((¬ (zs_I S 8006 p0) = (3 : Int32) → (((¬ (zs_I S 8006 p0) = (4 : Int32) → (zs_C X d 8026 [.ref p0, .int (28 : Int32)] S (zs_kI (fun v6 S5 => (((v6 = 0 → w_X9_factor_99 X d p0 (zs_I S 8007 p0) S5 Q) ∧ (¬ (v6 = 0) → w_X9_factor_74 X d p0 (zs_I S 8007 p0) S5 Q)))) Q))) ∧ (¬ (¬ (zs_I S 8006 p0) = (4 : Int32)) → (zs_C X d 8059 [.ref p0, .int (zs_I S 8007 p0)] S (zs_kV (fun S8 => w_X9_factor_62 X d  S8 Q) Q)))))) ∧ (¬ (¬ (zs_I S 8006 p0) = (3 : Int32)) → (zs_C X d 8012 [.ref p0, .int (1 : Int32), .int (zs_I S 8009 p0), .int (0 : Int32), .int (zs_I S 8007 p0)] S (zs_kI (fun v11 S10 => (zs_K S10 p0 = some (.inl 8) ∧ zs_C X d 8058 [.ref p0, .int (1 : Int32), .int (0 : Int32), .int (1 : Int32), .int (8 : Int32), .int v11, .int (zs_I S 8007 p0)] S10 (zs_kV (fun S13 => w_X9_factor_42 X d p0 S13 Q) Q))) Q)))))) ∧ (¬ ((zs_I S 8010 p0) ≤ 0) → (Q (.returned none) S))))
theorem u_X9_factor {σ : Nat → Nat} {n0 : Nat} {bf : ab_B} {d : Nat} {p0 : Nat} {S : zs_T} {Q : zs_Q} (hB : zt_B bf) (hd : 1 ≤ d) (h : w_X9_factor (zx σ n0 bf) (d - 1) p0 S Q) : zs_C (zx σ n0 bf) d 8057 [.ref p0] S Q := by
  have hL : lv_args 0 [.ref p0] = [(0, .ref p0)] := rfl
  refine zs_C.of1 (hB.2 8057 (by decide) (by decide)) hd (by rw [hL]; exact zs_sub_self _ (by exact ⟨rfl, trivial⟩)) ?_
  rw [hL]
  clear hL
  unfold w_X9_factor at h
  refine zu_aload_n d_8057_0 rfl (zs_ra _) ?_
  obtain ⟨k1, h⟩ := h
  refine zg_8_450 rfl d_8057_1 k1 ?_
  refine zu_istore_n d_8057_4 (zs_lt zq_8057 rfl) ?_
  refine zu_aload_n d_8057_5 rfl (zs_ra _) ?_
  refine zg_8_444 rfl d_8057_6 k1 ?_
  refine zu_ifle (t := 13) d_8057_9 rfl (fun c2 => ?_) (fun c2 => ?_)
  · have h := h.1 c2
    refine zu_aload_n d_8057_13 rfl (zs_ra _) ?_
    refine zg_8_484 rfl d_8057_14 k1 ?_
    refine zu_iconst d_8057_17 zi_3 ?_
    refine zu_cmpne (t := 49) d_8057_18 rfl (fun c3 => ?_) (fun c3 => ?_)
    · have h := h.1 c3
      refine zu_aload_n d_8057_49 rfl (zs_ra _) ?_
      refine zg_8_484 rfl d_8057_50 k1 ?_
      refine zu_iconst d_8057_53 zi_4 ?_
      refine zu_cmpne (t := 65) d_8057_54 rfl (fun c4 => ?_) (fun c4 => ?_)
      · have h := h.1 c4
        refine zu_aload_n d_8057_65 rfl (zs_ra _) ?_
        refine zu_bipush d_8057_66 zj_28 ?_
        refine zc_8_544 (x0 := (28 : Int32)) hB rfl k1 d_8057_68 (Nat.le_of_ble_eq_true rfl) h (fun v6 S5 h => ?_)
        refine zu_ifeq (t := 99) d_8057_71 rfl (fun c7 => ?_) (fun c7 => ?_)
        · have h := h.1 c7
          exact (u_X9_factor_99 hB h).weak ⟨rfl, rfl, trivial⟩
        · have h := h.2 c7
          exact (u_X9_factor_74 hB h).weak ⟨rfl, rfl, trivial⟩
      · have h := h.2 c4
        refine zu_aload_n d_8057_57 rfl (zs_ra _) ?_
        refine zu_iload_n d_8057_58 rfl ?_
        refine zc_8_703 (x0 := (zs_I S 8007 p0)) hB rfl k1 d_8057_59 (Nat.le_of_ble_eq_true rfl) h (fun S8 h => ?_)
        exact (u_X9_factor_62 hB h).weak trivial
    · have h := h.2 c3
      refine zu_aload_n d_8057_21 rfl (zs_ra _) ?_
      refine zu_iconst d_8057_22 zi_1 ?_
      refine zu_iconst d_8057_23 zi_0 ?_
      refine zu_iconst d_8057_24 zi_1 ?_
      refine zu_bipush d_8057_25 zj_8 ?_
      refine zu_aload_n d_8057_27 rfl (zs_ra _) ?_
      refine zu_iconst d_8057_28 zi_1 ?_
      refine zu_aload_n d_8057_29 rfl (zs_ra _) ?_
      refine zg_8_494 rfl d_8057_30 k1 ?_
      refine zu_iconst d_8057_33 zi_0 ?_
      refine zu_iload_n d_8057_34 rfl ?_
      refine zc_8_656 (x0 := (1 : Int32)) (x1 := (zs_I S 8009 p0)) (x2 := (0 : Int32)) (x3 := (zs_I S 8007 p0)) hB rfl k1 d_8057_35 (Nat.le_of_ble_eq_true rfl) h (fun v11 S10 h => ?_)
      refine zu_iload_n d_8057_38 rfl ?_
      obtain ⟨k12, h⟩ := h
      refine zc_8_699 (x0 := (1 : Int32)) (x1 := (0 : Int32)) (x2 := (1 : Int32)) (x3 := (8 : Int32)) (x4 := v11) (x5 := (zs_I S 8007 p0)) hB rfl k12 d_8057_39 (Nat.le_of_ble_eq_true rfl) h (fun S13 h => ?_)
      exact (u_X9_factor_42 hB h).weak ⟨rfl, trivial⟩
  · have h := h.2 c2
    exact zu_vret d_8057_12 zr_8057 h
/-! SchemaPascalModel.value(IZZIII)V -/
theorem zm_8058 {σ : Nat → Nat} {n0 : Nat} {bf : ab_B} : ab_code (zx σ n0 bf).1 8058 = prog_17_method_50_code := rfl
theorem zq_8058 {σ : Nat → Nat} {n0 : Nat} {bf : ab_B} : ab_maxL (zx σ n0 bf).1 8058 = 7 := rfl
theorem zr_8058 {σ : Nat → Nat} {n0 : Nat} {bf : ab_B} : ab_ret (zx σ n0 bf).1 8058 = (Option.none : Option Jvm.ClassFile.FieldType) := rfl
theorem d_8058_0 {σ : Nat → Nat} {n0 : Nat} {bf : ab_B} : decode (ab_code (zx σ n0 bf).1 8058) 0 = .ok (.aload_n 0, 1) := zd zm_8058 (by decide +kernel)
theorem d_8058_1 {σ : Nat → Nat} {n0 : Nat} {bf : ab_B} : decode (ab_code (zx σ n0 bf).1 8058) 1 = .ok (.getfield 191, 3) := zd zm_8058 (by decide +kernel)
theorem d_8058_4 {σ : Nat → Nat} {n0 : Nat} {bf : ab_B} : decode (ab_code (zx σ n0 bf).1 8058) 4 = .ok (.aload_n 0, 1) := zd zm_8058 (by decide +kernel)
theorem d_8058_5 {σ : Nat → Nat} {n0 : Nat} {bf : ab_B} : decode (ab_code (zx σ n0 bf).1 8058) 5 = .ok (.getfield 653, 3) := zd zm_8058 (by decide +kernel)
theorem d_8058_8 {σ : Nat → Nat} {n0 : Nat} {bf : ab_B} : decode (ab_code (zx σ n0 bf).1 8058) 8 = .ok (.iload_n 1, 1) := zd zm_8058 (by decide +kernel)
theorem d_8058_9 {σ : Nat → Nat} {n0 : Nat} {bf : ab_B} : decode (ab_code (zx σ n0 bf).1 8058) 9 = .ok (.iastore, 1) := zd zm_8058 (by decide +kernel)
theorem d_8058_10 {σ : Nat → Nat} {n0 : Nat} {bf : ab_B} : decode (ab_code (zx σ n0 bf).1 8058) 10 = .ok (.aload_n 0, 1) := zd zm_8058 (by decide +kernel)
theorem d_8058_11 {σ : Nat → Nat} {n0 : Nat} {bf : ab_B} : decode (ab_code (zx σ n0 bf).1 8058) 11 = .ok (.getfield 194, 3) := zd zm_8058 (by decide +kernel)
theorem d_8058_14 {σ : Nat → Nat} {n0 : Nat} {bf : ab_B} : decode (ab_code (zx σ n0 bf).1 8058) 14 = .ok (.aload_n 0, 1) := zd zm_8058 (by decide +kernel)
theorem d_8058_15 {σ : Nat → Nat} {n0 : Nat} {bf : ab_B} : decode (ab_code (zx σ n0 bf).1 8058) 15 = .ok (.getfield 653, 3) := zd zm_8058 (by decide +kernel)
theorem d_8058_18 {σ : Nat → Nat} {n0 : Nat} {bf : ab_B} : decode (ab_code (zx σ n0 bf).1 8058) 18 = .ok (.iload_n 2, 1) := zd zm_8058 (by decide +kernel)
theorem d_8058_19 {σ : Nat → Nat} {n0 : Nat} {bf : ab_B} : decode (ab_code (zx σ n0 bf).1 8058) 19 = .ok (.bastore, 1) := zd zm_8058 (by decide +kernel)
theorem d_8058_20 {σ : Nat → Nat} {n0 : Nat} {bf : ab_B} : decode (ab_code (zx σ n0 bf).1 8058) 20 = .ok (.aload_n 0, 1) := zd zm_8058 (by decide +kernel)
theorem d_8058_21 {σ : Nat → Nat} {n0 : Nat} {bf : ab_B} : decode (ab_code (zx σ n0 bf).1 8058) 21 = .ok (.getfield 197, 3) := zd zm_8058 (by decide +kernel)
theorem d_8058_24 {σ : Nat → Nat} {n0 : Nat} {bf : ab_B} : decode (ab_code (zx σ n0 bf).1 8058) 24 = .ok (.aload_n 0, 1) := zd zm_8058 (by decide +kernel)
theorem d_8058_25 {σ : Nat → Nat} {n0 : Nat} {bf : ab_B} : decode (ab_code (zx σ n0 bf).1 8058) 25 = .ok (.getfield 653, 3) := zd zm_8058 (by decide +kernel)
theorem d_8058_28 {σ : Nat → Nat} {n0 : Nat} {bf : ab_B} : decode (ab_code (zx σ n0 bf).1 8058) 28 = .ok (.iload_n 3, 1) := zd zm_8058 (by decide +kernel)
theorem d_8058_29 {σ : Nat → Nat} {n0 : Nat} {bf : ab_B} : decode (ab_code (zx σ n0 bf).1 8058) 29 = .ok (.bastore, 1) := zd zm_8058 (by decide +kernel)
theorem d_8058_30 {σ : Nat → Nat} {n0 : Nat} {bf : ab_B} : decode (ab_code (zx σ n0 bf).1 8058) 30 = .ok (.aload_n 0, 1) := zd zm_8058 (by decide +kernel)
theorem d_8058_31 {σ : Nat → Nat} {n0 : Nat} {bf : ab_B} : decode (ab_code (zx σ n0 bf).1 8058) 31 = .ok (.getfield 200, 3) := zd zm_8058 (by decide +kernel)
theorem d_8058_34 {σ : Nat → Nat} {n0 : Nat} {bf : ab_B} : decode (ab_code (zx σ n0 bf).1 8058) 34 = .ok (.aload_n 0, 1) := zd zm_8058 (by decide +kernel)
theorem d_8058_35 {σ : Nat → Nat} {n0 : Nat} {bf : ab_B} : decode (ab_code (zx σ n0 bf).1 8058) 35 = .ok (.getfield 653, 3) := zd zm_8058 (by decide +kernel)
theorem d_8058_38 {σ : Nat → Nat} {n0 : Nat} {bf : ab_B} : decode (ab_code (zx σ n0 bf).1 8058) 38 = .ok (.iload 4, 2) := zd zm_8058 (by decide +kernel)
theorem d_8058_40 {σ : Nat → Nat} {n0 : Nat} {bf : ab_B} : decode (ab_code (zx σ n0 bf).1 8058) 40 = .ok (.iastore, 1) := zd zm_8058 (by decide +kernel)
theorem d_8058_41 {σ : Nat → Nat} {n0 : Nat} {bf : ab_B} : decode (ab_code (zx σ n0 bf).1 8058) 41 = .ok (.aload_n 0, 1) := zd zm_8058 (by decide +kernel)
theorem d_8058_42 {σ : Nat → Nat} {n0 : Nat} {bf : ab_B} : decode (ab_code (zx σ n0 bf).1 8058) 42 = .ok (.getfield 203, 3) := zd zm_8058 (by decide +kernel)
theorem d_8058_45 {σ : Nat → Nat} {n0 : Nat} {bf : ab_B} : decode (ab_code (zx σ n0 bf).1 8058) 45 = .ok (.aload_n 0, 1) := zd zm_8058 (by decide +kernel)
theorem d_8058_46 {σ : Nat → Nat} {n0 : Nat} {bf : ab_B} : decode (ab_code (zx σ n0 bf).1 8058) 46 = .ok (.getfield 653, 3) := zd zm_8058 (by decide +kernel)
theorem d_8058_49 {σ : Nat → Nat} {n0 : Nat} {bf : ab_B} : decode (ab_code (zx σ n0 bf).1 8058) 49 = .ok (.iload 5, 2) := zd zm_8058 (by decide +kernel)
theorem d_8058_51 {σ : Nat → Nat} {n0 : Nat} {bf : ab_B} : decode (ab_code (zx σ n0 bf).1 8058) 51 = .ok (.iastore, 1) := zd zm_8058 (by decide +kernel)
theorem d_8058_52 {σ : Nat → Nat} {n0 : Nat} {bf : ab_B} : decode (ab_code (zx σ n0 bf).1 8058) 52 = .ok (.aload_n 0, 1) := zd zm_8058 (by decide +kernel)
theorem d_8058_53 {σ : Nat → Nat} {n0 : Nat} {bf : ab_B} : decode (ab_code (zx σ n0 bf).1 8058) 53 = .ok (.getfield 206, 3) := zd zm_8058 (by decide +kernel)
theorem d_8058_56 {σ : Nat → Nat} {n0 : Nat} {bf : ab_B} : decode (ab_code (zx σ n0 bf).1 8058) 56 = .ok (.aload_n 0, 1) := zd zm_8058 (by decide +kernel)
theorem d_8058_57 {σ : Nat → Nat} {n0 : Nat} {bf : ab_B} : decode (ab_code (zx σ n0 bf).1 8058) 57 = .ok (.getfield 653, 3) := zd zm_8058 (by decide +kernel)
theorem d_8058_60 {σ : Nat → Nat} {n0 : Nat} {bf : ab_B} : decode (ab_code (zx σ n0 bf).1 8058) 60 = .ok (.iload 6, 2) := zd zm_8058 (by decide +kernel)
theorem d_8058_62 {σ : Nat → Nat} {n0 : Nat} {bf : ab_B} : decode (ab_code (zx σ n0 bf).1 8058) 62 = .ok (.iastore, 1) := zd zm_8058 (by decide +kernel)
theorem d_8058_63 {σ : Nat → Nat} {n0 : Nat} {bf : ab_B} : decode (ab_code (zx σ n0 bf).1 8058) 63 = .ok (.aload_n 0, 1) := zd zm_8058 (by decide +kernel)
theorem d_8058_64 {σ : Nat → Nat} {n0 : Nat} {bf : ab_B} : decode (ab_code (zx σ n0 bf).1 8058) 64 = .ok (.dup, 1) := zd zm_8058 (by decide +kernel)
theorem d_8058_65 {σ : Nat → Nat} {n0 : Nat} {bf : ab_B} : decode (ab_code (zx σ n0 bf).1 8058) 65 = .ok (.getfield 653, 3) := zd zm_8058 (by decide +kernel)
theorem d_8058_68 {σ : Nat → Nat} {n0 : Nat} {bf : ab_B} : decode (ab_code (zx σ n0 bf).1 8058) 68 = .ok (.iconst 1, 1) := zd zm_8058 (by decide +kernel)
theorem d_8058_69 {σ : Nat → Nat} {n0 : Nat} {bf : ab_B} : decode (ab_code (zx σ n0 bf).1 8058) 69 = .ok (.iadd, 1) := zd zm_8058 (by decide +kernel)
theorem d_8058_70 {σ : Nat → Nat} {n0 : Nat} {bf : ab_B} : decode (ab_code (zx σ n0 bf).1 8058) 70 = .ok (.putfield 653, 3) := zd zm_8058 (by decide +kernel)
theorem d_8058_73 {σ : Nat → Nat} {n0 : Nat} {bf : ab_B} : decode (ab_code (zx σ n0 bf).1 8058) 73 = .ok (.return_, 1) := zd zm_8058 (by decide +kernel)
def w_X9_value_63 (X : zs_X) (d : Nat) (p0 : Nat) (S : zs_T) (Q : zs_Q) : Prop :=
  (zs_K S p0 = some (.inl 8) ∧ ab_n0 X.1 ≤ p0 ∧ ∀ S3, S3 = zs_sI S 8097 p0 ((zs_I S 8097 p0) + (1 : Int32)) → Q (.returned none) S3)
theorem u_X9_value_63 {σ : Nat → Nat} {n0 : Nat} {bf : ab_B} {d : Nat} {p0 : Nat} {S : zs_T} {Q : zs_Q} (hB : zt_B bf) (h : w_X9_value_63 (zx σ n0 bf) d p0 S Q) : zs_U (zx σ n0 bf) d 8058 63 [(0, .ref p0)] [] S Q := by
  unfold w_X9_value_63 at h
  refine zu_aload_n d_8058_63 rfl (zs_ra _) ?_
  refine zu_dup d_8058_64 rfl ?_
  obtain ⟨k1, h⟩ := h
  refine zg_8_653 rfl d_8058_65 k1 ?_
  refine zu_iconst d_8058_68 zi_1 ?_
  refine zu_stk d_8058_69 rfl rfl ?_
  obtain ⟨k2, h⟩ := h
  refine zp_8_653 (v := ((zs_I S 8097 p0) + (1 : Int32))) rfl d_8058_70 k1 k2 ?_
  generalize e4 : zs_sI S 8097 p0 ((zs_I S 8097 p0) + (1 : Int32)) = S3
  have h := h S3 e4.symm
  have K5 : ∀ b, zs_K S3 b = zs_K S b := zs_Kt e4 (zs_KsI _ _ _ _) (fun _ => rfl)
  exact zu_vret d_8058_73 zr_8058 h
def w_X9_value_30 (X : zs_X) (d : Nat) (p0 : Nat) (p4 : Int32) (p5 : Int32) (p6 : Int32) (S : zs_T) (Q : zs_Q) : Prop :=
  (zs_K S p0 = some (.inl 8) ∧ ∃ b2, (zs_R S 8094 p0) = some b2 ∧ zs_A S b2 0 (zs_I S 8097 p0) ∧ ab_n0 X.1 ≤ b2 ∧ ∀ S6, S6 = zs_si S b2 (zs_I S 8097 p0).toNatClampNeg p4 → ∃ b9, (zs_R S6 8095 p0) = some b9 ∧ zs_A S b9 0 (zs_I S6 8097 p0) ∧ ab_n0 X.1 ≤ b9 ∧ ∀ S13, S13 = zs_si S6 b9 (zs_I S6 8097 p0).toNatClampNeg p5 → ∃ b16, (zs_R S13 8096 p0) = some b16 ∧ zs_A S b16 0 (zs_I S13 8097 p0) ∧ ab_n0 X.1 ≤ b16 ∧ ∀ S20, S20 = zs_si S13 b16 (zs_I S13 8097 p0).toNatClampNeg p6 → w_X9_value_63 X d p0 S20 Q)
theorem u_X9_value_30 {σ : Nat → Nat} {n0 : Nat} {bf : ab_B} {d : Nat} {p0 : Nat} {p4 : Int32} {p5 : Int32} {p6 : Int32} {S : zs_T} {Q : zs_Q} (hB : zt_B bf) (h : w_X9_value_30 (zx σ n0 bf) d p0 p4 p5 p6 S Q) : zs_U (zx σ n0 bf) d 8058 30 [(0, .ref p0), (4, .int p4), (5, .int p5), (6, .int p6)] [] S Q := by
  unfold w_X9_value_30 at h
  refine zu_aload_n d_8058_30 rfl (zs_ra _) ?_
  obtain ⟨k1, h⟩ := h
  refine zg_8_200 rfl d_8058_31 k1 ?_
  refine zu_aload_n d_8058_34 rfl (zs_ra _) ?_
  refine zg_8_653 rfl d_8058_35 k1 ?_
  refine zu_iload d_8058_38 rfl ?_
  obtain ⟨b2, e3, h⟩ := h
  refine zs_stk2 (zs_rfe e3) ?_
  obtain ⟨k4, h⟩ := h
  obtain ⟨k5, h⟩ := h
  refine zu_iast (k := 0) d_8058_40 rfl rfl k5 k4 ?_
  generalize e7 : zs_si S b2 (zs_I S 8097 p0).toNatClampNeg p4 = S6
  have h := h S6 e7.symm
  have K8 : ∀ b, zs_K S6 b = zs_K S b := zs_Kt e7 (zs_Ksi _ _ _ _) (fun _ => rfl)
  refine zu_aload_n d_8058_41 rfl (zs_ra _) ?_
  refine zg_8_203 rfl d_8058_42 ((K8 _).trans k1) ?_
  refine zu_aload_n d_8058_45 rfl (zs_ra _) ?_
  refine zg_8_653 rfl d_8058_46 ((K8 _).trans k1) ?_
  refine zu_iload d_8058_49 rfl ?_
  obtain ⟨b9, e10, h⟩ := h
  refine zs_stk2 (zs_rfe e10) ?_
  obtain ⟨k11, h⟩ := h
  obtain ⟨k12, h⟩ := h
  refine zu_iast (k := 0) d_8058_51 rfl rfl k12 (zs_Ak K8 k11) ?_
  generalize e14 : zs_si S6 b9 (zs_I S6 8097 p0).toNatClampNeg p5 = S13
  have h := h S13 e14.symm
  have K15 : ∀ b, zs_K S13 b = zs_K S b := zs_Kt e14 (zs_Ksi _ _ _ _) K8
  refine zu_aload_n d_8058_52 rfl (zs_ra _) ?_
  refine zg_8_206 rfl d_8058_53 ((K15 _).trans k1) ?_
  refine zu_aload_n d_8058_56 rfl (zs_ra _) ?_
  refine zg_8_653 rfl d_8058_57 ((K15 _).trans k1) ?_
  refine zu_iload d_8058_60 rfl ?_
  obtain ⟨b16, e17, h⟩ := h
  refine zs_stk2 (zs_rfe e17) ?_
  obtain ⟨k18, h⟩ := h
  obtain ⟨k19, h⟩ := h
  refine zu_iast (k := 0) d_8058_62 rfl rfl k19 (zs_Ak K15 k18) ?_
  generalize e21 : zs_si S13 b16 (zs_I S13 8097 p0).toNatClampNeg p6 = S20
  have h := h S20 e21.symm
  have K22 : ∀ b, zs_K S20 b = zs_K S b := zs_Kt e21 (zs_Ksi _ _ _ _) K15
  exact (u_X9_value_63 hB h).weak ⟨rfl, trivial⟩
def w_X9_value (X : zs_X) (d : Nat) (p0 : Nat) (p1 : Int32) (p2 : Int32) (p3 : Int32) (p4 : Int32) (p5 : Int32) (p6 : Int32) (S : zs_T) (Q : zs_Q) : Prop :=
  (zs_K S p0 = some (.inl 8) ∧ ∃ b2, (zs_R S 8091 p0) = some b2 ∧ zs_A S b2 0 (zs_I S 8097 p0) ∧ ab_n0 X.1 ≤ b2 ∧ ∀ S6, S6 = zs_si S b2 (zs_I S 8097 p0).toNatClampNeg p1 → ∃ b9, (zs_R S6 8092 p0) = some b9 ∧ zs_A S b9 2 (zs_I S6 8097 p0) ∧ ab_n0 X.1 ≤ b9 ∧ ∀ S13, S13 = zs_si S6 b9 (zs_I S6 8097 p0).toNatClampNeg (vp_nar .boolean p2) → ∃ b16, (zs_R S13 8093 p0) = some b16 ∧ zs_A S b16 2 (zs_I S13 8097 p0) ∧ ab_n0 X.1 ≤ b16 ∧ ∀ S20, S20 = zs_si S13 b16 (zs_I S13 8097 p0).toNatClampNeg (vp_nar .boolean p3) → w_X9_value_30 X d p0 p4 p5 p6 S20 Q)
theorem u_X9_value {σ : Nat → Nat} {n0 : Nat} {bf : ab_B} {d : Nat} {p0 : Nat} {p1 : Int32} {p2 : Int32} {p3 : Int32} {p4 : Int32} {p5 : Int32} {p6 : Int32} {S : zs_T} {Q : zs_Q} (hB : zt_B bf) (hd : 1 ≤ d) (h : w_X9_value (zx σ n0 bf) (d - 1) p0 p1 p2 p3 p4 p5 p6 S Q) : zs_C (zx σ n0 bf) d 8058 [.ref p0, .int p1, .int p2, .int p3, .int p4, .int p5, .int p6] S Q := by
  have hL : lv_args 0 [.ref p0, .int p1, .int p2, .int p3, .int p4, .int p5, .int p6] = [(0, .ref p0), (1, .int p1), (2, .int p2), (3, .int p3), (4, .int p4), (5, .int p5), (6, .int p6)] := rfl
  refine zs_C.of1 (hB.2 8058 (by decide) (by decide)) hd (by rw [hL]; exact zs_sub_self _ (by exact ⟨rfl, rfl, rfl, rfl, rfl, rfl, rfl, trivial⟩)) ?_
  rw [hL]
  clear hL
  unfold w_X9_value at h
  refine zu_aload_n d_8058_0 rfl (zs_ra _) ?_
  obtain ⟨k1, h⟩ := h
  refine zg_8_191 rfl d_8058_1 k1 ?_
  refine zu_aload_n d_8058_4 rfl (zs_ra _) ?_
  refine zg_8_653 rfl d_8058_5 k1 ?_
  refine zu_iload_n d_8058_8 rfl ?_
  obtain ⟨b2, e3, h⟩ := h
  refine zs_stk2 (zs_rfe e3) ?_
  obtain ⟨k4, h⟩ := h
  obtain ⟨k5, h⟩ := h
  refine zu_iast (k := 0) d_8058_9 rfl rfl k5 k4 ?_
  generalize e7 : zs_si S b2 (zs_I S 8097 p0).toNatClampNeg p1 = S6
  have h := h S6 e7.symm
  have K8 : ∀ b, zs_K S6 b = zs_K S b := zs_Kt e7 (zs_Ksi _ _ _ _) (fun _ => rfl)
  refine zu_aload_n d_8058_10 rfl (zs_ra _) ?_
  refine zg_8_194 rfl d_8058_11 ((K8 _).trans k1) ?_
  refine zu_aload_n d_8058_14 rfl (zs_ra _) ?_
  refine zg_8_653 rfl d_8058_15 ((K8 _).trans k1) ?_
  refine zu_iload_n d_8058_18 rfl ?_
  obtain ⟨b9, e10, h⟩ := h
  refine zs_stk2 (zs_rfe e10) ?_
  obtain ⟨k11, h⟩ := h
  obtain ⟨k12, h⟩ := h
  refine zu_bast_bool (k := 2) d_8058_19 rfl rfl k12 (zs_Ak K8 k11) ?_
  generalize e14 : zs_si S6 b9 (zs_I S6 8097 p0).toNatClampNeg (vp_nar .boolean p2) = S13
  have h := h S13 e14.symm
  have K15 : ∀ b, zs_K S13 b = zs_K S b := zs_Kt e14 (zs_Ksi _ _ _ _) K8
  refine zu_aload_n d_8058_20 rfl (zs_ra _) ?_
  refine zg_8_197 rfl d_8058_21 ((K15 _).trans k1) ?_
  refine zu_aload_n d_8058_24 rfl (zs_ra _) ?_
  refine zg_8_653 rfl d_8058_25 ((K15 _).trans k1) ?_
  refine zu_iload_n d_8058_28 rfl ?_
  obtain ⟨b16, e17, h⟩ := h
  refine zs_stk2 (zs_rfe e17) ?_
  obtain ⟨k18, h⟩ := h
  obtain ⟨k19, h⟩ := h
  refine zu_bast_bool (k := 2) d_8058_29 rfl rfl k19 (zs_Ak K15 k18) ?_
  generalize e21 : zs_si S13 b16 (zs_I S13 8097 p0).toNatClampNeg (vp_nar .boolean p3) = S20
  have h := h S20 e21.symm
  have K22 : ∀ b, zs_K S20 b = zs_K S b := zs_Kt e21 (zs_Ksi _ _ _ _) K15
  exact (u_X9_value_30 hB h).weak ⟨rfl, rfl, rfl, rfl, trivial⟩
/-! SchemaPascalModel.tellText(I)V -/
theorem zm_8059 {σ : Nat → Nat} {n0 : Nat} {bf : ab_B} : ab_code (zx σ n0 bf).1 8059 = prog_17_method_67_code := rfl
theorem zq_8059 {σ : Nat → Nat} {n0 : Nat} {bf : ab_B} : ab_maxL (zx σ n0 bf).1 8059 = 2 := rfl
theorem zr_8059 {σ : Nat → Nat} {n0 : Nat} {bf : ab_B} : ab_ret (zx σ n0 bf).1 8059 = (Option.none : Option Jvm.ClassFile.FieldType) := rfl
theorem d_8059_0 {σ : Nat → Nat} {n0 : Nat} {bf : ab_B} : decode (ab_code (zx σ n0 bf).1 8059) 0 = .ok (.aload_n 0, 1) := zd zm_8059 (by decide +kernel)
theorem d_8059_1 {σ : Nat → Nat} {n0 : Nat} {bf : ab_B} : decode (ab_code (zx σ n0 bf).1 8059) 1 = .ok (.getfield 513, 3) := zd zm_8059 (by decide +kernel)
theorem d_8059_4 {σ : Nat → Nat} {n0 : Nat} {bf : ab_B} : decode (ab_code (zx σ n0 bf).1 8059) 4 = .ok (.iconst 1, 1) := zd zm_8059 (by decide +kernel)
theorem d_8059_5 {σ : Nat → Nat} {n0 : Nat} {bf : ab_B} : decode (ab_code (zx σ n0 bf).1 8059) 5 = .ok (.if_icmp .ne 36, 3) := zd zm_8059 (by decide +kernel)
theorem d_8059_8 {σ : Nat → Nat} {n0 : Nat} {bf : ab_B} : decode (ab_code (zx σ n0 bf).1 8059) 8 = .ok (.aload_n 0, 1) := zd zm_8059 (by decide +kernel)
theorem d_8059_9 {σ : Nat → Nat} {n0 : Nat} {bf : ab_B} : decode (ab_code (zx σ n0 bf).1 8059) 9 = .ok (.iconst 3, 1) := zd zm_8059 (by decide +kernel)
theorem d_8059_10 {σ : Nat → Nat} {n0 : Nat} {bf : ab_B} : decode (ab_code (zx σ n0 bf).1 8059) 10 = .ok (.iconst 0, 1) := zd zm_8059 (by decide +kernel)
theorem d_8059_11 {σ : Nat → Nat} {n0 : Nat} {bf : ab_B} : decode (ab_code (zx σ n0 bf).1 8059) 11 = .ok (.iconst 1, 1) := zd zm_8059 (by decide +kernel)
theorem d_8059_12 {σ : Nat → Nat} {n0 : Nat} {bf : ab_B} : decode (ab_code (zx σ n0 bf).1 8059) 12 = .ok (.bipush 8, 2) := zd zm_8059 (by decide +kernel)
theorem d_8059_14 {σ : Nat → Nat} {n0 : Nat} {bf : ab_B} : decode (ab_code (zx σ n0 bf).1 8059) 14 = .ok (.aload_n 0, 1) := zd zm_8059 (by decide +kernel)
theorem d_8059_15 {σ : Nat → Nat} {n0 : Nat} {bf : ab_B} : decode (ab_code (zx σ n0 bf).1 8059) 15 = .ok (.iconst 1, 1) := zd zm_8059 (by decide +kernel)
theorem d_8059_16 {σ : Nat → Nat} {n0 : Nat} {bf : ab_B} : decode (ab_code (zx σ n0 bf).1 8059) 16 = .ok (.aload_n 0, 1) := zd zm_8059 (by decide +kernel)
theorem d_8059_17 {σ : Nat → Nat} {n0 : Nat} {bf : ab_B} : decode (ab_code (zx σ n0 bf).1 8059) 17 = .ok (.getfield 41, 3) := zd zm_8059 (by decide +kernel)
theorem d_8059_20 {σ : Nat → Nat} {n0 : Nat} {bf : ab_B} : decode (ab_code (zx σ n0 bf).1 8059) 20 = .ok (.aload_n 0, 1) := zd zm_8059 (by decide +kernel)
theorem d_8059_21 {σ : Nat → Nat} {n0 : Nat} {bf : ab_B} : decode (ab_code (zx σ n0 bf).1 8059) 21 = .ok (.getfield 494, 3) := zd zm_8059 (by decide +kernel)
theorem d_8059_24 {σ : Nat → Nat} {n0 : Nat} {bf : ab_B} : decode (ab_code (zx σ n0 bf).1 8059) 24 = .ok (.baload, 1) := zd zm_8059 (by decide +kernel)
theorem d_8059_25 {σ : Nat → Nat} {n0 : Nat} {bf : ab_B} : decode (ab_code (zx σ n0 bf).1 8059) 25 = .ok (.sipush 255, 3) := zd zm_8059 (by decide +kernel)
theorem d_8059_28 {σ : Nat → Nat} {n0 : Nat} {bf : ab_B} : decode (ab_code (zx σ n0 bf).1 8059) 28 = .ok (.iand, 1) := zd zm_8059 (by decide +kernel)
theorem d_8059_29 {σ : Nat → Nat} {n0 : Nat} {bf : ab_B} : decode (ab_code (zx σ n0 bf).1 8059) 29 = .ok (.iconst 0, 1) := zd zm_8059 (by decide +kernel)
theorem d_8059_30 {σ : Nat → Nat} {n0 : Nat} {bf : ab_B} : decode (ab_code (zx σ n0 bf).1 8059) 30 = .ok (.iload_n 1, 1) := zd zm_8059 (by decide +kernel)
theorem d_8059_31 {σ : Nat → Nat} {n0 : Nat} {bf : ab_B} : decode (ab_code (zx σ n0 bf).1 8059) 31 = .ok (.invokevirtual 656, 3) := zd zm_8059 (by decide +kernel)
theorem d_8059_34 {σ : Nat → Nat} {n0 : Nat} {bf : ab_B} : decode (ab_code (zx σ n0 bf).1 8059) 34 = .ok (.iload_n 1, 1) := zd zm_8059 (by decide +kernel)
theorem d_8059_35 {σ : Nat → Nat} {n0 : Nat} {bf : ab_B} : decode (ab_code (zx σ n0 bf).1 8059) 35 = .ok (.invokevirtual 699, 3) := zd zm_8059 (by decide +kernel)
theorem d_8059_38 {σ : Nat → Nat} {n0 : Nat} {bf : ab_B} : decode (ab_code (zx σ n0 bf).1 8059) 38 = .ok (.goto 41, 3) := zd zm_8059 (by decide +kernel)
theorem d_8059_41 {σ : Nat → Nat} {n0 : Nat} {bf : ab_B} : decode (ab_code (zx σ n0 bf).1 8059) 41 = .ok (.aload_n 0, 1) := zd zm_8059 (by decide +kernel)
theorem d_8059_42 {σ : Nat → Nat} {n0 : Nat} {bf : ab_B} : decode (ab_code (zx σ n0 bf).1 8059) 42 = .ok (.bipush 6, 2) := zd zm_8059 (by decide +kernel)
theorem d_8059_44 {σ : Nat → Nat} {n0 : Nat} {bf : ab_B} : decode (ab_code (zx σ n0 bf).1 8059) 44 = .ok (.iconst 0, 1) := zd zm_8059 (by decide +kernel)
theorem d_8059_45 {σ : Nat → Nat} {n0 : Nat} {bf : ab_B} : decode (ab_code (zx σ n0 bf).1 8059) 45 = .ok (.iconst 0, 1) := zd zm_8059 (by decide +kernel)
theorem d_8059_46 {σ : Nat → Nat} {n0 : Nat} {bf : ab_B} : decode (ab_code (zx σ n0 bf).1 8059) 46 = .ok (.bipush 40, 2) := zd zm_8059 (by decide +kernel)
theorem d_8059_48 {σ : Nat → Nat} {n0 : Nat} {bf : ab_B} : decode (ab_code (zx σ n0 bf).1 8059) 48 = .ok (.aload_n 0, 1) := zd zm_8059 (by decide +kernel)
theorem d_8059_49 {σ : Nat → Nat} {n0 : Nat} {bf : ab_B} : decode (ab_code (zx σ n0 bf).1 8059) 49 = .ok (.iconst 2, 1) := zd zm_8059 (by decide +kernel)
theorem d_8059_50 {σ : Nat → Nat} {n0 : Nat} {bf : ab_B} : decode (ab_code (zx σ n0 bf).1 8059) 50 = .ok (.aload_n 0, 1) := zd zm_8059 (by decide +kernel)
theorem d_8059_51 {σ : Nat → Nat} {n0 : Nat} {bf : ab_B} : decode (ab_code (zx σ n0 bf).1 8059) 51 = .ok (.getfield 494, 3) := zd zm_8059 (by decide +kernel)
theorem d_8059_54 {σ : Nat → Nat} {n0 : Nat} {bf : ab_B} : decode (ab_code (zx σ n0 bf).1 8059) 54 = .ok (.aload_n 0, 1) := zd zm_8059 (by decide +kernel)
theorem d_8059_55 {σ : Nat → Nat} {n0 : Nat} {bf : ab_B} : decode (ab_code (zx σ n0 bf).1 8059) 55 = .ok (.getfield 513, 3) := zd zm_8059 (by decide +kernel)
theorem d_8059_58 {σ : Nat → Nat} {n0 : Nat} {bf : ab_B} : decode (ab_code (zx σ n0 bf).1 8059) 58 = .ok (.iload_n 1, 1) := zd zm_8059 (by decide +kernel)
theorem d_8059_59 {σ : Nat → Nat} {n0 : Nat} {bf : ab_B} : decode (ab_code (zx σ n0 bf).1 8059) 59 = .ok (.invokevirtual 656, 3) := zd zm_8059 (by decide +kernel)
theorem d_8059_62 {σ : Nat → Nat} {n0 : Nat} {bf : ab_B} : decode (ab_code (zx σ n0 bf).1 8059) 62 = .ok (.iload_n 1, 1) := zd zm_8059 (by decide +kernel)
theorem d_8059_63 {σ : Nat → Nat} {n0 : Nat} {bf : ab_B} : decode (ab_code (zx σ n0 bf).1 8059) 63 = .ok (.invokevirtual 699, 3) := zd zm_8059 (by decide +kernel)
theorem d_8059_66 {σ : Nat → Nat} {n0 : Nat} {bf : ab_B} : decode (ab_code (zx σ n0 bf).1 8059) 66 = .ok (.aload_n 0, 1) := zd zm_8059 (by decide +kernel)
theorem d_8059_67 {σ : Nat → Nat} {n0 : Nat} {bf : ab_B} : decode (ab_code (zx σ n0 bf).1 8059) 67 = .ok (.dup, 1) := zd zm_8059 (by decide +kernel)
theorem d_8059_68 {σ : Nat → Nat} {n0 : Nat} {bf : ab_B} : decode (ab_code (zx σ n0 bf).1 8059) 68 = .ok (.getfield 510, 3) := zd zm_8059 (by decide +kernel)
theorem d_8059_71 {σ : Nat → Nat} {n0 : Nat} {bf : ab_B} : decode (ab_code (zx σ n0 bf).1 8059) 71 = .ok (.aload_n 0, 1) := zd zm_8059 (by decide +kernel)
theorem d_8059_72 {σ : Nat → Nat} {n0 : Nat} {bf : ab_B} : decode (ab_code (zx σ n0 bf).1 8059) 72 = .ok (.getfield 513, 3) := zd zm_8059 (by decide +kernel)
theorem d_8059_75 {σ : Nat → Nat} {n0 : Nat} {bf : ab_B} : decode (ab_code (zx σ n0 bf).1 8059) 75 = .ok (.iadd, 1) := zd zm_8059 (by decide +kernel)
theorem d_8059_76 {σ : Nat → Nat} {n0 : Nat} {bf : ab_B} : decode (ab_code (zx σ n0 bf).1 8059) 76 = .ok (.putfield 510, 3) := zd zm_8059 (by decide +kernel)
theorem d_8059_79 {σ : Nat → Nat} {n0 : Nat} {bf : ab_B} : decode (ab_code (zx σ n0 bf).1 8059) 79 = .ok (.aload_n 0, 1) := zd zm_8059 (by decide +kernel)
theorem d_8059_80 {σ : Nat → Nat} {n0 : Nat} {bf : ab_B} : decode (ab_code (zx σ n0 bf).1 8059) 80 = .ok (.invokevirtual 538, 3) := zd zm_8059 (by decide +kernel)
theorem d_8059_83 {σ : Nat → Nat} {n0 : Nat} {bf : ab_B} : decode (ab_code (zx σ n0 bf).1 8059) 83 = .ok (.return_, 1) := zd zm_8059 (by decide +kernel)
def w_X9_tellText_79 (X : zs_X) (d : Nat) (p0 : Nat) (S : zs_T) (Q : zs_Q) : Prop :=
  (zs_K S p0 = some (.inl 8) ∧ zs_C X d 8014 [.ref p0] S (zs_kV (fun S2 => (Q (.returned none) S2)) Q))
theorem u_X9_tellText_79 {σ : Nat → Nat} {n0 : Nat} {bf : ab_B} {d : Nat} {p0 : Nat} {S : zs_T} {Q : zs_Q} (hB : zt_B bf) (h : w_X9_tellText_79 (zx σ n0 bf) d p0 S Q) : zs_U (zx σ n0 bf) d 8059 79 [(0, .ref p0)] [] S Q := by
  unfold w_X9_tellText_79 at h
  refine zu_aload_n d_8059_79 rfl (zs_ra _) ?_
  obtain ⟨k1, h⟩ := h
  refine zc_8_538  hB rfl k1 d_8059_80 (Nat.le_of_ble_eq_true rfl) h (fun S2 h => ?_)
  exact zu_vret d_8059_83 zr_8059 h
def w_X9_tellText_38 (X : zs_X) (d : Nat) (p0 : Nat) (S : zs_T) (Q : zs_Q) : Prop :=
  (w_X9_tellText_79 X d p0 S Q)
theorem u_X9_tellText_38 {σ : Nat → Nat} {n0 : Nat} {bf : ab_B} {d : Nat} {p0 : Nat} {S : zs_T} {Q : zs_Q} (hB : zt_B bf) (h : w_X9_tellText_38 (zx σ n0 bf) d p0 S Q) : zs_U (zx σ n0 bf) d 8059 38 [(0, .ref p0)] [] S Q := by
  unfold w_X9_tellText_38 at h
  refine zu_goto (t := 79) d_8059_38 rfl ?_
  exact (u_X9_tellText_79 hB h).weak ⟨rfl, trivial⟩
def w_X9_tellText_66 (X : zs_X) (d : Nat) (p0 : Nat) (S : zs_T) (Q : zs_Q) : Prop :=
  (zs_K S p0 = some (.inl 8) ∧ ab_n0 X.1 ≤ p0 ∧ ∀ S3, S3 = zs_sI S 8022 p0 ((zs_I S 8022 p0) + (zs_I S 8023 p0)) → w_X9_tellText_79 X d p0 S3 Q)
theorem u_X9_tellText_66 {σ : Nat → Nat} {n0 : Nat} {bf : ab_B} {d : Nat} {p0 : Nat} {S : zs_T} {Q : zs_Q} (hB : zt_B bf) (h : w_X9_tellText_66 (zx σ n0 bf) d p0 S Q) : zs_U (zx σ n0 bf) d 8059 66 [(0, .ref p0)] [] S Q := by
  unfold w_X9_tellText_66 at h
  refine zu_aload_n d_8059_66 rfl (zs_ra _) ?_
  refine zu_dup d_8059_67 rfl ?_
  obtain ⟨k1, h⟩ := h
  refine zg_8_510 rfl d_8059_68 k1 ?_
  refine zu_aload_n d_8059_71 rfl (zs_ra _) ?_
  refine zg_8_513 rfl d_8059_72 k1 ?_
  refine zu_stk d_8059_75 rfl rfl ?_
  obtain ⟨k2, h⟩ := h
  refine zp_8_510 (v := ((zs_I S 8022 p0) + (zs_I S 8023 p0))) rfl d_8059_76 k1 k2 ?_
  generalize e4 : zs_sI S 8022 p0 ((zs_I S 8022 p0) + (zs_I S 8023 p0)) = S3
  have h := h S3 e4.symm
  have K5 : ∀ b, zs_K S3 b = zs_K S b := zs_Kt e4 (zs_KsI _ _ _ _) (fun _ => rfl)
  exact (u_X9_tellText_79 hB h).weak ⟨rfl, trivial⟩
def w_X9_tellText (X : zs_X) (d : Nat) (p0 : Nat) (p1 : Int32) (S : zs_T) (Q : zs_Q) : Prop :=
  (zs_K S p0 = some (.inl 8) ∧ ((¬ (zs_I S 8023 p0) = (1 : Int32) → (zs_C X d 8012 [.ref p0, .int (2 : Int32), .int (zs_I S 8009 p0), .int (zs_I S 8023 p0), .int p1] S (zs_kI (fun v4 S3 => (zs_K S3 p0 = some (.inl 8) ∧ zs_C X d 8058 [.ref p0, .int (6 : Int32), .int (0 : Int32), .int (0 : Int32), .int (40 : Int32), .int v4, .int p1] S3 (zs_kV (fun S6 => w_X9_tellText_66 X d p0 S6 Q) Q))) Q))) ∧ (¬ (¬ (zs_I S 8023 p0) = (1 : Int32)) → (∃ b8, (zs_R S 8021 p0) = some b8 ∧ zs_A S b8 1 (zs_I S 8009 p0) ∧ zs_C X d 8012 [.ref p0, .int (1 : Int32), .int ((zs_i S b8 (zs_I S 8009 p0).toNatClampNeg) &&& (255 : Int32)), .int (0 : Int32), .int p1] S (zs_kI (fun v12 S11 => (zs_K S11 p0 = some (.inl 8) ∧ zs_C X d 8058 [.ref p0, .int (3 : Int32), .int (0 : Int32), .int (1 : Int32), .int (8 : Int32), .int v12, .int p1] S11 (zs_kV (fun S14 => w_X9_tellText_38 X d p0 S14 Q) Q))) Q)))))
theorem u_X9_tellText {σ : Nat → Nat} {n0 : Nat} {bf : ab_B} {d : Nat} {p0 : Nat} {p1 : Int32} {S : zs_T} {Q : zs_Q} (hB : zt_B bf) (hd : 1 ≤ d) (h : w_X9_tellText (zx σ n0 bf) (d - 1) p0 p1 S Q) : zs_C (zx σ n0 bf) d 8059 [.ref p0, .int p1] S Q := by
  have hL : lv_args 0 [.ref p0, .int p1] = [(0, .ref p0), (1, .int p1)] := rfl
  refine zs_C.of1 (hB.2 8059 (by decide) (by decide)) hd (by rw [hL]; exact zs_sub_self _ (by exact ⟨rfl, rfl, trivial⟩)) ?_
  rw [hL]
  clear hL
  unfold w_X9_tellText at h
  refine zu_aload_n d_8059_0 rfl (zs_ra _) ?_
  obtain ⟨k1, h⟩ := h
  refine zg_8_513 rfl d_8059_1 k1 ?_
  refine zu_iconst d_8059_4 zi_1 ?_
  refine zu_cmpne (t := 41) d_8059_5 rfl (fun c2 => ?_) (fun c2 => ?_)
  · have h := h.1 c2
    refine zu_aload_n d_8059_41 rfl (zs_ra _) ?_
    refine zu_bipush d_8059_42 zj_6 ?_
    refine zu_iconst d_8059_44 zi_0 ?_
    refine zu_iconst d_8059_45 zi_0 ?_
    refine zu_bipush d_8059_46 zj_40 ?_
    refine zu_aload_n d_8059_48 rfl (zs_ra _) ?_
    refine zu_iconst d_8059_49 zi_2 ?_
    refine zu_aload_n d_8059_50 rfl (zs_ra _) ?_
    refine zg_8_494 rfl d_8059_51 k1 ?_
    refine zu_aload_n d_8059_54 rfl (zs_ra _) ?_
    refine zg_8_513 rfl d_8059_55 k1 ?_
    refine zu_iload_n d_8059_58 rfl ?_
    refine zc_8_656 (x0 := (2 : Int32)) (x1 := (zs_I S 8009 p0)) (x2 := (zs_I S 8023 p0)) (x3 := p1) hB rfl k1 d_8059_59 (Nat.le_of_ble_eq_true rfl) h (fun v4 S3 h => ?_)
    refine zu_iload_n d_8059_62 rfl ?_
    obtain ⟨k5, h⟩ := h
    refine zc_8_699 (x0 := (6 : Int32)) (x1 := (0 : Int32)) (x2 := (0 : Int32)) (x3 := (40 : Int32)) (x4 := v4) (x5 := p1) hB rfl k5 d_8059_63 (Nat.le_of_ble_eq_true rfl) h (fun S6 h => ?_)
    exact (u_X9_tellText_66 hB h).weak ⟨rfl, trivial⟩
  · have h := h.2 c2
    refine zu_aload_n d_8059_8 rfl (zs_ra _) ?_
    refine zu_iconst d_8059_9 zi_3 ?_
    refine zu_iconst d_8059_10 zi_0 ?_
    refine zu_iconst d_8059_11 zi_1 ?_
    refine zu_bipush d_8059_12 zj_8 ?_
    refine zu_aload_n d_8059_14 rfl (zs_ra _) ?_
    refine zu_iconst d_8059_15 zi_1 ?_
    refine zu_aload_n d_8059_16 rfl (zs_ra _) ?_
    refine zg_8_41 rfl d_8059_17 k1 ?_
    refine zu_aload_n d_8059_20 rfl (zs_ra _) ?_
    refine zg_8_494 rfl d_8059_21 k1 ?_
    obtain ⟨b8, e9, h⟩ := h
    refine zs_stk1 (zs_rfe e9) ?_
    obtain ⟨k10, h⟩ := h
    refine zu_bald (k := 1) d_8059_24 rfl (Or.inl rfl) k10 ?_
    refine zu_sipush d_8059_25 zh_255 ?_
    refine zu_stk d_8059_28 rfl rfl ?_
    refine zu_iconst d_8059_29 zi_0 ?_
    refine zu_iload_n d_8059_30 rfl ?_
    refine zc_8_656 (x0 := (1 : Int32)) (x1 := ((zs_i S b8 (zs_I S 8009 p0).toNatClampNeg) &&& (255 : Int32))) (x2 := (0 : Int32)) (x3 := p1) hB rfl k1 d_8059_31 (Nat.le_of_ble_eq_true rfl) h (fun v12 S11 h => ?_)
    refine zu_iload_n d_8059_34 rfl ?_
    obtain ⟨k13, h⟩ := h
    refine zc_8_699 (x0 := (3 : Int32)) (x1 := (0 : Int32)) (x2 := (1 : Int32)) (x3 := (8 : Int32)) (x4 := v12) (x5 := p1) hB rfl k13 d_8059_35 (Nat.le_of_ble_eq_true rfl) h (fun S14 h => ?_)
    exact (u_X9_tellText_38 hB h).weak ⟨rfl, trivial⟩
/-! SchemaPascalModel.deeper()V -/
theorem zm_8060 {σ : Nat → Nat} {n0 : Nat} {bf : ab_B} : ab_code (zx σ n0 bf).1 8060 = prog_17_method_49_code := rfl
theorem zq_8060 {σ : Nat → Nat} {n0 : Nat} {bf : ab_B} : ab_maxL (zx σ n0 bf).1 8060 = 1 := rfl
theorem zr_8060 {σ : Nat → Nat} {n0 : Nat} {bf : ab_B} : ab_ret (zx σ n0 bf).1 8060 = (Option.none : Option Jvm.ClassFile.FieldType) := rfl
theorem d_8060_0 {σ : Nat → Nat} {n0 : Nat} {bf : ab_B} : decode (ab_code (zx σ n0 bf).1 8060) 0 = .ok (.aload_n 0, 1) := zd zm_8060 (by decide +kernel)
theorem d_8060_1 {σ : Nat → Nat} {n0 : Nat} {bf : ab_B} : decode (ab_code (zx σ n0 bf).1 8060) 1 = .ok (.getfield 646, 3) := zd zm_8060 (by decide +kernel)
theorem d_8060_4 {σ : Nat → Nat} {n0 : Nat} {bf : ab_B} : decode (ab_code (zx σ n0 bf).1 8060) 4 = .ok (.bipush 40, 2) := zd zm_8060 (by decide +kernel)
theorem d_8060_6 {σ : Nat → Nat} {n0 : Nat} {bf : ab_B} : decode (ab_code (zx σ n0 bf).1 8060) 6 = .ok (.if_icmp .ne 9, 3) := zd zm_8060 (by decide +kernel)
theorem d_8060_9 {σ : Nat → Nat} {n0 : Nat} {bf : ab_B} : decode (ab_code (zx σ n0 bf).1 8060) 9 = .ok (.aload_n 0, 1) := zd zm_8060 (by decide +kernel)
theorem d_8060_10 {σ : Nat → Nat} {n0 : Nat} {bf : ab_B} : decode (ab_code (zx σ n0 bf).1 8060) 10 = .ok (.bipush 8, 2) := zd zm_8060 (by decide +kernel)
theorem d_8060_12 {σ : Nat → Nat} {n0 : Nat} {bf : ab_B} : decode (ab_code (zx σ n0 bf).1 8060) 12 = .ok (.invokevirtual 541, 3) := zd zm_8060 (by decide +kernel)
theorem d_8060_15 {σ : Nat → Nat} {n0 : Nat} {bf : ab_B} : decode (ab_code (zx σ n0 bf).1 8060) 15 = .ok (.aload_n 0, 1) := zd zm_8060 (by decide +kernel)
theorem d_8060_16 {σ : Nat → Nat} {n0 : Nat} {bf : ab_B} : decode (ab_code (zx σ n0 bf).1 8060) 16 = .ok (.dup, 1) := zd zm_8060 (by decide +kernel)
theorem d_8060_17 {σ : Nat → Nat} {n0 : Nat} {bf : ab_B} : decode (ab_code (zx σ n0 bf).1 8060) 17 = .ok (.getfield 646, 3) := zd zm_8060 (by decide +kernel)
theorem d_8060_20 {σ : Nat → Nat} {n0 : Nat} {bf : ab_B} : decode (ab_code (zx σ n0 bf).1 8060) 20 = .ok (.iconst 1, 1) := zd zm_8060 (by decide +kernel)
theorem d_8060_21 {σ : Nat → Nat} {n0 : Nat} {bf : ab_B} : decode (ab_code (zx σ n0 bf).1 8060) 21 = .ok (.iadd, 1) := zd zm_8060 (by decide +kernel)
theorem d_8060_22 {σ : Nat → Nat} {n0 : Nat} {bf : ab_B} : decode (ab_code (zx σ n0 bf).1 8060) 22 = .ok (.putfield 646, 3) := zd zm_8060 (by decide +kernel)
theorem d_8060_25 {σ : Nat → Nat} {n0 : Nat} {bf : ab_B} : decode (ab_code (zx σ n0 bf).1 8060) 25 = .ok (.aload_n 0, 1) := zd zm_8060 (by decide +kernel)
theorem d_8060_26 {σ : Nat → Nat} {n0 : Nat} {bf : ab_B} : decode (ab_code (zx σ n0 bf).1 8060) 26 = .ok (.iconst 1, 1) := zd zm_8060 (by decide +kernel)
theorem d_8060_27 {σ : Nat → Nat} {n0 : Nat} {bf : ab_B} : decode (ab_code (zx σ n0 bf).1 8060) 27 = .ok (.iconst 0, 1) := zd zm_8060 (by decide +kernel)
theorem d_8060_28 {σ : Nat → Nat} {n0 : Nat} {bf : ab_B} : decode (ab_code (zx σ n0 bf).1 8060) 28 = .ok (.iconst 0, 1) := zd zm_8060 (by decide +kernel)
theorem d_8060_29 {σ : Nat → Nat} {n0 : Nat} {bf : ab_B} : decode (ab_code (zx σ n0 bf).1 8060) 29 = .ok (.iconst 0, 1) := zd zm_8060 (by decide +kernel)
theorem d_8060_30 {σ : Nat → Nat} {n0 : Nat} {bf : ab_B} : decode (ab_code (zx σ n0 bf).1 8060) 30 = .ok (.invokevirtual 649, 3) := zd zm_8060 (by decide +kernel)
theorem d_8060_33 {σ : Nat → Nat} {n0 : Nat} {bf : ab_B} : decode (ab_code (zx σ n0 bf).1 8060) 33 = .ok (.return_, 1) := zd zm_8060 (by decide +kernel)
def w_X9_deeper_15 (X : zs_X) (d : Nat) (p0 : Nat) (S : zs_T) (Q : zs_Q) : Prop :=
  (zs_K S p0 = some (.inl 8) ∧ ab_n0 X.1 ≤ p0 ∧ ∀ S3, S3 = zs_sI S 8090 p0 ((zs_I S 8090 p0) + (1 : Int32)) → zs_C X d 8030 [.ref p0, .int (1 : Int32), .int (0 : Int32), .int (0 : Int32), .int (0 : Int32)] S3 (zs_kV (fun S6 => (Q (.returned none) S6)) Q))
theorem u_X9_deeper_15 {σ : Nat → Nat} {n0 : Nat} {bf : ab_B} {d : Nat} {p0 : Nat} {S : zs_T} {Q : zs_Q} (hB : zt_B bf) (h : w_X9_deeper_15 (zx σ n0 bf) d p0 S Q) : zs_U (zx σ n0 bf) d 8060 15 [(0, .ref p0)] [] S Q := by
  unfold w_X9_deeper_15 at h
  refine zu_aload_n d_8060_15 rfl (zs_ra _) ?_
  refine zu_dup d_8060_16 rfl ?_
  obtain ⟨k1, h⟩ := h
  refine zg_8_646 rfl d_8060_17 k1 ?_
  refine zu_iconst d_8060_20 zi_1 ?_
  refine zu_stk d_8060_21 rfl rfl ?_
  obtain ⟨k2, h⟩ := h
  refine zp_8_646 (v := ((zs_I S 8090 p0) + (1 : Int32))) rfl d_8060_22 k1 k2 ?_
  generalize e4 : zs_sI S 8090 p0 ((zs_I S 8090 p0) + (1 : Int32)) = S3
  have h := h S3 e4.symm
  have K5 : ∀ b, zs_K S3 b = zs_K S b := zs_Kt e4 (zs_KsI _ _ _ _) (fun _ => rfl)
  refine zu_aload_n d_8060_25 rfl (zs_ra _) ?_
  refine zu_iconst d_8060_26 zi_1 ?_
  refine zu_iconst d_8060_27 zi_0 ?_
  refine zu_iconst d_8060_28 zi_0 ?_
  refine zu_iconst d_8060_29 zi_0 ?_
  refine zc_8_649 (x0 := (1 : Int32)) (x1 := (0 : Int32)) (x2 := (0 : Int32)) (x3 := (0 : Int32)) hB rfl ((K5 _).trans k1) d_8060_30 (Nat.le_of_ble_eq_true rfl) h (fun S6 h => ?_)
  exact zu_vret d_8060_33 zr_8060 h
def w_X9_deeper (X : zs_X) (d : Nat) (p0 : Nat) (S : zs_T) (Q : zs_Q) : Prop :=
  (zs_K S p0 = some (.inl 8) ∧ ((¬ (zs_I S 8090 p0) = (40 : Int32) → w_X9_deeper_15 X d p0 S Q) ∧ (¬ (¬ (zs_I S 8090 p0) = (40 : Int32)) → (zs_C X d 8027 [.ref p0, .int (8 : Int32)] S (zs_kV (fun S3 => w_X9_deeper_15 X d p0 S3 Q) Q)))))
theorem u_X9_deeper {σ : Nat → Nat} {n0 : Nat} {bf : ab_B} {d : Nat} {p0 : Nat} {S : zs_T} {Q : zs_Q} (hB : zt_B bf) (hd : 1 ≤ d) (h : w_X9_deeper (zx σ n0 bf) (d - 1) p0 S Q) : zs_C (zx σ n0 bf) d 8060 [.ref p0] S Q := by
  have hL : lv_args 0 [.ref p0] = [(0, .ref p0)] := rfl
  refine zs_C.of1 (hB.2 8060 (by decide) (by decide)) hd (by rw [hL]; exact zs_sub_self _ (by exact ⟨rfl, trivial⟩)) ?_
  rw [hL]
  clear hL
  unfold w_X9_deeper at h
  refine zu_aload_n d_8060_0 rfl (zs_ra _) ?_
  obtain ⟨k1, h⟩ := h
  refine zg_8_646 rfl d_8060_1 k1 ?_
  refine zu_bipush d_8060_4 zj_40 ?_
  refine zu_cmpne (t := 15) d_8060_6 rfl (fun c2 => ?_) (fun c2 => ?_)
  · have h := h.1 c2
    exact (u_X9_deeper_15 hB h).weak ⟨rfl, trivial⟩
  · have h := h.2 c2
    refine zu_aload_n d_8060_9 rfl (zs_ra _) ?_
    refine zu_bipush d_8060_10 zj_8 ?_
    refine zc_8_541 (x0 := (8 : Int32)) hB rfl k1 d_8060_12 (Nat.le_of_ble_eq_true rfl) h (fun S3 h => ?_)
    exact (u_X9_deeper_15 hB h).weak ⟨rfl, trivial⟩
/-! SchemaPascalModel.named(I)V -/
theorem zm_8061 {σ : Nat → Nat} {n0 : Nat} {bf : ab_B} : ab_code (zx σ n0 bf).1 8061 = prog_17_method_68_code := rfl
theorem zq_8061 {σ : Nat → Nat} {n0 : Nat} {bf : ab_B} : ab_maxL (zx σ n0 bf).1 8061 = 4 := rfl
theorem zr_8061 {σ : Nat → Nat} {n0 : Nat} {bf : ab_B} : ab_ret (zx σ n0 bf).1 8061 = (Option.none : Option Jvm.ClassFile.FieldType) := rfl
theorem d_8061_0 {σ : Nat → Nat} {n0 : Nat} {bf : ab_B} : decode (ab_code (zx σ n0 bf).1 8061) 0 = .ok (.aload_n 0, 1) := zd zm_8061 (by decide +kernel)
theorem d_8061_1 {σ : Nat → Nat} {n0 : Nat} {bf : ab_B} : decode (ab_code (zx σ n0 bf).1 8061) 1 = .ok (.getfield 37, 3) := zd zm_8061 (by decide +kernel)
theorem d_8061_4 {σ : Nat → Nat} {n0 : Nat} {bf : ab_B} : decode (ab_code (zx σ n0 bf).1 8061) 4 = .ok (.aload_n 0, 1) := zd zm_8061 (by decide +kernel)
theorem d_8061_5 {σ : Nat → Nat} {n0 : Nat} {bf : ab_B} : decode (ab_code (zx σ n0 bf).1 8061) 5 = .ok (.getfield 494, 3) := zd zm_8061 (by decide +kernel)
theorem d_8061_8 {σ : Nat → Nat} {n0 : Nat} {bf : ab_B} : decode (ab_code (zx σ n0 bf).1 8061) 8 = .ok (.iaload, 1) := zd zm_8061 (by decide +kernel)
theorem d_8061_9 {σ : Nat → Nat} {n0 : Nat} {bf : ab_B} : decode (ab_code (zx σ n0 bf).1 8061) 9 = .ok (.istore_n 2, 1) := zd zm_8061 (by decide +kernel)
theorem d_8061_10 {σ : Nat → Nat} {n0 : Nat} {bf : ab_B} : decode (ab_code (zx σ n0 bf).1 8061) 10 = .ok (.iload_n 2, 1) := zd zm_8061 (by decide +kernel)
theorem d_8061_11 {σ : Nat → Nat} {n0 : Nat} {bf : ab_B} : decode (ab_code (zx σ n0 bf).1 8061) 11 = .ok (.ifCond .ne 7, 3) := zd zm_8061 (by decide +kernel)
theorem d_8061_14 {σ : Nat → Nat} {n0 : Nat} {bf : ab_B} : decode (ab_code (zx σ n0 bf).1 8061) 14 = .ok (.iconst 0, 1) := zd zm_8061 (by decide +kernel)
theorem d_8061_15 {σ : Nat → Nat} {n0 : Nat} {bf : ab_B} : decode (ab_code (zx σ n0 bf).1 8061) 15 = .ok (.goto 9, 3) := zd zm_8061 (by decide +kernel)
theorem d_8061_18 {σ : Nat → Nat} {n0 : Nat} {bf : ab_B} : decode (ab_code (zx σ n0 bf).1 8061) 18 = .ok (.aload_n 0, 1) := zd zm_8061 (by decide +kernel)
theorem d_8061_19 {σ : Nat → Nat} {n0 : Nat} {bf : ab_B} : decode (ab_code (zx σ n0 bf).1 8061) 19 = .ok (.getfield 44, 3) := zd zm_8061 (by decide +kernel)
theorem d_8061_22 {σ : Nat → Nat} {n0 : Nat} {bf : ab_B} : decode (ab_code (zx σ n0 bf).1 8061) 22 = .ok (.iload_n 2, 1) := zd zm_8061 (by decide +kernel)
theorem d_8061_23 {σ : Nat → Nat} {n0 : Nat} {bf : ab_B} : decode (ab_code (zx σ n0 bf).1 8061) 23 = .ok (.baload, 1) := zd zm_8061 (by decide +kernel)
theorem d_8061_24 {σ : Nat → Nat} {n0 : Nat} {bf : ab_B} : decode (ab_code (zx σ n0 bf).1 8061) 24 = .ok (.istore_n 3, 1) := zd zm_8061 (by decide +kernel)
theorem d_8061_25 {σ : Nat → Nat} {n0 : Nat} {bf : ab_B} : decode (ab_code (zx σ n0 bf).1 8061) 25 = .ok (.iload_n 3, 1) := zd zm_8061 (by decide +kernel)
theorem d_8061_26 {σ : Nat → Nat} {n0 : Nat} {bf : ab_B} : decode (ab_code (zx σ n0 bf).1 8061) 26 = .ok (.iconst 1, 1) := zd zm_8061 (by decide +kernel)
theorem d_8061_27 {σ : Nat → Nat} {n0 : Nat} {bf : ab_B} : decode (ab_code (zx σ n0 bf).1 8061) 27 = .ok (.if_icmp .ne 79, 3) := zd zm_8061 (by decide +kernel)
theorem d_8061_30 {σ : Nat → Nat} {n0 : Nat} {bf : ab_B} : decode (ab_code (zx σ n0 bf).1 8061) 30 = .ok (.aload_n 0, 1) := zd zm_8061 (by decide +kernel)
theorem d_8061_31 {σ : Nat → Nat} {n0 : Nat} {bf : ab_B} : decode (ab_code (zx σ n0 bf).1 8061) 31 = .ok (.getfield 56, 3) := zd zm_8061 (by decide +kernel)
theorem d_8061_34 {σ : Nat → Nat} {n0 : Nat} {bf : ab_B} : decode (ab_code (zx σ n0 bf).1 8061) 34 = .ok (.iload_n 2, 1) := zd zm_8061 (by decide +kernel)
theorem d_8061_35 {σ : Nat → Nat} {n0 : Nat} {bf : ab_B} : decode (ab_code (zx σ n0 bf).1 8061) 35 = .ok (.iaload, 1) := zd zm_8061 (by decide +kernel)
theorem d_8061_36 {σ : Nat → Nat} {n0 : Nat} {bf : ab_B} : decode (ab_code (zx σ n0 bf).1 8061) 36 = .ok (.ifCond .le 35, 3) := zd zm_8061 (by decide +kernel)
theorem d_8061_39 {σ : Nat → Nat} {n0 : Nat} {bf : ab_B} : decode (ab_code (zx σ n0 bf).1 8061) 39 = .ok (.aload_n 0, 1) := zd zm_8061 (by decide +kernel)
theorem d_8061_40 {σ : Nat → Nat} {n0 : Nat} {bf : ab_B} : decode (ab_code (zx σ n0 bf).1 8061) 40 = .ok (.bipush 6, 2) := zd zm_8061 (by decide +kernel)
theorem d_8061_42 {σ : Nat → Nat} {n0 : Nat} {bf : ab_B} : decode (ab_code (zx σ n0 bf).1 8061) 42 = .ok (.iconst 0, 1) := zd zm_8061 (by decide +kernel)
theorem d_8061_43 {σ : Nat → Nat} {n0 : Nat} {bf : ab_B} : decode (ab_code (zx σ n0 bf).1 8061) 43 = .ok (.iconst 0, 1) := zd zm_8061 (by decide +kernel)
theorem d_8061_44 {σ : Nat → Nat} {n0 : Nat} {bf : ab_B} : decode (ab_code (zx σ n0 bf).1 8061) 44 = .ok (.bipush 40, 2) := zd zm_8061 (by decide +kernel)
theorem d_8061_46 {σ : Nat → Nat} {n0 : Nat} {bf : ab_B} : decode (ab_code (zx σ n0 bf).1 8061) 46 = .ok (.aload_n 0, 1) := zd zm_8061 (by decide +kernel)
theorem d_8061_47 {σ : Nat → Nat} {n0 : Nat} {bf : ab_B} : decode (ab_code (zx σ n0 bf).1 8061) 47 = .ok (.iconst 2, 1) := zd zm_8061 (by decide +kernel)
theorem d_8061_48 {σ : Nat → Nat} {n0 : Nat} {bf : ab_B} : decode (ab_code (zx σ n0 bf).1 8061) 48 = .ok (.aload_n 0, 1) := zd zm_8061 (by decide +kernel)
theorem d_8061_49 {σ : Nat → Nat} {n0 : Nat} {bf : ab_B} : decode (ab_code (zx σ n0 bf).1 8061) 49 = .ok (.getfield 53, 3) := zd zm_8061 (by decide +kernel)
theorem d_8061_52 {σ : Nat → Nat} {n0 : Nat} {bf : ab_B} : decode (ab_code (zx σ n0 bf).1 8061) 52 = .ok (.iload_n 2, 1) := zd zm_8061 (by decide +kernel)
theorem d_8061_53 {σ : Nat → Nat} {n0 : Nat} {bf : ab_B} : decode (ab_code (zx σ n0 bf).1 8061) 53 = .ok (.iaload, 1) := zd zm_8061 (by decide +kernel)
theorem d_8061_54 {σ : Nat → Nat} {n0 : Nat} {bf : ab_B} : decode (ab_code (zx σ n0 bf).1 8061) 54 = .ok (.aload_n 0, 1) := zd zm_8061 (by decide +kernel)
theorem d_8061_55 {σ : Nat → Nat} {n0 : Nat} {bf : ab_B} : decode (ab_code (zx σ n0 bf).1 8061) 55 = .ok (.getfield 56, 3) := zd zm_8061 (by decide +kernel)
theorem d_8061_58 {σ : Nat → Nat} {n0 : Nat} {bf : ab_B} : decode (ab_code (zx σ n0 bf).1 8061) 58 = .ok (.iload_n 2, 1) := zd zm_8061 (by decide +kernel)
theorem d_8061_59 {σ : Nat → Nat} {n0 : Nat} {bf : ab_B} : decode (ab_code (zx σ n0 bf).1 8061) 59 = .ok (.iaload, 1) := zd zm_8061 (by decide +kernel)
theorem d_8061_60 {σ : Nat → Nat} {n0 : Nat} {bf : ab_B} : decode (ab_code (zx σ n0 bf).1 8061) 60 = .ok (.iload_n 1, 1) := zd zm_8061 (by decide +kernel)
theorem d_8061_61 {σ : Nat → Nat} {n0 : Nat} {bf : ab_B} : decode (ab_code (zx σ n0 bf).1 8061) 61 = .ok (.invokevirtual 656, 3) := zd zm_8061 (by decide +kernel)
theorem d_8061_64 {σ : Nat → Nat} {n0 : Nat} {bf : ab_B} : decode (ab_code (zx σ n0 bf).1 8061) 64 = .ok (.iload_n 1, 1) := zd zm_8061 (by decide +kernel)
theorem d_8061_65 {σ : Nat → Nat} {n0 : Nat} {bf : ab_B} : decode (ab_code (zx σ n0 bf).1 8061) 65 = .ok (.invokevirtual 699, 3) := zd zm_8061 (by decide +kernel)
theorem d_8061_68 {σ : Nat → Nat} {n0 : Nat} {bf : ab_B} : decode (ab_code (zx σ n0 bf).1 8061) 68 = .ok (.goto 31, 3) := zd zm_8061 (by decide +kernel)
theorem d_8061_71 {σ : Nat → Nat} {n0 : Nat} {bf : ab_B} : decode (ab_code (zx σ n0 bf).1 8061) 71 = .ok (.aload_n 0, 1) := zd zm_8061 (by decide +kernel)
theorem d_8061_72 {σ : Nat → Nat} {n0 : Nat} {bf : ab_B} : decode (ab_code (zx σ n0 bf).1 8061) 72 = .ok (.aload_n 0, 1) := zd zm_8061 (by decide +kernel)
theorem d_8061_73 {σ : Nat → Nat} {n0 : Nat} {bf : ab_B} : decode (ab_code (zx σ n0 bf).1 8061) 73 = .ok (.getfield 50, 3) := zd zm_8061 (by decide +kernel)
theorem d_8061_76 {σ : Nat → Nat} {n0 : Nat} {bf : ab_B} : decode (ab_code (zx σ n0 bf).1 8061) 76 = .ok (.iload_n 2, 1) := zd zm_8061 (by decide +kernel)
theorem d_8061_77 {σ : Nat → Nat} {n0 : Nat} {bf : ab_B} : decode (ab_code (zx σ n0 bf).1 8061) 77 = .ok (.iaload, 1) := zd zm_8061 (by decide +kernel)
theorem d_8061_78 {σ : Nat → Nat} {n0 : Nat} {bf : ab_B} : decode (ab_code (zx σ n0 bf).1 8061) 78 = .ok (.iconst 0, 1) := zd zm_8061 (by decide +kernel)
theorem d_8061_79 {σ : Nat → Nat} {n0 : Nat} {bf : ab_B} : decode (ab_code (zx σ n0 bf).1 8061) 79 = .ok (.iconst 1, 1) := zd zm_8061 (by decide +kernel)
theorem d_8061_80 {σ : Nat → Nat} {n0 : Nat} {bf : ab_B} : decode (ab_code (zx σ n0 bf).1 8061) 80 = .ok (.bipush 8, 2) := zd zm_8061 (by decide +kernel)
theorem d_8061_82 {σ : Nat → Nat} {n0 : Nat} {bf : ab_B} : decode (ab_code (zx σ n0 bf).1 8061) 82 = .ok (.aload_n 0, 1) := zd zm_8061 (by decide +kernel)
theorem d_8061_83 {σ : Nat → Nat} {n0 : Nat} {bf : ab_B} : decode (ab_code (zx σ n0 bf).1 8061) 83 = .ok (.iconst 1, 1) := zd zm_8061 (by decide +kernel)
theorem d_8061_84 {σ : Nat → Nat} {n0 : Nat} {bf : ab_B} : decode (ab_code (zx σ n0 bf).1 8061) 84 = .ok (.aload_n 0, 1) := zd zm_8061 (by decide +kernel)
theorem d_8061_85 {σ : Nat → Nat} {n0 : Nat} {bf : ab_B} : decode (ab_code (zx σ n0 bf).1 8061) 85 = .ok (.getfield 53, 3) := zd zm_8061 (by decide +kernel)
theorem d_8061_88 {σ : Nat → Nat} {n0 : Nat} {bf : ab_B} : decode (ab_code (zx σ n0 bf).1 8061) 88 = .ok (.iload_n 2, 1) := zd zm_8061 (by decide +kernel)
theorem d_8061_89 {σ : Nat → Nat} {n0 : Nat} {bf : ab_B} : decode (ab_code (zx σ n0 bf).1 8061) 89 = .ok (.iaload, 1) := zd zm_8061 (by decide +kernel)
theorem d_8061_90 {σ : Nat → Nat} {n0 : Nat} {bf : ab_B} : decode (ab_code (zx σ n0 bf).1 8061) 90 = .ok (.iconst 0, 1) := zd zm_8061 (by decide +kernel)
theorem d_8061_91 {σ : Nat → Nat} {n0 : Nat} {bf : ab_B} : decode (ab_code (zx σ n0 bf).1 8061) 91 = .ok (.iload_n 1, 1) := zd zm_8061 (by decide +kernel)
theorem d_8061_92 {σ : Nat → Nat} {n0 : Nat} {bf : ab_B} : decode (ab_code (zx σ n0 bf).1 8061) 92 = .ok (.invokevirtual 656, 3) := zd zm_8061 (by decide +kernel)
theorem d_8061_95 {σ : Nat → Nat} {n0 : Nat} {bf : ab_B} : decode (ab_code (zx σ n0 bf).1 8061) 95 = .ok (.iload_n 1, 1) := zd zm_8061 (by decide +kernel)
theorem d_8061_96 {σ : Nat → Nat} {n0 : Nat} {bf : ab_B} : decode (ab_code (zx σ n0 bf).1 8061) 96 = .ok (.invokevirtual 699, 3) := zd zm_8061 (by decide +kernel)
theorem d_8061_99 {σ : Nat → Nat} {n0 : Nat} {bf : ab_B} : decode (ab_code (zx σ n0 bf).1 8061) 99 = .ok (.aload_n 0, 1) := zd zm_8061 (by decide +kernel)
theorem d_8061_100 {σ : Nat → Nat} {n0 : Nat} {bf : ab_B} : decode (ab_code (zx σ n0 bf).1 8061) 100 = .ok (.invokevirtual 538, 3) := zd zm_8061 (by decide +kernel)
theorem d_8061_103 {σ : Nat → Nat} {n0 : Nat} {bf : ab_B} : decode (ab_code (zx σ n0 bf).1 8061) 103 = .ok (.goto 147, 3) := zd zm_8061 (by decide +kernel)
theorem d_8061_106 {σ : Nat → Nat} {n0 : Nat} {bf : ab_B} : decode (ab_code (zx σ n0 bf).1 8061) 106 = .ok (.iload_n 3, 1) := zd zm_8061 (by decide +kernel)
theorem d_8061_107 {σ : Nat → Nat} {n0 : Nat} {bf : ab_B} : decode (ab_code (zx σ n0 bf).1 8061) 107 = .ok (.bipush 7, 2) := zd zm_8061 (by decide +kernel)
theorem d_8061_109 {σ : Nat → Nat} {n0 : Nat} {bf : ab_B} : decode (ab_code (zx σ n0 bf).1 8061) 109 = .ok (.if_icmp .ne 43, 3) := zd zm_8061 (by decide +kernel)
theorem d_8061_112 {σ : Nat → Nat} {n0 : Nat} {bf : ab_B} : decode (ab_code (zx σ n0 bf).1 8061) 112 = .ok (.aload_n 0, 1) := zd zm_8061 (by decide +kernel)
theorem d_8061_113 {σ : Nat → Nat} {n0 : Nat} {bf : ab_B} : decode (ab_code (zx σ n0 bf).1 8061) 113 = .ok (.aload_n 0, 1) := zd zm_8061 (by decide +kernel)
theorem d_8061_114 {σ : Nat → Nat} {n0 : Nat} {bf : ab_B} : decode (ab_code (zx σ n0 bf).1 8061) 114 = .ok (.aload_n 0, 1) := zd zm_8061 (by decide +kernel)
theorem d_8061_115 {σ : Nat → Nat} {n0 : Nat} {bf : ab_B} : decode (ab_code (zx σ n0 bf).1 8061) 115 = .ok (.getfield 50, 3) := zd zm_8061 (by decide +kernel)
theorem d_8061_118 {σ : Nat → Nat} {n0 : Nat} {bf : ab_B} : decode (ab_code (zx σ n0 bf).1 8061) 118 = .ok (.iload_n 2, 1) := zd zm_8061 (by decide +kernel)
theorem d_8061_119 {σ : Nat → Nat} {n0 : Nat} {bf : ab_B} : decode (ab_code (zx σ n0 bf).1 8061) 119 = .ok (.iaload, 1) := zd zm_8061 (by decide +kernel)
theorem d_8061_120 {σ : Nat → Nat} {n0 : Nat} {bf : ab_B} : decode (ab_code (zx σ n0 bf).1 8061) 120 = .ok (.invokevirtual 561, 3) := zd zm_8061 (by decide +kernel)
theorem d_8061_123 {σ : Nat → Nat} {n0 : Nat} {bf : ab_B} : decode (ab_code (zx σ n0 bf).1 8061) 123 = .ok (.iconst 0, 1) := zd zm_8061 (by decide +kernel)
theorem d_8061_124 {σ : Nat → Nat} {n0 : Nat} {bf : ab_B} : decode (ab_code (zx σ n0 bf).1 8061) 124 = .ok (.iconst 1, 1) := zd zm_8061 (by decide +kernel)
theorem d_8061_125 {σ : Nat → Nat} {n0 : Nat} {bf : ab_B} : decode (ab_code (zx σ n0 bf).1 8061) 125 = .ok (.bipush 24, 2) := zd zm_8061 (by decide +kernel)
theorem d_8061_127 {σ : Nat → Nat} {n0 : Nat} {bf : ab_B} : decode (ab_code (zx σ n0 bf).1 8061) 127 = .ok (.aload_n 0, 1) := zd zm_8061 (by decide +kernel)
theorem d_8061_128 {σ : Nat → Nat} {n0 : Nat} {bf : ab_B} : decode (ab_code (zx σ n0 bf).1 8061) 128 = .ok (.bipush 22, 2) := zd zm_8061 (by decide +kernel)
theorem d_8061_130 {σ : Nat → Nat} {n0 : Nat} {bf : ab_B} : decode (ab_code (zx σ n0 bf).1 8061) 130 = .ok (.aload_n 0, 1) := zd zm_8061 (by decide +kernel)
theorem d_8061_131 {σ : Nat → Nat} {n0 : Nat} {bf : ab_B} : decode (ab_code (zx σ n0 bf).1 8061) 131 = .ok (.getfield 53, 3) := zd zm_8061 (by decide +kernel)
theorem d_8061_134 {σ : Nat → Nat} {n0 : Nat} {bf : ab_B} : decode (ab_code (zx σ n0 bf).1 8061) 134 = .ok (.iload_n 2, 1) := zd zm_8061 (by decide +kernel)
theorem d_8061_135 {σ : Nat → Nat} {n0 : Nat} {bf : ab_B} : decode (ab_code (zx σ n0 bf).1 8061) 135 = .ok (.iaload, 1) := zd zm_8061 (by decide +kernel)
theorem d_8061_136 {σ : Nat → Nat} {n0 : Nat} {bf : ab_B} : decode (ab_code (zx σ n0 bf).1 8061) 136 = .ok (.iconst 0, 1) := zd zm_8061 (by decide +kernel)
theorem d_8061_137 {σ : Nat → Nat} {n0 : Nat} {bf : ab_B} : decode (ab_code (zx σ n0 bf).1 8061) 137 = .ok (.iload_n 1, 1) := zd zm_8061 (by decide +kernel)
theorem d_8061_138 {σ : Nat → Nat} {n0 : Nat} {bf : ab_B} : decode (ab_code (zx σ n0 bf).1 8061) 138 = .ok (.invokevirtual 656, 3) := zd zm_8061 (by decide +kernel)
theorem d_8061_141 {σ : Nat → Nat} {n0 : Nat} {bf : ab_B} : decode (ab_code (zx σ n0 bf).1 8061) 141 = .ok (.iload_n 1, 1) := zd zm_8061 (by decide +kernel)
theorem d_8061_142 {σ : Nat → Nat} {n0 : Nat} {bf : ab_B} : decode (ab_code (zx σ n0 bf).1 8061) 142 = .ok (.invokevirtual 699, 3) := zd zm_8061 (by decide +kernel)
theorem d_8061_145 {σ : Nat → Nat} {n0 : Nat} {bf : ab_B} : decode (ab_code (zx σ n0 bf).1 8061) 145 = .ok (.aload_n 0, 1) := zd zm_8061 (by decide +kernel)
theorem d_8061_146 {σ : Nat → Nat} {n0 : Nat} {bf : ab_B} : decode (ab_code (zx σ n0 bf).1 8061) 146 = .ok (.invokevirtual 538, 3) := zd zm_8061 (by decide +kernel)
theorem d_8061_149 {σ : Nat → Nat} {n0 : Nat} {bf : ab_B} : decode (ab_code (zx σ n0 bf).1 8061) 149 = .ok (.goto 101, 3) := zd zm_8061 (by decide +kernel)
theorem d_8061_152 {σ : Nat → Nat} {n0 : Nat} {bf : ab_B} : decode (ab_code (zx σ n0 bf).1 8061) 152 = .ok (.iload_n 3, 1) := zd zm_8061 (by decide +kernel)
theorem d_8061_153 {σ : Nat → Nat} {n0 : Nat} {bf : ab_B} : decode (ab_code (zx σ n0 bf).1 8061) 153 = .ok (.iconst 4, 1) := zd zm_8061 (by decide +kernel)
theorem d_8061_154 {σ : Nat → Nat} {n0 : Nat} {bf : ab_B} : decode (ab_code (zx σ n0 bf).1 8061) 154 = .ok (.if_icmp .eq 9, 3) := zd zm_8061 (by decide +kernel)
theorem d_8061_157 {σ : Nat → Nat} {n0 : Nat} {bf : ab_B} : decode (ab_code (zx σ n0 bf).1 8061) 157 = .ok (.iload_n 3, 1) := zd zm_8061 (by decide +kernel)
theorem d_8061_158 {σ : Nat → Nat} {n0 : Nat} {bf : ab_B} : decode (ab_code (zx σ n0 bf).1 8061) 158 = .ok (.bipush 8, 2) := zd zm_8061 (by decide +kernel)
theorem d_8061_160 {σ : Nat → Nat} {n0 : Nat} {bf : ab_B} : decode (ab_code (zx σ n0 bf).1 8061) 160 = .ok (.if_icmp .ne 12, 3) := zd zm_8061 (by decide +kernel)
theorem d_8061_163 {σ : Nat → Nat} {n0 : Nat} {bf : ab_B} : decode (ab_code (zx σ n0 bf).1 8061) 163 = .ok (.aload_n 0, 1) := zd zm_8061 (by decide +kernel)
theorem d_8061_164 {σ : Nat → Nat} {n0 : Nat} {bf : ab_B} : decode (ab_code (zx σ n0 bf).1 8061) 164 = .ok (.iload_n 2, 1) := zd zm_8061 (by decide +kernel)
theorem d_8061_165 {σ : Nat → Nat} {n0 : Nat} {bf : ab_B} : decode (ab_code (zx σ n0 bf).1 8061) 165 = .ok (.iload_n 1, 1) := zd zm_8061 (by decide +kernel)
theorem d_8061_166 {σ : Nat → Nat} {n0 : Nat} {bf : ab_B} : decode (ab_code (zx σ n0 bf).1 8061) 166 = .ok (.invokevirtual 712, 3) := zd zm_8061 (by decide +kernel)
theorem d_8061_169 {σ : Nat → Nat} {n0 : Nat} {bf : ab_B} : decode (ab_code (zx σ n0 bf).1 8061) 169 = .ok (.goto 81, 3) := zd zm_8061 (by decide +kernel)
theorem d_8061_172 {σ : Nat → Nat} {n0 : Nat} {bf : ab_B} : decode (ab_code (zx σ n0 bf).1 8061) 172 = .ok (.iload_n 3, 1) := zd zm_8061 (by decide +kernel)
theorem d_8061_173 {σ : Nat → Nat} {n0 : Nat} {bf : ab_B} : decode (ab_code (zx σ n0 bf).1 8061) 173 = .ok (.iconst 5, 1) := zd zm_8061 (by decide +kernel)
theorem d_8061_174 {σ : Nat → Nat} {n0 : Nat} {bf : ab_B} : decode (ab_code (zx σ n0 bf).1 8061) 174 = .ok (.if_icmp .ne 36, 3) := zd zm_8061 (by decide +kernel)
theorem d_8061_177 {σ : Nat → Nat} {n0 : Nat} {bf : ab_B} : decode (ab_code (zx σ n0 bf).1 8061) 177 = .ok (.aload_n 0, 1) := zd zm_8061 (by decide +kernel)
theorem d_8061_178 {σ : Nat → Nat} {n0 : Nat} {bf : ab_B} : decode (ab_code (zx σ n0 bf).1 8061) 178 = .ok (.getfield 215, 3) := zd zm_8061 (by decide +kernel)
theorem d_8061_181 {σ : Nat → Nat} {n0 : Nat} {bf : ab_B} : decode (ab_code (zx σ n0 bf).1 8061) 181 = .ok (.aload_n 0, 1) := zd zm_8061 (by decide +kernel)
theorem d_8061_182 {σ : Nat → Nat} {n0 : Nat} {bf : ab_B} : decode (ab_code (zx σ n0 bf).1 8061) 182 = .ok (.getfield 53, 3) := zd zm_8061 (by decide +kernel)
theorem d_8061_185 {σ : Nat → Nat} {n0 : Nat} {bf : ab_B} : decode (ab_code (zx σ n0 bf).1 8061) 185 = .ok (.iload_n 2, 1) := zd zm_8061 (by decide +kernel)
theorem d_8061_186 {σ : Nat → Nat} {n0 : Nat} {bf : ab_B} : decode (ab_code (zx σ n0 bf).1 8061) 186 = .ok (.iaload, 1) := zd zm_8061 (by decide +kernel)
theorem d_8061_187 {σ : Nat → Nat} {n0 : Nat} {bf : ab_B} : decode (ab_code (zx σ n0 bf).1 8061) 187 = .ok (.iaload, 1) := zd zm_8061 (by decide +kernel)
theorem d_8061_188 {σ : Nat → Nat} {n0 : Nat} {bf : ab_B} : decode (ab_code (zx σ n0 bf).1 8061) 188 = .ok (.ifCond .le 22, 3) := zd zm_8061 (by decide +kernel)
theorem d_8061_191 {σ : Nat → Nat} {n0 : Nat} {bf : ab_B} : decode (ab_code (zx σ n0 bf).1 8061) 191 = .ok (.aload_n 0, 1) := zd zm_8061 (by decide +kernel)
theorem d_8061_192 {σ : Nat → Nat} {n0 : Nat} {bf : ab_B} : decode (ab_code (zx σ n0 bf).1 8061) 192 = .ok (.invokevirtual 538, 3) := zd zm_8061 (by decide +kernel)
theorem d_8061_195 {σ : Nat → Nat} {n0 : Nat} {bf : ab_B} : decode (ab_code (zx σ n0 bf).1 8061) 195 = .ok (.aload_n 0, 1) := zd zm_8061 (by decide +kernel)
theorem d_8061_196 {σ : Nat → Nat} {n0 : Nat} {bf : ab_B} : decode (ab_code (zx σ n0 bf).1 8061) 196 = .ok (.aload_n 0, 1) := zd zm_8061 (by decide +kernel)
theorem d_8061_197 {σ : Nat → Nat} {n0 : Nat} {bf : ab_B} : decode (ab_code (zx σ n0 bf).1 8061) 197 = .ok (.getfield 53, 3) := zd zm_8061 (by decide +kernel)
theorem d_8061_200 {σ : Nat → Nat} {n0 : Nat} {bf : ab_B} : decode (ab_code (zx σ n0 bf).1 8061) 200 = .ok (.iload_n 2, 1) := zd zm_8061 (by decide +kernel)
theorem d_8061_201 {σ : Nat → Nat} {n0 : Nat} {bf : ab_B} : decode (ab_code (zx σ n0 bf).1 8061) 201 = .ok (.iaload, 1) := zd zm_8061 (by decide +kernel)
theorem d_8061_202 {σ : Nat → Nat} {n0 : Nat} {bf : ab_B} : decode (ab_code (zx σ n0 bf).1 8061) 202 = .ok (.iload_n 1, 1) := zd zm_8061 (by decide +kernel)
theorem d_8061_203 {σ : Nat → Nat} {n0 : Nat} {bf : ab_B} : decode (ab_code (zx σ n0 bf).1 8061) 203 = .ok (.iconst 1, 1) := zd zm_8061 (by decide +kernel)
theorem d_8061_204 {σ : Nat → Nat} {n0 : Nat} {bf : ab_B} : decode (ab_code (zx σ n0 bf).1 8061) 204 = .ok (.invokevirtual 715, 3) := zd zm_8061 (by decide +kernel)
theorem d_8061_207 {σ : Nat → Nat} {n0 : Nat} {bf : ab_B} : decode (ab_code (zx σ n0 bf).1 8061) 207 = .ok (.goto 43, 3) := zd zm_8061 (by decide +kernel)
theorem d_8061_210 {σ : Nat → Nat} {n0 : Nat} {bf : ab_B} : decode (ab_code (zx σ n0 bf).1 8061) 210 = .ok (.iload_n 3, 1) := zd zm_8061 (by decide +kernel)
theorem d_8061_211 {σ : Nat → Nat} {n0 : Nat} {bf : ab_B} : decode (ab_code (zx σ n0 bf).1 8061) 211 = .ok (.bipush 6, 2) := zd zm_8061 (by decide +kernel)
theorem d_8061_213 {σ : Nat → Nat} {n0 : Nat} {bf : ab_B} : decode (ab_code (zx σ n0 bf).1 8061) 213 = .ok (.if_icmp .ne 32, 3) := zd zm_8061 (by decide +kernel)
theorem d_8061_216 {σ : Nat → Nat} {n0 : Nat} {bf : ab_B} : decode (ab_code (zx σ n0 bf).1 8061) 216 = .ok (.aload_n 0, 1) := zd zm_8061 (by decide +kernel)
theorem d_8061_217 {σ : Nat → Nat} {n0 : Nat} {bf : ab_B} : decode (ab_code (zx σ n0 bf).1 8061) 217 = .ok (.getfield 53, 3) := zd zm_8061 (by decide +kernel)
theorem d_8061_220 {σ : Nat → Nat} {n0 : Nat} {bf : ab_B} : decode (ab_code (zx σ n0 bf).1 8061) 220 = .ok (.iload_n 2, 1) := zd zm_8061 (by decide +kernel)
theorem d_8061_221 {σ : Nat → Nat} {n0 : Nat} {bf : ab_B} : decode (ab_code (zx σ n0 bf).1 8061) 221 = .ok (.iaload, 1) := zd zm_8061 (by decide +kernel)
theorem d_8061_222 {σ : Nat → Nat} {n0 : Nat} {bf : ab_B} : decode (ab_code (zx σ n0 bf).1 8061) 222 = .ok (.bipush 18, 2) := zd zm_8061 (by decide +kernel)
theorem d_8061_224 {σ : Nat → Nat} {n0 : Nat} {bf : ab_B} : decode (ab_code (zx σ n0 bf).1 8061) 224 = .ok (.if_icmp .gt 21, 3) := zd zm_8061 (by decide +kernel)
theorem d_8061_227 {σ : Nat → Nat} {n0 : Nat} {bf : ab_B} : decode (ab_code (zx σ n0 bf).1 8061) 227 = .ok (.aload_n 0, 1) := zd zm_8061 (by decide +kernel)
theorem d_8061_228 {σ : Nat → Nat} {n0 : Nat} {bf : ab_B} : decode (ab_code (zx σ n0 bf).1 8061) 228 = .ok (.invokevirtual 538, 3) := zd zm_8061 (by decide +kernel)
theorem d_8061_231 {σ : Nat → Nat} {n0 : Nat} {bf : ab_B} : decode (ab_code (zx σ n0 bf).1 8061) 231 = .ok (.aload_n 0, 1) := zd zm_8061 (by decide +kernel)
theorem d_8061_232 {σ : Nat → Nat} {n0 : Nat} {bf : ab_B} : decode (ab_code (zx σ n0 bf).1 8061) 232 = .ok (.aload_n 0, 1) := zd zm_8061 (by decide +kernel)
theorem d_8061_233 {σ : Nat → Nat} {n0 : Nat} {bf : ab_B} : decode (ab_code (zx σ n0 bf).1 8061) 233 = .ok (.getfield 53, 3) := zd zm_8061 (by decide +kernel)
theorem d_8061_236 {σ : Nat → Nat} {n0 : Nat} {bf : ab_B} : decode (ab_code (zx σ n0 bf).1 8061) 236 = .ok (.iload_n 2, 1) := zd zm_8061 (by decide +kernel)
theorem d_8061_237 {σ : Nat → Nat} {n0 : Nat} {bf : ab_B} : decode (ab_code (zx σ n0 bf).1 8061) 237 = .ok (.iaload, 1) := zd zm_8061 (by decide +kernel)
theorem d_8061_238 {σ : Nat → Nat} {n0 : Nat} {bf : ab_B} : decode (ab_code (zx σ n0 bf).1 8061) 238 = .ok (.iload_n 1, 1) := zd zm_8061 (by decide +kernel)
theorem d_8061_239 {σ : Nat → Nat} {n0 : Nat} {bf : ab_B} : decode (ab_code (zx σ n0 bf).1 8061) 239 = .ok (.invokevirtual 719, 3) := zd zm_8061 (by decide +kernel)
theorem d_8061_242 {σ : Nat → Nat} {n0 : Nat} {bf : ab_B} : decode (ab_code (zx σ n0 bf).1 8061) 242 = .ok (.goto 8, 3) := zd zm_8061 (by decide +kernel)
theorem d_8061_245 {σ : Nat → Nat} {n0 : Nat} {bf : ab_B} : decode (ab_code (zx σ n0 bf).1 8061) 245 = .ok (.aload_n 0, 1) := zd zm_8061 (by decide +kernel)
theorem d_8061_246 {σ : Nat → Nat} {n0 : Nat} {bf : ab_B} : decode (ab_code (zx σ n0 bf).1 8061) 246 = .ok (.iconst 3, 1) := zd zm_8061 (by decide +kernel)
theorem d_8061_247 {σ : Nat → Nat} {n0 : Nat} {bf : ab_B} : decode (ab_code (zx σ n0 bf).1 8061) 247 = .ok (.invokevirtual 541, 3) := zd zm_8061 (by decide +kernel)
theorem d_8061_250 {σ : Nat → Nat} {n0 : Nat} {bf : ab_B} : decode (ab_code (zx σ n0 bf).1 8061) 250 = .ok (.return_, 1) := zd zm_8061 (by decide +kernel)
def w_X9_named_163 (X : zs_X) (d : Nat) (p0 : Nat) (p1 : Int32) (p2 : Int32) (S : zs_T) (Q : zs_Q) : Prop :=
  (zs_K S p0 = some (.inl 8) ∧ zs_C X d 8062 [.ref p0, .int p2, .int p1] S (zs_kV (fun S2 => (Q (.returned none) S2)) Q))
theorem u_X9_named_163 {σ : Nat → Nat} {n0 : Nat} {bf : ab_B} {d : Nat} {p0 : Nat} {p1 : Int32} {p2 : Int32} {S : zs_T} {Q : zs_Q} (hB : zt_B bf) (h : w_X9_named_163 (zx σ n0 bf) d p0 p1 p2 S Q) : zs_U (zx σ n0 bf) d 8061 163 [(0, .ref p0), (1, .int p1), (2, .int p2)] [] S Q := by
  unfold w_X9_named_163 at h
  refine zu_aload_n d_8061_163 rfl (zs_ra _) ?_
  refine zu_iload_n d_8061_164 rfl ?_
  refine zu_iload_n d_8061_165 rfl ?_
  obtain ⟨k1, h⟩ := h
  refine zc_8_712 (x0 := p2) (x1 := p1) hB rfl k1 d_8061_166 (Nat.le_of_ble_eq_true rfl) h (fun S2 h => ?_)
  refine zu_goto (t := 250) d_8061_169 rfl ?_
  exact zu_vret d_8061_250 zr_8061 h
def w_X9_named_245 (X : zs_X) (d : Nat) (p0 : Nat) (S : zs_T) (Q : zs_Q) : Prop :=
  (zs_K S p0 = some (.inl 8) ∧ zs_C X d 8027 [.ref p0, .int (3 : Int32)] S (zs_kV (fun S2 => (Q (.returned none) S2)) Q))
theorem u_X9_named_245 {σ : Nat → Nat} {n0 : Nat} {bf : ab_B} {d : Nat} {p0 : Nat} {S : zs_T} {Q : zs_Q} (hB : zt_B bf) (h : w_X9_named_245 (zx σ n0 bf) d p0 S Q) : zs_U (zx σ n0 bf) d 8061 245 [(0, .ref p0)] [] S Q := by
  unfold w_X9_named_245 at h
  refine zu_aload_n d_8061_245 rfl (zs_ra _) ?_
  refine zu_iconst d_8061_246 zi_3 ?_
  obtain ⟨k1, h⟩ := h
  refine zc_8_541 (x0 := (3 : Int32)) hB rfl k1 d_8061_247 (Nat.le_of_ble_eq_true rfl) h (fun S2 h => ?_)
  exact zu_vret d_8061_250 zr_8061 h
def w_X9_named_242 (X : zs_X) (d : Nat)  (S : zs_T) (Q : zs_Q) : Prop :=
  (Q (.returned none) S)
theorem u_X9_named_242 {σ : Nat → Nat} {n0 : Nat} {bf : ab_B} {d : Nat}  {S : zs_T} {Q : zs_Q} (hB : zt_B bf) (h : w_X9_named_242 (zx σ n0 bf) d  S Q) : zs_U (zx σ n0 bf) d 8061 242 [] [] S Q := by
  unfold w_X9_named_242 at h
  refine zu_goto (t := 250) d_8061_242 rfl ?_
  exact zu_vret d_8061_250 zr_8061 h
def w_X9_named_210 (X : zs_X) (d : Nat) (p0 : Nat) (p1 : Int32) (p2 : Int32) (p3 : Int32) (S : zs_T) (Q : zs_Q) : Prop :=
  (((¬ p3 = (6 : Int32) → w_X9_named_245 X d p0 S Q) ∧ (¬ (¬ p3 = (6 : Int32)) → (zs_K S p0 = some (.inl 8) ∧ ∃ b3, (zs_R S 8027 p0) = some b3 ∧ zs_A S b3 0 p2 ∧ (((18 : Int32) < (zs_i S b3 p2.toNatClampNeg) → w_X9_named_245 X d p0 S Q) ∧ (¬ ((18 : Int32) < (zs_i S b3 p2.toNatClampNeg)) → (zs_C X d 8014 [.ref p0] S (zs_kV (fun S7 => (zs_K S7 p0 = some (.inl 8) ∧ ∃ b10, (zs_R S7 8027 p0) = some b10 ∧ zs_A S7 b10 0 p2 ∧ zs_C X d 8065 [.ref p0, .int (zs_i S7 b10 p2.toNatClampNeg), .int p1] S7 (zs_kV (fun S13 => w_X9_named_242 X d  S13 Q) Q))) Q))))))))
theorem u_X9_named_210 {σ : Nat → Nat} {n0 : Nat} {bf : ab_B} {d : Nat} {p0 : Nat} {p1 : Int32} {p2 : Int32} {p3 : Int32} {S : zs_T} {Q : zs_Q} (hB : zt_B bf) (h : w_X9_named_210 (zx σ n0 bf) d p0 p1 p2 p3 S Q) : zs_U (zx σ n0 bf) d 8061 210 [(0, .ref p0), (1, .int p1), (2, .int p2), (3, .int p3)] [] S Q := by
  unfold w_X9_named_210 at h
  refine zu_iload_n d_8061_210 rfl ?_
  refine zu_bipush d_8061_211 zj_6 ?_
  refine zu_cmpne (t := 245) d_8061_213 rfl (fun c1 => ?_) (fun c1 => ?_)
  · have h := h.1 c1
    exact (u_X9_named_245 hB h).weak ⟨rfl, trivial⟩
  · have h := h.2 c1
    refine zu_aload_n d_8061_216 rfl (zs_ra _) ?_
    obtain ⟨k2, h⟩ := h
    refine zg_8_53 rfl d_8061_217 k2 ?_
    refine zu_iload_n d_8061_220 rfl ?_
    obtain ⟨b3, e4, h⟩ := h
    refine zs_stk1 (zs_rfe e4) ?_
    obtain ⟨k5, h⟩ := h
    refine zu_iald (k := 0) d_8061_221 rfl rfl k5 ?_
    refine zu_bipush d_8061_222 zj_18 ?_
    refine zu_cmpgt (t := 245) d_8061_224 rfl (fun c6 => ?_) (fun c6 => ?_)
    · have h := h.1 c6
      exact (u_X9_named_245 hB h).weak ⟨rfl, trivial⟩
    · have h := h.2 c6
      refine zu_aload_n d_8061_227 rfl (zs_ra _) ?_
      refine zc_8_538  hB rfl k2 d_8061_228 (Nat.le_of_ble_eq_true rfl) h (fun S7 h => ?_)
      refine zu_aload_n d_8061_231 rfl (zs_ra _) ?_
      refine zu_aload_n d_8061_232 rfl (zs_ra _) ?_
      obtain ⟨k9, h⟩ := h
      refine zg_8_53 rfl d_8061_233 k9 ?_
      refine zu_iload_n d_8061_236 rfl ?_
      obtain ⟨b10, e11, h⟩ := h
      refine zs_stk1 (zs_rfe e11) ?_
      obtain ⟨k12, h⟩ := h
      refine zu_iald (k := 0) d_8061_237 rfl rfl k12 ?_
      refine zu_iload_n d_8061_238 rfl ?_
      refine zc_8_719 (x0 := (zs_i S7 b10 p2.toNatClampNeg)) (x1 := p1) hB rfl k9 d_8061_239 (Nat.le_of_ble_eq_true rfl) h (fun S13 h => ?_)
      exact (u_X9_named_242 hB h).weak trivial
def w_X9_named_207 (X : zs_X) (d : Nat)  (S : zs_T) (Q : zs_Q) : Prop :=
  (Q (.returned none) S)
theorem u_X9_named_207 {σ : Nat → Nat} {n0 : Nat} {bf : ab_B} {d : Nat}  {S : zs_T} {Q : zs_Q} (hB : zt_B bf) (h : w_X9_named_207 (zx σ n0 bf) d  S Q) : zs_U (zx σ n0 bf) d 8061 207 [] [] S Q := by
  unfold w_X9_named_207 at h
  refine zu_goto (t := 250) d_8061_207 rfl ?_
  exact zu_vret d_8061_250 zr_8061 h
def w_X9_named_177 (X : zs_X) (d : Nat) (p0 : Nat) (p1 : Int32) (p2 : Int32) (p3 : Int32) (S : zs_T) (Q : zs_Q) : Prop :=
  (zs_K S p0 = some (.inl 8) ∧ ∃ b2, (zs_R S 8027 p0) = some b2 ∧ zs_A S b2 0 p2 ∧ ∃ b5, (zs_R S 8100 p0) = some b5 ∧ zs_A S b5 0 (zs_i S b2 p2.toNatClampNeg) ∧ (((zs_i S b5 (zs_i S b2 p2.toNatClampNeg).toNatClampNeg) ≤ 0 → w_X9_named_210 X d p0 p1 p2 p3 S Q) ∧ (¬ ((zs_i S b5 (zs_i S b2 p2.toNatClampNeg).toNatClampNeg) ≤ 0) → (zs_C X d 8014 [.ref p0] S (zs_kV (fun S9 => (zs_K S9 p0 = some (.inl 8) ∧ ∃ b12, (zs_R S9 8027 p0) = some b12 ∧ zs_A S9 b12 0 p2 ∧ zs_C X d 8063 [.ref p0, .int (zs_i S9 b12 p2.toNatClampNeg), .int p1, .int (1 : Int32)] S9 (zs_kV (fun S15 => w_X9_named_207 X d  S15 Q) Q))) Q)))))
theorem u_X9_named_177 {σ : Nat → Nat} {n0 : Nat} {bf : ab_B} {d : Nat} {p0 : Nat} {p1 : Int32} {p2 : Int32} {p3 : Int32} {S : zs_T} {Q : zs_Q} (hB : zt_B bf) (h : w_X9_named_177 (zx σ n0 bf) d p0 p1 p2 p3 S Q) : zs_U (zx σ n0 bf) d 8061 177 [(0, .ref p0), (1, .int p1), (2, .int p2), (3, .int p3)] [] S Q := by
  unfold w_X9_named_177 at h
  refine zu_aload_n d_8061_177 rfl (zs_ra _) ?_
  obtain ⟨k1, h⟩ := h
  refine zg_8_215 rfl d_8061_178 k1 ?_
  refine zu_aload_n d_8061_181 rfl (zs_ra _) ?_
  refine zg_8_53 rfl d_8061_182 k1 ?_
  refine zu_iload_n d_8061_185 rfl ?_
  obtain ⟨b2, e3, h⟩ := h
  refine zs_stk1 (zs_rfe e3) ?_
  obtain ⟨k4, h⟩ := h
  refine zu_iald (k := 0) d_8061_186 rfl rfl k4 ?_
  obtain ⟨b5, e6, h⟩ := h
  refine zs_stk1 (zs_rfe e6) ?_
  obtain ⟨k7, h⟩ := h
  refine zu_iald (k := 0) d_8061_187 rfl rfl k7 ?_
  refine zu_ifle (t := 210) d_8061_188 rfl (fun c8 => ?_) (fun c8 => ?_)
  · have h := h.1 c8
    exact (u_X9_named_210 hB h).weak ⟨rfl, rfl, rfl, rfl, trivial⟩
  · have h := h.2 c8
    refine zu_aload_n d_8061_191 rfl (zs_ra _) ?_
    refine zc_8_538  hB rfl k1 d_8061_192 (Nat.le_of_ble_eq_true rfl) h (fun S9 h => ?_)
    refine zu_aload_n d_8061_195 rfl (zs_ra _) ?_
    refine zu_aload_n d_8061_196 rfl (zs_ra _) ?_
    obtain ⟨k11, h⟩ := h
    refine zg_8_53 rfl d_8061_197 k11 ?_
    refine zu_iload_n d_8061_200 rfl ?_
    obtain ⟨b12, e13, h⟩ := h
    refine zs_stk1 (zs_rfe e13) ?_
    obtain ⟨k14, h⟩ := h
    refine zu_iald (k := 0) d_8061_201 rfl rfl k14 ?_
    refine zu_iload_n d_8061_202 rfl ?_
    refine zu_iconst d_8061_203 zi_1 ?_
    refine zc_8_715 (x0 := (zs_i S9 b12 p2.toNatClampNeg)) (x1 := p1) (x2 := (1 : Int32)) hB rfl k11 d_8061_204 (Nat.le_of_ble_eq_true rfl) h (fun S15 h => ?_)
    exact (u_X9_named_207 hB h).weak trivial
def w_X9_named_145 (X : zs_X) (d : Nat) (p0 : Nat) (S : zs_T) (Q : zs_Q) : Prop :=
  (zs_K S p0 = some (.inl 8) ∧ zs_C X d 8014 [.ref p0] S (zs_kV (fun S2 => (Q (.returned none) S2)) Q))
theorem u_X9_named_145 {σ : Nat → Nat} {n0 : Nat} {bf : ab_B} {d : Nat} {p0 : Nat} {S : zs_T} {Q : zs_Q} (hB : zt_B bf) (h : w_X9_named_145 (zx σ n0 bf) d p0 S Q) : zs_U (zx σ n0 bf) d 8061 145 [(0, .ref p0)] [] S Q := by
  unfold w_X9_named_145 at h
  refine zu_aload_n d_8061_145 rfl (zs_ra _) ?_
  obtain ⟨k1, h⟩ := h
  refine zc_8_538  hB rfl k1 d_8061_146 (Nat.le_of_ble_eq_true rfl) h (fun S2 h => ?_)
  refine zu_goto (t := 250) d_8061_149 rfl ?_
  exact zu_vret d_8061_250 zr_8061 h
def w_X9_named_99 (X : zs_X) (d : Nat) (p0 : Nat) (S : zs_T) (Q : zs_Q) : Prop :=
  (zs_K S p0 = some (.inl 8) ∧ zs_C X d 8014 [.ref p0] S (zs_kV (fun S2 => (Q (.returned none) S2)) Q))
theorem u_X9_named_99 {σ : Nat → Nat} {n0 : Nat} {bf : ab_B} {d : Nat} {p0 : Nat} {S : zs_T} {Q : zs_Q} (hB : zt_B bf) (h : w_X9_named_99 (zx σ n0 bf) d p0 S Q) : zs_U (zx σ n0 bf) d 8061 99 [(0, .ref p0)] [] S Q := by
  unfold w_X9_named_99 at h
  refine zu_aload_n d_8061_99 rfl (zs_ra _) ?_
  obtain ⟨k1, h⟩ := h
  refine zc_8_538  hB rfl k1 d_8061_100 (Nat.le_of_ble_eq_true rfl) h (fun S2 h => ?_)
  refine zu_goto (t := 250) d_8061_103 rfl ?_
  exact zu_vret d_8061_250 zr_8061 h
def w_X9_named_68 (X : zs_X) (d : Nat) (p0 : Nat) (S : zs_T) (Q : zs_Q) : Prop :=
  (w_X9_named_99 X d p0 S Q)
theorem u_X9_named_68 {σ : Nat → Nat} {n0 : Nat} {bf : ab_B} {d : Nat} {p0 : Nat} {S : zs_T} {Q : zs_Q} (hB : zt_B bf) (h : w_X9_named_68 (zx σ n0 bf) d p0 S Q) : zs_U (zx σ n0 bf) d 8061 68 [(0, .ref p0)] [] S Q := by
  unfold w_X9_named_68 at h
  refine zu_goto (t := 99) d_8061_68 rfl ?_
  exact (u_X9_named_99 hB h).weak ⟨rfl, trivial⟩
def w_X9_named_24 (X : zs_X) (d : Nat) (p0 : Nat) (p1 : Int32) (p2 : Int32) (q0 : Int32) (S : zs_T) (Q : zs_Q) : Prop :=
  (((¬ q0 = (1 : Int32) → (((¬ q0 = (7 : Int32) → (((q0 = (4 : Int32) → w_X9_named_163 X d p0 p1 p2 S Q) ∧ (¬ (q0 = (4 : Int32)) → (((¬ q0 = (8 : Int32) → (((¬ q0 = (5 : Int32) → w_X9_named_210 X d p0 p1 p2 q0 S Q) ∧ (¬ (¬ q0 = (5 : Int32)) → w_X9_named_177 X d p0 p1 p2 q0 S Q)))) ∧ (¬ (¬ q0 = (8 : Int32)) → w_X9_named_163 X d p0 p1 p2 S Q))))))) ∧ (¬ (¬ q0 = (7 : Int32)) → (zs_K S p0 = some (.inl 8) ∧ ∃ b7, (zs_R S 8026 p0) = some b7 ∧ zs_A S b7 0 p2 ∧ zs_C X d 8042 [.ref p0, .int (zs_i S b7 p2.toNatClampNeg)] S (zs_kI (fun v11 S10 => (zs_K S10 p0 = some (.inl 8) ∧ ∃ b13, (zs_R S10 8027 p0) = some b13 ∧ zs_A S10 b13 0 p2 ∧ zs_C X d 8012 [.ref p0, .int (22 : Int32), .int (zs_i S10 b13 p2.toNatClampNeg), .int (0 : Int32), .int p1] S10 (zs_kI (fun v17 S16 => (zs_K S16 p0 = some (.inl 8) ∧ zs_C X d 8058 [.ref p0, .int v11, .int (0 : Int32), .int (1 : Int32), .int (24 : Int32), .int v17, .int p1] S16 (zs_kV (fun S19 => w_X9_named_145 X d p0 S19 Q) Q))) Q))) Q)))))) ∧ (¬ (¬ q0 = (1 : Int32)) → (zs_K S p0 = some (.inl 8) ∧ ∃ b22, (zs_R S 8028 p0) = some b22 ∧ zs_A S b22 0 p2 ∧ (((zs_i S b22 p2.toNatClampNeg) ≤ 0 → (∃ b26, (zs_R S 8026 p0) = some b26 ∧ zs_A S b26 0 p2 ∧ ∃ b29, (zs_R S 8027 p0) = some b29 ∧ zs_A S b29 0 p2 ∧ zs_C X d 8012 [.ref p0, .int (1 : Int32), .int (zs_i S b29 p2.toNatClampNeg), .int (0 : Int32), .int p1] S (zs_kI (fun v33 S32 => (zs_K S32 p0 = some (.inl 8) ∧ zs_C X d 8058 [.ref p0, .int (zs_i S b26 p2.toNatClampNeg), .int (0 : Int32), .int (1 : Int32), .int (8 : Int32), .int v33, .int p1] S32 (zs_kV (fun S35 => w_X9_named_99 X d p0 S35 Q) Q))) Q))) ∧ (¬ ((zs_i S b22 p2.toNatClampNeg) ≤ 0) → (∃ b37, (zs_R S 8027 p0) = some b37 ∧ zs_A S b37 0 p2 ∧ zs_C X d 8012 [.ref p0, .int (2 : Int32), .int (zs_i S b37 p2.toNatClampNeg), .int (zs_i S b22 p2.toNatClampNeg), .int p1] S (zs_kI (fun v41 S40 => (zs_K S40 p0 = some (.inl 8) ∧ zs_C X d 8058 [.ref p0, .int (6 : Int32), .int (0 : Int32), .int (0 : Int32), .int (40 : Int32), .int v41, .int p1] S40 (zs_kV (fun S43 => w_X9_named_68 X d p0 S43 Q) Q))) Q))))))))
theorem u_X9_named_24 {σ : Nat → Nat} {n0 : Nat} {bf : ab_B} {d : Nat} {p0 : Nat} {p1 : Int32} {p2 : Int32} {q0 : Int32} {S : zs_T} {Q : zs_Q} (hB : zt_B bf) (h : w_X9_named_24 (zx σ n0 bf) d p0 p1 p2 q0 S Q) : zs_U (zx σ n0 bf) d 8061 24 [(0, .ref p0), (1, .int p1), (2, .int p2)] [.int q0] S Q := by
  unfold w_X9_named_24 at h
  refine zu_istore_n d_8061_24 (zs_lt zq_8061 rfl) ?_
  refine zu_iload_n d_8061_25 rfl ?_
  refine zu_iconst d_8061_26 zi_1 ?_
  refine zu_cmpne (t := 106) d_8061_27 rfl (fun c1 => ?_) (fun c1 => ?_)
  · have h := h.1 c1
    refine zu_iload_n d_8061_106 rfl ?_
    refine zu_bipush d_8061_107 zj_7 ?_
    refine zu_cmpne (t := 152) d_8061_109 rfl (fun c2 => ?_) (fun c2 => ?_)
    · have h := h.1 c2
      refine zu_iload_n d_8061_152 rfl ?_
      refine zu_iconst d_8061_153 zi_4 ?_
      refine zu_cmpeq (t := 163) d_8061_154 rfl (fun c3 => ?_) (fun c3 => ?_)
      · have h := h.1 c3
        exact (u_X9_named_163 hB h).weak ⟨rfl, rfl, rfl, trivial⟩
      · have h := h.2 c3
        refine zu_iload_n d_8061_157 rfl ?_
        refine zu_bipush d_8061_158 zj_8 ?_
        refine zu_cmpne (t := 172) d_8061_160 rfl (fun c4 => ?_) (fun c4 => ?_)
        · have h := h.1 c4
          refine zu_iload_n d_8061_172 rfl ?_
          refine zu_iconst d_8061_173 zi_5 ?_
          refine zu_cmpne (t := 210) d_8061_174 rfl (fun c5 => ?_) (fun c5 => ?_)
          · have h := h.1 c5
            exact (u_X9_named_210 hB h).weak ⟨rfl, rfl, rfl, rfl, trivial⟩
          · have h := h.2 c5
            exact (u_X9_named_177 hB h).weak ⟨rfl, rfl, rfl, rfl, trivial⟩
        · have h := h.2 c4
          exact (u_X9_named_163 hB h).weak ⟨rfl, rfl, rfl, trivial⟩
    · have h := h.2 c2
      refine zu_aload_n d_8061_112 rfl (zs_ra _) ?_
      refine zu_aload_n d_8061_113 rfl (zs_ra _) ?_
      refine zu_aload_n d_8061_114 rfl (zs_ra _) ?_
      obtain ⟨k6, h⟩ := h
      refine zg_8_50 rfl d_8061_115 k6 ?_
      refine zu_iload_n d_8061_118 rfl ?_
      obtain ⟨b7, e8, h⟩ := h
      refine zs_stk1 (zs_rfe e8) ?_
      obtain ⟨k9, h⟩ := h
      refine zu_iald (k := 0) d_8061_119 rfl rfl k9 ?_
      refine zc_8_561 (x0 := (zs_i S b7 p2.toNatClampNeg)) hB rfl k6 d_8061_120 (Nat.le_of_ble_eq_true rfl) h (fun v11 S10 h => ?_)
      refine zu_iconst d_8061_123 zi_0 ?_
      refine zu_iconst d_8061_124 zi_1 ?_
      refine zu_bipush d_8061_125 zj_24 ?_
      refine zu_aload_n d_8061_127 rfl (zs_ra _) ?_
      refine zu_bipush d_8061_128 zj_22 ?_
      refine zu_aload_n d_8061_130 rfl (zs_ra _) ?_
      obtain ⟨k12, h⟩ := h
      refine zg_8_53 rfl d_8061_131 k12 ?_
      refine zu_iload_n d_8061_134 rfl ?_
      obtain ⟨b13, e14, h⟩ := h
      refine zs_stk1 (zs_rfe e14) ?_
      obtain ⟨k15, h⟩ := h
      refine zu_iald (k := 0) d_8061_135 rfl rfl k15 ?_
      refine zu_iconst d_8061_136 zi_0 ?_
      refine zu_iload_n d_8061_137 rfl ?_
      refine zc_8_656 (x0 := (22 : Int32)) (x1 := (zs_i S10 b13 p2.toNatClampNeg)) (x2 := (0 : Int32)) (x3 := p1) hB rfl k12 d_8061_138 (Nat.le_of_ble_eq_true rfl) h (fun v17 S16 h => ?_)
      refine zu_iload_n d_8061_141 rfl ?_
      obtain ⟨k18, h⟩ := h
      refine zc_8_699 (x0 := v11) (x1 := (0 : Int32)) (x2 := (1 : Int32)) (x3 := (24 : Int32)) (x4 := v17) (x5 := p1) hB rfl k18 d_8061_142 (Nat.le_of_ble_eq_true rfl) h (fun S19 h => ?_)
      exact (u_X9_named_145 hB h).weak ⟨rfl, trivial⟩
  · have h := h.2 c1
    refine zu_aload_n d_8061_30 rfl (zs_ra _) ?_
    obtain ⟨k21, h⟩ := h
    refine zg_8_56 rfl d_8061_31 k21 ?_
    refine zu_iload_n d_8061_34 rfl ?_
    obtain ⟨b22, e23, h⟩ := h
    refine zs_stk1 (zs_rfe e23) ?_
    obtain ⟨k24, h⟩ := h
    refine zu_iald (k := 0) d_8061_35 rfl rfl k24 ?_
    refine zu_ifle (t := 71) d_8061_36 rfl (fun c25 => ?_) (fun c25 => ?_)
    · have h := h.1 c25
      refine zu_aload_n d_8061_71 rfl (zs_ra _) ?_
      refine zu_aload_n d_8061_72 rfl (zs_ra _) ?_
      refine zg_8_50 rfl d_8061_73 k21 ?_
      refine zu_iload_n d_8061_76 rfl ?_
      obtain ⟨b26, e27, h⟩ := h
      refine zs_stk1 (zs_rfe e27) ?_
      obtain ⟨k28, h⟩ := h
      refine zu_iald (k := 0) d_8061_77 rfl rfl k28 ?_
      refine zu_iconst d_8061_78 zi_0 ?_
      refine zu_iconst d_8061_79 zi_1 ?_
      refine zu_bipush d_8061_80 zj_8 ?_
      refine zu_aload_n d_8061_82 rfl (zs_ra _) ?_
      refine zu_iconst d_8061_83 zi_1 ?_
      refine zu_aload_n d_8061_84 rfl (zs_ra _) ?_
      refine zg_8_53 rfl d_8061_85 k21 ?_
      refine zu_iload_n d_8061_88 rfl ?_
      obtain ⟨b29, e30, h⟩ := h
      refine zs_stk1 (zs_rfe e30) ?_
      obtain ⟨k31, h⟩ := h
      refine zu_iald (k := 0) d_8061_89 rfl rfl k31 ?_
      refine zu_iconst d_8061_90 zi_0 ?_
      refine zu_iload_n d_8061_91 rfl ?_
      refine zc_8_656 (x0 := (1 : Int32)) (x1 := (zs_i S b29 p2.toNatClampNeg)) (x2 := (0 : Int32)) (x3 := p1) hB rfl k21 d_8061_92 (Nat.le_of_ble_eq_true rfl) h (fun v33 S32 h => ?_)
      refine zu_iload_n d_8061_95 rfl ?_
      obtain ⟨k34, h⟩ := h
      refine zc_8_699 (x0 := (zs_i S b26 p2.toNatClampNeg)) (x1 := (0 : Int32)) (x2 := (1 : Int32)) (x3 := (8 : Int32)) (x4 := v33) (x5 := p1) hB rfl k34 d_8061_96 (Nat.le_of_ble_eq_true rfl) h (fun S35 h => ?_)
      exact (u_X9_named_99 hB h).weak ⟨rfl, trivial⟩
    · have h := h.2 c25
      refine zu_aload_n d_8061_39 rfl (zs_ra _) ?_
      refine zu_bipush d_8061_40 zj_6 ?_
      refine zu_iconst d_8061_42 zi_0 ?_
      refine zu_iconst d_8061_43 zi_0 ?_
      refine zu_bipush d_8061_44 zj_40 ?_
      refine zu_aload_n d_8061_46 rfl (zs_ra _) ?_
      refine zu_iconst d_8061_47 zi_2 ?_
      refine zu_aload_n d_8061_48 rfl (zs_ra _) ?_
      refine zg_8_53 rfl d_8061_49 k21 ?_
      refine zu_iload_n d_8061_52 rfl ?_
      obtain ⟨b37, e38, h⟩ := h
      refine zs_stk1 (zs_rfe e38) ?_
      obtain ⟨k39, h⟩ := h
      refine zu_iald (k := 0) d_8061_53 rfl rfl k39 ?_
      refine zu_aload_n d_8061_54 rfl (zs_ra _) ?_
      refine zg_8_56 rfl d_8061_55 k21 ?_
      refine zu_iload_n d_8061_58 rfl ?_
      refine zs_stk1 (zs_rfe e23) ?_
      refine zu_iald (k := 0) d_8061_59 rfl rfl k24 ?_
      refine zu_iload_n d_8061_60 rfl ?_
      refine zc_8_656 (x0 := (2 : Int32)) (x1 := (zs_i S b37 p2.toNatClampNeg)) (x2 := (zs_i S b22 p2.toNatClampNeg)) (x3 := p1) hB rfl k21 d_8061_61 (Nat.le_of_ble_eq_true rfl) h (fun v41 S40 h => ?_)
      refine zu_iload_n d_8061_64 rfl ?_
      obtain ⟨k42, h⟩ := h
      refine zc_8_699 (x0 := (6 : Int32)) (x1 := (0 : Int32)) (x2 := (0 : Int32)) (x3 := (40 : Int32)) (x4 := v41) (x5 := p1) hB rfl k42 d_8061_65 (Nat.le_of_ble_eq_true rfl) h (fun S43 h => ?_)
      exact (u_X9_named_68 hB h).weak ⟨rfl, trivial⟩
def w_X9_named (X : zs_X) (d : Nat) (p0 : Nat) (p1 : Int32) (S : zs_T) (Q : zs_Q) : Prop :=
  (zs_K S p0 = some (.inl 8) ∧ ∃ b2, (zs_R S 8019 p0) = some b2 ∧ zs_A S b2 0 (zs_I S 8009 p0) ∧ ((¬ (zs_i S b2 (zs_I S 8009 p0).toNatClampNeg) = 0 → (∃ b6, (zs_R S 8024 p0) = some b6 ∧ zs_A S b6 1 (zs_i S b2 (zs_I S 8009 p0).toNatClampNeg) ∧ w_X9_named_24 X d p0 p1 (zs_i S b2 (zs_I S 8009 p0).toNatClampNeg) (zs_i S b6 (zs_i S b2 (zs_I S 8009 p0).toNatClampNeg).toNatClampNeg) S Q)) ∧ (¬ (¬ (zs_i S b2 (zs_I S 8009 p0).toNatClampNeg) = 0) → (w_X9_named_24 X d p0 p1 (zs_i S b2 (zs_I S 8009 p0).toNatClampNeg) (0 : Int32) S Q))))
theorem u_X9_named {σ : Nat → Nat} {n0 : Nat} {bf : ab_B} {d : Nat} {p0 : Nat} {p1 : Int32} {S : zs_T} {Q : zs_Q} (hB : zt_B bf) (hd : 1 ≤ d) (h : w_X9_named (zx σ n0 bf) (d - 1) p0 p1 S Q) : zs_C (zx σ n0 bf) d 8061 [.ref p0, .int p1] S Q := by
  have hL : lv_args 0 [.ref p0, .int p1] = [(0, .ref p0), (1, .int p1)] := rfl
  refine zs_C.of1 (hB.2 8061 (by decide) (by decide)) hd (by rw [hL]; exact zs_sub_self _ (by exact ⟨rfl, rfl, trivial⟩)) ?_
  rw [hL]
  clear hL
  unfold w_X9_named at h
  refine zu_aload_n d_8061_0 rfl (zs_ra _) ?_
  obtain ⟨k1, h⟩ := h
  refine zg_8_37 rfl d_8061_1 k1 ?_
  refine zu_aload_n d_8061_4 rfl (zs_ra _) ?_
  refine zg_8_494 rfl d_8061_5 k1 ?_
  obtain ⟨b2, e3, h⟩ := h
  refine zs_stk1 (zs_rfe e3) ?_
  obtain ⟨k4, h⟩ := h
  refine zu_iald (k := 0) d_8061_8 rfl rfl k4 ?_
  refine zu_istore_n d_8061_9 (zs_lt zq_8061 rfl) ?_
  refine zu_iload_n d_8061_10 rfl ?_
  refine zu_ifne (t := 18) d_8061_11 rfl (fun c5 => ?_) (fun c5 => ?_)
  · have h := h.1 c5
    refine zu_aload_n d_8061_18 rfl (zs_ra _) ?_
    refine zg_8_44 rfl d_8061_19 k1 ?_
    refine zu_iload_n d_8061_22 rfl ?_
    obtain ⟨b6, e7, h⟩ := h
    refine zs_stk1 (zs_rfe e7) ?_
    obtain ⟨k8, h⟩ := h
    refine zu_bald (k := 1) d_8061_23 rfl (Or.inl rfl) k8 ?_
    exact (u_X9_named_24 hB h).weak ⟨rfl, rfl, rfl, trivial⟩
  · have h := h.2 c5
    refine zu_iconst d_8061_14 zi_0 ?_
    refine zu_goto (t := 24) d_8061_15 rfl ?_
    exact (u_X9_named_24 hB h).weak ⟨rfl, rfl, rfl, trivial⟩
/-! SchemaPascalModel.variable(II)V -/
theorem zm_8062 {σ : Nat → Nat} {n0 : Nat} {bf : ab_B} : ab_code (zx σ n0 bf).1 8062 = prog_17_method_69_code := rfl
theorem zq_8062 {σ : Nat → Nat} {n0 : Nat} {bf : ab_B} : ab_maxL (zx σ n0 bf).1 8062 = 8 := rfl
theorem zr_8062 {σ : Nat → Nat} {n0 : Nat} {bf : ab_B} : ab_ret (zx σ n0 bf).1 8062 = (Option.none : Option Jvm.ClassFile.FieldType) := rfl
theorem d_8062_0 {σ : Nat → Nat} {n0 : Nat} {bf : ab_B} : decode (ab_code (zx σ n0 bf).1 8062) 0 = .ok (.aload_n 0, 1) := zd zm_8062 (by decide +kernel)
theorem d_8062_1 {σ : Nat → Nat} {n0 : Nat} {bf : ab_B} : decode (ab_code (zx σ n0 bf).1 8062) 1 = .ok (.getfield 556, 3) := zd zm_8062 (by decide +kernel)
theorem d_8062_4 {σ : Nat → Nat} {n0 : Nat} {bf : ab_B} : decode (ab_code (zx σ n0 bf).1 8062) 4 = .ok (.istore_n 3, 1) := zd zm_8062 (by decide +kernel)
theorem d_8062_5 {σ : Nat → Nat} {n0 : Nat} {bf : ab_B} : decode (ab_code (zx σ n0 bf).1 8062) 5 = .ok (.aload_n 0, 1) := zd zm_8062 (by decide +kernel)
theorem d_8062_6 {σ : Nat → Nat} {n0 : Nat} {bf : ab_B} : decode (ab_code (zx σ n0 bf).1 8062) 6 = .ok (.getfield 44, 3) := zd zm_8062 (by decide +kernel)
theorem d_8062_9 {σ : Nat → Nat} {n0 : Nat} {bf : ab_B} : decode (ab_code (zx σ n0 bf).1 8062) 9 = .ok (.iload_n 1, 1) := zd zm_8062 (by decide +kernel)
theorem d_8062_10 {σ : Nat → Nat} {n0 : Nat} {bf : ab_B} : decode (ab_code (zx σ n0 bf).1 8062) 10 = .ok (.baload, 1) := zd zm_8062 (by decide +kernel)
theorem d_8062_11 {σ : Nat → Nat} {n0 : Nat} {bf : ab_B} : decode (ab_code (zx σ n0 bf).1 8062) 11 = .ok (.iconst 4, 1) := zd zm_8062 (by decide +kernel)
theorem d_8062_12 {σ : Nat → Nat} {n0 : Nat} {bf : ab_B} : decode (ab_code (zx σ n0 bf).1 8062) 12 = .ok (.if_icmp .ne 81, 3) := zd zm_8062 (by decide +kernel)
theorem d_8062_15 {σ : Nat → Nat} {n0 : Nat} {bf : ab_B} : decode (ab_code (zx σ n0 bf).1 8062) 15 = .ok (.aload_n 0, 1) := zd zm_8062 (by decide +kernel)
theorem d_8062_16 {σ : Nat → Nat} {n0 : Nat} {bf : ab_B} : decode (ab_code (zx σ n0 bf).1 8062) 16 = .ok (.getfield 218, 3) := zd zm_8062 (by decide +kernel)
theorem d_8062_19 {σ : Nat → Nat} {n0 : Nat} {bf : ab_B} : decode (ab_code (zx σ n0 bf).1 8062) 19 = .ok (.aload_n 0, 1) := zd zm_8062 (by decide +kernel)
theorem d_8062_20 {σ : Nat → Nat} {n0 : Nat} {bf : ab_B} : decode (ab_code (zx σ n0 bf).1 8062) 20 = .ok (.getfield 722, 3) := zd zm_8062 (by decide +kernel)
theorem d_8062_23 {σ : Nat → Nat} {n0 : Nat} {bf : ab_B} : decode (ab_code (zx σ n0 bf).1 8062) 23 = .ok (.iaload, 1) := zd zm_8062 (by decide +kernel)
theorem d_8062_24 {σ : Nat → Nat} {n0 : Nat} {bf : ab_B} : decode (ab_code (zx σ n0 bf).1 8062) 24 = .ok (.aload_n 0, 1) := zd zm_8062 (by decide +kernel)
theorem d_8062_25 {σ : Nat → Nat} {n0 : Nat} {bf : ab_B} : decode (ab_code (zx σ n0 bf).1 8062) 25 = .ok (.getfield 218, 3) := zd zm_8062 (by decide +kernel)
theorem d_8062_28 {σ : Nat → Nat} {n0 : Nat} {bf : ab_B} : decode (ab_code (zx σ n0 bf).1 8062) 28 = .ok (.aload_n 0, 1) := zd zm_8062 (by decide +kernel)
theorem d_8062_29 {σ : Nat → Nat} {n0 : Nat} {bf : ab_B} : decode (ab_code (zx σ n0 bf).1 8062) 29 = .ok (.getfield 56, 3) := zd zm_8062 (by decide +kernel)
theorem d_8062_32 {σ : Nat → Nat} {n0 : Nat} {bf : ab_B} : decode (ab_code (zx σ n0 bf).1 8062) 32 = .ok (.iload_n 1, 1) := zd zm_8062 (by decide +kernel)
theorem d_8062_33 {σ : Nat → Nat} {n0 : Nat} {bf : ab_B} : decode (ab_code (zx σ n0 bf).1 8062) 33 = .ok (.iaload, 1) := zd zm_8062 (by decide +kernel)
theorem d_8062_34 {σ : Nat → Nat} {n0 : Nat} {bf : ab_B} : decode (ab_code (zx σ n0 bf).1 8062) 34 = .ok (.iaload, 1) := zd zm_8062 (by decide +kernel)
theorem d_8062_35 {σ : Nat → Nat} {n0 : Nat} {bf : ab_B} : decode (ab_code (zx σ n0 bf).1 8062) 35 = .ok (.isub, 1) := zd zm_8062 (by decide +kernel)
theorem d_8062_36 {σ : Nat → Nat} {n0 : Nat} {bf : ab_B} : decode (ab_code (zx σ n0 bf).1 8062) 36 = .ok (.istore 4, 2) := zd zm_8062 (by decide +kernel)
theorem d_8062_38 {σ : Nat → Nat} {n0 : Nat} {bf : ab_B} : decode (ab_code (zx σ n0 bf).1 8062) 38 = .ok (.aload_n 0, 1) := zd zm_8062 (by decide +kernel)
theorem d_8062_39 {σ : Nat → Nat} {n0 : Nat} {bf : ab_B} : decode (ab_code (zx σ n0 bf).1 8062) 39 = .ok (.iconst 3, 1) := zd zm_8062 (by decide +kernel)
theorem d_8062_40 {σ : Nat → Nat} {n0 : Nat} {bf : ab_B} : decode (ab_code (zx σ n0 bf).1 8062) 40 = .ok (.iload 4, 2) := zd zm_8062 (by decide +kernel)
theorem d_8062_42 {σ : Nat → Nat} {n0 : Nat} {bf : ab_B} : decode (ab_code (zx σ n0 bf).1 8062) 42 = .ok (.aload_n 0, 1) := zd zm_8062 (by decide +kernel)
theorem d_8062_43 {σ : Nat → Nat} {n0 : Nat} {bf : ab_B} : decode (ab_code (zx σ n0 bf).1 8062) 43 = .ok (.getfield 53, 3) := zd zm_8062 (by decide +kernel)
theorem d_8062_46 {σ : Nat → Nat} {n0 : Nat} {bf : ab_B} : decode (ab_code (zx σ n0 bf).1 8062) 46 = .ok (.iload_n 1, 1) := zd zm_8062 (by decide +kernel)
theorem d_8062_47 {σ : Nat → Nat} {n0 : Nat} {bf : ab_B} : decode (ab_code (zx σ n0 bf).1 8062) 47 = .ok (.iaload, 1) := zd zm_8062 (by decide +kernel)
theorem d_8062_48 {σ : Nat → Nat} {n0 : Nat} {bf : ab_B} : decode (ab_code (zx σ n0 bf).1 8062) 48 = .ok (.ldc_w 725, 3) := zd zm_8062 (by decide +kernel)
theorem d_8062_51 {σ : Nat → Nat} {n0 : Nat} {bf : ab_B} : decode (ab_code (zx σ n0 bf).1 8062) 51 = .ok (.iand, 1) := zd zm_8062 (by decide +kernel)
theorem d_8062_52 {σ : Nat → Nat} {n0 : Nat} {bf : ab_B} : decode (ab_code (zx σ n0 bf).1 8062) 52 = .ok (.iload_n 2, 1) := zd zm_8062 (by decide +kernel)
theorem d_8062_53 {σ : Nat → Nat} {n0 : Nat} {bf : ab_B} : decode (ab_code (zx σ n0 bf).1 8062) 53 = .ok (.invokevirtual 656, 3) := zd zm_8062 (by decide +kernel)
theorem d_8062_56 {σ : Nat → Nat} {n0 : Nat} {bf : ab_B} : decode (ab_code (zx σ n0 bf).1 8062) 56 = .ok (.istore 5, 2) := zd zm_8062 (by decide +kernel)
theorem d_8062_58 {σ : Nat → Nat} {n0 : Nat} {bf : ab_B} : decode (ab_code (zx σ n0 bf).1 8062) 58 = .ok (.aload_n 0, 1) := zd zm_8062 (by decide +kernel)
theorem d_8062_59 {σ : Nat → Nat} {n0 : Nat} {bf : ab_B} : decode (ab_code (zx σ n0 bf).1 8062) 59 = .ok (.aload_n 0, 1) := zd zm_8062 (by decide +kernel)
theorem d_8062_60 {σ : Nat → Nat} {n0 : Nat} {bf : ab_B} : decode (ab_code (zx σ n0 bf).1 8062) 60 = .ok (.getfield 50, 3) := zd zm_8062 (by decide +kernel)
theorem d_8062_63 {σ : Nat → Nat} {n0 : Nat} {bf : ab_B} : decode (ab_code (zx σ n0 bf).1 8062) 63 = .ok (.iload_n 1, 1) := zd zm_8062 (by decide +kernel)
theorem d_8062_64 {σ : Nat → Nat} {n0 : Nat} {bf : ab_B} : decode (ab_code (zx σ n0 bf).1 8062) 64 = .ok (.iaload, 1) := zd zm_8062 (by decide +kernel)
theorem d_8062_65 {σ : Nat → Nat} {n0 : Nat} {bf : ab_B} : decode (ab_code (zx σ n0 bf).1 8062) 65 = .ok (.iconst 1, 1) := zd zm_8062 (by decide +kernel)
theorem d_8062_66 {σ : Nat → Nat} {n0 : Nat} {bf : ab_B} : decode (ab_code (zx σ n0 bf).1 8062) 66 = .ok (.iconst 0, 1) := zd zm_8062 (by decide +kernel)
theorem d_8062_67 {σ : Nat → Nat} {n0 : Nat} {bf : ab_B} : decode (ab_code (zx σ n0 bf).1 8062) 67 = .ok (.aload_n 0, 1) := zd zm_8062 (by decide +kernel)
theorem d_8062_68 {σ : Nat → Nat} {n0 : Nat} {bf : ab_B} : decode (ab_code (zx σ n0 bf).1 8062) 68 = .ok (.getfield 53, 3) := zd zm_8062 (by decide +kernel)
theorem d_8062_71 {σ : Nat → Nat} {n0 : Nat} {bf : ab_B} : decode (ab_code (zx σ n0 bf).1 8062) 71 = .ok (.iload_n 1, 1) := zd zm_8062 (by decide +kernel)
theorem d_8062_72 {σ : Nat → Nat} {n0 : Nat} {bf : ab_B} : decode (ab_code (zx σ n0 bf).1 8062) 72 = .ok (.iaload, 1) := zd zm_8062 (by decide +kernel)
theorem d_8062_73 {σ : Nat → Nat} {n0 : Nat} {bf : ab_B} : decode (ab_code (zx σ n0 bf).1 8062) 73 = .ok (.ldc_w 726, 3) := zd zm_8062 (by decide +kernel)
theorem d_8062_76 {σ : Nat → Nat} {n0 : Nat} {bf : ab_B} : decode (ab_code (zx σ n0 bf).1 8062) 76 = .ok (.iand, 1) := zd zm_8062 (by decide +kernel)
theorem d_8062_77 {σ : Nat → Nat} {n0 : Nat} {bf : ab_B} : decode (ab_code (zx σ n0 bf).1 8062) 77 = .ok (.ifCond .eq 7, 3) := zd zm_8062 (by decide +kernel)
theorem d_8062_80 {σ : Nat → Nat} {n0 : Nat} {bf : ab_B} : decode (ab_code (zx σ n0 bf).1 8062) 80 = .ok (.iconst 1, 1) := zd zm_8062 (by decide +kernel)
theorem d_8062_81 {σ : Nat → Nat} {n0 : Nat} {bf : ab_B} : decode (ab_code (zx σ n0 bf).1 8062) 81 = .ok (.goto 4, 3) := zd zm_8062 (by decide +kernel)
theorem d_8062_84 {σ : Nat → Nat} {n0 : Nat} {bf : ab_B} : decode (ab_code (zx σ n0 bf).1 8062) 84 = .ok (.iconst 0, 1) := zd zm_8062 (by decide +kernel)
theorem d_8062_85 {σ : Nat → Nat} {n0 : Nat} {bf : ab_B} : decode (ab_code (zx σ n0 bf).1 8062) 85 = .ok (.iload_n 3, 1) := zd zm_8062 (by decide +kernel)
theorem d_8062_86 {σ : Nat → Nat} {n0 : Nat} {bf : ab_B} : decode (ab_code (zx σ n0 bf).1 8062) 86 = .ok (.iload_n 2, 1) := zd zm_8062 (by decide +kernel)
theorem d_8062_87 {σ : Nat → Nat} {n0 : Nat} {bf : ab_B} : decode (ab_code (zx σ n0 bf).1 8062) 87 = .ok (.invokevirtual 699, 3) := zd zm_8062 (by decide +kernel)
theorem d_8062_90 {σ : Nat → Nat} {n0 : Nat} {bf : ab_B} : decode (ab_code (zx σ n0 bf).1 8062) 90 = .ok (.goto 166, 3) := zd zm_8062 (by decide +kernel)
theorem d_8062_93 {σ : Nat → Nat} {n0 : Nat} {bf : ab_B} : decode (ab_code (zx σ n0 bf).1 8062) 93 = .ok (.aload_n 0, 1) := zd zm_8062 (by decide +kernel)
theorem d_8062_94 {σ : Nat → Nat} {n0 : Nat} {bf : ab_B} : decode (ab_code (zx σ n0 bf).1 8062) 94 = .ok (.getfield 218, 3) := zd zm_8062 (by decide +kernel)
theorem d_8062_97 {σ : Nat → Nat} {n0 : Nat} {bf : ab_B} : decode (ab_code (zx σ n0 bf).1 8062) 97 = .ok (.aload_n 0, 1) := zd zm_8062 (by decide +kernel)
theorem d_8062_98 {σ : Nat → Nat} {n0 : Nat} {bf : ab_B} : decode (ab_code (zx σ n0 bf).1 8062) 98 = .ok (.getfield 722, 3) := zd zm_8062 (by decide +kernel)
theorem d_8062_101 {σ : Nat → Nat} {n0 : Nat} {bf : ab_B} : decode (ab_code (zx σ n0 bf).1 8062) 101 = .ok (.iaload, 1) := zd zm_8062 (by decide +kernel)
theorem d_8062_102 {σ : Nat → Nat} {n0 : Nat} {bf : ab_B} : decode (ab_code (zx σ n0 bf).1 8062) 102 = .ok (.aload_n 0, 1) := zd zm_8062 (by decide +kernel)
theorem d_8062_103 {σ : Nat → Nat} {n0 : Nat} {bf : ab_B} : decode (ab_code (zx σ n0 bf).1 8062) 103 = .ok (.getfield 218, 3) := zd zm_8062 (by decide +kernel)
theorem d_8062_106 {σ : Nat → Nat} {n0 : Nat} {bf : ab_B} : decode (ab_code (zx σ n0 bf).1 8062) 106 = .ok (.aload_n 0, 1) := zd zm_8062 (by decide +kernel)
theorem d_8062_107 {σ : Nat → Nat} {n0 : Nat} {bf : ab_B} : decode (ab_code (zx σ n0 bf).1 8062) 107 = .ok (.getfield 56, 3) := zd zm_8062 (by decide +kernel)
theorem d_8062_110 {σ : Nat → Nat} {n0 : Nat} {bf : ab_B} : decode (ab_code (zx σ n0 bf).1 8062) 110 = .ok (.iload_n 1, 1) := zd zm_8062 (by decide +kernel)
theorem d_8062_111 {σ : Nat → Nat} {n0 : Nat} {bf : ab_B} : decode (ab_code (zx σ n0 bf).1 8062) 111 = .ok (.iaload, 1) := zd zm_8062 (by decide +kernel)
theorem d_8062_112 {σ : Nat → Nat} {n0 : Nat} {bf : ab_B} : decode (ab_code (zx σ n0 bf).1 8062) 112 = .ok (.bipush 16, 2) := zd zm_8062 (by decide +kernel)
theorem d_8062_114 {σ : Nat → Nat} {n0 : Nat} {bf : ab_B} : decode (ab_code (zx σ n0 bf).1 8062) 114 = .ok (.ishr, 1) := zd zm_8062 (by decide +kernel)
theorem d_8062_115 {σ : Nat → Nat} {n0 : Nat} {bf : ab_B} : decode (ab_code (zx σ n0 bf).1 8062) 115 = .ok (.iaload, 1) := zd zm_8062 (by decide +kernel)
theorem d_8062_116 {σ : Nat → Nat} {n0 : Nat} {bf : ab_B} : decode (ab_code (zx σ n0 bf).1 8062) 116 = .ok (.isub, 1) := zd zm_8062 (by decide +kernel)
theorem d_8062_117 {σ : Nat → Nat} {n0 : Nat} {bf : ab_B} : decode (ab_code (zx σ n0 bf).1 8062) 117 = .ok (.istore 4, 2) := zd zm_8062 (by decide +kernel)
theorem d_8062_119 {σ : Nat → Nat} {n0 : Nat} {bf : ab_B} : decode (ab_code (zx σ n0 bf).1 8062) 119 = .ok (.aload_n 0, 1) := zd zm_8062 (by decide +kernel)
theorem d_8062_120 {σ : Nat → Nat} {n0 : Nat} {bf : ab_B} : decode (ab_code (zx σ n0 bf).1 8062) 120 = .ok (.iconst 3, 1) := zd zm_8062 (by decide +kernel)
theorem d_8062_121 {σ : Nat → Nat} {n0 : Nat} {bf : ab_B} : decode (ab_code (zx σ n0 bf).1 8062) 121 = .ok (.iload 4, 2) := zd zm_8062 (by decide +kernel)
theorem d_8062_123 {σ : Nat → Nat} {n0 : Nat} {bf : ab_B} : decode (ab_code (zx σ n0 bf).1 8062) 123 = .ok (.aload_n 0, 1) := zd zm_8062 (by decide +kernel)
theorem d_8062_124 {σ : Nat → Nat} {n0 : Nat} {bf : ab_B} : decode (ab_code (zx σ n0 bf).1 8062) 124 = .ok (.getfield 56, 3) := zd zm_8062 (by decide +kernel)
theorem d_8062_127 {σ : Nat → Nat} {n0 : Nat} {bf : ab_B} : decode (ab_code (zx σ n0 bf).1 8062) 127 = .ok (.iload_n 1, 1) := zd zm_8062 (by decide +kernel)
theorem d_8062_128 {σ : Nat → Nat} {n0 : Nat} {bf : ab_B} : decode (ab_code (zx σ n0 bf).1 8062) 128 = .ok (.iaload, 1) := zd zm_8062 (by decide +kernel)
theorem d_8062_129 {σ : Nat → Nat} {n0 : Nat} {bf : ab_B} : decode (ab_code (zx σ n0 bf).1 8062) 129 = .ok (.ldc_w 725, 3) := zd zm_8062 (by decide +kernel)
theorem d_8062_132 {σ : Nat → Nat} {n0 : Nat} {bf : ab_B} : decode (ab_code (zx σ n0 bf).1 8062) 132 = .ok (.iand, 1) := zd zm_8062 (by decide +kernel)
theorem d_8062_133 {σ : Nat → Nat} {n0 : Nat} {bf : ab_B} : decode (ab_code (zx σ n0 bf).1 8062) 133 = .ok (.iload_n 2, 1) := zd zm_8062 (by decide +kernel)
theorem d_8062_134 {σ : Nat → Nat} {n0 : Nat} {bf : ab_B} : decode (ab_code (zx σ n0 bf).1 8062) 134 = .ok (.invokevirtual 656, 3) := zd zm_8062 (by decide +kernel)
theorem d_8062_137 {σ : Nat → Nat} {n0 : Nat} {bf : ab_B} : decode (ab_code (zx σ n0 bf).1 8062) 137 = .ok (.istore 5, 2) := zd zm_8062 (by decide +kernel)
theorem d_8062_139 {σ : Nat → Nat} {n0 : Nat} {bf : ab_B} : decode (ab_code (zx σ n0 bf).1 8062) 139 = .ok (.aload_n 0, 1) := zd zm_8062 (by decide +kernel)
theorem d_8062_140 {σ : Nat → Nat} {n0 : Nat} {bf : ab_B} : decode (ab_code (zx σ n0 bf).1 8062) 140 = .ok (.getfield 53, 3) := zd zm_8062 (by decide +kernel)
theorem d_8062_143 {σ : Nat → Nat} {n0 : Nat} {bf : ab_B} : decode (ab_code (zx σ n0 bf).1 8062) 143 = .ok (.iload_n 1, 1) := zd zm_8062 (by decide +kernel)
theorem d_8062_144 {σ : Nat → Nat} {n0 : Nat} {bf : ab_B} : decode (ab_code (zx σ n0 bf).1 8062) 144 = .ok (.iaload, 1) := zd zm_8062 (by decide +kernel)
theorem d_8062_145 {σ : Nat → Nat} {n0 : Nat} {bf : ab_B} : decode (ab_code (zx σ n0 bf).1 8062) 145 = .ok (.ldc_w 726, 3) := zd zm_8062 (by decide +kernel)
theorem d_8062_148 {σ : Nat → Nat} {n0 : Nat} {bf : ab_B} : decode (ab_code (zx σ n0 bf).1 8062) 148 = .ok (.iand, 1) := zd zm_8062 (by decide +kernel)
theorem d_8062_149 {σ : Nat → Nat} {n0 : Nat} {bf : ab_B} : decode (ab_code (zx σ n0 bf).1 8062) 149 = .ok (.ifCond .eq 7, 3) := zd zm_8062 (by decide +kernel)
theorem d_8062_152 {σ : Nat → Nat} {n0 : Nat} {bf : ab_B} : decode (ab_code (zx σ n0 bf).1 8062) 152 = .ok (.iconst 1, 1) := zd zm_8062 (by decide +kernel)
theorem d_8062_153 {σ : Nat → Nat} {n0 : Nat} {bf : ab_B} : decode (ab_code (zx σ n0 bf).1 8062) 153 = .ok (.goto 4, 3) := zd zm_8062 (by decide +kernel)
theorem d_8062_156 {σ : Nat → Nat} {n0 : Nat} {bf : ab_B} : decode (ab_code (zx σ n0 bf).1 8062) 156 = .ok (.iconst 0, 1) := zd zm_8062 (by decide +kernel)
theorem d_8062_157 {σ : Nat → Nat} {n0 : Nat} {bf : ab_B} : decode (ab_code (zx σ n0 bf).1 8062) 157 = .ok (.istore 6, 2) := zd zm_8062 (by decide +kernel)
theorem d_8062_159 {σ : Nat → Nat} {n0 : Nat} {bf : ab_B} : decode (ab_code (zx σ n0 bf).1 8062) 159 = .ok (.aload_n 0, 1) := zd zm_8062 (by decide +kernel)
theorem d_8062_160 {σ : Nat → Nat} {n0 : Nat} {bf : ab_B} : decode (ab_code (zx σ n0 bf).1 8062) 160 = .ok (.getfield 53, 3) := zd zm_8062 (by decide +kernel)
theorem d_8062_163 {σ : Nat → Nat} {n0 : Nat} {bf : ab_B} : decode (ab_code (zx σ n0 bf).1 8062) 163 = .ok (.iload_n 1, 1) := zd zm_8062 (by decide +kernel)
theorem d_8062_164 {σ : Nat → Nat} {n0 : Nat} {bf : ab_B} : decode (ab_code (zx σ n0 bf).1 8062) 164 = .ok (.iaload, 1) := zd zm_8062 (by decide +kernel)
theorem d_8062_165 {σ : Nat → Nat} {n0 : Nat} {bf : ab_B} : decode (ab_code (zx σ n0 bf).1 8062) 165 = .ok (.bipush 17, 2) := zd zm_8062 (by decide +kernel)
theorem d_8062_167 {σ : Nat → Nat} {n0 : Nat} {bf : ab_B} : decode (ab_code (zx σ n0 bf).1 8062) 167 = .ok (.ishr, 1) := zd zm_8062 (by decide +kernel)
theorem d_8062_168 {σ : Nat → Nat} {n0 : Nat} {bf : ab_B} : decode (ab_code (zx σ n0 bf).1 8062) 168 = .ok (.istore 7, 2) := zd zm_8062 (by decide +kernel)
theorem d_8062_170 {σ : Nat → Nat} {n0 : Nat} {bf : ab_B} : decode (ab_code (zx σ n0 bf).1 8062) 170 = .ok (.aload_n 0, 1) := zd zm_8062 (by decide +kernel)
theorem d_8062_171 {σ : Nat → Nat} {n0 : Nat} {bf : ab_B} : decode (ab_code (zx σ n0 bf).1 8062) 171 = .ok (.getfield 53, 3) := zd zm_8062 (by decide +kernel)
theorem d_8062_174 {σ : Nat → Nat} {n0 : Nat} {bf : ab_B} : decode (ab_code (zx σ n0 bf).1 8062) 174 = .ok (.iload_n 1, 1) := zd zm_8062 (by decide +kernel)
theorem d_8062_175 {σ : Nat → Nat} {n0 : Nat} {bf : ab_B} : decode (ab_code (zx σ n0 bf).1 8062) 175 = .ok (.iaload, 1) := zd zm_8062 (by decide +kernel)
theorem d_8062_176 {σ : Nat → Nat} {n0 : Nat} {bf : ab_B} : decode (ab_code (zx σ n0 bf).1 8062) 176 = .ok (.ldc 7, 2) := zd zm_8062 (by decide +kernel)
theorem d_8062_178 {σ : Nat → Nat} {n0 : Nat} {bf : ab_B} : decode (ab_code (zx σ n0 bf).1 8062) 178 = .ok (.iand, 1) := zd zm_8062 (by decide +kernel)
theorem d_8062_179 {σ : Nat → Nat} {n0 : Nat} {bf : ab_B} : decode (ab_code (zx σ n0 bf).1 8062) 179 = .ok (.ifCond .eq 33, 3) := zd zm_8062 (by decide +kernel)
theorem d_8062_182 {σ : Nat → Nat} {n0 : Nat} {bf : ab_B} : decode (ab_code (zx σ n0 bf).1 8062) 182 = .ok (.aload_n 0, 1) := zd zm_8062 (by decide +kernel)
theorem d_8062_183 {σ : Nat → Nat} {n0 : Nat} {bf : ab_B} : decode (ab_code (zx σ n0 bf).1 8062) 183 = .ok (.aload_n 0, 1) := zd zm_8062 (by decide +kernel)
theorem d_8062_184 {σ : Nat → Nat} {n0 : Nat} {bf : ab_B} : decode (ab_code (zx σ n0 bf).1 8062) 184 = .ok (.getfield 50, 3) := zd zm_8062 (by decide +kernel)
theorem d_8062_187 {σ : Nat → Nat} {n0 : Nat} {bf : ab_B} : decode (ab_code (zx σ n0 bf).1 8062) 187 = .ok (.iload_n 1, 1) := zd zm_8062 (by decide +kernel)
theorem d_8062_188 {σ : Nat → Nat} {n0 : Nat} {bf : ab_B} : decode (ab_code (zx σ n0 bf).1 8062) 188 = .ok (.iaload, 1) := zd zm_8062 (by decide +kernel)
theorem d_8062_189 {σ : Nat → Nat} {n0 : Nat} {bf : ab_B} : decode (ab_code (zx σ n0 bf).1 8062) 189 = .ok (.iconst 0, 1) := zd zm_8062 (by decide +kernel)
theorem d_8062_190 {σ : Nat → Nat} {n0 : Nat} {bf : ab_B} : decode (ab_code (zx σ n0 bf).1 8062) 190 = .ok (.iconst 0, 1) := zd zm_8062 (by decide +kernel)
theorem d_8062_191 {σ : Nat → Nat} {n0 : Nat} {bf : ab_B} : decode (ab_code (zx σ n0 bf).1 8062) 191 = .ok (.iconst 4, 1) := zd zm_8062 (by decide +kernel)
theorem d_8062_192 {σ : Nat → Nat} {n0 : Nat} {bf : ab_B} : decode (ab_code (zx σ n0 bf).1 8062) 192 = .ok (.iload_n 3, 1) := zd zm_8062 (by decide +kernel)
theorem d_8062_193 {σ : Nat → Nat} {n0 : Nat} {bf : ab_B} : decode (ab_code (zx σ n0 bf).1 8062) 193 = .ok (.iload_n 2, 1) := zd zm_8062 (by decide +kernel)
theorem d_8062_194 {σ : Nat → Nat} {n0 : Nat} {bf : ab_B} : decode (ab_code (zx σ n0 bf).1 8062) 194 = .ok (.invokevirtual 699, 3) := zd zm_8062 (by decide +kernel)
theorem d_8062_197 {σ : Nat → Nat} {n0 : Nat} {bf : ab_B} : decode (ab_code (zx σ n0 bf).1 8062) 197 = .ok (.aload_n 0, 1) := zd zm_8062 (by decide +kernel)
theorem d_8062_198 {σ : Nat → Nat} {n0 : Nat} {bf : ab_B} : decode (ab_code (zx σ n0 bf).1 8062) 198 = .ok (.bipush 7, 2) := zd zm_8062 (by decide +kernel)
theorem d_8062_200 {σ : Nat → Nat} {n0 : Nat} {bf : ab_B} : decode (ab_code (zx σ n0 bf).1 8062) 200 = .ok (.iload 7, 2) := zd zm_8062 (by decide +kernel)
theorem d_8062_202 {σ : Nat → Nat} {n0 : Nat} {bf : ab_B} : decode (ab_code (zx σ n0 bf).1 8062) 202 = .ok (.iconst 0, 1) := zd zm_8062 (by decide +kernel)
theorem d_8062_203 {σ : Nat → Nat} {n0 : Nat} {bf : ab_B} : decode (ab_code (zx σ n0 bf).1 8062) 203 = .ok (.iload_n 2, 1) := zd zm_8062 (by decide +kernel)
theorem d_8062_204 {σ : Nat → Nat} {n0 : Nat} {bf : ab_B} : decode (ab_code (zx σ n0 bf).1 8062) 204 = .ok (.invokevirtual 656, 3) := zd zm_8062 (by decide +kernel)
theorem d_8062_207 {σ : Nat → Nat} {n0 : Nat} {bf : ab_B} : decode (ab_code (zx σ n0 bf).1 8062) 207 = .ok (.istore 5, 2) := zd zm_8062 (by decide +kernel)
theorem d_8062_209 {σ : Nat → Nat} {n0 : Nat} {bf : ab_B} : decode (ab_code (zx σ n0 bf).1 8062) 209 = .ok (.goto 47, 3) := zd zm_8062 (by decide +kernel)
theorem d_8062_212 {σ : Nat → Nat} {n0 : Nat} {bf : ab_B} : decode (ab_code (zx σ n0 bf).1 8062) 212 = .ok (.aload_n 0, 1) := zd zm_8062 (by decide +kernel)
theorem d_8062_213 {σ : Nat → Nat} {n0 : Nat} {bf : ab_B} : decode (ab_code (zx σ n0 bf).1 8062) 213 = .ok (.iconst 4, 1) := zd zm_8062 (by decide +kernel)
theorem d_8062_214 {σ : Nat → Nat} {n0 : Nat} {bf : ab_B} : decode (ab_code (zx σ n0 bf).1 8062) 214 = .ok (.iload 7, 2) := zd zm_8062 (by decide +kernel)
theorem d_8062_216 {σ : Nat → Nat} {n0 : Nat} {bf : ab_B} : decode (ab_code (zx σ n0 bf).1 8062) 216 = .ok (.iconst 0, 1) := zd zm_8062 (by decide +kernel)
theorem d_8062_217 {σ : Nat → Nat} {n0 : Nat} {bf : ab_B} : decode (ab_code (zx σ n0 bf).1 8062) 217 = .ok (.iload_n 2, 1) := zd zm_8062 (by decide +kernel)
theorem d_8062_218 {σ : Nat → Nat} {n0 : Nat} {bf : ab_B} : decode (ab_code (zx σ n0 bf).1 8062) 218 = .ok (.invokevirtual 656, 3) := zd zm_8062 (by decide +kernel)
theorem d_8062_221 {σ : Nat → Nat} {n0 : Nat} {bf : ab_B} : decode (ab_code (zx σ n0 bf).1 8062) 221 = .ok (.istore 5, 2) := zd zm_8062 (by decide +kernel)
theorem d_8062_223 {σ : Nat → Nat} {n0 : Nat} {bf : ab_B} : decode (ab_code (zx σ n0 bf).1 8062) 223 = .ok (.aload_n 0, 1) := zd zm_8062 (by decide +kernel)
theorem d_8062_224 {σ : Nat → Nat} {n0 : Nat} {bf : ab_B} : decode (ab_code (zx σ n0 bf).1 8062) 224 = .ok (.aload_n 0, 1) := zd zm_8062 (by decide +kernel)
theorem d_8062_225 {σ : Nat → Nat} {n0 : Nat} {bf : ab_B} : decode (ab_code (zx σ n0 bf).1 8062) 225 = .ok (.getfield 142, 3) := zd zm_8062 (by decide +kernel)
theorem d_8062_228 {σ : Nat → Nat} {n0 : Nat} {bf : ab_B} : decode (ab_code (zx σ n0 bf).1 8062) 228 = .ok (.iload 7, 2) := zd zm_8062 (by decide +kernel)
theorem d_8062_230 {σ : Nat → Nat} {n0 : Nat} {bf : ab_B} : decode (ab_code (zx σ n0 bf).1 8062) 230 = .ok (.iaload, 1) := zd zm_8062 (by decide +kernel)
theorem d_8062_231 {σ : Nat → Nat} {n0 : Nat} {bf : ab_B} : decode (ab_code (zx σ n0 bf).1 8062) 231 = .ok (.iconst 1, 1) := zd zm_8062 (by decide +kernel)
theorem d_8062_232 {σ : Nat → Nat} {n0 : Nat} {bf : ab_B} : decode (ab_code (zx σ n0 bf).1 8062) 232 = .ok (.iconst 0, 1) := zd zm_8062 (by decide +kernel)
theorem d_8062_233 {σ : Nat → Nat} {n0 : Nat} {bf : ab_B} : decode (ab_code (zx σ n0 bf).1 8062) 233 = .ok (.iload 6, 2) := zd zm_8062 (by decide +kernel)
theorem d_8062_235 {σ : Nat → Nat} {n0 : Nat} {bf : ab_B} : decode (ab_code (zx σ n0 bf).1 8062) 235 = .ok (.aload_n 0, 1) := zd zm_8062 (by decide +kernel)
theorem d_8062_236 {σ : Nat → Nat} {n0 : Nat} {bf : ab_B} : decode (ab_code (zx σ n0 bf).1 8062) 236 = .ok (.getfield 151, 3) := zd zm_8062 (by decide +kernel)
theorem d_8062_239 {σ : Nat → Nat} {n0 : Nat} {bf : ab_B} : decode (ab_code (zx σ n0 bf).1 8062) 239 = .ok (.iload 7, 2) := zd zm_8062 (by decide +kernel)
theorem d_8062_241 {σ : Nat → Nat} {n0 : Nat} {bf : ab_B} : decode (ab_code (zx σ n0 bf).1 8062) 241 = .ok (.baload, 1) := zd zm_8062 (by decide +kernel)
theorem d_8062_242 {σ : Nat → Nat} {n0 : Nat} {bf : ab_B} : decode (ab_code (zx σ n0 bf).1 8062) 242 = .ok (.ifCond .eq 7, 3) := zd zm_8062 (by decide +kernel)
theorem d_8062_245 {σ : Nat → Nat} {n0 : Nat} {bf : ab_B} : decode (ab_code (zx σ n0 bf).1 8062) 245 = .ok (.iconst 2, 1) := zd zm_8062 (by decide +kernel)
theorem d_8062_246 {σ : Nat → Nat} {n0 : Nat} {bf : ab_B} : decode (ab_code (zx σ n0 bf).1 8062) 246 = .ok (.goto 4, 3) := zd zm_8062 (by decide +kernel)
theorem d_8062_249 {σ : Nat → Nat} {n0 : Nat} {bf : ab_B} : decode (ab_code (zx σ n0 bf).1 8062) 249 = .ok (.iconst 0, 1) := zd zm_8062 (by decide +kernel)
theorem d_8062_250 {σ : Nat → Nat} {n0 : Nat} {bf : ab_B} : decode (ab_code (zx σ n0 bf).1 8062) 250 = .ok (.ior, 1) := zd zm_8062 (by decide +kernel)
theorem d_8062_251 {σ : Nat → Nat} {n0 : Nat} {bf : ab_B} : decode (ab_code (zx σ n0 bf).1 8062) 251 = .ok (.iload_n 3, 1) := zd zm_8062 (by decide +kernel)
theorem d_8062_252 {σ : Nat → Nat} {n0 : Nat} {bf : ab_B} : decode (ab_code (zx σ n0 bf).1 8062) 252 = .ok (.iload_n 2, 1) := zd zm_8062 (by decide +kernel)
theorem d_8062_253 {σ : Nat → Nat} {n0 : Nat} {bf : ab_B} : decode (ab_code (zx σ n0 bf).1 8062) 253 = .ok (.invokevirtual 699, 3) := zd zm_8062 (by decide +kernel)
theorem d_8062_256 {σ : Nat → Nat} {n0 : Nat} {bf : ab_B} : decode (ab_code (zx σ n0 bf).1 8062) 256 = .ok (.aload_n 0, 1) := zd zm_8062 (by decide +kernel)
theorem d_8062_257 {σ : Nat → Nat} {n0 : Nat} {bf : ab_B} : decode (ab_code (zx σ n0 bf).1 8062) 257 = .ok (.invokevirtual 538, 3) := zd zm_8062 (by decide +kernel)
theorem d_8062_260 {σ : Nat → Nat} {n0 : Nat} {bf : ab_B} : decode (ab_code (zx σ n0 bf).1 8062) 260 = .ok (.aload_n 0, 1) := zd zm_8062 (by decide +kernel)
theorem d_8062_261 {σ : Nat → Nat} {n0 : Nat} {bf : ab_B} : decode (ab_code (zx σ n0 bf).1 8062) 261 = .ok (.bipush 18, 2) := zd zm_8062 (by decide +kernel)
theorem d_8062_263 {σ : Nat → Nat} {n0 : Nat} {bf : ab_B} : decode (ab_code (zx σ n0 bf).1 8062) 263 = .ok (.iconst 0, 1) := zd zm_8062 (by decide +kernel)
theorem d_8062_264 {σ : Nat → Nat} {n0 : Nat} {bf : ab_B} : decode (ab_code (zx σ n0 bf).1 8062) 264 = .ok (.iconst 0, 1) := zd zm_8062 (by decide +kernel)
theorem d_8062_265 {σ : Nat → Nat} {n0 : Nat} {bf : ab_B} : decode (ab_code (zx σ n0 bf).1 8062) 265 = .ok (.iconst 0, 1) := zd zm_8062 (by decide +kernel)
theorem d_8062_266 {σ : Nat → Nat} {n0 : Nat} {bf : ab_B} : decode (ab_code (zx σ n0 bf).1 8062) 266 = .ok (.invokevirtual 649, 3) := zd zm_8062 (by decide +kernel)
theorem d_8062_269 {σ : Nat → Nat} {n0 : Nat} {bf : ab_B} : decode (ab_code (zx σ n0 bf).1 8062) 269 = .ok (.return_, 1) := zd zm_8062 (by decide +kernel)
def w_X9_variable_256 (X : zs_X) (d : Nat) (p0 : Nat) (S : zs_T) (Q : zs_Q) : Prop :=
  (zs_K S p0 = some (.inl 8) ∧ zs_C X d 8014 [.ref p0] S (zs_kV (fun S2 => (zs_K S2 p0 = some (.inl 8) ∧ zs_C X d 8030 [.ref p0, .int (18 : Int32), .int (0 : Int32), .int (0 : Int32), .int (0 : Int32)] S2 (zs_kV (fun S5 => (Q (.returned none) S5)) Q))) Q))
theorem u_X9_variable_256 {σ : Nat → Nat} {n0 : Nat} {bf : ab_B} {d : Nat} {p0 : Nat} {S : zs_T} {Q : zs_Q} (hB : zt_B bf) (h : w_X9_variable_256 (zx σ n0 bf) d p0 S Q) : zs_U (zx σ n0 bf) d 8062 256 [(0, .ref p0)] [] S Q := by
  unfold w_X9_variable_256 at h
  refine zu_aload_n d_8062_256 rfl (zs_ra _) ?_
  obtain ⟨k1, h⟩ := h
  refine zc_8_538  hB rfl k1 d_8062_257 (Nat.le_of_ble_eq_true rfl) h (fun S2 h => ?_)
  refine zu_aload_n d_8062_260 rfl (zs_ra _) ?_
  refine zu_bipush d_8062_261 zj_18 ?_
  refine zu_iconst d_8062_263 zi_0 ?_
  refine zu_iconst d_8062_264 zi_0 ?_
  refine zu_iconst d_8062_265 zi_0 ?_
  obtain ⟨k4, h⟩ := h
  refine zc_8_649 (x0 := (18 : Int32)) (x1 := (0 : Int32)) (x2 := (0 : Int32)) (x3 := (0 : Int32)) hB rfl k4 d_8062_266 (Nat.le_of_ble_eq_true rfl) h (fun S5 h => ?_)
  exact zu_vret d_8062_269 zr_8062 h
def w_X9_variable_85 (X : zs_X) (d : Nat) (p0 : Nat) (p2 : Int32) (p3 : Int32) (q0 : Option Nat) (q1 : Int32) (q2 : Int32) (q3 : Int32) (q4 : Int32) (S : zs_T) (Q : zs_Q) : Prop :=
  (∃ b1, q0 = some b1 ∧ zs_K S b1 = some (.inl 8) ∧ zs_C X d 8058 [.ref b1, .int q1, .int q2, .int q3, .int q4, .int p3, .int p2] S (zs_kV (fun S4 => (w_X9_variable_256 X d p0 S4 Q)) Q))
theorem u_X9_variable_85 {σ : Nat → Nat} {n0 : Nat} {bf : ab_B} {d : Nat} {p0 : Nat} {p2 : Int32} {p3 : Int32} {q0 : Option Nat} {q1 : Int32} {q2 : Int32} {q3 : Int32} {q4 : Int32} {S : zs_T} {Q : zs_Q} (hB : zt_B bf) (h : w_X9_variable_85 (zx σ n0 bf) d p0 p2 p3 q0 q1 q2 q3 q4 S Q) : zs_U (zx σ n0 bf) d 8062 85 [(0, .ref p0), (2, .int p2), (3, .int p3)] [.int q4, .int q3, .int q2, .int q1, va_rf q0] S Q := by
  unfold w_X9_variable_85 at h
  refine zu_iload_n d_8062_85 rfl ?_
  refine zu_iload_n d_8062_86 rfl ?_
  obtain ⟨b1, e2, h⟩ := h
  refine zs_stk6 (zs_rfe e2) ?_
  obtain ⟨k3, h⟩ := h
  refine zc_8_699 (x0 := q1) (x1 := q2) (x2 := q3) (x3 := q4) (x4 := p3) (x5 := p2) hB rfl k3 d_8062_87 (Nat.le_of_ble_eq_true rfl) h (fun S4 h => ?_)
  refine zu_goto (t := 256) d_8062_90 rfl ?_
  exact (u_X9_variable_256 hB h).weak ⟨rfl, trivial⟩
def w_X9_variable_38 (X : zs_X) (d : Nat) (p0 : Nat) (p1 : Int32) (p2 : Int32) (p3 : Int32) (p4 : Int32) (S : zs_T) (Q : zs_Q) : Prop :=
  (zs_K S p0 = some (.inl 8) ∧ ∃ b2, (zs_R S 8027 p0) = some b2 ∧ zs_A S b2 0 p1 ∧ zs_C X d 8012 [.ref p0, .int (3 : Int32), .int p4, .int ((zs_i S b2 p1.toNatClampNeg) &&& (65535 : Int32)), .int p2] S (zs_kI (fun v6 S5 => (zs_K S5 p0 = some (.inl 8) ∧ ∃ b8, (zs_R S5 8026 p0) = some b8 ∧ zs_A S5 b8 0 p1 ∧ ∃ b11, (zs_R S5 8027 p0) = some b11 ∧ zs_A S5 b11 0 p1 ∧ ((((zs_i S5 b11 p1.toNatClampNeg) &&& (65536 : Int32)) = 0 → (w_X9_variable_85 X d p0 p2 p3 (some p0) (zs_i S5 b8 p1.toNatClampNeg) (1 : Int32) (0 : Int32) (0 : Int32) S5 Q)) ∧ (¬ (((zs_i S5 b11 p1.toNatClampNeg) &&& (65536 : Int32)) = 0) → (w_X9_variable_85 X d p0 p2 p3 (some p0) (zs_i S5 b8 p1.toNatClampNeg) (1 : Int32) (0 : Int32) (1 : Int32) S5 Q))))) Q))
theorem u_X9_variable_38 {σ : Nat → Nat} {n0 : Nat} {bf : ab_B} {d : Nat} {p0 : Nat} {p1 : Int32} {p2 : Int32} {p3 : Int32} {p4 : Int32} {S : zs_T} {Q : zs_Q} (hB : zt_B bf) (h : w_X9_variable_38 (zx σ n0 bf) d p0 p1 p2 p3 p4 S Q) : zs_U (zx σ n0 bf) d 8062 38 [(0, .ref p0), (1, .int p1), (2, .int p2), (3, .int p3), (4, .int p4)] [] S Q := by
  unfold w_X9_variable_38 at h
  refine zu_aload_n d_8062_38 rfl (zs_ra _) ?_
  refine zu_iconst d_8062_39 zi_3 ?_
  refine zu_iload d_8062_40 rfl ?_
  refine zu_aload_n d_8062_42 rfl (zs_ra _) ?_
  obtain ⟨k1, h⟩ := h
  refine zg_8_53 rfl d_8062_43 k1 ?_
  refine zu_iload_n d_8062_46 rfl ?_
  obtain ⟨b2, e3, h⟩ := h
  refine zs_stk1 (zs_rfe e3) ?_
  obtain ⟨k4, h⟩ := h
  refine zu_iald (k := 0) d_8062_47 rfl rfl k4 ?_
  refine zlw_8_725 rfl d_8062_48 ?_
  refine zu_stk d_8062_51 rfl rfl ?_
  refine zu_iload_n d_8062_52 rfl ?_
  refine zc_8_656 (x0 := (3 : Int32)) (x1 := p4) (x2 := ((zs_i S b2 p1.toNatClampNeg) &&& (65535 : Int32))) (x3 := p2) hB rfl k1 d_8062_53 (Nat.le_of_ble_eq_true rfl) h (fun v6 S5 h => ?_)
  refine zu_istore d_8062_56 (zs_lt zq_8062 rfl) ?_
  refine zu_aload_n d_8062_58 rfl (zs_ra _) ?_
  refine zu_aload_n d_8062_59 rfl (zs_ra _) ?_
  obtain ⟨k7, h⟩ := h
  refine zg_8_50 rfl d_8062_60 k7 ?_
  refine zu_iload_n d_8062_63 rfl ?_
  obtain ⟨b8, e9, h⟩ := h
  refine zs_stk1 (zs_rfe e9) ?_
  obtain ⟨k10, h⟩ := h
  refine zu_iald (k := 0) d_8062_64 rfl rfl k10 ?_
  refine zu_iconst d_8062_65 zi_1 ?_
  refine zu_iconst d_8062_66 zi_0 ?_
  refine zu_aload_n d_8062_67 rfl (zs_ra _) ?_
  refine zg_8_53 rfl d_8062_68 k7 ?_
  refine zu_iload_n d_8062_71 rfl ?_
  obtain ⟨b11, e12, h⟩ := h
  refine zs_stk1 (zs_rfe e12) ?_
  obtain ⟨k13, h⟩ := h
  refine zu_iald (k := 0) d_8062_72 rfl rfl k13 ?_
  refine zlw_8_726 rfl d_8062_73 ?_
  refine zu_stk d_8062_76 rfl rfl ?_
  refine zu_ifeq (t := 84) d_8062_77 rfl (fun c14 => ?_) (fun c14 => ?_)
  · have h := h.1 c14
    refine zu_iconst d_8062_84 zi_0 ?_
    exact (u_X9_variable_85 hB h).weak ⟨rfl, rfl, rfl, trivial⟩
  · have h := h.2 c14
    refine zu_iconst d_8062_80 zi_1 ?_
    refine zu_goto (t := 85) d_8062_81 rfl ?_
    exact (u_X9_variable_85 hB h).weak ⟨rfl, rfl, rfl, trivial⟩
def w_X9_variable_250 (X : zs_X) (d : Nat) (p0 : Nat) (p2 : Int32) (p3 : Int32) (q0 : Option Nat) (q1 : Int32) (q2 : Int32) (q3 : Int32) (q4 : Int32) (q5 : Int32) (S : zs_T) (Q : zs_Q) : Prop :=
  (∃ b1, q0 = some b1 ∧ zs_K S b1 = some (.inl 8) ∧ zs_C X d 8058 [.ref b1, .int q1, .int q2, .int q3, .int (q4 ||| q5), .int p3, .int p2] S (zs_kV (fun S4 => w_X9_variable_256 X d p0 S4 Q) Q))
theorem u_X9_variable_250 {σ : Nat → Nat} {n0 : Nat} {bf : ab_B} {d : Nat} {p0 : Nat} {p2 : Int32} {p3 : Int32} {q0 : Option Nat} {q1 : Int32} {q2 : Int32} {q3 : Int32} {q4 : Int32} {q5 : Int32} {S : zs_T} {Q : zs_Q} (hB : zt_B bf) (h : w_X9_variable_250 (zx σ n0 bf) d p0 p2 p3 q0 q1 q2 q3 q4 q5 S Q) : zs_U (zx σ n0 bf) d 8062 250 [(0, .ref p0), (2, .int p2), (3, .int p3)] [.int q5, .int q4, .int q3, .int q2, .int q1, va_rf q0] S Q := by
  unfold w_X9_variable_250 at h
  refine zu_stk d_8062_250 rfl rfl ?_
  refine zu_iload_n d_8062_251 rfl ?_
  refine zu_iload_n d_8062_252 rfl ?_
  obtain ⟨b1, e2, h⟩ := h
  refine zs_stk6 (zs_rfe e2) ?_
  obtain ⟨k3, h⟩ := h
  refine zc_8_699 (x0 := q1) (x1 := q2) (x2 := q3) (x3 := (q4 ||| q5)) (x4 := p3) (x5 := p2) hB rfl k3 d_8062_253 (Nat.le_of_ble_eq_true rfl) h (fun S4 h => ?_)
  exact (u_X9_variable_256 hB h).weak ⟨rfl, trivial⟩
def w_X9_variable_223 (X : zs_X) (d : Nat) (p0 : Nat) (p2 : Int32) (p3 : Int32) (p6 : Int32) (p7 : Int32) (S : zs_T) (Q : zs_Q) : Prop :=
  (zs_K S p0 = some (.inl 8) ∧ ∃ b2, (zs_R S 8065 p0) = some b2 ∧ zs_A S b2 0 p7 ∧ ∃ b5, (zs_R S 8068 p0) = some b5 ∧ zs_A S b5 2 p7 ∧ (((zs_i S b5 p7.toNatClampNeg) = 0 → (w_X9_variable_250 X d p0 p2 p3 (some p0) (zs_i S b2 p7.toNatClampNeg) (1 : Int32) (0 : Int32) p6 (0 : Int32) S Q)) ∧ (¬ ((zs_i S b5 p7.toNatClampNeg) = 0) → (w_X9_variable_250 X d p0 p2 p3 (some p0) (zs_i S b2 p7.toNatClampNeg) (1 : Int32) (0 : Int32) p6 (2 : Int32) S Q))))
theorem u_X9_variable_223 {σ : Nat → Nat} {n0 : Nat} {bf : ab_B} {d : Nat} {p0 : Nat} {p2 : Int32} {p3 : Int32} {p6 : Int32} {p7 : Int32} {S : zs_T} {Q : zs_Q} (hB : zt_B bf) (h : w_X9_variable_223 (zx σ n0 bf) d p0 p2 p3 p6 p7 S Q) : zs_U (zx σ n0 bf) d 8062 223 [(0, .ref p0), (2, .int p2), (3, .int p3), (6, .int p6), (7, .int p7)] [] S Q := by
  unfold w_X9_variable_223 at h
  refine zu_aload_n d_8062_223 rfl (zs_ra _) ?_
  refine zu_aload_n d_8062_224 rfl (zs_ra _) ?_
  obtain ⟨k1, h⟩ := h
  refine zg_8_142 rfl d_8062_225 k1 ?_
  refine zu_iload d_8062_228 rfl ?_
  obtain ⟨b2, e3, h⟩ := h
  refine zs_stk1 (zs_rfe e3) ?_
  obtain ⟨k4, h⟩ := h
  refine zu_iald (k := 0) d_8062_230 rfl rfl k4 ?_
  refine zu_iconst d_8062_231 zi_1 ?_
  refine zu_iconst d_8062_232 zi_0 ?_
  refine zu_iload d_8062_233 rfl ?_
  refine zu_aload_n d_8062_235 rfl (zs_ra _) ?_
  refine zg_8_151 rfl d_8062_236 k1 ?_
  refine zu_iload d_8062_239 rfl ?_
  obtain ⟨b5, e6, h⟩ := h
  refine zs_stk1 (zs_rfe e6) ?_
  obtain ⟨k7, h⟩ := h
  refine zu_bald (k := 2) d_8062_241 rfl (Or.inr rfl) k7 ?_
  refine zu_ifeq (t := 249) d_8062_242 rfl (fun c8 => ?_) (fun c8 => ?_)
  · have h := h.1 c8
    refine zu_iconst d_8062_249 zi_0 ?_
    exact (u_X9_variable_250 hB h).weak ⟨rfl, rfl, rfl, trivial⟩
  · have h := h.2 c8
    refine zu_iconst d_8062_245 zi_2 ?_
    refine zu_goto (t := 250) d_8062_246 rfl ?_
    exact (u_X9_variable_250 hB h).weak ⟨rfl, rfl, rfl, trivial⟩
def w_X9_variable_197 (X : zs_X) (d : Nat) (p0 : Nat) (p2 : Int32) (p7 : Int32) (S : zs_T) (Q : zs_Q) : Prop :=
  (zs_K S p0 = some (.inl 8) ∧ zs_C X d 8012 [.ref p0, .int (7 : Int32), .int p7, .int (0 : Int32), .int p2] S (zs_kI (fun v3 S2 => (w_X9_variable_256 X d p0 S2 Q)) Q))
theorem u_X9_variable_197 {σ : Nat → Nat} {n0 : Nat} {bf : ab_B} {d : Nat} {p0 : Nat} {p2 : Int32} {p7 : Int32} {S : zs_T} {Q : zs_Q} (hB : zt_B bf) (h : w_X9_variable_197 (zx σ n0 bf) d p0 p2 p7 S Q) : zs_U (zx σ n0 bf) d 8062 197 [(0, .ref p0), (2, .int p2), (7, .int p7)] [] S Q := by
  unfold w_X9_variable_197 at h
  refine zu_aload_n d_8062_197 rfl (zs_ra _) ?_
  refine zu_bipush d_8062_198 zj_7 ?_
  refine zu_iload d_8062_200 rfl ?_
  refine zu_iconst d_8062_202 zi_0 ?_
  refine zu_iload_n d_8062_203 rfl ?_
  obtain ⟨k1, h⟩ := h
  refine zc_8_656 (x0 := (7 : Int32)) (x1 := p7) (x2 := (0 : Int32)) (x3 := p2) hB rfl k1 d_8062_204 (Nat.le_of_ble_eq_true rfl) h (fun v3 S2 h => ?_)
  refine zu_istore d_8062_207 (zs_lt zq_8062 rfl) ?_
  refine zu_goto (t := 256) d_8062_209 rfl ?_
  exact (u_X9_variable_256 hB h).weak ⟨rfl, trivial⟩
def w_X9_variable_157 (X : zs_X) (d : Nat) (p0 : Nat) (p1 : Int32) (p2 : Int32) (p3 : Int32) (q0 : Int32) (S : zs_T) (Q : zs_Q) : Prop :=
  (zs_K S p0 = some (.inl 8) ∧ ∃ b2, (zs_R S 8027 p0) = some b2 ∧ zs_A S b2 0 p1 ∧ ((((zs_i S b2 p1.toNatClampNeg) &&& (32768 : Int32)) = 0 → (zs_C X d 8012 [.ref p0, .int (4 : Int32), .int ((zs_i S b2 p1.toNatClampNeg) >>> ((17 : Int32) &&& 31)), .int (0 : Int32), .int p2] S (zs_kI (fun v7 S6 => (w_X9_variable_223 X d p0 p2 p3 q0 ((zs_i S b2 p1.toNatClampNeg) >>> ((17 : Int32) &&& 31)) S6 Q)) Q))) ∧ (¬ (((zs_i S b2 p1.toNatClampNeg) &&& (32768 : Int32)) = 0) → (∃ b8, (zs_R S 8026 p0) = some b8 ∧ zs_A S b8 0 p1 ∧ zs_C X d 8058 [.ref p0, .int (zs_i S b8 p1.toNatClampNeg), .int (0 : Int32), .int (0 : Int32), .int (4 : Int32), .int p3, .int p2] S (zs_kV (fun S11 => w_X9_variable_197 X d p0 p2 ((zs_i S b2 p1.toNatClampNeg) >>> ((17 : Int32) &&& 31)) S11 Q) Q)))))
theorem u_X9_variable_157 {σ : Nat → Nat} {n0 : Nat} {bf : ab_B} {d : Nat} {p0 : Nat} {p1 : Int32} {p2 : Int32} {p3 : Int32} {q0 : Int32} {S : zs_T} {Q : zs_Q} (hB : zt_B bf) (h : w_X9_variable_157 (zx σ n0 bf) d p0 p1 p2 p3 q0 S Q) : zs_U (zx σ n0 bf) d 8062 157 [(0, .ref p0), (1, .int p1), (2, .int p2), (3, .int p3)] [.int q0] S Q := by
  unfold w_X9_variable_157 at h
  refine zu_istore d_8062_157 (zs_lt zq_8062 rfl) ?_
  refine zu_aload_n d_8062_159 rfl (zs_ra _) ?_
  obtain ⟨k1, h⟩ := h
  refine zg_8_53 rfl d_8062_160 k1 ?_
  refine zu_iload_n d_8062_163 rfl ?_
  obtain ⟨b2, e3, h⟩ := h
  refine zs_stk1 (zs_rfe e3) ?_
  obtain ⟨k4, h⟩ := h
  refine zu_iald (k := 0) d_8062_164 rfl rfl k4 ?_
  refine zu_bipush d_8062_165 zj_17 ?_
  refine zu_stk d_8062_167 rfl rfl ?_
  refine zu_istore d_8062_168 (zs_lt zq_8062 rfl) ?_
  refine zu_aload_n d_8062_170 rfl (zs_ra _) ?_
  refine zg_8_53 rfl d_8062_171 k1 ?_
  refine zu_iload_n d_8062_174 rfl ?_
  refine zs_stk1 (zs_rfe e3) ?_
  refine zu_iald (k := 0) d_8062_175 rfl rfl k4 ?_
  refine zl_8_7 rfl d_8062_176 ?_
  refine zu_stk d_8062_178 rfl rfl ?_
  refine zu_ifeq (t := 212) d_8062_179 rfl (fun c5 => ?_) (fun c5 => ?_)
  · have h := h.1 c5
    refine zu_aload_n d_8062_212 rfl (zs_ra _) ?_
    refine zu_iconst d_8062_213 zi_4 ?_
    refine zu_iload d_8062_214 rfl ?_
    refine zu_iconst d_8062_216 zi_0 ?_
    refine zu_iload_n d_8062_217 rfl ?_
    refine zc_8_656 (x0 := (4 : Int32)) (x1 := ((zs_i S b2 p1.toNatClampNeg) >>> ((17 : Int32) &&& 31))) (x2 := (0 : Int32)) (x3 := p2) hB rfl k1 d_8062_218 (Nat.le_of_ble_eq_true rfl) h (fun v7 S6 h => ?_)
    refine zu_istore d_8062_221 (zs_lt zq_8062 rfl) ?_
    exact (u_X9_variable_223 hB h).weak ⟨rfl, rfl, rfl, rfl, rfl, trivial⟩
  · have h := h.2 c5
    refine zu_aload_n d_8062_182 rfl (zs_ra _) ?_
    refine zu_aload_n d_8062_183 rfl (zs_ra _) ?_
    refine zg_8_50 rfl d_8062_184 k1 ?_
    refine zu_iload_n d_8062_187 rfl ?_
    obtain ⟨b8, e9, h⟩ := h
    refine zs_stk1 (zs_rfe e9) ?_
    obtain ⟨k10, h⟩ := h
    refine zu_iald (k := 0) d_8062_188 rfl rfl k10 ?_
    refine zu_iconst d_8062_189 zi_0 ?_
    refine zu_iconst d_8062_190 zi_0 ?_
    refine zu_iconst d_8062_191 zi_4 ?_
    refine zu_iload_n d_8062_192 rfl ?_
    refine zu_iload_n d_8062_193 rfl ?_
    refine zc_8_699 (x0 := (zs_i S b8 p1.toNatClampNeg)) (x1 := (0 : Int32)) (x2 := (0 : Int32)) (x3 := (4 : Int32)) (x4 := p3) (x5 := p2) hB rfl k1 d_8062_194 (Nat.le_of_ble_eq_true rfl) h (fun S11 h => ?_)
    exact (u_X9_variable_197 hB h).weak ⟨rfl, rfl, rfl, trivial⟩
def w_X9_variable_156 (X : zs_X) (d : Nat) (p0 : Nat) (p1 : Int32) (p2 : Int32) (p3 : Int32) (S : zs_T) (Q : zs_Q) : Prop :=
  (w_X9_variable_157 X d p0 p1 p2 p3 (0 : Int32) S Q)
theorem u_X9_variable_156 {σ : Nat → Nat} {n0 : Nat} {bf : ab_B} {d : Nat} {p0 : Nat} {p1 : Int32} {p2 : Int32} {p3 : Int32} {S : zs_T} {Q : zs_Q} (hB : zt_B bf) (h : w_X9_variable_156 (zx σ n0 bf) d p0 p1 p2 p3 S Q) : zs_U (zx σ n0 bf) d 8062 156 [(0, .ref p0), (1, .int p1), (2, .int p2), (3, .int p3)] [] S Q := by
  unfold w_X9_variable_156 at h
  refine zu_iconst d_8062_156 zi_0 ?_
  exact (u_X9_variable_157 hB h).weak ⟨rfl, rfl, rfl, rfl, trivial⟩
def w_X9_variable_152 (X : zs_X) (d : Nat) (p0 : Nat) (p1 : Int32) (p2 : Int32) (p3 : Int32) (S : zs_T) (Q : zs_Q) : Prop :=
  (w_X9_variable_157 X d p0 p1 p2 p3 (1 : Int32) S Q)
theorem u_X9_variable_152 {σ : Nat → Nat} {n0 : Nat} {bf : ab_B} {d : Nat} {p0 : Nat} {p1 : Int32} {p2 : Int32} {p3 : Int32} {S : zs_T} {Q : zs_Q} (hB : zt_B bf) (h : w_X9_variable_152 (zx σ n0 bf) d p0 p1 p2 p3 S Q) : zs_U (zx σ n0 bf) d 8062 152 [(0, .ref p0), (1, .int p1), (2, .int p2), (3, .int p3)] [] S Q := by
  unfold w_X9_variable_152 at h
  refine zu_iconst d_8062_152 zi_1 ?_
  refine zu_goto (t := 157) d_8062_153 rfl ?_
  exact (u_X9_variable_157 hB h).weak ⟨rfl, rfl, rfl, rfl, trivial⟩
def w_X9_variable_119 (X : zs_X) (d : Nat) (p0 : Nat) (p1 : Int32) (p2 : Int32) (p3 : Int32) (p4 : Int32) (S : zs_T) (Q : zs_Q) : Prop :=
  (zs_K S p0 = some (.inl 8) ∧ ∃ b2, (zs_R S 8028 p0) = some b2 ∧ zs_A S b2 0 p1 ∧ zs_C X d 8012 [.ref p0, .int (3 : Int32), .int p4, .int ((zs_i S b2 p1.toNatClampNeg) &&& (65535 : Int32)), .int p2] S (zs_kI (fun v6 S5 => (zs_K S5 p0 = some (.inl 8) ∧ ∃ b8, (zs_R S5 8027 p0) = some b8 ∧ zs_A S5 b8 0 p1 ∧ ((((zs_i S5 b8 p1.toNatClampNeg) &&& (65536 : Int32)) = 0 → w_X9_variable_156 X d p0 p1 p2 p3 S5 Q) ∧ (¬ (((zs_i S5 b8 p1.toNatClampNeg) &&& (65536 : Int32)) = 0) → w_X9_variable_152 X d p0 p1 p2 p3 S5 Q)))) Q))
theorem u_X9_variable_119 {σ : Nat → Nat} {n0 : Nat} {bf : ab_B} {d : Nat} {p0 : Nat} {p1 : Int32} {p2 : Int32} {p3 : Int32} {p4 : Int32} {S : zs_T} {Q : zs_Q} (hB : zt_B bf) (h : w_X9_variable_119 (zx σ n0 bf) d p0 p1 p2 p3 p4 S Q) : zs_U (zx σ n0 bf) d 8062 119 [(0, .ref p0), (1, .int p1), (2, .int p2), (3, .int p3), (4, .int p4)] [] S Q := by
  unfold w_X9_variable_119 at h
  refine zu_aload_n d_8062_119 rfl (zs_ra _) ?_
  refine zu_iconst d_8062_120 zi_3 ?_
  refine zu_iload d_8062_121 rfl ?_
  refine zu_aload_n d_8062_123 rfl (zs_ra _) ?_
  obtain ⟨k1, h⟩ := h
  refine zg_8_56 rfl d_8062_124 k1 ?_
  refine zu_iload_n d_8062_127 rfl ?_
  obtain ⟨b2, e3, h⟩ := h
  refine zs_stk1 (zs_rfe e3) ?_
  obtain ⟨k4, h⟩ := h
  refine zu_iald (k := 0) d_8062_128 rfl rfl k4 ?_
  refine zlw_8_725 rfl d_8062_129 ?_
  refine zu_stk d_8062_132 rfl rfl ?_
  refine zu_iload_n d_8062_133 rfl ?_
  refine zc_8_656 (x0 := (3 : Int32)) (x1 := p4) (x2 := ((zs_i S b2 p1.toNatClampNeg) &&& (65535 : Int32))) (x3 := p2) hB rfl k1 d_8062_134 (Nat.le_of_ble_eq_true rfl) h (fun v6 S5 h => ?_)
  refine zu_istore d_8062_137 (zs_lt zq_8062 rfl) ?_
  refine zu_aload_n d_8062_139 rfl (zs_ra _) ?_
  obtain ⟨k7, h⟩ := h
  refine zg_8_53 rfl d_8062_140 k7 ?_
  refine zu_iload_n d_8062_143 rfl ?_
  obtain ⟨b8, e9, h⟩ := h
  refine zs_stk1 (zs_rfe e9) ?_
  obtain ⟨k10, h⟩ := h
  refine zu_iald (k := 0) d_8062_144 rfl rfl k10 ?_
  refine zlw_8_726 rfl d_8062_145 ?_
  refine zu_stk d_8062_148 rfl rfl ?_
  refine zu_ifeq (t := 156) d_8062_149 rfl (fun c11 => ?_) (fun c11 => ?_)
  · have h := h.1 c11
    exact (u_X9_variable_156 hB h).weak ⟨rfl, rfl, rfl, rfl, trivial⟩
  · have h := h.2 c11
    exact (u_X9_variable_152 hB h).weak ⟨rfl, rfl, rfl, rfl, trivial⟩
def w_X9_variable (X : zs_X) (d : Nat) (p0 : Nat) (p1 : Int32) (p2 : Int32) (S : zs_T) (Q : zs_Q) : Prop :=
  (zs_K S p0 = some (.inl 8) ∧ ∃ b2, (zs_R S 8024 p0) = some b2 ∧ zs_A S b2 1 p1 ∧ ((¬ (zs_i S b2 p1.toNatClampNeg) = (4 : Int32) → (∃ b6, (zs_R S 8101 p0) = some b6 ∧ zs_A S b6 0 (zs_I S 8113 p0) ∧ ∃ b9, (zs_R S 8028 p0) = some b9 ∧ zs_A S b9 0 p1 ∧ zs_A S b6 0 ((zs_i S b9 p1.toNatClampNeg) >>> ((16 : Int32) &&& 31)) ∧ w_X9_variable_119 X d p0 p1 p2 (zs_I S 8040 p0) ((zs_i S b6 (zs_I S 8113 p0).toNatClampNeg) - (zs_i S b6 ((zs_i S b9 p1.toNatClampNeg) >>> ((16 : Int32) &&& 31)).toNatClampNeg)) S Q)) ∧ (¬ (¬ (zs_i S b2 p1.toNatClampNeg) = (4 : Int32)) → (∃ b13, (zs_R S 8101 p0) = some b13 ∧ zs_A S b13 0 (zs_I S 8113 p0) ∧ ∃ b16, (zs_R S 8028 p0) = some b16 ∧ zs_A S b16 0 p1 ∧ zs_A S b13 0 (zs_i S b16 p1.toNatClampNeg) ∧ w_X9_variable_38 X d p0 p1 p2 (zs_I S 8040 p0) ((zs_i S b13 (zs_I S 8113 p0).toNatClampNeg) - (zs_i S b13 (zs_i S b16 p1.toNatClampNeg).toNatClampNeg)) S Q))))
theorem u_X9_variable {σ : Nat → Nat} {n0 : Nat} {bf : ab_B} {d : Nat} {p0 : Nat} {p1 : Int32} {p2 : Int32} {S : zs_T} {Q : zs_Q} (hB : zt_B bf) (hd : 1 ≤ d) (h : w_X9_variable (zx σ n0 bf) (d - 1) p0 p1 p2 S Q) : zs_C (zx σ n0 bf) d 8062 [.ref p0, .int p1, .int p2] S Q := by
  have hL : lv_args 0 [.ref p0, .int p1, .int p2] = [(0, .ref p0), (1, .int p1), (2, .int p2)] := rfl
  refine zs_C.of1 (hB.2 8062 (by decide) (by decide)) hd (by rw [hL]; exact zs_sub_self _ (by exact ⟨rfl, rfl, rfl, trivial⟩)) ?_
  rw [hL]
  clear hL
  unfold w_X9_variable at h
  refine zu_aload_n d_8062_0 rfl (zs_ra _) ?_
  obtain ⟨k1, h⟩ := h
  refine zg_8_556 rfl d_8062_1 k1 ?_
  refine zu_istore_n d_8062_4 (zs_lt zq_8062 rfl) ?_
  refine zu_aload_n d_8062_5 rfl (zs_ra _) ?_
  refine zg_8_44 rfl d_8062_6 k1 ?_
  refine zu_iload_n d_8062_9 rfl ?_
  obtain ⟨b2, e3, h⟩ := h
  refine zs_stk1 (zs_rfe e3) ?_
  obtain ⟨k4, h⟩ := h
  refine zu_bald (k := 1) d_8062_10 rfl (Or.inl rfl) k4 ?_
  refine zu_iconst d_8062_11 zi_4 ?_
  refine zu_cmpne (t := 93) d_8062_12 rfl (fun c5 => ?_) (fun c5 => ?_)
  · have h := h.1 c5
    refine zu_aload_n d_8062_93 rfl (zs_ra _) ?_
    refine zg_8_218 rfl d_8062_94 k1 ?_
    refine zu_aload_n d_8062_97 rfl (zs_ra _) ?_
    refine zg_8_722 rfl d_8062_98 k1 ?_
    obtain ⟨b6, e7, h⟩ := h
    refine zs_stk1 (zs_rfe e7) ?_
    obtain ⟨k8, h⟩ := h
    refine zu_iald (k := 0) d_8062_101 rfl rfl k8 ?_
    refine zu_aload_n d_8062_102 rfl (zs_ra _) ?_
    refine zg_8_218 rfl d_8062_103 k1 ?_
    refine zu_aload_n d_8062_106 rfl (zs_ra _) ?_
    refine zg_8_56 rfl d_8062_107 k1 ?_
    refine zu_iload_n d_8062_110 rfl ?_
    obtain ⟨b9, e10, h⟩ := h
    refine zs_stk1 (zs_rfe e10) ?_
    obtain ⟨k11, h⟩ := h
    refine zu_iald (k := 0) d_8062_111 rfl rfl k11 ?_
    refine zu_bipush d_8062_112 zj_16 ?_
    refine zu_stk d_8062_114 rfl rfl ?_
    refine zs_stk1 (zs_rfe e7) ?_
    obtain ⟨k12, h⟩ := h
    refine zu_iald (k := 0) d_8062_115 rfl rfl k12 ?_
    refine zu_stk d_8062_116 rfl rfl ?_
    refine zu_istore d_8062_117 (zs_lt zq_8062 rfl) ?_
    exact (u_X9_variable_119 hB h).weak ⟨rfl, rfl, rfl, rfl, rfl, trivial⟩
  · have h := h.2 c5
    refine zu_aload_n d_8062_15 rfl (zs_ra _) ?_
    refine zg_8_218 rfl d_8062_16 k1 ?_
    refine zu_aload_n d_8062_19 rfl (zs_ra _) ?_
    refine zg_8_722 rfl d_8062_20 k1 ?_
    obtain ⟨b13, e14, h⟩ := h
    refine zs_stk1 (zs_rfe e14) ?_
    obtain ⟨k15, h⟩ := h
    refine zu_iald (k := 0) d_8062_23 rfl rfl k15 ?_
    refine zu_aload_n d_8062_24 rfl (zs_ra _) ?_
    refine zg_8_218 rfl d_8062_25 k1 ?_
    refine zu_aload_n d_8062_28 rfl (zs_ra _) ?_
    refine zg_8_56 rfl d_8062_29 k1 ?_
    refine zu_iload_n d_8062_32 rfl ?_
    obtain ⟨b16, e17, h⟩ := h
    refine zs_stk1 (zs_rfe e17) ?_
    obtain ⟨k18, h⟩ := h
    refine zu_iald (k := 0) d_8062_33 rfl rfl k18 ?_
    refine zs_stk1 (zs_rfe e14) ?_
    obtain ⟨k19, h⟩ := h
    refine zu_iald (k := 0) d_8062_34 rfl rfl k19 ?_
    refine zu_stk d_8062_35 rfl rfl ?_
    refine zu_istore d_8062_36 (zs_lt zq_8062 rfl) ?_
    exact (u_X9_variable_38 hB h).weak ⟨rfl, rfl, rfl, rfl, rfl, trivial⟩
/-! SchemaPascalModel.call(IIZ)V -/
theorem zm_8063 {σ : Nat → Nat} {n0 : Nat} {bf : ab_B} : ab_code (zx σ n0 bf).1 8063 = prog_17_method_78_code := rfl
theorem zq_8063 {σ : Nat → Nat} {n0 : Nat} {bf : ab_B} : ab_maxL (zx σ n0 bf).1 8063 = 6 := rfl
theorem zr_8063 {σ : Nat → Nat} {n0 : Nat} {bf : ab_B} : ab_ret (zx σ n0 bf).1 8063 = (Option.none : Option Jvm.ClassFile.FieldType) := rfl
theorem d_8063_0 {σ : Nat → Nat} {n0 : Nat} {bf : ab_B} : decode (ab_code (zx σ n0 bf).1 8063) 0 = .ok (.aload_n 0, 1) := zd zm_8063 (by decide +kernel)
theorem d_8063_1 {σ : Nat → Nat} {n0 : Nat} {bf : ab_B} : decode (ab_code (zx σ n0 bf).1 8063) 1 = .ok (.getfield 224, 3) := zd zm_8063 (by decide +kernel)
theorem d_8063_4 {σ : Nat → Nat} {n0 : Nat} {bf : ab_B} : decode (ab_code (zx σ n0 bf).1 8063) 4 = .ok (.iload_n 1, 1) := zd zm_8063 (by decide +kernel)
theorem d_8063_5 {σ : Nat → Nat} {n0 : Nat} {bf : ab_B} : decode (ab_code (zx σ n0 bf).1 8063) 5 = .ok (.iaload, 1) := zd zm_8063 (by decide +kernel)
theorem d_8063_6 {σ : Nat → Nat} {n0 : Nat} {bf : ab_B} : decode (ab_code (zx σ n0 bf).1 8063) 6 = .ok (.istore 4, 2) := zd zm_8063 (by decide +kernel)
theorem d_8063_8 {σ : Nat → Nat} {n0 : Nat} {bf : ab_B} : decode (ab_code (zx σ n0 bf).1 8063) 8 = .ok (.iload 4, 2) := zd zm_8063 (by decide +kernel)
theorem d_8063_10 {σ : Nat → Nat} {n0 : Nat} {bf : ab_B} : decode (ab_code (zx σ n0 bf).1 8063) 10 = .ok (.ifCond .ne 45, 3) := zd zm_8063 (by decide +kernel)
theorem d_8063_13 {σ : Nat → Nat} {n0 : Nat} {bf : ab_B} : decode (ab_code (zx σ n0 bf).1 8063) 13 = .ok (.iload_n 3, 1) := zd zm_8063 (by decide +kernel)
theorem d_8063_14 {σ : Nat → Nat} {n0 : Nat} {bf : ab_B} : decode (ab_code (zx σ n0 bf).1 8063) 14 = .ok (.ifCond .eq 25, 3) := zd zm_8063 (by decide +kernel)
theorem d_8063_17 {σ : Nat → Nat} {n0 : Nat} {bf : ab_B} : decode (ab_code (zx σ n0 bf).1 8063) 17 = .ok (.aload_n 0, 1) := zd zm_8063 (by decide +kernel)
theorem d_8063_18 {σ : Nat → Nat} {n0 : Nat} {bf : ab_B} : decode (ab_code (zx σ n0 bf).1 8063) 18 = .ok (.aload_n 0, 1) := zd zm_8063 (by decide +kernel)
theorem d_8063_19 {σ : Nat → Nat} {n0 : Nat} {bf : ab_B} : decode (ab_code (zx σ n0 bf).1 8063) 19 = .ok (.getfield 215, 3) := zd zm_8063 (by decide +kernel)
theorem d_8063_22 {σ : Nat → Nat} {n0 : Nat} {bf : ab_B} : decode (ab_code (zx σ n0 bf).1 8063) 22 = .ok (.iload_n 1, 1) := zd zm_8063 (by decide +kernel)
theorem d_8063_23 {σ : Nat → Nat} {n0 : Nat} {bf : ab_B} : decode (ab_code (zx σ n0 bf).1 8063) 23 = .ok (.iaload, 1) := zd zm_8063 (by decide +kernel)
theorem d_8063_24 {σ : Nat → Nat} {n0 : Nat} {bf : ab_B} : decode (ab_code (zx σ n0 bf).1 8063) 24 = .ok (.iconst 0, 1) := zd zm_8063 (by decide +kernel)
theorem d_8063_25 {σ : Nat → Nat} {n0 : Nat} {bf : ab_B} : decode (ab_code (zx σ n0 bf).1 8063) 25 = .ok (.iconst 0, 1) := zd zm_8063 (by decide +kernel)
theorem d_8063_26 {σ : Nat → Nat} {n0 : Nat} {bf : ab_B} : decode (ab_code (zx σ n0 bf).1 8063) 26 = .ok (.bipush 8, 2) := zd zm_8063 (by decide +kernel)
theorem d_8063_28 {σ : Nat → Nat} {n0 : Nat} {bf : ab_B} : decode (ab_code (zx σ n0 bf).1 8063) 28 = .ok (.aload_n 0, 1) := zd zm_8063 (by decide +kernel)
theorem d_8063_29 {σ : Nat → Nat} {n0 : Nat} {bf : ab_B} : decode (ab_code (zx σ n0 bf).1 8063) 29 = .ok (.getfield 556, 3) := zd zm_8063 (by decide +kernel)
theorem d_8063_32 {σ : Nat → Nat} {n0 : Nat} {bf : ab_B} : decode (ab_code (zx σ n0 bf).1 8063) 32 = .ok (.iload_n 2, 1) := zd zm_8063 (by decide +kernel)
theorem d_8063_33 {σ : Nat → Nat} {n0 : Nat} {bf : ab_B} : decode (ab_code (zx σ n0 bf).1 8063) 33 = .ok (.invokevirtual 699, 3) := zd zm_8063 (by decide +kernel)
theorem d_8063_36 {σ : Nat → Nat} {n0 : Nat} {bf : ab_B} : decode (ab_code (zx σ n0 bf).1 8063) 36 = .ok (.goto 7, 3) := zd zm_8063 (by decide +kernel)
theorem d_8063_39 {σ : Nat → Nat} {n0 : Nat} {bf : ab_B} : decode (ab_code (zx σ n0 bf).1 8063) 39 = .ok (.aload_n 0, 1) := zd zm_8063 (by decide +kernel)
theorem d_8063_40 {σ : Nat → Nat} {n0 : Nat} {bf : ab_B} : decode (ab_code (zx σ n0 bf).1 8063) 40 = .ok (.invokevirtual 749, 3) := zd zm_8063 (by decide +kernel)
theorem d_8063_43 {σ : Nat → Nat} {n0 : Nat} {bf : ab_B} : decode (ab_code (zx σ n0 bf).1 8063) 43 = .ok (.aload_n 0, 1) := zd zm_8063 (by decide +kernel)
theorem d_8063_44 {σ : Nat → Nat} {n0 : Nat} {bf : ab_B} : decode (ab_code (zx σ n0 bf).1 8063) 44 = .ok (.bipush 60, 2) := zd zm_8063 (by decide +kernel)
theorem d_8063_46 {σ : Nat → Nat} {n0 : Nat} {bf : ab_B} : decode (ab_code (zx σ n0 bf).1 8063) 46 = .ok (.iload_n 1, 1) := zd zm_8063 (by decide +kernel)
theorem d_8063_47 {σ : Nat → Nat} {n0 : Nat} {bf : ab_B} : decode (ab_code (zx σ n0 bf).1 8063) 47 = .ok (.iconst 0, 1) := zd zm_8063 (by decide +kernel)
theorem d_8063_48 {σ : Nat → Nat} {n0 : Nat} {bf : ab_B} : decode (ab_code (zx σ n0 bf).1 8063) 48 = .ok (.iload_n 2, 1) := zd zm_8063 (by decide +kernel)
theorem d_8063_49 {σ : Nat → Nat} {n0 : Nat} {bf : ab_B} : decode (ab_code (zx σ n0 bf).1 8063) 49 = .ok (.invokevirtual 656, 3) := zd zm_8063 (by decide +kernel)
theorem d_8063_52 {σ : Nat → Nat} {n0 : Nat} {bf : ab_B} : decode (ab_code (zx σ n0 bf).1 8063) 52 = .ok (.istore 5, 2) := zd zm_8063 (by decide +kernel)
theorem d_8063_54 {σ : Nat → Nat} {n0 : Nat} {bf : ab_B} : decode (ab_code (zx σ n0 bf).1 8063) 54 = .ok (.return_, 1) := zd zm_8063 (by decide +kernel)
theorem d_8063_55 {σ : Nat → Nat} {n0 : Nat} {bf : ab_B} : decode (ab_code (zx σ n0 bf).1 8063) 55 = .ok (.aload_n 0, 1) := zd zm_8063 (by decide +kernel)
theorem d_8063_56 {σ : Nat → Nat} {n0 : Nat} {bf : ab_B} : decode (ab_code (zx σ n0 bf).1 8063) 56 = .ok (.bipush 8, 2) := zd zm_8063 (by decide +kernel)
theorem d_8063_58 {σ : Nat → Nat} {n0 : Nat} {bf : ab_B} : decode (ab_code (zx σ n0 bf).1 8063) 58 = .ok (.invokevirtual 535, 3) := zd zm_8063 (by decide +kernel)
theorem d_8063_61 {σ : Nat → Nat} {n0 : Nat} {bf : ab_B} : decode (ab_code (zx σ n0 bf).1 8063) 61 = .ok (.ifCond .ne 9, 3) := zd zm_8063 (by decide +kernel)
theorem d_8063_64 {σ : Nat → Nat} {n0 : Nat} {bf : ab_B} : decode (ab_code (zx σ n0 bf).1 8063) 64 = .ok (.aload_n 0, 1) := zd zm_8063 (by decide +kernel)
theorem d_8063_65 {σ : Nat → Nat} {n0 : Nat} {bf : ab_B} : decode (ab_code (zx σ n0 bf).1 8063) 65 = .ok (.iconst 5, 1) := zd zm_8063 (by decide +kernel)
theorem d_8063_66 {σ : Nat → Nat} {n0 : Nat} {bf : ab_B} : decode (ab_code (zx σ n0 bf).1 8063) 66 = .ok (.invokevirtual 541, 3) := zd zm_8063 (by decide +kernel)
theorem d_8063_69 {σ : Nat → Nat} {n0 : Nat} {bf : ab_B} : decode (ab_code (zx σ n0 bf).1 8063) 69 = .ok (.return_, 1) := zd zm_8063 (by decide +kernel)
theorem d_8063_70 {σ : Nat → Nat} {n0 : Nat} {bf : ab_B} : decode (ab_code (zx σ n0 bf).1 8063) 70 = .ok (.aload_n 0, 1) := zd zm_8063 (by decide +kernel)
theorem d_8063_71 {σ : Nat → Nat} {n0 : Nat} {bf : ab_B} : decode (ab_code (zx σ n0 bf).1 8063) 71 = .ok (.getfield 556, 3) := zd zm_8063 (by decide +kernel)
theorem d_8063_74 {σ : Nat → Nat} {n0 : Nat} {bf : ab_B} : decode (ab_code (zx σ n0 bf).1 8063) 74 = .ok (.istore 5, 2) := zd zm_8063 (by decide +kernel)
theorem d_8063_76 {σ : Nat → Nat} {n0 : Nat} {bf : ab_B} : decode (ab_code (zx σ n0 bf).1 8063) 76 = .ok (.aload_n 0, 1) := zd zm_8063 (by decide +kernel)
theorem d_8063_77 {σ : Nat → Nat} {n0 : Nat} {bf : ab_B} : decode (ab_code (zx σ n0 bf).1 8063) 77 = .ok (.bipush 21, 2) := zd zm_8063 (by decide +kernel)
theorem d_8063_79 {σ : Nat → Nat} {n0 : Nat} {bf : ab_B} : decode (ab_code (zx σ n0 bf).1 8063) 79 = .ok (.iload_n 1, 1) := zd zm_8063 (by decide +kernel)
theorem d_8063_80 {σ : Nat → Nat} {n0 : Nat} {bf : ab_B} : decode (ab_code (zx σ n0 bf).1 8063) 80 = .ok (.iload_n 2, 1) := zd zm_8063 (by decide +kernel)
theorem d_8063_81 {σ : Nat → Nat} {n0 : Nat} {bf : ab_B} : decode (ab_code (zx σ n0 bf).1 8063) 81 = .ok (.iload_n 3, 1) := zd zm_8063 (by decide +kernel)
theorem d_8063_82 {σ : Nat → Nat} {n0 : Nat} {bf : ab_B} : decode (ab_code (zx σ n0 bf).1 8063) 82 = .ok (.ifCond .eq 10, 3) := zd zm_8063 (by decide +kernel)
theorem d_8063_85 {σ : Nat → Nat} {n0 : Nat} {bf : ab_B} : decode (ab_code (zx σ n0 bf).1 8063) 85 = .ok (.iload 5, 2) := zd zm_8063 (by decide +kernel)
theorem d_8063_87 {σ : Nat → Nat} {n0 : Nat} {bf : ab_B} : decode (ab_code (zx σ n0 bf).1 8063) 87 = .ok (.iconst 1, 1) := zd zm_8063 (by decide +kernel)
theorem d_8063_88 {σ : Nat → Nat} {n0 : Nat} {bf : ab_B} : decode (ab_code (zx σ n0 bf).1 8063) 88 = .ok (.iadd, 1) := zd zm_8063 (by decide +kernel)
theorem d_8063_89 {σ : Nat → Nat} {n0 : Nat} {bf : ab_B} : decode (ab_code (zx σ n0 bf).1 8063) 89 = .ok (.goto 4, 3) := zd zm_8063 (by decide +kernel)
theorem d_8063_92 {σ : Nat → Nat} {n0 : Nat} {bf : ab_B} : decode (ab_code (zx σ n0 bf).1 8063) 92 = .ok (.iconst 0, 1) := zd zm_8063 (by decide +kernel)
theorem d_8063_93 {σ : Nat → Nat} {n0 : Nat} {bf : ab_B} : decode (ab_code (zx σ n0 bf).1 8063) 93 = .ok (.invokevirtual 649, 3) := zd zm_8063 (by decide +kernel)
theorem d_8063_96 {σ : Nat → Nat} {n0 : Nat} {bf : ab_B} : decode (ab_code (zx σ n0 bf).1 8063) 96 = .ok (.aload_n 0, 1) := zd zm_8063 (by decide +kernel)
theorem d_8063_97 {σ : Nat → Nat} {n0 : Nat} {bf : ab_B} : decode (ab_code (zx σ n0 bf).1 8063) 97 = .ok (.invokevirtual 706, 3) := zd zm_8063 (by decide +kernel)
theorem d_8063_100 {σ : Nat → Nat} {n0 : Nat} {bf : ab_B} : decode (ab_code (zx σ n0 bf).1 8063) 100 = .ok (.aload_n 0, 1) := zd zm_8063 (by decide +kernel)
theorem d_8063_101 {σ : Nat → Nat} {n0 : Nat} {bf : ab_B} : decode (ab_code (zx σ n0 bf).1 8063) 101 = .ok (.bipush 20, 2) := zd zm_8063 (by decide +kernel)
theorem d_8063_103 {σ : Nat → Nat} {n0 : Nat} {bf : ab_B} : decode (ab_code (zx σ n0 bf).1 8063) 103 = .ok (.iload_n 1, 1) := zd zm_8063 (by decide +kernel)
theorem d_8063_104 {σ : Nat → Nat} {n0 : Nat} {bf : ab_B} : decode (ab_code (zx σ n0 bf).1 8063) 104 = .ok (.iconst 0, 1) := zd zm_8063 (by decide +kernel)
theorem d_8063_105 {σ : Nat → Nat} {n0 : Nat} {bf : ab_B} : decode (ab_code (zx σ n0 bf).1 8063) 105 = .ok (.iload_n 2, 1) := zd zm_8063 (by decide +kernel)
theorem d_8063_106 {σ : Nat → Nat} {n0 : Nat} {bf : ab_B} : decode (ab_code (zx σ n0 bf).1 8063) 106 = .ok (.invokevirtual 649, 3) := zd zm_8063 (by decide +kernel)
theorem d_8063_109 {σ : Nat → Nat} {n0 : Nat} {bf : ab_B} : decode (ab_code (zx σ n0 bf).1 8063) 109 = .ok (.aload_n 0, 1) := zd zm_8063 (by decide +kernel)
theorem d_8063_110 {σ : Nat → Nat} {n0 : Nat} {bf : ab_B} : decode (ab_code (zx σ n0 bf).1 8063) 110 = .ok (.iconst 2, 1) := zd zm_8063 (by decide +kernel)
theorem d_8063_111 {σ : Nat → Nat} {n0 : Nat} {bf : ab_B} : decode (ab_code (zx σ n0 bf).1 8063) 111 = .ok (.iconst 0, 1) := zd zm_8063 (by decide +kernel)
theorem d_8063_112 {σ : Nat → Nat} {n0 : Nat} {bf : ab_B} : decode (ab_code (zx σ n0 bf).1 8063) 112 = .ok (.iconst 0, 1) := zd zm_8063 (by decide +kernel)
theorem d_8063_113 {σ : Nat → Nat} {n0 : Nat} {bf : ab_B} : decode (ab_code (zx σ n0 bf).1 8063) 113 = .ok (.iconst 0, 1) := zd zm_8063 (by decide +kernel)
theorem d_8063_114 {σ : Nat → Nat} {n0 : Nat} {bf : ab_B} : decode (ab_code (zx σ n0 bf).1 8063) 114 = .ok (.invokevirtual 649, 3) := zd zm_8063 (by decide +kernel)
theorem d_8063_117 {σ : Nat → Nat} {n0 : Nat} {bf : ab_B} : decode (ab_code (zx σ n0 bf).1 8063) 117 = .ok (.aload_n 0, 1) := zd zm_8063 (by decide +kernel)
theorem d_8063_118 {σ : Nat → Nat} {n0 : Nat} {bf : ab_B} : decode (ab_code (zx σ n0 bf).1 8063) 118 = .ok (.invokevirtual 538, 3) := zd zm_8063 (by decide +kernel)
theorem d_8063_121 {σ : Nat → Nat} {n0 : Nat} {bf : ab_B} : decode (ab_code (zx σ n0 bf).1 8063) 121 = .ok (.return_, 1) := zd zm_8063 (by decide +kernel)
def w_X9_call_43 (X : zs_X) (d : Nat) (p0 : Nat) (p1 : Int32) (p2 : Int32) (S : zs_T) (Q : zs_Q) : Prop :=
  (zs_K S p0 = some (.inl 8) ∧ zs_C X d 8012 [.ref p0, .int (60 : Int32), .int p1, .int (0 : Int32), .int p2] S (zs_kI (fun v3 S2 => (Q (.returned none) S2)) Q))
theorem u_X9_call_43 {σ : Nat → Nat} {n0 : Nat} {bf : ab_B} {d : Nat} {p0 : Nat} {p1 : Int32} {p2 : Int32} {S : zs_T} {Q : zs_Q} (hB : zt_B bf) (h : w_X9_call_43 (zx σ n0 bf) d p0 p1 p2 S Q) : zs_U (zx σ n0 bf) d 8063 43 [(0, .ref p0), (1, .int p1), (2, .int p2)] [] S Q := by
  unfold w_X9_call_43 at h
  refine zu_aload_n d_8063_43 rfl (zs_ra _) ?_
  refine zu_bipush d_8063_44 zj_60 ?_
  refine zu_iload_n d_8063_46 rfl ?_
  refine zu_iconst d_8063_47 zi_0 ?_
  refine zu_iload_n d_8063_48 rfl ?_
  obtain ⟨k1, h⟩ := h
  refine zc_8_656 (x0 := (60 : Int32)) (x1 := p1) (x2 := (0 : Int32)) (x3 := p2) hB rfl k1 d_8063_49 (Nat.le_of_ble_eq_true rfl) h (fun v3 S2 h => ?_)
  refine zu_istore d_8063_52 (zs_lt zq_8063 rfl) ?_
  exact zu_vret d_8063_54 zr_8063 h
def w_X9_call_36 (X : zs_X) (d : Nat) (p0 : Nat) (p1 : Int32) (p2 : Int32) (S : zs_T) (Q : zs_Q) : Prop :=
  (w_X9_call_43 X d p0 p1 p2 S Q)
theorem u_X9_call_36 {σ : Nat → Nat} {n0 : Nat} {bf : ab_B} {d : Nat} {p0 : Nat} {p1 : Int32} {p2 : Int32} {S : zs_T} {Q : zs_Q} (hB : zt_B bf) (h : w_X9_call_36 (zx σ n0 bf) d p0 p1 p2 S Q) : zs_U (zx σ n0 bf) d 8063 36 [(0, .ref p0), (1, .int p1), (2, .int p2)] [] S Q := by
  unfold w_X9_call_36 at h
  refine zu_goto (t := 43) d_8063_36 rfl ?_
  exact (u_X9_call_43 hB h).weak ⟨rfl, rfl, rfl, trivial⟩
def w_X9_call_121 (X : zs_X) (d : Nat)  (S : zs_T) (Q : zs_Q) : Prop :=
  (Q (.returned none) S)
theorem u_X9_call_121 {σ : Nat → Nat} {n0 : Nat} {bf : ab_B} {d : Nat}  {S : zs_T} {Q : zs_Q} (hB : zt_B bf) (h : w_X9_call_121 (zx σ n0 bf) d  S Q) : zs_U (zx σ n0 bf) d 8063 121 [] [] S Q := by
  unfold w_X9_call_121 at h
  exact zu_vret d_8063_121 zr_8063 h
def w_X9_call_93 (X : zs_X) (d : Nat) (p0 : Nat) (p1 : Int32) (p2 : Int32) (q0 : Option Nat) (q1 : Int32) (q2 : Int32) (q3 : Int32) (q4 : Int32) (S : zs_T) (Q : zs_Q) : Prop :=
  (∃ b1, q0 = some b1 ∧ zs_K S b1 = some (.inl 8) ∧ zs_C X d 8030 [.ref b1, .int q1, .int q2, .int q3, .int q4] S (zs_kV (fun S4 => (zs_K S4 p0 = some (.inl 8) ∧ zs_C X d 8060 [.ref p0] S4 (zs_kV (fun S7 => (zs_K S7 p0 = some (.inl 8) ∧ zs_C X d 8030 [.ref p0, .int (20 : Int32), .int p1, .int (0 : Int32), .int p2] S7 (zs_kV (fun S10 => (zs_K S10 p0 = some (.inl 8) ∧ zs_C X d 8030 [.ref p0, .int (2 : Int32), .int (0 : Int32), .int (0 : Int32), .int (0 : Int32)] S10 (zs_kV (fun S13 => (zs_K S13 p0 = some (.inl 8) ∧ zs_C X d 8014 [.ref p0] S13 (zs_kV (fun S16 => w_X9_call_121 X d  S16 Q) Q))) Q))) Q))) Q))) Q))
theorem u_X9_call_93 {σ : Nat → Nat} {n0 : Nat} {bf : ab_B} {d : Nat} {p0 : Nat} {p1 : Int32} {p2 : Int32} {q0 : Option Nat} {q1 : Int32} {q2 : Int32} {q3 : Int32} {q4 : Int32} {S : zs_T} {Q : zs_Q} (hB : zt_B bf) (h : w_X9_call_93 (zx σ n0 bf) d p0 p1 p2 q0 q1 q2 q3 q4 S Q) : zs_U (zx σ n0 bf) d 8063 93 [(0, .ref p0), (1, .int p1), (2, .int p2)] [.int q4, .int q3, .int q2, .int q1, va_rf q0] S Q := by
  unfold w_X9_call_93 at h
  obtain ⟨b1, e2, h⟩ := h
  refine zs_stk4 (zs_rfe e2) ?_
  obtain ⟨k3, h⟩ := h
  refine zc_8_649 (x0 := q1) (x1 := q2) (x2 := q3) (x3 := q4) hB rfl k3 d_8063_93 (Nat.le_of_ble_eq_true rfl) h (fun S4 h => ?_)
  refine zu_aload_n d_8063_96 rfl (zs_ra _) ?_
  obtain ⟨k6, h⟩ := h
  refine zc_8_706  hB rfl k6 d_8063_97 (Nat.le_of_ble_eq_true rfl) h (fun S7 h => ?_)
  refine zu_aload_n d_8063_100 rfl (zs_ra _) ?_
  refine zu_bipush d_8063_101 zj_20 ?_
  refine zu_iload_n d_8063_103 rfl ?_
  refine zu_iconst d_8063_104 zi_0 ?_
  refine zu_iload_n d_8063_105 rfl ?_
  obtain ⟨k9, h⟩ := h
  refine zc_8_649 (x0 := (20 : Int32)) (x1 := p1) (x2 := (0 : Int32)) (x3 := p2) hB rfl k9 d_8063_106 (Nat.le_of_ble_eq_true rfl) h (fun S10 h => ?_)
  refine zu_aload_n d_8063_109 rfl (zs_ra _) ?_
  refine zu_iconst d_8063_110 zi_2 ?_
  refine zu_iconst d_8063_111 zi_0 ?_
  refine zu_iconst d_8063_112 zi_0 ?_
  refine zu_iconst d_8063_113 zi_0 ?_
  obtain ⟨k12, h⟩ := h
  refine zc_8_649 (x0 := (2 : Int32)) (x1 := (0 : Int32)) (x2 := (0 : Int32)) (x3 := (0 : Int32)) hB rfl k12 d_8063_114 (Nat.le_of_ble_eq_true rfl) h (fun S13 h => ?_)
  refine zu_aload_n d_8063_117 rfl (zs_ra _) ?_
  obtain ⟨k15, h⟩ := h
  refine zc_8_538  hB rfl k15 d_8063_118 (Nat.le_of_ble_eq_true rfl) h (fun S16 h => ?_)
  exact (u_X9_call_121 hB h).weak trivial
def w_X9_call (X : zs_X) (d : Nat) (p0 : Nat) (p1 : Int32) (p2 : Int32) (p3 : Int32) (S : zs_T) (Q : zs_Q) : Prop :=
  (zs_K S p0 = some (.inl 8) ∧ ∃ b2, (zs_R S 8103 p0) = some b2 ∧ zs_A S b2 0 p1 ∧ ((¬ (zs_i S b2 p1.toNatClampNeg) = 0 → (zs_C X d 8029 [.ref p0, .int (8 : Int32)] S (zs_kI (fun v7 S6 => (((¬ v7 = 0 → (zs_K S6 p0 = some (.inl 8) ∧ ((p3 = 0 → (w_X9_call_93 X d p0 p1 p2 (some p0) (21 : Int32) p1 p2 (0 : Int32) S6 Q)) ∧ (¬ (p3 = 0) → (w_X9_call_93 X d p0 p1 p2 (some p0) (21 : Int32) p1 p2 ((zs_I S6 8040 p0) + (1 : Int32)) S6 Q))))) ∧ (¬ (¬ v7 = 0) → (zs_K S6 p0 = some (.inl 8) ∧ zs_C X d 8027 [.ref p0, .int (5 : Int32)] S6 (zs_kV (fun S12 => (Q (.returned none) S12)) Q)))))) Q))) ∧ (¬ (¬ (zs_i S b2 p1.toNatClampNeg) = 0) → (((p3 = 0 → (zs_C X d 8064 [.ref p0] S (zs_kV (fun S15 => w_X9_call_43 X d p0 p1 p2 S15 Q) Q))) ∧ (¬ (p3 = 0) → (∃ b17, (zs_R S 8100 p0) = some b17 ∧ zs_A S b17 0 p1 ∧ zs_C X d 8058 [.ref p0, .int (zs_i S b17 p1.toNatClampNeg), .int (0 : Int32), .int (0 : Int32), .int (8 : Int32), .int (zs_I S 8040 p0), .int p2] S (zs_kV (fun S20 => w_X9_call_36 X d p0 p1 p2 S20 Q) Q))))))))
theorem u_X9_call {σ : Nat → Nat} {n0 : Nat} {bf : ab_B} {d : Nat} {p0 : Nat} {p1 : Int32} {p2 : Int32} {p3 : Int32} {S : zs_T} {Q : zs_Q} (hB : zt_B bf) (hd : 1 ≤ d) (h : w_X9_call (zx σ n0 bf) (d - 1) p0 p1 p2 p3 S Q) : zs_C (zx σ n0 bf) d 8063 [.ref p0, .int p1, .int p2, .int p3] S Q := by
  have hL : lv_args 0 [.ref p0, .int p1, .int p2, .int p3] = [(0, .ref p0), (1, .int p1), (2, .int p2), (3, .int p3)] := rfl
  refine zs_C.of1 (hB.2 8063 (by decide) (by decide)) hd (by rw [hL]; exact zs_sub_self _ (by exact ⟨rfl, rfl, rfl, rfl, trivial⟩)) ?_
  rw [hL]
  clear hL
  unfold w_X9_call at h
  refine zu_aload_n d_8063_0 rfl (zs_ra _) ?_
  obtain ⟨k1, h⟩ := h
  refine zg_8_224 rfl d_8063_1 k1 ?_
  refine zu_iload_n d_8063_4 rfl ?_
  obtain ⟨b2, e3, h⟩ := h
  refine zs_stk1 (zs_rfe e3) ?_
  obtain ⟨k4, h⟩ := h
  refine zu_iald (k := 0) d_8063_5 rfl rfl k4 ?_
  refine zu_istore d_8063_6 (zs_lt zq_8063 rfl) ?_
  refine zu_iload d_8063_8 rfl ?_
  refine zu_ifne (t := 55) d_8063_10 rfl (fun c5 => ?_) (fun c5 => ?_)
  · have h := h.1 c5
    refine zu_aload_n d_8063_55 rfl (zs_ra _) ?_
    refine zu_bipush d_8063_56 zj_8 ?_
    refine zc_8_535 (x0 := (8 : Int32)) hB rfl k1 d_8063_58 (Nat.le_of_ble_eq_true rfl) h (fun v7 S6 h => ?_)
    refine zu_ifne (t := 70) d_8063_61 rfl (fun c8 => ?_) (fun c8 => ?_)
    · have h := h.1 c8
      refine zu_aload_n d_8063_70 rfl (zs_ra _) ?_
      obtain ⟨k9, h⟩ := h
      refine zg_8_556 rfl d_8063_71 k9 ?_
      refine zu_istore d_8063_74 (zs_lt zq_8063 rfl) ?_
      refine zu_aload_n d_8063_76 rfl (zs_ra _) ?_
      refine zu_bipush d_8063_77 zj_21 ?_
      refine zu_iload_n d_8063_79 rfl ?_
      refine zu_iload_n d_8063_80 rfl ?_
      refine zu_iload_n d_8063_81 rfl ?_
      refine zu_ifeq (t := 92) d_8063_82 rfl (fun c10 => ?_) (fun c10 => ?_)
      · have h := h.1 c10
        refine zu_iconst d_8063_92 zi_0 ?_
        exact (u_X9_call_93 hB h).weak ⟨rfl, rfl, rfl, trivial⟩
      · have h := h.2 c10
        refine zu_iload d_8063_85 rfl ?_
        refine zu_iconst d_8063_87 zi_1 ?_
        refine zu_stk d_8063_88 rfl rfl ?_
        refine zu_goto (t := 93) d_8063_89 rfl ?_
        exact (u_X9_call_93 hB h).weak ⟨rfl, rfl, rfl, trivial⟩
    · have h := h.2 c8
      refine zu_aload_n d_8063_64 rfl (zs_ra _) ?_
      refine zu_iconst d_8063_65 zi_5 ?_
      obtain ⟨k11, h⟩ := h
      refine zc_8_541 (x0 := (5 : Int32)) hB rfl k11 d_8063_66 (Nat.le_of_ble_eq_true rfl) h (fun S12 h => ?_)
      exact zu_vret d_8063_69 zr_8063 h
  · have h := h.2 c5
    refine zu_iload_n d_8063_13 rfl ?_
    refine zu_ifeq (t := 39) d_8063_14 rfl (fun c14 => ?_) (fun c14 => ?_)
    · have h := h.1 c14
      refine zu_aload_n d_8063_39 rfl (zs_ra _) ?_
      refine zc_8_749  hB rfl k1 d_8063_40 (Nat.le_of_ble_eq_true rfl) h (fun S15 h => ?_)
      exact (u_X9_call_43 hB h).weak ⟨rfl, rfl, rfl, trivial⟩
    · have h := h.2 c14
      refine zu_aload_n d_8063_17 rfl (zs_ra _) ?_
      refine zu_aload_n d_8063_18 rfl (zs_ra _) ?_
      refine zg_8_215 rfl d_8063_19 k1 ?_
      refine zu_iload_n d_8063_22 rfl ?_
      obtain ⟨b17, e18, h⟩ := h
      refine zs_stk1 (zs_rfe e18) ?_
      obtain ⟨k19, h⟩ := h
      refine zu_iald (k := 0) d_8063_23 rfl rfl k19 ?_
      refine zu_iconst d_8063_24 zi_0 ?_
      refine zu_iconst d_8063_25 zi_0 ?_
      refine zu_bipush d_8063_26 zj_8 ?_
      refine zu_aload_n d_8063_28 rfl (zs_ra _) ?_
      refine zg_8_556 rfl d_8063_29 k1 ?_
      refine zu_iload_n d_8063_32 rfl ?_
      refine zc_8_699 (x0 := (zs_i S b17 p1.toNatClampNeg)) (x1 := (0 : Int32)) (x2 := (0 : Int32)) (x3 := (8 : Int32)) (x4 := (zs_I S 8040 p0)) (x5 := p2) hB rfl k1 d_8063_33 (Nat.le_of_ble_eq_true rfl) h (fun S20 h => ?_)
      exact (u_X9_call_36 hB h).weak ⟨rfl, rfl, rfl, trivial⟩
/-! SchemaPascalModel.noBrackets()V -/
theorem zm_8064 {σ : Nat → Nat} {n0 : Nat} {bf : ab_B} : ab_code (zx σ n0 bf).1 8064 = prog_17_method_77_code := rfl
theorem zq_8064 {σ : Nat → Nat} {n0 : Nat} {bf : ab_B} : ab_maxL (zx σ n0 bf).1 8064 = 1 := rfl
theorem zr_8064 {σ : Nat → Nat} {n0 : Nat} {bf : ab_B} : ab_ret (zx σ n0 bf).1 8064 = (Option.none : Option Jvm.ClassFile.FieldType) := rfl
theorem d_8064_0 {σ : Nat → Nat} {n0 : Nat} {bf : ab_B} : decode (ab_code (zx σ n0 bf).1 8064) 0 = .ok (.aload_n 0, 1) := zd zm_8064 (by decide +kernel)
theorem d_8064_1 {σ : Nat → Nat} {n0 : Nat} {bf : ab_B} : decode (ab_code (zx σ n0 bf).1 8064) 1 = .ok (.bipush 8, 2) := zd zm_8064 (by decide +kernel)
theorem d_8064_3 {σ : Nat → Nat} {n0 : Nat} {bf : ab_B} : decode (ab_code (zx σ n0 bf).1 8064) 3 = .ok (.invokevirtual 535, 3) := zd zm_8064 (by decide +kernel)
theorem d_8064_6 {σ : Nat → Nat} {n0 : Nat} {bf : ab_B} : decode (ab_code (zx σ n0 bf).1 8064) 6 = .ok (.ifCond .eq 8, 3) := zd zm_8064 (by decide +kernel)
theorem d_8064_9 {σ : Nat → Nat} {n0 : Nat} {bf : ab_B} : decode (ab_code (zx σ n0 bf).1 8064) 9 = .ok (.aload_n 0, 1) := zd zm_8064 (by decide +kernel)
theorem d_8064_10 {σ : Nat → Nat} {n0 : Nat} {bf : ab_B} : decode (ab_code (zx σ n0 bf).1 8064) 10 = .ok (.iconst 2, 1) := zd zm_8064 (by decide +kernel)
theorem d_8064_11 {σ : Nat → Nat} {n0 : Nat} {bf : ab_B} : decode (ab_code (zx σ n0 bf).1 8064) 11 = .ok (.invokevirtual 541, 3) := zd zm_8064 (by decide +kernel)
theorem d_8064_14 {σ : Nat → Nat} {n0 : Nat} {bf : ab_B} : decode (ab_code (zx σ n0 bf).1 8064) 14 = .ok (.return_, 1) := zd zm_8064 (by decide +kernel)
def w_X9_noBrackets (X : zs_X) (d : Nat) (p0 : Nat) (S : zs_T) (Q : zs_Q) : Prop :=
  (zs_K S p0 = some (.inl 8) ∧ zs_C X d 8029 [.ref p0, .int (8 : Int32)] S (zs_kI (fun v3 S2 => (((v3 = 0 → (Q (.returned none) S2)) ∧ (¬ (v3 = 0) → (zs_K S2 p0 = some (.inl 8) ∧ zs_C X d 8027 [.ref p0, .int (2 : Int32)] S2 (zs_kV (fun S6 => (Q (.returned none) S6)) Q)))))) Q))
theorem u_X9_noBrackets {σ : Nat → Nat} {n0 : Nat} {bf : ab_B} {d : Nat} {p0 : Nat} {S : zs_T} {Q : zs_Q} (hB : zt_B bf) (hd : 1 ≤ d) (h : w_X9_noBrackets (zx σ n0 bf) (d - 1) p0 S Q) : zs_C (zx σ n0 bf) d 8064 [.ref p0] S Q := by
  have hL : lv_args 0 [.ref p0] = [(0, .ref p0)] := rfl
  refine zs_C.of1 (hB.2 8064 (by decide) (by decide)) hd (by rw [hL]; exact zs_sub_self _ (by exact ⟨rfl, trivial⟩)) ?_
  rw [hL]
  clear hL
  unfold w_X9_noBrackets at h
  refine zu_aload_n d_8064_0 rfl (zs_ra _) ?_
  refine zu_bipush d_8064_1 zj_8 ?_
  obtain ⟨k1, h⟩ := h
  refine zc_8_535 (x0 := (8 : Int32)) hB rfl k1 d_8064_3 (Nat.le_of_ble_eq_true rfl) h (fun v3 S2 h => ?_)
  refine zu_ifeq (t := 14) d_8064_6 rfl (fun c4 => ?_) (fun c4 => ?_)
  · have h := h.1 c4
    exact zu_vret d_8064_14 zr_8064 h
  · have h := h.2 c4
    refine zu_aload_n d_8064_9 rfl (zs_ra _) ?_
    refine zu_iconst d_8064_10 zi_2 ?_
    obtain ⟨k5, h⟩ := h
    refine zc_8_541 (x0 := (2 : Int32)) hB rfl k5 d_8064_11 (Nat.le_of_ble_eq_true rfl) h (fun S6 h => ?_)
    exact zu_vret d_8064_14 zr_8064 h
