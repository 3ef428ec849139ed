/-! STEPS OVER THE TYPED STATE, 2: by instruction (printed by gen_usteps.py) -/
def zs_isr (v : Value) : Prop := v = .null ∨ ∃ a, v = .ref a
theorem zs_rr (o : Option Nat) : zs_isr (va_rf o) := by cases o with
  | none => exact Or.inl rfl
  | some a => exact Or.inr ⟨a, rfl⟩
theorem zs_ra (a : Nat) : zs_isr (.ref a) := Or.inr ⟨a, rfl⟩
theorem zs_r0 : zs_isr .null := Or.inl rfl
theorem zs_cat (o : Option Nat) : (va_rf o).category = 1 := by cases o <;> rfl
theorem zs_ro {v : Value} {o : Option Nat} (h : v = va_rf o) : ab_ro v = some o := by subst h; cases o <;> rfl
section ZU
variable {X : zs_X} {d y pc : Nat} {L : ab_L} {st r : List Value} {S : zs_T} {Q : zs_Q}
theorem zs_E_lo {i : Instr} {len pc1 : Nat} {lv lv1 : ab_L} {st1 : List Value} (hd : decode (ab_code X.1 y) pc = .ok (i, len)) (hi : ab_stk i = none) (hf : ab_loc (ab_maxL X.1 y) lv pc st len i = some (pc1, lv1, st1)) (kk : zs_E X d y pc1 lv1 st1 S Q) : zs_E X d y pc lv st S Q := zs_E_loc hd hi hf kk
theorem zu_stk {i : Instr} {k : Nat} {f : List Value → Option (List Value)} {st1 : List Value} (hd : decode (ab_code X.1 y) pc = .ok (i, k)) (hi : ab_stk i = some (k, f)) (hf : f st = some st1) (kk : zs_U X d y (pc + k) L st1 S Q) : zs_U X d y pc L st S Q := fun lv hl => zs_E_stk hd hi hf (kk lv hl)
theorem zu_iconst {n : Int} {v : Int32} (hd : decode (ab_code X.1 y) pc = .ok (.iconst n, 1)) (hv : Int32.ofInt n = v) (kk : zs_U X d y (pc + 1) L (.int v :: st) S Q) : zs_U X d y pc L st S Q := fun lv hl => zs_E_stk hd rfl (by subst hv; rfl) (kk lv hl)
theorem zu_bipush {n : Int} {v : Int32} (hd : decode (ab_code X.1 y) pc = .ok (.bipush n, 2)) (hv : (Int8.ofInt n).toInt32 = v) (kk : zs_U X d y (pc + 2) L (.int v :: st) S Q) : zs_U X d y pc L st S Q := fun lv hl => zs_E_stk hd rfl (by subst hv; rfl) (kk lv hl)
theorem zu_sipush {n : Int} {v : Int32} (hd : decode (ab_code X.1 y) pc = .ok (.sipush n, 3)) (hv : (Int16.ofInt n).toInt32 = v) (kk : zs_U X d y (pc + 3) L (.int v :: st) S Q) : zs_U X d y pc L st S Q := fun lv hl => zs_E_stk hd rfl (by subst hv; rfl) (kk lv hl)
theorem zu_lconst {n : Fin 2} {v : Int64} (hd : decode (ab_code X.1 y) pc = .ok (.lconst n, 1)) (hv : Int64.ofNat (n : Nat) = v) (kk : zs_U X d y (pc + 1) L (.long v :: st) S Q) : zs_U X d y pc L st S Q := fun lv hl => zs_E_stk hd rfl (by subst hv; rfl) (kk lv hl)
theorem zu_dup {v : Value} (hd : decode (ab_code X.1 y) pc = .ok (.dup, 1)) (hc : v.category = 1) (kk : zs_U X d y (pc + 1) L (v :: v :: r) S Q) : zs_U X d y pc L (v :: r) S Q := fun lv hl => zs_E_stk hd rfl (by simp [ab_s_dup, hc]) (kk lv hl)
theorem zu_pop {v : Value} (hd : decode (ab_code X.1 y) pc = .ok (.pop, 1)) (hc : v.category = 1) (kk : zs_U X d y (pc + 1) L r S Q) : zs_U X d y pc L (v :: r) S Q := fun lv hl => zs_E_stk hd rfl (by simp [ab_s_pop, hc]) (kk lv hl)
theorem zu_dup_x1 {v w : Value} (hd : decode (ab_code X.1 y) pc = .ok (.dup_x1, 1)) (hc : v.category = 1) (hw : w.category = 1) (kk : zs_U X d y (pc + 1) L (v :: w :: v :: r) S Q) : zs_U X d y pc L (v :: w :: r) S Q := fun lv hl => zs_E_stk hd rfl (by simp [ab_s_dup_x1, hc, hw]) (kk lv hl)
theorem zu_dup2 {v w : Value} (hd : decode (ab_code X.1 y) pc = .ok (.dup2, 1)) (hc : v.category = 1) (hw : w.category = 1) (kk : zs_U X d y (pc + 1) L (v :: w :: v :: w :: r) S Q) : zs_U X d y pc L (v :: w :: r) S Q := fun lv hl => zs_E_stk hd rfl (by simp [ab_s_dup2, hc, hw]) (kk lv hl)
theorem zu_pop2 {v : Value} (hd : decode (ab_code X.1 y) pc = .ok (.pop2, 1)) (hc : v.category = 2) (kk : zs_U X d y (pc + 1) L r S Q) : zs_U X d y pc L (v :: r) S Q := fun lv hl => zs_E_stk hd rfl (by simp [ab_s_pop2, hc]) (kk lv hl)
theorem zu_idiv {x z : Int32} (hd : decode (ab_code X.1 y) pc = .ok (.idiv, 1)) (hz : ¬ z = 0) (kk : zs_U X d y (pc + 1) L (.int (x / z) :: r) S Q) : zs_U X d y pc L (.int z :: .int x :: r) S Q := fun lv hl => zs_E_stk hd rfl (by simp [ab_s_idiv, hz]) (kk lv hl)
theorem zu_irem {x z : Int32} (hd : decode (ab_code X.1 y) pc = .ok (.irem, 1)) (hz : ¬ z = 0) (kk : zs_U X d y (pc + 1) L (.int (x - x / z * z) :: r) S Q) : zs_U X d y pc L (.int z :: .int x :: r) S Q := fun lv hl => zs_E_stk hd rfl (by simp [ab_s_irem, hz]) (kk lv hl)
theorem zu_ldiv {x z : Int64} (hd : decode (ab_code X.1 y) pc = .ok (.ldiv, 1)) (hz : ¬ z = 0) (kk : zs_U X d y (pc + 1) L (.long (x / z) :: r) S Q) : zs_U X d y pc L (.long z :: .long x :: r) S Q := fun lv hl => zs_E_stk hd rfl (by simp [ab_s_ldiv, hz]) (kk lv hl)
theorem zu_lrem {x z : Int64} (hd : decode (ab_code X.1 y) pc = .ok (.lrem, 1)) (hz : ¬ z = 0) (kk : zs_U X d y (pc + 1) L (.long (x - x / z * z) :: r) S Q) : zs_U X d y pc L (.long z :: .long x :: r) S Q := fun lv hl => zs_E_stk hd rfl (by simp [ab_s_lrem, hz]) (kk lv hl)
theorem zu_iload_n {k : Fin 4} {x : Int32} (hd : decode (ab_code X.1 y) pc = .ok (.iload_n k, 1)) (hg : ab_get L k.val = some (.int x)) (kk : zs_U X d y (pc + 1) L (.int x :: st) S Q) : zs_U X d y pc L st S Q := fun lv hl => zs_E_lo hd rfl (by simp only [ab_loc, zs_get hl hg]) (kk lv hl)
theorem zu_iload {k : Nat} {x : Int32} (hd : decode (ab_code X.1 y) pc = .ok (.iload k, 2)) (hg : ab_get L k = some (.int x)) (kk : zs_U X d y (pc + 2) L (.int x :: st) S Q) : zs_U X d y pc L st S Q := fun lv hl => zs_E_lo hd rfl (by simp only [ab_loc, zs_get hl hg]) (kk lv hl)
theorem zu_lload_n {k : Fin 4} {x : Int64} (hd : decode (ab_code X.1 y) pc = .ok (.lload_n k, 1)) (hg : ab_get L k.val = some (.long x)) (kk : zs_U X d y (pc + 1) L (.long x :: st) S Q) : zs_U X d y pc L st S Q := fun lv hl => zs_E_lo hd rfl (by simp only [ab_loc, zs_get hl hg]) (kk lv hl)
theorem zu_lload {k : Nat} {x : Int64} (hd : decode (ab_code X.1 y) pc = .ok (.lload k, 2)) (hg : ab_get L k = some (.long x)) (kk : zs_U X d y (pc + 2) L (.long x :: st) S Q) : zs_U X d y pc L st S Q := fun lv hl => zs_E_lo hd rfl (by simp only [ab_loc, zs_get hl hg]) (kk lv hl)
theorem zu_aload_n {k : Fin 4} {v : Value} (hd : decode (ab_code X.1 y) pc = .ok (.aload_n k, 1)) (hg : ab_get L k.val = some v) (hv : zs_isr v) (kk : zs_U X d y (pc + 1) L (v :: st) S Q) : zs_U X d y pc L st S Q := by
  intro lv hl
  have h1 := zs_get hl hg
  rcases hv with rfl | ⟨a, rfl⟩
  · exact zs_E_lo hd rfl (by simp only [ab_loc, h1]) (kk lv hl)
  · exact zs_E_lo hd rfl (by simp only [ab_loc, h1]) (kk lv hl)
theorem zu_istore_n {k : Fin 4} {x : Int32} (hd : decode (ab_code X.1 y) pc = .ok (.istore_n k, 1)) (hk : k.val < ab_maxL X.1 y) (kk : zs_U X d y (pc + 1) (ab_put1 L k.val (.int x)) r S Q) : zs_U X d y pc L (.int x :: r) S Q := fun lv hl => zs_E_lo hd rfl (by simp only [ab_loc]; exact if_pos hk) (kk _ (zs_in_put1 hl _ _))
theorem zu_lstore_n {k : Fin 4} {x : Int64} (hd : decode (ab_code X.1 y) pc = .ok (.lstore_n k, 1)) (hk : k.val + 1 < ab_maxL X.1 y) (kk : zs_U X d y (pc + 1) (ab_put2 L k.val (.long x)) r S Q) : zs_U X d y pc L (.long x :: r) S Q := fun lv hl => zs_E_lo hd rfl (by simp only [ab_loc]; exact if_pos hk) (kk _ (zs_in_put2 hl _ _))
theorem zu_astore_n {k : Fin 4} {v : Value} (hd : decode (ab_code X.1 y) pc = .ok (.astore_n k, 1)) (hv : zs_isr v) (hk : k.val < ab_maxL X.1 y) (kk : zs_U X d y (pc + 1) (ab_put1 L k.val v) r S Q) : zs_U X d y pc L (v :: r) S Q := by
  intro lv hl
  rcases hv with rfl | ⟨a, rfl⟩
  · exact zs_E_lo hd rfl (by simp only [ab_loc]; exact if_pos hk) (kk _ (zs_in_put1 hl _ _))
  · exact zs_E_lo hd rfl (by simp only [ab_loc]; exact if_pos hk) (kk _ (zs_in_put1 hl _ _))
theorem zu_aload {k : Nat} {v : Value} (hd : decode (ab_code X.1 y) pc = .ok (.aload k, 2)) (hg : ab_get L k = some v) (hv : zs_isr v) (kk : zs_U X d y (pc + 2) L (v :: st) S Q) : zs_U X d y pc L st S Q := by
  intro lv hl
  have h1 := zs_get hl hg
  rcases hv with rfl | ⟨a, rfl⟩
  · exact zs_E_lo hd rfl (by simp only [ab_loc, h1]) (kk lv hl)
  · exact zs_E_lo hd rfl (by simp only [ab_loc, h1]) (kk lv hl)
theorem zu_istore {k : Nat} {x : Int32} (hd : decode (ab_code X.1 y) pc = .ok (.istore k, 2)) (hk : k < ab_maxL X.1 y) (kk : zs_U X d y (pc + 2) (ab_put1 L k (.int x)) r S Q) : zs_U X d y pc L (.int x :: r) S Q := fun lv hl => zs_E_lo hd rfl (by simp only [ab_loc]; exact if_pos hk) (kk _ (zs_in_put1 hl _ _))
theorem zu_lstore {k : Nat} {x : Int64} (hd : decode (ab_code X.1 y) pc = .ok (.lstore k, 2)) (hk : k + 1 < ab_maxL X.1 y) (kk : zs_U X d y (pc + 2) (ab_put2 L k (.long x)) r S Q) : zs_U X d y pc L (.long x :: r) S Q := fun lv hl => zs_E_lo hd rfl (by simp only [ab_loc]; exact if_pos hk) (kk _ (zs_in_put2 hl _ _))
theorem zu_astore {k : Nat} {v : Value} (hd : decode (ab_code X.1 y) pc = .ok (.astore k, 2)) (hv : zs_isr v) (hk : k < ab_maxL X.1 y) (kk : zs_U X d y (pc + 2) (ab_put1 L k v) r S Q) : zs_U X d y pc L (v :: r) S Q := by
  intro lv hl
  rcases hv with rfl | ⟨a, rfl⟩
  · exact zs_E_lo hd rfl (by simp only [ab_loc]; exact if_pos hk) (kk _ (zs_in_put1 hl _ _))
  · exact zs_E_lo hd rfl (by simp only [ab_loc]; exact if_pos hk) (kk _ (zs_in_put1 hl _ _))
theorem zu_iinc {k : Nat} {n : Int} {x w : Int32} (hd : decode (ab_code X.1 y) pc = .ok (.iinc k n, 3)) (hg : ab_get L k = some (.int x)) (hw : Int32.ofInt n = w) (hk : k < ab_maxL X.1 y) (kk : zs_U X d y (pc + 3) (ab_put1 L k (.int (x + w))) st S Q) : zs_U X d y pc L st S Q := by
  intro lv hl
  subst hw
  exact zs_E_lo hd rfl (by simp only [ab_loc, zs_get hl hg]; exact if_pos hk) (kk _ (zs_in_put1 hl _ _))
theorem zs_to {lv : ab_L} {off : Int} {t : Nat} (ht : (pc : Int) + off = (t : Int)) (st : List Value) : ab_to pc off lv st = some (t, lv, st) := by
  unfold ab_to
  rw [ht]
  simp
theorem zu_goto {off : Int} {t : Nat} (hd : decode (ab_code X.1 y) pc = .ok (.goto off, 3)) (ht : (pc : Int) + off = (t : Int)) (kk : zs_U X d y t L st S Q) : zs_U X d y pc L st S Q := fun lv hl => zs_E_lo hd rfl (by simp only [ab_loc]; exact zs_to ht st) (kk lv hl)
theorem zs_brE {i : Instr} {b : Prop} [Decidable b] {off : Int} {t : Nat} {lv : ab_L} (hd : decode (ab_code X.1 y) pc = .ok (i, 3)) (hi : ab_stk i = none) (hb : ab_loc (ab_maxL X.1 y) lv pc st 3 i = ab_br b pc off lv r) (ht : (pc : Int) + off = (t : Int)) (k1 : b → zs_E X d y t lv r S Q) (k2 : ¬ b → zs_E X d y (pc + 3) lv r S Q) : zs_E X d y pc lv st S Q := by
  by_cases h : b
  · refine zs_E_loc (f := (t, lv, r)) hd hi ?_ (k1 h)
    rw [hb, ab_br, ht]
    simp [h]
  · refine zs_E_loc (f := (pc + 3, lv, r)) hd hi ?_ (k2 h)
    rw [hb, ab_br, ht]
    simp [h]
theorem zu_ifeq {x : Int32} {off : Int} {t : Nat} (hd : decode (ab_code X.1 y) pc = .ok (.ifCond .eq off, 3)) (ht : (pc : Int) + off = (t : Int)) (k1 : x = 0 → zs_U X d y t L r S Q) (k2 : ¬ (x = 0) → zs_U X d y (pc + 3) L r S Q) : zs_U X d y pc L (.int x :: r) S Q := fun lv hl => zs_brE hd rfl rfl ht (fun h => k1 h lv hl) (fun h => k2 h lv hl)
theorem zu_cmpeq {x z : Int32} {off : Int} {t : Nat} (hd : decode (ab_code X.1 y) pc = .ok (.if_icmp .eq off, 3)) (ht : (pc : Int) + off = (t : Int)) (k1 : x = z → zs_U X d y t L r S Q) (k2 : ¬ (x = z) → zs_U X d y (pc + 3) L r S Q) : zs_U X d y pc L (.int z :: .int x :: r) S Q := fun lv hl => zs_brE hd rfl rfl ht (fun h => k1 h lv hl) (fun h => k2 h lv hl)
theorem zu_ifne {x : Int32} {off : Int} {t : Nat} (hd : decode (ab_code X.1 y) pc = .ok (.ifCond .ne off, 3)) (ht : (pc : Int) + off = (t : Int)) (k1 : ¬ x = 0 → zs_U X d y t L r S Q) (k2 : ¬ (¬ x = 0) → zs_U X d y (pc + 3) L r S Q) : zs_U X d y pc L (.int x :: r) S Q := fun lv hl => zs_brE hd rfl rfl ht (fun h => k1 h lv hl) (fun h => k2 h lv hl)
theorem zu_cmpne {x z : Int32} {off : Int} {t : Nat} (hd : decode (ab_code X.1 y) pc = .ok (.if_icmp .ne off, 3)) (ht : (pc : Int) + off = (t : Int)) (k1 : ¬ x = z → zs_U X d y t L r S Q) (k2 : ¬ (¬ x = z) → zs_U X d y (pc + 3) L r S Q) : zs_U X d y pc L (.int z :: .int x :: r) S Q := fun lv hl => zs_brE hd rfl rfl ht (fun h => k1 h lv hl) (fun h => k2 h lv hl)
theorem zu_iflt {x : Int32} {off : Int} {t : Nat} (hd : decode (ab_code X.1 y) pc = .ok (.ifCond .lt off, 3)) (ht : (pc : Int) + off = (t : Int)) (k1 : x < 0 → zs_U X d y t L r S Q) (k2 : ¬ (x < 0) → zs_U X d y (pc + 3) L r S Q) : zs_U X d y pc L (.int x :: r) S Q := fun lv hl => zs_brE hd rfl rfl ht (fun h => k1 h lv hl) (fun h => k2 h lv hl)
theorem zu_cmplt {x z : Int32} {off : Int} {t : Nat} (hd : decode (ab_code X.1 y) pc = .ok (.if_icmp .lt off, 3)) (ht : (pc : Int) + off = (t : Int)) (k1 : x < z → zs_U X d y t L r S Q) (k2 : ¬ (x < z) → zs_U X d y (pc + 3) L r S Q) : zs_U X d y pc L (.int z :: .int x :: r) S Q := fun lv hl => zs_brE hd rfl rfl ht (fun h => k1 h lv hl) (fun h => k2 h lv hl)
theorem zu_ifge {x : Int32} {off : Int} {t : Nat} (hd : decode (ab_code X.1 y) pc = .ok (.ifCond .ge off, 3)) (ht : (pc : Int) + off = (t : Int)) (k1 : 0 ≤ x → zs_U X d y t L r S Q) (k2 : ¬ (0 ≤ x) → zs_U X d y (pc + 3) L r S Q) : zs_U X d y pc L (.int x :: r) S Q := fun lv hl => zs_brE hd rfl rfl ht (fun h => k1 h lv hl) (fun h => k2 h lv hl)
theorem zu_cmpge {x z : Int32} {off : Int} {t : Nat} (hd : decode (ab_code X.1 y) pc = .ok (.if_icmp .ge off, 3)) (ht : (pc : Int) + off = (t : Int)) (k1 : z ≤ x → zs_U X d y t L r S Q) (k2 : ¬ (z ≤ x) → zs_U X d y (pc + 3) L r S Q) : zs_U X d y pc L (.int z :: .int x :: r) S Q := fun lv hl => zs_brE hd rfl rfl ht (fun h => k1 h lv hl) (fun h => k2 h lv hl)
theorem zu_ifgt {x : Int32} {off : Int} {t : Nat} (hd : decode (ab_code X.1 y) pc = .ok (.ifCond .gt off, 3)) (ht : (pc : Int) + off = (t : Int)) (k1 : 0 < x → zs_U X d y t L r S Q) (k2 : ¬ (0 < x) → zs_U X d y (pc + 3) L r S Q) : zs_U X d y pc L (.int x :: r) S Q := fun lv hl => zs_brE hd rfl rfl ht (fun h => k1 h lv hl) (fun h => k2 h lv hl)
theorem zu_cmpgt {x z : Int32} {off : Int} {t : Nat} (hd : decode (ab_code X.1 y) pc = .ok (.if_icmp .gt off, 3)) (ht : (pc : Int) + off = (t : Int)) (k1 : z < x → zs_U X d y t L r S Q) (k2 : ¬ (z < x) → zs_U X d y (pc + 3) L r S Q) : zs_U X d y pc L (.int z :: .int x :: r) S Q := fun lv hl => zs_brE hd rfl rfl ht (fun h => k1 h lv hl) (fun h => k2 h lv hl)
theorem zu_ifle {x : Int32} {off : Int} {t : Nat} (hd : decode (ab_code X.1 y) pc = .ok (.ifCond .le off, 3)) (ht : (pc : Int) + off = (t : Int)) (k1 : x ≤ 0 → zs_U X d y t L r S Q) (k2 : ¬ (x ≤ 0) → zs_U X d y (pc + 3) L r S Q) : zs_U X d y pc L (.int x :: r) S Q := fun lv hl => zs_brE hd rfl rfl ht (fun h => k1 h lv hl) (fun h => k2 h lv hl)
theorem zu_cmple {x z : Int32} {off : Int} {t : Nat} (hd : decode (ab_code X.1 y) pc = .ok (.if_icmp .le off, 3)) (ht : (pc : Int) + off = (t : Int)) (k1 : x ≤ z → zs_U X d y t L r S Q) (k2 : ¬ (x ≤ z) → zs_U X d y (pc + 3) L r S Q) : zs_U X d y pc L (.int z :: .int x :: r) S Q := fun lv hl => zs_brE hd rfl rfl ht (fun h => k1 h lv hl) (fun h => k2 h lv hl)
theorem zu_acmpeq {vx vz : Value} {u w : Option Nat} {off : Int} {t : Nat} (hd : decode (ab_code X.1 y) pc = .ok (.if_acmp .eq off, 3)) (hx : vx = va_rf u) (hz : vz = va_rf w) (ht : (pc : Int) + off = (t : Int)) (k1 : u = w → zs_U X d y t L r S Q) (k2 : ¬ (u = w) → zs_U X d y (pc + 3) L r S Q) : zs_U X d y pc L (vz :: vx :: r) S Q := by
  intro lv hl
  refine zs_brE (b := u = w) hd rfl ?_ ht (fun h => k1 h lv hl) (fun h => k2 h lv hl)
  simp only [ab_loc, zs_ro hx, zs_ro hz]
theorem zu_acmpne {vx vz : Value} {u w : Option Nat} {off : Int} {t : Nat} (hd : decode (ab_code X.1 y) pc = .ok (.if_acmp .ne off, 3)) (hx : vx = va_rf u) (hz : vz = va_rf w) (ht : (pc : Int) + off = (t : Int)) (k1 : ¬ u = w → zs_U X d y t L r S Q) (k2 : ¬ (¬ u = w) → zs_U X d y (pc + 3) L r S Q) : zs_U X d y pc L (vz :: vx :: r) S Q := by
  intro lv hl
  refine zs_brE (b := ¬ u = w) hd rfl ?_ ht (fun h => k1 h lv hl) (fun h => k2 h lv hl)
  simp only [ab_loc, zs_ro hx, zs_ro hz]
theorem zu_ifnull {v : Value} {u : Option Nat} {off : Int} {t : Nat} (hd : decode (ab_code X.1 y) pc = .ok (.ifnull off, 3)) (hv : v = va_rf u) (ht : (pc : Int) + off = (t : Int)) (k1 : u = none → zs_U X d y t L r S Q) (k2 : ∀ a, u = some a → zs_U X d y (pc + 3) L r S Q) : zs_U X d y pc L (v :: r) S Q := by
  intro lv hl
  subst hv
  cases u with
  | none => exact zs_E_lo hd rfl (by simp only [ab_loc, va_rf]; exact zs_to ht r) (k1 rfl lv hl)
  | some a => exact zs_E_lo hd rfl (by simp only [ab_loc, va_rf]) (k2 a rfl lv hl)
theorem zu_ifnonnull {v : Value} {u : Option Nat} {off : Int} {t : Nat} (hd : decode (ab_code X.1 y) pc = .ok (.ifnonnull off, 3)) (hv : v = va_rf u) (ht : (pc : Int) + off = (t : Int)) (k1 : ∀ a, u = some a → zs_U X d y t L r S Q) (k2 : u = none → zs_U X d y (pc + 3) L r S Q) : zs_U X d y pc L (v :: r) S Q := by
  intro lv hl
  subst hv
  cases u with
  | none => exact zs_E_lo hd rfl (by simp only [ab_loc, va_rf]) (k2 rfl lv hl)
  | some a => exact zs_E_lo hd rfl (by simp only [ab_loc, va_rf]; exact zs_to ht r) (k1 a rfl lv hl)
theorem zs_lc (x z : Int64) : (lg_cmp x z = 0 ↔ x = z) ∧ (lg_cmp x z < 0 ↔ x < z) ∧ (0 ≤ lg_cmp x z ↔ z ≤ x) ∧ (0 < lg_cmp x z ↔ z < x) ∧ (lg_cmp x z ≤ 0 ↔ x ≤ z) := ⟨lg_cmp_eq x z, lg_cmp_lt x z, lg_cmp_ge x z, lg_cmp_gt x z, lg_cmp_le x z⟩
theorem zu_leq {x z : Int64} {off : Int} {t : Nat} (hd : decode (ab_code X.1 y) pc = .ok (.lcmp, 1)) (hd2 : decode (ab_code X.1 y) (pc + 1) = .ok (.ifCond .eq off, 3)) (ht : ((pc + 1 : Nat) : Int) + off = (t : Int)) (k1 : x = z → zs_U X d y t L r S Q) (k2 : ¬ (x = z) → zs_U X d y (pc + 4) L r S Q) : zs_U X d y pc L (.long z :: .long x :: r) S Q :=
  zu_stk hd rfl rfl (zu_ifeq hd2 ht (fun h => k1 (((zs_lc x z).1).mp h)) (fun h => k2 (fun h9 => h (((zs_lc x z).1).mpr h9))))
theorem zu_lne {x z : Int64} {off : Int} {t : Nat} (hd : decode (ab_code X.1 y) pc = .ok (.lcmp, 1)) (hd2 : decode (ab_code X.1 y) (pc + 1) = .ok (.ifCond .ne off, 3)) (ht : ((pc + 1 : Nat) : Int) + off = (t : Int)) (k1 : ¬ x = z → zs_U X d y t L r S Q) (k2 : ¬ (¬ x = z) → zs_U X d y (pc + 4) L r S Q) : zs_U X d y pc L (.long z :: .long x :: r) S Q :=
  zu_stk hd rfl rfl (zu_ifne hd2 ht (fun h => k1 ((not_congr (zs_lc x z).1).mp h)) (fun h => k2 (fun h9 => h ((not_congr (zs_lc x z).1).mpr h9))))
theorem zu_llt {x z : Int64} {off : Int} {t : Nat} (hd : decode (ab_code X.1 y) pc = .ok (.lcmp, 1)) (hd2 : decode (ab_code X.1 y) (pc + 1) = .ok (.ifCond .lt off, 3)) (ht : ((pc + 1 : Nat) : Int) + off = (t : Int)) (k1 : x < z → zs_U X d y t L r S Q) (k2 : ¬ (x < z) → zs_U X d y (pc + 4) L r S Q) : zs_U X d y pc L (.long z :: .long x :: r) S Q :=
  zu_stk hd rfl rfl (zu_iflt hd2 ht (fun h => k1 (((zs_lc x z).2.1).mp h)) (fun h => k2 (fun h9 => h (((zs_lc x z).2.1).mpr h9))))
theorem zu_lge {x z : Int64} {off : Int} {t : Nat} (hd : decode (ab_code X.1 y) pc = .ok (.lcmp, 1)) (hd2 : decode (ab_code X.1 y) (pc + 1) = .ok (.ifCond .ge off, 3)) (ht : ((pc + 1 : Nat) : Int) + off = (t : Int)) (k1 : z ≤ x → zs_U X d y t L r S Q) (k2 : ¬ (z ≤ x) → zs_U X d y (pc + 4) L r S Q) : zs_U X d y pc L (.long z :: .long x :: r) S Q :=
  zu_stk hd rfl rfl (zu_ifge hd2 ht (fun h => k1 (((zs_lc x z).2.2.1).mp h)) (fun h => k2 (fun h9 => h (((zs_lc x z).2.2.1).mpr h9))))
theorem zu_lgt {x z : Int64} {off : Int} {t : Nat} (hd : decode (ab_code X.1 y) pc = .ok (.lcmp, 1)) (hd2 : decode (ab_code X.1 y) (pc + 1) = .ok (.ifCond .gt off, 3)) (ht : ((pc + 1 : Nat) : Int) + off = (t : Int)) (k1 : z < x → zs_U X d y t L r S Q) (k2 : ¬ (z < x) → zs_U X d y (pc + 4) L r S Q) : zs_U X d y pc L (.long z :: .long x :: r) S Q :=
  zu_stk hd rfl rfl (zu_ifgt hd2 ht (fun h => k1 (((zs_lc x z).2.2.2.1).mp h)) (fun h => k2 (fun h9 => h (((zs_lc x z).2.2.2.1).mpr h9))))
theorem zu_lle {x z : Int64} {off : Int} {t : Nat} (hd : decode (ab_code X.1 y) pc = .ok (.lcmp, 1)) (hd2 : decode (ab_code X.1 y) (pc + 1) = .ok (.ifCond .le off, 3)) (ht : ((pc + 1 : Nat) : Int) + off = (t : Int)) (k1 : x ≤ z → zs_U X d y t L r S Q) (k2 : ¬ (x ≤ z) → zs_U X d y (pc + 4) L r S Q) : zs_U X d y pc L (.long z :: .long x :: r) S Q :=
  zu_stk hd rfl rfl (zu_ifle hd2 ht (fun h => k1 (((zs_lc x z).2.2.2.2).mp h)) (fun h => k2 (fun h9 => h (((zs_lc x z).2.2.2.2).mpr h9))))
def zs_sw (U : Nat → Prop) (x : Int) (pc : Nat) : Int → List Int → Prop
  | _, [] => True
  | lo, off :: l => (x = lo → 0 ≤ (pc : Int) + off ∧ U ((pc : Int) + off).toNat) ∧ zs_sw U x pc (lo + 1) l
theorem zs_sw_at {U : Nat → Prop} {x : Int} {pc : Nat} : ∀ (l : List Int) (lo : Int), zs_sw U x pc lo l → ∀ (j : Nat) (off : Int), l[j]? = some off → x = lo + j → 0 ≤ (pc : Int) + off ∧ U ((pc : Int) + off).toNat
  | [], _, _, j, off, h, _ => by simp at h
  | a :: l, lo, hs, 0, off, h, e => by
    simp only [List.getElem?_cons_zero, Option.some.injEq] at h
    subst h
    exact hs.1 (by omega)
  | a :: l, lo, hs, j + 1, off, h, e => by
    simp only [List.getElem?_cons_succ] at h
    exact zs_sw_at l (lo + 1) hs.2 j off h (by omega)
theorem zu_tsw {x : Int32} {dflt lo hi : Int} {offs : Array Int} {len td : Nat} (hd : decode (ab_code X.1 y) pc = .ok (.tableswitch dflt lo hi offs, len)) (hn : hi - lo + 1 = (offs.size : Int)) (ht : (pc : Int) + dflt = (td : Int)) (kd : x.toInt < lo ∨ hi < x.toInt → zs_U X d y td L r S Q) (ks : zs_sw (fun t => zs_U X d y t L r S Q) x.toInt pc lo offs.toList) : zs_U X d y pc L (.int x :: r) S Q := by
  intro lv hl
  by_cases h : x.toInt < lo ∨ hi < x.toInt
  · exact zs_E_loc (f := (td, lv, r)) hd rfl (by simp only [ab_loc]; rw [if_pos h]; exact zs_to ht r) (kd h lv hl)
  · have h1 : (x.toInt - lo).toNat < offs.size := by omega
    obtain ⟨h2, h3⟩ := zs_sw_at offs.toList lo ks (x.toInt - lo).toNat offs[(x.toInt - lo).toNat] (by rw [Array.getElem?_toList]; exact Array.getElem?_eq_getElem h1) (by omega)
    refine zs_E_loc (f := (_, lv, r)) hd rfl ?_ (h3 lv hl)
    simp only [ab_loc]
    rw [if_neg h, Array.getElem?_eq_getElem h1]
    exact zs_to (Int.toNat_of_nonneg h2).symm r
theorem zu_lsw {x : Int32} {dflt : Int} {ps : Array (Int × Int)} {len : Nat} (hd : decode (ab_code X.1 y) pc = .ok (.lookupswitch dflt ps, len)) (hs : (ps.toList.zip (ps.toList.drop 1)).all (fun (a, next) => a.1 < next.1) = true) (kk : 0 ≤ (pc : Int) + Op.lookupswitch.offset ps.toList dflt x.toInt ∧ zs_U X d y ((pc : Int) + Op.lookupswitch.offset ps.toList dflt x.toInt).toNat L r S Q) : zs_U X d y pc L (.int x :: r) S Q := by
  intro lv hl
  refine zs_E_loc (f := (_, lv, r)) hd rfl ?_ (kk.2 lv hl)
  simp only [ab_loc]
  rw [if_pos hs]
  exact zs_to (Int.toNat_of_nonneg kk.1).symm r
theorem zu_getI {idx c k f a : Nat} {ty : FieldType} (hd : decode (ab_code X.1 y) pc = .ok (.getfield idx, 3)) (hf : ab_fg X.1 y idx = some (c, k)) (ht : (X.2.2.1 c)[k]? = some ty) (h0 : zs_tag ty = 0) (he : 1000 * c + k = f) (hk : zs_K S a = some (.inl c)) (kk : zs_U X d y (pc + 3) L (.int (zs_I S f a) :: r) S Q) : zs_U X d y pc L (.ref a :: r) S Q := by
  intro lv hl
  subst he
  obtain ⟨fs, e1, e2, -⟩ := zs_h_fld (G := X.2.2) hk ht
  rw [h0] at e2
  refine zs_E_hp (S2 := S) (dc := 0) (ds := 0) hd rfl rfl ?_ rfl rfl (kk lv hl)
  simp only [ab_hp, ab_h_getf, hf, e1, e2, if_true]
  rfl
theorem zu_getJ {idx c k f a : Nat} {ty : FieldType} (hd : decode (ab_code X.1 y) pc = .ok (.getfield idx, 3)) (hf : ab_fg X.1 y idx = some (c, k)) (ht : (X.2.2.1 c)[k]? = some ty) (h0 : zs_tag ty = 1) (he : 1000 * c + k = f) (hk : zs_K S a = some (.inl c)) (kk : zs_U X d y (pc + 3) L (.long (zs_J S f a) :: r) S Q) : zs_U X d y pc L (.ref a :: r) S Q := by
  intro lv hl
  subst he
  obtain ⟨fs, e1, e2, -⟩ := zs_h_fld (G := X.2.2) hk ht
  rw [h0] at e2
  refine zs_E_hp (S2 := S) (dc := 0) (ds := 0) hd rfl rfl ?_ rfl rfl (kk lv hl)
  simp only [ab_hp, ab_h_getf, hf, e1, e2, if_true]
  rfl
theorem zu_getR {idx c k f a : Nat} {ty : FieldType} (hd : decode (ab_code X.1 y) pc = .ok (.getfield idx, 3)) (hf : ab_fg X.1 y idx = some (c, k)) (ht : (X.2.2.1 c)[k]? = some ty) (h0 : zs_tag ty = 2) (he : 1000 * c + k = f) (hk : zs_K S a = some (.inl c)) (kk : zs_U X d y (pc + 3) L (va_rf (zs_R S f a) :: r) S Q) : zs_U X d y pc L (.ref a :: r) S Q := by
  intro lv hl
  subst he
  obtain ⟨fs, e1, e2, -⟩ := zs_h_fld (G := X.2.2) hk ht
  rw [h0] at e2
  refine zs_E_hp (S2 := S) (dc := 0) (ds := 0) hd rfl rfl ?_ rfl rfl (kk lv hl)
  simp only [ab_hp, ab_h_getf, hf, e1, e2, if_true]
  rfl
theorem zu_putI {idx c k f a : Nat} {ty : FieldType} {fin : Bool} {v : Int32} (hd : decode (ab_code X.1 y) pc = .ok (.putfield idx, 3)) (hf : ab_fp X.1 y idx = some (c, k, ty, fin)) (ht : (X.2.2.1 c)[k]? = some ty) (h0 : zs_tag ty = 0) (he : 1000 * c + k = f) (hk : zs_K S a = some (.inl c)) (hn : ab_n0 X.1 ≤ a) (hv : narrow ty (.int v) = .int v ∧ fits ty (.int v) = true) (kk : zs_U X d y (pc + 3) L r (zs_sI S f a v) Q) : zs_U X d y pc L (.int v :: .ref a :: r) S Q := by
  intro lv hl
  subst he
  obtain ⟨fs, e1, -, e3⟩ := zs_h_fld (G := X.2.2) hk ht
  refine zs_E_hp (S2 := zs_sI S (1000 * c + k) a v) (dc := 0) (ds := 0) hd rfl rfl ?_ rfl rfl (kk lv hl)
  simp only [ab_hp, ab_h_putf, hf, e1]
  rw [if_pos trivial, if_pos ⟨trivial, hn, hv.1, hv.2, e3⟩, zs_h_sI hk ht h0 e1]
  rfl
theorem zu_putJ {idx c k f a : Nat} {ty : FieldType} {fin : Bool} {v : Int64} (hd : decode (ab_code X.1 y) pc = .ok (.putfield idx, 3)) (hf : ab_fp X.1 y idx = some (c, k, ty, fin)) (ht : (X.2.2.1 c)[k]? = some ty) (h0 : zs_tag ty = 1) (he : 1000 * c + k = f) (hk : zs_K S a = some (.inl c)) (hn : ab_n0 X.1 ≤ a) (hv : narrow ty (.long v) = .long v ∧ fits ty (.long v) = true) (kk : zs_U X d y (pc + 3) L r (zs_sJ S f a v) Q) : zs_U X d y pc L (.long v :: .ref a :: r) S Q := by
  intro lv hl
  subst he
  obtain ⟨fs, e1, -, e3⟩ := zs_h_fld (G := X.2.2) hk ht
  refine zs_E_hp (S2 := zs_sJ S (1000 * c + k) a v) (dc := 0) (ds := 0) hd rfl rfl ?_ rfl rfl (kk lv hl)
  simp only [ab_hp, ab_h_putf, hf, e1]
  rw [if_pos trivial, if_pos ⟨trivial, hn, hv.1, hv.2, e3⟩, zs_h_sJ hk ht h0 e1]
  rfl
theorem zu_putR {idx c k f a : Nat} {ty : FieldType} {fin : Bool} {v : Option Nat} (hd : decode (ab_code X.1 y) pc = .ok (.putfield idx, 3)) (hf : ab_fp X.1 y idx = some (c, k, ty, fin)) (ht : (X.2.2.1 c)[k]? = some ty) (h0 : zs_tag ty = 2) (he : 1000 * c + k = f) (hk : zs_K S a = some (.inl c)) (hn : ab_n0 X.1 ≤ a) (hv : narrow ty (va_rf v) = va_rf v ∧ fits ty (va_rf v) = true) (kk : zs_U X d y (pc + 3) L r (zs_sR S f a v) Q) : zs_U X d y pc L (va_rf v :: .ref a :: r) S Q := by
  intro lv hl
  subst he
  obtain ⟨fs, e1, -, e3⟩ := zs_h_fld (G := X.2.2) hk ht
  refine zs_E_hp (S2 := zs_sR S (1000 * c + k) a v) (dc := 0) (ds := 0) hd rfl rfl ?_ rfl rfl (kk lv hl)
  simp only [ab_hp, ab_h_putf, hf, e1]
  rw [if_pos trivial, if_pos ⟨trivial, hn, hv.1, hv.2, e3⟩, zs_h_sR hk ht h0 e1]
  rfl
/-- an index within an array -/
def zs_A (S : zs_T) (a k : Nat) (i : Int32) : Prop := ∃ n, zs_K S a = some (.inr (k, n)) ∧ 0 ≤ i ∧ i.toNatClampNeg < n
theorem zu_alen {a k n : Nat} (hd : decode (ab_code X.1 y) pc = .ok (.arraylength, 1)) (hk : zs_K S a = some (.inr (k, n))) (hn : k < (ab_ak X.1).length) (kk : zs_U X d y (pc + 1) L (.int (Int32.ofNat n) :: r) S Q) : zs_U X d y pc L (.ref a :: r) S Q := by
  intro lv hl
  refine zs_E_hp (S2 := S) (dc := 0) (ds := 0) hd rfl rfl ?_ rfl rfl (kk lv hl)
  simp only [ab_hp, ab_h_alen, zs_h_at (G := X.2.2) hk, zs_e, List.getElem?_eq_getElem hn, if_true]
theorem zu_iald {a k : Nat} {i : Int32} (hd : decode (ab_code X.1 y) pc = .ok (.iaload, 1)) (hG : zs_tag (X.2.2.2.getD k .int) = 0) (hty : (ab_ak X.1)[k]? = some .int) (ha : zs_A S a k i) (kk : zs_U X d y (pc + 1) L (.int (zs_i S a i.toNatClampNeg) :: r) S Q) : zs_U X d y pc L (.int i :: .ref a :: r) S Q := by
  intro lv hl
  obtain ⟨n, hk, h1, h2⟩ := ha
  refine zs_E_hp (S2 := S) (dc := 0) (ds := 0) hd rfl rfl ?_ rfl rfl (kk lv hl)
  simp only [ab_hp, ab_h_iald, zs_h_at (G := X.2.2) hk, zs_e, hG, zs_c, if_true]
  rw [if_pos ⟨hty, h1, h2⟩]
theorem zu_bald {a k : Nat} {i : Int32} (hd : decode (ab_code X.1 y) pc = .ok (.baload, 1)) (hG : zs_tag (X.2.2.2.getD k .int) = 0) (hty : ((ab_ak X.1)[k]? = some .byte ∨ (ab_ak X.1)[k]? = some .boolean)) (ha : zs_A S a k i) (kk : zs_U X d y (pc + 1) L (.int (zs_i S a i.toNatClampNeg) :: r) S Q) : zs_U X d y pc L (.int i :: .ref a :: r) S Q := by
  intro lv hl
  obtain ⟨n, hk, h1, h2⟩ := ha
  refine zs_E_hp (S2 := S) (dc := 0) (ds := 0) hd rfl rfl ?_ rfl rfl (kk lv hl)
  simp only [ab_hp, ab_h_bald, zs_h_at (G := X.2.2) hk, zs_e, hG, zs_c, if_true]
  rw [if_pos ⟨hty, h1, h2⟩]
theorem zu_lald {a k : Nat} {i : Int32} (hd : decode (ab_code X.1 y) pc = .ok (.laload, 1)) (hG : zs_tag (X.2.2.2.getD k .int) = 1) (hty : (ab_ak X.1)[k]? = some .long) (ha : zs_A S a k i) (kk : zs_U X d y (pc + 1) L (.long (zs_j S a i.toNatClampNeg) :: r) S Q) : zs_U X d y pc L (.int i :: .ref a :: r) S Q := by
  intro lv hl
  obtain ⟨n, hk, h1, h2⟩ := ha
  refine zs_E_hp (S2 := S) (dc := 0) (ds := 0) hd rfl rfl ?_ rfl rfl (kk lv hl)
  simp only [ab_hp, ab_h_lald, zs_h_at (G := X.2.2) hk, zs_e, hG, zs_c, if_true]
  rw [if_pos ⟨hty, h1, h2⟩]
theorem zu_aald {a k : Nat} {i : Int32} {C : String} (hd : decode (ab_code X.1 y) pc = .ok (.aaload, 1)) (hG : zs_tag (X.2.2.2.getD k .int) = 2) (hty : (ab_ak X.1)[k]? = some (.object C)) (ha : zs_A S a k i) (kk : zs_U X d y (pc + 1) L (va_rf (zs_r S a i.toNatClampNeg) :: r) S Q) : zs_U X d y pc L (.int i :: .ref a :: r) S Q := by
  intro lv hl
  obtain ⟨n, hk, h1, h2⟩ := ha
  refine zs_E_hp (S2 := S) (dc := 0) (ds := 0) hd rfl rfl ?_ rfl rfl (kk lv hl)
  simp only [ab_hp, ab_h_aald, zs_h_at (G := X.2.2) hk, zs_e, hG, zs_c, hty, if_true]
  rw [if_pos ⟨h1, h2⟩]
theorem zu_iast {a k : Nat} {i v : Int32} (hd : decode (ab_code X.1 y) pc = .ok (.iastore, 1)) (hG : zs_tag (X.2.2.2.getD k .int) = 0) (hty : (ab_ak X.1)[k]? = some .int) (hn : ab_n0 X.1 ≤ a) (ha : zs_A S a k i) (kk : zs_U X d y (pc + 1) L r (zs_si S a i.toNatClampNeg v) Q) : zs_U X d y pc L (.int v :: .int i :: .ref a :: r) S Q := by
  intro lv hl
  obtain ⟨n, hk, h1, h2⟩ := ha
  refine zs_E_hp (S2 := zs_si S a i.toNatClampNeg v) (dc := 0) (ds := 0) hd rfl rfl ?_ rfl rfl (kk lv hl)
  simp only [ab_hp, ab_h_iast, zs_h_at (G := X.2.2) hk, zs_e, hG, zs_c, if_true]
  rw [if_pos ⟨hty, hn, h1, h2⟩, zs_h_si hk hG rfl]
  rfl
theorem zu_bast_byte {a k : Nat} {i v : Int32} (hd : decode (ab_code X.1 y) pc = .ok (.bastore, 1)) (hG : zs_tag (X.2.2.2.getD k .int) = 0) (hty : (ab_ak X.1)[k]? = some .byte) (hn : ab_n0 X.1 ≤ a) (ha : zs_A S a k i) (kk : zs_U X d y (pc + 1) L r (zs_si S a i.toNatClampNeg (vp_nar .byte v)) Q) : zs_U X d y pc L (.int v :: .int i :: .ref a :: r) S Q := by
  intro lv hl
  obtain ⟨n, hk, h1, h2⟩ := ha
  refine zs_E_hp (S2 := zs_si S a i.toNatClampNeg (vp_nar .byte v)) (dc := 0) (ds := 0) hd rfl rfl ?_ rfl rfl (kk lv hl)
  simp only [ab_hp, ab_h_bast, zs_h_at (G := X.2.2) hk, zs_e, hG, zs_c, if_true, hty]
  simp only [reduceCtorEq, Option.some.injEq, false_and, if_false, true_and, hn, h1, h2, and_self, if_true]
  rw [zs_h_si hk hG rfl]
  rfl
theorem zu_bast_bool {a k : Nat} {i v : Int32} (hd : decode (ab_code X.1 y) pc = .ok (.bastore, 1)) (hG : zs_tag (X.2.2.2.getD k .int) = 0) (hty : (ab_ak X.1)[k]? = some .boolean) (hn : ab_n0 X.1 ≤ a) (ha : zs_A S a k i) (kk : zs_U X d y (pc + 1) L r (zs_si S a i.toNatClampNeg (vp_nar .boolean v)) Q) : zs_U X d y pc L (.int v :: .int i :: .ref a :: r) S Q := by
  intro lv hl
  obtain ⟨n, hk, h1, h2⟩ := ha
  refine zs_E_hp (S2 := zs_si S a i.toNatClampNeg (vp_nar .boolean v)) (dc := 0) (ds := 0) hd rfl rfl ?_ rfl rfl (kk lv hl)
  simp only [ab_hp, ab_h_bast, zs_h_at (G := X.2.2) hk, zs_e, hG, zs_c, if_true, hty]
  simp only [reduceCtorEq, Option.some.injEq, false_and, if_false, true_and, hn, h1, h2, and_self, if_true]
  rw [zs_h_si hk hG rfl]
  rfl
theorem zu_last {a k : Nat} {i : Int32} {v : Int64} (hd : decode (ab_code X.1 y) pc = .ok (.lastore, 1)) (hG : zs_tag (X.2.2.2.getD k .int) = 1) (hty : (ab_ak X.1)[k]? = some .long) (hn : ab_n0 X.1 ≤ a) (ha : zs_A S a k i) (kk : zs_U X d y (pc + 1) L r (zs_sj S a i.toNatClampNeg v) Q) : zs_U X d y pc L (.long v :: .int i :: .ref a :: r) S Q := by
  intro lv hl
  obtain ⟨n, hk, h1, h2⟩ := ha
  refine zs_E_hp (S2 := zs_sj S a i.toNatClampNeg v) (dc := 0) (ds := 0) hd rfl rfl ?_ rfl rfl (kk lv hl)
  simp only [ab_hp, ab_h_last, zs_h_at (G := X.2.2) hk, zs_e, hG, zs_c, if_true]
  rw [if_pos ⟨hty, hn, h1, h2⟩, zs_h_sj hk hG rfl]
  rfl
theorem zu_aast {a k v ci : Nat} {i : Int32} {C : String} (hd : decode (ab_code X.1 y) pc = .ok (.aastore, 1)) (hG : zs_tag (X.2.2.2.getD k .int) = 2) (hcs : ab_cs X.1 k ci = true) (hv : zs_K S v = some (.inl ci)) (hn : ab_n0 X.1 ≤ a) (ha : zs_A S a k i) (kk : zs_U X d y (pc + 1) L r (zs_sr S a i.toNatClampNeg (some v)) Q) : zs_U X d y pc L (.ref v :: .int i :: .ref a :: r) S Q := by
  intro lv hl
  obtain ⟨n, hk, h1, h2⟩ := ha
  refine zs_E_hp (S2 := zs_sr S a i.toNatClampNeg (some v)) (dc := 0) (ds := 0) hd rfl rfl ?_ rfl rfl (kk lv hl)
  simp only [ab_hp, ab_h_aast, zs_h_at (G := X.2.2) hk, zs_h_at (G := X.2.2) hv, zs_e, hG, zs_c, if_true]
  rw [if_pos ⟨hcs, hn, h1, h2⟩, zs_h_sr hk hG rfl]
  rfl
theorem zu_new {idx c : Nat} {fs : List Value} (hd : decode (ab_code X.1 y) pc = .ok (.new idx, 3)) (hf : ab_nw X.1 y idx = some (c, fs)) (hfs : fs = (X.2.2.1 c).map defaultValue) (htg : ∀ t ∈ X.2.2.1 c, defaultValue t = zs_v (zs_nw S (.inl c) fs.length) c (zs_N S) 0 (zs_tag t)) (kk : zs_U X d y (pc + 3) L (.ref (zs_N S) :: st) (zs_nw S (.inl c) fs.length) Q) : zs_U X d y pc L st S Q := by
  intro lv hl
  refine zs_E_hp (S2 := zs_nw S (.inl c) fs.length) (dc := 1) (ds := fs.length) hd rfl rfl ?_ rfl rfl (kk lv hl)
  simp only [ab_hp, ab_h_new, hf, if_true]
  rw [zs_h_nw (G := X.2.2) (e := .inl c) (m := fs.length) (x := .inr (c, fs)) ?_]
  · rfl
  · simp only [zs_e]
    congr 2
    rw [hfs]
    apply List.ext_getElem?
    intro j
    rw [List.getElem?_mapIdx, List.getElem?_map]
    cases hj : (X.2.2.1 c)[j]? with
    | none => rfl
    | some t =>
      simp only [Option.map_some]
      rw [htg t (List.mem_of_getElem? hj)]
      congr 1
      unfold zs_v
      split <;> simp [zs_rdn]
end ZU
