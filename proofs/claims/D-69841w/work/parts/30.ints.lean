/-! INTS AND FRAMES -/
theorem zi_add {a b : Int32} (h1 : -2147483648 ≤ a.toInt + b.toInt) (h2 : a.toInt + b.toInt ≤ 2147483647) : (a + b).toInt = a.toInt + b.toInt := by
  rw [Int32.toInt_add, Int.bmod_eq_of_le] <;> omega
theorem zi_sub {a b : Int32} (h1 : -2147483648 ≤ a.toInt - b.toInt) (h2 : a.toInt - b.toInt ≤ 2147483647) : (a - b).toInt = a.toInt - b.toInt := by
  rw [Int32.toInt_sub, Int.bmod_eq_of_le] <;> omega
theorem zi_mul {a b : Int32} (h1 : -2147483648 ≤ a.toInt * b.toInt) (h2 : a.toInt * b.toInt ≤ 2147483647) : (a * b).toInt = a.toInt * b.toInt := by
  rw [Int32.toInt_mul, Int.bmod_eq_of_le] <;> omega
theorem zi_neg {a : Int32} (h2 : -2147483647 ≤ a.toInt) : (-a).toInt = -a.toInt := by
  have := Int32.toInt_lt a
  rw [Int32.toInt_neg, Int.bmod_eq_of_le] <;> omega
theorem zi_le {a b : Int32} : a ≤ b ↔ a.toInt ≤ b.toInt := Int32.le_iff_toInt_le
theorem zi_lt {a b : Int32} : a < b ↔ a.toInt < b.toInt := Int32.lt_iff_toInt_lt
theorem zi_eq {a b : Int32} : a = b ↔ a.toInt = b.toInt := Int32.toInt_inj.symm
theorem zi_nat (a : Int32) : a.toNatClampNeg = a.toInt.toNat := rfl
theorem zi_ofInt {z : Int} (h1 : -2147483648 ≤ z) (h2 : z ≤ 2147483647) : (Int32.ofInt z).toInt = z := by
  have h3 : ((Int32.size : Nat) : Int) = 4294967296 := rfl
  rw [Int32.toInt_ofInt, Int.bmod_eq_of_le] <;> omega
theorem zi_rng (a : Int32) : -2147483648 ≤ a.toInt ∧ a.toInt ≤ 2147483647 := by
  have h1 := Int32.le_toInt a
  have h2 := Int32.toInt_lt a
  omega
theorem zi_255 (a : Int32) : 0 ≤ (a &&& 255).toInt ∧ (a &&& 255).toInt ≤ 255 := by
  have h : ∀ x : BitVec 32, 0 ≤ (x &&& 255#32).toInt ∧ (x &&& 255#32).toInt ≤ 255 := by
    intro x
    have h1 : (x &&& 255#32).toNat ≤ 255 := by
      rw [BitVec.toNat_and]
      exact Nat.and_le_right
    rw [BitVec.toInt_eq_toNat_of_lt (by omega)]
    omega
  exact h a.toBitVec
/-- an index -/
theorem zi_A {S : zs_T} {a k n : Nat} {i : Int32} (h : zs_K S a = some (.inr (k, n))) (h0 : 0 ≤ i.toInt) (h1 : i.toInt < n) : zs_A S a k i := ⟨n, h, Int32.le_iff_toInt_le.mpr h0, by rw [zi_nat]; omega⟩
/-- all that lies at an address is the same -/
def zf_at (S S1 : zs_T) (a : Nat) : Prop := zs_K S1 a = zs_K S a ∧ (∀ f, zs_I S1 f a = zs_I S f a) ∧ (∀ f, zs_J S1 f a = zs_J S f a) ∧ (∀ f, zs_R S1 f a = zs_R S f a) ∧ (∀ j, zs_i S1 a j = zs_i S a j) ∧ (∀ j, zs_j S1 a j = zs_j S a j) ∧ (∀ j, zs_r S1 a j = zs_r S a j)
theorem zf_refl (S : zs_T) (a : Nat) : zf_at S S a := ⟨rfl, fun _ => rfl, fun _ => rfl, fun _ => rfl, fun _ => rfl, fun _ => rfl, fun _ => rfl⟩
theorem zf_trans {S S1 S2 : zs_T} {a : Nat} (h : zf_at S S1 a) (k : zf_at S1 S2 a) : zf_at S S2 a :=
  ⟨k.1.trans h.1, fun f => (k.2.1 f).trans (h.2.1 f), fun f => (k.2.2.1 f).trans (h.2.2.1 f), fun f => (k.2.2.2.1 f).trans (h.2.2.2.1 f), fun f => (k.2.2.2.2.1 f).trans (h.2.2.2.2.1 f), fun f => (k.2.2.2.2.2.1 f).trans (h.2.2.2.2.2.1 f), fun f => (k.2.2.2.2.2.2 f).trans (h.2.2.2.2.2.2 f)⟩
theorem zf_sI {S : zs_T} {f b : Nat} {v : Int32} {a : Nat} (h : a ≠ b) : zf_at S (zs_sI S f b v) a := ⟨rfl, fun g => by simp [zs_rd, h], fun _ => rfl, fun _ => rfl, fun _ => rfl, fun _ => rfl, fun _ => rfl⟩
theorem zf_sJ {S : zs_T} {f b : Nat} {v : Int64} {a : Nat} (h : a ≠ b) : zf_at S (zs_sJ S f b v) a := ⟨rfl, fun _ => rfl, fun g => by simp [zs_rd, h], fun _ => rfl, fun _ => rfl, fun _ => rfl, fun _ => rfl⟩
theorem zf_sR {S : zs_T} {f b : Nat} {v : Option Nat} {a : Nat} (h : a ≠ b) : zf_at S (zs_sR S f b v) a := ⟨rfl, fun _ => rfl, fun _ => rfl, fun g => by simp [zs_rd, h], fun _ => rfl, fun _ => rfl, fun _ => rfl⟩
theorem zf_si {S : zs_T} {b j : Nat} {v : Int32} {a : Nat} (h : a ≠ b) : zf_at S (zs_si S b j v) a := ⟨rfl, fun _ => rfl, fun _ => rfl, fun _ => rfl, fun k => by simp [zs_rda, h], fun _ => rfl, fun _ => rfl⟩
theorem zf_sj {S : zs_T} {b j : Nat} {v : Int64} {a : Nat} (h : a ≠ b) : zf_at S (zs_sj S b j v) a := ⟨rfl, fun _ => rfl, fun _ => rfl, fun _ => rfl, fun _ => rfl, fun k => by simp [zs_rda, h], fun _ => rfl⟩
theorem zf_sr {S : zs_T} {b j : Nat} {v : Option Nat} {a : Nat} (h : a ≠ b) : zf_at S (zs_sr S b j v) a := ⟨rfl, fun _ => rfl, fun _ => rfl, fun _ => rfl, fun _ => rfl, fun _ => rfl, fun k => by simp [zs_rda, h]⟩
theorem zf_nw {S : zs_T} {e : Nat ⊕ (Nat × Nat)} {m a : Nat} (h : a ≠ zs_N S) : zf_at S (zs_nw S e m) a := ⟨by simp [zs_rdn, h], fun _ => by simp [zs_rdn, h], fun _ => by simp [zs_rdn, h], fun _ => by simp [zs_rdn, h], fun _ => by simp [zs_rdn, h], fun _ => by simp [zs_rdn, h], fun _ => by simp [zs_rdn, h]⟩
/-- a field that is written twice -/
theorem zs_sI2 (S : zs_T) (f a : Nat) (v w : Int32) : zs_sI (zs_sI S f a v) f a w = zs_sI S f a w := by
  unfold zs_sI
  dsimp only
  congr 2
  funext g b
  simp only [zs_u]
  split <;> rfl
theorem zs_sI0 (S : zs_T) (f a : Nat) : zs_sI S f a (zs_I S f a) = S := by
  unfold zs_sI zs_I
  have : zs_u S.2.1 f a (S.2.1 f a) = S.2.1 := by
    funext g b
    simp only [zs_u]
    split
    · rename_i h; rw [h.1, h.2]
    · rfl
  rw [this]
theorem zl_add {a b : Int64} (h1 : -9223372036854775808 ≤ a.toInt + b.toInt) (h2 : a.toInt + b.toInt ≤ 9223372036854775807) : (a + b).toInt = a.toInt + b.toInt := by
  rw [Int64.toInt_add, Int.bmod_eq_of_le] <;> omega
theorem zl_sub {a b : Int64} (h1 : -9223372036854775808 ≤ a.toInt - b.toInt) (h2 : a.toInt - b.toInt ≤ 9223372036854775807) : (a - b).toInt = a.toInt - b.toInt := by
  rw [Int64.toInt_sub, Int.bmod_eq_of_le] <;> omega
theorem zl_mul {a b : Int64} (h1 : -9223372036854775808 ≤ a.toInt * b.toInt) (h2 : a.toInt * b.toInt ≤ 9223372036854775807) : (a * b).toInt = a.toInt * b.toInt := by
  rw [Int64.toInt_mul, Int.bmod_eq_of_le] <;> omega
theorem zl_neg {a : Int64} (h2 : -9223372036854775807 ≤ a.toInt) : (-a).toInt = -a.toInt := by
  have := Int64.toInt_lt a
  rw [Int64.toInt_neg, Int.bmod_eq_of_le] <;> omega
theorem zl_le {a b : Int64} : a ≤ b ↔ a.toInt ≤ b.toInt := Int64.le_iff_toInt_le
theorem zl_lt {a b : Int64} : a < b ↔ a.toInt < b.toInt := Int64.lt_iff_toInt_lt
theorem zl_eq {a b : Int64} : a = b ↔ a.toInt = b.toInt := Int64.toInt_inj.symm
theorem zl_i {a : Int32} : a.toInt64.toInt = a.toInt := Int32.toInt_toInt64 a
theorem zl_rng (a : Int64) : -9223372036854775808 ≤ a.toInt ∧ a.toInt ≤ 9223372036854775807 := by
  have h1 := Int64.le_toInt a
  have h2 := Int64.toInt_lt a
  omega
theorem zl_to {a : Int64} (h1 : -2147483648 ≤ a.toInt) (h2 : a.toInt ≤ 2147483647) : a.toInt32.toInt = a.toInt := by
  rw [Int64.toInt_toInt32, Int.bmod_eq_of_le] <;> omega
theorem zl_min (a b : Int64) : (if a ≤ b then a else b).toInt = if a.toInt ≤ b.toInt then a.toInt else b.toInt := by
  by_cases h : a ≤ b
  · rw [if_pos h, if_pos (zl_le.mp h)]
  · rw [if_neg h, if_neg (fun h1 => h (zl_le.mpr h1))]
/-- nothing lies beyond the heap -/
def zW (S : zs_T) : Prop := ∀ a, zs_N S ≤ a → zs_K S a = none
theorem zW.nw {S : zs_T} {e : Nat ⊕ (Nat × Nat)} {m : Nat} (w : zW S) : zW (zs_nw S e m) := fun a ha => by
  simp only [zs_rdn] at ha ⊢
  rw [if_neg (by omega)]
  exact w a (by omega)
