/-! THE REFERENCE'S WORDS, 1 -/
def mT (n0 : Nat) (S : zs_T) (m : Nat) (A : Nat → Nat) (n : Nat) (b : Nat → Int) : Prop := (mR n0 S m A) ∧ ((zs_I S 8004 m).toInt = n) ∧ (b = lx_bt (zs_i S (A 8003)) n) ∧ (n ≤ 1300)
theorem mT.R {n0 : Nat} {S : zs_T} {m : Nat} {A : Nat → Nat} {n : Nat} {b : Nat → Int} (W : mT n0 S m A n b) : mR n0 S m A := W.1
theorem mT.e {n0 : Nat} {S : zs_T} {m : Nat} {A : Nat → Nat} {n : Nat} {b : Nat → Int} (W : mT n0 S m A n b) : (zs_I S 8004 m).toInt = n := W.2.1
theorem mT.b {n0 : Nat} {S : zs_T} {m : Nat} {A : Nat → Nat} {n : Nat} {b : Nat → Int} (W : mT n0 S m A n b) : b = lx_bt (zs_i S (A 8003)) n := W.2.2.1
theorem mT.small {n0 : Nat} {S : zs_T} {m : Nat} {A : Nat → Nat} {n : Nat} {b : Nat → Int} (W : mT n0 S m A n b) : n ≤ 1300 := W.2.2.2
theorem mT.mk {n0 : Nat} {S : zs_T} {m : Nat} {A : Nat → Nat} {n : Nat} {b : Nat → Int} (h0 : mR n0 S m A) (h1 : (zs_I S 8004 m).toInt = n) (h2 : b = lx_bt (zs_i S (A 8003)) n) (h3 : n ≤ 1300) : mT n0 S m A n b := ⟨h0, h1, h2, h3⟩
section MT
variable {σ : Nat → Nat} {n0 : Nat} {bf : ab_B} {d : Nat} {S S1 : zs_T} {Q : zs_Q} {m n : Nat} {A : Nat → Nat} {b : Nat → Int} {F : List Nat}
theorem mT.X (W : mT n0 S m A n b) (h : mX m A S S1 F) (h1 : (F.elem 8004 || F.elem 8003) = false) : mT n0 S1 m A n b := by
  simp only [Bool.or_eq_false_iff] at h1
  refine ⟨W.R.X h, ?_, ?_, W.small⟩
  · rw [h.I 8004 (by simpa using h1.1)]; exact W.e
  · rw [W.b]
    congr 1
    funext j
    exact (h.i 8003 (by simpa using h1.2) j).symm
theorem mT.ends (W : mT n0 S m A n b) (j : Nat) : b j = -1 ↔ n ≤ j := by rw [W.b]; exact lx_bt_end _ _ _
theorem mT.rng (W : mT n0 S m A n b) (j : Nat) : -1 ≤ b j ∧ b j ≤ 255 := by rw [W.b]; exact lx_bt_rng _ _ _
theorem r_byteAt (hB : zt_B bf) (hd : 1 ≤ d) (W : mT n0 S m A n b) {k : Nat} {v : Int32} (hk : v.toInt = k) {K : Int32 → zs_T → Prop} (h : ∀ v : Int32, v.toInt = b k → K v S) : zs_C (zx σ n0 bf) d 8006 [.ref m, .int v] S (zs_kI K Q) := by
  refine u_X9_byteAt hB hd ?_
  have he := W.e
  have hb := W.b
  have hs := W.small
  refine ⟨W.R.K, fun h1 => ?_, fun h1 => ?_⟩ <;> rw [zi_le] at h1
  · refine h _ ?_
    rw [hb, (lx_bt_end _ _ _).mpr (by omega)]
    rfl
  · refine ⟨A 8003, W.R.r8003, zi_A W.R.k8003 (by omega) (by omega), h _ ?_⟩
    rw [hb, lx_bt, if_pos (by omega), zi_nat]
    congr 3
    omega
theorem r_small (hB : zt_B bf) (hd : 1 ≤ d) {c : Int32} (hc : c.toInt ≤ 255) {K : Int32 → zs_T → Prop} (h : ∀ v : Int32, v.toInt = lx_small c.toInt → K v S) : zs_C (zx σ n0 bf) d 8007 [.int c] S (zs_kI K Q) := by
  refine u_X9_small hB hd ?_
  refine ⟨fun g => h _ ?_, fun g => ⟨fun g2 => h _ ?_, fun g2 => h _ ?_⟩⟩ <;> (try simp only [zi_lt, zi_lit2] at g) <;> (try simp only [zi_lt, zi_lit2] at g2) <;> unfold lx_small
  · rw [if_neg (by omega)]
  · rw [if_neg (by omega)]
  · rw [if_pos (by omega), zi_add] <;> simp only [zi_lit2] <;> omega
theorem r_isLetter (hB : zt_B bf) (hd : 1 ≤ d) {c : Int32} {K : Int32 → zs_T → Prop} (h : ∀ v : Int32, (v.toInt = 1 ∧ (97 ≤ c.toInt ∧ c.toInt ≤ 122 ∨ 65 ≤ c.toInt ∧ c.toInt ≤ 90) ∨ v.toInt = 0 ∧ ¬ (97 ≤ c.toInt ∧ c.toInt ≤ 122 ∨ 65 ≤ c.toInt ∧ c.toInt ≤ 90)) → K v S) : zs_C (zx σ n0 bf) d 8018 [.int c] S (zs_kI K Q) := by
  refine u_X9_isLetter hB hd ?_
  have k12 : ¬ (97 ≤ c.toInt ∧ c.toInt ≤ 122) → w_X9_isLetter_12 (zx σ n0 bf) (d - 1) c S (zs_kI K Q) := by
    intro hn
    refine ⟨fun hc => ?_, fun hc => ⟨fun hc => ?_, fun hc => ?_⟩⟩ <;> simp only [zi_lt, zi_lit2] at hc
    · exact h 0 (.inr ⟨rfl, by omega⟩)
    · exact h 0 (.inr ⟨rfl, by simp only [zi_lt, zi_lit2] at *; omega⟩)
    · exact h 1 (.inl ⟨rfl, by simp only [zi_lt, zi_lit2] at *; omega⟩)
  refine ⟨fun hc => k12 (by simp only [zi_lt, zi_lit2] at hc; omega), fun hc => ⟨fun hc2 => h 1 (.inl ⟨rfl, ?_⟩), fun hc2 => k12 ?_⟩⟩ <;> simp only [zi_lt, zi_le, zi_lit2] at hc hc2 <;> omega
theorem r_isDigit (hB : zt_B bf) (hd : 1 ≤ d) {c : Int32} {K : Int32 → zs_T → Prop} (h : ∀ v : Int32, (v.toInt = 1 ∧ (48 ≤ c.toInt ∧ c.toInt ≤ 57) ∨ v.toInt = 0 ∧ ¬ (48 ≤ c.toInt ∧ c.toInt ≤ 57)) → K v S) : zs_C (zx σ n0 bf) d 8020 [.int c] S (zs_kI K Q) := by
  refine u_X9_isDigit hB hd ?_
  refine ⟨fun hc => h 0 (.inr ⟨rfl, ?_⟩), fun hc => ⟨fun hc2 => h 0 (.inr ⟨rfl, ?_⟩), fun hc2 => h 1 (.inl ⟨rfl, ?_⟩)⟩⟩
  · simp only [zi_lt, zi_lit2] at hc; omega
  · simp only [zi_lt, zi_lit2] at hc hc2; omega
  · simp only [zi_lt, zi_lit2] at hc hc2; omega
theorem r_digit (hB : zt_B bf) (hd : 2 ≤ d) {c : Int32} {K : Int32 → zs_T → Prop} (h : ∀ v : Int32, v.toInt = lx_dv c.toInt → K v S) : zs_C (zx σ n0 bf) d 8022 [.int c] S (zs_kI K Q) := by
  refine u_X9_digit hB (by omega) ?_
  have hs := lx_dv_spec c.toInt
  have hd1 : 1 ≤ d - 1 := by omega
  refine r_isDigit hB hd1 ?_
  intro v hv
  refine ⟨fun hc => ?_, fun hc => ?_⟩ <;> simp only [zi_eq, zi_lit] at hc
  · refine r_isLetter hB (by omega) ?_
    intro v2 hv2
    refine ⟨fun hc2 => ?_, fun hc2 => ?_⟩ <;> simp only [zi_eq, zi_lit] at hc2
    · refine h 99 ?_
      show (99 : Int) = _
      omega
    · refine r_small hB (by omega) (by omega) ?_
      intro v3 hv3
      refine h _ ?_
      have e : lx_small c.toInt = if 65 ≤ c.toInt ∧ c.toInt ≤ 90 then c.toInt + 32 else c.toInt := rfl
      have e3 : (v3 - 97).toInt = v3.toInt - 97 := by rw [zi_sub] <;> simp only [zi_lit2] <;> (split at e <;> omega)
      rw [zi_add] <;> simp only [zi_lit2, e3] <;> (split at e <;> omega)
  · refine h _ ?_
    rw [zi_sub] <;> simp only [zi_lit2] <;> omega
/-- a fault, if there is none yet -/
theorem r_flaw (hB : zt_B bf) (hd : 1 ≤ d) (W : mR n0 S m A) {c p : Int32} {K : zs_T → Prop} (h : ∀ S1, mX m A S S1 [8011, 8010] → (zs_I S 8010 m ≠ 0 → S1 = S) → (zs_I S 8010 m = 0 → zs_I S1 8010 m = c ∧ zs_I S1 8011 m = p) → K S1) : zs_C (zx σ n0 bf) d 8017 [.ref m, .int c, .int p] S (zs_kV K Q) := by
  refine u_X9_flaw hB hd ?_
  refine ⟨W.K, fun g => h S ((mX.refl S).mk' rfl) (fun _ => rfl) (fun g2 => absurd g2 g), fun g => ⟨W.g, ?_⟩⟩
  rintro _ rfl _ rfl
  exact h _ (((mX.refl S).sI W).sI W) (fun g2 => absurd g2 g) (fun _ => ⟨by simp [zs_rd], by simp [zs_rd]⟩)
theorem r_bad (hB : zt_B bf) (hd : 2 ≤ d) (W : mR n0 S m A) (hf : zs_I S 8010 m = 0) {p : Int32} {K : zs_T → Prop} (h : ∀ S1, mX m A S S1 [8006, 8007, 8010, 8011] → zs_I S1 8010 m = 1 → zs_I S1 8011 m = p → K S1) : zs_C (zx σ n0 bf) d 8016 [.ref m, .int p] S (zs_kV K Q) := by
  refine u_X9_bad hB (by omega) ?_
  refine ⟨W.K, W.g, ?_⟩
  rintro _ rfl _ rfl
  have X1 := ((mX.refl S).sI W (f := 8006) (v := 0)).sI W (f := 8007) (v := p)
  refine r_flaw hB (by omega) (W.X X1) ?_
  intro S1 h1 h2 h3
  have h4 := h3 (by simpa [zs_rd] using hf)
  exact h S1 ((X1.trans h1).mk' rfl) h4.1 h4.2
end MT
