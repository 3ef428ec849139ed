/-! THE COMPONENT'S WORDS, 2 -/
theorem lx_c_spec (b : Nat → Int) (k : Nat) : (b k = -1 ∧ lx_c b k = 0) ∨ (b k ≠ -1 ∧ lx_c b k = b k) := by
  unfold lx_c
  split <;> omega
theorem zi_lit2 : (9 : Int32).toInt = 9 ∧ (10 : Int32).toInt = 10 ∧ (13 : Int32).toInt = 13 ∧ (20 : Int32).toInt = 20 ∧ (32 : Int32).toInt = 32 ∧ (35 : Int32).toInt = 35 ∧ (36 : Int32).toInt = 36 ∧ (39 : Int32).toInt = 39 ∧ (40 : Int32).toInt = 40 ∧ (41 : Int32).toInt = 41 ∧ (42 : Int32).toInt = 42 ∧ (43 : Int32).toInt = 43 ∧ (44 : Int32).toInt = 44 ∧ (45 : Int32).toInt = 45 ∧ (46 : Int32).toInt = 46 ∧ (48 : Int32).toInt = 48 ∧ (57 : Int32).toInt = 57 ∧ (58 : Int32).toInt = 58 ∧ (59 : Int32).toInt = 59 ∧ (60 : Int32).toInt = 60 ∧ (61 : Int32).toInt = 61 ∧ (62 : Int32).toInt = 62 ∧ (65 : Int32).toInt = 65 ∧ (80 : Int32).toInt = 80 ∧ (90 : Int32).toInt = 90 ∧ (91 : Int32).toInt = 91 ∧ (93 : Int32).toInt = 93 ∧ (94 : Int32).toInt = 94 ∧ (95 : Int32).toInt = 95 ∧ (97 : Int32).toInt = 97 ∧ (99 : Int32).toInt = 99 ∧ (122 : Int32).toInt = 122 ∧ (123 : Int32).toInt = 123 ∧ (125 : Int32).toInt = 125 ∧ (255 : Int32).toInt = 255 ∧ (256 : Int32).toInt = 256 ∧ (257 : Int32).toInt = 257 ∧ (258 : Int32).toInt = 258 ∧ (259 : Int32).toInt = 259 ∧ (260 : Int32).toInt = 260 ∧ (3 : Int32).toInt = 3 ∧ (4 : Int32).toInt = 4 := by decide
/-- (c or 32), less 97, of a letter -/
theorem lx_or32 {v : Int32} {c : Int} (h : v.toInt = c) (hc : 97 ≤ c ∧ c ≤ 122 ∨ 65 ≤ c ∧ c ≤ 90) : (v ||| 32).toInt = if c ≤ 90 then c + 32 else c := by
  have h1 : ∀ k : Fin 128, (97 ≤ k.val ∧ k.val ≤ 122 ∨ 65 ≤ k.val ∧ k.val ≤ 90) → (Int32.ofInt (k.val : Int) ||| 32).toInt = if (k.val : Int) ≤ 90 then (k.val : Int) + 32 else (k.val : Int) := by decide +kernel
  have h2 := h1 ⟨c.toNat, by omega⟩ (by simp only; omega)
  have h3 : ((c.toNat : Nat) : Int) = c := by omega
  simp only [h3] at h2
  rw [zi_of h]
  exact h2
section CW2
variable {σ : Nat → Nat} {n0 : Nat} {bf : ab_B} {d : Nat} {S : zs_T} {Q : zs_Q} {w tp n : Nat} {b : Nat → Int}
theorem c_b0 (hB : zt_B bf) (hd : 1 ≤ d) (W : cw_t n0 S w tp n b) {k : Nat} (hk : (zs_I S 5002 w).toInt = k) {K : Int32 → zs_T → Prop} (h : ∀ v : Int32, v.toInt = lx_c b k → K v S) : zs_C (zx σ n0 bf) d 5006 [.ref w, .int (zs_I S 5002 w)] S (zs_kI K Q) := by
  refine c_X6_byteAt hB hd W (by omega) ?_
  intro v hv
  exact h v (by rw [hv]; congr 1; omega)
theorem c_b1 (hB : zt_B bf) (hd : 1 ≤ d) (W : cw_t n0 S w tp n b) {k : Nat} (hk : (zs_I S 5002 w).toInt = k) (hn : k ≤ n) {K : Int32 → zs_T → Prop} (h : ∀ v : Int32, v.toInt = lx_c b (k + 1) → K v S) : zs_C (zx σ n0 bf) d 5006 [.ref w, .int (zs_I S 5002 w + 1)] S (zs_kI K Q) := by
  have hs := W.small
  have e : (zs_I S 5002 w + 1).toInt = k + 1 := by rw [zi_add] <;> simp only [zi_lit] <;> omega
  refine c_X6_byteAt hB hd W (by omega) ?_
  intro v hv
  exact h v (by rw [hv]; congr 1; omega)
theorem c_X6_isLetter (hB : zt_B bf) (hd : 1 ≤ d) {c : Int32} {K : Int32 → zs_T → Prop} (h : ∀ v : Int32, (v.toInt = 1 ∧ (97 ≤ c.toInt ∧ c.toInt ≤ 122 ∨ 65 ≤ c.toInt ∧ c.toInt ≤ 90) ∨ v.toInt = 0 ∧ ¬ (97 ≤ c.toInt ∧ c.toInt ≤ 122 ∨ 65 ≤ c.toInt ∧ c.toInt ≤ 90)) → K v S) : zs_C (zx σ n0 bf) d 5008 [.int c] S (zs_kI K Q) := by
  refine u_X6_isLetter hB hd ?_
  have k12 : ¬ (97 ≤ c.toInt ∧ c.toInt ≤ 122) → w_X6_isLetter_12 (zx σ n0 bf) (d - 1) c S (zs_kI K Q) := by
    intro hn
    refine ⟨fun hc => ?_, fun hc => ⟨fun hc => ?_, fun hc => ?_⟩⟩ <;> simp only [zi_lt, zi_lit2] at hc
    · exact h 0 (.inr ⟨rfl, by omega⟩)
    · exact h 0 (.inr ⟨rfl, by simp only [zi_lt, zi_lit2] at *; omega⟩)
    · exact h 1 (.inl ⟨rfl, by simp only [zi_lt, zi_lit2] at *; omega⟩)
  refine ⟨fun hc => k12 (by simp only [zi_lt, zi_lit2] at hc; omega), fun hc => ⟨fun hc2 => h 1 (.inl ⟨rfl, ?_⟩), fun hc2 => k12 ?_⟩⟩ <;> simp only [zi_lt, zi_le, zi_lit2] at hc hc2 <;> omega
theorem c_X6_isDigit (hB : zt_B bf) (hd : 1 ≤ d) {c : Int32} {K : Int32 → zs_T → Prop} (h : ∀ v : Int32, (v.toInt = 1 ∧ (48 ≤ c.toInt ∧ c.toInt ≤ 57) ∨ v.toInt = 0 ∧ ¬ (48 ≤ c.toInt ∧ c.toInt ≤ 57)) → K v S) : zs_C (zx σ n0 bf) d 5010 [.int c] S (zs_kI K Q) := by
  refine u_X6_isDigit hB hd ?_
  refine ⟨fun hc => h 0 (.inr ⟨rfl, ?_⟩), fun hc => ⟨fun hc2 => h 0 (.inr ⟨rfl, ?_⟩), fun hc2 => h 1 (.inl ⟨rfl, ?_⟩)⟩⟩
  · simp only [zi_lt, zi_lit2] at hc; omega
  · simp only [zi_lt, zi_lit2] at hc hc2; omega
  · simp only [zi_lt, zi_lit2] at hc hc2; omega
/-- a digit's worth in any base; 99 -/
def lx_dv (c : Int) : Int := if 48 ≤ c ∧ c ≤ 57 then c - 48 else if 97 ≤ c ∧ c ≤ 122 then c - 87 else if 65 ≤ c ∧ c ≤ 90 then c - 55 else 99
theorem lx_dv_spec (c : Int) : (48 ≤ c ∧ c ≤ 57 ∧ lx_dv c = c - 48) ∨ (97 ≤ c ∧ c ≤ 122 ∧ lx_dv c = c - 87) ∨ (65 ≤ c ∧ c ≤ 90 ∧ lx_dv c = c - 55) ∨ (¬ (48 ≤ c ∧ c ≤ 57) ∧ ¬ (97 ≤ c ∧ c ≤ 122) ∧ ¬ (65 ≤ c ∧ c ≤ 90) ∧ lx_dv c = 99) := by
  unfold lx_dv
  repeat' split
  all_goals omega
theorem c_X6_digit (hB : zt_B bf) (hd : 2 ≤ d) {c : Int32} {K : Int32 → zs_T → Prop} (h : ∀ v : Int32, v.toInt = lx_dv c.toInt → K v S) : zs_C (zx σ n0 bf) d 5012 [.int c] S (zs_kI K Q) := by
  refine u_X6_digit hB (by omega) ?_
  have hs := lx_dv_spec c.toInt
  refine c_X6_isDigit hB (by omega) ?_
  intro v hv
  refine ⟨fun hc => ?_, fun hc => ?_⟩ <;> simp only [zi_eq, zi_lit] at hc
  · refine c_X6_isLetter hB (by omega) ?_
    intro v2 hv2
    refine ⟨fun hc2 => ?_, fun hc2 => ?_⟩ <;> simp only [zi_eq, zi_lit] at hc2
    · refine h 99 ?_
      show (99 : Int) = _
      omega
    · have hl : 97 ≤ c.toInt ∧ c.toInt ≤ 122 ∨ 65 ≤ c.toInt ∧ c.toInt ≤ 90 := by omega
      have e := lx_or32 (v := c) rfl hl
      refine h _ ?_
      have e1 : (c ||| 32).toInt = (if c.toInt ≤ 90 then c.toInt + 32 else c.toInt) := e
      have e2 : (c ||| 32).toInt ≤ 122 ∧ 97 ≤ (c ||| 32).toInt := by rw [e1]; split <;> omega
      have e3 : ((c ||| 32) - 97).toInt = (c ||| 32).toInt - 97 := by rw [zi_sub] <;> simp only [zi_lit2] <;> omega
      rw [zi_add] <;> simp only [zi_lit2, e3]
      · split at e1 <;> omega
      · omega
      · omega
  · refine h _ ?_
    rw [zi_sub] <;> simp only [zi_lit2] <;> omega
end CW2
