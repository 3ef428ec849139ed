/-! TYPES: the component's objects (S) and the reference's numbers (T) -/
/-- the reference's kind for one of the component -/
def tyk (k : Int) : Int := if k ≤ 9 then k + 1 else if k = 10 then 15 else k
def tK (S : zs_T) (a : Nat) : Int := (zs_I S 6000 a).toInt
/-- a host: the base of a span -/
def tH (S : zs_T) (a : Nat) : Nat := if tK S a = 4 then (zs_R S 6002 a).getD 0 else a
/-- the type a with the number tau a -/
def tyB (S : zs_T) (T : zs_T) (A : Nat → Nat) (τ : Nat → Nat) (ς : Nat → Nat) (str : Nat) (a : Nat) : Prop := (zs_K S a = some (.inl 6)) ∧ (a < zs_N S) ∧ (1 ≤ τ a ∧ τ a < 20000) ∧ (0 ≤ tK S a ∧ tK S a ≤ 13) ∧ ((zs_i T (A 8044) (τ a)).toInt = if a = str then 14 else tyk (tK S a)) ∧ (tK S a = 4 → ∃ b, zs_R S 6002 a = some b ∧ 0 < τ b ∧ (zs_i T (A 8045) (τ a)).toInt = τ b ∧ tK S b ≤ 3 ∧ b ≠ str) ∧ (tK S a = 5 → ∃ b, zs_R S 6002 a = some b ∧ 0 < τ b ∧ (zs_i T (A 8045) (τ a)).toInt = τ b ∧ tK S b ≤ 4) ∧ (tK S a = 7 → (∃ b, zs_R S 6002 a = some b ∧ 0 < τ b ∧ (zs_i T (A 8045) (τ a)).toInt = τ b) ∧ ∃ x, zs_R S 6003 a = some x ∧ 0 < τ x ∧ (zs_i T (A 8046) (τ a)).toInt = τ x ∧ tK S x ≤ 4) ∧ (tK S a = 9 → (zs_R S 6002 a = none ∧ (zs_i T (A 8045) (τ a)).toInt = 0) ∨ ∃ b, zs_R S 6002 a = some b ∧ 0 < τ b ∧ (tK S b ≠ 10 ∧ (zs_i T (A 8045) (τ a)).toInt = τ b ∨ tK S b = 10 ∧ (zs_i T (A 8045) (τ a)).toInt = - (ς b : Int))) ∧ (tK S a = 10 → 1 ≤ ς a ∧ ς a < 8000 ∧ (zs_i T (A 8045) (τ a)).toInt = ς a ∧ (zs_i T (A 8115) (ς a)).toInt = τ a ∧ ∃ b, zs_R S 6002 a = some b ∧ 0 < τ b ∧ (zs_i T (A 8059) (ς a)).toInt = τ b ∧ (tK S b = 7 ∨ tK S b = 8)) ∧ (tK S a = 11 → ∃ b, zs_R S 6002 a = some b ∧ 0 < τ b ∧ tK S b = 10 ∧ (zs_i T (A 8045) (τ a)).toInt = ς b)
theorem tyB.K {S : zs_T} {T : zs_T} {A : Nat → Nat} {τ : Nat → Nat} {ς : Nat → Nat} {str : Nat} {a : Nat} (W : tyB S T A τ ς str a) : zs_K S a = some (.inl 6) := W.1
theorem tyB.lt {S : zs_T} {T : zs_T} {A : Nat → Nat} {τ : Nat → Nat} {ς : Nat → Nat} {str : Nat} {a : Nat} (W : tyB S T A τ ς str a) : a < zs_N S := W.2.1
theorem tyB.rng {S : zs_T} {T : zs_T} {A : Nat → Nat} {τ : Nat → Nat} {ς : Nat → Nat} {str : Nat} {a : Nat} (W : tyB S T A τ ς str a) : 1 ≤ τ a ∧ τ a < 20000 := W.2.2.1
theorem tyB.knd {S : zs_T} {T : zs_T} {A : Nat → Nat} {τ : Nat → Nat} {ς : Nat → Nat} {str : Nat} {a : Nat} (W : tyB S T A τ ς str a) : 0 ≤ tK S a ∧ tK S a ≤ 13 := W.2.2.2.1
theorem tyB.kind {S : zs_T} {T : zs_T} {A : Nat → Nat} {τ : Nat → Nat} {ς : Nat → Nat} {str : Nat} {a : Nat} (W : tyB S T A τ ς str a) : (zs_i T (A 8044) (τ a)).toInt = if a = str then 14 else tyk (tK S a) := W.2.2.2.2.1
theorem tyB.span {S : zs_T} {T : zs_T} {A : Nat → Nat} {τ : Nat → Nat} {ς : Nat → Nat} {str : Nat} {a : Nat} (W : tyB S T A τ ς str a) : tK S a = 4 → ∃ b, zs_R S 6002 a = some b ∧ 0 < τ b ∧ (zs_i T (A 8045) (τ a)).toInt = τ b ∧ tK S b ≤ 3 ∧ b ≠ str := W.2.2.2.2.2.1
theorem tyB.set {S : zs_T} {T : zs_T} {A : Nat → Nat} {τ : Nat → Nat} {ς : Nat → Nat} {str : Nat} {a : Nat} (W : tyB S T A τ ς str a) : tK S a = 5 → ∃ b, zs_R S 6002 a = some b ∧ 0 < τ b ∧ (zs_i T (A 8045) (τ a)).toInt = τ b ∧ tK S b ≤ 4 := W.2.2.2.2.2.2.1
theorem tyB.arr {S : zs_T} {T : zs_T} {A : Nat → Nat} {τ : Nat → Nat} {ς : Nat → Nat} {str : Nat} {a : Nat} (W : tyB S T A τ ς str a) : tK S a = 7 → (∃ b, zs_R S 6002 a = some b ∧ 0 < τ b ∧ (zs_i T (A 8045) (τ a)).toInt = τ b) ∧ ∃ x, zs_R S 6003 a = some x ∧ 0 < τ x ∧ (zs_i T (A 8046) (τ a)).toInt = τ x ∧ tK S x ≤ 4 := W.2.2.2.2.2.2.2.1
theorem tyB.ptr {S : zs_T} {T : zs_T} {A : Nat → Nat} {τ : Nat → Nat} {ς : Nat → Nat} {str : Nat} {a : Nat} (W : tyB S T A τ ς str a) : tK S a = 9 → (zs_R S 6002 a = none ∧ (zs_i T (A 8045) (τ a)).toInt = 0) ∨ ∃ b, zs_R S 6002 a = some b ∧ 0 < τ b ∧ (tK S b ≠ 10 ∧ (zs_i T (A 8045) (τ a)).toInt = τ b ∨ tK S b = 10 ∧ (zs_i T (A 8045) (τ a)).toInt = - (ς b : Int)) := W.2.2.2.2.2.2.2.2.1
theorem tyB.sch {S : zs_T} {T : zs_T} {A : Nat → Nat} {τ : Nat → Nat} {ς : Nat → Nat} {str : Nat} {a : Nat} (W : tyB S T A τ ς str a) : tK S a = 10 → 1 ≤ ς a ∧ ς a < 8000 ∧ (zs_i T (A 8045) (τ a)).toInt = ς a ∧ (zs_i T (A 8115) (ς a)).toInt = τ a ∧ ∃ b, zs_R S 6002 a = some b ∧ 0 < τ b ∧ (zs_i T (A 8059) (ς a)).toInt = τ b ∧ (tK S b = 7 ∨ tK S b = 8) := W.2.2.2.2.2.2.2.2.2.1
theorem tyB.giv {S : zs_T} {T : zs_T} {A : Nat → Nat} {τ : Nat → Nat} {ς : Nat → Nat} {str : Nat} {a : Nat} (W : tyB S T A τ ς str a) : tK S a = 11 → ∃ b, zs_R S 6002 a = some b ∧ 0 < τ b ∧ tK S b = 10 ∧ (zs_i T (A 8045) (τ a)).toInt = ς b := W.2.2.2.2.2.2.2.2.2.2
theorem tyB.mk {S : zs_T} {T : zs_T} {A : Nat → Nat} {τ : Nat → Nat} {ς : Nat → Nat} {str : Nat} {a : Nat} (h0 : zs_K S a = some (.inl 6)) (h1 : a < zs_N S) (h2 : 1 ≤ τ a ∧ τ a < 20000) (h3 : 0 ≤ tK S a ∧ tK S a ≤ 13) (h4 : (zs_i T (A 8044) (τ a)).toInt = if a = str then 14 else tyk (tK S a)) (h5 : tK S a = 4 → ∃ b, zs_R S 6002 a = some b ∧ 0 < τ b ∧ (zs_i T (A 8045) (τ a)).toInt = τ b ∧ tK S b ≤ 3 ∧ b ≠ str) (h6 : tK S a = 5 → ∃ b, zs_R S 6002 a = some b ∧ 0 < τ b ∧ (zs_i T (A 8045) (τ a)).toInt = τ b ∧ tK S b ≤ 4) (h7 : tK S a = 7 → (∃ b, zs_R S 6002 a = some b ∧ 0 < τ b ∧ (zs_i T (A 8045) (τ a)).toInt = τ b) ∧ ∃ x, zs_R S 6003 a = some x ∧ 0 < τ x ∧ (zs_i T (A 8046) (τ a)).toInt = τ x ∧ tK S x ≤ 4) (h8 : tK S a = 9 → (zs_R S 6002 a = none ∧ (zs_i T (A 8045) (τ a)).toInt = 0) ∨ ∃ b, zs_R S 6002 a = some b ∧ 0 < τ b ∧ (tK S b ≠ 10 ∧ (zs_i T (A 8045) (τ a)).toInt = τ b ∨ tK S b = 10 ∧ (zs_i T (A 8045) (τ a)).toInt = - (ς b : Int))) (h9 : tK S a = 10 → 1 ≤ ς a ∧ ς a < 8000 ∧ (zs_i T (A 8045) (τ a)).toInt = ς a ∧ (zs_i T (A 8115) (ς a)).toInt = τ a ∧ ∃ b, zs_R S 6002 a = some b ∧ 0 < τ b ∧ (zs_i T (A 8059) (ς a)).toInt = τ b ∧ (tK S b = 7 ∨ tK S b = 8)) (h10 : tK S a = 11 → ∃ b, zs_R S 6002 a = some b ∧ 0 < τ b ∧ tK S b = 10 ∧ (zs_i T (A 8045) (τ a)).toInt = ς b) : tyB S T A τ ς str a := ⟨h0, h1, h2, h3, h4, h5, h6, h7, h8, h9, h10⟩
/-- all types -/
def TR (S : zs_T) (T : zs_T) (A : Nat → Nat) (τ : Nat → Nat) (ς : Nat → Nat) (ity bty cty sty nty mty : Nat) : Prop := (∀ a, 0 < τ a → tyB S T A τ ς sty a) ∧ (∀ a b, 0 < τ a → τ a = τ b → tK S a ≠ 5 → tK S b ≠ 5 → a = b) ∧ (∀ a b, 0 < τ a → 0 < τ b → tK S a = 10 → tK S b = 10 → ς a = ς b → a = b) ∧ (τ ity = 1 ∧ τ bty = 2 ∧ τ cty = 3 ∧ τ nty = 4 ∧ τ mty = 5 ∧ τ sty = 6) ∧ (tK S ity = 0 ∧ tK S bty = 1 ∧ tK S cty = 2 ∧ tK S nty = 12 ∧ tK S mty = 13 ∧ tK S sty = 6) ∧ (∀ a, 0 < τ a → (tK S a = 0 → a = ity) ∧ (tK S a = 1 → a = bty) ∧ (tK S a = 2 → a = cty) ∧ (tK S a = 12 → a = nty) ∧ (tK S a = 13 → a = mty))
theorem TR.ty {S : zs_T} {T : zs_T} {A : Nat → Nat} {τ : Nat → Nat} {ς : Nat → Nat} {ity bty cty sty nty mty : Nat} (W : TR S T A τ ς ity bty cty sty nty mty) : ∀ a, 0 < τ a → tyB S T A τ ς sty a := W.1
theorem TR.inj {S : zs_T} {T : zs_T} {A : Nat → Nat} {τ : Nat → Nat} {ς : Nat → Nat} {ity bty cty sty nty mty : Nat} (W : TR S T A τ ς ity bty cty sty nty mty) : ∀ a b, 0 < τ a → τ a = τ b → tK S a ≠ 5 → tK S b ≠ 5 → a = b := W.2.1
theorem TR.sinj {S : zs_T} {T : zs_T} {A : Nat → Nat} {τ : Nat → Nat} {ς : Nat → Nat} {ity bty cty sty nty mty : Nat} (W : TR S T A τ ς ity bty cty sty nty mty) : ∀ a b, 0 < τ a → 0 < τ b → tK S a = 10 → tK S b = 10 → ς a = ς b → a = b := W.2.2.1
theorem TR.num {S : zs_T} {T : zs_T} {A : Nat → Nat} {τ : Nat → Nat} {ς : Nat → Nat} {ity bty cty sty nty mty : Nat} (W : TR S T A τ ς ity bty cty sty nty mty) : τ ity = 1 ∧ τ bty = 2 ∧ τ cty = 3 ∧ τ nty = 4 ∧ τ mty = 5 ∧ τ sty = 6 := W.2.2.2.1
theorem TR.knd {S : zs_T} {T : zs_T} {A : Nat → Nat} {τ : Nat → Nat} {ς : Nat → Nat} {ity bty cty sty nty mty : Nat} (W : TR S T A τ ς ity bty cty sty nty mty) : tK S ity = 0 ∧ tK S bty = 1 ∧ tK S cty = 2 ∧ tK S nty = 12 ∧ tK S mty = 13 ∧ tK S sty = 6 := W.2.2.2.2.1
theorem TR.one {S : zs_T} {T : zs_T} {A : Nat → Nat} {τ : Nat → Nat} {ς : Nat → Nat} {ity bty cty sty nty mty : Nat} (W : TR S T A τ ς ity bty cty sty nty mty) : ∀ a, 0 < τ a → (tK S a = 0 → a = ity) ∧ (tK S a = 1 → a = bty) ∧ (tK S a = 2 → a = cty) ∧ (tK S a = 12 → a = nty) ∧ (tK S a = 13 → a = mty) := W.2.2.2.2.2
theorem TR.mk {S : zs_T} {T : zs_T} {A : Nat → Nat} {τ : Nat → Nat} {ς : Nat → Nat} {ity bty cty sty nty mty : Nat} (h0 : ∀ a, 0 < τ a → tyB S T A τ ς sty a) (h1 : ∀ a b, 0 < τ a → τ a = τ b → tK S a ≠ 5 → tK S b ≠ 5 → a = b) (h2 : ∀ a b, 0 < τ a → 0 < τ b → tK S a = 10 → tK S b = 10 → ς a = ς b → a = b) (h3 : τ ity = 1 ∧ τ bty = 2 ∧ τ cty = 3 ∧ τ nty = 4 ∧ τ mty = 5 ∧ τ sty = 6) (h4 : tK S ity = 0 ∧ tK S bty = 1 ∧ tK S cty = 2 ∧ tK S nty = 12 ∧ tK S mty = 13 ∧ tK S sty = 6) (h5 : ∀ a, 0 < τ a → (tK S a = 0 → a = ity) ∧ (tK S a = 1 → a = bty) ∧ (tK S a = 2 → a = cty) ∧ (tK S a = 12 → a = nty) ∧ (tK S a = 13 → a = mty)) : TR S T A τ ς ity bty cty sty nty mty := ⟨h0, h1, h2, h3, h4, h5⟩
section TY
variable {σ : Nat → Nat} {n0 : Nat} {bf : ab_B} {d : Nat} {S T : zs_T} {Q : zs_Q} {m : Nat} {A : Nat → Nat} {τ ς : Nat → Nat} {ity bty cty sty nty mty : Nat}
theorem TR.host (W : TR S T A τ ς ity bty cty sty nty mty) {a : Nat} (ha : 0 < τ a) : 0 < τ (tH S a) ∧ (tK S a ≤ 4 → tK S (tH S a) ≤ 3) ∧ (tK S a ≠ 4 → tH S a = a) ∧ (tK S a = 4 → (zs_i T (A 8045) (τ a)).toInt = τ (tH S a) ∧ zs_R S 6002 a = some (tH S a)) := by
  have t := W.ty a ha
  by_cases h : tK S a = 4
  · obtain ⟨b, h1, h2, h3, h4, h5⟩ := t.span h
    have e : tH S a = b := by simp [tH, h, h1]
    rw [e]
    exact ⟨h2, fun _ => h4, fun g => absurd h g, fun _ => ⟨h3, h1⟩⟩
  · have e : tH S a = a := by simp [tH, h]
    rw [e]
    exact ⟨ha, fun g => by omega, fun _ => rfl, fun g => absurd g h⟩
/-- the reference's kind of a -/
theorem TR.rk (W : TR S T A τ ς ity bty cty sty nty mty) {a : Nat} (ha : 0 < τ a) : (a = sty ∧ tK S a = 6 ∧ (zs_i T (A 8044) (τ a)).toInt = 14) ∨ (a ≠ sty ∧ (zs_i T (A 8044) (τ a)).toInt = tyk (tK S a)) := by
  have t := W.ty a ha
  by_cases h : a = sty
  · exact .inl ⟨h, by rw [h]; exact W.knd.2.2.2.2.2, by rw [t.kind, if_pos h]⟩
  · exact .inr ⟨h, by rw [t.kind, if_neg h]⟩
theorem tyk_spec (k : Int) (h : 0 ≤ k ∧ k ≤ 13) : (k ≤ 9 ∧ tyk k = k + 1) ∨ (k = 10 ∧ tyk k = 15) ∨ (11 ≤ k ∧ tyk k = k) := by
  unfold tyk
  split
  · omega
  · split <;> omega
/-- kinds, both -/
theorem TR.kk (W : TR S T A τ ς ity bty cty sty nty mty) {a : Nat} (ha : 0 < τ a) : (a = sty ∧ tK S a = 6 ∧ (zs_i T (A 8044) (τ a)).toInt = 14) ∨ (a ≠ sty ∧ 0 ≤ tK S a ∧ tK S a ≤ 9 ∧ (zs_i T (A 8044) (τ a)).toInt = tK S a + 1) ∨ (tK S a = 10 ∧ (zs_i T (A 8044) (τ a)).toInt = 15) ∨ (11 ≤ tK S a ∧ tK S a ≤ 13 ∧ (zs_i T (A 8044) (τ a)).toInt = tK S a) := by
  have t := W.ty a ha
  rcases W.rk ha with h | ⟨h, h2⟩
  · exact .inl h
  · have := tyk_spec _ t.knd
    have hk := t.knd
    rcases this with g | g | g
    · exact .inr (.inl ⟨h, by omega, by omega, by omega⟩)
    · exact .inr (.inr (.inl ⟨by omega, by omega⟩))
    · exact .inr (.inr (.inr ⟨by omega, by omega, by omega⟩))
/-- a number of the reference that is a's -/
theorem TR.idx (W : TR S T A τ ς ity bty cty sty nty mty) {a : Nat} (ha : 0 < τ a) {p : Int32} (hp : p.toInt = τ a) : 0 < p.toInt ∧ p.toInt < 20000 ∧ p.toNatClampNeg = τ a := by
  have := (W.ty a ha).rng
  exact ⟨by omega, by omega, by rw [zi_nat]; omega⟩
theorem c_host (hB : zt_B bf) (hd : 1 ≤ d) (W : TR S T A τ ς ity bty cty sty nty mty) {a : Nat} (ha : 0 < τ a) {K : Option Nat → zs_T → Prop} (h : K (some (tH S a)) S) : zs_C (zx σ n0 bf) d 6001 [.ref a] S (zs_kR K Q) := by
  have t := W.ty a ha
  have th := W.host ha
  refine u_X7_host hB hd ?_
  refine ⟨t.K, fun g => ?_, fun g => ?_⟩ <;> simp only [zi_eq, zi_lit2, Classical.not_not] at g
  · have e : tH S a = a := th.2.2.1 g
    rw [e] at h
    exact h
  · rw [(th.2.2.2 g).2]
    exact h
theorem c_isOrdinal (hB : zt_B bf) (hd : 1 ≤ d) {a : Nat} (hK : zs_K S a = some (.inl 6)) {K : Int32 → zs_T → Prop} (h : ∀ v : Int32, (v.toInt = 1 ∧ tK S a ≤ 4 ∨ v.toInt = 0 ∧ ¬ tK S a ≤ 4) → K v S) : zs_C (zx σ n0 bf) d 6002 [.ref a] S (zs_kI K Q) := by
  refine u_X7_isOrdinal hB hd ?_
  refine ⟨hK, fun g => h 0 (.inr ⟨rfl, ?_⟩), fun g => h 1 (.inl ⟨rfl, ?_⟩)⟩ <;> simp only [zi_lt, zi_lit2] at g <;> unfold tK <;> omega
theorem c_isSchema (hB : zt_B bf) (hd : 1 ≤ d) {a : Nat} (hK : zs_K S a = some (.inl 6)) {K : Int32 → zs_T → Prop} (h : ∀ v : Int32, (v.toInt = 1 ∧ (tK S a = 10 ∨ tK S a = 11) ∨ v.toInt = 0 ∧ ¬ (tK S a = 10 ∨ tK S a = 11)) → K v S) : zs_C (zx σ n0 bf) d 6004 [.ref a] S (zs_kI K Q) := by
  refine u_X7_isSchema hB hd ?_
  refine ⟨hK, fun g => h 1 (.inl ⟨rfl, .inl ?_⟩), fun g => ⟨fun g2 => h 0 (.inr ⟨rfl, ?_⟩), fun g2 => h 1 (.inl ⟨rfl, .inr ?_⟩)⟩⟩
  · simp only [zi_eq] at g; exact g
  · simp only [zi_eq] at g g2
    rintro (e | e)
    · exact g e
    · exact g2 e
  · simp only [zi_eq, Classical.not_not] at g2; exact g2
theorem c_isSet (hB : zt_B bf) (hd : 1 ≤ d) {a : Nat} (hK : zs_K S a = some (.inl 6)) {K : Int32 → zs_T → Prop} (h : ∀ v : Int32, (v.toInt = 1 ∧ (tK S a = 5 ∨ tK S a = 13) ∨ v.toInt = 0 ∧ ¬ (tK S a = 5 ∨ tK S a = 13)) → K v S) : zs_C (zx σ n0 bf) d 4035 [.ref a] S (zs_kI K Q) := by
  refine u_X5_isSet (p0 := some a) hB hd ?_
  refine ⟨a, rfl, hK, fun g => h 1 (.inl ⟨rfl, .inl ?_⟩), fun g => ⟨fun g2 => h 0 (.inr ⟨rfl, ?_⟩), fun g2 => h 1 (.inl ⟨rfl, .inr ?_⟩)⟩⟩
  · simp only [zi_eq] at g; exact g
  · simp only [zi_eq] at g g2
    rintro (e | e)
    · exact g e
    · exact g2 e
  · simp only [zi_eq, Classical.not_not] at g2; exact g2
theorem c_isText (hB : zt_B bf) (hd : 2 ≤ d) (W : TR S T A τ ς ity bty cty sty nty mty) {a : Nat} (ha : 0 < τ a) {K : Int32 → zs_T → Prop} (h : ∀ v : Int32, (v.toInt = 1 ∧ (tK S a = 6 ∨ tK S (tH S a) = 2) ∨ v.toInt = 0 ∧ ¬ (tK S a = 6 ∨ tK S (tH S a) = 2)) → K v S) : zs_C (zx σ n0 bf) d 4036 [.ref a] S (zs_kI K Q) := by
  have t := W.ty a ha
  have th := W.host ha
  have t2 := W.ty _ th.1
  refine u_X5_isText (p0 := some a) hB (by omega) ?_
  refine ⟨a, rfl, t.K, fun g => h 1 (.inl ⟨rfl, .inl ?_⟩), fun g => c_host hB (by omega) W ha ⟨_, rfl, t2.K, fun g2 => h 0 (.inr ⟨rfl, ?_⟩), fun g2 => h 1 (.inl ⟨rfl, .inr ?_⟩)⟩⟩
  · simp only [zi_eq] at g; exact g
  · simp only [zi_eq] at g g2
    rintro (e | e)
    · exact g e
    · exact g2 e
  · simp only [zi_eq, Classical.not_not] at g2; exact g2
end TY
