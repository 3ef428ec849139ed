/-! WHAT IS USED OF THE LIBRARY'S METHODS, as contracts over the typed state (to be shown of the real bf), and the component's faults. -/
def zb (X : zs_X) (n0 : Nat) : Prop := (∀ {d a : Nat} {S : zs_T} {Q : zs_Q}, 10 ≤ d → zs_K S a = some (.inl 9) → n0 ≤ a → (∀ S1 : zs_T, (∀ b, b ≠ a → b < zs_N S → zf_at S S1 b) → zs_K S1 a = some (.inl 9) → zs_N S ≤ zs_N S1 → zs_N S1 ≤ zs_N S + 2 → zs_M S ≤ zs_M S1 ∧ zs_M S1 ≤ zs_M S + 4000 → (zW S → zW S1) → Q (.returned none) S1) → zs_C X d 33000 [.ref a] S Q) ∧ (∀ {d : Nat} {a b : Int64} {S : zs_T} {K : Int64 → zs_T → Prop} {Q : zs_Q}, 1 ≤ d → K (if a ≤ b then a else b) S → zs_C X d 30002 [.long a, .long b] S (zs_kJ K Q)) ∧ (∀ {d : Nat} {a b : Int64} {S : zs_T} {K : Int64 → zs_T → Prop} {Q : zs_Q}, 1 ≤ d → K (if b ≤ a then a else b) S → zs_C X d 30003 [.long a, .long b] S (zs_kJ K Q)) ∧ (∀ {d : Nat} {a b : Int32} {S : zs_T} {K : Int32 → zs_T → Prop} {Q : zs_Q}, 1 ≤ d → K (if b ≤ a then a else b) S → zs_C X d 30000 [.int a, .int b] S (zs_kI K Q)) ∧ (∀ {d : Nat} {a : Int64} {S : zs_T} {K : Int64 → zs_T → Prop} {Q : zs_Q}, 1 ≤ d → K (if a < 0 then -a else a) S → zs_C X d 30004 [.long a] S (zs_kJ K Q)) ∧ (∀ {d a : Nat} {S : zs_T} {K : zs_T → Prop} {Q : zs_Q}, 1 ≤ d → K S → zs_C X d 39000 [.ref a] S (zs_kV K Q))
theorem zb.rte {X : zs_X} {n0 : Nat} (W : zb X n0) : ∀ {d a : Nat} {S : zs_T} {Q : zs_Q}, 10 ≤ d → zs_K S a = some (.inl 9) → n0 ≤ a → (∀ S1 : zs_T, (∀ b, b ≠ a → b < zs_N S → zf_at S S1 b) → zs_K S1 a = some (.inl 9) → zs_N S ≤ zs_N S1 → zs_N S1 ≤ zs_N S + 2 → zs_M S ≤ zs_M S1 ∧ zs_M S1 ≤ zs_M S + 4000 → (zW S → zW S1) → Q (.returned none) S1) → zs_C X d 33000 [.ref a] S Q := W.1
theorem zb.minJ {X : zs_X} {n0 : Nat} (W : zb X n0) : ∀ {d : Nat} {a b : Int64} {S : zs_T} {K : Int64 → zs_T → Prop} {Q : zs_Q}, 1 ≤ d → K (if a ≤ b then a else b) S → zs_C X d 30002 [.long a, .long b] S (zs_kJ K Q) := W.2.1
theorem zb.maxJ {X : zs_X} {n0 : Nat} (W : zb X n0) : ∀ {d : Nat} {a b : Int64} {S : zs_T} {K : Int64 → zs_T → Prop} {Q : zs_Q}, 1 ≤ d → K (if b ≤ a then a else b) S → zs_C X d 30003 [.long a, .long b] S (zs_kJ K Q) := W.2.2.1
theorem zb.maxI {X : zs_X} {n0 : Nat} (W : zb X n0) : ∀ {d : Nat} {a b : Int32} {S : zs_T} {K : Int32 → zs_T → Prop} {Q : zs_Q}, 1 ≤ d → K (if b ≤ a then a else b) S → zs_C X d 30000 [.int a, .int b] S (zs_kI K Q) := W.2.2.2.1
theorem zb.absJ {X : zs_X} {n0 : Nat} (W : zb X n0) : ∀ {d : Nat} {a : Int64} {S : zs_T} {K : Int64 → zs_T → Prop} {Q : zs_Q}, 1 ≤ d → K (if a < 0 then -a else a) S → zs_C X d 30004 [.long a] S (zs_kJ K Q) := W.2.2.2.2.1
theorem zb.obj {X : zs_X} {n0 : Nat} (W : zb X n0) : ∀ {d a : Nat} {S : zs_T} {K : zs_T → Prop} {Q : zs_Q}, 1 ≤ d → K S → zs_C X d 39000 [.ref a] S (zs_kV K Q) := W.2.2.2.2.2
theorem zb.mk {X : zs_X} {n0 : Nat} (h0 : ∀ {d a : Nat} {S : zs_T} {Q : zs_Q}, 10 ≤ d → zs_K S a = some (.inl 9) → n0 ≤ a → (∀ S1 : zs_T, (∀ b, b ≠ a → b < zs_N S → zf_at S S1 b) → zs_K S1 a = some (.inl 9) → zs_N S ≤ zs_N S1 → zs_N S1 ≤ zs_N S + 2 → zs_M S ≤ zs_M S1 ∧ zs_M S1 ≤ zs_M S + 4000 → (zW S → zW S1) → Q (.returned none) S1) → zs_C X d 33000 [.ref a] S Q) (h1 : ∀ {d : Nat} {a b : Int64} {S : zs_T} {K : Int64 → zs_T → Prop} {Q : zs_Q}, 1 ≤ d → K (if a ≤ b then a else b) S → zs_C X d 30002 [.long a, .long b] S (zs_kJ K Q)) (h2 : ∀ {d : Nat} {a b : Int64} {S : zs_T} {K : Int64 → zs_T → Prop} {Q : zs_Q}, 1 ≤ d → K (if b ≤ a then a else b) S → zs_C X d 30003 [.long a, .long b] S (zs_kJ K Q)) (h3 : ∀ {d : Nat} {a b : Int32} {S : zs_T} {K : Int32 → zs_T → Prop} {Q : zs_Q}, 1 ≤ d → K (if b ≤ a then a else b) S → zs_C X d 30000 [.int a, .int b] S (zs_kI K Q)) (h4 : ∀ {d : Nat} {a : Int64} {S : zs_T} {K : Int64 → zs_T → Prop} {Q : zs_Q}, 1 ≤ d → K (if a < 0 then -a else a) S → zs_C X d 30004 [.long a] S (zs_kJ K Q)) (h5 : ∀ {d a : Nat} {S : zs_T} {K : zs_T → Prop} {Q : zs_Q}, 1 ≤ d → K S → zs_C X d 39000 [.ref a] S (zs_kV K Q)) : zb X n0 := ⟨h0, h1, h2, h3, h4, h5⟩
/-- a Fault of code c and place p was thrown: a is it -/
def zft (n0 : Nat) (S : zs_T) (c p : Int) (a : Nat) (S1 : zs_T) : Prop := zs_K S1 a = some (.inl 9) ∧ zs_N S ≤ a ∧ a < zs_N S1 ∧ (zs_I S1 9006 a).toInt = c ∧ (zs_I S1 9007 a).toInt = p ∧ (∀ b, b < zs_N S → zf_at S S1 b) ∧ zs_N S1 ≤ zs_N S + 3 ∧ (zs_M S ≤ zs_M S1 ∧ zs_M S1 ≤ zs_M S + 4008) ∧ (zW S → zW S1)
section ZB
variable {σ : Nat → Nat} {n0 : Nat} {bf : ab_B} {d : Nat} {S : zs_T} {Q : zs_Q}
theorem c_fault (hB : zt_B bf) (L : zb (zx σ n0 bf) n0) (hd : 11 ≤ d) {c p : Int32} {K : zs_T → Prop} (hN : n0 ≤ zs_N S) (h : ∀ S1, zft n0 S c.toInt p.toInt (zs_N S) S1 → K S1) : zs_C (zx σ n0 bf) d 9000 [.ref (zs_N S), .int c, .int p] (zs_nw S (.inl 9) 8) (zs_kV K Q) := by
  refine u_X10_init hB (by omega) ?_
  unfold w_X10_init
  refine L.rte (by omega) (by simp [zs_rdn]) hN ?_
  intro S1 h1 h2 h3 h4 h5 h6
  simp only [zs_rdn] at h3 h4 h5
  refine ⟨h2, hN, ?_⟩
  rintro _ rfl _ rfl
  refine h _ ⟨by simpa [zs_rd] using h2, Nat.le_refl _, ?_, by simp [zs_rd], by simp [zs_rd], ?_, ?_, ?_, fun w => h6 w.nw⟩
  · simp only [zs_rd]; omega
  · intro b hb
    have hne : b ≠ zs_N S := by omega
    exact zf_trans (zf_nw hne) (zf_trans (h1 b hne (by simp only [zs_rdn]; omega)) (zf_trans (zf_sI hne) (zf_sI hne)))
  · simp only [zs_rd]; omega
  · simp only [zs_rd]; exact ⟨by omega, by omega⟩
end ZB
