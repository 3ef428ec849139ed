/-! THE REFERENCE'S NAMES BEGIN -/
section RB
variable {σ : Nat → Nat} {n0 : Nat} {bf : ab_B} {d : Nat} {Q : zs_Q} {m n : Nat} {A : Nat → Nat} {b : Nat → Int} {L : List (List Int)}
/-- the row of names that are known at first -/
def mFst (S : zs_T) (A : Nat → Nat) : Prop := ∀ j, j < 332 → (zs_i S (A 8012) j).toInt = nm_first.getD j 0
theorem r_beginNames_36 (hB : zt_B bf) (hd : 3 ≤ d) :
    ∀ (r : List Int) {S : zs_T} {p1 p2 : Int32} {L : List (List Int)} {cur : List Int} {k0 k : Nat}, nm_first.drop k = r → mT n0 S m A n b → mFst S A → mN S m A L → p1.toInt = k0 → p2.toInt = k → k = k0 + cur.length → k + r.length = 332 → nm_okr cur r = true → (∀ c ∈ cur, 0 ≤ c ∧ c ≤ 127) → (∀ j, j < cur.length → nm_first.getD (k0 + j) 0 = cur.getD j 0) → nm_off L L.length + cur.length + r.length ≤ 2000 → L.length + r.length ≤ 2000 →
    (∀ S1, mN S1 m A (nm_all L cur r).1 → mX m A S S1 [8020, 8015, 8016, 8017, 8018, 8019, 8013, 8014] → Q (.returned none) S1) →
    zs_U (zx σ n0 bf) d 8004 36 [(0, .ref m), (1, .int p1), (2, .int p2)] [] S Q := by
  intro r
  induction r with
  | nil =>
    intro S p1 p2 L cur k0 k e1 W hF N h1 h2 hk hkr hok hcur hlet hb1 hb2 kk
    refine u_X9_beginNames_36 hB ?_
    simp only [List.length_nil] at hkr
    refine ⟨W.R.K, A 8012, W.R.r8012, 332, W.R.k8012, fun _ => kk S N ((mX.refl S).mk' rfl), fun g => absurd (zi_le.mpr ?_) g⟩
    rw [show (Int32.ofNat 332).toInt = 332 from by decide]; omega
  | cons c r ih =>
    intro S p1 p2 L cur k0 k e1 W hF N h1 h2 hk hkr hok hcur hlet hb1 hb2 kk
    simp only [List.length_cons] at hkr hb1 hb2
    have hl := nm_first_len
    have hc : nm_first.getD k 0 = c := by
      have h9 : nm_first[k]? = some c := by
        have := congrArg List.head? e1
        rw [List.head?_drop] at this
        exact this
      simp [List.getD, h9]
    have e2 : nm_first.drop (k + 1) = r := by rw [← List.drop_drop, e1]; rfl
    simp only [nm_okr, Bool.and_eq_true, decide_eq_true_eq] at hok
    obtain ⟨⟨hc0, hc1, hcl⟩, hok⟩ := hok
    have hp : (p2 + 1).toInt = ((k + 1 : Nat) : Int) := by rw [zi_add] <;> simp only [zi_lit] <;> omega
    have e3 : p2.toNatClampNeg = k := by rw [zi_nat]; omega
    have hv := hF k (by omega)
    rw [hc] at hv
    refine u_X9_beginNames_36 hB ?_
    refine ⟨W.R.K, A 8012, W.R.r8012, 332, W.R.k8012, fun g => absurd (zi_le.mp g) ?_, fun _ => ⟨zi_A W.R.k8012 (by omega) (by omega), ?_⟩⟩
    · rw [show (Int32.ofNat 332).toInt = 332 from by decide]; omega
    rw [e3]
    refine ⟨fun g => ?_, fun g => ?_⟩ <;> simp only [zi_eq, zi_lit2, Classical.not_not] at g
    · have hc32 : ¬ c = 32 := by omega
      rw [nm_all, if_neg hc32] at kk
      rw [if_neg hc32] at hok
      refine ih (k := k + 1) (cur := cur ++ [c]) e2 W hF N h1 hp (by simp only [List.length_append, List.length_singleton]; omega) (by omega) hok ?_ ?_ (by simp only [List.length_append, List.length_singleton]; omega) (by omega) kk
      · intro c9 hc9
        rcases List.mem_append.mp hc9 with h | h
        · exact hcur c9 h
        · rw [List.mem_singleton.mp h]; exact ⟨hc0, hc1⟩
      · intro j hj
        simp only [List.length_append, List.length_singleton] at hj
        by_cases ej : j = cur.length
        · subst ej
          rw [← hk, hc]
          simp [List.getD]
        · rw [hlet j (by omega)]
          simp [List.getD, List.getElem?_append_left (show j < cur.length by omega)]
    · have hc32 : c = 32 := by omega
      rw [nm_all, if_pos hc32] at kk
      rw [if_pos hc32] at hok
      have hbd := nm_enter_bd (L := L) (x := cur)
      refine r_nameOf (x := cur) (k0 := k0) hB (by omega) W N (.inr ⟨by decide, by omega, fun j hj => ?_⟩) h1 ?_ ⟨hcl, hcur⟩ (by omega) ?_
      · rw [hF (k0 + j) (by omega)]; exact hlet j hj
      · rw [zi_sub] <;> omega
      · intro S1 v q1 q2 q3 q4 q5 q6
        refine ih (k0 := k + 1) (k := k + 1) (cur := []) e2 (W.X q3 rfl) (fun j hj => by rw [q3.i 8012 (by decide)]; exact hF j hj) q1 hp hp (by simp) (by omega) hok (fun c hc => by cases hc) (fun j hj => by simp at hj) (by simp only [List.length_nil]; omega) (by omega) ?_
        intro S2 q7 q8
        exact kk S2 q7 ((q3.trans q8).mk' rfl)
theorem r_beginNames_12 (hB : zt_B bf) {S : zs_T} (W : mR n0 S m A)
    (kk : ∀ S1, mX m A S S1 [8018] → (∀ j, j < 4096 → (zs_i S1 (A 8018) j).toInt = 0) → zs_U (zx σ n0 bf) d 8004 36 [(0, .ref m), (1, .int 0), (2, .int 0)] [] S1 Q) :
    ∀ (f k : Nat) {S2 : zs_T} {p1 : Int32}, k + f = 4096 → p1.toInt = k → mX m A S S2 [8018] → (∀ j, j < k → (zs_i S2 (A 8018) j).toInt = 0) → zs_U (zx σ n0 bf) d 8004 12 [(0, .ref m), (1, .int p1)] [] S2 Q
  | 0, k, S2, p1, e1, e2, X2, h2 => by
    refine u_X9_beginNames_12 hB ⟨fun _ => kk S2 X2 (fun j hj => h2 j (by omega)), fun g => absurd (zi_le.mpr ?_) g⟩
    rw [show (4096 : Int32).toInt = 4096 from by decide]; omega
  | f + 1, k, S2, p1, e1, e2, X2, h2 => by
    have W2 := W.X X2
    refine u_X9_beginNames_12 hB ⟨fun g => absurd (zi_le.mp g) ?_, fun _ => ⟨W2.K, A 8018, W2.r8018, zi_A W2.k8018 (by omega) (by omega), W.ga _, ?_⟩⟩
    · rw [show (4096 : Int32).toInt = 4096 from by decide]; omega
    rintro _ rfl
    have e3 : p1.toNatClampNeg = k := by rw [zi_nat]; omega
    rw [e3]
    refine r_beginNames_12 hB W kk f (k + 1) (by omega) (by rw [zi_add] <;> simp only [zi_lit] <;> omega) ((X2.si W).mk' rfl) ?_
    intro j hj
    by_cases e : j = k
    · subst e; simp [zs_rda]
    · simpa [zs_rda, e] using h2 j (by omega)
/-- the names begin -/
theorem r_beginNames (hB : zt_B bf) (hd : 4 ≤ d) {S : zs_T} (W : mT n0 S m A n b) (hF : mFst S A) {K : zs_T → Prop}
    (kk : ∀ S1, mN S1 m A nm_L0 → mX m A S S1 [8020, 8015, 8016, 8017, 8018, 8019, 8013, 8014] → K S1) : zs_C (zx σ n0 bf) d 8004 [.ref m] S (zs_kV K Q) := by
  refine u_X9_beginNames hB (by omega) ?_
  refine ⟨W.R.K, W.R.g, ?_⟩
  rintro _ rfl _ rfl
  have X1 := ((mX.refl S).sI W.R (f := 8020) (v := 0)).sI W.R (f := 8014) (v := 0)
  have W1 := W.X X1 rfl
  refine r_beginNames_12 hB W1.R ?_ 4096 0 (by omega) rfl ((mX.refl _).mk' rfl) (fun j hj => by omega)
  intro S1 q1 q2
  have X2 := X1.trans q1
  have hd3 : 3 ≤ d - 1 := by omega
  refine r_beginNames_36 (L := []) (cur := []) (k0 := 0) (k := 0) hB hd3 nm_first rfl (W.X X2 rfl) (fun j hj => by rw [X2.i 8012 (by decide)]; exact hF j hj) ?_ rfl rfl rfl (by rw [nm_first_len]) nm_first_ok (fun c hc => by cases hc) (fun j hj => by simp at hj) (by rw [nm_first_len]; simp [nm_off]) (by rw [nm_first_len]; simp) ?_
  · refine ⟨?_, ?_, fun i hi => by simp at hi, fun i hi => by simp at hi, fun i j hi => by simp at hi, ?_, fun i hi => by simp at hi, fun i hi => by simp at hi, by simp [nm_off]⟩
    · rw [q1.I 8020 (by decide)]; simp [zs_rd]
    · rw [q1.I 8014 (by decide)]; simp [zs_rd, nm_off]
    · intro h hh; rw [q2 h hh]; rfl
  · intro S2 q3 q4
    exact kk S2 q3 ((X2.trans q4).mk' rfl)
end RB
