/-! THE REFERENCE: goals, instructions, words at hand -/
def lx_si (k : Int) : Int := if k = 1 then 43 else if k = 2 then 45 else if k = 3 then 42 else if k = 5 then 61 else if k = 6 then 60 else if k = 7 then 62 else if k = 8 then 40 else if k = 9 then 41 else if k = 10 then 91 else if k = 11 then 93 else if k = 12 then 44 else if k = 13 then 59 else if k = 14 then 58 else if k = 15 then 94 else if k = 16 then 46 else if k = 17 then 256 else if k = 18 then 257 else if k = 19 then 258 else if k = 20 then 259 else if k = 21 then 260 else 0
theorem lx_si_sr (z : Int) (h : lx_sr z ≠ 0) : lx_si (lx_sr z) = z := by
  by_cases g43 : z = 43
  · rw [g43]; decide
  by_cases g45 : z = 45
  · rw [g45]; decide
  by_cases g42 : z = 42
  · rw [g42]; decide
  by_cases g61 : z = 61
  · rw [g61]; decide
  by_cases g60 : z = 60
  · rw [g60]; decide
  by_cases g62 : z = 62
  · rw [g62]; decide
  by_cases g40 : z = 40
  · rw [g40]; decide
  by_cases g41 : z = 41
  · rw [g41]; decide
  by_cases g91 : z = 91
  · rw [g91]; decide
  by_cases g93 : z = 93
  · rw [g93]; decide
  by_cases g44 : z = 44
  · rw [g44]; decide
  by_cases g59 : z = 59
  · rw [g59]; decide
  by_cases g58 : z = 58
  · rw [g58]; decide
  by_cases g94 : z = 94
  · rw [g94]; decide
  by_cases g46 : z = 46
  · rw [g46]; decide
  by_cases g256 : z = 256
  · rw [g256]; decide
  by_cases g257 : z = 257
  · rw [g257]; decide
  by_cases g258 : z = 258
  · rw [g258]; decide
  by_cases g259 : z = 259
  · rw [g259]; decide
  by_cases g260 : z = 260
  · rw [g260]; decide
  exact absurd (by unfold lx_sr; rw [if_neg g43, if_neg g45, if_neg g42, if_neg g61, if_neg g60, if_neg g62, if_neg g40, if_neg g41, if_neg g91, if_neg g93, if_neg g44, if_neg g59, if_neg g58, if_neg g94, if_neg g46, if_neg g256, if_neg g257, if_neg g258, if_neg g259, if_neg g260]) h
theorem lx_sr_1 (z : Int) : lx_sr z = 1 ↔ z = 43 := ⟨fun h => by
    have g := lx_si_sr z (by rw [h]; decide)
    rw [h] at g
    exact g.symm, fun h => by rw [h]; decide⟩
theorem lx_sr_2 (z : Int) : lx_sr z = 2 ↔ z = 45 := ⟨fun h => by
    have g := lx_si_sr z (by rw [h]; decide)
    rw [h] at g
    exact g.symm, fun h => by rw [h]; decide⟩
theorem lx_sr_3 (z : Int) : lx_sr z = 3 ↔ z = 42 := ⟨fun h => by
    have g := lx_si_sr z (by rw [h]; decide)
    rw [h] at g
    exact g.symm, fun h => by rw [h]; decide⟩
theorem lx_sr_5 (z : Int) : lx_sr z = 5 ↔ z = 61 := ⟨fun h => by
    have g := lx_si_sr z (by rw [h]; decide)
    rw [h] at g
    exact g.symm, fun h => by rw [h]; decide⟩
theorem lx_sr_6 (z : Int) : lx_sr z = 6 ↔ z = 60 := ⟨fun h => by
    have g := lx_si_sr z (by rw [h]; decide)
    rw [h] at g
    exact g.symm, fun h => by rw [h]; decide⟩
theorem lx_sr_7 (z : Int) : lx_sr z = 7 ↔ z = 62 := ⟨fun h => by
    have g := lx_si_sr z (by rw [h]; decide)
    rw [h] at g
    exact g.symm, fun h => by rw [h]; decide⟩
theorem lx_sr_8 (z : Int) : lx_sr z = 8 ↔ z = 40 := ⟨fun h => by
    have g := lx_si_sr z (by rw [h]; decide)
    rw [h] at g
    exact g.symm, fun h => by rw [h]; decide⟩
theorem lx_sr_9 (z : Int) : lx_sr z = 9 ↔ z = 41 := ⟨fun h => by
    have g := lx_si_sr z (by rw [h]; decide)
    rw [h] at g
    exact g.symm, fun h => by rw [h]; decide⟩
theorem lx_sr_10 (z : Int) : lx_sr z = 10 ↔ z = 91 := ⟨fun h => by
    have g := lx_si_sr z (by rw [h]; decide)
    rw [h] at g
    exact g.symm, fun h => by rw [h]; decide⟩
theorem lx_sr_11 (z : Int) : lx_sr z = 11 ↔ z = 93 := ⟨fun h => by
    have g := lx_si_sr z (by rw [h]; decide)
    rw [h] at g
    exact g.symm, fun h => by rw [h]; decide⟩
theorem lx_sr_12 (z : Int) : lx_sr z = 12 ↔ z = 44 := ⟨fun h => by
    have g := lx_si_sr z (by rw [h]; decide)
    rw [h] at g
    exact g.symm, fun h => by rw [h]; decide⟩
theorem lx_sr_13 (z : Int) : lx_sr z = 13 ↔ z = 59 := ⟨fun h => by
    have g := lx_si_sr z (by rw [h]; decide)
    rw [h] at g
    exact g.symm, fun h => by rw [h]; decide⟩
theorem lx_sr_14 (z : Int) : lx_sr z = 14 ↔ z = 58 := ⟨fun h => by
    have g := lx_si_sr z (by rw [h]; decide)
    rw [h] at g
    exact g.symm, fun h => by rw [h]; decide⟩
theorem lx_sr_15 (z : Int) : lx_sr z = 15 ↔ z = 94 := ⟨fun h => by
    have g := lx_si_sr z (by rw [h]; decide)
    rw [h] at g
    exact g.symm, fun h => by rw [h]; decide⟩
theorem lx_sr_16 (z : Int) : lx_sr z = 16 ↔ z = 46 := ⟨fun h => by
    have g := lx_si_sr z (by rw [h]; decide)
    rw [h] at g
    exact g.symm, fun h => by rw [h]; decide⟩
theorem lx_sr_17 (z : Int) : lx_sr z = 17 ↔ z = 256 := ⟨fun h => by
    have g := lx_si_sr z (by rw [h]; decide)
    rw [h] at g
    exact g.symm, fun h => by rw [h]; decide⟩
theorem lx_sr_18 (z : Int) : lx_sr z = 18 ↔ z = 257 := ⟨fun h => by
    have g := lx_si_sr z (by rw [h]; decide)
    rw [h] at g
    exact g.symm, fun h => by rw [h]; decide⟩
theorem lx_sr_19 (z : Int) : lx_sr z = 19 ↔ z = 258 := ⟨fun h => by
    have g := lx_si_sr z (by rw [h]; decide)
    rw [h] at g
    exact g.symm, fun h => by rw [h]; decide⟩
theorem lx_sr_20 (z : Int) : lx_sr z = 20 ↔ z = 259 := ⟨fun h => by
    have g := lx_si_sr z (by rw [h]; decide)
    rw [h] at g
    exact g.symm, fun h => by rw [h]; decide⟩
theorem lx_sr_21 (z : Int) : lx_sr z = 21 ↔ z = 260 := ⟨fun h => by
    have g := lx_si_sr z (by rw [h]; decide)
    rw [h] at g
    exact g.symm, fun h => by rw [h]; decide⟩
abbrev gQ : Type := Int32 × Int32 × Int32 × Int32
/-- goals that wait, the last one first to be met -/
def mG (T : zs_T) (m : Nat) (A : Nat → Nat) (G : List gQ) : Prop := ((zs_I T 8089 m).toInt = G.length) ∧ (G.length ≤ 8900) ∧ (∀ j, j < G.length → zs_i T (A 8085) j = (G.getD j (0, 0, 0, 0)).1) ∧ (∀ j, j < G.length → zs_i T (A 8086) j = (G.getD j (0, 0, 0, 0)).2.1) ∧ (∀ j, j < G.length → zs_i T (A 8087) j = (G.getD j (0, 0, 0, 0)).2.2.1) ∧ (∀ j, j < G.length → zs_i T (A 8088) j = (G.getD j (0, 0, 0, 0)).2.2.2)
theorem mG.n {T : zs_T} {m : Nat} {A : Nat → Nat} {G : List gQ} (W : mG T m A G) : (zs_I T 8089 m).toInt = G.length := W.1
theorem mG.bd {T : zs_T} {m : Nat} {A : Nat → Nat} {G : List gQ} (W : mG T m A G) : G.length ≤ 8900 := W.2.1
theorem mG.w {T : zs_T} {m : Nat} {A : Nat → Nat} {G : List gQ} (W : mG T m A G) : ∀ j, j < G.length → zs_i T (A 8085) j = (G.getD j (0, 0, 0, 0)).1 := W.2.2.1
theorem mG.a {T : zs_T} {m : Nat} {A : Nat → Nat} {G : List gQ} (W : mG T m A G) : ∀ j, j < G.length → zs_i T (A 8086) j = (G.getD j (0, 0, 0, 0)).2.1 := W.2.2.2.1
theorem mG.b {T : zs_T} {m : Nat} {A : Nat → Nat} {G : List gQ} (W : mG T m A G) : ∀ j, j < G.length → zs_i T (A 8087) j = (G.getD j (0, 0, 0, 0)).2.2.1 := W.2.2.2.2.1
theorem mG.c {T : zs_T} {m : Nat} {A : Nat → Nat} {G : List gQ} (W : mG T m A G) : ∀ j, j < G.length → zs_i T (A 8088) j = (G.getD j (0, 0, 0, 0)).2.2.2 := W.2.2.2.2.2
theorem mG.mk {T : zs_T} {m : Nat} {A : Nat → Nat} {G : List gQ} (h0 : (zs_I T 8089 m).toInt = G.length) (h1 : G.length ≤ 8900) (h2 : ∀ j, j < G.length → zs_i T (A 8085) j = (G.getD j (0, 0, 0, 0)).1) (h3 : ∀ j, j < G.length → zs_i T (A 8086) j = (G.getD j (0, 0, 0, 0)).2.1) (h4 : ∀ j, j < G.length → zs_i T (A 8087) j = (G.getD j (0, 0, 0, 0)).2.2.1) (h5 : ∀ j, j < G.length → zs_i T (A 8088) j = (G.getD j (0, 0, 0, 0)).2.2.2) : mG T m A G := ⟨h0, h1, h2, h3, h4, h5⟩
/-- the reference's reading runs from one state to another -/
def rTo (X : zs_X) (m : Nat) (T T1 : zs_T) : Prop := ∀ (d : Nat) (Q : zs_Q), 40 ≤ d → zs_U X d 8002 131 [(0, .ref m)] [] T1 Q → zs_U X d 8002 131 [(0, .ref m)] [] T Q
theorem rTo.refl (X : zs_X) (m : Nat) (T : zs_T) : rTo X m T T := fun _ _ _ h => h
theorem rTo.trans {X : zs_X} {m : Nat} {T T1 T2 : zs_T} (h : rTo X m T T1) (k : rTo X m T1 T2) : rTo X m T T2 := fun d Q hd g => h d Q hd (k d Q hd g)
theorem gQ_at_old {G : List gQ} {g : gQ} {j : Nat} (h : j < G.length) : (G ++ [g]).getD j (0, 0, 0, 0) = G.getD j (0, 0, 0, 0) := by simp [List.getD, List.getElem?_append_left h]
theorem gQ_at_new (G : List gQ) (g : gQ) : (G ++ [g]).getD G.length (0, 0, 0, 0) = g := by simp [List.getD]
section RO
variable {σ : Nat → Nat} {n0 : Nat} {bf : ab_B} {d : Nat} {T T1 : zs_T} {Q : zs_Q} {m n : Nat} {A : Nat → Nat} {b : Nat → Int} {G : List gQ} {F : List Nat} {t : Nat × Int × Int × Nat}
theorem mG.X (W : mG T m A G) (h : mX m A T T1 F) (h1 : ([8089, 8085, 8086, 8087, 8088].all fun f => ! F.elem f) = true) : mG T1 m A G := by
  have h2 : ∀ f, f ∈ [8089, 8085, 8086, 8087, 8088] → f ∉ F := by
    intro f hf
    have := List.all_eq_true.mp h1 f hf
    simpa using this
  exact ⟨by rw [h.I _ (h2 8089 (by decide))]; exact W.n, W.bd, fun j hj => by rw [h.i _ (h2 8085 (by decide))]; exact W.w j hj, fun j hj => by rw [h.i _ (h2 8086 (by decide))]; exact W.a j hj, fun j hj => by rw [h.i _ (h2 8087 (by decide))]; exact W.b j hj, fun j hj => by rw [h.i _ (h2 8088 (by decide))]; exact W.c j hj⟩
/-- another goal -/
theorem r_goal (hB : zt_B bf) (hd : 1 ≤ d) (R : mR n0 T m A) (W : mG T m A G) (hb : G.length < 8900) {p1 p2 p3 p4 : Int32} {K : zs_T → Prop} (h : ∀ T1, mX m A T T1 [8085, 8086, 8087, 8088, 8089] → mG T1 m A (G ++ [(p1, p2, p3, p4)]) → K T1) : zs_C (zx σ n0 bf) d 8030 [.ref m, .int p1, .int p2, .int p3, .int p4] T (zs_kV K Q) := by
  have inj := R.inj
  have e1 : (zs_I T 8089 m).toNatClampNeg = G.length := by rw [zi_nat, W.n]; omega
  have hn := W.n
  refine u_X9_goal hB hd ?_
  refine ⟨R.K, A 8085, R.r8085, zi_A R.k8085 (by omega) (by omega), R.ga _, ?_⟩
  rintro _ rfl
  refine ⟨A 8086, R.r8086, zi_A R.k8086 (by simp only [zs_rda]; omega) (by simp only [zs_rda]; omega), R.ga _, ?_⟩
  rintro _ rfl
  refine ⟨A 8087, R.r8087, zi_A R.k8087 (by simp only [zs_rda]; omega) (by simp only [zs_rda]; omega), R.ga _, ?_⟩
  rintro _ rfl
  refine ⟨by simpa [zs_rda] using R.K, A 8088, R.r8088, zi_A (by simpa [zs_rda] using R.k8088) (by simp only [zs_rda]; omega) (by simp only [zs_rda]; omega), R.ga _, ?_⟩
  rintro _ rfl
  refine ⟨R.g, ?_⟩
  rintro _ rfl
  simp only [zs_rda, e1]
  have X1 := (((((mX.refl T).si R (f := 8085) (k := G.length) (v := p1)).si R (f := 8086) (k := G.length) (v := p2)).si R (f := 8087) (k := G.length) (v := p3)).si R (f := 8088) (k := G.length) (v := p4)).sI R (f := 8089) (v := zs_I T 8089 m + 1)
  refine h _ (X1.mk' rfl) ⟨?_, ?_, ?_, ?_, ?_, ?_⟩
  · simp only [zs_rd, and_self, if_true]
    rw [zi_add] <;> simp only [zi_lit, List.length_append, List.length_singleton] <;> omega
  · simp only [List.length_append, List.length_singleton]; omega
  · intro j hj
    simp only [List.length_append, List.length_singleton] at hj
    by_cases e : j = G.length
    · subst e; rw [gQ_at_new]; simp [zs_rd, zs_rda, inj]
    · rw [gQ_at_old (by omega), ← W.w j (by omega)]; simp [zs_rd, zs_rda, inj, e]
  · intro j hj
    simp only [List.length_append, List.length_singleton] at hj
    by_cases e : j = G.length
    · subst e; rw [gQ_at_new]; simp [zs_rd, zs_rda, inj]
    · rw [gQ_at_old (by omega), ← W.a j (by omega)]; simp [zs_rd, zs_rda, inj, e]
  · intro j hj
    simp only [List.length_append, List.length_singleton] at hj
    by_cases e : j = G.length
    · subst e; rw [gQ_at_new]; simp [zs_rd, zs_rda, inj]
    · rw [gQ_at_old (by omega), ← W.b j (by omega)]; simp [zs_rd, zs_rda, inj, e]
  · intro j hj
    simp only [List.length_append, List.length_singleton] at hj
    by_cases e : j = G.length
    · subst e; rw [gQ_at_new]; simp [zs_rd, zs_rda, inj]
    · rw [gQ_at_old (by omega), ← W.c j (by omega)]; simp [zs_rd, zs_rda, inj, e]
/-- a goal is taken up -/
theorem r_loop (hB : zt_B bf) (R : mR n0 T m A) {g : gQ} (W : mG T m A (G ++ [g])) (hf : zs_I T 8010 m = 0)
    (h : ∀ T1, mX m A T T1 [8089] → mG T1 m A G → w_X9_compile_196 (zx σ n0 bf) d m g.1 g.2.1 g.2.2.1 g.2.2.2 T1 Q) : zs_U (zx σ n0 bf) d 8002 131 [(0, .ref m)] [] T Q := by
  have hn := W.n
  have hb := W.bd
  simp only [List.length_append, List.length_singleton] at hn hb
  have e1 : (zs_I T 8089 m - 1).toInt = G.length := by rw [zi_sub] <;> simp only [zi_lit] <;> omega
  have e2 : (zs_I T 8089 m - 1).toNatClampNeg = G.length := by rw [zi_nat]; omega
  have X1 := (mX.refl T).sI R (f := 8089) (v := zs_I T 8089 m - 1)
  have R1 := R.X X1
  refine u_X9_compile_131 hB ?_
  refine ⟨R.K, fun g => absurd (zi_le.mp g) (by simp only [zi_lit]; omega), fun _ => ⟨fun g => absurd hf g, fun _ => ⟨R.g, ?_⟩⟩⟩
  rintro _ rfl
  simp only [zs_rd, and_self, if_true, e2]
  have l := W.w G.length (by simp)
  have la := W.a G.length (by simp)
  have lb := W.b G.length (by simp)
  have lc := W.c G.length (by simp)
  rw [gQ_at_new] at l la lb lc
  refine ⟨A 8085, R.r8085, zi_A R.k8085 (by omega) (by omega), ?_⟩
  refine ⟨R1.K, A 8086, R1.r8086, zi_A R1.k8086 (by simp only [zs_rd, and_self, if_true]; omega) (by simp only [zs_rd, and_self, if_true]; omega), A 8087, R1.r8087, zi_A R1.k8087 (by simp only [zs_rd, and_self, if_true]; omega) (by simp only [zs_rd, and_self, if_true]; omega), A 8088, R1.r8088, zi_A R1.k8088 (by simp only [zs_rd, and_self, if_true]; omega) (by simp only [zs_rd, and_self, if_true]; omega), ?_⟩
  simp only [zs_rd, and_self, if_true, e2, l, la, lb, lc]
  refine h _ X1 ⟨by simp only [zs_rd, and_self, if_true]; exact e1, by omega, fun j hj => ?_, fun j hj => ?_, fun j hj => ?_, fun j hj => ?_⟩
  · have := W.w j (by simp; omega); rw [gQ_at_old hj] at this; simpa [zs_rd] using this
  · have := W.a j (by simp; omega); rw [gQ_at_old hj] at this; simpa [zs_rd] using this
  · have := W.b j (by simp; omega); rw [gQ_at_old hj] at this; simpa [zs_rd] using this
  · have := W.c j (by simp; omega); rw [gQ_at_old hj] at this; simpa [zs_rd] using this
/-- is this sign at hand? -/
theorem r_isSign (hB : zt_B bf) (hd : 1 ≤ d) (R : mR n0 T m A) (W : mw_w T m A b n t) (hk : 0 ≤ t.2.1 ∧ t.2.1 ≤ 4) {s : Int32} {K : Int32 → zs_T → Prop} (h : ∀ v, bv v (t.2.1 = 3 ∧ lx_sr t.2.2.1 = s.toInt) → K v T) : zs_C (zx σ n0 bf) d 8029 [.ref m, .int s] T (zs_kI K Q) := by
  refine u_X9_isSign hB hd ?_
  have e6 : (zs_I T 8006 m).toInt = 5 ↔ t.2.1 = 3 := by
    constructor
    · intro g
      by_cases h0 : t.2.1 = 0
      · have := (W.name h0).1; split at this <;> omega
      · by_cases h1 : t.2.1 = 1
        · have := (W.num h1).1; omega
        · by_cases h2 : t.2.1 = 2
          · have := (W.txt h2).1; omega
          · by_cases h4 : t.2.1 = 4
            · have := W.fin h4; omega
            · omega
    · intro g; exact (W.sgn g).1
  refine ⟨R.K, fun g => absurd W.ok g, fun _ => ⟨fun g => h _ (bv.f ?_), fun g => ⟨fun g2 => h _ (bv.f ?_), fun g2 => h _ (bv.t ?_)⟩⟩⟩ <;> (try simp only [zi_eq, zi_lit3, Classical.not_not] at g) <;> (try simp only [zi_eq, Classical.not_not] at g2)
  · intro q; exact g (e6.mpr q.1)
  · intro q
    have := (W.sgn q.1).2
    omega
  · have h3 := e6.mp g
    exact ⟨h3, by have := (W.sgn h3).2; omega⟩
theorem r_isKept (hB : zt_B bf) (hd : 1 ≤ d) (R : mR n0 T m A) (W : mw_w T m A b n t) (hk : 0 ≤ t.2.1 ∧ t.2.1 ≤ 4) {s : Int32} (hs : 1 ≤ s.toInt ∧ s.toInt ≤ 36) {K : Int32 → zs_T → Prop} (h : ∀ v, bv v (t.2.1 = 0 ∧ t.2.2.1 = s.toInt - 1) → K v T) : zs_C (zx σ n0 bf) d 8026 [.ref m, .int s] T (zs_kI K Q) := by
  refine u_X9_isKept hB hd ?_
  have e6 : (zs_I T 8006 m).toInt = 2 ↔ (t.2.1 = 0 ∧ t.2.2.1 < 36) := by
    constructor
    · intro g
      by_cases h0 : t.2.1 = 0
      · have := (W.name h0).1
        refine ⟨h0, ?_⟩
        split at this <;> omega
      · exfalso
        by_cases h1 : t.2.1 = 1
        · have := (W.num h1).1; omega
        · by_cases h2 : t.2.1 = 2
          · have := (W.txt h2).1; omega
          · by_cases h4 : t.2.1 = 4
            · have := W.fin h4; omega
            · have := (W.sgn (by omega)).1; omega
    · intro g
      have := (W.name g.1).1
      rw [if_pos g.2] at this
      exact this
  refine ⟨R.K, fun g => absurd W.ok g, fun _ => ⟨fun g => h _ (bv.f ?_), fun g => ⟨fun g2 => h _ (bv.f ?_), fun g2 => h _ (bv.t ?_)⟩⟩⟩ <;> (try simp only [zi_eq, zi_lit, Classical.not_not] at g) <;> (try simp only [zi_eq, Classical.not_not] at g2)
  · intro q; exact g (e6.mpr ⟨q.1, by omega⟩)
  · intro q
    have := (W.name q.1).2
    omega
  · have h3 := e6.mp g
    exact ⟨h3.1, by have := (W.name h3.1).2; omega⟩
/-- a fault at the word at hand -/
theorem r_here (hB : zt_B bf) (hd : 2 ≤ d) (R : mR n0 T m A) (hf : zs_I T 8010 m = 0) {c : Int32} {K : zs_T → Prop} (h : ∀ T1, mX m A T T1 [8011, 8010] → zs_I T1 8010 m = c → zs_I T1 8011 m = zs_I T 8007 m → K T1) : zs_C (zx σ n0 bf) d 8027 [.ref m, .int c] T (zs_kV K Q) := by
  refine u_X9_here hB (by omega) ?_
  refine ⟨R.K, r_flaw hB (by omega) R ?_⟩
  intro T1 q1 q2 q3
  obtain ⟨q4, q5⟩ := q3 hf
  exact h T1 q1 q4 q5
/-- an instruction -/
theorem r_emit (hB : zt_B bf) (hd : 1 ≤ d) (R : mR n0 T m A) {k : Nat} (hk : (zs_I T 8040 m).toInt = k) (hb : k < 150000) {p1 p2 p3 p4 : Int32} {K : Int32 → zs_T → Prop} (h : ∀ T1 (v : Int32), mX m A T T1 [8036, 8037, 8038, 8039, 8040] → v.toInt = k → (zs_I T1 8040 m).toInt = k + 1 → zs_i T1 (A 8036) k = p1 → zs_i T1 (A 8037) k = p2 → zs_i T1 (A 8038) k = p3 → zs_i T1 (A 8039) k = p4 → (∀ f, f = 8036 ∨ f = 8037 ∨ f = 8038 ∨ f = 8039 → ∀ j, j ≠ k → zs_i T1 (A f) j = zs_i T (A f) j) → K v T1) : zs_C (zx σ n0 bf) d 8012 [.ref m, .int p1, .int p2, .int p3, .int p4] T (zs_kI K Q) := by
  have inj := R.inj
  have e1 : (zs_I T 8040 m).toNatClampNeg = k := by rw [zi_nat]; omega
  refine u_X9_emit hB hd ?_
  refine ⟨R.K, A 8036, R.r8036, zi_A R.k8036 (by omega) (by omega), R.ga _, ?_⟩
  rintro _ rfl
  refine ⟨A 8037, R.r8037, zi_A R.k8037 (by simp only [zs_rda]; omega) (by simp only [zs_rda]; omega), R.ga _, ?_⟩
  rintro _ rfl
  refine ⟨A 8038, R.r8038, zi_A R.k8038 (by simp only [zs_rda]; omega) (by simp only [zs_rda]; omega), R.ga _, ?_⟩
  rintro _ rfl
  refine ⟨by simpa [zs_rda] using R.K, A 8039, R.r8039, zi_A (by simpa [zs_rda] using R.k8039) (by simp only [zs_rda]; omega) (by simp only [zs_rda]; omega), R.ga _, ?_⟩
  rintro _ rfl
  refine ⟨R.g, ?_⟩
  rintro _ rfl
  simp only [zs_rda, e1]
  have X1 := (((((mX.refl T).si R (f := 8036) (k := k) (v := p1)).si R (f := 8037) (k := k) (v := p2)).si R (f := 8038) (k := k) (v := p3)).si R (f := 8039) (k := k) (v := p4)).sI R (f := 8040) (v := zs_I T 8040 m + 1)
  have e2 : (zs_I T 8040 m + 1).toInt = k + 1 := by rw [zi_add] <;> simp only [zi_lit] <;> omega
  simp only [zs_rd, and_self, if_true]
  refine h _ _ (X1.mk' rfl) (by rw [zi_sub] <;> simp only [zi_lit] <;> omega) (by simp only [zs_rd, and_self, if_true]; exact e2) (by simp [zs_rd, zs_rda, inj]) (by simp [zs_rd, zs_rda, inj]) (by simp [zs_rd, zs_rda, inj]) (by simp [zs_rd, zs_rda, inj]) ?_
  rintro f (rfl | rfl | rfl | rfl) j hj <;> simp [zs_rd, zs_rda, inj, hj]
end RO
