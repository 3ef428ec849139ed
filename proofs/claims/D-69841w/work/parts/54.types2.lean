/-! TYPES, 2: what is asked of them, on both sides -/
/-- a boolean answer -/
def bv (v : Int32) (p : Prop) : Prop := v = 1 ∧ p ∨ v = 0 ∧ ¬ p
theorem bv.n {v : Int32} {p : Prop} (h : bv v p) (g : v = 0) : ¬ p := by
  rcases h with h | h
  · rw [h.1] at g; exact absurd g (by decide)
  · exact h.2
theorem bv.y {v : Int32} {p : Prop} (h : bv v p) (g : ¬ v = 0) : p := by
  rcases h with h | h
  · exact h.2
  · exact absurd h.1 g
theorem bv.t {p : Prop} (h : p) : bv 1 p := .inl ⟨rfl, h⟩
theorem bv.f {p : Prop} (h : ¬ p) : bv 0 p := .inr ⟨rfl, h⟩
theorem bv.of {v : Int32} {p : Prop} (h : v.toInt = 1 ∧ p ∨ v.toInt = 0 ∧ ¬ p) : bv v p := by
  rcases h with ⟨h, g⟩ | ⟨h, g⟩
  · exact .inl ⟨zi_eq.mpr h, g⟩
  · exact .inr ⟨zi_eq.mpr h, g⟩
theorem bv.iff {v : Int32} {p q : Prop} (h : bv v p) (e : p ↔ q) : bv v q := by
  rcases h with h | h
  · exact .inl ⟨h.1, e.mp h.2⟩
  · exact .inr ⟨h.1, fun g => h.2 (e.mpr g)⟩
def tO (S : zs_T) (a : Nat) : Prop := tK S a ≤ 4
def tT (S : zs_T) (a : Nat) : Prop := tK S a = 6 ∨ tK S (tH S a) = 2
def tS (S : zs_T) (a : Nat) : Prop := tK S a = 5 ∨ tK S a = 13
def tBs (S : zs_T) (a : Nat) : Nat := (zs_R S 6002 a).getD 0
/-- two sets -/
def tSS (S : zs_T) (a b : Nat) : Prop := tS S a ∧ tS S b ∧ (tK S a = 13 ∨ tK S b = 13 ∨ tH S (tBs S a) = tH S (tBs S b))
def tGI (S : zs_T) (a s : Nat) : Prop := tO S a ∧ (tK S s = 13 ∨ tK S s = 5 ∧ tH S (tBs S s) = tH S a)
def tP (S : zs_T) (a : Nat) : Prop := tK S a = 9 ∨ tK S a = 12
def tPP (S : zs_T) (a b : Nat) : Prop := tP S a ∧ tP S b ∧ (tK S a = 12 ∨ tK S b = 12 ∨ a = b)
def tCmp (S : zs_T) (op : Int) (a b : Nat) : Prop := (tO S a ∧ tO S b ∧ tH S a = tH S b) ∨ (tT S a ∧ tT S b) ∨ (tSS S a b ∧ op ≠ 60 ∧ op ≠ 62) ∨ (tPP S a b ∧ (op = 61 ∨ op = 256))
section TY2
variable {σ : Nat → Nat} {n0 : Nat} {bf : ab_B} {d : Nat} {S T : zs_T} {Q : zs_Q} {m : Nat} {A : Nat → Nat} {τ ς : Nat → Nat} {ity bty cty sty nty mty : Nat}
theorem TR.sbase (W : TR S T A τ ς ity bty cty sty nty mty) {a : Nat} (ha : 0 < τ a) (hk : tK S a = 5) : zs_R S 6002 a = some (tBs S a) ∧ 0 < τ (tBs S a) ∧ (zs_i T (A 8045) (τ a)).toInt = τ (tBs S a) ∧ tK S (tBs S a) ≤ 4 := by
  obtain ⟨b, h1, h2, h3, h4⟩ := (W.ty a ha).set hk
  have e : tBs S a = b := by simp [tBs, h1]
  rw [e]
  exact ⟨h1, h2, h3, h4⟩
theorem c_goesIn (hB : zt_B bf) (hd : 2 ≤ d) (W : TR S T A τ ς ity bty cty sty nty mty) {a s : Nat} (ha : 0 < τ a) (hs : 0 < τ s) {K : Int32 → zs_T → Prop} (h : ∀ v, bv v (tGI S a s) → K v S) : zs_C (zx σ n0 bf) d 4055 [.ref a, .ref s] S (zs_kI K Q) := by
  have ta := W.ty a ha
  have ts := W.ty s hs
  refine u_X5_goesIn (p0 := some a) (p1 := some s) hB (by omega) ?_
  refine ⟨a, rfl, ta.K, c_isOrdinal hB (by omega) ta.K ?_⟩
  intro v hv
  have hv := bv.of hv
  refine ⟨fun g => h _ (bv.f (fun q => hv.n g q.1)), fun g => ⟨s, rfl, ts.K, fun g1 => h _ (bv.t ⟨hv.y g, .inl (zi_eq.mp g1)⟩), fun g1 => ⟨fun g2 => h _ (bv.f ?_), fun g2 => ?_⟩⟩⟩
  · rintro ⟨-, e | e⟩
    · exact g1 (zi_eq.mpr e)
    · exact g2 (zi_eq.mpr e.1)
  · have hk : tK S s = 5 := zi_eq.mp (Classical.not_not.mp g2)
    obtain ⟨b1, b2, b3, b4⟩ := W.sbase hs hk
    refine ⟨_, b1, (W.ty _ b2).K, c_host hB (by omega) W b2 ⟨ta.K, c_host hB (by omega) W ha ⟨fun g3 => h _ (bv.f ?_), fun g3 => h _ (bv.t ⟨hv.y g, .inr ⟨hk, ?_⟩⟩)⟩⟩⟩
    · rintro ⟨-, e | e⟩
      · omega
      · exact g3 (by rw [e.2])
    · exact Option.some.inj (Classical.not_not.mp g3)
theorem c_sameSets (hB : zt_B bf) (hd : 2 ≤ d) (W : TR S T A τ ς ity bty cty sty nty mty) {a s : Nat} (ha : 0 < τ a) (hs : 0 < τ s) {K : Int32 → zs_T → Prop} (h : ∀ v, bv v (tSS S a s) → K v S) : zs_C (zx σ n0 bf) d 4034 [.ref a, .ref s] S (zs_kI K Q) := by
  have ta := W.ty a ha
  have ts := W.ty s hs
  refine u_X5_sameSets (p0 := some a) (p1 := some s) hB (by omega) ?_
  refine c_isSet hB (by omega) ta.K ?_
  intro v hv
  have hv := bv.of hv
  refine ⟨fun g => h _ (bv.f (fun q => hv.n g q.1)), fun g => c_isSet hB (by omega) ts.K ?_⟩
  intro v2 hv2
  have hv2 := bv.of hv2
  have hA := hv.y g
  refine ⟨fun g2 => h _ (bv.f (fun q => hv2.n g2 q.2.1)), fun g2 => ⟨a, rfl, ta.K, fun g3 => h _ (bv.t ⟨hA, hv2.y g2, .inl (zi_eq.mp g3)⟩), fun g3 => ⟨s, rfl, ts.K, fun g4 => h _ (bv.t ⟨hA, hv2.y g2, .inr (.inl (zi_eq.mp g4))⟩), fun g4 => ?_⟩⟩⟩
  have k1 : tK S a ≠ 13 := fun e => g3 (zi_eq.mpr e)
  have k2 : tK S s ≠ 13 := fun e => g4 (zi_eq.mpr e)
  have k3 : tK S a = 5 := hA.resolve_right k1
  have k4 : tK S s = 5 := (hv2.y g2).resolve_right k2
  obtain ⟨b1, b2, b3, b4⟩ := W.sbase ha k3
  obtain ⟨c1, c2, c3, c4⟩ := W.sbase hs k4
  refine ⟨_, b1, (W.ty _ b2).K, c_host hB (by omega) W b2 ⟨ts.K, _, c1, (W.ty _ c2).K, c_host hB (by omega) W c2 ⟨fun g5 => h _ (bv.f ?_), fun g5 => h _ (bv.t ⟨hA, hv2.y g2, .inr (.inr ?_)⟩)⟩⟩⟩
  · rintro ⟨-, -, e | e | e⟩
    · exact k1 e
    · exact k2 e
    · exact g5 (by rw [e])
  · exact Option.some.inj (Classical.not_not.mp g5)
theorem c_compares (hB : zt_B bf) (hd : 3 ≤ d) (W : TR S T A τ ς ity bty cty sty nty mty) {a b : Nat} (ha : 0 < τ a) (hb : 0 < τ b) {op : Int32} {K : Int32 → zs_T → Prop} (h : ∀ v, bv v (tCmp S op.toInt a b) → K v S) : zs_C (zx σ n0 bf) d 4056 [.int op, .ref a, .ref b] S (zs_kI K Q) := by
  have ta := W.ty a ha
  have tb := W.ty b hb
  have th := W.host ha
  have thb := W.host hb
  -- pointers
  have k132 : ¬ (tO S a ∧ tO S b ∧ tH S a = tH S b) → ¬ (tT S a ∧ tT S b) → ¬ tSS S a b → ¬ tPP S a b → w_X5_compares_132 (zx σ n0 bf) (d - 1) op S (zs_kI K Q) := by
    intro g1 g2 g3 g4
    refine ⟨fun _ => h _ (bv.f ?_), fun g => absurd rfl g⟩
    rintro (e | e | e | e)
    · exact g1 e
    · exact g2 e
    · exact g3 e.1
    · exact g4 e.1
  have k128 : ¬ (tO S a ∧ tO S b ∧ tH S a = tH S b) → ¬ (tT S a ∧ tT S b) → ¬ tSS S a b → tPP S a b → w_X5_compares_128 (zx σ n0 bf) (d - 1) op S (zs_kI K Q) := by
    intro g1 g2 g3 g4
    refine ⟨fun g => absurd g (by decide), fun _ => ⟨fun g => h _ (bv.t (.inr (.inr (.inr ⟨g4, .inl ?_⟩)))), fun g => ⟨fun g5 => h _ (bv.f ?_), fun g5 => h _ (bv.t (.inr (.inr (.inr ⟨g4, .inr ?_⟩))))⟩⟩⟩ <;> (try simp only [zi_eq, zi_lit2] at g) <;> (try simp only [zi_eq, zi_lit2, Classical.not_not] at g5)
    · exact g
    · rintro (e | e | e | e)
      · exact g1 e
      · exact g2 e
      · exact g3 e.1
      · omega
    · exact g5
  have k43 : ¬ (tO S a ∧ tO S b ∧ tH S a = tH S b) → ¬ (tT S a ∧ tT S b) → w_X5_compares_43 (zx σ n0 bf) (d - 1) op (some a) (some b) S (zs_kI K Q) := by
    intro g1 g2
    refine c_sameSets hB (by omega) W ha hb ?_
    intro v hv
    refine ⟨fun g => ⟨a, rfl, ta.K, ?_⟩, fun g => ?_⟩
    · have g3 := hv.n g
      have hne9 : (zs_I S 6000 a).toInt = tK S a := rfl
      have hne8 : (zs_I S 6000 b).toInt = tK S b := rfl
      have k105 : tP S a → tP S b → w_X5_compares_105 (zx σ n0 bf) (d - 1) op (some a) (some b) S (zs_kI K Q) := by
        intro p1 p2
        refine ⟨a, rfl, ta.K, fun e => k128 g1 g2 g3 ⟨p1, p2, .inl (zi_eq.mp e)⟩, fun e => ⟨b, rfl, tb.K, fun e2 => k128 g1 g2 g3 ⟨p1, p2, .inr (.inl (zi_eq.mp e2))⟩, fun e2 => ⟨fun e3 => k132 g1 g2 g3 ?_, fun e3 => k128 g1 g2 g3 ⟨p1, p2, .inr (.inr ?_)⟩⟩⟩⟩
        · rintro ⟨-, -, q | q | q⟩
          · exact e (zi_eq.mpr q)
          · exact e2 (zi_eq.mpr q)
          · exact e3 (by rw [q])
        · exact Option.some.inj (Classical.not_not.mp e3)
      have k87 : tP S a → w_X5_compares_87 (zx σ n0 bf) (d - 1) op (some a) (some b) S (zs_kI K Q) := by
        intro p1
        refine ⟨b, rfl, tb.K, fun e => k105 p1 (.inl (zi_eq.mp e)), fun e => ⟨fun e2 => k132 g1 g2 g3 ?_, fun e2 => k105 p1 (.inr (zi_eq.mp (Classical.not_not.mp e2)))⟩⟩
        rintro ⟨-, q | q, -⟩
        · exact e (zi_eq.mpr q)
        · exact e2 (zi_eq.mpr q)
      refine ⟨fun e => k87 (.inl (zi_eq.mp e)), fun e => ⟨fun e2 => k132 g1 g2 g3 ?_, fun e2 => k87 (.inr (zi_eq.mp (Classical.not_not.mp e2)))⟩⟩
      rintro ⟨q | q, -, -⟩
      · exact e (zi_eq.mpr q)
      · exact e2 (zi_eq.mpr q)
    · have g3 := hv.y g
      have np : ¬ tPP S a b := by
        rintro ⟨q, -, -⟩
        have := g3.1
        unfold tS at this
        unfold tP at q
        omega
      refine ⟨fun e => h _ (bv.f ?_), fun e => ⟨fun e2 => h _ (bv.f ?_), fun e2 => h _ (bv.t (.inr (.inr (.inl ⟨g3, ?_, ?_⟩))))⟩⟩ <;> (try simp only [zi_eq, zi_lit2] at e) <;> (try simp only [zi_eq, zi_lit2] at e2)
      · rintro (q | q | q | q)
        · exact g1 q
        · exact g2 q
        · exact q.2.1 e
        · exact np q.1
      · rintro (q | q | q | q)
        · exact g1 q
        · exact g2 q
        · exact q.2.2 e2
        · exact np q.1
      · exact e
      · exact e2
  have k27 : ¬ (tO S a ∧ tO S b ∧ tH S a = tH S b) → w_X5_compares_27 (zx σ n0 bf) (d - 1) op (some a) (some b) S (zs_kI K Q) := by
    intro g1
    refine c_isText hB (by omega) W ha ?_
    intro v hv
    have hv := bv.of hv
    refine ⟨fun g => k43 g1 (fun q => hv.n g q.1), fun g => c_isText hB (by omega) W hb ?_⟩
    intro v2 hv2
    have hv2 := bv.of hv2
    exact ⟨fun g2 => k43 g1 (fun q => hv2.n g2 q.2), fun g2 => h _ (bv.t (.inr (.inl ⟨hv.y g, hv2.y g2⟩)))⟩
  refine u_X5_compares (p1 := some a) (p2 := some b) hB (by omega) ?_
  refine ⟨a, rfl, ta.K, c_isOrdinal hB (by omega) ta.K ?_⟩
  intro v hv
  have hv := bv.of hv
  refine ⟨fun g => k27 (fun q => hv.n g q.1), fun g => ⟨b, rfl, tb.K, c_isOrdinal hB (by omega) tb.K ?_⟩⟩
  intro v2 hv2
  have hv2 := bv.of hv2
  refine ⟨fun g2 => k27 (fun q => hv2.n g2 q.2.1), fun g2 => ⟨ta.K, c_host hB (by omega) W ha ⟨tb.K, c_host hB (by omega) W hb ⟨fun g3 => k27 (fun q => g3 (by rw [q.2.2])), fun g3 => h _ (bv.t (.inl ⟨hv.y g, hv2.y g2, ?_⟩))⟩⟩⟩⟩
  exact Option.some.inj (Classical.not_not.mp g3)
/-- the reference's side -/
theorem r_isOrdinal (hB : zt_B bf) (hd : 1 ≤ d) (R : mR n0 T m A) (W : TR S T A τ ς ity bty cty sty nty mty) {a : Nat} (ha : 0 < τ a) {p : Int32} (hp : p.toInt = τ a) {K : Int32 → zs_T → Prop} (h : ∀ v, bv v (tO S a) → K v T) : zs_C (zx σ n0 bf) d 8036 [.ref m, .int p] T (zs_kI K Q) := by
  obtain ⟨i1, i2, i3⟩ := W.idx ha hp
  have kk := W.kk ha
  refine u_X9_isOrdinal hB hd ?_
  refine ⟨fun g => absurd (zi_le.mp g) (by simp only [zi_lit]; omega), fun _ => ⟨R.K, A 8044, R.r8044, zi_A R.k8044 (by omega) (by omega), ?_⟩⟩
  rw [i3]
  refine ⟨fun g => h _ (bv.f ?_), fun g => h _ (bv.t ?_)⟩ <;> simp only [zi_lt, zi_lit3] at g <;> unfold tO <;> omega
theorem r_host (hB : zt_B bf) (hd : 1 ≤ d) (R : mR n0 T m A) (W : TR S T A τ ς ity bty cty sty nty mty) {a : Nat} (ha : 0 < τ a) {p : Int32} (hp : p.toInt = τ a) {K : Int32 → zs_T → Prop} (h : ∀ v : Int32, v.toInt = τ (tH S a) → K v T) : zs_C (zx σ n0 bf) d 8042 [.ref m, .int p] T (zs_kI K Q) := by
  obtain ⟨i1, i2, i3⟩ := W.idx ha hp
  have kk := W.kk ha
  have th := W.host ha
  refine u_X9_host hB hd ?_
  refine ⟨R.K, A 8044, R.r8044, zi_A R.k8044 (by omega) (by omega), ?_⟩
  rw [i3]
  refine ⟨fun g => h _ ?_, fun g => ⟨A 8045, R.r8045, zi_A R.k8045 (by omega) (by omega), h _ ?_⟩⟩ <;> simp only [zi_eq, zi_lit3, Classical.not_not] at g
  · rw [th.2.2.1 (by omega)]; exact hp
  · rw [(th.2.2.2 (by omega)).1]
theorem TR.hnum (W : TR S T A τ ς ity bty cty sty nty mty) {a : Nat} (ha : 0 < τ a) (ho : tO S a) : (τ (tH S a) = 1 ↔ tH S a = ity) ∧ (τ (tH S a) = 2 ↔ tH S a = bty) ∧ (τ (tH S a) = 3 ↔ tH S a = cty) := by
  have th := W.host ha
  have h3 : tK S (tH S a) ≤ 3 := th.2.1 ho
  have nk := W.knd
  have nn := W.num
  have key : ∀ x, 0 < τ x → tK S x ≤ 4 → (τ (tH S a) = τ x ↔ tH S a = x) := fun x _ hx5 => ⟨fun e => W.inj _ _ th.1 e (by omega) (by omega), fun e => by rw [e]⟩
  exact ⟨by rw [← key ity (by omega) (by omega), nn.1], by rw [← key bty (by omega) (by omega), nn.2.1], by rw [← key cty (by omega) (by omega), nn.2.2.1]⟩
theorem r_isText (hB : zt_B bf) (hd : 2 ≤ d) (R : mR n0 T m A) (W : TR S T A τ ς ity bty cty sty nty mty) {a : Nat} (ha : 0 < τ a) {p : Int32} (hp : p.toInt = τ a) {K : Int32 → zs_T → Prop} (h : ∀ v, bv v (tT S a) → K v T) : zs_C (zx σ n0 bf) d 8043 [.ref m, .int p] T (zs_kI K Q) := by
  obtain ⟨i1, i2, i3⟩ := W.idx ha hp
  have kk := W.kk ha
  have th := W.host ha
  refine u_X9_isText hB (by omega) ?_
  refine ⟨fun g => absurd (zi_le.mp g) (by simp only [zi_lit]; omega), fun _ => ⟨R.K, A 8044, R.r8044, zi_A R.k8044 (by omega) (by omega), ?_⟩⟩
  rw [i3]
  refine ⟨fun g => h _ (bv.t (.inl ?_)), fun g => ⟨fun g2 => h _ (bv.t (.inl ?_)), fun g2 => ⟨fun g3 => h _ (bv.f ?_), fun g3 => ?_⟩⟩⟩ <;> (try simp only [zi_eq, zi_lit3] at g) <;> (try simp only [zi_eq, zi_lit3] at g2) <;> (try simp only [zi_lt, zi_lit3] at g3)
  · omega
  · omega
  · rintro (e | e)
    · omega
    · by_cases h4 : tK S a = 4
      · omega
      · rw [th.2.2.1 h4] at e; omega
  · have ho : tO S a := by unfold tO; omega
    have hn := W.hnum ha ho
    refine ⟨R.K, r_host hB (by omega) R W ha hp ?_⟩
    intro v hv
    refine ⟨fun g4 => h _ (bv.f ?_), fun g4 => h _ (bv.t (.inr ?_))⟩ <;> simp only [zi_eq, zi_lit2, Classical.not_not] at g4
    · rintro (e | e)
      · omega
      · have := (W.one _ th.1).2.2.1 e
        have := hn.2.2.mpr this
        omega
    · have := hn.2.2.mp (by omega)
      rw [this]; exact W.knd.2.2.1
theorem r_isString (hB : zt_B bf) (hd : 1 ≤ d) (R : mR n0 T m A) (W : TR S T A τ ς ity bty cty sty nty mty) {a : Nat} (ha : 0 < τ a) {p : Int32} (hp : p.toInt = τ a) {K : Int32 → zs_T → Prop} (h : ∀ v, bv v (tK S a = 6) → K v T) : zs_C (zx σ n0 bf) d 8044 [.ref m, .int p] T (zs_kI K Q) := by
  obtain ⟨i1, i2, i3⟩ := W.idx ha hp
  have kk := W.kk ha
  refine u_X9_isString hB (by omega) ?_
  refine ⟨fun g => absurd (zi_le.mp g) (by simp only [zi_lit]; omega), fun _ => ⟨R.K, A 8044, R.r8044, zi_A R.k8044 (by omega) (by omega), ?_⟩⟩
  rw [i3]
  refine ⟨fun g => h _ (bv.t ?_), fun g => ⟨fun g2 => h _ (bv.f ?_), fun g2 => h _ (bv.t ?_)⟩⟩ <;> (try simp only [zi_eq, zi_lit3] at g) <;> (try simp only [zi_eq, zi_lit3, Classical.not_not] at g2) <;> omega
theorem r_isInteger (hB : zt_B bf) (hd : 2 ≤ d) (R : mR n0 T m A) (W : TR S T A τ ς ity bty cty sty nty mty) {a : Nat} (ha : 0 < τ a) {p : Int32} (hp : p.toInt = τ a) {K : Int32 → zs_T → Prop} (h : ∀ v, bv v (tH S a = ity) → K v T) : zs_C (zx σ n0 bf) d 8051 [.ref m, .int p] T (zs_kI K Q) := by
  have th := W.host ha
  refine u_X9_isInteger hB (by omega) ?_
  refine ⟨R.K, r_isOrdinal hB (by omega) R W ha hp ?_⟩
  intro v hv
  refine ⟨fun g => h _ (bv.f ?_), fun g => ⟨R.K, r_host hB (by omega) R W ha hp ?_⟩⟩
  · intro e
    have h1 := hv.n g
    have hk := W.knd.1
    rw [← e] at hk
    by_cases h4 : tK S a = 4
    · exact h1 (by unfold tO; omega)
    · rw [th.2.2.1 h4] at hk
      exact h1 (by unfold tO; omega)
  · intro v2 hv2
    have hn := (W.hnum ha (hv.y g)).1
    refine ⟨fun g2 => h _ (bv.f (fun e => ?_)), fun g2 => h _ (bv.t ?_)⟩ <;> simp only [zi_eq, zi_lit, Classical.not_not] at g2
    · have := hn.mpr e; omega
    · exact hn.mp (by omega)
theorem r_isBoolean (hB : zt_B bf) (hd : 2 ≤ d) (R : mR n0 T m A) (W : TR S T A τ ς ity bty cty sty nty mty) {a : Nat} (ha : 0 < τ a) {p : Int32} (hp : p.toInt = τ a) {K : Int32 → zs_T → Prop} (h : ∀ v, bv v (tH S a = bty) → K v T) : zs_C (zx σ n0 bf) d 8054 [.ref m, .int p] T (zs_kI K Q) := by
  have th := W.host ha
  refine u_X9_isBoolean hB (by omega) ?_
  refine ⟨R.K, r_isOrdinal hB (by omega) R W ha hp ?_⟩
  intro v hv
  refine ⟨fun g => h _ (bv.f ?_), fun g => ⟨R.K, r_host hB (by omega) R W ha hp ?_⟩⟩
  · intro e
    have h1 := hv.n g
    have hk := W.knd.2.1
    rw [← e] at hk
    by_cases h4 : tK S a = 4
    · exact h1 (by unfold tO; omega)
    · rw [th.2.2.1 h4] at hk
      exact h1 (by unfold tO; omega)
  · intro v2 hv2
    have hn := (W.hnum ha (hv.y g)).2.1
    refine ⟨fun g2 => h _ (bv.f (fun e => ?_)), fun g2 => h _ (bv.t ?_)⟩ <;> simp only [zi_eq, zi_lit, Classical.not_not] at g2
    · have := hn.mpr e; omega
    · exact hn.mp (by omega)
theorem r_isSet (hB : zt_B bf) (hd : 1 ≤ d) (R : mR n0 T m A) (W : TR S T A τ ς ity bty cty sty nty mty) {a : Nat} (ha : 0 < τ a) {p : Int32} (hp : p.toInt = τ a) {K : Int32 → zs_T → Prop} (h : ∀ v, bv v (tS S a) → K v T) : zs_C (zx σ n0 bf) d 8040 [.ref m, .int p] T (zs_kI K Q) := by
  obtain ⟨i1, i2, i3⟩ := W.idx ha hp
  have kk := W.kk ha
  refine u_X9_isSet hB (by omega) ?_
  refine ⟨fun g => absurd (zi_le.mp g) (by simp only [zi_lit]; omega), fun _ => ⟨R.K, A 8044, R.r8044, zi_A R.k8044 (by omega) (by omega), ?_⟩⟩
  rw [i3]
  have e13 : (13 : Int32).toInt = 13 := by decide
  refine ⟨fun g => h _ (bv.t (.inl ?_)), fun g => ⟨fun g2 => h _ (bv.f ?_), fun g2 => h _ (bv.t (.inr ?_))⟩⟩ <;> (try simp only [zi_eq, zi_lit3] at g) <;> (try simp only [zi_eq, e13, Classical.not_not] at g2)
  · omega
  · rintro (e | e) <;> omega
  · omega
theorem r_isPointer (hB : zt_B bf) (hd : 1 ≤ d) (R : mR n0 T m A) (W : TR S T A τ ς ity bty cty sty nty mty) {a : Nat} (ha : 0 < τ a) {p : Int32} (hp : p.toInt = τ a) {K : Int32 → zs_T → Prop} (h : ∀ v, bv v (tP S a) → K v T) : zs_C (zx σ n0 bf) d 8048 [.ref m, .int p] T (zs_kI K Q) := by
  obtain ⟨i1, i2, i3⟩ := W.idx ha hp
  have kk := W.kk ha
  refine u_X9_isPointer hB (by omega) ?_
  refine ⟨fun g => absurd (zi_le.mp g) (by simp only [zi_lit]; omega), fun _ => ⟨R.K, A 8044, R.r8044, zi_A R.k8044 (by omega) (by omega), ?_⟩⟩
  rw [i3]
  refine ⟨fun g => h _ (bv.t (.inl ?_)), fun g => ⟨fun g2 => h _ (bv.f ?_), fun g2 => h _ (bv.t (.inr ?_))⟩⟩ <;> (try simp only [zi_eq, zi_lit2] at g) <;> (try simp only [zi_eq, zi_lit3, Classical.not_not] at g2)
  · omega
  · rintro (e | e) <;> omega
  · omega
/-- the host of a set's members; 0 -/
theorem r_memberHost (hB : zt_B bf) (hd : 2 ≤ d) (R : mR n0 T m A) (W : TR S T A τ ς ity bty cty sty nty mty) {a : Nat} (ha : 0 < τ a) (hs : tS S a) {p : Int32} (hp : p.toInt = τ a) {K : Int32 → zs_T → Prop} (h : ∀ v : Int32, (tK S a = 13 → v.toInt = 0) → (tK S a = 5 → v.toInt = τ (tH S (tBs S a))) → K v T) : zs_C (zx σ n0 bf) d 8041 [.ref m, .int p] T (zs_kI K Q) := by
  obtain ⟨i1, i2, i3⟩ := W.idx ha hp
  have kk := W.kk ha
  have e13 : (13 : Int32).toInt = 13 := by decide
  unfold tS at hs
  refine u_X9_memberHost hB (by omega) ?_
  refine ⟨R.K, A 8044, R.r8044, zi_A R.k8044 (by omega) (by omega), ?_⟩
  rw [i3]
  refine ⟨fun g => ⟨A 8045, R.r8045, zi_A R.k8045 (by omega) (by omega), ?_⟩, fun g => h _ (fun _ => rfl) (fun g2 => ?_)⟩ <;> simp only [zi_eq, e13, Classical.not_not] at g
  · have hk : tK S a = 5 := by omega
    obtain ⟨b1, b2, b3, b4⟩ := W.sbase ha hk
    refine r_host hB (by omega) R W b2 b3 ?_
    intro v hv
    exact h v (fun g2 => by omega) (fun _ => hv)
  · omega
theorem r_areSets (hB : zt_B bf) (hd : 3 ≤ d) (R : mR n0 T m A) (W : TR S T A τ ς ity bty cty sty nty mty) {a b : Nat} (ha : 0 < τ a) (hb : 0 < τ b) {p q : Int32} (hp : p.toInt = τ a) (hq : q.toInt = τ b) {K : Int32 → zs_T → Prop} (h : ∀ v, bv v (tSS S a b) → K v T) : zs_C (zx σ n0 bf) d 8046 [.ref m, .int p, .int q] T (zs_kI K Q) := by
  refine u_X9_areSets hB (by omega) ?_
  refine ⟨R.K, r_isSet hB (by omega) R W ha hp ?_⟩
  intro v hv
  refine ⟨fun g => h _ (bv.f (fun e => hv.n g e.1)), fun g => ⟨R.K, r_isSet hB (by omega) R W hb hq ?_⟩⟩
  intro v2 hv2
  refine ⟨fun g2 => h _ (bv.f (fun e => hv2.n g2 e.2.1)), fun g2 => ⟨R.K, ?_⟩⟩
  have hA := hv.y g
  have hBs := hv2.y g2
  have pos : ∀ x, 0 < τ x → tK S x = 5 → 0 < τ (tH S (tBs S x)) := fun x hx hk => (W.host (W.sbase hx hk).2.1).1
  refine r_memberHost hB (by omega) R W ha hA hp ?_
  intro v3 h31 h32
  refine ⟨fun g3 => h _ (bv.t ⟨hA, hBs, .inl ?_⟩), fun g3 => ⟨R.K, ?_⟩⟩ <;> simp only [zi_eq, zi_lit] at g3
  · rcases hA with e | e
    · have := pos a ha e; have := h32 e; omega
    · exact e
  · have hA5 : tK S a = 5 := by
      rcases hA with e | e
      · exact e
      · exact absurd (h31 e) g3
    refine r_memberHost hB (by omega) R W hb hBs hq ?_
    intro v4 h41 h42
    refine ⟨fun g4 => h _ (bv.t ⟨hA, hBs, .inr (.inl ?_)⟩), fun g4 => ⟨R.K, ?_⟩⟩ <;> simp only [zi_eq, zi_lit] at g4
    · rcases hBs with e | e
      · have := pos b hb e; have := h42 e; omega
      · exact e
    · have hB5 : tK S b = 5 := by
        rcases hBs with e | e
        · exact e
        · exact absurd (h41 e) g4
      refine r_memberHost hB (by omega) R W ha hA hp ?_
      intro v5 h51 h52
      refine ⟨R.K, r_memberHost hB (by omega) R W hb hBs hq ?_⟩
      intro v6 h61 h62
      have a1 := W.sbase ha hA5
      have a2 := W.sbase hb hB5
      have t1 := W.host a1.2.1
      have t2 := W.host a2.2.1
      refine ⟨fun g5 => h _ (bv.f ?_), fun g5 => h _ (bv.t ⟨hA, hBs, .inr (.inr ?_)⟩)⟩ <;> simp only [zi_eq, Classical.not_not] at g5
      · rintro ⟨-, -, e | e | e⟩
        · omega
        · omega
        · exact g5 (by rw [h52 hA5, h62 hB5, e])
      · refine W.inj _ _ t1.1 ?_ ?_ ?_
        · have := h52 hA5; have := h62 hB5; omega
        · have := t1.2.1 a1.2.2.2; omega
        · have := t2.2.1 a2.2.2.2; omega
theorem r_arePointers (hB : zt_B bf) (hd : 2 ≤ d) (R : mR n0 T m A) (W : TR S T A τ ς ity bty cty sty nty mty) {a b : Nat} (ha : 0 < τ a) (hb : 0 < τ b) {p q : Int32} (hp : p.toInt = τ a) (hq : q.toInt = τ b) {K : Int32 → zs_T → Prop} (h : ∀ v, bv v (tPP S a b) → K v T) : zs_C (zx σ n0 bf) d 8047 [.ref m, .int p, .int q] T (zs_kI K Q) := by
  obtain ⟨i1, i2, i3⟩ := W.idx ha hp
  obtain ⟨j1, j2, j3⟩ := W.idx hb hq
  have kka := W.kk ha
  have kkb := W.kk hb
  refine u_X9_arePointers hB (by omega) ?_
  refine ⟨R.K, r_isPointer hB (by omega) R W ha hp ?_⟩
  intro v hv
  refine ⟨fun g => h _ (bv.f (fun e => hv.n g e.1)), fun g => ⟨R.K, r_isPointer hB (by omega) R W hb hq ?_⟩⟩
  intro v2 hv2
  refine ⟨fun g2 => h _ (bv.f (fun e => hv2.n g2 e.2.1)), fun g2 => ?_⟩
  have hA := hv.y g
  have hBp := hv2.y g2
  unfold tP at hA hBp
  refine ⟨fun g3 => h _ (bv.t ⟨hA, hBp, .inr (.inr ?_)⟩), fun g3 => ⟨R.K, A 8044, R.r8044, zi_A R.k8044 (by omega) (by omega), ?_⟩⟩ <;> simp only [zi_eq] at g3
  · exact W.inj _ _ ha (by omega) (by omega) (by omega)
  · rw [i3]
    refine ⟨fun g4 => h _ (bv.t ⟨hA, hBp, .inl ?_⟩), fun g4 => ⟨R.K, A 8044, R.r8044, zi_A R.k8044 (by omega) (by omega), ?_⟩⟩ <;> simp only [zi_eq, zi_lit3] at g4
    · omega
    · rw [j3]
      refine ⟨fun g5 => h _ (bv.f ?_), fun g5 => h _ (bv.t ⟨hA, hBp, .inr (.inl ?_)⟩)⟩ <;> simp only [zi_eq, zi_lit3, Classical.not_not] at g5
      · rintro ⟨-, -, e | e | e⟩
        · omega
        · omega
        · rw [e] at hp; omega
      · omega
end TY2
