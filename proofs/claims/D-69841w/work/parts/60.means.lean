/-! WHAT NAMES MEAN, in the reference -/
abbrev mE : Type := Int32 × Int32 × Int32 × Int32 × Int32 × Int32
/-- kind, name, type, value, more, block -/
def mE0 : mE := (0, 0, 0, 0, 0, 0)
/-- the last one of the first k that has this name, from 1 on; 0 -/
def mLast (Ms : List mE) (nm : Nat) : Nat → Nat
  | 0 => 0
  | k + 1 => if (Ms.getD k mE0).2.1.toInt = nm then k + 1 else mLast Ms nm k
theorem mLast_le (Ms : List mE) (nm : Nat) : ∀ k, mLast Ms nm k ≤ k
  | 0 => Nat.le_refl _
  | k + 1 => by
    rw [mLast]
    split
    · exact Nat.le_refl _
    · exact Nat.le_succ_of_le (mLast_le Ms nm k)
theorem mE_old {Ms : List mE} {e : mE} {k : Nat} (h : k < Ms.length) : (Ms ++ [e]).getD k mE0 = Ms.getD k mE0 := by simp [List.getD, List.getElem?_append_left h]
theorem mE_new (Ms : List mE) (e : mE) : (Ms ++ [e]).getD Ms.length mE0 = e := by simp [List.getD]
theorem mLast_old {Ms : List mE} {e : mE} {nm : Nat} : ∀ {k : Nat}, k ≤ Ms.length → mLast (Ms ++ [e]) nm k = mLast Ms nm k
  | 0, _ => rfl
  | k + 1, h => by rw [mLast, mLast, mE_old (by omega), mLast_old (by omega)]
/-- the means Ms, the blocks Bs (where they begin, their numbers), so many blocks in all -/
def mM (T : zs_T) (m : Nat) (A : Nat → Nat) (names : Nat) (Ms : List mE) (Bs : List (Nat × Nat)) (cnt : Nat) : Prop := ((zs_I T 8031 m).toInt = Ms.length) ∧ (Ms.length ≤ 19900) ∧ (∀ i, i < Ms.length → zs_i T (A 8024) (i + 1) = (Ms.getD i mE0).1) ∧ (∀ i, i < Ms.length → zs_i T (A 8025) (i + 1) = (Ms.getD i mE0).2.1) ∧ (∀ i, i < Ms.length → zs_i T (A 8026) (i + 1) = (Ms.getD i mE0).2.2.1) ∧ (∀ i, i < Ms.length → zs_i T (A 8027) (i + 1) = (Ms.getD i mE0).2.2.2.1) ∧ (∀ i, i < Ms.length → zs_i T (A 8028) (i + 1) = (Ms.getD i mE0).2.2.2.2.1) ∧ (∀ i, i < Ms.length → (zs_i T (A 8029) (i + 1)).toInt = mLast Ms (Ms.getD i mE0).2.1.toInt.toNat i) ∧ (∀ i, i < Ms.length → zs_i T (A 8030) (i + 1) = (Ms.getD i mE0).2.2.2.2.2) ∧ (∀ i, i < Ms.length → 1 ≤ (Ms.getD i mE0).2.1.toInt ∧ (Ms.getD i mE0).2.1.toInt ≤ names) ∧ (∀ j, 1 ≤ j → j ≤ names → (zs_i T (A 8019) j).toInt = mLast Ms j Ms.length) ∧ ((zs_I T 8034 m).toInt = Bs.length) ∧ (Bs.length ≤ 98) ∧ (∀ i, i < Bs.length → (zs_i T (A 8032) i).toInt = (Bs.getD i (0, 0)).1) ∧ (∀ i, i < Bs.length → (zs_i T (A 8033) i).toInt = (Bs.getD i (0, 0)).2) ∧ ((zs_I T 8035 m).toInt = cnt) ∧ (cnt ≤ 100000) ∧ (∀ i, i < Bs.length → (Bs.getD i (0, 0)).1 ≤ Ms.length ∧ (Bs.getD i (0, 0)).2 ≤ cnt) ∧ (∀ i j, i < j → j < Bs.length → (Bs.getD i (0, 0)).1 ≤ (Bs.getD j (0, 0)).1 ∧ (Bs.getD i (0, 0)).2 < (Bs.getD j (0, 0)).2) ∧ (∀ k, k < Ms.length → ∃ i, i < Bs.length ∧ (Ms.getD k mE0).2.2.2.2.2.toInt = (Bs.getD i (0, 0)).2 ∧ (Bs.getD i (0, 0)).1 ≤ k ∧ ∀ j, i < j → j < Bs.length → k < (Bs.getD j (0, 0)).1) ∧ (names ≤ 16900)
theorem mM.n {T : zs_T} {m : Nat} {A : Nat → Nat} {names : Nat} {Ms : List mE} {Bs : List (Nat × Nat)} {cnt : Nat} (W : mM T m A names Ms Bs cnt) : (zs_I T 8031 m).toInt = Ms.length := W.1
theorem mM.bd {T : zs_T} {m : Nat} {A : Nat → Nat} {names : Nat} {Ms : List mE} {Bs : List (Nat × Nat)} {cnt : Nat} (W : mM T m A names Ms Bs cnt) : Ms.length ≤ 19900 := W.2.1
theorem mM.kind {T : zs_T} {m : Nat} {A : Nat → Nat} {names : Nat} {Ms : List mE} {Bs : List (Nat × Nat)} {cnt : Nat} (W : mM T m A names Ms Bs cnt) : ∀ i, i < Ms.length → zs_i T (A 8024) (i + 1) = (Ms.getD i mE0).1 := W.2.2.1
theorem mM.name {T : zs_T} {m : Nat} {A : Nat → Nat} {names : Nat} {Ms : List mE} {Bs : List (Nat × Nat)} {cnt : Nat} (W : mM T m A names Ms Bs cnt) : ∀ i, i < Ms.length → zs_i T (A 8025) (i + 1) = (Ms.getD i mE0).2.1 := W.2.2.2.1
theorem mM.type {T : zs_T} {m : Nat} {A : Nat → Nat} {names : Nat} {Ms : List mE} {Bs : List (Nat × Nat)} {cnt : Nat} (W : mM T m A names Ms Bs cnt) : ∀ i, i < Ms.length → zs_i T (A 8026) (i + 1) = (Ms.getD i mE0).2.2.1 := W.2.2.2.2.1
theorem mM.val {T : zs_T} {m : Nat} {A : Nat → Nat} {names : Nat} {Ms : List mE} {Bs : List (Nat × Nat)} {cnt : Nat} (W : mM T m A names Ms Bs cnt) : ∀ i, i < Ms.length → zs_i T (A 8027) (i + 1) = (Ms.getD i mE0).2.2.2.1 := W.2.2.2.2.2.1
theorem mM.more {T : zs_T} {m : Nat} {A : Nat → Nat} {names : Nat} {Ms : List mE} {Bs : List (Nat × Nat)} {cnt : Nat} (W : mM T m A names Ms Bs cnt) : ∀ i, i < Ms.length → zs_i T (A 8028) (i + 1) = (Ms.getD i mE0).2.2.2.2.1 := W.2.2.2.2.2.2.1
theorem mM.bef {T : zs_T} {m : Nat} {A : Nat → Nat} {names : Nat} {Ms : List mE} {Bs : List (Nat × Nat)} {cnt : Nat} (W : mM T m A names Ms Bs cnt) : ∀ i, i < Ms.length → (zs_i T (A 8029) (i + 1)).toInt = mLast Ms (Ms.getD i mE0).2.1.toInt.toNat i := W.2.2.2.2.2.2.2.1
theorem mM.blk {T : zs_T} {m : Nat} {A : Nat → Nat} {names : Nat} {Ms : List mE} {Bs : List (Nat × Nat)} {cnt : Nat} (W : mM T m A names Ms Bs cnt) : ∀ i, i < Ms.length → zs_i T (A 8030) (i + 1) = (Ms.getD i mE0).2.2.2.2.2 := W.2.2.2.2.2.2.2.2.1
theorem mM.nam {T : zs_T} {m : Nat} {A : Nat → Nat} {names : Nat} {Ms : List mE} {Bs : List (Nat × Nat)} {cnt : Nat} (W : mM T m A names Ms Bs cnt) : ∀ i, i < Ms.length → 1 ≤ (Ms.getD i mE0).2.1.toInt ∧ (Ms.getD i mE0).2.1.toInt ≤ names := W.2.2.2.2.2.2.2.2.2.1
theorem mM.now {T : zs_T} {m : Nat} {A : Nat → Nat} {names : Nat} {Ms : List mE} {Bs : List (Nat × Nat)} {cnt : Nat} (W : mM T m A names Ms Bs cnt) : ∀ j, 1 ≤ j → j ≤ names → (zs_i T (A 8019) j).toInt = mLast Ms j Ms.length := W.2.2.2.2.2.2.2.2.2.2.1
theorem mM.bn {T : zs_T} {m : Nat} {A : Nat → Nat} {names : Nat} {Ms : List mE} {Bs : List (Nat × Nat)} {cnt : Nat} (W : mM T m A names Ms Bs cnt) : (zs_I T 8034 m).toInt = Bs.length := W.2.2.2.2.2.2.2.2.2.2.2.1
theorem mM.bb {T : zs_T} {m : Nat} {A : Nat → Nat} {names : Nat} {Ms : List mE} {Bs : List (Nat × Nat)} {cnt : Nat} (W : mM T m A names Ms Bs cnt) : Bs.length ≤ 98 := W.2.2.2.2.2.2.2.2.2.2.2.2.1
theorem mM.bfr {T : zs_T} {m : Nat} {A : Nat → Nat} {names : Nat} {Ms : List mE} {Bs : List (Nat × Nat)} {cnt : Nat} (W : mM T m A names Ms Bs cnt) : ∀ i, i < Bs.length → (zs_i T (A 8032) i).toInt = (Bs.getD i (0, 0)).1 := W.2.2.2.2.2.2.2.2.2.2.2.2.2.1
theorem mM.bnr {T : zs_T} {m : Nat} {A : Nat → Nat} {names : Nat} {Ms : List mE} {Bs : List (Nat × Nat)} {cnt : Nat} (W : mM T m A names Ms Bs cnt) : ∀ i, i < Bs.length → (zs_i T (A 8033) i).toInt = (Bs.getD i (0, 0)).2 := W.2.2.2.2.2.2.2.2.2.2.2.2.2.2.1
theorem mM.bc {T : zs_T} {m : Nat} {A : Nat → Nat} {names : Nat} {Ms : List mE} {Bs : List (Nat × Nat)} {cnt : Nat} (W : mM T m A names Ms Bs cnt) : (zs_I T 8035 m).toInt = cnt := W.2.2.2.2.2.2.2.2.2.2.2.2.2.2.2.1
theorem mM.cb {T : zs_T} {m : Nat} {A : Nat → Nat} {names : Nat} {Ms : List mE} {Bs : List (Nat × Nat)} {cnt : Nat} (W : mM T m A names Ms Bs cnt) : cnt ≤ 100000 := W.2.2.2.2.2.2.2.2.2.2.2.2.2.2.2.2.1
theorem mM.bin {T : zs_T} {m : Nat} {A : Nat → Nat} {names : Nat} {Ms : List mE} {Bs : List (Nat × Nat)} {cnt : Nat} (W : mM T m A names Ms Bs cnt) : ∀ i, i < Bs.length → (Bs.getD i (0, 0)).1 ≤ Ms.length ∧ (Bs.getD i (0, 0)).2 ≤ cnt := W.2.2.2.2.2.2.2.2.2.2.2.2.2.2.2.2.2.1
theorem mM.mono {T : zs_T} {m : Nat} {A : Nat → Nat} {names : Nat} {Ms : List mE} {Bs : List (Nat × Nat)} {cnt : Nat} (W : mM T m A names Ms Bs cnt) : ∀ i j, i < j → j < Bs.length → (Bs.getD i (0, 0)).1 ≤ (Bs.getD j (0, 0)).1 ∧ (Bs.getD i (0, 0)).2 < (Bs.getD j (0, 0)).2 := W.2.2.2.2.2.2.2.2.2.2.2.2.2.2.2.2.2.2.1
theorem mM.inb {T : zs_T} {m : Nat} {A : Nat → Nat} {names : Nat} {Ms : List mE} {Bs : List (Nat × Nat)} {cnt : Nat} (W : mM T m A names Ms Bs cnt) : ∀ k, k < Ms.length → ∃ i, i < Bs.length ∧ (Ms.getD k mE0).2.2.2.2.2.toInt = (Bs.getD i (0, 0)).2 ∧ (Bs.getD i (0, 0)).1 ≤ k ∧ ∀ j, i < j → j < Bs.length → k < (Bs.getD j (0, 0)).1 := W.2.2.2.2.2.2.2.2.2.2.2.2.2.2.2.2.2.2.2.1
theorem mM.nb {T : zs_T} {m : Nat} {A : Nat → Nat} {names : Nat} {Ms : List mE} {Bs : List (Nat × Nat)} {cnt : Nat} (W : mM T m A names Ms Bs cnt) : names ≤ 16900 := W.2.2.2.2.2.2.2.2.2.2.2.2.2.2.2.2.2.2.2.2
theorem mM.mk {T : zs_T} {m : Nat} {A : Nat → Nat} {names : Nat} {Ms : List mE} {Bs : List (Nat × Nat)} {cnt : Nat} (h0 : (zs_I T 8031 m).toInt = Ms.length) (h1 : Ms.length ≤ 19900) (h2 : ∀ i, i < Ms.length → zs_i T (A 8024) (i + 1) = (Ms.getD i mE0).1) (h3 : ∀ i, i < Ms.length → zs_i T (A 8025) (i + 1) = (Ms.getD i mE0).2.1) (h4 : ∀ i, i < Ms.length → zs_i T (A 8026) (i + 1) = (Ms.getD i mE0).2.2.1) (h5 : ∀ i, i < Ms.length → zs_i T (A 8027) (i + 1) = (Ms.getD i mE0).2.2.2.1) (h6 : ∀ i, i < Ms.length → zs_i T (A 8028) (i + 1) = (Ms.getD i mE0).2.2.2.2.1) (h7 : ∀ i, i < Ms.length → (zs_i T (A 8029) (i + 1)).toInt = mLast Ms (Ms.getD i mE0).2.1.toInt.toNat i) (h8 : ∀ i, i < Ms.length → zs_i T (A 8030) (i + 1) = (Ms.getD i mE0).2.2.2.2.2) (h9 : ∀ i, i < Ms.length → 1 ≤ (Ms.getD i mE0).2.1.toInt ∧ (Ms.getD i mE0).2.1.toInt ≤ names) (h10 : ∀ j, 1 ≤ j → j ≤ names → (zs_i T (A 8019) j).toInt = mLast Ms j Ms.length) (h11 : (zs_I T 8034 m).toInt = Bs.length) (h12 : Bs.length ≤ 98) (h13 : ∀ i, i < Bs.length → (zs_i T (A 8032) i).toInt = (Bs.getD i (0, 0)).1) (h14 : ∀ i, i < Bs.length → (zs_i T (A 8033) i).toInt = (Bs.getD i (0, 0)).2) (h15 : (zs_I T 8035 m).toInt = cnt) (h16 : cnt ≤ 100000) (h17 : ∀ i, i < Bs.length → (Bs.getD i (0, 0)).1 ≤ Ms.length ∧ (Bs.getD i (0, 0)).2 ≤ cnt) (h18 : ∀ i j, i < j → j < Bs.length → (Bs.getD i (0, 0)).1 ≤ (Bs.getD j (0, 0)).1 ∧ (Bs.getD i (0, 0)).2 < (Bs.getD j (0, 0)).2) (h19 : ∀ k, k < Ms.length → ∃ i, i < Bs.length ∧ (Ms.getD k mE0).2.2.2.2.2.toInt = (Bs.getD i (0, 0)).2 ∧ (Bs.getD i (0, 0)).1 ≤ k ∧ ∀ j, i < j → j < Bs.length → k < (Bs.getD j (0, 0)).1) (h20 : names ≤ 16900) : mM T m A names Ms Bs cnt := ⟨h0, h1, h2, h3, h4, h5, h6, h7, h8, h9, h10, h11, h12, h13, h14, h15, h16, h17, h18, h19, h20⟩
def mMF : List Nat := [8031, 8024, 8025, 8026, 8027, 8028, 8029, 8030, 8019, 8034, 8032, 8033, 8035]
section MM
variable {σ : Nat → Nat} {n0 : Nat} {bf : ab_B} {d : Nat} {T T1 : zs_T} {Q : zs_Q} {m names cnt : Nat} {A : Nat → Nat} {Ms : List mE} {Bs : List (Nat × Nat)} {F : List Nat}
theorem mM.X (W : mM T m A names Ms Bs cnt) (h : mX m A T T1 F) (h1 : (mMF.all fun f => ! F.elem f) = true) : mM T1 m A names Ms Bs cnt := by
  have h2 : ∀ f, f ∈ mMF → f ∉ F := by
    intro f hf
    have := List.all_eq_true.mp h1 f hf
    simpa using this
  exact ⟨by rw [h.I _ (h2 8031 (by decide))]; exact W.n, W.bd, fun i hi => by rw [h.i _ (h2 8024 (by decide))]; exact W.kind i hi, fun i hi => by rw [h.i _ (h2 8025 (by decide))]; exact W.name i hi, fun i hi => by rw [h.i _ (h2 8026 (by decide))]; exact W.type i hi, fun i hi => by rw [h.i _ (h2 8027 (by decide))]; exact W.val i hi, fun i hi => by rw [h.i _ (h2 8028 (by decide))]; exact W.more i hi, fun i hi => by rw [h.i _ (h2 8029 (by decide))]; exact W.bef i hi, fun i hi => by rw [h.i _ (h2 8030 (by decide))]; exact W.blk i hi, W.nam, fun j h3 h4 => by rw [h.i _ (h2 8019 (by decide))]; exact W.now j h3 h4, by rw [h.I _ (h2 8034 (by decide))]; exact W.bn, W.bb, fun i hi => by rw [h.i _ (h2 8032 (by decide))]; exact W.bfr i hi, fun i hi => by rw [h.i _ (h2 8033 (by decide))]; exact W.bnr i hi, by rw [h.I _ (h2 8035 (by decide))]; exact W.bc, W.cb, W.bin, W.mono, W.inb, W.nb⟩
/-- a word is read: perhaps a new name, without a meaning -/
theorem mM.word {l1 : Nat} (W : mM T m A names Ms Bs cnt) (h : mX m A T T1 mLF) (hn : mw_n T T1 A names l1) (hl : l1 = names ∨ l1 = names + 1) (hb : l1 ≤ 16900) : mM T1 m A l1 Ms Bs cnt := by
  have h2 : ∀ f, f ∈ mMF → f ≠ 8019 → f ∉ mLF := by
    intro f hf hne
    simp only [mMF, mLF, List.mem_cons, List.not_mem_nil, or_false] at hf ⊢
    omega
  refine ⟨by rw [h.I _ (h2 8031 (by decide) (by decide))]; exact W.n, W.bd, fun i hi => by rw [h.i _ (h2 8024 (by decide) (by decide))]; exact W.kind i hi, fun i hi => by rw [h.i _ (h2 8025 (by decide) (by decide))]; exact W.name i hi, fun i hi => by rw [h.i _ (h2 8026 (by decide) (by decide))]; exact W.type i hi, fun i hi => by rw [h.i _ (h2 8027 (by decide) (by decide))]; exact W.val i hi, fun i hi => by rw [h.i _ (h2 8028 (by decide) (by decide))]; exact W.more i hi, fun i hi => by rw [h.i _ (h2 8029 (by decide) (by decide))]; exact W.bef i hi, fun i hi => by rw [h.i _ (h2 8030 (by decide) (by decide))]; exact W.blk i hi, fun i hi => ⟨(W.nam i hi).1, by have := (W.nam i hi).2; omega⟩, ?_, by rw [h.I _ (h2 8034 (by decide) (by decide))]; exact W.bn, W.bb, fun i hi => by rw [h.i _ (h2 8032 (by decide) (by decide))]; exact W.bfr i hi, fun i hi => by rw [h.i _ (h2 8033 (by decide) (by decide))]; exact W.bnr i hi, by rw [h.I _ (h2 8035 (by decide) (by decide))]; exact W.bc, W.cb, W.bin, W.mono, W.inb, hb⟩
  intro j h3 h4
  by_cases e : j = names + 1
  · have e2 : l1 = names + 1 := by omega
    rw [e, hn.new e2]
    have : ∀ k, k ≤ Ms.length → mLast Ms (names + 1) k = 0 := by
      intro k
      induction k with
      | zero => intro _; rfl
      | succ k ih =>
        intro hk
        have := (W.nam k (by omega)).2
        rw [mLast, if_neg (by omega), ih (by omega)]
    rw [this _ (Nat.le_refl _)]
    rfl
  · rw [hn.old j e]
    exact W.now j h3 (by omega)
/-- a name gets a meaning -/
theorem r_tell (hB : zt_B bf) (hd : 1 ≤ d) (R : mR n0 T m A) (W : mM T m A names Ms Bs cnt) (hb : Ms.length < 19900) (hB0 : 1 ≤ Bs.length) {p1 p2 p3 p4 p5 : Int32} (h1 : 1 ≤ p1.toInt ∧ p1.toInt ≤ names) (h2 : 0 ≤ p2.toInt ∧ p2.toInt ≤ 127) {K : Int32 → zs_T → Prop}
    (h : ∀ (T1 : zs_T) (v bk : Int32), mX m A T T1 mMF → v.toInt = Ms.length + 1 → bk.toInt = (Bs.getD (Bs.length - 1) (0, 0)).2 → mM T1 m A names (Ms ++ [(p2, p1, p3, p4, p5, bk)]) Bs cnt → K v T1) : zs_C (zx σ n0 bf) d 8011 [.ref m, .int p1, .int p2, .int p3, .int p4, .int p5] T (zs_kI K Q) := by
  have inj := R.inj
  have hn := W.n
  have hbn := W.bn
  have hbb := W.bb
  have hnb := W.nb
  have e1 : (zs_I T 8031 m + 1).toInt = Ms.length + 1 := by rw [zi_add] <;> simp only [zi_lit] <;> omega
  have e2 : (zs_I T 8031 m + 1).toNatClampNeg = Ms.length + 1 := by rw [zi_nat]; omega
  have e3 : p1.toNatClampNeg = p1.toInt.toNat := rfl
  have e4 : (zs_I T 8034 m - 1).toInt = ((Bs.length - 1 : Nat) : Int) := by rw [zi_sub] <;> simp only [zi_lit] <;> omega
  have e5 : (zs_I T 8034 m - 1).toNatClampNeg = Bs.length - 1 := by rw [zi_nat]; omega
  have e6 : vp_nar .byte p2.toInt8.toInt32 = p2 := by
    rw [zi_eq, zi_byte rfl h2.1 h2.2]
  refine u_X9_tell hB hd ?_
  refine ⟨R.K, R.g, ?_⟩
  rintro _ rfl
  simp only [zs_rd, and_self, if_true, e2]
  refine ⟨A 8024, R.r8024, zi_A R.k8024 (by omega) (by omega), R.ga _, ?_⟩
  rintro _ rfl
  simp only [zs_rd, zs_rda, and_self, if_true, e2]
  refine ⟨A 8025, R.r8025, zi_A R.k8025 (by omega) (by omega), R.ga _, ?_⟩
  rintro _ rfl
  refine ⟨by simpa [zs_rd, zs_rda] using R.K, ?_⟩
  simp only [zs_rd, zs_rda, and_self, if_true, e2]
  refine ⟨A 8026, R.r8026, zi_A (by simpa [zs_rd, zs_rda] using R.k8026) (by omega) (by omega), R.ga _, ?_⟩
  rintro _ rfl
  simp only [zs_rd, zs_rda, and_self, if_true, e2]
  refine ⟨A 8027, R.r8027, zi_A (by simpa [zs_rd, zs_rda] using R.k8027) (by omega) (by omega), R.ga _, ?_⟩
  rintro _ rfl
  simp only [zs_rd, zs_rda, and_self, if_true, e2]
  refine ⟨A 8028, R.r8028, zi_A (by simpa [zs_rd, zs_rda] using R.k8028) (by omega) (by omega), R.ga _, ?_⟩
  rintro _ rfl
  have X1 := (((((((mX.refl T).sI R (f := 8031) (v := zs_I T 8031 m + 1)).si R (f := 8024) (k := Ms.length + 1) (v := vp_nar .byte p2.toInt8.toInt32)).si R (f := 8025) (k := Ms.length + 1) (v := p1)).si R (f := 8026) (k := Ms.length + 1) (v := p3)).si R (f := 8027) (k := Ms.length + 1) (v := p4)).si R (f := 8028) (k := Ms.length + 1) (v := p5))
  have d1 : ∀ f, f = 8024 ∨ f = 8025 ∨ f = 8026 ∨ f = 8027 ∨ f = 8028 → ∀ j, zs_i (zs_si (zs_si (zs_si (zs_si (zs_si (zs_sI T 8031 m (zs_I T 8031 m + 1)) (A 8024) (Ms.length + 1) (vp_nar .byte p2.toInt8.toInt32)) (A 8025) (Ms.length + 1) p1) (A 8026) (Ms.length + 1) p3) (A 8027) (Ms.length + 1) p4) (A 8028) (Ms.length + 1) p5) (A f) j = if j = Ms.length + 1 then (if f = 8024 then p2 else if f = 8025 then p1 else if f = 8026 then p3 else if f = 8027 then p4 else p5) else zs_i T (A f) j := by
    rintro f (rfl | rfl | rfl | rfl | rfl) j <;> simp [zs_rd, zs_rda, inj, e6]
  have d2 : zs_I (zs_si (zs_si (zs_si (zs_si (zs_si (zs_sI T 8031 m (zs_I T 8031 m + 1)) (A 8024) (Ms.length + 1) (vp_nar .byte p2.toInt8.toInt32)) (A 8025) (Ms.length + 1) p1) (A 8026) (Ms.length + 1) p3) (A 8027) (Ms.length + 1) p4) (A 8028) (Ms.length + 1) p5) 8031 m = zs_I T 8031 m + 1 := by simp only [zs_rd, zs_rda, and_self, if_true]
  generalize hT1 : zs_si (zs_si (zs_si (zs_si (zs_si (zs_sI T 8031 m (zs_I T 8031 m + 1)) (A 8024) (Ms.length + 1) (vp_nar .byte p2.toInt8.toInt32)) (A 8025) (Ms.length + 1) p1) (A 8026) (Ms.length + 1) p3) (A 8027) (Ms.length + 1) p4) (A 8028) (Ms.length + 1) p5 = T1 at X1 d1 d2
  clear hT1
  have R1 := R.X X1
  have b1 := W.now p1.toInt.toNat (by omega) (by omega)
  have m0 : zs_i T1 (A 8019) p1.toNatClampNeg = zs_i T (A 8019) p1.toInt.toNat := X1.i 8019 (by decide) _
  have q1 : zs_I T1 8034 m = zs_I T 8034 m := X1.I 8034 (by decide)
  have q2 : zs_i T1 (A 8033) (Bs.length - 1) = zs_i T (A 8033) (Bs.length - 1) := X1.i 8033 (by decide) _
  have b2 := W.bnr (Bs.length - 1) (by omega)
  refine ⟨R1.K, A 8019, R1.r8019, zi_A R1.k8019 (by omega) (by omega), A 8029, R1.r8029, zi_A R1.k8029 (by rw [d2]; omega) (by rw [d2]; omega), R.ga _, ?_⟩
  rintro _ rfl
  simp only [zs_rda, d2, e2, q1, e5]
  refine ⟨A 8033, R1.r8033, zi_A R1.k8033 (by omega) (by omega), A 8030, R1.r8030, zi_A R1.k8030 (by omega) (by omega), R.ga _, ?_⟩
  rintro _ rfl
  have n33 : (if A 8033 = A 8029 ∧ Bs.length - 1 = Ms.length + 1 then zs_i T1 (A 8019) p1.toNatClampNeg else zs_i T1 (A 8033) (Bs.length - 1)) = zs_i T (A 8033) (Bs.length - 1) := by simp [inj, q2]
  rw [n33]
  refine ⟨by simpa [zs_rda] using R1.K, A 8019, R1.r8019, zi_A (by simpa [zs_rda] using R1.k8019) (by omega) (by omega), R.ga _, ?_⟩
  rintro _ rfl
  simp only [zs_rda, d2, e3]
  have X2 := ((X1.si R (f := 8029) (k := Ms.length + 1) (v := zs_i T1 (A 8019) p1.toInt.toNat)).si R (f := 8030) (k := Ms.length + 1) (v := zs_i T (A 8033) (Bs.length - 1))).si R (f := 8019) (k := p1.toInt.toNat) (v := zs_I T 8031 m + 1)
  have d3 : ∀ f, f = 8024 ∨ f = 8025 ∨ f = 8026 ∨ f = 8027 ∨ f = 8028 ∨ f = 8032 ∨ f = 8033 → ∀ j, zs_i (zs_si (zs_si (zs_si T1 (A 8029) (Ms.length + 1) (zs_i T1 (A 8019) p1.toInt.toNat)) (A 8030) (Ms.length + 1) (zs_i T (A 8033) (Bs.length - 1))) (A 8019) p1.toInt.toNat (zs_I T 8031 m + 1)) (A f) j = zs_i T1 (A f) j := by
    rintro f (rfl | rfl | rfl | rfl | rfl | rfl | rfl) j <;> simp [zs_rda, inj]
  have d4 : ∀ j, zs_i (zs_si (zs_si (zs_si T1 (A 8029) (Ms.length + 1) (zs_i T1 (A 8019) p1.toInt.toNat)) (A 8030) (Ms.length + 1) (zs_i T (A 8033) (Bs.length - 1))) (A 8019) p1.toInt.toNat (zs_I T 8031 m + 1)) (A 8029) j = if j = Ms.length + 1 then zs_i T (A 8019) p1.toInt.toNat else zs_i T (A 8029) j := by
    intro j
    have := X1.i 8029 (by decide) j
    have m1 : zs_i T1 (A 8019) p1.toNatClampNeg = zs_i T (A 8019) p1.toNatClampNeg := X1.i 8019 (by decide) _
    simp [zs_rda, inj, m1, this]
  have d5 : ∀ j, zs_i (zs_si (zs_si (zs_si T1 (A 8029) (Ms.length + 1) (zs_i T1 (A 8019) p1.toInt.toNat)) (A 8030) (Ms.length + 1) (zs_i T (A 8033) (Bs.length - 1))) (A 8019) p1.toInt.toNat (zs_I T 8031 m + 1)) (A 8030) j = if j = Ms.length + 1 then zs_i T (A 8033) (Bs.length - 1) else zs_i T (A 8030) j := by
    intro j
    have := X1.i 8030 (by decide) j
    simp [zs_rda, inj, this]
  have d6 : ∀ j, zs_i (zs_si (zs_si (zs_si T1 (A 8029) (Ms.length + 1) (zs_i T1 (A 8019) p1.toInt.toNat)) (A 8030) (Ms.length + 1) (zs_i T (A 8033) (Bs.length - 1))) (A 8019) p1.toInt.toNat (zs_I T 8031 m + 1)) (A 8019) j = if j = p1.toInt.toNat then zs_I T 8031 m + 1 else zs_i T (A 8019) j := by
    intro j
    have := X1.i 8019 (by decide) j
    simp [zs_rda, inj, this]
  have d7 : ∀ f, zs_I (zs_si (zs_si (zs_si T1 (A 8029) (Ms.length + 1) (zs_i T1 (A 8019) p1.toInt.toNat)) (A 8030) (Ms.length + 1) (zs_i T (A 8033) (Bs.length - 1))) (A 8019) p1.toInt.toNat (zs_I T 8031 m + 1)) f m = zs_I T1 f m := fun f => by simp [zs_rda]
  generalize hT2 : zs_si (zs_si (zs_si T1 (A 8029) (Ms.length + 1) (zs_i T1 (A 8019) p1.toInt.toNat)) (A 8030) (Ms.length + 1) (zs_i T (A 8033) (Bs.length - 1))) (A 8019) p1.toInt.toNat (zs_I T 8031 m + 1) = T2 at X2 d3 d4 d5 d6 d7
  clear hT2
  have row : ∀ f v, f = 8024 ∧ v = p2 ∨ f = 8025 ∧ v = p1 ∨ f = 8026 ∧ v = p3 ∨ f = 8027 ∧ v = p4 ∨ f = 8028 ∧ v = p5 → (∀ j, j ≠ Ms.length + 1 → zs_i T2 (A f) j = zs_i T (A f) j) ∧ zs_i T2 (A f) (Ms.length + 1) = v := by
    rintro f v (⟨rfl, rfl⟩ | ⟨rfl, rfl⟩ | ⟨rfl, rfl⟩ | ⟨rfl, rfl⟩ | ⟨rfl, rfl⟩) <;> exact ⟨fun j hj => by rw [d3 _ (by omega), d1 _ (by omega), if_neg hj], by rw [d3 _ (by omega), d1 _ (by omega), if_pos rfl]; simp⟩
  have r24 := row 8024 p2 (by simp)
  have r25 := row 8025 p1 (by simp)
  have r26 := row 8026 p3 (by simp)
  have r27 := row 8027 p4 (by simp)
  have r28 := row 8028 p5 (by simp)
  have lp : ∀ {P : Nat → mE → Prop}, (∀ i, i < Ms.length → P i (Ms.getD i mE0)) → P Ms.length (p2, p1, p3, p4, p5, zs_i T (A 8033) (Bs.length - 1)) → ∀ i, i < (Ms ++ [(p2, p1, p3, p4, p5, zs_i T (A 8033) (Bs.length - 1))]).length → P i ((Ms ++ [(p2, p1, p3, p4, p5, zs_i T (A 8033) (Bs.length - 1))]).getD i mE0) := by
    intro P a1 a2 i hi
    simp only [List.length_append, List.length_singleton] at hi
    by_cases e : i = Ms.length
    · subst e; rw [mE_new]; exact a2
    · rw [mE_old (by omega)]; exact a1 i (by omega)
  refine h T2 (zs_I T 8031 m + 1) (zs_i T (A 8033) (Bs.length - 1)) (X2.mk' rfl) e1 b2 ⟨?_, ?_, ?_, ?_, ?_, ?_, ?_, ?_, ?_, ?_, ?_, ?_, W.bb, ?_, ?_, ?_, W.cb, ?_, W.mono, ?_, W.nb⟩
  · rw [d7, d2, e1]; simp
  · simp only [List.length_append, List.length_singleton]; omega
  · exact lp (P := fun i e => zs_i T2 (A 8024) (i + 1) = e.1) (fun i hi => by rw [r24.1 _ (by omega)]; exact W.kind i hi) r24.2
  · exact lp (P := fun i e => zs_i T2 (A 8025) (i + 1) = e.2.1) (fun i hi => by rw [r25.1 _ (by omega)]; exact W.name i hi) r25.2
  · exact lp (P := fun i e => zs_i T2 (A 8026) (i + 1) = e.2.2.1) (fun i hi => by rw [r26.1 _ (by omega)]; exact W.type i hi) r26.2
  · exact lp (P := fun i e => zs_i T2 (A 8027) (i + 1) = e.2.2.2.1) (fun i hi => by rw [r27.1 _ (by omega)]; exact W.val i hi) r27.2
  · exact lp (P := fun i e => zs_i T2 (A 8028) (i + 1) = e.2.2.2.2.1) (fun i hi => by rw [r28.1 _ (by omega)]; exact W.more i hi) r28.2
  · intro i hi
    simp only [List.length_append, List.length_singleton] at hi
    rw [d4, mLast_old (by omega)]
    by_cases e : i = Ms.length
    · subst e; rw [if_pos rfl, mE_new]; exact b1
    · rw [if_neg (by omega), mE_old (by omega)]; exact W.bef i (by omega)
  · exact lp (P := fun i e => zs_i T2 (A 8030) (i + 1) = e.2.2.2.2.2) (fun i hi => by rw [d5, if_neg (by omega)]; exact W.blk i hi) (by rw [d5, if_pos rfl])
  · exact lp (P := fun i e => 1 ≤ e.2.1.toInt ∧ e.2.1.toInt ≤ names) (fun i hi => W.nam i hi) h1
  · intro j h3 h4
    rw [d6, List.length_append, List.length_singleton, mLast, mE_new, mLast_old (Nat.le_refl _)]
    by_cases e : j = p1.toInt.toNat
    · rw [if_pos e, if_pos (by simp only; omega), e1]; omega
    · rw [if_neg e, if_neg (by simp only; omega)]; exact W.now j h3 h4
  · rw [d7, q1]; exact W.bn
  · intro i hi; rw [d3 8032 (by omega), X1.i 8032 (by decide)]; exact W.bfr i hi
  · intro i hi; rw [d3 8033 (by omega), X1.i 8033 (by decide)]; exact W.bnr i hi
  · rw [d7, X1.I 8035 (by decide)]; exact W.bc
  · intro i hi
    have := W.bin i hi
    simp only [List.length_append, List.length_singleton]
    omega
  · refine lp (P := fun k e => ∃ i, i < Bs.length ∧ e.2.2.2.2.2.toInt = (Bs.getD i (0, 0)).2 ∧ (Bs.getD i (0, 0)).1 ≤ k ∧ ∀ j, i < j → j < Bs.length → k < (Bs.getD j (0, 0)).1) (fun i hi => W.inb i hi) ?_
    exact ⟨Bs.length - 1, by omega, b2, (W.bin _ (by omega)).1, fun j g1 g2 => by omega⟩
end MM
