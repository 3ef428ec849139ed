/-! THE REFERENCE'S WORDS, 2: names -/
/-- the reference's sum of a name -/
def nm_hr (x : List Int) : Int32 := x.foldl (fun h c => (31 * h + Int32.ofInt c) &&& 4095) (Int32.ofInt x.length)
def nm_hrk (n : Nat) (x : List Int) : Int32 := x.foldl (fun h c => (31 * h + Int32.ofInt c) &&& 4095) (Int32.ofInt n)
def nm_Hr (x : List Int) : Int := (nm_hr x).toInt
theorem zi_4095 (a : Int32) : 0 ≤ (a &&& 4095).toInt ∧ (a &&& 4095).toInt ≤ 4095 := by
  have h : ∀ x : BitVec 32, 0 ≤ (x &&& 4095#32).toInt ∧ (x &&& 4095#32).toInt ≤ 4095 := by
    intro x
    have h1 : (x &&& 4095#32).toNat ≤ 4095 := by
      rw [BitVec.toNat_and]
      exact Nat.and_le_right
    rw [BitVec.toInt_eq_toNat_of_lt (by omega)]
    omega
  exact h a.toBitVec
theorem nm_hrk_snoc (n : Nat) (x : List Int) (c : Int) : nm_hrk n (x ++ [c]) = (31 * nm_hrk n x + Int32.ofInt c) &&& 4095 := by simp [nm_hrk]
theorem nm_Hr_rng {x : List Int} (h : x.length ≤ 20) : 0 ≤ nm_Hr x ∧ nm_Hr x ≤ 4095 := by
  unfold nm_Hr nm_hr
  have : ∀ (y : List Int) (s : Int32), (0 ≤ s.toInt ∧ s.toInt ≤ 4095) → 0 ≤ (y.foldl (fun h c => (31 * h + Int32.ofInt c) &&& 4095) s).toInt ∧ (y.foldl (fun h c => (31 * h + Int32.ofInt c) &&& 4095) s).toInt ≤ 4095 := by
    intro y
    induction y with
    | nil => intro s hs; exact hs
    | cons c y ih => intro s _; exact ih _ (zi_4095 _)
  refine this x _ ?_
  rw [zi_ofInt] <;> omega
/-- the reference's names -/
def mN (S : zs_T) (m : Nat) (A : Nat → Nat) (L : List (List Int)) : Prop := ((zs_I S 8020 m).toInt = L.length) ∧ ((zs_I S 8014 m).toInt = nm_off L L.length) ∧ (∀ i, i < L.length → (zs_i S (A 8015) (i + 1)).toInt = nm_off L i) ∧ (∀ i, i < L.length → (zs_i S (A 8016) (i + 1)).toInt = (nm_at L i).length) ∧ (∀ i j, i < L.length → j < (nm_at L i).length → (zs_i S (A 8013) (nm_off L i + j)).toInt = (nm_at L i).getD j 0) ∧ (∀ h : Nat, h < 4096 → (zs_i S (A 8018) h).toInt = nm_last nm_Hr L h L.length + 1) ∧ (∀ i, i < L.length → (zs_i S (A 8017) (i + 1)).toInt = nm_last nm_Hr L (nm_Hr (nm_at L i)) i + 1) ∧ (∀ i, i < L.length → nm_ok (nm_at L i)) ∧ (nm_off L L.length ≤ 33000 ∧ L.length ≤ 16600)
theorem mN.nn {S : zs_T} {m : Nat} {A : Nat → Nat} {L : List (List Int)} (W : mN S m A L) : (zs_I S 8020 m).toInt = L.length := W.1
theorem mN.room {S : zs_T} {m : Nat} {A : Nat → Nat} {L : List (List Int)} (W : mN S m A L) : (zs_I S 8014 m).toInt = nm_off L L.length := W.2.1
theorem mN.fr {S : zs_T} {m : Nat} {A : Nat → Nat} {L : List (List Int)} (W : mN S m A L) : ∀ i, i < L.length → (zs_i S (A 8015) (i + 1)).toInt = nm_off L i := W.2.2.1
theorem mN.size {S : zs_T} {m : Nat} {A : Nat → Nat} {L : List (List Int)} (W : mN S m A L) : ∀ i, i < L.length → (zs_i S (A 8016) (i + 1)).toInt = (nm_at L i).length := W.2.2.2.1
theorem mN.ltr {S : zs_T} {m : Nat} {A : Nat → Nat} {L : List (List Int)} (W : mN S m A L) : ∀ i j, i < L.length → j < (nm_at L i).length → (zs_i S (A 8013) (nm_off L i + j)).toInt = (nm_at L i).getD j 0 := W.2.2.2.2.1
theorem mN.hd {S : zs_T} {m : Nat} {A : Nat → Nat} {L : List (List Int)} (W : mN S m A L) : ∀ h : Nat, h < 4096 → (zs_i S (A 8018) h).toInt = nm_last nm_Hr L h L.length + 1 := W.2.2.2.2.2.1
theorem mN.nxt {S : zs_T} {m : Nat} {A : Nat → Nat} {L : List (List Int)} (W : mN S m A L) : ∀ i, i < L.length → (zs_i S (A 8017) (i + 1)).toInt = nm_last nm_Hr L (nm_Hr (nm_at L i)) i + 1 := W.2.2.2.2.2.2.1
theorem mN.okn {S : zs_T} {m : Nat} {A : Nat → Nat} {L : List (List Int)} (W : mN S m A L) : ∀ i, i < L.length → nm_ok (nm_at L i) := W.2.2.2.2.2.2.2.1
theorem mN.bd {S : zs_T} {m : Nat} {A : Nat → Nat} {L : List (List Int)} (W : mN S m A L) : nm_off L L.length ≤ 33000 ∧ L.length ≤ 16600 := W.2.2.2.2.2.2.2.2
theorem mN.mk {S : zs_T} {m : Nat} {A : Nat → Nat} {L : List (List Int)} (h0 : (zs_I S 8020 m).toInt = L.length) (h1 : (zs_I S 8014 m).toInt = nm_off L L.length) (h2 : ∀ i, i < L.length → (zs_i S (A 8015) (i + 1)).toInt = nm_off L i) (h3 : ∀ i, i < L.length → (zs_i S (A 8016) (i + 1)).toInt = (nm_at L i).length) (h4 : ∀ i j, i < L.length → j < (nm_at L i).length → (zs_i S (A 8013) (nm_off L i + j)).toInt = (nm_at L i).getD j 0) (h5 : ∀ h : Nat, h < 4096 → (zs_i S (A 8018) h).toInt = nm_last nm_Hr L h L.length + 1) (h6 : ∀ i, i < L.length → (zs_i S (A 8017) (i + 1)).toInt = nm_last nm_Hr L (nm_Hr (nm_at L i)) i + 1) (h7 : ∀ i, i < L.length → nm_ok (nm_at L i)) (h8 : nm_off L L.length ≤ 33000 ∧ L.length ≤ 16600) : mN S m A L := ⟨h0, h1, h2, h3, h4, h5, h6, h7, h8⟩
/-- where the letters of a name come from: the text from k0 on, or the names that are known at first -/
def mSrc (S : zs_T) (A : Nat → Nat) (n : Nat) (b : Nat → Int) (p1 : Int32) (k0 : Nat) (x : List Int) : Prop :=
  (p1 = 0 ∧ k0 + x.length ≤ n ∧ ∀ j, j < x.length → lx_small (b (k0 + j)) = x.getD j 0) ∨ (p1 ≠ 0 ∧ k0 + x.length ≤ 332 ∧ ∀ j, j < x.length → (zs_i S (A 8012) (k0 + j)).toInt = x.getD j 0)
section MN
variable {σ : Nat → Nat} {n0 : Nat} {bf : ab_B} {d : Nat} {S S1 : zs_T} {Q : zs_Q} {m n : Nat} {A : Nat → Nat} {b : Nat → Int} {F : List Nat} {L : List (List Int)} {x : List Int}
theorem mN.X (W : mN S m A L) (h : mX m A S S1 F) (h1 : ([8020, 8014, 8015, 8016, 8013, 8018, 8017].all fun f => ! F.elem f) = true) : mN S1 m A L := by
  have h2 : ∀ f, f ∈ [8020, 8014, 8015, 8016, 8013, 8018, 8017] → f ∉ F := by
    intro f hf
    have := List.all_eq_true.mp h1 f hf
    simpa using this
  refine ⟨?_, ?_, ?_, ?_, ?_, ?_, ?_, W.okn, W.bd⟩
  · rw [h.I _ (h2 8020 (by decide))]; exact W.nn
  · rw [h.I _ (h2 8014 (by decide))]; exact W.room
  · intro i hi; rw [h.i _ (h2 8015 (by decide))]; exact W.fr i hi
  · intro i hi; rw [h.i _ (h2 8016 (by decide))]; exact W.size i hi
  · intro i j hi hj; rw [h.i _ (h2 8013 (by decide))]; exact W.ltr i j hi hj
  · intro i hi; rw [h.i _ (h2 8018 (by decide))]; exact W.hd i hi
  · intro i hi; rw [h.i _ (h2 8017 (by decide))]; exact W.nxt i hi
theorem mSrc.X {p1 : Int32} {k0 : Nat} (W : mSrc S A n b p1 k0 x) (h : mX m A S S1 F) (h1 : F.elem 8012 = false) : mSrc S1 A n b p1 k0 x := by
  rcases W with W | ⟨a, c, W⟩
  · exact .inl W
  · exact .inr ⟨a, c, fun j hj => by rw [h.i 8012 (by simpa using h1)]; exact W j hj⟩
/-- a letter comes -/
theorem r_letter (hB : zt_B bf) (hd : 1 ≤ d) (W : mT n0 S m A n b) {p1 p2 p5 : Int32} {k0 k : Nat} (hs : mSrc S A n b p1 k0 x) (h2 : p2.toInt = k0) (h5 : p5.toInt = k) (hk : k < x.length) {P : Int32 → zs_T → Prop} (h : ∀ v : Int32, v.toInt = x.getD k 0 → P v S) :
    ((p1 = 0 → (zs_C (zx σ n0 bf) d 8006 [.ref m, .int (p2 + p5)] S (zs_kI (fun v9 S8 => (zs_C (zx σ n0 bf) d 8007 [.int v9] S8 (zs_kI (fun v11 S10 => P v11 S10) Q))) Q))) ∧ (¬ (p1 = 0) → (∃ b13, (zs_R S 8012 m) = some b13 ∧ zs_A S b13 1 (p2 + p5) ∧ P (zs_i S b13 (p2 + p5).toNatClampNeg) S))) := by
  have hsm := W.small
  have e : (p2 + p5).toInt = ((k0 + k : Nat) : Int) := by
    rcases hs with hs | hs
    · rw [zi_add] <;> omega
    · rw [zi_add] <;> omega
  refine ⟨fun g => ?_, fun g => ?_⟩
  · rcases hs with hs | hs
    · refine r_byteAt hB hd W e ?_
      intro v hv
      refine r_small hB hd (by have := W.rng (k0 + k); omega) ?_
      intro v2 hv2
      exact h v2 (by rw [hv2, hv]; exact hs.2.2 k hk)
    · exact absurd g hs.1
  · rcases hs with hs | hs
    · exact absurd hs.1 g
    · have e1 : (p2 + p5).toNatClampNeg = k0 + k := by rw [zi_nat]; omega
      refine ⟨A 8012, W.R.r8012, zi_A W.R.k8012 (by omega) (by omega), h _ ?_⟩
      rw [e1]
      exact hs.2.2 k hk
/-- the sum -/
theorem r_nameOf_6 (hB : zt_B bf) (hd : 1 ≤ d) (W : mT n0 S m A n b) (N : mN S m A L) {p1 p2 p3 : Int32} {k0 : Nat} (hs : mSrc S A n b p1 k0 x) (h2 : p2.toInt = k0) (h3 : p3.toInt = x.length) (hx : x.length ≤ 20)
    (kk : ∀ p4 p5 : Int32, p4.toInt = nm_Hr x → p5.toInt = nm_last nm_Hr L (nm_Hr x) L.length + 1 → zs_U (zx σ n0 bf) d 8005 66 [(0, .ref m), (1, .int p1), (2, .int p2), (3, .int p3), (4, .int p4), (5, .int p5)] [] S Q) :
    ∀ (f k : Nat) {p4 p5 : Int32}, k + f = x.length → p5.toInt = k → p4 = nm_hrk x.length (x.take k) → zs_U (zx σ n0 bf) d 8005 6 [(0, .ref m), (1, .int p1), (2, .int p2), (3, .int p3), (4, .int p4), (5, .int p5)] [] S Q
  | 0, k, p4, p5, e1, e2, e3 => by
    refine u_X9_nameOf_6 hB ?_
    refine ⟨fun hc => ?_, fun hc => ?_⟩ <;> simp only [zi_le, zi_lt, zi_eq, Classical.not_not, zi_lit] at hc <;> (try (exfalso; omega))
    have e4 : x.take k = x := List.take_of_length_le (by omega)
    rw [e4] at e3
    have e5 : p4.toInt = nm_Hr x := by rw [e3]; rfl
    have r := nm_Hr_rng hx
    refine ⟨W.R.K, A 8018, W.R.r8018, zi_A W.R.k8018 (by omega) (by omega), kk _ _ e5 ?_⟩
    rw [N.hd _ (by rw [zi_nat]; omega), zi_nat]
    congr 2
    omega
  | f + 1, k, p4, p5, e1, e2, e3 => by
    refine u_X9_nameOf_6 hB ?_
    refine ⟨fun hc => ?_, fun hc => ?_⟩ <;> simp only [zi_le, zi_lt, zi_eq, Classical.not_not, zi_lit] at hc <;> (try (exfalso; omega))
    have hk : k < x.length := by omega
    have key : ∀ v : Int32, v.toInt = x.getD k 0 → w_X9_nameOf_44 (zx σ n0 bf) d m p1 p2 p3 p5 (31 * p4) v S Q := by
      intro v hv
      refine r_nameOf_6 hB hd W N hs h2 h3 hx kk f (k + 1) (by omega) ?_ ?_
      · rw [zi_add] <;> simp only [zi_lit] <;> omega
      · rw [List.take_add_one, List.getElem?_eq_getElem hk, Option.toList_some, nm_hrk_snoc, e3, zi_of hv]
        congr 3
        simp [List.getD, List.getElem?_eq_getElem hk]
    have hl := r_letter (Q := Q) (σ := σ) hB hd W hs h2 e2 hk (P := fun v S1 => w_X9_nameOf_44 (zx σ n0 bf) d m p1 p2 p3 p5 (31 * p4) v S1 Q) key
    exact ⟨fun g => ⟨W.R.K, hl.1 g⟩, fun g => ⟨W.R.K, hl.2 g⟩⟩
/-- is it name i? -/
theorem r_nameOf_92 (hB : zt_B bf) (hd : 1 ≤ d) (W : mT n0 S m A n b) (N : mN S m A L) {p1 p2 p3 p4 p5 : Int32} {k0 i : Nat} (hs : mSrc S A n b p1 k0 x) (h2 : p2.toInt = k0) (h3 : p3.toInt = x.length) (h5 : p5.toInt = i + 1) (hi : i < L.length) (hn : (nm_at L i).length = x.length) (hok : nm_ok x)
    (ky : nm_at L i = x → w_X9_nameOf_161 (zx σ n0 bf) d m p1 p2 p3 p4 p5 1 S Q) (kn : nm_at L i ≠ x → w_X9_nameOf_161 (zx σ n0 bf) d m p1 p2 p3 p4 p5 0 S Q) :
    ∀ (f k : Nat) {p6 p7 : Int32}, k + f = x.length → p7.toInt = k → (p6 = 1 ∧ (nm_at L i).take k = x.take k ∨ p6 = 0 ∧ nm_at L i ≠ x) → zs_U (zx σ n0 bf) d 8005 92 [(0, .ref m), (1, .int p1), (2, .int p2), (3, .int p3), (4, .int p4), (5, .int p5), (6, .int p6), (7, .int p7)] [] S Q
  | 0, k, p6, p7, e1, e2, e3 => by
    refine u_X9_nameOf_92 hB ?_
    refine ⟨fun hc => ?_, fun hc => ?_⟩ <;> simp only [zi_le, zi_lt, zi_eq, Classical.not_not, zi_lit] at hc <;> (try (exfalso; omega))
    rcases e3 with ⟨rfl, e3⟩ | ⟨rfl, e3⟩
    · refine ky ?_
      rwa [List.take_of_length_le (by omega), List.take_of_length_le (by omega)] at e3
    · exact kn e3
  | f + 1, k, p6, p7, e1, e2, e3 => by
    refine u_X9_nameOf_92 hB ?_
    have hbd := N.bd
    have hl := hok.1
    have hin := nm_off_in (L := L) hi
    have ho := N.fr i hi
    refine ⟨fun hc => ?_, fun hc => ?_⟩ <;> simp only [zi_le, zi_lt, zi_eq, Classical.not_not, zi_lit] at hc <;> (try (exfalso; omega))
    rcases e3 with ⟨rfl, e3⟩ | ⟨rfl, e3⟩
    · refine ⟨fun h => absurd h (by decide), fun _ => ?_⟩
      have e5 : p5.toNatClampNeg = i + 1 := by rw [zi_nat]; omega
      have hq : (zs_i S (A 8015) p5.toNatClampNeg + p7).toInt = nm_off L i + k := by rw [e5, zi_add] <;> omega
      have e6 : (zs_i S (A 8015) p5.toNatClampNeg + p7).toNatClampNeg = nm_off L i + k := by rw [zi_nat]; omega
      have hk : k < x.length := by omega
      have hk2 : k < (nm_at L i).length := by omega
      refine ⟨W.R.K, A 8015, W.R.r8015, zi_A W.R.k8015 (by omega) (by omega), A 8013, W.R.r8013, zi_A W.R.k8013 (by omega) (by omega), ?_⟩
      refine r_letter hB hd W hs h2 e2 hk (P := fun v S1 => w_X9_nameOf_145 (zx σ n0 bf) d m p1 p2 p3 p4 p5 p7 (zs_i S (A 8013) (zs_i S (A 8015) p5.toNatClampNeg + p7).toNatClampNeg) v S1 Q) ?_
      intro v hv
      rw [e6]
      have a1 := N.ltr i k hi hk2
      simp only [List.getD, List.getElem?_eq_getElem hk, List.getElem?_eq_getElem hk2, Option.getD_some] at a1 hv
      refine ⟨fun g => ?_, fun g => ?_⟩
      · rw [zi_eq] at g
        refine r_nameOf_92 hB hd W N hs h2 h3 h5 hi hn hok ky kn f (k + 1) (by omega) (by rw [zi_add] <;> simp only [zi_lit] <;> omega) (.inr ⟨rfl, fun g2 => g ?_⟩)
        rw [a1, hv]
        simp only [g2]
      · rw [zi_eq, Classical.not_not] at g
        refine r_nameOf_92 hB hd W N hs h2 h3 h5 hi hn hok ky kn f (k + 1) (by omega) (by rw [zi_add] <;> simp only [zi_lit] <;> omega) (.inl ⟨rfl, ?_⟩)
        rw [List.take_add_one, List.take_add_one, e3, List.getElem?_eq_getElem hk, List.getElem?_eq_getElem hk2]
        rw [a1, hv] at g
        rw [g]
    · exact ⟨fun _ => kn e3, fun g => absurd rfl g⟩
end MN
