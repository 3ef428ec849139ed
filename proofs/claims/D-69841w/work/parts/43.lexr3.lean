/-! THE REFERENCE'S WORDS, 3: a name's number -/
section MN3
variable {σ : Nat → Nat} {n0 : Nat} {bf : ab_B} {d : Nat} {Q : zs_Q} {m n : Nat} {A : Nat → Nat} {b : Nat → Int} {F : List Nat} {L : List (List Int)} {x : List Int}
/-- the letters of a new name -/
theorem r_nameOf_255 (hB : zt_B bf) (hd : 1 ≤ d) {p1 p2 p3 : Int32} {k0 r0 : Nat} (h2 : p2.toInt = k0) (h3 : p3.toInt = x.length) (hok : nm_ok x) (hr0 : r0 + x.length ≤ 39000) :
    ∀ (f k : Nat) {S : zs_T} {p5 : Int32}, k + f = x.length → p5.toInt = k → mT n0 S m A n b → mSrc S A n b p1 k0 x → (zs_I S 8014 m).toInt = r0 + k → (∀ j, j < k → (zs_i S (A 8013) (r0 + j)).toInt = x.getD j 0) →
    (∀ S1, mX m A S S1 [8013, 8014] → (zs_I S1 8014 m).toInt = r0 + x.length → (∀ j, j < x.length → (zs_i S1 (A 8013) (r0 + j)).toInt = x.getD j 0) → (∀ j, j < r0 → zs_i S1 (A 8013) j = zs_i S (A 8013) j) → Q (.returned (some (.int (zs_I S1 8020 m)))) S1) →
    zs_U (zx σ n0 bf) d 8005 255 [(0, .ref m), (1, .int p1), (2, .int p2), (3, .int p3), (5, .int p5)] [] S Q
  | 0, k, S, p5, e1, e2, W, hs, e4, e5, kk => by
    refine u_X9_nameOf_255 hB ?_
    refine ⟨fun hc => ?_, fun hc => ?_⟩ <;> simp only [zi_le, zi_lt, zi_eq, Classical.not_not, zi_lit] at hc <;> (try (exfalso; omega))
    have : k = x.length := by omega
    subst this
    exact ⟨W.R.K, kk S ((mX.refl S).mk' rfl) e4 e5 (fun _ _ => rfl)⟩
  | f + 1, k, S, p5, e1, e2, W, hs, e4, e5, kk => by
    refine u_X9_nameOf_255 hB ?_
    refine ⟨fun hc => ?_, fun hc => ?_⟩ <;> simp only [zi_le, zi_lt, zi_eq, Classical.not_not, zi_lit] at hc <;> (try (exfalso; omega))
    refine ⟨W.R.K, ?_⟩
    have hk : k < x.length := by omega
    refine r_letter hB hd W hs h2 e2 hk (P := fun v S1 => w_X9_nameOf_296 (zx σ n0 bf) d m p1 p2 p3 p5 (zs_R S 8013 m) (zs_I S 8014 m) v S1 Q) ?_
    intro v hv
    have hv2 : 0 ≤ x.getD k 0 ∧ x.getD k 0 ≤ 127 := by
      have e : x.getD k 0 = x[k] := by simp [List.getD, List.getElem?_eq_getElem hk]
      rw [e]
      exact hok.2 _ (List.getElem_mem hk)
    have e6 : (zs_I S 8014 m).toNatClampNeg = r0 + k := by rw [zi_nat]; omega
    refine ⟨A 8013, W.R.r8013, zi_A W.R.k8013 (by omega) (by omega), W.R.ga _, ?_⟩
    rintro _ rfl
    refine ⟨W.R.K, W.R.g, ?_⟩
    rintro _ rfl
    rw [e6]
    have X1 := ((mX.refl S).si W.R (f := 8013) (k := r0 + k) (v := vp_nar .byte v.toInt8.toInt32)).sI W.R (f := 8014) (v := zs_I (zs_si S (A 8013) (r0 + k) (vp_nar .byte v.toInt8.toInt32)) 8014 m + 1)
    have e7 : zs_I (zs_si S (A 8013) (r0 + k) (vp_nar .byte v.toInt8.toInt32)) 8014 m = zs_I S 8014 m := by simp [zs_rda]
    refine r_nameOf_255 hB hd h2 h3 hok hr0 f (k + 1) (by omega) (by rw [zi_add] <;> simp only [zi_lit] <;> omega) (W.X X1 rfl) (hs.X X1 rfl) ?_ ?_ ?_
    · simp only [zs_rd, and_self, if_true, e7]
      rw [zi_add] <;> simp only [zi_lit] <;> omega
    · intro j hj
      by_cases e : j = k
      · subst e
        simp only [zs_rd, zs_rda, and_self, if_true]
        exact zi_byte hv hv2.1 hv2.2
      · have := e5 j (by omega)
        simpa [zs_rd, zs_rda, e] using this
    · intro S1 q1 q2 q3 q4
      refine kk S1 ((X1.trans q1).mk' rfl) q2 q3 ?_
      intro j hj
      rw [q4 j hj]
      have : j ≠ r0 + k := by omega
      simp [zs_rd, zs_rda, this]
/-- along a chain -/
theorem r_nameOf_66 (hB : zt_B bf) (hd : 1 ≤ d) {S : zs_T} (W : mT n0 S m A n b) (N : mN S m A L) {p1 p2 p3 p4 : Int32} {k0 : Nat} (hs : mSrc S A n b p1 k0 x) (h2 : p2.toInt = k0) (h3 : p3.toInt = x.length) (h4 : p4.toInt = nm_Hr x) (hok : nm_ok x) (hb : nm_off L L.length + x.length ≤ 33000 ∧ L.length + 1 ≤ 16600)
    (kk : ∀ (S1 : zs_T) (v : Int32), mN S1 m A (nm_enter L x).1 → v.toInt = (nm_enter L x).2 + 1 → mX m A S S1 [8020, 8015, 8016, 8017, 8018, 8019, 8013, 8014] → (∀ j, j ≠ L.length + 1 → zs_i S1 (A 8019) j = zs_i S (A 8019) j) → ((nm_enter L x).1.length = L.length → S1 = S) → ((nm_enter L x).1.length = L.length + 1 → zs_i S1 (A 8019) (L.length + 1) = 0) → Q (.returned (some (.int v))) S1) :
    ∀ (q : Nat) {p5 : Int32}, q ≤ L.length → p5.toInt = nm_last nm_Hr L (nm_Hr x) q + 1 → nm_find L x L.length = nm_find L x q → zs_U (zx σ n0 bf) d 8005 66 [(0, .ref m), (1, .int p1), (2, .int p2), (3, .int p3), (4, .int p4), (5, .int p5)] [] S Q := by
  intro q
  induction q using Nat.strongRecOn with
  | ind q ih =>
    intro p5 hm h5 hf
    have hr := nm_last_rng nm_Hr L (nm_Hr x) q
    have hbd := N.bd
    have hH := nm_Hr_rng hok.1
    have hxl := hok.1
    refine u_X9_nameOf_66 hB ?_
    refine ⟨fun hc => ?_, fun hc => ?_⟩ <;> simp only [zi_le, zi_lt, zi_eq, Classical.not_not, zi_lit] at hc <;> (try (exfalso; omega))
    · have hf2 : nm_find L x L.length = none := hf.trans (nm_last_none (H := nm_Hr) (by omega))
      have e3 : nm_enter L x = (L ++ [x], L.length) := by simp [nm_enter, hf2]
      rw [e3] at kk
      have hp : (zs_I S 8020 m + 1).toInt = L.length + 1 := by rw [zi_add] <;> simp only [zi_lit, N.nn] <;> omega
      have e2 : (zs_I S 8020 m + 1).toNatClampNeg = L.length + 1 := by rw [zi_nat]; omega
      have inj := W.R.inj
      have e4 : p4.toNatClampNeg = (nm_Hr x).toNat := by rw [zi_nat, h4]
      refine ⟨W.R.K, W.R.g, ?_⟩
      rintro _ rfl
      simp only [zs_rd, and_self, if_true]
      rw [e2]
      refine ⟨A 8015, W.R.r8015, zi_A W.R.k8015 (by omega) (by omega), W.R.ga _, ?_⟩
      rintro _ rfl
      simp only [zs_rd, zs_rda, and_self, if_true]
      rw [e2]
      refine ⟨A 8016, W.R.r8016, zi_A W.R.k8016 (by omega) (by omega), W.R.ga _, ?_⟩
      rintro _ rfl
      refine ⟨by simpa [zs_rd, zs_rda] using W.R.K, ?_⟩
      simp only [zs_rd, zs_rda, and_self, if_true]
      rw [e2, e4]
      have e5 : zs_I (zs_sI S 8020 m (zs_I S 8020 m + 1)) 8014 m = zs_I S 8014 m := by simp [zs_rd]
      refine ⟨A 8018, W.R.r8018, zi_A (by simpa [zs_rd, zs_rda] using W.R.k8018) (by omega) (by omega), A 8017, W.R.r8017, zi_A (by simpa [zs_rd, zs_rda] using W.R.k8017) (by omega) (by omega), W.R.ga _, ?_⟩
      rintro _ rfl
      simp only [zs_rd, zs_rda, and_self, if_true]
      refine ⟨A 8018, W.R.r8018, zi_A (by simpa [zs_rd, zs_rda] using W.R.k8018) (by omega) (by omega), W.R.ga _, ?_⟩
      rintro _ rfl
      simp only [zs_rd, zs_rda, and_self, if_true]
      rw [e2]
      refine ⟨A 8019, W.R.r8019, zi_A (by simpa [zs_rd, zs_rda] using W.R.k8019) (by omega) (by omega), W.R.ga _, ?_⟩
      rintro _ rfl
      have X1 := ((((((mX.refl S).sI W.R (f := 8020) (v := zs_I S 8020 m + 1)).si W.R (f := 8015) (k := L.length + 1) (v := zs_I S 8014 m)).si W.R (f := 8016) (k := L.length + 1) (v := vp_nar .byte p3.toInt8.toInt32)).si W.R (f := 8017) (k := L.length + 1) (v := zs_i S (A 8018) (nm_Hr x).toNat)).si W.R (f := 8018) (k := (nm_Hr x).toNat) (v := zs_I S 8020 m + 1)).si W.R (f := 8019) (k := L.length + 1) (v := 0)
      have e6 : (if A 8018 = A 8016 ∧ (nm_Hr x).toNat = L.length + 1 then vp_nar .byte p3.toInt8.toInt32 else if A 8018 = A 8015 ∧ (nm_Hr x).toNat = L.length + 1 then zs_I S 8014 m else zs_i S (A 8018) (nm_Hr x).toNat) = zs_i S (A 8018) (nm_Hr x).toNat := by
        simp [inj]
      simp only [show ((8014 : Nat) = 8020) = False from by simp, if_false, false_and, and_true]
      rw [e6]
      generalize hS1 : zs_si (zs_si (zs_si (zs_si (zs_si (zs_sI S 8020 m (zs_I S 8020 m + 1)) (A 8015) (L.length + 1) (zs_I S 8014 m)) (A 8016) (L.length + 1) (vp_nar .byte p3.toInt8.toInt32)) (A 8017) (L.length + 1) (zs_i S (A 8018) (nm_Hr x).toNat)) (A 8018) (nm_Hr x).toNat (zs_I S 8020 m + 1)) (A 8019) (L.length + 1) 0 = S1 at X1
      have f1 : (zs_I S1 8020 m).toInt = L.length + 1 := by rw [← hS1]; simp only [zs_rd, zs_rda, and_self, if_true]; exact hp
      have f2 : zs_I S1 8014 m = zs_I S 8014 m := X1.I 8014 (by decide)
      have f3 : ∀ j, zs_i S1 (A 8013) j = zs_i S (A 8013) j := fun j => X1.i 8013 (by decide) j
      have f4 : ∀ j, zs_i S1 (A 8015) j = if j = L.length + 1 then zs_I S 8014 m else zs_i S (A 8015) j := by intro j; rw [← hS1]; simp [zs_rd, zs_rda, inj]
      have f5 : ∀ j, zs_i S1 (A 8016) j = if j = L.length + 1 then vp_nar .byte p3.toInt8.toInt32 else zs_i S (A 8016) j := by intro j; rw [← hS1]; simp [zs_rd, zs_rda, inj]
      have f6 : ∀ j, zs_i S1 (A 8017) j = if j = L.length + 1 then zs_i S (A 8018) (nm_Hr x).toNat else zs_i S (A 8017) j := by intro j; rw [← hS1]; simp [zs_rd, zs_rda, inj]
      have f7 : ∀ j, zs_i S1 (A 8018) j = if j = (nm_Hr x).toNat then zs_I S 8020 m + 1 else zs_i S (A 8018) j := by intro j; rw [← hS1]; simp [zs_rd, zs_rda, inj]
      have f8 : ∀ j, zs_i S1 (A 8019) j = if j = L.length + 1 then 0 else zs_i S (A 8019) j := by intro j; rw [← hS1]; simp [zs_rd, zs_rda, inj]
      clear hS1
      refine r_nameOf_255 (r0 := nm_off L L.length) hB hd h2 h3 hok (by omega) x.length 0 (by omega) rfl (W.X X1 rfl) (hs.X X1 rfl) (by rw [f2, N.room]; omega) (fun j hj => by omega) ?_
      intro S2 q1 q2 q3 q4
      have i1 : ∀ f, f ≠ 8013 → f ≠ 8014 → ∀ j, zs_i S2 (A f) j = zs_i S1 (A f) j := fun f h1 h9 j => q1.i f (by simp [h1, h9]) j
      refine kk S2 _ ?_ (by rw [q1.I 8020 (by decide)]; simp only; omega) ((X1.trans q1).mk' rfl) ?_ (fun h => by simp at h) (fun _ => by rw [i1 8019 (by omega) (by omega), f8, if_pos rfl])
      · refine ⟨?_, ?_, ?_, ?_, ?_, ?_, ?_, ?_, ?_⟩
        · rw [q1.I 8020 (by decide), f1]; simp
        · rw [q2, List.length_append, List.length_singleton, nm_off, nm_at_new, nm_off_old (Nat.le_refl _)]; omega
        · intro i hi
          simp only [List.length_append, List.length_singleton] at hi
          rw [i1 8015 (by omega) (by omega), f4]
          by_cases e : i = L.length
          · subst e; rw [if_pos rfl, nm_off_old (Nat.le_refl _)]; exact N.room
          · rw [if_neg (by omega), nm_off_old (by omega)]; exact N.fr i (by omega)
        · intro i hi
          simp only [List.length_append, List.length_singleton] at hi
          rw [i1 8016 (by omega) (by omega), f5]
          by_cases e : i = L.length
          · subst e; rw [if_pos rfl, nm_at_new]; exact zi_byte h3 (by omega) (by omega)
          · rw [if_neg (by omega), nm_at_old (by omega)]; exact N.size i (by omega)
        · intro i j hi hj
          simp only [List.length_append, List.length_singleton] at hi
          by_cases e : i = L.length
          · subst e
            rw [nm_at_new] at hj ⊢
            rw [nm_off_old (Nat.le_refl _)]
            exact q3 j hj
          · rw [nm_at_old (by omega)] at hj ⊢
            rw [nm_off_old (by omega), q4 _ (by have := nm_off_in (L := L) (i := i) (m := L.length) (by omega); omega), f3]
            exact N.ltr i j (by omega) hj
        · intro g hg
          rw [i1 8018 (by omega) (by omega), f7, List.length_append, List.length_singleton, nm_last, nm_at_new, nm_last_old (Nat.le_refl _)]
          by_cases e : g = (nm_Hr x).toNat
          · rw [if_pos e, if_pos (by omega)]; exact hp
          · rw [if_neg e, if_neg (by omega)]; exact N.hd g hg
        · intro i hi
          simp only [List.length_append, List.length_singleton] at hi
          rw [i1 8017 (by omega) (by omega), f6]
          by_cases e : i = L.length
          · subst e
            rw [if_pos rfl, nm_at_new, nm_last_old (Nat.le_refl _), N.hd _ (by omega)]
            congr 2
            omega
          · rw [if_neg (by omega), nm_at_old (by omega), nm_last_old (by omega)]; exact N.nxt i (by omega)
        · intro i hi
          simp only [List.length_append, List.length_singleton] at hi
          by_cases e : i = L.length
          · subst e; rw [nm_at_new]; exact hok
          · rw [nm_at_old (by omega)]; exact N.okn i (by omega)
        · rw [List.length_append, List.length_singleton, nm_off, nm_at_new, nm_off_old (Nat.le_refl _)]
          exact hb
      · intro j hj
        rw [i1 8019 (by omega) (by omega), f8, if_neg hj]
    · obtain ⟨i, hi⟩ : ∃ i : Nat, nm_last nm_Hr L (nm_Hr x) q = i := ⟨(nm_last nm_Hr L (nm_Hr x) q).toNat, by omega⟩
      obtain ⟨a1, a2⟩ := nm_last_some hi
      have him : i < q := by omega
      have e1 : p5.toNatClampNeg = i + 1 := by rw [zi_nat]; omega
      have k0' : nm_at L i ≠ x → w_X9_nameOf_161 (zx σ n0 bf) d m p1 p2 p3 p4 p5 0 S Q := by
        intro hne
        refine ⟨fun _ => ?_, fun h => absurd rfl h⟩
        refine ⟨W.R.K, A 8017, W.R.r8017, zi_A W.R.k8017 (by omega) (by omega), ih i him (by omega) ?_ ?_⟩
        · rw [e1, N.nxt i (by omega), a1]
        · rw [hf, a2, nm_find, if_neg hne]
      have k1' : nm_at L i = x → w_X9_nameOf_161 (zx σ n0 bf) d m p1 p2 p3 p4 p5 1 S Q := by
        intro he
        refine ⟨fun h => absurd h (by decide), fun _ => ?_⟩
        have e3 : nm_find L x L.length = some i := by rw [hf, a2, nm_find, if_pos he]
        have e4 : nm_enter L x = (L, i) := by simp only [nm_enter, e3]
        rw [e4] at kk
        exact kk S _ N (by simp only; omega) ((mX.refl S).mk' rfl) (fun _ _ => rfl) (fun _ => rfl) (fun h => by simp at h)
      have hsz := N.size i (by omega)
      refine ⟨W.R.K, A 8016, W.R.r8016, zi_A W.R.k8016 (by omega) (by omega), ?_⟩
      rw [e1]
      refine ⟨fun g => ?_, fun g => ?_⟩
      · rw [zi_eq] at g
        refine u_X9_nameOf_92 hB ?_
        have hne : nm_at L i ≠ x := fun he => g (by rw [hsz, he, h3])
        refine ⟨fun hc => ?_, fun hc => ?_⟩ <;> simp only [zi_le, zi_lt, zi_eq, Classical.not_not, zi_lit] at hc
        · exact k0' hne
        · exact ⟨fun _ => k0' hne, fun g => absurd rfl g⟩
      · rw [zi_eq, Classical.not_not] at g
        exact r_nameOf_92 hB hd W N hs h2 h3 (by omega) (by omega) (by omega) hok k1' k0' x.length 0 (by omega) rfl (.inl ⟨rfl, rfl⟩)
/-- a name's number -/
theorem r_nameOf (hB : zt_B bf) (hd : 2 ≤ d) {S : zs_T} (W : mT n0 S m A n b) (N : mN S m A L) {p1 p2 p3 : Int32} {k0 : Nat} (hs : mSrc S A n b p1 k0 x) (h2 : p2.toInt = k0) (h3 : p3.toInt = x.length) (hok : nm_ok x) (hb : nm_off L L.length + x.length ≤ 33000 ∧ L.length + 1 ≤ 16600)
    (kk : ∀ (S1 : zs_T) (v : Int32), mN S1 m A (nm_enter L x).1 → v.toInt = (nm_enter L x).2 + 1 → mX m A S S1 [8020, 8015, 8016, 8017, 8018, 8019, 8013, 8014] → (∀ j, j ≠ L.length + 1 → zs_i S1 (A 8019) j = zs_i S (A 8019) j) → ((nm_enter L x).1.length = L.length → S1 = S) → ((nm_enter L x).1.length = L.length + 1 → zs_i S1 (A 8019) (L.length + 1) = 0) → Q (.returned (some (.int v))) S1) : zs_C (zx σ n0 bf) d 8005 [.ref m, .int p1, .int p2, .int p3] S Q := by
  refine u_X9_nameOf hB (by omega) ?_
  have hd1 : 1 ≤ d - 1 := by omega
  refine r_nameOf_6 hB hd1 W N hs h2 h3 hok.1 (fun p4 p5 h4 h5 => r_nameOf_66 hB hd1 W N hs h2 h3 h4 hok hb kk L.length (Nat.le_refl _) h5 rfl) x.length 0 (by omega) rfl ?_
  rw [List.take_zero]
  exact zi_of h3
end MN3
