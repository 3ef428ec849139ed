/-! THE NAMES THAT ARE KNOWN AT FIRST -/
def zstr (k : Nat) : List Int := match k with
  | 3 => [116, 114, 117, 101]
  | 4 => [102, 97, 108, 115, 101]
  | 5 => [112, 114, 111, 103, 114, 97, 109, 32, 99, 111, 110, 115, 116, 32, 116, 121, 112, 101, 32, 118, 97, 114, 32, 112, 114, 111, 99, 101, 100, 117, 114, 101, 32, 102, 117, 110, 99, 116, 105, 111, 110, 32, 102, 111, 114, 119, 97, 114, 100, 32, 98, 101, 103, 105, 110, 32, 101, 110, 100, 32, 105, 102, 32, 116, 104, 101, 110, 32, 101, 108, 115, 101, 32, 119, 104, 105, 108, 101, 32, 100, 111, 32, 114, 101, 112, 101, 97, 116, 32, 117, 110, 116, 105, 108, 32, 102, 111, 114, 32, 116, 111, 32, 100, 111, 119, 110, 116, 111, 32, 99, 97, 115, 101, 32, 111, 102, 32, 111, 116, 104, 101, 114, 119, 105, 115, 101, 32, 119, 105, 116, 104, 32, 97, 114, 114, 97, 121, 32, 114, 101, 99, 111, 114, 100, 32, 115, 101, 116, 32, 115, 116, 114, 105, 110, 103, 32, 110, 105, 108, 32, 100, 105, 118, 32, 109, 111, 100, 32, 97, 110, 100, 32, 111, 114, 32, 110, 111, 116, 32, 105, 110, 32, 112, 114, 111, 116, 101, 99, 116, 101, 100, 32, 118, 97, 108, 117, 101, 32]
  | 6 => [105, 110, 116, 101, 103, 101, 114, 32, 98, 111, 111, 108, 101, 97, 110, 32, 99, 104, 97, 114, 32, 116, 114, 117, 101, 32, 102, 97, 108, 115, 101, 32, 109, 97, 120, 105, 110, 116, 32, 97, 98, 115, 32, 115, 113, 114, 32, 111, 100, 100, 32, 111, 114, 100, 32, 99, 104, 114, 32, 115, 117, 99, 99, 32, 112, 114, 101, 100, 32, 108, 101, 110, 103, 116, 104, 32, 99, 97, 114, 100, 32, 105, 110, 100, 101, 120, 32, 115, 117, 98, 115, 116, 114, 32, 101, 111, 102, 32, 110, 101, 119, 32, 100, 105, 115, 112, 111, 115, 101, 32, 114, 101, 97, 100, 32, 119, 114, 105, 116, 101, 32, 119, 114, 105, 116, 101, 108, 110, 32, 104, 97, 108, 116, 32]
  | _ => []
/-- constant strings -/
def zbs (X : zs_X) (σ : Nat → Nat) : Prop := (∀ {d k : Nat} {S : zs_T} {K : Int32 → zs_T → Prop} {Q : zs_Q}, 3 ≤ k → k ≤ 6 → 6 ≤ d → zs_K S (σ k) = some (.inl 20) → K (Int32.ofNat (zstr k).length) S → zs_C X d 20000 [.ref (σ k)] S (zs_kI K Q)) ∧ (∀ {d k : Nat} {i : Int32} {S : zs_T} {K : Int32 → zs_T → Prop} {Q : zs_Q}, 3 ≤ k → k ≤ 6 → 6 ≤ d → zs_K S (σ k) = some (.inl 20) → 0 ≤ i.toInt → i.toInt < (zstr k).length → (∀ v : Int32, v.toInt = (zstr k).getD i.toInt.toNat 0 → K v S) → zs_C X d 20002 [.ref (σ k), .int i] S (zs_kI K Q))
theorem zbs.len {X : zs_X} {σ : Nat → Nat} (W : zbs X σ) : ∀ {d k : Nat} {S : zs_T} {K : Int32 → zs_T → Prop} {Q : zs_Q}, 3 ≤ k → k ≤ 6 → 6 ≤ d → zs_K S (σ k) = some (.inl 20) → K (Int32.ofNat (zstr k).length) S → zs_C X d 20000 [.ref (σ k)] S (zs_kI K Q) := W.1
theorem zbs.chr {X : zs_X} {σ : Nat → Nat} (W : zbs X σ) : ∀ {d k : Nat} {i : Int32} {S : zs_T} {K : Int32 → zs_T → Prop} {Q : zs_Q}, 3 ≤ k → k ≤ 6 → 6 ≤ d → zs_K S (σ k) = some (.inl 20) → 0 ≤ i.toInt → i.toInt < (zstr k).length → (∀ v : Int32, v.toInt = (zstr k).getD i.toInt.toNat 0 → K v S) → zs_C X d 20002 [.ref (σ k), .int i] S (zs_kI K Q) := W.2
theorem zbs.mk {X : zs_X} {σ : Nat → Nat} (h0 : ∀ {d k : Nat} {S : zs_T} {K : Int32 → zs_T → Prop} {Q : zs_Q}, 3 ≤ k → k ≤ 6 → 6 ≤ d → zs_K S (σ k) = some (.inl 20) → K (Int32.ofNat (zstr k).length) S → zs_C X d 20000 [.ref (σ k)] S (zs_kI K Q)) (h1 : ∀ {d k : Nat} {i : Int32} {S : zs_T} {K : Int32 → zs_T → Prop} {Q : zs_Q}, 3 ≤ k → k ≤ 6 → 6 ≤ d → zs_K S (σ k) = some (.inl 20) → 0 ≤ i.toInt → i.toInt < (zstr k).length → (∀ v : Int32, v.toInt = (zstr k).getD i.toInt.toNat 0 → K v S) → zs_C X d 20002 [.ref (σ k), .int i] S (zs_kI K Q)) : zbs X σ := ⟨h0, h1⟩
/-- names out of a row of letters, a blank behind each -/
def nm_all (L : List (List Int)) (cur : List Int) : List Int → List (List Int) × List Int
  | [] => (L, cur)
  | c :: r => if c = 32 then nm_all (nm_enter L cur).1 [] r else nm_all L (cur ++ [c]) r
def nm_first : List Int := zstr 5 ++ zstr 6
/-- the names at first -/
def nm_L0 : List (List Int) := (nm_all [] [] nm_first).1
theorem nm_all_app (r s : List Int) : ∀ (L : List (List Int)) (cur : List Int), nm_all L cur (r ++ s) = nm_all (nm_all L cur r).1 (nm_all L cur r).2 s := by
  induction r with
  | nil => intro L cur; rfl
  | cons c r ih =>
    intro L cur
    simp only [List.cons_append, nm_all]
    split
    · exact ih _ _
    · exact ih _ _
/-- what the row must be for it: letters, short names -/
def nm_okr (cur : List Int) : List Int → Bool
  | [] => decide (cur.length ≤ 20)
  | c :: r => decide (0 ≤ c ∧ c ≤ 127 ∧ cur.length ≤ 20) && (if c = 32 then nm_okr [] r else nm_okr (cur ++ [c]) r)
theorem nm_first_ok : nm_okr [] nm_first = true := by decide +kernel
theorem nm_okr5 : nm_okr [] (zstr 5) = true := by decide +kernel
theorem nm_okr6 : nm_okr [] (zstr 6) = true := by decide +kernel
theorem nm_first_len : nm_first.length = 332 := by decide +kernel
theorem nm_first_end : (nm_all [] [] (zstr 5)).2 = [] := by decide +kernel
theorem nm_L0_eq : (nm_all (nm_all [] [] (zstr 5)).1 [] (zstr 6)).1 = nm_L0 := by
  unfold nm_L0 nm_first
  rw [nm_all_app, nm_first_end]
theorem nm_L0_len : nm_L0.length = 60 := by decide +kernel
theorem nm_L0_off : nm_off nm_L0 nm_L0.length = 272 := by decide +kernel
/-- the bounds of names out of a row -/
theorem nm_all_bd : ∀ (r : List Int) (L : List (List Int)) (cur : List Int), nm_off (nm_all L cur r).1 (nm_all L cur r).1.length + (nm_all L cur r).2.length ≤ nm_off L L.length + cur.length + r.length ∧ (nm_all L cur r).1.length ≤ L.length + r.length
  | [], L, cur => ⟨by simp [nm_all], by simp [nm_all]⟩
  | c :: r, L, cur => by
    rw [nm_all]
    split
    · have h := nm_all_bd r (nm_enter L cur).1 []
      have h2 := nm_enter_bd (L := L) (x := cur)
      simp only [List.length_nil, Nat.add_zero] at h
      rw [List.length_cons]
      exact ⟨by omega, by omega⟩
    · have h := nm_all_bd r L (cur ++ [c])
      rw [List.length_append, List.length_singleton] at h
      rw [List.length_cons]
      exact ⟨by omega, by omega⟩
