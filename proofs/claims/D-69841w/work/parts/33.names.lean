/-! NAMES, as lists; chains of them by a sum H -/
def nm_at (L : List (List Int)) (i : Nat) : List Int := L.getD i []
/-- the last name ahead of m whose sum is h; -1 -/
def nm_last (H : List Int → Int) (L : List (List Int)) (h : Int) : Nat → Int
  | 0 => -1
  | m + 1 => if H (nm_at L m) = h then (m : Int) else nm_last H L h m
def nm_find (L : List (List Int)) (x : List Int) : Nat → Option Nat
  | 0 => none
  | m + 1 => if nm_at L m = x then some m else nm_find L x m
def nm_enter (L : List (List Int)) (x : List Int) : List (List Int) × Nat := match nm_find L x L.length with
  | some i => (L, i)
  | none => (L ++ [x], L.length)
/-- where a name's letters begin -/
def nm_off (L : List (List Int)) : Nat → Nat
  | 0 => 0
  | i + 1 => nm_off L i + (nm_at L i).length
theorem nm_at_old {L : List (List Int)} {x : List Int} {i : Nat} (h : i < L.length) : nm_at (L ++ [x]) i = nm_at L i := by simp [nm_at, List.getD, List.getElem?_append_left h]
theorem nm_at_new (L : List (List Int)) (x : List Int) : nm_at (L ++ [x]) L.length = x := by simp [nm_at, List.getD]
theorem nm_last_old {H : List Int → Int} {L : List (List Int)} {x : List Int} {h : Int} : ∀ {m : Nat}, m ≤ L.length → nm_last H (L ++ [x]) h m = nm_last H L h m
  | 0, _ => rfl
  | m + 1, hm => by rw [nm_last, nm_last, nm_at_old (by omega), nm_last_old (by omega)]
theorem nm_off_old {L : List (List Int)} {x : List Int} : ∀ {m : Nat}, m ≤ L.length → nm_off (L ++ [x]) m = nm_off L m
  | 0, _ => rfl
  | m + 1, hm => by rw [nm_off, nm_off, nm_at_old (by omega), nm_off_old (by omega)]
theorem nm_last_rng (H : List Int → Int) (L : List (List Int)) (h : Int) : ∀ m : Nat, -1 ≤ nm_last H L h m ∧ nm_last H L h m < m
  | 0 => ⟨by simp [nm_last], by simp [nm_last]⟩
  | m + 1 => by
    have := nm_last_rng H L h m
    rw [nm_last]
    split <;> omega
theorem nm_last_none {H : List Int → Int} {L : List (List Int)} {x : List Int} : ∀ {m : Nat}, nm_last H L (H x) m = -1 → nm_find L x m = none
  | 0, _ => rfl
  | m + 1, h => by
    rw [nm_last] at h
    split at h
    · omega
    · rename_i h1
      rw [nm_find, if_neg (fun h2 => h1 (by rw [h2])), nm_last_none h]
theorem nm_last_some {H : List Int → Int} {L : List (List Int)} {x : List Int} {i : Nat} : ∀ {m : Nat}, nm_last H L (H x) m = (i : Int) → H (nm_at L i) = H x ∧ nm_find L x m = nm_find L x (i + 1)
  | 0, h => by simp [nm_last] at h
  | m + 1, h => by
    rw [nm_last] at h
    split at h
    · rename_i h1
      have : m = i := by omega
      subst this
      exact ⟨h1, rfl⟩
    · rename_i h1
      obtain ⟨a, b⟩ := nm_last_some h
      refine ⟨a, ?_⟩
      rw [nm_find, if_neg (fun h2 => h1 (by rw [h2])), b]
theorem nm_find_at {L : List (List Int)} {x : List Int} : ∀ {m i : Nat}, nm_find L x m = some i → i < m ∧ nm_at L i = x
  | 0, _, h => by simp [nm_find] at h
  | m + 1, i, h => by
    rw [nm_find] at h
    split at h
    · rename_i h1
      have : m = i := by simpa using h
      subst this
      exact ⟨by omega, h1⟩
    · have := nm_find_at h
      exact ⟨by omega, this.2⟩
theorem nm_off_mono (L : List (List Int)) (i : Nat) : ∀ {j : Nat}, i ≤ j → nm_off L i ≤ nm_off L j
  | 0, h => by
    have : i = 0 := by omega
    subst this; exact Nat.le_refl _
  | j + 1, h => by
    by_cases h1 : i = j + 1
    · subst h1; exact Nat.le_refl _
    · have := nm_off_mono L i (j := j) (by omega)
      rw [nm_off]; omega
theorem nm_off_in {L : List (List Int)} {i m : Nat} (h : i < m) : nm_off L i + (nm_at L i).length ≤ nm_off L m := by
  have := nm_off_mono L (i + 1) (j := m) (by omega)
  rw [nm_off] at this
  exact this
/-- letters of names: all of them in 0 .. 127 -/
def nm_ok (x : List Int) : Prop := x.length ≤ 20 ∧ ∀ c ∈ x, 0 ≤ c ∧ c ≤ 127
/-- the component's sum of a name -/
def nm_hc (x : List Int) : Int32 := x.foldl (fun h c => 31 * h + Int32.ofInt c) 0
def nm_Hc (x : List Int) : Int := (nm_hc x &&& 1023).toInt
theorem zi_1023 (a : Int32) : 0 ≤ (a &&& 1023).toInt ∧ (a &&& 1023).toInt ≤ 1023 := by
  have h : ∀ x : BitVec 32, 0 ≤ (x &&& 1023#32).toInt ∧ (x &&& 1023#32).toInt ≤ 1023 := by
    intro x
    have h1 : (x &&& 1023#32).toNat ≤ 1023 := by
      rw [BitVec.toNat_and]
      exact Nat.and_le_right
    rw [BitVec.toInt_eq_toNat_of_lt (by omega)]
    omega
  exact h a.toBitVec
theorem zi_of {v : Int32} {z : Int} (h : v.toInt = z) : v = Int32.ofInt z := by rw [← h, Int32.ofInt_toInt]
theorem nm_hc_snoc (x : List Int) (c : Int) : nm_hc (x ++ [c]) = 31 * nm_hc x + Int32.ofInt c := by simp [nm_hc]
/-- the literals of ints -/
theorem zi_lit : (0 : Int32).toInt = 0 ∧ (1 : Int32).toInt = 1 ∧ (2 : Int32).toInt = 2 ∧ (-1 : Int32).toInt = -1 := by decide
/-- the Words w: its names L -/
def cw_n (n0 : Nat) (S : zs_T) (w le st nx ch : Nat) (L : List (List Int)) : Prop := (zs_K S w = some (.inl 5)) ∧ (n0 ≤ w) ∧ (zs_R S 5008 w = some le) ∧ (zs_R S 5009 w = some st) ∧ (zs_R S 5010 w = some nx) ∧ (zs_R S 5011 w = some ch) ∧ (zs_K S le = some (.inr (1, 33792))) ∧ (zs_K S st = some (.inr (0, 16640))) ∧ (zs_K S nx = some (.inr (0, 16640))) ∧ (zs_K S ch = some (.inr (0, 1024))) ∧ (n0 ≤ le ∧ n0 ≤ st ∧ n0 ≤ nx ∧ n0 ≤ ch) ∧ (le ≠ st ∧ le ≠ nx ∧ le ≠ ch ∧ st ≠ nx ∧ st ≠ ch ∧ nx ≠ ch ∧ w ≠ le ∧ w ≠ st ∧ w ≠ nx ∧ w ≠ ch) ∧ ((zs_I S 5012 w).toInt = L.length) ∧ (∀ i, i ≤ L.length → (zs_i S st i).toInt = nm_off L i) ∧ (∀ i j, i < L.length → j < (nm_at L i).length → (zs_i S le (nm_off L i + j)).toInt = (nm_at L i).getD j 0) ∧ (∀ h : Nat, h < 1024 → (zs_i S ch h).toInt = nm_last nm_Hc L h L.length) ∧ (∀ i, i < L.length → (zs_i S nx i).toInt = nm_last nm_Hc L (nm_Hc (nm_at L i)) i) ∧ (∀ i, i < L.length → nm_ok (nm_at L i)) ∧ (nm_off L L.length ≤ 33000 ∧ L.length ≤ 16600)
theorem cw_n.K {n0 : Nat} {S : zs_T} {w le st nx ch : Nat} {L : List (List Int)} (W : cw_n n0 S w le st nx ch L) : zs_K S w = some (.inl 5) := W.1
theorem cw_n.g {n0 : Nat} {S : zs_T} {w le st nx ch : Nat} {L : List (List Int)} (W : cw_n n0 S w le st nx ch L) : n0 ≤ w := W.2.1
theorem cw_n.Rl {n0 : Nat} {S : zs_T} {w le st nx ch : Nat} {L : List (List Int)} (W : cw_n n0 S w le st nx ch L) : zs_R S 5008 w = some le := W.2.2.1
theorem cw_n.Rs {n0 : Nat} {S : zs_T} {w le st nx ch : Nat} {L : List (List Int)} (W : cw_n n0 S w le st nx ch L) : zs_R S 5009 w = some st := W.2.2.2.1
theorem cw_n.Rn {n0 : Nat} {S : zs_T} {w le st nx ch : Nat} {L : List (List Int)} (W : cw_n n0 S w le st nx ch L) : zs_R S 5010 w = some nx := W.2.2.2.2.1
theorem cw_n.Rc {n0 : Nat} {S : zs_T} {w le st nx ch : Nat} {L : List (List Int)} (W : cw_n n0 S w le st nx ch L) : zs_R S 5011 w = some ch := W.2.2.2.2.2.1
theorem cw_n.Kl {n0 : Nat} {S : zs_T} {w le st nx ch : Nat} {L : List (List Int)} (W : cw_n n0 S w le st nx ch L) : zs_K S le = some (.inr (1, 33792)) := W.2.2.2.2.2.2.1
theorem cw_n.Ks {n0 : Nat} {S : zs_T} {w le st nx ch : Nat} {L : List (List Int)} (W : cw_n n0 S w le st nx ch L) : zs_K S st = some (.inr (0, 16640)) := W.2.2.2.2.2.2.2.1
theorem cw_n.Kn {n0 : Nat} {S : zs_T} {w le st nx ch : Nat} {L : List (List Int)} (W : cw_n n0 S w le st nx ch L) : zs_K S nx = some (.inr (0, 16640)) := W.2.2.2.2.2.2.2.2.1
theorem cw_n.Kc {n0 : Nat} {S : zs_T} {w le st nx ch : Nat} {L : List (List Int)} (W : cw_n n0 S w le st nx ch L) : zs_K S ch = some (.inr (0, 1024)) := W.2.2.2.2.2.2.2.2.2.1
theorem cw_n.gl {n0 : Nat} {S : zs_T} {w le st nx ch : Nat} {L : List (List Int)} (W : cw_n n0 S w le st nx ch L) : n0 ≤ le ∧ n0 ≤ st ∧ n0 ≤ nx ∧ n0 ≤ ch := W.2.2.2.2.2.2.2.2.2.2.1
theorem cw_n.ne {n0 : Nat} {S : zs_T} {w le st nx ch : Nat} {L : List (List Int)} (W : cw_n n0 S w le st nx ch L) : le ≠ st ∧ le ≠ nx ∧ le ≠ ch ∧ st ≠ nx ∧ st ≠ ch ∧ nx ≠ ch ∧ w ≠ le ∧ w ≠ st ∧ w ≠ nx ∧ w ≠ ch := W.2.2.2.2.2.2.2.2.2.2.2.1
theorem cw_n.nn {n0 : Nat} {S : zs_T} {w le st nx ch : Nat} {L : List (List Int)} (W : cw_n n0 S w le st nx ch L) : (zs_I S 5012 w).toInt = L.length := W.2.2.2.2.2.2.2.2.2.2.2.2.1
theorem cw_n.off {n0 : Nat} {S : zs_T} {w le st nx ch : Nat} {L : List (List Int)} (W : cw_n n0 S w le st nx ch L) : ∀ i, i ≤ L.length → (zs_i S st i).toInt = nm_off L i := W.2.2.2.2.2.2.2.2.2.2.2.2.2.1
theorem cw_n.ltr {n0 : Nat} {S : zs_T} {w le st nx ch : Nat} {L : List (List Int)} (W : cw_n n0 S w le st nx ch L) : ∀ i j, i < L.length → j < (nm_at L i).length → (zs_i S le (nm_off L i + j)).toInt = (nm_at L i).getD j 0 := W.2.2.2.2.2.2.2.2.2.2.2.2.2.2.1
theorem cw_n.chn {n0 : Nat} {S : zs_T} {w le st nx ch : Nat} {L : List (List Int)} (W : cw_n n0 S w le st nx ch L) : ∀ h : Nat, h < 1024 → (zs_i S ch h).toInt = nm_last nm_Hc L h L.length := W.2.2.2.2.2.2.2.2.2.2.2.2.2.2.2.1
theorem cw_n.nxt {n0 : Nat} {S : zs_T} {w le st nx ch : Nat} {L : List (List Int)} (W : cw_n n0 S w le st nx ch L) : ∀ i, i < L.length → (zs_i S nx i).toInt = nm_last nm_Hc L (nm_Hc (nm_at L i)) i := W.2.2.2.2.2.2.2.2.2.2.2.2.2.2.2.2.1
theorem cw_n.okn {n0 : Nat} {S : zs_T} {w le st nx ch : Nat} {L : List (List Int)} (W : cw_n n0 S w le st nx ch L) : ∀ i, i < L.length → nm_ok (nm_at L i) := W.2.2.2.2.2.2.2.2.2.2.2.2.2.2.2.2.2.1
theorem cw_n.bd {n0 : Nat} {S : zs_T} {w le st nx ch : Nat} {L : List (List Int)} (W : cw_n n0 S w le st nx ch L) : nm_off L L.length ≤ 33000 ∧ L.length ≤ 16600 := W.2.2.2.2.2.2.2.2.2.2.2.2.2.2.2.2.2.2
theorem cw_n.mk {n0 : Nat} {S : zs_T} {w le st nx ch : Nat} {L : List (List Int)} (h0 : zs_K S w = some (.inl 5)) (h1 : n0 ≤ w) (h2 : zs_R S 5008 w = some le) (h3 : zs_R S 5009 w = some st) (h4 : zs_R S 5010 w = some nx) (h5 : zs_R S 5011 w = some ch) (h6 : zs_K S le = some (.inr (1, 33792))) (h7 : zs_K S st = some (.inr (0, 16640))) (h8 : zs_K S nx = some (.inr (0, 16640))) (h9 : zs_K S ch = some (.inr (0, 1024))) (h10 : n0 ≤ le ∧ n0 ≤ st ∧ n0 ≤ nx ∧ n0 ≤ ch) (h11 : le ≠ st ∧ le ≠ nx ∧ le ≠ ch ∧ st ≠ nx ∧ st ≠ ch ∧ nx ≠ ch ∧ w ≠ le ∧ w ≠ st ∧ w ≠ nx ∧ w ≠ ch) (h12 : (zs_I S 5012 w).toInt = L.length) (h13 : ∀ i, i ≤ L.length → (zs_i S st i).toInt = nm_off L i) (h14 : ∀ i j, i < L.length → j < (nm_at L i).length → (zs_i S le (nm_off L i + j)).toInt = (nm_at L i).getD j 0) (h15 : ∀ h : Nat, h < 1024 → (zs_i S ch h).toInt = nm_last nm_Hc L h L.length) (h16 : ∀ i, i < L.length → (zs_i S nx i).toInt = nm_last nm_Hc L (nm_Hc (nm_at L i)) i) (h17 : ∀ i, i < L.length → nm_ok (nm_at L i)) (h18 : nm_off L L.length ≤ 33000 ∧ L.length ≤ 16600) : cw_n n0 S w le st nx ch L := ⟨h0, h1, h2, h3, h4, h5, h6, h7, h8, h9, h10, h11, h12, h13, h14, h15, h16, h17, h18⟩
/-- what enter leaves as it was -/
def cw_nf (S : zs_T) (S1 : zs_T) (w st nx ch : Nat) : Prop := (∀ a, a ≠ w → a ≠ st → a ≠ nx → a ≠ ch → zf_at S S1 a) ∧ (∀ a, zs_K S1 a = zs_K S a) ∧ (∀ f, f ≠ 5012 → zs_I S1 f w = zs_I S f w) ∧ (∀ f, zs_J S1 f w = zs_J S f w) ∧ (∀ f, zs_R S1 f w = zs_R S f w) ∧ (zs_N S1 = zs_N S) ∧ (zs_M S1 = zs_M S)
theorem cw_nf.at' {S : zs_T} {S1 : zs_T} {w st nx ch : Nat} (W : cw_nf S S1 w st nx ch) : ∀ a, a ≠ w → a ≠ st → a ≠ nx → a ≠ ch → zf_at S S1 a := W.1
theorem cw_nf.K {S : zs_T} {S1 : zs_T} {w st nx ch : Nat} (W : cw_nf S S1 w st nx ch) : ∀ a, zs_K S1 a = zs_K S a := W.2.1
theorem cw_nf.I {S : zs_T} {S1 : zs_T} {w st nx ch : Nat} (W : cw_nf S S1 w st nx ch) : ∀ f, f ≠ 5012 → zs_I S1 f w = zs_I S f w := W.2.2.1
theorem cw_nf.J {S : zs_T} {S1 : zs_T} {w st nx ch : Nat} (W : cw_nf S S1 w st nx ch) : ∀ f, zs_J S1 f w = zs_J S f w := W.2.2.2.1
theorem cw_nf.R {S : zs_T} {S1 : zs_T} {w st nx ch : Nat} (W : cw_nf S S1 w st nx ch) : ∀ f, zs_R S1 f w = zs_R S f w := W.2.2.2.2.1
theorem cw_nf.N {S : zs_T} {S1 : zs_T} {w st nx ch : Nat} (W : cw_nf S S1 w st nx ch) : zs_N S1 = zs_N S := W.2.2.2.2.2.1
theorem cw_nf.M {S : zs_T} {S1 : zs_T} {w st nx ch : Nat} (W : cw_nf S S1 w st nx ch) : zs_M S1 = zs_M S := W.2.2.2.2.2.2
theorem cw_nf.mk {S : zs_T} {S1 : zs_T} {w st nx ch : Nat} (h0 : ∀ a, a ≠ w → a ≠ st → a ≠ nx → a ≠ ch → zf_at S S1 a) (h1 : ∀ a, zs_K S1 a = zs_K S a) (h2 : ∀ f, f ≠ 5012 → zs_I S1 f w = zs_I S f w) (h3 : ∀ f, zs_J S1 f w = zs_J S f w) (h4 : ∀ f, zs_R S1 f w = zs_R S f w) (h5 : zs_N S1 = zs_N S) (h6 : zs_M S1 = zs_M S) : cw_nf S S1 w st nx ch := ⟨h0, h1, h2, h3, h4, h5, h6⟩
theorem cw_nf.refl (S : zs_T) (w st nx ch : Nat) : cw_nf S S w st nx ch := ⟨fun _ _ _ _ _ => zf_refl _ _, fun _ => rfl, fun _ _ => rfl, fun _ => rfl, fun _ => rfl, rfl, rfl⟩
section CWN
variable {σ : Nat → Nat} {n0 : Nat} {bf : ab_B} {d : Nat} {S : zs_T} {Q : zs_Q} {w le st nx ch : Nat} {L : List (List Int)} {x : List Int}
/-- the sum of the letters -/
theorem c_X6_enter_15 (hB : zt_B bf) (W : cw_n n0 S w le st nx ch L) {p1 p2 : Int32} (h1 : p1.toInt = x.length) (h2 : p2.toInt = nm_off L L.length) (hx : ∀ j, j < x.length → (zs_i S le (nm_off L L.length + j)).toInt = x.getD j 0) (hok : nm_ok x)
    (kk : ∀ p3 p4 : Int32, p3.toInt = nm_Hc x → p4.toInt = nm_last nm_Hc L (nm_Hc x) L.length → zs_U (zx σ n0 bf) d 5003 56 [(0, .ref w), (1, .int p1), (2, .int p2), (3, .int p3), (4, .int p4)] [] S Q) :
    ∀ (f k : Nat) {p3 p4 : Int32}, k + f = x.length → p4.toInt = k → p3 = nm_hc (x.take k) → zs_U (zx σ n0 bf) d 5003 15 [(0, .ref w), (1, .int p1), (2, .int p2), (3, .int p3), (4, .int p4)] [] S Q
  | 0, k, p3, p4, e1, e2, e3 => by
    refine u_X6_enter_15 hB ?_
    refine ⟨fun hc => ?_, fun hc => ?_⟩ <;> simp only [zi_le, zi_lt, zi_eq, Classical.not_not, zi_lit] at hc <;> (try (exfalso; omega))
    have e4 : x.take k = x := List.take_of_length_le (by omega)
    rw [e4] at e3
    subst e3
    have r := zi_1023 (nm_hc x)
    have hi : (nm_hc x &&& 1023).toNatClampNeg < 1024 := by rw [zi_nat]; omega
    refine ⟨W.K, ch, W.Rc, zi_A W.Kc r.1 (by omega), kk _ _ rfl ?_⟩
    rw [W.chn _ hi, zi_nat]
    congr 1
    unfold nm_Hc
    omega
  | f + 1, k, p3, p4, e1, e2, e3 => by
    refine u_X6_enter_15 hB ?_
    have hbd := W.bd
    have hl := hok.1
    refine ⟨fun hc => ?_, fun hc => ?_⟩ <;> simp only [zi_le, zi_lt, zi_eq, Classical.not_not, zi_lit] at hc <;> (try (exfalso; omega))
    have hp : (p2 + p4).toInt = p2.toInt + p4.toInt := zi_add (by omega) (by omega)
    refine ⟨W.K, le, W.Rl, zi_A W.Kl (by omega) (by omega), ?_⟩
    refine c_X6_enter_15 hB W h1 h2 hx hok kk f (k + 1) (by omega) ?_ ?_
    · rw [zi_add] <;> simp only [zi_lit] <;> omega
    · have hk : k < x.length := by omega
      have e5 : (p2 + p4).toNatClampNeg = nm_off L L.length + k := by rw [zi_nat]; omega
      rw [e5, List.take_add_one, e3, List.getElem?_eq_getElem hk, Option.toList_some, nm_hc_snoc]
      congr 1
      refine zi_of ?_
      rw [hx k hk]
      simp [List.getD, List.getElem?_eq_getElem hk]
/-- is name i (of n letters) the one whose letters lie behind all others? -/
theorem c_X6_enter_93 (hB : zt_B bf) (W : cw_n n0 S w le st nx ch L) {p1 p2 p3 p4 : Int32} {i : Nat} (h1 : p1.toInt = x.length) (h2 : p2.toInt = nm_off L L.length) (h4 : p4.toInt = i) (hi : i < L.length) (hn : (nm_at L i).length = x.length) (hx : ∀ j, j < x.length → (zs_i S le (nm_off L L.length + j)).toInt = x.getD j 0) (hok : nm_ok x)
    (ky : nm_at L i = x → w_X6_enter_144 (zx σ n0 bf) d w p1 p2 p3 p4 1 S Q) (kn : nm_at L i ≠ x → w_X6_enter_144 (zx σ n0 bf) d w p1 p2 p3 p4 0 S Q) :
    ∀ (f k : Nat) {p5 p6 : Int32}, k + f = x.length → p6.toInt = k → (p5 = 1 ∧ (nm_at L i).take k = x.take k ∨ p5 = 0 ∧ (nm_at L i) ≠ x) → zs_U (zx σ n0 bf) d 5003 93 [(0, .ref w), (1, .int p1), (2, .int p2), (3, .int p3), (4, .int p4), (5, .int p5), (6, .int p6)] [] S Q
  | 0, k, p5, p6, e1, e2, e3 => by
    refine u_X6_enter_93 hB ?_
    refine ⟨fun hc => ?_, fun hc => ?_⟩ <;> simp only [zi_le, zi_lt, zi_eq, Classical.not_not, zi_lit] at hc <;> (try (exfalso; omega))
    rcases e3 with ⟨rfl, e3⟩ | ⟨rfl, e3⟩
    · refine ky ?_
      rwa [List.take_of_length_le (by omega), List.take_of_length_le (by omega)] at e3
    · exact kn e3
  | f + 1, k, p5, p6, e1, e2, e3 => by
    refine u_X6_enter_93 hB ?_
    have hbd := W.bd
    have hl := hok.1
    have hin := nm_off_in (L := L) hi
    have ho := W.off i (by omega)
    refine ⟨fun hc => ?_, fun hc => ?_⟩ <;> simp only [zi_le, zi_lt, zi_eq, Classical.not_not, zi_lit] at hc <;> (try (exfalso; omega))
    rcases e3 with ⟨rfl, e3⟩ | ⟨rfl, e3⟩
    · refine ⟨fun h => absurd h (by decide), fun _ => ?_⟩
      have e5 : p4.toNatClampNeg = i := by rw [zi_nat]; omega
      have hp : (p2 + p6).toInt = p2.toInt + p6.toInt := zi_add (by omega) (by omega)
      have hq : (zs_i S st p4.toNatClampNeg + p6).toInt = nm_off L i + k := by
        rw [e5, zi_add] <;> omega
      have e6 : (zs_i S st p4.toNatClampNeg + p6).toNatClampNeg = nm_off L i + k := by rw [zi_nat]; omega
      have e7 : (p2 + p6).toNatClampNeg = nm_off L L.length + k := by rw [zi_nat]; omega
      have hk : k < x.length := by omega
      have hk2 : k < (nm_at L i).length := by omega
      refine ⟨W.K, st, W.Rs, zi_A W.Ks (by omega) (by omega), le, W.Rl, zi_A W.Kl (by omega) (by omega), zi_A W.Kl (by omega) (by omega), ?_⟩
      rw [e6, e7]
      have a1 := W.ltr i k hi hk2
      have a2 := hx k hk
      simp only [List.getD, List.getElem?_eq_getElem hk, List.getElem?_eq_getElem hk2, Option.getD_some] at a1 a2
      refine ⟨fun g => ?_, fun g => ?_⟩
      · rw [zi_eq] at g
        refine c_X6_enter_93 hB W h1 h2 h4 hi hn hx hok ky kn f (k + 1) (by omega) (by rw [zi_add] <;> simp only [zi_lit] <;> omega) (.inr ⟨rfl, fun g2 => g ?_⟩)
        rw [a1, a2]
        simp only [g2]
      · rw [zi_eq, Classical.not_not] at g
        refine c_X6_enter_93 hB W h1 h2 h4 hi hn hx hok ky kn f (k + 1) (by omega) (by rw [zi_add] <;> simp only [zi_lit] <;> omega) (.inl ⟨rfl, ?_⟩)
        rw [List.take_add_one, List.take_add_one, e3, List.getElem?_eq_getElem hk, List.getElem?_eq_getElem hk2]
        rw [a1, a2] at g
        rw [g]
    · exact ⟨fun _ => kn e3, fun g => absurd rfl g⟩
/-- a new name comes behind the others -/
theorem cw_n.new (W : cw_n n0 S w le st nx ch L) {h : Nat} (hh : nm_Hc x = h) (h9 : h < 1024) (hf : nm_find L x L.length = none) (hx : ∀ j, j < x.length → (zs_i S le (nm_off L L.length + j)).toInt = x.getD j 0) (hok : nm_ok x) (hb : nm_off L L.length + x.length ≤ 33000 ∧ L.length + 1 ≤ 16600) {v1 v2 v3 v4 : Int32} (h1 : v1 = zs_i S ch h) (h2 : v2.toInt = L.length) (h3 : v3.toInt = L.length + 1) (h4 : v4.toInt = nm_off L L.length + x.length) :
    cw_n n0 (zs_si (zs_sI (zs_si (zs_si S nx L.length v1) ch h v2) 5012 w v3) st (L.length + 1) v4) w le st nx ch (L ++ [x]) := by
  obtain ⟨n1, n2, n3, n4, n5, n6, n7, n8, n9, n10⟩ := W.ne
  have q1 := W.chn h h9
  refine ⟨by simpa [zs_rd, zs_rda] using W.K, W.g, by simpa [zs_rd, zs_rda] using W.Rl, by simpa [zs_rd, zs_rda] using W.Rs, by simpa [zs_rd, zs_rda] using W.Rn, by simpa [zs_rd, zs_rda] using W.Rc, by simpa [zs_rd, zs_rda] using W.Kl, by simpa [zs_rd, zs_rda] using W.Ks, by simpa [zs_rd, zs_rda] using W.Kn, by simpa [zs_rd, zs_rda] using W.Kc, W.gl, W.ne, by simp [zs_rd, zs_rda, h3], ?_, ?_, ?_, ?_, ?_, ?_⟩
  · intro i hi
    simp only [List.length_append, List.length_singleton] at hi
    by_cases e : i = L.length + 1
    · subst e
      simp only [zs_rda, and_self, if_true]
      rw [h4, nm_off, nm_at_new, nm_off_old (Nat.le_refl _)]
      omega
    · rw [nm_off_old (by omega), ← W.off i (by omega)]
      simp [zs_rd, zs_rda, e, n4, n5]
  · intro i j hi hj
    simp only [List.length_append, List.length_singleton] at hi
    have e0 : ∀ k, zs_i (zs_si (zs_sI (zs_si (zs_si S nx L.length v1) ch h v2) 5012 w v3) st (L.length + 1) v4) le k = zs_i S le k := by
      intro k
      simp [zs_rd, zs_rda, n1, n2, n3]
    rw [e0]
    by_cases e : i = L.length
    · subst e
      rw [nm_at_new] at hj ⊢
      rw [nm_off_old (Nat.le_refl _)]
      exact hx j hj
    · rw [nm_at_old (by omega)] at hj ⊢
      rw [nm_off_old (by omega)]
      exact W.ltr i j (by omega) hj
  · intro g hg
    rw [List.length_append, List.length_singleton, nm_last, nm_at_new, nm_last_old (Nat.le_refl _), hh]
    by_cases e : g = h
    · subst e
      simp [zs_rd, zs_rda, h2, Ne.symm n5]
    · rw [if_neg (by omega), ← W.chn g hg]
      simp [zs_rd, zs_rda, e, Ne.symm n5, Ne.symm n6]
  · intro i hi
    simp only [List.length_append, List.length_singleton] at hi
    by_cases e : i = L.length
    · subst e
      rw [nm_at_new, nm_last_old (Nat.le_refl _), hh, ← q1, ← h1]
      simp [zs_rd, zs_rda, Ne.symm n4, n6]
    · rw [nm_at_old (by omega), nm_last_old (by omega), ← W.nxt i (by omega)]
      simp [zs_rd, zs_rda, e, Ne.symm n4, n6]
  · intro i hi
    simp only [List.length_append, List.length_singleton] at hi
    by_cases e : i = L.length
    · subst e; rw [nm_at_new]; exact hok
    · rw [nm_at_old (by omega)]; exact W.okn i (by omega)
  · rw [List.length_append, List.length_singleton, nm_off, nm_at_new, nm_off_old (Nat.le_refl _)]
    exact hb
theorem cw_nf.new {S : zs_T} {w st nx ch a b h : Nat} {v1 v2 v3 v4 : Int32} : cw_nf S (zs_si (zs_sI (zs_si (zs_si S nx a v1) ch h v2) 5012 w v3) st b v4) w st nx ch :=
  ⟨fun c h1 h2 h3 h4 => zf_trans (zf_si h3) (zf_trans (zf_si h4) (zf_trans (zf_sI h1) (zf_si h2))), fun a => by simp [zs_rd, zs_rda], fun f hf => by simp [zs_rd, zs_rda, hf], fun f => by simp [zs_rd, zs_rda], fun f => by simp [zs_rd, zs_rda], by simp [zs_rd, zs_rda], by simp [zs_rd, zs_rda]⟩
/-- along a chain -/
theorem c_X6_enter_56 (hB : zt_B bf) (W : cw_n n0 S w le st nx ch L) {p1 p2 p3 : Int32} (h1 : p1.toInt = x.length) (h2 : p2.toInt = nm_off L L.length) (h3 : p3.toInt = nm_Hc x) (hx : ∀ j, j < x.length → (zs_i S le (nm_off L L.length + j)).toInt = x.getD j 0) (hok : nm_ok x) (hb : nm_off L L.length + x.length ≤ 33000 ∧ L.length + 1 ≤ 16600)
    (kk : ∀ (S1 : zs_T) (v : Int32), cw_n n0 S1 w le st nx ch (nm_enter L x).1 → v.toInt = (nm_enter L x).2 → cw_nf S S1 w st nx ch → Q (.returned (some (.int v))) S1) :
    ∀ (m : Nat) {p4 : Int32}, m ≤ L.length → p4.toInt = nm_last nm_Hc L (nm_Hc x) m → nm_find L x L.length = nm_find L x m → zs_U (zx σ n0 bf) d 5003 56 [(0, .ref w), (1, .int p1), (2, .int p2), (3, .int p3), (4, .int p4)] [] S Q := by
  intro m
  induction m using Nat.strongRecOn with
  | ind m ih =>
    intro p4 hm h4 hf
    have hr := nm_last_rng nm_Hc L (nm_Hc x) m
    have hbd := W.bd
    have hH : 0 ≤ nm_Hc x ∧ nm_Hc x ≤ 1023 := zi_1023 _
    refine u_X6_enter_56 hB ?_
    refine ⟨fun hc => ?_, fun hc => ?_⟩ <;> simp only [zi_le, zi_lt, zi_eq, Classical.not_not, zi_lit] at hc <;> (try (exfalso; omega))
    · have hf2 : nm_find L x L.length = none := hf.trans (nm_last_none (H := nm_Hc) (by omega))
      obtain ⟨g1, g2, g3, g4⟩ := W.gl
      have e1 : (zs_I S 5012 w).toNatClampNeg = L.length := by rw [zi_nat, W.nn]; omega
      obtain ⟨n1, n2, n3, n4, n5, n6, n7, n8, n9, n10⟩ := W.ne
      have hp : (zs_I S 5012 w + 1).toInt = L.length + 1 := by rw [zi_add] <;> simp only [zi_lit, W.nn] <;> omega
      have e2 : (zs_I S 5012 w + 1).toNatClampNeg = L.length + 1 := by rw [zi_nat]; omega
      refine ⟨W.K, ch, W.Rc, zi_A W.Kc (by omega) (by omega), nx, W.Rn, zi_A W.Kn (by rw [W.nn]; omega) (by rw [W.nn]; omega), g3, ?_⟩
      rintro _ rfl
      refine ⟨ch, by simpa [zs_rda] using W.Rc, zi_A W.Kc (by omega) (by omega), g4, ?_⟩
      rintro _ rfl
      refine ⟨by simpa [zs_rda] using W.K, W.g, ?_⟩
      rintro _ rfl
      refine ⟨st, by simpa [zs_rda] using W.Rs, zi_A (by simpa [zs_rda] using W.Ks) (by simp only [zs_rda]; omega) (by simp only [zs_rda]; omega), g2, ?_⟩
      rintro _ rfl
      simp only [zs_rd, zs_rda, and_self, if_true]
      rw [e1, e2]
      have e3 : nm_enter L x = (L ++ [x], L.length) := by simp [nm_enter, hf2]
      have hv : (p2 + p1).toInt = nm_off L L.length + x.length := by rw [zi_add] <;> omega
      refine kk _ _ ?_ ?_ cw_nf.new
      · rw [e3]
        exact W.new (h := p3.toNatClampNeg) (by rw [zi_nat]; omega) (by rw [zi_nat]; omega) hf2 hx hok hb rfl W.nn hp hv
      · rw [e3, zi_sub] <;> simp only [zi_lit] <;> omega
    · obtain ⟨i, hi⟩ : ∃ i : Nat, nm_last nm_Hc L (nm_Hc x) m = i := ⟨(nm_last nm_Hc L (nm_Hc x) m).toNat, by omega⟩
      obtain ⟨a1, a2⟩ := nm_last_some hi
      have him : i < m := by omega
      have hp : (p4 + 1).toInt = i + 1 := by rw [zi_add] <;> simp only [zi_lit] <;> omega
      have e1 : p4.toNatClampNeg = i := by rw [zi_nat]; omega
      have e2 : (p4 + 1).toNatClampNeg = i + 1 := by rw [zi_nat]; omega
      have o1 := W.off i (by omega)
      have o2 := W.off (i + 1) (by omega)
      have o3 := nm_off_in (L := L) (i := i) (m := L.length) (by omega)
      have oki := (W.okn i (by omega)).1
      rw [nm_off] at o2
      have k0 : nm_at L i ≠ x → w_X6_enter_144 (zx σ n0 bf) d w p1 p2 p3 p4 0 S Q := by
        intro hne
        refine ⟨fun _ => ?_, fun h => absurd rfl h⟩
        refine ⟨W.K, nx, W.Rn, zi_A W.Kn (by omega) (by omega), ih i him (by omega) ?_ ?_⟩
        · rw [e1, W.nxt i (by omega), a1]
        · rw [hf, a2, nm_find, if_neg hne]
      have k1 : nm_at L i = x → w_X6_enter_144 (zx σ n0 bf) d w p1 p2 p3 p4 1 S Q := by
        intro he
        refine ⟨fun h => absurd h (by decide), fun _ => ?_⟩
        have e3 : nm_find L x L.length = some i := by rw [hf, a2, nm_find, if_pos he]
        refine kk _ _ ?_ ?_ (cw_nf.refl _ _ _ _ _)
        · simp only [nm_enter, e3]; exact W
        · simp only [nm_enter, e3]; omega
      have hs : (zs_i S st (p4 + 1).toNatClampNeg - zs_i S st p4.toNatClampNeg).toInt = (nm_at L i).length := by
        rw [e1, e2, zi_sub] <;> omega
      refine ⟨W.K, st, W.Rs, zi_A W.Ks (by omega) (by omega), zi_A W.Ks (by omega) (by omega), ?_⟩
      refine ⟨fun g => ?_, fun g => ?_⟩
      · rw [zi_eq] at g
        refine u_X6_enter_93 hB ?_
        have hne : nm_at L i ≠ x := fun he => g (by rw [hs, he, h1])
        refine ⟨fun hc => ?_, fun hc => ?_⟩ <;> simp only [zi_le, zi_lt, zi_eq, Classical.not_not, zi_lit] at hc
        · exact k0 hne
        · exact ⟨fun _ => k0 hne, fun g => absurd rfl g⟩
      · rw [zi_eq, Classical.not_not] at g
        exact c_X6_enter_93 hB W h1 h2 (by omega) (by omega) (by omega) hx hok k1 k0 x.length 0 (by omega) (by decide) (.inl ⟨rfl, rfl⟩)
/-- the number of the name whose letters lie behind all others -/
theorem c_X6_enter (hB : zt_B bf) (hd : 1 ≤ d) (W : cw_n n0 S w le st nx ch L) {p1 : Int32} (h1 : p1.toInt = x.length) (hx : ∀ j, j < x.length → (zs_i S le (nm_off L L.length + j)).toInt = x.getD j 0) (hok : nm_ok x) (hb : nm_off L L.length + x.length ≤ 33000 ∧ L.length + 1 ≤ 16600)
    (kk : ∀ (S1 : zs_T) (v : Int32), cw_n n0 S1 w le st nx ch (nm_enter L x).1 → v.toInt = (nm_enter L x).2 → cw_nf S S1 w st nx ch → Q (.returned (some (.int v))) S1) : zs_C (zx σ n0 bf) d 5003 [.ref w, .int p1] S Q := by
  refine u_X6_enter hB hd ?_
  have hbd := W.bd
  have e1 : (zs_I S 5012 w).toNatClampNeg = L.length := by rw [zi_nat, W.nn]; omega
  have e2 := W.off L.length (Nat.le_refl _)
  refine ⟨W.K, st, W.Rs, zi_A W.Ks (by rw [W.nn]; omega) (by rw [W.nn]; omega), ?_⟩
  rw [e1]
  exact c_X6_enter_15 hB W h1 e2 hx hok (fun p3 p4 h3 h4 => c_X6_enter_56 hB W h1 e2 h3 hx hok hb kk L.length (Nat.le_refl _) h4 rfl) x.length 0 (by omega) (by decide) (by rfl)
end CWN
