/-! THE ABSTRACT STEP, 2: locals, jumps, switches; all of it in one: ab_pure, ab_pure_W. -/
def ab_ro : Value → Option (Option Nat)
  | .null => some none
  | .ref a => some (some a)
  | _ => none
theorem ab_ro_at {v : Value} {r : Option Nat} (h : ab_ro v = some r) : v = va_rf r := by
  unfold ab_ro at h
  split at h
  · cases Option.some.inj h; rfl
  · cases Option.some.inj h; rfl
  · cases h
def ab_loc (nL : Nat) (lv : ab_L) (pc : Nat) (st : List Value) (len : Nat) : Instr → Option ab_F
  | .iload_n k => (match len, ab_get lv k with
    | 1, some (.int x) => some (pc + 1, lv, .int x :: st)
    | _, _ => none)
  | .iload k => (match len, ab_get lv k with
    | 2, some (.int x) => some (pc + 2, lv, .int x :: st)
    | _, _ => none)
  | .lload_n k => (match len, ab_get lv k with
    | 1, some (.long x) => some (pc + 1, lv, .long x :: st)
    | _, _ => none)
  | .lload k => (match len, ab_get lv k with
    | 2, some (.long x) => some (pc + 2, lv, .long x :: st)
    | _, _ => none)
  | .aload_n k => (match len, ab_get lv k with
    | 1, some (.ref x) => some (pc + 1, lv, .ref x :: st)
    | 1, some .null => some (pc + 1, lv, .null :: st)
    | _, _ => none)
  | .aload k => (match len, ab_get lv k with
    | 2, some (.ref x) => some (pc + 2, lv, .ref x :: st)
    | 2, some .null => some (pc + 2, lv, .null :: st)
    | _, _ => none)
  | .istore_n k => (match len, st with
    | 1, .int x :: r => if (k : Nat) < nL then some (pc + 1, ab_put1 lv k (.int x), r) else none
    | _, _ => none)
  | .istore k => (match len, st with
    | 2, .int x :: r => if (k : Nat) < nL then some (pc + 2, ab_put1 lv k (.int x), r) else none
    | _, _ => none)
  | .lstore_n k => (match len, st with
    | 1, .long x :: r => if (k : Nat) + 1 < nL then some (pc + 1, ab_put2 lv k (.long x), r) else none
    | _, _ => none)
  | .lstore k => (match len, st with
    | 2, .long x :: r => if (k : Nat) + 1 < nL then some (pc + 2, ab_put2 lv k (.long x), r) else none
    | _, _ => none)
  | .astore_n k => (match len, st with
    | 1, .ref x :: r => if (k : Nat) < nL then some (pc + 1, ab_put1 lv k (.ref x), r) else none
    | 1, .null :: r => if (k : Nat) < nL then some (pc + 1, ab_put1 lv k .null, r) else none
    | _, _ => none)
  | .astore k => (match len, st with
    | 2, .ref x :: r => if (k : Nat) < nL then some (pc + 2, ab_put1 lv k (.ref x), r) else none
    | 2, .null :: r => if (k : Nat) < nL then some (pc + 2, ab_put1 lv k .null, r) else none
    | _, _ => none)
  | .iinc k n => (match len, ab_get lv k with
    | 3, some (.int x) => if k < nL then some (pc + 3, ab_put1 lv k (.int (x + Int32.ofInt n)), st) else none
    | _, _ => none)
  | .goto off => (match len with
    | 3 => ab_to pc off lv st
    | _ => none)
  | .ifCond .eq off => (match len, st with
    | 3, .int x :: r => ab_br (x = 0) pc off lv r
    | _, _ => none)
  | .ifCond .ne off => (match len, st with
    | 3, .int x :: r => ab_br (¬ x = 0) pc off lv r
    | _, _ => none)
  | .ifCond .lt off => (match len, st with
    | 3, .int x :: r => ab_br (x < 0) pc off lv r
    | _, _ => none)
  | .ifCond .ge off => (match len, st with
    | 3, .int x :: r => ab_br (0 ≤ x) pc off lv r
    | _, _ => none)
  | .ifCond .gt off => (match len, st with
    | 3, .int x :: r => ab_br (0 < x) pc off lv r
    | _, _ => none)
  | .ifCond .le off => (match len, st with
    | 3, .int x :: r => ab_br (x ≤ 0) pc off lv r
    | _, _ => none)
  | .if_icmp .eq off => (match len, st with
    | 3, .int y :: .int x :: r => ab_br (x = y) pc off lv r
    | _, _ => none)
  | .if_icmp .ne off => (match len, st with
    | 3, .int y :: .int x :: r => ab_br (¬ x = y) pc off lv r
    | _, _ => none)
  | .if_icmp .lt off => (match len, st with
    | 3, .int y :: .int x :: r => ab_br (x < y) pc off lv r
    | _, _ => none)
  | .if_icmp .ge off => (match len, st with
    | 3, .int y :: .int x :: r => ab_br (y ≤ x) pc off lv r
    | _, _ => none)
  | .if_icmp .gt off => (match len, st with
    | 3, .int y :: .int x :: r => ab_br (y < x) pc off lv r
    | _, _ => none)
  | .if_icmp .le off => (match len, st with
    | 3, .int y :: .int x :: r => ab_br (x ≤ y) pc off lv r
    | _, _ => none)
  | .if_acmp .eq off => (match len, st with
    | 3, vy :: vx :: r => (match ab_ro vy, ab_ro vx with
      | some ry, some rx => ab_br (rx = ry) pc off lv r
      | _, _ => none)
    | _, _ => none)
  | .if_acmp .ne off => (match len, st with
    | 3, vy :: vx :: r => (match ab_ro vy, ab_ro vx with
      | some ry, some rx => ab_br (¬ rx = ry) pc off lv r
      | _, _ => none)
    | _, _ => none)
  | .ifnull off => (match len, st with
    | 3, .null :: r => ab_to pc off lv r
    | 3, .ref _ :: r => some (pc + 3, lv, r)
    | _, _ => none)
  | .ifnonnull off => (match len, st with
    | 3, .ref _ :: r => ab_to pc off lv r
    | 3, .null :: r => some (pc + 3, lv, r)
    | _, _ => none)
  | .tableswitch dflt lo hi offs => (match st with
    | .int x :: r => if x.toInt < lo ∨ hi < x.toInt then ab_to pc dflt lv r else (match offs[(x.toInt - lo).toNat]? with
      | some off => ab_to pc off lv r
      | none => none)
    | _ => none)
  | .lookupswitch dflt ps => (match st with
    | .int x :: r => if (ps.toList.zip (ps.toList.drop 1)).all (fun (a, next) => a.1 < next.1) = true then ab_to pc (Op.lookupswitch.offset ps.toList dflt x.toInt) lv r else none
    | _ => none)
  | _ => none
section AB2
variable {p : Program} {l : Launch} {e : Env} {R : Room} {s : State} {m : MethodId} {args : Array Value} {below : List Frame} {meth : Method} {c : Code} {H : Heap} {locs : List Loc} {cells slots : Nat} {Q : State → Prop} {cc : ByteArray} {pc nL : Nat} {ls : Array Slot} {lv : ab_L} {st : List Value}
theorem ab_br_W {b : Prop} [Decidable b] {off : Int} {r : List Value} {f : ab_F} (h : ab_br b pc off lv r = some f) {G : Prop} (yes : ∀ tgt : Nat, (pc : Int) + off = (tgt : Int) → b → f = (tgt, lv, r) → G) (no : ∀ tgt : Nat, (pc : Int) + off = (tgt : Int) → ¬ b → f = (pc + 3, lv, r) → G) : G := by
  unfold ab_br at h
  by_cases h0 : 0 ≤ (pc : Int) + off
  · rw [if_pos h0] at h
    by_cases hb : b
    · rw [if_pos hb] at h
      exact yes _ (Int.toNat_of_nonneg h0).symm hb (Option.some.inj h).symm
    · rw [if_neg hb] at h
      exact no _ (Int.toNat_of_nonneg h0).symm hb (Option.some.inj h).symm
  · rw [if_neg h0] at h; cases h
theorem ab_loc_W {i : Instr} {len : Nat} {f : ab_F} (hexec : p.tables.exec = Jvm.exec) (hb : c.code = cc) (hl : lv_has ls nL lv) (hd : decode cc pc = .ok (i, len)) (h : ab_loc nL lv pc st len i = some f)
    (kk : ∀ ls9 : Array Slot, lv_has ls9 nL f.2.1 → W p l e R s m args below meth c H locs cells slots Q (F0 m f.1 ls9 f.2.2)) : W p l e R s m args below meth c H locs cells slots Q (F0 m pc ls st) := by
  unfold ab_loc at h
  split at h
  · split at h
    · rename_i hg
      cases Option.some.inj h
      exact lv_iload_n hexec hb hd rfl (ab_get_at hl hg) (kk ls hl)
    · cases h
  · split at h
    · rename_i hg
      cases Option.some.inj h
      exact lv_iload hexec hb hd (ab_get_at hl hg) (kk ls hl)
    · cases h
  · split at h
    · rename_i hg
      cases Option.some.inj h
      exact lv_lload_n hexec hb hd rfl (ab_get_at hl hg) (kk ls hl)
    · cases h
  · split at h
    · rename_i hg
      cases Option.some.inj h
      exact lv_lload hexec hb hd (ab_get_at hl hg) (kk ls hl)
    · cases h
  · split at h
    · rename_i hg
      cases Option.some.inj h
      exact lv_aload_n hexec hb hd rfl (ab_get_at hl hg) (kk ls hl)
    · rename_i hg
      cases Option.some.inj h
      exact lv_aload_nN hexec hb hd rfl (ab_get_at hl hg) (kk ls hl)
    · cases h
  · split at h
    · rename_i hg
      cases Option.some.inj h
      exact lv_aload hexec hb hd (ab_get_at hl hg) (kk ls hl)
    · rename_i hg
      cases Option.some.inj h
      exact lv_aloadN hexec hb hd (ab_get_at hl hg) (kk ls hl)
    · cases h
  · split at h
    · split at h
      · rename_i hg
        cases Option.some.inj h
        exact lv_istore_n hexec hb hd rfl hl hg rfl kk
      · cases h
    · cases h
  · split at h
    · split at h
      · rename_i hg
        cases Option.some.inj h
        exact lv_istore hexec hb hd hl hg rfl kk
      · cases h
    · cases h
  · split at h
    · split at h
      · rename_i hg
        cases Option.some.inj h
        exact lv_lstore_n hexec hb hd rfl hl hg rfl kk
      · cases h
    · cases h
  · split at h
    · split at h
      · rename_i hg
        cases Option.some.inj h
        exact lv_lstore hexec hb hd hl hg rfl kk
      · cases h
    · cases h
  · split at h
    · split at h
      · rename_i hg
        cases Option.some.inj h
        exact lv_astore_n hexec hb hd rfl hl hg rfl kk
      · cases h
    · split at h
      · rename_i hg
        cases Option.some.inj h
        exact lv_astore_nN hexec hb hd rfl hl hg rfl kk
      · cases h
    · cases h
  · split at h
    · split at h
      · rename_i hg
        cases Option.some.inj h
        exact lv_astore hexec hb hd hl hg rfl kk
      · cases h
    · split at h
      · rename_i hg
        cases Option.some.inj h
        exact lv_astoreN hexec hb hd hl hg rfl kk
      · cases h
    · cases h
  · split at h
    · rename_i hg
      split at h
      · rename_i hn
        cases Option.some.inj h
        obtain ⟨k9, hk9⟩ := ab_get_k hg
        exact lv_iinc hexec hb hd hl hk9 rfl hn rfl kk
      · cases h
    · cases h
  · split at h
    · obtain ⟨tgt, ht, e9⟩ := ab_to_at h
      cases e9
      exact lv_goto hexec hb hd ht (kk ls hl)
    · cases h
  · split at h
    · refine ab_br_W h (fun tgt ht hc e9 => ?_) (fun tgt ht hc e9 => ?_)
      · cases e9; exact lv_if_eq hexec hb hd ht (fun _ => kk ls hl) (fun q => absurd hc q)
      · cases e9; exact lv_if_eq hexec hb hd ht (fun q => absurd q hc) (fun _ => kk ls hl)
    · cases h
  · split at h
    · refine ab_br_W h (fun tgt ht hc e9 => ?_) (fun tgt ht hc e9 => ?_)
      · cases e9; exact lv_if_ne hexec hb hd ht (fun _ => kk ls hl) (fun q => absurd q hc)
      · cases e9; exact lv_if_ne hexec hb hd ht (fun q => absurd q hc) (fun _ => kk ls hl)
    · cases h
  · split at h
    · refine ab_br_W h (fun tgt ht hc e9 => ?_) (fun tgt ht hc e9 => ?_)
      · cases e9; exact lv_if_lt hexec hb hd ht (fun _ => kk ls hl) (fun q => absurd hc q)
      · cases e9; exact lv_if_lt hexec hb hd ht (fun q => absurd q hc) (fun _ => kk ls hl)
    · cases h
  · split at h
    · refine ab_br_W h (fun tgt ht hc e9 => ?_) (fun tgt ht hc e9 => ?_)
      · cases e9; exact lv_if_ge hexec hb hd ht (fun _ => kk ls hl) (fun q => absurd hc q)
      · cases e9; exact lv_if_ge hexec hb hd ht (fun q => absurd q hc) (fun _ => kk ls hl)
    · cases h
  · split at h
    · refine ab_br_W h (fun tgt ht hc e9 => ?_) (fun tgt ht hc e9 => ?_)
      · cases e9; exact lv_if_gt hexec hb hd ht (fun _ => kk ls hl) (fun q => absurd hc q)
      · cases e9; exact lv_if_gt hexec hb hd ht (fun q => absurd q hc) (fun _ => kk ls hl)
    · cases h
  · split at h
    · refine ab_br_W h (fun tgt ht hc e9 => ?_) (fun tgt ht hc e9 => ?_)
      · cases e9; exact lv_if_le hexec hb hd ht (fun _ => kk ls hl) (fun q => absurd hc q)
      · cases e9; exact lv_if_le hexec hb hd ht (fun q => absurd q hc) (fun _ => kk ls hl)
    · cases h
  · split at h
    · refine ab_br_W h (fun tgt ht hc e9 => ?_) (fun tgt ht hc e9 => ?_)
      · cases e9; exact lv_icmp_eq hexec hb hd ht (fun _ => kk ls hl) (fun q => absurd hc q)
      · cases e9; exact lv_icmp_eq hexec hb hd ht (fun q => absurd q hc) (fun _ => kk ls hl)
    · cases h
  · split at h
    · refine ab_br_W h (fun tgt ht hc e9 => ?_) (fun tgt ht hc e9 => ?_)
      · cases e9; exact lv_icmp_ne hexec hb hd ht (fun _ => kk ls hl) (fun q => absurd q hc)
      · cases e9; exact lv_icmp_ne hexec hb hd ht (fun q => absurd q hc) (fun _ => kk ls hl)
    · cases h
  · split at h
    · refine ab_br_W h (fun tgt ht hc e9 => ?_) (fun tgt ht hc e9 => ?_)
      · cases e9; exact lv_icmp_lt hexec hb hd ht (fun _ => kk ls hl) (fun q => absurd hc q)
      · cases e9; exact lv_icmp_lt hexec hb hd ht (fun q => absurd q hc) (fun _ => kk ls hl)
    · cases h
  · split at h
    · refine ab_br_W h (fun tgt ht hc e9 => ?_) (fun tgt ht hc e9 => ?_)
      · cases e9; exact lv_icmp_ge hexec hb hd ht (fun _ => kk ls hl) (fun q => absurd hc q)
      · cases e9; exact lv_icmp_ge hexec hb hd ht (fun q => absurd q hc) (fun _ => kk ls hl)
    · cases h
  · split at h
    · refine ab_br_W h (fun tgt ht hc e9 => ?_) (fun tgt ht hc e9 => ?_)
      · cases e9; exact lv_icmp_gt hexec hb hd ht (fun _ => kk ls hl) (fun q => absurd hc q)
      · cases e9; exact lv_icmp_gt hexec hb hd ht (fun q => absurd q hc) (fun _ => kk ls hl)
    · cases h
  · split at h
    · refine ab_br_W h (fun tgt ht hc e9 => ?_) (fun tgt ht hc e9 => ?_)
      · cases e9; exact lv_icmp_le hexec hb hd ht (fun _ => kk ls hl) (fun q => absurd hc q)
      · cases e9; exact lv_icmp_le hexec hb hd ht (fun q => absurd q hc) (fun _ => kk ls hl)
    · cases h
  · split at h
    · split at h
      · rename_i hy hx
        cases ab_ro_at hy
        cases ab_ro_at hx
        refine ab_br_W h (fun tgt ht hc e9 => ?_) (fun tgt ht hc e9 => ?_)
        · cases e9; exact lv_acmp_eq hexec hb hd ht (fun _ => kk ls hl) (fun q => absurd hc q)
        · cases e9; exact lv_acmp_eq hexec hb hd ht (fun q => absurd q hc) (fun _ => kk ls hl)
      · cases h
    · cases h
  · split at h
    · split at h
      · rename_i hy hx
        cases ab_ro_at hy
        cases ab_ro_at hx
        refine ab_br_W h (fun tgt ht hc e9 => ?_) (fun tgt ht hc e9 => ?_)
        · cases e9; exact lv_acmp_ne hexec hb hd ht (fun _ => kk ls hl) (fun q => absurd q hc)
        · cases e9; exact lv_acmp_ne hexec hb hd ht (fun q => absurd q hc) (fun _ => kk ls hl)
      · cases h
    · cases h
  · split at h
    · obtain ⟨tgt, ht, e9⟩ := ab_to_at h
      cases e9
      exact lv_ifnullN hexec hb hd ht (kk ls hl)
    · cases Option.some.inj h
      exact lv_ifnull hexec hb hd (kk ls hl)
    · cases h
  · split at h
    · obtain ⟨tgt, ht, e9⟩ := ab_to_at h
      cases e9
      exact lv_ifnonnull hexec hb hd ht (kk ls hl)
    · cases Option.some.inj h
      exact lv_ifnonnullN hexec hb hd (kk ls hl)
    · cases h
  · split at h
    · split at h
      · rename_i hg
        obtain ⟨tgt, ht, e9⟩ := ab_to_at h
        cases e9
        exact lv_tableOut hexec hb hd hg ht (kk ls hl)
      · rename_i hg
        split at h
        · rename_i off ho
          obtain ⟨tgt, ht, e9⟩ := ab_to_at h
          cases e9
          exact lv_tableIn hexec hb hd (fun q => hg (Or.inl q)) (fun q => hg (Or.inr q)) ho ht (kk ls hl)
        · cases h
    · cases h
  · split at h
    · split at h
      · rename_i hg
        obtain ⟨tgt, ht, e9⟩ := ab_to_at h
        cases e9
        exact lv_lookup hexec hb hd hg rfl ht (kk ls hl)
      · cases h
    · cases h
  · cases h
end AB2
