/-! THE REFERENCE: its object m, its arrays A f (printed by gen_ref.py) -/
def mt : List (Nat × Nat × Nat) := [(8001, 1, 32768), (8003, 1, 32768), (8012, 1, 332), (8013, 1, 40000), (8015, 0, 17000), (8016, 1, 17000), (8017, 0, 17000), (8018, 0, 4096), (8019, 0, 17000), (8021, 1, 33000), (8024, 1, 20000), (8025, 0, 20000), (8026, 0, 20000), (8027, 0, 20000), (8028, 0, 20000), (8029, 0, 20000), (8030, 0, 20000), (8032, 0, 100), (8033, 0, 100), (8036, 0, 150000), (8037, 0, 150000), (8038, 0, 150000), (8039, 0, 150000), (8041, 0, 40000), (8042, 0, 40000), (8044, 1, 20000), (8045, 0, 20000), (8046, 0, 20000), (8047, 0, 20000), (8048, 0, 20000), (8049, 2, 20000), (8050, 1, 20000), (8051, 0, 20000), (8052, 0, 20000), (8054, 0, 20000), (8055, 2, 20000), (8057, 0, 8000), (8058, 1, 8000), (8059, 0, 8000), (8061, 0, 32000), (8062, 0, 32000), (8064, 0, 16000), (8065, 0, 16000), (8066, 0, 16000), (8067, 0, 16000), (8068, 2, 16000), (8070, 0, 16000), (8071, 0, 16000), (8072, 0, 16000), (8074, 0, 17000), (8075, 0, 17000), (8076, 0, 17000), (8078, 0, 16000), (8079, 3, 400), (8085, 0, 9000), (8086, 0, 9000), (8087, 0, 9000), (8088, 0, 9000), (8091, 0, 400), (8092, 2, 400), (8093, 2, 400), (8094, 0, 400), (8095, 0, 400), (8096, 0, 400), (8098, 0, 4200), (8099, 0, 4200), (8100, 0, 4200), (8101, 0, 4200), (8102, 0, 4200), (8103, 0, 4200), (8104, 0, 4200), (8105, 2, 4200), (8106, 0, 4200), (8107, 0, 4200), (8109, 0, 16000), (8110, 1, 16000), (8111, 0, 16000), (8115, 0, 8000), (8116, 0, 20000), (8117, 0, 16000), (8118, 0, 16000), (8119, 0, 16000), (8120, 0, 80), (8121, 3, 320), (8122, 0, 80), (8123, 0, 80), (8127, 3, 4), (8128, 0, 200), (8131, 0, 16400), (8133, 0, 16000), (8134, 0, 16000), (8135, 0, 16000), (8139, 0, 16000), (8140, 2, 16000), (8141, 2, 20000), (8142, 2, 20000), (8143, 0, 16400), (8144, 0, 4200), (8145, 0, 4200), (8146, 0, 50), (8147, 0, 50), (8148, 0, 50), (8149, 0, 50), (8150, 0, 50), (8151, 0, 50), (8152, 2, 50), (8156, 0, 101), (8157, 0, 101), (8158, 0, 101), (8159, 0, 101), (8160, 0, 101), (8161, 0, 101), (8162, 0, 101), (8163, 0, 101), (8164, 0, 101), (8167, 0, 21000), (8168, 0, 21000), (8169, 3, 84000), (8170, 3, 40100), (8171, 2, 40100), (8172, 0, 40100), (8176, 0, 20100), (8177, 0, 20100), (8178, 0, 20100), (8179, 3, 80400), (8180, 2, 20100), (8183, 3, 70000), (8185, 1, 20400), (8186, 0, 70000), (8189, 0, 60000), (8190, 0, 60000), (8191, 3, 240000), (8192, 0, 60000), (8193, 0, 60000), (8194, 0, 60000), (8202, 0, 1000), (8204, 1, 20000), (8206, 0, 64)]
def mR (n0 : Nat) (S : zs_T) (m : Nat) (A : Nat → Nat) : Prop := (zs_K S m = some (.inl 8)) ∧ (n0 ≤ m) ∧ (∀ q ∈ mt, zs_R S q.1 m = some (A q.1) ∧ zs_K S (A q.1) = some (.inr q.2)) ∧ (∀ f, n0 ≤ A f) ∧ (∀ f g, A f = A g ↔ f = g) ∧ (∀ f, A f ≠ m ∧ m ≠ A f)
theorem mR.K {n0 : Nat} {S : zs_T} {m : Nat} {A : Nat → Nat} (W : mR n0 S m A) : zs_K S m = some (.inl 8) := W.1
theorem mR.g {n0 : Nat} {S : zs_T} {m : Nat} {A : Nat → Nat} (W : mR n0 S m A) : n0 ≤ m := W.2.1
theorem mR.arr {n0 : Nat} {S : zs_T} {m : Nat} {A : Nat → Nat} (W : mR n0 S m A) : ∀ q ∈ mt, zs_R S q.1 m = some (A q.1) ∧ zs_K S (A q.1) = some (.inr q.2) := W.2.2.1
theorem mR.ga {n0 : Nat} {S : zs_T} {m : Nat} {A : Nat → Nat} (W : mR n0 S m A) : ∀ f, n0 ≤ A f := W.2.2.2.1
theorem mR.inj {n0 : Nat} {S : zs_T} {m : Nat} {A : Nat → Nat} (W : mR n0 S m A) : ∀ f g, A f = A g ↔ f = g := W.2.2.2.2.1
theorem mR.ne {n0 : Nat} {S : zs_T} {m : Nat} {A : Nat → Nat} (W : mR n0 S m A) : ∀ f, A f ≠ m ∧ m ≠ A f := W.2.2.2.2.2
theorem mR.mk {n0 : Nat} {S : zs_T} {m : Nat} {A : Nat → Nat} (h0 : zs_K S m = some (.inl 8)) (h1 : n0 ≤ m) (h2 : ∀ q ∈ mt, zs_R S q.1 m = some (A q.1) ∧ zs_K S (A q.1) = some (.inr q.2)) (h3 : ∀ f, n0 ≤ A f) (h4 : ∀ f g, A f = A g ↔ f = g) (h5 : ∀ f, A f ≠ m ∧ m ≠ A f) : mR n0 S m A := ⟨h0, h1, h2, h3, h4, h5⟩
section MR
variable {n0 m : Nat} {A : Nat → Nat} {S S1 S2 : zs_T}
theorem mR.r8001 (W : mR n0 S m A) : zs_R S 8001 m = some (A 8001) := (W.arr (8001, 1, 32768) (by decide +kernel)).1
theorem mR.k8001 (W : mR n0 S m A) : zs_K S (A 8001) = some (.inr (1, 32768)) := (W.arr (8001, 1, 32768) (by decide +kernel)).2
theorem mR.r8003 (W : mR n0 S m A) : zs_R S 8003 m = some (A 8003) := (W.arr (8003, 1, 32768) (by decide +kernel)).1
theorem mR.k8003 (W : mR n0 S m A) : zs_K S (A 8003) = some (.inr (1, 32768)) := (W.arr (8003, 1, 32768) (by decide +kernel)).2
theorem mR.r8012 (W : mR n0 S m A) : zs_R S 8012 m = some (A 8012) := (W.arr (8012, 1, 332) (by decide +kernel)).1
theorem mR.k8012 (W : mR n0 S m A) : zs_K S (A 8012) = some (.inr (1, 332)) := (W.arr (8012, 1, 332) (by decide +kernel)).2
theorem mR.r8013 (W : mR n0 S m A) : zs_R S 8013 m = some (A 8013) := (W.arr (8013, 1, 40000) (by decide +kernel)).1
theorem mR.k8013 (W : mR n0 S m A) : zs_K S (A 8013) = some (.inr (1, 40000)) := (W.arr (8013, 1, 40000) (by decide +kernel)).2
theorem mR.r8015 (W : mR n0 S m A) : zs_R S 8015 m = some (A 8015) := (W.arr (8015, 0, 17000) (by decide +kernel)).1
theorem mR.k8015 (W : mR n0 S m A) : zs_K S (A 8015) = some (.inr (0, 17000)) := (W.arr (8015, 0, 17000) (by decide +kernel)).2
theorem mR.r8016 (W : mR n0 S m A) : zs_R S 8016 m = some (A 8016) := (W.arr (8016, 1, 17000) (by decide +kernel)).1
theorem mR.k8016 (W : mR n0 S m A) : zs_K S (A 8016) = some (.inr (1, 17000)) := (W.arr (8016, 1, 17000) (by decide +kernel)).2
theorem mR.r8017 (W : mR n0 S m A) : zs_R S 8017 m = some (A 8017) := (W.arr (8017, 0, 17000) (by decide +kernel)).1
theorem mR.k8017 (W : mR n0 S m A) : zs_K S (A 8017) = some (.inr (0, 17000)) := (W.arr (8017, 0, 17000) (by decide +kernel)).2
theorem mR.r8018 (W : mR n0 S m A) : zs_R S 8018 m = some (A 8018) := (W.arr (8018, 0, 4096) (by decide +kernel)).1
theorem mR.k8018 (W : mR n0 S m A) : zs_K S (A 8018) = some (.inr (0, 4096)) := (W.arr (8018, 0, 4096) (by decide +kernel)).2
theorem mR.r8019 (W : mR n0 S m A) : zs_R S 8019 m = some (A 8019) := (W.arr (8019, 0, 17000) (by decide +kernel)).1
theorem mR.k8019 (W : mR n0 S m A) : zs_K S (A 8019) = some (.inr (0, 17000)) := (W.arr (8019, 0, 17000) (by decide +kernel)).2
theorem mR.r8021 (W : mR n0 S m A) : zs_R S 8021 m = some (A 8021) := (W.arr (8021, 1, 33000) (by decide +kernel)).1
theorem mR.k8021 (W : mR n0 S m A) : zs_K S (A 8021) = some (.inr (1, 33000)) := (W.arr (8021, 1, 33000) (by decide +kernel)).2
theorem mR.r8024 (W : mR n0 S m A) : zs_R S 8024 m = some (A 8024) := (W.arr (8024, 1, 20000) (by decide +kernel)).1
theorem mR.k8024 (W : mR n0 S m A) : zs_K S (A 8024) = some (.inr (1, 20000)) := (W.arr (8024, 1, 20000) (by decide +kernel)).2
theorem mR.r8025 (W : mR n0 S m A) : zs_R S 8025 m = some (A 8025) := (W.arr (8025, 0, 20000) (by decide +kernel)).1
theorem mR.k8025 (W : mR n0 S m A) : zs_K S (A 8025) = some (.inr (0, 20000)) := (W.arr (8025, 0, 20000) (by decide +kernel)).2
theorem mR.r8026 (W : mR n0 S m A) : zs_R S 8026 m = some (A 8026) := (W.arr (8026, 0, 20000) (by decide +kernel)).1
theorem mR.k8026 (W : mR n0 S m A) : zs_K S (A 8026) = some (.inr (0, 20000)) := (W.arr (8026, 0, 20000) (by decide +kernel)).2
theorem mR.r8027 (W : mR n0 S m A) : zs_R S 8027 m = some (A 8027) := (W.arr (8027, 0, 20000) (by decide +kernel)).1
theorem mR.k8027 (W : mR n0 S m A) : zs_K S (A 8027) = some (.inr (0, 20000)) := (W.arr (8027, 0, 20000) (by decide +kernel)).2
theorem mR.r8028 (W : mR n0 S m A) : zs_R S 8028 m = some (A 8028) := (W.arr (8028, 0, 20000) (by decide +kernel)).1
theorem mR.k8028 (W : mR n0 S m A) : zs_K S (A 8028) = some (.inr (0, 20000)) := (W.arr (8028, 0, 20000) (by decide +kernel)).2
theorem mR.r8029 (W : mR n0 S m A) : zs_R S 8029 m = some (A 8029) := (W.arr (8029, 0, 20000) (by decide +kernel)).1
theorem mR.k8029 (W : mR n0 S m A) : zs_K S (A 8029) = some (.inr (0, 20000)) := (W.arr (8029, 0, 20000) (by decide +kernel)).2
theorem mR.r8030 (W : mR n0 S m A) : zs_R S 8030 m = some (A 8030) := (W.arr (8030, 0, 20000) (by decide +kernel)).1
theorem mR.k8030 (W : mR n0 S m A) : zs_K S (A 8030) = some (.inr (0, 20000)) := (W.arr (8030, 0, 20000) (by decide +kernel)).2
theorem mR.r8032 (W : mR n0 S m A) : zs_R S 8032 m = some (A 8032) := (W.arr (8032, 0, 100) (by decide +kernel)).1
theorem mR.k8032 (W : mR n0 S m A) : zs_K S (A 8032) = some (.inr (0, 100)) := (W.arr (8032, 0, 100) (by decide +kernel)).2
theorem mR.r8033 (W : mR n0 S m A) : zs_R S 8033 m = some (A 8033) := (W.arr (8033, 0, 100) (by decide +kernel)).1
theorem mR.k8033 (W : mR n0 S m A) : zs_K S (A 8033) = some (.inr (0, 100)) := (W.arr (8033, 0, 100) (by decide +kernel)).2
theorem mR.r8036 (W : mR n0 S m A) : zs_R S 8036 m = some (A 8036) := (W.arr (8036, 0, 150000) (by decide +kernel)).1
theorem mR.k8036 (W : mR n0 S m A) : zs_K S (A 8036) = some (.inr (0, 150000)) := (W.arr (8036, 0, 150000) (by decide +kernel)).2
theorem mR.r8037 (W : mR n0 S m A) : zs_R S 8037 m = some (A 8037) := (W.arr (8037, 0, 150000) (by decide +kernel)).1
theorem mR.k8037 (W : mR n0 S m A) : zs_K S (A 8037) = some (.inr (0, 150000)) := (W.arr (8037, 0, 150000) (by decide +kernel)).2
theorem mR.r8038 (W : mR n0 S m A) : zs_R S 8038 m = some (A 8038) := (W.arr (8038, 0, 150000) (by decide +kernel)).1
theorem mR.k8038 (W : mR n0 S m A) : zs_K S (A 8038) = some (.inr (0, 150000)) := (W.arr (8038, 0, 150000) (by decide +kernel)).2
theorem mR.r8039 (W : mR n0 S m A) : zs_R S 8039 m = some (A 8039) := (W.arr (8039, 0, 150000) (by decide +kernel)).1
theorem mR.k8039 (W : mR n0 S m A) : zs_K S (A 8039) = some (.inr (0, 150000)) := (W.arr (8039, 0, 150000) (by decide +kernel)).2
theorem mR.r8041 (W : mR n0 S m A) : zs_R S 8041 m = some (A 8041) := (W.arr (8041, 0, 40000) (by decide +kernel)).1
theorem mR.k8041 (W : mR n0 S m A) : zs_K S (A 8041) = some (.inr (0, 40000)) := (W.arr (8041, 0, 40000) (by decide +kernel)).2
theorem mR.r8042 (W : mR n0 S m A) : zs_R S 8042 m = some (A 8042) := (W.arr (8042, 0, 40000) (by decide +kernel)).1
theorem mR.k8042 (W : mR n0 S m A) : zs_K S (A 8042) = some (.inr (0, 40000)) := (W.arr (8042, 0, 40000) (by decide +kernel)).2
theorem mR.r8044 (W : mR n0 S m A) : zs_R S 8044 m = some (A 8044) := (W.arr (8044, 1, 20000) (by decide +kernel)).1
theorem mR.k8044 (W : mR n0 S m A) : zs_K S (A 8044) = some (.inr (1, 20000)) := (W.arr (8044, 1, 20000) (by decide +kernel)).2
theorem mR.r8045 (W : mR n0 S m A) : zs_R S 8045 m = some (A 8045) := (W.arr (8045, 0, 20000) (by decide +kernel)).1
theorem mR.k8045 (W : mR n0 S m A) : zs_K S (A 8045) = some (.inr (0, 20000)) := (W.arr (8045, 0, 20000) (by decide +kernel)).2
theorem mR.r8046 (W : mR n0 S m A) : zs_R S 8046 m = some (A 8046) := (W.arr (8046, 0, 20000) (by decide +kernel)).1
theorem mR.k8046 (W : mR n0 S m A) : zs_K S (A 8046) = some (.inr (0, 20000)) := (W.arr (8046, 0, 20000) (by decide +kernel)).2
theorem mR.r8047 (W : mR n0 S m A) : zs_R S 8047 m = some (A 8047) := (W.arr (8047, 0, 20000) (by decide +kernel)).1
theorem mR.k8047 (W : mR n0 S m A) : zs_K S (A 8047) = some (.inr (0, 20000)) := (W.arr (8047, 0, 20000) (by decide +kernel)).2
theorem mR.r8048 (W : mR n0 S m A) : zs_R S 8048 m = some (A 8048) := (W.arr (8048, 0, 20000) (by decide +kernel)).1
theorem mR.k8048 (W : mR n0 S m A) : zs_K S (A 8048) = some (.inr (0, 20000)) := (W.arr (8048, 0, 20000) (by decide +kernel)).2
theorem mR.r8049 (W : mR n0 S m A) : zs_R S 8049 m = some (A 8049) := (W.arr (8049, 2, 20000) (by decide +kernel)).1
theorem mR.k8049 (W : mR n0 S m A) : zs_K S (A 8049) = some (.inr (2, 20000)) := (W.arr (8049, 2, 20000) (by decide +kernel)).2
theorem mR.r8050 (W : mR n0 S m A) : zs_R S 8050 m = some (A 8050) := (W.arr (8050, 1, 20000) (by decide +kernel)).1
theorem mR.k8050 (W : mR n0 S m A) : zs_K S (A 8050) = some (.inr (1, 20000)) := (W.arr (8050, 1, 20000) (by decide +kernel)).2
theorem mR.r8051 (W : mR n0 S m A) : zs_R S 8051 m = some (A 8051) := (W.arr (8051, 0, 20000) (by decide +kernel)).1
theorem mR.k8051 (W : mR n0 S m A) : zs_K S (A 8051) = some (.inr (0, 20000)) := (W.arr (8051, 0, 20000) (by decide +kernel)).2
theorem mR.r8052 (W : mR n0 S m A) : zs_R S 8052 m = some (A 8052) := (W.arr (8052, 0, 20000) (by decide +kernel)).1
theorem mR.k8052 (W : mR n0 S m A) : zs_K S (A 8052) = some (.inr (0, 20000)) := (W.arr (8052, 0, 20000) (by decide +kernel)).2
theorem mR.r8054 (W : mR n0 S m A) : zs_R S 8054 m = some (A 8054) := (W.arr (8054, 0, 20000) (by decide +kernel)).1
theorem mR.k8054 (W : mR n0 S m A) : zs_K S (A 8054) = some (.inr (0, 20000)) := (W.arr (8054, 0, 20000) (by decide +kernel)).2
theorem mR.r8055 (W : mR n0 S m A) : zs_R S 8055 m = some (A 8055) := (W.arr (8055, 2, 20000) (by decide +kernel)).1
theorem mR.k8055 (W : mR n0 S m A) : zs_K S (A 8055) = some (.inr (2, 20000)) := (W.arr (8055, 2, 20000) (by decide +kernel)).2
theorem mR.r8057 (W : mR n0 S m A) : zs_R S 8057 m = some (A 8057) := (W.arr (8057, 0, 8000) (by decide +kernel)).1
theorem mR.k8057 (W : mR n0 S m A) : zs_K S (A 8057) = some (.inr (0, 8000)) := (W.arr (8057, 0, 8000) (by decide +kernel)).2
theorem mR.r8058 (W : mR n0 S m A) : zs_R S 8058 m = some (A 8058) := (W.arr (8058, 1, 8000) (by decide +kernel)).1
theorem mR.k8058 (W : mR n0 S m A) : zs_K S (A 8058) = some (.inr (1, 8000)) := (W.arr (8058, 1, 8000) (by decide +kernel)).2
theorem mR.r8059 (W : mR n0 S m A) : zs_R S 8059 m = some (A 8059) := (W.arr (8059, 0, 8000) (by decide +kernel)).1
theorem mR.k8059 (W : mR n0 S m A) : zs_K S (A 8059) = some (.inr (0, 8000)) := (W.arr (8059, 0, 8000) (by decide +kernel)).2
theorem mR.r8061 (W : mR n0 S m A) : zs_R S 8061 m = some (A 8061) := (W.arr (8061, 0, 32000) (by decide +kernel)).1
theorem mR.k8061 (W : mR n0 S m A) : zs_K S (A 8061) = some (.inr (0, 32000)) := (W.arr (8061, 0, 32000) (by decide +kernel)).2
theorem mR.r8062 (W : mR n0 S m A) : zs_R S 8062 m = some (A 8062) := (W.arr (8062, 0, 32000) (by decide +kernel)).1
theorem mR.k8062 (W : mR n0 S m A) : zs_K S (A 8062) = some (.inr (0, 32000)) := (W.arr (8062, 0, 32000) (by decide +kernel)).2
theorem mR.r8064 (W : mR n0 S m A) : zs_R S 8064 m = some (A 8064) := (W.arr (8064, 0, 16000) (by decide +kernel)).1
theorem mR.k8064 (W : mR n0 S m A) : zs_K S (A 8064) = some (.inr (0, 16000)) := (W.arr (8064, 0, 16000) (by decide +kernel)).2
theorem mR.r8065 (W : mR n0 S m A) : zs_R S 8065 m = some (A 8065) := (W.arr (8065, 0, 16000) (by decide +kernel)).1
theorem mR.k8065 (W : mR n0 S m A) : zs_K S (A 8065) = some (.inr (0, 16000)) := (W.arr (8065, 0, 16000) (by decide +kernel)).2
theorem mR.r8066 (W : mR n0 S m A) : zs_R S 8066 m = some (A 8066) := (W.arr (8066, 0, 16000) (by decide +kernel)).1
theorem mR.k8066 (W : mR n0 S m A) : zs_K S (A 8066) = some (.inr (0, 16000)) := (W.arr (8066, 0, 16000) (by decide +kernel)).2
theorem mR.r8067 (W : mR n0 S m A) : zs_R S 8067 m = some (A 8067) := (W.arr (8067, 0, 16000) (by decide +kernel)).1
theorem mR.k8067 (W : mR n0 S m A) : zs_K S (A 8067) = some (.inr (0, 16000)) := (W.arr (8067, 0, 16000) (by decide +kernel)).2
theorem mR.r8068 (W : mR n0 S m A) : zs_R S 8068 m = some (A 8068) := (W.arr (8068, 2, 16000) (by decide +kernel)).1
theorem mR.k8068 (W : mR n0 S m A) : zs_K S (A 8068) = some (.inr (2, 16000)) := (W.arr (8068, 2, 16000) (by decide +kernel)).2
theorem mR.r8070 (W : mR n0 S m A) : zs_R S 8070 m = some (A 8070) := (W.arr (8070, 0, 16000) (by decide +kernel)).1
theorem mR.k8070 (W : mR n0 S m A) : zs_K S (A 8070) = some (.inr (0, 16000)) := (W.arr (8070, 0, 16000) (by decide +kernel)).2
theorem mR.r8071 (W : mR n0 S m A) : zs_R S 8071 m = some (A 8071) := (W.arr (8071, 0, 16000) (by decide +kernel)).1
theorem mR.k8071 (W : mR n0 S m A) : zs_K S (A 8071) = some (.inr (0, 16000)) := (W.arr (8071, 0, 16000) (by decide +kernel)).2
theorem mR.r8072 (W : mR n0 S m A) : zs_R S 8072 m = some (A 8072) := (W.arr (8072, 0, 16000) (by decide +kernel)).1
theorem mR.k8072 (W : mR n0 S m A) : zs_K S (A 8072) = some (.inr (0, 16000)) := (W.arr (8072, 0, 16000) (by decide +kernel)).2
theorem mR.r8074 (W : mR n0 S m A) : zs_R S 8074 m = some (A 8074) := (W.arr (8074, 0, 17000) (by decide +kernel)).1
theorem mR.k8074 (W : mR n0 S m A) : zs_K S (A 8074) = some (.inr (0, 17000)) := (W.arr (8074, 0, 17000) (by decide +kernel)).2
theorem mR.r8075 (W : mR n0 S m A) : zs_R S 8075 m = some (A 8075) := (W.arr (8075, 0, 17000) (by decide +kernel)).1
theorem mR.k8075 (W : mR n0 S m A) : zs_K S (A 8075) = some (.inr (0, 17000)) := (W.arr (8075, 0, 17000) (by decide +kernel)).2
theorem mR.r8076 (W : mR n0 S m A) : zs_R S 8076 m = some (A 8076) := (W.arr (8076, 0, 17000) (by decide +kernel)).1
theorem mR.k8076 (W : mR n0 S m A) : zs_K S (A 8076) = some (.inr (0, 17000)) := (W.arr (8076, 0, 17000) (by decide +kernel)).2
theorem mR.r8078 (W : mR n0 S m A) : zs_R S 8078 m = some (A 8078) := (W.arr (8078, 0, 16000) (by decide +kernel)).1
theorem mR.k8078 (W : mR n0 S m A) : zs_K S (A 8078) = some (.inr (0, 16000)) := (W.arr (8078, 0, 16000) (by decide +kernel)).2
theorem mR.r8079 (W : mR n0 S m A) : zs_R S 8079 m = some (A 8079) := (W.arr (8079, 3, 400) (by decide +kernel)).1
theorem mR.k8079 (W : mR n0 S m A) : zs_K S (A 8079) = some (.inr (3, 400)) := (W.arr (8079, 3, 400) (by decide +kernel)).2
theorem mR.r8085 (W : mR n0 S m A) : zs_R S 8085 m = some (A 8085) := (W.arr (8085, 0, 9000) (by decide +kernel)).1
theorem mR.k8085 (W : mR n0 S m A) : zs_K S (A 8085) = some (.inr (0, 9000)) := (W.arr (8085, 0, 9000) (by decide +kernel)).2
theorem mR.r8086 (W : mR n0 S m A) : zs_R S 8086 m = some (A 8086) := (W.arr (8086, 0, 9000) (by decide +kernel)).1
theorem mR.k8086 (W : mR n0 S m A) : zs_K S (A 8086) = some (.inr (0, 9000)) := (W.arr (8086, 0, 9000) (by decide +kernel)).2
theorem mR.r8087 (W : mR n0 S m A) : zs_R S 8087 m = some (A 8087) := (W.arr (8087, 0, 9000) (by decide +kernel)).1
theorem mR.k8087 (W : mR n0 S m A) : zs_K S (A 8087) = some (.inr (0, 9000)) := (W.arr (8087, 0, 9000) (by decide +kernel)).2
theorem mR.r8088 (W : mR n0 S m A) : zs_R S 8088 m = some (A 8088) := (W.arr (8088, 0, 9000) (by decide +kernel)).1
theorem mR.k8088 (W : mR n0 S m A) : zs_K S (A 8088) = some (.inr (0, 9000)) := (W.arr (8088, 0, 9000) (by decide +kernel)).2
theorem mR.r8091 (W : mR n0 S m A) : zs_R S 8091 m = some (A 8091) := (W.arr (8091, 0, 400) (by decide +kernel)).1
theorem mR.k8091 (W : mR n0 S m A) : zs_K S (A 8091) = some (.inr (0, 400)) := (W.arr (8091, 0, 400) (by decide +kernel)).2
theorem mR.r8092 (W : mR n0 S m A) : zs_R S 8092 m = some (A 8092) := (W.arr (8092, 2, 400) (by decide +kernel)).1
theorem mR.k8092 (W : mR n0 S m A) : zs_K S (A 8092) = some (.inr (2, 400)) := (W.arr (8092, 2, 400) (by decide +kernel)).2
theorem mR.r8093 (W : mR n0 S m A) : zs_R S 8093 m = some (A 8093) := (W.arr (8093, 2, 400) (by decide +kernel)).1
theorem mR.k8093 (W : mR n0 S m A) : zs_K S (A 8093) = some (.inr (2, 400)) := (W.arr (8093, 2, 400) (by decide +kernel)).2
theorem mR.r8094 (W : mR n0 S m A) : zs_R S 8094 m = some (A 8094) := (W.arr (8094, 0, 400) (by decide +kernel)).1
theorem mR.k8094 (W : mR n0 S m A) : zs_K S (A 8094) = some (.inr (0, 400)) := (W.arr (8094, 0, 400) (by decide +kernel)).2
theorem mR.r8095 (W : mR n0 S m A) : zs_R S 8095 m = some (A 8095) := (W.arr (8095, 0, 400) (by decide +kernel)).1
theorem mR.k8095 (W : mR n0 S m A) : zs_K S (A 8095) = some (.inr (0, 400)) := (W.arr (8095, 0, 400) (by decide +kernel)).2
theorem mR.r8096 (W : mR n0 S m A) : zs_R S 8096 m = some (A 8096) := (W.arr (8096, 0, 400) (by decide +kernel)).1
theorem mR.k8096 (W : mR n0 S m A) : zs_K S (A 8096) = some (.inr (0, 400)) := (W.arr (8096, 0, 400) (by decide +kernel)).2
theorem mR.r8098 (W : mR n0 S m A) : zs_R S 8098 m = some (A 8098) := (W.arr (8098, 0, 4200) (by decide +kernel)).1
theorem mR.k8098 (W : mR n0 S m A) : zs_K S (A 8098) = some (.inr (0, 4200)) := (W.arr (8098, 0, 4200) (by decide +kernel)).2
theorem mR.r8099 (W : mR n0 S m A) : zs_R S 8099 m = some (A 8099) := (W.arr (8099, 0, 4200) (by decide +kernel)).1
theorem mR.k8099 (W : mR n0 S m A) : zs_K S (A 8099) = some (.inr (0, 4200)) := (W.arr (8099, 0, 4200) (by decide +kernel)).2
theorem mR.r8100 (W : mR n0 S m A) : zs_R S 8100 m = some (A 8100) := (W.arr (8100, 0, 4200) (by decide +kernel)).1
theorem mR.k8100 (W : mR n0 S m A) : zs_K S (A 8100) = some (.inr (0, 4200)) := (W.arr (8100, 0, 4200) (by decide +kernel)).2
theorem mR.r8101 (W : mR n0 S m A) : zs_R S 8101 m = some (A 8101) := (W.arr (8101, 0, 4200) (by decide +kernel)).1
theorem mR.k8101 (W : mR n0 S m A) : zs_K S (A 8101) = some (.inr (0, 4200)) := (W.arr (8101, 0, 4200) (by decide +kernel)).2
theorem mR.r8102 (W : mR n0 S m A) : zs_R S 8102 m = some (A 8102) := (W.arr (8102, 0, 4200) (by decide +kernel)).1
theorem mR.k8102 (W : mR n0 S m A) : zs_K S (A 8102) = some (.inr (0, 4200)) := (W.arr (8102, 0, 4200) (by decide +kernel)).2
theorem mR.r8103 (W : mR n0 S m A) : zs_R S 8103 m = some (A 8103) := (W.arr (8103, 0, 4200) (by decide +kernel)).1
theorem mR.k8103 (W : mR n0 S m A) : zs_K S (A 8103) = some (.inr (0, 4200)) := (W.arr (8103, 0, 4200) (by decide +kernel)).2
theorem mR.r8104 (W : mR n0 S m A) : zs_R S 8104 m = some (A 8104) := (W.arr (8104, 0, 4200) (by decide +kernel)).1
theorem mR.k8104 (W : mR n0 S m A) : zs_K S (A 8104) = some (.inr (0, 4200)) := (W.arr (8104, 0, 4200) (by decide +kernel)).2
theorem mR.r8105 (W : mR n0 S m A) : zs_R S 8105 m = some (A 8105) := (W.arr (8105, 2, 4200) (by decide +kernel)).1
theorem mR.k8105 (W : mR n0 S m A) : zs_K S (A 8105) = some (.inr (2, 4200)) := (W.arr (8105, 2, 4200) (by decide +kernel)).2
theorem mR.r8106 (W : mR n0 S m A) : zs_R S 8106 m = some (A 8106) := (W.arr (8106, 0, 4200) (by decide +kernel)).1
theorem mR.k8106 (W : mR n0 S m A) : zs_K S (A 8106) = some (.inr (0, 4200)) := (W.arr (8106, 0, 4200) (by decide +kernel)).2
theorem mR.r8107 (W : mR n0 S m A) : zs_R S 8107 m = some (A 8107) := (W.arr (8107, 0, 4200) (by decide +kernel)).1
theorem mR.k8107 (W : mR n0 S m A) : zs_K S (A 8107) = some (.inr (0, 4200)) := (W.arr (8107, 0, 4200) (by decide +kernel)).2
theorem mR.r8109 (W : mR n0 S m A) : zs_R S 8109 m = some (A 8109) := (W.arr (8109, 0, 16000) (by decide +kernel)).1
theorem mR.k8109 (W : mR n0 S m A) : zs_K S (A 8109) = some (.inr (0, 16000)) := (W.arr (8109, 0, 16000) (by decide +kernel)).2
theorem mR.r8110 (W : mR n0 S m A) : zs_R S 8110 m = some (A 8110) := (W.arr (8110, 1, 16000) (by decide +kernel)).1
theorem mR.k8110 (W : mR n0 S m A) : zs_K S (A 8110) = some (.inr (1, 16000)) := (W.arr (8110, 1, 16000) (by decide +kernel)).2
theorem mR.r8111 (W : mR n0 S m A) : zs_R S 8111 m = some (A 8111) := (W.arr (8111, 0, 16000) (by decide +kernel)).1
theorem mR.k8111 (W : mR n0 S m A) : zs_K S (A 8111) = some (.inr (0, 16000)) := (W.arr (8111, 0, 16000) (by decide +kernel)).2
theorem mR.r8115 (W : mR n0 S m A) : zs_R S 8115 m = some (A 8115) := (W.arr (8115, 0, 8000) (by decide +kernel)).1
theorem mR.k8115 (W : mR n0 S m A) : zs_K S (A 8115) = some (.inr (0, 8000)) := (W.arr (8115, 0, 8000) (by decide +kernel)).2
theorem mR.r8116 (W : mR n0 S m A) : zs_R S 8116 m = some (A 8116) := (W.arr (8116, 0, 20000) (by decide +kernel)).1
theorem mR.k8116 (W : mR n0 S m A) : zs_K S (A 8116) = some (.inr (0, 20000)) := (W.arr (8116, 0, 20000) (by decide +kernel)).2
theorem mR.r8117 (W : mR n0 S m A) : zs_R S 8117 m = some (A 8117) := (W.arr (8117, 0, 16000) (by decide +kernel)).1
theorem mR.k8117 (W : mR n0 S m A) : zs_K S (A 8117) = some (.inr (0, 16000)) := (W.arr (8117, 0, 16000) (by decide +kernel)).2
theorem mR.r8118 (W : mR n0 S m A) : zs_R S 8118 m = some (A 8118) := (W.arr (8118, 0, 16000) (by decide +kernel)).1
theorem mR.k8118 (W : mR n0 S m A) : zs_K S (A 8118) = some (.inr (0, 16000)) := (W.arr (8118, 0, 16000) (by decide +kernel)).2
theorem mR.r8119 (W : mR n0 S m A) : zs_R S 8119 m = some (A 8119) := (W.arr (8119, 0, 16000) (by decide +kernel)).1
theorem mR.k8119 (W : mR n0 S m A) : zs_K S (A 8119) = some (.inr (0, 16000)) := (W.arr (8119, 0, 16000) (by decide +kernel)).2
theorem mR.r8120 (W : mR n0 S m A) : zs_R S 8120 m = some (A 8120) := (W.arr (8120, 0, 80) (by decide +kernel)).1
theorem mR.k8120 (W : mR n0 S m A) : zs_K S (A 8120) = some (.inr (0, 80)) := (W.arr (8120, 0, 80) (by decide +kernel)).2
theorem mR.r8121 (W : mR n0 S m A) : zs_R S 8121 m = some (A 8121) := (W.arr (8121, 3, 320) (by decide +kernel)).1
theorem mR.k8121 (W : mR n0 S m A) : zs_K S (A 8121) = some (.inr (3, 320)) := (W.arr (8121, 3, 320) (by decide +kernel)).2
theorem mR.r8122 (W : mR n0 S m A) : zs_R S 8122 m = some (A 8122) := (W.arr (8122, 0, 80) (by decide +kernel)).1
theorem mR.k8122 (W : mR n0 S m A) : zs_K S (A 8122) = some (.inr (0, 80)) := (W.arr (8122, 0, 80) (by decide +kernel)).2
theorem mR.r8123 (W : mR n0 S m A) : zs_R S 8123 m = some (A 8123) := (W.arr (8123, 0, 80) (by decide +kernel)).1
theorem mR.k8123 (W : mR n0 S m A) : zs_K S (A 8123) = some (.inr (0, 80)) := (W.arr (8123, 0, 80) (by decide +kernel)).2
theorem mR.r8127 (W : mR n0 S m A) : zs_R S 8127 m = some (A 8127) := (W.arr (8127, 3, 4) (by decide +kernel)).1
theorem mR.k8127 (W : mR n0 S m A) : zs_K S (A 8127) = some (.inr (3, 4)) := (W.arr (8127, 3, 4) (by decide +kernel)).2
theorem mR.r8128 (W : mR n0 S m A) : zs_R S 8128 m = some (A 8128) := (W.arr (8128, 0, 200) (by decide +kernel)).1
theorem mR.k8128 (W : mR n0 S m A) : zs_K S (A 8128) = some (.inr (0, 200)) := (W.arr (8128, 0, 200) (by decide +kernel)).2
theorem mR.r8131 (W : mR n0 S m A) : zs_R S 8131 m = some (A 8131) := (W.arr (8131, 0, 16400) (by decide +kernel)).1
theorem mR.k8131 (W : mR n0 S m A) : zs_K S (A 8131) = some (.inr (0, 16400)) := (W.arr (8131, 0, 16400) (by decide +kernel)).2
theorem mR.r8133 (W : mR n0 S m A) : zs_R S 8133 m = some (A 8133) := (W.arr (8133, 0, 16000) (by decide +kernel)).1
theorem mR.k8133 (W : mR n0 S m A) : zs_K S (A 8133) = some (.inr (0, 16000)) := (W.arr (8133, 0, 16000) (by decide +kernel)).2
theorem mR.r8134 (W : mR n0 S m A) : zs_R S 8134 m = some (A 8134) := (W.arr (8134, 0, 16000) (by decide +kernel)).1
theorem mR.k8134 (W : mR n0 S m A) : zs_K S (A 8134) = some (.inr (0, 16000)) := (W.arr (8134, 0, 16000) (by decide +kernel)).2
theorem mR.r8135 (W : mR n0 S m A) : zs_R S 8135 m = some (A 8135) := (W.arr (8135, 0, 16000) (by decide +kernel)).1
theorem mR.k8135 (W : mR n0 S m A) : zs_K S (A 8135) = some (.inr (0, 16000)) := (W.arr (8135, 0, 16000) (by decide +kernel)).2
theorem mR.r8139 (W : mR n0 S m A) : zs_R S 8139 m = some (A 8139) := (W.arr (8139, 0, 16000) (by decide +kernel)).1
theorem mR.k8139 (W : mR n0 S m A) : zs_K S (A 8139) = some (.inr (0, 16000)) := (W.arr (8139, 0, 16000) (by decide +kernel)).2
theorem mR.r8140 (W : mR n0 S m A) : zs_R S 8140 m = some (A 8140) := (W.arr (8140, 2, 16000) (by decide +kernel)).1
theorem mR.k8140 (W : mR n0 S m A) : zs_K S (A 8140) = some (.inr (2, 16000)) := (W.arr (8140, 2, 16000) (by decide +kernel)).2
theorem mR.r8141 (W : mR n0 S m A) : zs_R S 8141 m = some (A 8141) := (W.arr (8141, 2, 20000) (by decide +kernel)).1
theorem mR.k8141 (W : mR n0 S m A) : zs_K S (A 8141) = some (.inr (2, 20000)) := (W.arr (8141, 2, 20000) (by decide +kernel)).2
theorem mR.r8142 (W : mR n0 S m A) : zs_R S 8142 m = some (A 8142) := (W.arr (8142, 2, 20000) (by decide +kernel)).1
theorem mR.k8142 (W : mR n0 S m A) : zs_K S (A 8142) = some (.inr (2, 20000)) := (W.arr (8142, 2, 20000) (by decide +kernel)).2
theorem mR.r8143 (W : mR n0 S m A) : zs_R S 8143 m = some (A 8143) := (W.arr (8143, 0, 16400) (by decide +kernel)).1
theorem mR.k8143 (W : mR n0 S m A) : zs_K S (A 8143) = some (.inr (0, 16400)) := (W.arr (8143, 0, 16400) (by decide +kernel)).2
theorem mR.r8144 (W : mR n0 S m A) : zs_R S 8144 m = some (A 8144) := (W.arr (8144, 0, 4200) (by decide +kernel)).1
theorem mR.k8144 (W : mR n0 S m A) : zs_K S (A 8144) = some (.inr (0, 4200)) := (W.arr (8144, 0, 4200) (by decide +kernel)).2
theorem mR.r8145 (W : mR n0 S m A) : zs_R S 8145 m = some (A 8145) := (W.arr (8145, 0, 4200) (by decide +kernel)).1
theorem mR.k8145 (W : mR n0 S m A) : zs_K S (A 8145) = some (.inr (0, 4200)) := (W.arr (8145, 0, 4200) (by decide +kernel)).2
theorem mR.r8146 (W : mR n0 S m A) : zs_R S 8146 m = some (A 8146) := (W.arr (8146, 0, 50) (by decide +kernel)).1
theorem mR.k8146 (W : mR n0 S m A) : zs_K S (A 8146) = some (.inr (0, 50)) := (W.arr (8146, 0, 50) (by decide +kernel)).2
theorem mR.r8147 (W : mR n0 S m A) : zs_R S 8147 m = some (A 8147) := (W.arr (8147, 0, 50) (by decide +kernel)).1
theorem mR.k8147 (W : mR n0 S m A) : zs_K S (A 8147) = some (.inr (0, 50)) := (W.arr (8147, 0, 50) (by decide +kernel)).2
theorem mR.r8148 (W : mR n0 S m A) : zs_R S 8148 m = some (A 8148) := (W.arr (8148, 0, 50) (by decide +kernel)).1
theorem mR.k8148 (W : mR n0 S m A) : zs_K S (A 8148) = some (.inr (0, 50)) := (W.arr (8148, 0, 50) (by decide +kernel)).2
theorem mR.r8149 (W : mR n0 S m A) : zs_R S 8149 m = some (A 8149) := (W.arr (8149, 0, 50) (by decide +kernel)).1
theorem mR.k8149 (W : mR n0 S m A) : zs_K S (A 8149) = some (.inr (0, 50)) := (W.arr (8149, 0, 50) (by decide +kernel)).2
theorem mR.r8150 (W : mR n0 S m A) : zs_R S 8150 m = some (A 8150) := (W.arr (8150, 0, 50) (by decide +kernel)).1
theorem mR.k8150 (W : mR n0 S m A) : zs_K S (A 8150) = some (.inr (0, 50)) := (W.arr (8150, 0, 50) (by decide +kernel)).2
theorem mR.r8151 (W : mR n0 S m A) : zs_R S 8151 m = some (A 8151) := (W.arr (8151, 0, 50) (by decide +kernel)).1
theorem mR.k8151 (W : mR n0 S m A) : zs_K S (A 8151) = some (.inr (0, 50)) := (W.arr (8151, 0, 50) (by decide +kernel)).2
theorem mR.r8152 (W : mR n0 S m A) : zs_R S 8152 m = some (A 8152) := (W.arr (8152, 2, 50) (by decide +kernel)).1
theorem mR.k8152 (W : mR n0 S m A) : zs_K S (A 8152) = some (.inr (2, 50)) := (W.arr (8152, 2, 50) (by decide +kernel)).2
theorem mR.r8156 (W : mR n0 S m A) : zs_R S 8156 m = some (A 8156) := (W.arr (8156, 0, 101) (by decide +kernel)).1
theorem mR.k8156 (W : mR n0 S m A) : zs_K S (A 8156) = some (.inr (0, 101)) := (W.arr (8156, 0, 101) (by decide +kernel)).2
theorem mR.r8157 (W : mR n0 S m A) : zs_R S 8157 m = some (A 8157) := (W.arr (8157, 0, 101) (by decide +kernel)).1
theorem mR.k8157 (W : mR n0 S m A) : zs_K S (A 8157) = some (.inr (0, 101)) := (W.arr (8157, 0, 101) (by decide +kernel)).2
theorem mR.r8158 (W : mR n0 S m A) : zs_R S 8158 m = some (A 8158) := (W.arr (8158, 0, 101) (by decide +kernel)).1
theorem mR.k8158 (W : mR n0 S m A) : zs_K S (A 8158) = some (.inr (0, 101)) := (W.arr (8158, 0, 101) (by decide +kernel)).2
theorem mR.r8159 (W : mR n0 S m A) : zs_R S 8159 m = some (A 8159) := (W.arr (8159, 0, 101) (by decide +kernel)).1
theorem mR.k8159 (W : mR n0 S m A) : zs_K S (A 8159) = some (.inr (0, 101)) := (W.arr (8159, 0, 101) (by decide +kernel)).2
theorem mR.r8160 (W : mR n0 S m A) : zs_R S 8160 m = some (A 8160) := (W.arr (8160, 0, 101) (by decide +kernel)).1
theorem mR.k8160 (W : mR n0 S m A) : zs_K S (A 8160) = some (.inr (0, 101)) := (W.arr (8160, 0, 101) (by decide +kernel)).2
theorem mR.r8161 (W : mR n0 S m A) : zs_R S 8161 m = some (A 8161) := (W.arr (8161, 0, 101) (by decide +kernel)).1
theorem mR.k8161 (W : mR n0 S m A) : zs_K S (A 8161) = some (.inr (0, 101)) := (W.arr (8161, 0, 101) (by decide +kernel)).2
theorem mR.r8162 (W : mR n0 S m A) : zs_R S 8162 m = some (A 8162) := (W.arr (8162, 0, 101) (by decide +kernel)).1
theorem mR.k8162 (W : mR n0 S m A) : zs_K S (A 8162) = some (.inr (0, 101)) := (W.arr (8162, 0, 101) (by decide +kernel)).2
theorem mR.r8163 (W : mR n0 S m A) : zs_R S 8163 m = some (A 8163) := (W.arr (8163, 0, 101) (by decide +kernel)).1
theorem mR.k8163 (W : mR n0 S m A) : zs_K S (A 8163) = some (.inr (0, 101)) := (W.arr (8163, 0, 101) (by decide +kernel)).2
theorem mR.r8164 (W : mR n0 S m A) : zs_R S 8164 m = some (A 8164) := (W.arr (8164, 0, 101) (by decide +kernel)).1
theorem mR.k8164 (W : mR n0 S m A) : zs_K S (A 8164) = some (.inr (0, 101)) := (W.arr (8164, 0, 101) (by decide +kernel)).2
theorem mR.r8167 (W : mR n0 S m A) : zs_R S 8167 m = some (A 8167) := (W.arr (8167, 0, 21000) (by decide +kernel)).1
theorem mR.k8167 (W : mR n0 S m A) : zs_K S (A 8167) = some (.inr (0, 21000)) := (W.arr (8167, 0, 21000) (by decide +kernel)).2
theorem mR.r8168 (W : mR n0 S m A) : zs_R S 8168 m = some (A 8168) := (W.arr (8168, 0, 21000) (by decide +kernel)).1
theorem mR.k8168 (W : mR n0 S m A) : zs_K S (A 8168) = some (.inr (0, 21000)) := (W.arr (8168, 0, 21000) (by decide +kernel)).2
theorem mR.r8169 (W : mR n0 S m A) : zs_R S 8169 m = some (A 8169) := (W.arr (8169, 3, 84000) (by decide +kernel)).1
theorem mR.k8169 (W : mR n0 S m A) : zs_K S (A 8169) = some (.inr (3, 84000)) := (W.arr (8169, 3, 84000) (by decide +kernel)).2
theorem mR.r8170 (W : mR n0 S m A) : zs_R S 8170 m = some (A 8170) := (W.arr (8170, 3, 40100) (by decide +kernel)).1
theorem mR.k8170 (W : mR n0 S m A) : zs_K S (A 8170) = some (.inr (3, 40100)) := (W.arr (8170, 3, 40100) (by decide +kernel)).2
theorem mR.r8171 (W : mR n0 S m A) : zs_R S 8171 m = some (A 8171) := (W.arr (8171, 2, 40100) (by decide +kernel)).1
theorem mR.k8171 (W : mR n0 S m A) : zs_K S (A 8171) = some (.inr (2, 40100)) := (W.arr (8171, 2, 40100) (by decide +kernel)).2
theorem mR.r8172 (W : mR n0 S m A) : zs_R S 8172 m = some (A 8172) := (W.arr (8172, 0, 40100) (by decide +kernel)).1
theorem mR.k8172 (W : mR n0 S m A) : zs_K S (A 8172) = some (.inr (0, 40100)) := (W.arr (8172, 0, 40100) (by decide +kernel)).2
theorem mR.r8176 (W : mR n0 S m A) : zs_R S 8176 m = some (A 8176) := (W.arr (8176, 0, 20100) (by decide +kernel)).1
theorem mR.k8176 (W : mR n0 S m A) : zs_K S (A 8176) = some (.inr (0, 20100)) := (W.arr (8176, 0, 20100) (by decide +kernel)).2
theorem mR.r8177 (W : mR n0 S m A) : zs_R S 8177 m = some (A 8177) := (W.arr (8177, 0, 20100) (by decide +kernel)).1
theorem mR.k8177 (W : mR n0 S m A) : zs_K S (A 8177) = some (.inr (0, 20100)) := (W.arr (8177, 0, 20100) (by decide +kernel)).2
theorem mR.r8178 (W : mR n0 S m A) : zs_R S 8178 m = some (A 8178) := (W.arr (8178, 0, 20100) (by decide +kernel)).1
theorem mR.k8178 (W : mR n0 S m A) : zs_K S (A 8178) = some (.inr (0, 20100)) := (W.arr (8178, 0, 20100) (by decide +kernel)).2
theorem mR.r8179 (W : mR n0 S m A) : zs_R S 8179 m = some (A 8179) := (W.arr (8179, 3, 80400) (by decide +kernel)).1
theorem mR.k8179 (W : mR n0 S m A) : zs_K S (A 8179) = some (.inr (3, 80400)) := (W.arr (8179, 3, 80400) (by decide +kernel)).2
theorem mR.r8180 (W : mR n0 S m A) : zs_R S 8180 m = some (A 8180) := (W.arr (8180, 2, 20100) (by decide +kernel)).1
theorem mR.k8180 (W : mR n0 S m A) : zs_K S (A 8180) = some (.inr (2, 20100)) := (W.arr (8180, 2, 20100) (by decide +kernel)).2
theorem mR.r8183 (W : mR n0 S m A) : zs_R S 8183 m = some (A 8183) := (W.arr (8183, 3, 70000) (by decide +kernel)).1
theorem mR.k8183 (W : mR n0 S m A) : zs_K S (A 8183) = some (.inr (3, 70000)) := (W.arr (8183, 3, 70000) (by decide +kernel)).2
theorem mR.r8185 (W : mR n0 S m A) : zs_R S 8185 m = some (A 8185) := (W.arr (8185, 1, 20400) (by decide +kernel)).1
theorem mR.k8185 (W : mR n0 S m A) : zs_K S (A 8185) = some (.inr (1, 20400)) := (W.arr (8185, 1, 20400) (by decide +kernel)).2
theorem mR.r8186 (W : mR n0 S m A) : zs_R S 8186 m = some (A 8186) := (W.arr (8186, 0, 70000) (by decide +kernel)).1
theorem mR.k8186 (W : mR n0 S m A) : zs_K S (A 8186) = some (.inr (0, 70000)) := (W.arr (8186, 0, 70000) (by decide +kernel)).2
theorem mR.r8189 (W : mR n0 S m A) : zs_R S 8189 m = some (A 8189) := (W.arr (8189, 0, 60000) (by decide +kernel)).1
theorem mR.k8189 (W : mR n0 S m A) : zs_K S (A 8189) = some (.inr (0, 60000)) := (W.arr (8189, 0, 60000) (by decide +kernel)).2
theorem mR.r8190 (W : mR n0 S m A) : zs_R S 8190 m = some (A 8190) := (W.arr (8190, 0, 60000) (by decide +kernel)).1
theorem mR.k8190 (W : mR n0 S m A) : zs_K S (A 8190) = some (.inr (0, 60000)) := (W.arr (8190, 0, 60000) (by decide +kernel)).2
theorem mR.r8191 (W : mR n0 S m A) : zs_R S 8191 m = some (A 8191) := (W.arr (8191, 3, 240000) (by decide +kernel)).1
theorem mR.k8191 (W : mR n0 S m A) : zs_K S (A 8191) = some (.inr (3, 240000)) := (W.arr (8191, 3, 240000) (by decide +kernel)).2
theorem mR.r8192 (W : mR n0 S m A) : zs_R S 8192 m = some (A 8192) := (W.arr (8192, 0, 60000) (by decide +kernel)).1
theorem mR.k8192 (W : mR n0 S m A) : zs_K S (A 8192) = some (.inr (0, 60000)) := (W.arr (8192, 0, 60000) (by decide +kernel)).2
theorem mR.r8193 (W : mR n0 S m A) : zs_R S 8193 m = some (A 8193) := (W.arr (8193, 0, 60000) (by decide +kernel)).1
theorem mR.k8193 (W : mR n0 S m A) : zs_K S (A 8193) = some (.inr (0, 60000)) := (W.arr (8193, 0, 60000) (by decide +kernel)).2
theorem mR.r8194 (W : mR n0 S m A) : zs_R S 8194 m = some (A 8194) := (W.arr (8194, 0, 60000) (by decide +kernel)).1
theorem mR.k8194 (W : mR n0 S m A) : zs_K S (A 8194) = some (.inr (0, 60000)) := (W.arr (8194, 0, 60000) (by decide +kernel)).2
theorem mR.r8202 (W : mR n0 S m A) : zs_R S 8202 m = some (A 8202) := (W.arr (8202, 0, 1000) (by decide +kernel)).1
theorem mR.k8202 (W : mR n0 S m A) : zs_K S (A 8202) = some (.inr (0, 1000)) := (W.arr (8202, 0, 1000) (by decide +kernel)).2
theorem mR.r8204 (W : mR n0 S m A) : zs_R S 8204 m = some (A 8204) := (W.arr (8204, 1, 20000) (by decide +kernel)).1
theorem mR.k8204 (W : mR n0 S m A) : zs_K S (A 8204) = some (.inr (1, 20000)) := (W.arr (8204, 1, 20000) (by decide +kernel)).2
theorem mR.r8206 (W : mR n0 S m A) : zs_R S 8206 m = some (A 8206) := (W.arr (8206, 0, 64) (by decide +kernel)).1
theorem mR.k8206 (W : mR n0 S m A) : zs_K S (A 8206) = some (.inr (0, 64)) := (W.arr (8206, 0, 64) (by decide +kernel)).2
end MR
/-- only the fields F of the reference, and what its arrays F hold, have changed -/
def mX (m : Nat) (A : Nat → Nat) (S : zs_T) (S1 : zs_T) (F : List Nat) : Prop := (∀ f, f ∉ F → zs_I S1 f m = zs_I S f m) ∧ (∀ f, f ∉ F → zs_J S1 f m = zs_J S f m) ∧ (∀ f, f ∉ F → ∀ j, zs_i S1 (A f) j = zs_i S (A f) j) ∧ (∀ f, f ∉ F → ∀ j, zs_j S1 (A f) j = zs_j S (A f) j) ∧ (∀ f, zs_R S1 f m = zs_R S f m) ∧ (∀ a, zs_K S1 a = zs_K S a) ∧ (∀ a, a ≠ m → (∀ f, a ≠ A f) → zf_at S S1 a) ∧ (zs_N S1 = zs_N S) ∧ (zs_M S1 = zs_M S)
theorem mX.I {m : Nat} {A : Nat → Nat} {S : zs_T} {S1 : zs_T} {F : List Nat} (W : mX m A S S1 F) : ∀ f, f ∉ F → zs_I S1 f m = zs_I S f m := W.1
theorem mX.J {m : Nat} {A : Nat → Nat} {S : zs_T} {S1 : zs_T} {F : List Nat} (W : mX m A S S1 F) : ∀ f, f ∉ F → zs_J S1 f m = zs_J S f m := W.2.1
theorem mX.i {m : Nat} {A : Nat → Nat} {S : zs_T} {S1 : zs_T} {F : List Nat} (W : mX m A S S1 F) : ∀ f, f ∉ F → ∀ j, zs_i S1 (A f) j = zs_i S (A f) j := W.2.2.1
theorem mX.j {m : Nat} {A : Nat → Nat} {S : zs_T} {S1 : zs_T} {F : List Nat} (W : mX m A S S1 F) : ∀ f, f ∉ F → ∀ j, zs_j S1 (A f) j = zs_j S (A f) j := W.2.2.2.1
theorem mX.R {m : Nat} {A : Nat → Nat} {S : zs_T} {S1 : zs_T} {F : List Nat} (W : mX m A S S1 F) : ∀ f, zs_R S1 f m = zs_R S f m := W.2.2.2.2.1
theorem mX.K {m : Nat} {A : Nat → Nat} {S : zs_T} {S1 : zs_T} {F : List Nat} (W : mX m A S S1 F) : ∀ a, zs_K S1 a = zs_K S a := W.2.2.2.2.2.1
theorem mX.out {m : Nat} {A : Nat → Nat} {S : zs_T} {S1 : zs_T} {F : List Nat} (W : mX m A S S1 F) : ∀ a, a ≠ m → (∀ f, a ≠ A f) → zf_at S S1 a := W.2.2.2.2.2.2.1
theorem mX.N {m : Nat} {A : Nat → Nat} {S : zs_T} {S1 : zs_T} {F : List Nat} (W : mX m A S S1 F) : zs_N S1 = zs_N S := W.2.2.2.2.2.2.2.1
theorem mX.M {m : Nat} {A : Nat → Nat} {S : zs_T} {S1 : zs_T} {F : List Nat} (W : mX m A S S1 F) : zs_M S1 = zs_M S := W.2.2.2.2.2.2.2.2
theorem mX.mk {m : Nat} {A : Nat → Nat} {S : zs_T} {S1 : zs_T} {F : List Nat} (h0 : ∀ f, f ∉ F → zs_I S1 f m = zs_I S f m) (h1 : ∀ f, f ∉ F → zs_J S1 f m = zs_J S f m) (h2 : ∀ f, f ∉ F → ∀ j, zs_i S1 (A f) j = zs_i S (A f) j) (h3 : ∀ f, f ∉ F → ∀ j, zs_j S1 (A f) j = zs_j S (A f) j) (h4 : ∀ f, zs_R S1 f m = zs_R S f m) (h5 : ∀ a, zs_K S1 a = zs_K S a) (h6 : ∀ a, a ≠ m → (∀ f, a ≠ A f) → zf_at S S1 a) (h7 : zs_N S1 = zs_N S) (h8 : zs_M S1 = zs_M S) : mX m A S S1 F := ⟨h0, h1, h2, h3, h4, h5, h6, h7, h8⟩
section MX
variable {n0 m : Nat} {A : Nat → Nat} {S S1 S2 : zs_T} {F G : List Nat}
theorem mX.refl (S : zs_T) : mX m A S S [] := ⟨fun _ _ => rfl, fun _ _ => rfl, fun _ _ _ => rfl, fun _ _ _ => rfl, fun _ => rfl, fun _ => rfl, fun _ _ _ => zf_refl _ _, rfl, rfl⟩
theorem mX.trans (h : mX m A S S1 F) (k : mX m A S1 S2 G) : mX m A S S2 (F ++ G) := ⟨fun f hf => by
    simp only [List.mem_append, not_or] at hf
    exact (k.I f hf.2).trans (h.I f hf.1), fun f hf => by
    simp only [List.mem_append, not_or] at hf
    exact (k.J f hf.2).trans (h.J f hf.1), fun f hf j => by
    simp only [List.mem_append, not_or] at hf
    exact (k.i f hf.2 j).trans (h.i f hf.1 j), fun f hf j => by
    simp only [List.mem_append, not_or] at hf
    exact (k.j f hf.2 j).trans (h.j f hf.1 j), fun f => (k.R f).trans (h.R f), fun a => (k.K a).trans (h.K a), fun a h1 h2 => zf_trans (h.out a h1 h2) (k.out a h1 h2), k.N.trans h.N, k.M.trans h.M⟩
theorem mX.mono (h : mX m A S S1 F) (hF : ∀ f ∈ F, f ∈ G) : mX m A S S1 G := ⟨fun f hf => h.I f (fun q => hf (hF f q)), fun f hf => h.J f (fun q => hf (hF f q)), fun f hf => h.i f (fun q => hf (hF f q)), fun f hf => h.j f (fun q => hf (hF f q)), h.R, h.K, h.out, h.N, h.M⟩
theorem mX.mk' (h : mX m A S S1 F) (hF : (F.all fun f => G.elem f) = true) : mX m A S S1 G := h.mono (fun f hf => by
  have := List.all_eq_true.mp hF f hf
  simpa using this)
theorem mX.sI (h : mX m A S S1 F) (W : mR n0 S m A) {f : Nat} {v : Int32} : mX m A S (zs_sI S1 f m v) (f :: F) := ⟨fun g hg => by
    simp only [List.mem_cons, not_or] at hg
    simp only [zs_rd]
    rw [if_neg (fun q => hg.1 q.1)]
    exact h.I g hg.2, fun g hg => by
    simp only [List.mem_cons, not_or] at hg
    exact h.J g hg.2, fun g hg j => by
    simp only [List.mem_cons, not_or] at hg
    exact h.i g hg.2 j, fun g hg j => by
    simp only [List.mem_cons, not_or] at hg
    exact h.j g hg.2 j, h.R, h.K, fun a h1 h2 => zf_trans (h.out a h1 h2) (zf_sI h1), h.N, h.M⟩
theorem mX.sJ (h : mX m A S S1 F) (W : mR n0 S m A) {f : Nat} {v : Int64} : mX m A S (zs_sJ S1 f m v) (f :: F) := ⟨fun g hg => by
    simp only [List.mem_cons, not_or] at hg
    exact h.I g hg.2, fun g hg => by
    simp only [List.mem_cons, not_or] at hg
    simp only [zs_rd]
    rw [if_neg (fun q => hg.1 q.1)]
    exact h.J g hg.2, fun g hg j => by
    simp only [List.mem_cons, not_or] at hg
    exact h.i g hg.2 j, fun g hg j => by
    simp only [List.mem_cons, not_or] at hg
    exact h.j g hg.2 j, h.R, h.K, fun a h1 h2 => zf_trans (h.out a h1 h2) (zf_sJ h1), h.N, h.M⟩
theorem mX.si (h : mX m A S S1 F) (W : mR n0 S m A) {f k : Nat} {v : Int32} : mX m A S (zs_si S1 (A f) k v) (f :: F) := ⟨fun g hg => by
    simp only [List.mem_cons, not_or] at hg
    exact h.I g hg.2, fun g hg => by
    simp only [List.mem_cons, not_or] at hg
    exact h.J g hg.2, fun g hg j => by
    simp only [List.mem_cons, not_or] at hg
    simp only [zs_rda]
    rw [if_neg (fun q => hg.1 ((W.inj g f).mp q.1))]
    exact h.i g hg.2 j, fun g hg j => by
    simp only [List.mem_cons, not_or] at hg
    exact h.j g hg.2 j, h.R, h.K, fun a h1 h2 => zf_trans (h.out a h1 h2) (zf_si (h2 f)), h.N, h.M⟩
theorem mX.sj (h : mX m A S S1 F) (W : mR n0 S m A) {f k : Nat} {v : Int64} : mX m A S (zs_sj S1 (A f) k v) (f :: F) := ⟨fun g hg => by
    simp only [List.mem_cons, not_or] at hg
    exact h.I g hg.2, fun g hg => by
    simp only [List.mem_cons, not_or] at hg
    exact h.J g hg.2, fun g hg j => by
    simp only [List.mem_cons, not_or] at hg
    exact h.i g hg.2 j, fun g hg j => by
    simp only [List.mem_cons, not_or] at hg
    simp only [zs_rda]
    rw [if_neg (fun q => hg.1 ((W.inj g f).mp q.1))]
    exact h.j g hg.2 j, h.R, h.K, fun a h1 h2 => zf_trans (h.out a h1 h2) (zf_sj (h2 f)), h.N, h.M⟩
theorem mR.X (W : mR n0 S m A) (h : mX m A S S1 F) : mR n0 S1 m A := ⟨(h.K m).trans W.K, W.g, fun q hq => ⟨(h.R q.1).trans (W.arr q hq).1, (h.K _).trans (W.arr q hq).2⟩, W.ga, W.inj, W.ne⟩
end MX
