/-! plain facts: how many bits a long has (Long.bitCount and the reference's loop) -/
set_option maxRecDepth 100000
def uNL (x : Int64) : Nat := x.toBitVec.toNat
theorem uNL_lt (x : Int64) : uNL x < 2 ^ 64 := x.toBitVec.isLt
theorem uNL_and (x y : Int64) : uNL (x &&& y) = uNL x &&& uNL y := by unfold uNL; rw [Int64.toBitVec_and, BitVec.toNat_and]
theorem uNL_add (x y : Int64) : uNL (x + y) = (uNL x + uNL y) % 2 ^ 64 := by unfold uNL; rw [Int64.toBitVec_add, BitVec.toNat_add]
theorem uNL_sub {x y : Int64} (h : uNL y ≤ uNL x) : uNL (x - y) = uNL x - uNL y := by
  unfold uNL at *
  rw [Int64.toBitVec_sub, BitVec.toNat_sub]
  have h1 := x.toBitVec.isLt
  have h2 := y.toBitVec.isLt
  omega
theorem lb_uNL (x : Int64) (i : Nat) : lb x i = (uNL x).testBit i := rfl
theorem uNL_shr (x : Int64) {k : Nat} (hk : k < 64) : uNL (jlushr x (nI k)) = uNL x / 2 ^ k := by
  apply Nat.eq_of_testBit_eq
  intro i
  rw [← lb_uNL, lb_ushr x hk, lb_uNL, Nat.testBit_div_two_pow, Nat.add_comm]
/-- bytes -/
def dg : (Nat → Nat) → Nat → Nat
  | _, 0 => 0
  | b, m + 1 => b 0 + 256 * dg (fun k => b (k + 1)) m
theorem dg_cong {a b : Nat → Nat} : ∀ {m : Nat}, (∀ k, k < m → a k = b k) → dg a m = dg b m
  | 0, _ => rfl
  | m + 1, h => by
    show a 0 + 256 * dg _ m = b 0 + 256 * dg _ m
    rw [h 0 (by omega), dg_cong (a := fun k => a (k + 1)) (b := fun k => b (k + 1)) (fun k hk => h (k + 1) (by omega))]
theorem dg_of : ∀ (m X : Nat), X < 256 ^ m → dg (fun k => X / 256 ^ k % 256) m = X
  | 0, X, h => by
    have : X = 0 := by simpa using h
    subst this; rfl
  | m + 1, X, h => by
    have h1 : X / 256 < 256 ^ m := by
      rw [Nat.pow_succ] at h
      exact Nat.div_lt_of_lt_mul (by omega)
    have ih := dg_of m (X / 256) h1
    show X / 256 ^ 0 % 256 + 256 * dg (fun k => X / 256 ^ (k + 1) % 256) m = X
    rw [dg_cong (b := fun k => X / 256 / 256 ^ k % 256) (fun k _ => by rw [Nat.div_div_eq_div_mul, Nat.pow_succ, Nat.mul_comm 256]), ih]
    simp only [Nat.pow_zero, Nat.div_one]
    omega
theorem dg_add (a b : Nat → Nat) : ∀ m, dg a m + dg b m = dg (fun k => a k + b k) m := by
  intro m
  induction m generalizing a b with
  | zero => rfl
  | succ m ih =>
    have := ih (fun k => a (k + 1)) (fun k => b (k + 1))
    show a 0 + 256 * dg (fun k => a (k + 1)) m + (b 0 + 256 * dg (fun k => b (k + 1)) m) = a 0 + b 0 + 256 * dg (fun k => a (k + 1) + b (k + 1)) m
    omega
theorem dg_sub {a b : Nat → Nat} {m : Nat} (h : ∀ k, k < m → b k ≤ a k) : dg b m ≤ dg a m ∧ dg a m - dg b m = dg (fun k => a k - b k) m := by
  have e := dg_add (fun k => a k - b k) b m
  rw [dg_cong (a := fun k => a k - b k + b k) (b := a) (fun k hk => Nat.sub_add_cancel (h k hk))] at e
  omega
theorem and_split {a c m M : Nat} (ha : a < 256) (hm : m < 256) : (a + 256 * c) &&& (m + 256 * M) = (a &&& m) + 256 * (c &&& M) := by
  have e1 : ((a + 256 * c) &&& (m + 256 * M)) % 2 ^ 8 = a &&& m := by rw [Nat.and_mod_two_pow]; congr 1 <;> omega
  have e2 : ((a + 256 * c) &&& (m + 256 * M)) / 2 ^ 8 = c &&& M := by
    rw [← Nat.shiftRight_eq_div_pow, Nat.shiftRight_and_distrib, Nat.shiftRight_eq_div_pow, Nat.shiftRight_eq_div_pow]
    congr 1 <;> omega
  omega
theorem dg_and : ∀ (m : Nat) (a b : Nat → Nat), (∀ k, k < m → a k < 256) → (∀ k, k < m → b k < 256) → dg a m &&& dg b m = dg (fun k => a k &&& b k) m
  | 0, _, _, _, _ => by simp [dg]
  | m + 1, a, b, h1, h2 => by
    show (a 0 + 256 * dg (fun k => a (k + 1)) m) &&& (b 0 + 256 * dg (fun k => b (k + 1)) m) = (a 0 &&& b 0) + 256 * dg (fun k => a (k + 1) &&& b (k + 1)) m
    rw [and_split (h1 0 (by omega)) (h2 0 (by omega)), dg_and m _ _ (fun k hk => h1 (k + 1) (by omega)) (fun k hk => h2 (k + 1) (by omega))]
theorem dg_mod {p q : Nat} (hpq : 256 = p * q) : ∀ (m : Nat) (b : Nat → Nat), b m = 0 → dg b m % p = b 0 % p
  | 0, b, h => by rw [h]; rfl
  | m + 1, b, _ => by
    show (b 0 + 256 * dg (fun k => b (k + 1)) m) % p = _
    rw [hpq, Nat.mul_assoc, Nat.add_mul_mod_self_left]
theorem dg_div {p q : Nat} (hp : 0 < p) (hpq : 256 = p * q) : ∀ (m : Nat) (b : Nat → Nat), b m = 0 → dg b m / p = dg (fun k => b k / p + q * (b (k + 1) % p)) m
  | 0, _, _ => Nat.zero_div p
  | m + 1, b, h => by
    have ih := dg_div hp hpq m (fun k => b (k + 1)) h
    have em := dg_mod hpq m (fun k => b (k + 1)) h
    show (b 0 + 256 * dg (fun k => b (k + 1)) m) / p = b 0 / p + q * (b 1 % p) + 256 * dg (fun k => b (k + 1) / p + q * (b (k + 1 + 1) % p)) m
    rw [← ih]
    generalize dg (fun k => b (k + 1)) m = Y at em ⊢
    have e1 : Y = p * (Y / p) + Y % p := (Nat.div_add_mod Y p).symm
    have e2 : b 0 + 256 * Y = b 0 + p * (q * Y) := by rw [hpq, Nat.mul_assoc]
    rw [e2, Nat.add_mul_div_left _ _ hp]
    have e3 : q * Y = 256 * (Y / p) + q * (Y % p) := by
      conv => lhs; rw [e1]
      rw [Nat.mul_add, ← Nat.mul_assoc, Nat.mul_comm q p, ← hpq]
    have e4 : Y % p = b 1 % p := em
    rw [e3, e4]
    omega
def s1 (x : Nat) : Nat := x - (x / 2 &&& 85)
def s2 (x : Nat) : Nat := (x &&& 51) + (x / 4 &&& 51)
def s3 (x : Nat) : Nat := (x + x / 16) % 16
theorem s1_ok : ∀ x, x < 256 → (x / 2 &&& 85) ≤ x ∧ s1 x < 256 := by decide +kernel
theorem s1_and : ∀ t, t < 2 → ∀ x, x < 128 → (x + 128 * t) &&& 85 = x &&& 85 := by decide +kernel
theorem s2_and : ∀ t, t < 4 → ∀ x, x < 64 → (x + 64 * t) &&& 51 = x &&& 51 := by decide +kernel
theorem s2_ok : ∀ x, x < 256 → s2 (s1 x) < 69 ∧ s2 (s1 x) % 16 ≤ 4 := by decide +kernel
def pop8 (x : Nat) : Nat := ctB (fun i => x.testBit i) 8
theorem s3_ok : ∀ x, x < 256 → s3 (s2 (s1 x)) = pop8 x ∧ pop8 x ≤ 8 := by decide +kernel
theorem dg_const8 (c : Nat) : dg (fun _ => c) 8 = c * 72340172838076673 := by
  simp only [dg]
  omega
theorem bc_nat (X : Nat) (hX : X < 2 ^ 64) :
    let A := X - (X / 2 &&& 6148914691236517205)
    let B := (A &&& 3689348814741910323) + (A / 4 &&& 3689348814741910323)
    let C := (B + B / 16) &&& 1085102592571150095
    (X / 2 &&& 6148914691236517205) ≤ X ∧ (A &&& 3689348814741910323) + (A / 4 &&& 3689348814741910323) < 2 ^ 64 ∧ B + B / 16 < 2 ^ 64 ∧ C = dg (fun k => pop8 (X / 256 ^ k % 256)) 8 := by
  intro A B C
  let b : Nat → Nat := fun k => X / 256 ^ k % 256
  have hb : ∀ k, b k < 256 := fun k => Nat.mod_lt _ (by decide)
  have hb8 : b 8 = 0 := by
    show X / 256 ^ 8 % 256 = 0
    rw [Nat.div_eq_of_lt (by omega)]
  have eX : dg b 8 = X := dg_of 8 X (by omega)
  have m5 : (6148914691236517205 : Nat) = dg (fun _ => 85) 8 := by rw [dg_const8]
  have m3 : (3689348814741910323 : Nat) = dg (fun _ => 51) 8 := by rw [dg_const8]
  have mf : (1085102592571150095 : Nat) = dg (fun _ => 15) 8 := by rw [dg_const8]
  -- stage 1
  have e1 : X / 2 &&& 6148914691236517205 = dg (fun k => b k / 2 &&& 85) 8 := by
    rw [← eX, dg_div (p := 2) (q := 128) (by decide) (by decide) 8 b hb8, m5, dg_and 8 _ _ (fun k _ => by have := hb k; have := hb (k + 1); omega) (fun _ _ => by decide)]
    exact dg_cong (fun k _ => s1_and _ (Nat.mod_lt _ (by decide)) _ (by have := hb k; omega))
  have h1 := dg_sub (a := b) (b := fun k => b k / 2 &&& 85) (m := 8) (fun k _ => (s1_ok (b k) (hb k)).1)
  have eA : A = dg (fun k => s1 (b k)) 8 := by
    show X - (X / 2 &&& 6148914691236517205) = _
    rw [e1, ← eX]
    exact h1.2
  -- stage 2
  have hs1 : ∀ k, s1 (b k) < 256 := fun k => (s1_ok (b k) (hb k)).2
  have hA8 : (fun k => s1 (b k)) 8 = 0 := by show s1 (b 8) = 0; rw [hb8]; rfl
  have e2 : A &&& 3689348814741910323 = dg (fun k => s1 (b k) &&& 51) 8 := by
    rw [eA, m3, dg_and 8 _ _ (fun k _ => hs1 k) (fun _ _ => by decide)]
  have e3 : A / 4 &&& 3689348814741910323 = dg (fun k => s1 (b k) / 4 &&& 51) 8 := by
    rw [eA, dg_div (p := 4) (q := 64) (by decide) (by decide) 8 _ hA8, m3, dg_and 8 _ _ (fun k _ => by have := hs1 k; have := hs1 (k + 1); omega) (fun _ _ => by decide)]
    exact dg_cong (fun k _ => s2_and _ (Nat.mod_lt _ (by decide)) _ (by have := hs1 k; omega))
  have eB : B = dg (fun k => s2 (s1 (b k))) 8 := by
    show (A &&& 3689348814741910323) + (A / 4 &&& 3689348814741910323) = _
    rw [e2, e3, dg_add]
    rfl
  have hs2 : ∀ k, s2 (s1 (b k)) < 69 ∧ s2 (s1 (b k)) % 16 ≤ 4 := fun k => s2_ok (b k) (hb k)
  have hB8 : (fun k => s2 (s1 (b k))) 8 = 0 := by show s2 (s1 (b 8)) = 0; rw [hb8]; rfl
  have e4 : B + B / 16 = dg (fun k => s2 (s1 (b k)) + (s2 (s1 (b k)) / 16 + 16 * (s2 (s1 (b (k + 1))) % 16))) 8 := by
    rw [eB, dg_div (p := 16) (q := 16) (by decide) (by decide) 8 _ hB8, dg_add]
  have eC : C = dg (fun k => pop8 (b k)) 8 := by
    show (B + B / 16) &&& 1085102592571150095 = _
    rw [e4, mf, dg_and 8 _ _ (fun k _ => by have := hs2 k; have := hs2 (k + 1); omega) (fun _ _ => by decide)]
    refine dg_cong (fun k _ => ?_)
    rw [← (s3_ok (b k) (hb k)).1]
    show _ &&& 15 = (s2 (s1 (b k)) + s2 (s1 (b k)) / 16) % 16
    rw [show (15 : Nat) = 2 ^ 4 - 1 from rfl, Nat.and_two_pow_sub_one_eq_mod]
    omega
  have bound : ∀ (f : Nat → Nat), (∀ k, f k < 256) → dg f 8 < 2 ^ 64 := by
    intro f hf
    have := hf 0; have := hf 1; have := hf 2; have := hf 3; have := hf 4; have := hf 5; have := hf 6; have := hf 7
    simp only [dg, Nat.zero_add, Nat.reduceAdd]
    omega
  refine ⟨?_, ?_, ?_, eC⟩
  · rw [e1, ← eX]; exact h1.1
  · show B < 2 ^ 64
    rw [eB]; exact bound _ (fun k => by have := hs2 k; omega)
  · rw [e4]; exact bound _ (fun k => by have := hs2 k; have := hs2 (k + 1); omega)
theorem toInt32_and127 (x : Int64) : x.toInt32 &&& 127 = nI (uNL x % 128) := by
  apply Int32.toBitVec_inj.mp
  apply BitVec.eq_of_toNat_eq
  rw [Int32.toBitVec_and, BitVec.toNat_and]
  have e1 : (x.toInt32).toBitVec.toNat = uNL x % 2 ^ 32 := by
    rw [Int64.toBitVec_toInt32, BitVec.signExtend_eq_setWidth_of_le _ (by decide), BitVec.toNat_setWidth]
    rfl
  have e2 : (127 : Int32).toBitVec.toNat = 2 ^ 7 - 1 := by decide
  have e3 : (nI (uNL x % 128)).toBitVec.toNat = uNL x % 128 := by
    show (BitVec.ofNat 32 _).toNat = _
    rw [BitVec.toNat_ofNat, Nat.mod_eq_of_lt (by omega)]
  rw [e1, e2, e3, Nat.and_two_pow_sub_one_eq_mod]
  omega
theorem ctB_bytes (X : Nat) : ctB (fun i => X.testBit i) 64 = pop8 (X / 256 ^ 0 % 256) + pop8 (X / 256 ^ 1 % 256) + pop8 (X / 256 ^ 2 % 256) + pop8 (X / 256 ^ 3 % 256) + pop8 (X / 256 ^ 4 % 256) + pop8 (X / 256 ^ 5 % 256) + pop8 (X / 256 ^ 6 % 256) + pop8 (X / 256 ^ 7 % 256) := by
  have e : ∀ j, pop8 (X / 256 ^ j % 256) = ctB (fun i => X.testBit (8 * j + i)) 8 := fun j => ctB_cong (fun i hi => by
    rw [show 256 ^ j = 2 ^ (8 * j) by rw [Nat.pow_mul], show (256 : Nat) = 2 ^ 8 from rfl, Nat.testBit_mod_two_pow, Nat.testBit_div_two_pow, Nat.add_comm]
    simp [hi])
  rw [e, e, e, e, e, e, e, e]
  rw [show (64 : Nat) = 8 + 8 + 8 + 8 + 8 + 8 + 8 + 8 from rfl, ctB_add, ctB_add, ctB_add, ctB_add, ctB_add, ctB_add, ctB_add]
  simp only [Nat.mul_zero, Nat.zero_add, Nat.reduceMul, Nat.reduceAdd]
theorem dvk {p : Nat} (hp : 0 < p) (r q : Nat) (h : r < p) : (r + p * q) / p = q := by rw [Nat.add_mul_div_left _ _ hp, Nat.div_eq_of_lt h, Nat.zero_add]
theorem bc_s1 {p r q B C D : Nat} (hp : 0 < p) (hC : C = r + p * q) (hr : r < p) (hD : C + q = D) (hB : D < B) : (C + C / p) % B = D := by
  have e : C / p = q := by rw [hC]; exact dvk hp r q hr
  rw [e, hD]
  exact Nat.mod_eq_of_lt hB
theorem bs1 {c0 c1 c2 c3 c4 c5 c6 c7 : Nat} : c0 + 256 * (c1 + 256 * (c2 + 256 * (c3 + 256 * (c4 + 256 * (c5 + 256 * (c6 + 256 * (c7 + 256 * 0))))))) + (c1 + 256 * (c2 + 256 * (c3 + 256 * (c4 + 256 * (c5 + 256 * (c6 + 256 * (c7 + 256 * 0))))))) = (c0 + c1) + 256 * (c1 + c2) + 65536 * ((c2 + c3) + 256 * (c3 + c4) + 65536 * ((c4 + c5) + 256 * (c5 + c6) + 65536 * ((c6 + c7) + 256 * c7))) := by omega
theorem bs2 {c0 c1 c2 c3 c4 c5 c6 c7 : Nat} : (c0 + c1) + 256 * (c1 + c2) + 65536 * ((c2 + c3) + 256 * (c3 + c4) + 65536 * ((c4 + c5) + 256 * (c5 + c6) + 65536 * ((c6 + c7) + 256 * c7))) + ((c2 + c3) + 256 * (c3 + c4) + 65536 * ((c4 + c5) + 256 * (c5 + c6) + 65536 * ((c6 + c7) + 256 * c7))) = (c0 + c1 + c2 + c3) + 256 * (c1 + c2 + c3 + c4) + 65536 * ((c2 + c3 + c4 + c5) + 256 * (c3 + c4 + c5 + c6)) + 4294967296 * ((c4 + c5 + c6 + c7) + 256 * (c5 + c6 + c7) + 65536 * ((c6 + c7) + 256 * c7)) := by omega
theorem bs3 {c0 c1 c2 c3 c4 c5 c6 c7 : Nat} : (c0 + c1 + c2 + c3) + 256 * (c1 + c2 + c3 + c4) + 65536 * ((c2 + c3 + c4 + c5) + 256 * (c3 + c4 + c5 + c6)) + 4294967296 * ((c4 + c5 + c6 + c7) + 256 * (c5 + c6 + c7) + 65536 * ((c6 + c7) + 256 * c7)) + ((c4 + c5 + c6 + c7) + 256 * (c5 + c6 + c7) + 65536 * ((c6 + c7) + 256 * c7)) = (c0 + c1 + c2 + c3 + c4 + c5 + c6 + c7) + 128 * (2 * ((c1 + c2 + c3 + c4) + (c5 + c6 + c7)) + 512 * ((c2 + c3 + c4 + c5) + (c6 + c7) + 256 * ((c3 + c4 + c5 + c6) + c7)) + 33554432 * ((c4 + c5 + c6 + c7) + 256 * (c5 + c6 + c7) + 65536 * ((c6 + c7) + 256 * c7))) := by omega
theorem bb1 {c0 c1 c2 c3 c4 c5 c6 c7 : Nat} (p0 : c0 ≤ 8) (p1 : c1 ≤ 8) (p2 : c2 ≤ 8) (p3 : c3 ≤ 8) (p4 : c4 ≤ 8) (p5 : c5 ≤ 8) (p6 : c6 ≤ 8) (p7 : c7 ≤ 8) : (c0 + c1) + 256 * (c1 + c2) + 65536 * ((c2 + c3) + 256 * (c3 + c4) + 65536 * ((c4 + c5) + 256 * (c5 + c6) + 65536 * ((c6 + c7) + 256 * c7))) < 18446744073709551616 := by omega
theorem bb2 {c0 c1 c2 c3 c4 c5 c6 c7 : Nat} (p0 : c0 ≤ 8) (p1 : c1 ≤ 8) (p2 : c2 ≤ 8) (p3 : c3 ≤ 8) (p4 : c4 ≤ 8) (p5 : c5 ≤ 8) (p6 : c6 ≤ 8) (p7 : c7 ≤ 8) : (c0 + c1 + c2 + c3) + 256 * (c1 + c2 + c3 + c4) + 65536 * ((c2 + c3 + c4 + c5) + 256 * (c3 + c4 + c5 + c6)) + 4294967296 * ((c4 + c5 + c6 + c7) + 256 * (c5 + c6 + c7) + 65536 * ((c6 + c7) + 256 * c7)) < 18446744073709551616 := by omega
theorem bb3 {c0 c1 c2 c3 c4 c5 c6 c7 : Nat} (p0 : c0 ≤ 8) (p1 : c1 ≤ 8) (p2 : c2 ≤ 8) (p3 : c3 ≤ 8) (p4 : c4 ≤ 8) (p5 : c5 ≤ 8) (p6 : c6 ≤ 8) (p7 : c7 ≤ 8) : (c0 + c1 + c2 + c3 + c4 + c5 + c6 + c7) + 128 * (2 * ((c1 + c2 + c3 + c4) + (c5 + c6 + c7)) + 512 * ((c2 + c3 + c4 + c5) + (c6 + c7) + 256 * ((c3 + c4 + c5 + c6) + c7)) + 33554432 * ((c4 + c5 + c6 + c7) + 256 * (c5 + c6 + c7) + 65536 * ((c6 + c7) + 256 * c7))) < 18446744073709551616 := by omega
theorem br1 {c0 c1 c2 c3 c4 c5 c6 c7 : Nat} (p0 : c0 ≤ 8) (p1 : c1 ≤ 8) (p2 : c2 ≤ 8) (p3 : c3 ≤ 8) (p4 : c4 ≤ 8) (p5 : c5 ≤ 8) (p6 : c6 ≤ 8) (p7 : c7 ≤ 8) : (c0 + c1) + 256 * (c1 + c2) < 65536 := by omega
theorem br2 {c0 c1 c2 c3 c4 c5 c6 c7 : Nat} (p0 : c0 ≤ 8) (p1 : c1 ≤ 8) (p2 : c2 ≤ 8) (p3 : c3 ≤ 8) (p4 : c4 ≤ 8) (p5 : c5 ≤ 8) (p6 : c6 ≤ 8) (p7 : c7 ≤ 8) : (c0 + c1 + c2 + c3) + 256 * (c1 + c2 + c3 + c4) + 65536 * ((c2 + c3 + c4 + c5) + 256 * (c3 + c4 + c5 + c6)) < 4294967296 := by omega
theorem br3 {c0 c1 c2 c3 c4 c5 c6 c7 : Nat} (p0 : c0 ≤ 8) (p1 : c1 ≤ 8) (p2 : c2 ≤ 8) (p3 : c3 ≤ 8) (p4 : c4 ≤ 8) (p5 : c5 ≤ 8) (p6 : c6 ≤ 8) (p7 : c7 ≤ 8) : c0 + c1 + c2 + c3 + c4 + c5 + c6 + c7 < 128 := by omega
theorem bc_sum {c0 c1 c2 c3 c4 c5 c6 c7 : Nat} (p0 : c0 ≤ 8) (p1 : c1 ≤ 8) (p2 : c2 ≤ 8) (p3 : c3 ≤ 8) (p4 : c4 ≤ 8) (p5 : c5 ≤ 8) (p6 : c6 ≤ 8) (p7 : c7 ≤ 8) : (((((c0 + 256 * (c1 + 256 * (c2 + 256 * (c3 + 256 * (c4 + 256 * (c5 + 256 * (c6 + 256 * (c7 + 256 * 0)))))))) + (c0 + 256 * (c1 + 256 * (c2 + 256 * (c3 + 256 * (c4 + 256 * (c5 + 256 * (c6 + 256 * (c7 + 256 * 0)))))))) / 256) % 2 ^ 64 + ((c0 + 256 * (c1 + 256 * (c2 + 256 * (c3 + 256 * (c4 + 256 * (c5 + 256 * (c6 + 256 * (c7 + 256 * 0)))))))) + (c0 + 256 * (c1 + 256 * (c2 + 256 * (c3 + 256 * (c4 + 256 * (c5 + 256 * (c6 + 256 * (c7 + 256 * 0)))))))) / 256) % 2 ^ 64 / 65536) % 2 ^ 64 + (((c0 + 256 * (c1 + 256 * (c2 + 256 * (c3 + 256 * (c4 + 256 * (c5 + 256 * (c6 + 256 * (c7 + 256 * 0)))))))) + (c0 + 256 * (c1 + 256 * (c2 + 256 * (c3 + 256 * (c4 + 256 * (c5 + 256 * (c6 + 256 * (c7 + 256 * 0)))))))) / 256) % 2 ^ 64 + ((c0 + 256 * (c1 + 256 * (c2 + 256 * (c3 + 256 * (c4 + 256 * (c5 + 256 * (c6 + 256 * (c7 + 256 * 0)))))))) + (c0 + 256 * (c1 + 256 * (c2 + 256 * (c3 + 256 * (c4 + 256 * (c5 + 256 * (c6 + 256 * (c7 + 256 * 0)))))))) / 256) % 2 ^ 64 / 65536) % 2 ^ 64 / 4294967296) % 2 ^ 64) % 128 = c0 + c1 + c2 + c3 + c4 + c5 + c6 + c7 := by
  have a2 : ((c0 + 256 * (c1 + 256 * (c2 + 256 * (c3 + 256 * (c4 + 256 * (c5 + 256 * (c6 + 256 * (c7 + 256 * 0)))))))) + (c0 + 256 * (c1 + 256 * (c2 + 256 * (c3 + 256 * (c4 + 256 * (c5 + 256 * (c6 + 256 * (c7 + 256 * 0)))))))) / 256) % 2 ^ 64 = (c0 + c1) + 256 * (c1 + c2) + 65536 * ((c2 + c3) + 256 * (c3 + c4) + 65536 * ((c4 + c5) + 256 * (c5 + c6) + 65536 * ((c6 + c7) + 256 * c7))) := bc_s1 (p := 256) (r := c0) (q := c1 + 256 * (c2 + 256 * (c3 + 256 * (c4 + 256 * (c5 + 256 * (c6 + 256 * (c7 + 256 * 0))))))) (by decide) rfl (Nat.lt_of_le_of_lt p0 (by decide)) bs1 (bb1 p0 p1 p2 p3 p4 p5 p6 p7)
  rw [a2]
  have a4 : (((c0 + c1) + 256 * (c1 + c2) + 65536 * ((c2 + c3) + 256 * (c3 + c4) + 65536 * ((c4 + c5) + 256 * (c5 + c6) + 65536 * ((c6 + c7) + 256 * c7)))) + ((c0 + c1) + 256 * (c1 + c2) + 65536 * ((c2 + c3) + 256 * (c3 + c4) + 65536 * ((c4 + c5) + 256 * (c5 + c6) + 65536 * ((c6 + c7) + 256 * c7)))) / 65536) % 2 ^ 64 = (c0 + c1 + c2 + c3) + 256 * (c1 + c2 + c3 + c4) + 65536 * ((c2 + c3 + c4 + c5) + 256 * (c3 + c4 + c5 + c6)) + 4294967296 * ((c4 + c5 + c6 + c7) + 256 * (c5 + c6 + c7) + 65536 * ((c6 + c7) + 256 * c7)) := bc_s1 (p := 65536) (r := (c0 + c1) + 256 * (c1 + c2)) (q := (c2 + c3) + 256 * (c3 + c4) + 65536 * ((c4 + c5) + 256 * (c5 + c6) + 65536 * ((c6 + c7) + 256 * c7))) (by decide) rfl (br1 p0 p1 p2 p3 p4 p5 p6 p7) bs2 (bb2 p0 p1 p2 p3 p4 p5 p6 p7)
  rw [a4]
  have a6 : (((c0 + c1 + c2 + c3) + 256 * (c1 + c2 + c3 + c4) + 65536 * ((c2 + c3 + c4 + c5) + 256 * (c3 + c4 + c5 + c6)) + 4294967296 * ((c4 + c5 + c6 + c7) + 256 * (c5 + c6 + c7) + 65536 * ((c6 + c7) + 256 * c7))) + ((c0 + c1 + c2 + c3) + 256 * (c1 + c2 + c3 + c4) + 65536 * ((c2 + c3 + c4 + c5) + 256 * (c3 + c4 + c5 + c6)) + 4294967296 * ((c4 + c5 + c6 + c7) + 256 * (c5 + c6 + c7) + 65536 * ((c6 + c7) + 256 * c7))) / 4294967296) % 2 ^ 64 = (c0 + c1 + c2 + c3 + c4 + c5 + c6 + c7) + 128 * (2 * ((c1 + c2 + c3 + c4) + (c5 + c6 + c7)) + 512 * ((c2 + c3 + c4 + c5) + (c6 + c7) + 256 * ((c3 + c4 + c5 + c6) + c7)) + 33554432 * ((c4 + c5 + c6 + c7) + 256 * (c5 + c6 + c7) + 65536 * ((c6 + c7) + 256 * c7))) := bc_s1 (p := 4294967296) (r := (c0 + c1 + c2 + c3) + 256 * (c1 + c2 + c3 + c4) + 65536 * ((c2 + c3 + c4 + c5) + 256 * (c3 + c4 + c5 + c6))) (q := (c4 + c5 + c6 + c7) + 256 * (c5 + c6 + c7) + 65536 * ((c6 + c7) + 256 * c7)) (by decide) rfl (br2 p0 p1 p2 p3 p4 p5 p6 p7) bs3 (bb3 p0 p1 p2 p3 p4 p5 p6 p7)
  rw [a6, Nat.add_mul_mod_self_left]
  exact Nat.mod_eq_of_lt (br3 p0 p1 p2 p3 p4 p5 p6 p7)
theorem bc_eq (x : Int64) : V_J13_bitCount x = nI (ctB (lb x) 64) := by
  obtain ⟨h1, h2, h3, h4⟩ := bc_nat (uNL x) (uNL_lt x)
  unfold V_J13_bitCount
  have k1 : uNL (6148914691236517205 : Int64) = 6148914691236517205 := by decide
  have k2 : uNL (3689348814741910323 : Int64) = 3689348814741910323 := by decide
  have k3 : uNL (1085102592571150095 : Int64) = 1085102592571150095 := by decide
  have sh : ∀ (y : Int64) (k : Nat), k < 64 → uNL (jlushr y (nI k)) = uNL y / 2 ^ k := fun y k hk => uNL_shr y hk
  have sh1 : ∀ y, uNL (jlushr y 1) = uNL y / 2 := fun y => sh y 1 (by decide)
  have sh2 : ∀ y, uNL (jlushr y 2) = uNL y / 4 := fun y => sh y 2 (by decide)
  have sh4 : ∀ y, uNL (jlushr y 4) = uNL y / 16 := fun y => sh y 4 (by decide)
  have sh8 : ∀ y, uNL (jlushr y 8) = uNL y / 256 := fun y => sh y 8 (by decide)
  have sh16 : ∀ y, uNL (jlushr y 16) = uNL y / 65536 := fun y => sh y 16 (by decide)
  have sh32 : ∀ y, uNL (jlushr y 32) = uNL y / 4294967296 := fun y => sh y 32 (by decide)
  have eA : uNL (x - ((jlushr x 1) &&& 6148914691236517205)) = uNL x - (uNL x / 2 &&& 6148914691236517205) := by
    rw [uNL_sub (by rw [uNL_and, sh1, k1]; exact h1), uNL_and, sh1, k1]
  generalize x - ((jlushr x 1) &&& 6148914691236517205) = A at eA ⊢
  have eB : uNL ((A &&& 3689348814741910323) + ((jlushr A 2) &&& 3689348814741910323)) = (uNL A &&& 3689348814741910323) + (uNL A / 4 &&& 3689348814741910323) := by
    rw [uNL_add, uNL_and, uNL_and, sh2, k2, eA, Nat.mod_eq_of_lt h2]
  rw [eA] at eB
  generalize (A &&& 3689348814741910323) + ((jlushr A 2) &&& 3689348814741910323) = B at eB ⊢
  have eC : uNL ((B + (jlushr B 4)) &&& 1085102592571150095) = dg (fun k => pop8 (uNL x / 256 ^ k % 256)) 8 := by
    rw [uNL_and, uNL_add, sh4, k3, eB, Nat.mod_eq_of_lt h3]
    exact h4
  generalize (B + (jlushr B 4)) &&& 1085102592571150095 = C at eC ⊢
  have hp : ∀ k, pop8 (uNL x / 256 ^ k % 256) ≤ 8 := fun k => (s3_ok _ (Nat.mod_lt _ (by decide))).2
  rw [toInt32_and127]
  have et := ctB_bytes (uNL x)
  have el : ctB (lb x) 64 = ctB (fun i => (uNL x).testBit i) 64 := rfl
  rw [el, et]
  have p0 := hp 0; have p1 := hp 1; have p2 := hp 2; have p3 := hp 3; have p4 := hp 4; have p5 := hp 5; have p6 := hp 6; have p7 := hp 7
  simp only [dg, Nat.zero_add, Nat.reduceAdd] at eC
  generalize pop8 (uNL x / 256 ^ 0 % 256) = c0 at *
  generalize pop8 (uNL x / 256 ^ 1 % 256) = c1 at *
  generalize pop8 (uNL x / 256 ^ 2 % 256) = c2 at *
  generalize pop8 (uNL x / 256 ^ 3 % 256) = c3 at *
  generalize pop8 (uNL x / 256 ^ 4 % 256) = c4 at *
  generalize pop8 (uNL x / 256 ^ 5 % 256) = c5 at *
  generalize pop8 (uNL x / 256 ^ 6 % 256) = c6 at *
  generalize pop8 (uNL x / 256 ^ 7 % 256) = c7 at *
  congr 1
  rw [uNL_add, sh32, uNL_add, sh16, uNL_add, sh8, eC]
  clear eC eB eA h1 h2 h3 h4 sh sh1 sh2 sh4 sh8 sh16 sh32 hp et el k1 k2 k3
  exact bc_sum p0 p1 p2 p3 p4 p5 p6 p7
/-! the reference's size and lowest -/
theorem toInt32_bit (b : Bool) : (if b then (1 : Int64) else 0).toInt32 = nI (if b then 1 else 0) := by cases b <;> rfl
theorem lp_X6_size_ok (N : Nat) (x : Int64) : ∀ (r k n : Nat), k + r = 49 → r < n → lp_X6_size_4 N x n (nI (ctB (lb x) k)) (nI k) = some (nI (ctB (lb x) 49)) := by
  intro r
  induction r with
  | zero =>
    intro k n hk hn
    obtain ⟨n, rfl⟩ : ∃ n', n = n' + 1 := ⟨n - 1, by omega⟩
    have e : k = 49 := by omega
    subst e
    have q : ((49 : Int32) ≤ nI 49) ↔ 49 ≤ 49 := nq_le (a := 49) (by omega) (by omega)
    rw [lp_X6_size_4.eq_2, if_pos (q.mpr (Nat.le_refl _))]
  | succ r ih =>
    intro k n hk hn
    obtain ⟨n, rfl⟩ : ∃ n', n = n' + 1 := ⟨n - 1, by omega⟩
    have q : ((49 : Int32) ≤ nI k) ↔ 49 ≤ k := nq_le (a := 49) (by omega) (by omega)
    rw [lp_X6_size_4.eq_2, if_neg (fun h => by have := q.mp h; omega), bit_s x (by omega), toInt32_bit, nq_add]
    have e1 : (nI k + 1 : Int32) = nI (k + 1) := nq_add k 1
    rw [e1]
    have e2 : ctB (lb x) k + (if lb x k then 1 else 0) = ctB (lb x) (k + 1) := rfl
    rw [e2]
    exact ih (k + 1) n (by omega) (by omega)
theorem F_size_eq {N : Nat} (hN : 50 ≤ N) (x : Int64) : F_X6_size N x = some (nI (ctB (lb x) 49)) := by
  unfold F_X6_size
  exact lp_X6_size_ok N x 49 0 N (by omega) (by omega)
theorem lp_X6_lowest_ok (N : Nat) (x : Int64) {t : Nat} (ht : t < 64) (hx : lb x t = true) (hz : ∀ i, i < t → lb x i = false) : ∀ (r k n : Nat), k + r = t → r < n → lp_X6_lowest_2 N x n (nI k) = some (nI t) := by
  intro r
  induction r with
  | zero =>
    intro k n hk hn
    obtain ⟨n, rfl⟩ : ∃ n', n = n' + 1 := ⟨n - 1, by omega⟩
    have e : k = t := by omega
    subst e
    rw [lp_X6_lowest_2.eq_2, bit_s x ht, hx]
    rfl
  | succ r ih =>
    intro k n hk hn
    obtain ⟨n, rfl⟩ : ∃ n', n = n' + 1 := ⟨n - 1, by omega⟩
    rw [lp_X6_lowest_2.eq_2, bit_s x (by omega), hz k (by omega)]
    have e1 : (nI k + 1 : Int32) = nI (k + 1) := nq_add k 1
    rw [e1]
    exact (if_pos (show lg_cmp (if false = true then (1 : Int64) else 0) 0 = 0 by decide)).trans (ih (k + 1) n (by omega) (by omega))
theorem F_lowest_eq {N : Nat} (hN : 65 ≤ N) {x : Int64} {t : Nat} (ht : t < 64) (hx : lb x t = true) (hz : ∀ i, i < t → lb x i = false) : F_X6_lowest N x = some (nI t) := by
  unfold F_X6_lowest
  exact lp_X6_lowest_ok N x ht hx hz t 0 N (by omega) (by omega)
