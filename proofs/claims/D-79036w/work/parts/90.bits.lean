/-! plain facts: the bits of longs, ints as numbers -/
set_option maxRecDepth 100000
def lb (x : Int64) (i : Nat) : Bool := x.toBitVec.getLsbD i
theorem lb_ext {x y : Int64} (h : ∀ i, i < 64 → lb x i = lb y i) : x = y := Int64.toBitVec_inj.mp (BitVec.eq_of_getLsbD_eq (fun i hi => h i hi))
theorem lb_big {x : Int64} {i : Nat} (h : 64 ≤ i) : lb x i = false := BitVec.getLsbD_of_ge _ _ h
theorem lb_0 (i : Nat) : lb 0 i = false := BitVec.getLsbD_zero
theorem lb_or (x y : Int64) (i : Nat) : lb (x ||| y) i = (lb x i || lb y i) := by unfold lb; rw [Int64.toBitVec_or, BitVec.getLsbD_or]
theorem lb_and (x y : Int64) (i : Nat) : lb (x &&& y) i = (lb x i && lb y i) := by unfold lb; rw [Int64.toBitVec_and, BitVec.getLsbD_and]
theorem lb_xor (x y : Int64) (i : Nat) : lb (x ^^^ y) i = (lb x i ^^ lb y i) := by unfold lb; rw [Int64.toBitVec_xor, BitVec.getLsbD_xor]
theorem lb_m1 : ∀ i, i < 64 → lb (-1) i = true := by decide +kernel
theorem lb_not (x : Int64) {i : Nat} (h : i < 64) : lb (x ^^^ (-1)) i = !lb x i := by rw [lb_xor, lb_m1 i h]; cases lb x i <;> rfl
theorem lb_andnot (x y : Int64) (i : Nat) : lb (x &&& (y ^^^ (-1))) i = (lb x i && !lb y i) := by
  by_cases h : i < 64
  · rw [lb_and, lb_not y h]
  · rw [lb_and, lb_big (x := x) (by omega)]; rfl
theorem lq_c : ∀ k, k < 64 → ((nI k).toInt64 &&& 63) = lN k := by decide +kernel
theorem lq_cu : ∀ k, k < 64 → ((nI k).toInt64.toUInt64 &&& Int64.toUInt64 63) = UInt64.ofNat k := by decide +kernel
theorem lq_sm : ∀ k, k < 64 → ((lN k).toBitVec.smod 64).toNat = k := by decide +kernel
theorem lb_shl (x : Int64) {n : Nat} (hn : n < 64) {i : Nat} (hi : i < 64) : lb (jlshl x (nI n)) i = (decide (n ≤ i) && lb x (i - n)) := by
  unfold jlshl
  rw [lq_c n hn]
  unfold lb
  rw [Int64.toBitVec_shiftLeft]
  show (x.toBitVec <<< ((lN n).toBitVec.smod 64).toNat).getLsbD i = _
  rw [lq_sm n hn, BitVec.getLsbD_shiftLeft]
  rcases Nat.lt_or_ge i n with h | h
  · simp [h, Nat.not_le.mpr h]
  · simp [hi, h, Nat.not_lt.mpr h]
theorem lb_ushr (x : Int64) {n : Nat} (hn : n < 64) (i : Nat) : lb (jlushr x (nI n)) i = lb x (n + i) := by
  unfold jlushr
  rw [lq_cu n hn]
  show (x.toUInt64 >>> UInt64.ofNat n).toBitVec.getLsbD i = x.toUInt64.toBitVec.getLsbD (n + i)
  rw [UInt64.toBitVec_shiftRight]
  have e : ((UInt64.ofNat n).toBitVec % 64).toNat = n := by
    have h : (UInt64.ofNat n).toBitVec = BitVec.ofNat 64 n := rfl
    rw [h, BitVec.toNat_umod, BitVec.toNat_ofNat, Nat.mod_eq_of_lt (show n < 2 ^ 64 by omega)]
    show n % 64 = n
    omega
  show (x.toUInt64.toBitVec >>> ((UInt64.ofNat n).toBitVec % 64).toNat).getLsbD i = _
  rw [e, BitVec.getLsbD_ushiftRight]
theorem lb_sshr (x : Int64) {n : Nat} (hn : n < 64) {i : Nat} (hi : i < 64) : lb (jlshr x (nI n)) i = if n + i < 64 then lb x (n + i) else lb x 63 := by
  unfold jlshr
  rw [lq_c n hn]
  unfold lb
  rw [Int64.toBitVec_shiftRight]
  show (x.toBitVec.sshiftRight ((lN n).toBitVec.smod 64).toNat).getLsbD i = _
  rw [lq_sm n hn, BitVec.getLsbD_sshiftRight, BitVec.msb_eq_getLsbD_last]
  simp [hi]
theorem lb_1 (i : Nat) : lb 1 i = decide (i = 0) := by
  have e : (1 : Int64).toBitVec = 1#64 := rfl
  unfold lb
  rw [e, BitVec.getLsbD_one]
  simp
/-- one bit -/
def bitL (k : Nat) : Int64 := jlshl 1 (nI k)
theorem lb_bit {k : Nat} (hk : k < 64) (i : Nat) : lb (bitL k) i = decide (i = k) := by
  by_cases hi : i < 64
  · unfold bitL
    rw [lb_shl 1 hk hi, lb_1]
    by_cases e : i = k
    · subst e; simp
    · simp [e]; omega
  · rw [lb_big (by omega)]
    have : i ≠ k := by omega
    simp [this]
theorem lb_mask : ∀ n, n < 63 → ∀ i, i < 64 → lb (jlshl 1 (nI n) - 1) i = decide (i < n) := by decide +kernel
theorem lb_eq0 {x : Int64} : x = 0 ↔ ∀ i, i < 64 → lb x i = false := ⟨fun h i _ => by rw [h, lb_0], fun h => lb_ext fun i hi => by rw [h i hi, lb_0]⟩
theorem lgc {x y : Int64} : lg_cmp x y = 0 ↔ x = y := by
  unfold lg_cmp
  by_cases h : x > y
  · rw [if_pos h]
    constructor
    · intro h2; exact absurd h2 (by decide)
    · intro h2; subst h2; exact absurd h (fun h3 => Int64.lt_irrefl h3)
  · rw [if_neg h]
    by_cases h2 : x = y
    · rw [if_pos h2]; exact ⟨fun _ => h2, fun _ => rfl⟩
    · rw [if_neg h2]; exact ⟨fun h3 => absurd h3 (by decide), fun h3 => absurd h3 h2⟩
theorem lb_and1 (x : Int64) : x &&& 1 = if lb x 0 then 1 else 0 := by
  apply lb_ext
  intro i hi
  rw [lb_and, lb_1]
  cases h : lb x 0
  · simp only [Bool.false_eq_true, if_false, lb_0]
    by_cases e : i = 0
    · subst e; rw [h]; rfl
    · simp [e]
  · simp only [if_true, lb_1]
    by_cases e : i = 0
    · subst e; rw [h]; rfl
    · simp [e]
/-- a bit of a long by the unsigned and by the signed shift -/
theorem bit_u (x : Int64) {n : Nat} (hn : n < 64) : (jlushr x (nI n)) &&& 1 = if lb x n then 1 else 0 := by rw [lb_and1, lb_ushr x hn, Nat.add_zero]
theorem bit_s (x : Int64) {n : Nat} (hn : n < 64) : (jlshr x (nI n)) &&& 1 = if lb x n then 1 else 0 := by
  rw [lb_and1, lb_sshr x hn (by omega), Nat.add_zero, if_pos hn]
theorem F_has_eq (N : Nat) (x : Int64) {n : Nat} (hn : n < 64) : F_X1_has N x (nI n) = some (if lb x n then 1 else 0) := by
  unfold F_X1_has
  rw [bit_u x hn]
  cases lb x n
  · rfl
  · rfl
/-! ints -/
theorem ix_nI {n : Nat} (h : n < 2 ^ 31) : ix (nI n) = n := nI_clamp h
theorem nq_inj {a b : Nat} (ha : a < 2 ^ 31) (hb : b < 2 ^ 31) : nI a = nI b ↔ a = b := by
  constructor
  · intro h
    have := congrArg ix h
    rwa [ix_nI ha, ix_nI hb] at this
  · intro h; rw [h]
theorem nq_lt {a b : Nat} (ha : a < 2 ^ 31) (hb : b < 2 ^ 31) : nI a < nI b ↔ a < b := by rw [Int32.lt_iff_toInt_lt, nI_toInt ha, nI_toInt hb]; omega
theorem nq_le {a b : Nat} (ha : a < 2 ^ 31) (hb : b < 2 ^ 31) : nI a ≤ nI b ↔ a ≤ b := by rw [Int32.le_iff_toInt_le, nI_toInt ha, nI_toInt hb]; omega
theorem nq_add (a b : Nat) : nI a + nI b = nI (a + b) := (Int32.ofNat_add a b).symm
theorem nq_mul (a b : Nat) : nI a * nI b = nI (a * b) := (Int32.ofNat_mul a b).symm
theorem nq_sub {a b : Nat} (h : b ≤ a) : nI a - nI b = nI (a - b) := (Int32.ofNat_sub a b h).symm
theorem inb_nI {n N : Nat} (h : n < N) (hN : N < 2 ^ 31) : inb (nI n) N = true := by
  unfold inb
  have h1 : (0 : Int32) ≤ nI n := (nq_le (a := 0) (by omega) (by omega)).mpr (Nat.zero_le _)
  have h2 : (nI n).toNatClampNeg = n := nI_clamp (by omega)
  simp [h1, h2, h]
theorem nI_lit0 : (0 : Int32) = nI 0 := rfl
theorem nq_of (x : Int32) (h : 0 ≤ x) : ∃ n : Nat, n < 2 ^ 31 ∧ x = nI n := by
  have h0 : (0 : Int) ≤ x.toInt := Int32.le_iff_toInt_le.mp h
  have h1 := Int32.toInt_lt x
  refine ⟨x.toInt.toNat, by omega, Int32.toInt_inj.mp ?_⟩
  rw [nI_toInt (by omega)]
  omega
/-! how many places have a property -/
def ctB (p : Nat → Bool) : Nat → Nat
  | 0 => 0
  | n + 1 => ctB p n + (if p n then 1 else 0)
theorem ctB_le (p : Nat → Bool) : ∀ n, ctB p n ≤ n
  | 0 => Nat.le_refl _
  | n + 1 => by
    have h := ctB_le p n
    show ctB p n + _ ≤ _
    split <;> omega
theorem ctB_cong {p q : Nat → Bool} : ∀ {n : Nat}, (∀ k, k < n → p k = q k) → ctB p n = ctB q n
  | 0, _ => rfl
  | n + 1, h => by
    show ctB p n + _ = ctB q n + _
    rw [ctB_cong (fun k hk => h k (by omega)), h n (by omega)]
theorem ctB_out {p : Nat → Bool} {m : Nat} : ∀ {n : Nat}, m ≤ n → (∀ k, m ≤ k → k < n → p k = false) → ctB p n = ctB p m
  | 0, h, _ => by rw [Nat.le_zero.mp h]
  | n + 1, h, hz => by
    rcases Nat.lt_or_ge n m with q | q
    · rw [show m = n + 1 by omega]
    · show ctB p n + _ = _
      rw [hz n q (by omega), ctB_out q (fun k h1 h2 => hz k h1 (by omega))]
      rfl
theorem ctB_zero {p : Nat → Bool} : ∀ {n : Nat}, ctB p n = 0 ↔ ∀ k, k < n → p k = false
  | 0 => ⟨fun _ k h => absurd h (Nat.not_lt_zero k), fun _ => rfl⟩
  | n + 1 => by
    have ih := ctB_zero (p := p) (n := n)
    constructor
    · intro h k hk
      have h' : ctB p n + (if p n then 1 else 0) = 0 := h
      rcases Nat.lt_or_ge k n with q | q
      · exact ih.mp (by omega) k q
      · have e : k = n := by omega
        subst e
        cases hp : p k
        · rfl
        · rw [hp] at h'; simp at h'
    · intro h
      show ctB p n + _ = 0
      rw [ih.mpr (fun k hk => h k (by omega)), h n (by omega)]
      rfl
theorem ctB_add (p : Nat → Bool) (m : Nat) : ∀ n, ctB p (m + n) = ctB p m + ctB (fun k => p (m + k)) n
  | 0 => rfl
  | n + 1 => by
    show ctB p (m + n) + _ = _ + (ctB (fun k => p (m + k)) n + _)
    rw [ctB_add p m n, Nat.add_assoc]
    rfl
theorem ctB_sub {p q : Nat → Bool} : ∀ {n : Nat}, (∀ k, k < n → p k = true → q k = true) → ctB p n ≤ ctB q n
  | 0, _ => Nat.le_refl _
  | n + 1, h => by
    have h1 := ctB_sub (n := n) (p := p) (q := q) (fun k hk => h k (by omega))
    have h2 := h n (by omega)
    show ctB p n + _ ≤ ctB q n + _
    cases hp : p n <;> cases hq : q n <;> simp_all <;> omega
theorem ctB_or {p q : Nat → Bool} : ∀ {n : Nat}, (∀ k, k < n → ¬ (p k = true ∧ q k = true)) → ctB (fun k => p k || q k) n = ctB p n + ctB q n
  | 0, _ => rfl
  | n + 1, h => by
    have h1 := ctB_or (n := n) (p := p) (q := q) (fun k hk => h k (by omega))
    have h2 := h n (by omega)
    show ctB (fun k => p k || q k) n + _ = ctB p n + _ + (ctB q n + _)
    rw [h1]
    cases hp : p n <;> cases hq : q n <;> simp_all <;> omega
theorem ctB_lt {p q : Nat → Bool} {n i : Nat} (h : ∀ k, k < n → p k = true → q k = true) (hi : i < n) (hp : p i = false) (hq : q i = true) : ctB p n < ctB q n := by
  have e := ctB_or (p := p) (q := fun k => decide (k = i)) (n := n) (fun k hk ⟨h1, h2⟩ => by
    have e : k = i := of_decide_eq_true h2
    subst e; rw [hp] at h1; cases h1)
  have h1 : ctB (fun k => p k || decide (k = i)) n ≤ ctB q n := ctB_sub (fun k hk hx => by
    rcases Bool.or_eq_true _ _ |>.mp hx with h1 | h1
    · exact h k hk h1
    · rw [of_decide_eq_true h1]; exact hq)
  have h2 : 1 ≤ ctB (fun k => decide (k = i)) n := by
    rcases Nat.eq_zero_or_pos (ctB (fun k => decide (k = i)) n) with h3 | h3
    · have := ctB_zero.mp h3 i hi; simp at this
    · exact h3
  omega
