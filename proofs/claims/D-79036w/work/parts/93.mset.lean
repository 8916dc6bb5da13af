/-! plain facts: the reference's sets, the shape of a board -/
set_option maxRecDepth 100000
def colI (w k : Nat) : Nat → Int64
  | 0 => 0
  | r + 1 => colI w k r ||| bitL (r * w + k)
theorem colI_lb {w k : Nat} (hk : k < w) : ∀ r, r * w ≤ 64 → ∀ i, lb (colI w k r) i = decide (i < r * w ∧ i % w = k)
  | 0, _, i => by
    show lb 0 i = _
    rw [lb_0]
    simp
  | r + 1, hr, i => by
    rw [Nat.succ_mul] at hr
    show lb (colI w k r ||| bitL (r * w + k)) i = _
    rw [lb_or, colI_lb hk r (by omega), lb_bit (by omega), Nat.succ_mul]
    apply Bool.eq_iff_iff.mpr
    simp only [Bool.or_eq_true, decide_eq_true_eq]
    constructor
    · rintro (⟨h1, h2⟩ | h)
      · exact ⟨by omega, h2⟩
      · subst h
        refine ⟨by omega, ?_⟩
        rw [Nat.add_comm, Nat.add_mul_mod_self_right, Nat.mod_eq_of_lt hk]
    · rintro ⟨h1, h2⟩
      by_cases h3 : i < r * w
      · exact Or.inl ⟨h3, h2⟩
      · obtain ⟨t, rfl⟩ : ∃ t, i = t + r * w := ⟨i - r * w, by omega⟩
        rw [Nat.add_mul_mod_self_right, Nat.mod_eq_of_lt (by omega)] at h2
        exact Or.inr (by omega)
theorem nI_s1 (k : Nat) : (nI k + 1 : Int32) = nI (k + 1) := nq_add k 1
theorem nI_p1 {k : Nat} (h : 1 ≤ k) : (nI k - 1 : Int32) = nI (k - 1) := nq_sub (b := 1) h
section M6
variable {w h : Nat} {fi : Nat → Int32} {fa : Nat → Nat → Int32}
theorem F_cells6 (hw : fi 1 = nI w) (hh : fi 2 = nI h) (N : Nat) : F_X6_cells N fi fa = some (nI (w * h)) := by
  unfold F_X6_cells
  rw [hw, hh, nq_mul]
theorem F_all6 (hw : fi 1 = nI w) (hh : fi 2 = nI h) (N : Nat) : F_X6_all N fi fa = some (jlshl 1 (nI (w * h)) - 1) := by
  unfold F_X6_all
  rw [bnd (F_cells6 hw hh N)]
theorem lp_col6 (o : okD w h) (hw : fi 1 = nI w) (hh : fi 2 = nI h) (N : Nat) {k : Nat} (hk : k < w) : ∀ (r q n : Nat), q + r = h → r < n → lp_X6_column_5 N fi fa (nI k) n (colI w k q) (nI q) = some (colI w k h) := by
  obtain ⟨o1, o2, o3, o4⟩ := o
  intro r
  induction r with
  | zero =>
    intro q n hq hn
    obtain ⟨n, rfl⟩ : ∃ n', n = n' + 1 := ⟨n - 1, by omega⟩
    have e : q = h := by omega
    subst e
    rw [lp_X6_column_5.eq_2, hh, if_pos ((nq_le (by omega) (by omega)).mpr (Nat.le_refl _))]
  | succ r ih =>
    intro q n hq hn
    obtain ⟨n, rfl⟩ : ∃ n', n = n' + 1 := ⟨n - 1, by omega⟩
    rw [lp_X6_column_5.eq_2, hh, if_neg (fun z => by have := (nq_le (by omega) (by omega)).mp z; omega), hw, nq_mul, nq_add, nI_s1]
    exact ih (q + 1) n (by omega) (by omega)
theorem F_col6 (o : okD w h) (hw : fi 1 = nI w) (hh : fi 2 = nI h) {N : Nat} (hN : 10 ≤ N) {k : Nat} (hk : k < w) : F_X6_column N fi fa (nI k) = some (colI w k h) := by
  unfold F_X6_column
  exact lp_col6 o hw hh N hk h 0 N (by omega) (by have := o.2.2.2; omega)
def GR (w h : Nat) (x : Int64) : Int64 := ((((x ||| (jlushr (x &&& (colI w 0 h ^^^ (-1))) 1)) ||| (jlshl (x &&& (colI w (w - 1) h ^^^ (-1))) 1)) ||| (jlushr x (nI w))) ||| (jlshl x (nI w))) &&& (jlshl 1 (nI (w * h)) - 1)
theorem F_grown6 (o : okD w h) (hw : fi 1 = nI w) (hh : fi 2 = nI h) {N : Nat} (hN : 10 ≤ N) (x : Int64) : F_X6_grown N fi fa x = some (GR w h x) := by
  have h1 := F_col6 (fa := fa) o hw hh hN (k := 0) (by have := o.1; omega)
  have h2 := F_col6 (fa := fa) o hw hh hN (k := w - 1) (by have := o.1; omega)
  unfold F_X6_grown
  rw [bnd (show F_X6_column N fi fa 0 = _ from h1), hw, nI_p1 (by have := o.1; omega), bnd h2, bnd (F_all6 hw hh N)]
  rfl
theorem step6 (o : okD w h) {set : Int64} (hset : ∀ i, lb set i = true → i < w * h) (f : Int64) (hf : ∀ i, lb f i = true → lb set i = true) (i : Nat) : lb (GR w h f &&& set) i = (lb set i && (lb f i || nb w f i)) := by
  have hn := o.n
  obtain ⟨o1, o2, o3, o4⟩ := o
  have hwh : h * w = w * h := Nat.mul_comm h w
  rw [lb_and, Bool.and_comm]
  cases hs : lb set i
  · rfl
  · have hi : i < w * h := hset i hs
    rw [Bool.true_and, Bool.true_and]
    unfold GR nb
    rw [show (1 : Int32) = nI 1 from rfl]
    rw [lb_and, lb_mask _ (by omega) i (by omega), lb_or, lb_or, lb_or, lb_or, lb_ushr _ (show 1 < 64 by decide), lb_shl _ (show 1 < 64 by decide) (show i < 64 by omega), lb_ushr f (show w < 64 by omega), lb_shl f (show w < 64 by omega) (show i < 64 by omega), lb_andnot f, lb_andnot f]
    rw [show 1 + i = i + 1 from Nat.add_comm 1 i, show w + i = i + w from Nat.add_comm w i, decide_eq_true hi, Bool.and_true]
    rw [Bool.or_assoc, Bool.or_assoc, Bool.or_assoc]
    congr 1
    rw [Bool.or_assoc, Bool.or_assoc]
    congr 1
    · cases hx : lb f (i + 1)
      · rfl
      · have h1 := hset _ (hf _ hx)
        rw [colI_lb (by omega) h (by omega)]
        simp [hwh, h1]
    · congr 1
      by_cases h1 : 1 ≤ i
      · cases hx : lb f (i - 1)
        · simp
        · have h2 := hset _ (hf _ hx)
          rw [colI_lb (by omega) h (by omega)]
          have e := mod_pred (w := w) (i := i) (by omega) h1
          by_cases h3 : i % w = 0
          · simp [hwh, h1, h2, h3, e.mpr h3]
          · have h4 : ¬ (i - 1) % w = w - 1 := fun q => h3 (e.mp q)
            simp [hwh, h1, h2, h3, h4]
      · simp [h1]
theorem F_conn6 (o : okD w h) (hw : fi 1 = nI w) (hh : fi 2 = nI h) {N : Nat} (hN : 66 ≤ N) {set : Int64} (hset : ∀ i, lb set i = true → i < w * h) {c : Nat} (hc : lb set c = true) :
    ∃ R, F_X6_connected N fi fa set (nI c) = some R ∧ CN w set c R := by
  unfold F_X6_connected
  rw [bnd (F_grown6 o hw hh (by omega) _)]
  exact conn_start (st := fun f => GR w h f &&& set) (g := fun n a b => lp_X6_connected_15 N fi fa set (nI c) n a b) hN hc (fun f hf i => step6 o hset f hf i) (fun n a b => by
    show lp_X6_connected_15 N fi fa set (nI c) (n + 1) a b = _
    rw [lp_X6_connected_15.eq_2, bnd (F_grown6 o hw hh (by omega) _)])
def edgeP (w h i : Nat) : Prop := i < w * h ∧ (i % w = 0 ∨ i % w = w - 1 ∨ i < w ∨ w * h ≤ i + w)
theorem F_edge6 (o : okD w h) (hw : fi 1 = nI w) (hh : fi 2 = nI h) {N : Nat} (hN : 10 ≤ N) : ∃ E, F_X6_edge N fi fa = some E ∧ ∀ i, i < 64 → lb E i = decide (i < w * h ∧ (i % w = 0 ∨ i % w = w - 1 ∨ i < w ∨ w * h ≤ i + w)) := by
  have hn := o.n
  have h1 := F_col6 (fa := fa) o hw hh hN (k := 0) (by have := o.1; omega)
  have h2 := F_col6 (fa := fa) o hw hh hN (k := w - 1) (by have := o.1; omega)
  unfold F_X6_edge
  rw [bnd (show F_X6_column N fi fa 0 = _ from h1), hw, nI_p1 (by have := o.1; omega), bnd h2, hh, nI_p1 (by have := o.2.2.1; omega), nq_mul]
  refine ⟨_, rfl, fun i hi => ?_⟩
  obtain ⟨o1, o2, o3, o4⟩ := o
  have hwh : h * w = w * h := Nat.mul_comm h w
  have e3 : (h - 1) * w + w = w * h := by
    have : (h - 1 + 1) * w = h * w := by rw [Nat.sub_add_cancel (by omega)]
    rw [Nat.succ_mul] at this
    omega
  rw [lb_or, lb_or, lb_or, colI_lb (by omega) h (by omega), colI_lb (by omega) h (by omega), lb_mask w (by omega) i hi, lb_shl _ (by omega) hi, lb_mask w (by omega) (i - (h - 1) * w) (by omega), hwh]
  apply Bool.eq_iff_iff.mpr
  simp only [Bool.or_eq_true, Bool.and_eq_true, decide_eq_true_eq]
  constructor
  · rintro (((⟨a, b⟩ | ⟨a, b⟩) | a) | ⟨a, b⟩)
    · exact ⟨a, Or.inl b⟩
    · exact ⟨a, Or.inr (Or.inl b)⟩
    · exact ⟨by omega, Or.inr (Or.inr (Or.inl a))⟩
    · exact ⟨by omega, Or.inr (Or.inr (Or.inr (by omega)))⟩
  · rintro ⟨a, b | b | b | b⟩
    · exact Or.inl (Or.inl (Or.inl ⟨a, b⟩))
    · exact Or.inl (Or.inl (Or.inr ⟨a, b⟩))
    · exact Or.inl (Or.inr b)
    · exact Or.inr ⟨by omega, by omega⟩
/-- the cells with a state -/
def mb (v : Nat → Int32) (s : Int32) : Nat → Int64
  | 0 => 0
  | k + 1 => mb v s k ||| (if v k = s then bitL k else 0)
theorem mb_lb (v : Nat → Int32) (s : Int32) : ∀ n, n ≤ 64 → ∀ i, lb (mb v s n) i = decide (i < n ∧ v i = s)
  | 0, _, i => by
    show lb 0 i = _
    rw [lb_0]
    simp
  | n + 1, hn, i => by
    show lb (mb v s n ||| (if v n = s then bitL n else 0)) i = _
    rw [lb_or, mb_lb v s n (by omega)]
    by_cases h : v n = s
    · rw [if_pos h, lb_bit (by omega)]
      apply Bool.eq_iff_iff.mpr
      simp only [Bool.or_eq_true, decide_eq_true_eq]
      constructor
      · rintro (⟨a, b⟩ | a)
        · exact ⟨by omega, b⟩
        · subst a; exact ⟨by omega, h⟩
      · rintro ⟨a, b⟩
        by_cases e : i = n
        · exact Or.inr e
        · exact Or.inl ⟨by omega, b⟩
    · rw [if_neg h, lb_0, Bool.or_false]
      apply Bool.eq_iff_iff.mpr
      simp only [decide_eq_true_eq]
      constructor
      · rintro ⟨a, b⟩; exact ⟨by omega, b⟩
      · rintro ⟨a, b⟩
        refine ⟨?_, b⟩
        have : i ≠ n := fun e => h (e ▸ b)
        omega
def cntS (v : Nat → Int32) (s : Int32) (n : Nat) : Nat := ctB (fun c => decide (v c = s)) n
theorem ct_mb (v : Nat → Int32) (s : Int32) {n : Nat} (hn : n ≤ 49) {m : Nat} (hm : n ≤ m) : ctB (lb (mb v s n)) m = cntS v s n := by
  rw [ctB_out (m := n) hm (fun k h1 _ => by rw [mb_lb v s n (by omega)]; simp; omega)]
  exact ctB_cong (fun k hk => by rw [mb_lb v s n (by omega)]; simp [hk])
theorem lp_bits6 (hw : fi 1 = nI w) (hh : fi 2 = nI h) (hn : w * h ≤ 49) (N : Nat) (s : Int32) : ∀ (r q n : Nat), q + r = w * h → r < n → lp_X6_bits_5 N fi fa s n (mb (fa 5) s q) (nI q) = some (mb (fa 5) s (w * h)) := by
  intro r
  induction r with
  | zero =>
    intro q n hq hn2
    obtain ⟨n, rfl⟩ : ∃ n', n = n' + 1 := ⟨n - 1, by omega⟩
    have e : q = w * h := by omega
    rw [lp_X6_bits_5.eq_2, bnd (F_cells6 hw hh N), e, if_pos ((nq_le (by omega) (by omega)).mpr (Nat.le_refl _))]
  | succ r ih =>
    intro q n hq hn2
    obtain ⟨n, rfl⟩ : ∃ n', n = n' + 1 := ⟨n - 1, by omega⟩
    rw [lp_X6_bits_5.eq_2, bnd (F_cells6 hw hh N), if_neg (fun z => by have := (nq_le (by omega) (by omega)).mp z; omega), if_pos (inb_nI (by omega) (by decide)), ix_nI (by omega), nI_s1]
    have e : mb (fa 5) s (q + 1) = mb (fa 5) s q ||| (if fa 5 q = s then bitL q else 0) := rfl
    by_cases hv : fa 5 q = s
    · rw [if_pos hv] at e ⊢
      have := ih (q + 1) n (by omega) (by omega)
      rw [e] at this
      exact this
    · rw [if_neg hv] at e ⊢
      have := ih (q + 1) n (by omega) (by omega)
      rw [e] at this
      exact this
theorem F_bits6 (hw : fi 1 = nI w) (hh : fi 2 = nI h) (hn : w * h ≤ 49) {N : Nat} (hN : 60 ≤ N) (s : Int32) : F_X6_bits N fi fa s = some (mb (fa 5) s (w * h)) := by
  unfold F_X6_bits
  exact lp_bits6 hw hh hn N s (w * h) 0 N (by omega) (by omega)
theorem lp_many6 (hw : fi 1 = nI w) (hh : fi 2 = nI h) (hn : w * h ≤ 49) (N : Nat) (s : Int32) : ∀ (r q n : Nat), q + r = w * h → r < n → lp_X6_many_4 N fi fa s n (nI (cntS (fa 5) s q)) (nI q) = some (nI (cntS (fa 5) s (w * h))) := by
  intro r
  induction r with
  | zero =>
    intro q n hq hn2
    obtain ⟨n, rfl⟩ : ∃ n', n = n' + 1 := ⟨n - 1, by omega⟩
    have e : q = w * h := by omega
    rw [lp_X6_many_4.eq_2, bnd (F_cells6 hw hh N), e, if_pos ((nq_le (by omega) (by omega)).mpr (Nat.le_refl _))]
  | succ r ih =>
    intro q n hq hn2
    obtain ⟨n, rfl⟩ : ∃ n', n = n' + 1 := ⟨n - 1, by omega⟩
    rw [lp_X6_many_4.eq_2, bnd (F_cells6 hw hh N), if_neg (fun z => by have := (nq_le (by omega) (by omega)).mp z; omega), if_pos (inb_nI (by omega) (by decide)), ix_nI (by omega), nI_s1]
    have e : cntS (fa 5) s (q + 1) = cntS (fa 5) s q + (if decide (fa 5 q = s) then 1 else 0) := rfl
    have := ih (q + 1) n (by omega) (by omega)
    by_cases hv : fa 5 q = s
    · rw [if_pos hv, nI_s1]
      rw [e, decide_eq_true hv] at this
      exact this
    · rw [if_neg hv, show (nI (cntS (fa 5) s q) + 0 : Int32) = nI (cntS (fa 5) s q) from nq_add _ 0, nI_s1]
      rw [e, decide_eq_false hv] at this
      exact this
theorem F_many6 (hw : fi 1 = nI w) (hh : fi 2 = nI h) (hn : w * h ≤ 49) {N : Nat} (hN : 60 ≤ N) (s : Int32) : F_X6_many N fi fa s = some (nI (cntS (fa 5) s (w * h))) := by
  unfold F_X6_many
  exact lp_many6 hw hh hn N s (w * h) 0 N (by omega) (by omega)
/-- what is outside of a player's own and of blocks -/
def OU (v : Nat → Int32) (n : Nat) (a b : Int32) : Int64 := (((jlshl 1 (nI n) - 1) &&& (mb v a n ^^^ (-1))) &&& (mb v b n ^^^ (-1))) &&& (mb v 5 n ^^^ (-1))
theorem OU_lb (v : Nat → Int32) {n : Nat} (hn : n ≤ 49) (a b : Int32) (i : Nat) : lb (OU v n a b) i = decide (i < n ∧ v i ≠ a ∧ v i ≠ b ∧ v i ≠ 5) := by
  unfold OU
  rw [lb_andnot, lb_andnot, lb_andnot, mb_lb v _ n (by omega), mb_lb v _ n (by omega), mb_lb v _ n (by omega)]
  by_cases hi : i < 64
  · rw [lb_mask n (by omega) i hi]
    by_cases h1 : i < n
    · simp [h1, Bool.and_assoc]
    · simp [h1]
  · rw [lb_big (by omega)]
    have : ¬ i < n := by omega
    simp [this]
theorem F_out6 (hw : fi 1 = nI w) (hh : fi 2 = nI h) (hn : w * h ≤ 49) {N : Nat} (hN : 60 ≤ N) (p : Int32) : F_X6_outside N fi fa p = some (OU (fa 5) (w * h) (1 + p) (3 + p)) := by
  unfold F_X6_outside
  rw [bnd (F_all6 hw hh N), bnd (F_bits6 hw hh hn hN _), bnd (F_bits6 hw hh hn hN _), bnd (F_bits6 hw hh hn hN _)]
  rfl
end M6
theorem ar1 : ∀ w, w < 8 → ∀ h, h < 8 → 4 ≤ w → 4 ≤ h → ∀ i, i < 64 → (decide (w - 1 ≤ i) && decide (i - (w - 1) < h * w ∧ (i - (w - 1)) % w = 0)) = decide (i < w * h ∧ i % w = w - 1) := by decide +kernel
theorem lp_init4 {w h : Nat} (o : okD w h) (N : Nat) (k0 k1 : Int32) (k2 : Int64) : ∀ (r q n : Nat), q + r = h → r < n → lp_X4_init_31 N (nI w) (nI h) n k0 k1 k2 (colI w 0 q) (nI q) = some (k0, k1, k2, colI w 0 h, jlshl (colI w 0 h) (nI w - 1), (((colI w 0 h ||| jlshl (colI w 0 h) (nI w - 1)) ||| (jlshl 1 (nI w) - 1)) ||| jlshl (jlshl 1 (nI w) - 1) (nI w * (nI h - 1)))) := by
  obtain ⟨o1, o2, o3, o4⟩ := o
  intro r
  induction r with
  | zero =>
    intro q n hq hn
    obtain ⟨n, rfl⟩ : ∃ n', n = n' + 1 := ⟨n - 1, by omega⟩
    have e : q = h := by omega
    subst e
    rw [lp_X4_init_31.eq_2, if_pos ((nq_le (by omega) (by omega)).mpr (Nat.le_refl _))]
  | succ r ih =>
    intro q n hq hn
    obtain ⟨n, rfl⟩ : ∃ n', n = n' + 1 := ⟨n - 1, by omega⟩
    rw [lp_X4_init_31.eq_2, if_neg (fun z => by have := (nq_le (by omega) (by omega)).mp z; omega), nq_mul, nI_s1]
    have e : colI w 0 (q + 1) = colI w 0 q ||| jlshl 1 (nI (w * q)) := by
      show colI w 0 q ||| bitL (q * w + 0) = _
      rw [Nat.add_zero, Nat.mul_comm]
      rfl
    rw [← e]
    exact ih (q + 1) n (by omega) (by omega)
theorem F_shape {w h : Nat} (o : okD w h) {N : Nat} (hN : 10 ≤ N) : ∃ zA zL zR zE, F_X4_init N (nI w) (nI h) = some (nI w, nI h, zA, zL, zR, zE) ∧ okS w h (nI w) (nI h) zA zL zR zE := by
  have hn := o.n
  have e := lp_init4 o N (nI w) (nI h) (jlshl 1 (nI w * nI h) - 1) h 0 N (by omega) (by have := o.2.2.2; omega)
  refine ⟨_, _, _, _, e, rfl, rfl, fun i hi => ?_, fun i hi => ?_, fun i hi => ?_, fun i hi => ?_⟩
  · rw [nq_mul, lb_mask _ (by omega) i hi]
  · rw [colI_lb (by have := o.1; omega) h (by rw [Nat.mul_comm]; omega), Nat.mul_comm h w]
  · obtain ⟨o1, o2, o3, o4⟩ := o
    rw [nI_p1 (by omega), lb_shl _ (by omega) hi, colI_lb (by omega) h (by rw [Nat.mul_comm]; omega), ar1 w (by omega) h (by omega) o1 o3 i hi]
  · obtain ⟨o1, o2, o3, o4⟩ := o
    have e3 : w * (h - 1) + w = w * h := by
      have : w * (h - 1 + 1) = w * h := by rw [Nat.sub_add_cancel (by omega)]
      rw [Nat.mul_succ] at this
      omega
    rw [nI_p1 (by omega), nI_p1 (by omega), nq_mul, lb_or, lb_or, lb_or, colI_lb (by omega) h (by rw [Nat.mul_comm]; omega), lb_shl _ (by omega) hi, colI_lb (by omega) h (by rw [Nat.mul_comm]; omega), ar1 w (by omega) h (by omega) o1 o3 i hi, lb_mask w (by omega) i hi, lb_shl _ (by omega) hi, lb_mask w (by omega) _ (by omega), Nat.mul_comm h w]
    apply Bool.eq_iff_iff.mpr
    simp only [Bool.or_eq_true, Bool.and_eq_true, decide_eq_true_eq]
    constructor
    · rintro (((⟨a, b⟩ | ⟨a, b⟩) | a) | ⟨a, b⟩)
      · exact ⟨a, Or.inl b⟩
      · exact ⟨a, Or.inr (Or.inl b)⟩
      · exact ⟨by omega, Or.inr (Or.inr (Or.inl a))⟩
      · exact ⟨by omega, Or.inr (Or.inr (Or.inr (by omega)))⟩
    · rintro ⟨a, b | b | b | b⟩
      · exact Or.inl (Or.inl (Or.inl ⟨a, b⟩))
      · exact Or.inl (Or.inl (Or.inr ⟨a, b⟩))
      · exact Or.inl (Or.inr b)
      · exact Or.inr ⟨by omega, by omega⟩
