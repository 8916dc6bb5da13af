/-! plain facts: neighbours and connected sets -/
set_option maxRecDepth 100000
theorem bnd {α β : Type} {x : Option α} {a : α} {f : α → Option β} (h : x = some a) : x.bind f = f a := by rw [h]; rfl
/-- cells that touch, on a board w wide -/
def adj (w i j : Nat) : Prop := (j = i + 1 ∧ j % w ≠ 0) ∨ (i = j + 1 ∧ i % w ≠ 0) ∨ j = i + w ∨ i = j + w
theorem adj_sym {w i j : Nat} (h : adj w i j) : adj w j i := by
  rcases h with h | h | h | h
  · exact Or.inr (Or.inl h)
  · exact Or.inl h
  · exact Or.inr (Or.inr (Or.inr h))
  · exact Or.inr (Or.inr (Or.inl h))
def nb (w : Nat) (f : Int64) (i : Nat) : Bool := (lb f (i + 1) && decide ((i + 1) % w ≠ 0)) || (decide (1 ≤ i ∧ i % w ≠ 0) && lb f (i - 1)) || lb f (i + w) || (decide (w ≤ i) && lb f (i - w))
theorem nb_iff {w : Nat} {f : Int64} {i : Nat} : nb w f i = true ↔ ∃ j, adj w i j ∧ lb f j = true := by
  unfold nb
  simp only [Bool.or_eq_true, Bool.and_eq_true, decide_eq_true_eq]
  constructor
  · rintro (((⟨h1, h2⟩ | ⟨⟨h1, h2⟩, h3⟩) | h) | ⟨h1, h2⟩)
    · exact ⟨i + 1, Or.inl ⟨rfl, h2⟩, h1⟩
    · exact ⟨i - 1, Or.inr (Or.inl ⟨by omega, h2⟩), h3⟩
    · exact ⟨i + w, Or.inr (Or.inr (Or.inl rfl)), h⟩
    · exact ⟨i - w, Or.inr (Or.inr (Or.inr (by omega))), h2⟩
  · rintro ⟨j, h | h | h | h, hj⟩
    · obtain ⟨rfl, h2⟩ := h
      exact Or.inl (Or.inl (Or.inl ⟨hj, h2⟩))
    · obtain ⟨rfl, h2⟩ := h
      exact Or.inl (Or.inl (Or.inr ⟨⟨by omega, h2⟩, by simpa using hj⟩))
    · subst h
      exact Or.inl (Or.inr hj)
    · subst h
      exact Or.inr ⟨by omega, by simpa using hj⟩
/-- R is what hangs together with c within a set -/
def CN (w : Nat) (set : Int64) (c : Nat) (R : Int64) : Prop :=
  lb R c = true ∧ (∀ i, lb R i = true → lb set i = true) ∧ (∀ i j, adj w i j → lb R j = true → lb set i = true → lb R i = true) ∧
  ∀ T : Nat → Prop, T c → (∀ i j, adj w i j → T j → lb set i = true → T i) → ∀ i, lb R i = true → T i
theorem lb_lt {x : Int64} {i : Nat} (h : lb x i = true) : i < 64 := by
  rcases Nat.lt_or_ge i 64 with q | q
  · exact q
  · rw [lb_big q] at h; cases h
theorem lb_ext2 {x y : Int64} (h1 : ∀ i, lb x i = true → lb y i = true) (h2 : ∀ i, lb y i = true → lb x i = true) : x = y :=
  lb_ext fun i _ => by
    cases hx : lb x i
    · cases hy : lb y i
      · rfl
      · rw [h2 i hy] at hx; cases hx
    · exact (h1 i hx).symm
theorem CN.uniq {w : Nat} {set : Int64} {c : Nat} {R R' : Int64} (h : CN w set c R) (h' : CN w set c R') : R = R' :=
  lb_ext2 (h.2.2.2 _ h'.1 h'.2.2.1) (h'.2.2.2 _ h.1 h.2.2.1)
/-- seen from another of its cells it is the same -/
theorem CN.same {w : Nat} {set : Int64} {c d : Nat} {R : Int64} (h : CN w set c R) (hd : lb R d = true) : CN w set d R := by
  refine ⟨hd, h.2.1, h.2.2.1, fun T hT hcl => ?_⟩
  by_cases hc : T c
  · exact h.2.2.2 T hc hcl
  · have hp := h.2.2.2 (fun i => lb R i = true ∧ ¬ T i) ⟨h.1, hc⟩ (fun i j ha hj hi => ⟨h.2.2.1 i j ha hj.1 hi, fun hx => hj.2 (hcl j i (adj_sym ha) hx (h.2.1 j hj.1))⟩) d hd
    exact absurd hT hp.2
/-- within a part that is closed in the whole -/
theorem CN.wide {w : Nat} {left set : Int64} {c : Nat} {R : Int64} (h : CN w left c R) (hs : ∀ i, lb left i = true → lb set i = true) (hcl : ∀ i j, adj w i j → lb left j = true → lb set i = true → lb left i = true) : CN w set c R :=
  ⟨h.1, fun i hi => hs i (h.2.1 i hi), fun i j ha hj hi => h.2.2.1 i j ha hj (hcl i j ha (h.2.1 j hj) hi), fun T hT hT2 => h.2.2.2 T hT (fun i j ha hj hi => hT2 i j ha hj (hs i hi))⟩
theorem conn_gen {w : Nat} {set : Int64} {c : Nat} {st : Int64 → Int64} (hst : ∀ f, (∀ i, lb f i = true → lb set i = true) → ∀ i, lb (st f) i = (lb set i && (lb f i || nb w f i)))
    {g : Nat → Int64 → Int64 → Option Int64} (hg : ∀ n a b, g (n + 1) a b = if lg_cmp b a = 0 then some a else g n b (st b)) :
    ∀ (m n : Nat) (f : Int64), 64 - ctB (lb f) 64 ≤ m → m < n → (∀ i, lb f i = true → lb set i = true) → lb f c = true →
      (∀ T : Nat → Prop, T c → (∀ i j, adj w i j → T j → lb set i = true → T i) → ∀ i, lb f i = true → T i) → ∃ R, g n f (st f) = some R ∧ CN w set c R := by
  intro m
  induction m with
  | zero =>
    intro n f hm hn hs hc hmin
    obtain ⟨n, rfl⟩ : ∃ n', n = n' + 1 := ⟨n - 1, by omega⟩
    have hall : ∀ i, i < 64 → lb f i = true := by
      intro i hi
      cases hx : lb f i
      · exfalso
        have h1 := ctB_lt (p := lb f) (q := fun _ => true) (n := 64) (i := i) (fun _ _ _ => rfl) hi hx rfl
        have h2 := ctB_le (fun _ => true) 64
        omega
      · rfl
    have e : st f = f := lb_ext2 (fun i hi => hall i (lb_lt hi)) (fun i hi => by rw [hst f hs i, hs i hi, hi]; rfl)
    rw [hg, e, if_pos (lgc.mpr rfl)]
    exact ⟨f, rfl, hc, hs, fun i j ha hj hi => hall i (lb_lt hi), hmin⟩
  | succ m ih =>
    intro n f hm hn hs hc hmin
    obtain ⟨n, rfl⟩ : ∃ n', n = n' + 1 := ⟨n - 1, by omega⟩
    rw [hg]
    by_cases e : st f = f
    · rw [if_pos (lgc.mpr e)]
      refine ⟨f, rfl, hc, hs, fun i j ha hj hi => ?_, hmin⟩
      rw [← e, hst f hs i, hi, nb_iff.mpr ⟨j, ha, hj⟩, Bool.or_true]
      rfl
    · rw [if_neg (fun h => e (lgc.mp h))]
      have hup : ∀ i, lb f i = true → lb (st f) i = true := fun i hi => by rw [hst f hs i, hs i hi, hi]; rfl
      have hs' : ∀ i, lb (st f) i = true → lb set i = true := fun i hi => by
        rw [hst f hs i] at hi
        exact ((Bool.and_eq_true _ _).mp hi).1
      obtain ⟨i, hi, h1, h2⟩ : ∃ i, i < 64 ∧ lb f i = false ∧ lb (st f) i = true := by
        refine Classical.byContradiction fun hx => e (lb_ext2 (fun i hi => ?_) hup)
        cases hf : lb f i
        · exact absurd ⟨i, lb_lt hi, hf, hi⟩ hx
        · rfl
      have hlt := ctB_lt (p := lb f) (q := lb (st f)) (n := 64) (fun k _ hk => hup k hk) hi h1 h2
      refine ih n (st f) (by omega) (by omega) hs' (hup c hc) (fun T hT hcl i hi => ?_)
      have h3 := hi
      rw [hst f hs i] at h3
      obtain ⟨h4, h5⟩ := (Bool.and_eq_true _ _).mp h3
      rcases (Bool.or_eq_true _ _).mp h5 with h6 | h6
      · exact hmin T hT hcl i h6
      · obtain ⟨j, ha, hj⟩ := nb_iff.mp h6
        exact hcl i j ha (hmin T hT hcl j hj) h4
theorem conn_start {w : Nat} {set : Int64} {c N : Nat} (hN : 66 ≤ N) (hc : lb set c = true) {st : Int64 → Int64} (hst : ∀ f, (∀ i, lb f i = true → lb set i = true) → ∀ i, lb (st f) i = (lb set i && (lb f i || nb w f i)))
    {g : Nat → Int64 → Int64 → Option Int64} (hg : ∀ n a b, g (n + 1) a b = if lg_cmp b a = 0 then some a else g n b (st b)) : ∃ R, g N (bitL c) (st (bitL c)) = some R ∧ CN w set c R := by
  have hb : ∀ i, lb (bitL c) i = true → i = c := fun i hi => by
    rw [lb_bit (lb_lt hc)] at hi
    exact of_decide_eq_true hi
  refine conn_gen hst hg 64 N (bitL c) (by omega) (by omega) (fun i hi => by rw [hb i hi]; exact hc) (by rw [lb_bit (lb_lt hc)]; simp) (fun T hT _ i hi => by rw [hb i hi]; exact hT)
/-! shapes -/
def okD (w h : Nat) : Prop := 4 ≤ w ∧ w ≤ 7 ∧ 4 ≤ h ∧ h ≤ 7
theorem okD.n {w h : Nat} (o : okD w h) : 16 ≤ w * h ∧ w * h ≤ 49 := ⟨Nat.mul_le_mul o.1 o.2.2.1, Nat.mul_le_mul o.2.1 o.2.2.2⟩
def okS (w h : Nat) (zw zh : Int32) (zA zL zR zE : Int64) : Prop :=
  zw = nI w ∧ zh = nI h ∧ (∀ i, i < 64 → lb zA i = decide (i < w * h)) ∧ (∀ i, i < 64 → lb zL i = decide (i < w * h ∧ i % w = 0)) ∧ (∀ i, i < 64 → lb zR i = decide (i < w * h ∧ i % w = w - 1)) ∧
  ∀ i, i < 64 → lb zE i = decide (i < w * h ∧ (i % w = 0 ∨ i % w = w - 1 ∨ i < w ∨ w * h ≤ i + w))
theorem mod_pred {w i : Nat} (hw : 0 < w) (hi : 1 ≤ i) : (i - 1) % w = w - 1 ↔ i % w = 0 := by
  constructor
  · intro h
    have e : i = (i - 1) / w * w + w := by
      have := Nat.div_add_mod (i - 1) w
      rw [Nat.mul_comm] at this
      omega
    rw [e, Nat.add_mod_right, Nat.mul_mod_left]
  · intro h
    obtain ⟨k, hk⟩ := Nat.dvd_of_mod_eq_zero h
    cases k with
    | zero => omega
    | succ k =>
      rw [Nat.mul_succ] at hk
      have e : i - 1 = (w - 1) + w * k := by omega
      rw [e, Nat.add_mul_mod_self_left, Nat.mod_eq_of_lt (by omega)]
theorem step4 {w h : Nat} {zw zh : Int32} {zA zL zR zE : Int64} (o : okD w h) (hS : okS w h zw zh zA zL zR zE) {set : Int64} (hset : ∀ i, lb set i = true → i < w * h) (f : Int64) (hf : ∀ i, lb f i = true → lb set i = true) (i : Nat) :
    lb ((f ||| V_X4_around zw zh zA zL zR zE f) &&& set) i = (lb set i && (lb f i || nb w f i)) := by
  obtain ⟨rfl, rfl, hA, hL, hR, -⟩ := hS
  have hn := o.n
  obtain ⟨o1, o2, o3, o4⟩ := o
  rw [lb_and, lb_or, Bool.and_comm]
  cases hs : lb set i
  · rfl
  · have hi : i < w * h := hset i hs
    rw [Bool.true_and, Bool.true_and]
    congr 1
    unfold V_X4_around nb
    rw [show (1 : Int32) = nI 1 from rfl]
    rw [lb_or, lb_or, lb_or, lb_ushr _ (show 1 < 64 by decide), lb_shl _ (show 1 < 64 by decide) (show i < 64 by omega), lb_ushr f (show w < 64 by omega), lb_and (jlshl f (nI w)) zA, lb_shl f (show w < 64 by omega) (show i < 64 by omega), lb_andnot f zL, lb_andnot f zR, hA i (by omega)]
    rw [show 1 + i = i + 1 from Nat.add_comm 1 i, show w + i = i + w from Nat.add_comm w i]
    congr 1
    · congr 1
      congr 1
      · cases hx : lb f (i + 1)
        · rfl
        · have h1 := hset _ (hf _ hx)
          rw [hL (i + 1) (by omega)]
          simp [h1]
      · by_cases h1 : 1 ≤ i
        · cases hx : lb f (i - 1)
          · simp
          · have h2 := hset _ (hf _ hx)
            rw [hR (i - 1) (by omega)]
            have e := mod_pred (w := w) (i := i) (by omega) h1
            by_cases h3 : i % w = 0
            · simp [h1, h2, h3, e.mpr h3]
            · have h4 : ¬ (i - 1) % w = w - 1 := fun q => h3 (e.mp q)
              simp [h1, h2, h3, h4]
        · simp [h1]
    · simp [hi]
theorem F_conn4 {w h : Nat} {zw zh : Int32} {zA zL zR zE : Int64} (o : okD w h) (hS : okS w h zw zh zA zL zR zE) {N : Nat} (hN : 66 ≤ N) {set : Int64} (hset : ∀ i, lb set i = true → i < w * h) {c : Nat} (hc : lb set c = true) :
    ∃ R, F_X4_connected N zw zh zA zL zR zE (nI c) set = some R ∧ CN w set c R := by
  unfold F_X4_connected
  exact conn_start (st := fun f => (f ||| V_X4_around zw zh zA zL zR zE f) &&& set) (g := fun n a b => lp_X4_connected_19 N zw zh zA zL zR zE (nI c) set n a b) hN hc (fun f hf i => step4 o hS hset f hf i) (fun n a b => lp_X4_connected_19.eq_2 ..)
