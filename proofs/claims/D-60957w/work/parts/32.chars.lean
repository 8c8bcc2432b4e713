/-! pure: small numbers, chars, runs -/
def ii (n : Nat) : Int32 := Int32.ofNat n
theorem ii_int {n : Nat} (h : n < 2147483648) : (ii n).toInt = n := Int32.toInt_ofNat_of_lt h
theorem ii_nat {n : Nat} (h : n < 2147483648) : (ii n).toNatClampNeg = n := Int32.toNatClampNeg_ofNat_of_lt h
theorem ii_add {a b : Nat} : ii a + ii b = ii (a + b) := (Int32.ofNat_add a b).symm
theorem ii_mul {a b : Nat} : ii a * ii b = ii (a * b) := (Int32.ofNat_mul a b).symm
theorem ii_sub {a b : Nat} (h : b ≤ a) : ii a - ii b = ii (a - b) := by
  have e : ii a = ii (a - b) + ii b := by rw [ii_add, Nat.sub_add_cancel h]
  rw [e, Int32.add_sub_cancel]
theorem ii_lt {a b : Nat} (ha : a < 2147483648) (hb : b < 2147483648) : ii a < ii b ↔ a < b := by
  rw [Int32.lt_iff_toInt_lt, ii_int ha, ii_int hb]
  omega
theorem ii_le {a b : Nat} (ha : a < 2147483648) (hb : b < 2147483648) : ii a ≤ ii b ↔ a ≤ b := by
  rw [Int32.le_iff_toInt_le, ii_int ha, ii_int hb]
  omega
theorem ii_eq {a b : Nat} (ha : a < 2147483648) (hb : b < 2147483648) : ii a = ii b ↔ a = b := by
  constructor
  · intro h
    have := congrArg Int32.toInt h
    rw [ii_int ha, ii_int hb] at this
    omega
  · intro h
    rw [h]
theorem ii_ge0 {n : Nat} (h : n < 2147483648) : (0 : Int32) ≤ ii n := by
  rw [Int32.le_iff_toInt_le, ii_int h]
  exact Int.natCast_nonneg n
/-- an int that is not below 0 -/
theorem ii_of {x : Int32} (h : 0 ≤ x) : x = ii x.toNatClampNeg := by
  apply Int32.toInt_inj.mp
  have h1 : 0 ≤ x.toInt := by
    have := Int32.le_iff_toInt_le.mp h
    simpa using this
  have h2 : x.toInt < 2147483648 := Int32.toInt_lt x
  have h3 : x.toNatClampNeg = x.toInt.toNat := rfl
  rw [ii_int (by omega), h3]
  omega
theorem ii_bit {b : Bool} : (if b = true then (1 : Int32) else 0) = 0 ∨ (if b = true then (1 : Int32) else 0) = 1 := by cases b <;> decide
/-- a run of places -/
def wh (P : Nat → Bool) (N p : Nat) : Nat := if h : p < N then (if P p = true then wh P N (p + 1) else p) else p
termination_by N - p
theorem wh_next {P : Nat → Bool} {N p : Nat} (h : p < N) (hP : P p = true) : wh P N p = wh P N (p + 1) := by
  conv => lhs; rw [wh]
  rw [dif_pos h, if_pos hP]
theorem wh_stop {P : Nat → Bool} {N p : Nat} (hP : P p = false) : wh P N p = p := by
  rw [wh]
  split
  · rw [hP]
    rfl
  · rfl
theorem wh_out {P : Nat → Bool} {N p : Nat} (h : N ≤ p) : wh P N p = p := by
  rw [wh, dif_neg (by omega)]
theorem wh_spec {P : Nat → Bool} {N : Nat} (hN : ∀ i, N ≤ i → P i = false) (p : Nat) : p ≤ wh P N p ∧ (wh P N p ≤ N ∨ wh P N p = p) ∧ P (wh P N p) = false ∧ ∀ i, p ≤ i → i < wh P N p → P i = true := by
  by_cases h : p < N
  · by_cases hP : P p = true
    · obtain ⟨h1, h2, h3, h4⟩ := wh_spec hN (p + 1)
      rw [wh_next h hP]
      refine ⟨by omega, ?_, h3, fun i hi1 hi2 => ?_⟩
      · rcases h2 with h2 | h2
        · exact .inl h2
        · exact .inl (by omega)
      · by_cases e : i = p
        · rw [e, hP]
        · exact h4 i (by omega) hi2
    · have hP2 : P p = false := by simpa using hP
      rw [wh_stop hP2]
      exact ⟨Nat.le_refl _, .inr rfl, hP2, fun i _ _ => by omega⟩
  · rw [wh_out (by omega)]
    exact ⟨Nat.le_refl _, .inr rfl, hN p (by omega), fun i _ _ => by omega⟩
termination_by N - p
theorem wh_uniq {P : Nat → Bool} {N : Nat} (hN : ∀ i, N ≤ i → P i = false) {p q : Nat} (h1 : p ≤ q) (h2 : P q = false) (h3 : ∀ i, p ≤ i → i < q → P i = true) : wh P N p = q := by
  obtain ⟨g1, -, g3, g4⟩ := wh_spec hN p
  rcases Nat.lt_trichotomy (wh P N p) q with h | h | h
  · rw [h3 _ g1 h] at g3
    cases g3
  · exact h
  · rw [g4 q h1 h] at h2
    cases h2
/-- the text's byte at a place; 10 behind its end -/
def ch (T : Nat → Int32) (N i : Nat) : Int32 := if i < N then T i &&& 255 else 10
theorem ch_out {T : Nat → Int32} {N i : Nat} (h : N ≤ i) : ch T N i = 10 := if_neg (by omega)
theorem ch_in {T : Nat → Int32} {N i : Nat} (h : i < N) : ch T N i = T i &&& 255 := if_pos h
theorem and255 (x : Int32) : ∃ n : Nat, n < 256 ∧ x &&& 255 = ii n := by
  refine ⟨(x &&& 255).toBitVec.toNat, ?_, ?_⟩
  · rw [Int32.toBitVec_and, BitVec.toNat_and]
    exact Nat.lt_of_le_of_lt Nat.and_le_right (by decide)
  · apply Int32.toBitVec_inj.mp
    show _ = BitVec.ofNat 32 _
    rw [BitVec.ofNat_toNat, BitVec.setWidth_eq]
theorem ch_nat (T : Nat → Int32) (N i : Nat) : ∃ n : Nat, n < 256 ∧ ch T N i = ii n := by
  by_cases h : i < N
  · rw [ch_in h]
    exact and255 _
  · rw [ch_out (by omega)]
    exact ⟨10, by decide, rfl⟩
def isL (x : Int32) : Bool := decide (97 ≤ x ∧ x ≤ 122) || decide (65 ≤ x ∧ x ≤ 90) || decide (x = 95) || decide (x = 46)
def isD (x : Int32) : Bool := decide (48 ≤ x ∧ x ≤ 57)
def isN (x : Int32) : Bool := isL x || isD x
def isB (x : Int32) : Bool := decide (x = 32) || decide (x = 9)
def bz (b : Bool) : Int32 := if b = true then 1 else 0
theorem bz_01 (b : Bool) : bz b = 0 ∨ bz b = 1 := by cases b <;> decide
theorem bz_t : bz true = 1 := rfl
theorem bz_f : bz false = 0 := rfl
theorem isN_10 : isN 10 = false := by decide
theorem isB_10 : isB 10 = false := by decide
/-- places: blanks behind p, the end of the name at p, the end of the line -/
def sp (c : Nat → Int32) (N p : Nat) : Nat := wh (fun i => isB (c i)) N p
def ne (c : Nat → Int32) (N p : Nat) : Nat := wh (fun i => isN (c i)) N p
def le (c : Nat → Int32) (N p : Nat) : Nat := wh (fun i => decide (c i ≠ 10)) N p
