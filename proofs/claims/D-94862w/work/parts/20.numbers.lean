/-! THE PLAIN LAW, second part: numbers in one form. Every int is nI i or ng i (below 0); tests become tests of numbers (simp, omega). -/
theorem pn_ltN {i j : Nat} (hi : i < 2 ^ 31) (hj : j < 2 ^ 31) : nI i < nI j ↔ i < j := by rw [pn_lt, pn_int hi, pn_int hj]; omega
theorem pn_leN {i j : Nat} (hi : i < 2 ^ 31) (hj : j < 2 ^ 31) : nI i ≤ nI j ↔ i ≤ j := by rw [pn_le, pn_int hi, pn_int hj]; omega
theorem pn_eqN {i j : Nat} (hi : i < 2 ^ 31) (hj : j < 2 ^ 31) : nI i = nI j ↔ i = j := by rw [pn_eq, pn_int hi, pn_int hj]; omega
theorem pn_mul (a b : Nat) : nI a * nI b = nI (a * b) := by
  show Int32.ofNat a * Int32.ofNat b = Int32.ofNat (a * b)
  exact (Int32.ofNat_mul a b).symm
theorem pn_sub {a b : Nat} (h : b ≤ a) : nI a - nI b = nI (a - b) := by
  have : nI (a - b) + nI b = nI a := by rw [pn_add]; congr 1; omega
  rw [← this]
  simp
theorem vp_iff {i N : Nat} (hi : i < 2 ^ 31) (hN : N < 2 ^ 31) : vp_in (nI i) N ↔ i < N := by
  refine ⟨fun h => ?_, fun h => pn_vp h hN⟩
  unfold vp_in at h
  rw [pn_nat hi] at h
  omega
/-- the ints below 0: ng 0 = -1, ng 1 = -2 .. -/
def ng (i : Nat) : Int32 := -nI (i + 1)
theorem ng_int {i : Nat} (h : i < 2 ^ 31) : (ng i).toInt = -((i : Int) + 1) := by
  unfold ng
  rw [Int32.toInt_neg]
  by_cases h2 : i + 1 < 2 ^ 31
  · rw [pn_int h2]
    rw [Int.bmod_eq_of_le (by omega) (by omega)]
    omega
  · have : i = 2 ^ 31 - 1 := by omega
    subst this
    rfl
theorem pn_cases (x : Int32) : (∃ i : Nat, i < 2 ^ 31 ∧ x = nI i) ∨ (∃ i : Nat, i < 2 ^ 31 ∧ x = ng i) := by
  by_cases h : x < 0
  · refine Or.inr ⟨(-x.toInt - 1).toNat, ?_, ?_⟩
    · have := x.le_toInt
      rw [pn_lt] at h
      have h0 : (0 : Int32).toInt = 0 := rfl
      omega
    · have h1 := x.le_toInt
      rw [pn_lt] at h
      have h0 : (0 : Int32).toInt = 0 := rfl
      rw [pn_eq, ng_int (by omega)]
      omega
  · exact Or.inl (pn_of h)
theorem ng_ltN {i j : Nat} (hi : i < 2 ^ 31) (hj : j < 2 ^ 31) : ng i < nI j ↔ True := by rw [pn_lt, ng_int hi, pn_int hj]; simp; omega
theorem ng_leN {i j : Nat} (hi : i < 2 ^ 31) (hj : j < 2 ^ 31) : ng i ≤ nI j ↔ True := by rw [pn_le, ng_int hi, pn_int hj]; simp; omega
theorem ng_eqN {i j : Nat} (hi : i < 2 ^ 31) (hj : j < 2 ^ 31) : ng i = nI j ↔ False := by rw [pn_eq, ng_int hi, pn_int hj]; simp; omega
theorem nN_lt {i j : Nat} (hi : i < 2 ^ 31) (hj : j < 2 ^ 31) : nI j < ng i ↔ False := by rw [pn_lt, ng_int hi, pn_int hj]; simp; omega
theorem nN_le {i j : Nat} (hi : i < 2 ^ 31) (hj : j < 2 ^ 31) : nI j ≤ ng i ↔ False := by rw [pn_le, ng_int hi, pn_int hj]; simp; omega
theorem nN_eq {i j : Nat} (hi : i < 2 ^ 31) (hj : j < 2 ^ 31) : nI j = ng i ↔ False := by rw [pn_eq, ng_int hi, pn_int hj]; simp; omega
theorem ng_lt {i j : Nat} (hi : i < 2 ^ 31) (hj : j < 2 ^ 31) : ng i < ng j ↔ j < i := by rw [pn_lt, ng_int hi, ng_int hj]; omega
theorem ng_eq {i j : Nat} (hi : i < 2 ^ 31) (hj : j < 2 ^ 31) : ng i = ng j ↔ i = j := by rw [pn_eq, ng_int hi, ng_int hj]; omega
theorem ng_le {i j : Nat} (hi : i < 2 ^ 31) (hj : j < 2 ^ 31) : ng i ≤ ng j ↔ j ≤ i := by rw [pn_le, ng_int hi, ng_int hj]; omega
theorem ng_neg (i : Nat) : -nI (i + 1) = ng i := rfl
theorem ng_1 : -nI 1 = ng 0 := rfl
theorem ng_2 : -nI 2 = ng 1 := rfl
theorem ng_3 : -nI 3 = ng 2 := rfl
theorem ng_5 : -nI 5 = ng 4 := rfl
theorem ng_6 : -nI 6 = ng 5 := rfl
theorem ng_nn (i : Nat) : -ng i = nI (i + 1) := by unfold ng; exact Int32.neg_neg
theorem nar_0 : (narrow .boolean (.int (nI 0)) = .int (nI 0)) ↔ True := ⟨fun _ => trivial, fun _ => rfl⟩
theorem nar_1 : (narrow .boolean (.int (nI 1)) = .int (nI 1)) ↔ True := ⟨fun _ => trivial, fun _ => rfl⟩
/-- of longs -/
theorem wide_eq (a b : Int32) : a.toInt64 = b.toInt64 ↔ a = b := by rw [← Int64.toInt_inj, Int32.toInt_toInt64, Int32.toInt_toInt64, Int32.toInt_inj]
theorem lN_wide {n : Nat} (h : n < 2 ^ 31) : (nI n).toInt64 = lN n := by
  rw [← Int64.toInt_inj, Int32.toInt_toInt64, pn_int h]
  exact (Int64.toInt_ofNat_of_lt (by omega)).symm
theorem lN_lit (n : Nat) : (OfNat.ofNat n : Int64) = lN n := rfl
theorem lN_int {n : Nat} (h : n < 2 ^ 63) : (lN n).toInt = (n : Int) := Int64.toInt_ofNat_of_lt h
theorem lq_lt {a b : Nat} (ha : a < 2 ^ 63) (hb : b < 2 ^ 63) : lN a < lN b ↔ a < b := by rw [Int64.lt_iff_toInt_lt, lN_int ha, lN_int hb]; omega
theorem lq_le {a b : Nat} (ha : a < 2 ^ 63) (hb : b < 2 ^ 63) : lN a ≤ lN b ↔ a ≤ b := by rw [Int64.le_iff_toInt_le, lN_int ha, lN_int hb]; omega
theorem lq_eq {a b : Nat} (ha : a < 2 ^ 63) (hb : b < 2 ^ 63) : lN a = lN b ↔ a = b := by rw [← Int64.toInt_inj, lN_int ha, lN_int hb]; omega
def lG (i : Nat) : Int64 := -lN (i + 1)
theorem lG_int {i : Nat} (h : i < 2 ^ 63) : (lG i).toInt = -((i : Int) + 1) := by
  unfold lG
  rw [Int64.toInt_neg]
  by_cases h2 : i + 1 < 2 ^ 63
  · rw [lN_int h2, Int.bmod_eq_of_le (by omega) (by omega)]
    omega
  · have : i = 2 ^ 63 - 1 := by omega
    subst this
    rfl
theorem lG_wide {n : Nat} (h : n < 2 ^ 31) : (ng n).toInt64 = lG n := by
  rw [← Int64.toInt_inj, Int32.toInt_toInt64, ng_int h, lG_int (by omega)]
theorem lG_ltN {i j : Nat} (hi : i < 2 ^ 63) (hj : j < 2 ^ 63) : lG i < lN j ↔ True := by rw [Int64.lt_iff_toInt_lt, lG_int hi, lN_int hj]; simp; omega
theorem lN_ltG {i j : Nat} (hi : i < 2 ^ 63) (hj : j < 2 ^ 63) : lN j < lG i ↔ False := by rw [Int64.lt_iff_toInt_lt, lG_int hi, lN_int hj]; simp; omega
theorem lG_1 : -lN 1 = lG 0 := rfl
theorem lN_sub1 {n : Nat} : lN (n + 1) - lN 1 = lN n := by
  have : lN n + lN 1 = lN (n + 1) := (Int64.ofNat_add n 1).symm
  rw [← this]
  simp
theorem lN_sub0 : lN 0 - lN 1 = lG 0 := rfl
theorem x_of_ok {w : sn_W} {S : sn_S} {i : Nat} (hi : i < 96) {Q : Int32 → Prop} (h : Q (S.1 3 i)) : wpX0_of w (nI i) 0 S Q := by
  simp (disch := omega) only [wpX0_of, wpX0_isCell, wpX0_in, sn_jn, sn_lt, pn_lit, pn_ltN, pn_leN, pn_eqN, vp_iff, pn_nat, ng_1, nar_0, nar_1]
  simp [h, hi]
  omega
