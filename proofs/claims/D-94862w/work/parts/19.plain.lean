/-! THE PLAIN LAW, first part: numbers; reading a state behind its setters; the small methods. -/
set_option maxRecDepth 100000
/-! ===== numbers ===== -/
theorem pn_lt (a b : Int32) : a < b ↔ a.toInt < b.toInt := Int32.lt_iff_toInt_lt
theorem pn_le (a b : Int32) : a ≤ b ↔ a.toInt ≤ b.toInt := Int32.le_iff_toInt_le
theorem pn_eq (a b : Int32) : a = b ↔ a.toInt = b.toInt := Int32.toInt_inj.symm
theorem pn_add (a b : Nat) : nI a + nI b = nI (a + b) := by
  show Int32.ofNat a + Int32.ofNat b = Int32.ofNat (a + b)
  exact (Int32.ofNat_add a b).symm
theorem pn_lit (n : Nat) : (OfNat.ofNat n : Int32) = nI n := rfl
theorem pn_nat {n : Nat} (h : n < 2 ^ 31) : (nI n).toNatClampNeg = n := Int32.toNatClampNeg_ofNat_of_lt h
theorem pn_int {n : Nat} (h : n < 2 ^ 31) : (nI n).toInt = (n : Int) := Int32.toInt_ofNat_of_lt h
/-- an int between 0 and n is nI of a number -/
theorem pn_of {x : Int32} (h : ¬ x < 0) : ∃ n : Nat, n < 2 ^ 31 ∧ x = nI n := by
  rw [pn_lt] at h
  have h0 : (0 : Int32).toInt = 0 := rfl
  have h1 := x.toInt_lt
  refine ⟨x.toInt.toNat, by omega, ?_⟩
  rw [pn_eq, pn_int (by omega)]
  omega
theorem pn_in {x : Int32} {hi : Nat} (hh : hi < 2 ^ 31) (h : ¬ x < 0) (h2 : ¬ nI hi < x) : ∃ n : Nat, n ≤ hi ∧ x = nI n := by
  obtain ⟨n, hn, rfl⟩ := pn_of h
  rw [pn_lt, pn_int hh, pn_int hn] at h2
  exact ⟨n, by omega, rfl⟩
theorem pn_vp {n N : Nat} (h : n < N) (hN : N < 2 ^ 31) : vp_in (nI n) N := by
  intro q
  rcases q with q | q
  · rw [pn_lt, pn_int (by omega)] at q
    have h0 : (0 : Int32).toInt = 0 := rfl
    omega
  · rw [pn_nat (by omega)] at q
    omega
/-- a truth value as an int -/
def bI (c : Prop) [Decidable c] : Int32 := if c then 1 else 0
theorem bI_0 (c : Prop) [Decidable c] : bI c = 0 ↔ ¬ c := by unfold bI; by_cases h : c <;> simp [h]
theorem bI_1 (c : Prop) [Decidable c] : ¬ bI c = 0 ↔ c := by rw [bI_0]; exact Classical.not_not
theorem bI_nar (c : Prop) [Decidable c] : narrow .boolean (.int (bI c)) = .int (bI c) := by unfold bI; by_cases h : c <;> simp [h] <;> rfl
/-! ===== the state behind its setters ===== -/
theorem sI_get (S : sn_S) (k i : Nat) (v : Int32) (k' i' : Nat) : (sn_pI S k i v).1 k' i' = if k' = k ∧ i' = i then v else S.1 k' i' := by
  by_cases hk : k' = k
  · subst hk
    rw [sn_pI_eq]
    by_cases hi : i' = i <;> simp [upd, hi]
  · rw [sn_pI_ne S i v hk]
    simp [hk]
theorem sI_row (S : sn_S) {k : Nat} (i : Nat) (v : Int32) {k' : Nat} (h : k' ≠ k) : (sn_pI S k i v).1 k' = S.1 k' := sn_pI_ne S i v h
theorem sI_2 (S : sn_S) (k i : Nat) (v : Int32) : (sn_pI S k i v).2 = S.2 := rfl
theorem sJ_1 (S : sn_S) (k i : Nat) (v : Int64) : (sn_pJ S k i v).1 = S.1 := rfl
theorem sJ_22 (S : sn_S) (k i : Nat) (v : Int64) : (sn_pJ S k i v).2.2 = S.2.2 := rfl
/-! ===== x's small methods ===== -/
def xRef (S : sn_S) (c : Int32) (i : Nat) : sn_S := sn_pI (sn_pI S 0 0 c) 1 i (S.1 1 i + 1)
def xTold (S : sn_S) : sn_S := sn_pI (sn_pI S 0 8 (S.1 0 8 + 1)) 0 0 0
theorem x_in {w : sn_W} {a lo hi : Int32} {Q : Int32 → Prop} (h : Q (bI (¬ a < lo ∧ ¬ hi < a))) : wpX0_in w a lo hi Q := by
  unfold wpX0_in
  unfold bI at h
  refine ⟨fun h1 => ?_, fun h1 => ⟨fun h2 => ?_, fun h2 => ?_⟩⟩
  · simpa [h1] using h
  · simpa [h1, h2] using h
  · simpa [h1, h2] using h
theorem x_isCell {w : sn_W} {a : Int32} {Q : Int32 → Prop} (h : Q (bI (¬ a < 0 ∧ ¬ 95 < a))) : wpX0_isCell w a Q := x_in ⟨bI_nar _, h⟩
theorem x_done {w : sn_W} {v : Int32} {S : sn_S} {Q : Int32 → sn_S → Prop} (h : Q v (sn_pI S 0 0 0)) : wpX0_done w v S Q := h
theorem x_told {w : sn_W} {v : Int32} {S : sn_S} {Q : Int32 → sn_S → Prop} (h : Q v (xTold S)) : wpX0_told w v S Q := h
theorem x_refuse {w : sn_W} {c : Int32} {i : Nat} {S : sn_S} {Q : Int32 → sn_S → Prop} (hc : -c = nI i) (hi : i < 7) (h : Q c (xRef S c i)) : wpX0_refuse w c S Q := by
  unfold wpX0_refuse
  have hv : vp_in (-c) 7 := by rw [hc]; exact pn_vp hi (by decide)
  have hn : (-c).toNatClampNeg = i := by rw [hc]; exact pn_nat (by omega)
  refine ⟨hv, hv, ?_⟩
  rw [hn]
  have he : (sn_pI S 0 0 c).1 1 i = S.1 1 i := by rw [sI_row S 0 c (by decide)]
  rw [he]
  exact h
theorem x_replaces {w : sn_W} {k n i : Nat} {v : Int32} {S : sn_S} {Q : Int32 → sn_S → Prop} (hi : i < n) (hn : n < 2 ^ 31) (h : Q (S.1 k i) (xTold (sn_pI S k i v))) : wpX0_replaces w k n (nI i) v S Q := by
  unfold wpX0_replaces
  rw [pn_nat (by omega)]
  exact ⟨pn_vp hi hn, pn_vp hi hn, x_told (w := w) h⟩
theorem x_damp {w : sn_W} {a v : Int32} {S : sn_S} {Q : Int32 → sn_S → Prop} (h1 : ∀ i : Nat, i < 96 → a = nI i → ¬ v < 0 → ¬ 9 < v → Q (S.1 3 i) (xTold (sn_pI S 3 i v))) (h2 : (a < 0 ∨ 95 < a ∨ v < 0 ∨ 9 < v) → Q (-1) (xRef S (-1) 1)) : wpX0_damp w a v S Q := by
  unfold wpX0_damp
  refine x_isCell (sn_jn_by (fun k => (a < 0 ∨ 95 < a ∨ v < 0 ∨ 9 < v) → k) (fun h => x_refuse (i := 1) (by decide) (by decide) (h2 h)) (fun k hk => ⟨fun h => hk ?_, fun h => x_in ⟨fun h' => hk ?_, fun h' => ?_⟩⟩))
  · rw [bI_0] at h
    by_cases ha : a < 0
    · exact Or.inl ha
    · exact Or.inr (Or.inl (Classical.not_not.mp (fun hb => h ⟨ha, hb⟩)))
  · rw [bI_0] at h'
    by_cases ha : v < 0
    · exact Or.inr (Or.inr (Or.inl ha))
    · exact Or.inr (Or.inr (Or.inr (Classical.not_not.mp (fun hb => h' ⟨ha, hb⟩))))
  · rw [bI_1] at h h'
    obtain ⟨i, hi, rfl⟩ := pn_in (hi := 95) (by decide) h.1 h.2
    exact x_replaces (by omega) (by decide) (h1 i (by omega) rfl h'.1 h'.2)
/-! ===== the model's small methods ===== -/
theorem lc_lt (a b : Int64) : lg_cmp a b < 0 ↔ a < b := by
  unfold lg_cmp
  by_cases h1 : b < a
  · have h2 : ¬ a < b := by rw [Int64.lt_iff_toInt_lt] at h1 ⊢; omega
    rw [if_pos h1]
    exact ⟨fun h => absurd h (by decide), fun h => absurd h h2⟩
  · rw [if_neg h1]
    by_cases h2 : a = b
    · subst h2
      rw [if_pos rfl]
      exact ⟨fun h => absurd h (by decide), fun h => absurd h h1⟩
    · rw [if_neg h2]
      refine ⟨fun _ => ?_, fun _ => by decide⟩
      rw [Int64.lt_iff_toInt_lt] at h1 ⊢
      have : a.toInt ≠ b.toInt := fun e => h2 (Int64.toInt_inj.mp e)
      omega
theorem lc_gt (a b : Int64) : 0 < lg_cmp a b ↔ b < a := by
  unfold lg_cmp
  by_cases h1 : b < a
  · rw [if_pos h1]
    exact ⟨fun _ => h1, fun _ => by decide⟩
  · rw [if_neg h1]
    by_cases h2 : a = b
    · rw [if_pos h2]
      exact ⟨fun h => absurd h (by decide), fun h => absurd h h1⟩
    · rw [if_neg h2]
      exact ⟨fun h => absurd h (by decide), fun h => absurd h h1⟩
theorem lc_eq (a b : Int64) : lg_cmp a b = 0 ↔ a = b := by
  unfold lg_cmp
  by_cases h1 : b < a
  · rw [if_pos h1]
    refine ⟨fun h => absurd h (by decide), fun h => ?_⟩
    subst h
    exact absurd h1 (by rw [Int64.lt_iff_toInt_lt]; omega)
  · rw [if_neg h1]
    by_cases h2 : a = b
    · rw [if_pos h2]
      exact ⟨fun _ => h2, fun _ => rfl⟩
    · rw [if_neg h2]
      exact ⟨fun h => absurd h (by decide), fun h => absurd h h2⟩
theorem wide_lt (a b : Int32) : a.toInt64 < b.toInt64 ↔ a < b := by rw [Int64.lt_iff_toInt_lt, pn_lt, Int32.toInt_toInt64, Int32.toInt_toInt64]
theorem m_in {a lo hi : Int64} {Q : Int32 → Prop} (h : Q (bI (¬ a < lo ∧ ¬ hi < a))) : wpX9_in a lo hi Q := by
  unfold wpX9_in
  unfold bI at h
  rw [lc_lt, lc_gt]
  refine ⟨fun h1 => ?_, fun h1 => ⟨fun h2 => ?_, fun h2 => ?_⟩⟩
  · simpa [h1] using h
  · simpa [h1, h2] using h
  · simpa [h1, h2] using h
/-- of ints -/
theorem m_inI {a : Int32} (lo hi : Int32) {l h0 : Int64} (hl : lo.toInt64 = l) (hh : hi.toInt64 = h0) {Q : Int32 → Prop} (h : Q (bI (¬ a < lo ∧ ¬ hi < a))) : wpX9_in a.toInt64 l h0 Q := by
  subst hl hh
  refine m_in ?_
  have e : bI (¬ a.toInt64 < lo.toInt64 ∧ ¬ hi.toInt64 < a.toInt64) = bI (¬ a < lo ∧ ¬ hi < a) := by
    unfold bI
    simp only [wide_lt]
  rw [e]
  exact h
theorem m_isCell {a : Int32} {Q : Int32 → Prop} (h : Q (bI (¬ a < 0 ∧ ¬ 95 < a))) : wpX9_isCell a Q := m_inI 0 95 rfl rfl ⟨bI_nar _, h⟩
theorem m_was {v : Int32} {S : sn_S} {Q : Int32 → sn_S → Prop} (h : Q v (sn_pI S 0 1 0)) : wpX9_was v S Q := h
theorem m_change {i : Nat} {v : Int32} {S : sn_S} {Q : Int32 → sn_S → Prop} (hi : i < 5680) (h : Q (S.1 2 i) (sn_pI (sn_pI S 2 i v) 0 1 0)) : wpX9_change (nI i) v S Q := by
  unfold wpX9_change
  rw [pn_nat (by omega)]
  exact ⟨pn_vp hi (by decide), pn_vp hi (by decide), m_was h⟩
def mRef (S : sn_S) (c : Int32) (i : Nat) : sn_S := sn_pI (sn_pI S 0 1 c) 1 i (S.1 1 i + 1)
theorem m_tellN {c : Int32} {i : Nat} {S : sn_S} {Q : Int32 → sn_S → Prop} (h0 : ¬ 0 ≤ c) (hc : -c = nI i) (hi : i < 7) (h : Q c (mRef S c i)) : wpX9_tell c S Q := by
  unfold wpX9_tell
  have hv : vp_in (-c) 7 := by rw [hc]; exact pn_vp hi (by decide)
  have hn : (-c).toNatClampNeg = i := by rw [hc]; exact pn_nat (by omega)
  refine sn_jn_by (fun k => k c) ⟨fun h => absurd h h0, fun _ => ⟨hv, hv, ?_⟩⟩ (fun k hk => ⟨fun h => absurd h h0, fun _ => hk⟩)
  rw [hn]
  have he : (sn_pI S 0 1 c).1 1 i = S.1 1 i := by rw [sI_row S 1 c (by decide)]
  rw [he]
  exact h
theorem m_tellP {c : Int32} {S : sn_S} {Q : Int32 → sn_S → Prop} (h0 : 0 ≤ c) (h : Q c (sn_pI S 0 1 0)) : wpX9_tell c S Q := by
  unfold wpX9_tell
  exact sn_jn_by (fun k => k 0) ⟨fun _ => h, fun h' => absurd h0 h'⟩ (fun k hk => ⟨fun _ => hk, fun h' => absurd h0 h'⟩)
def mT (S : sn_S) : sn_S := sn_pI S 0 0 0
theorem m_damp {a v : Int32} {S : sn_S} {Q : Int32 → sn_S → Prop} (h1 : ∀ i : Nat, i < 96 → a = nI i → ¬ v < 0 → ¬ 9 < v → Q (S.1 2 (80 + i)) (sn_pI (sn_pI (mT S) 2 (80 + i) v) 0 1 0)) (h2 : (a < 0 ∨ 95 < a ∨ v < 0 ∨ 9 < v) → Q (-1) (mRef (mT S) (-1) 1)) : wpX9_damp a v S Q := by
  unfold wpX9_damp
  refine m_isCell (sn_jn_by (fun k => (a < 0 ∨ 95 < a ∨ v < 0 ∨ 9 < v) → k) (fun h => m_tellN (i := 1) (by decide) (by decide) (by decide) (h2 h)) (fun k hk => ⟨fun h => hk ?_, fun h => m_inI 0 9 rfl rfl ⟨fun h' => hk ?_, fun h' => ?_⟩⟩))
  · rw [bI_0] at h
    by_cases ha : a < 0
    · exact Or.inl ha
    · exact Or.inr (Or.inl (Classical.not_not.mp (fun hb => h ⟨ha, hb⟩)))
  · rw [bI_0] at h'
    by_cases ha : v < 0
    · exact Or.inr (Or.inr (Or.inl ha))
    · exact Or.inr (Or.inr (Or.inr (Classical.not_not.mp (fun hb => h' ⟨ha, hb⟩))))
  · rw [bI_1] at h h'
    obtain ⟨i, hi, rfl⟩ := pn_in (hi := 95) (by decide) h.1 h.2
    have e : (80 : Int32) + nI i = nI (80 + i) := pn_add 80 i
    rw [e]
    refine m_change (by omega) ?_
    have e2 : (mT S).1 2 = S.1 2 := sI_row S 0 0 (by decide)
    rw [show (sn_pI S 0 0 0) = mT S from rfl, e2]
    exact h1 i (by omega) rfl h'.1 h'.2
