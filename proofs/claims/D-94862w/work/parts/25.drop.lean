/-! THE PLAIN LAW, seventh part: a crossing dropped -/
set_option maxRecDepth 100000
theorem sA_I (S : sn_S) (k : Nat) (f : Nat → Int32) (i : Nat) (v : Int32) : sn_pI (sn_pA S k f) k i v = sn_pA S k (upd f i v) := by
  unfold sn_pI sn_pA
  refine Prod.ext ?_ rfl
  funext k2
  show va_up (va_up S.1 k f) k (upd ((va_up S.1 k f) k) i v) k2 = va_up S.1 k (upd f i v) k2
  by_cases h : k2 = k
  · subst h
    simp [va_up]
  · simp [va_up, h]
theorem sA_row (S : sn_S) {k : Nat} (f : Nat → Int32) {k2 : Nat} (h : k2 ≠ k) : (sn_pA S k f).1 k2 = S.1 k2 := sn_pA_ne S f h
theorem sA_eq (S : sn_S) (k : Nat) (f : Nat → Int32) : (sn_pA S k f).1 k = f := sn_pA_eq S k f
theorem sA_self (S : sn_S) (k : Nat) : sn_pA S k (S.1 k) = S := by
  unfold sn_pA
  refine Prod.ext ?_ rfl
  funext k2
  show va_up S.1 k (S.1 k) k2 = S.1 k2
  by_cases h : k2 = k
  · subst h
    simp [va_up]
  · simp [va_up, h]
/-- a row moved down by two between a and b -/
def dn (f : Nat → Int32) (a b : Nat) : Nat → Int32 := fun k => if a ≤ k ∧ k < b then f (k + 2) else f k
theorem dn_0 (f : Nat → Int32) (a : Nat) : dn f a a = f := by
  funext k
  exact if_neg (by omega)
theorem dn_succ (f : Nat → Int32) {a b : Nat} (h : a ≤ b) : upd (dn f a b) b (dn f a b (b + 2)) = dn f a (b + 1) := by
  funext k
  show (if k = b then dn f a b (b + 2) else dn f a b k) = _
  unfold dn
  rw [if_neg (show ¬ (a ≤ b + 2 ∧ b + 2 < b) by omega)]
  by_cases hk : k = b
  · subst hk
    rw [if_pos rfl, if_pos (by omega)]
  · rw [if_neg hk]
    by_cases h1 : a ≤ k ∧ k < b
    · rw [if_pos h1, if_pos (by omega)]
    · rw [if_neg h1, if_neg (by omega)]
def tD (t : gT) (p : Nat) : gT := fun k i => if k = 8 then (if 2 * p ≤ i then t 8 (i + 2) else t 8 i) else if k = 0 ∧ i = 2 then t 0 2 - 1 else t k i
theorem RXt_drop {S : sn_S} {t : gT} (h : RXt S t) {p : Nat} (hp : p < t 0 2) : RXt (sn_pI (sn_pA S 8 (dn (S.1 8) (2 * p) (2 * t 0 2 - 2))) 2 10 (nI (t 0 2 - 1))) (tD t p) := by
  unfold RXt at h ⊢
  obtain ⟨h1, h2, h3, h4, h5, h6, h7, h8, h9, h10, h11⟩ := h
  have r : ∀ k, k ≠ 8 → (sn_pA S 8 (dn (S.1 8) (2 * p) (2 * t 0 2 - 2))).1 k = S.1 k := fun k hk => sA_row S _ hk
  simp only [sI_get, sA_eq, tD]
  rw [r 2 (by decide), r 3 (by decide), r 4 (by decide), r 5 (by decide), r 6 (by decide), r 7 (by decide), r 9 (by decide)]
  refine ⟨by simpa using h1, by simpa using h2, by simp, by simpa using h4, fun c hc => by simpa using h5 c hc, fun c hc => by simpa using h6 c hc, fun c hc => by simpa using h7 c hc, fun c hc => by simpa using h8 c hc, fun c hc => by simpa using h9 c hc, fun c hc => ?_, fun c hc => by simpa using h11 c hc⟩
  have hc : c < 2 * (t 0 2 - 1) := by simpa using hc
  rw [if_neg (by omega), if_pos trivial]
  unfold dn
  by_cases e : 2 * p ≤ c
  · rw [if_pos (by omega), if_pos e]
    exact h10 (c + 2) (by omega)
  · rw [if_neg (by omega), if_neg e]
    exact h10 c (by omega)
theorem RMt_drop {S : sn_S} {t : gT} (hg : tG t) (h : RMt S t) {p : Nat} (hp : p < t 0 2) : RMt (sn_pI (sn_pA S 2 (dn (S.1 2) (52 + 2 * p) 74)) 2 4 (nI (t 0 2 - 1))) (tD t p) := by
  have h12 := hg.2.2.1
  unfold RMt at h ⊢
  obtain ⟨h1, h2, h3, h4, h5, h6, h7, h8, h9, h10, h11⟩ := h
  simp only [sM_get, sA_eq, tD]
  have far : ∀ x : Nat, x ≠ 4 → (x < 52 ∨ 74 ≤ x) → (if x = 4 then nI (t 0 2 - 1) else dn (S.1 2) (52 + 2 * p) 74 x) = S.1 2 x := by
    intro x h1 h2
    rw [if_neg h1]
    exact if_neg (by omega)
  refine ⟨by rw [far 0 (by omega) (by omega)]; simpa using h1, by rw [far 1 (by omega) (by omega)]; simpa using h2, by simp, by rw [far 3 (by omega) (by omega)]; simpa using h4, fun c hc => by rw [far _ (by omega) (by omega)]; simpa using h5 c hc, fun c hc => by rw [far _ (by omega) (by omega)]; simpa using h6 c hc, fun c hc => by rw [far _ (by omega) (by omega)]; simpa using h7 c hc, fun c hc => by rw [far _ (by omega) (by omega)]; simpa using h8 c hc, fun c hc => by rw [far _ (by omega) (by omega)]; simpa using h9 c hc, fun c hc => ?_, fun c hc => by rw [far _ (by omega) (by omega)]; simpa using h11 c hc⟩
  have hc : c < 2 * (t 0 2 - 1) := by simpa using hc
  rw [if_neg (by omega), if_pos trivial]
  unfold dn
  by_cases e : 2 * p ≤ c
  · rw [if_pos (by omega), if_pos e]
    have := h10 (c + 2) (by omega)
    rwa [show 52 + c + 2 = 52 + (c + 2) by omega]
  · rw [if_neg (by omega), if_neg e]
    exact h10 c (by omega)
