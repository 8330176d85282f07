/-! THE PLAIN LAW, third part: what was told, at the level of Nat: t k i (t 0: many, spots, crossings, force + 1; 3 damp, 4 facts, 5 spots, 6 plan + 1, 7 terms, 8 crossings, 9 salt) -/
set_option maxRecDepth 100000
abbrev gT : Type := Nat → Nat → Nat
def tU (t : gT) (k i v : Nat) : gT := fun k2 i2 => if k2 = k ∧ i2 = i then v else t k2 i2
theorem tU_eq (t : gT) (k i v : Nat) : tU t k i v k i = v := by simp [tU]
theorem tU_k (t : gT) {k : Nat} (i v : Nat) {k2 : Nat} (i2 : Nat) (h : k2 ≠ k) : tU t k i v k2 i2 = t k2 i2 := by simp [tU, h]
theorem tU_i (t : gT) (k : Nat) {i : Nat} (v : Nat) {i2 : Nat} (h : i2 ≠ i) : tU t k i v k i2 = t k i2 := by simp [tU, h]
/-- ranges -/
def tG (t : gT) : Prop := t 0 0 ≤ 6 ∧ t 0 1 ≤ 4 ∧ t 0 2 ≤ 12 ∧ t 0 3 ≤ 6 ∧ (∀ c, c < 96 → t 3 c ≤ 9) ∧ (∀ s, s < t 0 0 → t 4 (6 * s) < 96 ∧ t 4 (6 * s + 1) < 96 ∧ 1 ≤ t 4 (6 * s + 2) ∧ t 4 (6 * s + 2) ≤ 12 ∧ t 4 (6 * s + 3) ≤ 4 ∧ t 4 (6 * s + 4) ≤ 100 ∧ 1 ≤ t 4 (6 * s + 5) ∧ t 4 (6 * s + 5) ≤ 63) ∧ (∀ k, k < t 0 1 → t 5 k < 96) ∧ (∀ h, h < 5 → t 6 h ≤ t 0 1) ∧ (1 ≤ t 7 0 ∧ t 7 0 ≤ 6 ∧ 1 ≤ t 7 1 ∧ t 7 1 ≤ 20) ∧ (∀ k, k < 2 * t 0 2 → t 8 k < t 0 0) ∧ (∀ c, c < 96 → t 9 c ≤ 1)
/-- x: the State at key 2 and its rows -/
def RXt (S : sn_S) (t : gT) : Prop := S.1 2 8 = nI (t 0 0) ∧ S.1 2 9 = nI (t 0 1) ∧ S.1 2 10 = nI (t 0 2) ∧ S.1 2 11 = nI (t 0 3) - nI 1 ∧ (∀ c, c < 96 → S.1 3 c = nI (t 3 c)) ∧ (∀ k, k < 36 → S.1 4 k = nI (t 4 k)) ∧ (∀ k, k < 4 → S.1 5 k = nI (t 5 k)) ∧ (∀ h, h < 5 → S.1 6 h = nI (t 6 h) - nI 1) ∧ (∀ k, k < 2 → S.1 7 k = nI (t 7 k)) ∧ (∀ k, k < 2 * t 0 2 → S.1 8 k = nI (t 8 k)) ∧ (∀ c, c < 96 → S.1 9 c = nI (t 9 c))
/-- the model: its row -/
def RMt (S : sn_S) (t : gT) : Prop := S.1 2 0 = nI (t 0 0) ∧ S.1 2 1 = nI (t 0 1) ∧ S.1 2 4 = nI (t 0 2) ∧ S.1 2 3 = nI (t 0 3) - nI 1 ∧ (∀ c, c < 96 → S.1 2 (80 + c) = nI (t 3 c)) ∧ (∀ k, k < 36 → S.1 2 (16 + k) = nI (t 4 k)) ∧ (∀ k, k < 4 → S.1 2 (12 + k) = nI (t 5 k)) ∧ (∀ h, h < 5 → S.1 2 (7 + h) = nI (t 6 h) - nI 1) ∧ (∀ k, k < 2 → S.1 2 (5 + k) = nI (t 7 k)) ∧ (∀ k, k < 2 * t 0 2 → S.1 2 (52 + k) = nI (t 8 k)) ∧ (∀ c, c < 96 → S.1 2 (176 + c) = nI (t 9 c))
theorem RXt_off {S : sn_S} {t : gT} (h : RXt S t) {k : Nat} (i : Nat) (v : Int32) (hk : k < 2 ∨ 9 < k) : RXt (sn_pI S k i v) t := by
  unfold RXt at h ⊢
  rw [sI_row S i v (by omega), sI_row S i v (by omega), sI_row S i v (by omega), sI_row S i v (by omega), sI_row S i v (by omega), sI_row S i v (by omega), sI_row S i v (by omega), sI_row S i v (by omega)]
  exact h
theorem RMt_off {S : sn_S} {t : gT} (h : RMt S t) {k : Nat} (i : Nat) (v : Int32) (hk : k ≠ 2) : RMt (sn_pI S k i v) t := by
  unfold RMt at h ⊢
  rw [sI_row S i v (by omega)]
  exact h
theorem RXt_damp {S : sn_S} {t : gT} (h : RXt S t) {i v : Nat} : RXt (sn_pI S 3 i (nI v)) (tU t 3 i v) := by
  unfold RXt at h ⊢
  simp only [sI_get, tU]
  obtain ⟨h1, h2, h3, h4, h5, h6, h7, h8, h9, h10, h11⟩ := h
  refine ⟨by simpa using h1, by simpa using h2, by simpa using h3, by simpa using h4, fun c hc => ?_, fun c hc => ?_, fun c hc => ?_, fun c hc => ?_, fun c hc => ?_, fun c hc => ?_, fun c hc => ?_⟩
  · by_cases he : c = i <;> simp [he, h5 c (by simpa using hc)] <;> first | done | (subst he; simpa using h5 c (by simpa using hc))
  · by_cases he : c = i <;> simp [he, h6 c (by simpa using hc)] <;> first | done | (subst he; simpa using h6 c (by simpa using hc))
  · by_cases he : c = i <;> simp [he, h7 c (by simpa using hc)] <;> first | done | (subst he; simpa using h7 c (by simpa using hc))
  · by_cases he : c = i <;> simp [he, h8 c (by simpa using hc)] <;> first | done | (subst he; simpa using h8 c (by simpa using hc))
  · by_cases he : c = i <;> simp [he, h9 c (by simpa using hc)] <;> first | done | (subst he; simpa using h9 c (by simpa using hc))
  · by_cases he : c = i <;> simp [he, h10 c (by simpa using hc)] <;> first | done | (subst he; simpa using h10 c (by simpa using hc))
  · by_cases he : c = i <;> simp [he, h11 c (by simpa using hc)] <;> first | done | (subst he; simpa using h11 c (by simpa using hc))
theorem RXt_facts {S : sn_S} {t : gT} (h : RXt S t) {i v : Nat} : RXt (sn_pI S 4 i (nI v)) (tU t 4 i v) := by
  unfold RXt at h ⊢
  simp only [sI_get, tU]
  obtain ⟨h1, h2, h3, h4, h5, h6, h7, h8, h9, h10, h11⟩ := h
  refine ⟨by simpa using h1, by simpa using h2, by simpa using h3, by simpa using h4, fun c hc => ?_, fun c hc => ?_, fun c hc => ?_, fun c hc => ?_, fun c hc => ?_, fun c hc => ?_, fun c hc => ?_⟩
  · by_cases he : c = i <;> simp [he, h5 c (by simpa using hc)] <;> first | done | (subst he; simpa using h5 c (by simpa using hc))
  · by_cases he : c = i <;> simp [he, h6 c (by simpa using hc)] <;> first | done | (subst he; simpa using h6 c (by simpa using hc))
  · by_cases he : c = i <;> simp [he, h7 c (by simpa using hc)] <;> first | done | (subst he; simpa using h7 c (by simpa using hc))
  · by_cases he : c = i <;> simp [he, h8 c (by simpa using hc)] <;> first | done | (subst he; simpa using h8 c (by simpa using hc))
  · by_cases he : c = i <;> simp [he, h9 c (by simpa using hc)] <;> first | done | (subst he; simpa using h9 c (by simpa using hc))
  · by_cases he : c = i <;> simp [he, h10 c (by simpa using hc)] <;> first | done | (subst he; simpa using h10 c (by simpa using hc))
  · by_cases he : c = i <;> simp [he, h11 c (by simpa using hc)] <;> first | done | (subst he; simpa using h11 c (by simpa using hc))
theorem RXt_spots {S : sn_S} {t : gT} (h : RXt S t) {i v : Nat} : RXt (sn_pI S 5 i (nI v)) (tU t 5 i v) := by
  unfold RXt at h ⊢
  simp only [sI_get, tU]
  obtain ⟨h1, h2, h3, h4, h5, h6, h7, h8, h9, h10, h11⟩ := h
  refine ⟨by simpa using h1, by simpa using h2, by simpa using h3, by simpa using h4, fun c hc => ?_, fun c hc => ?_, fun c hc => ?_, fun c hc => ?_, fun c hc => ?_, fun c hc => ?_, fun c hc => ?_⟩
  · by_cases he : c = i <;> simp [he, h5 c (by simpa using hc)] <;> first | done | (subst he; simpa using h5 c (by simpa using hc))
  · by_cases he : c = i <;> simp [he, h6 c (by simpa using hc)] <;> first | done | (subst he; simpa using h6 c (by simpa using hc))
  · by_cases he : c = i <;> simp [he, h7 c (by simpa using hc)] <;> first | done | (subst he; simpa using h7 c (by simpa using hc))
  · by_cases he : c = i <;> simp [he, h8 c (by simpa using hc)] <;> first | done | (subst he; simpa using h8 c (by simpa using hc))
  · by_cases he : c = i <;> simp [he, h9 c (by simpa using hc)] <;> first | done | (subst he; simpa using h9 c (by simpa using hc))
  · by_cases he : c = i <;> simp [he, h10 c (by simpa using hc)] <;> first | done | (subst he; simpa using h10 c (by simpa using hc))
  · by_cases he : c = i <;> simp [he, h11 c (by simpa using hc)] <;> first | done | (subst he; simpa using h11 c (by simpa using hc))
theorem RXt_plan {S : sn_S} {t : gT} (h : RXt S t) {i v : Nat} : RXt (sn_pI S 6 i (nI v - nI 1)) (tU t 6 i v) := by
  unfold RXt at h ⊢
  simp only [sI_get, tU]
  obtain ⟨h1, h2, h3, h4, h5, h6, h7, h8, h9, h10, h11⟩ := h
  refine ⟨by simpa using h1, by simpa using h2, by simpa using h3, by simpa using h4, fun c hc => ?_, fun c hc => ?_, fun c hc => ?_, fun c hc => ?_, fun c hc => ?_, fun c hc => ?_, fun c hc => ?_⟩
  · by_cases he : c = i <;> simp [he, h5 c (by simpa using hc)] <;> first | done | (subst he; simpa using h5 c (by simpa using hc))
  · by_cases he : c = i <;> simp [he, h6 c (by simpa using hc)] <;> first | done | (subst he; simpa using h6 c (by simpa using hc))
  · by_cases he : c = i <;> simp [he, h7 c (by simpa using hc)] <;> first | done | (subst he; simpa using h7 c (by simpa using hc))
  · by_cases he : c = i <;> simp [he, h8 c (by simpa using hc)] <;> first | done | (subst he; simpa using h8 c (by simpa using hc))
  · by_cases he : c = i <;> simp [he, h9 c (by simpa using hc)] <;> first | done | (subst he; simpa using h9 c (by simpa using hc))
  · by_cases he : c = i <;> simp [he, h10 c (by simpa using hc)] <;> first | done | (subst he; simpa using h10 c (by simpa using hc))
  · by_cases he : c = i <;> simp [he, h11 c (by simpa using hc)] <;> first | done | (subst he; simpa using h11 c (by simpa using hc))
theorem RXt_terms {S : sn_S} {t : gT} (h : RXt S t) {i v : Nat} : RXt (sn_pI S 7 i (nI v)) (tU t 7 i v) := by
  unfold RXt at h ⊢
  simp only [sI_get, tU]
  obtain ⟨h1, h2, h3, h4, h5, h6, h7, h8, h9, h10, h11⟩ := h
  refine ⟨by simpa using h1, by simpa using h2, by simpa using h3, by simpa using h4, fun c hc => ?_, fun c hc => ?_, fun c hc => ?_, fun c hc => ?_, fun c hc => ?_, fun c hc => ?_, fun c hc => ?_⟩
  · by_cases he : c = i <;> simp [he, h5 c (by simpa using hc)] <;> first | done | (subst he; simpa using h5 c (by simpa using hc))
  · by_cases he : c = i <;> simp [he, h6 c (by simpa using hc)] <;> first | done | (subst he; simpa using h6 c (by simpa using hc))
  · by_cases he : c = i <;> simp [he, h7 c (by simpa using hc)] <;> first | done | (subst he; simpa using h7 c (by simpa using hc))
  · by_cases he : c = i <;> simp [he, h8 c (by simpa using hc)] <;> first | done | (subst he; simpa using h8 c (by simpa using hc))
  · by_cases he : c = i <;> simp [he, h9 c (by simpa using hc)] <;> first | done | (subst he; simpa using h9 c (by simpa using hc))
  · by_cases he : c = i <;> simp [he, h10 c (by simpa using hc)] <;> first | done | (subst he; simpa using h10 c (by simpa using hc))
  · by_cases he : c = i <;> simp [he, h11 c (by simpa using hc)] <;> first | done | (subst he; simpa using h11 c (by simpa using hc))
theorem RXt_salt {S : sn_S} {t : gT} (h : RXt S t) {i v : Nat} : RXt (sn_pI S 9 i (nI v)) (tU t 9 i v) := by
  unfold RXt at h ⊢
  simp only [sI_get, tU]
  obtain ⟨h1, h2, h3, h4, h5, h6, h7, h8, h9, h10, h11⟩ := h
  refine ⟨by simpa using h1, by simpa using h2, by simpa using h3, by simpa using h4, fun c hc => ?_, fun c hc => ?_, fun c hc => ?_, fun c hc => ?_, fun c hc => ?_, fun c hc => ?_, fun c hc => ?_⟩
  · by_cases he : c = i <;> simp [he, h5 c (by simpa using hc)] <;> first | done | (subst he; simpa using h5 c (by simpa using hc))
  · by_cases he : c = i <;> simp [he, h6 c (by simpa using hc)] <;> first | done | (subst he; simpa using h6 c (by simpa using hc))
  · by_cases he : c = i <;> simp [he, h7 c (by simpa using hc)] <;> first | done | (subst he; simpa using h7 c (by simpa using hc))
  · by_cases he : c = i <;> simp [he, h8 c (by simpa using hc)] <;> first | done | (subst he; simpa using h8 c (by simpa using hc))
  · by_cases he : c = i <;> simp [he, h9 c (by simpa using hc)] <;> first | done | (subst he; simpa using h9 c (by simpa using hc))
  · by_cases he : c = i <;> simp [he, h10 c (by simpa using hc)] <;> first | done | (subst he; simpa using h10 c (by simpa using hc))
  · by_cases he : c = i <;> simp [he, h11 c (by simpa using hc)] <;> first | done | (subst he; simpa using h11 c (by simpa using hc))
theorem sM_get (S : sn_S) (i : Nat) (v : Int32) (j : Nat) : (sn_pI S 2 i v).1 2 j = if j = i then v else S.1 2 j := by
  rw [sI_get]
  by_cases h : j = i <;> simp [h]
/-- the model: a place set -/
theorem RMt_damp {S : sn_S} {t : gT} (hg : tG t) (h : RMt S t) {i v : Nat} (hi : i < 96) : RMt (sn_pI S 2 (80 + i) (nI v)) (tU t 3 i v) := by
  unfold RMt at h ⊢
  simp only [sM_get, tU]
  obtain ⟨h1, h2, h3, h4, h5, h6, h7, h8, h9, h10, h11⟩ := h
  refine ⟨by rw [if_neg (show ¬ (0 = 80 + i) by omega)]; simpa using h1, by rw [if_neg (show ¬ (1 = 80 + i) by omega)]; simpa using h2, by rw [if_neg (show ¬ (4 = 80 + i) by omega)]; simpa using h3, by rw [if_neg (show ¬ (3 = 80 + i) by omega)]; simpa using h4, fun c hc => ?_, fun c hc => ?_, fun c hc => ?_, fun c hc => ?_, fun c hc => ?_, fun c hc => ?_, fun c hc => ?_⟩
  · by_cases he : c = i
    · subst he
      simp
    · rw [if_neg (show ¬ (80 + c = 80 + i) by omega)]
      simpa [he] using h5 c (by simpa using hc)
  · have hc : c < 36 := by simpa using hc
    skip
    rw [if_neg (show ¬ (16 + c = 80 + i) by omega)]
    simpa using h6 c hc
  · have hc : c < 4 := by simpa using hc
    skip
    rw [if_neg (show ¬ (12 + c = 80 + i) by omega)]
    simpa using h7 c hc
  · have hc : c < 5 := by simpa using hc
    skip
    rw [if_neg (show ¬ (7 + c = 80 + i) by omega)]
    simpa using h8 c hc
  · have hc : c < 2 := by simpa using hc
    skip
    rw [if_neg (show ¬ (5 + c = 80 + i) by omega)]
    simpa using h9 c hc
  · have hc : c < 2 * t 0 2 := by simpa using hc
    have h3b : t 0 2 ≤ 12 := hg.2.2.1
    rw [if_neg (show ¬ (52 + c = 80 + i) by omega)]
    simpa using h10 c hc
  · have hc : c < 96 := by simpa using hc
    skip
    rw [if_neg (show ¬ (176 + c = 80 + i) by omega)]
    simpa using h11 c hc
theorem RMt_facts {S : sn_S} {t : gT} (hg : tG t) (h : RMt S t) {i v : Nat} (hi : i < 36) : RMt (sn_pI S 2 (16 + i) (nI v)) (tU t 4 i v) := by
  unfold RMt at h ⊢
  simp only [sM_get, tU]
  obtain ⟨h1, h2, h3, h4, h5, h6, h7, h8, h9, h10, h11⟩ := h
  refine ⟨by rw [if_neg (show ¬ (0 = 16 + i) by omega)]; simpa using h1, by rw [if_neg (show ¬ (1 = 16 + i) by omega)]; simpa using h2, by rw [if_neg (show ¬ (4 = 16 + i) by omega)]; simpa using h3, by rw [if_neg (show ¬ (3 = 16 + i) by omega)]; simpa using h4, fun c hc => ?_, fun c hc => ?_, fun c hc => ?_, fun c hc => ?_, fun c hc => ?_, fun c hc => ?_, fun c hc => ?_⟩
  · have hc : c < 96 := by simpa using hc
    skip
    rw [if_neg (show ¬ (80 + c = 16 + i) by omega)]
    simpa using h5 c hc
  · by_cases he : c = i
    · subst he
      simp
    · rw [if_neg (show ¬ (16 + c = 16 + i) by omega)]
      simpa [he] using h6 c (by simpa using hc)
  · have hc : c < 4 := by simpa using hc
    skip
    rw [if_neg (show ¬ (12 + c = 16 + i) by omega)]
    simpa using h7 c hc
  · have hc : c < 5 := by simpa using hc
    skip
    rw [if_neg (show ¬ (7 + c = 16 + i) by omega)]
    simpa using h8 c hc
  · have hc : c < 2 := by simpa using hc
    skip
    rw [if_neg (show ¬ (5 + c = 16 + i) by omega)]
    simpa using h9 c hc
  · have hc : c < 2 * t 0 2 := by simpa using hc
    have h3b : t 0 2 ≤ 12 := hg.2.2.1
    rw [if_neg (show ¬ (52 + c = 16 + i) by omega)]
    simpa using h10 c hc
  · have hc : c < 96 := by simpa using hc
    skip
    rw [if_neg (show ¬ (176 + c = 16 + i) by omega)]
    simpa using h11 c hc
theorem RMt_spots {S : sn_S} {t : gT} (hg : tG t) (h : RMt S t) {i v : Nat} (hi : i < 4) : RMt (sn_pI S 2 (12 + i) (nI v)) (tU t 5 i v) := by
  unfold RMt at h ⊢
  simp only [sM_get, tU]
  obtain ⟨h1, h2, h3, h4, h5, h6, h7, h8, h9, h10, h11⟩ := h
  refine ⟨by rw [if_neg (show ¬ (0 = 12 + i) by omega)]; simpa using h1, by rw [if_neg (show ¬ (1 = 12 + i) by omega)]; simpa using h2, by rw [if_neg (show ¬ (4 = 12 + i) by omega)]; simpa using h3, by rw [if_neg (show ¬ (3 = 12 + i) by omega)]; simpa using h4, fun c hc => ?_, fun c hc => ?_, fun c hc => ?_, fun c hc => ?_, fun c hc => ?_, fun c hc => ?_, fun c hc => ?_⟩
  · have hc : c < 96 := by simpa using hc
    skip
    rw [if_neg (show ¬ (80 + c = 12 + i) by omega)]
    simpa using h5 c hc
  · have hc : c < 36 := by simpa using hc
    skip
    rw [if_neg (show ¬ (16 + c = 12 + i) by omega)]
    simpa using h6 c hc
  · by_cases he : c = i
    · subst he
      simp
    · rw [if_neg (show ¬ (12 + c = 12 + i) by omega)]
      simpa [he] using h7 c (by simpa using hc)
  · have hc : c < 5 := by simpa using hc
    skip
    rw [if_neg (show ¬ (7 + c = 12 + i) by omega)]
    simpa using h8 c hc
  · have hc : c < 2 := by simpa using hc
    skip
    rw [if_neg (show ¬ (5 + c = 12 + i) by omega)]
    simpa using h9 c hc
  · have hc : c < 2 * t 0 2 := by simpa using hc
    have h3b : t 0 2 ≤ 12 := hg.2.2.1
    rw [if_neg (show ¬ (52 + c = 12 + i) by omega)]
    simpa using h10 c hc
  · have hc : c < 96 := by simpa using hc
    skip
    rw [if_neg (show ¬ (176 + c = 12 + i) by omega)]
    simpa using h11 c hc
theorem RMt_plan {S : sn_S} {t : gT} (hg : tG t) (h : RMt S t) {i v : Nat} (hi : i < 5) : RMt (sn_pI S 2 (7 + i) (nI v - nI 1)) (tU t 6 i v) := by
  unfold RMt at h ⊢
  simp only [sM_get, tU]
  obtain ⟨h1, h2, h3, h4, h5, h6, h7, h8, h9, h10, h11⟩ := h
  refine ⟨by rw [if_neg (show ¬ (0 = 7 + i) by omega)]; simpa using h1, by rw [if_neg (show ¬ (1 = 7 + i) by omega)]; simpa using h2, by rw [if_neg (show ¬ (4 = 7 + i) by omega)]; simpa using h3, by rw [if_neg (show ¬ (3 = 7 + i) by omega)]; simpa using h4, fun c hc => ?_, fun c hc => ?_, fun c hc => ?_, fun c hc => ?_, fun c hc => ?_, fun c hc => ?_, fun c hc => ?_⟩
  · have hc : c < 96 := by simpa using hc
    skip
    rw [if_neg (show ¬ (80 + c = 7 + i) by omega)]
    simpa using h5 c hc
  · have hc : c < 36 := by simpa using hc
    skip
    rw [if_neg (show ¬ (16 + c = 7 + i) by omega)]
    simpa using h6 c hc
  · have hc : c < 4 := by simpa using hc
    skip
    rw [if_neg (show ¬ (12 + c = 7 + i) by omega)]
    simpa using h7 c hc
  · by_cases he : c = i
    · subst he
      simp
    · rw [if_neg (show ¬ (7 + c = 7 + i) by omega)]
      simpa [he] using h8 c (by simpa using hc)
  · have hc : c < 2 := by simpa using hc
    skip
    rw [if_neg (show ¬ (5 + c = 7 + i) by omega)]
    simpa using h9 c hc
  · have hc : c < 2 * t 0 2 := by simpa using hc
    have h3b : t 0 2 ≤ 12 := hg.2.2.1
    rw [if_neg (show ¬ (52 + c = 7 + i) by omega)]
    simpa using h10 c hc
  · have hc : c < 96 := by simpa using hc
    skip
    rw [if_neg (show ¬ (176 + c = 7 + i) by omega)]
    simpa using h11 c hc
theorem RMt_terms {S : sn_S} {t : gT} (hg : tG t) (h : RMt S t) {i v : Nat} (hi : i < 2) : RMt (sn_pI S 2 (5 + i) (nI v)) (tU t 7 i v) := by
  unfold RMt at h ⊢
  simp only [sM_get, tU]
  obtain ⟨h1, h2, h3, h4, h5, h6, h7, h8, h9, h10, h11⟩ := h
  refine ⟨by rw [if_neg (show ¬ (0 = 5 + i) by omega)]; simpa using h1, by rw [if_neg (show ¬ (1 = 5 + i) by omega)]; simpa using h2, by rw [if_neg (show ¬ (4 = 5 + i) by omega)]; simpa using h3, by rw [if_neg (show ¬ (3 = 5 + i) by omega)]; simpa using h4, fun c hc => ?_, fun c hc => ?_, fun c hc => ?_, fun c hc => ?_, fun c hc => ?_, fun c hc => ?_, fun c hc => ?_⟩
  · have hc : c < 96 := by simpa using hc
    skip
    rw [if_neg (show ¬ (80 + c = 5 + i) by omega)]
    simpa using h5 c hc
  · have hc : c < 36 := by simpa using hc
    skip
    rw [if_neg (show ¬ (16 + c = 5 + i) by omega)]
    simpa using h6 c hc
  · have hc : c < 4 := by simpa using hc
    skip
    rw [if_neg (show ¬ (12 + c = 5 + i) by omega)]
    simpa using h7 c hc
  · have hc : c < 5 := by simpa using hc
    skip
    rw [if_neg (show ¬ (7 + c = 5 + i) by omega)]
    simpa using h8 c hc
  · by_cases he : c = i
    · subst he
      simp
    · rw [if_neg (show ¬ (5 + c = 5 + i) by omega)]
      simpa [he] using h9 c (by simpa using hc)
  · have hc : c < 2 * t 0 2 := by simpa using hc
    have h3b : t 0 2 ≤ 12 := hg.2.2.1
    rw [if_neg (show ¬ (52 + c = 5 + i) by omega)]
    simpa using h10 c hc
  · have hc : c < 96 := by simpa using hc
    skip
    rw [if_neg (show ¬ (176 + c = 5 + i) by omega)]
    simpa using h11 c hc
theorem RMt_salt {S : sn_S} {t : gT} (hg : tG t) (h : RMt S t) {i v : Nat} (hi : i < 96) : RMt (sn_pI S 2 (176 + i) (nI v)) (tU t 9 i v) := by
  unfold RMt at h ⊢
  simp only [sM_get, tU]
  obtain ⟨h1, h2, h3, h4, h5, h6, h7, h8, h9, h10, h11⟩ := h
  refine ⟨by rw [if_neg (show ¬ (0 = 176 + i) by omega)]; simpa using h1, by rw [if_neg (show ¬ (1 = 176 + i) by omega)]; simpa using h2, by rw [if_neg (show ¬ (4 = 176 + i) by omega)]; simpa using h3, by rw [if_neg (show ¬ (3 = 176 + i) by omega)]; simpa using h4, fun c hc => ?_, fun c hc => ?_, fun c hc => ?_, fun c hc => ?_, fun c hc => ?_, fun c hc => ?_, fun c hc => ?_⟩
  · have hc : c < 96 := by simpa using hc
    skip
    rw [if_neg (show ¬ (80 + c = 176 + i) by omega)]
    simpa using h5 c hc
  · have hc : c < 36 := by simpa using hc
    skip
    rw [if_neg (show ¬ (16 + c = 176 + i) by omega)]
    simpa using h6 c hc
  · have hc : c < 4 := by simpa using hc
    skip
    rw [if_neg (show ¬ (12 + c = 176 + i) by omega)]
    simpa using h7 c hc
  · have hc : c < 5 := by simpa using hc
    skip
    rw [if_neg (show ¬ (7 + c = 176 + i) by omega)]
    simpa using h8 c hc
  · have hc : c < 2 := by simpa using hc
    skip
    rw [if_neg (show ¬ (5 + c = 176 + i) by omega)]
    simpa using h9 c hc
  · have hc : c < 2 * t 0 2 := by simpa using hc
    have h3b : t 0 2 ≤ 12 := hg.2.2.1
    rw [if_neg (show ¬ (52 + c = 176 + i) by omega)]
    simpa using h10 c hc
  · by_cases he : c = i
    · subst he
      simp
    · rw [if_neg (show ¬ (176 + c = 176 + i) by omega)]
      simpa [he] using h11 c (by simpa using hc)
theorem RMt_many {S : sn_S} {t : gT} (h : RMt S t) {v : Nat} : RMt (sn_pI S 2 0 (nI v)) (tU t 0 0 v) := by
  unfold RMt at h ⊢
  simp only [sM_get, tU]
  obtain ⟨h1, h2, h3, h4, h5, h6, h7, h8, h9, h10, h11⟩ := h
  refine ⟨by simp, by rw [if_neg (show ¬ (1 = 0) by omega)]; simpa using h2, by rw [if_neg (show ¬ (4 = 0) by omega)]; simpa using h3, by rw [if_neg (show ¬ (3 = 0) by omega)]; simpa using h4, fun c hc => ?_, fun c hc => ?_, fun c hc => ?_, fun c hc => ?_, fun c hc => ?_, fun c hc => ?_, fun c hc => ?_⟩
  · have hc : c < 96 := by simpa using hc
    rw [if_neg (show ¬ (80 + c = 0) by omega)]
    simpa using h5 c hc
  · have hc : c < 36 := by simpa using hc
    rw [if_neg (show ¬ (16 + c = 0) by omega)]
    simpa using h6 c hc
  · have hc : c < 4 := by simpa using hc
    rw [if_neg (show ¬ (12 + c = 0) by omega)]
    simpa using h7 c hc
  · have hc : c < 5 := by simpa using hc
    rw [if_neg (show ¬ (7 + c = 0) by omega)]
    simpa using h8 c hc
  · have hc : c < 2 := by simpa using hc
    rw [if_neg (show ¬ (5 + c = 0) by omega)]
    simpa using h9 c hc
  · have hc : c < 2 * t 0 2 := by simpa using hc
    rw [if_neg (show ¬ (52 + c = 0) by omega)]
    simpa using h10 c hc
  · have hc : c < 96 := by simpa using hc
    rw [if_neg (show ¬ (176 + c = 0) by omega)]
    simpa using h11 c hc
theorem RXt_many {S : sn_S} {t : gT} (h : RXt S t) {v : Nat} : RXt (sn_pI S 2 8 (nI v)) (tU t 0 0 v) := by
  unfold RXt at h ⊢
  simp only [sI_get, tU]
  obtain ⟨h1, h2, h3, h4, h5, h6, h7, h8, h9, h10, h11⟩ := h
  refine ⟨by simp, by simpa using h2, by simpa using h3, by simpa using h4, fun c hc => ?_, fun c hc => ?_, fun c hc => ?_, fun c hc => ?_, fun c hc => ?_, fun c hc => ?_, fun c hc => ?_⟩
  · simpa using h5 c (by simpa using hc)
  · simpa using h6 c (by simpa using hc)
  · simpa using h7 c (by simpa using hc)
  · simpa using h8 c (by simpa using hc)
  · simpa using h9 c (by simpa using hc)
  · simpa using h10 c (by simpa using hc)
  · simpa using h11 c (by simpa using hc)
theorem RMt_nspots {S : sn_S} {t : gT} (h : RMt S t) {v : Nat} : RMt (sn_pI S 2 1 (nI v)) (tU t 0 1 v) := by
  unfold RMt at h ⊢
  simp only [sM_get, tU]
  obtain ⟨h1, h2, h3, h4, h5, h6, h7, h8, h9, h10, h11⟩ := h
  refine ⟨by rw [if_neg (show ¬ (0 = 1) by omega)]; simpa using h1, by simp, by rw [if_neg (show ¬ (4 = 1) by omega)]; simpa using h3, by rw [if_neg (show ¬ (3 = 1) by omega)]; simpa using h4, fun c hc => ?_, fun c hc => ?_, fun c hc => ?_, fun c hc => ?_, fun c hc => ?_, fun c hc => ?_, fun c hc => ?_⟩
  · have hc : c < 96 := by simpa using hc
    rw [if_neg (show ¬ (80 + c = 1) by omega)]
    simpa using h5 c hc
  · have hc : c < 36 := by simpa using hc
    rw [if_neg (show ¬ (16 + c = 1) by omega)]
    simpa using h6 c hc
  · have hc : c < 4 := by simpa using hc
    rw [if_neg (show ¬ (12 + c = 1) by omega)]
    simpa using h7 c hc
  · have hc : c < 5 := by simpa using hc
    rw [if_neg (show ¬ (7 + c = 1) by omega)]
    simpa using h8 c hc
  · have hc : c < 2 := by simpa using hc
    rw [if_neg (show ¬ (5 + c = 1) by omega)]
    simpa using h9 c hc
  · have hc : c < 2 * t 0 2 := by simpa using hc
    rw [if_neg (show ¬ (52 + c = 1) by omega)]
    simpa using h10 c hc
  · have hc : c < 96 := by simpa using hc
    rw [if_neg (show ¬ (176 + c = 1) by omega)]
    simpa using h11 c hc
theorem RXt_nspots {S : sn_S} {t : gT} (h : RXt S t) {v : Nat} : RXt (sn_pI S 2 9 (nI v)) (tU t 0 1 v) := by
  unfold RXt at h ⊢
  simp only [sI_get, tU]
  obtain ⟨h1, h2, h3, h4, h5, h6, h7, h8, h9, h10, h11⟩ := h
  refine ⟨by simpa using h1, by simp, by simpa using h3, by simpa using h4, fun c hc => ?_, fun c hc => ?_, fun c hc => ?_, fun c hc => ?_, fun c hc => ?_, fun c hc => ?_, fun c hc => ?_⟩
  · simpa using h5 c (by simpa using hc)
  · simpa using h6 c (by simpa using hc)
  · simpa using h7 c (by simpa using hc)
  · simpa using h8 c (by simpa using hc)
  · simpa using h9 c (by simpa using hc)
  · simpa using h10 c (by simpa using hc)
  · simpa using h11 c (by simpa using hc)
theorem RMt_force {S : sn_S} {t : gT} (h : RMt S t) {v : Nat} : RMt (sn_pI S 2 3 (nI v - nI 1)) (tU t 0 3 v) := by
  unfold RMt at h ⊢
  simp only [sM_get, tU]
  obtain ⟨h1, h2, h3, h4, h5, h6, h7, h8, h9, h10, h11⟩ := h
  refine ⟨by rw [if_neg (show ¬ (0 = 3) by omega)]; simpa using h1, by rw [if_neg (show ¬ (1 = 3) by omega)]; simpa using h2, by rw [if_neg (show ¬ (4 = 3) by omega)]; simpa using h3, by simp, fun c hc => ?_, fun c hc => ?_, fun c hc => ?_, fun c hc => ?_, fun c hc => ?_, fun c hc => ?_, fun c hc => ?_⟩
  · have hc : c < 96 := by simpa using hc
    rw [if_neg (show ¬ (80 + c = 3) by omega)]
    simpa using h5 c hc
  · have hc : c < 36 := by simpa using hc
    rw [if_neg (show ¬ (16 + c = 3) by omega)]
    simpa using h6 c hc
  · have hc : c < 4 := by simpa using hc
    rw [if_neg (show ¬ (12 + c = 3) by omega)]
    simpa using h7 c hc
  · have hc : c < 5 := by simpa using hc
    rw [if_neg (show ¬ (7 + c = 3) by omega)]
    simpa using h8 c hc
  · have hc : c < 2 := by simpa using hc
    rw [if_neg (show ¬ (5 + c = 3) by omega)]
    simpa using h9 c hc
  · have hc : c < 2 * t 0 2 := by simpa using hc
    rw [if_neg (show ¬ (52 + c = 3) by omega)]
    simpa using h10 c hc
  · have hc : c < 96 := by simpa using hc
    rw [if_neg (show ¬ (176 + c = 3) by omega)]
    simpa using h11 c hc
theorem RXt_force {S : sn_S} {t : gT} (h : RXt S t) {v : Nat} : RXt (sn_pI S 2 11 (nI v - nI 1)) (tU t 0 3 v) := by
  unfold RXt at h ⊢
  simp only [sI_get, tU]
  obtain ⟨h1, h2, h3, h4, h5, h6, h7, h8, h9, h10, h11⟩ := h
  refine ⟨by simpa using h1, by simpa using h2, by simpa using h3, by simp, fun c hc => ?_, fun c hc => ?_, fun c hc => ?_, fun c hc => ?_, fun c hc => ?_, fun c hc => ?_, fun c hc => ?_⟩
  · simpa using h5 c (by simpa using hc)
  · simpa using h6 c (by simpa using hc)
  · simpa using h7 c (by simpa using hc)
  · simpa using h8 c (by simpa using hc)
  · simpa using h9 c (by simpa using hc)
  · simpa using h10 c (by simpa using hc)
  · simpa using h11 c (by simpa using hc)
