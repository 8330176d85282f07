/-! THE PLAIN LAW, nineteenth part: the model's lantern -/
set_option maxRecDepth 100000
theorem creep_5 (t : gT) (F : gF) (g : gT) (s m sp : Nat) : creep t F g s m sp 5 0 = g 5 0 := by simp [creep]
theorem minuteN_5 (t : gT) (F : gF) (m sp : Nat) (g : gT) : ∀ n, minuteN t F m sp g n 5 0 = g 5 0
  | 0 => rfl
  | n + 1 => by
    unfold minuteN stepS
    split
    · rw [creep_5, minuteN_5 t F m sp g n]
    · exact minuteN_5 t F m sp g n
theorem mins_5 (t : gT) (F : gF) (a sp : Nat) (g : gT) : ∀ n, mins t F a sp g n 5 0 = g 5 0
  | 0 => rfl
  | n + 1 => by
    unfold mins minute
    rw [minuteN_5, mins_5 t F a sp g n]
theorem dawn_5 {t : gT} (hg : tG t) : dawn t 5 0 = 0 := (gG_dawn hg _ (Nat.le_refl _)).2
theorem gp_5 {t : gT} {F : gF} {p : Nat → Nat} (hg : tG t) : ∀ h, gp t F p h 5 0 = 0
  | 0 => dawn_5 hg
  | h + 1 => by
    unfold gp hour
    rw [mins_5, gp_5 hg h]
/-- but for all that days and plans leave -/
def agV (S S' : sn_S) : Prop := (∀ k, k ≠ 0 → (k < 13 ∨ 28 < k) → S'.1 k = S.1 k) ∧ (∀ i, i ≠ 27 → i ≠ 30 → i ≠ 44 → i ≠ 45 → i ≠ 46 → S'.1 0 i = S.1 0 i) ∧ (∀ k, k ≠ 0 → k ≠ 13 → k ≠ 14 → S'.2.1 k = S.2.1 k) ∧ (∀ i, i ≠ 31 → i ≠ 32 → S'.2.1 0 i = S.2.1 0 i) ∧ S'.2.2 = S.2.2
theorem agV_refl (S : sn_S) : agV S S := ⟨fun _ _ _ => rfl, fun _ _ _ _ _ _ => rfl, fun _ _ _ _ => rfl, fun _ _ _ => rfl, rfl⟩
theorem agV_trans {S1 S2 S3 : sn_S} (h : agV S1 S2) (k : agV S2 S3) : agV S1 S3 := ⟨fun i h0 h1 => (k.1 i h0 h1).trans (h.1 i h0 h1), fun i h1 h2 h3 h4 h5 => (k.2.1 i h1 h2 h3 h4 h5).trans (h.2.1 i h1 h2 h3 h4 h5), fun i h0 h1 h2 => (k.2.2.1 i h0 h1 h2).trans (h.2.2.1 i h0 h1 h2), fun i h1 h2 => (k.2.2.2.1 i h1 h2).trans (h.2.2.2.1 i h1 h2), k.2.2.2.2.trans h.2.2.2.2⟩
theorem agV_G {S S' : sn_S} (h : agG S S') : agV S S' := ⟨fun k h0 h1 => h.1 k h0 (by omega) (by omega) (by omega) (by omega) (by omega) (by omega), fun i h1 h2 _ _ _ => h.2.1 i h1 h2, h.2.2⟩
theorem agV_I {S S' : sn_S} (h : agV S S') {k : Nat} (hk : 15 ≤ k ∧ k ≤ 28) (i : Nat) (v : Int32) : agV S (sn_pI S' k i v) := ⟨fun j h0 h1 => by rw [sI_row _ _ _ (by omega)]; exact h.1 j h0 h1, fun j h1 h2 h3 h4 h5 => by rw [sI_row _ _ _ (by omega)]; exact h.2.1 j h1 h2 h3 h4 h5, h.2.2⟩
theorem agV_0 {S S' : sn_S} (h : agV S S') {i : Nat} (hi : i = 44 ∨ i = 45 ∨ i = 46) (v : Int32) : agV S (sn_pI S' 0 i v) := ⟨fun j h0 h1 => by rw [sI_row _ _ _ h0]; exact h.1 j h0 h1, fun j h1 h2 h3 h4 h5 => by rw [sI_get, if_neg (by omega)]; exact h.2.1 j h1 h2 h3 h4 h5, h.2.2⟩
theorem RMt_V {S S' : sn_S} {t : gT} (h : RMt S t) (a : agV S S') : RMt S' t := by
  unfold RMt at h ⊢
  rw [a.1 2 (by decide) (by decide)]
  exact h
theorem RFm_V {S S' : sn_S} {t : gT} {F : gF} (h : RFm S t F) (a : agV S S') : RFm S' t F := RFm_ag h (a.1 2 (by decide) (by decide))
/-- a garden laid aside -/
def RK (S : sn_S) (t : gT) (h : Nat) (g : gT) : Prop := (∀ s, s < t 0 0 → S.1 21 (6 * h + s) = nI (g 1 s)) ∧ (∀ s, s < t 0 0 → S.1 22 (6 * h + s) = nI (g 2 s) - nI 1) ∧ (∀ c, c < 96 → S.1 23 (96 * h + c) = nI (g 4 c))
/-- rows 21 to 23 alone -/
def agK (S S' : sn_S) : Prop := (∀ k, k ≠ 21 → k ≠ 22 → k ≠ 23 → S'.1 k = S.1 k) ∧ S'.2 = S.2
theorem agV_K {S S' : sn_S} (h : agK S S') : agV S S' := ⟨fun k h0 h1 => h.1 k (by omega) (by omega) (by omega), fun i _ _ _ _ _ => by rw [h.1 0 (by decide) (by decide) (by decide)], fun k _ _ _ => by rw [h.2], fun i _ _ => by rw [h.2], by rw [h.2]⟩
theorem m_keep {S : sn_S} {t g : gT} {h : Nat} (hg : tG t) (hW : RG S t g) (hh : h ≤ 5) {Q : sn_S → Prop} (k : ∀ S', agK S S' → RK S' t h g → (∀ h' g', h' ≤ 5 → h' ≠ h → RK S t h' g' → RK S' t h' g') → Q S') : wpX9_keepGarden (nI h) S Q := by
  unfold wpX9_keepGarden
  have h6 := hg.1
  rw [show (6 : Int32) * nI h = nI (6 * h) from pn_mul 6 h, show (96 : Int32) * nI h = nI (96 * h) from pn_mul 96 h]
  refine sn_jn_by (fun k2 => ∀ S', agK S S' → S'.1 23 = S.1 23 → (∀ j, S'.1 21 j = if 6 * h ≤ j ∧ j < 6 * h + 6 then S.1 15 (j - 6 * h) else S.1 21 j) → (∀ j, S'.1 22 j = if 6 * h ≤ j ∧ j < 6 * h + 6 then S.1 16 (j - 6 * h) else S.1 22 j) → k2 S') (fun S1 A1 e23 e21 e22 => ?_) (fun k2 hk2 => ?_)
  · refine sn_lp2_inv (fun i S' => ∃ n : Nat, n ≤ 96 ∧ i = nI n ∧ agK S S' ∧ S'.1 21 = S1.1 21 ∧ S'.1 22 = S1.1 22 ∧ (∀ j, S'.1 23 j = if 96 * h ≤ j ∧ j < 96 * h + n then S.1 18 (j - 96 * h) else S.1 23 j)) (fun i _ => 96 - i.toNatClampNeg) ?_ _ _ ⟨0, Nat.zero_le _, rfl, A1, rfl, rfl, fun j => by rw [if_neg (by omega), e23]⟩
    rintro rc i S2 ⟨n, hn, rfl, B1, B2, B3, B4⟩ hrc
    rw [show (96 : Int32) = nI 96 from rfl, pn_leN (by omega) (by omega)]
    by_cases hne : n = 96
    · subst hne
      refine bq_t (Nat.le_refl _) (k S2 B1 ⟨fun s hs => ?_, fun s hs => ?_, fun c hc => ?_⟩ (fun h' g' h5 hne hK => ⟨fun s hs => ?_, fun s hs => ?_, fun c hc => ?_⟩))
      · rw [B2, e21, if_pos (by omega), show 6 * h + s - 6 * h = s by omega]
        exact hW.1 s hs
      · rw [B3, e22, if_pos (by omega), show 6 * h + s - 6 * h = s by omega]
        exact hW.2.1 s hs
      · rw [B4, if_pos (by omega), show 96 * h + c - 96 * h = c by omega]
        exact hW.2.2.1 c hc
      · rw [B2, e21, if_neg (by omega)]
        exact hK.1 s hs
      · rw [B3, e22, if_neg (by omega)]
        exact hK.2.1 s hs
      · rw [B4, if_neg (by omega)]
        exact hK.2.2 c hc
    · refine bq_f (by omega) ?_
      rw [pn_add, pn_nat (n := 96 * h + n) (by omega), pn_nat (n := n) (by omega), show nI n + 1 = nI (n + 1) from pn_add n 1, B1.1 18 (by decide) (by decide) (by decide)]
      refine ⟨pn_vp (by omega) (by decide), pn_vp (by omega) (by decide), ?_⟩
      simp only [sn_lt]
      refine hrc _ _ ⟨n + 1, by omega, rfl, ⟨fun k h1 h2 h3 => by rw [sI_row _ _ _ h3]; exact B1.1 k h1 h2 h3, B1.2⟩, by rw [sI_row _ _ _ (by decide)]; exact B2, by rw [sI_row _ _ _ (by decide)]; exact B3, fun j => ?_⟩ (by rw [pn_nat (by omega), pn_nat (by omega)]; omega)
      rw [sI_get]
      by_cases e : j = 96 * h + n
      · rw [if_pos ⟨rfl, e⟩, if_pos (by omega), show j - 96 * h = n by omega]
      · rw [if_neg (fun hh => e hh.2), B4]
        by_cases e2 : 96 * h ≤ j ∧ j < 96 * h + n
        · rw [if_pos e2, if_pos (by omega)]
        · rw [if_neg e2, if_neg (by omega)]
  · refine sn_lp2_inv (fun i S' => ∃ n : Nat, n ≤ 6 ∧ i = nI n ∧ agK S S' ∧ S'.1 23 = S.1 23 ∧ (∀ j, S'.1 21 j = if 6 * h ≤ j ∧ j < 6 * h + n then S.1 15 (j - 6 * h) else S.1 21 j) ∧ (∀ j, S'.1 22 j = if 6 * h ≤ j ∧ j < 6 * h + n then S.1 16 (j - 6 * h) else S.1 22 j)) (fun i _ => 6 - i.toNatClampNeg) ?_ _ _ ⟨0, Nat.zero_le _, rfl, ⟨fun _ _ _ _ => rfl, rfl⟩, rfl, fun j => by rw [if_neg (by omega)], fun j => by rw [if_neg (by omega)]⟩
    rintro rc i S2 ⟨n, hn, rfl, B1, B2, B3, B4⟩ hrc
    rw [show (6 : Int32) = nI 6 from rfl, pn_leN (by omega) (by omega)]
    by_cases hne : n = 6
    · subst hne
      exact bq_t (Nat.le_refl _) (hk2 S2 B1 B2 B3 B4)
    · refine bq_f (by omega) ?_
      rw [pn_add, pn_nat (n := 6 * h + n) (by omega), pn_nat (n := n) (by omega), show nI n + 1 = nI (n + 1) from pn_add n 1]
      have v6 : vp_in (nI n) 6 := pn_vp (by omega) (by decide)
      have v36 : vp_in (nI (6 * h + n)) 36 := pn_vp (by omega) (by decide)
      refine ⟨v6, v36, ?_⟩
      simp only [sn_lt]
      refine ⟨v6, v36, ?_⟩
      rw [sI_row _ _ _ (show (16 : Nat) ≠ 21 by decide), B1.1 15 (by decide) (by decide) (by decide), B1.1 16 (by decide) (by decide) (by decide)]
      refine hrc _ _ ⟨n + 1, by omega, rfl, ⟨fun k h1 h2 h3 => by rw [sI_row _ _ _ h2, sI_row _ _ _ h1]; exact B1.1 k h1 h2 h3, B1.2⟩, by rw [sI_row _ _ _ (by decide), sI_row _ _ _ (by decide)]; exact B2, fun j => ?_, fun j => ?_⟩ (by rw [pn_nat (by omega), pn_nat (by omega)]; omega)
      · rw [sI_row _ _ _ (by decide), sI_get]
        by_cases e : j = 6 * h + n
        · rw [if_pos ⟨rfl, e⟩, if_pos (by omega), show j - 6 * h = n by omega]
        · rw [if_neg (fun hh => e hh.2), B3]
          by_cases e2 : 6 * h ≤ j ∧ j < 6 * h + n
          · rw [if_pos e2, if_pos (by omega)]
          · rw [if_neg e2, if_neg (by omega)]
      · rw [sI_get]
        by_cases e : j = 6 * h + n
        · rw [if_pos ⟨rfl, e⟩, if_pos (by omega), show j - 6 * h = n by omega]
        · rw [if_neg (fun hh => e hh.2), sI_row _ _ _ (by decide), B4]
          by_cases e2 : 6 * h ≤ j ∧ j < 6 * h + n
          · rw [if_pos e2, if_pos (by omega)]
          · rw [if_neg e2, if_neg (by omega)]
/-- rows 15, 16, 18 alone -/
def agB (S S' : sn_S) : Prop := (∀ k, k ≠ 15 → k ≠ 16 → k ≠ 18 → S'.1 k = S.1 k) ∧ S'.2 = S.2
theorem agV_B {S S' : sn_S} (h : agB S S') : agV S S' := ⟨fun k h0 h1 => h.1 k (by omega) (by omega) (by omega), fun i _ _ _ _ _ => by rw [h.1 0 (by decide) (by decide) (by decide)], fun k _ _ _ => by rw [h.2], fun i _ _ => by rw [h.2], by rw [h.2]⟩
theorem m_back {S : sn_S} {t g : gT} {h : Nat} (hg : tG t) (hK : RK S t h g) (h17 : ∀ s, s < t 0 0 → S.1 17 s = nI (bt (g 5 0) s)) (hh : h ≤ 5) {Q : sn_S → Prop} (k : ∀ S', agB S S' → RG S' t g → Q S') : wpX9_backTo (nI h) S Q := by
  unfold wpX9_backTo
  have h6 := hg.1
  rw [show (6 : Int32) * nI h = nI (6 * h) from pn_mul 6 h, show (96 : Int32) * nI h = nI (96 * h) from pn_mul 96 h]
  refine sn_jn_by (fun k2 => ∀ S', agB S S' → (∀ s, s < 6 → S'.1 15 s = S.1 21 (6 * h + s)) → (∀ s, s < 6 → S'.1 16 s = S.1 22 (6 * h + s)) → k2 S') (fun S1 A1 e15 e16 => ?_) (fun k2 hk2 => ?_)
  · refine sn_lp2_inv (fun i S' => ∃ n : Nat, n ≤ 96 ∧ i = nI n ∧ agB S S' ∧ S'.1 15 = S1.1 15 ∧ S'.1 16 = S1.1 16 ∧ (∀ c, c < n → S'.1 18 c = S.1 23 (96 * h + c))) (fun i _ => 96 - i.toNatClampNeg) ?_ _ _ ⟨0, Nat.zero_le _, rfl, A1, rfl, rfl, fun c hc => absurd hc (Nat.not_lt_zero _)⟩
    rintro rc i S2 ⟨n, hn, rfl, B1, B2, B3, B4⟩ hrc
    rw [show (96 : Int32) = nI 96 from rfl, pn_leN (by omega) (by omega)]
    by_cases hne : n = 96
    · subst hne
      refine bq_t (Nat.le_refl _) (k S2 B1 ⟨fun s hs => ?_, fun s hs => ?_, fun c hc => ?_, fun s hs => ?_⟩)
      · rw [B2, e15 s (by omega)]
        exact hK.1 s hs
      · rw [B3, e16 s (by omega)]
        exact hK.2.1 s hs
      · rw [B4 c hc]
        exact hK.2.2 c hc
      · rw [B1.1 17 (by decide) (by decide) (by decide)]
        exact h17 s hs
    · refine bq_f (by omega) ?_
      rw [pn_add, pn_nat (n := 96 * h + n) (by omega), pn_nat (n := n) (by omega), show nI n + 1 = nI (n + 1) from pn_add n 1, B1.1 23 (by decide) (by decide) (by decide)]
      refine ⟨pn_vp (by omega) (by decide), pn_vp (by omega) (by decide), ?_⟩
      simp only [sn_lt]
      refine hrc _ _ ⟨n + 1, by omega, rfl, ⟨fun k h1 h2 h3 => by rw [sI_row _ _ _ h3]; exact B1.1 k h1 h2 h3, B1.2⟩, by rw [sI_row _ _ _ (by decide)]; exact B2, by rw [sI_row _ _ _ (by decide)]; exact B3, fun c hc => ?_⟩ (by rw [pn_nat (by omega), pn_nat (by omega)]; omega)
      rw [sI_get]
      by_cases e : c = n
      · rw [if_pos ⟨rfl, e⟩, e]
      · rw [if_neg (fun hh => e hh.2)]
        exact B4 c (by omega)
  · refine sn_lp2_inv (fun i S' => ∃ n : Nat, n ≤ 6 ∧ i = nI n ∧ agB S S' ∧ (∀ s, s < n → S'.1 15 s = S.1 21 (6 * h + s)) ∧ (∀ s, s < n → S'.1 16 s = S.1 22 (6 * h + s))) (fun i _ => 6 - i.toNatClampNeg) ?_ _ _ ⟨0, Nat.zero_le _, rfl, ⟨fun _ _ _ _ => rfl, rfl⟩, fun c hc => absurd hc (Nat.not_lt_zero _), fun c hc => absurd hc (Nat.not_lt_zero _)⟩
    rintro rc i S2 ⟨n, hn, rfl, B1, B3, B4⟩ hrc
    rw [show (6 : Int32) = nI 6 from rfl, pn_leN (by omega) (by omega)]
    by_cases hne : n = 6
    · subst hne
      exact bq_t (Nat.le_refl _) (hk2 S2 B1 B3 B4)
    · refine bq_f (by omega) ?_
      rw [pn_add, pn_nat (n := 6 * h + n) (by omega), pn_nat (n := n) (by omega), show nI n + 1 = nI (n + 1) from pn_add n 1]
      have v6 : vp_in (nI n) 6 := pn_vp (by omega) (by decide)
      have v36 : vp_in (nI (6 * h + n)) 36 := pn_vp (by omega) (by decide)
      refine ⟨v36, v6, ?_⟩
      simp only [sn_lt]
      refine ⟨v36, v6, ?_⟩
      rw [sI_row _ _ _ (show (22 : Nat) ≠ 15 by decide), B1.1 21 (by decide) (by decide) (by decide), B1.1 22 (by decide) (by decide) (by decide)]
      refine hrc _ _ ⟨n + 1, by omega, rfl, ⟨fun k h1 h2 h3 => by rw [sI_row _ _ _ h2, sI_row _ _ _ h1]; exact B1.1 k h1 h2 h3, B1.2⟩, fun s hs => ?_, fun s hs => ?_⟩ (by rw [pn_nat (by omega), pn_nat (by omega)]; omega)
      · rw [sI_row _ _ _ (by decide), sI_get]
        by_cases e : s = n
        · rw [if_pos ⟨rfl, e⟩, e]
        · rw [if_neg (fun hh => e hh.2)]
          exact B3 s (by omega)
      · rw [sI_get]
        by_cases e : s = n
        · rw [if_pos ⟨rfl, e⟩, e]
        · rw [if_neg (fun hh => e hh.2), sI_row _ _ _ (by decide)]
          exact B4 s (by omega)
/-- the model's numbers -/
def RB (S : sn_S) (a : gA) : Prop := S.1 0 44 = nI a.1 - nI 1 ∧ S.1 0 45 = nI a.2.1 ∧ S.1 0 46 = nI a.2.2.1 ∧ a.1 ≤ 7 ∧ a.2.1 ≤ 1000 ∧ (a.1 ≠ 0 → ∀ h, h < 5 → S.1 25 h = nI (a.2.2.2 h) - nI 1)
/-- ints 44 to 46 of the object, row 25 -/
def agN (S S' : sn_S) : Prop := (∀ k, k ≠ 0 → k ≠ 25 → S'.1 k = S.1 k) ∧ (∀ i, i ≠ 44 → i ≠ 45 → i ≠ 46 → S'.1 0 i = S.1 0 i) ∧ S'.2 = S.2
theorem agN_0 {S S' : sn_S} (h : agN S S') {i : Nat} (hi : i = 44 ∨ i = 45 ∨ i = 46) (v : Int32) : agN S (sn_pI S' 0 i v) := ⟨fun k h0 h1 => by rw [sI_row _ _ _ h0]; exact h.1 k h0 h1, fun j h1 h2 h3 => by rw [sI_get, if_neg (by omega)]; exact h.2.1 j h1 h2 h3, h.2.2⟩
theorem agN_25 {S S' : sn_S} (h : agN S S') (i : Nat) (v : Int32) : agN S (sn_pI S' 25 i v) := ⟨fun k h0 h1 => by rw [sI_row _ _ _ h1]; exact h.1 k h0 h1, fun j h1 h2 h3 => by rw [sI_row _ _ _ (by decide)]; exact h.2.1 j h1 h2 h3, h.2.2⟩
theorem agV_N {S S' : sn_S} (h : agN S S') : agV S S' := ⟨fun k h0 h1 => h.1 k h0 (by omega), fun i _ _ h1 h2 h3 => h.2.1 i h1 h2 h3, fun k _ _ _ => by rw [h.2.2], fun i _ _ => by rw [h.2.2], by rw [h.2.2]⟩
theorem lt_m1 : ∀ M, M < 9 → ∀ n, n < 9 → (nI M - nI 1 < nI n ↔ M < n + 1) := by decide +kernel
theorem eq_m1 : ∀ M, M < 9 → ∀ n, n < 9 → (nI n = nI M - nI 1 ↔ n + 1 = M) := by decide +kernel
theorem m_is {b s : Nat} (hb : b < 64) (hs : s < 6) {Q : Int32 → Prop} (h : Q (nI (bt b s))) : wpX9_is (nI b) (nI s) Q := by
  unfold wpX9_is
  rw [bits_bt b hb s hs]
  have := bt_lt b s
  rcases (show bt b s = 0 ∨ bt b s = 1 by omega) with e | e <;> rw [e] at h ⊢
  · exact bq_v (by decide) h
  · exact bq_u (by decide) h
theorem m_weigh {S : sn_S} {t g : gT} {sn : Nat} {p : Nat → Nat} {a : gA} (hg : tG t) (hM : RMt S t) (hW : RG S t g) (hG : gG t g) (hs64 : sn < 64) (hrow : ∀ h, h < 5 → S.1 24 h = nI (p h) - nI 1) (hA : RB S a) {Q : sn_S → Prop} (k : ∀ S', agN S S' → RB S' (wgh (wn t g sn) (wsum t g sn) p a) → Q S') : wpX9_weigh (nI sn) S Q := by
  unfold wpX9_weigh
  have h6 := hg.1
  obtain ⟨a1, a2, a3, a4, a5, a6⟩ := hA
  have hwn := wn_le hg g sn
  have hws := wsum_le hg hG sn
  refine sn_jn_by (fun k12 => k12 (nI (wn t g sn)) (nI (wsum t g sn))) ?_ (fun k12 hk12 => ?_)
  · generalize wn t g sn = n at hwn k ⊢
    generalize wsum t g sn = su at hws k ⊢
    let better : Prop := a.1 < n + 1 ∨ (n + 1 = a.1 ∧ su < a.2.1)
    -- the count, behind
    refine sn_jn_by (fun k5 => (¬ better → k5 S) ∧ (better → ∀ S', agN S S' → S'.1 0 44 = nI n → S'.1 0 45 = nI su → S'.1 0 46 = 0 → (∀ h, h < 5 → S'.1 25 h = nI (p h) - nI 1) → k5 S')) ⟨fun bb => ?_, fun bb S' A' e44 e45 e46 e25 => ?_⟩ (fun k5 hk5 => ?_)
    · have h1 : ¬ a.1 < n + 1 := fun h => bb (Or.inl h)
      have h2 : ¬ (n + 1 = a.1 ∧ su < a.2.1) := fun h => bb (Or.inr h)
      have fin : ∀ (a' : gA) (v : Int32), wgh n su p a = a' → a'.1 = a.1 → a'.2.1 = a.2.1 → a'.2.2.2 = a.2.2.2 → nI a.2.2.1 + v = nI a'.2.2.1 → Q (sn_pI S 0 46 (S.1 0 46 + v)) := by
        intro a' v e1 e2 e3 e4 e5
        rw [e1] at k
        refine k _ (agN_0 ⟨fun _ _ _ => rfl, fun _ _ _ _ => rfl, rfl⟩ (Or.inr (Or.inr rfl)) _) ⟨by rw [sI_get, if_neg (by omega), e2]; exact a1, by rw [sI_get, if_neg (by omega), e3]; exact a2, by rw [sI_get, if_pos ⟨rfl, rfl⟩, a3, e5], by omega, by omega, fun hne h hh => ?_⟩
        rw [sI_row _ _ _ (by decide), e4]
        exact a6 (by omega) h hh
      rw [a1, a2, eq_m1 _ (by omega) _ (by omega), pn_eqN (by omega) (by omega)]
      by_cases c1 : n + 1 = a.1
      · by_cases c2 : su = a.2.1
        · refine bq_u c1 (bq_u c2 (fin (a.1, a.2.1, a.2.2.1 + 1, a.2.2.2) 1 ?_ rfl rfl rfl (pn_add _ 1)))
          unfold wgh
          rw [if_neg bb, if_pos ⟨c1, c2⟩]
        · refine bq_u c1 (bq_v c2 (fin a 0 ?_ rfl rfl rfl (pn_add _ 0)))
          unfold wgh
          rw [if_neg bb, if_neg (fun h => c2 h.2)]
      · refine bq_v c1 (fin a 0 ?_ rfl rfl rfl (pn_add _ 0))
        unfold wgh
        rw [if_neg bb, if_neg (fun h => c1 h.1)]
    · have ew : wgh n su p a = (n + 1, su, 1, p) := by
        unfold wgh
        rw [if_pos bb]
      rw [ew] at k
      rw [e44, e45]
      refine bq_u rfl (bq_u rfl (k _ (agN_0 A' (Or.inr (Or.inr rfl)) _) ⟨?_, ?_, ?_, by simp; omega, by simp; omega, fun _ h hh => ?_⟩))
      · rw [sI_get, if_neg (by omega), e44, pn_sub (by simp)]
        rfl
      · rw [sI_get, if_neg (by omega)]
        exact e45
      · rw [sI_get, if_pos ⟨rfl, rfl⟩, e46]
        rfl
      · rw [sI_row _ _ _ (by decide)]
        exact e25 h hh
    · refine sn_jn_by (fun k9 => better → k9) (fun bb => ?_) (fun k9 hk9 => ?_)
      · simp only [sn_lt]
        have A0 : agN S (sn_pI (sn_pI (sn_pI S 0 44 (nI n)) 0 45 (nI su)) 0 46 0) := agN_0 (agN_0 (agN_0 ⟨fun _ _ _ => rfl, fun _ _ _ _ => rfl, rfl⟩ (Or.inl rfl) _) (Or.inr (Or.inl rfl)) _) (Or.inr (Or.inr rfl)) _
        refine sn_lp2_inv (fun i S' => ∃ m : Nat, m ≤ 5 ∧ i = nI m ∧ agN S S' ∧ S'.1 0 44 = nI n ∧ S'.1 0 45 = nI su ∧ S'.1 0 46 = 0 ∧ (∀ h, h < m → S'.1 25 h = nI (p h) - nI 1)) (fun i _ => 5 - i.toNatClampNeg) ?_ _ _ ⟨0, Nat.zero_le _, rfl, A0, by simp [sI_get], by simp [sI_get], by simp [sI_get], fun c hc => absurd hc (Nat.not_lt_zero _)⟩
        rintro rc i S2 ⟨m, hm, rfl, B1, B2, B3, B4, B5⟩ hrc
        rw [show (5 : Int32) = nI 5 from rfl, pn_leN (by omega) (by omega)]
        by_cases hne : m = 5
        · subst hne
          exact bq_t (Nat.le_refl _) (hk5.2 bb S2 B1 B2 B3 B4 B5)
        · refine bq_f (by omega) ?_
          rw [pn_nat (n := m) (by omega), show nI m + 1 = nI (m + 1) from pn_add m 1, B1.1 24 (by decide) (by decide), hrow m (by omega)]
          have v5 : vp_in (nI m) 5 := pn_vp (by omega) (by decide)
          refine ⟨v5, v5, hrc _ _ ⟨m + 1, by omega, rfl, agN_25 B1 _ _, by rw [sI_row _ _ _ (by decide)]; exact B2, by rw [sI_row _ _ _ (by decide)]; exact B3, by rw [sI_row _ _ _ (by decide)]; exact B4, fun h hh => ?_⟩ (by rw [pn_nat (by omega), pn_nat (by omega)]; omega)⟩
          rw [sI_get]
          by_cases e : h = m
          · rw [if_pos ⟨rfl, e⟩, e]
          · rw [if_neg (fun hh => e hh.2)]
            exact B5 h (by omega)
      · rw [a1, a2, lt_m1 _ (by omega) _ (by omega), eq_m1 _ (by omega) _ (by omega), pn_leN (by omega) (by omega)]
        by_cases c1 : a.1 < n + 1
        · exact bq_t c1 (hk9 (Or.inl c1))
        · refine bq_f c1 ?_
          by_cases c2 : n + 1 = a.1
          · refine bq_u c2 ?_
            by_cases c3 : a.2.1 ≤ su
            · refine bq_t c3 (hk5.1 ?_)
              rintro (h | h) <;> omega
            · exact bq_f c3 (hk9 (Or.inr ⟨c2, by omega⟩))
          · refine bq_v c2 (hk5.1 ?_)
            rintro (h | h) <;> omega
  · unfold wn wsum at hk12
    simp only [sn_lt]
    refine sn_lp3_inv (fun x y i => ∃ n : Nat, n ≤ t 0 0 ∧ i = nI n ∧ x = nI (sms (fun s => if bt sn s = 1 ∧ g 2 s ≠ 0 then 1 else 0) n) ∧ y = nI (sms (fun s => if bt sn s = 1 ∧ g 2 s ≠ 0 then g 2 s - 1 else 0) n)) (fun _ _ i => 6 - i.toNatClampNeg) ?_ _ _ _ ⟨0, Nat.zero_le _, rfl, rfl, rfl⟩
    rintro rc x y i ⟨n, hn, rfl, rfl, rfl⟩ hrc
    rw [z0, hM.1, pn_leN (by omega) (by omega)]
    refine ⟨v0, ?_⟩
    by_cases hne : n = t 0 0
    · subst hne
      exact bq_t (Nat.le_refl _) hk12
    · have hlt : n < t 0 0 := by omega
      refine bq_f (by omega) ?_
      refine m_is hs64 (by omega) ?_
      have hbt := bt_lt sn n
      have r2 := hG.2.1 n hlt
      have v6 : vp_in (nI n) 6 := pn_vp (by omega) (by decide)
      rw [pn_nat (n := n) (by omega), hW.2.1 n hlt, show nI n + 1 = nI (n + 1) from pn_add n 1]
      have go : rc (nI (sms (fun s => if bt sn s = 1 ∧ g 2 s ≠ 0 then 1 else 0) (n + 1))) (nI (sms (fun s => if bt sn s = 1 ∧ g 2 s ≠ 0 then g 2 s - 1 else 0) (n + 1))) (nI (n + 1)) := hrc _ _ _ ⟨n + 1, by omega, rfl, rfl, rfl⟩ (by rw [pn_nat (by omega), pn_nat (by omega)]; omega)
      simp only [sms] at go
      by_cases cc : bt sn n = 1 ∧ g 2 n ≠ 0
      · rw [if_pos cc, if_pos cc, ← pn_add, ← pn_add] at go
        refine sn_jn_by (fun k23 => k23 1) ?_ (fun k23 hk23 => ?_)
        · refine sn_jn_by (fun k25 => k25 1) (sn_jn_by (fun k28 => k28 (nI (g 2 n - 1))) go (fun k28 hk28 => bq_f i1 ⟨v6, ?_⟩)) (fun k25 hk25 => bq_f i1 hk25)
          rw [sp_s cc.2]
          exact hk28
        · refine sn_jn_by (fun _ => True) trivial (fun k30 _ => bq_f (by rw [cc.1]; decide) ⟨v6, bq_f (fun e => cc.2 ((sp_m1 (by omega)).mp e)) hk23⟩)
      · rw [if_neg cc, if_neg cc, ← pn_add, ← pn_add] at go
        refine sn_jn_by (fun k23 => k23 0) ?_ (fun k23 hk23 => ?_)
        · exact sn_jn_by (fun k25 => k25 0) (sn_jn_by (fun k28 => k28 0) go (fun k28 hk28 => bq_t rfl hk28)) (fun k25 hk25 => bq_t rfl hk25)
        · refine sn_jn_by (fun k => k) hk23 (fun k30 hk30 => ?_)
          by_cases c1 : bt sn n = 0
          · exact bq_t (by rw [c1]; rfl) hk30
          · refine bq_f (fun e => c1 ((pn_eqN (j := 0) (by omega) (by decide)).mp e)) ⟨v6, ?_⟩
            have c2 : g 2 n = 0 := Classical.byContradiction (fun h => cc ⟨by omega, h⟩)
            exact bq_t ((sp_m1 (by omega)).mpr c2) hk30
theorem eq_mm : ∀ a, a < 9 → ∀ b, b < 9 → (nI a - nI 1 = nI b - nI 1 ↔ a = b) := by decide +kernel
/-- row 24 alone -/
def agP (S S' : sn_S) : Prop := (∀ k, k ≠ 24 → S'.1 k = S.1 k) ∧ S'.2 = S.2
theorem agV_P {S S' : sn_S} (h : agP S S') : agV S S' := ⟨fun k h0 h1 => h.1 k (by omega), fun i _ _ _ _ _ => by rw [h.1 0 (by decide)], fun k _ _ _ => by rw [h.2], fun i _ _ => by rw [h.2], by rw [h.2]⟩
theorem m_next {S : sn_S} {t : gT} {H : Nat} {p : Nat → Nat} (hg : tG t) (hM : RMt S t) (hH : H ≤ 5) (hp : ∀ j, j < 5 → p j ≤ t 0 1) (hrow : ∀ h, h < 5 → S.1 24 h = nI (p h) - nI 1) {Q : Int32 → sn_S → Prop} (k : ∀ h S', agP S S' → h < H → p h < t 0 1 → (∀ j, h < j → j < H → p j = t 0 1) → (∀ j, j < 5 → S'.1 24 j = nI (nx p h H j) - nI 1) → Q (nI h) S') (k0 : ∀ S', agP S S' → (∀ j, j < H → p j = t 0 1) → Q (-1) S') : wpX9_nextPlan (nI H) S Q := by
  unfold wpX9_nextPlan
  have h4 := hg.2.1
  simp only [sn_lt]
  have e1 : nI H - 1 = nI H - nI 1 := rfl
  rw [e1]
  have lt0 : ∀ c, c < 9 → (nI c - nI 1 < 0 ↔ c = 0) := by decide +kernel
  refine sn_jn_by (fun k4 => ∀ c S', c ≤ H → agP S S' → (∀ j, j < 5 → S'.1 24 j = if c ≤ j ∧ j < H then -1 else nI (p j) - nI 1) → (∀ j, c ≤ j → j < H → p j = t 0 1) → (c = 0 ∨ p (c - 1) < t 0 1) → k4 (nI c - nI 1) S') (fun c S' hc hA hr ht hx => ?_) (fun k4 hk4 => ?_)
  · rw [lt0 c (by omega)]
    by_cases c0 : c = 0
    · subst c0
      exact bq_t rfl (k0 S' hA (fun j hj => ht j (by omega) hj))
    · refine bq_f c0 ?_
      have hx' : p (c - 1) < t 0 1 := by
        rcases hx with h | h
        · exact absurd h c0
        · exact h
      rw [sp_s c0, pn_nat (n := c - 1) (by omega), hr (c - 1) (by omega), if_neg (by omega)]
      have v5 : vp_in (nI (c - 1)) 5 := pn_vp (by omega) (by decide)
      refine ⟨v5, v5, k (c - 1) _ ⟨fun k hk => by rw [sI_row _ _ _ hk]; exact hA.1 k hk, hA.2⟩ (by omega) hx' (fun j h1 h2 => ht j (by omega) h2) (fun j hj => ?_)⟩
      rw [sI_get]
      unfold nx
      by_cases e : j = c - 1
      · rw [if_pos ⟨rfl, e⟩, if_neg (by omega), if_pos e]
        exact sp_next _
      · rw [if_neg (fun hh => e hh.2), hr j hj]
        by_cases e2 : c ≤ j ∧ j < H
        · rw [if_pos e2, if_neg (by omega), if_neg e, if_pos e2.2]
          rfl
        · rw [if_neg e2]
          by_cases e3 : j < c - 1
          · rw [if_pos e3]
          · rw [if_neg e3, if_neg e, if_neg (by omega)]
  · refine sn_lp2_inv (fun i S' => ∃ c : Nat, c ≤ H ∧ i = nI c - nI 1 ∧ agP S S' ∧ (∀ j, j < 5 → S'.1 24 j = if c ≤ j ∧ j < H then -1 else nI (p j) - nI 1) ∧ (∀ j, c ≤ j → j < H → p j = t 0 1)) (fun i _ => (i + 1).toNatClampNeg) ?_ _ _ ⟨H, Nat.le_refl _, rfl, ⟨fun _ _ => rfl, rfl⟩, fun j hj => by rw [if_neg (by omega)]; exact hrow j hj, fun j h1 h2 => by omega⟩
    rintro rc i S2 ⟨c, hc, rfl, hA, hr, ht⟩ hrc
    rw [lt0 c (by omega)]
    by_cases c0 : c = 0
    · subst c0
      exact bq_t rfl (hk4 0 S2 (by omega) hA hr ht (Or.inl rfl))
    · refine bq_f c0 ?_
      have M2 : RMt S2 t := by
        unfold RMt at hM ⊢
        rw [hA.1 2 (by decide)]
        exact hM
      have v5 : vp_in (nI (c - 1)) 5 := pn_vp (by omega) (by decide)
      have hpc := hp (c - 1) (by omega)
      rw [show S2.1 2 (Int32.toNatClampNeg 1) - 1 = nI (t 0 1) - nI 1 by rw [show S2.1 2 (Int32.toNatClampNeg 1) = nI (t 0 1) from M2.2.1]; rfl]
      have eqn : (S2.1 24 (nI c - nI 1).toNatClampNeg = nI (t 0 1) - nI 1) ↔ p (c - 1) = t 0 1 := by
        rw [sp_s c0, pn_nat (n := c - 1) (by omega), hr (c - 1) (by omega), if_neg (by omega)]
        exact eq_mm _ (by omega) _ (by omega)
      rw [eqn]
      refine ⟨by rw [sp_s c0]; exact v5, v1, ?_⟩
      by_cases ce : p (c - 1) = t 0 1
      · refine bq_u ce ⟨by rw [sp_s c0]; exact v5, ?_⟩
        have en : nI c - nI 1 + (-1) = nI (c - 1) - nI 1 := by
          rw [sp_s c0, Int32.sub_eq_add_neg]
          rfl
        rw [en, sp_s c0, pn_nat (n := c - 1) (by omega)]
        refine hrc _ _ ⟨c - 1, by omega, rfl, ⟨fun k hk => by rw [sI_row _ _ _ hk]; exact hA.1 k hk, hA.2⟩, fun j hj => ?_, fun j h1 h2 => ?_⟩ ?_
        · rw [sI_get]
          by_cases e : j = c - 1
          · rw [if_pos ⟨rfl, e⟩, if_pos (by omega)]
          · rw [if_neg (fun hh => e hh.2), hr j hj]
            by_cases e2 : c ≤ j ∧ j < H
            · rw [if_pos e2, if_pos (by omega)]
            · rw [if_neg e2, if_neg (by omega)]
        · by_cases e : j = c - 1
          · rw [e]; exact ce
          · exact ht j (by omega) h2
        · rw [sp_next, sp_next, pn_sub (by omega), pn_sub (by omega), pn_nat (by omega), pn_nat (by omega)]
          omega
      · exact bq_v ce (hk4 c S2 hc hA hr ht (Or.inr (by omega)))
def pOf (S : sn_S) (H : Nat) : Nat → Nat := fun j => if j < H then (S.1 24 j + 1).toNatClampNeg else 0
theorem pOf_eq {S : sn_S} {H : Nat} {p : Nat → Nat} (hH : H ≤ 5) (hp : ∀ j, j < 5 → p j < 1000) (h0 : ∀ j, H ≤ j → p j = 0) (hrow : ∀ h, h < 5 → S.1 24 h = nI (p h) - nI 1) : pOf S H = p := by
  funext j
  unfold pOf
  by_cases e : j < H
  · have := hp j (by omega)
    rw [if_pos e, hrow j (by omega), sp_next, pn_sub (by omega), pn_nat (by omega)]
    omega
  · rw [if_neg e, h0 j (by omega)]
theorem RK_ag {S S' : sn_S} {t : gT} {h : Nat} {g : gT} (hK : RK S t h g) (e : ∀ k, 21 ≤ k → k ≤ 23 → S'.1 k = S.1 k) : RK S' t h g := by
  unfold RK at hK ⊢
  rw [e 21 (by decide) (by decide), e 22 (by decide) (by decide), e 23 (by decide) (by decide)]
  exact hK
theorem RB_ag {S S' : sn_S} {a : gA} (h : RB S a) (e : S'.1 25 = S.1 25) (e0 : ∀ i, 44 ≤ i → i ≤ 46 → S'.1 0 i = S.1 0 i) : RB S' a := by
  unfold RB at h ⊢
  rw [e, e0 44 (by decide) (by decide), e0 45 (by decide) (by decide), e0 46 (by decide) (by decide)]
  exact h
theorem bt0 (s : Nat) : bt 0 s = 0 := by simp [bt]
theorem m_find {S : sn_S} {t : gT} {F : gF} {H sn : Nat} (hg : tG t) (hM : RMt S t) (hF : RFm S t F) (h1 : 1 ≤ H) (hH : H ≤ 5) (hs : sn < 64) {Q : sn_S → Prop} (k : ∀ S', agV S S' → RB S' (lanA t F H sn) → Q S') : wpX9_findBest (nI H) (nI sn) S Q := by
  unfold wpX9_findBest
  have h4 := hg.2.1
  refine m_dawn hg hM (fun S1 A1 W1 R1 => ?_)
  have V1 := agV_G A1
  have five : (5 : Int32) = nI 5 := rfl
  refine sn_jn_by (fun k3 => ∀ S', agV S S' → RG S' t (dawn t) → (∀ j, j < 5 → S'.1 24 j = -1) → k3 S') (fun S2 V2 W2 e24 => ?_) (fun k3 hk3 => ?_)
  · simp only [sn_lt]
    have V5 : agV S (sn_pI (sn_pI (sn_pI S2 0 44 (-1)) 0 45 0) 0 46 0) := agV_0 (agV_0 (agV_0 V2 (Or.inl rfl) _) (Or.inr (Or.inl rfl)) _) (Or.inr (Or.inr rfl)) _
    have W5 : RG (sn_pI (sn_pI (sn_pI S2 0 44 (-1)) 0 45 0) 0 46 0) t (dawn t) := by
      unfold RG at W2 ⊢
      rw [sI_row _ _ _ (by decide), sI_row _ _ _ (by decide), sI_row _ _ _ (by decide), sI_row _ _ _ (by decide), sI_row _ _ _ (by decide), sI_row _ _ _ (by decide), sI_row _ _ _ (by decide), sI_row _ _ _ (by decide), sI_row _ _ _ (by decide), sI_row _ _ _ (by decide), sI_row _ _ _ (by decide), sI_row _ _ _ (by decide)]
      exact W2
    have r24 : (sn_pI (sn_pI (sn_pI S2 0 44 (-1)) 0 45 0) 0 46 0).1 24 = S2.1 24 := by rw [sI_row _ _ _ (by decide), sI_row _ _ _ (by decide), sI_row _ _ _ (by decide)]
    have B5 : RB (sn_pI (sn_pI (sn_pI S2 0 44 (-1)) 0 45 0) 0 46 0) (0, 0, 0, fun _ => 0) := ⟨by simp [sI_get]; rfl, by simp [sI_get]; rfl, by simp [sI_get]; rfl, by decide, by decide, fun h => absurd rfl h⟩
    generalize sn_pI (sn_pI (sn_pI S2 0 44 (-1)) 0 45 0) 0 46 0 = S5 at V5 W5 r24 B5 ⊢
    refine m_keep (h := 0) hg W5 (by omega) (fun S7 K7 R7 _ => ?_)
    have V7 := agV_trans V5 (agV_K K7)
    have z17 : ∀ s, s < t 0 0 → S7.1 17 s = nI (bt 0 s) := by
      intro s hs
      rw [K7.1 17 (by decide) (by decide) (by decide), W5.2.2.2 s hs, dawn_5 hg]
    refine sn_lp2_inv (fun i S' => (i = -1 ∧ agV S S' ∧ RB S' (lanA t F H sn)) ∨ ∃ (f : Nat) (p : Nat → Nat) (a : gA), i = nI f ∧ f < H ∧ (∀ j, p j ≤ t 0 1) ∧ (∀ j, H ≤ j → p j = 0) ∧ (∀ j, j < 5 → S'.1 24 j = nI (p j) - nI 1) ∧ (∀ h, h ≤ f → RK S' t h (gp t F p h)) ∧ (∀ s, s < t 0 0 → S'.1 17 s = nI (bt 0 s)) ∧ RB S' a ∧ fin (t 0 1) (leafL t F sn H) H 0 H p (leafL t F sn H p a) = lanA t F H sn ∧ agV S S') (fun i S' => if i = -1 then 0 else fin (t 0 1) one H 0 H (pOf S' H) 0 + 1) ?_ _ _ (Or.inr ⟨0, fun _ => 0, (0, 0, 0, fun _ => 0), rfl, by omega, fun _ => Nat.zero_le _, fun _ _ => rfl, fun j hj => by rw [K7.1 24 (by decide) (by decide) (by decide), r24, e24 j hj]; rfl, fun h hh => ?_, z17, RB_ag B5 (K7.1 25 (by decide) (by decide) (by decide)) (fun i _ _ => by rw [K7.1 0 (by decide) (by decide) (by decide)]), ?_, V7⟩)
    · rintro rc i S9 hI hrc
      rcases hI with ⟨rfl, hV, hB⟩ | ⟨f, p, a, rfl, hf, hp, hp0, h24, hK, h17, hB, hfin, hV⟩
      · exact bq_t rfl (k S9 hV hB)
      · have hne : ¬ nI f = -1 := by
          intro e
          have := (sp_m1 (n := f + 1) (by omega)).mp (by rw [pn_sub (by omega)]; exact e)
          omega
        have hμ : pOf S9 H = p := pOf_eq hH (fun j _ => by have := hp j; omega) hp0 h24
        rw [if_neg hne, hμ] at hrc
        refine bq_f hne ?_
        refine m_back hg (hK f (Nat.le_refl _)) (fun s hs => by rw [gp_5 hg]; exact h17 s hs) (by omega) (fun S11 B11 W11 => ?_)
        have V11 := agV_trans hV (agV_B B11)
        refine sn_jn_by (fun k13 => ∀ S', agV S S' → RG S' t (gp t F p H) → (∀ h, h ≤ H → RK S' t h (gp t F p h)) → S'.1 24 = S9.1 24 → RB S' a → k13 S') (fun S12 V12 W12 K12 e24' B12 => ?_) (fun k13 hk13 => ?_)
        · refine m_weigh (p := p) hg (RMt_V hM V12) W12 (gp_ok hg H hH).1 hs (fun h hh => by rw [e24']; exact h24 h hh) B12 (fun S14 N14 B14 => ?_)
          have V14 := agV_trans V12 (agV_N N14)
          refine m_next (p := p) hg (RMt_V hM V14) hH (fun j _ => hp j) (fun h hh => by rw [N14.1 24 (by decide) (by decide), e24']; exact h24 h hh) (fun h S16 P16 hh hph ht h24' => ?_) (fun S16 P16 ht => ?_)
          · have p' : ∀ j, nx p h H j ≤ t 0 1 := by
              intro j
              unfold nx
              split
              · exact hp j
              · split
                · omega
                · split
                  · omega
                  · exact hp j
            have p0' : ∀ j, H ≤ j → nx p h H j = 0 := by
              intro j hj
              unfold nx
              rw [if_neg (by omega), if_neg (by omega), if_neg (by omega)]
              exact hp0 j hj
            refine hrc _ _ (Or.inr ⟨h, nx p h H, leafL t F sn H p a, rfl, hh, p', p0', h24', fun h' hh' => ?_, fun s hs => ?_, RB_ag B14 (P16.1 25 (by decide)) (fun i _ _ => by rw [P16.1 0 (by decide)]), ?_, agV_trans V14 (agV_P P16)⟩) ?_
            · rw [← gp_congr (p := p) h' (fun j hj => by unfold nx; rw [if_pos (by omega)])]
              refine RK_ag (K12 h' (by omega)) (fun k h1 h2 => ?_)
              rw [P16.1 k (by omega), N14.1 k (by omega) (by omega)]
            · rw [P16.1 17 (by decide), N14.1 17 (by decide) (by decide), W12.2.2.2 s hs, gp_5 hg]
            · rw [← hfin]
              exact (fin_next _ hh hph ht).symm
            · have hμ' : pOf S16 H = nx p h H := pOf_eq hH (fun j _ => by have := p' j; omega) p0' h24'
              have hne' : ¬ nI h = -1 := by
                intro e
                have := (sp_m1 (n := h + 1) (by omega)).mp (by rw [pn_sub (by omega)]; exact e)
                omega
              rw [if_neg hne', hμ']
              have := fin_less hh hph ht
              omega
          · refine hrc _ _ (Or.inl ⟨rfl, agV_trans V14 (agV_P P16), ?_⟩) (by rw [if_pos rfl]; omega)
            rw [← hfin, fin_top H p _ (fun j _ hj => ht j (by omega))]
            exact RB_ag B14 (P16.1 25 (by decide)) (fun i _ _ => by rw [P16.1 0 (by decide)])
        · refine sn_lp2_inv (fun i S' => ∃ n : Nat, f ≤ n ∧ n ≤ H ∧ i = nI n ∧ agV S S' ∧ RG S' t (gp t F p n) ∧ (∀ h, h ≤ n → RK S' t h (gp t F p h)) ∧ S'.1 24 = S9.1 24 ∧ RB S' a) (fun i _ => 5 - i.toNatClampNeg) ?_ _ _ ⟨f, Nat.le_refl _, by omega, rfl, V11, W11, fun h hh => RK_ag (hK h hh) (fun k h1 h2 => B11.1 k (by omega) (by omega) (by omega)), B11.1 24 (by decide) (by decide) (by decide), RB_ag hB (B11.1 25 (by decide) (by decide) (by decide)) (fun i _ _ => by rw [B11.1 0 (by decide) (by decide) (by decide)])⟩
          rintro rc2 i S18 ⟨n, hfn, hn, rfl, V18, W18, K18, e24', B18⟩ hrc2
          rw [pn_leN (by omega) (by omega)]
          by_cases hne : n = H
          · subst hne
            exact bq_t (Nat.le_refl _) (hk13 S18 V18 W18 K18 e24' B18)
          · refine bq_f (by omega) ⟨pn_vp (by omega) (by decide), ?_⟩
            rw [pn_nat (n := n) (by omega), e24', h24 n (by omega), show nI n + 1 = nI (n + 1) from pn_add n 1]
            obtain ⟨G18, I18⟩ := gp_ok (F := F) (p := p) hg n (by omega)
            refine m_hour hg (RMt_V hM V18) (RFm_V hF V18) W18 G18 I18 (by omega) (hp n) (fun S20 A20 W20 _ _ => ?_)
            refine m_keep (h := n + 1) hg W20 (by omega) (fun S21 K21 R21 O21 => ?_)
            have r : ∀ k, 21 ≤ k → S20.1 k = S18.1 k := fun k hk => A20.1 k (by omega) (by omega) (by omega) (by omega) (by omega) (by omega) (by omega)
            refine hrc2 _ _ ⟨n + 1, by omega, by omega, rfl, agV_trans V18 (agV_trans (agV_G A20) (agV_K K21)), ?_, fun h hh => ?_, ?_, ?_⟩ (by rw [pn_nat (by omega), pn_nat (by omega)]; omega)
            · have W20' : RG S20 t (gp t F p (n + 1)) := W20
              unfold RG at W20' ⊢
              rw [K21.1 15 (by decide) (by decide) (by decide), K21.1 16 (by decide) (by decide) (by decide), K21.1 17 (by decide) (by decide) (by decide), K21.1 18 (by decide) (by decide) (by decide)]
              exact W20'
            · by_cases e : h = n + 1
              · subst e
                exact R21
              · exact O21 h _ (by omega) e (RK_ag (K18 h (by omega)) (fun k h1 h2 => r k h1))
            · rw [K21.1 24 (by decide) (by decide) (by decide), r 24 (by decide)]
              exact e24'
            · exact RB_ag B18 (by rw [K21.1 25 (by decide) (by decide) (by decide), r 25 (by decide)]) (fun i h1 h2 => by rw [K21.1 0 (by decide) (by decide) (by decide), A20.2.1 i (by omega) (by omega)])
    · have : h = 0 := by omega
      subst this
      exact R7
    · exact (tr_fin (N := t 0 1) (leaf := leafL t F sn H) (H := H) H 0 (fun _ => 0) (0, 0, 0, fun _ => 0) (by omega) (fun _ _ _ => rfl)).symm
  · refine sn_lp2_inv (fun i S' => ∃ n : Nat, n ≤ 5 ∧ i = nI n ∧ agV S S' ∧ RG S' t (dawn t) ∧ (∀ j, j < n → S'.1 24 j = -1)) (fun i _ => 5 - i.toNatClampNeg) ?_ _ _ ⟨0, Nat.zero_le _, rfl, V1, W1, fun j hj => absurd hj (Nat.not_lt_zero _)⟩
    rintro rc i S2 ⟨n, hn, rfl, hV, hW, hr⟩ hrc
    rw [five, pn_leN (by omega) (by omega)]
    by_cases hne : n = 5
    · subst hne
      exact bq_t (Nat.le_refl _) (hk3 S2 hV hW hr)
    · refine bq_f (by omega) ?_
      have v5 : vp_in (nI n) 5 := pn_vp (by omega) (by decide)
      simp only [sn_lt]
      rw [pn_nat (n := n) (by omega), show nI n + 1 = nI (n + 1) from pn_add n 1]
      refine ⟨v5, v5, hrc _ _ ⟨n + 1, by omega, rfl, agV_I (agV_I hV ⟨by decide, by decide⟩ _ _) ⟨by decide, by decide⟩ _ _, ?_, fun j hj => ?_⟩ (by rw [pn_nat (by omega), pn_nat (by omega)]; omega)⟩
      · unfold RG at hW ⊢
        rw [sI_row _ _ _ (by decide), sI_row _ _ _ (by decide), sI_row _ _ _ (by decide), sI_row _ _ _ (by decide), sI_row _ _ _ (by decide), sI_row _ _ _ (by decide), sI_row _ _ _ (by decide), sI_row _ _ _ (by decide)]
        exact hW
      · rw [sI_row _ _ _ (by decide), sI_get]
        by_cases e : j = n
        · rw [if_pos ⟨rfl, e⟩]
        · rw [if_neg (fun hh => e hh.2)]
          exact hr j (by omega)
