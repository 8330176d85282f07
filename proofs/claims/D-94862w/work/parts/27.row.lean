/-! THE PLAIN LAW, ninth part: row() -/
set_option maxRecDepth 100000
def tp (S : sn_S) : Nat → Nat := fun k => (S.1 5 k).toNatClampNeg
theorem PT_T {SX SM : sn_S} {n : Nat} (h : PT SX SM n) {k : Nat} (hk : k < 400) : tp SM k < 256 ∧ SM.1 5 k = nI (tp SM k) ∧ SX.1 11 k = xB (tp SM k) := by
  obtain ⟨b, h1, h2, h3⟩ := h.2.2.2 k hk
  have : tp SM k = b := by rw [tp, h2, pn_nat (by omega)]
  rw [this]
  exact ⟨h1, h2, h3⟩
theorem xB_and : ∀ b, b < 256 → xB b &&& 255 = nI b := by decide +kernel
/-- needed, decided -/
def ndb (t : gT) (c : Nat) : Nat → Bool
  | 0 => false
  | k + 1 => ndb t c k || (t 4 (6 * k) == c || t 4 (6 * k + 1) == c)
theorem ndb_iff {t : gT} {c : Nat} : ∀ k, ndb t c k = true ↔ nd t k c
  | 0 => by
    unfold ndb
    constructor
    · intro h
      exact absurd h (by decide)
    · rintro ⟨s, hs, _⟩
      exact absurd hs (Nat.not_lt_zero _)
  | k + 1 => by
    rw [nd_succ, ← ndb_iff k]
    simp [ndb]
/-- the first m bytes are taken as a row -/
def tR (t : gT) (T : Nat → Nat) : Nat → gT
  | 0 => t
  | m + 1 => if T m < 10 then tU (tR t T m) 3 m (T m) else if T m = 200 ∧ ndb t m (t 0 0) = false then tU (tR t T m) 9 m 1 else tR t T m
def tN (t : gT) (T : Nat → Nat) : Nat → Nat
  | 0 => 0
  | m + 1 => tN t T m + (if T m < 10 ∨ (T m = 200 ∧ ndb t m (t 0 0) = false) then 1 else 0)
theorem tN_le (t : gT) (T : Nat → Nat) : ∀ m, tN t T m ≤ m
  | 0 => Nat.le_refl _
  | m + 1 => by
    have := tN_le t T m
    unfold tN
    split <;> omega
theorem tR_k (t : gT) (T : Nat → Nat) {k : Nat} (h3 : k ≠ 3) (h9 : k ≠ 9) : ∀ m i, tR t T m k i = t k i
  | 0, i => rfl
  | m + 1, i => by
    unfold tR
    split
    · rw [tU_k _ _ _ _ h3, tR_k t T h3 h9 m i]
    · split
      · rw [tU_k _ _ _ _ h9, tR_k t T h3 h9 m i]
      · exact tR_k t T h3 h9 m i
theorem tU_row (t : gT) (k i v : Nat) {k2 : Nat} (h : k2 ≠ k) : tU t k i v k2 = t k2 := by
  funext j
  exact tU_k t i v j h
theorem tG_damp {t : gT} (h : tG t) {i v : Nat} (hv : v ≤ 9) : tG (tU t 3 i v) := by
  unfold tG at h ⊢
  simp only [tU_row _ _ _ _ (show (0 : Nat) ≠ 3 by decide), tU_row _ _ _ _ (show (4 : Nat) ≠ 3 by decide), tU_row _ _ _ _ (show (5 : Nat) ≠ 3 by decide), tU_row _ _ _ _ (show (6 : Nat) ≠ 3 by decide), tU_row _ _ _ _ (show (7 : Nat) ≠ 3 by decide), tU_row _ _ _ _ (show (8 : Nat) ≠ 3 by decide), tU_row _ _ _ _ (show (9 : Nat) ≠ 3 by decide)]
  obtain ⟨h1, h2, h3, h4, h5, h6⟩ := h
  refine ⟨h1, h2, h3, h4, fun c hc => ?_, h6⟩
  by_cases e : c = i
  · subst e
    rw [tU_eq]
    exact hv
  · rw [tU_i _ _ _ e]
    exact h5 c hc
theorem tG_salt {t : gT} (h : tG t) {i v : Nat} (hv : v ≤ 1) : tG (tU t 9 i v) := by
  unfold tG at h ⊢
  simp only [tU_row _ _ _ _ (show (0 : Nat) ≠ 9 by decide), tU_row _ _ _ _ (show (4 : Nat) ≠ 9 by decide), tU_row _ _ _ _ (show (5 : Nat) ≠ 9 by decide), tU_row _ _ _ _ (show (6 : Nat) ≠ 9 by decide), tU_row _ _ _ _ (show (7 : Nat) ≠ 9 by decide), tU_row _ _ _ _ (show (8 : Nat) ≠ 9 by decide), tU_row _ _ _ _ (show (3 : Nat) ≠ 9 by decide)]
  obtain ⟨h1, h2, h3, h4, h5, h6, h7, h8, h9, h10, h11⟩ := h
  refine ⟨h1, h2, h3, h4, h5, h6, h7, h8, h9, h10, fun c hc => ?_⟩
  by_cases e : c = i
  · subst e
    rw [tU_eq]
    exact hv
  · rw [tU_i _ _ _ e]
    exact h11 c hc
theorem tG_R {t : gT} (h : tG t) (T : Nat → Nat) : ∀ m, tG (tR t T m)
  | 0 => h
  | m + 1 => by
    unfold tR
    split
    · exact tG_damp (tG_R h T m) (by omega)
    · split
      · exact tG_salt (tG_R h T m) (by omega)
      · exact tG_R h T m
theorem nd_R {t : gT} (T : Nat → Nat) (m k c : Nat) : nd (tR t T m) k c ↔ nd t k c := by
  unfold nd
  simp only [tR_k t T (show (4 : Nat) ≠ 3 by decide) (show (4 : Nat) ≠ 9 by decide)]
/-- what a row leaves as it was -/
def agR (S S' : sn_S) : Prop := (∀ k, k ≠ 3 → k ≠ 9 → S'.1 k = S.1 k) ∧ S'.2 = S.2
def agQ (S S' : sn_S) : Prop := (∀ k, k ≠ 0 → k ≠ 2 → S'.1 k = S.1 k) ∧ (∀ i, i ≠ 6 → S'.1 0 i = S.1 0 i) ∧ (∀ j, j < 80 ∨ 272 ≤ j → S'.1 2 j = S.1 2 j) ∧ S'.2 = S.2
theorem x_row {w : sn_W} {S : sn_S} {t : gT} {n : Nat} {T : Nat → Nat} (hg : tG t) (hX : RXt S t) (hn : n ≤ 400) (h5 : S.1 0 5 = nI n) (hT : ∀ k, k < 400 → T k < 256 ∧ S.1 11 k = xB (T k)) {Q : Int32 → sn_S → Prop}
    (hok : ∀ S' : sn_S, n ≠ 0 → RXt S' (tR t T (min n 96)) → agR (sn_pI S 0 5 0) S' → Q (nI (tN t T (min n 96))) (xTold (sn_pI S' 0 7 (nI (n - tN t T (min n 96))))))
    (hno : n = 0 → Q (-6) (xRef (sn_pI S 0 5 0) (-6) 6)) : wpX0_row w S Q := by
  simp only [wpX0_row, sn_lt]
  rw [h5]
  by_cases h0 : n = 0
  · subst h0
    exact bq_u rfl (x_refuse (i := 6) (by decide) (by decide) (hno rfl))
  · refine bq_v (fun e => h0 ((pn_eqN (j := 0) (by omega) (by decide)).mp e)) ?_
    have hX0 : RXt (sn_pI S 0 5 0) t := RXt_off hX 5 0 (by decide)
    refine sn_jn_by (fun k => ∀ S' : sn_S, RXt S' (tR t T (min n 96)) → agR (sn_pI S 0 5 0) S' → k (nI (tN t T (min n 96))) S') (fun S' h1 h2 => ?_) (fun k14 hk14 => ?_)
    · refine x_told (w := w) ?_
      rw [pn_sub (by have := tN_le t T (min n 96); omega)]
      exact hok S' h0 h1 h2
    · refine sn_lp3_inv (fun a i S' => ∃ m : Nat, m ≤ min n 96 ∧ i = nI m ∧ a = nI (tN t T m) ∧ RXt S' (tR t T m) ∧ agR (sn_pI S 0 5 0) S') (fun _ i _ => 96 - i.toNatClampNeg) ?_ 0 0 _ ⟨0, by omega, rfl, rfl, hX0, fun _ _ _ => rfl, rfl⟩
      rintro rc a i S' ⟨m, hm, rfl, rfl, hR, hA⟩ hrc
      rw [show (96 : Int32) = nI 96 from rfl, pn_leN (by omega) (by omega), pn_leN (by omega) (by omega)]
      by_cases hme : m = min n 96
      · subst hme
        by_cases hn9 : n ≤ 96
        · exact bq_t (by omega) (hk14 _ hR hA)
        · exact bq_f (by omega) (bq_t (by omega) (hk14 _ hR hA))
      · refine bq_f (by omega) (bq_f (by omega) ⟨pn_vp (by omega) (by decide), ?_⟩)
        have e11 : S'.1 11 m = xB (T m) := by
          rw [hA.1 11 (by decide) (by decide), sI_row _ _ _ (by decide)]
          exact (hT m (by omega)).2
        have hTm := (hT m (by omega)).1
        have hgR := tG_R hg T m
        rw [pn_nat (by omega), e11, xB_and _ hTm, show nI m + 1 = nI (m + 1) from pn_add m 1, show (10 : Int32) = nI 10 from rfl, show (200 : Int32) = nI 200 from rfl, pn_eqN (by omega) (by omega), pn_ltN (by omega) (by omega), pn_leN (by omega) (by omega)]
        have tle := tN_le t T m
        -- the step
        have step : ∀ S2 : sn_S, RXt S2 (tR t T (m + 1)) → agR (sn_pI S 0 5 0) S2 → rc (nI (tN t T (m + 1))) (nI (m + 1)) S2 := by
          intro S2 h1 h2
          refine hrc _ _ _ ⟨m + 1, by omega, rfl, rfl, h1, h2⟩ ?_
          rw [pn_nat (by omega), pn_nat (by omega)]
          omega
        have ag3 : ∀ (S2 : sn_S) (i : Nat) (v : Int32), agR (sn_pI S 0 5 0) S2 → agR (sn_pI S 0 5 0) (sn_pI S2 3 i v) := by
          intro S2 i v h
          exact ⟨fun k h3 h9 => by rw [sI_row _ _ _ h3]; exact h.1 k h3 h9, h.2⟩
        have ag9 : ∀ (S2 : sn_S) (i : Nat) (v : Int32), agR (sn_pI S 0 5 0) S2 → agR (sn_pI S 0 5 0) (sn_pI S2 9 i v) := by
          intro S2 i v h
          exact ⟨fun k h3 h9 => by rw [sI_row _ _ _ h9]; exact h.1 k h3 h9, h.2⟩
        have hmany : tR t T m 0 0 = t 0 0 := tR_k t T (by decide) (by decide) m 0
        -- whether it salts
        refine sn_jn_by (fun k => ∀ b : Bool, (b = true ↔ T m = 200 ∧ ndb t m (t 0 0) = false) → k (bI (b = true))) (fun b hb => ?_) (fun k24 hk24 => ?_)
        · refine sn_jn_by (fun k => ∀ S2 : sn_S, (if T m < 10 then RXt S2 (tU (tR t T m) 3 m (T m)) else RXt S2 (tR t T m)) → agR (sn_pI S 0 5 0) S2 → k S2) (fun S2 h1 h2 => ?_) (fun k26 hk26 => ?_)
          · refine sn_jn_by (fun k => ∀ S3 : sn_S, RXt S3 (tR t T (m + 1)) → agR (sn_pI S 0 5 0) S3 → k S3) (fun S3 h3 h4 => ?_) (fun k28 hk28 => ?_)
            · refine sn_jn_by (fun k => k (if T m < 10 ∨ (T m = 200 ∧ ndb t m (t 0 0) = false) then 1 else 0)) ?_ (fun k30 hk30 => ?_)
              · have e : nI (tN t T m) + (if T m < 10 ∨ (T m = 200 ∧ ndb t m (t 0 0) = false) then 1 else 0) = nI (tN t T (m + 1)) := by
                  rw [show tN t T (m + 1) = tN t T m + (if T m < 10 ∨ (T m = 200 ∧ ndb t m (t 0 0) = false) then 1 else 0) from rfl, ← pn_add]
                  split <;> rfl
                rw [e]
                exact step S3 h3 h4
              · refine sn_jn_by (fun k => (T m < 10 ∨ (T m = 200 ∧ ndb t m (t 0 0) = false)) → k) (fun h => by rw [if_pos h] at hk30; exact hk30) (fun k32 hk32 => ?_)
                refine ⟨fun h => hk32 (Or.inl h), fun h => ⟨fun h2 => ?_, fun h2 => hk32 (Or.inr ?_)⟩⟩
                · rw [bI_0] at h2
                  rw [if_neg (fun hh => by rcases hh with hh | hh; exact h hh; exact h2 (hb.mpr hh))] at hk30
                  exact hk30
                · rw [bI_1] at h2
                  exact hb.mp h2
            · refine ⟨fun h => hk28 _ ?_ h2, fun h => ⟨pn_vp (by omega) (by decide), hk28 _ ?_ (ag9 _ _ _ h2)⟩⟩
              · rw [bI_0] at h
                unfold tR
                by_cases h10 : T m < 10
                · rw [if_pos h10] at h1 ⊢
                  exact h1
                · rw [if_neg h10] at h1 ⊢
                  rw [if_neg (fun hh => h (hb.mpr hh))]
                  exact h1
              · rw [bI_1] at h
                have hh := hb.mp h
                unfold tR
                rw [if_neg (by omega)] at h1 ⊢
                rw [if_pos hh]
                exact RXt_salt (v := 1) h1
          · refine ⟨fun h => hk26 _ (by rw [if_neg (by omega)]; exact hR) hA, fun h => ⟨pn_vp (by omega) (by decide), hk26 _ (by rw [if_pos (by omega)]; exact RXt_damp hR) (ag3 _ _ _ hA)⟩⟩
        · refine sn_jn_by (fun k => (¬ (T m = 200 ∧ ndb t m (t 0 0) = false)) → k) (fun h => ?_) (fun k35 hk35 => ?_)
          · have := hk24 false ⟨fun e => absurd e (by decide), fun e => absurd e h⟩
            exact this
          · refine ⟨fun h => hk35 (fun hh => h hh.1), fun h => ?_⟩
            refine x_needed hgR hR (by omega) (fun hnd => bq_v i1 (hk35 ?_)) (fun hnd => bq_u rfl ?_)
            · rw [hmany, nd_R, ← ndb_iff] at hnd
              rw [hnd]
              exact fun hh => absurd hh.2 (by decide)
            · rw [hmany, nd_R, ← ndb_iff] at hnd
              have := hk24 true ⟨fun _ => ⟨h, by simpa using hnd⟩, fun _ => rfl⟩
              exact this
theorem agQ_80 {S S2 : sn_S} {m : Nat} (hm : m < 96) (v : Int32) (h : agQ S S2) : agQ S (sn_pI S2 2 (80 + m) v) :=
  ⟨fun k h0 h2 => by rw [sI_row _ _ _ h2]; exact h.1 k h0 h2, fun i hi => by rw [sI_row _ _ _ (by decide)]; exact h.2.1 i hi, fun j hj => by rw [sM_get, if_neg (by omega)]; exact h.2.2.1 j hj, h.2.2.2⟩
theorem agQ_176 {S S2 : sn_S} {m : Nat} (hm : m < 96) (v : Int32) (h : agQ S S2) : agQ S (sn_pI S2 2 (176 + m) v) :=
  ⟨fun k h0 h2 => by rw [sI_row _ _ _ h2]; exact h.1 k h0 h2, fun i hi => by rw [sI_row _ _ _ (by decide)]; exact h.2.1 i hi, fun j hj => by rw [sM_get, if_neg (by omega)]; exact h.2.2.1 j hj, h.2.2.2⟩
theorem agQ_6 {S S2 : sn_S} (v : Int32) (h : agQ S S2) : agQ S (sn_pI S2 0 6 v) :=
  ⟨fun k h0 h2 => by rw [sI_row _ _ _ h0]; exact h.1 k h0 h2, fun i hi => by rw [sI_get, if_neg (by omega)]; exact h.2.1 i hi, fun j hj => by rw [sI_row _ _ _ (by decide)]; exact h.2.2.1 j hj, h.2.2.2⟩
theorem m_row {S : sn_S} {t : gT} {n : Nat} {T : Nat → Nat} (hg : tG t) (hM : RMt S t) (hn : n ≤ 400) (h5 : S.1 0 8 = nI n) (hT : ∀ k, k < 400 → T k < 256 ∧ S.1 5 k = nI (T k)) {Q : Int32 → sn_S → Prop}
    (hok : ∀ S' : sn_S, n ≠ 0 → RMt S' (tR t T (min n 96)) → agQ (sn_pI (mT S) 0 8 0) S' → S'.1 0 6 = nI (n - tN t T (min n 96)) → Q (nI (tN t T (min n 96))) (mTold S'))
    (hno : n = 0 → Q (-6) (mRef (sn_pI (mT S) 0 8 0) (-6) 6)) : wpX9_row S Q := by
  simp only [wpX9_row, sn_lt]
  rw [show sn_pI S 0 0 0 = mT S from rfl]
  have e8 : (mT S).1 0 8 = nI n := by rw [mT, sI_get, if_neg (by omega)]; exact h5
  rw [e8]
  by_cases h0 : n = 0
  · subst h0
    exact bq_u rfl (m_tellN (i := 6) (by decide) (by decide) (by decide) (hno rfl))
  · refine bq_v (fun e => h0 ((pn_eqN (j := 0) (by omega) (by decide)).mp e)) ?_
    have hM0 : RMt (sn_pI (sn_pI (mT S) 0 8 0) 0 6 0) t := RMt_off (RMt_off (RMt_mT hM) 8 0 (by decide)) 6 0 (by decide)
    refine sn_jn_by (fun k => ∀ S' : sn_S, RMt S' (tR t T (min n 96)) → agQ (sn_pI (mT S) 0 8 0) S' → S'.1 0 6 = nI (n - tN t T (min n 96)) → k (nI (tN t T (min n 96))) S') (fun S' h1 h2 h3 => ?_) (fun k14 hk14 => ?_)
    · exact m_tellP ((pn_leN (i := 0) (by decide) (by have := tN_le t T (min n 96); omega)).mpr (Nat.zero_le _)) (hok S' h0 h1 h2 h3)
    · refine sn_lp3_inv (fun a i S' => ∃ m : Nat, m ≤ n ∧ i = nI m ∧ a = nI (tN t T (min m 96)) ∧ RMt S' (tR t T (min m 96)) ∧ agQ (sn_pI (mT S) 0 8 0) S' ∧ S'.1 0 6 = nI (m - tN t T (min m 96))) (fun _ i _ => 400 - i.toNatClampNeg) ?_ 0 0 _ ⟨0, by omega, rfl, rfl, hM0, agQ_6 _ ⟨fun _ _ _ => rfl, fun _ _ => rfl, fun _ _ => rfl, rfl⟩, by rw [sI_get, if_pos ⟨rfl, rfl⟩]; rfl⟩
      rintro rc a i S' ⟨m, hm, rfl, rfl, hR, hA, h6⟩ hrc
      rw [show (96 : Int32) = nI 96 from rfl, pn_leN (by omega) (by omega), pn_leN (by omega) (by omega)]
      by_cases hme : m = n
      · subst hme
        exact bq_t (Nat.le_refl _) (hk14 _ hR hA h6)
      · refine bq_f (by omega) ?_
        have e11 : S'.1 5 m = nI (T m) := by
          rw [hA.1 5 (by decide) (by decide), sI_row _ _ _ (by decide), mT, sI_row _ _ _ (by decide)]
          exact (hT m (by omega)).2
        have hTm := (hT m (by omega)).1
        have hgR := tG_R hg T (min m 96)
        have tle := tN_le t T (min m 96)
        have hmany : tR t T (min m 96) 0 0 = t 0 0 := tR_k t T (by decide) (by decide) _ 0
        rw [pn_nat (n := m) (by omega), e11, show (80 : Int32) + nI m = nI (80 + m) from pn_add 80 m, show (176 : Int32) + nI m = nI (176 + m) from pn_add 176 m, pn_nat (n := 80 + m) (by omega), pn_nat (n := 176 + m) (by omega), show nI m + 1 = nI (m + 1) from pn_add m 1, show (10 : Int32) = nI 10 from rfl, show (200 : Int32) = nI 200 from rfl, pn_eqN (by omega) (by omega), pn_leN (by omega) (by omega)]
        -- the two tests
        let cS : Prop := m < 96 ∧ T m = 200 ∧ ndb t m (t 0 0) = false
        let cD : Prop := m < 96 ∧ T m < 10
        refine sn_jn_by (fun k => ∀ z : Int32, (z = 1 ∧ cS) ∨ (z = 0 ∧ ¬ cS) → k z) (fun z hz => ?_) (fun k15 hk15 => ?_)
        · refine sn_jn_by (fun k => ∀ y : Int32, (y = 1 ∧ cD) ∨ (y = 0 ∧ ¬ cD) → k y) (fun y hy => ?_) (fun k17 hk17 => ?_)
          · refine sn_jn_by (fun k => ∀ S2 : sn_S, (cS → RMt S2 (tR t T (min (m + 1) 96))) → (¬ cS → RMt S2 (tR t T (min m 96))) → agQ (sn_pI (mT S) 0 8 0) S2 → S2.1 0 6 = nI (m - tN t T (min m 96)) → k S2) (fun S2 h1 h2 h3 h4 => ?_) (fun k19 hk19 => ?_)
            · refine sn_jn_by (fun k => ∀ S3 : sn_S, RMt S3 (tR t T (min (m + 1) 96)) → agQ (sn_pI (mT S) 0 8 0) S3 → S3.1 0 6 = nI (m - tN t T (min m 96)) → k S3) (fun S3 g1 g2 g3 => ?_) (fun k21 hk21 => ?_)
              · -- the counts
                have dd : Decidable (cS ∨ cD) := Classical.propDecidable _
                have count : tN t T (min (m + 1) 96) = tN t T (min m 96) + (if cS ∨ cD then 1 else 0) := by
                  by_cases hm9 : m < 96
                  · rw [show min (m + 1) 96 = m + 1 by omega, show min m 96 = m by omega]
                    by_cases hc : cS ∨ cD
                    · rw [if_pos hc, tN, if_pos]
                      rcases hc with hc | hc
                      · exact Or.inr hc.2
                      · exact Or.inl hc.2
                    · rw [if_neg hc, tN, if_neg]
                      rintro (h | h)
                      · exact hc (Or.inr ⟨hm9, h⟩)
                      · exact hc (Or.inl ⟨hm9, h⟩)
                  · rw [show min (m + 1) 96 = min m 96 by omega, if_neg (by rintro (h | h) <;> exact hm9 h.1)]
                    rfl
                have tle2 := tN_le t T (min (m + 1) 96)
                refine sn_jn_by (fun k => k (if cS ∨ cD then 1 else 0)) ?_ (fun k23 hk23 => ?_)
                · refine sn_jn_by (fun k => k (if cS ∨ cD then 0 else 1)) ?_ (fun k26 hk26 => ?_)
                  · rw [g3]
                    have e1 : nI (tN t T (min m 96)) + (if cS ∨ cD then 1 else 0) = nI (tN t T (min (m + 1) 96)) := by
                      rw [count, ← pn_add]
                      split <;> rfl
                    have e2 : nI (m - tN t T (min m 96)) + (if cS ∨ cD then 0 else 1) = nI (m + 1 - tN t T (min (m + 1) 96)) := by
                      rw [count]
                      split
                      · rw [show (0 : Int32) = nI 0 from rfl, pn_add]
                        congr 1
                        omega
                      · rw [show (1 : Int32) = nI 1 from rfl, pn_add]
                        congr 1
                        omega
                    rw [e1, e2]
                    refine hrc _ _ _ ⟨m + 1, by omega, rfl, rfl, RMt_off g1 6 _ (by decide), agQ_6 _ g2, by rw [sI_get, if_pos ⟨rfl, rfl⟩]⟩ ?_
                    rw [pn_nat (by omega), pn_nat (by omega)]
                    omega
                  · refine sn_jn_by (fun k => (cS ∨ cD) → k) (fun h => by rw [if_pos h] at hk26; exact hk26) (fun k28 hk28 => ?_)
                    refine ⟨fun h => hk28 (Or.inl ?_), fun h => ⟨fun h' => ?_, fun h' => hk28 (Or.inr ?_)⟩⟩
                    · rcases hz with ⟨_, hz⟩ | ⟨hz, _⟩
                      · exact hz
                      · exact absurd hz h
                    · rw [if_neg] at hk26
                      · exact hk26
                      · rintro (hc | hc)
                        · rcases hz with ⟨hz, _⟩ | ⟨_, hz⟩
                          · rw [hz] at h; exact absurd h (by decide)
                          · exact hz hc
                        · rcases hy with ⟨hy, _⟩ | ⟨_, hy⟩
                          · rw [hy] at h'; exact absurd h' (by decide)
                          · exact hy hc
                    · rcases hy with ⟨_, hy⟩ | ⟨hy, _⟩
                      · exact hy
                      · exact absurd hy h'
                · refine sn_jn_by (fun k => (cS ∨ cD) → k) (fun h => by rw [if_pos h] at hk23; exact hk23) (fun k28 hk28 => ?_)
                  refine ⟨fun h => hk28 (Or.inl ?_), fun h => ⟨fun h' => ?_, fun h' => hk28 (Or.inr ?_)⟩⟩
                  · rcases hz with ⟨_, hz⟩ | ⟨hz, _⟩
                    · exact hz
                    · exact absurd hz h
                  · rw [if_neg] at hk23
                    · exact hk23
                    · rintro (hc | hc)
                      · rcases hz with ⟨hz, _⟩ | ⟨_, hz⟩
                        · rw [hz] at h; exact absurd h (by decide)
                        · exact hz hc
                      · rcases hy with ⟨hy, _⟩ | ⟨_, hy⟩
                        · rw [hy] at h'; exact absurd h' (by decide)
                        · exact hy hc
                  · rcases hy with ⟨_, hy⟩ | ⟨hy, _⟩
                    · exact hy
                    · exact absurd hy h'
              · refine ⟨fun h => hk21 S2 ?_ h3 h4, fun h => ?_⟩
                · have hnD : ¬ cD := by
                    rcases hy with ⟨hy, _⟩ | ⟨_, hy⟩
                    · rw [hy] at h; exact absurd h (by decide)
                    · exact hy
                  by_cases hc : cS
                  · exact h1 hc
                  · have := h2 hc
                    by_cases hm9 : m < 96
                    · rw [show min (m + 1) 96 = m + 1 by omega]
                      rw [show min m 96 = m by omega] at this
                      unfold tR
                      rw [if_neg (fun hh => hnD ⟨hm9, hh⟩), if_neg (fun hh => hc ⟨hm9, hh⟩)]
                      exact this
                    · rw [show min (m + 1) 96 = min m 96 by omega]
                      exact this
                · have hD : cD := by
                    rcases hy with ⟨_, hy⟩ | ⟨hy, _⟩
                    · exact hy
                    · exact absurd hy h
                  have hm9 := hD.1
                  have hnS : ¬ cS := fun hh => by have h1 := hh.2.1; have h2 := hD.2; omega
                  have e5 : S2.1 5 m = nI (T m) := by
                    rw [h3.1 5 (by decide) (by decide), sI_row _ _ _ (by decide), mT, sI_row _ _ _ (by decide)]
                    exact (hT m (by omega)).2
                  refine ⟨pn_vp (by omega) (by decide), pn_vp (by omega) (by decide), hk21 _ ?_ (agQ_80 (by omega) _ h3) (by rw [sI_row _ _ _ (by decide)]; exact h4)⟩
                  rw [e5]
                  have := RMt_damp (v := T m) hgR (h2 hnS) hm9
                  rw [show min (m + 1) 96 = m + 1 by omega]
                  rw [show min m 96 = m by omega] at this
                  unfold tR
                  rw [if_pos hD.2]
                  exact this
            · refine ⟨fun h => hk19 _ (fun hc => ?_) (fun _ => hR) hA h6, fun h => ?_⟩
              · rcases hz with ⟨hz, _⟩ | ⟨_, hz⟩
                · rw [hz] at h; exact absurd h (by decide)
                · exact absurd hc hz
              · have hS : cS := by
                  rcases hz with ⟨_, hz⟩ | ⟨hz, _⟩
                  · exact hz
                  · exact absurd hz h
                have hm9 := hS.1
                refine ⟨pn_vp (by omega) (by decide), hk19 _ (fun _ => ?_) (fun hc => absurd hS hc) (agQ_176 (by omega) _ hA) (by rw [sI_row _ _ _ (by decide)]; exact h6)⟩
                have := RMt_salt (v := 1) hgR hR hm9
                rw [show min (m + 1) 96 = m + 1 by omega]
                rw [show min m 96 = m by omega] at this
                unfold tR
                rw [if_neg (by have := hS.2.1; omega), if_pos hS.2]
                exact this
          · refine sn_jn_by (fun k => ¬ cD → k) (fun h => hk17 0 (Or.inr ⟨rfl, h⟩)) (fun k32 hk32 => ?_)
            exact ⟨fun h => hk32 (fun hh => by have := hh.1; omega), fun h => ⟨pn_vp (by omega) (by decide), fun h2 => hk32 (fun hh => by have := hh.2; omega), fun h2 => hk17 1 (Or.inl ⟨rfl, by omega, by omega⟩)⟩⟩
        · refine sn_jn_by (fun k => ¬ cS → k) (fun h => hk15 0 (Or.inr ⟨rfl, h⟩)) (fun k33 hk33 => ?_)
          refine ⟨fun h => hk33 (fun hh => by have := hh.1; omega), fun h => ⟨pn_vp (by omega) (by decide), fun h2 => hk33 (fun hh => h2 hh.2.1), fun h2 => ?_⟩⟩
          refine m_needed hgR hR (by omega) (fun hnd => bq_v i1 (hk33 ?_)) (fun hnd => bq_u rfl (hk15 1 (Or.inl ⟨rfl, by omega, h2, ?_⟩)))
          · rw [hmany, nd_R, ← ndb_iff] at hnd
            rintro ⟨_, _, h3⟩
            rw [hnd] at h3
            exact absurd h3 (by decide)
          · rw [hmany, nd_R, ← ndb_iff] at hnd
            simpa using hnd
