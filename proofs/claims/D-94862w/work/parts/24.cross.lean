/-! THE PLAIN LAW, sixth part: crossings -/
set_option maxRecDepth 100000
def tX (t : gT) (a b : Nat) : gT := tU (tU (tU t 8 (2 * t 0 2) a) 8 (2 * t 0 2 + 1) b) 0 2 (t 0 2 + 1)
theorem RXt_cross {S : sn_S} {t : gT} (h : RXt S t) (a b : Nat) : RXt (sn_pI (sn_pI (sn_pI S 8 (2 * t 0 2) (nI a)) 8 (2 * t 0 2 + 1) (nI b)) 2 10 (nI (t 0 2 + 1))) (tX t a b) := by
  unfold RXt at h ⊢
  obtain ⟨h1, h2, h3, h4, h5, h6, h7, h8, h9, h10, h11⟩ := h
  simp only [sI_get, tX, tU]
  refine ⟨by simpa using h1, by simpa using h2, by simp, by simpa using h4, fun c hc => by simpa using h5 c hc, fun c hc => by simpa using h6 c hc, fun c hc => by simpa using h7 c hc, fun c hc => by simpa using h8 c hc, fun c hc => by simpa using h9 c hc, fun c hc => ?_, fun c hc => by simpa using h11 c hc⟩
  have hc : c < 2 * (t 0 2 + 1) := by simpa using hc
  by_cases e1 : c = 2 * t 0 2 + 1
  · subst e1
    simp
  · by_cases e2 : c = 2 * t 0 2
    · subst e2
      simp
    · have := h10 c (by omega)
      simp [e1, e2, this]
theorem RMt_cross {S : sn_S} {t : gT} (hg : tG t) (hn : t 0 2 < 12) (h : RMt S t) (a b : Nat) : RMt (sn_pI (sn_pI (sn_pI S 2 (52 + 2 * t 0 2) (nI a)) 2 (52 + 2 * t 0 2 + 1) (nI b)) 2 4 (nI (t 0 2 + 1))) (tX t a b) := by
  unfold RMt at h ⊢
  obtain ⟨h1, h2, h3, h4, h5, h6, h7, h8, h9, h10, h11⟩ := h
  simp only [sM_get, tX, tU]
  have far : ∀ (x : Nat) (v : Int32), x ≠ 4 → (x < 52 ∨ 76 ≤ x) → (if x = 4 then nI (t 0 2 + 1) else if x = 52 + 2 * t 0 2 + 1 then nI b else if x = 52 + 2 * t 0 2 then nI a else S.1 2 x) = S.1 2 x := by
    intro x v h1 h2
    rw [if_neg h1, if_neg (by omega), if_neg (by omega)]
  refine ⟨by rw [far 0 0 (by omega) (by omega)]; simpa using h1, by rw [far 1 0 (by omega) (by omega)]; simpa using h2, by simp, by rw [far 3 0 (by omega) (by omega)]; simpa using h4, fun c hc => by rw [far _ 0 (by omega) (by omega)]; simpa using h5 c hc, fun c hc => by rw [far _ 0 (by omega) (by omega)]; simpa using h6 c hc, fun c hc => by rw [far _ 0 (by omega) (by omega)]; simpa using h7 c hc, fun c hc => by rw [far _ 0 (by omega) (by omega)]; simpa using h8 c hc, fun c hc => ?_, fun c hc => ?_, fun c hc => by rw [far _ 0 (by omega) (by omega)]; simpa using h11 c hc⟩
  · by_cases e : c = 0
    · subst e
      rw [far _ 0 (by omega) (by omega)]
      simpa using h9 0 (by omega)
    · rw [far _ 0 (by omega) (by omega)]
      simpa using h9 c hc
  · have hc : c < 2 * (t 0 2 + 1) := by simpa using hc
    rw [if_neg (by omega)]
    by_cases e1 : c = 2 * t 0 2 + 1
    · subst e1
      rw [if_pos (by omega)]
      simp
    · by_cases e2 : c = 2 * t 0 2
      · subst e2
        rw [if_neg (by omega), if_pos rfl]
        simp
      · rw [if_neg (by omega), if_neg (by omega), h10 c (by omega)]
        simp [e1, e2]
/-- cross(over, under) -/
theorem o_cross {w : sn_W} {SX SM : sn_S} {t : gT} (hg : tG t) (hX : RXt SX t) (hM : RMt SM t) (a b : Int32) {K : Int32 → sn_S → Int32 → sn_S → Prop}
    (hok : ∀ i j : Nat, i < t 0 0 → j < t 0 0 → i ≠ j → t 0 2 < 12 → K (nI (t 0 2 + 1)) (xTold (sn_pI (sn_pI (sn_pI SX 8 (2 * t 0 2) (nI i)) 8 (2 * t 0 2 + 1) (nI j)) 2 10 (nI (t 0 2 + 1)))) (nI (t 0 2 + 1)) (mTold (sn_pI (sn_pI (sn_pI (mT SM) 2 (52 + 2 * t 0 2) (nI i)) 2 (52 + 2 * t 0 2 + 1) (nI j)) 2 4 (nI (t 0 2 + 1)))))
    (hno : ∀ c i, (c = -1 ∧ i = 1) ∨ (c = -2 ∧ i = 2) ∨ (c = -5 ∧ i = 5) → K c (xRef SX c i) c (mRef (mT SM) c i)) : wpX0_cross w a b SX (fun r S1 => wpX9_cross a b SM (fun r2 S2 => K r S1 r2 S2)) := by
  simp only [wpX0_cross, wpX9_cross, sn_lt]
  have hM' := RMt_mT hM
  have h6 := hg.1
  have h12 := hg.2.2.1
  have xr : ∀ (c : Int32) (i : Nat) (Q : Int32 → sn_S → Prop), -c = nI i → i < 7 → Q c (xRef SX c i) → wpX0_refuse w c SX Q := fun c i Q h1 h2 h => x_refuse h1 h2 h
  have tl : ∀ (c : Int32) (i : Nat) (Q : Int32 → sn_S → Prop), ¬ 0 ≤ c → -c = nI i → i < 7 → Q c (mRef (mT SM) c i) → wpX9_tell c (sn_pI SM 0 0 0) Q := fun c i Q h0 h1 h2 h => m_tellN (S := mT SM) h0 h1 h2 h
  have m4 : (sn_pI SM 0 0 0).1 2 (Int32.toNatClampNeg 4) = nI (t 0 2) := hM'.2.2.1
  by_cases hab : a = b
  · subst hab
    refine bq_u rfl (xr (-1) 1 _ (by decide) (by decide) ?_)
    by_cases hs : ∃ s : Nat, s < t 0 0 ∧ a = nI s
    · obtain ⟨s, hs, rfl⟩ := hs
      exact m_snailY hM'.1 h6 hs (sn_jn_by (fun _ => True) trivial (fun k3 _ => bq_n i1 (bq_u rfl (tl (-1) 1 _ (by decide) (by decide) (by decide) (hno _ _ (Or.inl ⟨rfl, rfl⟩))))))
    · refine m_snailN hM'.1 h6 hs (sn_jn_by (fun k => k) (m_snailN hM'.1 h6 hs ?_) (fun k3 hk3 => bq_z rfl hk3))
      exact sn_jn_by (fun k => k) (sn_jn_by (fun k => k (-1)) (tl (-1) 1 _ (by decide) (by decide) (by decide) (hno _ _ (Or.inl ⟨rfl, rfl⟩))) (fun k7 hk7 => bq_u rfl hk7)) (fun k5 hk5 => bq_z rfl hk5)
  · refine bq_v hab ?_
    -- the model where one of the two is no snail
    have two : ∀ Q : Int32 → sn_S → Prop, Q (-2) (mRef (mT SM) (-2) 2) → sn_jn (fun v6 => wpX9_tell v6 (sn_pI SM 0 0 0) (fun r8 S9 => Q r8 S9)) (fun (k7 : Int32 → Prop) => ((¬ a = b → k7 (-2)) ∧ (a = b → k7 (-1)))) := fun Q h => sn_jn_by (fun k => k (-2)) (tl (-2) 2 _ (by decide) (by decide) (by decide) h) (fun k7 hk7 => bq_v hab hk7)
    by_cases ha : ∃ s : Nat, s < t 0 0 ∧ a = nI s
    · obtain ⟨i, hi, rfl⟩ := ha
      by_cases hb : ∃ s : Nat, s < t 0 0 ∧ b = nI s
      · obtain ⟨j, hj, rfl⟩ := hb
        refine x_snailY hX.1 h6 hi (sn_jn_by (fun _ => True) trivial (fun k11 _ => bq_n i1 (x_snailY hX.1 h6 hj (bq_v i1 ?_))))
        rw [hX.2.2.1]
        by_cases hn : t 0 2 = 12
        · rw [hn]
          refine bq_u rfl (xr (-5) 5 _ (by decide) (by decide) ?_)
          refine m_snailY hM'.1 h6 hi (sn_jn_by (fun k => k) ?_ (fun k3 hk3 => bq_n i1 (bq_v hab hk3)))
          refine m_snailY hM'.1 h6 hi (sn_jn_by (fun _ => True) trivial (fun k5 _ => bq_n i1 (m_snailY hM'.1 h6 hj (bq_v i1 ⟨v4, ?_⟩))))
          rw [m4, hn]
          exact bq_u rfl (tl (-5) 5 _ (by decide) (by decide) (by decide) (hno _ _ (Or.inr (Or.inr ⟨rfl, rfl⟩))))
        · have hne : ¬ nI (t 0 2) = 12 := by
            rw [show (12 : Int32) = nI 12 from rfl, pn_eqN (by omega) (by omega)]
            exact hn
          have e2 : (2 : Int32) * nI (t 0 2) = nI (2 * t 0 2) := pn_mul 2 _
          have e3 : nI (2 * t 0 2) + 1 = nI (2 * t 0 2 + 1) := pn_add _ 1
          refine bq_v hne ?_
          rw [e2, pn_nat (n := 2 * t 0 2) (by omega)]
          refine ⟨pn_vp (by omega) (by decide), ?_⟩
          have s1 : (sn_pI SX 8 (2 * t 0 2) (nI i)).1 2 10 = nI (t 0 2) := by rw [sI_row _ _ _ (by decide)]; exact hX.2.2.1
          rw [s1, e2, e3, pn_nat (n := 2 * t 0 2 + 1) (by omega)]
          refine ⟨pn_vp (by omega) (by decide), ?_⟩
          have s2 : (sn_pI (sn_pI SX 8 (2 * t 0 2) (nI i)) 8 (2 * t 0 2 + 1) (nI j)).1 2 10 + 1 = nI (t 0 2 + 1) := by
            rw [sI_row _ _ _ (by decide), s1]
            exact pn_add _ 1
          rw [s2, sI_get, if_pos ⟨rfl, rfl⟩]
          refine x_told (w := w) ?_
          refine m_snailY hM'.1 h6 hi (sn_jn_by (fun k => k) ?_ (fun k3 hk3 => bq_n i1 (bq_v hab hk3)))
          refine m_snailY hM'.1 h6 hi (sn_jn_by (fun _ => True) trivial (fun k5 _ => bq_n i1 (m_snailY hM'.1 h6 hj (bq_v i1 ⟨v4, ?_⟩))))
          rw [m4]
          refine bq_v hne ?_
          have f1 : (52 : Int32) + 2 * nI (t 0 2) = nI (52 + 2 * t 0 2) := by rw [e2]; exact pn_add 52 _
          have f2 : nI (52 + 2 * t 0 2) + 1 = nI (52 + 2 * t 0 2 + 1) := pn_add _ 1
          rw [f1, f2, pn_nat (n := 52 + 2 * t 0 2) (by omega), pn_nat (n := 52 + 2 * t 0 2 + 1) (by omega)]
          refine ⟨pn_vp (by omega) (by decide), pn_vp (by omega) (by decide), v4, v4, ?_⟩
          have f3 : (sn_pI (sn_pI (mT SM) 2 (52 + 2 * t 0 2) (nI i)) 2 (52 + 2 * t 0 2 + 1) (nI j)).1 2 4 + 1 = nI (t 0 2 + 1) := by
            rw [sM_get, if_neg (by omega), sM_get, if_neg (by omega), hM'.2.2.1]
            exact pn_add _ 1
          refine (fun (h : wpX9_tell (nI (t 0 2) + 1) (sn_pI (sn_pI (sn_pI (mT SM) 2 (52 + 2 * t 0 2) (nI i)) 2 (52 + 2 * t 0 2 + 1) (nI j)) 2 4 ((sn_pI (sn_pI (mT SM) 2 (52 + 2 * t 0 2) (nI i)) 2 (52 + 2 * t 0 2 + 1) (nI j)).1 2 4 + 1)) _) => h) ?_
          rw [f3, show nI (t 0 2) + 1 = nI (t 0 2 + 1) from pn_add _ 1]
          exact m_tellP ((pn_leN (i := 0) (by decide) (by omega)).mpr (Nat.zero_le _)) (hok i j hi hj (fun e => hab (by rw [e])) (by omega))
      · refine x_snailY hX.1 h6 hi (sn_jn_by (fun k => k) (xr (-2) 2 _ (by decide) (by decide) ?_) (fun k hk => bq_n i1 (x_snailN hX.1 h6 hb (bq_u rfl hk))))
        refine m_snailY hM'.1 h6 hi (sn_jn_by (fun k => k) ?_ (fun k3 hk3 => bq_n i1 (bq_v hab hk3)))
        exact m_snailY hM'.1 h6 hi (sn_jn_by (fun k => k) (two _ (hno _ _ (Or.inr (Or.inl ⟨rfl, rfl⟩)))) (fun k5 hk5 => bq_n i1 (m_snailN hM'.1 h6 hb (bq_u rfl hk5))))
    · refine x_snailN hX.1 h6 ha (sn_jn_by (fun k => k) (xr (-2) 2 _ (by decide) (by decide) ?_) (fun k hk => bq_z rfl hk))
      refine m_snailN hM'.1 h6 ha (sn_jn_by (fun k => k) (m_snailN hM'.1 h6 ha ?_) (fun k3 hk3 => bq_z rfl hk3))
      exact sn_jn_by (fun k => k) (two _ (hno _ _ (Or.inr (Or.inl ⟨rfl, rfl⟩)))) (fun k5 hk5 => bq_z rfl hk5)
