/-! THE PLAIN LAW, thirty-first part: read, safe, keys, odds, send -/
set_option maxRecDepth 100000
/-- read(snails) -/
theorem o_read {w : sn_W} {SX SM : sn_S} {t : gT} (hg : tG t) (hX : RXt SX t) (hM : RMt SM t) (a : Int32) {K : Int32 → sn_S → Int32 → sn_S → Prop} (hK : ∀ r S1 S2, agOne 91 SX S1 → agOne 29 (mT SM) S2 → K r S1 r S2) : wpX0_read w a SX (fun r S1 => wpX9_read a SM (fun r2 S2 => K r S1 r2 S2)) := by
  have hM' := RMt_mT hM
  have h6 := hg.1
  have t2 := two_le h6
  unfold wpX0_read wpX0_everyone wpX9_read
  simp only [sn_lt]
  rw [show sn_pI SM 0 0 0 = mT SM from rfl, hX.1, ev_x _ h6]
  have mall : ∀ r S1, ((∀ S2, agOne 29 (mT SM) S2 → K r S1 r S2) → True) → True := fun _ _ _ => trivial
  by_cases c : ¬ a < 0 ∧ ¬ nI (2 ^ t 0 0 - 1) < a
  · obtain ⟨set, hs, rfl⟩ := (rg0 t2.1 t2.2).mp c
    refine x_inY c (bq_n i1 (x_isRead hg hX (by omega) (fun S1 A1 => ?_)))
    have mm : ∀ r : Int32, r = nI (if rd t set = true then 1 else 0) → wpX9_allSnails (mT SM) (fun (r2 : Int32) => wpX9_in (Int32.toInt64 (nI set)) 0 (Int32.toInt64 r2) (fun (r3 : Int32) => ((¬ r3 = 0 → wpX9_isRead (nI set) (mT SM) (fun (r4 : Int32) (S5 : sn_S) => ((r4 = 0 → K r S1 0 S5) ∧ (¬ r4 = 0 → K r S1 1 S5)))) ∧ (r3 = 0 → K r S1 (-1) (mT SM))))) := by
      intro r hr
      refine m_all hg hM' (m_inY 0 _ rfl rfl c (bq_v i1 (m_isRead hg hM' (by omega) (fun S2 A2 => ?_))))
      by_cases e : rd t set = true
      · rw [if_pos e] at hr ⊢
        subst hr
        exact bq_f (by decide) (hK _ _ _ A1 A2)
      · rw [if_neg e] at hr ⊢
        subst hr
        exact bq_t rfl (hK _ _ _ A1 A2)
    by_cases e : rd t set = true
    · rw [if_pos e]
      exact bq_f (by decide) (mm 1 (by rw [if_pos e]; rfl))
    · rw [if_neg e]
      exact bq_t rfl (mm 0 (by rw [if_neg e]; rfl))
  · exact x_inN c (bq_z rfl (m_all hg hM' (m_inN 0 _ rfl rfl c (bq_u rfl (hK _ _ _ (agOne_refl _ _) (agOne_refl _ _))))))
/-! safe -/
def sfX (t : gT) : Nat → Nat
  | 0 => t 0 0 + 1
  | n + 1 => if rd t n = true then sfX t n else min (sfX t n) (t 0 0 - pc n)
def sfM (t : gT) : Nat → Nat
  | 0 => 7
  | n + 1 => if pc n < sfM t n ∧ rd t (2 ^ t 0 0 - 1 - n) = false then pc n else sfM t n
theorem sfX_ok (t : gT) : ∀ n, (∀ i, i < n → rd t i = false → sfX t n ≤ t 0 0 - pc i) ∧ (sfX t n = t 0 0 + 1 ∨ ∃ i, i < n ∧ rd t i = false ∧ sfX t n = t 0 0 - pc i)
  | 0 => ⟨fun i hi => absurd hi (Nat.not_lt_zero _), Or.inl rfl⟩
  | n + 1 => by
    obtain ⟨h1, h2⟩ := sfX_ok t n
    unfold sfX
    by_cases c : rd t n = true
    · rw [if_pos c]
      refine ⟨fun i hi hr => ?_, ?_⟩
      · by_cases e : i = n
        · rw [e, c] at hr
          exact absurd hr (by decide)
        · exact h1 i (by omega) hr
      · rcases h2 with h2 | ⟨i, g1, g2, g3⟩
        · exact Or.inl h2
        · exact Or.inr ⟨i, by omega, g2, g3⟩
    · rw [if_neg c]
      have c' : rd t n = false := by simpa using c
      refine ⟨fun i hi hr => ?_, ?_⟩
      · by_cases e : i = n
        · rw [e]
          omega
        · have := h1 i (by omega) hr
          omega
      · by_cases d : t 0 0 - pc n ≤ sfX t n
        · exact Or.inr ⟨n, by omega, c', by omega⟩
        · rw [show min (sfX t n) (t 0 0 - pc n) = sfX t n by omega]
          rcases h2 with h2 | ⟨i, g1, g2, g3⟩
          · exact Or.inl h2
          · exact Or.inr ⟨i, by omega, g2, g3⟩
theorem sfM_ok (t : gT) : ∀ n, (∀ i, i < n → rd t (2 ^ t 0 0 - 1 - i) = false → sfM t n ≤ pc i) ∧ (sfM t n = 7 ∨ ∃ i, i < n ∧ rd t (2 ^ t 0 0 - 1 - i) = false ∧ sfM t n = pc i)
  | 0 => ⟨fun i hi => absurd hi (Nat.not_lt_zero _), Or.inl rfl⟩
  | n + 1 => by
    obtain ⟨h1, h2⟩ := sfM_ok t n
    unfold sfM
    by_cases c : pc n < sfM t n ∧ rd t (2 ^ t 0 0 - 1 - n) = false
    · rw [if_pos c]
      refine ⟨fun i hi hr => ?_, Or.inr ⟨n, by omega, c.2, rfl⟩⟩
      by_cases e : i = n
      · rw [e]
        omega
      · have := h1 i (by omega) hr
        omega
    · rw [if_neg c]
      refine ⟨fun i hi hr => ?_, ?_⟩
      · by_cases e : i = n
        · rw [e] at hr ⊢
          refine Classical.byContradiction (fun hh => c ⟨by omega, hr⟩)
        · exact h1 i (by omega) hr
      · rcases h2 with h2 | ⟨i, g1, g2, g3⟩
        · exact Or.inl h2
        · exact Or.inr ⟨i, by omega, g2, g3⟩
theorem comp_pc : ∀ n, n ≤ 6 → ∀ l, l < 2 ^ n → pc (2 ^ n - 1 - l) = n - pc l ∧ pc l ≤ n := by decide +kernel
theorem comp_I : ∀ n, n ≤ 6 → ∀ l, l < 2 ^ n → (nI (2 ^ n - 1) &&& (nI l ^^^ (-1))) = nI (2 ^ n - 1 - l) := by decide +kernel
theorem kX_empty (f : Nat → Nat) : ∀ n, kX f 0 n = fun _ => 0
  | 0 => rfl
  | n + 1 => by
    unfold kX
    rw [if_neg (by rw [bt_zero]; omega)]
    exact kX_empty f n
theorem rd_empty {t : gT} (hg : tG t) : rd t 0 = false := by
  have h7 := hg.2.2.2.2.2.2.2.2.1
  unfold rd
  rw [kX_empty]
  have f0 : ∀ m, tl (fun _ => 0) (1 + m) = false := by
    intro m
    induction m with
    | zero => decide
    | succ m ih =>
      show (tl _ (1 + m) && _) = false
      rw [ih]
      rfl
  have := f0 (t 7 0 - 1)
  rw [show 1 + (t 7 0 - 1) = t 7 0 by omega] at this
  exact this
theorem safe_eq {t : gT} (hg : tG t) : sfX t (2 ^ t 0 0) = sfM t (2 ^ t 0 0) := by
  have h6 := hg.1
  obtain ⟨a1, a2⟩ := sfX_ok t (2 ^ t 0 0)
  obtain ⟨b1, b2⟩ := sfM_ok t (2 ^ t 0 0)
  have p0 : 0 < 2 ^ t 0 0 := Nat.two_pow_pos _
  have e0 := rd_empty hg
  have u0 := a1 0 p0 e0
  have v0 := b1 (2 ^ t 0 0 - 1) (by omega) (by rw [Nat.sub_self]; exact e0)
  have hpa := (comp_pc (t 0 0) h6 (2 ^ t 0 0 - 1) (by omega)).2
  have pz : pc 0 = 0 := rfl
  have le1 : sfX t (2 ^ t 0 0) ≤ sfM t (2 ^ t 0 0) := by
    rcases b2 with b2 | ⟨i, g1, g2, g3⟩
    · omega
    · have := a1 (2 ^ t 0 0 - 1 - i) (by omega) g2
      obtain ⟨q1, q2⟩ := comp_pc (t 0 0) h6 i g1
      omega
  have le2 : sfM t (2 ^ t 0 0) ≤ sfX t (2 ^ t 0 0) := by
    rcases a2 with a2 | ⟨i, g1, g2, g3⟩
    · omega
    · have := b1 (2 ^ t 0 0 - 1 - i) (by omega) (by rw [show 2 ^ t 0 0 - 1 - (2 ^ t 0 0 - 1 - i) = i by omega]; exact g2)
      obtain ⟨q1, q2⟩ := comp_pc (t 0 0) h6 i g1
      omega
  omega
theorem sfX_le (t : gT) (n : Nat) (h : t 0 0 ≤ 6) : sfX t n ≤ 7 := by
  rcases (sfX_ok t n).2 with h2 | ⟨i, _, _, h2⟩ <;> omega
theorem sfM_le (t : gT) (n : Nat) : sfM t n ≤ 7 := by
  rcases (sfM_ok t n).2 with h2 | ⟨i, _, _, h2⟩
  · omega
  · have := pc_lt i
    omega
theorem o_safe {w : sn_W} {SX SM : sn_S} {t : gT} (hg : tG t) (hX : RXt SX t) (hM : RMt SM t) {K : Int32 → sn_S → Int32 → sn_S → Prop} (hK : ∀ r S1 S2, agOne 91 SX S1 → agOne 29 (mT SM) S2 → K r S1 r S2) : wpX0_safe w SX (fun r S1 => wpX9_safe SM (fun r2 S2 => K r S1 r2 S2)) := by
  have hM' := RMt_mT hM
  have h6 := hg.1
  have t2 := two_le h6
  unfold wpX0_safe wpX0_everyone wpX9_safe
  simp only [sn_lt]
  rw [show sn_pI SM 0 0 0 = mT SM from rfl, hX.1]
  have hmn : ∀ p, p ≤ 7 → ∀ q, q ≤ 6 → ∀ m, m ≤ 6 → q ≤ m → (if ((nI m - nI q) - 1) < nI p - nI 1 then ((nI m - nI q) - 1) else nI p - nI 1) = nI (min p (m - q)) - nI 1 := by decide +kernel
  refine sn_lp3_inv (fun x i S' => ∃ n : Nat, n ≤ 2 ^ t 0 0 ∧ i = nI n ∧ x = nI (sfX t n) - nI 1 ∧ agOne 91 SX S') (fun _ i _ => 64 - i.toNatClampNeg) ?_ _ _ _ ⟨0, Nat.zero_le _, rfl, (pn_sub (a := t 0 0 + 1) (b := 1) (by omega)).symm, agOne_refl _ _⟩
  rintro rc x i S1 ⟨n, hn, rfl, rfl, A1⟩ hrc
  have X1 := RXt_One (by decide) hX A1
  rw [X1.1, ev_x _ h6, pn_ltN (by omega) (by omega)]
  by_cases hne : n = 2 ^ t 0 0
  · subst hne
    refine bq_t (by omega) ?_
    refine sn_lp3_inv (fun x i S' => ∃ n : Nat, n ≤ 2 ^ t 0 0 ∧ i = nI n ∧ x = nI (sfM t n) ∧ agOne 29 (mT SM) S') (fun _ i _ => 64 - i.toNatClampNeg) ?_ _ _ _ ⟨0, Nat.zero_le _, rfl, rfl, agOne_refl _ _⟩
    rintro rc2 x i S2 ⟨n, hn', rfl, rfl, A2⟩ hrc2
    have M2 := RMt_One (by decide) hM' A2
    refine m_all hg M2 ?_
    rw [pn_ltN (by omega) (by omega)]
    by_cases hne : n = 2 ^ t 0 0
    · subst hne
      refine bq_t (by omega) ?_
      rw [show nI (sfM t (2 ^ t 0 0)) - 1 = nI (sfX t (2 ^ t 0 0)) - nI 1 by rw [safe_eq hg]; rfl]
      exact hK _ _ _ A1 A2
    · refine bq_f (by omega) (m_bits (by omega) ?_)
      have hp := pc_lt n
      have hs := sfM_le t n
      have hu : sfM t (n + 1) = if pc n < sfM t n ∧ rd t (2 ^ t 0 0 - 1 - n) = false then pc n else sfM t n := rfl
      refine sn_jn_by (fun k10 => ∀ S', agOne 29 (mT SM) S' → k10 (nI (sfM t (n + 1))) S') (fun S3 A3 => ?_) (fun k10 hk10 => ?_)
      · rw [show nI n + 1 = nI (n + 1) from pn_add n 1]
        exact hrc2 _ _ _ ⟨n + 1, by omega, rfl, rfl, A3⟩ (by rw [pn_nat (by omega), pn_nat (by omega)]; omega)
      · rw [hu] at hk10
        refine sn_jn_by (fun k12 => ¬ (pc n < sfM t n ∧ rd t (2 ^ t 0 0 - 1 - n) = false) → ∀ S', agOne 29 (mT SM) S' → k12 S') (fun hh S3 A3 => by rw [if_neg hh] at hk10; exact hk10 S3 A3) (fun k12 hk12 => ?_)
        rw [pn_leN (by omega) (by omega)]
        by_cases c1 : sfM t n ≤ pc n
        · exact bq_t c1 (hk12 (fun h => by have := h.1; omega) S2 A2)
        · refine bq_f c1 (m_all hg M2 ?_)
          rw [comp_I _ h6 n (by omega)]
          refine m_isRead hg M2 (by omega) (fun S3 A3 => ?_)
          have A3' := agOne_trans A2 A3
          by_cases cr : rd t (2 ^ t 0 0 - 1 - n) = true
          · rw [if_pos cr]
            exact bq_v (by decide) (hk12 (fun h => by have := h.2; rw [cr] at this; exact absurd this (by decide)) S3 A3')
          · rw [if_neg cr]
            rw [if_pos ⟨by omega, by simpa using cr⟩] at hk10
            exact bq_u rfl (hk10 S3 A3')
  · refine bq_f (by omega) ?_
    have hp := pc_lt n
    have hpm := (comp_pc (t 0 0) h6 n (by omega)).2
    have hs := sfX_le t n h6
    refine x_isRead hg X1 (by omega) (fun S2 A2 => ?_)
    have A2' := agOne_trans A1 A2
    have X2 := RXt_One (by decide) hX A2'
    have hu : sfX t (n + 1) = if rd t n = true then sfX t n else min (sfX t n) (t 0 0 - pc n) := rfl
    refine sn_jn_by (fun k19 => k19 (nI (sfX t (n + 1)) - nI 1)) ?_ (fun k19 hk19 => ?_)
    · rw [show nI n + 1 = nI (n + 1) from pn_add n 1]
      exact hrc _ _ _ ⟨n + 1, by omega, rfl, rfl, A2'⟩ (by rw [pn_nat (by omega), pn_nat (by omega)]; omega)
    · rw [hu] at hk19
      by_cases cr : rd t n = true
      · rw [if_pos cr] at hk19 ⊢
        exact bq_v (by decide) hk19
      · rw [if_neg cr] at hk19 ⊢
        refine bq_u rfl (x_ones (by omega) ?_)
        rw [X2.1, hmn _ hs _ hp _ h6 hpm]
        exact hk19
/-! keys -/
def kb (t : gT) : Nat → Nat
  | 0 => 0
  | n + 1 => if rd t (clr (2 ^ t 0 0 - 1) n) = true then kb t n else stb (kb t n) n
theorem kb_lt (t : gT) : ∀ n, n ≤ 6 → kb t n < 64
  | 0, _ => Nat.zero_lt_succ _
  | n + 1, h => by
    unfold kb
    split
    · exact kb_lt t n (by omega)
    · exact stb_lt _ _ (kb_lt t n (by omega)) (by omega)
theorem o_keys {w : sn_W} {SX SM : sn_S} {t : gT} (hg : tG t) (hX : RXt SX t) (hM : RMt SM t) {K : Int32 → sn_S → Int32 → sn_S → Prop} (hK : ∀ r S1 S2, agOne 91 SX S1 → agOne 29 (mT SM) S2 → K r S1 r S2) : wpX0_keys w SX (fun r S1 => wpX9_keys SM (fun r2 S2 => K r S1 r2 S2)) := by
  have hM' := RMt_mT hM
  have h6 := hg.1
  have t2 := two_le h6
  unfold wpX0_keys wpX0_everyone wpX9_keys
  simp only [sn_lt]
  rw [show sn_pI SM 0 0 0 = mT SM from rfl]
  have or0 : ∀ x : Int32, x ||| 0 = x := fun x => Int32.or_zero
  refine sn_lp3_inv (fun x i S' => ∃ n : Nat, n ≤ t 0 0 ∧ i = nI n ∧ x = nI (kb t n) ∧ agOne 91 SX S') (fun _ i _ => 64 - i.toNatClampNeg) ?_ _ _ _ ⟨0, Nat.zero_le _, rfl, rfl, agOne_refl _ _⟩
  rintro rc x i S1 ⟨n, hn, rfl, rfl, A1⟩ hrc
  have X1 := RXt_One (by decide) hX A1
  rw [X1.1, pn_leN (by omega) (by omega)]
  by_cases hne : n = t 0 0
  · subst hne
    refine bq_t (Nat.le_refl _) ?_
    refine sn_lp3_inv (fun x i S' => ∃ n : Nat, n ≤ t 0 0 ∧ i = nI n ∧ x = nI (kb t n) ∧ agOne 29 (mT SM) S') (fun _ i _ => 64 - i.toNatClampNeg) ?_ _ _ _ ⟨0, Nat.zero_le _, rfl, rfl, agOne_refl _ _⟩
    rintro rc2 x i S2 ⟨n, hn', rfl, rfl, A2⟩ hrc2
    have M2 := RMt_One (by decide) hM' A2
    rw [show S2.1 2 (Int32.toNatClampNeg 0) = nI (t 0 0) from M2.1, pn_leN (by omega) (by omega)]
    refine ⟨v0, ?_⟩
    by_cases hne : n = t 0 0
    · subst hne
      exact bq_t (Nat.le_refl _) (hK _ _ _ A1 A2)
    · refine bq_f (by omega) (m_all hg M2 ?_)
      have hk := kb_lt t n (by omega)
      rw [bits_clr _ (by omega) _ (by omega)]
      refine m_isRead hg M2 (clr_lt _ _ (by omega)) (fun S3 A3 => ?_)
      have hu : kb t (n + 1) = if rd t (clr (2 ^ t 0 0 - 1) n) = true then kb t n else stb (kb t n) n := rfl
      refine sn_jn_by (fun k10 => ∀ v : Int32, nI (kb t n) ||| v = nI (kb t (n + 1)) → k10 v) (fun v hv => ?_) (fun k10 hk10 => ?_)
      · rw [hv, show nI n + 1 = nI (n + 1) from pn_add n 1]
        exact hrc2 _ _ _ ⟨n + 1, by omega, rfl, rfl, agOne_trans A2 A3⟩ (by rw [pn_nat (by omega), pn_nat (by omega)]; omega)
      · rw [hu] at hk10
        by_cases cr : rd t (clr (2 ^ t 0 0 - 1) n) = true
        · rw [if_pos cr] at hk10 ⊢
          exact bq_f (by decide) (hk10 0 (or0 _))
        · rw [if_neg cr] at hk10 ⊢
          exact bq_t rfl (hk10 _ (bits_stb _ hk _ (by omega)))
  · refine bq_f (by omega) ?_
    have hk := kb_lt t n (by omega)
    rw [ev_x _ h6, bits_clr _ (by omega) _ (by omega)]
    refine x_isRead hg X1 (clr_lt _ _ (by omega)) (fun S2 A2 => ?_)
    have hu : kb t (n + 1) = if rd t (clr (2 ^ t 0 0 - 1) n) = true then kb t n else stb (kb t n) n := rfl
    refine sn_jn_by (fun k10 => ∀ v : Int32, nI (kb t n) ||| v = nI (kb t (n + 1)) → k10 v) (fun v hv => ?_) (fun k10 hk10 => ?_)
    · rw [hv, show nI n + 1 = nI (n + 1) from pn_add n 1]
      exact hrc _ _ _ ⟨n + 1, by omega, rfl, rfl, agOne_trans A1 A2⟩ (by rw [pn_nat (by omega), pn_nat (by omega)]; omega)
    · rw [hu] at hk10
      by_cases cr : rd t (clr (2 ^ t 0 0 - 1) n) = true
      · rw [if_pos cr] at hk10 ⊢
        exact bq_f (by decide) (hk10 0 (or0 _))
      · rw [if_neg cr] at hk10 ⊢
        exact bq_t rfl (hk10 _ (bits_stb _ hk _ (by omega)))
/-! odds -/
def prd (f : Nat → Nat) : Nat → Nat
  | 0 => 1
  | n + 1 => prd f n * f n
def fcX (t : gT) (sent set s : Nat) : Nat := if bt sent s = 1 then (if bt set s = 1 then 100 - t 4 (6 * s + 4) else t 4 (6 * s + 4)) else 1
def fcM (t : gT) (sent set s : Nat) : Nat := if bt sent s = 1 then (if bt set s = 1 then 100 - t 4 (6 * s + 4) else t 4 (6 * s + 4)) else 100
def tmX (t : gT) (sent set : Nat) : Nat := if set &&& sent = set ∧ rd t set = true then prd (fcX t sent set) (t 0 0) else 0
def tmM (t : gT) (sent set : Nat) : Nat := if set &&& sent = set ∧ rd t set = true then prd (fcM t sent set) (t 0 0) else 0
def oX (t : gT) (sent : Nat) : Nat := sms (tmX t sent) (sent + 1)
def oM (t : gT) (sent : Nat) : Nat := sms (tmM t sent) (2 ^ t 0 0)
theorem prd_le {f : Nat → Nat} : ∀ n, (∀ s, s < n → f s ≤ 100) → prd f n ≤ 100 ^ n
  | 0, _ => Nat.le_refl _
  | n + 1, h => by
    unfold prd
    rw [Nat.pow_succ]
    exact Nat.mul_le_mul (prd_le n (fun s hs => h s (by omega))) (h n (by omega))
theorem prd_congr {f g : Nat → Nat} : ∀ n, (∀ s, s < n → f s = g s) → prd f n = prd g n
  | 0, _ => rfl
  | n + 1, h => by
    unfold prd
    rw [prd_congr n (fun s hs => h s (by omega)), h n (by omega)]
theorem cnt_le (v : Nat) : ∀ n, sms (bt v) n ≤ n
  | 0 => Nat.le_refl _
  | n + 1 => by
    unfold sms
    have := cnt_le v n
    have := bt_lt v n
    omega
theorem prd_MX (t : gT) (sent set : Nat) : ∀ n, prd (fcM t sent set) n = prd (fcX t sent set) n * 100 ^ (n - sms (bt sent) n)
  | 0 => rfl
  | n + 1 => by
    have hc := cnt_le sent n
    have hb := bt_lt sent n
    show prd (fcM t sent set) n * fcM t sent set n = prd (fcX t sent set) n * fcX t sent set n * 100 ^ (n + 1 - (sms (bt sent) n + bt sent n))
    rw [prd_MX t sent set n]
    unfold fcM fcX
    by_cases c : bt sent n = 1
    · rw [if_pos c, if_pos c, c, show n + 1 - (sms (bt sent) n + 1) = n - sms (bt sent) n by omega, Nat.mul_assoc, Nat.mul_comm (100 ^ _), ← Nat.mul_assoc]
    · rw [if_neg c, if_neg c, show n + 1 - (sms (bt sent) n + bt sent n) = (n - sms (bt sent) n) + 1 by omega, Nat.pow_succ, Nat.mul_one, Nat.mul_assoc]
theorem pc_cnt : ∀ n, n ≤ 6 → ∀ v, v < 2 ^ n → sms (bt v) n = pc v := by decide +kernel
theorem sms_mul (f : Nat → Nat) (c : Nat) : ∀ n, sms (fun i => f i * c) n = sms f n * c
  | 0 => (Nat.zero_mul c).symm
  | n + 1 => by
    unfold sms
    rw [sms_mul f c n, Nat.add_mul]
theorem sms_ext {f : Nat → Nat} {n : Nat} : ∀ m, (∀ i, n ≤ i → i < n + m → f i = 0) → sms f (n + m) = sms f n
  | 0, _ => rfl
  | m + 1, h => by
    show sms f (n + m) + f (n + m) = _
    rw [sms_ext m (fun i h1 h2 => h i h1 (by omega)), h (n + m) (by omega) (by omega), Nat.add_zero]
theorem o_MX {t : gT} (hg : tG t) {sent : Nat} (hs : sent < 2 ^ t 0 0) : oM t sent = oX t sent * 100 ^ (t 0 0 - pc sent) := by
  unfold oM oX
  have e : ∀ set, tmM t sent set = tmX t sent set * 100 ^ (t 0 0 - pc sent) := by
    intro set
    unfold tmM tmX
    by_cases c : set &&& sent = set ∧ rd t set = true
    · rw [if_pos c, if_pos c, prd_MX, pc_cnt _ hg.1 _ hs]
    · rw [if_neg c, if_neg c, Nat.zero_mul]
  rw [sms_congr _ (fun set _ => e set), sms_mul]
  congr 1
  have := sms_ext (f := tmX t sent) (n := sent + 1) (2 ^ t 0 0 - (sent + 1)) (fun i h1 h2 => by
    unfold tmX
    rw [if_neg (fun hh => ?_)]
    have h3 := hh.1
    have h4 : i &&& sent ≤ sent := Nat.and_le_right
    omega)
  rw [show sent + 1 + (2 ^ t 0 0 - (sent + 1)) = 2 ^ t 0 0 by omega] at this
  exact this
theorem lost_le {t : gT} (hg : tG t) {s : Nat} (hs : s < t 0 0) : t 4 (6 * s + 4) ≤ 100 := (hg.2.2.2.2.2.1 s hs).2.2.2.2.2.1
theorem pow100 {n : Nat} (h : n ≤ 6) : 100 ^ n ≤ 1000000000000 := by
  have := Nat.pow_le_pow_right (show 0 < 100 by decide) h
  omega
theorem fcX_le {t : gT} (hg : tG t) (sent set : Nat) {s : Nat} (hs : s < t 0 0) : fcX t sent set s ≤ 100 := by
  have := lost_le hg hs
  unfold fcX
  split
  · split <;> omega
  · omega
theorem fcM_le {t : gT} (hg : tG t) (sent set : Nat) {s : Nat} (hs : s < t 0 0) : fcM t sent set s ≤ 100 := by
  have := lost_le hg hs
  unfold fcM
  split
  · split <;> omega
  · omega
theorem tm_le {t : gT} (hg : tG t) (sent set : Nat) : tmX t sent set ≤ 1000000000000 ∧ tmM t sent set ≤ 1000000000000 := by
  have h1 := prd_le (f := fcX t sent set) (t 0 0) (fun s hs => fcX_le hg sent set hs)
  have h2 := prd_le (f := fcM t sent set) (t 0 0) (fun s hs => fcM_le hg sent set hs)
  have h3 := pow100 hg.1
  unfold tmX tmM
  constructor <;> split <;> omega
theorem sumX_le {t : gT} (hg : tG t) (sent n : Nat) (hn : n ≤ 64) : sms (tmX t sent) n ≤ 64000000000000 ∧ sms (tmM t sent) n ≤ 64000000000000 := by
  have h1 := sms_le (f := tmX t sent) n (fun k _ => (tm_le hg sent k).1)
  have h2 := sms_le (f := tmM t sent) n (fun k _ => (tm_le hg sent k).2)
  omega
theorem sub_I : ∀ a, a < 64 → ∀ b, b < 64 → ((nI a &&& (nI b ^^^ (-1))) = 0 ↔ a &&& b = a) := by decide +kernel
theorem lw100 {v : Nat} (h : v ≤ 100) : (100 : Int32) - nI v = nI (100 - v) := pn_sub (a := 100) h
theorem x_oddsOf {w : sn_W} {S : sn_S} {t : gT} (hg : tG t) (hX : RXt S t) {sent : Nat} (hs : sent < 2 ^ t 0 0) {Q : Int64 → sn_S → Prop} (h : ∀ S', agOne 91 S S' → Q (lN (oX t sent)) S') : wpX0_oddsOf w (nI sent) S Q := by
  unfold wpX0_oddsOf
  have h6 := hg.1
  have t2 := two_le h6
  refine sn_lp3_inv (fun x i S' => ∃ n : Nat, n ≤ sent + 1 ∧ i = nI n ∧ x = lN (sms (tmX t sent) n) ∧ agOne 91 S S') (fun _ i _ => 64 - i.toNatClampNeg) ?_ _ _ _ ⟨0, Nat.zero_le _, rfl, rfl, agOne_refl _ _⟩
  rintro rc x i S1 ⟨n, hn, rfl, rfl, A1⟩ hrc
  have X1 := RXt_One (by decide) hX A1
  rw [pn_ltN (by omega) (by omega)]
  by_cases hne : n = sent + 1
  · subst hne
    exact bq_t (by omega) (h S1 A1)
  · refine bq_f (by omega) ?_
    have hu : sms (tmX t sent) (n + 1) = sms (tmX t sent) n + tmX t sent n := rfl
    refine sn_jn_by (fun k16 => ∀ S', agOne 91 S S' → k16 (lN (sms (tmX t sent) (n + 1))) S') (fun S2 A2 => ?_) (fun k16 hk16 => ?_)
    · rw [show nI n + 1 = nI (n + 1) from pn_add n 1]
      exact hrc _ _ _ ⟨n + 1, by omega, rfl, rfl, A2⟩ (by rw [pn_nat (by omega), pn_nat (by omega)]; omega)
    · rw [hu] at hk16
      rw [sub_I n (by omega) sent (by omega)]
      unfold tmX at hk16
      by_cases c : n &&& sent = n
      · refine bq_u c (x_isRead hg X1 (by omega) (fun S2 A2 => ?_))
        have A2' := agOne_trans A1 A2
        have X2 := RXt_One (by decide) hX A2'
        by_cases cr : rd t n = true
        · rw [if_pos cr]
          rw [if_pos ⟨c, cr⟩] at hk16
          refine bq_v i1 ?_
          refine sn_jn_by (fun k20 => k20 (lN (prd (fcX t sent n) (t 0 0)))) ?_ (fun k20 hk20 => ?_)
          · simp only [sn_lt]
            rw [lq_add]
            exact hk16 S2 A2'
          · refine sn_lp2_inv (fun x i => ∃ m : Nat, m ≤ t 0 0 ∧ i = nI m ∧ x = lN (prd (fcX t sent n) m)) (fun _ i => 6 - i.toNatClampNeg) ?_ _ _ ⟨0, Nat.zero_le _, rfl, rfl⟩
            rintro rc2 x i ⟨m, hm, rfl, rfl⟩ hrc2
            rw [X2.1, pn_leN (by omega) (by omega)]
            by_cases hme : m = t 0 0
            · subst hme
              exact bq_t (Nat.le_refl _) hk20
            · have hlt : m < t 0 0 := by omega
              have hl := lost_le hg hlt
              refine bq_f (by omega) (x_isOf (by omega) (by omega) ?_)
              have hb1 := bt_lt sent m
              have hb2 := bt_lt n m
              refine sn_jn_by (fun k27 => k27 (lN (prd (fcX t sent n) m * fcX t sent n m))) ?_ (fun k27 hk27 => ?_)
              · rw [show nI m + 1 = nI (m + 1) from pn_add m 1]
                exact hrc2 _ _ ⟨m + 1, by omega, rfl, rfl⟩ (by rw [pn_nat (by omega), pn_nat (by omega)]; omega)
              · unfold fcX at hk27
                by_cases c1 : bt sent m = 0
                · rw [if_neg (by omega), Nat.mul_one] at hk27
                  exact bq_t (by rw [c1]; rfl) hk27
                · rw [if_pos (by omega)] at hk27
                  refine bq_f (fun e => c1 ((pn_eqN (j := 0) (by omega) (by decide)).mp e)) (x_isOf (by omega) (by omega) ?_)
                  refine sn_jn_by (fun k30 => k30 (lN (if bt n m = 1 then 100 - t 4 (6 * m + 4) else t 4 (6 * m + 4)))) ?_ (fun k30 hk30 => ?_)
                  · simp only [sn_lt]
                    rw [lq_mul]
                    exact hk27
                  · by_cases c2 : bt n m = 0
                    · rw [if_neg (by omega)] at hk30
                      refine bq_t (by rw [c2]; rfl) (x_of0 (s := m) (f := 4) X2 (by omega) ?_)
                      rw [lN_wide (by omega)]
                      exact hk30
                    · rw [if_pos (by omega)] at hk30
                      refine bq_f (fun e => c2 ((pn_eqN (j := 0) (by omega) (by decide)).mp e)) (x_of0 (s := m) (f := 4) X2 (by omega) ?_)
                      rw [lw100 hl, lN_wide (by omega)]
                      exact hk30
        · rw [if_neg cr]
          rw [if_neg (fun hh => cr hh.2), Nat.add_zero] at hk16
          exact bq_u rfl (hk16 S2 A2')
      · rw [if_neg (fun hh => c hh.1), Nat.add_zero] at hk16
        exact bq_v c (hk16 S1 A1)
theorem m_oddsOf {S : sn_S} {t : gT} (hg : tG t) (hM : RMt S t) {sent : Nat} (hs : sent < 2 ^ t 0 0) {Q : Int64 → sn_S → Prop} (h : ∀ S', agOne 29 S S' → Q (lN (oM t sent)) S') : wpX9_oddsOf (nI sent) S Q := by
  unfold wpX9_oddsOf
  have h6 := hg.1
  have t2 := two_le h6
  refine sn_lp3_inv (fun x i S' => ∃ n : Nat, n ≤ 2 ^ t 0 0 ∧ i = nI n ∧ x = lN (sms (tmM t sent) n) ∧ agOne 29 S S') (fun _ i _ => 64 - i.toNatClampNeg) ?_ _ _ _ ⟨0, Nat.zero_le _, rfl, rfl, agOne_refl _ _⟩
  rintro rc x i S1 ⟨n, hn, rfl, rfl, A1⟩ hrc
  have M1 := RMt_One (by decide) hM A1
  refine m_all hg M1 ?_
  rw [pn_ltN (by omega) (by omega)]
  by_cases hne : n = 2 ^ t 0 0
  · subst hne
    exact bq_t (by omega) (h S1 A1)
  · refine bq_f (by omega) ?_
    have hu : sms (tmM t sent) (n + 1) = sms (tmM t sent) n + tmM t sent n := rfl
    refine sn_jn_by (fun k16 => ∀ S', agOne 29 S S' → k16 (lN (sms (tmM t sent) (n + 1))) S') (fun S2 A2 => ?_) (fun k16 hk16 => ?_)
    · rw [show nI n + 1 = nI (n + 1) from pn_add n 1]
      exact hrc _ _ _ ⟨n + 1, by omega, rfl, rfl, A2⟩ (by rw [pn_nat (by omega), pn_nat (by omega)]; omega)
    · rw [hu] at hk16
      rw [sub_I n (by omega) sent (by omega)]
      unfold tmM at hk16
      by_cases c : n &&& sent = n
      · refine bq_u c (m_isRead hg M1 (by omega) (fun S2 A2 => ?_))
        have A2' := agOne_trans A1 A2
        have M2 := RMt_One (by decide) hM A2'
        by_cases cr : rd t n = true
        · rw [if_pos cr]
          rw [if_pos ⟨c, cr⟩] at hk16
          refine bq_f i1 ?_
          refine sn_jn_by (fun k20 => k20 (lN (prd (fcM t sent n) (t 0 0)))) ?_ (fun k20 hk20 => ?_)
          · simp only [sn_lt]
            rw [lq_add]
            exact hk16 S2 A2'
          · refine sn_lp2_inv (fun x i => ∃ m : Nat, m ≤ t 0 0 ∧ i = nI m ∧ x = lN (prd (fcM t sent n) m)) (fun _ i => 6 - i.toNatClampNeg) ?_ _ _ ⟨0, Nat.zero_le _, rfl, rfl⟩
            rintro rc2 x i ⟨m, hm, rfl, rfl⟩ hrc2
            rw [show S2.1 2 (Int32.toNatClampNeg 0) = nI (t 0 0) from M2.1, pn_leN (by omega) (by omega)]
            refine ⟨v0, ?_⟩
            by_cases hme : m = t 0 0
            · subst hme
              exact bq_t (Nat.le_refl _) hk20
            · have hlt : m < t 0 0 := by omega
              have hl := lost_le hg hlt
              refine bq_f (by omega) (m_ofSnail (s := m) (f := 4) M2 (by omega) (m_is (by omega) (by omega) ?_))
              have hb1 := bt_lt sent m
              have hb2 := bt_lt n m
              refine sn_jn_by (fun k20 => k20 (lN (fcM t sent n m))) ?_ (fun k27 hk27 => ?_)
              · simp only [sn_lt]
                rw [lq_mul, show nI m + 1 = nI (m + 1) from pn_add m 1]
                exact hrc2 _ _ ⟨m + 1, by omega, rfl, rfl⟩ (by rw [pn_nat (by omega), pn_nat (by omega)]; omega)
              · unfold fcM at hk27
                by_cases c1 : bt sent m = 0
                · rw [if_neg (by omega)] at hk27
                  exact bq_u (by rw [c1]; rfl) hk27
                · rw [if_pos (by omega)] at hk27
                  refine bq_v (fun e => c1 ((pn_eqN (j := 0) (by omega) (by decide)).mp e)) (m_is (by omega) (by omega) ?_)
                  by_cases c2 : bt n m = 0
                  · rw [if_neg (by omega)] at hk27
                    refine bq_t (by rw [c2]; rfl) ?_
                    rw [lN_wide (by omega)]
                    exact hk27
                  · rw [if_pos (by omega)] at hk27
                    refine bq_f (fun e => c2 ((pn_eqN (j := 0) (by omega) (by decide)).mp e)) ?_
                    rw [lw100 hl, lN_wide (by omega)]
                    exact hk27
        · rw [if_neg cr]
          rw [if_neg (fun hh => cr hh.2), Nat.add_zero] at hk16
          exact bq_t rfl (hk16 S2 A2')
      · rw [if_neg (fun hh => c hh.1), Nat.add_zero] at hk16
        exact bq_v c (hk16 S1 A1)
theorem o_odds {w : sn_W} {SX SM : sn_S} {t : gT} (hg : tG t) (hX : RXt SX t) (hM : RMt SM t) {K : Int64 → sn_S → Int64 → sn_S → Prop} (hK : ∀ r S1 S2, agOne 91 SX S1 → agOne 29 (mT SM) S2 → K r S1 r S2) : wpX0_odds w SX (fun r S1 => wpX9_odds SM (fun r2 S2 => K r S1 r2 S2)) := by
  have hM' := RMt_mT hM
  have h6 := hg.1
  have t2 := two_le h6
  have hpa : ∀ n, n ≤ 6 → pc (2 ^ n - 1) = n := by decide +kernel
  unfold wpX0_odds wpX0_everyone wpX9_odds
  simp only [sn_lt]
  rw [show sn_pI SM 0 0 0 = mT SM from rfl, hX.1, ev_x _ h6]
  refine x_oddsOf hg hX (by omega) (fun S1 A1 => m_all hg hM' (m_oddsOf hg hM' (by omega) (fun S2 A2 => ?_)))
  rw [o_MX hg (by omega), hpa _ h6, Nat.sub_self, Nat.pow_zero, Nat.mul_one]
  exact hK _ _ _ A1 A2
