/-! THE PLAIN LAW, twentieth part: best, light -/
set_option maxRecDepth 100000
theorem ev_x : ∀ m, m ≤ 6 → ((1 : Int32) <<< (nI m &&& 31)) - 1 = nI (2 ^ m - 1) := by decide +kernel
theorem ev_m : ∀ m, m ≤ 6 → ((1 : Int32) <<< (nI m &&& 31)).toInt64 - 1 = (nI (2 ^ m - 1)).toInt64 := by decide +kernel
theorem two_le {m : Nat} (h : m ≤ 6) : 1 ≤ 2 ^ m ∧ 2 ^ m ≤ 64 := ⟨Nat.one_le_two_pow, by have := Nat.pow_le_pow_right (show 0 < 2 by decide) h; omega⟩
def plOk (t : gT) (a b : Int32) : Prop := ∃ H sn : Nat, 1 ≤ H ∧ H ≤ 5 ∧ sn < 2 ^ t 0 0 ∧ a = nI H ∧ b = nI sn
theorem rg15 {a : Int32} : (¬ a < 1 ∧ ¬ 5 < a) ↔ ∃ H : Nat, 1 ≤ H ∧ H ≤ 5 ∧ a = nI H := bI_rng (lo := 1) (hi := 5) (by decide) (by decide)
theorem rg0 {b : Int32} {n : Nat} (hn : 1 ≤ n) (h2 : n ≤ 64) : (¬ b < 0 ∧ ¬ nI (n - 1) < b) ↔ ∃ u : Nat, u < n ∧ b = nI u := by
  have := bI_rng (lo := 0) (hi := n - 1) (v := b) (by omega) (by decide)
  rw [show (0 : Int32) = nI 0 from rfl, this]
  constructor
  · rintro ⟨u, _, h, e⟩
    exact ⟨u, by omega, e⟩
  · rintro ⟨u, h, e⟩
    exact ⟨u, Nat.zero_le _, by omega, e⟩
theorem x_isBest {w : sn_W} {S : sn_S} {t : gT} (hg : tG t) (hX : RXt S t) (a b : Int32) {Q : Int32 → Prop} (h1 : plOk t a b → Q 1) (h0 : ¬ plOk t a b → Q 0) : wpX0_isBest w a b S Q := by
  unfold wpX0_isBest wpX0_everyone
  have h6 := hg.1
  have h2 := two_le h6
  rw [hX.1, ev_x _ h6]
  by_cases c1 : ¬ a < 1 ∧ ¬ 5 < a
  · refine x_inY c1 (bq_n i1 ?_)
    by_cases c2 : ¬ b < 0 ∧ ¬ nI (2 ^ t 0 0 - 1) < b
    · obtain ⟨H, e1, e2, e3⟩ := rg15.mp c1
      obtain ⟨sn, e4, e5⟩ := (rg0 h2.1 h2.2).mp c2
      exact x_inY c2 (bq_n i1 (h1 ⟨H, sn, e1, e2, e4, e3, e5⟩))
    · refine x_inN c2 (bq_z rfl (h0 ?_))
      rintro ⟨H, sn, _, _, e4, _, e5⟩
      exact c2 ((rg0 h2.1 h2.2).mpr ⟨sn, e4, e5⟩)
  · refine x_inN c1 (bq_z rfl (h0 ?_))
    rintro ⟨H, sn, e1, e2, _, e3, _⟩
    exact c1 (rg15.mpr ⟨H, e1, e2, e3⟩)
theorem m_planned {S : sn_S} {t : gT} (hg : tG t) (hM : RMt S t) (a b : Int32) {Q : Int32 → Prop} (h1 : plOk t a b → Q 1) (h0 : ¬ plOk t a b → Q 0) : wpX9_arePlanned a b S Q := by
  unfold wpX9_arePlanned
  have h6 := hg.1
  have h2 := two_le h6
  rw [z0, hM.1, ev_m _ h6]
  by_cases c1 : ¬ a < 1 ∧ ¬ 5 < a
  · refine m_inY 1 5 rfl rfl c1 (bq_n i1 ⟨v0, ?_⟩)
    by_cases c2 : ¬ b < 0 ∧ ¬ nI (2 ^ t 0 0 - 1) < b
    · obtain ⟨H, e1, e2, e3⟩ := rg15.mp c1
      obtain ⟨sn, e4, e5⟩ := (rg0 h2.1 h2.2).mp c2
      exact m_inY 0 _ rfl rfl c2 (bq_n i1 (h1 ⟨H, sn, e1, e2, e4, e3, e5⟩))
    · refine m_inN 0 _ rfl rfl c2 (bq_z rfl (h0 ?_))
      rintro ⟨H, sn, _, _, e4, _, e5⟩
      exact c2 ((rg0 h2.1 h2.2).mpr ⟨sn, e4, e5⟩)
  · refine m_inN 1 5 rfl rfl c1 (bq_z rfl (h0 ?_))
    rintro ⟨H, sn, e1, e2, _, e3, _⟩
    exact c1 (rg15.mpr ⟨H, e1, e2, e3⟩)
/-- the lantern of x behind a call -/
def lanK (SX S1 : sn_S) (t : gT) (F : gF) : Prop := agL 22 SX S1 ∧ CL S1 t F ∧ (S1.1 22 3 = SX.1 22 3 ∨ S1.1 22 3 = SX.1 0 8)
theorem lanK_of {SX S1 : sn_S} {t : gT} {F : gF} {H sn : Nat} (hH : H ≤ 5) (hs : sn < 64) (h1 : agL 22 SX S1) (h2 : S1.1 22 3 = SX.1 0 8) (h3 : S1.1 22 4 = nI H) (h4 : S1.1 22 5 = nI sn) (h5 : RA 22 S1 H (lanA t F H sn)) : lanK SX S1 t F := ⟨h1, fun _ => ⟨H, sn, hH, hs, h3, h4, h5⟩, Or.inr h2⟩
/-- best(hours, snails, what) -/
theorem o_best {w : sn_W} {SX SM : sn_S} {t : gT} {F : gF} (hg : tG t) (hX : RXt SX t) (hM : RMt SM t) (hF : RFx w SX t F) (hFm : RFm SM t F) (hC : CL SX t F) (a b c : Int32) {K : Int32 → sn_S → Int32 → sn_S → Prop}
    (hK : ∀ r S1 S2, lanK SX S1 t F → agV (mT SM) S2 → K r S1 r S2) : wpX0_best w a b c SX (fun r S1 => wpX9_best a b c SM (fun r2 S2 => K r S1 r2 S2)) := by
  have hM' := RMt_mT hM
  have hFm' : RFm (mT SM) t F := RFm_ag hFm (mT_2 SM)
  have h2 := two_le hg.1
  unfold wpX0_best wpX9_best
  simp only [sn_lt]
  rw [show sn_pI SM 0 0 0 = mT SM from rfl]
  have same : ∀ r, K r SX r (mT SM) := fun r => hK r SX (mT SM) ⟨agL_refl _ _, hC, Or.inl rfl⟩ (agV_refl _)
  refine x_isBest hg hX a b (fun hp => bq_n i1 ?_) (fun hp => bq_z rfl (m_planned hg hM' a b (fun h => absurd h hp) (fun _ => bq_z rfl (same _))))
  have hp0 := hp
  obtain ⟨H, sn, e1, e2, e3, rfl, rfl⟩ := hp
  by_cases c7 : ¬ c < 0 ∧ ¬ 7 < c
  · obtain ⟨n, hn, rfl⟩ := pn_in (hi := 7) (by decide) c7.1 c7.2
    refine x_inY c7 (bq_v i1 ?_)
    refine x_lan hg hX hF e2 (by omega) hC (fun S1 L1 e13 e14 e15 A1 => ?_)
    have lk := lanK_of e2 (by omega) L1 e13 e14 e15 A1
    obtain ⟨A10, A0, A7, AL, AN⟩ := A1
    obtain ⟨A8, A9, A3⟩ := AN (lanA_ne t F H sn)
    have hne := lanA_ne t F H sn
    have mm : ∀ r, (∀ S2, agV (mT SM) S2 → RB S2 (lanA t F H sn) → ((¬ nI n = 0 → ((¬ nI n = 1 → ((¬ nI n = 2 → (vp_in (nI n - 3) 5 ∧ K r S1 (S2.1 25 ((nI n - 3)).toNatClampNeg) S2)) ∧ (nI n = 2 → K r S1 (S2.1 0 46) S2))) ∧ (nI n = 1 → K r S1 (S2.1 0 45) S2))) ∧ (nI n = 0 → K r S1 (S2.1 0 44) S2))) → wpX9_arePlanned (nI H) (nI sn) (mT SM) (fun (r2 : Int32) => ((r2 = 0 → K r S1 (-1) (mT SM)) ∧ (¬ r2 = 0 → wpX9_in (Int32.toInt64 (nI n)) 0 7 (fun (r3 : Int32) => ((¬ r3 = 0 → wpX9_findBest (nI H) (nI sn) (mT SM) (fun (S4 : sn_S) => ((¬ nI n = 0 → ((¬ nI n = 1 → ((¬ nI n = 2 → (vp_in (nI n - 3) 5 ∧ K r S1 (S4.1 25 ((nI n - 3)).toNatClampNeg) S4)) ∧ (nI n = 2 → K r S1 (S4.1 0 46) S4))) ∧ (nI n = 1 → K r S1 (S4.1 0 45) S4))) ∧ (nI n = 0 → K r S1 (S4.1 0 44) S4)))) ∧ (r3 = 0 → K r S1 (-1) (mT SM))))))) := by
      intro r hr
      refine m_planned hg hM' _ _ (fun _ => bq_n i1 (m_inY 0 7 rfl rfl c7 (bq_v i1 ?_))) (fun h => absurd hp0 h)
      exact m_find hg hM' hFm' e1 e2 (by omega) hr
    refine sw_of _ (by simp) (fun j ej A hA => ?_) (fun hx => ?_)
    · have hj : j < 3 := by
        rcases Nat.lt_or_ge j 3 with h | h
        · exact h
        · rw [List.getElem?_eq_none h] at hA
          exact absurd hA (by simp)
      have enj : n = j := (pn_eqN (by omega) (by omega)).mp ej
      subst enj
      match n, hj with
      | 0, _ =>
        cases hA
        refine mm _ (fun S2 V2 B2 => bq_u rfl ?_)
        rw [B2.1, sp_s hne, A8]
        exact hK _ _ _ lk V2
      | 1, _ =>
        cases hA
        refine mm _ (fun S2 V2 B2 => bq_v (by decide) (bq_u rfl ?_))
        rw [B2.2.1, A9]
        exact hK _ _ _ lk V2
      | 2, _ =>
        cases hA
        refine mm _ (fun S2 V2 B2 => bq_v (by decide) (bq_v (by decide) (bq_u rfl ?_)))
        rw [B2.2.2.1, A10]
        exact hK _ _ _ lk V2
    · have h3 : 3 ≤ n := by
        rcases Nat.lt_or_ge n 3 with h | h
        · exact absurd ⟨n, h, rfl⟩ hx
        · exact h
      have en : nI n - 3 = nI (n - 3) := pn_sub (b := 3) h3
      have v5 : vp_in (nI (n - 3)) 5 := pn_vp (by omega) (by decide)
      have mm2 : ∀ r, (∀ S2, agV (mT SM) S2 → RB S2 (lanA t F H sn) → K r S1 (nI ((lanA t F H sn).2.2.2 (n - 3)) - nI 1) S2) → _ := fun r hr => mm r (fun S2 V2 B2 => bq_v (fun e => by have := (pn_eqN (j := 0) (by omega) (by decide)).mp e; omega) (bq_v (fun e => by have := (pn_eqN (j := 1) (by omega) (by decide)).mp e; omega) (bq_v (fun e => by have := (pn_eqN (j := 2) (by omega) (by decide)).mp e; omega) ⟨by rw [en]; exact v5, by rw [en, pn_nat (by omega), B2.2.2.2.2.2 hne (n - 3) (by omega)]; exact hr S2 V2 B2⟩)))
      have ec : (nI H ≤ nI n - 3) ↔ H ≤ n - 3 := by rw [en, pn_leN (by omega) (by omega)]
      by_cases c3 : H ≤ n - 3
      · refine bq_t (ec.mpr c3) (mm2 _ (fun S2 V2 B2 => ?_))
        rw [lanA_P t F H sn _ c3]
        exact hK _ _ _ lk V2
      · have e25 : S1.1 (22 + 3) (nI n - 3).toNatClampNeg = nI ((lanA t F H sn).2.2.2 (n - 3)) - nI 1 := by rw [en, pn_nat (by omega), A3 _ (by omega)]
        refine bq_f (fun h => c3 (ec.mp h)) ⟨by rw [en]; exact v5, ?_⟩
        rw [e25]
        exact mm2 _ (fun S2 V2 B2 => hK _ _ _ lk V2)
  · exact x_inN c7 (bq_u rfl (m_planned hg hM' _ _ (fun _ => bq_n i1 (m_inN 0 7 rfl rfl c7 (bq_u rfl (same _)))) (fun h => absurd hp0 h)))
/-- a plan told -/
def tP (t : gT) (P : Nat → Nat) (n : Nat) : gT := fun k i => if k = 6 ∧ i < n then P i else t k i
theorem tP_0 (t : gT) (P : Nat → Nat) : tP t P 0 = t := by
  funext k i
  unfold tP
  rw [if_neg (by omega)]
theorem tP_succ (t : gT) (P : Nat → Nat) (n : Nat) : tU (tP t P n) 6 n (P n) = tP t P (n + 1) := by
  funext k i
  unfold tU tP
  by_cases e : k = 6 ∧ i = n
  · obtain ⟨rfl, rfl⟩ := e
    rw [if_pos ⟨rfl, rfl⟩, if_pos ⟨rfl, by omega⟩]
  · rw [if_neg e]
    by_cases e2 : k = 6 ∧ i < n
    · rw [if_pos e2, if_pos ⟨e2.1, by omega⟩]
    · rw [if_neg e2, if_neg (by omega)]
theorem tG_P {t : gT} (h : tG t) {P : Nat → Nat} (hP : ∀ j, P j ≤ t 0 1) (n : Nat) : tG (tP t P n) := by
  have e : ∀ k i, k ≠ 6 → tP t P n k i = t k i := fun k i hk => by unfold tP; rw [if_neg (by omega)]
  unfold tG at h ⊢
  rw [e 0 0 (by decide), e 0 1 (by decide), e 0 2 (by decide), e 0 3 (by decide)]
  obtain ⟨h1, h2, h3, h4, h5, h6, h7, h8, h9, h10, h11⟩ := h
  refine ⟨h1, h2, h3, h4, fun c hc => by rw [e _ _ (by decide)]; exact h5 c hc, fun s hs => ?_, fun k hk => by rw [e _ _ (by decide)]; exact h7 k hk, fun i hi => ?_, by rw [e _ _ (by decide), e _ _ (by decide)]; exact h9, fun k hk => by rw [e _ _ (by decide)]; exact h10 k hk, fun c hc => by rw [e _ _ (by decide)]; exact h11 c hc⟩
  · rw [e _ _ (by decide), e _ _ (by decide), e _ _ (by decide), e _ _ (by decide), e _ _ (by decide), e _ _ (by decide)]
    exact h6 s hs
  · unfold tP
    split
    · exact hP i
    · exact h8 i hi
/-- light(hours, snails) -/
theorem o_light {w : sn_W} {SX SM : sn_S} {t : gT} {F : gF} (hg : tG t) (hX : RXt SX t) (hM : RMt SM t) (hF : RFx w SX t F) (hFm : RFm SM t F) (hC : CL SX t F) (a b : Int32) {K : Int32 → sn_S → Int32 → sn_S → Prop}
    (hok : ∀ (M : Nat) (P : Nat → Nat) S1 S2, (∀ j, P j ≤ t 0 1) → RXt S1 (tP t P 5) → RMt S2 (tP t P 5) → (∀ k, k ≠ 6 → k ≠ 15 → (k < 22 ∨ 55 < k) → S1.1 k = SX.1 k) → S1.2.2 = SX.2.2 → S1.1 22 3 = SX.1 0 8 ∨ S1.1 22 3 = SX.1 22 3 → (∀ k, k ≠ 0 → k ≠ 2 → (k < 13 ∨ 28 < k) → S2.1 k = SM.1 k) → (∀ i, i ≠ 27 → i ≠ 30 → i ≠ 44 → i ≠ 45 → i ≠ 46 → S2.1 0 i = (mT SM).1 0 i) → (∀ j, j < 7 ∨ 11 < j → S2.1 2 j = SM.1 2 j) → (∀ k, k ≠ 0 → k ≠ 13 → k ≠ 14 → S2.2.1 k = SM.2.1 k) → (∀ i, i ≠ 31 → i ≠ 32 → S2.2.1 0 i = SM.2.1 0 i) → S2.2.2 = SM.2.2 → K (nI M) (xTold S1) (nI M) (mTold S2))
    (hno : K (-1) (xRef SX (-1) 1) (-1) (mRef (mT SM) (-1) 1)) : wpX0_light w a b SX (fun r S1 => wpX9_light a b SM (fun r2 S2 => K r S1 r2 S2)) := by
  have hM' := RMt_mT hM
  have hFm' : RFm (mT SM) t F := RFm_ag hFm (mT_2 SM)
  have h2 := two_le hg.1
  unfold wpX0_light wpX9_light
  simp only [sn_lt]
  rw [show sn_pI SM 0 0 0 = mT SM from rfl]
  refine x_isBest hg hX a b (fun hp => bq_v i1 ?_) (fun hp => bq_u rfl (x_refuse (i := 1) (by decide) (by decide) (m_planned hg hM' a b (fun h => absurd h hp) (fun _ => bq_u rfl (m_tellN (i := 1) (by decide) (by decide) (by decide) hno)))))
  have hp0 := hp
  obtain ⟨H, sn, e1, e2, e3, rfl, rfl⟩ := hp
  refine x_lan hg hX hF e2 (by omega) hC (fun S1 L1 e13 e14 e15 A1 => ?_)
  obtain ⟨A10, A0, A7, AL, AN⟩ := A1
  obtain ⟨A8, A9, A3⟩ := AN (lanA_ne t F H sn)
  have hne := lanA_ne t F H sn
  obtain ⟨_, _, _, hPN⟩ := lanA_rng (F := F) (sn := sn) hg e2
  have hP0 := lanA_P t F H sn
  have five : (5 : Int32) = nI 5 := rfl
  refine sn_jn_by (fun k => ∀ S', RXt S' (tP t (lanA t F H sn).2.2.2 5) → (∀ k, k ≠ 6 → S'.1 k = S1.1 k) → S'.2 = S1.2 → k S') (fun S2 X2 r2 e2' => ?_) (fun k13 hk13 => ?_)
  · rw [r2 22 (by decide), A8]
    refine x_told (w := w) ?_
    refine m_planned hg hM' _ _ (fun _ => bq_v i1 ?_) (fun h => absurd hp0 h)
    refine m_find hg hM' hFm' e1 e2 (by omega) (fun S3 V3 B3 => ?_)
    refine sn_jn_by (fun k => ∀ S', RMt S' (tP t (lanA t F H sn).2.2.2 5) → (∀ k, k ≠ 2 → S'.1 k = S3.1 k) → (∀ j, j < 7 ∨ 11 < j → S'.1 2 j = S3.1 2 j) → S'.2 = S3.2 → k S') (fun S4 M4 r4 r5 e4 => ?_) (fun k5 hk5 => ?_)
    · rw [r4 0 (by decide), B3.1, sp_s hne]
      refine m_tellP ((pn_leN (i := 0) (by decide) (by omega)).mpr (Nat.zero_le _)) ?_
      refine hok _ _ S2 S4 hPN X2 M4 (fun k h1 h3 h4 => by rw [r2 k h1, L1.1 k h3 (by omega)]) (by rw [e2', L1.2]) (Or.inl (by rw [r2 22 (by decide)]; exact e13)) (fun k h1 h3 h4 => ?_) (fun i h1 h3 h4 h5 h6 => ?_) (fun j hj => ?_) (fun k h1 h3 h4 => ?_) (fun i h1 h3 => ?_) ?_
      · rw [r4 k h3, V3.1 k h1 h4, mT, sI_row _ _ _ h1]
      · rw [r4 0 (by decide), V3.2.1 i h1 h3 h4 h5 h6]
      · rw [r5 j hj, V3.1 2 (by decide) (by decide), mT, sI_row _ _ _ (by decide)]
      · rw [e4, V3.2.2.1 k h1 h3 h4]
        rfl
      · rw [e4, V3.2.2.2.1 i h1 h3]
        rfl
      · rw [e4, V3.2.2.2.2]
        rfl
    · refine sn_lp2_inv (fun i S' => ∃ n : Nat, n ≤ 5 ∧ i = nI n ∧ RMt S' (tP t (lanA t F H sn).2.2.2 n) ∧ (∀ k, k ≠ 2 → S'.1 k = S3.1 k) ∧ (∀ j, j < 7 ∨ 11 < j → S'.1 2 j = S3.1 2 j) ∧ S'.2 = S3.2) (fun i _ => 5 - i.toNatClampNeg) ?_ _ _ ⟨0, Nat.zero_le _, rfl, by rw [tP_0]; exact RMt_V hM' V3, fun _ _ => rfl, fun _ _ => rfl, rfl⟩
      rintro rc i S4 ⟨n, hn, rfl, B1, B2, B3', B4⟩ hrc
      rw [five, pn_leN (by omega) (by omega)]
      by_cases hne' : n = 5
      · subst hne'
        exact bq_t (Nat.le_refl _) (hk5 S4 B1 B2 B3' B4)
      · refine bq_f (by omega) ?_
        rw [show (7 : Int32) + nI n = nI (7 + n) from pn_add 7 n, pn_nat (n := n) (by omega), pn_nat (n := 7 + n) (by omega), show nI n + 1 = nI (n + 1) from pn_add n 1, B2 25 (by decide), B3.2.2.2.2.2 hne n (by omega)]
        refine ⟨pn_vp (by omega) (by decide), vm (by omega), hrc _ _ ⟨n + 1, by omega, rfl, ?_, fun k hk => by rw [sI_row _ _ _ hk]; exact B2 k hk, fun j hj => by rw [sM_get, if_neg (by omega)]; exact B3' j hj, B4⟩ (by rw [pn_nat (by omega), pn_nat (by omega)]; omega)⟩
        rw [← tP_succ]
        exact RMt_plan (tG_P hg hPN n) B1 (by omega)
  · refine sn_lp2_inv (fun i S' => ∃ n : Nat, n ≤ 5 ∧ i = nI n ∧ RXt S' (tP t (lanA t F H sn).2.2.2 n) ∧ (∀ k, k ≠ 6 → S'.1 k = S1.1 k) ∧ S'.2 = S1.2) (fun i _ => 5 - i.toNatClampNeg) ?_ _ _ ⟨0, Nat.zero_le _, rfl, by rw [tP_0]; exact RXt_L (by decide) hX L1, fun _ _ => rfl, rfl⟩
    rintro rc i S4 ⟨n, hn, rfl, B1, B2, B4⟩ hrc
    rw [five, pn_leN (by omega) (by omega), pn_leN (by omega) (by omega)]
    by_cases hne' : n = 5
    · subst hne'
      exact bq_t (Nat.le_refl _) (hk13 S4 B1 B2 B4)
    · refine bq_f (by omega) ?_
      have v5 : vp_in (nI n) 5 := pn_vp (by omega) (by decide)
      refine sn_jn_by (fun k20 => k20 (nI ((lanA t F H sn).2.2.2 n) - nI 1)) ⟨v5, ?_⟩ (fun k20 hk20 => ?_)
      · rw [pn_nat (n := n) (by omega), show nI n + 1 = nI (n + 1) from pn_add n 1]
        refine hrc _ _ ⟨n + 1, by omega, rfl, ?_, fun k hk => by rw [sI_row _ _ _ hk]; exact B2 k hk, B4⟩ (by rw [pn_nat (by omega), pn_nat (by omega)]; omega)
        rw [← tP_succ]
        exact RXt_plan B1
      · by_cases c3 : H ≤ n
        · rw [hP0 n c3] at hk20
          exact bq_t c3 hk20
        · refine bq_f c3 ⟨v5, ?_⟩
          rw [pn_nat (n := n) (by omega), B2 (22 + 3) (by decide), A3 n (by omega)]
          exact hk20
