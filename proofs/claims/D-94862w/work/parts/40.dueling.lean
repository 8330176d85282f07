/-! THE PLAIN LAW, twenty-second part: duel, both sides -/
set_option maxRecDepth 100000
theorem m_duel {S : sn_S} {t : gT} {F : gF} {H s : Nat} (hg : tG t) (hM : RMt S t) (hF : RFm S t F) (h1 : 1 ≤ H) (hH : H ≤ 5) (hs : s < t 0 0) {p3 : Int32} {Q : Int32 → sn_S → Prop} (k : ∀ S', agV S S' → S'.1 26 0 = nI (dl t F s H 0 (fun _ => 0)) → S'.1 27 0 = nI (acP t F s H 0 (t 0 1 + 1) (fun _ => 0)).2 - nI 1 → ((¬ p3 = 0 → (vp_in 0 5 ∧ Q (S'.1 27 (0 : Int32).toNatClampNeg) S')) ∧ (p3 = 0 → (vp_in 0 6 ∧ Q (S'.1 26 (0 : Int32).toNatClampNeg) S')))) :
    wpX9_dawn S (fun (S5 : sn_S) => sn_jn (fun (S6 : sn_S) => wpX9_keepGarden 0 S6 (fun (S8 : sn_S) => sn_jn (fun (S9 : sn_S) => ((¬ p3 = 0 → (vp_in 0 5 ∧ Q (S9.1 27 (0 : Int32).toNatClampNeg) S9)) ∧ (p3 = 0 → (vp_in 0 6 ∧ Q (S9.1 26 (0 : Int32).toNatClampNeg) S9)))) (fun (k10 : sn_S → Prop) => sn_lp2 (fun (rc13 : Int32 → sn_S → Prop) (i11 : Int32) (S12 : sn_S) => ((i11 = (-1) → k10 S12) ∧ (¬ i11 = (-1) → wpX9_backTo i11 S12 (fun (S14 : sn_S) => sn_jn (fun (S15 : sn_S) => sn_jn (fun (S17 : sn_S) => (vp_in (nI s) 6 ∧ wpX9_ofSnail (nI s) 1 S17 (fun (r19 : Int32) => wpX9_apart (S17.1 15 (nI s).toNatClampNeg) r19 (fun (r20 : Int32) => wpX9_nextPlan (nI H) S17 (fun (r21 : Int32) (S22 : sn_S) => sn_jn (fun (v23 : Int32) => wpX9_settleDuel (nI H) v23 r20 S22 (fun (S25 : sn_S) => rc13 r21 S25)) (fun (k24 : Int32 → Prop) => ((¬ r21 = (-1) → k24 r21) ∧ (r21 = (-1) → k24 0)))))))) (fun (k18 : sn_S → Prop) => sn_lp2 (fun (rc28 : Int32 → sn_S → Prop) (i26 : Int32) (S27 : sn_S) => ((nI H ≤ i26 → k18 S27) ∧ (¬ nI H ≤ i26 → (vp_in i26 5 ∧ (vp_in i26 5 ∧ rc28 (i26 + 1) (sn_pI S27 28 (i26).toNatClampNeg (S27.1 24 (i26).toNatClampNeg))))))) 0 S15)) (fun (k16 : sn_S → Prop) => sn_lp2 (fun (rc32 : Int32 → sn_S → Prop) (i30 : Int32) (S31 : sn_S) => ((nI H ≤ i30 → k16 S31) ∧ (¬ nI H ≤ i30 → (vp_in i30 5 ∧ wpX9_runHour i30 (S31.1 24 (i30).toNatClampNeg) S31 (fun (S33 : sn_S) => wpX9_keepGarden (i30 + 1) S33 (fun (S34 : sn_S) => rc32 (i30 + 1) S34)))))) i11 S14))))) 0 S8))) (fun (k7 : sn_S → Prop) => sn_lp2 (fun (rc37 : Int32 → sn_S → Prop) (i35 : Int32) (S36 : sn_S) => ((5 ≤ i35 → k7 S36) ∧ (¬ 5 ≤ i35 → (vp_in i35 5 ∧ (vp_in i35 6 ∧ rc37 (i35 + 1) (sn_pI (sn_pI S36 24 (i35).toNatClampNeg (-1)) 26 (i35).toNatClampNeg 1000000)))))) 0 S5)) := by
  have h4 := hg.2.1
  have h6 := hg.1
  refine m_dawn hg hM (fun S1 A1 W1 R1 => ?_)
  have V1 := agV_G A1
  refine sn_jn_by (fun k3 => ∀ S', agV S S' → RG S' t (dawn t) → (∀ j, j < 5 → S'.1 24 j = -1) → (∀ j, j < 5 → S'.1 26 j = 1000000) → k3 S') (fun S2 V2 W2 e24 e26 => ?_) (fun k3 hk3 => ?_)
  · refine m_keep (h := 0) hg W2 (by omega) (fun S7 K7 R7 _ => ?_)
    have V7 := agV_trans V2 (agV_K K7)
    have z17 : ∀ i, i < t 0 0 → S7.1 17 i = nI (bt 0 i) := by
      intro i hi
      rw [K7.1 17 (by decide) (by decide) (by decide), W2.2.2.2 i hi, dawn_5 hg]
    refine sn_jn_by (fun k10 => ∀ S', agV S S' → S'.1 26 0 = nI (dl t F s H 0 (fun _ => 0)) → S'.1 27 0 = nI (acP t F s H 0 (t 0 1 + 1) (fun _ => 0)).2 - nI 1 → k10 S') k (fun k10 hk10 => ?_)
    refine sn_lp2_inv (fun i S' => (i = -1 ∧ agV S S' ∧ S'.1 26 0 = nI (dl t F s H 0 (fun _ => 0)) ∧ S'.1 27 0 = nI (acP t F s H 0 (t 0 1 + 1) (fun _ => 0)).2 - nI 1) ∨ ∃ (f : Nat) (p : Nat → Nat), i = nI f ∧ f < H ∧ (∀ j, p j ≤ t 0 1) ∧ (∀ j, H ≤ j → p j = 0) ∧ (∀ j, j < 5 → S'.1 24 j = nI (p j) - nI 1) ∧ (∀ h, h ≤ f → RK S' t h (gp t F p h)) ∧ (∀ s, s < t 0 0 → S'.1 17 s = nI (bt 0 s)) ∧ RD S' t F s H p p ∧ agV S S') (fun i S' => if i = -1 then 0 else fin (t 0 1) one H 0 H (pOf S' H) 0 + 1) ?_ _ _ (Or.inr ⟨0, fun _ => 0, rfl, by omega, fun _ => Nat.zero_le _, fun _ _ => rfl, fun j hj => by rw [K7.1 24 (by decide) (by decide) (by decide), e24 j hj]; rfl, fun h hh => ?_, z17, fun h hh => ⟨by rw [K7.1 26 (by decide) (by decide) (by decide), e26 h (by omega)]; rfl, fun hne => absurd rfl hne⟩, V7⟩)
    · rintro rc i S9 hI hrc
      rcases hI with ⟨rfl, hV, h26, h27⟩ | ⟨f, p, rfl, hf, hp, hp0, h24, hK, h17, hD, hV⟩
      · exact bq_t rfl (hk10 S9 hV h26 h27)
      · have hne : ∀ x : Nat, x < 5 → ¬ nI x = -1 := by
          intro x hx e
          have := (sp_m1 (n := x + 1) (by omega)).mp (by rw [pn_sub (by omega)]; exact e)
          omega
        have hμ : pOf S9 H = p := pOf_eq hH (fun j _ => by have := hp j; omega) hp0 h24
        rw [if_neg (hne f (by omega)), hμ] at hrc
        refine bq_f (hne f (by omega)) ?_
        refine m_back hg (hK f (Nat.le_refl _)) (fun s hs => by rw [gp_5 hg]; exact h17 s hs) (by omega) (fun S11 B11 W11 => ?_)
        have V11 := agV_trans hV (agV_B B11)
        refine sn_jn_by (fun k13 => ∀ S', agV S S' → RG S' t (gp t F p H) → (∀ h, h ≤ H → RK S' t h (gp t F p h)) → S'.1 24 = S9.1 24 → RD S' t F s H p p → k13 S') (fun S12 V12 W12 K12 e24' D12 => ?_) (fun k13 hk13 => ?_)
        · refine sn_jn_by (fun k18 => ∀ S', (∀ k, k ≠ 28 → S'.1 k = S12.1 k) → S'.2 = S12.2 → (∀ j, j < H → S'.1 28 j = nI (p j) - nI 1) → k18 S') (fun S17 r17 e17 t28 => ?_) (fun k18 hk18 => ?_)
          · have V17 : agV S S17 := agV_trans V12 ⟨fun k _ _ => r17 k (by omega), fun i _ _ _ _ _ => by rw [r17 0 (by decide)], fun k _ _ _ => by rw [e17], fun i _ _ => by rw [e17], by rw [e17]⟩
            refine ⟨pn_vp (by omega) (by decide), m_ofSnail (s := s) (f := 1) (RMt_V hM V17) (by omega) ?_⟩
            rw [pn_nat (n := s) (by omega), r17 15 (by decide), W12.1 s hs]
            refine m_apart ((gp_ok (F := F) (p := p) hg H hH).1.1 s hs) (hg.2.2.2.2.2.1 s hs).2.1 ?_
            have ed : apt (gp t F p H 1 s) (t 4 (6 * s + 1)) = dl t F s 0 H p := rfl
            rw [ed]
            refine m_next (p := p) hg (RMt_V hM V17) hH (fun j _ => hp j) (fun h hh => by rw [r17 24 (by decide), e24']; exact h24 h hh) (fun h S16 P16 hh hph ht h24' => ?_) (fun S16 P16 ht => ?_)
            · have p' : ∀ j, nx p h H j ≤ t 0 1 := by
                intro j
                unfold nx
                split
                · exact hp j
                · split
                  · omega
                  · split
                    · omega
                    · exact hp j
              have p0' : ∀ j, H ≤ j → nx p h H j = 0 := by
                intro j hj
                unfold nx
                rw [if_neg (by omega), if_neg (by omega), if_neg (by omega)]
                exact hp0 j hj
              refine sn_jn_by (fun k24 => k24 (nI h)) ?_ (fun k24 hk24 => bq_v (hne h (by omega)) hk24)
              refine m_settle hg hs hH hh ht (RD_ag D12 (by rw [P16.1 26 (by decide), r17 26 (by decide)]) (by rw [P16.1 27 (by decide), r17 27 (by decide)])) (fun j hj => by rw [P16.1 28 (by decide)]; exact t28 j hj) (fun S25 E25 D25 => ?_)
              refine hrc _ _ (Or.inr ⟨h, nx p h H, rfl, hh, p', p0', fun j hj => by rw [E25.1 24 (by decide) (by decide)]; exact h24' j hj, fun h' hh' => ?_, fun i hi => ?_, fun h' hh' => ?_, agV_trans V17 (agV_trans (agV_P P16) (agV_E E25))⟩) ?_
              · rw [← gp_congr (p := p) h' (fun j hj => by unfold nx; rw [if_pos (by omega)])]
                refine RK_ag (K12 h' (by omega)) (fun k h1 h2 => ?_)
                rw [E25.1 k (by omega) (by omega), P16.1 k (by omega), r17 k (by omega)]
              · rw [E25.1 17 (by decide) (by decide), P16.1 17 (by decide), r17 17 (by decide), W12.2.2.2 i hi, gp_5 hg]
              · have := D25 h' hh'
                by_cases e1 : h' < h
                · simp only [if_pos e1] at this
                  rw [show nx p h H h' = p h' by unfold nx; rw [if_pos e1], acP_congr (q := p) (fun j hj => by unfold nx; rw [if_pos (by omega)])]
                  exact this
                · by_cases e2 : h' = h
                  · subst e2
                    simp only [if_neg e1, if_true] at this
                    rw [show nx p h' H h' = p h' + 1 by simp [nx], acP_congr (q := p) (fun j hj => by unfold nx; rw [if_pos (by omega)])]
                    exact this
                  · simp only [if_neg e1, if_neg e2] at this
                    rw [show nx p h H h' = 0 by unfold nx; rw [if_neg e1, if_neg e2, if_pos hh']]
                    exact this
              · have hμ' : pOf S25 H = nx p h H := pOf_eq hH (fun j _ => by have := p' j; omega) p0' (fun j hj => by rw [E25.1 24 (by decide) (by decide)]; exact h24' j hj)
                rw [if_neg (hne h (by omega)), hμ']
                have := fin_less hh hph ht
                omega
            · refine sn_jn_by (fun k24 => k24 0) ?_ (fun k24 hk24 => bq_u rfl hk24)
              refine m_settle (to := 0) hg hs hH (by omega) (fun j _ hj => ht j hj) (RD_ag D12 (by rw [P16.1 26 (by decide), r17 26 (by decide)]) (by rw [P16.1 27 (by decide), r17 27 (by decide)])) (fun j hj => by rw [P16.1 28 (by decide)]; exact t28 j hj) (fun S25 E25 D25 => ?_)
              have := D25 0 (by omega)
              simp only [if_neg (Nat.lt_irrefl _), if_true] at this
              rw [ht 0 (by omega), acP_congr (q := fun _ => 0) (fun j hj => absurd hj (Nat.not_lt_zero _))] at this
              have hr := acP_rng (F := F) (p := fun _ => 0) (d := t 0 1 + 1) hg hs (show 0 < H by omega) hH
              have hn := hr.2 (by omega)
              refine hrc _ _ (Or.inl ⟨rfl, agV_trans V17 (agV_trans (agV_P P16) (agV_E E25)), ?_, this.2 hn⟩) (by rw [if_pos rfl]; omega)
              have ed0 := dl_acP (t := t) (F := F) (s := s) (H := H) (h := 0) (p := fun _ => 0) (by omega)
              rw [Nat.sub_zero] at ed0
              rw [this.1, ed0]
              unfold bc
              rw [if_neg hn]
          · refine sn_lp2_inv (fun i S' => ∃ n : Nat, n ≤ H ∧ i = nI n ∧ (∀ k, k ≠ 28 → S'.1 k = S12.1 k) ∧ S'.2 = S12.2 ∧ (∀ j, j < n → S'.1 28 j = nI (p j) - nI 1)) (fun i _ => 5 - i.toNatClampNeg) ?_ _ _ ⟨0, Nat.zero_le _, rfl, fun _ _ => rfl, rfl, fun j hj => absurd hj (Nat.not_lt_zero _)⟩
            rintro rc2 i S18 ⟨n, hn, rfl, r1, r2, r3⟩ hrc2
            rw [pn_leN (by omega) (by omega)]
            by_cases hne' : n = H
            · subst hne'
              exact bq_t (Nat.le_refl _) (hk18 S18 r1 r2 r3)
            · refine bq_f (by omega) ?_
              have v5 : vp_in (nI n) 5 := pn_vp (by omega) (by decide)
              rw [pn_nat (n := n) (by omega), r1 24 (by decide), e24', h24 n (by omega), show nI n + 1 = nI (n + 1) from pn_add n 1]
              refine ⟨v5, v5, hrc2 _ _ ⟨n + 1, by omega, rfl, fun k hk => by rw [sI_row _ _ _ hk]; exact r1 k hk, r2, fun j hj => ?_⟩ (by rw [pn_nat (by omega), pn_nat (by omega)]; omega)⟩
              rw [sI_get]
              by_cases e : j = n
              · rw [if_pos ⟨rfl, e⟩, e]
              · rw [if_neg (fun hh => e hh.2)]
                exact r3 j (by omega)
        · refine sn_lp2_inv (fun i S' => ∃ n : Nat, f ≤ n ∧ n ≤ H ∧ i = nI n ∧ agV S S' ∧ RG S' t (gp t F p n) ∧ (∀ h, h ≤ n → RK S' t h (gp t F p h)) ∧ S'.1 24 = S9.1 24 ∧ RD S' t F s H p p) (fun i _ => 5 - i.toNatClampNeg) ?_ _ _ ⟨f, Nat.le_refl _, by omega, rfl, V11, W11, fun h hh => RK_ag (hK h hh) (fun k h1 h2 => B11.1 k (by omega) (by omega) (by omega)), B11.1 24 (by decide) (by decide) (by decide), RD_ag hD (B11.1 26 (by decide) (by decide) (by decide)) (B11.1 27 (by decide) (by decide) (by decide))⟩
          rintro rc2 i S18 ⟨n, hfn, hn, rfl, V18, W18, K18, e24', B18⟩ hrc2
          rw [pn_leN (by omega) (by omega)]
          by_cases hne' : n = H
          · subst hne'
            exact bq_t (Nat.le_refl _) (hk13 S18 V18 W18 K18 e24' B18)
          · refine bq_f (by omega) ⟨pn_vp (by omega) (by decide), ?_⟩
            rw [pn_nat (n := n) (by omega), e24', h24 n (by omega), show nI n + 1 = nI (n + 1) from pn_add n 1]
            obtain ⟨G18, I18⟩ := gp_ok (F := F) (p := p) hg n (by omega)
            refine m_hour hg (RMt_V hM V18) (RFm_V hF V18) W18 G18 I18 (by omega) (hp n) (fun S20 A20 W20 _ _ => ?_)
            refine m_keep (h := n + 1) hg W20 (by omega) (fun S21 K21 R21 O21 => ?_)
            have r : ∀ k, 21 ≤ k → S20.1 k = S18.1 k := fun k hk => A20.1 k (by omega) (by omega) (by omega) (by omega) (by omega) (by omega) (by omega)
            refine hrc2 _ _ ⟨n + 1, by omega, by omega, rfl, agV_trans V18 (agV_trans (agV_G A20) (agV_K K21)), ?_, fun h hh => ?_, ?_, ?_⟩ (by rw [pn_nat (by omega), pn_nat (by omega)]; omega)
            · have W20' : RG S20 t (gp t F p (n + 1)) := W20
              unfold RG at W20' ⊢
              rw [K21.1 15 (by decide) (by decide) (by decide), K21.1 16 (by decide) (by decide) (by decide), K21.1 17 (by decide) (by decide) (by decide), K21.1 18 (by decide) (by decide) (by decide)]
              exact W20'
            · by_cases e : h = n + 1
              · subst e
                exact R21
              · exact O21 h _ (by omega) e (RK_ag (K18 h (by omega)) (fun k h1 h2 => r k h1))
            · rw [K21.1 24 (by decide) (by decide) (by decide), r 24 (by decide)]
              exact e24'
            · exact RD_ag B18 (by rw [K21.1 26 (by decide) (by decide) (by decide), r 26 (by decide)]) (by rw [K21.1 27 (by decide) (by decide) (by decide), r 27 (by decide)])
    · have : h = 0 := by omega
      subst this
      exact R7
  · refine sn_lp2_inv (fun i S' => ∃ n : Nat, n ≤ 5 ∧ i = nI n ∧ agV S S' ∧ RG S' t (dawn t) ∧ (∀ j, j < n → S'.1 24 j = -1) ∧ (∀ j, j < n → S'.1 26 j = 1000000)) (fun i _ => 5 - i.toNatClampNeg) ?_ _ _ ⟨0, Nat.zero_le _, rfl, V1, W1, fun j hj => absurd hj (Nat.not_lt_zero _), fun j hj => absurd hj (Nat.not_lt_zero _)⟩
    rintro rc i S2 ⟨n, hn, rfl, hV, hW, hr, hr2⟩ hrc
    rw [show (5 : Int32) = nI 5 from rfl, pn_leN (by omega) (by omega)]
    by_cases hne : n = 5
    · subst hne
      exact bq_t (Nat.le_refl _) (hk3 S2 hV hW hr hr2)
    · refine bq_f (by omega) ?_
      rw [pn_nat (n := n) (by omega), show nI n + 1 = nI (n + 1) from pn_add n 1]
      refine ⟨pn_vp (by omega) (by decide), pn_vp (by omega) (by decide), hrc _ _ ⟨n + 1, by omega, rfl, agV_I (agV_I hV ⟨by decide, by decide⟩ _ _) ⟨by decide, by decide⟩ _ _, ?_, fun j hj => ?_, fun j hj => ?_⟩ (by rw [pn_nat (by omega), pn_nat (by omega)]; omega)⟩
      · unfold RG at hW ⊢
        rw [sI_row _ _ _ (by decide), sI_row _ _ _ (by decide), sI_row _ _ _ (by decide), sI_row _ _ _ (by decide), sI_row _ _ _ (by decide), sI_row _ _ _ (by decide), sI_row _ _ _ (by decide), sI_row _ _ _ (by decide)]
        exact hW
      · rw [sI_row _ _ _ (by decide), sI_get]
        by_cases e : j = n
        · rw [if_pos ⟨rfl, e⟩]
        · rw [if_neg (fun hh => e hh.2)]
          exact hr j (by omega)
      · rw [sI_get]
        by_cases e : j = n
        · rw [if_pos ⟨rfl, e⟩]
        · rw [if_neg (fun hh => e hh.2), sI_row _ _ _ (by decide)]
          exact hr2 j (by omega)
/-- x's duel is kept -/
def CU (S : sn_S) (t : gT) (F : gF) : Prop := S.1 0 16 = S.1 0 8 → ∃ H s : Nat, H ≤ 5 ∧ s < t 0 0 ∧ S.1 0 17 = nI H ∧ S.1 0 18 = nI s ∧ S.1 0 19 = nI (dl t F s H 0 (fun _ => 0)) ∧ S.1 0 20 = nI (acP t F s H 0 (t 0 1 + 1) (fun _ => 0)).2 - nI 1
def agU (S S' : sn_S) : Prop := (∀ k, k ≠ 0 → k ≠ 15 → (k < 56 ∨ 89 < k) → S'.1 k = S.1 k) ∧ (∀ i, (i < 16 ∨ 20 < i) → S'.1 0 i = S.1 0 i) ∧ S'.2.2 = S.2.2
/-- duel(hours, snail, what) -/
theorem o_duel {w : sn_W} {SX SM : sn_S} {t : gT} {F : gF} (hg : tG t) (hX : RXt SX t) (hM : RMt SM t) (hF : RFx w SX t F) (hFm : RFm SM t F) (hC : CU SX t F) (a b c : Int32) {K : Int32 → sn_S → Int32 → sn_S → Prop}
    (hK : ∀ r S1 S2, agU SX S1 → CU S1 t F → (S1.1 0 16 = SX.1 0 16 ∨ S1.1 0 16 = SX.1 0 8) → agV (mT SM) S2 → K r S1 r S2) : wpX0_duel w a b c SX (fun r S1 => wpX9_duel a b c SM (fun r2 S2 => K r S1 r2 S2)) := by
  have hM' := RMt_mT hM
  have hFm' : RFm (mT SM) t F := RFm_ag hFm (mT_2 SM)
  have h6 := hg.1
  unfold wpX0_duel wpX9_duel
  simp only [sn_lt]
  rw [show sn_pI SM 0 0 0 = mT SM from rfl]
  have same : ∀ r, K r SX r (mT SM) := fun r => hK r SX (mT SM) ⟨fun _ _ _ _ => rfl, fun _ _ => rfl, rfl⟩ hC (Or.inl rfl) (agV_refl _)
  by_cases c1 : ¬ a < 1 ∧ ¬ 5 < a
  · obtain ⟨H, e1, e2, rfl⟩ := rg15.mp c1
    refine x_inY c1 (bq_n i1 ?_)
    by_cases c2 : ∃ s : Nat, s < t 0 0 ∧ b = nI s
    · obtain ⟨s, hs, rfl⟩ := c2
      refine x_snailY hX.1 h6 hs (bq_n i1 ?_)
      by_cases c3 : ¬ c < 0 ∧ ¬ 1 < c
      · refine x_inY c3 (bq_v i1 ?_)
        -- the model
        have mm : ∀ r S1, ((¬ c = 0 → r = nI (acP t F s H 0 (t 0 1 + 1) (fun _ => 0)).2 - nI 1) ∧ (c = 0 → r = nI (dl t F s H 0 (fun _ => 0)))) → agU SX S1 → CU S1 t F → (S1.1 0 16 = SX.1 0 16 ∨ S1.1 0 16 = SX.1 0 8) → wpX9_duel (nI H) (nI s) c SM (fun r2 S2 => K r S1 r2 S2) := by
          intro r S1 hr hA hU hst
          unfold wpX9_duel
          simp only [sn_lt]
          rw [show sn_pI SM 0 0 0 = mT SM from rfl]
          refine m_inY 1 5 rfl rfl c1 (bq_n i1 (m_snailY hM'.1 h6 hs (bq_n i1 (m_inY 0 1 rfl rfl c3 (bq_v i1 ?_)))))
          refine m_duel hg hM' hFm' e1 e2 hs (p3 := c) (Q := fun r2 S2 => K r S1 r2 S2) (fun S2 V2 h26 h27 => ⟨fun hc => ⟨pn_vp (n := 0) (by decide) (by decide), ?_⟩, fun hc => ⟨pn_vp (n := 0) (by decide) (by decide), ?_⟩⟩)
          · rw [show (0 : Int32).toNatClampNeg = 0 from rfl, h27, ← hr.1 hc]
            exact hK _ _ _ hA hU hst V2
          · rw [show (0 : Int32).toNatClampNeg = 0 from rfl, h26, ← hr.2 hc]
            exact hK _ _ _ hA hU hst V2
        have mm' : ∀ r S1, ((¬ c = 0 → r = nI (acP t F s H 0 (t 0 1 + 1) (fun _ => 0)).2 - nI 1) ∧ (c = 0 → r = nI (dl t F s H 0 (fun _ => 0)))) → agU SX S1 → CU S1 t F → (S1.1 0 16 = SX.1 0 16 ∨ S1.1 0 16 = SX.1 0 8) → _ := fun r S1 h1 h2 h3 h4 => by
          have := mm r S1 h1 h2 h3 h4
          unfold wpX9_duel at this
          simp only [sn_lt] at this
          rw [show sn_pI SM 0 0 0 = mT SM from rfl] at this
          exact this
        refine sn_jn_by (fun k14 => ∀ S1, S1.1 0 19 = nI (dl t F s H 0 (fun _ => 0)) → S1.1 0 20 = nI (acP t F s H 0 (t 0 1 + 1) (fun _ => 0)).2 - nI 1 → agU SX S1 → CU S1 t F → (S1.1 0 16 = SX.1 0 16 ∨ S1.1 0 16 = SX.1 0 8) → k14 S1) (fun S1 e19 e20 hA hU hst => ?_) (fun k14 hk14 => ?_)
        · rw [e19, e20]
          exact ⟨fun hc => mm' _ S1 ⟨fun _ => rfl, fun h => absurd h hc⟩ hA hU hst, fun hc => mm' _ S1 ⟨fun h => absurd hc h, fun _ => rfl⟩ hA hU hst⟩
        · refine sn_jn_by (fun k => k) ?_ (fun k15 hk15 => ?_)
          · have r0 : ∀ i, (sn_pI (sn_pI (sn_pI SX 0 16 (SX.1 0 8)) 0 17 (nI H)) 0 18 (nI s)).1 0 i = if i = 18 then nI s else if i = 17 then nI H else if i = 16 then SX.1 0 8 else SX.1 0 i := by
              intro i
              simp [sI_get]
            have rk : ∀ k, k ≠ 0 → (sn_pI (sn_pI (sn_pI SX 0 16 (SX.1 0 8)) 0 17 (nI H)) 0 18 (nI s)).1 k = SX.1 k := by
              intro k hk
              rw [sI_row _ _ _ hk, sI_row _ _ _ hk, sI_row _ _ _ hk]
            have r2 : (sn_pI (sn_pI (sn_pI SX 0 16 (SX.1 0 8)) 0 17 (nI H)) 0 18 (nI s)).2.2 = SX.2.2 := rfl
            generalize sn_pI (sn_pI (sn_pI SX 0 16 (SX.1 0 8)) 0 17 (nI H)) 0 18 (nI s) = S0 at r0 rk r2 ⊢
            have X0 : RXt S0 t := by
              unfold RXt at hX ⊢
              rw [rk 2 (by decide), rk 3 (by decide), rk 4 (by decide), rk 5 (by decide), rk 6 (by decide), rk 7 (by decide), rk 8 (by decide), rk 9 (by decide)]
              exact hX
            refine ⟨pn_vp (n := 0) (by decide) (by decide), by decide, ?_⟩
            rw [show 56 + 4 + 5 * (0 : Int32).toNatClampNeg = 60 from rfl]
            refine x_begins (by decide) hg X0 (fun S1 A1 W1 => ?_)
            have L1 : agL 56 S0 S1 := agL_W (kl := 56) (j := 4) (by omega) A1
            refine x_duelR (kl := 56) (H := H) (s := s) (Or.inr rfl) hg hs e2 H 8 0 (fun _ => 0) S1 (by omega) (by omega) (RXt_L (by decide) X0 L1) (RFx_ag (RFx_ag hF r2) L1.2) W1 _ (fun S2 C1 C2 C3 C4 C5 => ?_)
            have L2 := agL_trans L1 C1
            have e58 := C5 (by omega)
            have q0 : ∀ i, S2.1 0 i = S0.1 0 i := fun i => by rw [L2.1 0 (by decide) (by decide)]
            rw [show (0 : Int32).toNatClampNeg = 0 from rfl, sI_row _ _ _ (show (56 + 2 : Nat) ≠ 0 by decide), e58]
            refine ⟨pn_vp (n := 0) (by decide) (by decide), hk14 _ (by simp [sI_get]) (by simp [sI_get]; rfl) ⟨fun k h0 h1 h2 => ?_, fun i hi => ?_, ?_⟩ (fun _ => ⟨H, s, e2, hs, ?_, ?_, by simp [sI_get], by simp [sI_get]; rfl⟩) (Or.inr ?_)⟩
            · rw [sI_row _ _ _ h0, sI_row _ _ _ h0, L2.1 k h1 (by omega), rk k h0]
            · rw [sI_get, if_neg (by omega), sI_get, if_neg (by omega), q0, r0, if_neg (by omega), if_neg (by omega), if_neg (by omega)]
            · rw [show (sn_pI (sn_pI S2 0 19 (nI (dl t F s H 0 fun _ => 0))) 0 20 _).2.2 = S2.2.2 from rfl, L2.2, r2]
            · rw [sI_get, if_neg (by omega), sI_get, if_neg (by omega), q0, r0]
              rfl
            · rw [sI_get, if_neg (by omega), sI_get, if_neg (by omega), q0, r0]
              rfl
            · rw [sI_get, if_neg (by omega), sI_get, if_neg (by omega), q0, r0]
              rfl
          · by_cases d1 : SX.1 0 16 = SX.1 0 8
            · refine bq_u d1 ?_
              by_cases d2 : SX.1 0 17 = nI H
              · refine bq_u d2 ?_
                by_cases d3 : SX.1 0 18 = nI s
                · refine bq_t d3 ?_
                  obtain ⟨H', s', f1, f2, f3, f4, f5, f6⟩ := hC d1
                  have g1 : H = H' := (pn_eqN (by omega) (by omega)).mp (d2.symm.trans f3)
                  have g2 : s = s' := (pn_eqN (by omega) (by omega)).mp (d3.symm.trans f4)
                  subst g1 g2
                  exact hk14 SX f5 f6 ⟨fun _ _ _ _ => rfl, fun _ _ => rfl, rfl⟩ hC (Or.inl rfl)
                · exact bq_f d3 hk15
              · exact bq_v d2 hk15
            · exact bq_v d1 hk15
      · exact x_inN c3 (bq_u rfl (m_inY 1 5 rfl rfl c1 (bq_n i1 (m_snailY hM'.1 h6 hs (bq_n i1 (m_inN 0 1 rfl rfl c3 (bq_u rfl (same _))))))))
    · exact x_snailN hX.1 h6 c2 (bq_z rfl (m_inY 1 5 rfl rfl c1 (bq_n i1 (m_snailN hM'.1 h6 c2 (bq_z rfl (same _))))))
  · exact x_inN c1 (bq_z rfl (m_inN 1 5 rfl rfl c1 (bq_z rfl (same _))))
