/-! THE PLAIN LAW, sixteenth part: the day: both sides; where, day, trail -/
set_option maxRecDepth 100000
/-- the garden behind n minutes of the plan -/
def dayM (t : gT) (F : gF) : Nat → gT
  | 0 => dawn t
  | n + 1 => minute t F n (t 6 (n / 12)) (dayM t F n)
theorem dayM_mins {t : gT} {F : gF} {h : Nat} : ∀ n, n ≤ 12 → mins t F (12 * h) (t 6 h) (dayM t F (12 * h)) n = dayM t F (12 * h + n)
  | 0, _ => rfl
  | n + 1, hn => by
    show minute t F (12 * h + n) (t 6 h) (mins t F (12 * h) (t 6 h) (dayM t F (12 * h)) n) = minute t F (12 * h + n) (t 6 ((12 * h + n) / 12)) (dayM t F (12 * h + n))
    rw [dayM_mins n (by omega), show (12 * h + n) / 12 = h by omega]
theorem dayM_hour {t : gT} {F : gF} (h : Nat) : hour t F h (t 6 h) (dayM t F (12 * h)) = dayM t F (12 * (h + 1)) := dayM_mins 12 (Nat.le_refl _)
theorem dayM_ok {t : gT} {F : gF} (hg : tG t) : ∀ n, n ≤ 60 → gG t (dayM t F n) ∧ gI t (dayM t F n)
  | 0, _ => ⟨gG_dawn' hg, gI_dawn hg⟩
  | n + 1, hn => by
    obtain ⟨h1, h2⟩ := dayM_ok (F := F) hg n (by omega)
    exact ⟨gG_minute hg h1 (by omega), gI_minuteN hg h1 h2 (by omega) _ (Nat.le_refl _)⟩
theorem m_plan {S : sn_S} {t : gT} {F : gF} (hg : tG t) (hM : RMt S t) (hF : RFm S t F) {Q : sn_S → Prop} (k : ∀ S', agG S S' → RG S' t (dayM t F 60) → RS S' t (dayM t F 60) → (∀ s j, s < t 0 0 → j < 60 → S'.1 20 (60 * s + j) = nI (dayM t F (j + 1) 1 s)) → Q S') : wpX9_runPlan S Q := by
  unfold wpX9_runPlan
  refine m_dawn hg hM (fun S1 A1 W1 R1 => ?_)
  refine sn_lp2_inv (fun i S' => ∃ n : Nat, n ≤ 5 ∧ i = nI n ∧ agG S S' ∧ RG S' t (dayM t F (12 * n)) ∧ RS S' t (dayM t F (12 * n)) ∧ (∀ s j, s < t 0 0 → j < 12 * n → S'.1 20 (60 * s + j) = nI (dayM t F (j + 1) 1 s))) (fun i _ => 5 - i.toNatClampNeg) ?_ _ _ ⟨0, Nat.zero_le _, rfl, A1, W1, R1, fun s j _ hj => absurd hj (Nat.not_lt_zero _)⟩
  rintro rc i S2 ⟨n, hn, rfl, hA, hW, hS, hP⟩ hrc
  rw [show (5 : Int32) = nI 5 from rfl, pn_leN (by omega) (by omega)]
  by_cases hne : n = 5
  · subst hne
    exact bq_t (Nat.le_refl _) (k S2 hA hW hS hP)
  · refine bq_f (by omega) ?_
    have M2 := RMt_G hM hA
    rw [show (7 : Int32) + nI n = nI (7 + n) from pn_add 7 n, pn_nat (n := 7 + n) (by omega), M2.2.2.2.2.2.2.2.1 n (by omega)]
    obtain ⟨G2, I2⟩ := dayM_ok (F := F) hg (12 * n) (by omega)
    refine ⟨vm (by omega), m_hour hg M2 (RFm_G hF hA) hW G2 I2 (by omega) (hg.2.2.2.2.2.2.2.1 n (by omega)) (fun S3 A3 W3 R3 P3 => ?_)⟩
    rw [dayM_hour] at W3 R3
    rw [show nI n + 1 = nI (n + 1) from pn_add n 1]
    refine hrc _ _ ⟨n + 1, by omega, rfl, agG_trans hA A3, W3, R3 hS, fun s j hs hj => ?_⟩ (by rw [pn_nat (by omega), pn_nat (by omega)]; omega)
    rw [P3 s j hs (by omega)]
    by_cases e : 12 * n ≤ j ∧ j < 12 * n + 12
    · rw [if_pos e, dayM_mins (j - 12 * n + 1) (by omega), show 12 * n + (j - 12 * n + 1) = j + 1 by omega]
    · rw [if_neg e]
      exact hP s j hs (by omega)
/-- a stamp: the version at which something was worked out -/
def stp (x : Int32) (v : Nat) : Prop := ∃ d : Nat, d ≤ v + 1 ∧ x = nI d - nI 1
/-- x's day -/
def dayX (S : sn_S) (t : gT) (F : gF) : Prop := RW 16 S t (dayM t F 60) ∧ (∀ s j, s < t 0 0 → j < 60 → S.1 21 (6 * j + s) = nI (dayM t F (j + 1) 1 s))
def CD (S : sn_S) (t : gT) (F : gF) : Prop := S.1 0 13 = S.1 0 8 → dayX S t F
/-- but for the day of x -/
def agD (S S' : sn_S) : Prop := (∀ k, k ≠ 0 → (k < 15 ∨ 21 < k) → S'.1 k = S.1 k) ∧ (∀ i, i ≠ 13 → S'.1 0 i = S.1 0 i) ∧ S'.2.2 = S.2.2
theorem agD_refl (S : sn_S) : agD S S := ⟨fun _ _ _ => rfl, fun _ _ => rfl, rfl⟩
theorem agD_trans {S1 S2 S3 : sn_S} (h : agD S1 S2) (k : agD S2 S3) : agD S1 S3 := ⟨fun i h0 h1 => (k.1 i h0 h1).trans (h.1 i h0 h1), fun i hi => (k.2.1 i hi).trans (h.2.1 i hi), k.2.2.trans h.2.2⟩
theorem agD_W {S S' : sn_S} (h : agW 16 S S') : agD S S' := ⟨fun k h0 h1 => h.1 k (by omega) (by omega), fun i hi => by rw [h.1 0 (by omega) (by omega)], h.2.2⟩
theorem RXt_D {S S' : sn_S} {t : gT} (h : RXt S t) (a : agD S S') : RXt S' t := by
  unfold RXt at h ⊢
  rw [a.1 2 (by decide) (by omega), a.1 3 (by decide) (by omega), a.1 4 (by decide) (by omega), a.1 5 (by decide) (by omega), a.1 6 (by decide) (by omega), a.1 7 (by decide) (by omega), a.1 8 (by decide) (by omega), a.1 9 (by decide) (by omega)]
  exact h
theorem cpo (n : Nat) (hn : n + 6 ≤ 360) : sn_cp 0 (nI n) 6 6 360 := by
  have h0 : (0 : Int32).toNatClampNeg = 0 := rfl
  have h6 : (6 : Int32).toNatClampNeg = 6 := rfl
  refine ⟨by decide, fun h => ?_, by decide, by rw [h0, h6]; omega, by rw [pn_nat (by omega), h6]; omega⟩
  rw [show (0 : Int32) = nI 0 from rfl, pn_ltN (by omega) (by decide)] at h
  omega
theorem x_looks {w : sn_W} {S : sn_S} {t : gT} {F : gF} (hg : tG t) (hX : RXt S t) (hF : RFx w S t F) (hC : CD S t F) {Q : sn_S → Prop} (k : ∀ S', agD S S' → (S'.1 0 13 = S.1 0 8) → dayX S' t F → Q S') : wpX0_looks w S Q := by
  unfold wpX0_looks
  have h6 := hg.1
  by_cases hv : S.1 0 13 = S.1 0 8
  · exact bq_u hv (k S (agD_refl S) hv (hC hv))
  · refine bq_v hv ?_
    simp only [sn_lt]
    have A0 : agD S (sn_pI S 0 13 (S.1 0 8)) := ⟨fun k h0 _ => sI_row _ _ _ h0, fun i hi => by rw [sI_get, if_neg (fun h => hi h.2)], rfl⟩
    refine x_begins (by decide) hg (RXt_D hX A0) (fun S1 B1 W1 => ?_)
    have A1 := agD_trans A0 (agD_W B1)
    have e13 : S1.1 0 13 = S.1 0 8 := by rw [B1.1 0 (by decide) (by decide), sI_get, if_pos ⟨rfl, rfl⟩]
    refine sn_lp2_inv (fun i S' => ∃ n : Nat, n ≤ 60 ∧ i = nI n ∧ agD S S' ∧ S'.1 0 13 = S.1 0 8 ∧ RW 16 S' t (dayM t F n) ∧ (∀ s j, s < t 0 0 → j < n → S'.1 21 (6 * j + s) = nI (dayM t F (j + 1) 1 s))) (fun i _ => 60 - i.toNatClampNeg) ?_ _ _ ⟨0, Nat.zero_le _, rfl, A1, e13, W1, fun s j _ hj => absurd hj (Nat.not_lt_zero _)⟩
    rintro rc i S2 ⟨n, hn, rfl, hA, h13, hW, hP⟩ hrc
    rw [show (60 : Int32) = nI 60 from rfl, pn_leN (by omega) (by omega)]
    by_cases hne : n = 60
    · subst hne
      exact bq_t (Nat.le_refl _) (k S2 hA h13 ⟨hW, hP⟩)
    · refine bq_f (by omega) ?_
      have X2 := RXt_D hX hA
      rw [show (12 : Int32) = nI 12 from rfl, pn_div (by omega) (by decide), pn_nat (n := n / 12) (by omega), X2.2.2.2.2.2.2.2.1 _ (by omega)]
      obtain ⟨G2, I2⟩ := dayM_ok (F := F) hg n (by omega)
      refine ⟨pn_vp (by omega) (by decide), x_minute (by decide) hg X2 (RFx_ag hF hA.2.2) hW G2 (by omega) (hg.2.2.2.2.2.2.2.1 _ (by omega)) (fun S3 B3 W3 => ?_)⟩
      rw [show (6 : Int32) * nI n = nI (6 * n) from pn_mul 6 n, show nI n + 1 = nI (n + 1) from pn_add n 1, pn_nat (n := 6 * n) (by omega)]
      refine ⟨cpo _ (by omega), ?_⟩
      have A3 := agD_trans hA (agD_W B3)
      refine hrc _ _ ⟨n + 1, by omega, rfl, ⟨fun k h0 h1 => by rw [sA_row _ _ (by omega)]; exact A3.1 k h0 h1, fun i hi => by rw [sA_row _ _ (by decide)]; exact A3.2.1 i hi, A3.2.2⟩, ?_, ?_, fun s j hs hj => ?_⟩ (by rw [pn_nat (by omega), pn_nat (by omega)]; omega)
      · rw [sA_row _ _ (by decide), B3.1 0 (by decide) (by decide)]
        exact h13
      · have W3' : RW 16 S3 t (dayM t F (n + 1)) := W3
        unfold RW at W3' ⊢
        rw [sA_row _ _ (by decide), sA_row _ _ (by decide), sA_row _ _ (by decide), sA_row _ _ (by decide), sA_row _ _ (by decide)]
        exact W3'
      · rw [sA_eq]
        have h0 : (0 : Int32).toNatClampNeg = 0 := rfl
        have h6' : (6 : Int32).toNatClampNeg = 6 := rfl
        unfold va_cpy
        rw [h0, h6']
        by_cases e : j = n
        · subst e
          rw [if_pos (by omega), show 0 + (6 * j + s - 6 * j) = s by omega]
          exact W3.1 s hs
        · rw [if_neg (by omega), B3.1 21 (by decide) (by omega)]
          exact hP s j hs (by omega)
/-- where(snail, minute) -/
theorem o_where {w : sn_W} {SX SM : sn_S} {t : gT} {F : gF} (hg : tG t) (hX : RXt SX t) (hM : RMt SM t) (hF : RFx w SX t F) (hFm : RFm SM t F) (hC : CD SX t F) (a b : Int32) {K : Int32 → sn_S → Int32 → sn_S → Prop}
    (hK : ∀ r S1 S2, agD SX S1 → CD S1 t F → (S1.1 0 13 = SX.1 0 13 ∨ S1.1 0 13 = SX.1 0 8) → agG (mT SM) S2 → K r S1 r S2) : wpX0_where w a b SX (fun r S1 => wpX9_where a b SM (fun r2 S2 => K r S1 r2 S2)) := by
  have hM' := RMt_mT hM
  have hFm' : RFm (mT SM) t F := RFm_ag hFm (mT_2 SM)
  have h6 := hg.1
  unfold wpX0_where wpX9_where
  simp only [sn_lt]
  rw [show sn_pI SM 0 0 0 = mT SM from rfl]
  by_cases h : ∃ s : Nat, s < t 0 0 ∧ a = nI s
  · obtain ⟨s, hs, rfl⟩ := h
    refine x_snailY hX.1 h6 hs (bq_n i1 ?_)
    by_cases h2 : ¬ b < -1 ∧ ¬ 59 < b
    · obtain ⟨n, hn, rfl⟩ : ∃ n : Nat, n ≤ 60 ∧ b = nI n - nI 1 := by
        refine ⟨(b.toInt + 1).toNat, ?_, ?_⟩
        · have h1 := h2.1
          have h3 := h2.2
          rw [pn_lt] at h1 h3
          have e1 : (-1 : Int32).toInt = -1 := rfl
          have e2 : (59 : Int32).toInt = 59 := rfl
          omega
        · have h1 := h2.1
          have h3 := h2.2
          rw [pn_lt] at h1 h3
          have e1 : (-1 : Int32).toInt = -1 := rfl
          have e2 : (59 : Int32).toInt = 59 := rfl
          by_cases e : b.toInt = -1
          · rw [pn_eq, e]
            rfl
          · rw [pn_sub (by omega), pn_eq, pn_int (by omega)]
            omega
      refine x_inY h2 (bq_v i1 ?_)
      refine x_looks hg hX hF hC (fun S1 A1 e13 D1 => ?_)
      have C1 : CD S1 t F := fun _ => D1
      by_cases h0 : n = 0
      · subst h0
        refine bq_u rfl (x_of00 (RXt_D hX A1) (by omega) ?_)
        refine m_snailY hM'.1 h6 hs (bq_n i1 (m_inY (-1) 59 rfl rfl h2 (bq_v i1 (bq_u rfl ?_))))
        refine m_ofSnail (s := s) (f := 0) hM' (by omega) ?_
        exact hK _ _ _ A1 C1 (Or.inr e13) (agG_refl _)
      · have hne : ¬ nI n - nI 1 = -1 := fun e => h0 ((sp_m1 (by omega)).mp e)
        refine bq_v hne ?_
        rw [sp_s h0] at h2 hne ⊢
        rw [show (6 : Int32) * nI (n - 1) = nI (6 * (n - 1)) from pn_mul 6 _, pn_add, pn_nat (n := 6 * (n - 1) + s) (by omega), D1.2 s (n - 1) hs (by omega)]
        refine ⟨pn_vp (by omega) (by decide), ?_⟩
        refine m_snailY hM'.1 h6 hs (bq_n i1 (m_inY (-1) 59 rfl rfl h2 (bq_v i1 (bq_v hne ?_))))
        refine m_plan hg hM' hFm' (fun S2 A2 W2 R2 P2 => ?_)
        rw [show (60 : Int32) * nI s = nI (60 * s) from pn_mul 60 _, pn_add, pn_nat (n := 60 * s + (n - 1)) (by omega), P2 s (n - 1) hs (by omega)]
        exact ⟨pn_vp (by omega) (by decide), hK _ _ _ A1 C1 (Or.inr e13) A2⟩
    · exact x_inN h2 (bq_u rfl (m_snailY hM'.1 h6 hs (bq_n i1 (m_inN (-1) 59 rfl rfl h2 (bq_u rfl (hK _ _ _ (agD_refl _) hC (Or.inl rfl) (agG_refl _)))))))
  · exact x_snailN hX.1 h6 h (bq_z rfl (m_snailN hM'.1 h6 h (bq_z rfl (hK _ _ _ (agD_refl _) hC (Or.inl rfl) (agG_refl _)))))
/-- day(snail, what) -/
theorem o_day {w : sn_W} {SX SM : sn_S} {t : gT} {F : gF} (hg : tG t) (hX : RXt SX t) (hM : RMt SM t) (hF : RFx w SX t F) (hFm : RFm SM t F) (hC : CD SX t F) (a b : Int32) {K : Int32 → sn_S → Int32 → sn_S → Prop}
    (hK : ∀ r S1 S2, agD SX S1 → CD S1 t F → (S1.1 0 13 = SX.1 0 13 ∨ S1.1 0 13 = SX.1 0 8) → agG (mT SM) S2 → K r S1 r S2) : wpX0_day w a b SX (fun r S1 => wpX9_day a b SM (fun r2 S2 => K r S1 r2 S2)) := by
  have hM' := RMt_mT hM
  have hFm' : RFm (mT SM) t F := RFm_ag hFm (mT_2 SM)
  have h6 := hg.1
  unfold wpX0_day wpX9_day
  simp only [sn_lt]
  rw [show sn_pI SM 0 0 0 = mT SM from rfl]
  by_cases h : ∃ s : Nat, s < t 0 0 ∧ a = nI s
  · obtain ⟨s, hs, rfl⟩ := h
    have hv6 : vp_in (nI s) 6 := pn_vp (by omega) (by decide)
    refine x_snailY hX.1 h6 hs (bq_n i1 ?_)
    by_cases h2 : ¬ b < 0 ∧ ¬ 2 < b
    · obtain ⟨n, hn, rfl⟩ := pn_in (hi := 2) (by decide) h2.1 h2.2
      refine x_inY h2 (bq_v i1 ?_)
      refine x_looks hg hX hF hC (fun S1 A1 e13 D1 => ?_)
      have C1 : CD S1 t F := fun _ => D1
      -- the model's side
      have mm : ∀ (r : Int32), (∀ S2, agG (mT SM) S2 → RG S2 t (dayM t F 60) → RS S2 t (dayM t F 60) → sn_jn (fun (v5 : Int32) => ((¬ nI n = 0 → ((¬ nI n = 1 → (vp_in (nI s) 6 ∧ K r S1 (S2.1 19 (nI s).toNatClampNeg) S2)) ∧ (nI n = 1 → K r S1 v5 S2))) ∧ (nI n = 0 → (vp_in (nI s) 6 ∧ K r S1 (S2.1 16 (nI s).toNatClampNeg) S2)))) (fun (k6 : Int32 → Prop) => sn_lp2 (fun (rc9 : Int32 → Int32 → Prop) (i7 : Int32) (i8 : Int32) => ((96 ≤ i8 → k6 i7) ∧ (¬ 96 ≤ i8 → (vp_in i8 96 ∧ rc9 (i7 + (((S2.1 18 (i8).toNatClampNeg) >>> (nI s &&& 31)) &&& 1)) (i8 + 1))))) 0 0)) → wpX9_isSnail (nI s) (mT SM) (fun (r2 : Int32) => ((r2 = 0 → K r S1 (-1) (mT SM)) ∧ (¬ r2 = 0 → wpX9_in (Int32.toInt64 (nI n)) 0 2 (fun (r3 : Int32) => ((¬ r3 = 0 → wpX9_runPlan (mT SM) (fun (S4 : sn_S) => sn_jn (fun (v5 : Int32) => ((¬ nI n = 0 → ((¬ nI n = 1 → (vp_in (nI s) 6 ∧ K r S1 (S4.1 19 (nI s).toNatClampNeg) S4)) ∧ (nI n = 1 → K r S1 v5 S4))) ∧ (nI n = 0 → (vp_in (nI s) 6 ∧ K r S1 (S4.1 16 (nI s).toNatClampNeg) S4)))) (fun (k6 : Int32 → Prop) => sn_lp2 (fun (rc9 : Int32 → Int32 → Prop) (i7 : Int32) (i8 : Int32) => ((96 ≤ i8 → k6 i7) ∧ (¬ 96 ≤ i8 → (vp_in i8 96 ∧ rc9 (i7 + (((S4.1 18 (i8).toNatClampNeg) >>> (nI s &&& 31)) &&& 1)) (i8 + 1))))) 0 0))) ∧ (r3 = 0 → K r S1 (-1) (mT SM))))))) := by
        intro r hr
        exact m_snailY hM'.1 h6 hs (bq_n i1 (m_inY 0 2 rfl rfl h2 (bq_v i1 (m_plan hg hM' hFm' (fun S2 A2 W2 R2 _ => hr S2 A2 W2 R2)))))
      obtain ⟨G60, _⟩ := dayM_ok (F := F) hg 60 (Nat.le_refl _)
      have cnt : ∀ (row : Nat → Int32), (∀ c, c < 96 → row c = nI (dayM t F 60 4 c)) → ∀ k6 : Int32 → Prop, k6 (nI (sms (fun c => bt (dayM t F 60 4 c) s) 96)) → sn_lp2 (fun (rc9 : Int32 → Int32 → Prop) (i7 : Int32) (i8 : Int32) => ((96 ≤ i8 → k6 i7) ∧ (¬ 96 ≤ i8 → (vp_in i8 96 ∧ rc9 (i7 + ((row (i8).toNatClampNeg >>> (nI s &&& 31)) &&& 1)) (i8 + 1))))) 0 0 := by
        intro row hrow k6 hk6
        refine sn_lp2_inv (fun x i => ∃ n : Nat, n ≤ 96 ∧ i = nI n ∧ x = nI (sms (fun c => bt (dayM t F 60 4 c) s) n)) (fun _ i => 96 - i.toNatClampNeg) ?_ _ _ ⟨0, Nat.zero_le _, rfl, rfl⟩
        rintro rc x i ⟨n, hn, rfl, rfl⟩ hrc
        rw [show (96 : Int32) = nI 96 from rfl, pn_leN (by omega) (by omega)]
        by_cases hne : n = 96
        · subst hne
          exact bq_t (Nat.le_refl _) hk6
        · refine bq_f (by omega) ⟨pn_vp (by omega) (by decide), ?_⟩
          rw [pn_nat (n := n) (by omega), hrow n (by omega), bits_bt _ (G60.2.2.1 n (by omega)) _ (by omega), pn_add, show nI n + 1 = nI (n + 1) from pn_add n 1]
          refine hrc _ _ ⟨n + 1, by omega, rfl, rfl⟩ (by rw [pn_nat (by omega), pn_nat (by omega)]; omega)
      have e1 : nI n = 1 ↔ n = 1 := pn_eqN (j := 1) (by omega) (by decide)
      have e0 : nI n = 0 ↔ n = 0 := pn_eqN (j := 0) (by omega) (by decide)
      rcases (show n = 0 ∨ n = 1 ∨ n = 2 by omega) with rfl | rfl | rfl
      · refine bq_f (by decide) (bq_u rfl ⟨hv6, ?_⟩)
        refine mm _ (fun S2 A2 W2 R2 => ?_)
        refine sn_jn_by (fun k6 => ∀ x, k6 x) (fun v5 => bq_u rfl ⟨hv6, ?_⟩) (fun k6 hk6 => cnt _ W2.2.2.1 k6 (hk6 _))
        rw [pn_nat (n := s) (by omega), D1.1.2.1 s hs, W2.2.1 s hs]
        exact hK _ _ _ A1 C1 (Or.inr e13) A2
      · refine bq_t rfl ?_
        refine cnt _ D1.1.2.2.2.1 _ ?_
        refine mm _ (fun S2 A2 W2 R2 => ?_)
        refine sn_jn_by (fun k6 => k6 (nI (sms (fun c => bt (dayM t F 60 4 c) s) 96))) (bq_v (by decide) (bq_u rfl (hK _ _ _ A1 C1 (Or.inr e13) A2))) (fun k6 hk6 => cnt _ W2.2.2.1 k6 hk6)
      · refine bq_f (by decide) (bq_v (by decide) ⟨hv6, ?_⟩)
        refine mm _ (fun S2 A2 W2 R2 => ?_)
        refine sn_jn_by (fun k6 => ∀ x, k6 x) (fun v5 => bq_v (by decide) (bq_v (by decide) ⟨hv6, ?_⟩)) (fun k6 hk6 => cnt _ W2.2.2.1 k6 (hk6 _))
        rw [pn_nat (n := s) (by omega), D1.1.2.2.1 s hs, R2 s hs]
        exact hK _ _ _ A1 C1 (Or.inr e13) A2
    · exact x_inN h2 (bq_u rfl (m_snailY hM'.1 h6 hs (bq_n i1 (m_inN 0 2 rfl rfl h2 (bq_u rfl (hK _ _ _ (agD_refl _) hC (Or.inl rfl) (agG_refl _)))))))
  · exact x_snailN hX.1 h6 h (bq_z rfl (m_snailN hM'.1 h6 h (bq_z rfl (hK _ _ _ (agD_refl _) hC (Or.inl rfl) (agG_refl _)))))
/-- trail(cell) -/
theorem o_trail {w : sn_W} {SX SM : sn_S} {t : gT} {F : gF} (hg : tG t) (hX : RXt SX t) (hM : RMt SM t) (hF : RFx w SX t F) (hFm : RFm SM t F) (hC : CD SX t F) (a : Int32) {K : Int32 → sn_S → Int32 → sn_S → Prop}
    (hK : ∀ r S1 S2, agD SX S1 → CD S1 t F → (S1.1 0 13 = SX.1 0 13 ∨ S1.1 0 13 = SX.1 0 8) → agG (mT SM) S2 → K r S1 r S2) : wpX0_trail w a SX (fun r S1 => wpX9_trail a SM (fun r2 S2 => K r S1 r2 S2)) := by
  have hM' := RMt_mT hM
  have hFm' : RFm (mT SM) t F := RFm_ag hFm (mT_2 SM)
  unfold wpX0_trail wpX9_trail
  simp only [sn_lt]
  rw [show sn_pI SM 0 0 0 = mT SM from rfl]
  by_cases h : ¬ a < 0 ∧ ¬ 95 < a
  · obtain ⟨c, hc, rfl⟩ := pn_in (hi := 95) (by decide) h.1 h.2
    refine x_cellY h (bq_v i1 (x_looks hg hX hF hC (fun S1 A1 e13 D1 => ?_)))
    have C1 : CD S1 t F := fun _ => D1
    refine ⟨pn_vp (by omega) (by decide), m_cellY h (bq_v i1 (m_plan hg hM' hFm' (fun S2 A2 W2 R2 _ => ⟨pn_vp (by omega) (by decide), ?_⟩)))⟩
    rw [pn_nat (n := c) (by omega), D1.1.2.2.2.1 c (by omega), W2.2.2.1 c (by omega)]
    exact hK _ _ _ A1 C1 (Or.inr e13) A2
  · exact x_cellN h (bq_u rfl (m_cellN h (bq_u rfl (hK _ _ _ (agD_refl _) hC (Or.inl rfl) (agG_refl _)))))
