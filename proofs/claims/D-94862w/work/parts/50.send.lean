/-! THE PLAIN LAW, thirty-second part: send -/
set_option maxRecDepth 100000
def sd (t : gT) (h : Nat) : Nat → Nat × Nat
  | 0 => (0, 0)
  | n + 1 => if (sd t h n).1 ≠ 0 ∧ pc ((sd t h n).1 - 1) < pc n then sd t h n else if 100 * oX t n < h * 100 ^ pc n ∨ ((sd t h n).1 ≠ 0 ∧ pc n = pc ((sd t h n).1 - 1) ∧ oX t n ≤ (sd t h n).2) then sd t h n else (n + 1, oX t n)
theorem sd_le (t : gT) (h : Nat) : ∀ n, (sd t h n).1 ≤ n
  | 0 => Nat.le_refl _
  | n + 1 => by
    have := sd_le t h n
    unfold sd
    split
    · omega
    · split
      · omega
      · exact Nat.le_refl _
theorem oX_le {t : gT} (hg : tG t) {n : Nat} (hn : n < 64) : oX t n ≤ 64000000000000 := (sumX_le hg n (n + 1) (by omega)).1
theorem sd_le2 {t : gT} (hg : tG t) (h : Nat) : ∀ n, n ≤ 64 → (sd t h n).2 ≤ 64000000000000
  | 0, _ => Nat.zero_le _
  | n + 1, hn => by
    have := sd_le2 hg h n (by omega)
    unfold sd
    split
    · exact this
    · split
      · exact this
      · exact oX_le hg (by omega)
theorem sd_eq (t : gT) (h : Nat) : ∀ n, (sd t h n).1 ≠ 0 → (sd t h n).2 = oX t ((sd t h n).1 - 1)
  | 0, h0 => absurd rfl h0
  | n + 1, h0 => by
    have ih := sd_eq t h n
    unfold sd at h0 ⊢
    by_cases c1 : (sd t h n).1 ≠ 0 ∧ pc ((sd t h n).1 - 1) < pc n
    · rw [if_pos c1] at h0 ⊢
      exact ih h0
    · rw [if_neg c1] at h0 ⊢
      by_cases c2 : 100 * oX t n < h * 100 ^ pc n ∨ ((sd t h n).1 ≠ 0 ∧ pc n = pc ((sd t h n).1 - 1) ∧ oX t n ≤ (sd t h n).2)
      · rw [if_pos c2] at h0 ⊢
        exact ih h0
      · rw [if_neg c2]
        rfl
theorem best_m1 {x : Nat} (hx : x < 70) : (nI x - nI 1 = -1) ↔ x = 0 := by
  have : ∀ x, x < 70 → ((nI x - nI 1 = -1) ↔ x = 0) := by decide +kernel
  exact this x hx
theorem x_send {w : sn_W} {S : sn_S} {t : gT} (hg : tG t) (hX : RXt S t) (a : Int32) {Q : Int32 → sn_S → Prop} (hok : ∀ h S', h ≤ 100 → a = nI h → agOne 91 S S' → Q (nI (sd t h (2 ^ t 0 0)).1 - nI 1) S') (hno : (¬ ∃ h : Nat, h ≤ 100 ∧ a = nI h) → Q (-1) S) : wpX0_send w a S Q := by
  unfold wpX0_send wpX0_everyone
  have h6 := hg.1
  have t2 := two_le h6
  by_cases c : ¬ a < 0 ∧ ¬ 100 < a
  · obtain ⟨h, hh, rfl⟩ := pn_in (hi := 100) (by decide) c.1 c.2
    refine x_inY c (bq_v i1 ?_)
    rw [lN_wide (by omega)]
    refine sn_lp4_inv (fun b m i S' => ∃ n : Nat, n ≤ 2 ^ t 0 0 ∧ i = nI n ∧ b = nI (sd t h n).1 - nI 1 ∧ m = lN (sd t h n).2 ∧ agOne 91 S S') (fun _ _ i _ => 64 - i.toNatClampNeg) ?_ _ _ _ _ ⟨0, Nat.zero_le _, rfl, rfl, rfl, agOne_refl _ _⟩
    rintro rc b m i S1 ⟨n, hn, rfl, rfl, rfl, A1⟩ hrc
    have X1 := RXt_One (by decide) hX A1
    rw [X1.1, ev_x _ h6, pn_ltN (by omega) (by omega)]
    by_cases hne : n = 2 ^ t 0 0
    · subst hne
      exact bq_t (by omega) (hok h S1 hh rfl A1)
    · refine bq_f (by omega) ?_
      have hle := sd_le t h n
      have hle2 := sd_le2 hg h n (by omega)
      have hox := oX_le hg (show n < 64 by omega)
      have hp := pc_lt n
      have hw := pow100 hp
      have hun : sd t h (n + 1) = if (sd t h n).1 ≠ 0 ∧ pc ((sd t h n).1 - 1) < pc n then sd t h n else if 100 * oX t n < h * 100 ^ pc n ∨ ((sd t h n).1 ≠ 0 ∧ pc n = pc ((sd t h n).1 - 1) ∧ oX t n ≤ (sd t h n).2) then sd t h n else (n + 1, oX t n) := rfl
      have hpb := pc_lt ((sd t h n).1 - 1)
      refine sn_jn_by (fun k20 => ∀ S', agOne 91 S S' → k20 (nI (sd t h (n + 1)).1 - nI 1) (lN (sd t h (n + 1)).2) S') (fun S2 A2 => ?_) (fun k20 hk20 => ?_)
      · rw [show nI n + 1 = nI (n + 1) from pn_add n 1]
        exact hrc _ _ _ _ ⟨n + 1, by omega, rfl, rfl, rfl, A2⟩ (by rw [pn_nat (by omega), pn_nat (by omega)]; omega)
      · rw [hun] at hk20
        generalize sd t h n = b at *
        have em1 := best_m1 (show b.1 < 70 by omega)
        refine sn_jn_by (fun k21 => ¬ (b.1 ≠ 0 ∧ pc (b.1 - 1) < pc n) → k21) (fun n1 => ?_) (fun k21 hk21 => ?_)
        · rw [if_neg n1] at hk20
          refine sn_jn_by (fun k23 => k23 (lN (100 ^ pc n))) ?_ (fun k23 hk23 => ?_)
          · refine x_oddsOf hg X1 (by omega) (fun S2 A2 => ?_)
            have A2' := agOne_trans A1 A2
            have hhw : h * 100 ^ pc n ≤ 100 * 1000000000000 := Nat.mul_le_mul hh hw
            have cmp : (lg_cmp (100 * lN (oX t n)) (lN h * lN (100 ^ pc n)) < 0) ↔ 100 * oX t n < h * 100 ^ pc n := by
              rw [lc_lt, show (100 : Int64) = lN 100 from rfl, lq_mul, lq_mul, lq_lt (by omega) (by omega)]
            rw [cmp]
            by_cases c1 : 100 * oX t n < h * 100 ^ pc n
            · rw [if_pos (Or.inl c1)] at hk20
              exact bq_t c1 (hk20 S2 A2')
            · refine bq_f c1 (sn_jn_by (fun k26 => ¬ (b.1 ≠ 0 ∧ pc n = pc (b.1 - 1) ∧ oX t n ≤ b.2) → k26) (fun n2 => ?_) (fun k26 hk26 => ?_))
              · rw [if_neg (fun hh => by rcases hh with hh | hh; exact c1 hh; exact n2 hh)] at hk20
                have := hk20 S2 A2'
                rw [show nI ((n + 1, oX t n) : Nat × Nat).1 - nI 1 = nI n from pn_sub (a := n + 1) (b := 1) (by omega)] at this
                exact this
              · by_cases b0 : b.1 = 0
                · exact bq_t (em1.mpr b0) (hk26 (fun hh => hh.1 b0))
                · refine bq_f (fun e => b0 (em1.mp e)) (x_ones (by omega) ?_)
                  have eb : nI b.1 - nI 1 = nI (b.1 - 1) := sp_s b0
                  have ones2 : wpX0_ones w (nI b.1 - nI 1) = wpX0_ones w (nI (b.1 - 1)) := by rw [eb]
                  rw [ones2]
                  refine x_ones (by omega) ?_
                  rw [pn_eqN (by omega) (by omega)]
                  by_cases pe : pc n = pc (b.1 - 1)
                  · refine bq_u pe ?_
                    have c3 : (0 < lg_cmp (lN (oX t n)) (lN b.2)) ↔ ¬ oX t n ≤ b.2 := by
                      rw [lc_gt, lq_lt (by omega) (by omega)]
                      omega
                    rw [c3]
                    by_cases ol : oX t n ≤ b.2
                    · rw [if_pos (Or.inr ⟨b0, pe, ol⟩)] at hk20
                      exact bq_f (fun h => h ol) (hk20 S2 A2')
                    · exact bq_t ol (hk26 (fun hh => ol hh.2.2))
                  · exact bq_v pe (hk26 (fun hh => pe hh.2.1))
          · refine sn_lp2_inv (fun x i => ∃ m : Nat, m ≤ pc n ∧ i = nI m ∧ x = lN (100 ^ m)) (fun _ i => 6 - i.toNatClampNeg) ?_ _ _ ⟨0, Nat.zero_le _, rfl, rfl⟩
            rintro rc2 x i ⟨m, hm, rfl, rfl⟩ hrc2
            refine x_ones (by omega) ?_
            rw [pn_leN (by omega) (by omega)]
            by_cases hme : m = pc n
            · subst hme
              exact bq_t (Nat.le_refl _) hk23
            · refine bq_f (by omega) ?_
              simp only [sn_lt]
              rw [show (100 : Int64) = lN 100 from rfl, lq_mul, show nI m + 1 = nI (m + 1) from pn_add m 1]
              exact hrc2 _ _ ⟨m + 1, by omega, rfl, by rw [Nat.pow_succ]⟩ (by rw [pn_nat (by omega), pn_nat (by omega)]; omega)
        · by_cases b0 : b.1 = 0
          · exact bq_t (em1.mpr b0) (hk21 (fun hh => hh.1 b0))
          · refine bq_f (fun e => b0 (em1.mp e)) (x_ones (by omega) ?_)
            have ones2 : wpX0_ones w (nI b.1 - nI 1) = wpX0_ones w (nI (b.1 - 1)) := by rw [sp_s b0]
            rw [ones2]
            refine x_ones (by omega) ?_
            rw [pn_leN (by omega) (by omega)]
            by_cases pl : pc n ≤ pc (b.1 - 1)
            · exact bq_t pl (hk21 (fun hh => by have := hh.2; omega))
            · rw [if_pos ⟨b0, by omega⟩] at hk20
              exact bq_f pl (hk20 S1 A1)
  · refine x_inN c (bq_u rfl (hno ?_))
    rintro ⟨h, hh, rfl⟩
    exact c ((bI_rng (lo := 0) (hi := 100) (by decide) (by decide)).mpr ⟨h, Nat.zero_le _, hh, rfl⟩)
/-- the model's best -/
def mb (t : gT) (a : Nat × Nat) : Nat := if a.1 = 0 then 0 else a.2 * 100 ^ (t 0 0 - pc (a.1 - 1))
theorem m_send {S : sn_S} {t : gT} (hg : tG t) (hM : RMt S t) (a : Int32) {Q : Int32 → sn_S → Prop} (hok : ∀ h S', h ≤ 100 → a = nI h → agOne 29 (mT S) S' → Q (nI (sd t h (2 ^ t 0 0)).1 - nI 1) S') (hno : (¬ ∃ h : Nat, h ≤ 100 ∧ a = nI h) → Q (-1) (mT S)) : wpX9_send a S Q := by
  unfold wpX9_send
  have hM' := RMt_mT hM
  have h6 := hg.1
  have t2 := two_le h6
  simp only [sn_lt]
  rw [show sn_pI S 0 0 0 = mT S from rfl]
  by_cases c : ¬ a < 0 ∧ ¬ 100 < a
  · obtain ⟨h, hh, rfl⟩ := pn_in (hi := 100) (by decide) c.1 c.2
    refine m_inY 0 100 rfl rfl c (bq_v i1 ?_)
    rw [lN_wide (by omega)]
    refine sn_jn_by (fun k4 => k4 (lN (100 ^ t 0 0))) ?_ (fun k4 hk4 => ?_)
    · refine sn_lp4_inv (fun b m i S' => ∃ n : Nat, n ≤ 2 ^ t 0 0 ∧ i = nI n ∧ b = nI (sd t h n).1 - nI 1 ∧ m = lN (mb t (sd t h n)) ∧ agOne 29 (mT S) S') (fun _ _ i _ => 64 - i.toNatClampNeg) ?_ _ _ _ _ ⟨0, Nat.zero_le _, rfl, rfl, rfl, agOne_refl _ _⟩
      rintro rc2 b m i S2 ⟨n, hn', rfl, rfl, rfl, A2⟩ hrc2
      have M2 := RMt_One (by decide) hM' A2
      refine m_all hg M2 ?_
      rw [pn_ltN (by omega) (by omega)]
      by_cases hne : n = 2 ^ t 0 0
      · subst hne
        exact bq_t (by omega) (hok h S2 hh rfl A2)
      · refine bq_f (by omega) (m_oddsOf hg M2 (by omega) (fun S3 A3 => ?_))
        have hle := sd_le t h n
        have hse := sd_eq t h n
        have hpn := (comp_pc _ h6 n (by omega)).2
        have hun : sd t h (n + 1) = if (sd t h n).1 ≠ 0 ∧ pc ((sd t h n).1 - 1) < pc n then sd t h n else if 100 * oX t n < h * 100 ^ pc n ∨ ((sd t h n).1 ≠ 0 ∧ pc n = pc ((sd t h n).1 - 1) ∧ oX t n ≤ (sd t h n).2) then sd t h n else (n + 1, oX t n) := rfl
        have step : rc2 (nI (sd t h (n + 1)).1 - nI 1) (lN (mb t (sd t h (n + 1)))) (nI n + 1) S3 := by
          rw [show nI n + 1 = nI (n + 1) from pn_add n 1]
          exact hrc2 _ _ _ _ ⟨n + 1, by omega, rfl, rfl, rfl, agOne_trans A2 A3⟩ (by rw [pn_nat (by omega), pn_nat (by omega)]; omega)
        rw [hun] at step
        have hMX := o_MX hg (show n < 2 ^ t 0 0 by omega)
        have hoM : oM t n ≤ 64000000000000 := (sumX_le hg n (2 ^ t 0 0) (by omega)).2
        have hpb := pc_lt ((sd t h n).1 - 1)
        have hp := pc_lt n
        have hDp : 0 < 100 ^ (t 0 0 - pc n) := Nat.pow_pos (by decide)
        have hsplit : 100 ^ t 0 0 = 100 ^ pc n * 100 ^ (t 0 0 - pc n) := by
          rw [← Nat.pow_add]
          congr 1
          omega
        have hw := pow100 h6
        -- the best's odds
        have hbM : (sd t h n).1 ≠ 0 → mb t (sd t h n) = oM t ((sd t h n).1 - 1) := by
          intro h0
          unfold mb
          rw [if_neg h0, hse h0, o_MX hg (by omega)]
        have hbl : mb t (sd t h n) ≤ 64000000000000 := by
          by_cases h0 : (sd t h n).1 = 0
          · unfold mb
            rw [if_pos h0]
            omega
          · rw [hbM h0]
            exact (sumX_le hg _ (2 ^ t 0 0) (by omega)).2
        have hbe : (sd t h n).1 ≠ 0 → pc n = pc ((sd t h n).1 - 1) → (mb t (sd t h n) < oM t n ↔ (sd t h n).2 < oX t n) := by
          intro h0 he
          unfold mb
          rw [if_neg h0, hMX, ← he]
          exact Nat.mul_lt_mul_right hDp
        have hcm : (oM t n * 100 < h * 100 ^ t 0 0) ↔ 100 * oX t n < h * 100 ^ pc n := by
          rw [hMX, hsplit, ← Nat.mul_assoc, Nat.mul_right_comm (oX t n), Nat.mul_comm 100 (oX t n)]
          exact Nat.mul_lt_mul_right hDp
        have hhw : h * 100 ^ t 0 0 ≤ 100 * 1000000000000 := Nat.mul_le_mul hh hw
        have cmp : (lg_cmp (lN (oM t n) * 100) (lN h * lN (100 ^ t 0 0)) < 0) ↔ 100 * oX t n < h * 100 ^ pc n := by
          rw [lc_lt, show (100 : Int64) = lN 100 from rfl, lq_mul, lq_mul, lq_lt (by omega) (by omega)]
          exact hcm
        have takeM : nI n = nI ((n + 1, oX t n) : Nat × Nat).1 - nI 1 ∧ mb t (n + 1, oX t n) = oM t n := by
          refine ⟨(pn_sub (a := n + 1) (b := 1) (by omega)).symm, ?_⟩
          unfold mb
          rw [if_neg (by simp), hMX]
          rfl
        generalize oM t n = v at *
        generalize hbv : mb t (sd t h n) = bv at *
        generalize hsb : sd t h n = b at *
        have em1 := best_m1 (show b.1 < 70 by omega)
        have ebits : b.1 ≠ 0 → wpX9_bits (nI b.1 - nI 1) = wpX9_bits (nI (b.1 - 1)) := fun h0 => by rw [sp_s h0]
        have cmp2 : (lg_cmp (lN v) (lN bv) ≤ 0) ↔ ¬ bv < v := by
          have : (0 < lg_cmp (lN v) (lN bv)) ↔ bv < v := by rw [lc_gt, lq_lt (by omega) (by omega)]
          rw [← this, pn_le, pn_lt]
          have h0 : (0 : Int32).toInt = 0 := rfl
          omega
        refine sn_jn_by (fun k14 => ∀ v13 : Int32, ((v13 = 1 ∧ (b.1 = 0 ∨ pc n < pc (b.1 - 1))) ∨ (v13 = 0 ∧ ¬ (b.1 = 0 ∨ pc n < pc (b.1 - 1)))) → k14 v13) (fun v13 h13 => ?_) (fun k14 hk14 => ?_)
        · refine sn_jn_by (fun k16 => ∀ v15 : Int32, ((v15 = 1 ∧ (b.1 ≠ 0 ∧ pc n = pc (b.1 - 1) ∧ bv < v)) ∨ (v15 = 0 ∧ ¬ (b.1 ≠ 0 ∧ pc n = pc (b.1 - 1) ∧ bv < v))) → k16 v15) (fun v15 h15 => ?_) (fun k16 hk16 => ?_)
          · rw [cmp]
            -- what is kept
            have hkeep : (100 * oX t n < h * 100 ^ pc n ∨ (¬ (b.1 = 0 ∨ pc n < pc (b.1 - 1)) ∧ ¬ (b.1 ≠ 0 ∧ pc n = pc (b.1 - 1) ∧ bv < v))) → rc2 (nI b.1 - nI 1) (lN bv) (nI n + 1) S3 := by
              intro hc
              by_cases n1 : b.1 ≠ 0 ∧ pc (b.1 - 1) < pc n
              · rw [if_pos n1, hbv] at step
                exact step
              · rw [if_neg n1] at step
                have n2 : 100 * oX t n < h * 100 ^ pc n ∨ (b.1 ≠ 0 ∧ pc n = pc (b.1 - 1) ∧ oX t n ≤ b.2) := by
                  rcases hc with hc | ⟨q1, q2⟩
                  · exact Or.inl hc
                  · have b0 : b.1 ≠ 0 := fun e => q1 (Or.inl e)
                    have pe : pc n = pc (b.1 - 1) := by
                      have : ¬ pc n < pc (b.1 - 1) := fun e => q1 (Or.inr e)
                      have : ¬ pc (b.1 - 1) < pc n := fun e => n1 ⟨b0, e⟩
                      omega
                    refine Or.inr ⟨b0, pe, ?_⟩
                    have : ¬ b.2 < oX t n := fun e => q2 ⟨b0, pe, (hbe b0 pe).mpr e⟩
                    omega
                rw [if_pos n2, hbv] at step
                exact step
            have htake : ¬ 100 * oX t n < h * 100 ^ pc n → ((b.1 = 0 ∨ pc n < pc (b.1 - 1)) ∨ (b.1 ≠ 0 ∧ pc n = pc (b.1 - 1) ∧ bv < v)) → rc2 (nI n) (lN v) (nI n + 1) S3 := by
              intro h1 h2
              have n1 : ¬ (b.1 ≠ 0 ∧ pc (b.1 - 1) < pc n) := by
                rintro ⟨q1, q2⟩
                rcases h2 with (h2 | h2) | h2
                · exact q1 h2
                · omega
                · have := h2.2.1
                  omega
              have n2 : ¬ (100 * oX t n < h * 100 ^ pc n ∨ (b.1 ≠ 0 ∧ pc n = pc (b.1 - 1) ∧ oX t n ≤ b.2)) := by
                rintro (q | ⟨q1, q2, q3⟩)
                · exact h1 q
                · rcases h2 with (h2 | h2) | h2
                  · exact q1 h2
                  · omega
                  · have := (hbe q1 q2).mp h2.2.2
                    omega
              rw [if_neg n1, if_neg n2, takeM.2, ← takeM.1] at step
              exact step
            refine sn_jn_by (fun k19 => (¬ 100 * oX t n < h * 100 ^ pc n → ((b.1 = 0 ∨ pc n < pc (b.1 - 1)) ∨ (b.1 ≠ 0 ∧ pc n = pc (b.1 - 1) ∧ bv < v)) → k19 (nI n) (lN v)) ∧ ((100 * oX t n < h * 100 ^ pc n ∨ (¬ (b.1 = 0 ∨ pc n < pc (b.1 - 1)) ∧ ¬ (b.1 ≠ 0 ∧ pc n = pc (b.1 - 1) ∧ bv < v))) → k19 (nI b.1 - nI 1) (lN bv))) ⟨htake, hkeep⟩ (fun k19 hk19 => ?_)
            by_cases cc : 100 * oX t n < h * 100 ^ pc n
            · exact bq_t cc (hk19.2 (Or.inl cc))
            · refine bq_f cc (sn_jn_by (fun k20 => ((b.1 = 0 ∨ pc n < pc (b.1 - 1)) ∨ (b.1 ≠ 0 ∧ pc n = pc (b.1 - 1) ∧ bv < v)) → k20) (hk19.1 cc) (fun k20 hk20 => ?_))
              rcases h13 with ⟨rfl, h13⟩ | ⟨rfl, h13⟩
              · exact bq_v i1 (hk20 (Or.inl h13))
              · refine bq_u rfl ?_
                rcases h15 with ⟨rfl, h15⟩ | ⟨rfl, h15⟩
                · exact bq_f i1 (hk20 (Or.inr h15))
                · exact bq_t rfl (hk19.2 (Or.inr ⟨h13, h15⟩))
          · refine sn_jn_by (fun k21 => ¬ (b.1 ≠ 0 ∧ pc n = pc (b.1 - 1) ∧ bv < v) → k21) (fun hh => hk16 0 (Or.inr ⟨rfl, hh⟩)) (fun k21 hk21 => ?_)
            by_cases b0 : b.1 = 0
            · exact bq_t (em1.mpr b0) (hk21 (fun hh => hh.1 b0))
            · refine bq_f (fun e => b0 (em1.mp e)) (m_bits (by omega) ?_)
              rw [ebits b0]
              refine m_bits (by omega) ?_
              rw [pn_eqN (by omega) (by omega)]
              by_cases pe : pc n = pc (b.1 - 1)
              · refine bq_u pe ?_
                rw [cmp2]
                by_cases al : bv < v
                · exact bq_f (fun hh => hh al) (hk16 1 (Or.inl ⟨rfl, b0, pe, al⟩))
                · exact bq_t al (hk21 (fun hh => al hh.2.2))
              · exact bq_v pe (hk21 (fun hh => pe hh.2.1))
        · refine sn_jn_by (fun k24 => (b.1 = 0 ∨ pc n < pc (b.1 - 1)) → k24) (fun hh => hk14 1 (Or.inl ⟨rfl, hh⟩)) (fun k24 hk24 => ?_)
          by_cases b0 : b.1 = 0
          · exact bq_t (em1.mpr b0) (hk24 (Or.inl b0))
          · refine bq_f (fun e => b0 (em1.mp e)) (m_bits (by omega) ?_)
            rw [ebits b0]
            refine m_bits (by omega) ?_
            rw [pn_leN (by omega) (by omega)]
            by_cases pl : pc (b.1 - 1) ≤ pc n
            · refine bq_t pl (hk14 0 (Or.inr ⟨rfl, ?_⟩))
              rintro (q | q)
              · exact b0 q
              · omega
            · exact bq_f pl (hk24 (Or.inr (by omega)))
    · refine sn_lp2_inv (fun x i => ∃ m : Nat, m ≤ t 0 0 ∧ i = nI m ∧ x = lN (100 ^ m)) (fun _ i => 6 - i.toNatClampNeg) ?_ _ _ ⟨0, Nat.zero_le _, rfl, rfl⟩
      rintro rc2 x i ⟨m, hm, rfl, rfl⟩ hrc2
      rw [show (mT S).1 2 (Int32.toNatClampNeg 0) = nI (t 0 0) from hM'.1, pn_leN (by omega) (by omega)]
      refine ⟨v0, ?_⟩
      by_cases hme : m = t 0 0
      · subst hme
        exact bq_t (Nat.le_refl _) hk4
      · refine bq_f (by omega) ?_
        rw [show (100 : Int64) = lN 100 from rfl, lq_mul, show nI m + 1 = nI (m + 1) from pn_add m 1]
        exact hrc2 _ _ ⟨m + 1, by omega, rfl, by rw [Nat.pow_succ]⟩ (by rw [pn_nat (by omega), pn_nat (by omega)]; omega)
  · refine m_inN 0 100 rfl rfl c (bq_u rfl (hno ?_))
    rintro ⟨h, hh, rfl⟩
    exact c ((bI_rng (lo := 0) (hi := 100) (by decide) (by decide)).mpr ⟨h, Nat.zero_le _, hh, rfl⟩)
theorem o_send {w : sn_W} {SX SM : sn_S} {t : gT} (hg : tG t) (hX : RXt SX t) (hM : RMt SM t) (a : Int32) {K : Int32 → sn_S → Int32 → sn_S → Prop} (hK : ∀ r S1 S2, agOne 91 SX S1 → agOne 29 (mT SM) S2 → K r S1 r S2) : wpX0_send w a SX (fun r S1 => wpX9_send a SM (fun r2 S2 => K r S1 r2 S2)) := by
  refine x_send hg hX a (fun h S1 hh e A1 => m_send hg hM a (fun h2 S2 hh2 e2 A2 => ?_) (fun hn => absurd ⟨h, hh, e⟩ hn)) (fun hn => m_send hg hM a (fun h2 S2 hh2 e2 A2 => absurd ⟨h2, hh2, e2⟩ hn) (fun _ => hK _ _ _ (agOne_refl _ _) (agOne_refl _ _)))
  have : h = h2 := (pn_eqN (by omega) (by omega)).mp (e.symm.trans e2)
  subst this
  exact hK _ _ _ A1 A2
