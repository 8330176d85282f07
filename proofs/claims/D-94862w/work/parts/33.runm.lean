/-! THE PLAIN LAW, fifteenth part: the model's hour, dawn, plan -/
set_option maxRecDepth 100000
theorem minuteN_1 {t : gT} {F : gF} {m sp : Nat} {g : gT} : ∀ n s, s < n → minuteN t F m sp g (n + 1) 1 s = minuteN t F m sp g n 1 s := by
  intro n s hs
  show stepS t F m sp (minuteN t F m sp g n) n 1 s = _
  unfold stepS
  split
  · simp only [creep]
    rw [if_neg (by omega), if_neg (by omega), if_neg (by omega), if_neg (by omega)]
  · rfl
/-- places behind a minute -/
def PL (S S' : sn_S) (t : gT) (m : Nat) (at1 : Nat → Nat) (n : Nat) : Prop := ∀ s j, s < t 0 0 → j < 60 → S'.1 20 (60 * s + j) = if j = m ∧ s < n then nI (at1 s) else S.1 20 (60 * s + j)
theorem PL_0 {S S' : sn_S} {t : gT} {m : Nat} {at1 : Nat → Nat} (h : S'.1 20 = S.1 20) : PL S S' t m at1 0 := by
  intro s j _ _
  rw [if_neg (by omega), h]
theorem PL_succ {S S' : sn_S} {t : gT} {m n : Nat} {a1 a2 : Nat → Nat} (hm : m < 60) (h : PL S S' t m a1 n) (h1 : ∀ s, s < n → a2 s = a1 s) {v : Int32} (hv : v = nI (a2 n)) : PL S (sn_pI S' 20 (60 * n + m) v) t m a2 (n + 1) := by
  intro s j hs hj
  rw [sI_get]
  by_cases e : j = m ∧ s = n
  · obtain ⟨rfl, rfl⟩ := e
    rw [if_pos ⟨rfl, rfl⟩, if_pos ⟨rfl, by omega⟩, hv]
  · rw [if_neg (fun hh => by have := hh.2; omega), h s j hs hj]
    by_cases e2 : j = m ∧ s < n
    · rw [if_pos e2, if_pos ⟨e2.1, by omega⟩, h1 s e2.2]
    · rw [if_neg e2, if_neg (by omega)]
theorem m_minute {S : sn_S} {t g : gT} {F : gF} {m sp : Nat} (hg : tG t) (hM : RMt S t) (hF : RFm S t F) (hW : RG S t g) (hG : gG t g) (hI : gI t g) (hm : m < 60) (hsp : sp ≤ t 0 1) {K : sn_S → Prop} (k : ∀ S', agG S S' → RG S' t (minute t F m sp g) → (RS S t g → RS S' t (minute t F m sp g)) → PL S S' t m (minute t F m sp g 1) (t 0 0) → K S') :
    sn_lp2 (fun (rc9 : Int32 → sn_S → Prop) (i7 : Int32) (S8 : sn_S) => (vp_in 0 5680 ∧ (((S8.1 2 (0 : Int32).toNatClampNeg) ≤ i7 → K S8) ∧ (¬ (S8.1 2 (0 : Int32).toNatClampNeg) ≤ i7 → wpX9_ofSnail i7 2 S8 (fun (r10 : Int32) => (¬ r10 = 0 ∧ sn_jn (fun (S11 : sn_S) => (vp_in i7 6 ∧ (vp_in ((60 * i7) + nI m) 360 ∧ sn_lt (sn_pI S11 20 (((60 * i7) + nI m)).toNatClampNeg (S11.1 15 (i7).toNatClampNeg)) (fun S13 => rc9 (i7 + 1) S13)))) (fun (k12 : sn_S → Prop) => ((¬ ((nI m + 1) - (nI m + 1) / r10 * r10) = 0 → k12 S8) ∧ (((nI m + 1) - (nI m + 1) / r10 * r10) = 0 → (vp_in i7 6 ∧ ((¬ (S8.1 16 (i7).toNatClampNeg) = (-1) → k12 S8) ∧ ((S8.1 16 (i7).toNatClampNeg) = (-1) → (vp_in i7 6 ∧ ((¬ (S8.1 17 (i7).toNatClampNeg) = 0 → k12 S8) ∧ ((S8.1 17 (i7).toNatClampNeg) = 0 → wpX9_creep i7 (nI m) (nI sp - nI 1) S8 (fun (S14 : sn_S) => k12 S14)))))))))))))))) 0 S := by
  have h6 := hg.1
  refine sn_lp2_inv (fun i S' => ∃ n : Nat, n ≤ t 0 0 ∧ i = nI n ∧ agG S S' ∧ RG S' t (minuteN t F m sp g n) ∧ (RS S t g → RS S' t (minuteN t F m sp g n)) ∧ PL S S' t m (minuteN t F m sp g n 1) n) (fun i _ => 6 - i.toNatClampNeg) ?_ _ _ ⟨0, Nat.zero_le _, rfl, agG_refl _, hW, fun h => h, PL_0 rfl⟩
  rintro rc i S1 ⟨n, hn, rfl, hA, hW1, hS1, hP1⟩ hrc
  have M1 := RMt_G hM hA
  have F1 := RFm_G hF hA
  have G1 := gG_minuteN (F := F) (sp := sp) hg hG hm n hn
  have I1 := gI_minuteN (F := F) (sp := sp) hg hG hI hm n hn
  rw [z0, M1.1, pn_leN (by omega) (by omega)]
  refine ⟨v0, ?_⟩
  by_cases hne : n = t 0 0
  · subst hne
    exact bq_t (Nat.le_refl _) (k S1 hA hW1 hS1 hP1)
  · have hlt : n < t 0 0 := by omega
    have hv6 : vp_in (nI n) 6 := pn_vp (by omega) (by decide)
    refine bq_f (by omega) ?_
    refine m_ofSnail (s := n) (f := 2) M1 (by omega) ?_
    have hun : minuteN t F m sp g (n + 1) = stepS t F m sp (minuteN t F m sp g n) n := rfl
    have h1n : ∀ s, s < n → minuteN t F m sp g (n + 1) 1 s = minuteN t F m sp g n 1 s := fun s hs => minuteN_1 n s hs
    have step : ∀ S2, agG S S2 → RG S2 t (minuteN t F m sp g (n + 1)) → (RS S t g → RS S2 t (minuteN t F m sp g (n + 1))) → PL S S2 t m (minuteN t F m sp g (n + 1) 1) (n + 1) → rc (nI n + 1) S2 := by
      intro S2 h1 h2 h3 h4
      rw [show nI n + 1 = nI (n + 1) from pn_add n 1]
      refine hrc _ _ ⟨n + 1, by omega, rfl, h1, h2, h3, h4⟩ ?_
      rw [pn_nat (by omega), pn_nat (by omega)]
      omega
    generalize minuteN t F m sp g (n + 1) = g2 at *
    generalize minuteN t F m sp g n = g1 at *
    have r2 := G1.2.1 n hlt
    obtain ⟨p1, p2, p3, p4, p5, p6, p7, p8⟩ := hg.2.2.2.2.2.1 n hlt
    refine ⟨fun e => by have := (pn_eqN (j := 0) (by omega) (by decide)).mp e; omega, ?_⟩
    rw [show nI m + 1 = nI (m + 1) from pn_add m 1, pn_rem (by omega) (by omega), show (60 : Int32) * nI n = nI (60 * n) from pn_mul 60 n, pn_add, pn_nat (n := n) (by omega), pn_nat (n := 60 * n + m) (by omega)]
    refine sn_jn_by (fun k12 => ∀ S2, agG S S2 → RG S2 t g2 → (RS S t g → RS S2 t g2) → S2.1 20 = S1.1 20 → k12 S2) (fun S2 h1 h2 h3 h4 => ?_) (fun k12 hk12 => ?_)
    · refine ⟨hv6, pn_vp (by omega) (by decide), ?_⟩
      rw [h2.1 n hlt]
      refine step _ (agG_I h1 ⟨by decide, by decide⟩ _ _) ?_ (fun hs i hi => by rw [sI_row _ _ _ (by decide)]; exact h3 hs i hi) ?_
      · unfold RG at h2 ⊢
        rw [sI_row _ _ _ (by decide), sI_row _ _ _ (by decide), sI_row _ _ _ (by decide), sI_row _ _ _ (by decide)]
        exact h2
      · have hP2 : PL S S2 t m (g1 1) n := by
          intro s j hs hj
          rw [h4]
          exact hP1 s j hs hj
        exact PL_succ hm hP2 h1n rfl
    · have stay : ¬ goes t g1 n m → k12 S1 := by
        intro h
        unfold stepS at hun
        rw [if_neg h] at hun
        subst hun
        exact hk12 S1 hA hW1 hS1 rfl
      rw [show (0 : Int32) = nI 0 from rfl, pn_eqN (by have := Nat.mod_lt (m + 1) (show 0 < t 4 (6 * n + 2) by omega); omega) (by decide)]
      by_cases c3 : (m + 1) % t 4 (6 * n + 2) = 0
      · refine bq_u c3 ⟨hv6, ?_⟩
        rw [hW1.2.1 n hlt]
        by_cases c2 : g1 2 n = 0
        · refine bq_u ((sp_m1 (by omega)).mpr c2) ⟨hv6, ?_⟩
          rw [hW1.2.2.2 n hlt]
          have hbt := bt_lt (g1 5 0) n
          rw [pn_eqN (by omega) (by decide)]
          by_cases c5 : bt (g1 5 0) n = 0
          · refine bq_u c5 ?_
            unfold stepS at hun
            rw [if_pos ⟨c2, c5, c3⟩] at hun
            subst hun
            exact m_creep hg M1 F1 hW1 G1 I1 hlt c2 hm hsp (fun S2 h1 h2 h3 h4 => hk12 S2 (agG_trans hA h1) h2 (fun h => h3 (hS1 h)) h4)
          · exact bq_v c5 (stay (fun h => c5 h.2.1))
        · exact bq_v (fun e => c2 ((sp_m1 (by omega)).mp e)) (stay (fun h => c2 h.1))
      · exact bq_v c3 (stay (fun h => c3 h.2.2))
theorem m_hour {S : sn_S} {t g : gT} {F : gF} {h sp : Nat} (hg : tG t) (hM : RMt S t) (hF : RFm S t F) (hW : RG S t g) (hG : gG t g) (hI : gI t g) (hh : h < 5) (hsp : sp ≤ t 0 1) {Q : sn_S → Prop} (k : ∀ S', agG S S' → RG S' t (hour t F h sp g) → (RS S t g → RS S' t (hour t F h sp g)) → (∀ s j, s < t 0 0 → j < 60 → S'.1 20 (60 * s + j) = if 12 * h ≤ j ∧ j < 12 * h + 12 then nI (mins t F (12 * h) sp g (j - 12 * h + 1) 1 s) else S.1 20 (60 * s + j)) → Q S') : wpX9_runHour (nI h) (nI sp - nI 1) S Q := by
  unfold wpX9_runHour
  rw [show (12 : Int32) * nI h = nI (12 * h) from pn_mul 12 h, show nI (12 * h) + 12 = nI (12 * h + 12) from pn_add _ 12]
  simp only [sn_lt]
  refine sn_lp2_inv (fun i S' => ∃ n : Nat, n ≤ 12 ∧ i = nI (12 * h + n) ∧ agG S S' ∧ RG S' t (mins t F (12 * h) sp g n) ∧ (RS S t g → RS S' t (mins t F (12 * h) sp g n)) ∧ (∀ s j, s < t 0 0 → j < 60 → S'.1 20 (60 * s + j) = if 12 * h ≤ j ∧ j < 12 * h + n then nI (mins t F (12 * h) sp g (j - 12 * h + 1) 1 s) else S.1 20 (60 * s + j))) (fun i _ => 60 - i.toNatClampNeg) ?_ _ _ ⟨0, Nat.zero_le _, rfl, agG_refl _, hW, fun h => h, fun s j _ _ => by rw [if_neg (by omega)]⟩
  rintro rc i S1 ⟨n, hn, rfl, hA, hW1, hS1, hP1⟩ hrc
  rw [pn_leN (by omega) (by omega)]
  by_cases hne : n = 12
  · subst hne
    exact bq_t (Nat.le_refl _) (k S1 hA hW1 hS1 hP1)
  · refine bq_f (by omega) ?_
    refine sn_jn_by (fun k6 => ∀ S2, agG S1 S2 → RG S2 t (mins t F (12 * h) sp g (n + 1)) → (RS S1 t (mins t F (12 * h) sp g n) → RS S2 t (mins t F (12 * h) sp g (n + 1))) → PL S1 S2 t (12 * h + n) (mins t F (12 * h) sp g (n + 1) 1) (t 0 0) → k6 S2) (fun S2 h1 h2 h3 h4 => ?_) (fun k6 hk6 => ?_)
    · rw [show nI (12 * h + n) + 1 = nI (12 * h + (n + 1)) from pn_add _ 1]
      refine hrc _ _ ⟨n + 1, by omega, rfl, agG_trans hA h1, h2, fun h => h3 (hS1 h), fun s j hs hj => ?_⟩ ?_
      · rw [h4 s j hs hj]
        by_cases e : j = 12 * h + n
        · subst e
          rw [if_pos ⟨rfl, hs⟩, if_pos (by omega)]
          congr 3
          omega
        · rw [if_neg (fun hh => e hh.1), hP1 s j hs hj]
          by_cases e2 : 12 * h ≤ j ∧ j < 12 * h + n
          · rw [if_pos e2, if_pos (by omega)]
          · rw [if_neg e2, if_neg (by omega)]
      · rw [pn_nat (by omega), pn_nat (by omega)]
        omega
    · exact m_minute hg (RMt_G hM hA) (RFm_G hF hA) hW1 (gG_mins hg hG n (by omega)) (gI_mins hg hG hI n (by omega)) (by omega) hsp hk6
theorem m_dawn {S : sn_S} {t : gT} (hg : tG t) (hM : RMt S t) {Q : sn_S → Prop} (k : ∀ S', agG S S' → RG S' t (dawn t) → RS S' t (dawn t) → Q S') : wpX9_dawn S Q := by
  unfold wpX9_dawn
  have h6 := hg.1
  refine sn_jn_by (fun k11 => ∀ S', agG S S' → (∀ c, c < 96 → S'.1 18 c = 0) → k11 S') (fun S1 hA1 h0 => ?_) (fun k11 hk11 => ?_)
  · simp only [sn_lt]
    refine sn_lp2_inv (fun i S' => ∃ n : Nat, n ≤ t 0 0 ∧ i = nI n ∧ agG S S' ∧ ((∀ s, s < n → S'.1 15 s = nI (dawnN t n 1 s)) ∧ (∀ s, s < n → S'.1 16 s = nI (dawnN t n 2 s) - nI 1) ∧ (∀ c, c < 96 → S'.1 18 c = nI (dawnN t n 4 c)) ∧ (∀ s, s < n → S'.1 17 s = 0)) ∧ (∀ s, s < n → S'.1 19 s = nI (dawnN t n 3 s))) (fun i _ => 6 - i.toNatClampNeg) ?_ _ _ ⟨0, Nat.zero_le _, rfl, hA1, ⟨fun s hs => absurd hs (Nat.not_lt_zero _), fun s hs => absurd hs (Nat.not_lt_zero _), h0, fun s hs => absurd hs (Nat.not_lt_zero _)⟩, fun s hs => absurd hs (Nat.not_lt_zero _)⟩
    rintro rc i S2 ⟨n, hn, rfl, hA, hW, hS⟩ hrc
    have M2 := RMt_G hM hA
    rw [z0, M2.1, pn_leN (by omega) (by omega)]
    refine ⟨v0, ?_⟩
    by_cases hne : n = t 0 0
    · subst hne
      refine bq_t (Nat.le_refl _) (k S2 hA ⟨hW.1, hW.2.1, hW.2.2.1, fun s hs => ?_⟩ hS)
      rw [hW.2.2.2 s hs, show dawn t 5 0 = 0 from (gG_dawn hg _ (Nat.le_refl _)).2]
      simp [bt]
      rfl
    · have hlt : n < t 0 0 := by omega
      have hv6 : vp_in (nI n) 6 := pn_vp (by omega) (by decide)
      obtain ⟨p1, p2, _⟩ := hg.2.2.2.2.2.1 n hlt
      refine bq_f (by omega) ?_
      refine m_ofSnail (s := n) (f := 0) M2 (by omega) ?_
      rw [show 6 * n + 0 = 6 * n from rfl, pn_nat (n := n) (by omega)]
      refine ⟨hv6, hv6, ?_⟩
      have A17 : agG S (sn_pI S2 15 n (nI (t 4 (6 * n)))) := agG_I hA ⟨by decide, by decide⟩ _ _
      refine m_ofSnail (s := n) (f := 1) (RMt_G hM A17) (by omega) ?_
      have r17 : (sn_pI S2 15 n (nI (t 4 (6 * n)))).1 15 n = nI (t 4 (6 * n)) := by rw [sI_get, if_pos ⟨rfl, rfl⟩]
      rw [r17]
      refine sn_jn_by (fun k20 => k20 (nI (if t 4 (6 * n) = t 4 (6 * n + 1) then 1 else 0) - nI 1)) ?_ (fun k20 hk20 => ?_)
      · rw [sI_row _ _ _ (show (15 : Nat) ≠ 19 by decide), sI_row _ _ _ (show (15 : Nat) ≠ 17 by decide), sI_row _ _ _ (show (15 : Nat) ≠ 16 by decide), r17, pn_nat (n := t 4 (6 * n)) (by omega), sI_row _ _ _ (show (18 : Nat) ≠ 19 by decide), sI_row _ _ _ (show (18 : Nat) ≠ 17 by decide), sI_row _ _ _ (show (18 : Nat) ≠ 16 by decide), sI_row _ _ _ (show (18 : Nat) ≠ 15 by decide), hW.2.2.1 _ p1, bits_stb _ (dawnN_4 hg n (by omega) _) _ (by omega)]
        refine ⟨hv6, hv6, hv6, hv6, pn_vp (by omega) (by decide), pn_vp (by omega) (by decide), ?_⟩
        rw [show nI n + 1 = nI (n + 1) from pn_add n 1]
        refine hrc _ _ ⟨n + 1, by omega, rfl, agG_I (agG_I (agG_I (agG_I A17 ⟨by decide, by decide⟩ _ _) ⟨by decide, by decide⟩ _ _) ⟨by decide, by decide⟩ _ _) ⟨by decide, by decide⟩ _ _, ⟨fun i hi => ?_, fun i hi => ?_, fun c hc => ?_, fun i hi => ?_⟩, fun i hi => ?_⟩ (by rw [pn_nat (by omega), pn_nat (by omega)]; omega)
        · simp only [sI_get, dawnN]
          by_cases e : i = n
          · subst e
            simp
          · simp [e, hW.1 i (by omega)]
        · simp only [sI_get, dawnN]
          by_cases e : i = n
          · subst e
            simp
          · simp [e, hW.2.1 i (by omega)]
        · simp only [sI_get, dawnN]
          by_cases e : c = t 4 (6 * n)
          · subst e
            simp
          · simp [e, hW.2.2.1 c hc]
        · simp only [sI_get]
          by_cases e : i = n
          · subst e
            simp
            rfl
          · simp [e, hW.2.2.2 i (by omega)]
        · simp only [sI_get, dawnN]
          by_cases e : i = n
          · subst e
            simp
            rfl
          · simp [e, hS i (by omega)]
      · rw [came_0] at hk20
        by_cases e : t 4 (6 * n) = t 4 (6 * n + 1)
        · rw [if_pos e] at hk20
          exact bq_u (by rw [e]) hk20
        · rw [if_neg e] at hk20
          exact bq_v (fun h => e ((pn_eqN (by omega) (by omega)).mp h)) hk20
  · refine sn_lp2_inv (fun i S' => ∃ n : Nat, n ≤ 96 ∧ i = nI n ∧ agG S S' ∧ (∀ c, c < n → S'.1 18 c = 0)) (fun i _ => 96 - i.toNatClampNeg) ?_ _ _ ⟨0, Nat.zero_le _, rfl, agG_refl _, fun c hc => absurd hc (Nat.not_lt_zero _)⟩
    rintro rc i S2 ⟨n, hn, rfl, hA, hW⟩ hrc
    rw [show (96 : Int32) = nI 96 from rfl, pn_leN (by omega) (by omega)]
    by_cases hne : n = 96
    · subst hne
      exact bq_t (Nat.le_refl _) (hk11 S2 hA hW)
    · refine bq_f (by omega) ⟨pn_vp (by omega) (by decide), ?_⟩
      simp only [sn_lt]
      rw [show nI n + 1 = nI (n + 1) from pn_add n 1, pn_nat (n := n) (by omega)]
      refine hrc _ _ ⟨n + 1, by omega, rfl, agG_I hA ⟨by decide, by decide⟩ _ _, fun c hc => ?_⟩ (by rw [pn_nat (by omega), pn_nat (by omega)]; omega)
      rw [sI_get]
      by_cases e : c = n
      · rw [if_pos ⟨rfl, e⟩]
      · rw [if_neg (fun h => e h.2)]
        exact hW c (by omega)
