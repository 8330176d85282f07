/-! THE PLAIN LAW, twelfth part: x's minute, hour, dawn -/
set_option maxRecDepth 100000
/-- but for a Walk's own rows, around, and the longs -/
def agW (kw : Nat) (S S' : sn_S) : Prop := (∀ k, k ≠ 15 → (k < kw ∨ kw + 4 < k) → S'.1 k = S.1 k) ∧ (∀ i, i ≠ 4 → S'.1 kw i = S.1 kw i) ∧ S'.2.2 = S.2.2
theorem agW_refl (kw : Nat) (S : sn_S) : agW kw S S := ⟨fun _ _ _ => rfl, fun _ _ => rfl, rfl⟩
theorem agW_trans {kw : Nat} {S1 S2 S3 : sn_S} (h : agW kw S1 S2) (k : agW kw S2 S3) : agW kw S1 S3 := ⟨fun i h1 h2 => (k.1 i h1 h2).trans (h.1 i h1 h2), fun i hi => (k.2.1 i hi).trans (h.2.1 i hi), k.2.2.trans h.2.2⟩
theorem agW_A {kw : Nat} {S S' : sn_S} (hk : 16 ≤ kw) (h : agA S S') : agW kw S S' := ⟨fun k h1 _ => h.1 k h1, fun i _ => by rw [h.1 kw (by omega)], h.2⟩
theorem agW_I {kw : Nat} {S S' : sn_S} (h : agW kw S S') {j : Nat} (hj : 1 ≤ j ∧ j ≤ 4) (i : Nat) (v : Int32) : agW kw S (sn_pI S' (kw + j) i v) := ⟨fun k h1 h2 => by rw [sI_row _ _ _ (by omega)]; exact h.1 k h1 h2, fun i hi => by rw [sI_row _ _ _ (by omega)]; exact h.2.1 i hi, h.2.2⟩
theorem agW_4 {kw : Nat} {S S' : sn_S} (h : agW kw S S') (v : Int32) : agW kw S (sn_pI S' kw 4 v) := ⟨fun k h1 h2 => by rw [sI_row _ _ _ (by omega)]; exact h.1 k h1 h2, fun i hi => by rw [sI_get, if_neg (by omega)]; exact h.2.1 i hi, h.2.2⟩
theorem RXt_W {kw : Nat} {S S' : sn_S} {t : gT} (hk : 16 ≤ kw) (h : RXt S t) (a : agW kw S S') : RXt S' t := by
  unfold RXt at h ⊢
  rw [a.1 2 (by decide) (by omega), a.1 3 (by decide) (by omega), a.1 4 (by decide) (by omega), a.1 5 (by decide) (by omega), a.1 6 (by decide) (by omega), a.1 7 (by decide) (by omega), a.1 8 (by decide) (by omega), a.1 9 (by decide) (by omega)]
  exact h
theorem RW_creep {kw : Nat} {S : sn_S} {t g : gT} {F : gF} {s m sp : Nat} (hW : RW kw S t g) (hs : s < t 0 0) (hv : goal t F g s m sp < 96) :
    let v := goal t F g s m sp
    RW kw (let S3 := sn_pI (sn_pI (sn_pI S (kw + 3) s (nI (if v = g 1 s then g 3 s + 1 else g 3 s))) (kw + 1) s (nI v)) (kw + 4) v (nI (stb (g 4 v) s)); if v = t 4 (6 * s + 1) then sn_pI S3 (kw + 2) s (nI (m + 1)) else S3) t (creep t F g s m sp) := by
  intro v
  obtain ⟨h1, h2, h3, h4, h5⟩ := hW
  have e : ∀ (S3 : sn_S) (k i : Nat), (if v = t 4 (6 * s + 1) then sn_pI S3 (kw + 2) s (nI (m + 1)) else S3).1 k i = if v = t 4 (6 * s + 1) ∧ k = kw + 2 ∧ i = s then nI (m + 1) else S3.1 k i := by
    intro S3 k i
    by_cases hh : v = t 4 (6 * s + 1)
    · simp only [hh, if_true, sI_get, true_and]
    · simp only [hh, if_false, false_and]
  refine ⟨fun i hi => ?_, fun i hi => ?_, fun i hi => ?_, fun c hc => ?_, ?_⟩
  · simp only [e, sI_get, creep]
    by_cases ei : i = s
    · subst ei
      simp
      rfl
    · simp [ei, h1 i hi]
  · simp only [e, sI_get, creep]
    by_cases ei : i = s
    · subst ei
      by_cases hh : v = t 4 (6 * i + 1)
      · have hh' : goal t F g i m sp = t 4 (6 * i + 1) := hh
        simp [hh, hh']
        exact (pn_sub (a := m + 2) (b := 1) (by omega)).symm
      · have hh' : ¬ goal t F g i m sp = t 4 (6 * i + 1) := hh
        simp [hh, hh', h2 i hi]
    · simp [ei, h2 i hi]
  · simp only [e, sI_get, creep]
    by_cases ei : i = s
    · subst ei
      simp
      rfl
    · simp [ei, h3 i hi]
  · simp only [e, sI_get, creep]
    by_cases ei : c = v
    · subst ei
      have : goal t F g s m sp = v := rfl
      simp [this]
    · have : ¬ c = goal t F g s m sp := ei
      simp [ei, this, h4 c hc]
  · simp only [e, sI_get, creep]
    simp [h5]
theorem x_minute {w : sn_W} {S : sn_S} {t g : gT} {F : gF} {kw m sp : Nat} (hk : 16 ≤ kw) (hg : tG t) (hX : RXt S t) (hF : RFx w S t F) (hW : RW kw S t g) (hG : gG t g) (hm : m < 60) (hsp : sp ≤ t 0 1) {Q : sn_S → Prop} (k : ∀ S', agW kw S S' → RW kw S' t (minute t F m sp g) → Q S') : wpX4_minute w kw (nI m) (nI sp - nI 1) S Q := by
  unfold wpX4_minute
  have h6 := hg.1
  rw [show (12 : Int32) = nI 12 from rfl, pn_div (by omega) (by decide)]
  simp only [sn_lt]
  refine sn_lp2_inv (fun i S' => ∃ n : Nat, n ≤ t 0 0 ∧ i = nI n ∧ agW kw S S' ∧ RW kw S' t (minuteN t F m sp g n)) (fun i _ => 6 - i.toNatClampNeg) ?_ _ _ ⟨0, Nat.zero_le _, rfl, agW_refl _ _, hW⟩
  rintro rc i S1 ⟨n, hn, rfl, hA, hW1⟩ hrc
  have X1 := RXt_W hk hX hA
  have F1 := RFx_ag hF hA.2.2
  have G1 := gG_minuteN (F := F) (sp := sp) hg hG hm n hn
  rw [X1.1, pn_leN (by omega) (by omega)]
  by_cases hne : n = t 0 0
  · subst hne
    exact bq_t (Nat.le_refl _) (k S1 hA hW1)
  · have hlt : n < t 0 0 := by omega
    refine bq_f (by omega) ⟨pn_vp (by omega) (by decide), ?_⟩
    have step : ∀ S2, agW kw S S2 → RW kw S2 t (minuteN t F m sp g (n + 1)) → rc (nI n + 1) S2 := by
      intro S2 h1 h2
      rw [show nI n + 1 = nI (n + 1) from pn_add n 1]
      refine hrc _ _ ⟨n + 1, by omega, rfl, h1, h2⟩ ?_
      rw [pn_nat (by omega), pn_nat (by omega)]
      omega
    have hun : minuteN t F m sp g (n + 1) = stepS t F m sp (minuteN t F m sp g n) n := rfl
    rw [hun] at step
    generalize minuteN t F m sp g n = g1 at *
    have e2 : S1.1 (kw + 2) n = nI (g1 2 n) - nI 1 := hW1.2.1 n hlt
    have r2 := G1.2.1 n hlt
    have r1 := G1.1 n hlt
    have r5 := G1.2.2.2
    obtain ⟨p1, p2, p3, p4, p5, p6, p7, p8⟩ := hg.2.2.2.2.2.1 n hlt
    refine sn_jn_by (fun k15 => (∀ S2, agW kw S1 S2 → RW kw S2 t (stepS t F m sp g1 n) → k15 S2)) (fun S2 h1 h2 => step S2 (agW_trans hA h1) h2) (fun k15 hk15 => ?_)
    have stay : ¬ goes t g1 n m → k15 S1 := by
      intro h
      refine hk15 S1 (agW_refl _ _) ?_
      unfold stepS
      rw [if_neg h]
      exact hW1
    rw [pn_nat (n := n) (by omega), e2]
    by_cases c2 : g1 2 n = 0
    · refine bq_u ((sp_m1 (by omega)).mpr c2) ?_
      rw [hW1.2.2.2.2]
      refine x_isOf r5 (by omega) ?_
      have hbt := bt_lt (g1 5 0) n
      by_cases c5 : bt (g1 5 0) n = 0
      · refine bq_u (by rw [c5]; rfl) ?_
        refine x_of0 (s := n) (f := 2) X1 (by omega) ?_
        refine ⟨fun e => by have := (pn_eqN (j := 0) (by omega) (by decide)).mp e; omega, ?_⟩
        rw [show nI m + 1 = nI (m + 1) from pn_add m 1, pn_rem (by omega) (by omega), show (0 : Int32) = nI 0 from rfl, pn_eqN (by have := Nat.mod_lt (m + 1) (show 0 < t 4 (6 * n + 2) by omega); omega) (by decide)]
        by_cases c3 : (m + 1) % t 4 (6 * n + 2) = 0
        · refine bq_t c3 ⟨pn_vp (by omega) (by decide), ?_⟩
          rw [hW1.1 n hlt]
          refine x_asks (hd := 2) hg X1 F1 hW1 G1 (by decide) hlt r1 (by omega) hsp (fun S19 J19 => ?_)
          have A19 : agA S1 S19 := agA_J ⟨fun _ _ => rfl, rfl⟩ J19
          have hst : stepS t F m sp g1 n = creep t F g1 n m sp := by
            unfold stepS
            rw [if_pos ⟨c2, c5, c3⟩]
          have hgl := goal_lt (t := t) (F := F) (g := g1) (s := n) (m := m) (sp := sp) r1
          refine sn_jn_by (fun k22 => ∀ S2, agA S1 S2 → k22 (nI (goal t F g1 n m sp)) S2) (fun S21 A21 => ?_) (fun k22 hk22 => ?_)
          · have W21 := RW_A hk hW1 A21
            have X21 := RXt_A X1 A21
            have hv := RW_creep (F := F) (m := m) (sp := sp) W21 hlt hgl
            have hv2 : ∀ S2, agW kw S1 S2 → RW kw S2 t (creep t F g1 n m sp) → k15 S2 := fun S2 h1 h2 => hk15 S2 h1 (by rw [hst]; exact h2)
            have hb := G1.2.2.1 _ hgl
            dsimp only at hv
            generalize goal t F g1 n m sp = v at hgl hv hb ⊢
            refine ⟨pn_vp (by omega) (by decide), pn_vp (by omega) (by decide), sn_jn_by (fun k24 => k24 (nI (if v = g1 1 n then 1 else 0))) ?_ (fun k24 hk24 => ?_)⟩
            · have e3 : nI (g1 3 n) + nI (if v = g1 1 n then 1 else 0) = nI (if v = g1 1 n then g1 3 n + 1 else g1 3 n) := by
                rw [pn_add]
                congr 1
                split <;> rfl
              rw [W21.2.2.1 n hlt, e3, pn_nat (n := v) (by omega), sI_row _ _ _ (by omega), sI_row _ _ _ (by omega), W21.2.2.2.1 v hgl, bits_stb _ hb _ (by omega)]
              have A27 : agW kw S1 (sn_pI (sn_pI (sn_pI S21 (kw + 3) n (nI (if v = g1 1 n then g1 3 n + 1 else g1 3 n))) (kw + 1) n (nI v)) (kw + 4) v (nI (stb (g1 4 v) n))) := agW_I (agW_I (agW_I (agW_A hk A21) ⟨by omega, by omega⟩ _ _) ⟨by omega, by omega⟩ _ _) ⟨by omega, by omega⟩ _ _
              refine ⟨pn_vp (by omega) (by decide), pn_vp (by omega) (by decide), pn_vp (by omega) (by decide), pn_vp (by omega) (by decide), ?_⟩
              refine x_of0 (s := n) (f := 1) (RXt_W hk X1 A27) (by omega) ?_
              by_cases hsl : v = t 4 (6 * n + 1)
              · refine bq_u (by rw [hsl]) ⟨pn_vp (by omega) (by decide), hv2 _ (agW_I A27 ⟨by omega, by omega⟩ _ _) ?_⟩
                rw [if_pos hsl] at hv
                exact hv
              · refine bq_v (fun e => hsl ((pn_eqN (by omega) (by omega)).mp e)) (hv2 _ A27 ?_)
                rw [if_neg hsl] at hv
                exact hv
            · rw [W21.1 n hlt]
              by_cases hsl : v = g1 1 n
              · rw [if_pos hsl] at hk24
                exact bq_u (by rw [hsl]) hk24
              · rw [if_neg hsl] at hk24
                exact bq_v (fun e => hsl ((pn_eqN (by omega) (by omega)).mp e)) hk24
          · have hn2 := lO_none (o := F 2 (vals t g1 n (g1 1 n) (m / 12) sp)) (fun z e => hF.1.1 _ _ _ e)
            unfold goal at hk22
            rw [show (0 : Int32) = nI 0 from rfl] at hn2
            by_cases e : F 2 (vals t g1 n (g1 1 n) (m / 12) sp) = none
            · rw [if_pos e] at hk22
              refine bq_t (hn2.mpr e) ?_
              have W19 := RW_A hk hW1 A19
              refine x_best hk hg (RXt_A X1 A19) (RFx_ag F1 A19.2) W19 G1 hlt (by omega) hsp (fun S31 A31 => ?_)
              exact hk22 S31 ⟨fun k hk => (A31.1 k hk).trans (A19.1 k hk), A31.2.trans A19.2⟩
            · rw [if_neg e] at hk22
              refine bq_f (fun h => e (hn2.mp h)) ⟨pn_vp (by omega) (by decide), ?_⟩
              have W19 := RW_A hk hW1 A19
              rw [W19.1 n hlt]
              exact hk22 S19 A19
        · exact bq_f c3 (stay (fun h => c3 h.2.2))
      · refine bq_v (fun e => c5 ((pn_eqN (j := 0) (by omega) (by decide)).mp e)) (stay (fun h => c5 h.2.1))
    · exact bq_v (fun e => c2 ((sp_m1 (by omega)).mp e)) (stay (fun h => c2 h.1))
theorem x_hour {w : sn_W} {S : sn_S} {t g : gT} {F : gF} {kw h sp : Nat} (hk : 16 ≤ kw) (hg : tG t) (hX : RXt S t) (hF : RFx w S t F) (hW : RW kw S t g) (hG : gG t g) (hh : h < 5) (hsp : sp ≤ t 0 1) {Q : sn_S → Prop} (k : ∀ S', agW kw S S' → RW kw S' t (hour t F h sp g) → Q S') : wpX4_hour w kw (nI h) (nI sp - nI 1) S Q := by
  unfold wpX4_hour
  rw [show (12 : Int32) * nI h = nI (12 * h) from pn_mul 12 h, show nI (12 * h) + 12 = nI (12 * h + 12) from pn_add _ 12]
  simp only [sn_lt]
  refine sn_lp2_inv (fun i S' => ∃ n : Nat, n ≤ 12 ∧ i = nI (12 * h + n) ∧ agW kw S S' ∧ RW kw S' t (mins t F (12 * h) sp g n)) (fun i _ => 60 - i.toNatClampNeg) ?_ _ _ ⟨0, Nat.zero_le _, rfl, agW_refl _ _, hW⟩
  rintro rc i S1 ⟨n, hn, rfl, hA, hW1⟩ hrc
  rw [pn_leN (by omega) (by omega)]
  by_cases hne : n = 12
  · subst hne
    exact bq_t (Nat.le_refl _) (k S1 hA hW1)
  · refine bq_f (by omega) ?_
    refine x_minute hk hg (RXt_W hk hX hA) (RFx_ag hF hA.2.2) hW1 (gG_mins hg hG n (by omega)) (by omega) hsp (fun S2 h1 h2 => ?_)
    rw [show nI (12 * h + n) + 1 = nI (12 * h + (n + 1)) from pn_add _ 1]
    refine hrc _ _ ⟨n + 1, by omega, rfl, agW_trans hA h1, h2⟩ ?_
    rw [pn_nat (by omega), pn_nat (by omega)]
    omega
theorem x_of00 {w : sn_W} {S : sn_S} {t : gT} (hX : RXt S t) {s : Nat} (hs : 6 * s < 36) {Q : Int32 → Prop} (k : Q (nI (t 4 (6 * s)))) : wpX0_of0 w (nI s) 0 S Q := x_of0 (f := 0) hX hs k
def RWn (kw : Nat) (S : sn_S) (n : Nat) (g : gT) : Prop := (∀ s, s < n → S.1 (kw + 1) s = nI (g 1 s)) ∧ (∀ s, s < n → S.1 (kw + 2) s = nI (g 2 s) - nI 1) ∧ (∀ s, s < n → S.1 (kw + 3) s = nI (g 3 s)) ∧ (∀ c, c < 96 → S.1 (kw + 4) c = nI (g 4 c)) ∧ S.1 kw 4 = nI (g 5 0)
theorem came_0 {c : Prop} [Decidable c] : nI (if c then 1 else 0) - nI 1 = if c then 0 else -1 := by
  split <;> rfl
theorem x_begins {w : sn_W} {S : sn_S} {t : gT} {kw : Nat} (hk : 16 ≤ kw) (hg : tG t) (hX : RXt S t) {Q : sn_S → Prop} (k : ∀ S', agW kw S S' → RW kw S' t (dawn t) → Q S') : wpX4_begins w kw S Q := by
  unfold wpX4_begins
  have h6 := hg.1
  refine sn_jn_by (fun k11 => ∀ S', agW kw S S' → (∀ c, c < 96 → S'.1 (kw + 4) c = 0) → k11 S') (fun S1 hA1 h0 => ?_) (fun k11 hk11 => ?_)
  · simp only [sn_lt]
    refine sn_lp2_inv (fun i S' => ∃ n : Nat, n ≤ t 0 0 ∧ i = nI n ∧ agW kw S S' ∧ RWn kw S' n (dawnN t n)) (fun i _ => 6 - i.toNatClampNeg) ?_ _ _ ⟨0, Nat.zero_le _, rfl, agW_4 hA1 _, ?_⟩
    · rintro rc i S2 ⟨n, hn, rfl, hA, hW⟩ hrc
      have X2 := RXt_W hk hX hA
      rw [X2.1, pn_leN (by omega) (by omega)]
      by_cases hne : n = t 0 0
      · subst hne
        exact bq_t (Nat.le_refl _) (k S2 hA hW)
      · have hlt : n < t 0 0 := by omega
        obtain ⟨p1, p2, _⟩ := hg.2.2.2.2.2.1 n hlt
        refine bq_f (by omega) ?_
        refine x_of00 (s := n) X2 (by omega) ?_
        rw [pn_nat (n := n) (by omega)]
        refine ⟨pn_vp (by omega) (by decide), pn_vp (by omega) (by decide), ?_⟩
        have A17 : agW kw S (sn_pI S2 (kw + 1) n (nI (t 4 (6 * n)))) := agW_I hA ⟨by omega, by omega⟩ _ _
        refine x_of0 (s := n) (f := 1) (RXt_W hk hX A17) (by omega) ?_
        have r17 : (sn_pI S2 (kw + 1) n (nI (t 4 (6 * n)))).1 (kw + 1) n = nI (t 4 (6 * n)) := by rw [sI_get, if_pos ⟨rfl, rfl⟩]
        rw [r17]
        refine sn_jn_by (fun k20 => k20 (nI (if t 4 (6 * n) = t 4 (6 * n + 1) then 1 else 0) - nI 1)) ?_ (fun k20 hk20 => ?_)
        · rw [sI_row _ _ _ (show kw + 1 ≠ kw + 3 by omega), sI_row _ _ _ (show kw + 1 ≠ kw + 2 by omega), r17, pn_nat (n := t 4 (6 * n)) (by omega), sI_row _ _ _ (show kw + 4 ≠ kw + 3 by omega), sI_row _ _ _ (show kw + 4 ≠ kw + 2 by omega), sI_row _ _ _ (show kw + 4 ≠ kw + 1 by omega), hW.2.2.2.1 _ p1, bits_stb _ (dawnN_4 hg n (by omega) _) _ (by omega)]
          refine ⟨pn_vp (by omega) (by decide), pn_vp (by omega) (by decide), pn_vp (by omega) (by decide), pn_vp (by omega) (by decide), pn_vp (by omega) (by decide), ?_⟩
          rw [show nI n + 1 = nI (n + 1) from pn_add n 1]
          refine hrc _ _ ⟨n + 1, by omega, rfl, agW_I (agW_I (agW_I A17 ⟨by omega, by omega⟩ _ _) ⟨by omega, by omega⟩ _ _) ⟨by omega, by omega⟩ _ _, ?_⟩ (by rw [pn_nat (by omega), pn_nat (by omega)]; omega)
          obtain ⟨w1, w2, w3, w4, w5⟩ := hW
          refine ⟨fun i hi => ?_, fun i hi => ?_, fun i hi => ?_, fun c hc => ?_, ?_⟩
          · simp only [sI_get, dawnN]
            by_cases e : i = n
            · subst e
              simp
            · simp [e, w1 i (by omega)]
          · simp only [sI_get, dawnN]
            by_cases e : i = n
            · subst e
              simp
            · simp [e, w2 i (by omega)]
          · simp only [sI_get, dawnN]
            by_cases e : i = n
            · subst e
              simp
              rfl
            · simp [e, w3 i (by omega)]
          · simp only [sI_get, dawnN]
            by_cases e : c = t 4 (6 * n)
            · subst e
              simp
            · simp [e, w4 c hc]
          · simp only [sI_get, dawnN]
            simp [w5]
        · rw [came_0] at hk20
          by_cases e : t 4 (6 * n) = t 4 (6 * n + 1)
          · rw [if_pos e] at hk20
            exact bq_u (by rw [e]) hk20
          · rw [if_neg e] at hk20
            exact bq_v (fun h => e ((pn_eqN (by omega) (by omega)).mp h)) hk20
    · refine ⟨fun s hs => absurd hs (Nat.not_lt_zero _), fun s hs => absurd hs (Nat.not_lt_zero _), fun s hs => absurd hs (Nat.not_lt_zero _), fun c hc => ?_, ?_⟩
      · rw [sI_row _ _ _ (show kw + 4 ≠ kw by omega)]
        exact h0 c hc
      · rw [sI_get, if_pos ⟨rfl, rfl⟩]
        rfl
  · refine sn_lp2_inv (fun i S' => ∃ n : Nat, n ≤ 96 ∧ i = nI n ∧ agW kw S S' ∧ (∀ c, c < n → S'.1 (kw + 4) c = 0)) (fun i _ => 96 - i.toNatClampNeg) ?_ _ _ ⟨0, Nat.zero_le _, rfl, agW_refl _ _, fun c hc => absurd hc (Nat.not_lt_zero _)⟩
    rintro rc i S2 ⟨n, hn, rfl, hA, hW⟩ hrc
    rw [show (96 : Int32) = nI 96 from rfl, pn_leN (by omega) (by omega)]
    by_cases hne : n = 96
    · subst hne
      exact bq_t (Nat.le_refl _) (hk11 S2 hA hW)
    · refine bq_f (by omega) ⟨pn_vp (by omega) (by decide), ?_⟩
      simp only [sn_lt]
      rw [show nI n + 1 = nI (n + 1) from pn_add n 1, pn_nat (n := n) (by omega)]
      refine hrc _ _ ⟨n + 1, by omega, rfl, agW_I hA ⟨by omega, by omega⟩ _ _, fun c hc => ?_⟩ (by rw [pn_nat (by omega), pn_nat (by omega)]; omega)
      rw [sI_get]
      by_cases e : c = n
      · rw [if_pos ⟨rfl, e⟩]
      · rw [if_neg (fun h => e h.2)]
        exact hW c (by omega)
theorem cp_ok (n : Nat) (hn : n < 2 ^ 31) : sn_cp 0 0 (nI n) n n := by
  have h0 : (0 : Int32).toNatClampNeg = 0 := rfl
  have hz : ¬ (0 : Int32) < 0 := by decide
  refine ⟨hz, hz, fun h => ?_, by rw [h0, pn_nat hn]; omega, by rw [h0, pn_nat hn]; omega⟩
  rw [show (0 : Int32) = nI 0 from rfl, pn_ltN hn (by decide)] at h
  omega
theorem cpy_lt {f g : Nat → Int32} {n i : Nat} (hi : i < n) (hn : n < 2 ^ 31) : va_cpy f g (0 : Int32).toNatClampNeg (0 : Int32).toNatClampNeg (nI n).toNatClampNeg i = f i := by
  have h0 : (0 : Int32).toNatClampNeg = 0 := rfl
  unfold va_cpy
  rw [h0, pn_nat hn, if_pos (by omega)]
  congr 1
  omega
theorem cpy6 {f g : Nat → Int32} {i : Nat} (hi : i < 6) : va_cpy f g (Int32.toNatClampNeg 0) (Int32.toNatClampNeg 0) (Int32.toNatClampNeg 6) i = f i := cpy_lt (n := 6) hi (by decide)
theorem cpy96 {f g : Nat → Int32} {i : Nat} (hi : i < 96) : va_cpy f g (Int32.toNatClampNeg 0) (Int32.toNatClampNeg 0) (Int32.toNatClampNeg 96) i = f i := cpy_lt (n := 96) hi (by decide)
theorem agW_A' {kw : Nat} {S S' : sn_S} (h : agW kw S S') {j : Nat} (hj : 1 ≤ j ∧ j ≤ 4) (f : Nat → Int32) : agW kw S (sn_pA S' (kw + j) f) := ⟨fun k h1 h2 => by rw [sA_row _ _ (by omega)]; exact h.1 k h1 h2, fun i hi => by rw [sA_row _ _ (by omega)]; exact h.2.1 i hi, h.2.2⟩
theorem x_takes {w : sn_W} {S : sn_S} {t g : gT} {kw k1 : Nat} (hk : 16 ≤ kw) (hk1 : k1 + 4 < kw ∨ kw + 4 < k1) (hg : tG t) (hW : RW k1 S t g) {Q : sn_S → Prop} (k : ∀ S', agW kw S S' → RW kw S' t g → Q S') : wpX4_takes w kw k1 S Q := by
  unfold wpX4_takes
  have h6 := hg.1
  simp only [sn_lt]
  refine ⟨cp_ok 6 (by decide), cp_ok 6 (by decide), cp_ok 6 (by decide), cp_ok 96 (by decide), ?_⟩
  refine k _ (agW_4 (agW_A' (agW_A' (agW_A' (agW_A' (agW_refl _ _) ⟨by omega, by omega⟩ _) ⟨by omega, by omega⟩ _) ⟨by omega, by omega⟩ _) ⟨by omega, by omega⟩ _) _) ?_
  obtain ⟨w1, w2, w3, w4, w5⟩ := hW
  refine ⟨fun i hi => ?_, fun i hi => ?_, fun i hi => ?_, fun c hc => ?_, ?_⟩
  · rw [sI_row _ _ _ (by omega), sA_row _ _ (by omega), sA_row _ _ (by omega), sA_row _ _ (by omega), sA_eq, cpy6 (by omega)]
    exact w1 i hi
  · rw [sI_row _ _ _ (by omega), sA_row _ _ (by omega), sA_row _ _ (by omega), sA_eq, cpy6 (by omega), sA_row _ _ (by omega)]
    exact w2 i hi
  · rw [sI_row _ _ _ (by omega), sA_row _ _ (by omega), sA_eq, cpy6 (by omega), sA_row _ _ (by omega), sA_row _ _ (by omega)]
    exact w3 i hi
  · rw [sI_row _ _ _ (by omega), sA_eq, cpy96 (by omega), sA_row _ _ (by omega), sA_row _ _ (by omega), sA_row _ _ (by omega)]
    exact w4 c hc
  · rw [sI_get, if_pos ⟨rfl, rfl⟩, sA_row _ _ (by omega), sA_row _ _ (by omega), sA_row _ _ (by omega), sA_row _ _ (by omega)]
    exact w5
