/-! THE PLAIN LAW, twenty-eighth part: sure, ahead -/
set_option maxRecDepth 100000
theorem sO_none {f : Nat → Nat → Bool} {n : Nat} {φ : (Nat → Nat) → Nat} (hφ : ∀ r : Nat → Nat, (∀ i, i < n → r i < n) → φ r = 0) : ∀ k j A r, j + k = n → (∀ i, i < j → r i < n) → sO f n φ k j A r = 0
  | 0, j, A, r, hj, hr => hφ r (fun i hi => hr i (by omega))
  | k + 1, j, A, r, hj, hr => by
    unfold sO
    rw [sms_congr (g := fun _ => 0) n (fun s hs => ?_), sms_zero]
    split
    · refine sO_none hφ k (j + 1) _ _ (by omega) (fun i hi => ?_)
      unfold upN
      split
      · exact hs
      · exact hr i (by omega)
    · rfl
theorem ordA_F0 {t : gT} {s : Nat} (hs : t 0 0 ≤ s) : (ordA t).2.1 s = 0 := by
  unfold ordA
  rw [trO_add (π := fun a : gO => a.2.1 s) (φ := fun r => if t 0 0 ≠ 0 ∧ r 0 = s then 1 else 0) (fun r a => rfl), sO_none (fun r hr => ?_) _ 0 0 _ (by omega) (fun i hi => absurd hi (Nat.not_lt_zero _))]
  rw [if_neg (fun h => ?_)]
  have := hr 0 (by omega)
  omega
theorem ordA_L0 {t : gT} {s : Nat} (hs : t 0 0 ≤ s) : (ordA t).2.2.1 s = 0 := by
  unfold ordA
  rw [trO_add (π := fun a : gO => a.2.2.1 s) (φ := fun r => if t 0 0 ≠ 0 ∧ r (t 0 0 - 1) = s then 1 else 0) (fun r a => rfl), sO_none (fun r hr => ?_) _ 0 0 _ (by omega) (fun i hi => absurd hi (Nat.not_lt_zero _))]
  rw [if_neg (fun h => ?_)]
  have := hr (t 0 0 - 1) (by omega)
  omega
theorem ordA_sumF {t : gT} (hg : tG t) (h1 : 1 ≤ t 0 0) : (ordA t).1 = sms (ordA t).2.1 (t 0 0) := by
  rw [ordA_M hg]
  obtain ⟨m, hm⟩ : ∃ m, t 0 0 = m + 1 := ⟨t 0 0 - 1, by omega⟩
  have e : NP (okO t) (t 0 0) (t 0 0) 0 (2 ^ t 0 0 - 1) = sms (fun s => if okO t 0 s = true then NP (okO t) (t 0 0) (t 0 0 - 1) (stb 0 s) (2 ^ t 0 0 - 1) else 0) (t 0 0) := by
    conv => lhs; rw [show NP (okO t) (t 0 0) (t 0 0) = NP (okO t) (t 0 0) ((t 0 0 - 1) + 1) by rw [show t 0 0 - 1 + 1 = t 0 0 by omega]]
    rfl
  rw [e]
  exact sms_congr _ (fun s hs => (ordA_F hg hs).symm)
theorem ordA_sumL {t : gT} (hg : tG t) (h1 : 1 ≤ t 0 0) : (ordA t).1 = sms (ordA t).2.2.1 (t 0 0) := by
  have h6 := hg.1
  have t2 := two_le h6
  rw [ordA_M hg]
  have e : NP (okO t) (t 0 0) (t 0 0) 0 (2 ^ t 0 0 - 1) = sms (fun s => if bt (2 ^ t 0 0 - 1) s = 1 ∧ okO t (clr (2 ^ t 0 0 - 1) s) s = true then NP (okO t) (t 0 0) (t 0 0 - 1) 0 (clr (2 ^ t 0 0 - 1) s) else 0) (t 0 0) := by
    rw [← NP_snoc h6 okO_bt (t 0 0 - 1) 0 (2 ^ t 0 0 - 1) (by decide) (by omega), show t 0 0 - 1 + 1 = t 0 0 by omega]
  rw [e]
  refine sms_congr _ (fun s hs => ?_)
  rw [ordA_L hg hs]
  by_cases c : okO t (clr (2 ^ t 0 0 - 1) s) s = true
  · rw [if_pos c, if_pos ⟨bt_all _ _ h6 hs, c⟩]
  · rw [if_neg c, if_neg (fun h => c h.2)]
theorem pc_one : ∀ b, b < 64 → pc b = 1 → b = 1 ∨ b = 2 ∨ b = 4 ∨ b = 8 ∨ b = 16 ∨ b = 32 := by decide +kernel
theorem bits_ext : ∀ b, b < 64 → ∀ c, c < 64 → bt b 0 = bt c 0 → bt b 1 = bt c 1 → bt b 2 = bt c 2 → bt b 3 = bt c 3 → bt b 4 = bt c 4 → bt b 5 = bt c 5 → b = c := by
  intro b hb c hc h0 h1 h2 h3 h4 h5
  unfold bt at *
  omega
theorem bits_ext' {b c : Nat} (hb : b < 64) (hc : c < 64) (h : ∀ s, s < 6 → bt b s = bt c s) : b = c := bits_ext b hb c hc (h 0 (by decide)) (h 1 (by decide)) (h 2 (by decide)) (h 3 (by decide)) (h 4 (by decide)) (h 5 (by decide))
theorem ntz_ok {w : sn_W} {Q : Int32 → Prop} : ∀ s, s < 6 → Q (nI s) → wpJ12_numberOfTrailingZeros w (nI (2 ^ s)) Q := by
  intro s hs h
  unfold wpJ12_numberOfTrailingZeros
  simp only [sn_lt, sn_jn]
  rcases (show s = 0 ∨ s = 1 ∨ s = 2 ∨ s = 3 ∨ s = 4 ∨ s = 5 by omega) with rfl | rfl | rfl | rfl | rfl | rfl
  · refine bq_f (by decide) (Eq.mp (congrArg Q ?_) h)
    decide
  · refine bq_t (by decide) (bq_t (by decide) (bq_t (by decide) (bq_t (by decide) (bq_t (by decide) (Eq.mp (congrArg Q ?_) h)))))
    decide
  · refine bq_t (by decide) (bq_t (by decide) (bq_t (by decide) (bq_t (by decide) (bq_t (by decide) (Eq.mp (congrArg Q ?_) h)))))
    decide
  · refine bq_t (by decide) (bq_t (by decide) (bq_t (by decide) (bq_t (by decide) (bq_f (by decide) (Eq.mp (congrArg Q ?_) h)))))
    decide
  · refine bq_t (by decide) (bq_t (by decide) (bq_t (by decide) (bq_t (by decide) (bq_f (by decide) (Eq.mp (congrArg Q ?_) h)))))
    decide
  · refine bq_t (by decide) (bq_t (by decide) (bq_t (by decide) (bq_f (by decide) (bq_t (by decide) (Eq.mp (congrArg Q ?_) h)))))
    decide
/-- which is sure: of n numbers with the sum T the one that is T -/
theorem sure_bits {b n T : Nat} {c : Nat → Nat} (hn : n ≤ 6) (hb : b < 64) (hbits : ∀ s, s < 6 → (bt b s = 1 ↔ c s ≠ 0)) (hhi : ∀ s, n ≤ s → c s = 0) (hT : 1 ≤ n → T = sms c n) (hT0 : T ≠ 0) : (∀ s, s < n → c s = T → b = 2 ^ s) ∧ (pc b = 1 → 1 ≤ n → ∃ s, s < n ∧ c s = T) := by
  have one : ∀ s, s < 6 → ∀ i, i < 6 → bt (2 ^ s) i = if i = s then 1 else 0 := by decide +kernel
  have l64 : ∀ s, s < 6 → 2 ^ s < 64 := by decide
  refine ⟨fun s hs hc => ?_, fun hp h1 => ?_⟩
  · have hsum := hT (by omega)
    have oth : ∀ i, i < n → i ≠ s → c i = 0 := by
      intro i hi hne
      refine Classical.byContradiction (fun h0 => ?_)
      -- the sum is at least the two
      have gen : ∀ m, s < m → i < m → c s + c i ≤ sms c m := by
        intro m
        induction m with
        | zero => intro h; omega
        | succ m ih =>
          intro h2 h3
          unfold sms
          by_cases e1 : s = m
          · have := sms_pos (f := c) (i0 := i) m (by omega)
            rw [e1]
            omega
          · by_cases e2 : i = m
            · have := sms_pos (f := c) (i0 := s) m (by omega)
              rw [e2]
              omega
            · have := ih (by omega) (by omega)
              omega
      have := gen n hs hi
      omega
    refine bits_ext' hb (l64 s (by omega)) (fun i hi => ?_)
    rw [one s (by omega) i hi]
    have hbt := bt_lt b i
    by_cases e : i = s
    · rw [if_pos e]
      exact (hbits i hi).mpr (by rw [e, hc]; exact hT0)
    · rw [if_neg e]
      have : ¬ bt b i = 1 := fun h => (hbits i hi).mp h (by
        rcases Nat.lt_or_ge i n with h2 | h2
        · exact oth i h2 e
        · exact hhi i h2)
      omega
  · obtain ⟨s, hs, rfl⟩ : ∃ s, s < 6 ∧ b = 2 ^ s := by
      rcases pc_one b hb hp with h | h | h | h | h | h
      · exact ⟨0, by decide, h⟩
      · exact ⟨1, by decide, h⟩
      · exact ⟨2, by decide, h⟩
      · exact ⟨3, by decide, h⟩
      · exact ⟨4, by decide, h⟩
      · exact ⟨5, by decide, h⟩
    have hs1 : c s ≠ 0 := (hbits s hs).mp (by rw [one s hs s hs, if_pos rfl])
    have hsn : s < n := by
      rcases Nat.lt_or_ge s n with h | h
      · exact h
      · exact absurd (hhi s h) hs1
    refine ⟨s, hsn, ?_⟩
    rw [hT h1, sms_one (i0 := s) n hsn (fun i hi hne => ?_)]
    refine Classical.byContradiction (fun h0 => ?_)
    have := (hbits i (by omega)).mpr h0
    rw [one s hs i (by omega), if_neg hne] at this
    omega
/-- sure(what) -/
theorem o_sure {w : sn_W} {SX SM : sn_S} {t : gT} (hg : tG t) (hX : RXt SX t) (hM : RMt SM t) (hC : CO SX t) (a : Int32) {K : Int32 → sn_S → Int32 → sn_S → Prop} (hK : ∀ r S1 S2, ordK SX S1 t → agZ (mT SM) S2 → K r S1 r S2) : wpX0_sure w a SX (fun r S1 => wpX9_sure a SM (fun r2 S2 => K r S1 r2 S2)) := by
  have hM' := RMt_mT hM
  have h6 := hg.1
  have t2 := two_le h6
  unfold wpX0_sure wpX9_sure
  simp only [sn_lt]
  rw [show sn_pI SM 0 0 0 = mT SM from rfl]
  have p0 : (0 : Nat) < 2 ^ t 0 0 := Nat.two_pow_pos _
  have hsm := NP_small (f := okO t) (n := t 0 0) (k := t 0 0) (A := 0) (B := 2 ^ t 0 0 - 1) h6 h6
  have eM := ordA_M hg
  have e32 : ∀ S2, RT S2 (okO t) (t 0 0) → S2.1 32 (Int32.toNatClampNeg 0) = nI (ordA t).1 := fun S2 h => by rw [eM]; exact h.2 0 p0
  by_cases c1 : ¬ a < 0 ∧ ¬ 1 < a
  · obtain ⟨j, hj, rfl⟩ := pn_in (hi := 1) (by decide) c1.1 c1.2
    refine x_inY c1 (bq_v i1 ?_)
    refine x_looksO hg hX hC (fun S1 A1 e3 R1 => ?_)
    have lk := ordK_of A1 e3 R1
    obtain ⟨R1a, ⟨fb, fb64, R2a, R2b⟩, ⟨lb, lb64, R3a, R3b⟩, _, _⟩ := R1
    -- the counts
    let c : Nat → Nat := if j = 0 then (ordA t).2.1 else (ordA t).2.2.1
    let b : Nat := if j = 0 then fb else lb
    have hb64 : b < 64 := by
      show (if j = 0 then fb else lb) < 64
      split <;> assumption
    have hbits : ∀ s, s < 6 → (bt b s = 1 ↔ c s ≠ 0) := by
      intro s hs
      show bt (if j = 0 then fb else lb) s = 1 ↔ (if j = 0 then (ordA t).2.1 else (ordA t).2.2.1) s ≠ 0
      by_cases e : j = 0
      · rw [if_pos e, if_pos e]; exact R2b s hs
      · rw [if_neg e, if_neg e]; exact R3b s hs
    have hhi : ∀ s, t 0 0 ≤ s → c s = 0 := by
      intro s hs
      show (if j = 0 then (ordA t).2.1 else (ordA t).2.2.1) s = 0
      by_cases e : j = 0
      · rw [if_pos e]; exact ordA_F0 hs
      · rw [if_neg e]; exact ordA_L0 hs
    have hT : 1 ≤ t 0 0 → (ordA t).1 = sms c (t 0 0) := by
      intro h1
      show _ = sms (if j = 0 then (ordA t).2.1 else (ordA t).2.2.1) (t 0 0)
      by_cases e : j = 0
      · rw [if_pos e]; exact ordA_sumF hg h1
      · rw [if_neg e]; exact ordA_sumL hg h1
    have hcs : ∀ s, s < t 0 0 → c s ≤ 46656 := by
      intro s hs
      show (if j = 0 then (ordA t).2.1 else (ordA t).2.2.1) s ≤ 46656
      by_cases e : j = 0
      · rw [if_pos e, ordA_F hg hs]
        split
        · exact NP_small h6 (by omega)
        · omega
      · rw [if_neg e, ordA_L hg hs]
        split
        · exact NP_small h6 (by omega)
        · omega
    have ej : (nI j = 0) ↔ j = 0 := pn_eqN (j := 0) (by omega) (by decide)
    -- the model's search
    have mm : ∀ r, (∀ s, s < t 0 0 → (ordA t).1 ≠ 0 → c s = (ordA t).1 → (∀ i, i < s → c i ≠ (ordA t).1) → r = nI s) → (((ordA t).1 = 0 ∨ ∀ s, s < t 0 0 → c s ≠ (ordA t).1) → r = -1) → wpX9_sure (nI j) SM (fun r2 S2 => K r S1 r2 S2) := by
      intro r hy hn
      unfold wpX9_sure
      simp only [sn_lt]
      rw [show sn_pI SM 0 0 0 = mT SM from rfl]
      refine m_orders hg hM' (fun S2 A2 T2 => ⟨pn_vp (n := 0) (by decide) (by decide), m_inY 0 1 rfl rfl c1 (bq_n i1 ?_)⟩)
      rw [e32 S2 T2]
      have M2 := RMt_Z hM' A2
      by_cases c0 : (ordA t).1 = 0
      · refine bq_u (by rw [c0]; rfl) ?_
        have := hn (Or.inl c0)
        subst this
        exact hK _ _ _ lk A2
      · refine bq_v (fun e => c0 ((pn_eqN (j := 0) (by omega) (by decide)).mp e)) (m_all hg M2 ?_)
        refine sn_lp1_inv (fun i => ∃ s : Nat, s ≤ t 0 0 ∧ i = nI s ∧ ∀ x, x < s → c x ≠ (ordA t).1) (fun i => 6 - i.toNatClampNeg) ?_ _ ⟨0, Nat.zero_le _, rfl, fun x hx => absurd hx (Nat.not_lt_zero _)⟩
        rintro rc i ⟨s, hs, rfl, hx⟩ hrc
        rw [show S2.1 2 (Int32.toNatClampNeg 0) = nI (t 0 0) from M2.1, pn_leN (by omega) (by omega)]
        refine ⟨v0, ?_⟩
        by_cases hse : s = t 0 0
        · subst hse
          refine bq_t (Nat.le_refl _) ?_
          have := hn (Or.inr hx)
          subst this
          exact hK _ _ _ lk A2
        · have hlt : s < t 0 0 := by omega
          refine bq_f (by omega) ?_
          have hcl := hcs s hlt
          refine sn_jn_by (fun k9 => k9 (nI (c s))) ?_ (fun k9 hk9 => ?_)
          · rw [pn_eqN (by omega) (by omega)]
            by_cases ce : c s = (ordA t).1
            · refine bq_u ce ?_
              have := hy s hlt c0 ce hx
              subst this
              exact hK _ _ _ lk A2
            · refine bq_v ce ?_
              rw [show nI s + 1 = nI (s + 1) from pn_add s 1]
              refine hrc _ ⟨s + 1, by omega, rfl, fun x hx' => ?_⟩ (by rw [pn_nat (by omega), pn_nat (by omega)]; omega)
              by_cases e : x = s
              · rw [e]; exact ce
              · exact hx x (by omega)
          · rw [ej]
            have b0 : bt 0 s = 0 := bt_zero s
            by_cases e : j = 0
            · have ec : c s = if okO t 0 s = true then NP (okO t) (t 0 0) (t 0 0 - 1) (stb 0 s) (2 ^ t 0 0 - 1) else 0 := by
                show (if j = 0 then (ordA t).2.1 else (ordA t).2.2.1) s = _
                rw [if_pos e]
                exact ordA_F hg hlt
              rw [ec] at hk9
              refine bq_u e ?_
              refine m_can (A := 0) hg M2 (by decide) (by omega) (fun ho => bq_f i1 ?_) (fun ho => bq_t rfl ?_)
              · rw [if_pos ho] at hk9
                obtain ⟨s1, s2⟩ := stb_ok (t 0 0) 0 s h6 p0 hlt b0
                have e1 : (1 : Int32) <<< (nI s &&& 31) = nI (stb 0 s) := by
                  have := bits_stb 0 (by decide) s (by omega)
                  rw [← this]
                  show _ = (0 : Int32) ||| _
                  simp
                rw [e1, pn_nat (by omega), T2.2 _ s1, s2, show pc 0 = 0 from rfl, show t 0 0 - (0 + 1) = t 0 0 - 1 by omega]
                exact ⟨pn_vp (by omega) (by decide), hk9⟩
              · rw [if_neg (by rw [ho]; decide)] at hk9
                exact hk9
            · have ec : c s = if okO t (clr (2 ^ t 0 0 - 1) s) s = true then NP (okO t) (t 0 0) (t 0 0 - 1) 0 (clr (2 ^ t 0 0 - 1) s) else 0 := by
                show (if j = 0 then (ordA t).2.1 else (ordA t).2.2.1) s = _
                rw [if_neg e]
                exact ordA_L hg hlt
              rw [ec] at hk9
              refine bq_v e ?_
              have l64 : 2 ^ t 0 0 - 1 < 64 := by omega
              obtain ⟨p1, p2⟩ := clr_pc (2 ^ t 0 0 - 1) s l64 (by omega) (bt_all _ _ h6 hlt)
              have hpa : ∀ n, n ≤ 6 → pc (2 ^ n - 1) = n := by decide +kernel
              rw [hpa _ h6] at p2
              rw [bits_clr _ l64 _ (by omega)]
              refine m_can hg M2 (by omega) (by omega) (fun ho => bq_f i1 ?_) (fun ho => bq_t rfl ?_)
              · rw [if_pos ho] at hk9
                rw [pn_nat (n := clr (2 ^ t 0 0 - 1) s) (by omega), T2.1 _ (by omega), show pc (clr (2 ^ t 0 0 - 1) s) = t 0 0 - 1 by omega]
                exact ⟨pn_vp (by omega) (by decide), hk9⟩
              · rw [if_neg (by rw [ho]; decide)] at hk9
                exact hk9
    have mm' : ∀ r, (∀ s, s < t 0 0 → (ordA t).1 ≠ 0 → c s = (ordA t).1 → (∀ i, i < s → c i ≠ (ordA t).1) → r = nI s) → (((ordA t).1 = 0 ∨ ∀ s, s < t 0 0 → c s ≠ (ordA t).1) → r = -1) → _ := fun r h1 h2 => by
      have := mm r h1 h2
      unfold wpX9_sure at this
      simp only [sn_lt] at this
      rw [show sn_pI SM 0 0 0 = mT SM from rfl] at this
      exact this
    refine sn_jn_by (fun k13 => k13 (nI b)) ?_ (fun k13 hk13 => ?_)
    · refine x_ones hb64 ?_
      have hpc := pc_lt b
      rw [show (nI (pc b) = 1) ↔ pc b = 1 from pn_eqN (j := 1) (by omega) (by decide)]
      -- all 0, if there is no row
      have z0' : (ordA t).1 = 0 → b = 0 ∨ t 0 0 = 0 := by
        intro h0
        rcases Nat.eq_zero_or_pos (t 0 0) with h | h
        · exact Or.inr h
        · refine Or.inl (bits_ext' hb64 (by decide) (fun s hs => ?_))
          rw [bt_zero]
          have hbt := bt_lt b s
          have : ¬ bt b s = 1 := fun e => (hbits s hs).mp e (by
            rcases Nat.lt_or_ge s (t 0 0) with h2 | h2
            · have h3 := sms_pos (f := c) (t 0 0) h2
              have h4 := hT h
              omega
            · exact hhi s h2)
          omega
      have n0 : t 0 0 = 0 → b = 0 := by
        intro h
        refine bits_ext' hb64 (by decide) (fun s hs => ?_)
        rw [bt_zero]
        have hbt := bt_lt b s
        have : ¬ bt b s = 1 := fun e => (hbits s hs).mp e (hhi s (by omega))
        omega
      by_cases cp : pc b = 1
      · refine bq_u cp ?_
        have hb0 : b ≠ 0 := fun e => by rw [e] at cp; exact absurd cp (by decide)
        have hn1 : 1 ≤ t 0 0 := by
          rcases Nat.eq_zero_or_pos (t 0 0) with h | h
          · exact absurd (n0 h) hb0
          · exact h
        have hT0 : (ordA t).1 ≠ 0 := by
          intro h
          rcases z0' h with h2 | h2
          · exact hb0 h2
          · omega
        obtain ⟨q1, q2⟩ := sure_bits h6 hb64 hbits hhi hT hT0
        obtain ⟨s, hs, hcT⟩ := q2 cp hn1
        have eb := q1 s hs hcT
        rw [eb]
        refine ntz_ok s (by omega) ?_
        refine mm' _ (fun s2 hs2 _ hc2 _ => ?_) (fun hh => ?_)
        · have := q1 s2 hs2 hc2
          rw [eb] at this
          have pin : ∀ a, a < 6 → ∀ b, b < 6 → 2 ^ a = 2 ^ b → a = b := by decide
          have inj : s = s2 := pin s (by omega) s2 (by omega) this
          rw [inj]
        · rcases hh with hh | hh
          · exact absurd hh hT0
          · exact absurd hcT (hh s hs)
      · refine bq_v cp (mm' _ (fun s hs hT0 hcT _ => ?_) (fun _ => rfl))
        exfalso
        obtain ⟨q1, q2⟩ := sure_bits h6 hb64 hbits hhi hT hT0
        have eb := q1 s hs hcT
        have p2 : ∀ s, s < 6 → pc (2 ^ s) = 1 := by decide
        exact cp (by rw [eb]; exact p2 s (by omega))
    · rw [ej, R2a, R3a]
      by_cases e : j = 0
      · have : b = fb := if_pos e
        rw [this] at hk13
        exact bq_u e hk13
      · have : b = lb := if_neg e
        rw [this] at hk13
        exact bq_v e hk13
  · refine x_inN c1 (bq_u rfl (m_orders hg hM' (fun S2 A2 T2 => ⟨pn_vp (n := 0) (by decide) (by decide), m_inN 0 1 rfl rfl c1 (bq_z rfl (hK _ _ _ ⟨agOr_refl _, hC, Or.inl rfl⟩ A2))⟩)))
/-- ahead(one, other) -/
theorem o_ahead {w : sn_W} {SX SM : sn_S} {t : gT} (hg : tG t) (hX : RXt SX t) (hM : RMt SM t) (hC : CO SX t) (a b : Int32) {K : Int32 → sn_S → Int32 → sn_S → Prop} (hK : ∀ r S1 S2, ordK SX S1 t → agZ (mT SM) S2 → K r S1 r S2) : wpX0_ahead w a b SX (fun r S1 => wpX9_ahead a b SM (fun r2 S2 => K r S1 r2 S2)) := by
  have hM' := RMt_mT hM
  have h6 := hg.1
  have t2 := two_le h6
  unfold wpX0_ahead wpX9_ahead
  simp only [sn_lt]
  rw [show sn_pI SM 0 0 0 = mT SM from rfl]
  have same : ∀ r, K r SX r (mT SM) := fun r => hK r SX (mT SM) ⟨agOr_refl _, hC, Or.inl rfl⟩ (agZ_refl _)
  by_cases c1 : ∃ s : Nat, s < t 0 0 ∧ a = nI s
  · obtain ⟨x, hx, rfl⟩ := c1
    refine x_snailY hX.1 h6 hx (bq_n i1 ?_)
    by_cases c2 : ∃ s : Nat, s < t 0 0 ∧ b = nI s
    · obtain ⟨y, hy, rfl⟩ := c2
      refine x_snailY hX.1 h6 hy (bq_n i1 ?_)
      rw [pn_eqN (by omega) (by omega)]
      by_cases c3 : x = y
      · exact bq_u c3 (m_snailY hM'.1 h6 hx (bq_n i1 (m_snailY hM'.1 h6 hy (bq_n i1 (bq_u c3 (same _))))))
      · refine bq_v c3 (x_looksO hg hX hC (fun S1 A1 e3 R1 => ?_))
        have lk := ordK_of A1 e3 R1
        rw [show (6 : Int32) * nI x = nI (6 * x) from pn_mul 6 x, pn_add, pn_nat (n := 6 * x + y) (by omega), R1.2.2.2.1 x y hx hy, ordA_A hg hx hy c3]
        refine ⟨pn_vp (by omega) (by decide), m_snailY hM'.1 h6 hx (bq_n i1 (m_snailY hM'.1 h6 hy (bq_n i1 (bq_v c3 (m_all hg hM' ?_)))))⟩
        have hf2 : ∀ A s, fab (okO t) x y A s = true → bt A s = 0 := by
          intro A s h
          unfold fab at h
          simp only [Bool.and_eq_true] at h
          exact okO_bt _ _ h.1
        refine sn_lp2_inv (fun i S' => ∃ B : Nat, B ≤ 2 ^ t 0 0 ∧ i = nI B ∧ agZ (mT SM) S' ∧ (∀ B', B' < B → S'.1 33 B' = nI (NP (fab (okO t) x y) (t 0 0) (pc B') 0 B'))) (fun i _ => 64 - i.toNatClampNeg) ?_ _ _ ⟨0, Nat.zero_le _, rfl, agZ_refl _, fun B h => absurd h (Nat.not_lt_zero _)⟩
        rintro rc i S2 ⟨B, hB, rfl, A2, T2⟩ hrc
        rw [pn_ltN (by omega) (by omega)]
        by_cases hBe : B = 2 ^ t 0 0
        · refine bq_t (by omega) ⟨pn_vp (by omega) (by decide), ?_⟩
          have hpa : ∀ n, n ≤ 6 → pc (2 ^ n - 1) = n := by decide +kernel
          rw [pn_nat (n := 2 ^ t 0 0 - 1) (by omega), T2 _ (by omega), hpa _ h6]
          exact hK _ _ _ lk A2
        · refine bq_f (by omega) ?_
          have hBl : B < 2 ^ t 0 0 := by omega
          have v64 : vp_in (nI B) 64 := pn_vp (by omega) (by decide)
          refine sn_jn_by (fun k23 => k23 (nI (if B = 0 then 1 else 0))) ⟨v64, ?_⟩ (fun k23 hk23 => ?_)
          · rw [pn_nat (n := B) (by omega)]
            refine sn_jn_by (fun k26 => ∀ S', agZ (mT SM) S' → (∀ B', B' < B + 1 → S'.1 33 B' = nI (NP (fab (okO t) x y) (t 0 0) (pc B') 0 B')) → k26 S') (fun S3 A3 T3 => ?_) (fun k26 hk26 => ?_)
            · rw [show nI B + 1 = nI (B + 1) from pn_add B 1]
              exact hrc _ _ ⟨B + 1, by omega, rfl, A3, T3⟩ (by rw [pn_nat (by omega), pn_nat (by omega)]; omega)
            · refine sn_lp2_inv (fun i S' => ∃ m : Nat, m ≤ t 0 0 ∧ i = nI m ∧ agZ (mT SM) S' ∧ (∀ B', B' < B → S'.1 33 B' = nI (NP (fab (okO t) x y) (t 0 0) (pc B') 0 B')) ∧ S'.1 33 B = nI ((if B = 0 then 1 else 0) + sms (fwd (fab (okO t) x y) (t 0 0) B) m)) (fun i _ => 6 - i.toNatClampNeg) ?_ _ _ ⟨0, Nat.zero_le _, rfl, agZ_I A2 ⟨by decide, by decide⟩ _ _, fun B' h => by rw [sI_get, if_neg (by omega)]; exact T2 B' h, by rw [sI_get, if_pos ⟨rfl, rfl⟩]; rfl⟩
              rintro rc2 i S3 ⟨m, hm, rfl, A3, T3, e3'⟩ hrc2
              have M3 := RMt_Z hM' A3
              rw [show S3.1 2 (Int32.toNatClampNeg 0) = nI (t 0 0) from M3.1, pn_leN (by omega) (by omega)]
              refine ⟨v0, ?_⟩
              by_cases hme : m = t 0 0
              · subst hme
                refine bq_t (Nat.le_refl _) (hk26 S3 A3 (fun B' hB' => ?_))
                by_cases e : B' = B
                · rw [e, e3', fwd_sum h6 hf2 (by omega)]
                · exact T3 B' (by omega)
              · have hlt : m < t 0 0 := by omega
                refine bq_f (by omega) ?_
                have go : ∀ v : Int32, v = nI (fwd (fab (okO t) x y) (t 0 0) B m) → rc2 (nI m + 1) (sn_pI S3 33 B (S3.1 33 B + v)) := by
                  intro v hv
                  rw [show nI m + 1 = nI (m + 1) from pn_add m 1]
                  refine hrc2 _ _ ⟨m + 1, by omega, rfl, agZ_I A3 ⟨by decide, by decide⟩ _ _, fun B' h => by rw [sI_get, if_neg (by omega)]; exact T3 B' h, ?_⟩ (by rw [pn_nat (by omega), pn_nat (by omega)]; omega)
                  rw [sI_get, if_pos ⟨rfl, rfl⟩, e3', hv, pn_add, Nat.add_assoc]
                  rfl
                refine m_is (by omega) (by omega) ?_
                have hbt := bt_lt B m
                have hbx := bt_lt B x
                -- whether one may come so
                let P1 : Prop := bt B m = 1 ∧ okO t (clr B m) m = true
                let P2 : Prop := bt B m = 1 ∧ fab (okO t) x y (clr B m) m = true
                have bclr : ∀ B, B < 64 → ∀ s, s < 6 → ∀ x, x < 6 → bt (clr B s) x = if x = s then 0 else bt B x := by decide +kernel
                have p12 : P2 ↔ P1 ∧ (m = y → bt B x = 1) := by
                  show (_ ∧ fab (okO t) x y (clr B m) m = true) ↔ _
                  unfold fab
                  simp only [Bool.and_eq_true, Bool.or_eq_true, bne_iff_ne, beq_iff_eq]
                  constructor
                  · rintro ⟨h1, h2, h3⟩
                    refine ⟨⟨h1, h2⟩, fun e => ?_⟩
                    rcases h3 with h3 | h3
                    · exact absurd e h3
                    · rw [bclr B (by omega) m (by omega) x (by omega)] at h3
                      split at h3
                      · omega
                      · exact h3
                  · rintro ⟨⟨h1, h2⟩, h3⟩
                    refine ⟨h1, h2, ?_⟩
                    by_cases e : m = y
                    · refine Or.inr ?_
                      rw [bclr B (by omega) m (by omega) x (by omega), if_neg (fun h => c3 (by omega))]
                      exact h3 e
                    · exact Or.inl e
                refine sn_jn_by (fun k18 => (P1 → k18 1) ∧ (¬ P1 → k18 0)) ⟨fun p1 => ?_, fun p1 => ?_⟩ (fun k18 hk18 => ?_)
                · -- it may, but for the two
                  refine sn_jn_by (fun k20 => (P2 → k20 1) ∧ (¬ P2 → k20 0)) ⟨fun p2 => ⟨v64, ?_⟩, fun p2 => ⟨v64, ?_⟩⟩ (fun k20 hk20 => ?_)
                  · refine sn_jn_by (fun k22 => k22 (nI (fwd (fab (okO t) x y) (t 0 0) B m))) ⟨v64, go _ rfl⟩ (fun k22 hk22 => bq_f i1 ?_)
                    unfold fwd at hk22
                    obtain ⟨q1, q2⟩ := clr_pc B m (by omega) (by omega) p1.1
                    rw [if_pos p2, show pc B - 1 = pc (clr B m) by omega] at hk22
                    rw [bits_clr _ (by omega) _ (by omega), pn_nat (n := clr B m) (by omega), T3 _ q1]
                    exact ⟨pn_vp (by omega) (by decide), hk22⟩
                  · refine sn_jn_by (fun k22 => k22 (nI (fwd (fab (okO t) x y) (t 0 0) B m))) ⟨v64, go _ rfl⟩ (fun k22 hk22 => bq_t rfl ?_)
                    unfold fwd at hk22
                    rw [if_neg p2] at hk22
                    exact hk22
                  · refine sn_jn_by (fun k24 => ¬ P2 → k24) hk20.2 (fun k24 hk24 => bq_f i1 ?_)
                    refine sn_jn_by (fun k25 => P2 → k25) hk20.1 (fun k25 hk25 => ?_)
                    rw [pn_eqN (by omega) (by omega)]
                    by_cases e : m = y
                    · refine bq_u e (m_is (by omega) (by omega) ?_)
                      by_cases bx : bt B x = 0
                      · exact bq_t (by rw [bx]; rfl) (hk24 (fun h => by have := (p12.mp h).2 e; omega))
                      · exact bq_f (fun h => bx ((pn_eqN (j := 0) (by omega) (by decide)).mp h)) (hk25 (p12.mpr ⟨p1, fun _ => by omega⟩))
                    · exact bq_v e (hk25 (p12.mpr ⟨p1, fun h => absurd h e⟩))
                · have np2 : ¬ P2 := fun h => p1 (p12.mp h).1
                  refine sn_jn_by (fun k20 => k20 0) ⟨v64, ?_⟩ (fun k20 hk20 => sn_jn_by (fun k24 => k24) hk20 (fun k24 hk24 => bq_t rfl hk24))
                  refine sn_jn_by (fun k22 => k22 (nI (fwd (fab (okO t) x y) (t 0 0) B m))) ⟨v64, go _ rfl⟩ (fun k22 hk22 => bq_t rfl ?_)
                  unfold fwd at hk22
                  rw [if_neg np2] at hk22
                  exact hk22
                · refine sn_jn_by (fun k27 => ¬ P1 → k27) hk18.2 (fun k27 hk27 => ?_)
                  by_cases e : bt B m = 0
                  · exact bq_t (by rw [e]; rfl) (hk27 (fun h => by have := h.1; omega))
                  · refine bq_f (fun h => e ((pn_eqN (j := 0) (by omega) (by decide)).mp h)) ?_
                    rw [bits_clr _ (by omega) _ (by omega)]
                    have q1 := (clr_pc B m (by omega) (by omega) (by omega)).1
                    exact m_can hg M3 (by omega) (by omega) (fun ho => bq_f i1 (hk18.1 ⟨by omega, ho⟩)) (fun ho => bq_t rfl (hk27 (fun h => by have h2 := h.2; rw [ho] at h2; exact absurd h2 (by decide))))
          · rw [show (nI B = 0) ↔ B = 0 from pn_eqN (j := 0) (by omega) (by decide)]
            by_cases e : B = 0
            · rw [if_pos e] at hk23
              exact bq_u e hk23
            · rw [if_neg e] at hk23
              exact bq_v e hk23
    · exact x_snailN hX.1 h6 c2 (bq_z rfl (m_snailY hM'.1 h6 hx (bq_n i1 (m_snailN hM'.1 h6 c2 (bq_z rfl (same _))))))
  · exact x_snailN hX.1 h6 c1 (bq_z rfl (m_snailN hM'.1 h6 c1 (bq_z rfl (same _))))
