/-! THE PLAIN LAW, thirtieth part: isRead, both sides; read, safe, keys -/
set_option maxRecDepth 100000
theorem xor_I : ∀ a b, a < 64 → b < 64 → nI a ^^^ nI b = nI (a ^^^ b) := by
  have : ∀ a, a < 64 → ∀ b, b < 64 → nI a ^^^ nI b = nI (a ^^^ b) := by decide +kernel
  exact fun a b h1 => this a h1 b
theorem m1_next (c : Nat) (h : c ≠ 0) : nI c - nI 1 + (-1) = nI (c - 1) - nI 1 := by
  rw [sp_s h, Int32.sub_eq_add_neg]
  rfl
theorem lt_m0 : ∀ c, c < 70 → (nI c - nI 1 < 0 ↔ c = 0) := by decide +kernel
theorem m1_meas {c : Nat} (hc : c < 1000) (h : c ≠ 0) : (nI (c - 1) - nI 1 + 1).toNatClampNeg < (nI c - nI 1 + 1).toNatClampNeg := by
  rw [sp_next, sp_next, pn_sub (by omega), pn_sub (by omega), pn_nat (by omega), pn_nat (by omega)]
  omega
/-- a row of six -/
def R6 (S : sn_S) (k : Nat) (K : Nat → Nat) : Prop := ∀ i, i < 6 → S.1 k i = nI (K i)
def agOne (r : Nat) (S S' : sn_S) : Prop := (∀ k, k ≠ r → S'.1 k = S.1 k) ∧ S'.2 = S.2
theorem agOne_refl (r : Nat) (S : sn_S) : agOne r S S := ⟨fun _ _ => rfl, rfl⟩
theorem agOne_trans {r : Nat} {S1 S2 S3 : sn_S} (h : agOne r S1 S2) (k : agOne r S2 S3) : agOne r S1 S3 := ⟨fun i h1 => (k.1 i h1).trans (h.1 i h1), k.2.trans h.2⟩
theorem agOne_I {r : Nat} {S S' : sn_S} (h : agOne r S S') (i : Nat) (v : Int32) : agOne r S (sn_pI S' r i v) := ⟨fun j h1 => by rw [sI_row _ _ _ h1]; exact h.1 j h1, h.2⟩
theorem RXt_One {S S' : sn_S} {t : gT} {r : Nat} (hr : 10 ≤ r) (h : RXt S t) (a : agOne r S S') : RXt S' t := by
  unfold RXt at h ⊢
  rw [a.1 2 (by omega), a.1 3 (by omega), a.1 4 (by omega), a.1 5 (by omega), a.1 6 (by omega), a.1 7 (by omega), a.1 8 (by omega), a.1 9 (by omega)]
  exact h
theorem RMt_One {S S' : sn_S} {t : gT} {r : Nat} (hr : 10 ≤ r) (h : RMt S t) (a : agOne r S S') : RMt S' t := by
  unfold RMt at h ⊢
  rw [a.1 2 (by omega)]
  exact h
theorem x_left {w : sn_W} {S : sn_S} {K : Nat → Nat} (hT : TK K) (hK : R6 S 91 K) {v : Nat} (hv : v < 64) {Q : Int32 → Prop} (h : Q (nI (red K 6 v))) : wpX6_left w (nI v) S Q := by
  unfold wpX6_left
  refine sn_lp2_inv (fun x i => ∃ (c u : Nat), c ≤ 6 ∧ u < 64 ∧ i = nI c - nI 1 ∧ x = nI u ∧ red K c u = red K 6 v) (fun _ i => (i + 1).toNatClampNeg) ?_ _ _ ⟨6, v, Nat.le_refl _, hv, rfl, rfl, rfl⟩
  rintro rc x i ⟨c, u, hc, hu, rfl, rfl, he⟩ hrc
  rw [lt_m0 c (by omega)]
  by_cases c0 : c = 0
  · subst c0
    refine bq_t rfl ?_
    rw [show u = red K 6 v from he]
    exact h
  · refine bq_f c0 ?_
    have hT1 := hT (c - 1) (by omega)
    rw [m1_next c c0]
    have go : ∀ u', u' < 64 → red K (c - 1) u' = red K 6 v → rc (nI u') (nI (c - 1) - nI 1) := fun u' h1 h2 => hrc _ _ ⟨c - 1, u', by omega, h1, rfl, rfl, h2⟩ (m1_meas (by omega) c0)
    have he' : red K (c - 1) (if bt u (c - 1) = 1 then u ^^^ K (c - 1) else u) = red K 6 v := by
      rw [← he]
      conv => rhs; rw [show c = (c - 1) + 1 by omega]
      rfl
    rw [sp_s c0, pn_nat (n := c - 1) (by omega), hK _ (by omega)]
    refine x_isOf hu (by omega) ?_
    have hbt := bt_lt u (c - 1)
    have v6 : vp_in (nI (c - 1)) 6 := pn_vp (by omega) (by decide)
    refine sn_jn_by (fun k15 => k15 (nI (if bt u (c - 1) = 1 then u ^^^ K (c - 1) else u))) (by exact go _ (by split; exact xor_64 hu hT1.1; exact hu) he') (fun k15 hk15 => ?_)
    by_cases c1 : bt u (c - 1) = 0
    · rw [if_neg (by omega)] at hk15
      exact bq_t (by rw [c1]; rfl) hk15
    · rw [if_pos (by omega)] at hk15
      refine bq_f (fun e => c1 ((pn_eqN (j := 0) (by omega) (by decide)).mp e)) ⟨v6, ?_⟩
      rw [show (nI (K (c - 1)) = 0) ↔ K (c - 1) = 0 from pn_eqN (j := 0) (by omega) (by decide)]
      by_cases c2 : K (c - 1) = 0
      · rw [c2, Nat.xor_zero] at hk15
        exact bq_t c2 hk15
      · refine bq_f c2 ⟨v6, ?_⟩
        rw [xor_I _ _ hu hT1.1]
        exact hk15
theorem nlz_ok {w : sn_W} {v : Nat} (hv : v < 64) (h0 : v ≠ 0) {Q : Int32 → Prop} (h : Q (nI (31 - top v))) : wpJ12_numberOfLeadingZeros w (nI v) Q := by
  unfold wpJ12_numberOfLeadingZeros
  simp only [sn_lt, sn_jn]
  have l0 : (0 : Int32) < nI v := (pn_ltN (i := 0) (by decide) (by omega)).mpr (by omega)
  have l1 : nI v < 65536 := (pn_ltN (j := 65536) (by omega) (by decide)).mpr (by omega)
  have l2 : nI v < 256 := (pn_ltN (j := 256) (by omega) (by decide)).mpr (by omega)
  have f1 : ∀ v, v < 4 → v ≠ 0 → nI (31 - top v) = 31 - (UInt32.toInt32 (Int32.toUInt32 (nI v) >>> (Int32.toUInt32 1 &&& Int32.toUInt32 31))) := by decide +kernel
  have f2 : ∀ v, v < 16 → ¬ v < 4 → nI (31 - top v) = (31 + (-2)) - (UInt32.toInt32 (Int32.toUInt32 (UInt32.toInt32 (Int32.toUInt32 (nI v) >>> (Int32.toUInt32 2 &&& Int32.toUInt32 31))) >>> (Int32.toUInt32 1 &&& Int32.toUInt32 31))) := by decide +kernel
  have f3 : ∀ v, v < 64 → ¬ v < 16 → UInt32.toInt32 (Int32.toUInt32 (nI v) >>> (Int32.toUInt32 4 &&& Int32.toUInt32 31)) < 4 ∧ nI (31 - top v) = (31 + (-4)) - (UInt32.toInt32 (Int32.toUInt32 (UInt32.toInt32 (Int32.toUInt32 (nI v) >>> (Int32.toUInt32 4 &&& Int32.toUInt32 31))) >>> (Int32.toUInt32 1 &&& Int32.toUInt32 31))) := by decide +kernel
  refine bq_t l0 (bq_t l1 (bq_t l2 ?_))
  by_cases c1 : v < 16
  · refine bq_t ((pn_ltN (j := 16) (by omega) (by decide)).mpr c1) ?_
    by_cases c2 : v < 4
    · exact bq_t ((pn_ltN (j := 4) (by omega) (by decide)).mpr c2) (Eq.mp (congrArg Q (f1 v c2 h0)) h)
    · exact bq_f (fun e => c2 ((pn_ltN (j := 4) (by omega) (by decide)).mp e)) (Eq.mp (congrArg Q (f2 v c1 c2)) h)
  · obtain ⟨g1, g2⟩ := f3 v hv c1
    exact bq_f (fun e => c1 ((pn_ltN (j := 16) (by omega) (by decide)).mp e)) (bq_t g1 (Eq.mp (congrArg Q g2) h))
theorem x_adds {w : sn_W} {S : sn_S} {K : Nat → Nat} (hT : TK K) (hK : R6 S 91 K) {m : Nat} (hm : m < 64) {Q : sn_S → Prop} (h : ∀ S', agOne 91 S S' → R6 S' 91 (addX K m) → Q S') : wpX6_adds w (nI m) S Q := by
  unfold wpX6_adds
  refine x_left hT hK hm ?_
  have hw := red_lt hT 6 m (Nat.le_refl _) hm
  rw [show (nI (red K 6 m) = 0) ↔ red K 6 m = 0 from pn_eqN (j := 0) (by omega) (by decide)]
  unfold addX at h
  by_cases c : red K 6 m = 0
  · rw [if_pos c] at h
    exact bq_t c (h S (agOne_refl _ _) hK)
  · rw [if_neg c] at h
    obtain ⟨t1, _, _⟩ := top_ok _ hw c
    refine bq_f c (nlz_ok hw c ?_)
    rw [show (31 : Int32) - nI (31 - top (red K 6 m)) = nI (top (red K 6 m)) by rw [show (31 : Int32) = nI 31 from rfl, pn_sub (by omega)]; congr 1; omega, pn_nat (n := top (red K 6 m)) (by omega)]
    refine ⟨pn_vp (by omega) (by decide), ?_⟩
    simp only [sn_lt]
    refine h _ (agOne_I (agOne_refl _ _) _ _) (fun i hi => ?_)
    rw [sI_get]
    unfold upN
    by_cases e : i = top (red K 6 m)
    · rw [if_pos ⟨rfl, e⟩, if_pos e]
    · rw [if_neg (fun hh => e hh.2), if_neg e]
      exact hK i hi
theorem x_tells {w : sn_W} {S : sn_S} {K : Nat → Nat} (hT : TK K) (hK : R6 S 91 K) {n : Nat} (hn : n ≤ 6) {Q : Int32 → Prop} (h : Q (nI (if tl K n = true then 1 else 0))) : wpX6_tells w (nI n) S Q := by
  unfold wpX6_tells
  have sh : ∀ s, s < 6 → (1 : Int32) <<< (nI s &&& 31) = nI (2 ^ s) ∧ 2 ^ s < 64 := by decide
  refine sn_lp1_inv (fun i => ∃ k : Nat, k ≤ n ∧ i = nI k ∧ tl K k = true) (fun i => 6 - i.toNatClampNeg) ?_ _ ⟨0, Nat.zero_le _, rfl, rfl⟩
  rintro rc i ⟨k, hk, rfl, ht⟩ hrc
  rw [pn_leN (by omega) (by omega)]
  by_cases hke : k = n
  · subst hke
    rw [if_pos ht] at h
    exact bq_t (Nat.le_refl _) h
  · refine bq_f (by omega) ?_
    obtain ⟨s1, s2⟩ := sh k (by omega)
    rw [s1]
    refine x_left hT hK s2 ?_
    have hw := red_lt hT 6 (2 ^ k) (Nat.le_refl _) s2
    rw [show (nI (red K 6 (2 ^ k)) = 0) ↔ red K 6 (2 ^ k) = 0 from pn_eqN (j := 0) (by omega) (by decide)]
    have hu : tl K (k + 1) = (tl K k && (red K 6 (2 ^ k) == 0)) := rfl
    by_cases c : red K 6 (2 ^ k) = 0
    · refine bq_t c ?_
      rw [show nI k + 1 = nI (k + 1) from pn_add k 1]
      refine hrc _ ⟨k + 1, by omega, rfl, ?_⟩ (by rw [pn_nat (by omega), pn_nat (by omega)]; omega)
      rw [hu, ht, c]
      rfl
    · refine bq_f c ?_
      have f0 : ∀ m, tl K (k + 1 + m) = false := by
        intro m
        induction m with
        | zero =>
          show tl K (k + 1) = false
          rw [hu]
          simp [c]
        | succ m ih =>
          show (tl K (k + 1 + m) && _) = false
          rw [ih]
          rfl
      have := f0 (n - (k + 1))
      rw [show k + 1 + (n - (k + 1)) = n by omega] at this
      rw [if_neg (by rw [this]; decide)] at h
      exact h
theorem fmask {t : gT} (hg : tG t) {s : Nat} (hs : s < t 0 0) : t 4 (6 * s + 5) < 64 := by
  have := (hg.2.2.2.2.2.1 s hs).2.2.2.2.2.2.2
  omega
theorem x_isRead {w : sn_W} {S : sn_S} {t : gT} (hg : tG t) (hX : RXt S t) {set : Nat} (hset : set < 64) {Q : Int32 → sn_S → Prop} (h : ∀ S', agOne 91 S S' → Q (nI (if rd t set = true then 1 else 0)) S') : wpX0_isRead w (nI set) S Q := by
  unfold wpX0_isRead wpX6_clears
  have h6 := hg.1
  have h7 := hg.2.2.2.2.2.2.2.2.1
  refine sn_lp2_inv (fun i S' => ∃ n : Nat, n ≤ 6 ∧ i = nI n ∧ agOne 91 S S' ∧ ∀ j, j < n → S'.1 91 j = 0) (fun i _ => 6 - i.toNatClampNeg) ?_ _ _ ⟨0, Nat.zero_le _, rfl, agOne_refl _ _, fun j hj => absurd hj (Nat.not_lt_zero _)⟩
  rintro rc i S1 ⟨n, hn, rfl, A1, z1⟩ hrc
  rw [show (6 : Int32) = nI 6 from rfl, pn_leN (by omega) (by omega)]
  by_cases hne : n = 6
  · subst hne
    refine bq_t (Nat.le_refl _) ?_
    refine sn_jn_by (fun k12 => ∀ S', agOne 91 S S' → R6 S' 91 (kX (fun s => t 4 (6 * s + 5)) set (t 0 0)) → k12 S') (fun S2 A2 R2 => ?_) (fun k12 hk12 => ?_)
    · refine ⟨pn_vp (n := 0) (by decide) (by decide), ?_⟩
      have X2 := RXt_One (by decide) hX A2
      rw [show S2.1 7 (Int32.toNatClampNeg 0) = nI (t 7 0) from X2.2.2.2.2.2.2.2.2.1 0 (by decide)]
      refine x_tells (kX_ok _ (fun i hi => fmask hg hi)) R2 (by omega) ⟨?_, h S2 A2⟩
      split <;> rfl
    · refine sn_lp2_inv (fun i S' => ∃ n : Nat, n ≤ t 0 0 ∧ i = nI n ∧ agOne 91 S S' ∧ R6 S' 91 (kX (fun s => t 4 (6 * s + 5)) set n)) (fun i _ => 6 - i.toNatClampNeg) ?_ _ _ ⟨0, Nat.zero_le _, rfl, A1, fun i hi => z1 i hi⟩
      rintro rc2 i S2 ⟨n, hn', rfl, A2, R2⟩ hrc2
      have X2 := RXt_One (by decide) hX A2
      rw [X2.1, pn_leN (by omega) (by omega)]
      by_cases hne' : n = t 0 0
      · subst hne'
        exact bq_t (Nat.le_refl _) (hk12 S2 A2 R2)
      · have hlt : n < t 0 0 := by omega
        refine bq_f (by omega) (x_isOf hset (by omega) ?_)
        have hbt := bt_lt set n
        refine sn_jn_by (fun k19 => ∀ S', agOne 91 S S' → R6 S' 91 (kX (fun s => t 4 (6 * s + 5)) set (n + 1)) → k19 S') (fun S3 A3 R3 => ?_) (fun k19 hk19 => ?_)
        · rw [show nI n + 1 = nI (n + 1) from pn_add n 1]
          exact hrc2 _ _ ⟨n + 1, by omega, rfl, A3, R3⟩ (by rw [pn_nat (by omega), pn_nat (by omega)]; omega)
        · have hu : kX (fun s => t 4 (6 * s + 5)) set (n + 1) = if bt set n = 1 then addX (kX (fun s => t 4 (6 * s + 5)) set n) (t 4 (6 * n + 5)) else kX (fun s => t 4 (6 * s + 5)) set n := rfl
          rw [hu] at hk19
          by_cases c : bt set n = 0
          · rw [if_neg (by omega)] at hk19
            exact bq_t (by rw [c]; rfl) (hk19 S2 A2 R2)
          · rw [if_pos (by omega)] at hk19
            refine bq_f (fun e => c ((pn_eqN (j := 0) (by omega) (by decide)).mp e)) (x_of0 (s := n) (f := 5) X2 (by omega) ?_)
            exact x_adds (kX_ok _ (fun i hi => fmask hg (by omega))) R2 (fmask hg hlt) (fun S3 A3 R3 => hk19 S3 (agOne_trans A2 A3) R3)
  · refine bq_f (by omega) ⟨pn_vp (by omega) (by decide), ?_⟩
    simp only [sn_lt]
    rw [pn_nat (n := n) (by omega), show nI n + 1 = nI (n + 1) from pn_add n 1]
    refine hrc _ _ ⟨n + 1, by omega, rfl, agOne_I A1 _ _, fun j hj => ?_⟩ (by rw [pn_nat (by omega), pn_nat (by omega)]; omega)
    rw [sI_get]
    by_cases e : j = n
    · rw [if_pos ⟨rfl, e⟩]
    · rw [if_neg (fun hh => e hh.2)]
      exact z1 j (by omega)
/-! the model's -/
theorem m_known {S : sn_S} {K : Nat → Nat} (hT : TK K) (hK : R6 S 29 K) {v : Nat} (hv : v < 64) {Q : Int32 → Prop} (h : Q (nI (if red K 6 v = 0 then 1 else 0))) : wpX9_isKnown (nI v) S Q := by
  unfold wpX9_isKnown
  have hw := red_lt hT 6 v (Nat.le_refl _) hv
  refine sn_jn_by (fun k2 => k2 (nI (red K 6 v))) ?_ (fun k2 hk2 => ?_)
  · rw [show (nI (red K 6 v) = 0) ↔ red K 6 v = 0 from pn_eqN (j := 0) (by omega) (by decide)]
    by_cases c : red K 6 v = 0
    · rw [if_pos c] at h
      exact bq_u c h
    · rw [if_neg c] at h
      exact bq_v c h
  · refine sn_lp2_inv (fun x i => ∃ (c u : Nat), c ≤ 6 ∧ u < 64 ∧ i = nI c - nI 1 ∧ x = nI u ∧ red K c u = red K 6 v) (fun _ i => (i + 1).toNatClampNeg) ?_ _ _ ⟨6, v, Nat.le_refl _, hv, rfl, rfl, rfl⟩
    rintro rc x i ⟨c, u, hc, hu, rfl, rfl, he⟩ hrc
    rw [lt_m0 c (by omega)]
    by_cases c0 : c = 0
    · subst c0
      refine bq_t rfl ?_
      rw [show u = red K 6 v from he]
      exact hk2
    · refine bq_f c0 ?_
      have hT1 := hT (c - 1) (by omega)
      rw [m1_next c c0]
      have go : ∀ u', u' < 64 → red K (c - 1) u' = red K 6 v → rc (nI u') (nI (c - 1) - nI 1) := fun u' h1 h2 => hrc _ _ ⟨c - 1, u', by omega, h1, rfl, rfl, h2⟩ (m1_meas (by omega) c0)
      have he' : red K (c - 1) (if bt u (c - 1) = 1 then u ^^^ K (c - 1) else u) = red K 6 v := by
        rw [← he]
        conv => rhs; rw [show c = (c - 1) + 1 by omega]
        rfl
      rw [sp_s c0, pn_nat (n := c - 1) (by omega), hK _ (by omega)]
      refine m_is hu (by omega) ?_
      have hbt := bt_lt u (c - 1)
      have v6 : vp_in (nI (c - 1)) 6 := pn_vp (by omega) (by decide)
      refine sn_jn_by (fun k8 => k8 (nI (if bt u (c - 1) = 1 then K (c - 1) else 0))) ?_ (fun k8 hk8 => ?_)
      · simp only [sn_lt]
        rw [xor_I _ _ hu (by split; exact hT1.1; decide)]
        have e : (u ^^^ if bt u (c - 1) = 1 then K (c - 1) else 0) = if bt u (c - 1) = 1 then u ^^^ K (c - 1) else u := by
          by_cases cc : bt u (c - 1) = 1
          · rw [if_pos cc, if_pos cc]
          · rw [if_neg cc, if_neg cc, Nat.xor_zero]
        rw [e]
        exact go _ (by split; exact xor_64 hu hT1.1; exact hu) he'
      · by_cases c1 : bt u (c - 1) = 0
        · rw [if_neg (by omega)] at hk8
          exact bq_t (by rw [c1]; rfl) hk8
        · rw [if_pos (by omega)] at hk8
          exact bq_f (fun e => c1 ((pn_eqN (j := 0) (by omega) (by decide)).mp e)) ⟨v6, hk8⟩
theorem m_put1 {S : sn_S} {K : Nat → Nat} (hT : TK K) (hK : R6 S 29 K) {m : Nat} (hm : m < 64) {Q : sn_S → Prop} (h : ∀ S', agOne 29 S S' → R6 S' 29 (addM K 6 m) → Q S') : wpX9_put1 (nI m) S Q := by
  unfold wpX9_put1
  -- what is still to be done: c places, u left; or all done, u is 0
  refine sn_lp3_inv (fun x i S' => ∃ (c u : Nat), c ≤ 6 ∧ u < 64 ∧ i = nI c - nI 1 ∧ x = nI u ∧ agOne 29 S S' ∧ ((R6 S' 29 K ∧ addM K c u = addM K 6 m) ∨ (u = 0 ∧ R6 S' 29 (addM K 6 m)))) (fun _ i _ => (i + 1).toNatClampNeg) ?_ _ _ _ ⟨6, m, Nat.le_refl _, hm, rfl, rfl, agOne_refl _ _, Or.inl ⟨hK, rfl⟩⟩
  rintro rc x i S1 ⟨c, u, hc, hu, rfl, rfl, A1, hI⟩ hrc
  rw [lt_m0 c (by omega)]
  by_cases c0 : c = 0
  · subst c0
    refine bq_t rfl ?_
    rcases hI with ⟨hR, he⟩ | ⟨_, hR⟩
    · exact h S1 A1 (by rw [← he]; exact hR)
    · exact h S1 A1 hR
  · refine bq_f c0 ?_
    have hT1 := hT (c - 1) (by omega)
    rw [m1_next c c0]
    have v6 : vp_in (nI (c - 1)) 6 := pn_vp (by omega) (by decide)
    have go : ∀ u' S2, u' < 64 → agOne 29 S S2 → ((R6 S2 29 K ∧ addM K (c - 1) u' = addM K 6 m) ∨ (u' = 0 ∧ R6 S2 29 (addM K 6 m))) → rc (nI u') (nI (c - 1) - nI 1) S2 := fun u' S2 h1 h2 h3 => hrc _ _ _ ⟨c - 1, u', by omega, h1, rfl, rfl, h2, h3⟩ (m1_meas (by omega) c0)
    rw [← sp_s c0] at v6
    have ebt : wpX9_is (nI u) (nI c - nI 1) = wpX9_is (nI u) (nI (c - 1)) := by rw [sp_s c0]
    rw [ebt]
    refine m_is hu (by omega) ?_
    refine sn_jn_by (fun k8 => ∀ u' S2, u' < 64 → agOne 29 S S2 → ((R6 S2 29 K ∧ addM K (c - 1) u' = addM K 6 m) ∨ (u' = 0 ∧ R6 S2 29 (addM K 6 m))) → k8 (nI u') S2) go (fun k8 hk8 => ?_)
    have hbt := bt_lt u (c - 1)
    have hae : addM K c u = if bt u (c - 1) = 1 then (if K (c - 1) = 0 then upN K (c - 1) u else addM K (c - 1) (u ^^^ K (c - 1))) else addM K (c - 1) u := by
      conv => lhs; rw [show c = (c - 1) + 1 by omega]
      rfl
    rw [hae] at hI
    by_cases c1 : bt u (c - 1) = 0
    · refine bq_t (by rw [c1]; rfl) (hk8 u S1 hu A1 ?_)
      rcases hI with ⟨hR, he⟩ | hI
      · rw [if_neg (by omega)] at he
        exact Or.inl ⟨hR, he⟩
      · exact Or.inr hI
    · refine bq_f (fun e => c1 ((pn_eqN (j := 0) (by omega) (by decide)).mp e)) ⟨v6, ?_⟩
      rcases hI with ⟨hR, he⟩ | ⟨hu0, _⟩
      · rw [if_pos (by omega)] at he
        rw [sp_s c0, pn_nat (n := c - 1) (by omega), hR _ (by omega)]
        rw [sp_s c0] at v6
        have ek : (nI (K (c - 1)) = 0) ↔ K (c - 1) = 0 := pn_eqN (j := 0) (by omega) (by decide)
        by_cases ck : K (c - 1) = 0
        · rw [if_pos ck] at he
          refine sn_jn_by (fun k10 => k10 1) ?_ (fun k10 hk10 => bq_u (ek.mpr ck) hk10)
          refine sn_jn_by (fun k12 => k12 (nI u)) ⟨v6, ?_⟩ (fun k12 hk12 => bq_f i1 hk12)
          simp only [sn_lt]
          refine sn_jn_by (fun k15 => k15 0) ?_ (fun k15 hk15 => bq_f i1 hk15)
          refine hk8 0 _ (by decide) (agOne_I A1 _ _) (Or.inr ⟨rfl, ?_⟩)
          rw [← he]
          intro i hi
          rw [sI_get]
          unfold upN
          by_cases e : i = c - 1
          · rw [if_pos ⟨rfl, e⟩, if_pos e]
          · rw [if_neg (fun hh => e hh.2), if_neg e]
            exact hR i hi
        · rw [if_neg ck] at he
          refine sn_jn_by (fun k10 => k10 0) ?_ (fun k10 hk10 => bq_v (fun e => ck (ek.mp e)) hk10)
          refine sn_jn_by (fun k12 => k12 (nI (K (c - 1)))) ⟨v6, ?_⟩ (fun k12 hk12 => bq_t rfl ⟨v6, hk12⟩)
          simp only [sn_lt]
          rw [sI_get, if_pos ⟨rfl, rfl⟩, xor_I _ _ hu hT1.1]
          refine sn_jn_by (fun k15 => k15 (nI (u ^^^ K (c - 1)))) ?_ (fun k15 hk15 => bq_t trivial ⟨v6, hk15⟩)
          refine hk8 _ _ (xor_64 hu hT1.1) (agOne_I A1 _ _) (Or.inl ⟨?_, he⟩)
          intro i hi
          rw [sI_get]
          by_cases e : i = c - 1
          · rw [if_pos ⟨rfl, e⟩, e]
          · rw [if_neg (fun hh => e hh.2)]
            exact hR i hi
      · rw [hu0, bt_zero] at c1
        exact absurd rfl c1
theorem m_areKnown {S : sn_S} {K : Nat → Nat} (hT : TK K) (hK : R6 S 29 K) {n : Nat} (hn : n ≤ 6) {Q : Int32 → Prop} (h : Q (nI (if tl K n = true then 1 else 0))) : wpX9_areKnown (nI n) S Q := by
  unfold wpX9_areKnown
  have sh : ∀ s, s < 6 → (1 : Int32) <<< (nI s &&& 31) = nI (2 ^ s) ∧ 2 ^ s < 64 := by decide
  refine sn_lp2_inv (fun x i => ∃ k : Nat, k ≤ n ∧ i = nI k ∧ x = nI (if tl K k = true then 1 else 0)) (fun _ i => 6 - i.toNatClampNeg) ?_ _ _ ⟨0, Nat.zero_le _, rfl, rfl⟩
  rintro rc x i ⟨k, hk, rfl, rfl⟩ hrc
  rw [pn_leN (by omega) (by omega)]
  by_cases hke : k = n
  · subst hke
    refine bq_t (Nat.le_refl _) ⟨?_, h⟩
    split <;> rfl
  · refine bq_f (by omega) ?_
    obtain ⟨s1, s2⟩ := sh k (by omega)
    have hu : tl K (k + 1) = (tl K k && (red K 6 (2 ^ k) == 0)) := rfl
    refine sn_jn_by (fun k5 => k5 (nI (if tl K (k + 1) = true then 1 else 0))) ?_ (fun k5 hk5 => ?_)
    · rw [show nI k + 1 = nI (k + 1) from pn_add k 1]
      exact hrc _ _ ⟨k + 1, by omega, rfl, rfl⟩ (by rw [pn_nat (by omega), pn_nat (by omega)]; omega)
    · rw [hu] at hk5
      refine sn_jn_by (fun k6 => ¬ (tl K k = true ∧ red K 6 (2 ^ k) = 0) → k6) (fun hh => ?_) (fun k6 hk6 => ?_)
      · rw [if_neg (by simp only [Bool.and_eq_true, beq_iff_eq]; exact hh)] at hk5
        exact hk5
      · by_cases c : tl K k = true
        · rw [if_pos c]
          refine bq_f i1 ?_
          rw [s1]
          refine m_known hT hK s2 ?_
          by_cases cr : red K 6 (2 ^ k) = 0
          · rw [if_pos cr]
            rw [if_pos (by simp only [Bool.and_eq_true, beq_iff_eq]; exact ⟨c, cr⟩)] at hk5
            exact bq_f i1 hk5
          · rw [if_neg cr]
            exact bq_t rfl (hk6 (fun hh => cr hh.2))
        · rw [if_neg c]
          exact bq_t rfl (hk6 (fun hh => c hh.1))
theorem kM_ok {f : Nat → Nat} {set : Nat} (n : Nat) (h : ∀ i, i < n → f i < 64) : TK (kM f set n) := (k_both (set := set) n h).1
theorem m_isRead {S : sn_S} {t : gT} (hg : tG t) (hM : RMt S t) {set : Nat} (hset : set < 64) {Q : Int32 → sn_S → Prop} (h : ∀ S', agOne 29 S S' → Q (nI (if rd t set = true then 1 else 0)) S') : wpX9_isRead (nI set) S Q := by
  unfold wpX9_isRead wpX9_noSteps
  have h6 := hg.1
  have h7 := hg.2.2.2.2.2.2.2.2.1
  refine sn_lp2_inv (fun i S' => ∃ n : Nat, n ≤ 6 ∧ i = nI n ∧ agOne 29 S S' ∧ ∀ j, j < n → S'.1 29 j = 0) (fun i _ => 6 - i.toNatClampNeg) ?_ _ _ ⟨0, Nat.zero_le _, rfl, agOne_refl _ _, fun j hj => absurd hj (Nat.not_lt_zero _)⟩
  rintro rc i S1 ⟨n, hn, rfl, A1, z1⟩ hrc
  rw [show (6 : Int32) = nI 6 from rfl, pn_leN (by omega) (by omega)]
  by_cases hne : n = 6
  · subst hne
    refine bq_t (Nat.le_refl _) ?_
    refine sn_jn_by (fun k12 => ∀ S', agOne 29 S S' → R6 S' 29 (kM (fun s => t 4 (6 * s + 5)) set (t 0 0)) → k12 S') (fun S2 A2 R2 => ?_) (fun k12 hk12 => ?_)
    · refine ⟨vm (n := 5) (by decide), ?_⟩
      have M2 := RMt_One (by decide) hM A2
      rw [show S2.1 2 (Int32.toNatClampNeg 5) = nI (t 7 0) from M2.2.2.2.2.2.2.2.2.1 0 (by decide)]
      refine m_areKnown (kM_ok _ (fun i hi => fmask hg hi)) R2 (by omega) ?_
      rw [rd_M hg]
      refine ⟨?_, h S2 A2⟩
      split <;> rfl
    · refine sn_lp2_inv (fun i S' => ∃ n : Nat, n ≤ t 0 0 ∧ i = nI n ∧ agOne 29 S S' ∧ R6 S' 29 (kM (fun s => t 4 (6 * s + 5)) set n)) (fun i _ => 6 - i.toNatClampNeg) ?_ _ _ ⟨0, Nat.zero_le _, rfl, A1, fun i hi => z1 i hi⟩
      rintro rc2 i S2 ⟨n, hn', rfl, A2, R2⟩ hrc2
      have M2 := RMt_One (by decide) hM A2
      rw [show S2.1 2 (Int32.toNatClampNeg 0) = nI (t 0 0) from M2.1, pn_leN (by omega) (by omega)]
      refine ⟨v0, ?_⟩
      by_cases hne' : n = t 0 0
      · subst hne'
        exact bq_t (Nat.le_refl _) (hk12 S2 A2 R2)
      · have hlt : n < t 0 0 := by omega
        refine bq_f (by omega) (m_is hset (by omega) ?_)
        have hbt := bt_lt set n
        refine sn_jn_by (fun k19 => ∀ S', agOne 29 S S' → R6 S' 29 (kM (fun s => t 4 (6 * s + 5)) set (n + 1)) → k19 S') (fun S3 A3 R3 => ?_) (fun k19 hk19 => ?_)
        · rw [show nI n + 1 = nI (n + 1) from pn_add n 1]
          exact hrc2 _ _ ⟨n + 1, by omega, rfl, A3, R3⟩ (by rw [pn_nat (by omega), pn_nat (by omega)]; omega)
        · have hu : kM (fun s => t 4 (6 * s + 5)) set (n + 1) = if bt set n = 1 then addM (kM (fun s => t 4 (6 * s + 5)) set n) 6 (t 4 (6 * n + 5)) else kM (fun s => t 4 (6 * s + 5)) set n := rfl
          rw [hu] at hk19
          by_cases c : bt set n = 0
          · rw [if_neg (by omega)] at hk19
            exact bq_t (by rw [c]; rfl) (hk19 S2 A2 R2)
          · rw [if_pos (by omega)] at hk19
            refine bq_f (fun e => c ((pn_eqN (j := 0) (by omega) (by decide)).mp e)) (m_ofSnail (s := n) (f := 5) M2 (by omega) ?_)
            exact m_put1 (kM_ok _ (fun i hi => fmask hg (by omega))) R2 (fmask hg hlt) (fun S3 A3 R3 => hk19 S3 (agOne_trans A2 A3) R3)
  · refine bq_f (by omega) ⟨pn_vp (by omega) (by decide), ?_⟩
    simp only [sn_lt]
    rw [pn_nat (n := n) (by omega), show nI n + 1 = nI (n + 1) from pn_add n 1]
    refine hrc _ _ ⟨n + 1, by omega, rfl, agOne_I A1 _ _, fun j hj => ?_⟩ (by rw [pn_nat (by omega), pn_nat (by omega)]; omega)
    rw [sI_get]
    by_cases e : j = n
    · rw [if_pos ⟨rfl, e⟩]
    · rw [if_neg (fun hh => e hh.2)]
      exact z1 j (by omega)
