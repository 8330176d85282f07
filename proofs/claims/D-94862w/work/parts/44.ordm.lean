/-! THE PLAIN LAW, twenty-sixth part: the model's orders -/
set_option maxRecDepth 100000
theorem bI_nI (c : Prop) [Decidable c] : bI c = nI (if c then 1 else 0) := by
  unfold bI
  split <;> rfl
theorem m_can {S : sn_S} {t : gT} {A s : Nat} (hg : tG t) (hM : RMt S t) (hA : A < 64) (hs : s < 6) {Q : Int32 → Prop} (h1 : okO t A s = true → Q 1) (h0 : okO t A s = false → Q 0) : wpX9_canPass (nI s) (nI A) S Q := by
  unfold wpX9_canPass
  have h12 := hg.2.2.1
  have h6 := hg.1
  refine m_is hA hs ?_
  have hbt := bt_lt A s
  refine sn_jn_by (fun k3 => ∀ z : Int32, (z = 1 ∧ bt A s = 0) ∨ (z = 0 ∧ ¬ bt A s = 0) → k3 z) (fun z hz => ?_) (fun k3 hk3 => ?_)
  · refine sn_lp2_inv (fun y i => ∃ k : Nat, k ≤ t 0 2 ∧ i = nI k ∧ ((y = 1 ∧ bt A s = 0 ∧ cps t A s k = true) ∨ (y = 0 ∧ ¬ (bt A s = 0 ∧ cps t A s k = true)))) (fun _ i => 12 - i.toNatClampNeg) ?_ _ _ ⟨0, Nat.zero_le _, rfl, by rcases hz with ⟨e, h⟩ | ⟨e, h⟩; exact Or.inl ⟨e, h, rfl⟩; exact Or.inr ⟨e, fun hh => h hh.1⟩⟩
    rintro rc y i ⟨k, hk, rfl, hy⟩ hrc
    rw [show S.1 2 (Int32.toNatClampNeg 4) = nI (t 0 2) from hM.2.2.1, pn_leN (by omega) (by omega)]
    refine ⟨v4, ?_⟩
    by_cases hke : k = t 0 2
    · subst hke
      refine bq_t (Nat.le_refl _) ?_
      rcases hy with ⟨rfl, e1, e2⟩ | ⟨rfl, e⟩
      · refine ⟨rfl, h1 ?_⟩
        unfold okO
        rw [e1, e2]
        rfl
      · refine ⟨rfl, h0 ?_⟩
        unfold okO
        by_cases c1 : bt A s = 0
        · have c2 : cps t A s (t 0 2) = false := by
            cases hc : cps t A s (t 0 2) with
            | false => rfl
            | true => exact absurd ⟨c1, hc⟩ e
          rw [c2]
          simp
        · simp [c1]
    · refine bq_f (by omega) ?_
      have ha := hg.2.2.2.2.2.2.2.2.2.1 (2 * k) (by omega)
      have hb := hg.2.2.2.2.2.2.2.2.2.1 (2 * k + 1) (by omega)
      have hu : cps t A s (k + 1) = (cps t A s k && !(t 8 (2 * k) == s && bt A (t 8 (2 * k + 1)) == 0)) := rfl
      refine sn_jn_by (fun k8 => (bt A s = 0 ∧ cps t A s (k + 1) = true → k8 1) ∧ (¬ (bt A s = 0 ∧ cps t A s (k + 1) = true) → k8 0)) ⟨fun h => ?_, fun h => ?_⟩ (fun k8 hk8 => ?_)
      · rw [show nI k + 1 = nI (k + 1) from pn_add k 1]
        exact hrc _ _ ⟨k + 1, by omega, rfl, Or.inl ⟨rfl, h⟩⟩ (by rw [pn_nat (by omega), pn_nat (by omega)]; omega)
      · rw [show nI k + 1 = nI (k + 1) from pn_add k 1]
        exact hrc _ _ ⟨k + 1, by omega, rfl, Or.inr ⟨rfl, h⟩⟩ (by rw [pn_nat (by omega), pn_nat (by omega)]; omega)
      · refine sn_jn_by (fun k9 => ¬ (bt A s = 0 ∧ cps t A s (k + 1) = true) → k9) hk8.2 (fun k9 hk9 => ?_)
        rcases hy with ⟨rfl, e1, e2⟩ | ⟨rfl, e⟩
        · rw [e2] at hu
          refine bq_f i1 ?_
          rw [show (2 : Int32) * nI k = nI (2 * k) from pn_mul 2 k, show (52 : Int32) + nI (2 * k) = nI (52 + 2 * k) from pn_add 52 _, show nI (52 + 2 * k) + 1 = nI (52 + (2 * k + 1)) from pn_add _ 1, pn_nat (n := 52 + 2 * k) (by omega), pn_nat (n := 52 + (2 * k + 1)) (by omega), hM.2.2.2.2.2.2.2.2.2.1 _ (by omega), hM.2.2.2.2.2.2.2.2.2.1 _ (by omega), pn_eqN (by omega) (by omega)]
          refine ⟨vm (by omega), ?_⟩
          refine sn_jn_by (fun k10 => cps t A s (k + 1) = true → k10) (fun h => hk8.1 ⟨e1, h⟩) (fun k10 hk10 => ?_)
          by_cases c1 : t 8 (2 * k) = s
          · refine bq_u c1 ⟨vm (by omega), ?_⟩
            refine m_is hA (by omega) ?_
            have hbt2 := bt_lt A (t 8 (2 * k + 1))
            by_cases c2 : bt A (t 8 (2 * k + 1)) = 0
            · refine bq_t (by rw [c2]; rfl) (hk9 (fun h => ?_))
              have := h.2
              rw [hu] at this
              simp [c1, c2] at this
            · refine bq_f (fun e => c2 ((pn_eqN (j := 0) (by omega) (by decide)).mp e)) (hk10 ?_)
              rw [hu]
              simp [c2]
          · refine bq_v c1 (hk10 ?_)
            rw [hu]
            simp [c1]
        · refine bq_t rfl (hk9 (fun h => e ⟨h.1, ?_⟩))
          have := h.2
          rw [hu] at this
          simp only [Bool.and_eq_true] at this
          exact this.1
  · by_cases c : bt A s = 0
    · exact bq_u (by rw [c]; rfl) (hk3 1 (Or.inl ⟨rfl, c⟩))
    · exact bq_v (fun e => c ((pn_eqN (j := 0) (by omega) (by decide)).mp e)) (hk3 0 (Or.inr ⟨rfl, c⟩))
theorem clr_pc : ∀ B s, B < 64 → s < 6 → bt B s = 1 → clr B s < B ∧ pc (clr B s) + 1 = pc B := by
  have : ∀ B, B < 64 → ∀ s, s < 6 → bt B s = 1 → clr B s < B ∧ pc (clr B s) + 1 = pc B := by decide +kernel
  exact fun B s h1 h2 => this B h1 s h2
theorem stb_gt : ∀ A s, A < 64 → s < 6 → bt A s = 0 → A < stb A s := by
  have : ∀ A, A < 64 → ∀ s, s < 6 → bt A s = 0 → A < stb A s := by decide +kernel
  exact fun A s h1 h2 => this A h1 s h2
theorem pc_0 : ∀ B, B < 64 → pc B = 0 → B = 0 := by decide +kernel
theorem bt_zero (s : Nat) : bt 0 s = 0 := by simp [bt]
/-- rows 31 to 33 alone -/
def agZ (S S' : sn_S) : Prop := (∀ k, k ≠ 31 → k ≠ 32 → k ≠ 33 → S'.1 k = S.1 k) ∧ S'.2 = S.2
theorem agZ_refl (S : sn_S) : agZ S S := ⟨fun _ _ _ _ => rfl, rfl⟩
theorem agZ_I {S S' : sn_S} (h : agZ S S') {k : Nat} (hk : 31 ≤ k ∧ k ≤ 33) (i : Nat) (v : Int32) : agZ S (sn_pI S' k i v) := ⟨fun j h1 h2 h3 => by rw [sI_row _ _ _ (by omega)]; exact h.1 j h1 h2 h3, h.2⟩
theorem RMt_Z {S S' : sn_S} {t : gT} (h : RMt S t) (a : agZ S S') : RMt S' t := by
  unfold RMt at h ⊢
  rw [a.1 2 (by decide) (by decide) (by decide)]
  exact h
theorem m_all {S : sn_S} {t : gT} (hg : tG t) (hM : RMt S t) {Q : Int32 → Prop} (h : Q (nI (2 ^ t 0 0 - 1))) : wpX9_allSnails S Q := by
  unfold wpX9_allSnails
  rw [z0, hM.1, ev_x _ hg.1]
  exact ⟨v0, h⟩
/-- the ways to B: one B of the forward table, its loop over snails -/
def fwd (f : Nat → Nat → Bool) (n B : Nat) : Nat → Nat := fun s => if bt B s = 1 ∧ f (clr B s) s = true then NP f n (pc B - 1) 0 (clr B s) else 0
theorem fwd_sum {f : Nat → Nat → Bool} {n B : Nat} (hn : n ≤ 6) (hf : ∀ A s, f A s = true → bt A s = 0) (hB : B < 64) : (if B = 0 then 1 else 0) + sms (fwd f n B) n = NP f n (pc B) 0 B := by
  by_cases h : B = 0
  · subst h
    rw [if_pos rfl, sms_congr (g := fun _ => 0) n (fun s _ => by unfold fwd; rw [if_neg (by rw [bt_zero]; omega)]), sms_zero]
    rfl
  · rw [if_neg h, Nat.zero_add]
    have hp : pc B ≠ 0 := fun e => h (pc_0 B hB e)
    obtain ⟨m, hm⟩ : ∃ m, pc B = m + 1 := ⟨pc B - 1, by omega⟩
    rw [hm, NP_snoc hn hf m 0 B (by decide) hB]
    unfold fwd
    rw [hm]
    rfl
def bwd (f : Nat → Nat → Bool) (n A : Nat) : Nat → Nat := fun s => if f A s = true then NP f n (n - pc (stb A s)) (stb A s) (2 ^ n - 1) else 0
theorem bwd_sum {f : Nat → Nat → Bool} {n A : Nat} (hn : n ≤ 6) (hf : ∀ A s, f A s = true → bt A s = 0) (hA : A < 2 ^ n) : (if A = 2 ^ n - 1 then 1 else 0) + sms (bwd f n A) n = NP f n (n - pc A) A (2 ^ n - 1) := by
  have hpn : ∀ n, n ≤ 6 → ∀ A, A < 2 ^ n → pc A ≤ n ∧ (pc A = n ↔ A = 2 ^ n - 1) := by decide +kernel
  obtain ⟨p1, p2⟩ := hpn n hn A hA
  by_cases h : A = 2 ^ n - 1
  · rw [if_pos h, p2.mpr h, Nat.sub_self, sms_congr (g := fun _ => 0) n (fun s hs => ?_), sms_zero]
    · show 1 = if A = 2 ^ n - 1 then 1 else 0
      rw [if_pos h]
    · unfold bwd
      rw [if_neg (fun hh => ?_)]
      have h1 := hf A s hh
      rw [h, bt_all n s hn hs] at h1
      omega
  · have hne : pc A ≠ n := fun e => h (p2.mp e)
    rw [if_neg h, Nat.zero_add]
    obtain ⟨m, hm⟩ : ∃ m, n - pc A = m + 1 := ⟨n - pc A - 1, by omega⟩
    rw [hm]
    unfold NP
    refine sms_congr n (fun s hs => ?_)
    unfold bwd
    by_cases c : f A s = true
    · rw [if_pos c, if_pos c, (stb_ok n A s hn hA hs (hf A s c)).2, show n - (pc A + 1) = m by omega]
    · rw [if_neg c, if_neg c]
theorem fwd_small {f : Nat → Nat → Bool} {n B m : Nat} (hn : n ≤ 6) (hm : m ≤ n) : sms (fwd f n B) m ≤ 46656 * 6 := by
  have := sms_le (f := fwd f n B) (b := 46656) m (fun s _ => by
    unfold fwd
    split
    · exact NP_small hn (by have := pc_lt B; omega)
    · exact Nat.zero_le _)
  omega
/-- the model's two tables -/
def RT (S : sn_S) (f : Nat → Nat → Bool) (n : Nat) : Prop := (∀ B, B < 2 ^ n → S.1 31 B = nI (NP f n (pc B) 0 B)) ∧ (∀ A, A < 2 ^ n → S.1 32 A = nI (NP f n (n - pc A) A (2 ^ n - 1)))
theorem m_orders {S : sn_S} {t : gT} (hg : tG t) (hM : RMt S t) {Q : sn_S → Prop} (k : ∀ S', agZ S S' → RT S' (okO t) (t 0 0) → Q S') : wpX9_findOrders S Q := by
  unfold wpX9_findOrders
  have h6 := hg.1
  have h2 := two_le h6
  refine m_all hg hM ?_
  refine sn_jn_by (fun k3 => ∀ S', agZ S S' → (∀ B, B < 2 ^ t 0 0 → S'.1 31 B = nI (NP (okO t) (t 0 0) (pc B) 0 B)) → k3 S') (fun S1 A1 T1 => ?_) (fun k3 hk3 => ?_)
  · have lt0 : ∀ c, c < 70 → (nI c - nI 1 < 0 ↔ c = 0) := by decide +kernel
    rw [show nI (2 ^ t 0 0 - 1) = nI (2 ^ t 0 0) - nI 1 from (pn_sub (by omega)).symm]
    refine sn_lp2_inv (fun i S' => ∃ c : Nat, c ≤ 2 ^ t 0 0 ∧ i = nI c - nI 1 ∧ agZ S S' ∧ S'.1 31 = S1.1 31 ∧ (∀ A, c ≤ A → A < 2 ^ t 0 0 → S'.1 32 A = nI (NP (okO t) (t 0 0) (t 0 0 - pc A) A (2 ^ t 0 0 - 1)))) (fun i _ => (i + 1).toNatClampNeg) ?_ _ _ ⟨2 ^ t 0 0, Nat.le_refl _, rfl, A1, rfl, fun A h1 h2 => by omega⟩
    rintro rc i S2 ⟨c, hc, rfl, A2, r31, T2⟩ hrc
    rw [lt0 c (by omega)]
    by_cases c0 : c = 0
    · subst c0
      refine bq_t rfl (k S2 A2 ⟨fun B hB => ?_, fun A hA => T2 A (Nat.zero_le _) hA⟩)
      rw [r31]
      exact T1 B hB
    · refine bq_f c0 ?_
      have hAc : c - 1 < 2 ^ t 0 0 := by omega
      have ec : nI c - nI 1 = nI (c - 1) := sp_s c0
      have en : nI c - nI 1 + (-1) = nI (c - 1) - nI 1 := by
        rw [ec, Int32.sub_eq_add_neg]
        rfl
      rw [en, ec]
      have v64 : vp_in (nI (c - 1)) 64 := pn_vp (by omega) (by decide)
      refine sn_jn_by (fun k8 => k8 (nI (if c - 1 = 2 ^ t 0 0 - 1 then 1 else 0))) ⟨v64, ?_⟩ (fun k8 hk8 => ?_)
      · simp only [sn_lt]
        rw [pn_nat (n := c - 1) (by omega)]
        refine sn_jn_by (fun k11 => ∀ S', agZ S S' → S'.1 31 = S1.1 31 → (∀ A, c ≤ A → A < 2 ^ t 0 0 → S'.1 32 A = nI (NP (okO t) (t 0 0) (t 0 0 - pc A) A (2 ^ t 0 0 - 1))) → S'.1 32 (c - 1) = nI (NP (okO t) (t 0 0) (t 0 0 - pc (c - 1)) (c - 1) (2 ^ t 0 0 - 1)) → k11 S') (fun S3 A3 r3 T3 e3 => ?_) (fun k11 hk11 => ?_)
        · refine hrc _ _ ⟨c - 1, by omega, rfl, A3, r3, fun A h1 h2 => ?_⟩ ?_
          · by_cases e : A = c - 1
            · rw [e]; exact e3
            · exact T3 A (by omega) h2
          · rw [sp_next, sp_next, pn_sub (by omega), pn_sub (by omega), pn_nat (by omega), pn_nat (by omega)]
            omega
        · refine sn_lp2_inv (fun i S' => ∃ m : Nat, m ≤ t 0 0 ∧ i = nI m ∧ agZ S S' ∧ S'.1 31 = S1.1 31 ∧ (∀ A, c ≤ A → A < 2 ^ t 0 0 → S'.1 32 A = nI (NP (okO t) (t 0 0) (t 0 0 - pc A) A (2 ^ t 0 0 - 1))) ∧ S'.1 32 (c - 1) = nI ((if c - 1 = 2 ^ t 0 0 - 1 then 1 else 0) + sms (bwd (okO t) (t 0 0) (c - 1)) m)) (fun i _ => 6 - i.toNatClampNeg) ?_ _ _ ⟨0, Nat.zero_le _, rfl, agZ_I A2 ⟨by decide, by decide⟩ _ _, by rw [sI_row _ _ _ (by decide)]; exact r31, fun A h1 h2 => by rw [sI_get, if_neg (by omega)]; exact T2 A h1 h2, by rw [sI_get, if_pos ⟨rfl, rfl⟩]; rfl⟩
          rintro rc2 i S3 ⟨m, hm, rfl, A3, r3, T3, e3⟩ hrc2
          have M3 := RMt_Z hM A3
          rw [show S3.1 2 (Int32.toNatClampNeg 0) = nI (t 0 0) from M3.1, pn_leN (by omega) (by omega)]
          refine ⟨v0, ?_⟩
          by_cases hme : m = t 0 0
          · subst hme
            refine bq_t (Nat.le_refl _) (hk11 S3 A3 r3 T3 ?_)
            rw [e3, bwd_sum h6 okO_bt hAc]
          · have hlt : m < t 0 0 := by omega
            refine bq_f (by omega) ⟨v64, ?_⟩
            have go : ∀ v : Int32, v = nI (bwd (okO t) (t 0 0) (c - 1) m) → rc2 (nI m + 1) (sn_pI S3 32 (c - 1) (S3.1 32 (c - 1) + v)) := by
              intro v hv
              rw [show nI m + 1 = nI (m + 1) from pn_add m 1]
              refine hrc2 _ _ ⟨m + 1, by omega, rfl, agZ_I A3 ⟨by decide, by decide⟩ _ _, by rw [sI_row _ _ _ (by decide)]; exact r3, fun A h1 h2 => by rw [sI_get, if_neg (by omega)]; exact T3 A h1 h2, ?_⟩ (by rw [pn_nat (by omega), pn_nat (by omega)]; omega)
              rw [sI_get, if_pos ⟨rfl, rfl⟩, e3, hv, pn_add, Nat.add_assoc]
              rfl
            refine m_can hg M3 (by omega) (by omega) (fun ho => ?_) (fun ho => ?_)
            · have hs0 := okO_bt _ _ ho
              obtain ⟨s1, s2⟩ := stb_ok (t 0 0) (c - 1) m h6 hAc hlt hs0
              have sg := stb_gt (c - 1) m (by omega) (by omega) hs0
              refine sn_jn_by (fun k17 => k17 (nI (bwd (okO t) (t 0 0) (c - 1) m))) ⟨v64, go _ rfl⟩ (fun k17 hk17 => bq_f i1 ?_)
              rw [bits_stb _ (by omega) _ (by omega), pn_nat (n := stb (c - 1) m) (by omega), T3 _ (by omega) s1]
              unfold bwd at hk17
              rw [if_pos ho] at hk17
              exact ⟨pn_vp (by omega) (by decide), hk17⟩
            · refine sn_jn_by (fun k17 => k17 (nI (bwd (okO t) (t 0 0) (c - 1) m))) ⟨v64, go _ rfl⟩ (fun k17 hk17 => bq_t rfl ?_)
              unfold bwd at hk17
              rw [if_neg (by rw [ho]; decide)] at hk17
              exact hk17
      · rw [show nI (2 ^ t 0 0) - nI 1 = nI (2 ^ t 0 0 - 1) from pn_sub (by omega), pn_eqN (by omega) (by omega)]
        by_cases e : c - 1 = 2 ^ t 0 0 - 1
        · rw [if_pos e] at hk8
          exact bq_u e hk8
        · rw [if_neg e] at hk8
          exact bq_v e hk8
  · refine sn_lp2_inv (fun i S' => ∃ B : Nat, B ≤ 2 ^ t 0 0 ∧ i = nI B ∧ agZ S S' ∧ (∀ B', B' < B → S'.1 31 B' = nI (NP (okO t) (t 0 0) (pc B') 0 B'))) (fun i _ => 64 - i.toNatClampNeg) ?_ _ _ ⟨0, Nat.zero_le _, rfl, agZ_refl _, fun B h => absurd h (Nat.not_lt_zero _)⟩
    rintro rc i S2 ⟨B, hB, rfl, A2, T2⟩ hrc
    rw [pn_ltN (by omega) (by omega)]
    by_cases hBe : B = 2 ^ t 0 0
    · refine bq_t (by omega) (hk3 S2 A2 (fun B' hB' => T2 B' (by omega)))
    · refine bq_f (by omega) ?_
      have hBl : B < 2 ^ t 0 0 := by omega
      have v64 : vp_in (nI B) 64 := pn_vp (by omega) (by decide)
      refine sn_jn_by (fun k23 => k23 (nI (if B = 0 then 1 else 0))) ⟨v64, ?_⟩ (fun k23 hk23 => ?_)
      · simp only [sn_lt]
        rw [pn_nat (n := B) (by omega)]
        refine sn_jn_by (fun k26 => ∀ S', agZ S S' → (∀ B', B' < B + 1 → S'.1 31 B' = nI (NP (okO t) (t 0 0) (pc B') 0 B')) → k26 S') (fun S3 A3 T3 => ?_) (fun k26 hk26 => ?_)
        · rw [show nI B + 1 = nI (B + 1) from pn_add B 1]
          exact hrc _ _ ⟨B + 1, by omega, rfl, A3, T3⟩ (by rw [pn_nat (by omega), pn_nat (by omega)]; omega)
        · refine sn_lp2_inv (fun i S' => ∃ m : Nat, m ≤ t 0 0 ∧ i = nI m ∧ agZ S S' ∧ (∀ B', B' < B → S'.1 31 B' = nI (NP (okO t) (t 0 0) (pc B') 0 B')) ∧ S'.1 31 B = nI ((if B = 0 then 1 else 0) + sms (fwd (okO t) (t 0 0) B) m)) (fun i _ => 6 - i.toNatClampNeg) ?_ _ _ ⟨0, Nat.zero_le _, rfl, agZ_I A2 ⟨by decide, by decide⟩ _ _, fun B' h => by rw [sI_get, if_neg (by omega)]; exact T2 B' h, by rw [sI_get, if_pos ⟨rfl, rfl⟩]; rfl⟩
          rintro rc2 i S3 ⟨m, hm, rfl, A3, T3, e3⟩ hrc2
          have M3 := RMt_Z hM A3
          rw [show S3.1 2 (Int32.toNatClampNeg 0) = nI (t 0 0) from M3.1, pn_leN (by omega) (by omega)]
          refine ⟨v0, ?_⟩
          by_cases hme : m = t 0 0
          · subst hme
            refine bq_t (Nat.le_refl _) (hk26 S3 A3 (fun B' hB' => ?_))
            by_cases e : B' = B
            · rw [e, e3, fwd_sum h6 okO_bt (by omega)]
            · exact T3 B' (by omega)
          · have hlt : m < t 0 0 := by omega
            refine bq_f (by omega) ⟨v64, ?_⟩
            have go : ∀ v : Int32, v = nI (fwd (okO t) (t 0 0) B m) → rc2 (nI m + 1) (sn_pI S3 31 B (S3.1 31 B + v)) := by
              intro v hv
              rw [show nI m + 1 = nI (m + 1) from pn_add m 1]
              refine hrc2 _ _ ⟨m + 1, by omega, rfl, agZ_I A3 ⟨by decide, by decide⟩ _ _, fun B' h => by rw [sI_get, if_neg (by omega)]; exact T3 B' h, ?_⟩ (by rw [pn_nat (by omega), pn_nat (by omega)]; omega)
              rw [sI_get, if_pos ⟨rfl, rfl⟩, e3, hv, pn_add, Nat.add_assoc]
              rfl
            refine m_is (by omega) (by omega) ?_
            have hbt := bt_lt B m
            refine sn_jn_by (fun k32 => k32 (nI (fwd (okO t) (t 0 0) B m))) ⟨v64, go _ rfl⟩ (fun k32 hk32 => ?_)
            unfold fwd at hk32
            refine sn_jn_by (fun k34 => ¬ (bt B m = 1 ∧ okO t (clr B m) m = true) → k34) (fun h => by rw [if_neg h] at hk32; exact hk32) (fun k34 hk34 => ?_)
            by_cases c1 : bt B m = 1
            · refine bq_f (by rw [c1]; decide) ?_
              obtain ⟨p1, p2⟩ := clr_pc B m (by omega) (by omega) c1
              rw [bits_clr _ (by omega) _ (by omega)]
              refine m_can hg M3 (by omega) (by omega) (fun ho => bq_f i1 ⟨pn_vp (by omega) (by decide), ?_⟩) (fun ho => bq_t rfl (hk34 (fun h => by rw [ho] at h; exact absurd h.2 (by decide))))
              rw [if_pos ⟨c1, ho⟩, show pc B - 1 = pc (clr B m) by omega] at hk32
              rw [pn_nat (n := clr B m) (by omega), T3 _ p1]
              exact hk32
            · exact bq_t (by rw [show bt B m = 0 by omega]; rfl) (hk34 (fun h => c1 h.1))
      · rw [show (nI B = 0) ↔ B = 0 from pn_eqN (j := 0) (by omega) (by decide)]
        by_cases e : B = 0
        · rw [if_pos e] at hk23
          exact bq_u e hk23
        · rw [if_neg e] at hk23
          exact bq_v e hk23
