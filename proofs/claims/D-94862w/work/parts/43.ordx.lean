/-! THE PLAIN LAW, twenty-fifth part: x's orders -/
set_option maxRecDepth 100000
def cps (t : gT) (A s : Nat) : Nat → Bool
  | 0 => true
  | k + 1 => cps t A s k && !(t 8 (2 * k) == s && bt A (t 8 (2 * k + 1)) == 0)
def okO (t : gT) : Nat → Nat → Bool := fun A s => bt A s == 0 && cps t A s (t 0 2)
theorem okO_bt {t : gT} : ∀ A s, okO t A s = true → bt A s = 0 := by
  intro A s h
  unfold okO at h
  simp only [Bool.and_eq_true, beq_iff_eq] at h
  exact h.1
theorem cps_false {t : gT} {A s k : Nat} (h : cps t A s k = false) : ∀ m, cps t A s (k + m) = false
  | 0 => h
  | m + 1 => by
    show (cps t A s (k + m) && _) = false
    rw [cps_false h m]
    rfl
theorem x_may {w : sn_W} {S : sn_S} {t : gT} {A s : Nat} (hg : tG t) (hX : RXt S t) (hA : A < 64) (hs : s < 6) {Q : Int32 → Prop} (h1 : cps t A s (t 0 2) = true → Q 1) (h0 : cps t A s (t 0 2) = false → Q 0) : wpX8_mayPass w (nI s) (nI A) S Q := by
  unfold wpX8_mayPass
  have h12 := hg.2.2.1
  have h6 := hg.1
  refine sn_lp1_inv (fun i => ∃ k : Nat, k ≤ t 0 2 ∧ i = nI k ∧ cps t A s k = true) (fun i => 12 - i.toNatClampNeg) ?_ 0 ⟨0, Nat.zero_le _, rfl, rfl⟩
  rintro rc i ⟨k, hk, rfl, hc⟩ hrc
  rw [hX.2.2.1, pn_leN (by omega) (by omega)]
  by_cases hke : k = t 0 2
  · subst hke
    exact bq_t (Nat.le_refl _) (h1 hc)
  · refine bq_f (by omega) ?_
    have ha := hg.2.2.2.2.2.2.2.2.2.1 (2 * k) (by omega)
    have hb := hg.2.2.2.2.2.2.2.2.2.1 (2 * k + 1) (by omega)
    rw [show (2 : Int32) * nI k = nI (2 * k) from pn_mul 2 k, show nI (2 * k) + 1 = nI (2 * k + 1) from pn_add _ 1, pn_nat (n := 2 * k) (by omega), pn_nat (n := 2 * k + 1) (by omega), hX.2.2.2.2.2.2.2.2.2.1 _ (by omega), hX.2.2.2.2.2.2.2.2.2.1 _ (by omega), show nI k + 1 = nI (k + 1) from pn_add k 1, pn_eqN (by omega) (by omega)]
    refine ⟨pn_vp (by omega) (by decide), ?_⟩
    have hu : cps t A s (k + 1) = (cps t A s k && !(t 8 (2 * k) == s && bt A (t 8 (2 * k + 1)) == 0)) := rfl
    rw [hc] at hu
    refine sn_jn_by (fun k12 => cps t A s (k + 1) = true → k12) (fun h => hrc _ ⟨k + 1, by omega, rfl, h⟩ (by rw [pn_nat (by omega), pn_nat (by omega)]; omega)) (fun k12 hk12 => ?_)
    by_cases c1 : t 8 (2 * k) = s
    · refine bq_u c1 ⟨pn_vp (by omega) (by decide), ?_⟩
      refine x_isOf hA (by omega) ?_
      have hbt := bt_lt A (t 8 (2 * k + 1))
      by_cases c2 : bt A (t 8 (2 * k + 1)) = 0
      · refine bq_u (by rw [c2]; rfl) (h0 ?_)
        have : cps t A s (k + 1) = false := by
          rw [hu]
          simp [c1, c2]
        have e := cps_false this (t 0 2 - (k + 1))
        rw [show k + 1 + (t 0 2 - (k + 1)) = t 0 2 by omega] at e
        exact e
      · refine bq_v (fun e => c2 ((pn_eqN (j := 0) (by omega) (by decide)).mp e)) (hk12 ?_)
        rw [hu]
        simp [c2]
    · refine bq_v c1 (hk12 ?_)
      rw [hu]
      simp [c1]
/-- how many; with whom they begin, end; who ahead of whom; the first -/
abbrev gO : Type := Nat × (Nat → Nat) × (Nat → Nat) × (Nat → Nat → Nat) × (Nat → Nat)
def endS (n : Nat) (r : Nat → Nat) (a : gO) : gO := (a.1 + 1, fun s => a.2.1 s + (if n ≠ 0 ∧ r 0 = s then 1 else 0), fun s => a.2.2.1 s + (if n ≠ 0 ∧ r (n - 1) = s then 1 else 0), fun x y => a.2.2.2.1 x y + pr n x y r, if a.1 = 0 then r else a.2.2.2.2)
def RO (S : sn_S) (n : Nat) (a : gO) : Prop := S.1 94 4 = nI a.1 ∧ (∃ b, b < 64 ∧ S.1 94 5 = nI b ∧ ∀ s, s < 6 → (bt b s = 1 ↔ a.2.1 s ≠ 0)) ∧ (∃ b, b < 64 ∧ S.1 94 6 = nI b ∧ ∀ s, s < 6 → (bt b s = 1 ↔ a.2.2.1 s ≠ 0)) ∧ (∀ x y, x < n → y < n → S.1 97 (6 * x + y) = nI (a.2.2.2.1 x y)) ∧ (a.1 ≠ 0 → ∀ i, i < n → S.1 96 i = nI (a.2.2.2.2 i))
/-- but for the orders' rows -/
def agOr (S S' : sn_S) : Prop := (∀ k, k ≠ 94 → k ≠ 95 → k ≠ 96 → k ≠ 97 → S'.1 k = S.1 k) ∧ (∀ i, i < 3 ∨ 6 < i → S'.1 94 i = S.1 94 i) ∧ S'.2 = S.2
theorem agOr_refl (S : sn_S) : agOr S S := ⟨fun _ _ _ _ _ => rfl, fun _ _ => rfl, rfl⟩
theorem agOr_trans {S1 S2 S3 : sn_S} (h : agOr S1 S2) (k : agOr S2 S3) : agOr S1 S3 := ⟨fun i h1 h2 h3 h4 => (k.1 i h1 h2 h3 h4).trans (h.1 i h1 h2 h3 h4), fun i hi => (k.2.1 i hi).trans (h.2.1 i hi), k.2.2.trans h.2.2⟩
theorem agOr_94 {S S' : sn_S} (h : agOr S S') {i : Nat} (hi : 3 ≤ i ∧ i ≤ 6) (v : Int32) : agOr S (sn_pI S' 94 i v) := ⟨fun k h1 h2 h3 h4 => by rw [sI_row _ _ _ h1]; exact h.1 k h1 h2 h3 h4, fun j hj => by rw [sI_get, if_neg (by omega)]; exact h.2.1 j hj, h.2.2⟩
theorem agOr_I {S S' : sn_S} (h : agOr S S') {k : Nat} (hk : 95 ≤ k ∧ k ≤ 97) (i : Nat) (v : Int32) : agOr S (sn_pI S' k i v) := ⟨fun j h1 h2 h3 h4 => by rw [sI_row _ _ _ (by omega)]; exact h.1 j h1 h2 h3 h4, fun j hj => by rw [sI_row _ _ _ (by omega)]; exact h.2.1 j hj, h.2.2⟩
theorem RXt_Or {S S' : sn_S} {t : gT} (h : RXt S t) (a : agOr S S') : RXt S' t := by
  unfold RXt at h ⊢
  rw [a.1 2 (by decide) (by decide) (by decide) (by decide), a.1 3 (by decide) (by decide) (by decide) (by decide), a.1 4 (by decide) (by decide) (by decide) (by decide), a.1 5 (by decide) (by decide) (by decide) (by decide), a.1 6 (by decide) (by decide) (by decide) (by decide), a.1 7 (by decide) (by decide) (by decide) (by decide), a.1 8 (by decide) (by decide) (by decide) (by decide), a.1 9 (by decide) (by decide) (by decide) (by decide)]
  exact h
theorem bits_or1 : ∀ b, b < 64 → ∀ s, s < 6 → (nI b ||| (1 <<< (nI s &&& 31))) = nI (stb b s) := bits_stb
theorem x_endsO {w : sn_W} {S : sn_S} {t : gT} {r : Nat → Nat} {a : gO} (hg : tG t) (hX : RXt S t) (hrow : ∀ i, i < t 0 0 → S.1 95 i = nI (r i)) (hr : ∀ i, i < t 0 0 → r i < t 0 0) (hA : RO S (t 0 0) a) (hC : a.1 < 100000) {Q : sn_S → Prop} (k : ∀ S', agOr S S' → S'.1 95 = S.1 95 → S'.1 94 3 = S.1 94 3 → RO S' (t 0 0) (endS (t 0 0) r a) → Q S') : wpX8_ends w S Q := by
  unfold wpX8_ends
  have h6 := hg.1
  obtain ⟨a1, ⟨fb, fb64, a2, a2'⟩, ⟨lb, lb64, a3, a3'⟩, a4, a5⟩ := hA
  rw [a1, show (0 : Int32) = nI 0 from rfl, pn_eqN (by omega) (by decide)]
  refine sn_jn_by (fun k11 => ∀ S', agOr S S' → (∀ k, k ≠ 96 → S'.1 k = S.1 k) → (∀ i, i < t 0 0 → S'.1 96 i = nI ((endS (t 0 0) r a).2.2.2.2 i)) → k11 S') (fun S1 A1 r1 f1 => ?_) (fun k11 hk11 => ?_)
  · simp only [sn_lt]
    have e4 : S1.1 94 4 + 1 = nI (a.1 + 1) := by rw [r1 94 (by decide), a1]; exact pn_add _ 1
    rw [e4]
    have hX1 := RXt_Or hX A1
    rw [sI_row _ _ _ (show (2 : Nat) ≠ 94 by decide), hX1.1, pn_eqN (by omega) (by decide)]
    by_cases h0 : t 0 0 = 0
    · refine bq_u h0 (k _ (agOr_94 A1 ⟨by decide, by decide⟩ _) (by rw [sI_row _ _ _ (by decide), r1 95 (by decide)]) (by rw [sI_get, if_neg (by omega), r1 94 (by decide)]) ⟨by rw [sI_get, if_pos ⟨rfl, rfl⟩]; rfl, ⟨fb, fb64, by rw [sI_get, if_neg (by omega), r1 94 (by decide)]; exact a2, fun s hs => ?_⟩, ⟨lb, lb64, by rw [sI_get, if_neg (by omega), r1 94 (by decide)]; exact a3, fun s hs => ?_⟩, fun x y hx => by omega, fun _ i hi => by omega⟩)
      · rw [a2' s hs]
        show _ ↔ a.2.1 s + (if t 0 0 ≠ 0 ∧ r 0 = s then 1 else 0) ≠ 0
        rw [if_neg (fun h => h.1 h0), Nat.add_zero]
      · rw [a3' s hs]
        show _ ↔ a.2.2.1 s + (if t 0 0 ≠ 0 ∧ r (t 0 0 - 1) = s then 1 else 0) ≠ 0
        rw [if_neg (fun h => h.1 h0), Nat.add_zero]
    · refine bq_v h0 ⟨pn_vp (n := 0) (by decide) (by decide), ?_⟩
      have q95 : ∀ i, i < t 0 0 → S1.1 95 i = nI (r i) := fun i hi => by rw [r1 95 (by decide)]; exact hrow i hi
      have hr0 := hr 0 (by omega)
      have hrl := hr (t 0 0 - 1) (by omega)
      -- firsts, lasts
      have e1 : ∀ v, (sn_pI S1 94 4 v).1 95 = S1.1 95 := fun v => sI_row _ _ _ (by decide)
      rw [show (sn_pI S1 94 4 (nI (a.1 + 1))).1 95 (nI 0).toNatClampNeg = nI (r 0) by rw [sI_row _ _ _ (by decide)]; exact q95 0 (by omega), show (sn_pI S1 94 4 (nI (a.1 + 1))).1 94 5 = nI fb by rw [sI_get, if_neg (by omega), r1 94 (by decide)]; exact a2, bits_stb _ fb64 _ (by omega)]
      rw [sI_row _ _ _ (show (2 : Nat) ≠ 94 by decide), sI_row _ _ _ (show (2 : Nat) ≠ 94 by decide), hX1.1, show nI (t 0 0) - 1 = nI (t 0 0 - 1) from pn_sub (b := 1) (by omega), pn_nat (n := t 0 0 - 1) (by omega)]
      refine ⟨pn_vp (by omega) (by decide), ?_⟩
      rw [show (sn_pI (sn_pI S1 94 4 (nI (a.1 + 1))) 94 5 (nI (stb fb (r 0)))).1 95 (t 0 0 - 1) = nI (r (t 0 0 - 1)) by rw [sI_row _ _ _ (by decide), sI_row _ _ _ (by decide)]; exact q95 _ (by omega), show (sn_pI (sn_pI S1 94 4 (nI (a.1 + 1))) 94 5 (nI (stb fb (r 0)))).1 94 6 = nI lb by rw [sI_get, if_neg (by omega), sI_get, if_neg (by omega), r1 94 (by decide)]; exact a3, bits_stb _ lb64 _ (by omega)]
      generalize hS3 : sn_pI (sn_pI (sn_pI S1 94 4 (nI (a.1 + 1))) 94 5 (nI (stb fb (r 0)))) 94 6 (nI (stb lb (r (t 0 0 - 1)))) = S3
      have A3 : agOr S S3 := by
        rw [← hS3]
        exact agOr_94 (agOr_94 (agOr_94 A1 ⟨by decide, by decide⟩ _) ⟨by decide, by decide⟩ _) ⟨by decide, by decide⟩ _
      have r3 : ∀ k, k ≠ 94 → S3.1 k = S1.1 k := fun k hk => by rw [← hS3, sI_row _ _ _ hk, sI_row _ _ _ hk, sI_row _ _ _ hk]
      have n4 : S3.1 94 4 = nI (a.1 + 1) := by rw [← hS3]; simp [sI_get]
      have n5 : S3.1 94 5 = nI (stb fb (r 0)) := by rw [← hS3]; simp [sI_get]
      have n6 : S3.1 94 6 = nI (stb lb (r (t 0 0 - 1))) := by rw [← hS3]; simp [sI_get]
      have n3 : S3.1 94 3 = S.1 94 3 := by rw [← hS3]; simp [sI_get]; rw [r1 94 (by decide)]
      have s97 : ∀ x y, x < t 0 0 → y < t 0 0 → S3.1 97 (6 * x + y) = nI (a.2.2.2.1 x y) := fun x y hx hy => by rw [r3 97 (by decide), r1 97 (by decide)]; exact a4 x y hx hy
      have s95 : ∀ i, i < t 0 0 → S3.1 95 i = nI (r i) := fun i hi => by rw [r3 95 (by decide)]; exact q95 i hi
      -- the end
      have fin : ∀ S4 : sn_S, agOr S S4 → (∀ k, k ≠ 97 → S4.1 k = S3.1 k) → (∀ x y, x < t 0 0 → y < t 0 0 → S4.1 97 (6 * x + y) = nI (a.2.2.2.1 x y + pr (t 0 0) x y r)) → Q S4 := by
        intro S4 B1 B2 B3
        refine k S4 B1 (by rw [B2 95 (by decide), r3 95 (by decide), r1 95 (by decide)]) (by rw [B2 94 (by decide), n3]) ⟨by rw [B2 94 (by decide), n4]; rfl, ⟨stb fb (r 0), stb_lt _ _ fb64 (by omega), by rw [B2 94 (by decide), n5], fun s hs => ?_⟩, ⟨stb lb (r (t 0 0 - 1)), stb_lt _ _ lb64 (by omega), by rw [B2 94 (by decide), n6], fun s hs => ?_⟩, B3, fun _ i hi => ?_⟩
        · show _ ↔ a.2.1 s + (if t 0 0 ≠ 0 ∧ r 0 = s then 1 else 0) ≠ 0
          rw [bt_stb fb (r 0) s fb64 (by omega) hs]
          by_cases e : s = r 0
          · rw [if_pos e, if_pos ⟨h0, e.symm⟩]
            exact ⟨fun _ => by omega, fun _ => rfl⟩
          · rw [if_neg e, if_neg (fun h => e h.2.symm), Nat.add_zero, a2' s hs]
        · show _ ↔ a.2.2.1 s + (if t 0 0 ≠ 0 ∧ r (t 0 0 - 1) = s then 1 else 0) ≠ 0
          rw [bt_stb lb (r (t 0 0 - 1)) s lb64 (by omega) hs]
          by_cases e : s = r (t 0 0 - 1)
          · rw [if_pos e, if_pos ⟨h0, e.symm⟩]
            exact ⟨fun _ => by omega, fun _ => rfl⟩
          · rw [if_neg e, if_neg (fun h => e h.2.symm), Nat.add_zero, a3' s hs]
        · rw [B2 96 (by decide), r3 96 (by decide)]
          exact f1 i hi
      have X3 := RXt_Or hX A3
      -- the inner loop's sums
      let inn (i x y m : Nat) : Nat := sms (fun j => if i < j ∧ r i = x ∧ r j = y then 1 else 0) m
      refine sn_lp2_inv (fun v S4 => ∃ i : Nat, i ≤ t 0 0 ∧ v = nI i ∧ agOr S S4 ∧ (∀ k, k ≠ 97 → S4.1 k = S3.1 k) ∧ (∀ x y, x < t 0 0 → y < t 0 0 → S4.1 97 (6 * x + y) = nI (a.2.2.2.1 x y + sms (fun i => inn i x y (t 0 0)) i))) (fun v _ => 6 - v.toNatClampNeg) ?_ _ _ ⟨0, Nat.zero_le _, rfl, A3, fun _ _ => rfl, fun x y hx hy => by rw [s97 x y hx hy]; rfl⟩
      rintro rc v S4 ⟨i, hi, rfl, B1, B2, B3⟩ hrc
      rw [(RXt_Or hX B1).1, pn_leN (by omega) (by omega)]
      by_cases hie : i = t 0 0
      · subst hie
        exact bq_t (Nat.le_refl _) (fin S4 B1 B2 B3)
      · refine bq_f (by omega) ?_
        rw [show nI i + 1 = nI (i + 1) from pn_add i 1]
        have hri := hr i (by omega)
        refine sn_jn_by (fun k20 => ∀ S5, agOr S S5 → (∀ k, k ≠ 97 → S5.1 k = S3.1 k) → (∀ x y, x < t 0 0 → y < t 0 0 → S5.1 97 (6 * x + y) = nI (a.2.2.2.1 x y + sms (fun i => inn i x y (t 0 0)) (i + 1))) → k20 S5) (fun S5 C1 C2 C3 => hrc _ _ ⟨i + 1, by omega, rfl, C1, C2, C3⟩ (by rw [pn_nat (by omega), pn_nat (by omega)]; omega)) (fun k20 hk20 => ?_)
        have i0 : ∀ x y, inn i x y (i + 1) = 0 := by
          intro x y
          show sms _ (i + 1) = 0
          rw [sms_congr (g := fun _ => 0) (i + 1) (fun j hj => if_neg (fun h => by have := h.1; omega)), sms_zero]
        refine sn_lp2_inv (fun v S5 => ∃ j : Nat, i + 1 ≤ j ∧ j ≤ t 0 0 ∧ v = nI j ∧ agOr S S5 ∧ (∀ k, k ≠ 97 → S5.1 k = S3.1 k) ∧ (∀ x y, x < t 0 0 → y < t 0 0 → S5.1 97 (6 * x + y) = nI (a.2.2.2.1 x y + sms (fun i => inn i x y (t 0 0)) i + inn i x y j))) (fun v _ => 6 - v.toNatClampNeg) ?_ _ _ ⟨i + 1, Nat.le_refl _, by omega, rfl, B1, B2, fun x y hx hy => by rw [i0, Nat.add_zero]; exact B3 x y hx hy⟩
        rintro rc2 v S5 ⟨j, hij, hj, rfl, C1, C2, C3⟩ hrc2
        rw [(RXt_Or hX C1).1, pn_leN (by omega) (by omega)]
        by_cases hje : j = t 0 0
        · subst hje
          refine bq_t (Nat.le_refl _) (hk20 S5 C1 C2 (fun x y hx hy => ?_))
          rw [C3 x y hx hy]
          show nI (_ + _ + _) = nI (_ + (_ + _))
          rw [Nat.add_assoc]
        · refine bq_f (by omega) ?_
          have hrj := hr j (by omega)
          rw [pn_nat (n := i) (by omega), pn_nat (n := j) (by omega), C2 95 (by decide), s95 i (by omega), s95 j (by omega), show (6 : Int32) * nI (r i) = nI (6 * r i) from pn_mul 6 _, pn_add, pn_nat (n := 6 * r i + r j) (by omega), C3 (r i) (r j) hri hrj, show nI j + 1 = nI (j + 1) from pn_add j 1]
          refine ⟨pn_vp (by omega) (by decide), pn_vp (by omega) (by decide), pn_vp (by omega) (by decide), pn_vp (by omega) (by decide), hrc2 _ _ ⟨j + 1, by omega, by omega, rfl, agOr_I C1 ⟨by decide, by decide⟩ _ _, fun k hk => by rw [sI_row _ _ _ hk]; exact C2 k hk, fun x y hx hy => ?_⟩ (by rw [pn_nat (by omega), pn_nat (by omega)]; omega)⟩
          have hin : inn i x y (j + 1) = inn i x y j + (if i < j ∧ r i = x ∧ r j = y then 1 else 0) := rfl
          rw [sI_get, hin]
          by_cases e : x = r i ∧ y = r j
          · obtain ⟨rfl, rfl⟩ := e
            rw [if_pos ⟨rfl, rfl⟩, if_pos ⟨by omega, rfl, rfl⟩, show ∀ m, nI m + 1 = nI (m + 1) from fun m => pn_add m 1, Nat.add_assoc]
          · rw [if_neg (fun hh => e (by have := hh.2; omega)), if_neg (fun hh => e ⟨hh.2.1.symm, hh.2.2.symm⟩), Nat.add_zero]
            exact C3 x y hx hy
  · by_cases c : a.1 = 0
    · refine bq_u c ⟨cp_ok 6 (by decide), ?_⟩
      simp only [sn_lt]
      refine hk11 _ ⟨fun k h1 h2 h3 h4 => sA_row _ _ h3, fun j hj => by rw [sA_row _ _ (by decide)], rfl⟩ (fun k hk => sA_row _ _ hk) (fun i hi => ?_)
      rw [sA_eq, show (nI 0) = (0 : Int32) from rfl, cpy6 (by omega), hrow i hi]
      show _ = nI ((if a.1 = 0 then r else a.2.2.2.2) i)
      rw [if_pos c]
    · refine bq_v c (hk11 S (agOr_refl _) (fun _ _ => rfl) (fun i hi => ?_))
      show _ = nI ((if a.1 = 0 then r else a.2.2.2.2) i)
      rw [if_neg c]
      exact a5 c i hi
theorem x_triesO {w : sn_W} {t : gT} (hg : tG t) : ∀ (k d j A : Nat) (r : Nat → Nat) (a : gO) (S : sn_S), k < d → j + k = t 0 0 → A < 2 ^ t 0 0 → pc A + k = t 0 0 → RXt S t → (∀ i, i < j → S.1 95 i = nI (r i)) → (∀ i, i < j → r i < t 0 0) → RO S (t 0 0) a → a.1 + NP (okO t) (t 0 0) k A (2 ^ t 0 0 - 1) ≤ 60000 → ∀ Q : sn_S → Prop, (∀ S', agOr S S' → (∀ i, i < j → S'.1 95 i = S.1 95 i) → S'.1 94 3 = S.1 94 3 → RO S' (t 0 0) (trO (okO t) (t 0 0) (endS (t 0 0)) k j A r a) → Q S') → wpX8_tries w d (nI j) (nI A) S Q
  | 0, d + 1, j, A, r, a, S, _, hjk, hA, hpc, hX, hrow, hr, hR, hC, Q, k => by
    have hj : j = t 0 0 := by omega
    subst hj
    unfold wpX8_tries wpX8_triesF
    rw [hX.1]
    refine bq_u rfl (x_endsO hg hX hrow hr hR (by omega) (fun S' h1 h2 h3 h4 => k S' h1 (fun i _ => by rw [h2]) h3 h4))
  | n + 1, d + 1, j, A, r, a, S, hd, hjk, hA, hpc, hX, hrow, hr, hR, hC, Q, k => by
    have h6 := hg.1
    have hA64 : A < 64 := Nat.lt_of_lt_of_le hA (two_le h6).2
    have hadd : ∀ k j A r a, (trO (okO t) (t 0 0) (endS (t 0 0)) k j A r a).1 = a.1 + sO (okO t) (t 0 0) (fun _ => 1) k j A r := trO_add (π := fun a : gO => a.1) (φ := fun _ => 1) (fun r a => rfl)
    unfold wpX8_tries wpX8_triesF
    rw [hX.1]
    refine bq_v (fun e => by have := (pn_eqN (by omega) (by omega)).mp e; omega) ?_
    let w1 : Nat → Nat := fun s => if okO t A s = true then NP (okO t) (t 0 0) n (stb A s) (2 ^ t 0 0 - 1) else 0
    have hC' : a.1 + sms w1 (t 0 0) ≤ 60000 := hC
    refine sn_lp2_inv (fun i S1 => ∃ (s : Nat) (b : gO), s ≤ t 0 0 ∧ i = nI s ∧ agOr S S1 ∧ (∀ i, i < j → S1.1 95 i = S.1 95 i) ∧ S1.1 94 3 = S.1 94 3 ∧ RO S1 (t 0 0) b ∧ b.1 = a.1 + sms w1 s ∧ rng (fun s a => if okO t A s = true then trO (okO t) (t 0 0) (endS (t 0 0)) n (j + 1) (stb A s) (upN r j s) a else a) s (t 0 0 - s) b = trO (okO t) (t 0 0) (endS (t 0 0)) (n + 1) j A r a) (fun i _ => 6 - i.toNatClampNeg) ?_ _ _ ⟨0, a, Nat.zero_le _, rfl, agOr_refl _, fun _ _ => rfl, rfl, hR, rfl, rfl⟩
    rintro rc i S1 ⟨s, b, hs, rfl, B1, B2, B3, B4, B5, B6⟩ hrc
    have X1 := RXt_Or hX B1
    rw [X1.1, pn_leN (by omega) (by omega)]
    by_cases hse : s = t 0 0
    · subst hse
      refine bq_t (Nat.le_refl _) ?_
      rw [Nat.sub_self] at B6
      have B6' : b = trO (okO t) (t 0 0) (endS (t 0 0)) (n + 1) j A r a := B6
      rw [B6'] at B4
      exact k S1 B1 B2 B3 B4
    · refine bq_f (by omega) ?_
      have hlt : s < t 0 0 := by omega
      refine x_isOf hA64 (by omega) ?_
      have hbt := bt_lt A s
      have eu : rng (fun s a => if okO t A s = true then trO (okO t) (t 0 0) (endS (t 0 0)) n (j + 1) (stb A s) (upN r j s) a else a) s (t 0 0 - s) b = rng (fun s a => if okO t A s = true then trO (okO t) (t 0 0) (endS (t 0 0)) n (j + 1) (stb A s) (upN r j s) a else a) (s + 1) (t 0 0 - (s + 1)) (if okO t A s = true then trO (okO t) (t 0 0) (endS (t 0 0)) n (j + 1) (stb A s) (upN r j s) b else b) := by
        rw [show t 0 0 - s = (t 0 0 - (s + 1)) + 1 by omega]
        rfl
      rw [eu] at B6
      have hsm : sms w1 (s + 1) = sms w1 s + w1 s := rfl
      have hle : sms w1 (s + 1) ≤ sms w1 (t 0 0) := by
        have mono : ∀ m, sms w1 (s + 1) ≤ sms w1 (s + 1 + m) := by
          intro m
          induction m with
          | zero => exact Nat.le_refl _
          | succ m ih =>
            have : sms w1 (s + 1 + (m + 1)) = sms w1 (s + 1 + m) + w1 (s + 1 + m) := rfl
            omega
        have := mono (t 0 0 - (s + 1))
        rw [show s + 1 + (t 0 0 - (s + 1)) = t 0 0 by omega] at this
        exact this
      refine sn_jn_by (fun k15 => ∀ S2 b2, agOr S S2 → (∀ i, i < j → S2.1 95 i = S.1 95 i) → S2.1 94 3 = S.1 94 3 → RO S2 (t 0 0) b2 → b2.1 = a.1 + sms w1 (s + 1) → rng (fun s a => if okO t A s = true then trO (okO t) (t 0 0) (endS (t 0 0)) n (j + 1) (stb A s) (upN r j s) a else a) (s + 1) (t 0 0 - (s + 1)) b2 = trO (okO t) (t 0 0) (endS (t 0 0)) (n + 1) j A r a → k15 S2) (fun S2 b2 c1 c2 c3 c4 c5 c6 => ?_) (fun k15 hk15 => ?_)
      · rw [show nI s + 1 = nI (s + 1) from pn_add s 1]
        exact hrc _ _ ⟨s + 1, b2, by omega, rfl, c1, c2, c3, c4, c5, c6⟩ (by rw [pn_nat (by omega), pn_nat (by omega)]; omega)
      · have no : okO t A s = false → k15 S1 := by
          intro h
          have hw : w1 s = 0 := by
            show (if okO t A s = true then _ else 0) = 0
            rw [if_neg (by rw [h]; decide)]
          rw [if_neg (by rw [h]; decide)] at B6
          exact hk15 S1 b B1 B2 B3 B4 (by rw [hsm, hw, Nat.add_zero]; exact B5) B6
        by_cases c0 : bt A s = 0
        · refine bq_u (by rw [c0]; rfl) (x_may hg X1 hA64 (by omega) (fun hc => bq_v i1 ?_) (fun hc => bq_u rfl (no ?_)))
          · have ho : okO t A s = true := by
              unfold okO
              rw [c0, hc]
              rfl
            have hw : w1 s = NP (okO t) (t 0 0) n (stb A s) (2 ^ t 0 0 - 1) := by
              show (if okO t A s = true then _ else 0) = _
              rw [if_pos ho]
            rw [if_pos ho] at B6
            obtain ⟨s1, s2⟩ := stb_ok (t 0 0) A s h6 hA hlt c0
            rw [pn_nat (n := j) (by omega), bits_stb _ hA64 _ (by omega), show nI j + 1 = nI (j + 1) from pn_add j 1]
            refine ⟨pn_vp (by omega) (by decide), ?_⟩
            simp only [sn_lt]
            have B1' : agOr S (sn_pI S1 95 j (nI s)) := agOr_I B1 ⟨by decide, by decide⟩ _ _
            have R1' : RO (sn_pI S1 95 j (nI s)) (t 0 0) b := by
              unfold RO at B4 ⊢
              rw [sI_row _ _ _ (show (94 : Nat) ≠ 95 by decide), sI_row _ _ _ (show (97 : Nat) ≠ 95 by decide), sI_row _ _ _ (show (96 : Nat) ≠ 95 by decide)]
              exact B4
            refine x_triesO hg n d (j + 1) (stb A s) (upN r j s) b _ (by omega) (by omega) s1 (by omega) (RXt_Or hX B1') (fun i hi => ?_) (fun i hi => ?_) R1' (by rw [← hw]; omega) _ (fun S2 C1 C2 C3 C4 => ?_)
            · rw [sI_get]
              unfold upN
              by_cases e : i = j
              · rw [if_pos ⟨rfl, e⟩, if_pos e]
              · rw [if_neg (fun hh => e hh.2), if_neg e, B2 i (by omega)]
                exact hrow i (by omega)
            · unfold upN
              split
              · exact hlt
              · exact hr i (by omega)
            · refine hk15 S2 _ (agOr_trans B1' C1) (fun i hi => ?_) (by rw [C3, sI_row _ _ _ (by decide)]; exact B3) C4 ?_ B6
              · rw [C2 i (by omega), sI_get, if_neg (by omega)]
                exact B2 i hi
              · rw [hadd, sO_all h6 okO_bt n (j + 1) _ _ s1 (by omega), hsm, hw]
                omega
          · unfold okO
            rw [hc]
            simp
        · refine bq_v (fun e => c0 ((pn_eqN (j := 0) (by omega) (by decide)).mp e)) (no ?_)
          unfold okO
          simp [c0]
/-- all that x's orders hold -/
def ordA (t : gT) : gO := trO (okO t) (t 0 0) (endS (t 0 0)) (t 0 0) 0 0 (fun _ => 0) (0, fun _ => 0, fun _ => 0, fun _ _ => 0, fun _ => 0)
def CO (S : sn_S) (t : gT) : Prop := S.1 94 3 = S.1 0 8 → RO S (t 0 0) (ordA t)
theorem x_looksO {w : sn_W} {S : sn_S} {t : gT} (hg : tG t) (hX : RXt S t) (hC : CO S t) {Q : sn_S → Prop} (k : ∀ S', agOr S S' → S'.1 94 3 = S.1 0 8 → RO S' (t 0 0) (ordA t) → Q S') : wpX8_looks w S Q := by
  unfold wpX8_looks
  have h6 := hg.1
  by_cases c : S.1 94 3 = S.1 0 8
  · exact bq_u c (k S (agOr_refl _) c (hC c))
  · refine bq_v c ?_
    simp only [sn_lt]
    have r0 : ∀ i, (sn_pI (sn_pI (sn_pI (sn_pI S 94 3 (S.1 0 8)) 94 4 0) 94 5 0) 94 6 0).1 94 i = if i = 6 then 0 else if i = 5 then 0 else if i = 4 then 0 else if i = 3 then S.1 0 8 else S.1 94 i := by
      intro i
      simp [sI_get]
    have A0 : agOr S (sn_pI (sn_pI (sn_pI (sn_pI S 94 3 (S.1 0 8)) 94 4 0) 94 5 0) 94 6 0) := agOr_94 (agOr_94 (agOr_94 (agOr_94 (agOr_refl _) ⟨by decide, by decide⟩ _) ⟨by decide, by decide⟩ _) ⟨by decide, by decide⟩ _) ⟨by decide, by decide⟩ _
    generalize sn_pI (sn_pI (sn_pI (sn_pI S 94 3 (S.1 0 8)) 94 4 0) 94 5 0) 94 6 0 = S0 at r0 A0 ⊢
    refine sn_jn_by (fun k15 => ∀ S', agOr S S' → S'.1 94 = S0.1 94 → (∀ j, j < 36 → S'.1 97 j = 0) → k15 S') (fun S1 A1 e94 e97 => ?_) (fun k15 hk15 => ?_)
    · have hb := NP_small (f := okO t) (n := t 0 0) (k := t 0 0) (A := 0) (B := 2 ^ t 0 0 - 1) h6 h6
      refine x_triesO hg (t 0 0) 8 0 0 (fun _ => 0) (0, fun _ => 0, fun _ => 0, fun _ _ => 0, fun _ => 0) S1 (by omega) (by omega) (Nat.two_pow_pos _) (by rw [show pc 0 = 0 from rfl]; omega) (RXt_Or hX A1) (fun i hi => absurd hi (Nat.not_lt_zero _)) (fun i hi => absurd hi (Nat.not_lt_zero _)) ⟨by rw [e94, r0]; rfl, ⟨0, by decide, by rw [e94, r0]; rfl, fun s _ => by simp [bt]⟩, ⟨0, by decide, by rw [e94, r0]; rfl, fun s _ => by simp [bt]⟩, fun x y hx hy => by rw [e97 _ (by omega)]; rfl, fun h => absurd rfl h⟩ (by show 0 + _ ≤ 60000; omega) Q (fun S2 B1 _ B3 B4 => ?_)
      exact k S2 (agOr_trans A1 B1) (by rw [B3, e94, r0]; rfl) B4
    · refine sn_lp2_inv (fun i S' => ∃ n : Nat, n ≤ 36 ∧ i = nI n ∧ agOr S S' ∧ S'.1 94 = S0.1 94 ∧ (∀ j, j < n → S'.1 97 j = 0)) (fun i _ => 36 - i.toNatClampNeg) ?_ _ _ ⟨0, Nat.zero_le _, rfl, A0, rfl, fun j hj => absurd hj (Nat.not_lt_zero _)⟩
      rintro rc i S2 ⟨n, hn, rfl, B1, B2, B3⟩ hrc
      rw [show (36 : Int32) = nI 36 from rfl, pn_leN (by omega) (by omega)]
      by_cases hne : n = 36
      · subst hne
        exact bq_t (Nat.le_refl _) (hk15 S2 B1 B2 B3)
      · refine bq_f (by omega) ⟨pn_vp (by omega) (by decide), ?_⟩
        rw [pn_nat (n := n) (by omega), show nI n + 1 = nI (n + 1) from pn_add n 1]
        refine hrc _ _ ⟨n + 1, by omega, rfl, agOr_I B1 ⟨by decide, by decide⟩ _ _, by rw [sI_row _ _ _ (by decide)]; exact B2, fun j hj => ?_⟩ (by rw [pn_nat (by omega), pn_nat (by omega)]; omega)
        rw [sI_get]
        by_cases e : j = n
        · rw [if_pos ⟨rfl, e⟩]
        · rw [if_neg (fun hh => e hh.2)]
          exact B3 j (by omega)
/-- what they tell -/
theorem ordA_M {t : gT} (hg : tG t) : (ordA t).1 = NP (okO t) (t 0 0) (t 0 0) 0 (2 ^ t 0 0 - 1) := by
  have h6 := hg.1
  unfold ordA
  rw [trO_add (π := fun a : gO => a.1) (φ := fun _ => 1) (fun r a => rfl), sO_all h6 okO_bt _ 0 0 _ (Nat.two_pow_pos _) (by rw [show pc 0 = 0 from rfl]; omega)]
  exact Nat.zero_add _
theorem ordA_F {t : gT} (hg : tG t) {s : Nat} (hs : s < t 0 0) : (ordA t).2.1 s = if okO t 0 s = true then NP (okO t) (t 0 0) (t 0 0 - 1) (stb 0 s) (2 ^ t 0 0 - 1) else 0 := by
  have h6 := hg.1
  have h0 : t 0 0 ≠ 0 := by omega
  unfold ordA
  rw [trO_add (π := fun a : gO => a.2.1 s) (φ := fun r => if t 0 0 ≠ 0 ∧ r 0 = s then 1 else 0) (fun r a => rfl)]
  have e : (fun r : Nat → Nat => if t 0 0 ≠ 0 ∧ r 0 = s then 1 else 0) = fun r => if r 0 = s then 1 else 0 := by
    funext r
    by_cases c : r 0 = s
    · rw [if_pos ⟨h0, c⟩, if_pos c]
    · rw [if_neg (fun h => c h.2), if_neg c]
  rw [e, sO_first h6 (by omega) hs okO_bt]
  exact Nat.zero_add _
theorem ordA_L {t : gT} (hg : tG t) {s : Nat} (hs : s < t 0 0) : (ordA t).2.2.1 s = if okO t (clr (2 ^ t 0 0 - 1) s) s = true then NP (okO t) (t 0 0) (t 0 0 - 1) 0 (clr (2 ^ t 0 0 - 1) s) else 0 := by
  have h6 := hg.1
  have h0 : t 0 0 ≠ 0 := by omega
  unfold ordA
  rw [trO_add (π := fun a : gO => a.2.2.1 s) (φ := fun r => if t 0 0 ≠ 0 ∧ r (t 0 0 - 1) = s then 1 else 0) (fun r a => rfl)]
  have e : (fun r : Nat → Nat => if t 0 0 ≠ 0 ∧ r (t 0 0 - 1) = s then 1 else 0) = fun r => if r (t 0 0 - 1) = s then 1 else 0 := by
    funext r
    by_cases c : r (t 0 0 - 1) = s
    · rw [if_pos ⟨h0, c⟩, if_pos c]
    · rw [if_neg (fun h => c h.2), if_neg c]
  rw [e]
  have := sO_last (f := okO t) (n := t 0 0) (s := s) h6 hs okO_bt (t 0 0 - 1) 0 0 (fun _ => 0) (Nat.two_pow_pos _) (by rw [show pc 0 = 0 from rfl]; omega) (by omega)
  rw [show t 0 0 - 1 + 1 = t 0 0 by omega] at this
  rw [this]
  exact Nat.zero_add _
theorem ordA_A {t : gT} (hg : tG t) {x y : Nat} (hx : x < t 0 0) (hy : y < t 0 0) (hxy : x ≠ y) : (ordA t).2.2.2.1 x y = NP (fab (okO t) x y) (t 0 0) (t 0 0) 0 (2 ^ t 0 0 - 1) := by
  have h6 := hg.1
  unfold ordA
  rw [trO_add (π := fun a : gO => a.2.2.2.1 x y) (φ := pr (t 0 0) x y) (fun r a => rfl)]
  have := (sO_pr (f := okO t) (n := t 0 0) (a := x) (b := y) h6 hx hy hxy okO_bt (t 0 0) 0 0 (fun _ => 0) (Nat.two_pow_pos _) (by rw [show pc 0 = 0 from rfl]; omega) (by omega) (pre_0 _ _)).2 (fun h => absurd h.1 (by simp [bt]))
  rw [this]
  exact Nat.zero_add _
theorem ordA_R {t : gT} (hg : tG t) (h : (ordA t).1 ≠ 0) : (ordA t).2.2.2.2 = gr (okO t) (t 0 0) (t 0 0) 0 0 (fun _ => 0) := by
  have h6 := hg.1
  rw [ordA_M hg] at h
  unfold ordA
  exact (trO_first (M := fun a : gO => a.1) (fr := fun a : gO => a.2.2.2.2) (fun r a => rfl) (fun r a => rfl) h6 okO_bt (t 0 0) 0 0 (fun _ => 0) (0, fun _ => 0, fun _ => 0, fun _ _ => 0, fun _ => 0) (Nat.two_pow_pos _) (by rw [show pc 0 = 0 from rfl]; omega)).2 rfl h
