/-! THE PLAIN LAW, seventh part: drop(crossing) -/
set_option maxRecDepth 100000
theorem sA_row (S : sn_S) {k : Nat} (f : Nat → Int32) {k' : Nat} (h : k' ≠ k) : (sn_pA S k f).1 k' = S.1 k' := sn_pA_ne S f h
theorem sA_eq (S : sn_S) (k : Nat) (f : Nat → Int32) : (sn_pA S k f).1 k = f := sn_pA_eq S k f
theorem sA_I (S : sn_S) (k i : Nat) (v : Int32) (f : Nat → Int32) : sn_pI (sn_pA S k f) k i v = sn_pA S k (upd f i v) := by
  unfold sn_pI sn_pA
  simp only [Prod.mk.injEq, and_true]
  funext j
  by_cases h : j = k <;> simp [va_up, h]
theorem sA_self (S : sn_S) (k : Nat) : sn_pA S k (S.1 k) = S := by
  unfold sn_pA
  obtain ⟨a, b⟩ := S
  simp only [Prod.mk.injEq, and_true]
  funext j
  by_cases h : j = k <;> simp [va_up, h]
/-- a row, moved down by two from a on up to b -/
def dn (f : Nat → Int32) (a b : Nat) : Nat → Int32 := fun j => if a ≤ j ∧ j < b then f (j + 2) else f j
theorem dn_0 (f : Nat → Int32) (a : Nat) : dn f a a = f := by
  funext j
  unfold dn
  rw [if_neg (by omega)]
theorem dn_succ (f : Nat → Int32) {a b : Nat} (h : a ≤ b) : upd (dn f a b) b (dn f a b (b + 2)) = dn f a (b + 1) := by
  funext j
  unfold upd dn
  by_cases e : j = b
  · subst e
    rw [if_pos rfl, if_neg (by omega), if_pos (by omega)]
  · rw [if_neg e]
    by_cases e2 : a ≤ j ∧ j < b
    · rw [if_pos e2, if_pos (by omega)]
    · rw [if_neg e2, if_neg (by omega)]
def tD (t : gT) (p : Nat) : gT := fun k i => if k = 8 then (if 2 * p ≤ i then t 8 (i + 2) else t 8 i) else if k = 0 ∧ i = 2 then t 0 2 - 1 else t k i
theorem RXt_drop {S : sn_S} {t : gT} (h : RXt S t) {p : Nat} (hp : p < t 0 2) : RXt (sn_pI (sn_pA S 8 (dn (S.1 8) (2 * p) (2 * t 0 2 - 2))) 2 10 (nI (t 0 2 - 1))) (tD t p) := by
  unfold RXt at h ⊢
  obtain ⟨h1, h2, h3, h4, h5, h6, h7, h8, h9, h10, h11⟩ := h
  have r : ∀ k : Nat, k ≠ 8 → (sn_pA S 8 (dn (S.1 8) (2 * p) (2 * t 0 2 - 2))).1 k = S.1 k := fun k hk => sA_row S _ hk
  have e : (sn_pA S 8 (dn (S.1 8) (2 * p) (2 * t 0 2 - 2))).1 8 = dn (S.1 8) (2 * p) (2 * t 0 2 - 2) := sA_eq _ _ _
  simp only [sI_get]
  refine ⟨by rw [r 2 (by decide)]; simpa [tD] using h1, by rw [r 2 (by decide)]; simpa [tD] using h2, by simp [tD], by rw [r 2 (by decide)]; simpa [tD] using h4, fun c hc => by rw [r 3 (by decide)]; simpa [tD] using h5 c hc, fun c hc => by rw [r 4 (by decide)]; simpa [tD] using h6 c hc, fun c hc => by rw [r 5 (by decide)]; simpa [tD] using h7 c hc, fun c hc => by rw [r 6 (by decide)]; simpa [tD] using h8 c hc, fun c hc => by rw [r 7 (by decide)]; simpa [tD] using h9 c hc, fun c hc => ?_, fun c hc => by rw [r 9 (by decide)]; simpa [tD] using h11 c hc⟩
  have hc : c < 2 * (t 0 2 - 1) := by simpa [tD] using hc
  rw [e]
  simp [tD, dn]
  by_cases hcp : 2 * p ≤ c
  · rw [if_pos (by omega), if_pos hcp]
    exact h10 _ (by omega)
  · rw [if_neg (by omega), if_neg hcp]
    exact h10 _ (by omega)
theorem RMt_drop {S : sn_S} {t : gT} (hg : tG t) (h : RMt S t) {p : Nat} (hp : p < t 0 2) : RMt (sn_pI (sn_pA S 2 (dn (S.1 2) (52 + 2 * p) 74)) 2 4 (nI (t 0 2 - 1))) (tD t p) := by
  unfold RMt at h ⊢
  obtain ⟨h1, h2, h3, h4, h5, h6, h7, h8, h9, h10, h11⟩ := h
  have h12 := hg.2.2.1
  have e : ∀ j : Nat, (sn_pI (sn_pA S 2 (dn (S.1 2) (52 + 2 * p) 74)) 2 4 (nI (t 0 2 - 1))).1 2 j = if j = 4 then nI (t 0 2 - 1) else dn (S.1 2) (52 + 2 * p) 74 j := by
    intro j
    rw [sM_get, sA_eq]
  have far : ∀ j : Nat, j ≠ 4 → (j < 52 ∨ 74 ≤ j) → (sn_pI (sn_pA S 2 (dn (S.1 2) (52 + 2 * p) 74)) 2 4 (nI (t 0 2 - 1))).1 2 j = S.1 2 j := by
    intro j h1 h2
    rw [e, if_neg h1]
    unfold dn
    rw [if_neg (by omega)]
  have td : ∀ k i : Nat, k ≠ 8 → ¬ (k = 0 ∧ i = 2) → tD t p k i = t k i := by
    intro k i h1 h2
    unfold tD
    rw [if_neg h1, if_neg h2]
  refine ⟨by rw [far 0 (by omega) (by omega), td _ _ (by omega) (by omega)]; exact h1, by rw [far 1 (by omega) (by omega), td _ _ (by omega) (by omega)]; exact h2, by rw [e]; simp [tD], by rw [far 3 (by omega) (by omega), td _ _ (by omega) (by omega)]; exact h4, fun c hc => by rw [far _ (by omega) (by omega), td _ _ (by omega) (by omega)]; exact h5 c hc, fun c hc => by rw [far _ (by omega) (by omega), td _ _ (by omega) (by omega)]; exact h6 c hc, fun c hc => by rw [far _ (by omega) (by omega), td _ _ (by omega) (by omega)]; exact h7 c hc, fun c hc => by rw [far _ (by omega) (by omega), td _ _ (by omega) (by omega)]; exact h8 c hc, fun c hc => by rw [far _ (by omega) (by omega), td _ _ (by omega) (by omega)]; exact h9 c hc, fun c hc => ?_, fun c hc => by rw [far _ (by omega) (by omega), td _ _ (by omega) (by omega)]; exact h11 c hc⟩
  have hc : c < 2 * (t 0 2 - 1) := by simpa [tD] using hc
  rw [e, if_neg (by omega)]
  unfold dn tD
  rw [if_pos (rfl : (8:Nat) = 8)]
  by_cases hcp : 2 * p ≤ c
  · rw [if_pos (by omega), if_pos hcp, Nat.add_assoc]
    exact h10 _ (by omega)
  · rw [if_neg (by omega), if_neg hcp]
    exact h10 _ (by omega)
theorem o_drop {w : sn_W} {SX SM : sn_S} {t : gT} (hg : tG t) (hX : RXt SX t) (hM : RMt SM t) (a : Int32) {K : Int32 → sn_S → Int32 → sn_S → Prop}
    (hok : ∀ p : Nat, p < t 0 2 → K (nI (t 0 2 - 1)) (xTold (sn_pI (sn_pA SX 8 (dn (SX.1 8) (2 * p) (2 * t 0 2 - 2))) 2 10 (nI (t 0 2 - 1)))) (nI (t 0 2 - 1)) (mTold (sn_pI (sn_pA (mT SM) 2 (dn (SM.1 2) (52 + 2 * p) 74)) 2 4 (nI (t 0 2 - 1)))))
    (hno : K (-2) (xRef SX (-2) 2) (-2) (mRef (mT SM) (-2) 2)) : wpX0_drop w a SX (fun r S1 => wpX9_drop a SM (fun r2 S2 => K r S1 r2 S2)) := by
  simp only [wpX0_drop, wpX9_drop, sn_lt]
  have hM' := RMt_mT hM
  have h12 := hg.2.2.1
  rw [hX.2.2.1]
  by_cases h : ∃ p : Nat, p < t 0 2 ∧ a = nI p
  · obtain ⟨p, hp, rfl⟩ := h
    refine x_inY ((sm_in (by omega) _).mpr ⟨p, hp, rfl⟩) (bq_v i1 ?_)
    rw [show (2 : Int32) * nI p = nI (2 * p) from pn_mul 2 p]
    refine sn_jn_by (fun k => k (sn_pA SX 8 (dn (SX.1 8) (2 * p) (2 * t 0 2 - 2)))) ?_ (fun k hk => ?_)
    · have s1 : (sn_pA SX 8 (dn (SX.1 8) (2 * p) (2 * t 0 2 - 2))).1 2 10 = nI (t 0 2) := by rw [sA_row _ _ (by decide)]; exact hX.2.2.1
      rw [s1, show nI (t 0 2) - 1 = nI (t 0 2 - 1) from pn_sub (b := 1) (by omega), sI_get, if_pos ⟨rfl, rfl⟩]
      refine x_told (w := w) ?_
      rw [show (sn_pI SM 0 0 0).1 2 (Int32.toNatClampNeg 4) = nI (t 0 2) from hM'.2.2.1, sm_wide _ (by omega)]
      refine ⟨v4, m_inY 0 (nI (t 0 2) - 1) rfl rfl ((sm_in (by omega) _).mpr ⟨p, hp, rfl⟩) (bq_v i1 ?_)⟩
      rw [show (52 : Int32) + nI (2 * p) = nI (52 + 2 * p) from pn_add 52 _]
      refine sn_jn_by (fun k => k (sn_pA (mT SM) 2 (dn (SM.1 2) (52 + 2 * p) 74))) ?_ (fun k hk => ?_)
      · have s4 : (sn_pA (mT SM) 2 (dn (SM.1 2) (52 + 2 * p) 74)).1 2 (Int32.toNatClampNeg 4) = nI (t 0 2) := by
          rw [sA_eq, z4]
          unfold dn
          rw [if_neg (by omega)]
          exact hM.2.2.1
        refine ⟨v4, v4, v4, ?_⟩
        rw [s4, show nI (t 0 2) - 1 = nI (t 0 2 - 1) from pn_sub (b := 1) (by omega), z4, sI_get, if_pos ⟨rfl, rfl⟩]
        exact m_tellP ((pn_leN (i := 0) (by decide) (by omega)).mpr (Nat.zero_le _)) (hok p hp)
      · refine sn_lp2_inv (fun i S => ∃ m : Nat, 52 + 2 * p ≤ m ∧ m ≤ 74 ∧ i = nI m ∧ S = sn_pA (mT SM) 2 (dn (SM.1 2) (52 + 2 * p) m)) (fun i _ => 74 - i.toNatClampNeg) ?_ _ _ ⟨52 + 2 * p, by omega, by omega, rfl, ?_⟩
        · rintro rc i S ⟨m, h1, h2, rfl, rfl⟩ hrc
          refine ⟨fun h => ?_, fun h => ?_⟩
          · rw [show (74 : Int32) = nI 74 from rfl, pn_leN (by omega) (by omega)] at h
            have : m = 74 := by omega
            subst this
            exact hk
          · rw [show (74 : Int32) = nI 74 from rfl, pn_leN (by omega) (by omega)] at h
            rw [show nI m + 2 = nI (m + 2) from pn_add m 2, show nI m + 1 = nI (m + 1) from pn_add m 1, pn_nat (n := m + 2) (by omega), pn_nat (n := m) (by omega), sA_eq, sA_I, dn_succ _ h1]
            refine ⟨pn_vp (by omega) (by decide), pn_vp (by omega) (by decide), hrc _ _ ⟨m + 1, by omega, by omega, rfl, rfl⟩ ?_⟩
            rw [pn_nat (by omega), pn_nat (by omega)]
            omega
        · rw [dn_0, show SM.1 2 = (mT SM).1 2 from (mT_2 SM).symm, sA_self]
          rfl
    · refine sn_lp2_inv (fun i S => ∃ m : Nat, 2 * p ≤ m ∧ m ≤ 2 * t 0 2 - 2 ∧ i = nI m ∧ S = sn_pA SX 8 (dn (SX.1 8) (2 * p) m)) (fun i _ => 24 - i.toNatClampNeg) ?_ _ _ ⟨2 * p, by omega, by omega, rfl, ?_⟩
      · rintro rc i S ⟨m, h1, h2, rfl, rfl⟩ hrc
        rw [sA_row _ _ (by decide), hX.2.2.1, show (2 : Int32) * nI (t 0 2) = nI (2 * t 0 2) from pn_mul 2 _, show nI m + 2 = nI (m + 2) from pn_add m 2, pn_leN (by omega) (by omega)]
        refine ⟨fun h => ?_, fun h => ?_⟩
        · have : m = 2 * t 0 2 - 2 := by omega
          subst this
          exact hk
        · rw [show nI m + 1 = nI (m + 1) from pn_add m 1, pn_nat (n := m + 2) (by omega), pn_nat (n := m) (by omega), sA_eq, sA_I, dn_succ _ h1]
          refine ⟨pn_vp (by omega) (by decide), pn_vp (by omega) (by decide), hrc _ _ ⟨m + 1, by omega, by omega, rfl, rfl⟩ ?_⟩
          rw [pn_nat (by omega), pn_nat (by omega)]
          omega
      · rw [dn_0, sA_self]
  · refine x_inN (fun hh => h ((sm_in (by omega) _).mp hh)) (bq_u rfl (x_refuse (i := 2) (by decide) (by decide) ?_))
    rw [show (sn_pI SM 0 0 0).1 2 (Int32.toNatClampNeg 4) = nI (t 0 2) from hM'.2.2.1, sm_wide _ (by omega)]
    exact ⟨v4, m_inN 0 (nI (t 0 2) - 1) rfl rfl (fun hh => h ((sm_in (by omega) _).mp hh)) (bq_u rfl (m_tellN (S := mT SM) (i := 2) (by decide) (by decide) (by decide) hno))⟩
