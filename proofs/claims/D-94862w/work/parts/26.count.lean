/-! THE PLAIN LAW, eighth part: force(law), count(what), row() -/
set_option maxRecDepth 100000
/-- how many laws x holds -/
def LXn (S : sn_S) (n : Nat) : Prop := ∃ (a : Nat) (fs : List Value), S.2.2.1 2 7 = some a ∧ sn_oO S a 9 fs ∧ fs[2]? = some (.int (nI n))
theorem x_lawsN {w : sn_W} {S : sn_S} {n : Nat} (h : LXn S n) {Q : Int32 → Prop} (k : Q (nI n)) : sn_nn (S.2.2.1 2 7) (fun a15 => ((∃ fs, sn_oO S a15 9 fs) ∧ wpJ2_size w a15 S Q)) := by
  obtain ⟨a, fs, h1, h2, h3⟩ := h
  exact ⟨a, h1, ⟨fs, h2⟩, fs, _, h2, h3, k⟩
theorem o_force {w : sn_W} {SX SM : sn_S} {t : gT} {n : Nat} (hn : n ≤ 6) (hL : LXn SX n) (hLM : SM.1 2 2 = nI n) (hX : RXt SX t) (hM : RMt SM t) (a : Int32) {K : Int32 → sn_S → Int32 → sn_S → Prop}
    (hok : ∀ p : Nat, p ≤ n → K (nI (t 0 3) - nI 1) (xTold (sn_pI SX 2 11 (nI p - nI 1))) (nI (t 0 3) - nI 1) (mTold (sn_pI (mT SM) 2 3 (nI p - nI 1))))
    (hno : K (-2) (xRef SX (-2) 2) (-2) (mRef (mT SM) (-2) 2)) : wpX0_force w a SX (fun r S1 => wpX9_force a SM (fun r2 S2 => K r S1 r2 S2)) := by
  simp only [wpX0_force, wpX9_force, sn_lt]
  have hM' := RMt_mT hM
  have hL2 : (sn_pI SM 0 0 0).1 2 (Int32.toNatClampNeg 2) = nI n := by rw [z2]; exact (congrFun (mT_2 SM) 2).trans hLM
  have m3 : ∀ p : Nat, p ≤ n → ∀ Q : Int32 → sn_S → Prop, Q (nI (t 0 3) - nI 1) (mTold (sn_pI (mT SM) 2 3 (nI p - nI 1))) → wpX9_change 3 (nI p - nI 1) (sn_pI SM 0 0 0) Q := by
    intro p hp Q h
    refine m_change (i := 3) (by omega) ?_
    have e : (sn_pI SM 0 0 0).1 2 3 = nI (t 0 3) - nI 1 := hM'.2.2.2.1
    rw [e]
    exact h
  by_cases h1 : a = -1
  · subst h1
    refine sn_jn_by (fun k => k) ?_ (fun k hk => bq_t rfl hk)
    rw [hX.2.2.2.1]
    refine x_told (w := w) ?_
    refine sn_jn_by (fun k => k) (m3 0 (Nat.zero_le _) _ (hok 0 (Nat.zero_le _))) (fun k hk => bq_t rfl hk)
  · by_cases h : ∃ p : Nat, p < n ∧ a = nI p
    · obtain ⟨p, hp, rfl⟩ := h
      have e : nI p = nI (p + 1) - nI 1 := by rw [pn_sub (by omega)]; rfl
      refine sn_jn_by (fun k => k) ?_ (fun k hk => bq_f h1 (x_lawsN (w := w) hL (x_inY ((sm_in (by omega) _).mpr ⟨p, hp, rfl⟩) (bq_v i1 hk))))
      rw [hX.2.2.2.1]
      refine x_told (w := w) ?_
      refine sn_jn_by (fun k => k) ?_ (fun k hk => bq_f h1 ⟨v2, ?_⟩)
      · rw [e]
        exact m3 (p + 1) (by omega) _ (hok (p + 1) (by omega))
      · rw [hL2, sm_wide _ (by omega)]
        exact m_inY 0 (nI n - 1) rfl rfl ((sm_in (by omega) _).mpr ⟨p, hp, rfl⟩) (bq_n i1 hk)
    · refine sn_jn_by (fun _ => True) trivial (fun k _ => bq_f h1 (x_lawsN (w := w) hL (x_inN (fun hh => h ((sm_in (by omega) _).mp hh)) (bq_u rfl (x_refuse (i := 2) (by decide) (by decide) ?_)))))
      refine sn_jn_by (fun _ => True) trivial (fun k _ => bq_f h1 ⟨v2, ?_⟩)
      rw [hL2, sm_wide _ (by omega)]
      exact m_inN 0 (nI n - 1) rfl rfl (fun hh => h ((sm_in (by omega) _).mp hh)) (bq_z rfl (m_tellN (S := mT SM) (i := 2) (by decide) (by decide) (by decide) hno))
/-- sums -/
def sms (f : Nat → Nat) : Nat → Nat
  | 0 => 0
  | n + 1 => sms f n + f n
theorem sms_le {f : Nat → Nat} {b : Nat} : ∀ n, (∀ k, k < n → f k ≤ b) → sms f n ≤ b * n
  | 0, _ => by simp [sms]
  | n + 1, h => by
    have h1 := sms_le n (fun k hk => h k (by omega))
    have h2 := h n (by omega)
    simp only [sms, Nat.mul_succ]
    omega
theorem sw_mk {x : Int32} {D : Prop} : ∀ (L : List Prop) (lo : Nat), (∀ (j : Nat) (A : Prop), L[j]? = some A → x.toInt = ((lo + j : Nat) : Int) → A) → ((∀ j : Nat, j < L.length → x.toInt ≠ ((lo + j : Nat) : Int)) → D) → sn_sw x (lo : Int) L D
  | [], _, _, h => h (fun j hj => absurd hj (Nat.not_lt_zero _))
  | A :: L, lo, h1, h2 => by
    refine ⟨fun h => h1 0 A rfl h, fun h => ?_⟩
    have := sw_mk (x := x) (D := D) L (lo + 1) (fun j A hA hx => h1 (j + 1) A (by simpa using hA) (by rw [hx]; congr 1; omega)) (fun hh => h2 (fun j hj => ?_))
    · simpa using this
    · match j, hj with
      | 0, _ => simpa using h
      | j + 1, hj =>
        have := hh j (by simpa using hj)
        intro e
        apply this
        rw [e]
        congr 1
        omega
/-- a switch from 0 on: N cases, each with its answer -/
theorem sw_of {x : Int32} {D : Prop} (L : List Prop) (hl : L.length < 100) (h1 : ∀ j : Nat, x = nI j → ∀ A, L[j]? = some A → A) (h0 : (¬ ∃ j : Nat, j < L.length ∧ x = nI j) → D) : sn_sw x 0 L D := by
  refine sw_mk (x := x) L 0 (fun j A hA hx => h1 j ?_ A hA) (fun h => h0 ?_)
  · have : j < L.length := by
      rcases Nat.lt_or_ge j L.length with h | h
      · exact h
      · rw [List.getElem?_eq_none h] at hA
        exact absurd hA (by simp)
    rw [pn_eq, pn_int (by omega), hx, Nat.zero_add]
  · rintro ⟨j, hj, rfl⟩
    exact h j hj (by rw [pn_int (by omega), Nat.zero_add])
/-- what count answers -/
def cv (t : gT) (n tp : Nat) (R : Nat → Int32) : Nat → Int32
  | 0 => nI (t 0 0)
  | 1 => nI (t 0 1)
  | 2 => nI n
  | 3 => nI (t 0 2)
  | 4 => nI (sms (t 9) 96)
  | 5 => nI (sms (t 3) 96)
  | 6 => nI tp
  | 7 => R 1
  | 8 => R 2
  | 9 => R 3
  | 10 => R 5
  | 11 => R 6
  | 12 => nI (t 0 3) - nI 1
  | 13 => nI (t 7 0)
  | 14 => nI (t 7 1)
  | _ => -1
theorem x_count {w : sn_W} {S : sn_S} {t : gT} {n tp : Nat} (hg : tG t) (hL : LXn S n) (ht : S.1 0 5 = nI tp) (hX : RXt S t) (a : Int32) {Q : Int32 → Prop} (h1 : ∀ j : Nat, j < 15 → a = nI j → Q (cv t n tp (S.1 1) j)) (h0 : (¬ ∃ j : Nat, j < 15 ∧ a = nI j) → Q (-1)) : wpX0_count w a S Q := by
  simp only [wpX0_count, sn_lt]
  have hd : ∀ k, k < 96 → t 3 k ≤ 9 := hg.2.2.2.2.1
  have hs : ∀ k, k < 96 → t 9 k ≤ 1 := hg.2.2.2.2.2.2.2.2.2.2
  refine sn_jn_by (fun k12 => k12 (nI (sms (t 9) 96)) (nI (sms (t 3) 96))) ?_ (fun k12 hk12 => ?_)
  · refine sn_jn_by (fun k13 => (∃ j : Nat, 7 ≤ j ∧ j ≤ 9 ∧ a = nI j) → k13) (fun ⟨j, h7, h9, e⟩ => ?_) (fun k13 hk13 => ?_)
    · subst e
      rw [show nI j - 6 = nI (j - 6) from pn_sub (b := 6) (by omega), pn_nat (by omega)]
      refine ⟨pn_vp (by omega) (by decide), ?_⟩
      have := h1 j (by omega) rfl
      rcases (show j = 7 ∨ j = 8 ∨ j = 9 by omega) with rfl | rfl | rfl <;> exact this
    refine sn_jn_by (fun k14 => (∃ j : Nat, 10 ≤ j ∧ j ≤ 11 ∧ a = nI j) → k14) (fun ⟨j, h7, h9, e⟩ => ?_) (fun k14 hk14 => ?_)
    · subst e
      rw [show nI j - 5 = nI (j - 5) from pn_sub (b := 5) (by omega), pn_nat (by omega)]
      refine ⟨pn_vp (by omega) (by decide), ?_⟩
      have := h1 j (by omega) rfl
      rcases (show j = 10 ∨ j = 11 by omega) with rfl | rfl <;> exact this
    refine sn_jn_by (fun k15 => (∃ j : Nat, 13 ≤ j ∧ j ≤ 14 ∧ a = nI j) → k15) (fun ⟨j, h7, h9, e⟩ => ?_) (fun k15 hk15 => ?_)
    · subst e
      rw [show nI j - 13 = nI (j - 13) from pn_sub (b := 13) (by omega), pn_nat (by omega), hX.2.2.2.2.2.2.2.2.1 _ (by omega)]
      refine ⟨pn_vp (by omega) (by decide), ?_⟩
      have := h1 j (by omega) rfl
      rcases (show j = 13 ∨ j = 14 by omega) with rfl | rfl <;> exact this
    refine sw_of _ (by simp) (fun j e A hA => ?_) h0
    have hj : j < 15 := by
      rcases Nat.lt_or_ge j 15 with h | h
      · exact h
      · rw [List.getElem?_eq_none h] at hA
        exact absurd hA (by simp)
    have hv := h1 j hj e
    match j, hj with
    | 0, _ => cases hA; rw [hX.1]; exact hv
    | 1, _ => cases hA; rw [hX.2.1]; exact hv
    | 2, _ => cases hA; exact x_lawsN (w := w) hL hv
    | 3, _ => cases hA; rw [hX.2.2.1]; exact hv
    | 4, _ => cases hA; exact hv
    | 5, _ => cases hA; exact hv
    | 6, _ => cases hA; rw [ht]; exact hv
    | 7, _ => cases hA; exact hk13 ⟨_, by omega, by omega, e⟩
    | 8, _ => cases hA; exact hk13 ⟨_, by omega, by omega, e⟩
    | 9, _ => cases hA; exact hk13 ⟨_, by omega, by omega, e⟩
    | 10, _ => cases hA; exact hk14 ⟨_, by omega, by omega, e⟩
    | 11, _ => cases hA; exact hk14 ⟨_, by omega, by omega, e⟩
    | 12, _ => cases hA; rw [hX.2.2.2.1]; exact hv
    | 13, _ => cases hA; exact hk15 ⟨_, by omega, by omega, e⟩
    | 14, _ => cases hA; exact hk15 ⟨_, by omega, by omega, e⟩
  · refine sn_lp3_inv (fun a b i => ∃ k : Nat, k ≤ 96 ∧ i = nI k ∧ a = nI (sms (t 9) k) ∧ b = nI (sms (t 3) k)) (fun _ _ i => 96 - i.toNatClampNeg) ?_ 0 0 0 ⟨0, by omega, rfl, rfl, rfl⟩
    rintro rc a b i ⟨k, hk, rfl, rfl, rfl⟩ hrc
    rw [show (96 : Int32) = nI 96 from rfl, pn_leN (by omega) (by omega)]
    by_cases hke : k = 96
    · subst hke
      exact bq_t (Nat.le_refl _) hk12
    · refine bq_f (by omega) ?_
      rw [pn_nat (by omega), hX.2.2.2.2.2.2.2.2.2.2 k (by omega), hX.2.2.2.2.1 k (by omega), show nI k + 1 = nI (k + 1) from pn_add k 1]
      refine ⟨pn_vp (by omega) (by decide), ?_⟩
      have hs1 := hs k (by omega)
      have go : rc (nI (sms (t 9) k) + nI (t 9 k)) (nI (sms (t 3) k) + nI (t 3 k)) (nI (k + 1)) := by
        rw [pn_add, pn_add]
        refine hrc _ _ _ ⟨k + 1, by omega, rfl, rfl, rfl⟩ ?_
        rw [pn_nat (by omega), pn_nat (by omega)]
        omega
      refine sn_jn_by (fun k23 => k23 (nI (t 9 k))) ⟨pn_vp (by omega) (by decide), go⟩ (fun k23 hk23 => ?_)
      refine ⟨fun h => ?_, fun h => ?_⟩
      · rw [h] at hk23
        exact hk23
      · have : t 9 k = 1 := by
          have : t 9 k ≠ 0 := fun e => h (by rw [e]; rfl)
          omega
        rw [this] at hk23
        exact hk23
theorem m_count {S : sn_S} {t : gT} {n tp : Nat} (hg : tG t) (hL : S.1 2 2 = nI n) (ht : S.1 0 8 = nI tp) (hM : RMt S t) (a : Int32) {Q : Int32 → sn_S → Prop} (h1 : ∀ j : Nat, j < 15 → a = nI j → Q (cv t n tp (S.1 1) j) (mT S)) (h0 : (¬ ∃ j : Nat, j < 15 ∧ a = nI j) → Q (-1) (mT S)) : wpX9_count a S Q := by
  simp only [wpX9_count, sn_lt]
  rw [show sn_pI S 0 0 0 = mT S from rfl]
  have hM' := RMt_mT hM
  have m1 : (mT S).1 1 = S.1 1 := by rw [mT, sI_row _ _ _ (by decide)]
  have m08 : (mT S).1 0 8 = nI tp := by rw [mT, sI_get, if_neg (by omega)]; exact ht
  have m22 : (mT S).1 2 2 = nI n := (congrFun (mT_2 S) 2).trans hL
  have vm : ∀ k : Nat, k < 5680 → vp_in (nI k) 5680 := fun k hk => pn_vp hk (by decide)
  have v7 : ∀ k : Nat, k < 7 → vp_in (nI k) 7 := fun k hk => pn_vp hk (by decide)
  have hd : ∀ k, k < 96 → t 3 k ≤ 9 := hg.2.2.2.2.1
  have hs : ∀ k, k < 96 → t 9 k ≤ 1 := hg.2.2.2.2.2.2.2.2.2.2
  refine sn_jn_by (fun k12 => k12 (nI (sms (t 9) 96)) (nI (sms (t 3) 96))) ?_ (fun k12 hk12 => ?_)
  · refine sw_of _ (by simp) (fun j e A hA => ?_) h0
    have hj : j < 15 := by
      rcases Nat.lt_or_ge j 15 with h | h
      · exact h
      · rw [List.getElem?_eq_none h] at hA
        exact absurd hA (by simp)
    have hv := h1 j hj e
    match j, hj with
    | 0, _ => cases hA; refine ⟨vm 0 (by omega), ?_⟩; rw [show (mT S).1 2 (Int32.toNatClampNeg 0) = nI (t 0 0) from hM'.1]; exact hv
    | 1, _ => cases hA; refine ⟨vm 1 (by omega), ?_⟩; rw [show (mT S).1 2 (Int32.toNatClampNeg 1) = nI (t 0 1) from hM'.2.1]; exact hv
    | 2, _ => cases hA; refine ⟨vm 2 (by omega), ?_⟩; rw [show (mT S).1 2 (Int32.toNatClampNeg 2) = nI n from m22]; exact hv
    | 3, _ => cases hA; refine ⟨vm 4 (by omega), ?_⟩; rw [show (mT S).1 2 (Int32.toNatClampNeg 4) = nI (t 0 2) from hM'.2.2.1]; exact hv
    | 4, _ => cases hA; exact hv
    | 5, _ => cases hA; exact hv
    | 6, _ => cases hA; rw [m08]; exact hv
    | 7, _ => cases hA; refine ⟨v7 1 (by omega), ?_⟩; rw [m1]; exact hv
    | 8, _ => cases hA; refine ⟨v7 2 (by omega), ?_⟩; rw [m1]; exact hv
    | 9, _ => cases hA; refine ⟨v7 3 (by omega), ?_⟩; rw [m1]; exact hv
    | 10, _ => cases hA; refine ⟨v7 5 (by omega), ?_⟩; rw [m1]; exact hv
    | 11, _ => cases hA; refine ⟨v7 6 (by omega), ?_⟩; rw [m1]; exact hv
    | 12, _ => cases hA; refine ⟨vm 3 (by omega), ?_⟩; rw [show (mT S).1 2 (Int32.toNatClampNeg 3) = nI (t 0 3) - nI 1 from hM'.2.2.2.1]; exact hv
    | 13, _ => cases hA; refine ⟨vm 5 (by omega), ?_⟩; rw [show (mT S).1 2 (Int32.toNatClampNeg 5) = nI (t 7 0) from hM'.2.2.2.2.2.2.2.2.1 0 (by omega)]; exact hv
    | 14, _ => cases hA; refine ⟨vm 6 (by omega), ?_⟩; rw [show (mT S).1 2 (Int32.toNatClampNeg 6) = nI (t 7 1) from hM'.2.2.2.2.2.2.2.2.1 1 (by omega)]; exact hv
  · refine sn_lp3_inv (fun a b i => ∃ k : Nat, k ≤ 96 ∧ i = nI k ∧ a = nI (sms (t 9) k) ∧ b = nI (sms (t 3) k)) (fun _ _ i => 96 - i.toNatClampNeg) ?_ 0 0 0 ⟨0, by omega, rfl, rfl, rfl⟩
    rintro rc a b i ⟨k, hk, rfl, rfl, rfl⟩ hrc
    rw [show (96 : Int32) = nI 96 from rfl, pn_leN (by omega) (by omega)]
    by_cases hke : k = 96
    · subst hke
      exact bq_t (Nat.le_refl _) hk12
    · refine bq_f (by omega) ?_
      rw [show (176 : Int32) + nI k = nI (176 + k) from pn_add 176 k, show (80 : Int32) + nI k = nI (80 + k) from pn_add 80 k, pn_nat (by omega), pn_nat (by omega), hM'.2.2.2.2.2.2.2.2.2.2 k (by omega), hM'.2.2.2.2.1 k (by omega), pn_add, pn_add, show nI k + 1 = nI (k + 1) from pn_add k 1]
      refine ⟨vm _ (by omega), vm _ (by omega), hrc _ _ _ ⟨k + 1, by omega, rfl, rfl, rfl⟩ ?_⟩
      rw [pn_nat (by omega), pn_nat (by omega)]
      omega
/-- count(what) -/
theorem o_count {w : sn_W} {SX SM : sn_S} {t : gT} {n tp : Nat} (hg : tG t) (hL : LXn SX n) (hLM : SM.1 2 2 = nI n) (hR : ∀ i, i < 7 → SX.1 1 i = SM.1 1 i) (ht : SX.1 0 5 = nI tp ∧ SM.1 0 8 = nI tp) (hX : RXt SX t) (hM : RMt SM t) (a : Int32) {K : Int32 → Int32 → sn_S → Prop}
    (hK : ∀ r : Int32, K r r (mT SM)) : wpX0_count w a SX (fun r => wpX9_count a SM (fun r2 S2 => K r r2 S2)) := by
  have hcv : ∀ j : Nat, cv t n tp (SX.1 1) j = cv t n tp (SM.1 1) j := by
    intro j
    unfold cv
    split <;> first | rfl | exact hR _ (by decide)
  refine x_count hg hL ht.1 hX a (fun j hj e => ?_) (fun hn => ?_)
  · refine m_count hg hLM ht.2 hM a (fun j2 hj2 e2 => ?_) (fun hn => absurd ⟨j, hj, e⟩ hn)
    have : j = j2 := (pn_eqN (by omega) (by omega)).mp (e.symm.trans e2)
    subst this
    rw [hcv]
    exact hK _
  · exact m_count hg hLM ht.2 hM a (fun j2 hj2 e2 => absurd ⟨j2, hj2, e2⟩ hn) (fun _ => hK _)
