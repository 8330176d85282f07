/-! THE PLAIN LAW, eighteenth part: x's lantern -/
set_option maxRecDepth 100000
/-- but for a Lantern's rows (kl to kl + 33), around, and the longs -/
def agL (kl : Nat) (S S' : sn_S) : Prop := (∀ k, k ≠ 15 → (k < kl ∨ kl + 33 < k) → S'.1 k = S.1 k) ∧ S'.2.2 = S.2.2
theorem agL_refl (kl : Nat) (S : sn_S) : agL kl S S := ⟨fun _ _ _ => rfl, rfl⟩
theorem agL_trans {kl : Nat} {S1 S2 S3 : sn_S} (h : agL kl S1 S2) (k : agL kl S2 S3) : agL kl S1 S3 := ⟨fun i h1 h2 => (k.1 i h1 h2).trans (h.1 i h1 h2), k.2.trans h.2⟩
theorem agL_I {kl : Nat} {S S' : sn_S} (h : agL kl S S') {j : Nat} (hj : j ≤ 33) (i : Nat) (v : Int32) : agL kl S (sn_pI S' (kl + j) i v) := ⟨fun k h1 h2 => by rw [sI_row _ _ _ (by omega)]; exact h.1 k h1 h2, h.2⟩
theorem agL_A {kl : Nat} {S S' : sn_S} (h : agL kl S S') {j : Nat} (hj : j ≤ 33) (f : Nat → Int32) : agL kl S (sn_pA S' (kl + j) f) := ⟨fun k h1 h2 => by rw [sA_row _ _ (by omega)]; exact h.1 k h1 h2, h.2⟩
theorem agL_W {kl j : Nat} {S S' : sn_S} (hj : j ≤ 29) (h : agW (kl + j) S S') : agL kl S S' := ⟨fun k h1 h2 => h.1 k h1 (by omega), h.2.2⟩
theorem RXt_L {kl : Nat} {S S' : sn_S} {t : gT} (hk : 16 ≤ kl) (h : RXt S t) (a : agL kl S S') : RXt S' t := by
  unfold RXt at h ⊢
  rw [a.1 2 (by decide) (by omega), a.1 3 (by decide) (by omega), a.1 4 (by decide) (by omega), a.1 5 (by decide) (by omega), a.1 6 (by decide) (by omega), a.1 7 (by decide) (by omega), a.1 8 (by decide) (by omega), a.1 9 (by decide) (by omega)]
  exact h
/-- the lantern's numbers -/
def RA (kl : Nat) (S : sn_S) (H : Nat) (a : gA) : Prop := S.1 kl 10 = nI a.2.2.1 ∧ (a.1 = 0 ↔ a.2.2.1 = 0) ∧ a.1 ≤ 7 ∧ a.2.1 ≤ 1000 ∧ (a.1 ≠ 0 → S.1 kl 8 = nI (a.1 - 1) ∧ S.1 kl 9 = nI a.2.1 ∧ ∀ h, h < H → S.1 (kl + 3) h = nI (a.2.2.2 h) - nI 1)
theorem wn_le {t : gT} (hg : tG t) (g : gT) (sn : Nat) : wn t g sn ≤ 6 := by
  have h6 := hg.1
  have := sms_le (f := fun s => if bt sn s = 1 ∧ g 2 s ≠ 0 then 1 else 0) (b := 1) (t 0 0) (fun k _ => by split <;> omega)
  unfold wn
  omega
theorem sms_lt {f : Nat → Nat} {b : Nat} : ∀ n, (∀ k, k < n → f k ≤ b) → ∀ m, m ≤ n → sms f m ≤ b * n := by
  intro n h m hm
  have h1 := sms_le m (fun k hk => h k (by omega)) (b := b)
  have h2 : b * m ≤ b * n := Nat.mul_le_mul_left b hm
  omega
theorem wsum_le {t g : gT} (hg : tG t) (hG : gG t g) (sn : Nat) : wsum t g sn ≤ 366 := by
  have h6 := hg.1
  have := sms_le (f := fun s => if bt sn s = 1 ∧ g 2 s ≠ 0 then g 2 s - 1 else 0) (b := 61) (t 0 0) (fun k hk => by have := hG.2.1 k hk; split <;> omega)
  unfold wsum
  omega
theorem x_ends {w : sn_W} {S : sn_S} {t g : gT} {kl kw sn H : Nat} {p : Nat → Nat} {a : gA} (hk : 16 ≤ kl) (hkw : kl + 4 ≤ kw) (hg : tG t) (hX : RXt S t) (hW : RW kw S t g) (hG : gG t g) (hsn : S.1 kl 7 = nI sn) (hs64 : sn < 64) (hH : H ≤ 5) (hrow : ∀ h, h < H → S.1 (kl + 2) h = nI (p h) - nI 1) (hA : RA kl S H a) (hC : a.2.2.1 < 10000) {Q : sn_S → Prop} (k : ∀ S', agL kl S S' → (∀ j, j ≠ 0 → j ≠ 3 → S'.1 (kl + j) = S.1 (kl + j)) → (∀ i, i ≠ 8 → i ≠ 9 → i ≠ 10 → S'.1 kl i = S.1 kl i) → RA kl S' H (wgh (wn t g sn) (wsum t g sn) p a) → Q S') : wpX5_ends w kl kw S Q := by
  unfold wpX5_ends
  have h6 := hg.1
  obtain ⟨a1, a2, a3, a4, a5⟩ := hA
  have hwn := wn_le hg g sn
  have hws := wsum_le hg hG sn
  refine sn_jn_by (fun k12 => k12 (nI (wn t g sn)) (nI (wsum t g sn))) ?_ (fun k12 hk12 => ?_)
  · generalize wn t g sn = n at hwn k ⊢
    generalize wsum t g sn = su at hws k ⊢
    have q0 : nI a.2.2.1 = 0 ↔ a.2.2.1 = 0 := pn_eqN (j := 0) (by omega) (by decide)
    let better : Prop := a.1 < n + 1 ∨ (n + 1 = a.1 ∧ su < a.2.1)
    have dk : ∀ i j : Nat, i ≠ j → ¬ (kl + 0 = kl ∧ i = j) := fun i j h hh => h hh.2
    refine sn_jn_by (fun k14 => (better → k14 1) ∧ (¬ better → k14 0)) ⟨fun bb => ?_, fun bb => ?_⟩ (fun k14 hk14 => ?_)
    · -- the best so far
      have ew : wgh n su p a = (n + 1, su, 1, p) := by
        unfold wgh
        rw [if_pos bb]
      rw [ew] at k
      generalize hS23 : sn_pA (sn_pI (sn_pI (sn_pI S kl 8 (nI n)) kl 9 (nI su)) kl 10 0) (kl + 3) (va_cpy ((sn_pI (sn_pI (sn_pI S kl 8 (nI n)) kl 9 (nI su)) kl 10 0).1 (kl + 2)) ((sn_pI (sn_pI (sn_pI S kl 8 (nI n)) kl 9 (nI su)) kl 10 0).1 (kl + 3)) (0 : Int32).toNatClampNeg (0 : Int32).toNatClampNeg (5 : Int32).toNatClampNeg) = S23
      have r0 : ∀ i, S23.1 kl i = if i = 10 then 0 else if i = 9 then nI su else if i = 8 then nI n else S.1 kl i := by
        intro i
        rw [← hS23, sA_row _ _ (by omega), sI_get, sI_get, sI_get]
        simp
      have r3 : ∀ h, h < H → S23.1 (kl + 3) h = nI (p h) - nI 1 := by
        intro h hh
        rw [← hS23, sA_eq, show (5 : Int32).toNatClampNeg = (nI 5).toNatClampNeg from rfl, cpy_lt (n := 5) (by omega) (by decide), sI_row _ _ _ (by omega), sI_row _ _ _ (by omega), sI_row _ _ _ (by omega)]
        exact hrow h hh
      have rj : ∀ j, j ≠ 0 → j ≠ 3 → S23.1 (kl + j) = S.1 (kl + j) := by
        intro j h0 h3
        rw [← hS23, sA_row _ _ (by omega), sI_row _ _ _ (by omega), sI_row _ _ _ (by omega), sI_row _ _ _ (by omega)]
      have rL : agL kl S S23 := by
        rw [← hS23]
        exact agL_A (agL_I (j := 0) (agL_I (j := 0) (agL_I (j := 0) (agL_refl _ _) (by omega) _ _) (by omega) _ _) (by omega) _ _) (by omega) _
      refine sn_jn_by (fun k16 => k16 S23) ?_ (fun k16 hk16 => bq_f (by decide) ?_)
      · rw [r0, r0, r0]
        simp only [if_true, if_neg (show ¬ (8 : Nat) = 10 by decide), if_neg (show ¬ (8 : Nat) = 9 by decide), if_neg (show ¬ (9 : Nat) = 10 by decide)]
        refine bq_u trivial (bq_u trivial (k _ (agL_I (j := 0) rL (by omega) _ _) (fun j h0 h3 => by rw [sI_row _ _ _ (by omega)]; exact rj j h0 h3) (fun i h8 h9 h10 => ?_) ?_))
        · rw [sI_get, if_neg (fun h => h10 h.2), r0, if_neg h10, if_neg h9, if_neg h8]
        · refine ⟨by rw [sI_get, if_pos ⟨rfl, rfl⟩]; rfl, by simp, by simp; omega, by simp; omega, fun _ => ⟨?_, ?_, fun h hh => ?_⟩⟩
          · rw [sI_get, if_neg (by omega), r0]
            simp
          · rw [sI_get, if_neg (by omega), r0]
            simp
          · rw [sI_row _ _ _ (by omega)]
            exact r3 h hh
      · simp only [sn_lt]
        rw [hS23]
        exact ⟨cp_ok 5 (by decide), hk16⟩
    · have h1 : ¬ a.1 < n + 1 := fun h => bb (Or.inl h)
      have h2 : ¬ (n + 1 = a.1 ∧ su < a.2.1) := fun h => bb (Or.inr h)
      obtain ⟨e8, e9, e3⟩ := a5 (by omega)
      have fin : ∀ (a' : gA) (v : Int32), wgh n su p a = a' → a'.1 = a.1 → a'.2.1 = a.2.1 → a'.2.2.2 = a.2.2.2 → nI a.2.2.1 + v = nI a'.2.2.1 → (a'.1 = 0 ↔ a'.2.2.1 = 0) → Q (sn_pI S kl 10 (S.1 kl 10 + v)) := by
        intro a' v h1 h2 h3 h4 h5 h6
        rw [h1] at k
        refine k _ (agL_I (j := 0) (agL_refl _ _) (by omega) _ _) (fun j h0 h3 => by rw [sI_row _ _ _ (by omega)]) (fun i h8 h9 h10 => by rw [sI_get, if_neg (fun h => h10 h.2)]) ⟨by rw [sI_get, if_pos ⟨rfl, rfl⟩, a1, h5], h6, by omega, by omega, fun _ => ⟨?_, ?_, fun h hh => ?_⟩⟩
        · rw [sI_get, if_neg (by omega), h2]
          exact e8
        · rw [sI_get, if_neg (by omega), h3]
          exact e9
        · rw [sI_row _ _ _ (by omega), h4]
          exact e3 h hh
      refine sn_jn_by (fun k16 => k16 S) ?_ (fun k16 hk16 => bq_t rfl hk16)
      rw [e8, e9, pn_eqN (by omega) (by omega), pn_eqN (by omega) (by omega)]
      by_cases c1 : n + 1 = a.1
      · by_cases c2 : su = a.2.1
        · refine bq_u (by omega) (bq_u c2 (fin (a.1, a.2.1, a.2.2.1 + 1, a.2.2.2) 1 ?_ rfl rfl rfl (pn_add _ 1) (by simp; omega)))
          unfold wgh
          rw [if_neg bb, if_pos ⟨c1, c2⟩]
        · refine bq_u (by omega) (bq_v c2 (fin a 0 ?_ rfl rfl rfl (pn_add _ 0) a2))
          unfold wgh
          rw [if_neg bb, if_neg (fun h => c2 h.2)]
      · refine bq_v (by omega) (fin a 0 ?_ rfl rfl rfl (pn_add _ 0) a2)
        unfold wgh
        rw [if_neg bb, if_neg (fun h => c1 h.1)]
    · refine sn_jn_by (fun k24 => better → k24) hk14.1 (fun k24 hk24 => ?_)
      rw [a1, show (0 : Int32) = nI 0 from rfl, pn_eqN (by omega) (by decide)]
      by_cases c0 : a.2.2.1 = 0
      · refine bq_t c0 (hk24 (Or.inl ?_))
        have := a2.mpr c0
        omega
      · refine bq_f c0 ?_
        have hne : a.1 ≠ 0 := fun h => c0 (a2.mp h)
        obtain ⟨e8, e9, e3⟩ := a5 hne
        rw [e8, e9, pn_ltN (by omega) (by omega), pn_eqN (by omega) (by omega), pn_leN (by omega) (by omega)]
        by_cases c1 : a.1 - 1 < n
        · exact bq_t c1 (hk24 (Or.inl (by omega)))
        · refine bq_f c1 (sn_jn_by (fun k25 => ¬ better → k25) hk14.2 (fun k25 hk25 => ?_))
          by_cases c2 : n = a.1 - 1
          · refine bq_u c2 ?_
            by_cases c3 : a.2.1 ≤ su
            · refine bq_t c3 (hk25 ?_)
              rintro (h | h) <;> omega
            · exact bq_f c3 (hk24 (Or.inr ⟨by omega, by omega⟩))
          · refine bq_v c2 (hk25 ?_)
            rintro (h | h) <;> omega
  · unfold wn wsum at hk12
    unfold wn at hwn
    unfold wsum at hws
    refine sn_lp3_inv (fun x y i => ∃ n : Nat, n ≤ t 0 0 ∧ i = nI n ∧ x = nI (sms (fun s => if bt sn s = 1 ∧ g 2 s ≠ 0 then 1 else 0) n) ∧ y = nI (sms (fun s => if bt sn s = 1 ∧ g 2 s ≠ 0 then g 2 s - 1 else 0) n)) (fun _ _ i => 6 - i.toNatClampNeg) ?_ _ _ _ ⟨0, Nat.zero_le _, rfl, rfl, rfl⟩
    rintro rc x y i ⟨n, hn, rfl, rfl, rfl⟩ hrc
    rw [hX.1, pn_leN (by omega) (by omega)]
    by_cases hne : n = t 0 0
    · subst hne
      exact bq_t (Nat.le_refl _) hk12
    · have hlt : n < t 0 0 := by omega
      refine bq_f (by omega) ?_
      rw [hsn]
      refine x_isOf hs64 (by omega) ?_
      have hbt := bt_lt sn n
      have r2 := hG.2.1 n hlt
      refine sn_jn_by (fun k33 => k33 (nI (sms (fun s => if bt sn s = 1 ∧ g 2 s ≠ 0 then 1 else 0) (n + 1))) (nI (sms (fun s => if bt sn s = 1 ∧ g 2 s ≠ 0 then g 2 s - 1 else 0) (n + 1)))) ?_ (fun k33 hk33 => ?_)
      · rw [show nI n + 1 = nI (n + 1) from pn_add n 1]
        exact hrc _ _ _ ⟨n + 1, by omega, rfl, rfl, rfl⟩ (by rw [pn_nat (by omega), pn_nat (by omega)]; omega)
      · simp only [sms] at hk33
        by_cases c1 : bt sn n = 0
        · refine bq_t (by rw [c1]; rfl) ?_
          rw [if_neg (by omega), if_neg (by omega)] at hk33
          exact hk33
        · refine bq_f (fun e => c1 ((pn_eqN (j := 0) (by omega) (by decide)).mp e)) ⟨pn_vp (by omega) (by decide), ?_⟩
          rw [pn_nat (n := n) (by omega), hW.2.1 n hlt]
          by_cases c2 : g 2 n = 0
          · refine bq_u ((sp_m1 (by omega)).mpr c2) ?_
            rw [if_neg (by omega), if_neg (by omega)] at hk33
            exact hk33
          · refine bq_v (fun e => c2 ((sp_m1 (by omega)).mp e)) ⟨pn_vp (by omega) (by decide), ?_⟩
            rw [if_pos ⟨by omega, c2⟩, if_pos ⟨by omega, c2⟩] at hk33
            simp only [sn_lt]
            rw [sp_s c2, pn_add]
            rw [show nI (sms (fun s => if bt sn s = 1 ∧ g 2 s ≠ 0 then 1 else 0) n) + 1 = nI (sms (fun s => if bt sn s = 1 ∧ g 2 s ≠ 0 then 1 else 0) n + 1) from pn_add _ 1]
            exact hk33
theorem x_goes {w : sn_W} {S : sn_S} {t g : gT} {F : gF} {kl h sp : Nat} (hkl : kl = 22 ∨ kl = 56) (hg : tG t) (hX : RXt S t) (hF : RFx w S t F) (hW : RW (kl + 4 + 5 * h) S t g) (hG : gG t g) (hh : h < 5) (hsp : sp ≤ t 0 1) {Q : sn_S → Prop} (k : ∀ S', agW (kl + 4 + 5 * (h + 1)) S S' → RW (kl + 4 + 5 * (h + 1)) S' t (hour t F h sp g) → Q S') : wpX5_goes w kl (nI h) (nI sp - nI 1) S Q := by
  unfold wpX5_goes
  rw [show nI h + 1 = nI (h + 1) from pn_add h 1, pn_nat (n := h + 1) (by omega), pn_nat (n := h) (by omega)]
  have iW : ∀ j, j ≤ 5 → isW (kl + 4 + 5 * j) = true := by
    intro j hj
    rcases hkl with rfl | rfl <;> (rcases (show j = 0 ∨ j = 1 ∨ j = 2 ∨ j = 3 ∨ j = 4 ∨ j = 5 by omega) with rfl | rfl | rfl | rfl | rfl | rfl <;> decide)
  simp only [sn_lt]
  refine ⟨pn_vp (by omega) (by decide), iW _ (by omega), pn_vp (by omega) (by decide), iW _ (by omega), ?_⟩
  refine x_takes (by omega) (by omega) hg hW (fun S1 A1 W1 => ⟨pn_vp (by omega) (by decide), iW _ (by omega), ?_⟩)
  refine x_hour (by omega) hg (RXt_W (by omega) hX A1) (RFx_ag hF A1.2.2) W1 hG hh hsp (fun S2 A2 W2 => k S2 (agW_trans A1 A2) W2)
theorem tr_C {N : Nat} {leaf : (Nat → Nat) → gA → gA} (hl : ∀ p a, (leaf p a).2.2.1 ≤ a.2.2.1 + 1) : ∀ (k h : Nat) (p : Nat → Nat) (a : gA), (tr N leaf k h p a).2.2.1 ≤ a.2.2.1 + (N + 1) ^ k
  | 0, h, p, a => by
    have := hl p a
    simpa [tr] using this
  | k + 1, h, p, a => by
    have gen : ∀ n lo a, (rng (fun sp a => tr N leaf k (h + 1) (upN p h sp) a) lo n a).2.2.1 ≤ a.2.2.1 + n * (N + 1) ^ k := by
      intro n
      induction n with
      | zero => intro lo a; simp [rng]
      | succ n ih =>
        intro lo a
        have h1 := ih (lo + 1) (tr N leaf k (h + 1) (upN p h lo) a)
        have h2 := tr_C (N := N) hl k (h + 1) (upN p h lo) a
        have h3 : (n + 1) * (N + 1) ^ k = n * (N + 1) ^ k + (N + 1) ^ k := Nat.succ_mul _ _
        have e : (rng (fun sp a => tr N leaf k (h + 1) (upN p h sp) a) lo (n + 1) a).2.2.1 = (rng (fun sp a => tr N leaf k (h + 1) (upN p h sp) a) (lo + 1) n (tr N leaf k (h + 1) (upN p h lo) a)).2.2.1 := rfl
        omega
    have := gen (N + 1) 0 a
    rw [Nat.pow_succ, Nat.mul_comm ((N + 1) ^ k)]
    exact this
theorem wgh_C (n s : Nat) (p : Nat → Nat) (a : gA) : (wgh n s p a).2.2.1 ≤ a.2.2.1 + 1 := by
  unfold wgh
  split
  · simp
  · split
    · simp
    · omega
theorem le_sp : ∀ N, N < 8 → ∀ s, s < 8 → (nI N ≤ nI s - nI 1 ↔ N < s) := by decide +kernel
theorem sp_next (s : Nat) : nI s - nI 1 + 1 = nI (s + 1) - nI 1 := by
  rw [pn_sub (a := s + 1) (by omega)]
  exact Int32.sub_add_cancel _ _
theorem agL_walks {kl j : Nat} {S S' : sn_S} (h : agW (kl + j) S S') {i : Nat} (hi : i < j) (hk : 16 ≤ kl) : S'.1 (kl + i) = S.1 (kl + i) := h.1 _ (by omega) (by omega)
theorem x_tries {w : sn_W} {t : gT} {F : gF} {kl sn H : Nat} (hkl : kl = 22 ∨ kl = 56) (hg : tG t) (hs64 : sn < 64) (hH : H ≤ 5) : ∀ (k d h : Nat) (p : Nat → Nat) (a : gA) (S : sn_S), k < d → h + k = H → RXt S t → RFx w S t F → RW (kl + 4 + 5 * h) S t (gp t F p h) → (∀ j, j < h → S.1 (kl + 2) j = nI (p j) - nI 1) → S.1 kl 6 = nI H → S.1 kl 7 = nI sn → RA kl S H a → a.2.2.1 + (t 0 1 + 1) ^ k ≤ 9000 → ∀ Q : sn_S → Prop, (∀ S', agL kl S S' → (∀ i, i ≠ 8 → i ≠ 9 → i ≠ 10 → S'.1 kl i = S.1 kl i) → (∀ j, 4 ≤ j → j ≤ 8 + 5 * h → S'.1 (kl + j) = S.1 (kl + j)) → (∀ j, j < h → S'.1 (kl + 2) j = S.1 (kl + 2) j) → RA kl S' H (tr (t 0 1) (leafL t F sn H) k h p a) → Q S') → wpX5_tries w d kl (nI h) S Q
  | 0, d + 1, h, p, a, S, _, hhk, hX, hF, hW, hrow, h6, h7, hA, hC, Q, k => by
    have hh : h = H := by omega
    subst hh
    unfold wpX5_tries wpX5_triesF
    have iW : isW (kl + 4 + 5 * h) = true := by
      rcases hkl with rfl | rfl <;> (rcases (show h = 0 ∨ h = 1 ∨ h = 2 ∨ h = 3 ∨ h = 4 ∨ h = 5 by omega) with rfl | rfl | rfl | rfl | rfl | rfl <;> decide)
    rw [h6, pn_nat (n := h) (by omega)]
    refine bq_u rfl ⟨pn_vp (by omega) (by decide), iW, ?_⟩
    simp only [sn_lt]
    rw [Nat.pow_zero] at hC
    refine x_ends (p := p) (by omega) (by omega) hg hX hW (gp_ok hg h hH).1 h7 hs64 hH hrow hA (by omega) (fun S' h1 h2 h3 h4 => ?_)
    exact k S' h1 h3 (fun j hj _ => h2 j (by omega) (by omega)) (fun j _ => by rw [h2 2 (by decide) (by decide)]) h4
  | n + 1, d + 1, h, p, a, S, hd, hhk, hX, hF, hW, hrow, h6, h7, hA, hC, Q, k => by
    have hh : h < H := by omega
    have h4 := hg.2.1
    unfold wpX5_tries wpX5_triesF
    rw [h6]
    refine bq_v (fun e => by have := (pn_eqN (by omega) (by omega)).mp e; omega) ?_
    have hpow : (t 0 1 + 1) ^ (n + 1) = (t 0 1 + 1) * (t 0 1 + 1) ^ n := by rw [Nat.pow_succ, Nat.mul_comm]
    rw [hpow] at hC
    refine sn_lp2_inv (fun i S1 => ∃ (sp : Nat) (b : gA), sp ≤ t 0 1 + 1 ∧ i = nI sp - nI 1 ∧ agL kl S S1 ∧ (∀ i, i ≠ 8 → i ≠ 9 → i ≠ 10 → S1.1 kl i = S.1 kl i) ∧ (∀ j, 4 ≤ j → j ≤ 8 + 5 * h → S1.1 (kl + j) = S.1 (kl + j)) ∧ (∀ j, j < h → S1.1 (kl + 2) j = S.1 (kl + 2) j) ∧ RA kl S1 H b ∧ b.2.2.1 ≤ a.2.2.1 + sp * (t 0 1 + 1) ^ n ∧ rng (fun sp a => tr (t 0 1) (leafL t F sn H) n (h + 1) (upN p h sp) a) sp (t 0 1 + 1 - sp) b = tr (t 0 1) (leafL t F sn H) (n + 1) h p a) (fun i _ => 8 - (i + 1).toNatClampNeg) ?_ _ _ ⟨0, a, by omega, rfl, agL_refl _ _, fun _ _ _ _ => rfl, fun _ _ _ => rfl, fun _ _ => rfl, hA, by omega, rfl⟩
    rintro rc i S1 ⟨sp, b, hsp, rfl, B1, B2, B3, B4, B5, B6, B7⟩ hrc
    have X1 := RXt_L (by omega) hX B1
    rw [X1.2.1, le_sp _ (by omega) _ (by omega)]
    by_cases hse : sp = t 0 1 + 1
    · refine bq_t (by omega) ?_
      subst hse
      rw [Nat.sub_self] at B7
      have B7' : b = tr (t 0 1) (leafL t F sn H) (n + 1) h p a := B7
      rw [B7'] at B5
      exact k S1 B1 B2 B3 B4 B5
    · refine bq_f (by omega) ⟨pn_vp (by omega) (by decide), ?_⟩
      simp only [sn_lt]
      rw [pn_nat (n := h) (by omega), sp_next]
      have B1' : agL kl S (sn_pI S1 (kl + 2) h (nI sp - nI 1)) := agL_I B1 (by omega) _ _
      have W1 : RW (kl + 4 + 5 * h) (sn_pI S1 (kl + 2) h (nI sp - nI 1)) t (gp t F p h) := by
        unfold RW at hW ⊢
        have e : ∀ j, 4 ≤ j → j ≤ 8 + 5 * h → (sn_pI S1 (kl + 2) h (nI sp - nI 1)).1 (kl + j) = S.1 (kl + j) := fun j hj1 hj2 => by rw [sI_row _ _ _ (by omega)]; exact B3 j hj1 hj2
        rw [show kl + 4 + 5 * h = kl + (4 + 5 * h) by omega] at hW ⊢
        rw [show kl + (4 + 5 * h) + 1 = kl + (4 + 5 * h + 1) by omega, show kl + (4 + 5 * h) + 2 = kl + (4 + 5 * h + 2) by omega, show kl + (4 + 5 * h) + 3 = kl + (4 + 5 * h + 3) by omega, show kl + (4 + 5 * h) + 4 = kl + (4 + 5 * h + 4) by omega] at hW ⊢
        rw [e (4 + 5 * h) (by omega) (by omega), e (4 + 5 * h + 1) (by omega) (by omega), e (4 + 5 * h + 2) (by omega) (by omega), e (4 + 5 * h + 3) (by omega) (by omega), e (4 + 5 * h + 4) (by omega) (by omega)]
        exact hW
      obtain ⟨G1, I1⟩ := gp_ok (F := F) (p := p) hg h (by omega)
      refine x_goes hkl hg (RXt_L (by omega) hX B1') (RFx_ag hF B1'.2) W1 G1 (by omega) (by omega) (fun S2 A2 W2 => ?_)
      have A2' : agW (kl + (4 + 5 * (h + 1))) (sn_pI S1 (kl + 2) h (nI sp - nI 1)) S2 := by
        rw [show kl + (4 + 5 * (h + 1)) = kl + 4 + 5 * (h + 1) by omega]
        exact A2
      have L2 : agL kl S S2 := agL_trans B1' (agL_W (j := 4 + 5 * (h + 1)) (by omega) A2')
      have low : ∀ i, i < 4 + 5 * (h + 1) → S2.1 (kl + i) = (sn_pI S1 (kl + 2) h (nI sp - nI 1)).1 (kl + i) := fun i hi => agL_walks A2' hi (by omega)
      have k0 : S2.1 kl = S1.1 kl := by
        have := low 0 (by omega)
        rw [Nat.add_zero, sI_row _ _ _ (by omega)] at this
        exact this
      have gpe : gp t F (upN p h sp) (h + 1) = hour t F h sp (gp t F p h) := by
        show hour t F h (upN p h sp h) (gp t F (upN p h sp) h) = _
        rw [show upN p h sp h = sp by simp [upN], gp_congr (q := p) h (fun j hj => by unfold upN; rw [if_neg (by omega)])]
      have W2' : RW (kl + 4 + 5 * (h + 1)) S2 t (gp t F (upN p h sp) (h + 1)) := by rw [gpe]; exact W2
      have row2 : ∀ j, j < h + 1 → S2.1 (kl + 2) j = nI (upN p h sp j) - nI 1 := by
        intro j hj
        rw [low 2 (by omega), sI_get]
        unfold upN
        by_cases ej : j = h
        · rw [if_pos ⟨rfl, ej⟩, if_pos ej]
        · rw [if_neg (fun hh => ej hh.2), if_neg ej, B4 j (by omega)]
          exact hrow j (by omega)
      have RA2 : RA kl S2 H b := by
        unfold RA at B5 ⊢
        rw [k0, low 3 (by omega), sI_row _ _ _ (by omega)]
        exact B5
      have hbC : b.2.2.1 + (t 0 1 + 1) ^ n ≤ 9000 := by
        have h1 : (sp + 1) * (t 0 1 + 1) ^ n ≤ (t 0 1 + 1) * (t 0 1 + 1) ^ n := Nat.mul_le_mul_right _ (by omega)
        have h2 : (sp + 1) * (t 0 1 + 1) ^ n = sp * (t 0 1 + 1) ^ n + (t 0 1 + 1) ^ n := Nat.succ_mul _ _
        omega
      rw [show nI h + 1 = nI (h + 1) from pn_add h 1]
      refine x_tries hkl hg hs64 hH n d (h + 1) (upN p h sp) b S2 (by omega) (by omega) (RXt_L (by omega) hX L2) (RFx_ag hF L2.2) W2' row2 (by rw [k0, B2 6 (by decide) (by decide) (by decide)]; exact h6) (by rw [k0, B2 7 (by decide) (by decide) (by decide)]; exact h7) RA2 hbC _ (fun S3 C1 C2 C3 C4 C5 => ?_)
      refine hrc _ _ ⟨sp + 1, tr (t 0 1) (leafL t F sn H) n (h + 1) (upN p h sp) b, by omega, rfl, agL_trans L2 C1, fun i h8 h9 h10 => by rw [C2 i h8 h9 h10, k0, B2 i h8 h9 h10], fun j hj1 hj2 => ?_, fun j hj => ?_, C5, ?_, ?_⟩ ?_
      · rw [C3 j hj1 (by omega), low j (by omega), sI_row _ _ _ (by omega)]
        exact B3 j hj1 hj2
      · rw [C4 j (by omega), low 2 (by omega), sI_get, if_neg (by omega)]
        exact B4 j hj
      · have h1 := tr_C (N := t 0 1) (leaf := leafL t F sn H) (fun p a => wgh_C _ _ p a) n (h + 1) (upN p h sp) b
        have h2 : (sp + 1) * (t 0 1 + 1) ^ n = sp * (t 0 1 + 1) ^ n + (t 0 1 + 1) ^ n := Nat.succ_mul _ _
        omega
      · rw [← B7, show t 0 1 + 1 - sp = (t 0 1 + 1 - (sp + 1)) + 1 by omega]
        rfl
      · rw [sp_next, sp_next, pn_sub (by omega), pn_sub (by omega), pn_nat (by omega), pn_nat (by omega)]
        omega
/-- what a lantern finds -/
def lanA (t : gT) (F : gF) (H sn : Nat) : gA := tr (t 0 1) (leafL t F sn H) H 0 (fun _ => 0) (0, 0, 0, fun _ => 0)
theorem rng_last {α : Type} {f : Nat → α → α} {P : α → Prop} (h : ∀ i a, P (f i a)) : ∀ n lo a, P (rng f lo (n + 1) a)
  | 0, lo, a => h lo a
  | n + 1, lo, a => rng_last h n (lo + 1) (f lo a)
theorem tr_last {α : Type} {N : Nat} {leaf : (Nat → Nat) → α → α} {P : α → Prop} (hl : ∀ p a, P (leaf p a)) : ∀ k h p a, P (tr N leaf k h p a)
  | 0, _, p, a => hl p a
  | k + 1, h, p, a => rng_last (fun i a => tr_last hl k (h + 1) (upN p h i) a) N 0 a
theorem rng_inv {α : Type} {f : Nat → α → α} {P : α → Prop} : ∀ n lo a, (∀ i a, lo ≤ i → i < lo + n → P a → P (f i a)) → P a → P (rng f lo n a)
  | 0, _, _, _, ha => ha
  | n + 1, lo, a, h, ha => rng_inv n (lo + 1) (f lo a) (fun i a h1 h2 => h i a (by omega) (by omega)) (h lo a (Nat.le_refl _) (by omega) ha)
theorem tr_inv {α : Type} {N : Nat} {leaf : (Nat → Nat) → α → α} {P : α → Prop} {H : Nat} (hl : ∀ p a, (∀ j, p j ≤ N) → (∀ j, H ≤ j → p j = 0) → P a → P (leaf p a)) : ∀ k h p a, h + k ≤ H → (∀ j, p j ≤ N) → (∀ j, H ≤ j → p j = 0) → P a → P (tr N leaf k h p a)
  | 0, _, p, a, _, hn, hp, ha => hl p a hn hp ha
  | k + 1, h, p, a, hh, hn, hp, ha => rng_inv _ _ _ (fun i a h1 h2 ha => tr_inv hl k (h + 1) (upN p h i) a (by omega) (fun j => by unfold upN; split; omega; exact hn j) (fun j hj => by unfold upN; rw [if_neg (by omega)]; exact hp j hj) ha) ha
theorem lanA_ne (t : gT) (F : gF) (H sn : Nat) : (lanA t F H sn).1 ≠ 0 := by
  refine tr_last (P := fun a : gA => a.1 ≠ 0) (fun p a => ?_) _ _ _ _
  unfold leafL wgh
  generalize wn t (gp t F p H) sn = n
  split
  · simp
  · split
    · rename_i h1 h2
      simp
      omega
    · rename_i h1 h2
      intro h
      exact h1 (Or.inl (by omega))
theorem lanA_P (t : gT) (F : gF) (H sn : Nat) : ∀ j, H ≤ j → (lanA t F H sn).2.2.2 j = 0 := by
  intro j hj
  refine tr_inv (P := fun a : gA => a.2.2.2 j = 0) (H := H) (fun p a hn hp ha => ?_) H 0 (fun _ => 0) _ (by omega) (fun _ => Nat.zero_le _) (fun _ _ => rfl) rfl
  unfold leafL wgh
  split
  · exact hp j hj
  · split
    · exact ha
    · exact ha
theorem wgh_ok {n s N : Nat} {p : Nat → Nat} {a : gA} (hn : n ≤ 6) (hs : s ≤ 1000) (hp : ∀ j, p j ≤ N) (h : a.1 ≤ 7 ∧ a.2.1 ≤ 1000 ∧ (a.1 = 0 ↔ a.2.2.1 = 0) ∧ ∀ j, a.2.2.2 j ≤ N) : (wgh n s p a).1 ≤ 7 ∧ (wgh n s p a).2.1 ≤ 1000 ∧ ((wgh n s p a).1 = 0 ↔ (wgh n s p a).2.2.1 = 0) ∧ ∀ j, (wgh n s p a).2.2.2 j ≤ N := by
  obtain ⟨h1, h2, h3, h4⟩ := h
  unfold wgh
  split
  · exact ⟨by simp; omega, hs, by simp, hp⟩
  · split
    · rename_i e1 e2
      exact ⟨h1, h2, by simp; omega, h4⟩
    · exact ⟨h1, h2, h3, h4⟩
theorem lanA_rng {t : gT} {F : gF} {H sn : Nat} (hg : tG t) (hH : H ≤ 5) : (lanA t F H sn).1 ≤ 7 ∧ (lanA t F H sn).2.1 ≤ 1000 ∧ ((lanA t F H sn).1 = 0 ↔ (lanA t F H sn).2.2.1 = 0) ∧ ∀ j, (lanA t F H sn).2.2.2 j ≤ t 0 1 := by
  refine tr_inv (P := fun a : gA => a.1 ≤ 7 ∧ a.2.1 ≤ 1000 ∧ (a.1 = 0 ↔ a.2.2.1 = 0) ∧ ∀ j, a.2.2.2 j ≤ t 0 1) (H := H) (fun p a hn hp ha => ?_) H 0 (fun _ => 0) _ (by omega) (fun _ => Nat.zero_le _) (fun _ _ => rfl) ⟨by decide, by decide, by decide, fun _ => Nat.zero_le _⟩
  have h1 := wn_le hg (gp t F p H) sn
  have h2 := wsum_le hg (gp_ok (F := F) (p := p) hg H hH).1 sn
  exact wgh_ok h1 (by omega) hn ha
theorem pow5 {N H : Nat} (hN : N ≤ 4) (hH : H ≤ 5) : (N + 1) ^ H ≤ 3125 := by
  have h1 : (N + 1) ^ H ≤ 5 ^ H := Nat.pow_le_pow_left (by omega) H
  have h2 : 5 ^ H ≤ 5 ^ 5 := Nat.pow_le_pow_right (by decide) hH
  omega
/-- x's lantern is kept -/
def CL (S : sn_S) (t : gT) (F : gF) : Prop := S.1 22 3 = S.1 0 8 → ∃ H sn : Nat, H ≤ 5 ∧ sn < 64 ∧ S.1 22 4 = nI H ∧ S.1 22 5 = nI sn ∧ RA 22 S H (lanA t F H sn)
theorem x_lan {w : sn_W} {S : sn_S} {t : gT} {F : gF} {H sn : Nat} (hg : tG t) (hX : RXt S t) (hF : RFx w S t F) (hH : H ≤ 5) (hs : sn < 64) (hC : CL S t F) {Q : sn_S → Prop} (k : ∀ S', agL 22 S S' → S'.1 22 3 = S.1 0 8 → S'.1 22 4 = nI H → S'.1 22 5 = nI sn → RA 22 S' H (lanA t F H sn) → Q S') : wpX5_looks w 22 (nI H) (nI sn) S Q := by
  unfold wpX5_looks
  have h4 := hg.2.1
  refine sn_jn_by (fun k => k) ?_ (fun k10 hk10 => ?_)
  · simp only [sn_lt]
    have r0 : ∀ i, (sn_pI (sn_pI (sn_pI (sn_pI (sn_pI (sn_pI S 22 3 (S.1 0 8)) 22 4 (nI H)) 22 5 (nI sn)) 22 6 (nI H)) 22 7 (nI sn)) 22 10 0).1 22 i = if i = 10 then 0 else if i = 7 then nI sn else if i = 6 then nI H else if i = 5 then nI sn else if i = 4 then nI H else if i = 3 then S.1 0 8 else S.1 22 i := by
      intro i
      simp [sI_get]
    have L0 : agL 22 S (sn_pI (sn_pI (sn_pI (sn_pI (sn_pI (sn_pI S 22 3 (S.1 0 8)) 22 4 (nI H)) 22 5 (nI sn)) 22 6 (nI H)) 22 7 (nI sn)) 22 10 0) := agL_I (j := 0) (agL_I (j := 0) (agL_I (j := 0) (agL_I (j := 0) (agL_I (j := 0) (agL_I (j := 0) (agL_refl _ _) (by omega) _ _) (by omega) _ _) (by omega) _ _) (by omega) _ _) (by omega) _ _) (by omega) _ _
    generalize sn_pI (sn_pI (sn_pI (sn_pI (sn_pI (sn_pI S 22 3 (S.1 0 8)) 22 4 (nI H)) 22 5 (nI sn)) 22 6 (nI H)) 22 7 (nI sn)) 22 10 0 = S0 at r0 L0 ⊢
    refine ⟨pn_vp (n := 0) (by decide) (by decide), by decide, ?_⟩
    rw [show 22 + 4 + 5 * (0 : Int32).toNatClampNeg = 26 from rfl]
    refine x_begins (by decide) hg (RXt_L (by decide) hX L0) (fun S1 A1 W1 => ?_)
    have L1 : agL 22 S S1 := agL_trans L0 (agL_W (kl := 22) (j := 4) (by omega) A1)
    have e22 : S1.1 22 = S0.1 22 := A1.1 22 (by decide) (by decide)
    refine x_tries (kl := 22) (sn := sn) (H := H) (Or.inl rfl) hg hs hH H 8 0 (fun _ => 0) (0, 0, 0, fun _ => 0) S1 (by omega) (by omega) (RXt_L (by decide) hX L1) (RFx_ag hF L1.2) W1 (fun j hj => absurd hj (Nat.not_lt_zero _)) (by rw [e22, r0]; rfl) (by rw [e22, r0]; rfl) ⟨by rw [e22, r0]; rfl, by decide, by decide, by decide, fun h => absurd rfl h⟩ (by have := pow5 h4 hH; show 0 + _ ≤ 9000; omega) Q (fun S2 C1 C2 C3 C4 C5 => ?_)
    exact k S2 (agL_trans L1 C1) (by rw [C2 3 (by decide) (by decide) (by decide), e22, r0]; rfl) (by rw [C2 4 (by decide) (by decide) (by decide), e22, r0]; rfl) (by rw [C2 5 (by decide) (by decide) (by decide), e22, r0]; rfl) C5
  · by_cases c1 : S.1 22 3 = S.1 0 8
    · refine bq_u c1 ?_
      by_cases c2 : S.1 22 4 = nI H
      · refine bq_u c2 ?_
        by_cases c3 : S.1 22 5 = nI sn
        · refine bq_u c3 ?_
          obtain ⟨H', sn', b1, b2, b3, b4, b5⟩ := hC c1
          have e1 : H = H' := (pn_eqN (by omega) (by omega)).mp (c2.symm.trans b3)
          have e2 : sn = sn' := (pn_eqN (by omega) (by omega)).mp (c3.symm.trans b4)
          subst e1 e2
          exact k S (agL_refl _ _) c1 c2 c3 b5
        · exact bq_v c3 hk10
      · exact bq_v c2 hk10
    · exact bq_v c1 hk10
