/-! THE PLAIN LAW, thirteenth part: the model's garden -/
set_option maxRecDepth 100000
/-- the loop over a law's clauses -/
def mLoop (p1 : Int32) (p6 : Int64) (S : sn_S) (Q : Int64 → sn_S → Prop) : Prop := sn_lp3 (fun (rc21 : Int64 → Int32 → sn_S → Prop) (i18 : Int64) (i19 : Int32) (S20 : sn_S) => (vp_in ((S20.1 0 27) + 1) 5680 ∧ (((S20.1 2 (((S20.1 0 27) + 1)).toNatClampNeg) ≤ i19 → Q i18 S20) ∧ (¬ (S20.1 2 (((S20.1 0 27) + 1)).toNatClampNeg) ≤ i19 → sn_lt (((S20.1 0 27) + 2) + (8 * i19)) (fun x22 => (vp_in x22 5680 ∧ sn_jn (fun (v23 : Int64) (S24 : sn_S) => rc21 v23 (i19 + 1) S24) (fun (k25 : Int64 → sn_S → Prop) => ((¬ (S20.1 2 (x22).toNatClampNeg) = p1 → k25 i18 S20) ∧ ((S20.1 2 (x22).toNatClampNeg) = p1 → wpX9_isSo x22 S20 (fun (r26 : Int32) (S27 : sn_S) => ((r26 = 0 → k25 i18 S27) ∧ (¬ r26 = 0 → sn_jn (fun (v28 : Int64) => k25 v28 S27) (fun (k29 : Int64 → Prop) => ((2 ≤ p1 → k29 1) ∧ (¬ 2 ≤ p1 → k29 (S27.2.1 0 32)))))))))))))))) p6 0 S
theorem aI_12m : ∀ x, x < 12 → ∀ y, y < 12 → (0 ≤ nI x - nI y → nI x - nI y = nI (aI x y)) ∧ (¬ 0 ≤ nI x - nI y → -(nI x - nI y) = nI (aI x y)) := by decide +kernel
theorem m_size {x y : Nat} (hx : x < 12) (hy : y < 12) {Q : Int32 → Prop} (h : Q (nI (aI x y))) : wpX9_size (nI x - nI y) Q := by
  unfold wpX9_size
  obtain ⟨h1, h2⟩ := aI_12m x hx y hy
  exact ⟨fun e => by rw [h1 e]; exact h, fun e => by rw [h2 e]; exact h⟩
theorem m_apart {a b : Nat} (ha : a < 96) (hb : b < 96) {Q : Int32 → Prop} (h : Q (nI (apt a b))) : wpX9_apart (nI a) (nI b) Q := by
  unfold wpX9_apart
  rw [show (12 : Int32) = nI 12 from rfl, pn_rem (by omega) (by decide), pn_rem (by omega) (by decide), pn_div (by omega) (by decide), pn_div (by omega) (by decide)]
  refine m_size (by omega) (by omega) (m_size (by omega) (by omega) ?_)
  rw [pn_add]
  exact h
theorem glow_le : ∀ g, g < 21 → ∀ r, r < 19 → (0 ≤ nI g - nI r → nI g - nI r = nI (g - r)) ∧ (¬ 0 ≤ nI g - nI r → (0 : Int32) = nI (g - r)) := by decide +kernel
theorem vm {n : Nat} (h : n < 5680) : vp_in (nI n) 5680 := pn_vp h (by decide)
theorem m_light {S : sn_S} {t : gT} {c sp : Nat} (hg : tG t) (hM : RMt S t) (hc : c < 96) (hs : sp ≤ t 0 1) {Q : Int32 → Prop} (h : Q (nI (lightA t c sp))) : wpX9_lightIn (nI c) (nI sp - nI 1) S Q := by
  unfold wpX9_lightIn
  have h4 := hg.2.1
  have h7 := hg.2.2.2.2.2.2.2.2.1
  refine sn_jn_by (fun k2 => ∀ v : Int32, (0 ≤ v → v = nI (lightA t c sp)) → (¬ 0 ≤ v → 0 = nI (lightA t c sp)) → k2 v) (fun v h1 h2 => ⟨fun e => by rw [h1 e]; exact h, fun e => by rw [h2 e]; exact h⟩) (fun k2 hk2 => ?_)
  by_cases h0 : sp = 0
  · subst h0
    refine bq_u ((sp_m1 (by decide)).mpr rfl) (hk2 0 (fun _ => rfl) (fun e => absurd (by decide) e))
  · refine bq_v (fun e => h0 ((sp_m1 (by omega)).mp e)) ⟨vm (n := 6) (by decide), ?_⟩
    have h5 := hg.2.2.2.2.2.2.1 (sp - 1) (by omega)
    refine sn_jn_by (fun k4 => k4 (nI (sp - 1))) ?_ (fun k4 hk4 => bq_v (fun e => h0 ((sp_m1 (by omega)).mp e)) (by rw [sp_s h0]; exact hk4))
    rw [show (12 : Int32) + nI (sp - 1) = nI (12 + (sp - 1)) from pn_add 12 _, pn_nat (n := 12 + (sp - 1)) (by omega), hM.2.2.2.2.2.2.1 _ (by omega)]
    refine ⟨vm (by omega), m_apart hc h5 ?_⟩
    rw [show S.1 2 (Int32.toNatClampNeg 6) = nI (t 7 1) from hM.2.2.2.2.2.2.2.2.1 1 (by decide)]
    have ha := apt_lt hc h5
    obtain ⟨g1, g2⟩ := glow_le (t 7 1) (by omega) (apt c (t 5 (sp - 1))) (by omega)
    have e : lightA t c sp = t 7 1 - apt c (t 5 (sp - 1)) := by
      unfold lightA
      rw [if_neg h0]
    rw [← e] at g1 g2
    exact hk2 _ g1 g2
theorem pc_sms (b : Nat) : sms (bt b) 6 = pc b := by
  simp [sms, bt, pc]
theorem m_bits {b : Nat} (hb : b < 64) {Q : Int32 → Prop} (h : Q (nI (pc b))) : wpX9_bits (nI b) Q := by
  unfold wpX9_bits
  refine sn_lp2_inv (fun a i => ∃ n : Nat, n ≤ 6 ∧ i = nI n ∧ a = nI (sms (bt b) n)) (fun _ i => 6 - i.toNatClampNeg) ?_ _ _ ⟨0, Nat.zero_le _, rfl, rfl⟩
  rintro rc a i ⟨n, hn, rfl, rfl⟩ hrc
  rw [show (6 : Int32) = nI 6 from rfl, pn_leN (by omega) (by omega)]
  by_cases hne : n = 6
  · subst hne
    rw [pc_sms]
    exact bq_t (Nat.le_refl _) h
  · refine bq_f (by omega) ?_
    simp only [sn_lt]
    rw [bits_bt b hb n (by omega), pn_add, show nI n + 1 = nI (n + 1) from pn_add n 1]
    refine hrc _ _ ⟨n + 1, by omega, rfl, rfl⟩ ?_
    rw [pn_nat (by omega), pn_nat (by omega)]
    omega
/-- but for what asking a law leaves -/
def agT (S S' : sn_S) : Prop := (∀ k, k ≠ 0 → S'.1 k = S.1 k) ∧ (∀ i, i ≠ 27 → i ≠ 30 → S'.1 0 i = S.1 0 i) ∧ (∀ k, k ≠ 0 → k ≠ 13 → k ≠ 14 → S'.2.1 k = S.2.1 k) ∧ (∀ i, i ≠ 31 → i ≠ 32 → S'.2.1 0 i = S.2.1 0 i) ∧ S'.2.2 = S.2.2
theorem agT_refl (S : sn_S) : agT S S := ⟨fun _ _ => rfl, fun _ _ _ => rfl, fun _ _ _ _ => rfl, fun _ _ _ => rfl, rfl⟩
theorem agT_trans {S1 S2 S3 : sn_S} (h : agT S1 S2) (k : agT S2 S3) : agT S1 S3 := ⟨fun i h0 => (k.1 i h0).trans (h.1 i h0), fun i h1 h2 => (k.2.1 i h1 h2).trans (h.2.1 i h1 h2), fun i h0 h1 h2 => (k.2.2.1 i h0 h1 h2).trans (h.2.2.1 i h0 h1 h2), fun i h1 h2 => (k.2.2.2.1 i h1 h2).trans (h.2.2.2.1 i h1 h2), k.2.2.2.2.trans h.2.2.2.2⟩
theorem agT_J {S S' : sn_S} (h : agT S S') {k : Nat} (hk : k = 13 ∨ k = 14) (i : Nat) (v : Int64) : agT S (sn_pJ S' k i v) := ⟨h.1, h.2.1, fun j h0 h1 h2 => by
  rw [← h.2.2.1 j h0 h1 h2]
  funext i'
  rw [sJ_get, if_neg (by omega)], fun j h1 h2 => by rw [sJ_get, if_neg (by omega)]; exact h.2.2.2.1 j h1 h2, h.2.2.2.2⟩
theorem RMt_T {S S' : sn_S} {t : gT} (h : RMt S t) (a : agT S S') : RMt S' t := by
  unfold RMt at h ⊢
  rw [a.1 2 (by decide)]
  exact h
def lM (p : Int64) : Option Int → Int64
  | none => p
  | some z => Int64.ofInt z
def RFm (S : sn_S) (t : gT) (F : gF) : Prop := gFok F ∧ (t 0 3 = 0 → ∀ hd v, F hd v = none) ∧ (t 0 3 ≠ 0 → ∀ S' : sn_S, S'.1 2 = S.1 2 → S'.1 0 27 = nI (280 + 900 * (t 0 3 - 1)) → ∀ (hd : Nat) (v : Nat → Nat), hd < 3 → (∀ k, k < 10 → v k ≤ 1000) → (∀ k, k < 10 → S'.2.1 13 (k + 1) = lN (v k)) → ∀ (p : Int64) (Q : Int64 → sn_S → Prop), (∀ S2, agT S' S2 → Q (lM p (F hd v)) S2) → mLoop (nI hd) p S' Q)
theorem RFm_ag {S S' : sn_S} {t : gT} {F : gF} (h : RFm S t F) (e : S'.1 2 = S.1 2) : RFm S' t F := ⟨h.1, h.2.1, fun h3 S2 e2 => h.2.2 h3 S2 (e2.trans e)⟩
def RG (S : sn_S) (t g : gT) : Prop := (∀ s, s < t 0 0 → S.1 15 s = nI (g 1 s)) ∧ (∀ s, s < t 0 0 → S.1 16 s = nI (g 2 s) - nI 1) ∧ (∀ c, c < 96 → S.1 18 c = nI (g 4 c)) ∧ (∀ s, s < t 0 0 → S.1 17 s = nI (bt (g 5 0) s))
theorem RG_T {S S' : sn_S} {t g : gT} (h : RG S t g) (a : agT S S') : RG S' t g := by
  unfold RG at h ⊢
  rw [a.1 15 (by decide), a.1 16 (by decide), a.1 17 (by decide), a.1 18 (by decide)]
  exact h
theorem m_tells {S : sn_S} {t g : gT} {F : gF} {hd s c h sp : Nat} {p : Int64} (hg : tG t) (hM : RMt S t) (hF : RFm S t F) (hW : RG S t g) (hG : gG t g) (hhd : hd < 3) (hs : s < t 0 0) (hc : c < 96) (hh : h < 5) (hsp : sp ≤ t 0 1) {Q : Int64 → sn_S → Prop} (k : ∀ S', agT S S' → Q (lM p (F hd (vals t g s c h sp))) S') : wpX9_tells (nI hd) (nI s) (nI c) (nI h) (nI sp - nI 1) p S Q := by
  unfold wpX9_tells
  have h6 := hg.1
  have hf := hg.2.2.2.1
  have hb := hG.2.2.1 c hc
  have h1s := hG.1 s hs
  have e3 : S.1 2 (Int32.toNatClampNeg 3) = nI (t 0 3) - nI 1 := hM.2.2.2.1
  rw [e3]
  refine ⟨vm (n := 3) (by decide), ?_⟩
  by_cases h0 : t 0 3 = 0
  · refine bq_u ((sp_m1 (by omega)).mpr h0) ?_
    have := k S (agT_refl S)
    rw [hF.2.1 h0] at this
    exact this
  · refine bq_v (fun e => h0 ((sp_m1 (by omega)).mp e)) ⟨vm (n := 3) (by decide), ?_⟩
    rw [sp_s h0, show (900 : Int32) * nI (t 0 3 - 1) = nI (900 * (t 0 3 - 1)) from pn_mul 900 _, show (280 : Int32) + nI (900 * (t 0 3 - 1)) = nI (280 + 900 * (t 0 3 - 1)) from pn_add 280 _]
    generalize hS1 : sn_pI S 0 27 (nI (280 + 900 * (t 0 3 - 1))) = S1
    have T1 : agT S S1 := by
      rw [← hS1]
      exact ⟨fun k hk => sI_row _ _ _ hk, fun i h1 h2 => by rw [sI_get, if_neg (by omega)], fun _ _ _ _ => rfl, fun _ _ _ => rfl, rfl⟩
    have e27 : S1.1 0 27 = nI (280 + 900 * (t 0 3 - 1)) := by rw [← hS1, sI_get, if_pos ⟨rfl, rfl⟩]
    have M1 := RMt_T hM T1
    have W1 := RG_T hW T1
    have v13 : ∀ i : Nat, i < 13 → vp_in (nI i) 13 := fun i hi => pn_vp hi (by decide)
    simp only [sn_lt]
    refine ⟨pn_vp hc (by decide), v13 1 (by decide), ?_⟩
    have MJ : ∀ {S : sn_S} {k i : Nat} {v : Int64}, RMt S t → RMt (sn_pJ S k i v) t := fun h => h
    refine m_ofSnail (s := s) (f := 3) (MJ M1) (by omega) ?_
    refine ⟨v13 2 (by decide), ?_⟩
    rw [show (80 : Int32) + nI c = nI (80 + c) from pn_add 80 c]
    refine ⟨vm (by omega), v13 3 (by decide), ?_⟩
    refine m_light hg (MJ (MJ (MJ M1))) hc hsp ?_
    refine ⟨v13 4 (by decide), ?_⟩
    simp only [sJ_1]
    rw [pn_nat (n := c) (by omega), pn_nat (n := s) (by omega), pn_nat (n := 80 + c) (by omega), W1.2.2.1 c hc, bits_clr _ hb _ (by omega), bits_bt _ hb _ (by omega), W1.1 s hs, M1.2.2.2.2.1 c hc, show (12 : Int32) = nI 12 from rfl, pn_rem (by omega) (by decide), pn_div (by omega) (by decide)]
    refine m_bits (clr_lt _ _ hb) ?_
    refine ⟨v13 5 (by decide), pn_vp hc (by decide), v13 6 (by decide), pn_vp (by omega) (by decide), ?_⟩
    refine sn_jn_by (fun k20 => k20 (lN (if g 1 s = c then 1 else 0))) ?_ (fun k20 hk20 => ?_)
    · refine ⟨v13 7 (by decide), v13 8 (by decide), v13 9 (by decide), v13 10 (by decide), ?_⟩
      generalize hS' : sn_pJ _ 13 (Int32.toNatClampNeg 10) _ = S'
      have e1 : S'.1 = S1.1 := by rw [← hS']; rfl
      have T2 : agT S1 S' := by
        rw [← hS']
        exact agT_J (agT_J (agT_J (agT_J (agT_J (agT_J (agT_J (agT_J (agT_J (agT_J (agT_refl _) (Or.inl rfl) _ _) (Or.inl rfl) _ _) (Or.inl rfl) _ _) (Or.inl rfl) _ _) (Or.inl rfl) _ _) (Or.inl rfl) _ _) (Or.inl rfl) _ _) (Or.inl rfl) _ _) (Or.inl rfl) _ _) (Or.inl rfl) _ _
      have hp7 := pc_lt (clr (g 4 c) s)
      have hbt := bt_lt (g 4 c) s
      have hl := lightA_le hg c sp
      have hd3 := hg.2.2.2.2.1 c hc
      have hk4 := (hg.2.2.2.2.2.1 s hs).2.2.2.2.1
      refine hF.2.2 h0 S' (by rw [e1]; exact T1.1 2 (by decide)) (by rw [e1]; exact e27) hd (vals t g s c h sp) hhd (vals_le hg hG hs hc hh) (fun j hj => ?_) p Q (fun S2 T3 => k S2 (agT_trans T1 (agT_trans T2 T3)))
      rw [← hS']
      simp only [sJ_get]
      rw [lN_wide (by omega), lN_wide (by omega), lN_wide (by omega), lN_wide (by omega), lN_wide (by omega), lN_wide (by omega), lN_wide (by omega), lN_wide (by omega), lN_wide (by omega)]
      match j, hj with
      | 0, _ => rfl
      | 1, _ => rfl
      | 2, _ => rfl
      | 3, _ => rfl
      | 4, _ => rfl
      | 5, _ => rfl
      | 6, _ => rfl
      | 7, _ => rfl
      | 8, _ => rfl
      | 9, _ => rfl
    · by_cases e : g 1 s = c
      · rw [if_pos e] at hk20
        exact bq_u (by rw [e]) hk20
      · rw [if_neg e] at hk20
        exact bq_v (fun h => e ((pn_eqN (by omega) (by omega)).mp h)) hk20
