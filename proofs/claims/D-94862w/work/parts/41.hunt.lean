/-! THE PLAIN LAW, twenty-third part: hunt, hunted -/
set_option maxRecDepth 100000
def hd (d : Nat) : Nat := (d * 1103 + 12345) % 1000003
def eatv : Option Int → Int
  | none => 0
  | some z => z
abbrev gH : Type := gT × Nat × (Nat → Nat) × Nat
def hstep (t : gT) (F : gF) (h : Nat) (a : gH) (s : Nat) : gH := if a.1 2 s = 0 ∧ bt (a.1 5 0) s = 0 then (if ((hd a.2.1 % 100 : Nat) : Int) < eatv (F 1 (vals t a.1 s (a.1 1 s) h (t 6 h))) then (tU a.1 5 0 (stb (a.1 5 0) s), hd a.2.1, upN a.2.2.1 s (h + 1), a.2.2.2 + 1) else (a.1, hd a.2.1, a.2.2.1, a.2.2.2)) else a
def hrow (t : gT) (F : gF) (h : Nat) (a : gH) : Nat → gH
  | 0 => a
  | n + 1 => hstep t F h (hrow t F h a n) n
def hunts (t : gT) (F : gF) (seed : Nat) : Nat → gH
  | 0 => (dawn t, seed, fun _ => 0, 0)
  | h + 1 => hrow t F h (hour t F h (t 6 h) (hunts t F seed h).1, (hunts t F seed h).2) (t 0 0)
def hOk (t : gT) (a : gH) : Prop := gG t a.1 ∧ gI t a.1 ∧ a.2.1 ≤ 1000002 ∧ a.2.2.2 = pc (a.1 5 0)
theorem pc_stb : ∀ b s, b < 64 → s < 6 → bt b s = 0 → pc (stb b s) = pc b + 1 := by
  have : ∀ b, b < 64 → ∀ s, s < 6 → bt b s = 0 → pc (stb b s) = pc b + 1 := by decide +kernel
  exact fun b s h1 h2 => this b h1 s h2
theorem hd_lt (d : Nat) : hd d ≤ 1000002 := by
  have := Nat.mod_lt (d * 1103 + 12345) (show 0 < 1000003 by decide)
  unfold hd
  omega
theorem tU_5 (g : gT) (v : Nat) : (tU g 5 0 v) 1 = g 1 ∧ (tU g 5 0 v) 2 = g 2 ∧ (tU g 5 0 v) 3 = g 3 ∧ (tU g 5 0 v) 4 = g 4 ∧ (tU g 5 0 v) 5 0 = v := ⟨tU_row _ _ _ _ (by decide), tU_row _ _ _ _ (by decide), tU_row _ _ _ _ (by decide), tU_row _ _ _ _ (by decide), tU_eq _ _ _ _⟩
theorem hOk_step {t : gT} {F : gF} {h : Nat} {a : gH} {s : Nat} (hg : tG t) (hs : s < t 0 0) (hA : hOk t a) : hOk t (hstep t F h a s) := by
  obtain ⟨h1, h2, h3, h4⟩ := hA
  have h6 := hg.1
  unfold hstep
  split
  · rename_i c
    split
    · obtain ⟨e1, e2, e3, e4, e5⟩ := tU_5 a.1 (stb (a.1 5 0) s)
      refine ⟨?_, ?_, hd_lt _, ?_⟩
      · unfold gG at h1 ⊢
        simp only [e1, e2, e4, e5]
        exact ⟨h1.1, h1.2.1, h1.2.2.1, stb_lt _ _ h1.2.2.2 (by omega)⟩
      · unfold gI at h2 ⊢
        simp only [e1, e2, e4]
        exact h2
      · simp only [e5]
        rw [pc_stb _ _ h1.2.2.2 (by omega) c.2, h4]
    · exact ⟨h1, h2, hd_lt _, h4⟩
  · exact ⟨h1, h2, h3, h4⟩
theorem hOk_row {t : gT} {F : gF} {h : Nat} {a : gH} (hg : tG t) (hA : hOk t a) : ∀ n, n ≤ t 0 0 → hOk t (hrow t F h a n)
  | 0, _ => hA
  | n + 1, hn => hOk_step hg (by omega) (hOk_row hg hA n (by omega))
theorem hour_5 (t : gT) (F : gF) (h sp : Nat) (g : gT) : hour t F h sp g 5 0 = g 5 0 := mins_5 t F _ sp g 12
theorem hOk_hour {t : gT} {F : gF} {h : Nat} {a : gH} (hg : tG t) (hA : hOk t a) (hh : h < 5) : hOk t (hour t F h (t 6 h) a.1, a.2) := by
  obtain ⟨h1, h2, h3, h4⟩ := hA
  exact ⟨gG_hour hg h1 hh, gI_hour hg h1 h2 hh, h3, by rw [show ((hour t F h (t 6 h) a.1, a.2) : gH).1 5 0 = hour t F h (t 6 h) a.1 5 0 from rfl, hour_5]; exact h4⟩
theorem hOk_hunts {t : gT} {F : gF} {seed : Nat} (hg : tG t) (hs : seed ≤ 1000002) : ∀ h, h ≤ 5 → hOk t (hunts t F seed h)
  | 0, _ => ⟨gG_dawn' hg, gI_dawn hg, hs, by rw [show (hunts t F seed 0).1 5 0 = dawn t 5 0 from rfl, dawn_5 hg]; rfl⟩
  | h + 1, hh => hOk_row hg (hOk_hour hg (hOk_hunts hg hs h (by omega)) (by omega)) _ (Nat.le_refl _)
/-! longs -/
theorem lq_add (a b : Nat) : lN a + lN b = lN (a + b) := (Int64.ofNat_add a b).symm
theorem lq_mul (a b : Nat) : lN a * lN b = lN (a * b) := (Int64.ofNat_mul a b).symm
theorem lq_sub {a b : Nat} (h : b ≤ a) : lN a - lN b = lN (a - b) := by
  have : lN (a - b) + lN b = lN a := by rw [lq_add]; congr 1; omega
  rw [← this]
  simp
theorem lq_div {a b : Nat} (ha : a < 2 ^ 63) (hb : b < 2 ^ 63) : lN a / lN b = lN (a / b) := by
  have hq : a / b ≤ a := Nat.div_le_self a b
  rw [← Int64.toInt_inj, Int64.toInt_div, lN_int ha, lN_int hb, lN_int (by omega), ← Int.ofNat_tdiv]
  generalize a / b = q at hq
  exact Int.bmod_eq_of_le (by omega) (by omega)
theorem lq_rem {a b : Nat} (ha : a < 2 ^ 63) (hb : b < 2 ^ 63) : lN a - lN a / lN b * lN b = lN (a % b) := by
  have h1 : a / b * b ≤ a := Nat.div_mul_le_self a b
  rw [lq_div ha hb, lq_mul, lq_sub h1]
  congr 1
  have := Nat.div_add_mod a b
  have e : b * (a / b) = a / b * b := Nat.mul_comm _ _
  omega
theorem lq_narrow {n : Nat} (h : n < 2 ^ 31) : Int64.toInt32 (lN n) = nI n := by
  rw [← lN_wide h]
  exact Int32.toInt32_toInt64 _
theorem hd_long (d : Nat) (h : d ≤ 1000002) : lN d * 1103 + 12345 - (lN d * 1103 + 12345) / 1000003 * 1000003 = lN (hd d) := by
  rw [show (1103 : Int64) = lN 1103 from rfl, show (12345 : Int64) = lN 12345 from rfl, show (1000003 : Int64) = lN 1000003 from rfl, lq_mul, lq_add, lq_rem (by omega) (by decide)]
  rfl
def clmp (o : Option Int) : Nat := if eatv o < 100 then (eatv o).toNat else 100
theorem clmp_lt {o : Option Int} {r : Nat} (hr : r < 100) : r < clmp o ↔ (r : Int) < eatv o := by
  unfold clmp
  split <;> omega
theorem x_eats {w : sn_W} {S : sn_S} {t g : gT} {F : gF} {kw s h sp : Nat} (hg : tG t) (hX : RXt S t) (hF : RFx w S t F) (hW : RW kw S t g) (hG : gG t g) (hs : s < t 0 0) (hh : h < 5) (hsp : sp ≤ t 0 1) {Q : Int32 → sn_S → Prop} (k : ∀ S', agJ S S' → Q (nI (clmp (F 1 (vals t g s (g 1 s) h sp)))) S') : wpX4_eats w kw (nI s) (nI h) (nI sp - nI 1) S Q := by
  unfold wpX4_eats
  have h6 := hg.1
  rw [pn_nat (n := s) (by omega), hW.1 s hs]
  refine ⟨pn_vp (by omega) (by decide), x_asks (hd := 1) hg hX hF hW hG (by decide) hs (hG.1 s hs) hh hsp (fun S' hS' => ?_)⟩
  have hk := k S' hS'
  have hn := lO_none (o := F 1 (vals t g s (g 1 s) h sp)) (fun z e => hF.1.1 _ _ _ e)
  cases e : F 1 (vals t g s (g 1 s) h sp) with
  | none =>
    rw [e] at hk hn
    exact bq_u (hn.mpr rfl) hk
  | some z =>
    obtain ⟨z1, z2⟩ := hF.1.1 _ _ _ e
    rw [e] at hk hn
    refine bq_v (fun h => absurd (hn.mp h) (by simp)) ?_
    have e100 : (100 : Int64) = Int64.ofInt 100 := rfl
    have e0 : (0 : Int64) = Int64.ofInt 0 := rfl
    have key : Int64.toInt32 (if (if lO (some z) < (100 : Int64) then lO (some z) else (100 : Int64)) < (0 : Int64) then (0 : Int64) else (if lO (some z) < (100 : Int64) then lO (some z) else (100 : Int64))) = nI (clmp (some z)) := by
      have h100 : (lO (some z) < (100 : Int64)) ↔ z < 100 := by
        rw [e100]
        exact lI_lt (by omega) (by omega) (by omega) (by omega)
      have h00 : (lO (some z) < (0 : Int64)) ↔ z < 0 := by
        rw [e0]
        exact lI_lt (by omega) (by omega) (by omega) (by omega)
      have ev : eatv (some z) = z := rfl
      unfold clmp
      rw [ev]
      by_cases c1 : z < 100
      · rw [show (if lO (some z) < (100 : Int64) then lO (some z) else (100 : Int64)) = lO (some z) from if_pos (h100.mpr c1), if_pos c1]
        by_cases c2 : z < 0
        · rw [if_pos (h00.mpr c2), show z.toNat = 0 by omega]
          rfl
        · rw [if_neg (fun h => c2 (h00.mp h))]
          have ez : lO (some z) = lN z.toNat := by
            show Int64.ofInt z = _
            rw [← Int64.toInt_inj, wideI z (by omega) (by omega), lN_int (by omega)]
            omega
          rw [ez, lq_narrow (by omega)]
      · rw [show (if lO (some z) < (100 : Int64) then lO (some z) else (100 : Int64)) = 100 from if_neg (fun h => c1 (h100.mp h)), if_neg c1]
        rfl
    rw [key]
    exact hk
/-- but for x's hunted day -/
def agH (S S' : sn_S) : Prop := (∀ k, k ≠ 0 → k ≠ 15 → (k < 98 ∨ 103 < k) → S'.1 k = S.1 k) ∧ (∀ i, i ≠ 26 → i ≠ 27 → S'.1 0 i = S.1 0 i) ∧ S'.2.2 = S.2.2
theorem agH_refl (S : sn_S) : agH S S := ⟨fun _ _ _ _ => rfl, fun _ _ _ => rfl, rfl⟩
theorem agH_trans {S1 S2 S3 : sn_S} (h : agH S1 S2) (k : agH S2 S3) : agH S1 S3 := ⟨fun i h0 h1 h2 => (k.1 i h0 h1 h2).trans (h.1 i h0 h1 h2), fun i h1 h2 => (k.2.1 i h1 h2).trans (h.2.1 i h1 h2), k.2.2.trans h.2.2⟩
theorem agH_W {S S' : sn_S} (h : agW 98 S S') : agH S S' := ⟨fun k _ h0 h1 => h.1 k h0 (by omega), fun i _ _ => by rw [h.1 0 (by decide) (by decide)], h.2.2⟩
theorem agH_J {S S' : sn_S} (h : agJ S S') : agH S S' := ⟨fun k _ _ _ => by rw [h.1], fun i _ _ => by rw [h.1], h.2⟩
theorem agH_0 {S S' : sn_S} (h : agH S S') {i : Nat} (hi : i = 26 ∨ i = 27) (v : Int32) : agH S (sn_pI S' 0 i v) := ⟨fun k h0 h1 h2 => by rw [sI_row _ _ _ h0]; exact h.1 k h0 h1 h2, fun j h1 h2 => by rw [sI_get, if_neg (by omega)]; exact h.2.1 j h1 h2, h.2.2⟩
theorem agH_I {S S' : sn_S} (h : agH S S') {j : Nat} (hj : 98 ≤ j ∧ j ≤ 103) (i : Nat) (v : Int32) : agH S (sn_pI S' j i v) := ⟨fun k h0 h1 h2 => by rw [sI_row _ _ _ (by omega)]; exact h.1 k h0 h1 h2, fun j h1 h2 => by rw [sI_row _ _ _ (by omega)]; exact h.2.1 j h1 h2, h.2.2⟩
theorem RXt_H {S S' : sn_S} {t : gT} (h : RXt S t) (a : agH S S') : RXt S' t := by
  unfold RXt at h ⊢
  rw [a.1 2 (by decide) (by decide) (by omega), a.1 3 (by decide) (by decide) (by omega), a.1 4 (by decide) (by decide) (by omega), a.1 5 (by decide) (by decide) (by omega), a.1 6 (by decide) (by decide) (by omega), a.1 7 (by decide) (by decide) (by omega), a.1 8 (by decide) (by decide) (by omega), a.1 9 (by decide) (by decide) (by omega)]
  exact h
def RHx (S : sn_S) (t : gT) (a : gH) : Prop := RW 98 S t a.1 ∧ S.1 0 27 = nI a.2.1 ∧ (∀ s, s < 6 → S.1 103 s = nI (a.2.2.1 s) - nI 1) ∧ S.1 0 26 = nI (t 0 0)
theorem x_hunt {w : sn_W} {S : sn_S} {t : gT} {F : gF} (hg : tG t) (hX : RXt S t) (hF : RFx w S t F) (p : Int32) {Q : Int32 → sn_S → Prop} (hok : ∀ seed S', seed ≤ 1000000 → p = nI seed → agH S S' → RHx S' t (hunts t F seed 5) → Q (nI (pc ((hunts t F seed 5).1 5 0))) (sn_pI S' 0 0 0)) (hno : (¬ ∃ seed : Nat, seed ≤ 1000000 ∧ p = nI seed) → Q (-1) (xRef S (-1) 1)) : wpX0_hunt w p S Q := by
  unfold wpX0_hunt
  have h6 := hg.1
  by_cases c : ¬ p < 0 ∧ ¬ 1000000 < p
  · obtain ⟨seed, hs, rfl⟩ := pn_in (hi := 1000000) (by decide) c.1 c.2
    refine x_inY c (bq_v i1 ?_)
    simp only [sn_lt]
    rw [sI_row _ _ _ (show (2 : Nat) ≠ 0 by decide), hX.1]
    have A0 : agH S (sn_pI (sn_pI S 0 27 (nI seed)) 0 26 (nI (t 0 0))) := agH_0 (agH_0 (agH_refl _) (Or.inr rfl) _) (Or.inl rfl) _
    have e27 : (sn_pI (sn_pI S 0 27 (nI seed)) 0 26 (nI (t 0 0))).1 0 27 = nI seed := by simp [sI_get]
    have e26 : (sn_pI (sn_pI S 0 27 (nI seed)) 0 26 (nI (t 0 0))).1 0 26 = nI (t 0 0) := by simp [sI_get]
    generalize sn_pI (sn_pI S 0 27 (nI seed)) 0 26 (nI (t 0 0)) = S0 at A0 e27 e26 ⊢
    refine x_begins (by decide) hg (RXt_H hX A0) (fun S1 B1 W1 => ?_)
    have A1 := agH_trans A0 (agH_W B1)
    have q27 : S1.1 0 27 = nI seed := by rw [B1.1 0 (by decide) (by decide)]; exact e27
    have q26 : S1.1 0 26 = nI (t 0 0) := by rw [B1.1 0 (by decide) (by decide)]; exact e26
    refine sn_jn_by (fun k15 => ∀ S', agH S S' → RHx S' t (hunts t F seed 0) → k15 S') (fun S2 A2 R2 => ?_) (fun k15 hk15 => ?_)
    · refine sn_jn_by (fun k17 => ∀ S', agH S S' → RHx S' t (hunts t F seed 5) → k17 S') (fun S3 A3 R3 => ?_) (fun k17 hk17 => ?_)
      · have ok5 := hOk_hunts (F := F) hg (show seed ≤ 1000002 by omega) 5 (Nat.le_refl _)
        rw [R3.1.2.2.2.2]
        refine x_ones ok5.1.2.2.2 ?_
        exact x_done (hok seed S3 hs rfl A3 R3)
      · refine sn_lp2_inv (fun i S' => ∃ h : Nat, h ≤ 5 ∧ i = nI h ∧ agH S S' ∧ RHx S' t (hunts t F seed h)) (fun i _ => 5 - i.toNatClampNeg) ?_ _ _ ⟨0, Nat.zero_le _, rfl, A2, R2⟩
        rintro rc i S3 ⟨h, hh, rfl, A3, R3⟩ hrc
        rw [show (5 : Int32) = nI 5 from rfl, pn_leN (by omega) (by omega)]
        by_cases he : h = 5
        · subst he
          exact bq_t (Nat.le_refl _) (hk17 S3 A3 R3)
        · refine bq_f (by omega) ⟨pn_vp (by omega) (by decide), ?_⟩
          have okh := hOk_hunts (F := F) hg (show seed ≤ 1000002 by omega) h (by omega)
          have X3 := RXt_H hX A3
          have hplan := hg.2.2.2.2.2.2.2.1 h (by omega)
          rw [pn_nat (n := h) (by omega), X3.2.2.2.2.2.2.2.1 h (by omega)]
          refine x_hour (by decide) hg X3 (RFx_ag hF A3.2.2) R3.1 okh.1 (by omega) hplan (fun S4 B4 W4 => ?_)
          have A4 := agH_trans A3 (agH_W B4)
          have R4 : RHx S4 t (hour t F h (t 6 h) (hunts t F seed h).1, (hunts t F seed h).2) := ⟨W4, by rw [B4.1 0 (by decide) (by decide)]; exact R3.2.1, fun s hs => by rw [B4.1 103 (by decide) (by omega)]; exact R3.2.2.1 s hs, by rw [B4.1 0 (by decide) (by decide)]; exact R3.2.2.2⟩
          have ok4 := hOk_hour (F := F) hg okh (show h < 5 by omega)
          refine sn_jn_by (fun k26 => ∀ S', agH S S' → RHx S' t (hunts t F seed (h + 1)) → k26 S') (fun S5 A5 R5 => ?_) (fun k26 hk26 => ?_)
          · rw [show nI h + 1 = nI (h + 1) from pn_add h 1]
            exact hrc _ _ ⟨h + 1, by omega, rfl, A5, R5⟩ (by rw [pn_nat (by omega), pn_nat (by omega)]; omega)
          · have hun : hunts t F seed (h + 1) = hrow t F h (hour t F h (t 6 h) (hunts t F seed h).1, (hunts t F seed h).2) (t 0 0) := rfl
            rw [hun] at hk26
            generalize ((hour t F h (t 6 h) (hunts t F seed h).1, (hunts t F seed h).2) : gH) = a at *
            refine sn_lp2_inv (fun i S' => ∃ n : Nat, n ≤ t 0 0 ∧ i = nI n ∧ agH S S' ∧ RHx S' t (hrow t F h a n)) (fun i _ => 6 - i.toNatClampNeg) ?_ _ _ ⟨0, Nat.zero_le _, rfl, A4, R4⟩
            rintro rc2 i S6 ⟨n, hn, rfl, A6, R6⟩ hrc2
            rw [R6.2.2.2, pn_leN (by omega) (by omega)]
            by_cases hne : n = t 0 0
            · subst hne
              exact bq_t (Nat.le_refl _) (hk26 S6 A6 R6)
            · have hlt : n < t 0 0 := by omega
              have v6 : vp_in (nI n) 6 := pn_vp (by omega) (by decide)
              refine bq_f (by omega) ⟨v6, ?_⟩
              have okn := hOk_row (F := F) (h := h) hg ok4 n hn
              have hun2 : hrow t F h a (n + 1) = hstep t F h (hrow t F h a n) n := rfl
              have step : ∀ S', agH S S' → RHx S' t (hrow t F h a (n + 1)) → rc2 (nI n + 1) S' := by
                intro S' h1 h2
                rw [show nI n + 1 = nI (n + 1) from pn_add n 1]
                exact hrc2 _ _ ⟨n + 1, by omega, rfl, h1, h2⟩ (by rw [pn_nat (by omega), pn_nat (by omega)]; omega)
              rw [hun2] at step
              generalize hrow t F h a n = b at *
              obtain ⟨ok1, ok2, ok3, ok5⟩ := okn
              refine sn_jn_by (fun k31 => ∀ S', agH S S' → RHx S' t (hstep t F h b n) → k31 S') step (fun k31 hk31 => ?_)
              have r2 := ok1.2.1 n hlt
              rw [pn_nat (n := n) (by omega), R6.1.2.1 n hlt]
              unfold hstep at hk31
              by_cases c2 : b.1 2 n = 0
              · refine bq_u ((sp_m1 (by omega)).mpr c2) ?_
                rw [R6.1.2.2.2.2]
                refine x_isOf ok1.2.2.2 (by omega) ?_
                have hbt := bt_lt (b.1 5 0) n
                by_cases c5 : bt (b.1 5 0) n = 0
                · refine bq_u (by rw [c5]; rfl) ?_
                  rw [if_pos ⟨c2, c5⟩] at hk31
                  unfold wpX0_draw
                  simp only [sn_lt]
                  have hdl := hd_lt b.2.1
                  rw [R6.2.1, lN_wide (by omega), hd_long _ ok3, lq_narrow (by omega), show (sn_pI S6 0 27 (nI (hd b.2.1))).1 0 27 = nI (hd b.2.1) by rw [sI_get, if_pos ⟨rfl, rfl⟩], show (100 : Int32) = nI 100 from rfl, pn_rem (by omega) (by decide)]
                  refine ⟨by decide, pn_vp (by omega) (by decide), ?_⟩
                  have A7 : agH S (sn_pI S6 0 27 (nI (hd b.2.1))) := agH_0 A6 (Or.inr rfl) _
                  have X7 := RXt_H hX A7
                  rw [X7.2.2.2.2.2.2.2.1 h (by omega)]
                  have W7 : RW 98 (sn_pI S6 0 27 (nI (hd b.2.1))) t b.1 := by
                    have := R6.1
                    unfold RW at this ⊢
                    rw [sI_row _ _ _ (by decide), sI_row _ _ _ (by decide), sI_row _ _ _ (by decide), sI_row _ _ _ (by decide), sI_row _ _ _ (by decide)]
                    exact this
                  refine x_eats hg X7 (RFx_ag hF A7.2.2) W7 ok1 hlt (by omega) hplan (fun S8 J8 => ?_)
                  have A8 := agH_trans A7 (agH_J J8)
                  have hm := Nat.mod_lt (hd b.2.1) (show 0 < 100 by decide)
                  have hcl : clmp (F 1 (vals t b.1 n (b.1 1 n) h (t 6 h))) ≤ 100 := by
                    unfold clmp
                    split <;> omega
                  have q0 : ∀ k, k ≠ 0 → S8.1 k = S6.1 k := fun k hk => by rw [J8.1, sI_row _ _ _ hk]
                  have q27 : S8.1 0 27 = nI (hd b.2.1) := by rw [J8.1, sI_get, if_pos ⟨rfl, rfl⟩]
                  have q26 : S8.1 0 26 = nI (t 0 0) := by rw [J8.1, sI_get, if_neg (by omega)]; exact R6.2.2.2
                  have W8 : RW 98 S8 t b.1 := by
                    have := R6.1
                    unfold RW at this ⊢
                    rw [q0 _ (by decide), q0 _ (by decide), q0 _ (by decide), q0 _ (by decide), q0 _ (by decide)]
                    exact this
                  rw [pn_ltN (by omega) (by omega), clmp_lt hm]
                  by_cases ce : ((hd b.2.1 % 100 : Nat) : Int) < eatv (F 1 (vals t b.1 n (b.1 1 n) h (t 6 h)))
                  · refine bq_t ce ?_
                    rw [if_pos ce] at hk31
                    rw [W8.2.2.2.2, bits_stb _ ok1.2.2.2 _ (by omega)]
                    refine ⟨v6, hk31 _ (agH_I (agH_I A8 ⟨by decide, by decide⟩ _ _) ⟨by decide, by decide⟩ _ _) ⟨?_, ?_, fun s hs => ?_, ?_⟩⟩
                    · obtain ⟨e1, e2, e3, e4, e5⟩ := tU_5 b.1 (stb (b.1 5 0) n)
                      obtain ⟨w1, w2, w3, w4, w5⟩ := W8
                      refine ⟨fun s hs => ?_, fun s hs => ?_, fun s hs => ?_, fun c hc => ?_, ?_⟩
                      · simp only [e1]
                        rw [sI_row _ _ _ (by decide), sI_row _ _ _ (by decide)]
                        exact w1 s hs
                      · simp only [e2]
                        rw [sI_row _ _ _ (by decide), sI_row _ _ _ (by decide)]
                        exact w2 s hs
                      · simp only [e3]
                        rw [sI_row _ _ _ (by decide), sI_row _ _ _ (by decide)]
                        exact w3 s hs
                      · simp only [e4]
                        rw [sI_row _ _ _ (by decide), sI_row _ _ _ (by decide)]
                        exact w4 c hc
                      · simp only [e5]
                        rw [sI_row _ _ _ (by decide), sI_get, if_pos ⟨rfl, rfl⟩]
                    · rw [sI_row _ _ _ (by decide), sI_row _ _ _ (by decide)]
                      exact q27
                    · rw [sI_get]
                      show _ = nI (if s = n then h + 1 else b.2.2.1 s) - nI 1
                      by_cases es : s = n
                      · rw [if_pos ⟨rfl, es⟩, if_pos es]
                        exact (pn_sub (a := h + 1) (b := 1) (by omega)).symm
                      · rw [if_neg (fun hh => es hh.2), if_neg es, sI_row _ _ _ (by decide), q0 _ (by decide)]
                        exact R6.2.2.1 s hs
                    · rw [sI_row _ _ _ (by decide), sI_row _ _ _ (by decide)]
                      exact q26
                  · refine bq_f ce ?_
                    rw [if_neg ce] at hk31
                    exact hk31 _ A8 ⟨W8, q27, fun s hs => by rw [q0 _ (by decide)]; exact R6.2.2.1 s hs, q26⟩
                · rw [if_neg (fun hh => c5 hh.2)] at hk31
                  exact bq_v (fun e => c5 ((pn_eqN (j := 0) (by omega) (by decide)).mp e)) (hk31 S6 A6 R6)
              · rw [if_neg (fun hh => c2 hh.1)] at hk31
                exact bq_v (fun e => c2 ((sp_m1 (by omega)).mp e)) (hk31 S6 A6 R6)
    · refine sn_lp2_inv (fun i S' => ∃ n : Nat, n ≤ 6 ∧ i = nI n ∧ agH S S' ∧ RW 98 S' t (dawn t) ∧ S'.1 0 27 = nI seed ∧ S'.1 0 26 = nI (t 0 0) ∧ (∀ s, s < n → S'.1 103 s = -1)) (fun i _ => 6 - i.toNatClampNeg) ?_ _ _ ⟨0, Nat.zero_le _, rfl, A1, W1, q27, q26, fun s hs => absurd hs (Nat.not_lt_zero _)⟩
      rintro rc i S2 ⟨n, hn, rfl, B1, B2, B3, B4, B5⟩ hrc
      rw [show (6 : Int32) = nI 6 from rfl, pn_leN (by omega) (by omega)]
      by_cases hne : n = 6
      · subst hne
        exact bq_t (Nat.le_refl _) (hk15 S2 B1 ⟨B2, B3, fun s hs => by rw [B5 s hs]; rfl, B4⟩)
      · refine bq_f (by omega) ⟨pn_vp (by omega) (by decide), ?_⟩
        rw [pn_nat (n := n) (by omega), show nI n + 1 = nI (n + 1) from pn_add n 1]
        refine hrc _ _ ⟨n + 1, by omega, rfl, agH_I B1 ⟨by decide, by decide⟩ _ _, ?_, by rw [sI_row _ _ _ (by decide)]; exact B3, by rw [sI_row _ _ _ (by decide)]; exact B4, fun s hs => ?_⟩ (by rw [pn_nat (by omega), pn_nat (by omega)]; omega)
        · unfold RW at B2 ⊢
          rw [sI_row _ _ _ (by decide), sI_row _ _ _ (by decide), sI_row _ _ _ (by decide), sI_row _ _ _ (by decide), sI_row _ _ _ (by decide)]
          exact B2
        · rw [sI_get]
          by_cases e : s = n
          · rw [if_pos ⟨rfl, e⟩]
          · rw [if_neg (fun hh => e hh.2)]
            exact B5 s (by omega)
  · refine x_inN c (bq_u rfl (x_refuse (i := 1) (by decide) (by decide) (hno ?_)))
    rintro ⟨seed, hs, rfl⟩
    exact c ((bI_rng (lo := 0) (hi := 1000000) (by decide) (by decide)).mpr ⟨seed, Nat.zero_le _, hs, rfl⟩)
/-- but for the model's hunted day -/
def agY (S S' : sn_S) : Prop := (∀ k, k ≠ 0 → (k < 13 ∨ 20 < k) → (k < 34 ∨ 36 < k) → S'.1 k = S.1 k) ∧ (∀ i, i ≠ 27 → i ≠ 30 → i ≠ 59 → S'.1 0 i = S.1 0 i) ∧ (∀ k, k ≠ 0 → k ≠ 13 → k ≠ 14 → S'.2.1 k = S.2.1 k) ∧ (∀ i, i ≠ 31 → i ≠ 32 → i ≠ 55 → S'.2.1 0 i = S.2.1 0 i) ∧ S'.2.2 = S.2.2
theorem agY_refl (S : sn_S) : agY S S := ⟨fun _ _ _ _ => rfl, fun _ _ _ _ => rfl, fun _ _ _ _ => rfl, fun _ _ _ _ => rfl, rfl⟩
theorem agY_trans {S1 S2 S3 : sn_S} (h : agY S1 S2) (k : agY S2 S3) : agY S1 S3 := ⟨fun i h0 h1 h2 => (k.1 i h0 h1 h2).trans (h.1 i h0 h1 h2), fun i h1 h2 h3 => (k.2.1 i h1 h2 h3).trans (h.2.1 i h1 h2 h3), fun i h0 h1 h2 => (k.2.2.1 i h0 h1 h2).trans (h.2.2.1 i h0 h1 h2), fun i h1 h2 h3 => (k.2.2.2.1 i h1 h2 h3).trans (h.2.2.2.1 i h1 h2 h3), k.2.2.2.2.trans h.2.2.2.2⟩
theorem agY_G {S S' : sn_S} (h : agG S S') : agY S S' := ⟨fun k h0 h1 _ => h.1 k h0 (by omega) (by omega) (by omega) (by omega) (by omega) (by omega), fun i h1 h2 _ => h.2.1 i h1 h2, h.2.2.1, fun i h1 h2 _ => h.2.2.2.1 i h1 h2, h.2.2.2.2⟩
theorem agY_I {S S' : sn_S} (h : agY S S') {k : Nat} (hk : k = 17 ∨ (34 ≤ k ∧ k ≤ 36)) (i : Nat) (v : Int32) : agY S (sn_pI S' k i v) := ⟨fun j h0 h1 h2 => by rw [sI_row _ _ _ (by omega)]; exact h.1 j h0 h1 h2, fun j h1 h2 h3 => by rw [sI_row _ _ _ (by omega)]; exact h.2.1 j h1 h2 h3, h.2.2⟩
theorem agY_59 {S S' : sn_S} (h : agY S S') (v : Int32) : agY S (sn_pI S' 0 59 v) := ⟨fun j h0 h1 h2 => by rw [sI_row _ _ _ h0]; exact h.1 j h0 h1 h2, fun j h1 h2 h3 => by rw [sI_get, if_neg (by omega)]; exact h.2.1 j h1 h2 h3, h.2.2⟩
theorem agY_J {S S' : sn_S} (h : agY S S') (v : Int64) : agY S (sn_pJ S' 0 55 v) := ⟨h.1, h.2.1, fun j h0 h1 h2 => by
  rw [← h.2.2.1 j h0 h1 h2]
  funext i'
  rw [sJ_get, if_neg (by omega)], fun j h1 h2 h3 => by rw [sJ_get, if_neg (by omega)]; exact h.2.2.2.1 j h1 h2 h3, h.2.2.2.2⟩
theorem RMt_Y {S S' : sn_S} {t : gT} (h : RMt S t) (a : agY S S') : RMt S' t := by
  unfold RMt at h ⊢
  rw [a.1 2 (by decide) (by decide) (by decide)]
  exact h
theorem RFm_Y {S S' : sn_S} {t : gT} {F : gF} (h : RFm S t F) (a : agY S S') : RFm S' t F := RFm_ag h (a.1 2 (by decide) (by decide) (by decide))
def RHm (S : sn_S) (t : gT) (a : gH) : Prop := RG S t a.1 ∧ S.2.1 0 55 = lN a.2.1 ∧ (∀ s, s < 6 → S.1 34 s = nI (a.2.2.1 s) - nI 1)
theorem m_hunt {S : sn_S} {t : gT} {F : gF} (hg : tG t) (hM : RMt S t) (hF : RFm S t F) (p : Int32) {Q : Int32 → sn_S → Prop} (hok : ∀ seed S', seed ≤ 1000000 → p = nI seed → agY (mT S) S' → S'.1 0 59 = nI (t 0 0) → (∀ s, s < t 0 0 → S'.1 34 s = nI ((hunts t F seed 5).2.2.1 s) - nI 1 ∧ S'.1 35 s = nI ((hunts t F seed 5).1 2 s) - nI 1 ∧ S'.1 36 s = nI ((hunts t F seed 5).1 1 s)) → Q (nI (hunts t F seed 5).2.2.2) (mTold S')) (hno : (¬ ∃ seed : Nat, seed ≤ 1000000 ∧ p = nI seed) → Q (-1) (mRef (mT S) (-1) 1)) : wpX9_hunt p S Q := by
  unfold wpX9_hunt
  have h6 := hg.1
  have hM' := RMt_mT hM
  have hF' : RFm (mT S) t F := RFm_ag hF (mT_2 S)
  simp only [sn_lt]
  rw [show sn_pI S 0 0 0 = mT S from rfl]
  by_cases c : ¬ p < 0 ∧ ¬ 1000000 < p
  · obtain ⟨seed, hs, rfl⟩ := pn_in (hi := 1000000) (by decide) c.1 c.2
    refine m_inY 0 1000000 rfl rfl c (bq_v i1 ?_)
    rw [lN_wide (by omega)]
    have A0 : agY (mT S) (sn_pJ (mT S) 0 55 (lN seed)) := agY_J (agY_refl _) _
    refine m_dawn hg (RMt_Y hM' A0) (fun S1 B1 W1 _ => ?_)
    have A1 := agY_trans A0 (agY_G B1)
    have q55 : S1.2.1 0 55 = lN seed := by rw [B1.2.2.2.1 55 (by decide) (by decide), sJ_get, if_pos ⟨rfl, rfl⟩]
    refine sn_jn_by (fun k15 => ∀ S', agY (mT S) S' → RHm S' t (hunts t F seed 0) → k15 S') (fun S2 A2 R2 => ?_) (fun k15 hk15 => ?_)
    · have ok5 := hOk_hunts (F := F) hg (show seed ≤ 1000002 by omega) 5 (Nat.le_refl _)
      have hpc := pc_lt ((hunts t F seed 5).1 5 0)
      refine sn_jn_by (fun k17 => ∀ S', agY (mT S) S' → RHm S' t (hunts t F seed 5) → k17 (nI (hunts t F seed 5).2.2.2) S') (fun S3 A3 R3 => ?_) (fun k17 hk17 => ?_)
      · have M3 := RMt_Y hM' A3
        rw [show S3.1 2 (Int32.toNatClampNeg 0) = nI (t 0 0) from M3.1]
        refine ⟨v0, ?_⟩
        have A4 : agY (mT S) (sn_pI S3 0 59 (nI (t 0 0))) := agY_59 A3 _
        have W4 : RG (sn_pI S3 0 59 (nI (t 0 0))) t (hunts t F seed 5).1 := by
          have := R3.1
          unfold RG at this ⊢
          rw [sI_row _ _ _ (by decide), sI_row _ _ _ (by decide), sI_row _ _ _ (by decide), sI_row _ _ _ (by decide)]
          exact this
        have e34 : ∀ s, s < 6 → (sn_pI S3 0 59 (nI (t 0 0))).1 34 s = nI ((hunts t F seed 5).2.2.1 s) - nI 1 := fun s hs => by rw [sI_row _ _ _ (by decide)]; exact R3.2.2 s hs
        have e59 : (sn_pI S3 0 59 (nI (t 0 0))).1 0 59 = nI (t 0 0) := by rw [sI_get, if_pos ⟨rfl, rfl⟩]
        generalize sn_pI S3 0 59 (nI (t 0 0)) = S4 at A4 W4 e34 e59 ⊢
        refine sn_jn_by (fun k12 => ∀ S', agY (mT S) S' → S'.1 0 59 = nI (t 0 0) → (∀ s, s < t 0 0 → S'.1 34 s = nI ((hunts t F seed 5).2.2.1 s) - nI 1 ∧ S'.1 35 s = nI ((hunts t F seed 5).1 2 s) - nI 1 ∧ S'.1 36 s = nI ((hunts t F seed 5).1 1 s)) → k12 S') (fun S5 A5 e5 R5 => ?_) (fun k12 hk12 => ?_)
        · refine m_tellP ((pn_leN (i := 0) (by decide) (by rw [ok5.2.2.2]; omega)).mpr (Nat.zero_le _)) ?_
          exact hok seed S5 hs rfl A5 e5 R5
        · refine sn_lp2_inv (fun i S' => ∃ n : Nat, n ≤ t 0 0 ∧ i = nI n ∧ agY (mT S) S' ∧ S'.1 0 59 = nI (t 0 0) ∧ (∀ k, k ≠ 35 → k ≠ 36 → S'.1 k = S4.1 k) ∧ (∀ s, s < n → S'.1 35 s = nI ((hunts t F seed 5).1 2 s) - nI 1 ∧ S'.1 36 s = nI ((hunts t F seed 5).1 1 s))) (fun i _ => 6 - i.toNatClampNeg) ?_ _ _ ⟨0, Nat.zero_le _, rfl, A4, e59, fun _ _ _ => rfl, fun s hs => absurd hs (Nat.not_lt_zero _)⟩
          rintro rc i S5 ⟨n, hn, rfl, B1, B2, B3, B4⟩ hrc
          rw [B2, pn_leN (by omega) (by omega)]
          by_cases hne : n = t 0 0
          · subst hne
            refine bq_t (Nat.le_refl _) (hk12 S5 B1 B2 (fun s hs => ⟨?_, B4 s hs⟩))
            rw [B3 34 (by decide) (by decide)]
            exact e34 s (by omega)
          · refine bq_f (by omega) ?_
            have v6 : vp_in (nI n) 6 := pn_vp (by omega) (by decide)
            rw [pn_nat (n := n) (by omega), show nI n + 1 = nI (n + 1) from pn_add n 1, sI_row _ _ _ (show (15 : Nat) ≠ 35 by decide), B3 15 (by decide) (by decide), B3 16 (by decide) (by decide), W4.1 n (by omega), W4.2.1 n (by omega)]
            refine ⟨v6, v6, v6, v6, hrc _ _ ⟨n + 1, by omega, rfl, agY_I (agY_I B1 (Or.inr ⟨by decide, by decide⟩) _ _) (Or.inr ⟨by decide, by decide⟩) _ _, by rw [sI_row _ _ _ (by decide), sI_row _ _ _ (by decide)]; exact B2, fun k h1 h2 => by rw [sI_row _ _ _ h2, sI_row _ _ _ h1]; exact B3 k h1 h2, fun s hs => ?_⟩ (by rw [pn_nat (by omega), pn_nat (by omega)]; omega)⟩
            by_cases e : s = n
            · subst e
              exact ⟨by rw [sI_row _ _ _ (by decide), sI_get, if_pos ⟨rfl, rfl⟩], by rw [sI_get, if_pos ⟨rfl, rfl⟩]⟩
            · obtain ⟨g1, g2⟩ := B4 s (by omega)
              exact ⟨by rw [sI_row _ _ _ (by decide), sI_get, if_neg (fun hh => e hh.2)]; exact g1, by rw [sI_get, if_neg (fun hh => e hh.2), sI_row _ _ _ (by decide)]; exact g2⟩
      · refine sn_lp3_inv (fun x i S' => ∃ h : Nat, h ≤ 5 ∧ i = nI h ∧ x = nI (hunts t F seed h).2.2.2 ∧ agY (mT S) S' ∧ RHm S' t (hunts t F seed h)) (fun _ i _ => 5 - i.toNatClampNeg) ?_ _ _ _ ⟨0, Nat.zero_le _, rfl, rfl, A2, R2⟩
        rintro rc x i S3 ⟨h, hh, rfl, rfl, A3, R3⟩ hrc
        rw [show (5 : Int32) = nI 5 from rfl, pn_leN (by omega) (by omega)]
        by_cases he : h = 5
        · subst he
          exact bq_t (Nat.le_refl _) (hk17 S3 A3 R3)
        · refine bq_f (by omega) ?_
          have okh := hOk_hunts (F := F) hg (show seed ≤ 1000002 by omega) h (by omega)
          have M3 := RMt_Y hM' A3
          have hplan := hg.2.2.2.2.2.2.2.1 h (by omega)
          rw [show (7 : Int32) + nI h = nI (7 + h) from pn_add 7 h, pn_nat (n := 7 + h) (by omega), M3.2.2.2.2.2.2.2.1 h (by omega)]
          refine ⟨vm (by omega), m_hour hg M3 (RFm_Y hF' A3) R3.1 okh.1 okh.2.1 (by omega) hplan (fun S4 B4 W4 _ _ => ?_)⟩
          have A4 := agY_trans A3 (agY_G B4)
          have R4 : RHm S4 t (hour t F h (t 6 h) (hunts t F seed h).1, (hunts t F seed h).2) := ⟨W4, by rw [B4.2.2.2.1 55 (by decide) (by decide)]; exact R3.2.1, fun s hs => by rw [B4.1 34 (by decide) (by decide) (by decide) (by decide) (by decide) (by decide) (by decide)]; exact R3.2.2 s hs⟩
          have ok4 := hOk_hour (F := F) hg okh (show h < 5 by omega)
          have ex : (hunts t F seed h).2.2.2 = ((hour t F h (t 6 h) (hunts t F seed h).1, (hunts t F seed h).2) : gH).2.2.2 := rfl
          rw [ex]
          refine sn_jn_by (fun k26 => ∀ S', agY (mT S) S' → RHm S' t (hunts t F seed (h + 1)) → k26 (nI (hunts t F seed (h + 1)).2.2.2) S') (fun S5 A5 R5 => ?_) (fun k26 hk26 => ?_)
          · rw [show nI h + 1 = nI (h + 1) from pn_add h 1]
            exact hrc _ _ _ ⟨h + 1, by omega, rfl, rfl, A5, R5⟩ (by rw [pn_nat (by omega), pn_nat (by omega)]; omega)
          · have hun : hunts t F seed (h + 1) = hrow t F h (hour t F h (t 6 h) (hunts t F seed h).1, (hunts t F seed h).2) (t 0 0) := rfl
            rw [hun] at hk26
            generalize ((hour t F h (t 6 h) (hunts t F seed h).1, (hunts t F seed h).2) : gH) = a at *
            refine sn_lp3_inv (fun x i S' => ∃ n : Nat, n ≤ t 0 0 ∧ i = nI n ∧ x = nI (hrow t F h a n).2.2.2 ∧ agY (mT S) S' ∧ RHm S' t (hrow t F h a n)) (fun _ i _ => 6 - i.toNatClampNeg) ?_ _ _ _ ⟨0, Nat.zero_le _, rfl, rfl, A4, R4⟩
            rintro rc2 x i S6 ⟨n, hn, rfl, rfl, A6, R6⟩ hrc2
            have M6 := RMt_Y hM' A6
            rw [show S6.1 2 (Int32.toNatClampNeg 0) = nI (t 0 0) from M6.1, pn_leN (by omega) (by omega)]
            refine ⟨v0, ?_⟩
            by_cases hne : n = t 0 0
            · subst hne
              exact bq_t (Nat.le_refl _) (hk26 S6 A6 R6)
            · have hlt : n < t 0 0 := by omega
              have v6 : vp_in (nI n) 6 := pn_vp (by omega) (by decide)
              refine bq_f (by omega) ⟨v6, ?_⟩
              have okn := hOk_row (F := F) (h := h) hg ok4 n hn
              have hun2 : hrow t F h a (n + 1) = hstep t F h (hrow t F h a n) n := rfl
              have step : ∀ S', agY (mT S) S' → RHm S' t (hrow t F h a (n + 1)) → rc2 (nI (hrow t F h a (n + 1)).2.2.2) (nI n + 1) S' := by
                intro S' h1 h2
                rw [show nI n + 1 = nI (n + 1) from pn_add n 1]
                exact hrc2 _ _ _ ⟨n + 1, by omega, rfl, rfl, h1, h2⟩ (by rw [pn_nat (by omega), pn_nat (by omega)]; omega)
              rw [hun2] at step
              generalize hrow t F h a n = b at *
              obtain ⟨ok1, ok2, ok3, ok5'⟩ := okn
              refine sn_jn_by (fun k31 => ∀ S', agY (mT S) S' → RHm S' t (hstep t F h b n) → k31 (nI (hstep t F h b n).2.2.2) S') step (fun k31 hk31 => ?_)
              have r2 := ok1.2.1 n hlt
              rw [pn_nat (n := n) (by omega), R6.1.2.1 n hlt]
              unfold hstep at hk31
              by_cases c2 : b.1 2 n = 0
              · refine bq_u ((sp_m1 (by omega)).mpr c2) ⟨v6, ?_⟩
                rw [R6.1.2.2.2 n hlt]
                have hbt := bt_lt (b.1 5 0) n
                by_cases c5 : bt (b.1 5 0) n = 0
                · refine bq_u (by rw [c5]; rfl) ?_
                  rw [if_pos ⟨c2, c5⟩] at hk31
                  have hdl := hd_lt b.2.1
                  rw [R6.2.1, hd_long _ ok3]
                  have A7 : agY (mT S) (sn_pJ S6 0 55 (lN (hd b.2.1))) := agY_J A6 _
                  have M7 := RMt_Y hM' A7
                  have W7 : RG (sn_pJ S6 0 55 (lN (hd b.2.1))) t b.1 := R6.1
                  rw [W7.1 n hlt, M7.2.2.2.2.2.2.2.1 h (by omega)]
                  refine ⟨v6, vm (by omega), m_tells (hd := 1) hg M7 (RFm_Y hF' A7) W7 ok1 (by decide) hlt (ok1.1 n hlt) (by omega) hplan (fun S8 T8 => ?_)⟩
                  have A8 := agY_trans A7 (agY_G (agG_T T8))
                  have hm := Nat.mod_lt (hd b.2.1) (show 0 < 100 by decide)
                  have q55 : S8.2.1 0 55 = lN (hd b.2.1) := by rw [T8.2.2.2.1 55 (by decide) (by decide), sJ_get, if_pos ⟨rfl, rfl⟩]
                  have q34 : ∀ s, s < 6 → S8.1 34 s = nI (b.2.2.1 s) - nI 1 := fun s hs => by rw [T8.1 34 (by decide)]; exact R6.2.2 s hs
                  have W8 := RG_T W7 T8
                  have hlt2 : (0 ≤ lg_cmp (S8.2.1 0 55 - S8.2.1 0 55 / 100 * 100) (lM 0 (F 1 (vals t b.1 n (b.1 1 n) h (t 6 h))))) ↔ ¬ ((hd b.2.1 % 100 : Nat) : Int) < eatv (F 1 (vals t b.1 n (b.1 1 n) h (t 6 h))) := by
                    have eM : lM 0 (F 1 (vals t b.1 n (b.1 1 n) h (t 6 h))) = Int64.ofInt (eatv (F 1 (vals t b.1 n (b.1 1 n) h (t 6 h)))) := by
                      cases F 1 (vals t b.1 n (b.1 1 n) h (t 6 h)) with
                      | none => rfl
                      | some z => rfl
                    have er : -1000000000 ≤ eatv (F 1 (vals t b.1 n (b.1 1 n) h (t 6 h))) ∧ eatv (F 1 (vals t b.1 n (b.1 1 n) h (t 6 h))) ≤ 1000000000 := by
                      cases e : F 1 (vals t b.1 n (b.1 1 n) h (t 6 h)) with
                      | none => exact ⟨by simp [eatv], by simp [eatv]⟩
                      | some z => exact hF.1.1 _ _ _ e
                    rw [q55, show (100 : Int64) = lN 100 from rfl, lq_rem (by omega) (by decide), eM]
                    have e1 : lN (hd b.2.1 % 100) = Int64.ofInt ((hd b.2.1 % 100 : Nat) : Int) := by rw [← lN_wide (by omega), lN_ofInt (by omega)]
                    rw [e1, ← lI_lt (by omega) (by omega) (by omega) (by omega), ← lc_lt, pn_le, pn_lt]
                    have h0 : (0 : Int32).toInt = 0 := rfl
                    omega
                  by_cases ce : ((hd b.2.1 % 100 : Nat) : Int) < eatv (F 1 (vals t b.1 n (b.1 1 n) h (t 6 h)))
                  · refine bq_f (fun hh => hlt2.mp hh ce) ?_
                    rw [if_pos ce] at hk31
                    refine ⟨v6, v6, ?_⟩
                    have e1' : nI b.2.2.2 + 1 = nI (b.2.2.2 + 1) := pn_add _ 1
                    rw [e1', show vp_nar .boolean 1 = 1 from rfl]
                    refine hk31 _ (agY_I (agY_I A8 (Or.inl rfl) _ _) (Or.inr ⟨by decide, by decide⟩) _ _) ⟨?_, q55, fun s hs => ?_⟩
                    · obtain ⟨e1, e2, e3, e4, e5⟩ := tU_5 b.1 (stb (b.1 5 0) n)
                      obtain ⟨w1, w2, w4, w5⟩ := W8
                      refine ⟨fun s hs => ?_, fun s hs => ?_, fun c hc => ?_, fun s hs => ?_⟩
                      · simp only [e1]
                        rw [sI_row _ _ _ (by decide), sI_row _ _ _ (by decide)]
                        exact w1 s hs
                      · simp only [e2]
                        rw [sI_row _ _ _ (by decide), sI_row _ _ _ (by decide)]
                        exact w2 s hs
                      · simp only [e4]
                        rw [sI_row _ _ _ (by decide), sI_row _ _ _ (by decide)]
                        exact w4 c hc
                      · simp only [e5]
                        rw [sI_row _ _ _ (by decide), sI_get, bt_stb _ _ _ ok1.2.2.2 (by omega) (by omega)]
                        by_cases es : s = n
                        · rw [if_pos ⟨rfl, es⟩, if_pos es]
                          rfl
                        · rw [if_neg (fun hh => es hh.2), if_neg es]
                          exact w5 s hs
                    · rw [sI_get]
                      show _ = nI (if s = n then h + 1 else b.2.2.1 s) - nI 1
                      by_cases es : s = n
                      · rw [if_pos ⟨rfl, es⟩, if_pos es]
                        exact (pn_sub (a := h + 1) (b := 1) (by omega)).symm
                      · rw [if_neg (fun hh => es hh.2), if_neg es, sI_row _ _ _ (by decide)]
                        exact q34 s hs
                  · refine bq_t (hlt2.mpr ce) ?_
                    rw [if_neg ce] at hk31
                    exact hk31 _ A8 ⟨W8, q55, q34⟩
                · rw [if_neg (fun hh => c5 hh.2)] at hk31
                  exact bq_v (fun e => c5 ((pn_eqN (j := 0) (by omega) (by decide)).mp e)) (hk31 S6 A6 R6)
              · rw [if_neg (fun hh => c2 hh.1)] at hk31
                exact bq_v (fun e => c2 ((sp_m1 (by omega)).mp e)) (hk31 S6 A6 R6)
    · refine sn_lp2_inv (fun i S' => ∃ n : Nat, n ≤ 6 ∧ i = nI n ∧ agY (mT S) S' ∧ RG S' t (dawn t) ∧ S'.2.1 0 55 = lN seed ∧ (∀ s, s < n → S'.1 34 s = -1)) (fun i _ => 6 - i.toNatClampNeg) ?_ _ _ ⟨0, Nat.zero_le _, rfl, A1, W1, q55, fun s hs => absurd hs (Nat.not_lt_zero _)⟩
      rintro rc i S2 ⟨n, hn, rfl, B1, B2, B3, B5⟩ hrc
      rw [show (6 : Int32) = nI 6 from rfl, pn_leN (by omega) (by omega)]
      by_cases hne : n = 6
      · subst hne
        exact bq_t (Nat.le_refl _) (hk15 S2 B1 ⟨B2, B3, fun s hs => by rw [B5 s hs]; rfl⟩)
      · refine bq_f (by omega) ⟨pn_vp (by omega) (by decide), ?_⟩
        rw [pn_nat (n := n) (by omega), show nI n + 1 = nI (n + 1) from pn_add n 1]
        refine hrc _ _ ⟨n + 1, by omega, rfl, agY_I B1 (Or.inr ⟨by decide, by decide⟩) _ _, ?_, B3, fun s hs => ?_⟩ (by rw [pn_nat (by omega), pn_nat (by omega)]; omega)
        · unfold RG at B2 ⊢
          rw [sI_row _ _ _ (by decide), sI_row _ _ _ (by decide), sI_row _ _ _ (by decide), sI_row _ _ _ (by decide)]
          exact B2
        · rw [sI_get]
          by_cases e : s = n
          · rw [if_pos ⟨rfl, e⟩]
          · rw [if_neg (fun hh => e hh.2)]
            exact B5 s (by omega)
  · refine m_inN 0 1000000 rfl rfl c (bq_u rfl (m_tellN (i := 1) (by decide) (by decide) (by decide) (hno ?_)))
    rintro ⟨seed, hs, rfl⟩
    exact c ((bI_rng (lo := 0) (hi := 1000000) (by decide) (by decide)).mpr ⟨seed, Nat.zero_le _, hs, rfl⟩)
/-- the hunted day told -/
def RHd (SX SM : sn_S) : Prop := ∃ n : Nat, n ≤ 6 ∧ SX.1 0 26 = nI n ∧ SM.1 0 59 = nI n ∧ ∀ s, s < n → SX.1 103 s = SM.1 34 s ∧ SX.1 (98 + 2) s = SM.1 35 s ∧ SX.1 (98 + 1) s = SM.1 36 s
/-- hunt(seed) -/
theorem o_hunt {w : sn_W} {SX SM : sn_S} {t : gT} {F : gF} (hg : tG t) (hX : RXt SX t) (hM : RMt SM t) (hF : RFx w SX t F) (hFm : RFm SM t F) (p : Int32) {K : Int32 → sn_S → Int32 → sn_S → Prop}
    (hok : ∀ r S1 S2, agH SX S1 → agY (mT SM) S2 → RHd S1 S2 → K r (sn_pI S1 0 0 0) r (mTold S2))
    (hno : K (-1) (xRef SX (-1) 1) (-1) (mRef (mT SM) (-1) 1)) : wpX0_hunt w p SX (fun r S1 => wpX9_hunt p SM (fun r2 S2 => K r S1 r2 S2)) := by
  have h6 := hg.1
  refine x_hunt hg hX hF p (fun seed S1 hs e A1 R1 => ?_) (fun hn => ?_)
  · refine m_hunt hg hM hFm p (fun seed2 S2 hs2 e2 A2 e59 R2 => ?_) (fun hn => absurd ⟨seed, hs, e⟩ hn)
    have : seed = seed2 := (pn_eqN (by omega) (by omega)).mp (e.symm.trans e2)
    subst this
    have ok5 := hOk_hunts (F := F) hg (show seed ≤ 1000002 by omega) 5 (Nat.le_refl _)
    rw [← ok5.2.2.2]
    refine hok _ S1 S2 A1 A2 ⟨t 0 0, h6, R1.2.2.2, e59, fun s hs => ?_⟩
    obtain ⟨g1, g2, g3⟩ := R2 s hs
    exact ⟨by rw [R1.2.2.1 s (by omega), g1], by rw [R1.1.2.1 s hs, g2], by rw [R1.1.1 s hs, g3]⟩
  · exact m_hunt hg hM hFm p (fun seed2 S2 hs2 e2 _ _ _ => absurd ⟨seed2, hs2, e2⟩ hn) (fun _ => hno)
/-- hunted(snail, what) -/
theorem o_hunted {w : sn_W} {SX SM : sn_S} (hR : RHd SX SM) (a b : Int32) {K : Int32 → Int32 → sn_S → Prop} (hK : ∀ r : Int32, K r r (mT SM)) : wpX0_hunted w a b SX (fun r => wpX9_hunted a b SM (fun r2 S2 => K r r2 S2)) := by
  obtain ⟨n, hn, e1, e2, hr⟩ := hR
  unfold wpX0_hunted wpX9_hunted
  simp only [sn_lt]
  rw [show sn_pI SM 0 0 0 = mT SM from rfl, e1, show (mT SM).1 0 59 = nI n by rw [mT, sI_get, if_neg (by omega)]; exact e2, sm_wide _ (by omega)]
  have mk : ∀ k, k ≠ 0 → (mT SM).1 k = SM.1 k := fun k hk => by rw [mT, sI_row _ _ _ hk]
  by_cases c1 : ∃ s : Nat, s < n ∧ a = nI s
  · obtain ⟨s, hs, rfl⟩ := c1
    have cin := (sm_in (N := n) (by omega) (nI s)).mpr ⟨s, hs, rfl⟩
    obtain ⟨g1, g2, g3⟩ := hr s hs
    have v6 : vp_in (nI s) 6 := pn_vp (by omega) (by decide)
    refine x_inY cin (bq_n i1 ?_)
    by_cases c2 : ¬ b < 0 ∧ ¬ 2 < b
    · obtain ⟨j, hj, rfl⟩ := pn_in (hi := 2) (by decide) c2.1 c2.2
      refine x_inY c2 (bq_v i1 ?_)
      have mm : ∀ r, (∀ j', j' < 3 → nI j = nI j' → r = (if j' = 0 then SM.1 34 s else if j' = 1 then SM.1 35 s else SM.1 36 s)) → wpX9_in (Int32.toInt64 (nI s)) 0 (Int32.toInt64 (nI n - 1)) (fun (r2 : Int32) => ((¬ r2 = 0 → sn_sw (nI j) 0 [(vp_in (nI s) 6 ∧ K r ((mT SM).1 34 (nI s).toNatClampNeg) (mT SM)), (vp_in (nI s) 6 ∧ K r ((mT SM).1 35 (nI s).toNatClampNeg) (mT SM)), (vp_in (nI s) 6 ∧ K r ((mT SM).1 36 (nI s).toNatClampNeg) (mT SM))] (K r (-1) (mT SM))) ∧ (r2 = 0 → K r (-1) (mT SM)))) := by
        intro r hr'
        refine m_inY 0 (nI n - 1) rfl rfl cin (bq_v i1 (sw_of _ (by simp) (fun j' e A hA => ?_) (fun h => absurd ⟨j, by simp; omega, rfl⟩ h)))
        have hj' : j' < 3 := by
          rcases Nat.lt_or_ge j' 3 with h | h
          · exact h
          · rw [List.getElem?_eq_none h] at hA
            exact absurd hA (by simp)
        have hv := hr' j' hj' e
        rw [pn_nat (n := s) (by omega), mk 34 (by decide), mk 35 (by decide), mk 36 (by decide)] at hA
        match j', hj' with
        | 0, _ => cases hA; refine ⟨v6, ?_⟩; rw [show r = SM.1 34 s from hv]; exact hK _
        | 1, _ => cases hA; refine ⟨v6, ?_⟩; rw [show r = SM.1 35 s from hv]; exact hK _
        | 2, _ => cases hA; refine ⟨v6, ?_⟩; rw [show r = SM.1 36 s from hv]; exact hK _
      rw [show (SX.1 (98 + 1) (nI s).toNatClampNeg) = SM.1 36 s by rw [pn_nat (by omega)]; exact g3, show (SX.1 (98 + 2) (nI s).toNatClampNeg) = SM.1 35 s by rw [pn_nat (by omega)]; exact g2, show (SX.1 103 (nI s).toNatClampNeg) = SM.1 34 s by rw [pn_nat (by omega)]; exact g1]
      have ej : ∀ x j' : Nat, x < 3 → j' < 3 → nI x = nI j' → x = j' := fun x j' hx hj' e => (pn_eqN (by omega) (by omega)).mp e
      rcases (show j = 0 ∨ j = 1 ∨ j = 2 by omega) with rfl | rfl | rfl
      · exact bq_u rfl ⟨v6, mm _ (fun j' hj' e => by have := ej 0 j' (by decide) hj' e; subst this; rfl)⟩
      · exact bq_v (by decide) (bq_u rfl ⟨v6, mm _ (fun j' hj' e => by have := ej 1 j' (by decide) hj' e; subst this; rfl)⟩)
      · exact bq_v (by decide) (bq_v (by decide) ⟨v6, mm _ (fun j' hj' e => by have := ej 2 j' (by decide) hj' e; subst this; rfl)⟩)
    · refine x_inN c2 (bq_u rfl (m_inY 0 (nI n - 1) rfl rfl cin (bq_v i1 (sw_of _ (by simp) (fun j' e A hA => ?_) (fun _ => hK _)))))
      exfalso
      have hj' : j' < 3 := by
        rcases Nat.lt_or_ge j' 3 with h | h
        · exact h
        · rw [List.getElem?_eq_none h] at hA
          exact absurd hA (by simp)
      subst e
      exact c2 ((bI_rng (lo := 0) (hi := 2) (by decide) (by decide)).mpr ⟨j', Nat.zero_le _, by omega, rfl⟩)
  · have cn : ¬ (¬ a < 0 ∧ ¬ (nI n - 1) < a) := fun h => c1 ((sm_in (by omega) _).mp h)
    exact x_inN cn (bq_z rfl (m_inN 0 (nI n - 1) rfl rfl cn (bq_u rfl (hK _))))
