/-! THE PLAIN LAW, twenty-first part: duel -/
set_option maxRecDepth 100000
def stp2 (h v sp : Nat) (a : Nat × Nat) : Nat × Nat := if a.1 ≠ 0 ∧ (if h % 2 = 0 then a.1 ≤ v + 1 else v + 1 ≤ a.1) then a else (v + 1, sp)
def acR (f : Nat → Nat) (h : Nat) : Nat → Nat × Nat
  | 0 => (0, 0)
  | n + 1 => stp2 h (f n) n (acR f h n)
/-- how far it ends, k hours to come behind the plan's first h -/
def dl (t : gT) (F : gF) (s : Nat) : Nat → Nat → (Nat → Nat) → Nat
  | 0, h, p => apt (gp t F p h 1 s) (t 4 (6 * s + 1))
  | k + 1, h, p => (acR (fun sp => dl t F s k (h + 1) (upN p h sp)) h (t 0 1 + 1)).1 - 1
theorem acR_congr {f g : Nat → Nat} {h : Nat} : ∀ n, (∀ i, i < n → f i = g i) → acR f h n = acR g h n
  | 0, _ => rfl
  | n + 1, e => by
    unfold acR
    rw [e n (by omega), acR_congr n (fun i hi => e i (by omega))]
theorem dl_congr {t : gT} {F : gF} {s : Nat} : ∀ (k h : Nat) (p q : Nat → Nat), (∀ j, j < h → p j = q j) → dl t F s k h p = dl t F s k h q
  | 0, h, p, q, e => by
    unfold dl
    rw [gp_congr h e]
  | k + 1, h, p, q, e => by
    unfold dl
    rw [acR_congr _ (fun i _ => dl_congr k (h + 1) (upN p h i) (upN q h i) (fun j hj => ?_))]
    unfold upN
    by_cases ej : j = h
    · rw [if_pos ej, if_pos ej]
    · rw [if_neg ej, if_neg ej]
      exact e j (by omega)
theorem acR_rng {f : Nat → Nat} {h b : Nat} : ∀ n, (∀ i, i < n → f i ≤ b) → (acR f h n).1 ≤ b + 1 ∧ (n ≠ 0 → (acR f h n).1 ≠ 0)
  | 0, _ => ⟨Nat.zero_le _, fun h => absurd rfl h⟩
  | n + 1, e => by
    obtain ⟨h1, h2⟩ := acR_rng n (fun i hi => e i (by omega)) (h := h)
    have h3 := e n (by omega)
    unfold acR stp2
    by_cases hh : (acR f h n).1 ≠ 0 ∧ (if h % 2 = 0 then (acR f h n).1 ≤ f n + 1 else f n + 1 ≤ (acR f h n).1)
    · rw [if_pos hh]
      exact ⟨h1, fun _ => hh.1⟩
    · rw [if_neg hh]
      exact ⟨by simp; omega, fun _ => by simp⟩
theorem dl_le {t : gT} {F : gF} {s : Nat} (hg : tG t) (hs : s < t 0 0) : ∀ (k h : Nat) (p : Nat → Nat), h + k ≤ 5 → dl t F s k h p ≤ 18
  | 0, h, p, hh => apt_lt ((gp_ok (F := F) (p := p) hg h (by omega)).1.1 s hs) (hg.2.2.2.2.2.1 s hs).2.1
  | k + 1, h, p, hh => by
    have := (acR_rng (f := fun sp => dl t F s k (h + 1) (upN p h sp)) (h := h) (b := 18) (t 0 1 + 1) (fun i _ => dl_le hg hs k (h + 1) _ (by omega))).1
    unfold dl
    omega
/-- x: duel -/
theorem x_duelR {w : sn_W} {t : gT} {F : gF} {kl s H : Nat} (hkl : kl = 22 ∨ kl = 56) (hg : tG t) (hs : s < t 0 0) (hH : H ≤ 5) : ∀ (k d h : Nat) (p : Nat → Nat) (S : sn_S), k < d → h + k = H → RXt S t → RFx w S t F → RW (kl + 4 + 5 * h) S t (gp t F p h) → ∀ Q : Int32 → sn_S → Prop, (∀ S', agL kl S S' → S'.1 kl = S.1 kl → (∀ j, 3 ≤ j → j ≤ 8 + 5 * h → S'.1 (kl + j) = S.1 (kl + j)) → (∀ j, j < h → S'.1 (kl + 2) j = S.1 (kl + 2) j) → (k ≠ 0 → S'.1 (kl + 2) h = nI (acR (fun sp => dl t F s (k - 1) (h + 1) (upN p h sp)) h (t 0 1 + 1)).2 - nI 1) → Q (nI (dl t F s k h p)) S') → wpX5_duel w d kl (nI h) (nI H) (nI s) S Q
  | 0, d + 1, h, p, S, _, hhk, hX, hF, hW, Q, k => by
    have hh : h = H := by omega
    subst hh
    have h6 := hg.1
    unfold wpX5_duel wpX5_duelF
    have iW : isW (kl + 4 + 5 * h) = true := by
      rcases hkl with rfl | rfl <;> (rcases (show h = 0 ∨ h = 1 ∨ h = 2 ∨ h = 3 ∨ h = 4 ∨ h = 5 by omega) with rfl | rfl | rfl | rfl | rfl | rfl <;> decide)
    rw [pn_nat (n := h) (by omega), pn_nat (n := s) (by omega)]
    refine bq_u rfl ⟨pn_vp (by omega) (by decide), iW, ?_⟩
    simp only [sn_lt]
    refine ⟨pn_vp (by omega) (by decide), x_of0 (s := s) (f := 1) hX (by omega) ?_⟩
    rw [hW.1 s hs]
    refine x_apart ((gp_ok (F := F) (p := p) hg h hH).1.1 s hs) (hg.2.2.2.2.2.1 s hs).2.1 ?_
    exact k S (agL_refl _ _) rfl (fun _ _ _ => rfl) (fun _ _ => rfl) (fun h => absurd rfl h)
  | n + 1, d + 1, h, p, S, hd, hhk, hX, hF, hW, Q, k => by
    have hh : h < H := by omega
    have h4 := hg.2.1
    unfold wpX5_duel wpX5_duelF
    refine bq_v (fun e => by have := (pn_eqN (by omega) (by omega)).mp e; omega) ?_
    rw [show (2 : Int32) = nI 2 from rfl, pn_rem (by omega) (by decide)]
    have hf18 : ∀ i, dl t F s n (h + 1) (upN p h i) ≤ 18 := fun i => dl_le hg hs n (h + 1) _ (by omega)
    refine sn_lp3_inv (fun b i S1 => ∃ sp : Nat, sp ≤ t 0 1 + 1 ∧ i = nI sp - nI 1 ∧ b = nI (acR (fun sp => dl t F s n (h + 1) (upN p h sp)) h sp).1 - nI 1 ∧ agL kl S S1 ∧ S1.1 kl = S.1 kl ∧ (∀ j, 3 ≤ j → j ≤ 8 + 5 * h → S1.1 (kl + j) = S.1 (kl + j)) ∧ (∀ j, j < h → S1.1 (kl + 2) j = S.1 (kl + 2) j) ∧ ((acR (fun sp => dl t F s n (h + 1) (upN p h sp)) h sp).1 ≠ 0 → S1.1 (kl + 2) h = nI (acR (fun sp => dl t F s n (h + 1) (upN p h sp)) h sp).2 - nI 1)) (fun _ i _ => 8 - (i + 1).toNatClampNeg) ?_ _ _ _ ⟨0, by omega, rfl, rfl, agL_refl _ _, rfl, fun _ _ _ => rfl, fun _ _ => rfl, fun h => absurd rfl h⟩
    rintro rc b i S1 ⟨sp, hsp, rfl, rfl, B1, B2, B3, B4, B5⟩ hrc
    have X1 := RXt_L (by omega) hX B1
    obtain ⟨ar1, ar2⟩ := acR_rng (f := fun sp => dl t F s n (h + 1) (upN p h sp)) (h := h) (b := 18) sp (fun i _ => hf18 i)
    rw [X1.2.1, le_sp _ (by omega) _ (by omega)]
    by_cases hse : sp = t 0 1 + 1
    · refine bq_t (by omega) ?_
      subst hse
      have hne := ar2 (by omega)
      rw [sp_s hne]
      exact k S1 B1 B2 B3 B4 (fun _ => B5 hne)
    · refine bq_f (by omega) ?_
      have W1 : RW (kl + 4 + 5 * h) S1 t (gp t F p h) := by
        unfold RW at hW ⊢
        rw [show kl + 4 + 5 * h = kl + (4 + 5 * h) by omega] at hW ⊢
        rw [show kl + (4 + 5 * h) + 1 = kl + (4 + 5 * h + 1) by omega, show kl + (4 + 5 * h) + 2 = kl + (4 + 5 * h + 2) by omega, show kl + (4 + 5 * h) + 3 = kl + (4 + 5 * h + 3) by omega, show kl + (4 + 5 * h) + 4 = kl + (4 + 5 * h + 4) by omega] at hW ⊢
        rw [B3 (4 + 5 * h) (by omega) (by omega), B3 (4 + 5 * h + 1) (by omega) (by omega), B3 (4 + 5 * h + 2) (by omega) (by omega), B3 (4 + 5 * h + 3) (by omega) (by omega), B3 (4 + 5 * h + 4) (by omega) (by omega)]
        exact hW
      obtain ⟨G1, I1⟩ := gp_ok (F := F) (p := p) hg h (by omega)
      refine x_goes hkl hg X1 (RFx_ag hF B1.2) W1 G1 (by omega) (by omega) (fun S2 A2 W2 => ?_)
      have A2' : agW (kl + (4 + 5 * (h + 1))) S1 S2 := by
        rw [show kl + (4 + 5 * (h + 1)) = kl + 4 + 5 * (h + 1) by omega]
        exact A2
      have L2 : agL kl S S2 := agL_trans B1 (agL_W (j := 4 + 5 * (h + 1)) (by omega) A2')
      have low : ∀ i, i < 4 + 5 * (h + 1) → S2.1 (kl + i) = S1.1 (kl + i) := fun i hi => agL_walks A2' hi (by omega)
      have gpe : gp t F (upN p h sp) (h + 1) = hour t F h sp (gp t F p h) := by
        show hour t F h (upN p h sp h) (gp t F (upN p h sp) h) = _
        rw [show upN p h sp h = sp by simp [upN], gp_congr (q := p) h (fun j hj => by unfold upN; rw [if_neg (by omega)])]
      have W2' : RW (kl + 4 + 5 * (h + 1)) S2 t (gp t F (upN p h sp) (h + 1)) := by rw [gpe]; exact W2
      rw [show nI h + 1 = nI (h + 1) from pn_add h 1, sp_next]
      refine x_duelR hkl hg hs hH n d (h + 1) (upN p h sp) S2 (by omega) (by omega) (RXt_L (by omega) hX L2) (RFx_ag hF L2.2) W2' _ (fun S3 C1 C2 C3 C4 _ => ?_)
      have L3 := agL_trans L2 C1
      have r0 : S3.1 kl = S.1 kl := by
        rw [C2]
        have := low 0 (by omega)
        rw [Nat.add_zero] at this
        rw [this, B2]
      have r3 : ∀ j, 3 ≤ j → j ≤ 8 + 5 * h → S3.1 (kl + j) = S.1 (kl + j) := fun j h1 h2 => by rw [C3 j h1 (by omega), low j (by omega), B3 j h1 h2]
      have r2 : ∀ j, j < h + 1 → S3.1 (kl + 2) j = S1.1 (kl + 2) j := fun j hj => by rw [C4 j hj, low 2 (by omega)]
      have v18 := hf18 sp
      have eu : acR (fun sp => dl t F s n (h + 1) (upN p h sp)) h (sp + 1) = stp2 h (dl t F s n (h + 1) (upN p h sp)) sp (acR (fun sp => dl t F s n (h + 1) (upN p h sp)) h sp) := rfl
      rw [pn_nat (n := h) (by omega)]
      have step : ∀ S4, agL kl S S4 → S4.1 kl = S.1 kl → (∀ j, 3 ≤ j → j ≤ 8 + 5 * h → S4.1 (kl + j) = S.1 (kl + j)) → (∀ j, j < h → S4.1 (kl + 2) j = S.1 (kl + 2) j) → ((acR (fun sp => dl t F s n (h + 1) (upN p h sp)) h (sp + 1)).1 ≠ 0 → S4.1 (kl + 2) h = nI (acR (fun sp => dl t F s n (h + 1) (upN p h sp)) h (sp + 1)).2 - nI 1) → rc (nI (acR (fun sp => dl t F s n (h + 1) (upN p h sp)) h (sp + 1)).1 - nI 1) (nI (sp + 1) - nI 1) S4 := by
        intro S4 d1 d2 d3 d4 d5
        refine hrc _ _ _ ⟨sp + 1, by omega, rfl, rfl, d1, d2, d3, d4, d5⟩ ?_
        rw [sp_next, sp_next, pn_sub (by omega), pn_sub (by omega), pn_nat (by omega), pn_nat (by omega)]
        omega
      rw [eu] at step
      generalize acR (fun sp => dl t F s n (h + 1) (upN p h sp)) h sp = a at *
      generalize dl t F s n (h + 1) (upN p h sp) = v at *
      unfold stp2 at step
      have lt_m : ∀ M, M < 20 → ∀ v, v < 20 → (nI M - nI 1 < nI v ↔ M < v + 1) := by decide +kernel
      have lt_m' : ∀ M, M < 20 → M ≠ 0 → ∀ v, v < 20 → (nI v < nI M - nI 1 ↔ v + 1 < M) := by decide +kernel
      have keep : a.1 ≠ 0 ∧ (if h % 2 = 0 then a.1 ≤ v + 1 else v + 1 ≤ a.1) → rc (nI a.1 - nI 1) (nI (sp + 1) - nI 1) S3 := by
        intro c
        rw [if_pos c] at step
        exact step S3 L3 r0 r3 (fun j hj => by rw [r2 j (by omega)]; exact B4 j hj) (fun hne => by rw [r2 h (by omega)]; exact B5 hne)
      refine sn_jn_by (fun k19 => (a.1 ≠ 0 ∧ (if h % 2 = 0 then a.1 ≤ v + 1 else v + 1 ≤ a.1) → k19 (nI a.1 - nI 1) S3) ∧ (¬ (a.1 ≠ 0 ∧ (if h % 2 = 0 then a.1 ≤ v + 1 else v + 1 ≤ a.1)) → k19 (nI v) (sn_pI S3 (kl + 2) h (nI sp - nI 1)))) ⟨keep, fun c => ?_⟩ (fun k19 hk19 => ?_)
      · rw [if_neg c] at step
        have e1 : nI v = nI (v + 1) - nI 1 := (pn_sub (a := v + 1) (b := 1) (by omega)).symm
        rw [e1]
        exact step _ (agL_I L3 (by omega) _ _) (by rw [sI_row _ _ _ (by omega)]; exact r0) (fun j h1 h2 => by rw [sI_row _ _ _ (by omega)]; exact r3 j h1 h2) (fun j hj => by rw [sI_get, if_neg (by omega), r2 j (by omega)]; exact B4 j hj) (fun _ => by rw [sI_get, if_pos ⟨rfl, rfl⟩])
      · refine sn_jn_by (fun k20 => ¬ (a.1 ≠ 0 ∧ (if h % 2 = 0 then a.1 ≤ v + 1 else v + 1 ≤ a.1)) → k20) (fun c => ⟨pn_vp (by omega) (by decide), hk19.2 c⟩) (fun k20 hk20 => ?_)
        have e1 : (nI a.1 - nI 1 = -1) ↔ a.1 = 0 := sp_m1 (by omega)
        have e2 : (nI (h % 2) = 0) ↔ h % 2 = 0 := pn_eqN (j := 0) (by omega) (by decide)
        by_cases c1 : a.1 = 0
        · exact bq_t (e1.mpr c1) (hk20 (fun hh => hh.1 c1))
        · refine bq_f (fun e => c1 (e1.mp e)) ?_
          by_cases c2 : h % 2 = 0
          · rw [if_pos c2] at hk19 hk20
            refine bq_u (e2.mpr c2) ?_
            rw [lt_m' _ (by omega) c1 _ (by omega)]
            by_cases c3 : v + 1 < a.1
            · exact bq_t c3 (hk20 (fun hh => by have := hh.2; omega))
            · exact bq_f c3 (hk19.1 ⟨c1, by omega⟩)
          · rw [if_neg c2] at hk19 hk20
            refine bq_v (fun e => c2 (e2.mp e)) ?_
            rw [lt_m _ (by omega) _ (by omega)]
            by_cases c3 : a.1 < v + 1
            · exact bq_t c3 (hk20 (fun hh => by have := hh.2; omega))
            · exact bq_f c3 (hk19.1 ⟨c1, by omega⟩)
/-! the model's duel -/
def bc (n : Nat) : Int32 := if n = 0 then 1000000 else nI (n - 1)
/-- what hour h has at best, d of its spots tried -/
def acP (t : gT) (F : gF) (s H h d : Nat) (p : Nat → Nat) : Nat × Nat := acR (fun sp => dl t F s (H - h - 1) (h + 1) (upN p h sp)) h d
theorem acP_congr {t : gT} {F : gF} {s H h d : Nat} {p q : Nat → Nat} (e : ∀ j, j < h → p j = q j) : acP t F s H h d p = acP t F s H h d q := by
  unfold acP
  refine acR_congr _ (fun i _ => dl_congr _ _ _ _ (fun j hj => ?_))
  unfold upN
  by_cases ej : j = h
  · rw [if_pos ej, if_pos ej]
  · rw [if_neg ej, if_neg ej]
    exact e j (by omega)
theorem dl_acP {t : gT} {F : gF} {s H h : Nat} {p : Nat → Nat} (hh : h < H) : dl t F s (H - h) h p = (acP t F s H h (t 0 1 + 1) p).1 - 1 := by
  rw [show H - h = (H - h - 1) + 1 by omega]
  rfl
theorem upN_self (p : Nat → Nat) (h : Nat) : upN p h (p h) = p := by
  funext j
  unfold upN
  by_cases e : j = h
  · rw [if_pos e, e]
  · rw [if_neg e]
theorem acP_rng {t : gT} {F : gF} {s H h d : Nat} {p : Nat → Nat} (hg : tG t) (hs : s < t 0 0) (hh : h < H) (hH : H ≤ 5) : (acP t F s H h d p).1 ≤ 19 ∧ (d ≠ 0 → (acP t F s H h d p).1 ≠ 0) := acR_rng (b := 18) d (fun i _ => dl_le hg hs _ _ _ (by omega))
theorem acP_succ {t : gT} {F : gF} {s H h : Nat} {p : Nat → Nat} : acP t F s H h (p h + 1) p = stp2 h (dl t F s (H - h - 1) (h + 1) p) (p h) (acP t F s H h (p h) p) := by
  show stp2 h (dl t F s (H - h - 1) (h + 1) (upN p h (p h))) (p h) _ = _
  rw [upN_self]
  rfl
/-- the rows bests and firsts: hour h has tried D h spots -/
def RD (S : sn_S) (t : gT) (F : gF) (s H : Nat) (D : Nat → Nat) (p : Nat → Nat) : Prop := ∀ h, h < H → S.1 26 h = bc (acP t F s H h (D h) p).1 ∧ ((acP t F s H h (D h) p).1 ≠ 0 → S.1 27 h = nI (acP t F s H h (D h) p).2 - nI 1)
theorem RD_ag {S S' : sn_S} {t : gT} {F : gF} {s H : Nat} {D : Nat → Nat} {p : Nat → Nat} (h : RD S t F s H D p) (e26 : S'.1 26 = S.1 26) (e27 : S'.1 27 = S.1 27) : RD S' t F s H D p := by
  unfold RD at h ⊢
  rw [e26, e27]
  exact h
theorem bc_ne : ∀ n, n < 20 → (bc n = 1000000 ↔ n = 0) := by decide +kernel
/-- rows 26, 27 alone -/
def agE (S S' : sn_S) : Prop := (∀ k, k ≠ 26 → k ≠ 27 → S'.1 k = S.1 k) ∧ S'.2 = S.2
theorem agV_E {S S' : sn_S} (h : agE S S') : agV S S' := ⟨fun k h0 h1 => h.1 k (by omega) (by omega), fun i _ _ _ _ _ => by rw [h.1 0 (by decide) (by decide)], fun k _ _ _ => by rw [h.2], fun i _ _ => by rw [h.2], by rw [h.2]⟩
theorem m_settle {S : sn_S} {t : gT} {F : gF} {s H to : Nat} {p : Nat → Nat} (hg : tG t) (hs : s < t 0 0) (hH : H ≤ 5) (hto : to < H) (hpN : ∀ j, to < j → j < H → p j = t 0 1) (hD : RD S t F s H p p) (h28 : ∀ j, j < H → S.1 28 j = nI (p j) - nI 1) {Q : sn_S → Prop} (k : ∀ S', agE S S' → RD S' t F s H (fun h => if h < to then p h else if h = to then p to + 1 else 0) p → Q S') : wpX9_settleDuel (nI H) (nI to) (nI (dl t F s 0 H p)) S Q := by
  unfold wpX9_settleDuel
  rw [show nI H - 1 = nI H - nI 1 from rfl]
  have lt_to : ∀ c, c < 7 → ∀ to, to < 7 → (nI c - nI 1 < nI to ↔ c ≤ to) := by decide +kernel
  have le_to : ∀ c, c < 7 → ∀ to, to < 7 → (nI c - nI 1 ≤ nI to ↔ c ≤ to + 1) := by decide +kernel
  simp only [sn_lt]
  refine sn_lp3_inv (fun v i S' => ∃ c : Nat, to ≤ c ∧ c ≤ H ∧ i = nI c - nI 1 ∧ agE S S' ∧ (to < c → v = nI (dl t F s (H - c) c p) ∧ RD S' t F s H (fun h => if h < c then p h else 0) p) ∧ (c = to → RD S' t F s H (fun h => if h < to then p h else if h = to then p to + 1 else 0) p)) (fun _ i _ => (i + 1).toNatClampNeg) ?_ _ _ _ ⟨H, by omega, Nat.le_refl _, rfl, ⟨fun _ _ _ => rfl, rfl⟩, fun _ => ⟨by rw [Nat.sub_self], fun h hh => by show S.1 26 h = bc (acP t F s H h (if h < H then p h else 0) p).1 ∧ _; simp only [if_pos hh]; exact hD h hh⟩, fun e => by omega⟩
  rintro rc v i S1 ⟨c, hc1, hc2, rfl, hA, hI, hE⟩ hrc
  rw [lt_to _ (by omega) _ (by omega), le_to _ (by omega) _ (by omega)]
  by_cases hce : c = to
  · exact bq_t (by omega) (k S1 hA (hE hce))
  · refine bq_f (by omega) ?_
    obtain ⟨rfl, hR⟩ := hI (by omega)
    have hcp : c - 1 < H := by omega
    have ec : nI c - nI 1 = nI (c - 1) := sp_s (by omega)
    have emu : ∀ x S2, (∃ c' : Nat, to ≤ c' ∧ c' ≤ H ∧ nI (c - 1) - nI 1 = nI c' - nI 1 ∧ agE S S2 ∧ (to < c' → x = nI (dl t F s (H - c') c' p) ∧ RD S2 t F s H (fun h => if h < c' then p h else 0) p) ∧ (c' = to → RD S2 t F s H (fun h => if h < to then p h else if h = to then p to + 1 else 0) p)) → rc x (nI (c - 1) - nI 1) S2 := by
      intro x S2 h
      refine hrc _ _ _ h ?_
      rw [sp_next, sp_next, pn_sub (by omega), pn_sub (by omega), pn_nat (by omega), pn_nat (by omega)]
      omega
    have en : nI c - nI 1 + (-1) = nI (c - 1) - nI 1 := by
      rw [ec, Int32.sub_eq_add_neg]
      rfl
    rw [en]
    rw [ec, show (2 : Int32) = nI 2 from rfl, pn_rem (by omega) (by decide), pn_nat (n := c - 1) (by omega)]
    have v6 : vp_in (nI (c - 1)) 6 := pn_vp (by omega) (by decide)
    have v5 : vp_in (nI (c - 1)) 5 := pn_vp (by omega) (by decide)
    obtain ⟨r26, r27⟩ := hR (c - 1) hcp
    simp only [if_pos (show c - 1 < c by omega)] at r26 r27
    obtain ⟨g1, g2⟩ := acP_rng (F := F) (p := p) (d := p (c - 1)) hg hs hcp hH
    obtain ⟨g3, g4⟩ := acP_rng (F := F) (p := p) (d := p (c - 1) + 1) hg hs hcp hH
    have g4 := g4 (by omega)
    have hs1 := acP_succ (t := t) (F := F) (s := s) (H := H) (h := c - 1) (p := p)
    have e1 : H - (c - 1) - 1 = H - c := by omega
    have e2 : c - 1 + 1 = c := by omega
    rw [e1, e2] at hs1
    have hvl := dl_le (F := F) (p := p) hg hs (H - c) c (by omega)
    have hdl := dl_acP (t := t) (F := F) (s := s) (p := p) hcp
    have hN : to < c - 1 → p (c - 1) = t 0 1 := fun h => hpN _ h hcp
    -- the others
    have oth : ∀ S2 : sn_S, (∀ j, j ≠ c - 1 → S2.1 26 j = S1.1 26 j) → (∀ j, j ≠ c - 1 → S2.1 27 j = S1.1 27 j) → ∀ h, h < H → h ≠ c - 1 → S2.1 26 h = bc (acP t F s H h (if h < c then p h else 0) p).1 ∧ ((acP t F s H h (if h < c then p h else 0) p).1 ≠ 0 → S2.1 27 h = nI (acP t F s H h (if h < c then p h else 0) p).2 - nI 1) := by
      intro S2 h1 h2 h hh hne
      rw [h1 h hne, h2 h hne]
      exact hR h hh
    have h28' : S1.1 28 (c - 1) = nI (p (c - 1)) - nI 1 := by rw [hA.1 28 (by decide) (by decide)]; exact h28 _ hcp
    have a0 : ∀ h, (acP t F s H h 0 p).1 = 0 := fun h => rfl
    generalize dl t F s (H - c) c p = v at *
    refine sn_jn_by (fun k7 => k7 (if (c - 1) % 2 = 0 then 1 else 0)) ⟨v6, ?_⟩ (fun k7 hk7 => ?_)
    · refine sn_jn_by (fun k9 => ∀ S2, agE S S2 → (∀ j, j ≠ c - 1 → S2.1 26 j = S1.1 26 j) → (∀ j, j ≠ c - 1 → S2.1 27 j = S1.1 27 j) → S2.1 26 (c - 1) = bc (acP t F s H (c - 1) (p (c - 1) + 1) p).1 → S2.1 27 (c - 1) = nI (acP t F s H (c - 1) (p (c - 1) + 1) p).2 - nI 1 → k9 S2) (fun S2 A2 o26 o27 n26 n27 => ?_) (fun k9 hk9 => ?_)
      · refine ⟨v6, ?_⟩
        rw [n26]
        have ebc : bc (acP t F s H (c - 1) (p (c - 1) + 1) p).1 = nI ((acP t F s H (c - 1) (p (c - 1) + 1) p).1 - 1) := by
          unfold bc
          rw [if_neg g4]
        rw [ebc]
        refine sn_jn_by (fun k12 => (c - 1 = to → k12 S2) ∧ (to < c - 1 → k12 (sn_pI S2 26 (c - 1) 1000000))) ⟨fun e => ?_, fun e => ?_⟩ (fun k12 hk12 => ?_)
        · refine emu _ _ ⟨c - 1, by omega, by omega, rfl, A2, fun h => by omega, fun _ h hh => ?_⟩
          by_cases eh : h = c - 1
          · subst eh
            subst e
            simp only [if_neg (Nat.lt_irrefl _), if_true]
            exact ⟨n26, fun _ => n27⟩
          · have := oth S2 o26 o27 h hh eh
            by_cases e3 : h < to
            · simp only [if_pos e3]
              rw [if_pos (by omega)] at this
              exact this
            · simp only [if_neg e3, if_neg (show ¬ h = to by omega)]
              rw [if_neg (by omega)] at this
              exact this
        · have hpc := hN e
          refine emu _ _ ⟨c - 1, by omega, by omega, rfl, ⟨fun k h1 h2 => by rw [sI_row _ _ _ h1]; exact A2.1 k h1 h2, A2.2⟩, fun _ => ⟨?_, fun h hh => ?_⟩, fun h => by omega⟩
          · rw [hdl, hpc]
          · rw [sI_get, sI_row _ _ _ (by decide)]
            by_cases eh : h = c - 1
            · subst eh
              simp only [if_neg (Nat.lt_irrefl _), if_true, and_self]
              exact ⟨rfl, fun h => absurd (a0 _) h⟩
            · have := oth S2 o26 o27 h hh eh
              rw [if_neg (fun hh => eh hh.2)]
              by_cases e3 : h < c - 1
              · simp only [if_pos e3]
                rw [if_pos (by omega)] at this
                exact this
              · simp only [if_neg e3]
                rw [if_neg (by omega)] at this
                exact this
        · by_cases e : c ≤ to + 1
          · exact bq_t e (hk12.1 (by omega))
          · exact bq_f e ⟨v6, hk12.2 (by omega)⟩
      · -- whether it is bettered
        generalize hB : acP t F s H (c - 1) (p (c - 1) + 1) p = B at *
        generalize hAo : acP t F s H (c - 1) (p (c - 1)) p = Ao at *
        refine sn_jn_by (fun k14 => ¬ (Ao.1 ≠ 0 ∧ (if (c - 1) % 2 = 0 then Ao.1 ≤ v + 1 else v + 1 ≤ Ao.1)) → k14) (fun cc => ⟨v6, v5, v5, ?_⟩) (fun k14 hk14 => ?_)
        · unfold stp2 at hs1
          rw [if_neg cc] at hs1
          refine hk9 _ ⟨fun k h1 h2 => by rw [sI_row _ _ _ h2, sI_row _ _ _ h1]; exact hA.1 k h1 h2, hA.2⟩ (fun j hj => by rw [sI_row _ _ _ (by decide), sI_get, if_neg (fun h => hj h.2)]) (fun j hj => by rw [sI_get, if_neg (fun h => hj h.2), sI_row _ _ _ (by decide)]) ?_ ?_
          · rw [sI_row _ _ _ (by decide), sI_get, if_pos ⟨rfl, rfl⟩, hs1]
            rfl
          · rw [sI_get, if_pos ⟨rfl, rfl⟩, sI_row _ _ _ (by decide), h28', hs1]
        · rw [r26, bc_ne _ (by omega)]
          by_cases c1 : Ao.1 = 0
          · exact bq_t c1 (hk14 (fun h => h.1 c1))
          · refine bq_f c1 ?_
            have ebc : bc Ao.1 = nI (Ao.1 - 1) := by
              unfold bc
              rw [if_neg c1]
            rw [ebc]
            have stay : (if (c - 1) % 2 = 0 then Ao.1 ≤ v + 1 else v + 1 ≤ Ao.1) → k9 S1 := by
              intro hc
              unfold stp2 at hs1
              rw [if_pos ⟨c1, hc⟩] at hs1
              subst hs1
              exact hk9 S1 hA (fun _ _ => rfl) (fun _ _ => rfl) r26 (r27 c1)
            by_cases c2 : (c - 1) % 2 = 0
            · rw [if_pos c2] at hk14 stay ⊢
              refine bq_f i1 ⟨v6, ?_⟩
              rw [pn_leN (by omega) (by omega)]
              by_cases c3 : Ao.1 - 1 ≤ v
              · exact bq_t c3 (stay (by omega))
              · exact bq_f c3 (hk14 (fun h => by have := h.2; omega))
            · rw [if_neg c2] at hk14 stay ⊢
              refine bq_t rfl ⟨v6, ?_⟩
              rw [pn_leN (by omega) (by omega)]
              by_cases c3 : v ≤ Ao.1 - 1
              · exact bq_t c3 (stay (by omega))
              · exact bq_f c3 (hk14 (fun h => by have := h.2; omega))
    · rw [show (nI ((c - 1) % 2) = 0) ↔ (c - 1) % 2 = 0 from pn_eqN (j := 0) (by omega) (by decide)]
      by_cases c2 : (c - 1) % 2 = 0
      · rw [if_pos c2] at hk7
        exact bq_u c2 hk7
      · rw [if_neg c2] at hk7
        exact bq_v c2 hk7
