/-! THE PLAIN LAW, eleventh part: x's Walk against the garden -/
set_option maxRecDepth 100000
theorem x_apart {w : sn_W} {a b : Nat} (ha : a < 96) (hb : b < 96) {Q : Int32 → Prop} (h : Q (nI (apt a b))) : wpX0_apart w (nI a) (nI b) Q := by
  unfold wpX0_apart
  rw [show (12 : Int32) = nI 12 from rfl, pn_rem (by omega) (by decide), pn_rem (by omega) (by decide), pn_div (by omega) (by decide), pn_div (by omega) (by decide), aI_12 _ (by omega) _ (by omega), aI_12 _ (by omega) _ (by omega), pn_add]
  exact h
theorem sp_m1 {n : Nat} (h : n < 64) : (nI n - nI 1 = -1) ↔ n = 0 := by
  have : ∀ n, n < 64 → ((nI n - nI 1 = -1) ↔ n = 0) := by decide +kernel
  exact this n h
theorem sp_s {n : Nat} (h : n ≠ 0) : nI n - nI 1 = nI (n - 1) := pn_sub (by omega)
theorem x_light {w : sn_W} {S : sn_S} {t : gT} {kw c sp : Nat} (hg : tG t) (hX : RXt S t) (hc : c < 96) (hs : sp ≤ t 0 1) {Q : Int32 → Prop} (h : Q (nI (lightA t c sp))) : wpX4_lightAt w kw (nI c) (nI sp - nI 1) S Q := by
  unfold wpX4_lightAt
  have h4 := hg.2.1
  by_cases h0 : sp = 0
  · subst h0
    refine bq_u ((sp_m1 (by decide)).mpr rfl) ?_
    exact h
  · refine bq_v (fun e => h0 ((sp_m1 (by omega)).mp e)) ?_
    rw [sp_s h0, pn_nat (by omega), hX.2.2.2.2.2.2.1 _ (by omega)]
    have h7 := hg.2.2.2.2.2.2.2.2.1
    have h5 := hg.2.2.2.2.2.2.1 (sp - 1) (by omega)
    refine ⟨pn_vp (n := 1) (by decide) (by decide), pn_vp (by omega) (by decide), x_apart hc h5 ?_⟩
    have ha := apt_lt hc h5
    rw [show S.1 7 (Int32.toNatClampNeg 1) = nI (t 7 1) from hX.2.2.2.2.2.2.2.2.1 1 (by decide), glow_lt _ (by omega) _ (by omega)]
    unfold lightA at h
    rw [if_neg h0] at h
    exact h
theorem lightA_le {t : gT} (hg : tG t) (c sp : Nat) : lightA t c sp ≤ 20 := by
  have h7 := hg.2.2.2.2.2.2.2.2.1
  unfold lightA
  split <;> omega
theorem bitCount_64 : ∀ b, b < 64 → ∀ w : sn_W, wpJ12_bitCount w (nI b) (fun r => r = nI (pc b)) := by
  intro b hb w
  unfold wpJ12_bitCount
  simp only [sn_lt]
  revert b
  decide +kernel
theorem bitCount_mono {w : sn_W} {x : Int32} {P Q : Int32 → Prop} (h : ∀ r, P r → Q r) (k : wpJ12_bitCount w x P) : wpJ12_bitCount w x Q := h _ k
theorem x_ones {w : sn_W} {b : Nat} (hb : b < 64) {Q : Int32 → Prop} (h : Q (nI (pc b))) : wpX0_ones w (nI b) Q := bitCount_mono (fun r e => by rw [e]; exact h) (bitCount_64 b hb w)
theorem x_isOf {w : sn_W} {b s : Nat} (hb : b < 64) (hs : s < 6) {Q : Int32 → Prop} (h : Q (nI (bt b s))) : wpX0_isOf w (nI b) (nI s) Q := by
  unfold wpX0_isOf
  rw [bits_bt b hb s hs]
  have := bt_lt b s
  rcases (show bt b s = 0 ∨ bt b s = 1 by omega) with e | e <;> rw [e] at h ⊢
  · exact bq_v (by decide) h
  · exact bq_u (by decide) h
def RW (kw : Nat) (S : sn_S) (t g : gT) : Prop := (∀ s, s < t 0 0 → S.1 (kw + 1) s = nI (g 1 s)) ∧ (∀ s, s < t 0 0 → S.1 (kw + 2) s = nI (g 2 s) - nI 1) ∧ (∀ s, s < t 0 0 → S.1 (kw + 3) s = nI (g 3 s)) ∧ (∀ c, c < 96 → S.1 (kw + 4) c = nI (g 4 c)) ∧ S.1 kw 4 = nI (g 5 0)
/-- but for the longs -/
def agJ (S S' : sn_S) : Prop := S'.1 = S.1 ∧ S'.2.2 = S.2.2
/-- the force's law is asked -/
def xLaw (w : sn_W) (t : gT) (hd : Nat) (S' : sn_S) (Q : Int64 → Prop) : Prop := sn_nn (S'.2.2.1 2 7) (fun a25 => ((∃ fs, sn_oO S' a25 9 fs) ∧ wpJ2_get w a25 (nI (t 0 3) - nI 1) S' (fun (a26 : Nat) => ((∃ fs, sn_oO S' a26 19 fs) ∧ ((∃ fs, sn_oO S' a26 19 fs) ∧ wpX21_told w a26 (nI hd) S' Q)))))
def RFx (w : sn_W) (S : sn_S) (t : gT) (F : gF) : Prop := gFok F ∧ (t 0 3 = 0 → ∀ hd v, F hd v = none) ∧ (t 0 3 ≠ 0 → ∀ S' : sn_S, S'.2.2 = S.2.2 → ∀ (hd : Nat) (v : Nat → Nat), hd < 3 → (∀ k, k < 10 → v k ≤ 1000) → (∀ k, k < 10 → S'.2.1 14 k = lN (v k)) → ∀ Q : Int64 → Prop, Q (lO (F hd v)) → xLaw w t hd S' Q)
theorem RFx_ag {w : sn_W} {S S' : sn_S} {t : gT} {F : gF} (h : RFx w S t F) (e : S'.2.2 = S.2.2) : RFx w S' t F := ⟨h.1, h.2.1, fun h3 S2 e2 => h.2.2 h3 S2 (e2.trans e)⟩
theorem sJ_get (S : sn_S) (k i : Nat) (v : Int64) (k' i' : Nat) : (sn_pJ S k i v).2.1 k' i' = if k' = k ∧ i' = i then v else S.2.1 k' i' := by
  unfold sn_pJ va_up vp_updL
  by_cases h : k' = k
  · subst h
    by_cases h2 : i' = i <;> simp [h2]
  · simp [h]
theorem vals_le {t g : gT} {s c h sp : Nat} (hg : tG t) (hG : gG t g) (hs : s < t 0 0) (hc : c < 96) (hh : h < 5) : ∀ k, k < 10 → vals t g s c h sp k ≤ 1000 := by
  intro k hk
  have h6 := hg.1
  have h1 := hg.2.2.2.2.1 c hc
  have h2 := (hg.2.2.2.2.2.1 s hs).2.2.2.2.1
  have h3 := lightA_le hg c sp
  have h4 := pc_lt (clr (g 4 c) s)
  have h5 := bt_lt (g 4 c) s
  match k, hk with
  | 0, _ => simp only [vals]; omega
  | 1, _ => simp only [vals]; omega
  | 2, _ => simp only [vals]; omega
  | 3, _ => simp only [vals]; omega
  | 4, _ => simp only [vals]; omega
  | 5, _ => simp only [vals]; omega
  | 6, _ => simp only [vals]; split <;> omega
  | 7, _ => simp only [vals]; omega
  | 8, _ => simp only [vals]; omega
  | 9, _ => simp only [vals]; omega
theorem RXt_J {S : sn_S} {t : gT} (h : RXt S t) {k i : Nat} {v : Int64} : RXt (sn_pJ S k i v) t := h
theorem x_asks {w : sn_W} {S : sn_S} {t g : gT} {F : gF} {kw hd s c h sp : Nat} (hg : tG t) (hX : RXt S t) (hF : RFx w S t F) (hW : RW kw S t g) (hG : gG t g) (hhd : hd < 3) (hs : s < t 0 0) (hc : c < 96) (hh : h < 5) (hsp : sp ≤ t 0 1) {Q : Int64 → sn_S → Prop} (k : ∀ S', agJ S S' → Q (lO (F hd (vals t g s c h sp))) S') : wpX4_asks w kw (nI hd) (nI s) (nI c) (nI h) (nI sp - nI 1) S Q := by
  unfold wpX4_asks
  have h6 := hg.1
  have hf := hg.2.2.2.1
  have hb := hG.2.2.1 c hc
  have h1s := hG.1 s hs
  rw [hX.2.2.2.1]
  by_cases h0 : t 0 3 = 0
  · refine bq_u ((sp_m1 (by omega)).mpr h0) ?_
    have := k S ⟨rfl, rfl⟩
    rw [hF.2.1 h0] at this
    exact this
  · refine bq_v (fun e => h0 ((sp_m1 (by omega)).mp e)) ?_
    have v10 : ∀ i : Nat, i < 10 → vp_in (nI i) 10 := fun i hi => pn_vp hi (by decide)
    refine ⟨v10 0 (by decide), ?_⟩
    simp only [sn_lt]
    refine x_of0 (s := s) (f := 3) (t := t) (RXt_J hX) (by omega) ?_
    refine ⟨v10 1 (by decide), ?_⟩
    refine ⟨pn_vp hc (by decide), v10 2 (by decide), ?_⟩
    refine x_light (t := t) hg (RXt_J (RXt_J (RXt_J hX))) hc hsp ?_
    refine ⟨v10 3 (by decide), pn_vp hc (by decide), ?_⟩
    simp only [sJ_1]
    rw [hX.2.2.2.1, pn_nat (n := c) (by omega), pn_nat (n := s) (by omega), hW.2.2.2.1 c hc, bits_clr _ hb _ (by omega), bits_bt _ hb _ (by omega), hW.1 s hs, hX.2.2.2.2.1 c hc, show (12 : Int32) = nI 12 from rfl, pn_rem (by omega) (by decide), pn_div (by omega) (by decide)]
    refine x_ones (clr_lt _ _ hb) ?_
    refine ⟨v10 4 (by decide), pn_vp hc (by decide), v10 5 (by decide), pn_vp (by omega) (by decide), ?_⟩
    refine sn_jn_by (fun k20 => k20 (lN (if g 1 s = c then 1 else 0))) ?_ (fun k20 hk20 => ?_)
    · refine ⟨v10 6 (by decide), v10 7 (by decide), v10 8 (by decide), v10 9 (by decide), ?_⟩
      generalize hS' : sn_pJ _ 14 (Int32.toNatClampNeg 9) _ = S'
      have e22 : S'.2.2 = S.2.2 := by rw [← hS']; rfl
      have e1 : S'.1 = S.1 := by rw [← hS']; rfl
      have hp7 := pc_lt (clr (g 4 c) s)
      have hbt := bt_lt (g 4 c) s
      have hl := lightA_le hg c sp
      have hd3 := hg.2.2.2.2.1 c hc
      have hk4 := (hg.2.2.2.2.2.1 s hs).2.2.2.2.1
      refine hF.2.2 h0 S' e22 hd (vals t g s c h sp) hhd (vals_le hg hG hs hc hh) (fun j hj => ?_) (fun r => Q r S') (k S' ⟨e1, e22⟩)
      rw [← hS']
      simp only [sJ_get]
      rw [lN_wide (by omega), lN_wide (by omega), lN_wide (by omega), lN_wide (by omega), lN_wide (by omega), lN_wide (by omega), lN_wide (by omega), lN_wide (by omega), lN_wide (by omega)]
      match j, hj with
      | 0, _ => rfl
      | 1, _ => rfl
      | 2, _ => rfl
      | 3, _ => rfl
      | 4, _ => rfl
      | 5, _ => rfl
      | 6, _ => rfl
      | 7, _ => rfl
      | 8, _ => rfl
      | 9, _ => rfl
    · by_cases e : g 1 s = c
      · rw [if_pos e] at hk20
        exact bq_u (by rw [e]) hk20
      · rw [if_neg e] at hk20
        exact bq_v (fun h => e ((pn_eqN (by omega) (by omega)).mp h)) hk20
/-- but for the row 'around' and the longs -/
def agA (S S' : sn_S) : Prop := (∀ k, k ≠ 15 → S'.1 k = S.1 k) ∧ S'.2.2 = S.2.2
theorem agA_J {S S1 S2 : sn_S} (h : agA S S1) (j : agJ S1 S2) : agA S S2 := ⟨fun k hk => by rw [j.1]; exact h.1 k hk, j.2.trans h.2⟩
theorem RXt_A {S S' : sn_S} {t : gT} (h : RXt S t) (a : agA S S') : RXt S' t := by
  unfold RXt at h ⊢
  rw [a.1 2 (by decide), a.1 3 (by decide), a.1 4 (by decide), a.1 5 (by decide), a.1 6 (by decide), a.1 7 (by decide), a.1 8 (by decide), a.1 9 (by decide)]
  exact h
theorem RW_A {kw : Nat} {S S' : sn_S} {t g : gT} (hk : 16 ≤ kw) (h : RW kw S t g) (a : agA S S') : RW kw S' t g := by
  unfold RW at h ⊢
  rw [a.1 kw (by omega), a.1 (kw + 1) (by omega), a.1 (kw + 2) (by omega), a.1 (kw + 3) (by omega), a.1 (kw + 4) (by omega)]
  exact h
theorem lure_rng {t : gT} {F : gF} {g : gT} {s c h sp : Nat} (hg : tG t) (hF : gFok F) (hc : c < 96) : -1000000000 ≤ lure t F g s c h sp ∧ lure t F g s c h sp ≤ 1000000000 := by
  unfold lure
  have h1 := hg.2.2.2.2.1 c hc
  have h2 := lightA_le hg c sp
  split
  · omega
  · rename_i z e
    exact hF.1 _ _ _ e
theorem x_lure {w : sn_W} {S : sn_S} {t g : gT} {F : gF} {kw s c h sp : Nat} (hg : tG t) (hX : RXt S t) (hF : RFx w S t F) (hW : RW kw S t g) (hG : gG t g) (hs : s < t 0 0) (hc : c < 96) (hh : h < 5) (hsp : sp ≤ t 0 1) {Q : Int64 → sn_S → Prop} (k : ∀ S', agJ S S' → Q (Int64.ofInt (lure t F g s c h sp)) S') : wpX4_lure w kw (nI s) (nI c) (nI h) (nI sp - nI 1) S Q := by
  unfold wpX4_lure
  refine x_asks (hd := 0) hg hX hF hW hG (by decide) hs hc hh hsp (fun S' hS' => ?_)
  have hk := k S' hS'
  have hn := lO_none (o := F 0 (vals t g s c h sp)) (fun z e => hF.1.1 _ _ _ e)
  unfold lure at hk
  by_cases e : F 0 (vals t g s c h sp) = none
  · refine bq_u (hn.mpr e) ⟨pn_vp hc (by decide), ?_⟩
    have h1 := hg.2.2.2.2.1 c hc
    have h2 := lightA_le hg c sp
    have hX' : RXt S' t := by unfold RXt; rw [hS'.1]; exact hX
    refine x_light hg hX' hc hsp ?_
    rw [pn_nat (by omega), hX'.2.2.2.2.1 c hc, pn_add, lN_ofInt (by omega)]
    rw [e] at hk
    exact hk
  · refine bq_v (fun h => e (hn.mp h)) ?_
    cases h3 : F 0 (vals t g s c h sp) with
    | none => exact absurd h3 e
    | some z =>
      rw [h3] at hk
      exact hk
/-- the row around: a list -/
def Ard (S S' : sn_S) (l : List Nat) : Prop := agA S S' ∧ ∀ i (h : i < l.length), S'.1 15 i = nI l[i]
theorem Ard_push {S S' : sn_S} {l : List Nat} (h : Ard S S' l) (d : Nat) : Ard S (sn_pI S' 15 l.length (nI d)) (l ++ [d]) := by
  refine ⟨⟨fun k hk => by rw [sI_row _ _ _ hk]; exact h.1.1 k hk, h.1.2⟩, fun i hi => ?_⟩
  rw [sI_get]
  by_cases e : i = l.length
  · subst e
    rw [if_pos ⟨rfl, rfl⟩]
    simp
  · rw [if_neg (fun hh => e hh.2)]
    have hi' : i < l.length := by
      rw [List.length_append, List.length_singleton] at hi
      omega
    rw [h.2 i hi', List.getElem_append_left hi']
theorem nbs_len (c : Nat) : (nbs c).length ≤ 4 := by
  unfold nbs
  simp only [List.length_append]
  split <;> split <;> split <;> split <;> simp
theorem x_best {w : sn_W} {S : sn_S} {t g : gT} {F : gF} {kw s h sp : Nat} (hk : 16 ≤ kw) (hg : tG t) (hX : RXt S t) (hF : RFx w S t F) (hW : RW kw S t g) (hG : gG t g) (hs : s < t 0 0) (hh : h < 5) (hsp : sp ≤ t 0 1) {Q : Int32 → sn_S → Prop} (k : ∀ S', agA S S' → Q (nI (best t F g s h sp)) S') : wpX4_best w kw (nI s) (nI h) (nI sp - nI 1) S Q := by
  unfold wpX4_best
  have h6 := hg.1
  have hc := hG.1 s hs
  refine ⟨pn_vp (by omega) (by decide), ?_⟩
  rw [pn_nat (by omega), hW.1 s hs]
  generalize hce : g 1 s = c at hc
  simp only [sn_lt]
  refine ⟨pn_vp (n := 0) (by decide) (by decide), ?_⟩
  rw [show (12 : Int32) = nI 12 from rfl, pn_rem (by omega) (by decide), show (11 : Int32) = nI 11 from rfl, show (84 : Int32) = nI 84 from rfl, show (0 : Int32) + 1 = nI 1 from rfl]
  simp only [pn_lit, pn_ltN (show c < 2 ^ 31 by omega) (show 12 < 2 ^ 31 by decide), pn_leN (show 11 < 2 ^ 31 by decide) (show c % 12 < 2 ^ 31 by omega), pn_leN (show 84 < 2 ^ 31 by decide) (show c < 2 ^ 31 by omega), pn_leN (show c % 12 < 2 ^ 31 by omega) (show 0 < 2 ^ 31 by decide)]
  have push : ∀ (l : List Nat) (S' : sn_S) (d : Nat), l.length < 5 → Ard S S' l → Ard S (sn_pI S' 15 (nI l.length).toNatClampNeg (nI d)) (l ++ [d]) ∧ nI l.length + nI 1 = nI (l ++ [d]).length ∧ vp_in (nI l.length) 5 := by
    intro l S' d hl h
    rw [pn_nat (by omega), pn_add]
    exact ⟨Ard_push h d, by simp, pn_vp hl (by decide)⟩
  have A0 : Ard S (sn_pI S 15 0 (nI c)) [c] := Ard_push (l := []) ⟨⟨fun _ _ => rfl, rfl⟩, fun i hi => absurd hi (Nat.not_lt_zero _)⟩ c
  refine sn_jn_by (fun k12 => ∀ S', Ard S S' ([c] ++ (if 12 ≤ c then [c - 12] else [])) → k12 (nI ([c] ++ (if 12 ≤ c then [c - 12] else [])).length) S') ?_ (fun k14 hk14 => ?_)
  · intro S13 A1
    refine sn_jn_by (fun k15 => ∀ S', Ard S S' ([c] ++ (if 12 ≤ c then [c - 12] else []) ++ (if c % 12 < 11 then [c + 1] else [])) → k15 (nI ([c] ++ (if 12 ≤ c then [c - 12] else []) ++ (if c % 12 < 11 then [c + 1] else [])).length) S') ?_ (fun k17 hk17 => ?_)
    · intro S16 A2
      refine sn_jn_by (fun k18 => ∀ S', Ard S S' ([c] ++ (if 12 ≤ c then [c - 12] else []) ++ (if c % 12 < 11 then [c + 1] else []) ++ (if c < 84 then [c + 12] else [])) → k18 (nI ([c] ++ (if 12 ≤ c then [c - 12] else []) ++ (if c % 12 < 11 then [c + 1] else []) ++ (if c < 84 then [c + 12] else [])).length) S') ?_ (fun k20 hk20 => ?_)
      · intro S19 A3
        refine sn_jn_by (fun k21 => ∀ S', Ard S S' ([c] ++ nbs c) → k21 (nI ([c] ++ nbs c).length) S') ?_ (fun k23 hk23 => ?_)
        · intro S22 A4
          have X4 := RXt_A hX A4.1
          have F4 := RFx_ag hF A4.1.2
          have W4 := RW_A hk hW A4.1
          refine x_lure hg X4 F4 W4 hG hs (by omega) hh hsp (fun S25 J25 => ?_)
          have A5 : agA S S25 := agA_J A4.1 J25
          have hcl : ∀ d, d ∈ nbs c → d < 96 := nb_lt (by omega)
          have hlen := nbs_len c
          have R5 : ∀ i (h : i < ([c] ++ nbs c).length), S25.1 15 i = nI ([c] ++ nbs c)[i] := by
            intro i hi
            rw [J25.1]
            exact A4.2 i hi
          refine sn_lp4_inv (fun b m i S' => ∃ (j : Nat) (a : Nat × Int), j ≤ (nbs c).length ∧ i = nI (1 + j) ∧ b = nI a.1 ∧ m = Int64.ofInt a.2 ∧ (-1000000000 ≤ a.2 ∧ a.2 ≤ 1000000000) ∧ ((nbs c).drop j).foldl (bst t F g s h sp) a = (nbs c).foldl (bst t F g s h sp) (c, lure t F g s c h sp) ∧ agA S S' ∧ S'.1 15 = S25.1 15) (fun _ _ i _ => 5 - i.toNatClampNeg) ?_ _ _ _ _ ⟨0, (c, lure t F g s c h sp), Nat.zero_le _, rfl, rfl, rfl, lure_rng hg hF.1 (by omega), rfl, A5, rfl⟩
          rintro rc b m i S' ⟨j, a, hj, rfl, rfl, rfl, ha, hfold, hA, h15⟩ hrc
          have hln : ([c] ++ nbs c).length = 1 + (nbs c).length := by
            rw [List.length_append, List.length_singleton]
          rw [hln, pn_leN (by omega) (by omega)]
          by_cases hje : j = (nbs c).length
          · refine bq_t (by omega) ?_
            subst hje
            rw [List.drop_length] at hfold
            have hf2 : a = (nbs c).foldl (bst t F g s h sp) (c, lure t F g s c h sp) := hfold
            have := k S' hA
            unfold best at this
            rw [hce, ← hf2] at this
            exact this
          · have hjl : j < (nbs c).length := by omega
            have hd := hcl _ (List.getElem_mem hjl)
            have e15 : S'.1 15 (1 + j) = nI (nbs c)[j] := by
              rw [h15, R5 (1 + j) (by omega)]
              congr 1
              rw [List.getElem_append_right (by simp)]
              congr 1
              simp
            rw [List.drop_eq_getElem_cons hjl, List.foldl_cons] at hfold
            generalize (nbs c)[j] = d at hd e15 hfold
            refine bq_f (by omega) ⟨pn_vp (by omega) (by decide), ?_⟩
            rw [pn_nat (n := 1 + j) (by omega), e15, pn_nat (n := d) (by omega)]
            have X6 := RXt_A hX hA
            have F6 := RFx_ag hF hA.2
            have W6 := RW_A hk hW hA
            rw [X6.2.2.2.2.2.2.2.2.2.2 d hd, pn_eqN (by have := hg.2.2.2.2.2.2.2.2.2.2 d hd; omega) (by decide)]
            refine ⟨pn_vp hd (by decide), ?_⟩
            refine sn_jn_by (fun k33 => ∀ S2, agA S S2 → S2.1 15 = S25.1 15 → k33 (nI (bst t F g s h sp a d).1) (Int64.ofInt (bst t F g s h sp a d).2) S2) (fun S2 h1 h2 => ?_) (fun k34 hk34 => ?_)
            · refine hrc _ _ _ _ ⟨j + 1, bst t F g s h sp a d, by omega, by rw [pn_add]; rfl, rfl, rfl, ?_, hfold, h1, h2⟩ ?_
              · unfold bst
                split
                · exact lure_rng hg hF.1 hd
                · exact ha
              · rw [pn_add, pn_nat (by omega), pn_nat (by omega)]
                omega
            · unfold bst at hk34
              refine ⟨fun h0 => ⟨pn_vp (by omega) (by decide), ?_⟩, fun h0 => ?_⟩
              · refine x_lure hg X6 F6 W6 hG hs hd hh hsp (fun S36 J36 => ?_)
                have hlr := lure_rng (g := g) (s := s) (h := h) (sp := sp) hg hF.1 hd
                have e36 : S36.1 15 = S'.1 15 := by rw [J36.1]
                have A7 := agA_J hA J36
                rw [show (nI 0 < lg_cmp (Int64.ofInt (lure t F g s d h sp)) (Int64.ofInt a.2) ↔ a.2 < lure t F g s d h sp) by rw [show nI 0 = (0 : Int32) from rfl, lc_gt, lI_lt (by omega) (by omega) (by omega) (by omega)]]
                by_cases hlt : a.2 < lure t F g s d h sp
                · refine bq_t hlt ⟨pn_vp (by omega) (by decide), ?_⟩
                  rw [e36, e15]
                  rw [if_pos ⟨h0, hlt⟩] at hk34
                  exact hk34 S36 A7 (e36.trans h15)
                · refine bq_f hlt ?_
                  rw [if_neg (fun hh => hlt hh.2)] at hk34
                  exact hk34 S36 A7 (e36.trans h15)
              · rw [if_neg (fun hh => h0 hh.1)] at hk34
                exact hk34 S' hA h15
        · have e4 : ([c] ++ (if 12 ≤ c then [c - 12] else []) ++ (if c % 12 < 11 then [c + 1] else []) ++ (if c < 84 then [c + 12] else [])) ++ (if 0 < c % 12 then [c - 1] else []) = [c] ++ nbs c := by
            unfold nbs
            simp only [List.append_assoc]
          rw [← e4] at hk23
          by_cases h0 : c % 12 ≤ 0
          · refine bq_t h0 ?_
            rw [if_neg (show ¬ 0 < c % 12 by omega), List.append_nil] at hk23
            exact hk23 _ A3
          · refine bq_f h0 ?_
            rw [if_pos (show 0 < c % 12 by omega)] at hk23
            obtain ⟨p1, p2, p3⟩ := push _ S19 (c - 1) (by simp only [List.length_append]; split <;> split <;> split <;> simp) A3
            rw [pn_sub (by omega), p2]
            exact ⟨p3, hk23 _ p1⟩
      · by_cases h0 : 84 ≤ c
        · refine bq_t h0 ?_
          rw [if_neg (show ¬ c < 84 by omega), List.append_nil] at hk20
          exact hk20 _ A2
        · refine bq_f h0 ?_
          rw [if_pos (show c < 84 by omega)] at hk20
          obtain ⟨p1, p2, p3⟩ := push _ S16 (c + 12) (by simp only [List.length_append]; split <;> split <;> simp) A2
          rw [p2, pn_add]
          exact ⟨p3, hk20 _ p1⟩
    · by_cases h0 : 11 ≤ c % 12
      · refine bq_t h0 ?_
        rw [if_neg (show ¬ c % 12 < 11 by omega), List.append_nil] at hk17
        exact hk17 _ A1
      · refine bq_f h0 ?_
        rw [if_pos (show c % 12 < 11 by omega)] at hk17
        obtain ⟨p1, p2, p3⟩ := push _ S13 (c + 1) (by simp only [List.length_append]; split <;> simp) A1
        rw [p2, pn_add]
        exact ⟨p3, hk17 _ p1⟩
  · by_cases h0 : c < 12
    · refine bq_t h0 ?_
      rw [if_neg (show ¬ 12 ≤ c by omega), List.append_nil] at hk14
      exact hk14 _ A0
    · refine bq_f h0 ?_
      rw [if_pos (show 12 ≤ c by omega)] at hk14
      obtain ⟨p1, p2, p3⟩ := push [c] _ (c - 12) (by simp) A0
      rw [pn_sub (by omega)]
      exact ⟨p3, hk14 _ p1⟩
