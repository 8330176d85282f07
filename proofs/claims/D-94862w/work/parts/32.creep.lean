/-! THE PLAIN LAW, fourteenth part: the model's creep -/
set_option maxRecDepth 100000
theorem m_lures {S : sn_S} {t g : gT} {F : gF} {s c h sp : Nat} (hg : tG t) (hM : RMt S t) (hF : RFm S t F) (hW : RG S t g) (hG : gG t g) (hs : s < t 0 0) (hc : c < 96) (hh : h < 5) (hsp : sp ≤ t 0 1) {Q : Int64 → sn_S → Prop} (k : ∀ S', agT S S' → Q (Int64.ofInt (lure t F g s c h sp)) S') : wpX9_luresOf (nI s) (nI c) (nI h) (nI sp - nI 1) S Q := by
  unfold wpX9_luresOf
  rw [show (80 : Int32) + nI c = nI (80 + c) from pn_add 80 c]
  refine ⟨vm (by omega), m_light hg hM hc hsp ?_⟩
  rw [pn_nat (by omega), hM.2.2.2.2.1 c hc, pn_add]
  have h1 := hg.2.2.2.2.1 c hc
  have h2 := lightA_le hg c sp
  refine m_tells (hd := 0) hg hM hF hW hG (by decide) hs hc hh hsp (fun S' hS' => ?_)
  have hk := k S' hS'
  unfold lure at hk
  cases h3 : F 0 (vals t g s c h sp) with
  | none =>
    rw [h3] at hk
    rw [lM, lN_ofInt (by omega)]
    exact hk
  | some z =>
    rw [h3] at hk
    exact hk
/-- but for what a day leaves -/
def agG (S S' : sn_S) : Prop := (∀ k, k ≠ 0 → k ≠ 15 → k ≠ 16 → k ≠ 17 → k ≠ 18 → k ≠ 19 → k ≠ 20 → S'.1 k = S.1 k) ∧ (∀ i, i ≠ 27 → i ≠ 30 → S'.1 0 i = S.1 0 i) ∧ (∀ k, k ≠ 0 → k ≠ 13 → k ≠ 14 → S'.2.1 k = S.2.1 k) ∧ (∀ i, i ≠ 31 → i ≠ 32 → S'.2.1 0 i = S.2.1 0 i) ∧ S'.2.2 = S.2.2
theorem agG_refl (S : sn_S) : agG S S := ⟨fun _ _ _ _ _ _ _ _ => rfl, fun _ _ _ => rfl, fun _ _ _ _ => rfl, fun _ _ _ => rfl, rfl⟩
theorem agG_trans {S1 S2 S3 : sn_S} (h : agG S1 S2) (k : agG S2 S3) : agG S1 S3 := ⟨fun i h0 h1 h2 h3 h4 h5 h6 => (k.1 i h0 h1 h2 h3 h4 h5 h6).trans (h.1 i h0 h1 h2 h3 h4 h5 h6), fun i h1 h2 => (k.2.1 i h1 h2).trans (h.2.1 i h1 h2), fun i h0 h1 h2 => (k.2.2.1 i h0 h1 h2).trans (h.2.2.1 i h0 h1 h2), fun i h1 h2 => (k.2.2.2.1 i h1 h2).trans (h.2.2.2.1 i h1 h2), k.2.2.2.2.trans h.2.2.2.2⟩
theorem agG_T {S S' : sn_S} (h : agT S S') : agG S S' := ⟨fun k h0 _ _ _ _ _ _ => h.1 k h0, h.2⟩
theorem agG_I {S S' : sn_S} (h : agG S S') {k : Nat} (hk : 15 ≤ k ∧ k ≤ 20) (i : Nat) (v : Int32) : agG S (sn_pI S' k i v) := ⟨fun j h0 h1 h2 h3 h4 h5 h6 => by rw [sI_row _ _ _ (by omega)]; exact h.1 j h0 h1 h2 h3 h4 h5 h6, fun j h1 h2 => by rw [sI_row _ _ _ (by omega)]; exact h.2.1 j h1 h2, h.2.2⟩
theorem RMt_G {S S' : sn_S} {t : gT} (h : RMt S t) (a : agG S S') : RMt S' t := by
  unfold RMt at h ⊢
  rw [a.1 2 (by decide) (by decide) (by decide) (by decide) (by decide) (by decide) (by decide)]
  exact h
theorem RFm_G {S S' : sn_S} {t : gT} {F : gF} (h : RFm S t F) (a : agG S S') : RFm S' t F := RFm_ag h (a.1 2 (by decide) (by decide) (by decide) (by decide) (by decide) (by decide) (by decide))
/-- stayed -/
def RS (S : sn_S) (t g : gT) : Prop := ∀ s, s < t 0 0 → S.1 19 s = nI (g 3 s)
/-- one direction: a cell there -/
theorem m_dirY {S0 S : sn_S} {t g : gT} {F : gF} {s h sp xx yy : Nat} {X Y : Int32} {a : Nat × Int} (hg : tG t) (hM : RMt S t) (hF : RFm S t F) (hW : RG S t g) (hG : gG t g) (hs : s < t 0 0) (hh : h < 5) (hsp : sp ≤ t 0 1) (hS : agT S0 S) (hX : X = nI xx) (hY : Y = nI yy) (hx : xx ≤ 11) (hy : yy ≤ 7) (ha : -1000000000 ≤ a.2 ∧ a.2 ≤ 1000000000) {d : Nat} (hd : d = 12 * yy + xx) {K : Int32 → Int64 → sn_S → Prop} (hK : ∀ S2, agT S0 S2 → K (nI (bst t F g s h sp a d).1) (Int64.ofInt (bst t F g s h sp a d).2) S2) :
    wpX9_in (Int32.toInt64 X) 0 11 (fun (r32 : Int32) => sn_jn (fun (v33 : Int32) (v34 : Int64) (S35 : sn_S) => K v33 v34 S35) (fun (k36 : Int32 → Int64 → sn_S → Prop) => ((r32 = 0 → k36 (nI a.1) (Int64.ofInt a.2) S) ∧ (¬ r32 = 0 → wpX9_in (Int32.toInt64 Y) 0 7 (fun (r37 : Int32) => ((r37 = 0 → k36 (nI a.1) (Int64.ofInt a.2) S) ∧ (¬ r37 = 0 → (vp_in (176 + (12 * Y + X)) 5680 ∧ ((¬ (S.1 2 ((176 + (12 * Y + X))).toNatClampNeg) = 0 → k36 (nI a.1) (Int64.ofInt a.2) S) ∧ ((S.1 2 ((176 + (12 * Y + X))).toNatClampNeg) = 0 → wpX9_luresOf (nI s) (12 * Y + X) (nI h) (nI sp - nI 1) S (fun (r38 : Int64) (S39 : sn_S) => sn_jn (fun (v40 : Int32) => sn_jn (fun (v42 : Int64) => k36 v40 v42 S39) (fun (k43 : Int64 → Prop) => (((lg_cmp r38 (Int64.ofInt a.2)) ≤ 0 → k43 (Int64.ofInt a.2)) ∧ (¬ (lg_cmp r38 (Int64.ofInt a.2)) ≤ 0 → k43 r38)))) (fun (k41 : Int32 → Prop) => (((lg_cmp r38 (Int64.ofInt a.2)) ≤ 0 → k41 (nI a.1)) ∧ (¬ (lg_cmp r38 (Int64.ofInt a.2)) ≤ 0 → k41 (12 * Y + X))))))))))))))) := by
  subst hX hY
  have hd96 : d < 96 := by omega
  have e1 : (12 : Int32) * nI yy + nI xx = nI d := by rw [show (12 : Int32) * nI yy = nI (12 * yy) from pn_mul 12 yy, pn_add, hd]
  have e2 : (176 : Int32) + nI d = nI (176 + d) := pn_add 176 d
  rw [e1, e2]
  refine m_inY 0 11 rfl rfl ⟨fun h => by have := (pn_ltN (j := 0) (by omega) (by decide)).mp h; omega, fun h => by have := (pn_ltN (i := 11) (by decide) (by omega)).mp h; omega⟩ (sn_jn_by (fun k36 => k36 (nI (bst t F g s h sp a d).1) (Int64.ofInt (bst t F g s h sp a d).2) S ∧ ∀ S2, agT S0 S2 → k36 (nI (bst t F g s h sp a d).1) (Int64.ofInt (bst t F g s h sp a d).2) S2) ⟨hK S hS, hK⟩ (fun k36 hk36 => bq_n i1 ?_))
  refine m_inY 0 7 rfl rfl ⟨fun h => by have := (pn_ltN (j := 0) (by omega) (by decide)).mp h; omega, fun h => by have := (pn_ltN (i := 7) (by decide) (by omega)).mp h; omega⟩ (bq_n i1 ⟨vm (by omega), ?_⟩)
  rw [pn_nat (n := 176 + d) (by omega), hM.2.2.2.2.2.2.2.2.2.2 d hd96, show (0 : Int32) = nI 0 from rfl, pn_eqN (by have := hg.2.2.2.2.2.2.2.2.2.2 d hd96; omega) (by decide)]
  by_cases h9 : t 9 d = 0
  · refine bq_u h9 ?_
    refine m_lures hg hM hF hW hG hs hd96 hh hsp (fun S39 T39 => ?_)
    have hlr := lure_rng (g := g) (s := s) (h := h) (sp := sp) hg hF.1 hd96
    have hle : (lg_cmp (Int64.ofInt (lure t F g s d h sp)) (Int64.ofInt a.2) ≤ nI 0) ↔ ¬ a.2 < lure t F g s d h sp := by
      rw [show a.2 < lure t F g s d h sp ↔ Int64.ofInt a.2 < Int64.ofInt (lure t F g s d h sp) from (lI_lt (by omega) (by omega) (by omega) (by omega)).symm, ← lc_gt]
      rw [show nI 0 = (0 : Int32) from rfl, pn_le, pn_lt]
      have h0 : (0 : Int32).toInt = 0 := rfl
      omega
    have hk2 := hk36.2 S39 (agT_trans hS T39)
    unfold bst at hk2
    refine sn_jn_by (fun k41 => k41 (nI (bst t F g s h sp a d).1)) (sn_jn_by (fun k43 => k43 (Int64.ofInt (bst t F g s h sp a d).2)) (hk36.2 S39 (agT_trans hS T39)) (fun k43 hk43 => ?_)) (fun k41 hk41 => ?_)
    · unfold bst at hk43
      by_cases hlt : a.2 < lure t F g s d h sp
      · rw [if_pos ⟨h9, hlt⟩] at hk43
        exact bq_f (fun h => hle.mp h hlt) hk43
      · rw [if_neg (fun hh => hlt hh.2)] at hk43
        exact bq_t (hle.mpr hlt) hk43
    · unfold bst at hk41
      by_cases hlt : a.2 < lure t F g s d h sp
      · rw [if_pos ⟨h9, hlt⟩] at hk41
        exact bq_f (fun h => hle.mp h hlt) hk41
      · rw [if_neg (fun hh => hlt hh.2)] at hk41
        exact bq_t (hle.mpr hlt) hk41
  · refine bq_v h9 ?_
    have := hk36.1
    unfold bst at this
    rw [if_neg (fun hh => h9 hh.1)] at this
    exact this
/-- one direction: no cell there -/
theorem m_dirN {S : sn_S} {s h sp : Nat} {X Y : Int32} {a : Nat × Int} (hn : (¬ (¬ X < 0 ∧ ¬ 11 < X)) ∨ (¬ (¬ Y < 0 ∧ ¬ 7 < Y))) {K : Int32 → Int64 → sn_S → Prop} (hK : K (nI a.1) (Int64.ofInt a.2) S) :
    wpX9_in (Int32.toInt64 X) 0 11 (fun (r32 : Int32) => sn_jn (fun (v33 : Int32) (v34 : Int64) (S35 : sn_S) => K v33 v34 S35) (fun (k36 : Int32 → Int64 → sn_S → Prop) => ((r32 = 0 → k36 (nI a.1) (Int64.ofInt a.2) S) ∧ (¬ r32 = 0 → wpX9_in (Int32.toInt64 Y) 0 7 (fun (r37 : Int32) => ((r37 = 0 → k36 (nI a.1) (Int64.ofInt a.2) S) ∧ (¬ r37 = 0 → (vp_in (176 + (12 * Y + X)) 5680 ∧ ((¬ (S.1 2 ((176 + (12 * Y + X))).toNatClampNeg) = 0 → k36 (nI a.1) (Int64.ofInt a.2) S) ∧ ((S.1 2 ((176 + (12 * Y + X))).toNatClampNeg) = 0 → wpX9_luresOf (nI s) (12 * Y + X) (nI h) (nI sp - nI 1) S (fun (r38 : Int64) (S39 : sn_S) => sn_jn (fun (v40 : Int32) => sn_jn (fun (v42 : Int64) => k36 v40 v42 S39) (fun (k43 : Int64 → Prop) => (((lg_cmp r38 (Int64.ofInt a.2)) ≤ 0 → k43 (Int64.ofInt a.2)) ∧ (¬ (lg_cmp r38 (Int64.ofInt a.2)) ≤ 0 → k43 r38)))) (fun (k41 : Int32 → Prop) => (((lg_cmp r38 (Int64.ofInt a.2)) ≤ 0 → k41 (nI a.1)) ∧ (¬ (lg_cmp r38 (Int64.ofInt a.2)) ≤ 0 → k41 (12 * Y + X))))))))))))))) := by
  by_cases hx : ¬ X < 0 ∧ ¬ 11 < X
  · refine m_inY 0 11 rfl rfl hx (sn_jn_by (fun k36 => k36 (nI a.1) (Int64.ofInt a.2) S) hK (fun k36 hk36 => bq_n i1 ?_))
    have hy : ¬ (¬ Y < 0 ∧ ¬ 7 < Y) := by
      rcases hn with h | h
      · exact absurd hx h
      · exact h
    exact m_inN 0 7 rfl rfl hy (bq_z rfl hk36)
  · exact m_inN 0 11 rfl rfl hx (sn_jn_by (fun k36 => k36 (nI a.1) (Int64.ofInt a.2) S) hK (fun k36 hk36 => bq_z rfl hk36))
theorem RG_creep {S : sn_S} {t g : gT} {F : gF} {s m sp : Nat} (hW : RG S t g) (h2 : g 2 s = 0) (hb : bt (g 5 0) s = bt (g 5 0) s) :
    RG (sn_pI (sn_pI (sn_pI S 15 s (nI (goal t F g s m sp))) 18 (goal t F g s m sp) (nI (stb (g 4 (goal t F g s m sp)) s))) 16 s (if goal t F g s m sp = t 4 (6 * s + 1) then nI (m + 1) else -1)) t (creep t F g s m sp) := by
  obtain ⟨w1, w2, w4, w5⟩ := hW
  generalize hv : goal t F g s m sp = v
  refine ⟨fun i hi => ?_, fun i hi => ?_, fun c hc => ?_, fun i hi => ?_⟩
  · simp only [sI_get, creep, hv]
    by_cases e : i = s
    · subst e
      simp
    · simp [e, w1 i hi]
  · simp only [sI_get, creep, hv]
    by_cases e : i = s
    · subst e
      by_cases hh : v = t 4 (6 * i + 1)
      · simp [hh]
        exact (pn_sub (a := m + 2) (b := 1) (by omega)).symm
      · simp [hh, h2]
        rfl
    · simp [e, w2 i hi]
  · simp only [sI_get, creep, hv]
    by_cases e : c = v
    · subst e
      simp
    · simp [e, w4 c hc]
  · simp only [sI_get, creep, hv]
    simp [w5 i hi]
theorem dirs (c : Nat) : nbs c = (((if 12 ≤ c then [c - 12] else []) ++ (if c % 12 < 11 then [c + 1] else [])) ++ (if c < 84 then [c + 12] else [])) ++ (if 0 < c % 12 then [c - 1] else []) := rfl
/-- the first k directions -/
def nbp (c : Nat) : Nat → List Nat
  | 0 => []
  | 1 => if 12 ≤ c then [c - 12] else []
  | 2 => (if 12 ≤ c then [c - 12] else []) ++ (if c % 12 < 11 then [c + 1] else [])
  | 3 => ((if 12 ≤ c then [c - 12] else []) ++ (if c % 12 < 11 then [c + 1] else [])) ++ (if c < 84 then [c + 12] else [])
  | _ => nbs c
theorem bst_fold_rng {t : gT} {F : gF} {g : gT} {s h sp : Nat} (hg : tG t) (hF : gFok F) : ∀ (l : List Nat) (a : Nat × Int), (∀ d, d ∈ l → d < 96) → (-1000000000 ≤ a.2 ∧ a.2 ≤ 1000000000) → (-1000000000 ≤ (l.foldl (bst t F g s h sp) a).2 ∧ (l.foldl (bst t F g s h sp) a).2 ≤ 1000000000)
  | [], a, _, ha => ha
  | d :: l, a, hl, ha => by
    refine bst_fold_rng hg hF l _ (fun d hd => hl d (List.mem_cons_of_mem _ hd)) ?_
    unfold bst
    split
    · exact lure_rng hg hF (hl d List.mem_cons_self)
    · exact ha
theorem nbp_lt {c : Nat} (hc : c < 96) : ∀ k, k ≤ 4 → ∀ d, d ∈ nbp c k → d < 96 := by
  intro k hk d hd
  have key : d ∈ nbs c := by
    rcases (show k = 0 ∨ k = 1 ∨ k = 2 ∨ k = 3 ∨ k = 4 by omega) with rfl | rfl | rfl | rfl | rfl
    · exact absurd hd (by simp [nbp])
    · rw [dirs]; exact List.mem_append_left _ (List.mem_append_left _ (List.mem_append_left _ hd))
    · rw [dirs]; exact List.mem_append_left _ (List.mem_append_left _ hd)
    · rw [dirs]; exact List.mem_append_left _ hd
    · exact hd
  exact nb_lt hc d key
theorem m_creep {S : sn_S} {t g : gT} {F : gF} {s m sp : Nat} (hg : tG t) (hM : RMt S t) (hF : RFm S t F) (hW : RG S t g) (hG : gG t g) (hI : gI t g) (hs : s < t 0 0) (h2 : g 2 s = 0) (hm : m < 60) (hsp : sp ≤ t 0 1) {Q : sn_S → Prop} (k : ∀ S', agG S S' → RG S' t (creep t F g s m sp) → (RS S t g → RS S' t (creep t F g s m sp)) → S'.1 20 = S.1 20 → Q S') : wpX9_creep (nI s) (nI m) (nI sp - nI 1) S Q := by
  unfold wpX9_creep
  have h6 := hg.1
  have hc := hG.1 s hs
  obtain ⟨i1', i2'⟩ := hI s hs
  have hv6 : vp_in (nI s) 6 := pn_vp (by omega) (by decide)
  refine ⟨hv6, ?_⟩
  rw [pn_nat (n := s) (by omega), hW.1 s hs]
  simp only [sn_lt]
  rw [show nI m / 12 = nI (m / 12) from pn_div (by omega) (by decide), show nI (g 1 s) - nI (g 1 s) / 12 * 12 = nI (g 1 s % 12) from pn_rem (by omega) (by decide), show nI (g 1 s) / 12 = nI (g 1 s / 12) from pn_div (by omega) (by decide)]
  refine m_tells (hd := 2) hg hM hF hW hG (by decide) hs hc (by omega) hsp (fun S4 T4 => ?_)
  have W4 := RG_T hW T4
  have gl := goal_lt (t := t) (F := F) (g := g) (s := s) (m := m) (sp := sp) hc
  refine sn_jn_by (fun k6 => ∀ S5, agG S S5 → RG S5 t (creep t F g s m sp) → S5.1 19 = S.1 19 → S5.1 20 = S.1 20 → k6 S5) (fun S5 A5 R5 e19 e20 => ?_) (fun k6 hk6 => ?_)
  · refine ⟨hv6, hv6, ?_⟩
    have e15 : S5.1 15 s = nI (goal t F g s m sp) := by
      rw [R5.1 s hs]
      simp [creep]
    have fin : ∀ v : Int32, v = nI (if goal t F g s m sp = g 1 s then 1 else 0) → Q (sn_pI S5 19 s (S5.1 19 s + v)) := by
      intro v hv
      refine k _ (agG_I A5 ⟨by decide, by decide⟩ _ _) ?_ (fun hS i hi => ?_) (by rw [sI_row _ _ _ (by decide)]; exact e20)
      · unfold RG at R5 ⊢
        rw [sI_row _ _ _ (by decide), sI_row _ _ _ (by decide), sI_row _ _ _ (by decide), sI_row _ _ _ (by decide)]
        exact R5
      · rw [sI_get, e19]
        simp only [creep]
        by_cases e : i = s
        · subst e
          rw [if_pos ⟨trivial, rfl⟩, hS i hi, hv, pn_add]
          simp
          congr 1
          split <;> rfl
        · rw [if_neg (fun h => e h.2), hS i hi]
          simp [e]
    rw [e15]
    by_cases e : goal t F g s m sp = g 1 s
    · rw [if_pos e] at fin
      refine bq_u (by rw [e]) ⟨hv6, fin 1 rfl⟩
    · rw [if_neg e] at fin
      refine bq_v (fun h => e ((pn_eqN (by omega) (by omega)).mp h)) ⟨hv6, fin 0 rfl⟩
  · cases hF2 : F 2 (vals t g s (g 1 s) (m / 12) sp) with
    | some z =>
      have hz : z = 1 := hF.1.2 _ _ hF2
      subst hz
      have eg : goal t F g s m sp = g 1 s := by
        unfold goal
        rw [hF2]
        rfl
      refine bq_v (by rw [lc_eq]; exact (by decide)) (hk6 S4 (agG_T T4) ?_ (T4.1 19 (by decide)) (T4.1 20 (by decide)))
      refine ⟨fun i hi => ?_, fun i hi => ?_, fun c hc => ?_, fun i hi => ?_⟩
      · simp only [creep, eg]
        by_cases e : i = s
        · subst e
          simp [W4.1 i hi]
        · simp [e, W4.1 i hi]
      · simp only [creep, eg]
        by_cases e : i = s
        · subst e
          simp [i1' h2, W4.2.1 i hi]
        · simp [e, W4.2.1 i hi]
      · simp only [creep, eg]
        by_cases e : c = g 1 s
        · subst e
          simp [stb, i2', W4.2.2.1 _ hc]
        · simp [e, W4.2.2.1 c hc]
      · simp only [creep]
        simp [W4.2.2.2 i hi]
    | none =>
      have eg : goal t F g s m sp = best t F g s (m / 12) sp := by
        unfold goal
        rw [hF2]
        rfl
      refine bq_u (by rw [lM, lc_eq]) ?_
      refine m_lures hg (RMt_T hM T4) (RFm_ag hF (T4.1 2 (by decide))) W4 hG hs hc (by omega) hsp (fun S10 T10 => ?_)
      have T10' := agT_trans T4 T10
      refine sn_jn_by (fun k13 => ∀ S12, agT S S12 → k13 (nI (goal t F g s m sp)) S12) (fun S12 T12 => ?_) (fun k13 hk13 => ?_)
      · have M12 := RMt_T hM T12
        have W12 := RG_T hW T12
        have hbb := hG.2.2.1 _ gl
        have cr := RG_creep (F := F) (m := m) (sp := sp) W12 h2 rfl
        generalize hv : goal t F g s m sp = v at gl cr hbb ⊢
        have A15 : agG S (sn_pI (sn_pI S12 15 s (nI v)) 18 v (nI (stb (g 4 v) s))) := agG_I (agG_I (agG_T T12) ⟨by decide, by decide⟩ _ _) ⟨by decide, by decide⟩ _ _
        rw [pn_nat (n := v) (by omega), sI_row _ _ _ (show (18 : Nat) ≠ 15 by decide), W12.2.2.1 v gl, bits_stb _ hbb _ (by omega)]
        refine ⟨hv6, pn_vp (by omega) (by decide), pn_vp (by omega) (by decide), ?_⟩
        refine m_ofSnail (s := s) (f := 1) (RMt_G hM A15) (by omega) ?_
        refine sn_jn_by (fun k18 => k18 (if v = t 4 (6 * s + 1) then nI (m + 1) else -1)) ⟨hv6, hk6 _ (agG_I A15 ⟨by decide, by decide⟩ _ _) cr (by rw [sI_row _ _ _ (by decide), sI_row _ _ _ (by decide), sI_row _ _ _ (by decide)]; exact T12.1 19 (by decide)) (by rw [sI_row _ _ _ (by decide), sI_row _ _ _ (by decide), sI_row _ _ _ (by decide)]; exact T12.1 20 (by decide))⟩ (fun k18 hk18 => ?_)
        by_cases e : v = t 4 (6 * s + 1)
        · rw [if_pos e] at hk18
          exact bq_u (by rw [e]) (by rw [show nI m + 1 = nI (m + 1) from pn_add m 1]; exact hk18)
        · rw [if_neg e] at hk18
          exact bq_v (fun h => e ((pn_eqN (by omega) (by have := (hg.2.2.2.2.2.1 s hs).2.1; omega)).mp h)) hk18
      · have hlr := lure_rng (t := t) (F := F) (g := g) (s := s) (h := m / 12) (sp := sp) hg hF.1 hc
        refine sn_lp4_inv (fun b mo i S' => ∃ (j : Nat) (a : Nat × Int), j ≤ 4 ∧ i = nI j ∧ b = nI a.1 ∧ mo = Int64.ofInt a.2 ∧ a = (nbp (g 1 s) j).foldl (bst t F g s (m / 12) sp) (g 1 s, lure t F g s (g 1 s) (m / 12) sp) ∧ agT S S') (fun _ _ i _ => 4 - i.toNatClampNeg) ?_ _ _ _ _ ⟨0, (g 1 s, lure t F g s (g 1 s) (m / 12) sp), by omega, rfl, rfl, rfl, rfl, T10'⟩
        rintro rc b mo i S' ⟨j, a, hj, rfl, rfl, rfl, hfold, hA⟩ hrc
        rw [show (4 : Int32) = nI 4 from rfl, pn_leN (by omega) (by omega)]
        have har : -1000000000 ≤ a.2 ∧ a.2 ≤ 1000000000 := by
          rw [hfold]
          exact bst_fold_rng hg hF.1 _ _ (nbp_lt hc j hj) hlr
        by_cases hje : j = 4
        · subst hje
          refine bq_t (Nat.le_refl _) ?_
          have := hk13 S' hA
          rw [eg] at this
          rw [hfold]
          exact this
        · refine bq_f (by omega) ?_
          have M6 := RMt_T hM hA
          have F6 := RFm_ag hF (hA.1 2 (by decide))
          have W6 := RG_T hW hA
          have hh5 : m / 12 < 5 := by omega
          have step : ∀ (a2 : Nat × Int) (S2 : sn_S), agT S S2 → a2 = (nbp (g 1 s) (j + 1)).foldl (bst t F g s (m / 12) sp) (g 1 s, lure t F g s (g 1 s) (m / 12) sp) → rc (nI a2.1) (Int64.ofInt a2.2) (nI j + 1) S2 := by
            intro a2 S2 h1 h2
            rw [show nI j + 1 = nI (j + 1) from pn_add j 1]
            refine hrc _ _ _ _ ⟨j + 1, a2, by omega, rfl, rfl, rfl, h2, h1⟩ ?_
            rw [pn_nat (by omega), pn_nat (by omega)]
            omega
          have m1 : ∀ n : Nat, 0 < n → nI n + (-1) = nI (n - 1) := by
            intro n hn
            rw [← pn_sub (b := 1) (by omega), Int32.sub_eq_add_neg]
            rfl
          have n0 : nI 0 + (-1) = -1 := rfl
          have s0 : ∀ n : Nat, nI n + 0 = nI n := fun n => pn_add n 0
          have s1 : ∀ n : Nat, nI n + 1 = nI (n + 1) := fun n => pn_add n 1
          have out1 : ¬ (¬ (-1 : Int32) < 0 ∧ ¬ 11 < (-1 : Int32)) := by decide
          have out2 : ¬ (¬ (-1 : Int32) < 0 ∧ ¬ 7 < (-1 : Int32)) := by decide
          have out3 : ¬ (¬ nI 12 < 0 ∧ ¬ 11 < nI 12) := by decide
          have out4 : ¬ (¬ nI 8 < 0 ∧ ¬ 7 < nI 8) := by decide
          rcases (show j = 0 ∨ j = 1 ∨ j = 2 ∨ j = 3 by omega) with rfl | rfl | rfl | rfl
          · refine sn_jn_by (fun k26 => k26 0) ?_ (fun k26 hk26 => bq_v (by decide) (bq_v (by decide) hk26))
            refine sn_jn_by (fun k29 => k29 (-1)) ?_ (fun k29 hk29 => bq_u (by decide) hk29)
            by_cases h0 : 12 ≤ g 1 s
            · refine m_dirY (xx := g 1 s % 12) (yy := g 1 s / 12 - 1) hg M6 F6 W6 hG hs hh5 hsp hA (s0 _) (m1 _ (by omega)) (by omega) (by omega) har (d := g 1 s - 12) (by omega) (fun S2 h => step _ S2 h ?_)
              rw [show nbp (g 1 s) 1 = if 12 ≤ g 1 s then [g 1 s - 12] else [] from rfl, if_pos h0, hfold]
              rfl
            · refine m_dirN (Or.inr ?_) (step _ S' hA ?_)
              · rw [show g 1 s / 12 = 0 by omega, n0]
                exact out2
              · rw [show nbp (g 1 s) 1 = if 12 ≤ g 1 s then [g 1 s - 12] else [] from rfl, if_neg h0, hfold]
                rfl
          · refine sn_jn_by (fun k26 => k26 1) ?_ (fun k26 hk26 => bq_u (by decide) hk26)
            refine sn_jn_by (fun k29 => k29 0) ?_ (fun k29 hk29 => bq_v (by decide) (bq_v (by decide) hk29))
            have e2 : nbp (g 1 s) 2 = nbp (g 1 s) 1 ++ (if g 1 s % 12 < 11 then [g 1 s + 1] else []) := rfl
            by_cases h0 : g 1 s % 12 < 11
            · refine m_dirY (xx := g 1 s % 12 + 1) (yy := g 1 s / 12) hg M6 F6 W6 hG hs hh5 hsp hA (s1 _) (s0 _) (by omega) (by omega) har (d := g 1 s + 1) (by omega) (fun S2 h => step _ S2 h ?_)
              rw [e2, if_pos h0, List.foldl_append, ← hfold]
              rfl
            · refine m_dirN (Or.inl ?_) (step _ S' hA ?_)
              · rw [show g 1 s % 12 = 11 by omega]
                exact out3
              · rw [e2, if_neg h0, List.append_nil, ← hfold]
          · refine sn_jn_by (fun k26 => k26 0) ?_ (fun k26 hk26 => bq_v (by decide) (bq_v (by decide) hk26))
            refine sn_jn_by (fun k29 => k29 1) ?_ (fun k29 hk29 => bq_v (by decide) (bq_u (by decide) hk29))
            have e2 : nbp (g 1 s) 3 = nbp (g 1 s) 2 ++ (if g 1 s < 84 then [g 1 s + 12] else []) := rfl
            by_cases h0 : g 1 s < 84
            · refine m_dirY (xx := g 1 s % 12) (yy := g 1 s / 12 + 1) hg M6 F6 W6 hG hs hh5 hsp hA (s0 _) (s1 _) (by omega) (by omega) har (d := g 1 s + 12) (by omega) (fun S2 h => step _ S2 h ?_)
              rw [e2, if_pos h0, List.foldl_append, ← hfold]
              rfl
            · refine m_dirN (Or.inr ?_) (step _ S' hA ?_)
              · rw [show g 1 s / 12 = 7 by omega]
                exact out4
              · rw [e2, if_neg h0, List.append_nil, ← hfold]
          · refine sn_jn_by (fun k26 => k26 (-1)) ?_ (fun k26 hk26 => bq_v (by decide) (bq_u (by decide) hk26))
            refine sn_jn_by (fun k29 => k29 0) ?_ (fun k29 hk29 => bq_v (by decide) (bq_v (by decide) hk29))
            have e2 : nbp (g 1 s) 4 = nbp (g 1 s) 3 ++ (if 0 < g 1 s % 12 then [g 1 s - 1] else []) := rfl
            by_cases h0 : 0 < g 1 s % 12
            · refine m_dirY (xx := g 1 s % 12 - 1) (yy := g 1 s / 12) hg M6 F6 W6 hG hs hh5 hsp hA (m1 _ h0) (s0 _) (by omega) (by omega) har (d := g 1 s - 1) (by omega) (fun S2 h => step _ S2 h ?_)
              rw [e2, if_pos h0, List.foldl_append, ← hfold]
              rfl
            · refine m_dirN (Or.inl ?_) (step _ S' hA ?_)
              · rw [show g 1 s % 12 = 0 by omega, n0]
                exact out1
              · rw [e2, if_neg h0, List.append_nil, ← hfold]
