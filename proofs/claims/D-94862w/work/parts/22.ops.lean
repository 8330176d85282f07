/-! THE PLAIN LAW, fourth part: single calls, both sides at once: K (x's answer) (x's state) (the model's answer) (the model's state). -/
set_option maxRecDepth 100000
/-- a refusal, a told change -/
def mTold (S : sn_S) : sn_S := sn_pI S 0 1 0
theorem mT_2 (S : sn_S) : (mT S).1 2 = S.1 2 := sI_row S 0 0 (by decide)
theorem o_damp {w : sn_W} {SX SM : sn_S} {t : gT} (hX : RXt SX t) (hM : RMt SM t) (a v : Int32) {K : Int32 → sn_S → Int32 → sn_S → Prop}
    (hok : ∀ i u : Nat, i < 96 → u ≤ 9 → K (nI (t 3 i)) (xTold (sn_pI SX 3 i (nI u))) (nI (t 3 i)) (mTold (sn_pI (mT SM) 2 (80 + i) (nI u))))
    (hno : K (-1) (xRef SX (-1) 1) (-1) (mRef (mT SM) (-1) 1)) : wpX0_damp w a v SX (fun r S1 => wpX9_damp a v SM (fun r2 S2 => K r S1 r2 S2)) := by
  refine x_damp (fun i hi ha h1 h2 => ?_) (fun hb => ?_)
  · obtain ⟨u, hu, rfl⟩ := pn_in (hi := 9) (by decide) h1 h2
    subst ha
    refine m_damp (fun j hj e h3 h4 => ?_) (fun hb => ?_)
    · have he : i = j := (pn_eqN (by omega) (by omega)).mp e
      subst he
      have := hok i u hi hu
      rw [← hX.2.2.2.2.1 i hi] at this
      rw [hX.2.2.2.2.1 i hi, hM.2.2.2.2.1 i hi]
      rw [hX.2.2.2.2.1 i hi] at this
      exact this
    · exfalso
      rw [show (0 : Int32) = nI 0 from rfl, show (95 : Int32) = nI 95 from rfl, show (9 : Int32) = nI 9 from rfl, pn_ltN (by omega) (by omega), pn_ltN (by omega) (by omega), pn_ltN (by omega) (by omega), pn_ltN (by omega) (by omega)] at hb
      omega
  · refine m_damp (fun j hj e h3 h4 => ?_) (fun hb => hno)
    exfalso
    subst e
    rw [show (0 : Int32) = nI 0 from rfl, show (95 : Int32) = nI 95 from rfl, pn_ltN (by omega) (by omega), pn_ltN (by omega) (by omega)] at hb
    rcases hb with hb | hb | hb | hb
    · omega
    · omega
    · exact h3 hb
    · exact h4 hb
/-! the range tests, their outcome known -/
theorem x_inY {w : sn_W} {a lo hi : Int32} {Q : Int32 → Prop} (h : ¬ a < lo ∧ ¬ hi < a) (k : Q 1) : wpX0_in w a lo hi Q := x_in (by rw [bI, if_pos h]; exact k)
theorem x_inN {w : sn_W} {a lo hi : Int32} {Q : Int32 → Prop} (h : ¬ (¬ a < lo ∧ ¬ hi < a)) (k : Q 0) : wpX0_in w a lo hi Q := x_in (by rw [bI, if_neg h]; exact k)
theorem m_inY {a : Int32} (lo hi : Int32) {l h0 : Int64} (hl : lo.toInt64 = l) (hh : hi.toInt64 = h0) {Q : Int32 → Prop} (h : ¬ a < lo ∧ ¬ hi < a) (k : Q 1) : wpX9_in a.toInt64 l h0 Q := m_inI lo hi hl hh (by rw [bI, if_pos h]; exact k)
theorem m_inN {a : Int32} (lo hi : Int32) {l h0 : Int64} (hl : lo.toInt64 = l) (hh : hi.toInt64 = h0) {Q : Int32 → Prop} (h : ¬ (¬ a < lo ∧ ¬ hi < a)) (k : Q 0) : wpX9_in a.toInt64 l h0 Q := m_inI lo hi hl hh (by rw [bI, if_neg h]; exact k)
theorem x_cellY {w : sn_W} {a : Int32} {Q : Int32 → Prop} (h : ¬ a < 0 ∧ ¬ 95 < a) (k : Q 1) : wpX0_isCell w a Q := x_inY h ⟨rfl, k⟩
theorem x_cellN {w : sn_W} {a : Int32} {Q : Int32 → Prop} (h : ¬ (¬ a < 0 ∧ ¬ 95 < a)) (k : Q 0) : wpX0_isCell w a Q := x_inN h ⟨rfl, k⟩
theorem m_cellY {a : Int32} {Q : Int32 → Prop} (h : ¬ a < 0 ∧ ¬ 95 < a) (k : Q 1) : wpX9_isCell a Q := m_inY 0 95 rfl rfl h ⟨rfl, k⟩
theorem m_cellN {a : Int32} {Q : Int32 → Prop} (h : ¬ (¬ a < 0 ∧ ¬ 95 < a)) (k : Q 0) : wpX9_isCell a Q := m_inN 0 95 rfl rfl h ⟨rfl, k⟩
/-- a branch whose test is known -/
theorem bq_n {r : Int32} {A B : Prop} (h : ¬ r = 0) (k : B) : (r = 0 → A) ∧ (¬ r = 0 → B) := ⟨fun e => absurd e h, fun _ => k⟩
theorem bq_z {r : Int32} {A B : Prop} (h : r = 0) (k : A) : (r = 0 → A) ∧ (¬ r = 0 → B) := ⟨fun _ => k, fun e => absurd h e⟩
theorem bq_t {c A B : Prop} (h : c) (k : A) : (c → A) ∧ (¬ c → B) := ⟨fun _ => k, fun e => absurd h e⟩
theorem bq_f {c A B : Prop} (h : ¬ c) (k : B) : (c → A) ∧ (¬ c → B) := ⟨fun e => absurd e h, fun _ => k⟩
theorem bq_u {c A B : Prop} (h : c) (k : B) : (¬ c → A) ∧ (c → B) := ⟨fun e => absurd h e, fun _ => k⟩
theorem bq_v {c A B : Prop} (h : ¬ c) (k : A) : (¬ c → A) ∧ (c → B) := ⟨fun _ => k, fun e => absurd e h⟩
theorem i1 : ¬ (1 : Int32) = 0 := by decide
/-- of(cell, what): nothing changes but the model's 'thrown' -/
theorem o_of {w : sn_W} {SX SM : sn_S} {t : gT} (hg : tG t) (hX : RXt SX t) (hM : RMt SM t) (a v : Int32) {K : Int32 → Int32 → sn_S → Prop} (hK : ∀ r : Int32, K r r (mT SM)) : wpX0_of w a v SX (fun r => wpX9_of a v SM (fun r2 S2 => K r r2 S2)) := by
  unfold wpX0_of wpX9_of
  by_cases h : ¬ a < 0 ∧ ¬ 95 < a
  · refine x_cellY h (bq_n i1 ?_)
    by_cases h2 : ¬ v < 0 ∧ ¬ 1 < v
    · refine x_inY h2 (bq_v i1 ?_)
      obtain ⟨i, hi, rfl⟩ := pn_in (hi := 95) (by decide) h.1 h.2
      have e3 := hX.2.2.2.2.1 i (by omega)
      have e9 := hX.2.2.2.2.2.2.2.2.2.2 i (by omega)
      have f3 := hM.2.2.2.2.1 i (by omega)
      have f9 := hM.2.2.2.2.2.2.2.2.2.2 i (by omega)
      have g9 := hg.2.2.2.2.2.2.2.2.2.2 i (by omega)
      have hm : ∀ j : Nat, (sn_pI SM 0 0 0).1 2 j = SM.1 2 j := fun j => by rw [show (sn_pI SM 0 0 0).1 2 = SM.1 2 from mT_2 SM]
      have a3 : (80 : Int32) + nI i = nI (80 + i) := pn_add 80 i
      have a9 : (176 : Int32) + nI i = nI (176 + i) := pn_add 176 i
      by_cases h3 : v = 0
      · refine bq_u h3 ⟨pn_vp (by omega) (by decide), m_cellY h (bq_n i1 (m_inY 0 1 rfl rfl h2 (bq_n i1 (bq_u h3 ⟨?_, ?_⟩))))⟩
        · rw [a3]; exact pn_vp (by omega) (by decide)
        · rw [a3, pn_nat (by omega), pn_nat (by omega), hm, e3, f3]
          exact hK _
      · have key : ∀ r : Int32, r = nI (t 9 i) → wpX9_isCell (nI i) (fun r2 => ((r2 = 0 → K r (-1) (sn_pI SM 0 0 0)) ∧ (¬ r2 = 0 → wpX9_in (Int32.toInt64 v) 0 1 (fun (r3 : Int32) => ((r3 = 0 → K r (-1) (sn_pI SM 0 0 0)) ∧ (¬ r3 = 0 → ((¬ v = 0 → (vp_in (176 + nI i) 5680 ∧ K r ((sn_pI SM 0 0 0).1 2 ((176 + nI i)).toNatClampNeg) (sn_pI SM 0 0 0))) ∧ (v = 0 → (vp_in (80 + nI i) 5680 ∧ K r ((sn_pI SM 0 0 0).1 2 ((80 + nI i)).toNatClampNeg) (sn_pI SM 0 0 0)))))))))) := by
          intro r hr
          refine m_cellY h (bq_n i1 (m_inY 0 1 rfl rfl h2 (bq_n i1 (bq_v h3 ⟨?_, ?_⟩))))
          · rw [a9]; exact pn_vp (by omega) (by decide)
          · rw [a9, pn_nat (by omega), hm, f9, hr]
            exact hK _
        refine bq_v h3 ⟨pn_vp (by omega) (by decide), ?_⟩
        rw [pn_nat (by omega), e9]
        refine ⟨fun h0 => key 0 h0.symm, fun h0 => key 1 ?_⟩
        have : t 9 i = 1 := by
          have hne : t 9 i ≠ 0 := fun e => h0 (by rw [e]; rfl)
          omega
        rw [this]
        rfl
    · exact x_inN h2 (bq_u rfl (m_cellY h (bq_n i1 (m_inN 0 1 rfl rfl h2 (bq_z rfl (hK (-1)))))))
  · exact x_cellN h (bq_z rfl (m_cellN h (bq_z rfl (hK (-1)))))
/-! below a small number -/
theorem sm_int : ∀ N, N ≤ 16 → (nI N - 1).toInt = (N : Int) - 1 := by decide +kernel
theorem sm_wide : ∀ N, N ≤ 16 → (nI N).toInt64 - 1 = (nI N - 1).toInt64 := by decide +kernel
theorem sm_in {N : Nat} (hN : N ≤ 16) (a : Int32) : (¬ a < 0 ∧ ¬ (nI N - 1) < a) ↔ ∃ s : Nat, s < N ∧ a = nI s := by
  have h0 : (0 : Int32).toInt = 0 := rfl
  rw [pn_lt, pn_lt, sm_int N hN, h0]
  constructor
  · rintro ⟨h1, h2⟩
    refine ⟨a.toInt.toNat, by omega, ?_⟩
    rw [pn_eq, pn_int (by omega)]
    omega
  · rintro ⟨s, hs, rfl⟩
    rw [pn_int (by omega)]
    omega
theorem x_snailY {w : sn_W} {S : sn_S} {N s : Nat} (hN : S.1 2 8 = nI N) (h6 : N ≤ 6) (hs : s < N) {Q : Int32 → Prop} (k : Q 1) : wpX0_isSnail w (nI s) S Q := by
  unfold wpX0_isSnail
  rw [hN]
  exact x_inY ((sm_in (by omega) _).mpr ⟨s, hs, rfl⟩) ⟨rfl, k⟩
theorem x_snailN {w : sn_W} {S : sn_S} {N : Nat} {a : Int32} (hN : S.1 2 8 = nI N) (h6 : N ≤ 6) (hs : ¬ ∃ s : Nat, s < N ∧ a = nI s) {Q : Int32 → Prop} (k : Q 0) : wpX0_isSnail w a S Q := by
  unfold wpX0_isSnail
  rw [hN]
  exact x_inN (fun h => hs ((sm_in (by omega) _).mp h)) ⟨rfl, k⟩
theorem v0 : vp_in 0 5680 := pn_vp (n := 0) (by decide) (by decide)
theorem v1 : vp_in 1 5680 := pn_vp (n := 1) (by decide) (by decide)
theorem v2 : vp_in 2 5680 := pn_vp (n := 2) (by decide) (by decide)
theorem v4 : vp_in 4 5680 := pn_vp (n := 4) (by decide) (by decide)
theorem z0 : (0 : Int32).toNatClampNeg = 0 := rfl
theorem z1 : (1 : Int32).toNatClampNeg = 1 := rfl
theorem z2 : (2 : Int32).toNatClampNeg = 2 := rfl
theorem z4 : (4 : Int32).toNatClampNeg = 4 := rfl
theorem m_snailY {S : sn_S} {N s : Nat} (hN : S.1 2 0 = nI N) (h6 : N ≤ 6) (hs : s < N) {Q : Int32 → Prop} (k : Q 1) : wpX9_isSnail (nI s) S Q := by
  unfold wpX9_isSnail
  rw [z0, hN, sm_wide N (by omega)]
  exact ⟨v0, m_inY 0 (nI N - 1) rfl rfl ((sm_in (by omega) _).mpr ⟨s, hs, rfl⟩) ⟨rfl, k⟩⟩
theorem m_snailN {S : sn_S} {N : Nat} {a : Int32} (hN : S.1 2 0 = nI N) (h6 : N ≤ 6) (hs : ¬ ∃ s : Nat, s < N ∧ a = nI s) {Q : Int32 → Prop} (k : Q 0) : wpX9_isSnail a S Q := by
  unfold wpX9_isSnail
  rw [z0, hN, sm_wide N (by omega)]
  exact ⟨v0, m_inN 0 (nI N - 1) rfl rfl (fun h => hs ((sm_in (by omega) _).mp h)) ⟨rfl, k⟩⟩
theorem RMt_mT {S : sn_S} {t : gT} (h : RMt S t) : RMt (mT S) t := RMt_off h 0 0 (by decide)
theorem x_of0 {w : sn_W} {S : sn_S} {t : gT} (hX : RXt S t) {s f : Nat} (hs : 6 * s + f < 36) {Q : Int32 → Prop} (k : Q (nI (t 4 (6 * s + f)))) : wpX0_of0 w (nI s) (nI f) S Q := by
  unfold wpX0_of0
  rw [show (6 : Int32) = nI 6 from rfl, pn_mul, pn_add, pn_nat (by omega), hX.2.2.2.2.2.1 _ hs]
  exact ⟨pn_vp hs (by decide), k⟩
theorem m_ofSnail {S : sn_S} {t : gT} (hM : RMt S t) {s f : Nat} (hs : 6 * s + f < 36) {Q : Int32 → Prop} (k : Q (nI (t 4 (6 * s + f)))) : wpX9_ofSnail (nI s) (nI f) S Q := by
  unfold wpX9_ofSnail
  rw [show (6 : Int32) = nI 6 from rfl, show (16 : Int32) = nI 16 from rfl, pn_mul, pn_add, pn_add, pn_nat (by omega), Nat.add_assoc, hM.2.2.2.2.2.1 _ hs]
  exact ⟨pn_vp (by omega) (by decide), k⟩
/-- fact(snail, what) -/
theorem o_fact {w : sn_W} {SX SM : sn_S} {t : gT} (hg : tG t) (hX : RXt SX t) (hM : RMt SM t) (a v : Int32) {K : Int32 → Int32 → sn_S → Prop} (hK : ∀ r : Int32, K r r (mT SM)) : wpX0_fact w a v SX (fun r => wpX9_fact a v SM (fun r2 S2 => K r r2 S2)) := by
  unfold wpX0_fact wpX9_fact
  have hM' := RMt_mT hM
  by_cases h : ∃ s : Nat, s < t 0 0 ∧ a = nI s
  · obtain ⟨s, hs, rfl⟩ := h
    refine x_snailY hX.1 hg.1 hs (bq_n i1 ?_)
    by_cases h2 : ¬ v < 0 ∧ ¬ 5 < v
    · refine x_inY h2 (bq_n i1 ?_)
      obtain ⟨f, hf, rfl⟩ := pn_in (hi := 5) (by decide) h2.1 h2.2
      have h6 := hg.1
      exact x_of0 hX (by omega) (m_snailY hM'.1 hg.1 hs (bq_n i1 (m_inY 0 5 rfl rfl h2 (bq_n i1 (m_ofSnail hM' (by omega) (hK _))))))
    · exact x_inN h2 (bq_z rfl (m_snailY hM'.1 hg.1 hs (bq_n i1 (m_inN 0 5 rfl rfl h2 (bq_z rfl (hK (-1)))))))
  · exact x_snailN hX.1 hg.1 h (bq_z rfl (m_snailN hM'.1 hg.1 h (bq_z rfl (hK (-1)))))
/-- spot(cell) -/
theorem o_spot {w : sn_W} {SX SM : sn_S} {t : gT} (hg : tG t) (hX : RXt SX t) (hM : RMt SM t) (a : Int32) {K : Int32 → sn_S → Int32 → sn_S → Prop}
    (hok : ∀ i : Nat, i < 96 → t 0 1 < 4 → K (nI (t 0 1)) (xTold (sn_pI (sn_pI SX 5 (t 0 1) (nI i)) 2 9 (nI (t 0 1 + 1)))) (nI (t 0 1)) (mTold (sn_pI (sn_pI (mT SM) 2 (12 + t 0 1) (nI i)) 2 1 (nI (t 0 1 + 1)))))
    (hno : ∀ c i, (c = -1 ∧ i = 1) ∨ (c = -5 ∧ i = 5) → K c (xRef SX c i) c (mRef (mT SM) c i)) : wpX0_spot w a SX (fun r S1 => wpX9_spot a SM (fun r2 S2 => K r S1 r2 S2)) := by
  unfold wpX0_spot wpX9_spot
  have hM' := RMt_mT hM
  have h4 := hg.2.1
  by_cases h : ¬ a < 0 ∧ ¬ 95 < a
  · refine x_cellY h (bq_v i1 ?_)
    obtain ⟨i, hi, rfl⟩ := pn_in (hi := 95) (by decide) h.1 h.2
    rw [hX.2.1]
    by_cases hn : t 0 1 = 4
    · rw [hn]
      refine bq_u rfl (x_refuse (i := 5) (by decide) (by decide) (m_cellY h (bq_v i1 ⟨v1, ?_⟩)))
      have e := hM'.2.1
      rw [hn] at e
      show (¬ (mT SM).1 2 1 = 4 → _) ∧ ((mT SM).1 2 1 = 4 → _)
      exact bq_u e (m_tellN (i := 5) (by decide) (by decide) (by decide) (hno _ _ (Or.inr ⟨rfl, rfl⟩)))
    · have hne : ¬ nI (t 0 1) = 4 := by
        rw [show (4 : Int32) = nI 4 from rfl, pn_eqN (by omega) (by omega)]
        exact hn
      refine bq_v hne ⟨pn_vp (by omega) (by decide), ?_⟩
      rw [pn_nat (by omega)]
      simp only [sn_lt]
      have e1 : (sn_pI SX 5 (t 0 1) (nI i)).1 2 9 + 1 = nI (t 0 1 + 1) := by
        rw [sI_row SX _ _ (by decide), hX.2.1]
        exact pn_add (t 0 1) 1
      rw [e1]
      have e2 : (sn_pI (sn_pI SX 5 (t 0 1) (nI i)) 2 9 (nI (t 0 1 + 1))).1 2 9 - 1 = nI (t 0 1) := by
        rw [sI_get, if_pos ⟨rfl, rfl⟩]
        have := pn_sub (a := t 0 1 + 1) (b := 1) (by omega)
        rwa [Nat.add_sub_cancel] at this
      rw [e2]
      refine x_told (w := w) (m_cellY h (bq_v i1 ⟨v1, ?_⟩))
      rw [show (sn_pI SM 0 0 0).1 2 (Int32.toNatClampNeg 1) = nI (t 0 1) from hM'.2.1]
      refine bq_v hne ?_
      have a1 : (12 : Int32) + nI (t 0 1) = nI (12 + t 0 1) := pn_add 12 _
      rw [a1, pn_nat (by omega)]
      refine ⟨pn_vp (by omega) (by decide), v1, v1, ?_⟩
      simp only [z1]
      rw [show sn_pI SM 0 0 0 = mT SM from rfl]
      have e3 : (sn_pI (mT SM) 2 (12 + t 0 1) (nI i)).1 2 1 + 1 = nI (t 0 1 + 1) := by
        rw [sM_get, if_neg (by omega), hM'.2.1]
        exact pn_add (t 0 1) 1
      rw [e3]
      refine m_tellP ?_ (hok i (by omega) (by omega))
      rw [show (0 : Int32) = nI 0 from rfl, pn_leN (by omega) (by omega)]
      omega
  · exact x_cellN h (bq_u rfl (x_refuse (i := 1) (by decide) (by decide) (m_cellN h (bq_u rfl (m_tellN (i := 1) (by decide) (by decide) (by decide) (hno _ _ (Or.inl ⟨rfl, rfl⟩)))))))
/-- a row's place replaced, the model's as well -/
theorem m_changeI {base i : Nat} {v : Int32} {S : sn_S} {Q : Int32 → sn_S → Prop} (c : Int32) (hc : c = nI base) (hi : base + i < 5680) (h : Q (S.1 2 (base + i)) (mTold (sn_pI S 2 (base + i) v))) : wpX9_change (c + nI i) v S Q := by
  rw [hc, pn_add]
  exact m_change hi h
theorem pl_N1 : ∀ N, N ≤ 16 → (¬ (nI N - 1) < -1) := by decide +kernel
theorem sm_in1 {N : Nat} (hN : N ≤ 16) (a : Int32) : (¬ a < -1 ∧ ¬ (nI N - 1) < a) ↔ ∃ s : Nat, s ≤ N ∧ a = nI s - 1 := by
  have h0 : (-1 : Int32).toInt = -1 := rfl
  rw [pn_lt, pn_lt, sm_int N hN, h0]
  constructor
  · rintro ⟨h1, h2⟩
    refine ⟨(a.toInt + 1).toNat, by omega, ?_⟩
    rw [pn_eq, sm_int _ (by omega)]
    omega
  · rintro ⟨s, hs, rfl⟩
    rw [sm_int s (by omega)]
    omega
/-- plan(hour, spot) -/
theorem o_plan {w : sn_W} {SX SM : sn_S} {t : gT} (hg : tG t) (hX : RXt SX t) (hM : RMt SM t) (a v : Int32) {K : Int32 → sn_S → Int32 → sn_S → Prop}
    (hok : ∀ i s : Nat, i < 5 → s ≤ t 0 1 → K (nI (t 6 i) - 1) (xTold (sn_pI SX 6 i (nI s - 1))) (nI (t 6 i) - 1) (mTold (sn_pI (mT SM) 2 (7 + i) (nI s - 1))))
    (hno : ∀ c i, (c = -1 ∧ i = 1) ∨ (c = -2 ∧ i = 2) → K c (xRef SX c i) c (mRef (mT SM) c i)) : wpX0_plan w a v SX (fun r S1 => wpX9_plan a v SM (fun r2 S2 => K r S1 r2 S2)) := by
  simp only [wpX0_plan, wpX9_plan, wpX0_isHour, sn_lt]
  have hM' := RMt_mT hM
  have h4 := hg.2.1
  by_cases h : ¬ a < 0 ∧ ¬ 4 < a
  · refine x_inY h ⟨rfl, bq_v i1 ?_⟩
    obtain ⟨i, hi, rfl⟩ := pn_in (hi := 4) (by decide) h.1 h.2
    rw [hX.2.1]
    by_cases h2 : ∃ s : Nat, s ≤ t 0 1 ∧ v = nI s - 1
    · refine x_inY ((sm_in1 (by omega) v).mpr h2) (bq_n i1 ?_)
      obtain ⟨s, hs, rfl⟩ := h2
      refine x_replaces (by omega) (by decide) ?_
      rw [hX.2.2.2.2.2.2.2.1 i (by omega)]
      refine m_inY (l := 0) (h0 := 4) 0 4 rfl rfl h (bq_v i1 ?_)
      have key : wpX9_change (7 + nI i) (nI s - 1) (mT SM) (fun r2 S2 => K (nI (t 6 i) - nI 1) (xTold (sn_pI SX 6 i (nI s - 1))) r2 S2) := by
        refine m_changeI (base := 7) 7 rfl (by omega) ?_
        rw [hM'.2.2.2.2.2.2.2.1 i (by omega)]
        exact hok i s (by omega) hs
      refine sn_jn_by (fun k => k) key (fun k hk => ⟨fun _ => hk, fun hne => ⟨v1, ?_⟩⟩)
      rw [show (sn_pI SM 0 0 0).1 2 (Int32.toNatClampNeg 1) = nI (t 0 1) from hM'.2.1, sm_wide _ (by omega)]
      refine m_inY 0 (nI (t 0 1) - 1) rfl rfl ((sm_in (by omega) _).mpr ?_) (bq_n i1 hk)
      rcases s with _ | s
      · exact absurd rfl hne
      · refine ⟨s, by omega, ?_⟩
        have := pn_sub (a := s + 1) (b := 1) (by omega)
        rwa [Nat.add_sub_cancel] at this
    · refine x_inN (fun h3 => h2 ((sm_in1 (by omega) v).mp h3)) (bq_z rfl (x_refuse (i := 2) (by decide) (by decide) (m_inY (l := 0) (h0 := 4) 0 4 rfl rfl h (bq_v i1 ?_))))
      have hne : ¬ v = -1 := fun e => h2 ⟨0, Nat.zero_le _, e⟩
      refine sn_jn_by (fun k => True) trivial (fun k _ => ⟨fun e => absurd e hne, fun _ => ⟨v1, ?_⟩⟩)
      rw [show (sn_pI SM 0 0 0).1 2 (Int32.toNatClampNeg 1) = nI (t 0 1) from hM'.2.1, sm_wide _ (by omega)]
      refine m_inN 0 (nI (t 0 1) - 1) rfl rfl (fun h3 => ?_) (bq_z rfl (m_tellN (i := 2) (by decide) (by decide) (by decide) (hno _ _ (Or.inr ⟨rfl, rfl⟩))))
      obtain ⟨s, hs, e⟩ := (sm_in (by omega) _).mp h3
      refine h2 ⟨s + 1, by omega, ?_⟩
      have := pn_sub (a := s + 1) (b := 1) (by omega)
      rw [Nat.add_sub_cancel] at this
      rw [e]
      exact this.symm
  · exact x_inN h ⟨rfl, bq_u rfl (x_refuse (i := 1) (by decide) (by decide) (m_inN (l := 0) (h0 := 4) 0 4 rfl rfl h (bq_u rfl (m_tellN (i := 1) (by decide) (by decide) (by decide) (hno _ _ (Or.inl ⟨rfl, rfl⟩))))))⟩
/-- end(n) -/
theorem o_end {w : sn_W} {SX SM : sn_S} {n : Nat} (hn : n ≤ 400) (hX : SX.1 0 5 = nI n) (hM : SM.1 0 8 = nI n) (a : Int32) {K : Int32 → sn_S → Int32 → sn_S → Prop}
    (hok : ∀ i : Nat, i ≤ n → K (nI i) (sn_pI SX 0 5 (nI i)) (nI i) (sn_pI (mT SM) 0 8 (nI i))) (hno : K (-1) SX (-1) (mT SM)) : wpX0_end w a SX (fun r S1 => wpX9_end a SM (fun r2 S2 => K r S1 r2 S2)) := by
  unfold wpX0_end wpX9_end
  have hM' : (sn_pI SM 0 0 0).1 0 8 = nI n := by rw [sI_get, if_neg (by omega)]; exact hM
  simp only [sn_lt]
  rw [hX]
  simp only [hM']
  by_cases h : a < 0
  · exact ⟨fun _ => ⟨fun _ => hno, fun h2 => absurd h h2⟩, fun h2 => absurd h h2⟩
  · obtain ⟨i, hi, rfl⟩ := pn_of h
    by_cases h2 : nI i ≤ nI n
    · have h3 : i ≤ n := (pn_leN hi (by omega)).mp h2
      exact bq_f h (bq_t h2 (bq_f h (bq_t h2 (hok i h3))))
    · exact bq_f h (bq_f h2 (bq_f h (bq_f h2 hno)))
theorem o_spilt {w : sn_W} {SX SM : sn_S} {K : Int32 → Int32 → sn_S → Prop} (h : K (SX.1 0 7) (SM.1 0 6) (mT SM)) : wpX0_spilt w SX (fun r => wpX9_spilt SM (fun r2 S2 => K r r2 S2)) := by
  unfold wpX0_spilt wpX9_spilt
  show K (SX.1 0 7) ((sn_pI SM 0 0 0).1 0 6) (sn_pI SM 0 0 0)
  rw [sI_get, if_neg (by omega)]
  exact h
theorem o_fault {w : sn_W} {SX SM : sn_S} {K : Int32 → Int32 → sn_S → Prop} (h : K (SX.1 0 6) (SM.1 0 13) (mT SM)) : wpX0_fault w SX (fun r => wpX9_fault SM (fun r2 S2 => K r r2 S2)) := by
  unfold wpX0_fault wpX9_fault
  show K (SX.1 0 6) ((sn_pI SM 0 0 0).1 0 13) (sn_pI SM 0 0 0)
  rw [sI_get, if_neg (by omega)]
  exact h
theorem o_status {w : sn_W} {SX SM : sn_S} {K : Int32 → Int32 → sn_S → Prop} (h : K (SX.1 0 0) (SM.1 0 1) (mT SM)) : wpX0_status w SX (fun r => wpX9_status SM (fun r2 S2 => K r r2 S2)) := by
  unfold wpX0_status wpX9_status
  show K (SX.1 0 0) ((sn_pI SM 0 0 0).1 0 1) (sn_pI SM 0 0 0)
  rw [sI_get, if_neg (by omega)]
  exact h
/-- terms(what, value) -/
theorem o_terms {w : sn_W} {SX SM : sn_S} {t : gT} (hg : tG t) (hX : RXt SX t) (hM : RMt SM t) (a v : Int32) {K : Int32 → sn_S → Int32 → sn_S → Prop}
    (hok : ∀ i u : Nat, i < 2 → 1 ≤ u → u ≤ (if i = 0 then 6 else 20) → K (nI (t 7 i)) (xTold (sn_pI SX 7 i (nI u))) (nI (t 7 i)) (mTold (sn_pI (mT SM) 2 (5 + i) (nI u))))
    (hno : K (-1) (xRef SX (-1) 1) (-1) (mRef (mT SM) (-1) 1)) : wpX0_terms w a v SX (fun r S1 => wpX9_terms a v SM (fun r2 S2 => K r S1 r2 S2)) := by
  simp only [wpX0_terms, wpX9_terms, sn_lt]
  have hM' := RMt_mT hM
  have tell : ∀ Q : Int32 → sn_S → Prop, Q (-1) (mRef (mT SM) (-1) 1) → wpX9_tell (-1) (sn_pI SM 0 0 0) Q := fun Q h => m_tellN (i := 1) (by decide) (by decide) (by decide) h
  have chg : ∀ (i : Nat) (u : Int32) (Q : Int32 → sn_S → Prop), i < 2 → Q (nI (t 7 i)) (mTold (sn_pI (mT SM) 2 (5 + i) u)) → wpX9_change (5 + nI i) u (sn_pI SM 0 0 0) Q := by
    intro i u Q hi h
    refine m_changeI (S := mT SM) (base := 5) 5 rfl (by omega) ?_
    rw [hM'.2.2.2.2.2.2.2.2.1 i hi]
    exact h
  have rep : ∀ (i : Nat) (u : Int32) (Q : Int32 → sn_S → Prop), i < 2 → Q (nI (t 7 i)) (xTold (sn_pI SX 7 i u)) → wpX0_replaces w 7 2 (nI i) u SX Q := by
    intro i u Q hi h
    refine x_replaces hi (by decide) ?_
    rw [hX.2.2.2.2.2.2.2.2.1 i hi]
    exact h
  have hpos : ∀ (hi : Nat), hi < 2 ^ 31 → ∀ x : Int32, ¬ x < 1 → ¬ nI hi < x → ∃ u : Nat, 1 ≤ u ∧ u ≤ hi ∧ x = nI u := by
    intro hi hh x h1 h2
    have h3 : ¬ x < 0 := fun h => h1 (by rw [pn_lt] at h ⊢; have : (0 : Int32).toInt = 0 := rfl; have : (1 : Int32).toInt = 1 := rfl; omega)
    obtain ⟨u, hu, rfl⟩ := pn_in hh h3 h2
    rw [show (1 : Int32) = nI 1 from rfl, pn_ltN (by omega) (by omega)] at h1
    exact ⟨u, by omega, hu, rfl⟩
  have xr : ∀ Q : Int32 → sn_S → Prop, Q (-1) (xRef SX (-1) 1) → wpX0_refuse w (-1) SX Q := fun Q h => x_refuse (i := 1) (by decide) (by decide) h
  by_cases h0 : a = 0
  · subst h0
    by_cases hv : ¬ v < 1 ∧ ¬ 6 < v
    · obtain ⟨u, hu1, hu2, rfl⟩ := hpos 6 (by decide) v hv.1 hv.2
      refine x_inY (by decide) (sn_jn_by (fun _ => True) trivial (fun k _ => bq_n i1 (sn_jn_by (fun k2 => k2 6) (x_inY hv (bq_n i1 (rep 0 _ _ (by decide) ?_))) (fun k2 hk2 => bq_u rfl hk2))))
      exact sn_jn_by (fun k => k 1) (bq_n i1 (chg 0 _ _ (by decide) (hok 0 u (by decide) hu1 (by simpa using hu2)))) (fun k hk => bq_u rfl (m_inY (l := 1) (h0 := 6) 1 6 rfl rfl hv hk))
    · refine x_inY (by decide) (sn_jn_by (fun k => k) (xr _ ?_) (fun k hk => bq_n i1 (sn_jn_by (fun k2 => k2 6) (x_inN hv (bq_z rfl hk)) (fun k2 hk2 => bq_u rfl hk2))))
      exact sn_jn_by (fun k => k 0) (bq_z rfl (tell _ hno)) (fun k hk => bq_u rfl (m_inN (l := 1) (h0 := 6) 1 6 rfl rfl hv hk))
  · by_cases h1 : a = 1
    · subst h1
      by_cases hv : ¬ v < 1 ∧ ¬ 20 < v
      · obtain ⟨u, hu1, hu2, rfl⟩ := hpos 20 (by decide) v hv.1 hv.2
        refine x_inY (by decide) (sn_jn_by (fun _ => True) trivial (fun k _ => bq_n i1 (sn_jn_by (fun k2 => k2 20) (x_inY hv (bq_n i1 (rep 1 _ _ (by decide) ?_))) (fun k2 hk2 => bq_v h0 hk2))))
        exact sn_jn_by (fun k => k 1) (bq_n i1 (chg 1 _ _ (by decide) (hok 1 u (by decide) hu1 (by simpa using hu2)))) (fun k hk => bq_v h0 (sn_jn_by (fun _ => True) trivial (fun k8 _ => bq_u rfl (m_inY (l := 1) (h0 := 20) 1 20 rfl rfl hv (bq_n i1 hk)))))
      · refine x_inY (by decide) (sn_jn_by (fun k => k) (xr _ ?_) (fun k hk => bq_n i1 (sn_jn_by (fun k2 => k2 20) (x_inN hv (bq_z rfl hk)) (fun k2 hk2 => bq_v h0 hk2))))
        exact sn_jn_by (fun k => k 0) (bq_z rfl (tell _ hno)) (fun k hk => bq_v h0 (sn_jn_by (fun k8 => k8) hk (fun k8 hk8 => bq_u rfl (m_inN (l := 1) (h0 := 20) 1 20 rfl rfl hv (bq_z rfl hk8)))))
    · have hn : ¬ (¬ a < 0 ∧ ¬ 1 < a) := by
        intro h
        obtain ⟨i, hi, rfl⟩ := pn_in (hi := 1) (by decide) h.1 h.2
        rcases (show i = 0 ∨ i = 1 by omega) with rfl | rfl
        · exact h0 rfl
        · exact h1 rfl
      refine x_inN hn (sn_jn_by (fun k => k) (xr _ ?_) (fun k hk => bq_z rfl hk))
      exact sn_jn_by (fun k => k 0) (bq_z rfl (tell _ hno)) (fun k hk => bq_v h0 (sn_jn_by (fun k8 => k8) hk (fun k8 hk8 => bq_v h1 hk8)))
/-- a snail begins in the cell, or has its sill there: among the first k -/
def nd (t : gT) (k c : Nat) : Prop := ∃ s : Nat, s < k ∧ (t 4 (6 * s) = c ∨ t 4 (6 * s + 1) = c)
theorem nd_succ {t : gT} {k c : Nat} : nd t (k + 1) c ↔ nd t k c ∨ (t 4 (6 * k) = c ∨ t 4 (6 * k + 1) = c) := by
  constructor
  · rintro ⟨s, hs, h⟩
    by_cases he : s = k
    · subst he
      exact Or.inr h
    · exact Or.inl ⟨s, by omega, h⟩
  · rintro (⟨s, hs, h⟩ | h)
    · exact ⟨s, by omega, h⟩
    · exact ⟨k, by omega, h⟩
theorem tG_cell {t : gT} (hg : tG t) {s : Nat} (hs : s < t 0 0) : t 4 (6 * s) < 96 ∧ t 4 (6 * s + 1) < 96 := ⟨(hg.2.2.2.2.2.1 s hs).1, (hg.2.2.2.2.2.1 s hs).2.1⟩
theorem x_needed {w : sn_W} {S : sn_S} {t : gT} (hg : tG t) (hX : RXt S t) {c : Nat} (hc : c < 96) {Q : Int32 → Prop} (h1 : nd t (t 0 0) c → Q 1) (h0 : ¬ nd t (t 0 0) c → Q 0) : wpX0_isNeeded w (nI c) S Q := by
  unfold wpX0_isNeeded
  have h6 := hg.1
  refine sn_lp1_inv (fun i => ∃ k : Nat, k ≤ t 0 0 ∧ i = nI k ∧ ¬ nd t k c) (fun i => 6 - i.toNatClampNeg) ?_ 0 ⟨0, Nat.zero_le _, rfl, fun ⟨s, hs, _⟩ => absurd hs (Nat.not_lt_zero _)⟩
  rintro rc i ⟨k, hk, rfl, hno⟩ hrc
  rw [hX.1]
  by_cases hke : k = t 0 0
  · subst hke
    exact bq_t ((pn_leN (by omega) (by omega)).mpr (Nat.le_refl _)) (h0 hno)
  · have hlt : k < t 0 0 := by omega
    obtain ⟨g1, g2⟩ := tG_cell hg hlt
    refine bq_f (fun h => by have := (pn_leN (by omega) (by omega)).mp h; omega) ?_
    refine x_of0 (s := k) (f := 0) hX (by omega) ?_
    rw [Nat.add_zero]
    refine ⟨fun h => h1 ⟨k, hlt, Or.inl ((pn_eqN (by omega) (by omega)).mp h)⟩, fun hn => ?_⟩
    refine x_of0 (s := k) (f := 1) hX (by omega) ?_
    refine ⟨fun hn2 => ?_, fun h => h1 ⟨k, hlt, Or.inr ((pn_eqN (by omega) (by omega)).mp h)⟩⟩
    have e : nI k + 1 = nI (k + 1) := pn_add k 1
    rw [e]
    refine hrc _ ⟨k + 1, by omega, rfl, ?_⟩ ?_
    · rw [nd_succ]
      rintro (h | h | h)
      · exact hno h
      · exact hn ((pn_eqN (by omega) (by omega)).mpr h)
      · exact hn2 ((pn_eqN (by omega) (by omega)).mpr h)
    · rw [pn_nat (by omega), pn_nat (by omega)]
      omega
theorem m_needed {S : sn_S} {t : gT} (hg : tG t) (hM : RMt S t) {c : Nat} (hc : c < 96) {Q : Int32 → Prop} (h1 : nd t (t 0 0) c → Q 1) (h0 : ¬ nd t (t 0 0) c → Q 0) : wpX9_isOfSnails (nI c) S Q := by
  unfold wpX9_isOfSnails
  have h6 := hg.1
  refine sn_lp2_inv (fun z i => ∃ k : Nat, k ≤ t 0 0 ∧ i = nI k ∧ ((z = 1 ∧ nd t k c) ∨ (z = 0 ∧ ¬ nd t k c))) (fun _ i => 6 - i.toNatClampNeg) ?_ 0 0 ⟨0, Nat.zero_le _, rfl, Or.inr ⟨rfl, fun ⟨s, hs, _⟩ => absurd hs (Nat.not_lt_zero _)⟩⟩
  rintro rc z i ⟨k, hk, rfl, hz⟩ hrc
  rw [z0, hM.1]
  refine ⟨v0, ?_⟩
  by_cases hke : k = t 0 0
  · subst hke
    refine bq_t ((pn_leN (by omega) (by omega)).mpr (Nat.le_refl _)) ?_
    rcases hz with ⟨rfl, h⟩ | ⟨rfl, h⟩
    · exact ⟨rfl, h1 h⟩
    · exact ⟨rfl, h0 h⟩
  · have hlt : k < t 0 0 := by omega
    obtain ⟨g1, g2⟩ := tG_cell hg hlt
    refine bq_f (fun h => by have := (pn_leN (by omega) (by omega)).mp h; omega) ?_
    have e : nI k + 1 = nI (k + 1) := pn_add k 1
    have go : ∀ z : Int32, ((z = 1 ∧ nd t (k + 1) c) ∨ (z = 0 ∧ ¬ nd t (k + 1) c)) → rc z (nI k + 1) := by
      intro z hz
      rw [e]
      refine hrc _ _ ⟨k + 1, by omega, rfl, hz⟩ ?_
      rw [pn_nat (by omega), pn_nat (by omega)]
      omega
    refine sn_jn_by (fun k5 => (nd t (k + 1) c → k5 1) ∧ (¬ nd t (k + 1) c → k5 0)) ⟨fun h => go 1 (Or.inl ⟨rfl, h⟩), fun h => go 0 (Or.inr ⟨rfl, h⟩)⟩ (fun k5 hk5 => ?_)
    refine sn_jn_by (fun k6 => nd t (k + 1) c → k6) (fun h => hk5.1 h) (fun k6 hk6 => ?_)
    rcases hz with ⟨rfl, h⟩ | ⟨rfl, h⟩
    · exact bq_v i1 (hk6 (nd_succ.mpr (Or.inl h)))
    · refine bq_u rfl ?_
      refine m_ofSnail (s := k) (f := 0) hM (by omega) ?_
      rw [Nat.add_zero]
      refine ⟨fun h2 => hk6 (nd_succ.mpr (Or.inr (Or.inl ((pn_eqN (by omega) (by omega)).mp h2)))), fun hn => ?_⟩
      refine m_ofSnail (s := k) (f := 1) hM (by omega) ?_
      refine ⟨fun hn2 => hk5.2 ?_, fun h2 => hk6 (nd_succ.mpr (Or.inr (Or.inr ((pn_eqN (by omega) (by omega)).mp h2))))⟩
      rw [nd_succ]
      rintro (h3 | h3 | h3)
      · exact h h3
      · exact hn ((pn_eqN (by omega) (by omega)).mpr h3)
      · exact hn2 ((pn_eqN (by omega) (by omega)).mpr h3)
theorem nar_b (u : Nat) (h : u ≤ 1) : vp_nar .boolean (nI u) = nI u := by
  rcases (show u = 0 ∨ u = 1 by omega) with rfl | rfl <;> rfl
/-- salt(cell, is) -/
theorem o_salt {w : sn_W} {SX SM : sn_S} {t : gT} (hg : tG t) (hX : RXt SX t) (hM : RMt SM t) (a v : Int32) {K : Int32 → sn_S → Int32 → sn_S → Prop}
    (hok : ∀ i u : Nat, i < 96 → u ≤ 1 → (u = 1 → ¬ nd t (t 0 0) i) → K (nI (t 9 i)) (xTold (sn_pI SX 9 i (nI u))) (nI (t 9 i)) (mTold (sn_pI (mT SM) 2 (176 + i) (nI u))))
    (hno : ∀ c i, (c = -1 ∧ i = 1) ∨ (c = -3 ∧ i = 3) → K c (xRef SX c i) c (mRef (mT SM) c i)) : wpX0_salt w a v SX (fun r S1 => wpX9_salt a v SM (fun r2 S2 => K r S1 r2 S2)) := by
  simp only [wpX0_salt, wpX9_salt, sn_lt]
  have hM' := RMt_mT hM
  have xr : ∀ (c : Int32) (i : Nat) (Q : Int32 → sn_S → Prop), -c = nI i → i < 7 → Q c (xRef SX c i) → wpX0_refuse w c SX Q := fun c i Q h1 h2 h => x_refuse h1 h2 h
  have tell1 : ∀ Q : Int32 → sn_S → Prop, Q (-1) (mRef (mT SM) (-1) 1) → wpX9_tell (-1) (sn_pI SM 0 0 0) Q := fun Q h => m_tellN (i := 1) (by decide) (by decide) (by decide) h
  have tell3 : ∀ Q : Int32 → sn_S → Prop, Q (-3) (mRef (mT SM) (-3) 3) → wpX9_tell (-3) (sn_pI SM 0 0 0) Q := fun Q h => m_tellN (i := 3) (by decide) (by decide) (by decide) h
  by_cases h : ¬ a < 0 ∧ ¬ 95 < a
  · by_cases h2 : ¬ v < 0 ∧ ¬ 1 < v
    · obtain ⟨i, hi, rfl⟩ := pn_in (hi := 95) (by decide) h.1 h.2
      obtain ⟨u, hu, rfl⟩ := pn_in (hi := 1) (by decide) h2.1 h2.2
      have e9 := hX.2.2.2.2.2.2.2.2.2.2 i (by omega)
      have g9 := hg.2.2.2.2.2.2.2.2.2.2 i (by omega)
      have f9 := hM'.2.2.2.2.2.2.2.2.2.2 i (by omega)
      have u1 : nI u = 1 ↔ u = 1 := pn_eqN (j := 1) (by omega) (by decide)
      have vp : vp_in (nI i) 96 := pn_vp (by omega) (by decide)
      -- the model's side where the cell is told
      have mok : (u = 1 → ¬ nd t (t 0 0) i) → wpX9_isCell (nI i) (fun r2 => sn_jn (κ := Prop) (wpX9_tell (-1) (sn_pI SM 0 0 0) (fun r4 S5 => K (nI (t 9 i)) (xTold (sn_pI SX 9 i (nI u))) r4 S5)) (fun k3 => ((r2 = 0 → k3) ∧ (¬ r2 = 0 → wpX9_in (Int32.toInt64 (nI u)) 0 1 (fun r6 => ((¬ r6 = 0 → sn_jn (κ := Prop) (wpX9_change (176 + nI i) (nI u) (sn_pI SM 0 0 0) (fun r8 S9 => K (nI (t 9 i)) (xTold (sn_pI SX 9 i (nI u))) r8 S9)) (fun k7 => ((¬ nI u = 1 → k7) ∧ (nI u = 1 → wpX9_isOfSnails (nI i) (sn_pI SM 0 0 0) (fun r10 => ((r10 = 0 → k7) ∧ (¬ r10 = 0 → wpX9_tell (-3) (sn_pI SM 0 0 0) (fun r11 S12 => K (nI (t 9 i)) (xTold (sn_pI SX 9 i (nI u))) r11 S12)))))))) ∧ (r6 = 0 → k3))))))) := by
        intro hnd
        refine m_cellY h (sn_jn_by (fun _ => True) trivial (fun k3 _ => bq_n i1 (m_inY (l := 0) (h0 := 1) 0 1 rfl rfl h2 (bq_v i1 ?_))))
        refine sn_jn_by (fun k => k) (m_changeI (S := mT SM) (base := 176) 176 rfl (by omega) ?_) (fun k7 hk7 => ⟨fun _ => hk7, fun hu1 => ?_⟩)
        · rw [f9]
          exact hok i u (by omega) hu hnd
        · exact m_needed hg hM' (by omega) (fun hy => absurd hy (hnd (u1.mp hu1))) (fun _ => bq_z rfl hk7)
      refine x_cellY h (sn_jn_by (fun _ => True) trivial (fun k11 _ => bq_n i1 (x_inY h2 (bq_v i1 ?_))))
      refine sn_jn_by (fun k => (u = 1 → ¬ nd t (t 0 0) i) → k) (fun hnd => ⟨vp, ?_⟩) (fun k15 hk15 => ⟨fun hu1 => hk15 (fun e => absurd (u1.mpr e) hu1), fun hu1 => ?_⟩)
      · rw [pn_nat (by omega), e9]
        refine sn_jn_by (fun k17 => k17 (nI (t 9 i))) ?_ (fun k17 hk17 => ?_)
        · refine sn_jn_by (fun k19 => k19 (nI u)) ⟨vp, ?_⟩ (fun k19 hk19 => ?_)
          · rw [nar_b u hu]
            exact x_told (w := w) (mok hnd)
          · rcases (show u = 0 ∨ u = 1 by omega) with rfl | rfl
            · exact ⟨fun _ => hk19, fun hc => absurd hc (by decide)⟩
            · exact ⟨fun hc => absurd rfl hc, fun _ => hk19⟩
        · rcases (show t 9 i = 0 ∨ t 9 i = 1 by omega) with e | e
          · rw [e] at hk17 ⊢
            exact bq_z rfl hk17
          · rw [e] at hk17 ⊢
            exact bq_n i1 hk17
      · refine x_needed hg hX (by omega) (fun hy => bq_n i1 (xr (-3) 3 _ (by decide) (by decide) ?_)) (fun hn => bq_z rfl (hk15 (fun _ => hn)))
        refine m_cellY h (sn_jn_by (fun _ => True) trivial (fun k3 _ => bq_n i1 (m_inY (l := 0) (h0 := 1) 0 1 rfl rfl h2 (bq_v i1 ?_))))
        exact sn_jn_by (fun k => True) trivial (fun k7 _ => bq_u hu1 (m_needed hg hM' (by omega) (fun _ => bq_n i1 (tell3 _ (hno _ _ (Or.inr ⟨rfl, rfl⟩)))) (fun hn => absurd hy hn)))
    · refine x_cellY h (sn_jn_by (fun k => k) (xr (-1) 1 _ (by decide) (by decide) ?_) (fun k hk => bq_n i1 (x_inN h2 (bq_u rfl hk))))
      exact m_cellY h (sn_jn_by (fun k => k) (tell1 _ (hno _ _ (Or.inl ⟨rfl, rfl⟩))) (fun k hk => bq_n i1 (m_inN (l := 0) (h0 := 1) 0 1 rfl rfl h2 (bq_u rfl hk))))
  · refine x_cellN h (sn_jn_by (fun k => k) (xr (-1) 1 _ (by decide) (by decide) ?_) (fun k hk => bq_z rfl hk))
    exact m_cellN h (sn_jn_by (fun k => k) (tell1 _ (hno _ _ (Or.inl ⟨rfl, rfl⟩))) (fun k hk => bq_z rfl hk))
/-- which facts a value may be: x's and the model's test -/
def okF (f u : Nat) : Prop := (f ≤ 1 ∧ u ≤ 95) ∨ (f = 2 ∧ 1 ≤ u ∧ u ≤ 12) ∨ (f = 3 ∧ u ≤ 4) ∨ (f = 4 ∧ u ≤ 100) ∨ (f = 5 ∧ 1 ≤ u ∧ u ≤ 63)
theorem sw_6 {x : Int32} {A0 A1 A2 A3 A4 A5 D : Prop} (h0 : x = nI 0 → A0) (h1 : x = nI 1 → A1) (h2 : x = nI 2 → A2) (h3 : x = nI 3 → A3) (h4 : x = nI 4 → A4) (h5 : x = nI 5 → A5) (hD : (∀ f, f ≤ 5 → x ≠ nI f) → D) : sn_sw x 0 [A0, A1, A2, A3, A4, A5] D := by
  have e : ∀ f : Nat, f ≤ 5 → (x.toInt = (f : Int) ↔ x = nI f) := fun f hf => by rw [pn_eq, pn_int (by omega)]
  refine ⟨fun h => h0 ((e 0 (by omega)).mp h), fun n0 => ⟨fun h => h1 ((e 1 (by omega)).mp (by simpa using h)), fun n1 => ⟨fun h => h2 ((e 2 (by omega)).mp (by simpa using h)), fun n2 => ⟨fun h => h3 ((e 3 (by omega)).mp (by simpa using h)), fun n3 => ⟨fun h => h4 ((e 4 (by omega)).mp (by simpa using h)), fun n4 => ⟨fun h => h5 ((e 5 (by omega)).mp (by simpa using h)), fun n5 => hD (fun f hf hx => ?_)⟩⟩⟩⟩⟩⟩
  have hx := (e f hf).mpr hx
  rcases (show f = 0 ∨ f = 1 ∨ f = 2 ∨ f = 3 ∨ f = 4 ∨ f = 5 by omega) with rfl | rfl | rfl | rfl | rfl | rfl
  · exact n0 hx
  · exact n1 (by simpa using hx)
  · exact n2 (by simpa using hx)
  · exact n3 (by simpa using hx)
  · exact n4 (by simpa using hx)
  · exact n5 (by simpa using hx)
theorem bI_rng {lo hi : Nat} (hh : hi < 2 ^ 31) (hl : lo < 2 ^ 31) {v : Int32} : (¬ v < nI lo ∧ ¬ nI hi < v) ↔ ∃ u : Nat, lo ≤ u ∧ u ≤ hi ∧ v = nI u := by
  constructor
  · rintro ⟨h1, h2⟩
    have h3 : ¬ v < 0 := fun h => h1 (by rw [pn_lt, pn_int hl]; rw [pn_lt] at h; have : (0 : Int32).toInt = 0 := rfl; omega)
    obtain ⟨u, hu, rfl⟩ := pn_in hh h3 h2
    rw [pn_ltN (by omega) hl] at h1
    exact ⟨u, by omega, hu, rfl⟩
  · rintro ⟨u, h1, h2, rfl⟩
    rw [pn_ltN (by omega) hl, pn_ltN hh (by omega)]
    omega
theorem okF_in {a v : Int32} {f lo hi : Nat} (hh : hi < 2 ^ 31) (hl : lo < 2 ^ 31) (ha : a = nI f) (hf : f ≤ 5) (hok : ∀ u, okF f u ↔ lo ≤ u ∧ u ≤ hi) : (¬ v < nI lo ∧ ¬ nI hi < v) ↔ ∃ f u : Nat, okF f u ∧ a = nI f ∧ v = nI u := by
  rw [bI_rng hh hl]
  constructor
  · rintro ⟨u, h1, h2, h3⟩
    exact ⟨f, u, (hok u).mpr ⟨h1, h2⟩, ha, h3⟩
  · rintro ⟨g, u, h1, h2, h3⟩
    have hg : g ≤ 5 := by unfold okF at h1; omega
    have : g = f := (pn_eqN (by omega) (by omega)).mp (h2.symm.trans ha)
    subst this
    exact ⟨u, ((hok u).mp h1).1, ((hok u).mp h1).2, h3⟩
theorem x_fact {w : sn_W} {a v : Int32} {Q : Int32 → Prop} (h1 : (∃ f u : Nat, okF f u ∧ a = nI f ∧ v = nI u) → Q 1) (h0 : ¬ (∃ f u : Nat, okF f u ∧ a = nI f ∧ v = nI u) → Q 0) : wpX0_isFact w a v Q := by
  unfold wpX0_isFact
  have go : ∀ (lo hi f : Nat), hi < 2 ^ 31 → lo < 2 ^ 31 → a = nI f → f ≤ 5 → (∀ u, okF f u ↔ lo ≤ u ∧ u ≤ hi) → wpX0_in w v (nI lo) (nI hi) (fun r => narrow .boolean (.int r) = .int r ∧ Q r) := by
    intro lo hi f hh hl ha hf hok
    by_cases h : ¬ v < nI lo ∧ ¬ nI hi < v
    · exact x_inY h ⟨rfl, h1 ((okF_in hh hl ha hf hok).mp h)⟩
    · exact x_inN h ⟨rfl, h0 (fun e => h ((okF_in hh hl ha hf hok).mpr e))⟩
  refine sn_jn_by (fun k => (a = nI 0 ∨ a = nI 1) → k) (fun ha => ?_) (fun k hk => ?_)
  · have hc : (¬ v < 0 ∧ ¬ 95 < v) ↔ ∃ f u : Nat, okF f u ∧ a = nI f ∧ v = nI u := by
      rcases ha with ha | ha
      · exact okF_in (lo := 0) (hi := 95) (by decide) (by decide) ha (by decide) (fun u => by unfold okF; omega)
      · exact okF_in (lo := 0) (hi := 95) (by decide) (by decide) ha (by decide) (fun u => by unfold okF; omega)
    by_cases h : ¬ v < 0 ∧ ¬ 95 < v
    · exact x_cellY h ⟨rfl, h1 (hc.mp h)⟩
    · exact x_cellN h ⟨rfl, h0 (fun e => h (hc.mpr e))⟩
  · refine sw_6 (fun e => hk (Or.inl e)) (fun e => hk (Or.inr e)) (fun e => go 1 12 2 (by decide) (by decide) e (by decide) (fun u => by unfold okF; omega)) (fun e => go 0 4 3 (by decide) (by decide) e (by decide) (fun u => by unfold okF; omega)) (fun e => go 0 100 4 (by decide) (by decide) e (by decide) (fun u => by unfold okF; omega)) (fun e => go 1 63 5 (by decide) (by decide) e (by decide) (fun u => by unfold okF; omega)) (fun hn => h0 ?_)
    rintro ⟨f, u, h, e, -⟩
    exact hn f (by unfold okF at h; omega) e
theorem m_fits {a v : Int32} {Q : Int32 → Prop} (h1 : (∃ f u : Nat, okF f u ∧ a = nI f ∧ v = nI u) → Q 1) (h0 : ¬ (∃ f u : Nat, okF f u ∧ a = nI f ∧ v = nI u) → Q 0) : wpX9_fits a v Q := by
  unfold wpX9_fits
  have go : ∀ (lo hi f : Nat) (l h2 : Int64), (nI lo).toInt64 = l → (nI hi).toInt64 = h2 → hi < 2 ^ 31 → lo < 2 ^ 31 → a = nI f → f ≤ 5 → (∀ u, okF f u ↔ lo ≤ u ∧ u ≤ hi) → wpX9_in v.toInt64 l h2 (fun r => narrow .boolean (.int r) = .int r ∧ Q r) := by
    intro lo hi f l h2 e1 e2 hh hl ha hf hok
    by_cases h : ¬ v < nI lo ∧ ¬ nI hi < v
    · exact m_inY (nI lo) (nI hi) e1 e2 h ⟨rfl, h1 ((okF_in hh hl ha hf hok).mp h)⟩
    · exact m_inN (nI lo) (nI hi) e1 e2 h ⟨rfl, h0 (fun e => h ((okF_in hh hl ha hf hok).mpr e))⟩
  have gc : (a = nI 0 ∨ a = nI 1) → wpX9_isCell v (fun r => narrow .boolean (.int r) = .int r ∧ Q r) := by
    intro ha
    have hc : (¬ v < 0 ∧ ¬ 95 < v) ↔ ∃ f u : Nat, okF f u ∧ a = nI f ∧ v = nI u := by
      rcases ha with ha | ha
      · exact okF_in (lo := 0) (hi := 95) (by decide) (by decide) ha (by decide) (fun u => by unfold okF; omega)
      · exact okF_in (lo := 0) (hi := 95) (by decide) (by decide) ha (by decide) (fun u => by unfold okF; omega)
    by_cases h : ¬ v < 0 ∧ ¬ 95 < v
    · exact m_cellY h ⟨rfl, h1 (hc.mp h)⟩
    · exact m_cellN h ⟨rfl, h0 (fun e => h (hc.mpr e))⟩
  refine sw_6 (fun e => gc (Or.inl e)) (fun e => gc (Or.inr e)) (fun e => go 1 12 2 _ _ rfl rfl (by decide) (by decide) e (by decide) (fun u => by unfold okF; omega)) (fun e => go 0 4 3 _ _ rfl rfl (by decide) (by decide) e (by decide) (fun u => by unfold okF; omega)) (fun e => go 0 100 4 _ _ rfl rfl (by decide) (by decide) e (by decide) (fun u => by unfold okF; omega)) (fun e => go 1 63 5 _ _ rfl rfl (by decide) (by decide) e (by decide) (fun u => by unfold okF; omega)) (fun hn => h0 ?_)
  rintro ⟨f, u, h, e, -⟩
  exact hn f (by unfold okF at h; omega) e
/-- put(snail, what, value) -/
theorem o_put {w : sn_W} {SX SM : sn_S} {t : gT} (hg : tG t) (hX : RXt SX t) (hM : RMt SM t) (a b v : Int32) {K : Int32 → sn_S → Int32 → sn_S → Prop}
    (hok : ∀ s f u : Nat, s < t 0 0 → f ≤ 5 → okF f u → (f ≤ 1 → t 9 u = 0) → K (nI (t 4 (6 * s + f))) (xTold (sn_pI SX 4 (6 * s + f) (nI u))) (nI (t 4 (6 * s + f))) (mTold (sn_pI (mT SM) 2 (16 + (6 * s + f)) (nI u))))
    (hno : ∀ c i, (c = -1 ∧ i = 1) ∨ (c = -2 ∧ i = 2) ∨ (c = -3 ∧ i = 3) → K c (xRef SX c i) c (mRef (mT SM) c i)) : wpX0_put w a b v SX (fun r S1 => wpX9_put a b v SM (fun r2 S2 => K r S1 r2 S2)) := by
  simp only [wpX0_put, wpX9_put, sn_lt]
  have hM' := RMt_mT hM
  have h6 := hg.1
  have xr : ∀ (c : Int32) (i : Nat) (Q : Int32 → sn_S → Prop), -c = nI i → i < 7 → Q c (xRef SX c i) → wpX0_refuse w c SX Q := fun c i Q h1 h2 h => x_refuse h1 h2 h
  have tl : ∀ (c : Int32) (i : Nat) (Q : Int32 → sn_S → Prop), ¬ 0 ≤ c → -c = nI i → i < 7 → Q c (mRef (mT SM) c i) → wpX9_tell c (sn_pI SM 0 0 0) Q := fun c i Q h0 h1 h2 h => m_tellN (S := mT SM) h0 h1 h2 h
  refine x_fact (fun hf => bq_v i1 ?_) (fun hf => bq_u rfl (xr (-1) 1 _ (by decide) (by decide) ?_))
  · by_cases hs : ∃ s : Nat, s < t 0 0 ∧ a = nI s
    · obtain ⟨s, hs1, rfl⟩ := hs
      refine x_snailY hX.1 h6 hs1 (bq_v i1 ?_)
      obtain ⟨f, u, hfu, rfl, rfl⟩ := hf
      have hf5 : f ≤ 5 := by unfold okF at hfu; omega
      have hu : u ≤ 100 := by unfold okF at hfu; omega
      have ex : (6 : Int32) * nI s + nI f = nI (6 * s + f) := by rw [show (6 : Int32) = nI 6 from rfl, pn_mul, pn_add]
      have em : (16 : Int32) + 6 * nI s + nI f = nI (16 + (6 * s + f)) := by rw [show (6 : Int32) = nI 6 from rfl, show (16 : Int32) = nI 16 from rfl, pn_mul, pn_add, pn_add, Nat.add_assoc]
      have l1 : (1 : Int32) < nI f ↔ 1 < f := pn_ltN (i := 1) (by decide) (by omega)
      have l2 : (2 : Int32) ≤ nI f ↔ 2 ≤ f := pn_leN (i := 2) (by decide) (by omega)
      -- the model, where the fact is told
      have mok : (f ≤ 1 → t 9 u = 0) → wpX9_fits (nI f) (nI u) (fun r2 => ((¬ r2 = 0 → wpX9_isSnail (nI s) (sn_pI SM 0 0 0) (fun r3 => ((¬ r3 = 0 → sn_jn (κ := Prop) (wpX9_change ((16 + 6 * nI s) + nI f) (nI u) (sn_pI SM 0 0 0) (fun r5 S6 => K (nI (t 4 (6 * s + f))) (xTold (sn_pI SX 4 (6 * s + f) (nI u))) r5 S6)) (fun k4 => ((2 ≤ nI f → k4) ∧ (¬ 2 ≤ nI f → (vp_in (176 + nI u) 5680 ∧ ((¬ (sn_pI SM 0 0 0).1 2 ((176 + nI u)).toNatClampNeg = 1 → k4) ∧ ((sn_pI SM 0 0 0).1 2 ((176 + nI u)).toNatClampNeg = 1 → wpX9_tell (-3) (sn_pI SM 0 0 0) (fun r7 S8 => K (nI (t 4 (6 * s + f))) (xTold (sn_pI SX 4 (6 * s + f) (nI u))) r7 S8))))))) ) ∧ (r3 = 0 → wpX9_tell (-2) (sn_pI SM 0 0 0) (fun r9 S10 => K (nI (t 4 (6 * s + f))) (xTold (sn_pI SX 4 (6 * s + f) (nI u))) r9 S10))))) ∧ (r2 = 0 → wpX9_tell (-1) (sn_pI SM 0 0 0) (fun r11 S12 => K (nI (t 4 (6 * s + f))) (xTold (sn_pI SX 4 (6 * s + f) (nI u))) r11 S12)))) := by
        intro h9
        refine m_fits (fun _ => bq_v i1 (m_snailY hM'.1 h6 hs1 (bq_v i1 ?_))) (fun hn => absurd ⟨f, u, hfu, rfl, rfl⟩ hn)
        refine sn_jn_by (fun k => k) ?_ (fun k hk => ⟨fun _ => hk, fun hlt => ?_⟩)
        · rw [em]
          refine m_change (S := mT SM) (by omega) ?_
          rw [hM'.2.2.2.2.2.1 _ (by omega)]
          exact hok s f u hs1 hf5 hfu h9
        · rw [l2] at hlt
          have hu2 : u < 96 := by unfold okF at hfu; omega
          have e : (176 : Int32) + nI u = nI (176 + u) := pn_add 176 u
          rw [e, pn_nat (by omega)]
          have f9 : (sn_pI SM 0 0 0).1 2 (176 + u) = nI (t 9 u) := hM'.2.2.2.2.2.2.2.2.2.2 u hu2
          rw [f9, h9 (by omega)]
          exact ⟨pn_vp (by omega) (by decide), bq_v (by decide) hk⟩
      refine sn_jn_by (fun k => (f ≤ 1 → t 9 u = 0) → k) (fun h9 => ?_) (fun k hk => ⟨fun hlt => hk (fun h => absurd (l1.mp hlt) (by omega)), fun hlt => ?_⟩)
      · rw [ex]
        refine x_replaces (by omega) (by decide) ?_
        rw [hX.2.2.2.2.2.1 _ (by omega)]
        exact mok h9
      · rw [l1] at hlt
        have hu2 : u < 96 := by unfold okF at hfu; omega
        have e9 := hX.2.2.2.2.2.2.2.2.2.2 u hu2
        have g9 := hg.2.2.2.2.2.2.2.2.2.2 u hu2
        refine ⟨pn_vp (by omega) (by decide), ?_⟩
        rw [pn_nat (by omega), e9]
        rcases (show t 9 u = 0 ∨ t 9 u = 1 by omega) with e | e
        · rw [e]
          exact bq_z rfl (hk (fun _ => e))
        · rw [e]
          refine bq_n i1 (xr (-3) 3 _ (by decide) (by decide) ?_)
          refine m_fits (fun _ => bq_v i1 (m_snailY hM'.1 h6 hs1 (bq_v i1 ?_))) (fun hn => absurd ⟨f, u, hfu, rfl, rfl⟩ hn)
          refine sn_jn_by (fun k => True) trivial (fun k _ => bq_f (fun h => absurd (l2.mp h) (by omega)) ?_)
          have ee : (176 : Int32) + nI u = nI (176 + u) := pn_add 176 u
          rw [ee, pn_nat (by omega)]
          have f9 : (sn_pI SM 0 0 0).1 2 (176 + u) = nI (t 9 u) := hM'.2.2.2.2.2.2.2.2.2.2 u hu2
          rw [f9, e]
          exact ⟨pn_vp (by omega) (by decide), bq_u rfl (tl (-3) 3 _ (by decide) (by decide) (by decide) (hno _ _ (Or.inr (Or.inr ⟨rfl, rfl⟩))))⟩
    · refine x_snailN hX.1 h6 hs (bq_u rfl (xr (-2) 2 _ (by decide) (by decide) ?_))
      exact m_fits (fun _ => bq_v i1 (m_snailN hM'.1 h6 hs (bq_u rfl (tl (-2) 2 _ (by decide) (by decide) (by decide) (hno _ _ (Or.inr (Or.inl ⟨rfl, rfl⟩))))))) (fun hn => absurd hf hn)
  · exact m_fits (fun h => absurd h hf) (fun _ => bq_u rfl (tl (-1) 1 _ (by decide) (by decide) (by decide) (hno _ _ (Or.inl ⟨rfl, rfl⟩))))
/-- six facts laid -/
def laid (S : sn_S) (key base : Nat) (a b c d : Nat) : sn_S := sn_pI (sn_pI (sn_pI (sn_pI (sn_pI (sn_pI S key (base + 0) (nI a)) key (base + 1) (nI b)) key (base + 2) (nI c)) key (base + 3) (nI d)) key (base + 4) 0) key (base + 5) 1
/-- snail(cell, sill, pace, kind) -/
theorem o_snail {w : sn_W} {SX SM : sn_S} {t : gT} (hg : tG t) (hX : RXt SX t) (hM : RMt SM t) (a b c d : Int32) {K : Int32 → sn_S → Int32 → sn_S → Prop}
    (hok : ∀ i j p k : Nat, i < 96 → j < 96 → 1 ≤ p → p ≤ 12 → k ≤ 4 → t 9 i = 0 → t 9 j = 0 → t 0 0 < 6 → K (nI (t 0 0)) (xTold (sn_pI (laid SX 4 (6 * t 0 0) i j p k) 2 8 (nI (t 0 0 + 1)))) (nI (t 0 0)) (mTold (sn_pI (laid (mT SM) 2 (16 + 6 * t 0 0) i j p k) 2 0 (nI (t 0 0 + 1)))))
    (hno : ∀ c i, (c = -1 ∧ i = 1) ∨ (c = -3 ∧ i = 3) ∨ (c = -5 ∧ i = 5) → K c (xRef SX c i) c (mRef (mT SM) c i)) : wpX0_snail w a b c d SX (fun r S1 => wpX9_snail a b c d SM (fun r2 S2 => K r S1 r2 S2)) := by
  simp only [wpX0_snail, wpX9_snail, sn_lt]
  have hM' := RMt_mT hM
  have h6 := hg.1
  have xr : ∀ (c : Int32) (i : Nat) (Q : Int32 → sn_S → Prop), -c = nI i → i < 7 → Q c (xRef SX c i) → wpX0_refuse w c SX Q := fun c i Q h1 h2 h => x_refuse h1 h2 h
  have tl : ∀ (c : Int32) (i : Nat) (Q : Int32 → sn_S → Prop), ¬ 0 ≤ c → -c = nI i → i < 7 → Q c (mRef (mT SM) c i) → wpX9_tell c (sn_pI SM 0 0 0) Q := fun c i Q h0 h1 h2 h => m_tellN (S := mT SM) h0 h1 h2 h
  -- the model refuses where one of the four is out of its range
  have mbad : ¬ ((¬ a < 0 ∧ ¬ 95 < a) ∧ (¬ b < 0 ∧ ¬ 95 < b) ∧ (¬ c < 1 ∧ ¬ 12 < c) ∧ (¬ d < 0 ∧ ¬ 4 < d)) → wpX9_snail a b c d SM (fun r2 S2 => K (-1) (xRef SX (-1) 1) r2 S2) := by
    intro hb
    simp only [wpX9_snail, sn_lt]
    by_cases h1 : ¬ a < 0 ∧ ¬ 95 < a
    · refine m_cellY h1 (sn_jn_by (fun k => k) (tl (-1) 1 _ (by decide) (by decide) (by decide) (hno _ _ (Or.inl ⟨rfl, rfl⟩))) (fun k hk => bq_n i1 ?_))
      by_cases h2 : ¬ b < 0 ∧ ¬ 95 < b
      · refine m_cellY h2 (bq_n i1 ?_)
        by_cases h3 : ¬ c < 1 ∧ ¬ 12 < c
        · refine m_inY (l := 1) (h0 := 12) 1 12 rfl rfl h3 (bq_n i1 ?_)
          exact m_inN (l := 0) (h0 := 4) 0 4 rfl rfl (fun h4 => hb ⟨h1, h2, h3, h4⟩) (bq_u rfl hk)
        · exact m_inN (l := 1) (h0 := 12) 1 12 rfl rfl h3 (bq_z rfl hk)
      · exact m_cellN h2 (bq_z rfl hk)
    · exact m_cellN h1 (sn_jn_by (fun k => k) (tl (-1) 1 _ (by decide) (by decide) (by decide) (hno _ _ (Or.inl ⟨rfl, rfl⟩))) (fun k hk => bq_z rfl hk))
  have xf : ∀ (f : Nat) (v : Int32) (Q : Int32 → Prop), f ≤ 5 → ((∃ u : Nat, okF f u ∧ v = nI u) → Q 1) → ((¬ ∃ u : Nat, okF f u ∧ v = nI u) → Q 0) → wpX0_isFact w (nI f) v Q := by
    intro f v Q hf h1 h0
    refine x_fact (fun ⟨g, u, h, e, e2⟩ => ?_) (fun hn => h0 (fun ⟨u, h, e⟩ => hn ⟨f, u, h, rfl, e⟩))
    have hg5 : g ≤ 5 := by unfold okF at h; omega
    have : f = g := (pn_eqN (by omega) (by omega)).mp e
    subst this
    exact h1 ⟨u, h, e2⟩
  have rc : ∀ v : Int32, (¬ v < 0 ∧ ¬ 95 < v) ↔ ∃ u : Nat, u ≤ 95 ∧ v = nI u := fun v => by
    rw [show (0 : Int32) = nI 0 from rfl, show (95 : Int32) = nI 95 from rfl, bI_rng (by decide) (by decide)]
    exact ⟨fun ⟨u, _, h, e⟩ => ⟨u, h, e⟩, fun ⟨u, h, e⟩ => ⟨u, Nat.zero_le _, h, e⟩⟩
  have rp : ∀ v : Int32, (¬ v < 1 ∧ ¬ 12 < v) ↔ ∃ u : Nat, 1 ≤ u ∧ u ≤ 12 ∧ v = nI u := fun v => bI_rng (lo := 1) (hi := 12) (by decide) (by decide)
  have rk : ∀ v : Int32, (¬ v < 0 ∧ ¬ 4 < v) ↔ ∃ u : Nat, u ≤ 4 ∧ v = nI u := fun v => by
    rw [show (0 : Int32) = nI 0 from rfl, show (4 : Int32) = nI 4 from rfl, bI_rng (by decide) (by decide)]
    exact ⟨fun ⟨u, _, h, e⟩ => ⟨u, h, e⟩, fun ⟨u, h, e⟩ => ⟨u, Nat.zero_le _, h, e⟩⟩
  simp only [wpX9_snail, sn_lt] at mbad
  refine xf 0 a _ (by decide) (fun g1 => ?_) (fun g1 => ?_)
  case refine_2 =>
    refine sn_jn_by (fun k => k) (xr (-1) 1 _ (by decide) (by decide) (mbad (fun h => g1 ?_))) (fun k hk => bq_z rfl hk)
    obtain ⟨u, hu, e⟩ := (rc a).mp h.1
    exact ⟨u, by unfold okF; omega, e⟩
  obtain ⟨i, hi, rfl⟩ := g1
  have hi : i ≤ 95 := by unfold okF at hi; omega
  have ca := (rc (nI i)).mpr ⟨i, hi, rfl⟩
  refine sn_jn_by (fun k => ¬ ((¬ nI i < 0 ∧ ¬ 95 < nI i) ∧ (¬ b < 0 ∧ ¬ 95 < b) ∧ (¬ c < 1 ∧ ¬ 12 < c) ∧ (¬ d < 0 ∧ ¬ 4 < d)) → k) (fun h => xr (-1) 1 _ (by decide) (by decide) (mbad h)) (fun kb hkb => bq_n i1 ?_)
  refine xf 1 b _ (by decide) (fun g2 => bq_n i1 ?_) (fun g2 => bq_z rfl (hkb (fun h => g2 ?_)))
  case refine_2 =>
    obtain ⟨u, hu, e⟩ := (rc b).mp h.2.1
    exact ⟨u, by unfold okF; omega, e⟩
  obtain ⟨j, hj, rfl⟩ := g2
  have hj : j ≤ 95 := by unfold okF at hj; omega
  have cb := (rc (nI j)).mpr ⟨j, hj, rfl⟩
  refine xf 2 c _ (by decide) (fun g3 => bq_n i1 ?_) (fun g3 => bq_z rfl (hkb (fun h => g3 ?_)))
  case refine_2 =>
    obtain ⟨u, h1, h2, e⟩ := (rp c).mp h.2.2.1
    exact ⟨u, by unfold okF; omega, e⟩
  obtain ⟨p, hp, rfl⟩ := g3
  have hp : 1 ≤ p ∧ p ≤ 12 := by unfold okF at hp; omega
  have cc := (rp (nI p)).mpr ⟨p, hp.1, hp.2, rfl⟩
  refine xf 3 d _ (by decide) (fun g4 => bq_v i1 ?_) (fun g4 => bq_u rfl (hkb (fun h => g4 ?_)))
  case refine_2 =>
    obtain ⟨u, h1, e⟩ := (rk d).mp h.2.2.2
    exact ⟨u, by unfold okF; omega, e⟩
  obtain ⟨k, hk, rfl⟩ := g4
  have hk : k ≤ 4 := by unfold okF at hk; omega
  have cd := (rk (nI k)).mpr ⟨k, hk, rfl⟩
  have x9 : ∀ u, u < 96 → SX.1 9 u = nI (t 9 u) := hX.2.2.2.2.2.2.2.2.2.2
  have m9 : ∀ u, u < 96 → (sn_pI SM 0 0 0).1 2 (176 + u) = nI (t 9 u) := hM'.2.2.2.2.2.2.2.2.2.2
  have g9 : ∀ u, u < 96 → t 9 u ≤ 1 := hg.2.2.2.2.2.2.2.2.2.2
  have m0 : (sn_pI SM 0 0 0).1 2 (Int32.toNatClampNeg 0) = nI (t 0 0) := hM'.1
  have am : ∀ u : Nat, (176 : Int32) + nI u = nI (176 + u) := fun u => pn_add 176 u
  have n1 : ∀ u : Nat, u ≤ 1 → (nI u = 1 ↔ u = 1) := fun u hu => pn_eqN (j := 1) (by omega) (by decide)
  have n0 : ∀ u : Nat, u ≤ 1 → (nI u = 0 ↔ u = 0) := fun u hu => pn_eqN (j := 0) (by omega) (by decide)
  refine ⟨pn_vp (by omega) (by decide), ?_⟩
  rw [pn_nat (by omega), pn_nat (by omega), x9 i (by omega), x9 j (by omega), hX.1]
  refine sn_jn_by (fun k => (t 9 i = 1 ∨ t 9 j = 1) → k) (fun hs => xr (-3) 3 _ (by decide) (by decide) ?_) (fun k17 hk17 => ?_)
  · refine m_cellY ca (sn_jn_by (fun _ => True) trivial (fun k3 _ => bq_n i1 (m_cellY cb (bq_n i1 (m_inY (l := 1) (h0 := 12) 1 12 rfl rfl cc (bq_n i1 (m_inY (l := 0) (h0 := 4) 0 4 rfl rfl cd (bq_v i1 ?_))))))))
    rw [am, am, pn_nat (by omega), pn_nat (by omega), m9 i (by omega), m9 j (by omega)]
    refine ⟨pn_vp (by omega) (by decide), sn_jn_by (fun k => k) (tl (-3) 3 _ (by decide) (by decide) (by decide) (hno _ _ (Or.inr (Or.inl ⟨rfl, rfl⟩)))) (fun k9 hk9 => ⟨fun _ => hk9, fun hn => ⟨pn_vp (by omega) (by decide), ?_⟩⟩)⟩
    rw [n1 _ (g9 i (by omega))] at hn
    exact bq_u ((n1 _ (g9 j (by omega))).mpr (hs.resolve_left hn)) hk9
  · have gi := g9 i (by omega)
    have gj := g9 j (by omega)
    refine ⟨fun hn => hk17 (Or.inl ?_), fun hi0 => ⟨pn_vp (by omega) (by decide), ⟨fun hj0 => ?_, fun hn => hk17 (Or.inr ?_)⟩⟩⟩
    · rw [n0 _ gi] at hn
      omega
    · rw [n0 _ gi] at hi0
      rw [n0 _ gj] at hj0
      by_cases hN : t 0 0 = 6
      · rw [hN]
        refine bq_u rfl (xr (-5) 5 _ (by decide) (by decide) ?_)
        refine m_cellY ca (sn_jn_by (fun _ => True) trivial (fun k3 _ => bq_n i1 (m_cellY cb (bq_n i1 (m_inY (l := 1) (h0 := 12) 1 12 rfl rfl cc (bq_n i1 (m_inY (l := 0) (h0 := 4) 0 4 rfl rfl cd (bq_v i1 ?_))))))))
        rw [am, am, pn_nat (by omega), pn_nat (by omega), m9 i (by omega), m9 j (by omega), m0]
        refine ⟨pn_vp (by omega) (by decide), sn_jn_by (fun _ => True) trivial (fun k9 _ => bq_f (fun h => absurd ((n1 _ gi).mp h) (by omega)) ⟨pn_vp (by omega) (by decide), bq_v (fun h => absurd ((n1 _ gj).mp h) (by omega)) ⟨v0, ?_⟩⟩)⟩
        rw [hN]
        exact bq_u rfl (tl (-5) 5 _ (by decide) (by decide) (by decide) (hno _ _ (Or.inr (Or.inr ⟨rfl, rfl⟩))))
      · have hne : ¬ nI (t 0 0) = 6 := by
          rw [show (6 : Int32) = nI 6 from rfl, pn_eqN (by omega) (by omega)]
          exact hN
        have ex : ∀ f : Nat, (6 : Int32) * nI (t 0 0) + nI f = nI (6 * t 0 0 + f) := fun f => by rw [show (6 : Int32) = nI 6 from rfl, pn_mul, pn_add]
        have e0 := ex 0
        have e1 := ex 1
        have e2 := ex 2
        have e3 := ex 3
        have e4 := ex 4
        have e5 := ex 5
        have em : ∀ f : Nat, (16 : Int32) + 6 * nI (t 0 0) + nI f = nI (16 + 6 * t 0 0 + f) := fun f => by rw [show (6 : Int32) = nI 6 from rfl, show (16 : Int32) = nI 16 from rfl, pn_mul, pn_add, pn_add]
        refine bq_v hne ?_
        rw [(show (6 : Int32) * nI (t 0 0) + 0 = nI (6 * t 0 0 + 0) from ex 0), (show (6 : Int32) * nI (t 0 0) + 1 = nI (6 * t 0 0 + 1) from ex 1), (show (6 : Int32) * nI (t 0 0) + 2 = nI (6 * t 0 0 + 2) from ex 2), (show (6 : Int32) * nI (t 0 0) + 3 = nI (6 * t 0 0 + 3) from ex 3), (show (6 : Int32) * nI (t 0 0) + 4 = nI (6 * t 0 0 + 4) from ex 4), (show (6 : Int32) * nI (t 0 0) + 5 = nI (6 * t 0 0 + 5) from ex 5), pn_nat (n := 6 * t 0 0 + 0) (by omega), pn_nat (n := 6 * t 0 0 + 1) (by omega), pn_nat (n := 6 * t 0 0 + 2) (by omega), pn_nat (n := 6 * t 0 0 + 3) (by omega), pn_nat (n := 6 * t 0 0 + 4) (by omega), pn_nat (n := 6 * t 0 0 + 5) (by omega)]
        refine ⟨pn_vp (by omega) (by decide), pn_vp (by omega) (by decide), pn_vp (by omega) (by decide), pn_vp (by omega) (by decide), pn_vp (by omega) (by decide), pn_vp (by omega) (by decide), ?_⟩
        have hl : (laid SX 4 (6 * t 0 0) i j p k).1 2 8 + 1 = nI (t 0 0 + 1) := by
          unfold laid
          rw [sI_row _ _ _ (by decide), sI_row _ _ _ (by decide), sI_row _ _ _ (by decide), sI_row _ _ _ (by decide), sI_row _ _ _ (by decide), sI_row _ _ _ (by decide), hX.1]
          exact pn_add (t 0 0) 1
        refine (fun (h : wpX0_told w ((sn_pI (laid SX 4 (6 * t 0 0) i j p k) 2 8 ((laid SX 4 (6 * t 0 0) i j p k).1 2 8 + 1)).1 2 8 - 1) (sn_pI (laid SX 4 (6 * t 0 0) i j p k) 2 8 ((laid SX 4 (6 * t 0 0) i j p k).1 2 8 + 1)) _) => h) ?_
        rw [hl, sI_get, if_pos ⟨rfl, rfl⟩, show nI (t 0 0 + 1) - 1 = nI (t 0 0) by have := pn_sub (a := t 0 0 + 1) (b := 1) (by omega); rwa [Nat.add_sub_cancel] at this]
        refine x_told (w := w) ?_
        refine m_cellY ca (sn_jn_by (fun _ => True) trivial (fun k3 _ => bq_n i1 (m_cellY cb (bq_n i1 (m_inY (l := 1) (h0 := 12) 1 12 rfl rfl cc (bq_n i1 (m_inY (l := 0) (h0 := 4) 0 4 rfl rfl cd (bq_v i1 ?_))))))))
        rw [am, am, pn_nat (by omega), pn_nat (by omega), m9 i (by omega), m9 j (by omega), m0]
        refine ⟨pn_vp (by omega) (by decide), sn_jn_by (fun _ => True) trivial (fun k9 _ => bq_f (fun h => absurd ((n1 _ gi).mp h) (by omega)) ⟨pn_vp (by omega) (by decide), bq_v (fun h => absurd ((n1 _ gj).mp h) (by omega)) ⟨v0, ?_⟩⟩)⟩
        refine bq_v hne ?_
        rw [(show (16 : Int32) + 6 * nI (t 0 0) + 0 = nI (16 + 6 * t 0 0 + 0) from em 0), (show (16 : Int32) + 6 * nI (t 0 0) + 1 = nI (16 + 6 * t 0 0 + 1) from em 1), (show (16 : Int32) + 6 * nI (t 0 0) + 2 = nI (16 + 6 * t 0 0 + 2) from em 2), (show (16 : Int32) + 6 * nI (t 0 0) + 3 = nI (16 + 6 * t 0 0 + 3) from em 3), (show (16 : Int32) + 6 * nI (t 0 0) + 4 = nI (16 + 6 * t 0 0 + 4) from em 4), (show (16 : Int32) + 6 * nI (t 0 0) + 5 = nI (16 + 6 * t 0 0 + 5) from em 5), pn_nat (n := 16 + 6 * t 0 0 + 0) (by omega), pn_nat (n := 16 + 6 * t 0 0 + 1) (by omega), pn_nat (n := 16 + 6 * t 0 0 + 2) (by omega), pn_nat (n := 16 + 6 * t 0 0 + 3) (by omega), pn_nat (n := 16 + 6 * t 0 0 + 4) (by omega), pn_nat (n := 16 + 6 * t 0 0 + 5) (by omega)]
        refine ⟨pn_vp (by omega) (by decide), pn_vp (by omega) (by decide), pn_vp (by omega) (by decide), pn_vp (by omega) (by decide), pn_vp (by omega) (by decide), pn_vp (by omega) (by decide), v0, v0, ?_⟩
        have hl2 : (laid (mT SM) 2 (16 + 6 * t 0 0) i j p k).1 2 0 + 1 = nI (t 0 0 + 1) := by
          unfold laid
          rw [sM_get, if_neg (by omega), sM_get, if_neg (by omega), sM_get, if_neg (by omega), sM_get, if_neg (by omega), sM_get, if_neg (by omega), sM_get, if_neg (by omega), hM'.1]
          exact pn_add (t 0 0) 1
        refine (fun (h : wpX9_tell (nI (t 0 0)) (sn_pI (laid (mT SM) 2 (16 + 6 * t 0 0) i j p k) 2 0 ((laid (mT SM) 2 (16 + 6 * t 0 0) i j p k).1 2 0 + 1)) _) => h) ?_
        rw [hl2]
        exact m_tellP ((pn_leN (i := 0) (by decide) (by omega)).mpr (Nat.zero_le _)) (hok i j p k (by omega) (by omega) hp.1 hp.2 hk hi0 hj0 (by omega))
    · rw [n0 _ gj] at hn
      omega
