/-! THE PLAIN LAW, twenty-seventh part: orders, sure, ahead: both sides -/
set_option maxRecDepth 100000
/-- the sets of the first row -/
def gset (f : Nat → Nat → Bool) (n : Nat) : Nat → Nat
  | 0 => 0
  | j + 1 => stb (gset f n j) (nxt f n (n - j - 1) (gset f n j))
theorem nxt_ok {f : Nat → Nat → Bool} {n k A : Nat} (h : NP f n (k + 1) A (2 ^ n - 1) ≠ 0) : f A (nxt f n k A) = true ∧ NP f n k (stb A (nxt f n k A)) (2 ^ n - 1) ≠ 0 ∧ nxt f n k A < n ∧ ∀ i, i < nxt f n k A → ¬ (f A i = true ∧ NP f n k (stb A i) (2 ^ n - 1) ≠ 0) := by
  obtain ⟨s, h1, h2, h3⟩ := NP_ex.mp h
  obtain ⟨e1, e2, e3, e4⟩ := fst1_ok (g := fun s => f A s && (NP f n k (stb A s) (2 ^ n - 1) != 0)) n 0 0 ⟨s, Nat.zero_le _, by omega, by simp [h2, h3]⟩
  simp only [Bool.and_eq_true, bne_iff_ne] at e1
  refine ⟨e1.1, e1.2, by unfold nxt; omega, fun i hi hh => ?_⟩
  have := e4 i (Nat.zero_le _) hi
  simp [hh.1, hh.2] at this
theorem gset_ok {f : Nat → Nat → Bool} {n : Nat} (hn : n ≤ 6) (hf : ∀ A s, f A s = true → bt A s = 0) (h : NP f n n 0 (2 ^ n - 1) ≠ 0) : ∀ j, j ≤ n → gset f n j < 2 ^ n ∧ pc (gset f n j) = j ∧ NP f n (n - j) (gset f n j) (2 ^ n - 1) ≠ 0
  | 0, _ => ⟨Nat.two_pow_pos _, (show pc 0 = 0 from rfl), h⟩
  | j + 1, hj => by
    obtain ⟨h1, h2, h3⟩ := gset_ok hn hf h j (by omega)
    rw [show n - j = (n - j - 1) + 1 by omega] at h3
    obtain ⟨e1, e2, e3, _⟩ := nxt_ok h3
    obtain ⟨s1, s2⟩ := stb_ok n _ _ hn h1 e3 (hf _ _ e1)
    exact ⟨s1, by show pc (stb _ _) = _; rw [s2, h2], e2⟩
theorem gr_row {f : Nat → Nat → Bool} {n : Nat} : ∀ (k j : Nat) (r : Nat → Nat), j + k = n → ∀ i, (i < j → gr f n k j (gset f n j) r i = r i) ∧ (j ≤ i → i < n → gr f n k j (gset f n j) r i = nxt f n (n - i - 1) (gset f n i))
  | 0, j, r, hj, i => ⟨fun _ => rfl, fun h1 h2 => by omega⟩
  | k + 1, j, r, hj, i => by
    have e : gr f n (k + 1) j (gset f n j) r = gr f n k (j + 1) (gset f n (j + 1)) (upN r j (nxt f n k (gset f n j))) := by
      show gr f n k (j + 1) (stb (gset f n j) (nxt f n k (gset f n j))) _ = _
      rw [show gset f n (j + 1) = stb (gset f n j) (nxt f n (n - j - 1) (gset f n j)) from rfl, show n - j - 1 = k by omega]
    obtain ⟨h1, h2⟩ := gr_row (f := f) (n := n) k (j + 1) (upN r j (nxt f n k (gset f n j))) (by omega) i
    rw [e]
    refine ⟨fun h => ?_, fun h h' => ?_⟩
    · rw [h1 (by omega)]
      unfold upN
      rw [if_neg (by omega)]
    · by_cases ei : i = j
      · rw [h1 (by omega)]
        unfold upN
        rw [if_pos ei, ei, show n - j - 1 = k by omega]
      · exact h2 (by omega) h'
/-- behind x's call -/
def ordK (SX S1 : sn_S) (t : gT) : Prop := agOr SX S1 ∧ CO S1 t ∧ (S1.1 94 3 = SX.1 94 3 ∨ S1.1 94 3 = SX.1 0 8)
theorem ordK_of {SX S1 : sn_S} {t : gT} (h1 : agOr SX S1) (h2 : S1.1 94 3 = SX.1 0 8) (h3 : RO S1 (t 0 0) (ordA t)) : ordK SX S1 t := ⟨h1, fun _ => h3, Or.inr h2⟩
theorem three_two (n : Nat) : 2 ^ n - 1 < 2 ^ n := by have := Nat.two_pow_pos n; omega
/-- orders(i) -/
theorem o_orders {w : sn_W} {SX SM : sn_S} {t : gT} (hg : tG t) (hX : RXt SX t) (hM : RMt SM t) (hC : CO SX t) (a : Int32) {K : Int32 → sn_S → Int32 → sn_S → Prop} (hK : ∀ r S1 S2, ordK SX S1 t → agZ (mT SM) S2 → K r S1 r S2) : wpX0_orders w a SX (fun r S1 => wpX9_orders a SM (fun r2 S2 => K r S1 r2 S2)) := by
  have hM' := RMt_mT hM
  have h6 := hg.1
  unfold wpX0_orders wpX9_orders
  simp only [sn_lt]
  rw [show sn_pI SM 0 0 0 = mT SM from rfl]
  refine x_looksO hg hX hC (fun S1 A1 e3 R1 => ?_)
  have lk := ordK_of A1 e3 R1
  have X1 := RXt_Or hX A1
  have hsm := NP_small (f := okO t) (n := t 0 0) (k := t 0 0) (A := 0) (B := 2 ^ t 0 0 - 1) h6 h6
  have eM := ordA_M hg
  rw [R1.1]
  have p0 : (0 : Nat) < 2 ^ t 0 0 := Nat.two_pow_pos _
  have e32 : ∀ S2, RT S2 (okO t) (t 0 0) → S2.1 32 (Int32.toNatClampNeg 0) = nI (ordA t).1 := fun S2 h => by rw [eM]; exact h.2 0 p0
  by_cases c1 : a = -1
  · refine bq_u c1 (m_orders hg hM' (fun S2 A2 T2 => bq_u c1 ⟨pn_vp (n := 0) (by decide) (by decide), ?_⟩))
    rw [e32 S2 T2]
    exact hK _ _ _ lk A2
  · refine bq_v c1 ?_
    have mm : ∀ r, (∀ S2, agZ (mT SM) S2 → RT S2 (okO t) (t 0 0) → wpX9_in (Int32.toInt64 a) 0 (Int32.toInt64 (nI (t 0 0) - 1)) (fun (r3 : Int32) => ((r3 = 0 → K r S1 (-1) S2) ∧ (¬ r3 = 0 → (vp_in 0 64 ∧ ((¬ (S2.1 32 (0 : Int32).toNatClampNeg) = 0 → sn_lp3 (fun (rc7 : Int32 → Int32 → Int32 → Prop) (i4 : Int32) (i5 : Int32) (i6 : Int32) => ((a < i6 → K r S1 i5 S2) ∧ (¬ a < i6 → sn_jn (fun (v8 : Int32) => rc7 (i4 ||| (1 <<< (v8 &&& 31))) v8 (i6 + 1)) (fun (k9 : Int32 → Prop) => sn_lp1 (fun (rc12 : Int32 → Prop) (i11 : Int32) => wpX9_canPass i11 i4 S2 (fun (r13 : Int32) => sn_jn (κ := Prop) (rc12 (i11 + 1)) (fun (k14 : Prop) => ((r13 = 0 → k14) ∧ (¬ r13 = 0 → (vp_in (i4 ||| (1 <<< (i11 &&& 31))) 64 ∧ ((¬ (S2.1 32 ((i4 ||| (1 <<< (i11 &&& 31)))).toNatClampNeg) = 0 → k9 i11) ∧ ((S2.1 32 ((i4 ||| (1 <<< (i11 &&& 31)))).toNatClampNeg) = 0 → k14)))))))) 0)))) 0 (-1) 0) ∧ ((S2.1 32 (0 : Int32).toNatClampNeg) = 0 → K r S1 (-1) S2))))))) → wpX9_findOrders (mT SM) (fun (S2 : sn_S) => ((¬ a = (-1) → (vp_in 0 5680 ∧ wpX9_in (Int32.toInt64 a) 0 ((Int32.toInt64 (S2.1 2 (0 : Int32).toNatClampNeg)) - 1) (fun (r3 : Int32) => ((r3 = 0 → K r S1 (-1) S2) ∧ (¬ r3 = 0 → (vp_in 0 64 ∧ ((¬ (S2.1 32 (0 : Int32).toNatClampNeg) = 0 → sn_lp3 (fun (rc7 : Int32 → Int32 → Int32 → Prop) (i4 : Int32) (i5 : Int32) (i6 : Int32) => ((a < i6 → K r S1 i5 S2) ∧ (¬ a < i6 → sn_jn (fun (v8 : Int32) => rc7 (i4 ||| (1 <<< (v8 &&& 31))) v8 (i6 + 1)) (fun (k9 : Int32 → Prop) => sn_lp1 (fun (rc12 : Int32 → Prop) (i11 : Int32) => wpX9_canPass i11 i4 S2 (fun (r13 : Int32) => sn_jn (κ := Prop) (rc12 (i11 + 1)) (fun (k14 : Prop) => ((r13 = 0 → k14) ∧ (¬ r13 = 0 → (vp_in (i4 ||| (1 <<< (i11 &&& 31))) 64 ∧ ((¬ (S2.1 32 ((i4 ||| (1 <<< (i11 &&& 31)))).toNatClampNeg) = 0 → k9 i11) ∧ ((S2.1 32 ((i4 ||| (1 <<< (i11 &&& 31)))).toNatClampNeg) = 0 → k14)))))))) 0)))) 0 (-1) 0) ∧ ((S2.1 32 (0 : Int32).toNatClampNeg) = 0 → K r S1 (-1) S2)))))))) ∧ (a = (-1) → (vp_in 0 64 ∧ K r S1 (S2.1 32 (0 : Int32).toNatClampNeg) S2)))) := by
      intro r hr
      refine m_orders hg hM' (fun S2 A2 T2 => bq_v c1 ⟨v0, ?_⟩)
      rw [show S2.1 2 (Int32.toNatClampNeg 0) = nI (t 0 0) from (RMt_Z hM' A2).1, sm_wide _ (by omega)]
      exact hr S2 A2 T2
    by_cases c2 : ∃ s : Nat, s < t 0 0 ∧ a = nI s
    · obtain ⟨s, hs, rfl⟩ := c2
      have cin := (sm_in (N := t 0 0) (by omega) (nI s)).mpr ⟨s, hs, rfl⟩
      rw [show (0 : Int32) = nI 0 from rfl, pn_leN (by omega) (by omega)]
      by_cases c3 : (ordA t).1 = 0
      · refine bq_t (by omega) (mm _ (fun S2 A2 T2 => m_inY 0 _ rfl rfl cin (bq_n i1 ⟨pn_vp (n := 0) (by decide) (by decide), ?_⟩)))
        rw [e32 S2 T2, c3]
        exact bq_u rfl (hK _ _ _ lk A2)
      · refine bq_f (by omega) (x_snailY X1.1 h6 hs (bq_n i1 ⟨pn_vp (by omega) (by decide), ?_⟩))
        have c3' : NP (okO t) (t 0 0) (t 0 0) 0 (2 ^ t 0 0 - 1) ≠ 0 := by rw [← eM]; exact c3
        rw [pn_nat (n := s) (by omega), R1.2.2.2.2 c3 s hs, ordA_R hg c3]
        have erow : gr (okO t) (t 0 0) (t 0 0) 0 0 (fun _ => 0) s = nxt (okO t) (t 0 0) (t 0 0 - s - 1) (gset (okO t) (t 0 0) s) := (gr_row (f := okO t) (n := t 0 0) (t 0 0) 0 (fun _ => 0) (by omega) s).2 (Nat.zero_le _) hs
        rw [erow]
        refine mm _ (fun S2 A2 T2 => m_inY 0 _ rfl rfl cin (bq_n i1 ⟨pn_vp (n := 0) (by decide) (by decide), ?_⟩))
        rw [e32 S2 T2]
        refine bq_v (fun e => c3 ((pn_eqN (j := 0) (by omega) (by decide)).mp e)) ?_
        have M2 := RMt_Z hM' A2
        refine sn_lp3_inv (fun A y i => ∃ j : Nat, j ≤ s + 1 ∧ i = nI j ∧ A = nI (gset (okO t) (t 0 0) j) ∧ (j ≠ 0 → y = nI (nxt (okO t) (t 0 0) (t 0 0 - (j - 1) - 1) (gset (okO t) (t 0 0) (j - 1))))) (fun _ _ i => 8 - i.toNatClampNeg) ?_ _ _ _ ⟨0, Nat.zero_le _, rfl, rfl, fun h => absurd rfl h⟩
        rintro rc A y i ⟨j, hj, rfl, rfl, hy⟩ hrc
        rw [pn_ltN (by omega) (by omega)]
        by_cases hje : j = s + 1
        · subst hje
          refine bq_t (by omega) ?_
          rw [hy (by omega)]
          exact hK _ _ _ lk A2
        · refine bq_f (by omega) ?_
          obtain ⟨g1, g2, g3⟩ := gset_ok h6 okO_bt c3' j (by omega)
          have t2 := two_le h6
          rw [show t 0 0 - j = (t 0 0 - j - 1) + 1 by omega] at g3
          obtain ⟨n1, n2, n3, n4⟩ := nxt_ok g3
          refine sn_jn_by (fun k9 => k9 (nI (nxt (okO t) (t 0 0) (t 0 0 - j - 1) (gset (okO t) (t 0 0) j)))) ?_ (fun k9 hk9 => ?_)
          · rw [bits_stb _ (by omega) _ (by omega), show nI j + 1 = nI (j + 1) from pn_add j 1]
            exact hrc _ _ _ ⟨j + 1, by omega, rfl, rfl, fun _ => rfl⟩ (by rw [pn_nat (by omega), pn_nat (by omega)]; omega)
          · refine sn_lp1_inv (fun i => ∃ x : Nat, x ≤ nxt (okO t) (t 0 0) (t 0 0 - j - 1) (gset (okO t) (t 0 0) j) ∧ i = nI x) (fun i => 6 - i.toNatClampNeg) ?_ _ ⟨0, Nat.zero_le _, rfl⟩
            rintro rc2 i ⟨x, hx, rfl⟩ hrc2
            have nextx : ¬ (okO t (gset (okO t) (t 0 0) j) x = true ∧ NP (okO t) (t 0 0) (t 0 0 - j - 1) (stb (gset (okO t) (t 0 0) j) x) (2 ^ t 0 0 - 1) ≠ 0) → rc2 (nI x + 1) := by
              intro h
              have : x ≠ nxt (okO t) (t 0 0) (t 0 0 - j - 1) (gset (okO t) (t 0 0) j) := fun e => h (by rw [e]; exact ⟨n1, n2⟩)
              rw [show nI x + 1 = nI (x + 1) from pn_add x 1]
              exact hrc2 _ ⟨x + 1, by omega, rfl⟩ (by rw [pn_nat (by omega), pn_nat (by omega)]; omega)
            refine m_can hg M2 (by omega) (by omega) (fun ho => ?_) (fun ho => ?_)
            · refine sn_jn_by (fun k14 => NP (okO t) (t 0 0) (t 0 0 - j - 1) (stb (gset (okO t) (t 0 0) j) x) (2 ^ t 0 0 - 1) = 0 → k14) (fun h => nextx (fun hh => hh.2 h)) (fun k14 hk14 => bq_f i1 ?_)
              obtain ⟨s1, s2⟩ := stb_ok (t 0 0) _ x h6 g1 (by omega) (okO_bt _ _ ho)
              have hsx := NP_small (f := okO t) (n := t 0 0) (k := t 0 0 - j - 1) (A := stb (gset (okO t) (t 0 0) j) x) (B := 2 ^ t 0 0 - 1) h6 (by omega)
              rw [bits_stb _ (by omega) _ (by omega), pn_nat (n := stb (gset (okO t) (t 0 0) j) x) (by omega), T2.2 _ s1, s2, g2, show t 0 0 - (j + 1) = t 0 0 - j - 1 by omega]
              refine ⟨pn_vp (by omega) (by decide), ?_⟩
              by_cases cz : NP (okO t) (t 0 0) (t 0 0 - j - 1) (stb (gset (okO t) (t 0 0) j) x) (2 ^ t 0 0 - 1) = 0
              · exact bq_u (by rw [cz]; rfl) (hk14 cz)
              · refine bq_v (fun e => cz ((pn_eqN (j := 0) (by omega) (by decide)).mp e)) ?_
                have : x = nxt (okO t) (t 0 0) (t 0 0 - j - 1) (gset (okO t) (t 0 0) j) := by
                  rcases Nat.lt_or_ge x (nxt (okO t) (t 0 0) (t 0 0 - j - 1) (gset (okO t) (t 0 0) j)) with h | h
                  · exact absurd ⟨ho, cz⟩ (n4 x h)
                  · omega
                rw [this]
                exact hk9
            · exact sn_jn_by (fun k14 => k14) (nextx (fun hh => by rw [ho] at hh; exact absurd hh.1 (by decide))) (fun k14 hk14 => bq_t rfl hk14)
    · have cn : ¬ (¬ a < 0 ∧ ¬ (nI (t 0 0) - 1) < a) := fun h => c2 ((sm_in (by omega) _).mp h)
      have fin : wpX9_findOrders (mT SM) _ := mm (-1) (fun S2 A2 T2 => m_inN 0 _ rfl rfl cn (bq_z rfl (hK _ _ _ lk A2)))
      by_cases c3 : nI (ordA t).1 ≤ 0
      · exact bq_t c3 fin
      · exact bq_f c3 (x_snailN X1.1 h6 c2 (bq_z rfl fin))
