/-! THE PLAIN LAW, fifth part: the tape -/
set_option maxRecDepth 100000
theorem fa_byte_low (x : Int32) : (x &&& 255).toInt8 = x.toInt8 := by
  apply Int8.toBitVec_inj.1
  apply BitVec.eq_of_getLsbD_eq
  intro i hi
  have h2 : (255 : Int32).toBitVec.getLsbD i = true := by
    have : ∀ j : Fin 8, (255 : Int32).toBitVec.getLsbD j.val = true := by decide +kernel
    exact this ⟨i, hi⟩
  have h4 : (x &&& 255).toBitVec.getLsbD i = x.toBitVec.getLsbD i := by
    show (x.toBitVec &&& (255 : Int32).toBitVec).getLsbD i = _
    rw [BitVec.getLsbD_and, h2, Bool.and_true]
  have h3 : i < 32 := by omega
  first
    | (show (((x &&& 255).toBitVec).signExtend 8).getLsbD i = (x.toBitVec.signExtend 8).getLsbD i; rw [BitVec.getLsbD_signExtend, BitVec.getLsbD_signExtend, if_pos h3, if_pos h3, h4])
    | (show (((x &&& 255).toBitVec).setWidth 8).getLsbD i = (x.toBitVec.setWidth 8).getLsbD i; rw [BitVec.getLsbD_setWidth, BitVec.getLsbD_setWidth, h4])
    | (simp [hi, h3, h4]; done)
/-- a byte, as x keeps it -/
def xB (b : Nat) : Int32 := (nI b).toInt8.toInt32
theorem and255 (z : Int32) : ∃ b : Nat, b < 256 ∧ z &&& 255 = nI b := by
  refine ⟨z.toBitVec.toNat % 256, Nat.mod_lt _ (by decide), ?_⟩
  apply Int32.toBitVec_inj.mp
  show z.toBitVec &&& (255 : Int32).toBitVec = BitVec.ofNat 32 (z.toBitVec.toNat % 256)
  apply BitVec.eq_of_toNat_eq
  rw [BitVec.toNat_and, BitVec.toNat_ofNat]
  show z.toBitVec.toNat &&& (2 ^ 8 - 1) = _
  rw [Nat.and_two_pow_sub_one_eq_mod]
  have := Nat.mod_lt z.toBitVec.toNat (show 0 < 256 by decide)
  omega
theorem byte_both (z : Int32) : ∃ b : Nat, b < 256 ∧ z &&& 255 = nI b ∧ vp_nar .byte (Int8.toInt32 (Int32.toInt8 z)) = xB b := by
  obtain ⟨b, hb, e⟩ := and255 z
  refine ⟨b, hb, e, ?_⟩
  have h1 : vp_nar .byte (Int8.toInt32 (Int32.toInt8 z)) = (Int8.toInt32 (Int32.toInt8 z)).toInt8.toInt32 := rfl
  rw [h1, Int8.toInt8_toInt32, xB, ← e, fa_byte_low]
/-- both tapes: n bytes -/
def PT (SX SM : sn_S) (n : Nat) : Prop := n ≤ 400 ∧ SX.1 0 5 = nI n ∧ SM.1 0 8 = nI n ∧ ∀ k, k < 400 → ∃ b : Nat, b < 256 ∧ SM.1 5 k = nI b ∧ SX.1 11 k = xB b
/-- one byte more -/
def xPush (S : sn_S) (n : Nat) (v : Int32) : sn_S := sn_pI (sn_pI S 11 n v) 0 5 (nI (n + 1))
def mPush (S : sn_S) (n : Nat) (v : Int32) : sn_S := sn_pI (sn_pI S 5 n v) 0 8 (nI (n + 1))
theorem PT_push {SX SM : sn_S} {n : Nat} (h : PT SX SM n) (hn : n < 400) {b : Nat} (hb : b < 256) : PT (xPush SX n (xB b)) (mPush SM n (nI b)) (n + 1) := by
  obtain ⟨h1, h2, h3, h4⟩ := h
  refine ⟨by omega, by simp [xPush, sI_get], by simp [mPush, sI_get], fun k hk => ?_⟩
  by_cases he : k = n
  · subst he
    exact ⟨b, hb, by simp [mPush, sI_get], by simp [xPush, sI_get]⟩
  · obtain ⟨c, h5, h6, h7⟩ := h4 k hk
    exact ⟨c, h5, by simp [mPush, sI_get, he, h6], by simp [xPush, sI_get, he, h7]⟩
/-- four bytes of an int, on either side -/
def xSh (p : Int32) (s : Nat) : Int32 := vp_nar .byte (Int8.toInt32 (Int32.toInt8 (p >>> (nI s &&& 31))))
def mSh (p : Int32) (s : Nat) : Int32 := (p >>> (nI s &&& 31)) &&& 255
def xFour (S : sn_S) (n : Nat) (p : Int32) : sn_S := xPush (xPush (xPush (xPush S n (xSh p 24)) (n + 1) (xSh p 16)) (n + 2) (xSh p 8)) (n + 3) (xSh p 0)
def mFour (S : sn_S) (n : Nat) (p : Int32) : sn_S := mPush (mPush (mPush (mPush S n (mSh p 24)) (n + 1) (mSh p 16)) (n + 2) (mSh p 8)) (n + 3) (mSh p 0)
theorem PT_sh {SX SM : sn_S} {n : Nat} (h : PT SX SM n) (hn : n < 400) (p : Int32) (s : Nat) : PT (xPush SX n (xSh p s)) (mPush SM n (mSh p s)) (n + 1) := by
  obtain ⟨b, hb, e1, e2⟩ := byte_both (p >>> (nI s &&& 31))
  rw [xSh, mSh, e1, e2]
  exact PT_push h hn hb
theorem PT_four {SX SM : sn_S} {n : Nat} (h : PT SX SM n) (hn : n + 4 ≤ 400) (p : Int32) : PT (xFour SX n p) (mFour SM n p) (n + 4) := PT_sh (PT_sh (PT_sh (PT_sh h (by omega) p 24) (by omega) p 16) (by omega) p 8) (by omega) p 0
theorem x_four {w : sn_W} {p : Int32} {S : sn_S} {n : Nat} (hn : n + 4 ≤ 400) (h5 : S.1 0 5 = nI n) {Q : sn_S → Prop} (h : Q (xFour S n p)) : wpX0_four w p S Q := by
  unfold wpX0_four
  have st : ∀ (S : sn_S) (m s : Nat) (A : Prop), m < 400 → s ≤ 24 → S.1 0 5 = nI m → (S.1 0 5 = nI m → sn_lt (sn_pI S 11 m (xSh p s)) (fun S13 => sn_lt (sn_pI S13 0 5 ((S13.1 0 5) + 1)) (fun S14 => S14 = xPush S m (xSh p s)))) := by
    intro S m s A hm hs he _
    show sn_pI (sn_pI S 11 m (xSh p s)) 0 5 ((sn_pI S 11 m (xSh p s)).1 0 5 + 1) = _
    rw [sI_row _ _ _ (by decide), he]
    have : nI m + 1 = nI (m + 1) := pn_add m 1
    rw [this]
    rfl
  refine ⟨5, ?_⟩
  have e0 : xPush S n (xSh p 24) = xPush S n (xSh p 24) := rfl
  have g : ∀ (S : sn_S) (m s : Nat) (K : Int32 → sn_S → Prop), m < 400 → s ≤ 24 → S.1 0 5 = nI m → K (nI s + (-8)) (xPush S m (xSh p s)) → ((nI s < 0 → Q S) ∧ (¬ nI s < 0 → (vp_in (S.1 0 5) 400 ∧ sn_lt (sn_pI S 11 ((S.1 0 5)).toNatClampNeg (vp_nar .byte (Int8.toInt32 (Int32.toInt8 (p >>> (nI s &&& 31)))))) (fun S13 => sn_lt (sn_pI S13 0 5 ((S13.1 0 5) + 1)) (fun S14 => K (nI s + (-8)) S14))))) := by
    intro S m s K hm hs he hK
    refine bq_f (fun hx => by rw [show (0 : Int32) = nI 0 from rfl, pn_ltN (by omega) (by decide)] at hx; omega) ?_
    rw [he, pn_nat (by omega)]
    refine ⟨pn_vp hm (by decide), ?_⟩
    show K (nI s + (-8)) (sn_pI (sn_pI S 11 m (xSh p s)) 0 5 ((sn_pI S 11 m (xSh p s)).1 0 5 + 1))
    rw [st S m s True hm hs he he]
    exact hK
  have p5 : ∀ (S : sn_S) (m : Nat) (v : Int32), (xPush S m v).1 0 5 = nI (m + 1) := fun S m v => by simp [xPush, sI_get]
  refine g S n 24 _ (by omega) (by decide) h5 ?_
  refine g _ (n + 1) 16 _ (by omega) (by decide) (p5 _ _ _) ?_
  refine g _ (n + 2) 8 _ (by omega) (by decide) (p5 _ _ _) ?_
  refine g _ (n + 3) 0 _ (by omega) (by decide) (p5 _ _ _) ?_
  exact bq_t (by decide) h
theorem m_four {p : Int32} {S : sn_S} {n : Nat} (hn : n + 4 ≤ 400) (h5 : S.1 0 8 = nI n) {Q : sn_S → Prop} (h : Q (mFour S n p)) : wpX9_four p S Q := by
  unfold wpX9_four
  have st : ∀ (S : sn_S) (m s : Nat), S.1 0 8 = nI m → sn_pI (sn_pI S 5 m (mSh p s)) 0 8 ((sn_pI S 5 m (mSh p s)).1 0 8 + 1) = mPush S m (mSh p s) := by
    intro S m s he
    rw [sI_row _ _ _ (by decide), he]
    have : nI m + 1 = nI (m + 1) := pn_add m 1
    rw [this]
    rfl
  refine ⟨5, ?_⟩
  have g : ∀ (S : sn_S) (m s : Nat) (K : Int32 → sn_S → Prop), m < 400 → s ≤ 24 → S.1 0 8 = nI m → K (nI s + (-8)) (mPush S m (mSh p s)) → ((nI s < 0 → Q S) ∧ (¬ nI s < 0 → (vp_in (S.1 0 8) 400 ∧ sn_lt (sn_pI S 5 ((S.1 0 8)).toNatClampNeg ((p >>> (nI s &&& 31)) &&& 255)) (fun S13 => sn_lt (sn_pI S13 0 8 ((S13.1 0 8) + 1)) (fun S14 => K (nI s + (-8)) S14))))) := by
    intro S m s K hm hs he hK
    refine bq_f (fun hx => by rw [show (0 : Int32) = nI 0 from rfl, pn_ltN (by omega) (by decide)] at hx; omega) ?_
    rw [he, pn_nat (by omega)]
    refine ⟨pn_vp hm (by decide), ?_⟩
    show K (nI s + (-8)) (sn_pI (sn_pI S 5 m (mSh p s)) 0 8 ((sn_pI S 5 m (mSh p s)).1 0 8 + 1))
    rw [st S m s he]
    exact hK
  have p5 : ∀ (S : sn_S) (m : Nat) (v : Int32), (mPush S m v).1 0 8 = nI (m + 1) := fun S m v => by simp [mPush, sI_get]
  refine g S n 24 _ (by omega) (by decide) h5 ?_
  refine g _ (n + 1) 16 _ (by omega) (by decide) (p5 _ _ _) ?_
  refine g _ (n + 2) 8 _ (by omega) (by decide) (p5 _ _ _) ?_
  refine g _ (n + 3) 0 _ (by omega) (by decide) (p5 _ _ _) ?_
  exact bq_t (by decide) h
theorem xFour_5 (S : sn_S) (n : Nat) (p : Int32) : (xFour S n p).1 0 5 = nI (n + 4) := by simp [xFour, xPush, sI_get]
theorem mFour_8 (S : sn_S) (n : Nat) (p : Int32) : (mFour S n p).1 0 8 = nI (n + 4) := by simp [mFour, mPush, sI_get]
theorem PT_mT {SX SM : sn_S} {n : Nat} (h : PT SX SM n) : PT SX (mT SM) n := by
  obtain ⟨h1, h2, h3, h4⟩ := h
  refine ⟨h1, h2, by unfold mT; rw [sI_get, if_neg (by omega)]; exact h3, fun k hk => ?_⟩
  unfold mT
  rw [sI_row _ _ _ (by decide)]
  exact h4 k hk
/-- twenty bytes -/
def xFeed (S : sn_S) (n : Nat) (a b c d e : Int32) : sn_S := xFour (xFour (xFour (xFour (xFour S n a) (n + 4) b) (n + 4 + 4) c) (n + 4 + 4 + 4) d) (n + 4 + 4 + 4 + 4) e
def mFeed (S : sn_S) (n : Nat) (a b c d e : Int32) : sn_S := mFour (mFour (mFour (mFour (mFour S n a) (n + 4) b) (n + 4 + 4) c) (n + 4 + 4 + 4) d) (n + 4 + 4 + 4 + 4) e
theorem PT_feed {SX SM : sn_S} {n : Nat} (h : PT SX SM n) (hn : n + 20 ≤ 400) (a b c d e : Int32) : PT (xFeed SX n a b c d e) (mFeed SM n a b c d e) (n + 20) := PT_four (PT_four (PT_four (PT_four (PT_four h (by omega) a) (by omega) b) (by omega) c) (by omega) d) (by omega) e
/-- feed(a, b, c, d, e) -/
theorem o_feed {w : sn_W} {SX SM : sn_S} {n : Nat} (hP : PT SX SM n) (a b c d e : Int32) {K : Int32 → sn_S → Int32 → sn_S → Prop}
    (hok : n + 20 ≤ 400 → K (nI (n + 20)) (xFeed SX n a b c d e) (nI (n + 20)) (mFeed (mT SM) n a b c d e)) (hno : K (-1) SX (-1) (mT SM)) : wpX0_feed w a b c d e SX (fun r S1 => wpX9_feed a b c d e SM (fun r2 S2 => K r S1 r2 S2)) := by
  simp only [wpX0_feed, wpX9_feed, sn_lt]
  have hP' := PT_mT hP
  have h1 := hP.1
  have hx := hP.2.1
  have hm : (sn_pI SM 0 0 0).1 0 8 = nI n := hP'.2.2.1
  have ex : nI n + 20 = nI (n + 20) := pn_add n 20
  have lx : nI (n + 20) ≤ 400 ↔ n + 20 ≤ 400 := pn_leN (j := 400) (by omega) (by decide)
  rw [hx, hm, ex]
  by_cases h : n + 20 ≤ 400
  · refine bq_t (lx.mpr h) ?_
    refine x_four (by omega) hx (x_four (by omega) (xFour_5 _ _ _) (x_four (by omega) (xFour_5 _ _ _) (x_four (by omega) (xFour_5 _ _ _) (x_four (by omega) (xFour_5 _ _ _) ?_))))
    rw [xFour_5]
    refine bq_t (lx.mpr h) ?_
    refine m_four (S := mT SM) (by omega) hm (m_four (by omega) (mFour_8 _ _ _) (m_four (by omega) (mFour_8 _ _ _) (m_four (by omega) (mFour_8 _ _ _) (m_four (by omega) (mFour_8 _ _ _) ?_))))
    rw [mFour_8]
    exact hok h
  · exact bq_f (fun e => h (lx.mp e)) (bq_f (fun e => h (lx.mp e)) hno)
